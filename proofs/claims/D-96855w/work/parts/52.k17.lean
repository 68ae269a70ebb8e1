theorem cv_X0_330 : CV RX0 RX0 330 yX0_sumAnew cX0_sumAnew 2 (none) 0 := ⟨lw_V q1031 q1033 qs29 q83 q1034, by decide +kernel⟩
theorem cX0_turnsAt_ {l : Launch} {D : va_G} {cA : Nat → ClassId} {ad : Nat → Nat} {n : Nat} {f0 : Nat → va_E} {ρ : Nat → Nat → Option Nat} {r : Nat × Nat} {U : Nat → Nat → Nat → Int32} (hn : 81 ≤ n) {A : Nat → Prop} (hD : gD A ad n) (hB : RB ρ n) {z : Nat} (hAz : ∀ q, z ≤ q → A q) {x y q : Int32} {T : Tta} (hX : CQ cA ad n f0 U ρ r T) (hI : Inv (T 0)) (hh : hrv (T 0) ≤ 9999) {kk pp m0 : Nat} (h1 : x = nI kk) (h2 : y = nI pp) (h3 : q = nI m0) (hkk : kk ≤ 69) (hpp : pp ≤ 11) (hm0 : m0 ≤ 48) (hw8 : wh (T 0) < 8) : XIg l D cA ad n f0 ρ r U A z yX0_turnsAt cX0_turnsAt 7 (some .int) (9) 1 2 [.ref (ad 0), .int x, .int y, .int q] (fun o ad1 n1 f1 V ρ1 r1 => o = smN (sp_adds (T 0) kk (10 * pp)) (wh (T 0)) m0 ∧ CQ cA ad1 n1 f1 V ρ1 r1 T ∧ AX A ad n f0 ρ1 ad1 n1 f1 ∧ r1 = r) := by
  refine Ci.of rfl (by decide +kernel) (Nat.le_of_ble_eq_true rfl) ?_
  intro p e s m args below meth c Q hC hK hP hret ls hl
  have hx := hC.1
  have hb := hC.2.1
  have hown := hC.2.2.2.1
  have hts := hC.2.2.2.2
  obtain ⟨hP, hz⟩ := hP
  have hS : va_S A s.heap s.heap [] := va_S.rf
  subst h1; subst h2; subst h3
  have hT : CT U r T := hX.1
  have hQ : HQ cA ad f0 n ρ (T 0) r.1 := hX.2.1
  have hr2 : r.2 < 3 := hT.lt2
  have hne : r.1 ≠ r.2 := hT.1.2.2
  have hr23 : r.2 ≠ 3 := by omega
  have hr : r.1 < 3 := hT.lt
  have e0 : U r.1 = T 0 := hT.2.1
  have hI2 : Inv (U r.1) := by rw [e0]; exact hI
  have hQ2 : HQ cA ad f0 n ρ (U r.1) r.1 := by rw [e0]; exact hQ
  have hr3 : r.1 ≠ 3 := by omega
  obtain ⟨eN, h8⟩ := inv_wh hI2
  have eH : U r.1 0 1 = nI (hrv (T 0)) := by rw [e0]; exact (inv_hr hI).1
  have hH := (inv_hr hI).2
  rw [e0] at eN h8
  refine lv_aload_n hx hb dX0_turnsAt_0 rfl (hl.at rfl) ?_
  refine x_vVq hC hK hP hS (x_rWB hK hP hn) (cX0_begins_ hn hD hr hr2 hne hI2 hQ2) cv_X0_319 rfl rfl hl.1 (Nat.le_of_ble_eq_true rfl) dX0_turnsAt_1 (rk (by decide) (by decide)) ⟨by decide, by decide⟩ (fun U1 ρ1 q1 H locs p1 hP hS => ?_)
  obtain ⟨rfl, rfl, rfl⟩ := p1
  have g0 : uS U r.2 (U r.1) r.2 = T 0 := by rw [uS_s, e0]
  have hQ1 : HQ cA ad f0 n (bρ ρ r.2 r.1) (T 0) r.2 := hq_bec hQ
  refine lv_aload_n hx hb dX0_turnsAt_4 rfl (hl.at rfl) ?_
  refine c_get hC hK hP 0 (by omega) (wo_wb) rfl in_X0 2 (by decide) q254 rfl rfl dX0_turnsAt_5 ?_
  refine lv_iload_n hx hb dX0_turnsAt_8 rfl (hl.at rfl) ?_
  refine lv_bipush (v := nI 10) hx hb dX0_turnsAt_9 rfl ?_
  refine l_divN hx hb dX0_turnsAt_11 (by omega) (by decide) (by decide) ?_
  refine lv_iload_n hx hb dX0_turnsAt_12 rfl (hl.at rfl) ?_
  refine lv_bipush (v := nI 10) hx hb dX0_turnsAt_13 rfl ?_
  refine l_remN hx hb dX0_turnsAt_15 (by omega) (by decide) (by decide) ?_
  refine lv_iload_n hx hb dX0_turnsAt_16 rfl (hl.at rfl) ?_
  refine lv_iconst (v := nI 0) hx hb dX0_turnsAt_17 rfl ?_
  refine x_iVg hC hK ⟨hP, Nat.le_trans hz hS.1⟩ hS (x_rHO hr2 hK hP hn) (cX1_comes_ hn hD (RB.b hB) hAz hr2 hr (a := r.2) hr2 (by show Inv (uS U r.2 (U r.1) r.2); rw [g0]; exact hI) (by show wh (uS U r.2 (U r.1) r.2) < 8; rw [g0]; exact hw8) (kk := kk) (cc := 10 * pp) rfl rfl (by rw [show 10 * pp / 10 = pp by omega]) (by rw [show 10 * pp % 10 = 0 by omega]) (by omega) (by omega)) (fun _ h => h) cv_X0_209 rfl rfl hl.1 (Nat.le_of_ble_eq_true rfl) dX0_turnsAt_18 (rk (by decide) (by decide)) ⟨by decide, by decide⟩ (fun r18 w18 H locs p18 hP hS => ?_)
  obtain ⟨ad18, n18, f18, U18, ρ18, q18⟩ := w18
  dsimp only at p18
  replace hP : XW D cA ad18 n18 f18 ρ18 q18 U18 H := hP
  obtain ⟨e18, rfl, had, hD, rfl, rfl, rfl, rfl⟩ := p18
  have hn0 := hn
  have hn : 81 ≤ n + 1 := by omega
  rw [← had 0 (by omega)] at hl
  rw [g0, uS_uS] at hP
  rw [g0] at e18
  subst e18
  obtain ⟨j1, j2, j3⟩ := adds_inv hI hw8 (a := kk) (d := 10 * pp) (by omega) (by omega) (by omega)
  have hQ4 := hq_adds (c := 10 * pp) (k := kk) hQ1 hr2 hw8 hn0 (by omega) had
  refine l_istore hx hb 4 dX0_turnsAt_21 hl rfl (fun ls hl => ?_)
  refine lv_aload_n hx hb dX0_turnsAt_23 rfl (hl.at rfl) ?_
  refine x_vV hC hK hP hS (x_rWB hK hP hn) (cX0_sumAnew_ hn hD) cv_X0_330 rfl rfl hl.1 (Nat.le_of_ble_eq_true rfl) dX0_turnsAt_24 (rk (by decide) (by decide)) ⟨by decide, by decide⟩ (fun U24 H locs p24 hP hS => ?_)
  subst p24
  refine lv_aload_n hx hb dX0_turnsAt_27 rfl (hl.at rfl) ?_
  refine lv_iload_n hx hb dX0_turnsAt_28 rfl (hl.at rfl) ?_
  refine x_iV hC hK hP hS (x_rWB hK hP hn) (cX0_goOn_ hn hD hr2 (by show Inv ((up3 (uS U r.2 (sp_adds (T 0) kk (10 * pp))) 3 8 (fun j => if j < 8 then nI 0 else uS U r.2 (sp_adds (T 0) kk (10 * pp)) 3 8 j)) r.2); rw [up3_n hr23, uS_s]; exact j1) (by show HQ cA _ _ _ _ ((up3 (uS U r.2 (sp_adds (T 0) kk (10 * pp))) 3 8 (fun j => if j < 8 then nI 0 else uS U r.2 (sp_adds (T 0) kk (10 * pp)) 3 8 j)) r.2) r.2; rw [up3_n hr23, uS_s]; exact hQ4) (m0 := m0) rfl (by show hrv ((up3 (uS U r.2 (sp_adds (T 0) kk (10 * pp))) 3 8 (fun j => if j < 8 then nI 0 else uS U r.2 (sp_adds (T 0) kk (10 * pp)) 3 8 j)) r.2) + m0 ≤ 20000; rw [up3_n hr23, uS_s, j2]; omega)) cv_X0_294 rfl rfl hl.1 (Nat.le_of_ble_eq_true rfl) dX0_turnsAt_29 (rk (by decide) (by decide)) ⟨by decide, by decide⟩ (fun r29 U29 H locs p29 hP hS => ?_)
  refine l_istore hx hb 5 dX0_turnsAt_32 hl rfl (fun ls hl => ?_)
  refine lv_aload_n hx hb dX0_turnsAt_34 rfl (hl.at rfl) ?_
  refine c_get hC hK hP 0 (by omega) (wo_wb) rfl in_X0 14 (by decide) q266 rfl rfl dX0_turnsAt_35 ?_
  refine lv_iload hx hb dX0_turnsAt_38 (hl.at rfl) ?_
  refine c_ldi hC hK hP 80 (by omega) (wo_80) _ (rfl) (show _ < 8 by omega) (by decide) dX0_turnsAt_40 ?_
  refine l_istore hx hb 6 dX0_turnsAt_41 hl rfl (fun ls hl => ?_)
  refine lv_aload_n hx hb dX0_turnsAt_43 rfl (hl.at rfl) ?_
  refine x_vVq hC hK hP hS (x_rWB hK hP hn) (cX0_swaps_ hn hD hr2 hr) cv_X0_313 rfl rfl hl.1 (Nat.le_of_ble_eq_true rfl) dX0_turnsAt_44 (rk (by decide) (by decide)) ⟨by decide, by decide⟩ (fun U44 ρ44 q44 H locs p44 hP hS => ?_)
  obtain ⟨rfl, rfl, rfl⟩ := p44
  refine lv_iload hx hb dX0_turnsAt_47 (hl.at rfl) ?_
  refine W.widen (k := 1) (n := 2) (by decide) (by decide) ?_
  refine hret _ _ ls _ _ (_, _, _, _, _, _) hP hS dX0_turnsAt_49 ?_
  dsimp only
  exact ⟨(one_GO (U := uS U r.2 (sp_adds (T 0) kk (10 * pp))) p29.2 hr23 (by rw [uS_s, j3]; omega) (by rw [uS_s, j3]; omega)).trans (by rw [uS_s]), (hX.ext (Ext.one had)).bk (fun z9 z1 z2 => by rw [p29.2.keep.1 z9 z1 z2, up3_n z1, uS_n z2]) (fun z9 hz9 => by rw [p29.2.keep.2 z9 hz9, up3_s, up1_n (by omega), uS_n (Ne.symm hr23)]) RK.bh, ⟨Ext.one had, hD, RB.rh ((RB.b hB).mono (by omega)) (fun w9 z9 => by cases z9; omega)⟩, rfl⟩
theorem cv_X0_333 : CV RX0 RX0 333 yX0_summedOf cX0_summedOf 4 (some .int) 1 := ⟨lw_V q1035 q1037 qs30 q83 q1038, by decide +kernel⟩
theorem cX0_fewer_ {l : Launch} {D : va_G} {cA : Nat → ClassId} {ad : Nat → Nat} {n : Nat} {f0 : Nat → va_E} {ρ : Nat → Nat → Option Nat} {r : Nat × Nat} {U : Nat → Nat → Nat → Int32} (hn : 81 ≤ n) {A : Nat → Prop} (hD : gD A ad n) (hB : RB ρ n) {z : Nat} (hAz : ∀ q, z ≤ q → A q) {x y q : Int32} {T : Tta} (hX : CQ cA ad n f0 U ρ r T) (hI : Inv (T 0)) (hh : hrv (T 0) ≤ 9999) : XIg l D cA ad n f0 ρ r U A z yX0_fewer cX0_fewer 9 (some .int) (9) 1 2 [.ref (ad 0), .int x, .int y, .int q] (fun o ad1 n1 f1 V ρ1 r1 => o = (op_fewer x y q T).1 ∧ CQ cA ad1 n1 f1 V ρ1 r1 (op_fewer x y q T).2 ∧ AX A ad n f0 ρ1 ad1 n1 f1) := by
  refine Ci.of rfl (by decide +kernel) (Nat.le_of_ble_eq_true rfl) ?_
  intro p e s m args below meth c Q hC hK hP hret ls hl
  have hx := hC.1
  have hb := hC.2.1
  have hown := hC.2.2.2.1
  have hts := hC.2.2.2.2
  obtain ⟨hP, hz⟩ := hP
  have hS : va_S A s.heap s.heap [] := va_S.rf
  have hT : CT U r T := hX.1
  have hQ : HQ cA ad f0 n ρ (T 0) r.1 := hX.2.1
  have hr2 : r.2 < 3 := hT.lt2
  have hne : r.1 ≠ r.2 := hT.1.2.2
  have hr23 : r.2 ≠ 3 := by omega
  have hr : r.1 < 3 := hT.lt
  have e0 : U r.1 = T 0 := hT.2.1
  have hI2 : Inv (U r.1) := by rw [e0]; exact hI
  have hQ2 : HQ cA ad f0 n ρ (U r.1) r.1 := by rw [e0]; exact hQ
  have hr3 : r.1 ≠ 3 := by omega
  obtain ⟨eN, h8⟩ := inv_wh hI2
  have eH : U r.1 0 1 = nI (hrv (T 0)) := by rw [e0]; exact (inv_hr hI).1
  have hH := (inv_hr hI).2
  rw [e0] at eN h8
  refine lv_iload_n hx hb dX0_fewer_0 rfl (hl.at rfl) ?_
  refine x_sS hC (cX0_isKind_ ) cs_X0_206 rfl rfl hl.1 (Nat.le_of_ble_eq_true rfl) dX0_fewer_1 (rk (by decide) (by decide)) ⟨by decide, by decide⟩ (fun r1 p1 => ?_)
  rcases p1 with ⟨rfl, p1⟩ | ⟨rfl, p1⟩
  · obtain ⟨kk, hkk, rfl⟩ := in_nI p1
    refine l_ifeq_1 hx hb 24 dX0_fewer_4 rfl ?_
    refine lv_iload_n hx hb dX0_fewer_7 rfl (hl.at rfl) ?_
    refine x_sS hC (cX0_isPlace_ ) cs_X0_180 rfl rfl hl.1 (Nat.le_of_ble_eq_true rfl) dX0_fewer_8 (rk (by decide) (by decide)) ⟨by decide, by decide⟩ (fun r8 p8 => ?_)
    rcases p8 with ⟨rfl, p8⟩ | ⟨rfl, p8⟩
    · obtain ⟨pp, hpp, rfl⟩ := in_nI p8
      refine l_ifeq_1 hx hb 24 dX0_fewer_11 rfl ?_
      refine lv_iload_n hx hb dX0_fewer_14 rfl (hl.at rfl) ?_
      refine lv_iconst (v := nI 1) hx hb dX0_fewer_15 rfl ?_
      refine lv_bipush (v := nI 48) hx hb dX0_fewer_16 rfl ?_
      refine x_sS hC (cX0_isIn_ ) cs_X0_122 rfl rfl hl.1 (Nat.le_of_ble_eq_true rfl) dX0_fewer_18 (rk (by decide) (by decide)) ⟨by decide, by decide⟩ (fun r18 p18 => ?_)
      rcases p18 with ⟨rfl, p18⟩ | ⟨rfl, p18⟩
      · obtain ⟨m0, hm1, hm0, rfl⟩ := in_nI1 p18
        refine l_ifne_1 hx hb 30 dX0_fewer_21 rfl ?_
        refine lv_aload_n hx hb dX0_fewer_30 rfl (hl.at rfl) ?_
        refine c_get hC hK hP 0 (by omega) (wo_wb) rfl in_X0 2 (by decide) q254 rfl rfl dX0_fewer_31 ?_
        refine c_getN hC hK hP (3 + 22 * r.1) (by omega) (wo_ho hr) rfl in_X1 0 (by decide) q143 rfl rfl dX0_fewer_34 ?_
        refine l_top (nI (wh (T 0))) (by rw [e0]; exact eN) ?_
        refine lv_bipush (v := nI 8) hx hb dX0_fewer_37 rfl ?_
        refine l_neN hx hb 48 dX0_fewer_39 rfl (by omega) (by omega) (fun c39 => ?_) (fun c39 => ?_)
        · have hw8 : wh (T 0) < 8 := by omega
          refine lv_aload_n hx hb dX0_fewer_48 rfl (hl.at rfl) ?_
          refine c_get hC hK hP 0 (by omega) (wo_wb) rfl in_X0 2 (by decide) q254 rfl rfl dX0_fewer_49 ?_
          refine c_getN hC hK hP (3 + 22 * r.1) (by omega) (wo_ho hr) rfl in_X1 0 (by decide) q143 rfl rfl dX0_fewer_52 ?_
          refine l_top (nI (wh (T 0))) (by rw [e0]; exact eN) ?_
          refine l_istore hx hb 4 dX0_fewer_55 hl rfl (fun ls hl => ?_)
          refine lv_aload_n hx hb dX0_fewer_57 rfl (hl.at rfl) ?_
          refine x_vVq hC hK hP hS (x_rWB hK hP hn) (cX0_begins_ hn hD hr hr2 hne hI2 hQ2) cv_X0_319 rfl rfl hl.1 (Nat.le_of_ble_eq_true rfl) dX0_fewer_58 (rk (by decide) (by decide)) ⟨by decide, by decide⟩ (fun U58 ρ58 q58 H locs p58 hP hS => ?_)
          obtain ⟨rfl, rfl, rfl⟩ := p58
          have g0 : uS U r.2 (U r.1) r.2 = T 0 := by rw [uS_s, e0]
          have hQ1 : HQ cA ad f0 n (bρ ρ r.2 r.1) (T 0) r.2 := hq_bec hQ
          refine lv_aload_n hx hb dX0_fewer_61 rfl (hl.at rfl) ?_
          refine x_vV hC hK hP hS (x_rWB hK hP hn) (cX0_sumAnew_ hn hD) cv_X0_330 rfl rfl hl.1 (Nat.le_of_ble_eq_true rfl) dX0_fewer_62 (rk (by decide) (by decide)) ⟨by decide, by decide⟩ (fun U62 H locs p62 hP hS => ?_)
          subst p62
          refine lv_aload_n hx hb dX0_fewer_65 rfl (hl.at rfl) ?_
          refine lv_iload_n hx hb dX0_fewer_66 rfl (hl.at rfl) ?_
          refine x_iV hC hK hP hS (x_rWB hK hP hn) (cX0_goOn_ hn hD hr2 (by show Inv ((up3 (uS U r.2 (U r.1)) 3 8 (fun j => if j < 8 then nI 0 else uS U r.2 (U r.1) 3 8 j)) r.2); rw [up3_n hr23, g0]; exact hI) (by show HQ cA _ _ _ _ ((up3 (uS U r.2 (U r.1)) 3 8 (fun j => if j < 8 then nI 0 else uS U r.2 (U r.1) 3 8 j)) r.2) r.2; rw [up3_n hr23, g0]; exact hQ1) (m0 := m0) rfl (by show hrv ((up3 (uS U r.2 (U r.1)) 3 8 (fun j => if j < 8 then nI 0 else uS U r.2 (U r.1) 3 8 j)) r.2) + m0 ≤ 20000; rw [up3_n hr23, g0]; omega)) cv_X0_294 rfl rfl hl.1 (Nat.le_of_ble_eq_true rfl) dX0_fewer_67 (rk (by decide) (by decide)) ⟨by decide, by decide⟩ (fun r67 U67 H locs p67 hP hS => ?_)
          refine l_istore hx hb 5 dX0_fewer_70 hl rfl (fun ls hl => ?_)
          refine lv_aload_n hx hb dX0_fewer_72 rfl (hl.at rfl) ?_
          refine lv_iload hx hb dX0_fewer_73 (hl.at rfl) ?_
          refine x_pV hC hK hP (x_rWB hK hP hn) (cX0_summedOf_ hn (k0 := wh (T 0)) rfl (by omega)) cv_X0_333 rfl rfl hl.1 (Nat.le_of_ble_eq_true rfl) dX0_fewer_75 (rk (by decide) (by decide)) ⟨by decide, by decide⟩ (fun r75 p75 => ?_)
          refine l_istore hx hb 6 dX0_fewer_78 hl rfl (fun ls hl => ?_)
          refine lv_aload_n hx hb dX0_fewer_80 rfl (hl.at rfl) ?_
          refine x_vVq hC hK hP hS (x_rWB hK hP hn) (cX0_swaps_ hn hD hr2 hr) cv_X0_313 rfl rfl hl.1 (Nat.le_of_ble_eq_true rfl) dX0_fewer_81 (rk (by decide) (by decide)) ⟨by decide, by decide⟩ (fun U81 ρ81 q81 H locs p81 hP hS => ?_)
          obtain ⟨rfl, rfl, rfl⟩ := p81
          have hX2 : CQ cA ad n f0 U81 (bρ ρ r.2 r.1) r T := hX.bk (fun z9 z1 z2 => by rw [p67.2.keep.1 z9 z1 z2, up3_n z1, uS_n z2]) (fun z9 hz9 => by rw [p67.2.keep.2 z9 hz9, up3_s, up1_n (by omega), uS_n (Ne.symm hr23)]) RK.b
          have e0v : U81 r.1 = T 0 := hX2.1.2.1
          have g00 := g0
          refine lv_aload_n hx hb dX0_fewer_84 rfl (hl.at rfl) ?_
          refine x_vVq hC hK hP hS (x_rWB hK hP hn) (cX0_begins_ hn hD hr hr2 hne (by show Inv (U81 r.1); rw [e0v]; exact hI) (by show HQ cA ad f0 n _ (U81 r.1) r.1; rw [e0v]; exact hX2.2.1)) cv_X0_319 rfl rfl hl.1 (Nat.le_of_ble_eq_true rfl) dX0_fewer_85 (rk (by decide) (by decide)) ⟨by decide, by decide⟩ (fun U85 ρ85 q85 H locs p85 hP hS => ?_)
          obtain ⟨rfl, rfl, rfl⟩ := p85
          have g0b : uS U81 r.2 (U81 r.1) r.2 = T 0 := by rw [uS_s, e0v]
          have hQ1 : HQ cA ad f0 n (bρ (bρ ρ r.2 r.1) r.2 r.1) (T 0) r.2 := hq_bec hX2.2.1
          refine lv_aload_n hx hb dX0_fewer_88 rfl (hl.at rfl) ?_
          refine c_get hC hK hP 0 (by omega) (wo_wb) rfl in_X0 2 (by decide) q254 rfl rfl dX0_fewer_89 ?_
          refine lv_iload_n hx hb dX0_fewer_92 rfl (hl.at rfl) ?_
          refine lv_bipush (v := nI 10) hx hb dX0_fewer_93 rfl ?_
          refine l_divN hx hb dX0_fewer_95 (by omega) (by decide) (by decide) ?_
          refine lv_iload_n hx hb dX0_fewer_96 rfl (hl.at rfl) ?_
          refine lv_bipush (v := nI 10) hx hb dX0_fewer_97 rfl ?_
          refine l_remN hx hb dX0_fewer_99 (by omega) (by decide) (by decide) ?_
          refine lv_iload_n hx hb dX0_fewer_100 rfl (hl.at rfl) ?_
          refine lv_iconst (v := nI 0) hx hb dX0_fewer_101 rfl ?_
          refine x_iVg hC hK ⟨hP, Nat.le_trans hz hS.1⟩ hS (x_rHO hr2 hK hP hn) (cX1_comes_ hn hD (RB.b (RB.b hB)) hAz hr2 hr (a := r.2) hr2 (by show Inv (uS U81 r.2 (U81 r.1) r.2); rw [g0b]; exact hI) (by show wh (uS U81 r.2 (U81 r.1) r.2) < 8; rw [g0b]; exact hw8) (kk := kk) (cc := 10 * pp) rfl rfl (by rw [show 10 * pp / 10 = pp by omega]) (by rw [show 10 * pp % 10 = 0 by omega]) (by omega) (by omega)) (fun _ h => h) cv_X0_209 rfl rfl hl.1 (Nat.le_of_ble_eq_true rfl) dX0_fewer_102 (rk (by decide) (by decide)) ⟨by decide, by decide⟩ (fun r102 w102 H locs p102 hP hS => ?_)
          obtain ⟨ad102, n102, f102, U102, ρ102, q102⟩ := w102
          dsimp only at p102
          replace hP : XW D cA ad102 n102 f102 ρ102 q102 U102 H := hP
          obtain ⟨e102, rfl, had, hD, rfl, rfl, rfl, rfl⟩ := p102
          have hn0 := hn
          have hn : 81 ≤ n + 1 := by omega
          rw [← had 0 (by omega)] at hl
          rw [g0b, uS_uS] at hP
          rw [g0b] at e102
          subst e102
          obtain ⟨j1, j2, j3⟩ := adds_inv hI hw8 (a := kk) (d := 10 * pp) (by omega) (by omega) (by omega)
          have hQ4 := hq_adds (c := 10 * pp) (k := kk) hQ1 hr2 hw8 hn0 (by omega) had
          refine l_istore hx hb 7 dX0_fewer_105 hl rfl (fun ls hl => ?_)
          refine lv_aload_n hx hb dX0_fewer_107 rfl (hl.at rfl) ?_
          refine x_vV hC hK hP hS (x_rWB hK hP hn) (cX0_sumAnew_ hn hD) cv_X0_330 rfl rfl hl.1 (Nat.le_of_ble_eq_true rfl) dX0_fewer_108 (rk (by decide) (by decide)) ⟨by decide, by decide⟩ (fun U108 H locs p108 hP hS => ?_)
          subst p108
          refine lv_aload_n hx hb dX0_fewer_111 rfl (hl.at rfl) ?_
          refine lv_iload_n hx hb dX0_fewer_112 rfl (hl.at rfl) ?_
          refine x_iV hC hK hP hS (x_rWB hK hP hn) (cX0_goOn_ hn hD hr2 (by show Inv ((up3 (uS U81 r.2 (sp_adds (T 0) kk (10 * pp))) 3 8 (fun j => if j < 8 then nI 0 else uS U81 r.2 (sp_adds (T 0) kk (10 * pp)) 3 8 j)) r.2); rw [up3_n hr23, uS_s]; exact j1) (by show HQ cA _ _ _ _ ((up3 (uS U81 r.2 (sp_adds (T 0) kk (10 * pp))) 3 8 (fun j => if j < 8 then nI 0 else uS U81 r.2 (sp_adds (T 0) kk (10 * pp)) 3 8 j)) r.2) r.2; rw [up3_n hr23, uS_s]; exact hQ4) (m0 := m0) rfl (by show hrv ((up3 (uS U81 r.2 (sp_adds (T 0) kk (10 * pp))) 3 8 (fun j => if j < 8 then nI 0 else uS U81 r.2 (sp_adds (T 0) kk (10 * pp)) 3 8 j)) r.2) + m0 ≤ 20000; rw [up3_n hr23, uS_s, j2]; omega)) cv_X0_294 rfl rfl hl.1 (Nat.le_of_ble_eq_true rfl) dX0_fewer_113 (rk (by decide) (by decide)) ⟨by decide, by decide⟩ (fun r113 U113 H locs p113 hP hS => ?_)
          refine l_istore hx hb 5 dX0_fewer_116 hl rfl (fun ls hl => ?_)
          refine lv_aload_n hx hb dX0_fewer_118 rfl (hl.at rfl) ?_
          refine lv_iload hx hb dX0_fewer_119 (hl.at rfl) ?_
          refine x_pV hC hK hP (x_rWB hK hP hn) (cX0_summedOf_ hn (k0 := wh (T 0)) rfl (by omega)) cv_X0_333 rfl rfl hl.1 (Nat.le_of_ble_eq_true rfl) dX0_fewer_121 (rk (by decide) (by decide)) ⟨by decide, by decide⟩ (fun r121 p121 => ?_)
          refine l_istore hx hb 8 dX0_fewer_124 hl rfl (fun ls hl => ?_)
          refine lv_aload_n hx hb dX0_fewer_126 rfl (hl.at rfl) ?_
          refine x_vVq hC hK hP hS (x_rWB hK hP hn) (cX0_swaps_ hn hD hr2 hr) cv_X0_313 rfl rfl hl.1 (Nat.le_of_ble_eq_true rfl) dX0_fewer_127 (rk (by decide) (by decide)) ⟨by decide, by decide⟩ (fun U127 ρ127 q127 H locs p127 hP hS => ?_)
          obtain ⟨rfl, rfl, rfl⟩ := p127
          refine lv_iload hx hb dX0_fewer_130 (hl.at rfl) ?_
          refine lv_iload hx hb dX0_fewer_132 (hl.at rfl) ?_
          refine lv_isub hx hb dX0_fewer_134 ?_
          refine W.widen (k := 1) (n := 2) (by decide) (by decide) ?_
          refine hret _ _ ls _ _ (_, _, _, _, _, _) hP hS dX0_fewer_135 ?_
          dsimp only
          first | (rw [op_fewer, if_neg (fun z => p1 z.1)]; exact ⟨(hX.e p26 (by decide)).1, (hX.e p26 (by decide)).2, Ext.rf, hD, hB⟩) | (by_cases hz9 : nI 1 ≤ q ∧ q ≤ nI 48; (rw [op_fewer, if_pos ⟨p1, hz9⟩, if_neg p8]; exact ⟨(hX.e p26 (by decide)).1, (hX.e p26 (by decide)).2, Ext.rf, hD, hB⟩); (rw [op_fewer, if_neg (fun z => hz9 z.2)]; exact ⟨(hX.e p26 (by decide)).1, (hX.e p26 (by decide)).2, Ext.rf, hD, hB⟩)) | (rw [op_fewer, if_neg (fun z => p18 z.2)]; exact ⟨(hX.e p26 (by decide)).1, (hX.e p26 (by decide)).2, Ext.rf, hD, hB⟩) | (rw [op_fewer, if_pos ⟨p1, p18⟩, if_pos p8, if_pos (by omega)]; exact ⟨(hX.e p44 (by decide)).1, (hX.e p44 (by decide)).2, Ext.rf, hD, hB⟩) | (rw [op_fewer, if_pos ⟨p1, p18⟩, if_pos p8, if_neg (by omega), cn_nI (by omega), cn_nI (by omega), cn_nI (by omega), fto_1 (Nat.le_refl _), fto_1 (by rw [j3]; omega)]; exact ⟨by rw [p75, p121, sum_GO (U := uS U r.2 (U r.1)) p67.2 hr23 (by rw [g0]; exact Nat.le_refl _) (by rw [g0]; omega), sum_GO (U := uS U81 r.2 (sp_adds (T 0) kk (10 * pp))) p113.2 hr23 (by rw [uS_s, j3]; omega) (by rw [uS_s, j3]; omega), uS_s, uS_s, e0], (hX2.ext (Ext.one had)).bk (fun z9 z1 z2 => by rw [p113.2.keep.1 z9 z1 z2, up3_n z1, uS_n z2]) (fun z9 hz9 => by rw [p113.2.keep.2 z9 hz9, up3_s, up1_n (by omega), uS_n (Ne.symm hr23)]) RK.bh, Ext.one had, hD, RB.rh ((RB.b (RB.b hB)).mono (by omega)) (fun w9 z9 => by cases z9; omega)⟩)
        · refine lv_aload_n hx hb dX0_fewer_42 rfl (hl.at rfl) ?_
          refine lv_iconst (v := nI 4) hx hb dX0_fewer_43 rfl ?_
          refine x_iV hC hK hP hS (x_rWB hK hP hn) (cX0_finds_ hn hD (k := 4) rfl (by decide)) cv_X0_173 rfl rfl hl.1 (Nat.le_of_ble_eq_true rfl) dX0_fewer_44 (rk (by decide) (by decide)) ⟨by decide, by decide⟩ (fun r44 U44 H locs p44 hP hS => ?_)
          refine W.widen (k := 1) (n := 2) (by decide) (by decide) ?_
          refine hret _ _ ls _ _ (_, _, _, _, _, _) hP hS dX0_fewer_47 ?_
          dsimp only
          first | (rw [op_fewer, if_neg (fun z => p1 z.1)]; exact ⟨(hX.e p26 (by decide)).1, (hX.e p26 (by decide)).2, Ext.rf, hD, hB⟩) | (by_cases hz9 : nI 1 ≤ q ∧ q ≤ nI 48; (rw [op_fewer, if_pos ⟨p1, hz9⟩, if_neg p8]; exact ⟨(hX.e p26 (by decide)).1, (hX.e p26 (by decide)).2, Ext.rf, hD, hB⟩); (rw [op_fewer, if_neg (fun z => hz9 z.2)]; exact ⟨(hX.e p26 (by decide)).1, (hX.e p26 (by decide)).2, Ext.rf, hD, hB⟩)) | (rw [op_fewer, if_neg (fun z => p18 z.2)]; exact ⟨(hX.e p26 (by decide)).1, (hX.e p26 (by decide)).2, Ext.rf, hD, hB⟩) | (rw [op_fewer, if_pos ⟨p1, p18⟩, if_pos p8, if_pos (by omega)]; exact ⟨(hX.e p44 (by decide)).1, (hX.e p44 (by decide)).2, Ext.rf, hD, hB⟩) | (rw [op_fewer, if_pos ⟨p1, p18⟩, if_pos p8, if_neg (by omega), cn_nI (by omega), cn_nI (by omega), cn_nI (by omega), fto_1 (Nat.le_refl _), fto_1 (by rw [j3]; omega)]; exact ⟨by rw [p75, p121, sum_GO (U := uS U r.2 (U r.1)) p67.2 hr23 (by rw [g0]; exact Nat.le_refl _) (by rw [g0]; omega), sum_GO (U := uS U81 r.2 (sp_adds (T 0) kk (10 * pp))) p113.2 hr23 (by rw [uS_s, j3]; omega) (by rw [uS_s, j3]; omega), uS_s, uS_s, e0], (hX2.ext (Ext.one had)).bk (fun z9 z1 z2 => by rw [p113.2.keep.1 z9 z1 z2, up3_n z1, uS_n z2]) (fun z9 hz9 => by rw [p113.2.keep.2 z9 hz9, up3_s, up1_n (by omega), uS_n (Ne.symm hr23)]) RK.bh, Ext.one had, hD, RB.rh ((RB.b (RB.b hB)).mono (by omega)) (fun w9 z9 => by cases z9; omega)⟩)
      · refine l_ifne_0 hx hb 30 dX0_fewer_21 rfl ?_
        refine lv_aload_n hx hb dX0_fewer_24 rfl (hl.at rfl) ?_
        refine lv_iconst (v := nI 1) hx hb dX0_fewer_25 rfl ?_
        refine x_iV hC hK hP hS (x_rWB hK hP hn) (cX0_finds_ hn hD (k := 1) rfl (by decide)) cv_X0_173 rfl rfl hl.1 (Nat.le_of_ble_eq_true rfl) dX0_fewer_26 (rk (by decide) (by decide)) ⟨by decide, by decide⟩ (fun r26 U26 H locs p26 hP hS => ?_)
        refine W.widen (k := 1) (n := 2) (by decide) (by decide) ?_
        refine hret _ _ ls _ _ (_, _, _, _, _, _) hP hS dX0_fewer_29 ?_
        dsimp only
        first | (rw [op_fewer, if_neg (fun z => p1 z.1)]; exact ⟨(hX.e p26 (by decide)).1, (hX.e p26 (by decide)).2, Ext.rf, hD, hB⟩) | (by_cases hz9 : nI 1 ≤ q ∧ q ≤ nI 48; (rw [op_fewer, if_pos ⟨p1, hz9⟩, if_neg p8]; exact ⟨(hX.e p26 (by decide)).1, (hX.e p26 (by decide)).2, Ext.rf, hD, hB⟩); (rw [op_fewer, if_neg (fun z => hz9 z.2)]; exact ⟨(hX.e p26 (by decide)).1, (hX.e p26 (by decide)).2, Ext.rf, hD, hB⟩)) | (rw [op_fewer, if_neg (fun z => p18 z.2)]; exact ⟨(hX.e p26 (by decide)).1, (hX.e p26 (by decide)).2, Ext.rf, hD, hB⟩) | (rw [op_fewer, if_pos ⟨p1, p18⟩, if_pos p8, if_pos (by omega)]; exact ⟨(hX.e p44 (by decide)).1, (hX.e p44 (by decide)).2, Ext.rf, hD, hB⟩) | (rw [op_fewer, if_pos ⟨p1, p18⟩, if_pos p8, if_neg (by omega), cn_nI (by omega), cn_nI (by omega), cn_nI (by omega), fto_1 (Nat.le_refl _), fto_1 (by rw [j3]; omega)]; exact ⟨by rw [p75, p121, sum_GO (U := uS U r.2 (U r.1)) p67.2 hr23 (by rw [g0]; exact Nat.le_refl _) (by rw [g0]; omega), sum_GO (U := uS U81 r.2 (sp_adds (T 0) kk (10 * pp))) p113.2 hr23 (by rw [uS_s, j3]; omega) (by rw [uS_s, j3]; omega), uS_s, uS_s, e0], (hX2.ext (Ext.one had)).bk (fun z9 z1 z2 => by rw [p113.2.keep.1 z9 z1 z2, up3_n z1, uS_n z2]) (fun z9 hz9 => by rw [p113.2.keep.2 z9 hz9, up3_s, up1_n (by omega), uS_n (Ne.symm hr23)]) RK.bh, Ext.one had, hD, RB.rh ((RB.b (RB.b hB)).mono (by omega)) (fun w9 z9 => by cases z9; omega)⟩)
    · refine l_ifeq_0 hx hb 24 dX0_fewer_11 rfl ?_
      refine lv_aload_n hx hb dX0_fewer_24 rfl (hl.at rfl) ?_
      refine lv_iconst (v := nI 1) hx hb dX0_fewer_25 rfl ?_
      refine x_iV hC hK hP hS (x_rWB hK hP hn) (cX0_finds_ hn hD (k := 1) rfl (by decide)) cv_X0_173 rfl rfl hl.1 (Nat.le_of_ble_eq_true rfl) dX0_fewer_26 (rk (by decide) (by decide)) ⟨by decide, by decide⟩ (fun r26 U26 H locs p26 hP hS => ?_)
      refine W.widen (k := 1) (n := 2) (by decide) (by decide) ?_
      refine hret _ _ ls _ _ (_, _, _, _, _, _) hP hS dX0_fewer_29 ?_
      dsimp only
      first | (rw [op_fewer, if_neg (fun z => p1 z.1)]; exact ⟨(hX.e p26 (by decide)).1, (hX.e p26 (by decide)).2, Ext.rf, hD, hB⟩) | (by_cases hz9 : nI 1 ≤ q ∧ q ≤ nI 48; (rw [op_fewer, if_pos ⟨p1, hz9⟩, if_neg p8]; exact ⟨(hX.e p26 (by decide)).1, (hX.e p26 (by decide)).2, Ext.rf, hD, hB⟩); (rw [op_fewer, if_neg (fun z => hz9 z.2)]; exact ⟨(hX.e p26 (by decide)).1, (hX.e p26 (by decide)).2, Ext.rf, hD, hB⟩)) | (rw [op_fewer, if_neg (fun z => p18 z.2)]; exact ⟨(hX.e p26 (by decide)).1, (hX.e p26 (by decide)).2, Ext.rf, hD, hB⟩) | (rw [op_fewer, if_pos ⟨p1, p18⟩, if_pos p8, if_pos (by omega)]; exact ⟨(hX.e p44 (by decide)).1, (hX.e p44 (by decide)).2, Ext.rf, hD, hB⟩) | (rw [op_fewer, if_pos ⟨p1, p18⟩, if_pos p8, if_neg (by omega), cn_nI (by omega), cn_nI (by omega), cn_nI (by omega), fto_1 (Nat.le_refl _), fto_1 (by rw [j3]; omega)]; exact ⟨by rw [p75, p121, sum_GO (U := uS U r.2 (U r.1)) p67.2 hr23 (by rw [g0]; exact Nat.le_refl _) (by rw [g0]; omega), sum_GO (U := uS U81 r.2 (sp_adds (T 0) kk (10 * pp))) p113.2 hr23 (by rw [uS_s, j3]; omega) (by rw [uS_s, j3]; omega), uS_s, uS_s, e0], (hX2.ext (Ext.one had)).bk (fun z9 z1 z2 => by rw [p113.2.keep.1 z9 z1 z2, up3_n z1, uS_n z2]) (fun z9 hz9 => by rw [p113.2.keep.2 z9 hz9, up3_s, up1_n (by omega), uS_n (Ne.symm hr23)]) RK.bh, Ext.one had, hD, RB.rh ((RB.b (RB.b hB)).mono (by omega)) (fun w9 z9 => by cases z9; omega)⟩)
  · refine l_ifeq_0 hx hb 24 dX0_fewer_4 rfl ?_
    refine lv_aload_n hx hb dX0_fewer_24 rfl (hl.at rfl) ?_
    refine lv_iconst (v := nI 1) hx hb dX0_fewer_25 rfl ?_
    refine x_iV hC hK hP hS (x_rWB hK hP hn) (cX0_finds_ hn hD (k := 1) rfl (by decide)) cv_X0_173 rfl rfl hl.1 (Nat.le_of_ble_eq_true rfl) dX0_fewer_26 (rk (by decide) (by decide)) ⟨by decide, by decide⟩ (fun r26 U26 H locs p26 hP hS => ?_)
    refine W.widen (k := 1) (n := 2) (by decide) (by decide) ?_
    refine hret _ _ ls _ _ (_, _, _, _, _, _) hP hS dX0_fewer_29 ?_
    dsimp only
    first | (rw [op_fewer, if_neg (fun z => p1 z.1)]; exact ⟨(hX.e p26 (by decide)).1, (hX.e p26 (by decide)).2, Ext.rf, hD, hB⟩) | (by_cases hz9 : nI 1 ≤ q ∧ q ≤ nI 48; (rw [op_fewer, if_pos ⟨p1, hz9⟩, if_neg p8]; exact ⟨(hX.e p26 (by decide)).1, (hX.e p26 (by decide)).2, Ext.rf, hD, hB⟩); (rw [op_fewer, if_neg (fun z => hz9 z.2)]; exact ⟨(hX.e p26 (by decide)).1, (hX.e p26 (by decide)).2, Ext.rf, hD, hB⟩)) | (rw [op_fewer, if_neg (fun z => p18 z.2)]; exact ⟨(hX.e p26 (by decide)).1, (hX.e p26 (by decide)).2, Ext.rf, hD, hB⟩) | (rw [op_fewer, if_pos ⟨p1, p18⟩, if_pos p8, if_pos (by omega)]; exact ⟨(hX.e p44 (by decide)).1, (hX.e p44 (by decide)).2, Ext.rf, hD, hB⟩) | (rw [op_fewer, if_pos ⟨p1, p18⟩, if_pos p8, if_neg (by omega), cn_nI (by omega), cn_nI (by omega), cn_nI (by omega), fto_1 (Nat.le_refl _), fto_1 (by rw [j3]; omega)]; exact ⟨by rw [p75, p121, sum_GO (U := uS U r.2 (U r.1)) p67.2 hr23 (by rw [g0]; exact Nat.le_refl _) (by rw [g0]; omega), sum_GO (U := uS U81 r.2 (sp_adds (T 0) kk (10 * pp))) p113.2 hr23 (by rw [uS_s, j3]; omega) (by rw [uS_s, j3]; omega), uS_s, uS_s, e0], (hX2.ext (Ext.one had)).bk (fun z9 z1 z2 => by rw [p113.2.keep.1 z9 z1 z2, up3_n z1, uS_n z2]) (fun z9 hz9 => by rw [p113.2.keep.2 z9 hz9, up3_s, up1_n (by omega), uS_n (Ne.symm hr23)]) RK.bh, Ext.one had, hD, RB.rh ((RB.b (RB.b hB)).mono (by omega)) (fun w9 z9 => by cases z9; omega)⟩)
theorem cv_X0_336 : CV RX0 RX0 336 yX0_turnsAt cX0_turnsAt 7 (some .int) 3 := ⟨lw_V q1043 q1045 qs31 q83 q1046, by decide +kernel⟩
theorem cX0_bestPlace_ {l : Launch} {D : va_G} {cA : Nat → ClassId} {ad : Nat → Nat} {n : Nat} {f0 : Nat → va_E} {ρ : Nat → Nat → Option Nat} {r : Nat × Nat} {U : Nat → Nat → Nat → Int32} (hn : 81 ≤ n) {A : Nat → Prop} (hD : gD A ad n) (hB : RB ρ n) {z : Nat} (hAz : ∀ q, z ≤ q → A q) {x q : Int32} {T : Tta} (hX : CQ cA ad n f0 U ρ r T) (hI : Inv (T 0)) (hh : hrv (T 0) ≤ 9999) : XIg l D cA ad n f0 ρ r U A z yX0_bestPlace cX0_bestPlace 7 (some .int) (10) 12 24 [.ref (ad 0), .int x, .int q] (fun o ad1 n1 f1 V ρ1 r1 => o = (op_best x q T).1 ∧ CQ cA ad1 n1 f1 V ρ1 r1 (op_best x q T).2 ∧ AX A ad n f0 ρ1 ad1 n1 f1) := by
  refine Ci.of rfl (by decide +kernel) (Nat.le_of_ble_eq_true rfl) ?_
  intro p e s m args below meth c Q hC hK hP hret ls hl
  have hx := hC.1
  have hb := hC.2.1
  have hown := hC.2.2.2.1
  have hts := hC.2.2.2.2
  obtain ⟨hP, hz⟩ := hP
  have hS : va_S A s.heap s.heap [] := va_S.rf
  have hT : CT U r T := hX.1
  have hQ : HQ cA ad f0 n ρ (T 0) r.1 := hX.2.1
  have hr2 : r.2 < 3 := hT.lt2
  have hne : r.1 ≠ r.2 := hT.1.2.2
  have hr23 : r.2 ≠ 3 := by omega
  have hr : r.1 < 3 := hT.lt
  have e0 : U r.1 = T 0 := hT.2.1
  have hI2 : Inv (U r.1) := by rw [e0]; exact hI
  have hQ2 : HQ cA ad f0 n ρ (U r.1) r.1 := by rw [e0]; exact hQ
  have hr3 : r.1 ≠ 3 := by omega
  obtain ⟨eN, h8⟩ := inv_wh hI2
  have eH : U r.1 0 1 = nI (hrv (T 0)) := by rw [e0]; exact (inv_hr hI).1
  have hH := (inv_hr hI).2
  rw [e0] at eN h8
  refine lv_iload_n hx hb dX0_bestPlace_0 rfl (hl.at rfl) ?_
  refine x_sS hC (cX0_isKind_ ) cs_X0_206 rfl rfl hl.1 (Nat.le_of_ble_eq_true rfl) dX0_bestPlace_1 (rk (by decide) (by decide)) ⟨by decide, by decide⟩ (fun r1 p1 => ?_)
  rcases p1 with ⟨rfl, p1⟩ | ⟨rfl, p1⟩
  · obtain ⟨kk, hkk, rfl⟩ := in_nI p1
    refine l_ifeq_1 hx hb 17 dX0_bestPlace_4 rfl ?_
    refine lv_iload_n hx hb dX0_bestPlace_7 rfl (hl.at rfl) ?_
    refine lv_iconst (v := nI 1) hx hb dX0_bestPlace_8 rfl ?_
    refine lv_bipush (v := nI 48) hx hb dX0_bestPlace_9 rfl ?_
    refine x_sS hC (cX0_isIn_ ) cs_X0_122 rfl rfl hl.1 (Nat.le_of_ble_eq_true rfl) dX0_bestPlace_11 (rk (by decide) (by decide)) ⟨by decide, by decide⟩ (fun r11 p11 => ?_)
    rcases p11 with ⟨rfl, p11⟩ | ⟨rfl, p11⟩
    · obtain ⟨m0, hm1, hm0, rfl⟩ := in_nI1 p11
      refine l_ifne_1 hx hb 23 dX0_bestPlace_14 rfl ?_
      refine lv_aload_n hx hb dX0_bestPlace_23 rfl (hl.at rfl) ?_
      refine c_get hC hK hP 0 (by omega) (wo_wb) rfl in_X0 2 (by decide) q254 rfl rfl dX0_bestPlace_24 ?_
      refine c_getN hC hK hP (3 + 22 * r.1) (by omega) (wo_ho hr) rfl in_X1 0 (by decide) q143 rfl rfl dX0_bestPlace_27 ?_
      refine l_top (nI (wh (T 0))) (by rw [e0]; exact eN) ?_
      refine lv_bipush (v := nI 8) hx hb dX0_bestPlace_30 rfl ?_
      refine l_neN hx hb 41 dX0_bestPlace_32 rfl (by omega) (by omega) (fun c32 => ?_) (fun c32 => ?_)
      · refine lv_iconst (v := nI 0) hx hb dX0_bestPlace_41 rfl ?_
        refine l_istore_n hx hb 3 dX0_bestPlace_42 rfl hl rfl (fun ls hl => ?_)
        refine lv_aload_n hx hb dX0_bestPlace_43 rfl (hl.at rfl) ?_
        refine lv_iload_n hx hb dX0_bestPlace_44 rfl (hl.at rfl) ?_
        refine lv_iconst (v := nI 0) hx hb dX0_bestPlace_45 rfl ?_
        refine lv_iload_n hx hb dX0_bestPlace_46 rfl (hl.at rfl) ?_
        refine x_iVg hC hK ⟨hP, Nat.le_trans hz hS.1⟩ hS (x_rWB hK hP hn) (cX0_turnsAt_ hn hD hB hAz hX hI hh (kk := kk) (pp := 0) (m0 := m0) rfl rfl rfl (by omega) (by omega) (by omega) (by omega)) (fun _ h => h) cv_X0_336 rfl rfl hl.1 (Nat.le_of_ble_eq_true rfl) dX0_bestPlace_47 (rk (by decide) (by decide)) ⟨by decide, by decide⟩ (fun r47 w47 H locs p47 hP hS => ?_)
        obtain ⟨ad47, n47, f47, U47, ρ47, q47⟩ := w47
        dsimp only at p47
        replace hP : XW D cA ad47 n47 f47 ρ47 q47 U47 H := hP
        obtain ⟨p47, hX2, hA2, e47⟩ := p47
        rw [e47] at hP hX2
        have e9 := bp_1 (S := T 0) (a := kk) (n := m0) (v := r47) (by rw [fto_2 (adds_inv hI (by omega) (by omega) (by omega) (by omega)).2.2, p47]) (by rw [p47]; exact bd_m1 (smN_bd m0) (by omega))
        rw [← hA2.1.2.1 0 (by omega)] at hl
        refine l_istore hx hb 4 dX0_bestPlace_50 hl rfl (fun ls hl => ?_)
        refine lv_iconst (v := nI 1) hx hb dX0_bestPlace_52 rfl ?_
        refine l_istore hx hb 5 dX0_bestPlace_53 hl rfl (fun ls hl => ?_)
        have loop : ∀ (i p0 : Nat) (ad1 : Nat → Nat) (n1 : Nat) (f1 : Nat → va_E) (V : Tta) (ρ1 : Rho), 1 ≤ p0 → p0 ≤ 12 → 13 ≤ p0 + i → CQ cA ad1 n1 f1 V ρ1 r T → AX A ad n f0 ρ1 ad1 n1 f1 → ∀ (H : Heap) (locs : List Loc) (ls : Array Slot), XW D cA ad1 n1 f1 ρ1 r V H → va_S A s.heap H locs → lh ls [some (.ref (ad1 0)), some (.int (nI kk)), some (.int (nI m0)), some (.int (bp_ (T 0) kk m0 p0).1), some (.int (bp_ (T 0) kk m0 p0).2), some (.int (nI p0)), none] → W p l e (rmG 10 12 24) s m args below meth c H locs p0 (2 * p0) Q (F0 m 55 ls []) := by
          intro i
          induction i with
          | zero => intro p0 ad1 n1 f1 V ρ1 h1 h2 h3; exact absurd h3 (by omega)
          | succ i ih =>
            intro p0 ad1 n1 f1 V ρ1 h1 h2 h3 hX1 hA1 H locs ls hP hS hl
            have hn1 : 81 ≤ n1 := Nat.le_trans hn hA1.1.1
            have hn := hn1
            have hD1 := hA1.2.1
            have hD := hD1
            refine lv_iload hx hb dX0_bestPlace_55 (hl.at rfl) ?_
            refine lv_bipush (v := nI 12) hx hb dX0_bestPlace_57 rfl ?_
            refine l_geN hx hb 101 dX0_bestPlace_59 rfl (by omega) (by omega) (fun c59 => ?_) (fun c59 => ?_)
            · have e5 : p0 = 12 := by omega
              refine lv_iload_n hx hb dX0_bestPlace_101 rfl (hl.at rfl) ?_
              refine W.widen (k := 12) (n := 24) (by omega) (by omega) ?_
              refine hret _ _ ls _ _ (_, _, _, _, _, _) hP hS dX0_bestPlace_102 ?_
              dsimp only
              first | (rw [op_best, if_neg (fun z => p1 z.1)]; exact ⟨(hX.e p19 (by decide)).1, (hX.e p19 (by decide)).2, Ext.rf, hD, hB⟩) | (rw [op_best, if_neg (fun z => p11 z.2)]; exact ⟨(hX.e p19 (by decide)).1, (hX.e p19 (by decide)).2, Ext.rf, hD, hB⟩) | (rw [op_best, if_pos ⟨p1, p11⟩, if_pos (by omega)]; exact ⟨(hX.e p37 (by decide)).1, (hX.e p37 (by decide)).2, Ext.rf, hD, hB⟩) | (rw [op_best, if_pos ⟨p1, p11⟩, if_neg (by omega), cn_nI (by omega), cn_nI (by omega), ← e5]; exact ⟨rfl, hX1, hA1⟩)
            · refine lv_aload_n hx hb dX0_bestPlace_62 rfl (hl.at rfl) ?_
              refine lv_iload_n hx hb dX0_bestPlace_63 rfl (hl.at rfl) ?_
              refine lv_iload hx hb dX0_bestPlace_64 (hl.at rfl) ?_
              refine lv_iload_n hx hb dX0_bestPlace_66 rfl (hl.at rfl) ?_
              refine x_iVg hC hK ⟨hP, Nat.le_trans hz hS.1⟩ hS (x_rWB hK hP hn) (cX0_turnsAt_ hn hD hA1.2.2 hAz hX1 hI hh (kk := kk) (pp := p0) (m0 := m0) rfl rfl rfl (by omega) (by omega) (by omega) (by omega)) (fun _ h => h) cv_X0_336 rfl rfl hl.1 (Nat.le_of_ble_eq_true rfl) dX0_bestPlace_67 (rk (by decide) (by decide)) ⟨by show _ + 1 ≤ 12; omega, by show _ + 2 ≤ 24; omega⟩ (fun r67 w67 H locs p67 hP hS => ?_)
              obtain ⟨ad67, n67, f67, U67, ρ67, q67⟩ := w67
              dsimp only at p67
              replace hP : XW D cA ad67 n67 f67 ρ67 q67 U67 H := hP
              obtain ⟨p67, hX2, hA2, e67⟩ := p67
              rw [e67] at hP hX2
              have e9 : (fto (sp_adds (T 0) kk (10 * p0)) (wh (T 0)) m0).2 = r67 := by rw [fto_2 (adds_inv hI (by omega) (by omega) (by omega) (by omega)).2.2, p67]
              rw [← hA2.1.2.1 0 (by omega)] at hl
              refine l_istore hx hb 6 dX0_bestPlace_70 hl rfl (fun ls hl => ?_)
              refine lv_iload hx hb dX0_bestPlace_72 (hl.at rfl) ?_
              refine lv_iload hx hb dX0_bestPlace_74 (hl.at rfl) ?_
              refine lv_icmp_le (tgt := 84) hx hb dX0_bestPlace_76 rfl (fun c76 => ?_) (fun c76 => ?_)
              · refine lv_iload_n hx hb dX0_bestPlace_84 rfl (hl.at rfl) ?_
                refine l_istore_n hx hb 3 dX0_bestPlace_85 rfl hl rfl (fun ls hl => ?_)
                refine lv_iload hx hb dX0_bestPlace_86 (hl.at rfl) ?_
                refine lv_iload hx hb dX0_bestPlace_88 (hl.at rfl) ?_
                refine x_max hC q559 hl.1 (by decide) (Nat.le_of_ble_eq_true rfl) ⟨by show _ ≤ 12; omega, by show _ ≤ 24; omega⟩ dX0_bestPlace_90 ?_
                refine l_istore hx hb 4 dX0_bestPlace_93 hl rfl (fun ls hl => ?_)
                refine l_inc1 hx hb 5 dX0_bestPlace_95 hl rfl rfl (fun ls hl => ?_)
                refine lv_goto (tgt := 55) hx hb dX0_bestPlace_98 rfl ?_
                first | exact ih (p0 + 1) ad67 n67 f67 U67 ρ67 (by omega) (by omega) (by omega) hX2 ⟨hA1.1.tr hA2.1, hA2.2⟩ _ _ _ hP hS (by rw [bp_, e9, if_pos c76]; rw [mx_1 c76] at hl; exact hl.mask [true, true, true, true, true, true, false]) | exact ih (p0 + 1) ad67 n67 f67 U67 ρ67 (by omega) (by omega) (by omega) hX2 ⟨hA1.1.tr hA2.1, hA2.2⟩ _ _ _ hP hS (by rw [bp_, e9, if_neg c76]; rw [mx_2 c76] at hl; exact hl.mask [true, true, true, true, true, true, false])
              · refine lv_iload hx hb dX0_bestPlace_79 (hl.at rfl) ?_
                refine lv_goto (tgt := 85) hx hb dX0_bestPlace_81 rfl ?_
                refine l_istore_n hx hb 3 dX0_bestPlace_85 rfl hl rfl (fun ls hl => ?_)
                refine lv_iload hx hb dX0_bestPlace_86 (hl.at rfl) ?_
                refine lv_iload hx hb dX0_bestPlace_88 (hl.at rfl) ?_
                refine x_max hC q559 hl.1 (by decide) (Nat.le_of_ble_eq_true rfl) ⟨by show _ ≤ 12; omega, by show _ ≤ 24; omega⟩ dX0_bestPlace_90 ?_
                refine l_istore hx hb 4 dX0_bestPlace_93 hl rfl (fun ls hl => ?_)
                refine l_inc1 hx hb 5 dX0_bestPlace_95 hl rfl rfl (fun ls hl => ?_)
                refine lv_goto (tgt := 55) hx hb dX0_bestPlace_98 rfl ?_
                first | exact ih (p0 + 1) ad67 n67 f67 U67 ρ67 (by omega) (by omega) (by omega) hX2 ⟨hA1.1.tr hA2.1, hA2.2⟩ _ _ _ hP hS (by rw [bp_, e9, if_pos c76]; rw [mx_1 c76] at hl; exact hl.mask [true, true, true, true, true, true, false]) | exact ih (p0 + 1) ad67 n67 f67 U67 ρ67 (by omega) (by omega) (by omega) hX2 ⟨hA1.1.tr hA2.1, hA2.2⟩ _ _ _ hP hS (by rw [bp_, e9, if_neg c76]; rw [mx_2 c76] at hl; exact hl.mask [true, true, true, true, true, true, false])
        exact loop 12 1 ad47 n47 f47 U47 ρ47 (by omega) (by omega) (by omega) hX2 hA2 _ _ _ hP hS (by rw [e9]; exact hl.mask [true, true, true, true, true, true, false])
      · refine lv_aload_n hx hb dX0_bestPlace_35 rfl (hl.at rfl) ?_
        refine lv_iconst (v := nI 4) hx hb dX0_bestPlace_36 rfl ?_
        refine x_iV hC hK hP hS (x_rWB hK hP hn) (cX0_finds_ hn hD (k := 4) rfl (by decide)) cv_X0_173 rfl rfl hl.1 (Nat.le_of_ble_eq_true rfl) dX0_bestPlace_37 (rk (by decide) (by decide)) ⟨by decide, by decide⟩ (fun r37 U37 H locs p37 hP hS => ?_)
        refine W.widen (k := 12) (n := 24) (by decide) (by decide) ?_
        refine hret _ _ ls _ _ (_, _, _, _, _, _) hP hS dX0_bestPlace_40 ?_
        dsimp only
        first | (rw [op_best, if_neg (fun z => p1 z.1)]; exact ⟨(hX.e p19 (by decide)).1, (hX.e p19 (by decide)).2, Ext.rf, hD, hB⟩) | (rw [op_best, if_neg (fun z => p11 z.2)]; exact ⟨(hX.e p19 (by decide)).1, (hX.e p19 (by decide)).2, Ext.rf, hD, hB⟩) | (rw [op_best, if_pos ⟨p1, p11⟩, if_pos (by omega)]; exact ⟨(hX.e p37 (by decide)).1, (hX.e p37 (by decide)).2, Ext.rf, hD, hB⟩) | (rw [op_best, if_pos ⟨p1, p11⟩, if_neg (by omega), cn_nI (by omega), cn_nI (by omega), ← e5]; exact ⟨rfl, hX1, hA1⟩)
    · refine l_ifne_0 hx hb 23 dX0_bestPlace_14 rfl ?_
      refine lv_aload_n hx hb dX0_bestPlace_17 rfl (hl.at rfl) ?_
      refine lv_iconst (v := nI 1) hx hb dX0_bestPlace_18 rfl ?_
      refine x_iV hC hK hP hS (x_rWB hK hP hn) (cX0_finds_ hn hD (k := 1) rfl (by decide)) cv_X0_173 rfl rfl hl.1 (Nat.le_of_ble_eq_true rfl) dX0_bestPlace_19 (rk (by decide) (by decide)) ⟨by decide, by decide⟩ (fun r19 U19 H locs p19 hP hS => ?_)
      refine W.widen (k := 12) (n := 24) (by decide) (by decide) ?_
      refine hret _ _ ls _ _ (_, _, _, _, _, _) hP hS dX0_bestPlace_22 ?_
      dsimp only
      first | (rw [op_best, if_neg (fun z => p1 z.1)]; exact ⟨(hX.e p19 (by decide)).1, (hX.e p19 (by decide)).2, Ext.rf, hD, hB⟩) | (rw [op_best, if_neg (fun z => p11 z.2)]; exact ⟨(hX.e p19 (by decide)).1, (hX.e p19 (by decide)).2, Ext.rf, hD, hB⟩) | (rw [op_best, if_pos ⟨p1, p11⟩, if_pos (by omega)]; exact ⟨(hX.e p37 (by decide)).1, (hX.e p37 (by decide)).2, Ext.rf, hD, hB⟩) | (rw [op_best, if_pos ⟨p1, p11⟩, if_neg (by omega), cn_nI (by omega), cn_nI (by omega), ← e5]; exact ⟨rfl, hX1, hA1⟩)
  · refine l_ifeq_0 hx hb 17 dX0_bestPlace_4 rfl ?_
    refine lv_aload_n hx hb dX0_bestPlace_17 rfl (hl.at rfl) ?_
    refine lv_iconst (v := nI 1) hx hb dX0_bestPlace_18 rfl ?_
    refine x_iV hC hK hP hS (x_rWB hK hP hn) (cX0_finds_ hn hD (k := 1) rfl (by decide)) cv_X0_173 rfl rfl hl.1 (Nat.le_of_ble_eq_true rfl) dX0_bestPlace_19 (rk (by decide) (by decide)) ⟨by decide, by decide⟩ (fun r19 U19 H locs p19 hP hS => ?_)
    refine W.widen (k := 12) (n := 24) (by decide) (by decide) ?_
    refine hret _ _ ls _ _ (_, _, _, _, _, _) hP hS dX0_bestPlace_22 ?_
    dsimp only
    first | (rw [op_best, if_neg (fun z => p1 z.1)]; exact ⟨(hX.e p19 (by decide)).1, (hX.e p19 (by decide)).2, Ext.rf, hD, hB⟩) | (rw [op_best, if_neg (fun z => p11 z.2)]; exact ⟨(hX.e p19 (by decide)).1, (hX.e p19 (by decide)).2, Ext.rf, hD, hB⟩) | (rw [op_best, if_pos ⟨p1, p11⟩, if_pos (by omega)]; exact ⟨(hX.e p37 (by decide)).1, (hX.e p37 (by decide)).2, Ext.rf, hD, hB⟩) | (rw [op_best, if_pos ⟨p1, p11⟩, if_neg (by omega), cn_nI (by omega), cn_nI (by omega), ← e5]; exact ⟨rfl, hX1, hA1⟩)
