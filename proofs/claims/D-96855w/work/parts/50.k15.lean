theorem cs_X0_206 : CS RX0 206 yX0_isKind cX0_isKind 1 (some .boolean) 1 := ⟨lw_S q349 q350 q83 q351, by decide +kernel⟩
theorem cv_X0_209 : CV RX0 RX1 209 yX1_comes cX1_comes 6 (some .int) 4 := ⟨lw_V q352 q353 q354 q84 q355, by decide +kernel⟩
theorem cX0_wheel_ {l : Launch} {D : va_G} {cA : Nat → ClassId} {ad : Nat → Nat} {n : Nat} {f0 : Nat → va_E} {ρ : Nat → Nat → Option Nat} {r : Nat × Nat} {U : Nat → Nat → Nat → Int32} (hn : 81 ≤ n) {A : Nat → Prop} (hD : gD A ad n) (hB : RB ρ n) {z : Nat} (hAz : ∀ q, z ≤ q → A q) {x y : Int32} {T : Tta} (hX : CQ cA ad n f0 U ρ r T) (hI : Inv (T 0)) : XIg l D cA ad n f0 ρ r U A z yX0_wheel cX0_wheel 3 (some .int) (6) 1 2 [.ref (ad 0), .int x, .int y] (fun o ad1 n1 f1 V ρ1 r1 => o = (op_wheel x y T).1 ∧ CQ cA ad1 n1 f1 V ρ1 r1 (op_wheel x y T).2 ∧ AX A ad n f0 ρ1 ad1 n1 f1) := by
  refine Ci.of rfl (by decide +kernel) (Nat.le_of_ble_eq_true rfl) ?_
  intro p e s m args below meth c Q hC hK hP hret ls hl
  have hx := hC.1
  have hb := hC.2.1
  have hown := hC.2.2.2.1
  have hts := hC.2.2.2.2
  obtain ⟨hP, hz⟩ := hP
  have hS : va_S A s.heap s.heap [] := va_S.rf
  have hT : CT U r T := hX.1
  have hQ : HQ cA ad f0 n ρ (T 0) r.1 := hX.2.1
  have hr2 : r.2 < 3 := hT.lt2
  have hne : r.1 ≠ r.2 := hT.1.2.2
  have hr23 : r.2 ≠ 3 := by omega
  have hr : r.1 < 3 := hT.lt
  have e0 : U r.1 = T 0 := hT.2.1
  have hI2 : Inv (U r.1) := by rw [e0]; exact hI
  have hQ2 : HQ cA ad f0 n ρ (U r.1) r.1 := by rw [e0]; exact hQ
  have hr3 : r.1 ≠ 3 := by omega
  obtain ⟨eN, h8⟩ := inv_wh hI2
  have eH : U r.1 0 1 = nI (hrv (T 0)) := by rw [e0]; exact (inv_hr hI).1
  have hH := (inv_hr hI).2
  rw [e0] at eN h8
  refine lv_iload_n hx hb dX0_wheel_0 rfl (hl.at rfl) ?_
  refine x_sS hC (cX0_isKind_ ) cs_X0_206 rfl rfl hl.1 (Nat.le_of_ble_eq_true rfl) dX0_wheel_1 (rk (by decide) (by decide)) ⟨by decide, by decide⟩ (fun r1 p1 => ?_)
  rcases p1 with ⟨rfl, p1⟩ | ⟨rfl, p1⟩
  · obtain ⟨kk, hkk, rfl⟩ := in_nI p1
    refine l_ifeq_1 hx hb 31 dX0_wheel_4 rfl ?_
    refine lv_iload_n hx hb dX0_wheel_7 rfl (hl.at rfl) ?_
    refine lv_if_lt (tgt := 31) hx hb dX0_wheel_8 rfl (fun c8 => ?_) (fun c8 => ?_)
    · refine lv_aload_n hx hb dX0_wheel_31 rfl (hl.at rfl) ?_
      refine lv_iconst (v := nI 1) hx hb dX0_wheel_32 rfl ?_
      refine x_iV hC hK hP hS (x_rWB hK hP hn) (cX0_finds_ hn hD (k := 1) rfl (by decide)) cv_X0_173 rfl rfl hl.1 (Nat.le_of_ble_eq_true rfl) dX0_wheel_33 (rk (by decide) (by decide)) ⟨by decide, by decide⟩ (fun r33 U33 H locs p33 hP hS => ?_)
      refine W.widen (k := 1) (n := 2) (by decide) (by decide) ?_
      refine hret _ _ ls _ _ (_, _, _, _, _, _) hP hS dX0_wheel_36 ?_
      dsimp only
      first | (rw [op_wheel_er (fun z => p1 z.1)]; exact ⟨(hX.e p33 (by decide)).1, (hX.e p33 (by decide)).2, Ext.rf, hD, hB⟩) | (rw [op_wheel_er (fun z => absurd c8 (Int32.not_lt.mpr z.2.1.1))]; exact ⟨(hX.e p33 (by decide)).1, (hX.e p33 (by decide)).2, Ext.rf, hD, hB⟩) | (rw [op_wheel_er (fun z => p15 (nI_in2 (by have := (nI_leI (by omega) (by decide)).mp z.2.1.2; omega)))]; exact ⟨(hX.e p33 (by decide)).1, (hX.e p33 (by decide)).2, Ext.rf, hD, hB⟩) | (rw [op_wheel_er (fun z => p25 (nI_in2 (by have h9 := z.2.2; rw [cn_nI (by omega)] at h9; exact h9)))]; exact ⟨(hX.e p33 (by decide)).1, (hX.e p33 (by decide)).2, Ext.rf, hD, hB⟩) | (rw [op_wheel, if_pos p1, if_pos (nI_in2 (by omega)), cn_nI (by omega), cn_nI (by omega), if_pos hc4, if_pos (by omega)]; exact ⟨(hX.e p51 (by decide)).1, (hX.e p51 (by decide)).2, Ext.rf, hD, hB⟩) | (rw [op_wheel, if_pos p1, if_pos (nI_in2 (by omega)), cn_nI (by omega), cn_nI (by omega), if_pos hc4, if_neg (by omega)]; rw [e0]; have z9 := hT.1.1; exact ⟨rfl, ⟨by rw [← e0]; exact (by rw [e0]; exact hT.S), hq_adds hQ hr (by omega) hn0 (by omega) had, hq_ρ (hX.2.2.1.ext (Ext.one had)) (rh_n (by omega)) (rh_n (by omega)), (hX.2.2.2.ext (Ext.one had)).cg (rh_n (by omega)) rfl rfl rfl⟩, Ext.one had, hD, RB.rh (hB.mono (by omega)) (fun w9 z => by cases z; omega)⟩)
    · obtain ⟨cc, hcc, rfl⟩ := pf_of c8
      refine lv_iload_n hx hb dX0_wheel_11 rfl (hl.at rfl) ?_
      refine lv_bipush (v := nI 10) hx hb dX0_wheel_12 rfl ?_
      refine l_divN hx hb dX0_wheel_14 (by omega) (by decide) (by decide) ?_
      refine x_sS hC (cX0_isPlace_ ) cs_X0_180 rfl rfl hl.1 (Nat.le_of_ble_eq_true rfl) dX0_wheel_15 (rk (by decide) (by decide)) ⟨by decide, by decide⟩ (fun r15 p15 => ?_)
      rcases p15 with ⟨rfl, p15⟩ | ⟨rfl, p15⟩
      · have hc11 : cc / 10 ≤ 11 := (nI_leI (by omega) (by decide)).mp p15.2
        refine l_ifeq_1 hx hb 31 dX0_wheel_18 rfl ?_
        refine lv_iload_n hx hb dX0_wheel_21 rfl (hl.at rfl) ?_
        refine lv_bipush (v := nI 10) hx hb dX0_wheel_22 rfl ?_
        refine l_remN hx hb dX0_wheel_24 (by omega) (by decide) (by decide) ?_
        refine x_sS hC (cX0_isFamily_ ) cs_X0_184 rfl rfl hl.1 (Nat.le_of_ble_eq_true rfl) dX0_wheel_25 (rk (by decide) (by decide)) ⟨by decide, by decide⟩ (fun r25 p25 => ?_)
        rcases p25 with ⟨rfl, p25⟩ | ⟨rfl, p25⟩
        · have hc4 : cc % 10 ≤ 4 := (nI_leI (by omega) (by decide)).mp p25.2
          refine l_ifne_1 hx hb 37 dX0_wheel_28 rfl ?_
          refine lv_aload_n hx hb dX0_wheel_37 rfl (hl.at rfl) ?_
          refine c_get hC hK hP 0 (by omega) (wo_wb) rfl in_X0 2 (by decide) q254 rfl rfl dX0_wheel_38 ?_
          refine c_getN hC hK hP (3 + 22 * r.1) (by omega) (wo_ho hr) rfl in_X1 0 (by decide) q143 rfl rfl dX0_wheel_41 ?_
          refine l_top (nI (wh (T 0))) (by rw [e0]; exact eN) ?_
          refine lv_bipush (v := nI 8) hx hb dX0_wheel_44 rfl ?_
          refine l_neN hx hb 57 dX0_wheel_46 rfl (by omega) (by omega) (fun c46 => ?_) (fun c46 => ?_)
          · refine lv_aload_n hx hb dX0_wheel_57 rfl (hl.at rfl) ?_
            refine c_get hC hK hP 0 (by omega) (wo_wb) rfl in_X0 2 (by decide) q254 rfl rfl dX0_wheel_58 ?_
            refine lv_iload_n hx hb dX0_wheel_61 rfl (hl.at rfl) ?_
            refine lv_bipush (v := nI 10) hx hb dX0_wheel_62 rfl ?_
            refine l_divN hx hb dX0_wheel_64 (by omega) (by decide) (by decide) ?_
            refine lv_iload_n hx hb dX0_wheel_65 rfl (hl.at rfl) ?_
            refine lv_bipush (v := nI 10) hx hb dX0_wheel_66 rfl ?_
            refine l_remN hx hb dX0_wheel_68 (by omega) (by decide) (by decide) ?_
            refine lv_iload_n hx hb dX0_wheel_69 rfl (hl.at rfl) ?_
            refine lv_bipush (v := nI 10) hx hb dX0_wheel_70 rfl ?_
            refine l_divN hx hb dX0_wheel_72 (by omega) (by decide) (by decide) ?_
            refine lv_iload_n hx hb dX0_wheel_73 rfl (hl.at rfl) ?_
            refine lv_bipush (v := nI 10) hx hb dX0_wheel_74 rfl ?_
            refine l_remN hx hb dX0_wheel_76 (by omega) (by decide) (by decide) ?_
            refine x_iVg hC hK ⟨hP, Nat.le_trans hz hS.1⟩ hS (x_rHO hr hK hP hn) (cX1_comes_ hn hD hB hAz hr hr2 hr hI2 (by rw [e0]; omega) rfl rfl rfl rfl (by omega) (by omega)) (fun _ h => h) cv_X0_209 rfl rfl hl.1 (Nat.le_of_ble_eq_true rfl) dX0_wheel_77 (rk (by decide) (by decide)) ⟨by decide, by decide⟩ (fun r77 w77 H locs p77 hP hS => ?_)
            obtain ⟨ad77, n77, f77, U77, ρ77, q77⟩ := w77
            dsimp only at p77
            replace hP : XW D cA ad77 n77 f77 ρ77 q77 U77 H := hP
            obtain ⟨rfl, rfl, had, hD, rfl, rfl, rfl, rfl⟩ := p77
            have hn0 := hn
            refine W.widen (k := 1) (n := 2) (by decide) (by decide) ?_
            refine hret _ _ ls _ _ (_, _, _, _, _, _) hP hS dX0_wheel_80 ?_
            dsimp only
            first | (rw [op_wheel_er (fun z => p1 z.1)]; exact ⟨(hX.e p33 (by decide)).1, (hX.e p33 (by decide)).2, Ext.rf, hD, hB⟩) | (rw [op_wheel_er (fun z => absurd c8 (Int32.not_lt.mpr z.2.1.1))]; exact ⟨(hX.e p33 (by decide)).1, (hX.e p33 (by decide)).2, Ext.rf, hD, hB⟩) | (rw [op_wheel_er (fun z => p15 (nI_in2 (by have := (nI_leI (by omega) (by decide)).mp z.2.1.2; omega)))]; exact ⟨(hX.e p33 (by decide)).1, (hX.e p33 (by decide)).2, Ext.rf, hD, hB⟩) | (rw [op_wheel_er (fun z => p25 (nI_in2 (by have h9 := z.2.2; rw [cn_nI (by omega)] at h9; exact h9)))]; exact ⟨(hX.e p33 (by decide)).1, (hX.e p33 (by decide)).2, Ext.rf, hD, hB⟩) | (rw [op_wheel, if_pos p1, if_pos (nI_in2 (by omega)), cn_nI (by omega), cn_nI (by omega), if_pos hc4, if_pos (by omega)]; exact ⟨(hX.e p51 (by decide)).1, (hX.e p51 (by decide)).2, Ext.rf, hD, hB⟩) | (rw [op_wheel, if_pos p1, if_pos (nI_in2 (by omega)), cn_nI (by omega), cn_nI (by omega), if_pos hc4, if_neg (by omega)]; rw [e0]; have z9 := hT.1.1; exact ⟨rfl, ⟨by rw [← e0]; exact (by rw [e0]; exact hT.S), hq_adds hQ hr (by omega) hn0 (by omega) had, hq_ρ (hX.2.2.1.ext (Ext.one had)) (rh_n (by omega)) (rh_n (by omega)), (hX.2.2.2.ext (Ext.one had)).cg (rh_n (by omega)) rfl rfl rfl⟩, Ext.one had, hD, RB.rh (hB.mono (by omega)) (fun w9 z => by cases z; omega)⟩)
          · refine lv_aload_n hx hb dX0_wheel_49 rfl (hl.at rfl) ?_
            refine lv_iconst (v := nI 4) hx hb dX0_wheel_50 rfl ?_
            refine x_iV hC hK hP hS (x_rWB hK hP hn) (cX0_finds_ hn hD (k := 4) rfl (by decide)) cv_X0_173 rfl rfl hl.1 (Nat.le_of_ble_eq_true rfl) dX0_wheel_51 (rk (by decide) (by decide)) ⟨by decide, by decide⟩ (fun r51 U51 H locs p51 hP hS => ?_)
            refine lv_goto (tgt := 80) hx hb dX0_wheel_54 rfl ?_
            refine W.widen (k := 1) (n := 2) (by decide) (by decide) ?_
            refine hret _ _ ls _ _ (_, _, _, _, _, _) hP hS dX0_wheel_80 ?_
            dsimp only
            first | (rw [op_wheel_er (fun z => p1 z.1)]; exact ⟨(hX.e p33 (by decide)).1, (hX.e p33 (by decide)).2, Ext.rf, hD, hB⟩) | (rw [op_wheel_er (fun z => absurd c8 (Int32.not_lt.mpr z.2.1.1))]; exact ⟨(hX.e p33 (by decide)).1, (hX.e p33 (by decide)).2, Ext.rf, hD, hB⟩) | (rw [op_wheel_er (fun z => p15 (nI_in2 (by have := (nI_leI (by omega) (by decide)).mp z.2.1.2; omega)))]; exact ⟨(hX.e p33 (by decide)).1, (hX.e p33 (by decide)).2, Ext.rf, hD, hB⟩) | (rw [op_wheel_er (fun z => p25 (nI_in2 (by have h9 := z.2.2; rw [cn_nI (by omega)] at h9; exact h9)))]; exact ⟨(hX.e p33 (by decide)).1, (hX.e p33 (by decide)).2, Ext.rf, hD, hB⟩) | (rw [op_wheel, if_pos p1, if_pos (nI_in2 (by omega)), cn_nI (by omega), cn_nI (by omega), if_pos hc4, if_pos (by omega)]; exact ⟨(hX.e p51 (by decide)).1, (hX.e p51 (by decide)).2, Ext.rf, hD, hB⟩) | (rw [op_wheel, if_pos p1, if_pos (nI_in2 (by omega)), cn_nI (by omega), cn_nI (by omega), if_pos hc4, if_neg (by omega)]; rw [e0]; have z9 := hT.1.1; exact ⟨rfl, ⟨by rw [← e0]; exact (by rw [e0]; exact hT.S), hq_adds hQ hr (by omega) hn0 (by omega) had, hq_ρ (hX.2.2.1.ext (Ext.one had)) (rh_n (by omega)) (rh_n (by omega)), (hX.2.2.2.ext (Ext.one had)).cg (rh_n (by omega)) rfl rfl rfl⟩, Ext.one had, hD, RB.rh (hB.mono (by omega)) (fun w9 z => by cases z; omega)⟩)
        · refine l_ifne_0 hx hb 37 dX0_wheel_28 rfl ?_
          refine lv_aload_n hx hb dX0_wheel_31 rfl (hl.at rfl) ?_
          refine lv_iconst (v := nI 1) hx hb dX0_wheel_32 rfl ?_
          refine x_iV hC hK hP hS (x_rWB hK hP hn) (cX0_finds_ hn hD (k := 1) rfl (by decide)) cv_X0_173 rfl rfl hl.1 (Nat.le_of_ble_eq_true rfl) dX0_wheel_33 (rk (by decide) (by decide)) ⟨by decide, by decide⟩ (fun r33 U33 H locs p33 hP hS => ?_)
          refine W.widen (k := 1) (n := 2) (by decide) (by decide) ?_
          refine hret _ _ ls _ _ (_, _, _, _, _, _) hP hS dX0_wheel_36 ?_
          dsimp only
          first | (rw [op_wheel_er (fun z => p1 z.1)]; exact ⟨(hX.e p33 (by decide)).1, (hX.e p33 (by decide)).2, Ext.rf, hD, hB⟩) | (rw [op_wheel_er (fun z => absurd c8 (Int32.not_lt.mpr z.2.1.1))]; exact ⟨(hX.e p33 (by decide)).1, (hX.e p33 (by decide)).2, Ext.rf, hD, hB⟩) | (rw [op_wheel_er (fun z => p15 (nI_in2 (by have := (nI_leI (by omega) (by decide)).mp z.2.1.2; omega)))]; exact ⟨(hX.e p33 (by decide)).1, (hX.e p33 (by decide)).2, Ext.rf, hD, hB⟩) | (rw [op_wheel_er (fun z => p25 (nI_in2 (by have h9 := z.2.2; rw [cn_nI (by omega)] at h9; exact h9)))]; exact ⟨(hX.e p33 (by decide)).1, (hX.e p33 (by decide)).2, Ext.rf, hD, hB⟩) | (rw [op_wheel, if_pos p1, if_pos (nI_in2 (by omega)), cn_nI (by omega), cn_nI (by omega), if_pos hc4, if_pos (by omega)]; exact ⟨(hX.e p51 (by decide)).1, (hX.e p51 (by decide)).2, Ext.rf, hD, hB⟩) | (rw [op_wheel, if_pos p1, if_pos (nI_in2 (by omega)), cn_nI (by omega), cn_nI (by omega), if_pos hc4, if_neg (by omega)]; rw [e0]; have z9 := hT.1.1; exact ⟨rfl, ⟨by rw [← e0]; exact (by rw [e0]; exact hT.S), hq_adds hQ hr (by omega) hn0 (by omega) had, hq_ρ (hX.2.2.1.ext (Ext.one had)) (rh_n (by omega)) (rh_n (by omega)), (hX.2.2.2.ext (Ext.one had)).cg (rh_n (by omega)) rfl rfl rfl⟩, Ext.one had, hD, RB.rh (hB.mono (by omega)) (fun w9 z => by cases z; omega)⟩)
      · refine l_ifeq_0 hx hb 31 dX0_wheel_18 rfl ?_
        refine lv_aload_n hx hb dX0_wheel_31 rfl (hl.at rfl) ?_
        refine lv_iconst (v := nI 1) hx hb dX0_wheel_32 rfl ?_
        refine x_iV hC hK hP hS (x_rWB hK hP hn) (cX0_finds_ hn hD (k := 1) rfl (by decide)) cv_X0_173 rfl rfl hl.1 (Nat.le_of_ble_eq_true rfl) dX0_wheel_33 (rk (by decide) (by decide)) ⟨by decide, by decide⟩ (fun r33 U33 H locs p33 hP hS => ?_)
        refine W.widen (k := 1) (n := 2) (by decide) (by decide) ?_
        refine hret _ _ ls _ _ (_, _, _, _, _, _) hP hS dX0_wheel_36 ?_
        dsimp only
        first | (rw [op_wheel_er (fun z => p1 z.1)]; exact ⟨(hX.e p33 (by decide)).1, (hX.e p33 (by decide)).2, Ext.rf, hD, hB⟩) | (rw [op_wheel_er (fun z => absurd c8 (Int32.not_lt.mpr z.2.1.1))]; exact ⟨(hX.e p33 (by decide)).1, (hX.e p33 (by decide)).2, Ext.rf, hD, hB⟩) | (rw [op_wheel_er (fun z => p15 (nI_in2 (by have := (nI_leI (by omega) (by decide)).mp z.2.1.2; omega)))]; exact ⟨(hX.e p33 (by decide)).1, (hX.e p33 (by decide)).2, Ext.rf, hD, hB⟩) | (rw [op_wheel_er (fun z => p25 (nI_in2 (by have h9 := z.2.2; rw [cn_nI (by omega)] at h9; exact h9)))]; exact ⟨(hX.e p33 (by decide)).1, (hX.e p33 (by decide)).2, Ext.rf, hD, hB⟩) | (rw [op_wheel, if_pos p1, if_pos (nI_in2 (by omega)), cn_nI (by omega), cn_nI (by omega), if_pos hc4, if_pos (by omega)]; exact ⟨(hX.e p51 (by decide)).1, (hX.e p51 (by decide)).2, Ext.rf, hD, hB⟩) | (rw [op_wheel, if_pos p1, if_pos (nI_in2 (by omega)), cn_nI (by omega), cn_nI (by omega), if_pos hc4, if_neg (by omega)]; rw [e0]; have z9 := hT.1.1; exact ⟨rfl, ⟨by rw [← e0]; exact (by rw [e0]; exact hT.S), hq_adds hQ hr (by omega) hn0 (by omega) had, hq_ρ (hX.2.2.1.ext (Ext.one had)) (rh_n (by omega)) (rh_n (by omega)), (hX.2.2.2.ext (Ext.one had)).cg (rh_n (by omega)) rfl rfl rfl⟩, Ext.one had, hD, RB.rh (hB.mono (by omega)) (fun w9 z => by cases z; omega)⟩)
  · refine l_ifeq_0 hx hb 31 dX0_wheel_4 rfl ?_
    refine lv_aload_n hx hb dX0_wheel_31 rfl (hl.at rfl) ?_
    refine lv_iconst (v := nI 1) hx hb dX0_wheel_32 rfl ?_
    refine x_iV hC hK hP hS (x_rWB hK hP hn) (cX0_finds_ hn hD (k := 1) rfl (by decide)) cv_X0_173 rfl rfl hl.1 (Nat.le_of_ble_eq_true rfl) dX0_wheel_33 (rk (by decide) (by decide)) ⟨by decide, by decide⟩ (fun r33 U33 H locs p33 hP hS => ?_)
    refine W.widen (k := 1) (n := 2) (by decide) (by decide) ?_
    refine hret _ _ ls _ _ (_, _, _, _, _, _) hP hS dX0_wheel_36 ?_
    dsimp only
    first | (rw [op_wheel_er (fun z => p1 z.1)]; exact ⟨(hX.e p33 (by decide)).1, (hX.e p33 (by decide)).2, Ext.rf, hD, hB⟩) | (rw [op_wheel_er (fun z => absurd c8 (Int32.not_lt.mpr z.2.1.1))]; exact ⟨(hX.e p33 (by decide)).1, (hX.e p33 (by decide)).2, Ext.rf, hD, hB⟩) | (rw [op_wheel_er (fun z => p15 (nI_in2 (by have := (nI_leI (by omega) (by decide)).mp z.2.1.2; omega)))]; exact ⟨(hX.e p33 (by decide)).1, (hX.e p33 (by decide)).2, Ext.rf, hD, hB⟩) | (rw [op_wheel_er (fun z => p25 (nI_in2 (by have h9 := z.2.2; rw [cn_nI (by omega)] at h9; exact h9)))]; exact ⟨(hX.e p33 (by decide)).1, (hX.e p33 (by decide)).2, Ext.rf, hD, hB⟩) | (rw [op_wheel, if_pos p1, if_pos (nI_in2 (by omega)), cn_nI (by omega), cn_nI (by omega), if_pos hc4, if_pos (by omega)]; exact ⟨(hX.e p51 (by decide)).1, (hX.e p51 (by decide)).2, Ext.rf, hD, hB⟩) | (rw [op_wheel, if_pos p1, if_pos (nI_in2 (by omega)), cn_nI (by omega), cn_nI (by omega), if_pos hc4, if_neg (by omega)]; rw [e0]; have z9 := hT.1.1; exact ⟨rfl, ⟨by rw [← e0]; exact (by rw [e0]; exact hT.S), hq_adds hQ hr (by omega) hn0 (by omega) had, hq_ρ (hX.2.2.1.ext (Ext.one had)) (rh_n (by omega)) (rh_n (by omega)), (hX.2.2.2.ext (Ext.one had)).cg (rh_n (by omega)) rfl rfl rfl⟩, Ext.one had, hD, RB.rh (hB.mono (by omega)) (fun w9 z => by cases z; omega)⟩)
