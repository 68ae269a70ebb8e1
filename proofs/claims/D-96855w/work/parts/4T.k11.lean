theorem cs_X0_316 : CS RX0 316 yX0_isAhead cX0_isAhead 1 (some .boolean) 1 := ⟨lw_S q988 q989 q83 q990, by decide +kernel⟩
theorem cv_X0_319 : CV RX0 RX0 319 yX0_begins cX0_begins 1 (none) 0 := ⟨lw_V q991 q993 qs26 q83 q994, by decide +kernel⟩
theorem cX0_then_ {l : Launch} {D : va_G} {cA : Nat → ClassId} {ad : Nat → Nat} {n : Nat} {f0 : Nat → va_E} {ρ : Nat → Nat → Option Nat} {r : Nat × Nat} {U : Nat → Nat → Nat → Int32} (hn : 81 ≤ n) {A : Nat → Prop} (hD : gD A ad n) {x y q : Int32} {T : Tta} (hX : CQ cA ad n f0 U ρ r T) (hI : Inv (T 0)) (hh : hrv (T 0) ≤ 9999) : XIq l D cA ad n f0 ρ r U A yX0_then cX0_then 6 (some .int) (9) [.ref (ad 0), .int x, .int y, .int q] (fun o V ρ1 r1 => o = (op_then x y q T).1 ∧ CQ cA ad n f0 V ρ1 r1 (op_then x y q T).2) := by
  refine Ci.of rfl (by decide +kernel) (Nat.le_of_ble_eq_true rfl) ?_
  intro p e s m args below meth c Q hC hK hP hret ls hl
  have hx := hC.1
  have hb := hC.2.1
  have hown := hC.2.2.2.1
  have hts := hC.2.2.2.2
  have hS : va_S A s.heap s.heap [] := va_S.rf
  have hT : CT U r T := hX.1
  have hQ : HQ cA ad f0 n ρ (T 0) r.1 := hX.2.1
  have hr2 : r.2 < 3 := hT.lt2
  have hne : r.1 ≠ r.2 := hT.1.2.2
  have hr23 : r.2 ≠ 3 := by omega
  have hr : r.1 < 3 := hT.lt
  have e0 : U r.1 = T 0 := hT.2.1
  have hI2 : Inv (U r.1) := by rw [e0]; exact hI
  have hQ2 : HQ cA ad f0 n ρ (U r.1) r.1 := by rw [e0]; exact hQ
  have hr3 : r.1 ≠ 3 := by omega
  obtain ⟨eN, h8⟩ := inv_wh hI2
  have eH : U r.1 0 1 = nI (hrv (T 0)) := by rw [e0]; exact (inv_hr hI).1
  have hH := (inv_hr hI).2
  refine lv_iload_n hx hb dX0_then_0 rfl (hl.at rfl) ?_
  refine x_sS hC (cX0_isAhead_ ) cs_X0_316 rfl rfl hl.1 (Nat.le_of_ble_eq_true rfl) dX0_then_1 (rk (by decide) (by decide)) ⟨Nat.le_refl _, Nat.le_refl _⟩ (fun r1 p1 => ?_)
  rcases p1 with ⟨rfl, p1⟩ | ⟨rfl, p1⟩
  · obtain ⟨k, hk, rfl⟩ := in_nI p1
    refine l_ifeq_1 hx hb 25 dX0_then_4 rfl ?_
    refine lv_aload_n hx hb dX0_then_7 rfl (hl.at rfl) ?_
    refine lv_iload_n hx hb dX0_then_8 rfl (hl.at rfl) ?_
    refine x_pV hC hK hP (x_rWB hK hP hn) (cX0_isWheel_ hn hr) cv_X0_231 rfl rfl hl.1 (Nat.le_of_ble_eq_true rfl) dX0_then_9 (rk (by decide) (by decide)) ⟨Nat.le_refl _, Nat.le_refl _⟩ (fun r9 p9 => ?_)
    rcases p9 with ⟨rfl, p9⟩ | ⟨rfl, p9⟩
    · obtain ⟨w, hw, rfl⟩ := isWh_of hI2 p9
      refine l_ifeq_1 hx hb 25 dX0_then_12 rfl ?_
      refine lv_iload_n hx hb dX0_then_15 rfl (hl.at rfl) ?_
      refine lv_iconst (v := nI 0) hx hb dX0_then_16 rfl ?_
      refine lv_bipush (v := nI 9) hx hb dX0_then_17 rfl ?_
      refine x_sS hC (cX0_isIn_ ) cs_X0_122 rfl rfl hl.1 (Nat.le_of_ble_eq_true rfl) dX0_then_19 (rk (by decide) (by decide)) ⟨Nat.le_refl _, Nat.le_refl _⟩ (fun r19 p19 => ?_)
      rcases p19 with ⟨rfl, p19⟩ | ⟨rfl, p19⟩
      · refine l_ifne_1 hx hb 31 dX0_then_22 rfl ?_
        refine lv_aload_n hx hb dX0_then_31 rfl (hl.at rfl) ?_
        refine x_vVq hC hK hP hS (x_rWB hK hP hn) (cX0_begins_ hn hD hr hr2 hne hI2 hQ2) cv_X0_319 rfl rfl hl.1 (Nat.le_of_ble_eq_true rfl) dX0_then_32 (rk (by decide) (by decide)) ⟨Nat.le_refl _, Nat.le_refl _⟩ (fun U32 ρ32 q32 H locs p32 hP hS => ?_)
        obtain ⟨rfl, rfl, rfl⟩ := p32
        have g0 : uS U r.2 (U r.1) r.2 = T 0 := by rw [uS_s, e0]
        have hQ1 : HQ cA ad f0 n (bρ ρ r.2 r.1) (T 0) r.2 := hq_bec hQ
        refine lv_aload_n hx hb dX0_then_35 rfl (hl.at rfl) ?_
        refine lv_iload_n hx hb dX0_then_36 rfl (hl.at rfl) ?_
        refine x_iV hC hK hP hS (x_rWB hK hP hn) (cX0_goOn_ hn hD hr2 (by show Inv (uS U r.2 (U r.1) r.2); rw [g0]; exact hI) (by show HQ cA ad f0 n (bρ ρ r.2 r.1) (uS U r.2 (U r.1) r.2) r.2; rw [g0]; exact hQ1) (m0 := k) rfl (by show hrv (uS U r.2 (U r.1) r.2) + k ≤ 20000; rw [g0]; omega)) cv_X0_294 rfl rfl hl.1 (Nat.le_of_ble_eq_true rfl) dX0_then_37 (rk (by decide) (by decide)) ⟨Nat.le_refl _, Nat.le_refl _⟩ (fun r37 U37 H locs p37 hP hS => ?_)
        obtain ⟨i1, i2, i3⟩ := hrN_inv hI k (by omega)
        have g1 : U37 r.2 = hrN (T 0) k := by rw [← g0]; exact p37.2.2.1
        refine l_istore hx hb 4 dX0_then_40 hl rfl (fun ls hl => ?_)
        refine lv_aload_n hx hb dX0_then_42 rfl (hl.at rfl) ?_
        refine lv_iload_n hx hb dX0_then_43 rfl (hl.at rfl) ?_
        refine lv_iload_n hx hb dX0_then_44 rfl (hl.at rfl) ?_
        refine x_iV hC hK hP hS (x_rWB hK hP hn) (cX0_wheelTold_ hn hD hr2 (by show Inv (U37 r.2); rw [g1]; exact i1) (by show HQ cA ad f0 n (bρ ρ r.2 r.1) (U37 r.2) r.2; rw [g1]; exact hQ1.hrN k) rfl (by show w < wh (U37 r.2); rw [g1, i3, ← e0]; exact hw) p19) cv_X0_234 rfl rfl hl.1 (Nat.le_of_ble_eq_true rfl) dX0_then_45 (rk (by decide) (by decide)) ⟨Nat.le_refl _, Nat.le_refl _⟩ (fun r45 U45 H locs p45 hP hS => ?_)
        refine l_istore hx hb 5 dX0_then_48 hl rfl (fun ls hl => ?_)
        refine lv_aload_n hx hb dX0_then_50 rfl (hl.at rfl) ?_
        refine x_vVq hC hK hP hS (x_rWB hK hP hn) (cX0_swaps_ hn hD hr2 hr) cv_X0_313 rfl rfl hl.1 (Nat.le_of_ble_eq_true rfl) dX0_then_51 (rk (by decide) (by decide)) ⟨Nat.le_refl _, Nat.le_refl _⟩ (fun U51 ρ51 q51 H locs p51 hP hS => ?_)
        obtain ⟨rfl, rfl, rfl⟩ := p51
        refine lv_iload hx hb dX0_then_54 (hl.at rfl) ?_
        refine hret _ _ ls _ _ (_, _, _) hP hS dX0_then_56 ?_
        dsimp only
        first | (rw [op_then, if_neg p1]; exact hX.e p27 (by decide)) | (rw [op_then, if_pos p1, if_neg (by rw [← e0]; exact p9)]; exact hX.e p27 (by decide)) | (rw [op_then, if_pos p1, if_pos (by rw [← e0]; exact p9), if_neg p19]; exact hX.e p27 (by decide)) | (rw [op_then, if_pos p1, if_pos (by rw [← e0]; exact p9), if_pos p19, cn_nI (by omega), cn_nI (by omega), p45.1]; exact ⟨by rw [← g1], hX.bk (fun z z1 z2 => by rw [p45.2.1 z z1, p37.2.keep.1 z z1 z2, uS_n z2]) (fun z hz => by rw [p45.2.2 z (by simp; omega), p37.2.keep.2 z hz, uS_n (Ne.symm hr23)]) RK.b⟩)
      · refine l_ifne_0 hx hb 31 dX0_then_22 rfl ?_
        refine lv_aload_n hx hb dX0_then_25 rfl (hl.at rfl) ?_
        refine lv_iconst (v := nI 1) hx hb dX0_then_26 rfl ?_
        refine x_iV hC hK hP hS (x_rWB hK hP hn) (cX0_finds_ hn hD (k := 1) rfl (by decide)) cv_X0_173 rfl rfl hl.1 (Nat.le_of_ble_eq_true rfl) dX0_then_27 (rk (by decide) (by decide)) ⟨Nat.le_refl _, Nat.le_refl _⟩ (fun r27 U27 H locs p27 hP hS => ?_)
        refine hret _ _ ls _ _ (_, _, _) hP hS dX0_then_30 ?_
        dsimp only
        first | (rw [op_then, if_neg p1]; exact hX.e p27 (by decide)) | (rw [op_then, if_pos p1, if_neg (by rw [← e0]; exact p9)]; exact hX.e p27 (by decide)) | (rw [op_then, if_pos p1, if_pos (by rw [← e0]; exact p9), if_neg p19]; exact hX.e p27 (by decide)) | (rw [op_then, if_pos p1, if_pos (by rw [← e0]; exact p9), if_pos p19, cn_nI (by omega), cn_nI (by omega), p45.1]; exact ⟨by rw [← g1], hX.bk (fun z z1 z2 => by rw [p45.2.1 z z1, p37.2.keep.1 z z1 z2, uS_n z2]) (fun z hz => by rw [p45.2.2 z (by simp; omega), p37.2.keep.2 z hz, uS_n (Ne.symm hr23)]) RK.b⟩)
    · refine l_ifeq_0 hx hb 25 dX0_then_12 rfl ?_
      refine lv_aload_n hx hb dX0_then_25 rfl (hl.at rfl) ?_
      refine lv_iconst (v := nI 1) hx hb dX0_then_26 rfl ?_
      refine x_iV hC hK hP hS (x_rWB hK hP hn) (cX0_finds_ hn hD (k := 1) rfl (by decide)) cv_X0_173 rfl rfl hl.1 (Nat.le_of_ble_eq_true rfl) dX0_then_27 (rk (by decide) (by decide)) ⟨Nat.le_refl _, Nat.le_refl _⟩ (fun r27 U27 H locs p27 hP hS => ?_)
      refine hret _ _ ls _ _ (_, _, _) hP hS dX0_then_30 ?_
      dsimp only
      first | (rw [op_then, if_neg p1]; exact hX.e p27 (by decide)) | (rw [op_then, if_pos p1, if_neg (by rw [← e0]; exact p9)]; exact hX.e p27 (by decide)) | (rw [op_then, if_pos p1, if_pos (by rw [← e0]; exact p9), if_neg p19]; exact hX.e p27 (by decide)) | (rw [op_then, if_pos p1, if_pos (by rw [← e0]; exact p9), if_pos p19, cn_nI (by omega), cn_nI (by omega), p45.1]; exact ⟨by rw [← g1], hX.bk (fun z z1 z2 => by rw [p45.2.1 z z1, p37.2.keep.1 z z1 z2, uS_n z2]) (fun z hz => by rw [p45.2.2 z (by simp; omega), p37.2.keep.2 z hz, uS_n (Ne.symm hr23)]) RK.b⟩)
  · refine l_ifeq_0 hx hb 25 dX0_then_4 rfl ?_
    refine lv_aload_n hx hb dX0_then_25 rfl (hl.at rfl) ?_
    refine lv_iconst (v := nI 1) hx hb dX0_then_26 rfl ?_
    refine x_iV hC hK hP hS (x_rWB hK hP hn) (cX0_finds_ hn hD (k := 1) rfl (by decide)) cv_X0_173 rfl rfl hl.1 (Nat.le_of_ble_eq_true rfl) dX0_then_27 (rk (by decide) (by decide)) ⟨Nat.le_refl _, Nat.le_refl _⟩ (fun r27 U27 H locs p27 hP hS => ?_)
    refine hret _ _ ls _ _ (_, _, _) hP hS dX0_then_30 ?_
    dsimp only
    first | (rw [op_then, if_neg p1]; exact hX.e p27 (by decide)) | (rw [op_then, if_pos p1, if_neg (by rw [← e0]; exact p9)]; exact hX.e p27 (by decide)) | (rw [op_then, if_pos p1, if_pos (by rw [← e0]; exact p9), if_neg p19]; exact hX.e p27 (by decide)) | (rw [op_then, if_pos p1, if_pos (by rw [← e0]; exact p9), if_pos p19, cn_nI (by omega), cn_nI (by omega), p45.1]; exact ⟨by rw [← g1], hX.bk (fun z z1 z2 => by rw [p45.2.1 z z1, p37.2.keep.1 z z1 z2, uS_n z2]) (fun z hz => by rw [p45.2.2 z (by simp; omega), p37.2.keep.2 z hz, uS_n (Ne.symm hr23)]) RK.b⟩)
theorem cX0_thenFamily_ {l : Launch} {D : va_G} {cA : Nat → ClassId} {ad : Nat → Nat} {n : Nat} {f0 : Nat → va_E} {ρ : Nat → Nat → Option Nat} {r : Nat × Nat} {U : Nat → Nat → Nat → Int32} (hn : 81 ≤ n) {A : Nat → Prop} (hD : gD A ad n) {x y q : Int32} {T : Tta} (hX : CQ cA ad n f0 U ρ r T) (hI : Inv (T 0)) (hh : hrv (T 0) ≤ 9999) : XIq l D cA ad n f0 ρ r U A yX0_thenFamily cX0_thenFamily 6 (some .int) (9) [.ref (ad 0), .int x, .int y, .int q] (fun o V ρ1 r1 => o = (op_thenF x y q T).1 ∧ CQ cA ad n f0 V ρ1 r1 (op_thenF x y q T).2) := by
  refine Ci.of rfl (by decide +kernel) (Nat.le_of_ble_eq_true rfl) ?_
  intro p e s m args below meth c Q hC hK hP hret ls hl
  have hx := hC.1
  have hb := hC.2.1
  have hown := hC.2.2.2.1
  have hts := hC.2.2.2.2
  have hS : va_S A s.heap s.heap [] := va_S.rf
  have hT : CT U r T := hX.1
  have hQ : HQ cA ad f0 n ρ (T 0) r.1 := hX.2.1
  have hr2 : r.2 < 3 := hT.lt2
  have hne : r.1 ≠ r.2 := hT.1.2.2
  have hr23 : r.2 ≠ 3 := by omega
  have hr : r.1 < 3 := hT.lt
  have e0 : U r.1 = T 0 := hT.2.1
  have hI2 : Inv (U r.1) := by rw [e0]; exact hI
  have hQ2 : HQ cA ad f0 n ρ (U r.1) r.1 := by rw [e0]; exact hQ
  have hr3 : r.1 ≠ 3 := by omega
  obtain ⟨eN, h8⟩ := inv_wh hI2
  have eH : U r.1 0 1 = nI (hrv (T 0)) := by rw [e0]; exact (inv_hr hI).1
  have hH := (inv_hr hI).2
  refine lv_iload_n hx hb dX0_thenFamily_0 rfl (hl.at rfl) ?_
  refine x_sS hC (cX0_isAhead_ ) cs_X0_316 rfl rfl hl.1 (Nat.le_of_ble_eq_true rfl) dX0_thenFamily_1 (rk (by decide) (by decide)) ⟨Nat.le_refl _, Nat.le_refl _⟩ (fun r1 p1 => ?_)
  rcases p1 with ⟨rfl, p1⟩ | ⟨rfl, p1⟩
  · obtain ⟨k, hk, rfl⟩ := in_nI p1
    refine l_ifeq_1 hx hb 23 dX0_thenFamily_4 rfl ?_
    refine lv_iload_n hx hb dX0_thenFamily_7 rfl (hl.at rfl) ?_
    refine x_sS hC (cX0_isFamily_ ) cs_X0_184 rfl rfl hl.1 (Nat.le_of_ble_eq_true rfl) dX0_thenFamily_8 (rk (by decide) (by decide)) ⟨Nat.le_refl _, Nat.le_refl _⟩ (fun r8 p8 => ?_)
    rcases p8 with ⟨rfl, p8⟩ | ⟨rfl, p8⟩
    · obtain ⟨f, hf, rfl⟩ := in_nI p8
      refine l_ifeq_1 hx hb 23 dX0_thenFamily_11 rfl ?_
      refine lv_iload_n hx hb dX0_thenFamily_14 rfl (hl.at rfl) ?_
      refine lv_iconst (v := nI 0) hx hb dX0_thenFamily_15 rfl ?_
      refine lv_iconst (v := nI 3) hx hb dX0_thenFamily_16 rfl ?_
      refine x_sS hC (cX0_isIn_ ) cs_X0_122 rfl rfl hl.1 (Nat.le_of_ble_eq_true rfl) dX0_thenFamily_17 (rk (by decide) (by decide)) ⟨Nat.le_refl _, Nat.le_refl _⟩ (fun r17 p17 => ?_)
      rcases p17 with ⟨rfl, p17⟩ | ⟨rfl, p17⟩
      · refine l_ifne_1 hx hb 29 dX0_thenFamily_20 rfl ?_
        refine lv_aload_n hx hb dX0_thenFamily_29 rfl (hl.at rfl) ?_
        refine x_vVq hC hK hP hS (x_rWB hK hP hn) (cX0_begins_ hn hD hr hr2 hne hI2 hQ2) cv_X0_319 rfl rfl hl.1 (Nat.le_of_ble_eq_true rfl) dX0_thenFamily_30 (rk (by decide) (by decide)) ⟨Nat.le_refl _, Nat.le_refl _⟩ (fun U30 ρ30 q30 H locs p30 hP hS => ?_)
        obtain ⟨rfl, rfl, rfl⟩ := p30
        have g0 : uS U r.2 (U r.1) r.2 = T 0 := by rw [uS_s, e0]
        have hQ1 : HQ cA ad f0 n (bρ ρ r.2 r.1) (T 0) r.2 := hq_bec hQ
        refine lv_aload_n hx hb dX0_thenFamily_33 rfl (hl.at rfl) ?_
        refine lv_iload_n hx hb dX0_thenFamily_34 rfl (hl.at rfl) ?_
        refine x_iV hC hK hP hS (x_rWB hK hP hn) (cX0_goOn_ hn hD hr2 (by show Inv (uS U r.2 (U r.1) r.2); rw [g0]; exact hI) (by show HQ cA ad f0 n (bρ ρ r.2 r.1) (uS U r.2 (U r.1) r.2) r.2; rw [g0]; exact hQ1) (m0 := k) rfl (by show hrv (uS U r.2 (U r.1) r.2) + k ≤ 20000; rw [g0]; omega)) cv_X0_294 rfl rfl hl.1 (Nat.le_of_ble_eq_true rfl) dX0_thenFamily_35 (rk (by decide) (by decide)) ⟨Nat.le_refl _, Nat.le_refl _⟩ (fun r35 U35 H locs p35 hP hS => ?_)
        obtain ⟨i1, i2, i3⟩ := hrN_inv hI k (by omega)
        have g1 : U35 r.2 = hrN (T 0) k := by rw [← g0]; exact p35.2.2.1
        refine l_istore hx hb 4 dX0_thenFamily_38 hl rfl (fun ls hl => ?_)
        refine lv_aload_n hx hb dX0_thenFamily_40 rfl (hl.at rfl) ?_
        refine lv_iload_n hx hb dX0_thenFamily_41 rfl (hl.at rfl) ?_
        refine lv_iload_n hx hb dX0_thenFamily_42 rfl (hl.at rfl) ?_
        refine x_pV hC hK hP (x_rWB hK hP hn) (cX0_familyTold_ hn hr2 (by show Inv (U35 r.2); rw [g1]; exact i1) rfl (by omega) p17) cv_X0_203 rfl rfl hl.1 (Nat.le_of_ble_eq_true rfl) dX0_thenFamily_43 (rk (by decide) (by decide)) ⟨Nat.le_refl _, Nat.le_refl _⟩ (fun r43 p43 => ?_)
        refine l_istore hx hb 5 dX0_thenFamily_46 hl rfl (fun ls hl => ?_)
        refine lv_aload_n hx hb dX0_thenFamily_48 rfl (hl.at rfl) ?_
        refine x_vVq hC hK hP hS (x_rWB hK hP hn) (cX0_swaps_ hn hD hr2 hr) cv_X0_313 rfl rfl hl.1 (Nat.le_of_ble_eq_true rfl) dX0_thenFamily_49 (rk (by decide) (by decide)) ⟨Nat.le_refl _, Nat.le_refl _⟩ (fun U49 ρ49 q49 H locs p49 hP hS => ?_)
        obtain ⟨rfl, rfl, rfl⟩ := p49
        refine lv_iload hx hb dX0_thenFamily_52 (hl.at rfl) ?_
        refine hret _ _ ls _ _ (_, _, _) hP hS dX0_thenFamily_54 ?_
        dsimp only
        first | (rw [op_thenF, if_neg p1]; exact hX.e p25 (by decide)) | (rw [op_thenF, if_pos p1, if_neg p8]; exact hX.e p25 (by decide)) | (rw [op_thenF, if_pos p1, if_pos p8, if_neg p17]; exact hX.e p25 (by decide)) | (rw [op_thenF, if_pos p1, if_pos p8, if_pos p17, cn_nI (by omega), cn_nI (by omega), p43]; exact ⟨by rw [← g1], hX.bk (fun z z1 z2 => by rw [p35.2.keep.1 z z1 z2, uS_n z2]) (fun z hz => by rw [p35.2.keep.2 z hz, uS_n (Ne.symm hr23)]) RK.b⟩)
      · refine l_ifne_0 hx hb 29 dX0_thenFamily_20 rfl ?_
        refine lv_aload_n hx hb dX0_thenFamily_23 rfl (hl.at rfl) ?_
        refine lv_iconst (v := nI 1) hx hb dX0_thenFamily_24 rfl ?_
        refine x_iV hC hK hP hS (x_rWB hK hP hn) (cX0_finds_ hn hD (k := 1) rfl (by decide)) cv_X0_173 rfl rfl hl.1 (Nat.le_of_ble_eq_true rfl) dX0_thenFamily_25 (rk (by decide) (by decide)) ⟨Nat.le_refl _, Nat.le_refl _⟩ (fun r25 U25 H locs p25 hP hS => ?_)
        refine hret _ _ ls _ _ (_, _, _) hP hS dX0_thenFamily_28 ?_
        dsimp only
        first | (rw [op_thenF, if_neg p1]; exact hX.e p25 (by decide)) | (rw [op_thenF, if_pos p1, if_neg p8]; exact hX.e p25 (by decide)) | (rw [op_thenF, if_pos p1, if_pos p8, if_neg p17]; exact hX.e p25 (by decide)) | (rw [op_thenF, if_pos p1, if_pos p8, if_pos p17, cn_nI (by omega), cn_nI (by omega), p43]; exact ⟨by rw [← g1], hX.bk (fun z z1 z2 => by rw [p35.2.keep.1 z z1 z2, uS_n z2]) (fun z hz => by rw [p35.2.keep.2 z hz, uS_n (Ne.symm hr23)]) RK.b⟩)
    · refine l_ifeq_0 hx hb 23 dX0_thenFamily_11 rfl ?_
      refine lv_aload_n hx hb dX0_thenFamily_23 rfl (hl.at rfl) ?_
      refine lv_iconst (v := nI 1) hx hb dX0_thenFamily_24 rfl ?_
      refine x_iV hC hK hP hS (x_rWB hK hP hn) (cX0_finds_ hn hD (k := 1) rfl (by decide)) cv_X0_173 rfl rfl hl.1 (Nat.le_of_ble_eq_true rfl) dX0_thenFamily_25 (rk (by decide) (by decide)) ⟨Nat.le_refl _, Nat.le_refl _⟩ (fun r25 U25 H locs p25 hP hS => ?_)
      refine hret _ _ ls _ _ (_, _, _) hP hS dX0_thenFamily_28 ?_
      dsimp only
      first | (rw [op_thenF, if_neg p1]; exact hX.e p25 (by decide)) | (rw [op_thenF, if_pos p1, if_neg p8]; exact hX.e p25 (by decide)) | (rw [op_thenF, if_pos p1, if_pos p8, if_neg p17]; exact hX.e p25 (by decide)) | (rw [op_thenF, if_pos p1, if_pos p8, if_pos p17, cn_nI (by omega), cn_nI (by omega), p43]; exact ⟨by rw [← g1], hX.bk (fun z z1 z2 => by rw [p35.2.keep.1 z z1 z2, uS_n z2]) (fun z hz => by rw [p35.2.keep.2 z hz, uS_n (Ne.symm hr23)]) RK.b⟩)
  · refine l_ifeq_0 hx hb 23 dX0_thenFamily_4 rfl ?_
    refine lv_aload_n hx hb dX0_thenFamily_23 rfl (hl.at rfl) ?_
    refine lv_iconst (v := nI 1) hx hb dX0_thenFamily_24 rfl ?_
    refine x_iV hC hK hP hS (x_rWB hK hP hn) (cX0_finds_ hn hD (k := 1) rfl (by decide)) cv_X0_173 rfl rfl hl.1 (Nat.le_of_ble_eq_true rfl) dX0_thenFamily_25 (rk (by decide) (by decide)) ⟨Nat.le_refl _, Nat.le_refl _⟩ (fun r25 U25 H locs p25 hP hS => ?_)
    refine hret _ _ ls _ _ (_, _, _) hP hS dX0_thenFamily_28 ?_
    dsimp only
    first | (rw [op_thenF, if_neg p1]; exact hX.e p25 (by decide)) | (rw [op_thenF, if_pos p1, if_neg p8]; exact hX.e p25 (by decide)) | (rw [op_thenF, if_pos p1, if_pos p8, if_neg p17]; exact hX.e p25 (by decide)) | (rw [op_thenF, if_pos p1, if_pos p8, if_pos p17, cn_nI (by omega), cn_nI (by omega), p43]; exact ⟨by rw [← g1], hX.bk (fun z z1 z2 => by rw [p35.2.keep.1 z z1 z2, uS_n z2]) (fun z hz => by rw [p35.2.keep.2 z hz, uS_n (Ne.symm hr23)]) RK.b⟩)
theorem cX0_when_ {l : Launch} {D : va_G} {cA : Nat → ClassId} {ad : Nat → Nat} {n : Nat} {f0 : Nat → va_E} {ρ : Nat → Nat → Option Nat} {r : Nat × Nat} {U : Nat → Nat → Nat → Int32} (hn : 81 ≤ n) {A : Nat → Prop} (hD : gD A ad n) {x y : Int32} {T : Tta} (hX : CQ cA ad n f0 U ρ r T) (hI : Inv (T 0)) (hh : hrv (T 0) ≤ 9999) : XIq l D cA ad n f0 ρ r U A yX0_when cX0_when 5 (some .int) (8) [.ref (ad 0), .int x, .int y] (fun o V ρ1 r1 => o = (op_when x y T).1 ∧ CQ cA ad n f0 V ρ1 r1 (op_when x y T).2) := by
  refine Ci.of rfl (by decide +kernel) (Nat.le_of_ble_eq_true rfl) ?_
  intro p e s m args below meth c Q hC hK hP hret ls hl
  have hx := hC.1
  have hb := hC.2.1
  have hown := hC.2.2.2.1
  have hts := hC.2.2.2.2
  have hS : va_S A s.heap s.heap [] := va_S.rf
  have hT : CT U r T := hX.1
  have hQ : HQ cA ad f0 n ρ (T 0) r.1 := hX.2.1
  have hr2 : r.2 < 3 := hT.lt2
  have hne : r.1 ≠ r.2 := hT.1.2.2
  have hr23 : r.2 ≠ 3 := by omega
  have hr : r.1 < 3 := hT.lt
  have e0 : U r.1 = T 0 := hT.2.1
  have hI2 : Inv (U r.1) := by rw [e0]; exact hI
  have hQ2 : HQ cA ad f0 n ρ (U r.1) r.1 := by rw [e0]; exact hQ
  have hr3 : r.1 ≠ 3 := by omega
  obtain ⟨eN, h8⟩ := inv_wh hI2
  have eH : U r.1 0 1 = nI (hrv (T 0)) := by rw [e0]; exact (inv_hr hI).1
  have hH := (inv_hr hI).2
  refine lv_iload_n hx hb dX0_when_0 rfl (hl.at rfl) ?_
  refine x_sS hC (cX0_isFamily_ ) cs_X0_184 rfl rfl hl.1 (Nat.le_of_ble_eq_true rfl) dX0_when_1 (rk (by decide) (by decide)) ⟨Nat.le_refl _, Nat.le_refl _⟩ (fun r1 p1 => ?_)
  rcases p1 with ⟨rfl, p1⟩ | ⟨rfl, p1⟩
  · obtain ⟨f, hf, rfl⟩ := in_nI p1
    refine l_ifeq_1 hx hb 14 dX0_when_4 rfl ?_
    refine lv_iload_n hx hb dX0_when_7 rfl (hl.at rfl) ?_
    refine x_sS hC (cX0_isAhead_ ) cs_X0_316 rfl rfl hl.1 (Nat.le_of_ble_eq_true rfl) dX0_when_8 (rk (by decide) (by decide)) ⟨Nat.le_refl _, Nat.le_refl _⟩ (fun r8 p8 => ?_)
    rcases p8 with ⟨rfl, p8⟩ | ⟨rfl, p8⟩
    · obtain ⟨n1, hn1, rfl⟩ := in_nI p8
      refine l_ifne_1 hx hb 20 dX0_when_11 rfl ?_
      refine lv_aload_n hx hb dX0_when_20 rfl (hl.at rfl) ?_
      refine x_vVq hC hK hP hS (x_rWB hK hP hn) (cX0_begins_ hn hD hr hr2 hne hI2 hQ2) cv_X0_319 rfl rfl hl.1 (Nat.le_of_ble_eq_true rfl) dX0_when_21 (rk (by decide) (by decide)) ⟨Nat.le_refl _, Nat.le_refl _⟩ (fun U21 ρ21 q21 H locs p21 hP hS => ?_)
      obtain ⟨rfl, rfl, rfl⟩ := p21
      have g0 : uS U r.2 (U r.1) r.2 = T 0 := by rw [uS_s, e0]
      have hQ1 : HQ cA ad f0 n (bρ ρ r.2 r.1) (T 0) r.2 := hq_bec hQ
      refine lv_iconst (v := nI 0) hx hb dX0_when_24 rfl ?_
      refine l_istore_n hx hb 3 dX0_when_25 rfl hl rfl (fun ls hl => ?_)
      have loop : ∀ (i k : Nat) (V : Tta), k ≤ n1 → n1 + 1 ≤ k + i → Kh HL r.2 (uS U r.2 (U r.1)) V → V r.2 = hrN (T 0) k → wn (T 0) f (n1 - k) k = wn (T 0) f n1 0 → ∀ (H : Heap) (locs : List Loc) (ls : Array Slot), XW D cA ad n f0 (bρ ρ r.2 r.1) (r.2, r.1) V H → va_S A s.heap H locs → lh ls [some (.ref (ad 0)), some (.int (nI f)), some (.int (nI n1)), some (.int (nI k)), none] → W p l e (rmG 8 0 0) s m args below meth c H locs 0 0 Q (F0 m 26 ls []) := by
        intro i
        induction i with
        | zero => intro k V h1 h2; exact absurd h2 (by omega)
        | succ i ih =>
          intro k V h1 h2 hk h0 hwn H locs ls hP hS hl
          obtain ⟨i1, i2, i3⟩ := hrN_inv hI k (by omega)
          refine lv_iload_n hx hb dX0_when_26 rfl (hl.at rfl) ?_
          refine lv_iload_n hx hb dX0_when_27 rfl (hl.at rfl) ?_
          refine l_geN hx hb 54 dX0_when_28 rfl (by omega) (by omega) (fun c28 => ?_) (fun c28 => ?_)
          · have e5 : k = n1 := by omega
            have hw : wn (T 0) f n1 0 = k := by rw [← hwn, e5, Nat.sub_self]; rfl
            refine lv_aload_n hx hb dX0_when_54 rfl (hl.at rfl) ?_
            refine c_get hC hK hP 0 (by omega) (wo_wb) rfl in_X0 2 (by decide) q254 rfl rfl dX0_when_55 ?_
            refine lv_iload_n hx hb dX0_when_58 rfl (hl.at rfl) ?_
            refine x_pV hC hK hP (x_rHO hr2 hK hP hn) (cX1_isPaid_ hn hr2 (f := f) rfl (by omega)) cv_X0_197 rfl rfl hl.1 (Nat.le_of_ble_eq_true rfl) dX0_when_59 (rk (by decide) (by decide)) ⟨Nat.le_refl _, Nat.le_refl _⟩ (fun r59 p59 => ?_)
            rcases p59 with ⟨rfl, p59⟩ | ⟨rfl, p59⟩
            · rw [show (V r.2 : Sta) = hrN (T 0) k from h0] at p59
              refine l_istore hx hb 4 dX0_when_62 hl rfl (fun ls hl => ?_)
              refine lv_aload_n hx hb dX0_when_64 rfl (hl.at rfl) ?_
              refine x_vVq hC hK hP hS (x_rWB hK hP hn) (cX0_swaps_ hn hD hr2 hr) cv_X0_313 rfl rfl hl.1 (Nat.le_of_ble_eq_true rfl) dX0_when_65 (rk (by decide) (by decide)) ⟨Nat.le_refl _, Nat.le_refl _⟩ (fun U65 ρ65 q65 H locs p65 hP hS => ?_)
              obtain ⟨rfl, rfl, rfl⟩ := p65
              refine lv_iload hx hb dX0_when_68 (hl.at rfl) ?_
              refine l_ifeq_1 hx hb 77 dX0_when_70 rfl ?_
              refine lv_iload_n hx hb dX0_when_73 rfl (hl.at rfl) ?_
              refine lv_goto (tgt := 82) hx hb dX0_when_74 rfl ?_
              refine hret _ _ ls _ _ (_, _, _) hP hS dX0_when_82 ?_
              dsimp only
              first | (rw [op_when, if_neg p1]; exact hX.e p16 (by decide)) | (rw [op_when, if_pos p1, if_neg p8]; exact hX.e p16 (by decide)) | (rw [op_when, if_pos p1, if_pos p8, cn_nI (by omega), cn_nI (by omega), hw, if_pos p59]; exact ⟨rfl, hX.bk (fun z z1 z2 => by rw [hk.1 z z1 z2, uS_n z2]) (fun z hz => by rw [hk.2 z (by unfold HL; simp; omega), uS_n (Ne.symm hr23)]) RK.b⟩) | (rw [op_when, if_pos p1, if_pos p8, cn_nI (by omega), cn_nI (by omega), hw, if_neg p59]; exact (hX.bk (fun z z1 z2 => by rw [hk.1 z z1 z2, uS_n z2]) (fun z hz => by rw [hk.2 z (by unfold HL; simp; omega), uS_n (Ne.symm hr23)]) RK.b).e p79 (by decide))
            · rw [show (V r.2 : Sta) = hrN (T 0) k from h0] at p59
              refine l_istore hx hb 4 dX0_when_62 hl rfl (fun ls hl => ?_)
              refine lv_aload_n hx hb dX0_when_64 rfl (hl.at rfl) ?_
              refine x_vVq hC hK hP hS (x_rWB hK hP hn) (cX0_swaps_ hn hD hr2 hr) cv_X0_313 rfl rfl hl.1 (Nat.le_of_ble_eq_true rfl) dX0_when_65 (rk (by decide) (by decide)) ⟨Nat.le_refl _, Nat.le_refl _⟩ (fun U65 ρ65 q65 H locs p65 hP hS => ?_)
              obtain ⟨rfl, rfl, rfl⟩ := p65
              refine lv_iload hx hb dX0_when_68 (hl.at rfl) ?_
              refine l_ifeq_0 hx hb 77 dX0_when_70 rfl ?_
              refine lv_aload_n hx hb dX0_when_77 rfl (hl.at rfl) ?_
              refine lv_iconst (v := nI 2) hx hb dX0_when_78 rfl ?_
              refine x_iV hC hK hP hS (x_rWB hK hP hn) (cX0_finds_ hn hD (k := 2) rfl (by decide)) cv_X0_173 rfl rfl hl.1 (Nat.le_of_ble_eq_true rfl) dX0_when_79 (rk (by decide) (by decide)) ⟨Nat.le_refl _, Nat.le_refl _⟩ (fun r79 U79 H locs p79 hP hS => ?_)
              refine hret _ _ ls _ _ (_, _, _) hP hS dX0_when_82 ?_
              dsimp only
              first | (rw [op_when, if_neg p1]; exact hX.e p16 (by decide)) | (rw [op_when, if_pos p1, if_neg p8]; exact hX.e p16 (by decide)) | (rw [op_when, if_pos p1, if_pos p8, cn_nI (by omega), cn_nI (by omega), hw, if_pos p59]; exact ⟨rfl, hX.bk (fun z z1 z2 => by rw [hk.1 z z1 z2, uS_n z2]) (fun z hz => by rw [hk.2 z (by unfold HL; simp; omega), uS_n (Ne.symm hr23)]) RK.b⟩) | (rw [op_when, if_pos p1, if_pos p8, cn_nI (by omega), cn_nI (by omega), hw, if_neg p59]; exact (hX.bk (fun z z1 z2 => by rw [hk.1 z z1 z2, uS_n z2]) (fun z hz => by rw [hk.2 z (by unfold HL; simp; omega), uS_n (Ne.symm hr23)]) RK.b).e p79 (by decide))
          · refine lv_aload_n hx hb dX0_when_31 rfl (hl.at rfl) ?_
            refine c_get hC hK hP 0 (by omega) (wo_wb) rfl in_X0 2 (by decide) q254 rfl rfl dX0_when_32 ?_
            refine lv_iload_n hx hb dX0_when_35 rfl (hl.at rfl) ?_
            refine x_pV hC hK hP (x_rHO hr2 hK hP hn) (cX1_isPaid_ hn hr2 (f := f) rfl (by omega)) cv_X0_197 rfl rfl hl.1 (Nat.le_of_ble_eq_true rfl) dX0_when_36 (rk (by decide) (by decide)) ⟨Nat.le_refl _, Nat.le_refl _⟩ (fun r36 p36 => ?_)
            rcases p36 with ⟨rfl, p36⟩ | ⟨rfl, p36⟩
            · rw [show (V r.2 : Sta) = hrN (T 0) k from h0] at p36
              have hw : wn (T 0) f n1 0 = k := by rw [← hwn, show n1 - k = (n1 - (k + 1)) + 1 by omega, wn, if_pos p36]
              refine l_ifne_1 hx hb 54 dX0_when_39 rfl ?_
              refine lv_aload_n hx hb dX0_when_54 rfl (hl.at rfl) ?_
              refine c_get hC hK hP 0 (by omega) (wo_wb) rfl in_X0 2 (by decide) q254 rfl rfl dX0_when_55 ?_
              refine lv_iload_n hx hb dX0_when_58 rfl (hl.at rfl) ?_
              refine x_pV hC hK hP (x_rHO hr2 hK hP hn) (cX1_isPaid_ hn hr2 (f := f) rfl (by omega)) cv_X0_197 rfl rfl hl.1 (Nat.le_of_ble_eq_true rfl) dX0_when_59 (rk (by decide) (by decide)) ⟨Nat.le_refl _, Nat.le_refl _⟩ (fun r59 p59 => ?_)
              rcases p59 with ⟨rfl, p59⟩ | ⟨rfl, p59⟩
              · rw [show (V r.2 : Sta) = hrN (T 0) k from h0] at p59
                refine l_istore hx hb 4 dX0_when_62 hl rfl (fun ls hl => ?_)
                refine lv_aload_n hx hb dX0_when_64 rfl (hl.at rfl) ?_
                refine x_vVq hC hK hP hS (x_rWB hK hP hn) (cX0_swaps_ hn hD hr2 hr) cv_X0_313 rfl rfl hl.1 (Nat.le_of_ble_eq_true rfl) dX0_when_65 (rk (by decide) (by decide)) ⟨Nat.le_refl _, Nat.le_refl _⟩ (fun U65 ρ65 q65 H locs p65 hP hS => ?_)
                obtain ⟨rfl, rfl, rfl⟩ := p65
                refine lv_iload hx hb dX0_when_68 (hl.at rfl) ?_
                refine l_ifeq_1 hx hb 77 dX0_when_70 rfl ?_
                refine lv_iload_n hx hb dX0_when_73 rfl (hl.at rfl) ?_
                refine lv_goto (tgt := 82) hx hb dX0_when_74 rfl ?_
                refine hret _ _ ls _ _ (_, _, _) hP hS dX0_when_82 ?_
                dsimp only
                first | (rw [op_when, if_neg p1]; exact hX.e p16 (by decide)) | (rw [op_when, if_pos p1, if_neg p8]; exact hX.e p16 (by decide)) | (rw [op_when, if_pos p1, if_pos p8, cn_nI (by omega), cn_nI (by omega), hw, if_pos p59]; exact ⟨rfl, hX.bk (fun z z1 z2 => by rw [hk.1 z z1 z2, uS_n z2]) (fun z hz => by rw [hk.2 z (by unfold HL; simp; omega), uS_n (Ne.symm hr23)]) RK.b⟩) | (rw [op_when, if_pos p1, if_pos p8, cn_nI (by omega), cn_nI (by omega), hw, if_neg p59]; exact (hX.bk (fun z z1 z2 => by rw [hk.1 z z1 z2, uS_n z2]) (fun z hz => by rw [hk.2 z (by unfold HL; simp; omega), uS_n (Ne.symm hr23)]) RK.b).e p79 (by decide))
              · rw [show (V r.2 : Sta) = hrN (T 0) k from h0] at p59
                refine l_istore hx hb 4 dX0_when_62 hl rfl (fun ls hl => ?_)
                refine lv_aload_n hx hb dX0_when_64 rfl (hl.at rfl) ?_
                refine x_vVq hC hK hP hS (x_rWB hK hP hn) (cX0_swaps_ hn hD hr2 hr) cv_X0_313 rfl rfl hl.1 (Nat.le_of_ble_eq_true rfl) dX0_when_65 (rk (by decide) (by decide)) ⟨Nat.le_refl _, Nat.le_refl _⟩ (fun U65 ρ65 q65 H locs p65 hP hS => ?_)
                obtain ⟨rfl, rfl, rfl⟩ := p65
                refine lv_iload hx hb dX0_when_68 (hl.at rfl) ?_
                refine l_ifeq_0 hx hb 77 dX0_when_70 rfl ?_
                refine lv_aload_n hx hb dX0_when_77 rfl (hl.at rfl) ?_
                refine lv_iconst (v := nI 2) hx hb dX0_when_78 rfl ?_
                refine x_iV hC hK hP hS (x_rWB hK hP hn) (cX0_finds_ hn hD (k := 2) rfl (by decide)) cv_X0_173 rfl rfl hl.1 (Nat.le_of_ble_eq_true rfl) dX0_when_79 (rk (by decide) (by decide)) ⟨Nat.le_refl _, Nat.le_refl _⟩ (fun r79 U79 H locs p79 hP hS => ?_)
                refine hret _ _ ls _ _ (_, _, _) hP hS dX0_when_82 ?_
                dsimp only
                first | (rw [op_when, if_neg p1]; exact hX.e p16 (by decide)) | (rw [op_when, if_pos p1, if_neg p8]; exact hX.e p16 (by decide)) | (rw [op_when, if_pos p1, if_pos p8, cn_nI (by omega), cn_nI (by omega), hw, if_pos p59]; exact ⟨rfl, hX.bk (fun z z1 z2 => by rw [hk.1 z z1 z2, uS_n z2]) (fun z hz => by rw [hk.2 z (by unfold HL; simp; omega), uS_n (Ne.symm hr23)]) RK.b⟩) | (rw [op_when, if_pos p1, if_pos p8, cn_nI (by omega), cn_nI (by omega), hw, if_neg p59]; exact (hX.bk (fun z z1 z2 => by rw [hk.1 z z1 z2, uS_n z2]) (fun z hz => by rw [hk.2 z (by unfold HL; simp; omega), uS_n (Ne.symm hr23)]) RK.b).e p79 (by decide))
            · rw [show (V r.2 : Sta) = hrN (T 0) k from h0] at p36
              refine l_ifne_0 hx hb 54 dX0_when_39 rfl ?_
              refine lv_aload_n hx hb dX0_when_42 rfl (hl.at rfl) ?_
              refine x_iV hC hK hP hS (x_rWB hK hP hn) (cX0_anHour_ hn hD hr2 (by show Inv (V r.2); rw [h0]; exact i1) (by show HQ cA ad f0 n (bρ ρ r.2 r.1) (V r.2) r.2; rw [h0]; exact hQ1.hrN k) (by show hrv (V r.2) < 20000; rw [h0, i2]; omega)) cv_X0_291 rfl rfl hl.1 (Nat.le_of_ble_eq_true rfl) dX0_when_43 (rk (by decide) (by decide)) ⟨Nat.le_refl _, Nat.le_refl _⟩ (fun r43 U43 H locs p43 hP hS => ?_)
              refine l_istore hx hb 4 dX0_when_46 hl rfl (fun ls hl => ?_)
              refine l_inc1 hx hb 3 dX0_when_48 hl rfl rfl (fun ls hl => ?_)
              refine lv_goto (tgt := 26) hx hb dX0_when_51 rfl ?_
              exact ih (k + 1) _ (by omega) (by omega) (hk.tr p43.2.1) (by show U43 r.2 = _; rw [show U43 r.2 = sp_hour (V r.2) from p43.2.2.1, h0]; rfl) (by rw [← hwn, show n1 - k = (n1 - (k + 1)) + 1 by omega, wn, if_neg p36]) _ _ _ hP hS (hl.mask [true, true, true, true, false])
      exact loop (n1 + 1) 0 _ (by omega) (by omega) Kh.rf g0 rfl _ _ _ hP hS (hl.mask [true, true, true, true, false])
    · refine l_ifne_0 hx hb 20 dX0_when_11 rfl ?_
      refine lv_aload_n hx hb dX0_when_14 rfl (hl.at rfl) ?_
      refine lv_iconst (v := nI 1) hx hb dX0_when_15 rfl ?_
      refine x_iV hC hK hP hS (x_rWB hK hP hn) (cX0_finds_ hn hD (k := 1) rfl (by decide)) cv_X0_173 rfl rfl hl.1 (Nat.le_of_ble_eq_true rfl) dX0_when_16 (rk (by decide) (by decide)) ⟨Nat.le_refl _, Nat.le_refl _⟩ (fun r16 U16 H locs p16 hP hS => ?_)
      refine hret _ _ ls _ _ (_, _, _) hP hS dX0_when_19 ?_
      dsimp only
      first | (rw [op_when, if_neg p1]; exact hX.e p16 (by decide)) | (rw [op_when, if_pos p1, if_neg p8]; exact hX.e p16 (by decide)) | (rw [op_when, if_pos p1, if_pos p8, cn_nI (by omega), cn_nI (by omega), hw, if_pos p59]; exact ⟨rfl, hX.bk (fun z z1 z2 => by rw [hk.1 z z1 z2, uS_n z2]) (fun z hz => by rw [hk.2 z (by unfold HL; simp; omega), uS_n (Ne.symm hr23)]) RK.b⟩) | (rw [op_when, if_pos p1, if_pos p8, cn_nI (by omega), cn_nI (by omega), hw, if_neg p59]; exact (hX.bk (fun z z1 z2 => by rw [hk.1 z z1 z2, uS_n z2]) (fun z hz => by rw [hk.2 z (by unfold HL; simp; omega), uS_n (Ne.symm hr23)]) RK.b).e p79 (by decide))
  · refine l_ifeq_0 hx hb 14 dX0_when_4 rfl ?_
    refine lv_aload_n hx hb dX0_when_14 rfl (hl.at rfl) ?_
    refine lv_iconst (v := nI 1) hx hb dX0_when_15 rfl ?_
    refine x_iV hC hK hP hS (x_rWB hK hP hn) (cX0_finds_ hn hD (k := 1) rfl (by decide)) cv_X0_173 rfl rfl hl.1 (Nat.le_of_ble_eq_true rfl) dX0_when_16 (rk (by decide) (by decide)) ⟨Nat.le_refl _, Nat.le_refl _⟩ (fun r16 U16 H locs p16 hP hS => ?_)
    refine hret _ _ ls _ _ (_, _, _) hP hS dX0_when_19 ?_
    dsimp only
    first | (rw [op_when, if_neg p1]; exact hX.e p16 (by decide)) | (rw [op_when, if_pos p1, if_neg p8]; exact hX.e p16 (by decide)) | (rw [op_when, if_pos p1, if_pos p8, cn_nI (by omega), cn_nI (by omega), hw, if_pos p59]; exact ⟨rfl, hX.bk (fun z z1 z2 => by rw [hk.1 z z1 z2, uS_n z2]) (fun z hz => by rw [hk.2 z (by unfold HL; simp; omega), uS_n (Ne.symm hr23)]) RK.b⟩) | (rw [op_when, if_pos p1, if_pos p8, cn_nI (by omega), cn_nI (by omega), hw, if_neg p59]; exact (hX.bk (fun z z1 z2 => by rw [hk.1 z z1 z2, uS_n z2]) (fun z hz => by rw [hk.2 z (by unfold HL; simp; omega), uS_n (Ne.symm hr23)]) RK.b).e p79 (by decide))
theorem cX0_opens_ {l : Launch} {D : va_G} {cA : Nat → ClassId} {ad : Nat → Nat} {n : Nat} {f0 : Nat → va_E} {ρ : Nat → Nat → Option Nat} {r : Nat × Nat} {U : Nat → Nat → Nat → Int32} (hn : 81 ≤ n) {A : Nat → Prop} (hD : gD A ad n) (hr : r.1 < 3) (hI : Inv (U r.1)) {x : Int32} : XV l D cA ad n f0 ρ r U A yX0_opens cX0_opens 3 (0) [.ref (ad 0), .int x] (fun V => V = uS U r.1 (sp_op (U r.1) x)) := by
  refine Cv.of (by decide +kernel) (Nat.le_of_ble_eq_true rfl) ?_
  intro p e s m args below meth c Q hC hK hP hret ls hl
  have hx := hC.1
  have hb := hC.2.1
  have hown := hC.2.2.2.1
  have hts := hC.2.2.2.2
  have hS : va_S A s.heap s.heap [] := va_S.rf
  obtain ⟨eN, h8⟩ := inv_wh hI
  refine lv_iconst (v := nI 0) hx hb dX0_opens_0 rfl ?_
  refine l_istore_n hx hb 2 dX0_opens_1 rfl hl rfl (fun ls hl => ?_)
  have loop : ∀ (i k : Nat), k ≤ wh (U r.1) → wh (U r.1) + 1 ≤ k + i → ∀ (H : Heap) (locs : List Loc) (ls : Array Slot), XW D cA ad n f0 ρ r (uS U r.1 (opn (U r.1) x k)) H → va_S A s.heap H locs → lh ls [some (.ref (ad 0)), some (.int x), some (.int (nI k))] → W p l e (rmG 0 0 0) s m args below meth c H locs 0 0 Q (F0 m 2 ls []) := by
    intro i
    induction i with
    | zero => intro k h1 h2; exact absurd h2 (by omega)
    | succ i ih =>
      intro k h1 h2 H locs ls hP hS hl
      refine lv_iload_n hx hb dX0_opens_2 rfl (hl.at rfl) ?_
      refine lv_aload_n hx hb dX0_opens_3 rfl (hl.at rfl) ?_
      refine c_get hC hK hP 0 (by omega) (wo_wb) rfl in_X0 2 (by decide) q254 rfl rfl dX0_opens_4 ?_
      refine c_getN hC hK hP (3 + 22 * r.1) (by omega) (wo_ho hr) rfl in_X1 0 (by decide) q143 rfl rfl dX0_opens_7 ?_
      refine l_top (nI (wh (U r.1))) (by rw [uS_s, opn_row (by decide)]; exact eN) ?_
      refine l_geN hx hb 34 dX0_opens_10 rfl (by omega) (by omega) (fun c10 => ?_) (fun c10 => ?_)
      · have e5 : k = wh (U r.1) := by omega
        refine hret _ _ ls _ _ hP hS dX0_opens_34 ?_
        rw [e5]; rfl
      · refine lv_aload_n hx hb dX0_opens_13 rfl (hl.at rfl) ?_
        refine c_get hC hK hP 0 (by omega) (wo_wb) rfl in_X0 2 (by decide) q254 rfl rfl dX0_opens_14 ?_
        refine c_getN hC hK hP (3 + 22 * r.1) (by omega) (wo_ho hr) rfl in_X1 13 (by decide) q171 rfl rfl dX0_opens_17 ?_
        refine lv_iload_n hx hb dX0_opens_20 rfl (hl.at rfl) ?_
        refine lv_iload_n hx hb dX0_opens_21 rfl (hl.at rfl) ?_
        refine lv_iload_n hx hb dX0_opens_22 rfl (hl.at rfl) ?_
        refine lv_ishr hx hb dX0_opens_23 ?_
        refine lv_iconst (v := nI 1) hx hb dX0_opens_24 rfl ?_
        refine lv_iand hx hb dX0_opens_25 ?_
        refine lv_i2b hx hb dX0_opens_26 (nB_bd (and1_bd _) (by decide)) ?_
        refine c_stb hC hK hP hD hS (3 + 22 * r.1 + 8) (by omega) (c_ldH r.1 8 9 1 8 hr (by decide) (fun _ _ _ => rfl)) _ (nB_bd (and1_bd _) (by decide)) _ (rfl) (show _ < 8 by omega) (by decide) (c_wH r.1 8 9 1 8 hr hn (by decide) rfl (fun _ _ _ => rfl)) dX0_opens_27 (fun H locs hP hS => ?_)
        refine l_inc1 hx hb 2 dX0_opens_28 hl rfl rfl (fun ls hl => ?_)
        refine lv_goto (tgt := 2) hx hb dX0_opens_31 rfl ?_
        exact ih (k + 1) (by omega) (by omega) _ _ _ (by simp only [up3_uS, uS_uS, uS_s] at hP; exact hP) hS hl
  exact loop (wh (U r.1) + 1) 0 (by omega) (by omega) _ _ _ (by rw [opn, uS_self]; exact hP) hS hl
theorem cv_X0_322 : CV RX0 RX0 322 yX0_opens cX0_opens 3 (none) 1 := ⟨lw_V q1018 q1020 qs28 q83 q1021, by decide +kernel⟩
theorem cX0_goneBy_ {l : Launch} {D : va_G} {cA : Nat → ClassId} {ad : Nat → Nat} {n : Nat} {f0 : Nat → va_E} {ρ : Nat → Nat → Option Nat} {r : Nat × Nat} {U : Nat → Nat → Nat → Int32} (hn : 81 ≤ n) {A : Nat → Prop} (hD : gD A ad n) {x : Int32} {T : Tta} (hX : CQ cA ad n f0 U ρ r T) (hI : Inv (T 0)) : XIq l D cA ad n f0 ρ r U A yX0_goneBy cX0_goneBy 3 (some .int) (7) [.ref (ad 0), .int x] (fun o V ρ1 r1 => o = (sp_fl (sp_op (T 0) x)).1 ∧ CQ cA ad n f0 V ρ1 r1 T ∧ r1 = r) := by
  refine Ci.of rfl (by decide +kernel) (Nat.le_of_ble_eq_true rfl) ?_
  intro p e s m args below meth c Q hC hK hP hret ls hl
  have hx := hC.1
  have hb := hC.2.1
  have hown := hC.2.2.2.1
  have hts := hC.2.2.2.2
  have hS : va_S A s.heap s.heap [] := va_S.rf
  have hT : CT U r T := hX.1
  have hQ : HQ cA ad f0 n ρ (T 0) r.1 := hX.2.1
  have hr2 : r.2 < 3 := hT.lt2
  have hne : r.1 ≠ r.2 := hT.1.2.2
  have hr23 : r.2 ≠ 3 := by omega
  have hr : r.1 < 3 := hT.lt
  have e0 : U r.1 = T 0 := hT.2.1
  have hI2 : Inv (U r.1) := by rw [e0]; exact hI
  have hQ2 : HQ cA ad f0 n ρ (U r.1) r.1 := by rw [e0]; exact hQ
  have hr3 : r.1 ≠ 3 := by omega
  obtain ⟨eN, h8⟩ := inv_wh hI2
  have eH : U r.1 0 1 = nI (hrv (T 0)) := by rw [e0]; exact (inv_hr hI).1
  have hH := (inv_hr hI).2
  refine lv_aload_n hx hb dX0_goneBy_0 rfl (hl.at rfl) ?_
  refine x_vVq hC hK hP hS (x_rWB hK hP hn) (cX0_begins_ hn hD hr hr2 hne hI2 hQ2) cv_X0_319 rfl rfl hl.1 (Nat.le_of_ble_eq_true rfl) dX0_goneBy_1 (rk (by decide) (by decide)) ⟨Nat.le_refl _, Nat.le_refl _⟩ (fun U1 ρ1 q1 H locs p1 hP hS => ?_)
  obtain ⟨rfl, rfl, rfl⟩ := p1
  have g0 : uS U r.2 (U r.1) r.2 = T 0 := by rw [uS_s, e0]
  have hQ1 : HQ cA ad f0 n (bρ ρ r.2 r.1) (T 0) r.2 := hq_bec hQ
  refine lv_aload_n hx hb dX0_goneBy_4 rfl (hl.at rfl) ?_
  refine lv_iload_n hx hb dX0_goneBy_5 rfl (hl.at rfl) ?_
  refine x_vV hC hK hP hS (x_rWB hK hP hn) (cX0_opens_ hn hD hr2 (by show Inv (uS U r.2 (U r.1) r.2); rw [g0]; exact hI)) cv_X0_322 rfl rfl hl.1 (Nat.le_of_ble_eq_true rfl) dX0_goneBy_6 (rk (by decide) (by decide)) ⟨Nat.le_refl _, Nat.le_refl _⟩ (fun U6 H locs p6 hP hS => ?_)
  subst p6
  have g1 : uS (uS U r.2 (U r.1)) r.2 (sp_op (uS U r.2 (U r.1) r.2) x) r.2 = sp_op (T 0) x := by rw [uS_s, g0]
  refine lv_aload_n hx hb dX0_goneBy_9 rfl (hl.at rfl) ?_
  refine x_vV hC hK hP hS (x_rWB hK hP hn) (cX0_goDown_ hn hD hr2 (by show Inv (uS (uS U r.2 (U r.1)) r.2 (sp_op (uS U r.2 (U r.1) r.2) x) r.2); rw [g1]; exact (op_inv hI x).1) (by show HQ cA ad f0 n (bρ ρ r.2 r.1) (uS (uS U r.2 (U r.1)) r.2 (sp_op (uS U r.2 (U r.1) r.2) x) r.2) r.2; rw [g1]; exact hq_op hQ1 x)) cv_X0_222 rfl rfl hl.1 (Nat.le_of_ble_eq_true rfl) dX0_goneBy_10 (rk (by decide) (by decide)) ⟨Nat.le_refl _, Nat.le_refl _⟩ (fun U10 H locs p10 hP hS => ?_)
  refine lv_aload_n hx hb dX0_goneBy_13 rfl (hl.at rfl) ?_
  refine c_get hC hK hP 0 (by omega) (wo_wb) rfl in_X0 12 (by decide) q264 rfl rfl dX0_goneBy_14 ?_
  refine l_istore_n hx hb 2 dX0_goneBy_17 rfl hl rfl (fun ls hl => ?_)
  refine lv_aload_n hx hb dX0_goneBy_18 rfl (hl.at rfl) ?_
  refine x_vVq hC hK hP hS (x_rWB hK hP hn) (cX0_swaps_ hn hD hr2 hr) cv_X0_313 rfl rfl hl.1 (Nat.le_of_ble_eq_true rfl) dX0_goneBy_19 (rk (by decide) (by decide)) ⟨Nat.le_refl _, Nat.le_refl _⟩ (fun U19 ρ19 q19 H locs p19 hP hS => ?_)
  obtain ⟨rfl, rfl, rfl⟩ := p19
  refine lv_iload_n hx hb dX0_goneBy_22 rfl (hl.at rfl) ?_
  refine hret _ _ ls _ _ (_, _, _) hP hS dX0_goneBy_23 ?_
  dsimp only
  exact ⟨by rw [← g1]; exact p10.gn (by rw [g1]; exact (op_inv hI x).1), hX.bk (fun z z1 z2 => by rw [p10.1.1 z z1, uS_n z2, uS_n z2]) (fun z hz => by rw [p10.1.2 z (by simp; omega), uS_n (Ne.symm hr23), uS_n (Ne.symm hr23)]) RK.b, rfl⟩
