theorem cv_X0_294 : CV RX0 RX0 294 yX0_goOn cX0_goOn 4 (some .int) 1 := ⟨lw_V q941 q943 qs23 q83 q944, by decide +kernel⟩
theorem cv_X0_297 : CV RX0 RX1 297 yX1_allPrayed cX1_allPrayed 3 (some .int) 0 := ⟨lw_V q955 q956 q957 q84 q958, by decide +kernel⟩
theorem cX0_hours_ {l : Launch} {D : va_G} {cA : Nat → ClassId} {ad : Nat → Nat} {n : Nat} {f0 : Nat → va_E} {ρ : Nat → Nat → Option Nat} {r : Nat × Nat} {U : Nat → Nat → Nat → Int32} (hn : 81 ≤ n) {A : Nat → Prop} (hD : gD A ad n) {x : Int32} {T : Tta} (hT : CT U r T) (hI : Inv (T 0)) (hQ : HQ cA ad f0 n ρ (T 0) r.1) : XI l D cA ad n f0 ρ r U A yX0_hours cX0_hours 3 (some .int) (9) [.ref (ad 0), .int x] (fun o V => o = (op_hours x T).1 ∧ CT V r (op_hours x T).2) := by
  refine Ci.of rfl (by decide +kernel) (Nat.le_of_ble_eq_true rfl) ?_
  intro p e s m args below meth c Q hC hK hP hret ls hl
  have hx := hC.1
  have hb := hC.2.1
  have hown := hC.2.2.2.1
  have hts := hC.2.2.2.2
  have hS : va_S A s.heap s.heap [] := va_S.rf
  have hr : r.1 < 3 := hT.lt
  have e0 : U r.1 = T 0 := hT.2.1
  have hI2 : Inv (U r.1) := by rw [e0]; exact hI
  have hQ2 : HQ cA ad f0 n ρ (U r.1) r.1 := by rw [e0]; exact hQ
  have hr3 : r.1 ≠ 3 := by omega
  obtain ⟨eN, h8⟩ := inv_wh hI2
  have eH : U r.1 0 1 = nI (hrv (T 0)) := by rw [e0]; exact (inv_hr hI).1
  have hH := (inv_hr hI).2
  refine lv_iload_n hx hb dX0_hours_0 rfl (hl.at rfl) ?_
  refine lv_iconst (v := nI 1) hx hb dX0_hours_1 rfl ?_
  refine lv_sipush (v := nI 240) hx hb dX0_hours_2 rfl ?_
  refine x_sS hC (cX0_isIn_ ) cs_X0_122 rfl rfl hl.1 (Nat.le_of_ble_eq_true rfl) dX0_hours_5 (rk (by decide) (by decide)) ⟨Nat.le_refl _, Nat.le_refl _⟩ (fun r5 p5 => ?_)
  rcases p5 with ⟨rfl, p5⟩ | ⟨rfl, p5⟩
  · obtain ⟨k, hk0, hk, rfl⟩ := in_nI1 p5
    refine l_ifne_1 hx hb 17 dX0_hours_8 rfl ?_
    refine lv_aload_n hx hb dX0_hours_17 rfl (hl.at rfl) ?_
    refine c_get hC hK hP 0 (by omega) (wo_wb) rfl in_X0 2 (by decide) q254 rfl rfl dX0_hours_18 ?_
    refine c_getN hC hK hP (3 + 22 * r.1) (by omega) (wo_ho hr) rfl in_X1 1 (by decide) q146 rfl rfl dX0_hours_21 ?_
    refine l_top (nI (hrv (T 0))) eH ?_
    refine lv_iload_n hx hb dX0_hours_24 rfl (hl.at rfl) ?_
    refine l_addN hx hb dX0_hours_25 ?_
    refine lv_sipush (v := nI 9999) hx hb dX0_hours_26 rfl ?_
    refine l_leN hx hb 38 dX0_hours_29 rfl (by omega) (by omega) (fun c29 => ?_) (fun c29 => ?_)
    · refine lv_aload_n hx hb dX0_hours_38 rfl (hl.at rfl) ?_
      refine lv_iload_n hx hb dX0_hours_39 rfl (hl.at rfl) ?_
      refine x_iV hC hK hP hS (x_rWB hK hP hn) (cX0_goOn_ hn hD hr hI2 hQ2 (m0 := k) rfl (by rw [e0]; omega)) cv_X0_294 rfl rfl hl.1 (Nat.le_of_ble_eq_true rfl) dX0_hours_40 (rk (by decide) (by decide)) ⟨Nat.le_refl _, Nat.le_refl _⟩ (fun r40 U40 H locs p40 hP hS => ?_)
      refine l_istore_n hx hb 2 dX0_hours_43 rfl hl rfl (fun ls hl => ?_)
      refine lv_aload_n hx hb dX0_hours_44 rfl (hl.at rfl) ?_
      refine c_get hC hK hP 0 (by omega) (wo_wb) rfl in_X0 2 (by decide) q254 rfl rfl dX0_hours_45 ?_
      refine x_pV hC hK hP (x_rHO hr hK hP hn) (cX1_allPrayed_ hn hr) cv_X0_297 rfl rfl hl.1 (Nat.le_of_ble_eq_true rfl) dX0_hours_48 (rk (by decide) (by decide)) ⟨Nat.le_refl _, Nat.le_refl _⟩ (fun r48 p48 => ?_)
      refine hret _ _ ls _ _ _ hP hS dX0_hours_51 ?_
      first | (rw [op_hours, if_pos p5, cn_nI (by omega), if_pos c29, p48, p40.2.2.1, e0]; exact ⟨rfl, p40.2.1.CT hT (by decide) (by rw [p40.2.2.1, e0])⟩) | (rw [op_hours, if_pos p5, cn_nI (by omega), if_neg (by omega)]; exact hT.e p34 (by decide)) | (rw [op_hours, if_neg p5]; exact hT.e p13 (by decide))
    · refine lv_aload_n hx hb dX0_hours_32 rfl (hl.at rfl) ?_
      refine lv_iconst (v := nI 3) hx hb dX0_hours_33 rfl ?_
      refine x_iV hC hK hP hS (x_rWB hK hP hn) (cX0_finds_ hn hD (k := 3) rfl (by decide)) cv_X0_173 rfl rfl hl.1 (Nat.le_of_ble_eq_true rfl) dX0_hours_34 (rk (by decide) (by decide)) ⟨Nat.le_refl _, Nat.le_refl _⟩ (fun r34 U34 H locs p34 hP hS => ?_)
      refine hret _ _ ls _ _ _ hP hS dX0_hours_37 ?_
      first | (rw [op_hours, if_pos p5, cn_nI (by omega), if_pos c29, p48, p40.2.2.1, e0]; exact ⟨rfl, p40.2.1.CT hT (by decide) (by rw [p40.2.2.1, e0])⟩) | (rw [op_hours, if_pos p5, cn_nI (by omega), if_neg (by omega)]; exact hT.e p34 (by decide)) | (rw [op_hours, if_neg p5]; exact hT.e p13 (by decide))
  · refine l_ifne_0 hx hb 17 dX0_hours_8 rfl ?_
    refine lv_aload_n hx hb dX0_hours_11 rfl (hl.at rfl) ?_
    refine lv_iconst (v := nI 1) hx hb dX0_hours_12 rfl ?_
    refine x_iV hC hK hP hS (x_rWB hK hP hn) (cX0_finds_ hn hD (k := 1) rfl (by decide)) cv_X0_173 rfl rfl hl.1 (Nat.le_of_ble_eq_true rfl) dX0_hours_13 (rk (by decide) (by decide)) ⟨Nat.le_refl _, Nat.le_refl _⟩ (fun r13 U13 H locs p13 hP hS => ?_)
    refine hret _ _ ls _ _ _ hP hS dX0_hours_16 ?_
    first | (rw [op_hours, if_pos p5, cn_nI (by omega), if_pos c29, p48, p40.2.2.1, e0]; exact ⟨rfl, p40.2.1.CT hT (by decide) (by rw [p40.2.2.1, e0])⟩) | (rw [op_hours, if_pos p5, cn_nI (by omega), if_neg (by omega)]; exact hT.e p34 (by decide)) | (rw [op_hours, if_neg p5]; exact hT.e p13 (by decide))
theorem cX0_floods_ {l : Launch} {D : va_G} {cA : Nat → ClassId} {ad : Nat → Nat} {n : Nat} {f0 : Nat → va_E} {ρ : Nat → Nat → Option Nat} {r : Nat × Nat} {U : Nat → Nat → Nat → Int32} (hn : 81 ≤ n) {A : Nat → Prop} (hD : gD A ad n) (hr : r.1 < 3) (hI : Inv (U r.1)) (hQ : HQ cA ad f0 n ρ (U r.1) r.1) : XV l D cA ad n f0 ρ r U A yX0_floods cX0_floods 2 (2) [.ref (ad 0)] (fun V => V = uS U r.1 (dw_fl (U r.1) (wh (U r.1)))) := by
  refine Cv.of (by decide +kernel) (Nat.le_of_ble_eq_true rfl) ?_
  intro p e s m args below meth c Q hC hK hP hret ls hl
  have hx := hC.1
  have hb := hC.2.1
  have hown := hC.2.2.2.1
  have hts := hC.2.2.2.2
  have hS : va_S A s.heap s.heap [] := va_S.rf
  obtain ⟨eN, h8⟩ := inv_wh hI
  refine lv_iconst (v := nI 0) hx hb dX0_floods_0 rfl ?_
  refine l_istore_n hx hb 1 dX0_floods_1 rfl hl rfl (fun ls hl => ?_)
  have loop : ∀ (i k : Nat), k ≤ wh (U r.1) → wh (U r.1) + 1 ≤ k + i → ∀ (H : Heap) (locs : List Loc) (ls : Array Slot), XW D cA ad n f0 ρ r (uS U r.1 (dw_fl (U r.1) k)) H → va_S A s.heap H locs → lh ls [some (.ref (ad 0)), some (.int (nI k))] → W p l e (rmG 2 0 0) s m args below meth c H locs 0 0 Q (F0 m 2 ls []) := by
    intro i
    induction i with
    | zero => intro k h1 h2; exact absurd h2 (by omega)
    | succ i ih =>
      intro k h1 h2 H locs ls hP hS hl
      refine lv_iload_n hx hb dX0_floods_2 rfl (hl.at rfl) ?_
      refine lv_aload_n hx hb dX0_floods_3 rfl (hl.at rfl) ?_
      refine c_get hC hK hP 0 (by omega) (wo_wb) rfl in_X0 2 (by decide) q254 rfl rfl dX0_floods_4 ?_
      refine c_getN hC hK hP (3 + 22 * r.1) (by omega) (wo_ho hr) rfl in_X1 0 (by decide) q143 rfl rfl dX0_floods_7 ?_
      refine l_top (nI (wh (U r.1))) (by rw [uS_s, dw_fl_row (by decide) (by decide)]; exact eN) ?_
      refine l_geN hx hb 51 dX0_floods_10 rfl (by omega) (by omega) (fun c10 => ?_) (fun c10 => ?_)
      · have e5 : k = wh (U r.1) := by omega
        refine hret _ _ ls _ _ hP hS dX0_floods_51 ?_
        rw [e5]
      · refine lv_aload_n hx hb dX0_floods_13 rfl (hl.at rfl) ?_
        refine c_get hC hK hP 0 (by omega) (wo_wb) rfl in_X0 2 (by decide) q254 rfl rfl dX0_floods_14 ?_
        refine c_getN hC hK hP (3 + 22 * r.1) (by omega) (wo_ho hr) rfl in_X1 13 (by decide) q171 rfl rfl dX0_floods_17 ?_
        refine lv_iload_n hx hb dX0_floods_20 rfl (hl.at rfl) ?_
        refine c_ldb hC hK hP (3 + 22 * r.1 + 8) (by omega) (c_ldH r.1 8 9 1 8 hr (by decide) (fun _ _ _ => rfl)) _ (rfl) (show _ < 8 by omega) (by decide) dX0_floods_21 ?_
        refine l_top (dw_fl (U r.1) k 9 k) (by rw [uS_s]) ?_
        refine lv_iconst (v := nI 1) hx hb dX0_floods_22 rfl ?_
        refine lv_icmp_ne (tgt := 45) hx hb dX0_floods_23 rfl (fun c23 => ?_) (fun c23 => ?_)
        · refine l_inc1 hx hb 1 dX0_floods_45 hl rfl rfl (fun ls hl => ?_)
          refine lv_goto (tgt := 2) hx hb dX0_floods_48 rfl ?_
          first | exact ih (k + 1) (by omega) (by omega) _ _ _ (by rw [dw_fl, if_pos c23]; subst p42; rw [uS_uS, uS_s] at hP; exact hP) hS hl | exact ih (k + 1) (by omega) (by omega) _ _ _ (by rw [dw_fl, if_neg c23, turn1_z (dw_fl_inv hI k) (by omega)]; exact hP) hS hl
        · obtain ⟨w, kd, hWK⟩ := (hq_fl hQ k).1 k (by unfold wh; rw [dw_fl_row (by decide) (by decide)]; have : k < wh (U r.1) := (by omega); exact this)
          have hWK2 := hWK
          obtain ⟨w0, w1, w2, w3, w4, w5⟩ := hWK2
          refine lv_aload_n hx hb dX0_floods_26 rfl (hl.at rfl) ?_
          refine c_get hC hK hP 0 (by omega) (wo_wb) rfl in_X0 2 (by decide) q254 rfl rfl dX0_floods_27 ?_
          refine lv_iload_n hx hb dX0_floods_30 rfl (hl.at rfl) ?_
          refine lv_aload_n hx hb dX0_floods_31 rfl (hl.at rfl) ?_
          refine c_get hC hK hP 0 (by omega) (wo_wb) rfl in_X0 2 (by decide) q254 rfl rfl dX0_floods_32 ?_
          refine lv_iload_n hx hb dX0_floods_35 rfl (hl.at rfl) ?_
          refine x_rV hC hK hP (x_rHO hr hK hP hn) (cX1_at_ hn hr rfl (by omega) hWK) cv_X0_126 rfl rfl hl.1 (Nat.le_of_ble_eq_true rfl) dX0_floods_36 (rk (by decide) (by decide)) ⟨Nat.le_refl _, Nat.le_refl _⟩ (fun a36 p36 => ?_)
          subst p36
          refine x_getm hC hK hP w1 w2 w3 w5 q381 dX0_floods_39 ?_
          refine x_vV hC hK hP hS (x_rHO hr hK hP hn) (cX1_turns_ hn hD hr rfl (by omega) (by rw [uS_s]; exact dw_fl_inv hI k) (bd_le (inv_bd (dw_fl_inv hI k) 6 k (by show k < 8; omega)) (by decide))) cv_X0_285 rfl rfl hl.1 (Nat.le_of_ble_eq_true rfl) dX0_floods_42 (rk (by decide) (by decide)) ⟨Nat.le_refl _, Nat.le_refl _⟩ (fun U42 H locs p42 hP hS => ?_)
          refine l_inc1 hx hb 1 dX0_floods_45 hl rfl rfl (fun ls hl => ?_)
          refine lv_goto (tgt := 2) hx hb dX0_floods_48 rfl ?_
          first | exact ih (k + 1) (by omega) (by omega) _ _ _ (by rw [dw_fl, if_pos c23]; subst p42; rw [uS_uS, uS_s] at hP; exact hP) hS hl | exact ih (k + 1) (by omega) (by omega) _ _ _ (by rw [dw_fl, if_neg c23, turn1_z (dw_fl_inv hI k) (by omega)]; exact hP) hS hl
  exact loop (wh (U r.1) + 1) 0 (by omega) (by omega) _ _ _ (by rw [dw_fl, uS_self]; exact hP) hS hl
theorem cv_X0_300 : CV RX0 RX1 300 yX1_drawn cX1_drawn 1 (some .int) 0 := ⟨lw_V q963 q964 q965 q84 q966, by decide +kernel⟩
theorem cv_X0_303 : CV RX0 RX0 303 yX0_floods cX0_floods 2 (none) 0 := ⟨lw_V q968 q970 qs25 q83 q971, by decide +kernel⟩
theorem cX0_draws_ {l : Launch} {D : va_G} {cA : Nat → ClassId} {ad : Nat → Nat} {n : Nat} {f0 : Nat → va_E} {ρ : Nat → Nat → Option Nat} {r : Nat × Nat} {U : Nat → Nat → Nat → Int32} (hn : 81 ≤ n) {A : Nat → Prop} (hD : gD A ad n) {x : Int32} {T : Tta} (hT : CT U r T) (hI : Inv (T 0)) (hQ : HQ cA ad f0 n ρ (T 0) r.1) : XI l D cA ad n f0 ρ r U A yX0_draws cX0_draws 6 (some .int) (9) [.ref (ad 0), .int x] (fun o V => o = (op_draws x T).1 ∧ CT V r (op_draws x T).2) := by
  refine Ci.of rfl (by decide +kernel) (Nat.le_of_ble_eq_true rfl) ?_
  intro p e s m args below meth c Q hC hK hP hret ls hl
  have hx := hC.1
  have hb := hC.2.1
  have hown := hC.2.2.2.1
  have hts := hC.2.2.2.2
  have hS : va_S A s.heap s.heap [] := va_S.rf
  have hr : r.1 < 3 := hT.lt
  have e0 : U r.1 = T 0 := hT.2.1
  have hI2 : Inv (U r.1) := by rw [e0]; exact hI
  have hQ2 : HQ cA ad f0 n ρ (U r.1) r.1 := by rw [e0]; exact hQ
  have hr3 : r.1 ≠ 3 := by omega
  obtain ⟨eN, h8⟩ := inv_wh hI2
  have eH : U r.1 0 1 = nI (hrv (T 0)) := by rw [e0]; exact (inv_hr hI).1
  have hH := (inv_hr hI).2
  refine lv_iload_n hx hb dX0_draws_0 rfl (hl.at rfl) ?_
  refine lv_iconst (v := nI 1) hx hb dX0_draws_1 rfl ?_
  refine lv_bipush (v := nI 60) hx hb dX0_draws_2 rfl ?_
  refine x_sS hC (cX0_isIn_ ) cs_X0_122 rfl rfl hl.1 (Nat.le_of_ble_eq_true rfl) dX0_draws_4 (rk (by decide) (by decide)) ⟨Nat.le_refl _, Nat.le_refl _⟩ (fun r4 p4 => ?_)
  rcases p4 with ⟨rfl, p4⟩ | ⟨rfl, p4⟩
  · obtain ⟨n1, hk0, hk1, rfl⟩ := in_nI1 p4
    refine l_ifne_1 hx hb 16 dX0_draws_7 rfl ?_
    refine lv_aload_n hx hb dX0_draws_16 rfl (hl.at rfl) ?_
    refine c_get hC hK hP 0 (by omega) (wo_wb) rfl in_X0 2 (by decide) q254 rfl rfl dX0_draws_17 ?_
    refine c_getN hC hK hP (3 + 22 * r.1) (by omega) (wo_ho hr) rfl in_X1 1 (by decide) q146 rfl rfl dX0_draws_20 ?_
    refine l_top (nI (hrv (T 0))) eH ?_
    refine lv_iload_n hx hb dX0_draws_23 rfl (hl.at rfl) ?_
    refine l_addN hx hb dX0_draws_24 ?_
    refine lv_sipush (v := nI 9999) hx hb dX0_draws_25 rfl ?_
    refine l_leN hx hb 37 dX0_draws_28 rfl (by omega) (by omega) (fun c28 => ?_) (fun c28 => ?_)
    · refine lv_iconst (v := nI 0) hx hb dX0_draws_37 rfl ?_
      refine l_istore_n hx hb 2 dX0_draws_38 rfl hl rfl (fun ls hl => ?_)
      refine lv_iconst (v := nI 0) hx hb dX0_draws_39 rfl ?_
      refine l_istore_n hx hb 3 dX0_draws_40 rfl hl rfl (fun ls hl => ?_)
      have loop : ∀ (i k : Nat) (V : Tta), k ≤ n1 → n1 + 1 ≤ k + i → Kh HL r.1 U V → V r.1 = dwN (U r.1) k → ∀ (H : Heap) (locs : List Loc) (ls : Array Slot), XW D cA ad n f0 ρ r V H → va_S A s.heap H locs → lh ls [some (.ref (ad 0)), some (.int (nI n1)), some (.int (nI (dwC (U r.1) k))), some (.int (nI k)), none, none] → W p l e (rmG 9 0 0) s m args below meth c H locs 0 0 Q (F0 m 41 ls []) := by
        intro i
        induction i with
        | zero => intro k V h1 h2; exact absurd h2 (by omega)
        | succ i ih =>
          intro k V h1 h2 hk h0 H locs ls hP hS hl
          obtain ⟨i1, i2, i3⟩ := dwN_inv hI2 k (by rw [e0]; omega)
          obtain ⟨j1, j2, j3⟩ := dw_3_inv i1
          refine lv_iload_n hx hb dX0_draws_41 rfl (hl.at rfl) ?_
          refine lv_iload_n hx hb dX0_draws_42 rfl (hl.at rfl) ?_
          refine l_geN hx hb 125 dX0_draws_43 rfl (by omega) (by omega) (fun c43 => ?_) (fun c43 => ?_)
          · have e5 : k = n1 := by omega
            refine lv_iload_n hx hb dX0_draws_125 rfl (hl.at rfl) ?_
            refine hret _ _ ls _ _ _ hP hS dX0_draws_126 ?_
            first | (rw [op_draws, if_neg p4]; exact hT.e p12 (by decide)) | (rw [op_draws, if_pos p4, cn_nI (by omega), if_neg (by omega)]; exact hT.e p33 (by decide)) | (rw [op_draws, if_pos p4, cn_nI (by omega), if_pos c28, e5, e0]; exact ⟨rfl, hk.CT hT (by decide) (by rw [h0, e5, e0])⟩)
          · refine lv_aload_n hx hb dX0_draws_46 rfl (hl.at rfl) ?_
            refine c_get hC hK hP 0 (by omega) (wo_wb) rfl in_X0 2 (by decide) q254 rfl rfl dX0_draws_47 ?_
            refine x_iV hC hK hP hS (x_rHO hr hK hP hn) (cX1_drawn_ hn hD hr) cv_X0_300 rfl rfl hl.1 (Nat.le_of_ble_eq_true rfl) dX0_draws_50 (rk (by decide) (by decide)) ⟨Nat.le_refl _, Nat.le_refl _⟩ (fun r50 U50 H locs p50 hP hS => ?_)
            obtain ⟨p50, rfl⟩ := p50
            refine lv_bipush (v := nI 16) hx hb dX0_draws_53 rfl ?_
            refine lv_irem hx hb dX0_draws_55 (nI_ne0 (by decide) (by decide)) ?_
            refine l_top (dw_d (dwN (U r.1) k)) (by rw [p50, h0]; rfl) ?_
            refine l_istore hx hb 4 dX0_draws_56 hl rfl (fun ls hl => ?_)
            refine lv_iload hx hb dX0_draws_58 (hl.at rfl) ?_
            refine lv_if_ne (tgt := 70) hx hb dX0_draws_60 rfl (fun c60 => ?_) (fun c60 => ?_)
            · obtain ⟨Z2, hP2, k2, z2⟩ : ∃ Z, XW D cA ad n f0 ρ r Z H ∧ Kh HL r.1 U Z ∧ Z r.1 = dw_2 (dwN (U r.1) k) := by first | exact ⟨_, hP, hk.S hr3, by rw [uS_s, dw_2, if_neg c60, h0]⟩ | exact ⟨_, hP, (hk.S hr3).S hr3, by rw [uS_s, uS_s, dw_2, if_pos c60, h0]; rfl⟩
              replace hP := hP2
              refine lv_iload hx hb dX0_draws_70 (hl.at rfl) ?_
              refine lv_iconst (v := nI 1) hx hb dX0_draws_72 rfl ?_
              refine lv_bipush (v := nI 6) hx hb dX0_draws_73 rfl ?_
              refine x_sS hC (cX0_isIn_ ) cs_X0_122 rfl rfl hl.1 (Nat.le_of_ble_eq_true rfl) dX0_draws_75 (rk (by decide) (by decide)) ⟨Nat.le_refl _, Nat.le_refl _⟩ (fun r75 p75 => ?_)
              rcases p75 with ⟨rfl, p75⟩ | ⟨rfl, p75⟩
              · refine l_ifeq_1 hx hb 113 dX0_draws_78 rfl ?_
                refine lv_aload_n hx hb dX0_draws_81 rfl (hl.at rfl) ?_
                refine c_get hC hK hP 0 (by omega) (wo_wb) rfl in_X0 2 (by decide) q254 rfl rfl dX0_draws_82 ?_
                refine lv_aload_n hx hb dX0_draws_85 rfl (hl.at rfl) ?_
                refine c_get hC hK hP 0 (by omega) (wo_wb) rfl in_X0 2 (by decide) q254 rfl rfl dX0_draws_86 ?_
                refine c_getN hC hK hP (3 + 22 * r.1) (by omega) (wo_ho hr) rfl in_X1 2 (by decide) q148 rfl rfl dX0_draws_89 ?_
                refine lv_iload hx hb dX0_draws_92 (hl.at rfl) ?_
                refine lv_iconst (v := nI 4) hx hb dX0_draws_94 rfl ?_
                refine lv_icmp_ge (tgt := 102) hx hb dX0_draws_95 rfl (fun c95 => ?_) (fun c95 => ?_)
                · refine lv_iconst (v := -1) hx hb dX0_draws_102 rfl ?_
                  refine lv_iadd hx hb dX0_draws_103 ?_
                  refine lv_iconst (v := nI 0) hx hb dX0_draws_104 rfl ?_
                  refine lv_bipush (v := nI 9) hx hb dX0_draws_105 rfl ?_
                  refine x_sS hC (cX0_held_ (h := by decide)) cs_X0_145 rfl rfl hl.1 (Nat.le_of_ble_eq_true rfl) dX0_draws_107 (rk (by decide) (by decide)) ⟨Nat.le_refl _, Nat.le_refl _⟩ (fun r107 p107 => ?_)
                  refine c_putN (ty := .int) hC hK hP hD hS (3 + 22 * r.1) (by omega) (wo_ho hr) rfl in_X1 tyX1_ok nmX1 2 (by decide) q148 rfl rfl (by decide +kernel) rfl rfl (by show 2 < 19; decide) (cp_frost hr hn) dX0_draws_110 (fun H locs hP hS => ?_)
                  obtain ⟨Z3, hP3, k3, z3⟩ : ∃ Z, XW D cA ad n f0 ρ r Z H ∧ Kh HL r.1 U Z ∧ Z r.1 = dw_3 (dwN (U r.1) k) := by first | exact ⟨_, hP, k2.S hr3, by rw [up3_s]; exact d3_y z2 p107 (dx_2 p75 c95)⟩ | exact ⟨_, hP, k2.S hr3, by rw [up3_s]; exact d3_y z2 p107 (dx_1 p75 c95)⟩ | exact ⟨_, hP, k2, d3_n i1 z2 (dx_0 p75)⟩
                  replace hP := hP3
                  refine lv_aload_n hx hb dX0_draws_113 rfl (hl.at rfl) ?_
                  refine x_iV hC hK hP hS (x_rWB hK hP hn) (cX0_anHour_ hn hD hr (by rw [z3]; exact j1) (by rw [z3]; exact hq_d3 (hq_dN hQ2 k)) (by rw [z3, j2, i2, e0]; omega)) cv_X0_291 rfl rfl hl.1 (Nat.le_of_ble_eq_true rfl) dX0_draws_114 (rk (by decide) (by decide)) ⟨Nat.le_refl _, Nat.le_refl _⟩ (fun r114 U114 H locs p114 hP hS => ?_)
                  refine l_istore hx hb 5 dX0_draws_117 hl rfl (fun ls hl => ?_)
                  refine l_inc1 hx hb 3 dX0_draws_119 hl rfl rfl (fun ls hl => ?_)
                  refine lv_goto (tgt := 41) hx hb dX0_draws_122 rfl ?_
                  first | exact ih (k + 1) _ (by omega) (by omega) (k3.tr p114.2.1) (by rw [p114.2.2.1, z3]; rfl) _ _ _ hP hS (by rw [dwC, if_pos c60]; exact hl.mask [true, true, true, true, false, false]) | exact ih (k + 1) _ (by omega) (by omega) (k3.tr p114.2.1) (by rw [p114.2.2.1, z3]; rfl) _ _ _ hP hS (by rw [dwC, if_neg c60]; exact hl.mask [true, true, true, true, false, false])
                · refine lv_iconst (v := nI 1) hx hb dX0_draws_98 rfl ?_
                  refine lv_goto (tgt := 103) hx hb dX0_draws_99 rfl ?_
                  refine lv_iadd hx hb dX0_draws_103 ?_
                  refine lv_iconst (v := nI 0) hx hb dX0_draws_104 rfl ?_
                  refine lv_bipush (v := nI 9) hx hb dX0_draws_105 rfl ?_
                  refine x_sS hC (cX0_held_ (h := by decide)) cs_X0_145 rfl rfl hl.1 (Nat.le_of_ble_eq_true rfl) dX0_draws_107 (rk (by decide) (by decide)) ⟨Nat.le_refl _, Nat.le_refl _⟩ (fun r107 p107 => ?_)
                  refine c_putN (ty := .int) hC hK hP hD hS (3 + 22 * r.1) (by omega) (wo_ho hr) rfl in_X1 tyX1_ok nmX1 2 (by decide) q148 rfl rfl (by decide +kernel) rfl rfl (by show 2 < 19; decide) (cp_frost hr hn) dX0_draws_110 (fun H locs hP hS => ?_)
                  obtain ⟨Z3, hP3, k3, z3⟩ : ∃ Z, XW D cA ad n f0 ρ r Z H ∧ Kh HL r.1 U Z ∧ Z r.1 = dw_3 (dwN (U r.1) k) := by first | exact ⟨_, hP, k2.S hr3, by rw [up3_s]; exact d3_y z2 p107 (dx_2 p75 c95)⟩ | exact ⟨_, hP, k2.S hr3, by rw [up3_s]; exact d3_y z2 p107 (dx_1 p75 c95)⟩ | exact ⟨_, hP, k2, d3_n i1 z2 (dx_0 p75)⟩
                  replace hP := hP3
                  refine lv_aload_n hx hb dX0_draws_113 rfl (hl.at rfl) ?_
                  refine x_iV hC hK hP hS (x_rWB hK hP hn) (cX0_anHour_ hn hD hr (by rw [z3]; exact j1) (by rw [z3]; exact hq_d3 (hq_dN hQ2 k)) (by rw [z3, j2, i2, e0]; omega)) cv_X0_291 rfl rfl hl.1 (Nat.le_of_ble_eq_true rfl) dX0_draws_114 (rk (by decide) (by decide)) ⟨Nat.le_refl _, Nat.le_refl _⟩ (fun r114 U114 H locs p114 hP hS => ?_)
                  refine l_istore hx hb 5 dX0_draws_117 hl rfl (fun ls hl => ?_)
                  refine l_inc1 hx hb 3 dX0_draws_119 hl rfl rfl (fun ls hl => ?_)
                  refine lv_goto (tgt := 41) hx hb dX0_draws_122 rfl ?_
                  first | exact ih (k + 1) _ (by omega) (by omega) (k3.tr p114.2.1) (by rw [p114.2.2.1, z3]; rfl) _ _ _ hP hS (by rw [dwC, if_pos c60]; exact hl.mask [true, true, true, true, false, false]) | exact ih (k + 1) _ (by omega) (by omega) (k3.tr p114.2.1) (by rw [p114.2.2.1, z3]; rfl) _ _ _ hP hS (by rw [dwC, if_neg c60]; exact hl.mask [true, true, true, true, false, false])
              · refine l_ifeq_0 hx hb 113 dX0_draws_78 rfl ?_
                obtain ⟨Z3, hP3, k3, z3⟩ : ∃ Z, XW D cA ad n f0 ρ r Z H ∧ Kh HL r.1 U Z ∧ Z r.1 = dw_3 (dwN (U r.1) k) := by first | exact ⟨_, hP, k2.S hr3, by rw [up3_s]; exact d3_y z2 p107 (dx_2 p75 c95)⟩ | exact ⟨_, hP, k2.S hr3, by rw [up3_s]; exact d3_y z2 p107 (dx_1 p75 c95)⟩ | exact ⟨_, hP, k2, d3_n i1 z2 (dx_0 p75)⟩
                replace hP := hP3
                refine lv_aload_n hx hb dX0_draws_113 rfl (hl.at rfl) ?_
                refine x_iV hC hK hP hS (x_rWB hK hP hn) (cX0_anHour_ hn hD hr (by rw [z3]; exact j1) (by rw [z3]; exact hq_d3 (hq_dN hQ2 k)) (by rw [z3, j2, i2, e0]; omega)) cv_X0_291 rfl rfl hl.1 (Nat.le_of_ble_eq_true rfl) dX0_draws_114 (rk (by decide) (by decide)) ⟨Nat.le_refl _, Nat.le_refl _⟩ (fun r114 U114 H locs p114 hP hS => ?_)
                refine l_istore hx hb 5 dX0_draws_117 hl rfl (fun ls hl => ?_)
                refine l_inc1 hx hb 3 dX0_draws_119 hl rfl rfl (fun ls hl => ?_)
                refine lv_goto (tgt := 41) hx hb dX0_draws_122 rfl ?_
                first | exact ih (k + 1) _ (by omega) (by omega) (k3.tr p114.2.1) (by rw [p114.2.2.1, z3]; rfl) _ _ _ hP hS (by rw [dwC, if_pos c60]; exact hl.mask [true, true, true, true, false, false]) | exact ih (k + 1) _ (by omega) (by omega) (k3.tr p114.2.1) (by rw [p114.2.2.1, z3]; rfl) _ _ _ hP hS (by rw [dwC, if_neg c60]; exact hl.mask [true, true, true, true, false, false])
            · refine lv_aload_n hx hb dX0_draws_63 rfl (hl.at rfl) ?_
              refine x_vV hC hK hP hS (x_rWB hK hP hn) (cX0_floods_ hn hD hr (by rw [uS_s, h0]; exact dz_inv i1) (by rw [uS_s, h0]; exact hq_0 (hq_dN hQ2 k) (by decide))) cv_X0_303 rfl rfl hl.1 (Nat.le_of_ble_eq_true rfl) dX0_draws_64 (rk (by decide) (by decide)) ⟨Nat.le_refl _, Nat.le_refl _⟩ (fun U64 H locs p64 hP hS => ?_)
              subst p64
              refine l_inc1 hx hb 2 dX0_draws_67 hl rfl rfl (fun ls hl => ?_)
              obtain ⟨Z2, hP2, k2, z2⟩ : ∃ Z, XW D cA ad n f0 ρ r Z H ∧ Kh HL r.1 U Z ∧ Z r.1 = dw_2 (dwN (U r.1) k) := by first | exact ⟨_, hP, hk.S hr3, by rw [uS_s, dw_2, if_neg c60, h0]⟩ | exact ⟨_, hP, (hk.S hr3).S hr3, by rw [uS_s, uS_s, dw_2, if_pos c60, h0]; rfl⟩
              replace hP := hP2
              refine lv_iload hx hb dX0_draws_70 (hl.at rfl) ?_
              refine lv_iconst (v := nI 1) hx hb dX0_draws_72 rfl ?_
              refine lv_bipush (v := nI 6) hx hb dX0_draws_73 rfl ?_
              refine x_sS hC (cX0_isIn_ ) cs_X0_122 rfl rfl hl.1 (Nat.le_of_ble_eq_true rfl) dX0_draws_75 (rk (by decide) (by decide)) ⟨Nat.le_refl _, Nat.le_refl _⟩ (fun r75 p75 => ?_)
              rcases p75 with ⟨rfl, p75⟩ | ⟨rfl, p75⟩
              · refine l_ifeq_1 hx hb 113 dX0_draws_78 rfl ?_
                refine lv_aload_n hx hb dX0_draws_81 rfl (hl.at rfl) ?_
                refine c_get hC hK hP 0 (by omega) (wo_wb) rfl in_X0 2 (by decide) q254 rfl rfl dX0_draws_82 ?_
                refine lv_aload_n hx hb dX0_draws_85 rfl (hl.at rfl) ?_
                refine c_get hC hK hP 0 (by omega) (wo_wb) rfl in_X0 2 (by decide) q254 rfl rfl dX0_draws_86 ?_
                refine c_getN hC hK hP (3 + 22 * r.1) (by omega) (wo_ho hr) rfl in_X1 2 (by decide) q148 rfl rfl dX0_draws_89 ?_
                refine lv_iload hx hb dX0_draws_92 (hl.at rfl) ?_
                refine lv_iconst (v := nI 4) hx hb dX0_draws_94 rfl ?_
                refine lv_icmp_ge (tgt := 102) hx hb dX0_draws_95 rfl (fun c95 => ?_) (fun c95 => ?_)
                · refine lv_iconst (v := -1) hx hb dX0_draws_102 rfl ?_
                  refine lv_iadd hx hb dX0_draws_103 ?_
                  refine lv_iconst (v := nI 0) hx hb dX0_draws_104 rfl ?_
                  refine lv_bipush (v := nI 9) hx hb dX0_draws_105 rfl ?_
                  refine x_sS hC (cX0_held_ (h := by decide)) cs_X0_145 rfl rfl hl.1 (Nat.le_of_ble_eq_true rfl) dX0_draws_107 (rk (by decide) (by decide)) ⟨Nat.le_refl _, Nat.le_refl _⟩ (fun r107 p107 => ?_)
                  refine c_putN (ty := .int) hC hK hP hD hS (3 + 22 * r.1) (by omega) (wo_ho hr) rfl in_X1 tyX1_ok nmX1 2 (by decide) q148 rfl rfl (by decide +kernel) rfl rfl (by show 2 < 19; decide) (cp_frost hr hn) dX0_draws_110 (fun H locs hP hS => ?_)
                  obtain ⟨Z3, hP3, k3, z3⟩ : ∃ Z, XW D cA ad n f0 ρ r Z H ∧ Kh HL r.1 U Z ∧ Z r.1 = dw_3 (dwN (U r.1) k) := by first | exact ⟨_, hP, k2.S hr3, by rw [up3_s]; exact d3_y z2 p107 (dx_2 p75 c95)⟩ | exact ⟨_, hP, k2.S hr3, by rw [up3_s]; exact d3_y z2 p107 (dx_1 p75 c95)⟩ | exact ⟨_, hP, k2, d3_n i1 z2 (dx_0 p75)⟩
                  replace hP := hP3
                  refine lv_aload_n hx hb dX0_draws_113 rfl (hl.at rfl) ?_
                  refine x_iV hC hK hP hS (x_rWB hK hP hn) (cX0_anHour_ hn hD hr (by rw [z3]; exact j1) (by rw [z3]; exact hq_d3 (hq_dN hQ2 k)) (by rw [z3, j2, i2, e0]; omega)) cv_X0_291 rfl rfl hl.1 (Nat.le_of_ble_eq_true rfl) dX0_draws_114 (rk (by decide) (by decide)) ⟨Nat.le_refl _, Nat.le_refl _⟩ (fun r114 U114 H locs p114 hP hS => ?_)
                  refine l_istore hx hb 5 dX0_draws_117 hl rfl (fun ls hl => ?_)
                  refine l_inc1 hx hb 3 dX0_draws_119 hl rfl rfl (fun ls hl => ?_)
                  refine lv_goto (tgt := 41) hx hb dX0_draws_122 rfl ?_
                  first | exact ih (k + 1) _ (by omega) (by omega) (k3.tr p114.2.1) (by rw [p114.2.2.1, z3]; rfl) _ _ _ hP hS (by rw [dwC, if_pos c60]; exact hl.mask [true, true, true, true, false, false]) | exact ih (k + 1) _ (by omega) (by omega) (k3.tr p114.2.1) (by rw [p114.2.2.1, z3]; rfl) _ _ _ hP hS (by rw [dwC, if_neg c60]; exact hl.mask [true, true, true, true, false, false])
                · refine lv_iconst (v := nI 1) hx hb dX0_draws_98 rfl ?_
                  refine lv_goto (tgt := 103) hx hb dX0_draws_99 rfl ?_
                  refine lv_iadd hx hb dX0_draws_103 ?_
                  refine lv_iconst (v := nI 0) hx hb dX0_draws_104 rfl ?_
                  refine lv_bipush (v := nI 9) hx hb dX0_draws_105 rfl ?_
                  refine x_sS hC (cX0_held_ (h := by decide)) cs_X0_145 rfl rfl hl.1 (Nat.le_of_ble_eq_true rfl) dX0_draws_107 (rk (by decide) (by decide)) ⟨Nat.le_refl _, Nat.le_refl _⟩ (fun r107 p107 => ?_)
                  refine c_putN (ty := .int) hC hK hP hD hS (3 + 22 * r.1) (by omega) (wo_ho hr) rfl in_X1 tyX1_ok nmX1 2 (by decide) q148 rfl rfl (by decide +kernel) rfl rfl (by show 2 < 19; decide) (cp_frost hr hn) dX0_draws_110 (fun H locs hP hS => ?_)
                  obtain ⟨Z3, hP3, k3, z3⟩ : ∃ Z, XW D cA ad n f0 ρ r Z H ∧ Kh HL r.1 U Z ∧ Z r.1 = dw_3 (dwN (U r.1) k) := by first | exact ⟨_, hP, k2.S hr3, by rw [up3_s]; exact d3_y z2 p107 (dx_2 p75 c95)⟩ | exact ⟨_, hP, k2.S hr3, by rw [up3_s]; exact d3_y z2 p107 (dx_1 p75 c95)⟩ | exact ⟨_, hP, k2, d3_n i1 z2 (dx_0 p75)⟩
                  replace hP := hP3
                  refine lv_aload_n hx hb dX0_draws_113 rfl (hl.at rfl) ?_
                  refine x_iV hC hK hP hS (x_rWB hK hP hn) (cX0_anHour_ hn hD hr (by rw [z3]; exact j1) (by rw [z3]; exact hq_d3 (hq_dN hQ2 k)) (by rw [z3, j2, i2, e0]; omega)) cv_X0_291 rfl rfl hl.1 (Nat.le_of_ble_eq_true rfl) dX0_draws_114 (rk (by decide) (by decide)) ⟨Nat.le_refl _, Nat.le_refl _⟩ (fun r114 U114 H locs p114 hP hS => ?_)
                  refine l_istore hx hb 5 dX0_draws_117 hl rfl (fun ls hl => ?_)
                  refine l_inc1 hx hb 3 dX0_draws_119 hl rfl rfl (fun ls hl => ?_)
                  refine lv_goto (tgt := 41) hx hb dX0_draws_122 rfl ?_
                  first | exact ih (k + 1) _ (by omega) (by omega) (k3.tr p114.2.1) (by rw [p114.2.2.1, z3]; rfl) _ _ _ hP hS (by rw [dwC, if_pos c60]; exact hl.mask [true, true, true, true, false, false]) | exact ih (k + 1) _ (by omega) (by omega) (k3.tr p114.2.1) (by rw [p114.2.2.1, z3]; rfl) _ _ _ hP hS (by rw [dwC, if_neg c60]; exact hl.mask [true, true, true, true, false, false])
              · refine l_ifeq_0 hx hb 113 dX0_draws_78 rfl ?_
                obtain ⟨Z3, hP3, k3, z3⟩ : ∃ Z, XW D cA ad n f0 ρ r Z H ∧ Kh HL r.1 U Z ∧ Z r.1 = dw_3 (dwN (U r.1) k) := by first | exact ⟨_, hP, k2.S hr3, by rw [up3_s]; exact d3_y z2 p107 (dx_2 p75 c95)⟩ | exact ⟨_, hP, k2.S hr3, by rw [up3_s]; exact d3_y z2 p107 (dx_1 p75 c95)⟩ | exact ⟨_, hP, k2, d3_n i1 z2 (dx_0 p75)⟩
                replace hP := hP3
                refine lv_aload_n hx hb dX0_draws_113 rfl (hl.at rfl) ?_
                refine x_iV hC hK hP hS (x_rWB hK hP hn) (cX0_anHour_ hn hD hr (by rw [z3]; exact j1) (by rw [z3]; exact hq_d3 (hq_dN hQ2 k)) (by rw [z3, j2, i2, e0]; omega)) cv_X0_291 rfl rfl hl.1 (Nat.le_of_ble_eq_true rfl) dX0_draws_114 (rk (by decide) (by decide)) ⟨Nat.le_refl _, Nat.le_refl _⟩ (fun r114 U114 H locs p114 hP hS => ?_)
                refine l_istore hx hb 5 dX0_draws_117 hl rfl (fun ls hl => ?_)
                refine l_inc1 hx hb 3 dX0_draws_119 hl rfl rfl (fun ls hl => ?_)
                refine lv_goto (tgt := 41) hx hb dX0_draws_122 rfl ?_
                first | exact ih (k + 1) _ (by omega) (by omega) (k3.tr p114.2.1) (by rw [p114.2.2.1, z3]; rfl) _ _ _ hP hS (by rw [dwC, if_pos c60]; exact hl.mask [true, true, true, true, false, false]) | exact ih (k + 1) _ (by omega) (by omega) (k3.tr p114.2.1) (by rw [p114.2.2.1, z3]; rfl) _ _ _ hP hS (by rw [dwC, if_neg c60]; exact hl.mask [true, true, true, true, false, false])
      exact loop (n1 + 1) 0 U (by omega) (by omega) Kh.rf rfl _ _ _ hP hS (hl.mask [true, true, true, true, false, false])
    · refine lv_aload_n hx hb dX0_draws_31 rfl (hl.at rfl) ?_
      refine lv_iconst (v := nI 3) hx hb dX0_draws_32 rfl ?_
      refine x_iV hC hK hP hS (x_rWB hK hP hn) (cX0_finds_ hn hD (k := 3) rfl (by decide)) cv_X0_173 rfl rfl hl.1 (Nat.le_of_ble_eq_true rfl) dX0_draws_33 (rk (by decide) (by decide)) ⟨Nat.le_refl _, Nat.le_refl _⟩ (fun r33 U33 H locs p33 hP hS => ?_)
      refine hret _ _ ls _ _ _ hP hS dX0_draws_36 ?_
      first | (rw [op_draws, if_neg p4]; exact hT.e p12 (by decide)) | (rw [op_draws, if_pos p4, cn_nI (by omega), if_neg (by omega)]; exact hT.e p33 (by decide)) | (rw [op_draws, if_pos p4, cn_nI (by omega), if_pos c28, e5, e0]; exact ⟨rfl, hk.CT hT (by decide) (by rw [h0, e5, e0])⟩)
  · refine l_ifne_0 hx hb 16 dX0_draws_7 rfl ?_
    refine lv_aload_n hx hb dX0_draws_10 rfl (hl.at rfl) ?_
    refine lv_iconst (v := nI 1) hx hb dX0_draws_11 rfl ?_
    refine x_iV hC hK hP hS (x_rWB hK hP hn) (cX0_finds_ hn hD (k := 1) rfl (by decide)) cv_X0_173 rfl rfl hl.1 (Nat.le_of_ble_eq_true rfl) dX0_draws_12 (rk (by decide) (by decide)) ⟨Nat.le_refl _, Nat.le_refl _⟩ (fun r12 U12 H locs p12 hP hS => ?_)
    refine hret _ _ ls _ _ _ hP hS dX0_draws_15 ?_
    first | (rw [op_draws, if_neg p4]; exact hT.e p12 (by decide)) | (rw [op_draws, if_pos p4, cn_nI (by omega), if_neg (by omega)]; exact hT.e p33 (by decide)) | (rw [op_draws, if_pos p4, cn_nI (by omega), if_pos c28, e5, e0]; exact ⟨rfl, hk.CT hT (by decide) (by rw [h0, e5, e0])⟩)
theorem cov_X0_213_X6 : COV RX0 RX6 RX6 213 (⟨RX6, "kind", "()I"⟩ : MethodName) yX6_kind cX6_kind 1 (some .int) 0 := ⟨lw_O q455 q458 q456 q457 q456 q89 q483, ⟨_, _, _, q483⟩, by decide +kernel⟩
theorem cov_X0_213_X7 : COV RX0 RX7 RX6 213 (⟨RX6, "kind", "()I"⟩ : MethodName) yX7_kind cX7_kind 1 (some .int) 0 := ⟨lw_O q455 q458 q456 q478 q475 q90 q476, ⟨_, _, _, q483⟩, by decide +kernel⟩
theorem cov_X0_213_X8 : COV RX0 RX8 RX6 213 (⟨RX6, "kind", "()I"⟩ : MethodName) yX8_kind cX8_kind 1 (some .int) 0 := ⟨lw_O q455 q458 q456 q467 q468 q91 q469, ⟨_, _, _, q483⟩, by decide +kernel⟩
theorem cov_X0_213_X9 : COV RX0 RX9 RX6 213 (⟨RX6, "kind", "()I"⟩ : MethodName) yX9_kind cX9_kind 1 (some .int) 0 := ⟨lw_O q455 q458 q456 q459 q460 q92 q461, ⟨_, _, _, q483⟩, by decide +kernel⟩
theorem cov_X0_213_X10 : COV RX0 RX10 RX6 213 (⟨RX6, "kind", "()I"⟩ : MethodName) yX10_kind cX10_kind 1 (some .int) 0 := ⟨lw_O q455 q458 q456 q471 q472 q93 q473, ⟨_, _, _, q483⟩, by decide +kernel⟩
theorem cov_X0_213_X11 : COV RX0 RX11 RX6 213 (⟨RX6, "kind", "()I"⟩ : MethodName) yX11_kind cX11_kind 1 (some .int) 0 := ⟨lw_O q455 q458 q456 q463 q464 q94 q465, ⟨_, _, _, q483⟩, by decide +kernel⟩
theorem cov_X0_213_X12 : COV RX0 RX12 RX6 213 (⟨RX6, "kind", "()I"⟩ : MethodName) yX12_kind cX12_kind 1 (some .int) 0 := ⟨lw_O q455 q458 q456 q479 q480 q95 q481, ⟨_, _, _, q483⟩, by decide +kernel⟩
theorem cX0_wheelTold_ {l : Launch} {D : va_G} {cA : Nat → ClassId} {ad : Nat → Nat} {n : Nat} {f0 : Nat → va_E} {ρ : Nat → Nat → Option Nat} {r : Nat × Nat} {U : Nat → Nat → Nat → Int32} (hn : 81 ≤ n) {A : Nat → Prop} (hD : gD A ad n) (hr : r.1 < 3) (hI : Inv (U r.1)) (hQ : HQ cA ad f0 n ρ (U r.1) r.1) {x q : Int32} {k : Nat} (hx1 : x = nI k) (hk : k < wh (U r.1)) (hq : nI 0 ≤ q ∧ q ≤ nI 9) : XI l D cA ad n f0 ρ r U A yX0_wheelTold cX0_wheelTold 3 (some .int) (7) [.ref (ad 0), .int x, .int q] (fun v V => v = sp_tw (U r.1) k q ∧ Kq [4, 5, 6, 7, 9, 10] U V) := by
  refine Ci.of rfl (by decide +kernel) (Nat.le_of_ble_eq_true rfl) ?_
  intro p e s m args below meth c Q hC hK hP hret ls hl
  have hx := hC.1
  have hb := hC.2.1
  have hown := hC.2.2.2.1
  have hts := hC.2.2.2.2
  have hS : va_S A s.heap s.heap [] := va_S.rf
  obtain ⟨w, kd, hWK⟩ := hQ.1 k hk
  have hWK2 := hWK
  obtain ⟨w0, w1, w2, w3, w4, w5⟩ := hWK2
  have h8 := (inv_wh hI).2
  have hr3 : r.1 ≠ 3 := by omega
  subst hx1
  obtain ⟨j, hj, rfl⟩ := in_nI hq
  refine lv_iload_n hx hb dX0_wheelTold_0 rfl (hl.at rfl) ?_
  rcases (by omega : j = 0 ∨ j = 1 ∨ j = 2 ∨ j = 3 ∨ j = 4 ∨ j = 5 ∨ j = 6 ∨ j = 7 ∨ j = 8 ∨ j = 9) with rfl | rfl | rfl | rfl | rfl | rfl | rfl | rfl | rfl | rfl
  · refine lv_tableIn (tgt := 44) hx hb dX0_wheelTold_1 (by decide) (by decide) rfl rfl ?_
    refine lv_aload_n hx hb dX0_wheelTold_44 rfl (hl.at rfl) ?_
    refine c_get hC hK hP 0 (by omega) (wo_wb) rfl in_X0 2 (by decide) q254 rfl rfl dX0_wheelTold_45 ?_
    refine lv_iload_n hx hb dX0_wheelTold_48 rfl (hl.at rfl) ?_
    refine x_rV hC hK hP (x_rHO hr hK hP hn) (cX1_at_ hn hr rfl (by omega) hWK) cv_X0_126 rfl rfl hl.1 (Nat.le_of_ble_eq_true rfl) dX0_wheelTold_49 (rk (by decide) (by decide)) ⟨Nat.le_refl _, Nat.le_refl _⟩ (fun a49 p49 => ?_)
    subst p49
    rcases (by omega : kd = 0 ∨ kd = 1 ∨ kd = 2 ∨ kd = 3 ∨ kd = 4 ∨ kd = 5 ∨ kd = 6) with rfl | rfl | rfl | rfl | rfl | rfl | rfl
    · refine x_pO hC hK hP (x_rPO hK hP w1 w2 w5 rfl) (cX6_kind_0 hn w1 w2 w5) cov_X0_213_X6 rfl rfl hl.1 (Nat.le_of_ble_eq_true rfl) dX0_wheelTold_52 (rk (by decide) (by decide)) ⟨Nat.le_refl _, Nat.le_refl _⟩ (fun r52 p52 => ?_)
      refine hret _ _ ls _ _ _ hP hS dX0_wheelTold_55 ?_
      first | (exact ⟨by rw [tw_lt (by decide), p52]; exact w4.symm, Kq.rf⟩) | (exact ⟨by rw [tw_lt (by decide)], Kq.rf⟩) | (rw [tw_7]; exact ⟨p119.tk hI hk, p119.1⟩) | (rw [tw_8, p151.1, g0]; exact ⟨rfl, p119.1.tr (p151.2.mono (by decide))⟩) | (rw [tw_9, p165.1, g0]; exact ⟨rfl, p119.1.tr (p165.2.mono (by decide))⟩)
    · refine x_pO hC hK hP (x_rPO hK hP w1 w2 w5 rfl) (cX7_kind_1 hn w1 w2 w5) cov_X0_213_X7 rfl rfl hl.1 (Nat.le_of_ble_eq_true rfl) dX0_wheelTold_52 (rk (by decide) (by decide)) ⟨Nat.le_refl _, Nat.le_refl _⟩ (fun r52 p52 => ?_)
      refine hret _ _ ls _ _ _ hP hS dX0_wheelTold_55 ?_
      first | (exact ⟨by rw [tw_lt (by decide), p52]; exact w4.symm, Kq.rf⟩) | (exact ⟨by rw [tw_lt (by decide)], Kq.rf⟩) | (rw [tw_7]; exact ⟨p119.tk hI hk, p119.1⟩) | (rw [tw_8, p151.1, g0]; exact ⟨rfl, p119.1.tr (p151.2.mono (by decide))⟩) | (rw [tw_9, p165.1, g0]; exact ⟨rfl, p119.1.tr (p165.2.mono (by decide))⟩)
    · refine x_pO hC hK hP (x_rPO hK hP w1 w2 w5 rfl) (cX8_kind_2 hn w1 w2 w5) cov_X0_213_X8 rfl rfl hl.1 (Nat.le_of_ble_eq_true rfl) dX0_wheelTold_52 (rk (by decide) (by decide)) ⟨Nat.le_refl _, Nat.le_refl _⟩ (fun r52 p52 => ?_)
      refine hret _ _ ls _ _ _ hP hS dX0_wheelTold_55 ?_
      first | (exact ⟨by rw [tw_lt (by decide), p52]; exact w4.symm, Kq.rf⟩) | (exact ⟨by rw [tw_lt (by decide)], Kq.rf⟩) | (rw [tw_7]; exact ⟨p119.tk hI hk, p119.1⟩) | (rw [tw_8, p151.1, g0]; exact ⟨rfl, p119.1.tr (p151.2.mono (by decide))⟩) | (rw [tw_9, p165.1, g0]; exact ⟨rfl, p119.1.tr (p165.2.mono (by decide))⟩)
    · refine x_pO hC hK hP (x_rPO hK hP w1 w2 w5 rfl) (cX9_kind_3 hn w1 w2 w5) cov_X0_213_X9 rfl rfl hl.1 (Nat.le_of_ble_eq_true rfl) dX0_wheelTold_52 (rk (by decide) (by decide)) ⟨Nat.le_refl _, Nat.le_refl _⟩ (fun r52 p52 => ?_)
      refine hret _ _ ls _ _ _ hP hS dX0_wheelTold_55 ?_
      first | (exact ⟨by rw [tw_lt (by decide), p52]; exact w4.symm, Kq.rf⟩) | (exact ⟨by rw [tw_lt (by decide)], Kq.rf⟩) | (rw [tw_7]; exact ⟨p119.tk hI hk, p119.1⟩) | (rw [tw_8, p151.1, g0]; exact ⟨rfl, p119.1.tr (p151.2.mono (by decide))⟩) | (rw [tw_9, p165.1, g0]; exact ⟨rfl, p119.1.tr (p165.2.mono (by decide))⟩)
    · refine x_pO hC hK hP (x_rPO hK hP w1 w2 w5 rfl) (cX10_kind_4 hn w1 w2 w5) cov_X0_213_X10 rfl rfl hl.1 (Nat.le_of_ble_eq_true rfl) dX0_wheelTold_52 (rk (by decide) (by decide)) ⟨Nat.le_refl _, Nat.le_refl _⟩ (fun r52 p52 => ?_)
      refine hret _ _ ls _ _ _ hP hS dX0_wheelTold_55 ?_
      first | (exact ⟨by rw [tw_lt (by decide), p52]; exact w4.symm, Kq.rf⟩) | (exact ⟨by rw [tw_lt (by decide)], Kq.rf⟩) | (rw [tw_7]; exact ⟨p119.tk hI hk, p119.1⟩) | (rw [tw_8, p151.1, g0]; exact ⟨rfl, p119.1.tr (p151.2.mono (by decide))⟩) | (rw [tw_9, p165.1, g0]; exact ⟨rfl, p119.1.tr (p165.2.mono (by decide))⟩)
    · refine x_pO hC hK hP (x_rPO hK hP w1 w2 w5 rfl) (cX11_kind_5 hn w1 w2 w5) cov_X0_213_X11 rfl rfl hl.1 (Nat.le_of_ble_eq_true rfl) dX0_wheelTold_52 (rk (by decide) (by decide)) ⟨Nat.le_refl _, Nat.le_refl _⟩ (fun r52 p52 => ?_)
      refine hret _ _ ls _ _ _ hP hS dX0_wheelTold_55 ?_
      first | (exact ⟨by rw [tw_lt (by decide), p52]; exact w4.symm, Kq.rf⟩) | (exact ⟨by rw [tw_lt (by decide)], Kq.rf⟩) | (rw [tw_7]; exact ⟨p119.tk hI hk, p119.1⟩) | (rw [tw_8, p151.1, g0]; exact ⟨rfl, p119.1.tr (p151.2.mono (by decide))⟩) | (rw [tw_9, p165.1, g0]; exact ⟨rfl, p119.1.tr (p165.2.mono (by decide))⟩)
    · refine x_pO hC hK hP (x_rPO hK hP w1 w2 w5 rfl) (cX12_kind_6 hn w1 w2 w5) cov_X0_213_X12 rfl rfl hl.1 (Nat.le_of_ble_eq_true rfl) dX0_wheelTold_52 (rk (by decide) (by decide)) ⟨Nat.le_refl _, Nat.le_refl _⟩ (fun r52 p52 => ?_)
      refine hret _ _ ls _ _ _ hP hS dX0_wheelTold_55 ?_
      first | (exact ⟨by rw [tw_lt (by decide), p52]; exact w4.symm, Kq.rf⟩) | (exact ⟨by rw [tw_lt (by decide)], Kq.rf⟩) | (rw [tw_7]; exact ⟨p119.tk hI hk, p119.1⟩) | (rw [tw_8, p151.1, g0]; exact ⟨rfl, p119.1.tr (p151.2.mono (by decide))⟩) | (rw [tw_9, p165.1, g0]; exact ⟨rfl, p119.1.tr (p165.2.mono (by decide))⟩)
  · refine lv_tableIn (tgt := 56) hx hb dX0_wheelTold_1 (by decide) (by decide) rfl rfl ?_
    refine lv_aload_n hx hb dX0_wheelTold_56 rfl (hl.at rfl) ?_
    refine c_get hC hK hP 0 (by omega) (wo_wb) rfl in_X0 2 (by decide) q254 rfl rfl dX0_wheelTold_57 ?_
    refine lv_iload_n hx hb dX0_wheelTold_60 rfl (hl.at rfl) ?_
    refine x_rV hC hK hP (x_rHO hr hK hP hn) (cX1_at_ hn hr rfl (by omega) hWK) cv_X0_126 rfl rfl hl.1 (Nat.le_of_ble_eq_true rfl) dX0_wheelTold_61 (rk (by decide) (by decide)) ⟨Nat.le_refl _, Nat.le_refl _⟩ (fun a61 p61 => ?_)
    subst p61
    refine x_getm hC hK hP w1 w2 w3 w5 q381 dX0_wheelTold_64 ?_
    refine hret _ _ ls _ _ _ hP hS dX0_wheelTold_67 ?_
    first | (exact ⟨by rw [tw_lt (by decide), p52]; exact w4.symm, Kq.rf⟩) | (exact ⟨by rw [tw_lt (by decide)], Kq.rf⟩) | (rw [tw_7]; exact ⟨p119.tk hI hk, p119.1⟩) | (rw [tw_8, p151.1, g0]; exact ⟨rfl, p119.1.tr (p151.2.mono (by decide))⟩) | (rw [tw_9, p165.1, g0]; exact ⟨rfl, p119.1.tr (p165.2.mono (by decide))⟩)
  · refine lv_tableIn (tgt := 68) hx hb dX0_wheelTold_1 (by decide) (by decide) rfl rfl ?_
    refine lv_aload_n hx hb dX0_wheelTold_68 rfl (hl.at rfl) ?_
    refine c_get hC hK hP 0 (by omega) (wo_wb) rfl in_X0 2 (by decide) q254 rfl rfl dX0_wheelTold_69 ?_
    refine c_getN hC hK hP (3 + 22 * r.1) (by omega) (wo_ho hr) rfl in_X1 11 (by decide) q167 rfl rfl dX0_wheelTold_72 ?_
    refine lv_iload_n hx hb dX0_wheelTold_75 rfl (hl.at rfl) ?_
    refine c_ldb hC hK hP (3 + 22 * r.1 + 6) (by omega) (c_ldH r.1 6 7 1 8 hr (by decide) (fun _ _ _ => rfl)) _ (rfl) (show _ < 8 by omega) (by decide) dX0_wheelTold_76 ?_
    refine hret _ _ ls _ _ _ hP hS dX0_wheelTold_77 ?_
    first | (exact ⟨by rw [tw_lt (by decide), p52]; exact w4.symm, Kq.rf⟩) | (exact ⟨by rw [tw_lt (by decide)], Kq.rf⟩) | (rw [tw_7]; exact ⟨p119.tk hI hk, p119.1⟩) | (rw [tw_8, p151.1, g0]; exact ⟨rfl, p119.1.tr (p151.2.mono (by decide))⟩) | (rw [tw_9, p165.1, g0]; exact ⟨rfl, p119.1.tr (p165.2.mono (by decide))⟩)
  · refine lv_tableIn (tgt := 78) hx hb dX0_wheelTold_1 (by decide) (by decide) rfl rfl ?_
    refine lv_aload_n hx hb dX0_wheelTold_78 rfl (hl.at rfl) ?_
    refine c_get hC hK hP 0 (by omega) (wo_wb) rfl in_X0 2 (by decide) q254 rfl rfl dX0_wheelTold_79 ?_
    refine c_getN hC hK hP (3 + 22 * r.1) (by omega) (wo_ho hr) rfl in_X1 12 (by decide) q169 rfl rfl dX0_wheelTold_82 ?_
    refine lv_iload_n hx hb dX0_wheelTold_85 rfl (hl.at rfl) ?_
    refine c_ldb hC hK hP (3 + 22 * r.1 + 7) (by omega) (c_ldH r.1 7 8 1 8 hr (by decide) (fun _ _ _ => rfl)) _ (rfl) (show _ < 8 by omega) (by decide) dX0_wheelTold_86 ?_
    refine hret _ _ ls _ _ _ hP hS dX0_wheelTold_87 ?_
    first | (exact ⟨by rw [tw_lt (by decide), p52]; exact w4.symm, Kq.rf⟩) | (exact ⟨by rw [tw_lt (by decide)], Kq.rf⟩) | (rw [tw_7]; exact ⟨p119.tk hI hk, p119.1⟩) | (rw [tw_8, p151.1, g0]; exact ⟨rfl, p119.1.tr (p151.2.mono (by decide))⟩) | (rw [tw_9, p165.1, g0]; exact ⟨rfl, p119.1.tr (p165.2.mono (by decide))⟩)
  · refine lv_tableIn (tgt := 88) hx hb dX0_wheelTold_1 (by decide) (by decide) rfl rfl ?_
    refine lv_aload_n hx hb dX0_wheelTold_88 rfl (hl.at rfl) ?_
    refine c_get hC hK hP 0 (by omega) (wo_wb) rfl in_X0 2 (by decide) q254 rfl rfl dX0_wheelTold_89 ?_
    refine c_getN hC hK hP (3 + 22 * r.1) (by omega) (wo_ho hr) rfl in_X1 13 (by decide) q171 rfl rfl dX0_wheelTold_92 ?_
    refine lv_iload_n hx hb dX0_wheelTold_95 rfl (hl.at rfl) ?_
    refine c_ldb hC hK hP (3 + 22 * r.1 + 8) (by omega) (c_ldH r.1 8 9 1 8 hr (by decide) (fun _ _ _ => rfl)) _ (rfl) (show _ < 8 by omega) (by decide) dX0_wheelTold_96 ?_
    refine hret _ _ ls _ _ _ hP hS dX0_wheelTold_97 ?_
    first | (exact ⟨by rw [tw_lt (by decide), p52]; exact w4.symm, Kq.rf⟩) | (exact ⟨by rw [tw_lt (by decide)], Kq.rf⟩) | (rw [tw_7]; exact ⟨p119.tk hI hk, p119.1⟩) | (rw [tw_8, p151.1, g0]; exact ⟨rfl, p119.1.tr (p151.2.mono (by decide))⟩) | (rw [tw_9, p165.1, g0]; exact ⟨rfl, p119.1.tr (p165.2.mono (by decide))⟩)
  · refine lv_tableIn (tgt := 98) hx hb dX0_wheelTold_1 (by decide) (by decide) rfl rfl ?_
    refine lv_aload_n hx hb dX0_wheelTold_98 rfl (hl.at rfl) ?_
    refine c_get hC hK hP 0 (by omega) (wo_wb) rfl in_X0 2 (by decide) q254 rfl rfl dX0_wheelTold_99 ?_
    refine c_getN hC hK hP (3 + 22 * r.1) (by omega) (wo_ho hr) rfl in_X1 14 (by decide) q174 rfl rfl dX0_wheelTold_102 ?_
    refine lv_iload_n hx hb dX0_wheelTold_105 rfl (hl.at rfl) ?_
    refine c_ldi hC hK hP (3 + 22 * r.1 + 9) (by omega) (c_ldH r.1 9 10 0 8 hr (by decide) (fun _ _ _ => rfl)) _ (rfl) (show _ < 8 by omega) (by decide) dX0_wheelTold_106 ?_
    refine hret _ _ ls _ _ _ hP hS dX0_wheelTold_107 ?_
    first | (exact ⟨by rw [tw_lt (by decide), p52]; exact w4.symm, Kq.rf⟩) | (exact ⟨by rw [tw_lt (by decide)], Kq.rf⟩) | (rw [tw_7]; exact ⟨p119.tk hI hk, p119.1⟩) | (rw [tw_8, p151.1, g0]; exact ⟨rfl, p119.1.tr (p151.2.mono (by decide))⟩) | (rw [tw_9, p165.1, g0]; exact ⟨rfl, p119.1.tr (p165.2.mono (by decide))⟩)
  · refine lv_tableIn (tgt := 108) hx hb dX0_wheelTold_1 (by decide) (by decide) rfl rfl ?_
    refine lv_aload_n hx hb dX0_wheelTold_108 rfl (hl.at rfl) ?_
    refine c_get hC hK hP 0 (by omega) (wo_wb) rfl in_X0 2 (by decide) q254 rfl rfl dX0_wheelTold_109 ?_
    refine c_getN hC hK hP (3 + 22 * r.1) (by omega) (wo_ho hr) rfl in_X1 15 (by decide) q176 rfl rfl dX0_wheelTold_112 ?_
    refine lv_iload_n hx hb dX0_wheelTold_115 rfl (hl.at rfl) ?_
    refine c_ldi hC hK hP (3 + 22 * r.1 + 10) (by omega) (c_ldH r.1 10 11 0 8 hr (by decide) (fun _ _ _ => rfl)) _ (rfl) (show _ < 8 by omega) (by decide) dX0_wheelTold_116 ?_
    refine hret _ _ ls _ _ _ hP hS dX0_wheelTold_117 ?_
    first | (exact ⟨by rw [tw_lt (by decide), p52]; exact w4.symm, Kq.rf⟩) | (exact ⟨by rw [tw_lt (by decide)], Kq.rf⟩) | (rw [tw_7]; exact ⟨p119.tk hI hk, p119.1⟩) | (rw [tw_8, p151.1, g0]; exact ⟨rfl, p119.1.tr (p151.2.mono (by decide))⟩) | (rw [tw_9, p165.1, g0]; exact ⟨rfl, p119.1.tr (p165.2.mono (by decide))⟩)
  · refine lv_tableOut (tgt := 118) hx hb dX0_wheelTold_1 (by decide) rfl ?_
    refine lv_aload_n hx hb dX0_wheelTold_118 rfl (hl.at rfl) ?_
    refine x_vV hC hK hP hS (x_rWB hK hP hn) (cX0_goDown_ hn hD hr hI hQ) cv_X0_222 rfl rfl hl.1 (Nat.le_of_ble_eq_true rfl) dX0_wheelTold_119 (rk (by decide) (by decide)) ⟨Nat.le_refl _, Nat.le_refl _⟩ (fun U119 H locs p119 hP hS => ?_)
    have g0 : U119 r.1 = U r.1 := p119.1.1 _ hr3
    refine lv_iload_n hx hb dX0_wheelTold_122 rfl (hl.at rfl) ?_
    refine lv_bipush (v := nI 7) hx hb dX0_wheelTold_123 rfl ?_
    refine lv_icmp_ne (tgt := 137) hx hb dX0_wheelTold_125 rfl (fun z => absurd rfl z) (fun _ => ?_)
    refine lv_aload_n hx hb dX0_wheelTold_128 rfl (hl.at rfl) ?_
    refine c_get hC hK hP 0 (by omega) (wo_wb) rfl in_X0 10 (by decide) q262 rfl rfl dX0_wheelTold_129 ?_
    refine lv_iload_n hx hb dX0_wheelTold_132 rfl (hl.at rfl) ?_
    refine c_ldi hC hK hP 78 (by omega) (wo_78) _ (rfl) (show _ < 8 by omega) (by decide) dX0_wheelTold_133 ?_
    refine lv_goto (tgt := 168) hx hb dX0_wheelTold_134 rfl ?_
    refine hret _ _ ls _ _ _ hP hS dX0_wheelTold_168 ?_
    first | (exact ⟨by rw [tw_lt (by decide), p52]; exact w4.symm, Kq.rf⟩) | (exact ⟨by rw [tw_lt (by decide)], Kq.rf⟩) | (rw [tw_7]; exact ⟨p119.tk hI hk, p119.1⟩) | (rw [tw_8, p151.1, g0]; exact ⟨rfl, p119.1.tr (p151.2.mono (by decide))⟩) | (rw [tw_9, p165.1, g0]; exact ⟨rfl, p119.1.tr (p165.2.mono (by decide))⟩)
  · refine lv_tableOut (tgt := 118) hx hb dX0_wheelTold_1 (by decide) rfl ?_
    refine lv_aload_n hx hb dX0_wheelTold_118 rfl (hl.at rfl) ?_
    refine x_vV hC hK hP hS (x_rWB hK hP hn) (cX0_goDown_ hn hD hr hI hQ) cv_X0_222 rfl rfl hl.1 (Nat.le_of_ble_eq_true rfl) dX0_wheelTold_119 (rk (by decide) (by decide)) ⟨Nat.le_refl _, Nat.le_refl _⟩ (fun U119 H locs p119 hP hS => ?_)
    have g0 : U119 r.1 = U r.1 := p119.1.1 _ hr3
    refine lv_iload_n hx hb dX0_wheelTold_122 rfl (hl.at rfl) ?_
    refine lv_bipush (v := nI 7) hx hb dX0_wheelTold_123 rfl ?_
    refine lv_icmp_ne (tgt := 137) hx hb dX0_wheelTold_125 rfl (fun _ => ?_) (fun z => absurd z (by decide))
    refine lv_iload_n hx hb dX0_wheelTold_137 rfl (hl.at rfl) ?_
    refine lv_bipush (v := nI 8) hx hb dX0_wheelTold_138 rfl ?_
    refine lv_icmp_ne (tgt := 157) hx hb dX0_wheelTold_140 rfl (fun z => absurd rfl z) (fun _ => ?_)
    refine lv_aload_n hx hb dX0_wheelTold_143 rfl (hl.at rfl) ?_
    refine lv_iload_n hx hb dX0_wheelTold_144 rfl (hl.at rfl) ?_
    refine lv_aload_n hx hb dX0_wheelTold_145 rfl (hl.at rfl) ?_
    refine c_get hC hK hP 0 (by omega) (wo_wb) rfl in_X0 10 (by decide) q262 rfl rfl dX0_wheelTold_146 ?_
    refine lv_iload_n hx hb dX0_wheelTold_149 rfl (hl.at rfl) ?_
    refine c_ldi hC hK hP 78 (by omega) (wo_78) _ (rfl) (show _ < 8 by omega) (by decide) dX0_wheelTold_150 ?_
    refine l_top (sp_took (U r.1) k) (p119.tk hI hk) ?_
    refine x_iV hC hK hP hS (x_rWB hK hP hn) (cX0_turnsOf_ hn hD hr (by rw [g0]; exact hI) (by rw [g0]; exact hQ) (by rw [g0]; exact hk) rfl (took_bd hI hk)) cv_X0_225 rfl rfl hl.1 (Nat.le_of_ble_eq_true rfl) dX0_wheelTold_151 (rk (by decide) (by decide)) ⟨Nat.le_refl _, Nat.le_refl _⟩ (fun r151 U151 H locs p151 hP hS => ?_)
    refine lv_goto (tgt := 168) hx hb dX0_wheelTold_154 rfl ?_
    refine hret _ _ ls _ _ _ hP hS dX0_wheelTold_168 ?_
    first | (exact ⟨by rw [tw_lt (by decide), p52]; exact w4.symm, Kq.rf⟩) | (exact ⟨by rw [tw_lt (by decide)], Kq.rf⟩) | (rw [tw_7]; exact ⟨p119.tk hI hk, p119.1⟩) | (rw [tw_8, p151.1, g0]; exact ⟨rfl, p119.1.tr (p151.2.mono (by decide))⟩) | (rw [tw_9, p165.1, g0]; exact ⟨rfl, p119.1.tr (p165.2.mono (by decide))⟩)
  · refine lv_tableOut (tgt := 118) hx hb dX0_wheelTold_1 (by decide) rfl ?_
    refine lv_aload_n hx hb dX0_wheelTold_118 rfl (hl.at rfl) ?_
    refine x_vV hC hK hP hS (x_rWB hK hP hn) (cX0_goDown_ hn hD hr hI hQ) cv_X0_222 rfl rfl hl.1 (Nat.le_of_ble_eq_true rfl) dX0_wheelTold_119 (rk (by decide) (by decide)) ⟨Nat.le_refl _, Nat.le_refl _⟩ (fun U119 H locs p119 hP hS => ?_)
    have g0 : U119 r.1 = U r.1 := p119.1.1 _ hr3
    refine lv_iload_n hx hb dX0_wheelTold_122 rfl (hl.at rfl) ?_
    refine lv_bipush (v := nI 7) hx hb dX0_wheelTold_123 rfl ?_
    refine lv_icmp_ne (tgt := 137) hx hb dX0_wheelTold_125 rfl (fun _ => ?_) (fun z => absurd z (by decide))
    refine lv_iload_n hx hb dX0_wheelTold_137 rfl (hl.at rfl) ?_
    refine lv_bipush (v := nI 8) hx hb dX0_wheelTold_138 rfl ?_
    refine lv_icmp_ne (tgt := 157) hx hb dX0_wheelTold_140 rfl (fun _ => ?_) (fun z => absurd z (by decide))
    refine lv_aload_n hx hb dX0_wheelTold_157 rfl (hl.at rfl) ?_
    refine lv_iload_n hx hb dX0_wheelTold_158 rfl (hl.at rfl) ?_
    refine lv_aload_n hx hb dX0_wheelTold_159 rfl (hl.at rfl) ?_
    refine c_get hC hK hP 0 (by omega) (wo_wb) rfl in_X0 10 (by decide) q262 rfl rfl dX0_wheelTold_160 ?_
    refine lv_iload_n hx hb dX0_wheelTold_163 rfl (hl.at rfl) ?_
    refine c_ldi hC hK hP 78 (by omega) (wo_78) _ (rfl) (show _ < 8 by omega) (by decide) dX0_wheelTold_164 ?_
    refine l_top (sp_took (U r.1) k) (p119.tk hI hk) ?_
    refine x_iV hC hK hP hS (x_rWB hK hP hn) (cX0_showsOf_ hn hD hr (by rw [g0]; exact hI) (by rw [g0]; exact hQ) (by rw [g0]; exact hk) rfl (took_bd hI hk)) cv_X0_228 rfl rfl hl.1 (Nat.le_of_ble_eq_true rfl) dX0_wheelTold_165 (rk (by decide) (by decide)) ⟨Nat.le_refl _, Nat.le_refl _⟩ (fun r165 U165 H locs p165 hP hS => ?_)
    refine hret _ _ ls _ _ _ hP hS dX0_wheelTold_168 ?_
    first | (exact ⟨by rw [tw_lt (by decide), p52]; exact w4.symm, Kq.rf⟩) | (exact ⟨by rw [tw_lt (by decide)], Kq.rf⟩) | (rw [tw_7]; exact ⟨p119.tk hI hk, p119.1⟩) | (rw [tw_8, p151.1, g0]; exact ⟨rfl, p119.1.tr (p151.2.mono (by decide))⟩) | (rw [tw_9, p165.1, g0]; exact ⟨rfl, p119.1.tr (p165.2.mono (by decide))⟩)
theorem cv_X0_231 : CV RX0 RX0 231 yX0_isWheel cX0_isWheel 2 (some .boolean) 1 := ⟨lw_V q442 q444 qs3 q83 q445, by decide +kernel⟩
theorem cv_X0_234 : CV RX0 RX0 234 yX0_wheelTold cX0_wheelTold 3 (some .int) 2 := ⟨lw_V q446 q448 qs4 q83 q449, by decide +kernel⟩
theorem cX0_wheelIs_ {l : Launch} {D : va_G} {cA : Nat → ClassId} {ad : Nat → Nat} {n : Nat} {f0 : Nat → va_E} {ρ : Nat → Nat → Option Nat} {r : Nat × Nat} {U : Nat → Nat → Nat → Int32} (hn : 81 ≤ n) {A : Nat → Prop} (hD : gD A ad n) {x q : Int32} {T : Tta} (hT : CT U r T) (hI : Inv (T 0)) (hQ : HQ cA ad f0 n ρ (T 0) r.1) : XI l D cA ad n f0 ρ r U A yX0_wheelIs cX0_wheelIs 3 (some .int) (8) [.ref (ad 0), .int x, .int q] (fun o V => o = (op_wheelIs x q T).1 ∧ CT V r (op_wheelIs x q T).2) := by
  refine Ci.of rfl (by decide +kernel) (Nat.le_of_ble_eq_true rfl) ?_
  intro p e s m args below meth c Q hC hK hP hret ls hl
  have hx := hC.1
  have hb := hC.2.1
  have hown := hC.2.2.2.1
  have hts := hC.2.2.2.2
  have hS : va_S A s.heap s.heap [] := va_S.rf
  have hr : r.1 < 3 := hT.lt
  have e0 : U r.1 = T 0 := hT.2.1
  have hI2 : Inv (U r.1) := by rw [e0]; exact hI
  have hQ2 : HQ cA ad f0 n ρ (U r.1) r.1 := by rw [e0]; exact hQ
  have hr3 : r.1 ≠ 3 := by omega
  obtain ⟨eN, h8⟩ := inv_wh hI2
  have eH : U r.1 0 1 = nI (hrv (T 0)) := by rw [e0]; exact (inv_hr hI).1
  have hH := (inv_hr hI).2
  refine lv_aload_n hx hb dX0_wheelIs_0 rfl (hl.at rfl) ?_
  refine lv_iload_n hx hb dX0_wheelIs_1 rfl (hl.at rfl) ?_
  refine x_pV hC hK hP (x_rWB hK hP hn) (cX0_isWheel_ hn hr) cv_X0_231 rfl rfl hl.1 (Nat.le_of_ble_eq_true rfl) dX0_wheelIs_2 (rk (by decide) (by decide)) ⟨Nat.le_refl _, Nat.le_refl _⟩ (fun r2 p2 => ?_)
  rcases p2 with ⟨rfl, p2⟩ | ⟨rfl, p2⟩
  · obtain ⟨k, hk, rfl⟩ := isWh_of hI2 p2
    refine l_ifeq_1 hx hb 27 dX0_wheelIs_5 rfl ?_
    refine lv_iload_n hx hb dX0_wheelIs_8 rfl (hl.at rfl) ?_
    refine lv_iconst (v := nI 0) hx hb dX0_wheelIs_9 rfl ?_
    refine lv_bipush (v := nI 9) hx hb dX0_wheelIs_10 rfl ?_
    refine x_sS hC (cX0_isIn_ ) cs_X0_122 rfl rfl hl.1 (Nat.le_of_ble_eq_true rfl) dX0_wheelIs_12 (rk (by decide) (by decide)) ⟨Nat.le_refl _, Nat.le_refl _⟩ (fun r12 p12 => ?_)
    rcases p12 with ⟨rfl, p12⟩ | ⟨rfl, p12⟩
    · refine l_ifeq_1 hx hb 27 dX0_wheelIs_15 rfl ?_
      refine lv_aload_n hx hb dX0_wheelIs_18 rfl (hl.at rfl) ?_
      refine lv_iload_n hx hb dX0_wheelIs_19 rfl (hl.at rfl) ?_
      refine lv_iload_n hx hb dX0_wheelIs_20 rfl (hl.at rfl) ?_
      refine x_iV hC hK hP hS (x_rWB hK hP hn) (cX0_wheelTold_ hn hD hr hI2 hQ2 rfl hk p12) cv_X0_234 rfl rfl hl.1 (Nat.le_of_ble_eq_true rfl) dX0_wheelIs_21 (rk (by decide) (by decide)) ⟨Nat.le_refl _, Nat.le_refl _⟩ (fun r21 U21 H locs p21 hP hS => ?_)
      refine lv_goto (tgt := 32) hx hb dX0_wheelIs_24 rfl ?_
      refine hret _ _ ls _ _ _ hP hS dX0_wheelIs_32 ?_
      first | (rw [op_wheelIs, if_neg (by rw [← e0]; exact p2)]; exact hT.e p29 (by decide)) | (rw [op_wheelIs, if_pos (by rw [← e0]; exact p2), if_neg p12]; exact hT.e p29 (by decide)) | (rw [op_wheelIs, if_pos (by rw [← e0]; exact p2), if_pos p12, p21.1, cn_nI (by omega), e0]; exact ⟨rfl, p21.2.CT hT (by decide)⟩)
    · refine l_ifeq_0 hx hb 27 dX0_wheelIs_15 rfl ?_
      refine lv_aload_n hx hb dX0_wheelIs_27 rfl (hl.at rfl) ?_
      refine lv_iconst (v := nI 1) hx hb dX0_wheelIs_28 rfl ?_
      refine x_iV hC hK hP hS (x_rWB hK hP hn) (cX0_finds_ hn hD (k := 1) rfl (by decide)) cv_X0_173 rfl rfl hl.1 (Nat.le_of_ble_eq_true rfl) dX0_wheelIs_29 (rk (by decide) (by decide)) ⟨Nat.le_refl _, Nat.le_refl _⟩ (fun r29 U29 H locs p29 hP hS => ?_)
      refine hret _ _ ls _ _ _ hP hS dX0_wheelIs_32 ?_
      first | (rw [op_wheelIs, if_neg (by rw [← e0]; exact p2)]; exact hT.e p29 (by decide)) | (rw [op_wheelIs, if_pos (by rw [← e0]; exact p2), if_neg p12]; exact hT.e p29 (by decide)) | (rw [op_wheelIs, if_pos (by rw [← e0]; exact p2), if_pos p12, p21.1, cn_nI (by omega), e0]; exact ⟨rfl, p21.2.CT hT (by decide)⟩)
  · refine l_ifeq_0 hx hb 27 dX0_wheelIs_5 rfl ?_
    refine lv_aload_n hx hb dX0_wheelIs_27 rfl (hl.at rfl) ?_
    refine lv_iconst (v := nI 1) hx hb dX0_wheelIs_28 rfl ?_
    refine x_iV hC hK hP hS (x_rWB hK hP hn) (cX0_finds_ hn hD (k := 1) rfl (by decide)) cv_X0_173 rfl rfl hl.1 (Nat.le_of_ble_eq_true rfl) dX0_wheelIs_29 (rk (by decide) (by decide)) ⟨Nat.le_refl _, Nat.le_refl _⟩ (fun r29 U29 H locs p29 hP hS => ?_)
    refine hret _ _ ls _ _ _ hP hS dX0_wheelIs_32 ?_
    first | (rw [op_wheelIs, if_neg (by rw [← e0]; exact p2)]; exact hT.e p29 (by decide)) | (rw [op_wheelIs, if_pos (by rw [← e0]; exact p2), if_neg p12]; exact hT.e p29 (by decide)) | (rw [op_wheelIs, if_pos (by rw [← e0]; exact p2), if_pos p12, p21.1, cn_nI (by omega), e0]; exact ⟨rfl, p21.2.CT hT (by decide)⟩)
theorem cX0_flows_ {l : Launch} {D : va_G} {cA : Nat → ClassId} {ad : Nat → Nat} {n : Nat} {f0 : Nat → va_E} {ρ : Nat → Nat → Option Nat} {r : Nat × Nat} {U : Nat → Nat → Nat → Int32} (hn : 81 ≤ n) {A : Nat → Prop} (hD : gD A ad n) {x : Int32} {T : Tta} (hT : CT U r T) (hI : Inv (T 0)) (hQ : HQ cA ad f0 n ρ (T 0) r.1) : XI l D cA ad n f0 ρ r U A yX0_flows cX0_flows 2 (some .int) (7) [.ref (ad 0), .int x] (fun o V => o = (op_flows x T).1 ∧ CT V r (op_flows x T).2) := by
  refine Ci.of rfl (by decide +kernel) (Nat.le_of_ble_eq_true rfl) ?_
  intro p e s m args below meth c Q hC hK hP hret ls hl
  have hx := hC.1
  have hb := hC.2.1
  have hown := hC.2.2.2.1
  have hts := hC.2.2.2.2
  have hS : va_S A s.heap s.heap [] := va_S.rf
  have hr : r.1 < 3 := hT.lt
  have e0 : U r.1 = T 0 := hT.2.1
  have hI2 : Inv (U r.1) := by rw [e0]; exact hI
  have hQ2 : HQ cA ad f0 n ρ (U r.1) r.1 := by rw [e0]; exact hQ
  have hr3 : r.1 ≠ 3 := by omega
  obtain ⟨eN, h8⟩ := inv_wh hI2
  have eH : U r.1 0 1 = nI (hrv (T 0)) := by rw [e0]; exact (inv_hr hI).1
  have hH := (inv_hr hI).2
  refine lv_iload_n hx hb dX0_flows_0 rfl (hl.at rfl) ?_
  refine x_sS hC (cX0_isPlace_ ) cs_X0_180 rfl rfl hl.1 (Nat.le_of_ble_eq_true rfl) dX0_flows_1 (rk (by decide) (by decide)) ⟨Nat.le_refl _, Nat.le_refl _⟩ (fun r1 p1 => ?_)
  rcases p1 with ⟨rfl, p1⟩ | ⟨rfl, p1⟩
  · obtain ⟨k, hk, rfl⟩ := in_nI p1
    refine l_ifne_1 hx hb 13 dX0_flows_4 rfl ?_
    refine lv_aload_n hx hb dX0_flows_13 rfl (hl.at rfl) ?_
    refine x_vV hC hK hP hS (x_rWB hK hP hn) (cX0_goDown_ hn hD hr hI2 hQ2) cv_X0_222 rfl rfl hl.1 (Nat.le_of_ble_eq_true rfl) dX0_flows_14 (rk (by decide) (by decide)) ⟨Nat.le_refl _, Nat.le_refl _⟩ (fun U14 H locs p14 hP hS => ?_)
    refine lv_aload_n hx hb dX0_flows_17 rfl (hl.at rfl) ?_
    refine c_get hC hK hP 0 (by omega) (wo_wb) rfl in_X0 11 (by decide) q263 rfl rfl dX0_flows_18 ?_
    refine lv_iload_n hx hb dX0_flows_21 rfl (hl.at rfl) ?_
    refine c_ldi hC hK hP 79 (by omega) (wo_79) _ (rfl) (show _ < 12 by omega) (by decide) dX0_flows_22 ?_
    refine hret _ _ ls _ _ _ hP hS dX0_flows_23 ?_
    first | (rw [op_flows, if_neg p1]; exact hT.e p9 (by decide)) | (rw [op_flows, if_pos p1, cn_nI (by omega), ← e0]; exact ⟨p14.fw hI2 (by omega), p14.1.CT hT (by decide)⟩)
  · refine l_ifne_0 hx hb 13 dX0_flows_4 rfl ?_
    refine lv_aload_n hx hb dX0_flows_7 rfl (hl.at rfl) ?_
    refine lv_iconst (v := nI 1) hx hb dX0_flows_8 rfl ?_
    refine x_iV hC hK hP hS (x_rWB hK hP hn) (cX0_finds_ hn hD (k := 1) rfl (by decide)) cv_X0_173 rfl rfl hl.1 (Nat.le_of_ble_eq_true rfl) dX0_flows_9 (rk (by decide) (by decide)) ⟨Nat.le_refl _, Nat.le_refl _⟩ (fun r9 U9 H locs p9 hP hS => ?_)
    refine hret _ _ ls _ _ _ hP hS dX0_flows_12 ?_
    first | (rw [op_flows, if_neg p1]; exact hT.e p9 (by decide)) | (rw [op_flows, if_pos p1, cn_nI (by omega), ← e0]; exact ⟨p14.fw hI2 (by omega), p14.1.CT hT (by decide)⟩)
theorem cX0_count_ {l : Launch} {D : va_G} {cA : Nat → ClassId} {ad : Nat → Nat} {n : Nat} {f0 : Nat → va_E} {ρ : Nat → Nat → Option Nat} {r : Nat × Nat} {U : Nat → Nat → Nat → Int32} (hn : 81 ≤ n) {A : Nat → Prop} (hD : gD A ad n) {x : Int32} {T : Tta} (hT : CT U r T) (hI : Inv (T 0)) (hQ : HQ cA ad f0 n ρ (T 0) r.1) : XI l D cA ad n f0 ρ r U A yX0_count cX0_count 2 (some .int) (7) [.ref (ad 0), .int x] (fun o V => o = (op_count x T).1 ∧ CT V r (op_count x T).2) := by
  refine Ci.of rfl (by decide +kernel) (Nat.le_of_ble_eq_true rfl) ?_
  intro p e s m args below meth c Q hC hK hP hret ls hl
  have hx := hC.1
  have hb := hC.2.1
  have hown := hC.2.2.2.1
  have hts := hC.2.2.2.2
  have hS : va_S A s.heap s.heap [] := va_S.rf
  have hr : r.1 < 3 := hT.lt
  have e0 : U r.1 = T 0 := hT.2.1
  have hI2 : Inv (U r.1) := by rw [e0]; exact hI
  have hQ2 : HQ cA ad f0 n ρ (U r.1) r.1 := by rw [e0]; exact hQ
  have hr3 : r.1 ≠ 3 := by omega
  obtain ⟨eN, h8⟩ := inv_wh hI2
  have eH : U r.1 0 1 = nI (hrv (T 0)) := by rw [e0]; exact (inv_hr hI).1
  have hH := (inv_hr hI).2
  refine lv_aload_n hx hb dX0_count_0 rfl (hl.at rfl) ?_
  refine x_vV hC hK hP hS (x_rWB hK hP hn) (cX0_goDown_ hn hD hr hI2 hQ2) cv_X0_222 rfl rfl hl.1 (Nat.le_of_ble_eq_true rfl) dX0_count_1 (rk (by decide) (by decide)) ⟨Nat.le_refl _, Nat.le_refl _⟩ (fun U1 H locs p1 hP hS => ?_)
  have g0 : U1 r.1 = U r.1 := p1.1.1 _ hr3
  refine lv_iload_n hx hb dX0_count_4 rfl (hl.at rfl) ?_
  rcases cnt_cases x with rfl | rfl | rfl | rfl | rfl | rfl | rfl | rfl | rfl | rfl | rfl | hq
  · refine lv_tableIn (tgt := 64) hx hb dX0_count_5 (by decide) (by decide) rfl rfl ?_
    refine lv_aload_n hx hb dX0_count_64 rfl (hl.at rfl) ?_
    refine c_get hC hK hP 0 (by omega) (wo_wb) rfl in_X0 2 (by decide) q254 rfl rfl dX0_count_65 ?_
    refine c_getN hC hK hP (3 + 22 * r.1) (by omega) (wo_ho hr) rfl in_X1 0 (by decide) q143 rfl rfl dX0_count_68 ?_
    refine hret _ _ ls _ _ _ hP hS dX0_count_71 ?_
    rw [op_count, if_neg (by decide), if_pos rfl, ← e0]; exact ⟨(by rw [g0]), p1.1.CT hT (by decide)⟩
  · refine lv_tableIn (tgt := 72) hx hb dX0_count_5 (by decide) (by decide) rfl rfl ?_
    refine lv_aload_n hx hb dX0_count_72 rfl (hl.at rfl) ?_
    refine c_get hC hK hP 0 (by omega) (wo_wb) rfl in_X0 2 (by decide) q254 rfl rfl dX0_count_73 ?_
    refine c_getN hC hK hP (3 + 22 * r.1) (by omega) (wo_ho hr) rfl in_X1 1 (by decide) q146 rfl rfl dX0_count_76 ?_
    refine hret _ _ ls _ _ _ hP hS dX0_count_79 ?_
    rw [op_count, if_neg (by decide), if_neg (by decide), if_pos rfl, ← e0]; exact ⟨(by rw [g0]), p1.1.CT hT (by decide)⟩
  · refine lv_tableIn (tgt := 80) hx hb dX0_count_5 (by decide) (by decide) rfl rfl ?_
    refine lv_aload_n hx hb dX0_count_80 rfl (hl.at rfl) ?_
    refine c_get hC hK hP 0 (by omega) (wo_wb) rfl in_X0 2 (by decide) q254 rfl rfl dX0_count_81 ?_
    refine x_pV hC hK hP (x_rHO hr hK hP hn) (cX1_forceNow_ hn hr (by rw [g0]; exact hI2)) cv_X0_154 rfl rfl hl.1 (Nat.le_of_ble_eq_true rfl) dX0_count_84 (rk (by decide) (by decide)) ⟨Nat.le_refl _, Nat.le_refl _⟩ (fun r84 p84 => ?_)
    refine hret _ _ ls _ _ _ hP hS dX0_count_87 ?_
    rw [op_count, if_neg (by decide), if_neg (by decide), if_neg (by decide), if_pos rfl, ← e0]; exact ⟨(by rw [p84, g0]), p1.1.CT hT (by decide)⟩
  · refine lv_tableIn (tgt := 88) hx hb dX0_count_5 (by decide) (by decide) rfl rfl ?_
    refine lv_aload_n hx hb dX0_count_88 rfl (hl.at rfl) ?_
    refine c_get hC hK hP 0 (by omega) (wo_wb) rfl in_X0 12 (by decide) q264 rfl rfl dX0_count_89 ?_
    refine hret _ _ ls _ _ _ hP hS dX0_count_92 ?_
    rw [op_count, if_neg (by decide), if_neg (by decide), if_neg (by decide), if_neg (by decide), if_pos rfl, ← e0]; exact ⟨(p1.gn hI2), p1.1.CT hT (by decide)⟩
  · refine lv_tableIn (tgt := 93) hx hb dX0_count_5 (by decide) (by decide) rfl rfl ?_
    refine lv_aload_n hx hb dX0_count_93 rfl (hl.at rfl) ?_
    refine c_get hC hK hP 0 (by omega) (wo_wb) rfl in_X0 13 (by decide) q265 rfl rfl dX0_count_94 ?_
    refine hret _ _ ls _ _ _ hP hS dX0_count_97 ?_
    rw [op_count, if_neg (by decide), if_neg (by decide), if_neg (by decide), if_neg (by decide), if_neg (by decide), if_pos rfl, ← e0]; exact ⟨(p1.lo hI2), p1.1.CT hT (by decide)⟩
  · refine lv_tableIn (tgt := 98) hx hb dX0_count_5 (by decide) (by decide) rfl rfl ?_
    refine lv_aload_n hx hb dX0_count_98 rfl (hl.at rfl) ?_
    refine c_get hC hK hP 0 (by omega) (wo_wb) rfl in_X0 2 (by decide) q254 rfl rfl dX0_count_99 ?_
    refine c_getN hC hK hP (3 + 22 * r.1) (by omega) (wo_ho hr) rfl in_X1 2 (by decide) q148 rfl rfl dX0_count_102 ?_
    refine hret _ _ ls _ _ _ hP hS dX0_count_105 ?_
    rw [op_count, if_neg (by decide), if_neg (by decide), if_neg (by decide), if_neg (by decide), if_neg (by decide), if_neg (by decide), if_pos rfl, ← e0]; exact ⟨(by rw [g0]), p1.1.CT hT (by decide)⟩
  · refine lv_tableIn (tgt := 106) hx hb dX0_count_5 (by decide) (by decide) rfl rfl ?_
    refine lv_aload_n hx hb dX0_count_106 rfl (hl.at rfl) ?_
    refine c_get hC hK hP 0 (by omega) (wo_wb) rfl in_X0 2 (by decide) q254 rfl rfl dX0_count_107 ?_
    refine x_pV hC hK hP (x_rHO hr hK hP hn) (cX1_allPrayed_ hn hr) cv_X0_297 rfl rfl hl.1 (Nat.le_of_ble_eq_true rfl) dX0_count_110 (rk (by decide) (by decide)) ⟨Nat.le_refl _, Nat.le_refl _⟩ (fun r110 p110 => ?_)
    refine hret _ _ ls _ _ _ hP hS dX0_count_113 ?_
    rw [op_count, if_neg (by decide), if_neg (by decide), if_neg (by decide), if_neg (by decide), if_neg (by decide), if_neg (by decide), if_neg (by decide), if_pos rfl, ← e0]; exact ⟨(by rw [p110, g0]), p1.1.CT hT (by decide)⟩
  · refine lv_tableIn (tgt := 114) hx hb dX0_count_5 (by decide) (by decide) rfl rfl ?_
    refine lv_aload_n hx hb dX0_count_114 rfl (hl.at rfl) ?_
    refine c_get hC hK hP 0 (by omega) (wo_wb) rfl in_X0 2 (by decide) q254 rfl rfl dX0_count_115 ?_
    refine c_getN hC hK hP (3 + 22 * r.1) (by omega) (wo_ho hr) rfl in_X1 4 (by decide) q152 rfl rfl dX0_count_118 ?_
    refine hret _ _ ls _ _ _ hP hS dX0_count_121 ?_
    rw [op_count, if_neg (by decide), if_neg (by decide), if_neg (by decide), if_neg (by decide), if_neg (by decide), if_neg (by decide), if_neg (by decide), if_neg (by decide), if_pos rfl, ← e0]; exact ⟨(by rw [g0]), p1.1.CT hT (by decide)⟩
  · refine lv_tableIn (tgt := 122) hx hb dX0_count_5 (by decide) (by decide) rfl rfl ?_
    refine lv_aload_n hx hb dX0_count_122 rfl (hl.at rfl) ?_
    refine c_get hC hK hP 0 (by omega) (wo_wb) rfl in_X0 2 (by decide) q254 rfl rfl dX0_count_123 ?_
    refine c_getN hC hK hP (3 + 22 * r.1) (by omega) (wo_ho hr) rfl in_X1 5 (by decide) q154 rfl rfl dX0_count_126 ?_
    refine hret _ _ ls _ _ _ hP hS dX0_count_129 ?_
    rw [op_count, if_neg (by decide), if_neg (by decide), if_neg (by decide), if_neg (by decide), if_neg (by decide), if_neg (by decide), if_neg (by decide), if_neg (by decide), if_neg (by decide), if_pos rfl, ← e0]; exact ⟨(by rw [g0]), p1.1.CT hT (by decide)⟩
  · refine lv_tableIn (tgt := 130) hx hb dX0_count_5 (by decide) (by decide) rfl rfl ?_
    refine lv_aload_n hx hb dX0_count_130 rfl (hl.at rfl) ?_
    refine c_get hC hK hP 0 (by omega) (wo_wb) rfl in_X0 5 (by decide) q257 rfl rfl dX0_count_131 ?_
    refine c_getN hC hK hP 69 (by omega) (wo_tr) rfl in_X3 1 (by decide) q232 rfl rfl dX0_count_134 ?_
    refine hret _ _ ls _ _ _ hP hS dX0_count_137 ?_
    rw [op_count, if_neg (by decide), if_neg (by decide), if_neg (by decide), if_neg (by decide), if_neg (by decide), if_neg (by decide), if_neg (by decide), if_neg (by decide), if_neg (by decide), if_neg (by decide), if_pos rfl]; exact ⟨(by rw [p1.1.2 2 (by decide)]; exact hT.2.2.2 2 0 (by decide) (by decide)), p1.1.CT hT (by decide)⟩
  · refine lv_tableIn (tgt := 138) hx hb dX0_count_5 (by decide) (by decide) rfl rfl ?_
    refine lv_aload_n hx hb dX0_count_138 rfl (hl.at rfl) ?_
    refine c_get hC hK hP 0 (by omega) (wo_wb) rfl in_X0 2 (by decide) q254 rfl rfl dX0_count_139 ?_
    refine c_getN hC hK hP (3 + 22 * r.1) (by omega) (wo_ho hr) rfl in_X1 3 (by decide) q150 rfl rfl dX0_count_142 ?_
    refine hret _ _ ls _ _ _ hP hS dX0_count_145 ?_
    rw [op_count, if_neg (by decide), if_neg (by decide), if_neg (by decide), if_neg (by decide), if_neg (by decide), if_neg (by decide), if_neg (by decide), if_neg (by decide), if_neg (by decide), if_neg (by decide), if_neg (by decide), if_pos rfl, ← e0]; exact ⟨(by rw [g0]), p1.1.CT hT (by decide)⟩
  · refine lv_tableOut (tgt := 146) hx hb dX0_count_5 (hq) rfl ?_
    refine lv_iload_n hx hb dX0_count_146 rfl (hl.at rfl) ?_
    refine lv_bipush (v := nI 11) hx hb dX0_count_147 rfl ?_
    refine lv_bipush (v := nI 22) hx hb dX0_count_149 rfl ?_
    refine x_sS hC (cX0_isIn_ ) cs_X0_122 rfl rfl hl.1 (Nat.le_of_ble_eq_true rfl) dX0_count_151 (rk (by decide) (by decide)) ⟨Nat.le_refl _, Nat.le_refl _⟩ (fun r151 p151 => ?_)
    rcases p151 with ⟨rfl, p151⟩ | ⟨rfl, p151⟩
    · obtain ⟨k, hk1, hk2, rfl⟩ := in_nIl p151 (by decide)
      refine l_ifeq_1 hx hb 172 dX0_count_154 rfl ?_
      refine lv_aload_n hx hb dX0_count_157 rfl (hl.at rfl) ?_
      refine c_get hC hK hP 0 (by omega) (wo_wb) rfl in_X0 2 (by decide) q254 rfl rfl dX0_count_158 ?_
      refine c_getN hC hK hP (3 + 22 * r.1) (by omega) (wo_ho hr) rfl in_X1 7 (by decide) q158 rfl rfl dX0_count_161 ?_
      refine lv_iload_n hx hb dX0_count_164 rfl (hl.at rfl) ?_
      refine lv_bipush (v := nI 11) hx hb dX0_count_165 rfl ?_
      refine l_subN hx hb dX0_count_167 (by omega) ?_
      refine c_ldb hC hK hP (3 + 22 * r.1 + 2) (by omega) (c_ldH r.1 2 2 1 12 hr (by decide) (fun _ _ _ => rfl)) _ (rfl) (show _ < 12 by omega) (by decide) dX0_count_168 ?_
      refine lv_goto (tgt := 177) hx hb dX0_count_169 rfl ?_
      refine hret _ _ ls _ _ _ hP hS dX0_count_177 ?_
      first | (rw [op_count, if_pos p151, cn_nI (by omega), ← e0, g0]; exact ⟨rfl, p1.1.CT hT (by decide)⟩) | (rw [op_count, if_neg p151, if_neg (fun z => by rw [z] at hq; exact absurd hq (by decide)), if_neg (fun z => by rw [z] at hq; exact absurd hq (by decide)), if_neg (fun z => by rw [z] at hq; exact absurd hq (by decide)), if_neg (fun z => by rw [z] at hq; exact absurd hq (by decide)), if_neg (fun z => by rw [z] at hq; exact absurd hq (by decide)), if_neg (fun z => by rw [z] at hq; exact absurd hq (by decide)), if_neg (fun z => by rw [z] at hq; exact absurd hq (by decide)), if_neg (fun z => by rw [z] at hq; exact absurd hq (by decide)), if_neg (fun z => by rw [z] at hq; exact absurd hq (by decide)), if_neg (fun z => by rw [z] at hq; exact absurd hq (by decide)), if_neg (fun z => by rw [z] at hq; exact absurd hq (by decide))]; exact (p1.1.CT hT (by decide)).e p174 (by decide))
    · refine l_ifeq_0 hx hb 172 dX0_count_154 rfl ?_
      refine lv_aload_n hx hb dX0_count_172 rfl (hl.at rfl) ?_
      refine lv_iconst (v := nI 1) hx hb dX0_count_173 rfl ?_
      refine x_iV hC hK hP hS (x_rWB hK hP hn) (cX0_finds_ hn hD (k := 1) rfl (by decide)) cv_X0_173 rfl rfl hl.1 (Nat.le_of_ble_eq_true rfl) dX0_count_174 (rk (by decide) (by decide)) ⟨Nat.le_refl _, Nat.le_refl _⟩ (fun r174 U174 H locs p174 hP hS => ?_)
      refine hret _ _ ls _ _ _ hP hS dX0_count_177 ?_
      first | (rw [op_count, if_pos p151, cn_nI (by omega), ← e0, g0]; exact ⟨rfl, p1.1.CT hT (by decide)⟩) | (rw [op_count, if_neg p151, if_neg (fun z => by rw [z] at hq; exact absurd hq (by decide)), if_neg (fun z => by rw [z] at hq; exact absurd hq (by decide)), if_neg (fun z => by rw [z] at hq; exact absurd hq (by decide)), if_neg (fun z => by rw [z] at hq; exact absurd hq (by decide)), if_neg (fun z => by rw [z] at hq; exact absurd hq (by decide)), if_neg (fun z => by rw [z] at hq; exact absurd hq (by decide)), if_neg (fun z => by rw [z] at hq; exact absurd hq (by decide)), if_neg (fun z => by rw [z] at hq; exact absurd hq (by decide)), if_neg (fun z => by rw [z] at hq; exact absurd hq (by decide)), if_neg (fun z => by rw [z] at hq; exact absurd hq (by decide)), if_neg (fun z => by rw [z] at hq; exact absurd hq (by decide))]; exact (p1.1.CT hT (by decide)).e p174 (by decide))
theorem cX0_isOf_ {l : Launch} {D : va_G} {cA : Nat → ClassId} {ad : Nat → Nat} {n : Nat} {f0 : Nat → va_E} {ρ : Nat → Nat → Option Nat} {r : Nat × Nat} {U : Nat → Nat → Nat → Int32} (hn : 81 ≤ n) {w kd : Nat} {q : Int32} {fs : List Value} (w1 : 81 ≤ w) (w2 : w < n) (w3 : kd ≤ 6) (w5 : f0 w = .inr (6 + kd, fs)) (hq : nI 0 ≤ q ∧ q ≤ nI 6) : XP l D cA ad n f0 ρ r U yX0_isOf cX0_isOf 2 (some .boolean) (0) [.ref (ad w), .int q] (bz (q = 0 ∨ nI kd = q ∨ (q = nI 1 ∧ nI kd = nI 4) ∨ (q = nI 3 ∧ nI kd = nI 5))) := by
  refine Cp.ofz rfl (by decide +kernel) (Nat.le_of_ble_eq_true rfl) ?_
  intro p e s m args below meth c Q hC hK hP hret ls hl
  have hx := hC.1
  have hb := hC.2.1
  have hown := hC.2.2.2.1
  have hts := hC.2.2.2.2
  obtain ⟨j, hj, rfl⟩ := in_nI hq
  refine lv_iload_n hx hb dX0_isOf_0 rfl (hl.at rfl) ?_
  rcases (by omega : j = 0 ∨ j = 1 ∨ j = 2 ∨ j = 3 ∨ j = 4 ∨ j = 5 ∨ j = 6) with rfl | rfl | rfl | rfl | rfl | rfl | rfl
  · refine lv_tableOut (tgt := 70) hx hb dX0_isOf_1 (by decide) rfl ?_
    refine lv_aload_n hx hb dX0_isOf_70 rfl (hl.at rfl) ?_
    refine x_inst (j := 0) hC hK hP w1 w2 w3 w5 (by decide) q432 dX0_isOf_71 (fun r71 p71 => ?_)
    refine hret ls _ _ dX0_isOf_74 (by rcases p71 with ⟨h, _⟩ | ⟨h, _⟩ <;> simp [h]) ?_
    rcases p71 with ⟨rfl, h⟩ | ⟨rfl, h⟩
    · exact Or.inl ⟨rfl, (isk_iff w3 (by decide)).mp h⟩
    · exact Or.inr ⟨rfl, fun z => h ((isk_iff w3 (by decide)).mpr z)⟩
  · refine lv_tableIn (tgt := 40) hx hb dX0_isOf_1 (by decide) (by decide) rfl rfl ?_
    refine lv_aload_n hx hb dX0_isOf_40 rfl (hl.at rfl) ?_
    refine x_inst (j := 1) hC hK hP w1 w2 w3 w5 (by decide) q359 dX0_isOf_41 (fun r41 p41 => ?_)
    refine hret ls _ _ dX0_isOf_44 (by rcases p41 with ⟨h, _⟩ | ⟨h, _⟩ <;> simp [h]) ?_
    rcases p41 with ⟨rfl, h⟩ | ⟨rfl, h⟩
    · exact Or.inl ⟨rfl, (isk_iff w3 (by decide)).mp h⟩
    · exact Or.inr ⟨rfl, fun z => h ((isk_iff w3 (by decide)).mpr z)⟩
  · refine lv_tableIn (tgt := 45) hx hb dX0_isOf_1 (by decide) (by decide) rfl rfl ?_
    refine lv_aload_n hx hb dX0_isOf_45 rfl (hl.at rfl) ?_
    refine x_inst (j := 2) hC hK hP w1 w2 w3 w5 (by decide) q387 dX0_isOf_46 (fun r46 p46 => ?_)
    refine hret ls _ _ dX0_isOf_49 (by rcases p46 with ⟨h, _⟩ | ⟨h, _⟩ <;> simp [h]) ?_
    rcases p46 with ⟨rfl, h⟩ | ⟨rfl, h⟩
    · exact Or.inl ⟨rfl, (isk_iff w3 (by decide)).mp h⟩
    · exact Or.inr ⟨rfl, fun z => h ((isk_iff w3 (by decide)).mpr z)⟩
  · refine lv_tableIn (tgt := 50) hx hb dX0_isOf_1 (by decide) (by decide) rfl rfl ?_
    refine lv_aload_n hx hb dX0_isOf_50 rfl (hl.at rfl) ?_
    refine x_inst (j := 3) hC hK hP w1 w2 w3 w5 (by decide) q396 dX0_isOf_51 (fun r51 p51 => ?_)
    refine hret ls _ _ dX0_isOf_54 (by rcases p51 with ⟨h, _⟩ | ⟨h, _⟩ <;> simp [h]) ?_
    rcases p51 with ⟨rfl, h⟩ | ⟨rfl, h⟩
    · exact Or.inl ⟨rfl, (isk_iff w3 (by decide)).mp h⟩
    · exact Or.inr ⟨rfl, fun z => h ((isk_iff w3 (by decide)).mpr z)⟩
  · refine lv_tableIn (tgt := 55) hx hb dX0_isOf_1 (by decide) (by decide) rfl rfl ?_
    refine lv_aload_n hx hb dX0_isOf_55 rfl (hl.at rfl) ?_
    refine x_inst (j := 4) hC hK hP w1 w2 w3 w5 (by decide) q405 dX0_isOf_56 (fun r56 p56 => ?_)
    refine hret ls _ _ dX0_isOf_59 (by rcases p56 with ⟨h, _⟩ | ⟨h, _⟩ <;> simp [h]) ?_
    rcases p56 with ⟨rfl, h⟩ | ⟨rfl, h⟩
    · exact Or.inl ⟨rfl, (isk_iff w3 (by decide)).mp h⟩
    · exact Or.inr ⟨rfl, fun z => h ((isk_iff w3 (by decide)).mpr z)⟩
  · refine lv_tableIn (tgt := 60) hx hb dX0_isOf_1 (by decide) (by decide) rfl rfl ?_
    refine lv_aload_n hx hb dX0_isOf_60 rfl (hl.at rfl) ?_
    refine x_inst (j := 5) hC hK hP w1 w2 w3 w5 (by decide) q414 dX0_isOf_61 (fun r61 p61 => ?_)
    refine hret ls _ _ dX0_isOf_64 (by rcases p61 with ⟨h, _⟩ | ⟨h, _⟩ <;> simp [h]) ?_
    rcases p61 with ⟨rfl, h⟩ | ⟨rfl, h⟩
    · exact Or.inl ⟨rfl, (isk_iff w3 (by decide)).mp h⟩
    · exact Or.inr ⟨rfl, fun z => h ((isk_iff w3 (by decide)).mpr z)⟩
  · refine lv_tableIn (tgt := 65) hx hb dX0_isOf_1 (by decide) (by decide) rfl rfl ?_
    refine lv_aload_n hx hb dX0_isOf_65 rfl (hl.at rfl) ?_
    refine x_inst (j := 6) hC hK hP w1 w2 w3 w5 (by decide) q423 dX0_isOf_66 (fun r66 p66 => ?_)
    refine hret ls _ _ dX0_isOf_69 (by rcases p66 with ⟨h, _⟩ | ⟨h, _⟩ <;> simp [h]) ?_
    rcases p66 with ⟨rfl, h⟩ | ⟨rfl, h⟩
    · exact Or.inl ⟨rfl, (isk_iff w3 (by decide)).mp h⟩
    · exact Or.inr ⟨rfl, fun z => h ((isk_iff w3 (by decide)).mpr z)⟩
theorem cs_X0_243 : CS RX0 243 yX0_isOf cX0_isOf 2 (some .boolean) 2 := ⟨lw_S q647 q648 q83 q649, by decide +kernel⟩
theorem cX0_as_ {l : Launch} {D : va_G} {cA : Nat → ClassId} {ad : Nat → Nat} {n : Nat} {f0 : Nat → va_E} {ρ : Nat → Nat → Option Nat} {r : Nat × Nat} {U : Nat → Nat → Nat → Int32} (hn : 81 ≤ n) {A : Nat → Prop} (hD : gD A ad n) {x q : Int32} {T : Tta} (hT : CT U r T) (hI : Inv (T 0)) (hQ : HQ cA ad f0 n ρ (T 0) r.1) : XI l D cA ad n f0 ρ r U A yX0_as cX0_as 3 (some .int) (2) [.ref (ad 0), .int x, .int q] (fun o V => o = (op_as x q T).1 ∧ CT V r (op_as x q T).2) := by
  refine Ci.of rfl (by decide +kernel) (Nat.le_of_ble_eq_true rfl) ?_
  intro p e s m args below meth c Q hC hK hP hret ls hl
  have hx := hC.1
  have hb := hC.2.1
  have hown := hC.2.2.2.1
  have hts := hC.2.2.2.2
  have hS : va_S A s.heap s.heap [] := va_S.rf
  have hr : r.1 < 3 := hT.lt
  have e0 : U r.1 = T 0 := hT.2.1
  have hI2 : Inv (U r.1) := by rw [e0]; exact hI
  have hQ2 : HQ cA ad f0 n ρ (U r.1) r.1 := by rw [e0]; exact hQ
  have hr3 : r.1 ≠ 3 := by omega
  obtain ⟨eN, h8⟩ := inv_wh hI2
  have eH : U r.1 0 1 = nI (hrv (T 0)) := by rw [e0]; exact (inv_hr hI).1
  have hH := (inv_hr hI).2
  refine lv_aload_n hx hb dX0_as_0 rfl (hl.at rfl) ?_
  refine lv_iload_n hx hb dX0_as_1 rfl (hl.at rfl) ?_
  refine x_pV hC hK hP (x_rWB hK hP hn) (cX0_isWheel_ hn hr) cv_X0_231 rfl rfl hl.1 (Nat.le_of_ble_eq_true rfl) dX0_as_2 (rk (by decide) (by decide)) ⟨Nat.le_refl _, Nat.le_refl _⟩ (fun r2 p2 => ?_)
  rcases p2 with ⟨rfl, p2⟩ | ⟨rfl, p2⟩
  · obtain ⟨k, hk, rfl⟩ := isWh_of hI2 p2
    refine l_ifeq_1 hx hb 18 dX0_as_5 rfl ?_
    refine lv_iload_n hx hb dX0_as_8 rfl (hl.at rfl) ?_
    refine lv_iconst (v := nI 0) hx hb dX0_as_9 rfl ?_
    refine lv_bipush (v := nI 6) hx hb dX0_as_10 rfl ?_
    refine x_sS hC (cX0_isIn_ ) cs_X0_122 rfl rfl hl.1 (Nat.le_of_ble_eq_true rfl) dX0_as_12 (rk (by decide) (by decide)) ⟨Nat.le_refl _, Nat.le_refl _⟩ (fun r12 p12 => ?_)
    rcases p12 with ⟨rfl, p12⟩ | ⟨rfl, p12⟩
    · refine l_ifne_1 hx hb 24 dX0_as_15 rfl ?_
      obtain ⟨w, kd, hWK⟩ := hQ2.1 k hk
      obtain ⟨w0, w1, w2, w3, w4, w5⟩ := hWK
      refine lv_aload_n hx hb dX0_as_24 rfl (hl.at rfl) ?_
      refine c_get hC hK hP 0 (by omega) (wo_wb) rfl in_X0 2 (by decide) q254 rfl rfl dX0_as_25 ?_
      refine c_getN hC hK hP (3 + 22 * r.1) (by omega) (wo_ho hr) rfl in_X1 10 (by decide) q164 rfl rfl dX0_as_28 ?_
      refine lv_iload_n hx hb dX0_as_31 rfl (hl.at rfl) ?_
      refine x_ald hC hK hP (3 + 22 * r.1 + 5) (by omega) 3 (wo_wh hr) rfl k (rfl) ((show k < 8 by omega)) (by decide) dX0_as_32 ?_
      refine c_getN hC hK hP (3 + 22 * r.1 + 14 + k) (by omega) (wo_sl hr ((show k < 8 by omega))) rfl in_X2 0 (by decide) q136 rfl (show ([rf ad (ρ r.1 k)] : List Value)[0]? = some (.ref (ad w)) from by simp [rf, w0, va_rf]) dX0_as_33 ?_
      refine lv_iload_n hx hb dX0_as_36 rfl (hl.at rfl) ?_
      refine x_pS hC hK hP  (cX0_isOf_ hn w1 w2 w3 w5 p12) cs_X0_243 rfl rfl hl.1 (Nat.le_of_ble_eq_true rfl) dX0_as_37 (rk (by decide) (by decide)) ⟨Nat.le_refl _, Nat.le_refl _⟩ (fun r37 p37 => ?_)
      rcases p37 with ⟨rfl, p37⟩ | ⟨rfl, p37⟩
      · refine l_ifeq_1 hx hb 55 dX0_as_40 rfl ?_
        refine lv_aload_n hx hb dX0_as_43 rfl (hl.at rfl) ?_
        refine c_get hC hK hP 0 (by omega) (wo_wb) rfl in_X0 2 (by decide) q254 rfl rfl dX0_as_44 ?_
        refine c_getN hC hK hP (3 + 22 * r.1) (by omega) (wo_ho hr) rfl in_X1 14 (by decide) q174 rfl rfl dX0_as_47 ?_
        refine lv_iload_n hx hb dX0_as_50 rfl (hl.at rfl) ?_
        refine c_ldi hC hK hP (3 + 22 * r.1 + 9) (by omega) (c_ldH r.1 9 10 0 8 hr (by decide) (fun _ _ _ => rfl)) _ (rfl) (show _ < 8 by omega) (by decide) dX0_as_51 ?_
        refine lv_goto (tgt := 60) hx hb dX0_as_52 rfl ?_
        refine hret _ _ ls _ _ _ hP hS dX0_as_60 ?_
        first | (rw [op_as, if_neg (by rw [← e0]; exact p2)]; exact hT.e p20 (by decide)) | (rw [op_as, if_pos (by rw [← e0]; exact p2), if_neg p12]; exact hT.e p20 (by decide)) | (rw [op_as, if_pos (by rw [← e0]; exact p2), if_pos p12, cn_nI (by omega), ← e0, w4, if_pos p37]; exact ⟨rfl, hT⟩) | (rw [op_as, if_pos (by rw [← e0]; exact p2), if_pos p12, cn_nI (by omega), ← e0, w4, if_neg p37]; exact hT.e p57 (by decide))
      · refine l_ifeq_0 hx hb 55 dX0_as_40 rfl ?_
        refine lv_aload_n hx hb dX0_as_55 rfl (hl.at rfl) ?_
        refine lv_iconst (v := nI 5) hx hb dX0_as_56 rfl ?_
        refine x_iV hC hK hP hS (x_rWB hK hP hn) (cX0_finds_ hn hD (k := 5) rfl (by decide)) cv_X0_173 rfl rfl hl.1 (Nat.le_of_ble_eq_true rfl) dX0_as_57 (rk (by decide) (by decide)) ⟨Nat.le_refl _, Nat.le_refl _⟩ (fun r57 U57 H locs p57 hP hS => ?_)
        refine hret _ _ ls _ _ _ hP hS dX0_as_60 ?_
        first | (rw [op_as, if_neg (by rw [← e0]; exact p2)]; exact hT.e p20 (by decide)) | (rw [op_as, if_pos (by rw [← e0]; exact p2), if_neg p12]; exact hT.e p20 (by decide)) | (rw [op_as, if_pos (by rw [← e0]; exact p2), if_pos p12, cn_nI (by omega), ← e0, w4, if_pos p37]; exact ⟨rfl, hT⟩) | (rw [op_as, if_pos (by rw [← e0]; exact p2), if_pos p12, cn_nI (by omega), ← e0, w4, if_neg p37]; exact hT.e p57 (by decide))
    · refine l_ifne_0 hx hb 24 dX0_as_15 rfl ?_
      refine lv_aload_n hx hb dX0_as_18 rfl (hl.at rfl) ?_
      refine lv_iconst (v := nI 1) hx hb dX0_as_19 rfl ?_
      refine x_iV hC hK hP hS (x_rWB hK hP hn) (cX0_finds_ hn hD (k := 1) rfl (by decide)) cv_X0_173 rfl rfl hl.1 (Nat.le_of_ble_eq_true rfl) dX0_as_20 (rk (by decide) (by decide)) ⟨Nat.le_refl _, Nat.le_refl _⟩ (fun r20 U20 H locs p20 hP hS => ?_)
      refine hret _ _ ls _ _ _ hP hS dX0_as_23 ?_
      first | (rw [op_as, if_neg (by rw [← e0]; exact p2)]; exact hT.e p20 (by decide)) | (rw [op_as, if_pos (by rw [← e0]; exact p2), if_neg p12]; exact hT.e p20 (by decide)) | (rw [op_as, if_pos (by rw [← e0]; exact p2), if_pos p12, cn_nI (by omega), ← e0, w4, if_pos p37]; exact ⟨rfl, hT⟩) | (rw [op_as, if_pos (by rw [← e0]; exact p2), if_pos p12, cn_nI (by omega), ← e0, w4, if_neg p37]; exact hT.e p57 (by decide))
  · refine l_ifeq_0 hx hb 18 dX0_as_5 rfl ?_
    refine lv_aload_n hx hb dX0_as_18 rfl (hl.at rfl) ?_
    refine lv_iconst (v := nI 1) hx hb dX0_as_19 rfl ?_
    refine x_iV hC hK hP hS (x_rWB hK hP hn) (cX0_finds_ hn hD (k := 1) rfl (by decide)) cv_X0_173 rfl rfl hl.1 (Nat.le_of_ble_eq_true rfl) dX0_as_20 (rk (by decide) (by decide)) ⟨Nat.le_refl _, Nat.le_refl _⟩ (fun r20 U20 H locs p20 hP hS => ?_)
    refine hret _ _ ls _ _ _ hP hS dX0_as_23 ?_
    first | (rw [op_as, if_neg (by rw [← e0]; exact p2)]; exact hT.e p20 (by decide)) | (rw [op_as, if_pos (by rw [← e0]; exact p2), if_neg p12]; exact hT.e p20 (by decide)) | (rw [op_as, if_pos (by rw [← e0]; exact p2), if_pos p12, cn_nI (by omega), ← e0, w4, if_pos p37]; exact ⟨rfl, hT⟩) | (rw [op_as, if_pos (by rw [← e0]; exact p2), if_pos p12, cn_nI (by omega), ← e0, w4, if_neg p37]; exact hT.e p57 (by decide))
theorem cX0_body_ {l : Launch} {D : va_G} {cA : Nat → ClassId} {ad : Nat → Nat} {n : Nat} {f0 : Nat → va_E} {ρ : Nat → Nat → Option Nat} {r : Nat × Nat} {U : Nat → Nat → Nat → Int32} (hn : 81 ≤ n) {A : Nat → Prop} (hD : gD A ad n) {x : Int32} {T : Tta} (hT : CT U r T) (hB : Bd (T 2 2 0) 30) : XI l D cA ad n f0 ρ r U A yX0_body cX0_body 2 (some .int) (2) [.ref (ad 0), .int x] (fun o V => o = (op_body x T).1 ∧ CT V r (op_body x T).2) := by
  refine Ci.of rfl (by decide +kernel) (Nat.le_of_ble_eq_true rfl) ?_
  intro p e s m args below meth c Q hC hK hP hret ls hl
  have hx := hC.1
  have hb := hC.2.1
  have hown := hC.2.2.2.1
  have hts := hC.2.2.2.2
  have hS : va_S A s.heap s.heap [] := va_S.rf
  have eM : U 3 2 0 = T 2 2 0 := hT.2.2.2 2 0 (by decide) (by decide)
  refine lv_iload_n hx hb dX0_body_0 rfl (hl.at rfl) ?_
  refine lv_iconst (v := nI 0) hx hb dX0_body_1 rfl ?_
  refine lv_aload_n hx hb dX0_body_2 rfl (hl.at rfl) ?_
  refine c_get hC hK hP 0 (by omega) (wo_wb) rfl in_X0 5 (by decide) q257 rfl rfl dX0_body_3 ?_
  refine c_getN hC hK hP 69 (by omega) (wo_tr) rfl in_X3 1 (by decide) q232 rfl rfl dX0_body_6 ?_
  refine l_top _ eM ?_
  refine lv_iconst (v := nI 1) hx hb dX0_body_9 rfl ?_
  refine lv_isub hx hb dX0_body_10 ?_
  refine x_sS hC (cX0_isIn_ ) cs_X0_122 rfl rfl hl.1 (Nat.le_of_ble_eq_true rfl) dX0_body_11 (rk (by decide) (by decide)) ⟨Nat.le_refl _, Nat.le_refl _⟩ (fun r11 p11 => ?_)
  rcases p11 with ⟨rfl, p11⟩ | ⟨rfl, p11⟩
  · obtain ⟨k, hk, rfl⟩ := in_bd hB (by decide) p11
    refine l_ifeq_1 hx hb 29 dX0_body_14 rfl ?_
    refine lv_aload_n hx hb dX0_body_17 rfl (hl.at rfl) ?_
    refine c_get hC hK hP 0 (by omega) (wo_wb) rfl in_X0 5 (by decide) q257 rfl rfl dX0_body_18 ?_
    refine c_getN hC hK hP 69 (by omega) (wo_tr) rfl in_X3 0 (by decide) q230 rfl rfl dX0_body_21 ?_
    refine lv_iload_n hx hb dX0_body_24 rfl (hl.at rfl) ?_
    refine c_ldb hC hK hP 70 (by omega) (wo_70) _ (rfl) (show _ < 30 by omega) (by decide) dX0_body_25 ?_
    refine lv_goto (tgt := 34) hx hb dX0_body_26 rfl ?_
    refine hret _ _ ls _ _ _ hP hS dX0_body_34 ?_
    first | (rw [op_body, if_pos p11, cn_nI (by omega)]; exact ⟨hT.2.2.2 1 k (by decide) (by show k < 30; omega), hT⟩) | (rw [op_body, if_neg p11]; exact hT.e p31 (by decide))
  · refine l_ifeq_0 hx hb 29 dX0_body_14 rfl ?_
    refine lv_aload_n hx hb dX0_body_29 rfl (hl.at rfl) ?_
    refine lv_iconst (v := nI 2) hx hb dX0_body_30 rfl ?_
    refine x_iV hC hK hP hS (x_rWB hK hP hn) (cX0_finds_ hn hD (k := 2) rfl (by decide)) cv_X0_173 rfl rfl hl.1 (Nat.le_of_ble_eq_true rfl) dX0_body_31 (rk (by decide) (by decide)) ⟨Nat.le_refl _, Nat.le_refl _⟩ (fun r31 U31 H locs p31 hP hS => ?_)
    refine hret _ _ ls _ _ _ hP hS dX0_body_34 ?_
    first | (rw [op_body, if_pos p11, cn_nI (by omega)]; exact ⟨hT.2.2.2 1 k (by decide) (by show k < 30; omega), hT⟩) | (rw [op_body, if_neg p11]; exact hT.e p31 (by decide))
