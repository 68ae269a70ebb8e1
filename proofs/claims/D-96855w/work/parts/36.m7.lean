theorem met_carry {l : Launch} {D : va_G} {cA : Nat → ClassId} {b : Nat} {σ : Nat → Nat → Int32} {i j : Nat} (hi : i < 3) (hj : j < 3) (hij : i ≠ j) : MV l D cA b yX5_carry cX5_carry 3 (0) [.ref (b + 1 + i), .ref (b + 1 + j)] σ (fun τ => (∀ q, q < 449 → τ j q = σ i q) ∧ Kp [j] σ τ) := by
  refine Cv.of (by decide +kernel) (Nat.le_of_ble_eq_true rfl) ?_
  intro p e s m args below meth c Q hC hK hP hret ls hl
  have hx := hC.1
  have hb := hC.2.1
  have hown := hC.2.2.2.1
  have hts := hC.2.2.2.2
  have hS : va_S (mA b) s.heap s.heap [] := va_S.rf
  refine lv_iconst (v := nI 0) hx hb dX5_carry_0 rfl ?_
  refine l_istore_n hx hb 2 dX5_carry_1 rfl hl rfl (fun ls hl => ?_)
  have loop : ∀ (n k : Nat) (τ : Sta), k ≤ 449 → 450 ≤ k + n → (∀ q, q < k → τ j q = σ i q) → Kp [j] σ τ → ∀ (H : Heap) (locs : List Loc) (ls : Array Slot), MWP D cA b τ H → va_S (mA b) s.heap H locs → lh ls [some (.ref (b + 1 + i)), some (.ref (b + 1 + j)), some (.int (nI k))] → W p l e (rmG 0 0 0) s m args below meth c H locs 0 0 Q (F0 m 2 ls []) := by
    intro n
    induction n with
    | zero => intro k τ h1 h2; exact absurd h2 (by omega)
    | succ n ih =>
      intro k τ h1 h2 hq hk H locs ls hP hS hl
      refine lv_iload_n hx hb dX5_carry_2 rfl (hl.at rfl) ?_
      refine lv_sipush (v := nI 449) hx hb dX5_carry_3 rfl ?_
      refine l_geN hx hb 21 dX5_carry_6 rfl (by omega) (by omega) (fun c6 => ?_) (fun c6 => ?_)
      · refine hret _ _ ls _ _ hP hS dX5_carry_21 ?_
        exact ⟨fun q hq2 => hq q (by omega), hk⟩
      · refine lv_aload_n hx hb dX5_carry_9 rfl (hl.at rfl) ?_
        refine lv_iload_n hx hb dX5_carry_10 rfl (hl.at rfl) ?_
        refine lv_aload_n hx hb dX5_carry_11 rfl (hl.at rfl) ?_
        refine lv_iload_n hx hb dX5_carry_12 rfl (hl.at rfl) ?_
        refine m_ld i _ (by omega) hC hK hP (rfl) (by rw [mlen3 hi]; omega) dX5_carry_13 ?_
        refine m_st j _ (by omega) hC hK hP hS (rfl) (by rw [mlen3 hj]; omega) dX5_carry_14 (fun H locs hP hS => ?_)
        refine l_inc1 hx hb 2 dX5_carry_15 hl rfl rfl (fun ls hl => ?_)
        refine lv_goto (tgt := 2) hx hb dX5_carry_18 rfl ?_
        exact ih (k + 1) _ (by omega) (by omega) (fun q hq2 => by rw [up1_s]; by_cases e : q = k; (rw [e, pk_us, hk i (by simp [hij])]); (rw [pk_un e]; exact hq q (by omega))) (hk.up (by simp)) _ _ _ hP hS hl
  exact loop 450 0 σ (by omega) (by omega) (fun q hq2 => absurd hq2 (by omega)) Kp.rf _ _ _ hP hS hl
theorem cs_X5_223 : CS RX5 223 yX5_isAhead cX5_isAhead 1 (some .boolean) 1 := ⟨lw_S q1628 q1629 q88 q1630, by decide +kernel⟩
theorem cs_X5_226 : CS RX5 226 yX5_carry cX5_carry 3 (none) 2 := ⟨lw_S q1631 q1632 q88 q1633, by decide +kernel⟩
theorem met_then {l : Launch} {D : va_G} {cA : Nat → ClassId} {b : Nat} {σ : Nat → Nat → Int32} {n x q : Int32} {T : Tta} (hT : RT σ T) (hI : Inv (T 0)) (hH9 : hrv (T 0) ≤ 9999) : MI l D cA b yX5_then cX5_then 5 (some .int) (7) [.ref b, .int n, .int x, .int q] σ (fun r τ => r = (op_then n x q T).1 ∧ RT τ (op_then n x q T).2) := by
  refine Ci.of rfl (by decide +kernel) (Nat.le_of_ble_eq_true rfl) ?_
  intro p e s m args below meth c Q hC hK hP hret ls hl
  have hx := hC.1
  have hb := hC.2.1
  have hown := hC.2.2.2.1
  have hts := hC.2.2.2.2
  have hS : va_S (mA b) s.heap s.heap [] := va_S.rf
  obtain ⟨eN, hN⟩ := inv_wh hI
  refine lv_iload_n hx hb dX5_then_0 rfl (hl.at rfl) ?_
  refine m_sS hC (met_isAhead ) cs_X5_223 rfl rfl hl.1 (Nat.le_of_ble_eq_true rfl) dX5_then_1 (by decide) (by decide) (fun r1 p1 => ?_)
  rcases p1 with ⟨rfl, p1⟩ | ⟨rfl, p1⟩
  · obtain ⟨m0, hm0, rfl⟩ := in_nI p1
    refine l_ifeq_1 hx hb 25 dX5_then_4 rfl ?_
    refine lv_aload_n hx hb dX5_then_7 rfl (hl.at rfl) ?_
    refine lv_iload_n hx hb dX5_then_8 rfl (hl.at rfl) ?_
    refine m_pV hC hK hP (met_isWheel (S := T 0) hT.1) cv_X5_112 rfl rfl hl.1 (Nat.le_of_ble_eq_true rfl) dX5_then_9 (by decide) (by decide) (fun r9 p9 => ?_)
    rcases p9 with ⟨rfl, p9⟩ | ⟨rfl, p9⟩
    · obtain ⟨w, hw, rfl⟩ := isWh_of hI p9
      refine l_ifeq_1 hx hb 25 dX5_then_12 rfl ?_
      refine lv_iload_n hx hb dX5_then_15 rfl (hl.at rfl) ?_
      refine lv_iconst (v := nI 0) hx hb dX5_then_16 rfl ?_
      refine lv_bipush (v := nI 9) hx hb dX5_then_17 rfl ?_
      refine m_sS hC (met_in ) cs_X5_56 rfl rfl hl.1 (Nat.le_of_ble_eq_true rfl) dX5_then_19 (by decide) (by decide) (fun r19 p19 => ?_)
      rcases p19 with ⟨rfl, p19⟩ | ⟨rfl, p19⟩
      · obtain ⟨k, hk, rfl⟩ := in_nI p19
        refine l_ifne_1 hx hb 31 dX5_then_22 rfl ?_
        refine lv_aload_n hx hb dX5_then_31 rfl (hl.at rfl) ?_
        refine mg_s hC hK hP dX5_then_32 ?_
        refine lv_aload_n hx hb dX5_then_35 rfl (hl.at rfl) ?_
        refine mg_put hC hK hP dX5_then_36 ?_
        refine m_vS hC hK hP hS (met_carry (i := 0) (j := 2) (by decide) (by decide) (by decide)) cs_X5_226 rfl rfl hl.1 (Nat.le_of_ble_eq_true rfl) dX5_then_39 (by decide) (by decide) (fun σ39 H locs p39 hP hS => ?_)
        refine lv_aload_n hx hb dX5_then_42 rfl (hl.at rfl) ?_
        refine lv_iload_n hx hb dX5_then_43 rfl (hl.at rfl) ?_
        refine m_vV hC hK hP hS (met_go (S := T 0) (N := m0) (by rw [p39.2 0 (by decide)]; exact hT.1) hI rfl (by omega)) cv_X5_212 rfl rfl hl.1 (Nat.le_of_ble_eq_true rfl) dX5_then_44 (by decide) (by decide) (fun σ44 H locs p44 hP hS => ?_)
        obtain ⟨hIm, -, hWm⟩ := hrN_inv hI m0 (by omega)
        refine lv_aload_n hx hb dX5_then_47 rfl (hl.at rfl) ?_
        refine lv_iload_n hx hb dX5_then_48 rfl (hl.at rfl) ?_
        refine lv_iload_n hx hb dX5_then_49 rfl (hl.at rfl) ?_
        refine m_iV hC hK hP hS (met_toldWheel (S := hrN (T 0) m0) (w := w) (k := k) p44.1 hIm rfl (by omega) rfl (by omega)) cv_X5_115 rfl rfl hl.1 (Nat.le_of_ble_eq_true rfl) dX5_then_50 (by decide) (by decide) (fun r50 σ50 H locs p50 hP hS => ?_)
        refine l_istore hx hb 4 dX5_then_53 hl rfl (fun ls hl => ?_)
        refine lv_aload_n hx hb dX5_then_55 rfl (hl.at rfl) ?_
        refine mg_put hC hK hP dX5_then_56 ?_
        refine lv_aload_n hx hb dX5_then_59 rfl (hl.at rfl) ?_
        refine mg_s hC hK hP dX5_then_60 ?_
        refine m_vS hC hK hP hS (met_carry (i := 2) (j := 0) (by decide) (by decide) (by decide)) cs_X5_226 rfl rfl hl.1 (Nat.le_of_ble_eq_true rfl) dX5_then_63 (by decide) (by decide) (fun σ63 H locs p63 hP hS => ?_)
        refine lv_iload hx hb dX5_then_66 (hl.at rfl) ?_
        refine hret _ _ ls _ _ _ hP hS dX5_then_68 ?_
        first | (rw [op_then, if_pos p1, if_pos p9, if_pos p19, cn_nI (by omega), cn_nI (by omega)]; refine ⟨p50.1, ?_⟩; rw [← tS_self (T := T)]; exact hT.S (hT.1.same (fun q hq => by rw [p63.1 q hq, p50.2 2 (by decide), p44.2 2 (by decide), p39.1 q hq])) ((((p39.2.mono (by decide)).tr (p44.2.mono (by decide))).tr (p50.2.mono (by decide))).tr (p63.2.mono (by decide)))) | (rw [op_then, if_neg p1]; exact p27) | (rw [op_then, if_pos p1, if_neg p9]; exact p27) | (rw [op_then, if_pos p1, if_pos p9, if_neg p19]; exact p27)
      · refine l_ifne_0 hx hb 31 dX5_then_22 rfl ?_
        refine lv_aload_n hx hb dX5_then_25 rfl (hl.at rfl) ?_
        refine lv_iconst (v := nI 1) hx hb dX5_then_26 rfl ?_
        refine m_iV hC hK hP hS (met_error hT rfl (by decide)) cv_X5_76 rfl rfl hl.1 (Nat.le_of_ble_eq_true rfl) dX5_then_27 (by decide) (by decide) (fun r27 σ27 H locs p27 hP hS => ?_)
        refine hret _ _ ls _ _ _ hP hS dX5_then_30 ?_
        first | (rw [op_then, if_pos p1, if_pos p9, if_pos p19, cn_nI (by omega), cn_nI (by omega)]; refine ⟨p50.1, ?_⟩; rw [← tS_self (T := T)]; exact hT.S (hT.1.same (fun q hq => by rw [p63.1 q hq, p50.2 2 (by decide), p44.2 2 (by decide), p39.1 q hq])) ((((p39.2.mono (by decide)).tr (p44.2.mono (by decide))).tr (p50.2.mono (by decide))).tr (p63.2.mono (by decide)))) | (rw [op_then, if_neg p1]; exact p27) | (rw [op_then, if_pos p1, if_neg p9]; exact p27) | (rw [op_then, if_pos p1, if_pos p9, if_neg p19]; exact p27)
    · refine l_ifeq_0 hx hb 25 dX5_then_12 rfl ?_
      refine lv_aload_n hx hb dX5_then_25 rfl (hl.at rfl) ?_
      refine lv_iconst (v := nI 1) hx hb dX5_then_26 rfl ?_
      refine m_iV hC hK hP hS (met_error hT rfl (by decide)) cv_X5_76 rfl rfl hl.1 (Nat.le_of_ble_eq_true rfl) dX5_then_27 (by decide) (by decide) (fun r27 σ27 H locs p27 hP hS => ?_)
      refine hret _ _ ls _ _ _ hP hS dX5_then_30 ?_
      first | (rw [op_then, if_pos p1, if_pos p9, if_pos p19, cn_nI (by omega), cn_nI (by omega)]; refine ⟨p50.1, ?_⟩; rw [← tS_self (T := T)]; exact hT.S (hT.1.same (fun q hq => by rw [p63.1 q hq, p50.2 2 (by decide), p44.2 2 (by decide), p39.1 q hq])) ((((p39.2.mono (by decide)).tr (p44.2.mono (by decide))).tr (p50.2.mono (by decide))).tr (p63.2.mono (by decide)))) | (rw [op_then, if_neg p1]; exact p27) | (rw [op_then, if_pos p1, if_neg p9]; exact p27) | (rw [op_then, if_pos p1, if_pos p9, if_neg p19]; exact p27)
  · refine l_ifeq_0 hx hb 25 dX5_then_4 rfl ?_
    refine lv_aload_n hx hb dX5_then_25 rfl (hl.at rfl) ?_
    refine lv_iconst (v := nI 1) hx hb dX5_then_26 rfl ?_
    refine m_iV hC hK hP hS (met_error hT rfl (by decide)) cv_X5_76 rfl rfl hl.1 (Nat.le_of_ble_eq_true rfl) dX5_then_27 (by decide) (by decide) (fun r27 σ27 H locs p27 hP hS => ?_)
    refine hret _ _ ls _ _ _ hP hS dX5_then_30 ?_
    first | (rw [op_then, if_pos p1, if_pos p9, if_pos p19, cn_nI (by omega), cn_nI (by omega)]; refine ⟨p50.1, ?_⟩; rw [← tS_self (T := T)]; exact hT.S (hT.1.same (fun q hq => by rw [p63.1 q hq, p50.2 2 (by decide), p44.2 2 (by decide), p39.1 q hq])) ((((p39.2.mono (by decide)).tr (p44.2.mono (by decide))).tr (p50.2.mono (by decide))).tr (p63.2.mono (by decide)))) | (rw [op_then, if_neg p1]; exact p27) | (rw [op_then, if_pos p1, if_neg p9]; exact p27) | (rw [op_then, if_pos p1, if_pos p9, if_neg p19]; exact p27)
theorem met_thenFamily {l : Launch} {D : va_G} {cA : Nat → ClassId} {b : Nat} {σ : Nat → Nat → Int32} {n x q : Int32} {T : Tta} (hT : RT σ T) (hI : Inv (T 0)) (hH9 : hrv (T 0) ≤ 9999) : MI l D cA b yX5_thenFamily cX5_thenFamily 5 (some .int) (7) [.ref b, .int n, .int x, .int q] σ (fun r τ => r = (op_thenF n x q T).1 ∧ RT τ (op_thenF n x q T).2) := by
  refine Ci.of rfl (by decide +kernel) (Nat.le_of_ble_eq_true rfl) ?_
  intro p e s m args below meth c Q hC hK hP hret ls hl
  have hx := hC.1
  have hb := hC.2.1
  have hown := hC.2.2.2.1
  have hts := hC.2.2.2.2
  have hS : va_S (mA b) s.heap s.heap [] := va_S.rf
  refine lv_iload_n hx hb dX5_thenFamily_0 rfl (hl.at rfl) ?_
  refine m_sS hC (met_isAhead ) cs_X5_223 rfl rfl hl.1 (Nat.le_of_ble_eq_true rfl) dX5_thenFamily_1 (by decide) (by decide) (fun r1 p1 => ?_)
  rcases p1 with ⟨rfl, p1⟩ | ⟨rfl, p1⟩
  · obtain ⟨m0, hm0, rfl⟩ := in_nI p1
    refine l_ifeq_1 hx hb 23 dX5_thenFamily_4 rfl ?_
    refine lv_iload_n hx hb dX5_thenFamily_7 rfl (hl.at rfl) ?_
    refine m_sS hC (met_isFamily ) cs_X5_83 rfl rfl hl.1 (Nat.le_of_ble_eq_true rfl) dX5_thenFamily_8 (by decide) (by decide) (fun r8 p8 => ?_)
    rcases p8 with ⟨rfl, p8⟩ | ⟨rfl, p8⟩
    · obtain ⟨f, hf, rfl⟩ := in_nI p8
      refine l_ifeq_1 hx hb 23 dX5_thenFamily_11 rfl ?_
      refine lv_iload_n hx hb dX5_thenFamily_14 rfl (hl.at rfl) ?_
      refine lv_iconst (v := nI 0) hx hb dX5_thenFamily_15 rfl ?_
      refine lv_iconst (v := nI 3) hx hb dX5_thenFamily_16 rfl ?_
      refine m_sS hC (met_in ) cs_X5_56 rfl rfl hl.1 (Nat.le_of_ble_eq_true rfl) dX5_thenFamily_17 (by decide) (by decide) (fun r17 p17 => ?_)
      rcases p17 with ⟨rfl, p17⟩ | ⟨rfl, p17⟩
      · refine l_ifne_1 hx hb 29 dX5_thenFamily_20 rfl ?_
        refine lv_aload_n hx hb dX5_thenFamily_29 rfl (hl.at rfl) ?_
        refine mg_s hC hK hP dX5_thenFamily_30 ?_
        refine lv_aload_n hx hb dX5_thenFamily_33 rfl (hl.at rfl) ?_
        refine mg_put hC hK hP dX5_thenFamily_34 ?_
        refine m_vS hC hK hP hS (met_carry (i := 0) (j := 2) (by decide) (by decide) (by decide)) cs_X5_226 rfl rfl hl.1 (Nat.le_of_ble_eq_true rfl) dX5_thenFamily_37 (by decide) (by decide) (fun σ37 H locs p37 hP hS => ?_)
        refine lv_aload_n hx hb dX5_thenFamily_40 rfl (hl.at rfl) ?_
        refine lv_iload_n hx hb dX5_thenFamily_41 rfl (hl.at rfl) ?_
        refine m_vV hC hK hP hS (met_go (S := T 0) (N := m0) (by rw [p37.2 0 (by decide)]; exact hT.1) hI rfl (by omega)) cv_X5_212 rfl rfl hl.1 (Nat.le_of_ble_eq_true rfl) dX5_thenFamily_42 (by decide) (by decide) (fun σ42 H locs p42 hP hS => ?_)
        obtain ⟨hIm, -, hWm⟩ := hrN_inv hI m0 (by omega)
        refine lv_aload_n hx hb dX5_thenFamily_45 rfl (hl.at rfl) ?_
        refine lv_iload_n hx hb dX5_thenFamily_46 rfl (hl.at rfl) ?_
        refine lv_iload_n hx hb dX5_thenFamily_47 rfl (hl.at rfl) ?_
        refine m_pV hC hK hP (met_toldFamily (S := hrN (T 0) m0) (f := f) p42.1 hIm rfl (by omega)) cv_X5_93 rfl rfl hl.1 (Nat.le_of_ble_eq_true rfl) dX5_thenFamily_48 (by decide) (by decide) (fun r48 p48 => ?_)
        refine l_istore hx hb 4 dX5_thenFamily_51 hl rfl (fun ls hl => ?_)
        refine lv_aload_n hx hb dX5_thenFamily_53 rfl (hl.at rfl) ?_
        refine mg_put hC hK hP dX5_thenFamily_54 ?_
        refine lv_aload_n hx hb dX5_thenFamily_57 rfl (hl.at rfl) ?_
        refine mg_s hC hK hP dX5_thenFamily_58 ?_
        refine m_vS hC hK hP hS (met_carry (i := 2) (j := 0) (by decide) (by decide) (by decide)) cs_X5_226 rfl rfl hl.1 (Nat.le_of_ble_eq_true rfl) dX5_thenFamily_61 (by decide) (by decide) (fun σ61 H locs p61 hP hS => ?_)
        refine lv_iload hx hb dX5_thenFamily_64 (hl.at rfl) ?_
        refine hret _ _ ls _ _ _ hP hS dX5_thenFamily_66 ?_
        first | (rw [op_thenF, if_pos p1, if_pos p8, if_pos p17, cn_nI (by omega), cn_nI (by omega)]; refine ⟨p48, ?_⟩; rw [← tS_self (T := T)]; exact hT.S (hT.1.same (fun q hq => by rw [p61.1 q hq, p42.2 2 (by decide), p37.1 q hq])) (((p37.2.mono (by decide)).tr (p42.2.mono (by decide))).tr (p61.2.mono (by decide)))) | (rw [op_thenF, if_neg p1]; exact p25) | (rw [op_thenF, if_pos p1, if_neg p8]; exact p25) | (rw [op_thenF, if_pos p1, if_pos p8, if_neg p17]; exact p25)
      · refine l_ifne_0 hx hb 29 dX5_thenFamily_20 rfl ?_
        refine lv_aload_n hx hb dX5_thenFamily_23 rfl (hl.at rfl) ?_
        refine lv_iconst (v := nI 1) hx hb dX5_thenFamily_24 rfl ?_
        refine m_iV hC hK hP hS (met_error hT rfl (by decide)) cv_X5_76 rfl rfl hl.1 (Nat.le_of_ble_eq_true rfl) dX5_thenFamily_25 (by decide) (by decide) (fun r25 σ25 H locs p25 hP hS => ?_)
        refine hret _ _ ls _ _ _ hP hS dX5_thenFamily_28 ?_
        first | (rw [op_thenF, if_pos p1, if_pos p8, if_pos p17, cn_nI (by omega), cn_nI (by omega)]; refine ⟨p48, ?_⟩; rw [← tS_self (T := T)]; exact hT.S (hT.1.same (fun q hq => by rw [p61.1 q hq, p42.2 2 (by decide), p37.1 q hq])) (((p37.2.mono (by decide)).tr (p42.2.mono (by decide))).tr (p61.2.mono (by decide)))) | (rw [op_thenF, if_neg p1]; exact p25) | (rw [op_thenF, if_pos p1, if_neg p8]; exact p25) | (rw [op_thenF, if_pos p1, if_pos p8, if_neg p17]; exact p25)
    · refine l_ifeq_0 hx hb 23 dX5_thenFamily_11 rfl ?_
      refine lv_aload_n hx hb dX5_thenFamily_23 rfl (hl.at rfl) ?_
      refine lv_iconst (v := nI 1) hx hb dX5_thenFamily_24 rfl ?_
      refine m_iV hC hK hP hS (met_error hT rfl (by decide)) cv_X5_76 rfl rfl hl.1 (Nat.le_of_ble_eq_true rfl) dX5_thenFamily_25 (by decide) (by decide) (fun r25 σ25 H locs p25 hP hS => ?_)
      refine hret _ _ ls _ _ _ hP hS dX5_thenFamily_28 ?_
      first | (rw [op_thenF, if_pos p1, if_pos p8, if_pos p17, cn_nI (by omega), cn_nI (by omega)]; refine ⟨p48, ?_⟩; rw [← tS_self (T := T)]; exact hT.S (hT.1.same (fun q hq => by rw [p61.1 q hq, p42.2 2 (by decide), p37.1 q hq])) (((p37.2.mono (by decide)).tr (p42.2.mono (by decide))).tr (p61.2.mono (by decide)))) | (rw [op_thenF, if_neg p1]; exact p25) | (rw [op_thenF, if_pos p1, if_neg p8]; exact p25) | (rw [op_thenF, if_pos p1, if_pos p8, if_neg p17]; exact p25)
  · refine l_ifeq_0 hx hb 23 dX5_thenFamily_4 rfl ?_
    refine lv_aload_n hx hb dX5_thenFamily_23 rfl (hl.at rfl) ?_
    refine lv_iconst (v := nI 1) hx hb dX5_thenFamily_24 rfl ?_
    refine m_iV hC hK hP hS (met_error hT rfl (by decide)) cv_X5_76 rfl rfl hl.1 (Nat.le_of_ble_eq_true rfl) dX5_thenFamily_25 (by decide) (by decide) (fun r25 σ25 H locs p25 hP hS => ?_)
    refine hret _ _ ls _ _ _ hP hS dX5_thenFamily_28 ?_
    first | (rw [op_thenF, if_pos p1, if_pos p8, if_pos p17, cn_nI (by omega), cn_nI (by omega)]; refine ⟨p48, ?_⟩; rw [← tS_self (T := T)]; exact hT.S (hT.1.same (fun q hq => by rw [p61.1 q hq, p42.2 2 (by decide), p37.1 q hq])) (((p37.2.mono (by decide)).tr (p42.2.mono (by decide))).tr (p61.2.mono (by decide)))) | (rw [op_thenF, if_neg p1]; exact p25) | (rw [op_thenF, if_pos p1, if_neg p8]; exact p25) | (rw [op_thenF, if_pos p1, if_pos p8, if_neg p17]; exact p25)
theorem met_when {l : Launch} {D : va_G} {cA : Nat → ClassId} {b : Nat} {σ : Nat → Nat → Int32} {x y : Int32} {T : Tta} (hT : RT σ T) (hI : Inv (T 0)) (hH9 : hrv (T 0) ≤ 9999) : MI l D cA b yX5_when cX5_when 5 (some .int) (7) [.ref b, .int x, .int y] σ (fun r τ => r = (op_when x y T).1 ∧ RT τ (op_when x y T).2) := by
  refine Ci.of rfl (by decide +kernel) (Nat.le_of_ble_eq_true rfl) ?_
  intro p e s m args below meth c Q hC hK hP hret ls hl
  have hx := hC.1
  have hb := hC.2.1
  have hown := hC.2.2.2.1
  have hts := hC.2.2.2.2
  have hS : va_S (mA b) s.heap s.heap [] := va_S.rf
  refine lv_iload_n hx hb dX5_when_0 rfl (hl.at rfl) ?_
  refine m_sS hC (met_isFamily ) cs_X5_83 rfl rfl hl.1 (Nat.le_of_ble_eq_true rfl) dX5_when_1 (by decide) (by decide) (fun r1 p1 => ?_)
  rcases p1 with ⟨rfl, p1⟩ | ⟨rfl, p1⟩
  · obtain ⟨f, hf, rfl⟩ := in_nI p1
    refine l_ifeq_1 hx hb 14 dX5_when_4 rfl ?_
    refine lv_iload_n hx hb dX5_when_7 rfl (hl.at rfl) ?_
    refine m_sS hC (met_isAhead ) cs_X5_223 rfl rfl hl.1 (Nat.le_of_ble_eq_true rfl) dX5_when_8 (by decide) (by decide) (fun r8 p8 => ?_)
    rcases p8 with ⟨rfl, p8⟩ | ⟨rfl, p8⟩
    · obtain ⟨N, hN, rfl⟩ := in_nI p8
      refine l_ifne_1 hx hb 20 dX5_when_11 rfl ?_
      refine lv_aload_n hx hb dX5_when_20 rfl (hl.at rfl) ?_
      refine mg_s hC hK hP dX5_when_21 ?_
      refine lv_aload_n hx hb dX5_when_24 rfl (hl.at rfl) ?_
      refine mg_put hC hK hP dX5_when_25 ?_
      refine m_vS hC hK hP hS (met_carry (i := 0) (j := 2) (by decide) (by decide) (by decide)) cs_X5_226 rfl rfl hl.1 (Nat.le_of_ble_eq_true rfl) dX5_when_28 (by decide) (by decide) (fun σ28 H locs p28 hP hS => ?_)
      obtain ⟨K0, hK0⟩ : ∃ K0, K0 = wn (T 0) f N 0 := ⟨_, rfl⟩
      refine lv_iconst (v := nI 0) hx hb dX5_when_31 rfl ?_
      refine l_istore_n hx hb 3 dX5_when_32 rfl hl rfl (fun ls hl => ?_)
      have loop : ∀ (n k : Nat) (τ : Sta), k ≤ N → N + 1 ≤ k + n → wn (T 0) f (N - k) k = K0 → RM (τ 0) (hrN (T 0) k) → Kp [0, 5, 6, 7, 8, 9, 20, 21] σ28 τ → ∀ (H : Heap) (locs : List Loc) (ls : Array Slot), MWP D cA b τ H → va_S (mA b) s.heap H locs → lh ls [some (.ref b), some (.int (nI f)), some (.int (nI N)), some (.int (nI k)), none] → W p l e (rmG 7 0 0) s m args below meth c H locs 0 0 Q (F0 m 33 ls []) := by
        intro n
        induction n with
        | zero => intro k τ h1 h2; exact absurd h2 (by omega)
        | succ n ih =>
          intro k τ h1 h2 hw hRk hk H locs ls hP hS hl
          obtain ⟨hIk, -, -⟩ := hrN_inv hI k (by omega)
          refine lv_iload_n hx hb dX5_when_33 rfl (hl.at rfl) ?_
          refine lv_iload_n hx hb dX5_when_34 rfl (hl.at rfl) ?_
          refine l_geN hx hb 56 dX5_when_35 rfl (by omega) (by omega) (fun c35 => ?_) (fun c35 => ?_)
          · have ek : k = K0 := by rw [← hw, show N - k = 0 by omega, wn]
            refine lv_aload_n hx hb dX5_when_56 rfl (hl.at rfl) ?_
            refine lv_iload_n hx hb dX5_when_57 rfl (hl.at rfl) ?_
            refine m_pV hC hK hP (met_isPaid (f := f) hRk rfl (by omega)) cv_X5_87 rfl rfl hl.1 (Nat.le_of_ble_eq_true rfl) dX5_when_58 (by decide) (by decide) (fun r58 p58 => ?_)
            rcases p58 with ⟨rfl, p58⟩ | ⟨rfl, p58⟩
            · refine l_istore hx hb 4 dX5_when_61 hl rfl (fun ls hl => ?_)
              refine lv_aload_n hx hb dX5_when_63 rfl (hl.at rfl) ?_
              refine mg_put hC hK hP dX5_when_64 ?_
              refine lv_aload_n hx hb dX5_when_67 rfl (hl.at rfl) ?_
              refine mg_s hC hK hP dX5_when_68 ?_
              refine m_vS hC hK hP hS (met_carry (i := 2) (j := 0) (by decide) (by decide) (by decide)) cs_X5_226 rfl rfl hl.1 (Nat.le_of_ble_eq_true rfl) dX5_when_71 (by decide) (by decide) (fun σ71 H locs p71 hP hS => ?_)
              refine lv_iload hx hb dX5_when_74 (hl.at rfl) ?_
              refine l_ifeq_1 hx hb 83 dX5_when_76 rfl ?_
              refine lv_iload_n hx hb dX5_when_79 rfl (hl.at rfl) ?_
              refine lv_goto (tgt := 88) hx hb dX5_when_80 rfl ?_
              refine hret _ _ ls _ _ _ hP hS dX5_when_88 ?_
              first | (rw [op_when, if_pos p1, if_pos p8, cn_nI (by omega), cn_nI (by omega), ← hK0, ← ek, if_pos p58]; refine ⟨rfl, ?_⟩; rw [← tS_self (T := T)]; refine hT.S (hT.1.same (fun q hq => by rw [p71.1 q hq, hk 2 (by decide), p28.1 q hq])) (((p28.2.mono (by decide)).tr (hk.mono (by decide))).tr (p71.2.mono (by decide)))) | (rw [op_when, if_pos p1, if_pos p8, cn_nI (by omega), cn_nI (by omega), ← hK0, ← ek, if_neg p58]; exact p85) | (rw [op_when, if_neg p1]; exact p16) | (rw [op_when, if_pos p1, if_neg p8]; exact p16)
            · refine l_istore hx hb 4 dX5_when_61 hl rfl (fun ls hl => ?_)
              refine lv_aload_n hx hb dX5_when_63 rfl (hl.at rfl) ?_
              refine mg_put hC hK hP dX5_when_64 ?_
              refine lv_aload_n hx hb dX5_when_67 rfl (hl.at rfl) ?_
              refine mg_s hC hK hP dX5_when_68 ?_
              refine m_vS hC hK hP hS (met_carry (i := 2) (j := 0) (by decide) (by decide) (by decide)) cs_X5_226 rfl rfl hl.1 (Nat.le_of_ble_eq_true rfl) dX5_when_71 (by decide) (by decide) (fun σ71 H locs p71 hP hS => ?_)
              refine lv_iload hx hb dX5_when_74 (hl.at rfl) ?_
              refine l_ifeq_0 hx hb 83 dX5_when_76 rfl ?_
              refine lv_aload_n hx hb dX5_when_83 rfl (hl.at rfl) ?_
              refine lv_iconst (v := nI 2) hx hb dX5_when_84 rfl ?_
              refine m_iV hC hK hP hS (met_error (T := T) (by rw [← tS_self (T := T)]; exact hT.S (hT.1.same (fun q hq => by rw [p71.1 q hq, hk 2 (by decide), p28.1 q hq])) (((p28.2.mono (by decide)).tr (hk.mono (by decide))).tr (p71.2.mono (by decide)))) rfl (by decide)) cv_X5_76 rfl rfl hl.1 (Nat.le_of_ble_eq_true rfl) dX5_when_85 (by decide) (by decide) (fun r85 σ85 H locs p85 hP hS => ?_)
              refine hret _ _ ls _ _ _ hP hS dX5_when_88 ?_
              first | (rw [op_when, if_pos p1, if_pos p8, cn_nI (by omega), cn_nI (by omega), ← hK0, ← ek, if_pos p58]; refine ⟨rfl, ?_⟩; rw [← tS_self (T := T)]; refine hT.S (hT.1.same (fun q hq => by rw [p71.1 q hq, hk 2 (by decide), p28.1 q hq])) (((p28.2.mono (by decide)).tr (hk.mono (by decide))).tr (p71.2.mono (by decide)))) | (rw [op_when, if_pos p1, if_pos p8, cn_nI (by omega), cn_nI (by omega), ← hK0, ← ek, if_neg p58]; exact p85) | (rw [op_when, if_neg p1]; exact p16) | (rw [op_when, if_pos p1, if_neg p8]; exact p16)
          · refine lv_aload_n hx hb dX5_when_38 rfl (hl.at rfl) ?_
            refine lv_iload_n hx hb dX5_when_39 rfl (hl.at rfl) ?_
            refine m_pV hC hK hP (met_isPaid (f := f) hRk rfl (by omega)) cv_X5_87 rfl rfl hl.1 (Nat.le_of_ble_eq_true rfl) dX5_when_40 (by decide) (by decide) (fun r40 p40 => ?_)
            rcases p40 with ⟨rfl, p40⟩ | ⟨rfl, p40⟩
            · have ek : k = K0 := by rw [← hw, show N - k = (N - (k + 1)) + 1 by omega, wn, if_pos p40]
              refine l_ifne_1 hx hb 56 dX5_when_43 rfl ?_
              refine lv_aload_n hx hb dX5_when_56 rfl (hl.at rfl) ?_
              refine lv_iload_n hx hb dX5_when_57 rfl (hl.at rfl) ?_
              refine m_pV hC hK hP (met_isPaid (f := f) hRk rfl (by omega)) cv_X5_87 rfl rfl hl.1 (Nat.le_of_ble_eq_true rfl) dX5_when_58 (by decide) (by decide) (fun r58 p58 => ?_)
              rcases p58 with ⟨rfl, p58⟩ | ⟨rfl, p58⟩
              · refine l_istore hx hb 4 dX5_when_61 hl rfl (fun ls hl => ?_)
                refine lv_aload_n hx hb dX5_when_63 rfl (hl.at rfl) ?_
                refine mg_put hC hK hP dX5_when_64 ?_
                refine lv_aload_n hx hb dX5_when_67 rfl (hl.at rfl) ?_
                refine mg_s hC hK hP dX5_when_68 ?_
                refine m_vS hC hK hP hS (met_carry (i := 2) (j := 0) (by decide) (by decide) (by decide)) cs_X5_226 rfl rfl hl.1 (Nat.le_of_ble_eq_true rfl) dX5_when_71 (by decide) (by decide) (fun σ71 H locs p71 hP hS => ?_)
                refine lv_iload hx hb dX5_when_74 (hl.at rfl) ?_
                refine l_ifeq_1 hx hb 83 dX5_when_76 rfl ?_
                refine lv_iload_n hx hb dX5_when_79 rfl (hl.at rfl) ?_
                refine lv_goto (tgt := 88) hx hb dX5_when_80 rfl ?_
                refine hret _ _ ls _ _ _ hP hS dX5_when_88 ?_
                first | (rw [op_when, if_pos p1, if_pos p8, cn_nI (by omega), cn_nI (by omega), ← hK0, ← ek, if_pos p58]; refine ⟨rfl, ?_⟩; rw [← tS_self (T := T)]; refine hT.S (hT.1.same (fun q hq => by rw [p71.1 q hq, hk 2 (by decide), p28.1 q hq])) (((p28.2.mono (by decide)).tr (hk.mono (by decide))).tr (p71.2.mono (by decide)))) | (rw [op_when, if_pos p1, if_pos p8, cn_nI (by omega), cn_nI (by omega), ← hK0, ← ek, if_neg p58]; exact p85) | (rw [op_when, if_neg p1]; exact p16) | (rw [op_when, if_pos p1, if_neg p8]; exact p16)
              · refine l_istore hx hb 4 dX5_when_61 hl rfl (fun ls hl => ?_)
                refine lv_aload_n hx hb dX5_when_63 rfl (hl.at rfl) ?_
                refine mg_put hC hK hP dX5_when_64 ?_
                refine lv_aload_n hx hb dX5_when_67 rfl (hl.at rfl) ?_
                refine mg_s hC hK hP dX5_when_68 ?_
                refine m_vS hC hK hP hS (met_carry (i := 2) (j := 0) (by decide) (by decide) (by decide)) cs_X5_226 rfl rfl hl.1 (Nat.le_of_ble_eq_true rfl) dX5_when_71 (by decide) (by decide) (fun σ71 H locs p71 hP hS => ?_)
                refine lv_iload hx hb dX5_when_74 (hl.at rfl) ?_
                refine l_ifeq_0 hx hb 83 dX5_when_76 rfl ?_
                refine lv_aload_n hx hb dX5_when_83 rfl (hl.at rfl) ?_
                refine lv_iconst (v := nI 2) hx hb dX5_when_84 rfl ?_
                refine m_iV hC hK hP hS (met_error (T := T) (by rw [← tS_self (T := T)]; exact hT.S (hT.1.same (fun q hq => by rw [p71.1 q hq, hk 2 (by decide), p28.1 q hq])) (((p28.2.mono (by decide)).tr (hk.mono (by decide))).tr (p71.2.mono (by decide)))) rfl (by decide)) cv_X5_76 rfl rfl hl.1 (Nat.le_of_ble_eq_true rfl) dX5_when_85 (by decide) (by decide) (fun r85 σ85 H locs p85 hP hS => ?_)
                refine hret _ _ ls _ _ _ hP hS dX5_when_88 ?_
                first | (rw [op_when, if_pos p1, if_pos p8, cn_nI (by omega), cn_nI (by omega), ← hK0, ← ek, if_pos p58]; refine ⟨rfl, ?_⟩; rw [← tS_self (T := T)]; refine hT.S (hT.1.same (fun q hq => by rw [p71.1 q hq, hk 2 (by decide), p28.1 q hq])) (((p28.2.mono (by decide)).tr (hk.mono (by decide))).tr (p71.2.mono (by decide)))) | (rw [op_when, if_pos p1, if_pos p8, cn_nI (by omega), cn_nI (by omega), ← hK0, ← ek, if_neg p58]; exact p85) | (rw [op_when, if_neg p1]; exact p16) | (rw [op_when, if_pos p1, if_neg p8]; exact p16)
            · refine l_ifne_0 hx hb 56 dX5_when_43 rfl ?_
              refine lv_aload_n hx hb dX5_when_46 rfl (hl.at rfl) ?_
              refine m_vV hC hK hP hS (met_hour (S := hrN (T 0) k) hRk hIk) cv_X5_209 rfl rfl hl.1 (Nat.le_of_ble_eq_true rfl) dX5_when_47 (by decide) (by decide) (fun σ47 H locs p47 hP hS => ?_)
              refine l_inc1 hx hb 3 dX5_when_50 hl rfl rfl (fun ls hl => ?_)
              refine lv_goto (tgt := 33) hx hb dX5_when_53 rfl ?_
              exact ih (k + 1) σ47 (by omega) (by omega) (by rw [show N - k = (N - (k + 1)) + 1 by omega, wn, if_neg p40] at hw; exact hw) p47.1 (hk.tr p47.2.1) _ _ _ hP hS hl
      exact loop (N + 1) 0 σ28 (Nat.zero_le _) (by omega) hK0.symm (by rw [p28.2 0 (by decide)]; exact hT.1) Kp.rf _ _ _ hP hS hl
    · refine l_ifne_0 hx hb 20 dX5_when_11 rfl ?_
      refine lv_aload_n hx hb dX5_when_14 rfl (hl.at rfl) ?_
      refine lv_iconst (v := nI 1) hx hb dX5_when_15 rfl ?_
      refine m_iV hC hK hP hS (met_error hT rfl (by decide)) cv_X5_76 rfl rfl hl.1 (Nat.le_of_ble_eq_true rfl) dX5_when_16 (by decide) (by decide) (fun r16 σ16 H locs p16 hP hS => ?_)
      refine hret _ _ ls _ _ _ hP hS dX5_when_19 ?_
      first | (rw [op_when, if_pos p1, if_pos p8, cn_nI (by omega), cn_nI (by omega), ← hK0, ← ek, if_pos p58]; refine ⟨rfl, ?_⟩; rw [← tS_self (T := T)]; refine hT.S (hT.1.same (fun q hq => by rw [p71.1 q hq, hk 2 (by decide), p28.1 q hq])) (((p28.2.mono (by decide)).tr (hk.mono (by decide))).tr (p71.2.mono (by decide)))) | (rw [op_when, if_pos p1, if_pos p8, cn_nI (by omega), cn_nI (by omega), ← hK0, ← ek, if_neg p58]; exact p85) | (rw [op_when, if_neg p1]; exact p16) | (rw [op_when, if_pos p1, if_neg p8]; exact p16)
  · refine l_ifeq_0 hx hb 14 dX5_when_4 rfl ?_
    refine lv_aload_n hx hb dX5_when_14 rfl (hl.at rfl) ?_
    refine lv_iconst (v := nI 1) hx hb dX5_when_15 rfl ?_
    refine m_iV hC hK hP hS (met_error hT rfl (by decide)) cv_X5_76 rfl rfl hl.1 (Nat.le_of_ble_eq_true rfl) dX5_when_16 (by decide) (by decide) (fun r16 σ16 H locs p16 hP hS => ?_)
    refine hret _ _ ls _ _ _ hP hS dX5_when_19 ?_
    first | (rw [op_when, if_pos p1, if_pos p8, cn_nI (by omega), cn_nI (by omega), ← hK0, ← ek, if_pos p58]; refine ⟨rfl, ?_⟩; rw [← tS_self (T := T)]; refine hT.S (hT.1.same (fun q hq => by rw [p71.1 q hq, hk 2 (by decide), p28.1 q hq])) (((p28.2.mono (by decide)).tr (hk.mono (by decide))).tr (p71.2.mono (by decide)))) | (rw [op_when, if_pos p1, if_pos p8, cn_nI (by omega), cn_nI (by omega), ← hK0, ← ek, if_neg p58]; exact p85) | (rw [op_when, if_neg p1]; exact p16) | (rw [op_when, if_pos p1, if_neg p8]; exact p16)
theorem met_opens_2 {l : Launch} {D : va_G} {cA : Nat → ClassId} {b : Nat} {σ : Nat → Nat → Int32} {S : Sta} {x : Int32} (hR : RM (σ 0) S) (hI : Inv S) : MV l D cA b yX5_opens_2 cX5_opens_2 3 (1) [.ref b, .int x] σ (fun τ => RM (τ 0) (sp_op S x) ∧ Kp [0] σ τ) := by
  refine Cv.of (by decide +kernel) (Nat.le_of_ble_eq_true rfl) ?_
  intro p e s m args below meth c Q hC hK hP hret ls hl
  have hx := hC.1
  have hb := hC.2.1
  have hown := hC.2.2.2.1
  have hts := hC.2.2.2.2
  have hS : va_S (mA b) s.heap s.heap [] := va_S.rf
  obtain ⟨eN, hN⟩ := inv_wh hI
  refine lv_iconst (v := nI 0) hx hb dX5_opens_2_0 rfl ?_
  refine l_istore_n hx hb 2 dX5_opens_2_1 rfl hl rfl (fun ls hl => ?_)
  have loop : ∀ (n k : Nat) (τ : Sta), k ≤ wh S → wh S + 1 ≤ k + n → RM (τ 0) (opn S x k) → Kp [0] σ τ → ∀ (H : Heap) (locs : List Loc) (ls : Array Slot), MWP D cA b τ H → va_S (mA b) s.heap H locs → lh ls [some (.ref b), some (.int x), some (.int (nI k))] → W p l e (rmG 1 0 0) s m args below meth c H locs 0 0 Q (F0 m 2 ls []) := by
    intro n
    induction n with
    | zero => intro k τ h1 h2; exact absurd h2 (by omega)
    | succ n ih =>
      intro k τ h1 h2 hRk hk H locs ls hP hS hl
      refine lv_iload_n hx hb dX5_opens_2_2 rfl (hl.at rfl) ?_
      refine lv_aload_n hx hb dX5_opens_2_3 rfl (hl.at rfl) ?_
      refine mg_s hC hK hP dX5_opens_2_4 ?_
      refine lv_iconst (v := nI 0) hx hb dX5_opens_2_7 rfl ?_
      refine m_ld 0 _ (by decide) hC hK hP (rfl) (show _ < 449 by omega) dX5_opens_2_8 ?_
      refine l_top _ ((hRk.at 0 0 (n := 0) (by decide) rfl).trans ((congrFun (opn_row (by decide) k) 0).trans eN)) ?_
      refine l_geN hx hb 29 dX5_opens_2_9 rfl (by omega) (by omega) (fun c9 => ?_) (fun c9 => ?_)
      · have e5 : k = wh S := by omega
        refine hret _ _ ls _ _ hP hS dX5_opens_2_29 ?_
        exact ⟨by rw [sp_op, ← e5]; exact hRk, hk⟩
      · refine lv_aload_n hx hb dX5_opens_2_12 rfl (hl.at rfl) ?_
        refine lv_iload_n hx hb dX5_opens_2_13 rfl (hl.at rfl) ?_
        refine lv_iconst (v := nI 4) hx hb dX5_opens_2_14 rfl ?_
        refine lv_iload_n hx hb dX5_opens_2_15 rfl (hl.at rfl) ?_
        refine lv_iload_n hx hb dX5_opens_2_16 rfl (hl.at rfl) ?_
        refine lv_ishr hx hb dX5_opens_2_17 ?_
        refine lv_iconst (v := nI 1) hx hb dX5_opens_2_18 rfl ?_
        refine lv_iand hx hb dX5_opens_2_19 ?_
        refine m_vV hC hK hP hS (met_lays1 (w := k) (q := 4) hRk rfl rfl (by omega) (by decide)) cv_X5_96 rfl rfl hl.1 (Nat.le_of_ble_eq_true rfl) dX5_opens_2_20 (by decide) (by decide) (fun σ20 H locs p20 hP hS => ?_)
        refine l_inc1 hx hb 2 dX5_opens_2_23 hl rfl rfl (fun ls hl => ?_)
        refine lv_goto (tgt := 2) hx hb dX5_opens_2_26 rfl ?_
        exact ih (k + 1) σ20 (by omega) (by omega) p20.1 (hk.tr p20.2) _ _ _ hP hS hl
  exact loop (wh S + 1) 0 σ (Nat.zero_le _) (by omega) hR Kp.rf _ _ _ hP hS hl
theorem met_areAllPaid {l : Launch} {D : va_G} {cA : Nat → ClassId} {b : Nat} {σ : Nat → Nat → Int32} {S : Sta} (hR : RM (σ 0) S) : MP l D cA b yX5_areAllPaid cX5_areAllPaid 3 (some .boolean) (2) [.ref b] σ (bz (apd S)) := by
  refine Cp.ofz rfl (by decide +kernel) (Nat.le_of_ble_eq_true rfl) ?_
  intro p e s m args below meth c Q hC hK hP hret ls hl
  have hx := hC.1
  have hb := hC.2.1
  have hown := hC.2.2.2.1
  have hts := hC.2.2.2.2
  refine lv_iconst (v := nI 1) hx hb dX5_areAllPaid_0 rfl ?_
  refine l_istore_n hx hb 1 dX5_areAllPaid_1 rfl hl rfl (fun ls hl => ?_)
  refine lv_iconst (v := nI 0) hx hb dX5_areAllPaid_2 rfl ?_
  refine l_istore_n hx hb 2 dX5_areAllPaid_3 rfl hl rfl (fun ls hl => ?_)
  have loop : ∀ (n k : Nat) (v : Int32), k ≤ 5 → 6 ≤ k + n → bz (apk S k) v → ∀ ls : Array Slot, lh ls [some (.ref b), some (.int v), some (.int (nI k))] → W p l e (rmG 2 0 0) s m args below meth c s.heap [] 0 0 Q (F0 m 4 ls []) := by
    intro n
    induction n with
    | zero => intro k v h1 h2; exact absurd h2 (by omega)
    | succ n ih =>
      intro k v h1 h2 hv ls hl
      refine lv_iload_n hx hb dX5_areAllPaid_4 rfl (hl.at rfl) ?_
      refine lv_iconst (v := nI 5) hx hb dX5_areAllPaid_5 rfl ?_
      refine l_geN hx hb 33 dX5_areAllPaid_6 rfl (by omega) (by omega) (fun c6 => ?_) (fun c6 => ?_)
      · refine lv_iload_n hx hb dX5_areAllPaid_33 rfl (hl.at rfl) ?_
        refine hret ls _ _ dX5_areAllPaid_34 (by rcases hv with ⟨h, _⟩ | ⟨h, _⟩; exact Or.inr h; exact Or.inl h) ?_
        have e5 : k = 5 := by omega
        subst e5
        rcases hv with ⟨h, h3⟩ | ⟨h, h3⟩
        · exact Or.inl ⟨h, apk_5.mp h3⟩
        · exact Or.inr ⟨h, fun z => h3 (apk_5.mpr z)⟩
      · refine lv_iload_n hx hb dX5_areAllPaid_9 rfl (hl.at rfl) ?_
        refine lv_if_eq (tgt := 25) hx hb dX5_areAllPaid_10 rfl (fun c10 => ?_) (fun c10 => ?_)
        · have hv2 : ¬ apk S k := by rcases hv with ⟨h, h3⟩ | ⟨h, h3⟩; (rw [h] at c10; exact absurd c10 (by decide)); exact h3
          refine lv_iconst (v := nI 0) hx hb dX5_areAllPaid_25 rfl ?_
          refine l_istore_n hx hb 1 dX5_areAllPaid_26 rfl hl rfl (fun ls hl => ?_)
          refine l_inc1 hx hb 2 dX5_areAllPaid_27 hl rfl rfl (fun ls hl => ?_)
          refine lv_goto (tgt := 4) hx hb dX5_areAllPaid_30 rfl ?_
          first | exact ih (k + 1) _ (by omega) (by omega) (Or.inl ⟨rfl, hv2, p15⟩) ls hl | exact ih (k + 1) _ (by omega) (by omega) (Or.inr ⟨rfl, fun z => p15 z.2⟩) ls hl | exact ih (k + 1) _ (by omega) (by omega) (Or.inr ⟨rfl, fun z => hv2 z.1⟩) ls hl
        · have hv2 : apk S k := by rcases hv with ⟨h, h3⟩ | ⟨h, h3⟩; exact h3; exact absurd h c10
          refine lv_aload_n hx hb dX5_areAllPaid_13 rfl (hl.at rfl) ?_
          refine lv_iload_n hx hb dX5_areAllPaid_14 rfl (hl.at rfl) ?_
          refine m_pV hC hK hP (met_isPaid (f := k) hR rfl (by omega)) cv_X5_87 rfl rfl hl.1 (Nat.le_of_ble_eq_true rfl) dX5_areAllPaid_15 (by decide) (by decide) (fun r15 p15 => ?_)
          rcases p15 with ⟨rfl, p15⟩ | ⟨rfl, p15⟩
          · refine l_ifeq_1 hx hb 25 dX5_areAllPaid_18 rfl ?_
            refine lv_iconst (v := nI 1) hx hb dX5_areAllPaid_21 rfl ?_
            refine lv_goto (tgt := 26) hx hb dX5_areAllPaid_22 rfl ?_
            refine l_istore_n hx hb 1 dX5_areAllPaid_26 rfl hl rfl (fun ls hl => ?_)
            refine l_inc1 hx hb 2 dX5_areAllPaid_27 hl rfl rfl (fun ls hl => ?_)
            refine lv_goto (tgt := 4) hx hb dX5_areAllPaid_30 rfl ?_
            first | exact ih (k + 1) _ (by omega) (by omega) (Or.inl ⟨rfl, hv2, p15⟩) ls hl | exact ih (k + 1) _ (by omega) (by omega) (Or.inr ⟨rfl, fun z => p15 z.2⟩) ls hl | exact ih (k + 1) _ (by omega) (by omega) (Or.inr ⟨rfl, fun z => hv2 z.1⟩) ls hl
          · refine l_ifeq_0 hx hb 25 dX5_areAllPaid_18 rfl ?_
            refine lv_iconst (v := nI 0) hx hb dX5_areAllPaid_25 rfl ?_
            refine l_istore_n hx hb 1 dX5_areAllPaid_26 rfl hl rfl (fun ls hl => ?_)
            refine l_inc1 hx hb 2 dX5_areAllPaid_27 hl rfl rfl (fun ls hl => ?_)
            refine lv_goto (tgt := 4) hx hb dX5_areAllPaid_30 rfl ?_
            first | exact ih (k + 1) _ (by omega) (by omega) (Or.inl ⟨rfl, hv2, p15⟩) ls hl | exact ih (k + 1) _ (by omega) (by omega) (Or.inr ⟨rfl, fun z => p15 z.2⟩) ls hl | exact ih (k + 1) _ (by omega) (by omega) (Or.inr ⟨rfl, fun z => hv2 z.1⟩) ls hl
  exact loop 6 0 _ (by omega) (by omega) (Or.inl ⟨rfl, trivial⟩) ls hl
theorem cv_X5_230 : CV RX5 RX5 230 yX5_opens_2 cX5_opens_2 3 (none) 1 := ⟨lw_V q1646 q1648 qs70 q88 q1649, by decide +kernel⟩
theorem cv_X5_232 : CV RX5 RX5 232 yX5_areAllPaid cX5_areAllPaid 3 (some .boolean) 0 := ⟨lw_V q1650 q1652 qs71 q88 q1653, by decide +kernel⟩
theorem met_sluices {l : Launch} {D : va_G} {cA : Nat → ClassId} {b : Nat} {σ : Nat → Nat → Int32} {x0 q : Int32} {T : Tta} (hT : RT σ T) (hI : Inv (T 0)) (hH9 : hrv (T 0) ≤ 9999) : MI l D cA b yX5_sluices cX5_sluices 8 (some .int) (8) [.ref b, .int x0, .int q] σ (fun r τ => r = (op_sluices x0 q T).1 ∧ RT τ (op_sluices x0 q T).2) := by
  refine Ci.of rfl (by decide +kernel) (Nat.le_of_ble_eq_true rfl) ?_
  intro p e s m args below meth c Q hC hK hP hret ls hl
  have hx := hC.1
  have hb := hC.2.1
  have hown := hC.2.2.2.1
  have hts := hC.2.2.2.2
  have hS : va_S (mA b) s.heap s.heap [] := va_S.rf
  obtain ⟨eN, hN8⟩ := inv_wh hI
  have hpw := pow8 hN8
  refine lv_iload_n hx hb dX5_sluices_0 rfl (hl.at rfl) ?_
  refine lv_iconst (v := nI 1) hx hb dX5_sluices_1 rfl ?_
  refine lv_bipush (v := nI 6) hx hb dX5_sluices_2 rfl ?_
  refine m_sS hC (met_in ) cs_X5_56 rfl rfl hl.1 (Nat.le_of_ble_eq_true rfl) dX5_sluices_4 (by decide) (by decide) (fun r4 p4 => ?_)
  rcases p4 with ⟨rfl, p4⟩ | ⟨rfl, p4⟩
  · obtain ⟨N, hN1, hN, rfl⟩ := in_nI1 p4
    refine l_ifeq_1 hx hb 19 dX5_sluices_7 rfl ?_
    refine lv_iload_n hx hb dX5_sluices_10 rfl (hl.at rfl) ?_
    refine lv_iconst (v := nI 0) hx hb dX5_sluices_11 rfl ?_
    refine lv_iconst (v := nI 1) hx hb dX5_sluices_12 rfl ?_
    refine m_sS hC (met_in ) cs_X5_56 rfl rfl hl.1 (Nat.le_of_ble_eq_true rfl) dX5_sluices_13 (by decide) (by decide) (fun r13 p13 => ?_)
    rcases p13 with ⟨rfl, p13⟩ | ⟨rfl, p13⟩
    · obtain ⟨qq, hqq, rfl⟩ := in_nI p13
      refine l_ifne_1 hx hb 25 dX5_sluices_16 rfl ?_
      refine lv_iconst (v := -1) hx hb dX5_sluices_25 rfl ?_
      refine l_istore_n hx hb 3 dX5_sluices_26 rfl hl rfl (fun ls hl => ?_)
      refine lv_iconst (v := nI 0) hx hb dX5_sluices_27 rfl ?_
      refine l_istore hx hb 4 dX5_sluices_28 hl rfl (fun ls hl => ?_)
      refine lv_iconst (v := nI 0) hx hb dX5_sluices_30 rfl ?_
      refine l_istore hx hb 5 dX5_sluices_31 hl rfl (fun ls hl => ?_)
      have outer : ∀ (n x : Nat) (τ : Sta), x ≤ 2 ^ wh (T 0) → 2 ^ wh (T 0) + 1 ≤ x + n → RM (τ 0) (T 0) → Kp PL σ τ → ∀ (H : Heap) (locs : List Loc) (ls : Array Slot), MWP D cA b τ H → va_S (mA b) s.heap H locs → lh ls [some (.ref b), some (.int (nI N)), some (.int (nI qq)), some (.int (sl_ (T 0) N x).1), some (.int (sl_ (T 0) N x).2), some (.int (nI x)), none, none] → W p l e (rmG 8 0 0) s m args below meth c H locs 0 0 Q (F0 m 33 ls []) := by
        intro n
        induction n with
        | zero => intro x τ h1 h2; exact absurd h2 (by omega)
        | succ n ih =>
          intro x τ h1 h2 hRk hk H locs ls hP hS hl
          refine lv_iload hx hb dX5_sluices_33 (hl.at rfl) ?_
          refine lv_iconst (v := nI 1) hx hb dX5_sluices_35 rfl ?_
          refine lv_aload_n hx hb dX5_sluices_36 rfl (hl.at rfl) ?_
          refine mg_s hC hK hP dX5_sluices_37 ?_
          refine lv_iconst (v := nI 0) hx hb dX5_sluices_40 rfl ?_
          refine m_ld 0 _ (by decide) hC hK hP (rfl) (show _ < 449 by omega) dX5_sluices_41 ?_
          refine l_top _ ((hRk.at 0 0 (n := 0) (by decide) rfl).trans eN) ?_
          refine lv_ishl hx hb dX5_sluices_42 ?_
          refine l_top _ (shl1 hN8) ?_
          refine l_geN hx hb 137 dX5_sluices_43 rfl (by omega) (by omega) (fun c43 => ?_) (fun c43 => ?_)
          · have e5 : x = 2 ^ wh (T 0) := by omega
            refine lv_iload_n hx hb dX5_sluices_137 rfl (hl.at rfl) ?_
            refine lv_iconst (v := -1) hx hb dX5_sluices_138 rfl ?_
            refine lv_icmp_ne (tgt := 150) hx hb dX5_sluices_139 rfl (fun c139 => ?_) (fun c139 => ?_)
            · refine lv_iload_n hx hb dX5_sluices_150 rfl (hl.at rfl) ?_
              refine lv_if_ne (tgt := 158) hx hb dX5_sluices_151 rfl (fun c151 => ?_) (fun c151 => ?_)
              · refine lv_iload hx hb dX5_sluices_158 (hl.at rfl) ?_
                refine hret _ _ ls _ _ _ hP hS dX5_sluices_160 ?_
                first | (rw [op_sluices, if_pos p4, if_pos p13, cn_nI (by omega), ← e5, if_pos c139]; exact p144) | (rw [op_sluices, if_pos p4, if_pos p13, cn_nI (by omega), ← e5, if_neg c139, if_pos c151]; refine ⟨rfl, ?_⟩; rw [← tS_self (T := T)]; exact hT.S hRk hk) | (rw [op_sluices, if_pos p4, if_pos p13, cn_nI (by omega), ← e5, if_neg c139, if_neg c151]; refine ⟨rfl, ?_⟩; rw [← tS_self (T := T)]; exact hT.S hRk hk) | (rw [op_sluices, if_neg p4]; exact p21) | (rw [op_sluices, if_pos p4, if_neg p13]; exact p21)
              · refine lv_iload_n hx hb dX5_sluices_154 rfl (hl.at rfl) ?_
                refine lv_goto (tgt := 160) hx hb dX5_sluices_155 rfl ?_
                refine hret _ _ ls _ _ _ hP hS dX5_sluices_160 ?_
                first | (rw [op_sluices, if_pos p4, if_pos p13, cn_nI (by omega), ← e5, if_pos c139]; exact p144) | (rw [op_sluices, if_pos p4, if_pos p13, cn_nI (by omega), ← e5, if_neg c139, if_pos c151]; refine ⟨rfl, ?_⟩; rw [← tS_self (T := T)]; exact hT.S hRk hk) | (rw [op_sluices, if_pos p4, if_pos p13, cn_nI (by omega), ← e5, if_neg c139, if_neg c151]; refine ⟨rfl, ?_⟩; rw [← tS_self (T := T)]; exact hT.S hRk hk) | (rw [op_sluices, if_neg p4]; exact p21) | (rw [op_sluices, if_pos p4, if_neg p13]; exact p21)
            · refine lv_aload_n hx hb dX5_sluices_142 rfl (hl.at rfl) ?_
              refine lv_iconst (v := nI 2) hx hb dX5_sluices_143 rfl ?_
              refine m_iV hC hK hP hS (met_error (T := T) (by rw [← tS_self (T := T)]; exact hT.S hRk hk) rfl (by decide)) cv_X5_76 rfl rfl hl.1 (Nat.le_of_ble_eq_true rfl) dX5_sluices_144 (by decide) (by decide) (fun r144 σ144 H locs p144 hP hS => ?_)
              refine lv_goto (tgt := 160) hx hb dX5_sluices_147 rfl ?_
              refine hret _ _ ls _ _ _ hP hS dX5_sluices_160 ?_
              first | (rw [op_sluices, if_pos p4, if_pos p13, cn_nI (by omega), ← e5, if_pos c139]; exact p144) | (rw [op_sluices, if_pos p4, if_pos p13, cn_nI (by omega), ← e5, if_neg c139, if_pos c151]; refine ⟨rfl, ?_⟩; rw [← tS_self (T := T)]; exact hT.S hRk hk) | (rw [op_sluices, if_pos p4, if_pos p13, cn_nI (by omega), ← e5, if_neg c139, if_neg c151]; refine ⟨rfl, ?_⟩; rw [← tS_self (T := T)]; exact hT.S hRk hk) | (rw [op_sluices, if_neg p4]; exact p21) | (rw [op_sluices, if_pos p4, if_neg p13]; exact p21)
          · refine lv_aload_n hx hb dX5_sluices_46 rfl (hl.at rfl) ?_
            refine mg_s hC hK hP dX5_sluices_47 ?_
            refine lv_aload_n hx hb dX5_sluices_50 rfl (hl.at rfl) ?_
            refine mg_put hC hK hP dX5_sluices_51 ?_
            refine m_vS hC hK hP hS (met_carry (i := 0) (j := 2) (by decide) (by decide) (by decide)) cs_X5_226 rfl rfl hl.1 (Nat.le_of_ble_eq_true rfl) dX5_sluices_54 (by decide) (by decide) (fun σ54 H locs p54 hP hS => ?_)
            refine lv_aload_n hx hb dX5_sluices_57 rfl (hl.at rfl) ?_
            refine lv_iload hx hb dX5_sluices_58 (hl.at rfl) ?_
            refine m_vV hC hK hP hS (met_opens_2 (S := T 0) (by rw [p54.2 0 (by decide)]; exact hRk) hI) cv_X5_230 rfl rfl hl.1 (Nat.le_of_ble_eq_true rfl) dX5_sluices_60 (by decide) (by decide) (fun σ60 H locs p60 hP hS => ?_)
            obtain ⟨hIo, hHo, hWo⟩ := op_inv hI (nI x)
            refine lv_iconst (v := nI 0) hx hb dX5_sluices_63 rfl ?_
            refine l_istore hx hb 6 dX5_sluices_64 hl rfl (fun ls hl => ?_)
            refine lv_iconst (v := nI 0) hx hb dX5_sluices_66 rfl ?_
            refine l_istore hx hb 7 dX5_sluices_67 hl rfl (fun ls hl => ?_)
            have inner : ∀ (m0 k : Nat) (υ : Sta), k ≤ N → N + 1 ≤ k + m0 → RM (υ 0) (hrN (sp_op (T 0) (nI x)) k) → Kp [0, 5, 6, 7, 8, 9, 20, 21] σ60 υ → ∀ (H : Heap) (locs : List Loc) (ls : Array Slot), MWP D cA b υ H → va_S (mA b) s.heap H locs → lh ls [some (.ref b), some (.int (nI N)), some (.int (nI qq)), some (.int (sl_ (T 0) N x).1), some (.int (sl_ (T 0) N x).2), some (.int (nI x)), some (.int (tkN (sp_op (T 0) (nI x)) k)), some (.int (nI k))] → W p l e (rmG 8 0 0) s m args below meth c H locs 0 0 Q (F0 m 69 ls []) := by
              intro m0
              induction m0 with
              | zero => intro k υ g1 g2; exact absurd g2 (by omega)
              | succ m0 ih2 =>
                intro k υ g1 g2 hRi gk H locs ls hP hS hl
                obtain ⟨hIk, -, -⟩ := hrN_inv hIo k (by omega)
                refine lv_iload hx hb dX5_sluices_69 (hl.at rfl) ?_
                refine lv_iload_n hx hb dX5_sluices_71 rfl (hl.at rfl) ?_
                refine l_geN hx hb 94 dX5_sluices_72 rfl (by omega) (by omega) (fun c72 => ?_) (fun c72 => ?_)
                · have e6 : k = N := by omega
                  subst e6
                  refine lv_aload_n hx hb dX5_sluices_94 rfl (hl.at rfl) ?_
                  refine m_pV hC hK hP (met_areAllPaid (S := hrN (sp_op (T 0) (nI x)) k) hRi) cv_X5_232 rfl rfl hl.1 (Nat.le_of_ble_eq_true rfl) dX5_sluices_95 (by decide) (by decide) (fun r95 p95 => ?_)
                  rcases p95 with ⟨rfl, p95⟩ | ⟨rfl, p95⟩
                  · refine l_ifeq_1 hx hb 120 dX5_sluices_98 rfl ?_
                    refine lv_iload_n hx hb dX5_sluices_101 rfl (hl.at rfl) ?_
                    refine lv_iconst (v := -1) hx hb dX5_sluices_102 rfl ?_
                    refine lv_icmp_eq (tgt := 113) hx hb dX5_sluices_103 rfl (fun c103 => ?_) (fun c103 => ?_)
                    · refine lv_iload hx hb dX5_sluices_113 (hl.at rfl) ?_
                      refine l_istore_n hx hb 3 dX5_sluices_115 rfl hl rfl (fun ls hl => ?_)
                      refine lv_iload hx hb dX5_sluices_116 (hl.at rfl) ?_
                      refine l_istore hx hb 4 dX5_sluices_118 hl rfl (fun ls hl => ?_)
                      refine lv_aload_n hx hb dX5_sluices_120 rfl (hl.at rfl) ?_
                      refine mg_put hC hK hP dX5_sluices_121 ?_
                      refine lv_aload_n hx hb dX5_sluices_124 rfl (hl.at rfl) ?_
                      refine mg_s hC hK hP dX5_sluices_125 ?_
                      refine m_vS hC hK hP hS (met_carry (i := 2) (j := 0) (by decide) (by decide) (by decide)) cs_X5_226 rfl rfl hl.1 (Nat.le_of_ble_eq_true rfl) dX5_sluices_128 (by decide) (by decide) (fun σ128 H locs p128 hP hS => ?_)
                      refine l_inc1 hx hb 5 dX5_sluices_131 hl rfl rfl (fun ls hl => ?_)
                      refine lv_goto (tgt := 33) hx hb dX5_sluices_134 rfl ?_
                      first | exact ih (x + 1) σ128 (by omega) (by omega) (hRk.same (fun q hq => by rw [p128.1 q hq, gk 2 (by decide), p60.2 2 (by decide), p54.1 q hq])) ((((hk.tr (p54.2.mono (by decide))).tr (p60.2.mono (by decide))).tr (gk.mono (by decide))).tr (p128.2.mono (by decide))) _ _ _ hP hS (by rw [sl_, if_pos p95, if_pos c103]; exact (hl.mask [true, true, true, true, true, true, false, false])) | exact ih (x + 1) σ128 (by omega) (by omega) (hRk.same (fun q hq => by rw [p128.1 q hq, gk 2 (by decide), p60.2 2 (by decide), p54.1 q hq])) ((((hk.tr (p54.2.mono (by decide))).tr (p60.2.mono (by decide))).tr (gk.mono (by decide))).tr (p128.2.mono (by decide))) _ _ _ hP hS (by rw [sl_, if_pos p95, if_neg c103, if_pos c110]; exact (hl.mask [true, true, true, true, true, true, false, false])) | exact ih (x + 1) σ128 (by omega) (by omega) (hRk.same (fun q hq => by rw [p128.1 q hq, gk 2 (by decide), p60.2 2 (by decide), p54.1 q hq])) ((((hk.tr (p54.2.mono (by decide))).tr (p60.2.mono (by decide))).tr (gk.mono (by decide))).tr (p128.2.mono (by decide))) _ _ _ hP hS (by rw [sl_, if_pos p95, if_neg c103, if_neg c110]; exact (hl.mask [true, true, true, true, true, true, false, false])) | exact ih (x + 1) σ128 (by omega) (by omega) (hRk.same (fun q hq => by rw [p128.1 q hq, gk 2 (by decide), p60.2 2 (by decide), p54.1 q hq])) ((((hk.tr (p54.2.mono (by decide))).tr (p60.2.mono (by decide))).tr (gk.mono (by decide))).tr (p128.2.mono (by decide))) _ _ _ hP hS (by rw [sl_, if_neg p95]; exact (hl.mask [true, true, true, true, true, true, false, false]))
                    · refine lv_iload hx hb dX5_sluices_106 (hl.at rfl) ?_
                      refine lv_iload hx hb dX5_sluices_108 (hl.at rfl) ?_
                      refine lv_icmp_ge (tgt := 120) hx hb dX5_sluices_110 rfl (fun c110 => ?_) (fun c110 => ?_)
                      · refine lv_aload_n hx hb dX5_sluices_120 rfl (hl.at rfl) ?_
                        refine mg_put hC hK hP dX5_sluices_121 ?_
                        refine lv_aload_n hx hb dX5_sluices_124 rfl (hl.at rfl) ?_
                        refine mg_s hC hK hP dX5_sluices_125 ?_
                        refine m_vS hC hK hP hS (met_carry (i := 2) (j := 0) (by decide) (by decide) (by decide)) cs_X5_226 rfl rfl hl.1 (Nat.le_of_ble_eq_true rfl) dX5_sluices_128 (by decide) (by decide) (fun σ128 H locs p128 hP hS => ?_)
                        refine l_inc1 hx hb 5 dX5_sluices_131 hl rfl rfl (fun ls hl => ?_)
                        refine lv_goto (tgt := 33) hx hb dX5_sluices_134 rfl ?_
                        first | exact ih (x + 1) σ128 (by omega) (by omega) (hRk.same (fun q hq => by rw [p128.1 q hq, gk 2 (by decide), p60.2 2 (by decide), p54.1 q hq])) ((((hk.tr (p54.2.mono (by decide))).tr (p60.2.mono (by decide))).tr (gk.mono (by decide))).tr (p128.2.mono (by decide))) _ _ _ hP hS (by rw [sl_, if_pos p95, if_pos c103]; exact (hl.mask [true, true, true, true, true, true, false, false])) | exact ih (x + 1) σ128 (by omega) (by omega) (hRk.same (fun q hq => by rw [p128.1 q hq, gk 2 (by decide), p60.2 2 (by decide), p54.1 q hq])) ((((hk.tr (p54.2.mono (by decide))).tr (p60.2.mono (by decide))).tr (gk.mono (by decide))).tr (p128.2.mono (by decide))) _ _ _ hP hS (by rw [sl_, if_pos p95, if_neg c103, if_pos c110]; exact (hl.mask [true, true, true, true, true, true, false, false])) | exact ih (x + 1) σ128 (by omega) (by omega) (hRk.same (fun q hq => by rw [p128.1 q hq, gk 2 (by decide), p60.2 2 (by decide), p54.1 q hq])) ((((hk.tr (p54.2.mono (by decide))).tr (p60.2.mono (by decide))).tr (gk.mono (by decide))).tr (p128.2.mono (by decide))) _ _ _ hP hS (by rw [sl_, if_pos p95, if_neg c103, if_neg c110]; exact (hl.mask [true, true, true, true, true, true, false, false])) | exact ih (x + 1) σ128 (by omega) (by omega) (hRk.same (fun q hq => by rw [p128.1 q hq, gk 2 (by decide), p60.2 2 (by decide), p54.1 q hq])) ((((hk.tr (p54.2.mono (by decide))).tr (p60.2.mono (by decide))).tr (gk.mono (by decide))).tr (p128.2.mono (by decide))) _ _ _ hP hS (by rw [sl_, if_neg p95]; exact (hl.mask [true, true, true, true, true, true, false, false]))
                      · refine lv_iload hx hb dX5_sluices_113 (hl.at rfl) ?_
                        refine l_istore_n hx hb 3 dX5_sluices_115 rfl hl rfl (fun ls hl => ?_)
                        refine lv_iload hx hb dX5_sluices_116 (hl.at rfl) ?_
                        refine l_istore hx hb 4 dX5_sluices_118 hl rfl (fun ls hl => ?_)
                        refine lv_aload_n hx hb dX5_sluices_120 rfl (hl.at rfl) ?_
                        refine mg_put hC hK hP dX5_sluices_121 ?_
                        refine lv_aload_n hx hb dX5_sluices_124 rfl (hl.at rfl) ?_
                        refine mg_s hC hK hP dX5_sluices_125 ?_
                        refine m_vS hC hK hP hS (met_carry (i := 2) (j := 0) (by decide) (by decide) (by decide)) cs_X5_226 rfl rfl hl.1 (Nat.le_of_ble_eq_true rfl) dX5_sluices_128 (by decide) (by decide) (fun σ128 H locs p128 hP hS => ?_)
                        refine l_inc1 hx hb 5 dX5_sluices_131 hl rfl rfl (fun ls hl => ?_)
                        refine lv_goto (tgt := 33) hx hb dX5_sluices_134 rfl ?_
                        first | exact ih (x + 1) σ128 (by omega) (by omega) (hRk.same (fun q hq => by rw [p128.1 q hq, gk 2 (by decide), p60.2 2 (by decide), p54.1 q hq])) ((((hk.tr (p54.2.mono (by decide))).tr (p60.2.mono (by decide))).tr (gk.mono (by decide))).tr (p128.2.mono (by decide))) _ _ _ hP hS (by rw [sl_, if_pos p95, if_pos c103]; exact (hl.mask [true, true, true, true, true, true, false, false])) | exact ih (x + 1) σ128 (by omega) (by omega) (hRk.same (fun q hq => by rw [p128.1 q hq, gk 2 (by decide), p60.2 2 (by decide), p54.1 q hq])) ((((hk.tr (p54.2.mono (by decide))).tr (p60.2.mono (by decide))).tr (gk.mono (by decide))).tr (p128.2.mono (by decide))) _ _ _ hP hS (by rw [sl_, if_pos p95, if_neg c103, if_pos c110]; exact (hl.mask [true, true, true, true, true, true, false, false])) | exact ih (x + 1) σ128 (by omega) (by omega) (hRk.same (fun q hq => by rw [p128.1 q hq, gk 2 (by decide), p60.2 2 (by decide), p54.1 q hq])) ((((hk.tr (p54.2.mono (by decide))).tr (p60.2.mono (by decide))).tr (gk.mono (by decide))).tr (p128.2.mono (by decide))) _ _ _ hP hS (by rw [sl_, if_pos p95, if_neg c103, if_neg c110]; exact (hl.mask [true, true, true, true, true, true, false, false])) | exact ih (x + 1) σ128 (by omega) (by omega) (hRk.same (fun q hq => by rw [p128.1 q hq, gk 2 (by decide), p60.2 2 (by decide), p54.1 q hq])) ((((hk.tr (p54.2.mono (by decide))).tr (p60.2.mono (by decide))).tr (gk.mono (by decide))).tr (p128.2.mono (by decide))) _ _ _ hP hS (by rw [sl_, if_neg p95]; exact (hl.mask [true, true, true, true, true, true, false, false]))
                  · refine l_ifeq_0 hx hb 120 dX5_sluices_98 rfl ?_
                    refine lv_aload_n hx hb dX5_sluices_120 rfl (hl.at rfl) ?_
                    refine mg_put hC hK hP dX5_sluices_121 ?_
                    refine lv_aload_n hx hb dX5_sluices_124 rfl (hl.at rfl) ?_
                    refine mg_s hC hK hP dX5_sluices_125 ?_
                    refine m_vS hC hK hP hS (met_carry (i := 2) (j := 0) (by decide) (by decide) (by decide)) cs_X5_226 rfl rfl hl.1 (Nat.le_of_ble_eq_true rfl) dX5_sluices_128 (by decide) (by decide) (fun σ128 H locs p128 hP hS => ?_)
                    refine l_inc1 hx hb 5 dX5_sluices_131 hl rfl rfl (fun ls hl => ?_)
                    refine lv_goto (tgt := 33) hx hb dX5_sluices_134 rfl ?_
                    first | exact ih (x + 1) σ128 (by omega) (by omega) (hRk.same (fun q hq => by rw [p128.1 q hq, gk 2 (by decide), p60.2 2 (by decide), p54.1 q hq])) ((((hk.tr (p54.2.mono (by decide))).tr (p60.2.mono (by decide))).tr (gk.mono (by decide))).tr (p128.2.mono (by decide))) _ _ _ hP hS (by rw [sl_, if_pos p95, if_pos c103]; exact (hl.mask [true, true, true, true, true, true, false, false])) | exact ih (x + 1) σ128 (by omega) (by omega) (hRk.same (fun q hq => by rw [p128.1 q hq, gk 2 (by decide), p60.2 2 (by decide), p54.1 q hq])) ((((hk.tr (p54.2.mono (by decide))).tr (p60.2.mono (by decide))).tr (gk.mono (by decide))).tr (p128.2.mono (by decide))) _ _ _ hP hS (by rw [sl_, if_pos p95, if_neg c103, if_pos c110]; exact (hl.mask [true, true, true, true, true, true, false, false])) | exact ih (x + 1) σ128 (by omega) (by omega) (hRk.same (fun q hq => by rw [p128.1 q hq, gk 2 (by decide), p60.2 2 (by decide), p54.1 q hq])) ((((hk.tr (p54.2.mono (by decide))).tr (p60.2.mono (by decide))).tr (gk.mono (by decide))).tr (p128.2.mono (by decide))) _ _ _ hP hS (by rw [sl_, if_pos p95, if_neg c103, if_neg c110]; exact (hl.mask [true, true, true, true, true, true, false, false])) | exact ih (x + 1) σ128 (by omega) (by omega) (hRk.same (fun q hq => by rw [p128.1 q hq, gk 2 (by decide), p60.2 2 (by decide), p54.1 q hq])) ((((hk.tr (p54.2.mono (by decide))).tr (p60.2.mono (by decide))).tr (gk.mono (by decide))).tr (p128.2.mono (by decide))) _ _ _ hP hS (by rw [sl_, if_neg p95]; exact (hl.mask [true, true, true, true, true, true, false, false]))
                · refine lv_aload_n hx hb dX5_sluices_75 rfl (hl.at rfl) ?_
                  refine m_vV hC hK hP hS (met_hour (S := hrN (sp_op (T 0) (nI x)) k) hRi hIk) cv_X5_209 rfl rfl hl.1 (Nat.le_of_ble_eq_true rfl) dX5_sluices_76 (by decide) (by decide) (fun σ76 H locs p76 hP hS => ?_)
                  refine lv_iload hx hb dX5_sluices_79 (hl.at rfl) ?_
                  refine lv_aload_n hx hb dX5_sluices_81 rfl (hl.at rfl) ?_
                  refine mg_taken hC hK hP dX5_sluices_82 ?_
                  refine lv_iadd hx hb dX5_sluices_85 ?_
                  refine l_istore hx hb 6 dX5_sluices_86 hl rfl (fun ls hl => ?_)
                  refine l_inc1 hx hb 7 dX5_sluices_88 hl rfl rfl (fun ls hl => ?_)
                  refine lv_goto (tgt := 69) hx hb dX5_sluices_91 rfl ?_
                  exact ih2 (k + 1) σ76 (by omega) (by omega) p76.1 (gk.tr p76.2.1) _ _ _ hP hS (by rw [tkN, ← p76.2.2.2.2]; exact hl)
            exact inner (N + 1) 0 σ60 (Nat.zero_le _) (by omega) p60.1 Kp.rf _ _ _ hP hS hl
      exact outer (2 ^ wh (T 0) + 1) 0 σ (Nat.zero_le _) (by omega) hT.1 Kp.rf _ _ _ hP hS hl
    · refine l_ifne_0 hx hb 25 dX5_sluices_16 rfl ?_
      refine lv_aload_n hx hb dX5_sluices_19 rfl (hl.at rfl) ?_
      refine lv_iconst (v := nI 1) hx hb dX5_sluices_20 rfl ?_
      refine m_iV hC hK hP hS (met_error hT rfl (by decide)) cv_X5_76 rfl rfl hl.1 (Nat.le_of_ble_eq_true rfl) dX5_sluices_21 (by decide) (by decide) (fun r21 σ21 H locs p21 hP hS => ?_)
      refine hret _ _ ls _ _ _ hP hS dX5_sluices_24 ?_
      first | (rw [op_sluices, if_pos p4, if_pos p13, cn_nI (by omega), ← e5, if_pos c139]; exact p144) | (rw [op_sluices, if_pos p4, if_pos p13, cn_nI (by omega), ← e5, if_neg c139, if_pos c151]; refine ⟨rfl, ?_⟩; rw [← tS_self (T := T)]; exact hT.S hRk hk) | (rw [op_sluices, if_pos p4, if_pos p13, cn_nI (by omega), ← e5, if_neg c139, if_neg c151]; refine ⟨rfl, ?_⟩; rw [← tS_self (T := T)]; exact hT.S hRk hk) | (rw [op_sluices, if_neg p4]; exact p21) | (rw [op_sluices, if_pos p4, if_neg p13]; exact p21)
  · refine l_ifeq_0 hx hb 19 dX5_sluices_7 rfl ?_
    refine lv_aload_n hx hb dX5_sluices_19 rfl (hl.at rfl) ?_
    refine lv_iconst (v := nI 1) hx hb dX5_sluices_20 rfl ?_
    refine m_iV hC hK hP hS (met_error hT rfl (by decide)) cv_X5_76 rfl rfl hl.1 (Nat.le_of_ble_eq_true rfl) dX5_sluices_21 (by decide) (by decide) (fun r21 σ21 H locs p21 hP hS => ?_)
    refine hret _ _ ls _ _ _ hP hS dX5_sluices_24 ?_
    first | (rw [op_sluices, if_pos p4, if_pos p13, cn_nI (by omega), ← e5, if_pos c139]; exact p144) | (rw [op_sluices, if_pos p4, if_pos p13, cn_nI (by omega), ← e5, if_neg c139, if_pos c151]; refine ⟨rfl, ?_⟩; rw [← tS_self (T := T)]; exact hT.S hRk hk) | (rw [op_sluices, if_pos p4, if_pos p13, cn_nI (by omega), ← e5, if_neg c139, if_neg c151]; refine ⟨rfl, ?_⟩; rw [← tS_self (T := T)]; exact hT.S hRk hk) | (rw [op_sluices, if_neg p4]; exact p21) | (rw [op_sluices, if_pos p4, if_neg p13]; exact p21)
