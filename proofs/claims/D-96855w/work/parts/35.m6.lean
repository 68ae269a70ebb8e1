theorem cv_X5_220 : CV RX5 RX5 220 yX5_draw cX5_draw 1 (some .int) 0 := ⟨lw_V q1607 q1609 qs69 q88 q1610, by decide +kernel⟩
theorem met_draws {l : Launch} {D : va_G} {cA : Nat → ClassId} {b : Nat} {σ : Nat → Nat → Int32} {x : Int32} {T : Tta} (hT : RT σ T) (hI : Inv (T 0)) : MI l D cA b yX5_draws cX5_draws 6 (some .int) (7) [.ref b, .int x] σ (fun r τ => r = (op_draws x T).1 ∧ RT τ (op_draws x T).2) := by
  refine Ci.of rfl (by decide +kernel) (Nat.le_of_ble_eq_true rfl) ?_
  intro p e s m args below meth c Q hC hK hP hret ls hl
  have hx := hC.1
  have hb := hC.2.1
  have hown := hC.2.2.2.1
  have hts := hC.2.2.2.2
  have hS : va_S (mA b) s.heap s.heap [] := va_S.rf
  obtain ⟨eH, hH⟩ := inv_hr hI
  obtain ⟨eN, hN8⟩ := inv_wh hI
  refine lv_iload_n hx hb dX5_draws_0 rfl (hl.at rfl) ?_
  refine lv_iconst (v := nI 1) hx hb dX5_draws_1 rfl ?_
  refine lv_bipush (v := nI 60) hx hb dX5_draws_2 rfl ?_
  refine m_sS hC (met_in ) cs_X5_56 rfl rfl hl.1 (Nat.le_of_ble_eq_true rfl) dX5_draws_4 (by decide) (by decide) (fun r4 p4 => ?_)
  rcases p4 with ⟨rfl, p4⟩ | ⟨rfl, p4⟩
  · obtain ⟨N, hN1, hN, rfl⟩ := in_nI1 p4
    refine l_ifne_1 hx hb 16 dX5_draws_7 rfl ?_
    refine lv_aload_n hx hb dX5_draws_16 rfl (hl.at rfl) ?_
    refine mg_s hC hK hP dX5_draws_17 ?_
    refine lv_iconst (v := nI 1) hx hb dX5_draws_20 rfl ?_
    refine m_ld 0 _ (by decide) hC hK hP (rfl) (show _ < 449 by omega) dX5_draws_21 ?_
    refine l_top _ ((hT.1.at 0 1 (n := 1) (by decide) rfl).trans eH) ?_
    refine lv_iload_n hx hb dX5_draws_22 rfl (hl.at rfl) ?_
    refine l_addN hx hb dX5_draws_23 ?_
    refine lv_sipush (v := nI 9999) hx hb dX5_draws_24 rfl ?_
    refine l_leN hx hb 36 dX5_draws_27 rfl (by omega) (by omega) (fun c27 => ?_) (fun c27 => ?_)
    · refine lv_iconst (v := nI 0) hx hb dX5_draws_36 rfl ?_
      refine l_istore_n hx hb 2 dX5_draws_37 rfl hl rfl (fun ls hl => ?_)
      refine lv_iconst (v := nI 0) hx hb dX5_draws_38 rfl ?_
      refine l_istore_n hx hb 3 dX5_draws_39 rfl hl rfl (fun ls hl => ?_)
      have outer : ∀ (n k v : Nat) (τ : Sta), k ≤ N → N + 1 ≤ k + n → v = dwC (T 0) k → RM (τ 0) (dwN (T 0) k) → Kp [0, 5, 6, 7, 8, 9, 20, 21] σ τ → ∀ (H : Heap) (locs : List Loc) (ls : Array Slot), MWP D cA b τ H → va_S (mA b) s.heap H locs → lh ls [some (.ref b), some (.int (nI N)), some (.int (nI v)), some (.int (nI k)), none, none] → W p l e (rmG 7 0 0) s m args below meth c H locs 0 0 Q (F0 m 40 ls []) := by
        intro n
        induction n with
        | zero => intro k v τ h1 h2; exact absurd h2 (by omega)
        | succ n ih =>
          intro k v τ h1 h2 hv hRk hk H locs ls hP hS hl
          obtain ⟨hIk, hHk, hWk⟩ := dwN_inv hI k (by omega)
          have eNk : dwN (T 0) k 0 0 = nI (wh (T 0)) := by rw [← hWk]; exact (inv_wh hIk).1
          obtain ⟨S, eS⟩ : ∃ S, S = dwN (T 0) k := ⟨_, rfl⟩
          rw [← eS] at hRk hIk hWk eNk
          refine lv_iload_n hx hb dX5_draws_40 rfl (hl.at rfl) ?_
          refine lv_iload_n hx hb dX5_draws_41 rfl (hl.at rfl) ?_
          refine l_geN hx hb 179 dX5_draws_42 rfl (by omega) (by omega) (fun c42 => ?_) (fun c42 => ?_)
          · have e5 : k = N := by omega
            refine lv_iload_n hx hb dX5_draws_179 rfl (hl.at rfl) ?_
            refine hret _ _ ls _ _ _ hP hS dX5_draws_180 ?_
            first | (rw [op_draws, if_pos p4, cn_nI (by omega), if_pos c27]; exact ⟨by rw [hv, e5], hT.S (by rw [e5] at eS; rw [eS] at hRk; exact hRk) (hk.mono (by decide))⟩) | (rw [op_draws, if_pos p4, cn_nI (by omega), if_neg (by omega)]; exact p32) | (rw [op_draws, if_neg p4]; exact p12)
          · refine lv_aload_n hx hb dX5_draws_45 rfl (hl.at rfl) ?_
            refine m_iV hC hK hP hS (met_draw (S := S) hRk) cv_X5_220 rfl rfl hl.1 (Nat.le_of_ble_eq_true rfl) dX5_draws_46 (by decide) (by decide) (fun r46 σ46 H locs p46 hP hS => ?_)
            refine lv_bipush (v := nI 16) hx hb dX5_draws_49 rfl ?_
            refine lv_irem hx hb dX5_draws_51 (nI_ne0 (by decide) (by decide)) ?_
            refine l_top (dw_d S) (by rw [p46.1]; rfl) ?_
            refine l_istore hx hb 4 dX5_draws_52 hl rfl (fun ls hl => ?_)
            refine lv_iload_n hx hb dX5_draws_54 rfl (hl.at rfl) ?_
            refine lv_iload hx hb dX5_draws_55 (hl.at rfl) ?_
            refine lv_if_ne (tgt := 64) hx hb dX5_draws_57 rfl (fun c57 => ?_) (fun c57 => ?_)
            · refine lv_iconst (v := nI 0) hx hb dX5_draws_64 rfl ?_
              refine l_addN hx hb dX5_draws_65 ?_
              refine l_istore_n hx hb 2 dX5_draws_66 rfl hl rfl (fun ls hl => ?_)
              refine lv_iconst (v := nI 0) hx hb dX5_draws_67 rfl ?_
              refine l_istore hx hb 5 dX5_draws_68 hl rfl (fun ls hl => ?_)
              refine lv_iload hx hb dX5_draws_70 (hl.at rfl) ?_
              refine lv_aload_n hx hb dX5_draws_72 rfl (hl.at rfl) ?_
              refine mg_s hC hK hP dX5_draws_73 ?_
              refine lv_iconst (v := nI 0) hx hb dX5_draws_76 rfl ?_
              refine m_ld 0 _ (by decide) hC hK hP (rfl) (show _ < 449 by omega) dX5_draws_77 ?_
              refine l_top _ ((p46.2.1.at 0 0 (n := 0) (by decide) rfl).trans eNk) ?_
              refine l_geN hx hb 120 dX5_draws_78 rfl (by omega) (by omega) (fun c78 => ?_) (fun c78 => ?_)
              · first | have hR2 : RM (υ 0) (dw_2 S) := by (rw [e6] at hRi; rw [dw_2, if_pos c57, hWk]; exact hRi) | have hR2 : RM (σ46 0) (dw_2 S) := by (rw [dw_2, if_neg c57]; exact p46.2.1)
                first | have hk2 : Kp [0, 5, 6, 7, 8, 9, 20, 21] σ υ := gk | have hk2 : Kp [0, 5, 6, 7, 8, 9, 20, 21] σ σ46 := hk.tr (p46.2.2.mono (by decide))
                refine lv_aload_n hx hb dX5_draws_120 rfl (hl.at rfl) ?_
                refine mg_s hC hK hP dX5_draws_121 ?_
                refine lv_iconst (v := nI 2) hx hb dX5_draws_124 rfl ?_
                refine lv_aload_n hx hb dX5_draws_125 rfl (hl.at rfl) ?_
                refine mg_s hC hK hP dX5_draws_126 ?_
                refine lv_iconst (v := nI 2) hx hb dX5_draws_129 rfl ?_
                refine m_ld 0 _ (by decide) hC hK hP (rfl) (show _ < 449 by omega) dX5_draws_130 ?_
                refine l_top (S 0 2) ((hR2.at 0 2 (n := 2) (by decide) rfl).trans (by rw [dw_2_0, pk_un (by decide)])) ?_
                refine lv_iload hx hb dX5_draws_131 (hl.at rfl) ?_
                refine lv_iconst (v := nI 1) hx hb dX5_draws_133 rfl ?_
                refine lv_iconst (v := nI 3) hx hb dX5_draws_134 rfl ?_
                refine m_sS hC (met_in ) cs_X5_56 rfl rfl hl.1 (Nat.le_of_ble_eq_true rfl) dX5_draws_135 (by decide) (by decide) (fun r135 p135 => ?_)
                rcases p135 with ⟨rfl, p135⟩ | ⟨rfl, p135⟩
                · refine l_ifeq_1 hx hb 145 dX5_draws_138 rfl ?_
                  refine lv_iconst (v := nI 1) hx hb dX5_draws_141 rfl ?_
                  refine lv_goto (tgt := 161) hx hb dX5_draws_142 rfl ?_
                  first | refine l_top (dw_x (dw_d S)) (by rw [dw_x, if_pos p135]) ?_ | refine l_top (dw_x (dw_d S)) (by rw [dw_x, if_neg p135, if_pos p150]) ?_ | refine l_top (dw_x (dw_d S)) (by rw [dw_x, if_neg p135, if_neg p150]) ?_
                  refine lv_iadd hx hb dX5_draws_161 ?_
                  refine lv_iconst (v := nI 0) hx hb dX5_draws_162 rfl ?_
                  refine lv_bipush (v := nI 9) hx hb dX5_draws_163 rfl ?_
                  refine m_sS hC (met_held ) cs_X5_61 rfl rfl hl.1 (Nat.le_of_ble_eq_true rfl) dX5_draws_165 (by decide) (by decide) (fun r165 p165 => ?_)
                  subst p165
                  refine m_st 0 _ (by decide) hC hK hP hS (rfl) (show _ < 449 by omega) dX5_draws_168 (fun H locs hP hS => ?_)
                  refine lv_aload_n hx hb dX5_draws_169 rfl (hl.at rfl) ?_
                  refine m_vV hC hK hP hS (met_hour (S := dw_3 S) (by rw [up1_s]; exact hR2.set (i := 0) (j := 2) (by decide) rfl) (dw_3_inv hIk).1) cv_X5_209 rfl rfl hl.1 (Nat.le_of_ble_eq_true rfl) dX5_draws_170 (by decide) (by decide) (fun σ170 H locs p170 hP hS => ?_)
                  refine l_inc1 hx hb 3 dX5_draws_173 hl rfl rfl (fun ls hl => ?_)
                  refine lv_goto (tgt := 40) hx hb dX5_draws_176 rfl ?_
                  first | exact ih (k + 1) _ σ170 (by omega) (by omega) (by rw [dwC, ← eS, if_pos c57, hv]) (by rw [dwN, ← eS]; exact p170.1) ((hk2.up (by decide)).tr p170.2.1) _ _ _ hP hS (hl.mask [true, true, true, true, false, false]) | exact ih (k + 1) _ σ170 (by omega) (by omega) (by rw [dwC, ← eS, if_neg c57, hv]) (by rw [dwN, ← eS]; exact p170.1) ((hk2.up (by decide)).tr p170.2.1) _ _ _ hP hS (hl.mask [true, true, true, true, false, false])
                · refine l_ifeq_0 hx hb 145 dX5_draws_138 rfl ?_
                  refine lv_iload hx hb dX5_draws_145 (hl.at rfl) ?_
                  refine lv_iconst (v := nI 4) hx hb dX5_draws_147 rfl ?_
                  refine lv_bipush (v := nI 6) hx hb dX5_draws_148 rfl ?_
                  refine m_sS hC (met_in ) cs_X5_56 rfl rfl hl.1 (Nat.le_of_ble_eq_true rfl) dX5_draws_150 (by decide) (by decide) (fun r150 p150 => ?_)
                  rcases p150 with ⟨rfl, p150⟩ | ⟨rfl, p150⟩
                  · refine l_ifeq_1 hx hb 160 dX5_draws_153 rfl ?_
                    refine lv_iconst (v := -1) hx hb dX5_draws_156 rfl ?_
                    refine lv_goto (tgt := 161) hx hb dX5_draws_157 rfl ?_
                    first | refine l_top (dw_x (dw_d S)) (by rw [dw_x, if_pos p135]) ?_ | refine l_top (dw_x (dw_d S)) (by rw [dw_x, if_neg p135, if_pos p150]) ?_ | refine l_top (dw_x (dw_d S)) (by rw [dw_x, if_neg p135, if_neg p150]) ?_
                    refine lv_iadd hx hb dX5_draws_161 ?_
                    refine lv_iconst (v := nI 0) hx hb dX5_draws_162 rfl ?_
                    refine lv_bipush (v := nI 9) hx hb dX5_draws_163 rfl ?_
                    refine m_sS hC (met_held ) cs_X5_61 rfl rfl hl.1 (Nat.le_of_ble_eq_true rfl) dX5_draws_165 (by decide) (by decide) (fun r165 p165 => ?_)
                    subst p165
                    refine m_st 0 _ (by decide) hC hK hP hS (rfl) (show _ < 449 by omega) dX5_draws_168 (fun H locs hP hS => ?_)
                    refine lv_aload_n hx hb dX5_draws_169 rfl (hl.at rfl) ?_
                    refine m_vV hC hK hP hS (met_hour (S := dw_3 S) (by rw [up1_s]; exact hR2.set (i := 0) (j := 2) (by decide) rfl) (dw_3_inv hIk).1) cv_X5_209 rfl rfl hl.1 (Nat.le_of_ble_eq_true rfl) dX5_draws_170 (by decide) (by decide) (fun σ170 H locs p170 hP hS => ?_)
                    refine l_inc1 hx hb 3 dX5_draws_173 hl rfl rfl (fun ls hl => ?_)
                    refine lv_goto (tgt := 40) hx hb dX5_draws_176 rfl ?_
                    first | exact ih (k + 1) _ σ170 (by omega) (by omega) (by rw [dwC, ← eS, if_pos c57, hv]) (by rw [dwN, ← eS]; exact p170.1) ((hk2.up (by decide)).tr p170.2.1) _ _ _ hP hS (hl.mask [true, true, true, true, false, false]) | exact ih (k + 1) _ σ170 (by omega) (by omega) (by rw [dwC, ← eS, if_neg c57, hv]) (by rw [dwN, ← eS]; exact p170.1) ((hk2.up (by decide)).tr p170.2.1) _ _ _ hP hS (hl.mask [true, true, true, true, false, false])
                  · refine l_ifeq_0 hx hb 160 dX5_draws_153 rfl ?_
                    refine lv_iconst (v := nI 0) hx hb dX5_draws_160 rfl ?_
                    first | refine l_top (dw_x (dw_d S)) (by rw [dw_x, if_pos p135]) ?_ | refine l_top (dw_x (dw_d S)) (by rw [dw_x, if_neg p135, if_pos p150]) ?_ | refine l_top (dw_x (dw_d S)) (by rw [dw_x, if_neg p135, if_neg p150]) ?_
                    refine lv_iadd hx hb dX5_draws_161 ?_
                    refine lv_iconst (v := nI 0) hx hb dX5_draws_162 rfl ?_
                    refine lv_bipush (v := nI 9) hx hb dX5_draws_163 rfl ?_
                    refine m_sS hC (met_held ) cs_X5_61 rfl rfl hl.1 (Nat.le_of_ble_eq_true rfl) dX5_draws_165 (by decide) (by decide) (fun r165 p165 => ?_)
                    subst p165
                    refine m_st 0 _ (by decide) hC hK hP hS (rfl) (show _ < 449 by omega) dX5_draws_168 (fun H locs hP hS => ?_)
                    refine lv_aload_n hx hb dX5_draws_169 rfl (hl.at rfl) ?_
                    refine m_vV hC hK hP hS (met_hour (S := dw_3 S) (by rw [up1_s]; exact hR2.set (i := 0) (j := 2) (by decide) rfl) (dw_3_inv hIk).1) cv_X5_209 rfl rfl hl.1 (Nat.le_of_ble_eq_true rfl) dX5_draws_170 (by decide) (by decide) (fun σ170 H locs p170 hP hS => ?_)
                    refine l_inc1 hx hb 3 dX5_draws_173 hl rfl rfl (fun ls hl => ?_)
                    refine lv_goto (tgt := 40) hx hb dX5_draws_176 rfl ?_
                    first | exact ih (k + 1) _ σ170 (by omega) (by omega) (by rw [dwC, ← eS, if_pos c57, hv]) (by rw [dwN, ← eS]; exact p170.1) ((hk2.up (by decide)).tr p170.2.1) _ _ _ hP hS (hl.mask [true, true, true, true, false, false]) | exact ih (k + 1) _ σ170 (by omega) (by omega) (by rw [dwC, ← eS, if_neg c57, hv]) (by rw [dwN, ← eS]; exact p170.1) ((hk2.up (by decide)).tr p170.2.1) _ _ _ hP hS (hl.mask [true, true, true, true, false, false])
              · refine lv_iload hx hb dX5_draws_81 (hl.at rfl) ?_
                refine lv_if_ne (tgt := 120) hx hb dX5_draws_83 rfl (fun c83 => ?_) (fun c83 => ?_)
                · first | have hR2 : RM (υ 0) (dw_2 S) := by (rw [e6] at hRi; rw [dw_2, if_pos c57, hWk]; exact hRi) | have hR2 : RM (σ46 0) (dw_2 S) := by (rw [dw_2, if_neg c57]; exact p46.2.1)
                  first | have hk2 : Kp [0, 5, 6, 7, 8, 9, 20, 21] σ υ := gk | have hk2 : Kp [0, 5, 6, 7, 8, 9, 20, 21] σ σ46 := hk.tr (p46.2.2.mono (by decide))
                  refine lv_aload_n hx hb dX5_draws_120 rfl (hl.at rfl) ?_
                  refine mg_s hC hK hP dX5_draws_121 ?_
                  refine lv_iconst (v := nI 2) hx hb dX5_draws_124 rfl ?_
                  refine lv_aload_n hx hb dX5_draws_125 rfl (hl.at rfl) ?_
                  refine mg_s hC hK hP dX5_draws_126 ?_
                  refine lv_iconst (v := nI 2) hx hb dX5_draws_129 rfl ?_
                  refine m_ld 0 _ (by decide) hC hK hP (rfl) (show _ < 449 by omega) dX5_draws_130 ?_
                  refine l_top (S 0 2) ((hR2.at 0 2 (n := 2) (by decide) rfl).trans (by rw [dw_2_0, pk_un (by decide)])) ?_
                  refine lv_iload hx hb dX5_draws_131 (hl.at rfl) ?_
                  refine lv_iconst (v := nI 1) hx hb dX5_draws_133 rfl ?_
                  refine lv_iconst (v := nI 3) hx hb dX5_draws_134 rfl ?_
                  refine m_sS hC (met_in ) cs_X5_56 rfl rfl hl.1 (Nat.le_of_ble_eq_true rfl) dX5_draws_135 (by decide) (by decide) (fun r135 p135 => ?_)
                  rcases p135 with ⟨rfl, p135⟩ | ⟨rfl, p135⟩
                  · refine l_ifeq_1 hx hb 145 dX5_draws_138 rfl ?_
                    refine lv_iconst (v := nI 1) hx hb dX5_draws_141 rfl ?_
                    refine lv_goto (tgt := 161) hx hb dX5_draws_142 rfl ?_
                    first | refine l_top (dw_x (dw_d S)) (by rw [dw_x, if_pos p135]) ?_ | refine l_top (dw_x (dw_d S)) (by rw [dw_x, if_neg p135, if_pos p150]) ?_ | refine l_top (dw_x (dw_d S)) (by rw [dw_x, if_neg p135, if_neg p150]) ?_
                    refine lv_iadd hx hb dX5_draws_161 ?_
                    refine lv_iconst (v := nI 0) hx hb dX5_draws_162 rfl ?_
                    refine lv_bipush (v := nI 9) hx hb dX5_draws_163 rfl ?_
                    refine m_sS hC (met_held ) cs_X5_61 rfl rfl hl.1 (Nat.le_of_ble_eq_true rfl) dX5_draws_165 (by decide) (by decide) (fun r165 p165 => ?_)
                    subst p165
                    refine m_st 0 _ (by decide) hC hK hP hS (rfl) (show _ < 449 by omega) dX5_draws_168 (fun H locs hP hS => ?_)
                    refine lv_aload_n hx hb dX5_draws_169 rfl (hl.at rfl) ?_
                    refine m_vV hC hK hP hS (met_hour (S := dw_3 S) (by rw [up1_s]; exact hR2.set (i := 0) (j := 2) (by decide) rfl) (dw_3_inv hIk).1) cv_X5_209 rfl rfl hl.1 (Nat.le_of_ble_eq_true rfl) dX5_draws_170 (by decide) (by decide) (fun σ170 H locs p170 hP hS => ?_)
                    refine l_inc1 hx hb 3 dX5_draws_173 hl rfl rfl (fun ls hl => ?_)
                    refine lv_goto (tgt := 40) hx hb dX5_draws_176 rfl ?_
                    first | exact ih (k + 1) _ σ170 (by omega) (by omega) (by rw [dwC, ← eS, if_pos c57, hv]) (by rw [dwN, ← eS]; exact p170.1) ((hk2.up (by decide)).tr p170.2.1) _ _ _ hP hS (hl.mask [true, true, true, true, false, false]) | exact ih (k + 1) _ σ170 (by omega) (by omega) (by rw [dwC, ← eS, if_neg c57, hv]) (by rw [dwN, ← eS]; exact p170.1) ((hk2.up (by decide)).tr p170.2.1) _ _ _ hP hS (hl.mask [true, true, true, true, false, false])
                  · refine l_ifeq_0 hx hb 145 dX5_draws_138 rfl ?_
                    refine lv_iload hx hb dX5_draws_145 (hl.at rfl) ?_
                    refine lv_iconst (v := nI 4) hx hb dX5_draws_147 rfl ?_
                    refine lv_bipush (v := nI 6) hx hb dX5_draws_148 rfl ?_
                    refine m_sS hC (met_in ) cs_X5_56 rfl rfl hl.1 (Nat.le_of_ble_eq_true rfl) dX5_draws_150 (by decide) (by decide) (fun r150 p150 => ?_)
                    rcases p150 with ⟨rfl, p150⟩ | ⟨rfl, p150⟩
                    · refine l_ifeq_1 hx hb 160 dX5_draws_153 rfl ?_
                      refine lv_iconst (v := -1) hx hb dX5_draws_156 rfl ?_
                      refine lv_goto (tgt := 161) hx hb dX5_draws_157 rfl ?_
                      first | refine l_top (dw_x (dw_d S)) (by rw [dw_x, if_pos p135]) ?_ | refine l_top (dw_x (dw_d S)) (by rw [dw_x, if_neg p135, if_pos p150]) ?_ | refine l_top (dw_x (dw_d S)) (by rw [dw_x, if_neg p135, if_neg p150]) ?_
                      refine lv_iadd hx hb dX5_draws_161 ?_
                      refine lv_iconst (v := nI 0) hx hb dX5_draws_162 rfl ?_
                      refine lv_bipush (v := nI 9) hx hb dX5_draws_163 rfl ?_
                      refine m_sS hC (met_held ) cs_X5_61 rfl rfl hl.1 (Nat.le_of_ble_eq_true rfl) dX5_draws_165 (by decide) (by decide) (fun r165 p165 => ?_)
                      subst p165
                      refine m_st 0 _ (by decide) hC hK hP hS (rfl) (show _ < 449 by omega) dX5_draws_168 (fun H locs hP hS => ?_)
                      refine lv_aload_n hx hb dX5_draws_169 rfl (hl.at rfl) ?_
                      refine m_vV hC hK hP hS (met_hour (S := dw_3 S) (by rw [up1_s]; exact hR2.set (i := 0) (j := 2) (by decide) rfl) (dw_3_inv hIk).1) cv_X5_209 rfl rfl hl.1 (Nat.le_of_ble_eq_true rfl) dX5_draws_170 (by decide) (by decide) (fun σ170 H locs p170 hP hS => ?_)
                      refine l_inc1 hx hb 3 dX5_draws_173 hl rfl rfl (fun ls hl => ?_)
                      refine lv_goto (tgt := 40) hx hb dX5_draws_176 rfl ?_
                      first | exact ih (k + 1) _ σ170 (by omega) (by omega) (by rw [dwC, ← eS, if_pos c57, hv]) (by rw [dwN, ← eS]; exact p170.1) ((hk2.up (by decide)).tr p170.2.1) _ _ _ hP hS (hl.mask [true, true, true, true, false, false]) | exact ih (k + 1) _ σ170 (by omega) (by omega) (by rw [dwC, ← eS, if_neg c57, hv]) (by rw [dwN, ← eS]; exact p170.1) ((hk2.up (by decide)).tr p170.2.1) _ _ _ hP hS (hl.mask [true, true, true, true, false, false])
                    · refine l_ifeq_0 hx hb 160 dX5_draws_153 rfl ?_
                      refine lv_iconst (v := nI 0) hx hb dX5_draws_160 rfl ?_
                      first | refine l_top (dw_x (dw_d S)) (by rw [dw_x, if_pos p135]) ?_ | refine l_top (dw_x (dw_d S)) (by rw [dw_x, if_neg p135, if_pos p150]) ?_ | refine l_top (dw_x (dw_d S)) (by rw [dw_x, if_neg p135, if_neg p150]) ?_
                      refine lv_iadd hx hb dX5_draws_161 ?_
                      refine lv_iconst (v := nI 0) hx hb dX5_draws_162 rfl ?_
                      refine lv_bipush (v := nI 9) hx hb dX5_draws_163 rfl ?_
                      refine m_sS hC (met_held ) cs_X5_61 rfl rfl hl.1 (Nat.le_of_ble_eq_true rfl) dX5_draws_165 (by decide) (by decide) (fun r165 p165 => ?_)
                      subst p165
                      refine m_st 0 _ (by decide) hC hK hP hS (rfl) (show _ < 449 by omega) dX5_draws_168 (fun H locs hP hS => ?_)
                      refine lv_aload_n hx hb dX5_draws_169 rfl (hl.at rfl) ?_
                      refine m_vV hC hK hP hS (met_hour (S := dw_3 S) (by rw [up1_s]; exact hR2.set (i := 0) (j := 2) (by decide) rfl) (dw_3_inv hIk).1) cv_X5_209 rfl rfl hl.1 (Nat.le_of_ble_eq_true rfl) dX5_draws_170 (by decide) (by decide) (fun σ170 H locs p170 hP hS => ?_)
                      refine l_inc1 hx hb 3 dX5_draws_173 hl rfl rfl (fun ls hl => ?_)
                      refine lv_goto (tgt := 40) hx hb dX5_draws_176 rfl ?_
                      first | exact ih (k + 1) _ σ170 (by omega) (by omega) (by rw [dwC, ← eS, if_pos c57, hv]) (by rw [dwN, ← eS]; exact p170.1) ((hk2.up (by decide)).tr p170.2.1) _ _ _ hP hS (hl.mask [true, true, true, true, false, false]) | exact ih (k + 1) _ σ170 (by omega) (by omega) (by rw [dwC, ← eS, if_neg c57, hv]) (by rw [dwN, ← eS]; exact p170.1) ((hk2.up (by decide)).tr p170.2.1) _ _ _ hP hS (hl.mask [true, true, true, true, false, false])
                · exact absurd c83 c57
            · refine lv_iconst (v := nI 1) hx hb dX5_draws_60 rfl ?_
              refine lv_goto (tgt := 65) hx hb dX5_draws_61 rfl ?_
              refine l_addN hx hb dX5_draws_65 ?_
              refine l_istore_n hx hb 2 dX5_draws_66 rfl hl rfl (fun ls hl => ?_)
              refine lv_iconst (v := nI 0) hx hb dX5_draws_67 rfl ?_
              refine l_istore hx hb 5 dX5_draws_68 hl rfl (fun ls hl => ?_)
              have inner : ∀ (m0 w : Nat) (υ : Sta), w ≤ wh (T 0) → wh (T 0) + 1 ≤ w + m0 → RM (υ 0) (dw_fl (up2 S 0 5 (sp_dz S)) w) → Kp [0, 5, 6, 7, 8, 9, 20, 21] σ υ → ∀ (H : Heap) (locs : List Loc) (ls : Array Slot), MWP D cA b υ H → va_S (mA b) s.heap H locs → lh ls [some (.ref b), some (.int (nI N)), some (.int (nI (v + 1))), some (.int (nI k)), some (.int (dw_d S)), some (.int (nI w))] → W p l e (rmG 7 0 0) s m args below meth c H locs 0 0 Q (F0 m 70 ls []) := by
                intro m0
                induction m0 with
                | zero => intro w υ g1 g2; exact absurd g2 (by omega)
                | succ m0 ih2 =>
                  intro w υ g1 g2 hRi gk H locs ls hP hS hl
                  refine lv_iload hx hb dX5_draws_70 (hl.at rfl) ?_
                  refine lv_aload_n hx hb dX5_draws_72 rfl (hl.at rfl) ?_
                  refine mg_s hC hK hP dX5_draws_73 ?_
                  refine lv_iconst (v := nI 0) hx hb dX5_draws_76 rfl ?_
                  refine m_ld 0 _ (by decide) hC hK hP (rfl) (show _ < 449 by omega) dX5_draws_77 ?_
                  refine l_top _ ((hRi.at 0 0 (n := 0) (by decide) rfl).trans ((congrFun (dw_fl_row (by decide) (by decide) w) 0).trans eNk)) ?_
                  refine l_geN hx hb 120 dX5_draws_78 rfl (by omega) (by omega) (fun c78 => ?_) (fun c78 => ?_)
                  · have e6 : w = wh (T 0) := by omega
                    first | have hR2 : RM (υ 0) (dw_2 S) := by (rw [e6] at hRi; rw [dw_2, if_pos c57, hWk]; exact hRi) | have hR2 : RM (σ46 0) (dw_2 S) := by (rw [dw_2, if_neg c57]; exact p46.2.1)
                    first | have hk2 : Kp [0, 5, 6, 7, 8, 9, 20, 21] σ υ := gk | have hk2 : Kp [0, 5, 6, 7, 8, 9, 20, 21] σ σ46 := hk.tr (p46.2.2.mono (by decide))
                    refine lv_aload_n hx hb dX5_draws_120 rfl (hl.at rfl) ?_
                    refine mg_s hC hK hP dX5_draws_121 ?_
                    refine lv_iconst (v := nI 2) hx hb dX5_draws_124 rfl ?_
                    refine lv_aload_n hx hb dX5_draws_125 rfl (hl.at rfl) ?_
                    refine mg_s hC hK hP dX5_draws_126 ?_
                    refine lv_iconst (v := nI 2) hx hb dX5_draws_129 rfl ?_
                    refine m_ld 0 _ (by decide) hC hK hP (rfl) (show _ < 449 by omega) dX5_draws_130 ?_
                    refine l_top (S 0 2) ((hR2.at 0 2 (n := 2) (by decide) rfl).trans (by rw [dw_2_0, pk_un (by decide)])) ?_
                    refine lv_iload hx hb dX5_draws_131 (hl.at rfl) ?_
                    refine lv_iconst (v := nI 1) hx hb dX5_draws_133 rfl ?_
                    refine lv_iconst (v := nI 3) hx hb dX5_draws_134 rfl ?_
                    refine m_sS hC (met_in ) cs_X5_56 rfl rfl hl.1 (Nat.le_of_ble_eq_true rfl) dX5_draws_135 (by decide) (by decide) (fun r135 p135 => ?_)
                    rcases p135 with ⟨rfl, p135⟩ | ⟨rfl, p135⟩
                    · refine l_ifeq_1 hx hb 145 dX5_draws_138 rfl ?_
                      refine lv_iconst (v := nI 1) hx hb dX5_draws_141 rfl ?_
                      refine lv_goto (tgt := 161) hx hb dX5_draws_142 rfl ?_
                      first | refine l_top (dw_x (dw_d S)) (by rw [dw_x, if_pos p135]) ?_ | refine l_top (dw_x (dw_d S)) (by rw [dw_x, if_neg p135, if_pos p150]) ?_ | refine l_top (dw_x (dw_d S)) (by rw [dw_x, if_neg p135, if_neg p150]) ?_
                      refine lv_iadd hx hb dX5_draws_161 ?_
                      refine lv_iconst (v := nI 0) hx hb dX5_draws_162 rfl ?_
                      refine lv_bipush (v := nI 9) hx hb dX5_draws_163 rfl ?_
                      refine m_sS hC (met_held ) cs_X5_61 rfl rfl hl.1 (Nat.le_of_ble_eq_true rfl) dX5_draws_165 (by decide) (by decide) (fun r165 p165 => ?_)
                      subst p165
                      refine m_st 0 _ (by decide) hC hK hP hS (rfl) (show _ < 449 by omega) dX5_draws_168 (fun H locs hP hS => ?_)
                      refine lv_aload_n hx hb dX5_draws_169 rfl (hl.at rfl) ?_
                      refine m_vV hC hK hP hS (met_hour (S := dw_3 S) (by rw [up1_s]; exact hR2.set (i := 0) (j := 2) (by decide) rfl) (dw_3_inv hIk).1) cv_X5_209 rfl rfl hl.1 (Nat.le_of_ble_eq_true rfl) dX5_draws_170 (by decide) (by decide) (fun σ170 H locs p170 hP hS => ?_)
                      refine l_inc1 hx hb 3 dX5_draws_173 hl rfl rfl (fun ls hl => ?_)
                      refine lv_goto (tgt := 40) hx hb dX5_draws_176 rfl ?_
                      first | exact ih (k + 1) _ σ170 (by omega) (by omega) (by rw [dwC, ← eS, if_pos c57, hv]) (by rw [dwN, ← eS]; exact p170.1) ((hk2.up (by decide)).tr p170.2.1) _ _ _ hP hS (hl.mask [true, true, true, true, false, false]) | exact ih (k + 1) _ σ170 (by omega) (by omega) (by rw [dwC, ← eS, if_neg c57, hv]) (by rw [dwN, ← eS]; exact p170.1) ((hk2.up (by decide)).tr p170.2.1) _ _ _ hP hS (hl.mask [true, true, true, true, false, false])
                    · refine l_ifeq_0 hx hb 145 dX5_draws_138 rfl ?_
                      refine lv_iload hx hb dX5_draws_145 (hl.at rfl) ?_
                      refine lv_iconst (v := nI 4) hx hb dX5_draws_147 rfl ?_
                      refine lv_bipush (v := nI 6) hx hb dX5_draws_148 rfl ?_
                      refine m_sS hC (met_in ) cs_X5_56 rfl rfl hl.1 (Nat.le_of_ble_eq_true rfl) dX5_draws_150 (by decide) (by decide) (fun r150 p150 => ?_)
                      rcases p150 with ⟨rfl, p150⟩ | ⟨rfl, p150⟩
                      · refine l_ifeq_1 hx hb 160 dX5_draws_153 rfl ?_
                        refine lv_iconst (v := -1) hx hb dX5_draws_156 rfl ?_
                        refine lv_goto (tgt := 161) hx hb dX5_draws_157 rfl ?_
                        first | refine l_top (dw_x (dw_d S)) (by rw [dw_x, if_pos p135]) ?_ | refine l_top (dw_x (dw_d S)) (by rw [dw_x, if_neg p135, if_pos p150]) ?_ | refine l_top (dw_x (dw_d S)) (by rw [dw_x, if_neg p135, if_neg p150]) ?_
                        refine lv_iadd hx hb dX5_draws_161 ?_
                        refine lv_iconst (v := nI 0) hx hb dX5_draws_162 rfl ?_
                        refine lv_bipush (v := nI 9) hx hb dX5_draws_163 rfl ?_
                        refine m_sS hC (met_held ) cs_X5_61 rfl rfl hl.1 (Nat.le_of_ble_eq_true rfl) dX5_draws_165 (by decide) (by decide) (fun r165 p165 => ?_)
                        subst p165
                        refine m_st 0 _ (by decide) hC hK hP hS (rfl) (show _ < 449 by omega) dX5_draws_168 (fun H locs hP hS => ?_)
                        refine lv_aload_n hx hb dX5_draws_169 rfl (hl.at rfl) ?_
                        refine m_vV hC hK hP hS (met_hour (S := dw_3 S) (by rw [up1_s]; exact hR2.set (i := 0) (j := 2) (by decide) rfl) (dw_3_inv hIk).1) cv_X5_209 rfl rfl hl.1 (Nat.le_of_ble_eq_true rfl) dX5_draws_170 (by decide) (by decide) (fun σ170 H locs p170 hP hS => ?_)
                        refine l_inc1 hx hb 3 dX5_draws_173 hl rfl rfl (fun ls hl => ?_)
                        refine lv_goto (tgt := 40) hx hb dX5_draws_176 rfl ?_
                        first | exact ih (k + 1) _ σ170 (by omega) (by omega) (by rw [dwC, ← eS, if_pos c57, hv]) (by rw [dwN, ← eS]; exact p170.1) ((hk2.up (by decide)).tr p170.2.1) _ _ _ hP hS (hl.mask [true, true, true, true, false, false]) | exact ih (k + 1) _ σ170 (by omega) (by omega) (by rw [dwC, ← eS, if_neg c57, hv]) (by rw [dwN, ← eS]; exact p170.1) ((hk2.up (by decide)).tr p170.2.1) _ _ _ hP hS (hl.mask [true, true, true, true, false, false])
                      · refine l_ifeq_0 hx hb 160 dX5_draws_153 rfl ?_
                        refine lv_iconst (v := nI 0) hx hb dX5_draws_160 rfl ?_
                        first | refine l_top (dw_x (dw_d S)) (by rw [dw_x, if_pos p135]) ?_ | refine l_top (dw_x (dw_d S)) (by rw [dw_x, if_neg p135, if_pos p150]) ?_ | refine l_top (dw_x (dw_d S)) (by rw [dw_x, if_neg p135, if_neg p150]) ?_
                        refine lv_iadd hx hb dX5_draws_161 ?_
                        refine lv_iconst (v := nI 0) hx hb dX5_draws_162 rfl ?_
                        refine lv_bipush (v := nI 9) hx hb dX5_draws_163 rfl ?_
                        refine m_sS hC (met_held ) cs_X5_61 rfl rfl hl.1 (Nat.le_of_ble_eq_true rfl) dX5_draws_165 (by decide) (by decide) (fun r165 p165 => ?_)
                        subst p165
                        refine m_st 0 _ (by decide) hC hK hP hS (rfl) (show _ < 449 by omega) dX5_draws_168 (fun H locs hP hS => ?_)
                        refine lv_aload_n hx hb dX5_draws_169 rfl (hl.at rfl) ?_
                        refine m_vV hC hK hP hS (met_hour (S := dw_3 S) (by rw [up1_s]; exact hR2.set (i := 0) (j := 2) (by decide) rfl) (dw_3_inv hIk).1) cv_X5_209 rfl rfl hl.1 (Nat.le_of_ble_eq_true rfl) dX5_draws_170 (by decide) (by decide) (fun σ170 H locs p170 hP hS => ?_)
                        refine l_inc1 hx hb 3 dX5_draws_173 hl rfl rfl (fun ls hl => ?_)
                        refine lv_goto (tgt := 40) hx hb dX5_draws_176 rfl ?_
                        first | exact ih (k + 1) _ σ170 (by omega) (by omega) (by rw [dwC, ← eS, if_pos c57, hv]) (by rw [dwN, ← eS]; exact p170.1) ((hk2.up (by decide)).tr p170.2.1) _ _ _ hP hS (hl.mask [true, true, true, true, false, false]) | exact ih (k + 1) _ σ170 (by omega) (by omega) (by rw [dwC, ← eS, if_neg c57, hv]) (by rw [dwN, ← eS]; exact p170.1) ((hk2.up (by decide)).tr p170.2.1) _ _ _ hP hS (hl.mask [true, true, true, true, false, false])
                  · refine lv_iload hx hb dX5_draws_81 (hl.at rfl) ?_
                    refine lv_if_ne (tgt := 120) hx hb dX5_draws_83 rfl (fun c83 => ?_) (fun c83 => ?_)
                    · exact absurd c57 c83
                    · refine lv_aload_n hx hb dX5_draws_86 rfl (hl.at rfl) ?_
                      refine lv_iload hx hb dX5_draws_87 (hl.at rfl) ?_
                      refine lv_aload_n hx hb dX5_draws_89 rfl (hl.at rfl) ?_
                      refine lv_iload hx hb dX5_draws_90 (hl.at rfl) ?_
                      refine lv_iconst (v := nI 4) hx hb dX5_draws_92 rfl ?_
                      refine m_pV hC hK hP (met_its (w := w) (q := 4) hRi rfl rfl (by omega) (by decide)) cv_X5_90 rfl rfl hl.1 (Nat.le_of_ble_eq_true rfl) dX5_draws_93 (by decide) (by decide) (fun r93 p93 => ?_)
                      obtain rfl : r93 = dw_fl (up2 S 0 5 (sp_dz S)) w 9 w := p93
                      refine lv_iconst (v := nI 1) hx hb dX5_draws_96 rfl ?_
                      refine lv_icmp_ne (tgt := 110) hx hb dX5_draws_97 rfl (fun c97 => ?_) (fun c97 => ?_)
                      · refine lv_iconst (v := nI 0) hx hb dX5_draws_110 rfl ?_
                        refine m_vV hC hK hP hS (met_turn1 (w := w) hRi (dw_fl_inv (dz_inv hIk) w) rfl (by omega)) cv_X5_206 rfl rfl hl.1 (Nat.le_of_ble_eq_true rfl) dX5_draws_111 (by decide) (by decide) (fun σ111 H locs p111 hP hS => ?_)
                        refine l_inc1 hx hb 5 dX5_draws_114 hl rfl rfl (fun ls hl => ?_)
                        refine lv_goto (tgt := 70) hx hb dX5_draws_117 rfl ?_
                        first | exact ih2 (w + 1) σ111 (by omega) (by omega) (by rw [dw_fl, if_pos c97]; exact p111.1) (gk.tr (p111.2.mono (by decide))) _ _ _ hP hS hl | exact ih2 (w + 1) σ111 (by omega) (by omega) (by rw [dw_fl, if_neg c97]; exact p111.1) (gk.tr (p111.2.mono (by decide))) _ _ _ hP hS hl
                      · refine lv_aload_n hx hb dX5_draws_100 rfl (hl.at rfl) ?_
                        refine lv_iload hx hb dX5_draws_101 (hl.at rfl) ?_
                        refine lv_iconst (v := nI 1) hx hb dX5_draws_103 rfl ?_
                        refine m_pV hC hK hP (met_its (w := w) (q := 1) hRi rfl rfl (by omega) (by decide)) cv_X5_90 rfl rfl hl.1 (Nat.le_of_ble_eq_true rfl) dX5_draws_104 (by decide) (by decide) (fun r104 p104 => ?_)
                        obtain rfl : r104 = dw_fl (up2 S 0 5 (sp_dz S)) w 6 w := p104
                        refine lv_goto (tgt := 111) hx hb dX5_draws_107 rfl ?_
                        refine m_vV hC hK hP hS (met_turn1 (w := w) hRi (dw_fl_inv (dz_inv hIk) w) rfl (by omega)) cv_X5_206 rfl rfl hl.1 (Nat.le_of_ble_eq_true rfl) dX5_draws_111 (by decide) (by decide) (fun σ111 H locs p111 hP hS => ?_)
                        refine l_inc1 hx hb 5 dX5_draws_114 hl rfl rfl (fun ls hl => ?_)
                        refine lv_goto (tgt := 70) hx hb dX5_draws_117 rfl ?_
                        first | exact ih2 (w + 1) σ111 (by omega) (by omega) (by rw [dw_fl, if_pos c97]; exact p111.1) (gk.tr (p111.2.mono (by decide))) _ _ _ hP hS hl | exact ih2 (w + 1) σ111 (by omega) (by omega) (by rw [dw_fl, if_neg c97]; exact p111.1) (gk.tr (p111.2.mono (by decide))) _ _ _ hP hS hl
              exact inner (wh (T 0) + 1) 0 σ46 (Nat.zero_le _) (by omega) p46.2.1 (hk.tr (p46.2.2.mono (by decide))) _ _ _ hP hS hl
      exact outer (N + 1) 0 0 σ (Nat.zero_le _) (by omega) rfl hT.1 Kp.rf _ _ _ hP hS hl
    · refine lv_aload_n hx hb dX5_draws_30 rfl (hl.at rfl) ?_
      refine lv_iconst (v := nI 3) hx hb dX5_draws_31 rfl ?_
      refine m_iV hC hK hP hS (met_error hT rfl (by decide)) cv_X5_76 rfl rfl hl.1 (Nat.le_of_ble_eq_true rfl) dX5_draws_32 (by decide) (by decide) (fun r32 σ32 H locs p32 hP hS => ?_)
      refine hret _ _ ls _ _ _ hP hS dX5_draws_35 ?_
      first | (rw [op_draws, if_pos p4, cn_nI (by omega), if_pos c27]; exact ⟨by rw [hv, e5], hT.S (by rw [e5] at eS; rw [eS] at hRk; exact hRk) (hk.mono (by decide))⟩) | (rw [op_draws, if_pos p4, cn_nI (by omega), if_neg (by omega)]; exact p32) | (rw [op_draws, if_neg p4]; exact p12)
  · refine l_ifne_0 hx hb 16 dX5_draws_7 rfl ?_
    refine lv_aload_n hx hb dX5_draws_10 rfl (hl.at rfl) ?_
    refine lv_iconst (v := nI 1) hx hb dX5_draws_11 rfl ?_
    refine m_iV hC hK hP hS (met_error hT rfl (by decide)) cv_X5_76 rfl rfl hl.1 (Nat.le_of_ble_eq_true rfl) dX5_draws_12 (by decide) (by decide) (fun r12 σ12 H locs p12 hP hS => ?_)
    refine hret _ _ ls _ _ _ hP hS dX5_draws_15 ?_
    first | (rw [op_draws, if_pos p4, cn_nI (by omega), if_pos c27]; exact ⟨by rw [hv, e5], hT.S (by rw [e5] at eS; rw [eS] at hRk; exact hRk) (hk.mono (by decide))⟩) | (rw [op_draws, if_pos p4, cn_nI (by omega), if_neg (by omega)]; exact p32) | (rw [op_draws, if_neg p4]; exact p12)
