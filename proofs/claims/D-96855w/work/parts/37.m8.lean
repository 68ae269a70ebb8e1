theorem met_isTold {l : Launch} {D : va_G} {cA : Nat → ClassId} {b : Nat} {σ : Nat → Nat → Int32} {x n : Int32} : MP l D cA b yX5_isTold cX5_isTold 3 (some .boolean) (1) [.ref b, .int x, .int n] σ (bz ((nI 0 ≤ x ∧ x ≤ nI 69) ∧ nI 1 ≤ n ∧ n ≤ nI 48)) := by
  refine Cp.ofz rfl (by decide +kernel) (Nat.le_of_ble_eq_true rfl) ?_
  intro p e s m args below meth c Q hC hK hP hret ls hl
  have hx := hC.1
  have hb := hC.2.1
  have hown := hC.2.2.2.1
  have hts := hC.2.2.2.2
  refine lv_iload_n hx hb dX5_isTold_0 rfl (hl.at rfl) ?_
  refine lv_iconst (v := nI 0) hx hb dX5_isTold_1 rfl ?_
  refine lv_bipush (v := nI 69) hx hb dX5_isTold_2 rfl ?_
  refine m_sS hC (met_in ) cs_X5_56 rfl rfl hl.1 (Nat.le_of_ble_eq_true rfl) dX5_isTold_4 (by decide) (by decide) (fun r4 p4 => ?_)
  rcases p4 with ⟨rfl, p4⟩ | ⟨rfl, p4⟩
  · refine l_ifeq_1 hx hb 24 dX5_isTold_7 rfl ?_
    refine lv_iload_n hx hb dX5_isTold_10 rfl (hl.at rfl) ?_
    refine lv_iconst (v := nI 1) hx hb dX5_isTold_11 rfl ?_
    refine lv_bipush (v := nI 48) hx hb dX5_isTold_12 rfl ?_
    refine m_sS hC (met_in ) cs_X5_56 rfl rfl hl.1 (Nat.le_of_ble_eq_true rfl) dX5_isTold_14 (by decide) (by decide) (fun r14 p14 => ?_)
    rcases p14 with ⟨rfl, p14⟩ | ⟨rfl, p14⟩
    · refine l_ifeq_1 hx hb 24 dX5_isTold_17 rfl ?_
      refine lv_iconst (v := nI 1) hx hb dX5_isTold_20 rfl ?_
      refine lv_goto (tgt := 25) hx hb dX5_isTold_21 rfl ?_
      refine hret ls _ _ dX5_isTold_25 (by first | exact Or.inl rfl | exact Or.inr rfl) ?_
      first | (exact Or.inl ⟨rfl, p4, p14⟩) | (exact Or.inr ⟨rfl, fun z => p4 z.1⟩) | (exact Or.inr ⟨rfl, fun z => p14 z.2⟩)
    · refine l_ifeq_0 hx hb 24 dX5_isTold_17 rfl ?_
      refine lv_iconst (v := nI 0) hx hb dX5_isTold_24 rfl ?_
      refine hret ls _ _ dX5_isTold_25 (by first | exact Or.inl rfl | exact Or.inr rfl) ?_
      first | (exact Or.inl ⟨rfl, p4, p14⟩) | (exact Or.inr ⟨rfl, fun z => p4 z.1⟩) | (exact Or.inr ⟨rfl, fun z => p14 z.2⟩)
  · refine l_ifeq_0 hx hb 24 dX5_isTold_7 rfl ?_
    refine lv_iconst (v := nI 0) hx hb dX5_isTold_24 rfl ?_
    refine hret ls _ _ dX5_isTold_25 (by first | exact Or.inl rfl | exact Or.inr rfl) ?_
    first | (exact Or.inl ⟨rfl, p4, p14⟩) | (exact Or.inr ⟨rfl, fun z => p4 z.1⟩) | (exact Or.inr ⟨rfl, fun z => p14 z.2⟩)
theorem met_findTurns {l : Launch} {D : va_G} {cA : Nat → ClassId} {b : Nat} {σ : Nat → Nat → Int32} {S : Sta} {x y : Int32} {many N : Nat} (hR : RM (σ 0) S) (hI : Inv S) (hx1 : x = nI many) (hm : many ≤ 9) (hy1 : y = nI N) (hN : hrv S + N ≤ 20000) : MV l D cA b yX5_findTurns cX5_findTurns 5 (6) [.ref b, .int x, .int y] σ (fun τ => τ 22 0 = (fto S many N).1 ∧ τ 23 0 = (fto S many N).2 ∧ (∀ q, q < 449 → τ 0 q = σ 2 q) ∧ Kp [0, 5, 6, 7, 8, 9, 20, 21, 22, 23] σ τ) := by
  refine Cv.of (by decide +kernel) (Nat.le_of_ble_eq_true rfl) ?_
  intro p e s m args below meth c Q hC hK hP hret ls hl
  have hx := hC.1
  have hb := hC.2.1
  have hown := hC.2.2.2.1
  have hts := hC.2.2.2.2
  have hS : va_S (mA b) s.heap s.heap [] := va_S.rf
  subst hx1; subst hy1
  obtain ⟨eN, hN8⟩ := inv_wh hI
  refine lv_aload_n hx hb dX5_findTurns_0 rfl (hl.at rfl) ?_
  refine lv_iconst (v := nI 0) hx hb dX5_findTurns_1 rfl ?_
  refine mp_others hC hK hP hS dX5_findTurns_2 (fun H locs hP hS => ?_)
  refine lv_aload_n hx hb dX5_findTurns_5 rfl (hl.at rfl) ?_
  refine lv_iconst (v := nI 0) hx hb dX5_findTurns_6 rfl ?_
  refine mp_own hC hK hP hS dX5_findTurns_7 (fun H locs hP hS => ?_)
  refine lv_iconst (v := nI 0) hx hb dX5_findTurns_10 rfl ?_
  refine l_istore_n hx hb 3 dX5_findTurns_11 rfl hl rfl (fun ls hl => ?_)
  have outer : ∀ (n k : Nat) (τ : Sta), k ≤ N → N + 1 ≤ k + n → RM (τ 0) (hrN S k) → Kp [0, 5, 6, 7, 8, 9, 20, 21, 22, 23] σ τ → τ 22 0 = (fto S many k).1 → τ 23 0 = (fto S many k).2 → ∀ (H : Heap) (locs : List Loc) (ls : Array Slot), MWP D cA b τ H → va_S (mA b) s.heap H locs → lh ls [some (.ref b), some (.int (nI many)), some (.int (nI N)), some (.int (nI k)), none] → W p l e (rmG 6 0 0) s m args below meth c H locs 0 0 Q (F0 m 12 ls []) := by
    intro n
    induction n with
    | zero => intro k τ h1 h2; exact absurd h2 (by omega)
    | succ n ih =>
      intro k τ h1 h2 hRk hk e22 e23 H locs ls hP hS hl
      obtain ⟨hIk, hHk, hWk⟩ := hrN_inv hI k (by omega)
      refine lv_iload_n hx hb dX5_findTurns_12 rfl (hl.at rfl) ?_
      refine lv_iload_n hx hb dX5_findTurns_13 rfl (hl.at rfl) ?_
      refine l_geN hx hb 99 dX5_findTurns_14 rfl (by omega) (by omega) (fun c14 => ?_) (fun c14 => ?_)
      · have e5 : k = N := by omega
        refine lv_aload_n hx hb dX5_findTurns_99 rfl (hl.at rfl) ?_
        refine mg_put hC hK hP dX5_findTurns_100 ?_
        refine lv_aload_n hx hb dX5_findTurns_103 rfl (hl.at rfl) ?_
        refine mg_s hC hK hP dX5_findTurns_104 ?_
        refine m_vS hC hK hP hS (met_carry (i := 2) (j := 0) (by decide) (by decide) (by decide)) cs_X5_226 rfl rfl hl.1 (Nat.le_of_ble_eq_true rfl) dX5_findTurns_107 (by decide) (by decide) (fun σ107 H locs p107 hP hS => ?_)
        refine hret _ _ ls _ _ hP hS dX5_findTurns_110 ?_
        exact ⟨by rw [p107.2 22 (by decide), e22, e5], by rw [p107.2 23 (by decide), e23, e5], fun q hq => by rw [p107.1 q hq, hk 2 (by decide)], hk.tr (p107.2.mono (by decide))⟩
      · refine lv_aload_n hx hb dX5_findTurns_17 rfl (hl.at rfl) ?_
        refine m_vV hC hK hP hS (met_hour (S := hrN S k) hRk hIk) cv_X5_209 rfl rfl hl.1 (Nat.le_of_ble_eq_true rfl) dX5_findTurns_18 (by decide) (by decide) (fun σ18 H locs p18 hP hS => ?_)
        obtain ⟨hIk1, -, hWk1⟩ := hrN_inv hI (k + 1) (by omega)
        have eNk : hrN S (k + 1) 0 0 = nI (wh S) := by rw [← hWk1]; exact (inv_wh hIk1).1
        refine lv_iconst (v := nI 0) hx hb dX5_findTurns_21 rfl ?_
        refine l_istore hx hb 4 dX5_findTurns_22 hl rfl (fun ls hl => ?_)
        have inner : ∀ (m0 w : Nat) (υ : Sta), w ≤ wh S → wh S + 1 ≤ w + m0 → RM (υ 0) (hrN S (k + 1)) → Kp [0, 5, 6, 7, 8, 9, 20, 21, 22, 23] σ υ → υ 22 0 = (fin_ (hrN S k) many (fto S many k) w).1 → υ 23 0 = (fin_ (hrN S k) many (fto S many k) w).2 → (∀ v, v < wh S → υ 9 v = trn (hrN S k) v) → ∀ (H : Heap) (locs : List Loc) (ls : Array Slot), MWP D cA b υ H → va_S (mA b) s.heap H locs → lh ls [some (.ref b), some (.int (nI many)), some (.int (nI N)), some (.int (nI k)), some (.int (nI w))] → W p l e (rmG 6 0 0) s m args below meth c H locs 0 0 Q (F0 m 24 ls []) := by
          intro m0
          induction m0 with
          | zero => intro w υ g1 g2; exact absurd g2 (by omega)
          | succ m0 ih2 =>
            intro w υ g1 g2 hRi gk g22 g23 g9 H locs ls hP hS hl
            refine lv_iload hx hb dX5_findTurns_24 (hl.at rfl) ?_
            refine lv_aload_n hx hb dX5_findTurns_26 rfl (hl.at rfl) ?_
            refine mg_s hC hK hP dX5_findTurns_27 ?_
            refine lv_iconst (v := nI 0) hx hb dX5_findTurns_30 rfl ?_
            refine m_ld 0 _ (by decide) hC hK hP (rfl) (show _ < 449 by omega) dX5_findTurns_31 ?_
            refine l_top _ ((hRi.at 0 0 (n := 0) (by decide) rfl).trans eNk) ?_
            refine l_geN hx hb 93 dX5_findTurns_32 rfl (by omega) (by omega) (fun c32 => ?_) (fun c32 => ?_)
            · have e6 : w = wh S := by omega
              refine l_inc1 hx hb 3 dX5_findTurns_93 hl rfl rfl (fun ls hl => ?_)
              refine lv_goto (tgt := 12) hx hb dX5_findTurns_96 rfl ?_
              exact ih (k + 1) υ (by omega) (by omega) hRi gk (by rw [fto, ← e6]; exact g22) (by rw [fto, ← e6]; exact g23) _ _ _ hP hS (hl.mask [true, true, true, true, false])
            · refine lv_aload_n hx hb dX5_findTurns_35 rfl (hl.at rfl) ?_
              refine lv_dup hx hb dX5_findTurns_36 rfl ?_
              refine mg_others hC hK hP dX5_findTurns_37 ?_
              refine lv_iload hx hb dX5_findTurns_40 (hl.at rfl) ?_
              refine lv_iload_n hx hb dX5_findTurns_42 rfl (hl.at rfl) ?_
              refine l_geN hx hb 56 dX5_findTurns_43 rfl (by omega) (by omega) (fun c43 => ?_) (fun c43 => ?_)
              · refine lv_iconst (v := nI 0) hx hb dX5_findTurns_56 rfl ?_
                refine lv_iadd hx hb dX5_findTurns_57 ?_
                refine mp_others hC hK hP hS dX5_findTurns_58 (fun H locs hP hS => ?_)
                refine lv_aload_n hx hb dX5_findTurns_61 rfl (hl.at rfl) ?_
                refine lv_dup hx hb dX5_findTurns_62 rfl ?_
                refine mg_own hC hK hP dX5_findTurns_63 ?_
                refine lv_iload hx hb dX5_findTurns_66 (hl.at rfl) ?_
                refine lv_iload_n hx hb dX5_findTurns_68 rfl (hl.at rfl) ?_
                refine l_geN hx hb 76 dX5_findTurns_69 rfl (by omega) (by omega) (fun c69 => ?_) (fun c69 => ?_)
                · refine lv_aload_n hx hb dX5_findTurns_76 rfl (hl.at rfl) ?_
                  refine mg_turned hC hK hP dX5_findTurns_77 ?_
                  refine lv_iload hx hb dX5_findTurns_80 (hl.at rfl) ?_
                  refine m_ld 9 _ (by decide) hC hK hP (rfl) (show _ < 9 by omega) dX5_findTurns_82 ?_
                  first | refine l_top (trn (hrN S k) w) (g9 w (by omega)) ?_ | skip
                  refine lv_iadd hx hb dX5_findTurns_83 ?_
                  refine mp_own hC hK hP hS dX5_findTurns_84 (fun H locs hP hS => ?_)
                  refine l_inc1 hx hb 4 dX5_findTurns_87 hl rfl rfl (fun ls hl => ?_)
                  refine lv_goto (tgt := 24) hx hb dX5_findTurns_90 rfl ?_
                  first | exact ih2 (w + 1) _ (by omega) (by omega) (by exact hRi) ((gk.up (by decide)).up (by decide)) (by show υ 22 0 + _ = (_ : Int32); rw [fin_, g22]; show _ = _ + _; rw [if_neg (by omega)]) (by show υ 23 0 + _ = (_ : Int32); rw [fin_, g23]; show _ = _ + _; rw [if_neg (by omega)]) (by exact g9) _ _ _ hP hS hl | exact ih2 (w + 1) _ (by omega) (by omega) (by exact hRi) ((gk.up (by decide)).up (by decide)) (by show υ 22 0 + _ = (_ : Int32); rw [fin_, g22]; show _ = _ + _; rw [if_pos c43]) (by show υ 23 0 + _ = (_ : Int32); rw [fin_, g23]; show _ = _ + _; rw [if_pos c43]) (by exact g9) _ _ _ hP hS hl
                · exact absurd c69 (by omega)
              · refine lv_aload_n hx hb dX5_findTurns_46 rfl (hl.at rfl) ?_
                refine mg_turned hC hK hP dX5_findTurns_47 ?_
                refine lv_iload hx hb dX5_findTurns_50 (hl.at rfl) ?_
                refine m_ld 9 _ (by decide) hC hK hP (rfl) (show _ < 9 by omega) dX5_findTurns_52 ?_
                refine l_top (trn (hrN S k) w) (g9 w (by omega)) ?_
                refine lv_goto (tgt := 57) hx hb dX5_findTurns_53 rfl ?_
                refine lv_iadd hx hb dX5_findTurns_57 ?_
                refine mp_others hC hK hP hS dX5_findTurns_58 (fun H locs hP hS => ?_)
                refine lv_aload_n hx hb dX5_findTurns_61 rfl (hl.at rfl) ?_
                refine lv_dup hx hb dX5_findTurns_62 rfl ?_
                refine mg_own hC hK hP dX5_findTurns_63 ?_
                refine lv_iload hx hb dX5_findTurns_66 (hl.at rfl) ?_
                refine lv_iload_n hx hb dX5_findTurns_68 rfl (hl.at rfl) ?_
                refine l_geN hx hb 76 dX5_findTurns_69 rfl (by omega) (by omega) (fun c69 => ?_) (fun c69 => ?_)
                · exact absurd c69 (by omega)
                · refine lv_iconst (v := nI 0) hx hb dX5_findTurns_72 rfl ?_
                  refine lv_goto (tgt := 83) hx hb dX5_findTurns_73 rfl ?_
                  first | refine l_top (trn (hrN S k) w) (g9 w (by omega)) ?_ | skip
                  refine lv_iadd hx hb dX5_findTurns_83 ?_
                  refine mp_own hC hK hP hS dX5_findTurns_84 (fun H locs hP hS => ?_)
                  refine l_inc1 hx hb 4 dX5_findTurns_87 hl rfl rfl (fun ls hl => ?_)
                  refine lv_goto (tgt := 24) hx hb dX5_findTurns_90 rfl ?_
                  first | exact ih2 (w + 1) _ (by omega) (by omega) (by exact hRi) ((gk.up (by decide)).up (by decide)) (by show υ 22 0 + _ = (_ : Int32); rw [fin_, g22]; show _ = _ + _; rw [if_neg (by omega)]) (by show υ 23 0 + _ = (_ : Int32); rw [fin_, g23]; show _ = _ + _; rw [if_neg (by omega)]) (by exact g9) _ _ _ hP hS hl | exact ih2 (w + 1) _ (by omega) (by omega) (by exact hRi) ((gk.up (by decide)).up (by decide)) (by show υ 22 0 + _ = (_ : Int32); rw [fin_, g22]; show _ = _ + _; rw [if_pos c43]) (by show υ 23 0 + _ = (_ : Int32); rw [fin_, g23]; show _ = _ + _; rw [if_pos c43]) (by exact g9) _ _ _ hP hS hl
        exact inner (wh S + 1) 0 σ18 (Nat.zero_le _) (by omega) p18.1 (hk.tr (p18.2.1.mono (by decide))) (by rw [p18.2.1 22 (by decide)]; exact e22) (by rw [p18.2.1 23 (by decide)]; exact e23) (fun v hv => p18.2.2.2.1 v (by omega)) _ _ _ hP hS hl
  exact outer (N + 1) 0 _ (Nat.zero_le _) (by omega) (by exact hR) ((Kp.rf.up (by decide)).up (by decide)) rfl rfl _ _ _ hP hS hl
theorem cv_X5_241 : CV RX5 RX5 241 yX5_isTold cX5_isTold 3 (some .boolean) 2 := ⟨lw_V q1658 q1660 qs72 q88 q1661, by decide +kernel⟩
theorem cv_X5_244 : CV RX5 RX5 244 yX5_findTurns cX5_findTurns 5 (none) 2 := ⟨lw_V q1662 q1664 qs73 q88 q1665, by decide +kernel⟩
theorem met_fewer {l : Launch} {D : va_G} {cA : Nat → ClassId} {b : Nat} {σ : Nat → Nat → Int32} {x y n : Int32} {T : Tta} (hT : RT σ T) (hI : Inv (T 0)) (hH9 : hrv (T 0) ≤ 9999) : MI l D cA b yX5_fewer cX5_fewer 7 (some .int) (7) [.ref b, .int x, .int y, .int n] σ (fun r τ => r = (op_fewer x y n T).1 ∧ RT τ (op_fewer x y n T).2) := by
  refine Ci.of rfl (by decide +kernel) (Nat.le_of_ble_eq_true rfl) ?_
  intro p e s m args below meth c Q hC hK hP hret ls hl
  have hx := hC.1
  have hb := hC.2.1
  have hown := hC.2.2.2.1
  have hts := hC.2.2.2.2
  have hS : va_S (mA b) s.heap s.heap [] := va_S.rf
  obtain ⟨eN, hN8⟩ := inv_wh hI
  refine lv_aload_n hx hb dX5_fewer_0 rfl (hl.at rfl) ?_
  refine lv_iload_n hx hb dX5_fewer_1 rfl (hl.at rfl) ?_
  refine lv_iload_n hx hb dX5_fewer_2 rfl (hl.at rfl) ?_
  refine m_pV hC hK hP (met_isTold ) cv_X5_241 rfl rfl hl.1 (Nat.le_of_ble_eq_true rfl) dX5_fewer_3 (by decide) (by decide) (fun r3 p3 => ?_)
  rcases p3 with ⟨rfl, p3⟩ | ⟨rfl, p3⟩
  · obtain ⟨a, ha, rfl⟩ := in_nI p3.1
    obtain ⟨m0, hm1, hm0, rfl⟩ := in_nI1 p3.2
    refine l_ifeq_1 hx hb 16 dX5_fewer_6 rfl ?_
    refine lv_iload_n hx hb dX5_fewer_9 rfl (hl.at rfl) ?_
    refine m_sS hC (met_isPlace ) cs_X5_79 rfl rfl hl.1 (Nat.le_of_ble_eq_true rfl) dX5_fewer_10 (by decide) (by decide) (fun r10 p10 => ?_)
    rcases p10 with ⟨rfl, p10⟩ | ⟨rfl, p10⟩
    · obtain ⟨pl, hpl, rfl⟩ := in_nI p10
      refine l_ifne_1 hx hb 22 dX5_fewer_13 rfl ?_
      refine lv_aload_n hx hb dX5_fewer_22 rfl (hl.at rfl) ?_
      refine mg_s hC hK hP dX5_fewer_23 ?_
      refine lv_iconst (v := nI 0) hx hb dX5_fewer_26 rfl ?_
      refine m_ld 0 _ (by decide) hC hK hP (rfl) (show _ < 449 by omega) dX5_fewer_27 ?_
      refine l_top _ ((hT.1.at 0 0 (n := 0) (by decide) rfl).trans eN) ?_
      refine lv_bipush (v := nI 8) hx hb dX5_fewer_28 rfl ?_
      refine l_neN hx hb 39 dX5_fewer_30 rfl (by omega) (by omega) (fun c30 => ?_) (fun c30 => ?_)
      · refine lv_aload_n hx hb dX5_fewer_39 rfl (hl.at rfl) ?_
        refine mg_s hC hK hP dX5_fewer_40 ?_
        refine lv_iconst (v := nI 0) hx hb dX5_fewer_43 rfl ?_
        refine m_ld 0 _ (by decide) hC hK hP (rfl) (show _ < 449 by omega) dX5_fewer_44 ?_
        refine l_top _ ((hT.1.at 0 0 (n := 0) (by decide) rfl).trans eN) ?_
        refine l_istore hx hb 4 dX5_fewer_45 hl rfl (fun ls hl => ?_)
        refine lv_aload_n hx hb dX5_fewer_47 rfl (hl.at rfl) ?_
        refine mg_s hC hK hP dX5_fewer_48 ?_
        refine lv_aload_n hx hb dX5_fewer_51 rfl (hl.at rfl) ?_
        refine mg_put hC hK hP dX5_fewer_52 ?_
        refine m_vS hC hK hP hS (met_carry (i := 0) (j := 2) (by decide) (by decide) (by decide)) cs_X5_226 rfl rfl hl.1 (Nat.le_of_ble_eq_true rfl) dX5_fewer_55 (by decide) (by decide) (fun σ55 H locs p55 hP hS => ?_)
        refine lv_aload_n hx hb dX5_fewer_58 rfl (hl.at rfl) ?_
        refine lv_iload hx hb dX5_fewer_59 (hl.at rfl) ?_
        refine lv_iload_n hx hb dX5_fewer_61 rfl (hl.at rfl) ?_
        refine m_vV hC hK hP hS (met_findTurns (S := T 0) (by rw [p55.2 0 (by decide)]; exact hT.1) hI rfl (by omega) rfl (by omega)) cv_X5_244 rfl rfl hl.1 (Nat.le_of_ble_eq_true rfl) dX5_fewer_62 (by decide) (by decide) (fun σ62 H locs p62 hP hS => ?_)
        have hR2 : RM (σ62 0) (T 0) := hT.1.same (fun q hq => by rw [p62.2.2.1 q hq, p55.1 q hq])
        refine lv_aload_n hx hb dX5_fewer_65 rfl (hl.at rfl) ?_
        refine mg_others hC hK hP dX5_fewer_66 ?_
        refine l_top _ p62.1 ?_
        refine l_istore hx hb 5 dX5_fewer_69 hl rfl (fun ls hl => ?_)
        refine lv_aload_n hx hb dX5_fewer_71 rfl (hl.at rfl) ?_
        refine lv_iload_n hx hb dX5_fewer_72 rfl (hl.at rfl) ?_
        refine lv_bipush (v := nI 10) hx hb dX5_fewer_73 rfl ?_
        refine lv_iload_n hx hb dX5_fewer_75 rfl (hl.at rfl) ?_
        refine l_mulN hx hb dX5_fewer_76 ?_
        refine m_iV hC hK hP hS (met_adds (S := T 0) (a := a) (d := 10 * pl) hR2 hI rfl rfl (by omega) (by omega) (by omega)) cv_X5_100 rfl rfl hl.1 (Nat.le_of_ble_eq_true rfl) dX5_fewer_77 (by decide) (by decide) (fun r77 σ77 H locs p77 hP hS => ?_)
        obtain ⟨hIa, hHa, hWa⟩ := adds_inv hI (by omega : wh (T 0) < 8) (a := a) (d := 10 * pl) (by omega) (by omega) (by omega)
        refine l_istore hx hb 6 dX5_fewer_80 hl rfl (fun ls hl => ?_)
        refine lv_aload_n hx hb dX5_fewer_82 rfl (hl.at rfl) ?_
        refine lv_iload hx hb dX5_fewer_83 (hl.at rfl) ?_
        refine lv_iload_n hx hb dX5_fewer_85 rfl (hl.at rfl) ?_
        refine m_vV hC hK hP hS (met_findTurns (S := sp_adds (T 0) a (10 * pl)) p77.2.1 hIa rfl (by omega) rfl (by omega)) cv_X5_244 rfl rfl hl.1 (Nat.le_of_ble_eq_true rfl) dX5_fewer_86 (by decide) (by decide) (fun σ86 H locs p86 hP hS => ?_)
        refine lv_iload hx hb dX5_fewer_89 (hl.at rfl) ?_
        refine lv_aload_n hx hb dX5_fewer_91 rfl (hl.at rfl) ?_
        refine mg_others hC hK hP dX5_fewer_92 ?_
        refine lv_isub hx hb dX5_fewer_95 ?_
        refine hret _ _ ls _ _ _ hP hS dX5_fewer_96 ?_
        first | (rw [op_fewer, if_pos p3, if_pos p10, if_neg (by omega), cn_nI (by omega), cn_nI (by omega), cn_nI (by omega)]; refine ⟨by rw [p86.1], ?_⟩; rw [← tS_self (T := T)]; exact hT.S (hT.1.same (fun q hq => by rw [p86.2.2.1 q hq, p77.2.2 2 (by decide), p62.2.2.2 2 (by decide), p55.1 q hq])) ((((p55.2.mono (by decide)).tr (p62.2.2.2.mono (by decide))).tr (p77.2.2.mono (by decide))).tr (p86.2.2.2.mono (by decide)))) | (rw [op_fewer, if_neg p3]; exact p18) | (rw [op_fewer, if_pos p3, if_neg p10]; exact p18) | (rw [op_fewer, if_pos p3, if_pos p10, if_pos c30]; exact p35)
      · refine lv_aload_n hx hb dX5_fewer_33 rfl (hl.at rfl) ?_
        refine lv_iconst (v := nI 4) hx hb dX5_fewer_34 rfl ?_
        refine m_iV hC hK hP hS (met_error hT rfl (by decide)) cv_X5_76 rfl rfl hl.1 (Nat.le_of_ble_eq_true rfl) dX5_fewer_35 (by decide) (by decide) (fun r35 σ35 H locs p35 hP hS => ?_)
        refine hret _ _ ls _ _ _ hP hS dX5_fewer_38 ?_
        first | (rw [op_fewer, if_pos p3, if_pos p10, if_neg (by omega), cn_nI (by omega), cn_nI (by omega), cn_nI (by omega)]; refine ⟨by rw [p86.1], ?_⟩; rw [← tS_self (T := T)]; exact hT.S (hT.1.same (fun q hq => by rw [p86.2.2.1 q hq, p77.2.2 2 (by decide), p62.2.2.2 2 (by decide), p55.1 q hq])) ((((p55.2.mono (by decide)).tr (p62.2.2.2.mono (by decide))).tr (p77.2.2.mono (by decide))).tr (p86.2.2.2.mono (by decide)))) | (rw [op_fewer, if_neg p3]; exact p18) | (rw [op_fewer, if_pos p3, if_neg p10]; exact p18) | (rw [op_fewer, if_pos p3, if_pos p10, if_pos c30]; exact p35)
    · refine l_ifne_0 hx hb 22 dX5_fewer_13 rfl ?_
      refine lv_aload_n hx hb dX5_fewer_16 rfl (hl.at rfl) ?_
      refine lv_iconst (v := nI 1) hx hb dX5_fewer_17 rfl ?_
      refine m_iV hC hK hP hS (met_error hT rfl (by decide)) cv_X5_76 rfl rfl hl.1 (Nat.le_of_ble_eq_true rfl) dX5_fewer_18 (by decide) (by decide) (fun r18 σ18 H locs p18 hP hS => ?_)
      refine hret _ _ ls _ _ _ hP hS dX5_fewer_21 ?_
      first | (rw [op_fewer, if_pos p3, if_pos p10, if_neg (by omega), cn_nI (by omega), cn_nI (by omega), cn_nI (by omega)]; refine ⟨by rw [p86.1], ?_⟩; rw [← tS_self (T := T)]; exact hT.S (hT.1.same (fun q hq => by rw [p86.2.2.1 q hq, p77.2.2 2 (by decide), p62.2.2.2 2 (by decide), p55.1 q hq])) ((((p55.2.mono (by decide)).tr (p62.2.2.2.mono (by decide))).tr (p77.2.2.mono (by decide))).tr (p86.2.2.2.mono (by decide)))) | (rw [op_fewer, if_neg p3]; exact p18) | (rw [op_fewer, if_pos p3, if_neg p10]; exact p18) | (rw [op_fewer, if_pos p3, if_pos p10, if_pos c30]; exact p35)
  · refine l_ifeq_0 hx hb 16 dX5_fewer_6 rfl ?_
    refine lv_aload_n hx hb dX5_fewer_16 rfl (hl.at rfl) ?_
    refine lv_iconst (v := nI 1) hx hb dX5_fewer_17 rfl ?_
    refine m_iV hC hK hP hS (met_error hT rfl (by decide)) cv_X5_76 rfl rfl hl.1 (Nat.le_of_ble_eq_true rfl) dX5_fewer_18 (by decide) (by decide) (fun r18 σ18 H locs p18 hP hS => ?_)
    refine hret _ _ ls _ _ _ hP hS dX5_fewer_21 ?_
    first | (rw [op_fewer, if_pos p3, if_pos p10, if_neg (by omega), cn_nI (by omega), cn_nI (by omega), cn_nI (by omega)]; refine ⟨by rw [p86.1], ?_⟩; rw [← tS_self (T := T)]; exact hT.S (hT.1.same (fun q hq => by rw [p86.2.2.1 q hq, p77.2.2 2 (by decide), p62.2.2.2 2 (by decide), p55.1 q hq])) ((((p55.2.mono (by decide)).tr (p62.2.2.2.mono (by decide))).tr (p77.2.2.mono (by decide))).tr (p86.2.2.2.mono (by decide)))) | (rw [op_fewer, if_neg p3]; exact p18) | (rw [op_fewer, if_pos p3, if_neg p10]; exact p18) | (rw [op_fewer, if_pos p3, if_pos p10, if_pos c30]; exact p35)
theorem met_bestPlace {l : Launch} {D : va_G} {cA : Nat → ClassId} {b : Nat} {σ : Nat → Nat → Int32} {x n : Int32} {T : Tta} (hT : RT σ T) (hI : Inv (T 0)) (hH9 : hrv (T 0) ≤ 9999) : MI l D cA b yX5_bestPlace cX5_bestPlace 8 (some .int) (7) [.ref b, .int x, .int n] σ (fun r τ => r = (op_best x n T).1 ∧ RT τ (op_best x n T).2) := by
  refine Ci.of rfl (by decide +kernel) (Nat.le_of_ble_eq_true rfl) ?_
  intro p e s m args below meth c Q hC hK hP hret ls hl
  have hx := hC.1
  have hb := hC.2.1
  have hown := hC.2.2.2.1
  have hts := hC.2.2.2.2
  have hS : va_S (mA b) s.heap s.heap [] := va_S.rf
  obtain ⟨eN, hN8⟩ := inv_wh hI
  refine lv_aload_n hx hb dX5_bestPlace_0 rfl (hl.at rfl) ?_
  refine lv_iload_n hx hb dX5_bestPlace_1 rfl (hl.at rfl) ?_
  refine lv_iload_n hx hb dX5_bestPlace_2 rfl (hl.at rfl) ?_
  refine m_pV hC hK hP (met_isTold ) cv_X5_241 rfl rfl hl.1 (Nat.le_of_ble_eq_true rfl) dX5_bestPlace_3 (by decide) (by decide) (fun r3 p3 => ?_)
  rcases p3 with ⟨rfl, p3⟩ | ⟨rfl, p3⟩
  · obtain ⟨a, ha, rfl⟩ := in_nI p3.1
    obtain ⟨m0, hm1, hm0, rfl⟩ := in_nI1 p3.2
    refine l_ifne_1 hx hb 15 dX5_bestPlace_6 rfl ?_
    refine lv_aload_n hx hb dX5_bestPlace_15 rfl (hl.at rfl) ?_
    refine mg_s hC hK hP dX5_bestPlace_16 ?_
    refine lv_iconst (v := nI 0) hx hb dX5_bestPlace_19 rfl ?_
    refine m_ld 0 _ (by decide) hC hK hP (rfl) (show _ < 449 by omega) dX5_bestPlace_20 ?_
    refine l_top _ ((hT.1.at 0 0 (n := 0) (by decide) rfl).trans eN) ?_
    refine lv_bipush (v := nI 8) hx hb dX5_bestPlace_21 rfl ?_
    refine l_neN hx hb 32 dX5_bestPlace_23 rfl (by omega) (by omega) (fun c23 => ?_) (fun c23 => ?_)
    · refine lv_aload_n hx hb dX5_bestPlace_32 rfl (hl.at rfl) ?_
      refine mg_s hC hK hP dX5_bestPlace_33 ?_
      refine lv_iconst (v := nI 0) hx hb dX5_bestPlace_36 rfl ?_
      refine m_ld 0 _ (by decide) hC hK hP (rfl) (show _ < 449 by omega) dX5_bestPlace_37 ?_
      refine l_top _ ((hT.1.at 0 0 (n := 0) (by decide) rfl).trans eN) ?_
      refine l_istore_n hx hb 3 dX5_bestPlace_38 rfl hl rfl (fun ls hl => ?_)
      refine lv_iconst (v := nI 0) hx hb dX5_bestPlace_39 rfl ?_
      refine l_istore hx hb 4 dX5_bestPlace_40 hl rfl (fun ls hl => ?_)
      refine lv_iconst (v := -1) hx hb dX5_bestPlace_42 rfl ?_
      refine l_istore hx hb 5 dX5_bestPlace_43 hl rfl (fun ls hl => ?_)
      refine lv_aload_n hx hb dX5_bestPlace_45 rfl (hl.at rfl) ?_
      refine mg_s hC hK hP dX5_bestPlace_46 ?_
      refine lv_aload_n hx hb dX5_bestPlace_49 rfl (hl.at rfl) ?_
      refine mg_put hC hK hP dX5_bestPlace_50 ?_
      refine m_vS hC hK hP hS (met_carry (i := 0) (j := 2) (by decide) (by decide) (by decide)) cs_X5_226 rfl rfl hl.1 (Nat.le_of_ble_eq_true rfl) dX5_bestPlace_53 (by decide) (by decide) (fun σ53 H locs p53 hP hS => ?_)
      refine lv_iconst (v := nI 0) hx hb dX5_bestPlace_56 rfl ?_
      refine l_istore hx hb 6 dX5_bestPlace_57 hl rfl (fun ls hl => ?_)
      have loop : ∀ (n k : Nat) (τ : Sta), k ≤ 12 → 13 ≤ k + n → RM (τ 0) (T 0) → (∀ q, q < 449 → τ 2 q = σ 0 q) → Kp PL σ τ → ∀ (H : Heap) (locs : List Loc) (ls : Array Slot), MWP D cA b τ H → va_S (mA b) s.heap H locs → lh ls [some (.ref b), some (.int (nI a)), some (.int (nI m0)), some (.int (nI (wh (T 0)))), some (.int (bp_ (T 0) a m0 k).1), some (.int (bp_ (T 0) a m0 k).2), some (.int (nI k)), none] → W p l e (rmG 7 0 0) s m args below meth c H locs 0 0 Q (F0 m 59 ls []) := by
        intro n
        induction n with
        | zero => intro k τ h1 h2; exact absurd h2 (by omega)
        | succ n ih =>
          intro k τ h1 h2 hRk e2 hk H locs ls hP hS hl
      
          refine lv_iload hx hb dX5_bestPlace_59 (hl.at rfl) ?_
          refine lv_bipush (v := nI 12) hx hb dX5_bestPlace_61 rfl ?_
          refine l_geN hx hb 128 dX5_bestPlace_63 rfl (by omega) (by omega) (fun c63 => ?_) (fun c63 => ?_)
          · have e5 : k = 12 := by omega
            refine lv_iload hx hb dX5_bestPlace_128 (hl.at rfl) ?_
            refine hret _ _ ls _ _ _ hP hS dX5_bestPlace_130 ?_
            first | (rw [op_best, if_pos p3, if_neg (by omega), cn_nI (by omega), cn_nI (by omega)]; refine ⟨by rw [e5], ?_⟩; rw [← tS_self (T := T)]; exact hT.S hRk hk) | (rw [op_best, if_neg p3]; exact p11) | (rw [op_best, if_pos p3, if_pos c23]; exact p28)
          · obtain ⟨hIa, hHa, hWa⟩ := adds_inv hI (by omega : wh (T 0) < 8) (a := a) (d := 10 * k) (by omega) (by omega) (by omega)
            refine lv_aload_n hx hb dX5_bestPlace_66 rfl (hl.at rfl) ?_
            refine lv_iload_n hx hb dX5_bestPlace_67 rfl (hl.at rfl) ?_
            refine lv_bipush (v := nI 10) hx hb dX5_bestPlace_68 rfl ?_
            refine lv_iload hx hb dX5_bestPlace_70 (hl.at rfl) ?_
            refine l_mulN hx hb dX5_bestPlace_72 ?_
            refine m_iV hC hK hP hS (met_adds (S := T 0) (a := a) (d := 10 * k) hRk hI rfl rfl (by omega) (by omega) (by omega)) cv_X5_100 rfl rfl hl.1 (Nat.le_of_ble_eq_true rfl) dX5_bestPlace_73 (by decide) (by decide) (fun r73 σ73 H locs p73 hP hS => ?_)
            refine l_istore hx hb 7 dX5_bestPlace_76 hl rfl (fun ls hl => ?_)
            refine lv_aload_n hx hb dX5_bestPlace_78 rfl (hl.at rfl) ?_
            refine lv_iload_n hx hb dX5_bestPlace_79 rfl (hl.at rfl) ?_
            refine lv_iload_n hx hb dX5_bestPlace_80 rfl (hl.at rfl) ?_
            refine m_vV hC hK hP hS (met_findTurns (S := sp_adds (T 0) a (10 * k)) p73.2.1 hIa rfl (by omega) rfl (by omega)) cv_X5_244 rfl rfl hl.1 (Nat.le_of_ble_eq_true rfl) dX5_bestPlace_81 (by decide) (by decide) (fun σ81 H locs p81 hP hS => ?_)
            refine lv_aload_n hx hb dX5_bestPlace_84 rfl (hl.at rfl) ?_
            refine mg_own hC hK hP dX5_bestPlace_85 ?_
            refine l_top _ p81.2.1 ?_
            refine lv_iload hx hb dX5_bestPlace_88 (hl.at rfl) ?_
            refine lv_icmp_le (tgt := 98) hx hb dX5_bestPlace_90 rfl (fun c90 => ?_) (fun c90 => ?_)
            · refine lv_iload hx hb dX5_bestPlace_98 (hl.at rfl) ?_
              refine l_istore hx hb 4 dX5_bestPlace_100 hl rfl (fun ls hl => ?_)
              refine lv_aload_n hx hb dX5_bestPlace_102 rfl (hl.at rfl) ?_
              refine mg_own hC hK hP dX5_bestPlace_103 ?_
              refine l_top _ p81.2.1 ?_
              refine lv_iload hx hb dX5_bestPlace_106 (hl.at rfl) ?_
              refine lv_icmp_le (tgt := 118) hx hb dX5_bestPlace_108 rfl (fun c108 => ?_) (fun c108 => ?_)
              · refine lv_iload hx hb dX5_bestPlace_118 (hl.at rfl) ?_
                refine l_istore hx hb 5 dX5_bestPlace_120 hl rfl (fun ls hl => ?_)
                refine l_inc1 hx hb 6 dX5_bestPlace_122 hl rfl rfl (fun ls hl => ?_)
                refine lv_goto (tgt := 59) hx hb dX5_bestPlace_125 rfl ?_
                first | exact ih (k + 1) σ81 (by omega) (by omega) (hT.1.same (fun q hq => by rw [p81.2.2.1 q hq, p73.2.2 2 (by decide), e2 q hq])) (fun q hq => by rw [p81.2.2.2 2 (by decide), p73.2.2 2 (by decide), e2 q hq]) ((hk.tr (p73.2.2.mono (by decide))).tr (p81.2.2.2.mono (by decide))) _ _ _ hP hS (by rw [bp_, if_pos c90]; exact hl.mask [true, true, true, true, true, true, true, false]) | exact ih (k + 1) σ81 (by omega) (by omega) (hT.1.same (fun q hq => by rw [p81.2.2.1 q hq, p73.2.2 2 (by decide), e2 q hq])) (fun q hq => by rw [p81.2.2.2 2 (by decide), p73.2.2 2 (by decide), e2 q hq]) ((hk.tr (p73.2.2.mono (by decide))).tr (p81.2.2.2.mono (by decide))) _ _ _ hP hS (by rw [bp_, if_neg c90]; exact hl.mask [true, true, true, true, true, true, true, false])
              · exact absurd c90 c108
            · refine lv_iload hx hb dX5_bestPlace_93 (hl.at rfl) ?_
              refine lv_goto (tgt := 100) hx hb dX5_bestPlace_95 rfl ?_
              refine l_istore hx hb 4 dX5_bestPlace_100 hl rfl (fun ls hl => ?_)
              refine lv_aload_n hx hb dX5_bestPlace_102 rfl (hl.at rfl) ?_
              refine mg_own hC hK hP dX5_bestPlace_103 ?_
              refine l_top _ p81.2.1 ?_
              refine lv_iload hx hb dX5_bestPlace_106 (hl.at rfl) ?_
              refine lv_icmp_le (tgt := 118) hx hb dX5_bestPlace_108 rfl (fun c108 => ?_) (fun c108 => ?_)
              · exact absurd c108 c90
              · refine lv_aload_n hx hb dX5_bestPlace_111 rfl (hl.at rfl) ?_
                refine mg_own hC hK hP dX5_bestPlace_112 ?_
                refine l_top _ p81.2.1 ?_
                refine lv_goto (tgt := 120) hx hb dX5_bestPlace_115 rfl ?_
                refine l_istore hx hb 5 dX5_bestPlace_120 hl rfl (fun ls hl => ?_)
                refine l_inc1 hx hb 6 dX5_bestPlace_122 hl rfl rfl (fun ls hl => ?_)
                refine lv_goto (tgt := 59) hx hb dX5_bestPlace_125 rfl ?_
                first | exact ih (k + 1) σ81 (by omega) (by omega) (hT.1.same (fun q hq => by rw [p81.2.2.1 q hq, p73.2.2 2 (by decide), e2 q hq])) (fun q hq => by rw [p81.2.2.2 2 (by decide), p73.2.2 2 (by decide), e2 q hq]) ((hk.tr (p73.2.2.mono (by decide))).tr (p81.2.2.2.mono (by decide))) _ _ _ hP hS (by rw [bp_, if_pos c90]; exact hl.mask [true, true, true, true, true, true, true, false]) | exact ih (k + 1) σ81 (by omega) (by omega) (hT.1.same (fun q hq => by rw [p81.2.2.1 q hq, p73.2.2 2 (by decide), e2 q hq])) (fun q hq => by rw [p81.2.2.2 2 (by decide), p73.2.2 2 (by decide), e2 q hq]) ((hk.tr (p73.2.2.mono (by decide))).tr (p81.2.2.2.mono (by decide))) _ _ _ hP hS (by rw [bp_, if_neg c90]; exact hl.mask [true, true, true, true, true, true, true, false])
      exact loop 13 0 σ53 (by omega) (by omega) (by rw [p53.2 0 (by decide)]; exact hT.1) p53.1 (p53.2.mono (by decide)) _ _ _ hP hS hl
    · refine lv_aload_n hx hb dX5_bestPlace_26 rfl (hl.at rfl) ?_
      refine lv_iconst (v := nI 4) hx hb dX5_bestPlace_27 rfl ?_
      refine m_iV hC hK hP hS (met_error hT rfl (by decide)) cv_X5_76 rfl rfl hl.1 (Nat.le_of_ble_eq_true rfl) dX5_bestPlace_28 (by decide) (by decide) (fun r28 σ28 H locs p28 hP hS => ?_)
      refine hret _ _ ls _ _ _ hP hS dX5_bestPlace_31 ?_
      first | (rw [op_best, if_pos p3, if_neg (by omega), cn_nI (by omega), cn_nI (by omega)]; refine ⟨by rw [e5], ?_⟩; rw [← tS_self (T := T)]; exact hT.S hRk hk) | (rw [op_best, if_neg p3]; exact p11) | (rw [op_best, if_pos p3, if_pos c23]; exact p28)
  · refine l_ifne_0 hx hb 15 dX5_bestPlace_6 rfl ?_
    refine lv_aload_n hx hb dX5_bestPlace_9 rfl (hl.at rfl) ?_
    refine lv_iconst (v := nI 1) hx hb dX5_bestPlace_10 rfl ?_
    refine m_iV hC hK hP hS (met_error hT rfl (by decide)) cv_X5_76 rfl rfl hl.1 (Nat.le_of_ble_eq_true rfl) dX5_bestPlace_11 (by decide) (by decide) (fun r11 σ11 H locs p11 hP hS => ?_)
    refine hret _ _ ls _ _ _ hP hS dX5_bestPlace_14 ?_
    first | (rw [op_best, if_pos p3, if_neg (by omega), cn_nI (by omega), cn_nI (by omega)]; refine ⟨by rw [e5], ?_⟩; rw [← tS_self (T := T)]; exact hT.S hRk hk) | (rw [op_best, if_neg p3]; exact p11) | (rw [op_best, if_pos p3, if_pos c23]; exact p28)
theorem met_who {l : Launch} {D : va_G} {cA : Nat → ClassId} {b : Nat} {σ : Nat → Nat → Int32} {g q : Int32} {T : Tta} (hT : RT σ T) (hI : Inv (T 0)) (hH9 : hrv (T 0) ≤ 9999) : MI l D cA b yX5_who cX5_who 9 (some .int) (6) [.ref b, .int g, .int q] σ (fun r τ => r = (op_who g q T).1 ∧ RT τ (op_who g q T).2) := by
  refine Ci.of rfl (by decide +kernel) (Nat.le_of_ble_eq_true rfl) ?_
  intro p e s m args below meth c Q hC hK hP hret ls hl
  have hx := hC.1
  have hb := hC.2.1
  have hown := hC.2.2.2.1
  have hts := hC.2.2.2.2
  have hS : va_S (mA b) s.heap s.heap [] := va_S.rf
  obtain ⟨eN, hN8⟩ := inv_wh hI
  have hpw := pow8 hN8
  refine lv_iload_n hx hb dX5_who_0 rfl (hl.at rfl) ?_
  refine lv_iconst (v := nI 0) hx hb dX5_who_1 rfl ?_
  refine lv_bipush (v := nI 99) hx hb dX5_who_2 rfl ?_
  refine m_sS hC (met_in ) cs_X5_56 rfl rfl hl.1 (Nat.le_of_ble_eq_true rfl) dX5_who_4 (by decide) (by decide) (fun r4 p4 => ?_)
  rcases p4 with ⟨rfl, p4⟩ | ⟨rfl, p4⟩
  · refine l_ifeq_1 hx hb 19 dX5_who_7 rfl ?_
    refine lv_iload_n hx hb dX5_who_10 rfl (hl.at rfl) ?_
    refine lv_iconst (v := nI 0) hx hb dX5_who_11 rfl ?_
    refine lv_iconst (v := nI 3) hx hb dX5_who_12 rfl ?_
    refine m_sS hC (met_in ) cs_X5_56 rfl rfl hl.1 (Nat.le_of_ble_eq_true rfl) dX5_who_13 (by decide) (by decide) (fun r13 p13 => ?_)
    rcases p13 with ⟨rfl, p13⟩ | ⟨rfl, p13⟩
    · obtain ⟨qq, hqq, rfl⟩ := in_nI p13
      refine l_ifne_1 hx hb 25 dX5_who_16 rfl ?_
      refine lv_iconst (v := nI 1) hx hb dX5_who_25 rfl ?_
      refine lv_aload_n hx hb dX5_who_26 rfl (hl.at rfl) ?_
      refine mg_s hC hK hP dX5_who_27 ?_
      refine lv_iconst (v := nI 0) hx hb dX5_who_30 rfl ?_
      refine m_ld 0 _ (by decide) hC hK hP (rfl) (show _ < 449 by omega) dX5_who_31 ?_
      refine l_top _ ((hT.1.at 0 0 (n := 0) (by decide) rfl).trans eN) ?_
      refine lv_ishl hx hb dX5_who_32 ?_
      refine l_top _ (shl1 hN8) ?_
      refine lv_iconst (v := nI 1) hx hb dX5_who_33 rfl ?_
      refine l_subN hx hb dX5_who_34 (by omega) ?_
      refine l_istore_n hx hb 3 dX5_who_35 rfl hl rfl (fun ls hl => ?_)
      refine lv_iconst (v := nI 0) hx hb dX5_who_36 rfl ?_
      refine l_istore hx hb 4 dX5_who_37 hl rfl (fun ls hl => ?_)
      refine lv_iconst (v := -1) hx hb dX5_who_39 rfl ?_
      refine l_istore hx hb 5 dX5_who_40 hl rfl (fun ls hl => ?_)
      refine lv_iload_n hx hb dX5_who_42 rfl (hl.at rfl) ?_
      refine l_istore hx hb 6 dX5_who_43 hl rfl (fun ls hl => ?_)
      refine lv_iconst (v := nI 0) hx hb dX5_who_45 rfl ?_
      refine l_istore hx hb 7 dX5_who_46 hl rfl (fun ls hl => ?_)
      refine lv_aload_n hx hb dX5_who_48 rfl (hl.at rfl) ?_
      refine mg_s hC hK hP dX5_who_49 ?_
      refine lv_aload_n hx hb dX5_who_52 rfl (hl.at rfl) ?_
      refine mg_put hC hK hP dX5_who_53 ?_
      refine m_vS hC hK hP hS (met_carry (i := 0) (j := 2) (by decide) (by decide) (by decide)) cs_X5_226 rfl rfl hl.1 (Nat.le_of_ble_eq_true rfl) dX5_who_56 (by decide) (by decide) (fun σ56 H locs p56 hP hS => ?_)
      refine lv_iconst (v := nI 0) hx hb dX5_who_59 rfl ?_
      refine l_istore hx hb 8 dX5_who_60 hl rfl (fun ls hl => ?_)
      have loop : ∀ (n x : Nat) (τ S2 : Sta), x ≤ 2 ^ wh (T 0) → 2 ^ wh (T 0) + 1 ≤ x + n → RM (τ 0) S2 → Inv S2 → wh S2 = wh (T 0) → (∀ y, sp_op S2 y = sp_op (T 0) y) → (∀ q, q < 449 → τ 2 q = σ 0 q) → Kp PL σ τ → ∀ (H : Heap) (locs : List Loc) (ls : Array Slot), MWP D cA b τ H → va_S (mA b) s.heap H locs → lh ls [some (.ref b), some (.int g), some (.int (nI qq)), some (.int (nI (2 ^ wh (T 0) - 1))), some (.int (nI (wo_ (T 0) g x).1)), some (.int (wo_ (T 0) g x).2.1), some (.int (wo_ (T 0) g x).2.2.1), some (.int (wo_ (T 0) g x).2.2.2), some (.int (nI x))] → W p l e (rmG 6 0 0) s m args below meth c H locs 0 0 Q (F0 m 62 ls []) := by
        intro n
        induction n with
        | zero => intro x τ S2 h1 h2; exact absurd h2 (by omega)
        | succ n ih =>
          intro x τ S2 h1 h2 hRk hI2 hW2 hop e2 hk H locs ls hP hS hl
          have hwl := wo_le (S := T 0) (g := g) x
          refine lv_iload hx hb dX5_who_62 (hl.at rfl) ?_
          refine lv_iload_n hx hb dX5_who_64 rfl (hl.at rfl) ?_
          refine l_gtN hx hb 127 dX5_who_65 rfl (by omega) (by omega) (fun c65 => ?_) (fun c65 => ?_)
          · have e5 : x = 2 ^ wh (T 0) := by omega
            refine lv_aload_n hx hb dX5_who_127 rfl (hl.at rfl) ?_
            refine mg_put hC hK hP dX5_who_128 ?_
            refine lv_aload_n hx hb dX5_who_131 rfl (hl.at rfl) ?_
            refine mg_s hC hK hP dX5_who_132 ?_
            refine m_vS hC hK hP hS (met_carry (i := 2) (j := 0) (by decide) (by decide) (by decide)) cs_X5_226 rfl rfl hl.1 (Nat.le_of_ble_eq_true rfl) dX5_who_135 (by decide) (by decide) (fun σ135 H locs p135 hP hS => ?_)
            refine lv_iload hx hb dX5_who_138 (hl.at rfl) ?_
            refine lv_if_ne (tgt := 159) hx hb dX5_who_140 rfl (fun c140 => ?_) (fun c140 => ?_)
            · refine lv_iload_n hx hb dX5_who_159 rfl (hl.at rfl) ?_
              refine lv_if_ne (tgt := 168) hx hb dX5_who_160 rfl (fun c160 => ?_) (fun c160 => ?_)
              · refine lv_iload_n hx hb dX5_who_168 rfl (hl.at rfl) ?_
                refine lv_iconst (v := nI 1) hx hb dX5_who_169 rfl ?_
                refine l_neN hx hb 178 dX5_who_170 rfl (by omega) (by omega) (fun c170 => ?_) (fun c170 => ?_)
                · refine lv_iload_n hx hb dX5_who_178 rfl (hl.at rfl) ?_
                  refine lv_iconst (v := nI 2) hx hb dX5_who_179 rfl ?_
                  refine l_neN hx hb 188 dX5_who_180 rfl (by omega) (by omega) (fun c180 => ?_) (fun c180 => ?_)
                  · refine lv_iload hx hb dX5_who_188 (hl.at rfl) ?_
                    refine hret _ _ ls _ _ _ hP hS dX5_who_190 ?_
                    first | (rw [op_who, if_neg p4]; exact p21) | (rw [op_who, if_pos p4, if_neg p13]; exact p21) | (rw [op_who, if_pos p4, if_pos p13, ← e5, if_pos ⟨((nI_eq (by omega) (by decide)).mp c140 : (wo_ (T 0) g x).1 = 0), Or.inl (by rw [c145])⟩]; exact p155) | (rw [op_who, if_pos p4, if_pos p13, ← e5, if_pos ⟨((nI_eq (by omega) (by decide)).mp c140 : (wo_ (T 0) g x).1 = 0), Or.inr (by rw [c150])⟩]; exact p155) | (rw [op_who, if_pos p4, if_pos p13, ← e5, if_neg (fun z => c140 (by rw [z.1]; rfl)), if_pos c160]; exact ⟨rfl, (by rw [← tS_self (T := T)]; exact hT.S (hT.1.same (fun q hq => by rw [p135.1 q hq, e2 q hq])) (hk.tr (p135.2.mono (by decide))))⟩) | (rw [op_who, if_pos p4, if_pos p13, ← e5, if_neg (fun z => c140 (by rw [z.1]; rfl)), if_neg c160, if_pos (by rw [c170])]; exact ⟨rfl, (by rw [← tS_self (T := T)]; exact hT.S (hT.1.same (fun q hq => by rw [p135.1 q hq, e2 q hq])) (hk.tr (p135.2.mono (by decide))))⟩) | (rw [op_who, if_pos p4, if_pos p13, ← e5, if_neg (fun z => c140 (by rw [z.1]; rfl)), if_neg c160, if_neg (fun z => c170 ((nI_eq (by omega) (by omega)).mp z)), if_pos (by rw [c180])]; exact ⟨rfl, (by rw [← tS_self (T := T)]; exact hT.S (hT.1.same (fun q hq => by rw [p135.1 q hq, e2 q hq])) (hk.tr (p135.2.mono (by decide))))⟩) | (rw [op_who, if_pos p4, if_pos p13, ← e5, if_neg (fun z => c140 (by rw [z.1]; rfl)), if_neg c160, if_neg (fun z => c170 ((nI_eq (by omega) (by omega)).mp z)), if_neg (fun z => c180 ((nI_eq (by omega) (by omega)).mp z))]; exact ⟨rfl, (by rw [← tS_self (T := T)]; exact hT.S (hT.1.same (fun q hq => by rw [p135.1 q hq, e2 q hq])) (hk.tr (p135.2.mono (by decide))))⟩) | (rw [op_who, if_pos p4, if_pos p13, ← e5, if_neg (fun z => by rcases z.2 with z2 | z2; (exact c145 ((nI_eq (by omega) (by omega)).mp z2)); (exact c150 ((nI_eq (by omega) (by omega)).mp z2))), if_pos c160]; exact ⟨rfl, (by rw [← tS_self (T := T)]; exact hT.S (hT.1.same (fun q hq => by rw [p135.1 q hq, e2 q hq])) (hk.tr (p135.2.mono (by decide))))⟩) | (rw [op_who, if_pos p4, if_pos p13, ← e5, if_neg (fun z => by rcases z.2 with z2 | z2; (exact c145 ((nI_eq (by omega) (by omega)).mp z2)); (exact c150 ((nI_eq (by omega) (by omega)).mp z2))), if_neg c160, if_pos (by rw [c170])]; exact ⟨rfl, (by rw [← tS_self (T := T)]; exact hT.S (hT.1.same (fun q hq => by rw [p135.1 q hq, e2 q hq])) (hk.tr (p135.2.mono (by decide))))⟩) | (rw [op_who, if_pos p4, if_pos p13, ← e5, if_neg (fun z => by rcases z.2 with z2 | z2; (exact c145 ((nI_eq (by omega) (by omega)).mp z2)); (exact c150 ((nI_eq (by omega) (by omega)).mp z2))), if_neg c160, if_neg (fun z => c170 ((nI_eq (by omega) (by omega)).mp z)), if_pos (by rw [c180])]; exact ⟨rfl, (by rw [← tS_self (T := T)]; exact hT.S (hT.1.same (fun q hq => by rw [p135.1 q hq, e2 q hq])) (hk.tr (p135.2.mono (by decide))))⟩) | (rw [op_who, if_pos p4, if_pos p13, ← e5, if_neg (fun z => by rcases z.2 with z2 | z2; (exact c145 ((nI_eq (by omega) (by omega)).mp z2)); (exact c150 ((nI_eq (by omega) (by omega)).mp z2))), if_neg c160, if_neg (fun z => c170 ((nI_eq (by omega) (by omega)).mp z)), if_neg (fun z => c180 ((nI_eq (by omega) (by omega)).mp z))]; exact ⟨rfl, (by rw [← tS_self (T := T)]; exact hT.S (hT.1.same (fun q hq => by rw [p135.1 q hq, e2 q hq])) (hk.tr (p135.2.mono (by decide))))⟩)
                  · refine lv_iload hx hb dX5_who_183 (hl.at rfl) ?_
                    refine lv_goto (tgt := 190) hx hb dX5_who_185 rfl ?_
                    refine hret _ _ ls _ _ _ hP hS dX5_who_190 ?_
                    first | (rw [op_who, if_neg p4]; exact p21) | (rw [op_who, if_pos p4, if_neg p13]; exact p21) | (rw [op_who, if_pos p4, if_pos p13, ← e5, if_pos ⟨((nI_eq (by omega) (by decide)).mp c140 : (wo_ (T 0) g x).1 = 0), Or.inl (by rw [c145])⟩]; exact p155) | (rw [op_who, if_pos p4, if_pos p13, ← e5, if_pos ⟨((nI_eq (by omega) (by decide)).mp c140 : (wo_ (T 0) g x).1 = 0), Or.inr (by rw [c150])⟩]; exact p155) | (rw [op_who, if_pos p4, if_pos p13, ← e5, if_neg (fun z => c140 (by rw [z.1]; rfl)), if_pos c160]; exact ⟨rfl, (by rw [← tS_self (T := T)]; exact hT.S (hT.1.same (fun q hq => by rw [p135.1 q hq, e2 q hq])) (hk.tr (p135.2.mono (by decide))))⟩) | (rw [op_who, if_pos p4, if_pos p13, ← e5, if_neg (fun z => c140 (by rw [z.1]; rfl)), if_neg c160, if_pos (by rw [c170])]; exact ⟨rfl, (by rw [← tS_self (T := T)]; exact hT.S (hT.1.same (fun q hq => by rw [p135.1 q hq, e2 q hq])) (hk.tr (p135.2.mono (by decide))))⟩) | (rw [op_who, if_pos p4, if_pos p13, ← e5, if_neg (fun z => c140 (by rw [z.1]; rfl)), if_neg c160, if_neg (fun z => c170 ((nI_eq (by omega) (by omega)).mp z)), if_pos (by rw [c180])]; exact ⟨rfl, (by rw [← tS_self (T := T)]; exact hT.S (hT.1.same (fun q hq => by rw [p135.1 q hq, e2 q hq])) (hk.tr (p135.2.mono (by decide))))⟩) | (rw [op_who, if_pos p4, if_pos p13, ← e5, if_neg (fun z => c140 (by rw [z.1]; rfl)), if_neg c160, if_neg (fun z => c170 ((nI_eq (by omega) (by omega)).mp z)), if_neg (fun z => c180 ((nI_eq (by omega) (by omega)).mp z))]; exact ⟨rfl, (by rw [← tS_self (T := T)]; exact hT.S (hT.1.same (fun q hq => by rw [p135.1 q hq, e2 q hq])) (hk.tr (p135.2.mono (by decide))))⟩) | (rw [op_who, if_pos p4, if_pos p13, ← e5, if_neg (fun z => by rcases z.2 with z2 | z2; (exact c145 ((nI_eq (by omega) (by omega)).mp z2)); (exact c150 ((nI_eq (by omega) (by omega)).mp z2))), if_pos c160]; exact ⟨rfl, (by rw [← tS_self (T := T)]; exact hT.S (hT.1.same (fun q hq => by rw [p135.1 q hq, e2 q hq])) (hk.tr (p135.2.mono (by decide))))⟩) | (rw [op_who, if_pos p4, if_pos p13, ← e5, if_neg (fun z => by rcases z.2 with z2 | z2; (exact c145 ((nI_eq (by omega) (by omega)).mp z2)); (exact c150 ((nI_eq (by omega) (by omega)).mp z2))), if_neg c160, if_pos (by rw [c170])]; exact ⟨rfl, (by rw [← tS_self (T := T)]; exact hT.S (hT.1.same (fun q hq => by rw [p135.1 q hq, e2 q hq])) (hk.tr (p135.2.mono (by decide))))⟩) | (rw [op_who, if_pos p4, if_pos p13, ← e5, if_neg (fun z => by rcases z.2 with z2 | z2; (exact c145 ((nI_eq (by omega) (by omega)).mp z2)); (exact c150 ((nI_eq (by omega) (by omega)).mp z2))), if_neg c160, if_neg (fun z => c170 ((nI_eq (by omega) (by omega)).mp z)), if_pos (by rw [c180])]; exact ⟨rfl, (by rw [← tS_self (T := T)]; exact hT.S (hT.1.same (fun q hq => by rw [p135.1 q hq, e2 q hq])) (hk.tr (p135.2.mono (by decide))))⟩) | (rw [op_who, if_pos p4, if_pos p13, ← e5, if_neg (fun z => by rcases z.2 with z2 | z2; (exact c145 ((nI_eq (by omega) (by omega)).mp z2)); (exact c150 ((nI_eq (by omega) (by omega)).mp z2))), if_neg c160, if_neg (fun z => c170 ((nI_eq (by omega) (by omega)).mp z)), if_neg (fun z => c180 ((nI_eq (by omega) (by omega)).mp z))]; exact ⟨rfl, (by rw [← tS_self (T := T)]; exact hT.S (hT.1.same (fun q hq => by rw [p135.1 q hq, e2 q hq])) (hk.tr (p135.2.mono (by decide))))⟩)
                · refine lv_iload hx hb dX5_who_173 (hl.at rfl) ?_
                  refine lv_goto (tgt := 190) hx hb dX5_who_175 rfl ?_
                  refine hret _ _ ls _ _ _ hP hS dX5_who_190 ?_
                  first | (rw [op_who, if_neg p4]; exact p21) | (rw [op_who, if_pos p4, if_neg p13]; exact p21) | (rw [op_who, if_pos p4, if_pos p13, ← e5, if_pos ⟨((nI_eq (by omega) (by decide)).mp c140 : (wo_ (T 0) g x).1 = 0), Or.inl (by rw [c145])⟩]; exact p155) | (rw [op_who, if_pos p4, if_pos p13, ← e5, if_pos ⟨((nI_eq (by omega) (by decide)).mp c140 : (wo_ (T 0) g x).1 = 0), Or.inr (by rw [c150])⟩]; exact p155) | (rw [op_who, if_pos p4, if_pos p13, ← e5, if_neg (fun z => c140 (by rw [z.1]; rfl)), if_pos c160]; exact ⟨rfl, (by rw [← tS_self (T := T)]; exact hT.S (hT.1.same (fun q hq => by rw [p135.1 q hq, e2 q hq])) (hk.tr (p135.2.mono (by decide))))⟩) | (rw [op_who, if_pos p4, if_pos p13, ← e5, if_neg (fun z => c140 (by rw [z.1]; rfl)), if_neg c160, if_pos (by rw [c170])]; exact ⟨rfl, (by rw [← tS_self (T := T)]; exact hT.S (hT.1.same (fun q hq => by rw [p135.1 q hq, e2 q hq])) (hk.tr (p135.2.mono (by decide))))⟩) | (rw [op_who, if_pos p4, if_pos p13, ← e5, if_neg (fun z => c140 (by rw [z.1]; rfl)), if_neg c160, if_neg (fun z => c170 ((nI_eq (by omega) (by omega)).mp z)), if_pos (by rw [c180])]; exact ⟨rfl, (by rw [← tS_self (T := T)]; exact hT.S (hT.1.same (fun q hq => by rw [p135.1 q hq, e2 q hq])) (hk.tr (p135.2.mono (by decide))))⟩) | (rw [op_who, if_pos p4, if_pos p13, ← e5, if_neg (fun z => c140 (by rw [z.1]; rfl)), if_neg c160, if_neg (fun z => c170 ((nI_eq (by omega) (by omega)).mp z)), if_neg (fun z => c180 ((nI_eq (by omega) (by omega)).mp z))]; exact ⟨rfl, (by rw [← tS_self (T := T)]; exact hT.S (hT.1.same (fun q hq => by rw [p135.1 q hq, e2 q hq])) (hk.tr (p135.2.mono (by decide))))⟩) | (rw [op_who, if_pos p4, if_pos p13, ← e5, if_neg (fun z => by rcases z.2 with z2 | z2; (exact c145 ((nI_eq (by omega) (by omega)).mp z2)); (exact c150 ((nI_eq (by omega) (by omega)).mp z2))), if_pos c160]; exact ⟨rfl, (by rw [← tS_self (T := T)]; exact hT.S (hT.1.same (fun q hq => by rw [p135.1 q hq, e2 q hq])) (hk.tr (p135.2.mono (by decide))))⟩) | (rw [op_who, if_pos p4, if_pos p13, ← e5, if_neg (fun z => by rcases z.2 with z2 | z2; (exact c145 ((nI_eq (by omega) (by omega)).mp z2)); (exact c150 ((nI_eq (by omega) (by omega)).mp z2))), if_neg c160, if_pos (by rw [c170])]; exact ⟨rfl, (by rw [← tS_self (T := T)]; exact hT.S (hT.1.same (fun q hq => by rw [p135.1 q hq, e2 q hq])) (hk.tr (p135.2.mono (by decide))))⟩) | (rw [op_who, if_pos p4, if_pos p13, ← e5, if_neg (fun z => by rcases z.2 with z2 | z2; (exact c145 ((nI_eq (by omega) (by omega)).mp z2)); (exact c150 ((nI_eq (by omega) (by omega)).mp z2))), if_neg c160, if_neg (fun z => c170 ((nI_eq (by omega) (by omega)).mp z)), if_pos (by rw [c180])]; exact ⟨rfl, (by rw [← tS_self (T := T)]; exact hT.S (hT.1.same (fun q hq => by rw [p135.1 q hq, e2 q hq])) (hk.tr (p135.2.mono (by decide))))⟩) | (rw [op_who, if_pos p4, if_pos p13, ← e5, if_neg (fun z => by rcases z.2 with z2 | z2; (exact c145 ((nI_eq (by omega) (by omega)).mp z2)); (exact c150 ((nI_eq (by omega) (by omega)).mp z2))), if_neg c160, if_neg (fun z => c170 ((nI_eq (by omega) (by omega)).mp z)), if_neg (fun z => c180 ((nI_eq (by omega) (by omega)).mp z))]; exact ⟨rfl, (by rw [← tS_self (T := T)]; exact hT.S (hT.1.same (fun q hq => by rw [p135.1 q hq, e2 q hq])) (hk.tr (p135.2.mono (by decide))))⟩)
              · refine lv_iload hx hb dX5_who_163 (hl.at rfl) ?_
                refine lv_goto (tgt := 190) hx hb dX5_who_165 rfl ?_
                refine hret _ _ ls _ _ _ hP hS dX5_who_190 ?_
                first | (rw [op_who, if_neg p4]; exact p21) | (rw [op_who, if_pos p4, if_neg p13]; exact p21) | (rw [op_who, if_pos p4, if_pos p13, ← e5, if_pos ⟨((nI_eq (by omega) (by decide)).mp c140 : (wo_ (T 0) g x).1 = 0), Or.inl (by rw [c145])⟩]; exact p155) | (rw [op_who, if_pos p4, if_pos p13, ← e5, if_pos ⟨((nI_eq (by omega) (by decide)).mp c140 : (wo_ (T 0) g x).1 = 0), Or.inr (by rw [c150])⟩]; exact p155) | (rw [op_who, if_pos p4, if_pos p13, ← e5, if_neg (fun z => c140 (by rw [z.1]; rfl)), if_pos c160]; exact ⟨rfl, (by rw [← tS_self (T := T)]; exact hT.S (hT.1.same (fun q hq => by rw [p135.1 q hq, e2 q hq])) (hk.tr (p135.2.mono (by decide))))⟩) | (rw [op_who, if_pos p4, if_pos p13, ← e5, if_neg (fun z => c140 (by rw [z.1]; rfl)), if_neg c160, if_pos (by rw [c170])]; exact ⟨rfl, (by rw [← tS_self (T := T)]; exact hT.S (hT.1.same (fun q hq => by rw [p135.1 q hq, e2 q hq])) (hk.tr (p135.2.mono (by decide))))⟩) | (rw [op_who, if_pos p4, if_pos p13, ← e5, if_neg (fun z => c140 (by rw [z.1]; rfl)), if_neg c160, if_neg (fun z => c170 ((nI_eq (by omega) (by omega)).mp z)), if_pos (by rw [c180])]; exact ⟨rfl, (by rw [← tS_self (T := T)]; exact hT.S (hT.1.same (fun q hq => by rw [p135.1 q hq, e2 q hq])) (hk.tr (p135.2.mono (by decide))))⟩) | (rw [op_who, if_pos p4, if_pos p13, ← e5, if_neg (fun z => c140 (by rw [z.1]; rfl)), if_neg c160, if_neg (fun z => c170 ((nI_eq (by omega) (by omega)).mp z)), if_neg (fun z => c180 ((nI_eq (by omega) (by omega)).mp z))]; exact ⟨rfl, (by rw [← tS_self (T := T)]; exact hT.S (hT.1.same (fun q hq => by rw [p135.1 q hq, e2 q hq])) (hk.tr (p135.2.mono (by decide))))⟩) | (rw [op_who, if_pos p4, if_pos p13, ← e5, if_neg (fun z => by rcases z.2 with z2 | z2; (exact c145 ((nI_eq (by omega) (by omega)).mp z2)); (exact c150 ((nI_eq (by omega) (by omega)).mp z2))), if_pos c160]; exact ⟨rfl, (by rw [← tS_self (T := T)]; exact hT.S (hT.1.same (fun q hq => by rw [p135.1 q hq, e2 q hq])) (hk.tr (p135.2.mono (by decide))))⟩) | (rw [op_who, if_pos p4, if_pos p13, ← e5, if_neg (fun z => by rcases z.2 with z2 | z2; (exact c145 ((nI_eq (by omega) (by omega)).mp z2)); (exact c150 ((nI_eq (by omega) (by omega)).mp z2))), if_neg c160, if_pos (by rw [c170])]; exact ⟨rfl, (by rw [← tS_self (T := T)]; exact hT.S (hT.1.same (fun q hq => by rw [p135.1 q hq, e2 q hq])) (hk.tr (p135.2.mono (by decide))))⟩) | (rw [op_who, if_pos p4, if_pos p13, ← e5, if_neg (fun z => by rcases z.2 with z2 | z2; (exact c145 ((nI_eq (by omega) (by omega)).mp z2)); (exact c150 ((nI_eq (by omega) (by omega)).mp z2))), if_neg c160, if_neg (fun z => c170 ((nI_eq (by omega) (by omega)).mp z)), if_pos (by rw [c180])]; exact ⟨rfl, (by rw [← tS_self (T := T)]; exact hT.S (hT.1.same (fun q hq => by rw [p135.1 q hq, e2 q hq])) (hk.tr (p135.2.mono (by decide))))⟩) | (rw [op_who, if_pos p4, if_pos p13, ← e5, if_neg (fun z => by rcases z.2 with z2 | z2; (exact c145 ((nI_eq (by omega) (by omega)).mp z2)); (exact c150 ((nI_eq (by omega) (by omega)).mp z2))), if_neg c160, if_neg (fun z => c170 ((nI_eq (by omega) (by omega)).mp z)), if_neg (fun z => c180 ((nI_eq (by omega) (by omega)).mp z))]; exact ⟨rfl, (by rw [← tS_self (T := T)]; exact hT.S (hT.1.same (fun q hq => by rw [p135.1 q hq, e2 q hq])) (hk.tr (p135.2.mono (by decide))))⟩)
            · refine lv_iload_n hx hb dX5_who_143 rfl (hl.at rfl) ?_
              refine lv_iconst (v := nI 1) hx hb dX5_who_144 rfl ?_
              refine l_eqN hx hb 153 dX5_who_145 rfl (by omega) (by omega) (fun c145 => ?_) (fun c145 => ?_)
              · refine lv_aload_n hx hb dX5_who_153 rfl (hl.at rfl) ?_
                refine lv_iconst (v := nI 2) hx hb dX5_who_154 rfl ?_
                refine m_iV hC hK hP hS (met_error (T := T) (by rw [← tS_self (T := T)]; exact hT.S (hT.1.same (fun q hq => by rw [p135.1 q hq, e2 q hq])) (hk.tr (p135.2.mono (by decide)))) rfl (by decide)) cv_X5_76 rfl rfl hl.1 (Nat.le_of_ble_eq_true rfl) dX5_who_155 (by decide) (by decide) (fun r155 σ155 H locs p155 hP hS => ?_)
                refine hret _ _ ls _ _ _ hP hS dX5_who_158 ?_
                first | (rw [op_who, if_neg p4]; exact p21) | (rw [op_who, if_pos p4, if_neg p13]; exact p21) | (rw [op_who, if_pos p4, if_pos p13, ← e5, if_pos ⟨((nI_eq (by omega) (by decide)).mp c140 : (wo_ (T 0) g x).1 = 0), Or.inl (by rw [c145])⟩]; exact p155) | (rw [op_who, if_pos p4, if_pos p13, ← e5, if_pos ⟨((nI_eq (by omega) (by decide)).mp c140 : (wo_ (T 0) g x).1 = 0), Or.inr (by rw [c150])⟩]; exact p155) | (rw [op_who, if_pos p4, if_pos p13, ← e5, if_neg (fun z => c140 (by rw [z.1]; rfl)), if_pos c160]; exact ⟨rfl, (by rw [← tS_self (T := T)]; exact hT.S (hT.1.same (fun q hq => by rw [p135.1 q hq, e2 q hq])) (hk.tr (p135.2.mono (by decide))))⟩) | (rw [op_who, if_pos p4, if_pos p13, ← e5, if_neg (fun z => c140 (by rw [z.1]; rfl)), if_neg c160, if_pos (by rw [c170])]; exact ⟨rfl, (by rw [← tS_self (T := T)]; exact hT.S (hT.1.same (fun q hq => by rw [p135.1 q hq, e2 q hq])) (hk.tr (p135.2.mono (by decide))))⟩) | (rw [op_who, if_pos p4, if_pos p13, ← e5, if_neg (fun z => c140 (by rw [z.1]; rfl)), if_neg c160, if_neg (fun z => c170 ((nI_eq (by omega) (by omega)).mp z)), if_pos (by rw [c180])]; exact ⟨rfl, (by rw [← tS_self (T := T)]; exact hT.S (hT.1.same (fun q hq => by rw [p135.1 q hq, e2 q hq])) (hk.tr (p135.2.mono (by decide))))⟩) | (rw [op_who, if_pos p4, if_pos p13, ← e5, if_neg (fun z => c140 (by rw [z.1]; rfl)), if_neg c160, if_neg (fun z => c170 ((nI_eq (by omega) (by omega)).mp z)), if_neg (fun z => c180 ((nI_eq (by omega) (by omega)).mp z))]; exact ⟨rfl, (by rw [← tS_self (T := T)]; exact hT.S (hT.1.same (fun q hq => by rw [p135.1 q hq, e2 q hq])) (hk.tr (p135.2.mono (by decide))))⟩) | (rw [op_who, if_pos p4, if_pos p13, ← e5, if_neg (fun z => by rcases z.2 with z2 | z2; (exact c145 ((nI_eq (by omega) (by omega)).mp z2)); (exact c150 ((nI_eq (by omega) (by omega)).mp z2))), if_pos c160]; exact ⟨rfl, (by rw [← tS_self (T := T)]; exact hT.S (hT.1.same (fun q hq => by rw [p135.1 q hq, e2 q hq])) (hk.tr (p135.2.mono (by decide))))⟩) | (rw [op_who, if_pos p4, if_pos p13, ← e5, if_neg (fun z => by rcases z.2 with z2 | z2; (exact c145 ((nI_eq (by omega) (by omega)).mp z2)); (exact c150 ((nI_eq (by omega) (by omega)).mp z2))), if_neg c160, if_pos (by rw [c170])]; exact ⟨rfl, (by rw [← tS_self (T := T)]; exact hT.S (hT.1.same (fun q hq => by rw [p135.1 q hq, e2 q hq])) (hk.tr (p135.2.mono (by decide))))⟩) | (rw [op_who, if_pos p4, if_pos p13, ← e5, if_neg (fun z => by rcases z.2 with z2 | z2; (exact c145 ((nI_eq (by omega) (by omega)).mp z2)); (exact c150 ((nI_eq (by omega) (by omega)).mp z2))), if_neg c160, if_neg (fun z => c170 ((nI_eq (by omega) (by omega)).mp z)), if_pos (by rw [c180])]; exact ⟨rfl, (by rw [← tS_self (T := T)]; exact hT.S (hT.1.same (fun q hq => by rw [p135.1 q hq, e2 q hq])) (hk.tr (p135.2.mono (by decide))))⟩) | (rw [op_who, if_pos p4, if_pos p13, ← e5, if_neg (fun z => by rcases z.2 with z2 | z2; (exact c145 ((nI_eq (by omega) (by omega)).mp z2)); (exact c150 ((nI_eq (by omega) (by omega)).mp z2))), if_neg c160, if_neg (fun z => c170 ((nI_eq (by omega) (by omega)).mp z)), if_neg (fun z => c180 ((nI_eq (by omega) (by omega)).mp z))]; exact ⟨rfl, (by rw [← tS_self (T := T)]; exact hT.S (hT.1.same (fun q hq => by rw [p135.1 q hq, e2 q hq])) (hk.tr (p135.2.mono (by decide))))⟩)
              · refine lv_iload_n hx hb dX5_who_148 rfl (hl.at rfl) ?_
                refine lv_iconst (v := nI 2) hx hb dX5_who_149 rfl ?_
                refine l_neN hx hb 159 dX5_who_150 rfl (by omega) (by omega) (fun c150 => ?_) (fun c150 => ?_)
                · refine lv_iload_n hx hb dX5_who_159 rfl (hl.at rfl) ?_
                  refine lv_if_ne (tgt := 168) hx hb dX5_who_160 rfl (fun c160 => ?_) (fun c160 => ?_)
                  · refine lv_iload_n hx hb dX5_who_168 rfl (hl.at rfl) ?_
                    refine lv_iconst (v := nI 1) hx hb dX5_who_169 rfl ?_
                    refine l_neN hx hb 178 dX5_who_170 rfl (by omega) (by omega) (fun c170 => ?_) (fun c170 => ?_)
                    · refine lv_iload_n hx hb dX5_who_178 rfl (hl.at rfl) ?_
                      refine lv_iconst (v := nI 2) hx hb dX5_who_179 rfl ?_
                      refine l_neN hx hb 188 dX5_who_180 rfl (by omega) (by omega) (fun c180 => ?_) (fun c180 => ?_)
                      · refine lv_iload hx hb dX5_who_188 (hl.at rfl) ?_
                        refine hret _ _ ls _ _ _ hP hS dX5_who_190 ?_
                        first | (rw [op_who, if_neg p4]; exact p21) | (rw [op_who, if_pos p4, if_neg p13]; exact p21) | (rw [op_who, if_pos p4, if_pos p13, ← e5, if_pos ⟨((nI_eq (by omega) (by decide)).mp c140 : (wo_ (T 0) g x).1 = 0), Or.inl (by rw [c145])⟩]; exact p155) | (rw [op_who, if_pos p4, if_pos p13, ← e5, if_pos ⟨((nI_eq (by omega) (by decide)).mp c140 : (wo_ (T 0) g x).1 = 0), Or.inr (by rw [c150])⟩]; exact p155) | (rw [op_who, if_pos p4, if_pos p13, ← e5, if_neg (fun z => c140 (by rw [z.1]; rfl)), if_pos c160]; exact ⟨rfl, (by rw [← tS_self (T := T)]; exact hT.S (hT.1.same (fun q hq => by rw [p135.1 q hq, e2 q hq])) (hk.tr (p135.2.mono (by decide))))⟩) | (rw [op_who, if_pos p4, if_pos p13, ← e5, if_neg (fun z => c140 (by rw [z.1]; rfl)), if_neg c160, if_pos (by rw [c170])]; exact ⟨rfl, (by rw [← tS_self (T := T)]; exact hT.S (hT.1.same (fun q hq => by rw [p135.1 q hq, e2 q hq])) (hk.tr (p135.2.mono (by decide))))⟩) | (rw [op_who, if_pos p4, if_pos p13, ← e5, if_neg (fun z => c140 (by rw [z.1]; rfl)), if_neg c160, if_neg (fun z => c170 ((nI_eq (by omega) (by omega)).mp z)), if_pos (by rw [c180])]; exact ⟨rfl, (by rw [← tS_self (T := T)]; exact hT.S (hT.1.same (fun q hq => by rw [p135.1 q hq, e2 q hq])) (hk.tr (p135.2.mono (by decide))))⟩) | (rw [op_who, if_pos p4, if_pos p13, ← e5, if_neg (fun z => c140 (by rw [z.1]; rfl)), if_neg c160, if_neg (fun z => c170 ((nI_eq (by omega) (by omega)).mp z)), if_neg (fun z => c180 ((nI_eq (by omega) (by omega)).mp z))]; exact ⟨rfl, (by rw [← tS_self (T := T)]; exact hT.S (hT.1.same (fun q hq => by rw [p135.1 q hq, e2 q hq])) (hk.tr (p135.2.mono (by decide))))⟩) | (rw [op_who, if_pos p4, if_pos p13, ← e5, if_neg (fun z => by rcases z.2 with z2 | z2; (exact c145 ((nI_eq (by omega) (by omega)).mp z2)); (exact c150 ((nI_eq (by omega) (by omega)).mp z2))), if_pos c160]; exact ⟨rfl, (by rw [← tS_self (T := T)]; exact hT.S (hT.1.same (fun q hq => by rw [p135.1 q hq, e2 q hq])) (hk.tr (p135.2.mono (by decide))))⟩) | (rw [op_who, if_pos p4, if_pos p13, ← e5, if_neg (fun z => by rcases z.2 with z2 | z2; (exact c145 ((nI_eq (by omega) (by omega)).mp z2)); (exact c150 ((nI_eq (by omega) (by omega)).mp z2))), if_neg c160, if_pos (by rw [c170])]; exact ⟨rfl, (by rw [← tS_self (T := T)]; exact hT.S (hT.1.same (fun q hq => by rw [p135.1 q hq, e2 q hq])) (hk.tr (p135.2.mono (by decide))))⟩) | (rw [op_who, if_pos p4, if_pos p13, ← e5, if_neg (fun z => by rcases z.2 with z2 | z2; (exact c145 ((nI_eq (by omega) (by omega)).mp z2)); (exact c150 ((nI_eq (by omega) (by omega)).mp z2))), if_neg c160, if_neg (fun z => c170 ((nI_eq (by omega) (by omega)).mp z)), if_pos (by rw [c180])]; exact ⟨rfl, (by rw [← tS_self (T := T)]; exact hT.S (hT.1.same (fun q hq => by rw [p135.1 q hq, e2 q hq])) (hk.tr (p135.2.mono (by decide))))⟩) | (rw [op_who, if_pos p4, if_pos p13, ← e5, if_neg (fun z => by rcases z.2 with z2 | z2; (exact c145 ((nI_eq (by omega) (by omega)).mp z2)); (exact c150 ((nI_eq (by omega) (by omega)).mp z2))), if_neg c160, if_neg (fun z => c170 ((nI_eq (by omega) (by omega)).mp z)), if_neg (fun z => c180 ((nI_eq (by omega) (by omega)).mp z))]; exact ⟨rfl, (by rw [← tS_self (T := T)]; exact hT.S (hT.1.same (fun q hq => by rw [p135.1 q hq, e2 q hq])) (hk.tr (p135.2.mono (by decide))))⟩)
                      · refine lv_iload hx hb dX5_who_183 (hl.at rfl) ?_
                        refine lv_goto (tgt := 190) hx hb dX5_who_185 rfl ?_
                        refine hret _ _ ls _ _ _ hP hS dX5_who_190 ?_
                        first | (rw [op_who, if_neg p4]; exact p21) | (rw [op_who, if_pos p4, if_neg p13]; exact p21) | (rw [op_who, if_pos p4, if_pos p13, ← e5, if_pos ⟨((nI_eq (by omega) (by decide)).mp c140 : (wo_ (T 0) g x).1 = 0), Or.inl (by rw [c145])⟩]; exact p155) | (rw [op_who, if_pos p4, if_pos p13, ← e5, if_pos ⟨((nI_eq (by omega) (by decide)).mp c140 : (wo_ (T 0) g x).1 = 0), Or.inr (by rw [c150])⟩]; exact p155) | (rw [op_who, if_pos p4, if_pos p13, ← e5, if_neg (fun z => c140 (by rw [z.1]; rfl)), if_pos c160]; exact ⟨rfl, (by rw [← tS_self (T := T)]; exact hT.S (hT.1.same (fun q hq => by rw [p135.1 q hq, e2 q hq])) (hk.tr (p135.2.mono (by decide))))⟩) | (rw [op_who, if_pos p4, if_pos p13, ← e5, if_neg (fun z => c140 (by rw [z.1]; rfl)), if_neg c160, if_pos (by rw [c170])]; exact ⟨rfl, (by rw [← tS_self (T := T)]; exact hT.S (hT.1.same (fun q hq => by rw [p135.1 q hq, e2 q hq])) (hk.tr (p135.2.mono (by decide))))⟩) | (rw [op_who, if_pos p4, if_pos p13, ← e5, if_neg (fun z => c140 (by rw [z.1]; rfl)), if_neg c160, if_neg (fun z => c170 ((nI_eq (by omega) (by omega)).mp z)), if_pos (by rw [c180])]; exact ⟨rfl, (by rw [← tS_self (T := T)]; exact hT.S (hT.1.same (fun q hq => by rw [p135.1 q hq, e2 q hq])) (hk.tr (p135.2.mono (by decide))))⟩) | (rw [op_who, if_pos p4, if_pos p13, ← e5, if_neg (fun z => c140 (by rw [z.1]; rfl)), if_neg c160, if_neg (fun z => c170 ((nI_eq (by omega) (by omega)).mp z)), if_neg (fun z => c180 ((nI_eq (by omega) (by omega)).mp z))]; exact ⟨rfl, (by rw [← tS_self (T := T)]; exact hT.S (hT.1.same (fun q hq => by rw [p135.1 q hq, e2 q hq])) (hk.tr (p135.2.mono (by decide))))⟩) | (rw [op_who, if_pos p4, if_pos p13, ← e5, if_neg (fun z => by rcases z.2 with z2 | z2; (exact c145 ((nI_eq (by omega) (by omega)).mp z2)); (exact c150 ((nI_eq (by omega) (by omega)).mp z2))), if_pos c160]; exact ⟨rfl, (by rw [← tS_self (T := T)]; exact hT.S (hT.1.same (fun q hq => by rw [p135.1 q hq, e2 q hq])) (hk.tr (p135.2.mono (by decide))))⟩) | (rw [op_who, if_pos p4, if_pos p13, ← e5, if_neg (fun z => by rcases z.2 with z2 | z2; (exact c145 ((nI_eq (by omega) (by omega)).mp z2)); (exact c150 ((nI_eq (by omega) (by omega)).mp z2))), if_neg c160, if_pos (by rw [c170])]; exact ⟨rfl, (by rw [← tS_self (T := T)]; exact hT.S (hT.1.same (fun q hq => by rw [p135.1 q hq, e2 q hq])) (hk.tr (p135.2.mono (by decide))))⟩) | (rw [op_who, if_pos p4, if_pos p13, ← e5, if_neg (fun z => by rcases z.2 with z2 | z2; (exact c145 ((nI_eq (by omega) (by omega)).mp z2)); (exact c150 ((nI_eq (by omega) (by omega)).mp z2))), if_neg c160, if_neg (fun z => c170 ((nI_eq (by omega) (by omega)).mp z)), if_pos (by rw [c180])]; exact ⟨rfl, (by rw [← tS_self (T := T)]; exact hT.S (hT.1.same (fun q hq => by rw [p135.1 q hq, e2 q hq])) (hk.tr (p135.2.mono (by decide))))⟩) | (rw [op_who, if_pos p4, if_pos p13, ← e5, if_neg (fun z => by rcases z.2 with z2 | z2; (exact c145 ((nI_eq (by omega) (by omega)).mp z2)); (exact c150 ((nI_eq (by omega) (by omega)).mp z2))), if_neg c160, if_neg (fun z => c170 ((nI_eq (by omega) (by omega)).mp z)), if_neg (fun z => c180 ((nI_eq (by omega) (by omega)).mp z))]; exact ⟨rfl, (by rw [← tS_self (T := T)]; exact hT.S (hT.1.same (fun q hq => by rw [p135.1 q hq, e2 q hq])) (hk.tr (p135.2.mono (by decide))))⟩)
                    · refine lv_iload hx hb dX5_who_173 (hl.at rfl) ?_
                      refine lv_goto (tgt := 190) hx hb dX5_who_175 rfl ?_
                      refine hret _ _ ls _ _ _ hP hS dX5_who_190 ?_
                      first | (rw [op_who, if_neg p4]; exact p21) | (rw [op_who, if_pos p4, if_neg p13]; exact p21) | (rw [op_who, if_pos p4, if_pos p13, ← e5, if_pos ⟨((nI_eq (by omega) (by decide)).mp c140 : (wo_ (T 0) g x).1 = 0), Or.inl (by rw [c145])⟩]; exact p155) | (rw [op_who, if_pos p4, if_pos p13, ← e5, if_pos ⟨((nI_eq (by omega) (by decide)).mp c140 : (wo_ (T 0) g x).1 = 0), Or.inr (by rw [c150])⟩]; exact p155) | (rw [op_who, if_pos p4, if_pos p13, ← e5, if_neg (fun z => c140 (by rw [z.1]; rfl)), if_pos c160]; exact ⟨rfl, (by rw [← tS_self (T := T)]; exact hT.S (hT.1.same (fun q hq => by rw [p135.1 q hq, e2 q hq])) (hk.tr (p135.2.mono (by decide))))⟩) | (rw [op_who, if_pos p4, if_pos p13, ← e5, if_neg (fun z => c140 (by rw [z.1]; rfl)), if_neg c160, if_pos (by rw [c170])]; exact ⟨rfl, (by rw [← tS_self (T := T)]; exact hT.S (hT.1.same (fun q hq => by rw [p135.1 q hq, e2 q hq])) (hk.tr (p135.2.mono (by decide))))⟩) | (rw [op_who, if_pos p4, if_pos p13, ← e5, if_neg (fun z => c140 (by rw [z.1]; rfl)), if_neg c160, if_neg (fun z => c170 ((nI_eq (by omega) (by omega)).mp z)), if_pos (by rw [c180])]; exact ⟨rfl, (by rw [← tS_self (T := T)]; exact hT.S (hT.1.same (fun q hq => by rw [p135.1 q hq, e2 q hq])) (hk.tr (p135.2.mono (by decide))))⟩) | (rw [op_who, if_pos p4, if_pos p13, ← e5, if_neg (fun z => c140 (by rw [z.1]; rfl)), if_neg c160, if_neg (fun z => c170 ((nI_eq (by omega) (by omega)).mp z)), if_neg (fun z => c180 ((nI_eq (by omega) (by omega)).mp z))]; exact ⟨rfl, (by rw [← tS_self (T := T)]; exact hT.S (hT.1.same (fun q hq => by rw [p135.1 q hq, e2 q hq])) (hk.tr (p135.2.mono (by decide))))⟩) | (rw [op_who, if_pos p4, if_pos p13, ← e5, if_neg (fun z => by rcases z.2 with z2 | z2; (exact c145 ((nI_eq (by omega) (by omega)).mp z2)); (exact c150 ((nI_eq (by omega) (by omega)).mp z2))), if_pos c160]; exact ⟨rfl, (by rw [← tS_self (T := T)]; exact hT.S (hT.1.same (fun q hq => by rw [p135.1 q hq, e2 q hq])) (hk.tr (p135.2.mono (by decide))))⟩) | (rw [op_who, if_pos p4, if_pos p13, ← e5, if_neg (fun z => by rcases z.2 with z2 | z2; (exact c145 ((nI_eq (by omega) (by omega)).mp z2)); (exact c150 ((nI_eq (by omega) (by omega)).mp z2))), if_neg c160, if_pos (by rw [c170])]; exact ⟨rfl, (by rw [← tS_self (T := T)]; exact hT.S (hT.1.same (fun q hq => by rw [p135.1 q hq, e2 q hq])) (hk.tr (p135.2.mono (by decide))))⟩) | (rw [op_who, if_pos p4, if_pos p13, ← e5, if_neg (fun z => by rcases z.2 with z2 | z2; (exact c145 ((nI_eq (by omega) (by omega)).mp z2)); (exact c150 ((nI_eq (by omega) (by omega)).mp z2))), if_neg c160, if_neg (fun z => c170 ((nI_eq (by omega) (by omega)).mp z)), if_pos (by rw [c180])]; exact ⟨rfl, (by rw [← tS_self (T := T)]; exact hT.S (hT.1.same (fun q hq => by rw [p135.1 q hq, e2 q hq])) (hk.tr (p135.2.mono (by decide))))⟩) | (rw [op_who, if_pos p4, if_pos p13, ← e5, if_neg (fun z => by rcases z.2 with z2 | z2; (exact c145 ((nI_eq (by omega) (by omega)).mp z2)); (exact c150 ((nI_eq (by omega) (by omega)).mp z2))), if_neg c160, if_neg (fun z => c170 ((nI_eq (by omega) (by omega)).mp z)), if_neg (fun z => c180 ((nI_eq (by omega) (by omega)).mp z))]; exact ⟨rfl, (by rw [← tS_self (T := T)]; exact hT.S (hT.1.same (fun q hq => by rw [p135.1 q hq, e2 q hq])) (hk.tr (p135.2.mono (by decide))))⟩)
                  · refine lv_iload hx hb dX5_who_163 (hl.at rfl) ?_
                    refine lv_goto (tgt := 190) hx hb dX5_who_165 rfl ?_
                    refine hret _ _ ls _ _ _ hP hS dX5_who_190 ?_
                    first | (rw [op_who, if_neg p4]; exact p21) | (rw [op_who, if_pos p4, if_neg p13]; exact p21) | (rw [op_who, if_pos p4, if_pos p13, ← e5, if_pos ⟨((nI_eq (by omega) (by decide)).mp c140 : (wo_ (T 0) g x).1 = 0), Or.inl (by rw [c145])⟩]; exact p155) | (rw [op_who, if_pos p4, if_pos p13, ← e5, if_pos ⟨((nI_eq (by omega) (by decide)).mp c140 : (wo_ (T 0) g x).1 = 0), Or.inr (by rw [c150])⟩]; exact p155) | (rw [op_who, if_pos p4, if_pos p13, ← e5, if_neg (fun z => c140 (by rw [z.1]; rfl)), if_pos c160]; exact ⟨rfl, (by rw [← tS_self (T := T)]; exact hT.S (hT.1.same (fun q hq => by rw [p135.1 q hq, e2 q hq])) (hk.tr (p135.2.mono (by decide))))⟩) | (rw [op_who, if_pos p4, if_pos p13, ← e5, if_neg (fun z => c140 (by rw [z.1]; rfl)), if_neg c160, if_pos (by rw [c170])]; exact ⟨rfl, (by rw [← tS_self (T := T)]; exact hT.S (hT.1.same (fun q hq => by rw [p135.1 q hq, e2 q hq])) (hk.tr (p135.2.mono (by decide))))⟩) | (rw [op_who, if_pos p4, if_pos p13, ← e5, if_neg (fun z => c140 (by rw [z.1]; rfl)), if_neg c160, if_neg (fun z => c170 ((nI_eq (by omega) (by omega)).mp z)), if_pos (by rw [c180])]; exact ⟨rfl, (by rw [← tS_self (T := T)]; exact hT.S (hT.1.same (fun q hq => by rw [p135.1 q hq, e2 q hq])) (hk.tr (p135.2.mono (by decide))))⟩) | (rw [op_who, if_pos p4, if_pos p13, ← e5, if_neg (fun z => c140 (by rw [z.1]; rfl)), if_neg c160, if_neg (fun z => c170 ((nI_eq (by omega) (by omega)).mp z)), if_neg (fun z => c180 ((nI_eq (by omega) (by omega)).mp z))]; exact ⟨rfl, (by rw [← tS_self (T := T)]; exact hT.S (hT.1.same (fun q hq => by rw [p135.1 q hq, e2 q hq])) (hk.tr (p135.2.mono (by decide))))⟩) | (rw [op_who, if_pos p4, if_pos p13, ← e5, if_neg (fun z => by rcases z.2 with z2 | z2; (exact c145 ((nI_eq (by omega) (by omega)).mp z2)); (exact c150 ((nI_eq (by omega) (by omega)).mp z2))), if_pos c160]; exact ⟨rfl, (by rw [← tS_self (T := T)]; exact hT.S (hT.1.same (fun q hq => by rw [p135.1 q hq, e2 q hq])) (hk.tr (p135.2.mono (by decide))))⟩) | (rw [op_who, if_pos p4, if_pos p13, ← e5, if_neg (fun z => by rcases z.2 with z2 | z2; (exact c145 ((nI_eq (by omega) (by omega)).mp z2)); (exact c150 ((nI_eq (by omega) (by omega)).mp z2))), if_neg c160, if_pos (by rw [c170])]; exact ⟨rfl, (by rw [← tS_self (T := T)]; exact hT.S (hT.1.same (fun q hq => by rw [p135.1 q hq, e2 q hq])) (hk.tr (p135.2.mono (by decide))))⟩) | (rw [op_who, if_pos p4, if_pos p13, ← e5, if_neg (fun z => by rcases z.2 with z2 | z2; (exact c145 ((nI_eq (by omega) (by omega)).mp z2)); (exact c150 ((nI_eq (by omega) (by omega)).mp z2))), if_neg c160, if_neg (fun z => c170 ((nI_eq (by omega) (by omega)).mp z)), if_pos (by rw [c180])]; exact ⟨rfl, (by rw [← tS_self (T := T)]; exact hT.S (hT.1.same (fun q hq => by rw [p135.1 q hq, e2 q hq])) (hk.tr (p135.2.mono (by decide))))⟩) | (rw [op_who, if_pos p4, if_pos p13, ← e5, if_neg (fun z => by rcases z.2 with z2 | z2; (exact c145 ((nI_eq (by omega) (by omega)).mp z2)); (exact c150 ((nI_eq (by omega) (by omega)).mp z2))), if_neg c160, if_neg (fun z => c170 ((nI_eq (by omega) (by omega)).mp z)), if_neg (fun z => c180 ((nI_eq (by omega) (by omega)).mp z))]; exact ⟨rfl, (by rw [← tS_self (T := T)]; exact hT.S (hT.1.same (fun q hq => by rw [p135.1 q hq, e2 q hq])) (hk.tr (p135.2.mono (by decide))))⟩)
                · refine lv_aload_n hx hb dX5_who_153 rfl (hl.at rfl) ?_
                  refine lv_iconst (v := nI 2) hx hb dX5_who_154 rfl ?_
                  refine m_iV hC hK hP hS (met_error (T := T) (by rw [← tS_self (T := T)]; exact hT.S (hT.1.same (fun q hq => by rw [p135.1 q hq, e2 q hq])) (hk.tr (p135.2.mono (by decide)))) rfl (by decide)) cv_X5_76 rfl rfl hl.1 (Nat.le_of_ble_eq_true rfl) dX5_who_155 (by decide) (by decide) (fun r155 σ155 H locs p155 hP hS => ?_)
                  refine hret _ _ ls _ _ _ hP hS dX5_who_158 ?_
                  first | (rw [op_who, if_neg p4]; exact p21) | (rw [op_who, if_pos p4, if_neg p13]; exact p21) | (rw [op_who, if_pos p4, if_pos p13, ← e5, if_pos ⟨((nI_eq (by omega) (by decide)).mp c140 : (wo_ (T 0) g x).1 = 0), Or.inl (by rw [c145])⟩]; exact p155) | (rw [op_who, if_pos p4, if_pos p13, ← e5, if_pos ⟨((nI_eq (by omega) (by decide)).mp c140 : (wo_ (T 0) g x).1 = 0), Or.inr (by rw [c150])⟩]; exact p155) | (rw [op_who, if_pos p4, if_pos p13, ← e5, if_neg (fun z => c140 (by rw [z.1]; rfl)), if_pos c160]; exact ⟨rfl, (by rw [← tS_self (T := T)]; exact hT.S (hT.1.same (fun q hq => by rw [p135.1 q hq, e2 q hq])) (hk.tr (p135.2.mono (by decide))))⟩) | (rw [op_who, if_pos p4, if_pos p13, ← e5, if_neg (fun z => c140 (by rw [z.1]; rfl)), if_neg c160, if_pos (by rw [c170])]; exact ⟨rfl, (by rw [← tS_self (T := T)]; exact hT.S (hT.1.same (fun q hq => by rw [p135.1 q hq, e2 q hq])) (hk.tr (p135.2.mono (by decide))))⟩) | (rw [op_who, if_pos p4, if_pos p13, ← e5, if_neg (fun z => c140 (by rw [z.1]; rfl)), if_neg c160, if_neg (fun z => c170 ((nI_eq (by omega) (by omega)).mp z)), if_pos (by rw [c180])]; exact ⟨rfl, (by rw [← tS_self (T := T)]; exact hT.S (hT.1.same (fun q hq => by rw [p135.1 q hq, e2 q hq])) (hk.tr (p135.2.mono (by decide))))⟩) | (rw [op_who, if_pos p4, if_pos p13, ← e5, if_neg (fun z => c140 (by rw [z.1]; rfl)), if_neg c160, if_neg (fun z => c170 ((nI_eq (by omega) (by omega)).mp z)), if_neg (fun z => c180 ((nI_eq (by omega) (by omega)).mp z))]; exact ⟨rfl, (by rw [← tS_self (T := T)]; exact hT.S (hT.1.same (fun q hq => by rw [p135.1 q hq, e2 q hq])) (hk.tr (p135.2.mono (by decide))))⟩) | (rw [op_who, if_pos p4, if_pos p13, ← e5, if_neg (fun z => by rcases z.2 with z2 | z2; (exact c145 ((nI_eq (by omega) (by omega)).mp z2)); (exact c150 ((nI_eq (by omega) (by omega)).mp z2))), if_pos c160]; exact ⟨rfl, (by rw [← tS_self (T := T)]; exact hT.S (hT.1.same (fun q hq => by rw [p135.1 q hq, e2 q hq])) (hk.tr (p135.2.mono (by decide))))⟩) | (rw [op_who, if_pos p4, if_pos p13, ← e5, if_neg (fun z => by rcases z.2 with z2 | z2; (exact c145 ((nI_eq (by omega) (by omega)).mp z2)); (exact c150 ((nI_eq (by omega) (by omega)).mp z2))), if_neg c160, if_pos (by rw [c170])]; exact ⟨rfl, (by rw [← tS_self (T := T)]; exact hT.S (hT.1.same (fun q hq => by rw [p135.1 q hq, e2 q hq])) (hk.tr (p135.2.mono (by decide))))⟩) | (rw [op_who, if_pos p4, if_pos p13, ← e5, if_neg (fun z => by rcases z.2 with z2 | z2; (exact c145 ((nI_eq (by omega) (by omega)).mp z2)); (exact c150 ((nI_eq (by omega) (by omega)).mp z2))), if_neg c160, if_neg (fun z => c170 ((nI_eq (by omega) (by omega)).mp z)), if_pos (by rw [c180])]; exact ⟨rfl, (by rw [← tS_self (T := T)]; exact hT.S (hT.1.same (fun q hq => by rw [p135.1 q hq, e2 q hq])) (hk.tr (p135.2.mono (by decide))))⟩) | (rw [op_who, if_pos p4, if_pos p13, ← e5, if_neg (fun z => by rcases z.2 with z2 | z2; (exact c145 ((nI_eq (by omega) (by omega)).mp z2)); (exact c150 ((nI_eq (by omega) (by omega)).mp z2))), if_neg c160, if_neg (fun z => c170 ((nI_eq (by omega) (by omega)).mp z)), if_neg (fun z => c180 ((nI_eq (by omega) (by omega)).mp z))]; exact ⟨rfl, (by rw [← tS_self (T := T)]; exact hT.S (hT.1.same (fun q hq => by rw [p135.1 q hq, e2 q hq])) (hk.tr (p135.2.mono (by decide))))⟩)
          · refine lv_aload_n hx hb dX5_who_68 rfl (hl.at rfl) ?_
            refine lv_iload hx hb dX5_who_69 (hl.at rfl) ?_
            refine m_vV hC hK hP hS (met_opens_2 (S := S2) hRk hI2) cv_X5_230 rfl rfl hl.1 (Nat.le_of_ble_eq_true rfl) dX5_who_71 (by decide) (by decide) (fun σ71 H locs p71 hP hS => ?_)
            obtain ⟨hIo, -, hWo⟩ := op_inv hI (nI x)
            rw [hop (nI x)] at p71
            refine lv_aload_n hx hb dX5_who_74 rfl (hl.at rfl) ?_
            refine m_vV hC hK hP hS (met_flow (S := sp_op (T 0) (nI x)) p71.1 hIo) cv_X5_103 rfl rfl hl.1 (Nat.le_of_ble_eq_true rfl) dX5_who_75 (by decide) (by decide) (fun σ75 H locs p75 hP hS => ?_)
            refine lv_aload_n hx hb dX5_who_78 rfl (hl.at rfl) ?_
            refine mg_flowing hC hK hP dX5_who_79 ?_
            refine lv_bipush (v := nI 12) hx hb dX5_who_82 rfl ?_
            refine m_ld 7 _ (by decide) hC hK hP (rfl) (show _ < 13 by omega) dX5_who_84 ?_
            refine l_top _ p75.2.2.2.2.2 ?_
            refine lv_iload_n hx hb dX5_who_85 rfl (hl.at rfl) ?_
            refine lv_icmp_ne (tgt := 121) hx hb dX5_who_86 rfl (fun c86 => ?_) (fun c86 => ?_)
            · refine l_inc1 hx hb 8 dX5_who_121 hl rfl rfl (fun ls hl => ?_)
              refine lv_goto (tgt := 62) hx hb dX5_who_124 rfl ?_
              first | exact ih (x + 1) σ75 (sp_op (T 0) (nI x)) (by omega) (by omega) (by rw [p75.1 0 (by decide)]; exact p71.1) hIo hWo (fun y => op_op) (fun q hq => by rw [p75.1 2 (by decide), p71.2 2 (by decide), e2 q hq]) ((hk.tr (p71.2.mono (by decide))).tr (p75.1.mono (by decide))) _ _ _ hP hS (by rw [wo_, if_neg c86]; exact hl) | exact ih (x + 1) σ75 (sp_op (T 0) (nI x)) (by omega) (by omega) (by rw [p75.1 0 (by decide)]; exact p71.1) hIo hWo (fun y => op_op) (fun q hq => by rw [p75.1 2 (by decide), p71.2 2 (by decide), e2 q hq]) ((hk.tr (p71.2.mono (by decide))).tr (p75.1.mono (by decide))) _ _ _ hP hS (by rw [wo_, if_pos c86, if_pos c95]; exact hl) | exact ih (x + 1) σ75 (sp_op (T 0) (nI x)) (by omega) (by omega) (by rw [p75.1 0 (by decide)]; exact p71.1) hIo hWo (fun y => op_op) (fun q hq => by rw [p75.1 2 (by decide), p71.2 2 (by decide), e2 q hq]) ((hk.tr (p71.2.mono (by decide))).tr (p75.1.mono (by decide))) _ _ _ hP hS (by rw [wo_, if_pos c86, if_neg c95]; exact hl)
            · refine l_inc1 hx hb 4 dX5_who_89 hl rfl rfl (fun ls hl => ?_)
              refine lv_iload hx hb dX5_who_92 (hl.at rfl) ?_
              refine lv_iconst (v := -1) hx hb dX5_who_94 rfl ?_
              refine lv_icmp_ne (tgt := 103) hx hb dX5_who_95 rfl (fun c95 => ?_) (fun c95 => ?_)
              · refine lv_iload hx hb dX5_who_103 (hl.at rfl) ?_
                refine l_istore hx hb 5 dX5_who_105 hl rfl (fun ls hl => ?_)
                refine lv_iload hx hb dX5_who_107 (hl.at rfl) ?_
                refine lv_iload hx hb dX5_who_109 (hl.at rfl) ?_
                refine lv_iand hx hb dX5_who_111 ?_
                refine l_istore hx hb 6 dX5_who_112 hl rfl (fun ls hl => ?_)
                refine lv_iload hx hb dX5_who_114 (hl.at rfl) ?_
                refine lv_iload hx hb dX5_who_116 (hl.at rfl) ?_
                refine lv_ior hx hb dX5_who_118 ?_
                refine l_istore hx hb 7 dX5_who_119 hl rfl (fun ls hl => ?_)
                refine l_inc1 hx hb 8 dX5_who_121 hl rfl rfl (fun ls hl => ?_)
                refine lv_goto (tgt := 62) hx hb dX5_who_124 rfl ?_
                first | exact ih (x + 1) σ75 (sp_op (T 0) (nI x)) (by omega) (by omega) (by rw [p75.1 0 (by decide)]; exact p71.1) hIo hWo (fun y => op_op) (fun q hq => by rw [p75.1 2 (by decide), p71.2 2 (by decide), e2 q hq]) ((hk.tr (p71.2.mono (by decide))).tr (p75.1.mono (by decide))) _ _ _ hP hS (by rw [wo_, if_neg c86]; exact hl) | exact ih (x + 1) σ75 (sp_op (T 0) (nI x)) (by omega) (by omega) (by rw [p75.1 0 (by decide)]; exact p71.1) hIo hWo (fun y => op_op) (fun q hq => by rw [p75.1 2 (by decide), p71.2 2 (by decide), e2 q hq]) ((hk.tr (p71.2.mono (by decide))).tr (p75.1.mono (by decide))) _ _ _ hP hS (by rw [wo_, if_pos c86, if_pos c95]; exact hl) | exact ih (x + 1) σ75 (sp_op (T 0) (nI x)) (by omega) (by omega) (by rw [p75.1 0 (by decide)]; exact p71.1) hIo hWo (fun y => op_op) (fun q hq => by rw [p75.1 2 (by decide), p71.2 2 (by decide), e2 q hq]) ((hk.tr (p71.2.mono (by decide))).tr (p75.1.mono (by decide))) _ _ _ hP hS (by rw [wo_, if_pos c86, if_neg c95]; exact hl)
              · refine lv_iload hx hb dX5_who_98 (hl.at rfl) ?_
                refine lv_goto (tgt := 105) hx hb dX5_who_100 rfl ?_
                refine l_istore hx hb 5 dX5_who_105 hl rfl (fun ls hl => ?_)
                refine lv_iload hx hb dX5_who_107 (hl.at rfl) ?_
                refine lv_iload hx hb dX5_who_109 (hl.at rfl) ?_
                refine lv_iand hx hb dX5_who_111 ?_
                refine l_istore hx hb 6 dX5_who_112 hl rfl (fun ls hl => ?_)
                refine lv_iload hx hb dX5_who_114 (hl.at rfl) ?_
                refine lv_iload hx hb dX5_who_116 (hl.at rfl) ?_
                refine lv_ior hx hb dX5_who_118 ?_
                refine l_istore hx hb 7 dX5_who_119 hl rfl (fun ls hl => ?_)
                refine l_inc1 hx hb 8 dX5_who_121 hl rfl rfl (fun ls hl => ?_)
                refine lv_goto (tgt := 62) hx hb dX5_who_124 rfl ?_
                first | exact ih (x + 1) σ75 (sp_op (T 0) (nI x)) (by omega) (by omega) (by rw [p75.1 0 (by decide)]; exact p71.1) hIo hWo (fun y => op_op) (fun q hq => by rw [p75.1 2 (by decide), p71.2 2 (by decide), e2 q hq]) ((hk.tr (p71.2.mono (by decide))).tr (p75.1.mono (by decide))) _ _ _ hP hS (by rw [wo_, if_neg c86]; exact hl) | exact ih (x + 1) σ75 (sp_op (T 0) (nI x)) (by omega) (by omega) (by rw [p75.1 0 (by decide)]; exact p71.1) hIo hWo (fun y => op_op) (fun q hq => by rw [p75.1 2 (by decide), p71.2 2 (by decide), e2 q hq]) ((hk.tr (p71.2.mono (by decide))).tr (p75.1.mono (by decide))) _ _ _ hP hS (by rw [wo_, if_pos c86, if_pos c95]; exact hl) | exact ih (x + 1) σ75 (sp_op (T 0) (nI x)) (by omega) (by omega) (by rw [p75.1 0 (by decide)]; exact p71.1) hIo hWo (fun y => op_op) (fun q hq => by rw [p75.1 2 (by decide), p71.2 2 (by decide), e2 q hq]) ((hk.tr (p71.2.mono (by decide))).tr (p75.1.mono (by decide))) _ _ _ hP hS (by rw [wo_, if_pos c86, if_neg c95]; exact hl)
      exact loop (2 ^ wh (T 0) + 1) 0 σ56 (T 0) (Nat.zero_le _) (by omega) (by rw [p56.2 0 (by decide)]; exact hT.1) hI rfl (fun _ => rfl) p56.1 (p56.2.mono (by decide)) _ _ _ hP hS hl
    · refine l_ifne_0 hx hb 25 dX5_who_16 rfl ?_
      refine lv_aload_n hx hb dX5_who_19 rfl (hl.at rfl) ?_
      refine lv_iconst (v := nI 1) hx hb dX5_who_20 rfl ?_
      refine m_iV hC hK hP hS (met_error hT rfl (by decide)) cv_X5_76 rfl rfl hl.1 (Nat.le_of_ble_eq_true rfl) dX5_who_21 (by decide) (by decide) (fun r21 σ21 H locs p21 hP hS => ?_)
      refine hret _ _ ls _ _ _ hP hS dX5_who_24 ?_
      first | (rw [op_who, if_neg p4]; exact p21) | (rw [op_who, if_pos p4, if_neg p13]; exact p21) | (rw [op_who, if_pos p4, if_pos p13, ← e5, if_pos ⟨((nI_eq (by omega) (by decide)).mp c140 : (wo_ (T 0) g x).1 = 0), Or.inl (by rw [c145])⟩]; exact p155) | (rw [op_who, if_pos p4, if_pos p13, ← e5, if_pos ⟨((nI_eq (by omega) (by decide)).mp c140 : (wo_ (T 0) g x).1 = 0), Or.inr (by rw [c150])⟩]; exact p155) | (rw [op_who, if_pos p4, if_pos p13, ← e5, if_neg (fun z => c140 (by rw [z.1]; rfl)), if_pos c160]; exact ⟨rfl, (by rw [← tS_self (T := T)]; exact hT.S (hT.1.same (fun q hq => by rw [p135.1 q hq, e2 q hq])) (hk.tr (p135.2.mono (by decide))))⟩) | (rw [op_who, if_pos p4, if_pos p13, ← e5, if_neg (fun z => c140 (by rw [z.1]; rfl)), if_neg c160, if_pos (by rw [c170])]; exact ⟨rfl, (by rw [← tS_self (T := T)]; exact hT.S (hT.1.same (fun q hq => by rw [p135.1 q hq, e2 q hq])) (hk.tr (p135.2.mono (by decide))))⟩) | (rw [op_who, if_pos p4, if_pos p13, ← e5, if_neg (fun z => c140 (by rw [z.1]; rfl)), if_neg c160, if_neg (fun z => c170 ((nI_eq (by omega) (by omega)).mp z)), if_pos (by rw [c180])]; exact ⟨rfl, (by rw [← tS_self (T := T)]; exact hT.S (hT.1.same (fun q hq => by rw [p135.1 q hq, e2 q hq])) (hk.tr (p135.2.mono (by decide))))⟩) | (rw [op_who, if_pos p4, if_pos p13, ← e5, if_neg (fun z => c140 (by rw [z.1]; rfl)), if_neg c160, if_neg (fun z => c170 ((nI_eq (by omega) (by omega)).mp z)), if_neg (fun z => c180 ((nI_eq (by omega) (by omega)).mp z))]; exact ⟨rfl, (by rw [← tS_self (T := T)]; exact hT.S (hT.1.same (fun q hq => by rw [p135.1 q hq, e2 q hq])) (hk.tr (p135.2.mono (by decide))))⟩) | (rw [op_who, if_pos p4, if_pos p13, ← e5, if_neg (fun z => by rcases z.2 with z2 | z2; (exact c145 ((nI_eq (by omega) (by omega)).mp z2)); (exact c150 ((nI_eq (by omega) (by omega)).mp z2))), if_pos c160]; exact ⟨rfl, (by rw [← tS_self (T := T)]; exact hT.S (hT.1.same (fun q hq => by rw [p135.1 q hq, e2 q hq])) (hk.tr (p135.2.mono (by decide))))⟩) | (rw [op_who, if_pos p4, if_pos p13, ← e5, if_neg (fun z => by rcases z.2 with z2 | z2; (exact c145 ((nI_eq (by omega) (by omega)).mp z2)); (exact c150 ((nI_eq (by omega) (by omega)).mp z2))), if_neg c160, if_pos (by rw [c170])]; exact ⟨rfl, (by rw [← tS_self (T := T)]; exact hT.S (hT.1.same (fun q hq => by rw [p135.1 q hq, e2 q hq])) (hk.tr (p135.2.mono (by decide))))⟩) | (rw [op_who, if_pos p4, if_pos p13, ← e5, if_neg (fun z => by rcases z.2 with z2 | z2; (exact c145 ((nI_eq (by omega) (by omega)).mp z2)); (exact c150 ((nI_eq (by omega) (by omega)).mp z2))), if_neg c160, if_neg (fun z => c170 ((nI_eq (by omega) (by omega)).mp z)), if_pos (by rw [c180])]; exact ⟨rfl, (by rw [← tS_self (T := T)]; exact hT.S (hT.1.same (fun q hq => by rw [p135.1 q hq, e2 q hq])) (hk.tr (p135.2.mono (by decide))))⟩) | (rw [op_who, if_pos p4, if_pos p13, ← e5, if_neg (fun z => by rcases z.2 with z2 | z2; (exact c145 ((nI_eq (by omega) (by omega)).mp z2)); (exact c150 ((nI_eq (by omega) (by omega)).mp z2))), if_neg c160, if_neg (fun z => c170 ((nI_eq (by omega) (by omega)).mp z)), if_neg (fun z => c180 ((nI_eq (by omega) (by omega)).mp z))]; exact ⟨rfl, (by rw [← tS_self (T := T)]; exact hT.S (hT.1.same (fun q hq => by rw [p135.1 q hq, e2 q hq])) (hk.tr (p135.2.mono (by decide))))⟩)
  · refine l_ifeq_0 hx hb 19 dX5_who_7 rfl ?_
    refine lv_aload_n hx hb dX5_who_19 rfl (hl.at rfl) ?_
    refine lv_iconst (v := nI 1) hx hb dX5_who_20 rfl ?_
    refine m_iV hC hK hP hS (met_error hT rfl (by decide)) cv_X5_76 rfl rfl hl.1 (Nat.le_of_ble_eq_true rfl) dX5_who_21 (by decide) (by decide) (fun r21 σ21 H locs p21 hP hS => ?_)
    refine hret _ _ ls _ _ _ hP hS dX5_who_24 ?_
    first | (rw [op_who, if_neg p4]; exact p21) | (rw [op_who, if_pos p4, if_neg p13]; exact p21) | (rw [op_who, if_pos p4, if_pos p13, ← e5, if_pos ⟨((nI_eq (by omega) (by decide)).mp c140 : (wo_ (T 0) g x).1 = 0), Or.inl (by rw [c145])⟩]; exact p155) | (rw [op_who, if_pos p4, if_pos p13, ← e5, if_pos ⟨((nI_eq (by omega) (by decide)).mp c140 : (wo_ (T 0) g x).1 = 0), Or.inr (by rw [c150])⟩]; exact p155) | (rw [op_who, if_pos p4, if_pos p13, ← e5, if_neg (fun z => c140 (by rw [z.1]; rfl)), if_pos c160]; exact ⟨rfl, (by rw [← tS_self (T := T)]; exact hT.S (hT.1.same (fun q hq => by rw [p135.1 q hq, e2 q hq])) (hk.tr (p135.2.mono (by decide))))⟩) | (rw [op_who, if_pos p4, if_pos p13, ← e5, if_neg (fun z => c140 (by rw [z.1]; rfl)), if_neg c160, if_pos (by rw [c170])]; exact ⟨rfl, (by rw [← tS_self (T := T)]; exact hT.S (hT.1.same (fun q hq => by rw [p135.1 q hq, e2 q hq])) (hk.tr (p135.2.mono (by decide))))⟩) | (rw [op_who, if_pos p4, if_pos p13, ← e5, if_neg (fun z => c140 (by rw [z.1]; rfl)), if_neg c160, if_neg (fun z => c170 ((nI_eq (by omega) (by omega)).mp z)), if_pos (by rw [c180])]; exact ⟨rfl, (by rw [← tS_self (T := T)]; exact hT.S (hT.1.same (fun q hq => by rw [p135.1 q hq, e2 q hq])) (hk.tr (p135.2.mono (by decide))))⟩) | (rw [op_who, if_pos p4, if_pos p13, ← e5, if_neg (fun z => c140 (by rw [z.1]; rfl)), if_neg c160, if_neg (fun z => c170 ((nI_eq (by omega) (by omega)).mp z)), if_neg (fun z => c180 ((nI_eq (by omega) (by omega)).mp z))]; exact ⟨rfl, (by rw [← tS_self (T := T)]; exact hT.S (hT.1.same (fun q hq => by rw [p135.1 q hq, e2 q hq])) (hk.tr (p135.2.mono (by decide))))⟩) | (rw [op_who, if_pos p4, if_pos p13, ← e5, if_neg (fun z => by rcases z.2 with z2 | z2; (exact c145 ((nI_eq (by omega) (by omega)).mp z2)); (exact c150 ((nI_eq (by omega) (by omega)).mp z2))), if_pos c160]; exact ⟨rfl, (by rw [← tS_self (T := T)]; exact hT.S (hT.1.same (fun q hq => by rw [p135.1 q hq, e2 q hq])) (hk.tr (p135.2.mono (by decide))))⟩) | (rw [op_who, if_pos p4, if_pos p13, ← e5, if_neg (fun z => by rcases z.2 with z2 | z2; (exact c145 ((nI_eq (by omega) (by omega)).mp z2)); (exact c150 ((nI_eq (by omega) (by omega)).mp z2))), if_neg c160, if_pos (by rw [c170])]; exact ⟨rfl, (by rw [← tS_self (T := T)]; exact hT.S (hT.1.same (fun q hq => by rw [p135.1 q hq, e2 q hq])) (hk.tr (p135.2.mono (by decide))))⟩) | (rw [op_who, if_pos p4, if_pos p13, ← e5, if_neg (fun z => by rcases z.2 with z2 | z2; (exact c145 ((nI_eq (by omega) (by omega)).mp z2)); (exact c150 ((nI_eq (by omega) (by omega)).mp z2))), if_neg c160, if_neg (fun z => c170 ((nI_eq (by omega) (by omega)).mp z)), if_pos (by rw [c180])]; exact ⟨rfl, (by rw [← tS_self (T := T)]; exact hT.S (hT.1.same (fun q hq => by rw [p135.1 q hq, e2 q hq])) (hk.tr (p135.2.mono (by decide))))⟩) | (rw [op_who, if_pos p4, if_pos p13, ← e5, if_neg (fun z => by rcases z.2 with z2 | z2; (exact c145 ((nI_eq (by omega) (by omega)).mp z2)); (exact c150 ((nI_eq (by omega) (by omega)).mp z2))), if_neg c160, if_neg (fun z => c170 ((nI_eq (by omega) (by omega)).mp z)), if_neg (fun z => c180 ((nI_eq (by omega) (by omega)).mp z))]; exact ⟨rfl, (by rw [← tS_self (T := T)]; exact hT.S (hT.1.same (fun q hq => by rw [p135.1 q hq, e2 q hq])) (hk.tr (p135.2.mono (by decide))))⟩)
theorem met_slipped {l : Launch} {D : va_G} {cA : Nat → ClassId} {b : Nat} {σ : Nat → Nat → Int32} {T : Tta} (hT : RT σ T) (hI : Inv (T 0)) : MP l D cA b yX5_slipped cX5_slipped 3 (some .int) (1) [.ref b] σ (fun r => r = (op_slipped T).1) := by
  refine Cp.of rfl (by decide +kernel) (Nat.le_of_ble_eq_true rfl) ?_
  intro p e s m args below meth c Q hC hK hP hret ls hl
  have hx := hC.1
  have hb := hC.2.1
  have hown := hC.2.2.2.1
  have hts := hC.2.2.2.2
  obtain ⟨eN, hN8⟩ := inv_wh hI
  refine lv_iconst (v := nI 0) hx hb dX5_slipped_0 rfl ?_
  refine l_istore_n hx hb 1 dX5_slipped_1 rfl hl rfl (fun ls hl => ?_)
  refine lv_iconst (v := nI 0) hx hb dX5_slipped_2 rfl ?_
  refine l_istore_n hx hb 2 dX5_slipped_3 rfl hl rfl (fun ls hl => ?_)
  have loop : ∀ (n k : Nat), k ≤ wh (T 0) → wh (T 0) + 1 ≤ k + n → ∀ ls : Array Slot, lh ls [some (.ref b), some (.int (slp (T 0) k)), some (.int (nI k))] → W p l e (rmG 1 0 0) s m args below meth c s.heap [] 0 0 Q (F0 m 4 ls []) := by
    intro n
    induction n with
    | zero => intro k h1 h2; exact absurd h2 (by omega)
    | succ n ih =>
      intro k h1 h2 ls hl
      refine lv_iload_n hx hb dX5_slipped_4 rfl (hl.at rfl) ?_
      refine lv_aload_n hx hb dX5_slipped_5 rfl (hl.at rfl) ?_
      refine mg_s hC hK hP dX5_slipped_6 ?_
      refine lv_iconst (v := nI 0) hx hb dX5_slipped_9 rfl ?_
      refine m_ld 0 _ (by decide) hC hK hP (rfl) (show _ < 449 by omega) dX5_slipped_10 ?_
      refine l_top _ ((hT.1.at 0 0 (n := 0) (by decide) rfl).trans eN) ?_
      refine l_geN hx hb 46 dX5_slipped_11 rfl (by omega) (by omega) (fun c11 => ?_) (fun c11 => ?_)
      · have e5 : k = wh (T 0) := by omega
        refine lv_iload_n hx hb dX5_slipped_46 rfl (hl.at rfl) ?_
        refine hret ls _ _ dX5_slipped_47 ?_
        rw [e5]; rfl
      · refine lv_iload_n hx hb dX5_slipped_14 rfl (hl.at rfl) ?_
        refine lv_aload_n hx hb dX5_slipped_15 rfl (hl.at rfl) ?_
        refine lv_iload_n hx hb dX5_slipped_16 rfl (hl.at rfl) ?_
        refine lv_iconst (v := nI 5) hx hb dX5_slipped_17 rfl ?_
        refine m_pV hC hK hP (met_its (S := T 0) (w := k) (q := 5) hT.1 rfl rfl (by omega) (by decide)) cv_X5_90 rfl rfl hl.1 (Nat.le_of_ble_eq_true rfl) dX5_slipped_18 (by decide) (by decide) (fun r18 p18 => ?_)
        obtain rfl : r18 = T 0 10 k := p18
        refine lv_aload_n hx hb dX5_slipped_21 rfl (hl.at rfl) ?_
        refine lv_iload_n hx hb dX5_slipped_22 rfl (hl.at rfl) ?_
        refine lv_bipush (v := nI 6) hx hb dX5_slipped_23 rfl ?_
        refine m_pV hC hK hP (met_its (S := T 0) (w := k) (q := 6) hT.1 rfl rfl (by omega) (by decide)) cv_X5_90 rfl rfl hl.1 (Nat.le_of_ble_eq_true rfl) dX5_slipped_25 (by decide) (by decide) (fun r25 p25 => ?_)
        obtain rfl : r25 = T 0 11 k := p25
        refine lv_icmp_eq (tgt := 37) hx hb dX5_slipped_28 rfl (fun c28 => ?_) (fun c28 => ?_)
        · refine lv_iconst (v := nI 0) hx hb dX5_slipped_37 rfl ?_
          refine lv_ior hx hb dX5_slipped_38 ?_
          refine l_istore_n hx hb 1 dX5_slipped_39 rfl hl rfl (fun ls hl => ?_)
          refine l_inc1 hx hb 2 dX5_slipped_40 hl rfl rfl (fun ls hl => ?_)
          refine lv_goto (tgt := 4) hx hb dX5_slipped_43 rfl ?_
          first | exact ih (k + 1) (by omega) (by omega) ls (by rw [slp, if_pos c28]; exact hl) | exact ih (k + 1) (by omega) (by omega) ls (by rw [slp, if_neg c28]; exact hl)
        · refine lv_iconst (v := nI 1) hx hb dX5_slipped_31 rfl ?_
          refine lv_iload_n hx hb dX5_slipped_32 rfl (hl.at rfl) ?_
          refine lv_ishl hx hb dX5_slipped_33 ?_
          refine lv_goto (tgt := 38) hx hb dX5_slipped_34 rfl ?_
          refine lv_ior hx hb dX5_slipped_38 ?_
          refine l_istore_n hx hb 1 dX5_slipped_39 rfl hl rfl (fun ls hl => ?_)
          refine l_inc1 hx hb 2 dX5_slipped_40 hl rfl rfl (fun ls hl => ?_)
          refine lv_goto (tgt := 4) hx hb dX5_slipped_43 rfl ?_
          first | exact ih (k + 1) (by omega) (by omega) ls (by rw [slp, if_pos c28]; exact hl) | exact ih (k + 1) (by omega) (by omega) ls (by rw [slp, if_neg c28]; exact hl)
  exact loop (wh (T 0) + 1) 0 (Nat.zero_le _) (by omega) ls hl
