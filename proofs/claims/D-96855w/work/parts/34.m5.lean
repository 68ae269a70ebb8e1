theorem met_turn1 {l : Launch} {D : va_G} {cA : Nat → ClassId} {b : Nat} {σ : Nat → Nat → Int32} {S : Sta} {x v : Int32} {w : Nat} (hR : RM (σ 0) S) (hI : Inv S) (hx1 : x = nI w) (hw : w < 8) : MV l D cA b yX5_turn1 cX5_turn1 3 (2) [.ref b, .int x, .int v] σ (fun τ => RM (τ 0) (sp_turn1 S w v) ∧ Kp [0] σ τ) := by
  refine Cv.of (by decide +kernel) (Nat.le_of_ble_eq_true rfl) ?_
  intro p e s m args below meth c Q hC hK hP hret ls hl
  have hx := hC.1
  have hb := hC.2.1
  have hown := hC.2.2.2.1
  have hts := hC.2.2.2.2
  have hS : va_S (mA b) s.heap s.heap [] := va_S.rf
  subst hx1
  obtain ⟨ff, hff, ef⟩ := inv_bd hI 8 w hw
  have hff : ff ≤ 4 := hff
  refine lv_aload_n hx hb dX5_turn1_0 rfl (hl.at rfl) ?_
  refine lv_iload_n hx hb dX5_turn1_1 rfl (hl.at rfl) ?_
  refine lv_bipush (v := nI 6) hx hb dX5_turn1_2 rfl ?_
  refine lv_aload_n hx hb dX5_turn1_4 rfl (hl.at rfl) ?_
  refine lv_iload_n hx hb dX5_turn1_5 rfl (hl.at rfl) ?_
  refine lv_bipush (v := nI 6) hx hb dX5_turn1_6 rfl ?_
  refine m_pV hC hK hP (met_its (S := S) (w := w) (q := 6) hR rfl rfl (by omega) (by decide)) cv_X5_90 rfl rfl hl.1 (Nat.le_of_ble_eq_true rfl) dX5_turn1_8 (by decide) (by decide) (fun r8 p8 => ?_)
  obtain rfl : r8 = S 11 w := p8
  refine lv_iload_n hx hb dX5_turn1_11 rfl (hl.at rfl) ?_
  refine lv_iadd hx hb dX5_turn1_12 ?_
  refine lv_iconst (v := nI 0) hx hb dX5_turn1_13 rfl ?_
  refine lv_ldc (v := 999999) hx hb hown (hts _ q1521) dX5_turn1_14 ?_
  refine m_sS hC (met_held ) cs_X5_61 rfl rfl hl.1 (Nat.le_of_ble_eq_true rfl) dX5_turn1_16 (by decide) (by decide) (fun r16 p16 => ?_)
  subst p16
  refine m_vV hC hK hP hS (met_lays1 (w := w) (q := 6) hR rfl rfl hw (by decide)) cv_X5_96 rfl rfl hl.1 (Nat.le_of_ble_eq_true rfl) dX5_turn1_19 (by decide) (by decide) (fun σ19 H locs p19 hP hS => ?_)
  refine lv_aload_n hx hb dX5_turn1_22 rfl (hl.at rfl) ?_
  refine lv_aload_n hx hb dX5_turn1_23 rfl (hl.at rfl) ?_
  refine lv_iload_n hx hb dX5_turn1_24 rfl (hl.at rfl) ?_
  refine lv_iconst (v := nI 3) hx hb dX5_turn1_25 rfl ?_
  refine m_pV hC hK hP (met_its (w := w) (q := 3) p19.1 rfl rfl hw (by decide)) cv_X5_90 rfl rfl hl.1 (Nat.le_of_ble_eq_true rfl) dX5_turn1_26 (by decide) (by decide) (fun r26 p26 => ?_)
  obtain rfl : r26 = nI ff := p26.trans ef
  refine lv_aload_n hx hb dX5_turn1_29 rfl (hl.at rfl) ?_
  refine lv_aload_n hx hb dX5_turn1_30 rfl (hl.at rfl) ?_
  refine lv_iload_n hx hb dX5_turn1_31 rfl (hl.at rfl) ?_
  refine lv_iconst (v := nI 3) hx hb dX5_turn1_32 rfl ?_
  refine m_pV hC hK hP (met_its (w := w) (q := 3) p19.1 rfl rfl hw (by decide)) cv_X5_90 rfl rfl hl.1 (Nat.le_of_ble_eq_true rfl) dX5_turn1_33 (by decide) (by decide) (fun r33 p33 => ?_)
  obtain rfl : r33 = nI ff := p33.trans ef
  refine m_pV hC hK hP (met_prayed (f := ff) p19.1 rfl (by omega)) cv_X5_65 rfl rfl hl.1 (Nat.le_of_ble_eq_true rfl) dX5_turn1_36 (by decide) (by decide) (fun r36 p36 => ?_)
  obtain rfl : r36 = S 4 ff := p36
  refine lv_iload_n hx hb dX5_turn1_39 rfl (hl.at rfl) ?_
  refine lv_iadd hx hb dX5_turn1_40 ?_
  refine m_vV hC hK hP hS (met_prays (f := ff) p19.1 rfl (by omega)) cv_X5_203 rfl rfl hl.1 (Nat.le_of_ble_eq_true rfl) dX5_turn1_41 (by decide) (by decide) (fun σ41 H locs p41 hP hS => ?_)
  refine hret _ _ ls _ _ hP hS dX5_turn1_44 ?_
  exact ⟨by rw [sp_turn1, ef, cn_nI (by omega)]; exact p41.1, p19.2.tr p41.2⟩
theorem cv_X5_103 : CV RX5 RX5 103 yX5_flow cX5_flow 5 (none) 0 := ⟨lw_V q1461 q1463 qs44 q88 q1464, by decide +kernel⟩
theorem cv_X5_206 : CV RX5 RX5 206 yX5_turn1 cX5_turn1 3 (none) 2 := ⟨lw_V q1591 q1593 qs66 q88 q1594, by decide +kernel⟩
theorem met_hour {l : Launch} {D : va_G} {cA : Nat → ClassId} {b : Nat} {σ : Nat → Nat → Int32} {S : Sta} (hR : RM (σ 0) S) (hI : Inv S) : MV l D cA b yX5_hour cX5_hour 3 (5) [.ref b] σ (fun τ => RM (τ 0) (sp_hour S) ∧ Kp [0, 5, 6, 7, 8, 9, 20, 21] σ τ ∧ (∀ v, v < wh S → τ 8 v = sp_took S v) ∧ (∀ v, v < wh S → τ 9 v = trn S v) ∧ τ 21 0 = (sp_fl S).2.2.1) := by
  refine Cv.of (by decide +kernel) (Nat.le_of_ble_eq_true rfl) ?_
  intro p e s m args below meth c Q hC hK hP hret ls hl
  have hx := hC.1
  have hb := hC.2.1
  have hown := hC.2.2.2.1
  have hts := hC.2.2.2.2
  have hS : va_S (mA b) s.heap s.heap [] := va_S.rf
  obtain ⟨eN, hN⟩ := inv_wh hI
  refine lv_aload_n hx hb dX5_hour_0 rfl (hl.at rfl) ?_
  refine m_vV hC hK hP hS (met_flow (S := S) hR hI) cv_X5_103 rfl rfl hl.1 (Nat.le_of_ble_eq_true rfl) dX5_hour_1 (by decide) (by decide) (fun σ1 H locs p1 hP hS => ?_)
  refine lv_iconst (v := nI 0) hx hb dX5_hour_4 rfl ?_
  refine l_istore_n hx hb 1 dX5_hour_5 rfl hl rfl (fun ls hl => ?_)
  have loop : ∀ (n k : Nat) (τ : Sta), k ≤ wh S → wh S + 1 ≤ k + n → RM (τ 0) (hrs S (sp_took S) k) → Kp [0, 5, 6, 7, 8, 9, 20, 21] σ τ → (∀ v, v < wh S → τ 8 v = sp_took S v) → (∀ v, v < k → τ 9 v = trn S v) → τ 21 0 = (sp_fl S).2.2.1 → ∀ (H : Heap) (locs : List Loc) (ls : Array Slot), MWP D cA b τ H → va_S (mA b) s.heap H locs → lh ls [some (.ref b), some (.int (nI k)), none] → W p l e (rmG 5 0 0) s m args below meth c H locs 0 0 Q (F0 m 6 ls []) := by
    intro n
    induction n with
    | zero => intro k τ h1 h2; exact absurd h2 (by omega)
    | succ n ih =>
      intro k τ h1 h2 hRk hk e8 e9 e21 H locs ls hP hS hl
      have hIk := hrs_inv hI (sp_took S) k
      refine lv_iload_n hx hb dX5_hour_6 rfl (hl.at rfl) ?_
      refine lv_aload_n hx hb dX5_hour_7 rfl (hl.at rfl) ?_
      refine mg_s hC hK hP dX5_hour_8 ?_
      refine lv_iconst (v := nI 0) hx hb dX5_hour_11 rfl ?_
      refine m_ld 0 _ (by decide) hC hK hP (rfl) (show _ < 449 by omega) dX5_hour_12 ?_
      refine l_top _ ((hRk.at 0 0 (n := 0) (by decide) rfl).trans ((congrFun (hrs_row (by decide) (by decide) (by decide) k) 0).trans eN)) ?_
      refine l_geN hx hb 88 dX5_hour_13 rfl (by omega) (by omega) (fun c13 => ?_) (fun c13 => ?_)
      · have e5 : k = wh S := by omega
        subst e5
        refine lv_aload_n hx hb dX5_hour_88 rfl (hl.at rfl) ?_
        refine mg_s hC hK hP dX5_hour_89 ?_
        refine lv_iconst (v := nI 1) hx hb dX5_hour_92 rfl ?_
        refine lv_dup2_11 hx hb dX5_hour_93 rfl rfl ?_
        refine m_ld 0 _ (by decide) hC hK hP (rfl) (show _ < 449 by omega) dX5_hour_94 ?_
        refine l_top (S 0 1) ((hRk.at 0 1 (n := 1) (by decide) rfl).trans (congrFun (hrs_row (by decide) (by decide) (by decide) (wh S)) 1)) ?_
        refine lv_iconst (v := nI 1) hx hb dX5_hour_95 rfl ?_
        refine lv_iadd hx hb dX5_hour_96 ?_
        refine m_st 0 _ (by decide) hC hK hP hS (rfl) (show _ < 449 by omega) dX5_hour_97 (fun H locs hP hS => ?_)
        refine hret _ _ ls _ _ hP hS dX5_hour_98 ?_
        refine ⟨by rw [up1_s, sp_hour]; exact hRk.set (i := 0) (j := 1) (by decide) rfl, hk.up (by decide), e8, e9, e21⟩
      · refine lv_aload_n hx hb dX5_hour_16 rfl (hl.at rfl) ?_
        refine mg_turned hC hK hP dX5_hour_17 ?_
        refine lv_iload_n hx hb dX5_hour_20 rfl (hl.at rfl) ?_
        refine lv_aload_n hx hb dX5_hour_21 rfl (hl.at rfl) ?_
        refine lv_iload_n hx hb dX5_hour_22 rfl (hl.at rfl) ?_
        refine lv_aload_n hx hb dX5_hour_23 rfl (hl.at rfl) ?_
        refine mg_took hC hK hP dX5_hour_24 ?_
        refine lv_iload_n hx hb dX5_hour_27 rfl (hl.at rfl) ?_
        refine m_ld 8 _ (by decide) hC hK hP (rfl) (show _ < 9 by omega) dX5_hour_28 ?_
        refine l_top _ (e8 k (by omega)) ?_
        refine m_iV hC hK hP hS (met_turns (S := hrs S (sp_took S) k) (w := k) hRk hIk rfl (by omega)) cv_X5_106 rfl rfl hl.1 (Nat.le_of_ble_eq_true rfl) dX5_hour_29 (by decide) (by decide) (fun r29 σ29 H locs p29 hP hS => ?_)
        refine m_st 9 _ (by decide) hC hK hP hS (rfl) (show _ < 9 by omega) dX5_hour_32 (fun H locs hP hS => ?_)
        refine lv_aload_n hx hb dX5_hour_33 rfl (hl.at rfl) ?_
        refine lv_iload_n hx hb dX5_hour_34 rfl (hl.at rfl) ?_
        refine lv_aload_n hx hb dX5_hour_35 rfl (hl.at rfl) ?_
        refine mg_took hC hK hP dX5_hour_36 ?_
        refine lv_iload_n hx hb dX5_hour_39 rfl (hl.at rfl) ?_
        refine m_ld 8 _ (by decide) hC hK hP (rfl) (show _ < 9 by omega) dX5_hour_40 ?_
        refine l_top (sp_took S k) (by show σ29 8 k = _; rw [p29.2 8 (by decide)]; exact e8 k (by omega)) ?_
        refine lv_aload_n hx hb dX5_hour_41 rfl (hl.at rfl) ?_
        refine mg_turned hC hK hP dX5_hour_42 ?_
        refine lv_iload_n hx hb dX5_hour_45 rfl (hl.at rfl) ?_
        refine m_ld 9 _ (by decide) hC hK hP (rfl) (show _ < 9 by omega) dX5_hour_46 ?_
        refine l_top r29 (by rw [up1_s, pk_us]) ?_
        refine m_pV hC hK hP (met_showsBy (S := hrs S (sp_took S) k) (w := k) (by show RM (σ29 0) _; rw [p29.2 0 (by decide)]; exact hRk) hIk rfl (by omega)) cv_X5_191 rfl rfl hl.1 (Nat.le_of_ble_eq_true rfl) dX5_hour_47 (by decide) (by decide) (fun r47 p47 => ?_)
        refine l_istore_n hx hb 2 dX5_hour_50 rfl hl rfl (fun ls hl => ?_)
        refine lv_aload_n hx hb dX5_hour_51 rfl (hl.at rfl) ?_
        refine lv_iload_n hx hb dX5_hour_52 rfl (hl.at rfl) ?_
        refine lv_aload_n hx hb dX5_hour_53 rfl (hl.at rfl) ?_
        refine mg_turned hC hK hP dX5_hour_54 ?_
        refine lv_iload_n hx hb dX5_hour_57 rfl (hl.at rfl) ?_
        refine m_ld 9 _ (by decide) hC hK hP (rfl) (show _ < 9 by omega) dX5_hour_58 ?_
        refine l_top r29 (by rw [up1_s, pk_us]) ?_
        refine m_vV hC hK hP hS (met_turn1 (S := hrs S (sp_took S) k) (w := k) (by show RM (σ29 0) _; rw [p29.2 0 (by decide)]; exact hRk) hIk rfl (by omega)) cv_X5_206 rfl rfl hl.1 (Nat.le_of_ble_eq_true rfl) dX5_hour_59 (by decide) (by decide) (fun σ59 H locs p59 hP hS => ?_)
        refine lv_aload_n hx hb dX5_hour_62 rfl (hl.at rfl) ?_
        refine lv_iload_n hx hb dX5_hour_63 rfl (hl.at rfl) ?_
        refine lv_iconst (v := nI 5) hx hb dX5_hour_64 rfl ?_
        refine lv_aload_n hx hb dX5_hour_65 rfl (hl.at rfl) ?_
        refine lv_iload_n hx hb dX5_hour_66 rfl (hl.at rfl) ?_
        refine lv_iconst (v := nI 5) hx hb dX5_hour_67 rfl ?_
        refine m_pV hC hK hP (met_its (w := k) (q := 5) p59.1 rfl rfl (by omega) (by decide)) cv_X5_90 rfl rfl hl.1 (Nat.le_of_ble_eq_true rfl) dX5_hour_68 (by decide) (by decide) (fun r68 p68 => ?_)
        obtain rfl : r68 = hrs S (sp_took S) k 10 k := p68
        refine lv_iload_n hx hb dX5_hour_71 rfl (hl.at rfl) ?_
        refine lv_iadd hx hb dX5_hour_72 ?_
        refine lv_iconst (v := nI 0) hx hb dX5_hour_73 rfl ?_
        refine lv_ldc (v := 999999) hx hb hown (hts _ q1521) dX5_hour_74 ?_
        refine m_sS hC (met_held ) cs_X5_61 rfl rfl hl.1 (Nat.le_of_ble_eq_true rfl) dX5_hour_76 (by decide) (by decide) (fun r76 p76 => ?_)
        subst p76
        refine m_vV hC hK hP hS (met_lays1 (w := k) (q := 5) p59.1 rfl rfl (by omega) (by decide)) cv_X5_96 rfl rfl hl.1 (Nat.le_of_ble_eq_true rfl) dX5_hour_79 (by decide) (by decide) (fun σ79 H locs p79 hP hS => ?_)
        refine l_inc1 hx hb 1 dX5_hour_82 hl rfl rfl (fun ls hl => ?_)
        refine lv_goto (tgt := 6) hx hb dX5_hour_85 rfl ?_
        exact ih (k + 1) σ79 (by omega) (by omega) (by rw [hrs, hr1, ← p29.1, ← p47]; exact p79.1) ((((hk.tr (p29.2.mono (by decide))).up (by decide)).tr (p59.2.mono (by decide))).tr (p79.2.mono (by decide))) (fun v hv => by rw [p79.2 8 (by decide), p59.2 8 (by decide)]; show σ29 8 v = _; rw [p29.2 8 (by decide)]; exact e8 v hv) (fun v hv => by rw [p79.2 9 (by decide), p59.2 9 (by decide), up1_s, p29.2 9 (by decide)]; by_cases ee : v = k; (rw [ee, pk_us, p29.1]; rfl); (rw [pk_un ee]; exact e9 v (by omega))) (by rw [p79.2 21 (by decide), p59.2 21 (by decide)]; show σ29 21 0 = _; rw [p29.2 21 (by decide)]; exact e21) _ _ _ hP hS (hl.mask [true, true, false])
  exact loop (wh S + 1) 0 σ1 (Nat.zero_le _) (by omega) (by rw [p1.1 0 (by decide)]; exact hR) (p1.1.mono (by decide)) p1.2.2.2.1 (fun v hv => absurd hv (by omega)) p1.2.2.1 _ _ _ hP hS hl
theorem cv_X5_209 : CV RX5 RX5 209 yX5_hour cX5_hour 3 (none) 0 := ⟨lw_V q1587 q1589 qs65 q88 q1590, by decide +kernel⟩
theorem met_go {l : Launch} {D : va_G} {cA : Nat → ClassId} {b : Nat} {σ : Nat → Nat → Int32} {S : Sta} {x : Int32} {N : Nat} (hR : RM (σ 0) S) (hI : Inv S) (hx1 : x = nI N) (hN : hrv S + N ≤ 20000) : MV l D cA b yX5_go cX5_go 3 (6) [.ref b, .int x] σ (fun τ => RM (τ 0) (hrN S N) ∧ Kp [0, 5, 6, 7, 8, 9, 20, 21] σ τ) := by
  refine Cv.of (by decide +kernel) (Nat.le_of_ble_eq_true rfl) ?_
  intro p e s m args below meth c Q hC hK hP hret ls hl
  have hx := hC.1
  have hb := hC.2.1
  have hown := hC.2.2.2.1
  have hts := hC.2.2.2.2
  have hS : va_S (mA b) s.heap s.heap [] := va_S.rf
  subst hx1
  refine lv_iconst (v := nI 0) hx hb dX5_go_0 rfl ?_
  refine l_istore_n hx hb 2 dX5_go_1 rfl hl rfl (fun ls hl => ?_)
  have loop : ∀ (n k : Nat) (τ : Sta), k ≤ N → N + 1 ≤ k + n → RM (τ 0) (hrN S k) → Kp [0, 5, 6, 7, 8, 9, 20, 21] σ τ → ∀ (H : Heap) (locs : List Loc) (ls : Array Slot), MWP D cA b τ H → va_S (mA b) s.heap H locs → lh ls [some (.ref b), some (.int (nI N)), some (.int (nI k))] → W p l e (rmG 6 0 0) s m args below meth c H locs 0 0 Q (F0 m 2 ls []) := by
    intro n
    induction n with
    | zero => intro k τ h1 h2; exact absurd h2 (by omega)
    | succ n ih =>
      intro k τ h1 h2 hRk hk H locs ls hP hS hl
      refine lv_iload_n hx hb dX5_go_2 rfl (hl.at rfl) ?_
      refine lv_iload_n hx hb dX5_go_3 rfl (hl.at rfl) ?_
      refine l_geN hx hb 17 dX5_go_4 rfl (by omega) (by omega) (fun c4 => ?_) (fun c4 => ?_)
      · refine hret _ _ ls _ _ hP hS dX5_go_17 ?_
        have e5 : k = N := by omega
        subst e5
        exact ⟨hRk, hk⟩
      · refine lv_aload_n hx hb dX5_go_7 rfl (hl.at rfl) ?_
        refine m_vV hC hK hP hS (met_hour (S := hrN S k) hRk (hrN_inv hI k (by omega)).1) cv_X5_209 rfl rfl hl.1 (Nat.le_of_ble_eq_true rfl) dX5_go_8 (by decide) (by decide) (fun σ8 H locs p8 hP hS => ?_)
        refine l_inc1 hx hb 2 dX5_go_11 hl rfl rfl (fun ls hl => ?_)
        refine lv_goto (tgt := 2) hx hb dX5_go_14 rfl ?_
        exact ih (k + 1) σ8 (by omega) (by omega) p8.1 (hk.tr p8.2.1) _ _ _ hP hS hl
  exact loop (N + 1) 0 σ (Nat.zero_le _) (by omega) hR Kp.rf _ _ _ hP hS hl
theorem met_allPrayed {l : Launch} {D : va_G} {cA : Nat → ClassId} {b : Nat} {σ : Nat → Nat → Int32} {S : Sta} (hR : RM (σ 0) S) : MP l D cA b yX5_allPrayed cX5_allPrayed 3 (some .int) (1) [.ref b] σ (fun r => r = sumP S 5) := by
  refine Cp.of rfl (by decide +kernel) (Nat.le_of_ble_eq_true rfl) ?_
  intro p e s m args below meth c Q hC hK hP hret ls hl
  have hx := hC.1
  have hb := hC.2.1
  have hown := hC.2.2.2.1
  have hts := hC.2.2.2.2
  refine lv_iconst (v := nI 0) hx hb dX5_allPrayed_0 rfl ?_
  refine l_istore_n hx hb 1 dX5_allPrayed_1 rfl hl rfl (fun ls hl => ?_)
  refine lv_iconst (v := nI 0) hx hb dX5_allPrayed_2 rfl ?_
  refine l_istore_n hx hb 2 dX5_allPrayed_3 rfl hl rfl (fun ls hl => ?_)
  have loop : ∀ (n k : Nat) (v : Int32), k ≤ 5 → 6 ≤ k + n → v = sumP S k → ∀ ls : Array Slot, lh ls [some (.ref b), some (.int v), some (.int (nI k))] → W p l e (rmG 1 0 0) s m args below meth c s.heap [] 0 0 Q (F0 m 4 ls []) := by
    intro n
    induction n with
    | zero => intro k v h1 h2; exact absurd h2 (by omega)
    | succ n ih =>
      intro k v h1 h2 hv ls hl
      refine lv_iload_n hx hb dX5_allPrayed_4 rfl (hl.at rfl) ?_
      refine lv_iconst (v := nI 5) hx hb dX5_allPrayed_5 rfl ?_
      refine l_geN hx hb 23 dX5_allPrayed_6 rfl (by omega) (by omega) (fun c6 => ?_) (fun c6 => ?_)
      · refine lv_iload_n hx hb dX5_allPrayed_23 rfl (hl.at rfl) ?_
        refine hret ls _ _ dX5_allPrayed_24 ?_
        have e5 : k = 5 := by omega
        subst e5
        exact hv
      · refine lv_iload_n hx hb dX5_allPrayed_9 rfl (hl.at rfl) ?_
        refine lv_aload_n hx hb dX5_allPrayed_10 rfl (hl.at rfl) ?_
        refine lv_iload_n hx hb dX5_allPrayed_11 rfl (hl.at rfl) ?_
        refine m_pV hC hK hP (met_prayed (f := k) hR rfl (by omega)) cv_X5_65 rfl rfl hl.1 (Nat.le_of_ble_eq_true rfl) dX5_allPrayed_12 (by decide) (by decide) (fun r12 p12 => ?_)
        subst p12
        refine lv_iadd hx hb dX5_allPrayed_15 ?_
        refine l_istore_n hx hb 1 dX5_allPrayed_16 rfl hl rfl (fun ls hl => ?_)
        refine l_inc1 hx hb 2 dX5_allPrayed_17 hl rfl rfl (fun ls hl => ?_)
        refine lv_goto (tgt := 4) hx hb dX5_allPrayed_20 rfl ?_
        exact ih (k + 1) _ (by omega) (by omega) (by rw [sumP, hv]) ls hl
  exact loop 6 0 _ (by omega) (by omega) rfl ls hl
theorem cv_X5_212 : CV RX5 RX5 212 yX5_go cX5_go 3 (none) 1 := ⟨lw_V q1583 q1585 qs64 q88 q1586, by decide +kernel⟩
theorem cv_X5_216 : CV RX5 RX5 216 yX5_allPrayed cX5_allPrayed 3 (some .int) 0 := ⟨lw_V q1599 q1601 qs68 q88 q1602, by decide +kernel⟩
theorem met_hours {l : Launch} {D : va_G} {cA : Nat → ClassId} {b : Nat} {σ : Nat → Nat → Int32} {x : Int32} {T : Tta} (hT : RT σ T) (hI : Inv (T 0)) : MI l D cA b yX5_hours cX5_hours 2 (some .int) (7) [.ref b, .int x] σ (fun r τ => r = (op_hours x T).1 ∧ RT τ (op_hours x T).2) := by
  refine Ci.of rfl (by decide +kernel) (Nat.le_of_ble_eq_true rfl) ?_
  intro p e s m args below meth c Q hC hK hP hret ls hl
  have hx := hC.1
  have hb := hC.2.1
  have hown := hC.2.2.2.1
  have hts := hC.2.2.2.2
  have hS : va_S (mA b) s.heap s.heap [] := va_S.rf
  obtain ⟨eH, hH⟩ := inv_hr hI
  refine lv_iload_n hx hb dX5_hours_0 rfl (hl.at rfl) ?_
  refine lv_iconst (v := nI 1) hx hb dX5_hours_1 rfl ?_
  refine lv_sipush (v := nI 240) hx hb dX5_hours_2 rfl ?_
  refine m_sS hC (met_in ) cs_X5_56 rfl rfl hl.1 (Nat.le_of_ble_eq_true rfl) dX5_hours_5 (by decide) (by decide) (fun r5 p5 => ?_)
  rcases p5 with ⟨rfl, p5⟩ | ⟨rfl, p5⟩
  · obtain ⟨k, hk1, hk, rfl⟩ := in_nI1 p5
    refine l_ifne_1 hx hb 17 dX5_hours_8 rfl ?_
    refine lv_aload_n hx hb dX5_hours_17 rfl (hl.at rfl) ?_
    refine mg_s hC hK hP dX5_hours_18 ?_
    refine lv_iconst (v := nI 1) hx hb dX5_hours_21 rfl ?_
    refine m_ld 0 _ (by decide) hC hK hP (rfl) (show _ < 449 by omega) dX5_hours_22 ?_
    refine l_top _ ((hT.1.at 0 1 (n := 1) (by decide) rfl).trans eH) ?_
    refine lv_iload_n hx hb dX5_hours_23 rfl (hl.at rfl) ?_
    refine l_addN hx hb dX5_hours_24 ?_
    refine lv_sipush (v := nI 9999) hx hb dX5_hours_25 rfl ?_
    refine l_leN hx hb 37 dX5_hours_28 rfl (by omega) (by omega) (fun c28 => ?_) (fun c28 => ?_)
    · refine lv_aload_n hx hb dX5_hours_37 rfl (hl.at rfl) ?_
      refine lv_iload_n hx hb dX5_hours_38 rfl (hl.at rfl) ?_
      refine m_vV hC hK hP hS (met_go (S := T 0) hT.1 hI rfl (by omega)) cv_X5_212 rfl rfl hl.1 (Nat.le_of_ble_eq_true rfl) dX5_hours_39 (by decide) (by decide) (fun σ39 H locs p39 hP hS => ?_)
      refine lv_aload_n hx hb dX5_hours_42 rfl (hl.at rfl) ?_
      refine m_pV hC hK hP (met_allPrayed (S := hrN (T 0) k) p39.1) cv_X5_216 rfl rfl hl.1 (Nat.le_of_ble_eq_true rfl) dX5_hours_43 (by decide) (by decide) (fun r43 p43 => ?_)
      refine hret _ _ ls _ _ _ hP hS dX5_hours_46 ?_
      first | (rw [op_hours, if_pos p5, cn_nI (by omega), if_pos c28]; exact ⟨p43, hT.S p39.1 (p39.2.mono (by decide))⟩) | (rw [op_hours, if_pos p5, cn_nI (by omega), if_neg (by omega)]; exact p33) | (rw [op_hours, if_neg p5]; exact p13)
    · refine lv_aload_n hx hb dX5_hours_31 rfl (hl.at rfl) ?_
      refine lv_iconst (v := nI 3) hx hb dX5_hours_32 rfl ?_
      refine m_iV hC hK hP hS (met_error hT rfl (by decide)) cv_X5_76 rfl rfl hl.1 (Nat.le_of_ble_eq_true rfl) dX5_hours_33 (by decide) (by decide) (fun r33 σ33 H locs p33 hP hS => ?_)
      refine hret _ _ ls _ _ _ hP hS dX5_hours_36 ?_
      first | (rw [op_hours, if_pos p5, cn_nI (by omega), if_pos c28]; exact ⟨p43, hT.S p39.1 (p39.2.mono (by decide))⟩) | (rw [op_hours, if_pos p5, cn_nI (by omega), if_neg (by omega)]; exact p33) | (rw [op_hours, if_neg p5]; exact p13)
  · refine l_ifne_0 hx hb 17 dX5_hours_8 rfl ?_
    refine lv_aload_n hx hb dX5_hours_11 rfl (hl.at rfl) ?_
    refine lv_iconst (v := nI 1) hx hb dX5_hours_12 rfl ?_
    refine m_iV hC hK hP hS (met_error hT rfl (by decide)) cv_X5_76 rfl rfl hl.1 (Nat.le_of_ble_eq_true rfl) dX5_hours_13 (by decide) (by decide) (fun r13 σ13 H locs p13 hP hS => ?_)
    refine hret _ _ ls _ _ _ hP hS dX5_hours_16 ?_
    first | (rw [op_hours, if_pos p5, cn_nI (by omega), if_pos c28]; exact ⟨p43, hT.S p39.1 (p39.2.mono (by decide))⟩) | (rw [op_hours, if_pos p5, cn_nI (by omega), if_neg (by omega)]; exact p33) | (rw [op_hours, if_neg p5]; exact p13)
theorem cv_X5_109 : CV RX5 RX5 109 yX5_shows cX5_shows 3 (some .int) 2 := ⟨lw_V q1499 q1501 qs52 q88 q1502, by decide +kernel⟩
theorem met_toldWheel {l : Launch} {D : va_G} {cA : Nat → ClassId} {b : Nat} {σ : Nat → Nat → Int32} {S : Sta} {x q : Int32} {w k : Nat} (hR : RM (σ 0) S) (hI : Inv S) (hx1 : x = nI w) (hw : w < wh S) (hy1 : q = nI k) (hk : k ≤ 9) : MI l D cA b yX5_toldWheel cX5_toldWheel 3 (some .int) (5) [.ref b, .int x, .int q] σ (fun r τ => r = sp_tw S w q ∧ Kp [5, 6, 7, 8, 20, 21] σ τ) := by
  refine Ci.of rfl (by decide +kernel) (Nat.le_of_ble_eq_true rfl) ?_
  intro p e s m args below meth c Q hC hK hP hret ls hl
  have hx := hC.1
  have hb := hC.2.1
  have hown := hC.2.2.2.1
  have hts := hC.2.2.2.2
  have hS : va_S (mA b) s.heap s.heap [] := va_S.rf
  subst hx1; subst hy1
  obtain ⟨eN, hN⟩ := inv_wh hI
  refine lv_iload_n hx hb dX5_toldWheel_0 rfl (hl.at rfl) ?_
  refine lv_bipush (v := nI 7) hx hb dX5_toldWheel_1 rfl ?_
  refine l_geN hx hb 13 dX5_toldWheel_3 rfl (by omega) (by omega) (fun c3 => ?_) (fun c3 => ?_)
  · refine lv_aload_n hx hb dX5_toldWheel_13 rfl (hl.at rfl) ?_
    refine m_vV hC hK hP hS (met_flow (S := S) hR hI) cv_X5_103 rfl rfl hl.1 (Nat.le_of_ble_eq_true rfl) dX5_toldWheel_14 (by decide) (by decide) (fun σ14 H locs p14 hP hS => ?_)
    refine lv_iload_n hx hb dX5_toldWheel_17 rfl (hl.at rfl) ?_
    refine lv_bipush (v := nI 7) hx hb dX5_toldWheel_18 rfl ?_
    refine l_neN hx hb 32 dX5_toldWheel_20 rfl (by omega) (by omega) (fun c20 => ?_) (fun c20 => ?_)
    · refine lv_iload_n hx hb dX5_toldWheel_32 rfl (hl.at rfl) ?_
      refine lv_bipush (v := nI 8) hx hb dX5_toldWheel_33 rfl ?_
      refine l_neN hx hb 52 dX5_toldWheel_35 rfl (by omega) (by omega) (fun c35 => ?_) (fun c35 => ?_)
      · refine lv_aload_n hx hb dX5_toldWheel_52 rfl (hl.at rfl) ?_
        refine lv_iload_n hx hb dX5_toldWheel_53 rfl (hl.at rfl) ?_
        refine lv_aload_n hx hb dX5_toldWheel_54 rfl (hl.at rfl) ?_
        refine mg_took hC hK hP dX5_toldWheel_55 ?_
        refine lv_iload_n hx hb dX5_toldWheel_58 rfl (hl.at rfl) ?_
        refine m_ld 8 _ (by decide) hC hK hP (rfl) (show _ < 9 by omega) dX5_toldWheel_59 ?_
        refine l_top _ (p14.2.2.2.1 w hw) ?_
        refine m_iV hC hK hP hS (met_shows (S := S) (w := w) (by rw [p14.1 0 (by decide)]; exact hR) hI rfl (by omega)) cv_X5_109 rfl rfl hl.1 (Nat.le_of_ble_eq_true rfl) dX5_toldWheel_60 (by decide) (by decide) (fun r60 σ60 H locs p60 hP hS => ?_)
        refine hret _ _ ls _ _ _ hP hS dX5_toldWheel_63 ?_
        first | (exact ⟨by rw [sp_tw, if_neg (nI_ge c3 (by omega)), cn_nI (by omega)]; exact p9, Kp.rf⟩) | (exact ⟨by rw [sp_tw, if_pos (nI_le c3 (by omega)), if_pos (by rw [c20])]; exact p14.2.2.2.1 w hw, p14.1⟩) | (exact ⟨by rw [sp_tw, if_pos (nI_le c3 (by omega)), if_neg (fun z => c20 ((nI_eq (by omega) (by omega)).mp z)), if_pos (by rw [c35])]; exact p46.1, p14.1.tr (p46.2.mono (by decide))⟩) | (exact ⟨by rw [sp_tw, if_pos (nI_le c3 (by omega)), if_neg (fun z => c20 ((nI_eq (by omega) (by omega)).mp z)), if_neg (fun z => c35 ((nI_eq (by omega) (by omega)).mp z))]; exact p60.1, p14.1.tr (p60.2.mono (by decide))⟩)
      · refine lv_aload_n hx hb dX5_toldWheel_38 rfl (hl.at rfl) ?_
        refine lv_iload_n hx hb dX5_toldWheel_39 rfl (hl.at rfl) ?_
        refine lv_aload_n hx hb dX5_toldWheel_40 rfl (hl.at rfl) ?_
        refine mg_took hC hK hP dX5_toldWheel_41 ?_
        refine lv_iload_n hx hb dX5_toldWheel_44 rfl (hl.at rfl) ?_
        refine m_ld 8 _ (by decide) hC hK hP (rfl) (show _ < 9 by omega) dX5_toldWheel_45 ?_
        refine l_top _ (p14.2.2.2.1 w hw) ?_
        refine m_iV hC hK hP hS (met_turns (S := S) (w := w) (by rw [p14.1 0 (by decide)]; exact hR) hI rfl (by omega)) cv_X5_106 rfl rfl hl.1 (Nat.le_of_ble_eq_true rfl) dX5_toldWheel_46 (by decide) (by decide) (fun r46 σ46 H locs p46 hP hS => ?_)
        refine lv_goto (tgt := 63) hx hb dX5_toldWheel_49 rfl ?_
        refine hret _ _ ls _ _ _ hP hS dX5_toldWheel_63 ?_
        first | (exact ⟨by rw [sp_tw, if_neg (nI_ge c3 (by omega)), cn_nI (by omega)]; exact p9, Kp.rf⟩) | (exact ⟨by rw [sp_tw, if_pos (nI_le c3 (by omega)), if_pos (by rw [c20])]; exact p14.2.2.2.1 w hw, p14.1⟩) | (exact ⟨by rw [sp_tw, if_pos (nI_le c3 (by omega)), if_neg (fun z => c20 ((nI_eq (by omega) (by omega)).mp z)), if_pos (by rw [c35])]; exact p46.1, p14.1.tr (p46.2.mono (by decide))⟩) | (exact ⟨by rw [sp_tw, if_pos (nI_le c3 (by omega)), if_neg (fun z => c20 ((nI_eq (by omega) (by omega)).mp z)), if_neg (fun z => c35 ((nI_eq (by omega) (by omega)).mp z))]; exact p60.1, p14.1.tr (p60.2.mono (by decide))⟩)
    · refine lv_aload_n hx hb dX5_toldWheel_23 rfl (hl.at rfl) ?_
      refine mg_took hC hK hP dX5_toldWheel_24 ?_
      refine lv_iload_n hx hb dX5_toldWheel_27 rfl (hl.at rfl) ?_
      refine m_ld 8 _ (by decide) hC hK hP (rfl) (show _ < 9 by omega) dX5_toldWheel_28 ?_
      refine lv_goto (tgt := 63) hx hb dX5_toldWheel_29 rfl ?_
      refine hret _ _ ls _ _ _ hP hS dX5_toldWheel_63 ?_
      first | (exact ⟨by rw [sp_tw, if_neg (nI_ge c3 (by omega)), cn_nI (by omega)]; exact p9, Kp.rf⟩) | (exact ⟨by rw [sp_tw, if_pos (nI_le c3 (by omega)), if_pos (by rw [c20])]; exact p14.2.2.2.1 w hw, p14.1⟩) | (exact ⟨by rw [sp_tw, if_pos (nI_le c3 (by omega)), if_neg (fun z => c20 ((nI_eq (by omega) (by omega)).mp z)), if_pos (by rw [c35])]; exact p46.1, p14.1.tr (p46.2.mono (by decide))⟩) | (exact ⟨by rw [sp_tw, if_pos (nI_le c3 (by omega)), if_neg (fun z => c20 ((nI_eq (by omega) (by omega)).mp z)), if_neg (fun z => c35 ((nI_eq (by omega) (by omega)).mp z))]; exact p60.1, p14.1.tr (p60.2.mono (by decide))⟩)
  · refine lv_aload_n hx hb dX5_toldWheel_6 rfl (hl.at rfl) ?_
    refine lv_iload_n hx hb dX5_toldWheel_7 rfl (hl.at rfl) ?_
    refine lv_iload_n hx hb dX5_toldWheel_8 rfl (hl.at rfl) ?_
    refine m_pV hC hK hP (met_its (S := S) (w := w) (q := k) hR rfl rfl (by omega) (by omega)) cv_X5_90 rfl rfl hl.1 (Nat.le_of_ble_eq_true rfl) dX5_toldWheel_9 (by decide) (by decide) (fun r9 p9 => ?_)
    refine hret _ _ ls _ _ _ hP hS dX5_toldWheel_12 ?_
    first | (exact ⟨by rw [sp_tw, if_neg (nI_ge c3 (by omega)), cn_nI (by omega)]; exact p9, Kp.rf⟩) | (exact ⟨by rw [sp_tw, if_pos (nI_le c3 (by omega)), if_pos (by rw [c20])]; exact p14.2.2.2.1 w hw, p14.1⟩) | (exact ⟨by rw [sp_tw, if_pos (nI_le c3 (by omega)), if_neg (fun z => c20 ((nI_eq (by omega) (by omega)).mp z)), if_pos (by rw [c35])]; exact p46.1, p14.1.tr (p46.2.mono (by decide))⟩) | (exact ⟨by rw [sp_tw, if_pos (nI_le c3 (by omega)), if_neg (fun z => c20 ((nI_eq (by omega) (by omega)).mp z)), if_neg (fun z => c35 ((nI_eq (by omega) (by omega)).mp z))]; exact p60.1, p14.1.tr (p60.2.mono (by decide))⟩)
theorem cv_X5_115 : CV RX5 RX5 115 yX5_toldWheel cX5_toldWheel 3 (some .int) 2 := ⟨lw_V q1457 q1459 qs43 q88 q1460, by decide +kernel⟩
theorem met_wheelIs {l : Launch} {D : va_G} {cA : Nat → ClassId} {b : Nat} {σ : Nat → Nat → Int32} {x v : Int32} {T : Tta} (hT : RT σ T) (hI : Inv (T 0)) : MI l D cA b yX5_wheelIs cX5_wheelIs 3 (some .int) (6) [.ref b, .int x, .int v] σ (fun r τ => r = (op_wheelIs x v T).1 ∧ RT τ (op_wheelIs x v T).2) := by
  refine Ci.of rfl (by decide +kernel) (Nat.le_of_ble_eq_true rfl) ?_
  intro p e s m args below meth c Q hC hK hP hret ls hl
  have hx := hC.1
  have hb := hC.2.1
  have hown := hC.2.2.2.1
  have hts := hC.2.2.2.2
  have hS : va_S (mA b) s.heap s.heap [] := va_S.rf
  obtain ⟨eN, hN⟩ := inv_wh hI
  refine lv_aload_n hx hb dX5_wheelIs_0 rfl (hl.at rfl) ?_
  refine lv_iload_n hx hb dX5_wheelIs_1 rfl (hl.at rfl) ?_
  refine m_pV hC hK hP (met_isWheel (S := T 0) hT.1) cv_X5_112 rfl rfl hl.1 (Nat.le_of_ble_eq_true rfl) dX5_wheelIs_2 (by decide) (by decide) (fun r2 p2 => ?_)
  rcases p2 with ⟨rfl, p2⟩ | ⟨rfl, p2⟩
  · obtain ⟨w, hw, rfl⟩ := isWh_of hI p2
    refine l_ifeq_1 hx hb 27 dX5_wheelIs_5 rfl ?_
    refine lv_iload_n hx hb dX5_wheelIs_8 rfl (hl.at rfl) ?_
    refine lv_iconst (v := nI 0) hx hb dX5_wheelIs_9 rfl ?_
    refine lv_bipush (v := nI 9) hx hb dX5_wheelIs_10 rfl ?_
    refine m_sS hC (met_in ) cs_X5_56 rfl rfl hl.1 (Nat.le_of_ble_eq_true rfl) dX5_wheelIs_12 (by decide) (by decide) (fun r12 p12 => ?_)
    rcases p12 with ⟨rfl, p12⟩ | ⟨rfl, p12⟩
    · obtain ⟨k, hk, rfl⟩ := in_nI p12
      refine l_ifeq_1 hx hb 27 dX5_wheelIs_15 rfl ?_
      refine lv_aload_n hx hb dX5_wheelIs_18 rfl (hl.at rfl) ?_
      refine lv_iload_n hx hb dX5_wheelIs_19 rfl (hl.at rfl) ?_
      refine lv_iload_n hx hb dX5_wheelIs_20 rfl (hl.at rfl) ?_
      refine m_iV hC hK hP hS (met_toldWheel (S := T 0) (w := w) (k := k) hT.1 hI rfl hw rfl (by omega)) cv_X5_115 rfl rfl hl.1 (Nat.le_of_ble_eq_true rfl) dX5_wheelIs_21 (by decide) (by decide) (fun r21 σ21 H locs p21 hP hS => ?_)
      refine lv_goto (tgt := 32) hx hb dX5_wheelIs_24 rfl ?_
      refine hret _ _ ls _ _ _ hP hS dX5_wheelIs_32 ?_
      first | (rw [op_wheelIs, if_pos p2, if_pos p12, cn_nI (by omega)]; exact ⟨p21.1, hT.same (p21.2.mono (by decide))⟩) | (rw [op_wheelIs, if_neg p2]; exact p29) | (rw [op_wheelIs, if_pos p2, if_neg p12]; exact p29)
    · refine l_ifeq_0 hx hb 27 dX5_wheelIs_15 rfl ?_
      refine lv_aload_n hx hb dX5_wheelIs_27 rfl (hl.at rfl) ?_
      refine lv_iconst (v := nI 1) hx hb dX5_wheelIs_28 rfl ?_
      refine m_iV hC hK hP hS (met_error hT rfl (by decide)) cv_X5_76 rfl rfl hl.1 (Nat.le_of_ble_eq_true rfl) dX5_wheelIs_29 (by decide) (by decide) (fun r29 σ29 H locs p29 hP hS => ?_)
      refine hret _ _ ls _ _ _ hP hS dX5_wheelIs_32 ?_
      first | (rw [op_wheelIs, if_pos p2, if_pos p12, cn_nI (by omega)]; exact ⟨p21.1, hT.same (p21.2.mono (by decide))⟩) | (rw [op_wheelIs, if_neg p2]; exact p29) | (rw [op_wheelIs, if_pos p2, if_neg p12]; exact p29)
  · refine l_ifeq_0 hx hb 27 dX5_wheelIs_5 rfl ?_
    refine lv_aload_n hx hb dX5_wheelIs_27 rfl (hl.at rfl) ?_
    refine lv_iconst (v := nI 1) hx hb dX5_wheelIs_28 rfl ?_
    refine m_iV hC hK hP hS (met_error hT rfl (by decide)) cv_X5_76 rfl rfl hl.1 (Nat.le_of_ble_eq_true rfl) dX5_wheelIs_29 (by decide) (by decide) (fun r29 σ29 H locs p29 hP hS => ?_)
    refine hret _ _ ls _ _ _ hP hS dX5_wheelIs_32 ?_
    first | (rw [op_wheelIs, if_pos p2, if_pos p12, cn_nI (by omega)]; exact ⟨p21.1, hT.same (p21.2.mono (by decide))⟩) | (rw [op_wheelIs, if_neg p2]; exact p29) | (rw [op_wheelIs, if_pos p2, if_neg p12]; exact p29)
theorem met_flows {l : Launch} {D : va_G} {cA : Nat → ClassId} {b : Nat} {σ : Nat → Nat → Int32} {x : Int32} {T : Tta} (hT : RT σ T) (hI : Inv (T 0)) : MI l D cA b yX5_flows cX5_flows 2 (some .int) (5) [.ref b, .int x] σ (fun r τ => r = (op_flows x T).1 ∧ RT τ (op_flows x T).2) := by
  refine Ci.of rfl (by decide +kernel) (Nat.le_of_ble_eq_true rfl) ?_
  intro p e s m args below meth c Q hC hK hP hret ls hl
  have hx := hC.1
  have hb := hC.2.1
  have hown := hC.2.2.2.1
  have hts := hC.2.2.2.2
  have hS : va_S (mA b) s.heap s.heap [] := va_S.rf
  refine lv_iload_n hx hb dX5_flows_0 rfl (hl.at rfl) ?_
  refine m_sS hC (met_isPlace ) cs_X5_79 rfl rfl hl.1 (Nat.le_of_ble_eq_true rfl) dX5_flows_1 (by decide) (by decide) (fun r1 p1 => ?_)
  rcases p1 with ⟨rfl, p1⟩ | ⟨rfl, p1⟩
  · obtain ⟨k, hk, rfl⟩ := in_nI p1
    refine l_ifne_1 hx hb 13 dX5_flows_4 rfl ?_
    refine lv_aload_n hx hb dX5_flows_13 rfl (hl.at rfl) ?_
    refine m_vV hC hK hP hS (met_flow (S := T 0) hT.1 hI) cv_X5_103 rfl rfl hl.1 (Nat.le_of_ble_eq_true rfl) dX5_flows_14 (by decide) (by decide) (fun σ14 H locs p14 hP hS => ?_)
    refine lv_aload_n hx hb dX5_flows_17 rfl (hl.at rfl) ?_
    refine mg_flowing hC hK hP dX5_flows_18 ?_
    refine lv_iload_n hx hb dX5_flows_21 rfl (hl.at rfl) ?_
    refine m_ld 7 _ (by decide) hC hK hP (rfl) (show _ < 13 by omega) dX5_flows_22 ?_
    refine hret _ _ ls _ _ _ hP hS dX5_flows_23 ?_
    first | (rw [op_flows, if_pos p1, cn_nI (by omega)]; exact ⟨p14.2.2.2.2.1 k (by omega), hT.same (p14.1.mono (by decide))⟩) | (rw [op_flows, if_neg p1]; exact p9)
  · refine l_ifne_0 hx hb 13 dX5_flows_4 rfl ?_
    refine lv_aload_n hx hb dX5_flows_7 rfl (hl.at rfl) ?_
    refine lv_iconst (v := nI 1) hx hb dX5_flows_8 rfl ?_
    refine m_iV hC hK hP hS (met_error hT rfl (by decide)) cv_X5_76 rfl rfl hl.1 (Nat.le_of_ble_eq_true rfl) dX5_flows_9 (by decide) (by decide) (fun r9 σ9 H locs p9 hP hS => ?_)
    refine hret _ _ ls _ _ _ hP hS dX5_flows_12 ?_
    first | (rw [op_flows, if_pos p1, cn_nI (by omega)]; exact ⟨p14.2.2.2.2.1 k (by omega), hT.same (p14.1.mono (by decide))⟩) | (rw [op_flows, if_neg p1]; exact p9)
theorem met_draw {l : Launch} {D : va_G} {cA : Nat → ClassId} {b : Nat} {σ : Nat → Nat → Int32} {S : Sta} (hR : RM (σ 0) S) : MI l D cA b yX5_draw cX5_draw 1 (some .int) (0) [.ref b] σ (fun r τ => r = sp_dr (sp_dz S) ∧ RM (τ 0) (up2 S 0 5 (sp_dz S)) ∧ Kp [0] σ τ) := by
  refine Ci.of rfl (by decide +kernel) (Nat.le_of_ble_eq_true rfl) ?_
  intro p e s m args below meth c Q hC hK hP hret ls hl
  have hx := hC.1
  have hb := hC.2.1
  have hown := hC.2.2.2.1
  have hts := hC.2.2.2.2
  have hS : va_S (mA b) s.heap s.heap [] := va_S.rf
  refine lv_aload_n hx hb dX5_draw_0 rfl (hl.at rfl) ?_
  refine mg_s hC hK hP dX5_draw_1 ?_
  refine lv_iconst (v := nI 5) hx hb dX5_draw_4 rfl ?_
  refine lv_aload_n hx hb dX5_draw_5 rfl (hl.at rfl) ?_
  refine mg_s hC hK hP dX5_draw_6 ?_
  refine lv_iconst (v := nI 5) hx hb dX5_draw_9 rfl ?_
  refine m_ld 0 _ (by decide) hC hK hP (rfl) (show _ < 449 by omega) dX5_draw_10 ?_
  refine l_top _ (hR.at 0 5 (n := 5) (by decide) rfl) ?_
  refine lv_ldc (v := 1103515245) hx hb hown (hts _ q1611) dX5_draw_11 ?_
  refine lv_imul hx hb dX5_draw_13 ?_
  refine lv_sipush (v := nI 12345) hx hb dX5_draw_14 rfl ?_
  refine lv_iadd hx hb dX5_draw_17 ?_
  refine m_st 0 _ (by decide) hC hK hP hS (rfl) (show _ < 449 by omega) dX5_draw_18 (fun H locs hP hS => ?_)
  refine lv_aload_n hx hb dX5_draw_19 rfl (hl.at rfl) ?_
  refine mg_s hC hK hP dX5_draw_20 ?_
  refine lv_iconst (v := nI 5) hx hb dX5_draw_23 rfl ?_
  refine m_ld 0 _ (by decide) hC hK hP (rfl) (show _ < 449 by omega) dX5_draw_24 ?_
  refine lv_bipush (v := nI 8) hx hb dX5_draw_25 rfl ?_
  refine lv_iushr hx hb dX5_draw_27 rfl ?_
  refine hret _ _ ls _ _ _ hP hS dX5_draw_28 ?_
  refine ⟨by rw [up1_s, pk_us]; rfl, by rw [up1_s]; exact hR.set (i := 0) (j := 5) (by decide) rfl, Kp.rf.up (by decide)⟩
