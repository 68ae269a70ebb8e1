theorem cv_X5_173 : CV RX5 RX5 173 yX5_hasText cX5_hasText 2 (some .boolean) 1 := ⟨lw_V q1477 q1479 qs48 q88 q1480, by decide +kernel⟩
theorem cv_X5_179 : CV RX5 RX5 179 yX5_hourOfDay cX5_hourOfDay 1 (some .int) 0 := ⟨lw_V q1465 q1467 qs45 q88 q1468, by decide +kernel⟩
theorem cv_X5_182 : CV RX5 RX5 182 yX5_worked cX5_worked 7 (some .int) 1 := ⟨lw_V q1481 q1483 qs49 q88 q1484, by decide +kernel⟩
theorem met_takesTold {l : Launch} {D : va_G} {cA : Nat → ClassId} {b : Nat} {σ : Nat → Nat → Int32} {S : Sta} {x f : Int32} {w : Nat} (hR : RM (σ 0) S) (hI : Inv S) (hx1 : x = nI w) (hw : w < 8) : MI l D cA b yX5_takesTold cX5_takesTold 3 (some .int) (2) [.ref b, .int x, .int f] σ (fun r τ => r = sp_tt S w f ∧ Kp [5, 6] σ τ) := by
  refine Ci.of rfl (by decide +kernel) (Nat.le_of_ble_eq_true rfl) ?_
  intro p e s m args below meth c Q hC hK hP hret ls hl
  have hx := hC.1
  have hb := hC.2.1
  have hown := hC.2.2.2.1
  have hts := hC.2.2.2.2
  have hS : va_S (mA b) s.heap s.heap [] := va_S.rf
  subst hx1
  refine lv_aload_n hx hb dX5_takesTold_0 rfl (hl.at rfl) ?_
  refine lv_iconst (v := nI 0) hx hb dX5_takesTold_1 rfl ?_
  refine m_pV hC hK hP (met_hasText (S := S) (u := 0) hR rfl (by decide)) cv_X5_173 rfl rfl hl.1 (Nat.le_of_ble_eq_true rfl) dX5_takesTold_2 (by decide) (by decide) (fun r2 p2 => ?_)
  rcases p2 with ⟨rfl, p2⟩ | ⟨rfl, p2⟩
  · refine l_ifne_1 hx hb 12 dX5_takesTold_5 rfl ?_
    refine lv_aload_n hx hb dX5_takesTold_12 rfl (hl.at rfl) ?_
    refine mg_named hC hK hP dX5_takesTold_13 ?_
    refine lv_bipush (v := nI 102) hx hb dX5_takesTold_16 rfl ?_
    refine lv_iload_n hx hb dX5_takesTold_18 rfl (hl.at rfl) ?_
    refine m_st 5 _ (by decide) hC hK hP hS (rfl) (show _ < 128 by omega) dX5_takesTold_19 (fun H locs hP hS => ?_)
    refine lv_aload_n hx hb dX5_takesTold_20 rfl (hl.at rfl) ?_
    refine mg_named hC hK hP dX5_takesTold_21 ?_
    refine lv_bipush (v := nI 112) hx hb dX5_takesTold_24 rfl ?_
    refine lv_aload_n hx hb dX5_takesTold_26 rfl (hl.at rfl) ?_
    refine lv_iload_n hx hb dX5_takesTold_27 rfl (hl.at rfl) ?_
    refine lv_iconst (v := nI 2) hx hb dX5_takesTold_28 rfl ?_
    refine m_pV hC hK hP (met_its (S := S) (w := w) (q := 2) hR rfl rfl (by omega) (by decide)) cv_X5_90 rfl rfl hl.1 (Nat.le_of_ble_eq_true rfl) dX5_takesTold_29 (by decide) (by decide) (fun r29 p29 => ?_)
    obtain rfl : r29 = S 7 w := p29
    refine m_st 5 _ (by decide) hC hK hP hS (rfl) (show _ < 128 by omega) dX5_takesTold_32 (fun H locs hP hS => ?_)
    refine lv_aload_n hx hb dX5_takesTold_33 rfl (hl.at rfl) ?_
    refine mg_named hC hK hP dX5_takesTold_34 ?_
    refine lv_bipush (v := nI 104) hx hb dX5_takesTold_37 rfl ?_
    refine lv_aload_n hx hb dX5_takesTold_39 rfl (hl.at rfl) ?_
    refine m_pV hC hK hP (met_hourOfDay (S := S) hR) cv_X5_179 rfl rfl hl.1 (Nat.le_of_ble_eq_true rfl) dX5_takesTold_40 (by decide) (by decide) (fun r40 p40 => ?_)
    refine m_st 5 _ (by decide) hC hK hP hS (rfl) (show _ < 128 by omega) dX5_takesTold_43 (fun H locs hP hS => ?_)
    refine lv_aload_n hx hb dX5_takesTold_44 rfl (hl.at rfl) ?_
    refine mg_named hC hK hP dX5_takesTold_45 ?_
    refine lv_bipush (v := nI 109) hx hb dX5_takesTold_48 rfl ?_
    refine lv_aload_n hx hb dX5_takesTold_50 rfl (hl.at rfl) ?_
    refine lv_iload_n hx hb dX5_takesTold_51 rfl (hl.at rfl) ?_
    refine lv_iconst (v := nI 1) hx hb dX5_takesTold_52 rfl ?_
    refine m_pV hC hK hP (met_its (S := S) (w := w) (q := 1) hR rfl rfl (by omega) (by decide)) cv_X5_90 rfl rfl hl.1 (Nat.le_of_ble_eq_true rfl) dX5_takesTold_53 (by decide) (by decide) (fun r53 p53 => ?_)
    obtain rfl : r53 = S 6 w := p53
    refine m_st 5 _ (by decide) hC hK hP hS (rfl) (show _ < 128 by omega) dX5_takesTold_56 (fun H locs hP hS => ?_)
    refine lv_aload_n hx hb dX5_takesTold_57 rfl (hl.at rfl) ?_
    refine lv_iconst (v := nI 0) hx hb dX5_takesTold_58 rfl ?_
    refine m_iV hC hK hP hS (met_worked (S := S) (u := 0) (nm0 S w f) hR hI.2.2.2.2.2.2.1 p2 (fun c hc => by rcases hc with h | ⟨_, h | h | h⟩ | ⟨h, _⟩ <;> first | (subst h; simp [up1, upd, nm0, p40]; done) | (exact absurd h (by decide))) rfl (by decide)) cv_X5_182 rfl rfl hl.1 (Nat.le_of_ble_eq_true rfl) dX5_takesTold_59 (by decide) (by decide) (fun r59 σ59 H locs p59 hP hS => ?_)
    refine hret _ _ ls _ _ _ hP hS dX5_takesTold_62 ?_
    first | (exact ⟨by rw [sp_tt, if_neg p2], Kp.rf⟩) | (exact ⟨by rw [sp_tt, if_pos p2]; exact p59.1, ((((Kp.rf.up (by decide)).up (by decide)).up (by decide)).up (by decide)).tr (p59.2.mono (by decide))⟩)
  · refine l_ifne_0 hx hb 12 dX5_takesTold_5 rfl ?_
    refine lv_iload_n hx hb dX5_takesTold_8 rfl (hl.at rfl) ?_
    refine lv_iconst (v := nI 2) hx hb dX5_takesTold_9 rfl ?_
    refine lv_idiv hx hb dX5_takesTold_10 (nI_ne0 (by decide) (by decide)) ?_
    refine hret _ _ ls _ _ _ hP hS dX5_takesTold_11 ?_
    first | (exact ⟨by rw [sp_tt, if_neg p2], Kp.rf⟩) | (exact ⟨by rw [sp_tt, if_pos p2]; exact p59.1, ((((Kp.rf.up (by decide)).up (by decide)).up (by decide)).up (by decide)).tr (p59.2.mono (by decide))⟩)
theorem met_turnsTold {l : Launch} {D : va_G} {cA : Nat → ClassId} {b : Nat} {σ : Nat → Nat → Int32} {S : Sta} {x f : Int32} {w : Nat} (hR : RM (σ 0) S) (hI : Inv S) (hx1 : x = nI w) (hw : w < 8) : MI l D cA b yX5_turnsTold cX5_turnsTold 3 (some .int) (2) [.ref b, .int x, .int f] σ (fun r τ => r = sp_ut S w f ∧ Kp [5, 6] σ τ) := by
  refine Ci.of rfl (by decide +kernel) (Nat.le_of_ble_eq_true rfl) ?_
  intro p e s m args below meth c Q hC hK hP hret ls hl
  have hx := hC.1
  have hb := hC.2.1
  have hown := hC.2.2.2.1
  have hts := hC.2.2.2.2
  have hS : va_S (mA b) s.heap s.heap [] := va_S.rf
  subst hx1
  refine lv_aload_n hx hb dX5_turnsTold_0 rfl (hl.at rfl) ?_
  refine lv_iconst (v := nI 1) hx hb dX5_turnsTold_1 rfl ?_
  refine m_pV hC hK hP (met_hasText (S := S) (u := 1) hR rfl (by decide)) cv_X5_173 rfl rfl hl.1 (Nat.le_of_ble_eq_true rfl) dX5_turnsTold_2 (by decide) (by decide) (fun r2 p2 => ?_)
  rcases p2 with ⟨rfl, p2⟩ | ⟨rfl, p2⟩
  · refine l_ifne_1 hx hb 10 dX5_turnsTold_5 rfl ?_
    refine lv_aload_n hx hb dX5_turnsTold_10 rfl (hl.at rfl) ?_
    refine mg_named hC hK hP dX5_turnsTold_11 ?_
    refine lv_bipush (v := nI 116) hx hb dX5_turnsTold_14 rfl ?_
    refine lv_iload_n hx hb dX5_turnsTold_16 rfl (hl.at rfl) ?_
    refine m_st 5 _ (by decide) hC hK hP hS (rfl) (show _ < 128 by omega) dX5_turnsTold_17 (fun H locs hP hS => ?_)
    refine lv_aload_n hx hb dX5_turnsTold_18 rfl (hl.at rfl) ?_
    refine mg_named hC hK hP dX5_turnsTold_19 ?_
    refine lv_bipush (v := nI 99) hx hb dX5_turnsTold_22 rfl ?_
    refine lv_aload_n hx hb dX5_turnsTold_24 rfl (hl.at rfl) ?_
    refine lv_iload_n hx hb dX5_turnsTold_25 rfl (hl.at rfl) ?_
    refine lv_iconst (v := nI 5) hx hb dX5_turnsTold_26 rfl ?_
    refine m_pV hC hK hP (met_its (S := S) (w := w) (q := 5) hR rfl rfl (by omega) (by decide)) cv_X5_90 rfl rfl hl.1 (Nat.le_of_ble_eq_true rfl) dX5_turnsTold_27 (by decide) (by decide) (fun r27 p27 => ?_)
    obtain rfl : r27 = S 10 w := p27
    refine m_st 5 _ (by decide) hC hK hP hS (rfl) (show _ < 128 by omega) dX5_turnsTold_30 (fun H locs hP hS => ?_)
    refine lv_aload_n hx hb dX5_turnsTold_31 rfl (hl.at rfl) ?_
    refine mg_named hC hK hP dX5_turnsTold_32 ?_
    refine lv_bipush (v := nI 109) hx hb dX5_turnsTold_35 rfl ?_
    refine lv_aload_n hx hb dX5_turnsTold_37 rfl (hl.at rfl) ?_
    refine lv_iload_n hx hb dX5_turnsTold_38 rfl (hl.at rfl) ?_
    refine lv_iconst (v := nI 1) hx hb dX5_turnsTold_39 rfl ?_
    refine m_pV hC hK hP (met_its (S := S) (w := w) (q := 1) hR rfl rfl (by omega) (by decide)) cv_X5_90 rfl rfl hl.1 (Nat.le_of_ble_eq_true rfl) dX5_turnsTold_40 (by decide) (by decide) (fun r40 p40 => ?_)
    obtain rfl : r40 = S 6 w := p40
    refine m_st 5 _ (by decide) hC hK hP hS (rfl) (show _ < 128 by omega) dX5_turnsTold_43 (fun H locs hP hS => ?_)
    refine lv_aload_n hx hb dX5_turnsTold_44 rfl (hl.at rfl) ?_
    refine lv_iconst (v := nI 1) hx hb dX5_turnsTold_45 rfl ?_
    refine m_iV hC hK hP hS (met_worked (S := S) (u := 1) (nm1 S w f) hR hI.2.2.2.2.2.2.2.1 p2 (fun c hc => by rcases hc with h | ⟨h, _⟩ | ⟨_, h | h⟩ <;> first | (subst h; simp [up1, upd, nm1]; done) | (exact absurd h (by decide))) rfl (by decide)) cv_X5_182 rfl rfl hl.1 (Nat.le_of_ble_eq_true rfl) dX5_turnsTold_46 (by decide) (by decide) (fun r46 σ46 H locs p46 hP hS => ?_)
    refine hret _ _ ls _ _ _ hP hS dX5_turnsTold_49 ?_
    first | (exact ⟨by rw [sp_ut, if_neg p2], Kp.rf⟩) | (exact ⟨by rw [sp_ut, if_pos p2]; exact p46.1, (((Kp.rf.up (by decide)).up (by decide)).up (by decide)).tr (p46.2.mono (by decide))⟩)
  · refine l_ifne_0 hx hb 10 dX5_turnsTold_5 rfl ?_
    refine lv_iload_n hx hb dX5_turnsTold_8 rfl (hl.at rfl) ?_
    refine hret _ _ ls _ _ _ hP hS dX5_turnsTold_9 ?_
    first | (exact ⟨by rw [sp_ut, if_neg p2], Kp.rf⟩) | (exact ⟨by rw [sp_ut, if_pos p2]; exact p46.1, (((Kp.rf.up (by decide)).up (by decide)).up (by decide)).tr (p46.2.mono (by decide))⟩)
theorem cv_X5_185 : CV RX5 RX5 185 yX5_takesTold cX5_takesTold 3 (some .int) 2 := ⟨lw_V q1473 q1475 qs47 q88 q1476, by decide +kernel⟩
theorem met_wants {l : Launch} {D : va_G} {cA : Nat → ClassId} {b : Nat} {σ : Nat → Nat → Int32} {S : Sta} {x f : Int32} {w : Nat} (hR : RM (σ 0) S) (hI : Inv S) (hx1 : x = nI w) (hw : w < 8) : MI l D cA b yX5_wants cX5_wants 5 (some .int) (3) [.ref b, .int x, .int f] σ (fun r τ => r = sp_wants S w f ∧ Kp [5, 6] σ τ) := by
  refine Ci.of rfl (by decide +kernel) (Nat.le_of_ble_eq_true rfl) ?_
  intro p e s m args below meth c Q hC hK hP hret ls hl
  have hx := hC.1
  have hb := hC.2.1
  have hown := hC.2.2.2.1
  have hts := hC.2.2.2.2
  have hS : va_S (mA b) s.heap s.heap [] := va_S.rf
  subst hx1
  refine lv_aload_n hx hb dX5_wants_0 rfl (hl.at rfl) ?_
  refine lv_iload_n hx hb dX5_wants_1 rfl (hl.at rfl) ?_
  refine lv_iconst (v := nI 1) hx hb dX5_wants_2 rfl ?_
  refine m_pV hC hK hP (met_its (S := S) (w := w) (q := 1) hR rfl rfl (by omega) (by decide)) cv_X5_90 rfl rfl hl.1 (Nat.le_of_ble_eq_true rfl) dX5_wants_3 (by decide) (by decide) (fun r3 p3 => ?_)
  obtain rfl : r3 = S 6 w := p3
  refine l_istore_n hx hb 3 dX5_wants_6 rfl hl rfl (fun ls hl => ?_)
  refine lv_aload_n hx hb dX5_wants_7 rfl (hl.at rfl) ?_
  refine lv_iload_n hx hb dX5_wants_8 rfl (hl.at rfl) ?_
  refine lv_iconst (v := nI 4) hx hb dX5_wants_9 rfl ?_
  refine m_pV hC hK hP (met_its (S := S) (w := w) (q := 4) hR rfl rfl (by omega) (by decide)) cv_X5_90 rfl rfl hl.1 (Nat.le_of_ble_eq_true rfl) dX5_wants_10 (by decide) (by decide) (fun r10 p10 => ?_)
  obtain rfl : r10 = S 9 w := p10
  refine lv_if_eq (tgt := 26) hx hb dX5_wants_13 rfl (fun c13 => ?_) (fun c13 => ?_)
  · refine lv_iconst (v := nI 0) hx hb dX5_wants_26 rfl ?_
    refine hret _ _ ls _ _ _ hP hS dX5_wants_27 ?_
    first | (exact ⟨by rw [sp_wants, if_pos c13], Kp.rf⟩) | (exact ⟨by rw [sp_wants, if_neg c13, if_neg c23], Kp.rf⟩) | (exact ⟨by rw [sp_wants, if_neg c13, if_pos c23, p117, want0_6 ek, p105.1], p105.2⟩) | (exact ⟨by rw [sp_wants, if_neg c13, if_pos c23, p117, want0_0 ek], Kp.rf⟩) | (exact ⟨by rw [sp_wants, if_neg c13, if_pos c23, p117, want0_1 ek], Kp.rf⟩) | (exact ⟨by rw [sp_wants, if_neg c13, if_pos c23, p117, want0_2 ek], Kp.rf⟩) | (exact ⟨by rw [sp_wants, if_neg c13, if_pos c23, p117, want0_3 ek], Kp.rf⟩) | (exact ⟨by rw [sp_wants, if_neg c13, if_pos c23, p117, want0_4 ek], Kp.rf⟩) | (exact ⟨by rw [sp_wants, if_neg c13, if_pos c23, p117, want0_5 ek], Kp.rf⟩)
  · refine lv_iload_n hx hb dX5_wants_16 rfl (hl.at rfl) ?_
    refine lv_aload_n hx hb dX5_wants_17 rfl (hl.at rfl) ?_
    refine mg_s hC hK hP dX5_wants_18 ?_
    refine lv_iconst (v := nI 2) hx hb dX5_wants_21 rfl ?_
    refine m_ld 0 _ (by decide) hC hK hP (rfl) (show _ < 449 by omega) dX5_wants_22 ?_
    refine l_top _ (hR.at 0 2 (n := 2) (by decide) rfl) ?_
    refine lv_icmp_ge (tgt := 28) hx hb dX5_wants_23 rfl (fun c23 => ?_) (fun c23 => ?_)
    · refine lv_iload_n hx hb dX5_wants_28 rfl (hl.at rfl) ?_
      refine lv_iconst (v := nI 3) hx hb dX5_wants_29 rfl ?_
      refine lv_idiv hx hb dX5_wants_30 (nI_ne0 (by decide) (by decide)) ?_
      refine l_istore hx hb 4 dX5_wants_31 hl rfl (fun ls hl => ?_)
      refine lv_aload_n hx hb dX5_wants_33 rfl (hl.at rfl) ?_
      refine lv_iload_n hx hb dX5_wants_34 rfl (hl.at rfl) ?_
      refine lv_iconst (v := nI 0) hx hb dX5_wants_35 rfl ?_
      refine m_pV hC hK hP (met_its (S := S) (w := w) (q := 0) hR rfl rfl (by omega) (by decide)) cv_X5_90 rfl rfl hl.1 (Nat.le_of_ble_eq_true rfl) dX5_wants_36 (by decide) (by decide) (fun r36 p36 => ?_)
      obtain rfl : r36 = S 5 w := p36
      obtain ⟨kk, hkk, ek⟩ := inv_bd hI 5 w hw
      have hkk : kk ≤ 6 := hkk
      refine l_top _ ek ?_
      rcases (by omega : kk = 0 ∨ kk = 1 ∨ kk = 2 ∨ kk = 3 ∨ kk = 4 ∨ kk = 5 ∨ kk = 6) with rfl | rfl | rfl | rfl | rfl | rfl | rfl
      · refine lv_tableOut (tgt := 113) hx hb dX5_wants_39 (by decide) rfl ?_
        refine lv_iload hx hb dX5_wants_113 (hl.at rfl) ?_
        refine lv_iconst (v := nI 0) hx hb dX5_wants_115 rfl ?_
        refine lv_iload_n hx hb dX5_wants_116 rfl (hl.at rfl) ?_
        refine m_sS hC (met_held ) cs_X5_61 rfl rfl hl.1 (Nat.le_of_ble_eq_true rfl) dX5_wants_117 (by decide) (by decide) (fun r117 p117 => ?_)
        refine hret _ _ ls _ _ _ hP hS dX5_wants_120 ?_
        first | (exact ⟨by rw [sp_wants, if_pos c13], Kp.rf⟩) | (exact ⟨by rw [sp_wants, if_neg c13, if_neg c23], Kp.rf⟩) | (exact ⟨by rw [sp_wants, if_neg c13, if_pos c23, p117, want0_6 ek, p105.1], p105.2⟩) | (exact ⟨by rw [sp_wants, if_neg c13, if_pos c23, p117, want0_0 ek], Kp.rf⟩) | (exact ⟨by rw [sp_wants, if_neg c13, if_pos c23, p117, want0_1 ek], Kp.rf⟩) | (exact ⟨by rw [sp_wants, if_neg c13, if_pos c23, p117, want0_2 ek], Kp.rf⟩) | (exact ⟨by rw [sp_wants, if_neg c13, if_pos c23, p117, want0_3 ek], Kp.rf⟩) | (exact ⟨by rw [sp_wants, if_neg c13, if_pos c23, p117, want0_4 ek], Kp.rf⟩) | (exact ⟨by rw [sp_wants, if_neg c13, if_pos c23, p117, want0_5 ek], Kp.rf⟩)
      · refine lv_tableIn (tgt := 76) hx hb dX5_wants_39 (by decide) (by decide) rfl rfl ?_
        refine lv_iload_n hx hb dX5_wants_76 rfl (hl.at rfl) ?_
        refine lv_iconst (v := nI 3) hx hb dX5_wants_77 rfl ?_
        refine lv_idiv hx hb dX5_wants_78 (nI_ne0 (by decide) (by decide)) ?_
        refine lv_iload_n hx hb dX5_wants_79 rfl (hl.at rfl) ?_
        refine lv_iadd hx hb dX5_wants_80 ?_
        refine l_istore hx hb 4 dX5_wants_81 hl rfl (fun ls hl => ?_)
        refine lv_goto (tgt := 113) hx hb dX5_wants_83 rfl ?_
        refine lv_iload hx hb dX5_wants_113 (hl.at rfl) ?_
        refine lv_iconst (v := nI 0) hx hb dX5_wants_115 rfl ?_
        refine lv_iload_n hx hb dX5_wants_116 rfl (hl.at rfl) ?_
        refine m_sS hC (met_held ) cs_X5_61 rfl rfl hl.1 (Nat.le_of_ble_eq_true rfl) dX5_wants_117 (by decide) (by decide) (fun r117 p117 => ?_)
        refine hret _ _ ls _ _ _ hP hS dX5_wants_120 ?_
        first | (exact ⟨by rw [sp_wants, if_pos c13], Kp.rf⟩) | (exact ⟨by rw [sp_wants, if_neg c13, if_neg c23], Kp.rf⟩) | (exact ⟨by rw [sp_wants, if_neg c13, if_pos c23, p117, want0_6 ek, p105.1], p105.2⟩) | (exact ⟨by rw [sp_wants, if_neg c13, if_pos c23, p117, want0_0 ek], Kp.rf⟩) | (exact ⟨by rw [sp_wants, if_neg c13, if_pos c23, p117, want0_1 ek], Kp.rf⟩) | (exact ⟨by rw [sp_wants, if_neg c13, if_pos c23, p117, want0_2 ek], Kp.rf⟩) | (exact ⟨by rw [sp_wants, if_neg c13, if_pos c23, p117, want0_3 ek], Kp.rf⟩) | (exact ⟨by rw [sp_wants, if_neg c13, if_pos c23, p117, want0_4 ek], Kp.rf⟩) | (exact ⟨by rw [sp_wants, if_neg c13, if_pos c23, p117, want0_5 ek], Kp.rf⟩)
      · refine lv_tableIn (tgt := 86) hx hb dX5_wants_39 (by decide) (by decide) rfl rfl ?_
        refine lv_iload_n hx hb dX5_wants_86 rfl (hl.at rfl) ?_
        refine l_istore hx hb 4 dX5_wants_87 hl rfl (fun ls hl => ?_)
        refine lv_goto (tgt := 113) hx hb dX5_wants_89 rfl ?_
        refine lv_iload hx hb dX5_wants_113 (hl.at rfl) ?_
        refine lv_iconst (v := nI 0) hx hb dX5_wants_115 rfl ?_
        refine lv_iload_n hx hb dX5_wants_116 rfl (hl.at rfl) ?_
        refine m_sS hC (met_held ) cs_X5_61 rfl rfl hl.1 (Nat.le_of_ble_eq_true rfl) dX5_wants_117 (by decide) (by decide) (fun r117 p117 => ?_)
        refine hret _ _ ls _ _ _ hP hS dX5_wants_120 ?_
        first | (exact ⟨by rw [sp_wants, if_pos c13], Kp.rf⟩) | (exact ⟨by rw [sp_wants, if_neg c13, if_neg c23], Kp.rf⟩) | (exact ⟨by rw [sp_wants, if_neg c13, if_pos c23, p117, want0_6 ek, p105.1], p105.2⟩) | (exact ⟨by rw [sp_wants, if_neg c13, if_pos c23, p117, want0_0 ek], Kp.rf⟩) | (exact ⟨by rw [sp_wants, if_neg c13, if_pos c23, p117, want0_1 ek], Kp.rf⟩) | (exact ⟨by rw [sp_wants, if_neg c13, if_pos c23, p117, want0_2 ek], Kp.rf⟩) | (exact ⟨by rw [sp_wants, if_neg c13, if_pos c23, p117, want0_3 ek], Kp.rf⟩) | (exact ⟨by rw [sp_wants, if_neg c13, if_pos c23, p117, want0_4 ek], Kp.rf⟩) | (exact ⟨by rw [sp_wants, if_neg c13, if_pos c23, p117, want0_5 ek], Kp.rf⟩)
      · refine lv_tableIn (tgt := 92) hx hb dX5_wants_39 (by decide) (by decide) rfl rfl ?_
        refine lv_iconst (v := nI 2) hx hb dX5_wants_92 rfl ?_
        refine lv_iload_n hx hb dX5_wants_93 rfl (hl.at rfl) ?_
        refine lv_iconst (v := nI 3) hx hb dX5_wants_94 rfl ?_
        refine lv_idiv hx hb dX5_wants_95 (nI_ne0 (by decide) (by decide)) ?_
        refine lv_imul hx hb dX5_wants_96 ?_
        refine l_istore hx hb 4 dX5_wants_97 hl rfl (fun ls hl => ?_)
        refine lv_goto (tgt := 113) hx hb dX5_wants_99 rfl ?_
        refine lv_iload hx hb dX5_wants_113 (hl.at rfl) ?_
        refine lv_iconst (v := nI 0) hx hb dX5_wants_115 rfl ?_
        refine lv_iload_n hx hb dX5_wants_116 rfl (hl.at rfl) ?_
        refine m_sS hC (met_held ) cs_X5_61 rfl rfl hl.1 (Nat.le_of_ble_eq_true rfl) dX5_wants_117 (by decide) (by decide) (fun r117 p117 => ?_)
        refine hret _ _ ls _ _ _ hP hS dX5_wants_120 ?_
        first | (exact ⟨by rw [sp_wants, if_pos c13], Kp.rf⟩) | (exact ⟨by rw [sp_wants, if_neg c13, if_neg c23], Kp.rf⟩) | (exact ⟨by rw [sp_wants, if_neg c13, if_pos c23, p117, want0_6 ek, p105.1], p105.2⟩) | (exact ⟨by rw [sp_wants, if_neg c13, if_pos c23, p117, want0_0 ek], Kp.rf⟩) | (exact ⟨by rw [sp_wants, if_neg c13, if_pos c23, p117, want0_1 ek], Kp.rf⟩) | (exact ⟨by rw [sp_wants, if_neg c13, if_pos c23, p117, want0_2 ek], Kp.rf⟩) | (exact ⟨by rw [sp_wants, if_neg c13, if_pos c23, p117, want0_3 ek], Kp.rf⟩) | (exact ⟨by rw [sp_wants, if_neg c13, if_pos c23, p117, want0_4 ek], Kp.rf⟩) | (exact ⟨by rw [sp_wants, if_neg c13, if_pos c23, p117, want0_5 ek], Kp.rf⟩)
      · refine lv_tableIn (tgt := 76) hx hb dX5_wants_39 (by decide) (by decide) rfl rfl ?_
        refine lv_iload_n hx hb dX5_wants_76 rfl (hl.at rfl) ?_
        refine lv_iconst (v := nI 3) hx hb dX5_wants_77 rfl ?_
        refine lv_idiv hx hb dX5_wants_78 (nI_ne0 (by decide) (by decide)) ?_
        refine lv_iload_n hx hb dX5_wants_79 rfl (hl.at rfl) ?_
        refine lv_iadd hx hb dX5_wants_80 ?_
        refine l_istore hx hb 4 dX5_wants_81 hl rfl (fun ls hl => ?_)
        refine lv_goto (tgt := 113) hx hb dX5_wants_83 rfl ?_
        refine lv_iload hx hb dX5_wants_113 (hl.at rfl) ?_
        refine lv_iconst (v := nI 0) hx hb dX5_wants_115 rfl ?_
        refine lv_iload_n hx hb dX5_wants_116 rfl (hl.at rfl) ?_
        refine m_sS hC (met_held ) cs_X5_61 rfl rfl hl.1 (Nat.le_of_ble_eq_true rfl) dX5_wants_117 (by decide) (by decide) (fun r117 p117 => ?_)
        refine hret _ _ ls _ _ _ hP hS dX5_wants_120 ?_
        first | (exact ⟨by rw [sp_wants, if_pos c13], Kp.rf⟩) | (exact ⟨by rw [sp_wants, if_neg c13, if_neg c23], Kp.rf⟩) | (exact ⟨by rw [sp_wants, if_neg c13, if_pos c23, p117, want0_6 ek, p105.1], p105.2⟩) | (exact ⟨by rw [sp_wants, if_neg c13, if_pos c23, p117, want0_0 ek], Kp.rf⟩) | (exact ⟨by rw [sp_wants, if_neg c13, if_pos c23, p117, want0_1 ek], Kp.rf⟩) | (exact ⟨by rw [sp_wants, if_neg c13, if_pos c23, p117, want0_2 ek], Kp.rf⟩) | (exact ⟨by rw [sp_wants, if_neg c13, if_pos c23, p117, want0_3 ek], Kp.rf⟩) | (exact ⟨by rw [sp_wants, if_neg c13, if_pos c23, p117, want0_4 ek], Kp.rf⟩) | (exact ⟨by rw [sp_wants, if_neg c13, if_pos c23, p117, want0_5 ek], Kp.rf⟩)
      · refine lv_tableIn (tgt := 92) hx hb dX5_wants_39 (by decide) (by decide) rfl rfl ?_
        refine lv_iconst (v := nI 2) hx hb dX5_wants_92 rfl ?_
        refine lv_iload_n hx hb dX5_wants_93 rfl (hl.at rfl) ?_
        refine lv_iconst (v := nI 3) hx hb dX5_wants_94 rfl ?_
        refine lv_idiv hx hb dX5_wants_95 (nI_ne0 (by decide) (by decide)) ?_
        refine lv_imul hx hb dX5_wants_96 ?_
        refine l_istore hx hb 4 dX5_wants_97 hl rfl (fun ls hl => ?_)
        refine lv_goto (tgt := 113) hx hb dX5_wants_99 rfl ?_
        refine lv_iload hx hb dX5_wants_113 (hl.at rfl) ?_
        refine lv_iconst (v := nI 0) hx hb dX5_wants_115 rfl ?_
        refine lv_iload_n hx hb dX5_wants_116 rfl (hl.at rfl) ?_
        refine m_sS hC (met_held ) cs_X5_61 rfl rfl hl.1 (Nat.le_of_ble_eq_true rfl) dX5_wants_117 (by decide) (by decide) (fun r117 p117 => ?_)
        refine hret _ _ ls _ _ _ hP hS dX5_wants_120 ?_
        first | (exact ⟨by rw [sp_wants, if_pos c13], Kp.rf⟩) | (exact ⟨by rw [sp_wants, if_neg c13, if_neg c23], Kp.rf⟩) | (exact ⟨by rw [sp_wants, if_neg c13, if_pos c23, p117, want0_6 ek, p105.1], p105.2⟩) | (exact ⟨by rw [sp_wants, if_neg c13, if_pos c23, p117, want0_0 ek], Kp.rf⟩) | (exact ⟨by rw [sp_wants, if_neg c13, if_pos c23, p117, want0_1 ek], Kp.rf⟩) | (exact ⟨by rw [sp_wants, if_neg c13, if_pos c23, p117, want0_2 ek], Kp.rf⟩) | (exact ⟨by rw [sp_wants, if_neg c13, if_pos c23, p117, want0_3 ek], Kp.rf⟩) | (exact ⟨by rw [sp_wants, if_neg c13, if_pos c23, p117, want0_4 ek], Kp.rf⟩) | (exact ⟨by rw [sp_wants, if_neg c13, if_pos c23, p117, want0_5 ek], Kp.rf⟩)
      · refine lv_tableIn (tgt := 102) hx hb dX5_wants_39 (by decide) (by decide) rfl rfl ?_
        refine lv_aload_n hx hb dX5_wants_102 rfl (hl.at rfl) ?_
        refine lv_iload_n hx hb dX5_wants_103 rfl (hl.at rfl) ?_
        refine lv_iload_n hx hb dX5_wants_104 rfl (hl.at rfl) ?_
        refine m_iV hC hK hP hS (met_takesTold (S := S) (w := w) hR hI rfl hw) cv_X5_185 rfl rfl hl.1 (Nat.le_of_ble_eq_true rfl) dX5_wants_105 (by decide) (by decide) (fun r105 σ105 H locs p105 hP hS => ?_)
        refine l_istore hx hb 4 dX5_wants_108 hl rfl (fun ls hl => ?_)
        refine lv_goto (tgt := 113) hx hb dX5_wants_110 rfl ?_
        refine lv_iload hx hb dX5_wants_113 (hl.at rfl) ?_
        refine lv_iconst (v := nI 0) hx hb dX5_wants_115 rfl ?_
        refine lv_iload_n hx hb dX5_wants_116 rfl (hl.at rfl) ?_
        refine m_sS hC (met_held ) cs_X5_61 rfl rfl hl.1 (Nat.le_of_ble_eq_true rfl) dX5_wants_117 (by decide) (by decide) (fun r117 p117 => ?_)
        refine hret _ _ ls _ _ _ hP hS dX5_wants_120 ?_
        first | (exact ⟨by rw [sp_wants, if_pos c13], Kp.rf⟩) | (exact ⟨by rw [sp_wants, if_neg c13, if_neg c23], Kp.rf⟩) | (exact ⟨by rw [sp_wants, if_neg c13, if_pos c23, p117, want0_6 ek, p105.1], p105.2⟩) | (exact ⟨by rw [sp_wants, if_neg c13, if_pos c23, p117, want0_0 ek], Kp.rf⟩) | (exact ⟨by rw [sp_wants, if_neg c13, if_pos c23, p117, want0_1 ek], Kp.rf⟩) | (exact ⟨by rw [sp_wants, if_neg c13, if_pos c23, p117, want0_2 ek], Kp.rf⟩) | (exact ⟨by rw [sp_wants, if_neg c13, if_pos c23, p117, want0_3 ek], Kp.rf⟩) | (exact ⟨by rw [sp_wants, if_neg c13, if_pos c23, p117, want0_4 ek], Kp.rf⟩) | (exact ⟨by rw [sp_wants, if_neg c13, if_pos c23, p117, want0_5 ek], Kp.rf⟩)
    · refine lv_iconst (v := nI 0) hx hb dX5_wants_26 rfl ?_
      refine hret _ _ ls _ _ _ hP hS dX5_wants_27 ?_
      first | (exact ⟨by rw [sp_wants, if_pos c13], Kp.rf⟩) | (exact ⟨by rw [sp_wants, if_neg c13, if_neg c23], Kp.rf⟩) | (exact ⟨by rw [sp_wants, if_neg c13, if_pos c23, p117, want0_6 ek, p105.1], p105.2⟩) | (exact ⟨by rw [sp_wants, if_neg c13, if_pos c23, p117, want0_0 ek], Kp.rf⟩) | (exact ⟨by rw [sp_wants, if_neg c13, if_pos c23, p117, want0_1 ek], Kp.rf⟩) | (exact ⟨by rw [sp_wants, if_neg c13, if_pos c23, p117, want0_2 ek], Kp.rf⟩) | (exact ⟨by rw [sp_wants, if_neg c13, if_pos c23, p117, want0_3 ek], Kp.rf⟩) | (exact ⟨by rw [sp_wants, if_neg c13, if_pos c23, p117, want0_4 ek], Kp.rf⟩) | (exact ⟨by rw [sp_wants, if_neg c13, if_pos c23, p117, want0_5 ek], Kp.rf⟩)
theorem cv_X5_188 : CV RX5 RX5 188 yX5_turnsTold cX5_turnsTold 3 (some .int) 2 := ⟨lw_V q1495 q1497 qs51 q88 q1498, by decide +kernel⟩
theorem met_turns {l : Launch} {D : va_G} {cA : Nat → ClassId} {b : Nat} {σ : Nat → Nat → Int32} {S : Sta} {x f : Int32} {w : Nat} (hR : RM (σ 0) S) (hI : Inv S) (hx1 : x = nI w) (hw : w < 8) : MI l D cA b yX5_turns cX5_turns 4 (some .int) (3) [.ref b, .int x, .int f] σ (fun r τ => r = sp_turns S w f ∧ Kp [5, 6] σ τ) := by
  refine Ci.of rfl (by decide +kernel) (Nat.le_of_ble_eq_true rfl) ?_
  intro p e s m args below meth c Q hC hK hP hret ls hl
  have hx := hC.1
  have hb := hC.2.1
  have hown := hC.2.2.2.1
  have hts := hC.2.2.2.2
  have hS : va_S (mA b) s.heap s.heap [] := va_S.rf
  subst hx1
  refine lv_iload_n hx hb dX5_turns_0 rfl (hl.at rfl) ?_
  refine l_istore_n hx hb 3 dX5_turns_1 rfl hl rfl (fun ls hl => ?_)
  refine lv_aload_n hx hb dX5_turns_2 rfl (hl.at rfl) ?_
  refine lv_iload_n hx hb dX5_turns_3 rfl (hl.at rfl) ?_
  refine lv_iconst (v := nI 0) hx hb dX5_turns_4 rfl ?_
  refine m_pV hC hK hP (met_its (S := S) (w := w) (q := 0) hR rfl rfl (by omega) (by decide)) cv_X5_90 rfl rfl hl.1 (Nat.le_of_ble_eq_true rfl) dX5_turns_5 (by decide) (by decide) (fun r5 p5 => ?_)
  obtain rfl : r5 = S 5 w := p5
  obtain ⟨kk, hkk, ek⟩ := inv_bd hI 5 w hw
  have hkk : kk ≤ 6 := hkk
  refine l_top _ ek ?_
  rcases (by omega : kk = 0 ∨ kk = 1 ∨ kk = 2 ∨ kk = 3 ∨ kk = 4 ∨ kk = 5 ∨ kk = 6) with rfl | rfl | rfl | rfl | rfl | rfl | rfl
  · refine lv_tableOut (tgt := 96) hx hb dX5_turns_8 (by decide) rfl ?_
    refine lv_iload_n hx hb dX5_turns_96 rfl (hl.at rfl) ?_
    refine lv_iconst (v := nI 0) hx hb dX5_turns_97 rfl ?_
    refine lv_sipush (v := nI 9999) hx hb dX5_turns_98 rfl ?_
    refine m_sS hC (met_held ) cs_X5_61 rfl rfl hl.1 (Nat.le_of_ble_eq_true rfl) dX5_turns_101 (by decide) (by decide) (fun r101 p101 => ?_)
    refine hret _ _ ls _ _ _ hP hS dX5_turns_104 ?_
    first | (exact ⟨by rw [sp_turns, p101, turn0_6 ek, p89.1], p89.2⟩) | (exact ⟨by rw [sp_turns, p101, turn0_4 ek, if_pos c65], Kp.rf⟩) | (exact ⟨by rw [sp_turns, p101, turn0_4 ek, if_neg c65], Kp.rf⟩) | (exact ⟨by rw [sp_turns, p101, turn0_0 ek], Kp.rf⟩) | (exact ⟨by rw [sp_turns, p101, turn0_1 ek], Kp.rf⟩) | (exact ⟨by rw [sp_turns, p101, turn0_2 ek], Kp.rf⟩) | (exact ⟨by rw [sp_turns, p101, turn0_3 ek], Kp.rf⟩) | (exact ⟨by rw [sp_turns, p101, turn0_5 ek], Kp.rf⟩)
  · refine lv_tableIn (tgt := 48) hx hb dX5_turns_8 (by decide) (by decide) rfl rfl ?_
    refine lv_iload_n hx hb dX5_turns_48 rfl (hl.at rfl) ?_
    refine lv_iconst (v := nI 2) hx hb dX5_turns_49 rfl ?_
    refine lv_idiv hx hb dX5_turns_50 (nI_ne0 (by decide) (by decide)) ?_
    refine l_istore_n hx hb 3 dX5_turns_51 rfl hl rfl (fun ls hl => ?_)
    refine lv_goto (tgt := 96) hx hb dX5_turns_52 rfl ?_
    refine lv_iload_n hx hb dX5_turns_96 rfl (hl.at rfl) ?_
    refine lv_iconst (v := nI 0) hx hb dX5_turns_97 rfl ?_
    refine lv_sipush (v := nI 9999) hx hb dX5_turns_98 rfl ?_
    refine m_sS hC (met_held ) cs_X5_61 rfl rfl hl.1 (Nat.le_of_ble_eq_true rfl) dX5_turns_101 (by decide) (by decide) (fun r101 p101 => ?_)
    refine hret _ _ ls _ _ _ hP hS dX5_turns_104 ?_
    first | (exact ⟨by rw [sp_turns, p101, turn0_6 ek, p89.1], p89.2⟩) | (exact ⟨by rw [sp_turns, p101, turn0_4 ek, if_pos c65], Kp.rf⟩) | (exact ⟨by rw [sp_turns, p101, turn0_4 ek, if_neg c65], Kp.rf⟩) | (exact ⟨by rw [sp_turns, p101, turn0_0 ek], Kp.rf⟩) | (exact ⟨by rw [sp_turns, p101, turn0_1 ek], Kp.rf⟩) | (exact ⟨by rw [sp_turns, p101, turn0_2 ek], Kp.rf⟩) | (exact ⟨by rw [sp_turns, p101, turn0_3 ek], Kp.rf⟩) | (exact ⟨by rw [sp_turns, p101, turn0_5 ek], Kp.rf⟩)
  · refine lv_tableIn (tgt := 96) hx hb dX5_turns_8 (by decide) (by decide) rfl rfl ?_
    refine lv_iload_n hx hb dX5_turns_96 rfl (hl.at rfl) ?_
    refine lv_iconst (v := nI 0) hx hb dX5_turns_97 rfl ?_
    refine lv_sipush (v := nI 9999) hx hb dX5_turns_98 rfl ?_
    refine m_sS hC (met_held ) cs_X5_61 rfl rfl hl.1 (Nat.le_of_ble_eq_true rfl) dX5_turns_101 (by decide) (by decide) (fun r101 p101 => ?_)
    refine hret _ _ ls _ _ _ hP hS dX5_turns_104 ?_
    first | (exact ⟨by rw [sp_turns, p101, turn0_6 ek, p89.1], p89.2⟩) | (exact ⟨by rw [sp_turns, p101, turn0_4 ek, if_pos c65], Kp.rf⟩) | (exact ⟨by rw [sp_turns, p101, turn0_4 ek, if_neg c65], Kp.rf⟩) | (exact ⟨by rw [sp_turns, p101, turn0_0 ek], Kp.rf⟩) | (exact ⟨by rw [sp_turns, p101, turn0_1 ek], Kp.rf⟩) | (exact ⟨by rw [sp_turns, p101, turn0_2 ek], Kp.rf⟩) | (exact ⟨by rw [sp_turns, p101, turn0_3 ek], Kp.rf⟩) | (exact ⟨by rw [sp_turns, p101, turn0_5 ek], Kp.rf⟩)
  · refine lv_tableIn (tgt := 55) hx hb dX5_turns_8 (by decide) (by decide) rfl rfl ?_
    refine lv_iconst (v := nI 2) hx hb dX5_turns_55 rfl ?_
    refine lv_iload_n hx hb dX5_turns_56 rfl (hl.at rfl) ?_
    refine lv_imul hx hb dX5_turns_57 ?_
    refine l_istore_n hx hb 3 dX5_turns_58 rfl hl rfl (fun ls hl => ?_)
    refine lv_goto (tgt := 96) hx hb dX5_turns_59 rfl ?_
    refine lv_iload_n hx hb dX5_turns_96 rfl (hl.at rfl) ?_
    refine lv_iconst (v := nI 0) hx hb dX5_turns_97 rfl ?_
    refine lv_sipush (v := nI 9999) hx hb dX5_turns_98 rfl ?_
    refine m_sS hC (met_held ) cs_X5_61 rfl rfl hl.1 (Nat.le_of_ble_eq_true rfl) dX5_turns_101 (by decide) (by decide) (fun r101 p101 => ?_)
    refine hret _ _ ls _ _ _ hP hS dX5_turns_104 ?_
    first | (exact ⟨by rw [sp_turns, p101, turn0_6 ek, p89.1], p89.2⟩) | (exact ⟨by rw [sp_turns, p101, turn0_4 ek, if_pos c65], Kp.rf⟩) | (exact ⟨by rw [sp_turns, p101, turn0_4 ek, if_neg c65], Kp.rf⟩) | (exact ⟨by rw [sp_turns, p101, turn0_0 ek], Kp.rf⟩) | (exact ⟨by rw [sp_turns, p101, turn0_1 ek], Kp.rf⟩) | (exact ⟨by rw [sp_turns, p101, turn0_2 ek], Kp.rf⟩) | (exact ⟨by rw [sp_turns, p101, turn0_3 ek], Kp.rf⟩) | (exact ⟨by rw [sp_turns, p101, turn0_5 ek], Kp.rf⟩)
  · refine lv_tableIn (tgt := 62) hx hb dX5_turns_8 (by decide) (by decide) rfl rfl ?_
    refine lv_iload_n hx hb dX5_turns_62 rfl (hl.at rfl) ?_
    refine lv_iconst (v := nI 2) hx hb dX5_turns_63 rfl ?_
    refine lv_idiv hx hb dX5_turns_64 (nI_ne0 (by decide) (by decide)) ?_
    refine lv_if_le (tgt := 76) hx hb dX5_turns_65 rfl (fun c65 => ?_) (fun c65 => ?_)
    · refine lv_iconst (v := nI 0) hx hb dX5_turns_76 rfl ?_
      refine l_istore_n hx hb 3 dX5_turns_77 rfl hl rfl (fun ls hl => ?_)
      refine lv_goto (tgt := 96) hx hb dX5_turns_78 rfl ?_
      refine lv_iload_n hx hb dX5_turns_96 rfl (hl.at rfl) ?_
      refine lv_iconst (v := nI 0) hx hb dX5_turns_97 rfl ?_
      refine lv_sipush (v := nI 9999) hx hb dX5_turns_98 rfl ?_
      refine m_sS hC (met_held ) cs_X5_61 rfl rfl hl.1 (Nat.le_of_ble_eq_true rfl) dX5_turns_101 (by decide) (by decide) (fun r101 p101 => ?_)
      refine hret _ _ ls _ _ _ hP hS dX5_turns_104 ?_
      first | (exact ⟨by rw [sp_turns, p101, turn0_6 ek, p89.1], p89.2⟩) | (exact ⟨by rw [sp_turns, p101, turn0_4 ek, if_pos c65], Kp.rf⟩) | (exact ⟨by rw [sp_turns, p101, turn0_4 ek, if_neg c65], Kp.rf⟩) | (exact ⟨by rw [sp_turns, p101, turn0_0 ek], Kp.rf⟩) | (exact ⟨by rw [sp_turns, p101, turn0_1 ek], Kp.rf⟩) | (exact ⟨by rw [sp_turns, p101, turn0_2 ek], Kp.rf⟩) | (exact ⟨by rw [sp_turns, p101, turn0_3 ek], Kp.rf⟩) | (exact ⟨by rw [sp_turns, p101, turn0_5 ek], Kp.rf⟩)
    · refine lv_iload_n hx hb dX5_turns_68 rfl (hl.at rfl) ?_
      refine lv_iconst (v := nI 2) hx hb dX5_turns_69 rfl ?_
      refine lv_idiv hx hb dX5_turns_70 (nI_ne0 (by decide) (by decide)) ?_
      refine lv_iconst (v := nI 1) hx hb dX5_turns_71 rfl ?_
      refine lv_iadd hx hb dX5_turns_72 ?_
      refine lv_goto (tgt := 77) hx hb dX5_turns_73 rfl ?_
      refine l_istore_n hx hb 3 dX5_turns_77 rfl hl rfl (fun ls hl => ?_)
      refine lv_goto (tgt := 96) hx hb dX5_turns_78 rfl ?_
      refine lv_iload_n hx hb dX5_turns_96 rfl (hl.at rfl) ?_
      refine lv_iconst (v := nI 0) hx hb dX5_turns_97 rfl ?_
      refine lv_sipush (v := nI 9999) hx hb dX5_turns_98 rfl ?_
      refine m_sS hC (met_held ) cs_X5_61 rfl rfl hl.1 (Nat.le_of_ble_eq_true rfl) dX5_turns_101 (by decide) (by decide) (fun r101 p101 => ?_)
      refine hret _ _ ls _ _ _ hP hS dX5_turns_104 ?_
      first | (exact ⟨by rw [sp_turns, p101, turn0_6 ek, p89.1], p89.2⟩) | (exact ⟨by rw [sp_turns, p101, turn0_4 ek, if_pos c65], Kp.rf⟩) | (exact ⟨by rw [sp_turns, p101, turn0_4 ek, if_neg c65], Kp.rf⟩) | (exact ⟨by rw [sp_turns, p101, turn0_0 ek], Kp.rf⟩) | (exact ⟨by rw [sp_turns, p101, turn0_1 ek], Kp.rf⟩) | (exact ⟨by rw [sp_turns, p101, turn0_2 ek], Kp.rf⟩) | (exact ⟨by rw [sp_turns, p101, turn0_3 ek], Kp.rf⟩) | (exact ⟨by rw [sp_turns, p101, turn0_5 ek], Kp.rf⟩)
  · refine lv_tableIn (tgt := 81) hx hb dX5_turns_8 (by decide) (by decide) rfl rfl ?_
    refine lv_iconst (v := nI 0) hx hb dX5_turns_81 rfl ?_
    refine l_istore_n hx hb 3 dX5_turns_82 rfl hl rfl (fun ls hl => ?_)
    refine lv_goto (tgt := 96) hx hb dX5_turns_83 rfl ?_
    refine lv_iload_n hx hb dX5_turns_96 rfl (hl.at rfl) ?_
    refine lv_iconst (v := nI 0) hx hb dX5_turns_97 rfl ?_
    refine lv_sipush (v := nI 9999) hx hb dX5_turns_98 rfl ?_
    refine m_sS hC (met_held ) cs_X5_61 rfl rfl hl.1 (Nat.le_of_ble_eq_true rfl) dX5_turns_101 (by decide) (by decide) (fun r101 p101 => ?_)
    refine hret _ _ ls _ _ _ hP hS dX5_turns_104 ?_
    first | (exact ⟨by rw [sp_turns, p101, turn0_6 ek, p89.1], p89.2⟩) | (exact ⟨by rw [sp_turns, p101, turn0_4 ek, if_pos c65], Kp.rf⟩) | (exact ⟨by rw [sp_turns, p101, turn0_4 ek, if_neg c65], Kp.rf⟩) | (exact ⟨by rw [sp_turns, p101, turn0_0 ek], Kp.rf⟩) | (exact ⟨by rw [sp_turns, p101, turn0_1 ek], Kp.rf⟩) | (exact ⟨by rw [sp_turns, p101, turn0_2 ek], Kp.rf⟩) | (exact ⟨by rw [sp_turns, p101, turn0_3 ek], Kp.rf⟩) | (exact ⟨by rw [sp_turns, p101, turn0_5 ek], Kp.rf⟩)
  · refine lv_tableIn (tgt := 86) hx hb dX5_turns_8 (by decide) (by decide) rfl rfl ?_
    refine lv_aload_n hx hb dX5_turns_86 rfl (hl.at rfl) ?_
    refine lv_iload_n hx hb dX5_turns_87 rfl (hl.at rfl) ?_
    refine lv_iload_n hx hb dX5_turns_88 rfl (hl.at rfl) ?_
    refine m_iV hC hK hP hS (met_turnsTold (S := S) (w := w) hR hI rfl hw) cv_X5_188 rfl rfl hl.1 (Nat.le_of_ble_eq_true rfl) dX5_turns_89 (by decide) (by decide) (fun r89 σ89 H locs p89 hP hS => ?_)
    refine l_istore_n hx hb 3 dX5_turns_92 rfl hl rfl (fun ls hl => ?_)
    refine lv_goto (tgt := 96) hx hb dX5_turns_93 rfl ?_
    refine lv_iload_n hx hb dX5_turns_96 rfl (hl.at rfl) ?_
    refine lv_iconst (v := nI 0) hx hb dX5_turns_97 rfl ?_
    refine lv_sipush (v := nI 9999) hx hb dX5_turns_98 rfl ?_
    refine m_sS hC (met_held ) cs_X5_61 rfl rfl hl.1 (Nat.le_of_ble_eq_true rfl) dX5_turns_101 (by decide) (by decide) (fun r101 p101 => ?_)
    refine hret _ _ ls _ _ _ hP hS dX5_turns_104 ?_
    first | (exact ⟨by rw [sp_turns, p101, turn0_6 ek, p89.1], p89.2⟩) | (exact ⟨by rw [sp_turns, p101, turn0_4 ek, if_pos c65], Kp.rf⟩) | (exact ⟨by rw [sp_turns, p101, turn0_4 ek, if_neg c65], Kp.rf⟩) | (exact ⟨by rw [sp_turns, p101, turn0_0 ek], Kp.rf⟩) | (exact ⟨by rw [sp_turns, p101, turn0_1 ek], Kp.rf⟩) | (exact ⟨by rw [sp_turns, p101, turn0_2 ek], Kp.rf⟩) | (exact ⟨by rw [sp_turns, p101, turn0_3 ek], Kp.rf⟩) | (exact ⟨by rw [sp_turns, p101, turn0_5 ek], Kp.rf⟩)
theorem met_showsBy {l : Launch} {D : va_G} {cA : Nat → ClassId} {b : Nat} {σ : Nat → Nat → Int32} {S : Sta} {x f g : Int32} {w : Nat} (hR : RM (σ 0) S) (hI : Inv S) (hx1 : x = nI w) (hw : w < 8) : MP l D cA b yX5_showsBy cX5_showsBy 4 (some .int) (1) [.ref b, .int x, .int f, .int g] σ (fun r => r = sp_shB S w f g) := by
  refine Cp.of rfl (by decide +kernel) (Nat.le_of_ble_eq_true rfl) ?_
  intro p e s m args below meth c Q hC hK hP hret ls hl
  have hx := hC.1
  have hb := hC.2.1
  have hown := hC.2.2.2.1
  have hts := hC.2.2.2.2
  subst hx1
  refine lv_aload_n hx hb dX5_showsBy_0 rfl (hl.at rfl) ?_
  refine lv_iload_n hx hb dX5_showsBy_1 rfl (hl.at rfl) ?_
  refine lv_iconst (v := nI 0) hx hb dX5_showsBy_2 rfl ?_
  refine m_pV hC hK hP (met_its (S := S) (w := w) (q := 0) hR rfl rfl (by omega) (by decide)) cv_X5_90 rfl rfl hl.1 (Nat.le_of_ble_eq_true rfl) dX5_showsBy_3 (by decide) (by decide) (fun r3 p3 => ?_)
  obtain rfl : r3 = S 5 w := p3
  obtain ⟨kk, hkk, ek⟩ := inv_bd hI 5 w hw
  have hkk : kk ≤ 6 := hkk
  refine l_top _ ek ?_
  rcases (by omega : kk = 0 ∨ kk = 1 ∨ kk = 2 ∨ kk = 3 ∨ kk = 4 ∨ kk = 5 ∨ kk = 6) with rfl | rfl | rfl | rfl | rfl | rfl | rfl
  · refine lv_tableOut (tgt := 46) hx hb dX5_showsBy_6 (by decide) rfl ?_
    refine lv_iload_n hx hb dX5_showsBy_46 rfl (hl.at rfl) ?_
    refine hret ls _ _ dX5_showsBy_47 ?_
    first | (rw [shB_0 ek]; done) | (rw [shB_1 ek]; done) | (rw [shB_2 ek]; done) | (rw [shB_3 ek]; done) | (rw [shB_4 ek]; done) | (rw [shB_5 ek]; done) | (rw [shB_6 ek]; done)
  · refine lv_tableOut (tgt := 46) hx hb dX5_showsBy_6 (by decide) rfl ?_
    refine lv_iload_n hx hb dX5_showsBy_46 rfl (hl.at rfl) ?_
    refine hret ls _ _ dX5_showsBy_47 ?_
    first | (rw [shB_0 ek]; done) | (rw [shB_1 ek]; done) | (rw [shB_2 ek]; done) | (rw [shB_3 ek]; done) | (rw [shB_4 ek]; done) | (rw [shB_5 ek]; done) | (rw [shB_6 ek]; done)
  · refine lv_tableIn (tgt := 42) hx hb dX5_showsBy_6 (by decide) (by decide) rfl rfl ?_
    refine lv_iload_n hx hb dX5_showsBy_42 rfl (hl.at rfl) ?_
    refine lv_iconst (v := nI 2) hx hb dX5_showsBy_43 rfl ?_
    refine lv_idiv hx hb dX5_showsBy_44 (nI_ne0 (by decide) (by decide)) ?_
    refine hret ls _ _ dX5_showsBy_45 ?_
    first | (rw [shB_0 ek]; done) | (rw [shB_1 ek]; done) | (rw [shB_2 ek]; done) | (rw [shB_3 ek]; done) | (rw [shB_4 ek]; done) | (rw [shB_5 ek]; done) | (rw [shB_6 ek]; done)
  · refine lv_tableIn (tgt := 46) hx hb dX5_showsBy_6 (by decide) (by decide) rfl rfl ?_
    refine lv_iload_n hx hb dX5_showsBy_46 rfl (hl.at rfl) ?_
    refine hret ls _ _ dX5_showsBy_47 ?_
    first | (rw [shB_0 ek]; done) | (rw [shB_1 ek]; done) | (rw [shB_2 ek]; done) | (rw [shB_3 ek]; done) | (rw [shB_4 ek]; done) | (rw [shB_5 ek]; done) | (rw [shB_6 ek]; done)
  · refine lv_tableIn (tgt := 36) hx hb dX5_showsBy_6 (by decide) (by decide) rfl rfl ?_
    refine lv_iconst (v := nI 0) hx hb dX5_showsBy_36 rfl ?_
    refine hret ls _ _ dX5_showsBy_37 ?_
    first | (rw [shB_0 ek]; done) | (rw [shB_1 ek]; done) | (rw [shB_2 ek]; done) | (rw [shB_3 ek]; done) | (rw [shB_4 ek]; done) | (rw [shB_5 ek]; done) | (rw [shB_6 ek]; done)
  · refine lv_tableIn (tgt := 38) hx hb dX5_showsBy_6 (by decide) (by decide) rfl rfl ?_
    refine lv_iconst (v := nI 2) hx hb dX5_showsBy_38 rfl ?_
    refine lv_iload_n hx hb dX5_showsBy_39 rfl (hl.at rfl) ?_
    refine lv_imul hx hb dX5_showsBy_40 ?_
    refine hret ls _ _ dX5_showsBy_41 ?_
    first | (rw [shB_0 ek]; done) | (rw [shB_1 ek]; done) | (rw [shB_2 ek]; done) | (rw [shB_3 ek]; done) | (rw [shB_4 ek]; done) | (rw [shB_5 ek]; done) | (rw [shB_6 ek]; done)
  · refine lv_tableOut (tgt := 46) hx hb dX5_showsBy_6 (by decide) rfl ?_
    refine lv_iload_n hx hb dX5_showsBy_46 rfl (hl.at rfl) ?_
    refine hret ls _ _ dX5_showsBy_47 ?_
    first | (rw [shB_0 ek]; done) | (rw [shB_1 ek]; done) | (rw [shB_2 ek]; done) | (rw [shB_3 ek]; done) | (rw [shB_4 ek]; done) | (rw [shB_5 ek]; done) | (rw [shB_6 ek]; done)
theorem cv_X5_106 : CV RX5 RX5 106 yX5_turns cX5_turns 4 (some .int) 2 := ⟨lw_V q1491 q1493 qs50 q88 q1494, by decide +kernel⟩
theorem cv_X5_191 : CV RX5 RX5 191 yX5_showsBy cX5_showsBy 4 (some .int) 3 := ⟨lw_V q1503 q1505 qs53 q88 q1506, by decide +kernel⟩
theorem met_shows {l : Launch} {D : va_G} {cA : Nat → ClassId} {b : Nat} {σ : Nat → Nat → Int32} {S : Sta} {x f : Int32} {w : Nat} (hR : RM (σ 0) S) (hI : Inv S) (hx1 : x = nI w) (hw : w < 8) : MI l D cA b yX5_shows cX5_shows 3 (some .int) (4) [.ref b, .int x, .int f] σ (fun r τ => r = sp_shows S w f ∧ Kp [5, 6] σ τ) := by
  refine Ci.of rfl (by decide +kernel) (Nat.le_of_ble_eq_true rfl) ?_
  intro p e s m args below meth c Q hC hK hP hret ls hl
  have hx := hC.1
  have hb := hC.2.1
  have hown := hC.2.2.2.1
  have hts := hC.2.2.2.2
  have hS : va_S (mA b) s.heap s.heap [] := va_S.rf
  subst hx1
  refine lv_aload_n hx hb dX5_shows_0 rfl (hl.at rfl) ?_
  refine lv_iload_n hx hb dX5_shows_1 rfl (hl.at rfl) ?_
  refine lv_iload_n hx hb dX5_shows_2 rfl (hl.at rfl) ?_
  refine lv_aload_n hx hb dX5_shows_3 rfl (hl.at rfl) ?_
  refine lv_iload_n hx hb dX5_shows_4 rfl (hl.at rfl) ?_
  refine lv_iload_n hx hb dX5_shows_5 rfl (hl.at rfl) ?_
  refine m_iV hC hK hP hS (met_turns (S := S) (w := w) hR hI rfl hw) cv_X5_106 rfl rfl hl.1 (Nat.le_of_ble_eq_true rfl) dX5_shows_6 (by decide) (by decide) (fun r6 σ6 H locs p6 hP hS => ?_)
  refine m_pV hC hK hP (met_showsBy (S := S) (w := w) (by rw [p6.2 0 (by decide)]; exact hR) hI rfl hw) cv_X5_191 rfl rfl hl.1 (Nat.le_of_ble_eq_true rfl) dX5_shows_9 (by decide) (by decide) (fun r9 p9 => ?_)
  refine hret _ _ ls _ _ _ hP hS dX5_shows_12 ?_
  exact ⟨by rw [sp_shows, p9, p6.1], p6.2⟩
theorem cv_X5_200 : CV RX5 RX5 200 yX5_wants cX5_wants 5 (some .int) 2 := ⟨lw_V q1469 q1471 qs46 q88 q1472, by decide +kernel⟩
theorem met_flow {l : Launch} {D : va_G} {cA : Nat → ClassId} {b : Nat} {σ : Nat → Nat → Int32} {S : Sta} (hR : RM (σ 0) S) (hI : Inv S) : MV l D cA b yX5_flow cX5_flow 5 (4) [.ref b] σ (fun τ => Kp [5, 6, 7, 8, 20, 21] σ τ ∧ τ 20 0 = (sp_fl S).2.1 ∧ τ 21 0 = (sp_fl S).2.2.1 ∧ (∀ j, j < wh S → τ 8 j = sp_took S j) ∧ (∀ j, j < 12 → τ 7 j = (sp_fl S).2.2.2.2 j) ∧ τ 7 12 = (sp_fl S).1) := by
  refine Cv.of (by decide +kernel) (Nat.le_of_ble_eq_true rfl) ?_
  intro p e s m args below meth c Q hC hK hP hret ls hl
  have hx := hC.1
  have hb := hC.2.1
  have hown := hC.2.2.2.1
  have hts := hC.2.2.2.2
  have hS : va_S (mA b) s.heap s.heap [] := va_S.rf
  obtain ⟨eN, hN⟩ := inv_wh hI
  obtain ⟨hh, hh24, ehh, -⟩ := inv_hod hI
  obtain ⟨X, hXe⟩ : ∃ X, X = sp_flow S (σ 8) (σ 7) := ⟨_, rfl⟩
  refine lv_aload_n hx hb dX5_flow_0 rfl (hl.at rfl) ?_
  refine mg_s hC hK hP dX5_flow_1 ?_
  refine lv_bipush (v := nI 6) hx hb dX5_flow_4 rfl ?_
  refine lv_aload_n hx hb dX5_flow_6 rfl (hl.at rfl) ?_
  refine m_pV hC hK hP (met_hourOfDay (S := S) hR) cv_X5_179 rfl rfl hl.1 (Nat.le_of_ble_eq_true rfl) dX5_flow_7 (by decide) (by decide) (fun r7 p7 => ?_)
  refine l_top _ (p7.trans ehh) ?_
  refine l_addN hx hb dX5_flow_10 ?_
  refine m_ld 0 _ (by decide) hC hK hP (rfl) (show _ < 449 by omega) dX5_flow_11 ?_
  refine l_top (S 1 (cn (hod S))) (by rw [ehh, cn_nI (by omega)]; exact hR.at 1 hh (by show hh < 24; omega) (by show 6 + hh = 6 + 1 * hh; omega)) ?_
  refine l_istore_n hx hb 1 dX5_flow_12 rfl hl rfl (fun ls hl => ?_)
  refine lv_aload_n hx hb dX5_flow_13 rfl (hl.at rfl) ?_
  refine lv_iconst (v := nI 0) hx hb dX5_flow_14 rfl ?_
  refine mp_lost hC hK hP hS dX5_flow_15 (fun H locs hP hS => ?_)
  refine lv_aload_n hx hb dX5_flow_18 rfl (hl.at rfl) ?_
  refine lv_iconst (v := nI 0) hx hb dX5_flow_19 rfl ?_
  refine mp_taken hC hK hP hS dX5_flow_20 (fun H locs hP hS => ?_)
  refine lv_iconst (v := nI 0) hx hb dX5_flow_23 rfl ?_
  refine l_istore_n hx hb 2 dX5_flow_24 rfl hl rfl (fun ls hl => ?_)
  have outer : ∀ (n p0 : Nat) (left lost taken : Int32) (tk fw : Nat → Int32) (τ : Sta), p0 ≤ 12 → 13 ≤ p0 + n → fl_out S (12 - p0) p0 (left, lost, taken, tk, fw) = X → Kp [5, 6, 7, 8, 20, 21] σ τ → τ 20 0 = lost → τ 21 0 = taken → τ 8 = tk → τ 7 = fw → ∀ (H : Heap) (locs : List Loc) (ls : Array Slot), MWP D cA b τ H → va_S (mA b) s.heap H locs → lh ls [some (.ref b), some (.int left), some (.int (nI p0)), none, none] → W p l e (rmG 4 0 0) s m args below meth c H locs 0 0 Q (F0 m 25 ls []) := by
    intro n
    induction n with
    | zero => intro p0 left lost taken tk fw τ h1 h2; exact absurd h2 (by omega)
    | succ n ih =>
      intro p0 left lost taken tk fw τ h1 h2 hX hk e20 e21 e8 e7 H locs ls hP hS hl
      have h0 : τ 0 = σ 0 := hk 0 (by decide)
      refine lv_iload_n hx hb dX5_flow_25 rfl (hl.at rfl) ?_
      refine lv_bipush (v := nI 12) hx hb dX5_flow_26 rfl ?_
      refine l_geN hx hb 156 dX5_flow_28 rfl (by omega) (by omega) (fun c28 => ?_) (fun c28 => ?_)
      · have e5 : p0 = 12 := by omega
        subst e5
        refine lv_aload_n hx hb dX5_flow_156 rfl (hl.at rfl) ?_
        refine mg_flowing hC hK hP dX5_flow_157 ?_
        refine lv_bipush (v := nI 12) hx hb dX5_flow_160 rfl ?_
        refine lv_iload_n hx hb dX5_flow_162 rfl (hl.at rfl) ?_
        refine m_st 7 _ (by decide) hC hK hP hS (rfl) (show _ < 13 by omega) dX5_flow_163 (fun H locs hP hS => ?_)
        refine hret _ _ ls _ _ hP hS dX5_flow_164 ?_
        obtain ⟨f1, f2, f3, f4, f5⟩ := flow_ag hI (σ 8) (σ 7)
        rw [← hXe, ← hX] at f1 f2 f3 f4 f5
        refine ⟨hk.up (by decide), e20.trans f2, e21.trans f3, fun j hj => (congrFun e8 j).trans (f4 j hj), fun j hj => ?_, ?_⟩
        · rw [up1_s, pk_un (by omega), e7]; exact f5 j hj
        · rw [up1_s, pk_us]; exact f1
      · refine lv_aload_n hx hb dX5_flow_31 rfl (hl.at rfl) ?_
        refine mg_flowing hC hK hP dX5_flow_32 ?_
        refine lv_iload_n hx hb dX5_flow_35 rfl (hl.at rfl) ?_
        refine lv_iload_n hx hb dX5_flow_36 rfl (hl.at rfl) ?_
        refine m_st 7 _ (by decide) hC hK hP hS (rfl) (show _ < 13 by omega) dX5_flow_37 (fun H locs hP hS => ?_)
        refine lv_aload_n hx hb dX5_flow_38 rfl (hl.at rfl) ?_
        refine mg_s hC hK hP dX5_flow_39 ?_
        refine lv_bipush (v := nI 30) hx hb dX5_flow_42 rfl ?_
        refine lv_iload_n hx hb dX5_flow_44 rfl (hl.at rfl) ?_
        refine l_addN hx hb dX5_flow_45 ?_
        refine m_ld 0 _ (by decide) hC hK hP (rfl) (show _ < 449 by omega) dX5_flow_46 ?_
        refine l_top _ ((congrFun h0 _).trans (hR.at 2 p0 (by show p0 < 12; omega) (by show 30 + p0 = 30 + 1 * p0; omega))) ?_
        refine lv_iload_n hx hb dX5_flow_47 rfl (hl.at rfl) ?_
        refine lv_icmp_ge (tgt := 63) hx hb dX5_flow_48 rfl (fun c48 => ?_) (fun c48 => ?_)
        · refine lv_iload_n hx hb dX5_flow_63 rfl (hl.at rfl) ?_
          first | refine l_top (fl_wd S p0 left) (by rw [fl_wd, if_pos c48]) ?_ | skip
          refine l_istore_n hx hb 3 dX5_flow_64 rfl hl rfl (fun ls hl => ?_)
          refine lv_iload_n hx hb dX5_flow_65 rfl (hl.at rfl) ?_
          refine lv_iload_n hx hb dX5_flow_66 rfl (hl.at rfl) ?_
          refine lv_isub hx hb dX5_flow_67 ?_
          refine l_istore_n hx hb 1 dX5_flow_68 rfl hl rfl (fun ls hl => ?_)
          refine lv_aload_n hx hb dX5_flow_69 rfl (hl.at rfl) ?_
          refine lv_dup hx hb dX5_flow_70 rfl ?_
          refine mg_lost hC hK hP dX5_flow_71 ?_
          refine lv_iload_n hx hb dX5_flow_74 rfl (hl.at rfl) ?_
          refine lv_iadd hx hb dX5_flow_75 ?_
          refine mp_lost hC hK hP hS dX5_flow_76 (fun H locs hP hS => ?_)
          refine lv_iconst (v := nI 0) hx hb dX5_flow_79 rfl ?_
          refine l_istore hx hb 4 dX5_flow_80 hl rfl (fun ls hl => ?_)
          obtain ⟨Y, hYe⟩ : ∃ Y, Y = fl_in S p0 (wh S) 0 (left - fl_wd S p0 left, taken, tk) := ⟨_, rfl⟩
          rw [show 12 - p0 = (12 - (p0 + 1)) + 1 by omega, fl_out] at hX
          simp only [← hYe] at hX
          have inner : ∀ (m0 w : Nat) (lf tn : Int32) (tq : Nat → Int32) (υ : Sta), w ≤ wh S → wh S + 1 ≤ w + m0 → fl_in S p0 (wh S - w) w (lf, tn, tq) = Y → Kp [5, 6, 7, 8, 20, 21] σ υ → υ 20 0 = lost + fl_wd S p0 left → υ 21 0 = tn → υ 8 = tq → υ 7 = upd fw p0 left → ∀ (H : Heap) (locs : List Loc) (ls : Array Slot), MWP D cA b υ H → va_S (mA b) s.heap H locs → lh ls [some (.ref b), some (.int lf), some (.int (nI p0)), none, some (.int (nI w))] → W p l e (rmG 4 0 0) s m args below meth c H locs 0 0 Q (F0 m 82 ls []) := by
            intro m0
            induction m0 with
            | zero => intro w lf tn tq υ g1 g2; exact absurd g2 (by omega)
            | succ m0 ih2 =>
              intro w lf tn tq υ g1 g2 hY gk g20 g21 g8 g7 H locs ls hP hS hl
              have g0 : υ 0 = σ 0 := gk 0 (by decide)
              refine lv_iload hx hb dX5_flow_82 (hl.at rfl) ?_
              refine lv_aload_n hx hb dX5_flow_84 rfl (hl.at rfl) ?_
              refine mg_s hC hK hP dX5_flow_85 ?_
              refine lv_iconst (v := nI 0) hx hb dX5_flow_88 rfl ?_
              refine m_ld 0 _ (by decide) hC hK hP (rfl) (show _ < 449 by omega) dX5_flow_89 ?_
              refine l_top _ ((congrFun g0 0).trans ((hR.at 0 0 (n := 0) (by decide) rfl).trans eN)) ?_
              refine l_geN hx hb 150 dX5_flow_90 rfl (by omega) (by omega) (fun c90 => ?_) (fun c90 => ?_)
              · have e6 : w = wh S := by omega
                rw [e6, Nat.sub_self, fl_in] at hY
                refine l_inc1 hx hb 2 dX5_flow_150 hl rfl rfl (fun ls hl => ?_)
                refine lv_goto (tgt := 25) hx hb dX5_flow_153 rfl ?_
                rw [← hY] at hX
                exact ih (p0 + 1) lf (lost + fl_wd S p0 left) tn tq (upd fw p0 left) υ (by omega) (by omega) hX gk g20 g21 g8 g7 _ _ _ hP hS ((hl.mask [true, true, true, false, false]))
              · refine lv_aload_n hx hb dX5_flow_93 rfl (hl.at rfl) ?_
                refine lv_iload hx hb dX5_flow_94 (hl.at rfl) ?_
                refine lv_iconst (v := nI 2) hx hb dX5_flow_96 rfl ?_
                refine m_pV hC hK hP (met_its (S := S) (w := w) (q := 2) (by rw [g0]; exact hR) rfl rfl (by omega) (by decide)) cv_X5_90 rfl rfl hl.1 (Nat.le_of_ble_eq_true rfl) dX5_flow_97 (by decide) (by decide) (fun r97 p97 => ?_)
                obtain rfl : r97 = S 7 w := p97
                refine lv_iload_n hx hb dX5_flow_100 rfl (hl.at rfl) ?_
                refine lv_icmp_ne (tgt := 144) hx hb dX5_flow_101 rfl (fun c101 => ?_) (fun c101 => ?_)
                · refine l_inc1 hx hb 4 dX5_flow_144 hl rfl rfl (fun ls hl => ?_)
                  refine lv_goto (tgt := 82) hx hb dX5_flow_147 rfl ?_
                  first | exact ih2 (w + 1) _ _ _ _ (by omega) (by omega) (by rw [show wh S - w = (wh S - (w + 1)) + 1 by omega, fl_in, if_pos c101] at hY; rw [← p114.1] at hY; exact hY) (((gk.tr (p114.2.mono (by decide))).up (by decide)).up (by decide)) (by show σ114 20 0 = _; rw [p114.2 20 (by decide)]; exact g20) (by show σ114 21 0 + r114 = _; rw [p114.2 21 (by decide), g21]) (by show upd (σ114 8) w r114 = _; rw [p114.2 8 (by decide), g8]) (by show σ114 7 = _; rw [p114.2 7 (by decide)]; exact g7) _ _ _ hP hS ((hl.mask [true, true, true, false, true])) | exact ih2 (w + 1) _ _ _ _ (by omega) (by omega) (by rw [show wh S - w = (wh S - (w + 1)) + 1 by omega, fl_in, if_neg c101] at hY; exact hY) gk g20 g21 g8 g7 _ _ _ hP hS ((hl.mask [true, true, true, false, true]))
                · refine lv_aload_n hx hb dX5_flow_104 rfl (hl.at rfl) ?_
                  refine mg_took hC hK hP dX5_flow_105 ?_
                  refine lv_iload hx hb dX5_flow_108 (hl.at rfl) ?_
                  refine lv_aload_n hx hb dX5_flow_110 rfl (hl.at rfl) ?_
                  refine lv_iload hx hb dX5_flow_111 (hl.at rfl) ?_
                  refine lv_iload_n hx hb dX5_flow_113 rfl (hl.at rfl) ?_
                  refine m_iV hC hK hP hS (met_wants (S := S) (w := w) (by rw [g0]; exact hR) hI rfl (by omega)) cv_X5_200 rfl rfl hl.1 (Nat.le_of_ble_eq_true rfl) dX5_flow_114 (by decide) (by decide) (fun r114 σ114 H locs p114 hP hS => ?_)
                  refine m_st 8 _ (by decide) hC hK hP hS (rfl) (show _ < 9 by omega) dX5_flow_117 (fun H locs hP hS => ?_)
                  refine lv_iload_n hx hb dX5_flow_118 rfl (hl.at rfl) ?_
                  refine lv_aload_n hx hb dX5_flow_119 rfl (hl.at rfl) ?_
                  refine mg_took hC hK hP dX5_flow_120 ?_
                  refine lv_iload hx hb dX5_flow_123 (hl.at rfl) ?_
                  refine m_ld 8 _ (by decide) hC hK hP (rfl) (show _ < 9 by omega) dX5_flow_125 ?_
                  refine l_top r114 (by rw [up1_s, pk_us]) ?_
                  refine lv_isub hx hb dX5_flow_126 ?_
                  refine l_istore_n hx hb 1 dX5_flow_127 rfl hl rfl (fun ls hl => ?_)
                  refine lv_aload_n hx hb dX5_flow_128 rfl (hl.at rfl) ?_
                  refine lv_dup hx hb dX5_flow_129 rfl ?_
                  refine mg_taken hC hK hP dX5_flow_130 ?_
                  refine lv_aload_n hx hb dX5_flow_133 rfl (hl.at rfl) ?_
                  refine mg_took hC hK hP dX5_flow_134 ?_
                  refine lv_iload hx hb dX5_flow_137 (hl.at rfl) ?_
                  refine m_ld 8 _ (by decide) hC hK hP (rfl) (show _ < 9 by omega) dX5_flow_139 ?_
                  refine l_top r114 (by rw [up1_s, pk_us]) ?_
                  refine lv_iadd hx hb dX5_flow_140 ?_
                  refine mp_taken hC hK hP hS dX5_flow_141 (fun H locs hP hS => ?_)
                  refine l_inc1 hx hb 4 dX5_flow_144 hl rfl rfl (fun ls hl => ?_)
                  refine lv_goto (tgt := 82) hx hb dX5_flow_147 rfl ?_
                  first | exact ih2 (w + 1) _ _ _ _ (by omega) (by omega) (by rw [show wh S - w = (wh S - (w + 1)) + 1 by omega, fl_in, if_pos c101] at hY; rw [← p114.1] at hY; exact hY) (((gk.tr (p114.2.mono (by decide))).up (by decide)).up (by decide)) (by show σ114 20 0 = _; rw [p114.2 20 (by decide)]; exact g20) (by show σ114 21 0 + r114 = _; rw [p114.2 21 (by decide), g21]) (by show upd (σ114 8) w r114 = _; rw [p114.2 8 (by decide), g8]) (by show σ114 7 = _; rw [p114.2 7 (by decide)]; exact g7) _ _ _ hP hS ((hl.mask [true, true, true, false, true])) | exact ih2 (w + 1) _ _ _ _ (by omega) (by omega) (by rw [show wh S - w = (wh S - (w + 1)) + 1 by omega, fl_in, if_neg c101] at hY; exact hY) gk g20 g21 g8 g7 _ _ _ hP hS ((hl.mask [true, true, true, false, true]))
          exact inner (wh S + 1) 0 _ _ _ _ (Nat.zero_le _) (by omega) hYe.symm (by exact (hk.up (by decide)).up (by decide)) (by show τ 20 0 + fl_wd S p0 left = _; rw [e20]) (by exact e21) (by exact e8) (by show upd (τ 7) p0 left = _; rw [e7]) _ _ _ hP hS ((hl.mask [true, true, true, false, true]))
        · refine lv_aload_n hx hb dX5_flow_51 rfl (hl.at rfl) ?_
          refine mg_s hC hK hP dX5_flow_52 ?_
          refine lv_bipush (v := nI 30) hx hb dX5_flow_55 rfl ?_
          refine lv_iload_n hx hb dX5_flow_57 rfl (hl.at rfl) ?_
          refine l_addN hx hb dX5_flow_58 ?_
          refine m_ld 0 _ (by decide) hC hK hP (rfl) (show _ < 449 by omega) dX5_flow_59 ?_
          refine l_top _ ((congrFun h0 _).trans (hR.at 2 p0 (by show p0 < 12; omega) (by show 30 + p0 = 30 + 1 * p0; omega))) ?_
          refine l_top (fl_wd S p0 left) (by rw [fl_wd, if_neg c48]) ?_
          refine lv_goto (tgt := 64) hx hb dX5_flow_60 rfl ?_
          first | refine l_top (fl_wd S p0 left) (by rw [fl_wd, if_pos c48]) ?_ | skip
          refine l_istore_n hx hb 3 dX5_flow_64 rfl hl rfl (fun ls hl => ?_)
          refine lv_iload_n hx hb dX5_flow_65 rfl (hl.at rfl) ?_
          refine lv_iload_n hx hb dX5_flow_66 rfl (hl.at rfl) ?_
          refine lv_isub hx hb dX5_flow_67 ?_
          refine l_istore_n hx hb 1 dX5_flow_68 rfl hl rfl (fun ls hl => ?_)
          refine lv_aload_n hx hb dX5_flow_69 rfl (hl.at rfl) ?_
          refine lv_dup hx hb dX5_flow_70 rfl ?_
          refine mg_lost hC hK hP dX5_flow_71 ?_
          refine lv_iload_n hx hb dX5_flow_74 rfl (hl.at rfl) ?_
          refine lv_iadd hx hb dX5_flow_75 ?_
          refine mp_lost hC hK hP hS dX5_flow_76 (fun H locs hP hS => ?_)
          refine lv_iconst (v := nI 0) hx hb dX5_flow_79 rfl ?_
          refine l_istore hx hb 4 dX5_flow_80 hl rfl (fun ls hl => ?_)
          obtain ⟨Y, hYe⟩ : ∃ Y, Y = fl_in S p0 (wh S) 0 (left - fl_wd S p0 left, taken, tk) := ⟨_, rfl⟩
          rw [show 12 - p0 = (12 - (p0 + 1)) + 1 by omega, fl_out] at hX
          simp only [← hYe] at hX
          have inner : ∀ (m0 w : Nat) (lf tn : Int32) (tq : Nat → Int32) (υ : Sta), w ≤ wh S → wh S + 1 ≤ w + m0 → fl_in S p0 (wh S - w) w (lf, tn, tq) = Y → Kp [5, 6, 7, 8, 20, 21] σ υ → υ 20 0 = lost + fl_wd S p0 left → υ 21 0 = tn → υ 8 = tq → υ 7 = upd fw p0 left → ∀ (H : Heap) (locs : List Loc) (ls : Array Slot), MWP D cA b υ H → va_S (mA b) s.heap H locs → lh ls [some (.ref b), some (.int lf), some (.int (nI p0)), none, some (.int (nI w))] → W p l e (rmG 4 0 0) s m args below meth c H locs 0 0 Q (F0 m 82 ls []) := by
            intro m0
            induction m0 with
            | zero => intro w lf tn tq υ g1 g2; exact absurd g2 (by omega)
            | succ m0 ih2 =>
              intro w lf tn tq υ g1 g2 hY gk g20 g21 g8 g7 H locs ls hP hS hl
              have g0 : υ 0 = σ 0 := gk 0 (by decide)
              refine lv_iload hx hb dX5_flow_82 (hl.at rfl) ?_
              refine lv_aload_n hx hb dX5_flow_84 rfl (hl.at rfl) ?_
              refine mg_s hC hK hP dX5_flow_85 ?_
              refine lv_iconst (v := nI 0) hx hb dX5_flow_88 rfl ?_
              refine m_ld 0 _ (by decide) hC hK hP (rfl) (show _ < 449 by omega) dX5_flow_89 ?_
              refine l_top _ ((congrFun g0 0).trans ((hR.at 0 0 (n := 0) (by decide) rfl).trans eN)) ?_
              refine l_geN hx hb 150 dX5_flow_90 rfl (by omega) (by omega) (fun c90 => ?_) (fun c90 => ?_)
              · have e6 : w = wh S := by omega
                rw [e6, Nat.sub_self, fl_in] at hY
                refine l_inc1 hx hb 2 dX5_flow_150 hl rfl rfl (fun ls hl => ?_)
                refine lv_goto (tgt := 25) hx hb dX5_flow_153 rfl ?_
                rw [← hY] at hX
                exact ih (p0 + 1) lf (lost + fl_wd S p0 left) tn tq (upd fw p0 left) υ (by omega) (by omega) hX gk g20 g21 g8 g7 _ _ _ hP hS ((hl.mask [true, true, true, false, false]))
              · refine lv_aload_n hx hb dX5_flow_93 rfl (hl.at rfl) ?_
                refine lv_iload hx hb dX5_flow_94 (hl.at rfl) ?_
                refine lv_iconst (v := nI 2) hx hb dX5_flow_96 rfl ?_
                refine m_pV hC hK hP (met_its (S := S) (w := w) (q := 2) (by rw [g0]; exact hR) rfl rfl (by omega) (by decide)) cv_X5_90 rfl rfl hl.1 (Nat.le_of_ble_eq_true rfl) dX5_flow_97 (by decide) (by decide) (fun r97 p97 => ?_)
                obtain rfl : r97 = S 7 w := p97
                refine lv_iload_n hx hb dX5_flow_100 rfl (hl.at rfl) ?_
                refine lv_icmp_ne (tgt := 144) hx hb dX5_flow_101 rfl (fun c101 => ?_) (fun c101 => ?_)
                · refine l_inc1 hx hb 4 dX5_flow_144 hl rfl rfl (fun ls hl => ?_)
                  refine lv_goto (tgt := 82) hx hb dX5_flow_147 rfl ?_
                  first | exact ih2 (w + 1) _ _ _ _ (by omega) (by omega) (by rw [show wh S - w = (wh S - (w + 1)) + 1 by omega, fl_in, if_pos c101] at hY; rw [← p114.1] at hY; exact hY) (((gk.tr (p114.2.mono (by decide))).up (by decide)).up (by decide)) (by show σ114 20 0 = _; rw [p114.2 20 (by decide)]; exact g20) (by show σ114 21 0 + r114 = _; rw [p114.2 21 (by decide), g21]) (by show upd (σ114 8) w r114 = _; rw [p114.2 8 (by decide), g8]) (by show σ114 7 = _; rw [p114.2 7 (by decide)]; exact g7) _ _ _ hP hS ((hl.mask [true, true, true, false, true])) | exact ih2 (w + 1) _ _ _ _ (by omega) (by omega) (by rw [show wh S - w = (wh S - (w + 1)) + 1 by omega, fl_in, if_neg c101] at hY; exact hY) gk g20 g21 g8 g7 _ _ _ hP hS ((hl.mask [true, true, true, false, true]))
                · refine lv_aload_n hx hb dX5_flow_104 rfl (hl.at rfl) ?_
                  refine mg_took hC hK hP dX5_flow_105 ?_
                  refine lv_iload hx hb dX5_flow_108 (hl.at rfl) ?_
                  refine lv_aload_n hx hb dX5_flow_110 rfl (hl.at rfl) ?_
                  refine lv_iload hx hb dX5_flow_111 (hl.at rfl) ?_
                  refine lv_iload_n hx hb dX5_flow_113 rfl (hl.at rfl) ?_
                  refine m_iV hC hK hP hS (met_wants (S := S) (w := w) (by rw [g0]; exact hR) hI rfl (by omega)) cv_X5_200 rfl rfl hl.1 (Nat.le_of_ble_eq_true rfl) dX5_flow_114 (by decide) (by decide) (fun r114 σ114 H locs p114 hP hS => ?_)
                  refine m_st 8 _ (by decide) hC hK hP hS (rfl) (show _ < 9 by omega) dX5_flow_117 (fun H locs hP hS => ?_)
                  refine lv_iload_n hx hb dX5_flow_118 rfl (hl.at rfl) ?_
                  refine lv_aload_n hx hb dX5_flow_119 rfl (hl.at rfl) ?_
                  refine mg_took hC hK hP dX5_flow_120 ?_
                  refine lv_iload hx hb dX5_flow_123 (hl.at rfl) ?_
                  refine m_ld 8 _ (by decide) hC hK hP (rfl) (show _ < 9 by omega) dX5_flow_125 ?_
                  refine l_top r114 (by rw [up1_s, pk_us]) ?_
                  refine lv_isub hx hb dX5_flow_126 ?_
                  refine l_istore_n hx hb 1 dX5_flow_127 rfl hl rfl (fun ls hl => ?_)
                  refine lv_aload_n hx hb dX5_flow_128 rfl (hl.at rfl) ?_
                  refine lv_dup hx hb dX5_flow_129 rfl ?_
                  refine mg_taken hC hK hP dX5_flow_130 ?_
                  refine lv_aload_n hx hb dX5_flow_133 rfl (hl.at rfl) ?_
                  refine mg_took hC hK hP dX5_flow_134 ?_
                  refine lv_iload hx hb dX5_flow_137 (hl.at rfl) ?_
                  refine m_ld 8 _ (by decide) hC hK hP (rfl) (show _ < 9 by omega) dX5_flow_139 ?_
                  refine l_top r114 (by rw [up1_s, pk_us]) ?_
                  refine lv_iadd hx hb dX5_flow_140 ?_
                  refine mp_taken hC hK hP hS dX5_flow_141 (fun H locs hP hS => ?_)
                  refine l_inc1 hx hb 4 dX5_flow_144 hl rfl rfl (fun ls hl => ?_)
                  refine lv_goto (tgt := 82) hx hb dX5_flow_147 rfl ?_
                  first | exact ih2 (w + 1) _ _ _ _ (by omega) (by omega) (by rw [show wh S - w = (wh S - (w + 1)) + 1 by omega, fl_in, if_pos c101] at hY; rw [← p114.1] at hY; exact hY) (((gk.tr (p114.2.mono (by decide))).up (by decide)).up (by decide)) (by show σ114 20 0 = _; rw [p114.2 20 (by decide)]; exact g20) (by show σ114 21 0 + r114 = _; rw [p114.2 21 (by decide), g21]) (by show upd (σ114 8) w r114 = _; rw [p114.2 8 (by decide), g8]) (by show σ114 7 = _; rw [p114.2 7 (by decide)]; exact g7) _ _ _ hP hS ((hl.mask [true, true, true, false, true])) | exact ih2 (w + 1) _ _ _ _ (by omega) (by omega) (by rw [show wh S - w = (wh S - (w + 1)) + 1 by omega, fl_in, if_neg c101] at hY; exact hY) gk g20 g21 g8 g7 _ _ _ hP hS ((hl.mask [true, true, true, false, true]))
          exact inner (wh S + 1) 0 _ _ _ _ (Nat.zero_le _) (by omega) hYe.symm (by exact (hk.up (by decide)).up (by decide)) (by show τ 20 0 + fl_wd S p0 left = _; rw [e20]) (by exact e21) (by exact e8) (by show upd (τ 7) p0 left = _; rw [e7]) _ _ _ hP hS ((hl.mask [true, true, true, false, true]))
  exact outer 13 0 _ _ _ _ _ _ (Nat.zero_le _) (by omega) hXe.symm ((Kp.rf.up (by decide)).up (by decide)) rfl rfl rfl rfl _ _ _ hP hS hl
