theorem met_in {l : Launch} {v lo hi : Int32} : Cp l (fun _ => True) yX5_in cX5_in 3 (some .boolean) (0) [.int v, .int lo, .int hi] (fun _ => True) (bz (lo ≤ v ∧ v ≤ hi)) := by
  refine Cp.ofz rfl (by decide +kernel) (Nat.le_of_ble_eq_true rfl) ?_
  intro p e s m args below meth c Q hC hK hP hret ls hl
  have hx := hC.1
  have hb := hC.2.1
  have hown := hC.2.2.2.1
  have hts := hC.2.2.2.2
  refine lv_iload_n hx hb dX5_in_0 rfl (hl.at rfl) ?_
  refine lv_iload_n hx hb dX5_in_1 rfl (hl.at rfl) ?_
  refine lv_icmp_lt (tgt := 14) hx hb dX5_in_2 rfl (fun c2 => ?_) (fun c2 => ?_)
  · refine lv_iconst (v := nI 0) hx hb dX5_in_14 rfl ?_
    refine hret ls _ _ dX5_in_15 (by first | exact Or.inl rfl | exact Or.inr rfl) ?_
    first | exact Or.inl ⟨rfl, Int32.not_lt.mp c2, Int32.not_lt.mp c7⟩ | exact Or.inr ⟨rfl, fun z => absurd c2 (Int32.not_lt.mpr z.1)⟩ | exact Or.inr ⟨rfl, fun z => absurd c7 (Int32.not_lt.mpr z.2)⟩
  · refine lv_iload_n hx hb dX5_in_5 rfl (hl.at rfl) ?_
    refine lv_iload_n hx hb dX5_in_6 rfl (hl.at rfl) ?_
    refine lv_icmp_gt (tgt := 14) hx hb dX5_in_7 rfl (fun c7 => ?_) (fun c7 => ?_)
    · refine lv_iconst (v := nI 0) hx hb dX5_in_14 rfl ?_
      refine hret ls _ _ dX5_in_15 (by first | exact Or.inl rfl | exact Or.inr rfl) ?_
      first | exact Or.inl ⟨rfl, Int32.not_lt.mp c2, Int32.not_lt.mp c7⟩ | exact Or.inr ⟨rfl, fun z => absurd c2 (Int32.not_lt.mpr z.1)⟩ | exact Or.inr ⟨rfl, fun z => absurd c7 (Int32.not_lt.mpr z.2)⟩
    · refine lv_iconst (v := nI 1) hx hb dX5_in_10 rfl ?_
      refine lv_goto (tgt := 15) hx hb dX5_in_11 rfl ?_
      refine hret ls _ _ dX5_in_15 (by first | exact Or.inl rfl | exact Or.inr rfl) ?_
      first | exact Or.inl ⟨rfl, Int32.not_lt.mp c2, Int32.not_lt.mp c7⟩ | exact Or.inr ⟨rfl, fun z => absurd c2 (Int32.not_lt.mpr z.1)⟩ | exact Or.inr ⟨rfl, fun z => absurd c7 (Int32.not_lt.mpr z.2)⟩
theorem cs_X5_56 : CS RX5 56 yX5_in cX5_in 3 (some .boolean) 3 := ⟨lw_S q1382 q1383 q88 q1384, by decide +kernel⟩
theorem met_isFamily {l : Launch} {v : Int32} : Cp l (fun _ => True) yX5_isFamily cX5_isFamily 1 (some .boolean) (1) [.int v] (fun _ => True) (bz (nI 0 ≤ v ∧ v ≤ nI 4)) := by
  refine Cp.ofz rfl (by decide +kernel) (Nat.le_of_ble_eq_true rfl) ?_
  intro p e s m args below meth c Q hC hK hP hret ls hl
  have hx := hC.1
  have hb := hC.2.1
  have hown := hC.2.2.2.1
  have hts := hC.2.2.2.2
  refine lv_iload_n hx hb dX5_isFamily_0 rfl (hl.at rfl) ?_
  refine lv_iconst (v := nI 0) hx hb dX5_isFamily_1 rfl ?_
  refine lv_iconst (v := nI 4) hx hb dX5_isFamily_2 rfl ?_
  refine m_sS hC (met_in ) cs_X5_56 rfl rfl hl.1 (Nat.le_of_ble_eq_true rfl) dX5_isFamily_3 (by decide) (by decide) (fun r3 p3 => ?_)
  rcases p3 with ⟨rfl, p3⟩ | ⟨rfl, p3⟩
  · refine hret ls _ _ dX5_isFamily_6 (by first | exact Or.inl rfl | exact Or.inr rfl) ?_
    first | exact Or.inl ⟨rfl, by assumption⟩ | exact Or.inr ⟨rfl, by assumption⟩
  · refine hret ls _ _ dX5_isFamily_6 (by first | exact Or.inl rfl | exact Or.inr rfl) ?_
    first | exact Or.inl ⟨rfl, by assumption⟩ | exact Or.inr ⟨rfl, by assumption⟩
theorem met_isPlace {l : Launch} {v : Int32} : Cp l (fun _ => True) yX5_isPlace cX5_isPlace 1 (some .boolean) (1) [.int v] (fun _ => True) (bz (nI 0 ≤ v ∧ v ≤ nI 11)) := by
  refine Cp.ofz rfl (by decide +kernel) (Nat.le_of_ble_eq_true rfl) ?_
  intro p e s m args below meth c Q hC hK hP hret ls hl
  have hx := hC.1
  have hb := hC.2.1
  have hown := hC.2.2.2.1
  have hts := hC.2.2.2.2
  refine lv_iload_n hx hb dX5_isPlace_0 rfl (hl.at rfl) ?_
  refine lv_iconst (v := nI 0) hx hb dX5_isPlace_1 rfl ?_
  refine lv_bipush (v := nI 11) hx hb dX5_isPlace_2 rfl ?_
  refine m_sS hC (met_in ) cs_X5_56 rfl rfl hl.1 (Nat.le_of_ble_eq_true rfl) dX5_isPlace_4 (by decide) (by decide) (fun r4 p4 => ?_)
  rcases p4 with ⟨rfl, p4⟩ | ⟨rfl, p4⟩
  · refine hret ls _ _ dX5_isPlace_7 (by first | exact Or.inl rfl | exact Or.inr rfl) ?_
    first | exact Or.inl ⟨rfl, by assumption⟩ | exact Or.inr ⟨rfl, by assumption⟩
  · refine hret ls _ _ dX5_isPlace_7 (by first | exact Or.inl rfl | exact Or.inr rfl) ?_
    first | exact Or.inl ⟨rfl, by assumption⟩ | exact Or.inr ⟨rfl, by assumption⟩
theorem met_isAhead {l : Launch} {v : Int32} : Cp l (fun _ => True) yX5_isAhead cX5_isAhead 1 (some .boolean) (1) [.int v] (fun _ => True) (bz (nI 0 ≤ v ∧ v ≤ nI 240)) := by
  refine Cp.ofz rfl (by decide +kernel) (Nat.le_of_ble_eq_true rfl) ?_
  intro p e s m args below meth c Q hC hK hP hret ls hl
  have hx := hC.1
  have hb := hC.2.1
  have hown := hC.2.2.2.1
  have hts := hC.2.2.2.2
  refine lv_iload_n hx hb dX5_isAhead_0 rfl (hl.at rfl) ?_
  refine lv_iconst (v := nI 0) hx hb dX5_isAhead_1 rfl ?_
  refine lv_sipush (v := nI 240) hx hb dX5_isAhead_2 rfl ?_
  refine m_sS hC (met_in ) cs_X5_56 rfl rfl hl.1 (Nat.le_of_ble_eq_true rfl) dX5_isAhead_5 (by decide) (by decide) (fun r5 p5 => ?_)
  rcases p5 with ⟨rfl, p5⟩ | ⟨rfl, p5⟩
  · refine hret ls _ _ dX5_isAhead_8 (by first | exact Or.inl rfl | exact Or.inr rfl) ?_
    first | exact Or.inl ⟨rfl, by assumption⟩ | exact Or.inr ⟨rfl, by assumption⟩
  · refine hret ls _ _ dX5_isAhead_8 (by first | exact Or.inl rfl | exact Or.inr rfl) ?_
    first | exact Or.inl ⟨rfl, by assumption⟩ | exact Or.inr ⟨rfl, by assumption⟩
theorem met_isSheet {l : Launch} {v : Int32} : Cp l (fun _ => True) yX5_isSheet cX5_isSheet 1 (some .boolean) (1) [.int v] (fun _ => True) (bz (nI 0 ≤ v ∧ v ≤ nI 3)) := by
  refine Cp.ofz rfl (by decide +kernel) (Nat.le_of_ble_eq_true rfl) ?_
  intro p e s m args below meth c Q hC hK hP hret ls hl
  have hx := hC.1
  have hb := hC.2.1
  have hown := hC.2.2.2.1
  have hts := hC.2.2.2.2
  refine lv_iload_n hx hb dX5_isSheet_0 rfl (hl.at rfl) ?_
  refine lv_iconst (v := nI 0) hx hb dX5_isSheet_1 rfl ?_
  refine lv_iconst (v := nI 3) hx hb dX5_isSheet_2 rfl ?_
  refine m_sS hC (met_in ) cs_X5_56 rfl rfl hl.1 (Nat.le_of_ble_eq_true rfl) dX5_isSheet_3 (by decide) (by decide) (fun r3 p3 => ?_)
  rcases p3 with ⟨rfl, p3⟩ | ⟨rfl, p3⟩
  · refine hret ls _ _ dX5_isSheet_6 (by first | exact Or.inl rfl | exact Or.inr rfl) ?_
    first | exact Or.inl ⟨rfl, by assumption⟩ | exact Or.inr ⟨rfl, by assumption⟩
  · refine hret ls _ _ dX5_isSheet_6 (by first | exact Or.inl rfl | exact Or.inr rfl) ?_
    first | exact Or.inl ⟨rfl, by assumption⟩ | exact Or.inr ⟨rfl, by assumption⟩
theorem met_held {l : Launch} {v lo hi : Int32} : Cp l (fun _ => True) yX5_held cX5_held 3 (some .int) (0) [.int v, .int lo, .int hi] (fun _ => True) (fun r => r = sp_held v lo hi) := by
  refine Cp.of rfl (by decide +kernel) (Nat.le_of_ble_eq_true rfl) ?_
  intro p e s m args below meth c Q hC hK hP hret ls hl
  have hx := hC.1
  have hb := hC.2.1
  have hown := hC.2.2.2.1
  have hts := hC.2.2.2.2
  refine lv_iload_n hx hb dX5_held_0 rfl (hl.at rfl) ?_
  refine lv_iload_n hx hb dX5_held_1 rfl (hl.at rfl) ?_
  refine lv_icmp_ge (tgt := 9) hx hb dX5_held_2 rfl (fun c2 => ?_) (fun c2 => ?_)
  · refine lv_iload_n hx hb dX5_held_9 rfl (hl.at rfl) ?_
    refine lv_iload_n hx hb dX5_held_10 rfl (hl.at rfl) ?_
    refine lv_icmp_le (tgt := 18) hx hb dX5_held_11 rfl (fun c11 => ?_) (fun c11 => ?_)
    · refine lv_iload_n hx hb dX5_held_18 rfl (hl.at rfl) ?_
      refine hret ls _ _ dX5_held_19 ?_
      first | (rw [sp_held, if_pos (Int32.not_le.mp c2)]; done) | (rw [sp_held, if_neg (Int32.not_lt.mpr c2), if_pos (Int32.not_le.mp c11)]; done) | (rw [sp_held, if_neg (Int32.not_lt.mpr c2), if_neg (Int32.not_lt.mpr c11)]; done)
    · refine lv_iload_n hx hb dX5_held_14 rfl (hl.at rfl) ?_
      refine lv_goto (tgt := 19) hx hb dX5_held_15 rfl ?_
      refine hret ls _ _ dX5_held_19 ?_
      first | (rw [sp_held, if_pos (Int32.not_le.mp c2)]; done) | (rw [sp_held, if_neg (Int32.not_lt.mpr c2), if_pos (Int32.not_le.mp c11)]; done) | (rw [sp_held, if_neg (Int32.not_lt.mpr c2), if_neg (Int32.not_lt.mpr c11)]; done)
  · refine lv_iload_n hx hb dX5_held_5 rfl (hl.at rfl) ?_
    refine lv_goto (tgt := 19) hx hb dX5_held_6 rfl ?_
    refine hret ls _ _ dX5_held_19 ?_
    first | (rw [sp_held, if_pos (Int32.not_le.mp c2)]; done) | (rw [sp_held, if_neg (Int32.not_lt.mpr c2), if_pos (Int32.not_le.mp c11)]; done) | (rw [sp_held, if_neg (Int32.not_lt.mpr c2), if_neg (Int32.not_lt.mpr c11)]; done)
theorem met_its {l : Launch} {D : va_G} {cA : Nat → ClassId} {b : Nat} {σ : Nat → Nat → Int32} {S : Nat → Nat → Int32} {x y : Int32} {w q : Nat} (hR : RM (σ 0) S) (hx1 : x = nI w) (hy1 : y = nI q) (hw : w < 8) (hq : q < 7) : MP l D cA b yX5_its cX5_its 3 (some .int) (0) [.ref b, .int x, .int y] σ (fun r => r = S (5 + q) w) := by
  refine Cp.of rfl (by decide +kernel) (Nat.le_of_ble_eq_true rfl) ?_
  intro p e s m args below meth c Q hC hK hP hret ls hl
  have hx := hC.1
  have hb := hC.2.1
  have hown := hC.2.2.2.1
  have hts := hC.2.2.2.2
  subst hx1; subst hy1
  refine lv_aload_n hx hb dX5_its_0 rfl (hl.at rfl) ?_
  refine mg_s hC hK hP dX5_its_1 ?_
  refine lv_bipush (v := nI 52) hx hb dX5_its_4 rfl ?_
  refine lv_bipush (v := nI 7) hx hb dX5_its_6 rfl ?_
  refine lv_iload_n hx hb dX5_its_8 rfl (hl.at rfl) ?_
  refine l_mulN hx hb dX5_its_9 ?_
  refine l_addN hx hb dX5_its_10 ?_
  refine lv_iload_n hx hb dX5_its_11 rfl (hl.at rfl) ?_
  refine l_addN hx hb dX5_its_12 ?_
  refine m_ld 0 _ (by decide) hC hK hP (rfl) (show _ < 449 by omega) dX5_its_13 ?_
  refine hret ls _ _ dX5_its_14 ?_
  exact hR.at (5 + q) w (by rw [ln_w hq]; exact hw) (by rw [of_w hq, st_w hq]; omega)
theorem met_lays1 {l : Launch} {D : va_G} {cA : Nat → ClassId} {b : Nat} {σ : Nat → Nat → Int32} {S : Nat → Nat → Int32} {x y v : Int32} {w q : Nat} (hR : RM (σ 0) S) (hx1 : x = nI w) (hy1 : y = nI q) (hw : w < 8) (hq : q < 7) : MV l D cA b yX5_lays1 cX5_lays1 4 (0) [.ref b, .int x, .int y, .int v] σ (fun τ => RM (τ 0) (up2 S (5 + q) w v) ∧ Kp [0] σ τ) := by
  refine Cv.of (by decide +kernel) (Nat.le_of_ble_eq_true rfl) ?_
  intro p e s m args below meth c Q hC hK hP hret ls hl
  have hx := hC.1
  have hb := hC.2.1
  have hown := hC.2.2.2.1
  have hts := hC.2.2.2.2
  have hS : va_S (mA b) s.heap s.heap [] := va_S.rf
  subst hx1; subst hy1
  refine lv_aload_n hx hb dX5_lays1_0 rfl (hl.at rfl) ?_
  refine mg_s hC hK hP dX5_lays1_1 ?_
  refine lv_bipush (v := nI 52) hx hb dX5_lays1_4 rfl ?_
  refine lv_bipush (v := nI 7) hx hb dX5_lays1_6 rfl ?_
  refine lv_iload_n hx hb dX5_lays1_8 rfl (hl.at rfl) ?_
  refine l_mulN hx hb dX5_lays1_9 ?_
  refine l_addN hx hb dX5_lays1_10 ?_
  refine lv_iload_n hx hb dX5_lays1_11 rfl (hl.at rfl) ?_
  refine l_addN hx hb dX5_lays1_12 ?_
  refine lv_iload_n hx hb dX5_lays1_13 rfl (hl.at rfl) ?_
  refine m_st 0 _ (by decide) hC hK hP hS (rfl) (show _ < 449 by omega) dX5_lays1_14 (fun H locs hP hS => ?_)
  refine hret _ _ ls _ _ hP hS dX5_lays1_15 ?_
  exact ⟨by rw [up1_s]; exact hR.set (by rw [ln_w hq]; exact hw) (by rw [of_w hq, st_w hq]; omega), Kp.rf.up (by decide)⟩
theorem met_owed {l : Launch} {D : va_G} {cA : Nat → ClassId} {b : Nat} {σ : Nat → Nat → Int32} {S : Nat → Nat → Int32} {x : Int32} {f : Nat} (hR : RM (σ 0) S) (hx1 : x = nI f) (hf : f < 5) : MP l D cA b yX5_owed cX5_owed 2 (some .int) (0) [.ref b, .int x] σ (fun r => r = S 3 f) := by
  refine Cp.of rfl (by decide +kernel) (Nat.le_of_ble_eq_true rfl) ?_
  intro p e s m args below meth c Q hC hK hP hret ls hl
  have hx := hC.1
  have hb := hC.2.1
  have hown := hC.2.2.2.1
  have hts := hC.2.2.2.2
  subst hx1
  refine lv_aload_n hx hb dX5_owed_0 rfl (hl.at rfl) ?_
  refine mg_s hC hK hP dX5_owed_1 ?_
  refine lv_bipush (v := nI 42) hx hb dX5_owed_4 rfl ?_
  refine lv_iconst (v := nI 2) hx hb dX5_owed_6 rfl ?_
  refine lv_iload_n hx hb dX5_owed_7 rfl (hl.at rfl) ?_
  refine l_mulN hx hb dX5_owed_8 ?_
  refine l_addN hx hb dX5_owed_9 ?_
  refine m_ld 0 _ (by decide) hC hK hP (rfl) (show _ < 449 by omega) dX5_owed_10 ?_
  refine hret ls _ _ dX5_owed_11 ?_
  exact hR.at 3 f hf rfl
theorem met_prayed {l : Launch} {D : va_G} {cA : Nat → ClassId} {b : Nat} {σ : Nat → Nat → Int32} {S : Nat → Nat → Int32} {x : Int32} {f : Nat} (hR : RM (σ 0) S) (hx1 : x = nI f) (hf : f < 5) : MP l D cA b yX5_prayed cX5_prayed 2 (some .int) (0) [.ref b, .int x] σ (fun r => r = S 4 f) := by
  refine Cp.of rfl (by decide +kernel) (Nat.le_of_ble_eq_true rfl) ?_
  intro p e s m args below meth c Q hC hK hP hret ls hl
  have hx := hC.1
  have hb := hC.2.1
  have hown := hC.2.2.2.1
  have hts := hC.2.2.2.2
  subst hx1
  refine lv_aload_n hx hb dX5_prayed_0 rfl (hl.at rfl) ?_
  refine mg_s hC hK hP dX5_prayed_1 ?_
  refine lv_bipush (v := nI 42) hx hb dX5_prayed_4 rfl ?_
  refine lv_iconst (v := nI 2) hx hb dX5_prayed_6 rfl ?_
  refine lv_iload_n hx hb dX5_prayed_7 rfl (hl.at rfl) ?_
  refine l_mulN hx hb dX5_prayed_8 ?_
  refine l_addN hx hb dX5_prayed_9 ?_
  refine lv_iconst (v := nI 1) hx hb dX5_prayed_10 rfl ?_
  refine l_addN hx hb dX5_prayed_11 ?_
  refine m_ld 0 _ (by decide) hC hK hP (rfl) (show _ < 449 by omega) dX5_prayed_12 ?_
  refine hret ls _ _ dX5_prayed_13 ?_
  exact hR.at 4 f hf (by show 42 + 2 * f + 1 = 43 + 2 * f; omega)
theorem cs_X5_61 : CS RX5 61 yX5_held cX5_held 3 (some .int) 3 := ⟨lw_S q1488 q1489 q88 q1490, by decide +kernel⟩
theorem met_prays {l : Launch} {D : va_G} {cA : Nat → ClassId} {b : Nat} {σ : Nat → Nat → Int32} {S : Nat → Nat → Int32} {x v : Int32} {f : Nat} (hR : RM (σ 0) S) (hx1 : x = nI f) (hf : f < 5) : MV l D cA b yX5_prays cX5_prays 3 (1) [.ref b, .int x, .int v] σ (fun τ => RM (τ 0) (up2 S 4 f (sp_held v (nI 0) 999999)) ∧ Kp [0] σ τ) := by
  refine Cv.of (by decide +kernel) (Nat.le_of_ble_eq_true rfl) ?_
  intro p e s m args below meth c Q hC hK hP hret ls hl
  have hx := hC.1
  have hb := hC.2.1
  have hown := hC.2.2.2.1
  have hts := hC.2.2.2.2
  have hS : va_S (mA b) s.heap s.heap [] := va_S.rf
  subst hx1
  refine lv_aload_n hx hb dX5_prays_0 rfl (hl.at rfl) ?_
  refine mg_s hC hK hP dX5_prays_1 ?_
  refine lv_bipush (v := nI 42) hx hb dX5_prays_4 rfl ?_
  refine lv_iconst (v := nI 2) hx hb dX5_prays_6 rfl ?_
  refine lv_iload_n hx hb dX5_prays_7 rfl (hl.at rfl) ?_
  refine l_mulN hx hb dX5_prays_8 ?_
  refine l_addN hx hb dX5_prays_9 ?_
  refine lv_iconst (v := nI 1) hx hb dX5_prays_10 rfl ?_
  refine l_addN hx hb dX5_prays_11 ?_
  refine lv_iload_n hx hb dX5_prays_12 rfl (hl.at rfl) ?_
  refine lv_iconst (v := nI 0) hx hb dX5_prays_13 rfl ?_
  refine lv_ldc (v := 999999) hx hb hown (hts _ q1521) dX5_prays_14 ?_
  refine m_sS hC (met_held ) cs_X5_61 rfl rfl hl.1 (Nat.le_of_ble_eq_true rfl) dX5_prays_16 (by decide) (by decide) (fun r16 p16 => ?_)
  refine m_st 0 _ (by decide) hC hK hP hS (rfl) (show _ < 449 by omega) dX5_prays_19 (fun H locs hP hS => ?_)
  refine hret _ _ ls _ _ hP hS dX5_prays_20 ?_
  exact ⟨by rw [up1_s, p16]; exact hR.set hf (by show 42 + 2 * f + 1 = 43 + 2 * f; omega), Kp.rf.up (by decide)⟩
theorem cv_X5_65 : CV RX5 RX5 65 yX5_prayed cX5_prayed 2 (some .int) 1 := ⟨lw_V q1425 q1427 qs37 q88 q1428, by decide +kernel⟩
theorem cv_X5_69 : CV RX5 RX5 69 yX5_owed cX5_owed 2 (some .int) 1 := ⟨lw_V q1421 q1423 qs36 q88 q1424, by decide +kernel⟩
theorem met_isPaid {l : Launch} {D : va_G} {cA : Nat → ClassId} {b : Nat} {σ : Nat → Nat → Int32} {S : Nat → Nat → Int32} {x : Int32} {f : Nat} (hR : RM (σ 0) S) (hx1 : x = nI f) (hf : f < 5) : MP l D cA b yX5_isPaid cX5_isPaid 2 (some .boolean) (1) [.ref b, .int x] σ (bz (S 3 f ≤ S 4 f)) := by
  refine Cp.ofz rfl (by decide +kernel) (Nat.le_of_ble_eq_true rfl) ?_
  intro p e s m args below meth c Q hC hK hP hret ls hl
  have hx := hC.1
  have hb := hC.2.1
  have hown := hC.2.2.2.1
  have hts := hC.2.2.2.2
  subst hx1
  refine lv_aload_n hx hb dX5_isPaid_0 rfl (hl.at rfl) ?_
  refine lv_iload_n hx hb dX5_isPaid_1 rfl (hl.at rfl) ?_
  refine m_pV hC hK hP (met_prayed hR rfl hf) cv_X5_65 rfl rfl hl.1 (Nat.le_of_ble_eq_true rfl) dX5_isPaid_2 (by decide) (by decide) (fun r2 p2 => ?_)
  refine lv_aload_n hx hb dX5_isPaid_5 rfl (hl.at rfl) ?_
  refine lv_iload_n hx hb dX5_isPaid_6 rfl (hl.at rfl) ?_
  refine m_pV hC hK hP (met_owed hR rfl hf) cv_X5_69 rfl rfl hl.1 (Nat.le_of_ble_eq_true rfl) dX5_isPaid_7 (by decide) (by decide) (fun r7 p7 => ?_)
  refine lv_icmp_lt (tgt := 17) hx hb dX5_isPaid_10 rfl (fun c10 => ?_) (fun c10 => ?_)
  · refine lv_iconst (v := nI 0) hx hb dX5_isPaid_17 rfl ?_
    refine hret ls _ _ dX5_isPaid_18 (by first | exact Or.inl rfl | exact Or.inr rfl) ?_
    first | exact Or.inl ⟨rfl, by rw [← p2, ← p7]; exact Int32.not_lt.mp c10⟩ | exact Or.inr ⟨rfl, fun z => absurd c10 (by rw [p2, p7]; exact Int32.not_lt.mpr z)⟩
  · refine lv_iconst (v := nI 1) hx hb dX5_isPaid_13 rfl ?_
    refine lv_goto (tgt := 18) hx hb dX5_isPaid_14 rfl ?_
    refine hret ls _ _ dX5_isPaid_18 (by first | exact Or.inl rfl | exact Or.inr rfl) ?_
    first | exact Or.inl ⟨rfl, by rw [← p2, ← p7]; exact Int32.not_lt.mp c10⟩ | exact Or.inr ⟨rfl, fun z => absurd c10 (by rw [p2, p7]; exact Int32.not_lt.mpr z)⟩
theorem met_error {l : Launch} {D : va_G} {cA : Nat → ClassId} {b : Nat} {σ : Nat → Nat → Int32} {T : Tta} {x : Int32} {k : Nat} (hT : RT σ T) (hx1 : x = nI k) (hk : k < 7) : MI l D cA b yX5_error cX5_error 2 (some .int) (0) [.ref b, .int x] σ (fun r τ => r = (er k T).1 ∧ RT τ (er k T).2) := by
  refine Ci.of rfl (by decide +kernel) (Nat.le_of_ble_eq_true rfl) ?_
  intro p e s m args below meth c Q hC hK hP hret ls hl
  have hx := hC.1
  have hb := hC.2.1
  have hown := hC.2.2.2.1
  have hts := hC.2.2.2.2
  have hS : va_S (mA b) s.heap s.heap [] := va_S.rf
  subst hx1
  refine lv_aload_n hx hb dX5_error_0 rfl (hl.at rfl) ?_
  refine mg_errors hC hK hP dX5_error_1 ?_
  refine lv_iload_n hx hb dX5_error_4 rfl (hl.at rfl) ?_
  refine lv_dup2_11 hx hb dX5_error_5 rfl rfl ?_
  refine m_ld 3 _ (by decide) hC hK hP (rfl) (show _ < 7 by omega) dX5_error_6 ?_
  refine lv_iconst (v := nI 1) hx hb dX5_error_7 rfl ?_
  refine lv_iadd hx hb dX5_error_8 ?_
  refine m_st 3 _ (by decide) hC hK hP hS (rfl) (show _ < 7 by omega) dX5_error_9 (fun H locs hP hS => ?_)
  refine lv_ldc (v := -1000000000) hx hb hown (hts _ q1393) dX5_error_10 ?_
  refine lv_iload_n hx hb dX5_error_12 rfl (hl.at rfl) ?_
  refine lv_isub hx hb dX5_error_13 ?_
  refine hret _ _ ls _ _ _ hP hS dX5_error_14 ?_
  refine ⟨rfl, hT.X 0 (L := [3]) (fun j hj => ?_) (Kp.rf.up (by decide)) (by decide) (by decide) (by decide)⟩
  rw [show xr_ 0 = 3 from rfl, up1_s]
  by_cases e : j = k
  · rw [e, pk_us, pk_us, ← hT.2.2 0 k hk]; rfl
  · rw [pk_un e, pk_un e, ← hT.2.2 0 j hj]; rfl
theorem met_change {l : Launch} {D : va_G} {cA : Nat → ClassId} {b : Nat} {σ : Nat → Nat → Int32} {S : Sta} {x v : Int32} {i j n : Nat} (hR : RM (σ 0) S) (hx1 : x = nI n) (hj : j < ln_ i) (hn : n = of_ i + st_ i * j) : MI l D cA b yX5_change cX5_change 4 (some .int) (0) [.ref b, .int x, .int v] σ (fun r τ => r = S i j ∧ RM (τ 0) (up2 S i j v) ∧ Kp [0] σ τ) := by
  refine Ci.of rfl (by decide +kernel) (Nat.le_of_ble_eq_true rfl) ?_
  intro p e s m args below meth c Q hC hK hP hret ls hl
  have hx := hC.1
  have hb := hC.2.1
  have hown := hC.2.2.2.1
  have hts := hC.2.2.2.2
  have hS : va_S (mA b) s.heap s.heap [] := va_S.rf
  subst hx1
  have hlt := lay_lt hj
  rw [← hn] at hlt
  refine lv_aload_n hx hb dX5_change_0 rfl (hl.at rfl) ?_
  refine mg_s hC hK hP dX5_change_1 ?_
  refine lv_iload_n hx hb dX5_change_4 rfl (hl.at rfl) ?_
  refine m_ld 0 _ (by decide) hC hK hP (rfl) (show _ < 449 by omega) dX5_change_5 ?_
  refine l_istore_n hx hb 3 dX5_change_6 rfl hl rfl (fun ls hl => ?_)
  refine lv_aload_n hx hb dX5_change_7 rfl (hl.at rfl) ?_
  refine mg_s hC hK hP dX5_change_8 ?_
  refine lv_iload_n hx hb dX5_change_11 rfl (hl.at rfl) ?_
  refine lv_iload_n hx hb dX5_change_12 rfl (hl.at rfl) ?_
  refine m_st 0 _ (by decide) hC hK hP hS (rfl) (show _ < 449 by omega) dX5_change_13 (fun H locs hP hS => ?_)
  refine lv_iload_n hx hb dX5_change_14 rfl (hl.at rfl) ?_
  refine hret _ _ ls _ _ _ hP hS dX5_change_15 ?_
  exact ⟨hR.at i j hj hn, by rw [up1_s]; exact hR.set hj hn, Kp.rf.up (by decide)⟩
theorem met_hourOfDay {l : Launch} {D : va_G} {cA : Nat → ClassId} {b : Nat} {σ : Nat → Nat → Int32} {S : Sta} (hR : RM (σ 0) S) : MP l D cA b yX5_hourOfDay cX5_hourOfDay 1 (some .int) (0) [.ref b] σ (fun r => r = hod S) := by
  refine Cp.of rfl (by decide +kernel) (Nat.le_of_ble_eq_true rfl) ?_
  intro p e s m args below meth c Q hC hK hP hret ls hl
  have hx := hC.1
  have hb := hC.2.1
  have hown := hC.2.2.2.1
  have hts := hC.2.2.2.2
  refine lv_aload_n hx hb dX5_hourOfDay_0 rfl (hl.at rfl) ?_
  refine mg_s hC hK hP dX5_hourOfDay_1 ?_
  refine lv_iconst (v := nI 1) hx hb dX5_hourOfDay_4 rfl ?_
  refine m_ld 0 _ (by decide) hC hK hP (rfl) (show _ < 449 by omega) dX5_hourOfDay_5 ?_
  refine lv_bipush (v := nI 24) hx hb dX5_hourOfDay_6 rfl ?_
  refine lv_irem hx hb dX5_hourOfDay_8 (nI_ne0 (by decide) (by decide)) ?_
  refine hret ls _ _ dX5_hourOfDay_9 ?_
  show _ = rem_ (S 0 1) (nI 24)
  rw [← hR.at 0 1 (n := 1) (by decide) rfl]; rfl
theorem met_isWheel {l : Launch} {D : va_G} {cA : Nat → ClassId} {b : Nat} {σ : Nat → Nat → Int32} {S : Sta} {x : Int32} (hR : RM (σ 0) S) : MP l D cA b yX5_isWheel cX5_isWheel 2 (some .boolean) (1) [.ref b, .int x] σ (bz (nI 0 ≤ x ∧ x ≤ S 0 0 - nI 1)) := by
  refine Cp.ofz rfl (by decide +kernel) (Nat.le_of_ble_eq_true rfl) ?_
  intro p e s m args below meth c Q hC hK hP hret ls hl
  have hx := hC.1
  have hb := hC.2.1
  have hown := hC.2.2.2.1
  have hts := hC.2.2.2.2
  refine lv_iload_n hx hb dX5_isWheel_0 rfl (hl.at rfl) ?_
  refine lv_iconst (v := nI 0) hx hb dX5_isWheel_1 rfl ?_
  refine lv_aload_n hx hb dX5_isWheel_2 rfl (hl.at rfl) ?_
  refine mg_s hC hK hP dX5_isWheel_3 ?_
  refine lv_iconst (v := nI 0) hx hb dX5_isWheel_6 rfl ?_
  refine m_ld 0 _ (by decide) hC hK hP (rfl) (show _ < 449 by omega) dX5_isWheel_7 ?_
  refine lv_iconst (v := nI 1) hx hb dX5_isWheel_8 rfl ?_
  refine lv_isub hx hb dX5_isWheel_9 ?_
  refine m_sS hC (met_in ) cs_X5_56 rfl rfl hl.1 (Nat.le_of_ble_eq_true rfl) dX5_isWheel_10 (by decide) (by decide) (fun r10 p10 => ?_)
  rcases p10 with ⟨rfl, p10⟩ | ⟨rfl, p10⟩
  · refine hret ls _ _ dX5_isWheel_13 (by first | exact Or.inl rfl | exact Or.inr rfl) ?_
    rw [hR.at 0 0 (n := 0) (by decide) rfl] at p10
    first | exact Or.inl ⟨rfl, p10⟩ | exact Or.inr ⟨rfl, p10⟩
  · refine hret ls _ _ dX5_isWheel_13 (by first | exact Or.inl rfl | exact Or.inr rfl) ?_
    rw [hR.at 0 0 (n := 0) (by decide) rfl] at p10
    first | exact Or.inl ⟨rfl, p10⟩ | exact Or.inr ⟨rfl, p10⟩
