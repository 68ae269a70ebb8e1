theorem cv_X5_72 : CV RX5 RX5 72 yX5_change cX5_change 4 (some .int) 2 := ⟨lw_V q1385 q1387 qs33 q88 q1388, by decide +kernel⟩
theorem cv_X5_76 : CV RX5 RX5 76 yX5_error cX5_error 2 (some .int) 1 := ⟨lw_V q1389 q1391 qs34 q88 q1392, by decide +kernel⟩
theorem met_force {l : Launch} {D : va_G} {cA : Nat → ClassId} {b : Nat} {σ : Nat → Nat → Int32} {x v : Int32} {T : Tta} (hT : RT σ T) : MI l D cA b yX5_force cX5_force 3 (some .int) (2) [.ref b, .int x, .int v] σ (fun r τ => r = (op_force x v T).1 ∧ RT τ (op_force x v T).2) := by
  refine Ci.of rfl (by decide +kernel) (Nat.le_of_ble_eq_true rfl) ?_
  intro p e s m args below meth c Q hC hK hP hret ls hl
  have hx := hC.1
  have hb := hC.2.1
  have hown := hC.2.2.2.1
  have hts := hC.2.2.2.2
  have hS : va_S (mA b) s.heap s.heap [] := va_S.rf
  refine lv_iload_n hx hb dX5_force_0 rfl (hl.at rfl) ?_
  refine lv_iconst (v := nI 0) hx hb dX5_force_1 rfl ?_
  refine lv_bipush (v := nI 23) hx hb dX5_force_2 rfl ?_
  refine m_sS hC (met_in ) cs_X5_56 rfl rfl hl.1 (Nat.le_of_ble_eq_true rfl) dX5_force_4 (by decide) (by decide) (fun r4 p4 => ?_)
  rcases p4 with ⟨rfl, p4⟩ | ⟨rfl, p4⟩
  · obtain ⟨k, hk, rfl⟩ := in_nI p4
    refine l_ifeq_1 hx hb 32 dX5_force_7 rfl ?_
    refine lv_iload_n hx hb dX5_force_10 rfl (hl.at rfl) ?_
    refine lv_iconst (v := nI 0) hx hb dX5_force_11 rfl ?_
    refine lv_bipush (v := nI 99) hx hb dX5_force_12 rfl ?_
    refine m_sS hC (met_in ) cs_X5_56 rfl rfl hl.1 (Nat.le_of_ble_eq_true rfl) dX5_force_14 (by decide) (by decide) (fun r14 p14 => ?_)
    rcases p14 with ⟨rfl, p14⟩ | ⟨rfl, p14⟩
    · refine l_ifeq_1 hx hb 32 dX5_force_17 rfl ?_
      refine lv_aload_n hx hb dX5_force_20 rfl (hl.at rfl) ?_
      refine lv_bipush (v := nI 6) hx hb dX5_force_21 rfl ?_
      refine lv_iload_n hx hb dX5_force_23 rfl (hl.at rfl) ?_
      refine l_addN hx hb dX5_force_24 ?_
      refine lv_iload_n hx hb dX5_force_25 rfl (hl.at rfl) ?_
      refine m_iV hC hK hP hS (met_change (i := 1) (j := k) hT.1 rfl (by show k < 24; omega) (by show 6 + k = 6 + 1 * k; omega)) cv_X5_72 rfl rfl hl.1 (Nat.le_of_ble_eq_true rfl) dX5_force_26 (by decide) (by decide) (fun r26 σ26 H locs p26 hP hS => ?_)
      refine lv_goto (tgt := 37) hx hb dX5_force_29 rfl ?_
      refine hret _ _ ls _ _ _ hP hS dX5_force_37 ?_
      first | (rw [op_force, if_pos p4, if_pos p14, cn_nI (by omega)]; exact ⟨p26.1, hT.S p26.2.1 (p26.2.2.mono (by decide))⟩) | (rw [op_force, if_neg p4]; exact p34) | (rw [op_force, if_pos p4, if_neg p14]; exact p34)
    · refine l_ifeq_0 hx hb 32 dX5_force_17 rfl ?_
      refine lv_aload_n hx hb dX5_force_32 rfl (hl.at rfl) ?_
      refine lv_iconst (v := nI 1) hx hb dX5_force_33 rfl ?_
      refine m_iV hC hK hP hS (met_error hT rfl (by decide)) cv_X5_76 rfl rfl hl.1 (Nat.le_of_ble_eq_true rfl) dX5_force_34 (by decide) (by decide) (fun r34 σ34 H locs p34 hP hS => ?_)
      refine hret _ _ ls _ _ _ hP hS dX5_force_37 ?_
      first | (rw [op_force, if_pos p4, if_pos p14, cn_nI (by omega)]; exact ⟨p26.1, hT.S p26.2.1 (p26.2.2.mono (by decide))⟩) | (rw [op_force, if_neg p4]; exact p34) | (rw [op_force, if_pos p4, if_neg p14]; exact p34)
  · refine l_ifeq_0 hx hb 32 dX5_force_7 rfl ?_
    refine lv_aload_n hx hb dX5_force_32 rfl (hl.at rfl) ?_
    refine lv_iconst (v := nI 1) hx hb dX5_force_33 rfl ?_
    refine m_iV hC hK hP hS (met_error hT rfl (by decide)) cv_X5_76 rfl rfl hl.1 (Nat.le_of_ble_eq_true rfl) dX5_force_34 (by decide) (by decide) (fun r34 σ34 H locs p34 hP hS => ?_)
    refine hret _ _ ls _ _ _ hP hS dX5_force_37 ?_
    first | (rw [op_force, if_pos p4, if_pos p14, cn_nI (by omega)]; exact ⟨p26.1, hT.S p26.2.1 (p26.2.2.mono (by decide))⟩) | (rw [op_force, if_neg p4]; exact p34) | (rw [op_force, if_pos p4, if_neg p14]; exact p34)
theorem cs_X5_79 : CS RX5 79 yX5_isPlace cX5_isPlace 1 (some .boolean) 1 := ⟨lw_S q1398 q1399 q88 q1400, by decide +kernel⟩
theorem met_weed {l : Launch} {D : va_G} {cA : Nat → ClassId} {b : Nat} {σ : Nat → Nat → Int32} {x v : Int32} {T : Tta} (hT : RT σ T) : MI l D cA b yX5_weed cX5_weed 3 (some .int) (2) [.ref b, .int x, .int v] σ (fun r τ => r = (op_weed x v T).1 ∧ RT τ (op_weed x v T).2) := by
  refine Ci.of rfl (by decide +kernel) (Nat.le_of_ble_eq_true rfl) ?_
  intro p e s m args below meth c Q hC hK hP hret ls hl
  have hx := hC.1
  have hb := hC.2.1
  have hown := hC.2.2.2.1
  have hts := hC.2.2.2.2
  have hS : va_S (mA b) s.heap s.heap [] := va_S.rf
  refine lv_iload_n hx hb dX5_weed_0 rfl (hl.at rfl) ?_
  refine m_sS hC (met_isPlace ) cs_X5_79 rfl rfl hl.1 (Nat.le_of_ble_eq_true rfl) dX5_weed_1 (by decide) (by decide) (fun r1 p1 => ?_)
  rcases p1 with ⟨rfl, p1⟩ | ⟨rfl, p1⟩
  · obtain ⟨k, hk, rfl⟩ := in_nI p1
    refine l_ifeq_1 hx hb 29 dX5_weed_4 rfl ?_
    refine lv_iload_n hx hb dX5_weed_7 rfl (hl.at rfl) ?_
    refine lv_iconst (v := nI 0) hx hb dX5_weed_8 rfl ?_
    refine lv_bipush (v := nI 9) hx hb dX5_weed_9 rfl ?_
    refine m_sS hC (met_in ) cs_X5_56 rfl rfl hl.1 (Nat.le_of_ble_eq_true rfl) dX5_weed_11 (by decide) (by decide) (fun r11 p11 => ?_)
    rcases p11 with ⟨rfl, p11⟩ | ⟨rfl, p11⟩
    · refine l_ifeq_1 hx hb 29 dX5_weed_14 rfl ?_
      refine lv_aload_n hx hb dX5_weed_17 rfl (hl.at rfl) ?_
      refine lv_bipush (v := nI 30) hx hb dX5_weed_18 rfl ?_
      refine lv_iload_n hx hb dX5_weed_20 rfl (hl.at rfl) ?_
      refine l_addN hx hb dX5_weed_21 ?_
      refine lv_iload_n hx hb dX5_weed_22 rfl (hl.at rfl) ?_
      refine m_iV hC hK hP hS (met_change (i := 2) (j := k) hT.1 rfl (by show k < 12; omega) (by show 30 + k = 30 + 1 * k; omega)) cv_X5_72 rfl rfl hl.1 (Nat.le_of_ble_eq_true rfl) dX5_weed_23 (by decide) (by decide) (fun r23 σ23 H locs p23 hP hS => ?_)
      refine lv_goto (tgt := 34) hx hb dX5_weed_26 rfl ?_
      refine hret _ _ ls _ _ _ hP hS dX5_weed_34 ?_
      first | (rw [op_weed, if_pos p1, if_pos p11, cn_nI (by omega)]; exact ⟨p23.1, hT.S p23.2.1 (p23.2.2.mono (by decide))⟩) | (rw [op_weed, if_neg p1]; exact p31) | (rw [op_weed, if_pos p1, if_neg p11]; exact p31)
    · refine l_ifeq_0 hx hb 29 dX5_weed_14 rfl ?_
      refine lv_aload_n hx hb dX5_weed_29 rfl (hl.at rfl) ?_
      refine lv_iconst (v := nI 1) hx hb dX5_weed_30 rfl ?_
      refine m_iV hC hK hP hS (met_error hT rfl (by decide)) cv_X5_76 rfl rfl hl.1 (Nat.le_of_ble_eq_true rfl) dX5_weed_31 (by decide) (by decide) (fun r31 σ31 H locs p31 hP hS => ?_)
      refine hret _ _ ls _ _ _ hP hS dX5_weed_34 ?_
      first | (rw [op_weed, if_pos p1, if_pos p11, cn_nI (by omega)]; exact ⟨p23.1, hT.S p23.2.1 (p23.2.2.mono (by decide))⟩) | (rw [op_weed, if_neg p1]; exact p31) | (rw [op_weed, if_pos p1, if_neg p11]; exact p31)
  · refine l_ifeq_0 hx hb 29 dX5_weed_4 rfl ?_
    refine lv_aload_n hx hb dX5_weed_29 rfl (hl.at rfl) ?_
    refine lv_iconst (v := nI 1) hx hb dX5_weed_30 rfl ?_
    refine m_iV hC hK hP hS (met_error hT rfl (by decide)) cv_X5_76 rfl rfl hl.1 (Nat.le_of_ble_eq_true rfl) dX5_weed_31 (by decide) (by decide) (fun r31 σ31 H locs p31 hP hS => ?_)
    refine hret _ _ ls _ _ _ hP hS dX5_weed_34 ?_
    first | (rw [op_weed, if_pos p1, if_pos p11, cn_nI (by omega)]; exact ⟨p23.1, hT.S p23.2.1 (p23.2.2.mono (by decide))⟩) | (rw [op_weed, if_neg p1]; exact p31) | (rw [op_weed, if_pos p1, if_neg p11]; exact p31)
theorem cs_X5_83 : CS RX5 83 yX5_isFamily cX5_isFamily 1 (some .boolean) 1 := ⟨lw_S q1409 q1410 q88 q1411, by decide +kernel⟩
theorem met_owe {l : Launch} {D : va_G} {cA : Nat → ClassId} {b : Nat} {σ : Nat → Nat → Int32} {x v : Int32} {T : Tta} (hT : RT σ T) : MI l D cA b yX5_owe cX5_owe 3 (some .int) (2) [.ref b, .int x, .int v] σ (fun r τ => r = (op_owe x v T).1 ∧ RT τ (op_owe x v T).2) := by
  refine Ci.of rfl (by decide +kernel) (Nat.le_of_ble_eq_true rfl) ?_
  intro p e s m args below meth c Q hC hK hP hret ls hl
  have hx := hC.1
  have hb := hC.2.1
  have hown := hC.2.2.2.1
  have hts := hC.2.2.2.2
  have hS : va_S (mA b) s.heap s.heap [] := va_S.rf
  refine lv_iload_n hx hb dX5_owe_0 rfl (hl.at rfl) ?_
  refine m_sS hC (met_isFamily ) cs_X5_83 rfl rfl hl.1 (Nat.le_of_ble_eq_true rfl) dX5_owe_1 (by decide) (by decide) (fun r1 p1 => ?_)
  rcases p1 with ⟨rfl, p1⟩ | ⟨rfl, p1⟩
  · obtain ⟨k, hk, rfl⟩ := in_nI p1
    refine l_ifeq_1 hx hb 31 dX5_owe_4 rfl ?_
    refine lv_iload_n hx hb dX5_owe_7 rfl (hl.at rfl) ?_
    refine lv_iconst (v := nI 0) hx hb dX5_owe_8 rfl ?_
    refine lv_ldc (v := 99999) hx hb hown (hts _ q1412) dX5_owe_9 ?_
    refine m_sS hC (met_in ) cs_X5_56 rfl rfl hl.1 (Nat.le_of_ble_eq_true rfl) dX5_owe_11 (by decide) (by decide) (fun r11 p11 => ?_)
    rcases p11 with ⟨rfl, p11⟩ | ⟨rfl, p11⟩
    · refine l_ifeq_1 hx hb 31 dX5_owe_14 rfl ?_
      refine lv_aload_n hx hb dX5_owe_17 rfl (hl.at rfl) ?_
      refine lv_bipush (v := nI 42) hx hb dX5_owe_18 rfl ?_
      refine lv_iconst (v := nI 2) hx hb dX5_owe_20 rfl ?_
      refine lv_iload_n hx hb dX5_owe_21 rfl (hl.at rfl) ?_
      refine l_mulN hx hb dX5_owe_22 ?_
      refine l_addN hx hb dX5_owe_23 ?_
      refine lv_iload_n hx hb dX5_owe_24 rfl (hl.at rfl) ?_
      refine m_iV hC hK hP hS (met_change (i := 3) (j := k) hT.1 rfl (by show k < 5; omega) rfl) cv_X5_72 rfl rfl hl.1 (Nat.le_of_ble_eq_true rfl) dX5_owe_25 (by decide) (by decide) (fun r25 σ25 H locs p25 hP hS => ?_)
      refine lv_goto (tgt := 36) hx hb dX5_owe_28 rfl ?_
      refine hret _ _ ls _ _ _ hP hS dX5_owe_36 ?_
      first | (rw [op_owe, if_pos p1, if_pos p11, cn_nI (by omega)]; exact ⟨p25.1, hT.S p25.2.1 (p25.2.2.mono (by decide))⟩) | (rw [op_owe, if_neg p1]; exact p33) | (rw [op_owe, if_pos p1, if_neg p11]; exact p33)
    · refine l_ifeq_0 hx hb 31 dX5_owe_14 rfl ?_
      refine lv_aload_n hx hb dX5_owe_31 rfl (hl.at rfl) ?_
      refine lv_iconst (v := nI 1) hx hb dX5_owe_32 rfl ?_
      refine m_iV hC hK hP hS (met_error hT rfl (by decide)) cv_X5_76 rfl rfl hl.1 (Nat.le_of_ble_eq_true rfl) dX5_owe_33 (by decide) (by decide) (fun r33 σ33 H locs p33 hP hS => ?_)
      refine hret _ _ ls _ _ _ hP hS dX5_owe_36 ?_
      first | (rw [op_owe, if_pos p1, if_pos p11, cn_nI (by omega)]; exact ⟨p25.1, hT.S p25.2.1 (p25.2.2.mono (by decide))⟩) | (rw [op_owe, if_neg p1]; exact p33) | (rw [op_owe, if_pos p1, if_neg p11]; exact p33)
  · refine l_ifeq_0 hx hb 31 dX5_owe_4 rfl ?_
    refine lv_aload_n hx hb dX5_owe_31 rfl (hl.at rfl) ?_
    refine lv_iconst (v := nI 1) hx hb dX5_owe_32 rfl ?_
    refine m_iV hC hK hP hS (met_error hT rfl (by decide)) cv_X5_76 rfl rfl hl.1 (Nat.le_of_ble_eq_true rfl) dX5_owe_33 (by decide) (by decide) (fun r33 σ33 H locs p33 hP hS => ?_)
    refine hret _ _ ls _ _ _ hP hS dX5_owe_36 ?_
    first | (rw [op_owe, if_pos p1, if_pos p11, cn_nI (by omega)]; exact ⟨p25.1, hT.S p25.2.1 (p25.2.2.mono (by decide))⟩) | (rw [op_owe, if_neg p1]; exact p33) | (rw [op_owe, if_pos p1, if_neg p11]; exact p33)
theorem met_frost {l : Launch} {D : va_G} {cA : Nat → ClassId} {b : Nat} {σ : Nat → Nat → Int32} {v : Int32} {T : Tta} (hT : RT σ T) : MI l D cA b yX5_frost cX5_frost 2 (some .int) (2) [.ref b, .int v] σ (fun r τ => r = (op_frost v T).1 ∧ RT τ (op_frost v T).2) := by
  refine Ci.of rfl (by decide +kernel) (Nat.le_of_ble_eq_true rfl) ?_
  intro p e s m args below meth c Q hC hK hP hret ls hl
  have hx := hC.1
  have hb := hC.2.1
  have hown := hC.2.2.2.1
  have hts := hC.2.2.2.2
  have hS : va_S (mA b) s.heap s.heap [] := va_S.rf
  refine lv_iload_n hx hb dX5_frost_0 rfl (hl.at rfl) ?_
  refine lv_iconst (v := nI 0) hx hb dX5_frost_1 rfl ?_
  refine lv_bipush (v := nI 9) hx hb dX5_frost_2 rfl ?_
  refine m_sS hC (met_in ) cs_X5_56 rfl rfl hl.1 (Nat.le_of_ble_eq_true rfl) dX5_frost_4 (by decide) (by decide) (fun r4 p4 => ?_)
  rcases p4 with ⟨rfl, p4⟩ | ⟨rfl, p4⟩
  · refine l_ifeq_1 hx hb 19 dX5_frost_7 rfl ?_
    refine lv_aload_n hx hb dX5_frost_10 rfl (hl.at rfl) ?_
    refine lv_iconst (v := nI 2) hx hb dX5_frost_11 rfl ?_
    refine lv_iload_n hx hb dX5_frost_12 rfl (hl.at rfl) ?_
    refine m_iV hC hK hP hS (met_change (i := 0) (j := 2) hT.1 rfl (by decide) rfl) cv_X5_72 rfl rfl hl.1 (Nat.le_of_ble_eq_true rfl) dX5_frost_13 (by decide) (by decide) (fun r13 σ13 H locs p13 hP hS => ?_)
    refine lv_goto (tgt := 24) hx hb dX5_frost_16 rfl ?_
    refine hret _ _ ls _ _ _ hP hS dX5_frost_24 ?_
    first | (rw [op_frost, if_pos p4]; exact ⟨p13.1, hT.S p13.2.1 (p13.2.2.mono (by decide))⟩) | (rw [op_frost, if_neg p4]; exact p21)
  · refine l_ifeq_0 hx hb 19 dX5_frost_7 rfl ?_
    refine lv_aload_n hx hb dX5_frost_19 rfl (hl.at rfl) ?_
    refine lv_iconst (v := nI 1) hx hb dX5_frost_20 rfl ?_
    refine m_iV hC hK hP hS (met_error hT rfl (by decide)) cv_X5_76 rfl rfl hl.1 (Nat.le_of_ble_eq_true rfl) dX5_frost_21 (by decide) (by decide) (fun r21 σ21 H locs p21 hP hS => ?_)
    refine hret _ _ ls _ _ _ hP hS dX5_frost_24 ?_
    first | (rw [op_frost, if_pos p4]; exact ⟨p13.1, hT.S p13.2.1 (p13.2.2.mono (by decide))⟩) | (rw [op_frost, if_neg p4]; exact p21)
theorem met_seed {l : Launch} {D : va_G} {cA : Nat → ClassId} {b : Nat} {σ : Nat → Nat → Int32} {v : Int32} {T : Tta} (hT : RT σ T) : MI l D cA b yX5_seed cX5_seed 2 (some .int) (2) [.ref b, .int v] σ (fun r τ => r = (op_seed v T).1 ∧ RT τ (op_seed v T).2) := by
  refine Ci.of rfl (by decide +kernel) (Nat.le_of_ble_eq_true rfl) ?_
  intro p e s m args below meth c Q hC hK hP hret ls hl
  have hx := hC.1
  have hb := hC.2.1
  have hown := hC.2.2.2.1
  have hts := hC.2.2.2.2
  have hS : va_S (mA b) s.heap s.heap [] := va_S.rf
  refine lv_aload_n hx hb dX5_seed_0 rfl (hl.at rfl) ?_
  refine lv_iconst (v := nI 5) hx hb dX5_seed_1 rfl ?_
  refine lv_iload_n hx hb dX5_seed_2 rfl (hl.at rfl) ?_
  refine m_iV hC hK hP hS (met_change (i := 0) (j := 5) hT.1 rfl (by decide) rfl) cv_X5_72 rfl rfl hl.1 (Nat.le_of_ble_eq_true rfl) dX5_seed_3 (by decide) (by decide) (fun r3 σ3 H locs p3 hP hS => ?_)
  refine hret _ _ ls _ _ _ hP hS dX5_seed_6 ?_
  exact ⟨p3.1, hT.S p3.2.1 (p3.2.2.mono (by decide))⟩
theorem cv_X5_87 : CV RX5 RX5 87 yX5_isPaid cX5_isPaid 2 (some .boolean) 1 := ⟨lw_V q1429 q1431 qs38 q88 q1432, by decide +kernel⟩
theorem cv_X5_90 : CV RX5 RX5 90 yX5_its cX5_its 3 (some .int) 2 := ⟨lw_V q1433 q1435 qs39 q88 q1436, by decide +kernel⟩
theorem met_toldFamily {l : Launch} {D : va_G} {cA : Nat → ClassId} {b : Nat} {σ : Nat → Nat → Int32} {S : Sta} {x q : Int32} {f : Nat} (hR : RM (σ 0) S) (hI : Inv S) (hx1 : x = nI f) (hf : f < 5) : MP l D cA b yX5_toldFamily cX5_toldFamily 5 (some .int) (2) [.ref b, .int x, .int q] σ (fun r => r = sp_told S f q) := by
  refine Cp.of rfl (by decide +kernel) (Nat.le_of_ble_eq_true rfl) ?_
  intro p e s m args below meth c Q hC hK hP hret ls hl
  have hx := hC.1
  have hb := hC.2.1
  have hown := hC.2.2.2.1
  have hts := hC.2.2.2.2
  subst hx1
  obtain ⟨eN, hN⟩ := inv_wh hI
  refine lv_iload_n hx hb dX5_toldFamily_0 rfl (hl.at rfl) ?_
  refine lv_iconst (v := nI 3) hx hb dX5_toldFamily_1 rfl ?_
  refine lv_icmp_ge (tgt := 44) hx hb dX5_toldFamily_2 rfl (fun c2 => ?_) (fun c2 => ?_)
  · refine lv_iconst (v := nI 0) hx hb dX5_toldFamily_44 rfl ?_
    refine l_istore_n hx hb 3 dX5_toldFamily_45 rfl hl rfl (fun ls hl => ?_)
    refine lv_iconst (v := nI 0) hx hb dX5_toldFamily_46 rfl ?_
    refine l_istore hx hb 4 dX5_toldFamily_47 hl rfl (fun ls hl => ?_)
    have loop : ∀ (n k v : Nat), k ≤ wh S → wh S + 1 ≤ k + n → v = wof S f k → ∀ ls : Array Slot, lh ls [some (.ref b), some (.int (nI f)), some (.int q), some (.int (nI v)), some (.int (nI k))] → W p l e (rmG 2 0 0) s m args below meth c s.heap [] 0 0 Q (F0 m 49 ls []) := by
      intro n
      induction n with
      | zero => intro k v h1 h2; exact absurd h2 (by omega)
      | succ n ih =>
        intro k v h1 h2 hv ls hl
        refine lv_iload hx hb dX5_toldFamily_49 (hl.at rfl) ?_
        refine lv_aload_n hx hb dX5_toldFamily_51 rfl (hl.at rfl) ?_
        refine mg_s hC hK hP dX5_toldFamily_52 ?_
        refine lv_iconst (v := nI 0) hx hb dX5_toldFamily_55 rfl ?_
        refine m_ld 0 _ (by decide) hC hK hP (rfl) (show _ < 449 by omega) dX5_toldFamily_56 ?_
        refine l_top _ ((hR.at 0 0 (n := 0) (by decide) rfl).trans eN) ?_
        refine l_geN hx hb 85 dX5_toldFamily_57 rfl (by omega) (by omega) (fun c57 => ?_) (fun c57 => ?_)
        · have e5 : k = wh S := by omega
          rw [e5] at hv
          refine lv_iload_n hx hb dX5_toldFamily_85 rfl (hl.at rfl) ?_
          refine hret ls _ _ dX5_toldFamily_86 ?_
          first | (rw [sp_told, if_pos c2, ← hv]) | (rw [sp_told, if_neg c2, if_pos c6, p11]) | (rw [sp_told, if_neg c2, if_neg c6, if_pos c19, p24]) | (rw [sp_told, if_neg c2, if_neg c6, if_neg c19, if_pos p32]) | (rw [sp_told, if_neg c2, if_neg c6, if_neg c19, if_neg p32])
        · refine lv_iload_n hx hb dX5_toldFamily_60 rfl (hl.at rfl) ?_
          refine lv_aload_n hx hb dX5_toldFamily_61 rfl (hl.at rfl) ?_
          refine lv_iload hx hb dX5_toldFamily_62 (hl.at rfl) ?_
          refine lv_iconst (v := nI 3) hx hb dX5_toldFamily_64 rfl ?_
          refine m_pV hC hK hP (met_its (w := k) (q := 3) hR rfl rfl (by omega) (by decide)) cv_X5_90 rfl rfl hl.1 (Nat.le_of_ble_eq_true rfl) dX5_toldFamily_65 (by decide) (by decide) (fun r65 p65 => ?_)
          refine lv_iload_n hx hb dX5_toldFamily_68 rfl (hl.at rfl) ?_
          refine lv_icmp_ne (tgt := 76) hx hb dX5_toldFamily_69 rfl (fun c69 => ?_) (fun c69 => ?_)
          · refine lv_iconst (v := nI 0) hx hb dX5_toldFamily_76 rfl ?_
            refine l_addN hx hb dX5_toldFamily_77 ?_
            refine l_istore_n hx hb 3 dX5_toldFamily_78 rfl hl rfl (fun ls hl => ?_)
            refine l_inc1 hx hb 4 dX5_toldFamily_79 hl rfl rfl (fun ls hl => ?_)
            refine lv_goto (tgt := 49) hx hb dX5_toldFamily_82 rfl ?_
            first | exact ih (k + 1) _ (by omega) (by omega) (by rw [wof, if_pos (p65.symm.trans c69), hv]) ls hl | exact ih (k + 1) _ (by omega) (by omega) (by rw [wof, if_neg (fun z => c69 (p65.trans z)), hv]) ls hl
          · refine lv_iconst (v := nI 1) hx hb dX5_toldFamily_72 rfl ?_
            refine lv_goto (tgt := 77) hx hb dX5_toldFamily_73 rfl ?_
            refine l_addN hx hb dX5_toldFamily_77 ?_
            refine l_istore_n hx hb 3 dX5_toldFamily_78 rfl hl rfl (fun ls hl => ?_)
            refine l_inc1 hx hb 4 dX5_toldFamily_79 hl rfl rfl (fun ls hl => ?_)
            refine lv_goto (tgt := 49) hx hb dX5_toldFamily_82 rfl ?_
            first | exact ih (k + 1) _ (by omega) (by omega) (by rw [wof, if_pos (p65.symm.trans c69), hv]) ls hl | exact ih (k + 1) _ (by omega) (by omega) (by rw [wof, if_neg (fun z => c69 (p65.trans z)), hv]) ls hl
    exact loop (wh S + 1) 0 0 (Nat.zero_le _) (by omega) rfl ls hl
  · refine lv_iload_n hx hb dX5_toldFamily_5 rfl (hl.at rfl) ?_
    refine lv_if_ne (tgt := 17) hx hb dX5_toldFamily_6 rfl (fun c6 => ?_) (fun c6 => ?_)
    · refine lv_iload_n hx hb dX5_toldFamily_17 rfl (hl.at rfl) ?_
      refine lv_iconst (v := nI 1) hx hb dX5_toldFamily_18 rfl ?_
      refine lv_icmp_ne (tgt := 30) hx hb dX5_toldFamily_19 rfl (fun c19 => ?_) (fun c19 => ?_)
      · refine lv_aload_n hx hb dX5_toldFamily_30 rfl (hl.at rfl) ?_
        refine lv_iload_n hx hb dX5_toldFamily_31 rfl (hl.at rfl) ?_
        refine m_pV hC hK hP (met_isPaid hR rfl hf) cv_X5_87 rfl rfl hl.1 (Nat.le_of_ble_eq_true rfl) dX5_toldFamily_32 (by decide) (by decide) (fun r32 p32 => ?_)
        rcases p32 with ⟨rfl, p32⟩ | ⟨rfl, p32⟩
        · refine l_ifeq_1 hx hb 42 dX5_toldFamily_35 rfl ?_
          refine lv_iconst (v := nI 1) hx hb dX5_toldFamily_38 rfl ?_
          refine lv_goto (tgt := 43) hx hb dX5_toldFamily_39 rfl ?_
          refine hret ls _ _ dX5_toldFamily_43 ?_
          first | (rw [sp_told, if_pos c2, ← hv]) | (rw [sp_told, if_neg c2, if_pos c6, p11]) | (rw [sp_told, if_neg c2, if_neg c6, if_pos c19, p24]) | (rw [sp_told, if_neg c2, if_neg c6, if_neg c19, if_pos p32]) | (rw [sp_told, if_neg c2, if_neg c6, if_neg c19, if_neg p32])
        · refine l_ifeq_0 hx hb 42 dX5_toldFamily_35 rfl ?_
          refine lv_iconst (v := nI 0) hx hb dX5_toldFamily_42 rfl ?_
          refine hret ls _ _ dX5_toldFamily_43 ?_
          first | (rw [sp_told, if_pos c2, ← hv]) | (rw [sp_told, if_neg c2, if_pos c6, p11]) | (rw [sp_told, if_neg c2, if_neg c6, if_pos c19, p24]) | (rw [sp_told, if_neg c2, if_neg c6, if_neg c19, if_pos p32]) | (rw [sp_told, if_neg c2, if_neg c6, if_neg c19, if_neg p32])
      · refine lv_aload_n hx hb dX5_toldFamily_22 rfl (hl.at rfl) ?_
        refine lv_iload_n hx hb dX5_toldFamily_23 rfl (hl.at rfl) ?_
        refine m_pV hC hK hP (met_prayed hR rfl hf) cv_X5_65 rfl rfl hl.1 (Nat.le_of_ble_eq_true rfl) dX5_toldFamily_24 (by decide) (by decide) (fun r24 p24 => ?_)
        refine lv_goto (tgt := 43) hx hb dX5_toldFamily_27 rfl ?_
        refine hret ls _ _ dX5_toldFamily_43 ?_
        first | (rw [sp_told, if_pos c2, ← hv]) | (rw [sp_told, if_neg c2, if_pos c6, p11]) | (rw [sp_told, if_neg c2, if_neg c6, if_pos c19, p24]) | (rw [sp_told, if_neg c2, if_neg c6, if_neg c19, if_pos p32]) | (rw [sp_told, if_neg c2, if_neg c6, if_neg c19, if_neg p32])
    · refine lv_aload_n hx hb dX5_toldFamily_9 rfl (hl.at rfl) ?_
      refine lv_iload_n hx hb dX5_toldFamily_10 rfl (hl.at rfl) ?_
      refine m_pV hC hK hP (met_owed hR rfl hf) cv_X5_69 rfl rfl hl.1 (Nat.le_of_ble_eq_true rfl) dX5_toldFamily_11 (by decide) (by decide) (fun r11 p11 => ?_)
      refine lv_goto (tgt := 43) hx hb dX5_toldFamily_14 rfl ?_
      refine hret ls _ _ dX5_toldFamily_43 ?_
      first | (rw [sp_told, if_pos c2, ← hv]) | (rw [sp_told, if_neg c2, if_pos c6, p11]) | (rw [sp_told, if_neg c2, if_neg c6, if_pos c19, p24]) | (rw [sp_told, if_neg c2, if_neg c6, if_neg c19, if_pos p32]) | (rw [sp_told, if_neg c2, if_neg c6, if_neg c19, if_neg p32])
theorem cv_X5_93 : CV RX5 RX5 93 yX5_toldFamily cX5_toldFamily 5 (some .int) 2 := ⟨lw_V q1417 q1419 qs35 q88 q1420, by decide +kernel⟩
theorem met_familyIs {l : Launch} {D : va_G} {cA : Nat → ClassId} {b : Nat} {σ : Nat → Nat → Int32} {x v : Int32} {T : Tta} (hT : RT σ T) (hI : Inv (T 0)) : MI l D cA b yX5_familyIs cX5_familyIs 3 (some .int) (3) [.ref b, .int x, .int v] σ (fun r τ => r = (op_familyIs x v T).1 ∧ RT τ (op_familyIs x v T).2) := by
  refine Ci.of rfl (by decide +kernel) (Nat.le_of_ble_eq_true rfl) ?_
  intro p e s m args below meth c Q hC hK hP hret ls hl
  have hx := hC.1
  have hb := hC.2.1
  have hown := hC.2.2.2.1
  have hts := hC.2.2.2.2
  have hS : va_S (mA b) s.heap s.heap [] := va_S.rf
  refine lv_iload_n hx hb dX5_familyIs_0 rfl (hl.at rfl) ?_
  refine m_sS hC (met_isFamily ) cs_X5_83 rfl rfl hl.1 (Nat.le_of_ble_eq_true rfl) dX5_familyIs_1 (by decide) (by decide) (fun r1 p1 => ?_)
  rcases p1 with ⟨rfl, p1⟩ | ⟨rfl, p1⟩
  · obtain ⟨k, hk, rfl⟩ := in_nI p1
    refine l_ifeq_1 hx hb 25 dX5_familyIs_4 rfl ?_
    refine lv_iload_n hx hb dX5_familyIs_7 rfl (hl.at rfl) ?_
    refine lv_iconst (v := nI 0) hx hb dX5_familyIs_8 rfl ?_
    refine lv_iconst (v := nI 3) hx hb dX5_familyIs_9 rfl ?_
    refine m_sS hC (met_in ) cs_X5_56 rfl rfl hl.1 (Nat.le_of_ble_eq_true rfl) dX5_familyIs_10 (by decide) (by decide) (fun r10 p10 => ?_)
    rcases p10 with ⟨rfl, p10⟩ | ⟨rfl, p10⟩
    · refine l_ifeq_1 hx hb 25 dX5_familyIs_13 rfl ?_
      refine lv_aload_n hx hb dX5_familyIs_16 rfl (hl.at rfl) ?_
      refine lv_iload_n hx hb dX5_familyIs_17 rfl (hl.at rfl) ?_
      refine lv_iload_n hx hb dX5_familyIs_18 rfl (hl.at rfl) ?_
      refine m_pV hC hK hP (met_toldFamily hT.1 hI rfl (by omega)) cv_X5_93 rfl rfl hl.1 (Nat.le_of_ble_eq_true rfl) dX5_familyIs_19 (by decide) (by decide) (fun r19 p19 => ?_)
      refine lv_goto (tgt := 30) hx hb dX5_familyIs_22 rfl ?_
      refine hret _ _ ls _ _ _ hP hS dX5_familyIs_30 ?_
      first | (rw [op_familyIs, if_pos p1, if_pos p10, cn_nI (by omega)]; exact ⟨p19, hT⟩) | (rw [op_familyIs, if_neg p1]; exact p27) | (rw [op_familyIs, if_pos p1, if_neg p10]; exact p27)
    · refine l_ifeq_0 hx hb 25 dX5_familyIs_13 rfl ?_
      refine lv_aload_n hx hb dX5_familyIs_25 rfl (hl.at rfl) ?_
      refine lv_iconst (v := nI 1) hx hb dX5_familyIs_26 rfl ?_
      refine m_iV hC hK hP hS (met_error hT rfl (by decide)) cv_X5_76 rfl rfl hl.1 (Nat.le_of_ble_eq_true rfl) dX5_familyIs_27 (by decide) (by decide) (fun r27 σ27 H locs p27 hP hS => ?_)
      refine hret _ _ ls _ _ _ hP hS dX5_familyIs_30 ?_
      first | (rw [op_familyIs, if_pos p1, if_pos p10, cn_nI (by omega)]; exact ⟨p19, hT⟩) | (rw [op_familyIs, if_neg p1]; exact p27) | (rw [op_familyIs, if_pos p1, if_neg p10]; exact p27)
  · refine l_ifeq_0 hx hb 25 dX5_familyIs_4 rfl ?_
    refine lv_aload_n hx hb dX5_familyIs_25 rfl (hl.at rfl) ?_
    refine lv_iconst (v := nI 1) hx hb dX5_familyIs_26 rfl ?_
    refine m_iV hC hK hP hS (met_error hT rfl (by decide)) cv_X5_76 rfl rfl hl.1 (Nat.le_of_ble_eq_true rfl) dX5_familyIs_27 (by decide) (by decide) (fun r27 σ27 H locs p27 hP hS => ?_)
    refine hret _ _ ls _ _ _ hP hS dX5_familyIs_30 ?_
    first | (rw [op_familyIs, if_pos p1, if_pos p10, cn_nI (by omega)]; exact ⟨p19, hT⟩) | (rw [op_familyIs, if_neg p1]; exact p27) | (rw [op_familyIs, if_pos p1, if_neg p10]; exact p27)
theorem cv_X5_96 : CV RX5 RX5 96 yX5_lays1 cX5_lays1 4 (none) 3 := ⟨lw_V q1445 q1447 qs41 q88 q1448, by decide +kernel⟩
theorem met_adds {l : Launch} {D : va_G} {cA : Nat → ClassId} {b : Nat} {σ : Nat → Nat → Int32} {S : Sta} {x y : Int32} {a d : Nat} (hR : RM (σ 0) S) (hI : Inv S) (hx1 : x = nI a) (hy1 : y = nI d) (ha : a < 2 ^ 31) (hd : d < 2 ^ 31) (hw : wh S < 8) : MI l D cA b yX5_adds cX5_adds 4 (some .int) (1) [.ref b, .int x, .int y] σ (fun r τ => r = nI (wh S) ∧ RM (τ 0) (sp_adds S a d) ∧ Kp [0] σ τ) := by
  refine Ci.of rfl (by decide +kernel) (Nat.le_of_ble_eq_true rfl) ?_
  intro p e s m args below meth c Q hC hK hP hret ls hl
  have hx := hC.1
  have hb := hC.2.1
  have hown := hC.2.2.2.1
  have hts := hC.2.2.2.2
  have hS : va_S (mA b) s.heap s.heap [] := va_S.rf
  subst hx1; subst hy1
  obtain ⟨eN, hN⟩ := inv_wh hI
  refine lv_aload_n hx hb dX5_adds_0 rfl (hl.at rfl) ?_
  refine mg_s hC hK hP dX5_adds_1 ?_
  refine lv_iconst (v := nI 0) hx hb dX5_adds_4 rfl ?_
  refine m_ld 0 _ (by decide) hC hK hP (rfl) (show _ < 449 by omega) dX5_adds_5 ?_
  refine l_top _ ((hR.at 0 0 (n := 0) (by decide) rfl).trans eN) ?_
  refine l_istore_n hx hb 3 dX5_adds_6 rfl hl rfl (fun ls hl => ?_)
  refine lv_aload_n hx hb dX5_adds_7 rfl (hl.at rfl) ?_
  refine lv_iload_n hx hb dX5_adds_8 rfl (hl.at rfl) ?_
  refine lv_iconst (v := nI 0) hx hb dX5_adds_9 rfl ?_
  refine lv_iload_n hx hb dX5_adds_10 rfl (hl.at rfl) ?_
  refine lv_bipush (v := nI 10) hx hb dX5_adds_11 rfl ?_
  refine l_divN hx hb dX5_adds_13 (by omega) (by decide) (by decide) ?_
  refine m_vV hC hK hP hS (met_lays1 (w := wh S) (q := 0) hR rfl rfl hw (by decide)) cv_X5_96 rfl rfl hl.1 (Nat.le_of_ble_eq_true rfl) dX5_adds_14 (by decide) (by decide) (fun σ14 H locs p14 hP hS => ?_)
  refine lv_aload_n hx hb dX5_adds_17 rfl (hl.at rfl) ?_
  refine lv_iload_n hx hb dX5_adds_18 rfl (hl.at rfl) ?_
  refine lv_iconst (v := nI 1) hx hb dX5_adds_19 rfl ?_
  refine lv_iload_n hx hb dX5_adds_20 rfl (hl.at rfl) ?_
  refine lv_bipush (v := nI 10) hx hb dX5_adds_21 rfl ?_
  refine l_remN hx hb dX5_adds_23 (by omega) (by decide) (by decide) ?_
  refine m_vV hC hK hP hS (met_lays1 (w := wh S) (q := 1) p14.1 rfl rfl hw (by decide)) cv_X5_96 rfl rfl hl.1 (Nat.le_of_ble_eq_true rfl) dX5_adds_24 (by decide) (by decide) (fun σ24 H locs p24 hP hS => ?_)
  refine lv_aload_n hx hb dX5_adds_27 rfl (hl.at rfl) ?_
  refine lv_iload_n hx hb dX5_adds_28 rfl (hl.at rfl) ?_
  refine lv_iconst (v := nI 2) hx hb dX5_adds_29 rfl ?_
  refine lv_iload_n hx hb dX5_adds_30 rfl (hl.at rfl) ?_
  refine lv_bipush (v := nI 10) hx hb dX5_adds_31 rfl ?_
  refine l_divN hx hb dX5_adds_33 (by omega) (by decide) (by decide) ?_
  refine m_vV hC hK hP hS (met_lays1 (w := wh S) (q := 2) p24.1 rfl rfl hw (by decide)) cv_X5_96 rfl rfl hl.1 (Nat.le_of_ble_eq_true rfl) dX5_adds_34 (by decide) (by decide) (fun σ34 H locs p34 hP hS => ?_)
  refine lv_aload_n hx hb dX5_adds_37 rfl (hl.at rfl) ?_
  refine lv_iload_n hx hb dX5_adds_38 rfl (hl.at rfl) ?_
  refine lv_iconst (v := nI 3) hx hb dX5_adds_39 rfl ?_
  refine lv_iload_n hx hb dX5_adds_40 rfl (hl.at rfl) ?_
  refine lv_bipush (v := nI 10) hx hb dX5_adds_41 rfl ?_
  refine l_remN hx hb dX5_adds_43 (by omega) (by decide) (by decide) ?_
  refine m_vV hC hK hP hS (met_lays1 (w := wh S) (q := 3) p34.1 rfl rfl hw (by decide)) cv_X5_96 rfl rfl hl.1 (Nat.le_of_ble_eq_true rfl) dX5_adds_44 (by decide) (by decide) (fun σ44 H locs p44 hP hS => ?_)
  refine lv_aload_n hx hb dX5_adds_47 rfl (hl.at rfl) ?_
  refine lv_iload_n hx hb dX5_adds_48 rfl (hl.at rfl) ?_
  refine lv_iconst (v := nI 4) hx hb dX5_adds_49 rfl ?_
  refine lv_iconst (v := nI 1) hx hb dX5_adds_50 rfl ?_
  refine m_vV hC hK hP hS (met_lays1 (w := wh S) (q := 4) p44.1 rfl rfl hw (by decide)) cv_X5_96 rfl rfl hl.1 (Nat.le_of_ble_eq_true rfl) dX5_adds_51 (by decide) (by decide) (fun σ51 H locs p51 hP hS => ?_)
  refine lv_aload_n hx hb dX5_adds_54 rfl (hl.at rfl) ?_
  refine lv_iload_n hx hb dX5_adds_55 rfl (hl.at rfl) ?_
  refine lv_iconst (v := nI 5) hx hb dX5_adds_56 rfl ?_
  refine lv_iconst (v := nI 0) hx hb dX5_adds_57 rfl ?_
  refine m_vV hC hK hP hS (met_lays1 (w := wh S) (q := 5) p51.1 rfl rfl hw (by decide)) cv_X5_96 rfl rfl hl.1 (Nat.le_of_ble_eq_true rfl) dX5_adds_58 (by decide) (by decide) (fun σ58 H locs p58 hP hS => ?_)
  refine lv_aload_n hx hb dX5_adds_61 rfl (hl.at rfl) ?_
  refine lv_iload_n hx hb dX5_adds_62 rfl (hl.at rfl) ?_
  refine lv_bipush (v := nI 6) hx hb dX5_adds_63 rfl ?_
  refine lv_iconst (v := nI 0) hx hb dX5_adds_65 rfl ?_
  refine m_vV hC hK hP hS (met_lays1 (w := wh S) (q := 6) p58.1 rfl rfl hw (by decide)) cv_X5_96 rfl rfl hl.1 (Nat.le_of_ble_eq_true rfl) dX5_adds_66 (by decide) (by decide) (fun σ66 H locs p66 hP hS => ?_)
  refine lv_aload_n hx hb dX5_adds_69 rfl (hl.at rfl) ?_
  refine mg_s hC hK hP dX5_adds_70 ?_
  refine lv_iconst (v := nI 0) hx hb dX5_adds_73 rfl ?_
  refine lv_dup2_11 hx hb dX5_adds_74 rfl rfl ?_
  refine m_ld 0 _ (by decide) hC hK hP (rfl) (show _ < 449 by omega) dX5_adds_75 ?_
  refine l_top (nI (wh S)) ((p66.1.at 0 0 (n := 0) (by decide) rfl).trans eN) ?_
  refine lv_iconst (v := nI 1) hx hb dX5_adds_76 rfl ?_
  refine l_addN hx hb dX5_adds_77 ?_
  refine m_st 0 _ (by decide) hC hK hP hS (rfl) (show _ < 449 by omega) dX5_adds_78 (fun H locs hP hS => ?_)
  refine lv_iload_n hx hb dX5_adds_79 rfl (hl.at rfl) ?_
  refine hret _ _ ls _ _ _ hP hS dX5_adds_80 ?_
  exact ⟨rfl, by rw [up1_s]; exact p66.1.set (i := 0) (j := 0) (by decide) rfl, ((((((p14.2.tr p24.2).tr p34.2).tr p44.2).tr p51.2).tr p58.2).tr p66.2).up (by decide)⟩
theorem cv_X5_100 : CV RX5 RX5 100 yX5_adds cX5_adds 4 (some .int) 2 := ⟨lw_V q1441 q1443 qs40 q88 q1444, by decide +kernel⟩
theorem met_wheel {l : Launch} {D : va_G} {cA : Nat → ClassId} {b : Nat} {σ : Nat → Nat → Int32} {x v : Int32} {T : Tta} (hT : RT σ T) (hI : Inv (T 0)) : MI l D cA b yX5_wheel cX5_wheel 3 (some .int) (3) [.ref b, .int x, .int v] σ (fun r τ => r = (op_wheel x v T).1 ∧ RT τ (op_wheel x v T).2) := by
  refine Ci.of rfl (by decide +kernel) (Nat.le_of_ble_eq_true rfl) ?_
  intro p e s m args below meth c Q hC hK hP hret ls hl
  have hx := hC.1
  have hb := hC.2.1
  have hown := hC.2.2.2.1
  have hts := hC.2.2.2.2
  have hS : va_S (mA b) s.heap s.heap [] := va_S.rf
  obtain ⟨eN, hN⟩ := inv_wh hI
  refine lv_iload_n hx hb dX5_wheel_0 rfl (hl.at rfl) ?_
  refine lv_iconst (v := nI 0) hx hb dX5_wheel_1 rfl ?_
  refine lv_bipush (v := nI 69) hx hb dX5_wheel_2 rfl ?_
  refine m_sS hC (met_in ) cs_X5_56 rfl rfl hl.1 (Nat.le_of_ble_eq_true rfl) dX5_wheel_4 (by decide) (by decide) (fun r4 p4 => ?_)
  rcases p4 with ⟨rfl, p4⟩ | ⟨rfl, p4⟩
  · obtain ⟨a, ha, rfl⟩ := in_nI p4
    refine l_ifeq_1 hx hb 28 dX5_wheel_7 rfl ?_
    refine lv_iload_n hx hb dX5_wheel_10 rfl (hl.at rfl) ?_
    refine lv_iconst (v := nI 0) hx hb dX5_wheel_11 rfl ?_
    refine lv_bipush (v := nI 114) hx hb dX5_wheel_12 rfl ?_
    refine m_sS hC (met_in ) cs_X5_56 rfl rfl hl.1 (Nat.le_of_ble_eq_true rfl) dX5_wheel_14 (by decide) (by decide) (fun r14 p14 => ?_)
    rcases p14 with ⟨rfl, p14⟩ | ⟨rfl, p14⟩
    · obtain ⟨k, hk, rfl⟩ := in_nI p14
      refine l_ifeq_1 hx hb 28 dX5_wheel_17 rfl ?_
      refine lv_iload_n hx hb dX5_wheel_20 rfl (hl.at rfl) ?_
      refine lv_bipush (v := nI 10) hx hb dX5_wheel_21 rfl ?_
      refine l_remN hx hb dX5_wheel_23 (by omega) (by decide) (by decide) ?_
      refine lv_iconst (v := nI 4) hx hb dX5_wheel_24 rfl ?_
      refine l_leN hx hb 34 dX5_wheel_25 rfl (by omega) (by omega) (fun c25 => ?_) (fun c25 => ?_)
      · refine lv_aload_n hx hb dX5_wheel_34 rfl (hl.at rfl) ?_
        refine mg_s hC hK hP dX5_wheel_35 ?_
        refine lv_iconst (v := nI 0) hx hb dX5_wheel_38 rfl ?_
        refine m_ld 0 _ (by decide) hC hK hP (rfl) (show _ < 449 by omega) dX5_wheel_39 ?_
        refine l_top _ ((hT.1.at 0 0 (n := 0) (by decide) rfl).trans eN) ?_
        refine lv_bipush (v := nI 8) hx hb dX5_wheel_40 rfl ?_
        refine l_neN hx hb 53 dX5_wheel_42 rfl (by omega) (by omega) (fun c42 => ?_) (fun c42 => ?_)
        · refine lv_aload_n hx hb dX5_wheel_53 rfl (hl.at rfl) ?_
          refine lv_iload_n hx hb dX5_wheel_54 rfl (hl.at rfl) ?_
          refine lv_iload_n hx hb dX5_wheel_55 rfl (hl.at rfl) ?_
          refine m_iV hC hK hP hS (met_adds hT.1 hI rfl rfl (by omega) (by omega) (by omega)) cv_X5_100 rfl rfl hl.1 (Nat.le_of_ble_eq_true rfl) dX5_wheel_56 (by decide) (by decide) (fun r56 σ56 H locs p56 hP hS => ?_)
          refine hret _ _ ls _ _ _ hP hS dX5_wheel_59 ?_
          first | (rw [op_wheel, if_pos p4, if_pos p14, if_pos (by rw [cn_nI (by omega)]; exact c25), if_neg (by omega), cn_nI (by omega), cn_nI (by omega)]; exact ⟨p56.1, hT.S p56.2.1 (p56.2.2.mono (by decide))⟩) | (rw [op_wheel, if_neg p4]; exact p30) | (rw [op_wheel, if_pos p4, if_neg p14]; exact p30) | (rw [op_wheel, if_pos p4, if_pos p14, if_neg (by rw [cn_nI (by omega)]; omega)]; exact p30) | (rw [op_wheel, if_pos p4, if_pos p14, if_pos (by rw [cn_nI (by omega)]; exact c25), if_pos c42]; exact p47)
        · refine lv_aload_n hx hb dX5_wheel_45 rfl (hl.at rfl) ?_
          refine lv_iconst (v := nI 4) hx hb dX5_wheel_46 rfl ?_
          refine m_iV hC hK hP hS (met_error hT rfl (by decide)) cv_X5_76 rfl rfl hl.1 (Nat.le_of_ble_eq_true rfl) dX5_wheel_47 (by decide) (by decide) (fun r47 σ47 H locs p47 hP hS => ?_)
          refine lv_goto (tgt := 59) hx hb dX5_wheel_50 rfl ?_
          refine hret _ _ ls _ _ _ hP hS dX5_wheel_59 ?_
          first | (rw [op_wheel, if_pos p4, if_pos p14, if_pos (by rw [cn_nI (by omega)]; exact c25), if_neg (by omega), cn_nI (by omega), cn_nI (by omega)]; exact ⟨p56.1, hT.S p56.2.1 (p56.2.2.mono (by decide))⟩) | (rw [op_wheel, if_neg p4]; exact p30) | (rw [op_wheel, if_pos p4, if_neg p14]; exact p30) | (rw [op_wheel, if_pos p4, if_pos p14, if_neg (by rw [cn_nI (by omega)]; omega)]; exact p30) | (rw [op_wheel, if_pos p4, if_pos p14, if_pos (by rw [cn_nI (by omega)]; exact c25), if_pos c42]; exact p47)
      · refine lv_aload_n hx hb dX5_wheel_28 rfl (hl.at rfl) ?_
        refine lv_iconst (v := nI 1) hx hb dX5_wheel_29 rfl ?_
        refine m_iV hC hK hP hS (met_error hT rfl (by decide)) cv_X5_76 rfl rfl hl.1 (Nat.le_of_ble_eq_true rfl) dX5_wheel_30 (by decide) (by decide) (fun r30 σ30 H locs p30 hP hS => ?_)
        refine hret _ _ ls _ _ _ hP hS dX5_wheel_33 ?_
        first | (rw [op_wheel, if_pos p4, if_pos p14, if_pos (by rw [cn_nI (by omega)]; exact c25), if_neg (by omega), cn_nI (by omega), cn_nI (by omega)]; exact ⟨p56.1, hT.S p56.2.1 (p56.2.2.mono (by decide))⟩) | (rw [op_wheel, if_neg p4]; exact p30) | (rw [op_wheel, if_pos p4, if_neg p14]; exact p30) | (rw [op_wheel, if_pos p4, if_pos p14, if_neg (by rw [cn_nI (by omega)]; omega)]; exact p30) | (rw [op_wheel, if_pos p4, if_pos p14, if_pos (by rw [cn_nI (by omega)]; exact c25), if_pos c42]; exact p47)
    · refine l_ifeq_0 hx hb 28 dX5_wheel_17 rfl ?_
      refine lv_aload_n hx hb dX5_wheel_28 rfl (hl.at rfl) ?_
      refine lv_iconst (v := nI 1) hx hb dX5_wheel_29 rfl ?_
      refine m_iV hC hK hP hS (met_error hT rfl (by decide)) cv_X5_76 rfl rfl hl.1 (Nat.le_of_ble_eq_true rfl) dX5_wheel_30 (by decide) (by decide) (fun r30 σ30 H locs p30 hP hS => ?_)
      refine hret _ _ ls _ _ _ hP hS dX5_wheel_33 ?_
      first | (rw [op_wheel, if_pos p4, if_pos p14, if_pos (by rw [cn_nI (by omega)]; exact c25), if_neg (by omega), cn_nI (by omega), cn_nI (by omega)]; exact ⟨p56.1, hT.S p56.2.1 (p56.2.2.mono (by decide))⟩) | (rw [op_wheel, if_neg p4]; exact p30) | (rw [op_wheel, if_pos p4, if_neg p14]; exact p30) | (rw [op_wheel, if_pos p4, if_pos p14, if_neg (by rw [cn_nI (by omega)]; omega)]; exact p30) | (rw [op_wheel, if_pos p4, if_pos p14, if_pos (by rw [cn_nI (by omega)]; exact c25), if_pos c42]; exact p47)
  · refine l_ifeq_0 hx hb 28 dX5_wheel_7 rfl ?_
    refine lv_aload_n hx hb dX5_wheel_28 rfl (hl.at rfl) ?_
    refine lv_iconst (v := nI 1) hx hb dX5_wheel_29 rfl ?_
    refine m_iV hC hK hP hS (met_error hT rfl (by decide)) cv_X5_76 rfl rfl hl.1 (Nat.le_of_ble_eq_true rfl) dX5_wheel_30 (by decide) (by decide) (fun r30 σ30 H locs p30 hP hS => ?_)
    refine hret _ _ ls _ _ _ hP hS dX5_wheel_33 ?_
    first | (rw [op_wheel, if_pos p4, if_pos p14, if_pos (by rw [cn_nI (by omega)]; exact c25), if_neg (by omega), cn_nI (by omega), cn_nI (by omega)]; exact ⟨p56.1, hT.S p56.2.1 (p56.2.2.mono (by decide))⟩) | (rw [op_wheel, if_neg p4]; exact p30) | (rw [op_wheel, if_pos p4, if_neg p14]; exact p30) | (rw [op_wheel, if_pos p4, if_pos p14, if_neg (by rw [cn_nI (by omega)]; omega)]; exact p30) | (rw [op_wheel, if_pos p4, if_pos p14, if_pos (by rw [cn_nI (by omega)]; exact c25), if_pos c42]; exact p47)
theorem met_isUnder {l : Launch} {o k : Int32} : Cp l (fun _ => True) yX5_isUnder cX5_isUnder 2 (some .boolean) (0) [.int o, .int k] (fun _ => True) (bz (k = 0 ∨ o = k ∨ (k = nI 1 ∧ o = nI 4) ∨ (k = nI 3 ∧ o = nI 5))) := by
  refine Cp.ofz rfl (by decide +kernel) (Nat.le_of_ble_eq_true rfl) ?_
  intro p e s m args below meth c Q hC hK hP hret ls hl
  have hx := hC.1
  have hb := hC.2.1
  have hown := hC.2.2.2.1
  have hts := hC.2.2.2.2
  refine lv_iload_n hx hb dX5_isUnder_0 rfl (hl.at rfl) ?_
  refine lv_if_eq (tgt := 29) hx hb dX5_isUnder_1 rfl (fun c1 => ?_) (fun c1 => ?_)
  · refine lv_iconst (v := nI 1) hx hb dX5_isUnder_29 rfl ?_
    refine lv_goto (tgt := 34) hx hb dX5_isUnder_30 rfl ?_
    refine hret ls _ _ dX5_isUnder_34 (by first | exact Or.inl rfl | exact Or.inr rfl) ?_
    first | (exact Or.inl ⟨rfl, Or.inl c1⟩) | (exact Or.inl ⟨rfl, Or.inr (Or.inl c6)⟩) | (exact Or.inl ⟨rfl, Or.inr (Or.inr (Or.inl ⟨c11, c16⟩))⟩) | (exact Or.inl ⟨rfl, Or.inr (Or.inr (Or.inr ⟨c21, c26⟩))⟩) | (exact Or.inr ⟨rfl, fun z => by rcases z with z | z | ⟨z, y⟩ | ⟨z, y⟩ <;> first | exact c1 z | exact c6 z | exact c11 z | exact c16 y | exact c21 z | exact c26 y⟩)
  · refine lv_iload_n hx hb dX5_isUnder_4 rfl (hl.at rfl) ?_
    refine lv_iload_n hx hb dX5_isUnder_5 rfl (hl.at rfl) ?_
    refine lv_icmp_eq (tgt := 29) hx hb dX5_isUnder_6 rfl (fun c6 => ?_) (fun c6 => ?_)
    · refine lv_iconst (v := nI 1) hx hb dX5_isUnder_29 rfl ?_
      refine lv_goto (tgt := 34) hx hb dX5_isUnder_30 rfl ?_
      refine hret ls _ _ dX5_isUnder_34 (by first | exact Or.inl rfl | exact Or.inr rfl) ?_
      first | (exact Or.inl ⟨rfl, Or.inl c1⟩) | (exact Or.inl ⟨rfl, Or.inr (Or.inl c6)⟩) | (exact Or.inl ⟨rfl, Or.inr (Or.inr (Or.inl ⟨c11, c16⟩))⟩) | (exact Or.inl ⟨rfl, Or.inr (Or.inr (Or.inr ⟨c21, c26⟩))⟩) | (exact Or.inr ⟨rfl, fun z => by rcases z with z | z | ⟨z, y⟩ | ⟨z, y⟩ <;> first | exact c1 z | exact c6 z | exact c11 z | exact c16 y | exact c21 z | exact c26 y⟩)
    · refine lv_iload_n hx hb dX5_isUnder_9 rfl (hl.at rfl) ?_
      refine lv_iconst (v := nI 1) hx hb dX5_isUnder_10 rfl ?_
      refine lv_icmp_ne (tgt := 19) hx hb dX5_isUnder_11 rfl (fun c11 => ?_) (fun c11 => ?_)
      · refine lv_iload_n hx hb dX5_isUnder_19 rfl (hl.at rfl) ?_
        refine lv_iconst (v := nI 3) hx hb dX5_isUnder_20 rfl ?_
        refine lv_icmp_ne (tgt := 33) hx hb dX5_isUnder_21 rfl (fun c21 => ?_) (fun c21 => ?_)
        · refine lv_iconst (v := nI 0) hx hb dX5_isUnder_33 rfl ?_
          refine hret ls _ _ dX5_isUnder_34 (by first | exact Or.inl rfl | exact Or.inr rfl) ?_
          first | (exact Or.inl ⟨rfl, Or.inl c1⟩) | (exact Or.inl ⟨rfl, Or.inr (Or.inl c6)⟩) | (exact Or.inl ⟨rfl, Or.inr (Or.inr (Or.inl ⟨c11, c16⟩))⟩) | (exact Or.inl ⟨rfl, Or.inr (Or.inr (Or.inr ⟨c21, c26⟩))⟩) | (exact Or.inr ⟨rfl, fun z => by rcases z with z | z | ⟨z, y⟩ | ⟨z, y⟩ <;> first | exact c1 z | exact c6 z | exact c11 z | exact c16 y | exact c21 z | exact c26 y⟩)
        · refine lv_iload_n hx hb dX5_isUnder_24 rfl (hl.at rfl) ?_
          refine lv_iconst (v := nI 5) hx hb dX5_isUnder_25 rfl ?_
          refine lv_icmp_ne (tgt := 33) hx hb dX5_isUnder_26 rfl (fun c26 => ?_) (fun c26 => ?_)
          · refine lv_iconst (v := nI 0) hx hb dX5_isUnder_33 rfl ?_
            refine hret ls _ _ dX5_isUnder_34 (by first | exact Or.inl rfl | exact Or.inr rfl) ?_
            first | (exact Or.inl ⟨rfl, Or.inl c1⟩) | (exact Or.inl ⟨rfl, Or.inr (Or.inl c6)⟩) | (exact Or.inl ⟨rfl, Or.inr (Or.inr (Or.inl ⟨c11, c16⟩))⟩) | (exact Or.inl ⟨rfl, Or.inr (Or.inr (Or.inr ⟨c21, c26⟩))⟩) | (exact Or.inr ⟨rfl, fun z => by rcases z with z | z | ⟨z, y⟩ | ⟨z, y⟩ <;> first | exact c1 z | exact c6 z | exact c11 z | exact c16 y | exact c21 z | exact c26 y⟩)
          · refine lv_iconst (v := nI 1) hx hb dX5_isUnder_29 rfl ?_
            refine lv_goto (tgt := 34) hx hb dX5_isUnder_30 rfl ?_
            refine hret ls _ _ dX5_isUnder_34 (by first | exact Or.inl rfl | exact Or.inr rfl) ?_
            first | (exact Or.inl ⟨rfl, Or.inl c1⟩) | (exact Or.inl ⟨rfl, Or.inr (Or.inl c6)⟩) | (exact Or.inl ⟨rfl, Or.inr (Or.inr (Or.inl ⟨c11, c16⟩))⟩) | (exact Or.inl ⟨rfl, Or.inr (Or.inr (Or.inr ⟨c21, c26⟩))⟩) | (exact Or.inr ⟨rfl, fun z => by rcases z with z | z | ⟨z, y⟩ | ⟨z, y⟩ <;> first | exact c1 z | exact c6 z | exact c11 z | exact c16 y | exact c21 z | exact c26 y⟩)
      · refine lv_iload_n hx hb dX5_isUnder_14 rfl (hl.at rfl) ?_
        refine lv_iconst (v := nI 4) hx hb dX5_isUnder_15 rfl ?_
        refine lv_icmp_eq (tgt := 29) hx hb dX5_isUnder_16 rfl (fun c16 => ?_) (fun c16 => ?_)
        · refine lv_iconst (v := nI 1) hx hb dX5_isUnder_29 rfl ?_
          refine lv_goto (tgt := 34) hx hb dX5_isUnder_30 rfl ?_
          refine hret ls _ _ dX5_isUnder_34 (by first | exact Or.inl rfl | exact Or.inr rfl) ?_
          first | (exact Or.inl ⟨rfl, Or.inl c1⟩) | (exact Or.inl ⟨rfl, Or.inr (Or.inl c6)⟩) | (exact Or.inl ⟨rfl, Or.inr (Or.inr (Or.inl ⟨c11, c16⟩))⟩) | (exact Or.inl ⟨rfl, Or.inr (Or.inr (Or.inr ⟨c21, c26⟩))⟩) | (exact Or.inr ⟨rfl, fun z => by rcases z with z | z | ⟨z, y⟩ | ⟨z, y⟩ <;> first | exact c1 z | exact c6 z | exact c11 z | exact c16 y | exact c21 z | exact c26 y⟩)
        · refine lv_iload_n hx hb dX5_isUnder_19 rfl (hl.at rfl) ?_
          refine lv_iconst (v := nI 3) hx hb dX5_isUnder_20 rfl ?_
          refine lv_icmp_ne (tgt := 33) hx hb dX5_isUnder_21 rfl (fun c21 => ?_) (fun c21 => ?_)
          · refine lv_iconst (v := nI 0) hx hb dX5_isUnder_33 rfl ?_
            refine hret ls _ _ dX5_isUnder_34 (by first | exact Or.inl rfl | exact Or.inr rfl) ?_
            first | (exact Or.inl ⟨rfl, Or.inl c1⟩) | (exact Or.inl ⟨rfl, Or.inr (Or.inl c6)⟩) | (exact Or.inl ⟨rfl, Or.inr (Or.inr (Or.inl ⟨c11, c16⟩))⟩) | (exact Or.inl ⟨rfl, Or.inr (Or.inr (Or.inr ⟨c21, c26⟩))⟩) | (exact Or.inr ⟨rfl, fun z => by rcases z with z | z | ⟨z, y⟩ | ⟨z, y⟩ <;> first | exact c1 z | exact c6 z | exact c11 z | exact c16 y | exact c21 z | exact c26 y⟩)
          · refine lv_iload_n hx hb dX5_isUnder_24 rfl (hl.at rfl) ?_
            refine lv_iconst (v := nI 5) hx hb dX5_isUnder_25 rfl ?_
            refine lv_icmp_ne (tgt := 33) hx hb dX5_isUnder_26 rfl (fun c26 => ?_) (fun c26 => ?_)
            · refine lv_iconst (v := nI 0) hx hb dX5_isUnder_33 rfl ?_
              refine hret ls _ _ dX5_isUnder_34 (by first | exact Or.inl rfl | exact Or.inr rfl) ?_
              first | (exact Or.inl ⟨rfl, Or.inl c1⟩) | (exact Or.inl ⟨rfl, Or.inr (Or.inl c6)⟩) | (exact Or.inl ⟨rfl, Or.inr (Or.inr (Or.inl ⟨c11, c16⟩))⟩) | (exact Or.inl ⟨rfl, Or.inr (Or.inr (Or.inr ⟨c21, c26⟩))⟩) | (exact Or.inr ⟨rfl, fun z => by rcases z with z | z | ⟨z, y⟩ | ⟨z, y⟩ <;> first | exact c1 z | exact c6 z | exact c11 z | exact c16 y | exact c21 z | exact c26 y⟩)
            · refine lv_iconst (v := nI 1) hx hb dX5_isUnder_29 rfl ?_
              refine lv_goto (tgt := 34) hx hb dX5_isUnder_30 rfl ?_
              refine hret ls _ _ dX5_isUnder_34 (by first | exact Or.inl rfl | exact Or.inr rfl) ?_
              first | (exact Or.inl ⟨rfl, Or.inl c1⟩) | (exact Or.inl ⟨rfl, Or.inr (Or.inl c6)⟩) | (exact Or.inl ⟨rfl, Or.inr (Or.inr (Or.inl ⟨c11, c16⟩))⟩) | (exact Or.inl ⟨rfl, Or.inr (Or.inr (Or.inr ⟨c21, c26⟩))⟩) | (exact Or.inr ⟨rfl, fun z => by rcases z with z | z | ⟨z, y⟩ | ⟨z, y⟩ <;> first | exact c1 z | exact c6 z | exact c11 z | exact c16 y | exact c21 z | exact c26 y⟩)
theorem cv_X5_112 : CV RX5 RX5 112 yX5_isWheel cX5_isWheel 2 (some .boolean) 1 := ⟨lw_V q1453 q1455 qs42 q88 q1456, by decide +kernel⟩
theorem cs_X5_118 : CS RX5 118 yX5_isUnder cX5_isUnder 2 (some .boolean) 2 := ⟨lw_S q1511 q1512 q88 q1513, by decide +kernel⟩
theorem met_as {l : Launch} {D : va_G} {cA : Nat → ClassId} {b : Nat} {σ : Nat → Nat → Int32} {x v : Int32} {T : Tta} (hT : RT σ T) (hI : Inv (T 0)) : MI l D cA b yX5_as cX5_as 3 (some .int) (2) [.ref b, .int x, .int v] σ (fun r τ => r = (op_as x v T).1 ∧ RT τ (op_as x v T).2) := by
  refine Ci.of rfl (by decide +kernel) (Nat.le_of_ble_eq_true rfl) ?_
  intro p e s m args below meth c Q hC hK hP hret ls hl
  have hx := hC.1
  have hb := hC.2.1
  have hown := hC.2.2.2.1
  have hts := hC.2.2.2.2
  have hS : va_S (mA b) s.heap s.heap [] := va_S.rf
  obtain ⟨eN, hN⟩ := inv_wh hI
  refine lv_aload_n hx hb dX5_as_0 rfl (hl.at rfl) ?_
  refine lv_iload_n hx hb dX5_as_1 rfl (hl.at rfl) ?_
  refine m_pV hC hK hP (met_isWheel (S := T 0) hT.1) cv_X5_112 rfl rfl hl.1 (Nat.le_of_ble_eq_true rfl) dX5_as_2 (by decide) (by decide) (fun r2 p2 => ?_)
  rcases p2 with ⟨rfl, p2⟩ | ⟨rfl, p2⟩
  · obtain ⟨w, hw, rfl⟩ := isWh_of hI p2
    refine l_ifeq_1 hx hb 18 dX5_as_5 rfl ?_
    refine lv_iload_n hx hb dX5_as_8 rfl (hl.at rfl) ?_
    refine lv_iconst (v := nI 0) hx hb dX5_as_9 rfl ?_
    refine lv_bipush (v := nI 6) hx hb dX5_as_10 rfl ?_
    refine m_sS hC (met_in ) cs_X5_56 rfl rfl hl.1 (Nat.le_of_ble_eq_true rfl) dX5_as_12 (by decide) (by decide) (fun r12 p12 => ?_)
    rcases p12 with ⟨rfl, p12⟩ | ⟨rfl, p12⟩
    · refine l_ifne_1 hx hb 24 dX5_as_15 rfl ?_
      refine lv_aload_n hx hb dX5_as_24 rfl (hl.at rfl) ?_
      refine lv_iload_n hx hb dX5_as_25 rfl (hl.at rfl) ?_
      refine lv_iconst (v := nI 0) hx hb dX5_as_26 rfl ?_
      refine m_pV hC hK hP (met_its (S := T 0) (w := w) (q := 0) hT.1 rfl rfl (by omega) (by decide)) cv_X5_90 rfl rfl hl.1 (Nat.le_of_ble_eq_true rfl) dX5_as_27 (by decide) (by decide) (fun r27 p27 => ?_)
      refine lv_iload_n hx hb dX5_as_30 rfl (hl.at rfl) ?_
      refine m_sS hC (met_isUnder ) cs_X5_118 rfl rfl hl.1 (Nat.le_of_ble_eq_true rfl) dX5_as_31 (by decide) (by decide) (fun r31 p31 => ?_)
      rcases p31 with ⟨rfl, p31⟩ | ⟨rfl, p31⟩
      · refine l_ifeq_1 hx hb 46 dX5_as_34 rfl ?_
        refine lv_aload_n hx hb dX5_as_37 rfl (hl.at rfl) ?_
        refine lv_iload_n hx hb dX5_as_38 rfl (hl.at rfl) ?_
        refine lv_iconst (v := nI 5) hx hb dX5_as_39 rfl ?_
        refine m_pV hC hK hP (met_its (S := T 0) (w := w) (q := 5) hT.1 rfl rfl (by omega) (by decide)) cv_X5_90 rfl rfl hl.1 (Nat.le_of_ble_eq_true rfl) dX5_as_40 (by decide) (by decide) (fun r40 p40 => ?_)
        refine lv_goto (tgt := 51) hx hb dX5_as_43 rfl ?_
        refine hret _ _ ls _ _ _ hP hS dX5_as_51 ?_
        first | (rw [op_as, if_pos p2, if_pos p12, cn_nI (by omega), if_pos (by rw [← p27]; exact p31)]; exact ⟨p40, hT⟩) | (rw [op_as, if_pos p2, if_pos p12, cn_nI (by omega), if_neg (by rw [← p27]; exact p31)]; exact p48) | (rw [op_as, if_neg p2]; exact p20) | (rw [op_as, if_pos p2, if_neg p12]; exact p20)
      · refine l_ifeq_0 hx hb 46 dX5_as_34 rfl ?_
        refine lv_aload_n hx hb dX5_as_46 rfl (hl.at rfl) ?_
        refine lv_iconst (v := nI 5) hx hb dX5_as_47 rfl ?_
        refine m_iV hC hK hP hS (met_error hT rfl (by decide)) cv_X5_76 rfl rfl hl.1 (Nat.le_of_ble_eq_true rfl) dX5_as_48 (by decide) (by decide) (fun r48 σ48 H locs p48 hP hS => ?_)
        refine hret _ _ ls _ _ _ hP hS dX5_as_51 ?_
        first | (rw [op_as, if_pos p2, if_pos p12, cn_nI (by omega), if_pos (by rw [← p27]; exact p31)]; exact ⟨p40, hT⟩) | (rw [op_as, if_pos p2, if_pos p12, cn_nI (by omega), if_neg (by rw [← p27]; exact p31)]; exact p48) | (rw [op_as, if_neg p2]; exact p20) | (rw [op_as, if_pos p2, if_neg p12]; exact p20)
    · refine l_ifne_0 hx hb 24 dX5_as_15 rfl ?_
      refine lv_aload_n hx hb dX5_as_18 rfl (hl.at rfl) ?_
      refine lv_iconst (v := nI 1) hx hb dX5_as_19 rfl ?_
      refine m_iV hC hK hP hS (met_error hT rfl (by decide)) cv_X5_76 rfl rfl hl.1 (Nat.le_of_ble_eq_true rfl) dX5_as_20 (by decide) (by decide) (fun r20 σ20 H locs p20 hP hS => ?_)
      refine hret _ _ ls _ _ _ hP hS dX5_as_23 ?_
      first | (rw [op_as, if_pos p2, if_pos p12, cn_nI (by omega), if_pos (by rw [← p27]; exact p31)]; exact ⟨p40, hT⟩) | (rw [op_as, if_pos p2, if_pos p12, cn_nI (by omega), if_neg (by rw [← p27]; exact p31)]; exact p48) | (rw [op_as, if_neg p2]; exact p20) | (rw [op_as, if_pos p2, if_neg p12]; exact p20)
  · refine l_ifeq_0 hx hb 18 dX5_as_5 rfl ?_
    refine lv_aload_n hx hb dX5_as_18 rfl (hl.at rfl) ?_
    refine lv_iconst (v := nI 1) hx hb dX5_as_19 rfl ?_
    refine m_iV hC hK hP hS (met_error hT rfl (by decide)) cv_X5_76 rfl rfl hl.1 (Nat.le_of_ble_eq_true rfl) dX5_as_20 (by decide) (by decide) (fun r20 σ20 H locs p20 hP hS => ?_)
    refine hret _ _ ls _ _ _ hP hS dX5_as_23 ?_
    first | (rw [op_as, if_pos p2, if_pos p12, cn_nI (by omega), if_pos (by rw [← p27]; exact p31)]; exact ⟨p40, hT⟩) | (rw [op_as, if_pos p2, if_pos p12, cn_nI (by omega), if_neg (by rw [← p27]; exact p31)]; exact p48) | (rw [op_as, if_neg p2]; exact p20) | (rw [op_as, if_pos p2, if_neg p12]; exact p20)
theorem met_most {l : Launch} {q : Int32} : Cp l (fun _ => True) yX5_most cX5_most 1 (some .int) (0) [.int q] (fun _ => True) (fun r => r = sp_most q) := by
  refine Cp.of rfl (by decide +kernel) (Nat.le_of_ble_eq_true rfl) ?_
  intro p e s m args below meth c Q hC hK hP hret ls hl
  have hx := hC.1
  have hb := hC.2.1
  have hown := hC.2.2.2.1
  have hts := hC.2.2.2.2
  refine lv_iload_n hx hb dX5_most_0 rfl (hl.at rfl) ?_
  refine lv_if_ne (tgt := 9) hx hb dX5_most_1 rfl (fun c1 => ?_) (fun c1 => ?_)
  · refine lv_iload_n hx hb dX5_most_9 rfl (hl.at rfl) ?_
    refine lv_iconst (v := nI 1) hx hb dX5_most_10 rfl ?_
    refine lv_icmp_ne (tgt := 19) hx hb dX5_most_11 rfl (fun c11 => ?_) (fun c11 => ?_)
    · refine lv_iload_n hx hb dX5_most_19 rfl (hl.at rfl) ?_
      refine lv_iconst (v := nI 2) hx hb dX5_most_20 rfl ?_
      refine lv_icmp_ne (tgt := 29) hx hb dX5_most_21 rfl (fun c21 => ?_) (fun c21 => ?_)
      · refine lv_iload_n hx hb dX5_most_29 rfl (hl.at rfl) ?_
        refine lv_iconst (v := nI 3) hx hb dX5_most_30 rfl ?_
        refine lv_icmp_ne (tgt := 38) hx hb dX5_most_31 rfl (fun c31 => ?_) (fun c31 => ?_)
        · refine lv_iload_n hx hb dX5_most_38 rfl (hl.at rfl) ?_
          refine lv_iconst (v := nI 4) hx hb dX5_most_39 rfl ?_
          refine lv_icmp_ne (tgt := 47) hx hb dX5_most_40 rfl (fun c40 => ?_) (fun c40 => ?_)
          · refine lv_ldc (v := 999999) hx hb hown (hts _ q1521) dX5_most_47 ?_
            refine hret ls _ _ dX5_most_49 ?_
            first | (rw [sp_most, if_pos c1]; done) | (rw [sp_most, if_neg c1, if_pos c11]; done) | (rw [sp_most, if_neg c1, if_neg c11, if_pos c21]; done) | (rw [sp_most, if_neg c1, if_neg c11, if_neg c21, if_pos c31]; done) | (rw [sp_most, if_neg c1, if_neg c11, if_neg c21, if_neg c31, if_pos c40]; done) | (rw [sp_most, if_neg c1, if_neg c11, if_neg c21, if_neg c31, if_neg c40]; done)
          · refine lv_iconst (v := nI 1) hx hb dX5_most_43 rfl ?_
            refine lv_goto (tgt := 49) hx hb dX5_most_44 rfl ?_
            refine hret ls _ _ dX5_most_49 ?_
            first | (rw [sp_most, if_pos c1]; done) | (rw [sp_most, if_neg c1, if_pos c11]; done) | (rw [sp_most, if_neg c1, if_neg c11, if_pos c21]; done) | (rw [sp_most, if_neg c1, if_neg c11, if_neg c21, if_pos c31]; done) | (rw [sp_most, if_neg c1, if_neg c11, if_neg c21, if_neg c31, if_pos c40]; done) | (rw [sp_most, if_neg c1, if_neg c11, if_neg c21, if_neg c31, if_neg c40]; done)
        · refine lv_iconst (v := nI 4) hx hb dX5_most_34 rfl ?_
          refine lv_goto (tgt := 49) hx hb dX5_most_35 rfl ?_
          refine hret ls _ _ dX5_most_49 ?_
          first | (rw [sp_most, if_pos c1]; done) | (rw [sp_most, if_neg c1, if_pos c11]; done) | (rw [sp_most, if_neg c1, if_neg c11, if_pos c21]; done) | (rw [sp_most, if_neg c1, if_neg c11, if_neg c21, if_pos c31]; done) | (rw [sp_most, if_neg c1, if_neg c11, if_neg c21, if_neg c31, if_pos c40]; done) | (rw [sp_most, if_neg c1, if_neg c11, if_neg c21, if_neg c31, if_neg c40]; done)
      · refine lv_bipush (v := nI 11) hx hb dX5_most_24 rfl ?_
        refine lv_goto (tgt := 49) hx hb dX5_most_26 rfl ?_
        refine hret ls _ _ dX5_most_49 ?_
        first | (rw [sp_most, if_pos c1]; done) | (rw [sp_most, if_neg c1, if_pos c11]; done) | (rw [sp_most, if_neg c1, if_neg c11, if_pos c21]; done) | (rw [sp_most, if_neg c1, if_neg c11, if_neg c21, if_pos c31]; done) | (rw [sp_most, if_neg c1, if_neg c11, if_neg c21, if_neg c31, if_pos c40]; done) | (rw [sp_most, if_neg c1, if_neg c11, if_neg c21, if_neg c31, if_neg c40]; done)
    · refine lv_bipush (v := nI 9) hx hb dX5_most_14 rfl ?_
      refine lv_goto (tgt := 49) hx hb dX5_most_16 rfl ?_
      refine hret ls _ _ dX5_most_49 ?_
      first | (rw [sp_most, if_pos c1]; done) | (rw [sp_most, if_neg c1, if_pos c11]; done) | (rw [sp_most, if_neg c1, if_neg c11, if_pos c21]; done) | (rw [sp_most, if_neg c1, if_neg c11, if_neg c21, if_pos c31]; done) | (rw [sp_most, if_neg c1, if_neg c11, if_neg c21, if_neg c31, if_pos c40]; done) | (rw [sp_most, if_neg c1, if_neg c11, if_neg c21, if_neg c31, if_neg c40]; done)
  · refine lv_bipush (v := nI 6) hx hb dX5_most_4 rfl ?_
    refine lv_goto (tgt := 49) hx hb dX5_most_6 rfl ?_
    refine hret ls _ _ dX5_most_49 ?_
    first | (rw [sp_most, if_pos c1]; done) | (rw [sp_most, if_neg c1, if_pos c11]; done) | (rw [sp_most, if_neg c1, if_neg c11, if_pos c21]; done) | (rw [sp_most, if_neg c1, if_neg c11, if_neg c21, if_pos c31]; done) | (rw [sp_most, if_neg c1, if_neg c11, if_neg c21, if_neg c31, if_pos c40]; done) | (rw [sp_most, if_neg c1, if_neg c11, if_neg c21, if_neg c31, if_neg c40]; done)
theorem cs_X5_122 : CS RX5 122 yX5_most cX5_most 1 (some .int) 1 := ⟨lw_S q1518 q1519 q88 q1520, by decide +kernel⟩
theorem met_set {l : Launch} {D : va_G} {cA : Nat → ClassId} {b : Nat} {σ : Nat → Nat → Int32} {x q v : Int32} {T : Tta} (hT : RT σ T) (hI : Inv (T 0)) : MI l D cA b yX5_set cX5_set 4 (some .int) (2) [.ref b, .int x, .int q, .int v] σ (fun r τ => r = (op_set x q v T).1 ∧ RT τ (op_set x q v T).2) := by
  refine Ci.of rfl (by decide +kernel) (Nat.le_of_ble_eq_true rfl) ?_
  intro p e s m args below meth c Q hC hK hP hret ls hl
  have hx := hC.1
  have hb := hC.2.1
  have hown := hC.2.2.2.1
  have hts := hC.2.2.2.2
  have hS : va_S (mA b) s.heap s.heap [] := va_S.rf
  obtain ⟨eN, hN⟩ := inv_wh hI
  refine lv_aload_n hx hb dX5_set_0 rfl (hl.at rfl) ?_
  refine lv_iload_n hx hb dX5_set_1 rfl (hl.at rfl) ?_
  refine m_pV hC hK hP (met_isWheel (S := T 0) hT.1) cv_X5_112 rfl rfl hl.1 (Nat.le_of_ble_eq_true rfl) dX5_set_2 (by decide) (by decide) (fun r2 p2 => ?_)
  rcases p2 with ⟨rfl, p2⟩ | ⟨rfl, p2⟩
  · obtain ⟨w, hw, rfl⟩ := isWh_of hI p2
    refine l_ifeq_1 hx hb 29 dX5_set_5 rfl ?_
    refine lv_iload_n hx hb dX5_set_8 rfl (hl.at rfl) ?_
    refine lv_iconst (v := nI 0) hx hb dX5_set_9 rfl ?_
    refine lv_iconst (v := nI 5) hx hb dX5_set_10 rfl ?_
    refine m_sS hC (met_in ) cs_X5_56 rfl rfl hl.1 (Nat.le_of_ble_eq_true rfl) dX5_set_11 (by decide) (by decide) (fun r11 p11 => ?_)
    rcases p11 with ⟨rfl, p11⟩ | ⟨rfl, p11⟩
    · obtain ⟨k, hk, rfl⟩ := in_nI p11
      refine l_ifeq_1 hx hb 29 dX5_set_14 rfl ?_
      refine lv_iload_n hx hb dX5_set_17 rfl (hl.at rfl) ?_
      refine lv_iconst (v := nI 0) hx hb dX5_set_18 rfl ?_
      refine lv_iload_n hx hb dX5_set_19 rfl (hl.at rfl) ?_
      refine m_sS hC (met_most ) cs_X5_122 rfl rfl hl.1 (Nat.le_of_ble_eq_true rfl) dX5_set_20 (by decide) (by decide) (fun r20 p20 => ?_)
      refine m_sS hC (met_in ) cs_X5_56 rfl rfl hl.1 (Nat.le_of_ble_eq_true rfl) dX5_set_23 (by decide) (by decide) (fun r23 p23 => ?_)
      rcases p23 with ⟨rfl, p23⟩ | ⟨rfl, p23⟩
      · refine l_ifne_1 hx hb 35 dX5_set_26 rfl ?_
        refine lv_aload_n hx hb dX5_set_35 rfl (hl.at rfl) ?_
        refine lv_bipush (v := nI 52) hx hb dX5_set_36 rfl ?_
        refine lv_bipush (v := nI 7) hx hb dX5_set_38 rfl ?_
        refine lv_iload_n hx hb dX5_set_40 rfl (hl.at rfl) ?_
        refine l_mulN hx hb dX5_set_41 ?_
        refine l_addN hx hb dX5_set_42 ?_
        refine lv_iload_n hx hb dX5_set_43 rfl (hl.at rfl) ?_
        refine l_addN hx hb dX5_set_44 ?_
        refine lv_iload_n hx hb dX5_set_45 rfl (hl.at rfl) ?_
        refine m_iV hC hK hP hS (met_change (S := T 0) (i := 5 + k) (j := w) hT.1 rfl (by rw [ln_w (by omega)]; omega) (by rw [of_w (by omega), st_w (by omega)]; omega)) cv_X5_72 rfl rfl hl.1 (Nat.le_of_ble_eq_true rfl) dX5_set_46 (by decide) (by decide) (fun r46 σ46 H locs p46 hP hS => ?_)
        refine hret _ _ ls _ _ _ hP hS dX5_set_49 ?_
        first | (rw [op_set, if_pos p2, if_pos p11, if_pos (by rw [← p20]; exact p23), cn_nI (by omega), cn_nI (by omega)]; exact ⟨p46.1, hT.S p46.2.1 (p46.2.2.mono (by decide))⟩) | (rw [op_set, if_neg p2]; exact p31) | (rw [op_set, if_pos p2, if_neg p11]; exact p31) | (rw [op_set, if_pos p2, if_pos p11, if_neg (by rw [← p20]; exact p23)]; exact p31)
      · refine l_ifne_0 hx hb 35 dX5_set_26 rfl ?_
        refine lv_aload_n hx hb dX5_set_29 rfl (hl.at rfl) ?_
        refine lv_iconst (v := nI 1) hx hb dX5_set_30 rfl ?_
        refine m_iV hC hK hP hS (met_error hT rfl (by decide)) cv_X5_76 rfl rfl hl.1 (Nat.le_of_ble_eq_true rfl) dX5_set_31 (by decide) (by decide) (fun r31 σ31 H locs p31 hP hS => ?_)
        refine hret _ _ ls _ _ _ hP hS dX5_set_34 ?_
        first | (rw [op_set, if_pos p2, if_pos p11, if_pos (by rw [← p20]; exact p23), cn_nI (by omega), cn_nI (by omega)]; exact ⟨p46.1, hT.S p46.2.1 (p46.2.2.mono (by decide))⟩) | (rw [op_set, if_neg p2]; exact p31) | (rw [op_set, if_pos p2, if_neg p11]; exact p31) | (rw [op_set, if_pos p2, if_pos p11, if_neg (by rw [← p20]; exact p23)]; exact p31)
    · refine l_ifeq_0 hx hb 29 dX5_set_14 rfl ?_
      refine lv_aload_n hx hb dX5_set_29 rfl (hl.at rfl) ?_
      refine lv_iconst (v := nI 1) hx hb dX5_set_30 rfl ?_
      refine m_iV hC hK hP hS (met_error hT rfl (by decide)) cv_X5_76 rfl rfl hl.1 (Nat.le_of_ble_eq_true rfl) dX5_set_31 (by decide) (by decide) (fun r31 σ31 H locs p31 hP hS => ?_)
      refine hret _ _ ls _ _ _ hP hS dX5_set_34 ?_
      first | (rw [op_set, if_pos p2, if_pos p11, if_pos (by rw [← p20]; exact p23), cn_nI (by omega), cn_nI (by omega)]; exact ⟨p46.1, hT.S p46.2.1 (p46.2.2.mono (by decide))⟩) | (rw [op_set, if_neg p2]; exact p31) | (rw [op_set, if_pos p2, if_neg p11]; exact p31) | (rw [op_set, if_pos p2, if_pos p11, if_neg (by rw [← p20]; exact p23)]; exact p31)
  · refine l_ifeq_0 hx hb 29 dX5_set_5 rfl ?_
    refine lv_aload_n hx hb dX5_set_29 rfl (hl.at rfl) ?_
    refine lv_iconst (v := nI 1) hx hb dX5_set_30 rfl ?_
    refine m_iV hC hK hP hS (met_error hT rfl (by decide)) cv_X5_76 rfl rfl hl.1 (Nat.le_of_ble_eq_true rfl) dX5_set_31 (by decide) (by decide) (fun r31 σ31 H locs p31 hP hS => ?_)
    refine hret _ _ ls _ _ _ hP hS dX5_set_34 ?_
    first | (rw [op_set, if_pos p2, if_pos p11, if_pos (by rw [← p20]; exact p23), cn_nI (by omega), cn_nI (by omega)]; exact ⟨p46.1, hT.S p46.2.1 (p46.2.2.mono (by decide))⟩) | (rw [op_set, if_neg p2]; exact p31) | (rw [op_set, if_pos p2, if_neg p11]; exact p31) | (rw [op_set, if_pos p2, if_pos p11, if_neg (by rw [← p20]; exact p23)]; exact p31)
theorem met_fair {l : Launch} {D : va_G} {cA : Nat → ClassId} {b : Nat} {σ : Nat → Nat → Int32} {x y : Int32} {T : Tta} (hT : RT σ T) : MI l D cA b yX5_fair cX5_fair 3 (some .int) (2) [.ref b, .int x, .int y] σ (fun r τ => r = (op_fair x y T).1 ∧ RT τ (op_fair x y T).2) := by
  refine Ci.of rfl (by decide +kernel) (Nat.le_of_ble_eq_true rfl) ?_
  intro p e s m args below meth c Q hC hK hP hret ls hl
  have hx := hC.1
  have hb := hC.2.1
  have hown := hC.2.2.2.1
  have hts := hC.2.2.2.2
  have hS : va_S (mA b) s.heap s.heap [] := va_S.rf
  refine lv_iload_n hx hb dX5_fair_0 rfl (hl.at rfl) ?_
  refine m_sS hC (met_isFamily ) cs_X5_83 rfl rfl hl.1 (Nat.le_of_ble_eq_true rfl) dX5_fair_1 (by decide) (by decide) (fun r1 p1 => ?_)
  rcases p1 with ⟨rfl, p1⟩ | ⟨rfl, p1⟩
  · obtain ⟨f, hf, rfl⟩ := in_nI p1
    refine l_ifeq_1 hx hb 19 dX5_fair_4 rfl ?_
    refine lv_iload_n hx hb dX5_fair_7 rfl (hl.at rfl) ?_
    refine m_sS hC (met_isFamily ) cs_X5_83 rfl rfl hl.1 (Nat.le_of_ble_eq_true rfl) dX5_fair_8 (by decide) (by decide) (fun r8 p8 => ?_)
    rcases p8 with ⟨rfl, p8⟩ | ⟨rfl, p8⟩
    · obtain ⟨g, hg, rfl⟩ := in_nI p8
      refine l_ifeq_1 hx hb 19 dX5_fair_11 rfl ?_
      refine lv_iload_n hx hb dX5_fair_14 rfl (hl.at rfl) ?_
      refine lv_iload_n hx hb dX5_fair_15 rfl (hl.at rfl) ?_
      refine l_neN hx hb 25 dX5_fair_16 rfl (by omega) (by omega) (fun c16 => ?_) (fun c16 => ?_)
      · refine lv_aload_n hx hb dX5_fair_25 rfl (hl.at rfl) ?_
        refine lv_iload_n hx hb dX5_fair_26 rfl (hl.at rfl) ?_
        refine m_pV hC hK hP (met_prayed (S := T 0) hT.1 rfl (by omega)) cv_X5_65 rfl rfl hl.1 (Nat.le_of_ble_eq_true rfl) dX5_fair_27 (by decide) (by decide) (fun r27 p27 => ?_)
        refine lv_aload_n hx hb dX5_fair_30 rfl (hl.at rfl) ?_
        refine lv_iload_n hx hb dX5_fair_31 rfl (hl.at rfl) ?_
        refine m_pV hC hK hP (met_owed (S := T 0) hT.1 rfl (by omega)) cv_X5_69 rfl rfl hl.1 (Nat.le_of_ble_eq_true rfl) dX5_fair_32 (by decide) (by decide) (fun r32 p32 => ?_)
        refine lv_isub hx hb dX5_fair_35 ?_
        refine lv_aload_n hx hb dX5_fair_36 rfl (hl.at rfl) ?_
        refine lv_iload_n hx hb dX5_fair_37 rfl (hl.at rfl) ?_
        refine m_pV hC hK hP (met_prayed (S := T 0) hT.1 rfl (by omega)) cv_X5_65 rfl rfl hl.1 (Nat.le_of_ble_eq_true rfl) dX5_fair_38 (by decide) (by decide) (fun r38 p38 => ?_)
        refine lv_isub hx hb dX5_fair_41 ?_
        refine lv_aload_n hx hb dX5_fair_42 rfl (hl.at rfl) ?_
        refine lv_iload_n hx hb dX5_fair_43 rfl (hl.at rfl) ?_
        refine m_pV hC hK hP (met_owed (S := T 0) hT.1 rfl (by omega)) cv_X5_69 rfl rfl hl.1 (Nat.le_of_ble_eq_true rfl) dX5_fair_44 (by decide) (by decide) (fun r44 p44 => ?_)
        refine lv_iadd hx hb dX5_fair_47 ?_
        refine lv_iconst (v := nI 2) hx hb dX5_fair_48 rfl ?_
        refine lv_idiv hx hb dX5_fair_49 (nI_ne0 (by decide) (by decide)) ?_
        refine hret _ _ ls _ _ _ hP hS dX5_fair_50 ?_
        first | (rw [op_fair, if_pos p1, if_pos p8, if_neg (fun z => c16 ((nI_eq (by omega) (by omega)).mp z)), cn_nI (by omega), cn_nI (by omega), ← p27, ← p32, ← p38, ← p44]; exact ⟨rfl, hT⟩) | (rw [op_fair, if_neg p1]; exact p21) | (rw [op_fair, if_pos p1, if_neg p8]; exact p21) | (rw [op_fair, if_pos p1, if_pos p8, if_pos (by rw [c16])]; exact p21)
      · refine lv_aload_n hx hb dX5_fair_19 rfl (hl.at rfl) ?_
        refine lv_iconst (v := nI 1) hx hb dX5_fair_20 rfl ?_
        refine m_iV hC hK hP hS (met_error hT rfl (by decide)) cv_X5_76 rfl rfl hl.1 (Nat.le_of_ble_eq_true rfl) dX5_fair_21 (by decide) (by decide) (fun r21 σ21 H locs p21 hP hS => ?_)
        refine hret _ _ ls _ _ _ hP hS dX5_fair_24 ?_
        first | (rw [op_fair, if_pos p1, if_pos p8, if_neg (fun z => c16 ((nI_eq (by omega) (by omega)).mp z)), cn_nI (by omega), cn_nI (by omega), ← p27, ← p32, ← p38, ← p44]; exact ⟨rfl, hT⟩) | (rw [op_fair, if_neg p1]; exact p21) | (rw [op_fair, if_pos p1, if_neg p8]; exact p21) | (rw [op_fair, if_pos p1, if_pos p8, if_pos (by rw [c16])]; exact p21)
    · refine l_ifeq_0 hx hb 19 dX5_fair_11 rfl ?_
      refine lv_aload_n hx hb dX5_fair_19 rfl (hl.at rfl) ?_
      refine lv_iconst (v := nI 1) hx hb dX5_fair_20 rfl ?_
      refine m_iV hC hK hP hS (met_error hT rfl (by decide)) cv_X5_76 rfl rfl hl.1 (Nat.le_of_ble_eq_true rfl) dX5_fair_21 (by decide) (by decide) (fun r21 σ21 H locs p21 hP hS => ?_)
      refine hret _ _ ls _ _ _ hP hS dX5_fair_24 ?_
      first | (rw [op_fair, if_pos p1, if_pos p8, if_neg (fun z => c16 ((nI_eq (by omega) (by omega)).mp z)), cn_nI (by omega), cn_nI (by omega), ← p27, ← p32, ← p38, ← p44]; exact ⟨rfl, hT⟩) | (rw [op_fair, if_neg p1]; exact p21) | (rw [op_fair, if_pos p1, if_neg p8]; exact p21) | (rw [op_fair, if_pos p1, if_pos p8, if_pos (by rw [c16])]; exact p21)
  · refine l_ifeq_0 hx hb 19 dX5_fair_4 rfl ?_
    refine lv_aload_n hx hb dX5_fair_19 rfl (hl.at rfl) ?_
    refine lv_iconst (v := nI 1) hx hb dX5_fair_20 rfl ?_
    refine m_iV hC hK hP hS (met_error hT rfl (by decide)) cv_X5_76 rfl rfl hl.1 (Nat.le_of_ble_eq_true rfl) dX5_fair_21 (by decide) (by decide) (fun r21 σ21 H locs p21 hP hS => ?_)
    refine hret _ _ ls _ _ _ hP hS dX5_fair_24 ?_
    first | (rw [op_fair, if_pos p1, if_pos p8, if_neg (fun z => c16 ((nI_eq (by omega) (by omega)).mp z)), cn_nI (by omega), cn_nI (by omega), ← p27, ← p32, ← p38, ← p44]; exact ⟨rfl, hT⟩) | (rw [op_fair, if_neg p1]; exact p21) | (rw [op_fair, if_pos p1, if_neg p8]; exact p21) | (rw [op_fair, if_pos p1, if_pos p8, if_pos (by rw [c16])]; exact p21)
theorem cv_X5_203 : CV RX5 RX5 203 yX5_prays cX5_prays 3 (none) 2 := ⟨lw_V q1595 q1597 qs67 q88 q1598, by decide +kernel⟩
theorem met_sell {l : Launch} {D : va_G} {cA : Nat → ClassId} {b : Nat} {σ : Nat → Nat → Int32} {x y n : Int32} {T : Tta} (hT : RT σ T) : MI l D cA b yX5_sell cX5_sell 4 (some .int) (2) [.ref b, .int x, .int y, .int n] σ (fun r τ => r = (op_sell x y n T).1 ∧ RT τ (op_sell x y n T).2) := by
  refine Ci.of rfl (by decide +kernel) (Nat.le_of_ble_eq_true rfl) ?_
  intro p e s m args below meth c Q hC hK hP hret ls hl
  have hx := hC.1
  have hb := hC.2.1
  have hown := hC.2.2.2.1
  have hts := hC.2.2.2.2
  have hS : va_S (mA b) s.heap s.heap [] := va_S.rf
  refine lv_iload_n hx hb dX5_sell_0 rfl (hl.at rfl) ?_
  refine m_sS hC (met_isFamily ) cs_X5_83 rfl rfl hl.1 (Nat.le_of_ble_eq_true rfl) dX5_sell_1 (by decide) (by decide) (fun r1 p1 => ?_)
  rcases p1 with ⟨rfl, p1⟩ | ⟨rfl, p1⟩
  · obtain ⟨f, hf, rfl⟩ := in_nI p1
    refine l_ifeq_1 hx hb 30 dX5_sell_4 rfl ?_
    refine lv_iload_n hx hb dX5_sell_7 rfl (hl.at rfl) ?_
    refine m_sS hC (met_isFamily ) cs_X5_83 rfl rfl hl.1 (Nat.le_of_ble_eq_true rfl) dX5_sell_8 (by decide) (by decide) (fun r8 p8 => ?_)
    rcases p8 with ⟨rfl, p8⟩ | ⟨rfl, p8⟩
    · obtain ⟨g, hg, rfl⟩ := in_nI p8
      refine l_ifeq_1 hx hb 30 dX5_sell_11 rfl ?_
      refine lv_iload_n hx hb dX5_sell_14 rfl (hl.at rfl) ?_
      refine lv_iload_n hx hb dX5_sell_15 rfl (hl.at rfl) ?_
      refine l_eqN hx hb 30 dX5_sell_16 rfl (by omega) (by omega) (fun c16 => ?_) (fun c16 => ?_)
      · refine lv_aload_n hx hb dX5_sell_30 rfl (hl.at rfl) ?_
        refine lv_iconst (v := nI 1) hx hb dX5_sell_31 rfl ?_
        refine m_iV hC hK hP hS (met_error hT rfl (by decide)) cv_X5_76 rfl rfl hl.1 (Nat.le_of_ble_eq_true rfl) dX5_sell_32 (by decide) (by decide) (fun r32 σ32 H locs p32 hP hS => ?_)
        refine hret _ _ ls _ _ _ hP hS dX5_sell_35 ?_
        first | (rw [op_sell, if_pos p1, if_pos p8, if_neg (fun z => c16 ((nI_eq (by omega) (by omega)).mp z)), if_pos p24, cn_nI (by omega), cn_nI (by omega), if_pos (by rw [← p38]; exact c42)]; subst p55; subst p67; exact ⟨p77, hT.S p72.1 ((p60.2.tr p72.2).mono (by decide))⟩) | (rw [op_sell, if_neg p1]; exact p32) | (rw [op_sell, if_pos p1, if_neg p8]; exact p32) | (rw [op_sell, if_pos p1, if_pos p8, if_pos (by rw [c16])]; exact p32) | (rw [op_sell, if_pos p1, if_pos p8, if_neg (fun z => c16 ((nI_eq (by omega) (by omega)).mp z)), if_neg p24]; exact p32) | (rw [op_sell, if_pos p1, if_pos p8, if_neg (fun z => c16 ((nI_eq (by omega) (by omega)).mp z)), if_pos p24, cn_nI (by omega), if_neg (by rw [← p38]; exact c42)]; exact p47)
      · refine lv_iload_n hx hb dX5_sell_19 rfl (hl.at rfl) ?_
        refine lv_iconst (v := nI 1) hx hb dX5_sell_20 rfl ?_
        refine lv_sipush (v := nI 9999) hx hb dX5_sell_21 rfl ?_
        refine m_sS hC (met_in ) cs_X5_56 rfl rfl hl.1 (Nat.le_of_ble_eq_true rfl) dX5_sell_24 (by decide) (by decide) (fun r24 p24 => ?_)
        rcases p24 with ⟨rfl, p24⟩ | ⟨rfl, p24⟩
        · refine l_ifne_1 hx hb 36 dX5_sell_27 rfl ?_
          refine lv_aload_n hx hb dX5_sell_36 rfl (hl.at rfl) ?_
          refine lv_iload_n hx hb dX5_sell_37 rfl (hl.at rfl) ?_
          refine m_pV hC hK hP (met_prayed (S := T 0) hT.1 rfl (by omega)) cv_X5_65 rfl rfl hl.1 (Nat.le_of_ble_eq_true rfl) dX5_sell_38 (by decide) (by decide) (fun r38 p38 => ?_)
          refine lv_iload_n hx hb dX5_sell_41 rfl (hl.at rfl) ?_
          refine lv_icmp_ge (tgt := 51) hx hb dX5_sell_42 rfl (fun c42 => ?_) (fun c42 => ?_)
          · refine lv_aload_n hx hb dX5_sell_51 rfl (hl.at rfl) ?_
            refine lv_iload_n hx hb dX5_sell_52 rfl (hl.at rfl) ?_
            refine lv_aload_n hx hb dX5_sell_53 rfl (hl.at rfl) ?_
            refine lv_iload_n hx hb dX5_sell_54 rfl (hl.at rfl) ?_
            refine m_pV hC hK hP (met_prayed (S := T 0) hT.1 rfl (by omega)) cv_X5_65 rfl rfl hl.1 (Nat.le_of_ble_eq_true rfl) dX5_sell_55 (by decide) (by decide) (fun r55 p55 => ?_)
            refine lv_iload_n hx hb dX5_sell_58 rfl (hl.at rfl) ?_
            refine lv_isub hx hb dX5_sell_59 ?_
            refine m_vV hC hK hP hS (met_prays (S := T 0) hT.1 rfl (by omega)) cv_X5_203 rfl rfl hl.1 (Nat.le_of_ble_eq_true rfl) dX5_sell_60 (by decide) (by decide) (fun σ60 H locs p60 hP hS => ?_)
            refine lv_aload_n hx hb dX5_sell_63 rfl (hl.at rfl) ?_
            refine lv_iload_n hx hb dX5_sell_64 rfl (hl.at rfl) ?_
            refine lv_aload_n hx hb dX5_sell_65 rfl (hl.at rfl) ?_
            refine lv_iload_n hx hb dX5_sell_66 rfl (hl.at rfl) ?_
            refine m_pV hC hK hP (met_prayed (S := _) p60.1 rfl (by omega)) cv_X5_65 rfl rfl hl.1 (Nat.le_of_ble_eq_true rfl) dX5_sell_67 (by decide) (by decide) (fun r67 p67 => ?_)
            refine lv_iload_n hx hb dX5_sell_70 rfl (hl.at rfl) ?_
            refine lv_iadd hx hb dX5_sell_71 ?_
            refine m_vV hC hK hP hS (met_prays (S := _) p60.1 rfl (by omega)) cv_X5_203 rfl rfl hl.1 (Nat.le_of_ble_eq_true rfl) dX5_sell_72 (by decide) (by decide) (fun σ72 H locs p72 hP hS => ?_)
            refine lv_aload_n hx hb dX5_sell_75 rfl (hl.at rfl) ?_
            refine lv_iload_n hx hb dX5_sell_76 rfl (hl.at rfl) ?_
            refine m_pV hC hK hP (met_prayed (S := _) p72.1 rfl (by omega)) cv_X5_65 rfl rfl hl.1 (Nat.le_of_ble_eq_true rfl) dX5_sell_77 (by decide) (by decide) (fun r77 p77 => ?_)
            refine hret _ _ ls _ _ _ hP hS dX5_sell_80 ?_
            first | (rw [op_sell, if_pos p1, if_pos p8, if_neg (fun z => c16 ((nI_eq (by omega) (by omega)).mp z)), if_pos p24, cn_nI (by omega), cn_nI (by omega), if_pos (by rw [← p38]; exact c42)]; subst p55; subst p67; exact ⟨p77, hT.S p72.1 ((p60.2.tr p72.2).mono (by decide))⟩) | (rw [op_sell, if_neg p1]; exact p32) | (rw [op_sell, if_pos p1, if_neg p8]; exact p32) | (rw [op_sell, if_pos p1, if_pos p8, if_pos (by rw [c16])]; exact p32) | (rw [op_sell, if_pos p1, if_pos p8, if_neg (fun z => c16 ((nI_eq (by omega) (by omega)).mp z)), if_neg p24]; exact p32) | (rw [op_sell, if_pos p1, if_pos p8, if_neg (fun z => c16 ((nI_eq (by omega) (by omega)).mp z)), if_pos p24, cn_nI (by omega), if_neg (by rw [← p38]; exact c42)]; exact p47)
          · refine lv_aload_n hx hb dX5_sell_45 rfl (hl.at rfl) ?_
            refine lv_iconst (v := nI 3) hx hb dX5_sell_46 rfl ?_
            refine m_iV hC hK hP hS (met_error hT rfl (by decide)) cv_X5_76 rfl rfl hl.1 (Nat.le_of_ble_eq_true rfl) dX5_sell_47 (by decide) (by decide) (fun r47 σ47 H locs p47 hP hS => ?_)
            refine hret _ _ ls _ _ _ hP hS dX5_sell_50 ?_
            first | (rw [op_sell, if_pos p1, if_pos p8, if_neg (fun z => c16 ((nI_eq (by omega) (by omega)).mp z)), if_pos p24, cn_nI (by omega), cn_nI (by omega), if_pos (by rw [← p38]; exact c42)]; subst p55; subst p67; exact ⟨p77, hT.S p72.1 ((p60.2.tr p72.2).mono (by decide))⟩) | (rw [op_sell, if_neg p1]; exact p32) | (rw [op_sell, if_pos p1, if_neg p8]; exact p32) | (rw [op_sell, if_pos p1, if_pos p8, if_pos (by rw [c16])]; exact p32) | (rw [op_sell, if_pos p1, if_pos p8, if_neg (fun z => c16 ((nI_eq (by omega) (by omega)).mp z)), if_neg p24]; exact p32) | (rw [op_sell, if_pos p1, if_pos p8, if_neg (fun z => c16 ((nI_eq (by omega) (by omega)).mp z)), if_pos p24, cn_nI (by omega), if_neg (by rw [← p38]; exact c42)]; exact p47)
        · refine l_ifne_0 hx hb 36 dX5_sell_27 rfl ?_
          refine lv_aload_n hx hb dX5_sell_30 rfl (hl.at rfl) ?_
          refine lv_iconst (v := nI 1) hx hb dX5_sell_31 rfl ?_
          refine m_iV hC hK hP hS (met_error hT rfl (by decide)) cv_X5_76 rfl rfl hl.1 (Nat.le_of_ble_eq_true rfl) dX5_sell_32 (by decide) (by decide) (fun r32 σ32 H locs p32 hP hS => ?_)
          refine hret _ _ ls _ _ _ hP hS dX5_sell_35 ?_
          first | (rw [op_sell, if_pos p1, if_pos p8, if_neg (fun z => c16 ((nI_eq (by omega) (by omega)).mp z)), if_pos p24, cn_nI (by omega), cn_nI (by omega), if_pos (by rw [← p38]; exact c42)]; subst p55; subst p67; exact ⟨p77, hT.S p72.1 ((p60.2.tr p72.2).mono (by decide))⟩) | (rw [op_sell, if_neg p1]; exact p32) | (rw [op_sell, if_pos p1, if_neg p8]; exact p32) | (rw [op_sell, if_pos p1, if_pos p8, if_pos (by rw [c16])]; exact p32) | (rw [op_sell, if_pos p1, if_pos p8, if_neg (fun z => c16 ((nI_eq (by omega) (by omega)).mp z)), if_neg p24]; exact p32) | (rw [op_sell, if_pos p1, if_pos p8, if_neg (fun z => c16 ((nI_eq (by omega) (by omega)).mp z)), if_pos p24, cn_nI (by omega), if_neg (by rw [← p38]; exact c42)]; exact p47)
    · refine l_ifeq_0 hx hb 30 dX5_sell_11 rfl ?_
      refine lv_aload_n hx hb dX5_sell_30 rfl (hl.at rfl) ?_
      refine lv_iconst (v := nI 1) hx hb dX5_sell_31 rfl ?_
      refine m_iV hC hK hP hS (met_error hT rfl (by decide)) cv_X5_76 rfl rfl hl.1 (Nat.le_of_ble_eq_true rfl) dX5_sell_32 (by decide) (by decide) (fun r32 σ32 H locs p32 hP hS => ?_)
      refine hret _ _ ls _ _ _ hP hS dX5_sell_35 ?_
      first | (rw [op_sell, if_pos p1, if_pos p8, if_neg (fun z => c16 ((nI_eq (by omega) (by omega)).mp z)), if_pos p24, cn_nI (by omega), cn_nI (by omega), if_pos (by rw [← p38]; exact c42)]; subst p55; subst p67; exact ⟨p77, hT.S p72.1 ((p60.2.tr p72.2).mono (by decide))⟩) | (rw [op_sell, if_neg p1]; exact p32) | (rw [op_sell, if_pos p1, if_neg p8]; exact p32) | (rw [op_sell, if_pos p1, if_pos p8, if_pos (by rw [c16])]; exact p32) | (rw [op_sell, if_pos p1, if_pos p8, if_neg (fun z => c16 ((nI_eq (by omega) (by omega)).mp z)), if_neg p24]; exact p32) | (rw [op_sell, if_pos p1, if_pos p8, if_neg (fun z => c16 ((nI_eq (by omega) (by omega)).mp z)), if_pos p24, cn_nI (by omega), if_neg (by rw [← p38]; exact c42)]; exact p47)
  · refine l_ifeq_0 hx hb 30 dX5_sell_4 rfl ?_
    refine lv_aload_n hx hb dX5_sell_30 rfl (hl.at rfl) ?_
    refine lv_iconst (v := nI 1) hx hb dX5_sell_31 rfl ?_
    refine m_iV hC hK hP hS (met_error hT rfl (by decide)) cv_X5_76 rfl rfl hl.1 (Nat.le_of_ble_eq_true rfl) dX5_sell_32 (by decide) (by decide) (fun r32 σ32 H locs p32 hP hS => ?_)
    refine hret _ _ ls _ _ _ hP hS dX5_sell_35 ?_
    first | (rw [op_sell, if_pos p1, if_pos p8, if_neg (fun z => c16 ((nI_eq (by omega) (by omega)).mp z)), if_pos p24, cn_nI (by omega), cn_nI (by omega), if_pos (by rw [← p38]; exact c42)]; subst p55; subst p67; exact ⟨p77, hT.S p72.1 ((p60.2.tr p72.2).mono (by decide))⟩) | (rw [op_sell, if_neg p1]; exact p32) | (rw [op_sell, if_pos p1, if_neg p8]; exact p32) | (rw [op_sell, if_pos p1, if_pos p8, if_pos (by rw [c16])]; exact p32) | (rw [op_sell, if_pos p1, if_pos p8, if_neg (fun z => c16 ((nI_eq (by omega) (by omega)).mp z)), if_neg p24]; exact p32) | (rw [op_sell, if_pos p1, if_pos p8, if_neg (fun z => c16 ((nI_eq (by omega) (by omega)).mp z)), if_pos p24, cn_nI (by omega), if_neg (by rw [← p38]; exact c42)]; exact p47)
