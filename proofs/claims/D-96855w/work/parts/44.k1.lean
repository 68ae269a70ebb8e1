theorem cX0_isIn_ {l : Launch} {v lo hi : Int32} : Cp l (fun _ => True) yX0_isIn cX0_isIn 3 (some .boolean) (0) [.int v, .int lo, .int hi] (fun _ => True) (bz (lo ≤ v ∧ v ≤ hi)) := by
  refine Cp.ofz rfl (by decide +kernel) (Nat.le_of_ble_eq_true rfl) ?_
  intro p e s m args below meth c Q hC hK hP hret ls hl
  have hx := hC.1
  have hb := hC.2.1
  have hown := hC.2.2.2.1
  have hts := hC.2.2.2.2
  refine lv_iload_n hx hb dX0_isIn_0 rfl (hl.at rfl) ?_
  refine lv_iload_n hx hb dX0_isIn_1 rfl (hl.at rfl) ?_
  refine lv_icmp_lt (tgt := 14) hx hb dX0_isIn_2 rfl (fun c2 => ?_) (fun c2 => ?_)
  · refine lv_iconst (v := nI 0) hx hb dX0_isIn_14 rfl ?_
    refine hret ls _ _ dX0_isIn_15 (by first | exact Or.inl rfl | exact Or.inr rfl) ?_
    first | (exact Or.inl ⟨rfl, Int32.not_lt.mp c2, Int32.not_lt.mp c7⟩) | (exact Or.inr ⟨rfl, fun z => absurd c2 (Int32.not_lt.mpr z.1)⟩) | (exact Or.inr ⟨rfl, fun z => absurd c7 (Int32.not_lt.mpr z.2)⟩)
  · refine lv_iload_n hx hb dX0_isIn_5 rfl (hl.at rfl) ?_
    refine lv_iload_n hx hb dX0_isIn_6 rfl (hl.at rfl) ?_
    refine lv_icmp_gt (tgt := 14) hx hb dX0_isIn_7 rfl (fun c7 => ?_) (fun c7 => ?_)
    · refine lv_iconst (v := nI 0) hx hb dX0_isIn_14 rfl ?_
      refine hret ls _ _ dX0_isIn_15 (by first | exact Or.inl rfl | exact Or.inr rfl) ?_
      first | (exact Or.inl ⟨rfl, Int32.not_lt.mp c2, Int32.not_lt.mp c7⟩) | (exact Or.inr ⟨rfl, fun z => absurd c2 (Int32.not_lt.mpr z.1)⟩) | (exact Or.inr ⟨rfl, fun z => absurd c7 (Int32.not_lt.mpr z.2)⟩)
    · refine lv_iconst (v := nI 1) hx hb dX0_isIn_10 rfl ?_
      refine lv_goto (tgt := 15) hx hb dX0_isIn_11 rfl ?_
      refine hret ls _ _ dX0_isIn_15 (by first | exact Or.inl rfl | exact Or.inr rfl) ?_
      first | (exact Or.inl ⟨rfl, Int32.not_lt.mp c2, Int32.not_lt.mp c7⟩) | (exact Or.inr ⟨rfl, fun z => absurd c2 (Int32.not_lt.mpr z.1)⟩) | (exact Or.inr ⟨rfl, fun z => absurd c7 (Int32.not_lt.mpr z.2)⟩)
theorem cs_X0_122 : CS RX0 122 yX0_isIn cX0_isIn 3 (some .boolean) 3 := ⟨lw_S q302 q303 q83 q304, by decide +kernel⟩
theorem cX0_isFamily_ {l : Launch} {v : Int32} : Cp l (fun _ => True) yX0_isFamily cX0_isFamily 1 (some .boolean) (1) [.int v] (fun _ => True) (bz (nI 0 ≤ v ∧ v ≤ nI 4)) := by
  refine Cp.ofz rfl (by decide +kernel) (Nat.le_of_ble_eq_true rfl) ?_
  intro p e s m args below meth c Q hC hK hP hret ls hl
  have hx := hC.1
  have hb := hC.2.1
  have hown := hC.2.2.2.1
  have hts := hC.2.2.2.2
  refine lv_iload_n hx hb dX0_isFamily_0 rfl (hl.at rfl) ?_
  refine lv_iconst (v := nI 0) hx hb dX0_isFamily_1 rfl ?_
  refine lv_iconst (v := nI 4) hx hb dX0_isFamily_2 rfl ?_
  refine x_sS hC (cX0_isIn_ ) cs_X0_122 rfl rfl hl.1 (Nat.le_of_ble_eq_true rfl) dX0_isFamily_3 (rk (by decide) (by decide)) ⟨Nat.le_refl _, Nat.le_refl _⟩ (fun r3 p3 => ?_)
  rcases p3 with ⟨rfl, p3⟩ | ⟨rfl, p3⟩
  · refine hret ls _ _ dX0_isFamily_6 (by first | exact Or.inl rfl | exact Or.inr rfl) ?_
    first | exact Or.inl ⟨rfl, by assumption⟩ | exact Or.inr ⟨rfl, by assumption⟩
  · refine hret ls _ _ dX0_isFamily_6 (by first | exact Or.inl rfl | exact Or.inr rfl) ?_
    first | exact Or.inl ⟨rfl, by assumption⟩ | exact Or.inr ⟨rfl, by assumption⟩
theorem cX0_isPlace_ {l : Launch} {v : Int32} : Cp l (fun _ => True) yX0_isPlace cX0_isPlace 1 (some .boolean) (1) [.int v] (fun _ => True) (bz (nI 0 ≤ v ∧ v ≤ nI 11)) := by
  refine Cp.ofz rfl (by decide +kernel) (Nat.le_of_ble_eq_true rfl) ?_
  intro p e s m args below meth c Q hC hK hP hret ls hl
  have hx := hC.1
  have hb := hC.2.1
  have hown := hC.2.2.2.1
  have hts := hC.2.2.2.2
  refine lv_iload_n hx hb dX0_isPlace_0 rfl (hl.at rfl) ?_
  refine lv_iconst (v := nI 0) hx hb dX0_isPlace_1 rfl ?_
  refine lv_bipush (v := nI 11) hx hb dX0_isPlace_2 rfl ?_
  refine x_sS hC (cX0_isIn_ ) cs_X0_122 rfl rfl hl.1 (Nat.le_of_ble_eq_true rfl) dX0_isPlace_4 (rk (by decide) (by decide)) ⟨Nat.le_refl _, Nat.le_refl _⟩ (fun r4 p4 => ?_)
  rcases p4 with ⟨rfl, p4⟩ | ⟨rfl, p4⟩
  · refine hret ls _ _ dX0_isPlace_7 (by first | exact Or.inl rfl | exact Or.inr rfl) ?_
    first | exact Or.inl ⟨rfl, by assumption⟩ | exact Or.inr ⟨rfl, by assumption⟩
  · refine hret ls _ _ dX0_isPlace_7 (by first | exact Or.inl rfl | exact Or.inr rfl) ?_
    first | exact Or.inl ⟨rfl, by assumption⟩ | exact Or.inr ⟨rfl, by assumption⟩
theorem cX0_isAhead_ {l : Launch} {v : Int32} : Cp l (fun _ => True) yX0_isAhead cX0_isAhead 1 (some .boolean) (1) [.int v] (fun _ => True) (bz (nI 0 ≤ v ∧ v ≤ nI 240)) := by
  refine Cp.ofz rfl (by decide +kernel) (Nat.le_of_ble_eq_true rfl) ?_
  intro p e s m args below meth c Q hC hK hP hret ls hl
  have hx := hC.1
  have hb := hC.2.1
  have hown := hC.2.2.2.1
  have hts := hC.2.2.2.2
  refine lv_iload_n hx hb dX0_isAhead_0 rfl (hl.at rfl) ?_
  refine lv_iconst (v := nI 0) hx hb dX0_isAhead_1 rfl ?_
  refine lv_sipush (v := nI 240) hx hb dX0_isAhead_2 rfl ?_
  refine x_sS hC (cX0_isIn_ ) cs_X0_122 rfl rfl hl.1 (Nat.le_of_ble_eq_true rfl) dX0_isAhead_5 (rk (by decide) (by decide)) ⟨Nat.le_refl _, Nat.le_refl _⟩ (fun r5 p5 => ?_)
  rcases p5 with ⟨rfl, p5⟩ | ⟨rfl, p5⟩
  · refine hret ls _ _ dX0_isAhead_8 (by first | exact Or.inl rfl | exact Or.inr rfl) ?_
    first | exact Or.inl ⟨rfl, by assumption⟩ | exact Or.inr ⟨rfl, by assumption⟩
  · refine hret ls _ _ dX0_isAhead_8 (by first | exact Or.inl rfl | exact Or.inr rfl) ?_
    first | exact Or.inl ⟨rfl, by assumption⟩ | exact Or.inr ⟨rfl, by assumption⟩
theorem cX0_isSheet_ {l : Launch} {v : Int32} : Cp l (fun _ => True) yX0_isSheet cX0_isSheet 1 (some .boolean) (1) [.int v] (fun _ => True) (bz (nI 0 ≤ v ∧ v ≤ nI 3)) := by
  refine Cp.ofz rfl (by decide +kernel) (Nat.le_of_ble_eq_true rfl) ?_
  intro p e s m args below meth c Q hC hK hP hret ls hl
  have hx := hC.1
  have hb := hC.2.1
  have hown := hC.2.2.2.1
  have hts := hC.2.2.2.2
  refine lv_iload_n hx hb dX0_isSheet_0 rfl (hl.at rfl) ?_
  refine lv_iconst (v := nI 0) hx hb dX0_isSheet_1 rfl ?_
  refine lv_iconst (v := nI 3) hx hb dX0_isSheet_2 rfl ?_
  refine x_sS hC (cX0_isIn_ ) cs_X0_122 rfl rfl hl.1 (Nat.le_of_ble_eq_true rfl) dX0_isSheet_3 (rk (by decide) (by decide)) ⟨Nat.le_refl _, Nat.le_refl _⟩ (fun r3 p3 => ?_)
  rcases p3 with ⟨rfl, p3⟩ | ⟨rfl, p3⟩
  · refine hret ls _ _ dX0_isSheet_6 (by first | exact Or.inl rfl | exact Or.inr rfl) ?_
    first | exact Or.inl ⟨rfl, by assumption⟩ | exact Or.inr ⟨rfl, by assumption⟩
  · refine hret ls _ _ dX0_isSheet_6 (by first | exact Or.inl rfl | exact Or.inr rfl) ?_
    first | exact Or.inl ⟨rfl, by assumption⟩ | exact Or.inr ⟨rfl, by assumption⟩
theorem cX0_isUse_ {l : Launch} {v : Int32} : Cp l (fun _ => True) yX0_isUse cX0_isUse 1 (some .boolean) (1) [.int v] (fun _ => True) (bz (nI 0 ≤ v ∧ v ≤ nI 1)) := by
  refine Cp.ofz rfl (by decide +kernel) (Nat.le_of_ble_eq_true rfl) ?_
  intro p e s m args below meth c Q hC hK hP hret ls hl
  have hx := hC.1
  have hb := hC.2.1
  have hown := hC.2.2.2.1
  have hts := hC.2.2.2.2
  refine lv_iload_n hx hb dX0_isUse_0 rfl (hl.at rfl) ?_
  refine lv_iconst (v := nI 0) hx hb dX0_isUse_1 rfl ?_
  refine lv_iconst (v := nI 1) hx hb dX0_isUse_2 rfl ?_
  refine x_sS hC (cX0_isIn_ ) cs_X0_122 rfl rfl hl.1 (Nat.le_of_ble_eq_true rfl) dX0_isUse_3 (rk (by decide) (by decide)) ⟨Nat.le_refl _, Nat.le_refl _⟩ (fun r3 p3 => ?_)
  rcases p3 with ⟨rfl, p3⟩ | ⟨rfl, p3⟩
  · refine hret ls _ _ dX0_isUse_6 (by first | exact Or.inl rfl | exact Or.inr rfl) ?_
    first | exact Or.inl ⟨rfl, by assumption⟩ | exact Or.inr ⟨rfl, by assumption⟩
  · refine hret ls _ _ dX0_isUse_6 (by first | exact Or.inl rfl | exact Or.inr rfl) ?_
    first | exact Or.inl ⟨rfl, by assumption⟩ | exact Or.inr ⟨rfl, by assumption⟩
theorem cX1_forceNow_ {l : Launch} {D : va_G} {cA : Nat → ClassId} {ad : Nat → Nat} {n : Nat} {f0 : Nat → va_E} {ρ : Nat → Nat → Option Nat} {r : Nat × Nat} {U : Nat → Nat → Nat → Int32} (hn : 81 ≤ n) {a : Nat} (ha : a < 3) (hI : Inv (U a)) : XP l D cA ad n f0 ρ r U yX1_forceNow cX1_forceNow 1 (some .int) (0) [.ref (ad (3 + 22 * a))] (fun v => v = U a 1 (cn (hod (U a)))) := by
  refine Cp.of rfl (by decide +kernel) (Nat.le_of_ble_eq_true rfl) ?_
  intro p e s m args below meth c Q hC hK hP hret ls hl
  have hx := hC.1
  have hb := hC.2.1
  have hown := hC.2.2.2.1
  have hts := hC.2.2.2.2
  obtain ⟨k, hk, e2, e3⟩ := inv_hod hI
  refine lv_aload_n hx hb dX1_forceNow_0 rfl (hl.at rfl) ?_
  refine c_get hC hK hP (3 + 22 * a) (by omega) (wo_ho ha) rfl in_X1 6 (by decide) q155 rfl rfl dX1_forceNow_1 ?_
  refine lv_aload_n hx hb dX1_forceNow_4 rfl (hl.at rfl) ?_
  refine c_get hC hK hP (3 + 22 * a) (by omega) (wo_ho ha) rfl in_X1 1 (by decide) q144 rfl rfl dX1_forceNow_5 ?_
  refine lv_bipush (v := nI 24) hx hb dX1_forceNow_8 rfl ?_
  refine lv_irem hx hb dX1_forceNow_10 (nI_ne0 (by decide) (by decide)) ?_
  refine l_top (nI k) e2 ?_
  refine c_ldb hC hK hP (3 + 22 * a + 1) (by omega) (c_ldH a 1 1 1 24 ha (by decide) (fun _ _ _ => rfl)) k (rfl) (show _ < 24 by omega) (by decide) dX1_forceNow_11 ?_
  refine hret ls _ _ dX1_forceNow_12 ?_
  rw [e2, cn_nI (by omega)]
theorem cX1_isPaid_ {l : Launch} {D : va_G} {cA : Nat → ClassId} {ad : Nat → Nat} {n : Nat} {f0 : Nat → va_E} {ρ : Nat → Nat → Option Nat} {r : Nat × Nat} {U : Nat → Nat → Nat → Int32} (hn : 81 ≤ n) {a : Nat} (ha : a < 3) {x : Int32} {f : Nat} (hx1 : x = nI f) (hf : f < 5) : XP l D cA ad n f0 ρ r U yX1_isPaid cX1_isPaid 2 (some .boolean) (0) [.ref (ad (3 + 22 * a)), .int x] (bz (U a 3 f ≤ U a 4 f)) := by
  refine Cp.ofz rfl (by decide +kernel) (Nat.le_of_ble_eq_true rfl) ?_
  intro p e s m args below meth c Q hC hK hP hret ls hl
  have hx := hC.1
  have hb := hC.2.1
  have hown := hC.2.2.2.1
  have hts := hC.2.2.2.2
  subst hx1
  refine lv_aload_n hx hb dX1_isPaid_0 rfl (hl.at rfl) ?_
  refine c_get hC hK hP (3 + 22 * a) (by omega) (wo_ho ha) rfl in_X1 9 (by decide) q161 rfl rfl dX1_isPaid_1 ?_
  refine lv_iload_n hx hb dX1_isPaid_4 rfl (hl.at rfl) ?_
  refine c_ldi hC hK hP (3 + 22 * a + 4) (by omega) (c_ldH a 4 4 0 5 ha (by decide) (fun _ _ _ => rfl)) _ (rfl) (show _ < 5 by omega) (by decide) dX1_isPaid_5 ?_
  refine lv_aload_n hx hb dX1_isPaid_6 rfl (hl.at rfl) ?_
  refine c_get hC hK hP (3 + 22 * a) (by omega) (wo_ho ha) rfl in_X1 8 (by decide) q159 rfl rfl dX1_isPaid_7 ?_
  refine lv_iload_n hx hb dX1_isPaid_10 rfl (hl.at rfl) ?_
  refine c_ldi hC hK hP (3 + 22 * a + 3) (by omega) (c_ldH a 3 3 0 5 ha (by decide) (fun _ _ _ => rfl)) _ (rfl) (show _ < 5 by omega) (by decide) dX1_isPaid_11 ?_
  refine lv_icmp_lt (tgt := 19) hx hb dX1_isPaid_12 rfl (fun c12 => ?_) (fun c12 => ?_)
  · refine lv_iconst (v := nI 0) hx hb dX1_isPaid_19 rfl ?_
    refine hret ls _ _ dX1_isPaid_20 (by first | exact Or.inl rfl | exact Or.inr rfl) ?_
    first | (exact Or.inl ⟨rfl, Int32.not_lt.mp c12⟩) | (exact Or.inr ⟨rfl, fun z => absurd c12 (Int32.not_lt.mpr z)⟩)
  · refine lv_iconst (v := nI 1) hx hb dX1_isPaid_15 rfl ?_
    refine lv_goto (tgt := 20) hx hb dX1_isPaid_16 rfl ?_
    refine hret ls _ _ dX1_isPaid_20 (by first | exact Or.inl rfl | exact Or.inr rfl) ?_
    first | (exact Or.inl ⟨rfl, Int32.not_lt.mp c12⟩) | (exact Or.inr ⟨rfl, fun z => absurd c12 (Int32.not_lt.mpr z)⟩)
theorem cX0_finds_ {l : Launch} {D : va_G} {cA : Nat → ClassId} {ad : Nat → Nat} {n : Nat} {f0 : Nat → va_E} {ρ : Nat → Nat → Option Nat} {r : Nat × Nat} {U : Nat → Nat → Nat → Int32} (hn : 81 ≤ n) {A : Nat → Prop} (hD : gD A ad n) {x : Int32} {k : Nat} (hx1 : x = nI k) (hk : k < 7) : XI l D cA ad n f0 ρ r U A yX0_finds cX0_finds 2 (some .int) (0) [.ref (ad 0), .int x] (fun v V => v = (-1000000000) - nI k ∧ V = up3 U 3 0 (upd (U 3 0) k (U 3 0 k + nI 1))) := by
  refine Ci.of rfl (by decide +kernel) (Nat.le_of_ble_eq_true rfl) ?_
  intro p e s m args below meth c Q hC hK hP hret ls hl
  have hx := hC.1
  have hb := hC.2.1
  have hown := hC.2.2.2.1
  have hts := hC.2.2.2.2
  have hS : va_S A s.heap s.heap [] := va_S.rf
  subst hx1
  refine lv_aload_n hx hb dX0_finds_0 rfl (hl.at rfl) ?_
  refine c_get hC hK hP 0 (by omega) (wo_wb) rfl in_X0 6 (by decide) q258 rfl rfl dX0_finds_1 ?_
  refine lv_iload_n hx hb dX0_finds_4 rfl (hl.at rfl) ?_
  refine lv_dup2_11 hx hb dX0_finds_5 rfl rfl ?_
  refine c_ldi hC hK hP 71 (by omega) (wo_71) _ (rfl) (show _ < 7 by omega) (by decide) dX0_finds_6 ?_
  refine lv_iconst (v := nI 1) hx hb dX0_finds_7 rfl ?_
  refine lv_iadd hx hb dX0_finds_8 ?_
  refine c_sti hC hK hP hD hS 71 (by omega) (wo_71) _ (rfl) (show _ < 7 by omega) (by decide) (c_wO 71 0 0 7 (by decide) (by decide) hn rfl (fun _ _ => rfl)) dX0_finds_9 (fun H locs hP hS => ?_)
  refine lv_ldc (v := -1000000000) hx hb hown (hts _ q309) dX0_finds_10 ?_
  refine lv_iload_n hx hb dX0_finds_12 rfl (hl.at rfl) ?_
  refine lv_isub hx hb dX0_finds_13 ?_
  refine hret _ _ ls _ _ _ hP hS dX0_finds_14 ?_
  exact ⟨rfl, rfl⟩
theorem cX0_isWheel_ {l : Launch} {D : va_G} {cA : Nat → ClassId} {ad : Nat → Nat} {n : Nat} {f0 : Nat → va_E} {ρ : Nat → Nat → Option Nat} {r : Nat × Nat} {U : Nat → Nat → Nat → Int32} (hn : 81 ≤ n) {x : Int32} (hr : r.1 < 3) : XP l D cA ad n f0 ρ r U yX0_isWheel cX0_isWheel 2 (some .boolean) (1) [.ref (ad 0), .int x] (bz (nI 0 ≤ x ∧ x ≤ U r.1 0 0 - nI 1)) := by
  refine Cp.ofz rfl (by decide +kernel) (Nat.le_of_ble_eq_true rfl) ?_
  intro p e s m args below meth c Q hC hK hP hret ls hl
  have hx := hC.1
  have hb := hC.2.1
  have hown := hC.2.2.2.1
  have hts := hC.2.2.2.2
  refine lv_iload_n hx hb dX0_isWheel_0 rfl (hl.at rfl) ?_
  refine lv_iconst (v := nI 0) hx hb dX0_isWheel_1 rfl ?_
  refine lv_aload_n hx hb dX0_isWheel_2 rfl (hl.at rfl) ?_
  refine c_get hC hK hP 0 (by omega) (wo_wb) rfl in_X0 2 (by decide) q254 rfl rfl dX0_isWheel_3 ?_
  refine c_getN hC hK hP (3 + 22 * r.1) (by omega) (wo_ho hr) rfl in_X1 0 (by decide) q143 rfl rfl dX0_isWheel_6 ?_
  refine lv_iconst (v := nI 1) hx hb dX0_isWheel_9 rfl ?_
  refine lv_isub hx hb dX0_isWheel_10 ?_
  refine x_sS hC (cX0_isIn_ ) cs_X0_122 rfl rfl hl.1 (Nat.le_of_ble_eq_true rfl) dX0_isWheel_11 (rk (by decide) (by decide)) ⟨Nat.le_refl _, Nat.le_refl _⟩ (fun r11 p11 => ?_)
  rcases p11 with ⟨rfl, p11⟩ | ⟨rfl, p11⟩
  · refine hret ls _ _ dX0_isWheel_14 (by first | exact Or.inl rfl | exact Or.inr rfl) ?_
    first | exact Or.inl ⟨rfl, by assumption⟩ | exact Or.inr ⟨rfl, by assumption⟩
  · refine hret ls _ _ dX0_isWheel_14 (by first | exact Or.inl rfl | exact Or.inr rfl) ?_
    first | exact Or.inl ⟨rfl, by assumption⟩ | exact Or.inr ⟨rfl, by assumption⟩
