theorem cX0_sizeOf_0 {l : Launch} {D : va_G} {cA : Nat → ClassId} {ad : Nat → Nat} {n : Nat} {f0 : Nat → va_E} {ρ : Nat → Nat → Option Nat} {r : Nat × Nat} {U : Nat → Nat → Nat → Int32} (hn : 81 ≤ n) {w z : Nat} {g : Nat → Int32} (w1 : 81 ≤ w) (w2 : w < n) (hw : f0 w = aI (cA 0) z g) : XP l D cA ad n f0 ρ r U yX0_sizeOf cX0_sizeOf 1 (some .int) (0) [.ref (ad w)] (fun v => v = nI z) := by
  refine Cp.of rfl (by decide +kernel) (Nat.le_of_ble_eq_true rfl) ?_
  intro p e s m args below meth c Q hC hK hP hret ls hl
  have hx := hC.1
  have hb := hC.2.1
  have hown := hC.2.2.2.1
  have hts := hC.2.2.2.2
  refine lv_aload_n hx hb dX0_sizeOf_0 rfl (hl.at rfl) ?_
  refine x_instAN 1 hC hK hP w1 w2 hw (by decide) (by decide +kernel) q1233 dX0_sizeOf_1 ?_
  refine l_ifeq_0 hx hb 15 dX0_sizeOf_4 rfl ?_
  refine lv_aload_n hx hb dX0_sizeOf_15 rfl (hl.at rfl) ?_
  refine x_instAN 2 hC hK hP w1 w2 hw (by decide) (by decide +kernel) q1234 dX0_sizeOf_16 ?_
  refine l_ifeq_0 hx hb 30 dX0_sizeOf_19 rfl ?_
  refine lv_aload_n hx hb dX0_sizeOf_30 rfl (hl.at rfl) ?_
  refine x_castA hC hK hP w1 w2 hw (by decide) q1235 dX0_sizeOf_31 ?_
  refine x_alen hC hK hP w1 w2 hw (by decide) dX0_sizeOf_34 ?_
  refine hret ls _ _ dX0_sizeOf_35 ?_
  rfl
theorem cX0_sizeOf_1 {l : Launch} {D : va_G} {cA : Nat → ClassId} {ad : Nat → Nat} {n : Nat} {f0 : Nat → va_E} {ρ : Nat → Nat → Option Nat} {r : Nat × Nat} {U : Nat → Nat → Nat → Int32} (hn : 81 ≤ n) {w z : Nat} {g : Nat → Int32} (w1 : 81 ≤ w) (w2 : w < n) (hw : f0 w = aI (cA 1) z g) : XP l D cA ad n f0 ρ r U yX0_sizeOf cX0_sizeOf 1 (some .int) (0) [.ref (ad w)] (fun v => v = nI z) := by
  refine Cp.of rfl (by decide +kernel) (Nat.le_of_ble_eq_true rfl) ?_
  intro p e s m args below meth c Q hC hK hP hret ls hl
  have hx := hC.1
  have hb := hC.2.1
  have hown := hC.2.2.2.1
  have hts := hC.2.2.2.2
  refine lv_aload_n hx hb dX0_sizeOf_0 rfl (hl.at rfl) ?_
  refine x_instAY hC hK hP w1 w2 hw (by decide) q1233 dX0_sizeOf_1 ?_
  refine l_ifeq_1 hx hb 15 dX0_sizeOf_4 rfl ?_
  refine lv_aload_n hx hb dX0_sizeOf_7 rfl (hl.at rfl) ?_
  refine x_castA hC hK hP w1 w2 hw (by decide) q1233 dX0_sizeOf_8 ?_
  refine x_alen hC hK hP w1 w2 hw (by decide) dX0_sizeOf_11 ?_
  refine lv_goto (tgt := 35) hx hb dX0_sizeOf_12 rfl ?_
  refine hret ls _ _ dX0_sizeOf_35 ?_
  rfl
theorem cX0_sizeOf_2 {l : Launch} {D : va_G} {cA : Nat → ClassId} {ad : Nat → Nat} {n : Nat} {f0 : Nat → va_E} {ρ : Nat → Nat → Option Nat} {r : Nat × Nat} {U : Nat → Nat → Nat → Int32} (hn : 81 ≤ n) {w z : Nat} {g : Nat → Int32} (w1 : 81 ≤ w) (w2 : w < n) (hw : f0 w = aI (cA 2) z g) : XP l D cA ad n f0 ρ r U yX0_sizeOf cX0_sizeOf 1 (some .int) (0) [.ref (ad w)] (fun v => v = nI z) := by
  refine Cp.of rfl (by decide +kernel) (Nat.le_of_ble_eq_true rfl) ?_
  intro p e s m args below meth c Q hC hK hP hret ls hl
  have hx := hC.1
  have hb := hC.2.1
  have hown := hC.2.2.2.1
  have hts := hC.2.2.2.2
  refine lv_aload_n hx hb dX0_sizeOf_0 rfl (hl.at rfl) ?_
  refine x_instAN 1 hC hK hP w1 w2 hw (by decide) (by decide +kernel) q1233 dX0_sizeOf_1 ?_
  refine l_ifeq_0 hx hb 15 dX0_sizeOf_4 rfl ?_
  refine lv_aload_n hx hb dX0_sizeOf_15 rfl (hl.at rfl) ?_
  refine x_instAY hC hK hP w1 w2 hw (by decide) q1234 dX0_sizeOf_16 ?_
  refine l_ifeq_1 hx hb 30 dX0_sizeOf_19 rfl ?_
  refine lv_aload_n hx hb dX0_sizeOf_22 rfl (hl.at rfl) ?_
  refine x_castA hC hK hP w1 w2 hw (by decide) q1234 dX0_sizeOf_23 ?_
  refine x_alen hC hK hP w1 w2 hw (by decide) dX0_sizeOf_26 ?_
  refine lv_goto (tgt := 35) hx hb dX0_sizeOf_27 rfl ?_
  refine hret ls _ _ dX0_sizeOf_35 ?_
  rfl
theorem cX0_numberOf_0 {l : Launch} {D : va_G} {cA : Nat → ClassId} {ad : Nat → Nat} {n : Nat} {f0 : Nat → va_E} {ρ : Nat → Nat → Option Nat} {r : Nat × Nat} {U : Nat → Nat → Nat → Int32} (hn : 81 ≤ n) {w z : Nat} {g : Nat → Int32} (w1 : 81 ≤ w) (w2 : w < n) (hw : f0 w = aI (cA 0) z g) {x : Int32} {i : Nat} (hx1 : x = nI i) (hi : i < z) (hz : z ≤ 24) : XP l D cA ad n f0 ρ r U yX0_numberOf cX0_numberOf 2 (some .int) (0) [.ref (ad w), .int x] (fun v => v = g i) := by
  refine Cp.of rfl (by decide +kernel) (Nat.le_of_ble_eq_true rfl) ?_
  intro p e s m args below meth c Q hC hK hP hret ls hl
  have hx := hC.1
  have hb := hC.2.1
  have hown := hC.2.2.2.1
  have hts := hC.2.2.2.2
  subst hx1
  refine lv_aload_n hx hb dX0_numberOf_0 rfl (hl.at rfl) ?_
  refine x_instAN 1 hC hK hP w1 w2 hw (by decide) (by decide +kernel) q1233 dX0_numberOf_1 ?_
  refine l_ifeq_0 hx hb 16 dX0_numberOf_4 rfl ?_
  refine lv_aload_n hx hb dX0_numberOf_16 rfl (hl.at rfl) ?_
  refine x_instAN 2 hC hK hP w1 w2 hw (by decide) (by decide +kernel) q1234 dX0_numberOf_17 ?_
  refine l_ifeq_0 hx hb 32 dX0_numberOf_20 rfl ?_
  refine lv_aload_n hx hb dX0_numberOf_32 rfl (hl.at rfl) ?_
  refine x_castA hC hK hP w1 w2 hw (by decide) q1235 dX0_numberOf_33 ?_
  refine lv_iload_n hx hb dX0_numberOf_36 rfl (hl.at rfl) ?_
  refine c_ldi hC hK hP w (w2) (wo_po w1 hw) _ (rfl) (hi) (by omega) dX0_numberOf_37 ?_
  refine hret ls _ _ dX0_numberOf_38 ?_
  rfl
theorem cX0_numberOf_1 {l : Launch} {D : va_G} {cA : Nat → ClassId} {ad : Nat → Nat} {n : Nat} {f0 : Nat → va_E} {ρ : Nat → Nat → Option Nat} {r : Nat × Nat} {U : Nat → Nat → Nat → Int32} (hn : 81 ≤ n) {w z : Nat} {g : Nat → Int32} (w1 : 81 ≤ w) (w2 : w < n) (hw : f0 w = aI (cA 1) z g) {x : Int32} {i : Nat} (hx1 : x = nI i) (hi : i < z) (hz : z ≤ 24) : XP l D cA ad n f0 ρ r U yX0_numberOf cX0_numberOf 2 (some .int) (0) [.ref (ad w), .int x] (fun v => v = g i) := by
  refine Cp.of rfl (by decide +kernel) (Nat.le_of_ble_eq_true rfl) ?_
  intro p e s m args below meth c Q hC hK hP hret ls hl
  have hx := hC.1
  have hb := hC.2.1
  have hown := hC.2.2.2.1
  have hts := hC.2.2.2.2
  subst hx1
  refine lv_aload_n hx hb dX0_numberOf_0 rfl (hl.at rfl) ?_
  refine x_instAY hC hK hP w1 w2 hw (by decide) q1233 dX0_numberOf_1 ?_
  refine l_ifeq_1 hx hb 16 dX0_numberOf_4 rfl ?_
  refine lv_aload_n hx hb dX0_numberOf_7 rfl (hl.at rfl) ?_
  refine x_castA hC hK hP w1 w2 hw (by decide) q1233 dX0_numberOf_8 ?_
  refine lv_iload_n hx hb dX0_numberOf_11 rfl (hl.at rfl) ?_
  refine c_ldb hC hK hP w (w2) (wo_po w1 hw) _ (rfl) (hi) (by omega) dX0_numberOf_12 ?_
  refine lv_goto (tgt := 38) hx hb dX0_numberOf_13 rfl ?_
  refine hret ls _ _ dX0_numberOf_38 ?_
  rfl
theorem cX0_numberOf_2 {l : Launch} {D : va_G} {cA : Nat → ClassId} {ad : Nat → Nat} {n : Nat} {f0 : Nat → va_E} {ρ : Nat → Nat → Option Nat} {r : Nat × Nat} {U : Nat → Nat → Nat → Int32} (hn : 81 ≤ n) {w z : Nat} {g : Nat → Int32} (w1 : 81 ≤ w) (w2 : w < n) (hw : f0 w = aI (cA 2) z g) {x : Int32} {i : Nat} (hx1 : x = nI i) (hi : i < z) (hz : z ≤ 24) : XP l D cA ad n f0 ρ r U yX0_numberOf cX0_numberOf 2 (some .int) (0) [.ref (ad w), .int x] (fun v => v = g i) := by
  refine Cp.of rfl (by decide +kernel) (Nat.le_of_ble_eq_true rfl) ?_
  intro p e s m args below meth c Q hC hK hP hret ls hl
  have hx := hC.1
  have hb := hC.2.1
  have hown := hC.2.2.2.1
  have hts := hC.2.2.2.2
  subst hx1
  refine lv_aload_n hx hb dX0_numberOf_0 rfl (hl.at rfl) ?_
  refine x_instAN 1 hC hK hP w1 w2 hw (by decide) (by decide +kernel) q1233 dX0_numberOf_1 ?_
  refine l_ifeq_0 hx hb 16 dX0_numberOf_4 rfl ?_
  refine lv_aload_n hx hb dX0_numberOf_16 rfl (hl.at rfl) ?_
  refine x_instAY hC hK hP w1 w2 hw (by decide) q1234 dX0_numberOf_17 ?_
  refine l_ifeq_1 hx hb 32 dX0_numberOf_20 rfl ?_
  refine lv_aload_n hx hb dX0_numberOf_23 rfl (hl.at rfl) ?_
  refine x_castA hC hK hP w1 w2 hw (by decide) q1234 dX0_numberOf_24 ?_
  refine lv_iload_n hx hb dX0_numberOf_27 rfl (hl.at rfl) ?_
  refine c_lds hC hK hP w (w2) (wo_po w1 hw) _ (rfl) (hi) (by omega) dX0_numberOf_28 ?_
  refine lv_goto (tgt := 38) hx hb dX0_numberOf_29 rfl ?_
  refine hret ls _ _ dX0_numberOf_38 ?_
  rfl
theorem cX0_sizeOf_ {l : Launch} {D : va_G} {cA : Nat → ClassId} {ad : Nat → Nat} {n : Nat} {f0 : Nat → va_E} {ρ : Nat → Nat → Option Nat} {r : Nat × Nat} {U : Nat → Nat → Nat → Int32} (hn : 81 ≤ n) {w z t : Nat} {g : Nat → Int32} (ht : t < 3) (w1 : 81 ≤ w) (w2 : w < n) (hw : f0 w = aI (cA t) z g) : XP l D cA ad n f0 ρ r U yX0_sizeOf cX0_sizeOf 1 (some .int) (0) [.ref (ad w)] (fun v => v = nI z) := by
  rcases (by omega : t = 0 ∨ t = 1 ∨ t = 2) with rfl | rfl | rfl
  · exact cX0_sizeOf_0 hn w1 w2 hw
  · exact cX0_sizeOf_1 hn w1 w2 hw
  · exact cX0_sizeOf_2 hn w1 w2 hw
theorem cX0_numberOf_ {l : Launch} {D : va_G} {cA : Nat → ClassId} {ad : Nat → Nat} {n : Nat} {f0 : Nat → va_E} {ρ : Nat → Nat → Option Nat} {r : Nat × Nat} {U : Nat → Nat → Nat → Int32} (hn : 81 ≤ n) {w z t : Nat} {g : Nat → Int32} (ht : t < 3) (w1 : 81 ≤ w) (w2 : w < n) (hw : f0 w = aI (cA t) z g) {x : Int32} {i : Nat} (hx1 : x = nI i) (hi : i < z) (hz : z ≤ 24) : XP l D cA ad n f0 ρ r U yX0_numberOf cX0_numberOf 2 (some .int) (0) [.ref (ad w), .int x] (fun v => v = g i) := by
  rcases (by omega : t = 0 ∨ t = 1 ∨ t = 2) with rfl | rfl | rfl
  · exact cX0_numberOf_0 hn w1 w2 hw hx1 hi hz
  · exact cX0_numberOf_1 hn w1 w2 hw hx1 hi hz
  · exact cX0_numberOf_2 hn w1 w2 hw hx1 hi hz
theorem cs_X0_363 : CS RX0 363 yX0_isSheet cX0_isSheet 1 (some .boolean) 1 := ⟨lw_S q1223 q1224 q83 q1225, by decide +kernel⟩
theorem cs_X0_368 : CS RX0 368 yX0_sizeOf cX0_sizeOf 1 (some .int) 1 := ⟨lw_S q1230 q1231 q83 q1232, by decide +kernel⟩
theorem cX0_put_ {l : Launch} {D : va_G} {cA : Nat → ClassId} {ad : Nat → Nat} {n : Nat} {f0 : Nat → va_E} {ρ : Nat → Nat → Option Nat} {r : Nat × Nat} {U : Nat → Nat → Nat → Int32} (hn : 81 ≤ n) {A : Nat → Prop} (hD : gD A ad n) (hB : RB ρ n) {z : Nat} (hAz : ∀ q, z ≤ q → A q) {x y v : Int32} {T : Tta} (hX : CQ cA ad n f0 U ρ r T) (hI : Inv (T 0)) : XIg l D cA ad n f0 ρ r U A z yX0_put cX0_put 5 (some .int) (2) 0 0 [.ref (ad 0), .int x, .int y, .int v] (fun o ad1 n1 f1 V ρ1 r1 => o = (op_put x y v T).1 ∧ CQ cA ad1 n1 f1 V ρ1 r1 (op_put x y v T).2 ∧ LX A ad ad1 n1 ρ1) := by
  refine Ci.of rfl (by decide +kernel) (Nat.le_of_ble_eq_true rfl) ?_
  intro p e s m args below meth c Q hC hK hP hret ls hl
  have hx := hC.1
  have hb := hC.2.1
  have hown := hC.2.2.2.1
  have hts := hC.2.2.2.2
  obtain ⟨hP, hz⟩ := hP
  have hS : va_S A s.heap s.heap [] := va_S.rf
  have hT : CT U r T := hX.1
  have hQ : HQ cA ad f0 n ρ (T 0) r.1 := hX.2.1
  have hr2 : r.2 < 3 := hT.lt2
  have hne : r.1 ≠ r.2 := hT.1.2.2
  have hr23 : r.2 ≠ 3 := by omega
  have hr : r.1 < 3 := hT.lt
  have e0 : U r.1 = T 0 := hT.2.1
  have hI2 : Inv (U r.1) := by rw [e0]; exact hI
  have hQ2 : HQ cA ad f0 n ρ (U r.1) r.1 := by rw [e0]; exact hQ
  have hr3 : r.1 ≠ 3 := by omega
  obtain ⟨eN, h8⟩ := inv_wh hI2
  have eH : U r.1 0 1 = nI (hrv (T 0)) := by rw [e0]; exact (inv_hr hI).1
  have hH := (inv_hr hI).2
  rw [e0] at eN h8
  refine lv_iload_n hx hb dX0_put_0 rfl (hl.at rfl) ?_
  refine x_sS hC (cX0_isSheet_ ) cs_X0_363 rfl rfl hl.1 (Nat.le_of_ble_eq_true rfl) dX0_put_1 (rk (by decide) (by decide)) ⟨by decide, by decide⟩ (fun r1 p1 => ?_)
  rcases p1 with ⟨rfl, p1⟩ | ⟨rfl, p1⟩
  · obtain ⟨k, hk, rfl⟩ := in_nI p1
    refine l_ifne_1 hx hb 13 dX0_put_4 rfl ?_
    rcases hX.2.2.2.cs (x := k) (by omega) with ⟨hb0, s0⟩ | ⟨w, z, g, s0, w1, w2, hz, hw, sb, ss, sg⟩ | ⟨w, z, g, s0, w1, w2, hz, hw, sb, ss, sg⟩ | ⟨w, z, g, s0, w1, w2, hz, hw, sb, ss, sg⟩
    · refine lv_aload_n hx hb dX0_put_13 rfl (hl.at rfl) ?_
      refine c_get hC hK hP 0 (by omega) (wo_wb) rfl in_X0 7 (by decide) q259 rfl rfl dX0_put_14 ?_
      refine lv_iload_n hx hb dX0_put_17 rfl (hl.at rfl) ?_
      refine x_ald hC hK hP 72 (by omega) 3 wo_sh rfl k (rfl) ((show k < 4 by omega)) (by decide) dX0_put_18 ?_
      refine c_getN hC hK hP (73 + k) (by omega) (wo_sk ((show k < 4 by omega))) rfl in_X2 0 (by decide) q136 rfl (show ([rf ad (ρ 6 k)] : List Value)[0]? = some .null from by simp [rf, s0, va_rf]) dX0_put_19 ?_
      refine l_astoreN hx hb 4 dX0_put_22 hl rfl (fun ls hl => ?_)
      refine lv_aloadN hx hb dX0_put_24 (hl.at rfl) ?_
      refine lv_ifnonnullN hx hb dX0_put_26 ?_
      refine lv_aload_n hx hb dX0_put_29 rfl (hl.at rfl) ?_
      refine lv_iconst (v := nI 2) hx hb dX0_put_30 rfl ?_
      refine x_iV hC hK hP hS (x_rWB hK hP hn) (cX0_finds_ hn hD (k := 2) rfl (by decide)) cv_X0_173 rfl rfl hl.1 (Nat.le_of_ble_eq_true rfl) dX0_put_31 (rk (by decide) (by decide)) ⟨by decide, by decide⟩ (fun r31 U31 H locs p31 hP hS => ?_)
      refine W.widen (k := 0) (n := 0) (by decide) (by decide) ?_
      refine hret _ _ ls _ _ (_, _, _, _, _, _) hP hS dX0_put_34 ?_
      dsimp only
      first | (rw [op_put, if_neg p1]; exact ⟨(hX.e p9 (by decide)).1, (hX.e p9 (by decide)).2, rfl, hn, hD, hB⟩) | (rw [op_put, if_pos p1, cn_nI (by omega), if_pos hb0]; exact ⟨(hX.e p31 (by decide)).1, (hX.e p31 (by decide)).2, rfl, hn, hD, hB⟩) | (rw [op_put, if_pos p1, cn_nI (by omega), if_neg (by rw [sb]; decide), ss, if_neg p44]; exact ⟨(hX.e p52 (by decide)).1, (hX.e p52 (by decide)).2, rfl, hn, hD, hB⟩) | (rw [op_put, if_pos p1, cn_nI (by omega), if_neg (by rw [sb]; decide), ss, if_pos p44, cn_nI (by omega), sb, shv_32]; exact ⟨rfl, hX.wr (t := 0) (by omega) s0 w1 w2 (by decide) hz hw sb ss (fun j hj => by by_cases e9 : j = i0; (subst e9; rw [pk_us, pk_us]); (rw [pk_un e9, pk_un (by omega)]; exact sg j hj)) (fun y9 j hy hne hj => pk_un (by omega)), rfl, hn, hD, hB⟩) | (rw [op_put, if_pos p1, cn_nI (by omega), if_neg (by rw [sb]; decide), ss, if_pos p44, cn_nI (by omega), sb, shv_8]; exact ⟨rfl, hX.wr (t := 1) (by omega) s0 w1 w2 (by decide) hz hw sb ss (fun j hj => by by_cases e9 : j = i0; (subst e9; rw [pk_us, pk_us]); (rw [pk_un e9, pk_un (by omega)]; exact sg j hj)) (fun y9 j hy hne hj => pk_un (by omega)), rfl, hn, hD, hB⟩) | (rw [op_put, if_pos p1, cn_nI (by omega), if_neg (by rw [sb]; decide), ss, if_pos p44, cn_nI (by omega), sb, shv_16]; exact ⟨rfl, hX.wr (t := 2) (by omega) s0 w1 w2 (by decide) hz hw sb ss (fun j hj => by by_cases e9 : j = i0; (subst e9; rw [pk_us, pk_us]); (rw [pk_un e9, pk_un (by omega)]; exact sg j hj)) (fun y9 j hy hne hj => pk_un (by omega)), rfl, hn, hD, hB⟩)
    · refine lv_aload_n hx hb dX0_put_13 rfl (hl.at rfl) ?_
      refine c_get hC hK hP 0 (by omega) (wo_wb) rfl in_X0 7 (by decide) q259 rfl rfl dX0_put_14 ?_
      refine lv_iload_n hx hb dX0_put_17 rfl (hl.at rfl) ?_
      refine x_ald hC hK hP 72 (by omega) 3 wo_sh rfl k (rfl) ((show k < 4 by omega)) (by decide) dX0_put_18 ?_
      refine c_getN hC hK hP (73 + k) (by omega) (wo_sk ((show k < 4 by omega))) rfl in_X2 0 (by decide) q136 rfl (show ([rf ad (ρ 6 k)] : List Value)[0]? = some (.ref (ad w)) from by simp [rf, s0, va_rf]) dX0_put_19 ?_
      refine l_astore hx hb 4 dX0_put_22 hl rfl (fun ls hl => ?_)
      refine lv_aload hx hb dX0_put_24 (hl.at rfl) ?_
      refine lv_ifnonnull (tgt := 35) hx hb dX0_put_26 rfl ?_
      refine lv_iload_n hx hb dX0_put_35 rfl (hl.at rfl) ?_
      refine lv_iconst (v := nI 0) hx hb dX0_put_36 rfl ?_
      refine lv_aload hx hb dX0_put_37 (hl.at rfl) ?_
      refine x_pS hC hK hP  (cX0_sizeOf_0 hn w1 w2 hw) cs_X0_368 rfl rfl hl.1 (Nat.le_of_ble_eq_true rfl) dX0_put_39 (rk (by decide) (by decide)) ⟨by decide, by decide⟩ (fun r39 p39 => ?_)
      subst p39
      refine lv_iconst (v := nI 1) hx hb dX0_put_42 rfl ?_
      refine lv_isub hx hb dX0_put_43 ?_
      refine x_sS hC (cX0_isIn_ ) cs_X0_122 rfl rfl hl.1 (Nat.le_of_ble_eq_true rfl) dX0_put_44 (rk (by decide) (by decide)) ⟨by decide, by decide⟩ (fun r44 p44 => ?_)
      rcases p44 with ⟨rfl, p44⟩ | ⟨rfl, p44⟩
      · obtain ⟨i0, hi0, rfl⟩ := in_sz hz p44
        refine l_ifne_1 hx hb 56 dX0_put_47 rfl ?_
        refine lv_aload hx hb dX0_put_56 (hl.at rfl) ?_
        refine x_instAN 1 hC hK hP w1 w2 hw (by decide) (by decide +kernel) q1233 dX0_put_58 ?_
        refine l_ifeq_0 hx hb 76 dX0_put_61 rfl ?_
        refine lv_aload hx hb dX0_put_76 (hl.at rfl) ?_
        refine x_instAN 2 hC hK hP w1 w2 hw (by decide) (by decide +kernel) q1234 dX0_put_78 ?_
        refine l_ifeq_0 hx hb 96 dX0_put_81 rfl ?_
        refine lv_aload hx hb dX0_put_96 (hl.at rfl) ?_
        refine x_castA hC hK hP w1 w2 hw (by decide) q1235 dX0_put_98 ?_
        refine lv_iload_n hx hb dX0_put_101 rfl (hl.at rfl) ?_
        refine lv_iload_n hx hb dX0_put_102 rfl (hl.at rfl) ?_
        refine c_sti hC hK hP hD hS w (w2) (wo_po w1 hw) _ (rfl) (hi0) (by omega) (cp_pool w1 w2) dX0_put_103 (fun H locs hP hS => ?_)
        refine lv_iconst (v := nI 1) hx hb dX0_put_104 rfl ?_
        refine W.widen (k := 0) (n := 0) (by decide) (by decide) ?_
        refine hret _ _ ls _ _ (_, _, _, _, _, _) hP hS dX0_put_105 ?_
        dsimp only
        first | (rw [op_put, if_neg p1]; exact ⟨(hX.e p9 (by decide)).1, (hX.e p9 (by decide)).2, rfl, hn, hD, hB⟩) | (rw [op_put, if_pos p1, cn_nI (by omega), if_pos hb0]; exact ⟨(hX.e p31 (by decide)).1, (hX.e p31 (by decide)).2, rfl, hn, hD, hB⟩) | (rw [op_put, if_pos p1, cn_nI (by omega), if_neg (by rw [sb]; decide), ss, if_neg p44]; exact ⟨(hX.e p52 (by decide)).1, (hX.e p52 (by decide)).2, rfl, hn, hD, hB⟩) | (rw [op_put, if_pos p1, cn_nI (by omega), if_neg (by rw [sb]; decide), ss, if_pos p44, cn_nI (by omega), sb, shv_32]; exact ⟨rfl, hX.wr (t := 0) (by omega) s0 w1 w2 (by decide) hz hw sb ss (fun j hj => by by_cases e9 : j = i0; (subst e9; rw [pk_us, pk_us]); (rw [pk_un e9, pk_un (by omega)]; exact sg j hj)) (fun y9 j hy hne hj => pk_un (by omega)), rfl, hn, hD, hB⟩) | (rw [op_put, if_pos p1, cn_nI (by omega), if_neg (by rw [sb]; decide), ss, if_pos p44, cn_nI (by omega), sb, shv_8]; exact ⟨rfl, hX.wr (t := 1) (by omega) s0 w1 w2 (by decide) hz hw sb ss (fun j hj => by by_cases e9 : j = i0; (subst e9; rw [pk_us, pk_us]); (rw [pk_un e9, pk_un (by omega)]; exact sg j hj)) (fun y9 j hy hne hj => pk_un (by omega)), rfl, hn, hD, hB⟩) | (rw [op_put, if_pos p1, cn_nI (by omega), if_neg (by rw [sb]; decide), ss, if_pos p44, cn_nI (by omega), sb, shv_16]; exact ⟨rfl, hX.wr (t := 2) (by omega) s0 w1 w2 (by decide) hz hw sb ss (fun j hj => by by_cases e9 : j = i0; (subst e9; rw [pk_us, pk_us]); (rw [pk_un e9, pk_un (by omega)]; exact sg j hj)) (fun y9 j hy hne hj => pk_un (by omega)), rfl, hn, hD, hB⟩)
      · refine l_ifne_0 hx hb 56 dX0_put_47 rfl ?_
        refine lv_aload_n hx hb dX0_put_50 rfl (hl.at rfl) ?_
        refine lv_iconst (v := nI 1) hx hb dX0_put_51 rfl ?_
        refine x_iV hC hK hP hS (x_rWB hK hP hn) (cX0_finds_ hn hD (k := 1) rfl (by decide)) cv_X0_173 rfl rfl hl.1 (Nat.le_of_ble_eq_true rfl) dX0_put_52 (rk (by decide) (by decide)) ⟨by decide, by decide⟩ (fun r52 U52 H locs p52 hP hS => ?_)
        refine W.widen (k := 0) (n := 0) (by decide) (by decide) ?_
        refine hret _ _ ls _ _ (_, _, _, _, _, _) hP hS dX0_put_55 ?_
        dsimp only
        first | (rw [op_put, if_neg p1]; exact ⟨(hX.e p9 (by decide)).1, (hX.e p9 (by decide)).2, rfl, hn, hD, hB⟩) | (rw [op_put, if_pos p1, cn_nI (by omega), if_pos hb0]; exact ⟨(hX.e p31 (by decide)).1, (hX.e p31 (by decide)).2, rfl, hn, hD, hB⟩) | (rw [op_put, if_pos p1, cn_nI (by omega), if_neg (by rw [sb]; decide), ss, if_neg p44]; exact ⟨(hX.e p52 (by decide)).1, (hX.e p52 (by decide)).2, rfl, hn, hD, hB⟩) | (rw [op_put, if_pos p1, cn_nI (by omega), if_neg (by rw [sb]; decide), ss, if_pos p44, cn_nI (by omega), sb, shv_32]; exact ⟨rfl, hX.wr (t := 0) (by omega) s0 w1 w2 (by decide) hz hw sb ss (fun j hj => by by_cases e9 : j = i0; (subst e9; rw [pk_us, pk_us]); (rw [pk_un e9, pk_un (by omega)]; exact sg j hj)) (fun y9 j hy hne hj => pk_un (by omega)), rfl, hn, hD, hB⟩) | (rw [op_put, if_pos p1, cn_nI (by omega), if_neg (by rw [sb]; decide), ss, if_pos p44, cn_nI (by omega), sb, shv_8]; exact ⟨rfl, hX.wr (t := 1) (by omega) s0 w1 w2 (by decide) hz hw sb ss (fun j hj => by by_cases e9 : j = i0; (subst e9; rw [pk_us, pk_us]); (rw [pk_un e9, pk_un (by omega)]; exact sg j hj)) (fun y9 j hy hne hj => pk_un (by omega)), rfl, hn, hD, hB⟩) | (rw [op_put, if_pos p1, cn_nI (by omega), if_neg (by rw [sb]; decide), ss, if_pos p44, cn_nI (by omega), sb, shv_16]; exact ⟨rfl, hX.wr (t := 2) (by omega) s0 w1 w2 (by decide) hz hw sb ss (fun j hj => by by_cases e9 : j = i0; (subst e9; rw [pk_us, pk_us]); (rw [pk_un e9, pk_un (by omega)]; exact sg j hj)) (fun y9 j hy hne hj => pk_un (by omega)), rfl, hn, hD, hB⟩)
    · refine lv_aload_n hx hb dX0_put_13 rfl (hl.at rfl) ?_
      refine c_get hC hK hP 0 (by omega) (wo_wb) rfl in_X0 7 (by decide) q259 rfl rfl dX0_put_14 ?_
      refine lv_iload_n hx hb dX0_put_17 rfl (hl.at rfl) ?_
      refine x_ald hC hK hP 72 (by omega) 3 wo_sh rfl k (rfl) ((show k < 4 by omega)) (by decide) dX0_put_18 ?_
      refine c_getN hC hK hP (73 + k) (by omega) (wo_sk ((show k < 4 by omega))) rfl in_X2 0 (by decide) q136 rfl (show ([rf ad (ρ 6 k)] : List Value)[0]? = some (.ref (ad w)) from by simp [rf, s0, va_rf]) dX0_put_19 ?_
      refine l_astore hx hb 4 dX0_put_22 hl rfl (fun ls hl => ?_)
      refine lv_aload hx hb dX0_put_24 (hl.at rfl) ?_
      refine lv_ifnonnull (tgt := 35) hx hb dX0_put_26 rfl ?_
      refine lv_iload_n hx hb dX0_put_35 rfl (hl.at rfl) ?_
      refine lv_iconst (v := nI 0) hx hb dX0_put_36 rfl ?_
      refine lv_aload hx hb dX0_put_37 (hl.at rfl) ?_
      refine x_pS hC hK hP  (cX0_sizeOf_1 hn w1 w2 hw) cs_X0_368 rfl rfl hl.1 (Nat.le_of_ble_eq_true rfl) dX0_put_39 (rk (by decide) (by decide)) ⟨by decide, by decide⟩ (fun r39 p39 => ?_)
      subst p39
      refine lv_iconst (v := nI 1) hx hb dX0_put_42 rfl ?_
      refine lv_isub hx hb dX0_put_43 ?_
      refine x_sS hC (cX0_isIn_ ) cs_X0_122 rfl rfl hl.1 (Nat.le_of_ble_eq_true rfl) dX0_put_44 (rk (by decide) (by decide)) ⟨by decide, by decide⟩ (fun r44 p44 => ?_)
      rcases p44 with ⟨rfl, p44⟩ | ⟨rfl, p44⟩
      · obtain ⟨i0, hi0, rfl⟩ := in_sz hz p44
        refine l_ifne_1 hx hb 56 dX0_put_47 rfl ?_
        refine lv_aload hx hb dX0_put_56 (hl.at rfl) ?_
        refine x_instAY hC hK hP w1 w2 hw (by decide) q1233 dX0_put_58 ?_
        refine l_ifeq_1 hx hb 76 dX0_put_61 rfl ?_
        refine lv_aload hx hb dX0_put_64 (hl.at rfl) ?_
        refine x_castA hC hK hP w1 w2 hw (by decide) q1233 dX0_put_66 ?_
        refine lv_iload_n hx hb dX0_put_69 rfl (hl.at rfl) ?_
        refine lv_iload_n hx hb dX0_put_70 rfl (hl.at rfl) ?_
        refine lv_i2b hx hb dX0_put_71 rfl ?_
        refine c_stb hC hK hP hD hS w (w2) (wo_po w1 hw) (nB v) (nB_nB v) _ (rfl) (hi0) (by omega) (cp_pool w1 w2) dX0_put_72 (fun H locs hP hS => ?_)
        refine lv_goto (tgt := 104) hx hb dX0_put_73 rfl ?_
        refine lv_iconst (v := nI 1) hx hb dX0_put_104 rfl ?_
        refine W.widen (k := 0) (n := 0) (by decide) (by decide) ?_
        refine hret _ _ ls _ _ (_, _, _, _, _, _) hP hS dX0_put_105 ?_
        dsimp only
        first | (rw [op_put, if_neg p1]; exact ⟨(hX.e p9 (by decide)).1, (hX.e p9 (by decide)).2, rfl, hn, hD, hB⟩) | (rw [op_put, if_pos p1, cn_nI (by omega), if_pos hb0]; exact ⟨(hX.e p31 (by decide)).1, (hX.e p31 (by decide)).2, rfl, hn, hD, hB⟩) | (rw [op_put, if_pos p1, cn_nI (by omega), if_neg (by rw [sb]; decide), ss, if_neg p44]; exact ⟨(hX.e p52 (by decide)).1, (hX.e p52 (by decide)).2, rfl, hn, hD, hB⟩) | (rw [op_put, if_pos p1, cn_nI (by omega), if_neg (by rw [sb]; decide), ss, if_pos p44, cn_nI (by omega), sb, shv_32]; exact ⟨rfl, hX.wr (t := 0) (by omega) s0 w1 w2 (by decide) hz hw sb ss (fun j hj => by by_cases e9 : j = i0; (subst e9; rw [pk_us, pk_us]); (rw [pk_un e9, pk_un (by omega)]; exact sg j hj)) (fun y9 j hy hne hj => pk_un (by omega)), rfl, hn, hD, hB⟩) | (rw [op_put, if_pos p1, cn_nI (by omega), if_neg (by rw [sb]; decide), ss, if_pos p44, cn_nI (by omega), sb, shv_8]; exact ⟨rfl, hX.wr (t := 1) (by omega) s0 w1 w2 (by decide) hz hw sb ss (fun j hj => by by_cases e9 : j = i0; (subst e9; rw [pk_us, pk_us]); (rw [pk_un e9, pk_un (by omega)]; exact sg j hj)) (fun y9 j hy hne hj => pk_un (by omega)), rfl, hn, hD, hB⟩) | (rw [op_put, if_pos p1, cn_nI (by omega), if_neg (by rw [sb]; decide), ss, if_pos p44, cn_nI (by omega), sb, shv_16]; exact ⟨rfl, hX.wr (t := 2) (by omega) s0 w1 w2 (by decide) hz hw sb ss (fun j hj => by by_cases e9 : j = i0; (subst e9; rw [pk_us, pk_us]); (rw [pk_un e9, pk_un (by omega)]; exact sg j hj)) (fun y9 j hy hne hj => pk_un (by omega)), rfl, hn, hD, hB⟩)
      · refine l_ifne_0 hx hb 56 dX0_put_47 rfl ?_
        refine lv_aload_n hx hb dX0_put_50 rfl (hl.at rfl) ?_
        refine lv_iconst (v := nI 1) hx hb dX0_put_51 rfl ?_
        refine x_iV hC hK hP hS (x_rWB hK hP hn) (cX0_finds_ hn hD (k := 1) rfl (by decide)) cv_X0_173 rfl rfl hl.1 (Nat.le_of_ble_eq_true rfl) dX0_put_52 (rk (by decide) (by decide)) ⟨by decide, by decide⟩ (fun r52 U52 H locs p52 hP hS => ?_)
        refine W.widen (k := 0) (n := 0) (by decide) (by decide) ?_
        refine hret _ _ ls _ _ (_, _, _, _, _, _) hP hS dX0_put_55 ?_
        dsimp only
        first | (rw [op_put, if_neg p1]; exact ⟨(hX.e p9 (by decide)).1, (hX.e p9 (by decide)).2, rfl, hn, hD, hB⟩) | (rw [op_put, if_pos p1, cn_nI (by omega), if_pos hb0]; exact ⟨(hX.e p31 (by decide)).1, (hX.e p31 (by decide)).2, rfl, hn, hD, hB⟩) | (rw [op_put, if_pos p1, cn_nI (by omega), if_neg (by rw [sb]; decide), ss, if_neg p44]; exact ⟨(hX.e p52 (by decide)).1, (hX.e p52 (by decide)).2, rfl, hn, hD, hB⟩) | (rw [op_put, if_pos p1, cn_nI (by omega), if_neg (by rw [sb]; decide), ss, if_pos p44, cn_nI (by omega), sb, shv_32]; exact ⟨rfl, hX.wr (t := 0) (by omega) s0 w1 w2 (by decide) hz hw sb ss (fun j hj => by by_cases e9 : j = i0; (subst e9; rw [pk_us, pk_us]); (rw [pk_un e9, pk_un (by omega)]; exact sg j hj)) (fun y9 j hy hne hj => pk_un (by omega)), rfl, hn, hD, hB⟩) | (rw [op_put, if_pos p1, cn_nI (by omega), if_neg (by rw [sb]; decide), ss, if_pos p44, cn_nI (by omega), sb, shv_8]; exact ⟨rfl, hX.wr (t := 1) (by omega) s0 w1 w2 (by decide) hz hw sb ss (fun j hj => by by_cases e9 : j = i0; (subst e9; rw [pk_us, pk_us]); (rw [pk_un e9, pk_un (by omega)]; exact sg j hj)) (fun y9 j hy hne hj => pk_un (by omega)), rfl, hn, hD, hB⟩) | (rw [op_put, if_pos p1, cn_nI (by omega), if_neg (by rw [sb]; decide), ss, if_pos p44, cn_nI (by omega), sb, shv_16]; exact ⟨rfl, hX.wr (t := 2) (by omega) s0 w1 w2 (by decide) hz hw sb ss (fun j hj => by by_cases e9 : j = i0; (subst e9; rw [pk_us, pk_us]); (rw [pk_un e9, pk_un (by omega)]; exact sg j hj)) (fun y9 j hy hne hj => pk_un (by omega)), rfl, hn, hD, hB⟩)
    · refine lv_aload_n hx hb dX0_put_13 rfl (hl.at rfl) ?_
      refine c_get hC hK hP 0 (by omega) (wo_wb) rfl in_X0 7 (by decide) q259 rfl rfl dX0_put_14 ?_
      refine lv_iload_n hx hb dX0_put_17 rfl (hl.at rfl) ?_
      refine x_ald hC hK hP 72 (by omega) 3 wo_sh rfl k (rfl) ((show k < 4 by omega)) (by decide) dX0_put_18 ?_
      refine c_getN hC hK hP (73 + k) (by omega) (wo_sk ((show k < 4 by omega))) rfl in_X2 0 (by decide) q136 rfl (show ([rf ad (ρ 6 k)] : List Value)[0]? = some (.ref (ad w)) from by simp [rf, s0, va_rf]) dX0_put_19 ?_
      refine l_astore hx hb 4 dX0_put_22 hl rfl (fun ls hl => ?_)
      refine lv_aload hx hb dX0_put_24 (hl.at rfl) ?_
      refine lv_ifnonnull (tgt := 35) hx hb dX0_put_26 rfl ?_
      refine lv_iload_n hx hb dX0_put_35 rfl (hl.at rfl) ?_
      refine lv_iconst (v := nI 0) hx hb dX0_put_36 rfl ?_
      refine lv_aload hx hb dX0_put_37 (hl.at rfl) ?_
      refine x_pS hC hK hP  (cX0_sizeOf_2 hn w1 w2 hw) cs_X0_368 rfl rfl hl.1 (Nat.le_of_ble_eq_true rfl) dX0_put_39 (rk (by decide) (by decide)) ⟨by decide, by decide⟩ (fun r39 p39 => ?_)
      subst p39
      refine lv_iconst (v := nI 1) hx hb dX0_put_42 rfl ?_
      refine lv_isub hx hb dX0_put_43 ?_
      refine x_sS hC (cX0_isIn_ ) cs_X0_122 rfl rfl hl.1 (Nat.le_of_ble_eq_true rfl) dX0_put_44 (rk (by decide) (by decide)) ⟨by decide, by decide⟩ (fun r44 p44 => ?_)
      rcases p44 with ⟨rfl, p44⟩ | ⟨rfl, p44⟩
      · obtain ⟨i0, hi0, rfl⟩ := in_sz hz p44
        refine l_ifne_1 hx hb 56 dX0_put_47 rfl ?_
        refine lv_aload hx hb dX0_put_56 (hl.at rfl) ?_
        refine x_instAN 1 hC hK hP w1 w2 hw (by decide) (by decide +kernel) q1233 dX0_put_58 ?_
        refine l_ifeq_0 hx hb 76 dX0_put_61 rfl ?_
        refine lv_aload hx hb dX0_put_76 (hl.at rfl) ?_
        refine x_instAY hC hK hP w1 w2 hw (by decide) q1234 dX0_put_78 ?_
        refine l_ifeq_1 hx hb 96 dX0_put_81 rfl ?_
        refine lv_aload hx hb dX0_put_84 (hl.at rfl) ?_
        refine x_castA hC hK hP w1 w2 hw (by decide) q1234 dX0_put_86 ?_
        refine lv_iload_n hx hb dX0_put_89 rfl (hl.at rfl) ?_
        refine lv_iload_n hx hb dX0_put_90 rfl (hl.at rfl) ?_
        refine lv_i2s hx hb dX0_put_91 rfl ?_
        refine c_sts hC hK hP hD hS w (w2) (wo_po w1 hw) (nS v) (nS_nS v) _ (rfl) (hi0) (by omega) (cp_pool w1 w2) dX0_put_92 (fun H locs hP hS => ?_)
        refine lv_goto (tgt := 104) hx hb dX0_put_93 rfl ?_
        refine lv_iconst (v := nI 1) hx hb dX0_put_104 rfl ?_
        refine W.widen (k := 0) (n := 0) (by decide) (by decide) ?_
        refine hret _ _ ls _ _ (_, _, _, _, _, _) hP hS dX0_put_105 ?_
        dsimp only
        first | (rw [op_put, if_neg p1]; exact ⟨(hX.e p9 (by decide)).1, (hX.e p9 (by decide)).2, rfl, hn, hD, hB⟩) | (rw [op_put, if_pos p1, cn_nI (by omega), if_pos hb0]; exact ⟨(hX.e p31 (by decide)).1, (hX.e p31 (by decide)).2, rfl, hn, hD, hB⟩) | (rw [op_put, if_pos p1, cn_nI (by omega), if_neg (by rw [sb]; decide), ss, if_neg p44]; exact ⟨(hX.e p52 (by decide)).1, (hX.e p52 (by decide)).2, rfl, hn, hD, hB⟩) | (rw [op_put, if_pos p1, cn_nI (by omega), if_neg (by rw [sb]; decide), ss, if_pos p44, cn_nI (by omega), sb, shv_32]; exact ⟨rfl, hX.wr (t := 0) (by omega) s0 w1 w2 (by decide) hz hw sb ss (fun j hj => by by_cases e9 : j = i0; (subst e9; rw [pk_us, pk_us]); (rw [pk_un e9, pk_un (by omega)]; exact sg j hj)) (fun y9 j hy hne hj => pk_un (by omega)), rfl, hn, hD, hB⟩) | (rw [op_put, if_pos p1, cn_nI (by omega), if_neg (by rw [sb]; decide), ss, if_pos p44, cn_nI (by omega), sb, shv_8]; exact ⟨rfl, hX.wr (t := 1) (by omega) s0 w1 w2 (by decide) hz hw sb ss (fun j hj => by by_cases e9 : j = i0; (subst e9; rw [pk_us, pk_us]); (rw [pk_un e9, pk_un (by omega)]; exact sg j hj)) (fun y9 j hy hne hj => pk_un (by omega)), rfl, hn, hD, hB⟩) | (rw [op_put, if_pos p1, cn_nI (by omega), if_neg (by rw [sb]; decide), ss, if_pos p44, cn_nI (by omega), sb, shv_16]; exact ⟨rfl, hX.wr (t := 2) (by omega) s0 w1 w2 (by decide) hz hw sb ss (fun j hj => by by_cases e9 : j = i0; (subst e9; rw [pk_us, pk_us]); (rw [pk_un e9, pk_un (by omega)]; exact sg j hj)) (fun y9 j hy hne hj => pk_un (by omega)), rfl, hn, hD, hB⟩)
      · refine l_ifne_0 hx hb 56 dX0_put_47 rfl ?_
        refine lv_aload_n hx hb dX0_put_50 rfl (hl.at rfl) ?_
        refine lv_iconst (v := nI 1) hx hb dX0_put_51 rfl ?_
        refine x_iV hC hK hP hS (x_rWB hK hP hn) (cX0_finds_ hn hD (k := 1) rfl (by decide)) cv_X0_173 rfl rfl hl.1 (Nat.le_of_ble_eq_true rfl) dX0_put_52 (rk (by decide) (by decide)) ⟨by decide, by decide⟩ (fun r52 U52 H locs p52 hP hS => ?_)
        refine W.widen (k := 0) (n := 0) (by decide) (by decide) ?_
        refine hret _ _ ls _ _ (_, _, _, _, _, _) hP hS dX0_put_55 ?_
        dsimp only
        first | (rw [op_put, if_neg p1]; exact ⟨(hX.e p9 (by decide)).1, (hX.e p9 (by decide)).2, rfl, hn, hD, hB⟩) | (rw [op_put, if_pos p1, cn_nI (by omega), if_pos hb0]; exact ⟨(hX.e p31 (by decide)).1, (hX.e p31 (by decide)).2, rfl, hn, hD, hB⟩) | (rw [op_put, if_pos p1, cn_nI (by omega), if_neg (by rw [sb]; decide), ss, if_neg p44]; exact ⟨(hX.e p52 (by decide)).1, (hX.e p52 (by decide)).2, rfl, hn, hD, hB⟩) | (rw [op_put, if_pos p1, cn_nI (by omega), if_neg (by rw [sb]; decide), ss, if_pos p44, cn_nI (by omega), sb, shv_32]; exact ⟨rfl, hX.wr (t := 0) (by omega) s0 w1 w2 (by decide) hz hw sb ss (fun j hj => by by_cases e9 : j = i0; (subst e9; rw [pk_us, pk_us]); (rw [pk_un e9, pk_un (by omega)]; exact sg j hj)) (fun y9 j hy hne hj => pk_un (by omega)), rfl, hn, hD, hB⟩) | (rw [op_put, if_pos p1, cn_nI (by omega), if_neg (by rw [sb]; decide), ss, if_pos p44, cn_nI (by omega), sb, shv_8]; exact ⟨rfl, hX.wr (t := 1) (by omega) s0 w1 w2 (by decide) hz hw sb ss (fun j hj => by by_cases e9 : j = i0; (subst e9; rw [pk_us, pk_us]); (rw [pk_un e9, pk_un (by omega)]; exact sg j hj)) (fun y9 j hy hne hj => pk_un (by omega)), rfl, hn, hD, hB⟩) | (rw [op_put, if_pos p1, cn_nI (by omega), if_neg (by rw [sb]; decide), ss, if_pos p44, cn_nI (by omega), sb, shv_16]; exact ⟨rfl, hX.wr (t := 2) (by omega) s0 w1 w2 (by decide) hz hw sb ss (fun j hj => by by_cases e9 : j = i0; (subst e9; rw [pk_us, pk_us]); (rw [pk_un e9, pk_un (by omega)]; exact sg j hj)) (fun y9 j hy hne hj => pk_un (by omega)), rfl, hn, hD, hB⟩)
  · refine l_ifne_0 hx hb 13 dX0_put_4 rfl ?_
    refine lv_aload_n hx hb dX0_put_7 rfl (hl.at rfl) ?_
    refine lv_iconst (v := nI 1) hx hb dX0_put_8 rfl ?_
    refine x_iV hC hK hP hS (x_rWB hK hP hn) (cX0_finds_ hn hD (k := 1) rfl (by decide)) cv_X0_173 rfl rfl hl.1 (Nat.le_of_ble_eq_true rfl) dX0_put_9 (rk (by decide) (by decide)) ⟨by decide, by decide⟩ (fun r9 U9 H locs p9 hP hS => ?_)
    refine W.widen (k := 0) (n := 0) (by decide) (by decide) ?_
    refine hret _ _ ls _ _ (_, _, _, _, _, _) hP hS dX0_put_12 ?_
    dsimp only
    first | (rw [op_put, if_neg p1]; exact ⟨(hX.e p9 (by decide)).1, (hX.e p9 (by decide)).2, rfl, hn, hD, hB⟩) | (rw [op_put, if_pos p1, cn_nI (by omega), if_pos hb0]; exact ⟨(hX.e p31 (by decide)).1, (hX.e p31 (by decide)).2, rfl, hn, hD, hB⟩) | (rw [op_put, if_pos p1, cn_nI (by omega), if_neg (by rw [sb]; decide), ss, if_neg p44]; exact ⟨(hX.e p52 (by decide)).1, (hX.e p52 (by decide)).2, rfl, hn, hD, hB⟩) | (rw [op_put, if_pos p1, cn_nI (by omega), if_neg (by rw [sb]; decide), ss, if_pos p44, cn_nI (by omega), sb, shv_32]; exact ⟨rfl, hX.wr (t := 0) (by omega) s0 w1 w2 (by decide) hz hw sb ss (fun j hj => by by_cases e9 : j = i0; (subst e9; rw [pk_us, pk_us]); (rw [pk_un e9, pk_un (by omega)]; exact sg j hj)) (fun y9 j hy hne hj => pk_un (by omega)), rfl, hn, hD, hB⟩) | (rw [op_put, if_pos p1, cn_nI (by omega), if_neg (by rw [sb]; decide), ss, if_pos p44, cn_nI (by omega), sb, shv_8]; exact ⟨rfl, hX.wr (t := 1) (by omega) s0 w1 w2 (by decide) hz hw sb ss (fun j hj => by by_cases e9 : j = i0; (subst e9; rw [pk_us, pk_us]); (rw [pk_un e9, pk_un (by omega)]; exact sg j hj)) (fun y9 j hy hne hj => pk_un (by omega)), rfl, hn, hD, hB⟩) | (rw [op_put, if_pos p1, cn_nI (by omega), if_neg (by rw [sb]; decide), ss, if_pos p44, cn_nI (by omega), sb, shv_16]; exact ⟨rfl, hX.wr (t := 2) (by omega) s0 w1 w2 (by decide) hz hw sb ss (fun j hj => by by_cases e9 : j = i0; (subst e9; rw [pk_us, pk_us]); (rw [pk_un e9, pk_un (by omega)]; exact sg j hj)) (fun y9 j hy hne hj => pk_un (by omega)), rfl, hn, hD, hB⟩)
