theorem cX6_parts_0 {l : Launch} {D : va_G} {cA : Nat → ClassId} {ad : Nat → Nat} {n : Nat} {f0 : Nat → va_E} {ρ : Nat → Nat → Option Nat} {r : Nat × Nat} {U : Nat → Nat → Nat → Int32} (hn : 81 ≤ n) {A : Nat → Prop} (hD : gD A ad n) {w : Nat} {nu mm : Int32} (hw1 : 81 ≤ w) (hw2 : w < n) (hw : f0 w = .inr (6, [.int nu, .int mm])) {U0 : Tta} {t : TR} (hU : U = uT U0 t) (ht : t.2 ≤ 30) {x : Int32} {S : Sta} {k : Nat} (hnu : nu = nI k) (hkd : S 5 k = nI 0) (hmm : mm = S 6 k) (hq : vqb S k ≠ 0) : XI l D cA ad n f0 ρ r U A yX6_parts cX6_parts 3 (some .int) (1) [.ref (ad w), .int x, .ref (ad 69)] (fun v V => v = (vq0 S k x t).1 ∧ V = uT U0 (vq0 S k x t).2) := by
  refine Ci.of rfl (by decide +kernel) (Nat.le_of_ble_eq_true rfl) ?_
  intro p e s m args below meth c Q hC hK hP hret ls hl
  have hx := hC.1
  have hb := hC.2.1
  have hown := hC.2.2.2.1
  have hts := hC.2.2.2.2
  have hS : va_S A s.heap s.heap [] := va_S.rf
  subst hU
  refine lv_aload_n hx hb dX6_parts_0 rfl (hl.at rfl) ?_
  refine lv_bipush (v := nI 13) hx hb dX6_parts_1 rfl ?_
  refine x_vV hC hK hP hS (x_rTR hK hP hn) (cX3_ran_ hn hD rfl ht (q := 13) rfl (by decide)) cv_X6_16 rfl rfl hl.1 (Nat.le_of_ble_eq_true rfl) dX6_parts_3 (rk (by decide) (by decide)) ⟨Nat.le_refl _, Nat.le_refl _⟩ (fun U3 H locs p3 hP hS => ?_)
  subst p3
  refine lv_iload_n hx hb dX6_parts_6 rfl (hl.at rfl) ?_
  refine lv_aload_n hx hb dX6_parts_7 rfl (hl.at rfl) ?_
  refine c_get hC hK hP w (hw2) (wo_po hw1 hw) rfl in_X6 1 (by decide) q373 rfl rfl dX6_parts_8 ?_
  refine lv_aload_n hx hb dX6_parts_11 rfl (hl.at rfl) ?_
  refine c_get hC hK hP w (hw2) (wo_po hw1 hw) rfl in_X6 0 (by decide) q368 rfl rfl dX6_parts_12 ?_
  refine lv_isub hx hb dX6_parts_15 ?_
  refine lv_idiv hx hb dX6_parts_16 (by rw [hmm, hnu]; exact hq) ?_
  refine hret _ _ ls _ _ _ hP hS dX6_parts_17 ?_
  rw [vq0, vqv_d hq, vqb, hmm, hnu]; exact ⟨rfl, rfl⟩
theorem cX6_parts_1 {l : Launch} {D : va_G} {cA : Nat → ClassId} {ad : Nat → Nat} {n : Nat} {f0 : Nat → va_E} {ρ : Nat → Nat → Option Nat} {r : Nat × Nat} {U : Nat → Nat → Nat → Int32} (hn : 81 ≤ n) {A : Nat → Prop} (hD : gD A ad n) {w : Nat} {nu mm : Int32} (hw1 : 81 ≤ w) (hw2 : w < n) (hw : f0 w = .inr (7, [.int nu, .int mm])) {U0 : Tta} {t : TR} (hU : U = uT U0 t) (ht : t.2 ≤ 30) {x : Int32} {S : Sta} {k : Nat} (hnu : nu = nI k) (hkd : S 5 k = nI 1) (hmm : mm = S 6 k) (hq : vqb S k ≠ 0) : XI l D cA ad n f0 ρ r U A yX6_parts cX6_parts 3 (some .int) (1) [.ref (ad w), .int x, .ref (ad 69)] (fun v V => v = (vq0 S k x t).1 ∧ V = uT U0 (vq0 S k x t).2) := by
  refine Ci.of rfl (by decide +kernel) (Nat.le_of_ble_eq_true rfl) ?_
  intro p e s m args below meth c Q hC hK hP hret ls hl
  have hx := hC.1
  have hb := hC.2.1
  have hown := hC.2.2.2.1
  have hts := hC.2.2.2.2
  have hS : va_S A s.heap s.heap [] := va_S.rf
  subst hU
  refine lv_aload_n hx hb dX6_parts_0 rfl (hl.at rfl) ?_
  refine lv_bipush (v := nI 13) hx hb dX6_parts_1 rfl ?_
  refine x_vV hC hK hP hS (x_rTR hK hP hn) (cX3_ran_ hn hD rfl ht (q := 13) rfl (by decide)) cv_X6_16 rfl rfl hl.1 (Nat.le_of_ble_eq_true rfl) dX6_parts_3 (rk (by decide) (by decide)) ⟨Nat.le_refl _, Nat.le_refl _⟩ (fun U3 H locs p3 hP hS => ?_)
  subst p3
  refine lv_iload_n hx hb dX6_parts_6 rfl (hl.at rfl) ?_
  refine lv_aload_n hx hb dX6_parts_7 rfl (hl.at rfl) ?_
  refine c_get hC hK hP w (hw2) (wo_po hw1 hw) rfl in_X7 1 (by decide) q373 rfl rfl dX6_parts_8 ?_
  refine lv_aload_n hx hb dX6_parts_11 rfl (hl.at rfl) ?_
  refine c_get hC hK hP w (hw2) (wo_po hw1 hw) rfl in_X7 0 (by decide) q368 rfl rfl dX6_parts_12 ?_
  refine lv_isub hx hb dX6_parts_15 ?_
  refine lv_idiv hx hb dX6_parts_16 (by rw [hmm, hnu]; exact hq) ?_
  refine hret _ _ ls _ _ _ hP hS dX6_parts_17 ?_
  rw [vq0, vqv_d hq, vqb, hmm, hnu]; exact ⟨rfl, rfl⟩
theorem cX6_parts_2 {l : Launch} {D : va_G} {cA : Nat → ClassId} {ad : Nat → Nat} {n : Nat} {f0 : Nat → va_E} {ρ : Nat → Nat → Option Nat} {r : Nat × Nat} {U : Nat → Nat → Nat → Int32} (hn : 81 ≤ n) {A : Nat → Prop} (hD : gD A ad n) {w : Nat} {nu mm : Int32} (hw1 : 81 ≤ w) (hw2 : w < n) (hw : f0 w = .inr (8, [.int nu, .int mm])) {U0 : Tta} {t : TR} (hU : U = uT U0 t) (ht : t.2 ≤ 30) {x : Int32} {S : Sta} {k : Nat} (hnu : nu = nI k) (hkd : S 5 k = nI 2) (hmm : mm = S 6 k) (hq : vqb S k ≠ 0) : XI l D cA ad n f0 ρ r U A yX6_parts cX6_parts 3 (some .int) (1) [.ref (ad w), .int x, .ref (ad 69)] (fun v V => v = (vq0 S k x t).1 ∧ V = uT U0 (vq0 S k x t).2) := by
  refine Ci.of rfl (by decide +kernel) (Nat.le_of_ble_eq_true rfl) ?_
  intro p e s m args below meth c Q hC hK hP hret ls hl
  have hx := hC.1
  have hb := hC.2.1
  have hown := hC.2.2.2.1
  have hts := hC.2.2.2.2
  have hS : va_S A s.heap s.heap [] := va_S.rf
  subst hU
  refine lv_aload_n hx hb dX6_parts_0 rfl (hl.at rfl) ?_
  refine lv_bipush (v := nI 13) hx hb dX6_parts_1 rfl ?_
  refine x_vV hC hK hP hS (x_rTR hK hP hn) (cX3_ran_ hn hD rfl ht (q := 13) rfl (by decide)) cv_X6_16 rfl rfl hl.1 (Nat.le_of_ble_eq_true rfl) dX6_parts_3 (rk (by decide) (by decide)) ⟨Nat.le_refl _, Nat.le_refl _⟩ (fun U3 H locs p3 hP hS => ?_)
  subst p3
  refine lv_iload_n hx hb dX6_parts_6 rfl (hl.at rfl) ?_
  refine lv_aload_n hx hb dX6_parts_7 rfl (hl.at rfl) ?_
  refine c_get hC hK hP w (hw2) (wo_po hw1 hw) rfl in_X8 1 (by decide) q373 rfl rfl dX6_parts_8 ?_
  refine lv_aload_n hx hb dX6_parts_11 rfl (hl.at rfl) ?_
  refine c_get hC hK hP w (hw2) (wo_po hw1 hw) rfl in_X8 0 (by decide) q368 rfl rfl dX6_parts_12 ?_
  refine lv_isub hx hb dX6_parts_15 ?_
  refine lv_idiv hx hb dX6_parts_16 (by rw [hmm, hnu]; exact hq) ?_
  refine hret _ _ ls _ _ _ hP hS dX6_parts_17 ?_
  rw [vq0, vqv_d hq, vqb, hmm, hnu]; exact ⟨rfl, rfl⟩
theorem cX6_parts_3 {l : Launch} {D : va_G} {cA : Nat → ClassId} {ad : Nat → Nat} {n : Nat} {f0 : Nat → va_E} {ρ : Nat → Nat → Option Nat} {r : Nat × Nat} {U : Nat → Nat → Nat → Int32} (hn : 81 ≤ n) {A : Nat → Prop} (hD : gD A ad n) {w : Nat} {nu mm : Int32} (hw1 : 81 ≤ w) (hw2 : w < n) (hw : f0 w = .inr (9, [.int nu, .int mm])) {U0 : Tta} {t : TR} (hU : U = uT U0 t) (ht : t.2 ≤ 30) {x : Int32} {S : Sta} {k : Nat} (hnu : nu = nI k) (hkd : S 5 k = nI 3) (hmm : mm = S 6 k) (hq : vqb S k ≠ 0) : XI l D cA ad n f0 ρ r U A yX6_parts cX6_parts 3 (some .int) (1) [.ref (ad w), .int x, .ref (ad 69)] (fun v V => v = (vq0 S k x t).1 ∧ V = uT U0 (vq0 S k x t).2) := by
  refine Ci.of rfl (by decide +kernel) (Nat.le_of_ble_eq_true rfl) ?_
  intro p e s m args below meth c Q hC hK hP hret ls hl
  have hx := hC.1
  have hb := hC.2.1
  have hown := hC.2.2.2.1
  have hts := hC.2.2.2.2
  have hS : va_S A s.heap s.heap [] := va_S.rf
  subst hU
  refine lv_aload_n hx hb dX6_parts_0 rfl (hl.at rfl) ?_
  refine lv_bipush (v := nI 13) hx hb dX6_parts_1 rfl ?_
  refine x_vV hC hK hP hS (x_rTR hK hP hn) (cX3_ran_ hn hD rfl ht (q := 13) rfl (by decide)) cv_X6_16 rfl rfl hl.1 (Nat.le_of_ble_eq_true rfl) dX6_parts_3 (rk (by decide) (by decide)) ⟨Nat.le_refl _, Nat.le_refl _⟩ (fun U3 H locs p3 hP hS => ?_)
  subst p3
  refine lv_iload_n hx hb dX6_parts_6 rfl (hl.at rfl) ?_
  refine lv_aload_n hx hb dX6_parts_7 rfl (hl.at rfl) ?_
  refine c_get hC hK hP w (hw2) (wo_po hw1 hw) rfl in_X9 1 (by decide) q373 rfl rfl dX6_parts_8 ?_
  refine lv_aload_n hx hb dX6_parts_11 rfl (hl.at rfl) ?_
  refine c_get hC hK hP w (hw2) (wo_po hw1 hw) rfl in_X9 0 (by decide) q368 rfl rfl dX6_parts_12 ?_
  refine lv_isub hx hb dX6_parts_15 ?_
  refine lv_idiv hx hb dX6_parts_16 (by rw [hmm, hnu]; exact hq) ?_
  refine hret _ _ ls _ _ _ hP hS dX6_parts_17 ?_
  rw [vq0, vqv_d hq, vqb, hmm, hnu]; exact ⟨rfl, rfl⟩
theorem cX6_parts_4 {l : Launch} {D : va_G} {cA : Nat → ClassId} {ad : Nat → Nat} {n : Nat} {f0 : Nat → va_E} {ρ : Nat → Nat → Option Nat} {r : Nat × Nat} {U : Nat → Nat → Nat → Int32} (hn : 81 ≤ n) {A : Nat → Prop} (hD : gD A ad n) {w : Nat} {nu mm : Int32} (hw1 : 81 ≤ w) (hw2 : w < n) (hw : f0 w = .inr (10, [.int nu, .int mm])) {U0 : Tta} {t : TR} (hU : U = uT U0 t) (ht : t.2 ≤ 30) {x : Int32} {S : Sta} {k : Nat} (hnu : nu = nI k) (hkd : S 5 k = nI 4) (hmm : mm = S 6 k) (hq : vqb S k ≠ 0) : XI l D cA ad n f0 ρ r U A yX6_parts cX6_parts 3 (some .int) (1) [.ref (ad w), .int x, .ref (ad 69)] (fun v V => v = (vq0 S k x t).1 ∧ V = uT U0 (vq0 S k x t).2) := by
  refine Ci.of rfl (by decide +kernel) (Nat.le_of_ble_eq_true rfl) ?_
  intro p e s m args below meth c Q hC hK hP hret ls hl
  have hx := hC.1
  have hb := hC.2.1
  have hown := hC.2.2.2.1
  have hts := hC.2.2.2.2
  have hS : va_S A s.heap s.heap [] := va_S.rf
  subst hU
  refine lv_aload_n hx hb dX6_parts_0 rfl (hl.at rfl) ?_
  refine lv_bipush (v := nI 13) hx hb dX6_parts_1 rfl ?_
  refine x_vV hC hK hP hS (x_rTR hK hP hn) (cX3_ran_ hn hD rfl ht (q := 13) rfl (by decide)) cv_X6_16 rfl rfl hl.1 (Nat.le_of_ble_eq_true rfl) dX6_parts_3 (rk (by decide) (by decide)) ⟨Nat.le_refl _, Nat.le_refl _⟩ (fun U3 H locs p3 hP hS => ?_)
  subst p3
  refine lv_iload_n hx hb dX6_parts_6 rfl (hl.at rfl) ?_
  refine lv_aload_n hx hb dX6_parts_7 rfl (hl.at rfl) ?_
  refine c_get hC hK hP w (hw2) (wo_po hw1 hw) rfl in_X10 1 (by decide) q373 rfl rfl dX6_parts_8 ?_
  refine lv_aload_n hx hb dX6_parts_11 rfl (hl.at rfl) ?_
  refine c_get hC hK hP w (hw2) (wo_po hw1 hw) rfl in_X10 0 (by decide) q368 rfl rfl dX6_parts_12 ?_
  refine lv_isub hx hb dX6_parts_15 ?_
  refine lv_idiv hx hb dX6_parts_16 (by rw [hmm, hnu]; exact hq) ?_
  refine hret _ _ ls _ _ _ hP hS dX6_parts_17 ?_
  rw [vq0, vqv_d hq, vqb, hmm, hnu]; exact ⟨rfl, rfl⟩
theorem cX6_parts_5 {l : Launch} {D : va_G} {cA : Nat → ClassId} {ad : Nat → Nat} {n : Nat} {f0 : Nat → va_E} {ρ : Nat → Nat → Option Nat} {r : Nat × Nat} {U : Nat → Nat → Nat → Int32} (hn : 81 ≤ n) {A : Nat → Prop} (hD : gD A ad n) {w : Nat} {nu mm : Int32} (hw1 : 81 ≤ w) (hw2 : w < n) (hw : f0 w = .inr (11, [.int nu, .int mm])) {U0 : Tta} {t : TR} (hU : U = uT U0 t) (ht : t.2 ≤ 30) {x : Int32} {S : Sta} {k : Nat} (hnu : nu = nI k) (hkd : S 5 k = nI 5) (hmm : mm = S 6 k) (hq : vqb S k ≠ 0) : XI l D cA ad n f0 ρ r U A yX6_parts cX6_parts 3 (some .int) (1) [.ref (ad w), .int x, .ref (ad 69)] (fun v V => v = (vq0 S k x t).1 ∧ V = uT U0 (vq0 S k x t).2) := by
  refine Ci.of rfl (by decide +kernel) (Nat.le_of_ble_eq_true rfl) ?_
  intro p e s m args below meth c Q hC hK hP hret ls hl
  have hx := hC.1
  have hb := hC.2.1
  have hown := hC.2.2.2.1
  have hts := hC.2.2.2.2
  have hS : va_S A s.heap s.heap [] := va_S.rf
  subst hU
  refine lv_aload_n hx hb dX6_parts_0 rfl (hl.at rfl) ?_
  refine lv_bipush (v := nI 13) hx hb dX6_parts_1 rfl ?_
  refine x_vV hC hK hP hS (x_rTR hK hP hn) (cX3_ran_ hn hD rfl ht (q := 13) rfl (by decide)) cv_X6_16 rfl rfl hl.1 (Nat.le_of_ble_eq_true rfl) dX6_parts_3 (rk (by decide) (by decide)) ⟨Nat.le_refl _, Nat.le_refl _⟩ (fun U3 H locs p3 hP hS => ?_)
  subst p3
  refine lv_iload_n hx hb dX6_parts_6 rfl (hl.at rfl) ?_
  refine lv_aload_n hx hb dX6_parts_7 rfl (hl.at rfl) ?_
  refine c_get hC hK hP w (hw2) (wo_po hw1 hw) rfl in_X11 1 (by decide) q373 rfl rfl dX6_parts_8 ?_
  refine lv_aload_n hx hb dX6_parts_11 rfl (hl.at rfl) ?_
  refine c_get hC hK hP w (hw2) (wo_po hw1 hw) rfl in_X11 0 (by decide) q368 rfl rfl dX6_parts_12 ?_
  refine lv_isub hx hb dX6_parts_15 ?_
  refine lv_idiv hx hb dX6_parts_16 (by rw [hmm, hnu]; exact hq) ?_
  refine hret _ _ ls _ _ _ hP hS dX6_parts_17 ?_
  rw [vq0, vqv_d hq, vqb, hmm, hnu]; exact ⟨rfl, rfl⟩
theorem cX6_parts_6 {l : Launch} {D : va_G} {cA : Nat → ClassId} {ad : Nat → Nat} {n : Nat} {f0 : Nat → va_E} {ρ : Nat → Nat → Option Nat} {r : Nat × Nat} {U : Nat → Nat → Nat → Int32} (hn : 81 ≤ n) {A : Nat → Prop} (hD : gD A ad n) {w : Nat} {nu mm : Int32} (hw1 : 81 ≤ w) (hw2 : w < n) (hw : f0 w = .inr (12, [.int nu, .int mm])) {U0 : Tta} {t : TR} (hU : U = uT U0 t) (ht : t.2 ≤ 30) {x : Int32} {S : Sta} {k : Nat} (hnu : nu = nI k) (hkd : S 5 k = nI 6) (hmm : mm = S 6 k) (hq : vqb S k ≠ 0) : XI l D cA ad n f0 ρ r U A yX6_parts cX6_parts 3 (some .int) (1) [.ref (ad w), .int x, .ref (ad 69)] (fun v V => v = (vq0 S k x t).1 ∧ V = uT U0 (vq0 S k x t).2) := by
  refine Ci.of rfl (by decide +kernel) (Nat.le_of_ble_eq_true rfl) ?_
  intro p e s m args below meth c Q hC hK hP hret ls hl
  have hx := hC.1
  have hb := hC.2.1
  have hown := hC.2.2.2.1
  have hts := hC.2.2.2.2
  have hS : va_S A s.heap s.heap [] := va_S.rf
  subst hU
  refine lv_aload_n hx hb dX6_parts_0 rfl (hl.at rfl) ?_
  refine lv_bipush (v := nI 13) hx hb dX6_parts_1 rfl ?_
  refine x_vV hC hK hP hS (x_rTR hK hP hn) (cX3_ran_ hn hD rfl ht (q := 13) rfl (by decide)) cv_X6_16 rfl rfl hl.1 (Nat.le_of_ble_eq_true rfl) dX6_parts_3 (rk (by decide) (by decide)) ⟨Nat.le_refl _, Nat.le_refl _⟩ (fun U3 H locs p3 hP hS => ?_)
  subst p3
  refine lv_iload_n hx hb dX6_parts_6 rfl (hl.at rfl) ?_
  refine lv_aload_n hx hb dX6_parts_7 rfl (hl.at rfl) ?_
  refine c_get hC hK hP w (hw2) (wo_po hw1 hw) rfl in_X12 1 (by decide) q373 rfl rfl dX6_parts_8 ?_
  refine lv_aload_n hx hb dX6_parts_11 rfl (hl.at rfl) ?_
  refine c_get hC hK hP w (hw2) (wo_po hw1 hw) rfl in_X12 0 (by decide) q368 rfl rfl dX6_parts_12 ?_
  refine lv_isub hx hb dX6_parts_15 ?_
  refine lv_idiv hx hb dX6_parts_16 (by rw [hmm, hnu]; exact hq) ?_
  refine hret _ _ ls _ _ _ hP hS dX6_parts_17 ?_
  rw [vq0, vqv_d hq, vqb, hmm, hnu]; exact ⟨rfl, rfl⟩
theorem csu_X7_36 : CSU RX7 36 yX6_parts cX6_parts 3 (some .int) 2 := ⟨lw_SU q1197 q1190 q386 q1188 q89 q1200, by decide +kernel⟩
theorem cdv_X7_39_X7 : CDV RX7 RX7 39 (⟨RX7, "turned", "(ILWheelBrook$Trace;)I"⟩ : MethodName) yX17_turned := ⟨List.mem_of_getElem? (i := 15) rfl, List.mem_of_getElem? (i := 16) rfl, rfl, List.mem_of_getElem? (i := 6) rfl⟩
theorem cX7_parts_1 {l : Launch} {D : va_G} {cA : Nat → ClassId} {ad : Nat → Nat} {n : Nat} {f0 : Nat → va_E} {ρ : Nat → Nat → Option Nat} {r : Nat × Nat} {U : Nat → Nat → Nat → Int32} (hn : 81 ≤ n) {A : Nat → Prop} (hD : gD A ad n) {w : Nat} {nu mm : Int32} (hw1 : 81 ≤ w) (hw2 : w < n) (hw : f0 w = .inr (7, [.int nu, .int mm])) {U0 : Tta} {t : TR} (hU : U = uT U0 t) (ht : t.2 ≤ 30) {x : Int32} {S : Sta} {k : Nat} (hnu : nu = nI k) (hkd : S 5 k = nI 1) (hmm : mm = S 6 k) (hq : vqb S k ≠ 0) : XI l D cA ad n f0 ρ r U A yX7_parts cX7_parts 4 (some .int) (6) [.ref (ad w), .int x, .ref (ad 69)] (fun v V => v = (vq1 S k x t).1 ∧ V = uT U0 (vq1 S k x t).2) := by
  refine Ci.of rfl (by decide +kernel) (Nat.le_of_ble_eq_true rfl) ?_
  intro p e s m args below meth c Q hC hK hP hret ls hl
  have hx := hC.1
  have hb := hC.2.1
  have hown := hC.2.2.2.1
  have hts := hC.2.2.2.2
  have hS : va_S A s.heap s.heap [] := va_S.rf
  subst hU
  refine lv_aload_n hx hb dX7_parts_0 rfl (hl.at rfl) ?_
  refine lv_bipush (v := nI 21) hx hb dX7_parts_1 rfl ?_
  refine x_vV hC hK hP hS (x_rTR hK hP hn) (cX3_ran_ hn hD rfl ht (q := 21) rfl (by decide)) cv_X7_26 rfl rfl hl.1 (Nat.le_of_ble_eq_true rfl) dX7_parts_3 (rk (by decide) (by decide)) ⟨Nat.le_refl _, Nat.le_refl _⟩ (fun U3 H locs p3 hP hS => ?_)
  subst p3
  refine lv_aload_n hx hb dX7_parts_6 rfl (hl.at rfl) ?_
  refine lv_iload_n hx hb dX7_parts_7 rfl (hl.at rfl) ?_
  refine lv_aload_n hx hb dX7_parts_8 rfl (hl.at rfl) ?_
  refine x_iSU hC hK hP hS (x_at hK (ci := 7) rfl) (x_rPO hK hP hw1 hw2 hw rfl) (cX6_parts_1 hn hD hw1 hw2 hw rfl (ran_le ht) hnu hkd hmm hq) csu_X7_36 rfl rfl hl.1 (Nat.le_of_ble_eq_true rfl) dX7_parts_9 (rk (by decide) (by decide)) ⟨Nat.le_refl _, Nat.le_refl _⟩ (fun r9 U9 H locs p9 hP hS => ?_)
  obtain ⟨rfl, rfl⟩ := p9
  refine l_istore_n hx hb 3 dX7_parts_12 rfl hl rfl (fun ls hl => ?_)
  refine lv_iload_n hx hb dX7_parts_13 rfl (hl.at rfl) ?_
  refine lv_aload_n hx hb dX7_parts_14 rfl (hl.at rfl) ?_
  refine lv_iconst (v := nI 1) hx hb dX7_parts_15 rfl ?_
  refine lv_aload_n hx hb dX7_parts_16 rfl (hl.at rfl) ?_
  refine x_iVD (ci := 7) hC hK hP hS rfl (x_rPO hK hP hw1 hw2 hw rfl) (cX17_turned_1 hn hD hw1 hw2 hw rfl (ran_le (ran_le ht)) hnu hkd hmm) cd_X17_turned cdv_X7_39_X7 rfl rfl hl.1 (Nat.le_of_ble_eq_true rfl) dX7_parts_17 (rk (by decide) (by decide)) ⟨Nat.le_refl _, Nat.le_refl _⟩ (fun r17 U17 H locs p17 hP hS => ?_)
  refine lv_iadd hx hb dX7_parts_20 ?_
  refine hret _ _ ls _ _ _ hP hS dX7_parts_21 ?_
  rw [vq1, if_neg hq, hkd, cn_nI (by decide), p17.1, p17.2]; exact ⟨rfl, rfl⟩
theorem cdv_X7_39_X10 : CDV RX7 RX10 39 (⟨RX7, "turned", "(ILWheelBrook$Trace;)I"⟩ : MethodName) yX17_turned := ⟨List.mem_of_getElem? (i := 15) rfl, List.mem_of_getElem? (i := 16) rfl, rfl, List.mem_of_getElem? (i := 4) rfl⟩
theorem cX7_parts_4 {l : Launch} {D : va_G} {cA : Nat → ClassId} {ad : Nat → Nat} {n : Nat} {f0 : Nat → va_E} {ρ : Nat → Nat → Option Nat} {r : Nat × Nat} {U : Nat → Nat → Nat → Int32} (hn : 81 ≤ n) {A : Nat → Prop} (hD : gD A ad n) {w : Nat} {nu mm : Int32} (hw1 : 81 ≤ w) (hw2 : w < n) (hw : f0 w = .inr (10, [.int nu, .int mm])) {U0 : Tta} {t : TR} (hU : U = uT U0 t) (ht : t.2 ≤ 30) {x : Int32} {S : Sta} {k : Nat} (hnu : nu = nI k) (hkd : S 5 k = nI 4) (hmm : mm = S 6 k) (hq : vqb S k ≠ 0) : XI l D cA ad n f0 ρ r U A yX7_parts cX7_parts 4 (some .int) (6) [.ref (ad w), .int x, .ref (ad 69)] (fun v V => v = (vq1 S k x t).1 ∧ V = uT U0 (vq1 S k x t).2) := by
  refine Ci.of rfl (by decide +kernel) (Nat.le_of_ble_eq_true rfl) ?_
  intro p e s m args below meth c Q hC hK hP hret ls hl
  have hx := hC.1
  have hb := hC.2.1
  have hown := hC.2.2.2.1
  have hts := hC.2.2.2.2
  have hS : va_S A s.heap s.heap [] := va_S.rf
  subst hU
  refine lv_aload_n hx hb dX7_parts_0 rfl (hl.at rfl) ?_
  refine lv_bipush (v := nI 21) hx hb dX7_parts_1 rfl ?_
  refine x_vV hC hK hP hS (x_rTR hK hP hn) (cX3_ran_ hn hD rfl ht (q := 21) rfl (by decide)) cv_X7_26 rfl rfl hl.1 (Nat.le_of_ble_eq_true rfl) dX7_parts_3 (rk (by decide) (by decide)) ⟨Nat.le_refl _, Nat.le_refl _⟩ (fun U3 H locs p3 hP hS => ?_)
  subst p3
  refine lv_aload_n hx hb dX7_parts_6 rfl (hl.at rfl) ?_
  refine lv_iload_n hx hb dX7_parts_7 rfl (hl.at rfl) ?_
  refine lv_aload_n hx hb dX7_parts_8 rfl (hl.at rfl) ?_
  refine x_iSU hC hK hP hS (x_at hK (ci := 10) rfl) (x_rPO hK hP hw1 hw2 hw rfl) (cX6_parts_4 hn hD hw1 hw2 hw rfl (ran_le ht) hnu hkd hmm hq) csu_X7_36 rfl rfl hl.1 (Nat.le_of_ble_eq_true rfl) dX7_parts_9 (rk (by decide) (by decide)) ⟨Nat.le_refl _, Nat.le_refl _⟩ (fun r9 U9 H locs p9 hP hS => ?_)
  obtain ⟨rfl, rfl⟩ := p9
  refine l_istore_n hx hb 3 dX7_parts_12 rfl hl rfl (fun ls hl => ?_)
  refine lv_iload_n hx hb dX7_parts_13 rfl (hl.at rfl) ?_
  refine lv_aload_n hx hb dX7_parts_14 rfl (hl.at rfl) ?_
  refine lv_iconst (v := nI 1) hx hb dX7_parts_15 rfl ?_
  refine lv_aload_n hx hb dX7_parts_16 rfl (hl.at rfl) ?_
  refine x_iVD (ci := 10) hC hK hP hS rfl (x_rPO hK hP hw1 hw2 hw rfl) (cX17_turned_4 hn hD hw1 hw2 hw rfl (ran_le (ran_le ht)) hnu hkd hmm) cd_X17_turned cdv_X7_39_X10 rfl rfl hl.1 (Nat.le_of_ble_eq_true rfl) dX7_parts_17 (rk (by decide) (by decide)) ⟨Nat.le_refl _, Nat.le_refl _⟩ (fun r17 U17 H locs p17 hP hS => ?_)
  refine lv_iadd hx hb dX7_parts_20 ?_
  refine hret _ _ ls _ _ _ hP hS dX7_parts_21 ?_
  rw [vq1, if_neg hq, hkd, cn_nI (by decide), p17.1, p17.2]; exact ⟨rfl, rfl⟩
