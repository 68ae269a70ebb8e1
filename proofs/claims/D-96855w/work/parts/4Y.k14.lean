theorem cX6_init_0 {l : Launch} {D : va_G} {cA : Nat → ClassId} {ad : Nat → Nat} {n : Nat} {f0 : Nat → va_E} {ρ : Rho} {r : Nat × Nat} {U : Tta} {A : Nat → Prop} (hD : gD A ad n) {w : Nat} {nu mm : Int32} {v0 v1 : Value} (hw1 : 81 ≤ w) (hw2 : w < n) (hw : f0 w = .inr (6, [v0, v1])) : Cv l (KC D cA) yX6_init cX6_init 3 1 0 0 [.ref (ad w), .int nu, .int mm] (XW D cA ad n f0 ρ r U) A (fun _ : Unit => True) (fun _ H => XW D cA ad n (va_up f0 w (.inr (6, [.int nu, .int mm]))) ρ r U H) := by
  refine Cv.ofI (by decide +kernel) (Nat.le_of_ble_eq_true rfl) ?_
  intro p e s m args below meth c Q hm hC hK hP hret ls hl
  have hx := hC.1
  have hb := hC.2.1
  have hown := hC.2.2.2.1
  have hts := hC.2.2.2.2
  have hS : va_S A s.heap s.heap [] := va_S.rf
  refine lv_aload_n hx hb dX6_init_0 rfl (hl.at rfl) ?_
  refine W.objInit hx hb hown (hts _ q367) (hts _ q118) (hts _ q119) rfl (by rw [hC.2.2.1]; exact hl.1) rfl dX6_init_1 (Nat.le_of_ble_eq_true rfl) (Nat.le_of_ble_eq_true rfl) ?_
  refine W.eq (g2 := F0 m 4 ls []) rfl ?_
  refine lv_aload_n hx hb dX6_init_4 rfl (hl.at rfl) ?_
  refine lv_iload_n hx hb dX6_init_5 rfl (hl.at rfl) ?_
  refine c_putF (ty := .int) hC hK hP hD hS hm w hw2 (wo_po hw1 hw) rfl in_X6 tyX6_ok nmX6 0 (by decide) q368 rfl rfl rfl (by decide +kernel) rfl rfl (by show 0 < 2; decide) (cp_pool hw1 hw2) dX6_init_6 (fun H locs hP hS => ?_)
  refine lv_aload_n hx hb dX6_init_9 rfl (hl.at rfl) ?_
  refine lv_iload_n hx hb dX6_init_10 rfl (hl.at rfl) ?_
  refine c_putF (ty := .int) hC hK hP hD hS hm w hw2 (wo_po hw1 (va_up_self _ _ _)) rfl in_X6 tyX6_ok nmX6 1 (by decide) q373 rfl rfl rfl (by decide +kernel) rfl rfl (by show 1 < 2; decide) (cp_pool hw1 hw2) dX6_init_11 (fun H locs hP hS => ?_)
  rw [va_up_up] at hP
  exact hret _ _ ls _ () hP hS dX6_init_14 trivial
theorem cX6_init_1 {l : Launch} {D : va_G} {cA : Nat → ClassId} {ad : Nat → Nat} {n : Nat} {f0 : Nat → va_E} {ρ : Rho} {r : Nat × Nat} {U : Tta} {A : Nat → Prop} (hD : gD A ad n) {w : Nat} {nu mm : Int32} {v0 v1 : Value} (hw1 : 81 ≤ w) (hw2 : w < n) (hw : f0 w = .inr (7, [v0, v1])) : Cv l (KC D cA) yX6_init cX6_init 3 1 0 0 [.ref (ad w), .int nu, .int mm] (XW D cA ad n f0 ρ r U) A (fun _ : Unit => True) (fun _ H => XW D cA ad n (va_up f0 w (.inr (7, [.int nu, .int mm]))) ρ r U H) := by
  refine Cv.ofI (by decide +kernel) (Nat.le_of_ble_eq_true rfl) ?_
  intro p e s m args below meth c Q hm hC hK hP hret ls hl
  have hx := hC.1
  have hb := hC.2.1
  have hown := hC.2.2.2.1
  have hts := hC.2.2.2.2
  have hS : va_S A s.heap s.heap [] := va_S.rf
  refine lv_aload_n hx hb dX6_init_0 rfl (hl.at rfl) ?_
  refine W.objInit hx hb hown (hts _ q367) (hts _ q118) (hts _ q119) rfl (by rw [hC.2.2.1]; exact hl.1) rfl dX6_init_1 (Nat.le_of_ble_eq_true rfl) (Nat.le_of_ble_eq_true rfl) ?_
  refine W.eq (g2 := F0 m 4 ls []) rfl ?_
  refine lv_aload_n hx hb dX6_init_4 rfl (hl.at rfl) ?_
  refine lv_iload_n hx hb dX6_init_5 rfl (hl.at rfl) ?_
  refine c_putF (ty := .int) hC hK hP hD hS hm w hw2 (wo_po hw1 hw) rfl in_X7 tyX7_ok nmX7 0 (by decide) q368 rfl rfl rfl (by decide +kernel) rfl rfl (by show 0 < 2; decide) (cp_pool hw1 hw2) dX6_init_6 (fun H locs hP hS => ?_)
  refine lv_aload_n hx hb dX6_init_9 rfl (hl.at rfl) ?_
  refine lv_iload_n hx hb dX6_init_10 rfl (hl.at rfl) ?_
  refine c_putF (ty := .int) hC hK hP hD hS hm w hw2 (wo_po hw1 (va_up_self _ _ _)) rfl in_X7 tyX7_ok nmX7 1 (by decide) q373 rfl rfl rfl (by decide +kernel) rfl rfl (by show 1 < 2; decide) (cp_pool hw1 hw2) dX6_init_11 (fun H locs hP hS => ?_)
  rw [va_up_up] at hP
  exact hret _ _ ls _ () hP hS dX6_init_14 trivial
theorem cX6_init_2 {l : Launch} {D : va_G} {cA : Nat → ClassId} {ad : Nat → Nat} {n : Nat} {f0 : Nat → va_E} {ρ : Rho} {r : Nat × Nat} {U : Tta} {A : Nat → Prop} (hD : gD A ad n) {w : Nat} {nu mm : Int32} {v0 v1 : Value} (hw1 : 81 ≤ w) (hw2 : w < n) (hw : f0 w = .inr (8, [v0, v1])) : Cv l (KC D cA) yX6_init cX6_init 3 1 0 0 [.ref (ad w), .int nu, .int mm] (XW D cA ad n f0 ρ r U) A (fun _ : Unit => True) (fun _ H => XW D cA ad n (va_up f0 w (.inr (8, [.int nu, .int mm]))) ρ r U H) := by
  refine Cv.ofI (by decide +kernel) (Nat.le_of_ble_eq_true rfl) ?_
  intro p e s m args below meth c Q hm hC hK hP hret ls hl
  have hx := hC.1
  have hb := hC.2.1
  have hown := hC.2.2.2.1
  have hts := hC.2.2.2.2
  have hS : va_S A s.heap s.heap [] := va_S.rf
  refine lv_aload_n hx hb dX6_init_0 rfl (hl.at rfl) ?_
  refine W.objInit hx hb hown (hts _ q367) (hts _ q118) (hts _ q119) rfl (by rw [hC.2.2.1]; exact hl.1) rfl dX6_init_1 (Nat.le_of_ble_eq_true rfl) (Nat.le_of_ble_eq_true rfl) ?_
  refine W.eq (g2 := F0 m 4 ls []) rfl ?_
  refine lv_aload_n hx hb dX6_init_4 rfl (hl.at rfl) ?_
  refine lv_iload_n hx hb dX6_init_5 rfl (hl.at rfl) ?_
  refine c_putF (ty := .int) hC hK hP hD hS hm w hw2 (wo_po hw1 hw) rfl in_X8 tyX8_ok nmX8 0 (by decide) q368 rfl rfl rfl (by decide +kernel) rfl rfl (by show 0 < 2; decide) (cp_pool hw1 hw2) dX6_init_6 (fun H locs hP hS => ?_)
  refine lv_aload_n hx hb dX6_init_9 rfl (hl.at rfl) ?_
  refine lv_iload_n hx hb dX6_init_10 rfl (hl.at rfl) ?_
  refine c_putF (ty := .int) hC hK hP hD hS hm w hw2 (wo_po hw1 (va_up_self _ _ _)) rfl in_X8 tyX8_ok nmX8 1 (by decide) q373 rfl rfl rfl (by decide +kernel) rfl rfl (by show 1 < 2; decide) (cp_pool hw1 hw2) dX6_init_11 (fun H locs hP hS => ?_)
  rw [va_up_up] at hP
  exact hret _ _ ls _ () hP hS dX6_init_14 trivial
theorem cX6_init_3 {l : Launch} {D : va_G} {cA : Nat → ClassId} {ad : Nat → Nat} {n : Nat} {f0 : Nat → va_E} {ρ : Rho} {r : Nat × Nat} {U : Tta} {A : Nat → Prop} (hD : gD A ad n) {w : Nat} {nu mm : Int32} {v0 v1 : Value} (hw1 : 81 ≤ w) (hw2 : w < n) (hw : f0 w = .inr (9, [v0, v1])) : Cv l (KC D cA) yX6_init cX6_init 3 1 0 0 [.ref (ad w), .int nu, .int mm] (XW D cA ad n f0 ρ r U) A (fun _ : Unit => True) (fun _ H => XW D cA ad n (va_up f0 w (.inr (9, [.int nu, .int mm]))) ρ r U H) := by
  refine Cv.ofI (by decide +kernel) (Nat.le_of_ble_eq_true rfl) ?_
  intro p e s m args below meth c Q hm hC hK hP hret ls hl
  have hx := hC.1
  have hb := hC.2.1
  have hown := hC.2.2.2.1
  have hts := hC.2.2.2.2
  have hS : va_S A s.heap s.heap [] := va_S.rf
  refine lv_aload_n hx hb dX6_init_0 rfl (hl.at rfl) ?_
  refine W.objInit hx hb hown (hts _ q367) (hts _ q118) (hts _ q119) rfl (by rw [hC.2.2.1]; exact hl.1) rfl dX6_init_1 (Nat.le_of_ble_eq_true rfl) (Nat.le_of_ble_eq_true rfl) ?_
  refine W.eq (g2 := F0 m 4 ls []) rfl ?_
  refine lv_aload_n hx hb dX6_init_4 rfl (hl.at rfl) ?_
  refine lv_iload_n hx hb dX6_init_5 rfl (hl.at rfl) ?_
  refine c_putF (ty := .int) hC hK hP hD hS hm w hw2 (wo_po hw1 hw) rfl in_X9 tyX9_ok nmX9 0 (by decide) q368 rfl rfl rfl (by decide +kernel) rfl rfl (by show 0 < 2; decide) (cp_pool hw1 hw2) dX6_init_6 (fun H locs hP hS => ?_)
  refine lv_aload_n hx hb dX6_init_9 rfl (hl.at rfl) ?_
  refine lv_iload_n hx hb dX6_init_10 rfl (hl.at rfl) ?_
  refine c_putF (ty := .int) hC hK hP hD hS hm w hw2 (wo_po hw1 (va_up_self _ _ _)) rfl in_X9 tyX9_ok nmX9 1 (by decide) q373 rfl rfl rfl (by decide +kernel) rfl rfl (by show 1 < 2; decide) (cp_pool hw1 hw2) dX6_init_11 (fun H locs hP hS => ?_)
  rw [va_up_up] at hP
  exact hret _ _ ls _ () hP hS dX6_init_14 trivial
theorem cX6_init_4 {l : Launch} {D : va_G} {cA : Nat → ClassId} {ad : Nat → Nat} {n : Nat} {f0 : Nat → va_E} {ρ : Rho} {r : Nat × Nat} {U : Tta} {A : Nat → Prop} (hD : gD A ad n) {w : Nat} {nu mm : Int32} {v0 v1 : Value} (hw1 : 81 ≤ w) (hw2 : w < n) (hw : f0 w = .inr (10, [v0, v1])) : Cv l (KC D cA) yX6_init cX6_init 3 1 0 0 [.ref (ad w), .int nu, .int mm] (XW D cA ad n f0 ρ r U) A (fun _ : Unit => True) (fun _ H => XW D cA ad n (va_up f0 w (.inr (10, [.int nu, .int mm]))) ρ r U H) := by
  refine Cv.ofI (by decide +kernel) (Nat.le_of_ble_eq_true rfl) ?_
  intro p e s m args below meth c Q hm hC hK hP hret ls hl
  have hx := hC.1
  have hb := hC.2.1
  have hown := hC.2.2.2.1
  have hts := hC.2.2.2.2
  have hS : va_S A s.heap s.heap [] := va_S.rf
  refine lv_aload_n hx hb dX6_init_0 rfl (hl.at rfl) ?_
  refine W.objInit hx hb hown (hts _ q367) (hts _ q118) (hts _ q119) rfl (by rw [hC.2.2.1]; exact hl.1) rfl dX6_init_1 (Nat.le_of_ble_eq_true rfl) (Nat.le_of_ble_eq_true rfl) ?_
  refine W.eq (g2 := F0 m 4 ls []) rfl ?_
  refine lv_aload_n hx hb dX6_init_4 rfl (hl.at rfl) ?_
  refine lv_iload_n hx hb dX6_init_5 rfl (hl.at rfl) ?_
  refine c_putF (ty := .int) hC hK hP hD hS hm w hw2 (wo_po hw1 hw) rfl in_X10 tyX10_ok nmX10 0 (by decide) q368 rfl rfl rfl (by decide +kernel) rfl rfl (by show 0 < 2; decide) (cp_pool hw1 hw2) dX6_init_6 (fun H locs hP hS => ?_)
  refine lv_aload_n hx hb dX6_init_9 rfl (hl.at rfl) ?_
  refine lv_iload_n hx hb dX6_init_10 rfl (hl.at rfl) ?_
  refine c_putF (ty := .int) hC hK hP hD hS hm w hw2 (wo_po hw1 (va_up_self _ _ _)) rfl in_X10 tyX10_ok nmX10 1 (by decide) q373 rfl rfl rfl (by decide +kernel) rfl rfl (by show 1 < 2; decide) (cp_pool hw1 hw2) dX6_init_11 (fun H locs hP hS => ?_)
  rw [va_up_up] at hP
  exact hret _ _ ls _ () hP hS dX6_init_14 trivial
theorem cX6_init_5 {l : Launch} {D : va_G} {cA : Nat → ClassId} {ad : Nat → Nat} {n : Nat} {f0 : Nat → va_E} {ρ : Rho} {r : Nat × Nat} {U : Tta} {A : Nat → Prop} (hD : gD A ad n) {w : Nat} {nu mm : Int32} {v0 v1 : Value} (hw1 : 81 ≤ w) (hw2 : w < n) (hw : f0 w = .inr (11, [v0, v1])) : Cv l (KC D cA) yX6_init cX6_init 3 1 0 0 [.ref (ad w), .int nu, .int mm] (XW D cA ad n f0 ρ r U) A (fun _ : Unit => True) (fun _ H => XW D cA ad n (va_up f0 w (.inr (11, [.int nu, .int mm]))) ρ r U H) := by
  refine Cv.ofI (by decide +kernel) (Nat.le_of_ble_eq_true rfl) ?_
  intro p e s m args below meth c Q hm hC hK hP hret ls hl
  have hx := hC.1
  have hb := hC.2.1
  have hown := hC.2.2.2.1
  have hts := hC.2.2.2.2
  have hS : va_S A s.heap s.heap [] := va_S.rf
  refine lv_aload_n hx hb dX6_init_0 rfl (hl.at rfl) ?_
  refine W.objInit hx hb hown (hts _ q367) (hts _ q118) (hts _ q119) rfl (by rw [hC.2.2.1]; exact hl.1) rfl dX6_init_1 (Nat.le_of_ble_eq_true rfl) (Nat.le_of_ble_eq_true rfl) ?_
  refine W.eq (g2 := F0 m 4 ls []) rfl ?_
  refine lv_aload_n hx hb dX6_init_4 rfl (hl.at rfl) ?_
  refine lv_iload_n hx hb dX6_init_5 rfl (hl.at rfl) ?_
  refine c_putF (ty := .int) hC hK hP hD hS hm w hw2 (wo_po hw1 hw) rfl in_X11 tyX11_ok nmX11 0 (by decide) q368 rfl rfl rfl (by decide +kernel) rfl rfl (by show 0 < 2; decide) (cp_pool hw1 hw2) dX6_init_6 (fun H locs hP hS => ?_)
  refine lv_aload_n hx hb dX6_init_9 rfl (hl.at rfl) ?_
  refine lv_iload_n hx hb dX6_init_10 rfl (hl.at rfl) ?_
  refine c_putF (ty := .int) hC hK hP hD hS hm w hw2 (wo_po hw1 (va_up_self _ _ _)) rfl in_X11 tyX11_ok nmX11 1 (by decide) q373 rfl rfl rfl (by decide +kernel) rfl rfl (by show 1 < 2; decide) (cp_pool hw1 hw2) dX6_init_11 (fun H locs hP hS => ?_)
  rw [va_up_up] at hP
  exact hret _ _ ls _ () hP hS dX6_init_14 trivial
theorem cX6_init_6 {l : Launch} {D : va_G} {cA : Nat → ClassId} {ad : Nat → Nat} {n : Nat} {f0 : Nat → va_E} {ρ : Rho} {r : Nat × Nat} {U : Tta} {A : Nat → Prop} (hD : gD A ad n) {w : Nat} {nu mm : Int32} {v0 v1 : Value} (hw1 : 81 ≤ w) (hw2 : w < n) (hw : f0 w = .inr (12, [v0, v1])) : Cv l (KC D cA) yX6_init cX6_init 3 1 0 0 [.ref (ad w), .int nu, .int mm] (XW D cA ad n f0 ρ r U) A (fun _ : Unit => True) (fun _ H => XW D cA ad n (va_up f0 w (.inr (12, [.int nu, .int mm]))) ρ r U H) := by
  refine Cv.ofI (by decide +kernel) (Nat.le_of_ble_eq_true rfl) ?_
  intro p e s m args below meth c Q hm hC hK hP hret ls hl
  have hx := hC.1
  have hb := hC.2.1
  have hown := hC.2.2.2.1
  have hts := hC.2.2.2.2
  have hS : va_S A s.heap s.heap [] := va_S.rf
  refine lv_aload_n hx hb dX6_init_0 rfl (hl.at rfl) ?_
  refine W.objInit hx hb hown (hts _ q367) (hts _ q118) (hts _ q119) rfl (by rw [hC.2.2.1]; exact hl.1) rfl dX6_init_1 (Nat.le_of_ble_eq_true rfl) (Nat.le_of_ble_eq_true rfl) ?_
  refine W.eq (g2 := F0 m 4 ls []) rfl ?_
  refine lv_aload_n hx hb dX6_init_4 rfl (hl.at rfl) ?_
  refine lv_iload_n hx hb dX6_init_5 rfl (hl.at rfl) ?_
  refine c_putF (ty := .int) hC hK hP hD hS hm w hw2 (wo_po hw1 hw) rfl in_X12 tyX12_ok nmX12 0 (by decide) q368 rfl rfl rfl (by decide +kernel) rfl rfl (by show 0 < 2; decide) (cp_pool hw1 hw2) dX6_init_6 (fun H locs hP hS => ?_)
  refine lv_aload_n hx hb dX6_init_9 rfl (hl.at rfl) ?_
  refine lv_iload_n hx hb dX6_init_10 rfl (hl.at rfl) ?_
  refine c_putF (ty := .int) hC hK hP hD hS hm w hw2 (wo_po hw1 (va_up_self _ _ _)) rfl in_X12 tyX12_ok nmX12 1 (by decide) q373 rfl rfl rfl (by decide +kernel) rfl rfl (by show 1 < 2; decide) (cp_pool hw1 hw2) dX6_init_11 (fun H locs hP hS => ?_)
  rw [va_up_up] at hP
  exact hret _ _ ls _ () hP hS dX6_init_14 trivial
theorem ci_X7_3 : CI RX7 3 yX6_init cX6_init 3 2 := ⟨lw_meth q366, q89, q364, q365, rfl, by decide +kernel⟩
theorem cX7_init_1 {l : Launch} {D : va_G} {cA : Nat → ClassId} {ad : Nat → Nat} {n : Nat} {f0 : Nat → va_E} {ρ : Rho} {r : Nat × Nat} {U : Tta} {A : Nat → Prop} (hD : gD A ad n) {w : Nat} {nu mm : Int32} {v0 v1 : Value} (hw1 : 81 ≤ w) (hw2 : w < n) (hw : f0 w = .inr (7, [v0, v1])) : Cv l (KC D cA) yX7_init cX7_init 3 2 0 0 [.ref (ad w), .int nu, .int mm] (XW D cA ad n f0 ρ r U) A (fun _ : Unit => True) (fun _ H => XW D cA ad n (va_up f0 w (.inr (7, [.int nu, .int mm]))) ρ r U H) := by
  refine Cv.ofI (by decide +kernel) (Nat.le_of_ble_eq_true rfl) ?_
  intro p e s m args below meth c Q hm hC hK hP hret ls hl
  have hx := hC.1
  have hb := hC.2.1
  have hown := hC.2.2.2.1
  have hts := hC.2.2.2.2
  have hS : va_S A s.heap s.heap [] := va_S.rf
  refine lv_aload_n hx hb dX7_init_0 rfl (hl.at rfl) ?_
  refine lv_iload_n hx hb dX7_init_1 rfl (hl.at rfl) ?_
  refine lv_iload_n hx hb dX7_init_2 rfl (hl.at rfl) ?_
  refine x_vI hC hK hP hS (cX6_init_1 hD hw1 hw2 hw) (fun _ h => h) ci_X7_3 rfl rfl hl.1 (Nat.le_of_ble_eq_true rfl) dX7_init_3 (rk (by decide) (by decide)) ⟨Nat.le_refl _, Nat.le_refl _⟩ (fun _ H locs _ hP hS => ?_)
  exact hret _ _ ls _ () hP hS dX7_init_6 trivial
theorem cX7_init_4 {l : Launch} {D : va_G} {cA : Nat → ClassId} {ad : Nat → Nat} {n : Nat} {f0 : Nat → va_E} {ρ : Rho} {r : Nat × Nat} {U : Tta} {A : Nat → Prop} (hD : gD A ad n) {w : Nat} {nu mm : Int32} {v0 v1 : Value} (hw1 : 81 ≤ w) (hw2 : w < n) (hw : f0 w = .inr (10, [v0, v1])) : Cv l (KC D cA) yX7_init cX7_init 3 2 0 0 [.ref (ad w), .int nu, .int mm] (XW D cA ad n f0 ρ r U) A (fun _ : Unit => True) (fun _ H => XW D cA ad n (va_up f0 w (.inr (10, [.int nu, .int mm]))) ρ r U H) := by
  refine Cv.ofI (by decide +kernel) (Nat.le_of_ble_eq_true rfl) ?_
  intro p e s m args below meth c Q hm hC hK hP hret ls hl
  have hx := hC.1
  have hb := hC.2.1
  have hown := hC.2.2.2.1
  have hts := hC.2.2.2.2
  have hS : va_S A s.heap s.heap [] := va_S.rf
  refine lv_aload_n hx hb dX7_init_0 rfl (hl.at rfl) ?_
  refine lv_iload_n hx hb dX7_init_1 rfl (hl.at rfl) ?_
  refine lv_iload_n hx hb dX7_init_2 rfl (hl.at rfl) ?_
  refine x_vI hC hK hP hS (cX6_init_4 hD hw1 hw2 hw) (fun _ h => h) ci_X7_3 rfl rfl hl.1 (Nat.le_of_ble_eq_true rfl) dX7_init_3 (rk (by decide) (by decide)) ⟨Nat.le_refl _, Nat.le_refl _⟩ (fun _ H locs _ hP hS => ?_)
  exact hret _ _ ls _ () hP hS dX7_init_6 trivial
theorem ci_X8_3 : CI RX8 3 yX6_init cX6_init 3 2 := ⟨lw_meth q366, q89, q392, q365, rfl, by decide +kernel⟩
theorem cX8_init_2 {l : Launch} {D : va_G} {cA : Nat → ClassId} {ad : Nat → Nat} {n : Nat} {f0 : Nat → va_E} {ρ : Rho} {r : Nat × Nat} {U : Tta} {A : Nat → Prop} (hD : gD A ad n) {w : Nat} {nu mm : Int32} {v0 v1 : Value} (hw1 : 81 ≤ w) (hw2 : w < n) (hw : f0 w = .inr (8, [v0, v1])) : Cv l (KC D cA) yX8_init cX8_init 3 2 0 0 [.ref (ad w), .int nu, .int mm] (XW D cA ad n f0 ρ r U) A (fun _ : Unit => True) (fun _ H => XW D cA ad n (va_up f0 w (.inr (8, [.int nu, .int mm]))) ρ r U H) := by
  refine Cv.ofI (by decide +kernel) (Nat.le_of_ble_eq_true rfl) ?_
  intro p e s m args below meth c Q hm hC hK hP hret ls hl
  have hx := hC.1
  have hb := hC.2.1
  have hown := hC.2.2.2.1
  have hts := hC.2.2.2.2
  have hS : va_S A s.heap s.heap [] := va_S.rf
  refine lv_aload_n hx hb dX8_init_0 rfl (hl.at rfl) ?_
  refine lv_iload_n hx hb dX8_init_1 rfl (hl.at rfl) ?_
  refine lv_iload_n hx hb dX8_init_2 rfl (hl.at rfl) ?_
  refine x_vI hC hK hP hS (cX6_init_2 hD hw1 hw2 hw) (fun _ h => h) ci_X8_3 rfl rfl hl.1 (Nat.le_of_ble_eq_true rfl) dX8_init_3 (rk (by decide) (by decide)) ⟨Nat.le_refl _, Nat.le_refl _⟩ (fun _ H locs _ hP hS => ?_)
  exact hret _ _ ls _ () hP hS dX8_init_6 trivial
theorem ci_X9_3 : CI RX9 3 yX6_init cX6_init 3 2 := ⟨lw_meth q366, q89, q401, q365, rfl, by decide +kernel⟩
theorem cX9_init_3 {l : Launch} {D : va_G} {cA : Nat → ClassId} {ad : Nat → Nat} {n : Nat} {f0 : Nat → va_E} {ρ : Rho} {r : Nat × Nat} {U : Tta} {A : Nat → Prop} (hD : gD A ad n) {w : Nat} {nu mm : Int32} {v0 v1 : Value} (hw1 : 81 ≤ w) (hw2 : w < n) (hw : f0 w = .inr (9, [v0, v1])) : Cv l (KC D cA) yX9_init cX9_init 3 2 0 0 [.ref (ad w), .int nu, .int mm] (XW D cA ad n f0 ρ r U) A (fun _ : Unit => True) (fun _ H => XW D cA ad n (va_up f0 w (.inr (9, [.int nu, .int mm]))) ρ r U H) := by
  refine Cv.ofI (by decide +kernel) (Nat.le_of_ble_eq_true rfl) ?_
  intro p e s m args below meth c Q hm hC hK hP hret ls hl
  have hx := hC.1
  have hb := hC.2.1
  have hown := hC.2.2.2.1
  have hts := hC.2.2.2.2
  have hS : va_S A s.heap s.heap [] := va_S.rf
  refine lv_aload_n hx hb dX9_init_0 rfl (hl.at rfl) ?_
  refine lv_iload_n hx hb dX9_init_1 rfl (hl.at rfl) ?_
  refine lv_iload_n hx hb dX9_init_2 rfl (hl.at rfl) ?_
  refine x_vI hC hK hP hS (cX6_init_3 hD hw1 hw2 hw) (fun _ h => h) ci_X9_3 rfl rfl hl.1 (Nat.le_of_ble_eq_true rfl) dX9_init_3 (rk (by decide) (by decide)) ⟨Nat.le_refl _, Nat.le_refl _⟩ (fun _ H locs _ hP hS => ?_)
  exact hret _ _ ls _ () hP hS dX9_init_6 trivial
theorem cX9_init_5 {l : Launch} {D : va_G} {cA : Nat → ClassId} {ad : Nat → Nat} {n : Nat} {f0 : Nat → va_E} {ρ : Rho} {r : Nat × Nat} {U : Tta} {A : Nat → Prop} (hD : gD A ad n) {w : Nat} {nu mm : Int32} {v0 v1 : Value} (hw1 : 81 ≤ w) (hw2 : w < n) (hw : f0 w = .inr (11, [v0, v1])) : Cv l (KC D cA) yX9_init cX9_init 3 2 0 0 [.ref (ad w), .int nu, .int mm] (XW D cA ad n f0 ρ r U) A (fun _ : Unit => True) (fun _ H => XW D cA ad n (va_up f0 w (.inr (11, [.int nu, .int mm]))) ρ r U H) := by
  refine Cv.ofI (by decide +kernel) (Nat.le_of_ble_eq_true rfl) ?_
  intro p e s m args below meth c Q hm hC hK hP hret ls hl
  have hx := hC.1
  have hb := hC.2.1
  have hown := hC.2.2.2.1
  have hts := hC.2.2.2.2
  have hS : va_S A s.heap s.heap [] := va_S.rf
  refine lv_aload_n hx hb dX9_init_0 rfl (hl.at rfl) ?_
  refine lv_iload_n hx hb dX9_init_1 rfl (hl.at rfl) ?_
  refine lv_iload_n hx hb dX9_init_2 rfl (hl.at rfl) ?_
  refine x_vI hC hK hP hS (cX6_init_5 hD hw1 hw2 hw) (fun _ h => h) ci_X9_3 rfl rfl hl.1 (Nat.le_of_ble_eq_true rfl) dX9_init_3 (rk (by decide) (by decide)) ⟨Nat.le_refl _, Nat.le_refl _⟩ (fun _ H locs _ hP hS => ?_)
  exact hret _ _ ls _ () hP hS dX9_init_6 trivial
theorem ci_X12_3 : CI RX12 3 yX6_init cX6_init 3 2 := ⟨lw_meth q366, q89, q428, q365, rfl, by decide +kernel⟩
theorem cX12_init_6 {l : Launch} {D : va_G} {cA : Nat → ClassId} {ad : Nat → Nat} {n : Nat} {f0 : Nat → va_E} {ρ : Rho} {r : Nat × Nat} {U : Tta} {A : Nat → Prop} (hD : gD A ad n) {w : Nat} {nu mm : Int32} {v0 v1 : Value} (hw1 : 81 ≤ w) (hw2 : w < n) (hw : f0 w = .inr (12, [v0, v1])) : Cv l (KC D cA) yX12_init cX12_init 3 2 0 0 [.ref (ad w), .int nu, .int mm] (XW D cA ad n f0 ρ r U) A (fun _ : Unit => True) (fun _ H => XW D cA ad n (va_up f0 w (.inr (12, [.int nu, .int mm]))) ρ r U H) := by
  refine Cv.ofI (by decide +kernel) (Nat.le_of_ble_eq_true rfl) ?_
  intro p e s m args below meth c Q hm hC hK hP hret ls hl
  have hx := hC.1
  have hb := hC.2.1
  have hown := hC.2.2.2.1
  have hts := hC.2.2.2.2
  have hS : va_S A s.heap s.heap [] := va_S.rf
  refine lv_aload_n hx hb dX12_init_0 rfl (hl.at rfl) ?_
  refine lv_iload_n hx hb dX12_init_1 rfl (hl.at rfl) ?_
  refine lv_iload_n hx hb dX12_init_2 rfl (hl.at rfl) ?_
  refine x_vI hC hK hP hS (cX6_init_6 hD hw1 hw2 hw) (fun _ h => h) ci_X12_3 rfl rfl hl.1 (Nat.le_of_ble_eq_true rfl) dX12_init_3 (rk (by decide) (by decide)) ⟨Nat.le_refl _, Nat.le_refl _⟩ (fun _ H locs _ hP hS => ?_)
  exact hret _ _ ls _ () hP hS dX12_init_6 trivial
theorem ci_X10_1 : CI RX10 1 yX7_init cX7_init 3 2 := ⟨lw_meth q363, q90, q410, q362, rfl, by decide +kernel⟩
theorem cX10_init_4 {l : Launch} {D : va_G} {cA : Nat → ClassId} {ad : Nat → Nat} {n : Nat} {f0 : Nat → va_E} {ρ : Rho} {r : Nat × Nat} {U : Tta} {A : Nat → Prop} (hD : gD A ad n) {w : Nat} {nu mm : Int32} {v0 v1 : Value} (hw1 : 81 ≤ w) (hw2 : w < n) (hw : f0 w = .inr (10, [v0, v1])) : Cv l (KC D cA) yX10_init cX10_init 3 3 0 0 [.ref (ad w), .int nu, .int mm] (XW D cA ad n f0 ρ r U) A (fun _ : Unit => True) (fun _ H => XW D cA ad n (va_up f0 w (.inr (10, [.int nu, .int mm]))) ρ r U H) := by
  refine Cv.ofI (by decide +kernel) (Nat.le_of_ble_eq_true rfl) ?_
  intro p e s m args below meth c Q hm hC hK hP hret ls hl
  have hx := hC.1
  have hb := hC.2.1
  have hown := hC.2.2.2.1
  have hts := hC.2.2.2.2
  have hS : va_S A s.heap s.heap [] := va_S.rf
  refine lv_aload_n hx hb dX10_init_0 rfl (hl.at rfl) ?_
  refine lv_iload_n hx hb dX10_init_1 rfl (hl.at rfl) ?_
  refine lv_iload_n hx hb dX10_init_2 rfl (hl.at rfl) ?_
  refine x_vI hC hK hP hS (cX7_init_4 hD hw1 hw2 hw) (fun _ h => h) ci_X10_1 rfl rfl hl.1 (Nat.le_of_ble_eq_true rfl) dX10_init_3 (rk (by decide) (by decide)) ⟨Nat.le_refl _, Nat.le_refl _⟩ (fun _ H locs _ hP hS => ?_)
  exact hret _ _ ls _ () hP hS dX10_init_6 trivial
theorem ci_X11_1 : CI RX11 1 yX9_init cX9_init 3 2 := ⟨lw_meth q400, q92, q419, q399, rfl, by decide +kernel⟩
theorem cX11_init_5 {l : Launch} {D : va_G} {cA : Nat → ClassId} {ad : Nat → Nat} {n : Nat} {f0 : Nat → va_E} {ρ : Rho} {r : Nat × Nat} {U : Tta} {A : Nat → Prop} (hD : gD A ad n) {w : Nat} {nu mm : Int32} {v0 v1 : Value} (hw1 : 81 ≤ w) (hw2 : w < n) (hw : f0 w = .inr (11, [v0, v1])) : Cv l (KC D cA) yX11_init cX11_init 3 3 0 0 [.ref (ad w), .int nu, .int mm] (XW D cA ad n f0 ρ r U) A (fun _ : Unit => True) (fun _ H => XW D cA ad n (va_up f0 w (.inr (11, [.int nu, .int mm]))) ρ r U H) := by
  refine Cv.ofI (by decide +kernel) (Nat.le_of_ble_eq_true rfl) ?_
  intro p e s m args below meth c Q hm hC hK hP hret ls hl
  have hx := hC.1
  have hb := hC.2.1
  have hown := hC.2.2.2.1
  have hts := hC.2.2.2.2
  have hS : va_S A s.heap s.heap [] := va_S.rf
  refine lv_aload_n hx hb dX11_init_0 rfl (hl.at rfl) ?_
  refine lv_iload_n hx hb dX11_init_1 rfl (hl.at rfl) ?_
  refine lv_iload_n hx hb dX11_init_2 rfl (hl.at rfl) ?_
  refine x_vI hC hK hP hS (cX9_init_5 hD hw1 hw2 hw) (fun _ h => h) ci_X11_1 rfl rfl hl.1 (Nat.le_of_ble_eq_true rfl) dX11_init_3 (rk (by decide) (by decide)) ⟨Nat.le_refl _, Nat.le_refl _⟩ (fun _ H locs _ hP hS => ?_)
  exact hret _ _ ls _ () hP hS dX11_init_6 trivial
theorem ci_X0_33 : CI RX0 33 yX6_init cX6_init 3 2 := ⟨lw_meth q366, q89, q434, q365, rfl, by decide +kernel⟩
theorem ci_X0_12 : CI RX0 12 yX7_init cX7_init 3 2 := ⟨lw_meth q363, q90, q361, q362, rfl, by decide +kernel⟩
theorem ci_X0_18 : CI RX0 18 yX8_init cX8_init 3 2 := ⟨lw_meth q391, q91, q389, q390, rfl, by decide +kernel⟩
theorem ci_X0_21 : CI RX0 21 yX9_init cX9_init 3 2 := ⟨lw_meth q400, q92, q398, q399, rfl, by decide +kernel⟩
theorem ci_X0_24 : CI RX0 24 yX10_init cX10_init 3 2 := ⟨lw_meth q409, q93, q407, q408, rfl, by decide +kernel⟩
theorem ci_X0_27 : CI RX0 27 yX11_init cX11_init 3 2 := ⟨lw_meth q418, q94, q416, q417, rfl, by decide +kernel⟩
theorem ci_X0_30 : CI RX0 30 yX12_init cX12_init 3 2 := ⟨lw_meth q427, q95, q425, q426, rfl, by decide +kernel⟩
theorem cX0_made_ {l : Launch} {D : va_G} {cA : Nat → ClassId} {ad : Nat → Nat} {n : Nat} {f0 : Nat → va_E} {ρ : Rho} {r : Nat × Nat} {U : Tta} (hn : 81 ≤ n) {A : Nat → Prop} (hD : gD A ad n) (hB : RB ρ n) {z : Nat} (hAz : ∀ q, z ≤ q → A q) (hr : r.1 < 3) (hr2 : r.2 < 3) {x nu mm : Int32} {kd : Nat} (hx1 : x = nI kd) (hk : kd ≤ 6) : Cg l (KC D cA) yX0_made cX0_made 3 "WheelBrook$Wheel" 4 1 2 [.int x, .int nu, .int mm] (fun H => XW D cA ad n f0 ρ r U H ∧ z ≤ H.size) A (fun ad1 : Nat → Nat => (∀ k, k < n → ad1 k = ad k) ∧ gD A ad1 (n + 1)) (fun ad1 a H => a = ad1 n ∧ XW D cA ad1 (n + 1) (va_up f0 n (.inr (6 + kd, [.int nu, .int mm]))) ρ r U H) := by
  subst hx1
  refine Cg.of (by decide +kernel) (Nat.le_of_ble_eq_true rfl) ?_
  intro p e s m args below meth c Q hC hK hP hret ls hl
  obtain ⟨hP, hz⟩ := hP
  have hx := hC.1
  have hb := hC.2.1
  have hS : va_S A s.heap s.heap [] := va_S.rf
  refine lv_iload_n hx hb dX0_made_0 rfl (hl.at rfl) ?_
  rcases (by omega : kd = 0 ∨ kd = 1 ∨ kd = 2 ∨ kd = 3 ∨ kd = 4 ∨ kd = 5 ∨ kd = 6) with rfl | rfl | rfl | rfl | rfl | rfl | rfl
  · refine lv_tableOut (tgt := 100) hx hb dX0_made_1 (by decide) rfl ?_
    refine x_new hC hK hP hD hS hn hB hr hr2 (fun q h => hAz q (Nat.le_trans hz h)) 6 (ty0 := tyX6) rfl in_X6 tyX6_ok q432 q433 q89 [.int 0, .int 0] (by decide) (by decide) (by decide) dX0_made_100 (fun ad1 H had hP hD1 hS => ?_)
    refine lv_dup hx hb dX0_made_103 rfl ?_
    refine lv_iload_n hx hb dX0_made_104 rfl (hl.at rfl) ?_
    refine lv_iload_n hx hb dX0_made_105 rfl (hl.at rfl) ?_
    refine x_vI hC hK hP hS (cX6_init_0 hD1 hn (Nat.lt_succ_self n) (va_up_self _ _ _)) (fun _ h => h) ci_X0_33 rfl rfl hl.1 (Nat.le_of_ble_eq_true rfl) dX0_made_106 (rk (by decide) (by decide)) ⟨by decide, by decide⟩ (fun _ H locs _ hP hS => ?_)
    rw [va_up_up] at hP
    exact hret _ _ ls _ ad1 _ ⟨rfl, hP⟩ hS dX0_made_109 ⟨had, hD1⟩
  · refine lv_tableIn (tgt := 40) hx hb dX0_made_1 (by decide) (by decide) rfl rfl ?_
    refine x_new hC hK hP hD hS hn hB hr hr2 (fun q h => hAz q (Nat.le_trans hz h)) 7 (ty0 := tyX7) rfl in_X7 tyX7_ok q359 q360 q90 [.int 0, .int 0] (by decide) (by decide) (by decide) dX0_made_40 (fun ad1 H had hP hD1 hS => ?_)
    refine lv_dup hx hb dX0_made_43 rfl ?_
    refine lv_iload_n hx hb dX0_made_44 rfl (hl.at rfl) ?_
    refine lv_iload_n hx hb dX0_made_45 rfl (hl.at rfl) ?_
    refine x_vI hC hK hP hS (cX7_init_1 hD1 hn (Nat.lt_succ_self n) (va_up_self _ _ _)) (fun _ h => h) ci_X0_12 rfl rfl hl.1 (Nat.le_of_ble_eq_true rfl) dX0_made_46 (rk (by decide) (by decide)) ⟨by decide, by decide⟩ (fun _ H locs _ hP hS => ?_)
    rw [va_up_up] at hP
    exact hret _ _ ls _ ad1 _ ⟨rfl, hP⟩ hS dX0_made_49 ⟨had, hD1⟩
  · refine lv_tableIn (tgt := 50) hx hb dX0_made_1 (by decide) (by decide) rfl rfl ?_
    refine x_new hC hK hP hD hS hn hB hr hr2 (fun q h => hAz q (Nat.le_trans hz h)) 8 (ty0 := tyX8) rfl in_X8 tyX8_ok q387 q388 q91 [.int 0, .int 0] (by decide) (by decide) (by decide) dX0_made_50 (fun ad1 H had hP hD1 hS => ?_)
    refine lv_dup hx hb dX0_made_53 rfl ?_
    refine lv_iload_n hx hb dX0_made_54 rfl (hl.at rfl) ?_
    refine lv_iload_n hx hb dX0_made_55 rfl (hl.at rfl) ?_
    refine x_vI hC hK hP hS (cX8_init_2 hD1 hn (Nat.lt_succ_self n) (va_up_self _ _ _)) (fun _ h => h) ci_X0_18 rfl rfl hl.1 (Nat.le_of_ble_eq_true rfl) dX0_made_56 (rk (by decide) (by decide)) ⟨by decide, by decide⟩ (fun _ H locs _ hP hS => ?_)
    rw [va_up_up] at hP
    exact hret _ _ ls _ ad1 _ ⟨rfl, hP⟩ hS dX0_made_59 ⟨had, hD1⟩
  · refine lv_tableIn (tgt := 60) hx hb dX0_made_1 (by decide) (by decide) rfl rfl ?_
    refine x_new hC hK hP hD hS hn hB hr hr2 (fun q h => hAz q (Nat.le_trans hz h)) 9 (ty0 := tyX9) rfl in_X9 tyX9_ok q396 q397 q92 [.int 0, .int 0] (by decide) (by decide) (by decide) dX0_made_60 (fun ad1 H had hP hD1 hS => ?_)
    refine lv_dup hx hb dX0_made_63 rfl ?_
    refine lv_iload_n hx hb dX0_made_64 rfl (hl.at rfl) ?_
    refine lv_iload_n hx hb dX0_made_65 rfl (hl.at rfl) ?_
    refine x_vI hC hK hP hS (cX9_init_3 hD1 hn (Nat.lt_succ_self n) (va_up_self _ _ _)) (fun _ h => h) ci_X0_21 rfl rfl hl.1 (Nat.le_of_ble_eq_true rfl) dX0_made_66 (rk (by decide) (by decide)) ⟨by decide, by decide⟩ (fun _ H locs _ hP hS => ?_)
    rw [va_up_up] at hP
    exact hret _ _ ls _ ad1 _ ⟨rfl, hP⟩ hS dX0_made_69 ⟨had, hD1⟩
  · refine lv_tableIn (tgt := 70) hx hb dX0_made_1 (by decide) (by decide) rfl rfl ?_
    refine x_new hC hK hP hD hS hn hB hr hr2 (fun q h => hAz q (Nat.le_trans hz h)) 10 (ty0 := tyX10) rfl in_X10 tyX10_ok q405 q406 q93 [.int 0, .int 0] (by decide) (by decide) (by decide) dX0_made_70 (fun ad1 H had hP hD1 hS => ?_)
    refine lv_dup hx hb dX0_made_73 rfl ?_
    refine lv_iload_n hx hb dX0_made_74 rfl (hl.at rfl) ?_
    refine lv_iload_n hx hb dX0_made_75 rfl (hl.at rfl) ?_
    refine x_vI hC hK hP hS (cX10_init_4 hD1 hn (Nat.lt_succ_self n) (va_up_self _ _ _)) (fun _ h => h) ci_X0_24 rfl rfl hl.1 (Nat.le_of_ble_eq_true rfl) dX0_made_76 (rk (by decide) (by decide)) ⟨by decide, by decide⟩ (fun _ H locs _ hP hS => ?_)
    rw [va_up_up] at hP
    exact hret _ _ ls _ ad1 _ ⟨rfl, hP⟩ hS dX0_made_79 ⟨had, hD1⟩
  · refine lv_tableIn (tgt := 80) hx hb dX0_made_1 (by decide) (by decide) rfl rfl ?_
    refine x_new hC hK hP hD hS hn hB hr hr2 (fun q h => hAz q (Nat.le_trans hz h)) 11 (ty0 := tyX11) rfl in_X11 tyX11_ok q414 q415 q94 [.int 0, .int 0] (by decide) (by decide) (by decide) dX0_made_80 (fun ad1 H had hP hD1 hS => ?_)
    refine lv_dup hx hb dX0_made_83 rfl ?_
    refine lv_iload_n hx hb dX0_made_84 rfl (hl.at rfl) ?_
    refine lv_iload_n hx hb dX0_made_85 rfl (hl.at rfl) ?_
    refine x_vI hC hK hP hS (cX11_init_5 hD1 hn (Nat.lt_succ_self n) (va_up_self _ _ _)) (fun _ h => h) ci_X0_27 rfl rfl hl.1 (Nat.le_of_ble_eq_true rfl) dX0_made_86 (rk (by decide) (by decide)) ⟨by decide, by decide⟩ (fun _ H locs _ hP hS => ?_)
    rw [va_up_up] at hP
    exact hret _ _ ls _ ad1 _ ⟨rfl, hP⟩ hS dX0_made_89 ⟨had, hD1⟩
  · refine lv_tableIn (tgt := 90) hx hb dX0_made_1 (by decide) (by decide) rfl rfl ?_
    refine x_new hC hK hP hD hS hn hB hr hr2 (fun q h => hAz q (Nat.le_trans hz h)) 12 (ty0 := tyX12) rfl in_X12 tyX12_ok q423 q424 q95 [.int 0, .int 0] (by decide) (by decide) (by decide) dX0_made_90 (fun ad1 H had hP hD1 hS => ?_)
    refine lv_dup hx hb dX0_made_93 rfl ?_
    refine lv_iload_n hx hb dX0_made_94 rfl (hl.at rfl) ?_
    refine lv_iload_n hx hb dX0_made_95 rfl (hl.at rfl) ?_
    refine x_vI hC hK hP hS (cX12_init_6 hD1 hn (Nat.lt_succ_self n) (va_up_self _ _ _)) (fun _ h => h) ci_X0_30 rfl rfl hl.1 (Nat.le_of_ble_eq_true rfl) dX0_made_96 (rk (by decide) (by decide)) ⟨by decide, by decide⟩ (fun _ H locs _ hP hS => ?_)
    rw [va_up_up] at hP
    exact hret _ _ ls _ ad1 _ ⟨rfl, hP⟩ hS dX0_made_99 ⟨had, hD1⟩
theorem csn_X1_102 : CSN RX1 "WheelBrook" 102 yX0_made cX0_made 3 ((Option.some (Jvm.ClassFile.FieldType.object "WheelBrook$Wheel"))) 3 := ⟨lw_meth q358, q83, q356, q357, by decide +kernel⟩
theorem cX1_comes_ {l : Launch} {D : va_G} {cA : Nat → ClassId} {ad : Nat → Nat} {n : Nat} {f0 : Nat → va_E} {ρ : Nat → Nat → Option Nat} {r : Nat × Nat} {U : Nat → Nat → Nat → Int32} (hn : 81 ≤ n) {A : Nat → Prop} (hD : gD A ad n) (hB : RB ρ n) {z : Nat} (hAz : ∀ q, z ≤ q → A q) (hr : r.1 < 3) (hr2 : r.2 < 3) {a : Nat} (ha : a < 3) (hI : Inv (U a)) (hw8 : wh (U a) < 8) {x1 x2 x3 x4 : Int32} {kk cc : Nat} (h1 : x1 = nI (kk / 10)) (h2 : x2 = nI (kk % 10)) (h3 : x3 = nI (cc / 10)) (h4 : x4 = nI (cc % 10)) (hkk : kk ≤ 69) (hcc : cc ≤ 119) : XIg l D cA ad n f0 ρ r U A z yX1_comes cX1_comes 6 (some .int) (5) 1 2 [.ref (ad (3 + 22 * a)), .int x1, .int x2, .int x3, .int x4] (fun v ad1 n1 f1 V ρ1 r1 => v = nI (wh (U a)) ∧ n1 = n + 1 ∧ (∀ k, k < n → ad1 k = ad k) ∧ gD A ad1 n1 ∧ f1 = va_up f0 n (.inr (6 + kk / 10, [.int (nI (wh (U a))), .int (nI (kk % 10))])) ∧ V = uS U a (sp_adds (U a) kk cc) ∧ ρ1 = rh ρ a (wh (U a)) (some n) ∧ r1 = r) := by
  refine Ci.of rfl (by decide +kernel) (Nat.le_of_ble_eq_true rfl) ?_
  intro p e s m args below meth c Q hC hK hP hret ls hl
  have hx := hC.1
  have hb := hC.2.1
  have hown := hC.2.2.2.1
  have hts := hC.2.2.2.2
  obtain ⟨hP, hz⟩ := hP
  have hS : va_S A s.heap s.heap [] := va_S.rf
  subst h1; subst h2; subst h3; subst h4
  obtain ⟨eN, -⟩ := inv_wh hI
  obtain ⟨k, ek⟩ : ∃ k, k = wh (U a) := ⟨_, rfl⟩
  rw [← ek] at eN hw8
  refine lv_aload_n hx hb dX1_comes_0 rfl (hl.at rfl) ?_
  refine c_get hC hK hP (3 + 22 * a) (by omega) (wo_ho ha) rfl in_X1 0 (by decide) q142 rfl rfl dX1_comes_1 ?_
  refine l_top (nI k) eN ?_
  refine l_istore hx hb 5 dX1_comes_4 hl rfl (fun ls hl => ?_)
  refine lv_aload_n hx hb dX1_comes_6 rfl (hl.at rfl) ?_
  refine c_get hC hK hP (3 + 22 * a) (by omega) (wo_ho ha) rfl in_X1 10 (by decide) q163 rfl rfl dX1_comes_7 ?_
  refine lv_iload hx hb dX1_comes_10 (hl.at rfl) ?_
  refine x_ald hC hK hP (3 + 22 * a + 5) (by omega) 3 (wo_wh ha) rfl k (rfl) (hw8) (by decide) dX1_comes_12 ?_
  refine lv_iload_n hx hb dX1_comes_13 rfl (hl.at rfl) ?_
  refine lv_iload hx hb dX1_comes_14 (hl.at rfl) ?_
  refine lv_iload_n hx hb dX1_comes_16 rfl (hl.at rfl) ?_
  refine x_gSN hC hK ⟨hP, Nat.le_trans hz hS.1⟩ hS (cX0_made_ hn hD hB hAz hr hr2 rfl (by omega)) (fun _ h => h) csn_X1_102 rfl rfl hl.1 (Nat.le_of_ble_eq_true rfl) dX1_comes_17 (rk (by decide) (by decide)) ⟨by decide, by decide⟩ (fun ad1 a17 H locs p17 hP hS => ?_)
  obtain ⟨rfl, hP⟩ := hP
  obtain ⟨had, hD⟩ := p17
  have hn0 := hn
  have hn : 81 ≤ n + 1 := by omega
  rw [← had (3 + 22 * a) (by omega)] at hl
  rw [← had (3 + 22 * a + 14 + k) (by omega)]
  refine c_putN (ty := .object "java/lang/Object") hC hK hP hD hS (3 + 22 * a + 14 + k) (by omega) (wo_sl ha (hw8)) rfl in_X2 tyX2_ok nmX2 0 (by decide) q135 rfl rfl (by decide +kernel) (rf_n (some n)) (rf_f (some n)) (by show 0 < 1; decide) (c_wL (w := some n) ha (hw8) hn) dX1_comes_20 (fun H locs hP hS => ?_)
  refine lv_aload_n hx hb dX1_comes_23 rfl (hl.at rfl) ?_
  refine c_get hC hK hP (3 + 22 * a) (by omega) (wo_ho ha) rfl in_X1 11 (by decide) q165 rfl rfl dX1_comes_24 ?_
  refine lv_iload hx hb dX1_comes_27 (hl.at rfl) ?_
  refine lv_iload_n hx hb dX1_comes_29 rfl (hl.at rfl) ?_
  refine lv_i2b hx hb dX1_comes_30 (nB_nI (by omega)) ?_
  refine c_stb hC hK hP hD hS (3 + 22 * a + 6) (by omega) (c_ldH a 6 7 1 8 ha (by decide) (fun _ _ _ => rfl)) _ (nB_nI (by omega)) _ (rfl) (show _ < 8 by omega) (by decide) (c_wH a 6 7 1 8 ha hn (by decide) rfl (fun _ _ _ => rfl)) dX1_comes_31 (fun H locs hP hS => ?_)
  refine lv_aload_n hx hb dX1_comes_32 rfl (hl.at rfl) ?_
  refine c_get hC hK hP (3 + 22 * a) (by omega) (wo_ho ha) rfl in_X1 12 (by decide) q168 rfl rfl dX1_comes_33 ?_
  refine lv_iload hx hb dX1_comes_36 (hl.at rfl) ?_
  refine lv_iload hx hb dX1_comes_38 (hl.at rfl) ?_
  refine lv_i2b hx hb dX1_comes_40 (nB_nI (by omega)) ?_
  refine c_stb hC hK hP hD hS (3 + 22 * a + 7) (by omega) (c_ldH a 7 8 1 8 ha (by decide) (fun _ _ _ => rfl)) _ (nB_nI (by omega)) _ (rfl) (show _ < 8 by omega) (by decide) (c_wH a 7 8 1 8 ha hn (by decide) rfl (fun _ _ _ => rfl)) dX1_comes_41 (fun H locs hP hS => ?_)
  refine lv_aload_n hx hb dX1_comes_42 rfl (hl.at rfl) ?_
  refine c_get hC hK hP (3 + 22 * a) (by omega) (wo_ho ha) rfl in_X1 13 (by decide) q170 rfl rfl dX1_comes_43 ?_
  refine lv_iload hx hb dX1_comes_46 (hl.at rfl) ?_
  refine lv_iconst (v := nI 1) hx hb dX1_comes_48 rfl ?_
  refine c_stb hC hK hP hD hS (3 + 22 * a + 8) (by omega) (c_ldH a 8 9 1 8 ha (by decide) (fun _ _ _ => rfl)) _ (nB_nI (by omega)) _ (rfl) (show _ < 8 by omega) (by decide) (c_wH a 8 9 1 8 ha hn (by decide) rfl (fun _ _ _ => rfl)) dX1_comes_49 (fun H locs hP hS => ?_)
  refine lv_aload_n hx hb dX1_comes_50 rfl (hl.at rfl) ?_
  refine c_get hC hK hP (3 + 22 * a) (by omega) (wo_ho ha) rfl in_X1 14 (by decide) q172 rfl rfl dX1_comes_51 ?_
  refine lv_iload hx hb dX1_comes_54 (hl.at rfl) ?_
  refine lv_iconst (v := nI 0) hx hb dX1_comes_56 rfl ?_
  refine c_sti hC hK hP hD hS (3 + 22 * a + 9) (by omega) (c_ldH a 9 10 0 8 ha (by decide) (fun _ _ _ => rfl)) _ (rfl) (show _ < 8 by omega) (by decide) (c_wH a 9 10 0 8 ha hn (by decide) rfl (fun _ _ _ => rfl)) dX1_comes_57 (fun H locs hP hS => ?_)
  refine lv_aload_n hx hb dX1_comes_58 rfl (hl.at rfl) ?_
  refine c_get hC hK hP (3 + 22 * a) (by omega) (wo_ho ha) rfl in_X1 15 (by decide) q175 rfl rfl dX1_comes_59 ?_
  refine lv_iload hx hb dX1_comes_62 (hl.at rfl) ?_
  refine lv_iconst (v := nI 0) hx hb dX1_comes_64 rfl ?_
  refine c_sti hC hK hP hD hS (3 + 22 * a + 10) (by omega) (c_ldH a 10 11 0 8 ha (by decide) (fun _ _ _ => rfl)) _ (rfl) (show _ < 8 by omega) (by decide) (c_wH a 10 11 0 8 ha hn (by decide) rfl (fun _ _ _ => rfl)) dX1_comes_65 (fun H locs hP hS => ?_)
  refine lv_aload_n hx hb dX1_comes_66 rfl (hl.at rfl) ?_
  refine lv_dup hx hb dX1_comes_67 rfl ?_
  refine c_get hC hK hP (3 + 22 * a) (by omega) (wo_ho ha) rfl in_X1 0 (by decide) q142 rfl rfl dX1_comes_68 ?_
  refine l_top (nI k) (by simp only [up3_s]; rw [up1_n (by decide), up1_n (by decide), up1_n (by decide), up1_n (by decide), up1_n (by decide)]; exact eN) ?_
  refine lv_iconst (v := nI 1) hx hb dX1_comes_71 rfl ?_
  refine l_addN hx hb dX1_comes_72 ?_
  refine c_put (ty := .int) hC hK hP hD hS (3 + 22 * a) (by omega) (wo_ho ha) rfl in_X1 tyX1_ok nmX1 0 (by decide) q142 rfl rfl (by decide +kernel) rfl rfl (by show 0 < 19; decide) (cp_wheels ha hn) dX1_comes_73 (fun H locs hP hS => ?_)
  simp only [up3_uS, uS_uS, uS_s] at hP
  replace hP := XW.gh hP ha (S := sp_adds (U a) kk cc) (fun j _ => by simp only [uS_s]; rw [sp_adds, ← ek]; simp [up2, up1, ad7]) (fun q z0 z1 z2 z3 z4 z5 => by
    simp only [uS_s]
    rw [sp_adds, ← ek]
    rcases (by omega : q = 1 ∨ q = 2 ∨ q = 3 ∨ q = 4 ∨ q = 7 ∨ q = 8 ∨ q = 9 ∨ q = 10 ∨ q = 11 ∨ q = 14 ∨ q = 15) with rfl | rfl | rfl | rfl | rfl | rfl | rfl | rfl | rfl | rfl | rfl <;> simp [up2, up1, ad7])
  rw [uS_uS] at hP
  refine lv_iload hx hb dX1_comes_76 (hl.at rfl) ?_
  refine W.widen (k := 1) (n := 2) (by decide) (by decide) ?_
  refine hret _ _ ls _ _ (_, _, _, _, _, _) hP hS dX1_comes_78 ?_
  dsimp only
  rw [← ek]; exact ⟨rfl, rfl, had, hD, rfl, rfl, rfl, rfl⟩
