theorem cX6_kind_0 {l : Launch} {D : va_G} {cA : Nat → ClassId} {ad : Nat → Nat} {n : Nat} {f0 : Nat → va_E} {ρ : Nat → Nat → Option Nat} {r : Nat × Nat} {U : Nat → Nat → Nat → Int32} (hn : 81 ≤ n) {w : Nat} {nu mm : Int32} (hw1 : 81 ≤ w) (hw2 : w < n) (hw : f0 w = .inr (6, [.int nu, .int mm])) : XP l D cA ad n f0 ρ r U yX6_kind cX6_kind 1 (some .int) (0) [.ref (ad w)] (fun v => v = nI 0) := by
  refine Cp.of rfl (by decide +kernel) (Nat.le_of_ble_eq_true rfl) ?_
  intro p e s m args below meth c Q hC hK hP hret ls hl
  have hx := hC.1
  have hb := hC.2.1
  have hown := hC.2.2.2.1
  have hts := hC.2.2.2.2
  refine lv_iconst (v := nI 0) hx hb dX6_kind_0 rfl ?_
  refine hret ls _ _ dX6_kind_1 ?_
  rfl
theorem cX6_kind_1 {l : Launch} {D : va_G} {cA : Nat → ClassId} {ad : Nat → Nat} {n : Nat} {f0 : Nat → va_E} {ρ : Nat → Nat → Option Nat} {r : Nat × Nat} {U : Nat → Nat → Nat → Int32} (hn : 81 ≤ n) {w : Nat} {nu mm : Int32} (hw1 : 81 ≤ w) (hw2 : w < n) (hw : f0 w = .inr (7, [.int nu, .int mm])) : XP l D cA ad n f0 ρ r U yX6_kind cX6_kind 1 (some .int) (0) [.ref (ad w)] (fun v => v = nI 0) := by
  refine Cp.of rfl (by decide +kernel) (Nat.le_of_ble_eq_true rfl) ?_
  intro p e s m args below meth c Q hC hK hP hret ls hl
  have hx := hC.1
  have hb := hC.2.1
  have hown := hC.2.2.2.1
  have hts := hC.2.2.2.2
  refine lv_iconst (v := nI 0) hx hb dX6_kind_0 rfl ?_
  refine hret ls _ _ dX6_kind_1 ?_
  rfl
theorem cX6_kind_2 {l : Launch} {D : va_G} {cA : Nat → ClassId} {ad : Nat → Nat} {n : Nat} {f0 : Nat → va_E} {ρ : Nat → Nat → Option Nat} {r : Nat × Nat} {U : Nat → Nat → Nat → Int32} (hn : 81 ≤ n) {w : Nat} {nu mm : Int32} (hw1 : 81 ≤ w) (hw2 : w < n) (hw : f0 w = .inr (8, [.int nu, .int mm])) : XP l D cA ad n f0 ρ r U yX6_kind cX6_kind 1 (some .int) (0) [.ref (ad w)] (fun v => v = nI 0) := by
  refine Cp.of rfl (by decide +kernel) (Nat.le_of_ble_eq_true rfl) ?_
  intro p e s m args below meth c Q hC hK hP hret ls hl
  have hx := hC.1
  have hb := hC.2.1
  have hown := hC.2.2.2.1
  have hts := hC.2.2.2.2
  refine lv_iconst (v := nI 0) hx hb dX6_kind_0 rfl ?_
  refine hret ls _ _ dX6_kind_1 ?_
  rfl
theorem cX6_kind_3 {l : Launch} {D : va_G} {cA : Nat → ClassId} {ad : Nat → Nat} {n : Nat} {f0 : Nat → va_E} {ρ : Nat → Nat → Option Nat} {r : Nat × Nat} {U : Nat → Nat → Nat → Int32} (hn : 81 ≤ n) {w : Nat} {nu mm : Int32} (hw1 : 81 ≤ w) (hw2 : w < n) (hw : f0 w = .inr (9, [.int nu, .int mm])) : XP l D cA ad n f0 ρ r U yX6_kind cX6_kind 1 (some .int) (0) [.ref (ad w)] (fun v => v = nI 0) := by
  refine Cp.of rfl (by decide +kernel) (Nat.le_of_ble_eq_true rfl) ?_
  intro p e s m args below meth c Q hC hK hP hret ls hl
  have hx := hC.1
  have hb := hC.2.1
  have hown := hC.2.2.2.1
  have hts := hC.2.2.2.2
  refine lv_iconst (v := nI 0) hx hb dX6_kind_0 rfl ?_
  refine hret ls _ _ dX6_kind_1 ?_
  rfl
theorem cX6_kind_4 {l : Launch} {D : va_G} {cA : Nat → ClassId} {ad : Nat → Nat} {n : Nat} {f0 : Nat → va_E} {ρ : Nat → Nat → Option Nat} {r : Nat × Nat} {U : Nat → Nat → Nat → Int32} (hn : 81 ≤ n) {w : Nat} {nu mm : Int32} (hw1 : 81 ≤ w) (hw2 : w < n) (hw : f0 w = .inr (10, [.int nu, .int mm])) : XP l D cA ad n f0 ρ r U yX6_kind cX6_kind 1 (some .int) (0) [.ref (ad w)] (fun v => v = nI 0) := by
  refine Cp.of rfl (by decide +kernel) (Nat.le_of_ble_eq_true rfl) ?_
  intro p e s m args below meth c Q hC hK hP hret ls hl
  have hx := hC.1
  have hb := hC.2.1
  have hown := hC.2.2.2.1
  have hts := hC.2.2.2.2
  refine lv_iconst (v := nI 0) hx hb dX6_kind_0 rfl ?_
  refine hret ls _ _ dX6_kind_1 ?_
  rfl
theorem cX6_kind_5 {l : Launch} {D : va_G} {cA : Nat → ClassId} {ad : Nat → Nat} {n : Nat} {f0 : Nat → va_E} {ρ : Nat → Nat → Option Nat} {r : Nat × Nat} {U : Nat → Nat → Nat → Int32} (hn : 81 ≤ n) {w : Nat} {nu mm : Int32} (hw1 : 81 ≤ w) (hw2 : w < n) (hw : f0 w = .inr (11, [.int nu, .int mm])) : XP l D cA ad n f0 ρ r U yX6_kind cX6_kind 1 (some .int) (0) [.ref (ad w)] (fun v => v = nI 0) := by
  refine Cp.of rfl (by decide +kernel) (Nat.le_of_ble_eq_true rfl) ?_
  intro p e s m args below meth c Q hC hK hP hret ls hl
  have hx := hC.1
  have hb := hC.2.1
  have hown := hC.2.2.2.1
  have hts := hC.2.2.2.2
  refine lv_iconst (v := nI 0) hx hb dX6_kind_0 rfl ?_
  refine hret ls _ _ dX6_kind_1 ?_
  rfl
theorem cX6_kind_6 {l : Launch} {D : va_G} {cA : Nat → ClassId} {ad : Nat → Nat} {n : Nat} {f0 : Nat → va_E} {ρ : Nat → Nat → Option Nat} {r : Nat × Nat} {U : Nat → Nat → Nat → Int32} (hn : 81 ≤ n) {w : Nat} {nu mm : Int32} (hw1 : 81 ≤ w) (hw2 : w < n) (hw : f0 w = .inr (12, [.int nu, .int mm])) : XP l D cA ad n f0 ρ r U yX6_kind cX6_kind 1 (some .int) (0) [.ref (ad w)] (fun v => v = nI 0) := by
  refine Cp.of rfl (by decide +kernel) (Nat.le_of_ble_eq_true rfl) ?_
  intro p e s m args below meth c Q hC hK hP hret ls hl
  have hx := hC.1
  have hb := hC.2.1
  have hown := hC.2.2.2.1
  have hts := hC.2.2.2.2
  refine lv_iconst (v := nI 0) hx hb dX6_kind_0 rfl ?_
  refine hret ls _ _ dX6_kind_1 ?_
  rfl
theorem csu_X7_9 : CSU RX7 9 yX6_kind cX6_kind 1 (some .int) 0 := ⟨lw_SU q477 q458 q386 q456 q89 q483, by decide +kernel⟩
theorem cX7_kind_1 {l : Launch} {D : va_G} {cA : Nat → ClassId} {ad : Nat → Nat} {n : Nat} {f0 : Nat → va_E} {ρ : Nat → Nat → Option Nat} {r : Nat × Nat} {U : Nat → Nat → Nat → Int32} (hn : 81 ≤ n) {w : Nat} {nu mm : Int32} (hw1 : 81 ≤ w) (hw2 : w < n) (hw : f0 w = .inr (7, [.int nu, .int mm])) : XP l D cA ad n f0 ρ r U yX7_kind cX7_kind 1 (some .int) (1) [.ref (ad w)] (fun v => v = nI 1) := by
  refine Cp.of rfl (by decide +kernel) (Nat.le_of_ble_eq_true rfl) ?_
  intro p e s m args below meth c Q hC hK hP hret ls hl
  have hx := hC.1
  have hb := hC.2.1
  have hown := hC.2.2.2.1
  have hts := hC.2.2.2.2
  refine lv_aload_n hx hb dX7_kind_0 rfl (hl.at rfl) ?_
  refine x_pSU hC hK hP (x_at hK (ci := 7) rfl) (x_rPO hK hP hw1 hw2 hw rfl) (cX6_kind_1 hn hw1 hw2 hw) csu_X7_9 rfl rfl hl.1 (Nat.le_of_ble_eq_true rfl) dX7_kind_1 (rk (by decide) (by decide)) ⟨Nat.le_refl _, Nat.le_refl _⟩ (fun r1 p1 => ?_)
  refine lv_iconst (v := nI 1) hx hb dX7_kind_4 rfl ?_
  refine lv_iadd hx hb dX7_kind_5 ?_
  refine hret ls _ _ dX7_kind_6 ?_
  rw [p1]; rfl
theorem cX7_kind_4 {l : Launch} {D : va_G} {cA : Nat → ClassId} {ad : Nat → Nat} {n : Nat} {f0 : Nat → va_E} {ρ : Nat → Nat → Option Nat} {r : Nat × Nat} {U : Nat → Nat → Nat → Int32} (hn : 81 ≤ n) {w : Nat} {nu mm : Int32} (hw1 : 81 ≤ w) (hw2 : w < n) (hw : f0 w = .inr (10, [.int nu, .int mm])) : XP l D cA ad n f0 ρ r U yX7_kind cX7_kind 1 (some .int) (1) [.ref (ad w)] (fun v => v = nI 1) := by
  refine Cp.of rfl (by decide +kernel) (Nat.le_of_ble_eq_true rfl) ?_
  intro p e s m args below meth c Q hC hK hP hret ls hl
  have hx := hC.1
  have hb := hC.2.1
  have hown := hC.2.2.2.1
  have hts := hC.2.2.2.2
  refine lv_aload_n hx hb dX7_kind_0 rfl (hl.at rfl) ?_
  refine x_pSU hC hK hP (x_at hK (ci := 10) rfl) (x_rPO hK hP hw1 hw2 hw rfl) (cX6_kind_4 hn hw1 hw2 hw) csu_X7_9 rfl rfl hl.1 (Nat.le_of_ble_eq_true rfl) dX7_kind_1 (rk (by decide) (by decide)) ⟨Nat.le_refl _, Nat.le_refl _⟩ (fun r1 p1 => ?_)
  refine lv_iconst (v := nI 1) hx hb dX7_kind_4 rfl ?_
  refine lv_iadd hx hb dX7_kind_5 ?_
  refine hret ls _ _ dX7_kind_6 ?_
  rw [p1]; rfl
theorem csu_X8_9 : CSU RX8 9 yX6_kind cX6_kind 1 (some .int) 0 := ⟨lw_SU q470 q458 q395 q456 q89 q483, by decide +kernel⟩
theorem cX8_kind_2 {l : Launch} {D : va_G} {cA : Nat → ClassId} {ad : Nat → Nat} {n : Nat} {f0 : Nat → va_E} {ρ : Nat → Nat → Option Nat} {r : Nat × Nat} {U : Nat → Nat → Nat → Int32} (hn : 81 ≤ n) {w : Nat} {nu mm : Int32} (hw1 : 81 ≤ w) (hw2 : w < n) (hw : f0 w = .inr (8, [.int nu, .int mm])) : XP l D cA ad n f0 ρ r U yX8_kind cX8_kind 1 (some .int) (1) [.ref (ad w)] (fun v => v = nI 2) := by
  refine Cp.of rfl (by decide +kernel) (Nat.le_of_ble_eq_true rfl) ?_
  intro p e s m args below meth c Q hC hK hP hret ls hl
  have hx := hC.1
  have hb := hC.2.1
  have hown := hC.2.2.2.1
  have hts := hC.2.2.2.2
  refine lv_aload_n hx hb dX8_kind_0 rfl (hl.at rfl) ?_
  refine x_pSU hC hK hP (x_at hK (ci := 8) rfl) (x_rPO hK hP hw1 hw2 hw rfl) (cX6_kind_2 hn hw1 hw2 hw) csu_X8_9 rfl rfl hl.1 (Nat.le_of_ble_eq_true rfl) dX8_kind_1 (rk (by decide) (by decide)) ⟨Nat.le_refl _, Nat.le_refl _⟩ (fun r1 p1 => ?_)
  refine lv_iconst (v := nI 2) hx hb dX8_kind_4 rfl ?_
  refine lv_iadd hx hb dX8_kind_5 ?_
  refine hret ls _ _ dX8_kind_6 ?_
  rw [p1]; rfl
theorem csu_X9_9 : CSU RX9 9 yX6_kind cX6_kind 1 (some .int) 0 := ⟨lw_SU q462 q458 q404 q456 q89 q483, by decide +kernel⟩
theorem cX9_kind_3 {l : Launch} {D : va_G} {cA : Nat → ClassId} {ad : Nat → Nat} {n : Nat} {f0 : Nat → va_E} {ρ : Nat → Nat → Option Nat} {r : Nat × Nat} {U : Nat → Nat → Nat → Int32} (hn : 81 ≤ n) {w : Nat} {nu mm : Int32} (hw1 : 81 ≤ w) (hw2 : w < n) (hw : f0 w = .inr (9, [.int nu, .int mm])) : XP l D cA ad n f0 ρ r U yX9_kind cX9_kind 1 (some .int) (1) [.ref (ad w)] (fun v => v = nI 3) := by
  refine Cp.of rfl (by decide +kernel) (Nat.le_of_ble_eq_true rfl) ?_
  intro p e s m args below meth c Q hC hK hP hret ls hl
  have hx := hC.1
  have hb := hC.2.1
  have hown := hC.2.2.2.1
  have hts := hC.2.2.2.2
  refine lv_aload_n hx hb dX9_kind_0 rfl (hl.at rfl) ?_
  refine x_pSU hC hK hP (x_at hK (ci := 9) rfl) (x_rPO hK hP hw1 hw2 hw rfl) (cX6_kind_3 hn hw1 hw2 hw) csu_X9_9 rfl rfl hl.1 (Nat.le_of_ble_eq_true rfl) dX9_kind_1 (rk (by decide) (by decide)) ⟨Nat.le_refl _, Nat.le_refl _⟩ (fun r1 p1 => ?_)
  refine lv_iconst (v := nI 3) hx hb dX9_kind_4 rfl ?_
  refine lv_iadd hx hb dX9_kind_5 ?_
  refine hret ls _ _ dX9_kind_6 ?_
  rw [p1]; rfl
theorem cX9_kind_5 {l : Launch} {D : va_G} {cA : Nat → ClassId} {ad : Nat → Nat} {n : Nat} {f0 : Nat → va_E} {ρ : Nat → Nat → Option Nat} {r : Nat × Nat} {U : Nat → Nat → Nat → Int32} (hn : 81 ≤ n) {w : Nat} {nu mm : Int32} (hw1 : 81 ≤ w) (hw2 : w < n) (hw : f0 w = .inr (11, [.int nu, .int mm])) : XP l D cA ad n f0 ρ r U yX9_kind cX9_kind 1 (some .int) (1) [.ref (ad w)] (fun v => v = nI 3) := by
  refine Cp.of rfl (by decide +kernel) (Nat.le_of_ble_eq_true rfl) ?_
  intro p e s m args below meth c Q hC hK hP hret ls hl
  have hx := hC.1
  have hb := hC.2.1
  have hown := hC.2.2.2.1
  have hts := hC.2.2.2.2
  refine lv_aload_n hx hb dX9_kind_0 rfl (hl.at rfl) ?_
  refine x_pSU hC hK hP (x_at hK (ci := 11) rfl) (x_rPO hK hP hw1 hw2 hw rfl) (cX6_kind_5 hn hw1 hw2 hw) csu_X9_9 rfl rfl hl.1 (Nat.le_of_ble_eq_true rfl) dX9_kind_1 (rk (by decide) (by decide)) ⟨Nat.le_refl _, Nat.le_refl _⟩ (fun r1 p1 => ?_)
  refine lv_iconst (v := nI 3) hx hb dX9_kind_4 rfl ?_
  refine lv_iadd hx hb dX9_kind_5 ?_
  refine hret ls _ _ dX9_kind_6 ?_
  rw [p1]; rfl
theorem csu_X10_7 : CSU RX10 7 yX7_kind cX7_kind 1 (some .int) 0 := ⟨lw_SU q474 q1770 q413 q475 q90 q476, by decide +kernel⟩
theorem cX10_kind_4 {l : Launch} {D : va_G} {cA : Nat → ClassId} {ad : Nat → Nat} {n : Nat} {f0 : Nat → va_E} {ρ : Nat → Nat → Option Nat} {r : Nat × Nat} {U : Nat → Nat → Nat → Int32} (hn : 81 ≤ n) {w : Nat} {nu mm : Int32} (hw1 : 81 ≤ w) (hw2 : w < n) (hw : f0 w = .inr (10, [.int nu, .int mm])) : XP l D cA ad n f0 ρ r U yX10_kind cX10_kind 1 (some .int) (2) [.ref (ad w)] (fun v => v = nI 4) := by
  refine Cp.of rfl (by decide +kernel) (Nat.le_of_ble_eq_true rfl) ?_
  intro p e s m args below meth c Q hC hK hP hret ls hl
  have hx := hC.1
  have hb := hC.2.1
  have hown := hC.2.2.2.1
  have hts := hC.2.2.2.2
  refine lv_aload_n hx hb dX10_kind_0 rfl (hl.at rfl) ?_
  refine x_pSU hC hK hP (x_at hK (ci := 10) rfl) (x_rPO hK hP hw1 hw2 hw rfl) (cX7_kind_4 hn hw1 hw2 hw) csu_X10_7 rfl rfl hl.1 (Nat.le_of_ble_eq_true rfl) dX10_kind_1 (rk (by decide) (by decide)) ⟨Nat.le_refl _, Nat.le_refl _⟩ (fun r1 p1 => ?_)
  refine lv_iconst (v := nI 3) hx hb dX10_kind_4 rfl ?_
  refine lv_iadd hx hb dX10_kind_5 ?_
  refine hret ls _ _ dX10_kind_6 ?_
  rw [p1]; rfl
theorem csu_X11_7 : CSU RX11 7 yX9_kind cX9_kind 1 (some .int) 0 := ⟨lw_SU q466 q1769 q422 q460 q92 q461, by decide +kernel⟩
theorem cX11_kind_5 {l : Launch} {D : va_G} {cA : Nat → ClassId} {ad : Nat → Nat} {n : Nat} {f0 : Nat → va_E} {ρ : Nat → Nat → Option Nat} {r : Nat × Nat} {U : Nat → Nat → Nat → Int32} (hn : 81 ≤ n) {w : Nat} {nu mm : Int32} (hw1 : 81 ≤ w) (hw2 : w < n) (hw : f0 w = .inr (11, [.int nu, .int mm])) : XP l D cA ad n f0 ρ r U yX11_kind cX11_kind 1 (some .int) (2) [.ref (ad w)] (fun v => v = nI 5) := by
  refine Cp.of rfl (by decide +kernel) (Nat.le_of_ble_eq_true rfl) ?_
  intro p e s m args below meth c Q hC hK hP hret ls hl
  have hx := hC.1
  have hb := hC.2.1
  have hown := hC.2.2.2.1
  have hts := hC.2.2.2.2
  refine lv_aload_n hx hb dX11_kind_0 rfl (hl.at rfl) ?_
  refine x_pSU hC hK hP (x_at hK (ci := 11) rfl) (x_rPO hK hP hw1 hw2 hw rfl) (cX9_kind_5 hn hw1 hw2 hw) csu_X11_7 rfl rfl hl.1 (Nat.le_of_ble_eq_true rfl) dX11_kind_1 (rk (by decide) (by decide)) ⟨Nat.le_refl _, Nat.le_refl _⟩ (fun r1 p1 => ?_)
  refine lv_iconst (v := nI 2) hx hb dX11_kind_4 rfl ?_
  refine lv_iadd hx hb dX11_kind_5 ?_
  refine hret ls _ _ dX11_kind_6 ?_
  rw [p1]; rfl
theorem csu_X12_9 : CSU RX12 9 yX6_kind cX6_kind 1 (some .int) 0 := ⟨lw_SU q482 q458 q431 q456 q89 q483, by decide +kernel⟩
theorem cX12_kind_6 {l : Launch} {D : va_G} {cA : Nat → ClassId} {ad : Nat → Nat} {n : Nat} {f0 : Nat → va_E} {ρ : Nat → Nat → Option Nat} {r : Nat × Nat} {U : Nat → Nat → Nat → Int32} (hn : 81 ≤ n) {w : Nat} {nu mm : Int32} (hw1 : 81 ≤ w) (hw2 : w < n) (hw : f0 w = .inr (12, [.int nu, .int mm])) : XP l D cA ad n f0 ρ r U yX12_kind cX12_kind 1 (some .int) (1) [.ref (ad w)] (fun v => v = nI 6) := by
  refine Cp.of rfl (by decide +kernel) (Nat.le_of_ble_eq_true rfl) ?_
  intro p e s m args below meth c Q hC hK hP hret ls hl
  have hx := hC.1
  have hb := hC.2.1
  have hown := hC.2.2.2.1
  have hts := hC.2.2.2.2
  refine lv_aload_n hx hb dX12_kind_0 rfl (hl.at rfl) ?_
  refine x_pSU hC hK hP (x_at hK (ci := 12) rfl) (x_rPO hK hP hw1 hw2 hw rfl) (cX6_kind_6 hn hw1 hw2 hw) csu_X12_9 rfl rfl hl.1 (Nat.le_of_ble_eq_true rfl) dX12_kind_1 (rk (by decide) (by decide)) ⟨Nat.le_refl _, Nat.le_refl _⟩ (fun r1 p1 => ?_)
  refine lv_bipush (v := nI 6) hx hb dX12_kind_4 rfl ?_
  refine lv_iadd hx hb dX12_kind_6 ?_
  refine hret ls _ _ dX12_kind_7 ?_
  rw [p1]; rfl
theorem cX16_wants_0 {l : Launch} {D : va_G} {cA : Nat → ClassId} {ad : Nat → Nat} {n : Nat} {f0 : Nat → va_E} {ρ : Nat → Nat → Option Nat} {r : Nat × Nat} {U : Nat → Nat → Nat → Int32} (hn : 81 ≤ n) {w : Nat} {nu mm : Int32} (hw1 : 81 ≤ w) (hw2 : w < n) (hw : f0 w = .inr (6, [.int nu, .int mm])) {f : Int32} : XPd l D cA ad n f0 ρ r U yX16_wants cX16_wants 3 (some .int) (0) [.ref (ad w), .ref (ad 77), .int f] (fun v => v = f / nI 3) := by
  refine Dp.of rfl (by decide +kernel) (Nat.le_of_ble_eq_true rfl) ?_
  intro p e s m args below meth c Q hC hK hP hret ls hl
  have hx := hC.1
  have hb := hC.2.1
  have hown := hC.2.2.2.1
  have hts := hC.2.2.2.2
  refine lv_iload_n hx hb dX16_wants_0 rfl (hl.at rfl) ?_
  refine lv_iconst (v := nI 3) hx hb dX16_wants_1 rfl ?_
  refine lv_idiv hx hb dX16_wants_2 (nI_ne0 (by decide) (by decide)) ?_
  refine hret ls _ _ dX16_wants_3 ?_
  rfl
theorem cX16_wants_1 {l : Launch} {D : va_G} {cA : Nat → ClassId} {ad : Nat → Nat} {n : Nat} {f0 : Nat → va_E} {ρ : Nat → Nat → Option Nat} {r : Nat × Nat} {U : Nat → Nat → Nat → Int32} (hn : 81 ≤ n) {w : Nat} {nu mm : Int32} (hw1 : 81 ≤ w) (hw2 : w < n) (hw : f0 w = .inr (7, [.int nu, .int mm])) {f : Int32} : XPd l D cA ad n f0 ρ r U yX16_wants cX16_wants 3 (some .int) (0) [.ref (ad w), .ref (ad 77), .int f] (fun v => v = f / nI 3) := by
  refine Dp.of rfl (by decide +kernel) (Nat.le_of_ble_eq_true rfl) ?_
  intro p e s m args below meth c Q hC hK hP hret ls hl
  have hx := hC.1
  have hb := hC.2.1
  have hown := hC.2.2.2.1
  have hts := hC.2.2.2.2
  refine lv_iload_n hx hb dX16_wants_0 rfl (hl.at rfl) ?_
  refine lv_iconst (v := nI 3) hx hb dX16_wants_1 rfl ?_
  refine lv_idiv hx hb dX16_wants_2 (nI_ne0 (by decide) (by decide)) ?_
  refine hret ls _ _ dX16_wants_3 ?_
  rfl
theorem cX16_wants_2 {l : Launch} {D : va_G} {cA : Nat → ClassId} {ad : Nat → Nat} {n : Nat} {f0 : Nat → va_E} {ρ : Nat → Nat → Option Nat} {r : Nat × Nat} {U : Nat → Nat → Nat → Int32} (hn : 81 ≤ n) {w : Nat} {nu mm : Int32} (hw1 : 81 ≤ w) (hw2 : w < n) (hw : f0 w = .inr (8, [.int nu, .int mm])) {f : Int32} : XPd l D cA ad n f0 ρ r U yX16_wants cX16_wants 3 (some .int) (0) [.ref (ad w), .ref (ad 77), .int f] (fun v => v = f / nI 3) := by
  refine Dp.of rfl (by decide +kernel) (Nat.le_of_ble_eq_true rfl) ?_
  intro p e s m args below meth c Q hC hK hP hret ls hl
  have hx := hC.1
  have hb := hC.2.1
  have hown := hC.2.2.2.1
  have hts := hC.2.2.2.2
  refine lv_iload_n hx hb dX16_wants_0 rfl (hl.at rfl) ?_
  refine lv_iconst (v := nI 3) hx hb dX16_wants_1 rfl ?_
  refine lv_idiv hx hb dX16_wants_2 (nI_ne0 (by decide) (by decide)) ?_
  refine hret ls _ _ dX16_wants_3 ?_
  rfl
theorem cX16_wants_3 {l : Launch} {D : va_G} {cA : Nat → ClassId} {ad : Nat → Nat} {n : Nat} {f0 : Nat → va_E} {ρ : Nat → Nat → Option Nat} {r : Nat × Nat} {U : Nat → Nat → Nat → Int32} (hn : 81 ≤ n) {w : Nat} {nu mm : Int32} (hw1 : 81 ≤ w) (hw2 : w < n) (hw : f0 w = .inr (9, [.int nu, .int mm])) {f : Int32} : XPd l D cA ad n f0 ρ r U yX16_wants cX16_wants 3 (some .int) (0) [.ref (ad w), .ref (ad 77), .int f] (fun v => v = f / nI 3) := by
  refine Dp.of rfl (by decide +kernel) (Nat.le_of_ble_eq_true rfl) ?_
  intro p e s m args below meth c Q hC hK hP hret ls hl
  have hx := hC.1
  have hb := hC.2.1
  have hown := hC.2.2.2.1
  have hts := hC.2.2.2.2
  refine lv_iload_n hx hb dX16_wants_0 rfl (hl.at rfl) ?_
  refine lv_iconst (v := nI 3) hx hb dX16_wants_1 rfl ?_
  refine lv_idiv hx hb dX16_wants_2 (nI_ne0 (by decide) (by decide)) ?_
  refine hret ls _ _ dX16_wants_3 ?_
  rfl
theorem cX16_wants_4 {l : Launch} {D : va_G} {cA : Nat → ClassId} {ad : Nat → Nat} {n : Nat} {f0 : Nat → va_E} {ρ : Nat → Nat → Option Nat} {r : Nat × Nat} {U : Nat → Nat → Nat → Int32} (hn : 81 ≤ n) {w : Nat} {nu mm : Int32} (hw1 : 81 ≤ w) (hw2 : w < n) (hw : f0 w = .inr (10, [.int nu, .int mm])) {f : Int32} : XPd l D cA ad n f0 ρ r U yX16_wants cX16_wants 3 (some .int) (0) [.ref (ad w), .ref (ad 77), .int f] (fun v => v = f / nI 3) := by
  refine Dp.of rfl (by decide +kernel) (Nat.le_of_ble_eq_true rfl) ?_
  intro p e s m args below meth c Q hC hK hP hret ls hl
  have hx := hC.1
  have hb := hC.2.1
  have hown := hC.2.2.2.1
  have hts := hC.2.2.2.2
  refine lv_iload_n hx hb dX16_wants_0 rfl (hl.at rfl) ?_
  refine lv_iconst (v := nI 3) hx hb dX16_wants_1 rfl ?_
  refine lv_idiv hx hb dX16_wants_2 (nI_ne0 (by decide) (by decide)) ?_
  refine hret ls _ _ dX16_wants_3 ?_
  rfl
theorem cX16_wants_5 {l : Launch} {D : va_G} {cA : Nat → ClassId} {ad : Nat → Nat} {n : Nat} {f0 : Nat → va_E} {ρ : Nat → Nat → Option Nat} {r : Nat × Nat} {U : Nat → Nat → Nat → Int32} (hn : 81 ≤ n) {w : Nat} {nu mm : Int32} (hw1 : 81 ≤ w) (hw2 : w < n) (hw : f0 w = .inr (11, [.int nu, .int mm])) {f : Int32} : XPd l D cA ad n f0 ρ r U yX16_wants cX16_wants 3 (some .int) (0) [.ref (ad w), .ref (ad 77), .int f] (fun v => v = f / nI 3) := by
  refine Dp.of rfl (by decide +kernel) (Nat.le_of_ble_eq_true rfl) ?_
  intro p e s m args below meth c Q hC hK hP hret ls hl
  have hx := hC.1
  have hb := hC.2.1
  have hown := hC.2.2.2.1
  have hts := hC.2.2.2.2
  refine lv_iload_n hx hb dX16_wants_0 rfl (hl.at rfl) ?_
  refine lv_iconst (v := nI 3) hx hb dX16_wants_1 rfl ?_
  refine lv_idiv hx hb dX16_wants_2 (nI_ne0 (by decide) (by decide)) ?_
  refine hret ls _ _ dX16_wants_3 ?_
  rfl
theorem cX16_wants_6 {l : Launch} {D : va_G} {cA : Nat → ClassId} {ad : Nat → Nat} {n : Nat} {f0 : Nat → va_E} {ρ : Nat → Nat → Option Nat} {r : Nat × Nat} {U : Nat → Nat → Nat → Int32} (hn : 81 ≤ n) {w : Nat} {nu mm : Int32} (hw1 : 81 ≤ w) (hw2 : w < n) (hw : f0 w = .inr (12, [.int nu, .int mm])) {f : Int32} : XPd l D cA ad n f0 ρ r U yX16_wants cX16_wants 3 (some .int) (0) [.ref (ad w), .ref (ad 77), .int f] (fun v => v = f / nI 3) := by
  refine Dp.of rfl (by decide +kernel) (Nat.le_of_ble_eq_true rfl) ?_
  intro p e s m args below meth c Q hC hK hP hret ls hl
  have hx := hC.1
  have hb := hC.2.1
  have hown := hC.2.2.2.1
  have hts := hC.2.2.2.2
  refine lv_iload_n hx hb dX16_wants_0 rfl (hl.at rfl) ?_
  refine lv_iconst (v := nI 3) hx hb dX16_wants_1 rfl ?_
  refine lv_idiv hx hb dX16_wants_2 (nI_ne0 (by decide) (by decide)) ?_
  refine hret ls _ _ dX16_wants_3 ?_
  rfl
theorem cd_X16_wants : CD yX16_wants cX16_wants 3 (some .int) 2 := ⟨lw_meth q510, q509, by decide +kernel, by decide +kernel, by decide +kernel⟩
theorem cds_X7_13 : CDS RX7 13 (⟨RX6, "wants", "(LWheelBrook$Sees;I)I"⟩ : MethodName) yX16_wants := ⟨List.mem_of_getElem? (i := 2) rfl, List.mem_of_getElem? (i := 1) rfl, rfl, by decide +kernel, q386, List.mem_of_getElem? (i := 16) rfl⟩
theorem cX7_wants_1 {l : Launch} {D : va_G} {cA : Nat → ClassId} {ad : Nat → Nat} {n : Nat} {f0 : Nat → va_E} {ρ : Nat → Nat → Option Nat} {r : Nat × Nat} {U : Nat → Nat → Nat → Int32} (hn : 81 ≤ n) {w : Nat} {nu mm : Int32} (hw1 : 81 ≤ w) (hw2 : w < n) (hw : f0 w = .inr (7, [.int nu, .int mm])) {f : Int32} : XP l D cA ad n f0 ρ r U yX7_wants cX7_wants 3 (some .int) (1) [.ref (ad w), .ref (ad 77), .int f] (fun v => v = f / nI 3 + mm) := by
  refine Cp.of rfl (by decide +kernel) (Nat.le_of_ble_eq_true rfl) ?_
  intro p e s m args below meth c Q hC hK hP hret ls hl
  have hx := hC.1
  have hb := hC.2.1
  have hown := hC.2.2.2.1
  have hts := hC.2.2.2.2
  refine lv_aload_n hx hb dX7_wants_0 rfl (hl.at rfl) ?_
  refine lv_aload_n hx hb dX7_wants_1 rfl (hl.at rfl) ?_
  refine lv_iload_n hx hb dX7_wants_2 rfl (hl.at rfl) ?_
  refine x_pSD (ci := 7) hC hK hP rfl (x_rPO hK hP hw1 hw2 hw rfl) (cX16_wants_1 hn hw1 hw2 hw) cd_X16_wants cds_X7_13 rfl rfl hl.1 (Nat.le_of_ble_eq_true rfl) dX7_wants_3 (rk (by decide) (by decide)) ⟨Nat.le_refl _, Nat.le_refl _⟩ (fun r3 p3 => ?_)
  refine lv_aload_n hx hb dX7_wants_6 rfl (hl.at rfl) ?_
  refine c_getS hC hK hP w (hw2) (wo_po hw1 hw) rfl in_X7 1 (by decide) q377 q378 rfl dX7_wants_7 ?_
  refine lv_iadd hx hb dX7_wants_10 ?_
  refine hret ls _ _ dX7_wants_11 ?_
  rw [p3]
theorem cX7_wants_4 {l : Launch} {D : va_G} {cA : Nat → ClassId} {ad : Nat → Nat} {n : Nat} {f0 : Nat → va_E} {ρ : Nat → Nat → Option Nat} {r : Nat × Nat} {U : Nat → Nat → Nat → Int32} (hn : 81 ≤ n) {w : Nat} {nu mm : Int32} (hw1 : 81 ≤ w) (hw2 : w < n) (hw : f0 w = .inr (10, [.int nu, .int mm])) {f : Int32} : XP l D cA ad n f0 ρ r U yX7_wants cX7_wants 3 (some .int) (1) [.ref (ad w), .ref (ad 77), .int f] (fun v => v = f / nI 3 + mm) := by
  refine Cp.of rfl (by decide +kernel) (Nat.le_of_ble_eq_true rfl) ?_
  intro p e s m args below meth c Q hC hK hP hret ls hl
  have hx := hC.1
  have hb := hC.2.1
  have hown := hC.2.2.2.1
  have hts := hC.2.2.2.2
  refine lv_aload_n hx hb dX7_wants_0 rfl (hl.at rfl) ?_
  refine lv_aload_n hx hb dX7_wants_1 rfl (hl.at rfl) ?_
  refine lv_iload_n hx hb dX7_wants_2 rfl (hl.at rfl) ?_
  refine x_pSD (ci := 10) hC hK hP rfl (x_rPO hK hP hw1 hw2 hw rfl) (cX16_wants_4 hn hw1 hw2 hw) cd_X16_wants cds_X7_13 rfl rfl hl.1 (Nat.le_of_ble_eq_true rfl) dX7_wants_3 (rk (by decide) (by decide)) ⟨Nat.le_refl _, Nat.le_refl _⟩ (fun r3 p3 => ?_)
  refine lv_aload_n hx hb dX7_wants_6 rfl (hl.at rfl) ?_
  refine c_getS hC hK hP w (hw2) (wo_po hw1 hw) rfl in_X10 1 (by decide) q377 q378 rfl dX7_wants_7 ?_
  refine lv_iadd hx hb dX7_wants_10 ?_
  refine hret ls _ _ dX7_wants_11 ?_
  rw [p3]
theorem cX8_wants_2 {l : Launch} {D : va_G} {cA : Nat → ClassId} {ad : Nat → Nat} {n : Nat} {f0 : Nat → va_E} {ρ : Nat → Nat → Option Nat} {r : Nat × Nat} {U : Nat → Nat → Nat → Int32} (hn : 81 ≤ n) {w : Nat} {nu mm : Int32} (hw1 : 81 ≤ w) (hw2 : w < n) (hw : f0 w = .inr (8, [.int nu, .int mm])) {f : Int32} : XP l D cA ad n f0 ρ r U yX8_wants cX8_wants 3 (some .int) (0) [.ref (ad w), .ref (ad 77), .int f] (fun v => v = mm) := by
  refine Cp.of rfl (by decide +kernel) (Nat.le_of_ble_eq_true rfl) ?_
  intro p e s m args below meth c Q hC hK hP hret ls hl
  have hx := hC.1
  have hb := hC.2.1
  have hown := hC.2.2.2.1
  have hts := hC.2.2.2.2
  refine lv_aload_n hx hb dX8_wants_0 rfl (hl.at rfl) ?_
  refine c_getS hC hK hP w (hw2) (wo_po hw1 hw) rfl in_X8 1 (by decide) q375 q376 rfl dX8_wants_1 ?_
  refine hret ls _ _ dX8_wants_4 ?_
  rfl
theorem cds_X9_13 : CDS RX9 13 (⟨RX6, "wants", "(LWheelBrook$Sees;I)I"⟩ : MethodName) yX16_wants := ⟨List.mem_of_getElem? (i := 0) rfl, List.mem_of_getElem? (i := 1) rfl, rfl, by decide +kernel, q404, List.mem_of_getElem? (i := 16) rfl⟩
theorem cX9_wants_3 {l : Launch} {D : va_G} {cA : Nat → ClassId} {ad : Nat → Nat} {n : Nat} {f0 : Nat → va_E} {ρ : Nat → Nat → Option Nat} {r : Nat × Nat} {U : Nat → Nat → Nat → Int32} (hn : 81 ≤ n) {w : Nat} {nu mm : Int32} (hw1 : 81 ≤ w) (hw2 : w < n) (hw : f0 w = .inr (9, [.int nu, .int mm])) {f : Int32} : XP l D cA ad n f0 ρ r U yX9_wants cX9_wants 3 (some .int) (1) [.ref (ad w), .ref (ad 77), .int f] (fun v => v = f / nI 3 * nI 2) := by
  refine Cp.of rfl (by decide +kernel) (Nat.le_of_ble_eq_true rfl) ?_
  intro p e s m args below meth c Q hC hK hP hret ls hl
  have hx := hC.1
  have hb := hC.2.1
  have hown := hC.2.2.2.1
  have hts := hC.2.2.2.2
  refine lv_aload_n hx hb dX9_wants_0 rfl (hl.at rfl) ?_
  refine lv_aload_n hx hb dX9_wants_1 rfl (hl.at rfl) ?_
  refine lv_iload_n hx hb dX9_wants_2 rfl (hl.at rfl) ?_
  refine x_pSD (ci := 9) hC hK hP rfl (x_rPO hK hP hw1 hw2 hw rfl) (cX16_wants_3 hn hw1 hw2 hw) cd_X16_wants cds_X9_13 rfl rfl hl.1 (Nat.le_of_ble_eq_true rfl) dX9_wants_3 (rk (by decide) (by decide)) ⟨Nat.le_refl _, Nat.le_refl _⟩ (fun r3 p3 => ?_)
  refine lv_iconst (v := nI 2) hx hb dX9_wants_6 rfl ?_
  refine lv_imul hx hb dX9_wants_7 ?_
  refine hret ls _ _ dX9_wants_8 ?_
  rw [p3]
theorem cX9_wants_5 {l : Launch} {D : va_G} {cA : Nat → ClassId} {ad : Nat → Nat} {n : Nat} {f0 : Nat → va_E} {ρ : Nat → Nat → Option Nat} {r : Nat × Nat} {U : Nat → Nat → Nat → Int32} (hn : 81 ≤ n) {w : Nat} {nu mm : Int32} (hw1 : 81 ≤ w) (hw2 : w < n) (hw : f0 w = .inr (11, [.int nu, .int mm])) {f : Int32} : XP l D cA ad n f0 ρ r U yX9_wants cX9_wants 3 (some .int) (1) [.ref (ad w), .ref (ad 77), .int f] (fun v => v = f / nI 3 * nI 2) := by
  refine Cp.of rfl (by decide +kernel) (Nat.le_of_ble_eq_true rfl) ?_
  intro p e s m args below meth c Q hC hK hP hret ls hl
  have hx := hC.1
  have hb := hC.2.1
  have hown := hC.2.2.2.1
  have hts := hC.2.2.2.2
  refine lv_aload_n hx hb dX9_wants_0 rfl (hl.at rfl) ?_
  refine lv_aload_n hx hb dX9_wants_1 rfl (hl.at rfl) ?_
  refine lv_iload_n hx hb dX9_wants_2 rfl (hl.at rfl) ?_
  refine x_pSD (ci := 11) hC hK hP rfl (x_rPO hK hP hw1 hw2 hw rfl) (cX16_wants_5 hn hw1 hw2 hw) cd_X16_wants cds_X9_13 rfl rfl hl.1 (Nat.le_of_ble_eq_true rfl) dX9_wants_3 (rk (by decide) (by decide)) ⟨Nat.le_refl _, Nat.le_refl _⟩ (fun r3 p3 => ?_)
  refine lv_iconst (v := nI 2) hx hb dX9_wants_6 rfl ?_
  refine lv_imul hx hb dX9_wants_7 ?_
  refine hret ls _ _ dX9_wants_8 ?_
  rw [p3]
theorem cX16_turnsBy_0 {l : Launch} {D : va_G} {cA : Nat → ClassId} {ad : Nat → Nat} {n : Nat} {f0 : Nat → va_E} {ρ : Nat → Nat → Option Nat} {r : Nat × Nat} {U : Nat → Nat → Nat → Int32} (hn : 81 ≤ n) {w : Nat} {nu mm : Int32} (hw1 : 81 ≤ w) (hw2 : w < n) (hw : f0 w = .inr (6, [.int nu, .int mm])) {f : Int32} : XPd l D cA ad n f0 ρ r U yX16_turnsBy cX16_turnsBy 3 (some .int) (0) [.ref (ad w), .ref (ad 77), .int f] (fun v => v = f) := by
  refine Dp.of rfl (by decide +kernel) (Nat.le_of_ble_eq_true rfl) ?_
  intro p e s m args below meth c Q hC hK hP hret ls hl
  have hx := hC.1
  have hb := hC.2.1
  have hown := hC.2.2.2.1
  have hts := hC.2.2.2.2
  refine lv_iload_n hx hb dX16_turnsBy_0 rfl (hl.at rfl) ?_
  refine hret ls _ _ dX16_turnsBy_1 ?_
  rfl
theorem cX16_turnsBy_1 {l : Launch} {D : va_G} {cA : Nat → ClassId} {ad : Nat → Nat} {n : Nat} {f0 : Nat → va_E} {ρ : Nat → Nat → Option Nat} {r : Nat × Nat} {U : Nat → Nat → Nat → Int32} (hn : 81 ≤ n) {w : Nat} {nu mm : Int32} (hw1 : 81 ≤ w) (hw2 : w < n) (hw : f0 w = .inr (7, [.int nu, .int mm])) {f : Int32} : XPd l D cA ad n f0 ρ r U yX16_turnsBy cX16_turnsBy 3 (some .int) (0) [.ref (ad w), .ref (ad 77), .int f] (fun v => v = f) := by
  refine Dp.of rfl (by decide +kernel) (Nat.le_of_ble_eq_true rfl) ?_
  intro p e s m args below meth c Q hC hK hP hret ls hl
  have hx := hC.1
  have hb := hC.2.1
  have hown := hC.2.2.2.1
  have hts := hC.2.2.2.2
  refine lv_iload_n hx hb dX16_turnsBy_0 rfl (hl.at rfl) ?_
  refine hret ls _ _ dX16_turnsBy_1 ?_
  rfl
theorem cX16_turnsBy_2 {l : Launch} {D : va_G} {cA : Nat → ClassId} {ad : Nat → Nat} {n : Nat} {f0 : Nat → va_E} {ρ : Nat → Nat → Option Nat} {r : Nat × Nat} {U : Nat → Nat → Nat → Int32} (hn : 81 ≤ n) {w : Nat} {nu mm : Int32} (hw1 : 81 ≤ w) (hw2 : w < n) (hw : f0 w = .inr (8, [.int nu, .int mm])) {f : Int32} : XPd l D cA ad n f0 ρ r U yX16_turnsBy cX16_turnsBy 3 (some .int) (0) [.ref (ad w), .ref (ad 77), .int f] (fun v => v = f) := by
  refine Dp.of rfl (by decide +kernel) (Nat.le_of_ble_eq_true rfl) ?_
  intro p e s m args below meth c Q hC hK hP hret ls hl
  have hx := hC.1
  have hb := hC.2.1
  have hown := hC.2.2.2.1
  have hts := hC.2.2.2.2
  refine lv_iload_n hx hb dX16_turnsBy_0 rfl (hl.at rfl) ?_
  refine hret ls _ _ dX16_turnsBy_1 ?_
  rfl
theorem cX16_turnsBy_3 {l : Launch} {D : va_G} {cA : Nat → ClassId} {ad : Nat → Nat} {n : Nat} {f0 : Nat → va_E} {ρ : Nat → Nat → Option Nat} {r : Nat × Nat} {U : Nat → Nat → Nat → Int32} (hn : 81 ≤ n) {w : Nat} {nu mm : Int32} (hw1 : 81 ≤ w) (hw2 : w < n) (hw : f0 w = .inr (9, [.int nu, .int mm])) {f : Int32} : XPd l D cA ad n f0 ρ r U yX16_turnsBy cX16_turnsBy 3 (some .int) (0) [.ref (ad w), .ref (ad 77), .int f] (fun v => v = f) := by
  refine Dp.of rfl (by decide +kernel) (Nat.le_of_ble_eq_true rfl) ?_
  intro p e s m args below meth c Q hC hK hP hret ls hl
  have hx := hC.1
  have hb := hC.2.1
  have hown := hC.2.2.2.1
  have hts := hC.2.2.2.2
  refine lv_iload_n hx hb dX16_turnsBy_0 rfl (hl.at rfl) ?_
  refine hret ls _ _ dX16_turnsBy_1 ?_
  rfl
theorem cX16_turnsBy_4 {l : Launch} {D : va_G} {cA : Nat → ClassId} {ad : Nat → Nat} {n : Nat} {f0 : Nat → va_E} {ρ : Nat → Nat → Option Nat} {r : Nat × Nat} {U : Nat → Nat → Nat → Int32} (hn : 81 ≤ n) {w : Nat} {nu mm : Int32} (hw1 : 81 ≤ w) (hw2 : w < n) (hw : f0 w = .inr (10, [.int nu, .int mm])) {f : Int32} : XPd l D cA ad n f0 ρ r U yX16_turnsBy cX16_turnsBy 3 (some .int) (0) [.ref (ad w), .ref (ad 77), .int f] (fun v => v = f) := by
  refine Dp.of rfl (by decide +kernel) (Nat.le_of_ble_eq_true rfl) ?_
  intro p e s m args below meth c Q hC hK hP hret ls hl
  have hx := hC.1
  have hb := hC.2.1
  have hown := hC.2.2.2.1
  have hts := hC.2.2.2.2
  refine lv_iload_n hx hb dX16_turnsBy_0 rfl (hl.at rfl) ?_
  refine hret ls _ _ dX16_turnsBy_1 ?_
  rfl
theorem cX16_turnsBy_5 {l : Launch} {D : va_G} {cA : Nat → ClassId} {ad : Nat → Nat} {n : Nat} {f0 : Nat → va_E} {ρ : Nat → Nat → Option Nat} {r : Nat × Nat} {U : Nat → Nat → Nat → Int32} (hn : 81 ≤ n) {w : Nat} {nu mm : Int32} (hw1 : 81 ≤ w) (hw2 : w < n) (hw : f0 w = .inr (11, [.int nu, .int mm])) {f : Int32} : XPd l D cA ad n f0 ρ r U yX16_turnsBy cX16_turnsBy 3 (some .int) (0) [.ref (ad w), .ref (ad 77), .int f] (fun v => v = f) := by
  refine Dp.of rfl (by decide +kernel) (Nat.le_of_ble_eq_true rfl) ?_
  intro p e s m args below meth c Q hC hK hP hret ls hl
  have hx := hC.1
  have hb := hC.2.1
  have hown := hC.2.2.2.1
  have hts := hC.2.2.2.2
  refine lv_iload_n hx hb dX16_turnsBy_0 rfl (hl.at rfl) ?_
  refine hret ls _ _ dX16_turnsBy_1 ?_
  rfl
theorem cX16_turnsBy_6 {l : Launch} {D : va_G} {cA : Nat → ClassId} {ad : Nat → Nat} {n : Nat} {f0 : Nat → va_E} {ρ : Nat → Nat → Option Nat} {r : Nat × Nat} {U : Nat → Nat → Nat → Int32} (hn : 81 ≤ n) {w : Nat} {nu mm : Int32} (hw1 : 81 ≤ w) (hw2 : w < n) (hw : f0 w = .inr (12, [.int nu, .int mm])) {f : Int32} : XPd l D cA ad n f0 ρ r U yX16_turnsBy cX16_turnsBy 3 (some .int) (0) [.ref (ad w), .ref (ad 77), .int f] (fun v => v = f) := by
  refine Dp.of rfl (by decide +kernel) (Nat.le_of_ble_eq_true rfl) ?_
  intro p e s m args below meth c Q hC hK hP hret ls hl
  have hx := hC.1
  have hb := hC.2.1
  have hown := hC.2.2.2.1
  have hts := hC.2.2.2.2
  refine lv_iload_n hx hb dX16_turnsBy_0 rfl (hl.at rfl) ?_
  refine hret ls _ _ dX16_turnsBy_1 ?_
  rfl
theorem cd_X16_turnsBy : CD yX16_turnsBy cX16_turnsBy 3 (some .int) 2 := ⟨lw_meth q576, q575, by decide +kernel, by decide +kernel, by decide +kernel⟩
theorem cds_X7_23 : CDS RX7 23 (⟨RX6, "turnsBy", "(LWheelBrook$Sees;I)I"⟩ : MethodName) yX16_turnsBy := ⟨List.mem_of_getElem? (i := 5) rfl, List.mem_of_getElem? (i := 4) rfl, rfl, by decide +kernel, q386, List.mem_of_getElem? (i := 15) rfl⟩
theorem cX7_turnsBy_1 {l : Launch} {D : va_G} {cA : Nat → ClassId} {ad : Nat → Nat} {n : Nat} {f0 : Nat → va_E} {ρ : Nat → Nat → Option Nat} {r : Nat × Nat} {U : Nat → Nat → Nat → Int32} (hn : 81 ≤ n) {w : Nat} {nu mm : Int32} (hw1 : 81 ≤ w) (hw2 : w < n) (hw : f0 w = .inr (7, [.int nu, .int mm])) {f : Int32} : XP l D cA ad n f0 ρ r U yX7_turnsBy cX7_turnsBy 3 (some .int) (1) [.ref (ad w), .ref (ad 77), .int f] (fun v => v = f / nI 2) := by
  refine Cp.of rfl (by decide +kernel) (Nat.le_of_ble_eq_true rfl) ?_
  intro p e s m args below meth c Q hC hK hP hret ls hl
  have hx := hC.1
  have hb := hC.2.1
  have hown := hC.2.2.2.1
  have hts := hC.2.2.2.2
  refine lv_aload_n hx hb dX7_turnsBy_0 rfl (hl.at rfl) ?_
  refine lv_aload_n hx hb dX7_turnsBy_1 rfl (hl.at rfl) ?_
  refine lv_iload_n hx hb dX7_turnsBy_2 rfl (hl.at rfl) ?_
  refine x_pSD (ci := 7) hC hK hP rfl (x_rPO hK hP hw1 hw2 hw rfl) (cX16_turnsBy_1 hn hw1 hw2 hw) cd_X16_turnsBy cds_X7_23 rfl rfl hl.1 (Nat.le_of_ble_eq_true rfl) dX7_turnsBy_3 (rk (by decide) (by decide)) ⟨Nat.le_refl _, Nat.le_refl _⟩ (fun r3 p3 => ?_)
  refine lv_iconst (v := nI 2) hx hb dX7_turnsBy_6 rfl ?_
  refine lv_idiv hx hb dX7_turnsBy_7 (nI_ne0 (by decide) (by decide)) ?_
  refine hret ls _ _ dX7_turnsBy_8 ?_
  rw [p3]
theorem cX7_turnsBy_4 {l : Launch} {D : va_G} {cA : Nat → ClassId} {ad : Nat → Nat} {n : Nat} {f0 : Nat → va_E} {ρ : Nat → Nat → Option Nat} {r : Nat × Nat} {U : Nat → Nat → Nat → Int32} (hn : 81 ≤ n) {w : Nat} {nu mm : Int32} (hw1 : 81 ≤ w) (hw2 : w < n) (hw : f0 w = .inr (10, [.int nu, .int mm])) {f : Int32} : XP l D cA ad n f0 ρ r U yX7_turnsBy cX7_turnsBy 3 (some .int) (1) [.ref (ad w), .ref (ad 77), .int f] (fun v => v = f / nI 2) := by
  refine Cp.of rfl (by decide +kernel) (Nat.le_of_ble_eq_true rfl) ?_
  intro p e s m args below meth c Q hC hK hP hret ls hl
  have hx := hC.1
  have hb := hC.2.1
  have hown := hC.2.2.2.1
  have hts := hC.2.2.2.2
  refine lv_aload_n hx hb dX7_turnsBy_0 rfl (hl.at rfl) ?_
  refine lv_aload_n hx hb dX7_turnsBy_1 rfl (hl.at rfl) ?_
  refine lv_iload_n hx hb dX7_turnsBy_2 rfl (hl.at rfl) ?_
  refine x_pSD (ci := 10) hC hK hP rfl (x_rPO hK hP hw1 hw2 hw rfl) (cX16_turnsBy_4 hn hw1 hw2 hw) cd_X16_turnsBy cds_X7_23 rfl rfl hl.1 (Nat.le_of_ble_eq_true rfl) dX7_turnsBy_3 (rk (by decide) (by decide)) ⟨Nat.le_refl _, Nat.le_refl _⟩ (fun r3 p3 => ?_)
  refine lv_iconst (v := nI 2) hx hb dX7_turnsBy_6 rfl ?_
  refine lv_idiv hx hb dX7_turnsBy_7 (nI_ne0 (by decide) (by decide)) ?_
  refine hret ls _ _ dX7_turnsBy_8 ?_
  rw [p3]
theorem cds_X9_17 : CDS RX9 17 (⟨RX6, "turnsBy", "(LWheelBrook$Sees;I)I"⟩ : MethodName) yX16_turnsBy := ⟨List.mem_of_getElem? (i := 3) rfl, List.mem_of_getElem? (i := 4) rfl, rfl, by decide +kernel, q404, List.mem_of_getElem? (i := 15) rfl⟩
theorem cX9_turnsBy_3 {l : Launch} {D : va_G} {cA : Nat → ClassId} {ad : Nat → Nat} {n : Nat} {f0 : Nat → va_E} {ρ : Nat → Nat → Option Nat} {r : Nat × Nat} {U : Nat → Nat → Nat → Int32} (hn : 81 ≤ n) {w : Nat} {nu mm : Int32} (hw1 : 81 ≤ w) (hw2 : w < n) (hw : f0 w = .inr (9, [.int nu, .int mm])) {f : Int32} : XP l D cA ad n f0 ρ r U yX9_turnsBy cX9_turnsBy 3 (some .int) (1) [.ref (ad w), .ref (ad 77), .int f] (fun v => v = f * nI 2) := by
  refine Cp.of rfl (by decide +kernel) (Nat.le_of_ble_eq_true rfl) ?_
  intro p e s m args below meth c Q hC hK hP hret ls hl
  have hx := hC.1
  have hb := hC.2.1
  have hown := hC.2.2.2.1
  have hts := hC.2.2.2.2
  refine lv_aload_n hx hb dX9_turnsBy_0 rfl (hl.at rfl) ?_
  refine lv_aload_n hx hb dX9_turnsBy_1 rfl (hl.at rfl) ?_
  refine lv_iload_n hx hb dX9_turnsBy_2 rfl (hl.at rfl) ?_
  refine x_pSD (ci := 9) hC hK hP rfl (x_rPO hK hP hw1 hw2 hw rfl) (cX16_turnsBy_3 hn hw1 hw2 hw) cd_X16_turnsBy cds_X9_17 rfl rfl hl.1 (Nat.le_of_ble_eq_true rfl) dX9_turnsBy_3 (rk (by decide) (by decide)) ⟨Nat.le_refl _, Nat.le_refl _⟩ (fun r3 p3 => ?_)
  refine lv_iconst (v := nI 2) hx hb dX9_turnsBy_6 rfl ?_
  refine lv_imul hx hb dX9_turnsBy_7 ?_
  refine hret ls _ _ dX9_turnsBy_8 ?_
  rw [p3]
theorem cX9_turnsBy_5 {l : Launch} {D : va_G} {cA : Nat → ClassId} {ad : Nat → Nat} {n : Nat} {f0 : Nat → va_E} {ρ : Nat → Nat → Option Nat} {r : Nat × Nat} {U : Nat → Nat → Nat → Int32} (hn : 81 ≤ n) {w : Nat} {nu mm : Int32} (hw1 : 81 ≤ w) (hw2 : w < n) (hw : f0 w = .inr (11, [.int nu, .int mm])) {f : Int32} : XP l D cA ad n f0 ρ r U yX9_turnsBy cX9_turnsBy 3 (some .int) (1) [.ref (ad w), .ref (ad 77), .int f] (fun v => v = f * nI 2) := by
  refine Cp.of rfl (by decide +kernel) (Nat.le_of_ble_eq_true rfl) ?_
  intro p e s m args below meth c Q hC hK hP hret ls hl
  have hx := hC.1
  have hb := hC.2.1
  have hown := hC.2.2.2.1
  have hts := hC.2.2.2.2
  refine lv_aload_n hx hb dX9_turnsBy_0 rfl (hl.at rfl) ?_
  refine lv_aload_n hx hb dX9_turnsBy_1 rfl (hl.at rfl) ?_
  refine lv_iload_n hx hb dX9_turnsBy_2 rfl (hl.at rfl) ?_
  refine x_pSD (ci := 11) hC hK hP rfl (x_rPO hK hP hw1 hw2 hw rfl) (cX16_turnsBy_5 hn hw1 hw2 hw) cd_X16_turnsBy cds_X9_17 rfl rfl hl.1 (Nat.le_of_ble_eq_true rfl) dX9_turnsBy_3 (rk (by decide) (by decide)) ⟨Nat.le_refl _, Nat.le_refl _⟩ (fun r3 p3 => ?_)
  refine lv_iconst (v := nI 2) hx hb dX9_turnsBy_6 rfl ?_
  refine lv_imul hx hb dX9_turnsBy_7 ?_
  refine hret ls _ _ dX9_turnsBy_8 ?_
  rw [p3]
theorem csu_X10_11 : CSU RX10 11 yX7_turnsBy cX7_turnsBy 3 (some .int) 2 := ⟨lw_SU q589 q1771 q413 q590 q90 q591, by decide +kernel⟩
theorem cX10_turnsBy_4 {l : Launch} {D : va_G} {cA : Nat → ClassId} {ad : Nat → Nat} {n : Nat} {f0 : Nat → va_E} {ρ : Nat → Nat → Option Nat} {r : Nat × Nat} {U : Nat → Nat → Nat → Int32} (hn : 81 ≤ n) {w : Nat} {nu mm : Int32} (hw1 : 81 ≤ w) (hw2 : w < n) (hw : f0 w = .inr (10, [.int nu, .int mm])) {f : Int32} : XP l D cA ad n f0 ρ r U yX10_turnsBy cX10_turnsBy 4 (some .int) (2) [.ref (ad w), .ref (ad 77), .int f] (fun v => v = if f / nI 2 ≤ 0 then f / nI 2 else f / nI 2 + nI 1) := by
  refine Cp.of rfl (by decide +kernel) (Nat.le_of_ble_eq_true rfl) ?_
  intro p e s m args below meth c Q hC hK hP hret ls hl
  have hx := hC.1
  have hb := hC.2.1
  have hown := hC.2.2.2.1
  have hts := hC.2.2.2.2
  refine lv_aload_n hx hb dX10_turnsBy_0 rfl (hl.at rfl) ?_
  refine lv_aload_n hx hb dX10_turnsBy_1 rfl (hl.at rfl) ?_
  refine lv_iload_n hx hb dX10_turnsBy_2 rfl (hl.at rfl) ?_
  refine x_pSU hC hK hP (x_at hK (ci := 10) rfl) (x_rPO hK hP hw1 hw2 hw rfl) (cX7_turnsBy_4 hn hw1 hw2 hw) csu_X10_11 rfl rfl hl.1 (Nat.le_of_ble_eq_true rfl) dX10_turnsBy_3 (rk (by decide) (by decide)) ⟨Nat.le_refl _, Nat.le_refl _⟩ (fun r3 p3 => ?_)
  refine l_istore_n hx hb 3 dX10_turnsBy_6 rfl hl rfl (fun ls hl => ?_)
  refine lv_iload_n hx hb dX10_turnsBy_7 rfl (hl.at rfl) ?_
  refine lv_if_le (tgt := 17) hx hb dX10_turnsBy_8 rfl (fun c8 => ?_) (fun c8 => ?_)
  · refine lv_iload_n hx hb dX10_turnsBy_17 rfl (hl.at rfl) ?_
    refine hret ls _ _ dX10_turnsBy_18 ?_
    first | (rw [if_pos (by rw [← p3]; exact c8), p3]; done) | (rw [if_neg (by rw [← p3]; exact c8), p3]; done)
  · refine lv_iload_n hx hb dX10_turnsBy_11 rfl (hl.at rfl) ?_
    refine lv_iconst (v := nI 1) hx hb dX10_turnsBy_12 rfl ?_
    refine lv_iadd hx hb dX10_turnsBy_13 ?_
    refine lv_goto (tgt := 18) hx hb dX10_turnsBy_14 rfl ?_
    refine hret ls _ _ dX10_turnsBy_18 ?_
    first | (rw [if_pos (by rw [← p3]; exact c8), p3]; done) | (rw [if_neg (by rw [← p3]; exact c8), p3]; done)
theorem cX11_turnsBy_5 {l : Launch} {D : va_G} {cA : Nat → ClassId} {ad : Nat → Nat} {n : Nat} {f0 : Nat → va_E} {ρ : Nat → Nat → Option Nat} {r : Nat × Nat} {U : Nat → Nat → Nat → Int32} (hn : 81 ≤ n) {w : Nat} {nu mm : Int32} (hw1 : 81 ≤ w) (hw2 : w < n) (hw : f0 w = .inr (11, [.int nu, .int mm])) {f : Int32} : XP l D cA ad n f0 ρ r U yX11_turnsBy cX11_turnsBy 3 (some .int) (0) [.ref (ad w), .ref (ad 77), .int f] (fun v => v = nI 0) := by
  refine Cp.of rfl (by decide +kernel) (Nat.le_of_ble_eq_true rfl) ?_
  intro p e s m args below meth c Q hC hK hP hret ls hl
  have hx := hC.1
  have hb := hC.2.1
  have hown := hC.2.2.2.1
  have hts := hC.2.2.2.2
  refine lv_iconst (v := nI 0) hx hb dX11_turnsBy_0 rfl ?_
  refine hret ls _ _ dX11_turnsBy_1 ?_
  rfl
theorem cdf_X16_1_X6 : CDF RX16 RX6 1 yX16_turnsBy := ⟨q623, q569, q568, q583, q553, rfl, List.mem_of_getElem? (i := 11) rfl⟩
theorem cX16_shows_0 {l : Launch} {D : va_G} {cA : Nat → ClassId} {ad : Nat → Nat} {n : Nat} {f0 : Nat → va_E} {ρ : Nat → Nat → Option Nat} {r : Nat × Nat} {U : Nat → Nat → Nat → Int32} (hn : 81 ≤ n) {w : Nat} {nu mm : Int32} (hw1 : 81 ≤ w) (hw2 : w < n) (hw : f0 w = .inr (6, [.int nu, .int mm])) {f : Int32} : XPd l D cA ad n f0 ρ r U yX16_shows cX16_shows 3 (some .int) (2) [.ref (ad w), .ref (ad 77), .int f] (fun v => v = f) := by
  refine Dp.of rfl (by decide +kernel) (Nat.le_of_ble_eq_true rfl) ?_
  intro p e s m args below meth c Q hC hK hP hret ls hl
  have hx := hC.1
  have hb := hC.2.1
  have hown := hC.2.2.2.1
  have hts := hC.2.2.2.2
  refine lv_aload_n hx hb dX16_shows_0 rfl (hl.at rfl) ?_
  refine lv_aload_n hx hb dX16_shows_1 rfl (hl.at rfl) ?_
  refine lv_iload_n hx hb dX16_shows_2 rfl (hl.at rfl) ?_
  refine x_pFD (ci := 6) hC hK hP rfl (x_rPO hK hP hw1 hw2 hw rfl) (cX16_turnsBy_0 hn hw1 hw2 hw) cd_X16_turnsBy cdf_X16_1_X6 rfl rfl hl.1 (Nat.le_of_ble_eq_true rfl) dX16_shows_3 (rk (by decide) (by decide)) ⟨Nat.le_refl _, Nat.le_refl _⟩ (fun r3 p3 => ?_)
  refine hret ls _ _ dX16_shows_8 ?_
  exact p3
theorem cf_X16_1_X7 : CF RX16 RX7 1 (⟨RX16, "turnsBy", "(LWheelBrook$Sees;I)I"⟩ : MethodName) yX7_turnsBy cX7_turnsBy 3 (some .int) 2 := ⟨lw_F q623 q592 q590 q90 q591, ⟨q569, q568, rfl, q594, q593, q526⟩, by decide +kernel⟩
theorem cX16_shows_1 {l : Launch} {D : va_G} {cA : Nat → ClassId} {ad : Nat → Nat} {n : Nat} {f0 : Nat → va_E} {ρ : Nat → Nat → Option Nat} {r : Nat × Nat} {U : Nat → Nat → Nat → Int32} (hn : 81 ≤ n) {w : Nat} {nu mm : Int32} (hw1 : 81 ≤ w) (hw2 : w < n) (hw : f0 w = .inr (7, [.int nu, .int mm])) {f : Int32} : XPd l D cA ad n f0 ρ r U yX16_shows cX16_shows 3 (some .int) (2) [.ref (ad w), .ref (ad 77), .int f] (fun v => v = f / nI 2) := by
  refine Dp.of rfl (by decide +kernel) (Nat.le_of_ble_eq_true rfl) ?_
  intro p e s m args below meth c Q hC hK hP hret ls hl
  have hx := hC.1
  have hb := hC.2.1
  have hown := hC.2.2.2.1
  have hts := hC.2.2.2.2
  refine lv_aload_n hx hb dX16_shows_0 rfl (hl.at rfl) ?_
  refine lv_aload_n hx hb dX16_shows_1 rfl (hl.at rfl) ?_
  refine lv_iload_n hx hb dX16_shows_2 rfl (hl.at rfl) ?_
  refine x_pF (ci := 7) hC hK hP rfl (x_rPO hK hP hw1 hw2 hw rfl) (cX7_turnsBy_1 hn hw1 hw2 hw) cf_X16_1_X7 rfl rfl hl.1 (Nat.le_of_ble_eq_true rfl) dX16_shows_3 (rk (by decide) (by decide)) ⟨Nat.le_refl _, Nat.le_refl _⟩ (fun r3 p3 => ?_)
  refine hret ls _ _ dX16_shows_8 ?_
  exact p3
theorem cdf_X16_1_X8 : CDF RX16 RX8 1 yX16_turnsBy := ⟨q623, q569, q568, q583, q514, rfl, List.mem_of_getElem? (i := 3) rfl⟩
theorem cX16_shows_2 {l : Launch} {D : va_G} {cA : Nat → ClassId} {ad : Nat → Nat} {n : Nat} {f0 : Nat → va_E} {ρ : Nat → Nat → Option Nat} {r : Nat × Nat} {U : Nat → Nat → Nat → Int32} (hn : 81 ≤ n) {w : Nat} {nu mm : Int32} (hw1 : 81 ≤ w) (hw2 : w < n) (hw : f0 w = .inr (8, [.int nu, .int mm])) {f : Int32} : XPd l D cA ad n f0 ρ r U yX16_shows cX16_shows 3 (some .int) (2) [.ref (ad w), .ref (ad 77), .int f] (fun v => v = f) := by
  refine Dp.of rfl (by decide +kernel) (Nat.le_of_ble_eq_true rfl) ?_
  intro p e s m args below meth c Q hC hK hP hret ls hl
  have hx := hC.1
  have hb := hC.2.1
  have hown := hC.2.2.2.1
  have hts := hC.2.2.2.2
  refine lv_aload_n hx hb dX16_shows_0 rfl (hl.at rfl) ?_
  refine lv_aload_n hx hb dX16_shows_1 rfl (hl.at rfl) ?_
  refine lv_iload_n hx hb dX16_shows_2 rfl (hl.at rfl) ?_
  refine x_pFD (ci := 8) hC hK hP rfl (x_rPO hK hP hw1 hw2 hw rfl) (cX16_turnsBy_2 hn hw1 hw2 hw) cd_X16_turnsBy cdf_X16_1_X8 rfl rfl hl.1 (Nat.le_of_ble_eq_true rfl) dX16_shows_3 (rk (by decide) (by decide)) ⟨Nat.le_refl _, Nat.le_refl _⟩ (fun r3 p3 => ?_)
  refine hret ls _ _ dX16_shows_8 ?_
  exact p3
theorem cf_X16_1_X9 : CF RX16 RX9 1 (⟨RX16, "turnsBy", "(LWheelBrook$Sees;I)I"⟩ : MethodName) yX9_turnsBy cX9_turnsBy 3 (some .int) 2 := ⟨lw_F q623 q570 q572 q92 q574, ⟨q569, q568, rfl, q573, q571, q503⟩, by decide +kernel⟩
theorem cX16_shows_3 {l : Launch} {D : va_G} {cA : Nat → ClassId} {ad : Nat → Nat} {n : Nat} {f0 : Nat → va_E} {ρ : Nat → Nat → Option Nat} {r : Nat × Nat} {U : Nat → Nat → Nat → Int32} (hn : 81 ≤ n) {w : Nat} {nu mm : Int32} (hw1 : 81 ≤ w) (hw2 : w < n) (hw : f0 w = .inr (9, [.int nu, .int mm])) {f : Int32} : XPd l D cA ad n f0 ρ r U yX16_shows cX16_shows 3 (some .int) (2) [.ref (ad w), .ref (ad 77), .int f] (fun v => v = f * nI 2) := by
  refine Dp.of rfl (by decide +kernel) (Nat.le_of_ble_eq_true rfl) ?_
  intro p e s m args below meth c Q hC hK hP hret ls hl
  have hx := hC.1
  have hb := hC.2.1
  have hown := hC.2.2.2.1
  have hts := hC.2.2.2.2
  refine lv_aload_n hx hb dX16_shows_0 rfl (hl.at rfl) ?_
  refine lv_aload_n hx hb dX16_shows_1 rfl (hl.at rfl) ?_
  refine lv_iload_n hx hb dX16_shows_2 rfl (hl.at rfl) ?_
  refine x_pF (ci := 9) hC hK hP rfl (x_rPO hK hP hw1 hw2 hw rfl) (cX9_turnsBy_3 hn hw1 hw2 hw) cf_X16_1_X9 rfl rfl hl.1 (Nat.le_of_ble_eq_true rfl) dX16_shows_3 (rk (by decide) (by decide)) ⟨Nat.le_refl _, Nat.le_refl _⟩ (fun r3 p3 => ?_)
  refine hret ls _ _ dX16_shows_8 ?_
  exact p3
theorem cd_X16_shows : CD yX16_shows cX16_shows 3 (some .int) 2 := ⟨lw_meth q621, q619, by decide +kernel, by decide +kernel, by decide +kernel⟩
theorem cds_X8_19 : CDS RX8 19 (⟨RX6, "shows", "(LWheelBrook$Sees;I)I"⟩ : MethodName) yX16_shows := ⟨List.mem_of_getElem? (i := 6) rfl, List.mem_of_getElem? (i := 7) rfl, rfl, by decide +kernel, q395, List.mem_of_getElem? (i := 13) rfl⟩
theorem cX8_shows_2 {l : Launch} {D : va_G} {cA : Nat → ClassId} {ad : Nat → Nat} {n : Nat} {f0 : Nat → va_E} {ρ : Nat → Nat → Option Nat} {r : Nat × Nat} {U : Nat → Nat → Nat → Int32} (hn : 81 ≤ n) {w : Nat} {nu mm : Int32} (hw1 : 81 ≤ w) (hw2 : w < n) (hw : f0 w = .inr (8, [.int nu, .int mm])) {f : Int32} : XP l D cA ad n f0 ρ r U yX8_shows cX8_shows 3 (some .int) (3) [.ref (ad w), .ref (ad 77), .int f] (fun v => v = f / nI 2) := by
  refine Cp.of rfl (by decide +kernel) (Nat.le_of_ble_eq_true rfl) ?_
  intro p e s m args below meth c Q hC hK hP hret ls hl
  have hx := hC.1
  have hb := hC.2.1
  have hown := hC.2.2.2.1
  have hts := hC.2.2.2.2
  refine lv_aload_n hx hb dX8_shows_0 rfl (hl.at rfl) ?_
  refine lv_aload_n hx hb dX8_shows_1 rfl (hl.at rfl) ?_
  refine lv_iload_n hx hb dX8_shows_2 rfl (hl.at rfl) ?_
  refine x_pSD (ci := 8) hC hK hP rfl (x_rPO hK hP hw1 hw2 hw rfl) (cX16_shows_2 hn hw1 hw2 hw) cd_X16_shows cds_X8_19 rfl rfl hl.1 (Nat.le_of_ble_eq_true rfl) dX8_shows_3 (rk (by decide) (by decide)) ⟨Nat.le_refl _, Nat.le_refl _⟩ (fun r3 p3 => ?_)
  refine lv_iconst (v := nI 2) hx hb dX8_shows_6 rfl ?_
  refine lv_idiv hx hb dX8_shows_7 (nI_ne0 (by decide) (by decide)) ?_
  refine hret ls _ _ dX8_shows_8 ?_
  rw [p3]
theorem cX10_shows_4 {l : Launch} {D : va_G} {cA : Nat → ClassId} {ad : Nat → Nat} {n : Nat} {f0 : Nat → va_E} {ρ : Nat → Nat → Option Nat} {r : Nat × Nat} {U : Nat → Nat → Nat → Int32} (hn : 81 ≤ n) {w : Nat} {nu mm : Int32} (hw1 : 81 ≤ w) (hw2 : w < n) (hw : f0 w = .inr (10, [.int nu, .int mm])) {f : Int32} : XP l D cA ad n f0 ρ r U yX10_shows cX10_shows 3 (some .int) (0) [.ref (ad w), .ref (ad 77), .int f] (fun v => v = nI 0) := by
  refine Cp.of rfl (by decide +kernel) (Nat.le_of_ble_eq_true rfl) ?_
  intro p e s m args below meth c Q hC hK hP hret ls hl
  have hx := hC.1
  have hb := hC.2.1
  have hown := hC.2.2.2.1
  have hts := hC.2.2.2.2
  refine lv_iconst (v := nI 0) hx hb dX10_shows_0 rfl ?_
  refine hret ls _ _ dX10_shows_1 ?_
  rfl
theorem csu_X11_11 : CSU RX11 11 yX9_turnsBy cX9_turnsBy 3 (some .int) 2 := ⟨lw_SU q629 q1772 q422 q572 q92 q574, by decide +kernel⟩
theorem cX11_shows_5 {l : Launch} {D : va_G} {cA : Nat → ClassId} {ad : Nat → Nat} {n : Nat} {f0 : Nat → va_E} {ρ : Nat → Nat → Option Nat} {r : Nat × Nat} {U : Nat → Nat → Nat → Int32} (hn : 81 ≤ n) {w : Nat} {nu mm : Int32} (hw1 : 81 ≤ w) (hw2 : w < n) (hw : f0 w = .inr (11, [.int nu, .int mm])) {f : Int32} : XP l D cA ad n f0 ρ r U yX11_shows cX11_shows 3 (some .int) (2) [.ref (ad w), .ref (ad 77), .int f] (fun v => v = f * nI 2) := by
  refine Cp.of rfl (by decide +kernel) (Nat.le_of_ble_eq_true rfl) ?_
  intro p e s m args below meth c Q hC hK hP hret ls hl
  have hx := hC.1
  have hb := hC.2.1
  have hown := hC.2.2.2.1
  have hts := hC.2.2.2.2
  refine lv_aload_n hx hb dX11_shows_0 rfl (hl.at rfl) ?_
  refine lv_aload_n hx hb dX11_shows_1 rfl (hl.at rfl) ?_
  refine lv_iload_n hx hb dX11_shows_2 rfl (hl.at rfl) ?_
  refine x_pSU hC hK hP (x_at hK (ci := 11) rfl) (x_rPO hK hP hw1 hw2 hw rfl) (cX9_turnsBy_5 hn hw1 hw2 hw) csu_X11_11 rfl rfl hl.1 (Nat.le_of_ble_eq_true rfl) dX11_shows_3 (rk (by decide) (by decide)) ⟨Nat.le_refl _, Nat.le_refl _⟩ (fun r3 p3 => ?_)
  refine hret ls _ _ dX11_shows_6 ?_
  exact p3
theorem cX3_ran_ {l : Launch} {D : va_G} {cA : Nat → ClassId} {ad : Nat → Nat} {n : Nat} {f0 : Nat → va_E} {ρ : Nat → Nat → Option Nat} {r : Nat × Nat} {U : Nat → Nat → Nat → Int32} (hn : 81 ≤ n) {A : Nat → Prop} (hD : gD A ad n) {U0 : Tta} {t : TR} {x : Int32} {q : Nat} (hU : U = uT U0 t) (ht : t.2 ≤ 30) (hx1 : x = nI q) (hq : q ≤ 127) : XV l D cA ad n f0 ρ r U A yX3_ran cX3_ran 2 (0) [.ref (ad 69), .int x] (fun V => V = uT U0 (ran q t)) := by
  refine Cv.of (by decide +kernel) (Nat.le_of_ble_eq_true rfl) ?_
  intro p e s m args below meth c Q hC hK hP hret ls hl
  have hx := hC.1
  have hb := hC.2.1
  have hown := hC.2.2.2.1
  have hts := hC.2.2.2.2
  have hS : va_S A s.heap s.heap [] := va_S.rf
  subst hx1; subst hU
  refine lv_aload_n hx hb dX3_ran_0 rfl (hl.at rfl) ?_
  refine c_get hC hK hP 69 (by omega) (wo_tr) rfl in_X3 1 (by decide) q231 rfl rfl dX3_ran_1 ?_
  refine l_top (nI t.2) (by rw [uT_2]) ?_
  refine lv_bipush (v := nI 30) hx hb dX3_ran_4 rfl ?_
  refine l_geN hx hb 27 dX3_ran_6 rfl (by omega) (by omega) (fun c6 => ?_) (fun c6 => ?_)
  · refine hret _ _ ls _ _ hP hS dX3_ran_27 ?_
    first | (rw [ran, if_neg (by omega)]) | exact uT_ran (by omega)
  · refine lv_aload_n hx hb dX3_ran_9 rfl (hl.at rfl) ?_
    refine c_get hC hK hP 69 (by omega) (wo_tr) rfl in_X3 0 (by decide) q229 rfl rfl dX3_ran_10 ?_
    refine lv_aload_n hx hb dX3_ran_13 rfl (hl.at rfl) ?_
    refine lv_dup hx hb dX3_ran_14 rfl ?_
    refine c_get hC hK hP 69 (by omega) (wo_tr) rfl in_X3 1 (by decide) q231 rfl rfl dX3_ran_15 ?_
    refine l_top (nI t.2) (by rw [uT_2]) ?_
    refine lv_dup_x1 hx hb dX3_ran_18 rfl rfl ?_
    refine lv_iconst (v := nI 1) hx hb dX3_ran_19 rfl ?_
    refine l_addN hx hb dX3_ran_20 ?_
    refine c_put (ty := .int) hC hK hP hD hS 69 (by omega) (wo_tr) rfl in_X3 tyX3_ok nmX3 1 (by decide) q231 rfl rfl (by decide +kernel) rfl rfl (by show 1 < 2; decide) (cp_many hn) dX3_ran_21 (fun H locs hP hS => ?_)
    refine lv_iload_n hx hb dX3_ran_24 rfl (hl.at rfl) ?_
    refine lv_i2b hx hb dX3_ran_25 (nB_nI (by omega)) ?_
    refine c_stb hC hK hP hD hS 70 (by omega) (wo_70) _ (nB_nI (by omega)) t.2 (rfl) (by omega) (by decide) (c_wO 70 1 1 30 (by decide) (by decide) hn rfl (fun _ _ => rfl)) dX3_ran_26 (fun H locs hP hS => ?_)
    refine hret _ _ ls _ _ hP hS dX3_ran_27 ?_
    first | (rw [ran, if_neg (by omega)]) | exact uT_ran (by omega)
theorem cv_X6_16 : CV RX6 RX3 16 yX3_ran cX3_ran 2 (none) 1 := ⟨lw_V q1117 q1103 q1104 q86 q1105, by decide +kernel⟩
theorem cX6_flows_0 {l : Launch} {D : va_G} {cA : Nat → ClassId} {ad : Nat → Nat} {n : Nat} {f0 : Nat → va_E} {ρ : Nat → Nat → Option Nat} {r : Nat × Nat} {U : Nat → Nat → Nat → Int32} (hn : 81 ≤ n) {A : Nat → Prop} (hD : gD A ad n) {w : Nat} {nu mm : Int32} (hw1 : 81 ≤ w) (hw2 : w < n) (hw : f0 w = .inr (6, [.int nu, .int mm])) {U0 : Tta} {t : TR} (hU : U = uT U0 t) (ht : t.2 ≤ 30) {x : Int32} {S : Sta} {k : Nat} (hnu : nu = nI k) (hkd : S 5 k = nI 0) (hmm : mm = S 6 k) : XI l D cA ad n f0 ρ r U A yX6_flows cX6_flows 3 (some .int) (1) [.ref (ad w), .int x, .ref (ad 69)] (fun v V => v = (vf0 k x t).1 ∧ V = uT U0 (vf0 k x t).2) := by
  refine Ci.of rfl (by decide +kernel) (Nat.le_of_ble_eq_true rfl) ?_
  intro p e s m args below meth c Q hC hK hP hret ls hl
  have hx := hC.1
  have hb := hC.2.1
  have hown := hC.2.2.2.1
  have hts := hC.2.2.2.2
  have hS : va_S A s.heap s.heap [] := va_S.rf
  subst hU
  refine lv_aload_n hx hb dX6_flows_0 rfl (hl.at rfl) ?_
  refine lv_bipush (v := nI 10) hx hb dX6_flows_1 rfl ?_
  refine x_vV hC hK hP hS (x_rTR hK hP hn) (cX3_ran_ hn hD rfl ht (q := 10) rfl (by decide)) cv_X6_16 rfl rfl hl.1 (Nat.le_of_ble_eq_true rfl) dX6_flows_3 (rk (by decide) (by decide)) ⟨Nat.le_refl _, Nat.le_refl _⟩ (fun U3 H locs p3 hP hS => ?_)
  subst p3
  refine lv_iload_n hx hb dX6_flows_6 rfl (hl.at rfl) ?_
  refine lv_aload_n hx hb dX6_flows_7 rfl (hl.at rfl) ?_
  refine c_get hC hK hP w (hw2) (wo_po hw1 hw) rfl in_X6 0 (by decide) q368 rfl rfl dX6_flows_8 ?_
  refine lv_iadd hx hb dX6_flows_11 ?_
  refine hret _ _ ls _ _ _ hP hS dX6_flows_12 ?_
  rw [hnu]; exact ⟨rfl, rfl⟩
theorem cX6_flows_1 {l : Launch} {D : va_G} {cA : Nat → ClassId} {ad : Nat → Nat} {n : Nat} {f0 : Nat → va_E} {ρ : Nat → Nat → Option Nat} {r : Nat × Nat} {U : Nat → Nat → Nat → Int32} (hn : 81 ≤ n) {A : Nat → Prop} (hD : gD A ad n) {w : Nat} {nu mm : Int32} (hw1 : 81 ≤ w) (hw2 : w < n) (hw : f0 w = .inr (7, [.int nu, .int mm])) {U0 : Tta} {t : TR} (hU : U = uT U0 t) (ht : t.2 ≤ 30) {x : Int32} {S : Sta} {k : Nat} (hnu : nu = nI k) (hkd : S 5 k = nI 1) (hmm : mm = S 6 k) : XI l D cA ad n f0 ρ r U A yX6_flows cX6_flows 3 (some .int) (1) [.ref (ad w), .int x, .ref (ad 69)] (fun v V => v = (vf0 k x t).1 ∧ V = uT U0 (vf0 k x t).2) := by
  refine Ci.of rfl (by decide +kernel) (Nat.le_of_ble_eq_true rfl) ?_
  intro p e s m args below meth c Q hC hK hP hret ls hl
  have hx := hC.1
  have hb := hC.2.1
  have hown := hC.2.2.2.1
  have hts := hC.2.2.2.2
  have hS : va_S A s.heap s.heap [] := va_S.rf
  subst hU
  refine lv_aload_n hx hb dX6_flows_0 rfl (hl.at rfl) ?_
  refine lv_bipush (v := nI 10) hx hb dX6_flows_1 rfl ?_
  refine x_vV hC hK hP hS (x_rTR hK hP hn) (cX3_ran_ hn hD rfl ht (q := 10) rfl (by decide)) cv_X6_16 rfl rfl hl.1 (Nat.le_of_ble_eq_true rfl) dX6_flows_3 (rk (by decide) (by decide)) ⟨Nat.le_refl _, Nat.le_refl _⟩ (fun U3 H locs p3 hP hS => ?_)
  subst p3
  refine lv_iload_n hx hb dX6_flows_6 rfl (hl.at rfl) ?_
  refine lv_aload_n hx hb dX6_flows_7 rfl (hl.at rfl) ?_
  refine c_get hC hK hP w (hw2) (wo_po hw1 hw) rfl in_X7 0 (by decide) q368 rfl rfl dX6_flows_8 ?_
  refine lv_iadd hx hb dX6_flows_11 ?_
  refine hret _ _ ls _ _ _ hP hS dX6_flows_12 ?_
  rw [hnu]; exact ⟨rfl, rfl⟩
theorem cX6_flows_2 {l : Launch} {D : va_G} {cA : Nat → ClassId} {ad : Nat → Nat} {n : Nat} {f0 : Nat → va_E} {ρ : Nat → Nat → Option Nat} {r : Nat × Nat} {U : Nat → Nat → Nat → Int32} (hn : 81 ≤ n) {A : Nat → Prop} (hD : gD A ad n) {w : Nat} {nu mm : Int32} (hw1 : 81 ≤ w) (hw2 : w < n) (hw : f0 w = .inr (8, [.int nu, .int mm])) {U0 : Tta} {t : TR} (hU : U = uT U0 t) (ht : t.2 ≤ 30) {x : Int32} {S : Sta} {k : Nat} (hnu : nu = nI k) (hkd : S 5 k = nI 2) (hmm : mm = S 6 k) : XI l D cA ad n f0 ρ r U A yX6_flows cX6_flows 3 (some .int) (1) [.ref (ad w), .int x, .ref (ad 69)] (fun v V => v = (vf0 k x t).1 ∧ V = uT U0 (vf0 k x t).2) := by
  refine Ci.of rfl (by decide +kernel) (Nat.le_of_ble_eq_true rfl) ?_
  intro p e s m args below meth c Q hC hK hP hret ls hl
  have hx := hC.1
  have hb := hC.2.1
  have hown := hC.2.2.2.1
  have hts := hC.2.2.2.2
  have hS : va_S A s.heap s.heap [] := va_S.rf
  subst hU
  refine lv_aload_n hx hb dX6_flows_0 rfl (hl.at rfl) ?_
  refine lv_bipush (v := nI 10) hx hb dX6_flows_1 rfl ?_
  refine x_vV hC hK hP hS (x_rTR hK hP hn) (cX3_ran_ hn hD rfl ht (q := 10) rfl (by decide)) cv_X6_16 rfl rfl hl.1 (Nat.le_of_ble_eq_true rfl) dX6_flows_3 (rk (by decide) (by decide)) ⟨Nat.le_refl _, Nat.le_refl _⟩ (fun U3 H locs p3 hP hS => ?_)
  subst p3
  refine lv_iload_n hx hb dX6_flows_6 rfl (hl.at rfl) ?_
  refine lv_aload_n hx hb dX6_flows_7 rfl (hl.at rfl) ?_
  refine c_get hC hK hP w (hw2) (wo_po hw1 hw) rfl in_X8 0 (by decide) q368 rfl rfl dX6_flows_8 ?_
  refine lv_iadd hx hb dX6_flows_11 ?_
  refine hret _ _ ls _ _ _ hP hS dX6_flows_12 ?_
  rw [hnu]; exact ⟨rfl, rfl⟩
theorem cX6_flows_3 {l : Launch} {D : va_G} {cA : Nat → ClassId} {ad : Nat → Nat} {n : Nat} {f0 : Nat → va_E} {ρ : Nat → Nat → Option Nat} {r : Nat × Nat} {U : Nat → Nat → Nat → Int32} (hn : 81 ≤ n) {A : Nat → Prop} (hD : gD A ad n) {w : Nat} {nu mm : Int32} (hw1 : 81 ≤ w) (hw2 : w < n) (hw : f0 w = .inr (9, [.int nu, .int mm])) {U0 : Tta} {t : TR} (hU : U = uT U0 t) (ht : t.2 ≤ 30) {x : Int32} {S : Sta} {k : Nat} (hnu : nu = nI k) (hkd : S 5 k = nI 3) (hmm : mm = S 6 k) : XI l D cA ad n f0 ρ r U A yX6_flows cX6_flows 3 (some .int) (1) [.ref (ad w), .int x, .ref (ad 69)] (fun v V => v = (vf0 k x t).1 ∧ V = uT U0 (vf0 k x t).2) := by
  refine Ci.of rfl (by decide +kernel) (Nat.le_of_ble_eq_true rfl) ?_
  intro p e s m args below meth c Q hC hK hP hret ls hl
  have hx := hC.1
  have hb := hC.2.1
  have hown := hC.2.2.2.1
  have hts := hC.2.2.2.2
  have hS : va_S A s.heap s.heap [] := va_S.rf
  subst hU
  refine lv_aload_n hx hb dX6_flows_0 rfl (hl.at rfl) ?_
  refine lv_bipush (v := nI 10) hx hb dX6_flows_1 rfl ?_
  refine x_vV hC hK hP hS (x_rTR hK hP hn) (cX3_ran_ hn hD rfl ht (q := 10) rfl (by decide)) cv_X6_16 rfl rfl hl.1 (Nat.le_of_ble_eq_true rfl) dX6_flows_3 (rk (by decide) (by decide)) ⟨Nat.le_refl _, Nat.le_refl _⟩ (fun U3 H locs p3 hP hS => ?_)
  subst p3
  refine lv_iload_n hx hb dX6_flows_6 rfl (hl.at rfl) ?_
  refine lv_aload_n hx hb dX6_flows_7 rfl (hl.at rfl) ?_
  refine c_get hC hK hP w (hw2) (wo_po hw1 hw) rfl in_X9 0 (by decide) q368 rfl rfl dX6_flows_8 ?_
  refine lv_iadd hx hb dX6_flows_11 ?_
  refine hret _ _ ls _ _ _ hP hS dX6_flows_12 ?_
  rw [hnu]; exact ⟨rfl, rfl⟩
theorem cX6_flows_4 {l : Launch} {D : va_G} {cA : Nat → ClassId} {ad : Nat → Nat} {n : Nat} {f0 : Nat → va_E} {ρ : Nat → Nat → Option Nat} {r : Nat × Nat} {U : Nat → Nat → Nat → Int32} (hn : 81 ≤ n) {A : Nat → Prop} (hD : gD A ad n) {w : Nat} {nu mm : Int32} (hw1 : 81 ≤ w) (hw2 : w < n) (hw : f0 w = .inr (10, [.int nu, .int mm])) {U0 : Tta} {t : TR} (hU : U = uT U0 t) (ht : t.2 ≤ 30) {x : Int32} {S : Sta} {k : Nat} (hnu : nu = nI k) (hkd : S 5 k = nI 4) (hmm : mm = S 6 k) : XI l D cA ad n f0 ρ r U A yX6_flows cX6_flows 3 (some .int) (1) [.ref (ad w), .int x, .ref (ad 69)] (fun v V => v = (vf0 k x t).1 ∧ V = uT U0 (vf0 k x t).2) := by
  refine Ci.of rfl (by decide +kernel) (Nat.le_of_ble_eq_true rfl) ?_
  intro p e s m args below meth c Q hC hK hP hret ls hl
  have hx := hC.1
  have hb := hC.2.1
  have hown := hC.2.2.2.1
  have hts := hC.2.2.2.2
  have hS : va_S A s.heap s.heap [] := va_S.rf
  subst hU
  refine lv_aload_n hx hb dX6_flows_0 rfl (hl.at rfl) ?_
  refine lv_bipush (v := nI 10) hx hb dX6_flows_1 rfl ?_
  refine x_vV hC hK hP hS (x_rTR hK hP hn) (cX3_ran_ hn hD rfl ht (q := 10) rfl (by decide)) cv_X6_16 rfl rfl hl.1 (Nat.le_of_ble_eq_true rfl) dX6_flows_3 (rk (by decide) (by decide)) ⟨Nat.le_refl _, Nat.le_refl _⟩ (fun U3 H locs p3 hP hS => ?_)
  subst p3
  refine lv_iload_n hx hb dX6_flows_6 rfl (hl.at rfl) ?_
  refine lv_aload_n hx hb dX6_flows_7 rfl (hl.at rfl) ?_
  refine c_get hC hK hP w (hw2) (wo_po hw1 hw) rfl in_X10 0 (by decide) q368 rfl rfl dX6_flows_8 ?_
  refine lv_iadd hx hb dX6_flows_11 ?_
  refine hret _ _ ls _ _ _ hP hS dX6_flows_12 ?_
  rw [hnu]; exact ⟨rfl, rfl⟩
theorem cX6_flows_5 {l : Launch} {D : va_G} {cA : Nat → ClassId} {ad : Nat → Nat} {n : Nat} {f0 : Nat → va_E} {ρ : Nat → Nat → Option Nat} {r : Nat × Nat} {U : Nat → Nat → Nat → Int32} (hn : 81 ≤ n) {A : Nat → Prop} (hD : gD A ad n) {w : Nat} {nu mm : Int32} (hw1 : 81 ≤ w) (hw2 : w < n) (hw : f0 w = .inr (11, [.int nu, .int mm])) {U0 : Tta} {t : TR} (hU : U = uT U0 t) (ht : t.2 ≤ 30) {x : Int32} {S : Sta} {k : Nat} (hnu : nu = nI k) (hkd : S 5 k = nI 5) (hmm : mm = S 6 k) : XI l D cA ad n f0 ρ r U A yX6_flows cX6_flows 3 (some .int) (1) [.ref (ad w), .int x, .ref (ad 69)] (fun v V => v = (vf0 k x t).1 ∧ V = uT U0 (vf0 k x t).2) := by
  refine Ci.of rfl (by decide +kernel) (Nat.le_of_ble_eq_true rfl) ?_
  intro p e s m args below meth c Q hC hK hP hret ls hl
  have hx := hC.1
  have hb := hC.2.1
  have hown := hC.2.2.2.1
  have hts := hC.2.2.2.2
  have hS : va_S A s.heap s.heap [] := va_S.rf
  subst hU
  refine lv_aload_n hx hb dX6_flows_0 rfl (hl.at rfl) ?_
  refine lv_bipush (v := nI 10) hx hb dX6_flows_1 rfl ?_
  refine x_vV hC hK hP hS (x_rTR hK hP hn) (cX3_ran_ hn hD rfl ht (q := 10) rfl (by decide)) cv_X6_16 rfl rfl hl.1 (Nat.le_of_ble_eq_true rfl) dX6_flows_3 (rk (by decide) (by decide)) ⟨Nat.le_refl _, Nat.le_refl _⟩ (fun U3 H locs p3 hP hS => ?_)
  subst p3
  refine lv_iload_n hx hb dX6_flows_6 rfl (hl.at rfl) ?_
  refine lv_aload_n hx hb dX6_flows_7 rfl (hl.at rfl) ?_
  refine c_get hC hK hP w (hw2) (wo_po hw1 hw) rfl in_X11 0 (by decide) q368 rfl rfl dX6_flows_8 ?_
  refine lv_iadd hx hb dX6_flows_11 ?_
  refine hret _ _ ls _ _ _ hP hS dX6_flows_12 ?_
  rw [hnu]; exact ⟨rfl, rfl⟩
theorem csu_X7_32 : CSU RX7 32 yX6_flows cX6_flows 3 (some .int) 2 := ⟨lw_SU q1110 q1095 q386 q1093 q89 q1116, by decide +kernel⟩
theorem cv_X7_26 : CV RX7 RX3 26 yX3_ran cX3_ran 2 (none) 1 := ⟨lw_V q1109 q1103 q1104 q86 q1105, by decide +kernel⟩
theorem cX7_flows_1 {l : Launch} {D : va_G} {cA : Nat → ClassId} {ad : Nat → Nat} {n : Nat} {f0 : Nat → va_E} {ρ : Nat → Nat → Option Nat} {r : Nat × Nat} {U : Nat → Nat → Nat → Int32} (hn : 81 ≤ n) {A : Nat → Prop} (hD : gD A ad n) {w : Nat} {nu mm : Int32} (hw1 : 81 ≤ w) (hw2 : w < n) (hw : f0 w = .inr (7, [.int nu, .int mm])) {U0 : Tta} {t : TR} (hU : U = uT U0 t) (ht : t.2 ≤ 30) {x : Int32} {S : Sta} {k : Nat} (hnu : nu = nI k) (hkd : S 5 k = nI 1) (hmm : mm = S 6 k) : XI l D cA ad n f0 ρ r U A yX7_flows cX7_flows 3 (some .int) (2) [.ref (ad w), .int x, .ref (ad 69)] (fun v V => v = (vf1 k x t).1 ∧ V = uT U0 (vf1 k x t).2) := by
  refine Ci.of rfl (by decide +kernel) (Nat.le_of_ble_eq_true rfl) ?_
  intro p e s m args below meth c Q hC hK hP hret ls hl
  have hx := hC.1
  have hb := hC.2.1
  have hown := hC.2.2.2.1
  have hts := hC.2.2.2.2
  have hS : va_S A s.heap s.heap [] := va_S.rf
  subst hU
  refine lv_aload_n hx hb dX7_flows_0 rfl (hl.at rfl) ?_
  refine lv_bipush (v := nI 20) hx hb dX7_flows_1 rfl ?_
  refine x_vV hC hK hP hS (x_rTR hK hP hn) (cX3_ran_ hn hD rfl ht (q := 20) rfl (by decide)) cv_X7_26 rfl rfl hl.1 (Nat.le_of_ble_eq_true rfl) dX7_flows_3 (rk (by decide) (by decide)) ⟨Nat.le_refl _, Nat.le_refl _⟩ (fun U3 H locs p3 hP hS => ?_)
  subst p3
  refine lv_aload_n hx hb dX7_flows_6 rfl (hl.at rfl) ?_
  refine lv_iload_n hx hb dX7_flows_7 rfl (hl.at rfl) ?_
  refine lv_aload_n hx hb dX7_flows_8 rfl (hl.at rfl) ?_
  refine x_iSU hC hK hP hS (x_at hK (ci := 7) rfl) (x_rPO hK hP hw1 hw2 hw rfl) (cX6_flows_1 hn hD hw1 hw2 hw rfl (ran_le ht) hnu hkd hmm) csu_X7_32 rfl rfl hl.1 (Nat.le_of_ble_eq_true rfl) dX7_flows_9 (rk (by decide) (by decide)) ⟨Nat.le_refl _, Nat.le_refl _⟩ (fun r9 U9 H locs p9 hP hS => ?_)
  refine lv_iconst (v := nI 4) hx hb dX7_flows_12 rfl ?_
  refine lv_isub hx hb dX7_flows_13 ?_
  refine hret _ _ ls _ _ _ hP hS dX7_flows_14 ?_
  rw [p9.1, p9.2]; exact ⟨rfl, rfl⟩
theorem cX7_flows_4 {l : Launch} {D : va_G} {cA : Nat → ClassId} {ad : Nat → Nat} {n : Nat} {f0 : Nat → va_E} {ρ : Nat → Nat → Option Nat} {r : Nat × Nat} {U : Nat → Nat → Nat → Int32} (hn : 81 ≤ n) {A : Nat → Prop} (hD : gD A ad n) {w : Nat} {nu mm : Int32} (hw1 : 81 ≤ w) (hw2 : w < n) (hw : f0 w = .inr (10, [.int nu, .int mm])) {U0 : Tta} {t : TR} (hU : U = uT U0 t) (ht : t.2 ≤ 30) {x : Int32} {S : Sta} {k : Nat} (hnu : nu = nI k) (hkd : S 5 k = nI 4) (hmm : mm = S 6 k) : XI l D cA ad n f0 ρ r U A yX7_flows cX7_flows 3 (some .int) (2) [.ref (ad w), .int x, .ref (ad 69)] (fun v V => v = (vf1 k x t).1 ∧ V = uT U0 (vf1 k x t).2) := by
  refine Ci.of rfl (by decide +kernel) (Nat.le_of_ble_eq_true rfl) ?_
  intro p e s m args below meth c Q hC hK hP hret ls hl
  have hx := hC.1
  have hb := hC.2.1
  have hown := hC.2.2.2.1
  have hts := hC.2.2.2.2
  have hS : va_S A s.heap s.heap [] := va_S.rf
  subst hU
  refine lv_aload_n hx hb dX7_flows_0 rfl (hl.at rfl) ?_
  refine lv_bipush (v := nI 20) hx hb dX7_flows_1 rfl ?_
  refine x_vV hC hK hP hS (x_rTR hK hP hn) (cX3_ran_ hn hD rfl ht (q := 20) rfl (by decide)) cv_X7_26 rfl rfl hl.1 (Nat.le_of_ble_eq_true rfl) dX7_flows_3 (rk (by decide) (by decide)) ⟨Nat.le_refl _, Nat.le_refl _⟩ (fun U3 H locs p3 hP hS => ?_)
  subst p3
  refine lv_aload_n hx hb dX7_flows_6 rfl (hl.at rfl) ?_
  refine lv_iload_n hx hb dX7_flows_7 rfl (hl.at rfl) ?_
  refine lv_aload_n hx hb dX7_flows_8 rfl (hl.at rfl) ?_
  refine x_iSU hC hK hP hS (x_at hK (ci := 10) rfl) (x_rPO hK hP hw1 hw2 hw rfl) (cX6_flows_4 hn hD hw1 hw2 hw rfl (ran_le ht) hnu hkd hmm) csu_X7_32 rfl rfl hl.1 (Nat.le_of_ble_eq_true rfl) dX7_flows_9 (rk (by decide) (by decide)) ⟨Nat.le_refl _, Nat.le_refl _⟩ (fun r9 U9 H locs p9 hP hS => ?_)
  refine lv_iconst (v := nI 4) hx hb dX7_flows_12 rfl ?_
  refine lv_isub hx hb dX7_flows_13 ?_
  refine hret _ _ ls _ _ _ hP hS dX7_flows_14 ?_
  rw [p9.1, p9.2]; exact ⟨rfl, rfl⟩
theorem csu_X10_21 : CSU RX10 21 yX7_flows cX7_flows 3 (some .int) 2 := ⟨lw_SU q1106 q1774 q413 q1107 q90 q1108, by decide +kernel⟩
theorem cv_X10_15 : CV RX10 RX3 15 yX3_ran cX3_ran 2 (none) 1 := ⟨lw_V q1102 q1103 q1104 q86 q1105, by decide +kernel⟩
theorem cX10_flows_4 {l : Launch} {D : va_G} {cA : Nat → ClassId} {ad : Nat → Nat} {n : Nat} {f0 : Nat → va_E} {ρ : Nat → Nat → Option Nat} {r : Nat × Nat} {U : Nat → Nat → Nat → Int32} (hn : 81 ≤ n) {A : Nat → Prop} (hD : gD A ad n) {w : Nat} {nu mm : Int32} (hw1 : 81 ≤ w) (hw2 : w < n) (hw : f0 w = .inr (10, [.int nu, .int mm])) {U0 : Tta} {t : TR} (hU : U = uT U0 t) (ht : t.2 ≤ 30) {x : Int32} {S : Sta} {k : Nat} (hnu : nu = nI k) (hkd : S 5 k = nI 4) (hmm : mm = S 6 k) : XI l D cA ad n f0 ρ r U A yX10_flows cX10_flows 3 (some .int) (3) [.ref (ad w), .int x, .ref (ad 69)] (fun v V => v = (vf k 4 x t).1 ∧ V = uT U0 (vf k 4 x t).2) := by
  refine Ci.of rfl (by decide +kernel) (Nat.le_of_ble_eq_true rfl) ?_
  intro p e s m args below meth c Q hC hK hP hret ls hl
  have hx := hC.1
  have hb := hC.2.1
  have hown := hC.2.2.2.1
  have hts := hC.2.2.2.2
  have hS : va_S A s.heap s.heap [] := va_S.rf
  subst hU
  refine lv_aload_n hx hb dX10_flows_0 rfl (hl.at rfl) ?_
  refine lv_bipush (v := nI 50) hx hb dX10_flows_1 rfl ?_
  refine x_vV hC hK hP hS (x_rTR hK hP hn) (cX3_ran_ hn hD rfl ht (q := 50) rfl (by decide)) cv_X10_15 rfl rfl hl.1 (Nat.le_of_ble_eq_true rfl) dX10_flows_3 (rk (by decide) (by decide)) ⟨Nat.le_refl _, Nat.le_refl _⟩ (fun U3 H locs p3 hP hS => ?_)
  subst p3
  refine lv_aload_n hx hb dX10_flows_6 rfl (hl.at rfl) ?_
  refine lv_iload_n hx hb dX10_flows_7 rfl (hl.at rfl) ?_
  refine lv_aload_n hx hb dX10_flows_8 rfl (hl.at rfl) ?_
  refine x_iSU hC hK hP hS (x_at hK (ci := 10) rfl) (x_rPO hK hP hw1 hw2 hw rfl) (cX7_flows_4 hn hD hw1 hw2 hw rfl (ran_le ht) hnu hkd hmm) csu_X10_21 rfl rfl hl.1 (Nat.le_of_ble_eq_true rfl) dX10_flows_9 (rk (by decide) (by decide)) ⟨Nat.le_refl _, Nat.le_refl _⟩ (fun r9 U9 H locs p9 hP hS => ?_)
  refine lv_iconst (v := nI 3) hx hb dX10_flows_12 rfl ?_
  refine lv_imul hx hb dX10_flows_13 ?_
  refine hret _ _ ls _ _ _ hP hS dX10_flows_14 ?_
  rw [p9.1, p9.2]; exact ⟨rfl, rfl⟩
theorem cv_X12_28 : CV RX12 RX3 28 yX3_ran cX3_ran 2 (none) 1 := ⟨lw_V q1115 q1103 q1104 q86 q1105, by decide +kernel⟩
theorem cX12_flows_6 {l : Launch} {D : va_G} {cA : Nat → ClassId} {ad : Nat → Nat} {n : Nat} {f0 : Nat → va_E} {ρ : Nat → Nat → Option Nat} {r : Nat × Nat} {U : Nat → Nat → Nat → Int32} (hn : 81 ≤ n) {A : Nat → Prop} (hD : gD A ad n) {w : Nat} {nu mm : Int32} (hw1 : 81 ≤ w) (hw2 : w < n) (hw : f0 w = .inr (12, [.int nu, .int mm])) {U0 : Tta} {t : TR} (hU : U = uT U0 t) (ht : t.2 ≤ 30) {x : Int32} {S : Sta} {k : Nat} (hnu : nu = nI k) (hkd : S 5 k = nI 6) (hmm : mm = S 6 k) : XI l D cA ad n f0 ρ r U A yX12_flows cX12_flows 3 (some .int) (1) [.ref (ad w), .int x, .ref (ad 69)] (fun v V => v = (vf k 6 x t).1 ∧ V = uT U0 (vf k 6 x t).2) := by
  refine Ci.of rfl (by decide +kernel) (Nat.le_of_ble_eq_true rfl) ?_
  intro p e s m args below meth c Q hC hK hP hret ls hl
  have hx := hC.1
  have hb := hC.2.1
  have hown := hC.2.2.2.1
  have hts := hC.2.2.2.2
  have hS : va_S A s.heap s.heap [] := va_S.rf
  subst hU
  refine lv_aload_n hx hb dX12_flows_0 rfl (hl.at rfl) ?_
  refine lv_bipush (v := nI 70) hx hb dX12_flows_1 rfl ?_
  refine x_vV hC hK hP hS (x_rTR hK hP hn) (cX3_ran_ hn hD rfl ht (q := 70) rfl (by decide)) cv_X12_28 rfl rfl hl.1 (Nat.le_of_ble_eq_true rfl) dX12_flows_3 (rk (by decide) (by decide)) ⟨Nat.le_refl _, Nat.le_refl _⟩ (fun U3 H locs p3 hP hS => ?_)
  subst p3
  refine lv_iconst (v := nI 2) hx hb dX12_flows_6 rfl ?_
  refine hret _ _ ls _ _ _ hP hS dX12_flows_7 ?_
  exact ⟨rfl, rfl⟩
theorem cf_X17_7_X6 : CF RX17 RX6 7 (⟨RX17, "flows", "(ILWheelBrook$Trace;)I"⟩ : MethodName) yX6_flows cX6_flows 3 (some .int) 2 := ⟨lw_F q1128 q1154 q1093 q89 q1116, ⟨q1130, q1129, rfl, q1134, q1155, q1153⟩, by decide +kernel⟩
theorem cv_X17_1 : CV RX17 RX3 1 yX3_ran cX3_ran 2 (none) 1 := ⟨lw_V q1126 q1103 q1104 q86 q1105, by decide +kernel⟩
theorem cX17_turned_0 {l : Launch} {D : va_G} {cA : Nat → ClassId} {ad : Nat → Nat} {n : Nat} {f0 : Nat → va_E} {ρ : Nat → Nat → Option Nat} {r : Nat × Nat} {U : Nat → Nat → Nat → Int32} (hn : 81 ≤ n) {A : Nat → Prop} (hD : gD A ad n) {w : Nat} {nu mm : Int32} (hw1 : 81 ≤ w) (hw2 : w < n) (hw : f0 w = .inr (6, [.int nu, .int mm])) {U0 : Tta} {t : TR} (hU : U = uT U0 t) (ht : t.2 ≤ 30) {x : Int32} {S : Sta} {k : Nat} (hnu : nu = nI k) (hkd : S 5 k = nI 0) (hmm : mm = S 6 k) : XId l D cA ad n f0 ρ r U A yX17_turned cX17_turned 3 (some .int) (4) [.ref (ad w), .int x, .ref (ad 69)] (fun v V => v = (vt0 S k x t).1 ∧ V = uT U0 (vt0 S k x t).2) := by
  refine Di.of rfl (by decide +kernel) (Nat.le_of_ble_eq_true rfl) ?_
  intro p e s m args below meth c Q hC hK hP hret ls hl
  have hx := hC.1
  have hb := hC.2.1
  have hown := hC.2.2.2.1
  have hts := hC.2.2.2.2
  have hS : va_S A s.heap s.heap [] := va_S.rf
  subst hU
  refine lv_aload_n hx hb dX17_turned_0 rfl (hl.at rfl) ?_
  refine lv_bipush (v := nI 11) hx hb dX17_turned_1 rfl ?_
  refine x_vV hC hK hP hS (x_rTR hK hP hn) (cX3_ran_ hn hD rfl ht (q := 11) rfl (by decide)) cv_X17_1 rfl rfl hl.1 (Nat.le_of_ble_eq_true rfl) dX17_turned_3 (rk (by decide) (by decide)) ⟨Nat.le_refl _, Nat.le_refl _⟩ (fun U3 H locs p3 hP hS => ?_)
  subst p3
  refine lv_aload_n hx hb dX17_turned_6 rfl (hl.at rfl) ?_
  refine lv_iload_n hx hb dX17_turned_7 rfl (hl.at rfl) ?_
  refine lv_aload_n hx hb dX17_turned_8 rfl (hl.at rfl) ?_
  refine x_iF (ci := 6) hC hK hP hS rfl (x_rPO hK hP hw1 hw2 hw rfl) (cX6_flows_0 hn hD hw1 hw2 hw rfl (ran_le ht) hnu hkd hmm) cf_X17_7_X6 rfl rfl hl.1 (Nat.le_of_ble_eq_true rfl) dX17_turned_9 (rk (by decide) (by decide)) ⟨Nat.le_refl _, Nat.le_refl _⟩ (fun r9 U9 H locs p9 hP hS => ?_)
  refine lv_iconst (v := nI 2) hx hb dX17_turned_14 rfl ?_
  refine lv_imul hx hb dX17_turned_15 ?_
  refine hret _ _ ls _ _ _ hP hS dX17_turned_16 ?_
  rw [vt0, hkd, cn_nI (by decide), p9.1, p9.2]; exact ⟨rfl, rfl⟩
theorem cf_X17_7_X7 : CF RX17 RX7 7 (⟨RX17, "flows", "(ILWheelBrook$Trace;)I"⟩ : MethodName) yX7_flows cX7_flows 3 (some .int) 2 := ⟨lw_F q1128 q1146 q1107 q90 q1108, ⟨q1130, q1129, rfl, q1148, q1147, q1145⟩, by decide +kernel⟩
theorem cX17_turned_1 {l : Launch} {D : va_G} {cA : Nat → ClassId} {ad : Nat → Nat} {n : Nat} {f0 : Nat → va_E} {ρ : Nat → Nat → Option Nat} {r : Nat × Nat} {U : Nat → Nat → Nat → Int32} (hn : 81 ≤ n) {A : Nat → Prop} (hD : gD A ad n) {w : Nat} {nu mm : Int32} (hw1 : 81 ≤ w) (hw2 : w < n) (hw : f0 w = .inr (7, [.int nu, .int mm])) {U0 : Tta} {t : TR} (hU : U = uT U0 t) (ht : t.2 ≤ 30) {x : Int32} {S : Sta} {k : Nat} (hnu : nu = nI k) (hkd : S 5 k = nI 1) (hmm : mm = S 6 k) : XId l D cA ad n f0 ρ r U A yX17_turned cX17_turned 3 (some .int) (4) [.ref (ad w), .int x, .ref (ad 69)] (fun v V => v = (vt0 S k x t).1 ∧ V = uT U0 (vt0 S k x t).2) := by
  refine Di.of rfl (by decide +kernel) (Nat.le_of_ble_eq_true rfl) ?_
  intro p e s m args below meth c Q hC hK hP hret ls hl
  have hx := hC.1
  have hb := hC.2.1
  have hown := hC.2.2.2.1
  have hts := hC.2.2.2.2
  have hS : va_S A s.heap s.heap [] := va_S.rf
  subst hU
  refine lv_aload_n hx hb dX17_turned_0 rfl (hl.at rfl) ?_
  refine lv_bipush (v := nI 11) hx hb dX17_turned_1 rfl ?_
  refine x_vV hC hK hP hS (x_rTR hK hP hn) (cX3_ran_ hn hD rfl ht (q := 11) rfl (by decide)) cv_X17_1 rfl rfl hl.1 (Nat.le_of_ble_eq_true rfl) dX17_turned_3 (rk (by decide) (by decide)) ⟨Nat.le_refl _, Nat.le_refl _⟩ (fun U3 H locs p3 hP hS => ?_)
  subst p3
  refine lv_aload_n hx hb dX17_turned_6 rfl (hl.at rfl) ?_
  refine lv_iload_n hx hb dX17_turned_7 rfl (hl.at rfl) ?_
  refine lv_aload_n hx hb dX17_turned_8 rfl (hl.at rfl) ?_
  refine x_iF (ci := 7) hC hK hP hS rfl (x_rPO hK hP hw1 hw2 hw rfl) (cX7_flows_1 hn hD hw1 hw2 hw rfl (ran_le ht) hnu hkd hmm) cf_X17_7_X7 rfl rfl hl.1 (Nat.le_of_ble_eq_true rfl) dX17_turned_9 (rk (by decide) (by decide)) ⟨Nat.le_refl _, Nat.le_refl _⟩ (fun r9 U9 H locs p9 hP hS => ?_)
  refine lv_iconst (v := nI 2) hx hb dX17_turned_14 rfl ?_
  refine lv_imul hx hb dX17_turned_15 ?_
  refine hret _ _ ls _ _ _ hP hS dX17_turned_16 ?_
  rw [vt0, hkd, cn_nI (by decide), p9.1, p9.2]; exact ⟨rfl, rfl⟩
theorem cf_X17_7_X8 : CF RX17 RX8 7 (⟨RX17, "flows", "(ILWheelBrook$Trace;)I"⟩ : MethodName) yX6_flows cX6_flows 3 (some .int) 2 := ⟨lw_F q1128 q1139 q1093 q89 q1116, ⟨q1130, q1129, rfl, q1134, q1140, q1138⟩, by decide +kernel⟩
theorem cX17_turned_2 {l : Launch} {D : va_G} {cA : Nat → ClassId} {ad : Nat → Nat} {n : Nat} {f0 : Nat → va_E} {ρ : Nat → Nat → Option Nat} {r : Nat × Nat} {U : Nat → Nat → Nat → Int32} (hn : 81 ≤ n) {A : Nat → Prop} (hD : gD A ad n) {w : Nat} {nu mm : Int32} (hw1 : 81 ≤ w) (hw2 : w < n) (hw : f0 w = .inr (8, [.int nu, .int mm])) {U0 : Tta} {t : TR} (hU : U = uT U0 t) (ht : t.2 ≤ 30) {x : Int32} {S : Sta} {k : Nat} (hnu : nu = nI k) (hkd : S 5 k = nI 2) (hmm : mm = S 6 k) : XId l D cA ad n f0 ρ r U A yX17_turned cX17_turned 3 (some .int) (4) [.ref (ad w), .int x, .ref (ad 69)] (fun v V => v = (vt0 S k x t).1 ∧ V = uT U0 (vt0 S k x t).2) := by
  refine Di.of rfl (by decide +kernel) (Nat.le_of_ble_eq_true rfl) ?_
  intro p e s m args below meth c Q hC hK hP hret ls hl
  have hx := hC.1
  have hb := hC.2.1
  have hown := hC.2.2.2.1
  have hts := hC.2.2.2.2
  have hS : va_S A s.heap s.heap [] := va_S.rf
  subst hU
  refine lv_aload_n hx hb dX17_turned_0 rfl (hl.at rfl) ?_
  refine lv_bipush (v := nI 11) hx hb dX17_turned_1 rfl ?_
  refine x_vV hC hK hP hS (x_rTR hK hP hn) (cX3_ran_ hn hD rfl ht (q := 11) rfl (by decide)) cv_X17_1 rfl rfl hl.1 (Nat.le_of_ble_eq_true rfl) dX17_turned_3 (rk (by decide) (by decide)) ⟨Nat.le_refl _, Nat.le_refl _⟩ (fun U3 H locs p3 hP hS => ?_)
  subst p3
  refine lv_aload_n hx hb dX17_turned_6 rfl (hl.at rfl) ?_
  refine lv_iload_n hx hb dX17_turned_7 rfl (hl.at rfl) ?_
  refine lv_aload_n hx hb dX17_turned_8 rfl (hl.at rfl) ?_
  refine x_iF (ci := 8) hC hK hP hS rfl (x_rPO hK hP hw1 hw2 hw rfl) (cX6_flows_2 hn hD hw1 hw2 hw rfl (ran_le ht) hnu hkd hmm) cf_X17_7_X8 rfl rfl hl.1 (Nat.le_of_ble_eq_true rfl) dX17_turned_9 (rk (by decide) (by decide)) ⟨Nat.le_refl _, Nat.le_refl _⟩ (fun r9 U9 H locs p9 hP hS => ?_)
  refine lv_iconst (v := nI 2) hx hb dX17_turned_14 rfl ?_
  refine lv_imul hx hb dX17_turned_15 ?_
  refine hret _ _ ls _ _ _ hP hS dX17_turned_16 ?_
  rw [vt0, hkd, cn_nI (by decide), p9.1, p9.2]; exact ⟨rfl, rfl⟩
theorem cf_X17_7_X9 : CF RX17 RX9 7 (⟨RX17, "flows", "(ILWheelBrook$Trace;)I"⟩ : MethodName) yX6_flows cX6_flows 3 (some .int) 2 := ⟨lw_F q1128 q1132 q1093 q89 q1116, ⟨q1130, q1129, rfl, q1134, q1133, q1131⟩, by decide +kernel⟩
theorem cX17_turned_3 {l : Launch} {D : va_G} {cA : Nat → ClassId} {ad : Nat → Nat} {n : Nat} {f0 : Nat → va_E} {ρ : Nat → Nat → Option Nat} {r : Nat × Nat} {U : Nat → Nat → Nat → Int32} (hn : 81 ≤ n) {A : Nat → Prop} (hD : gD A ad n) {w : Nat} {nu mm : Int32} (hw1 : 81 ≤ w) (hw2 : w < n) (hw : f0 w = .inr (9, [.int nu, .int mm])) {U0 : Tta} {t : TR} (hU : U = uT U0 t) (ht : t.2 ≤ 30) {x : Int32} {S : Sta} {k : Nat} (hnu : nu = nI k) (hkd : S 5 k = nI 3) (hmm : mm = S 6 k) : XId l D cA ad n f0 ρ r U A yX17_turned cX17_turned 3 (some .int) (4) [.ref (ad w), .int x, .ref (ad 69)] (fun v V => v = (vt0 S k x t).1 ∧ V = uT U0 (vt0 S k x t).2) := by
  refine Di.of rfl (by decide +kernel) (Nat.le_of_ble_eq_true rfl) ?_
  intro p e s m args below meth c Q hC hK hP hret ls hl
  have hx := hC.1
  have hb := hC.2.1
  have hown := hC.2.2.2.1
  have hts := hC.2.2.2.2
  have hS : va_S A s.heap s.heap [] := va_S.rf
  subst hU
  refine lv_aload_n hx hb dX17_turned_0 rfl (hl.at rfl) ?_
  refine lv_bipush (v := nI 11) hx hb dX17_turned_1 rfl ?_
  refine x_vV hC hK hP hS (x_rTR hK hP hn) (cX3_ran_ hn hD rfl ht (q := 11) rfl (by decide)) cv_X17_1 rfl rfl hl.1 (Nat.le_of_ble_eq_true rfl) dX17_turned_3 (rk (by decide) (by decide)) ⟨Nat.le_refl _, Nat.le_refl _⟩ (fun U3 H locs p3 hP hS => ?_)
  subst p3
  refine lv_aload_n hx hb dX17_turned_6 rfl (hl.at rfl) ?_
  refine lv_iload_n hx hb dX17_turned_7 rfl (hl.at rfl) ?_
  refine lv_aload_n hx hb dX17_turned_8 rfl (hl.at rfl) ?_
  refine x_iF (ci := 9) hC hK hP hS rfl (x_rPO hK hP hw1 hw2 hw rfl) (cX6_flows_3 hn hD hw1 hw2 hw rfl (ran_le ht) hnu hkd hmm) cf_X17_7_X9 rfl rfl hl.1 (Nat.le_of_ble_eq_true rfl) dX17_turned_9 (rk (by decide) (by decide)) ⟨Nat.le_refl _, Nat.le_refl _⟩ (fun r9 U9 H locs p9 hP hS => ?_)
  refine lv_iconst (v := nI 2) hx hb dX17_turned_14 rfl ?_
  refine lv_imul hx hb dX17_turned_15 ?_
  refine hret _ _ ls _ _ _ hP hS dX17_turned_16 ?_
  rw [vt0, hkd, cn_nI (by decide), p9.1, p9.2]; exact ⟨rfl, rfl⟩
theorem cf_X17_7_X10 : CF RX17 RX10 7 (⟨RX17, "flows", "(ILWheelBrook$Trace;)I"⟩ : MethodName) yX10_flows cX10_flows 3 (some .int) 2 := ⟨lw_F q1128 q1142 q1100 q93 q1101, ⟨q1130, q1129, rfl, q1144, q1143, q1141⟩, by decide +kernel⟩
theorem cX17_turned_4 {l : Launch} {D : va_G} {cA : Nat → ClassId} {ad : Nat → Nat} {n : Nat} {f0 : Nat → va_E} {ρ : Nat → Nat → Option Nat} {r : Nat × Nat} {U : Nat → Nat → Nat → Int32} (hn : 81 ≤ n) {A : Nat → Prop} (hD : gD A ad n) {w : Nat} {nu mm : Int32} (hw1 : 81 ≤ w) (hw2 : w < n) (hw : f0 w = .inr (10, [.int nu, .int mm])) {U0 : Tta} {t : TR} (hU : U = uT U0 t) (ht : t.2 ≤ 30) {x : Int32} {S : Sta} {k : Nat} (hnu : nu = nI k) (hkd : S 5 k = nI 4) (hmm : mm = S 6 k) : XId l D cA ad n f0 ρ r U A yX17_turned cX17_turned 3 (some .int) (4) [.ref (ad w), .int x, .ref (ad 69)] (fun v V => v = (vt0 S k x t).1 ∧ V = uT U0 (vt0 S k x t).2) := by
  refine Di.of rfl (by decide +kernel) (Nat.le_of_ble_eq_true rfl) ?_
  intro p e s m args below meth c Q hC hK hP hret ls hl
  have hx := hC.1
  have hb := hC.2.1
  have hown := hC.2.2.2.1
  have hts := hC.2.2.2.2
  have hS : va_S A s.heap s.heap [] := va_S.rf
  subst hU
  refine lv_aload_n hx hb dX17_turned_0 rfl (hl.at rfl) ?_
  refine lv_bipush (v := nI 11) hx hb dX17_turned_1 rfl ?_
  refine x_vV hC hK hP hS (x_rTR hK hP hn) (cX3_ran_ hn hD rfl ht (q := 11) rfl (by decide)) cv_X17_1 rfl rfl hl.1 (Nat.le_of_ble_eq_true rfl) dX17_turned_3 (rk (by decide) (by decide)) ⟨Nat.le_refl _, Nat.le_refl _⟩ (fun U3 H locs p3 hP hS => ?_)
  subst p3
  refine lv_aload_n hx hb dX17_turned_6 rfl (hl.at rfl) ?_
  refine lv_iload_n hx hb dX17_turned_7 rfl (hl.at rfl) ?_
  refine lv_aload_n hx hb dX17_turned_8 rfl (hl.at rfl) ?_
  refine x_iF (ci := 10) hC hK hP hS rfl (x_rPO hK hP hw1 hw2 hw rfl) (cX10_flows_4 hn hD hw1 hw2 hw rfl (ran_le ht) hnu hkd hmm) cf_X17_7_X10 rfl rfl hl.1 (Nat.le_of_ble_eq_true rfl) dX17_turned_9 (rk (by decide) (by decide)) ⟨Nat.le_refl _, Nat.le_refl _⟩ (fun r9 U9 H locs p9 hP hS => ?_)
  refine lv_iconst (v := nI 2) hx hb dX17_turned_14 rfl ?_
  refine lv_imul hx hb dX17_turned_15 ?_
  refine hret _ _ ls _ _ _ hP hS dX17_turned_16 ?_
  rw [vt0, hkd, cn_nI (by decide), p9.1, p9.2]; exact ⟨rfl, rfl⟩
theorem cf_X17_7_X11 : CF RX17 RX11 7 (⟨RX17, "flows", "(ILWheelBrook$Trace;)I"⟩ : MethodName) yX6_flows cX6_flows 3 (some .int) 2 := ⟨lw_F q1128 q1136 q1093 q89 q1116, ⟨q1130, q1129, rfl, q1134, q1137, q1135⟩, by decide +kernel⟩
theorem cX17_turned_5 {l : Launch} {D : va_G} {cA : Nat → ClassId} {ad : Nat → Nat} {n : Nat} {f0 : Nat → va_E} {ρ : Nat → Nat → Option Nat} {r : Nat × Nat} {U : Nat → Nat → Nat → Int32} (hn : 81 ≤ n) {A : Nat → Prop} (hD : gD A ad n) {w : Nat} {nu mm : Int32} (hw1 : 81 ≤ w) (hw2 : w < n) (hw : f0 w = .inr (11, [.int nu, .int mm])) {U0 : Tta} {t : TR} (hU : U = uT U0 t) (ht : t.2 ≤ 30) {x : Int32} {S : Sta} {k : Nat} (hnu : nu = nI k) (hkd : S 5 k = nI 5) (hmm : mm = S 6 k) : XId l D cA ad n f0 ρ r U A yX17_turned cX17_turned 3 (some .int) (4) [.ref (ad w), .int x, .ref (ad 69)] (fun v V => v = (vt0 S k x t).1 ∧ V = uT U0 (vt0 S k x t).2) := by
  refine Di.of rfl (by decide +kernel) (Nat.le_of_ble_eq_true rfl) ?_
  intro p e s m args below meth c Q hC hK hP hret ls hl
  have hx := hC.1
  have hb := hC.2.1
  have hown := hC.2.2.2.1
  have hts := hC.2.2.2.2
  have hS : va_S A s.heap s.heap [] := va_S.rf
  subst hU
  refine lv_aload_n hx hb dX17_turned_0 rfl (hl.at rfl) ?_
  refine lv_bipush (v := nI 11) hx hb dX17_turned_1 rfl ?_
  refine x_vV hC hK hP hS (x_rTR hK hP hn) (cX3_ran_ hn hD rfl ht (q := 11) rfl (by decide)) cv_X17_1 rfl rfl hl.1 (Nat.le_of_ble_eq_true rfl) dX17_turned_3 (rk (by decide) (by decide)) ⟨Nat.le_refl _, Nat.le_refl _⟩ (fun U3 H locs p3 hP hS => ?_)
  subst p3
  refine lv_aload_n hx hb dX17_turned_6 rfl (hl.at rfl) ?_
  refine lv_iload_n hx hb dX17_turned_7 rfl (hl.at rfl) ?_
  refine lv_aload_n hx hb dX17_turned_8 rfl (hl.at rfl) ?_
  refine x_iF (ci := 11) hC hK hP hS rfl (x_rPO hK hP hw1 hw2 hw rfl) (cX6_flows_5 hn hD hw1 hw2 hw rfl (ran_le ht) hnu hkd hmm) cf_X17_7_X11 rfl rfl hl.1 (Nat.le_of_ble_eq_true rfl) dX17_turned_9 (rk (by decide) (by decide)) ⟨Nat.le_refl _, Nat.le_refl _⟩ (fun r9 U9 H locs p9 hP hS => ?_)
  refine lv_iconst (v := nI 2) hx hb dX17_turned_14 rfl ?_
  refine lv_imul hx hb dX17_turned_15 ?_
  refine hret _ _ ls _ _ _ hP hS dX17_turned_16 ?_
  rw [vt0, hkd, cn_nI (by decide), p9.1, p9.2]; exact ⟨rfl, rfl⟩
theorem cf_X17_7_X12 : CF RX17 RX12 7 (⟨RX17, "flows", "(ILWheelBrook$Trace;)I"⟩ : MethodName) yX12_flows cX12_flows 3 (some .int) 2 := ⟨lw_F q1128 q1150 q1113 q95 q1114, ⟨q1130, q1129, rfl, q1152, q1151, q1149⟩, by decide +kernel⟩
theorem cX17_turned_6 {l : Launch} {D : va_G} {cA : Nat → ClassId} {ad : Nat → Nat} {n : Nat} {f0 : Nat → va_E} {ρ : Nat → Nat → Option Nat} {r : Nat × Nat} {U : Nat → Nat → Nat → Int32} (hn : 81 ≤ n) {A : Nat → Prop} (hD : gD A ad n) {w : Nat} {nu mm : Int32} (hw1 : 81 ≤ w) (hw2 : w < n) (hw : f0 w = .inr (12, [.int nu, .int mm])) {U0 : Tta} {t : TR} (hU : U = uT U0 t) (ht : t.2 ≤ 30) {x : Int32} {S : Sta} {k : Nat} (hnu : nu = nI k) (hkd : S 5 k = nI 6) (hmm : mm = S 6 k) : XId l D cA ad n f0 ρ r U A yX17_turned cX17_turned 3 (some .int) (4) [.ref (ad w), .int x, .ref (ad 69)] (fun v V => v = (vt0 S k x t).1 ∧ V = uT U0 (vt0 S k x t).2) := by
  refine Di.of rfl (by decide +kernel) (Nat.le_of_ble_eq_true rfl) ?_
  intro p e s m args below meth c Q hC hK hP hret ls hl
  have hx := hC.1
  have hb := hC.2.1
  have hown := hC.2.2.2.1
  have hts := hC.2.2.2.2
  have hS : va_S A s.heap s.heap [] := va_S.rf
  subst hU
  refine lv_aload_n hx hb dX17_turned_0 rfl (hl.at rfl) ?_
  refine lv_bipush (v := nI 11) hx hb dX17_turned_1 rfl ?_
  refine x_vV hC hK hP hS (x_rTR hK hP hn) (cX3_ran_ hn hD rfl ht (q := 11) rfl (by decide)) cv_X17_1 rfl rfl hl.1 (Nat.le_of_ble_eq_true rfl) dX17_turned_3 (rk (by decide) (by decide)) ⟨Nat.le_refl _, Nat.le_refl _⟩ (fun U3 H locs p3 hP hS => ?_)
  subst p3
  refine lv_aload_n hx hb dX17_turned_6 rfl (hl.at rfl) ?_
  refine lv_iload_n hx hb dX17_turned_7 rfl (hl.at rfl) ?_
  refine lv_aload_n hx hb dX17_turned_8 rfl (hl.at rfl) ?_
  refine x_iF (ci := 12) hC hK hP hS rfl (x_rPO hK hP hw1 hw2 hw rfl) (cX12_flows_6 hn hD hw1 hw2 hw rfl (ran_le ht) hnu hkd hmm) cf_X17_7_X12 rfl rfl hl.1 (Nat.le_of_ble_eq_true rfl) dX17_turned_9 (rk (by decide) (by decide)) ⟨Nat.le_refl _, Nat.le_refl _⟩ (fun r9 U9 H locs p9 hP hS => ?_)
  refine lv_iconst (v := nI 2) hx hb dX17_turned_14 rfl ?_
  refine lv_imul hx hb dX17_turned_15 ?_
  refine hret _ _ ls _ _ _ hP hS dX17_turned_16 ?_
  rw [vt0, hkd, cn_nI (by decide), p9.1, p9.2]; exact ⟨rfl, rfl⟩
theorem cd_X17_turned : CD yX17_turned cX17_turned 3 (some .int) 2 := ⟨lw_meth q1125, q1124, by decide +kernel, by decide +kernel, by decide +kernel⟩
theorem cds_X8_29 : CDS RX8 29 (⟨RX6, "turned", "(ILWheelBrook$Trace;)I"⟩ : MethodName) yX17_turned := ⟨List.mem_of_getElem? (i := 12) rfl, List.mem_of_getElem? (i := 9) rfl, rfl, by decide +kernel, q395, List.mem_of_getElem? (i := 14) rfl⟩
theorem cv_X8_23 : CV RX8 RX3 23 yX3_ran cX3_ran 2 (none) 1 := ⟨lw_V q1159 q1103 q1104 q86 q1105, by decide +kernel⟩
theorem cX8_turned_2 {l : Launch} {D : va_G} {cA : Nat → ClassId} {ad : Nat → Nat} {n : Nat} {f0 : Nat → va_E} {ρ : Nat → Nat → Option Nat} {r : Nat × Nat} {U : Nat → Nat → Nat → Int32} (hn : 81 ≤ n) {A : Nat → Prop} (hD : gD A ad n) {w : Nat} {nu mm : Int32} (hw1 : 81 ≤ w) (hw2 : w < n) (hw : f0 w = .inr (8, [.int nu, .int mm])) {U0 : Tta} {t : TR} (hU : U = uT U0 t) (ht : t.2 ≤ 30) {x : Int32} {S : Sta} {k : Nat} (hnu : nu = nI k) (hkd : S 5 k = nI 2) (hmm : mm = S 6 k) : XI l D cA ad n f0 ρ r U A yX8_turned cX8_turned 3 (some .int) (5) [.ref (ad w), .int x, .ref (ad 69)] (fun v V => v = (vt S k 2 x t).1 ∧ V = uT U0 (vt S k 2 x t).2) := by
  refine Ci.of rfl (by decide +kernel) (Nat.le_of_ble_eq_true rfl) ?_
  intro p e s m args below meth c Q hC hK hP hret ls hl
  have hx := hC.1
  have hb := hC.2.1
  have hown := hC.2.2.2.1
  have hts := hC.2.2.2.2
  have hS : va_S A s.heap s.heap [] := va_S.rf
  subst hU
  refine lv_aload_n hx hb dX8_turned_0 rfl (hl.at rfl) ?_
  refine lv_bipush (v := nI 30) hx hb dX8_turned_1 rfl ?_
  refine x_vV hC hK hP hS (x_rTR hK hP hn) (cX3_ran_ hn hD rfl ht (q := 30) rfl (by decide)) cv_X8_23 rfl rfl hl.1 (Nat.le_of_ble_eq_true rfl) dX8_turned_3 (rk (by decide) (by decide)) ⟨Nat.le_refl _, Nat.le_refl _⟩ (fun U3 H locs p3 hP hS => ?_)
  subst p3
  refine lv_iconst (v := nI 0) hx hb dX8_turned_6 rfl ?_
  refine lv_aload_n hx hb dX8_turned_7 rfl (hl.at rfl) ?_
  refine lv_iload_n hx hb dX8_turned_8 rfl (hl.at rfl) ?_
  refine lv_aload_n hx hb dX8_turned_9 rfl (hl.at rfl) ?_
  refine x_iSD (ci := 8) hC hK hP hS rfl (x_rPO hK hP hw1 hw2 hw rfl) (cX17_turned_2 hn hD hw1 hw2 hw rfl (ran_le ht) hnu hkd hmm) cd_X17_turned cds_X8_29 rfl rfl hl.1 (Nat.le_of_ble_eq_true rfl) dX8_turned_10 (rk (by decide) (by decide)) ⟨Nat.le_refl _, Nat.le_refl _⟩ (fun r10 U10 H locs p10 hP hS => ?_)
  refine lv_isub hx hb dX8_turned_13 ?_
  refine hret _ _ ls _ _ _ hP hS dX8_turned_14 ?_
  rw [p10.1, p10.2]; exact ⟨rfl, rfl⟩
theorem cds_X11_21 : CDS RX11 21 (⟨RX9, "turned", "(ILWheelBrook$Trace;)I"⟩ : MethodName) yX17_turned := ⟨List.mem_of_getElem? (i := 10) rfl, List.mem_of_getElem? (i := 11) rfl, rfl, by decide +kernel, q422, List.mem_of_getElem? (i := 0) rfl⟩
theorem cv_X11_15 : CV RX11 RX3 15 yX3_ran cX3_ran 2 (none) 1 := ⟨lw_V q1123 q1103 q1104 q86 q1105, by decide +kernel⟩
theorem cX11_turned_5 {l : Launch} {D : va_G} {cA : Nat → ClassId} {ad : Nat → Nat} {n : Nat} {f0 : Nat → va_E} {ρ : Nat → Nat → Option Nat} {r : Nat × Nat} {U : Nat → Nat → Nat → Int32} (hn : 81 ≤ n) {A : Nat → Prop} (hD : gD A ad n) {w : Nat} {nu mm : Int32} (hw1 : 81 ≤ w) (hw2 : w < n) (hw : f0 w = .inr (11, [.int nu, .int mm])) {U0 : Tta} {t : TR} (hU : U = uT U0 t) (ht : t.2 ≤ 30) {x : Int32} {S : Sta} {k : Nat} (hnu : nu = nI k) (hkd : S 5 k = nI 5) (hmm : mm = S 6 k) : XI l D cA ad n f0 ρ r U A yX11_turned cX11_turned 3 (some .int) (5) [.ref (ad w), .int x, .ref (ad 69)] (fun v V => v = (vt S k 5 x t).1 ∧ V = uT U0 (vt S k 5 x t).2) := by
  refine Ci.of rfl (by decide +kernel) (Nat.le_of_ble_eq_true rfl) ?_
  intro p e s m args below meth c Q hC hK hP hret ls hl
  have hx := hC.1
  have hb := hC.2.1
  have hown := hC.2.2.2.1
  have hts := hC.2.2.2.2
  have hS : va_S A s.heap s.heap [] := va_S.rf
  subst hU
  refine lv_aload_n hx hb dX11_turned_0 rfl (hl.at rfl) ?_
  refine lv_bipush (v := nI 60) hx hb dX11_turned_1 rfl ?_
  refine x_vV hC hK hP hS (x_rTR hK hP hn) (cX3_ran_ hn hD rfl ht (q := 60) rfl (by decide)) cv_X11_15 rfl rfl hl.1 (Nat.le_of_ble_eq_true rfl) dX11_turned_3 (rk (by decide) (by decide)) ⟨Nat.le_refl _, Nat.le_refl _⟩ (fun U3 H locs p3 hP hS => ?_)
  subst p3
  refine lv_aload_n hx hb dX11_turned_6 rfl (hl.at rfl) ?_
  refine lv_iload_n hx hb dX11_turned_7 rfl (hl.at rfl) ?_
  refine lv_iconst (v := nI 1) hx hb dX11_turned_8 rfl ?_
  refine lv_iadd hx hb dX11_turned_9 ?_
  refine lv_aload_n hx hb dX11_turned_10 rfl (hl.at rfl) ?_
  refine x_iSD (ci := 11) hC hK hP hS rfl (x_rPO hK hP hw1 hw2 hw rfl) (cX17_turned_5 hn hD hw1 hw2 hw rfl (ran_le ht) hnu hkd hmm) cd_X17_turned cds_X11_21 rfl rfl hl.1 (Nat.le_of_ble_eq_true rfl) dX11_turned_11 (rk (by decide) (by decide)) ⟨Nat.le_refl _, Nat.le_refl _⟩ (fun r11 U11 H locs p11 hP hS => ?_)
  refine hret _ _ ls _ _ _ hP hS dX11_turned_14 ?_
  rw [p11.1, p11.2]; exact ⟨rfl, rfl⟩
theorem cds_X12_34 : CDS RX12 34 (⟨RX6, "turned", "(ILWheelBrook$Trace;)I"⟩ : MethodName) yX17_turned := ⟨List.mem_of_getElem? (i := 13) rfl, List.mem_of_getElem? (i := 9) rfl, rfl, by decide +kernel, q431, List.mem_of_getElem? (i := 14) rfl⟩
theorem cX12_turned_6 {l : Launch} {D : va_G} {cA : Nat → ClassId} {ad : Nat → Nat} {n : Nat} {f0 : Nat → va_E} {ρ : Nat → Nat → Option Nat} {r : Nat × Nat} {U : Nat → Nat → Nat → Int32} (hn : 81 ≤ n) {A : Nat → Prop} (hD : gD A ad n) {w : Nat} {nu mm : Int32} (hw1 : 81 ≤ w) (hw2 : w < n) (hw : f0 w = .inr (12, [.int nu, .int mm])) {U0 : Tta} {t : TR} (hU : U = uT U0 t) (ht : t.2 ≤ 30) {x : Int32} {S : Sta} {k : Nat} (hnu : nu = nI k) (hkd : S 5 k = nI 6) (hmm : mm = S 6 k) : XI l D cA ad n f0 ρ r U A yX12_turned cX12_turned 3 (some .int) (5) [.ref (ad w), .int x, .ref (ad 69)] (fun v V => v = (vt S k 6 x t).1 ∧ V = uT U0 (vt S k 6 x t).2) := by
  refine Ci.of rfl (by decide +kernel) (Nat.le_of_ble_eq_true rfl) ?_
  intro p e s m args below meth c Q hC hK hP hret ls hl
  have hx := hC.1
  have hb := hC.2.1
  have hown := hC.2.2.2.1
  have hts := hC.2.2.2.2
  have hS : va_S A s.heap s.heap [] := va_S.rf
  subst hU
  refine lv_aload_n hx hb dX12_turned_0 rfl (hl.at rfl) ?_
  refine lv_bipush (v := nI 71) hx hb dX12_turned_1 rfl ?_
  refine x_vV hC hK hP hS (x_rTR hK hP hn) (cX3_ran_ hn hD rfl ht (q := 71) rfl (by decide)) cv_X12_28 rfl rfl hl.1 (Nat.le_of_ble_eq_true rfl) dX12_turned_3 (rk (by decide) (by decide)) ⟨Nat.le_refl _, Nat.le_refl _⟩ (fun U3 H locs p3 hP hS => ?_)
  subst p3
  refine lv_aload_n hx hb dX12_turned_6 rfl (hl.at rfl) ?_
  refine lv_iload_n hx hb dX12_turned_7 rfl (hl.at rfl) ?_
  refine lv_aload_n hx hb dX12_turned_8 rfl (hl.at rfl) ?_
  refine x_iSD (ci := 12) hC hK hP hS rfl (x_rPO hK hP hw1 hw2 hw rfl) (cX17_turned_6 hn hD hw1 hw2 hw rfl (ran_le ht) hnu hkd hmm) cd_X17_turned cds_X12_34 rfl rfl hl.1 (Nat.le_of_ble_eq_true rfl) dX12_turned_9 (rk (by decide) (by decide)) ⟨Nat.le_refl _, Nat.le_refl _⟩ (fun r9 U9 H locs p9 hP hS => ?_)
  refine lv_aload_n hx hb dX12_turned_12 rfl (hl.at rfl) ?_
  refine c_getS hC hK hP w (hw2) (wo_po hw1 hw) rfl in_X12 1 (by decide) q379 q380 rfl dX12_turned_13 ?_
  refine lv_iadd hx hb dX12_turned_16 ?_
  refine hret _ _ ls _ _ _ hP hS dX12_turned_17 ?_
  rw [p9.1, p9.2, hmm]; exact ⟨rfl, rfl⟩
theorem cdv_X6_22_X6 : CDV RX6 RX6 22 (⟨RX6, "turned", "(ILWheelBrook$Trace;)I"⟩ : MethodName) yX17_turned := ⟨List.mem_of_getElem? (i := 14) rfl, List.mem_of_getElem? (i := 9) rfl, rfl, List.mem_of_getElem? (i := 14) rfl⟩
theorem cX6_prays_0 {l : Launch} {D : va_G} {cA : Nat → ClassId} {ad : Nat → Nat} {n : Nat} {f0 : Nat → va_E} {ρ : Nat → Nat → Option Nat} {r : Nat × Nat} {U : Nat → Nat → Nat → Int32} (hn : 81 ≤ n) {A : Nat → Prop} (hD : gD A ad n) {w : Nat} {nu mm : Int32} (hw1 : 81 ≤ w) (hw2 : w < n) (hw : f0 w = .inr (6, [.int nu, .int mm])) {U0 : Tta} {t : TR} (hU : U = uT U0 t) (ht : t.2 ≤ 30) {x : Int32} {S : Sta} {k : Nat} (hnu : nu = nI k) (hkd : S 5 k = nI 0) (hmm : mm = S 6 k) : XI l D cA ad n f0 ρ r U A yX6_prays cX6_prays 3 (some .int) (6) [.ref (ad w), .int x, .ref (ad 69)] (fun v V => v = (vp0 S k x t).1 ∧ V = uT U0 (vp0 S k x t).2) := by
  refine Ci.of rfl (by decide +kernel) (Nat.le_of_ble_eq_true rfl) ?_
  intro p e s m args below meth c Q hC hK hP hret ls hl
  have hx := hC.1
  have hb := hC.2.1
  have hown := hC.2.2.2.1
  have hts := hC.2.2.2.2
  have hS : va_S A s.heap s.heap [] := va_S.rf
  subst hU
  refine lv_aload_n hx hb dX6_prays_0 rfl (hl.at rfl) ?_
  refine lv_bipush (v := nI 12) hx hb dX6_prays_1 rfl ?_
  refine x_vV hC hK hP hS (x_rTR hK hP hn) (cX3_ran_ hn hD rfl ht (q := 12) rfl (by decide)) cv_X6_16 rfl rfl hl.1 (Nat.le_of_ble_eq_true rfl) dX6_prays_3 (rk (by decide) (by decide)) ⟨Nat.le_refl _, Nat.le_refl _⟩ (fun U3 H locs p3 hP hS => ?_)
  subst p3
  refine lv_aload_n hx hb dX6_prays_6 rfl (hl.at rfl) ?_
  refine lv_iload_n hx hb dX6_prays_7 rfl (hl.at rfl) ?_
  refine lv_aload_n hx hb dX6_prays_8 rfl (hl.at rfl) ?_
  refine x_iVD (ci := 6) hC hK hP hS rfl (x_rPO hK hP hw1 hw2 hw rfl) (cX17_turned_0 hn hD hw1 hw2 hw rfl (ran_le ht) hnu hkd hmm) cd_X17_turned cdv_X6_22_X6 rfl rfl hl.1 (Nat.le_of_ble_eq_true rfl) dX6_prays_9 (rk (by decide) (by decide)) ⟨Nat.le_refl _, Nat.le_refl _⟩ (fun r9 U9 H locs p9 hP hS => ?_)
  refine lv_aload_n hx hb dX6_prays_12 rfl (hl.at rfl) ?_
  refine c_get hC hK hP w (hw2) (wo_po hw1 hw) rfl in_X6 1 (by decide) q373 rfl rfl dX6_prays_13 ?_
  refine lv_isub hx hb dX6_prays_16 ?_
  refine hret _ _ ls _ _ _ hP hS dX6_prays_17 ?_
  rw [vp0, hkd, cn_nI (by decide), p9.1, p9.2, hmm]; exact ⟨rfl, rfl⟩
theorem cdv_X6_22_X7 : CDV RX6 RX7 22 (⟨RX6, "turned", "(ILWheelBrook$Trace;)I"⟩ : MethodName) yX17_turned := ⟨List.mem_of_getElem? (i := 14) rfl, List.mem_of_getElem? (i := 9) rfl, rfl, List.mem_of_getElem? (i := 8) rfl⟩
theorem cX6_prays_1 {l : Launch} {D : va_G} {cA : Nat → ClassId} {ad : Nat → Nat} {n : Nat} {f0 : Nat → va_E} {ρ : Nat → Nat → Option Nat} {r : Nat × Nat} {U : Nat → Nat → Nat → Int32} (hn : 81 ≤ n) {A : Nat → Prop} (hD : gD A ad n) {w : Nat} {nu mm : Int32} (hw1 : 81 ≤ w) (hw2 : w < n) (hw : f0 w = .inr (7, [.int nu, .int mm])) {U0 : Tta} {t : TR} (hU : U = uT U0 t) (ht : t.2 ≤ 30) {x : Int32} {S : Sta} {k : Nat} (hnu : nu = nI k) (hkd : S 5 k = nI 1) (hmm : mm = S 6 k) : XI l D cA ad n f0 ρ r U A yX6_prays cX6_prays 3 (some .int) (6) [.ref (ad w), .int x, .ref (ad 69)] (fun v V => v = (vp0 S k x t).1 ∧ V = uT U0 (vp0 S k x t).2) := by
  refine Ci.of rfl (by decide +kernel) (Nat.le_of_ble_eq_true rfl) ?_
  intro p e s m args below meth c Q hC hK hP hret ls hl
  have hx := hC.1
  have hb := hC.2.1
  have hown := hC.2.2.2.1
  have hts := hC.2.2.2.2
  have hS : va_S A s.heap s.heap [] := va_S.rf
  subst hU
  refine lv_aload_n hx hb dX6_prays_0 rfl (hl.at rfl) ?_
  refine lv_bipush (v := nI 12) hx hb dX6_prays_1 rfl ?_
  refine x_vV hC hK hP hS (x_rTR hK hP hn) (cX3_ran_ hn hD rfl ht (q := 12) rfl (by decide)) cv_X6_16 rfl rfl hl.1 (Nat.le_of_ble_eq_true rfl) dX6_prays_3 (rk (by decide) (by decide)) ⟨Nat.le_refl _, Nat.le_refl _⟩ (fun U3 H locs p3 hP hS => ?_)
  subst p3
  refine lv_aload_n hx hb dX6_prays_6 rfl (hl.at rfl) ?_
  refine lv_iload_n hx hb dX6_prays_7 rfl (hl.at rfl) ?_
  refine lv_aload_n hx hb dX6_prays_8 rfl (hl.at rfl) ?_
  refine x_iVD (ci := 7) hC hK hP hS rfl (x_rPO hK hP hw1 hw2 hw rfl) (cX17_turned_1 hn hD hw1 hw2 hw rfl (ran_le ht) hnu hkd hmm) cd_X17_turned cdv_X6_22_X7 rfl rfl hl.1 (Nat.le_of_ble_eq_true rfl) dX6_prays_9 (rk (by decide) (by decide)) ⟨Nat.le_refl _, Nat.le_refl _⟩ (fun r9 U9 H locs p9 hP hS => ?_)
  refine lv_aload_n hx hb dX6_prays_12 rfl (hl.at rfl) ?_
  refine c_get hC hK hP w (hw2) (wo_po hw1 hw) rfl in_X7 1 (by decide) q373 rfl rfl dX6_prays_13 ?_
  refine lv_isub hx hb dX6_prays_16 ?_
  refine hret _ _ ls _ _ _ hP hS dX6_prays_17 ?_
  rw [vp0, hkd, cn_nI (by decide), p9.1, p9.2, hmm]; exact ⟨rfl, rfl⟩
theorem cvo_X6_22_X8 : CVO RX6 RX8 RX17 22 (⟨RX6, "turned", "(ILWheelBrook$Trace;)I"⟩ : MethodName) yX8_turned cX8_turned 3 (some .int) 2 := ⟨lw_meth q1158, q91, q1157, List.mem_of_getElem? (i := 14) rfl, List.mem_of_getElem? (i := 9) rfl, q1118, q1156, by decide +kernel, by decide +kernel⟩
theorem cX6_prays_2 {l : Launch} {D : va_G} {cA : Nat → ClassId} {ad : Nat → Nat} {n : Nat} {f0 : Nat → va_E} {ρ : Nat → Nat → Option Nat} {r : Nat × Nat} {U : Nat → Nat → Nat → Int32} (hn : 81 ≤ n) {A : Nat → Prop} (hD : gD A ad n) {w : Nat} {nu mm : Int32} (hw1 : 81 ≤ w) (hw2 : w < n) (hw : f0 w = .inr (8, [.int nu, .int mm])) {U0 : Tta} {t : TR} (hU : U = uT U0 t) (ht : t.2 ≤ 30) {x : Int32} {S : Sta} {k : Nat} (hnu : nu = nI k) (hkd : S 5 k = nI 2) (hmm : mm = S 6 k) : XI l D cA ad n f0 ρ r U A yX6_prays cX6_prays 3 (some .int) (6) [.ref (ad w), .int x, .ref (ad 69)] (fun v V => v = (vp0 S k x t).1 ∧ V = uT U0 (vp0 S k x t).2) := by
  refine Ci.of rfl (by decide +kernel) (Nat.le_of_ble_eq_true rfl) ?_
  intro p e s m args below meth c Q hC hK hP hret ls hl
  have hx := hC.1
  have hb := hC.2.1
  have hown := hC.2.2.2.1
  have hts := hC.2.2.2.2
  have hS : va_S A s.heap s.heap [] := va_S.rf
  subst hU
  refine lv_aload_n hx hb dX6_prays_0 rfl (hl.at rfl) ?_
  refine lv_bipush (v := nI 12) hx hb dX6_prays_1 rfl ?_
  refine x_vV hC hK hP hS (x_rTR hK hP hn) (cX3_ran_ hn hD rfl ht (q := 12) rfl (by decide)) cv_X6_16 rfl rfl hl.1 (Nat.le_of_ble_eq_true rfl) dX6_prays_3 (rk (by decide) (by decide)) ⟨Nat.le_refl _, Nat.le_refl _⟩ (fun U3 H locs p3 hP hS => ?_)
  subst p3
  refine lv_aload_n hx hb dX6_prays_6 rfl (hl.at rfl) ?_
  refine lv_iload_n hx hb dX6_prays_7 rfl (hl.at rfl) ?_
  refine lv_aload_n hx hb dX6_prays_8 rfl (hl.at rfl) ?_
  refine x_iVO (ci := 8) hC hK hP hS rfl (x_rPO hK hP hw1 hw2 hw rfl) (cX8_turned_2 hn hD hw1 hw2 hw rfl (ran_le ht) hnu hkd hmm) cvo_X6_22_X8 rfl rfl hl.1 (Nat.le_of_ble_eq_true rfl) dX6_prays_9 (rk (by decide) (by decide)) ⟨Nat.le_refl _, Nat.le_refl _⟩ (fun r9 U9 H locs p9 hP hS => ?_)
  refine lv_aload_n hx hb dX6_prays_12 rfl (hl.at rfl) ?_
  refine c_get hC hK hP w (hw2) (wo_po hw1 hw) rfl in_X8 1 (by decide) q373 rfl rfl dX6_prays_13 ?_
  refine lv_isub hx hb dX6_prays_16 ?_
  refine hret _ _ ls _ _ _ hP hS dX6_prays_17 ?_
  rw [vp0, hkd, cn_nI (by decide), p9.1, p9.2, hmm]; exact ⟨rfl, rfl⟩
theorem cdv_X6_22_X9 : CDV RX6 RX9 22 (⟨RX6, "turned", "(ILWheelBrook$Trace;)I"⟩ : MethodName) yX17_turned := ⟨List.mem_of_getElem? (i := 14) rfl, List.mem_of_getElem? (i := 9) rfl, rfl, List.mem_of_getElem? (i := 2) rfl⟩
theorem cX6_prays_3 {l : Launch} {D : va_G} {cA : Nat → ClassId} {ad : Nat → Nat} {n : Nat} {f0 : Nat → va_E} {ρ : Nat → Nat → Option Nat} {r : Nat × Nat} {U : Nat → Nat → Nat → Int32} (hn : 81 ≤ n) {A : Nat → Prop} (hD : gD A ad n) {w : Nat} {nu mm : Int32} (hw1 : 81 ≤ w) (hw2 : w < n) (hw : f0 w = .inr (9, [.int nu, .int mm])) {U0 : Tta} {t : TR} (hU : U = uT U0 t) (ht : t.2 ≤ 30) {x : Int32} {S : Sta} {k : Nat} (hnu : nu = nI k) (hkd : S 5 k = nI 3) (hmm : mm = S 6 k) : XI l D cA ad n f0 ρ r U A yX6_prays cX6_prays 3 (some .int) (6) [.ref (ad w), .int x, .ref (ad 69)] (fun v V => v = (vp0 S k x t).1 ∧ V = uT U0 (vp0 S k x t).2) := by
  refine Ci.of rfl (by decide +kernel) (Nat.le_of_ble_eq_true rfl) ?_
  intro p e s m args below meth c Q hC hK hP hret ls hl
  have hx := hC.1
  have hb := hC.2.1
  have hown := hC.2.2.2.1
  have hts := hC.2.2.2.2
  have hS : va_S A s.heap s.heap [] := va_S.rf
  subst hU
  refine lv_aload_n hx hb dX6_prays_0 rfl (hl.at rfl) ?_
  refine lv_bipush (v := nI 12) hx hb dX6_prays_1 rfl ?_
  refine x_vV hC hK hP hS (x_rTR hK hP hn) (cX3_ran_ hn hD rfl ht (q := 12) rfl (by decide)) cv_X6_16 rfl rfl hl.1 (Nat.le_of_ble_eq_true rfl) dX6_prays_3 (rk (by decide) (by decide)) ⟨Nat.le_refl _, Nat.le_refl _⟩ (fun U3 H locs p3 hP hS => ?_)
  subst p3
  refine lv_aload_n hx hb dX6_prays_6 rfl (hl.at rfl) ?_
  refine lv_iload_n hx hb dX6_prays_7 rfl (hl.at rfl) ?_
  refine lv_aload_n hx hb dX6_prays_8 rfl (hl.at rfl) ?_
  refine x_iVD (ci := 9) hC hK hP hS rfl (x_rPO hK hP hw1 hw2 hw rfl) (cX17_turned_3 hn hD hw1 hw2 hw rfl (ran_le ht) hnu hkd hmm) cd_X17_turned cdv_X6_22_X9 rfl rfl hl.1 (Nat.le_of_ble_eq_true rfl) dX6_prays_9 (rk (by decide) (by decide)) ⟨Nat.le_refl _, Nat.le_refl _⟩ (fun r9 U9 H locs p9 hP hS => ?_)
  refine lv_aload_n hx hb dX6_prays_12 rfl (hl.at rfl) ?_
  refine c_get hC hK hP w (hw2) (wo_po hw1 hw) rfl in_X9 1 (by decide) q373 rfl rfl dX6_prays_13 ?_
  refine lv_isub hx hb dX6_prays_16 ?_
  refine hret _ _ ls _ _ _ hP hS dX6_prays_17 ?_
  rw [vp0, hkd, cn_nI (by decide), p9.1, p9.2, hmm]; exact ⟨rfl, rfl⟩
theorem cdv_X6_22_X10 : CDV RX6 RX10 22 (⟨RX6, "turned", "(ILWheelBrook$Trace;)I"⟩ : MethodName) yX17_turned := ⟨List.mem_of_getElem? (i := 14) rfl, List.mem_of_getElem? (i := 9) rfl, rfl, List.mem_of_getElem? (i := 5) rfl⟩
theorem cX6_prays_4 {l : Launch} {D : va_G} {cA : Nat → ClassId} {ad : Nat → Nat} {n : Nat} {f0 : Nat → va_E} {ρ : Nat → Nat → Option Nat} {r : Nat × Nat} {U : Nat → Nat → Nat → Int32} (hn : 81 ≤ n) {A : Nat → Prop} (hD : gD A ad n) {w : Nat} {nu mm : Int32} (hw1 : 81 ≤ w) (hw2 : w < n) (hw : f0 w = .inr (10, [.int nu, .int mm])) {U0 : Tta} {t : TR} (hU : U = uT U0 t) (ht : t.2 ≤ 30) {x : Int32} {S : Sta} {k : Nat} (hnu : nu = nI k) (hkd : S 5 k = nI 4) (hmm : mm = S 6 k) : XI l D cA ad n f0 ρ r U A yX6_prays cX6_prays 3 (some .int) (6) [.ref (ad w), .int x, .ref (ad 69)] (fun v V => v = (vp0 S k x t).1 ∧ V = uT U0 (vp0 S k x t).2) := by
  refine Ci.of rfl (by decide +kernel) (Nat.le_of_ble_eq_true rfl) ?_
  intro p e s m args below meth c Q hC hK hP hret ls hl
  have hx := hC.1
  have hb := hC.2.1
  have hown := hC.2.2.2.1
  have hts := hC.2.2.2.2
  have hS : va_S A s.heap s.heap [] := va_S.rf
  subst hU
  refine lv_aload_n hx hb dX6_prays_0 rfl (hl.at rfl) ?_
  refine lv_bipush (v := nI 12) hx hb dX6_prays_1 rfl ?_
  refine x_vV hC hK hP hS (x_rTR hK hP hn) (cX3_ran_ hn hD rfl ht (q := 12) rfl (by decide)) cv_X6_16 rfl rfl hl.1 (Nat.le_of_ble_eq_true rfl) dX6_prays_3 (rk (by decide) (by decide)) ⟨Nat.le_refl _, Nat.le_refl _⟩ (fun U3 H locs p3 hP hS => ?_)
  subst p3
  refine lv_aload_n hx hb dX6_prays_6 rfl (hl.at rfl) ?_
  refine lv_iload_n hx hb dX6_prays_7 rfl (hl.at rfl) ?_
  refine lv_aload_n hx hb dX6_prays_8 rfl (hl.at rfl) ?_
  refine x_iVD (ci := 10) hC hK hP hS rfl (x_rPO hK hP hw1 hw2 hw rfl) (cX17_turned_4 hn hD hw1 hw2 hw rfl (ran_le ht) hnu hkd hmm) cd_X17_turned cdv_X6_22_X10 rfl rfl hl.1 (Nat.le_of_ble_eq_true rfl) dX6_prays_9 (rk (by decide) (by decide)) ⟨Nat.le_refl _, Nat.le_refl _⟩ (fun r9 U9 H locs p9 hP hS => ?_)
  refine lv_aload_n hx hb dX6_prays_12 rfl (hl.at rfl) ?_
  refine c_get hC hK hP w (hw2) (wo_po hw1 hw) rfl in_X10 1 (by decide) q373 rfl rfl dX6_prays_13 ?_
  refine lv_isub hx hb dX6_prays_16 ?_
  refine hret _ _ ls _ _ _ hP hS dX6_prays_17 ?_
  rw [vp0, hkd, cn_nI (by decide), p9.1, p9.2, hmm]; exact ⟨rfl, rfl⟩
theorem cvo_X6_22_X11 : CVO RX6 RX11 RX17 22 (⟨RX6, "turned", "(ILWheelBrook$Trace;)I"⟩ : MethodName) yX11_turned cX11_turned 3 (some .int) 2 := ⟨lw_meth q1122, q94, q1121, List.mem_of_getElem? (i := 14) rfl, List.mem_of_getElem? (i := 9) rfl, q1118, q1120, by decide +kernel, by decide +kernel⟩
theorem cX6_prays_5 {l : Launch} {D : va_G} {cA : Nat → ClassId} {ad : Nat → Nat} {n : Nat} {f0 : Nat → va_E} {ρ : Nat → Nat → Option Nat} {r : Nat × Nat} {U : Nat → Nat → Nat → Int32} (hn : 81 ≤ n) {A : Nat → Prop} (hD : gD A ad n) {w : Nat} {nu mm : Int32} (hw1 : 81 ≤ w) (hw2 : w < n) (hw : f0 w = .inr (11, [.int nu, .int mm])) {U0 : Tta} {t : TR} (hU : U = uT U0 t) (ht : t.2 ≤ 30) {x : Int32} {S : Sta} {k : Nat} (hnu : nu = nI k) (hkd : S 5 k = nI 5) (hmm : mm = S 6 k) : XI l D cA ad n f0 ρ r U A yX6_prays cX6_prays 3 (some .int) (6) [.ref (ad w), .int x, .ref (ad 69)] (fun v V => v = (vp0 S k x t).1 ∧ V = uT U0 (vp0 S k x t).2) := by
  refine Ci.of rfl (by decide +kernel) (Nat.le_of_ble_eq_true rfl) ?_
  intro p e s m args below meth c Q hC hK hP hret ls hl
  have hx := hC.1
  have hb := hC.2.1
  have hown := hC.2.2.2.1
  have hts := hC.2.2.2.2
  have hS : va_S A s.heap s.heap [] := va_S.rf
  subst hU
  refine lv_aload_n hx hb dX6_prays_0 rfl (hl.at rfl) ?_
  refine lv_bipush (v := nI 12) hx hb dX6_prays_1 rfl ?_
  refine x_vV hC hK hP hS (x_rTR hK hP hn) (cX3_ran_ hn hD rfl ht (q := 12) rfl (by decide)) cv_X6_16 rfl rfl hl.1 (Nat.le_of_ble_eq_true rfl) dX6_prays_3 (rk (by decide) (by decide)) ⟨Nat.le_refl _, Nat.le_refl _⟩ (fun U3 H locs p3 hP hS => ?_)
  subst p3
  refine lv_aload_n hx hb dX6_prays_6 rfl (hl.at rfl) ?_
  refine lv_iload_n hx hb dX6_prays_7 rfl (hl.at rfl) ?_
  refine lv_aload_n hx hb dX6_prays_8 rfl (hl.at rfl) ?_
  refine x_iVO (ci := 11) hC hK hP hS rfl (x_rPO hK hP hw1 hw2 hw rfl) (cX11_turned_5 hn hD hw1 hw2 hw rfl (ran_le ht) hnu hkd hmm) cvo_X6_22_X11 rfl rfl hl.1 (Nat.le_of_ble_eq_true rfl) dX6_prays_9 (rk (by decide) (by decide)) ⟨Nat.le_refl _, Nat.le_refl _⟩ (fun r9 U9 H locs p9 hP hS => ?_)
  refine lv_aload_n hx hb dX6_prays_12 rfl (hl.at rfl) ?_
  refine c_get hC hK hP w (hw2) (wo_po hw1 hw) rfl in_X11 1 (by decide) q373 rfl rfl dX6_prays_13 ?_
  refine lv_isub hx hb dX6_prays_16 ?_
  refine hret _ _ ls _ _ _ hP hS dX6_prays_17 ?_
  rw [vp0, hkd, cn_nI (by decide), p9.1, p9.2, hmm]; exact ⟨rfl, rfl⟩
theorem cvo_X6_22_X12 : CVO RX6 RX12 RX17 22 (⟨RX6, "turned", "(ILWheelBrook$Trace;)I"⟩ : MethodName) yX12_turned cX12_turned 3 (some .int) 2 := ⟨lw_meth q1164, q95, q1163, List.mem_of_getElem? (i := 14) rfl, List.mem_of_getElem? (i := 9) rfl, q1118, q1162, by decide +kernel, by decide +kernel⟩
theorem cX6_prays_6 {l : Launch} {D : va_G} {cA : Nat → ClassId} {ad : Nat → Nat} {n : Nat} {f0 : Nat → va_E} {ρ : Nat → Nat → Option Nat} {r : Nat × Nat} {U : Nat → Nat → Nat → Int32} (hn : 81 ≤ n) {A : Nat → Prop} (hD : gD A ad n) {w : Nat} {nu mm : Int32} (hw1 : 81 ≤ w) (hw2 : w < n) (hw : f0 w = .inr (12, [.int nu, .int mm])) {U0 : Tta} {t : TR} (hU : U = uT U0 t) (ht : t.2 ≤ 30) {x : Int32} {S : Sta} {k : Nat} (hnu : nu = nI k) (hkd : S 5 k = nI 6) (hmm : mm = S 6 k) : XI l D cA ad n f0 ρ r U A yX6_prays cX6_prays 3 (some .int) (6) [.ref (ad w), .int x, .ref (ad 69)] (fun v V => v = (vp0 S k x t).1 ∧ V = uT U0 (vp0 S k x t).2) := by
  refine Ci.of rfl (by decide +kernel) (Nat.le_of_ble_eq_true rfl) ?_
  intro p e s m args below meth c Q hC hK hP hret ls hl
  have hx := hC.1
  have hb := hC.2.1
  have hown := hC.2.2.2.1
  have hts := hC.2.2.2.2
  have hS : va_S A s.heap s.heap [] := va_S.rf
  subst hU
  refine lv_aload_n hx hb dX6_prays_0 rfl (hl.at rfl) ?_
  refine lv_bipush (v := nI 12) hx hb dX6_prays_1 rfl ?_
  refine x_vV hC hK hP hS (x_rTR hK hP hn) (cX3_ran_ hn hD rfl ht (q := 12) rfl (by decide)) cv_X6_16 rfl rfl hl.1 (Nat.le_of_ble_eq_true rfl) dX6_prays_3 (rk (by decide) (by decide)) ⟨Nat.le_refl _, Nat.le_refl _⟩ (fun U3 H locs p3 hP hS => ?_)
  subst p3
  refine lv_aload_n hx hb dX6_prays_6 rfl (hl.at rfl) ?_
  refine lv_iload_n hx hb dX6_prays_7 rfl (hl.at rfl) ?_
  refine lv_aload_n hx hb dX6_prays_8 rfl (hl.at rfl) ?_
  refine x_iVO (ci := 12) hC hK hP hS rfl (x_rPO hK hP hw1 hw2 hw rfl) (cX12_turned_6 hn hD hw1 hw2 hw rfl (ran_le ht) hnu hkd hmm) cvo_X6_22_X12 rfl rfl hl.1 (Nat.le_of_ble_eq_true rfl) dX6_prays_9 (rk (by decide) (by decide)) ⟨Nat.le_refl _, Nat.le_refl _⟩ (fun r9 U9 H locs p9 hP hS => ?_)
  refine lv_aload_n hx hb dX6_prays_12 rfl (hl.at rfl) ?_
  refine c_get hC hK hP w (hw2) (wo_po hw1 hw) rfl in_X12 1 (by decide) q373 rfl rfl dX6_prays_13 ?_
  refine lv_isub hx hb dX6_prays_16 ?_
  refine hret _ _ ls _ _ _ hP hS dX6_prays_17 ?_
  rw [vp0, hkd, cn_nI (by decide), p9.1, p9.2, hmm]; exact ⟨rfl, rfl⟩
theorem csu_X9_26 : CSU RX9 26 yX6_prays cX6_prays 3 (some .int) 2 := ⟨lw_SU q1175 q1170 q404 q1168 q89 q1186, by decide +kernel⟩
theorem cv_X9_20 : CV RX9 RX3 20 yX3_ran cX3_ran 2 (none) 1 := ⟨lw_V q1174 q1103 q1104 q86 q1105, by decide +kernel⟩
theorem cX9_prays_3 {l : Launch} {D : va_G} {cA : Nat → ClassId} {ad : Nat → Nat} {n : Nat} {f0 : Nat → va_E} {ρ : Nat → Nat → Option Nat} {r : Nat × Nat} {U : Nat → Nat → Nat → Int32} (hn : 81 ≤ n) {A : Nat → Prop} (hD : gD A ad n) {w : Nat} {nu mm : Int32} (hw1 : 81 ≤ w) (hw2 : w < n) (hw : f0 w = .inr (9, [.int nu, .int mm])) {U0 : Tta} {t : TR} (hU : U = uT U0 t) (ht : t.2 ≤ 30) {x : Int32} {S : Sta} {k : Nat} (hnu : nu = nI k) (hkd : S 5 k = nI 3) (hmm : mm = S 6 k) : XI l D cA ad n f0 ρ r U A yX9_prays cX9_prays 3 (some .int) (7) [.ref (ad w), .int x, .ref (ad 69)] (fun v V => v = (vp3 S k x t).1 ∧ V = uT U0 (vp3 S k x t).2) := by
  refine Ci.of rfl (by decide +kernel) (Nat.le_of_ble_eq_true rfl) ?_
  intro p e s m args below meth c Q hC hK hP hret ls hl
  have hx := hC.1
  have hb := hC.2.1
  have hown := hC.2.2.2.1
  have hts := hC.2.2.2.2
  have hS : va_S A s.heap s.heap [] := va_S.rf
  subst hU
  refine lv_aload_n hx hb dX9_prays_0 rfl (hl.at rfl) ?_
  refine lv_bipush (v := nI 40) hx hb dX9_prays_1 rfl ?_
  refine x_vV hC hK hP hS (x_rTR hK hP hn) (cX3_ran_ hn hD rfl ht (q := 40) rfl (by decide)) cv_X9_20 rfl rfl hl.1 (Nat.le_of_ble_eq_true rfl) dX9_prays_3 (rk (by decide) (by decide)) ⟨Nat.le_refl _, Nat.le_refl _⟩ (fun U3 H locs p3 hP hS => ?_)
  subst p3
  refine lv_aload_n hx hb dX9_prays_6 rfl (hl.at rfl) ?_
  refine lv_iload_n hx hb dX9_prays_7 rfl (hl.at rfl) ?_
  refine lv_iconst (v := nI 2) hx hb dX9_prays_8 rfl ?_
  refine lv_idiv hx hb dX9_prays_9 (nI_ne0 (by decide) (by decide)) ?_
  refine lv_aload_n hx hb dX9_prays_10 rfl (hl.at rfl) ?_
  refine x_iSU hC hK hP hS (x_at hK (ci := 9) rfl) (x_rPO hK hP hw1 hw2 hw rfl) (cX6_prays_3 hn hD hw1 hw2 hw rfl (ran_le ht) hnu hkd hmm) csu_X9_26 rfl rfl hl.1 (Nat.le_of_ble_eq_true rfl) dX9_prays_11 (rk (by decide) (by decide)) ⟨Nat.le_refl _, Nat.le_refl _⟩ (fun r11 U11 H locs p11 hP hS => ?_)
  refine hret _ _ ls _ _ _ hP hS dX9_prays_14 ?_
  rw [p11.1, p11.2]; exact ⟨rfl, rfl⟩
theorem cX9_prays_5 {l : Launch} {D : va_G} {cA : Nat → ClassId} {ad : Nat → Nat} {n : Nat} {f0 : Nat → va_E} {ρ : Nat → Nat → Option Nat} {r : Nat × Nat} {U : Nat → Nat → Nat → Int32} (hn : 81 ≤ n) {A : Nat → Prop} (hD : gD A ad n) {w : Nat} {nu mm : Int32} (hw1 : 81 ≤ w) (hw2 : w < n) (hw : f0 w = .inr (11, [.int nu, .int mm])) {U0 : Tta} {t : TR} (hU : U = uT U0 t) (ht : t.2 ≤ 30) {x : Int32} {S : Sta} {k : Nat} (hnu : nu = nI k) (hkd : S 5 k = nI 5) (hmm : mm = S 6 k) : XI l D cA ad n f0 ρ r U A yX9_prays cX9_prays 3 (some .int) (7) [.ref (ad w), .int x, .ref (ad 69)] (fun v V => v = (vp3 S k x t).1 ∧ V = uT U0 (vp3 S k x t).2) := by
  refine Ci.of rfl (by decide +kernel) (Nat.le_of_ble_eq_true rfl) ?_
  intro p e s m args below meth c Q hC hK hP hret ls hl
  have hx := hC.1
  have hb := hC.2.1
  have hown := hC.2.2.2.1
  have hts := hC.2.2.2.2
  have hS : va_S A s.heap s.heap [] := va_S.rf
  subst hU
  refine lv_aload_n hx hb dX9_prays_0 rfl (hl.at rfl) ?_
  refine lv_bipush (v := nI 40) hx hb dX9_prays_1 rfl ?_
  refine x_vV hC hK hP hS (x_rTR hK hP hn) (cX3_ran_ hn hD rfl ht (q := 40) rfl (by decide)) cv_X9_20 rfl rfl hl.1 (Nat.le_of_ble_eq_true rfl) dX9_prays_3 (rk (by decide) (by decide)) ⟨Nat.le_refl _, Nat.le_refl _⟩ (fun U3 H locs p3 hP hS => ?_)
  subst p3
  refine lv_aload_n hx hb dX9_prays_6 rfl (hl.at rfl) ?_
  refine lv_iload_n hx hb dX9_prays_7 rfl (hl.at rfl) ?_
  refine lv_iconst (v := nI 2) hx hb dX9_prays_8 rfl ?_
  refine lv_idiv hx hb dX9_prays_9 (nI_ne0 (by decide) (by decide)) ?_
  refine lv_aload_n hx hb dX9_prays_10 rfl (hl.at rfl) ?_
  refine x_iSU hC hK hP hS (x_at hK (ci := 11) rfl) (x_rPO hK hP hw1 hw2 hw rfl) (cX6_prays_5 hn hD hw1 hw2 hw rfl (ran_le ht) hnu hkd hmm) csu_X9_26 rfl rfl hl.1 (Nat.le_of_ble_eq_true rfl) dX9_prays_11 (rk (by decide) (by decide)) ⟨Nat.le_refl _, Nat.le_refl _⟩ (fun r11 U11 H locs p11 hP hS => ?_)
  refine hret _ _ ls _ _ _ hP hS dX9_prays_14 ?_
  rw [p11.1, p11.2]; exact ⟨rfl, rfl⟩
theorem csp_X10_25 : CSP RX10 RX7 25 (⟨RX7, "prays", "(ILWheelBrook$Trace;)I"⟩ : MethodName) yX6_prays cX6_prays 3 (some .int) 2 := ⟨lw_meth q1186, q89, q1168, q1181, q1182, q413, q386, rfl, by decide +kernel, by decide +kernel, rfl⟩
theorem cX10_prays_4 {l : Launch} {D : va_G} {cA : Nat → ClassId} {ad : Nat → Nat} {n : Nat} {f0 : Nat → va_E} {ρ : Nat → Nat → Option Nat} {r : Nat × Nat} {U : Nat → Nat → Nat → Int32} (hn : 81 ≤ n) {A : Nat → Prop} (hD : gD A ad n) {w : Nat} {nu mm : Int32} (hw1 : 81 ≤ w) (hw2 : w < n) (hw : f0 w = .inr (10, [.int nu, .int mm])) {U0 : Tta} {t : TR} (hU : U = uT U0 t) (ht : t.2 ≤ 30) {x : Int32} {S : Sta} {k : Nat} (hnu : nu = nI k) (hkd : S 5 k = nI 4) (hmm : mm = S 6 k) : XI l D cA ad n f0 ρ r U A yX10_prays cX10_prays 3 (some .int) (7) [.ref (ad w), .int x, .ref (ad 69)] (fun v V => v = (vp S k 4 x t).1 ∧ V = uT U0 (vp S k 4 x t).2) := by
  refine Ci.of rfl (by decide +kernel) (Nat.le_of_ble_eq_true rfl) ?_
  intro p e s m args below meth c Q hC hK hP hret ls hl
  have hx := hC.1
  have hb := hC.2.1
  have hown := hC.2.2.2.1
  have hts := hC.2.2.2.2
  have hS : va_S A s.heap s.heap [] := va_S.rf
  subst hU
  refine lv_aload_n hx hb dX10_prays_0 rfl (hl.at rfl) ?_
  refine lv_bipush (v := nI 51) hx hb dX10_prays_1 rfl ?_
  refine x_vV hC hK hP hS (x_rTR hK hP hn) (cX3_ran_ hn hD rfl ht (q := 51) rfl (by decide)) cv_X10_15 rfl rfl hl.1 (Nat.le_of_ble_eq_true rfl) dX10_prays_3 (rk (by decide) (by decide)) ⟨Nat.le_refl _, Nat.le_refl _⟩ (fun U3 H locs p3 hP hS => ?_)
  subst p3
  refine lv_aload_n hx hb dX10_prays_6 rfl (hl.at rfl) ?_
  refine lv_iload_n hx hb dX10_prays_7 rfl (hl.at rfl) ?_
  refine lv_aload_n hx hb dX10_prays_8 rfl (hl.at rfl) ?_
  refine x_iSP (ci := 10) hC hK hP hS rfl (x_rPO hK hP hw1 hw2 hw rfl) (cX6_prays_4 hn hD hw1 hw2 hw rfl (ran_le ht) hnu hkd hmm) csp_X10_25 rfl rfl hl.1 (Nat.le_of_ble_eq_true rfl) dX10_prays_9 (rk (by decide) (by decide)) ⟨Nat.le_refl _, Nat.le_refl _⟩ (fun r9 U9 H locs p9 hP hS => ?_)
  refine lv_aload_n hx hb dX10_prays_12 rfl (hl.at rfl) ?_
  refine c_getS hC hK hP w (hw2) (wo_po hw1 hw) rfl in_X10 0 (by decide) q371 q372 rfl dX10_prays_13 ?_
  refine lv_ixor hx hb dX10_prays_16 ?_
  refine hret _ _ ls _ _ _ hP hS dX10_prays_17 ?_
  rw [p9.1, p9.2, hnu]; exact ⟨rfl, rfl⟩
