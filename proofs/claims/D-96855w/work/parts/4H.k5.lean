theorem cX1_at_ {l : Launch} {D : va_G} {cA : Nat → ClassId} {ad : Nat → Nat} {n : Nat} {f0 : Nat → va_E} {ρ : Nat → Nat → Option Nat} {r : Nat × Nat} {U : Nat → Nat → Nat → Int32} (hn : 81 ≤ n) {a : Nat} (ha : a < 3) {x : Int32} {k w kd : Nat} {S : Sta} (hx1 : x = nI k) (hk : k < 8) (hWK : WK f0 n ρ S a k w kd) : Cr l (KC D cA) yX1_at cX1_at 2 RX6 (0) [.ref (ad (3 + 22 * a)), .int x] (XW D cA ad n f0 ρ r U) (fun q => q = ad w) := by
  refine Cr.of (by decide +kernel) (Nat.le_of_ble_eq_true rfl) ?_
  intro p e s m args below meth c Q hC hK hP hret ls hl
  have hx := hC.1
  have hb := hC.2.1
  have hown := hC.2.2.2.1
  have hts := hC.2.2.2.2
  subst hx1
  obtain ⟨w0, w1, w2, w3, w4, w5⟩ := hWK
  refine lv_aload_n hx hb dX1_at_0 rfl (hl.at rfl) ?_
  refine c_get hC hK hP (3 + 22 * a) (by omega) (wo_ho ha) rfl in_X1 10 (by decide) q163 rfl rfl dX1_at_1 ?_
  refine lv_iload_n hx hb dX1_at_4 rfl (hl.at rfl) ?_
  refine x_ald hC hK hP (3 + 22 * a + 5) (by omega) 3 (wo_wh ha) rfl k (rfl) (hk) (by decide) dX1_at_5 ?_
  refine c_getN hC hK hP (3 + 22 * a + 14 + k) (by omega) (wo_sl ha (hk)) rfl in_X2 0 (by decide) q135 rfl (show ([rf ad (ρ a k)] : List Value)[0]? = some (.ref (ad w)) from by simp [rf, w0, va_rf]) dX1_at_6 ?_
  refine x_cast hC hK hP w1 w2 w3 w5 q454 dX1_at_9 ?_
  refine hret ls _ _ dX1_at_12 ?_
  rfl
