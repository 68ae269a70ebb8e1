/-! wheels that come, wheels anew: plain laws -/
theorem op_wheel_er {km pf : Int32} {T : Tta} (h : ¬ ((nI 0 ≤ km ∧ km ≤ nI 69) ∧ (nI 0 ≤ pf ∧ pf ≤ nI 114) ∧ cn pf % 10 ≤ 4)) : op_wheel km pf T = er 1 T := by
  unfold op_wheel
  split
  · next h1 =>
    split
    · next h2 =>
      split
      · next h3 => exact absurd ⟨h1, h2, h3⟩ h
      · rfl
    · rfl
  · rfl
theorem pf_of {pf : Int32} (h : ¬ pf < 0) : ∃ c, c < 2 ^ 31 ∧ pf = nI c := by
  obtain ⟨k, hk, e⟩ := in_nI (x := pf) (n := 2147483647) ⟨Int32.not_lt.mp h, Int32.le_iff_toInt_le.mpr (by rw [show (nI 2147483647).toInt = 2147483647 from by decide]; exact Int32.toInt_le pf)⟩
  exact ⟨k, by omega, e⟩
theorem op_set_er {x q v : Int32} {T : Tta} (h : ¬ ((nI 0 ≤ x ∧ x ≤ T 0 0 0 - nI 1) ∧ (nI 0 ≤ q ∧ q ≤ nI 5) ∧ (nI 0 ≤ v ∧ v ≤ sp_most q))) : op_set x q v T = er 1 T := by
  unfold op_set
  split
  · next h1 =>
    split
    · next h2 =>
      split
      · next h3 => exact absurd ⟨h1, h2, h3⟩ h
      · rfl
    · rfl
  · rfl
theorem mo_in {q v m : Int32} (hp : (nI 0 ≤ q ∧ q ≤ nI 5 ∧ m = sp_most q) ∨ (¬ (nI 0 ≤ q ∧ q ≤ nI 5) ∧ m = -1)) (h : nI 0 ≤ v ∧ v ≤ m) : (nI 0 ≤ q ∧ q ≤ nI 5) ∧ (nI 0 ≤ v ∧ v ≤ sp_most q) := by
  rcases hp with ⟨a, b, rfl⟩ | ⟨_, rfl⟩
  · exact ⟨⟨a, b⟩, h⟩
  · exact absurd (Int32.le_trans h.1 h.2) (by decide)
theorem mo_out {q v m : Int32} (hp : (nI 0 ≤ q ∧ q ≤ nI 5 ∧ m = sp_most q) ∨ (¬ (nI 0 ≤ q ∧ q ≤ nI 5) ∧ m = -1)) (h : ¬ (nI 0 ≤ v ∧ v ≤ m)) : ¬ ((nI 0 ≤ q ∧ q ≤ nI 5) ∧ (nI 0 ≤ v ∧ v ≤ sp_most q)) := by
  rcases hp with ⟨_, _, rfl⟩ | ⟨a, _⟩
  · exact fun z => h z.2
  · exact fun z => a z.1
theorem most_bd {j : Nat} {v : Int32} (hj : j ≤ 4) (h : nI 0 ≤ v ∧ v ≤ sp_most (nI j)) : ∃ k, k ≤ 11 ∧ v = nI k ∧ (j = 0 → k ≤ 6) := by
  rcases (by omega : j = 0 ∨ j = 1 ∨ j = 2 ∨ j = 3 ∨ j = 4) with rfl | rfl | rfl | rfl | rfl
  · obtain ⟨k, hk, e⟩ := in_nI (n := 6) h; exact ⟨k, by omega, e, fun _ => hk⟩
  · obtain ⟨k, hk, e⟩ := in_nI (n := 9) h; exact ⟨k, by omega, e, fun z => by omega⟩
  · obtain ⟨k, hk, e⟩ := in_nI (n := 11) h; exact ⟨k, by omega, e, fun z => by omega⟩
  · obtain ⟨k, hk, e⟩ := in_nI (n := 4) h; exact ⟨k, by omega, e, fun z => by omega⟩
  · obtain ⟨k, hk, e⟩ := in_nI (n := 1) h; exact ⟨k, by omega, e, fun z => by omega⟩
theorem hq_re {cA : Nat → ClassId} {ad ad1 : Nat → Nat} {f0 : Nat → va_E} {n : Nat} {ρ : Rho} {S X : Sta} {a k kd : Nat} {mm : Int32} (h : HQ cA ad f0 n ρ S a) (ha : a < 3) (hn : 81 ≤ n) (hkd : kd ≤ 6) (had : ∀ k, k < n → ad1 k = ad k) (h0 : wh X = wh S) (h5 : X 5 = upd (S 5) k (nI kd)) (h6 : X 6 = upd (S 6) k mm) (h12 : X 12 = S 12) (h13 : X 13 = S 13) : HQ cA ad1 (va_up f0 n (.inr (6 + kd, [.int (nI k), .int mm]))) (n + 1) (rh ρ a k (some n)) X a := by
  have h2 := h.ext (Ext.one (e := .inr (6 + kd, [.int (nI k), .int mm])) had)
  refine ⟨fun j hj => ?_, fun u hu => ?_⟩
  · rw [h0] at hj
    unfold WK
    rw [h5, h6, rh_s]
    by_cases ej : j = k
    · subst ej
      exact ⟨n, kd, va_up_self _ _ _, hn, by omega, hkd, pk_us, by rw [pk_us, va_up_self]⟩
    · obtain ⟨w, kd', g0, g1, g2, g3, g4, g5⟩ := h2.1 j hj
      exact ⟨w, kd', by rw [va_up_ne _ _ ej]; exact g0, g1, g2, g3, by rw [pk_un ej]; exact g4, by rw [pk_un ej]; exact g5⟩
  · rw [rh_n (by omega)]
    rcases (by omega : u = 0 ∨ u = 1) with rfl | rfl
    · rw [show X (12 + 0) = S (12 + 0) from h12]; exact h2.2 0 hu
    · rw [show X (12 + 1) = S (12 + 1) from h13]; exact h2.2 1 hu
theorem upd_id {f : Nat → Int32} {k : Nat} {v : Int32} (h : v = f k) : upd f k v = f := by
  funext j
  by_cases e : j = k
  · subst e; rw [pk_us, h]
  · rw [pk_un e]
theorem CQ.re {cA : Nat → ClassId} {ad ad1 : Nat → Nat} {n : Nat} {f0 : Nat → va_E} {U V T : Tta} {ρ : Rho} {r : Nat × Nat} {X : Sta} {k kd : Nat} {mm : Int32} (h : CQ cA ad n f0 U ρ r T) (hV : CT V r (tS T X)) (hn : 81 ≤ n) (hkd : kd ≤ 6) (had : ∀ k, k < n → ad1 k = ad k) (h0 : wh X = wh (T 0)) (h5 : X 5 = upd (T 0 5) k (nI kd)) (h6 : X 6 = upd (T 0 6) k mm) (h12 : X 12 = T 0 12) (h13 : X 13 = T 0 13) : CQ cA ad1 (n + 1) (va_up f0 n (.inr (6 + kd, [.int (nI k), .int mm]))) V (rh ρ r.1 k (some n)) r (tS T X) := by
  have z := h.1.1
  have hE : Ext ad n f0 ad1 (n + 1) (va_up f0 n (.inr (6 + kd, [.int (nI k), .int mm]))) := Ext.one had
  exact ⟨hV, hq_re h.2.1 h.1.lt hn hkd had h0 h5 h6 h12 h13, hq_ρ (h.2.2.1.ext hE) (rh_n (by omega)) (rh_n (by omega)), (h.2.2.2.ext hE).cg (rh_n (by omega)) rfl rfl rfl⟩
/-! sums of turns -/
theorem sm_add {f g : Nat → Int32} : ∀ N, sm (fun j => f j + g j) N = sm f N + sm g N
  | 0 => rfl
  | N + 1 => by
    rw [sm, sm, sm, sm_add N]
    have e1 : ∀ a b c d : Int32, a + b + (c + d) = a + c + (b + d) := fun a b c d => by
      rw [Int32.add_assoc, Int32.add_assoc, ← Int32.add_assoc b, Int32.add_comm b, Int32.add_assoc c]
    exact e1 _ _ _ _
theorem sm_cut {f : Nat → Int32} {K : Nat} : ∀ N, K ≤ N → sm (fun j => if j < K then f j else nI 0) N = sm f K
  | 0, h => by
    rw [show K = 0 by omega]
    rfl
  | N + 1, h => by
    rw [sm]
    by_cases e : K = N + 1
    · subst e
      rw [if_pos (by omega), sm, sm_cg N (fun j hj => if_pos (by omega))]
    · rw [sm_cut N (by omega), if_neg (by omega), show (nI 0 : Int32) = 0 from rfl, Int32.add_zero]
theorem fin_1 {S : Sta} {many : Nat} {x : Int32 × Int32} : ∀ w, (fin_ S many x w).1 = x.1 + sm (fun j => if j < many then trn S j else nI 0) w
  | 0 => by rw [fin_, sm, show (nI 0 : Int32) = 0 from rfl, Int32.add_zero]
  | w + 1 => by
    rw [fin_, sm]
    show (fin_ S many x w).1 + _ = _
    rw [fin_1 w, Int32.add_assoc]
theorem fin_2 {S : Sta} {many : Nat} {x : Int32 × Int32} : ∀ w, (fin_ S many x w).2 = x.2 + sm (fun j => if j < many then nI 0 else trn S j) w
  | 0 => by rw [fin_, sm, show (nI 0 : Int32) = 0 from rfl, Int32.add_zero]
  | w + 1 => by
    rw [fin_, sm]
    show (fin_ S many x w).2 + _ = _
    rw [fin_2 w, Int32.add_assoc]
theorem fto_1 {S : Sta} {many : Nat} (h : many ≤ wh S) : ∀ m, (fto S many m).1 = sm (fun j => smN S j m) many
  | 0 => by
    show nI 0 = _
    rw [show (fun j => smN S j 0) = fun _ => nI 0 from rfl]
    have : ∀ N, sm (fun _ => nI 0) N = nI 0 := by
      intro N
      induction N with
      | zero => rfl
      | succ N ih => rw [sm, ih]; rfl
    exact (this many).symm
  | m + 1 => by
    rw [fto, fin_1, fto_1 h m, sm_cut _ h]
    exact (sm_add (f := fun j => smN S j m) (g := fun j => trn (hrN S m) j) many).symm
theorem sm_last {f : Nat → Int32} {K : Nat} : sm (fun j => if j < K then nI 0 else f j) (K + 1) = f K := by
  rw [sm, if_neg (by omega)]
  have : ∀ N, N ≤ K → sm (fun j => if j < K then nI 0 else f j) N = nI 0 := by
    intro N
    induction N with
    | zero => intro _; rfl
    | succ N ih => intro hN; rw [sm, ih (by omega), if_pos (by omega)]; rfl
  rw [this K (Nat.le_refl _), show (nI 0 : Int32) = 0 from rfl, Int32.zero_add]
theorem fto_2 {S : Sta} {many : Nat} (h : wh S = many + 1) : ∀ m, (fto S many m).2 = smN S many m
  | 0 => rfl
  | m + 1 => by
    rw [fto, fin_2, fto_2 h m, h, sm_last]
    rfl
theorem smN_bd {S : Sta} {j : Nat} : ∀ m, Bd (smN S j m) (9999 * m)
  | 0 => ⟨0, by omega, rfl⟩
  | m + 1 => bd_ad2 (smN_bd m) turns_bd (by omega)
theorem sum_GO {U V : Tta} {a m K : Nat} (h : GO (up3 U 3 8 (fun j => if j < 8 then nI 0 else U 3 8 j)) V a m) (ha : a ≠ 3) (hK : K ≤ wh (U a)) (h8 : wh (U a) ≤ 8) : sm (V 3 8) K = sm (fun j => smN (U a) j m) K := by
  refine sm_cg K (fun j hj => ?_)
  have h1 := h.2.2.1 j (by rw [up3_n ha]; omega)
  rw [h1, up3_s, up1_s, if_pos (by omega), up3_n ha, show (nI 0 : Int32) = 0 from rfl, Int32.zero_add]
theorem one_GO {U V : Tta} {a m j : Nat} (h : GO (up3 U 3 8 (fun j => if j < 8 then nI 0 else U 3 8 j)) V a m) (ha : a ≠ 3) (hj : j < wh (U a)) (h8 : wh (U a) ≤ 8) : V 3 8 j = smN (U a) j m := by
  have h1 := h.2.2.1 j (by rw [up3_n ha]; omega)
  rw [h1, up3_s, up1_s, if_pos (by omega), up3_n ha, show (nI 0 : Int32) = 0 from rfl, Int32.zero_add]
theorem RK.bh {ρ : Rho} {r : Nat × Nat} {b k : Nat} {w : Option Nat} : RK ρ (rh (bρ ρ r.2 b) r.2 k w) r := fun _ h h2 => by rw [rh_n h, bρ_n h h2]
theorem RK.bbh {ρ : Rho} {r : Nat × Nat} {b c k : Nat} {w : Option Nat} : RK ρ (rh (bρ (bρ ρ r.2 c) r.2 b) r.2 k w) r := fun _ h h2 => by rw [rh_n h, bρ_n h h2, bρ_n h h2]
theorem bp_1 {S : Sta} {a n : Nat} {v : Int32} (h : (fto (sp_adds S a (10 * 0)) (wh S) n).2 = v) (hv : ¬ v ≤ -1) : bp_ S a n 1 = (nI 0, v) := by
  show (if (fto (sp_adds S a (10 * 0)) (wh S) n).2 ≤ -1 then _ else _) = _
  rw [h, if_neg hv]
theorem bd_m1 {x : Int32} {m : Nat} (h : Bd x m) (hm : m < 2 ^ 31) : ¬ x ≤ -1 := by
  obtain ⟨k, hk, rfl⟩ := h
  rw [Int32.le_iff_toInt_le, nI_toInt (by omega)]
  show ¬ ((k : Int) ≤ -1)
  omega
theorem mx_1 {x y : Int32} (h : y ≤ x) : (if x < y then y else x) = x := if_neg (Int32.not_lt.mpr h)
theorem mx_2 {x y : Int32} (h : ¬ y ≤ x) : (if x < y then y else x) = y := if_pos (Int32.not_le.mp h)
