/-! the class's state and the law's T -/
def uS (U : Tta) (a : Nat) (S : Sta) : Tta := fun x => if x = a then S else U x
theorem up3_uS {U : Tta} {a i : Nat} {f : Nat → Int32} : up3 U a i f = uS U a (up1 (U a) i f) := rfl
theorem uS_s {U : Tta} {a : Nat} {S : Sta} : uS U a S a = S := by simp [uS]
theorem uS_n {U : Tta} {a x : Nat} {S : Sta} (h : x ≠ a) : uS U a S x = U x := by simp [uS, h]
theorem uS_uS {U : Tta} {a : Nat} {S S' : Sta} : uS (uS U a S) a S' = uS U a S' := by
  funext x
  by_cases h : x = a <;> simp [uS, h]
theorem uS_self {U : Tta} {a : Nat} : uS U a (U a) = U := by
  funext x
  by_cases h : x = a <;> simp [uS, h]
def CT (U : Tta) (r : Nat × Nat) (T : Tta) : Prop := (r.1 < 2 ∧ r.2 < 2 ∧ r.1 ≠ r.2) ∧ U r.1 = T 0 ∧ U 2 = T 1 ∧ ∀ q j, q < 4 → j < xl_ q → U 3 q j = T 2 q j
theorem CT.lt {U T : Tta} {r : Nat × Nat} (h : CT U r T) : r.1 < 3 := by have := h.1.1; omega
theorem CT.lt2 {U T : Tta} {r : Nat × Nat} (h : CT U r T) : r.2 < 3 := by have := h.1.2.1; omega
theorem CT.S {U T : Tta} {r : Nat × Nat} {S : Sta} (h : CT U r T) : CT (uS U r.1 S) r (tS T S) := by
  have h1 := h.1.1
  refine ⟨h.1, by rw [uS_s]; rfl, by rw [uS_n (by omega)]; exact h.2.2.1, fun q j hq hj => ?_⟩
  rw [uS_n (by omega)]
  exact h.2.2.2 q j hq hj
theorem CT.O {U T : Tta} {r : Nat × Nat} {N : Sta} (h : CT U r T) (hN : ∀ q, q < 4 → N q = U 3 q) : CT (uS U 3 N) r T := by
  have h1 := h.1.1
  refine ⟨h.1, by rw [uS_n (by omega)]; exact h.2.1, by rw [uS_n (by omega)]; exact h.2.2.1, fun q j hq hj => ?_⟩
  rw [uS_s, hN q hq]
  exact h.2.2.2 q j hq hj
theorem CT.X {U T : Tta} {r : Nat × Nat} (h : CT U r T) (q : Nat) {f g : Nat → Int32} (hf : ∀ j, j < xl_ q → f j = g j) : CT (up3 U 3 q f) r (tX T q g) := by
  have h1 := h.1.1
  refine ⟨h.1, by rw [up3_n (by omega)]; exact h.2.1, by rw [up3_n (by omega)]; exact h.2.2.1, fun q' j hq hj => ?_⟩
  rw [up3_s]
  by_cases e : q' = q
  · subst e
    simp [tX, up1, hf j hj]
  · rw [up1_n e, h.2.2.2 q' j hq hj]
    simp [tX, up1, e]
theorem CT.err0 {U T : Tta} {r : Nat × Nat} {k : Nat} (h : CT U r T) (hk : k < 7) : CT (up3 U 3 0 (upd (U 3 0) k (U 3 0 k + nI 1))) r (er k T).2 := by
  refine h.X 0 (fun j hj => ?_)
  have e1 := h.2.2.2 0 k (by decide) hk
  have e2 := h.2.2.2 0 j (by decide) hj
  by_cases e : j = k
  · subst e
    simp [upd, e1]
  · simp [upd, e, e2]
theorem nB_nI {k : Nat} (h : k ≤ 127) : nB (nI k) = nI k := by
  have : ∀ k, k < 128 → nB (nI k) = nI k := by decide +kernel
  exact this k (by omega)
theorem mn_held {v m : Int32} (h : ¬ v < nI 0) : (if v < m then v else m) = sp_held v (nI 0) m := by
  rw [sp_held, if_neg h]
  by_cases h1 : v < m
  · rw [if_pos h1, if_neg (fun z => absurd (Int32.lt_trans h1 z) Int32.lt_irrefl)]
  · rw [if_neg h1]
    by_cases h2 : m < v
    · rw [if_pos h2]
    · rw [if_neg h2]
      exact Int32.le_antisymm (Int32.not_lt.mp h1) (Int32.not_lt.mp h2)
theorem hld_eq {v lo hi : Int32} (h : lo ≤ hi) : (if lo < (if v < hi then v else hi) then (if v < hi then v else hi) else lo) = sp_held v lo hi := by
  rw [sp_held]
  by_cases h1 : v < lo
  · rw [if_pos h1]
    have h2 : v < hi := Int32.lt_of_lt_of_le h1 h
    rw [if_pos h2, if_neg (fun z => absurd (Int32.lt_trans h1 z) Int32.lt_irrefl)]
  · rw [if_neg h1]
    by_cases h2 : hi < v
    · have h3 : ¬ v < hi := fun z => absurd (Int32.lt_trans h2 z) Int32.lt_irrefl
      rw [if_pos h2, if_neg h3]
      by_cases h4 : lo < hi
      · rw [if_pos h4]
      · rw [if_neg h4]
        exact Int32.le_antisymm h (Int32.not_lt.mp h4)
    · rw [if_neg h2]
      by_cases h3 : v < hi
      · rw [if_pos h3]
        by_cases h4 : lo < v
        · rw [if_pos h4]
        · rw [if_neg h4]
          exact Int32.le_antisymm (Int32.not_lt.mp h1) (Int32.not_lt.mp h4)
      · rw [if_neg h3]
        have e : v = hi := Int32.le_antisymm (Int32.not_lt.mp h2) (Int32.not_lt.mp h3)
        subst e
        by_cases h4 : lo < v
        · rw [if_pos h4]
        · rw [if_neg h4]
          exact Int32.le_antisymm h (Int32.not_lt.mp h4)
theorem bd_nn {x : Int32} {n : Nat} (h : Bd x n) (hn : n < 2 ^ 31) : ¬ x < nI 0 := by
  obtain ⟨k, hk, rfl⟩ := h
  rw [nI_ltI (by omega) (by decide)]
  omega
theorem bd_ad2 {x y : Int32} {m n k : Nat} (h : Bd x m) (h2 : Bd y n) (hk : m + n ≤ k) : Bd (x + y) k := by
  obtain ⟨a, ha, rfl⟩ := h
  obtain ⟨b, hb, rfl⟩ := h2
  exact ⟨a + b, by omega, nI_add a b⟩
theorem bz_and {P Q : Prop} {v w : Int32} (h : bz P v) (h2 : bz Q w) : bz (P ∧ Q) (v &&& w) := by
  rcases h with ⟨rfl, h⟩ | ⟨rfl, h⟩ <;> rcases h2 with ⟨rfl, h2⟩ | ⟨rfl, h2⟩
  · exact Or.inl ⟨rfl, h, h2⟩
  · exact Or.inr ⟨rfl, fun z => h2 z.2⟩
  · exact Or.inr ⟨rfl, fun z => h z.1⟩
  · exact Or.inr ⟨rfl, fun z => h z.1⟩
theorem tld_0 {S : Sta} {f : Nat} {q : Int32} (h : q = 0) : sp_told S f q = S 3 f := by
  subst h
  rfl
theorem tld_1 {S : Sta} {f : Nat} {q : Int32} (h : q = nI 1) : sp_told S f q = S 4 f := by
  subst h
  rfl
theorem tld_2 {S : Sta} {f : Nat} {q : Int32} (h : q = nI 2) : sp_told S f q = if S 3 f ≤ S 4 f then nI 1 else nI 0 := by
  subst h
  rfl
theorem tld_3 {S : Sta} {f : Nat} {q : Int32} (hq : nI 0 ≤ q ∧ q ≤ nI 3) (h0 : q ≠ 0) (h1 : q ≠ nI 1) (h2 : q ≠ nI 2) : sp_told S f q = nI (wof S f (wh S)) := by
  obtain ⟨k, hk, rfl⟩ := in_nI hq
  have : k = 0 ∨ k = 1 ∨ k = 2 ∨ k = 3 := by omega
  rcases this with rfl | rfl | rfl | rfl
  · exact absurd rfl h0
  · exact absurd rfl h1
  · exact absurd rfl h2
  · rfl
theorem CT.e {U V T : Tta} {r : Nat × Nat} {k : Nat} {o : Int32} (h : CT U r T) (p : o = (-1000000000) - nI k ∧ V = up3 U 3 0 (upd (U 3 0) k (U 3 0 k + nI 1))) (hk : k < 7) : o = (er k T).1 ∧ CT V r (er k T).2 := ⟨p.1, by rw [p.2]; exact h.err0 hk⟩
theorem i32_s2 (a b c d : Int32) : a - b - (c - d) = a - b - c + d := by
  apply Int32.toBitVec_inj.mp
  simp only [Int32.toBitVec_sub, Int32.toBitVec_add]
  bv_omega
theorem hld_id {v : Int32} {n : Nat} (h : Bd v n) (hn : n ≤ 999999) : sp_held v (nI 0) 999999 = v := by
  obtain ⟨k, hk, rfl⟩ := h
  have h1 : ¬ nI k < nI 0 := by rw [nI_ltI (by omega) (by decide)]; omega
  have h2 : ¬ (999999 : Int32) < nI k := by
    show ¬ nI 999999 < nI k
    rw [nI_ltI (by decide) (by omega)]
    omega
  rw [sp_held, if_neg h1, if_neg h2]
theorem bd_sub {x y : Int32} {m n : Nat} (h : Bd x m) (h2 : Bd y n) (hm : m < 2 ^ 31) (hn : n < 2 ^ 31) (hl : y ≤ x) : Bd (x - y) m := by
  obtain ⟨a, ha, rfl⟩ := h
  obtain ⟨b, hb, rfl⟩ := h2
  have : b ≤ a := (nI_leI (by omega) (by omega)).mp hl
  exact ⟨a - b, by omega, pk_sub this⟩
theorem kd_iff {x : Int32} : (¬ x < 0 ∧ ¬ nI 6 < x / nI 10) ↔ nI 0 ≤ x ∧ x ≤ nI 69 := by
  constructor
  · rintro ⟨h1, h2⟩
    obtain ⟨k, hk, rfl⟩ : ∃ k, k < 2 ^ 31 ∧ x = nI k := by
      obtain ⟨k, hk, e⟩ := in_nI (x := x) (n := 2147483647) ⟨Int32.not_lt.mp h1, Int32.le_iff_toInt_le.mpr (by rw [show (nI 2147483647).toInt = 2147483647 from by decide]; exact Int32.toInt_le x)⟩
      exact ⟨k, by omega, e⟩
    rw [pk_div hk (by decide) (by decide), nI_ltI (by decide) (by omega)] at h2
    exact nI_in2 (by omega)
  · intro h
    obtain ⟨k, hk, rfl⟩ := in_nI h
    rw [pk_div (by omega) (by decide) (by decide), nI_ltI (by decide) (by omega)]
    refine ⟨?_, by omega⟩
    show ¬ nI k < nI 0
    rw [nI_ltI (by omega) (by decide)]
    omega
