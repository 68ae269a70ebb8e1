/-! the layout of the reference's row of numbers; numbers -/
def of_ (i : Nat) : Nat := ([0, 6, 30, 42, 43, 52, 53, 54, 55, 56, 57, 58, 115, 240, 365, 425] : List Nat).getD i 0
def st_ (i : Nat) : Nat := ([1, 1, 1, 2, 2, 7, 7, 7, 7, 7, 7, 7, 1, 1, 1, 1] : List Nat).getD i 0
def ln_ (i : Nat) : Nat := ([6, 24, 12, 5, 5, 8, 8, 8, 8, 8, 8, 8, 125, 125, 60, 24] : List Nat).getD i 0
def row_ (n : Nat) : Nat × Nat := if n < 6 then (0, n) else if n < 30 then (1, n - 6) else if n < 42 then (2, n - 30) else if n < 52 then (3 + (n - 42) % 2, (n - 42) / 2) else if n < 115 then (5 + (n - 52) % 7, (n - 52) / 7) else if n < 240 then (12, n - 115) else if n < 365 then (13, n - 240) else if n < 425 then (14, n - 365) else (15, n - 425)
theorem ln_lt {i j : Nat} (h : j < ln_ i) : i < 16 := by
  rcases Nat.lt_or_ge i 16 with h1 | h1
  · exact h1
  · have : ln_ i = 0 := by simp [ln_, List.getD, List.getElem?_eq_none (l := [6, 24, 12, 5, 5, 8, 8, 8, 8, 8, 8, 8, 125, 125, 60, 24]) (i := i) (by simpa using h1)]
    omega
theorem row_ok : ∀ i, i < 16 → ∀ j, j < ln_ i → row_ (of_ i + st_ i * j) = (i, j) := by decide +kernel
theorem lay_lt0 : ∀ i, i < 16 → ∀ j, j < ln_ i → of_ i + st_ i * j < 449 := by decide +kernel
theorem lay_lt {i j : Nat} (h : j < ln_ i) : of_ i + st_ i * j < 449 := lay_lt0 i (ln_lt h) j h
theorem lay_inj {i j i' j' : Nat} (h : j < ln_ i) (h' : j' < ln_ i') (e : of_ i + st_ i * j = of_ i' + st_ i' * j') : i = i' ∧ j = j' := by
  have h1 := row_ok i (ln_lt h) j h
  have h2 := row_ok i' (ln_lt h') j' h'
  rw [e, h2] at h1
  exact ⟨(Prod.mk.inj h1).1.symm, (Prod.mk.inj h1).2.symm⟩
/-- the row f holds S -/
def RM (f : Nat → Int32) (S : Nat → Nat → Int32) : Prop := ∀ i j, j < ln_ i → f (of_ i + st_ i * j) = S i j
def up2 (S : Nat → Nat → Int32) (i j : Nat) (v : Int32) : Nat → Nat → Int32 := up1 S i (upd (S i) j v)
theorem RM.set {f : Nat → Int32} {S : Nat → Nat → Int32} {i j n : Nat} {v : Int32} (h : RM f S) (hj : j < ln_ i) (hn : n = of_ i + st_ i * j) : RM (upd f n v) (up2 S i j v) := by
  subst hn
  intro i' j' h'
  by_cases e : i' = i ∧ j' = j
  · obtain ⟨rfl, rfl⟩ := e
    simp [up2, up1, pk_us]
  · rw [pk_un (fun z => e (lay_inj h' hj z)), h i' j' h']
    by_cases e1 : i' = i
    · subst e1
      simp [up2, up1]
      rw [pk_un (fun z => e ⟨rfl, z⟩)]
    · simp [up2, up1, e1]
theorem RM.at {f : Nat → Int32} {S : Nat → Nat → Int32} {n : Nat} (h : RM f S) (i j : Nat) (hj : j < ln_ i) (hn : n = of_ i + st_ i * j) : f n = S i j := by
  subst hn
  exact h i j hj
theorem RM.same {f g : Nat → Int32} {S : Nat → Nat → Int32} (h : RM f S) (hg : ∀ k, k < 449 → g k = f k) : RM g S := fun i j hj => by rw [hg _ (lay_lt hj), h i j hj]
def Kp (L : List Nat) (σ τ : Nat → Nat → Int32) : Prop := ∀ i, i ∉ L → τ i = σ i
theorem Kp.rf {L : List Nat} {σ : Nat → Nat → Int32} : Kp L σ σ := fun _ _ => rfl
theorem Kp.tr {L : List Nat} {σ τ υ : Nat → Nat → Int32} (h : Kp L σ τ) (h2 : Kp L τ υ) : Kp L σ υ := fun i hi => (h2 i hi).trans (h i hi)
theorem Kp.mono {L M : List Nat} {σ τ : Nat → Nat → Int32} (h : Kp L σ τ) (hm : ∀ i ∈ L, i ∈ M) : Kp M σ τ := fun i hi => h i (fun z => hi (hm i z))
theorem Kp.up {L : List Nat} {σ τ : Nat → Nat → Int32} {k : Nat} {f : Nat → Int32} (h : Kp L σ τ) (hk : k ∈ L) : Kp L σ (up1 τ k f) := fun i hi => by
  have e : i ≠ k := fun z => hi (by rw [z]; exact hk)
  rw [up1_n e, h i hi]
theorem nI0 : nI 0 = 0 := rfl
theorem in_nI {x : Int32} {n : Nat} (h : nI 0 ≤ x ∧ x ≤ nI n) (hn : n < 2 ^ 31 := by decide) : ∃ k, k ≤ n ∧ x = nI k := by
  have h1 : ¬ x < 0 := by
    have h2 : (0 : Int32) ≤ x := h.1
    rw [Int32.not_lt]
    exact h2
  exact nI_of2 (nI_toInt hn) h1 h.2
theorem nI_in2 {k n : Nat} (h : k ≤ n) (hn : n < 2 ^ 31 := by decide) : nI 0 ≤ nI k ∧ nI k ≤ nI n := ⟨nI_le (Nat.zero_le k) (by omega), nI_le h hn⟩
theorem of_w {q : Nat} (h : q < 7) : of_ (5 + q) = 52 + q := by
  have : ∀ q, q < 7 → of_ (5 + q) = 52 + q := by decide +kernel
  exact this q h
theorem st_w {q : Nat} (h : q < 7) : st_ (5 + q) = 7 := by
  have : ∀ q, q < 7 → st_ (5 + q) = 7 := by decide +kernel
  exact this q h
theorem ln_w {q : Nat} (h : q < 7) : ln_ (5 + q) = 8 := by
  have : ∀ q, q < 7 → ln_ (5 + q) = 8 := by decide +kernel
  exact this q h
def sp_held (v lo hi : Int32) : Int32 := if v < lo then lo else if hi < v then hi else v
