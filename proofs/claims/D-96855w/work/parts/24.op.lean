/-! the whole state: T 0 the house, T 1 what is kept, T 2 the rest (0 errors, 1 trace, 2 traced, 3 images, 4 bits, 5 sizes, 6 numbers) -/
abbrev Sta : Type := Nat → Nat → Int32
abbrev Tta : Type := Nat → Nat → Nat → Int32
def cn (x : Int32) : Nat := x.toNatClampNeg
theorem cn_nI {k : Nat} (h : k < 2 ^ 31) : cn (nI k) = k := nI_clamp h
def tS (T : Tta) (S : Sta) : Tta := fun i => if i = 0 then S else T i
def tK (T : Tta) (S : Sta) : Tta := fun i => if i = 1 then S else T i
def tX (T : Tta) (r : Nat) (f : Nat → Int32) : Tta := fun i => if i = 2 then up1 (T 2) r f else T i
def er (k : Nat) (T : Tta) : Int32 × Tta := ((-1000000000) - nI k, tX T 0 (upd (T 2 0) k (T 2 0 k + nI 1)))
def xr_ (r : Nat) : Nat := ([3, 10, 24, 15, 11, 12, 13] : List Nat).getD r 0
def xl_ (r : Nat) : Nat := ([7, 30, 1, 1, 4, 4, 96] : List Nat).getD r 0
theorem xl_lt {r j : Nat} (h : j < xl_ r) : r < 7 := by
  rcases Nat.lt_or_ge r 7 with h1 | h1
  · exact h1
  · have : xl_ r = 0 := by simp [xl_, List.getD, List.getElem?_eq_none (l := [7, 30, 1, 1, 4, 4, 96]) (i := r) (by simpa using h1)]
    omega
def PL : List Nat := [0, 2, 4, 5, 6, 7, 8, 9, 14, 16, 17, 18, 19, 20, 21, 22, 23, 25, 26]
def PL0 : List Nat := [2, 4, 5, 6, 7, 8, 9, 14, 16, 17, 18, 19, 20, 21, 22, 23, 25, 26]
theorem xr_PL : ∀ r, r < 7 → xr_ r ∉ PL := by decide +kernel
theorem xr_inj : ∀ r, r < 7 → ∀ q, q < 7 → xr_ r = xr_ q → r = q := by decide +kernel
def RT (σ : Sta) (T : Tta) : Prop := RM (σ 0) (T 0) ∧ RM (σ 1) (T 1) ∧ ∀ r j, j < xl_ r → σ (xr_ r) j = T 2 r j
theorem tS_0 {T : Tta} {S : Sta} : tS T S 0 = S := rfl
theorem tS_1 {T : Tta} {S : Sta} : tS T S 1 = T 1 := rfl
theorem tS_2 {T : Tta} {S : Sta} : tS T S 2 = T 2 := rfl
theorem RT.S {σ τ : Sta} {T : Tta} {S : Sta} (h : RT σ T) (h0 : RM (τ 0) S) (hk : Kp PL σ τ) : RT τ (tS T S) :=
  ⟨h0, by rw [hk 1 (by decide)]; exact h.2.1, fun r j hj => by rw [hk (xr_ r) (xr_PL r (xl_lt hj))]; exact h.2.2 r j hj⟩
theorem RT.same {σ τ : Sta} {T : Tta} (h : RT σ T) (hk : Kp PL0 σ τ) : RT τ T :=
  ⟨by rw [hk 0 (by decide)]; exact h.1, by rw [hk 1 (by decide)]; exact h.2.1, fun r j hj => by rw [hk (xr_ r) (fun z => xr_PL r (xl_lt hj) (List.mem_cons_of_mem _ z))]; exact h.2.2 r j hj⟩
theorem RT.X {σ τ : Sta} {T : Tta} {L : List Nat} (h : RT σ T) (r : Nat) {f : Nat → Int32} (hx : ∀ j, j < xl_ r → τ (xr_ r) j = f j) (hk : Kp L σ τ) (hL : ∀ q, q < 7 → q ≠ r → xr_ q ∉ L) (h0 : 0 ∉ L) (h1 : 1 ∉ L) : RT τ (tX T r f) := by
  refine ⟨by rw [hk 0 h0]; exact h.1, by rw [hk 1 h1]; exact h.2.1, fun q j hj => ?_⟩
  by_cases e : q = r
  · subst e
    rw [hx j hj]
    simp [tX, up1]
  · rw [hk _ (hL q (xl_lt hj) e), h.2.2 q j hj]
    simp [tX, up1, e]
/-- a small natural -/
def Bd (x : Int32) (n : Nat) : Prop := ∃ k, k ≤ n ∧ x = nI k
def bd_ (i : Nat) : Nat := ([0, 99, 9, 99999, 999999, 6, 9, 11, 4, 1, 999999, 999999] : List Nat).getD i 0
/-! texts -/
def okc (u c : Nat) : Prop := c = 109 ∨ (u = 0 ∧ (c = 102 ∨ c = 112 ∨ c = 104)) ∨ (u = 1 ∧ (c = 116 ∨ c = 99))
def isSg (c : Nat) : Prop := c ∈ ([124, 38, 60, 61, 62, 43, 45, 42, 47, 37] : List Nat)
def dep (f : Nat → Int32) : Nat → Nat
  | 0 => 0
  | k + 1 => if f (1 + 2 * k) = nI 0 then dep f k + 1 else if f (1 + 2 * k) = nI 1 then dep f k + 1 else if f (1 + 2 * k) = nI 2 then dep f k else dep f k - 1
def stepOK (u : Nat) (f : Nat → Int32) (k : Nat) : Prop := (f (1 + 2 * k) = nI 0 ∧ Bd (f (2 + 2 * k)) 9999) ∨ (f (1 + 2 * k) = nI 1 ∧ ∃ c, okc u c ∧ f (2 + 2 * k) = nI c) ∨ (f (1 + 2 * k) = nI 2 ∧ 1 ≤ dep f k) ∨ (f (1 + 2 * k) = nI 3 ∧ 2 ≤ dep f k ∧ ∃ c, isSg c ∧ f (2 + 2 * k) = nI c)
def TOK (u : Nat) (f : Nat → Int32) : Prop := ∃ n, n ≤ 60 ∧ f 0 = nI n ∧ (∀ k, k < n → stepOK u f k) ∧ (0 < n → dep f n = 1)
def sp_join (c x y : Int32) : Int32 :=
  if c = nI 43 then x + y else if c = nI 45 then x - y else if c = nI 42 then x * y
  else if c = nI 47 then (if y = 0 then nI 0 else if y = -1 then -x else x / y)
  else if c = nI 37 then (if y = 0 then nI 0 else if y = -1 then nI 0 else x - x / y * y)
  else if c = nI 60 then (if x < y then nI 1 else nI 0) else if c = nI 62 then (if y < x then nI 1 else nI 0) else if c = nI 61 then (if x = y then nI 1 else nI 0)
  else if c = nI 38 then (if x = 0 then nI 0 else if y = 0 then nI 0 else nI 1) else (if x = 0 then (if y = 0 then nI 0 else nI 1) else nI 1)
def evp (f nm : Nat → Int32) : Nat → Nat → Int32
  | 0 => fun _ => 0
  | k + 1 => if f (1 + 2 * k) = nI 0 then upd (evp f nm k) (dep f k) (f (2 + 2 * k)) else if f (1 + 2 * k) = nI 1 then upd (evp f nm k) (dep f k) (nm (cn (f (2 + 2 * k)))) else if f (1 + 2 * k) = nI 2 then upd (evp f nm k) (dep f k - 1) (if evp f nm k (dep f k - 1) = 0 then nI 1 else nI 0) else upd (evp f nm k) (dep f k - 2) (sp_join (f (2 + 2 * k)) (evp f nm k (dep f k - 2)) (evp f nm k (dep f k - 1)))
def sp_work (f nm : Nat → Int32) : Int32 := evp f nm (cn (f 0)) 0
/-- what holds of a house -/
def Inv (S : Sta) : Prop := (∀ i j, 1 ≤ i → i < 12 → j < ln_ i → Bd (S i j) (bd_ i)) ∧ Bd (S 0 0) 8 ∧ Bd (S 0 1) 20000 ∧ Bd (S 0 2) 9 ∧ Bd (S 0 3) 60 ∧ Bd (S 0 4) 24 ∧ TOK 0 (S 12) ∧ TOK 1 (S 13) ∧ ∀ j, j < 60 → Bd (S 14 j) 255
def rem_ (x y : Int32) : Int32 := x - x / y * y
def wh (S : Sta) : Nat := cn (S 0 0)
def hod (S : Sta) : Int32 := rem_ (S 0 1) (nI 24)
theorem inv_wh {S : Sta} (h : Inv S) : S 0 0 = nI (wh S) ∧ wh S ≤ 8 := by
  obtain ⟨k, hk, e⟩ := h.2.1
  have e2 : wh S = k := by
    unfold wh
    rw [e, cn_nI (by omega)]
  rw [e2]
  exact ⟨e, hk⟩
theorem inv_hod {S : Sta} (h : Inv S) : ∃ k, k < 24 ∧ hod S = nI k ∧ k = cn (S 0 1) % 24 := by
  obtain ⟨k, hk, e⟩ := h.2.2.1
  refine ⟨k % 24, Nat.mod_lt _ (by decide), ?_, by rw [e, cn_nI (by omega)]⟩
  show S 0 1 - S 0 1 / nI 24 * nI 24 = _
  rw [e, pk_rem (by omega) (by decide) (by decide)]
theorem inv_bd {S : Sta} (h : Inv S) (i j : Nat) (hj : j < ln_ i) (h1 : 1 ≤ i := by decide) (h2 : i < 12 := by decide) : Bd (S i j) (bd_ i) := h.1 i j h1 h2 hj
/-! wheels -/
def nm0 (S : Sta) (w : Nat) (f : Int32) : Nat → Int32 := fun c => if c = 102 then f else if c = 112 then S 7 w else if c = 104 then hod S else S 6 w
def nm1 (S : Sta) (w : Nat) (t : Int32) : Nat → Int32 := fun c => if c = 116 then t else if c = 99 then S 10 w else S 6 w
def sp_tt (S : Sta) (w : Nat) (f : Int32) : Int32 := if 0 < S 12 0 then sp_work (S 12) (nm0 S w f) else f / nI 2
def sp_ut (S : Sta) (w : Nat) (t : Int32) : Int32 := if 0 < S 13 0 then sp_work (S 13) (nm1 S w t) else t
def sp_want0 (S : Sta) (w : Nat) (f : Int32) : Int32 :=
  if S 5 w = nI 1 ∨ S 5 w = nI 4 then f / nI 3 + S 6 w else if S 5 w = nI 2 then S 6 w else if S 5 w = nI 3 ∨ S 5 w = nI 5 then nI 2 * (f / nI 3) else if S 5 w = nI 6 then sp_tt S w f else f / nI 3
def sp_wants (S : Sta) (w : Nat) (f : Int32) : Int32 := if S 9 w = 0 then nI 0 else if S 0 2 ≤ S 6 w then sp_held (sp_want0 S w f) (nI 0) f else nI 0
def sp_turn0 (S : Sta) (w : Nat) (t : Int32) : Int32 :=
  if S 5 w = nI 1 then t / nI 2 else if S 5 w = nI 3 then nI 2 * t else if S 5 w = nI 4 then (if t / nI 2 ≤ 0 then nI 0 else t / nI 2 + nI 1) else if S 5 w = nI 5 then nI 0 else if S 5 w = nI 6 then sp_ut S w t else t
def sp_turns (S : Sta) (w : Nat) (t : Int32) : Int32 := sp_held (sp_turn0 S w t) (nI 0) (nI 9999)
def sp_shB (S : Sta) (w : Nat) (t u : Int32) : Int32 := if S 5 w = nI 4 then nI 0 else if S 5 w = nI 5 then nI 2 * t else if S 5 w = nI 2 then u / nI 2 else u
def sp_shows (S : Sta) (w : Nat) (t : Int32) : Int32 := sp_shB S w t (sp_turns S w t)
/-! force goes down: left, taken, took from the wheel w on, n wheels more, at the place p -/
def fl_in (S : Sta) (p : Nat) : Nat → Nat → Int32 × Int32 × (Nat → Int32) → Int32 × Int32 × (Nat → Int32)
  | 0, _, x => x
  | n + 1, w, x => if S 7 w = nI p then fl_in S p n (w + 1) (x.1 - sp_wants S w x.1, x.2.1 + sp_wants S w x.1, upd x.2.2 w (sp_wants S w x.1)) else fl_in S p n (w + 1) x
def fl_wd (S : Sta) (p : Nat) (left : Int32) : Int32 := if left ≤ S 2 p then left else S 2 p
/-- left, lost, taken, took, flowing -/
def fl_out (S : Sta) : Nat → Nat → Int32 × Int32 × Int32 × (Nat → Int32) × (Nat → Int32) → Int32 × Int32 × Int32 × (Nat → Int32) × (Nat → Int32)
  | 0, _, x => x
  | n + 1, p, x =>
    let y := fl_in S p (wh S) 0 (x.1 - fl_wd S p x.1, x.2.2.1, x.2.2.2.1)
    fl_out S n (p + 1) (y.1, x.2.1 + fl_wd S p x.1, y.2.1, y.2.2, upd x.2.2.2.2 p x.1)
def sp_flow (S : Sta) (tk fw : Nat → Int32) : Int32 × Int32 × Int32 × (Nat → Int32) × (Nat → Int32) := fl_out S 12 0 (S 1 (cn (hod S)), nI 0, nI 0, tk, fw)
