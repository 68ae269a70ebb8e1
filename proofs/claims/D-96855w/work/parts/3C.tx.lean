/-! a text that was read lies in its row -/
def txr (f : Nat → Int32) (l : PL_) : Nat → Int32 := fun j => if j = 0 then nI l.length else if j ≤ 2 * l.length then (if (j - 1) % 2 = 0 then (l.getD ((j - 1) / 2) (0, 0)).1 else (l.getD ((j - 1) / 2) (0, 0)).2) else f j
def p_text (u : Nat) (S : Sta) : PR := p_whole (tpd S) (S 14) (p_one u (tpd S) (S 14) 5) 0 []
def tx_S (u : Nat) (S : Sta) : Sta := up1 (up2 S 0 3 (nI 0)) (12 + u) (txr (S (12 + u)) (p_text u S).2.2)
def op_text (u : Int32) (T : Tta) : Int32 × Tta := if nI 0 ≤ u ∧ u ≤ nI 1 then (if (p_text (cn u) (T 0)).1 = true then (if (p_text (cn u) (T 0)).2.1 = tpd (T 0) then (nI 1, tS T (tx_S (cn u) (T 0))) else (-10 - nI (p_text (cn u) (T 0)).2.1, tS T (up2 (T 0) 0 3 (nI 0)))) else (-10 - nI (p_text (cn u) (T 0)).2.1, tS T (up2 (T 0) 0 3 (nI 0)))) else er 1 T
theorem RM_row {f f' : Nat → Int32} {S : Sta} {i : Nat} {g : Nat → Int32} (h : RM f S) (h1 : ∀ j, j < ln_ i → f' (of_ i + st_ i * j) = g j) (h2 : ∀ n, n < 449 → (∀ j, j < ln_ i → n ≠ of_ i + st_ i * j) → f' n = f n) : RM f' (up1 S i g) := by
  intro i' j' h'
  by_cases e : i' = i
  · subst e
    rw [up1_s]
    exact h1 j' h'
  · rw [up1_n e, h2 _ (lay_lt h') (fun j hj z => e (lay_inj h' hj z).1)]
    exact h i' j' h'
theorem txr_at {σ : Sta} {l : PL_} {f : Nat → Int32} (h : PSs σ l) {k : Nat} (hk : k < 2 * l.length) : txr f l (1 + k) = σ 4 k := by
  unfold txr
  rw [if_neg (by omega), if_pos (by omega)]
  have hlt : k / 2 < l.length := by omega
  obtain ⟨⟨w, v⟩, hq⟩ : ∃ x, l[k / 2]? = some x := ⟨_, List.getElem?_eq_getElem hlt⟩
  have hg : l.getD (k / 2) (0, 0) = (w, v) := by simp [List.getD, hq]
  obtain ⟨a1, a2⟩ := h.2 (k / 2) w v hq
  rw [show 1 + k - 1 = k by omega, hg]
  split
  · next z =>
    rw [show 2 * (k / 2) = k by omega] at a1
    exact a1.symm
  · next z =>
    rw [show 2 * (k / 2) + 1 = k by omega] at a2
    exact a2.symm
theorem tx_RM {f f' : Nat → Int32} {S : Sta} {σ : Sta} {u : Nat} {l : PL_} (hu : u < 2) (h : RM f S) (hs : PSs σ l) (hl : l.length ≤ 60) (h0 : f' (115 + 125 * u) = nI l.length) (h1 : ∀ k, k < 2 * l.length → f' (115 + 125 * u + 1 + k) = σ 4 k) (h2 : ∀ n, n < 449 → (n < 115 + 125 * u ∨ 115 + 125 * u + 1 + 2 * l.length ≤ n) → f' n = f n) : RM f' (up1 S (12 + u) (txr (S (12 + u)) l)) := by
  have key : ∀ j, j < 125 → f' (115 + 125 * u + j) = txr (S (12 + u)) l j := by
    intro j hj
    rcases Nat.eq_zero_or_pos j with z | z
    · subst z
      exact h0
    · rcases Nat.lt_or_ge (j - 1) (2 * l.length) with y | y
      · have := h1 (j - 1) y
        rw [show 115 + 125 * u + 1 + (j - 1) = 115 + 125 * u + j by omega] at this
        rw [this, ← txr_at (f := S (12 + u)) hs y, show 1 + (j - 1) = j by omega]
      · rw [h2 _ (by omega) (Or.inr (by omega)), tx_at h hu hj rfl]
        unfold txr
        rw [if_neg (by omega), if_neg (by omega)]
  rcases (by omega : u = 0 ∨ u = 1) with rfl | rfl
  · refine RM_row h (fun j hj => ?_) (fun n hn hne => ?_)
    · exact (congrArg f' (show 115 + 1 * j = 115 + 125 * 0 + j by omega)).trans (key j hj)
    · refine h2 n hn ?_
      rcases Nat.lt_or_ge n 115 with z | z
      · exact Or.inl (by omega)
      · rcases Nat.lt_or_ge n 240 with y | y
        · exact absurd (show n = 115 + 1 * (n - 115) by omega) (hne (n - 115) (by show _ < 125; omega))
        · exact Or.inr (by omega)
  · refine RM_row h (fun j hj => ?_) (fun n hn hne => ?_)
    · exact (congrArg f' (show 240 + 1 * j = 115 + 125 * 1 + j by omega)).trans (key j hj)
    · refine h2 n hn ?_
      rcases Nat.lt_or_ge n 240 with z | z
      · exact Or.inl (by omega)
      · rcases Nat.lt_or_ge n 365 with y | y
        · exact absurd (show n = 240 + 1 * (n - 240) by omega) (hne (n - 240) (by show _ < 125; omega))
        · exact Or.inr (by omega)
