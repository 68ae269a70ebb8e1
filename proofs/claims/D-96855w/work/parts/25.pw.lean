/-! the wheels' kinds, one by one -/
theorem want0_0 {S : Sta} {w : Nat} {f : Int32} (h : S 5 w = nI 0) : sp_want0 S w f = f / nI 3 := by
  unfold sp_want0
  rw [h]
  rfl
theorem turn0_0 {S : Sta} {w : Nat} {t : Int32} (h : S 5 w = nI 0) : sp_turn0 S w t = t := by
  unfold sp_turn0
  rw [h]
  rfl
theorem shB_0 {S : Sta} {w : Nat} {t u : Int32} (h : S 5 w = nI 0) : sp_shB S w t u = u := by
  unfold sp_shB
  rw [h]
  rfl
theorem want0_1 {S : Sta} {w : Nat} {f : Int32} (h : S 5 w = nI 1) : sp_want0 S w f = f / nI 3 + S 6 w := by
  unfold sp_want0
  rw [h]
  rfl
theorem turn0_1 {S : Sta} {w : Nat} {t : Int32} (h : S 5 w = nI 1) : sp_turn0 S w t = t / nI 2 := by
  unfold sp_turn0
  rw [h]
  rfl
theorem shB_1 {S : Sta} {w : Nat} {t u : Int32} (h : S 5 w = nI 1) : sp_shB S w t u = u := by
  unfold sp_shB
  rw [h]
  rfl
theorem want0_2 {S : Sta} {w : Nat} {f : Int32} (h : S 5 w = nI 2) : sp_want0 S w f = S 6 w := by
  unfold sp_want0
  rw [h]
  rfl
theorem turn0_2 {S : Sta} {w : Nat} {t : Int32} (h : S 5 w = nI 2) : sp_turn0 S w t = t := by
  unfold sp_turn0
  rw [h]
  rfl
theorem shB_2 {S : Sta} {w : Nat} {t u : Int32} (h : S 5 w = nI 2) : sp_shB S w t u = u / nI 2 := by
  unfold sp_shB
  rw [h]
  rfl
theorem want0_3 {S : Sta} {w : Nat} {f : Int32} (h : S 5 w = nI 3) : sp_want0 S w f = nI 2 * (f / nI 3) := by
  unfold sp_want0
  rw [h]
  rfl
theorem turn0_3 {S : Sta} {w : Nat} {t : Int32} (h : S 5 w = nI 3) : sp_turn0 S w t = nI 2 * t := by
  unfold sp_turn0
  rw [h]
  rfl
theorem shB_3 {S : Sta} {w : Nat} {t u : Int32} (h : S 5 w = nI 3) : sp_shB S w t u = u := by
  unfold sp_shB
  rw [h]
  rfl
theorem want0_4 {S : Sta} {w : Nat} {f : Int32} (h : S 5 w = nI 4) : sp_want0 S w f = f / nI 3 + S 6 w := by
  unfold sp_want0
  rw [h]
  rfl
theorem turn0_4 {S : Sta} {w : Nat} {t : Int32} (h : S 5 w = nI 4) : sp_turn0 S w t = (if t / nI 2 ≤ 0 then nI 0 else t / nI 2 + nI 1) := by
  unfold sp_turn0
  rw [h]
  rfl
theorem shB_4 {S : Sta} {w : Nat} {t u : Int32} (h : S 5 w = nI 4) : sp_shB S w t u = nI 0 := by
  unfold sp_shB
  rw [h]
  rfl
theorem want0_5 {S : Sta} {w : Nat} {f : Int32} (h : S 5 w = nI 5) : sp_want0 S w f = nI 2 * (f / nI 3) := by
  unfold sp_want0
  rw [h]
  rfl
theorem turn0_5 {S : Sta} {w : Nat} {t : Int32} (h : S 5 w = nI 5) : sp_turn0 S w t = nI 0 := by
  unfold sp_turn0
  rw [h]
  rfl
theorem shB_5 {S : Sta} {w : Nat} {t u : Int32} (h : S 5 w = nI 5) : sp_shB S w t u = nI 2 * t := by
  unfold sp_shB
  rw [h]
  rfl
theorem want0_6 {S : Sta} {w : Nat} {f : Int32} (h : S 5 w = nI 6) : sp_want0 S w f = sp_tt S w f := by
  unfold sp_want0
  rw [h]
  rfl
theorem turn0_6 {S : Sta} {w : Nat} {t : Int32} (h : S 5 w = nI 6) : sp_turn0 S w t = sp_ut S w t := by
  unfold sp_turn0
  rw [h]
  rfl
theorem shB_6 {S : Sta} {w : Nat} {t u : Int32} (h : S 5 w = nI 6) : sp_shB S w t u = u := by
  unfold sp_shB
  rw [h]
  rfl
theorem ag_up {p q : Nat → Int32} {d d' i : Nat} {v : Int32} (h : ∀ j, j < d → p j = q j) (hd : d' ≤ d ∨ (d' = d + 1 ∧ i = d)) : ∀ j, j < d' → upd p i v j = upd q i v j := by
  intro j hj
  by_cases e : j = i
  · rw [e, pk_us, pk_us]
  · rw [pk_un e, pk_un e]
    exact h j (by omega)
theorem tx_at {g : Nat → Int32} {S : Sta} {u j n : Nat} (hR : RM g S) (hu : u < 2) (hj : j < 125) (hn : n = 115 + 125 * u + j) : g n = S (12 + u) j := by
  rcases (by omega : u = 0 ∨ u = 1) with rfl | rfl
  · exact hR.at 12 j hj (by rw [hn]; show _ = 115 + 1 * j; omega)
  · exact hR.at 13 j hj (by rw [hn]; show _ = 240 + 1 * j; omega)
theorem okc_lt {u c : Nat} (h : okc u c) : c < 128 := by
  rcases h with h | ⟨_, h | h | h⟩ | ⟨_, h | h⟩ <;> omega
theorem evp_0 {f nm : Nat → Int32} {k : Nat} (h : f (1 + 2 * k) = nI 0) : evp f nm (k + 1) = upd (evp f nm k) (dep f k) (f (2 + 2 * k)) ∧ dep f (k + 1) = dep f k + 1 := by
  constructor
  · rw [evp, if_pos h]
  · rw [dep, if_pos h]
theorem evp_1 {f nm : Nat → Int32} {k : Nat} (h : f (1 + 2 * k) = nI 1) : evp f nm (k + 1) = upd (evp f nm k) (dep f k) (nm (cn (f (2 + 2 * k)))) ∧ dep f (k + 1) = dep f k + 1 := by
  have h0 : ¬ f (1 + 2 * k) = nI 0 := by rw [h]; decide
  constructor
  · rw [evp, if_neg h0, if_pos h]
  · rw [dep, if_neg h0, if_pos h]
theorem evp_2 {f nm : Nat → Int32} {k : Nat} (h : f (1 + 2 * k) = nI 2) : evp f nm (k + 1) = upd (evp f nm k) (dep f k - 1) (if evp f nm k (dep f k - 1) = 0 then nI 1 else nI 0) ∧ dep f (k + 1) = dep f k := by
  have h0 : ¬ f (1 + 2 * k) = nI 0 := by rw [h]; decide
  have h1 : ¬ f (1 + 2 * k) = nI 1 := by rw [h]; decide
  constructor
  · rw [evp, if_neg h0, if_neg h1, if_pos h]
  · rw [dep, if_neg h0, if_neg h1, if_pos h]
theorem evp_3 {f nm : Nat → Int32} {k : Nat} (h : f (1 + 2 * k) = nI 3) : evp f nm (k + 1) = upd (evp f nm k) (dep f k - 2) (sp_join (f (2 + 2 * k)) (evp f nm k (dep f k - 2)) (evp f nm k (dep f k - 1))) ∧ dep f (k + 1) = dep f k - 1 := by
  have h0 : ¬ f (1 + 2 * k) = nI 0 := by rw [h]; decide
  have h1 : ¬ f (1 + 2 * k) = nI 1 := by rw [h]; decide
  have h2 : ¬ f (1 + 2 * k) = nI 2 := by rw [h]; decide
  constructor
  · rw [evp, if_neg h0, if_neg h1, if_neg h2]
  · rw [dep, if_neg h0, if_neg h1, if_neg h2]
theorem dep_le {f : Nat → Int32} (k : Nat) : dep f k ≤ k := by
  induction k with
  | zero => exact Nat.le_refl 0
  | succ k ih =>
    rw [dep]
    split
    · omega
    · split
      · omega
      · split <;> omega
