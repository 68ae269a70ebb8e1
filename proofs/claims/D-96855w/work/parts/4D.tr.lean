/-! the trace; a field named through a class below -/
def uT (U : Tta) (t : TR) : Tta := up3 (up3 U 3 1 t.1) 3 2 (fun _ => nI t.2)
theorem uT_1 {U : Tta} {t : TR} : uT U t 3 1 = t.1 := by
  rw [uT, up3_s, up1_n (by decide), up3_s, up1_s]
theorem uT_2 {U : Tta} {t : TR} : uT U t 3 2 = fun _ => nI t.2 := by
  rw [uT, up3_s, up1_s]
theorem uT_n {U : Tta} {t : TR} {a : Nat} (h : a ≠ 3) : uT U t a = U a := by
  rw [uT, up3_n h, up3_n h]
theorem uT_ran {U : Tta} {t : TR} {b : Nat} (h : t.2 < 30) : up3 (up3 (uT U t) 3 2 (fun _ => nI (t.2 + 1))) 3 1 (upd (uT U t 3 1) t.2 (nI b)) = uT U (ran b t) := by
  have e1 : ran b t = (upd t.1 t.2 (nI b), t.2 + 1) := by rw [ran, if_pos h]
  rw [e1, uT_1]
  funext x
  by_cases hx : x = 3
  · subst hx
    funext q
    simp only [up3_s, uT]
    by_cases h1 : q = 1
    · subst h1
      rfl
    · by_cases h2 : q = 2
      · subst h2
        rfl
      · simp [up1, h1, h2]
  · rw [up3_n hx, up3_n hx, uT_n hx, uT_n hx]
theorem ran_le {t : TR} {b : Nat} (h : t.2 ≤ 30) : (ran b t).2 ≤ 30 := by
  unfold ran
  split
  · show t.2 + 1 ≤ 30
    omega
  · exact h
