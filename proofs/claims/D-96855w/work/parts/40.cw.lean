/-! the class's world: its cells by number (the order in which they are made), ad k the address of the k-th -/
def gw (ad : Nat → Nat) (n : Nat) (f : Nat → va_E) : va_W := (List.range n).map (fun k => (ad k, f k))
theorem gw_at {ad : Nat → Nat} {n : Nat} {f : Nat → va_E} {k : Nat} (h : k < n) : (gw ad n f)[k]? = some (ad k, f k) := by
  simp [gw, h]
theorem gw_ge {ad : Nat → Nat} {n : Nat} {f : Nat → va_E} {k : Nat} (h : n ≤ k) : (gw ad n f)[k]? = none := by
  simp [gw, h]
theorem gw_ext {ad bd : Nat → Nat} {n : Nat} {f g : Nat → va_E} (h : ∀ k, k < n → ad k = bd k ∧ f k = g k) : gw ad n f = gw bd n g := by
  refine List.map_congr_left (fun k hk => ?_)
  have := h k (List.mem_range.mp hk)
  rw [this.1, this.2]
theorem gw_set {ad : Nat → Nat} {n : Nat} {f g : Nat → va_E} {k : Nat} {e : va_E} (h : k < n) (he : g k = e) (ho : ∀ j, j < n → j ≠ k → g j = f j) : (gw ad n f).set k (ad k, e) = gw ad n g := by
  refine List.ext_getElem? (fun j => ?_)
  rcases Nat.lt_or_ge j n with hj | hj
  · rw [gw_at hj]
    by_cases e1 : j = k
    · subst e1
      rw [List.getElem?_set_self (by simp [gw, h]), he]
    · rw [List.getElem?_set_ne (Ne.symm e1), gw_at hj, ho j hj e1]
  · rw [gw_ge hj, List.getElem?_set_ne (by omega), gw_ge hj]
theorem gw_push {ad : Nat → Nat} {n : Nat} {f : Nat → va_E} {q : Nat} {e : va_E} : gw ad n f ++ [(q, e)] = gw (va_up ad n q) (n + 1) (va_up f n e) := by
  unfold gw
  rw [List.range_succ, List.map_append, List.map_cons, List.map_nil, va_up_self, va_up_self]
  congr 1
  refine List.map_congr_left (fun k hk => ?_)
  have : k ≠ n := by have := List.mem_range.mp hk; omega
  rw [va_up_ne _ _ this, va_up_ne _ _ this]
/-! cells that hold the same -/
theorem arr_ext {c : ClassId} {n : Nat} {f g : Nat → Value} (h : ∀ j, j < n → f j = g j) : arrV c n f = arrV c n g := by
  have e : Array.ofFn (n := n) (fun i => f i.val) = Array.ofFn (n := n) (fun i => g i.val) := by
    congr 1
    funext i
    exact h i.val i.isLt
  unfold arrV
  first | rw [e] | simp only [e] | (congr 1; exact e)
abbrev aI (c : ClassId) (n : Nat) (f : Nat → Int32) : va_E := .inl (c, n, .inl f)
abbrev aR (c : ClassId) (n : Nat) (f : Nat → Option Nat) : va_E := .inl (c, n, .inr (.inr (.inr (.inr f))))
abbrev nB (x : Int32) : Int32 := vp_nar .byte x
abbrev nS (x : Int32) : Int32 := vp_nar .short x
def rf (ad : Nat → Nat) (r : Option Nat) : Value := va_rf (r.map ad)
/-- a house's cells: S its numbers, hd its slots' wheels, tx its texts -/
def hcl (cA : Nat → ClassId) (ad : Nat → Nat) (h : Nat) (S : Nat → Nat → Int32) (hd tx : Nat → Option Nat) (o : Nat) : va_E := match o with
  | 0 => .inr (1, [.int (S 0 0), .int (S 0 1), .int (S 0 2), .int (S 0 5), .int (S 0 3), .int (S 0 4), .ref (ad (h + 1)), .ref (ad (h + 2)), .ref (ad (h + 3)), .ref (ad (h + 4)), .ref (ad (h + 5)), .ref (ad (h + 6)), .ref (ad (h + 7)), .ref (ad (h + 8)), .ref (ad (h + 9)), .ref (ad (h + 10)), .ref (ad (h + 11)), .ref (ad (h + 12)), .ref (ad (h + 13))])
  | 1 => aI (cA 1) 24 (S 1)
  | 2 => aI (cA 1) 12 (S 2)
  | 3 => aI (cA 0) 5 (S 3)
  | 4 => aI (cA 0) 5 (S 4)
  | 5 => aR (cA 3) 8 (fun k => some (ad (h + 14 + k)))
  | 6 => aI (cA 1) 8 (S 7)
  | 7 => aI (cA 1) 8 (S 8)
  | 8 => aI (cA 1) 8 (S 9)
  | 9 => aI (cA 0) 8 (S 10)
  | 10 => aI (cA 0) 8 (S 11)
  | 11 => aR (cA 4) 2 (fun u => (tx u).map ad)
  | 12 => aI (cA 1) 60 (fun j => nB (S 14 j))
  | 13 => aI (cA 0) 24 (S 15)
  | k + 14 => .inr (2, [rf ad (hd k)])
/-- the brook's own cells: N its numbers (0 found, 1 bodies, 2 many, 3 images, 4 pile, 5 named, 6 took, 7 flowing, 8 summed, 9 gone, 10 lost), sh its sheets, r which house, which aside -/
def ocl (cA : Nat → ClassId) (ad : Nat → Nat) (N : Nat → Nat → Int32) (sh : Nat → Option Nat) (r : Nat × Nat) (k : Nat) : va_E := match k with
  | 0 => .inr (0, [.ref (ad 1), .ref (ad 2), .ref (ad (3 + 22 * r.1)), .ref (ad (3 + 22 * r.2)), .ref (ad (3 + 22 * 2)), .ref (ad 69), .ref (ad 71), .ref (ad 72), .ref (ad 77), .int (N 3 0), .ref (ad 78), .ref (ad 79), .int (N 9 0), .int (N 10 0), .ref (ad 80)])
  | 1 => aI (cA 0) 60 (N 4)
  | 2 => aI (cA 0) 4 (N 5)
  | 69 => .inr (3, [.ref (ad 70), .int (N 2 0)])
  | 70 => aI (cA 1) 30 (N 1)
  | 71 => aI (cA 0) 7 (N 0)
  | 72 => aR (cA 3) 4 (fun k => some (ad (73 + k)))
  | 73 => .inr (2, [rf ad (sh 0)])
  | 74 => .inr (2, [rf ad (sh 1)])
  | 75 => .inr (2, [rf ad (sh 2)])
  | 76 => .inr (2, [rf ad (sh 3)])
  | 77 => .inr (4, [.ref (ad 0)])
  | 78 => aI (cA 0) 8 (N 6)
  | 79 => aI (cA 0) 12 (N 7)
  | _ => aI (cA 0) 8 (N 8)
/-- U 0, 1, 2 the three houses, U 3 the brook's own; ρ 0..2 the houses' wheels, 3..5 their texts, 6 the sheets; f0 what lies beyond -/
def wcl (cA : Nat → ClassId) (ad : Nat → Nat) (f0 : Nat → va_E) (U : Nat → Nat → Nat → Int32) (ρ : Nat → Nat → Option Nat) (r : Nat × Nat) (k : Nat) : va_E :=
  if 81 ≤ k then f0 k else if 3 ≤ k ∧ k < 69 then hcl cA ad (3 + 22 * ((k - 3) / 22)) (U ((k - 3) / 22)) (ρ ((k - 3) / 22)) (ρ (3 + (k - 3) / 22)) ((k - 3) % 22) else ocl cA ad (U 3) (ρ 6) r k
abbrev cw (cA : Nat → ClassId) (ad : Nat → Nat) (n : Nat) (f0 : Nat → va_E) (U : Nat → Nat → Nat → Int32) (ρ : Nat → Nat → Option Nat) (r : Nat × Nat) : va_W := gw ad n (wcl cA ad f0 U ρ r)
section WC
variable {cA : Nat → ClassId} {ad : Nat → Nat} {f0 : Nat → va_E} {U V : Nat → Nat → Nat → Int32} {ρ τ : Nat → Nat → Option Nat} {r : Nat × Nat} {n : Nat}
theorem wcl_h {a o : Nat} (ha : a < 3) (ho : o < 22) : wcl cA ad f0 U ρ r (3 + 22 * a + o) = hcl cA ad (3 + 22 * a) (U a) (ρ a) (ρ (3 + a)) o := by
  unfold wcl
  rw [if_neg (by omega), if_pos (by omega)]
  have e1 : (3 + 22 * a + o - 3) / 22 = a := by omega
  have e2 : (3 + 22 * a + o - 3) % 22 = o := by omega
  rw [e1, e2]
theorem wcl_0 {a : Nat} (ha : a < 3) : wcl cA ad f0 U ρ r (3 + 22 * a) = hcl cA ad (3 + 22 * a) (U a) (ρ a) (ρ (3 + a)) 0 := wcl_h (o := 0) ha (by decide)
theorem wcl_f {k : Nat} (h : 81 ≤ k) : wcl cA ad f0 U ρ r k = f0 k := by
  unfold wcl
  rw [if_pos h]
theorem wcl_o {k : Nat} (h : k < 81) (h2 : ¬ (3 ≤ k ∧ k < 69)) : wcl cA ad f0 U ρ r k = ocl cA ad (U 3) (ρ 6) r k := by
  unfold wcl
  rw [if_neg (by omega), if_neg h2]
/-- the row that a house's cell shows -/
def ro (o : Nat) : Option Nat := match o with
  | 0 => some 0
  | 1 => some 1
  | 2 => some 2
  | 3 => some 3
  | 4 => some 4
  | 6 => some 7
  | 7 => some 8
  | 8 => some 9
  | 9 => some 10
  | 10 => some 11
  | 12 => some 14
  | 13 => some 15
  | _ => none
theorem hcl_ext {h o : Nat} {S S' : Nat → Nat → Int32} {hd tx : Nat → Option Nat} (he : ∀ q, ro o = some q → S q = S' q) : hcl cA ad h S hd tx o = hcl cA ad h S' hd tx o := by
  match o with
  | 0 => simp only [hcl, he 0 rfl]
  | 1 => simp only [hcl, he 1 rfl]
  | 2 => simp only [hcl, he 2 rfl]
  | 3 => simp only [hcl, he 3 rfl]
  | 4 => simp only [hcl, he 4 rfl]
  | 5 => rfl
  | 6 => simp only [hcl, he 7 rfl]
  | 7 => simp only [hcl, he 8 rfl]
  | 8 => simp only [hcl, he 9 rfl]
  | 9 => simp only [hcl, he 10 rfl]
  | 10 => simp only [hcl, he 11 rfl]
  | 11 => rfl
  | 12 => simp only [hcl, he 14 rfl]
  | 13 => simp only [hcl, he 15 rfl]
  | k + 14 => rfl
/-- the cell of a row -/
def co (q : Nat) : Nat := ([0, 1, 2, 3, 4, 99, 99, 6, 7, 8, 9, 10, 99, 99, 12, 13] : List Nat).getD q 99
theorem ro_co {o q : Nat} (ho : o < 22) (h : ro o = some q) : o = co q := by
  have : ∀ o, o < 22 → ∀ q, q < 16 → ro o = some q → o = co q := by decide +kernel
  have h16 : ∀ o, o < 22 → ro o = none ∨ ∃ q, q < 16 ∧ ro o = some q := by decide +kernel
  rcases h16 o ho with z | ⟨q', hq, z⟩
  · rw [z] at h; cases h
  · rw [z] at h
    have e : q' = q := Option.some.inj h
    rw [← e]
    exact this o ho q' hq z
def oc (q : Nat) : Nat := ([71, 70, 69, 0, 1, 2, 78, 79, 80, 0, 0] : List Nat).getD q 99
theorem ocl_ext {k : Nat} {N N' : Nat → Nat → Int32} {sh : Nat → Option Nat} (hk : k < 81) (hk2 : ¬ (3 ≤ k ∧ k < 69)) (he : ∀ q, q < 11 → oc q = k → N q = N' q) : ocl cA ad N sh r k = ocl cA ad N' sh r k := by
  unfold ocl
  split
  · rw [he 3 (by decide) rfl, he 9 (by decide) rfl, he 10 (by decide) rfl]
  · rw [he 4 (by decide) rfl]
  · rw [he 5 (by decide) rfl]
  · rw [he 2 (by decide) rfl]
  · rw [he 1 (by decide) rfl]
  · rw [he 0 (by decide) rfl]
  · rfl
  · rfl
  · rfl
  · rfl
  · rfl
  · rfl
  · rw [he 6 (by decide) rfl]
  · rw [he 7 (by decide) rfl]
  · rename_i h0 h1 h2 h3 h4 h5 h6 h7 h8 h9 h10 h11 h12 h13
    have key : ∀ k, k < 81 → (3 ≤ k ∧ k < 69) ∨ k ∈ ([0, 1, 2, 69, 70, 71, 72, 73, 74, 75, 76, 77, 78, 79] : List Nat) ∨ k = 80 := by decide +kernel
    have e : k = 80 := by
      rcases key k hk with z | z | z
      · exact absurd z hk2
      · exfalso
        simp only [List.mem_cons, List.not_mem_nil, or_false] at z
        rcases z with z | z | z | z | z | z | z | z | z | z | z | z | z | z
        · exact h0 z
        · exact h1 z
        · exact h2 z
        · exact h3 z
        · exact h4 z
        · exact h5 z
        · exact h6 z
        · exact h7 z
        · exact h8 z
        · exact h9 z
        · exact h10 z
        · exact h11 z
        · exact h12 z
        · exact h13 z
      · exact z
    rw [he 8 (by decide) e.symm]
/-- a row of a house (or of the brook's own, a = 3) anew -/
def up3 (U : Nat → Nat → Nat → Int32) (a i : Nat) (f : Nat → Int32) : Nat → Nat → Nat → Int32 := fun x => if x = a then up1 (U a) i f else U x
theorem up3_s {a i : Nat} {f : Nat → Int32} : up3 U a i f a = up1 (U a) i f := by simp [up3]
theorem up3_n {a i x : Nat} {f : Nat → Int32} (h : x ≠ a) : up3 U a i f x = U x := by simp [up3, h]
theorem wcl_up {a i k : Nat} {f : Nat → Int32} (hk : k < n) (hh : a < 3 → k ≠ 3 + 22 * a + co i) (ho : a = 3 → k ≠ oc i) : wcl cA ad f0 (up3 U a i f) ρ r k = wcl cA ad f0 U ρ r k := by
  rcases Nat.lt_or_ge k 81 with h1 | h1
  · by_cases h2 : 3 ≤ k ∧ k < 69
    · obtain ⟨b, o, hb, hoo, rfl⟩ : ∃ b o, b < 3 ∧ o < 22 ∧ k = 3 + 22 * b + o := ⟨(k - 3) / 22, (k - 3) % 22, by omega, by omega, by omega⟩
      rw [wcl_h hb hoo, wcl_h hb hoo]
      by_cases e : b = a
      · subst e
        rw [up3_s]
        refine hcl_ext (fun q hq => up1_n (fun z => ?_))
        subst z
        have := ro_co hoo hq
        have := hh hb
        omega
      · rw [up3_n e]
    · rw [wcl_o h1 h2, wcl_o h1 h2]
      by_cases e : a = 3
      · subst e
        rw [up3_s]
        refine ocl_ext h1 h2 (fun q hq hc => up1_n (fun z => ?_))
        subst z
        exact ho rfl hc.symm
      · rw [up3_n (Ne.symm e)]
  · rw [wcl_f h1, wcl_f h1]
/-- a row's cell is laid anew -/
theorem cw_up {a i k : Nat} {f : Nat → Int32} {e : va_E} (hk : k < n) (hh : a < 3 → k = 3 + 22 * a + co i) (ho : a = 3 → k = oc i) (he : wcl cA ad f0 (up3 U a i f) ρ r k = e) : (cw cA ad n f0 U ρ r).set k (ad k, e) = cw cA ad n f0 (up3 U a i f) ρ r :=
  gw_set hk he (fun j hj hn => wcl_up hj (fun z => by rw [← hh z]; exact hn) (fun z => by rw [← ho z]; exact hn))
end WC
