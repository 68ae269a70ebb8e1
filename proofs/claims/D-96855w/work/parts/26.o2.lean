/-! what each call answers and leaves -/
def op_force (h v : Int32) (T : Tta) : Int32 × Tta := if nI 0 ≤ h ∧ h ≤ nI 23 then (if nI 0 ≤ v ∧ v ≤ nI 99 then (T 0 1 (cn h), tS T (up2 (T 0) 1 (cn h) v)) else er 1 T) else er 1 T
def op_weed (h v : Int32) (T : Tta) : Int32 × Tta := if nI 0 ≤ h ∧ h ≤ nI 11 then (if nI 0 ≤ v ∧ v ≤ nI 9 then (T 0 2 (cn h), tS T (up2 (T 0) 2 (cn h) v)) else er 1 T) else er 1 T
def op_frost (v : Int32) (T : Tta) : Int32 × Tta := if nI 0 ≤ v ∧ v ≤ nI 9 then (T 0 0 2, tS T (up2 (T 0) 0 2 v)) else er 1 T
def op_owe (h v : Int32) (T : Tta) : Int32 × Tta := if nI 0 ≤ h ∧ h ≤ nI 4 then (if nI 0 ≤ v ∧ v ≤ 99999 then (T 0 3 (cn h), tS T (up2 (T 0) 3 (cn h) v)) else er 1 T) else er 1 T
def op_seed (v : Int32) (T : Tta) : Int32 × Tta := (T 0 0 5, tS T (up2 (T 0) 0 5 v))
def wof (S : Sta) (f : Nat) : Nat → Nat
  | 0 => 0
  | n + 1 => wof S f n + (if S 8 n = nI f then 1 else 0)
def sp_told (S : Sta) (f : Nat) (q : Int32) : Int32 := if nI 3 ≤ q then nI (wof S f (wh S)) else if q = 0 then S 3 f else if q = nI 1 then S 4 f else if S 3 f ≤ S 4 f then nI 1 else nI 0
def op_familyIs (f q : Int32) (T : Tta) : Int32 × Tta := if nI 0 ≤ f ∧ f ≤ nI 4 then (if nI 0 ≤ q ∧ q ≤ nI 3 then (sp_told (T 0) (cn f) q, T) else er 1 T) else er 1 T
def ad7 (S : Sta) (w a c : Nat) : Sta := up2 (up2 (up2 (up2 (up2 (up2 (up2 S 5 w (nI (a / 10))) 6 w (nI (a % 10))) 7 w (nI (c / 10))) 8 w (nI (c % 10))) 9 w (nI 1)) 10 w (nI 0)) 11 w (nI 0)
def sp_adds (S : Sta) (a c : Nat) : Sta := up2 (ad7 S (wh S) a c) 0 0 (nI (wh S + 1))
def op_wheel (km pf : Int32) (T : Tta) : Int32 × Tta :=
  if nI 0 ≤ km ∧ km ≤ nI 69 then (if nI 0 ≤ pf ∧ pf ≤ nI 114 then (if cn pf % 10 ≤ 4 then (if wh (T 0) = 8 then er 4 T else (nI (wh (T 0)), tS T (sp_adds (T 0) (cn km) (cn pf)))) else er 1 T) else er 1 T) else er 1 T
def isWh (S : Sta) (x : Int32) : Prop := nI 0 ≤ x ∧ x ≤ S 0 0 - nI 1
theorem isWh_of {S : Sta} (h : Inv S) {x : Int32} (hx : isWh S x) : ∃ w, w < wh S ∧ x = nI w := by
  obtain ⟨e, h8⟩ := inv_wh h
  rcases Nat.eq_zero_or_pos (wh S) with h0 | h0
  · rw [isWh, e, h0] at hx
    have h1 := Int32.le_trans hx.1 hx.2
    exact absurd h1 (by decide)
  · rw [isWh, e, show (nI 1 : Int32) = nI 1 from rfl, pk_sub h0] at hx
    obtain ⟨k, hk, e2⟩ := in_nI hx (by omega)
    exact ⟨k, by omega, e2⟩
theorem isWh_in {S : Sta} (h : Inv S) {w : Nat} (hw : w < wh S) : isWh S (nI w) := by
  obtain ⟨e, h8⟩ := inv_wh h
  rw [isWh, e, pk_sub (by omega)]
  exact nI_in2 (by omega) (by omega)
def isUn (own kind : Int32) : Prop := kind = 0 ∨ own = kind ∨ (kind = nI 1 ∧ own = nI 4) ∨ (kind = nI 3 ∧ own = nI 5)
def op_as (x k : Int32) (T : Tta) : Int32 × Tta := if nI 0 ≤ x ∧ x ≤ T 0 0 0 - nI 1 then (if nI 0 ≤ k ∧ k ≤ nI 6 then (if k = 0 ∨ T 0 5 (cn x) = k ∨ (k = nI 1 ∧ T 0 5 (cn x) = nI 4) ∨ (k = nI 3 ∧ T 0 5 (cn x) = nI 5) then (T 0 10 (cn x), T) else er 5 T) else er 1 T) else er 1 T
def sp_most (q : Int32) : Int32 := if q = 0 then nI 6 else if q = nI 1 then nI 9 else if q = nI 2 then nI 11 else if q = nI 3 then nI 4 else if q = nI 4 then nI 1 else 999999
def op_set (x q v : Int32) (T : Tta) : Int32 × Tta := if nI 0 ≤ x ∧ x ≤ T 0 0 0 - nI 1 then (if nI 0 ≤ q ∧ q ≤ nI 5 then (if nI 0 ≤ v ∧ v ≤ sp_most q then (T 0 (5 + cn q) (cn x), tS T (up2 (T 0) (5 + cn q) (cn x) v)) else er 1 T) else er 1 T) else er 1 T
def op_sell (f g n : Int32) (T : Tta) : Int32 × Tta :=
  if nI 0 ≤ f ∧ f ≤ nI 4 then (if nI 0 ≤ g ∧ g ≤ nI 4 then (if f = g then er 1 T else if nI 1 ≤ n ∧ n ≤ nI 9999 then (if n ≤ T 0 4 (cn f) then
    (let S1 := up2 (T 0) 4 (cn f) (sp_held (T 0 4 (cn f) - n) (nI 0) 999999); let S2 := up2 S1 4 (cn g) (sp_held (S1 4 (cn g) + n) (nI 0) 999999); (S2 4 (cn g), tS T S2)) else er 3 T) else er 1 T) else er 1 T) else er 1 T
def op_fair (f g : Int32) (T : Tta) : Int32 × Tta :=
  if nI 0 ≤ f ∧ f ≤ nI 4 then (if nI 0 ≤ g ∧ g ≤ nI 4 then (if f = g then er 1 T else ((T 0 4 (cn f) - T 0 3 (cn f) - T 0 4 (cn g) + T 0 3 (cn g)) / nI 2, T)) else er 1 T) else er 1 T
