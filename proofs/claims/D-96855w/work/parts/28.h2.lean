/-! more plain laws -/
theorem inv_set0 {S : Sta} (hI : Inv S) {j : Nat} {v : Int32} (h0 : j = 0 → Bd v 8) (h1 : j = 1 → Bd v 20000) (h2 : j = 2 → Bd v 9) (h3 : j = 3 → Bd v 60) (h4 : j = 4 → Bd v 24) : Inv (up2 S 0 j v) := by
  obtain ⟨a1, a2, a3, a4, a5, a6, a7, a8, a9⟩ := hI
  have key : ∀ (k n : Nat), Bd (S 0 k) n → (j = k → Bd v n) → Bd (up2 S 0 j v 0 k) n := by
    intro k n g1 g2
    by_cases e : k = j
    · rw [e, up2_at]
      exact g2 e.symm
    · rw [up2_ne e]
      exact g1
  refine ⟨fun i j h1 h2 h3 => by rw [up2_row (by omega)]; exact a1 i j h1 h2 h3, key 0 8 a2 h0, key 1 20000 a3 h1, key 2 9 a4 h2, key 3 60 a5 h3, key 4 24 a6 h4, ?_⟩
  rw [up2_row (by decide : (12 : Nat) ≠ 0), up2_row (by decide : (13 : Nat) ≠ 0), up2_row (by decide : (14 : Nat) ≠ 0)]
  exact ⟨a7, a8, a9⟩
theorem in_nI1 {x : Int32} {n : Nat} (h : nI 1 ≤ x ∧ x ≤ nI n) (hn : n < 2 ^ 31 := by decide) : ∃ k, 1 ≤ k ∧ k ≤ n ∧ x = nI k := by
  obtain ⟨k, hk, e⟩ := in_nI ⟨Int32.le_trans (by decide : nI 0 ≤ nI 1) h.1, h.2⟩ hn
  refine ⟨k, ?_, hk, e⟩
  rcases Nat.eq_zero_or_pos k with z | z
  · rw [e, z] at h
    exact absurd h.1 (by decide)
  · exact z
def sumP (S : Sta) : Nat → Int32
  | 0 => nI 0
  | k + 1 => sumP S k + S 4 k
def sp_tw (S : Sta) (w : Nat) (q : Int32) : Int32 := if nI 7 ≤ q then (if q = nI 7 then sp_took S w else if q = nI 8 then sp_turns S w (sp_took S w) else sp_shows S w (sp_took S w)) else S (5 + cn q) w
def op_wheelIs (x q : Int32) (T : Tta) : Int32 × Tta := if nI 0 ≤ x ∧ x ≤ T 0 0 0 - nI 1 then (if nI 0 ≤ q ∧ q ≤ nI 9 then (sp_tw (T 0) (cn x) q, T) else er 1 T) else er 1 T
def op_flows (x : Int32) (T : Tta) : Int32 × Tta := if nI 0 ≤ x ∧ x ≤ nI 11 then ((sp_fl (T 0)).2.2.2.2 (cn x), T) else er 1 T
def op_hours (x : Int32) (T : Tta) : Int32 × Tta := if nI 1 ≤ x ∧ x ≤ nI 240 then (if hrv (T 0) + cn x ≤ 9999 then (sumP (hrN (T 0) (cn x)) 5, tS T (hrN (T 0) (cn x))) else er 3 T) else er 1 T
def sp_dz (S : Sta) : Int32 := S 0 5 * 1103515245 + nI 12345
def sp_dr (z : Int32) : Int32 := (z.toUInt32 >>> ((nI 8).toUInt32 &&& Int32.toUInt32 31)).toInt32
def dw_d (S : Sta) : Int32 := rem_ (sp_dr (sp_dz S)) (nI 16)
def dw_fl (S : Sta) : Nat → Sta
  | 0 => S
  | w + 1 => sp_turn1 (dw_fl S w) w (if dw_fl S w 9 w = nI 1 then dw_fl S w 6 w else nI 0)
def dw_2 (S : Sta) : Sta := if dw_d S = 0 then dw_fl (up2 S 0 5 (sp_dz S)) (wh S) else up2 S 0 5 (sp_dz S)
def dw_x (d : Int32) : Int32 := if nI 1 ≤ d ∧ d ≤ nI 3 then nI 1 else if nI 4 ≤ d ∧ d ≤ nI 6 then -1 else nI 0
def dw_3 (S : Sta) : Sta := up2 (dw_2 S) 0 2 (sp_held (S 0 2 + dw_x (dw_d S)) (nI 0) (nI 9))
def dwN (S : Sta) : Nat → Sta
  | 0 => S
  | n + 1 => sp_hour (dw_3 (dwN S n))
def dwC (S : Sta) : Nat → Nat
  | 0 => 0
  | n + 1 => dwC S n + (if dw_d (dwN S n) = 0 then 1 else 0)
def op_draws (x : Int32) (T : Tta) : Int32 × Tta := if nI 1 ≤ x ∧ x ≤ nI 60 then (if hrv (T 0) + cn x ≤ 9999 then (nI (dwC (T 0) (cn x)), tS T (dwN (T 0) (cn x))) else er 3 T) else er 1 T
theorem dw_fl_inv {S : Sta} (hI : Inv S) : ∀ n, Inv (dw_fl S n)
  | 0 => hI
  | n + 1 => turn1_inv (dw_fl_inv hI n)
theorem dw_fl_row {S : Sta} {r : Nat} (h : r ≠ 4) (h3 : r ≠ 11) : ∀ n, dw_fl S n r = S r
  | 0 => rfl
  | n + 1 => by rw [dw_fl, turn1_row h h3, dw_fl_row h h3 n]
theorem dz_inv {S : Sta} (hI : Inv S) {v : Int32} : Inv (up2 S 0 5 v) := inv_set0 hI (fun h => by omega) (fun h => by omega) (fun h => by omega) (fun h => by omega) (fun h => by omega)
theorem dw_2_inv {S : Sta} (hI : Inv S) : Inv (dw_2 S) := by
  unfold dw_2
  split
  · exact dw_fl_inv (dz_inv hI) _
  · exact dz_inv hI
theorem dw_2_0 {S : Sta} : dw_2 S 0 = upd (S 0) 5 (sp_dz S) := by
  unfold dw_2
  split
  · rw [dw_fl_row (by decide) (by decide)]; rfl
  · rfl
theorem dw_3_inv {S : Sta} (hI : Inv S) : Inv (dw_3 S) ∧ hrv (dw_3 S) = hrv S ∧ wh (dw_3 S) = wh S := by
  refine ⟨inv_set0 (dw_2_inv hI) (fun h => by omega) (fun h => by omega) (fun _ => held_bd (by decide)) (fun h => by omega) (fun h => by omega), ?_, ?_⟩
  · show cn (up2 (dw_2 S) 0 2 _ 0 1) = _
    rw [up2_ne (by decide : (1 : Nat) ≠ 2), dw_2_0, pk_un (by decide)]
    rfl
  · show cn (up2 (dw_2 S) 0 2 _ 0 0) = _
    rw [up2_ne (by decide : (0 : Nat) ≠ 2), dw_2_0, pk_un (by decide)]
    rfl
theorem dwN_inv {S : Sta} (hI : Inv S) : ∀ n, hrv S + n ≤ 20000 → Inv (dwN S n) ∧ hrv (dwN S n) = hrv S + n ∧ wh (dwN S n) = wh S
  | 0, _ => ⟨hI, rfl, rfl⟩
  | n + 1, h => by
    obtain ⟨h1, h2, h3⟩ := dwN_inv hI n (by omega)
    obtain ⟨f1, f2, f3⟩ := dw_3_inv h1
    obtain ⟨g1, g2, g3⟩ := hour_inv f1 (by omega)
    exact ⟨g1, by rw [dwN, g2, f2, h2]; omega, by rw [dwN, g3, f3, h3]⟩
