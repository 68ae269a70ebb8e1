/-! sheets, images, what is told -/
theorem tX_tX {T : Tta} {r : Nat} {f g : Nat → Int32} : tX (tX T r f) r g = tX T r g := by
  funext i
  by_cases h : i = 2
  · subst h
    funext q
    by_cases e : q = r
    · simp [tX, up1, e]
    · simp [tX, up1, e]
  · simp [tX, h]
theorem tX_2 {T : Tta} {r : Nat} {f : Nat → Int32} : tX T r f 2 r = f := by simp [tX, up1]
theorem tX_2n {T : Tta} {r q : Nat} {f : Nat → Int32} (h : q ≠ r) : tX T r f 2 q = T 2 q := by simp [tX, up1, h]
theorem RT.stX {σ : Sta} {T : Tta} (h : RT σ T) (r k : Nat) (v : Int32) (hr : r < 7) : RT (up1 σ (xr_ r) (upd (σ (xr_ r)) k v)) (tX T r (upd (T 2 r) k v)) := by
  refine h.X r (L := [xr_ r]) (fun j hj => ?_) (Kp.rf.up (by simp)) (fun q hq hne => ?_) ?_ ?_
  · rw [up1_s]
    by_cases e : j = k
    · rw [e, pk_us, pk_us]
    · rw [pk_un e, pk_un e]
      exact h.2.2 r j hj
  · simp only [List.mem_singleton]
    exact fun z => hne (xr_inj q hq r hr z)
  · have : ∀ r, r < 7 → (0 : Nat) ∉ [xr_ r] := by decide +kernel
    exact this r hr
  · have : ∀ r, r < 7 → (1 : Nat) ∉ [xr_ r] := by decide +kernel
    exact this r hr
def shz (f : Nat → Int32) (s : Nat) : Nat → Nat → Int32
  | 0 => f
  | k + 1 => upd (shz f s k) (24 * s + k) (nI 0)
def tSh (T : Tta) (s : Nat) (bt n : Int32) : Tta := tX (tX (tX T 4 (upd (T 2 4) s bt)) 5 (upd (T 2 5) s (if bt = 0 then nI 0 else n))) 6 (shz (T 2 6) s 24)
def op_sheet (s bt n : Int32) (T : Tta) : Int32 × Tta :=
  if nI 0 ≤ s ∧ s ≤ nI 3 then (if bt = 0 ∨ bt = nI 8 ∨ bt = nI 16 ∨ bt = nI 32 then (if ¬ bt = 0 ∧ n < 0 then er 3 T else if ¬ bt = 0 ∧ nI 24 < n then er 1 T else (nI 1, tSh T (cn s) bt n)) else er 1 T) else er 1 T
def shv (b v : Int32) : Int32 := (v <<< ((nI 32 - b) &&& 31)) >>> ((nI 32 - b) &&& 31)
def op_put (s i v : Int32) (T : Tta) : Int32 × Tta :=
  if nI 0 ≤ s ∧ s ≤ nI 3 then (if T 2 4 (cn s) = 0 then er 2 T else if nI 0 ≤ i ∧ i ≤ T 2 5 (cn s) - nI 1 then (nI 1, tX T 6 (upd (T 2 6) (24 * cn s + cn i) (shv (T 2 4 (cn s)) v))) else er 1 T) else er 1 T
def mvf (f : Nat → Int32) (src dst n : Nat) : Nat → Int32 := fun q => if dst ≤ q ∧ q < dst + n then f (src + (q - dst)) else f q
def op_move (s i o j n : Int32) (T : Tta) : Int32 × Tta :=
  if nI 0 ≤ s ∧ s ≤ nI 3 then (if nI 0 ≤ o ∧ o ≤ nI 3 then (if T 2 4 (cn s) = 0 then er 2 T else if T 2 4 (cn o) = 0 then er 2 T else if T 2 4 (cn s) = T 2 4 (cn o) then
    (if n < 0 then er 1 T else if i < 0 then er 1 T else if j < 0 then er 1 T else if cn i + cn n ≤ cn (T 2 5 (cn s)) then (if cn j + cn n ≤ cn (T 2 5 (cn o)) then (n, tX T 6 (mvf (T 2 6) (24 * cn s + cn i) (24 * cn o + cn j) (cn n))) else er 1 T) else er 1 T) else er 5 T) else er 1 T) else er 1 T
theorem sub_toI {a b : Nat} (ha : a < 2 ^ 31) (hb : b < 2 ^ 31) : (nI a - nI b).toInt = (a : Int) - b := by
  rw [Int32.toInt_sub, nI_toInt ha, nI_toInt hb]
  exact Int.bmod_eq_of_le (by omega) (by omega)
theorem le_sub_N {a b c : Nat} (ha : a < 2 ^ 31) (hb : b < 2 ^ 31) (hc : c < 2 ^ 31) : nI a ≤ nI c - nI b ↔ a + b ≤ c := by
  rw [Int32.le_iff_toInt_le, sub_toI hc hb, nI_toInt ha]
  omega
theorem lt_sub_N {a b c : Nat} (ha : a < 2 ^ 31) (hb : b < 2 ^ 31) (hc : c < 2 ^ 31) : nI c - nI b < nI a ↔ c < a + b := by
  rw [Int32.lt_iff_toInt_lt, sub_toI hc hb, nI_toInt ha]
  omega
theorem in_sz {x : Int32} {z : Nat} (hz : z ≤ 24) (h : nI 0 ≤ x ∧ x ≤ nI z - nI 1) : ∃ k, k < z ∧ x = nI k := by
  rcases Nat.eq_zero_or_pos z with e | e
  · rw [e] at h
    exact absurd (Int32.le_trans h.1 h.2) (by decide)
  · rw [pk_sub e] at h
    obtain ⟨k, hk, e2⟩ := in_nI h (by omega)
    exact ⟨k, by omega, e2⟩
def sp_lacks (s : Int32) (T : Tta) : Nat := if nI 0 ≤ s ∧ s ≤ nI 3 then (if T 2 4 (cn s) = 0 then 2 else 0) else 1
def fcn (f : Nat → Int32) : Nat → Nat → Nat
  | 0, k => k
  | m + 1, k => if nI 0 ≤ f k ∧ f k ≤ nI 99 then fcn f m (k + 1) else k
def fcS (S : Sta) (f : Nat → Int32) : Nat → Sta
  | 0 => S
  | k + 1 => up2 (fcS S f k) 1 k (f k)
def nums (T : Tta) (s : Nat) : Nat → Int32 := fun k => T 2 6 (24 * s + k)
def op_forces (s : Int32) (T : Tta) : Int32 × Tta := if sp_lacks s T = 0 then (nI (fcn (nums T (cn s)) (cn (T 2 5 (cn s))) 0), tS T (fcS (T 0) (nums T (cn s)) (fcn (nums T (cn s)) (cn (T 2 5 (cn s))) 0))) else er (sp_lacks s T) T
def jdn (f g : Nat → Int32) (z : Nat) : Nat → Nat → Nat
  | 0, k => k
  | m + 1, k => if z ≤ k then k else if f k = g k then jdn f g z m (k + 1) else k
def op_judge (s : Int32) (T : Tta) : Int32 × Tta := if sp_lacks s T = 0 then (nI (jdn (nums T (cn s)) (sp_fl (T 0)).2.2.2.2 (cn (T 2 5 (cn s))) 12 0), T) else er (sp_lacks s T) T
def op_image (T : Tta) : Int32 × Tta := (T 2 3 0 + nI 1, tX (tK T (T 0)) 3 (fun _ => T 2 3 0 + nI 1))
def op_restore (T : Tta) : Int32 × Tta := if T 2 3 0 = 0 then er 2 T else (T 1 0 1, tS T (T 1))
def wtg (S : Sta) : Nat := cn (S 0 4)
theorem inv_wt {S : Sta} (h : Inv S) : S 0 4 = nI (wtg S) ∧ wtg S ≤ 24 := by
  obtain ⟨k, hk, e⟩ := h.2.2.2.2.2.1
  have e2 : wtg S = k := by
    unfold wtg
    rw [e, cn_nI (by omega)]
  rw [e2]
  exact ⟨e, hk⟩
def sp_tell (S : Sta) (v : Int32) : Sta := up2 (up2 S 15 (wtg S) v) 0 4 (nI (wtg S + 1))
def op_tell (v : Int32) (T : Tta) : Int32 × Tta := if wtg (T 0) = 24 then er 4 T else (nI (wtg (T 0) + 1), tS T (sp_tell (T 0) v))
def ckn (S : Sta) (x : Nat) : Nat → Nat → Nat × Bool
  | 0, k => (k, true)
  | m + 1, k => if S 15 k = hrN S (k + 1) 10 x then ckn S x m (k + 1) else (k, false)
def op_check (x : Int32) (T : Tta) : Int32 × Tta :=
  if nI 0 ≤ x ∧ x ≤ T 0 0 0 - nI 1 then (if (ckn (up2 (T 0) 0 4 (nI 0)) (cn x) (wtg (T 0)) 0).2 = true then nI 0 else nI (1 + (ckn (up2 (T 0) 0 4 (nI 0)) (cn x) (wtg (T 0)) 0).1), tS T (up2 (T 0) 0 4 (nI 0))) else er 1 (tS T (up2 (T 0) 0 4 (nI 0)))
def op_count (q : Int32) (T : Tta) : Int32 × Tta :=
  if nI 11 ≤ q ∧ q ≤ nI 22 then (T 0 2 (cn q - 11), T) else if q = nI 0 then (T 0 0 0, T) else if q = nI 1 then (T 0 0 1, T) else if q = nI 2 then (T 0 1 (cn (hod (T 0))), T) else if q = nI 3 then ((sp_fl (T 0)).1, T) else if q = nI 4 then ((sp_fl (T 0)).2.1, T)
  else if q = nI 5 then (T 0 0 2, T) else if q = nI 6 then (sumP (T 0) 5, T) else if q = nI 7 then (T 0 0 3, T) else if q = nI 8 then (T 0 0 4, T) else if q = nI 9 then (T 2 2 0, T) else if q = nI 10 then (T 0 0 5, T) else er 1 T
def op_told (k : Int32) (T : Tta) : Int32 × Tta := if nI 1 ≤ k ∧ k ≤ nI 6 then (T 2 0 (cn k), T) else er 1 T
def tpd (S : Sta) : Nat := cn (S 0 3)
theorem inv_tp {S : Sta} (h : Inv S) : S 0 3 = nI (tpd S) ∧ tpd S ≤ 60 := by
  obtain ⟨k, hk, e⟩ := h.2.2.2.2.1
  have e2 : tpd S = k := by
    unfold tpd
    rw [e, cn_nI (by omega)]
  rw [e2]
  exact ⟨e, hk⟩
def fdv (w : Int64) (k : Nat) : Int32 := ((w >>> ((nI (8 * k)).toInt64 &&& 63)) &&& 255).toInt32
def fdS (S : Sta) (w : Int64) : Nat → Sta
  | 0 => S
  | k + 1 => up2 (up2 (fdS S w k) 14 (tpd S + k) (fdv w k)) 0 3 (nI (tpd S + k + 1))
def op_feed (w : Int64) (n : Int32) (T : Tta) : Int32 × Tta := if nI 1 ≤ n ∧ n ≤ nI 8 then (if tpd (T 0) + cn n ≤ 60 then (nI (tpd (T 0) + cn n), tS T (fdS (T 0) w (cn n))) else er 4 T) else er 1 T
def op_untell (u : Int32) (T : Tta) : Int32 × Tta := if nI 0 ≤ u ∧ u ≤ nI 1 then ((if 0 < T 0 (12 + cn u) 0 then nI 1 else nI 0), tS T (up2 (T 0) (12 + cn u) 0 (nI 0))) else er 1 T
theorem hrN_row {S : Sta} {r : Nat} (h0 : r ≠ 0) (h : r ≠ 4) (h2 : r ≠ 10) (h3 : r ≠ 11) : ∀ n, hrN S n r = S r
  | 0 => rfl
  | n + 1 => by rw [hrN, sp_hour, up2_row h0, hrs_row h h2 h3, hrN_row h0 h h2 h3 n]
theorem fdS_0 {S : Sta} {w : Int64} : ∀ (k : Nat) (hI : Inv S), fdS S w k 0 3 = nI (tpd S + k)
  | 0, hI => (inv_tp hI).1
  | k + 1, _ => up2_at
theorem jdn_z {f g : Nat → Int32} {z m k : Nat} (h : z ≤ k) : jdn f g z m k = k := by
  cases m with
  | zero => rfl
  | succ m => rw [jdn, if_pos h]
theorem tX_self {T : Tta} {r : Nat} : tX T r (T 2 r) = T := by
  funext i
  by_cases h : i = 2
  · subst h
    funext q
    by_cases e : q = r
    · simp [tX, up1, e]
    · simp [tX, up1, e]
  · simp [tX, h]
theorem lacks0 {x : Int32} {T : Tta} (h : sp_lacks x T = 0) : ∃ k, k < 4 ∧ x = nI k ∧ ¬ T 2 4 k = 0 := by
  unfold sp_lacks at h
  split at h
  · next h1 =>
    split at h
    · cases h
    · next h2 =>
      obtain ⟨k, hk, e⟩ := in_nI h1
      refine ⟨k, by omega, e, ?_⟩
      rw [e, cn_nI (by omega)] at h2
      exact h2
  · cases h
theorem lacks_le {x : Int32} {T : Tta} : sp_lacks x T ≤ 2 := by
  unfold sp_lacks
  split
  · split <;> omega
  · omega
theorem RT_image {σ τ : Sta} {T : Tta} (hT : RT σ T) (h1 : ∀ q, q < 449 → τ 1 q = σ 0 q) (h3 : τ 15 0 = T 2 3 0 + nI 1) (hk : Kp [1, 15] σ τ) : RT τ (tX (tK T (T 0)) 3 (fun _ => T 2 3 0 + nI 1)) := by
  refine ⟨by rw [hk 0 (by decide)]; exact hT.1, hT.1.same h1, fun r j hj => ?_⟩
  have hr := xl_lt hj
  rcases (by omega : r = 0 ∨ r = 1 ∨ r = 2 ∨ r = 3 ∨ r = 4 ∨ r = 5 ∨ r = 6) with rfl | rfl | rfl | rfl | rfl | rfl | rfl
  · exact (congrFun (hk 3 (by decide)) j).trans (hT.2.2 0 j hj)
  · exact (congrFun (hk 10 (by decide)) j).trans (hT.2.2 1 j hj)
  · exact (congrFun (hk 24 (by decide)) j).trans (hT.2.2 2 j hj)
  · have hj : j < 1 := hj
    have e : j = 0 := by omega
    subst e
    exact h3
  · exact (congrFun (hk 11 (by decide)) j).trans (hT.2.2 4 j hj)
  · exact (congrFun (hk 12 (by decide)) j).trans (hT.2.2 5 j hj)
  · exact (congrFun (hk 13 (by decide)) j).trans (hT.2.2 6 j hj)
theorem in_nIl {x : Int32} {a n : Nat} (h : nI a ≤ x ∧ x ≤ nI n) (ha : a ≤ n) (hn : n < 2 ^ 31 := by decide) : ∃ k, a ≤ k ∧ k ≤ n ∧ x = nI k := by
  obtain ⟨k, hk, e⟩ := in_nI ⟨Int32.le_trans (nI_le (Nat.zero_le a) (by omega)) h.1, h.2⟩ hn
  refine ⟨k, ?_, hk, e⟩
  rw [e] at h
  exact (nI_leI (by omega) (by omega)).mp h.1
theorem cnt_cases (q : Int32) : q = nI 0 ∨ q = nI 1 ∨ q = nI 2 ∨ q = nI 3 ∨ q = nI 4 ∨ q = nI 5 ∨ q = nI 6 ∨ q = nI 7 ∨ q = nI 8 ∨ q = nI 9 ∨ q = nI 10 ∨ (q.toInt < 0 ∨ 10 < q.toInt) := by
  by_cases h : nI 0 ≤ q ∧ q ≤ nI 10
  · obtain ⟨k, hk, rfl⟩ := in_nI h
    rcases (by omega : k = 0 ∨ k = 1 ∨ k = 2 ∨ k = 3 ∨ k = 4 ∨ k = 5 ∨ k = 6 ∨ k = 7 ∨ k = 8 ∨ k = 9 ∨ k = 10) with rfl | rfl | rfl | rfl | rfl | rfl | rfl | rfl | rfl | rfl | rfl <;> simp
  · iterate 11 right
    rw [Int32.le_iff_toInt_le, Int32.le_iff_toInt_le, nI_toInt (by decide), nI_toInt (by decide)] at h
    omega
