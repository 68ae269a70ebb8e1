/-! ahead, sluices, places, who -/
theorem tS_self {T : Tta} : tS T (T 0) = T := by
  funext i
  unfold tS
  split
  · next h => rw [h]
  · rfl
theorem mlen3 {i : Nat} (h : i < 3) : mlen i = 449 := by
  rcases (by omega : i = 0 ∨ i = 1 ∨ i = 2) with rfl | rfl | rfl <;> rfl
def op_then (n x q : Int32) (T : Tta) : Int32 × Tta := if nI 0 ≤ n ∧ n ≤ nI 240 then (if nI 0 ≤ x ∧ x ≤ T 0 0 0 - nI 1 then (if nI 0 ≤ q ∧ q ≤ nI 9 then (sp_tw (hrN (T 0) (cn n)) (cn x) q, T) else er 1 T) else er 1 T) else er 1 T
def op_thenF (n f q : Int32) (T : Tta) : Int32 × Tta := if nI 0 ≤ n ∧ n ≤ nI 240 then (if nI 0 ≤ f ∧ f ≤ nI 4 then (if nI 0 ≤ q ∧ q ≤ nI 3 then (sp_told (hrN (T 0) (cn n)) (cn f) q, T) else er 1 T) else er 1 T) else er 1 T
def wn (S : Sta) (f : Nat) : Nat → Nat → Nat
  | 0, k => k
  | m + 1, k => if hrN S k 3 f ≤ hrN S k 4 f then k else wn S f m (k + 1)
def op_when (f n : Int32) (T : Tta) : Int32 × Tta := if nI 0 ≤ f ∧ f ≤ nI 4 then (if nI 0 ≤ n ∧ n ≤ nI 240 then (if hrN (T 0) (wn (T 0) (cn f) (cn n) 0) 3 (cn f) ≤ hrN (T 0) (wn (T 0) (cn f) (cn n) 0) 4 (cn f) then (nI (wn (T 0) (cn f) (cn n) 0), T) else er 2 T) else er 1 T) else er 1 T
def opn (S : Sta) (x : Int32) : Nat → Sta
  | 0 => S
  | w + 1 => up2 (opn S x w) 9 w ((x >>> (nI w &&& 31)) &&& nI 1)
def sp_op (S : Sta) (x : Int32) : Sta := opn S x (wh S)
theorem opn_row {S : Sta} {x : Int32} {r : Nat} (h : r ≠ 9) : ∀ n, opn S x n r = S r
  | 0 => rfl
  | n + 1 => by rw [opn, up2_row h, opn_row h n]
theorem opn_9 {S : Sta} {x : Int32} : ∀ (n j : Nat), opn S x n 9 j = if j < n then (x >>> (nI j &&& 31)) &&& nI 1 else S 9 j
  | 0, j => by rw [if_neg (by omega)]; rfl
  | n + 1, j => by
    rw [opn]
    by_cases e : j = n
    · rw [e, up2_at, if_pos (by omega)]
    · rw [up2_ne e, opn_9 n j]
      by_cases h : j < n
      · rw [if_pos h, if_pos (by omega)]
      · rw [if_neg h, if_neg (by omega)]
theorem and1_bd (x : Int32) : Bd (x &&& nI 1) 1 := by
  obtain ⟨j, hj, e⟩ := pk_andE x (m := nI 1) 1 (by decide)
  exact ⟨j, by omega, e⟩
theorem opn_inv {S : Sta} (hI : Inv S) (x : Int32) : ∀ n, Inv (opn S x n)
  | 0 => hI
  | n + 1 => inv_up2 (opn_inv hI x n) (by decide) (by decide) (and1_bd _)
theorem op_inv {S : Sta} (hI : Inv S) (x : Int32) : Inv (sp_op S x) ∧ hrv (sp_op S x) = hrv S ∧ wh (sp_op S x) = wh S := by
  refine ⟨opn_inv hI x _, ?_, ?_⟩
  · show cn (opn S x (wh S) 0 1) = _
    rw [opn_row (by decide)]
    rfl
  · show cn (opn S x (wh S) 0 0) = _
    rw [opn_row (by decide)]
    rfl
theorem op_op {S : Sta} {x y : Int32} : sp_op (sp_op S x) y = sp_op S y := by
  have hw : wh (sp_op S x) = wh S := by
    show cn (opn S x (wh S) 0 0) = _
    rw [opn_row (by decide)]
    rfl
  funext i j
  by_cases e : i = 9
  · subst e
    show opn (sp_op S x) y (wh (sp_op S x)) 9 j = opn S y (wh S) 9 j
    rw [hw, opn_9, opn_9]
    by_cases h : j < wh S
    · rw [if_pos h, if_pos h]
    · rw [if_neg h, if_neg h]
      show opn S x (wh S) 9 j = _
      rw [opn_9, if_neg h]
  · show opn (sp_op S x) y (wh (sp_op S x)) i j = opn S y (wh S) i j
    rw [opn_row e, opn_row e]
    show opn S x (wh S) i j = _
    rw [opn_row e]
abbrev apd (S : Sta) : Prop := (((S 3 0 ≤ S 4 0 ∧ S 3 1 ≤ S 4 1) ∧ S 3 2 ≤ S 4 2) ∧ S 3 3 ≤ S 4 3) ∧ S 3 4 ≤ S 4 4
def apk (S : Sta) : Nat → Prop
  | 0 => True
  | k + 1 => apk S k ∧ S 3 k ≤ S 4 k
theorem apk_5 {S : Sta} : apk S 5 ↔ apd S := ⟨fun h => ⟨⟨⟨⟨h.1.1.1.1.2, h.1.1.1.2⟩, h.1.1.2⟩, h.1.2⟩, h.2⟩, fun h => ⟨⟨⟨⟨⟨trivial, h.1.1.1.1⟩, h.1.1.1.2⟩, h.1.1.2⟩, h.1.2⟩, h.2⟩⟩
def tkN (S : Sta) : Nat → Int32
  | 0 => nI 0
  | k + 1 => tkN S k + (sp_fl (hrN S k)).2.2.1
def sl_ (S : Sta) (n : Nat) : Nat → Int32 × Int32
  | 0 => (-1, nI 0)
  | x + 1 => if apd (hrN (sp_op S (nI x)) n) then (if (sl_ S n x).1 = -1 then (nI x, tkN (sp_op S (nI x)) n) else if (sl_ S n x).2 ≤ tkN (sp_op S (nI x)) n then sl_ S n x else (nI x, tkN (sp_op S (nI x)) n)) else sl_ S n x
def op_sluices (n q : Int32) (T : Tta) : Int32 × Tta := if nI 1 ≤ n ∧ n ≤ nI 6 then (if nI 0 ≤ q ∧ q ≤ nI 1 then (if (sl_ (T 0) (cn n) (2 ^ wh (T 0))).1 = -1 then er 2 T else if q = 0 then ((sl_ (T 0) (cn n) (2 ^ wh (T 0))).1, T) else ((sl_ (T 0) (cn n) (2 ^ wh (T 0))).2, T)) else er 1 T) else er 1 T
def fin_ (S : Sta) (many : Nat) (x : Int32 × Int32) : Nat → Int32 × Int32
  | 0 => x
  | w + 1 => ((fin_ S many x w).1 + (if w < many then trn S w else nI 0), (fin_ S many x w).2 + (if w < many then nI 0 else trn S w))
def fto (S : Sta) (many : Nat) : Nat → Int32 × Int32
  | 0 => (nI 0, nI 0)
  | k + 1 => fin_ (hrN S k) many (fto S many k) (wh S)
def op_fewer (km p n : Int32) (T : Tta) : Int32 × Tta :=
  if (nI 0 ≤ km ∧ km ≤ nI 69) ∧ nI 1 ≤ n ∧ n ≤ nI 48 then (if nI 0 ≤ p ∧ p ≤ nI 11 then (if wh (T 0) = 8 then er 4 T else
    ((fto (T 0) (wh (T 0)) (cn n)).1 - (fto (sp_adds (T 0) (cn km) (10 * cn p)) (wh (T 0)) (cn n)).1, T)) else er 1 T) else er 1 T
def bp_ (S : Sta) (a n : Nat) : Nat → Int32 × Int32
  | 0 => (nI 0, -1)
  | p + 1 => if (fto (sp_adds S a (10 * p)) (wh S) n).2 ≤ (bp_ S a n p).2 then bp_ S a n p else (nI p, (fto (sp_adds S a (10 * p)) (wh S) n).2)
def op_best (km n : Int32) (T : Tta) : Int32 × Tta := if (nI 0 ≤ km ∧ km ≤ nI 69) ∧ nI 1 ≤ n ∧ n ≤ nI 48 then (if wh (T 0) = 8 then er 4 T else ((bp_ (T 0) (cn km) (cn n) 12).1, T)) else er 1 T
/-- many, least, sure, may -/
def wo_ (S : Sta) (g : Int32) : Nat → Nat × Int32 × Int32 × Int32
  | 0 => (0, -1, nI (2 ^ wh S - 1), nI 0)
  | x + 1 => if (sp_fl (sp_op S (nI x))).1 = g then ((wo_ S g x).1 + 1, (if (wo_ S g x).2.1 = -1 then nI x else (wo_ S g x).2.1), (wo_ S g x).2.2.1 &&& nI x, (wo_ S g x).2.2.2 ||| nI x) else wo_ S g x
def op_who (g q : Int32) (T : Tta) : Int32 × Tta :=
  if nI 0 ≤ g ∧ g ≤ nI 99 then (if nI 0 ≤ q ∧ q ≤ nI 3 then
    (if (wo_ (T 0) g (2 ^ wh (T 0))).1 = 0 ∧ (q = nI 1 ∨ q = nI 2) then er 2 T else if q = 0 then (nI (wo_ (T 0) g (2 ^ wh (T 0))).1, T) else if q = nI 1 then ((wo_ (T 0) g (2 ^ wh (T 0))).2.1, T) else if q = nI 2 then ((wo_ (T 0) g (2 ^ wh (T 0))).2.2.1, T) else ((wo_ (T 0) g (2 ^ wh (T 0))).2.2.2, T)) else er 1 T) else er 1 T
def slp (S : Sta) : Nat → Int32
  | 0 => nI 0
  | w + 1 => slp S w ||| (if S 10 w = S 11 w then nI 0 else nI 1 <<< (nI w &&& 31))
def op_slipped (T : Tta) : Int32 × Tta := (slp (T 0) (wh (T 0)), T)
theorem shl1 {N : Nat} (h : N ≤ 8) : nI 1 <<< (nI N &&& 31) = nI (2 ^ N) := by
  have : ∀ N, N < 9 → nI 1 <<< (nI N &&& 31) = nI (2 ^ N) := by decide +kernel
  exact this N (by omega)
theorem pow8 {N : Nat} (h : N ≤ 8) : 1 ≤ 2 ^ N ∧ 2 ^ N ≤ 256 := by
  have : ∀ N, N < 9 → 1 ≤ 2 ^ N ∧ 2 ^ N ≤ 256 := by decide +kernel
  exact this N (by omega)
theorem adds_inv {S : Sta} (hI : Inv S) (hw : wh S < 8) {a d : Nat} (ha : a ≤ 69) (hd : d ≤ 119) (hd2 : d % 10 ≤ 4) : Inv (sp_adds S a d) ∧ hrv (sp_adds S a d) = hrv S ∧ wh (sp_adds S a d) = wh S + 1 := by
  refine ⟨?_, rfl, ?_⟩
  · refine inv_set0 ?_ (fun _ => ⟨_, by omega, rfl⟩) (fun h => by omega) (fun h => by omega) (fun h => by omega) (fun h => by omega)
    exact inv_up2 (inv_up2 (inv_up2 (inv_up2 (inv_up2 (inv_up2 (inv_up2 hI (by decide) (by decide) ⟨_, by show a / 10 ≤ 6; omega, rfl⟩) (by decide) (by decide) ⟨_, by show a % 10 ≤ 9; omega, rfl⟩) (by decide) (by decide) ⟨_, by show d / 10 ≤ 11; omega, rfl⟩) (by decide) (by decide) ⟨_, by show d % 10 ≤ 4; omega, rfl⟩) (by decide) (by decide) ⟨_, by show 1 ≤ 1; omega, rfl⟩) (by decide) (by decide) ⟨0, by decide, rfl⟩) (by decide) (by decide) ⟨0, by decide, rfl⟩
  · show cn (up2 _ 0 0 _ 0 0) = _
    rw [up2_at, cn_nI (by omega)]
theorem wo_le {S : Sta} {g : Int32} : ∀ x, (wo_ S g x).1 ≤ x
  | 0 => Nat.le_refl 0
  | x + 1 => by
    have h := wo_le (S := S) (g := g) x
    rw [wo_]
    split
    · show (wo_ S g x).1 + 1 ≤ _
      omega
    · omega
