/-! reading a text: the plain reader -/
abbrev PL_ : Type := List (Int32 × Int32)
abbrev PR : Type := Bool × Nat × PL_
abbrev PP : Type := Nat → PL_ → PR
def lk (N : Nat) (tp : Nat → Int32) (a : Nat) : Int32 := if a < N then tp a else -1
def p_lp (N : Nat) (tp : Nat → Int32) (p : PP) (op : Int32 → Bool) : Nat → Nat → PL_ → PR
  | 0, a, l => (true, a, l)
  | f + 1, a, l => if op (lk N tp a) = true then (if (p (a + 1) l).1 = true then p_lp N tp p op f (p (a + 1) l).2.1 ((p (a + 1) l).2.2 ++ [(nI 3, lk N tp a)]) else (false, (p (a + 1) l).2.1, l)) else (true, a, l)
def p_ch (N : Nat) (tp : Nat → Int32) (p : PP) (op : Int32 → Bool) : PP := fun a l => if (p a l).1 = true then p_lp N tp p op 61 (p a l).2.1 (p a l).2.2 else (false, (p a l).2.1, l)
def opP (c : Int32) : Bool := if c = nI 42 then true else if c = nI 47 then true else if c = nI 37 then true else false
def opS (c : Int32) : Bool := if c = nI 43 then true else if c = nI 45 then true else false
def opC (c : Int32) : Bool := if c = nI 60 then true else if c = nI 61 then true else if c = nI 62 then true else false
def opB (c : Int32) : Bool := if c = nI 38 then true else false
def opW (c : Int32) : Bool := if c = nI 124 then true else false
def p_prod (N : Nat) (tp : Nat → Int32) (p : PP) : PP := p_ch N tp p opP
def p_sum (N : Nat) (tp : Nat → Int32) (p : PP) : PP := p_ch N tp (p_prod N tp p) opS
def p_cmp (N : Nat) (tp : Nat → Int32) (p : PP) : PP := fun a l =>
  if (p_sum N tp p a l).1 = true then (if opC (lk N tp (p_sum N tp p a l).2.1) = true then (if (p_sum N tp p ((p_sum N tp p a l).2.1 + 1) (p_sum N tp p a l).2.2).1 = true then (true, (p_sum N tp p ((p_sum N tp p a l).2.1 + 1) (p_sum N tp p a l).2.2).2.1, (p_sum N tp p ((p_sum N tp p a l).2.1 + 1) (p_sum N tp p a l).2.2).2.2 ++ [(nI 3, lk N tp (p_sum N tp p a l).2.1)]) else (false, (p_sum N tp p ((p_sum N tp p a l).2.1 + 1) (p_sum N tp p a l).2.2).2.1, l)) else p_sum N tp p a l) else (false, (p_sum N tp p a l).2.1, l)
def p_both (N : Nat) (tp : Nat → Int32) (p : PP) : PP := p_ch N tp (p_cmp N tp p) opB
def p_whole (N : Nat) (tp : Nat → Int32) (p : PP) : PP := p_ch N tp (p_both N tp p) opW
def p_num (N : Nat) (tp : Nat → Int32) : Nat → Nat → Int32 → Nat × Int32
  | 0, a, v => (a, v)
  | n + 1, a, v => if nI 48 ≤ lk N tp a ∧ lk N tp a ≤ nI 57 then p_num N tp n (a + 1) (nI 10 * v + lk N tp a - nI 48) else (a, v)
def isNm (u : Nat) (c : Int32) : Prop := c = nI 109 ∨ (u = 0 ∧ (c = nI 102 ∨ c = nI 112 ∨ c = nI 104)) ∨ (u ≠ 0 ∧ (c = nI 116 ∨ c = nI 99))
def isNb (u : Nat) (c : Int32) : Bool := if c = nI 109 then true else if u = 0 then (if c = nI 102 then true else if c = nI 112 then true else if c = nI 104 then true else false) else (if c = nI 116 then true else if c = nI 99 then true else false)
def p_nt (q : Option PP) (a : Nat) (l : PL_) : PR := match q with
  | none => (false, a, l)
  | some p => if (p (a + 1) l).1 = true then (true, (p (a + 1) l).2.1, (p (a + 1) l).2.2 ++ [(nI 2, nI 0)]) else (false, (p (a + 1) l).2.1, l)
def p_pa (N : Nat) (tp : Nat → Int32) (q : Option PP) (a : Nat) (l : PL_) : PR := match q with
  | none => (false, a, l)
  | some p => if (p_whole N tp p (a + 1) l).1 = true then (if lk N tp (p_whole N tp p (a + 1) l).2.1 = nI 41 then (true, (p_whole N tp p (a + 1) l).2.1 + 1, (p_whole N tp p (a + 1) l).2.2) else (false, (p_whole N tp p (a + 1) l).2.1, l)) else (false, (p_whole N tp p (a + 1) l).2.1, l)
def p_b (u N : Nat) (tp : Nat → Int32) (q : Option PP) : PP := fun a l =>
  if isNb u (lk N tp a) = true then (true, a + 1, l ++ [(nI 1, lk N tp a)])
  else if nI 48 ≤ lk N tp a ∧ lk N tp a ≤ nI 57 then (true, (p_num N tp 4 a (nI 0)).1, l ++ [(nI 0, (p_num N tp 4 a (nI 0)).2)])
  else if lk N tp a = nI 33 then p_nt q a l
  else if lk N tp a = nI 40 then p_pa N tp q a l
  else (false, a, l)
def p_one (u N : Nat) (tp : Nat → Int32) : Nat → PP
  | 0 => p_b u N tp none
  | d + 1 => p_b u N tp (some (p_one u N tp d))
theorem lk_lt {N : Nat} {tp : Nat → Int32} {a : Nat} (h : ¬ lk N tp a = -1) : a < N := by
  rcases Nat.lt_or_ge a N with z | z
  · exact z
  · exact absurd (by rw [lk, if_neg (by omega)]) h
theorem opP_m : opP (-1) = false := by decide
theorem opS_m : opS (-1) = false := by decide
theorem opC_m : opC (-1) = false := by decide
theorem opB_m : opB (-1) = false := by decide
theorem opW_m : opW (-1) = false := by decide
theorem op_lt {N : Nat} {tp : Nat → Int32} {a : Nat} {op : Int32 → Bool} (hm : op (-1) = false) (h : op (lk N tp a) = true) : a < N := lk_lt (fun z => by rw [z, hm] at h; cases h)
/-- a reader goes on, stays within the tape, and makes no more steps than it reads signs -/
def PMr (N a : Nat) (l : PL_) (r : PR) : Prop := a ≤ r.2.1 ∧ r.2.1 ≤ N ∧ (r.1 = true → r.2.2.length + a ≤ l.length + r.2.1)
def PM (N : Nat) (p : PP) : Prop := ∀ a l, a ≤ N → PMr N a l (p a l)
theorem pmr_f {N a a' : Nat} {l l' : PL_} (h1 : a ≤ a') (h2 : a' ≤ N) : PMr N a l (false, a', l') := ⟨h1, h2, fun z => by cases z⟩
theorem len1 (l : PL_) (x : Int32 × Int32) : (l ++ [x]).length = l.length + 1 := by simp
theorem pm_lp {N : Nat} {tp : Nat → Int32} {p : PP} {op : Int32 → Bool} (hm : op (-1) = false) (h : PM N p) : ∀ f a l, a ≤ N → PMr N a l (p_lp N tp p op f a l) := by
  intro f
  induction f with
  | zero =>
    intro a l ha
    exact ⟨Nat.le_refl _, ha, fun _ => Nat.le_refl _⟩
  | succ f ih =>
    intro a l ha
    rw [p_lp]
    by_cases c1 : op (lk N tp a) = true
    · rw [if_pos c1]
      have hlt := op_lt hm c1
      obtain ⟨g1, g2, g3⟩ := h (a + 1) l (by omega)
      by_cases c2 : (p (a + 1) l).1 = true
      · rw [if_pos c2]
        obtain ⟨k1, k2, k3⟩ := ih (p (a + 1) l).2.1 ((p (a + 1) l).2.2 ++ [(nI 3, lk N tp a)]) g2
        refine ⟨by omega, k2, fun z => ?_⟩
        have z2 := k3 z
        have z3 := g3 c2
        rw [len1] at z2
        omega
      · rw [if_neg c2]
        exact pmr_f (by omega) g2
    · rw [if_neg c1]
      exact ⟨Nat.le_refl _, ha, fun _ => Nat.le_refl _⟩
theorem pm_ch {N : Nat} {tp : Nat → Int32} {p : PP} {op : Int32 → Bool} (hm : op (-1) = false) (h : PM N p) : PM N (p_ch N tp p op) := by
  intro a l ha
  obtain ⟨g1, g2, g3⟩ := h a l ha
  unfold p_ch
  by_cases c2 : (p a l).1 = true
  · rw [if_pos c2]
    obtain ⟨k1, k2, k3⟩ := pm_lp (tp := tp) hm h 61 (p a l).2.1 (p a l).2.2 g2
    exact ⟨Nat.le_trans g1 k1, k2, fun z => by have z2 := k3 z; have z3 := g3 c2; omega⟩
  · rw [if_neg c2]
    exact pmr_f g1 g2
theorem pm_cmp {N : Nat} {tp : Nat → Int32} {p : PP} (h : PM N (p_sum N tp p)) : PM N (p_cmp N tp p) := by
  intro a l ha
  obtain ⟨g1, g2, g3⟩ := h a l ha
  unfold p_cmp
  by_cases c1 : (p_sum N tp p a l).1 = true
  · rw [if_pos c1]
    by_cases c2 : opC (lk N tp (p_sum N tp p a l).2.1) = true
    · rw [if_pos c2]
      have hlt := op_lt opC_m c2
      obtain ⟨k1, k2, k3⟩ := h ((p_sum N tp p a l).2.1 + 1) (p_sum N tp p a l).2.2 (by omega)
      by_cases c3 : (p_sum N tp p ((p_sum N tp p a l).2.1 + 1) (p_sum N tp p a l).2.2).1 = true
      · rw [if_pos c3]
        refine ⟨by show a ≤ (p_sum N tp p ((p_sum N tp p a l).2.1 + 1) (p_sum N tp p a l).2.2).2.1; omega, k2, fun _ => ?_⟩
        have z2 := k3 c3
        have z3 := g3 c1
        show (_ ++ [_]).length + a ≤ _
        rw [len1]
        show _ ≤ l.length + (p_sum N tp p ((p_sum N tp p a l).2.1 + 1) (p_sum N tp p a l).2.2).2.1
        omega
      · rw [if_neg c3]
        exact pmr_f (by omega) k2
    · rw [if_neg c2]
      exact ⟨g1, g2, g3⟩
  · rw [if_neg c1]
    exact pmr_f g1 g2
theorem pm_prod {N : Nat} {tp : Nat → Int32} {p : PP} (h : PM N p) : PM N (p_prod N tp p) := pm_ch opP_m h
theorem pm_sum {N : Nat} {tp : Nat → Int32} {p : PP} (h : PM N p) : PM N (p_sum N tp p) := pm_ch opS_m (pm_prod h)
theorem pm_both {N : Nat} {tp : Nat → Int32} {p : PP} (h : PM N p) : PM N (p_both N tp p) := pm_ch opB_m (pm_cmp (pm_sum h))
theorem pm_whole {N : Nat} {tp : Nat → Int32} {p : PP} (h : PM N p) : PM N (p_whole N tp p) := pm_ch opW_m (pm_both h)
theorem num_le {N : Nat} {tp : Nat → Int32} : ∀ (n a : Nat) (v : Int32), a ≤ N → a ≤ (p_num N tp n a v).1 ∧ (p_num N tp n a v).1 ≤ N := by
  intro n
  induction n with
  | zero =>
    intro a v h
    exact ⟨Nat.le_refl _, h⟩
  | succ n ih =>
    intro a v h
    rw [p_num]
    split
    · next c =>
      have hlt : a < N := lk_lt (tp := tp) (fun z => by rw [z] at c; exact absurd c (by decide))
      obtain ⟨g1, g2⟩ := ih (a + 1) (nI 10 * v + lk N tp a - nI 48) (by omega)
      exact ⟨by omega, g2⟩
    · exact ⟨Nat.le_refl _, h⟩
theorem num_lt {N : Nat} {tp : Nat → Int32} {a : Nat} (c : nI 48 ≤ lk N tp a ∧ lk N tp a ≤ nI 57) : a < N ∧ a + 1 ≤ (p_num N tp 4 a (nI 0)).1 ∧ (p_num N tp 4 a (nI 0)).1 ≤ N := by
  have hlt : a < N := lk_lt (tp := tp) (fun z => by rw [z] at c; exact absurd c (by decide))
  rw [p_num, if_pos c]
  exact ⟨hlt, num_le 3 (a + 1) _ (by omega)⟩
theorem isNb_m (u : Nat) : isNb u (-1) = false := by
  unfold isNb
  by_cases h : u = 0
  · rw [if_neg (by decide), if_pos h]
    decide
  · rw [if_neg (by decide), if_neg h]
    decide
theorem pm_nt {N : Nat} {q : Option PP} (hq : ∀ p, q = some p → PM N p) {a : Nat} (ha : a < N) (l : PL_) : PMr N a l (p_nt q a l) := by
  cases q with
  | none => exact pmr_f (Nat.le_refl _) (by omega)
  | some p =>
    obtain ⟨g1, g2, g3⟩ := hq p rfl (a + 1) l (by omega)
    unfold p_nt
    by_cases c4 : (p (a + 1) l).1 = true
    · simp only [if_pos c4]
      refine ⟨by show a ≤ (p (a + 1) l).2.1; omega, g2, fun _ => ?_⟩
      have := g3 c4
      show (_ ++ [_]).length + a ≤ l.length + (p (a + 1) l).2.1
      rw [len1]
      omega
    · simp only [if_neg c4]
      exact pmr_f (by omega) g2
theorem pm_pa {N : Nat} {tp : Nat → Int32} {q : Option PP} (hq : ∀ p, q = some p → PM N p) {a : Nat} (ha : a < N) (l : PL_) : PMr N a l (p_pa N tp q a l) := by
  cases q with
  | none => exact pmr_f (Nat.le_refl _) (by omega)
  | some p =>
    obtain ⟨g1, g2, g3⟩ := pm_whole (tp := tp) (hq p rfl) (a + 1) l (by omega)
    unfold p_pa
    by_cases c5 : (p_whole N tp p (a + 1) l).1 = true
    · simp only [if_pos c5]
      by_cases c6 : lk N tp (p_whole N tp p (a + 1) l).2.1 = nI 41
      · simp only [if_pos c6]
        have hlt2 : (p_whole N tp p (a + 1) l).2.1 < N := lk_lt (tp := tp) (fun z => by rw [z] at c6; exact absurd c6 (by decide))
        refine ⟨by show a ≤ (p_whole N tp p (a + 1) l).2.1 + 1; omega, hlt2, fun _ => ?_⟩
        have := g3 c5
        show (p_whole N tp p (a + 1) l).2.2.length + a ≤ l.length + ((p_whole N tp p (a + 1) l).2.1 + 1)
        omega
      · simp only [if_neg c6]
        exact pmr_f (by omega) g2
    · simp only [if_neg c5]
      exact pmr_f (by omega) g2
theorem pm_b {u N : Nat} {tp : Nat → Int32} {q : Option PP} (hq : ∀ p, q = some p → PM N p) : PM N (p_b u N tp q) := by
  intro a l ha
  unfold p_b
  by_cases c1 : isNb u (lk N tp a) = true
  · rw [if_pos c1]
    have hlt := op_lt (op := isNb u) (isNb_m u) c1
    refine ⟨Nat.le_succ a, hlt, fun _ => ?_⟩
    show (_ ++ [_]).length + a ≤ l.length + (a + 1)
    rw [len1]
    omega
  · rw [if_neg c1]
    by_cases c2 : nI 48 ≤ lk N tp a ∧ lk N tp a ≤ nI 57
    · rw [if_pos c2]
      obtain ⟨-, g1, g2⟩ := num_lt c2
      refine ⟨by show a ≤ (p_num N tp 4 a (nI 0)).1; omega, g2, fun _ => ?_⟩
      show (_ ++ [_]).length + a ≤ l.length + (p_num N tp 4 a (nI 0)).1
      rw [len1]
      omega
    · rw [if_neg c2]
      by_cases c3 : lk N tp a = nI 33
      · rw [if_pos c3]
        exact pm_nt hq (lk_lt (tp := tp) (fun z => by rw [z] at c3; exact absurd c3 (by decide))) l
      · rw [if_neg c3]
        by_cases c4 : lk N tp a = nI 40
        · rw [if_pos c4]
          exact pm_pa hq (lk_lt (tp := tp) (fun z => by rw [z] at c4; exact absurd c4 (by decide))) l
        · rw [if_neg c4]
          exact pmr_f (Nat.le_refl _) ha
theorem pm_one {u N : Nat} {tp : Nat → Int32} : ∀ d, PM N (p_one u N tp d)
  | 0 => pm_b (fun p h => by cases h)
  | d + 1 => pm_b (fun p h => by cases h; exact pm_one d)
/-! what the reference holds while it reads -/
def PSs (σ : Sta) (l : PL_) : Prop := σ 18 0 = nI l.length ∧ ∀ k w v, l[k]? = some (w, v) → σ 4 (2 * k) = w ∧ σ 4 (2 * k + 1) = v
def PSx (f0 : Nat → Int32) (u d : Nat) (σ : Sta) (a : Nat) (l : PL_) : Prop := σ 0 = f0 ∧ σ 19 0 = nI u ∧ σ 17 0 = nI (5 - d) ∧ σ 16 0 = nI a ∧ PSs σ l
def TPo (N : Nat) (tp f0 : Nat → Int32) : Prop := f0 3 = nI N ∧ (∀ j, j < N → f0 (365 + j) = tp j) ∧ N ≤ 60
def pcPost (f0 : Nat → Int32) (u d : Nat) (σ : Sta) (R : PR) (r : Int32) (τ : Sta) : Prop := bz (R.1 = true) r ∧ (R.1 = true → PSx f0 u d τ R.2.1 R.2.2) ∧ τ 16 0 = nI R.2.1 ∧ Kp [4, 16, 17, 18] σ τ
def PC (l : Launch) (D : va_G) (cA : Nat → ClassId) (b : Nat) (f0 : Nat → Int32) (u d N : Nat) (y : MethodName) (cc : ByteArray) (L dp : Nat) (P : PP) : Prop := ∀ (σ : Sta) (a : Nat) (ll : PL_), PSx f0 u d σ a ll → a ≤ N → ll.length ≤ a → MI l D cA b y cc L (some .boolean) dp [.ref b] σ (pcPost f0 u d σ (P a ll))
theorem PSx.at {f0 : Nat → Int32} {u d : Nat} {σ : Sta} {a : Nat} {l : PL_} (h : PSx f0 u d σ a l) (a' : Nat) : PSx f0 u d (up1 σ 16 (fun _ => nI a')) a' l := ⟨h.1, h.2.1, h.2.2.1, rfl, h.2.2.2.2⟩
theorem PSx.op {f0 : Nat → Int32} {u d : Nat} {σ : Sta} {a : Nat} {l : PL_} (h : PSx f0 u d σ a l) (d' : Nat) : PSx f0 u d' (up1 σ 17 (fun _ => nI (5 - d'))) a l := ⟨h.1, h.2.1, rfl, h.2.2.2.1, h.2.2.2.2⟩
theorem PSx.st {f0 : Nat → Int32} {u d : Nat} {σ τ : Sta} {a : Nat} {l l' : PL_} (h : PSx f0 u d σ a l) (h2 : PSs τ l') (hk : Kp [4, 18] σ τ) : PSx f0 u d τ a l' := ⟨by rw [hk 0 (by decide)]; exact h.1, by rw [hk 19 (by decide)]; exact h.2.1, by rw [hk 17 (by decide)]; exact h.2.2.1, by rw [hk 16 (by decide)]; exact h.2.2.2.1, h2⟩
theorem PSs_add {σ τ : Sta} {l : PL_} {w v : Int32} (h : PSs σ l) (h18 : τ 18 0 = nI (l.length + 1)) (h4 : τ 4 = upd (upd (σ 4) (2 * l.length) w) (2 * l.length + 1) v) : PSs τ (l ++ [(w, v)]) := by
  refine ⟨by rw [len1]; exact h18, fun k w' v' hk => ?_⟩
  rw [h4]
  rcases Nat.lt_or_ge k l.length with z | z
  · rw [List.getElem?_append_left z] at hk
    rw [pk_un (by omega), pk_un (by omega), pk_un (by omega), pk_un (by omega)]
    exact h.2 k w' v' hk
  · have hlt : k < (l ++ [(w, v)]).length := (List.getElem?_eq_some_iff.mp hk).1
    rw [len1] at hlt
    have e : k = l.length := by omega
    subst e
    rw [List.getElem?_append_right (Nat.le_refl _), Nat.sub_self] at hk
    cases hk
    rw [pk_un (by omega), pk_us, pk_us]
    exact ⟨rfl, rfl⟩
theorem bz_t {c : Prop} {r : Int32} (h : bz c r) (hr : r = 1) : c := by
  rcases h with ⟨_, h⟩ | ⟨h, _⟩
  · exact h
  · rw [hr] at h
    exact absurd h (by decide)
