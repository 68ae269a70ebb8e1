/-! voices: a trace and its count -/
abbrev TR : Type := (Nat → Int32) × Nat
def ran (b : Nat) (t : TR) : TR := if t.2 < 30 then (upd t.1 t.2 (nI b), t.2 + 1) else t
def TRr (σ : Sta) (t : TR) : Prop := (∀ j, j < 30 → σ 10 j = t.1 j) ∧ σ 24 0 = nI t.2 ∧ t.2 ≤ 30
def vf0 (w : Nat) (x : Int32) (t : TR) : Int32 × TR := (x + nI w, ran 10 t)
def vf1 (w : Nat) (x : Int32) (t : TR) : Int32 × TR := ((vf0 w x (ran 20 t)).1 - nI 4, (vf0 w x (ran 20 t)).2)
def vf (w : Nat) : Nat → Int32 → TR → Int32 × TR
  | 1, x, t => vf1 w x t
  | 4, x, t => ((vf1 w x (ran 50 t)).1 * nI 3, (vf1 w x (ran 50 t)).2)
  | 6, _, t => (nI 2, ran 70 t)
  | _, x, t => vf0 w x t
def vt0 (S : Sta) (w : Nat) (x : Int32) (t : TR) : Int32 × TR := ((vf w (cn (S 5 w)) x (ran 11 t)).1 * nI 2, (vf w (cn (S 5 w)) x (ran 11 t)).2)
def vt (S : Sta) (w : Nat) : Nat → Int32 → TR → Int32 × TR
  | 2, x, t => (nI 0 - (vt0 S w x (ran 30 t)).1, (vt0 S w x (ran 30 t)).2)
  | 5, x, t => vt0 S w (x + nI 1) (ran 60 t)
  | 6, x, t => ((vt0 S w x (ran 71 t)).1 + S 6 w, (vt0 S w x (ran 71 t)).2)
  | _, x, t => vt0 S w x t
def vp0 (S : Sta) (w : Nat) (x : Int32) (t : TR) : Int32 × TR := ((vt S w (cn (S 5 w)) x (ran 12 t)).1 - S 6 w, (vt S w (cn (S 5 w)) x (ran 12 t)).2)
def vp3 (S : Sta) (w : Nat) (x : Int32) (t : TR) : Int32 × TR := vp0 S w (x / nI 2) (ran 40 t)
def vp (S : Sta) (w : Nat) : Nat → Int32 → TR → Int32 × TR
  | 3, x, t => vp3 S w x t
  | 5, x, t => vp3 S w x t
  | 4, x, t => ((vp0 S w x (ran 51 t)).1 ^^^ nI w, (vp0 S w x (ran 51 t)).2)
  | _, x, t => vp0 S w x t
def vqb (S : Sta) (w : Nat) : Int32 := S 6 w - nI w
def vqv (S : Sta) (w : Nat) (x : Int32) : Int32 := if vqb S w = 0 then nI 0 else if vqb S w = -1 then -x else x / vqb S w
def vq0 (S : Sta) (w : Nat) (x : Int32) (t : TR) : Int32 × TR := (vqv S w x, ran 13 t)
def vq1 (S : Sta) (w : Nat) (x : Int32) (t : TR) : Int32 × TR := if vqb S w = 0 then (nI 0, (vq0 S w x (ran 21 t)).2) else ((vq0 S w x (ran 21 t)).1 + (vt S w (cn (S 5 w)) (nI 1) (vq0 S w x (ran 21 t)).2).1, (vt S w (cn (S 5 w)) (nI 1) (vq0 S w x (ran 21 t)).2).2)
def vq (S : Sta) (w : Nat) : Nat → Int32 → TR → Int32 × TR
  | 1, x, t => vq1 S w x t
  | 4, x, t => vq1 S w x t
  | _, x, t => vq0 S w x t
def pz (S : Sta) (w : Nat) : Int32 := if vqb S w = 0 then nI 1 else nI 0
def sp_above (q : Int32) : Int32 := if q = nI 4 then nI 1 else if q = nI 5 then nI 3 else nI 0
def tTR (T : Tta) (t : TR) : Tta := tX (tX T 1 t.1) 2 (fun _ => nI t.2)
def sp_voice (S : Sta) (w : Nat) (q y : Int32) (t : TR) : Int32 × TR := if q = 0 then vf w (cn (S 5 w)) y t else if q = nI 1 then vt S w (cn (S 5 w)) y t else if q = nI 2 then vp S w (cn (S 5 w)) y t else vq S w (cn (S 5 w)) y t
def op_voice (x q y : Int32) (T : Tta) : Int32 × Tta :=
  if nI 0 ≤ x ∧ x ≤ T 0 0 0 - nI 1 then (if nI 0 ≤ q ∧ q ≤ nI 3 then (if q = nI 3 ∧ vqb (T 0) (cn x) = 0 then er 6 (tTR T (sp_voice (T 0) (cn x) q y (T 2 1, 0)).2) else ((sp_voice (T 0) (cn x) q y (T 2 1, 0)).1, tTR T (sp_voice (T 0) (cn x) q y (T 2 1, 0)).2)) else er 1 T) else er 1 T
def op_body (i : Int32) (T : Tta) : Int32 × Tta := if nI 0 ≤ i ∧ i ≤ T 2 2 0 - nI 1 then (T 2 1 (cn i), T) else er 2 T
theorem ran_le {b : Nat} {t : TR} (h : t.2 ≤ 30) : (ran b t).2 ≤ 30 := by
  unfold ran
  split
  · show t.2 + 1 ≤ 30
    omega
  · exact h
theorem RT_TR {σ τ : Sta} {T : Tta} {t : TR} (hT : RT σ T) (h : TRr τ t) (hk : Kp [2, 4, 5, 6, 7, 8, 9, 10, 14, 16, 17, 18, 19, 20, 21, 22, 23, 24, 25, 26] σ τ) : RT τ (tTR T t) := by
  refine ⟨by rw [hk 0 (by decide)]; exact hT.1, by rw [hk 1 (by decide)]; exact hT.2.1, fun r j hj => ?_⟩
  have hr := xl_lt hj
  rcases (by omega : r = 0 ∨ r = 1 ∨ r = 2 ∨ r = 3 ∨ r = 4 ∨ r = 5 ∨ r = 6) with rfl | rfl | rfl | rfl | rfl | rfl | rfl
  · exact (congrFun (hk 3 (by decide)) j).trans (hT.2.2 0 j hj)
  · exact h.1 j hj
  · have hj : j < 1 := hj
    have e : j = 0 := by omega
    subst e
    exact h.2.1
  · exact (congrFun (hk 15 (by decide)) j).trans (hT.2.2 3 j hj)
  · exact (congrFun (hk 11 (by decide)) j).trans (hT.2.2 4 j hj)
  · exact (congrFun (hk 12 (by decide)) j).trans (hT.2.2 5 j hj)
  · exact (congrFun (hk 13 (by decide)) j).trans (hT.2.2 6 j hj)
