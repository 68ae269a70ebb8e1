/-! a house becomes another; contracts that leave other slots, another house -/
def bρ (ρ : Nat → Nat → Option Nat) (a b : Nat) : Nat → Nat → Option Nat := fun x => if x = a then ρ b else if x = 3 + a then ρ (3 + b) else ρ x
def rc (ρ : Nat → Nat → Option Nat) (a b k : Nat) : Nat → Nat → Option Nat := fun x => if x = a then (fun j => if j < k then ρ b j else ρ a j) else ρ x
theorem rc_0 {ρ : Nat → Nat → Option Nat} {a b : Nat} : rc ρ a b 0 = ρ := by
  funext x
  unfold rc
  split
  · next h => subst h; rfl
  · rfl
theorem rc_n {ρ : Nat → Nat → Option Nat} {a b k x : Nat} (h : x ≠ a) : rc ρ a b k x = ρ x := by simp [rc, h]
theorem rc_st {ρ : Nat → Nat → Option Nat} {a b k : Nat} (h : b ≠ a) : rh (rc ρ a b k) a k (rc ρ a b k b k) = rc ρ a b (k + 1) := by
  funext x
  by_cases e : x = a
  · subst e
    rw [rh_s, rc_n h]
    funext j
    by_cases ej : j = k
    · subst ej
      rw [va_up_self]
      simp [rc]
    · rw [va_up_ne _ _ ej]
      simp only [rc, if_true]
      by_cases hj : j < k
      · rw [if_pos hj, if_pos (by omega)]
      · rw [if_neg hj, if_neg (by omega)]
  · rw [rh_n e, rc_n e, rc_n e]
section BQ
variable {D : va_G} {cA : Nat → ClassId} {ad : Nat → Nat} {n : Nat} {f0 : Nat → va_E} {U V : Nat → Nat → Nat → Int32} {ρ : Nat → Nat → Option Nat} {r : Nat × Nat} {H : Heap}
theorem XW.bec {a b : Nat} (ha : a < 3) (hb : b < 3) (hab : b ≠ a) (hP : XW D cA ad n f0 (fun x => if x = 3 + a then rc ρ a b 8 (3 + b) else rc ρ a b 8 x) r V H) (hV : ∀ x, x ≠ a → V x = U x) (h0 : ∀ j, j < 6 → V a 0 j = U b 0 j) (h : ∀ q, q < 16 → q ≠ 0 → q ≠ 5 → q ≠ 6 → q ≠ 12 → q ≠ 13 → V a q = U b q) : XW D cA ad n f0 (bρ ρ a b) r (uS U a (U b)) H := by
  have eU : uS U a (U b) = uS V a (U b) := by
    funext x
    by_cases e : x = a
    · subst e; rw [uS_s, uS_s]
    · rw [uS_n e, uS_n e, hV x e]
  rw [eU]
  refine gw_P hP (fun k hk => ?_)
  rw [wcl_g (U := V) ha (fun j hj => (h0 j hj).symm) (fun q z0 z1 z2 z3 z4 z5 => (h q z0 z1 z2 z3 z4 z5).symm)]
  rcases Nat.lt_or_ge k 81 with h1 | h1
  · by_cases h2 : 3 ≤ k ∧ k < 69
    · obtain ⟨x, o, hx, hoo, rfl⟩ : ∃ b o, b < 3 ∧ o < 22 ∧ k = 3 + 22 * b + o := ⟨(k - 3) / 22, (k - 3) % 22, by omega, by omega, by omega⟩
      rw [wcl_h hx hoo, wcl_h hx hoo]
      by_cases e : x = a
      · subst e
        have e1 : bρ ρ x b x = ρ b := by simp [bρ]
        have e2 : bρ ρ x b (3 + x) = ρ (3 + b) := by simp [bρ]
        rw [e1, e2, if_pos rfl, if_neg (by omega), rc_n (x := 3 + b) (by omega)]
        match o with
        | 0 => rfl
        | 1 => rfl
        | 2 => rfl
        | 3 => rfl
        | 4 => rfl
        | 5 => rfl
        | 6 => rfl
        | 7 => rfl
        | 8 => rfl
        | 9 => rfl
        | 10 => rfl
        | 11 => rfl
        | 12 => rfl
        | 13 => rfl
        | k + 14 =>
          have hk8 : k < 8 := by omega
          have e3 : rc ρ x b 8 x k = ρ b k := by simp [rc, hk8]
          show Sum.inr _ = Sum.inr _
          rw [e3]
      · have e1 : bρ ρ a b x = ρ x := by simp only [bρ, if_neg e, if_neg (show ¬ x = 3 + a by omega)]
        have e2 : bρ ρ a b (3 + x) = ρ (3 + x) := by simp only [bρ, if_neg (show ¬ 3 + x = a by omega), if_neg (show ¬ 3 + x = 3 + a by omega)]
        rw [e1, e2, if_neg (by omega), if_neg (by omega), rc_n e, rc_n (by omega)]
    · have e1 : bρ ρ a b 6 = ρ 6 := by simp only [bρ, if_neg (show ¬ 6 = a by omega), if_neg (show ¬ 6 = 3 + a by omega)]
      rw [wcl_o h1 h2, wcl_o h1 h2, if_neg (by omega), rc_n (by omega), e1]
  · rw [wcl_f h1, wcl_f h1]
end BQ
abbrev Rho : Type := Nat → Nat → Option Nat
abbrev XVq (l : Launch) (D : va_G) (cA : Nat → ClassId) (ad : Nat → Nat) (n : Nat) (f0 : Nat → va_E) (ρ : Rho) (r : Nat × Nat) (U : Tta) (A : Nat → Prop) (y : MethodName) (cc : ByteArray) (L : Nat) (d : Nat) (As : List Value) (post : Tta → Rho → (Nat × Nat) → Prop) : Prop := Cv l (KC D cA) y cc L d 0 0 As (XW D cA ad n f0 ρ r U) A (fun q : Tta × Rho × (Nat × Nat) => post q.1 q.2.1 q.2.2) (fun q H => XW D cA ad n f0 q.2.1 q.2.2 q.1 H)
abbrev XIq (l : Launch) (D : va_G) (cA : Nat → ClassId) (ad : Nat → Nat) (n : Nat) (f0 : Nat → va_E) (ρ : Rho) (r : Nat × Nat) (U : Tta) (A : Nat → Prop) (y : MethodName) (cc : ByteArray) (L : Nat) (ret : Option FieldType) (d : Nat) (As : List Value) (post : Int32 → Tta → Rho → (Nat × Nat) → Prop) : Prop := Ci l (KC D cA) y cc L ret d 0 0 As (XW D cA ad n f0 ρ r U) A (fun v (q : Tta × Rho × (Nat × Nat)) => post v q.1 q.2.1 q.2.2) (fun q H => XW D cA ad n f0 q.2.1 q.2.2 q.1 H)
section CXQ
variable {p : Program} {l : Launch} {e : Env} {R : Room} {s : State} {m : MethodId} {args : Array Value} {below : List Frame} {meth : Method} {c : Code} {H H0 : Heap} {locs : List Loc} {cells slots : Nat} {Q : State → Prop}
variable {cc bytes : ByteArray} {pc nL L d nn : Nat} {ls : Array Slot} {rest st As : List Value} {own C : String} {index : Nat} {y : MethodName} {ret : Option FieldType}
variable {D : va_G} {cA : Nat → ClassId} {ad : Nat → Nat} {n : Nat} {f0 : Nat → va_E} {U : Tta} {ρ : Rho} {r : Nat × Nat} {A : Nat → Prop} {b : Nat}
theorem x_iVq {post : Int32 → Tta → Rho → (Nat × Nat) → Prop} (hC : CallFix p m c cc nL s args lw_all own) (hK : KC D cA s) (hP : XW D cA ad n f0 ρ r U H) (hS : va_S A H0 H locs) (hrc : ∃ cell : Cell, H[b]? = some cell ∧ cell.vm.isStatics = false ∧ s.vm.findClass C = some cell.cls) (hM : XIq l D cA ad n f0 ρ r U A y bytes L ret d (.ref b :: As) post) (cv : CV own C index y bytes L ret nn) (hnn : As.length = nn) (hst : st = As.reverse ++ .ref b :: rest) (hsz : ls.size = nL) (hW : (rest.map fun v => v.category).sum ≤ 8) (hdg : decode cc pc = .ok (.invokevirtual index, 3)) (hR : d + 1 ≤ R.frames ∧ 8 + (L + 11) + 64 * d ≤ R.locals) (hcl : cells ≤ R.cells ∧ slots ≤ R.slots)
    (kk : ∀ (r' : Int32) (V : Tta) (ρ1 : Rho) (r1 : Nat × Nat) (H1 : Heap) (locs1 : List Loc), post r' V ρ1 r1 → XW D cA ad n f0 ρ1 r1 V H1 → va_S A H0 H1 locs1 → W p l e R s m args below meth c H1 locs1 cells slots Q (F0 m (pc + 3) ls (.int r' :: rest))) : W p l e R s m args below meth c H locs cells slots Q (F0 m pc ls st) :=
  ci_V hC (kmv_C D cA) hK hM cv hrc hP hS (fun _ h => h) hnn hst hsz hW hdg hR hcl (fun r' V H1 locs1 h1 h2 h3 _ _ => kk r' V.1 V.2.1 V.2.2 H1 locs1 h1 h2 h3)
theorem x_vVq {post : Tta → Rho → (Nat × Nat) → Prop} (hC : CallFix p m c cc nL s args lw_all own) (hK : KC D cA s) (hP : XW D cA ad n f0 ρ r U H) (hS : va_S A H0 H locs) (hrc : ∃ cell : Cell, H[b]? = some cell ∧ cell.vm.isStatics = false ∧ s.vm.findClass C = some cell.cls) (hM : XVq l D cA ad n f0 ρ r U A y bytes L d (.ref b :: As) post) (cv : CV own C index y bytes L none nn) (hnn : As.length = nn) (hst : st = As.reverse ++ .ref b :: rest) (hsz : ls.size = nL) (hW : (rest.map fun v => v.category).sum ≤ 8) (hdg : decode cc pc = .ok (.invokevirtual index, 3)) (hR : d + 1 ≤ R.frames ∧ 8 + (L + 11) + 64 * d ≤ R.locals) (hcl : cells ≤ R.cells ∧ slots ≤ R.slots)
    (kk : ∀ (V : Tta) (ρ1 : Rho) (r1 : Nat × Nat) (H1 : Heap) (locs1 : List Loc), post V ρ1 r1 → XW D cA ad n f0 ρ1 r1 V H1 → va_S A H0 H1 locs1 → W p l e R s m args below meth c H1 locs1 cells slots Q (F0 m (pc + 3) ls rest)) : W p l e R s m args below meth c H locs cells slots Q (F0 m pc ls st) :=
  cv_V hC (kmv_C D cA) hK hM cv hrc hP hS (fun _ h => h) hnn hst hsz hW hdg hR hcl (fun V H1 locs1 h1 h2 h3 _ _ => kk V.1 V.2.1 V.2.2 H1 locs1 h1 h2 h3)
/-- what a slot holds goes into another slot -/
theorem rf_n (w : Option Nat) : narrow (.object "java/lang/Object") (rf ad w) = rf ad w := by
  cases w <;> rfl
theorem rf_f (w : Option Nat) : fits (.object "java/lang/Object") (rf ad w) = true := by
  cases w <;> rfl
end CXQ
theorem hq_tx {cA : Nat → ClassId} {ad : Nat → Nat} {f0 : Nat → va_E} {n : Nat} {ρ : Rho} {S : Sta} {a : Nat} (h : HQ cA ad f0 n ρ S a) : ∀ u, u < 2 → ∀ w, ρ (3 + a) u = some w → 81 ≤ w ∧ w < n ∧ ∃ fs, f0 w = .inr (14, fs) := by
  intro u hu w hw
  rcases h.2 u hu with ⟨_, h2⟩ | ⟨_, w', h2, x, y, sp, vl, g1, _, _, g4, _⟩
  · rw [h2] at hw; cases hw
  · rw [h2] at hw
    cases hw
    exact ⟨g1.1, g1.2, _, g4⟩
theorem hq_ρ {cA : Nat → ClassId} {ad : Nat → Nat} {f0 : Nat → va_E} {n : Nat} {ρ ρ1 : Rho} {S : Sta} {a b : Nat} (h : HQ cA ad f0 n ρ S b) (h1 : ρ1 a = ρ b) (h2 : ρ1 (3 + a) = ρ (3 + b)) : HQ cA ad f0 n ρ1 S a := by
  refine ⟨fun k hk => ?_, fun u hu => ?_⟩
  · obtain ⟨w, kd, hw⟩ := h.1 k hk
    exact ⟨w, kd, by unfold WK at hw ⊢; rw [h1]; exact hw⟩
  · rw [h2]
    exact h.2 u hu
theorem bρ_s {ρ : Rho} {a b : Nat} : bρ ρ a b a = ρ b := by simp [bρ]
theorem bρ_t {ρ : Rho} {a b : Nat} : bρ ρ a b (3 + a) = ρ (3 + b) := by simp [bρ]
theorem bρ_n {ρ : Rho} {a b x : Nat} (h : x ≠ a) (h2 : x ≠ 3 + a) : bρ ρ a b x = ρ x := by simp only [bρ, if_neg h, if_neg h2]
theorem hq_bec {cA : Nat → ClassId} {ad : Nat → Nat} {f0 : Nat → va_E} {n : Nat} {ρ : Rho} {S : Sta} {a b : Nat} (h : HQ cA ad f0 n ρ S b) : HQ cA ad f0 n (bρ ρ a b) S a := hq_ρ h bρ_s bρ_t
def RK (ρ ρ1 : Rho) (r : Nat × Nat) : Prop := ∀ x, x ≠ r.2 → x ≠ 3 + r.2 → ρ1 x = ρ x
theorem RK.rf {ρ : Rho} {r : Nat × Nat} : RK ρ ρ r := fun _ _ _ => rfl
theorem RK.b {ρ : Rho} {r : Nat × Nat} {b : Nat} : RK ρ (bρ ρ r.2 b) r := fun _ h h2 => bρ_n h h2
theorem RK.tr {ρ ρ1 ρ2 : Rho} {r : Nat × Nat} (h : RK ρ ρ1 r) (h2 : RK ρ1 ρ2 r) : RK ρ ρ2 r := fun x z z2 => (h2 x z z2).trans (h x z z2)
/-- what was tried is left: the house is as it was -/
theorem CT.bk {U V T : Tta} {r : Nat × Nat} (hT : CT U r T) (h : ∀ x, x ≠ 3 → x ≠ r.2 → V x = U x) (h3 : ∀ q, q < 4 → V 3 q = U 3 q) : CT V r T := by
  obtain ⟨⟨h1, h2, hne⟩, hc⟩ := hT
  refine ⟨⟨h1, h2, hne⟩, by rw [h _ (by omega) hne]; exact hc.1, by rw [h _ (by decide) (by omega)]; exact hc.2.1, fun q j hq hj => ?_⟩
  rw [h3 q hq]
  exact hc.2.2 q j hq hj
