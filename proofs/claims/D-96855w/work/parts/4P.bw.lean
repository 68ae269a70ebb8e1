/-! the slots, the texts, which house: worlds anew; copies -/
/-- what a cell holds -/
def eC (e : va_E) : Cell ⊕ (Nat × List Value) := match e with
  | .inl a => .inl (vp_cell a.1 a.2)
  | .inr o => .inr o
theorem eC_at {D : va_G} {cl : List vw_C} {q : Nat} {e e' : va_E} {H : Heap} (h : eC e = eC e') (hP : va_at D cl (q, e) H) : va_at D cl (q, e') H := by
  cases e with
  | inl a =>
    cases e' with
    | inl b =>
      have h2 : vp_cell a.1 a.2 = vp_cell b.1 b.2 := Sum.inl.inj h
      show H[q]? = some (vp_cell b.1 b.2)
      rw [← h2]
      exact hP
    | inr o => cases h
  | inr o =>
    cases e' with
    | inl b => cases h
    | inr o' =>
      have h2 : o = o' := Sum.inr.inj h
      subst h2
      exact hP
theorem gw_P {D : va_G} {cl : List vw_C} {ad : Nat → Nat} {n : Nat} {f g : Nat → va_E} {H : Heap} (hP : va_P D cl (gw ad n f) H) (h : ∀ k, k < n → eC (f k) = eC (g k)) : va_P D cl (gw ad n g) H := by
  intro k q hq
  rcases Nat.lt_or_ge k n with h1 | h1
  · rw [gw_at h1] at hq
    cases hq
    exact eC_at (h k h1) (hP k _ (gw_at h1))
  · rw [gw_ge h1] at hq
    cases hq
theorem eC_I {c : ClassId} {n : Nat} {f g : Nat → Int32} (h : ∀ j, j < n → f j = g j) : eC (aI c n f) = eC (aI c n g) := by
  show Sum.inl (vp_cell c (n, .inl f)) = Sum.inl (vp_cell c (n, .inl g))
  rw [vp_cell_i, vp_cell_i, arr_ext (fun j hj => by rw [h j hj])]
theorem eC_R {c : ClassId} {n : Nat} {f g : Nat → Option Nat} (h : ∀ j, j < n → f j = g j) : eC (aR c n f) = eC (aR c n g) := by
  show Sum.inl (vp_cell c (n, .inr (.inr (.inr (.inr f))))) = Sum.inl (vp_cell c (n, .inr (.inr (.inr (.inr g)))))
  rw [vp_cell_q, vp_cell_q, arr_ext (fun j hj => by rw [h j hj])]
/-- a world whose cell k is laid anew, as another world shows it -/
theorem gw_setP {D : va_G} {cl : List vw_C} {ad : Nat → Nat} {n : Nat} {f g : Nat → va_E} {k : Nat} {e : va_E} {H : Heap} (hP : va_P D cl ((gw ad n f).set k (ad k, e)) H) (hk : k < n) (he : eC e = eC (g k)) (ho : ∀ j, j < n → j ≠ k → g j = f j) : va_P D cl (gw ad n g) H := by
  have h1 : (gw ad n f).set k (ad k, e) = gw ad n (va_up f k e) := gw_set hk (va_up_self f k e) (fun j _ hj => va_up_ne f e hj)
  rw [h1] at hP
  refine gw_P hP (fun j hj => ?_)
  by_cases z : j = k
  · subst z; rw [va_up_self]; exact he
  · rw [va_up_ne f e z, ho j hj z]
def rh (ρ : Nat → Nat → Option Nat) (a j : Nat) (w : Option Nat) : Nat → Nat → Option Nat := fun x => if x = a then va_up (ρ a) j w else ρ x
theorem rh_s {ρ : Nat → Nat → Option Nat} {a j : Nat} {w : Option Nat} : rh ρ a j w a = va_up (ρ a) j w := by simp [rh]
theorem rh_n {ρ : Nat → Nat → Option Nat} {a j x : Nat} {w : Option Nat} (h : x ≠ a) : rh ρ a j w x = ρ x := by simp [rh, h]
section BW
variable {cA : Nat → ClassId} {ad : Nat → Nat} {f0 : Nat → va_E} {U V : Nat → Nat → Nat → Int32} {ρ τ : Nat → Nat → Option Nat} {r : Nat × Nat} {n : Nat}
theorem hcl_hd {h o j : Nat} {S : Nat → Nat → Int32} {hd tx : Nat → Option Nat} {w : Option Nat} (ho : o ≠ 14 + j) : hcl cA ad h S (va_up hd j w) tx o = hcl cA ad h S hd tx o := by
  match o with
  | 0 => rfl
  | 1 => rfl
  | 2 => rfl
  | 3 => rfl
  | 4 => rfl
  | 5 => rfl
  | 6 => rfl
  | 7 => rfl
  | 8 => rfl
  | 9 => rfl
  | 10 => rfl
  | 11 => rfl
  | 12 => rfl
  | 13 => rfl
  | k + 14 =>
    show Sum.inr _ = Sum.inr _
    rw [va_up_ne hd w (by omega)]
theorem hcl_tx {h o : Nat} {S : Nat → Nat → Int32} {hd tx tx' : Nat → Option Nat} (ho : o ≠ 11) : hcl cA ad h S hd tx o = hcl cA ad h S hd tx' o := by
  match o with
  | 0 => rfl
  | 1 => rfl
  | 2 => rfl
  | 3 => rfl
  | 4 => rfl
  | 5 => rfl
  | 6 => rfl
  | 7 => rfl
  | 8 => rfl
  | 9 => rfl
  | 10 => rfl
  | 11 => exact absurd rfl ho
  | 12 => rfl
  | 13 => rfl
  | k + 14 => rfl
/-- a slot of a house holds another -/
theorem wcl_L {a j k : Nat} {w : Option Nat} (ha : a < 3) (hk : k ≠ 3 + 22 * a + 14 + j) : wcl cA ad f0 U (rh ρ a j w) r k = wcl cA ad f0 U ρ r k := by
  rcases Nat.lt_or_ge k 81 with h1 | h1
  · by_cases h2 : 3 ≤ k ∧ k < 69
    · obtain ⟨b, o, hb, hoo, rfl⟩ : ∃ b o, b < 3 ∧ o < 22 ∧ k = 3 + 22 * b + o := ⟨(k - 3) / 22, (k - 3) % 22, by omega, by omega, by omega⟩
      rw [wcl_h hb hoo, wcl_h hb hoo, rh_n (show 3 + b ≠ a by omega)]
      by_cases e : b = a
      · subst e
        rw [rh_s]
        exact hcl_hd (by omega)
      · rw [rh_n e]
    · rw [wcl_o h1 h2, wcl_o h1 h2, rh_n (by omega)]
  · rw [wcl_f h1, wcl_f h1]
theorem c_wL {a j : Nat} {w : Option Nat} (ha : a < 3) (hj : j < 8) (hn : 81 ≤ n) : (cw cA ad n f0 U ρ r).set (3 + 22 * a + 14 + j) (ad (3 + 22 * a + 14 + j), .inr (2, [rf ad w])) = cw cA ad n f0 U (rh ρ a j w) r :=
  gw_set (by omega) (by rw [wo_sl ha hj, rh_s, va_up_self]) (fun k _ hk => wcl_L ha hk)
/-- a text of a house is another -/
theorem wcl_T {a u k : Nat} {w : Option Nat} (ha : a < 3) (hk : k ≠ 3 + 22 * a + 11) : wcl cA ad f0 U (rh ρ (3 + a) u w) r k = wcl cA ad f0 U ρ r k := by
  rcases Nat.lt_or_ge k 81 with h1 | h1
  · by_cases h2 : 3 ≤ k ∧ k < 69
    · obtain ⟨b, o, hb, hoo, rfl⟩ : ∃ b o, b < 3 ∧ o < 22 ∧ k = 3 + 22 * b + o := ⟨(k - 3) / 22, (k - 3) % 22, by omega, by omega, by omega⟩
      rw [wcl_h hb hoo, wcl_h hb hoo, rh_n (show b ≠ 3 + a by omega)]
      by_cases e : b = a
      · subst e
        exact hcl_tx (by omega)
      · rw [rh_n (show 3 + b ≠ 3 + a by omega)]
    · rw [wcl_o h1 h2, wcl_o h1 h2, rh_n (by omega)]
  · rw [wcl_f h1, wcl_f h1]
theorem tx_up {tx : Nat → Option Nat} {u : Nat} {w : Option Nat} : (fun v => (va_up tx u w v).map ad) = va_up (fun v => (tx v).map ad) u (w.map ad) := by
  funext v
  by_cases e : v = u
  · subst e; rw [va_up_self, va_up_self]
  · rw [va_up_ne _ _ e, va_up_ne _ _ e]
theorem c_wX {a u : Nat} {w : Option Nat} (ha : a < 3) (hn : 81 ≤ n) : (cw cA ad n f0 U ρ r).set (3 + 22 * a + 11) (ad (3 + 22 * a + 11), aR (cA 4) 2 (va_up (fun v => (ρ (3 + a) v).map ad) u (w.map ad))) = cw cA ad n f0 U (rh ρ (3 + a) u w) r :=
  gw_set (by omega) (by rw [wo_tx ha, rh_s, ← tx_up]) (fun k _ hk => wcl_T ha hk)
/-- which house, which aside -/
theorem wcl_r {r' : Nat × Nat} {k : Nat} (hk : k ≠ 0) : wcl cA ad f0 U ρ r' k = wcl cA ad f0 U ρ r k := by
  rcases Nat.lt_or_ge k 81 with h1 | h1
  · by_cases h2 : 3 ≤ k ∧ k < 69
    · obtain ⟨b, o, hb, hoo, rfl⟩ : ∃ b o, b < 3 ∧ o < 22 ∧ k = 3 + 22 * b + o := ⟨(k - 3) / 22, (k - 3) % 22, by omega, by omega, by omega⟩
      rw [wcl_h hb hoo, wcl_h hb hoo]
    · rw [wcl_o h1 h2, wcl_o h1 h2]
      unfold ocl
      split <;> first | rfl | exact absurd rfl hk
  · rw [wcl_f h1, wcl_f h1]
theorem cp_house {x : Nat} (hn : 81 ≤ n) : (cw cA ad n f0 U ρ r).set 0 (ad 0, .inr (0, (wfl ad (U 3) r).set 2 (.ref (ad (3 + 22 * x))))) = cw cA ad n f0 U ρ (x, r.2) :=
  gw_set (by omega) rfl (fun k _ hk => wcl_r hk)
theorem cp_aside {x : Nat} (hn : 81 ≤ n) : (cw cA ad n f0 U ρ r).set 0 (ad 0, .inr (0, (wfl ad (U 3) r).set 3 (.ref (ad (3 + 22 * x))))) = cw cA ad n f0 U ρ (r.1, x) :=
  gw_set (by omega) rfl (fun k _ hk => wcl_r hk)
/-- a house's rows that no cell shows -/
theorem wcl_g {a k : Nat} {S : Nat → Nat → Int32} (ha : a < 3) (h0 : ∀ j, j < 6 → S 0 j = U a 0 j) (h : ∀ q, q < 16 → q ≠ 0 → q ≠ 5 → q ≠ 6 → q ≠ 12 → q ≠ 13 → S q = U a q) : wcl cA ad f0 (uS U a S) ρ r k = wcl cA ad f0 U ρ r k := by
  rcases Nat.lt_or_ge k 81 with h1 | h1
  · by_cases h2 : 3 ≤ k ∧ k < 69
    · obtain ⟨b, o, hb, hoo, rfl⟩ : ∃ b o, b < 3 ∧ o < 22 ∧ k = 3 + 22 * b + o := ⟨(k - 3) / 22, (k - 3) % 22, by omega, by omega, by omega⟩
      rw [wcl_h hb hoo, wcl_h hb hoo]
      by_cases e : b = a
      · subst e
        rw [uS_s]
        have key : ∀ q, ro o = some q → q = 0 ∨ (q < 16 ∧ q ≠ 0 ∧ q ≠ 5 ∧ q ≠ 6 ∧ q ≠ 12 ∧ q ≠ 13) := by
          intro q hq
          match o with
          | 0 => left; exact (Option.some.inj hq).symm
          | 1 => right; cases hq; decide
          | 2 => right; cases hq; decide
          | 3 => right; cases hq; decide
          | 4 => right; cases hq; decide
          | 5 => cases hq
          | 6 => right; cases hq; decide
          | 7 => right; cases hq; decide
          | 8 => right; cases hq; decide
          | 9 => right; cases hq; decide
          | 10 => right; cases hq; decide
          | 11 => cases hq
          | 12 => right; cases hq; decide
          | 13 => right; cases hq; decide
          | k + 14 => cases hq
        by_cases eo : o = 0
        · subst eo
          simp only [hcl, h0 0 (by decide), h0 1 (by decide), h0 2 (by decide), h0 3 (by decide), h0 4 (by decide), h0 5 (by decide)]
        · refine hcl_ext (fun q hq => ?_)
          rcases key q hq with z | ⟨z0, z1, z2, z3, z4, z5⟩
          · subst z
            have := ro_co hoo hq
            exact absurd this eo
          · exact h q z0 z1 z2 z3 z4 z5
      · rw [uS_n e]
    · rw [wcl_o h1 h2, wcl_o h1 h2, uS_n (by omega)]
  · rw [wcl_f h1, wcl_f h1]
end BW
theorem cpy_all {α : Type} {f g : Nat → α} {N j : Nat} (h : j < N) : va_cpy f g 0 0 N j = f j := by
  rw [va_cpy, if_pos (by omega)]
  congr 1
  omega
theorem fit_bd {x : Int32} {m : Nat} (h : Bd x m) (hm : m ≤ 127) : fits .byte (.int x) = true := by
  obtain ⟨k, hk, rfl⟩ := h
  have := pk_fb (nI k)
  rw [← nB_s8, nB_nI (by omega)] at this
  exact this
section BX
variable {p : Program} {l : Launch} {e : Env} {R : Room} {s : State} {m : MethodId} {args : Array Value} {below : List Frame} {meth : Method} {c : Code} {H H0 : Heap} {locs : List Loc} {cells slots : Nat} {Q : State → Prop}
variable {cc : ByteArray} {pc nL : Nat} {ls : Array Slot} {rest : List Value} {own : String} {index : Nat}
variable {D : va_G} {cA : Nat → ClassId} {ad : Nat → Nat} {n : Nat} {f0 : Nat → va_E} {U : Nat → Nat → Nat → Int32} {ρ : Nat → Nat → Option Nat} {r : Nat × Nat} {A : Nat → Prop}
/-- a whole row of a house is copied -/
theorem c_cpy (hC : CallFix p m c cc nL s args lw_all own) (hK : KC D cA s) (hP : XW D cA ad n f0 ρ r U H) (hD : gD A ad n) (hS : va_S A H0 H locs) (hn : 81 ≤ n) (a b o i t N : Nat) (ha : a < 3) (hb : b < 3) {ty : FieldType} (ht : (tyA cA)[t]? = some (cA t, ty)) (hpr : refKind ty = false) {g : Int32 → Int32} (hg : ∀ {a : Nat}, a < 3 → wcl cA ad f0 U ρ r (3 + 22 * a + o) = aI (cA t) N (fun j => g (U a i j))) (hw : wcl cA ad f0 (up3 U a i (U b i)) ρ r (3 + 22 * a + o) = aI (cA t) N (fun j => g (U b i j))) (hc : o = co i) (ho : o < 22) (hN : N < 2 ^ 31) (hfit : ∀ j, j < N → fits ty (.int (g (U b i j))) = true) (hlink : (Cond.methodLink own index arraycopyName) ∈ lw_all) (hsz : ls.size = nL) (hfr : 1 ≤ R.frames) (hlo : (rest.map fun v => v.category).sum + (nativeFrameWords "java/lang/System" "arraycopy" 5 + 11) ≤ R.locals) (hdg : decode cc pc = .ok (.invokestatic index, 3))
    (kk : ∀ (H1 : Heap) (locs1 : List Loc), XW D cA ad n f0 ρ r (up3 U a i (U b i)) H1 → va_S A H0 H1 locs1 → W p l e R s m args below meth c H1 locs1 cells slots Q (F0 m (pc + 3) ls rest)) : W p l e R s m args below meth c H locs cells slots Q (F0 m pc ls (.int (nI N) :: .int (nI 0) :: .ref (ad (3 + 22 * a + o)) :: .int (nI 0) :: .ref (ad (3 + 22 * b + o)) :: rest)) := by
  have e0 : (nI 0).toNatClampNeg = 0 := rfl
  have eN : (nI N).toNatClampNeg = N := nI_clamp hN
  have hneg : ¬ nI N < 0 := by
    show ¬ nI N < nI 0
    rw [nI_ltI (by omega) (by decide)]
    omega
  refine va_copyi hC.1 hC.2.1 (hC.2.2.1.trans hsz.symm) hC.2.2.2.1 (hC.2.2.2.2 _ hlink) (hC.2.2.2.2 _ q1001) (hC.2.2.2.2 _ q1000) (hC.2.2.2.2 _ q107) hK.1 hP hD.D hS (3 + 22 * b + o) (3 + 22 * a + o) t t ((gw_at (by omega)).trans (by rw [hg hb])) ((gw_at (by omega)).trans (by rw [hg ha])) ht ht hpr (by decide) (by decide) hneg (by rw [e0, eN]; omega) (by rw [e0, eN]; omega) (fun j hj => by rw [e0, Nat.zero_add]; rw [eN] at hj; exact hfit j hj) hfr hlo hdg (fun H1 locs1 hP1 _ hS1 => kk H1 locs1 ?_ hS1)
  rw [e0, eN] at hP1
  refine gw_setP hP1 (by omega) ?_ (fun k hk hk2 => wcl_up hk (fun _ => by rw [← hc]; exact hk2) (fun z => by omega))
  rw [hw]
  exact eC_I (fun j hj => cpy_all hj)
/-- a house's texts are copied -/
theorem c_cpx (hC : CallFix p m c cc nL s args lw_all own) (hK : KC D cA s) (hP : XW D cA ad n f0 ρ r U H) (hD : gD A ad n) (hS : va_S A H0 H locs) (hn : 81 ≤ n) (a b : Nat) (ha : a < 3) (hb : b < 3) (htx : ∀ u, u < 2 → ∀ w, ρ (3 + b) u = some w → 81 ≤ w ∧ w < n ∧ ∃ fs, f0 w = .inr (14, fs)) (hlink : (Cond.methodLink own index arraycopyName) ∈ lw_all) (hsz : ls.size = nL) (hfr : 1 ≤ R.frames) (hlo : (rest.map fun v => v.category).sum + (nativeFrameWords "java/lang/System" "arraycopy" 5 + 11) ≤ R.locals) (hdg : decode cc pc = .ok (.invokestatic index, 3))
    (kk : ∀ (H1 : Heap) (locs1 : List Loc), XW D cA ad n f0 (fun x => if x = 3 + a then ρ (3 + b) else ρ x) r U H1 → va_S A H0 H1 locs1 → W p l e R s m args below meth c H1 locs1 cells slots Q (F0 m (pc + 3) ls rest)) : W p l e R s m args below meth c H locs cells slots Q (F0 m pc ls (.int (nI 2) :: .int (nI 0) :: .ref (ad (3 + 22 * a + 11)) :: .int (nI 0) :: .ref (ad (3 + 22 * b + 11)) :: rest)) := by
  have e0 : (nI 0).toNatClampNeg = 0 := rfl
  have e2 : (nI 2).toNatClampNeg = 2 := rfl
  refine va_copyq (C := RX14) (E0 := "WheelBrook$Text") (E1 := "WheelBrook$Text") hC.1 hC.2.1 (hC.2.2.1.trans hsz.symm) hC.2.2.2.1 (hC.2.2.2.2 _ hlink) (hC.2.2.2.2 _ q1001) (hC.2.2.2.2 _ q1000) (hC.2.2.2.2 _ q107) hK.1 hP hD.D hS (3 + 22 * b + 11) (3 + 22 * a + 11) 4 4 ((gw_at (by omega)).trans (by rw [wo_tx hb])) ((gw_at (by omega)).trans (by rw [wo_tx ha])) rfl rfl (by decide) (by decide) (by decide) (by rw [e0, e2]; omega) (by rw [e0, e2]; omega) (fun j hj y hy => ?_) (fun comp c0 h1 h2 => by rw [show (RX14 : String) = "WheelBrook$Text" from rfl] at h2; rw [h1] at h2; cases h2; exact va_asg _ _) hfr hlo hdg (fun H1 locs1 hP1 _ hS1 => kk H1 locs1 ?_ hS1)
  · rw [e0, Nat.zero_add] at hy
    rw [e2] at hj
    obtain ⟨w, hw, e⟩ := Option.map_eq_some_iff.mp hy
    obtain ⟨g1, g2, fs, g3⟩ := htx j hj w hw
    rw [← e]
    exact x_rPO hK hP g1 g2 g3 rfl
  · rw [e0, e2] at hP1
    refine gw_setP hP1 (by omega) ?_ (fun k hk hk2 => ?_)
    · rw [wo_tx ha]
      refine eC_R (fun j hj => ?_)
      rw [cpy_all hj, if_pos rfl]
    · rcases Nat.lt_or_ge k 81 with h1 | h1
      · by_cases h2 : 3 ≤ k ∧ k < 69
        · obtain ⟨x, o, hb, hoo, rfl⟩ : ∃ b o, b < 3 ∧ o < 22 ∧ k = 3 + 22 * b + o := ⟨(k - 3) / 22, (k - 3) % 22, by omega, by omega, by omega⟩
          rw [wcl_h hb hoo, wcl_h hb hoo, if_neg (by omega)]
          by_cases ex : x = a
          · subst ex
            exact hcl_tx (by omega)
          · rw [if_neg (by omega)]
        · rw [wcl_o h1 h2, wcl_o h1 h2, if_neg (by omega)]
      · rw [wcl_f h1, wcl_f h1]
end BX
