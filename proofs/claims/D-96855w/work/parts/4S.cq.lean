/-! all that the class's state owes the law's T: houses, wheels, texts, sheets -/
def sbt (t : Nat) : Nat := if t = 1 then 8 else if t = 2 then 16 else 32
def SQ (cA : Nat → ClassId) (f0 : Nat → va_E) (n : Nat) (ρ : Rho) (T : Tta) : Prop := (∀ x, x < 4 → (T 2 4 x = 0 ∧ ρ 6 x = none) ∨ ∃ (w z t : Nat) (g : Nat → Int32), ρ 6 x = some w ∧ 81 ≤ w ∧ w < n ∧ t < 3 ∧ z ≤ 24 ∧ f0 w = aI (cA t) z g ∧ T 2 4 x = nI (sbt t) ∧ T 2 5 x = nI z ∧ ∀ j, j < z → g j = T 2 6 (24 * x + j)) ∧ ∀ x y w, x < 4 → y < 4 → ρ 6 x = some w → ρ 6 y = some w → x = y
theorem SQ.cg {cA : Nat → ClassId} {f0 : Nat → va_E} {n : Nat} {ρ ρ1 : Rho} {T T1 : Tta} (h : SQ cA f0 n ρ T) (h6 : ρ1 6 = ρ 6) (e4 : T1 2 4 = T 2 4) (e5 : T1 2 5 = T 2 5) (e6 : T1 2 6 = T 2 6) : SQ cA f0 n ρ1 T1 := by
  unfold SQ at h ⊢
  rw [h6, e4, e5, e6]
  exact h
def CQ (cA : Nat → ClassId) (ad : Nat → Nat) (n : Nat) (f0 : Nat → va_E) (U : Tta) (ρ : Rho) (r : Nat × Nat) (T : Tta) : Prop := CT U r T ∧ HQ cA ad f0 n ρ (T 0) r.1 ∧ HQ cA ad f0 n ρ (T 1) 2 ∧ SQ cA f0 n ρ T
section CQS
variable {D : va_G} {cA : Nat → ClassId} {ad : Nat → Nat} {n : Nat} {f0 : Nat → va_E} {U V T : Tta} {ρ ρ1 : Rho} {r : Nat × Nat} {H : Heap}
theorem CQ.S {S : Sta} (h : CQ cA ad n f0 U ρ r T) (hT : CT V r (tS T S)) (hQ : HQ cA ad f0 n ρ S r.1) : CQ cA ad n f0 V ρ r (tS T S) := ⟨hT, hQ, h.2.2.1, h.2.2.2.cg rfl rfl rfl rfl⟩
theorem CQ.k (h : CQ cA ad n f0 U ρ r T) (hT : CT V r T) : CQ cA ad n f0 V ρ r T := ⟨hT, h.2.1, h.2.2.1, h.2.2.2⟩
theorem CQ.X {q : Nat} {f : Nat → Int32} (h : CQ cA ad n f0 U ρ r T) (hT : CT V r (tX T q f)) (hq : q < 4) : CQ cA ad n f0 V ρ r (tX T q f) := ⟨hT, h.2.1, h.2.2.1, h.2.2.2.cg rfl (tX_2n (by omega)) (tX_2n (by omega)) (tX_2n (by omega))⟩
theorem CQ.e {k : Nat} {o : Int32} (h : CQ cA ad n f0 U ρ r T) (p : o = (-1000000000) - nI k ∧ V = up3 U 3 0 (upd (U 3 0) k (U 3 0 k + nI 1))) (hk : k < 7) : o = (er k T).1 ∧ CQ cA ad n f0 V ρ r (er k T).2 := ⟨(h.1.e p hk).1, h.X (h.1.e p hk).2 (by decide)⟩
theorem CQ.bk (h : CQ cA ad n f0 U ρ r T) (h1 : ∀ x, x ≠ 3 → x ≠ r.2 → V x = U x) (h3 : ∀ q, q < 4 → V 3 q = U 3 q) (hρ : RK ρ ρ1 r) : CQ cA ad n f0 V ρ1 r T := by
  obtain ⟨hT, hQ, hK, hS⟩ := h
  obtain ⟨z1, z2, z3⟩ := hT.1
  exact ⟨hT.bk h1 h3, hq_ρ hQ (hρ _ z3 (by omega)) (hρ _ (by omega) (by omega)), hq_ρ hK (hρ _ (by omega) (by omega)) (hρ _ (by omega) (by omega)), hS.cg (hρ _ (by omega) (by omega)) rfl rfl rfl⟩
theorem CT.K (h : CT U r T) : CT (uS U 2 (T 0)) r (tK T (T 0)) := by
  have h1 := h.1.1
  refine ⟨h.1, by rw [uS_n (by omega)]; exact h.2.1, by rw [uS_s]; rfl, fun q j hq hj => ?_⟩
  rw [uS_n (by decide)]
  exact h.2.2.2 q j hq hj
theorem hq_op {S : Sta} {a : Nat} (h : HQ cA ad f0 n ρ S a) (x : Int32) : HQ cA ad f0 n ρ (sp_op S x) a := by
  unfold sp_op
  exact h.cg (by unfold wh; rw [opn_row (by decide)]) (opn_row (by decide) _) (opn_row (by decide) _) (opn_row (by decide) _) (opn_row (by decide) _)
theorem nB_bd {x : Int32} {m : Nat} (h : Bd x m) (hm : m ≤ 127) : nB x = x := by
  obtain ⟨k, hk, rfl⟩ := h
  exact nB_nI (by omega)
theorem XW.gh {a : Nat} {S : Sta} (hP : XW D cA ad n f0 ρ r U H) (ha : a < 3) (h0 : ∀ j, j < 6 → S 0 j = U a 0 j) (h : ∀ q, q < 16 → q ≠ 0 → q ≠ 5 → q ≠ 6 → q ≠ 12 → q ≠ 13 → S q = U a q) : XW D cA ad n f0 ρ r (uS U a S) H :=
  gw_P hP (fun k _ => by rw [wcl_g ha h0 h])
theorem GO.keep {a m : Nat} (h : GO U V a m) : (∀ x, x ≠ 3 → x ≠ a → V x = U x) ∧ ∀ q, q < 4 → V 3 q = U 3 q := ⟨h.1.1, fun q hq => h.1.2 q (by unfold HL; intro z; simp only [List.mem_cons, List.not_mem_nil, or_false] at z; omega)⟩
end CQS
theorem in_12 {q : Int32} (h : nI 1 ≤ q ∧ q ≤ nI 2) : q = nI 1 ∨ q = nI 2 := by
  obtain ⟨k, h1, h2, rfl⟩ := in_nI1 h
  rcases (by omega : k = 1 ∨ k = 2) with rfl | rfl
  · exact Or.inl rfl
  · exact Or.inr rfl
theorem mo_cases (q : Int32) : q = nI 0 ∨ q = nI 1 ∨ q = nI 2 ∨ q = nI 3 ∨ q = nI 4 ∨ q = nI 5 ∨ (q.toInt < 0 ∨ 5 < q.toInt) := by
  by_cases h : nI 0 ≤ q ∧ q ≤ nI 5
  · obtain ⟨k, hk, rfl⟩ := in_nI h
    rcases (by omega : k = 0 ∨ k = 1 ∨ k = 2 ∨ k = 3 ∨ k = 4 ∨ k = 5) with rfl | rfl | rfl | rfl | rfl | rfl <;> simp
  · iterate 6 right
    rw [Int32.le_iff_toInt_le, Int32.le_iff_toInt_le, nI_toInt (by decide), nI_toInt (by decide)] at h
    omega
theorem mo_no {q : Int32} (h : q.toInt < 0 ∨ 5 < q.toInt) : ¬ (nI 0 ≤ q ∧ q ≤ nI 5) := by
  rw [Int32.le_iff_toInt_le, Int32.le_iff_toInt_le, nI_toInt (by decide), nI_toInt (by decide)]
  omega
theorem su_0 {f : Nat → Int32} {k : Nat} : upd (fun j => if j < k then nI 0 else f j) k (nI 0) = fun j => if j < k + 1 then nI 0 else f j := by
  funext j
  by_cases e : j = k
  · subst e; rw [pk_us, if_pos (by omega)]
  · rw [pk_un e]
    by_cases h : j < k
    · rw [if_pos h, if_pos (by omega)]
    · rw [if_neg h, if_neg (by omega)]
theorem su_z {U : Tta} : up3 U 3 8 (fun j => if j < 0 then nI 0 else U 3 8 j) = U := by
  have e : (fun j => if j < 0 then nI 0 else U 3 8 j) = U 3 8 := by
    funext j
    rw [if_neg (by omega)]
  rw [e]
  funext x
  by_cases h : x = 3
  · subst h
    rw [up3_s]
    funext q
    by_cases h2 : q = 8
    · subst h2; rw [up1_s]
    · rw [up1_n h2]
  · rw [up3_n h]
