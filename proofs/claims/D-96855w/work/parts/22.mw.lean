/-! the reference's world: its object at b, its arrays behind it -/
def mlen (i : Nat) : Nat := ([449, 449, 449, 7, 124, 128, 64, 13, 9, 9, 30, 4, 4, 96, 24] : List Nat).getD i 0
def up1 (σ : Nat → Nat → Int32) (i : Nat) (f : Nat → Int32) : Nat → Nat → Int32 := fun j => if j = i then f else σ j
theorem up1_s {σ : Nat → Nat → Int32} {i : Nat} {f : Nat → Int32} : up1 σ i f i = f := by simp [up1]
theorem up1_n {σ : Nat → Nat → Int32} {i j : Nat} {f : Nat → Int32} (h : j ≠ i) : up1 σ i f j = σ j := by simp [up1, h]
def mo (b : Nat) (σ : Nat → Nat → Int32) : List Value := [.ref (b + 1 + 0), .ref (b + 1 + 1), .ref (b + 1 + 2), .int (σ 15 0), .ref (b + 1 + 3), .int (σ 16 0), .int (σ 17 0), .int (σ 18 0), .int (σ 19 0), .ref (b + 1 + 4), .ref (b + 1 + 5), .ref (b + 1 + 6), .ref (b + 1 + 7), .ref (b + 1 + 8), .int (σ 20 0), .int (σ 21 0), .ref (b + 1 + 9), .int (σ 22 0), .int (σ 23 0), .ref (b + 1 + 10), .int (σ 24 0), .int (σ 25 0), .int (σ 26 0), .ref (b + 1 + 11), .ref (b + 1 + 12), .ref (b + 1 + 13), .ref (b + 1 + 14)]
def mw (b : Nat) (cI : ClassId) (σ : Nat → Nat → Int32) : va_W := (b, .inr (5, mo b σ)) :: (List.range 15).map (fun i => (b + 1 + i, .inl (cI, mlen i, .inl (σ i))))
def mA (b : Nat) : Nat → Prop := fun q => b ≤ q ∧ q < b + 16
theorem mlen_le {i : Nat} (h : i < 15) : mlen i ≤ 449 := by
  have : ∀ i, i < 15 → mlen i ≤ 449 := by decide +kernel
  exact this i h
theorem mw_arr {b : Nat} {cI : ClassId} {σ : Nat → Nat → Int32} {i : Nat} (h : i < 15) : (mw b cI σ)[i + 1]? = some (b + 1 + i, .inl (cI, mlen i, .inl (σ i))) := by
  simp [mw, h]
theorem mw_ad {b : Nat} {cI : ClassId} {σ : Nat → Nat → Int32} {k : Nat} {q : Nat × va_E} (h : (mw b cI σ)[k]? = some q) : q.1 = b + k ∧ k < 16 := by
  cases k with
  | zero =>
    simp only [mw, List.getElem?_cons_zero, Option.some.injEq] at h
    subst h
    exact ⟨rfl, by omega⟩
  | succ k =>
    simp only [mw, List.getElem?_cons_succ, List.getElem?_map] at h
    by_cases hk : k < 15
    · rw [List.getElem?_range hk] at h
      simp only [Option.map_some, Option.some.injEq] at h
      subst h
      exact ⟨by show b + 1 + k = _; omega, by omega⟩
    · rw [List.getElem?_eq_none (by simp; omega)] at h
      cases h
theorem mw_D {b : Nat} {cI : ClassId} {σ : Nat → Nat → Int32} : va_D (mA b) (mw b cI σ) := by
  refine ⟨fun i j p q hi hj h => ?_, fun k q hk => ?_⟩
  · have h1 := mw_ad hi
    have h2 := mw_ad hj
    omega
  · have h1 := mw_ad hk
    exact ⟨by omega, by omega⟩
theorem mo_up {b : Nat} {σ : Nat → Nat → Int32} {i : Nat} {f : Nat → Int32} (h : i < 15) : mo b (up1 σ i f) = mo b σ := by
  have e : ∀ r, 15 ≤ r → up1 σ i f r = σ r := fun r hr => up1_n (by omega)
  simp only [mo, e 15 (by omega), e 16 (by omega), e 17 (by omega), e 18 (by omega), e 19 (by omega), e 20 (by omega), e 21 (by omega), e 22 (by omega), e 23 (by omega), e 24 (by omega), e 25 (by omega), e 26 (by omega)]
theorem mw_setA {b : Nat} {cI : ClassId} {σ : Nat → Nat → Int32} {i : Nat} {f : Nat → Int32} (h : i < 15) : (mw b cI σ).set (i + 1) (b + 1 + i, .inl (cI, mlen i, .inl f)) = mw b cI (up1 σ i f) := by
  unfold mw
  rw [mo_up h, List.set_cons_succ]
  congr 1
  apply List.ext_getElem?
  intro k
  rw [List.getElem?_set, List.getElem?_map, List.getElem?_map]
  by_cases hk : i = k
  · subst hk
    rw [if_pos rfl, List.getElem?_range h]
    simp [h, up1]
  · rw [if_neg hk]
    by_cases hk2 : k < 15
    · rw [List.getElem?_range hk2]
      simp [up1, Ne.symm hk]
    · rw [List.getElem?_eq_none (by simp; omega)]
      rfl
theorem mw_cong {b : Nat} {cI : ClassId} {σ τ : Nat → Nat → Int32} (h : mo b σ = mo b τ) (hi : ∀ i, i < 15 → σ i = τ i) : mw b cI σ = mw b cI τ := by
  unfold mw
  rw [h]
  congr 1
  apply List.map_congr_left
  intro i hm
  rw [hi i (List.mem_range.mp hm)]
theorem arrV_cg {cI : ClassId} {N : Nat} {f g : Nat → Value} (h : ∀ j, j < N → f j = g j) : arrV cI N f = arrV cI N g := by
  have e : (fun j : Fin N => f j.val) = fun j : Fin N => g j.val := funext fun j => h j.1 j.2
  unfold arrV
  rw [e]
theorem mw_same {D : va_G} {b : Nat} {cI : ClassId} {σ τ : Nat → Nat → Int32} {H : Heap} (h : va_P D cl (mw b cI σ) H) (hi : ∀ i, i < 15 → ∀ j, j < mlen i → σ i j = τ i j) (hs : ∀ i, 15 ≤ i → i < 27 → σ i 0 = τ i 0) : va_P D cl (mw b cI τ) H := by
  intro k q hk
  cases k with
  | zero =>
    have h0 := h 0 _ (rfl : (mw b cI σ)[0]? = some (b, .inr (5, mo b σ)))
    have e : mo b σ = mo b τ := by simp only [mo, hs 15 (by omega) (by omega), hs 16 (by omega) (by omega), hs 17 (by omega) (by omega), hs 18 (by omega) (by omega), hs 19 (by omega) (by omega), hs 20 (by omega) (by omega), hs 21 (by omega) (by omega), hs 22 (by omega) (by omega), hs 23 (by omega) (by omega), hs 24 (by omega) (by omega), hs 25 (by omega) (by omega), hs 26 (by omega) (by omega)]
    rw [e] at h0
    have hq : q = (b, .inr (5, mo b τ)) := by
      simp only [mw, List.getElem?_cons_zero, Option.some.injEq] at hk
      exact hk.symm
    rw [hq]
    exact h0
  | succ k =>
    have hk2 := (mw_ad hk).2
    have hk3 : k < 15 := by omega
    rw [mw_arr hk3] at hk
    cases hk
    have h1 := h (k + 1) _ (mw_arr hk3)
    show H[b + 1 + k]? = some (vp_cell cI (mlen k, .inl (τ k)))
    have h2 : H[b + 1 + k]? = some (vp_cell cI (mlen k, .inl (σ k))) := h1
    rw [h2, vp_cell_i, vp_cell_i]
    have e : arrV cI (mlen k) (fun j => Value.int (σ k j)) = arrV cI (mlen k) (fun j => Value.int (τ k j)) := arrV_cg (fun j hj => by rw [hi k hk3 j hj])
    rw [e]
theorem mw_setF {b : Nat} {cI : ClassId} {σ : Nat → Nat → Int32} {k r : Nat} {v : Int32} (hr : 15 ≤ r) (h : (mo b σ).set k (.int v) = mo b (up1 σ r (fun _ => v))) : (mw b cI σ).set 0 (b, .inr (5, (mo b σ).set k (.int v))) = mw b cI (up1 σ r (fun _ => v)) := by
  rw [h]
  unfold mw
  rw [List.set_cons_zero]
  congr 1
  apply List.map_congr_left
  intro i hm
  rw [up1_n (by have := List.mem_range.mp hm; omega)]
section MR
variable {p : Program} {l : Launch} {e : Env} {R : Room} {s : State} {m : MethodId} {args : Array Value} {below : List Frame} {meth : Method} {c : Code} {H : Heap} {locs : List Loc} {cells slots : Nat} {Q : State → Prop}
variable {cc : ByteArray} {pc : Nat} {ls : Array Slot} {rest st : List Value} {D : va_G} {cA : Nat → ClassId} {b : Nat} {σ : Nat → Nat → Int32} {H0 : Heap} {nL : Nat}
theorem m_get (hC : CallFix p m c cc nL s args lw_all RX5) (hK : va_K D cl (tyA cA) s) (hP : va_P D cl (mw b (cA 0) σ) H) (k : Nat) (hk : k < 27) {index : Nat} {v : Value} (hlink : (Cond.fieldLink RX5 index RX5 (TX5 k).2.1 (TX5 k).2.2.1) ∈ lw_all) (hsame : (TX5 k).1 = RX5) (hv : (mo b σ)[k]? = some v) (hdg : decode cc pc = .ok (.getfield index, 3)) (kk : W p l e R s m args below meth c H locs cells slots Q (F0 m (pc + 3) ls (v :: rest))) : W p l e R s m args below meth c H locs cells slots Q (F0 m pc ls (.ref b :: rest)) :=
  va_get hC.1 hC.2.1 hC.2.2.2.2 in_X5 hC.2.2.2.1 hK hP 0 (rfl : (mw b (cA 0) σ)[0]? = some (b, .inr (5, mo b σ))) rfl k hk (hC.2.2.2.2 _ hlink) (fun x h9 => by rw [hsame] at h9; exact h9) hv hdg kk
theorem m_put (hC : CallFix p m c cc nL s args lw_all RX5) (hK : va_K D cl (tyA cA) s) (hP : va_P D cl (mw b (cA 0) σ) H) (hS : va_S (mA b) H0 H locs) (k : Nat) (hk : k < 27) {index : Nat} {v : Value} {ty : FieldType} {σ' : Nat → Nat → Int32} (hlink : (Cond.fieldLink RX5 index RX5 (TX5 k).2.1 (TX5 k).2.2.1) ∈ lw_all) (hsame : (TX5 k).1 = RX5) (hfin : (TX5 k).2.2.2 = false) (hd : parseFieldDescriptor (TX5 k).2.2.1 = some ty) (hn : narrow ty v = v) (hfit : fits ty v = true) (he : (mw b (cA 0) σ).set 0 (b, .inr (5, (mo b σ).set k v)) = mw b (cA 0) σ') (hdg : decode cc pc = .ok (.putfield index, 3)) (kk : ∀ (H1 : Heap) (locs1 : List Loc), va_P D cl (mw b (cA 0) σ') H1 → va_S (mA b) H0 H1 locs1 → W p l e R s m args below meth c H1 locs1 cells slots Q (F0 m (pc + 3) ls rest)) : W p l e R s m args below meth c H locs cells slots Q (F0 m pc ls (v :: .ref b :: rest)) :=
  va_put hC.1 hC.2.1 hC.2.2.2.2 in_X5 tyX5 tyX5_ok nmX5 hC.2.2.2.1 hK hP mw_D hS 0 (rfl : (mw b (cA 0) σ)[0]? = some (b, .inr (5, mo b σ))) rfl k hk (hC.2.2.2.2 _ hlink) (fun x h9 => by rw [hsame] at h9; exact h9) hfin hd hn hfit hk hdg (fun H1 locs1 hP1 _ hS1 => kk H1 locs1 (he ▸ hP1) hS1)
theorem m_ld (i k : Nat) (hi : i < 15) (hC : CallFix p m c cc nL s args lw_all RX5) (hK : va_K D cl (tyA cA) s) (hP : va_P D cl (mw b (cA 0) σ) H) {j : Int32} (hj : j = nI k) (hk : k < mlen i) (hdg : decode cc pc = .ok (.iaload, 1)) (kk : W p l e R s m args below meth c H locs cells slots Q (F0 m (pc + 1) ls (.int (σ i k) :: rest))) : W p l e R s m args below meth c H locs cells slots Q (F0 m pc ls (.int j :: .ref (b + 1 + i) :: rest)) := by
  subst hj
  have hle := mlen_le hi
  have h31 : k < 2 ^ 31 := by omega
  refine va_iald hC.1 hC.2.1 hK hP (i + 1) 0 (mw_arr hi) rfl (vp_in_nI hk (by omega)) hdg ?_
  rw [nI_clamp h31]
  exact kk
theorem m_st (i k : Nat) (hi : i < 15) (hC : CallFix p m c cc nL s args lw_all RX5) (hK : va_K D cl (tyA cA) s) (hP : va_P D cl (mw b (cA 0) σ) H) (hS : va_S (mA b) H0 H locs) {j x : Int32} (hj : j = nI k) (hk : k < mlen i) (hdg : decode cc pc = .ok (.iastore, 1)) (kk : ∀ (H1 : Heap) (locs1 : List Loc), va_P D cl (mw b (cA 0) (up1 σ i (upd (σ i) k x))) H1 → va_S (mA b) H0 H1 locs1 → W p l e R s m args below meth c H1 locs1 cells slots Q (F0 m (pc + 1) ls rest)) : W p l e R s m args below meth c H locs cells slots Q (F0 m pc ls (.int x :: .int j :: .ref (b + 1 + i) :: rest)) := by
  subst hj
  have hle := mlen_le hi
  have h31 : k < 2 ^ 31 := by omega
  refine va_iast hC.1 hC.2.1 hK hP mw_D hS (i + 1) 0 (mw_arr hi) rfl (vp_in_nI hk (by omega)) hdg (fun H1 locs1 hP1 _ hS1 => kk H1 locs1 ?_ hS1)
  rw [nI_clamp h31, mw_setA hi] at hP1
  exact hP1
theorem m_recv (hK : va_K D cl (tyA cA) s) (hP : va_P D cl (mw b (cA 0) σ) H) : ∃ cell : Cell, H[b]? = some cell ∧ cell.vm.isStatics = false ∧ s.vm.findClass RX5 = some cell.cls := va_recv (q := (RX5, TX5, 27)) hK hP (ci := 5) (q0 := 0) rfl (rfl : (mw b (cA 0) σ)[0]? = some (b, .inr (5, mo b σ)))
theorem mg_s (hC : CallFix p m c cc nL s args lw_all RX5) (hK : va_K D cl (tyA cA) s) (hP : va_P D cl (mw b (cA 0) σ) H) (hdg : decode cc pc = .ok (.getfield 7, 3)) (kk : W p l e R s m args below meth c H locs cells slots Q (F0 m (pc + 3) ls (.ref (b + 1 + 0) :: rest))) : W p l e R s m args below meth c H locs cells slots Q (F0 m pc ls (.ref b :: rest)) := m_get hC hK hP 0 (by decide) q1296 rfl rfl hdg kk
theorem mg_kept (hC : CallFix p m c cc nL s args lw_all RX5) (hK : va_K D cl (tyA cA) s) (hP : va_P D cl (mw b (cA 0) σ) H) (hdg : decode cc pc = .ok (.getfield 13, 3)) (kk : W p l e R s m args below meth c H locs cells slots Q (F0 m (pc + 3) ls (.ref (b + 1 + 1) :: rest))) : W p l e R s m args below meth c H locs cells slots Q (F0 m pc ls (.ref b :: rest)) := m_get hC hK hP 1 (by decide) q1297 rfl rfl hdg kk
theorem mg_put (hC : CallFix p m c cc nL s args lw_all RX5) (hK : va_K D cl (tyA cA) s) (hP : va_P D cl (mw b (cA 0) σ) H) (hdg : decode cc pc = .ok (.getfield 16, 3)) (kk : W p l e R s m args below meth c H locs cells slots Q (F0 m (pc + 3) ls (.ref (b + 1 + 2) :: rest))) : W p l e R s m args below meth c H locs cells slots Q (F0 m pc ls (.ref b :: rest)) := m_get hC hK hP 2 (by decide) q1298 rfl rfl hdg kk
theorem mg_images (hC : CallFix p m c cc nL s args lw_all RX5) (hK : va_K D cl (tyA cA) s) (hP : va_P D cl (mw b (cA 0) σ) H) (hdg : decode cc pc = .ok (.getfield 287, 3)) (kk : W p l e R s m args below meth c H locs cells slots Q (F0 m (pc + 3) ls (.int (σ 15 0) :: rest))) : W p l e R s m args below meth c H locs cells slots Q (F0 m pc ls (.ref b :: rest)) := m_get hC hK hP 3 (by decide) q1299 rfl rfl hdg kk
theorem mg_errors (hC : CallFix p m c cc nL s args lw_all RX5) (hK : va_K D cl (tyA cA) s) (hP : va_P D cl (mw b (cA 0) σ) H) (hdg : decode cc pc = .ok (.getfield 19, 3)) (kk : W p l e R s m args below meth c H locs cells slots Q (F0 m (pc + 3) ls (.ref (b + 1 + 3) :: rest))) : W p l e R s m args below meth c H locs cells slots Q (F0 m pc ls (.ref b :: rest)) := m_get hC hK hP 4 (by decide) q1300 rfl rfl hdg kk
theorem mg_at (hC : CallFix p m c cc nL s args lw_all RX5) (hK : va_K D cl (tyA cA) s) (hP : va_P D cl (mw b (cA 0) σ) H) (hdg : decode cc pc = .ok (.getfield 127, 3)) (kk : W p l e R s m args below meth c H locs cells slots Q (F0 m (pc + 3) ls (.int (σ 16 0) :: rest))) : W p l e R s m args below meth c H locs cells slots Q (F0 m pc ls (.ref b :: rest)) := m_get hC hK hP 5 (by decide) q1301 rfl rfl hdg kk
theorem mg_open (hC : CallFix p m c cc nL s args lw_all RX5) (hK : va_K D cl (tyA cA) s) (hP : va_P D cl (mw b (cA 0) σ) H) (hdg : decode cc pc = .ok (.getfield 161, 3)) (kk : W p l e R s m args below meth c H locs cells slots Q (F0 m (pc + 3) ls (.int (σ 17 0) :: rest))) : W p l e R s m args below meth c H locs cells slots Q (F0 m pc ls (.ref b :: rest)) := m_get hC hK hP 6 (by decide) q1302 rfl rfl hdg kk
theorem mg_steps (hC : CallFix p m c cc nL s args lw_all RX5) (hK : va_K D cl (tyA cA) s) (hP : va_P D cl (mw b (cA 0) σ) H) (hdg : decode cc pc = .ok (.getfield 134, 3)) (kk : W p l e R s m args below meth c H locs cells slots Q (F0 m (pc + 3) ls (.int (σ 18 0) :: rest))) : W p l e R s m args below meth c H locs cells slots Q (F0 m pc ls (.ref b :: rest)) := m_get hC hK hP 7 (by decide) q1303 rfl rfl hdg kk
theorem mg_use (hC : CallFix p m c cc nL s args lw_all RX5) (hK : va_K D cl (tyA cA) s) (hP : va_P D cl (mw b (cA 0) σ) H) (hdg : decode cc pc = .ok (.getfield 131, 3)) (kk : W p l e R s m args below meth c H locs cells slots Q (F0 m (pc + 3) ls (.int (σ 19 0) :: rest))) : W p l e R s m args below meth c H locs cells slots Q (F0 m pc ls (.ref b :: rest)) := m_get hC hK hP 8 (by decide) q1304 rfl rfl hdg kk
theorem mg_step (hC : CallFix p m c cc nL s args lw_all RX5) (hK : va_K D cl (tyA cA) s) (hP : va_P D cl (mw b (cA 0) σ) H) (hdg : decode cc pc = .ok (.getfield 22, 3)) (kk : W p l e R s m args below meth c H locs cells slots Q (F0 m (pc + 3) ls (.ref (b + 1 + 4) :: rest))) : W p l e R s m args below meth c H locs cells slots Q (F0 m pc ls (.ref b :: rest)) := m_get hC hK hP 9 (by decide) q1305 rfl rfl hdg kk
theorem mg_named (hC : CallFix p m c cc nL s args lw_all RX5) (hK : va_K D cl (tyA cA) s) (hP : va_P D cl (mw b (cA 0) σ) H) (hdg : decode cc pc = .ok (.getfield 25, 3)) (kk : W p l e R s m args below meth c H locs cells slots Q (F0 m (pc + 3) ls (.ref (b + 1 + 5) :: rest))) : W p l e R s m args below meth c H locs cells slots Q (F0 m pc ls (.ref b :: rest)) := m_get hC hK hP 10 (by decide) q1306 rfl rfl hdg kk
theorem mg_pile (hC : CallFix p m c cc nL s args lw_all RX5) (hK : va_K D cl (tyA cA) s) (hP : va_P D cl (mw b (cA 0) σ) H) (hdg : decode cc pc = .ok (.getfield 28, 3)) (kk : W p l e R s m args below meth c H locs cells slots Q (F0 m (pc + 3) ls (.ref (b + 1 + 6) :: rest))) : W p l e R s m args below meth c H locs cells slots Q (F0 m pc ls (.ref b :: rest)) := m_get hC hK hP 11 (by decide) q1307 rfl rfl hdg kk
theorem mg_flowing (hC : CallFix p m c cc nL s args lw_all RX5) (hK : va_K D cl (tyA cA) s) (hP : va_P D cl (mw b (cA 0) σ) H) (hdg : decode cc pc = .ok (.getfield 31, 3)) (kk : W p l e R s m args below meth c H locs cells slots Q (F0 m (pc + 3) ls (.ref (b + 1 + 7) :: rest))) : W p l e R s m args below meth c H locs cells slots Q (F0 m pc ls (.ref b :: rest)) := m_get hC hK hP 12 (by decide) q1308 rfl rfl hdg kk
theorem mg_took (hC : CallFix p m c cc nL s args lw_all RX5) (hK : va_K D cl (tyA cA) s) (hP : va_P D cl (mw b (cA 0) σ) H) (hdg : decode cc pc = .ok (.getfield 34, 3)) (kk : W p l e R s m args below meth c H locs cells slots Q (F0 m (pc + 3) ls (.ref (b + 1 + 8) :: rest))) : W p l e R s m args below meth c H locs cells slots Q (F0 m pc ls (.ref b :: rest)) := m_get hC hK hP 13 (by decide) q1309 rfl rfl hdg kk
theorem mg_lost (hC : CallFix p m c cc nL s args lw_all RX5) (hK : va_K D cl (tyA cA) s) (hP : va_P D cl (mw b (cA 0) σ) H) (hdg : decode cc pc = .ok (.getfield 194, 3)) (kk : W p l e R s m args below meth c H locs cells slots Q (F0 m (pc + 3) ls (.int (σ 20 0) :: rest))) : W p l e R s m args below meth c H locs cells slots Q (F0 m pc ls (.ref b :: rest)) := m_get hC hK hP 14 (by decide) q1310 rfl rfl hdg kk
theorem mg_taken (hC : CallFix p m c cc nL s args lw_all RX5) (hK : va_K D cl (tyA cA) s) (hP : va_P D cl (mw b (cA 0) σ) H) (hdg : decode cc pc = .ok (.getfield 197, 3)) (kk : W p l e R s m args below meth c H locs cells slots Q (F0 m (pc + 3) ls (.int (σ 21 0) :: rest))) : W p l e R s m args below meth c H locs cells slots Q (F0 m pc ls (.ref b :: rest)) := m_get hC hK hP 15 (by decide) q1311 rfl rfl hdg kk
theorem mg_turned (hC : CallFix p m c cc nL s args lw_all RX5) (hK : va_K D cl (tyA cA) s) (hP : va_P D cl (mw b (cA 0) σ) H) (hdg : decode cc pc = .ok (.getfield 37, 3)) (kk : W p l e R s m args below meth c H locs cells slots Q (F0 m (pc + 3) ls (.ref (b + 1 + 9) :: rest))) : W p l e R s m args below meth c H locs cells slots Q (F0 m pc ls (.ref b :: rest)) := m_get hC hK hP 16 (by decide) q1312 rfl rfl hdg kk
theorem mg_others (hC : CallFix p m c cc nL s args lw_all RX5) (hK : va_K D cl (tyA cA) s) (hP : va_P D cl (mw b (cA 0) σ) H) (hdg : decode cc pc = .ok (.getfield 235, 3)) (kk : W p l e R s m args below meth c H locs cells slots Q (F0 m (pc + 3) ls (.int (σ 22 0) :: rest))) : W p l e R s m args below meth c H locs cells slots Q (F0 m pc ls (.ref b :: rest)) := m_get hC hK hP 17 (by decide) q1313 rfl rfl hdg kk
theorem mg_own (hC : CallFix p m c cc nL s args lw_all RX5) (hK : va_K D cl (tyA cA) s) (hP : va_P D cl (mw b (cA 0) σ) H) (hdg : decode cc pc = .ok (.getfield 238, 3)) (kk : W p l e R s m args below meth c H locs cells slots Q (F0 m (pc + 3) ls (.int (σ 23 0) :: rest))) : W p l e R s m args below meth c H locs cells slots Q (F0 m pc ls (.ref b :: rest)) := m_get hC hK hP 18 (by decide) q1314 rfl rfl hdg kk
theorem mg_trace (hC : CallFix p m c cc nL s args lw_all RX5) (hK : va_K D cl (tyA cA) s) (hP : va_P D cl (mw b (cA 0) σ) H) (hdg : decode cc pc = .ok (.getfield 40, 3)) (kk : W p l e R s m args below meth c H locs cells slots Q (F0 m (pc + 3) ls (.ref (b + 1 + 10) :: rest))) : W p l e R s m args below meth c H locs cells slots Q (F0 m pc ls (.ref b :: rest)) := m_get hC hK hP 19 (by decide) q1315 rfl rfl hdg kk
theorem mg_traced (hC : CallFix p m c cc nL s args lw_all RX5) (hK : va_K D cl (tyA cA) s) (hP : va_P D cl (mw b (cA 0) σ) H) (hdg : decode cc pc = .ok (.getfield 247, 3)) (kk : W p l e R s m args below meth c H locs cells slots Q (F0 m (pc + 3) ls (.int (σ 24 0) :: rest))) : W p l e R s m args below meth c H locs cells slots Q (F0 m pc ls (.ref b :: rest)) := m_get hC hK hP 20 (by decide) q1316 rfl rfl hdg kk
theorem mg_speaks (hC : CallFix p m c cc nL s args lw_all RX5) (hK : va_K D cl (tyA cA) s) (hP : va_P D cl (mw b (cA 0) σ) H) (hdg : decode cc pc = .ok (.getfield 250, 3)) (kk : W p l e R s m args below meth c H locs cells slots Q (F0 m (pc + 3) ls (.int (σ 25 0) :: rest))) : W p l e R s m args below meth c H locs cells slots Q (F0 m pc ls (.ref b :: rest)) := m_get hC hK hP 21 (by decide) q1317 rfl rfl hdg kk
theorem mg_isParted (hC : CallFix p m c cc nL s args lw_all RX5) (hK : va_K D cl (tyA cA) s) (hP : va_P D cl (mw b (cA 0) σ) H) (hdg : decode cc pc = .ok (.getfield 274, 3)) (kk : W p l e R s m args below meth c H locs cells slots Q (F0 m (pc + 3) ls (.int (σ 26 0) :: rest))) : W p l e R s m args below meth c H locs cells slots Q (F0 m pc ls (.ref b :: rest)) := m_get hC hK hP 22 (by decide) q1318 rfl rfl hdg kk
theorem mg_bits (hC : CallFix p m c cc nL s args lw_all RX5) (hK : va_K D cl (tyA cA) s) (hP : va_P D cl (mw b (cA 0) σ) H) (hdg : decode cc pc = .ok (.getfield 43, 3)) (kk : W p l e R s m args below meth c H locs cells slots Q (F0 m (pc + 3) ls (.ref (b + 1 + 11) :: rest))) : W p l e R s m args below meth c H locs cells slots Q (F0 m pc ls (.ref b :: rest)) := m_get hC hK hP 23 (by decide) q1319 rfl rfl hdg kk
theorem mg_sizes (hC : CallFix p m c cc nL s args lw_all RX5) (hK : va_K D cl (tyA cA) s) (hP : va_P D cl (mw b (cA 0) σ) H) (hdg : decode cc pc = .ok (.getfield 46, 3)) (kk : W p l e R s m args below meth c H locs cells slots Q (F0 m (pc + 3) ls (.ref (b + 1 + 12) :: rest))) : W p l e R s m args below meth c H locs cells slots Q (F0 m pc ls (.ref b :: rest)) := m_get hC hK hP 24 (by decide) q1320 rfl rfl hdg kk
theorem mg_number (hC : CallFix p m c cc nL s args lw_all RX5) (hK : va_K D cl (tyA cA) s) (hP : va_P D cl (mw b (cA 0) σ) H) (hdg : decode cc pc = .ok (.getfield 49, 3)) (kk : W p l e R s m args below meth c H locs cells slots Q (F0 m (pc + 3) ls (.ref (b + 1 + 13) :: rest))) : W p l e R s m args below meth c H locs cells slots Q (F0 m pc ls (.ref b :: rest)) := m_get hC hK hP 25 (by decide) q1321 rfl rfl hdg kk
theorem mg_aside (hC : CallFix p m c cc nL s args lw_all RX5) (hK : va_K D cl (tyA cA) s) (hP : va_P D cl (mw b (cA 0) σ) H) (hdg : decode cc pc = .ok (.getfield 52, 3)) (kk : W p l e R s m args below meth c H locs cells slots Q (F0 m (pc + 3) ls (.ref (b + 1 + 14) :: rest))) : W p l e R s m args below meth c H locs cells slots Q (F0 m pc ls (.ref b :: rest)) := m_get hC hK hP 26 (by decide) q1322 rfl rfl hdg kk
theorem mp_images (hC : CallFix p m c cc nL s args lw_all RX5) (hK : va_K D cl (tyA cA) s) (hP : va_P D cl (mw b (cA 0) σ) H) (hS : va_S (mA b) H0 H locs) {v : Int32} (hdg : decode cc pc = .ok (.putfield 287, 3)) (kk : ∀ (H1 : Heap) (locs1 : List Loc), va_P D cl (mw b (cA 0) (up1 σ 15 (fun _ => v))) H1 → va_S (mA b) H0 H1 locs1 → W p l e R s m args below meth c H1 locs1 cells slots Q (F0 m (pc + 3) ls rest)) : W p l e R s m args below meth c H locs cells slots Q (F0 m pc ls (.int v :: .ref b :: rest)) :=
  m_put (ty := .int) (σ' := up1 σ 15 (fun _ => v)) hC hK hP hS 3 (by decide) q1299 rfl rfl (by decide +kernel) rfl rfl (mw_setF (r := 15) (by omega) rfl) hdg kk
theorem mp_at (hC : CallFix p m c cc nL s args lw_all RX5) (hK : va_K D cl (tyA cA) s) (hP : va_P D cl (mw b (cA 0) σ) H) (hS : va_S (mA b) H0 H locs) {v : Int32} (hdg : decode cc pc = .ok (.putfield 127, 3)) (kk : ∀ (H1 : Heap) (locs1 : List Loc), va_P D cl (mw b (cA 0) (up1 σ 16 (fun _ => v))) H1 → va_S (mA b) H0 H1 locs1 → W p l e R s m args below meth c H1 locs1 cells slots Q (F0 m (pc + 3) ls rest)) : W p l e R s m args below meth c H locs cells slots Q (F0 m pc ls (.int v :: .ref b :: rest)) :=
  m_put (ty := .int) (σ' := up1 σ 16 (fun _ => v)) hC hK hP hS 5 (by decide) q1301 rfl rfl (by decide +kernel) rfl rfl (mw_setF (r := 16) (by omega) rfl) hdg kk
theorem mp_open (hC : CallFix p m c cc nL s args lw_all RX5) (hK : va_K D cl (tyA cA) s) (hP : va_P D cl (mw b (cA 0) σ) H) (hS : va_S (mA b) H0 H locs) {v : Int32} (hdg : decode cc pc = .ok (.putfield 161, 3)) (kk : ∀ (H1 : Heap) (locs1 : List Loc), va_P D cl (mw b (cA 0) (up1 σ 17 (fun _ => v))) H1 → va_S (mA b) H0 H1 locs1 → W p l e R s m args below meth c H1 locs1 cells slots Q (F0 m (pc + 3) ls rest)) : W p l e R s m args below meth c H locs cells slots Q (F0 m pc ls (.int v :: .ref b :: rest)) :=
  m_put (ty := .int) (σ' := up1 σ 17 (fun _ => v)) hC hK hP hS 6 (by decide) q1302 rfl rfl (by decide +kernel) rfl rfl (mw_setF (r := 17) (by omega) rfl) hdg kk
theorem mp_steps (hC : CallFix p m c cc nL s args lw_all RX5) (hK : va_K D cl (tyA cA) s) (hP : va_P D cl (mw b (cA 0) σ) H) (hS : va_S (mA b) H0 H locs) {v : Int32} (hdg : decode cc pc = .ok (.putfield 134, 3)) (kk : ∀ (H1 : Heap) (locs1 : List Loc), va_P D cl (mw b (cA 0) (up1 σ 18 (fun _ => v))) H1 → va_S (mA b) H0 H1 locs1 → W p l e R s m args below meth c H1 locs1 cells slots Q (F0 m (pc + 3) ls rest)) : W p l e R s m args below meth c H locs cells slots Q (F0 m pc ls (.int v :: .ref b :: rest)) :=
  m_put (ty := .int) (σ' := up1 σ 18 (fun _ => v)) hC hK hP hS 7 (by decide) q1303 rfl rfl (by decide +kernel) rfl rfl (mw_setF (r := 18) (by omega) rfl) hdg kk
theorem mp_use (hC : CallFix p m c cc nL s args lw_all RX5) (hK : va_K D cl (tyA cA) s) (hP : va_P D cl (mw b (cA 0) σ) H) (hS : va_S (mA b) H0 H locs) {v : Int32} (hdg : decode cc pc = .ok (.putfield 131, 3)) (kk : ∀ (H1 : Heap) (locs1 : List Loc), va_P D cl (mw b (cA 0) (up1 σ 19 (fun _ => v))) H1 → va_S (mA b) H0 H1 locs1 → W p l e R s m args below meth c H1 locs1 cells slots Q (F0 m (pc + 3) ls rest)) : W p l e R s m args below meth c H locs cells slots Q (F0 m pc ls (.int v :: .ref b :: rest)) :=
  m_put (ty := .int) (σ' := up1 σ 19 (fun _ => v)) hC hK hP hS 8 (by decide) q1304 rfl rfl (by decide +kernel) rfl rfl (mw_setF (r := 19) (by omega) rfl) hdg kk
theorem mp_lost (hC : CallFix p m c cc nL s args lw_all RX5) (hK : va_K D cl (tyA cA) s) (hP : va_P D cl (mw b (cA 0) σ) H) (hS : va_S (mA b) H0 H locs) {v : Int32} (hdg : decode cc pc = .ok (.putfield 194, 3)) (kk : ∀ (H1 : Heap) (locs1 : List Loc), va_P D cl (mw b (cA 0) (up1 σ 20 (fun _ => v))) H1 → va_S (mA b) H0 H1 locs1 → W p l e R s m args below meth c H1 locs1 cells slots Q (F0 m (pc + 3) ls rest)) : W p l e R s m args below meth c H locs cells slots Q (F0 m pc ls (.int v :: .ref b :: rest)) :=
  m_put (ty := .int) (σ' := up1 σ 20 (fun _ => v)) hC hK hP hS 14 (by decide) q1310 rfl rfl (by decide +kernel) rfl rfl (mw_setF (r := 20) (by omega) rfl) hdg kk
theorem mp_taken (hC : CallFix p m c cc nL s args lw_all RX5) (hK : va_K D cl (tyA cA) s) (hP : va_P D cl (mw b (cA 0) σ) H) (hS : va_S (mA b) H0 H locs) {v : Int32} (hdg : decode cc pc = .ok (.putfield 197, 3)) (kk : ∀ (H1 : Heap) (locs1 : List Loc), va_P D cl (mw b (cA 0) (up1 σ 21 (fun _ => v))) H1 → va_S (mA b) H0 H1 locs1 → W p l e R s m args below meth c H1 locs1 cells slots Q (F0 m (pc + 3) ls rest)) : W p l e R s m args below meth c H locs cells slots Q (F0 m pc ls (.int v :: .ref b :: rest)) :=
  m_put (ty := .int) (σ' := up1 σ 21 (fun _ => v)) hC hK hP hS 15 (by decide) q1311 rfl rfl (by decide +kernel) rfl rfl (mw_setF (r := 21) (by omega) rfl) hdg kk
theorem mp_others (hC : CallFix p m c cc nL s args lw_all RX5) (hK : va_K D cl (tyA cA) s) (hP : va_P D cl (mw b (cA 0) σ) H) (hS : va_S (mA b) H0 H locs) {v : Int32} (hdg : decode cc pc = .ok (.putfield 235, 3)) (kk : ∀ (H1 : Heap) (locs1 : List Loc), va_P D cl (mw b (cA 0) (up1 σ 22 (fun _ => v))) H1 → va_S (mA b) H0 H1 locs1 → W p l e R s m args below meth c H1 locs1 cells slots Q (F0 m (pc + 3) ls rest)) : W p l e R s m args below meth c H locs cells slots Q (F0 m pc ls (.int v :: .ref b :: rest)) :=
  m_put (ty := .int) (σ' := up1 σ 22 (fun _ => v)) hC hK hP hS 17 (by decide) q1313 rfl rfl (by decide +kernel) rfl rfl (mw_setF (r := 22) (by omega) rfl) hdg kk
theorem mp_own (hC : CallFix p m c cc nL s args lw_all RX5) (hK : va_K D cl (tyA cA) s) (hP : va_P D cl (mw b (cA 0) σ) H) (hS : va_S (mA b) H0 H locs) {v : Int32} (hdg : decode cc pc = .ok (.putfield 238, 3)) (kk : ∀ (H1 : Heap) (locs1 : List Loc), va_P D cl (mw b (cA 0) (up1 σ 23 (fun _ => v))) H1 → va_S (mA b) H0 H1 locs1 → W p l e R s m args below meth c H1 locs1 cells slots Q (F0 m (pc + 3) ls rest)) : W p l e R s m args below meth c H locs cells slots Q (F0 m pc ls (.int v :: .ref b :: rest)) :=
  m_put (ty := .int) (σ' := up1 σ 23 (fun _ => v)) hC hK hP hS 18 (by decide) q1314 rfl rfl (by decide +kernel) rfl rfl (mw_setF (r := 23) (by omega) rfl) hdg kk
theorem mp_traced (hC : CallFix p m c cc nL s args lw_all RX5) (hK : va_K D cl (tyA cA) s) (hP : va_P D cl (mw b (cA 0) σ) H) (hS : va_S (mA b) H0 H locs) {v : Int32} (hdg : decode cc pc = .ok (.putfield 247, 3)) (kk : ∀ (H1 : Heap) (locs1 : List Loc), va_P D cl (mw b (cA 0) (up1 σ 24 (fun _ => v))) H1 → va_S (mA b) H0 H1 locs1 → W p l e R s m args below meth c H1 locs1 cells slots Q (F0 m (pc + 3) ls rest)) : W p l e R s m args below meth c H locs cells slots Q (F0 m pc ls (.int v :: .ref b :: rest)) :=
  m_put (ty := .int) (σ' := up1 σ 24 (fun _ => v)) hC hK hP hS 20 (by decide) q1316 rfl rfl (by decide +kernel) rfl rfl (mw_setF (r := 24) (by omega) rfl) hdg kk
theorem mp_speaks (hC : CallFix p m c cc nL s args lw_all RX5) (hK : va_K D cl (tyA cA) s) (hP : va_P D cl (mw b (cA 0) σ) H) (hS : va_S (mA b) H0 H locs) {v : Int32} (hdg : decode cc pc = .ok (.putfield 250, 3)) (kk : ∀ (H1 : Heap) (locs1 : List Loc), va_P D cl (mw b (cA 0) (up1 σ 25 (fun _ => v))) H1 → va_S (mA b) H0 H1 locs1 → W p l e R s m args below meth c H1 locs1 cells slots Q (F0 m (pc + 3) ls rest)) : W p l e R s m args below meth c H locs cells slots Q (F0 m pc ls (.int v :: .ref b :: rest)) :=
  m_put (ty := .int) (σ' := up1 σ 25 (fun _ => v)) hC hK hP hS 21 (by decide) q1317 rfl rfl (by decide +kernel) rfl rfl (mw_setF (r := 25) (by omega) rfl) hdg kk
theorem mp_isParted (hC : CallFix p m c cc nL s args lw_all RX5) (hK : va_K D cl (tyA cA) s) (hP : va_P D cl (mw b (cA 0) σ) H) (hS : va_S (mA b) H0 H locs) {v : Int32} (hv : v = 0 ∨ v = 1) (hdg : decode cc pc = .ok (.putfield 274, 3)) (kk : ∀ (H1 : Heap) (locs1 : List Loc), va_P D cl (mw b (cA 0) (up1 σ 26 (fun _ => v))) H1 → va_S (mA b) H0 H1 locs1 → W p l e R s m args below meth c H1 locs1 cells slots Q (F0 m (pc + 3) ls rest)) : W p l e R s m args below meth c H locs cells slots Q (F0 m pc ls (.int v :: .ref b :: rest)) :=
  m_put (ty := .boolean) (σ' := up1 σ 26 (fun _ => v)) hC hK hP hS 22 (by decide) q1318 rfl rfl (by decide +kernel) (by rcases hv with h | h <;> rw [h] <;> rfl) (by rcases hv with h | h <;> rw [h] <;> rfl) (mw_setF (r := 26) (by omega) rfl) hdg kk
abbrev MK (D : va_G) (cA : Nat → ClassId) : State → Prop := va_K D cl (tyA cA)
abbrev MWP (D : va_G) (cA : Nat → ClassId) (b : Nat) (σ : Nat → Nat → Int32) : Heap → Prop := va_P D cl (mw b (cA 0) σ)
abbrev MP (l : Launch) (D : va_G) (cA : Nat → ClassId) (b : Nat) (y : MethodName) (cc : ByteArray) (L : Nat) (ret : Option FieldType) (d : Nat) (As : List Value) (σ : Nat → Nat → Int32) (post : Int32 → Prop) : Prop := Cp l (MK D cA) y cc L ret d As (MWP D cA b σ) post
abbrev MI (l : Launch) (D : va_G) (cA : Nat → ClassId) (b : Nat) (y : MethodName) (cc : ByteArray) (L : Nat) (ret : Option FieldType) (d : Nat) (As : List Value) (σ : Nat → Nat → Int32) (post : Int32 → (Nat → Nat → Int32) → Prop) : Prop := Ci l (MK D cA) y cc L ret d 0 0 As (MWP D cA b σ) (mA b) post (MWP D cA b)
abbrev MV (l : Launch) (D : va_G) (cA : Nat → ClassId) (b : Nat) (y : MethodName) (cc : ByteArray) (L : Nat) (d : Nat) (As : List Value) (σ : Nat → Nat → Int32) (post : (Nat → Nat → Int32) → Prop) : Prop := Cv l (MK D cA) y cc L d 0 0 As (MWP D cA b σ) (mA b) post (MWP D cA b)
theorem rmOk {L d dd mc ms : Nat} (hd : d < dd) (hL : L ≤ 45) : d + 1 ≤ (rmG dd mc ms).frames ∧ 8 + (L + 11) + 64 * d ≤ (rmG dd mc ms).locals := by
  simp only [rmG]
  omega
variable {y : MethodName} {bytes : ByteArray} {L : Nat} {ret : Option FieldType} {d dd index n : Nat} {As : List Value}
theorem m_pV {post : Int32 → Prop} (hC : CallFix p m c cc nL s args lw_all RX5) (hK : MK D cA s) (hP : MWP D cA b σ H) (hM : MP l D cA b y bytes L ret d (.ref b :: As) σ post) (cv : CV RX5 RX5 index y bytes L ret n) (hn : As.length = n) (hst : st = As.reverse ++ .ref b :: rest) (hsz : ls.size = nL) (hW : (rest.map fun v => v.category).sum ≤ 8) (hdg : decode cc pc = .ok (.invokevirtual index, 3)) (hd : d < dd) (hL : L ≤ 45)
    (kk : ∀ r : Int32, post r → W p l e (rmG dd 0 0) s m args below meth c H locs 0 0 Q (F0 m (pc + 3) ls (.int r :: rest))) : W p l e (rmG dd 0 0) s m args below meth c H locs 0 0 Q (F0 m pc ls st) :=
  cp_V hC (kmv_K D cA) hK hM cv (m_recv hK hP) hP hn hst hsz hW hdg (rmOk hd hL) ⟨Nat.le_refl 0, Nat.le_refl 0⟩ kk
theorem m_pS {post : Int32 → Prop} (hC : CallFix p m c cc nL s args lw_all RX5) (hK : MK D cA s) (hP : MWP D cA b σ H) (hM : MP l D cA b y bytes L ret d As σ post) (cv : CS RX5 index y bytes L ret n) (hn : As.length = n) (hst : st = As.reverse ++ rest) (hsz : ls.size = nL) (hW : (rest.map fun v => v.category).sum ≤ 8) (hdg : decode cc pc = .ok (.invokestatic index, 3)) (hd : d < dd) (hL : L ≤ 45)
    (kk : ∀ r : Int32, post r → W p l e (rmG dd 0 0) s m args below meth c H locs 0 0 Q (F0 m (pc + 3) ls (.int r :: rest))) : W p l e (rmG dd 0 0) s m args below meth c H locs 0 0 Q (F0 m pc ls st) :=
  cp_S hC (kmv_K D cA) hK hM cv hP hn hst hsz hW hdg (rmOk hd hL) ⟨Nat.le_refl 0, Nat.le_refl 0⟩ kk
theorem m_sS {post : Int32 → Prop} (hC : CallFix p m c cc nL s args lw_all RX5) (hM : Cp l (fun _ => True) y bytes L ret d As (fun _ => True) post) (cv : CS RX5 index y bytes L ret n) (hn : As.length = n) (hst : st = As.reverse ++ rest) (hsz : ls.size = nL) (hW : (rest.map fun v => v.category).sum ≤ 8) (hdg : decode cc pc = .ok (.invokestatic index, 3)) (hd : d < dd) (hL : L ≤ 45)
    (kk : ∀ r : Int32, post r → W p l e (rmG dd 0 0) s m args below meth c H locs 0 0 Q (F0 m (pc + 3) ls (.int r :: rest))) : W p l e (rmG dd 0 0) s m args below meth c H locs 0 0 Q (F0 m pc ls st) :=
  cp_S hC ⟨fun _ _ _ _ => trivial, fun _ _ _ _ _ => trivial⟩ trivial hM cv trivial hn hst hsz hW hdg (rmOk hd hL) ⟨Nat.le_refl 0, Nat.le_refl 0⟩ kk
theorem m_iV {post : Int32 → (Nat → Nat → Int32) → Prop} (hC : CallFix p m c cc nL s args lw_all RX5) (hK : MK D cA s) (hP : MWP D cA b σ H) (hS : va_S (mA b) H0 H locs) (hM : MI l D cA b y bytes L ret d (.ref b :: As) σ post) (cv : CV RX5 RX5 index y bytes L ret n) (hn : As.length = n) (hst : st = As.reverse ++ .ref b :: rest) (hsz : ls.size = nL) (hW : (rest.map fun v => v.category).sum ≤ 8) (hdg : decode cc pc = .ok (.invokevirtual index, 3)) (hd : d < dd) (hL : L ≤ 45)
    (kk : ∀ (r : Int32) (σ1 : Nat → Nat → Int32) (H1 : Heap) (locs1 : List Loc), post r σ1 → MWP D cA b σ1 H1 → va_S (mA b) H0 H1 locs1 → W p l e (rmG dd 0 0) s m args below meth c H1 locs1 0 0 Q (F0 m (pc + 3) ls (.int r :: rest))) : W p l e (rmG dd 0 0) s m args below meth c H locs 0 0 Q (F0 m pc ls st) :=
  ci_V hC (kmv_K D cA) hK hM cv (m_recv hK hP) hP hS (fun _ h => h) hn hst hsz hW hdg (rmOk hd hL) ⟨Nat.le_refl 0, Nat.le_refl 0⟩ (fun r u H1 locs1 hp hB hS1 _ _ => kk r u H1 locs1 hp hB hS1)
theorem m_vV {post : (Nat → Nat → Int32) → Prop} (hC : CallFix p m c cc nL s args lw_all RX5) (hK : MK D cA s) (hP : MWP D cA b σ H) (hS : va_S (mA b) H0 H locs) (hM : MV l D cA b y bytes L d (.ref b :: As) σ post) (cv : CV RX5 RX5 index y bytes L none n) (hn : As.length = n) (hst : st = As.reverse ++ .ref b :: rest) (hsz : ls.size = nL) (hW : (rest.map fun v => v.category).sum ≤ 8) (hdg : decode cc pc = .ok (.invokevirtual index, 3)) (hd : d < dd) (hL : L ≤ 45)
    (kk : ∀ (σ1 : Nat → Nat → Int32) (H1 : Heap) (locs1 : List Loc), post σ1 → MWP D cA b σ1 H1 → va_S (mA b) H0 H1 locs1 → W p l e (rmG dd 0 0) s m args below meth c H1 locs1 0 0 Q (F0 m (pc + 3) ls rest)) : W p l e (rmG dd 0 0) s m args below meth c H locs 0 0 Q (F0 m pc ls st) :=
  cv_V hC (kmv_K D cA) hK hM cv (m_recv hK hP) hP hS (fun _ h => h) hn hst hsz hW hdg (rmOk hd hL) ⟨Nat.le_refl 0, Nat.le_refl 0⟩ (fun u H1 locs1 hp hB hS1 _ _ => kk u H1 locs1 hp hB hS1)
theorem m_vS {post : (Nat → Nat → Int32) → Prop} (hC : CallFix p m c cc nL s args lw_all RX5) (hK : MK D cA s) (hP : MWP D cA b σ H) (hS : va_S (mA b) H0 H locs) (hM : MV l D cA b y bytes L d As σ post) (cv : CS RX5 index y bytes L none n) (hn : As.length = n) (hst : st = As.reverse ++ rest) (hsz : ls.size = nL) (hW : (rest.map fun v => v.category).sum ≤ 8) (hdg : decode cc pc = .ok (.invokestatic index, 3)) (hd : d < dd) (hL : L ≤ 45)
    (kk : ∀ (σ1 : Nat → Nat → Int32) (H1 : Heap) (locs1 : List Loc), post σ1 → MWP D cA b σ1 H1 → va_S (mA b) H0 H1 locs1 → W p l e (rmG dd 0 0) s m args below meth c H1 locs1 0 0 Q (F0 m (pc + 3) ls rest)) : W p l e (rmG dd 0 0) s m args below meth c H locs 0 0 Q (F0 m pc ls st) :=
  cv_S hC (kmv_K D cA) hK hM cv hP hS (fun _ h => h) hn hst hsz hW hdg (rmOk hd hL) ⟨Nat.le_refl 0, Nat.le_refl 0⟩ (fun u H1 locs1 hp hB hS1 _ _ => kk u H1 locs1 hp hB hS1)
end MR
