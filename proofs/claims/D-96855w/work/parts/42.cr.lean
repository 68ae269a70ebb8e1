/-! the class's rows: fields and arrays by number -/
def gD (A : Nat → Prop) (ad : Nat → Nat) (n : Nat) : Prop := (∀ i j, i < n → j < n → ad i = ad j → i = j) ∧ ∀ k, k < n → A (ad k)
theorem gD.D {A : Nat → Prop} {ad : Nat → Nat} {n : Nat} {f : Nat → va_E} (h : gD A ad n) : va_D A (gw ad n f) := by
  have lt : ∀ {k : Nat} {q : Nat × va_E}, (gw ad n f)[k]? = some q → k < n ∧ q.1 = ad k := by
    intro k q hq
    rcases Nat.lt_or_ge k n with h1 | h1
    · rw [gw_at h1] at hq
      cases hq
      exact ⟨h1, rfl⟩
    · rw [gw_ge h1] at hq
      cases hq
  refine ⟨fun i j p q hi hj e => ?_, fun k q hk => ?_⟩
  · have h1 := lt hi
    have h2 := lt hj
    exact h.1 i j h1.1 h2.1 (by rw [← h1.2, ← h2.2]; exact e)
  · have h1 := lt hk
    rw [h1.2]
    exact h.2 k h1.1
theorem gD.of {A : Nat → Prop} {ad : Nat → Nat} {n : Nat} {f : Nat → va_E} (h : va_D A (gw ad n f)) : gD A ad n :=
  ⟨fun i j hi hj e => h.1 i j _ _ (gw_at hi) (gw_at hj) e, fun k hk => h.2 k _ (gw_at hk)⟩
section CRW
variable {p : Program} {l : Launch} {e : Env} {R : Room} {s : State} {m : MethodId} {args : Array Value} {below : List Frame} {meth : Method} {c : Code} {H H0 : Heap} {locs : List Loc} {cells slots : Nat} {Q : State → Prop}
variable {cc : ByteArray} {pc nL : Nat} {ls : Array Slot} {rest : List Value} {own : String} {index : Nat}
variable {D : va_G} {cA : Nat → ClassId} {ad : Nat → Nat} {n : Nat} {f0 : Nat → va_E} {U : Nat → Nat → Nat → Int32} {ρ : Nat → Nat → Option Nat} {r : Nat × Nat} {A : Nat → Prop}
theorem c_get (hC : CallFix p m c cc nL s args lw_all own) (hK : KC D cA s) (hP : va_P D cl (cw cA ad n f0 U ρ r) H) (k : Nat) (hk : k < n) {ci N : Nat} {C ref : String} {T : u_T} {fs : List Value} (he : wcl cA ad f0 U ρ r k = .inr (ci, fs)) (hc : cl[ci]? = some (C, T, N)) (hin : ∀ w ∈ u_ws C T N, w ∈ lw_all) (fi : Nat) (hfi : fi < N) (hlink : (Cond.fieldLink own index ref (T fi).2.1 (T fi).2.2.1) ∈ lw_all) (hsame : (T fi).1 = ref) {v : Value} (hv : fs[fi]? = some v) (hdg : decode cc pc = .ok (.getfield index, 3)) (kk : W p l e R s m args below meth c H locs cells slots Q (F0 m (pc + 3) ls (v :: rest))) : W p l e R s m args below meth c H locs cells slots Q (F0 m pc ls (.ref (ad k) :: rest)) :=
  va_get hC.1 hC.2.1 hC.2.2.2.2 hin hC.2.2.2.1 hK.1 hP k ((gw_at hk).trans (by rw [he])) hc fi hfi (hC.2.2.2.2 _ hlink) (fun x h9 => by rw [hsame] at h9; exact h9) hv hdg kk
theorem c_getN (hC : CallFix p m c cc nL s args lw_all own) (hK : KC D cA s) (hP : va_P D cl (cw cA ad n f0 U ρ r) H) (k : Nat) (hk : k < n) {ci N : Nat} {C ref host : String} {T : u_T} {fs : List Value} (he : wcl cA ad f0 U ρ r k = .inr (ci, fs)) (hc : cl[ci]? = some (C, T, N)) (hin : ∀ w ∈ u_ws C T N, w ∈ lw_all) (fi : Nat) (hfi : fi < N) (hlink : (Cond.fieldLinkNest own index ref (T fi).2.1 (T fi).2.2.1 host) ∈ lw_tbl) (hsame : (T fi).1 = ref) {v : Value} (hv : fs[fi]? = some v) (hdg : decode cc pc = .ok (.getfield index, 3)) (kk : W p l e R s m args below meth c H locs cells slots Q (F0 m (pc + 3) ls (v :: rest))) : W p l e R s m args below meth c H locs cells slots Q (F0 m pc ls (.ref (ad k) :: rest)) :=
  va_getN hC.1 hC.2.1 hC.2.2.2.2 hin hC.2.2.2.1 hK.1 hP k ((gw_at hk).trans (by rw [he])) hc fi hfi (va_Nw.use rfl (hK.2.1 _ hlink rfl)) (fun x h9 => by rw [hsame] at h9; exact h9) hv hdg kk
theorem c_put (hC : CallFix p m c cc nL s args lw_all own) (hK : KC D cA s) (hP : va_P D cl (cw cA ad n f0 U ρ r) H) (hD : gD A ad n) (hS : va_S A H0 H locs) (k : Nat) (hk : k < n) {ci N : Nat} {C ref : String} {T : u_T} {ty0 : Nat → FieldType} {fs : List Value} (he : wcl cA ad f0 U ρ r k = .inr (ci, fs)) (hc : cl[ci]? = some (C, T, N)) (hin : ∀ w ∈ u_ws C T N, w ∈ lw_all) (hty : ∀ k, k < N → parseFieldDescriptor (T k).2.2.1 = some (ty0 k)) (hnm : ∀ a, a < N → ∀ b, b < N → a ≠ b → (T a).2.1 ≠ (T b).2.1) (fi : Nat) (hfi : fi < N) (hlink : (Cond.fieldLink own index ref (T fi).2.1 (T fi).2.2.1) ∈ lw_all) (hsame : (T fi).1 = ref) (hfin : (T fi).2.2.2 = false) {ty : FieldType} {v : Value} (hd : parseFieldDescriptor (T fi).2.2.1 = some ty) (hn : narrow ty v = v) (hfit : fits ty v = true) (hl : fi < fs.length) {ws' : va_W} (hw : (cw cA ad n f0 U ρ r).set k (ad k, .inr (ci, fs.set fi v)) = ws') (hdg : decode cc pc = .ok (.putfield index, 3)) (kk : ∀ (H1 : Heap) (locs1 : List Loc), va_P D cl ws' H1 → va_S A H0 H1 locs1 → W p l e R s m args below meth c H1 locs1 cells slots Q (F0 m (pc + 3) ls rest)) : W p l e R s m args below meth c H locs cells slots Q (F0 m pc ls (v :: .ref (ad k) :: rest)) :=
  va_put hC.1 hC.2.1 hC.2.2.2.2 hin ty0 hty hnm hC.2.2.2.1 hK.1 hP hD.D hS k ((gw_at hk).trans (by rw [he])) hc fi hfi (hC.2.2.2.2 _ hlink) (fun x h9 => by rw [hsame] at h9; exact h9) hfin hd hn hfit hl hdg (fun H1 locs1 hP1 _ hS1 => kk H1 locs1 (hw ▸ hP1) hS1)
theorem c_putN (hC : CallFix p m c cc nL s args lw_all own) (hK : KC D cA s) (hP : va_P D cl (cw cA ad n f0 U ρ r) H) (hD : gD A ad n) (hS : va_S A H0 H locs) (k : Nat) (hk : k < n) {ci N : Nat} {C ref host : String} {T : u_T} {ty0 : Nat → FieldType} {fs : List Value} (he : wcl cA ad f0 U ρ r k = .inr (ci, fs)) (hc : cl[ci]? = some (C, T, N)) (hin : ∀ w ∈ u_ws C T N, w ∈ lw_all) (hty : ∀ k, k < N → parseFieldDescriptor (T k).2.2.1 = some (ty0 k)) (hnm : ∀ a, a < N → ∀ b, b < N → a ≠ b → (T a).2.1 ≠ (T b).2.1) (fi : Nat) (hfi : fi < N) (hlink : (Cond.fieldLinkNest own index ref (T fi).2.1 (T fi).2.2.1 host) ∈ lw_tbl) (hsame : (T fi).1 = ref) (hfin : (T fi).2.2.2 = false) {ty : FieldType} {v : Value} (hd : parseFieldDescriptor (T fi).2.2.1 = some ty) (hn : narrow ty v = v) (hfit : fits ty v = true) (hl : fi < fs.length) {ws' : va_W} (hw : (cw cA ad n f0 U ρ r).set k (ad k, .inr (ci, fs.set fi v)) = ws') (hdg : decode cc pc = .ok (.putfield index, 3)) (kk : ∀ (H1 : Heap) (locs1 : List Loc), va_P D cl ws' H1 → va_S A H0 H1 locs1 → W p l e R s m args below meth c H1 locs1 cells slots Q (F0 m (pc + 3) ls rest)) : W p l e R s m args below meth c H locs cells slots Q (F0 m pc ls (v :: .ref (ad k) :: rest)) :=
  va_putN hC.1 hC.2.1 hC.2.2.2.2 hin ty0 hty hnm hC.2.2.2.1 hK.1 hP hD.D hS k ((gw_at hk).trans (by rw [he])) hc fi hfi (va_Nw.use rfl (hK.2.1 _ hlink rfl)) (fun x h9 => by rw [hsame] at h9; exact h9) hfin hd hn hfit hl hdg (fun H1 locs1 hP1 _ hS1 => kk H1 locs1 (hw ▸ hP1) hS1)
/-- arrays: loads -/
theorem c_ldi (hC : CallFix p m c cc nL s args lw_all own) (hK : KC D cA s) (hP : va_P D cl (cw cA ad n f0 U ρ r) H) (k : Nat) (hk : k < n) {N : Nat} {g : Nat → Int32} (he : wcl cA ad f0 U ρ r k = aI (cA 0) N g) {j : Int32} (i : Nat) (hj : j = nI i) (hi : i < N) (hN : N < 2 ^ 31) (hdg : decode cc pc = .ok (.iaload, 1)) (kk : W p l e R s m args below meth c H locs cells slots Q (F0 m (pc + 1) ls (.int (g i) :: rest))) : W p l e R s m args below meth c H locs cells slots Q (F0 m pc ls (.int j :: .ref (ad k) :: rest)) := by
  subst hj
  refine va_iald hC.1 hC.2.1 hK.1 hP k 0 ((gw_at hk).trans (by rw [he])) rfl (vp_in_nI hi (by omega)) hdg ?_
  rw [nI_clamp (by omega)]
  exact kk
theorem c_ldb (hC : CallFix p m c cc nL s args lw_all own) (hK : KC D cA s) (hP : va_P D cl (cw cA ad n f0 U ρ r) H) (k : Nat) (hk : k < n) {N : Nat} {g : Nat → Int32} (he : wcl cA ad f0 U ρ r k = aI (cA 1) N g) {j : Int32} (i : Nat) (hj : j = nI i) (hi : i < N) (hN : N < 2 ^ 31) (hdg : decode cc pc = .ok (.baload, 1)) (kk : W p l e R s m args below meth c H locs cells slots Q (F0 m (pc + 1) ls (.int (g i) :: rest))) : W p l e R s m args below meth c H locs cells slots Q (F0 m pc ls (.int j :: .ref (ad k) :: rest)) := by
  subst hj
  refine va_bald hC.1 hC.2.1 hK.1 hP k 1 ((gw_at hk).trans (by rw [he])) rfl (vp_in_nI hi (by omega)) hdg ?_
  rw [nI_clamp (by omega)]
  exact kk
theorem c_lds (hC : CallFix p m c cc nL s args lw_all own) (hK : KC D cA s) (hP : va_P D cl (cw cA ad n f0 U ρ r) H) (k : Nat) (hk : k < n) {N : Nat} {g : Nat → Int32} (he : wcl cA ad f0 U ρ r k = aI (cA 2) N g) {j : Int32} (i : Nat) (hj : j = nI i) (hi : i < N) (hN : N < 2 ^ 31) (hdg : decode cc pc = .ok (.saload, 1)) (kk : W p l e R s m args below meth c H locs cells slots Q (F0 m (pc + 1) ls (.int (g i) :: rest))) : W p l e R s m args below meth c H locs cells slots Q (F0 m pc ls (.int j :: .ref (ad k) :: rest)) := by
  subst hj
  refine va_sald hC.1 hC.2.1 hK.1 hP k 2 ((gw_at hk).trans (by rw [he])) rfl (vp_in_nI hi (by omega)) hdg ?_
  rw [nI_clamp (by omega)]
  exact kk
/-- arrays: stores -/
theorem c_sti (hC : CallFix p m c cc nL s args lw_all own) (hK : KC D cA s) (hP : va_P D cl (cw cA ad n f0 U ρ r) H) (hD : gD A ad n) (hS : va_S A H0 H locs) (k : Nat) (hk : k < n) {N : Nat} {g : Nat → Int32} (he : wcl cA ad f0 U ρ r k = aI (cA 0) N g) {j x : Int32} (i : Nat) (hj : j = nI i) (hi : i < N) (hN : N < 2 ^ 31) {ws' : va_W} (hw : (cw cA ad n f0 U ρ r).set k (ad k, aI (cA 0) N (upd g i x)) = ws') (hdg : decode cc pc = .ok (.iastore, 1)) (kk : ∀ (H1 : Heap) (locs1 : List Loc), va_P D cl ws' H1 → va_S A H0 H1 locs1 → W p l e R s m args below meth c H1 locs1 cells slots Q (F0 m (pc + 1) ls rest)) : W p l e R s m args below meth c H locs cells slots Q (F0 m pc ls (.int x :: .int j :: .ref (ad k) :: rest)) := by
  subst hj
  refine va_iast hC.1 hC.2.1 hK.1 hP hD.D hS k 0 ((gw_at hk).trans (by rw [he])) rfl (vp_in_nI hi (by omega)) hdg (fun H1 locs1 hP1 _ hS1 => kk H1 locs1 ?_ hS1)
  rw [nI_clamp (by omega)] at hP1
  exact hw ▸ hP1
theorem c_stb (hC : CallFix p m c cc nL s args lw_all own) (hK : KC D cA s) (hP : va_P D cl (cw cA ad n f0 U ρ r) H) (hD : gD A ad n) (hS : va_S A H0 H locs) (k : Nat) (hk : k < n) {N : Nat} {g : Nat → Int32} (he : wcl cA ad f0 U ρ r k = aI (cA 1) N g) {j x : Int32} (v : Int32) (hv : nB x = v) (i : Nat) (hj : j = nI i) (hi : i < N) (hN : N < 2 ^ 31) {ws' : va_W} (hw : (cw cA ad n f0 U ρ r).set k (ad k, aI (cA 1) N (upd g i v)) = ws') (hdg : decode cc pc = .ok (.bastore, 1)) (kk : ∀ (H1 : Heap) (locs1 : List Loc), va_P D cl ws' H1 → va_S A H0 H1 locs1 → W p l e R s m args below meth c H1 locs1 cells slots Q (F0 m (pc + 1) ls rest)) : W p l e R s m args below meth c H locs cells slots Q (F0 m pc ls (.int x :: .int j :: .ref (ad k) :: rest)) := by
  subst hj
  refine va_bast hC.1 hC.2.1 hK.1 hP hD.D hS k 1 ((gw_at hk).trans (by rw [he])) rfl (vp_in_nI hi (by omega)) hdg (fun H1 locs1 hP1 _ hS1 => kk H1 locs1 ?_ hS1)
  rw [nI_clamp (by omega), show vp_nar .byte x = v from hv] at hP1
  exact hw ▸ hP1
/-- a house's row i in its cell o; its own row q in the cell k -/
theorem c_ldH (a o i t N : Nat) (ha : a < 3) (ho : o < 22) (hh : ∀ (S : Nat → Nat → Int32) (hd tx : Nat → Option Nat), hcl cA ad (3 + 22 * a) S hd tx o = aI (cA t) N (S i)) : wcl cA ad f0 U ρ r (3 + 22 * a + o) = aI (cA t) N (U a i) := (wcl_h ha ho).trans (hh _ _ _)
theorem c_wH (a o i t N : Nat) (ha : a < 3) (hn : 81 ≤ n) (ho : o < 22) (hc : o = co i) (hh : ∀ (S : Nat → Nat → Int32) (hd tx : Nat → Option Nat), hcl cA ad (3 + 22 * a) S hd tx o = aI (cA t) N (S i)) {g : Nat → Int32} : (cw cA ad n f0 U ρ r).set (3 + 22 * a + o) (ad (3 + 22 * a + o), aI (cA t) N g) = cw cA ad n f0 (up3 U a i g) ρ r :=
  cw_up (by omega) (fun _ => by rw [hc]) (fun z => by omega) ((c_ldH a o i t N ha ho hh).trans (by rw [up3_s, up1_s]))
theorem c_wO (k q t N : Nat) (hk : k < 81) (hk2 : ¬ (3 ≤ k ∧ k < 69)) (hn : 81 ≤ n) (hc : k = oc q) (hh : ∀ (M : Nat → Nat → Int32) (sh : Nat → Option Nat), ocl cA ad M sh r k = aI (cA t) N (M q)) {g : Nat → Int32} : (cw cA ad n f0 U ρ r).set k (ad k, aI (cA t) N g) = cw cA ad n f0 (up3 U 3 q g) ρ r :=
  cw_up (by omega) (fun z => by omega) (fun _ => hc) ((wcl_o hk hk2).trans ((hh _ _).trans (by rw [up3_s, up1_s])))
/-- a house's scalar: the field fi shows S 0 q -/
theorem c_wS (a : Nat) (ha : a < 3) (hn : 81 ≤ n) {fs : List Value} {g : Nat → Int32} (hh : ∀ (S : Nat → Nat → Int32) (hd tx : Nat → Option Nat), S 0 = U a 0 → hcl cA ad (3 + 22 * a) (up1 S 0 g) hd tx 0 = .inr (1, fs)) : (cw cA ad n f0 U ρ r).set (3 + 22 * a) (ad (3 + 22 * a), .inr (1, fs)) = cw cA ad n f0 (up3 U a 0 g) ρ r :=
  cw_up (by omega) (fun _ => rfl) (fun z => by omega) ((wcl_0 ha).trans (by rw [up3_s]; exact hh _ _ _ rfl))
theorem c_wP (k : Nat) (q : Nat) (hk : k < 81) (hk2 : ¬ (3 ≤ k ∧ k < 69)) (hn : 81 ≤ n) (hc : k = oc q) {ci : Nat} {fs : List Value} {g : Nat → Int32} (hh : ocl cA ad (up1 (U 3) q g) (ρ 6) r k = .inr (ci, fs)) : (cw cA ad n f0 U ρ r).set k (ad k, .inr (ci, fs)) = cw cA ad n f0 (up3 U 3 q g) ρ r :=
  cw_up (by omega) (fun z => by omega) (fun _ => hc) ((wcl_o hk hk2).trans (by rw [up3_s]; exact hh))
end CRW
