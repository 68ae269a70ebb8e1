/-! what is made: the pool grows -/
def RB (ρ : Rho) (n : Nat) : Prop := ∀ x j w, ρ x j = some w → w < n
theorem RB.mono {ρ : Rho} {n m : Nat} (h : RB ρ n) (hm : n ≤ m) : RB ρ m := fun x j w z => Nat.lt_of_lt_of_le (h x j w z) hm
theorem RB.b {ρ : Rho} {n a b : Nat} (h : RB ρ n) : RB (bρ ρ a b) n := fun x j w z => by
  unfold bρ at z
  split at z
  · exact h _ _ _ z
  · split at z
    · exact h _ _ _ z
    · exact h _ _ _ z
theorem RB.rh {ρ : Rho} {n a j : Nat} {w : Option Nat} (h : RB ρ n) (hw : ∀ x, w = some x → x < n) : RB (rh ρ a j w) n := fun x i y z => by
  by_cases e : x = a
  · subst e
    rw [rh_s] at z
    by_cases e2 : i = j
    · subst e2
      rw [va_up_self] at z
      exact hw y z
    · rw [va_up_ne _ _ e2] at z
      exact h _ _ _ z
  · rw [rh_n e] at z
    exact h _ _ _ z
def Ext (ad : Nat → Nat) (n : Nat) (f0 : Nat → va_E) (ad' : Nat → Nat) (n' : Nat) (f0' : Nat → va_E) : Prop := n ≤ n' ∧ (∀ k, k < n → ad' k = ad k) ∧ ∀ k, k < n → 81 ≤ k → f0' k = f0 k
theorem Ext.rf {ad : Nat → Nat} {n : Nat} {f0 : Nat → va_E} : Ext ad n f0 ad n f0 := ⟨Nat.le_refl _, fun _ _ => rfl, fun _ _ _ => rfl⟩
theorem Ext.tr {ad ad1 ad2 : Nat → Nat} {n n1 n2 : Nat} {f f1 f2 : Nat → va_E} (h : Ext ad n f ad1 n1 f1) (h2 : Ext ad1 n1 f1 ad2 n2 f2) : Ext ad n f ad2 n2 f2 := ⟨Nat.le_trans h.1 h2.1, fun k hk => (h2.2.1 k (Nat.lt_of_lt_of_le hk h.1)).trans (h.2.1 k hk), fun k hk h8 => (h2.2.2 k (Nat.lt_of_lt_of_le hk h.1) h8).trans (h.2.2 k hk h8)⟩
section AL1
variable {D : va_G} {cA : Nat → ClassId} {ad ad1 : Nat → Nat} {n n1 : Nat} {f0 f1 : Nat → va_E} {U T : Tta} {ρ : Rho} {r : Nat × Nat} {H : Heap}
theorem hcl_ad {h o : Nat} {S : Sta} {hd tx : Nat → Option Nat} (hk : ∀ k, k < h + 22 → ad1 k = ad k) (h1 : ∀ j w, hd j = some w → ad1 w = ad w) (h2 : ∀ j w, tx j = some w → ad1 w = ad w) (ho : o < 22) : eC (hcl cA ad1 h S hd tx o) = eC (hcl cA ad h S hd tx o) := by
  have hm : ∀ g : Option Nat, (∀ w, g = some w → ad1 w = ad w) → g.map ad1 = g.map ad := fun g hg => by
    cases g with
    | none => rfl
    | some w => rw [Option.map_some, Option.map_some, hg w rfl]
  match o with
  | 0 => simp only [hcl, hk (h + 1) (by omega), hk (h + 2) (by omega), hk (h + 3) (by omega), hk (h + 4) (by omega), hk (h + 5) (by omega), hk (h + 6) (by omega), hk (h + 7) (by omega), hk (h + 8) (by omega), hk (h + 9) (by omega), hk (h + 10) (by omega), hk (h + 11) (by omega), hk (h + 12) (by omega), hk (h + 13) (by omega)]
  | 1 => rfl
  | 2 => rfl
  | 3 => rfl
  | 4 => rfl
  | 5 => exact eC_R (fun j hj => by rw [hk (h + 14 + j) (by omega)])
  | 6 => rfl
  | 7 => rfl
  | 8 => rfl
  | 9 => rfl
  | 10 => rfl
  | 11 =>
    exact eC_R (fun u _ => hm (tx u) (h2 u))
  | 12 => rfl
  | 13 => rfl
  | k + 14 =>
    show eC (Sum.inr (2, [va_rf ((hd k).map ad1)])) = eC (Sum.inr (2, [va_rf ((hd k).map ad)]))
    rw [hm (hd k) (h1 k)]
theorem ocl_ad {k : Nat} {N : Sta} {sh : Nat → Option Nat} (hr : r.1 < 3) (hr2 : r.2 < 3) (hk : ∀ k, k < 81 → ad1 k = ad k) (h1 : ∀ j w, sh j = some w → ad1 w = ad w) (hk8 : k < 81) (hk2 : ¬ (3 ≤ k ∧ k < 69)) : eC (ocl cA ad1 N sh r k) = eC (ocl cA ad N sh r k) := by
  have hm : ∀ g : Option Nat, (∀ w, g = some w → ad1 w = ad w) → rf ad1 g = rf ad g := fun g hg => by
    cases g with
    | none => rfl
    | some w => show Value.ref (ad1 w) = Value.ref (ad w); rw [hg w rfl]
  unfold ocl
  split
  · rw [hk 1 (by decide), hk 2 (by decide), hk (3 + 22 * r.1) (by omega), hk (3 + 22 * r.2) (by omega), hk (3 + 22 * 2) (by decide), hk 69 (by decide), hk 71 (by decide), hk 72 (by decide), hk 77 (by decide), hk 78 (by decide), hk 79 (by decide), hk 80 (by decide)]
  · rfl
  · rfl
  · rw [hk 70 (by decide)]
  · rfl
  · rfl
  · exact eC_R (fun j hj => by rw [hk (73 + j) (by omega)])
  · rw [hm _ (h1 0)]
  · rw [hm _ (h1 1)]
  · rw [hm _ (h1 2)]
  · rw [hm _ (h1 3)]
  · rw [hk 0 (by decide)]
  · rfl
  · rfl
  · rfl
theorem wcl_ad {k : Nat} (hr : r.1 < 3) (hr2 : r.2 < 3) (hn : 81 ≤ n) (hB : RB ρ n) (hk : ∀ k, k < n → ad1 k = ad k) (hf : ∀ k, k < n → 81 ≤ k → f1 k = f0 k) (hkn : k < n) : eC (wcl cA ad1 f1 U ρ r k) = eC (wcl cA ad f0 U ρ r k) := by
  rcases Nat.lt_or_ge k 81 with h1 | h1
  · by_cases h2 : 3 ≤ k ∧ k < 69
    · obtain ⟨b, o, hb, hoo, rfl⟩ : ∃ b o, b < 3 ∧ o < 22 ∧ k = 3 + 22 * b + o := ⟨(k - 3) / 22, (k - 3) % 22, by omega, by omega, by omega⟩
      rw [wcl_h hb hoo, wcl_h hb hoo]
      exact hcl_ad (fun k h => hk k (by omega)) (fun j w z => hk w (hB _ _ _ z)) (fun j w z => hk w (hB _ _ _ z)) hoo
    · rw [wcl_o h1 h2, wcl_o h1 h2]
      exact ocl_ad hr hr2 (fun k h => hk k (by omega)) (fun j w z => hk w (hB _ _ _ z)) h1 h2
  · rw [wcl_f h1, wcl_f h1, hf k hkn h1]
/-- a cell more -/
theorem XW.push {q : Nat} {e : va_E} (hr : r.1 < 3) (hr2 : r.2 < 3) (hn : 81 ≤ n) (hB : RB ρ n) (hP : va_P D cl (cw cA ad n f0 U ρ r ++ [(q, e)]) H) : XW D cA (va_up ad n q) (n + 1) (va_up f0 n e) ρ r U H := by
  rw [gw_push] at hP
  refine gw_P hP (fun k hk => ?_)
  by_cases ek : k = n
  · subst ek
    rw [va_up_self, wcl_f hn, va_up_self]
  · rw [va_up_ne _ _ ek]
    exact (wcl_ad hr hr2 hn hB (fun k h => va_up_ne _ _ (by omega)) (fun k h _ => va_up_ne _ _ (by omega)) (by omega)).symm
theorem cp_pool {w : Nat} {e : va_E} (h1 : 81 ≤ w) (h2 : w < n) : (cw cA ad n f0 U ρ r).set w (ad w, e) = cw cA ad n (va_up f0 w e) U ρ r :=
  gw_set h2 (by rw [wcl_f h1, va_up_self]) (fun j _ hj => by
    rcases Nat.lt_or_ge j 81 with z | z
    · unfold wcl
      rw [if_neg (show ¬ 81 ≤ j by omega), if_neg (show ¬ 81 ≤ j by omega)]
    · rw [wcl_f z, wcl_f z, va_up_ne _ _ hj])
theorem HQ.ext {S : Sta} {a : Nat} (h : HQ cA ad f0 n ρ S a) (hE : Ext ad n f0 ad1 n1 f1) : HQ cA ad1 f1 n1 ρ S a := by
  refine ⟨fun k hk => ?_, fun u hu => ?_⟩
  · obtain ⟨w, kd, g0, g1, g2, g3, g4, g5⟩ := h.1 k hk
    exact ⟨w, kd, g0, g1, Nat.lt_of_lt_of_le g2 hE.1, g3, g4, by rw [hE.2.2 w g2 g1]; exact g5⟩
  · rcases h.2 u hu with z | ⟨z, w, g0, x, y, sp, vl, g1, g2, g3, g4, g5, g6, g7⟩
    · exact Or.inl z
    · exact Or.inr ⟨z, w, g0, x, y, sp, vl, ⟨g1.1, Nat.lt_of_lt_of_le g1.2 hE.1⟩, ⟨g2.1, Nat.lt_of_lt_of_le g2.2 hE.1⟩, ⟨g3.1, Nat.lt_of_lt_of_le g3.2 hE.1⟩, by rw [hE.2.2 w g1.2 g1.1, hE.2.1 x g2.2, hE.2.1 y g3.2]; exact g4, by rw [hE.2.2 x g2.2 g2.1]; exact g5, by rw [hE.2.2 y g3.2 g3.1]; exact g6, g7⟩
theorem SQ.ext (h : SQ cA f0 n ρ T) (hE : Ext ad n f0 ad1 n1 f1) : SQ cA f1 n1 ρ T := by
  refine ⟨fun x hx => ?_, h.2⟩
  rcases h.1 x hx with z | ⟨w, z, t, g, g0, g1, g2, g3, g4, g5, g6⟩
  · exact Or.inl z
  · exact Or.inr ⟨w, z, t, g, g0, g1, Nat.lt_of_lt_of_le g2 hE.1, g3, g4, by rw [hE.2.2 w g2 g1]; exact g5, g6⟩
theorem CQ.ext (h : CQ cA ad n f0 U ρ r T) (hE : Ext ad n f0 ad1 n1 f1) : CQ cA ad1 n1 f1 U ρ r T := ⟨h.1, h.2.1.ext hE, h.2.2.1.ext hE, h.2.2.2.ext hE⟩
end AL1
/-- a constructor's contract also knows its name -/
theorem Cv.ofI {l : Launch} {K : State → Prop} {y : MethodName} {cc : ByteArray} {L : Nat} {d mc ms : Nat} {As : List Value} {PW : Heap → Prop} {A : Nat → Prop} {S : Type} {post : S → Prop} {PB : S → Heap → Prop} (hy : plainName y.cls = true) (hL : (lg_sl As).length ≤ L)
    (body : ∀ (p : Program) (e : Env) (s : State) (m : MethodId) (args : Array Value) (below : List Frame) (meth : Method) (c : Code) (Q : State → Prop), meth.name = y.name → CallFix p m c cc L s args lw_all y.cls → K s → PW s.heap →
      (∀ (H : Heap) (locs : List Loc) (ls : Array Slot) (pc : Nat) (u : S), PB u H → va_S A s.heap H locs → decode cc pc = .ok (.return_, 1) → post u → W p l e (rmG d mc ms) s m args below meth c H locs mc ms Q (F0 m pc ls [])) →
      ∀ ls : Array Slot, lh ls (argL As L) → W p l e (rmG d mc ms) s m args below meth c s.heap [] 0 0 Q (F0 m 0 ls [])) : Cv l K y cc L d mc ms As PW A post PB := by
  refine Met.ofW (cc := cc) (maxL := L) (ret := none) hy rfl ?_
  intro p e s m args below meth c s₁ B hml hv
  obtain ⟨rfl, hP, hK⟩ := hv
  have hts := atoms_spec (ws := ws_ y cc L none) B.pre
  rw [lg_entry_eq]
  exact body p e s m _ below meth c _ (name_of_methodNamed B.named B.method).1 ⟨B.exec, B.bytes, hml, findClass_of_methodNamed B.named, fun w h => hts w (List.mem_cons_of_mem _ h)⟩ hK hP (fun H locs ls pc u hP hS hdg hp => W.vret B.exec B.bytes B.returns (fun t ht hW => ⟨⟨u, rfl, hp, by show PB u t.heap; rw [ht]; exact hP⟩, hS.F ht⟩) hS.2.2 hdg B.notSynchronized) _ (lh_entry As hL)
/-- answers that are new cells -/
def Cg (l : Launch) (K : State → Prop) (y : MethodName) (cc : ByteArray) (L : Nat) (C : String) (d mc ms : Nat) (As : List Value) (PW : Heap → Prop) (A : Nat → Prop) {S : Type} (post : S → Prop) (PB : S → Nat → Heap → Prop) : Prop :=
  Met l y (ws_ y cc L (some (.object C))) (rmG d mc ms) (va_Pc As (fun U => PW U.heap ∧ K U)) (va_Qr post (fun u a t => PB u a t.heap) A) mc ms A
theorem Cg.of {l : Launch} {K : State → Prop} {y : MethodName} {cc : ByteArray} {L : Nat} {C : String} {d mc ms : Nat} {As : List Value} {PW : Heap → Prop} {A : Nat → Prop} {S : Type} {post : S → Prop} {PB : S → Nat → Heap → Prop} (hy : plainName y.cls = true) (hL : (lg_sl As).length ≤ L)
    (body : ∀ (p : Program) (e : Env) (s : State) (m : MethodId) (args : Array Value) (below : List Frame) (meth : Method) (c : Code) (Q : State → Prop), CallFix p m c cc L s args lw_all y.cls → K s → PW s.heap →
      (∀ (H : Heap) (locs : List Loc) (ls : Array Slot) (pc : Nat) (u : S) (a : Nat), PB u a H → va_S A s.heap H locs → decode cc pc = .ok (.areturn, 1) → post u → W p l e (rmG d mc ms) s m args below meth c H locs mc ms Q (F0 m pc ls [.ref a])) →
      ∀ ls : Array Slot, lh ls (argL As L) → W p l e (rmG d mc ms) s m args below meth c s.heap [] 0 0 Q (F0 m 0 ls [])) : Cg l K y cc L C d mc ms As PW A post PB := by
  refine Met.ofW (cc := cc) (maxL := L) (ret := some (.object C)) hy rfl ?_
  intro p e s m args below meth c s₁ B hml hv
  obtain ⟨rfl, hP, hK⟩ := hv
  have hts := atoms_spec (ws := ws_ y cc L (some (.object C))) B.pre
  rw [lg_entry_eq]
  exact body p e s m _ below meth c _ ⟨B.exec, B.bytes, hml, findClass_of_methodNamed B.named, fun w h => hts w (List.mem_cons_of_mem _ h)⟩ hK hP (fun H locs ls pc u a hP hS hdg hp => W.aret B.exec B.bytes B.returns (Or.inl ⟨C, rfl⟩) (Or.inr ⟨a, rfl⟩) (fun t ht hW => ⟨⟨u, a, rfl, hp, by show PB u a t.heap; rw [ht]; exact hP⟩, hS.F ht⟩) hS.2.2 hdg B.notSynchronized) _ (lh_entry As hL)
def CI (own : String) (index : Nat) (y : MethodName) (b : ByteArray) (L : Nat) (n : Nat) : Prop := GoodIn lw_all (ws_ y b L none) ∧ (Cond.initialized y.cls) ∈ lw_all ∧ (Cond.methodLink own index y) ∈ lw_all ∧ (Cond.instanceMethod y) ∈ lw_all ∧ y.name = "<init>" ∧ (y.cls ≠ "java/lang/invoke/MethodHandle" ∧ y.cls ≠ "java/lang/invoke/VarHandle" ∧ (parseMethodDescriptor y.desc).map (fun d => d.parameters.length) = some n)
def CIN (own host : String) (index : Nat) (y : MethodName) (b : ByteArray) (L : Nat) (n : Nat) : Prop := GoodIn lw_all (ws_ y b L none) ∧ (Cond.initialized y.cls) ∈ lw_all ∧ (Cond.methodLinkNest own index y host) ∈ lw_tbl ∧ (Cond.instanceMethod y) ∈ lw_all ∧ y.name = "<init>" ∧ (y.cls ≠ "java/lang/invoke/MethodHandle" ∧ y.cls ≠ "java/lang/invoke/VarHandle" ∧ (parseMethodDescriptor y.desc).map (fun d => d.parameters.length) = some n)
def CSN (own host : String) (index : Nat) (y : MethodName) (b : ByteArray) (L : Nat) (r : Option FieldType) (n : Nat) : Prop := GoodIn lw_all (ws_ y b L r) ∧ (Cond.initialized y.cls) ∈ lw_all ∧ (Cond.methodLinkNest own index y host) ∈ lw_tbl ∧ (Cond.static y) ∈ lw_all ∧ (y.cls ≠ "java/lang/invoke/MethodHandle" ∧ y.cls ≠ "java/lang/invoke/VarHandle" ∧ (parseMethodDescriptor y.desc).map (fun d => d.parameters.length) = some n)
section AL2
variable {p : Program} {l : Launch} {e : Env} {R : Room} {s : State} {m : MethodId} {args : Array Value} {below : List Frame} {meth : Method} {c : Code} {H H0 : Heap} {locs : List Loc} {cells slots : Nat} {Q : State → Prop}
variable {cc bytes : ByteArray} {pc nL L d nn mc ms : Nat} {ls : Array Slot} {rest st As : List Value} {own C host : String} {index : Nat} {y : MethodName} {ret : Option FieldType}
variable {D : va_G} {cA : Nat → ClassId} {ad : Nat → Nat} {n : Nat} {f0 : Nat → va_E} {U : Tta} {ρ : Rho} {r : Nat × Nat} {A A1 : Nat → Prop} {b : Nat} {S : Type} {PW : Heap → Prop}
theorem x_new (hC : CallFix p m c cc nL s args lw_all own) (hK : KC D cA s) (hP : XW D cA ad n f0 ρ r U H) (hD : gD A ad n) (hS : va_S A H0 H locs) (hn : 81 ≤ n) (hB : RB ρ n) (hr : r.1 < 3) (hr2 : r.2 < 3) (hA : ∀ q, H0.size ≤ q → A q) (ci : Nat) {N : Nat} {T : u_T} {ty0 : Nat → FieldType} (hc : cl[ci]? = some (C, T, N)) (hin : ∀ w ∈ u_ws C T N, w ∈ lw_all) (hty : ∀ k, k < N → parseFieldDescriptor (T k).2.2.1 = some (ty0 k)) (hlink : (Cond.classLink own index C) ∈ lw_all) (hinst : (Cond.instantiable C N) ∈ lw_all) (hini : (Cond.initialized C) ∈ lw_all) (fs : List Value) (hfs : ∀ j, j < N → defaultValue (ty0 j) = vp_V fs j) (hcells : cells + 1 ≤ R.cells) (hslots : slots + N ≤ R.slots) (hdg : decode cc pc = .ok (.new index, 3))
    (kk : ∀ (ad1 : Nat → Nat) (H1 : Heap), (∀ k, k < n → ad1 k = ad k) → XW D cA ad1 (n + 1) (va_up f0 n (.inr (ci, fs))) ρ r U H1 → gD A ad1 (n + 1) → va_S A H0 H1 locs → W p l e R s m args below meth c H1 locs (cells + 1) (slots + N) Q (F0 m (pc + 3) ls (.ref (ad1 n) :: rest))) : W p l e R s m args below meth c H locs cells slots Q (F0 m pc ls rest) := by
  refine va_new hC.1 hC.2.1 hC.2.2.2.2 hin ty0 hty hC.2.2.2.1 (hC.2.2.2.2 _ hlink) (hC.2.2.2.2 _ hinst) (hC.2.2.2.2 _ hini) hK.1 hP hD.D hS hA hc hfs hcells hslots hdg (fun q H1 hP1 hD1 hS1 => ?_)
  have h2 : gD A (va_up ad n q) (n + 1) := by
    rw [gw_push] at hD1
    exact gD.of hD1
  have h3 := kk (va_up ad n q) H1 (fun k hk => va_up_ne _ _ (by omega)) (XW.push hr hr2 hn hB hP1) h2 hS1
  rw [va_up_self] at h3
  exact h3
theorem x_newa (hC : CallFix p m c cc nL s args lw_all own) (hK : KC D cA s) (hP : XW D cA ad n f0 ρ r U H) (hD : gD A ad n) (hS : va_S A H0 H locs) (hn : 81 ≤ n) (hB : RB ρ n) (hr : r.1 < 3) (hr2 : r.2 < 3) (hA : ∀ q, H0.size ≤ q → A q) {atype : ArrayType} (harr : (Cond.arrayClass (newarray.typeOf atype)) ∈ lw_all) (t : Nat) (ht : (tyA cA)[t]? = some (cA t, newarray.typeOf atype)) (hdv : defaultValue (newarray.typeOf atype) = .int 0) (hcb : componentBytes (newarray.typeOf atype) ≤ 4) (hpr : va_RA s (cA t) (newarray.typeOf atype) → s.vm.findClass ("[" ++ (newarray.typeOf atype).toString) = some (cA t)) {x : Int32} (N : Nat) (hx : x = nI N) (hN : N ≤ 1000) (hcells : cells + 1 ≤ R.cells) (hslots : slots + N ≤ R.slots) (hdg : decode cc pc = .ok (.newarray atype, 2))
    (kk : ∀ (ad1 : Nat → Nat) (H1 : Heap), (∀ k, k < n → ad1 k = ad k) → XW D cA ad1 (n + 1) (va_up f0 n (aI (cA t) N (fun _ => 0))) ρ r U H1 → gD A ad1 (n + 1) → va_S A H0 H1 locs → W p l e R s m args below meth c H1 locs (cells + 1) (slots + N) Q (F0 m (pc + 2) ls (.ref (ad1 n) :: rest))) : W p l e R s m args below meth c H locs cells slots Q (F0 m pc ls (.int x :: rest)) := by
  subst hx
  have hneg : ¬ nI N < 0 := by
    show ¬ nI N < nI 0
    rw [nI_ltI (by omega) (by decide)]
    omega
  refine va_newa (ty := newarray.typeOf atype) (a0 := (N, .inl (fun _ => 0))) hC.1 hC.2.1 (hC.2.2.2.2 _ harr) rfl hK.1 hP hD.D hS hA (fun cB => by rw [vp_cell_i, hdv]) hneg (nI_clamp (by omega)) (Nat.le_trans (Nat.mul_le_mul_left N hcb) (by omega)) hcells hslots hdg (fun q cB H1 hK1 hP1 hD1 hS1 => ?_)
  have hcB : cB = cA t := by
    have h1 := hpr (hK.1.2 t _ ht).2
    have h2 := (hK1.2 5 _ rfl).2
    have h3 : s.vm.findClass ("[" ++ (newarray.typeOf atype).toString) = some cB := by
      revert h2
      cases atype <;> exact fun h => h
    exact Option.some.inj (h3.symm.trans h1)
  subst hcB
  have h2 : gD A (va_up ad n q) (n + 1) := by
    rw [gw_push] at hD1
    exact gD.of hD1
  have h3 := kk (va_up ad n q) H1 (fun k hk => va_up_ne _ _ (by omega)) (XW.push hr hr2 hn hB hP1) h2 hS1
  rw [va_up_self] at h3
  exact h3
theorem x_vI {post : S → Prop} {PB : S → Heap → Prop} (hC : CallFix p m c cc nL s args lw_all own) (hK : KC D cA s) (hP : PW H) (hS : va_S A H0 H locs) (hM : Cv l (KC D cA) y bytes L d mc ms (.ref b :: As) PW A1 post PB) (hA : ∀ q, A1 q → A q) (cv : CI own index y bytes L nn) (hnn : As.length = nn) (hst : st = As.reverse ++ .ref b :: rest) (hsz : ls.size = nL) (hW : (rest.map fun v => v.category).sum ≤ 8) (hdg : decode cc pc = .ok (.invokespecial index, 3)) (hR : d + 1 ≤ R.frames ∧ 8 + (L + 11) + 64 * d ≤ R.locals) (hcl : cells + mc ≤ R.cells ∧ slots + ms ≤ R.slots)
    (kk : ∀ (u : S) (H1 : Heap) (locs1 : List Loc), post u → PB u H1 → va_S A H0 H1 locs1 → W p l e R s m args below meth c H1 locs1 (cells + mc) (slots + ms) Q (F0 m (pc + 3) ls rest)) : W p l e R s m args below meth c H locs cells slots Q (F0 m pc ls st) :=
  va_callv (va_runI hC hM (cwI nn hC.2.2.2.2 cv.1 rfl rfl rfl (hC.2.2.2.2 _ cv.2.1) (hC.2.2.2.2 _ cv.2.2.1) (hC.2.2.2.2 _ cv.2.2.2.1) cv.2.2.2.2.1 cv.2.2.2.2.2 hR) ⟨cv_blind (kmv_C D cA), fun U hU hW => ⟨rfl, by rw [hU]; exact hP, (kmv_C D cA).1 s U hW hK⟩⟩ rfl hnn hsz hst (lv_room hW) hdg hcl) hS (fun q _ h => hA q h) hA (fun u t H1 locs1 ht hvm hp hB hz hk hS1 => kk u H1 locs1 hp (by rw [← ht]; exact hB) hS1)
theorem x_vIN {post : S → Prop} {PB : S → Heap → Prop} (hC : CallFix p m c cc nL s args lw_all own) (hK : KC D cA s) (hP : PW H) (hS : va_S A H0 H locs) (hM : Cv l (KC D cA) y bytes L d mc ms (.ref b :: As) PW A1 post PB) (hA : ∀ q, A1 q → A q) (cv : CIN own host index y bytes L nn) (hnn : As.length = nn) (hst : st = As.reverse ++ .ref b :: rest) (hsz : ls.size = nL) (hW : (rest.map fun v => v.category).sum ≤ 8) (hdg : decode cc pc = .ok (.invokespecial index, 3)) (hR : d + 1 ≤ R.frames ∧ 8 + (L + 11) + 64 * d ≤ R.locals) (hcl : cells + mc ≤ R.cells ∧ slots + ms ≤ R.slots)
    (kk : ∀ (u : S) (H1 : Heap) (locs1 : List Loc), post u → PB u H1 → va_S A H0 H1 locs1 → W p l e R s m args below meth c H1 locs1 (cells + mc) (slots + ms) Q (F0 m (pc + 3) ls rest)) : W p l e R s m args below meth c H locs cells slots Q (F0 m pc ls st) :=
  va_callv (va_runIN hC hM ⟨va_cnB nn hC.2.2.2.2 cv.1 rfl rfl rfl (hK.2.1 _ cv.2.2.1 rfl) (hC.2.2.2.2 _ cv.2.1) cv.2.2.2.2.2 hR, cv.2.2.2.2.1, hC.2.2.2.2 _ cv.2.2.2.1⟩ ⟨cv_blind (kmv_C D cA), fun U hU hW => ⟨rfl, by rw [hU]; exact hP, (kmv_C D cA).1 s U hW hK⟩⟩ rfl hnn hsz hst (lv_room hW) hdg hcl) hS (fun q _ h => hA q h) hA (fun u t H1 locs1 ht hvm hp hB hz hk hS1 => kk u H1 locs1 hp (by rw [← ht]; exact hB) hS1)
theorem x_gS {post : S → Prop} {PB : S → Nat → Heap → Prop} {E : String} (hC : CallFix p m c cc nL s args lw_all own) (hK : KC D cA s) (hP : PW H) (hS : va_S A H0 H locs) (hM : Cg l (KC D cA) y bytes L E d mc ms As PW A1 post PB) (hA : ∀ q, A1 q → A q) (cv : CS own index y bytes L (some (.object E)) nn) (hnn : As.length = nn) (hst : st = As.reverse ++ rest) (hsz : ls.size = nL) (hW : (rest.map fun v => v.category).sum ≤ 8) (hdg : decode cc pc = .ok (.invokestatic index, 3)) (hR : d + 1 ≤ R.frames ∧ 8 + (L + 11) + 64 * d ≤ R.locals) (hcl : cells + mc ≤ R.cells ∧ slots + ms ≤ R.slots)
    (kk : ∀ (u : S) (a : Nat) (H1 : Heap) (locs1 : List Loc), post u → PB u a H1 → va_S A H0 H1 locs1 → W p l e R s m args below meth c H1 locs1 (cells + mc) (slots + ms) Q (F0 m (pc + 3) ls (.ref a :: rest))) : W p l e R s m args below meth c H locs cells slots Q (F0 m pc ls st) :=
  va_callr (va_runS hC hM (va_cwS nn hC.2.2.2.2 cv.1 rfl rfl rfl cv.2 hR) ⟨cv_blind (kmv_C D cA), fun U hU hW => ⟨rfl, by rw [hU]; exact hP, (kmv_C D cA).1 s U hW hK⟩⟩ rfl hnn hsz hst (lv_room hW) hdg hcl) hS (fun q _ h => hA q h) hA (fun u a t H1 locs1 ht hvm hp hB hz hk hS1 => kk u a H1 locs1 hp (by rw [← ht]; exact hB) hS1)
theorem x_gSN {post : S → Prop} {PB : S → Nat → Heap → Prop} {E : String} (hC : CallFix p m c cc nL s args lw_all own) (hK : KC D cA s) (hP : PW H) (hS : va_S A H0 H locs) (hM : Cg l (KC D cA) y bytes L E d mc ms As PW A1 post PB) (hA : ∀ q, A1 q → A q) (cv : CSN own host index y bytes L (some (.object E)) nn) (hnn : As.length = nn) (hst : st = As.reverse ++ rest) (hsz : ls.size = nL) (hW : (rest.map fun v => v.category).sum ≤ 8) (hdg : decode cc pc = .ok (.invokestatic index, 3)) (hR : d + 1 ≤ R.frames ∧ 8 + (L + 11) + 64 * d ≤ R.locals) (hcl : cells + mc ≤ R.cells ∧ slots + ms ≤ R.slots)
    (kk : ∀ (u : S) (a : Nat) (H1 : Heap) (locs1 : List Loc), post u → PB u a H1 → va_S A H0 H1 locs1 → W p l e R s m args below meth c H1 locs1 (cells + mc) (slots + ms) Q (F0 m (pc + 3) ls (.ref a :: rest))) : W p l e R s m args below meth c H locs cells slots Q (F0 m pc ls st) :=
  va_callr (va_runSN hC hM ⟨va_cnB nn hC.2.2.2.2 cv.1 rfl rfl rfl (hK.2.1 _ cv.2.2.1 rfl) (hC.2.2.2.2 _ cv.2.1) cv.2.2.2.2 hR, hC.2.2.2.2 _ cv.2.2.2.1, trivial⟩ ⟨cv_blind (kmv_C D cA), fun U hU hW => ⟨rfl, by rw [hU]; exact hP, (kmv_C D cA).1 s U hW hK⟩⟩ rfl hnn hsz hst (lv_room hW) hdg hcl) hS (fun q _ h => hA q h) hA (fun u a t H1 locs1 ht hvm hp hB hz hk hS1 => kk u a H1 locs1 hp (by rw [← ht]; exact hB) hS1)
/-- a final field, in its constructor -/
theorem c_putF (hC : CallFix p m c cc nL s args lw_all own) (hK : KC D cA s) (hP : XW D cA ad n f0 ρ r U H) (hD : gD A ad n) (hS : va_S A H0 H locs) (hm : meth.name = "<init>") (k : Nat) (hk : k < n) {ci N : Nat} {ref : String} {T : u_T} {ty0 : Nat → FieldType} {fs : List Value} (he : wcl cA ad f0 U ρ r k = .inr (ci, fs)) (hc : cl[ci]? = some (C, T, N)) (hin : ∀ w ∈ u_ws C T N, w ∈ lw_all) (hty : ∀ k, k < N → parseFieldDescriptor (T k).2.2.1 = some (ty0 k)) (hnm : ∀ a, a < N → ∀ b, b < N → a ≠ b → (T a).2.1 ≠ (T b).2.1) (fi : Nat) (hfi : fi < N) (hlink : (Cond.fieldLink own index ref (T fi).2.1 (T fi).2.2.1) ∈ lw_all) (hsame : (T fi).1 = ref) (hfin : (T fi).2.2.2 = true) (hdecl : (T fi).1 = own) {ty : FieldType} {v : Value} (hd : parseFieldDescriptor (T fi).2.2.1 = some ty) (hn : narrow ty v = v) (hfit : fits ty v = true) (hl : fi < fs.length) {ws' : va_W} (hw : (cw cA ad n f0 U ρ r).set k (ad k, .inr (ci, fs.set fi v)) = ws') (hdg : decode cc pc = .ok (.putfield index, 3)) (kk : ∀ (H1 : Heap) (locs1 : List Loc), va_P D cl ws' H1 → va_S A H0 H1 locs1 → W p l e R s m args below meth c H1 locs1 cells slots Q (F0 m (pc + 3) ls rest)) : W p l e R s m args below meth c H locs cells slots Q (F0 m pc ls (v :: .ref (ad k) :: rest)) :=
  va_putF hC.1 hC.2.1 hC.2.2.2.2 hin ty0 hty hnm hC.2.2.2.1 hK.1 hP hD.D hS k ((gw_at hk).trans (by rw [he])) hc fi hfi (hC.2.2.2.2 _ hlink) (fun x h9 => by rw [hsame] at h9; exact h9) hfin hm hdecl hd hn hfit hl hdg (fun H1 locs1 hP1 _ hS1 => kk H1 locs1 (hw ▸ hP1) hS1)
end AL2
theorem va_up_up {α : Type} {f : Nat → α} {k : Nat} {a b : α} : va_up (va_up f k a) k b = va_up f k b := by
  funext j
  by_cases e : j = k
  · subst e; rw [va_up_self, va_up_self]
  · rw [va_up_ne _ _ e, va_up_ne _ _ e, va_up_ne _ _ e]
theorem Ext.one {ad ad1 : Nat → Nat} {n : Nat} {f0 : Nat → va_E} {e : va_E} (h : ∀ k, k < n → ad1 k = ad k) : Ext ad n f0 ad1 (n + 1) (va_up f0 n e) := ⟨Nat.le_succ n, h, fun k hk _ => va_up_ne _ _ (by omega)⟩
section AL3
variable {p : Program} {l : Launch} {e : Env} {R : Room} {s : State} {m : MethodId} {args : Array Value} {below : List Frame} {meth : Method} {c : Code} {H H0 : Heap} {locs : List Loc} {cells slots : Nat} {Q : State → Prop}
variable {cc bytes : ByteArray} {pc nL L d nn mc ms : Nat} {ls : Array Slot} {rest st As : List Value} {own C : String} {index : Nat} {y : MethodName} {ret : Option FieldType}
variable {D : va_G} {cA : Nat → ClassId} {A A1 : Nat → Prop} {b : Nat} {S : Type} {PW : Heap → Prop}
/-- a call that may make cells -/
theorem x_iVg {post : Int32 → S → Prop} {PB : S → Heap → Prop} (hC : CallFix p m c cc nL s args lw_all own) (hK : KC D cA s) (hP : PW H) (hS : va_S A H0 H locs) (hrc : ∃ cell : Cell, H[b]? = some cell ∧ cell.vm.isStatics = false ∧ s.vm.findClass C = some cell.cls) (hM : Ci l (KC D cA) y bytes L ret d mc ms (.ref b :: As) PW A1 post PB) (hA : ∀ q, A1 q → A q) (cv : CV own C index y bytes L ret nn) (hnn : As.length = nn) (hst : st = As.reverse ++ .ref b :: rest) (hsz : ls.size = nL) (hW : (rest.map fun v => v.category).sum ≤ 8) (hdg : decode cc pc = .ok (.invokevirtual index, 3)) (hR : d + 1 ≤ R.frames ∧ 8 + (L + 11) + 64 * d ≤ R.locals) (hcl : cells + mc ≤ R.cells ∧ slots + ms ≤ R.slots)
    (kk : ∀ (r' : Int32) (u : S) (H1 : Heap) (locs1 : List Loc), post r' u → PB u H1 → va_S A H0 H1 locs1 → W p l e R s m args below meth c H1 locs1 (cells + mc) (slots + ms) Q (F0 m (pc + 3) ls (.int r' :: rest))) : W p l e R s m args below meth c H locs cells slots Q (F0 m pc ls st) :=
  ci_V hC (kmv_C D cA) hK hM cv hrc hP hS hA hnn hst hsz hW hdg hR hcl (fun r' u H1 locs1 h1 h2 h3 _ _ => kk r' u H1 locs1 h1 h2 h3)
end AL3
/-- the state with its pool -/
abbrev WSt : Type := (Nat → Nat) × Nat × (Nat → va_E) × Tta × Rho × (Nat × Nat)
abbrev XZ (D : va_G) (cA : Nat → ClassId) (w : WSt) (H : Heap) : Prop := XW D cA w.1 w.2.1 w.2.2.1 w.2.2.2.2.1 w.2.2.2.2.2 w.2.2.2.1 H
abbrev XIg (l : Launch) (D : va_G) (cA : Nat → ClassId) (ad : Nat → Nat) (n : Nat) (f0 : Nat → va_E) (ρ : Rho) (r : Nat × Nat) (U : Tta) (A : Nat → Prop) (z : Nat) (y : MethodName) (cc : ByteArray) (L : Nat) (ret : Option FieldType) (d mc ms : Nat) (As : List Value) (post : Int32 → (Nat → Nat) → Nat → (Nat → va_E) → Tta → Rho → (Nat × Nat) → Prop) : Prop := Ci l (KC D cA) y cc L ret d mc ms As (fun H => XW D cA ad n f0 ρ r U H ∧ z ≤ H.size) A (fun v (w : WSt) => post v w.1 w.2.1 w.2.2.1 w.2.2.2.1 w.2.2.2.2.1 w.2.2.2.2.2) (fun w H => XZ D cA w H)
/-- all that holds between calls -/
def AX (A : Nat → Prop) (ad : Nat → Nat) (n : Nat) (f0 : Nat → va_E) (ρ : Rho) (ad1 : Nat → Nat) (n1 : Nat) (f1 : Nat → va_E) : Prop := Ext ad n f0 ad1 n1 f1 ∧ gD A ad1 n1 ∧ RB ρ n1
theorem ad7_row {S : Sta} {w a c q : Nat} (h : q < 5 ∨ 11 < q) : ad7 S w a c q = S q := by
  unfold ad7
  rw [up2_row (by omega), up2_row (by omega), up2_row (by omega), up2_row (by omega), up2_row (by omega), up2_row (by omega), up2_row (by omega)]
theorem hq_adds {cA : Nat → ClassId} {ad ad1 : Nat → Nat} {f0 : Nat → va_E} {n : Nat} {ρ : Rho} {S : Sta} {a k c : Nat} (h : HQ cA ad f0 n ρ S a) (ha : a < 3) (hw : wh S < 8) (hn : 81 ≤ n) (hk : k ≤ 69) (had : ∀ k, k < n → ad1 k = ad k) : HQ cA ad1 (va_up f0 n (.inr (6 + k / 10, [.int (nI (wh S)), .int (nI (k % 10))]))) (n + 1) (rh ρ a (wh S) (some n)) (sp_adds S k c) a := by
  have hE : Ext ad n f0 ad1 (n + 1) (va_up f0 n (.inr (6 + k / 10, [.int (nI (wh S)), .int (nI (k % 10))]))) := Ext.one had
  have h2 := h.ext hE
  have e0 : wh (sp_adds S k c) = wh S + 1 := by
    show cn (up2 _ 0 0 _ 0 0) = _
    rw [up2_at, cn_nI (by omega)]
  have e5 : sp_adds S k c 5 = upd (S 5) (wh S) (nI (k / 10)) := by
    unfold sp_adds ad7
    rw [up2_row (by decide), up2_row (by decide), up2_row (by decide), up2_row (by decide), up2_row (by decide), up2_row (by decide), up2_row (by decide), up2, up1_s]
  have e6 : sp_adds S k c 6 = upd (S 6) (wh S) (nI (k % 10)) := by
    unfold sp_adds ad7
    rw [up2_row (by decide), up2_row (by decide), up2_row (by decide), up2_row (by decide), up2_row (by decide), up2_row (by decide), up2, up1_s, up2_row (by decide)]
  refine ⟨fun j hj => ?_, fun u hu => ?_⟩
  · rw [e0] at hj
    unfold WK
    rw [e5, e6, rh_s]
    by_cases ej : j = wh S
    · subst ej
      refine ⟨n, k / 10, va_up_self _ _ _, hn, by omega, by omega, pk_us, ?_⟩
      rw [pk_us, va_up_self]
    · obtain ⟨w, kd, g0, g1, g2, g3, g4, g5⟩ := h2.1 j (by omega)
      exact ⟨w, kd, by rw [va_up_ne _ _ ej]; exact g0, g1, g2, g3, by rw [pk_un ej]; exact g4, by rw [pk_un ej]; exact g5⟩
  · have e12 : sp_adds S k c (12 + u) = S (12 + u) := by
      unfold sp_adds
      rw [up2_row (by omega), ad7_row (by omega)]
    rw [e12, rh_n (by omega)]
    exact h2.2 u hu
