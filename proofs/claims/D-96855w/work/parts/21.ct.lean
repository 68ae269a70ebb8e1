/-! contracts over any world -/
abbrev cl : List vw_C := [(RX0, TX0, 15), (RX1, TX1, 19), (RX2, TX2, 1), (RX3, TX3, 2), (RX4, TX4, 1), (RX5, TX5, 27), (RX6, TX6, 2), (RX7, TX7, 2), (RX8, TX8, 2), (RX9, TX9, 2), (RX10, TX10, 2), (RX11, TX11, 2), (RX12, TX12, 2), (RX13, TX13, 6), (RX14, TX14, 3), (RX15, TX15, 7), (RJ1, TJ1, 5), (RJ9, TJ9, 6), (RJ10, TJ10, 6), (RJ11, TJ11, 6), (RJ3, TJ3, 2)]
abbrev tyA (cA : Nat → ClassId) : List (ClassId × FieldType) := [(cA 0, .int), (cA 1, .byte), (cA 2, .short), (cA 3, .object "WheelBrook$Slot"), (cA 4, .object "WheelBrook$Text")]
def rmG (d mc ms : Nat) : Room := { frames := d, cells := mc, slots := ms, locals := 64 * d }
def Kmv (K : State → Prop) : Prop := (∀ s U : State, s.WarmedH U.vm → K s → K U) ∧ ∀ (U : State) (g : JFrame) (mk : MethodId) (a : Array Value), K U → K (U.calling g mk a)
theorem kmv_K (D : va_G) (cA : Nat → ClassId) : Kmv (va_K D cl (tyA cA)) := ⟨fun _ _ hW h => va_K.moved hW.alike h, fun U g mk a h => va_K.moved (u := U) (U := U.calling g mk a) (Vm.Alike.refl U.vm) h⟩
def Cp (l : Launch) (K : State → Prop) (y : MethodName) (cc : ByteArray) (L : Nat) (ret : Option FieldType) (d : Nat) (As : List Value) (PW : Heap → Prop) (post : Int32 → Prop) : Prop :=
  Met l y (ws_ y cc L ret) (rmG d 0 0) (va_Pc As (fun U => PW U.heap ∧ K U)) (fun _ st oc t => (∃ r : Int32, oc = .returned (some (.int r)) ∧ post r) ∧ t.heap = st.heap) 0 0 (fun _ => False)
def Ci (l : Launch) (K : State → Prop) (y : MethodName) (cc : ByteArray) (L : Nat) (ret : Option FieldType) (d mc ms : Nat) (As : List Value) (PW : Heap → Prop) (A : Nat → Prop) {S : Type} (post : Int32 → S → Prop) (PB : S → Heap → Prop) : Prop :=
  Met l y (ws_ y cc L ret) (rmG d mc ms) (va_Pc As (fun U => PW U.heap ∧ K U)) (va_Qi post (fun u t => PB u t.heap) A) mc ms A
def Cv (l : Launch) (K : State → Prop) (y : MethodName) (cc : ByteArray) (L : Nat) (d mc ms : Nat) (As : List Value) (PW : Heap → Prop) (A : Nat → Prop) {S : Type} (post : S → Prop) (PB : S → Heap → Prop) : Prop :=
  Met l y (ws_ y cc L none) (rmG d mc ms) (va_Pc As (fun U => PW U.heap ∧ K U)) (va_Qv post (fun u t => PB u t.heap) A) mc ms A
/-- what a call through an object asks of the tables -/
def CV (own C : String) (index : Nat) (y : MethodName) (b : ByteArray) (L : Nat) (r : Option FieldType) (n : Nat) : Prop := GoodIn lw_all (wsV own index C y (ws_ y b L r)) ∧ (y.cls = C ∧ y.cls ≠ "java/lang/invoke/MethodHandle" ∧ y.cls ≠ "java/lang/invoke/VarHandle" ∧ (parseMethodDescriptor y.desc).map (fun d => d.parameters.length) = some n)
def CS (own : String) (index : Nat) (y : MethodName) (b : ByteArray) (L : Nat) (r : Option FieldType) (n : Nat) : Prop := GoodIn lw_all (va_wsS own index y (ws_ y b L r)) ∧ (y.cls ≠ "java/lang/invoke/MethodHandle" ∧ y.cls ≠ "java/lang/invoke/VarHandle" ∧ (parseMethodDescriptor y.desc).map (fun d => d.parameters.length) = some n)
def bz (c : Prop) (r : Int32) : Prop := (r = 1 ∧ c) ∨ (r = 0 ∧ ¬ c)
section CT
variable {l : Launch} {K : State → Prop} {y : MethodName} {cc : ByteArray} {L : Nat} {ret : Option FieldType} {d mc ms : Nat} {As : List Value} {PW : Heap → Prop} {A : Nat → Prop}
theorem Cp.of {post : Int32 → Prop} (hret : ret = some .int) (hy : plainName y.cls = true) (hL : (lg_sl As).length ≤ L)
    (body : ∀ (p : Program) (e : Env) (s : State) (m : MethodId) (args : Array Value) (below : List Frame) (meth : Method) (c : Code) (Q : State → Prop), CallFix p m c cc L s args lw_all y.cls → K s → PW s.heap →
      (∀ (ls : Array Slot) (pc : Nat) (v : Int32), decode cc pc = .ok (.ireturn, 1) → post v → W p l e (rmG d 0 0) s m args below meth c s.heap [] 0 0 Q (F0 m pc ls [.int v])) →
      ∀ ls : Array Slot, lh ls (argL As L) → W p l e (rmG d 0 0) s m args below meth c s.heap [] 0 0 Q (F0 m 0 ls [])) : Cp l K y cc L ret d As PW post := by
  subst hret
  refine Met.ofW (cc := cc) (maxL := L) (ret := some .int) hy rfl ?_
  intro p e s m args below meth c s₁ B hml hv
  obtain ⟨rfl, hP, hK⟩ := hv
  have hts := atoms_spec (ws := ws_ y cc L (some .int)) B.pre
  rw [lg_entry_eq]
  exact body p e s m _ below meth c _ ⟨B.exec, B.bytes, hml, findClass_of_methodNamed B.named, fun w h => hts w (List.mem_cons_of_mem _ h)⟩ hK hP (fun ls pc v hdg hp => W.iret B.exec B.bytes B.returns (fun t ht hW => ⟨⟨v, rfl, hp⟩, ht⟩) (fun _ h => by cases h) hdg B.notSynchronized) _ (lh_entry As hL)
theorem Cp.ofz {post : Int32 → Prop} (hret : ret = some .boolean) (hy : plainName y.cls = true) (hL : (lg_sl As).length ≤ L)
    (body : ∀ (p : Program) (e : Env) (s : State) (m : MethodId) (args : Array Value) (below : List Frame) (meth : Method) (c : Code) (Q : State → Prop), CallFix p m c cc L s args lw_all y.cls → K s → PW s.heap →
      (∀ (ls : Array Slot) (pc : Nat) (v : Int32), decode cc pc = .ok (.ireturn, 1) → (v = 0 ∨ v = 1) → post v → W p l e (rmG d 0 0) s m args below meth c s.heap [] 0 0 Q (F0 m pc ls [.int v])) →
      ∀ ls : Array Slot, lh ls (argL As L) → W p l e (rmG d 0 0) s m args below meth c s.heap [] 0 0 Q (F0 m 0 ls [])) : Cp l K y cc L ret d As PW post := by
  subst hret
  refine Met.ofW (cc := cc) (maxL := L) (ret := some .boolean) hy rfl ?_
  intro p e s m args below meth c s₁ B hml hv
  obtain ⟨rfl, hP, hK⟩ := hv
  have hts := atoms_spec (ws := ws_ y cc L (some .boolean)) B.pre
  rw [lg_entry_eq]
  exact body p e s m _ below meth c _ ⟨B.exec, B.bytes, hml, findClass_of_methodNamed B.named, fun w h => hts w (List.mem_cons_of_mem _ h)⟩ hK hP (fun ls pc v hdg hn hp => W.zret B.exec B.bytes B.returns (by rcases hn with h | h <;> rw [h] <;> rfl) (fun t ht hW => ⟨⟨v, rfl, hp⟩, ht⟩) (fun _ h => by cases h) hdg B.notSynchronized) _ (lh_entry As hL)
theorem Ci.of {S : Type} {post : Int32 → S → Prop} {PB : S → Heap → Prop} (hret : ret = some .int) (hy : plainName y.cls = true) (hL : (lg_sl As).length ≤ L)
    (body : ∀ (p : Program) (e : Env) (s : State) (m : MethodId) (args : Array Value) (below : List Frame) (meth : Method) (c : Code) (Q : State → Prop), CallFix p m c cc L s args lw_all y.cls → K s → PW s.heap →
      (∀ (H : Heap) (locs : List Loc) (ls : Array Slot) (pc : Nat) (v : Int32) (u : S), PB u H → va_S A s.heap H locs → decode cc pc = .ok (.ireturn, 1) → post v u → W p l e (rmG d mc ms) s m args below meth c H locs mc ms Q (F0 m pc ls [.int v])) →
      ∀ ls : Array Slot, lh ls (argL As L) → W p l e (rmG d mc ms) s m args below meth c s.heap [] 0 0 Q (F0 m 0 ls [])) : Ci l K y cc L ret d mc ms As PW A post PB := by
  subst hret
  refine Met.ofW (cc := cc) (maxL := L) (ret := some .int) hy rfl ?_
  intro p e s m args below meth c s₁ B hml hv
  obtain ⟨rfl, hP, hK⟩ := hv
  have hts := atoms_spec (ws := ws_ y cc L (some .int)) B.pre
  rw [lg_entry_eq]
  exact body p e s m _ below meth c _ ⟨B.exec, B.bytes, hml, findClass_of_methodNamed B.named, fun w h => hts w (List.mem_cons_of_mem _ h)⟩ hK hP (fun H locs ls pc v u hP hS hdg hp => W.iret B.exec B.bytes B.returns (fun t ht hW => ⟨⟨v, u, rfl, hp, by show PB u t.heap; rw [ht]; exact hP⟩, hS.F ht⟩) hS.2.2 hdg B.notSynchronized) _ (lh_entry As hL)
theorem Ci.ofz {S : Type} {post : Int32 → S → Prop} {PB : S → Heap → Prop} (hret : ret = some .boolean) (hy : plainName y.cls = true) (hL : (lg_sl As).length ≤ L)
    (body : ∀ (p : Program) (e : Env) (s : State) (m : MethodId) (args : Array Value) (below : List Frame) (meth : Method) (c : Code) (Q : State → Prop), CallFix p m c cc L s args lw_all y.cls → K s → PW s.heap →
      (∀ (H : Heap) (locs : List Loc) (ls : Array Slot) (pc : Nat) (v : Int32) (u : S), PB u H → va_S A s.heap H locs → decode cc pc = .ok (.ireturn, 1) → (v = 0 ∨ v = 1) → post v u → W p l e (rmG d mc ms) s m args below meth c H locs mc ms Q (F0 m pc ls [.int v])) →
      ∀ ls : Array Slot, lh ls (argL As L) → W p l e (rmG d mc ms) s m args below meth c s.heap [] 0 0 Q (F0 m 0 ls [])) : Ci l K y cc L ret d mc ms As PW A post PB := by
  subst hret
  refine Met.ofW (cc := cc) (maxL := L) (ret := some .boolean) hy rfl ?_
  intro p e s m args below meth c s₁ B hml hv
  obtain ⟨rfl, hP, hK⟩ := hv
  have hts := atoms_spec (ws := ws_ y cc L (some .boolean)) B.pre
  rw [lg_entry_eq]
  exact body p e s m _ below meth c _ ⟨B.exec, B.bytes, hml, findClass_of_methodNamed B.named, fun w h => hts w (List.mem_cons_of_mem _ h)⟩ hK hP (fun H locs ls pc v u hP hS hdg hn hp => W.zret B.exec B.bytes B.returns (by rcases hn with h | h <;> rw [h] <;> rfl) (fun t ht hW => ⟨⟨v, u, rfl, hp, by show PB u t.heap; rw [ht]; exact hP⟩, hS.F ht⟩) hS.2.2 hdg B.notSynchronized) _ (lh_entry As hL)
theorem Cv.of {S : Type} {post : S → Prop} {PB : S → Heap → Prop} (hy : plainName y.cls = true) (hL : (lg_sl As).length ≤ L)
    (body : ∀ (p : Program) (e : Env) (s : State) (m : MethodId) (args : Array Value) (below : List Frame) (meth : Method) (c : Code) (Q : State → Prop), CallFix p m c cc L s args lw_all y.cls → K s → PW s.heap →
      (∀ (H : Heap) (locs : List Loc) (ls : Array Slot) (pc : Nat) (u : S), PB u H → va_S A s.heap H locs → decode cc pc = .ok (.return_, 1) → post u → W p l e (rmG d mc ms) s m args below meth c H locs mc ms Q (F0 m pc ls [])) →
      ∀ ls : Array Slot, lh ls (argL As L) → W p l e (rmG d mc ms) s m args below meth c s.heap [] 0 0 Q (F0 m 0 ls [])) : Cv l K y cc L d mc ms As PW A post PB := by
  refine Met.ofW (cc := cc) (maxL := L) (ret := none) hy rfl ?_
  intro p e s m args below meth c s₁ B hml hv
  obtain ⟨rfl, hP, hK⟩ := hv
  have hts := atoms_spec (ws := ws_ y cc L none) B.pre
  rw [lg_entry_eq]
  exact body p e s m _ below meth c _ ⟨B.exec, B.bytes, hml, findClass_of_methodNamed B.named, fun w h => hts w (List.mem_cons_of_mem _ h)⟩ hK hP (fun H locs ls pc u hP hS hdg hp => W.vret B.exec B.bytes B.returns (fun t ht hW => ⟨⟨u, rfl, hp, by show PB u t.heap; rw [ht]; exact hP⟩, hS.F ht⟩) hS.2.2 hdg B.notSynchronized) _ (lh_entry As hL)
end CT
section CR
variable {p : Program} {l : Launch} {e : Env} {R : Room} {s : State} {m : MethodId} {args : Array Value} {below : List Frame} {meth : Method} {c : Code} {H : Heap} {locs : List Loc} {cells slots : Nat} {Q : State → Prop}
variable {cc : ByteArray} {pc : Nat} {ls : Array Slot} {rest st : List Value}
theorem cp_run {post : Int32 → Prop} (hr : va_Run p l e R s m args below meth c H locs cells slots 0 0 (F0 m pc ls st) rest (fun st oc t => (∃ r : Int32, oc = .returned (some (.int r)) ∧ post r) ∧ t.heap = st.heap) (fun _ => False))
    (kk : ∀ r : Int32, post r → W p l e R s m args below meth c H locs cells slots Q (F0 m (pc + 3) ls (.int r :: rest))) : W p l e R s m args below meth c H locs cells slots Q (F0 m pc ls st) := by
  intro T hT X
  obtain ⟨v, st₀, t, T', L, h0, X', hL, e1, e2, ⟨⟨r, hv, hp⟩, hh⟩, st⟩ := hr T hT X
  cases hv
  have hL0 : L = [] := List.eq_nil_iff_forall_not_mem.mpr (fun q hq => hL q hq)
  subst hL0
  rw [List.append_nil] at X'
  have eH : T'.heap = H := by rw [e1, hh, h0]
  obtain ⟨t2, a1, b1⟩ := kk r hp T' eH X'
  exact ⟨t2, st t2 a1, b1⟩
variable {K : State → Prop} {y : MethodName} {bytes : ByteArray} {L nL : Nat} {ret : Option FieldType} {d mc ms index : Nat} {As : List Value} {PW : Heap → Prop} {own C : String} {b : Nat} {n : Nat}
theorem cv_blind (hKm : Kmv K) : FrameBlind (va_Pc As (fun U => PW U.heap ∧ K U)) := fun a U g mk q => by
  obtain ⟨q0, qP, qK⟩ := q
  exact ⟨q0, qP, hKm.2 U g mk a qK⟩
theorem cp_V {post : Int32 → Prop} (hC : CallFix p m c cc nL s args lw_all own) (hKm : Kmv K) (hK : K s) (hM : Cp l K y bytes L ret d (.ref b :: As) PW post) (cv : CV own C index y bytes L ret n) (hrc : ∃ cellB : Cell, H[b]? = some cellB ∧ cellB.vm.isStatics = false ∧ s.vm.findClass C = some cellB.cls) (hP : PW H) (hn : As.length = n) (hst : st = As.reverse ++ .ref b :: rest) (hsz : ls.size = nL) (hW : (rest.map fun v => v.category).sum ≤ 8) (hdg : decode cc pc = .ok (.invokevirtual index, 3)) (hR : d + 1 ≤ R.frames ∧ 8 + (L + 11) + 64 * d ≤ R.locals) (hcl : cells ≤ R.cells ∧ slots ≤ R.slots)
    (kk : ∀ r : Int32, post r → W p l e R s m args below meth c H locs cells slots Q (F0 m (pc + 3) ls (.int r :: rest))) : W p l e R s m args below meth c H locs cells slots Q (F0 m pc ls st) :=
  cp_run (va_runV hC hM (cwV n hC.2.2.2.2 cv.1 rfl rfl rfl cv.2 hR) ⟨cv_blind hKm, hrc, fun U hU hW => ⟨rfl, by rw [hU]; exact hP, hKm.1 s U hW hK⟩⟩ rfl hn hsz hst (lv_room hW) hdg hcl) kk
theorem cp_S {post : Int32 → Prop} (hC : CallFix p m c cc nL s args lw_all own) (hKm : Kmv K) (hK : K s) (hM : Cp l K y bytes L ret d As PW post) (cv : CS own index y bytes L ret n) (hP : PW H) (hn : As.length = n) (hst : st = As.reverse ++ rest) (hsz : ls.size = nL) (hW : (rest.map fun v => v.category).sum ≤ 8) (hdg : decode cc pc = .ok (.invokestatic index, 3)) (hR : d + 1 ≤ R.frames ∧ 8 + (L + 11) + 64 * d ≤ R.locals) (hcl : cells ≤ R.cells ∧ slots ≤ R.slots)
    (kk : ∀ r : Int32, post r → W p l e R s m args below meth c H locs cells slots Q (F0 m (pc + 3) ls (.int r :: rest))) : W p l e R s m args below meth c H locs cells slots Q (F0 m pc ls st) :=
  cp_run (va_runS hC hM (va_cwS n hC.2.2.2.2 cv.1 rfl rfl rfl cv.2 hR) ⟨cv_blind hKm, fun U hU hW => ⟨rfl, by rw [hU]; exact hP, hKm.1 s U hW hK⟩⟩ rfl hn hsz hst (lv_room hW) hdg hcl) kk
theorem ci_V {S : Type} {post : Int32 → S → Prop} {PB : S → Heap → Prop} {A0 A1 : Nat → Prop} {H0 : Heap} (hC : CallFix p m c cc nL s args lw_all own) (hKm : Kmv K) (hK : K s) (hM : Ci l K y bytes L ret d mc ms (.ref b :: As) PW A1 post PB) (cv : CV own C index y bytes L ret n) (hrc : ∃ cellB : Cell, H[b]? = some cellB ∧ cellB.vm.isStatics = false ∧ s.vm.findClass C = some cellB.cls) (hP : PW H) (hS : va_S A0 H0 H locs) (hA : ∀ q, A1 q → A0 q) (hn : As.length = n) (hst : st = As.reverse ++ .ref b :: rest) (hsz : ls.size = nL) (hW : (rest.map fun v => v.category).sum ≤ 8) (hdg : decode cc pc = .ok (.invokevirtual index, 3)) (hR : d + 1 ≤ R.frames ∧ 8 + (L + 11) + 64 * d ≤ R.locals) (hcl : cells + mc ≤ R.cells ∧ slots + ms ≤ R.slots)
    (kk : ∀ (r : Int32) (u : S) (H1 : Heap) (locs1 : List Loc), post r u → PB u H1 → va_S A0 H0 H1 locs1 → H.size ≤ H1.size → (∀ q : Nat, q < H.size → ¬ A1 q → H1[q]? = H[q]?) → W p l e R s m args below meth c H1 locs1 (cells + mc) (slots + ms) Q (F0 m (pc + 3) ls (.int r :: rest))) : W p l e R s m args below meth c H locs cells slots Q (F0 m pc ls st) :=
  va_calli (va_runV hC hM (cwV n hC.2.2.2.2 cv.1 rfl rfl rfl cv.2 hR) ⟨cv_blind hKm, hrc, fun U hU hW => ⟨rfl, by rw [hU]; exact hP, hKm.1 s U hW hK⟩⟩ rfl hn hsz hst (lv_room hW) hdg hcl) hS (fun q _ h => hA q h) hA (fun r u t H1 locs1 ht hvm hp hB hz hk hS1 => kk r u H1 locs1 hp (by rw [← ht]; exact hB) hS1 hz hk)
theorem cv_V {S : Type} {post : S → Prop} {PB : S → Heap → Prop} {A0 A1 : Nat → Prop} {H0 : Heap} (hC : CallFix p m c cc nL s args lw_all own) (hKm : Kmv K) (hK : K s) (hM : Cv l K y bytes L d mc ms (.ref b :: As) PW A1 post PB) (cv : CV own C index y bytes L none n) (hrc : ∃ cellB : Cell, H[b]? = some cellB ∧ cellB.vm.isStatics = false ∧ s.vm.findClass C = some cellB.cls) (hP : PW H) (hS : va_S A0 H0 H locs) (hA : ∀ q, A1 q → A0 q) (hn : As.length = n) (hst : st = As.reverse ++ .ref b :: rest) (hsz : ls.size = nL) (hW : (rest.map fun v => v.category).sum ≤ 8) (hdg : decode cc pc = .ok (.invokevirtual index, 3)) (hR : d + 1 ≤ R.frames ∧ 8 + (L + 11) + 64 * d ≤ R.locals) (hcl : cells + mc ≤ R.cells ∧ slots + ms ≤ R.slots)
    (kk : ∀ (u : S) (H1 : Heap) (locs1 : List Loc), post u → PB u H1 → va_S A0 H0 H1 locs1 → H.size ≤ H1.size → (∀ q : Nat, q < H.size → ¬ A1 q → H1[q]? = H[q]?) → W p l e R s m args below meth c H1 locs1 (cells + mc) (slots + ms) Q (F0 m (pc + 3) ls rest)) : W p l e R s m args below meth c H locs cells slots Q (F0 m pc ls st) :=
  va_callv (va_runV hC hM (cwV n hC.2.2.2.2 cv.1 rfl rfl rfl cv.2 hR) ⟨cv_blind hKm, hrc, fun U hU hW => ⟨rfl, by rw [hU]; exact hP, hKm.1 s U hW hK⟩⟩ rfl hn hsz hst (lv_room hW) hdg hcl) hS (fun q _ h => hA q h) hA (fun u t H1 locs1 ht hvm hp hB hz hk hS1 => kk u H1 locs1 hp (by rw [← ht]; exact hB) hS1 hz hk)
theorem cv_S {S : Type} {post : S → Prop} {PB : S → Heap → Prop} {A0 A1 : Nat → Prop} {H0 : Heap} (hC : CallFix p m c cc nL s args lw_all own) (hKm : Kmv K) (hK : K s) (hM : Cv l K y bytes L d mc ms As PW A1 post PB) (cv : CS own index y bytes L none n) (hP : PW H) (hS : va_S A0 H0 H locs) (hA : ∀ q, A1 q → A0 q) (hn : As.length = n) (hst : st = As.reverse ++ rest) (hsz : ls.size = nL) (hW : (rest.map fun v => v.category).sum ≤ 8) (hdg : decode cc pc = .ok (.invokestatic index, 3)) (hR : d + 1 ≤ R.frames ∧ 8 + (L + 11) + 64 * d ≤ R.locals) (hcl : cells + mc ≤ R.cells ∧ slots + ms ≤ R.slots)
    (kk : ∀ (u : S) (H1 : Heap) (locs1 : List Loc), post u → PB u H1 → va_S A0 H0 H1 locs1 → H.size ≤ H1.size → (∀ q : Nat, q < H.size → ¬ A1 q → H1[q]? = H[q]?) → W p l e R s m args below meth c H1 locs1 (cells + mc) (slots + ms) Q (F0 m (pc + 3) ls rest)) : W p l e R s m args below meth c H locs cells slots Q (F0 m pc ls st) :=
  va_callv (va_runS hC hM (va_cwS n hC.2.2.2.2 cv.1 rfl rfl rfl cv.2 hR) ⟨cv_blind hKm, fun U hU hW => ⟨rfl, by rw [hU]; exact hP, hKm.1 s U hW hK⟩⟩ rfl hn hsz hst (lv_room hW) hdg hcl) hS (fun q _ h => hA q h) hA (fun u t H1 locs1 ht hvm hp hB hz hk hS1 => kk u H1 locs1 hp (by rw [← ht]; exact hB) hS1 hz hk)
end CR
