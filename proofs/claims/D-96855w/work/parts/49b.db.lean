/-! contracts of defaults, as those of the class -/
def Dp (l : Launch) (K : State → Prop) (y : MethodName) (cc : ByteArray) (L : Nat) (ret : Option FieldType) (d : Nat) (As : List Value) (PW : Heap → Prop) (post : Int32 → Prop) : Prop :=
  MD l y (ws_ y cc L ret) L (rmG d 0 0) (va_Pc As (fun U => PW U.heap ∧ K U)) (fun _ st oc t => (∃ r : Int32, oc = .returned (some (.int r)) ∧ post r) ∧ t.heap = st.heap) 0 0 (fun _ => False)
def Di (l : Launch) (K : State → Prop) (y : MethodName) (cc : ByteArray) (L : Nat) (ret : Option FieldType) (d mc ms : Nat) (As : List Value) (PW : Heap → Prop) (A : Nat → Prop) {S : Type} (post : Int32 → S → Prop) (PB : S → Heap → Prop) : Prop :=
  MD l y (ws_ y cc L ret) L (rmG d mc ms) (va_Pc As (fun U => PW U.heap ∧ K U)) (va_Qi post (fun u t => PB u t.heap) A) mc ms A
section CTD
variable {l : Launch} {K : State → Prop} {y : MethodName} {cc : ByteArray} {L : Nat} {ret : Option FieldType} {d mc ms : Nat} {As : List Value} {PW : Heap → Prop} {A : Nat → Prop}
theorem Dp.of {post : Int32 → Prop} (hret : ret = some .int) (hy : plainName y.cls = true) (hL : (lg_sl As).length ≤ L)
    (body : ∀ (p : Program) (e : Env) (s : State) (m : MethodId) (args : Array Value) (below : List Frame) (meth : Method) (c : Code) (Q : State → Prop), CallFix p m c cc L s args lw_all y.cls → K s → PW s.heap →
      (∀ (ls : Array Slot) (pc : Nat) (v : Int32), decode cc pc = .ok (.ireturn, 1) → post v → W p l e (rmG d 0 0) s m args below meth c s.heap [] 0 0 Q (F0 m pc ls [.int v])) →
      ∀ ls : Array Slot, lh ls (argL As L) → W p l e (rmG d 0 0) s m args below meth c s.heap [] 0 0 Q (F0 m 0 ls [])) : Dp l K y cc L ret d As PW post := by
  subst hret
  refine MD.ofW (cc := cc) (maxL := L) (ret := some .int) hy rfl ?_
  intro p e s m args below meth c hx hb hml hn hr hlk hws hv
  obtain ⟨rfl, hP, hK⟩ := hv
  rw [lg_entry_eq]
  exact body p e s m _ below meth c _ ⟨hx, hb, hml, findClass_of_methodNamed hn, fun w h => hws w (List.mem_cons_of_mem _ h)⟩ hK hP (fun ls pc v hdg hp => W.iret hx hb hr (fun t ht hW => ⟨⟨v, rfl, hp⟩, ht⟩) (fun _ h => by cases h) hdg hlk) _ (lh_entry As hL)
theorem Di.of {S : Type} {post : Int32 → S → Prop} {PB : S → Heap → Prop} (hret : ret = some .int) (hy : plainName y.cls = true) (hL : (lg_sl As).length ≤ L)
    (body : ∀ (p : Program) (e : Env) (s : State) (m : MethodId) (args : Array Value) (below : List Frame) (meth : Method) (c : Code) (Q : State → Prop), CallFix p m c cc L s args lw_all y.cls → K s → PW s.heap →
      (∀ (H : Heap) (locs : List Loc) (ls : Array Slot) (pc : Nat) (v : Int32) (u : S), PB u H → va_S A s.heap H locs → decode cc pc = .ok (.ireturn, 1) → post v u → W p l e (rmG d mc ms) s m args below meth c H locs mc ms Q (F0 m pc ls [.int v])) →
      ∀ ls : Array Slot, lh ls (argL As L) → W p l e (rmG d mc ms) s m args below meth c s.heap [] 0 0 Q (F0 m 0 ls [])) : Di l K y cc L ret d mc ms As PW A post PB := by
  subst hret
  refine MD.ofW (cc := cc) (maxL := L) (ret := some .int) hy rfl ?_
  intro p e s m args below meth c hx hb hml hn hr hlk hws hv
  obtain ⟨rfl, hP, hK⟩ := hv
  rw [lg_entry_eq]
  exact body p e s m _ below meth c _ ⟨hx, hb, hml, findClass_of_methodNamed hn, fun w h => hws w (List.mem_cons_of_mem _ h)⟩ hK hP (fun H locs ls pc v u hP hS hdg hp => W.iret hx hb hr (fun t ht hW => ⟨⟨v, u, rfl, hp, by show PB u t.heap; rw [ht]; exact hP⟩, hS.F ht⟩) hS.2.2 hdg hlk) _ (lh_entry As hL)
end CTD
abbrev XPd (l : Launch) (D : va_G) (cA : Nat → ClassId) (ad : Nat → Nat) (n : Nat) (f0 : Nat → va_E) (ρ : Nat → Nat → Option Nat) (r : Nat × Nat) (U : Nat → Nat → Nat → Int32) (y : MethodName) (cc : ByteArray) (L : Nat) (ret : Option FieldType) (d : Nat) (As : List Value) (post : Int32 → Prop) : Prop := Dp l (KC D cA) y cc L ret d As (XW D cA ad n f0 ρ r U) post
abbrev XId (l : Launch) (D : va_G) (cA : Nat → ClassId) (ad : Nat → Nat) (n : Nat) (f0 : Nat → va_E) (ρ : Nat → Nat → Option Nat) (r : Nat × Nat) (U : Nat → Nat → Nat → Int32) (A : Nat → Prop) (y : MethodName) (cc : ByteArray) (L : Nat) (ret : Option FieldType) (d : Nat) (As : List Value) (post : Int32 → (Nat → Nat → Nat → Int32) → Prop) : Prop := Di l (KC D cA) y cc L ret d 0 0 As (XW D cA ad n f0 ρ r U) A post (XW D cA ad n f0 ρ r)
