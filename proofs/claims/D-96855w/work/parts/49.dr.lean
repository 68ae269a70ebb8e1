/-! rows: calls that land in an interface's default -/
theorem sv_def {Q : Selection → Pre} {E : CtlPost} {e : Env} {d : Bool} {acts : List Action} {s : State} {c : ClassId} {r m : MethodId} {rm meth : Method} (hsel : selectMethod e.platform s.vm c r = .method m) (hrm : s.vm.method? r = some rm) (hm : s.vm.method? m = some meth) {mk : Class} (hmk : s.vm.classes[m.cls]? = some mk) (hitf : mk.isInterface = true) (h1 : ∀ k d, nearestHeld s.vm c rm.name rm.desc = some (k, .default d) → d = m) (h2 : ∀ k b, nearestHeld s.vm c rm.name rm.desc ≠ some (k, .thrower b)) : wp (invokeinterface.selectVirtual c r) Q E e d acts s ↔ Q (.method m) d acts s := by
  cases hn : nearestHeld s.vm c rm.name rm.desc with
  | none => cases hp : e.platform.privateHidesDefault <;> simp [invokeinterface.selectVirtual, hrm, selectFor_method hsel hm, hmk, hitf, hp, hn]
  | some kh =>
    obtain ⟨k, hd⟩ := kh
    cases hd with
    | thrower b => exact absurd hn (h2 k b)
    | nothing => cases hp : e.platform.privateHidesDefault <;> simp [invokeinterface.selectVirtual, hrm, selectFor_method hsel hm, hmk, hitf, hp, hn]
    | default d' =>
      have := h1 k d' hn
      subst this
      cases hp : e.platform.privateHidesDefault <;> simp [invokeinterface.selectVirtual, hrm, selectFor_method hsel hm, hmk, hitf, hp, hn]
theorem iv_def {Q : Unit → Pre} {E : CtlPost} {e : Env} {d : Bool} {acts : List Action} {s : State} {f : JFrame} {index a : Nat} {r m : MethodId} {c' : ClassId} {k k' : Class} {rm meth : Method} {args rest : List Value} {cell : Cell}
    (hs : s.topJava?.isSome) (hnamed : namesResolved s.vm f.method.cls index c') (hk' : s.vm.classes[c']? = some k') (hcls : k'.isInterface = false) (hr : s.vm.methodReady f.method.cls index r) (hk : s.vm.classes[r.cls]? = some k) (hrm : s.vm.method? r = some rm) (hpoly : signaturePolymorphic k rm = false) (hstatic : rm.isStatic = false)
    (hlen : args.length = rm.sig.parameters.length) (hstack : f.stack = args.reverse ++ .ref a :: rest) (hcell : s.heap[a]? = some cell) (hobj : ∀ c, cell.vm ≠ .statics c) (hm : s.vm.method? m = some meth) (habs : meth.isAbstract = false)
    (hsv : ∀ (Q : Selection → Pre) (f' : JFrame) (d : Bool) (acts : List Action), wp (invokeinterface.selectVirtual cell.cls r) Q E e d acts (s.setTop f') ↔ Q (.method m) d acts (s.setTop f')) :
    wp (invokevirtual.sem index) Q E e d acts (s.setTop f) ↔ E (.invoke m (.ref a :: args).toArray) acts (s.setTop { f with stack := rest }) := by
  obtain ⟨kc, cf, ci, n, h1, h2, h3, h4⟩ := hnamed
  have hpre : ∀ {Q' : ClassId → Pre}, wp (Jvm.refClassAt index) Q' E e d acts (s.setTop f) ↔ Q' c' d acts (s.setTop f) := by
    intro Q'
    rcases h3 with h3 | h3 <;> simp [Jvm.refClassAt, Jvm.constantAt, State.method?_setTop f hs, h1, h2, h3, W.resolveClassAt_ready (State.method?_setTop f hs) h4]
  simp only [invokevirtual.sem, wp_bind', hpre, W.theClass, State.vm_setTop, hk', Option.some.injEq, exists_eq_left', W.ite, hcls, Bool.false_eq_true, if_false, wp_pure', W.resolveMethodAt_ready (State.method?_setTop f hs) hr]
  simp only [W.theMethod, State.vm_setTop, hrm, Option.some.injEq, exists_eq_left', Seam.isPolymorphic, wp_bind', W.theClass, hk, wp_pure', hpoly, W.ite, Bool.false_eq_true, if_false, hstatic, Jvm.popArgs, ← hlen, popN_top hs hstack]
  simp [hs, hcell, hobj, hsv, hm, habs]
section DRW
variable {p : Program} {l : Launch} {e : Env} {R : Room} {s : State} {m : MethodId} {args : Array Value} {below : List Frame} {meth : Method} {c : Code} {T : State} {locs : List Loc} {cells slots : Nat}
/-- super.m(..), m a default -/
theorem st_SD (X : Stand p l e R s m args below meth c T locs cells slots) (hexec : p.tables.exec = Jvm.exec) {own : String} {index : Nat} {x y : MethodName} (hown : s.vm.findClass own = some m.cls) (hlink : (Cond.methodLink own index x).before args s = true) (hsame : (Cond.sameMethod x.cls y.cls x.name x.desc).before args s = true) (hyx : y = ⟨y.cls, x.name, x.desc⟩) (hsup : (Cond.superclass own x.cls).before args s = true) (hinst : (Cond.instanceMethod y).before args s = true) (hld : (Cond.landsInDefault x.cls x y).before args s = true) (hno : x.name ≠ "<init>")
    {a : Addr} {cell : Cell} {kcell : Class} (hcell : T.heap[a]? = some cell) (hobj : ∀ c, cell.vm ≠ .statics c) (hkcell : s.vm.classes[cell.cls]? = some kcell) {g : JFrame} (hg : g.method = m) {argsL rest : List Value} (hlen : ∀ (mk : MethodId) (r : Method), s.methodNamed? y = some mk → s.vm.method? mk = some r → argsL.length = r.sig.parameters.length) (hstack : g.stack = argsL.reverse ++ .ref a :: rest) (hdg : decode c.code g.pc = .ok (.invokespecial index, 3)) :
    ∃ vm' mk, s.methodNamed? y = some mk ∧ Stand p l e R s m args below meth c (T.setVm vm') locs cells slots ∧ ∀ target, Steps p.tables e below (doInvoke e ((T.setVm vm').setTop { g with stack := rest }) [] mk (.ref a :: argsL).toArray).1 target → Steps p.tables e below (T.setTop g) target := by
  have hpl : e.platform.magicAccessors = ({} : Platform).magicAccessors := by rw [X.admits.platform]
  obtain ⟨mk, methM, hnamed, hmM, hstM, habM⟩ := Cond.instanceMethod_spec hinst
  obtain ⟨cn, ck, r1, hcn, hck, hni, hf, hn1⟩ := Cond.sameMethod_found hsame
  have e1 : r1 = mk := Option.some.inj (hn1.symm.trans (by rw [← hyx]; exact hnamed))
  subst e1
  obtain ⟨c0, r0, m0, rm, km, q1, q2, q3, q4, q5, q6, q7, q8, -, -, -⟩ := ld_spec hld
  have e2 : c0 = cn := Option.some.inj (q1.symm.trans hcn)
  have e3 : r0 = r1 := Option.some.inj (q2.symm.trans hf)
  have e4 : m0 = r1 := Option.some.inj (q3.symm.trans hnamed)
  subst e2; subst e3; subst e4
  have e5 : rm = methM := Option.some.inj (q4.symm.trans hmM)
  subst e5
  obtain ⟨ps, dk, kp, hps, hdk, hkp, hsuper, -, -, hnid⟩ := Cond.superclass_spec hown hsup
  have e6 : ps = c0 := Option.some.inj (hps.symm.trans hcn)
  subst e6
  obtain ⟨ci, hl, hright⟩ := Cond.methodLink_specUp hown hcn hck hni hf hlink e.platform hpl (by rw [X.admits.platform])
  obtain ⟨kr, hkr, -⟩ := className_of_methodNamed hn1
  obtain ⟨hrn, hrd⟩ := name_of_methodNamed hn1 hmM
  have e7 : kr = km := Option.some.inj (hkr.symm.trans q6)
  subst e7
  obtain ⟨dk₀, cfile, nt, _, _, ck₀, _, _, hd₀, hcf, hcp, -, -, -, hc₀, -, hpoly, -⟩ := hl.here
  cases hdk.symm.trans hd₀
  cases hck.symm.trans hc₀
  have hdecl : kr.findMethod x.name x.desc = some m0.idx := by
    have h' := hn1
    simp only [State.methodNamed?, findClass_of_methodNamed hn1, hkr, Option.bind_eq_bind, Option.bind_some, Option.bind_eq_some_iff, Option.pure_def, Option.some.injEq] at h'
    obtain ⟨i, hi, hmi⟩ := h'
    rw [← hmi]
    exact hi
  have hup : s.vm.lookupUp ps x.name x.desc = some m0 := ((State.methodFound?_class hcn hck hni hpoly m0).mp hf).1
  have hfound : lookupSpecial s.vm ps x.name x.desc = .method m0 := ls_default hck hni hup hkr q7 hdecl hmM hstM q8 hrn hrd q5
  subst hg
  obtain ⟨vm', hW', st⟩ := Steps.invokeSuperColdArgs (tb := p.tables) (e := e) (s₀ := s) (U := T) (f := g) (args := argsL) (rest := rest) (a := a) (cell := cell) (m := m0) X.here hexec hdg X.warmed hl hright hdk hcf hcp hmM hck (by rw [hrn]; simp [hno]) hstM (by rw [hrn, hrd, hsuper]; simpa using hfound) hnid hkr habM (hlen m0 _ hnamed hmM) hstack hcell hobj hkcell
  exact ⟨vm', m0, hnamed, X.noted hW', st⟩
/-- this.m(..), m a default that no class above overrides -/
theorem st_VD (X : Stand p l e R s m args below meth c T locs cells slots) (hexec : p.tables.exec = Jvm.exec) {own C : String} {index : Nat} {x y : MethodName} (hown : s.vm.findClass own = some m.cls) (hlink : (Cond.methodLink own index x).before args s = true) (hsame : (Cond.sameMethod x.cls y.cls x.name x.desc).before args s = true) (hyx : y = ⟨y.cls, x.name, x.desc⟩) (how : y.cls ≠ "java/lang/invoke/MethodHandle" ∧ y.cls ≠ "java/lang/invoke/VarHandle") (hinst : (Cond.instanceMethod y).before args s = true) (hld : (Cond.landsInDefault C x y).before args s = true)
    {a : Addr} {cell : Cell} (hcell : T.heap[a]? = some cell) (hobj : ∀ c, cell.vm ≠ .statics c) (hcls : s.vm.findClass C = some cell.cls) {g : JFrame} (hg : g.method = m) {argsL rest : List Value} (hlen : ∀ (mk : MethodId) (r : Method), s.methodNamed? y = some mk → s.vm.method? mk = some r → argsL.length = r.sig.parameters.length) (hstack : g.stack = argsL.reverse ++ .ref a :: rest) (hdg : decode c.code g.pc = .ok (.invokevirtual index, 3)) :
    ∃ vm' mk, s.methodNamed? y = some mk ∧ Stand p l e R s m args below meth c (T.setVm vm') locs cells slots ∧ ∀ target, (∀ acts, Steps p.tables e below (doInvoke e ((T.setVm vm').setTop { g with stack := rest }) acts mk (.ref a :: argsL).toArray).1 target) → Steps p.tables e below (T.setTop g) target := by
  have hpl : e.platform.magicAccessors = ({} : Platform).magicAccessors := by rw [X.admits.platform]
  obtain ⟨mk, methM, hnamed, hmM, hstM, habM⟩ := Cond.instanceMethod_spec hinst
  obtain ⟨cn, ck, r1, hcn, hck, hni, hf, hn1⟩ := Cond.sameMethod_found hsame
  have e1 : r1 = mk := Option.some.inj (hn1.symm.trans (by rw [← hyx]; exact hnamed))
  subst e1
  obtain ⟨c0, r0, m0, rm, km, q1, q2, q3, q4, q5, q6, q7, -, -, q9, q10⟩ := ld_spec hld
  have e3 : r0 = r1 := Option.some.inj (q2.symm.trans hf)
  have e4 : m0 = r1 := Option.some.inj (q3.symm.trans hnamed)
  subst e3; subst e4
  have e5 : rm = methM := Option.some.inj (q4.symm.trans hmM)
  subst e5
  have e6 : c0 = cell.cls := Option.some.inj (q1.symm.trans hcls)
  subst e6
  obtain ⟨ci, hl, hright⟩ := Cond.methodLink_specUp hown hcn hck hni hf hlink e.platform hpl (by rw [X.admits.platform])
  have hE : s.MethodEntryUp e T.vm m.cls index cn m0 ci := State.methodEntryUp X.warmed hl hright
  obtain ⟨kr, hkr, hnr⟩ := className_of_methodNamed hn1
  obtain ⟨dk, cfile, nt, _, _, _, _, _, hd, hcf, hcp, -⟩ := hl.here
  have al := hE.warmed.alike
  obtain ⟨dk₂, hdk₂, hres⟩ := hE.classReady
  obtain ⟨dk₃, hdk₃, hed⟩ := al.2.2 _ _ hd
  cases hdk₂.symm.trans hdk₃
  obtain ⟨kr₂, hkr₂, her⟩ := al.2.2 _ _ hkr
  obtain ⟨ck₂, hck₂, hec⟩ := al.2.2 _ _ hck
  obtain ⟨mk₂, hmk₂, hem⟩ := al.2.2 _ _ q6
  refine ⟨T.vm.calledUp m.cls ci index cn m0, m0, hnamed, X.noted hE.warmed, fun target hrest => ?_⟩
  subst hg
  have hsel : selectMethod e.platform s.vm cell.cls m0 = .method m0 := by rw [Launch.admits_selectMethod X.admits]; exact q5
  have hrm2 : (T.vm.calledUp g.method.cls ci index cn m0).method? m0 = some rm := by rw [al.method?]; exact hmM
  jvm_step X.here [hexec, hdg, invokevirtual.wp_coldUp (e := e) (s := T) (s₀ := s) (f := g) X.here.top X.warmed hE hd hcf (Or.inl hcp) hck hni,
    iv_def (e := e) (s := T.setVm (T.vm.calledUp g.method.cls ci index cn m0)) (f := g) (r := m0) (m := m0) (c' := cn) (k := kr₂) (k' := ck₂) (rm := rm) (meth := rm) (a := a) (args := argsL) (rest := rest) (cell := cell)
      X.here.top ⟨dk₂, cfile, ci, nt, hdk₂, by rw [hed]; exact hcf, Or.inl hcp, dk₂, hdk₂, hres⟩ hck₂ (by rw [hec]; exact hni) hE.ready hkr₂ hrm2
      (by rw [her]; show signaturePolymorphic kr rm = false; simp [signaturePolymorphic, hnr, how.1, how.2]) hstM (hlen m0 _ hnamed hmM) hstack hcell hobj hrm2 habM
      (fun Q f' d acts => sv_def (s := (T.setVm (T.vm.calledUp g.method.cls ci index cn m0)).setTop f') (rm := rm) (meth := rm) (by show selectMethod e.platform (T.vm.calledUp g.method.cls ci index cn m0) cell.cls m0 = .method m0; rw [al.selectMethod]; exact hsel) hrm2 hrm2 hmk₂ (by rw [hem]; exact q7) (fun k d h9 => q9 k d (by rw [← al_near al]; exact h9)) (fun k b h9 => q10 k b (by rw [← al_near al]; exact h9)))]
  exact hrest
/-- i.m(..), m a default -/
theorem st_FD (X : Stand p l e R s m args below meth c T locs cells slots) (hexec : p.tables.exec = Jvm.exec) {own C : String} {index count : Nat} {x : MethodName} (hown : s.vm.findClass own = some m.cls) (hlink : (Cond.methodLink own index x).before args s = true) (hdecl : (Cond.declares x).before args s = true) (hface : (Cond.interfaceMethod x.cls x.cls x.name x.desc).before args s = true) (hinst : (Cond.instanceMethod x).before args s = true) (hpub : (Cond.publicMethod x).before args s = true) (hcast : (Cond.castable C x.cls).before args s = true) (hx : x.cls ≠ "java/lang/invoke/MethodHandle" ∧ x.cls ≠ "java/lang/invoke/VarHandle") (hld : (Cond.landsInDefault C x x).before args s = true)
    {a : Addr} {cell : Cell} {kB : Class} (hcell : T.heap[a]? = some cell) (hobj : cell.vm.isStatics = false) (hcls : s.vm.findClass C = some cell.cls) (hkB : s.vm.classes[cell.cls]? = some kB) {g : JFrame} (hg : g.method = m) {argsL rest : List Value} (hlen : ∀ (mk : MethodId) (r : Method), s.methodNamed? x = some mk → s.vm.method? mk = some r → argsL.length = r.sig.parameters.length) (hstack : g.stack = argsL.reverse ++ .ref a :: rest) (hdg : decode c.code g.pc = .ok (.invokeinterface index count, 5)) :
    ∃ vm' mk, s.methodNamed? x = some mk ∧ Stand p l e R s m args below meth c (T.setVm vm') locs cells slots ∧ ∀ target, (∀ acts, Steps p.tables e below (doInvoke e ((T.setVm vm').setTop { g with stack := rest }) acts mk (.ref a :: argsL).toArray).1 target) → Steps p.tables e below (T.setTop g) target := by
  obtain ⟨mk, methM, hnamed, hmM, hstM, habM⟩ := Cond.instanceMethod_spec hinst
  obtain ⟨cL, kL, r1, hcL, hkL, hiL, hfL, hn1⟩ := Cond.interfaceMethod_spec hface
  have e1 : r1 = mk := Option.some.inj (hn1.symm.trans hnamed)
  subst e1
  have hr0 : r1.cls = cL := Option.some.inj ((findClass_of_methodNamed hnamed).symm.trans hcL)
  obtain ⟨c0, r0, m0, rm, km, q1, q2, q3, q4, q5, q6, q7, -, q8, -, -⟩ := ld_spec hld
  have e3 : r0 = r1 := Option.some.inj (q2.symm.trans hfL)
  have e4 : m0 = r1 := Option.some.inj (q3.symm.trans hnamed)
  subst e3; subst e4
  have e5 : rm = methM := Option.some.inj (q4.symm.trans hmM)
  subst e5
  have e6 : c0 = cell.cls := Option.some.inj (q1.symm.trans hcls)
  subst e6
  have hsel : selectMethod e.platform s.vm cell.cls m0 = .method m0 := by rw [Launch.admits_selectMethod X.admits]; exact q5
  have hpf : hasFlag rm.accessFlags Acc.public_ = true := Cond.publicMethod_spec hnamed hmM hpub
  obtain ⟨c3, t3, w1, w2, w3⟩ := Cond.castable_spec hcast
  cases hcls.symm.trans w1
  cases hcL.symm.trans w2
  obtain ⟨vm₁, X₁, st⟩ := X.invokeinterface hexec hown hlink hnamed hmM hstM (by rw [hr0]; exact hkL) hiL hx (a := a) (cell := cell) (kcell := kB) hcell (fun z h => by rw [h] at hobj; cases hobj) hkB (by rw [hr0]; exact w3) hsel hmM q8 hpf habM (g := g) hg (argsL := argsL) (rest := rest) (hlen m0 _ hnamed hmM) hstack hdg
  exact ⟨vm₁, m0, hnamed, X₁, st⟩
end DRW
