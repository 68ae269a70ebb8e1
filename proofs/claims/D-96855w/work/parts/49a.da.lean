/-! contracts of a method whose class need not be initialised (an interface's default) -/
def MD (l : Launch) (y : MethodName) (ws : List Cond) (maxL : Nat) (rm : Room) (Pc : Array Value → State → Prop) (Qc : Array Value → State → Outcome → State → Prop) (mc ms : Nat) (free : Addr → Prop) : Prop :=
  ∀ (p : Program) (e : Env), l.admits e → FairCas e.choices → FairClock e.choices → ∀ (s : State) (m : MethodId) (args : Array Value) (below : List Frame), s.frames = .invoking m args :: below → s.status = .running → s.curStatus? = some .runnable → s.alone = true → s.methodNamed? y = some m → s.hears m below = true → s.hasRoom e.platform rm = true → (∀ w ∈ ws, w.before args s = true) → Pc args s →
    ∃ t, Steps p.tables e below ((s.setFrames (.java (entryFrame m args maxL) :: below)).setTop (entryFrame m args maxL)) t ∧ MQ below Qc args s mc ms free t
theorem MD.ofW {l : Launch} {y : MethodName} {ws ws' : List Cond} {rm : Room} {Pc : Array Value → State → Prop} {Qc : Array Value → State → Outcome → State → Prop} {mc ms : Nat} {free : Addr → Prop} {cc : ByteArray} {maxL : Nat} {ret : Option FieldType} (hy : plainName y.cls = true) (hw : ws = Cond.code y cc maxL ret :: ws')
    (body : ∀ (p : Program) (e : Env) (s : State) (m : MethodId) (args : Array Value) (below : List Frame) (meth : Method) (c : Code), p.tables.exec = Jvm.exec → c.code = cc → c.maxLocals = maxL → s.methodNamed? y = some m → meth.sig.returnType = ret → meth.locks = false → (∀ w ∈ ws, w.before args s = true) → Pc args s →
      W p l e rm s m args below meth c s.heap [] 0 0 (MQ below Qc args s mc ms free) (entryFrame m args maxL)) : MD l y ws maxL rm Pc Qc mc ms free := by
  intro p e ha hc hk s m args below hf hrun hable halone hname hhears hroom hws hP
  obtain ⟨meth, c, hmeth, hcode, hbytes, hlocals, hret, hlocks, -, -⟩ := Cond.code_spec hname (hws _ (by rw [hw]; exact List.mem_cons_self))
  have hcur := State.cur_lt_of_frames hf
  have hf1 : (s.setFrames (.java (entryFrame m args maxL) :: below)).frames = .java (entryFrame m args maxL) :: below := State.frames_setFrames _ hcur
  have ht1 := State.topJava?_of_frames hf1
  have hplain : (s.setFrames (.java (entryFrame m args maxL) :: below)).plainMethod m := State.plainMethod.of_named (s := s) (plainFor_of_name hy) hname hmeth
  have hAt : At (s.setFrames (.java (entryFrame m args maxL) :: below)) m c below :=
    ⟨by rw [ht1]; rfl, ⟨[], by rw [hf1]; rfl⟩, hrun, by simpa using hable, by simpa using halone, by rw [State.code?_eq]; simp [State.setFrames, hmeth, hcode], hplain⟩
  obtain ⟨th, hth, -⟩ := State.frames_cons hf
  have X : Stand p l e rm s m args below meth c (s.setFrames (.java (entryFrame m args maxL) :: below)) [] 0 0 :=
    ⟨ha, hc, hk, hf, hroom, hhears, hmeth, hcode, hAt, by rw [hf1]; rfl, State.WarmedH.refl s, by rw [State.stackLimits_setFrames], by rw [State.stackBytes_setFrames], (State.sameButNew.refl s hth).setFrames _ hcur⟩
  exact body p e s m args below meth c (by cases p <;> rfl) hbytes hlocals hname hret hlocks hws hP _ rfl X
section MDB
variable {l : Launch} {R : Room} {p : Program} {e : Env} {below : List Frame} {s : State} {sargs : Array Value} {y : MethodName} {len : Nat}
/-- such a method comes back -/
theorem MD.back {ws : List Cond} {d mc ms maxL : Nat} {Pc : Array Value → State → Prop} {Qc : Array Value → State → Outcome → State → Prop} {free : Addr → Prop} {bytes : ByteArray} {ret : Option FieldType}
    (hM : MD l y ws maxL (rmG d mc ms) Pc Qc mc ms free) (hbl : FrameBlind Pc) (hR : d + 1 ≤ R.frames ∧ 8 + (maxL + 11) + 64 * d ≤ R.locals) (hws : ∀ w ∈ ws, ∀ (a' : Array Value) (U : State), s.WarmedH U.vm → w.before a' U = true) (hcode : Cond.code y bytes maxL ret ∈ ws) :
    Back l R p e below s sargs y len 8 (PreOf R mc ms Pc) (PostOf Qc mc ms free) := by
  intro m meth c A g ig mk a X hg hsize hdg hW hn hp
  obtain ⟨U, Ls, c0, s0⟩ := A
  dsimp only [Pt.U, Pt.locs, Pt.cells, Pt.slots] at X hn ⊢
  obtain ⟨methY, cY, hmY, hcY, -, hlY, -, hlkY, -, -⟩ := Cond.code_spec hn (hws _ hcode #[] U X.warmed)
  have h : At U g.method c below := by rw [hg]; exact X.here
  obtain ⟨g₀, hg0⟩ := Option.isSome_iff_exists.mp h.top
  obtain ⟨rr, hr⟩ := State.topJava?_eq_some.mp hg0
  have hfc : (U.calling g mk a).frames = .invoking mk a :: .java g :: U.frames.tail := State.frames_calling h.top g mk a
  have hroom := X.room_calling (g := g) (R' := rmG d mc ms) (args' := a) hsize hmY hcY hR.1 (by rw [hlY]; show _ + 64 * d ≤ _; omega) hp.1 hp.2.1
  have hcodeC : (U.calling g mk a).code? g.method = some c := by
    have h9 := h.code
    rw [State.code?_eq] at h9 ⊢
    simpa [State.calling, State.pushFrame, State.setFrames] using h9
  have hfr9 : (U.setTop g).frames = .java g :: U.frames.tail := State.frames_setTop' g h.top
  obtain ⟨t, hst, o, hrun, hend, hq, L, hfe, hL⟩ := hM p e X.admits X.cas X.clock (U.calling g mk a) mk a (.java g :: U.frames.tail) hfc h.running (by simpa [State.calling] using h.runnable) (by simpa [State.calling] using h.alone) hn (by simp [State.hears, hcodeC, hdg, Except.toOption]) hroom (fun w hw => by
    have := hws w hw a U X.warmed
    rw [State.calling_eq h.top, Cond.before_setFrames]
    exact this) (hbl _ _ _ _ hp.2.2)
  have hent : (doInvoke e (U.setTop g) [] mk a).1 = ((U.calling g mk a).setFrames (.java (entryFrame mk a maxL) :: .java g :: U.frames.tail)).setTop (entryFrame mk a maxL) := by
    have hm2 : (U.setTop g).vm.method? mk = some methY := hmY
    have e1 := (doInvoke_java (s := U.setTop g) (acts := []) (args := a) (e := e) hm2 hcY hlkY (X.notFull hsize (by have := hR.1; omega) (by rw [hlY]; omega))).1
    rw [e1, hlY]
    have hcur : (U.calling g mk a).cur < (U.calling g mk a).threads.size := State.cur_lt_of_frames hfc
    have hf1 : ((U.calling g mk a).setFrames (.java (entryFrame mk a maxL) :: .java g :: U.frames.tail)).frames = .java (entryFrame mk a maxL) :: .java g :: U.frames.tail := State.frames_setFrames _ hcur
    rw [State.setTop_self (State.topJava?_of_frames hf1), State.calling_eq h.top, State.setFrames_setFrames, State.pushFrame, hfr9, State.setTop_of_frames _ hr, State.setFrames_setFrames]
    rfl
  obtain ⟨mid, hmid⟩ := h.above
  have hst2 : Steps p.tables e below (doInvoke e (U.setTop g) [] mk a).1 t := by
    rw [hent]
    obtain ⟨n, h1, h2⟩ := hst
    have key : ∀ S0 : State, Within S0 (.java g :: U.frames.tail) → Within S0 below := fun S0 h3 => by
      rw [show (.java g :: U.frames.tail : List Frame) = (.java g :: mid) ++ below by rw [hmid]; rfl] at h3
      exact h3.weaken
    exact ⟨n, h1, fun k hk => key _ (h2 k hk)⟩
  obtain ⟨⟨v, rfl⟩, hW2, q1, q2, q3, q4, q5, q6⟩ := id hfe
  have e3 : t = ({ (U.calling g mk a).setFrames t.frames with heap := t.heap, slotsUsed := t.slotsUsed } : State).setVm t.vm := by
    have : t = ({ t with vm := (U.calling g mk a).vm } : State).setVm t.vm := rfl
    rw [q1] at this
    exact this
  obtain ⟨c₂, i₂, len₂, hc₂, hd₂, hf₂⟩ := hend
  have hW' : U.WarmedH t.vm := hW2
  have hcc : c₂ = c := by
    have h1 : t.code? g.method = U.code? g.method := by
      rw [State.code?_eq, State.code?_eq, hW'.alike.method?]
    exact Option.some.inj (hc₂.symm.trans (h1.trans h.code))
  subst hcc
  have hlen : len₂ = len := by
    rw [hdg] at hd₂
    cases hd₂
    rfl
  subst hlen
  have hs₂ : t = (({ U with heap := t.heap, slotsUsed := t.slotsUsed } : State).setVm t.vm).setTop { g with pc := g.pc + len₂, stack := v.toList ++ g.stack } := by
    have hr' : (({ U with heap := t.heap, slotsUsed := t.slotsUsed } : State).setVm t.vm).frames = .java g₀ :: rr := hr
    refine e3.trans ?_
    rw [hf₂, State.calling_eq h.top, State.setFrames_setFrames, State.setTop_of_frames _ hr', hr]
    rfl
  have hsame : U.sameButNew ({ U with heap := t.heap, slotsUsed := t.slotsUsed } : State) L mc ms := by
    refine ⟨?_, q2, q3, q4, q5, q6⟩
    obtain ⟨th, hth, -⟩ := State.frames_cons hr
    show ({ U with heap := t.heap, slotsUsed := t.slotsUsed } : State) = { U.setFrames U.frames with heap := t.heap, slotsUsed := t.slotsUsed }
    rw [State.setFrames_self hth]
  subst hg
  refine ⟨v, ⟨(({ U with heap := t.heap, slotsUsed := t.slotsUsed } : State).setVm t.vm), Ls ++ L, c0 + mc, s0 + ms⟩,
    ⟨X.admits, X.cas, X.clock, X.frames, X.room, X.hears, X.method, X.code, (X.here.setHeapUsed t.heap t.slotsUsed).setVm hW'.alike, X.tail, State.WarmedH.trans X.warmed hW', X.limits, X.bytes, X.same.trans (hsame.setVm s.vm)⟩,
    ⟨g, mk, t, L, rfl, rfl, hq, rfl, hL, rfl, rfl⟩, ?_⟩
  show Steps p.tables e below _ ((({ U with heap := t.heap, slotsUsed := t.slotsUsed } : State).setVm t.vm).setTop { g with pc := g.pc + len₂, stack := v.toList ++ g.stack })
  rw [← hs₂]
  exact hst2
end MDB
