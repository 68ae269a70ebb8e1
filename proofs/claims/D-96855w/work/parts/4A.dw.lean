/-! calls that land in defaults, as rows of the walk -/
section DWR
variable {p : Program} {l : Launch} {e : Env} {R : Room} {s : State} {m : MethodId} {args : Array Value} {below : List Frame} {meth : Method} {c : Code} {H H0 : Heap} {locs : List Loc} {cells slots : Nat} {Q : State → Prop}
variable {cc bytes : ByteArray} {pc nL L d mc ms nn : Nat} {ls : Array Slot} {rest st As : List Value} {own C : String} {index count : Nat} {x y : MethodName} {ret : Option FieldType}
/-- the callee comes back -/
theorem d_back {Pc : Array Value → State → Prop} {Qc : Array Value → State → Outcome → State → Prop} {free : Addr → Prop} {len : Nat} (hC : CallFix p m c cc nL s args lw_all own) (hM : MD l y (ws_ y bytes L ret) L (rmG d mc ms) Pc Qc mc ms free) (hG : GoodIn lw_all (ws_ y bytes L ret)) (hbl : FrameBlind Pc) (hR : d + 1 ≤ R.frames ∧ 8 + (L + 11) + 64 * d ≤ R.locals) : Back l R p e below s args y len 8 (PreOf R mc ms Pc) (PostOf Qc mc ms free) :=
  hM.back (bytes := bytes) (ret := ret) hbl hR (pay_in hC.2.2.2.2 hG) List.mem_cons_self
theorem d_len (hcode : (Cond.code y bytes L ret).before args s = true) (hn : (parseMethodDescriptor y.desc).map (fun d => d.parameters.length) = some nn) (hA : As.length = nn) : ∀ (mk : MethodId) (r : Method), s.methodNamed? y = some mk → s.vm.method? mk = some r → As.length = r.sig.parameters.length := by
  intro mk r h1 h2
  obtain ⟨r', cM, h3, -, -, -, -, -, -, hsig⟩ := Cond.code_spec h1 hcode
  cases h2.symm.trans h3
  rw [hsig] at hn
  rw [hA]
  exact (Option.some.inj hn).symm
/-- words of a default's call -/
def CD (y : MethodName) (b : ByteArray) (L : Nat) (r : Option FieldType) (n : Nat) : Prop := GoodIn lw_all (ws_ y b L r) ∧ (Cond.instanceMethod y) ∈ lw_all ∧ (parseMethodDescriptor y.desc).map (fun d => d.parameters.length) = some n ∧ y.cls ≠ "java/lang/invoke/MethodHandle" ∧ y.cls ≠ "java/lang/invoke/VarHandle"
def CDS (own : String) (index : Nat) (x y : MethodName) : Prop := (Cond.methodLink own index x) ∈ defaultWords_1 ∧ (Cond.sameMethod x.cls y.cls x.name x.desc) ∈ defaultWords_1 ∧ y = ⟨y.cls, x.name, x.desc⟩ ∧ x.name ≠ "<init>" ∧ (Cond.superclass own x.cls) ∈ lw_all ∧ (x.cls, x, y) ∈ dfW
def CDV (own C : String) (index : Nat) (x y : MethodName) : Prop := (Cond.methodLink own index x) ∈ defaultWords_1 ∧ (Cond.sameMethod x.cls y.cls x.name x.desc) ∈ defaultWords_1 ∧ y = ⟨y.cls, x.name, x.desc⟩ ∧ (C, x, y) ∈ dfW
def CDF (own C : String) (index : Nat) (y : MethodName) : Prop := (Cond.methodLink own index y) ∈ lw_all ∧ (Cond.declares y) ∈ lw_tbl ∧ (Cond.interfaceMethod y.cls y.cls y.name y.desc) ∈ lw_tbl ∧ (Cond.publicMethod y) ∈ lw_tbl ∧ (Cond.castable C y.cls) ∈ lw_tbl ∧ mvw (Cond.interfaceMethod y.cls y.cls y.name y.desc) = true ∧ (C, y, y) ∈ dfW
variable {D : va_G} {cA : Nat → ClassId} {b : Nat}
theorem run_SD {Pc : Array Value → State → Prop} {Qc : Array Value → State → Outcome → State → Prop} {free : Addr → Prop} {ci N : Nat} {T : u_T} (hC : CallFix p m c cc nL s args lw_all own) (hK : KC D cA s) (hc : cl[ci]? = some (C, T, N)) (hM : MD l y (ws_ y bytes L ret) L (rmG d mc ms) Pc Qc mc ms free) (cd : CD y bytes L ret nn) (cs : CDS own index x y) (hp : PreV s H C b Pc As) (hnn : As.length = nn) (hsz : ls.size = nL) (hst : st = As.reverse ++ .ref b :: rest) (hW : (rest.map fun v => v.category).sum ≤ 8) (hdg : decode cc pc = .ok (.invokespecial index, 3)) (hR : d + 1 ≤ R.frames ∧ 8 + (L + 11) + 64 * d ≤ R.locals) (hcl : cells + mc ≤ R.cells ∧ slots + ms ≤ R.slots) :
    va_Run p l e R s m args below meth c H locs cells slots mc ms (F0 m pc ls st) rest (Qc (Value.ref b :: As).toArray) free := by
  obtain ⟨g1, g3, g4, g5⟩ := cd
  obtain ⟨k1, k2, k3, k4, k5, k6⟩ := cs
  have hB := d_back (e := e) (len := 3) (below := below) hC hM g1 hp.1 hR
  obtain ⟨hx, hb, hml, ho, hts⟩ := hC
  obtain ⟨-, ⟨cellB, hcB, hoB, hclB⟩, hPc⟩ := hp
  obtain ⟨hfc, kB, hkB, -⟩ := (hK.1.1 ci _ hc).2
  have ecl : D.1 ci = cellB.cls := Option.some.inj (hfc.symm.trans hclB)
  rw [ecl] at hkB
  intro T0 hT X
  obtain ⟨vm₁, mk, hnamed, X₁, st₁⟩ := st_SD X hx ho (va_Nw.use rfl (hK.2.2.2.2.2 _ k1)) (va_Nw.use rfl (hK.2.2.2.2.2 _ k2)) k3 (hts _ k5) (hts _ g3) (ld_tab rfl (hK.2.2.2.1 _ k6)) k4 (a := b) (by rw [hT]; exact hcB) (fun z h => by rw [h] at hoB; cases hoB) hkB (g := F0 m pc ls st) rfl (argsL := As) (rest := rest) (d_len (hts _ (g1 _ List.mem_cons_self).1) g4 hnn) hst (by rw [hb]; exact hdg)
  obtain ⟨v, ⟨U', l2, c2, s2⟩, X', ⟨g', mk', t, L9, e1, e2, hq, h1, hL, h2, h3⟩, st₂⟩ := hB m meth c ⟨T0.setVm vm₁, locs, cells, slots⟩ (F0 m pc ls rest) (.invokespecial index) mk (Value.ref b :: As).toArray X₁ rfl (hsz.trans hml.symm) (by rw [hb]; exact hdg) (lv_room hW) (X₁.named hnamed) ⟨hcl.1, hcl.2, hPc (T0.setVm vm₁) hT X₁.warmed⟩
  dsimp only [Pt.U, Pt.locs, Pt.cells, Pt.slots] at X' e1 e2 h1 h2 h3 st₂
  subst h1; subst h2; subst h3
  exact ⟨v, (T0.setVm vm₁).calling g' mk' (Value.ref b :: As).toArray, t, U', L9, hT, X', hL, e1, e2, hq, fun target h => st₁ target (st₂.trans h)⟩
theorem run_VD {Pc : Array Value → State → Prop} {Qc : Array Value → State → Outcome → State → Prop} {free : Addr → Prop} (hC : CallFix p m c cc nL s args lw_all own) (hK : KC D cA s) (hM : MD l y (ws_ y bytes L ret) L (rmG d mc ms) Pc Qc mc ms free) (cd : CD y bytes L ret nn) (cs : CDV own C index x y) (hp : PreV s H C b Pc As) (hnn : As.length = nn) (hsz : ls.size = nL) (hst : st = As.reverse ++ .ref b :: rest) (hW : (rest.map fun v => v.category).sum ≤ 8) (hdg : decode cc pc = .ok (.invokevirtual index, 3)) (hR : d + 1 ≤ R.frames ∧ 8 + (L + 11) + 64 * d ≤ R.locals) (hcl : cells + mc ≤ R.cells ∧ slots + ms ≤ R.slots) :
    va_Run p l e R s m args below meth c H locs cells slots mc ms (F0 m pc ls st) rest (Qc (Value.ref b :: As).toArray) free := by
  obtain ⟨g1, g3, g4, g5⟩ := cd
  obtain ⟨k1, k2, k3, k6⟩ := cs
  have hB := d_back (e := e) (len := 3) (below := below) hC hM g1 hp.1 hR
  obtain ⟨hx, hb, hml, ho, hts⟩ := hC
  obtain ⟨-, ⟨cellB, hcB, hoB, hclB⟩, hPc⟩ := hp
  intro T0 hT X
  obtain ⟨vm₁, mk, hnamed, X₁, st₁⟩ := st_VD X hx ho (va_Nw.use rfl (hK.2.2.2.2.2 _ k1)) (va_Nw.use rfl (hK.2.2.2.2.2 _ k2)) k3 g5 (hts _ g3) (ld_tab rfl (hK.2.2.2.1 _ k6)) (a := b) (by rw [hT]; exact hcB) (fun z h => by rw [h] at hoB; cases hoB) hclB (g := F0 m pc ls st) rfl (argsL := As) (rest := rest) (d_len (hts _ (g1 _ List.mem_cons_self).1) g4 hnn) hst (by rw [hb]; exact hdg)
  obtain ⟨v, ⟨U', l2, c2, s2⟩, X', ⟨g', mk', t, L9, e1, e2, hq, h1, hL, h2, h3⟩, st₂⟩ := hB m meth c ⟨T0.setVm vm₁, locs, cells, slots⟩ (F0 m pc ls rest) (.invokevirtual index) mk (Value.ref b :: As).toArray X₁ rfl (hsz.trans hml.symm) (by rw [hb]; exact hdg) (lv_room hW) (X₁.named hnamed) ⟨hcl.1, hcl.2, hPc (T0.setVm vm₁) hT X₁.warmed⟩
  dsimp only [Pt.U, Pt.locs, Pt.cells, Pt.slots] at X' e1 e2 h1 h2 h3 st₂
  subst h1; subst h2; subst h3
  exact ⟨v, (T0.setVm vm₁).calling g' mk' (Value.ref b :: As).toArray, t, U', L9, hT, X', hL, e1, e2, hq, fun target h => st₁ target (fun acts => by rw [doInvoke_state]; exact st₂.trans h)⟩
theorem run_FD {Pc : Array Value → State → Prop} {Qc : Array Value → State → Outcome → State → Prop} {free : Addr → Prop} {ci N : Nat} {T : u_T} (hC : CallFix p m c cc nL s args lw_all own) (hK : KC D cA s) (hc : cl[ci]? = some (C, T, N)) (hM : MD l y (ws_ y bytes L ret) L (rmG d mc ms) Pc Qc mc ms free) (cd : CD y bytes L ret nn) (cs : CDF own C index y) (hp : PreV s H C b Pc As) (hnn : As.length = nn) (hsz : ls.size = nL) (hst : st = As.reverse ++ .ref b :: rest) (hW : (rest.map fun v => v.category).sum ≤ 8) (hdg : decode cc pc = .ok (.invokeinterface index count, 5)) (hR : d + 1 ≤ R.frames ∧ 8 + (L + 11) + 64 * d ≤ R.locals) (hcl : cells + mc ≤ R.cells ∧ slots + ms ≤ R.slots) :
    va_Run5 p l e R s m args below meth c H locs cells slots mc ms (F0 m pc ls st) rest (Qc (Value.ref b :: As).toArray) free := by
  obtain ⟨g1, g3, g4, g5⟩ := cd
  obtain ⟨k1, k2, k3, k4, k5, k6, k7⟩ := cs
  have hB := d_back (e := e) (len := 5) (below := below) hC hM g1 hp.1 hR
  obtain ⟨hx, hb, hml, ho, hts⟩ := hC
  obtain ⟨-, ⟨cellB, hcB, hoB, hclB⟩, hPc⟩ := hp
  obtain ⟨hfc, kB, hkB, -⟩ := (hK.1.1 ci _ hc).2
  have ecl : D.1 ci = cellB.cls := Option.some.inj (hfc.symm.trans hclB)
  rw [ecl] at hkB
  intro T0 hT X
  obtain ⟨vm₁, mk, hnamed, X₁, st₁⟩ := st_FD X hx ho (hts _ k1) (va_Nw.use rfl (hK.2.1 _ k2 rfl)) (va_Nw.use rfl (hK.2.1 _ k3 k6)) (hts _ g3) (va_Nw.use rfl (hK.2.1 _ k4 rfl)) (va_Nw.use rfl (hK.2.1 _ k5 rfl)) g5 (ld_tab rfl (hK.2.2.2.1 _ k7)) (a := b) (by rw [hT]; exact hcB) hoB hclB hkB (g := F0 m pc ls st) rfl (argsL := As) (rest := rest) (d_len (hts _ (g1 _ List.mem_cons_self).1) g4 hnn) hst (by rw [hb]; exact hdg)
  obtain ⟨v, ⟨U', l2, c2, s2⟩, X', ⟨g', mk', t, L9, e1, e2, hq, h1, hL, h2, h3⟩, st₂⟩ := hB m meth c ⟨T0.setVm vm₁, locs, cells, slots⟩ (F0 m pc ls rest) (.invokeinterface index count) mk (Value.ref b :: As).toArray X₁ rfl (hsz.trans hml.symm) (by rw [hb]; exact hdg) (lv_room hW) (X₁.named hnamed) ⟨hcl.1, hcl.2, hPc (T0.setVm vm₁) hT X₁.warmed⟩
  dsimp only [Pt.U, Pt.locs, Pt.cells, Pt.slots] at X' e1 e2 h1 h2 h3 st₂
  subst h1; subst h2; subst h3
  exact ⟨v, (T0.setVm vm₁).calling g' mk' (Value.ref b :: As).toArray, t, U', L9, hT, X', hL, e1, e2, hq, fun target h => st₁ target (fun acts => by rw [doInvoke_state]; exact st₂.trans h)⟩
end DWR
