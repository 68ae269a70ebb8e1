/-! over an interface's method to a class's own; super's inherited method -/
section DYR
variable {p : Program} {l : Launch} {e : Env} {R : Room} {s : State} {m : MethodId} {args : Array Value} {below : List Frame} {meth : Method} {c : Code} {H H0 : Heap} {locs : List Loc} {cells slots : Nat} {Q : State → Prop}
variable {cc bytes : ByteArray} {pc nL L d nn mc ms : Nat} {ls : Array Slot} {rest st As : List Value} {own C owner : String} {index count : Nat} {x y : MethodName} {ret : Option FieldType}
variable {D : va_G} {cA : Nat → ClassId} {ad : Nat → Nat} {n : Nat} {f0 : Nat → va_E} {U : Nat → Nat → Nat → Int32} {ρ : Nat → Nat → Option Nat} {r : Nat × Nat} {A : Nat → Prop} {b ci N : Nat} {T : u_T}
theorem sel_tr (hsame : (Cond.sameMethod x.cls owner x.name x.desc).before args s = true) (ho : owner ≠ "java/lang/invoke/MethodHandle" ∧ owner ≠ "java/lang/invoke/VarHandle") (h : (Cond.selects C ⟨owner, x.name, x.desc⟩ y).before args s = true) : (Cond.selects C x y).before args s = true := by
  obtain ⟨cn, ck, r1, -, -, -, hf, hn1⟩ := Cond.sameMethod_found hsame
  have h2 : s.methodFound? owner x.name x.desc = some r1 := State.methodFound?_of_named hn1 ho
  have e1 : s.methodFound? x.cls x.name x.desc = s.methodFound? owner x.name x.desc := hf.trans h2.symm
  simp only [Cond.before, Cond.holds, Cond.value] at h ⊢
  rw [e1]
  exact h
def CVO (own C owner : String) (index : Nat) (x y : MethodName) (b : ByteArray) (L : Nat) (r : Option FieldType) (n : Nat) : Prop := GoodIn lw_all (ws_ y b L r) ∧ (Cond.initialized y.cls) ∈ lw_all ∧ (Cond.instanceMethod y) ∈ lw_all ∧ (Cond.methodLink own index x) ∈ defaultWords_1 ∧ (Cond.sameMethod x.cls owner x.name x.desc) ∈ defaultWords_1 ∧ (Cond.declares ⟨owner, x.name, x.desc⟩) ∈ lw_tbl ∧ (Cond.selects C ⟨owner, x.name, x.desc⟩ y) ∈ lw_all ∧ (owner ≠ "java/lang/invoke/MethodHandle" ∧ owner ≠ "java/lang/invoke/VarHandle") ∧ (parseMethodDescriptor x.desc).map (fun d => d.parameters.length) = some n
theorem cvo_w (hC : CallFix p m c cc nL s args lw_all own) (hK : KC D cA s) (cv : CVO own C owner index x y bytes L ret nn) (hR : d + 1 ≤ R.frames ∧ 8 + (L + 11) + 64 * d ≤ R.locals) : va_CU R s args own C owner index x y bytes L ret (ws_ y bytes L ret) (rmG d mc ms) mc ms nn := by
  obtain ⟨g1, g2, g3, g4, g5, g6, g7, g8, g9⟩ := cv
  have hts := hC.2.2.2.2
  have hsame := va_Nw.use (A := args) rfl (hK.2.2.2.2.2 _ g5)
  refine ⟨⟨rfl, rfl, hR.1, hR.2, pay_in hts g1, List.mem_cons_self⟩, hts _ (g1 _ List.mem_cons_self).1, hts _ g2, g8, fun sig h => ?_, va_Nw.use rfl (hK.2.2.2.2.2 _ g4), hsame, va_Decl.abs (hK.2.1 _ g6 rfl), sel_tr hsame g8 (hts _ g7), hts _ g3⟩
  rw [h] at g9
  exact (Option.some.inj g9).symm
def CSP (own mid : String) (index : Nat) (x y : MethodName) (b : ByteArray) (L : Nat) (r : Option FieldType) (n : Nat) : Prop := GoodIn lw_all (ws_ y b L r) ∧ (Cond.initialized y.cls) ∈ lw_all ∧ (Cond.instanceMethod y) ∈ lw_all ∧ (Cond.methodLink own index x) ∈ lw_all ∧ (Cond.sameMethod x.cls y.cls x.name x.desc) ∈ lw_all ∧ (Cond.superclass own x.cls) ∈ lw_all ∧ (Cond.superclass x.cls y.cls) ∈ lw_all ∧ y = ⟨y.cls, x.name, x.desc⟩ ∧ x.name ≠ "<init>" ∧ (parseMethodDescriptor y.desc).map (fun d => d.parameters.length) = some n ∧ mid = x.cls
theorem m_back {Pc : Array Value → State → Prop} {Qc : Array Value → State → Outcome → State → Prop} {free : Addr → Prop} {len : Nat} (hC : CallFix p m c cc nL s args lw_all own) (hM : Met l y (ws_ y bytes L ret) (rmG d mc ms) Pc Qc mc ms free) (hG : GoodIn lw_all (ws_ y bytes L ret)) (hini : (Cond.initialized y.cls) ∈ lw_all) (hbl : FrameBlind Pc) (hR : d + 1 ≤ R.frames ∧ 8 + (L + 11) + 64 * d ≤ R.locals) : Back l R p e below s args y len 8 (PreOf R mc ms Pc) (PostOf Qc mc ms free) :=
  back_of (bytes := bytes) (maxL := L) (ret := ret) hM hbl rfl rfl hR.1 hR.2 (pay_in hC.2.2.2.2 hG) List.mem_cons_self (fun a' U hW => word_at hW (Or.inl (by first | rfl | simp [Cond.onTables, Cond.keeps, Cond.steady])) (hC.2.2.2.2 _ hini))
theorem run_SP {mid : String} {Pc : Array Value → State → Prop} {Qc : Array Value → State → Outcome → State → Prop} {free : Addr → Prop} (hC : CallFix p m c cc nL s args lw_all own) (hK : KC D cA s) (hc : cl[ci]? = some (C, T, N)) (hM : Met l y (ws_ y bytes L ret) (rmG d mc ms) Pc Qc mc ms free) (cs : CSP own mid index x y bytes L ret nn) (hp : PreV s H C b Pc As) (hnn : As.length = nn) (hsz : ls.size = nL) (hst : st = As.reverse ++ .ref b :: rest) (hW : (rest.map fun v => v.category).sum ≤ 8) (hdg : decode cc pc = .ok (.invokespecial index, 3)) (hR : d + 1 ≤ R.frames ∧ 8 + (L + 11) + 64 * d ≤ R.locals) (hcl : cells + mc ≤ R.cells ∧ slots + ms ≤ R.slots) :
    va_Run p l e R s m args below meth c H locs cells slots mc ms (F0 m pc ls st) rest (Qc (Value.ref b :: As).toArray) free := by
  obtain ⟨g1, g2, g3, k1, k2, k3, k4, k5, k6, k7, -⟩ := cs
  have hB := m_back (e := e) (len := 3) (below := below) hC hM g1 g2 hp.1 hR
  obtain ⟨hx, hb, hml, ho, hts⟩ := hC
  obtain ⟨-, ⟨cellB, hcB, hoB, hclB⟩, hPc⟩ := hp
  obtain ⟨hfc, kB, hkB, -⟩ := (hK.1.1 ci _ hc).2
  have ecl : D.1 ci = cellB.cls := Option.some.inj (hfc.symm.trans hclB)
  rw [ecl] at hkB
  intro T0 hT X
  obtain ⟨mk, methM, hnamed, hmM, hstM, habM⟩ := Cond.instanceMethod_spec (hts _ g3)
  obtain ⟨ps, dk, kp, hps, hdk, hkp, hsuper, -, -, hnid⟩ := Cond.superclass_spec ho (hts _ k3)
  obtain ⟨pw, dw, kw, hpw, hdw, hkw, hsuw, -, -, -⟩ := Cond.superclass_spec hps (hts _ k4)
  have emk : mk.cls = pw := Option.some.inj ((findClass_of_methodNamed hnamed).symm.trans hpw)
  have hsub : s.vm.isSubclass ps mk.cls = true := by
    refine it_sub s.vm _ 1 ps ?_ (by simp [it_, up_, hdw, hsuw, emk])
    have := (Array.getElem?_eq_some_iff.mp hdw).1
    omega
  obtain ⟨vm₁, X₁, st₁⟩ := X.invokespecialUp hx ho (hts _ k1) (hts _ k2) (by rw [← k5]; exact hnamed) hmM hstM habM k6 hdk hnid hps hsuper hsub (a := b) (cell := cellB) (by rw [hT]; exact hcB) (fun z h => by rw [h] at hoB; cases hoB) hkB (g := F0 m pc ls st) rfl (argsL := As) (rest := rest) (d_len (hts _ (g1 _ List.mem_cons_self).1) k7 hnn mk methM hnamed hmM) hst (by rw [hb]; exact hdg)
  obtain ⟨v, ⟨U', l2, c2, s2⟩, X', ⟨g', mk', t, L9, e1, e2, hq, h1, hL, h2, h3⟩, st₂⟩ := hB m meth c ⟨T0.setVm vm₁, locs, cells, slots⟩ (F0 m pc ls rest) (.invokespecial index) mk (Value.ref b :: As).toArray X₁ rfl (hsz.trans hml.symm) (by rw [hb]; exact hdg) (lv_room hW) (X₁.named hnamed) ⟨hcl.1, hcl.2, hPc (T0.setVm vm₁) hT X₁.warmed⟩
  dsimp only [Pt.U, Pt.locs, Pt.cells, Pt.slots] at X' e1 e2 h1 h2 h3 st₂
  subst h1; subst h2; subst h3
  exact ⟨v, (T0.setVm vm₁).calling g' mk' (Value.ref b :: As).toArray, t, U', L9, hT, X', hL, e1, e2, hq, fun target h => st₁ target (st₂.trans h)⟩
theorem x_iVO {post : Int32 → (Nat → Nat → Nat → Int32) → Prop} (hC : CallFix p m c cc nL s args lw_all own) (hK : KC D cA s) (hP : XW D cA ad n f0 ρ r U H) (hS : va_S A H0 H locs) (hc : cl[ci]? = some (C, T, N)) (hrc : ∃ cell : Cell, H[b]? = some cell ∧ cell.vm.isStatics = false ∧ s.vm.findClass C = some cell.cls) (hM : XI l D cA ad n f0 ρ r U A y bytes L ret d (.ref b :: As) post) (cv : CVO own C owner index x y bytes L ret nn) (hnn : As.length = nn) (hst : st = As.reverse ++ .ref b :: rest) (hsz : ls.size = nL) (hW : (rest.map fun v => v.category).sum ≤ 8) (hdg : decode cc pc = .ok (.invokevirtual index, 3)) (hR : d + 1 ≤ R.frames ∧ 8 + (L + 11) + 64 * d ≤ R.locals) (hcl : cells ≤ R.cells ∧ slots ≤ R.slots)
    (kk : ∀ (r' : Int32) (V : Nat → Nat → Nat → Int32) (H1 : Heap) (locs1 : List Loc), post r' V → XW D cA ad n f0 ρ r V H1 → va_S A H0 H1 locs1 → W p l e R s m args below meth c H1 locs1 cells slots Q (F0 m (pc + 3) ls (.int r' :: rest))) : W p l e R s m args below meth c H locs cells slots Q (F0 m pc ls st) :=
  va_calli (va_runU hC hM (cvo_w hC hK cv hR) ⟨cv_blind (kmv_C D cA), hrc, fun U hU hW => ⟨rfl, by rw [hU]; exact hP, (kmv_C D cA).1 s U hW hK⟩⟩ rfl hnn hsz hst (lv_room hW) hdg hcl) hS (fun _ _ h => h) (fun _ h => h) (fun r' V t H1 locs1 ht _ hp hB _ _ hS1 => kk r' V H1 locs1 hp (by rw [← ht]; exact hB) hS1)
theorem x_iSP {post : Int32 → (Nat → Nat → Nat → Int32) → Prop} (hC : CallFix p m c cc nL s args lw_all own) (hK : KC D cA s) (hP : XW D cA ad n f0 ρ r U H) (hS : va_S A H0 H locs) (hc : cl[ci]? = some (C, T, N)) (hrc : ∃ cell : Cell, H[b]? = some cell ∧ cell.vm.isStatics = false ∧ s.vm.findClass C = some cell.cls) (hM : XI l D cA ad n f0 ρ r U A y bytes L ret d (.ref b :: As) post) {mid : String} (cs : CSP own mid index x y bytes L ret nn) (hnn : As.length = nn) (hst : st = As.reverse ++ .ref b :: rest) (hsz : ls.size = nL) (hW : (rest.map fun v => v.category).sum ≤ 8) (hdg : decode cc pc = .ok (.invokespecial index, 3)) (hR : d + 1 ≤ R.frames ∧ 8 + (L + 11) + 64 * d ≤ R.locals) (hcl : cells ≤ R.cells ∧ slots ≤ R.slots)
    (kk : ∀ (r' : Int32) (V : Nat → Nat → Nat → Int32) (H1 : Heap) (locs1 : List Loc), post r' V → XW D cA ad n f0 ρ r V H1 → va_S A H0 H1 locs1 → W p l e R s m args below meth c H1 locs1 cells slots Q (F0 m (pc + 3) ls (.int r' :: rest))) : W p l e R s m args below meth c H locs cells slots Q (F0 m pc ls st) :=
  va_calli (run_SP hC hK hc hM cs ⟨cv_blind (kmv_C D cA), hrc, fun U hU hW => ⟨rfl, by rw [hU]; exact hP, (kmv_C D cA).1 s U hW hK⟩⟩ hnn hsz hst hW hdg hR hcl) hS (fun _ _ h => h) (fun _ h => h) (fun r' V t H1 locs1 ht _ hp hB _ _ hS1 => kk r' V H1 locs1 hp (by rw [← ht]; exact hB) hS1)
theorem lw_SU {own : String} {idx : Nat} {y : MethodName} {b : ByteArray} {L : Nat} {r : Option FieldType} (h1 : Cond.methodLink own idx y ∈ lw_all) (h2 : Cond.sameMethod y.cls y.cls y.name y.desc ∈ lw_all) (h3 : Cond.superclass own y.cls ∈ lw_all) (h4 : Cond.instanceMethod y ∈ lw_all) (h5 : Cond.initialized y.cls ∈ lw_all) (h6 : Cond.code y b L r ∈ lw_all) : GoodIn lw_all (va_wsSU own idx y (ws_ y b L r)) := by
  refine lw_app ?_ (lw_meth h6)
  intro w hw
  simp only [List.mem_cons, List.not_mem_nil, or_false] at hw
  rcases hw with e | e | e | e | e <;> rw [e] <;> assumption
theorem lw_O {own C owner : String} {idx : Nat} {x y : MethodName} {b : ByteArray} {L : Nat} {r : Option FieldType} (h1 : Cond.methodLink own idx x ∈ lw_all) (h2 : Cond.sameMethod x.cls owner x.name x.desc ∈ lw_all) (h3 : Cond.instanceMethod ⟨owner, x.name, x.desc⟩ ∈ lw_all) (h4 : Cond.selects C x y ∈ lw_all) (h5 : Cond.instanceMethod y ∈ lw_all) (h6 : Cond.initialized y.cls ∈ lw_all) (h7 : Cond.code y b L r ∈ lw_all) : GoodIn lw_all (va_wsO own idx C owner x y (ws_ y b L r)) := by
  refine lw_app ?_ (lw_meth h7)
  intro w hw
  simp only [List.mem_cons, List.not_mem_nil, or_false] at hw
  rcases hw with e | e | e | e | e | e <;> rw [e] <;> assumption
theorem lw_F {own C : String} {idx : Nat} {x y : MethodName} {b : ByteArray} {L : Nat} {r : Option FieldType} (h1 : Cond.methodLink own idx x ∈ lw_all) (h2 : Cond.selects C x y ∈ lw_all) (h3 : Cond.instanceMethod y ∈ lw_all) (h4 : Cond.initialized y.cls ∈ lw_all) (h5 : Cond.code y b L r ∈ lw_all) : GoodIn lw_all (va_wsF own idx C x y (ws_ y b L r)) := by
  refine lw_app ?_ (lw_meth h5)
  intro w hw
  simp only [List.mem_cons, List.not_mem_nil, or_false] at hw
  rcases hw with e | e | e | e <;> rw [e] <;> assumption
end DYR
