/-! answers that are references; wheels; calls up and over -/
def Cr (l : Launch) (K : State → Prop) (y : MethodName) (cc : ByteArray) (L : Nat) (C : String) (d : Nat) (As : List Value) (PW : Heap → Prop) (post : Nat → Prop) : Prop :=
  Met l y (ws_ y cc L (some (.object C))) (rmG d 0 0) (va_Pc As (fun U => PW U.heap ∧ K U)) (fun _ st oc t => (∃ a : Nat, oc = .returned (some (.ref a)) ∧ post a) ∧ t.heap = st.heap) 0 0 (fun _ => False)
theorem Cr.of {l : Launch} {K : State → Prop} {y : MethodName} {cc : ByteArray} {L : Nat} {C : String} {d : Nat} {As : List Value} {PW : Heap → Prop} {post : Nat → Prop} (hy : plainName y.cls = true) (hL : (lg_sl As).length ≤ L)
    (body : ∀ (p : Program) (e : Env) (s : State) (m : MethodId) (args : Array Value) (below : List Frame) (meth : Method) (c : Code) (Q : State → Prop), CallFix p m c cc L s args lw_all y.cls → K s → PW s.heap →
      (∀ (ls : Array Slot) (pc : Nat) (v : Nat), decode cc pc = .ok (.areturn, 1) → post v → W p l e (rmG d 0 0) s m args below meth c s.heap [] 0 0 Q (F0 m pc ls [.ref v])) →
      ∀ ls : Array Slot, lh ls (argL As L) → W p l e (rmG d 0 0) s m args below meth c s.heap [] 0 0 Q (F0 m 0 ls [])) : Cr l K y cc L C d As PW post := by
  refine Met.ofW (cc := cc) (maxL := L) (ret := some (.object C)) hy rfl ?_
  intro p e s m args below meth c s₁ B hml hv
  obtain ⟨rfl, hP, hK⟩ := hv
  have hts := atoms_spec (ws := ws_ y cc L (some (.object C))) B.pre
  rw [lg_entry_eq]
  exact body p e s m _ below meth c _ ⟨B.exec, B.bytes, hml, findClass_of_methodNamed B.named, fun w h => hts w (List.mem_cons_of_mem _ h)⟩ hK hP (fun ls pc v hdg hp => W.aret B.exec B.bytes B.returns (Or.inl ⟨C, rfl⟩) (Or.inr ⟨v, rfl⟩) (fun t ht hW => ⟨⟨v, rfl, hp⟩, ht⟩) (fun _ h => by cases h) hdg B.notSynchronized) _ (lh_entry As hL)
def clN (kd : Nat) : String := ([RX6, RX7, RX8, RX9, RX10, RX11, RX12] : List String).getD kd ""
def clT (kd : Nat) : u_T := ([TX6, TX7, TX8, TX9, TX10, TX11, TX12] : List u_T).getD kd TX6
theorem cl_kd {kd : Nat} (h : kd ≤ 6) : cl[6 + kd]? = some (clN kd, clT kd, 2) := by
  have : kd = 0 ∨ kd = 1 ∨ kd = 2 ∨ kd = 3 ∨ kd = 4 ∨ kd = 5 ∨ kd = 6 := by omega
  rcases this with rfl | rfl | rfl | rfl | rfl | rfl | rfl <;> rfl
/-- the k-th wheel of the house a is w, of the kind kd -/
def WK (f0 : Nat → va_E) (n : Nat) (ρ : Nat → Nat → Option Nat) (S : Sta) (a k w kd : Nat) : Prop := ρ a k = some w ∧ 81 ≤ w ∧ w < n ∧ kd ≤ 6 ∧ S 5 k = nI kd ∧ f0 w = .inr (6 + kd, [.int (nI k), .int (S 6 k)])
def WR (f0 : Nat → va_E) (n : Nat) (ρ : Nat → Nat → Option Nat) (S : Sta) (a : Nat) : Prop := ∀ k, k < wh S → ∃ w kd, WK f0 n ρ S a k w kd
section CXU
variable {p : Program} {l : Launch} {e : Env} {R : Room} {s : State} {m : MethodId} {args : Array Value} {below : List Frame} {meth : Method} {c : Code} {H H0 : Heap} {locs : List Loc} {cells slots : Nat} {Q : State → Prop}
variable {cc bytes : ByteArray} {pc nL L d dd mc ms nn : Nat} {ls : Array Slot} {rest st As : List Value} {own C owner : String} {index : Nat} {x y : MethodName} {ret : Option FieldType}
variable {D : va_G} {cA : Nat → ClassId} {ad : Nat → Nat} {n : Nat} {f0 : Nat → va_E} {U : Nat → Nat → Nat → Int32} {ρ : Nat → Nat → Option Nat} {r : Nat × Nat} {A A1 : Nat → Prop} {b : Nat}
theorem x_at (hK : KC D cA s) {ci N : Nat} {T : u_T} (hc : cl[ci]? = some (C, T, N)) : ClassAt s C (D.1 ci) := (hK.1.1 ci _ hc).2
theorem wo_po {w : Nat} {e0 : va_E} (h : 81 ≤ w) (he : f0 w = e0) : wcl cA ad f0 U ρ r w = e0 := (wcl_f h).trans he
theorem x_rPO (hK : KC D cA s) (hP : XW D cA ad n f0 ρ r U H) {w ci N : Nat} {T : u_T} {fs : List Value} (h1 : 81 ≤ w) (h2 : w < n) (he : f0 w = .inr (ci, fs)) (hc : cl[ci]? = some (C, T, N)) : ∃ cell : Cell, H[ad w]? = some cell ∧ cell.vm.isStatics = false ∧ s.vm.findClass C = some cell.cls := x_rc hK hP w h2 (wo_po h1 he) hc
theorem x_ald (hC : CallFix p m c cc nL s args lw_all own) (hK : KC D cA s) (hP : XW D cA ad n f0 ρ r U H) (k : Nat) (hk : k < n) (t : Nat) {N : Nat} {g : Nat → Option Nat} (he : wcl cA ad f0 U ρ r k = aR (cA t) N g) {E : String} (ht : (tyA cA)[t]? = some (cA t, .object E)) {j : Int32} (i : Nat) (hj : j = nI i) (hi : i < N) (hN : N < 2 ^ 31) (hdg : decode cc pc = .ok (.aaload, 1)) (kk : W p l e R s m args below meth c H locs cells slots Q (F0 m (pc + 1) ls (va_rf (g i) :: rest))) : W p l e R s m args below meth c H locs cells slots Q (F0 m pc ls (.int j :: .ref (ad k) :: rest)) := by
  subst hj
  refine va_aldq hC.1 hC.2.1 hK.1 hP k t ((gw_at hk).trans (by rw [he])) ht (vp_in_nI hi (by omega)) hdg ?_
  rw [nI_clamp (by omega)]
  exact kk
theorem x_cast {w kd : Nat} {fs : List Value} (hC : CallFix p m c cc nL s args lw_all own) (hK : KC D cA s) (hP : XW D cA ad n f0 ρ r U H) (h1 : 81 ≤ w) (h2 : w < n) (hkd : kd ≤ 6) (he : f0 w = .inr (6 + kd, fs)) (hlink : (Cond.classLink own index RX6) ∈ lw_all) (hdg : decode cc pc = .ok (.checkcast index, 3)) (kk : W p l e R s m args below meth c H locs cells slots Q (F0 m (pc + 3) ls (.ref (ad w) :: rest))) : W p l e R s m args below meth c H locs cells slots Q (F0 m pc ls (.ref (ad w) :: rest)) := by
  have hl := hC.2.2.2.2 _ hlink
  have hrc := x_rPO hK hP h1 h2 he (cl_kd hkd)
  have : kd = 0 ∨ kd = 1 ∨ kd = 2 ∨ kd = 3 ∨ kd = 4 ∨ kd = 5 ∨ kd = 6 := by omega
  rcases this with rfl | rfl | rfl | rfl | rfl | rfl | rfl
  · exact va_castS hC.1 hC.2.1 hC.2.2.2.1 hl (x_at hK (ci := 6) rfl) hrc hdg kk
  · exact va_castY hC.1 hC.2.1 hC.2.2.2.1 hl (hK.2.1 _ q1779 rfl) hrc hdg kk
  · exact va_castY hC.1 hC.2.1 hC.2.2.2.1 hl (hK.2.1 _ q1777 rfl) hrc hdg kk
  · exact va_castY hC.1 hC.2.1 hC.2.2.2.1 hl (hK.2.1 _ q1775 rfl) hrc hdg kk
  · exact va_castY hC.1 hC.2.1 hC.2.2.2.1 hl (hK.2.1 _ q1778 rfl) hrc hdg kk
  · exact va_castY hC.1 hC.2.1 hC.2.2.2.1 hl (hK.2.1 _ q1776 rfl) hrc hdg kk
  · exact va_castY hC.1 hC.2.1 hC.2.2.2.1 hl (hK.2.1 _ q1780 rfl) hrc hdg kk
theorem cr_run {post : Nat → Prop} (hr : va_Run p l e R s m args below meth c H locs cells slots 0 0 (F0 m pc ls st) rest (fun st oc t => (∃ a : Nat, oc = .returned (some (.ref a)) ∧ post a) ∧ t.heap = st.heap) (fun _ => False))
    (kk : ∀ a : Nat, post a → W p l e R s m args below meth c H locs cells slots Q (F0 m (pc + 3) ls (.ref a :: rest))) : W p l e R s m args below meth c H locs cells slots Q (F0 m pc ls st) := by
  intro T hT X
  obtain ⟨v, st₀, t, T', L, h0, X', hL, e1, e2, ⟨⟨a, hv, hp⟩, hh⟩, st⟩ := hr T hT X
  cases hv
  have hL0 : L = [] := List.eq_nil_iff_forall_not_mem.mpr (fun q hq => hL q hq)
  subst hL0
  rw [List.append_nil] at X'
  have eH : T'.heap = H := by rw [e1, hh, h0]
  obtain ⟨t2, a1, b1⟩ := kk a hp T' eH X'
  exact ⟨t2, st t2 a1, b1⟩
theorem x_rV {E : String} {post : Nat → Prop} (hC : CallFix p m c cc nL s args lw_all own) (hK : KC D cA s) (hP : XW D cA ad n f0 ρ r U H) (hrc : ∃ cell : Cell, H[b]? = some cell ∧ cell.vm.isStatics = false ∧ s.vm.findClass C = some cell.cls) (hM : Cr l (KC D cA) y bytes L E d (.ref b :: As) (XW D cA ad n f0 ρ r U) post) (cv : CV own C index y bytes L (some (.object E)) nn) (hnn : As.length = nn) (hst : st = As.reverse ++ .ref b :: rest) (hsz : ls.size = nL) (hW : (rest.map fun v => v.category).sum ≤ 8) (hdg : decode cc pc = .ok (.invokevirtual index, 3)) (hR : d + 1 ≤ R.frames ∧ 8 + (L + 11) + 64 * d ≤ R.locals) (hcl : cells ≤ R.cells ∧ slots ≤ R.slots)
    (kk : ∀ a : Nat, post a → W p l e R s m args below meth c H locs cells slots Q (F0 m (pc + 3) ls (.ref a :: rest))) : W p l e R s m args below meth c H locs cells slots Q (F0 m pc ls st) :=
  cr_run (va_runV hC hM (cwV nn hC.2.2.2.2 cv.1 rfl rfl rfl cv.2 hR) ⟨cv_blind (kmv_C D cA), hrc, fun U hU hW => ⟨rfl, by rw [hU]; exact hP, (kmv_C D cA).1 s U hW hK⟩⟩ rfl hnn hsz hst (lv_room hW) hdg hcl) kk
/-- up: a superclass's own method -/
def CSU (own : String) (index : Nat) (y : MethodName) (b : ByteArray) (L : Nat) (r : Option FieldType) (n : Nat) : Prop := GoodIn lw_all (va_wsSU own index y (ws_ y b L r)) ∧ (y.name ≠ "<init>" ∧ (parseMethodDescriptor y.desc).map (fun d => d.parameters.length) = some n)
/-- over: the reference names x, found in owner; the receiver's class C has y -/
def COV (own C owner : String) (index : Nat) (x y : MethodName) (b : ByteArray) (L : Nat) (r : Option FieldType) (n : Nat) : Prop := GoodIn lw_all (va_wsO own index C owner x y (ws_ y b L r)) ∧ (∃ b0 m0 r0, Cond.code ⟨owner, x.name, x.desc⟩ b0 m0 r0 ∈ lw_all) ∧ (owner ≠ "java/lang/invoke/MethodHandle" ∧ owner ≠ "java/lang/invoke/VarHandle" ∧ (parseMethodDescriptor x.desc).map (fun d => d.parameters.length) = some n)
theorem x_pSU {post : Int32 → Prop} {cC : ClassId} (hC : CallFix p m c cc nL s args lw_all own) (hK : KC D cA s) (hP : XW D cA ad n f0 ρ r U H) (hat : ClassAt s C cC) (hrc : ∃ cell : Cell, H[b]? = some cell ∧ cell.vm.isStatics = false ∧ s.vm.findClass C = some cell.cls) (hM : XP l D cA ad n f0 ρ r U y bytes L ret d (.ref b :: As) post) (cv : CSU own index y bytes L ret nn) (hnn : As.length = nn) (hst : st = As.reverse ++ .ref b :: rest) (hsz : ls.size = nL) (hW : (rest.map fun v => v.category).sum ≤ 8) (hdg : decode cc pc = .ok (.invokespecial index, 3)) (hR : d + 1 ≤ R.frames ∧ 8 + (L + 11) + 64 * d ≤ R.locals) (hcl : cells ≤ R.cells ∧ slots ≤ R.slots)
    (kk : ∀ r : Int32, post r → W p l e R s m args below meth c H locs cells slots Q (F0 m (pc + 3) ls (.int r :: rest))) : W p l e R s m args below meth c H locs cells slots Q (F0 m pc ls st) :=
  cp_run (va_runSU hat hC hM (va_cwSU nn hC.2.2.2.2 cv.1 rfl rfl rfl cv.2 hR) ⟨cv_blind (kmv_C D cA), hrc, fun U hU hW => ⟨rfl, by rw [hU]; exact hP, (kmv_C D cA).1 s U hW hK⟩⟩ rfl hnn hsz hst (lv_room hW) hdg hcl) kk
theorem x_iSU {post : Int32 → (Nat → Nat → Nat → Int32) → Prop} {cC : ClassId} (hC : CallFix p m c cc nL s args lw_all own) (hK : KC D cA s) (hP : XW D cA ad n f0 ρ r U H) (hS : va_S A H0 H locs) (hat : ClassAt s C cC) (hrc : ∃ cell : Cell, H[b]? = some cell ∧ cell.vm.isStatics = false ∧ s.vm.findClass C = some cell.cls) (hM : XI l D cA ad n f0 ρ r U A y bytes L ret d (.ref b :: As) post) (cv : CSU own index y bytes L ret nn) (hnn : As.length = nn) (hst : st = As.reverse ++ .ref b :: rest) (hsz : ls.size = nL) (hW : (rest.map fun v => v.category).sum ≤ 8) (hdg : decode cc pc = .ok (.invokespecial index, 3)) (hR : d + 1 ≤ R.frames ∧ 8 + (L + 11) + 64 * d ≤ R.locals) (hcl : cells ≤ R.cells ∧ slots ≤ R.slots)
    (kk : ∀ (r' : Int32) (V : Nat → Nat → Nat → Int32) (H1 : Heap) (locs1 : List Loc), post r' V → XW D cA ad n f0 ρ r V H1 → va_S A H0 H1 locs1 → W p l e R s m args below meth c H1 locs1 cells slots Q (F0 m (pc + 3) ls (.int r' :: rest))) : W p l e R s m args below meth c H locs cells slots Q (F0 m pc ls st) :=
  va_calli (va_runSU hat hC hM (va_cwSU nn hC.2.2.2.2 cv.1 rfl rfl rfl cv.2 hR) ⟨cv_blind (kmv_C D cA), hrc, fun U hU hW => ⟨rfl, by rw [hU]; exact hP, (kmv_C D cA).1 s U hW hK⟩⟩ rfl hnn hsz hst (lv_room hW) hdg hcl) hS (fun _ _ h => h) (fun _ h => h) (fun r' V t H1 locs1 ht _ hp hB _ _ hS1 => kk r' V H1 locs1 hp (by rw [← ht]; exact hB) hS1)
theorem x_pO {post : Int32 → Prop} (hC : CallFix p m c cc nL s args lw_all own) (hK : KC D cA s) (hP : XW D cA ad n f0 ρ r U H) (hrc : ∃ cell : Cell, H[b]? = some cell ∧ cell.vm.isStatics = false ∧ s.vm.findClass C = some cell.cls) (hM : XP l D cA ad n f0 ρ r U y bytes L ret d (.ref b :: As) post) (cv : COV own C owner index x y bytes L ret nn) (hnn : As.length = nn) (hst : st = As.reverse ++ .ref b :: rest) (hsz : ls.size = nL) (hW : (rest.map fun v => v.category).sum ≤ 8) (hdg : decode cc pc = .ok (.invokevirtual index, 3)) (hR : d + 1 ≤ R.frames ∧ 8 + (L + 11) + 64 * d ≤ R.locals) (hcl : cells ≤ R.cells ∧ slots ≤ R.slots)
    (kk : ∀ r : Int32, post r → W p l e R s m args below meth c H locs cells slots Q (F0 m (pc + 3) ls (.int r :: rest))) : W p l e R s m args below meth c H locs cells slots Q (F0 m pc ls st) := by
  obtain ⟨h1, ⟨b0, m0, r0, h2⟩, h3⟩ := cv
  exact cp_run (va_runU hC hM (va_cwO nn hC.2.2.2.2 h1 rfl rfl rfl h2 h3 hR) ⟨cv_blind (kmv_C D cA), hrc, fun U hU hW => ⟨rfl, by rw [hU]; exact hP, (kmv_C D cA).1 s U hW hK⟩⟩ rfl hnn hsz hst (lv_room hW) hdg hcl) kk
theorem x_iO {post : Int32 → (Nat → Nat → Nat → Int32) → Prop} (hC : CallFix p m c cc nL s args lw_all own) (hK : KC D cA s) (hP : XW D cA ad n f0 ρ r U H) (hS : va_S A H0 H locs) (hrc : ∃ cell : Cell, H[b]? = some cell ∧ cell.vm.isStatics = false ∧ s.vm.findClass C = some cell.cls) (hM : XI l D cA ad n f0 ρ r U A y bytes L ret d (.ref b :: As) post) (cv : COV own C owner index x y bytes L ret nn) (hnn : As.length = nn) (hst : st = As.reverse ++ .ref b :: rest) (hsz : ls.size = nL) (hW : (rest.map fun v => v.category).sum ≤ 8) (hdg : decode cc pc = .ok (.invokevirtual index, 3)) (hR : d + 1 ≤ R.frames ∧ 8 + (L + 11) + 64 * d ≤ R.locals) (hcl : cells ≤ R.cells ∧ slots ≤ R.slots)
    (kk : ∀ (r' : Int32) (V : Nat → Nat → Nat → Int32) (H1 : Heap) (locs1 : List Loc), post r' V → XW D cA ad n f0 ρ r V H1 → va_S A H0 H1 locs1 → W p l e R s m args below meth c H1 locs1 cells slots Q (F0 m (pc + 3) ls (.int r' :: rest))) : W p l e R s m args below meth c H locs cells slots Q (F0 m pc ls st) := by
  obtain ⟨h1, ⟨b0, m0, r0, h2⟩, h3⟩ := cv
  exact va_calli (va_runU hC hM (va_cwO nn hC.2.2.2.2 h1 rfl rfl rfl h2 h3 hR) ⟨cv_blind (kmv_C D cA), hrc, fun U hU hW => ⟨rfl, by rw [hU]; exact hP, (kmv_C D cA).1 s U hW hK⟩⟩ rfl hnn hsz hst (lv_room hW) hdg hcl) hS (fun _ _ h => h) (fun _ h => h) (fun r' V t H1 locs1 ht _ hp hB _ _ hS1 => kk r' V H1 locs1 hp (by rw [← ht]; exact hB) hS1)
end CXU
