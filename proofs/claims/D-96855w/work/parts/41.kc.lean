/-! what the class's methods know of the tables beside the common words -/
def mvw : Cond → Bool
  | .fieldLinkNest .. => true
  | .methodLinkNest .. => true
  | .declares _ => true
  | .castable .. => true
  | .publicMethod _ => true
  | .unhidden .. => true
  | .interfaceMethod r o n d => (Cond.interfaceMethod r o n d).faceAtom
  | _ => false
theorem mvw_tabs {w : Cond} (h : mvw w = true) : w.onTables = true := by
  cases w <;> first | rfl | (simp [mvw] at h)
theorem mvw_mv {w : Cond} (h : mvw w = true) {s U : State} (hW : s.WarmedH U.vm) (hZ : va_Nw w s) : va_Nw w U := by
  have ht := mvw_tabs h
  have hb : w.before #[] (s.setVm U.vm) = true := by
    cases w <;> first
      | (simp [mvw] at h; done)
      | exact Cond.fieldLinkNest_warmed (args := #[]) hW hZ
      | exact Cond.methodLinkNest_warmed (args := #[]) hW hZ
      | exact Cond.before_warmed hW _ trivial hZ
      | exact Cond.before_warmed hW _ h hZ
  exact va_tabs ht (rfl : (s.setVm U.vm).vm = U.vm) hb
/-! a call that lands in an interface's default -/
theorem al_any {v w : Vm} (h : v.Alike w) (f : Class → Bool) (hf : ∀ k : Class, f k.bare = f k) (c : ClassId) : (w.classes[c]?).any f = (v.classes[c]?).any f := by
  cases hk : v.classes[c]? with
  | none => rw [h.none hk]
  | some k =>
    obtain ⟨k', hk', he⟩ := h.2.2 _ _ hk
    rw [hk']
    show f k' = f k
    rw [← hf k', Class.bare_of he, hf]
theorem al_near {v w : Vm} (h : v.Alike w) (c : ClassId) (nm ds : String) : nearestHeld w c nm ds = nearestHeld v c nm ds := by
  have e1 : superinterfaceMethods w = superinterfaceMethods v := by rw [← superinterfaceMethods_bare w, h.bare_eq, superinterfaceMethods_bare]
  have e2 : maximallySpecific w = maximallySpecific v := by rw [← maximallySpecific_bare w, h.bare_eq, maximallySpecific_bare]
  simp only [nearestHeld, held, h.superclasses, h.declaredIn, h.superinterfaces, h.method?, e1, e2, al_any h (·.isInterface) (fun _ => rfl), al_any h (fun x => x.methods.any fun m => !m.isAbstract && !m.isStatic) (fun _ => rfl), al_any h (fun x => x.interfaces.any _) (fun _ => rfl)]
theorem ld_tab {C : String} {x y : MethodName} {A A' : Array Value} {u U : State} (h : u.vm = U.vm) (hb : (Cond.landsInDefault C x y).before A u = true) : (Cond.landsInDefault C x y).before A' U = true := by
  have e : (Cond.landsInDefault C x y).before A (u.setVm U.vm) = (Cond.landsInDefault C x y).before A' (U.setVm U.vm) := rfl
  have h1 : u.setVm U.vm = u := by rw [← h]; rfl
  have h2 : U.setVm U.vm = U := rfl
  rw [h1, h2] at e
  rw [← e]
  exact hb
theorem ld_mv {C : String} {x y : MethodName} {s U : State} (hW : s.WarmedH U.vm) (hZ : va_Nw (.landsInDefault C x y) s) : va_Nw (.landsInDefault C x y) U := by
  have h := hW.alike
  have e : (Cond.landsInDefault C x y).before #[] (s.setVm U.vm) = (Cond.landsInDefault C x y).before #[] s := by
    simp only [Cond.before, Cond.holds, Cond.value, State.vm_setVm, h.findClass, State.methodFound?_setVm h, State.methodNamed?_setVm h, h.selectMethod, h.method?, h.superclasses, h.declaredIn, al_near h, al_any h (·.isInterface) (fun _ => rfl)]
  exact ld_tab (rfl : (s.setVm U.vm).vm = U.vm) (e.trans hZ)
def wN (c n d : String) : MethodName := ⟨c, n, d⟩
def sgW : String := "(LWheelBrook$Sees;I)I"
def sgT : String := "(ILWheelBrook$Trace;)I"
/-- class, reference, default -/
def dfW : List (String × MethodName × MethodName) := [(RX9, wN RX9 "turned" sgT, wN RX17 "turned" sgT), (RX9, wN RX16 "shows" sgW, wN RX16 "shows" sgW), (RX9, wN RX6 "turned" sgT, wN RX17 "turned" sgT), (RX8, wN RX16 "turnsBy" sgW, wN RX16 "turnsBy" sgW), (RX10, wN RX7 "turned" sgT, wN RX17 "turned" sgT), (RX10, wN RX6 "turned" sgT, wN RX17 "turned" sgT), (RX7, wN RX7 "turned" sgT, wN RX17 "turned" sgT), (RX7, wN RX16 "shows" sgW, wN RX16 "shows" sgW), (RX7, wN RX6 "turned" sgT, wN RX17 "turned" sgT), (RX12, wN RX16 "shows" sgW, wN RX16 "shows" sgW), (RX6, wN RX16 "shows" sgW, wN RX16 "shows" sgW), (RX6, wN RX16 "turnsBy" sgW, wN RX16 "turnsBy" sgW), (RX6, wN RX16 "wants" sgW, wN RX16 "wants" sgW), (RX6, wN RX6 "shows" sgW, wN RX16 "shows" sgW), (RX6, wN RX6 "turned" sgT, wN RX17 "turned" sgT), (RX6, wN RX6 "turnsBy" sgW, wN RX16 "turnsBy" sgW), (RX6, wN RX6 "wants" sgW, wN RX16 "wants" sgW)]
theorem sd_ok : defaultWords_1.all (fun w => w.onTables && w.keeps) = true := by decide +kernel
theorem sd_mv {w : Cond} (hw : w ∈ defaultWords_1) {s U : State} (hW : s.WarmedH U.vm) (hZ : va_Nw w s) : va_Nw w U := word_at hW (Or.inl (List.all_eq_true.mp sd_ok w hw)) hZ
/-- pairs of classes of which the first is no kind of the second -/
def ncW : List (String × String) := [("[S", "[B"), ("[I", "[B"), ("[I", "[S")] ++ ([RX6, RX7, RX8, RX9, RX10, RX11, RX12].flatMap fun a => [RX7, RX8, RX9, RX10, RX11, RX12].filterMap fun b => if a = b ∨ (a = RX10 ∧ b = RX7) ∨ (a = RX11 ∧ b = RX9) then none else some (a, b))
def KC (D : va_G) (cA : Nat → ClassId) (s : State) : Prop := va_K D cl (tyA cA) s ∧ (∀ w ∈ lw_tbl, mvw w = true → va_Nw w s) ∧ (va_AO RX2 s ∧ va_AO RX14 s) ∧ (∀ q ∈ dfW, va_Nw (.landsInDefault q.1 q.2.1 q.2.2) s) ∧ (∀ q ∈ ncW, va_Nc q.1 q.2 s) ∧ (∀ w ∈ defaultWords_1, va_Nw w s)
theorem kmv_C (D : va_G) (cA : Nat → ClassId) : Kmv (KC D cA) := by
  refine ⟨fun s U hW h => ⟨va_K.moved hW.alike h.1, fun w h1 h2 => mvw_mv h2 hW (h.2.1 w h1 h2), ⟨va_AO.moved hW.alike h.2.2.1.1, va_AO.moved hW.alike h.2.2.1.2⟩, fun q hq => ld_mv hW (h.2.2.2.1 q hq), fun q hq => va_Nc.moved hW.alike (h.2.2.2.2.1 q hq), fun w hw => sd_mv hw hW (h.2.2.2.2.2 w hw)⟩, fun U g mk a h => ?_⟩
  have hA : U.vm.Alike (U.calling g mk a).vm := Vm.Alike.refl U.vm
  exact ⟨va_K.moved (u := U) (U := U.calling g mk a) hA h.1, fun w h1 h2 => va_Nw.same (mvw_tabs h2) (rfl : U.vm = (U.calling g mk a).vm) (h.2.1 w h1 h2), ⟨va_AO.moved hA h.2.2.1.1, va_AO.moved hA h.2.2.1.2⟩, fun q hq => ld_tab (rfl : U.vm = (U.calling g mk a).vm) (h.2.2.2.1 q hq), fun q hq => va_Nc.moved hA (h.2.2.2.2.1 q hq), fun w hw => va_Nw.same (by have := List.all_eq_true.mp sd_ok w hw; simp only [Bool.and_eq_true] at this; exact this.1) (rfl : U.vm = (U.calling g mk a).vm) (h.2.2.2.2.2 w hw)⟩
