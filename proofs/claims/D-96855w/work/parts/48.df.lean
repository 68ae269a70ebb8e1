/-! a class's chain upwards: what lies in it is met within as many steps as there are classes -/
theorem pg_len : ∀ (n : Nat) (l : List Nat), l.Nodup → (∀ x ∈ l, x < n) → l.length ≤ n
  | 0, l, _, h => by
    cases l with
    | nil => simp
    | cons x t => exact absurd (h x List.mem_cons_self) (by omega)
  | n + 1, l, hn, h => by
    by_cases hm : n ∈ l
    · have h1 := pg_len n (l.erase n) (hn.erase n) (fun x hx => by
        have h2 := (List.Nodup.mem_erase_iff hn).mp hx
        have := h x h2.2
        have := h2.1
        omega)
      have h3 := List.length_erase_of_mem hm
      omega
    · have h1 := pg_len n l hn (fun x hx => by
        have := h x hx
        have : x ≠ n := fun z => hm (z ▸ hx)
        omega)
      omega
def up_ (vm : Vm) (c : ClassId) : Option ClassId := vm.classes[c]?.bind (·.super)
def it_ (vm : Vm) : Nat → ClassId → Option ClassId
  | 0, c => some c
  | j + 1, c => (up_ vm c).bind (it_ vm j)
theorem it_add (vm : Vm) : ∀ (a b : Nat) (c x : ClassId), it_ vm a c = some x → it_ vm (a + b) c = it_ vm b x
  | 0, b, c, x, h => by
    cases h
    rw [Nat.zero_add]
  | a + 1, b, c, x, h => by
    rw [Nat.add_right_comm]
    simp only [it_] at h ⊢
    cases hu : up_ vm c with
    | none => rw [hu] at h; cases h
    | some p =>
      rw [hu] at h
      exact it_add vm a b p x h
theorem it_lt (vm : Vm) {j i : Nat} {c t : ClassId} (h : it_ vm j c = some t) (hi : i < j) : ∃ x, it_ vm i c = some x ∧ x < vm.classes.size := by
  obtain ⟨b, rfl⟩ : ∃ b, j = i + (b + 1) := ⟨j - i - 1, by omega⟩
  have hsome : ∀ (i : Nat) (c : ClassId), it_ vm (i + (b + 1)) c = some t → ∃ x, it_ vm i c = some x := by
    intro i
    induction i with
    | zero => intro c _; exact ⟨c, rfl⟩
    | succ i ih =>
      intro c h
      have e : i + 1 + (b + 1) = (i + (b + 1)) + 1 := by omega
      rw [e] at h
      simp only [it_] at h ⊢
      cases hu : up_ vm c with
      | none => rw [hu] at h; cases h
      | some p =>
        rw [hu] at h
        exact ih p h
  obtain ⟨x, hx⟩ := hsome i c h
  refine ⟨x, hx, ?_⟩
  rw [it_add vm i (b + 1) c x hx] at h
  simp only [it_, up_] at h
  cases hk : vm.classes[x]? with
  | none => rw [hk] at h; cases h
  | some k => exact (Array.getElem?_eq_some_iff.mp hk).1
theorem it_few (vm : Vm) {c t : ClassId} : ∀ (m j : Nat), j ≤ m → it_ vm j c = some t → ∃ j', j' ≤ vm.classes.size ∧ it_ vm j' c = some t := by
  intro m
  induction m with
  | zero => intro j hj h; exact ⟨j, by omega, h⟩
  | succ m ih =>
    intro j hj h
    rcases Nat.lt_or_ge vm.classes.size j with hlt | hge
    · have hx : ∀ i, i < j → ∃ x, it_ vm i c = some x ∧ x < vm.classes.size := fun i hi => it_lt vm h hi
      have : ∃ a b, a < b ∧ b < j ∧ it_ vm a c = it_ vm b c := by
        refine Classical.byContradiction fun hno => ?_
        have hl : ((List.range j).map (fun i => (it_ vm i c).getD 0)).length ≤ vm.classes.size := by
          refine pg_len _ _ ?_ ?_
          · refine List.pairwise_iff_getElem.mpr (fun a b ha hb hab => ?_)
            simp only [List.length_map, List.length_range] at ha hb
            simp only [List.getElem_map, List.getElem_range]
            intro e
            obtain ⟨x, h1, _⟩ := hx a ha
            obtain ⟨y, h2, _⟩ := hx b hb
            rw [h1, h2] at e
            exact hno ⟨a, b, hab, hb, by rw [h1, h2]; exact congrArg some e⟩
          · intro x hm
            obtain ⟨i, hi, rfl⟩ := List.mem_map.mp hm
            obtain ⟨y, h1, h2⟩ := hx i (List.mem_range.mp hi)
            rw [h1]
            exact h2
        simp only [List.length_map, List.length_range] at hl
        omega
      obtain ⟨a, b, hab, hb, e⟩ := this
      obtain ⟨x, h1, _⟩ := hx b hb
      have h2 : it_ vm (b + (j - b)) c = it_ vm (j - b) x := it_add vm b (j - b) c x h1
      have h3 : it_ vm (a + (j - b)) c = it_ vm (j - b) x := it_add vm a (j - b) c x (e.trans h1)
      have h4 : it_ vm (a + (j - b)) c = some t := by
        rw [h3, ← h2, show b + (j - b) = j by omega]
        exact h
      exact ih (a + (j - b)) (by omega) h4
    · exact ⟨j, hge, h⟩
theorem sup_it (vm : Vm) {t : ClassId} : ∀ (f : Nat) (c : ClassId), t ∈ vm.superclassesAux f c → ∃ j, it_ vm j c = some t := by
  intro f
  induction f with
  | zero => intro c h; simp [Vm.superclassesAux] at h
  | succ f ih =>
    intro c h
    unfold Vm.superclassesAux at h
    cases hu : vm.classes[c]?.bind (·.super) with
    | none => rw [hu] at h; simp at h
    | some p =>
      rw [hu] at h
      rcases List.mem_cons.mp h with rfl | h
      · exact ⟨1, by simp [it_, up_, hu]⟩
      · obtain ⟨j, hj⟩ := ih p h
        exact ⟨j + 1, by simp only [it_, up_, hu]; exact hj⟩
theorem it_sub (vm : Vm) {t : ClassId} : ∀ (f j : Nat) (c : ClassId), j < f → it_ vm j c = some t → vm.isSubclassAux f c t = true := by
  intro f
  induction f with
  | zero => intro j c h; omega
  | succ f ih =>
    intro j c hj h
    unfold Vm.isSubclassAux
    by_cases e : c = t
    · simp [e]
    · cases j with
      | zero => cases h; exact absurd rfl e
      | succ j =>
        simp only [it_, up_] at h
        cases hk : vm.classes[c]? with
        | none => rw [hk] at h; cases h
        | some k =>
          rw [hk] at h
          simp only [Option.bind_some] at h
          cases hs : k.super with
          | none => rw [hs] at h; cases h
          | some p =>
            rw [hs] at h
            simp only [hs]
            rw [ih j p (by omega) h]
            simp
/-- nothing is declared in the chain -/
theorem chain_none {vm : Vm} {c : ClassId} {name desc : String} (h : lookupInSuperclasses vm name desc (vm.classes.size + 1) c = none) {t : ClassId} (ht : t = c ∨ t ∈ vm.superclasses c) {kt : Class} (hkt : vm.classes[t]? = some kt) : kt.findMethod name desc = none := by
  cases hf : kt.findMethod name desc with
  | none => rfl
  | some i =>
    have hj : ∃ j, it_ vm j c = some t := by
      rcases ht with rfl | ht
      · exact ⟨0, rfl⟩
      · exact sup_it vm _ c ht
    obtain ⟨j, hj⟩ := hj
    obtain ⟨j', h1, h2⟩ := it_few vm j j (Nat.le_refl _) hj
    have h3 := lookupInSuperclasses_isSome vm name desc hkt hf _ c (it_sub vm (vm.classes.size + 1) j' c (by omega) h2)
    rw [h] at h3
    cases h3
theorem look_sub (vm : Vm) (name desc : String) {m : MethodId} : ∀ (f : Nat) (c : ClassId), lookupInSuperclasses vm name desc f c = some m → vm.isSubclassAux f c m.cls = true := by
  intro f
  induction f with
  | zero => intro c h; simp [lookupInSuperclasses] at h
  | succ f ih =>
    intro c h
    unfold lookupInSuperclasses at h
    unfold Vm.isSubclassAux
    cases hk : vm.classes[c]? with
    | none => simp [hk] at h
    | some k =>
      simp only [hk, Option.bind_eq_bind, Option.bind_some] at h
      cases hf : k.findMethod name desc with
      | some i =>
        simp only [hf, Option.some.injEq] at h
        rw [← h]
        simp
      | none =>
        simp only [hf] at h
        cases hs : k.super with
        | none => simp [hs] at h
        | some q =>
          simp only [hs, Option.bind_some] at h
          simp only [hs]
          rw [ih q h]
          simp
theorem sel_sub (vm : Vm) (mR : MethodId) (name desc : String) {m : MethodId} : ∀ (f : Nat) (c : ClassId), selectInSuperclasses vm mR name desc f c = some m → vm.isSubclassAux f c m.cls = true := by
  intro f
  induction f with
  | zero => intro c h; simp [selectInSuperclasses] at h
  | succ f ih =>
    intro c h
    unfold selectInSuperclasses at h
    unfold Vm.isSubclassAux
    cases hk : vm.classes[c]? with
    | none => simp [hk] at h
    | some k =>
      simp only [hk, Option.bind_eq_bind, Option.bind_some] at h
      have hcase : (∃ i, m = ⟨c, i⟩) ∨ k.super.bind (selectInSuperclasses vm mR name desc f) = some m := by
        cases hf : k.findMethod name desc with
        | none => right; simpa [hf] using h
        | some i =>
          simp only [hf, Option.bind_some] at h
          by_cases hc : ((⟨c, i⟩ : MethodId) == mR || canOverride vm ⟨c, i⟩ mR) = true
          · rw [if_pos hc] at h
            left
            exact ⟨i, by simpa using h.symm⟩
          · rw [if_neg hc] at h
            right
            simpa using h
      rcases hcase with ⟨i, rfl⟩ | h2
      · simp
      · cases hs : k.super with
        | none => rw [hs] at h2; cases h2
        | some q =>
          rw [hs] at h2
          simp only [hs]
          rw [ih q h2]
          simp
theorem ls_default {vm : Vm} {c : ClassId} {k km : Class} {name desc : String} {m : MethodId} {meth : Method} (hk : vm.classes[c]? = some k) (hni : k.isInterface = false) (hl : vm.lookupUp c name desc = some m) (hkm : vm.classes[m.cls]? = some km) (hitf : km.isInterface = true) (hdecl : km.findMethod name desc = some m.idx) (hm : vm.method? m = some meth) (hst : meth.isStatic = false) (hpr : meth.isPrivate = false) (hnm : meth.name = name) (hds : meth.desc = desc) (hsel : selectMethod {} vm c m = .method m) : lookupSpecial vm c name desc = .method m := by
  by_cases hsub : vm.isSubclass c m.cls = true
  · exact lookupSpecial_of_declared hk hni hl hkm hdecl hsub hm hst
  · have h1 : lookupInSuperclasses vm name desc (vm.classes.size + 1) c = none := by
      cases h2 : lookupInSuperclasses vm name desc (vm.classes.size + 1) c with
      | none => rfl
      | some m' =>
        simp only [Vm.lookupUp, h2, Option.some_or, Option.some.injEq] at hl
        subst hl
        exact absurd (look_sub vm name desc _ c h2) hsub
    have h3 : (maximallySpecific vm c name desc).filter (fun m => (vm.method? m).any (!·.isAbstract)) = [m] := by
      unfold selectMethod at hsel
      simp only [hm, hpr, Bool.false_eq_true, if_false, hnm, hds] at hsel
      split at hsel
      · cases hsel
      · have e : (vm.classes[m.cls]?).any (·.isInterface) = true := by rw [hkm]; exact hitf
        rw [e] at hsel
        simp only [Bool.not_true, Bool.and_false, Bool.false_eq_true, if_false] at hsel
        split at hsel
        · rename_i m' hs
          cases hsel
          exact absurd (sel_sub vm _ name desc _ c hs) hsub
        · split at hsel
          · rename_i m' hs
            cases hsel
            exact hs
          · cases hsel
          · cases hsel
    have h4 : (vm.classes[c]?.bind (·.findMethod name desc)) = none := by
      rw [hk]
      exact chain_none h1 (Or.inl rfl) hk
    have h5 : superclassMethods vm c name desc = [] := by
      unfold superclassMethods
      refine List.filterMap_eq_nil_iff.mpr (fun p hp => ?_)
      cases hkp : vm.classes[p]? with
      | none => rfl
      | some kp =>
        rw [Option.bind_some, chain_none h1 (Or.inr hp) hkp]
        rfl
    unfold lookupSpecial
    rw [h4, h5]
    simp only [Option.map_none, Option.toList_none, List.filter_nil, List.append_nil, List.find?_nil, h3]
/-- what landsInDefault says -/
theorem ld_spec {A : Array Value} {s : State} {C : String} {x y : MethodName} (h : (Cond.landsInDefault C x y).before A s = true) : ∃ c r m rm mk, s.vm.findClass C = some c ∧ s.methodFound? x.cls x.name x.desc = some r ∧ s.methodNamed? y = some m ∧ s.vm.method? r = some rm ∧ selectMethod {} s.vm c r = .method m ∧ s.vm.classes[m.cls]? = some mk ∧ mk.isInterface = true ∧ rm.isPrivate = false ∧ ((c :: s.vm.superclasses c).any fun k => (declaredIn s.vm rm.name rm.desc k).any fun d => d.2.isPrivate || d.2.isStatic) = false ∧ (∀ k d, nearestHeld s.vm c rm.name rm.desc = some (k, .default d) → d = m) ∧ ∀ k b, nearestHeld s.vm c rm.name rm.desc ≠ some (k, .thrower b) := by
  simp only [Cond.before, Cond.holds, Cond.value] at h
  cases h1 : s.vm.findClass C with
  | none => simp [h1] at h
  | some c =>
    cases h2 : s.methodFound? x.cls x.name x.desc with
    | none => simp [h1, h2] at h
    | some r =>
      cases h3 : s.methodNamed? y with
      | none => simp [h1, h2, h3] at h
      | some m =>
        cases h4 : s.vm.method? r with
        | none => simp [h1, h2, h3, h4] at h
        | some rm =>
          simp only [h1, h2, h3, h4, Option.map_some, beq_iff_eq, Option.some.injEq] at h
          cases h5 : selectMethod {} s.vm c r with
          | method m' =>
            rw [h5] at h
            simp only [Bool.and_eq_true, decide_eq_true_eq, Bool.not_eq_true', Option.any_eq_true] at h
            obtain ⟨⟨⟨⟨e, mk, hmk, hi⟩, hp⟩, hw⟩, hn⟩ := h
            subst e
            refine ⟨c, r, m', rm, mk, rfl, rfl, rfl, h4, h5, hmk, hi, hp, hw, fun k d hk => ?_, fun k b hk => ?_⟩
            · rw [hk] at hn
              simpa using hn
            · rw [hk] at hn
              cases hn
          | none => rw [h5] at h; cases h
          | several => rw [h5] at h; cases h
          | refused => rw [h5] at h; cases h
