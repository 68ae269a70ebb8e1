/-! the frame's variables as a list of options -/
def lh (ls : Array Slot) (L : List (Option Value)) : Prop := ls.size = L.length ∧ lv_wf ls ∧ ∀ (i : Nat) (v : Value), L[i]? = some (some v) → ls[i]? = some (.val v)
theorem lh.at {ls : Array Slot} {L : List (Option Value)} (h : lh ls L) {i : Nat} {v : Value} (hi : L[i]? = some (some v)) : ls[i]? = some (.val v) := h.2.2 i v hi
theorem lh.sub {ls : Array Slot} {L L' : List (Option Value)} (h : lh ls L) (hs : L'.length = L.length) (hq : ∀ (i : Nat) (v : Value), L'[i]? = some (some v) → L[i]? = some (some v)) : lh ls L' := ⟨h.1.trans hs.symm, h.2.1, fun i v hi => h.2.2 i v (hq i v hi)⟩
def lh_mask : List Bool → List (Option Value) → List (Option Value)
  | true :: bs, v :: L => v :: lh_mask bs L
  | false :: bs, _ :: L => none :: lh_mask bs L
  | [], L => L
  | _ :: _, [] => []
theorem lh_mask_len : ∀ (bs : List Bool) (L : List (Option Value)), (lh_mask bs L).length = L.length
  | true :: bs, v :: L => by simp [lh_mask, lh_mask_len bs L]
  | false :: bs, v :: L => by simp [lh_mask, lh_mask_len bs L]
  | [], L => by simp [lh_mask]
  | true :: bs, [] => by simp [lh_mask]
  | false :: bs, [] => by simp [lh_mask]
theorem lh_mask_at : ∀ (bs : List Bool) (L : List (Option Value)) (i : Nat) (v : Value), (lh_mask bs L)[i]? = some (some v) → L[i]? = some (some v)
  | true :: bs, u :: L, i, v, h => by
    cases i with
    | zero => simpa [lh_mask] using h
    | succ i => simpa using lh_mask_at bs L i v (by simpa [lh_mask] using h)
  | false :: bs, u :: L, i, v, h => by
    cases i with
    | zero => simp [lh_mask] at h
    | succ i => simpa using lh_mask_at bs L i v (by simpa [lh_mask] using h)
  | [], L, i, v, h => by simpa [lh_mask] using h
  | true :: bs, [], i, v, h => by simp [lh_mask] at h
  | false :: bs, [], i, v, h => by simp [lh_mask] at h
theorem lh.mask {ls : Array Slot} {L : List (Option Value)} (h : lh ls L) (bs : List Bool) : lh ls (lh_mask bs L) := h.sub (lh_mask_len bs L) (lh_mask_at bs L)
def lh_as (L : List (Option Value)) : List (Nat × Value) := (List.range L.length).filterMap (fun i => (L[i]?.join).map (fun v => (i, v)))
theorem lh_as_mem {L : List (Option Value)} {q : Nat × Value} : q ∈ lh_as L ↔ L[q.1]? = some (some q.2) := by
  constructor
  · intro h
    obtain ⟨i, hi, e⟩ := List.mem_filterMap.mp h
    cases hL : L[i]? with
    | none => simp [hL] at e
    | some o =>
      cases o with
      | none => simp [hL] at e
      | some v =>
        simp [hL] at e
        subst e
        exact hL
  · intro h
    refine List.mem_filterMap.mpr ⟨q.1, List.mem_range.mpr (List.getElem?_eq_some_iff.mp h).1, ?_⟩
    simp [h]
theorem lh.has {ls : Array Slot} {L : List (Option Value)} (h : lh ls L) : lv_has ls L.length (lh_as L) := ⟨h.1, h.2.1, fun q hq => h.2.2 _ _ (lh_as_mem.mp hq)⟩
def lh_pre (L : List (Option Value)) : Nat → Bool
  | 0 => true
  | j + 1 => match L[j]? with
    | some (some v) => Nat.beq v.category 1
    | _ => true
def lh_ok (L : List (Option Value)) (i : Nat) : Bool := Nat.blt i L.length && lh_pre L i
theorem lh_ok_lt {L : List (Option Value)} {i : Nat} (h : lh_ok L i = true) : i < L.length := by
  simp only [lh_ok, Bool.and_eq_true] at h
  exact Nat.lt_of_lt_of_le (Nat.lt_succ_self i) (Nat.le_of_ble_eq_true h.1)
theorem lh_back {ls' : Array Slot} {L : List (Option Value)} {i : Nat} {v : Value} (hok : lh_ok L i = true) (h' : lv_has ls' L.length ((i, v) :: (lh_as L).filter (fun q => !(q.1 == i) && !(q.1 + 1 == i && q.2.category == 2)))) : lh ls' (L.set i (some v)) := by
  have hi := lh_ok_lt hok
  refine ⟨by rw [h'.1]; simp, h'.2.1, fun j w hj => ?_⟩
  by_cases hji : j = i
  · subst hji
    rw [List.getElem?_set_self hi] at hj
    cases hj
    exact h'.2.2 (j, v) List.mem_cons_self
  · rw [List.getElem?_set_ne (Ne.symm hji)] at hj
    refine h'.2.2 (j, w) (List.mem_cons_of_mem _ (List.mem_filter.mpr ⟨lh_as_mem.mpr hj, ?_⟩))
    by_cases h1 : j + 1 = i
    · subst h1
      have hw : w.category = 1 := by
        simp only [lh_ok, lh_pre, hj, Bool.and_eq_true] at hok
        exact Nat.eq_of_beq_eq_true hok.2
      simp [hw]
    · simp [hji, h1]
def argA (vs : List Value) : List (Option Value) := vs.flatMap fun v => if v.category = 2 then [some v, none] else [some v]
def argL (vs : List Value) (n : Nat) : List (Option Value) := argA vs ++ List.replicate (n - (argA vs).length) none
theorem argA_len (vs : List Value) : (argA vs).length = (lg_sl vs).length := by
  induction vs with
  | nil => rfl
  | cons u t ih =>
    simp only [argA, lg_sl, List.flatMap_cons, List.length_append] at ih ⊢
    rw [ih]
    by_cases hc : u.category = 2 <;> simp [hc]
theorem argA_rel (vs : List Value) : ∀ (k k' i : Nat) (v : Value), (argA vs ++ List.replicate k none)[i]? = some (some v) → (lg_sl vs ++ List.replicate k' Slot.unset)[i]? = some (.val v) := by
  induction vs with
  | nil =>
    intro k k' i v h
    simp [argA, List.getElem?_replicate] at h
  | cons u t ih =>
    intro k k' i v h
    have e1 : argA (u :: t) = (if u.category = 2 then [some u, none] else [some u]) ++ argA t := by simp [argA]
    have e2 : lg_sl (u :: t) = (if u.category = 2 then [.val u, .second] else [.val u]) ++ lg_sl t := by simp [lg_sl]
    rw [e1] at h
    rw [e2]
    by_cases hc : u.category = 2
    · rw [if_pos hc] at h ⊢
      match i, h with
      | 0, h =>
        simp at h
        subst h
        simp
      | 1, h => simp at h
      | i + 2, h =>
        have := ih k k' i v (by simpa using h)
        simpa using this
    · rw [if_neg hc] at h ⊢
      match i, h with
      | 0, h =>
        simp at h
        subst h
        simp
      | i + 1, h =>
        have := ih k k' i v (by simpa using h)
        simpa using this
theorem lh_entry (vs : List Value) {n : Nat} (h : (lg_sl vs).length ≤ n) : lh ((lg_sl vs ++ List.replicate (n - (lg_sl vs).length) Slot.unset).toArray) (argL vs n) := by
  have key := lv_entry vs h
  refine ⟨?_, key.2.1, fun i v hi => ?_⟩
  · rw [key.1]
    have := argA_len vs
    simp [argL]
    omega
  · have := argA_rel vs _ (n - (lg_sl vs).length) i v hi
    simpa using this
section LR
variable {p : Program} {l : Launch} {e : Env} {R : Room} {s : State} {m : MethodId} {args : Array Value} {below : List Frame} {meth : Method} {c : Code} {H : Heap} {locs : List Loc} {cells slots : Nat} {Q : State → Prop}
variable {cc : ByteArray} {pc : Nat} {ls : Array Slot} {rest : List Value} {L : List (Option Value)}
theorem l_istore_n (hx : p.tables.exec = Jvm.exec) (hb : c.code = cc) {k : Fin 4} {x : Int32} (i : Nat) (hdg : decode cc pc = .ok (.istore_n k, 1)) (hi : (k : Nat) = i) (hl : lh ls L) (hok : lh_ok L i = true) (kk : ∀ ls' : Array Slot, lh ls' (L.set i (some (.int x))) → W p l e R s m args below meth c H locs cells slots Q (F0 m (pc + 1) ls' rest)) : W p l e R s m args below meth c H locs cells slots Q (F0 m pc ls (.int x :: rest)) :=
  lv_istore_n hx hb hdg hi hl.has (lh_ok_lt hok) rfl (fun ls' h' => kk ls' (lh_back hok h'))
theorem l_istore (hx : p.tables.exec = Jvm.exec) (hb : c.code = cc) {x : Int32} (i : Nat) (hdg : decode cc pc = .ok (.istore i, 2)) (hl : lh ls L) (hok : lh_ok L i = true) (kk : ∀ ls' : Array Slot, lh ls' (L.set i (some (.int x))) → W p l e R s m args below meth c H locs cells slots Q (F0 m (pc + 2) ls' rest)) : W p l e R s m args below meth c H locs cells slots Q (F0 m pc ls (.int x :: rest)) :=
  lv_istore hx hb hdg hl.has (lh_ok_lt hok) rfl (fun ls' h' => kk ls' (lh_back hok h'))
theorem l_astore_n (hx : p.tables.exec = Jvm.exec) (hb : c.code = cc) {k : Fin 4} {x : Nat} (i : Nat) (hdg : decode cc pc = .ok (.astore_n k, 1)) (hi : (k : Nat) = i) (hl : lh ls L) (hok : lh_ok L i = true) (kk : ∀ ls' : Array Slot, lh ls' (L.set i (some (.ref x))) → W p l e R s m args below meth c H locs cells slots Q (F0 m (pc + 1) ls' rest)) : W p l e R s m args below meth c H locs cells slots Q (F0 m pc ls (.ref x :: rest)) :=
  lv_astore_n hx hb hdg hi hl.has (lh_ok_lt hok) rfl (fun ls' h' => kk ls' (lh_back hok h'))
theorem l_astore (hx : p.tables.exec = Jvm.exec) (hb : c.code = cc) {x : Nat} (i : Nat) (hdg : decode cc pc = .ok (.astore i, 2)) (hl : lh ls L) (hok : lh_ok L i = true) (kk : ∀ ls' : Array Slot, lh ls' (L.set i (some (.ref x))) → W p l e R s m args below meth c H locs cells slots Q (F0 m (pc + 2) ls' rest)) : W p l e R s m args below meth c H locs cells slots Q (F0 m pc ls (.ref x :: rest)) :=
  lv_astore hx hb hdg hl.has (lh_ok_lt hok) rfl (fun ls' h' => kk ls' (lh_back hok h'))
theorem l_iinc (hx : p.tables.exec = Jvm.exec) (hb : c.code = cc) {n : Int} {x : Int32} (v : Int32) (i : Nat) (hdg : decode cc pc = .ok (.iinc i n, 3)) (hl : lh ls L) (hi : L[i]? = some (some (.int x))) (hv : x + Int32.ofInt n = v) (hok : lh_ok L i = true) (kk : ∀ ls' : Array Slot, lh ls' (L.set i (some (.int v))) → W p l e R s m args below meth c H locs cells slots Q (F0 m (pc + 3) ls' rest)) : W p l e R s m args below meth c H locs cells slots Q (F0 m pc ls rest) := by
  obtain ⟨k, hk⟩ := List.getElem?_of_mem (lh_as_mem.mpr hi : (i, Value.int x) ∈ lh_as L)
  exact lv_iinc hx hb hdg hl.has hk hv (lh_ok_lt hok) rfl (fun ls' h' => kk ls' (lh_back hok h'))
theorem l_inc1 (hx : p.tables.exec = Jvm.exec) (hb : c.code = cc) {a : Nat} (i : Nat) (hdg : decode cc pc = .ok (.iinc i 1, 3)) (hl : lh ls L) (hi : L[i]? = some (some (.int (nI a)))) (hok : lh_ok L i = true) (kk : ∀ ls' : Array Slot, lh ls' (L.set i (some (.int (nI (a + 1))))) → W p l e R s m args below meth c H locs cells slots Q (F0 m (pc + 3) ls' rest)) : W p l e R s m args below meth c H locs cells slots Q (F0 m pc ls rest) :=
  l_iinc hx hb (nI (a + 1)) i hdg hl hi (nI_1 a) hok kk
theorem l_dec1 (hx : p.tables.exec = Jvm.exec) (hb : c.code = cc) {a : Nat} (i : Nat) (hdg : decode cc pc = .ok (.iinc i (-1), 3)) (hl : lh ls L) (hi : L[i]? = some (some (.int (nI a)))) (h1 : 1 ≤ a) (hok : lh_ok L i = true) (kk : ∀ ls' : Array Slot, lh ls' (L.set i (some (.int (nI (a - 1))))) → W p l e R s m args below meth c H locs cells slots Q (F0 m (pc + 3) ls' rest)) : W p l e R s m args below meth c H locs cells slots Q (F0 m pc ls rest) := by
  obtain ⟨k, rfl⟩ : ∃ k, a = k + 1 := ⟨a - 1, by omega⟩
  exact l_iinc hx hb (nI k) i hdg hl hi (pk_m1 k) hok kk
theorem l_top {x : Int32} (y : Int32) (h : x = y) (k : W p l e R s m args below meth c H locs cells slots Q (F0 m pc ls (.int y :: rest))) : W p l e R s m args below meth c H locs cells slots Q (F0 m pc ls (.int x :: rest)) := by rw [h]; exact k
theorem l_top2 {v : Value} {x : Int32} (y : Int32) (h : x = y) (k : W p l e R s m args below meth c H locs cells slots Q (F0 m pc ls (v :: .int y :: rest))) : W p l e R s m args below meth c H locs cells slots Q (F0 m pc ls (v :: .int x :: rest)) := by rw [h]; exact k
theorem l_addN (hx : p.tables.exec = Jvm.exec) (hb : c.code = cc) {a b : Nat} (hdg : decode cc pc = .ok (.iadd, 1)) (k : W p l e R s m args below meth c H locs cells slots Q (F0 m (pc + 1) ls (.int (nI (a + b)) :: rest))) : W p l e R s m args below meth c H locs cells slots Q (F0 m pc ls (.int (nI b) :: .int (nI a) :: rest)) := lv_iadd hx hb hdg (l_top _ (nI_add a b) k)
theorem l_mulN (hx : p.tables.exec = Jvm.exec) (hb : c.code = cc) {a b : Nat} (hdg : decode cc pc = .ok (.imul, 1)) (k : W p l e R s m args below meth c H locs cells slots Q (F0 m (pc + 1) ls (.int (nI (a * b)) :: rest))) : W p l e R s m args below meth c H locs cells slots Q (F0 m pc ls (.int (nI b) :: .int (nI a) :: rest)) := lv_imul hx hb hdg (l_top _ (pk_mul a b) k)
theorem l_subN (hx : p.tables.exec = Jvm.exec) (hb : c.code = cc) {a b : Nat} (hdg : decode cc pc = .ok (.isub, 1)) (h : b ≤ a) (k : W p l e R s m args below meth c H locs cells slots Q (F0 m (pc + 1) ls (.int (nI (a - b)) :: rest))) : W p l e R s m args below meth c H locs cells slots Q (F0 m pc ls (.int (nI b) :: .int (nI a) :: rest)) := lv_isub hx hb hdg (l_top _ (pk_sub h) k)
theorem l_divN (hx : p.tables.exec = Jvm.exec) (hb : c.code = cc) {a b : Nat} (hdg : decode cc pc = .ok (.idiv, 1)) (ha : a < 2 ^ 31) (h0 : 0 < b) (hb2 : b < 2 ^ 31) (k : W p l e R s m args below meth c H locs cells slots Q (F0 m (pc + 1) ls (.int (nI (a / b)) :: rest))) : W p l e R s m args below meth c H locs cells slots Q (F0 m pc ls (.int (nI b) :: .int (nI a) :: rest)) := lv_idiv hx hb hdg (nI_ne0 h0 hb2) (l_top _ (pk_div ha h0 hb2) k)
theorem l_remN (hx : p.tables.exec = Jvm.exec) (hb : c.code = cc) {a b : Nat} (hdg : decode cc pc = .ok (.irem, 1)) (ha : a < 2 ^ 31) (h0 : 0 < b) (hb2 : b < 2 ^ 31) (k : W p l e R s m args below meth c H locs cells slots Q (F0 m (pc + 1) ls (.int (nI (a % b)) :: rest))) : W p l e R s m args below meth c H locs cells slots Q (F0 m pc ls (.int (nI b) :: .int (nI a) :: rest)) := lv_irem hx hb hdg (nI_ne0 h0 hb2) (l_top _ (pk_rem ha h0 hb2) k)
theorem l_geN (hx : p.tables.exec = Jvm.exec) (hb : c.code = cc) {a b : Nat} {off : Int} (tgt : Nat) (hdg : decode cc pc = .ok (.if_icmp .ge off, 3)) (ht : (pc : Int) + off = (tgt : Int)) (ha : a < 2 ^ 31) (hb2 : b < 2 ^ 31) (kt : b ≤ a → W p l e R s m args below meth c H locs cells slots Q (F0 m tgt ls rest)) (kf : a < b → W p l e R s m args below meth c H locs cells slots Q (F0 m (pc + 3) ls rest)) : W p l e R s m args below meth c H locs cells slots Q (F0 m pc ls (.int (nI b) :: .int (nI a) :: rest)) :=
  lv_icmp_ge hx hb hdg ht (fun h => kt ((nI_leI hb2 ha).mp h)) (fun h => kf (Nat.lt_of_not_le (fun z => h ((nI_leI hb2 ha).mpr z))))
theorem l_ltN (hx : p.tables.exec = Jvm.exec) (hb : c.code = cc) {a b : Nat} {off : Int} (tgt : Nat) (hdg : decode cc pc = .ok (.if_icmp .lt off, 3)) (ht : (pc : Int) + off = (tgt : Int)) (ha : a < 2 ^ 31) (hb2 : b < 2 ^ 31) (kt : a < b → W p l e R s m args below meth c H locs cells slots Q (F0 m tgt ls rest)) (kf : b ≤ a → W p l e R s m args below meth c H locs cells slots Q (F0 m (pc + 3) ls rest)) : W p l e R s m args below meth c H locs cells slots Q (F0 m pc ls (.int (nI b) :: .int (nI a) :: rest)) :=
  lv_icmp_lt hx hb hdg ht (fun h => kt ((nI_ltI ha hb2).mp h)) (fun h => kf (Nat.le_of_not_lt (fun z => h ((nI_ltI ha hb2).mpr z))))
theorem l_gtN (hx : p.tables.exec = Jvm.exec) (hb : c.code = cc) {a b : Nat} {off : Int} (tgt : Nat) (hdg : decode cc pc = .ok (.if_icmp .gt off, 3)) (ht : (pc : Int) + off = (tgt : Int)) (ha : a < 2 ^ 31) (hb2 : b < 2 ^ 31) (kt : b < a → W p l e R s m args below meth c H locs cells slots Q (F0 m tgt ls rest)) (kf : a ≤ b → W p l e R s m args below meth c H locs cells slots Q (F0 m (pc + 3) ls rest)) : W p l e R s m args below meth c H locs cells slots Q (F0 m pc ls (.int (nI b) :: .int (nI a) :: rest)) :=
  lv_icmp_gt hx hb hdg ht (fun h => kt ((nI_ltI hb2 ha).mp h)) (fun h => kf (Nat.le_of_not_lt (fun z => h ((nI_ltI hb2 ha).mpr z))))
theorem l_leN (hx : p.tables.exec = Jvm.exec) (hb : c.code = cc) {a b : Nat} {off : Int} (tgt : Nat) (hdg : decode cc pc = .ok (.if_icmp .le off, 3)) (ht : (pc : Int) + off = (tgt : Int)) (ha : a < 2 ^ 31) (hb2 : b < 2 ^ 31) (kt : a ≤ b → W p l e R s m args below meth c H locs cells slots Q (F0 m tgt ls rest)) (kf : b < a → W p l e R s m args below meth c H locs cells slots Q (F0 m (pc + 3) ls rest)) : W p l e R s m args below meth c H locs cells slots Q (F0 m pc ls (.int (nI b) :: .int (nI a) :: rest)) :=
  lv_icmp_le hx hb hdg ht (fun h => kt ((nI_leI ha hb2).mp h)) (fun h => kf (Nat.lt_of_not_le (fun z => h ((nI_leI ha hb2).mpr z))))
theorem l_eqN (hx : p.tables.exec = Jvm.exec) (hb : c.code = cc) {a b : Nat} {off : Int} (tgt : Nat) (hdg : decode cc pc = .ok (.if_icmp .eq off, 3)) (ht : (pc : Int) + off = (tgt : Int)) (ha : a < 2 ^ 31) (hb2 : b < 2 ^ 31) (kt : a = b → W p l e R s m args below meth c H locs cells slots Q (F0 m tgt ls rest)) (kf : ¬ a = b → W p l e R s m args below meth c H locs cells slots Q (F0 m (pc + 3) ls rest)) : W p l e R s m args below meth c H locs cells slots Q (F0 m pc ls (.int (nI b) :: .int (nI a) :: rest)) :=
  lv_icmp_eq hx hb hdg ht (fun h => kt ((nI_eq ha hb2).mp h)) (fun h => kf (fun z => h ((nI_eq ha hb2).mpr z)))
theorem l_neN (hx : p.tables.exec = Jvm.exec) (hb : c.code = cc) {a b : Nat} {off : Int} (tgt : Nat) (hdg : decode cc pc = .ok (.if_icmp .ne off, 3)) (ht : (pc : Int) + off = (tgt : Int)) (ha : a < 2 ^ 31) (hb2 : b < 2 ^ 31) (kt : ¬ a = b → W p l e R s m args below meth c H locs cells slots Q (F0 m tgt ls rest)) (kf : a = b → W p l e R s m args below meth c H locs cells slots Q (F0 m (pc + 3) ls rest)) : W p l e R s m args below meth c H locs cells slots Q (F0 m pc ls (.int (nI b) :: .int (nI a) :: rest)) :=
  lv_icmp_ne hx hb hdg ht (fun h => kt (fun z => h ((nI_eq ha hb2).mpr z))) (fun h => kf ((nI_eq ha hb2).mp h))
theorem l_ifeq_0 (hx : p.tables.exec = Jvm.exec) (hb : c.code = cc) {off : Int} (tgt : Nat) (hdg : decode cc pc = .ok (.ifCond .eq off, 3)) (ht : (pc : Int) + off = (tgt : Int)) (k : W p l e R s m args below meth c H locs cells slots Q (F0 m tgt ls rest)) : W p l e R s m args below meth c H locs cells slots Q (F0 m pc ls (.int 0 :: rest)) := lv_if_eq hx hb hdg ht (fun _ => k) (fun h => absurd rfl h)
theorem l_ifeq_1 (hx : p.tables.exec = Jvm.exec) (hb : c.code = cc) {off : Int} (tgt : Nat) (hdg : decode cc pc = .ok (.ifCond .eq off, 3)) (ht : (pc : Int) + off = (tgt : Int)) (k : W p l e R s m args below meth c H locs cells slots Q (F0 m (pc + 3) ls rest)) : W p l e R s m args below meth c H locs cells slots Q (F0 m pc ls (.int 1 :: rest)) := lv_if_eq hx hb hdg ht (fun h => absurd h (by decide)) (fun _ => k)
theorem l_ifne_0 (hx : p.tables.exec = Jvm.exec) (hb : c.code = cc) {off : Int} (tgt : Nat) (hdg : decode cc pc = .ok (.ifCond .ne off, 3)) (ht : (pc : Int) + off = (tgt : Int)) (k : W p l e R s m args below meth c H locs cells slots Q (F0 m (pc + 3) ls rest)) : W p l e R s m args below meth c H locs cells slots Q (F0 m pc ls (.int 0 :: rest)) := lv_if_ne hx hb hdg ht (fun h => absurd rfl h) (fun _ => k)
theorem l_ifne_1 (hx : p.tables.exec = Jvm.exec) (hb : c.code = cc) {off : Int} (tgt : Nat) (hdg : decode cc pc = .ok (.ifCond .ne off, 3)) (ht : (pc : Int) + off = (tgt : Int)) (k : W p l e R s m args below meth c H locs cells slots Q (F0 m tgt ls rest)) : W p l e R s m args below meth c H locs cells slots Q (F0 m pc ls (.int 1 :: rest)) := lv_if_ne hx hb hdg ht (fun _ => k) (fun h => absurd h (by decide))
end LR
