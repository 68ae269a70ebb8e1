/-! what a constructor makes lies in a row: the k-th cell at b + k -/
abbrev ba (b : Nat) : Nat → Nat := fun k => b + k
abbrev KW (D : va_G) (b n : Nat) (F : Nat → va_E) (H : Heap) : Prop := va_P D cl (gw (ba b) n F) H
theorem KW.cg {D : va_G} {b n : Nat} {F G : Nat → va_E} {H : Heap} (h : KW D b n F H) (he : ∀ j, j < n → eC (F j) = eC (G j)) : KW D b n G H := gw_P h he
theorem kD (b n : Nat) : gD (fun q => b ≤ q) (ba b) n := ⟨fun i j _ _ e => by have h : b + i = b + j := e; omega, fun k _ => Nat.le_add_right b k⟩
section CT1
variable {p : Program} {l : Launch} {e : Env} {R : Room} {s : State} {m : MethodId} {args : Array Value} {below : List Frame} {meth : Method} {c : Code} {H H0 : Heap} {locs : List Loc} {cells slots : Nat} {Q : State → Prop}
variable {cc bytes : ByteArray} {pc nL L d nn mc ms : Nat} {ls : Array Slot} {rest st As : List Value} {own C : String} {index : Nat}
variable {D : va_G} {cA : Nat → ClassId} {b n : Nat} {F G : Nat → va_E}
theorem W.sz {g : JFrame} (kk : H.size ≤ s.heap.size + cells → W p l e R s m args below meth c H locs cells slots Q g) : W p l e R s m args below meth c H locs cells slots Q g := fun T hT X => kk (by rw [← hT]; exact X.heapSize) T hT X
theorem k_q {q : Nat} {x : va_E} {H1 : Heap} (hP : va_P D cl (gw (ba b) n F ++ [(q, x)]) H1) (hD : va_D (fun q => b ≤ q) (gw (ba b) n F ++ [(q, x)])) (hz : H1.size ≤ b + n + 1) : q = b + n := by
  have hl : (gw (ba b) n F).length = n := by simp [gw]
  have h1 : (gw (ba b) n F ++ [(q, x)])[n]? = some (q, x) := by
    rw [List.getElem?_append_right (by omega), hl, Nat.sub_self]
    rfl
  have h2 : q < H1.size := (hP n _ h1).lt
  have h3 : b ≤ q := hD.2 n _ h1
  rcases Nat.lt_or_ge q (b + n) with h4 | h4
  · exfalso
    have h5 : (gw (ba b) n F ++ [(q, x)])[q - b]? = some (ba b (q - b), F (q - b)) := by
      rw [List.getElem?_append_left (by omega)]
      exact gw_at (by omega)
    have h6 := hD.1 (q - b) n _ _ h5 h1 (show b + (q - b) = q by omega)
    omega
  · omega
theorem k_push {q : Nat} {x : va_E} {H1 : Heap} (hP : va_P D cl (gw (ba b) n F ++ [(q, x)]) H1) (hq : q = b + n) (hx : eC x = eC (F n)) : KW D b (n + 1) F H1 := by
  subst hq
  rw [gw_push] at hP
  have e1 : gw (va_up (ba b) n (b + n)) (n + 1) (va_up F n x) = gw (ba b) (n + 1) (va_up F n x) := gw_ext (fun k _ => ⟨by by_cases z : k = n; (subst z; rw [va_up_self]); rw [va_up_ne _ _ z], rfl⟩)
  rw [e1] at hP
  refine gw_P hP (fun k _ => ?_)
  by_cases z : k = n
  · subst z; rw [va_up_self]; exact hx
  · rw [va_up_ne _ _ z]
theorem k_new (hC : CallFix p m c cc nL s args lw_all own) (hK : KC D cA s) (hP : KW D b n F H) (hS : va_S (fun q => b ≤ q) s.heap H locs) (hb0 : b ≤ s.heap.size) (hsz : s.heap.size + cells = b + n) (ci : Nat) {N : Nat} {T : u_T} {ty0 : Nat → FieldType} (hc : cl[ci]? = some (C, T, N)) (hin : ∀ w ∈ u_ws C T N, w ∈ lw_all) (hty : ∀ k, k < N → parseFieldDescriptor (T k).2.2.1 = some (ty0 k)) (hlink : (Cond.classLink own index C) ∈ lw_all) (hinst : (Cond.instantiable C N) ∈ lw_all) (hini : (Cond.initialized C) ∈ lw_all) (fs : List Value) (hfs : ∀ j, j < N → defaultValue (ty0 j) = vp_V fs j) (he : F n = .inr (ci, fs)) (hcells : cells + 1 ≤ R.cells) (hslots : slots + N ≤ R.slots) (hdg : decode cc pc = .ok (.new index, 3))
    (kk : ∀ H1 : Heap, KW D b (n + 1) F H1 → va_S (fun q => b ≤ q) s.heap H1 locs → W p l e R s m args below meth c H1 locs (cells + 1) (slots + N) Q (F0 m (pc + 3) ls (.ref (b + n) :: rest))) : W p l e R s m args below meth c H locs cells slots Q (F0 m pc ls rest) := by
  refine va_new hC.1 hC.2.1 hC.2.2.2.2 hin ty0 hty hC.2.2.2.1 (hC.2.2.2.2 _ hlink) (hC.2.2.2.2 _ hinst) (hC.2.2.2.2 _ hini) hK.1 hP (kD b n).D hS (fun q h => Nat.le_trans hb0 h) hc hfs hcells hslots hdg (fun q H1 hP1 hD1 hS1 => ?_)
  refine W.sz (fun hz => ?_)
  have hq := k_q hP1 hD1 (by omega)
  have h3 := kk H1 (k_push hP1 hq (by rw [he])) hS1
  rw [hq]
  exact h3
theorem k_newa (hC : CallFix p m c cc nL s args lw_all own) (hK : KC D cA s) (hP : KW D b n F H) (hS : va_S (fun q => b ≤ q) s.heap H locs) (hb0 : b ≤ s.heap.size) (hsz : s.heap.size + cells = b + n) {atype : ArrayType} (harr : (Cond.arrayClass (newarray.typeOf atype)) ∈ lw_all) (t : Nat) (ht : (tyA cA)[t]? = some (cA t, newarray.typeOf atype)) (hdv : defaultValue (newarray.typeOf atype) = .int 0) (hcb : componentBytes (newarray.typeOf atype) ≤ 4) (hpr : va_RA s (cA t) (newarray.typeOf atype) → s.vm.findClass ("[" ++ (newarray.typeOf atype).toString) = some (cA t)) {x : Int32} (N : Nat) (hx : x = nI N) (hN : N ≤ 1000) (he : eC (aI (cA t) N (fun _ => 0)) = eC (F n)) (hcells : cells + 1 ≤ R.cells) (hslots : slots + N ≤ R.slots) (hdg : decode cc pc = .ok (.newarray atype, 2))
    (kk : ∀ H1 : Heap, KW D b (n + 1) F H1 → va_S (fun q => b ≤ q) s.heap H1 locs → W p l e R s m args below meth c H1 locs (cells + 1) (slots + N) Q (F0 m (pc + 2) ls (.ref (b + n) :: rest))) : W p l e R s m args below meth c H locs cells slots Q (F0 m pc ls (.int x :: rest)) := by
  subst hx
  have hneg : ¬ nI N < 0 := by
    show ¬ nI N < nI 0
    rw [nI_ltI (by omega) (by decide)]
    omega
  refine va_newa (ty := newarray.typeOf atype) (a0 := (N, .inl (fun _ => 0))) hC.1 hC.2.1 (hC.2.2.2.2 _ harr) rfl hK.1 hP (kD b n).D hS (fun q h => Nat.le_trans hb0 h) (fun cB => by rw [vp_cell_i, hdv]) hneg (nI_clamp (by omega)) (Nat.le_trans (Nat.mul_le_mul_left N hcb) (by omega)) hcells hslots hdg (fun q cB H1 hK1 hP1 hD1 hS1 => ?_)
  have hcB : cB = cA t := by
    have h1 := hpr (hK.1.2 t _ ht).2
    have h2 := (hK1.2 5 _ rfl).2
    have h3 : s.vm.findClass ("[" ++ (newarray.typeOf atype).toString) = some cB := by
      revert h2
      cases atype <;> exact fun h => h
    exact Option.some.inj (h3.symm.trans h1)
  subst hcB
  refine W.sz (fun hz => ?_)
  have hq := k_q hP1 hD1 (by omega)
  have h3 := kk H1 (k_push hP1 hq he) hS1
  rw [hq]
  exact h3
theorem k_newq (hC : CallFix p m c cc nL s args lw_all own) (hK : KC D cA s) (hP : KW D b n F H) (hS : va_S (fun q => b ≤ q) s.heap H locs) (hb0 : b ≤ s.heap.size) (hsz : s.heap.size + cells = b + n) (t : Nat) (ht : (tyA cA)[t]? = some (cA t, .object C)) (hlink : (Cond.classLink own index C) ∈ lw_all) (hover : va_AO C s) {x : Int32} (N : Nat) (hx : x = nI N) (hN : N ≤ 1000) (he : eC (aR (cA t) N (fun _ => none)) = eC (F n)) (hcells : cells + 1 ≤ R.cells) (hslots : slots + N ≤ R.slots) (hdg : decode cc pc = .ok (.anewarray index, 3))
    (kk : ∀ H1 : Heap, KW D b (n + 1) F H1 → va_S (fun q => b ≤ q) s.heap H1 locs → W p l e R s m args below meth c H1 locs (cells + 1) (slots + N) Q (F0 m (pc + 3) ls (.ref (b + n) :: rest))) : W p l e R s m args below meth c H locs cells slots Q (F0 m pc ls (.int x :: rest)) := by
  subst hx
  have hneg : ¬ nI N < 0 := by
    show ¬ nI N < nI 0
    rw [nI_ltI (by omega) (by decide)]
    omega
  refine va_newq hC.1 hC.2.1 hC.2.2.2.1 (hC.2.2.2.2 _ hlink) hover hK.1 hP (kD b n).D hS (fun q h => Nat.le_trans hb0 h) hneg (nI_clamp (by omega)) (by omega) hcells hslots hdg (fun q cB H1 hK1 hP1 hD1 hS1 => ?_)
  have hcB : cB = cA t := by
    obtain ⟨_, _, _, _, _, h1⟩ := (hK.1.2 t _ ht).2
    obtain ⟨_, _, _, _, _, h2⟩ := (hK1.2 5 _ rfl).2
    exact Option.some.inj (h2.symm.trans h1)
  subst hcB
  refine W.sz (fun hz => ?_)
  have hq := k_q hP1 hD1 (by omega)
  have h3 := kk H1 (k_push hP1 hq he) hS1
  rw [hq]
  exact h3
theorem k_set {k : Nat} {x : va_E} (hk : k < n) : (gw (ba b) n F).set k (ba b k, x) = gw (ba b) n (va_up F k x) := gw_set hk (va_up_self _ _ _) (fun j _ hj => va_up_ne _ _ hj)
theorem k_setP {k : Nat} {x : va_E} (hk : k < n) (hP : va_P D cl ((gw (ba b) n F).set k (ba b k, x)) H) : KW D b n (va_up F k x) H := by
  rw [k_set hk] at hP
  exact hP
theorem k_put (hC : CallFix p m c cc nL s args lw_all own) (hK : KC D cA s) (hP : KW D b n F H) (hS : va_S (fun q => b ≤ q) H0 H locs) (k : Nat) (hk : k < n) {ci N : Nat} {ref : String} {T : u_T} {ty0 : Nat → FieldType} {fs : List Value} (he : F k = .inr (ci, fs)) (hc : cl[ci]? = some (C, T, N)) (hin : ∀ w ∈ u_ws C T N, w ∈ lw_all) (hty : ∀ k, k < N → parseFieldDescriptor (T k).2.2.1 = some (ty0 k)) (hnm : ∀ a, a < N → ∀ b, b < N → a ≠ b → (T a).2.1 ≠ (T b).2.1) (fi : Nat) (hfi : fi < N) (hlink : (Cond.fieldLink own index ref (T fi).2.1 (T fi).2.2.1) ∈ lw_all) (hsame : (T fi).1 = ref) (hfin : (T fi).2.2.2 = false) {ty : FieldType} {v : Value} (hd : parseFieldDescriptor (T fi).2.2.1 = some ty) (hn : narrow ty v = v) (hfit : fits ty v = true) (hl : fi < fs.length) (hdg : decode cc pc = .ok (.putfield index, 3)) (kk : ∀ (H1 : Heap) (locs1 : List Loc), KW D b n (va_up F k (.inr (ci, fs.set fi v))) H1 → va_S (fun q => b ≤ q) H0 H1 locs1 → W p l e R s m args below meth c H1 locs1 cells slots Q (F0 m (pc + 3) ls rest)) : W p l e R s m args below meth c H locs cells slots Q (F0 m pc ls (v :: .ref (b + k) :: rest)) :=
  va_put hC.1 hC.2.1 hC.2.2.2.2 hin ty0 hty hnm hC.2.2.2.1 hK.1 hP (kD b n).D hS k ((gw_at hk).trans (by rw [he])) hc fi hfi (hC.2.2.2.2 _ hlink) (fun x h9 => by rw [hsame] at h9; exact h9) hfin hd hn hfit hl hdg (fun H1 locs1 hP1 _ hS1 => kk H1 locs1 (k_setP hk hP1) hS1)
theorem k_putF (hC : CallFix p m c cc nL s args lw_all own) (hK : KC D cA s) (hP : KW D b n F H) (hS : va_S (fun q => b ≤ q) H0 H locs) (hm : meth.name = "<init>") (k : Nat) (hk : k < n) {ci N : Nat} {ref : String} {T : u_T} {ty0 : Nat → FieldType} {fs : List Value} (he : F k = .inr (ci, fs)) (hc : cl[ci]? = some (C, T, N)) (hin : ∀ w ∈ u_ws C T N, w ∈ lw_all) (hty : ∀ k, k < N → parseFieldDescriptor (T k).2.2.1 = some (ty0 k)) (hnm : ∀ a, a < N → ∀ b, b < N → a ≠ b → (T a).2.1 ≠ (T b).2.1) (fi : Nat) (hfi : fi < N) (hlink : (Cond.fieldLink own index ref (T fi).2.1 (T fi).2.2.1) ∈ lw_all) (hsame : (T fi).1 = ref) (hfin : (T fi).2.2.2 = true) (hdecl : (T fi).1 = own) {ty : FieldType} {v : Value} (hd : parseFieldDescriptor (T fi).2.2.1 = some ty) (hn : narrow ty v = v) (hfit : fits ty v = true) (hl : fi < fs.length) (hdg : decode cc pc = .ok (.putfield index, 3)) (kk : ∀ (H1 : Heap) (locs1 : List Loc), KW D b n (va_up F k (.inr (ci, fs.set fi v))) H1 → va_S (fun q => b ≤ q) H0 H1 locs1 → W p l e R s m args below meth c H1 locs1 cells slots Q (F0 m (pc + 3) ls rest)) : W p l e R s m args below meth c H locs cells slots Q (F0 m pc ls (v :: .ref (b + k) :: rest)) :=
  va_putF hC.1 hC.2.1 hC.2.2.2.2 hin ty0 hty hnm hC.2.2.2.1 hK.1 hP (kD b n).D hS k ((gw_at hk).trans (by rw [he])) hc fi hfi (hC.2.2.2.2 _ hlink) (fun x h9 => by rw [hsame] at h9; exact h9) hfin hm hdecl hd hn hfit hl hdg (fun H1 locs1 hP1 _ hS1 => kk H1 locs1 (k_setP hk hP1) hS1)
theorem k_get (hC : CallFix p m c cc nL s args lw_all own) (hK : KC D cA s) (hP : KW D b n F H) (k : Nat) (hk : k < n) {ci N : Nat} {ref : String} {T : u_T} {fs : List Value} (he : F k = .inr (ci, fs)) (hc : cl[ci]? = some (C, T, N)) (hin : ∀ w ∈ u_ws C T N, w ∈ lw_all) (fi : Nat) (hfi : fi < N) (hlink : (Cond.fieldLink own index ref (T fi).2.1 (T fi).2.2.1) ∈ lw_all) (hsame : (T fi).1 = ref) {v : Value} (hv : fs[fi]? = some v) (hdg : decode cc pc = .ok (.getfield index, 3)) (kk : W p l e R s m args below meth c H locs cells slots Q (F0 m (pc + 3) ls (v :: rest))) : W p l e R s m args below meth c H locs cells slots Q (F0 m pc ls (.ref (b + k) :: rest)) :=
  va_get hC.1 hC.2.1 hC.2.2.2.2 hin hC.2.2.2.1 hK.1 hP k ((gw_at hk).trans (by rw [he])) hc fi hfi (hC.2.2.2.2 _ hlink) (fun x h9 => by rw [hsame] at h9; exact h9) hv hdg kk
theorem k_ast (hC : CallFix p m c cc nL s args lw_all own) (hK : KC D cA s) (hP : KW D b n F H) (hS : va_S (fun q => b ≤ q) H0 H locs) (k v : Nat) (hk : k < n) (hv : v < n) {N : Nat} {f : Nat → Option Nat} {vs : List Value} (he : F k = aR (cA 3) N f) (hev : F v = .inr (2, vs)) {j : Int32} (i : Nat) (hj : j = nI i) (hi : i < N) (hN : N < 2 ^ 31) (hdg : decode cc pc = .ok (.aastore, 1)) (kk : ∀ (H1 : Heap) (locs1 : List Loc), KW D b n (va_up F k (aR (cA 3) N (va_up f i (some (b + v))))) H1 → va_S (fun q => b ≤ q) H0 H1 locs1 → W p l e R s m args below meth c H1 locs1 cells slots Q (F0 m (pc + 1) ls rest)) : W p l e R s m args below meth c H locs cells slots Q (F0 m pc ls (.ref (b + v) :: .int j :: .ref (b + k) :: rest)) := by
  subst hj
  refine va_astq (r := (RX2, TX2, 1)) hC.1 hC.2.1 hK.1 hP (kD b n).D hS k 3 v 2 ((gw_at hk).trans (by rw [he])) rfl ((gw_at hv).trans (by rw [hev])) rfl (vp_in_nI hi (by omega)) hdg (fun H1 locs1 hP1 _ hS1 => kk H1 locs1 ?_ hS1)
  rw [nI_clamp (by omega)] at hP1
  exact k_setP hk hP1
theorem k_bast (hC : CallFix p m c cc nL s args lw_all own) (hK : KC D cA s) (hP : KW D b n F H) (hS : va_S (fun q => b ≤ q) H0 H locs) (k : Nat) (hk : k < n) {N : Nat} {f : Nat → Int32} (he : F k = aI (cA 1) N f) {j x : Int32} (v : Int32) (hv : nB x = v) (i : Nat) (hj : j = nI i) (hi : i < N) (hN : N < 2 ^ 31) (hdg : decode cc pc = .ok (.bastore, 1)) (kk : ∀ (H1 : Heap) (locs1 : List Loc), KW D b n (va_up F k (aI (cA 1) N (upd f i v))) H1 → va_S (fun q => b ≤ q) H0 H1 locs1 → W p l e R s m args below meth c H1 locs1 cells slots Q (F0 m (pc + 1) ls rest)) : W p l e R s m args below meth c H locs cells slots Q (F0 m pc ls (.int x :: .int j :: .ref (b + k) :: rest)) := by
  subst hj
  refine va_bast hC.1 hC.2.1 hK.1 hP (kD b n).D hS k 1 ((gw_at hk).trans (by rw [he])) rfl (vp_in_nI hi (by omega)) hdg (fun H1 locs1 hP1 _ hS1 => kk H1 locs1 ?_ hS1)
  rw [nI_clamp (by omega), show vp_nar .byte x = v from hv] at hP1
  exact k_setP hk hP1
end CT1
/-- a slot's constructor leaves all as it is -/
theorem cX2_init_ {l : Launch} {D : va_G} {cA : Nat → ClassId} {PW : Heap → Prop} {A : Nat → Prop} {q : Nat} : Cv l (KC D cA) yX2_init cX2_init 1 1 0 0 [.ref q] PW A (fun _ : Unit => True) (fun _ H => PW H) := by
  refine Cv.ofI (by decide +kernel) (Nat.le_of_ble_eq_true rfl) ?_
  intro p e s m args below meth c Q hm hC hK hP hret ls hl
  have hx := hC.1
  have hb := hC.2.1
  have hts := hC.2.2.2.2
  refine lv_aload_n hx hb dX2_init_0 rfl (hl.at rfl) ?_
  refine W.objInit hx hb hC.2.2.2.1 (hts _ q134) (hts _ q118) (hts _ q119) rfl (by rw [hC.2.2.1]; exact hl.1) rfl dX2_init_1 (Nat.le_of_ble_eq_true rfl) (Nat.le_of_ble_eq_true rfl) ?_
  refine W.eq (g2 := F0 m 4 ls []) rfl ?_
  exact hret _ _ ls _ () hP va_S.rf dX2_init_4 trivial
