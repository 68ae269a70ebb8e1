/-! texts in the pool; what stays of the state; a nest mate's method -/
/-- all stays but the rows of L of the brook's own -/
def Kq (L : List Nat) (U V : Tta) : Prop := (∀ x, x ≠ 3 → V x = U x) ∧ ∀ q, q ∉ L → V 3 q = U 3 q
theorem Kq.rf {L : List Nat} {U : Tta} : Kq L U U := ⟨fun _ _ => rfl, fun _ _ => rfl⟩
theorem Kq.tr {L : List Nat} {U V X : Tta} (h : Kq L U V) (h2 : Kq L V X) : Kq L U X := ⟨fun x hx => (h2.1 x hx).trans (h.1 x hx), fun q hq => (h2.2 q hq).trans (h.2 q hq)⟩
theorem Kq.mono {L M : List Nat} {U V : Tta} (h : Kq L U V) (hm : ∀ i ∈ L, i ∈ M) : Kq M U V := ⟨h.1, fun q hq => h.2 q (fun z => hq (hm q z))⟩
theorem Kq.up {L : List Nat} {U V : Tta} {k : Nat} {f : Nat → Int32} (h : Kq L U V) (hk : k ∈ L) : Kq L U (up3 V 3 k f) := by
  refine ⟨fun x hx => by rw [up3_n hx, h.1 x hx], fun q hq => ?_⟩
  have e : q ≠ k := fun z => hq (by rw [z]; exact hk)
  rw [up3_s, up1_n e, h.2 q hq]
theorem Kq.CT {L : List Nat} {U V T : Tta} {r : Nat × Nat} (h : Kq L U V) (hT : CT U r T) (hL : ∀ q, q < 4 → q ∉ L) : CT V r T := by
  have h1 := hT.1.1
  refine ⟨hT.1, by rw [h.1 _ (by omega)]; exact hT.2.1, by rw [h.1 _ (by decide)]; exact hT.2.2.1, fun q j hq hj => ?_⟩
  rw [h.2 q (hL q hq)]
  exact hT.2.2.2 q j hq hj
theorem up3_up3 {U : Tta} {a i : Nat} {f g : Nat → Int32} : up3 (up3 U a i f) a i g = up3 U a i g := by
  funext x
  by_cases h : x = a
  · subst h
    rw [up3_s, up3_s, up3_s]
    funext j
    by_cases h2 : j = i <;> simp [up1, h2]
  · rw [up3_n h, up3_n h, up3_n h]
def ixc (u c : Nat) : Nat := if u = 0 then (if c = 102 then 0 else if c = 112 then 1 else if c = 104 then 2 else 3) else (if c = 116 then 0 else if c = 99 then 1 else 2)
theorem ixc_lt {u c : Nat} : ixc u c < 4 := by
  unfold ixc
  repeat' split
  all_goals decide
/-- a step as the class keeps it -/
def stR (u : Nat) (f sp vl : Nat → Int32) (k : Nat) : Prop := (f (1 + 2 * k) = nI 0 → sp k = nI 1 ∧ vl k = f (2 + 2 * k)) ∧ (f (1 + 2 * k) = nI 1 → sp k = nI 2 ∧ vl k = nI (ixc u (cn (f (2 + 2 * k))))) ∧ (f (1 + 2 * k) = nI 2 → sp k = nI 3) ∧ (f (1 + 2 * k) = nI 3 → sp k = f (2 + 2 * k))
def TXK (cA : Nat → ClassId) (ad : Nat → Nat) (f0 : Nat → va_E) (n u : Nat) (f : Nat → Int32) (w : Nat) : Prop := ∃ (a b : Nat) (sp vl : Nat → Int32), (81 ≤ w ∧ w < n) ∧ (81 ≤ a ∧ a < n) ∧ (81 ≤ b ∧ b < n) ∧ f0 w = .inr (14, [.ref (ad a), .ref (ad b), .int (f 0)]) ∧ f0 a = aI (cA 1) 60 sp ∧ f0 b = aI (cA 2) 60 vl ∧ ∀ k, k < cn (f 0) → stR u f sp vl k
def TXR (cA : Nat → ClassId) (ad : Nat → Nat) (f0 : Nat → va_E) (n : Nat) (ρ : Nat → Nat → Option Nat) (S : Sta) (a : Nat) : Prop := ∀ u, u < 2 → (S (12 + u) 0 = 0 ∧ ρ (3 + a) u = none) ∨ (0 < S (12 + u) 0 ∧ ∃ w, ρ (3 + a) u = some w ∧ TXK cA ad f0 n u (S (12 + u)) w)
/-- a house's wheels and texts lie in the pool -/
def HQ (cA : Nat → ClassId) (ad : Nat → Nat) (f0 : Nat → va_E) (n : Nat) (ρ : Nat → Nat → Option Nat) (S : Sta) (a : Nat) : Prop := WR f0 n ρ S a ∧ TXR cA ad f0 n ρ S a
theorem HQ.cg {cA : Nat → ClassId} {ad : Nat → Nat} {f0 : Nat → va_E} {n : Nat} {ρ : Nat → Nat → Option Nat} {S X : Sta} {a : Nat} (h : HQ cA ad f0 n ρ S a) (h0 : wh X = wh S) (h5 : X 5 = S 5) (h6 : X 6 = S 6) (h12 : X 12 = S 12) (h13 : X 13 = S 13) : HQ cA ad f0 n ρ X a := by
  refine ⟨fun k hk => ?_, fun u hu => ?_⟩
  · rw [h0] at hk
    obtain ⟨w, kd, hw⟩ := h.1 k hk
    refine ⟨w, kd, ?_⟩
    unfold WK at hw ⊢
    rw [h5, h6]
    exact hw
  · rcases (by omega : u = 0 ∨ u = 1) with rfl | rfl
    · have := h.2 0 (by decide)
      rw [show X (12 + 0) = S (12 + 0) from h12]
      exact this
    · have := h.2 1 (by decide)
      rw [show X (12 + 1) = S (12 + 1) from h13]
      exact this
theorem jn_d {x y : Int32} (h : y ≠ 0) : (if y = 0 then nI 0 else if y = -1 then -x else x / y) = x / y := by
  rw [if_neg h]
  by_cases h1 : y = -1
  · rw [if_pos h1, h1, dv_m1]
  · rw [if_neg h1]
theorem rm_m1 (x : Int32) : x - x / (-1) * (-1) = nI 0 := by
  rw [dv_m1, Int32.neg_mul_neg, Int32.mul_one, Int32.sub_self]
  rfl
theorem jn_r {x y : Int32} (h : y ≠ 0) : (if y = 0 then nI 0 else if y = -1 then nI 0 else x - x / y * y) = x - x / y * y := by
  rw [if_neg h]
  by_cases h1 : y = -1
  · rw [if_pos h1, h1, rm_m1]
  · rw [if_neg h1]
theorem sg_lt {c : Nat} (h : isSg c) : 37 ≤ c ∧ c ≤ 124 := by
  simp only [isSg, List.mem_cons, List.not_mem_nil, or_false] at h
  omega
section CXN
variable {p : Program} {l : Launch} {e : Env} {R : Room} {s : State} {m : MethodId} {args : Array Value} {below : List Frame} {meth : Method} {c : Code} {H H0 : Heap} {locs : List Loc} {cells slots : Nat} {Q : State → Prop}
variable {cc bytes : ByteArray} {pc nL L d dd mc ms nn : Nat} {ls : Array Slot} {rest st As : List Value} {own C host : String} {index : Nat} {x y : MethodName} {ret : Option FieldType}
variable {D : va_G} {cA : Nat → ClassId} {ad : Nat → Nat} {n : Nat} {f0 : Nat → va_E} {U : Nat → Nat → Nat → Int32} {ρ : Nat → Nat → Option Nat} {r : Nat × Nat} {A A1 : Nat → Prop} {b : Nat}
theorem l_topV {v : Value} (v' : Value) (h : v = v') (k : W p l e R s m args below meth c H locs cells slots Q (F0 m pc ls (v' :: rest))) : W p l e R s m args below meth c H locs cells slots Q (F0 m pc ls (v :: rest)) := h ▸ k
theorem x_getm {w kd : Nat} {v1 v2 : Value} (hC : CallFix p m c cc nL s args lw_all own) (hK : KC D cA s) (hP : XW D cA ad n f0 ρ r U H) (h1 : 81 ≤ w) (h2 : w < n) (hkd : kd ≤ 6) (he : f0 w = .inr (6 + kd, [v1, v2])) (hlink : (Cond.fieldLink own index RX6 "m" "I") ∈ lw_all) (hdg : decode cc pc = .ok (.getfield index, 3)) (kk : W p l e R s m args below meth c H locs cells slots Q (F0 m (pc + 3) ls (v2 :: rest))) : W p l e R s m args below meth c H locs cells slots Q (F0 m pc ls (.ref (ad w) :: rest)) := by
  have : kd = 0 ∨ kd = 1 ∨ kd = 2 ∨ kd = 3 ∨ kd = 4 ∨ kd = 5 ∨ kd = 6 := by omega
  rcases this with rfl | rfl | rfl | rfl | rfl | rfl | rfl
  · exact c_get hC hK hP w h2 (wo_po h1 he) rfl in_X6 1 (by decide) hlink rfl rfl hdg kk
  · exact c_get hC hK hP w h2 (wo_po h1 he) rfl in_X7 1 (by decide) hlink rfl rfl hdg kk
  · exact c_get hC hK hP w h2 (wo_po h1 he) rfl in_X8 1 (by decide) hlink rfl rfl hdg kk
  · exact c_get hC hK hP w h2 (wo_po h1 he) rfl in_X9 1 (by decide) hlink rfl rfl hdg kk
  · exact c_get hC hK hP w h2 (wo_po h1 he) rfl in_X10 1 (by decide) hlink rfl rfl hdg kk
  · exact c_get hC hK hP w h2 (wo_po h1 he) rfl in_X11 1 (by decide) hlink rfl rfl hdg kk
  · exact c_get hC hK hP w h2 (wo_po h1 he) rfl in_X12 1 (by decide) hlink rfl rfl hdg kk
def CVN (own C host : String) (index : Nat) (y : MethodName) (b : ByteArray) (L : Nat) (r : Option FieldType) (n : Nat) : Prop := GoodIn lw_all (ws_ y b L r) ∧ (Cond.methodLinkNest own index y host) ∈ lw_tbl ∧ (Cond.initialized y.cls) ∈ lw_all ∧ (Cond.instanceMethod y) ∈ lw_all ∧ (Cond.selects C y y) ∈ lw_all ∧ (y.cls ≠ "java/lang/invoke/MethodHandle" ∧ y.cls ≠ "java/lang/invoke/VarHandle" ∧ (parseMethodDescriptor y.desc).map (fun d => d.parameters.length) = some n)
theorem x_iVN {post : Int32 → (Nat → Nat → Nat → Int32) → Prop} (hC : CallFix p m c cc nL s args lw_all own) (hK : KC D cA s) (hP : XW D cA ad n f0 ρ r U H) (hS : va_S A H0 H locs) (hrc : ∃ cell : Cell, H[b]? = some cell ∧ cell.vm.isStatics = false ∧ s.vm.findClass C = some cell.cls) (hM : XI l D cA ad n f0 ρ r U A y bytes L ret d (.ref b :: As) post) (cv : CVN own C host index y bytes L ret nn) (hnn : As.length = nn) (hst : st = As.reverse ++ .ref b :: rest) (hsz : ls.size = nL) (hW : (rest.map fun v => v.category).sum ≤ 8) (hdg : decode cc pc = .ok (.invokevirtual index, 3)) (hR : d + 1 ≤ R.frames ∧ 8 + (L + 11) + 64 * d ≤ R.locals) (hcl : cells ≤ R.cells ∧ slots ≤ R.slots)
    (kk : ∀ (r' : Int32) (V : Nat → Nat → Nat → Int32) (H1 : Heap) (locs1 : List Loc), post r' V → XW D cA ad n f0 ρ r V H1 → va_S A H0 H1 locs1 → W p l e R s m args below meth c H1 locs1 cells slots Q (F0 m (pc + 3) ls (.int r' :: rest))) : W p l e R s m args below meth c H locs cells slots Q (F0 m pc ls st) :=
  va_calli (va_runVN hC hM ⟨va_cnB nn hC.2.2.2.2 cv.1 rfl rfl rfl (hK.2.1 _ cv.2.1 rfl) (hC.2.2.2.2 _ cv.2.2.1) cv.2.2.2.2.2 hR, hC.2.2.2.2 _ cv.2.2.2.1, hC.2.2.2.2 _ cv.2.2.2.2.1⟩ ⟨cv_blind (kmv_C D cA), hrc, fun U hU hW => ⟨rfl, by rw [hU]; exact hP, (kmv_C D cA).1 s U hW hK⟩⟩ rfl hnn hsz hst (lv_room hW) hdg hcl) hS (fun _ _ h => h) (fun _ h => h) (fun r' V t H1 locs1 ht _ hp hB _ _ hS1 => kk r' V H1 locs1 hp (by rw [← ht]; exact hB) hS1)
end CXN
/-! turns and shows by kinds, of little force -/
theorem nI_two {a : Nat} : nI 2 * nI a = nI (2 * a) := pk_mul 2 a
theorem tn_4 {a : Nat} (ha : a ≤ 99) : (if nI a / nI 2 ≤ 0 then nI a / nI 2 else nI a / nI 2 + nI 1) = (if nI a / nI 2 ≤ 0 then nI 0 else nI a / nI 2 + nI 1) := by
  rw [pk_div (by omega) (by decide) (by decide)]
  by_cases h : nI (a / 2) ≤ 0
  · rw [if_pos h, if_pos h]
    have h2 : a / 2 ≤ 0 := (nI_leI (by omega) (by decide)).mp h
    have h3 : a / 2 = 0 := by omega
    rw [h3]
  · rw [if_neg h, if_neg h]
theorem sh_2 {S : Sta} {w a : Nat} (h : S 5 w = nI 2) (ha : a ≤ 99) : sp_held (nI a / nI 2) (nI 0) (nI 9999) = sp_shows S w (nI a) := by
  rw [sp_shows, shB_2 h, sp_turns, turn0_2 h, held_in (k := a) (by omega) (by decide), pk_div (by omega) (by decide) (by decide), held_in (by omega) (by decide)]
theorem sh_4 {S : Sta} {w : Nat} {t : Int32} (h : S 5 w = nI 4) : sp_held (nI 0) (nI 0) (nI 9999) = sp_shows S w t := by
  rw [sp_shows, shB_4 h]
  rfl
theorem sh_5 {S : Sta} {w a : Nat} (h : S 5 w = nI 5) (ha : a ≤ 99) : sp_held (nI a * nI 2) (nI 0) (nI 9999) = sp_shows S w (nI a) := by
  rw [sp_shows, shB_5 h, nI_two, Int32.mul_comm, nI_two, held_in (by omega) (by decide)]
