/-! sheets: rows of numbers in the pool -/
section SH1
variable {p : Program} {l : Launch} {e : Env} {R : Room} {s : State} {m : MethodId} {args : Array Value} {below : List Frame} {meth : Method} {c : Code} {H H0 : Heap} {locs : List Loc} {cells slots : Nat} {Q : State → Prop}
variable {cc : ByteArray} {pc nL : Nat} {ls : Array Slot} {rest : List Value} {own : String} {index : Nat} {L : List (Option Value)}
variable {D : va_G} {cA : Nat → ClassId} {ad : Nat → Nat} {n : Nat} {f0 : Nat → va_E} {U T : Tta} {ρ : Rho} {r : Nat × Nat} {A : Nat → Prop} {w z t : Nat} {g : Nat → Int32}
theorem l_astore_nN (hx : p.tables.exec = Jvm.exec) (hb : c.code = cc) {k : Fin 4} (i : Nat) (hdg : decode cc pc = .ok (.astore_n k, 1)) (hi : (k : Nat) = i) (hl : lh ls L) (hok : lh_ok L i = true) (kk : ∀ ls' : Array Slot, lh ls' (L.set i (some .null)) → W p l e R s m args below meth c H locs cells slots Q (F0 m (pc + 1) ls' rest)) : W p l e R s m args below meth c H locs cells slots Q (F0 m pc ls (.null :: rest)) :=
  lv_astore_nN hx hb hdg hi hl.has (lh_ok_lt hok) rfl (fun ls' h' => kk ls' (lh_back hok h'))
theorem l_astoreN (hx : p.tables.exec = Jvm.exec) (hb : c.code = cc) (i : Nat) (hdg : decode cc pc = .ok (.astore i, 2)) (hl : lh ls L) (hok : lh_ok L i = true) (kk : ∀ ls' : Array Slot, lh ls' (L.set i (some .null)) → W p l e R s m args below meth c H locs cells slots Q (F0 m (pc + 2) ls' rest)) : W p l e R s m args below meth c H locs cells slots Q (F0 m pc ls (.null :: rest)) :=
  lv_astoreN hx hb hdg hl.has (lh_ok_lt hok) rfl (fun ls' h' => kk ls' (lh_back hok h'))
theorem wo_sk {k : Nat} (hk : k < 4) : wcl cA ad f0 U ρ r (73 + k) = .inr (2, [rf ad (ρ 6 k)]) := by
  rcases (by omega : k = 0 ∨ k = 1 ∨ k = 2 ∨ k = 3) with rfl | rfl | rfl | rfl <;> rfl
def aN (t : Nat) : String := if t = 1 then "[B" else if t = 2 then "[S" else "[I"
theorem x_rA (hK : KC D cA s) (hP : XW D cA ad n f0 ρ r U H) (h1 : 81 ≤ w) (h2 : w < n) (he : f0 w = aI (cA t) z g) (ht : t < 3) : ∃ cell : Cell, H[ad w]? = some cell ∧ cell.vm.isStatics = false ∧ s.vm.findClass (aN t) = some cell.cls := by
  have h9 : H[ad w]? = some (vp_cell (cA t) (z, .inl g)) := hP w (ad w, .inl (cA t, (z, .inl g))) ((gw_at h2).trans (by rw [wo_po h1 he]))
  refine ⟨_, h9, rfl, ?_⟩
  rcases (by omega : t = 0 ∨ t = 1 ∨ t = 2) with rfl | rfl | rfl
  · exact (hK.1.2 0 _ rfl).2
  · exact (hK.1.2 1 _ rfl).2
  · exact (hK.1.2 2 _ rfl).2
theorem x_instAY (hC : CallFix p m c cc nL s args lw_all own) (hK : KC D cA s) (hP : XW D cA ad n f0 ρ r U H) (h1 : 81 ≤ w) (h2 : w < n) (he : f0 w = aI (cA t) z g) (ht : t < 3) (hlink : (Cond.classLink own index (aN t)) ∈ lw_all) (hdg : decode cc pc = .ok (.instanceof index, 3)) (kk : W p l e R s m args below meth c H locs cells slots Q (F0 m (pc + 3) ls (.int 1 :: rest))) : W p l e R s m args below meth c H locs cells slots Q (F0 m pc ls (.ref (ad w) :: rest)) :=
  va_instE hC.1 hC.2.1 hC.2.2.2.1 (hC.2.2.2.2 _ hlink) (x_rA hK hP h1 h2 he ht) hdg kk
theorem x_instAN (j : Nat) (hC : CallFix p m c cc nL s args lw_all own) (hK : KC D cA s) (hP : XW D cA ad n f0 ρ r U H) (h1 : 81 ≤ w) (h2 : w < n) (he : f0 w = aI (cA t) z g) (ht : t < 3) (hj : (aN t, aN j) ∈ ncW) (hlink : (Cond.classLink own index (aN j)) ∈ lw_all) (hdg : decode cc pc = .ok (.instanceof index, 3)) (kk : W p l e R s m args below meth c H locs cells slots Q (F0 m (pc + 3) ls (.int 0 :: rest))) : W p l e R s m args below meth c H locs cells slots Q (F0 m pc ls (.ref (ad w) :: rest)) :=
  va_instNo hC.1 hC.2.1 hC.2.2.2.1 (hC.2.2.2.2 _ hlink) (hK.2.2.2.2.1 _ hj) (x_rA hK hP h1 h2 he ht) hdg kk
theorem x_castA (hC : CallFix p m c cc nL s args lw_all own) (hK : KC D cA s) (hP : XW D cA ad n f0 ρ r U H) (h1 : 81 ≤ w) (h2 : w < n) (he : f0 w = aI (cA t) z g) (ht : t < 3) (hlink : (Cond.classLink own index (aN t)) ∈ lw_all) (hdg : decode cc pc = .ok (.checkcast index, 3)) (kk : W p l e R s m args below meth c H locs cells slots Q (F0 m (pc + 3) ls (.ref (ad w) :: rest))) : W p l e R s m args below meth c H locs cells slots Q (F0 m pc ls (.ref (ad w) :: rest)) :=
  va_castE hC.1 hC.2.1 hC.2.2.2.1 (hC.2.2.2.2 _ hlink) (x_rA hK hP h1 h2 he ht) hdg kk
theorem x_alen (hC : CallFix p m c cc nL s args lw_all own) (hK : KC D cA s) (hP : XW D cA ad n f0 ρ r U H) (h1 : 81 ≤ w) (h2 : w < n) (he : f0 w = aI (cA t) z g) (ht : t < 3) (hdg : decode cc pc = .ok (.arraylength, 1)) (kk : W p l e R s m args below meth c H locs cells slots Q (F0 m (pc + 1) ls (.int (nI z) :: rest))) : W p l e R s m args below meth c H locs cells slots Q (F0 m pc ls (.ref (ad w) :: rest)) := by
  have ha : (cw cA ad n f0 U ρ r)[w]? = some (ad w, .inl (cA t, (z, .inl g))) := (gw_at h2).trans (by rw [wo_po h1 he])
  rcases (by omega : t = 0 ∨ t = 1 ∨ t = 2) with rfl | rfl | rfl
  · exact va_alen hC.1 hC.2.1 hK.1 hP w 0 ha rfl rfl hdg kk
  · exact va_alen hC.1 hC.2.1 hK.1 hP w 1 ha rfl rfl hdg kk
  · exact va_alen hC.1 hC.2.1 hK.1 hP w 2 ha rfl rfl hdg kk
theorem c_sts (hC : CallFix p m c cc nL s args lw_all own) (hK : KC D cA s) (hP : va_P D cl (cw cA ad n f0 U ρ r) H) (hD : gD A ad n) (hS : va_S A H0 H locs) (k : Nat) (hk : k < n) {N : Nat} {g : Nat → Int32} (he : wcl cA ad f0 U ρ r k = aI (cA 2) N g) {j x : Int32} (v : Int32) (hv : nS x = v) (i : Nat) (hj : j = nI i) (hi : i < N) (hN : N < 2 ^ 31) {ws' : va_W} (hw : (cw cA ad n f0 U ρ r).set k (ad k, aI (cA 2) N (upd g i v)) = ws') (hdg : decode cc pc = .ok (.sastore, 1)) (kk : ∀ (H1 : Heap) (locs1 : List Loc), va_P D cl ws' H1 → va_S A H0 H1 locs1 → W p l e R s m args below meth c H1 locs1 cells slots Q (F0 m (pc + 1) ls rest)) : W p l e R s m args below meth c H locs cells slots Q (F0 m pc ls (.int x :: .int j :: .ref (ad k) :: rest)) := by
  subst hj
  refine va_sast hC.1 hC.2.1 hK.1 hP hD.D hS k 2 ((gw_at hk).trans (by rw [he])) rfl (vp_in_nI hi (by omega)) hdg (fun H1 locs1 hP1 _ hS1 => kk H1 locs1 ?_ hS1)
  rw [nI_clamp (by omega), show vp_nar .short x = v from hv] at hP1
  exact hw ▸ hP1
theorem nS_nS (x : Int32) : nS (nS x) = nS x := by
  show x.toInt16.toInt32.toInt16.toInt32 = x.toInt16.toInt32
  rw [Int16.toInt16_toInt32]
theorem shv_8 (v : Int32) : shv (nI 8) v = nB v := by
  rw [nB_s8]
  apply Int32.toBitVec_inj.mp
  show ((v <<< (24 : Int32)) >>> (24 : Int32)).toBitVec = _
  rw [Int32.toBitVec_shiftRight, Int32.toBitVec_shiftLeft]
  show ((v.toBitVec <<< 24).sshiftRight 24) = BitVec.signExtend 32 (BitVec.signExtend 8 v.toBitVec)
  apply BitVec.eq_of_getLsbD_eq
  intro i hi
  rw [BitVec.getLsbD_sshiftRight, BitVec.getLsbD_signExtend]
  by_cases h : i < 8
  · simp [BitVec.getElem_signExtend, BitVec.getLsbD_signExtend, BitVec.getLsbD_shiftLeft, h, hi, show 24 + i < 32 by omega, show ¬ (24 + i < 24) by omega, show ¬ 32 ≤ i by omega]
  · simp [BitVec.getElem_signExtend, BitVec.msb_eq_getLsbD_last, BitVec.getLsbD_signExtend, BitVec.getLsbD_shiftLeft, h, hi, show ¬ (24 + i < 32) by omega, show ¬ 32 ≤ i by omega]
theorem shv_16 (v : Int32) : shv (nI 16) v = nS v := by
  show _ = v.toInt16.toInt32
  apply Int32.toBitVec_inj.mp
  show ((v <<< (16 : Int32)) >>> (16 : Int32)).toBitVec = _
  rw [Int32.toBitVec_shiftRight, Int32.toBitVec_shiftLeft]
  show ((v.toBitVec <<< 16).sshiftRight 16) = BitVec.signExtend 32 (BitVec.signExtend 16 v.toBitVec)
  apply BitVec.eq_of_getLsbD_eq
  intro i hi
  rw [BitVec.getLsbD_sshiftRight, BitVec.getLsbD_signExtend]
  by_cases h : i < 16
  · simp [BitVec.getElem_signExtend, BitVec.getLsbD_signExtend, BitVec.getLsbD_shiftLeft, h, hi, show 16 + i < 32 by omega, show ¬ (16 + i < 16) by omega, show ¬ 32 ≤ i by omega]
  · simp [BitVec.getElem_signExtend, BitVec.msb_eq_getLsbD_last, BitVec.getLsbD_signExtend, BitVec.getLsbD_shiftLeft, h, hi, show ¬ (16 + i < 32) by omega, show ¬ 32 ≤ i by omega]
theorem shv_32 (v : Int32) : shv (nI 32) v = v := by
  apply Int32.toBitVec_inj.mp
  show ((v <<< (0 : Int32)) >>> (0 : Int32)).toBitVec = _
  rw [Int32.toBitVec_shiftRight, Int32.toBitVec_shiftLeft]
  show ((v.toBitVec <<< 0).sshiftRight 0) = v.toBitVec
  simp
/-- a sheet's cell holds other numbers -/
theorem HQ.sh {S : Sta} {a : Nat} {e1 : va_E} (h : HQ cA ad f0 n ρ S a) (he : f0 w = aI (cA t) z g) (hz : z ≤ 24) : HQ cA ad (va_up f0 w e1) n ρ S a := by
  refine ⟨fun k hk => ?_, fun u hu => ?_⟩
  · obtain ⟨x, kd, g0, g1, g2, g3, g4, g5⟩ := h.1 k hk
    exact ⟨x, kd, g0, g1, g2, g3, g4, by rw [va_up_ne _ _ (fun q => by rw [q, he] at g5; cases g5)]; exact g5⟩
  · rcases h.2 u hu with q | ⟨q, x, g0, y, y2, sp, vl, g1, g2, g3, g4, g5, g6, g7⟩
    · exact Or.inl q
    · refine Or.inr ⟨q, x, g0, y, y2, sp, vl, g1, g2, g3, ?_, ?_, ?_, g7⟩
      · rw [va_up_ne _ _ (fun q => by rw [q, he] at g4; cases g4)]; exact g4
      · rw [va_up_ne _ _ (fun q => by rw [q, he] at g5; have := congrArg (fun e => match e with | .inl a => a.2.1 | .inr _ => 0) g5; simp at this; omega)]; exact g5
      · rw [va_up_ne _ _ (fun q => by rw [q, he] at g6; have := congrArg (fun e => match e with | .inl a => a.2.1 | .inr _ => 0) g6; simp at this; omega)]; exact g6
theorem SQ.at {x : Nat} (h : SQ cA f0 n ρ T) (hx : x < 4) (h0 : ¬ T 2 4 x = 0) : ∃ (w z t : Nat) (g : Nat → Int32), ρ 6 x = some w ∧ 81 ≤ w ∧ w < n ∧ t < 3 ∧ z ≤ 24 ∧ f0 w = aI (cA t) z g ∧ T 2 4 x = nI (sbt t) ∧ T 2 5 x = nI z ∧ ∀ j, j < z → g j = T 2 6 (24 * x + j) := by
  rcases h.1 x hx with ⟨q, _⟩ | q
  · exact absurd q h0
  · exact q
theorem SQ.nil {x : Nat} (h : SQ cA f0 n ρ T) (hx : x < 4) (h0 : T 2 4 x = 0) : ρ 6 x = none := by
  rcases h.1 x hx with ⟨_, q⟩ | ⟨w, z, t, g, _, _, _, _, _, _, q, _⟩
  · exact q
  · rw [q] at h0
    have : sbt t = 8 ∨ sbt t = 16 ∨ sbt t = 32 := by
      unfold sbt
      split
      · simp
      · split <;> simp
    rcases this with e | e | e <;> rw [e] at h0 <;> exact absurd h0 (by decide)
/-- other numbers in the sheet x: the rows f anew -/
theorem SQ.wr {x : Nat} {f g1 : Nat → Int32} (h : SQ cA f0 n ρ T) (hx : x < 4) (hρ : ρ 6 x = some w) (hw1 : 81 ≤ w) (hw2 : w < n) (ht : t < 3) (hz : z ≤ 24) (hb : T 2 4 x = nI (sbt t)) (hs : T 2 5 x = nI z) (hg : ∀ j, j < z → g1 j = f (24 * x + j)) (hf : ∀ y j, y < 4 → y ≠ x → j < 24 → f (24 * y + j) = T 2 6 (24 * y + j)) : SQ cA (va_up f0 w (aI (cA t) z g1)) n ρ (tX T 6 f) := by
  have e4 : tX T 6 f 2 4 = T 2 4 := tX_2n (by decide)
  have e5 : tX T 6 f 2 5 = T 2 5 := tX_2n (by decide)
  have e6 : tX T 6 f 2 6 = f := tX_2
  refine ⟨fun y hy => ?_, h.2⟩
  rw [e4, e5, e6]
  by_cases e : y = x
  · subst e
    exact Or.inr ⟨w, z, t, g1, hρ, hw1, hw2, ht, hz, va_up_self _ _ _, hb, hs, hg⟩
  · rcases h.1 y hy with q | ⟨w', z', t', g', q0, q1, q2, q3, q4, q5, q6, q7, q8⟩
    · exact Or.inl q
    · refine Or.inr ⟨w', z', t', g', q0, q1, q2, q3, q4, ?_, q6, q7, fun j hj => ?_⟩
      · rw [va_up_ne _ _ (fun q => e (h.2 y x w hy hx (by rw [q0, q]) hρ))]; exact q5
      · rw [q8 j hj, hf y j hy e (by omega)]
theorem CQ.wr {x : Nat} {f g1 : Nat → Int32} (h : CQ cA ad n f0 U ρ r T) (hx : x < 4) (hρ : ρ 6 x = some w) (hw1 : 81 ≤ w) (hw2 : w < n) (ht : t < 3) (hz : z ≤ 24) (he : f0 w = aI (cA t) z g) (hb : T 2 4 x = nI (sbt t)) (hs : T 2 5 x = nI z) (hg : ∀ j, j < z → g1 j = f (24 * x + j)) (hf : ∀ y j, y < 4 → y ≠ x → j < 24 → f (24 * y + j) = T 2 6 (24 * y + j)) : CQ cA ad n (va_up f0 w (aI (cA t) z g1)) U ρ r (tX T 6 f) := by
  refine ⟨⟨h.1.1, h.1.2.1, h.1.2.2.1, fun q j hq hj => ?_⟩, h.2.1.sh he hz, h.2.2.1.sh he hz, h.2.2.2.wr hx hρ hw1 hw2 ht hz hb hs hg hf⟩
  rw [show tX T 6 f 2 q = T 2 q from tX_2n (by omega)]
  exact h.1.2.2.2 q j hq hj
end SH1
theorem SQ.cs {cA : Nat → ClassId} {f0 : Nat → va_E} {n : Nat} {ρ : Rho} {T : Tta} {x : Nat} (h : SQ cA f0 n ρ T) (hx : x < 4) : (T 2 4 x = 0 ∧ ρ 6 x = none) ∨ (∃ (w z : Nat) (g : Nat → Int32), ρ 6 x = some w ∧ 81 ≤ w ∧ w < n ∧ z ≤ 24 ∧ f0 w = aI (cA 0) z g ∧ T 2 4 x = nI 32 ∧ T 2 5 x = nI z ∧ ∀ j, j < z → g j = T 2 6 (24 * x + j)) ∨ (∃ (w z : Nat) (g : Nat → Int32), ρ 6 x = some w ∧ 81 ≤ w ∧ w < n ∧ z ≤ 24 ∧ f0 w = aI (cA 1) z g ∧ T 2 4 x = nI 8 ∧ T 2 5 x = nI z ∧ ∀ j, j < z → g j = T 2 6 (24 * x + j)) ∨ (∃ (w z : Nat) (g : Nat → Int32), ρ 6 x = some w ∧ 81 ≤ w ∧ w < n ∧ z ≤ 24 ∧ f0 w = aI (cA 2) z g ∧ T 2 4 x = nI 16 ∧ T 2 5 x = nI z ∧ ∀ j, j < z → g j = T 2 6 (24 * x + j)) := by
  rcases h.1 x hx with q | ⟨w, z, t, g, q0, q1, q2, q3, q4, q5, q6, q7⟩
  · exact Or.inl q
  · rcases (by omega : t = 0 ∨ t = 1 ∨ t = 2) with rfl | rfl | rfl
    · exact Or.inr (Or.inl ⟨w, z, g, q0, q1, q2, q4, q5, q6, q7⟩)
    · exact Or.inr (Or.inr (Or.inl ⟨w, z, g, q0, q1, q2, q4, q5, q6, q7⟩))
    · exact Or.inr (Or.inr (Or.inr ⟨w, z, g, q0, q1, q2, q4, q5, q6, q7⟩))
def LX (A : Nat → Prop) (ad ad1 : Nat → Nat) (n1 : Nat) (ρ1 : Rho) : Prop := ad1 0 = ad 0 ∧ 81 ≤ n1 ∧ gD A ad1 n1 ∧ RB ρ1 n1
theorem lk_1 {s : Int32} {T : Tta} (h : ¬ (nI 0 ≤ s ∧ s ≤ nI 3)) : sp_lacks s T = 1 := by rw [sp_lacks, if_neg h]
theorem lk_2 {k : Nat} {T : Tta} (hk : k < 4) (h : T 2 4 k = 0) : sp_lacks (nI k) T = 2 := by rw [sp_lacks, if_pos (nI_in2 (by omega)), cn_nI (by omega), if_pos h]
theorem lk_0 {k : Nat} {T : Tta} (hk : k < 4) (h : ¬ T 2 4 k = 0) : sp_lacks (nI k) T = 0 := by rw [sp_lacks, if_pos (nI_in2 (by omega)), cn_nI (by omega), if_neg h]
theorem sbt_0 {t : Nat} {x : Int32} (h : x = nI (sbt t)) : ¬ x = 0 := by
  have : sbt t = 8 ∨ sbt t = 16 ∨ sbt t = 32 := by
    unfold sbt
    split
    · simp
    · split <;> simp
  rcases this with e | e | e <;> rw [h, e] <;> decide
theorem fcS_row {S : Sta} {f : Nat → Int32} {q : Nat} (h : q ≠ 1) : ∀ k, fcS S f k q = S q
  | 0 => rfl
  | k + 1 => by rw [fcS, up2_row h, fcS_row h k]
theorem hq_fc {cA : Nat → ClassId} {ad : Nat → Nat} {f0 : Nat → va_E} {n : Nat} {ρ : Rho} {S : Sta} {a : Nat} {f : Nat → Int32} (h : HQ cA ad f0 n ρ S a) (k : Nat) : HQ cA ad f0 n ρ (fcS S f k) a :=
  h.cg (by unfold wh; rw [fcS_row (by decide)]) (fcS_row (by decide) k) (fcS_row (by decide) k) (fcS_row (by decide) k) (fcS_row (by decide) k)
