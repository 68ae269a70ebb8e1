/-! wheels told, floods, kinds; the tape -/
theorem tw_lt {S : Sta} {w j : Nat} (h : j < 7) : sp_tw S w (nI j) = S (5 + j) w := by
  rw [sp_tw, if_neg (by rw [nI_leI (by decide) (by omega)]; omega), cn_nI (by omega)]
theorem tw_7 {S : Sta} {w : Nat} : sp_tw S w (nI 7) = sp_took S w := by
  rw [sp_tw, if_pos (by decide), if_pos rfl]
theorem tw_8 {S : Sta} {w : Nat} : sp_tw S w (nI 8) = sp_turns S w (sp_took S w) := by
  rw [sp_tw, if_pos (by decide), if_neg (by decide), if_pos rfl]
theorem tw_9 {S : Sta} {w : Nat} : sp_tw S w (nI 9) = sp_shows S w (sp_took S w) := by
  rw [sp_tw, if_pos (by decide), if_neg (by decide), if_neg (by decide)]
theorem GD.tk {U V : Tta} {a j : Nat} (h : GD U V a) (hI : Inv (U a)) (hj : j < wh (U a)) : V 3 6 j = sp_took (U a) j := by
  rw [h.2.1]
  exact (flow_ag hI _ _).2.2.2.1 j hj
theorem GD.fw {U V : Tta} {a j : Nat} (h : GD U V a) (hI : Inv (U a)) (hj : j < 12) : V 3 7 j = (sp_fl (U a)).2.2.2.2 j := by
  rw [h.2.2.1]
  exact (flow_ag hI _ _).2.2.2.2 j hj
theorem GD.gn {U V : Tta} {a : Nat} (h : GD U V a) (hI : Inv (U a)) : V 3 9 0 = (sp_fl (U a)).1 := by
  rw [h.2.2.2.1]
  exact (flow_ag hI _ _).1
theorem GD.lo {U V : Tta} {a : Nat} (h : GD U V a) (hI : Inv (U a)) : V 3 10 0 = (sp_fl (U a)).2.1 := by
  rw [h.2.2.2.2]
  exact (flow_ag hI _ _).2.1
theorem up2_id {S : Sta} {i j : Nat} {v : Int32} (h : v = S i j) : up2 S i j v = S := by
  subst h
  funext x
  by_cases e : x = i
  · subst e
    funext y
    by_cases e2 : y = j
    · subst e2; exact up2_at
    · exact up2_ne e2
  · exact up2_row e
theorem bd_z {x : Int32} {m : Nat} (h : Bd x m) : Bd (x + nI 0) m := by
  rw [show (nI 0 : Int32) = 0 from rfl, Int32.add_zero]
  exact h
theorem turn1_z {S : Sta} (hI : Inv S) {w : Nat} (hw : w < 8) : sp_turn1 S w (nI 0) = S := by
  obtain ⟨f, hf, ef⟩ := inv_bd hI 8 w hw
  have hf2 : f ≤ 4 := hf
  rw [sp_turn1, ef, cn_nI (by omega)]
  have h1 : sp_held (S 11 w + nI 0) (nI 0) 999999 = S 11 w := by
    rw [hld_id (bd_z (inv_bd hI 11 w hw)) (by decide), show (nI 0 : Int32) = 0 from rfl, Int32.add_zero]
  have h2 : sp_held (S 4 f + nI 0) (nI 0) 999999 = S 4 f := by
    rw [hld_id (bd_z (inv_bd hI 4 f (by show f < 5; omega))) (by decide), show (nI 0 : Int32) = 0 from rfl, Int32.add_zero]
  rw [h1, h2, up2_id rfl, up2_id rfl]
theorem rem_nn {x : Int32} (h : ¬ x < nI 0) : ∃ k, k < 16 ∧ rem_ x (nI 16) = nI k := by
  obtain ⟨k, hk, e⟩ := in_nI (x := x) (n := 2147483647) ⟨Int32.not_lt.mp h, Int32.le_iff_toInt_le.mpr (by rw [show (nI 2147483647).toInt = 2147483647 from by decide]; exact Int32.toInt_le x)⟩
  refine ⟨k % 16, Nat.mod_lt _ (by decide), ?_⟩
  rw [e, rem_, pk_rem (by omega) (by decide) (by decide)]
theorem hq_fl {cA : Nat → ClassId} {ad : Nat → Nat} {f0 : Nat → va_E} {n : Nat} {ρ : Nat → Nat → Option Nat} {S : Sta} {a : Nat} (h : HQ cA ad f0 n ρ S a) (m : Nat) : HQ cA ad f0 n ρ (dw_fl S m) a :=
  h.cg (by unfold wh; rw [dw_fl_row (by decide) (by decide)]) (dw_fl_row (by decide) (by decide) m) (dw_fl_row (by decide) (by decide) m) (dw_fl_row (by decide) (by decide) m) (dw_fl_row (by decide) (by decide) m)
theorem hq_0 {cA : Nat → ClassId} {ad : Nat → Nat} {f0 : Nat → va_E} {n : Nat} {ρ : Nat → Nat → Option Nat} {S : Sta} {a j : Nat} {v : Int32} (h : HQ cA ad f0 n ρ S a) (hj : j ≠ 0) : HQ cA ad f0 n ρ (up2 S 0 j v) a :=
  h.cg (by unfold wh; rw [up2_ne (Ne.symm hj)]) (up2_row (by decide)) (up2_row (by decide)) (up2_row (by decide)) (up2_row (by decide))
theorem hq_r {cA : Nat → ClassId} {ad : Nat → Nat} {f0 : Nat → va_E} {n : Nat} {ρ : Nat → Nat → Option Nat} {S : Sta} {a i j : Nat} {v : Int32} (h : HQ cA ad f0 n ρ S a) (h0 : i ≠ 0) (h5 : i ≠ 5) (h6 : i ≠ 6) (h12 : i ≠ 12) (h13 : i ≠ 13) : HQ cA ad f0 n ρ (up2 S i j v) a :=
  h.cg (by unfold wh; rw [up2_row (Ne.symm h0)]) (up2_row (Ne.symm h5)) (up2_row (Ne.symm h6)) (up2_row (Ne.symm h12)) (up2_row (Ne.symm h13))
theorem hq_d3 {cA : Nat → ClassId} {ad : Nat → Nat} {f0 : Nat → va_E} {n : Nat} {ρ : Nat → Nat → Option Nat} {S : Sta} {a : Nat} (h : HQ cA ad f0 n ρ S a) : HQ cA ad f0 n ρ (dw_3 S) a := by
  unfold dw_3 dw_2
  refine hq_0 ?_ (by decide)
  split
  · exact hq_fl (hq_0 h (by decide)) _
  · exact hq_0 h (by decide)
theorem hq_dN {cA : Nat → ClassId} {ad : Nat → Nat} {f0 : Nat → va_E} {n : Nat} {ρ : Nat → Nat → Option Nat} {S : Sta} {a : Nat} (h : HQ cA ad f0 n ρ S a) : ∀ m, HQ cA ad f0 n ρ (dwN S m) a
  | 0 => h
  | m + 1 => (hq_d3 (hq_dN h m)).hour
/-- kinds of kinds -/
def isk (kd j : Nat) : Bool := j == 0 || kd == j || (j == 1 && kd == 4) || (j == 3 && kd == 5)
theorem isk_iff {kd j : Nat} (hk : kd ≤ 6) (hj : j ≤ 6) : isk kd j = true ↔ (nI j = 0 ∨ nI kd = nI j ∨ (nI j = nI 1 ∧ nI kd = nI 4) ∨ (nI j = nI 3 ∧ nI kd = nI 5)) := by
  have : ∀ kd, kd < 7 → ∀ j, j < 7 → (isk kd j = true ↔ (nI j = 0 ∨ nI kd = nI j ∨ (nI j = nI 1 ∧ nI kd = nI 4) ∨ (nI j = nI 3 ∧ nI kd = nI 5))) := by decide +kernel
  exact this kd (by omega) j (by omega)
section CXK
variable {p : Program} {l : Launch} {e : Env} {R : Room} {s : State} {m : MethodId} {args : Array Value} {below : List Frame} {meth : Method} {c : Code} {H H0 : Heap} {locs : List Loc} {cells slots : Nat} {Q : State → Prop}
variable {cc : ByteArray} {pc nL : Nat} {ls : Array Slot} {rest : List Value} {own : String} {index : Nat}
variable {D : va_G} {cA : Nat → ClassId} {ad : Nat → Nat} {n : Nat} {f0 : Nat → va_E} {U : Nat → Nat → Nat → Int32} {ρ : Nat → Nat → Option Nat} {r : Nat × Nat}
theorem nc_all : ∀ kd, kd < 7 → ∀ j, j < 7 → (isk kd j = true ∨ (clN kd, clN j) ∈ ncW) := by decide +kernel
theorem x_instN {w kd j : Nat} {fs : List Value} (hC : CallFix p m c cc nL s args lw_all own) (hK : KC D cA s) (hP : XW D cA ad n f0 ρ r U H) (h1 : 81 ≤ w) (h2 : w < n) (hkd : kd ≤ 6) (he : f0 w = .inr (6 + kd, fs)) (hj : j ≤ 6) (hlink : (Cond.classLink own index (clN j)) ∈ lw_all) (hn : isk kd j = false) (hdg : decode cc pc = .ok (.instanceof index, 3)) (kk : W p l e R s m args below meth c H locs cells slots Q (F0 m (pc + 3) ls (.int 0 :: rest))) : W p l e R s m args below meth c H locs cells slots Q (F0 m pc ls (.ref (ad w) :: rest)) :=
  va_instNo hC.1 hC.2.1 hC.2.2.2.1 (hC.2.2.2.2 _ hlink) (hK.2.2.2.2.1 _ ((nc_all kd (by omega) j (by omega)).resolve_left (by rw [hn]; decide))) (x_rPO hK hP h1 h2 he (cl_kd hkd)) hdg kk
theorem x_inst {w kd j : Nat} {fs : List Value} (hC : CallFix p m c cc nL s args lw_all own) (hK : KC D cA s) (hP : XW D cA ad n f0 ρ r U H) (h1 : 81 ≤ w) (h2 : w < n) (hkd : kd ≤ 6) (he : f0 w = .inr (6 + kd, fs)) (hj : j ≤ 6) (hlink : (Cond.classLink own index (clN j)) ∈ lw_all) (hdg : decode cc pc = .ok (.instanceof index, 3)) (kk : ∀ v : Int32, bz (isk kd j = true) v → W p l e R s m args below meth c H locs cells slots Q (F0 m (pc + 3) ls (.int v :: rest))) : W p l e R s m args below meth c H locs cells slots Q (F0 m pc ls (.ref (ad w) :: rest)) := by
  by_cases hn : isk kd j = false
  · exact x_instN hC hK hP h1 h2 hkd he hj hlink hn hdg (kk 0 (Or.inr ⟨rfl, by rw [hn]; decide⟩))
  · have hy : isk kd j = true := by simpa using hn
    have hl := hC.2.2.2.2 _ hlink
    have hrc := x_rPO hK hP h1 h2 he (cl_kd hkd)
    have hk1 := kk 1 (Or.inl ⟨rfl, hy⟩)
    by_cases e0 : kd = j
    · subst e0
      exact va_instE hC.1 hC.2.1 hC.2.2.2.1 hl hrc hdg hk1
    · have key : (j = 0 ∧ (kd = 1 ∨ kd = 2 ∨ kd = 3 ∨ kd = 4 ∨ kd = 5 ∨ kd = 6)) ∨ (j = 1 ∧ kd = 4) ∨ (j = 3 ∧ kd = 5) := by
        have h9 := hy
        simp only [isk, Bool.or_eq_true, Bool.and_eq_true, beq_iff_eq] at h9
        omega
      rcases key with ⟨rfl, rfl | rfl | rfl | rfl | rfl | rfl⟩ | ⟨rfl, rfl⟩ | ⟨rfl, rfl⟩
      · exact va_instY hC.1 hC.2.1 hC.2.2.2.1 hl (hK.2.1 _ q1779 rfl) hrc hdg hk1
      · exact va_instY hC.1 hC.2.1 hC.2.2.2.1 hl (hK.2.1 _ q1777 rfl) hrc hdg hk1
      · exact va_instY hC.1 hC.2.1 hC.2.2.2.1 hl (hK.2.1 _ q1775 rfl) hrc hdg hk1
      · exact va_instY hC.1 hC.2.1 hC.2.2.2.1 hl (hK.2.1 _ q1778 rfl) hrc hdg hk1
      · exact va_instY hC.1 hC.2.1 hC.2.2.2.1 hl (hK.2.1 _ q1776 rfl) hrc hdg hk1
      · exact va_instY hC.1 hC.2.1 hC.2.2.2.1 hl (hK.2.1 _ q1780 rfl) hrc hdg hk1
      · exact va_instY hC.1 hC.2.1 hC.2.2.2.1 hl (hK.2.1 _ q1781 rfl) hrc hdg hk1
      · exact va_instY hC.1 hC.2.1 hC.2.2.2.1 hl (hK.2.1 _ q1782 rfl) hrc hdg hk1
end CXK
/-! the tape: bytes with a sign -/
theorem wo_tp {cA : Nat → ClassId} {ad : Nat → Nat} {f0 : Nat → va_E} {U : Nat → Nat → Nat → Int32} {ρ : Nat → Nat → Option Nat} {r : Nat × Nat} {a : Nat} (ha : a < 3) : wcl cA ad f0 U ρ r (3 + 22 * a + 12) = aI (cA 1) 60 (fun j => nB (U a 14 j)) := wcl_h ha (by decide)
theorem c_wT {cA : Nat → ClassId} {ad : Nat → Nat} {n : Nat} {f0 : Nat → va_E} {U : Nat → Nat → Nat → Int32} {ρ : Nat → Nat → Option Nat} {r : Nat × Nat} {a i : Nat} (ha : a < 3) (hn : 81 ≤ n) {v w : Int32} (hv : v = nB w) : (cw cA ad n f0 U ρ r).set (3 + 22 * a + 12) (ad (3 + 22 * a + 12), aI (cA 1) 60 (upd (fun j => nB (U a 14 j)) i v)) = cw cA ad n f0 (up3 U a 14 (upd (U a 14) i w)) ρ r :=
  cw_up (by omega) (fun _ => rfl) (fun z => by omega) ((wo_tp ha).trans (by
    rw [up3_s, up1_s]
    congr 4
    funext j
    by_cases e : j = i
    · subst e; rw [pk_us, pk_us, hv]
    · rw [pk_un e, pk_un e]))
theorem nB_s8 (x : Int32) : nB x = x.toInt8.toInt32 := rfl
theorem nB_nB (x : Int32) : nB (nB x) = nB x := by
  rw [nB_s8, nB_s8, Int8.toInt8_toInt32]
theorem nB_fdv (w : Int64) (k : Nat) : nB (fdv w k) = nB (w >>> ((nI (8 * k)).toInt64 &&& 63)).toInt32 := by
  rw [nB_s8, nB_s8, fdv]
  congr 1
  apply Int8.toBitVec_inj.mp
  simp only [Int32.toBitVec_toInt8, Int64.toBitVec_toInt32, Int64.toBitVec_and]
  generalize (w >>> ((nI (8 * k)).toInt64 &&& 63)).toBitVec = b
  show BitVec.signExtend 8 (BitVec.signExtend 32 (b &&& 255#64)) = BitVec.signExtend 8 (BitVec.signExtend 32 b)
  have h255 : ∀ i, i < 8 → (255#64).getLsbD i = true := by decide
  apply BitVec.eq_of_getLsbD_eq
  intro i hi
  have h32 : i < 32 := by omega
  have h64 : i < 64 := by omega
  simp only [BitVec.getLsbD_signExtend, hi, h32, h64, decide_true, Bool.true_and, if_true, BitVec.getLsbD_and, h255 i hi, Bool.and_true]
theorem bd_le {x : Int32} {m n : Nat} (h : Bd x m) (hm : m ≤ n) : Bd x n := by
  obtain ⟨k, hk, e⟩ := h
  exact ⟨k, by omega, e⟩
theorem dx_1 {d : Int32} (h : nI 1 ≤ d ∧ d ≤ nI 6) (h2 : ¬ nI 4 ≤ d) : dw_x d = nI 1 := by
  obtain ⟨k, h1, hk, rfl⟩ := in_nI1 h
  rw [nI_leI (by decide) (by omega)] at h2
  rw [dw_x, if_pos ⟨h.1, nI_le (by omega) (by decide)⟩]
theorem dx_2 {d : Int32} (h : nI 1 ≤ d ∧ d ≤ nI 6) (h2 : nI 4 ≤ d) : dw_x d = -1 := by
  obtain ⟨k, h1, hk, rfl⟩ := in_nI1 h
  have h3 := (nI_leI (by decide) (by omega)).mp h2
  rw [dw_x, if_neg (fun z => by have := (nI_leI (by omega) (by decide)).mp z.2; omega), if_pos ⟨h2, h.2⟩]
theorem dx_0 {d : Int32} (h : ¬ (nI 1 ≤ d ∧ d ≤ nI 6)) : dw_x d = nI 0 := by
  rw [dw_x, if_neg (fun z => h ⟨z.1, Int32.le_trans z.2 (by decide)⟩), if_neg (fun z => h ⟨Int32.le_trans (by decide) z.1, z.2⟩)]
theorem dw2_2 {S : Sta} : dw_2 S 0 2 = S 0 2 := by
  rw [dw_2_0, pk_un (by decide)]
theorem d3_y {S Z : Sta} {x v : Int32} (hz : Z = dw_2 S) (hv : v = sp_held (Z 0 2 + x) (nI 0) (nI 9)) (hx : dw_x (dw_d S) = x) : up1 Z 0 (upd (Z 0) 2 v) = dw_3 S := by
  subst hz; subst hx
  rw [hv, dw2_2, dw_3, up2]
theorem d3_n {S Z : Sta} (hI : Inv S) (hz : Z = dw_2 S) (hx : dw_x (dw_d S) = nI 0) : Z = dw_3 S := by
  subst hz
  obtain ⟨k, hk, e⟩ := hI.2.2.2.1
  rw [dw_3, hx, show (nI 0 : Int32) = 0 from rfl, Int32.add_zero, e]
  rw [show (0 : Int32) = nI 0 from rfl, held_in hk (by decide), ← e]
  exact (up2_id dw2_2.symm).symm
theorem in_bd {x y : Int32} {m : Nat} (h : Bd y m) (hm : m < 2 ^ 31) (hx : nI 0 ≤ x ∧ x ≤ y - nI 1) : ∃ k, k < m ∧ x = nI k := by
  obtain ⟨z, hz, ez⟩ := h
  rw [ez] at hx
  rcases Nat.eq_zero_or_pos z with h0 | h0
  · rw [h0] at hx; exact absurd (Int32.le_trans hx.1 hx.2) (by decide)
  · rw [pk_sub h0] at hx
    obtain ⟨k, hk, e⟩ := in_nI hx (by omega)
    exact ⟨k, by omega, e⟩
