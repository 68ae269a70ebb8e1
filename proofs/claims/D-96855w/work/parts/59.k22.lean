def σ0 : Sta := fun i j => if i = 0 then (if j = 5 then nI 1 else if 6 ≤ j ∧ j < 30 then nI 30 else 0) else 0
def mS (k1 : Nat) (z1 : Int32) : Nat → Int32 := fun j => if j = 5 then z1 else if 6 ≤ j ∧ j < 6 + k1 then nI 30 else 0
def mG (cA : Nat → ClassId) (fs : List Value) (s : Nat → Int32) (j : Nat) : va_E := if j = 0 then .inr (5, fs) else if j = 1 then aI (cA 0) 449 s else aI (cA 0) (mlen (j - 1)) (fun _ => 0)
section MGS
variable {cA : Nat → ClassId} {b j : Nat} {fs fs' : List Value} {s s' : Nat → Int32} {D : va_G} {H : Heap}
theorem mG_0 : mG cA fs s 0 = .inr (5, fs) := by rw [mG, if_pos rfl]
theorem mG_1 : mG cA fs s 1 = aI (cA 0) 449 s := by rw [mG, if_neg (by decide), if_pos rfl]
theorem mG_up : va_up (mG cA fs s) 0 (.inr (5, fs')) = mG cA fs' s := by
  funext j
  by_cases e : j = 0
  · subst e; rw [va_up_self, mG_0]
  · rw [va_up_ne _ _ e, mG, mG, if_neg e, if_neg e]
theorem mG_s : va_up (mG cA fs s) 1 (aI (cA 0) 449 s') = mG cA fs s' := by
  funext j
  by_cases e : j = 1
  · subst e; rw [va_up_self, mG_1]
  · rw [va_up_ne _ _ e, mG, mG, if_neg e, if_neg e]
theorem mS_5 {k1 : Nat} {z1 z2 : Int32} : upd (mS k1 z1) 5 z2 = mS k1 z2 := by
  funext j
  by_cases e : j = 5
  · subst e; rw [pk_us, mS, if_pos rfl]
  · rw [pk_un e, mS, mS, if_neg e, if_neg e]
theorem mS_6 {k1 : Nat} {z1 : Int32} : upd (mS k1 z1) (6 + k1) (nI 30) = mS (k1 + 1) z1 := by
  funext j
  by_cases e : j = 6 + k1
  · subst e; rw [pk_us, mS, if_neg (by omega), if_pos (by omega)]
  · rw [pk_un e, mS, mS]
    by_cases e5 : j = 5
    · rw [if_pos e5, if_pos e5]
    · rw [if_neg e5, if_neg e5]
      by_cases e6 : 6 ≤ j ∧ j < 6 + k1
      · rw [if_pos e6, if_pos (by omega)]
      · rw [if_neg e6, if_neg (by omega)]
theorem mG_fin (hP : KW D b 16 (mG cA (mo b σ0) (mS 24 (nI 1))) H) : va_P D cl (mw b (cA 0) σ0) H := by
  intro k q hk
  have h1 := mw_ad hk
  have h2 : (gw (ba b) 16 (mG cA (mo b σ0) (mS 24 (nI 1))))[k]? = some (ba b k, mG cA (mo b σ0) (mS 24 (nI 1)) k) := gw_at h1.2
  have h3 := hP k _ h2
  cases k with
  | zero =>
    simp only [mw, List.getElem?_cons_zero, Option.some.injEq] at hk
    subst hk
    rw [mG_0] at h3
    exact h3
  | succ k =>
    have hk15 : k < 15 := by omega
    rw [mw_arr hk15] at hk
    cases hk
    rw [show ba b (k + 1) = b + 1 + k by show b + (k + 1) = _; omega] at h3
    refine eC_at ?_ h3
    by_cases e : k = 0
    · subst e
      rw [mG_1]
      refine eC_I (fun j hj => ?_)
      show mS 24 (nI 1) j = σ0 0 j
      rfl
    · rw [mG, if_neg (by omega), if_neg (by omega), show k + 1 - 1 = k by omega]
      refine eC_I (fun j hj => ?_)
      show (0 : Int32) = σ0 k j
      rw [σ0, if_neg e]
section MIA
variable {p : Program} {l : Launch} {e : Env} {R : Room} {s1 : State} {m : MethodId} {args : Array Value} {below : List Frame} {meth : Method} {c : Code} {H0 : Heap} {locs : List Loc} {cells slots : Nat} {Q : State → Prop} {cc : ByteArray} {pc nL n : Nat} {ls : Array Slot} {rest : List Value} {own : String} {F : Nat → va_E}
theorem k_iast (hC : CallFix p m c cc nL s1 args lw_all own) (hK : KC D cA s1) (hP : KW D b n F H) (hS : va_S (fun q => b ≤ q) H0 H locs) (k : Nat) (hk : k < n) {N : Nat} {f : Nat → Int32} (he : F k = aI (cA 0) N f) {j x : Int32} (i : Nat) (hj : j = nI i) (hi : i < N) (hN : N < 2 ^ 31) (hdg : decode cc pc = .ok (.iastore, 1)) (kk : ∀ (H1 : Heap) (locs1 : List Loc), KW D b n (va_up F k (aI (cA 0) N (upd f i x))) H1 → va_S (fun q => b ≤ q) H0 H1 locs1 → W p l e R s1 m args below meth c H1 locs1 cells slots Q (F0 m (pc + 1) ls rest)) : W p l e R s1 m args below meth c H locs cells slots Q (F0 m pc ls (.int x :: .int j :: .ref (b + k) :: rest)) := by
  subst hj
  refine va_iast hC.1 hC.2.1 hK.1 hP (kD b n).D hS k 0 ((gw_at hk).trans (by rw [he])) rfl (vp_in_nI hi (by omega)) hdg (fun H1 locs1 hP1 _ hS1 => kk H1 locs1 ?_ hS1)
  rw [nI_clamp (by omega)] at hP1
  exact k_setP hk hP1
end MIA
end MGS
def dfl5 : List Value := [.null, .null, .null, .int 0, .null, .int 0, .int 0, .int 0, .int 0, .null, .null, .null, .null, .null, .int 0, .int 0, .null, .int 0, .int 0, .null, .int 0, .int 0, .int 0, .null, .null, .null, .null]
theorem cX5_init_ {l : Launch} {D : va_G} {cA : Nat → ClassId} {b : Nat} {F : Nat → va_E} (hF0 : F 0 = .inr (5, dfl5)) : Cv l (KC D cA) yX5_init cX5_init 2 2 15 1859 [.ref b] (fun H => KW D b 1 F H ∧ H.size = b + 1) (fun q => b ≤ q) (fun _ : Unit => True) (fun _ H => va_P D cl (mw b (cA 0) σ0) H) := by
  refine Cv.ofI (by decide +kernel) (Nat.le_of_ble_eq_true rfl) ?_
  intro p e s m args below meth c Q hm hC hK hP hret ls hl
  obtain ⟨hP, hs0⟩ := hP
  have hx := hC.1
  have hb := hC.2.1
  have hown := hC.2.2.2.1
  have hts := hC.2.2.2.2
  have hS : va_S (fun q => b ≤ q) s.heap s.heap [] := va_S.rf
  have hb0 : b ≤ s.heap.size := by omega
  replace hP : KW D b 1 (mG cA dfl5 (mS 0 0)) s.heap := hP.cg (fun j hj => by rw [show j = 0 by omega, mG_0, hF0])
  refine lv_aload_n hx hb dX5_init_0 rfl (hl.at rfl) ?_
  refine W.objInit hx hb hown (hts _ q1295) (hts _ q118) (hts _ q119) rfl (by rw [hC.2.2.1]; exact hl.1) rfl dX5_init_1 (Nat.le_of_ble_eq_true rfl) (Nat.le_of_ble_eq_true rfl) ?_
  refine W.eq (g2 := F0 m 4 ls []) rfl ?_
  refine lv_aload_n hx hb dX5_init_4 rfl (hl.at rfl) ?_
  refine lv_sipush (v := nI 449) hx hb dX5_init_5 rfl ?_
  refine k_newa (atype := .int) hC hK hP hS hb0 (by omega) q140 0 rfl rfl (by decide) (fun h9 => h9) 449 rfl (by decide) (by rw [mG_1]; exact eC_I (fun j _ => by rw [mS]; by_cases e5 : j = 5; rw [if_pos e5]; rw [if_neg e5, if_neg (by omega)])) (by decide) (by decide) dX5_init_8 (fun H hP hS => ?_)
  refine k_putF (ty := .array .int) hC hK hP hS hm 0 (by decide) mG_0 rfl in_X5 tyX5_ok nmX5 0 (by decide) q1296 rfl rfl rfl (by decide +kernel) rfl rfl (by show 0 < 27; decide) dX5_init_10 (fun H locs hP hS => ?_)
  rw [mG_up] at hP
  refine lv_aload_n hx hb dX5_init_13 rfl (hl.at rfl) ?_
  refine lv_sipush (v := nI 449) hx hb dX5_init_14 rfl ?_
  refine k_newa (atype := .int) hC hK hP hS hb0 (by omega) q140 0 rfl rfl (by decide) (fun h9 => h9) 449 rfl (by decide) (by exact eC_I (fun _ _ => rfl)) (by decide) (by decide) dX5_init_17 (fun H hP hS => ?_)
  refine k_putF (ty := .array .int) hC hK hP hS hm 0 (by decide) mG_0 rfl in_X5 tyX5_ok nmX5 1 (by decide) q1297 rfl rfl rfl (by decide +kernel) rfl rfl (by show 1 < 27; decide) dX5_init_19 (fun H locs hP hS => ?_)
  rw [mG_up] at hP
  refine lv_aload_n hx hb dX5_init_22 rfl (hl.at rfl) ?_
  refine lv_sipush (v := nI 449) hx hb dX5_init_23 rfl ?_
  refine k_newa (atype := .int) hC hK hP hS hb0 (by omega) q140 0 rfl rfl (by decide) (fun h9 => h9) 449 rfl (by decide) (by exact eC_I (fun _ _ => rfl)) (by decide) (by decide) dX5_init_26 (fun H hP hS => ?_)
  refine k_putF (ty := .array .int) hC hK hP hS hm 0 (by decide) mG_0 rfl in_X5 tyX5_ok nmX5 2 (by decide) q1298 rfl rfl rfl (by decide +kernel) rfl rfl (by show 2 < 27; decide) dX5_init_28 (fun H locs hP hS => ?_)
  rw [mG_up] at hP
  refine lv_aload_n hx hb dX5_init_31 rfl (hl.at rfl) ?_
  refine lv_bipush (v := nI 7) hx hb dX5_init_32 rfl ?_
  refine k_newa (atype := .int) hC hK hP hS hb0 (by omega) q140 0 rfl rfl (by decide) (fun h9 => h9) 7 rfl (by decide) (by exact eC_I (fun _ _ => rfl)) (by decide) (by decide) dX5_init_34 (fun H hP hS => ?_)
  refine k_putF (ty := .array .int) hC hK hP hS hm 0 (by decide) mG_0 rfl in_X5 tyX5_ok nmX5 4 (by decide) q1300 rfl rfl rfl (by decide +kernel) rfl rfl (by show 4 < 27; decide) dX5_init_36 (fun H locs hP hS => ?_)
  rw [mG_up] at hP
  refine lv_aload_n hx hb dX5_init_39 rfl (hl.at rfl) ?_
  refine lv_bipush (v := nI 124) hx hb dX5_init_40 rfl ?_
  refine k_newa (atype := .int) hC hK hP hS hb0 (by omega) q140 0 rfl rfl (by decide) (fun h9 => h9) 124 rfl (by decide) (by exact eC_I (fun _ _ => rfl)) (by decide) (by decide) dX5_init_42 (fun H hP hS => ?_)
  refine k_putF (ty := .array .int) hC hK hP hS hm 0 (by decide) mG_0 rfl in_X5 tyX5_ok nmX5 9 (by decide) q1305 rfl rfl rfl (by decide +kernel) rfl rfl (by show 9 < 27; decide) dX5_init_44 (fun H locs hP hS => ?_)
  rw [mG_up] at hP
  refine lv_aload_n hx hb dX5_init_47 rfl (hl.at rfl) ?_
  refine lv_sipush (v := nI 128) hx hb dX5_init_48 rfl ?_
  refine k_newa (atype := .int) hC hK hP hS hb0 (by omega) q140 0 rfl rfl (by decide) (fun h9 => h9) 128 rfl (by decide) (by exact eC_I (fun _ _ => rfl)) (by decide) (by decide) dX5_init_51 (fun H hP hS => ?_)
  refine k_putF (ty := .array .int) hC hK hP hS hm 0 (by decide) mG_0 rfl in_X5 tyX5_ok nmX5 10 (by decide) q1306 rfl rfl rfl (by decide +kernel) rfl rfl (by show 10 < 27; decide) dX5_init_53 (fun H locs hP hS => ?_)
  rw [mG_up] at hP
  refine lv_aload_n hx hb dX5_init_56 rfl (hl.at rfl) ?_
  refine lv_bipush (v := nI 64) hx hb dX5_init_57 rfl ?_
  refine k_newa (atype := .int) hC hK hP hS hb0 (by omega) q140 0 rfl rfl (by decide) (fun h9 => h9) 64 rfl (by decide) (by exact eC_I (fun _ _ => rfl)) (by decide) (by decide) dX5_init_59 (fun H hP hS => ?_)
  refine k_putF (ty := .array .int) hC hK hP hS hm 0 (by decide) mG_0 rfl in_X5 tyX5_ok nmX5 11 (by decide) q1307 rfl rfl rfl (by decide +kernel) rfl rfl (by show 11 < 27; decide) dX5_init_61 (fun H locs hP hS => ?_)
  rw [mG_up] at hP
  refine lv_aload_n hx hb dX5_init_64 rfl (hl.at rfl) ?_
  refine lv_bipush (v := nI 13) hx hb dX5_init_65 rfl ?_
  refine k_newa (atype := .int) hC hK hP hS hb0 (by omega) q140 0 rfl rfl (by decide) (fun h9 => h9) 13 rfl (by decide) (by exact eC_I (fun _ _ => rfl)) (by decide) (by decide) dX5_init_67 (fun H hP hS => ?_)
  refine k_putF (ty := .array .int) hC hK hP hS hm 0 (by decide) mG_0 rfl in_X5 tyX5_ok nmX5 12 (by decide) q1308 rfl rfl rfl (by decide +kernel) rfl rfl (by show 12 < 27; decide) dX5_init_69 (fun H locs hP hS => ?_)
  rw [mG_up] at hP
  refine lv_aload_n hx hb dX5_init_72 rfl (hl.at rfl) ?_
  refine lv_bipush (v := nI 9) hx hb dX5_init_73 rfl ?_
  refine k_newa (atype := .int) hC hK hP hS hb0 (by omega) q140 0 rfl rfl (by decide) (fun h9 => h9) 9 rfl (by decide) (by exact eC_I (fun _ _ => rfl)) (by decide) (by decide) dX5_init_75 (fun H hP hS => ?_)
  refine k_putF (ty := .array .int) hC hK hP hS hm 0 (by decide) mG_0 rfl in_X5 tyX5_ok nmX5 13 (by decide) q1309 rfl rfl rfl (by decide +kernel) rfl rfl (by show 13 < 27; decide) dX5_init_77 (fun H locs hP hS => ?_)
  rw [mG_up] at hP
  refine lv_aload_n hx hb dX5_init_80 rfl (hl.at rfl) ?_
  refine lv_bipush (v := nI 9) hx hb dX5_init_81 rfl ?_
  refine k_newa (atype := .int) hC hK hP hS hb0 (by omega) q140 0 rfl rfl (by decide) (fun h9 => h9) 9 rfl (by decide) (by exact eC_I (fun _ _ => rfl)) (by decide) (by decide) dX5_init_83 (fun H hP hS => ?_)
  refine k_putF (ty := .array .int) hC hK hP hS hm 0 (by decide) mG_0 rfl in_X5 tyX5_ok nmX5 16 (by decide) q1312 rfl rfl rfl (by decide +kernel) rfl rfl (by show 16 < 27; decide) dX5_init_85 (fun H locs hP hS => ?_)
  rw [mG_up] at hP
  refine lv_aload_n hx hb dX5_init_88 rfl (hl.at rfl) ?_
  refine lv_bipush (v := nI 30) hx hb dX5_init_89 rfl ?_
  refine k_newa (atype := .int) hC hK hP hS hb0 (by omega) q140 0 rfl rfl (by decide) (fun h9 => h9) 30 rfl (by decide) (by exact eC_I (fun _ _ => rfl)) (by decide) (by decide) dX5_init_91 (fun H hP hS => ?_)
  refine k_putF (ty := .array .int) hC hK hP hS hm 0 (by decide) mG_0 rfl in_X5 tyX5_ok nmX5 19 (by decide) q1315 rfl rfl rfl (by decide +kernel) rfl rfl (by show 19 < 27; decide) dX5_init_93 (fun H locs hP hS => ?_)
  rw [mG_up] at hP
  refine lv_aload_n hx hb dX5_init_96 rfl (hl.at rfl) ?_
  refine lv_iconst (v := nI 4) hx hb dX5_init_97 rfl ?_
  refine k_newa (atype := .int) hC hK hP hS hb0 (by omega) q140 0 rfl rfl (by decide) (fun h9 => h9) 4 rfl (by decide) (by exact eC_I (fun _ _ => rfl)) (by decide) (by decide) dX5_init_98 (fun H hP hS => ?_)
  refine k_putF (ty := .array .int) hC hK hP hS hm 0 (by decide) mG_0 rfl in_X5 tyX5_ok nmX5 23 (by decide) q1319 rfl rfl rfl (by decide +kernel) rfl rfl (by show 23 < 27; decide) dX5_init_100 (fun H locs hP hS => ?_)
  rw [mG_up] at hP
  refine lv_aload_n hx hb dX5_init_103 rfl (hl.at rfl) ?_
  refine lv_iconst (v := nI 4) hx hb dX5_init_104 rfl ?_
  refine k_newa (atype := .int) hC hK hP hS hb0 (by omega) q140 0 rfl rfl (by decide) (fun h9 => h9) 4 rfl (by decide) (by exact eC_I (fun _ _ => rfl)) (by decide) (by decide) dX5_init_105 (fun H hP hS => ?_)
  refine k_putF (ty := .array .int) hC hK hP hS hm 0 (by decide) mG_0 rfl in_X5 tyX5_ok nmX5 24 (by decide) q1320 rfl rfl rfl (by decide +kernel) rfl rfl (by show 24 < 27; decide) dX5_init_107 (fun H locs hP hS => ?_)
  rw [mG_up] at hP
  refine lv_aload_n hx hb dX5_init_110 rfl (hl.at rfl) ?_
  refine lv_bipush (v := nI 96) hx hb dX5_init_111 rfl ?_
  refine k_newa (atype := .int) hC hK hP hS hb0 (by omega) q140 0 rfl rfl (by decide) (fun h9 => h9) 96 rfl (by decide) (by exact eC_I (fun _ _ => rfl)) (by decide) (by decide) dX5_init_113 (fun H hP hS => ?_)
  refine k_putF (ty := .array .int) hC hK hP hS hm 0 (by decide) mG_0 rfl in_X5 tyX5_ok nmX5 25 (by decide) q1321 rfl rfl rfl (by decide +kernel) rfl rfl (by show 25 < 27; decide) dX5_init_115 (fun H locs hP hS => ?_)
  rw [mG_up] at hP
  refine lv_aload_n hx hb dX5_init_118 rfl (hl.at rfl) ?_
  refine lv_bipush (v := nI 24) hx hb dX5_init_119 rfl ?_
  refine k_newa (atype := .int) hC hK hP hS hb0 (by omega) q140 0 rfl rfl (by decide) (fun h9 => h9) 24 rfl (by decide) (by exact eC_I (fun _ _ => rfl)) (by decide) (by decide) dX5_init_121 (fun H hP hS => ?_)
  refine k_putF (ty := .array .int) hC hK hP hS hm 0 (by decide) mG_0 rfl in_X5 tyX5_ok nmX5 26 (by decide) q1322 rfl rfl rfl (by decide +kernel) rfl rfl (by show 26 < 27; decide) dX5_init_123 (fun H locs hP hS => ?_)
  rw [mG_up] at hP
  replace hP : KW D b 16 (mG cA (mo b σ0) (mS 0 0)) H := hP
  refine lv_aload_n hx hb dX5_init_126 rfl (hl.at rfl) ?_
  refine k_get hC hK hP 0 (by decide) mG_0 rfl in_X5 0 (by decide) q1296 rfl rfl dX5_init_127 ?_
  refine lv_iconst (v := nI 5) hx hb dX5_init_130 rfl ?_
  refine lv_iconst (v := nI 1) hx hb dX5_init_131 rfl ?_
  refine k_iast hC hK hP hS 1 (by decide) mG_1 5 rfl (by decide) (by decide) dX5_init_132 (fun H locs hP hS => ?_)
  rw [mG_s, mS_5] at hP
  refine lv_iconst (v := nI 0) hx hb dX5_init_133 rfl ?_
  refine l_istore_n hx hb 1 dX5_init_134 rfl hl rfl (fun ls hl => ?_)
  have l2 : ∀ (i k : Nat), k ≤ 24 → 25 ≤ k + i → ∀ (H : Heap) (locs : List Loc) (ls : Array Slot), KW D b 16 (mG cA (mo b σ0) (mS k (nI 1))) H → va_S (fun q => b ≤ q) s.heap H locs → lh ls [some (.ref b), some (.int (nI k))] → W p l e (rmG 2 15 1859) s m args below meth c H locs 15 1859 Q (F0 m 135 ls []) := by
    intro i
    induction i with
    | zero => intro k h1 h2; exact absurd h2 (by omega)
    | succ i ih =>
      intro k h1 h2 H locs ls hP hS hl
      refine lv_iload_n hx hb dX5_init_135 rfl (hl.at rfl) ?_
      refine lv_bipush (v := nI 24) hx hb dX5_init_136 rfl ?_
      refine l_geN hx hb 158 dX5_init_138 rfl (by omega) (by omega) (fun c9 => ?_) (fun c9 => ?_)
      · have e5 : k = 24 := by omega
        subst e5
        exact hret _ _ ls _ () (mG_fin hP) hS dX5_init_158 trivial
      · refine lv_aload_n hx hb dX5_init_141 rfl (hl.at rfl) ?_
        refine k_get hC hK hP 0 (by decide) mG_0 rfl in_X5 0 (by decide) q1296 rfl rfl dX5_init_142 ?_
        refine lv_bipush (v := nI 6) hx hb dX5_init_145 rfl ?_
        refine lv_iload_n hx hb dX5_init_147 rfl (hl.at rfl) ?_
        refine l_addN hx hb dX5_init_148 ?_
        refine lv_bipush (v := nI 30) hx hb dX5_init_149 rfl ?_
        refine k_iast hC hK hP hS 1 (by decide) mG_1 (6 + k) rfl (by omega) (by decide) dX5_init_151 (fun H locs hP hS => ?_)
        rw [mG_s, mS_6] at hP
        refine l_inc1 hx hb 1 dX5_init_152 hl rfl rfl (fun ls hl => ?_)
        refine lv_goto (tgt := 135) hx hb dX5_init_155 rfl ?_
        exact ih (k + 1) (by omega) (by omega) _ _ _ hP hS hl
  exact l2 25 0 (by omega) (by omega) _ _ _ hP hS hl
