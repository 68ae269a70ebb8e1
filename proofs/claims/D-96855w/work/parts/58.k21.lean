def f00 : Nat → va_E := fun _ => .inr (2, [])
def U0 : Tta := fun a => if a < 3 then S0 else fun _ _ => nI 0
def ρ0 : Rho := fun _ _ => none
def wS (cA : Nat → ClassId) (b : Nat) (fs : List Value) (k5 j : Nat) : va_E := if j = 0 then .inr (0, fs) else if j = 72 then aR (cA 3) 4 (fun k => if k < k5 then some (b + (73 + k)) else none) else wcl cA (ba b) f00 U0 ρ0 (0, 1) j
section WSS
variable {cA : Nat → ClassId} {b k5 j h : Nat} {fs fs' : List Value} {D : va_G} {H : Heap} {x : va_E}
theorem wS_0 : wS cA b fs k5 0 = .inr (0, fs) := by rw [wS, if_pos rfl]
theorem wS_72 : wS cA b fs k5 72 = aR (cA 3) 4 (fun k => if k < k5 then some (b + (73 + k)) else none) := by rw [wS, if_neg (by decide), if_pos rfl]
theorem wS_c (h0 : j ≠ 0) (h2 : j ≠ 72) : wS cA b fs k5 j = wcl cA (ba b) f00 U0 ρ0 (0, 1) j := by rw [wS, if_neg h0, if_neg h2]
theorem wS_up : va_up (wS cA b fs k5) 0 (.inr (0, fs')) = wS cA b fs' k5 := by
  funext j
  by_cases e : j = 0
  · subst e; rw [va_up_self, wS_0]
  · rw [va_up_ne _ _ e, wS, wS, if_neg e, if_neg e]
theorem wS_5 : va_up (wS cA b fs k5) 72 (aR (cA 3) 4 (va_up (fun k => if k < k5 then some (b + (73 + k)) else none) k5 (some (b + (73 + k5))))) = wS cA b fs (k5 + 1) := by
  funext j
  by_cases e : j = 72
  · subst e
    rw [va_up_self, wS_72]
    congr 6
    funext k
    by_cases z : k = k5
    · subst z; rw [va_up_self, if_pos (by omega)]
    · rw [va_up_ne _ _ z]
      by_cases y : k < k5
      · rw [if_pos y, if_pos (by omega)]
      · rw [if_neg y, if_neg (by omega)]
  · rw [va_up_ne _ _ e, wS, wS, if_neg e, if_neg e]
/-- a cell not yet made may be thought otherwise -/
theorem KW.th {n : Nat} {F : Nat → va_E} (hP : KW D b n F H) : KW D b n (va_up F n x) H := hP.cg (fun j hj => by rw [va_up_ne _ _ (by omega)])
theorem wS_h {a : Nat} (ha : a < 3) : hF cA b (3 + 22 * a) (va_up (wS cA b fs k5) (3 + 22 * a) x) = wS cA b fs k5 := by
  funext j
  unfold hF
  by_cases e : 3 + 22 * a ≤ j ∧ j < 3 + 22 * a + 22
  · rw [if_pos e, wS_c (by omega) (by omega)]
    obtain ⟨o, rfl⟩ : ∃ o, j = 3 + 22 * a + o := ⟨j - (3 + 22 * a), by omega⟩
    rw [wcl_h ha (by omega), show 3 + 22 * a + o - (3 + 22 * a) = o by omega, show U0 a = S0 from if_pos ha]
    rfl
  · rw [if_neg e, va_up_ne _ _ (by omega)]
theorem wS_x (h0 : j ≠ 0) (h2 : j ≠ 72) (hx : wcl cA (ba b) f00 U0 ρ0 (0, 1) j = x) : va_up (wS cA b fs k5) j x = wS cA b fs k5 := by
  funext i
  by_cases e : i = j
  · subst e; rw [va_up_self, wS_c h0 h2, hx]
  · rw [va_up_ne _ _ e]
theorem wS_fin (hj : j < 81) : eC (wS cA b (wfl (ba b) (U0 3) (0, 1)) 4 j) = eC (wcl cA (ba b) f00 U0 ρ0 (0, 1) j) := by
  by_cases e : j = 0
  · subst e; rw [wS_0]; rfl
  · by_cases e2 : j = 72
    · subst e2
      rw [wS_72, wo_sh]
      exact eC_R (fun k hk => if_pos hk)
    · rw [wS_c e e2]
end WSS
def dfl0 : List Value := [.null, .null, .null, .null, .null, .null, .null, .null, .null, .int 0, .null, .null, .int 0, .int 0, .null]
theorem cX3_init_ {l : Launch} {D : va_G} {cA : Nat → ClassId} {b h : Nat} {F : Nat → va_E} (h0 : F h = .inr (3, [.null, .int 0])) (h1 : eC (aI (cA 1) 30 (fun _ => 0)) = eC (F (h + 1))) : Cv l (KC D cA) yX3_init cX3_init 1 1 1 30 [.ref (b + h)] (fun H => KW D b (h + 1) F H ∧ H.size = b + (h + 1)) (fun q => b ≤ q) (fun _ : Unit => True) (fun _ H => KW D b (h + 2) (va_up F h (.inr (3, [.ref (b + (h + 1)), .int 0]))) H) := by
  refine Cv.ofI (by decide +kernel) (Nat.le_of_ble_eq_true rfl) ?_
  intro p e s m args below meth c Q hm hC hK hP hret ls hl
  obtain ⟨hP, hs0⟩ := hP
  have hx := hC.1
  have hb := hC.2.1
  have hown := hC.2.2.2.1
  have hts := hC.2.2.2.2
  have hS : va_S (fun q => b ≤ q) s.heap s.heap [] := va_S.rf
  have hb0 : b ≤ s.heap.size := by omega
  refine lv_aload_n hx hb dX3_init_0 rfl (hl.at rfl) ?_
  refine W.objInit hx hb hown (hts _ q228) (hts _ q118) (hts _ q119) rfl (by rw [hC.2.2.1]; exact hl.1) rfl dX3_init_1 (Nat.le_of_ble_eq_true rfl) (Nat.le_of_ble_eq_true rfl) ?_
  refine W.eq (g2 := F0 m 4 ls []) rfl ?_
  refine lv_aload_n hx hb dX3_init_4 rfl (hl.at rfl) ?_
  refine lv_bipush (v := nI 30) hx hb dX3_init_5 rfl ?_
  refine k_newa (atype := .byte) hC hK hP hS hb0 (by omega) q141 1 rfl rfl (by decide) (fun h9 => h9) 30 rfl (by decide) h1 (by decide) (by decide) dX3_init_7 (fun H hP hS => ?_)
  refine k_putF (ty := .array .byte) hC hK hP hS hm h (by omega) h0 rfl in_X3 tyX3_ok nmX3 0 (by decide) q229 rfl rfl rfl (by decide +kernel) rfl rfl (by show 0 < 2; decide) dX3_init_9 (fun H locs hP hS => ?_)
  exact hret _ _ ls _ () hP hS dX3_init_12 trivial
theorem cX4_init_ {l : Launch} {D : va_G} {cA : Nat → ClassId} {b h : Nat} {F : Nat → va_E} {n q : Nat} (hh : h < n) (h0 : F h = .inr (4, [.null])) : Cv l (KC D cA) yX4_init cX4_init 2 1 0 0 [.ref (b + h), .ref q] (fun H => KW D b n F H) (fun q => b ≤ q) (fun _ : Unit => True) (fun _ H => KW D b n (va_up F h (.inr (4, [.ref q]))) H) := by
  refine Cv.ofI (by decide +kernel) (Nat.le_of_ble_eq_true rfl) ?_
  intro p e s m args below meth c Q hm hC hK hP hret ls hl
  have hx := hC.1
  have hb := hC.2.1
  have hown := hC.2.2.2.1
  have hts := hC.2.2.2.2
  have hS : va_S (fun q => b ≤ q) s.heap s.heap [] := va_S.rf
  refine lv_aload_n hx hb dX4_init_0 rfl (hl.at rfl) ?_
  refine lv_aload_n hx hb dX4_init_1 rfl (hl.at rfl) ?_
  refine k_putF (ty := .object "WheelBrook") hC hK hP hS hm h hh h0 rfl in_X4 tyX4_ok nmX4 0 (by decide) q246 rfl rfl rfl (by decide +kernel) rfl rfl (by show 0 < 1; decide) dX4_init_2 (fun H locs hP hS => ?_)
  refine lv_aload_n hx hb dX4_init_5 rfl (hl.at rfl) ?_
  refine W.objInit hx hb hown (hts _ q245) (hts _ q118) (hts _ q119) rfl (by rw [hC.2.2.1]; exact hl.1) rfl dX4_init_6 (Nat.le_of_ble_eq_true rfl) (Nat.le_of_ble_eq_true rfl) ?_
  refine W.eq (g2 := F0 m 9 ls []) rfl ?_
  exact hret _ _ ls _ () hP hS dX4_init_9 trivial
theorem ci_X0_72 : CI RX0 72 yX1_init cX1_init 2 0 := ⟨lw_meth q124, q84, q122, q123, rfl, by decide +kernel⟩
theorem cin_X0_85 : CIN RX0 "WheelBrook" 85 yX3_init cX3_init 1 0 := ⟨lw_meth q227, q86, q225, q226, rfl, by decide +kernel⟩
theorem cin_X0_95 : CIN RX0 "WheelBrook" 95 yX2_init cX2_init 1 0 := ⟨lw_meth q133, q85, q239, q132, rfl, by decide +kernel⟩
theorem cin_X0_102 : CIN RX0 "WheelBrook" 102 yX4_init cX4_init 2 1 := ⟨lw_meth q244, q87, q242, q243, rfl, by decide +kernel⟩
theorem cX0_init_ {l : Launch} {D : va_G} {cA : Nat → ClassId} {b : Nat} {F : Nat → va_E} (hF0 : F 0 = .inr (0, dfl0)) : Cv l (KC D cA) yX0_init cX0_init 1 3 80 761 [.ref b] (fun H => KW D b 1 F H ∧ H.size = b + 1) (fun q => b ≤ q) (fun _ : Unit => True) (fun _ H => XW D cA (ba b) 81 f00 ρ0 (0, 1) U0 H) := by
  refine Cv.ofI (by decide +kernel) (Nat.le_of_ble_eq_true rfl) ?_
  intro p e s m args below meth c Q hm hC hK hP hret ls hl
  obtain ⟨hP, hs0⟩ := hP
  have hx := hC.1
  have hb := hC.2.1
  have hown := hC.2.2.2.1
  have hts := hC.2.2.2.2
  have hS : va_S (fun q => b ≤ q) s.heap s.heap [] := va_S.rf
  have hb0 : b ≤ s.heap.size := by omega
  replace hP : KW D b 1 (wS cA b dfl0 0) s.heap := hP.cg (fun j hj => by rw [show j = 0 by omega, wS_0, hF0])
  refine lv_aload_n hx hb dX0_init_0 rfl (hl.at rfl) ?_
  refine W.objInit hx hb hown (hts _ q117) (hts _ q118) (hts _ q119) rfl (by rw [hC.2.2.1]; exact hl.1) rfl dX0_init_1 (Nat.le_of_ble_eq_true rfl) (Nat.le_of_ble_eq_true rfl) ?_
  refine W.eq (g2 := F0 m 4 ls []) rfl ?_
  refine lv_aload_n hx hb dX0_init_4 rfl (hl.at rfl) ?_
  refine lv_bipush (v := nI 60) hx hb dX0_init_5 rfl ?_
  refine k_newa (atype := .int) hC hK hP hS hb0 (by omega) q140 0 rfl rfl (by decide) (fun h9 => h9) 60 rfl (by decide) (by rw [wS_c (by decide) (by decide)]; exact eC_I (fun _ _ => rfl)) (by decide) (by decide) dX0_init_7 (fun H hP hS => ?_)
  refine k_putF (ty := .array .int) hC hK hP hS hm 0 (by decide) wS_0 rfl in_X0 tyX0_ok nmX0 0 (by decide) q250 rfl rfl rfl (by decide +kernel) rfl rfl (by show 0 < 15; decide) dX0_init_9 (fun H locs hP hS => ?_)
  rw [wS_up] at hP
  refine lv_aload_n hx hb dX0_init_12 rfl (hl.at rfl) ?_
  refine lv_iconst (v := nI 4) hx hb dX0_init_13 rfl ?_
  refine k_newa (atype := .int) hC hK hP hS hb0 (by omega) q140 0 rfl rfl (by decide) (fun h9 => h9) 4 rfl (by decide) (by rw [wS_c (by decide) (by decide)]; exact eC_I (fun _ _ => rfl)) (by decide) (by decide) dX0_init_14 (fun H hP hS => ?_)
  refine k_putF (ty := .array .int) hC hK hP hS hm 0 (by decide) wS_0 rfl in_X0 tyX0_ok nmX0 1 (by decide) q252 rfl rfl rfl (by decide +kernel) rfl rfl (by show 1 < 15; decide) dX0_init_16 (fun H locs hP hS => ?_)
  rw [wS_up] at hP
  refine lv_aload_n hx hb dX0_init_19 rfl (hl.at rfl) ?_
  replace hP := hP.th (x := .inr (1, dfl))
  refine k_new hC hK hP hS hb0 (by omega) 1 (ty0 := tyX1) rfl in_X1 tyX1_ok q120 q121 q84 dfl (by decide) (va_up_self _ _ _) (by decide) (by decide) dX0_init_20 (fun H hP hS => ?_)
  refine lv_dup hx hb dX0_init_23 rfl ?_
  refine W.sz (fun hz => ?_)
  refine x_vI hC hK (PW := fun H => KW D b (3 + 1) _ H ∧ H.size = b + (3 + 1)) ⟨hP, by have := k_ge hP (by decide); omega⟩ hS (cX1_init_ (h := 3) (va_up_self _ _ _)) (fun _ h => h) ci_X0_72 rfl rfl hl.1 (Nat.le_of_ble_eq_true rfl) dX0_init_24 (rk (by decide) (by decide)) ⟨by decide, by decide⟩ (fun _ H locs _ hP hS => ?_)
  replace hP : KW D b 25 (wS cA b _ 0) H := (wS_h (a := 0) (by decide)) ▸ hP
  refine k_put (ty := .object "WheelBrook$House") hC hK hP hS 0 (by decide) wS_0 rfl in_X0 tyX0_ok nmX0 2 (by decide) q254 rfl rfl (by decide +kernel) rfl rfl (by show 2 < 15; decide) dX0_init_27 (fun H locs hP hS => ?_)
  rw [wS_up] at hP
  refine lv_aload_n hx hb dX0_init_30 rfl (hl.at rfl) ?_
  replace hP := hP.th (x := .inr (1, dfl))
  refine k_new hC hK hP hS hb0 (by omega) 1 (ty0 := tyX1) rfl in_X1 tyX1_ok q120 q121 q84 dfl (by decide) (va_up_self _ _ _) (by decide) (by decide) dX0_init_31 (fun H hP hS => ?_)
  refine lv_dup hx hb dX0_init_34 rfl ?_
  refine W.sz (fun hz => ?_)
  refine x_vI hC hK (PW := fun H => KW D b (25 + 1) _ H ∧ H.size = b + (25 + 1)) ⟨hP, by have := k_ge hP (by decide); omega⟩ hS (cX1_init_ (h := 25) (va_up_self _ _ _)) (fun _ h => h) ci_X0_72 rfl rfl hl.1 (Nat.le_of_ble_eq_true rfl) dX0_init_35 (rk (by decide) (by decide)) ⟨by decide, by decide⟩ (fun _ H locs _ hP hS => ?_)
  replace hP : KW D b 47 (wS cA b _ 0) H := (wS_h (a := 1) (by decide)) ▸ hP
  refine k_put (ty := .object "WheelBrook$House") hC hK hP hS 0 (by decide) wS_0 rfl in_X0 tyX0_ok nmX0 3 (by decide) q255 rfl rfl (by decide +kernel) rfl rfl (by show 3 < 15; decide) dX0_init_38 (fun H locs hP hS => ?_)
  rw [wS_up] at hP
  refine lv_aload_n hx hb dX0_init_41 rfl (hl.at rfl) ?_
  replace hP := hP.th (x := .inr (1, dfl))
  refine k_new hC hK hP hS hb0 (by omega) 1 (ty0 := tyX1) rfl in_X1 tyX1_ok q120 q121 q84 dfl (by decide) (va_up_self _ _ _) (by decide) (by decide) dX0_init_42 (fun H hP hS => ?_)
  refine lv_dup hx hb dX0_init_45 rfl ?_
  refine W.sz (fun hz => ?_)
  refine x_vI hC hK (PW := fun H => KW D b (47 + 1) _ H ∧ H.size = b + (47 + 1)) ⟨hP, by have := k_ge hP (by decide); omega⟩ hS (cX1_init_ (h := 47) (va_up_self _ _ _)) (fun _ h => h) ci_X0_72 rfl rfl hl.1 (Nat.le_of_ble_eq_true rfl) dX0_init_46 (rk (by decide) (by decide)) ⟨by decide, by decide⟩ (fun _ H locs _ hP hS => ?_)
  replace hP : KW D b 69 (wS cA b _ 0) H := (wS_h (a := 2) (by decide)) ▸ hP
  refine k_putF (ty := .object "WheelBrook$House") hC hK hP hS hm 0 (by decide) wS_0 rfl in_X0 tyX0_ok nmX0 4 (by decide) q256 rfl rfl rfl (by decide +kernel) rfl rfl (by show 4 < 15; decide) dX0_init_49 (fun H locs hP hS => ?_)
  rw [wS_up] at hP
  refine lv_aload_n hx hb dX0_init_52 rfl (hl.at rfl) ?_
  replace hP := hP.th (x := .inr (3, [.null, .int 0]))
  refine k_new hC hK hP hS hb0 (by omega) 3 (ty0 := tyX3) rfl in_X3 tyX3_ok q223 q224 q86 [.null, .int 0] (by decide) (va_up_self _ _ _) (by decide) (by decide) dX0_init_53 (fun H hP hS => ?_)
  refine lv_dup hx hb dX0_init_56 rfl ?_
  refine W.sz (fun hz => ?_)
  refine x_vIN hC hK (PW := fun H => KW D b (69 + 1) _ H ∧ H.size = b + (69 + 1)) ⟨hP, by have := k_ge hP (by decide); omega⟩ hS (cX3_init_ (h := 69) (va_up_self _ _ _) (by rw [va_up_ne _ _ (by decide), wS_c (by decide) (by decide)]; exact eC_I (fun _ _ => rfl))) (fun _ h => h) cin_X0_85 rfl rfl hl.1 (Nat.le_of_ble_eq_true rfl) dX0_init_57 (rk (by decide) (by decide)) ⟨by decide, by decide⟩ (fun _ H locs _ hP hS => ?_)
  rw [va_up_up, wS_x (j := 69) (x := .inr (3, [.ref (b + (69 + 1)), .int 0])) (by decide) (by decide) rfl] at hP
  refine k_putF (ty := .object "WheelBrook$Trace") hC hK hP hS hm 0 (by decide) wS_0 rfl in_X0 tyX0_ok nmX0 5 (by decide) q257 rfl rfl rfl (by decide +kernel) rfl rfl (by show 5 < 15; decide) dX0_init_60 (fun H locs hP hS => ?_)
  rw [wS_up] at hP
  refine lv_aload_n hx hb dX0_init_63 rfl (hl.at rfl) ?_
  refine lv_bipush (v := nI 7) hx hb dX0_init_64 rfl ?_
  refine k_newa (atype := .int) hC hK hP hS hb0 (by omega) q140 0 rfl rfl (by decide) (fun h9 => h9) 7 rfl (by decide) (by rw [wS_c (by decide) (by decide)]; exact eC_I (fun _ _ => rfl)) (by decide) (by decide) dX0_init_66 (fun H hP hS => ?_)
  refine k_putF (ty := .array .int) hC hK hP hS hm 0 (by decide) wS_0 rfl in_X0 tyX0_ok nmX0 6 (by decide) q258 rfl rfl rfl (by decide +kernel) rfl rfl (by show 6 < 15; decide) dX0_init_68 (fun H locs hP hS => ?_)
  rw [wS_up] at hP
  refine lv_aload_n hx hb dX0_init_71 rfl (hl.at rfl) ?_
  refine lv_iconst (v := nI 4) hx hb dX0_init_72 rfl ?_
  refine k_newq hC hK hP hS hb0 (by omega) 3 rfl q238 hK.2.2.1.1 4 rfl (by decide) (by rw [wS_72]; exact eC_R (fun j _ => (if_neg (by omega)).symm)) (by decide) (by decide) dX0_init_73 (fun H hP hS => ?_)
  refine lv_dup hx hb dX0_init_76 rfl ?_
  refine lv_iconst (v := nI 0) hx hb dX0_init_77 rfl ?_
  refine k_new hC hK hP hS hb0 (by omega) 2 (ty0 := tyX2) rfl in_X2 tyX2_ok q238 q130 q85 [.null] (by decide) (by rw [wS_c (by decide) (by decide)]; rfl) (by decide) (by decide) dX0_init_78 (fun H hP hS => ?_)
  refine lv_dup hx hb dX0_init_81 rfl ?_
  refine x_vIN hC hK hP hS (cX2_init_ (PW := KW D b 74 _)) (A1 := fun q => b ≤ q) (fun _ h => h) cin_X0_95 rfl rfl hl.1 (Nat.le_of_ble_eq_true rfl) dX0_init_82 (rk (by decide) (by decide)) ⟨by decide, by decide⟩ (fun _ H locs _ hP hS => ?_)
  refine k_ast hC hK hP hS 72 73 (by decide) (by decide) wS_72 (by rw [wS_c (by decide) (by decide)]; rfl) 0 rfl (by decide) (by decide) dX0_init_85 (fun H locs hP hS => ?_)
  rw [wS_5] at hP
  refine lv_dup hx hb dX0_init_86 rfl ?_
  refine lv_iconst (v := nI 1) hx hb dX0_init_87 rfl ?_
  refine k_new hC hK hP hS hb0 (by omega) 2 (ty0 := tyX2) rfl in_X2 tyX2_ok q238 q130 q85 [.null] (by decide) (by rw [wS_c (by decide) (by decide)]; rfl) (by decide) (by decide) dX0_init_88 (fun H hP hS => ?_)
  refine lv_dup hx hb dX0_init_91 rfl ?_
  refine x_vIN hC hK hP hS (cX2_init_ (PW := KW D b 75 _)) (A1 := fun q => b ≤ q) (fun _ h => h) cin_X0_95 rfl rfl hl.1 (Nat.le_of_ble_eq_true rfl) dX0_init_92 (rk (by decide) (by decide)) ⟨by decide, by decide⟩ (fun _ H locs _ hP hS => ?_)
  refine k_ast hC hK hP hS 72 74 (by decide) (by decide) wS_72 (by rw [wS_c (by decide) (by decide)]; rfl) 1 rfl (by decide) (by decide) dX0_init_95 (fun H locs hP hS => ?_)
  rw [wS_5] at hP
  refine lv_dup hx hb dX0_init_96 rfl ?_
  refine lv_iconst (v := nI 2) hx hb dX0_init_97 rfl ?_
  refine k_new hC hK hP hS hb0 (by omega) 2 (ty0 := tyX2) rfl in_X2 tyX2_ok q238 q130 q85 [.null] (by decide) (by rw [wS_c (by decide) (by decide)]; rfl) (by decide) (by decide) dX0_init_98 (fun H hP hS => ?_)
  refine lv_dup hx hb dX0_init_101 rfl ?_
  refine x_vIN hC hK hP hS (cX2_init_ (PW := KW D b 76 _)) (A1 := fun q => b ≤ q) (fun _ h => h) cin_X0_95 rfl rfl hl.1 (Nat.le_of_ble_eq_true rfl) dX0_init_102 (rk (by decide) (by decide)) ⟨by decide, by decide⟩ (fun _ H locs _ hP hS => ?_)
  refine k_ast hC hK hP hS 72 75 (by decide) (by decide) wS_72 (by rw [wS_c (by decide) (by decide)]; rfl) 2 rfl (by decide) (by decide) dX0_init_105 (fun H locs hP hS => ?_)
  rw [wS_5] at hP
  refine lv_dup hx hb dX0_init_106 rfl ?_
  refine lv_iconst (v := nI 3) hx hb dX0_init_107 rfl ?_
  refine k_new hC hK hP hS hb0 (by omega) 2 (ty0 := tyX2) rfl in_X2 tyX2_ok q238 q130 q85 [.null] (by decide) (by rw [wS_c (by decide) (by decide)]; rfl) (by decide) (by decide) dX0_init_108 (fun H hP hS => ?_)
  refine lv_dup hx hb dX0_init_111 rfl ?_
  refine x_vIN hC hK hP hS (cX2_init_ (PW := KW D b 77 _)) (A1 := fun q => b ≤ q) (fun _ h => h) cin_X0_95 rfl rfl hl.1 (Nat.le_of_ble_eq_true rfl) dX0_init_112 (rk (by decide) (by decide)) ⟨by decide, by decide⟩ (fun _ H locs _ hP hS => ?_)
  refine k_ast hC hK hP hS 72 76 (by decide) (by decide) wS_72 (by rw [wS_c (by decide) (by decide)]; rfl) 3 rfl (by decide) (by decide) dX0_init_115 (fun H locs hP hS => ?_)
  rw [wS_5] at hP
  refine k_putF (ty := .array (.object "WheelBrook$Slot")) hC hK hP hS hm 0 (by decide) wS_0 rfl in_X0 tyX0_ok nmX0 7 (by decide) q259 rfl rfl rfl (by decide +kernel) rfl rfl (by show 7 < 15; decide) dX0_init_116 (fun H locs hP hS => ?_)
  rw [wS_up] at hP
  refine lv_aload_n hx hb dX0_init_119 rfl (hl.at rfl) ?_
  replace hP := hP.th (x := .inr (4, [.null]))
  refine k_new hC hK hP hS hb0 (by omega) 4 (ty0 := tyX4) rfl in_X4 tyX4_ok q240 q241 q87 [.null] (by decide) (va_up_self _ _ _) (by decide) (by decide) dX0_init_120 (fun H hP hS => ?_)
  refine lv_dup hx hb dX0_init_123 rfl ?_
  refine lv_aload_n hx hb dX0_init_124 rfl (hl.at rfl) ?_
  refine x_vIN hC hK (PW := fun H => KW D b 78 _ H) hP hS (cX4_init_ (h := 77) (q := b) (by decide) (va_up_self _ _ _)) (fun _ h => h) cin_X0_102 rfl rfl hl.1 (Nat.le_of_ble_eq_true rfl) dX0_init_125 (rk (by decide) (by decide)) ⟨by decide, by decide⟩ (fun _ H locs _ hP hS => ?_)
  rw [va_up_up, wS_x (j := 77) (x := .inr (4, [.ref b])) (by decide) (by decide) rfl] at hP
  refine k_putF (ty := .object "WheelBrook$Sees") hC hK hP hS hm 0 (by decide) wS_0 rfl in_X0 tyX0_ok nmX0 8 (by decide) q260 rfl rfl rfl (by decide +kernel) rfl rfl (by show 8 < 15; decide) dX0_init_128 (fun H locs hP hS => ?_)
  rw [wS_up] at hP
  refine lv_aload_n hx hb dX0_init_131 rfl (hl.at rfl) ?_
  refine lv_bipush (v := nI 8) hx hb dX0_init_132 rfl ?_
  refine k_newa (atype := .int) hC hK hP hS hb0 (by omega) q140 0 rfl rfl (by decide) (fun h9 => h9) 8 rfl (by decide) (by rw [wS_c (by decide) (by decide)]; exact eC_I (fun _ _ => rfl)) (by decide) (by decide) dX0_init_134 (fun H hP hS => ?_)
  refine k_putF (ty := .array .int) hC hK hP hS hm 0 (by decide) wS_0 rfl in_X0 tyX0_ok nmX0 10 (by decide) q262 rfl rfl rfl (by decide +kernel) rfl rfl (by show 10 < 15; decide) dX0_init_136 (fun H locs hP hS => ?_)
  rw [wS_up] at hP
  refine lv_aload_n hx hb dX0_init_139 rfl (hl.at rfl) ?_
  refine lv_bipush (v := nI 12) hx hb dX0_init_140 rfl ?_
  refine k_newa (atype := .int) hC hK hP hS hb0 (by omega) q140 0 rfl rfl (by decide) (fun h9 => h9) 12 rfl (by decide) (by rw [wS_c (by decide) (by decide)]; exact eC_I (fun _ _ => rfl)) (by decide) (by decide) dX0_init_142 (fun H hP hS => ?_)
  refine k_putF (ty := .array .int) hC hK hP hS hm 0 (by decide) wS_0 rfl in_X0 tyX0_ok nmX0 11 (by decide) q263 rfl rfl rfl (by decide +kernel) rfl rfl (by show 11 < 15; decide) dX0_init_144 (fun H locs hP hS => ?_)
  rw [wS_up] at hP
  refine lv_aload_n hx hb dX0_init_147 rfl (hl.at rfl) ?_
  refine lv_bipush (v := nI 8) hx hb dX0_init_148 rfl ?_
  refine k_newa (atype := .int) hC hK hP hS hb0 (by omega) q140 0 rfl rfl (by decide) (fun h9 => h9) 8 rfl (by decide) (by rw [wS_c (by decide) (by decide)]; exact eC_I (fun _ _ => rfl)) (by decide) (by decide) dX0_init_150 (fun H hP hS => ?_)
  refine k_putF (ty := .array .int) hC hK hP hS hm 0 (by decide) wS_0 rfl in_X0 tyX0_ok nmX0 14 (by decide) q266 rfl rfl rfl (by decide +kernel) rfl rfl (by show 14 < 15; decide) dX0_init_152 (fun H locs hP hS => ?_)
  rw [wS_up] at hP
  replace hP : KW D b 81 (wS cA b (wfl (ba b) (U0 3) (0, 1)) 4) H := hP
  exact hret _ _ ls _ () (hP.cg (fun j hj => wS_fin hj)) hS dX0_init_155 trivial
