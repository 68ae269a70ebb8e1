def S0 : Sta := fun i j => if i = 0 then (if j = 5 then nI 1 else nI 0) else if i = 1 then nI 30 else nI 0
def nn0 : Nat → Option Nat := fun _ => none
def hst (cA : Nat → ClassId) (b h k5 k1 o : Nat) : va_E := match o with
  | 1 => aI (cA 1) 24 (fun j => if j < k1 then nI 30 else 0)
  | 2 => aI (cA 1) 12 (fun _ => 0)
  | 3 => aI (cA 0) 5 (fun _ => 0)
  | 4 => aI (cA 0) 5 (fun _ => 0)
  | 5 => aR (cA 3) 8 (fun k => if k < k5 then some (b + (h + 14 + k)) else none)
  | 6 => aI (cA 1) 8 (fun _ => 0)
  | 7 => aI (cA 1) 8 (fun _ => 0)
  | 8 => aI (cA 1) 8 (fun _ => 0)
  | 9 => aI (cA 0) 8 (fun _ => 0)
  | 10 => aI (cA 0) 8 (fun _ => 0)
  | 11 => aR (cA 4) 2 (fun _ => none)
  | 12 => aI (cA 1) 60 (fun _ => 0)
  | 13 => aI (cA 0) 24 (fun _ => 0)
  | _ => .inr (2, [.null])
def hG (cA : Nat → ClassId) (b h : Nat) (F : Nat → va_E) (fs : List Value) (k5 k1 j : Nat) : va_E := if j = h then .inr (1, fs) else if h < j ∧ j < h + 22 then hst cA b h k5 k1 (j - h) else F j
section HGS
variable {cA : Nat → ClassId} {b h k5 k1 o : Nat} {F : Nat → va_E} {fs fs' : List Value}
theorem hG_h : hG cA b h F fs k5 k1 h = .inr (1, fs) := by rw [hG, if_pos rfl]
theorem hG_o (h0 : 0 < o) (h2 : o < 22) : hG cA b h F fs k5 k1 (h + o) = hst cA b h k5 k1 o := by
  rw [hG, if_neg (by omega), if_pos (by omega), show h + o - h = o by omega]
theorem hst_s (ho : 14 ≤ o) : hst cA b h k5 k1 o = .inr (2, [.null]) := by
  obtain ⟨k, rfl⟩ : ∃ k, o = k + 14 := ⟨o - 14, by omega⟩
  rfl
theorem hG_up : va_up (hG cA b h F fs k5 k1) h (.inr (1, fs')) = hG cA b h F fs' k5 k1 := by
  funext j
  by_cases e : j = h
  · subst e; rw [va_up_self, hG_h]
  · rw [va_up_ne _ _ e, hG, hG, if_neg e, if_neg e]
theorem hG_5 : va_up (hG cA b h F fs k5 k1) (h + 5) (aR (cA 3) 8 (va_up (fun k => if k < k5 then some (b + (h + 14 + k)) else none) k5 (some (b + (h + 14 + k5))))) = hG cA b h F fs (k5 + 1) k1 := by
  funext j
  by_cases e : j = h + 5
  · subst e
    rw [va_up_self, hG_o (by decide) (by decide)]
    show _ = aR (cA 3) 8 _
    congr 6
    funext k
    by_cases z : k = k5
    · subst z; rw [va_up_self, if_pos (by omega)]
    · rw [va_up_ne _ _ z]
      by_cases y : k < k5
      · rw [if_pos y, if_pos (by omega)]
      · rw [if_neg y, if_neg (by omega)]
  · rw [va_up_ne _ _ e, hG, hG]
    by_cases e1 : j = h
    · rw [if_pos e1, if_pos e1]
    · rw [if_neg e1, if_neg e1]
      by_cases e2 : h < j ∧ j < h + 22
      · rw [if_pos e2, if_pos e2]
        unfold hst
        split <;> first | rfl | (rename_i z; exact absurd z (by omega))
      · rw [if_neg e2, if_neg e2]
theorem hG_1 : va_up (hG cA b h F fs k5 k1) (h + 1) (aI (cA 1) 24 (upd (fun j => if j < k1 then nI 30 else 0) k1 (nI 30))) = hG cA b h F fs k5 (k1 + 1) := by
  funext j
  by_cases e : j = h + 1
  · subst e
    rw [va_up_self, hG_o (by decide) (by decide)]
    show _ = aI (cA 1) 24 _
    congr 3
    funext k
    by_cases z : k = k1
    · subst z; rw [pk_us, if_pos (by omega)]
    · rw [pk_un z]
      by_cases y : k < k1
      · rw [if_pos y, if_pos (by omega)]
      · rw [if_neg y, if_neg (by omega)]
  · rw [va_up_ne _ _ e, hG, hG]
    by_cases e1 : j = h
    · rw [if_pos e1, if_pos e1]
    · rw [if_neg e1, if_neg e1]
      by_cases e2 : h < j ∧ j < h + 22
      · rw [if_pos e2, if_pos e2]
        unfold hst
        split <;> first | rfl | (rename_i z; exact absurd z (by omega))
      · rw [if_neg e2, if_neg e2]
end HGS
def dfl : List Value := [.int 0, .int 0, .int 0, .int 0, .int 0, .int 0, .null, .null, .null, .null, .null, .null, .null, .null, .null, .null, .null, .null, .null]
def hF (cA : Nat → ClassId) (b h : Nat) (F : Nat → va_E) (j : Nat) : va_E := if h ≤ j ∧ j < h + 22 then hcl cA (ba b) h S0 nn0 nn0 (j - h) else F j
theorem hF_of {cA : Nat → ClassId} {b h j : Nat} {F : Nat → va_E} (hj : j < h + 22) : eC (hG cA b h F (hfl (ba b) h S0) 8 24 j) = eC (hF cA b h F j) := by
  unfold hG hF
  by_cases e1 : j = h
  · subst e1
    rw [if_pos rfl, if_pos (by omega), Nat.sub_self]
    rfl
  · rw [if_neg e1]
    by_cases e2 : h < j
    · obtain ⟨o, rfl⟩ : ∃ o, j = h + o := ⟨j - h, by omega⟩
      rw [if_pos (by omega), if_pos (by omega), show h + o - h = o by omega]
      have ho : 0 < o ∧ o < 22 := by omega
      match o, ho with
      | 1, _ => exact eC_I (fun j hj => if_pos hj)
      | 2, _ => exact eC_I (fun j hj => rfl)
      | 3, _ => exact eC_I (fun j hj => rfl)
      | 4, _ => exact eC_I (fun j hj => rfl)
      | 5, _ => exact eC_R (fun j hj => if_pos hj)
      | 6, _ => exact eC_I (fun j hj => rfl)
      | 7, _ => exact eC_I (fun j hj => rfl)
      | 8, _ => exact eC_I (fun j hj => rfl)
      | 9, _ => exact eC_I (fun j hj => rfl)
      | 10, _ => exact eC_I (fun j hj => rfl)
      | 11, _ => exact eC_R (fun j hj => rfl)
      | 12, _ => exact eC_I (fun j hj => rfl)
      | 13, _ => exact eC_I (fun j hj => rfl)
      | k + 14, _ => rfl
    · rw [if_neg (by omega), if_neg (by omega)]
theorem k_ge {D : va_G} {b n : Nat} {F : Nat → va_E} {H : Heap} (hP : KW D b n F H) (hn : 0 < n) : b + n ≤ H.size := by
  have h1 : b + (n - 1) < H.size := (hP (n - 1) (ba b (n - 1), F (n - 1)) (gw_at (by omega))).lt
  omega
theorem cin_X1_62 : CIN RX1 "WheelBrook" 62 yX2_init cX2_init 1 0 := ⟨lw_meth q133, q85, q131, q132, rfl, by decide +kernel⟩
theorem cX1_init_ {l : Launch} {D : va_G} {cA : Nat → ClassId} {b h : Nat} {F : Nat → va_E} (hF0 : F h = .inr (1, dfl)) : Cv l (KC D cA) yX1_init cX1_init 2 2 21 188 [.ref (b + h)] (fun H => KW D b (h + 1) F H ∧ H.size = b + (h + 1)) (fun q => b ≤ q) (fun _ : Unit => True) (fun _ H => KW D b (h + 22) (hF cA b h F) H) := by
  refine Cv.ofI (by decide +kernel) (Nat.le_of_ble_eq_true rfl) ?_
  intro p e s m args below meth c Q hm hC hK hP hret ls hl
  obtain ⟨hP, hs0⟩ := hP
  have hx := hC.1
  have hb := hC.2.1
  have hown := hC.2.2.2.1
  have hts := hC.2.2.2.2
  have hS : va_S (fun q => b ≤ q) s.heap s.heap [] := va_S.rf
  have hb0 : b ≤ s.heap.size := by omega
  replace hP : KW D b (h + 1) (hG cA b h F dfl 0 0) s.heap := hP.cg (fun j hj => by by_cases e9 : j = h; (subst e9; rw [hG_h, hF0]); (rw [hG, if_neg e9, if_neg (by omega)]))
  refine lv_aload_n hx hb dX1_init_0 rfl (hl.at rfl) ?_
  refine W.objInit hx hb hown (hts _ q125) (hts _ q118) (hts _ q119) rfl (by rw [hC.2.2.1]; exact hl.1) rfl dX1_init_1 (Nat.le_of_ble_eq_true rfl) (Nat.le_of_ble_eq_true rfl) ?_
  refine W.eq (g2 := F0 m 4 ls []) rfl ?_
  refine lv_aload_n hx hb dX1_init_4 rfl (hl.at rfl) ?_
  refine lv_iconst (v := nI 1) hx hb dX1_init_5 rfl ?_
  refine k_put (ty := .int) hC hK hP hS h (by omega) hG_h rfl in_X1 tyX1_ok nmX1 3 (by decide) q149 rfl rfl (by decide +kernel) rfl rfl (by show 3 < 19; decide) dX1_init_6 (fun H locs hP hS => ?_)
  rw [hG_up] at hP
  refine lv_aload_n hx hb dX1_init_9 rfl (hl.at rfl) ?_
  refine lv_bipush (v := nI 24) hx hb dX1_init_10 rfl ?_
  refine k_newa (atype := .byte) hC hK hP hS hb0 (by omega) q141 1 rfl rfl (by decide) (fun h9 => h9) 24 rfl (by decide) (by rw [hG_o (o := 1) (by decide) (by decide)]; exact eC_I (fun j _ => (if_neg (by omega)).symm)) (by decide) (by decide) dX1_init_12 (fun H hP hS => ?_)
  refine k_putF (ty := .array .byte) hC hK hP hS hm h (by omega) hG_h rfl in_X1 tyX1_ok nmX1 6 (by decide) q155 rfl rfl rfl (by decide +kernel) rfl rfl (by show 6 < 19; decide) dX1_init_14 (fun H locs hP hS => ?_)
  rw [hG_up] at hP
  refine lv_aload_n hx hb dX1_init_17 rfl (hl.at rfl) ?_
  refine lv_bipush (v := nI 12) hx hb dX1_init_18 rfl ?_
  refine k_newa (atype := .byte) hC hK hP hS hb0 (by omega) q141 1 rfl rfl (by decide) (fun h9 => h9) 12 rfl (by decide) (by rw [hG_o (o := 2) (by decide) (by decide)]; exact rfl) (by decide) (by decide) dX1_init_20 (fun H hP hS => ?_)
  refine k_putF (ty := .array .byte) hC hK hP hS hm h (by omega) hG_h rfl in_X1 tyX1_ok nmX1 7 (by decide) q157 rfl rfl rfl (by decide +kernel) rfl rfl (by show 7 < 19; decide) dX1_init_22 (fun H locs hP hS => ?_)
  rw [hG_up] at hP
  refine lv_aload_n hx hb dX1_init_25 rfl (hl.at rfl) ?_
  refine lv_iconst (v := nI 5) hx hb dX1_init_26 rfl ?_
  refine k_newa (atype := .int) hC hK hP hS hb0 (by omega) q140 0 rfl rfl (by decide) (fun h9 => h9) 5 rfl (by decide) (by rw [hG_o (o := 3) (by decide) (by decide)]; exact rfl) (by decide) (by decide) dX1_init_27 (fun H hP hS => ?_)
  refine k_putF (ty := .array .int) hC hK hP hS hm h (by omega) hG_h rfl in_X1 tyX1_ok nmX1 8 (by decide) q159 rfl rfl rfl (by decide +kernel) rfl rfl (by show 8 < 19; decide) dX1_init_29 (fun H locs hP hS => ?_)
  rw [hG_up] at hP
  refine lv_aload_n hx hb dX1_init_32 rfl (hl.at rfl) ?_
  refine lv_iconst (v := nI 5) hx hb dX1_init_33 rfl ?_
  refine k_newa (atype := .int) hC hK hP hS hb0 (by omega) q140 0 rfl rfl (by decide) (fun h9 => h9) 5 rfl (by decide) (by rw [hG_o (o := 4) (by decide) (by decide)]; exact rfl) (by decide) (by decide) dX1_init_34 (fun H hP hS => ?_)
  refine k_putF (ty := .array .int) hC hK hP hS hm h (by omega) hG_h rfl in_X1 tyX1_ok nmX1 9 (by decide) q161 rfl rfl rfl (by decide +kernel) rfl rfl (by show 9 < 19; decide) dX1_init_36 (fun H locs hP hS => ?_)
  rw [hG_up] at hP
  refine lv_aload_n hx hb dX1_init_39 rfl (hl.at rfl) ?_
  refine lv_bipush (v := nI 8) hx hb dX1_init_40 rfl ?_
  refine k_newq hC hK hP hS hb0 (by omega) 3 rfl q126 hK.2.2.1.1 8 rfl (by decide) (by rw [hG_o (o := 5) (by decide) (by decide)]; exact eC_R (fun j _ => (if_neg (by omega)).symm)) (by decide) (by decide) dX1_init_42 (fun H hP hS => ?_)
  refine k_putF (ty := .array (.object "WheelBrook$Slot")) hC hK hP hS hm h (by omega) hG_h rfl in_X1 tyX1_ok nmX1 10 (by decide) q163 rfl rfl rfl (by decide +kernel) rfl rfl (by show 10 < 19; decide) dX1_init_45 (fun H locs hP hS => ?_)
  rw [hG_up] at hP
  refine lv_aload_n hx hb dX1_init_48 rfl (hl.at rfl) ?_
  refine lv_bipush (v := nI 8) hx hb dX1_init_49 rfl ?_
  refine k_newa (atype := .byte) hC hK hP hS hb0 (by omega) q141 1 rfl rfl (by decide) (fun h9 => h9) 8 rfl (by decide) (by rw [hG_o (o := 6) (by decide) (by decide)]; exact rfl) (by decide) (by decide) dX1_init_51 (fun H hP hS => ?_)
  refine k_putF (ty := .array .byte) hC hK hP hS hm h (by omega) hG_h rfl in_X1 tyX1_ok nmX1 11 (by decide) q165 rfl rfl rfl (by decide +kernel) rfl rfl (by show 11 < 19; decide) dX1_init_53 (fun H locs hP hS => ?_)
  rw [hG_up] at hP
  refine lv_aload_n hx hb dX1_init_56 rfl (hl.at rfl) ?_
  refine lv_bipush (v := nI 8) hx hb dX1_init_57 rfl ?_
  refine k_newa (atype := .byte) hC hK hP hS hb0 (by omega) q141 1 rfl rfl (by decide) (fun h9 => h9) 8 rfl (by decide) (by rw [hG_o (o := 7) (by decide) (by decide)]; exact rfl) (by decide) (by decide) dX1_init_59 (fun H hP hS => ?_)
  refine k_putF (ty := .array .byte) hC hK hP hS hm h (by omega) hG_h rfl in_X1 tyX1_ok nmX1 12 (by decide) q168 rfl rfl rfl (by decide +kernel) rfl rfl (by show 12 < 19; decide) dX1_init_61 (fun H locs hP hS => ?_)
  rw [hG_up] at hP
  refine lv_aload_n hx hb dX1_init_64 rfl (hl.at rfl) ?_
  refine lv_bipush (v := nI 8) hx hb dX1_init_65 rfl ?_
  refine k_newa (atype := .byte) hC hK hP hS hb0 (by omega) q141 1 rfl rfl (by decide) (fun h9 => h9) 8 rfl (by decide) (by rw [hG_o (o := 8) (by decide) (by decide)]; exact rfl) (by decide) (by decide) dX1_init_67 (fun H hP hS => ?_)
  refine k_putF (ty := .array .byte) hC hK hP hS hm h (by omega) hG_h rfl in_X1 tyX1_ok nmX1 13 (by decide) q170 rfl rfl rfl (by decide +kernel) rfl rfl (by show 13 < 19; decide) dX1_init_69 (fun H locs hP hS => ?_)
  rw [hG_up] at hP
  refine lv_aload_n hx hb dX1_init_72 rfl (hl.at rfl) ?_
  refine lv_bipush (v := nI 8) hx hb dX1_init_73 rfl ?_
  refine k_newa (atype := .int) hC hK hP hS hb0 (by omega) q140 0 rfl rfl (by decide) (fun h9 => h9) 8 rfl (by decide) (by rw [hG_o (o := 9) (by decide) (by decide)]; exact rfl) (by decide) (by decide) dX1_init_75 (fun H hP hS => ?_)
  refine k_putF (ty := .array .int) hC hK hP hS hm h (by omega) hG_h rfl in_X1 tyX1_ok nmX1 14 (by decide) q172 rfl rfl rfl (by decide +kernel) rfl rfl (by show 14 < 19; decide) dX1_init_77 (fun H locs hP hS => ?_)
  rw [hG_up] at hP
  refine lv_aload_n hx hb dX1_init_80 rfl (hl.at rfl) ?_
  refine lv_bipush (v := nI 8) hx hb dX1_init_81 rfl ?_
  refine k_newa (atype := .int) hC hK hP hS hb0 (by omega) q140 0 rfl rfl (by decide) (fun h9 => h9) 8 rfl (by decide) (by rw [hG_o (o := 10) (by decide) (by decide)]; exact rfl) (by decide) (by decide) dX1_init_83 (fun H hP hS => ?_)
  refine k_putF (ty := .array .int) hC hK hP hS hm h (by omega) hG_h rfl in_X1 tyX1_ok nmX1 15 (by decide) q175 rfl rfl rfl (by decide +kernel) rfl rfl (by show 15 < 19; decide) dX1_init_85 (fun H locs hP hS => ?_)
  rw [hG_up] at hP
  refine lv_aload_n hx hb dX1_init_88 rfl (hl.at rfl) ?_
  refine lv_iconst (v := nI 2) hx hb dX1_init_89 rfl ?_
  refine k_newq hC hK hP hS hb0 (by omega) 4 rfl q128 hK.2.2.1.2 2 rfl (by decide) (by rw [hG_o (o := 11) (by decide) (by decide)]; exact rfl) (by decide) (by decide) dX1_init_90 (fun H hP hS => ?_)
  refine k_putF (ty := .array (.object "WheelBrook$Text")) hC hK hP hS hm h (by omega) hG_h rfl in_X1 tyX1_ok nmX1 16 (by decide) q177 rfl rfl rfl (by decide +kernel) rfl rfl (by show 16 < 19; decide) dX1_init_93 (fun H locs hP hS => ?_)
  rw [hG_up] at hP
  refine lv_aload_n hx hb dX1_init_96 rfl (hl.at rfl) ?_
  refine lv_bipush (v := nI 60) hx hb dX1_init_97 rfl ?_
  refine k_newa (atype := .byte) hC hK hP hS hb0 (by omega) q141 1 rfl rfl (by decide) (fun h9 => h9) 60 rfl (by decide) (by rw [hG_o (o := 12) (by decide) (by decide)]; exact rfl) (by decide) (by decide) dX1_init_99 (fun H hP hS => ?_)
  refine k_putF (ty := .array .byte) hC hK hP hS hm h (by omega) hG_h rfl in_X1 tyX1_ok nmX1 17 (by decide) q180 rfl rfl rfl (by decide +kernel) rfl rfl (by show 17 < 19; decide) dX1_init_101 (fun H locs hP hS => ?_)
  rw [hG_up] at hP
  refine lv_aload_n hx hb dX1_init_104 rfl (hl.at rfl) ?_
  refine lv_bipush (v := nI 24) hx hb dX1_init_105 rfl ?_
  refine k_newa (atype := .int) hC hK hP hS hb0 (by omega) q140 0 rfl rfl (by decide) (fun h9 => h9) 24 rfl (by decide) (by rw [hG_o (o := 13) (by decide) (by decide)]; exact rfl) (by decide) (by decide) dX1_init_107 (fun H hP hS => ?_)
  refine k_putF (ty := .array .int) hC hK hP hS hm h (by omega) hG_h rfl in_X1 tyX1_ok nmX1 18 (by decide) q182 rfl rfl rfl (by decide +kernel) rfl rfl (by show 18 < 19; decide) dX1_init_109 (fun H locs hP hS => ?_)
  rw [hG_up] at hP
  replace hP : KW D b (h + 14) (hG cA b h F (hfl (ba b) h S0) 0 0) H := hP
  refine lv_iconst (v := nI 0) hx hb dX1_init_112 rfl ?_
  refine l_istore_n hx hb 1 dX1_init_113 rfl hl rfl (fun ls hl => ?_)
  have l2 : ∀ (i k : Nat), k ≤ 24 → 25 ≤ k + i → ∀ (H : Heap) (locs : List Loc) (ls : Array Slot), KW D b (h + 22) (hG cA b h F (hfl (ba b) h S0) 8 k) H → va_S (fun q => b ≤ q) s.heap H locs → lh ls [some (.ref (b + h)), some (.int (nI k))] → W p l e (rmG 2 21 188) s m args below meth c H locs 21 188 Q (F0 m 141 ls []) := by
    intro i
    induction i with
    | zero => intro k h1 h2; exact absurd h2 (by omega)
    | succ i ih =>
      intro k h1 h2 H locs ls hP hS hl
      refine lv_iload_n hx hb dX1_init_141 rfl (hl.at rfl) ?_
      refine lv_bipush (v := nI 24) hx hb dX1_init_142 rfl ?_
      refine l_geN hx hb 161 dX1_init_144 rfl (by omega) (by omega) (fun c9 => ?_) (fun c9 => ?_)
      · have e5 : k = 24 := by omega
        subst e5
        exact hret _ _ ls _ () (hP.cg (fun j hj => hF_of hj)) hS dX1_init_161 trivial
      · refine lv_aload_n hx hb dX1_init_147 rfl (hl.at rfl) ?_
        refine k_get hC hK hP h (by omega) hG_h rfl in_X1 6 (by decide) q155 rfl rfl dX1_init_148 ?_
        refine lv_iload_n hx hb dX1_init_151 rfl (hl.at rfl) ?_
        refine lv_bipush (v := nI 30) hx hb dX1_init_152 rfl ?_
        refine k_bast hC hK hP hS (h + 1) (by omega) (hG_o (by decide) (by decide)) (nI 30) (by decide) k rfl (by omega) (by decide) dX1_init_154 (fun H locs hP hS => ?_)
        rw [hG_1] at hP
        refine l_inc1 hx hb 1 dX1_init_155 hl rfl rfl (fun ls hl => ?_)
        refine lv_goto (tgt := 141) hx hb dX1_init_158 rfl ?_
        exact ih (k + 1) (by omega) (by omega) _ _ _ hP hS hl
  have l1 : ∀ (i k : Nat), k ≤ 8 → 9 ≤ k + i → ∀ (H : Heap) (locs : List Loc) (ls : Array Slot), KW D b (h + 14 + k) (hG cA b h F (hfl (ba b) h S0) k 0) H → va_S (fun q => b ≤ q) s.heap H locs → lh ls [some (.ref (b + h)), some (.int (nI k))] → W p l e (rmG 2 21 188) s m args below meth c H locs (13 + k) (180 + k) Q (F0 m 114 ls []) := by
    intro i
    induction i with
    | zero => intro k h1 h2; exact absurd h2 (by omega)
    | succ i ih =>
      intro k h1 h2 H locs ls hP hS hl
      refine lv_iload_n hx hb dX1_init_114 rfl (hl.at rfl) ?_
      refine lv_bipush (v := nI 8) hx hb dX1_init_115 rfl ?_
      refine l_geN hx hb 139 dX1_init_117 rfl (by omega) (by omega) (fun c9 => ?_) (fun c9 => ?_)
      · have e5 : k = 8 := by omega
        subst e5
        refine lv_iconst (v := nI 0) hx hb dX1_init_139 rfl ?_
        refine l_istore_n hx hb 1 dX1_init_140 rfl hl rfl (fun ls hl => ?_)
        exact l2 25 0 (by omega) (by omega) _ _ _ hP hS hl
      · refine lv_aload_n hx hb dX1_init_120 rfl (hl.at rfl) ?_
        refine k_get hC hK hP h (by omega) hG_h rfl in_X1 10 (by decide) q163 rfl rfl dX1_init_121 ?_
        refine lv_iload_n hx hb dX1_init_124 rfl (hl.at rfl) ?_
        refine k_new hC hK hP hS hb0 (by omega) 2 (ty0 := tyX2) rfl in_X2 tyX2_ok q126 q130 q85 [.null] (by decide) (by rw [Nat.add_assoc, hG_o (by omega) (by omega), hst_s (by omega)]) (by show _ ≤ 21; omega) (by show _ ≤ 188; omega) dX1_init_125 (fun H hP hS => ?_)
        refine lv_dup hx hb dX1_init_128 rfl ?_
        refine x_vIN hC hK hP hS (cX2_init_ (PW := KW D b (h + 14 + k + 1) (hG cA b h F (hfl (ba b) h S0) k 0))) (A1 := fun q => b ≤ q) (fun _ h => h) cin_X1_62 rfl rfl hl.1 (Nat.le_of_ble_eq_true rfl) dX1_init_129 (rk (by decide) (by decide)) ⟨by show _ ≤ 21; omega, by show _ ≤ 188; omega⟩ (fun _ H locs _ hP hS => ?_)
        refine k_ast hC hK hP hS (h + 5) (h + 14 + k) (by omega) (by omega) (hG_o (by decide) (by decide)) (by rw [Nat.add_assoc, hG_o (by omega) (by omega), hst_s (by omega)]) k rfl (by omega) (by decide) dX1_init_132 (fun H locs hP hS => ?_)
        rw [hG_5] at hP
        refine l_inc1 hx hb 1 dX1_init_133 hl rfl rfl (fun ls hl => ?_)
        refine lv_goto (tgt := 114) hx hb dX1_init_136 rfl ?_
        exact ih (k + 1) (by omega) (by omega) _ _ _ hP hS hl
  exact l1 9 0 (by omega) (by omega) _ _ _ hP hS hl
