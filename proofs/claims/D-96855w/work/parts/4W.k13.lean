theorem cX0_mostOf_ {l : Launch} {q : Int32} : Cp l (fun _ => True) yX0_mostOf cX0_mostOf 1 (some .int) (0) [.int q] (fun _ => True) (fun v => (nI 0 ≤ q ∧ q ≤ nI 5 ∧ v = sp_most q) ∨ (¬ (nI 0 ≤ q ∧ q ≤ nI 5) ∧ v = -1)) := by
  refine Cp.of rfl (by decide +kernel) (Nat.le_of_ble_eq_true rfl) ?_
  intro p e s m args below meth c Q hC hK hP hret ls hl
  have hx := hC.1
  have hb := hC.2.1
  have hown := hC.2.2.2.1
  have hts := hC.2.2.2.2
  refine lv_iload_n hx hb dX0_mostOf_0 rfl (hl.at rfl) ?_
  rcases mo_cases q with rfl | rfl | rfl | rfl | rfl | rfl | hq
  · refine lv_tableIn (tgt := 40) hx hb dX0_mostOf_1 (by decide) (by decide) rfl rfl ?_
    refine lv_bipush (v := nI 6) hx hb dX0_mostOf_40 rfl ?_
    refine hret ls _ _ dX0_mostOf_42 ?_
    first | (exact Or.inl ⟨by decide, by decide, rfl⟩) | (exact Or.inr ⟨mo_no hq, rfl⟩)
  · refine lv_tableIn (tgt := 43) hx hb dX0_mostOf_1 (by decide) (by decide) rfl rfl ?_
    refine lv_bipush (v := nI 9) hx hb dX0_mostOf_43 rfl ?_
    refine hret ls _ _ dX0_mostOf_45 ?_
    first | (exact Or.inl ⟨by decide, by decide, rfl⟩) | (exact Or.inr ⟨mo_no hq, rfl⟩)
  · refine lv_tableIn (tgt := 46) hx hb dX0_mostOf_1 (by decide) (by decide) rfl rfl ?_
    refine lv_bipush (v := nI 11) hx hb dX0_mostOf_46 rfl ?_
    refine hret ls _ _ dX0_mostOf_48 ?_
    first | (exact Or.inl ⟨by decide, by decide, rfl⟩) | (exact Or.inr ⟨mo_no hq, rfl⟩)
  · refine lv_tableIn (tgt := 49) hx hb dX0_mostOf_1 (by decide) (by decide) rfl rfl ?_
    refine lv_iconst (v := nI 4) hx hb dX0_mostOf_49 rfl ?_
    refine hret ls _ _ dX0_mostOf_50 ?_
    first | (exact Or.inl ⟨by decide, by decide, rfl⟩) | (exact Or.inr ⟨mo_no hq, rfl⟩)
  · refine lv_tableIn (tgt := 51) hx hb dX0_mostOf_1 (by decide) (by decide) rfl rfl ?_
    refine lv_iconst (v := nI 1) hx hb dX0_mostOf_51 rfl ?_
    refine hret ls _ _ dX0_mostOf_52 ?_
    first | (exact Or.inl ⟨by decide, by decide, rfl⟩) | (exact Or.inr ⟨mo_no hq, rfl⟩)
  · refine lv_tableIn (tgt := 53) hx hb dX0_mostOf_1 (by decide) (by decide) rfl rfl ?_
    refine lv_ldc (v := 999999) hx hb hown (hts _ q657) dX0_mostOf_53 ?_
    refine hret ls _ _ dX0_mostOf_55 ?_
    first | (exact Or.inl ⟨by decide, by decide, rfl⟩) | (exact Or.inr ⟨mo_no hq, rfl⟩)
  · refine lv_tableOut (tgt := 56) hx hb dX0_mostOf_1 (hq) rfl ?_
    refine lv_iconst (v := -1) hx hb dX0_mostOf_56 rfl ?_
    refine hret ls _ _ dX0_mostOf_57 ?_
    first | (exact Or.inl ⟨by decide, by decide, rfl⟩) | (exact Or.inr ⟨mo_no hq, rfl⟩)
theorem cX0_sumAnew_ {l : Launch} {D : va_G} {cA : Nat → ClassId} {ad : Nat → Nat} {n : Nat} {f0 : Nat → va_E} {ρ : Nat → Nat → Option Nat} {r : Nat × Nat} {U : Nat → Nat → Nat → Int32} (hn : 81 ≤ n) {A : Nat → Prop} (hD : gD A ad n)  : XV l D cA ad n f0 ρ r U A yX0_sumAnew cX0_sumAnew 2 (0) [.ref (ad 0)] (fun V => V = up3 U 3 8 (fun j => if j < 8 then nI 0 else U 3 8 j)) := by
  refine Cv.of (by decide +kernel) (Nat.le_of_ble_eq_true rfl) ?_
  intro p e s m args below meth c Q hC hK hP hret ls hl
  have hx := hC.1
  have hb := hC.2.1
  have hown := hC.2.2.2.1
  have hts := hC.2.2.2.2
  have hS : va_S A s.heap s.heap [] := va_S.rf
  refine lv_iconst (v := nI 0) hx hb dX0_sumAnew_0 rfl ?_
  refine l_istore_n hx hb 1 dX0_sumAnew_1 rfl hl rfl (fun ls hl => ?_)
  have loop : ∀ (i k : Nat), k ≤ 8 → 9 ≤ k + i → ∀ (H : Heap) (locs : List Loc) (ls : Array Slot), XW D cA ad n f0 ρ r (up3 U 3 8 (fun j => if j < k then nI 0 else U 3 8 j)) H → va_S A s.heap H locs → lh ls [some (.ref (ad 0)), some (.int (nI k))] → W p l e (rmG 0 0 0) s m args below meth c H locs 0 0 Q (F0 m 2 ls []) := by
    intro i
    induction i with
    | zero => intro k h1 h2; exact absurd h2 (by omega)
    | succ i ih =>
      intro k h1 h2 H locs ls hP hS hl
      refine lv_iload_n hx hb dX0_sumAnew_2 rfl (hl.at rfl) ?_
      refine lv_bipush (v := nI 8) hx hb dX0_sumAnew_3 rfl ?_
      refine l_geN hx hb 21 dX0_sumAnew_5 rfl (by omega) (by omega) (fun c5 => ?_) (fun c5 => ?_)
      · have e5 : k = 8 := by omega
        refine hret _ _ ls _ _ hP hS dX0_sumAnew_21 ?_
        rw [e5]
      · refine lv_aload_n hx hb dX0_sumAnew_8 rfl (hl.at rfl) ?_
        refine c_get hC hK hP 0 (by omega) (wo_wb) rfl in_X0 14 (by decide) q266 rfl rfl dX0_sumAnew_9 ?_
        refine lv_iload_n hx hb dX0_sumAnew_12 rfl (hl.at rfl) ?_
        refine lv_iconst (v := nI 0) hx hb dX0_sumAnew_13 rfl ?_
        refine c_sti hC hK hP hD hS 80 (by omega) (wo_80) _ (rfl) (show _ < 8 by omega) (by decide) (c_wO 80 8 0 8 (by decide) (by decide) hn rfl (fun _ _ => rfl)) dX0_sumAnew_14 (fun H locs hP hS => ?_)
        refine l_inc1 hx hb 1 dX0_sumAnew_15 hl rfl rfl (fun ls hl => ?_)
        refine lv_goto (tgt := 2) hx hb dX0_sumAnew_18 rfl ?_
        exact ih (k + 1) (by omega) (by omega) _ _ _ (by rw [up3_up3, up3_s, up1_s, su_0] at hP; exact hP) hS hl
  exact loop 9 0 (by omega) (by omega) _ _ _ (by rw [su_z]; exact hP) hS hl
theorem cX0_summedOf_ {l : Launch} {D : va_G} {cA : Nat → ClassId} {ad : Nat → Nat} {n : Nat} {f0 : Nat → va_E} {ρ : Nat → Nat → Option Nat} {r : Nat × Nat} {U : Nat → Nat → Nat → Int32} (hn : 81 ≤ n) {x : Int32} {k0 : Nat} (hx1 : x = nI k0) (hk0 : k0 ≤ 8) : XP l D cA ad n f0 ρ r U yX0_summedOf cX0_summedOf 4 (some .int) (0) [.ref (ad 0), .int x] (fun v => v = sm (U 3 8) k0) := by
  refine Cp.of rfl (by decide +kernel) (Nat.le_of_ble_eq_true rfl) ?_
  intro p e s m args below meth c Q hC hK hP hret ls hl
  have hx := hC.1
  have hb := hC.2.1
  have hown := hC.2.2.2.1
  have hts := hC.2.2.2.2
  subst hx1
  refine lv_iconst (v := nI 0) hx hb dX0_summedOf_0 rfl ?_
  refine l_istore_n hx hb 2 dX0_summedOf_1 rfl hl rfl (fun ls hl => ?_)
  refine lv_iconst (v := nI 0) hx hb dX0_summedOf_2 rfl ?_
  refine l_istore_n hx hb 3 dX0_summedOf_3 rfl hl rfl (fun ls hl => ?_)
  have loop : ∀ (i k : Nat) (v : Int32), k ≤ k0 → k0 + 1 ≤ k + i → v = sm (U 3 8) k → ∀ ls : Array Slot, lh ls [some (.ref (ad 0)), some (.int (nI k0)), some (.int v), some (.int (nI k))] → W p l e (rmG 0 0 0) s m args below meth c s.heap [] 0 0 Q (F0 m 4 ls []) := by
    intro i
    induction i with
    | zero => intro k v h1 h2; exact absurd h2 (by omega)
    | succ i ih =>
      intro k v h1 h2 hv ls hl
      refine lv_iload_n hx hb dX0_summedOf_4 rfl (hl.at rfl) ?_
      refine lv_iload_n hx hb dX0_summedOf_5 rfl (hl.at rfl) ?_
      refine l_geN hx hb 24 dX0_summedOf_6 rfl (by omega) (by omega) (fun c6 => ?_) (fun c6 => ?_)
      · have e5 : k = k0 := by omega
        refine lv_iload_n hx hb dX0_summedOf_24 rfl (hl.at rfl) ?_
        refine hret ls _ _ dX0_summedOf_25 ?_
        rw [hv, e5]
      · refine lv_iload_n hx hb dX0_summedOf_9 rfl (hl.at rfl) ?_
        refine lv_aload_n hx hb dX0_summedOf_10 rfl (hl.at rfl) ?_
        refine c_get hC hK hP 0 (by omega) (wo_wb) rfl in_X0 14 (by decide) q266 rfl rfl dX0_summedOf_11 ?_
        refine lv_iload_n hx hb dX0_summedOf_14 rfl (hl.at rfl) ?_
        refine c_ldi hC hK hP 80 (by omega) (wo_80) _ (rfl) (show _ < 8 by omega) (by decide) dX0_summedOf_15 ?_
        refine lv_iadd hx hb dX0_summedOf_16 ?_
        refine l_istore_n hx hb 2 dX0_summedOf_17 rfl hl rfl (fun ls hl => ?_)
        refine l_inc1 hx hb 3 dX0_summedOf_18 hl rfl rfl (fun ls hl => ?_)
        refine lv_goto (tgt := 4) hx hb dX0_summedOf_21 rfl ?_
        exact ih (k + 1) _ (by omega) (by omega) (by rw [sm, hv]) ls hl
  exact loop (k0 + 1) 0 _ (by omega) (by omega) rfl ls hl
theorem cX0_feed_ {l : Launch} {D : va_G} {cA : Nat → ClassId} {ad : Nat → Nat} {n : Nat} {f0 : Nat → va_E} {ρ : Nat → Nat → Option Nat} {r : Nat × Nat} {U : Nat → Nat → Nat → Int32} (hn : 81 ≤ n) {A : Nat → Prop} (hD : gD A ad n) {wd : Int64} {x : Int32} {T : Tta} (hT : CT U r T) (hI : Inv (T 0)) : XI l D cA ad n f0 ρ r U A yX0_feed cX0_feed 5 (some .int) (2) [.ref (ad 0), .long wd, .int x] (fun o V => o = (op_feed wd x T).1 ∧ CT V r (op_feed wd x T).2) := by
  refine Ci.of rfl (by decide +kernel) (Nat.le_of_ble_eq_true rfl) ?_
  intro p e s m args below meth c Q hC hK hP hret ls hl
  have hx := hC.1
  have hb := hC.2.1
  have hown := hC.2.2.2.1
  have hts := hC.2.2.2.2
  have hS : va_S A s.heap s.heap [] := va_S.rf
  have hr : r.1 < 3 := hT.lt
  have e0 : U r.1 = T 0 := hT.2.1
  obtain ⟨eP, h60⟩ := inv_tp hI
  refine lv_iload_n hx hb dX0_feed_0 rfl (hl.at rfl) ?_
  refine lv_iconst (v := nI 1) hx hb dX0_feed_1 rfl ?_
  refine lv_bipush (v := nI 8) hx hb dX0_feed_2 rfl ?_
  refine x_sS hC (cX0_isIn_ ) cs_X0_122 rfl rfl hl.1 (Nat.le_of_ble_eq_true rfl) dX0_feed_4 (rk (by decide) (by decide)) ⟨Nat.le_refl _, Nat.le_refl _⟩ (fun r4 p4 => ?_)
  rcases p4 with ⟨rfl, p4⟩ | ⟨rfl, p4⟩
  · obtain ⟨n1, hk0, hk, rfl⟩ := in_nI1 p4
    refine l_ifne_1 hx hb 16 dX0_feed_7 rfl ?_
    refine lv_aload_n hx hb dX0_feed_16 rfl (hl.at rfl) ?_
    refine c_get hC hK hP 0 (by omega) (wo_wb) rfl in_X0 2 (by decide) q254 rfl rfl dX0_feed_17 ?_
    refine c_getN hC hK hP (3 + 22 * r.1) (by omega) (wo_ho hr) rfl in_X1 4 (by decide) q152 rfl rfl dX0_feed_20 ?_
    refine l_top (nI (tpd (T 0))) (by rw [e0]; exact eP) ?_
    refine lv_iload_n hx hb dX0_feed_23 rfl (hl.at rfl) ?_
    refine l_addN hx hb dX0_feed_24 ?_
    refine lv_bipush (v := nI 60) hx hb dX0_feed_25 rfl ?_
    refine l_leN hx hb 36 dX0_feed_27 rfl (by omega) (by omega) (fun c27 => ?_) (fun c27 => ?_)
    · refine lv_iconst (v := nI 0) hx hb dX0_feed_36 rfl ?_
      refine l_istore hx hb 4 dX0_feed_37 hl rfl (fun ls hl => ?_)
      have loop : ∀ (i q : Nat), q ≤ n1 → n1 + 1 ≤ q + i → ∀ (H : Heap) (locs : List Loc) (ls : Array Slot), XW D cA ad n f0 ρ r (uS U r.1 (fdS (T 0) wd q)) H → va_S A s.heap H locs → lh ls [some (.ref (ad 0)), some (.long wd), none, some (.int (nI n1)), some (.int (nI q))] → W p l e (rmG 2 0 0) s m args below meth c H locs 0 0 Q (F0 m 39 ls []) := by
        intro i
        induction i with
        | zero => intro q h1 h2; exact absurd h2 (by omega)
        | succ i ih =>
          intro q h1 h2 H locs ls hP hS hl
          have eT := fdS_0 (w := wd) q hI
          refine lv_iload hx hb dX0_feed_39 (hl.at rfl) ?_
          refine lv_iload_n hx hb dX0_feed_41 rfl (hl.at rfl) ?_
          refine l_geN hx hb 88 dX0_feed_42 rfl (by omega) (by omega) (fun c42 => ?_) (fun c42 => ?_)
          · have e5 : q = n1 := by omega
            refine lv_aload_n hx hb dX0_feed_88 rfl (hl.at rfl) ?_
            refine c_get hC hK hP 0 (by omega) (wo_wb) rfl in_X0 2 (by decide) q254 rfl rfl dX0_feed_89 ?_
            refine c_getN hC hK hP (3 + 22 * r.1) (by omega) (wo_ho hr) rfl in_X1 4 (by decide) q152 rfl rfl dX0_feed_92 ?_
            refine hret _ _ ls _ _ _ hP hS dX0_feed_95 ?_
            first | (rw [op_feed, if_neg p4]; exact hT.e p12 (by decide)) | (rw [op_feed, if_pos p4, cn_nI (by omega), if_neg (by omega)]; exact hT.e p32 (by decide)) | (rw [op_feed, if_pos p4, cn_nI (by omega), if_pos c27, ← e5, uS_s, eT]; exact ⟨rfl, hT.S⟩)
          · refine lv_aload_n hx hb dX0_feed_45 rfl (hl.at rfl) ?_
            refine c_get hC hK hP 0 (by omega) (wo_wb) rfl in_X0 2 (by decide) q254 rfl rfl dX0_feed_46 ?_
            refine c_getN hC hK hP (3 + 22 * r.1) (by omega) (wo_ho hr) rfl in_X1 17 (by decide) q181 rfl rfl dX0_feed_49 ?_
            refine lv_aload_n hx hb dX0_feed_52 rfl (hl.at rfl) ?_
            refine c_get hC hK hP 0 (by omega) (wo_wb) rfl in_X0 2 (by decide) q254 rfl rfl dX0_feed_53 ?_
            refine c_getN hC hK hP (3 + 22 * r.1) (by omega) (wo_ho hr) rfl in_X1 4 (by decide) q152 rfl rfl dX0_feed_56 ?_
            refine l_top (nI (tpd (T 0) + q)) (by rw [uS_s]; exact eT) ?_
            refine lv_lload_n hx hb dX0_feed_59 rfl (hl.at rfl) ?_
            refine lv_bipush (v := nI 8) hx hb dX0_feed_60 rfl ?_
            refine lv_iload hx hb dX0_feed_62 (hl.at rfl) ?_
            refine l_mulN hx hb dX0_feed_64 ?_
            refine lv_lshr hx hb dX0_feed_65 rfl ?_
            refine lv_l2i hx hb dX0_feed_66 rfl ?_
            refine lv_i2b hx hb dX0_feed_67 rfl ?_
            refine c_stb hC hK hP hD hS (3 + 22 * r.1 + 12) (by omega) (wo_tp hr) (nB (fdv wd q)) ((nB_nB _).trans (nB_fdv wd q).symm) _ (rfl) (show _ < 60 by omega) (by decide) (c_wT hr hn (rfl)) dX0_feed_68 (fun H locs hP hS => ?_)
            refine lv_aload_n hx hb dX0_feed_69 rfl (hl.at rfl) ?_
            refine c_get hC hK hP 0 (by omega) (wo_wb) rfl in_X0 2 (by decide) q254 rfl rfl dX0_feed_70 ?_
            refine lv_dup hx hb dX0_feed_73 rfl ?_
            refine c_getN hC hK hP (3 + 22 * r.1) (by omega) (wo_ho hr) rfl in_X1 4 (by decide) q152 rfl rfl dX0_feed_74 ?_
            refine l_top (nI (tpd (T 0) + q)) (by rw [up3_s, up1_n (by decide), uS_s]; exact eT) ?_
            refine lv_iconst (v := nI 1) hx hb dX0_feed_77 rfl ?_
            refine l_addN hx hb dX0_feed_78 ?_
            refine c_putN (ty := .int) hC hK hP hD hS (3 + 22 * r.1) (by omega) (wo_ho hr) rfl in_X1 tyX1_ok nmX1 4 (by decide) q152 rfl rfl (by decide +kernel) rfl rfl (by show 4 < 19; decide) (cp_taped hr hn) dX0_feed_79 (fun H locs hP hS => ?_)
            refine l_inc1 hx hb 4 dX0_feed_82 hl rfl rfl (fun ls hl => ?_)
            refine lv_goto (tgt := 39) hx hb dX0_feed_85 rfl ?_
            exact ih (q + 1) (by omega) (by omega) _ _ _ (by simp only [up3_uS, uS_uS, uS_s] at hP; exact hP) hS hl
      exact loop (n1 + 1) 0 (by omega) (by omega) _ _ _ (by rw [fdS, ← e0, uS_self]; exact hP) hS hl
    · refine lv_aload_n hx hb dX0_feed_30 rfl (hl.at rfl) ?_
      refine lv_iconst (v := nI 4) hx hb dX0_feed_31 rfl ?_
      refine x_iV hC hK hP hS (x_rWB hK hP hn) (cX0_finds_ hn hD (k := 4) rfl (by decide)) cv_X0_173 rfl rfl hl.1 (Nat.le_of_ble_eq_true rfl) dX0_feed_32 (rk (by decide) (by decide)) ⟨Nat.le_refl _, Nat.le_refl _⟩ (fun r32 U32 H locs p32 hP hS => ?_)
      refine hret _ _ ls _ _ _ hP hS dX0_feed_35 ?_
      first | (rw [op_feed, if_neg p4]; exact hT.e p12 (by decide)) | (rw [op_feed, if_pos p4, cn_nI (by omega), if_neg (by omega)]; exact hT.e p32 (by decide)) | (rw [op_feed, if_pos p4, cn_nI (by omega), if_pos c27, ← e5, uS_s, eT]; exact ⟨rfl, hT.S⟩)
  · refine l_ifne_0 hx hb 16 dX0_feed_7 rfl ?_
    refine lv_aload_n hx hb dX0_feed_10 rfl (hl.at rfl) ?_
    refine lv_iconst (v := nI 1) hx hb dX0_feed_11 rfl ?_
    refine x_iV hC hK hP hS (x_rWB hK hP hn) (cX0_finds_ hn hD (k := 1) rfl (by decide)) cv_X0_173 rfl rfl hl.1 (Nat.le_of_ble_eq_true rfl) dX0_feed_12 (rk (by decide) (by decide)) ⟨Nat.le_refl _, Nat.le_refl _⟩ (fun r12 U12 H locs p12 hP hS => ?_)
    refine hret _ _ ls _ _ _ hP hS dX0_feed_15 ?_
    first | (rw [op_feed, if_neg p4]; exact hT.e p12 (by decide)) | (rw [op_feed, if_pos p4, cn_nI (by omega), if_neg (by omega)]; exact hT.e p32 (by decide)) | (rw [op_feed, if_pos p4, cn_nI (by omega), if_pos c27, ← e5, uS_s, eT]; exact ⟨rfl, hT.S⟩)
theorem cs_X0_261 : CS RX0 261 yX0_isUse cX0_isUse 1 (some .boolean) 1 := ⟨lw_S q672 q673 q83 q674, by decide +kernel⟩
theorem cX0_untell_ {l : Launch} {D : va_G} {cA : Nat → ClassId} {ad : Nat → Nat} {n : Nat} {f0 : Nat → va_E} {ρ : Nat → Nat → Option Nat} {r : Nat × Nat} {U : Nat → Nat → Nat → Int32} (hn : 81 ≤ n) {A : Nat → Prop} (hD : gD A ad n) {x : Int32} {T : Tta} (hX : CQ cA ad n f0 U ρ r T) (hI : Inv (T 0)) : XIq l D cA ad n f0 ρ r U A yX0_untell cX0_untell 3 (some .int) (2) [.ref (ad 0), .int x] (fun o V ρ1 r1 => o = (op_untell x T).1 ∧ CQ cA ad n f0 V ρ1 r1 (op_untell x T).2) := by
  refine Ci.of rfl (by decide +kernel) (Nat.le_of_ble_eq_true rfl) ?_
  intro p e s m args below meth c Q hC hK hP hret ls hl
  have hx := hC.1
  have hb := hC.2.1
  have hown := hC.2.2.2.1
  have hts := hC.2.2.2.2
  have hS : va_S A s.heap s.heap [] := va_S.rf
  have hT : CT U r T := hX.1
  have hQ : HQ cA ad f0 n ρ (T 0) r.1 := hX.2.1
  have hr2 : r.2 < 3 := hT.lt2
  have hne : r.1 ≠ r.2 := hT.1.2.2
  have hr23 : r.2 ≠ 3 := by omega
  have hr : r.1 < 3 := hT.lt
  have e0 : U r.1 = T 0 := hT.2.1
  have hI2 : Inv (U r.1) := by rw [e0]; exact hI
  have hQ2 : HQ cA ad f0 n ρ (U r.1) r.1 := by rw [e0]; exact hQ
  have hr3 : r.1 ≠ 3 := by omega
  obtain ⟨eN, h8⟩ := inv_wh hI2
  have eH : U r.1 0 1 = nI (hrv (T 0)) := by rw [e0]; exact (inv_hr hI).1
  have hH := (inv_hr hI).2
  refine lv_iload_n hx hb dX0_untell_0 rfl (hl.at rfl) ?_
  refine x_sS hC (cX0_isUse_ ) cs_X0_261 rfl rfl hl.1 (Nat.le_of_ble_eq_true rfl) dX0_untell_1 (rk (by decide) (by decide)) ⟨Nat.le_refl _, Nat.le_refl _⟩ (fun r1 p1 => ?_)
  rcases p1 with ⟨rfl, p1⟩ | ⟨rfl, p1⟩
  · obtain ⟨u, hu, rfl⟩ := in_nI p1
    refine l_ifne_1 hx hb 13 dX0_untell_4 rfl ?_
    rcases hQ.2 u (by omega) with ⟨t1, t2⟩ | ⟨t1, tw, t2, t3⟩
    · refine lv_aload_n hx hb dX0_untell_13 rfl (hl.at rfl) ?_
      refine c_get hC hK hP 0 (by omega) (wo_wb) rfl in_X0 2 (by decide) q254 rfl rfl dX0_untell_14 ?_
      refine c_getN hC hK hP (3 + 22 * r.1) (by omega) (wo_ho hr) rfl in_X1 16 (by decide) q179 rfl rfl dX0_untell_17 ?_
      refine lv_iload_n hx hb dX0_untell_20 rfl (hl.at rfl) ?_
      refine x_ald hC hK hP (3 + 22 * r.1 + 11) (by omega) 4 (wo_tx hr) rfl u (rfl) (by omega) (by decide) dX0_untell_21 ?_
      refine l_topV .null (by rw [t2]; rfl) ?_
      refine lv_ifnonnullN hx hb dX0_untell_22 ?_
      refine lv_iconst (v := nI 0) hx hb dX0_untell_25 rfl ?_
      refine lv_goto (tgt := 30) hx hb dX0_untell_26 rfl ?_
      refine l_istore_n hx hb 2 dX0_untell_30 rfl hl rfl (fun ls hl => ?_)
      refine lv_aload_n hx hb dX0_untell_31 rfl (hl.at rfl) ?_
      refine c_get hC hK hP 0 (by omega) (wo_wb) rfl in_X0 2 (by decide) q254 rfl rfl dX0_untell_32 ?_
      refine c_getN hC hK hP (3 + 22 * r.1) (by omega) (wo_ho hr) rfl in_X1 16 (by decide) q179 rfl rfl dX0_untell_35 ?_
      refine lv_iload_n hx hb dX0_untell_38 rfl (hl.at rfl) ?_
      refine lv_null hx hb dX0_untell_39 ?_
      refine x_astX hC hK hP hD hS hn r.1 u hr (by omega) dX0_untell_40 (fun H locs hP hS => ?_)
      replace hP := XW.gh hP hr (S := up2 (U r.1) (12 + u) 0 (nI 0)) (fun j _ => by rw [up2_row (by omega)]) (fun q z0 z1 z2 z3 z4 z5 => up2_row (by omega))
      refine lv_iload_n hx hb dX0_untell_41 rfl (hl.at rfl) ?_
      refine hret _ _ ls _ _ (_, _, _) hP hS dX0_untell_42 ?_
      dsimp only
      first | (rw [op_untell, if_neg p1]; exact hX.e p9 (by decide)) | (rw [op_untell, if_pos p1, cn_nI (by omega)]; exact ⟨by rw [if_neg (by rw [show T 0 (12 + u) 0 = 0 from t1]; decide)], hX.unt (by omega)⟩) | (rw [op_untell, if_pos p1, cn_nI (by omega)]; exact ⟨by rw [if_pos t1], hX.unt (by omega)⟩)
    · refine lv_aload_n hx hb dX0_untell_13 rfl (hl.at rfl) ?_
      refine c_get hC hK hP 0 (by omega) (wo_wb) rfl in_X0 2 (by decide) q254 rfl rfl dX0_untell_14 ?_
      refine c_getN hC hK hP (3 + 22 * r.1) (by omega) (wo_ho hr) rfl in_X1 16 (by decide) q179 rfl rfl dX0_untell_17 ?_
      refine lv_iload_n hx hb dX0_untell_20 rfl (hl.at rfl) ?_
      refine x_ald hC hK hP (3 + 22 * r.1 + 11) (by omega) 4 (wo_tx hr) rfl u (rfl) (by omega) (by decide) dX0_untell_21 ?_
      refine l_topV (.ref (ad tw)) (by rw [t2]; rfl) ?_
      refine lv_ifnonnull (tgt := 29) hx hb dX0_untell_22 rfl ?_
      refine lv_iconst (v := nI 1) hx hb dX0_untell_29 rfl ?_
      refine l_istore_n hx hb 2 dX0_untell_30 rfl hl rfl (fun ls hl => ?_)
      refine lv_aload_n hx hb dX0_untell_31 rfl (hl.at rfl) ?_
      refine c_get hC hK hP 0 (by omega) (wo_wb) rfl in_X0 2 (by decide) q254 rfl rfl dX0_untell_32 ?_
      refine c_getN hC hK hP (3 + 22 * r.1) (by omega) (wo_ho hr) rfl in_X1 16 (by decide) q179 rfl rfl dX0_untell_35 ?_
      refine lv_iload_n hx hb dX0_untell_38 rfl (hl.at rfl) ?_
      refine lv_null hx hb dX0_untell_39 ?_
      refine x_astX hC hK hP hD hS hn r.1 u hr (by omega) dX0_untell_40 (fun H locs hP hS => ?_)
      replace hP := XW.gh hP hr (S := up2 (U r.1) (12 + u) 0 (nI 0)) (fun j _ => by rw [up2_row (by omega)]) (fun q z0 z1 z2 z3 z4 z5 => up2_row (by omega))
      refine lv_iload_n hx hb dX0_untell_41 rfl (hl.at rfl) ?_
      refine hret _ _ ls _ _ (_, _, _) hP hS dX0_untell_42 ?_
      dsimp only
      first | (rw [op_untell, if_neg p1]; exact hX.e p9 (by decide)) | (rw [op_untell, if_pos p1, cn_nI (by omega)]; exact ⟨by rw [if_neg (by rw [show T 0 (12 + u) 0 = 0 from t1]; decide)], hX.unt (by omega)⟩) | (rw [op_untell, if_pos p1, cn_nI (by omega)]; exact ⟨by rw [if_pos t1], hX.unt (by omega)⟩)
  · refine l_ifne_0 hx hb 13 dX0_untell_4 rfl ?_
    refine lv_aload_n hx hb dX0_untell_7 rfl (hl.at rfl) ?_
    refine lv_iconst (v := nI 1) hx hb dX0_untell_8 rfl ?_
    refine x_iV hC hK hP hS (x_rWB hK hP hn) (cX0_finds_ hn hD (k := 1) rfl (by decide)) cv_X0_173 rfl rfl hl.1 (Nat.le_of_ble_eq_true rfl) dX0_untell_9 (rk (by decide) (by decide)) ⟨Nat.le_refl _, Nat.le_refl _⟩ (fun r9 U9 H locs p9 hP hS => ?_)
    refine hret _ _ ls _ _ (_, _, _) hP hS dX0_untell_12 ?_
    dsimp only
    first | (rw [op_untell, if_neg p1]; exact hX.e p9 (by decide)) | (rw [op_untell, if_pos p1, cn_nI (by omega)]; exact ⟨by rw [if_neg (by rw [show T 0 (12 + u) 0 = 0 from t1]; decide)], hX.unt (by omega)⟩) | (rw [op_untell, if_pos p1, cn_nI (by omega)]; exact ⟨by rw [if_pos t1], hX.unt (by omega)⟩)
theorem cX0_check_ {l : Launch} {D : va_G} {cA : Nat → ClassId} {ad : Nat → Nat} {n : Nat} {f0 : Nat → va_E} {ρ : Nat → Nat → Option Nat} {r : Nat × Nat} {U : Nat → Nat → Nat → Int32} (hn : 81 ≤ n) {A : Nat → Prop} (hD : gD A ad n) {x : Int32} {T : Tta} (hX : CQ cA ad n f0 U ρ r T) (hI : Inv (T 0)) (hh : hrv (T 0) ≤ 9999) : XIq l D cA ad n f0 ρ r U A yX0_check cX0_check 6 (some .int) (8) [.ref (ad 0), .int x] (fun o V ρ1 r1 => o = (op_check x T).1 ∧ CQ cA ad n f0 V ρ1 r1 (op_check x T).2) := by
  refine Ci.of rfl (by decide +kernel) (Nat.le_of_ble_eq_true rfl) ?_
  intro p e s m args below meth c Q hC hK hP hret ls hl
  have hx := hC.1
  have hb := hC.2.1
  have hown := hC.2.2.2.1
  have hts := hC.2.2.2.2
  have hS : va_S A s.heap s.heap [] := va_S.rf
  have hT : CT U r T := hX.1
  have hQ : HQ cA ad f0 n ρ (T 0) r.1 := hX.2.1
  have hr2 : r.2 < 3 := hT.lt2
  have hne : r.1 ≠ r.2 := hT.1.2.2
  have hr23 : r.2 ≠ 3 := by omega
  have hr : r.1 < 3 := hT.lt
  have e0 : U r.1 = T 0 := hT.2.1
  have hI2 : Inv (U r.1) := by rw [e0]; exact hI
  have hQ2 : HQ cA ad f0 n ρ (U r.1) r.1 := by rw [e0]; exact hQ
  have hr3 : r.1 ≠ 3 := by omega
  obtain ⟨eN, h8⟩ := inv_wh hI2
  have eH : U r.1 0 1 = nI (hrv (T 0)) := by rw [e0]; exact (inv_hr hI).1
  have hH := (inv_hr hI).2
  obtain ⟨n1, en1⟩ : ∃ n1, n1 = wtg (T 0) := ⟨_, rfl⟩
  obtain ⟨eW, hw24⟩ := inv_wt hI
  rw [← en1] at eW hw24
  refine lv_aload_n hx hb dX0_check_0 rfl (hl.at rfl) ?_
  refine c_get hC hK hP 0 (by omega) (wo_wb) rfl in_X0 2 (by decide) q254 rfl rfl dX0_check_1 ?_
  refine c_getN hC hK hP (3 + 22 * r.1) (by omega) (wo_ho hr) rfl in_X1 5 (by decide) q154 rfl rfl dX0_check_4 ?_
  refine l_top (nI n1) (by rw [e0]; exact eW) ?_
  refine l_istore_n hx hb 2 dX0_check_7 rfl hl rfl (fun ls hl => ?_)
  refine lv_aload_n hx hb dX0_check_8 rfl (hl.at rfl) ?_
  refine c_get hC hK hP 0 (by omega) (wo_wb) rfl in_X0 2 (by decide) q254 rfl rfl dX0_check_9 ?_
  refine lv_iconst (v := nI 0) hx hb dX0_check_12 rfl ?_
  refine c_putN (ty := .int) hC hK hP hD hS (3 + 22 * r.1) (by omega) (wo_ho hr) rfl in_X1 tyX1_ok nmX1 5 (by decide) q154 rfl rfl (by decide +kernel) rfl rfl (by show 5 < 19; decide) (cp_waiting hr hn) dX0_check_13 (fun H locs hP hS => ?_)
  obtain ⟨U1, hP1, hX1⟩ : ∃ V, XW D cA ad n f0 ρ r V H ∧ CQ cA ad n f0 V ρ r (tS T (up2 (T 0) 0 4 (nI 0))) := ⟨_, hP, hX.S (by simp only [up3_uS, e0]; exact hT.S) (hq_0 hQ (by decide))⟩
  replace hP := hP1
  have e1 : U1 r.1 = up2 (T 0) 0 4 (nI 0) := hX1.1.2.1
  have hI1 : Inv (up2 (T 0) 0 4 (nI 0)) := inv_set0 hI (fun h => by omega) (fun h => by omega) (fun h => by omega) (fun h => by omega) (fun _ => ⟨0, by decide, rfl⟩)
  have hQ3 : HQ cA ad f0 n ρ (up2 (T 0) 0 4 (nI 0)) r.1 := hX1.2.1
  have e4 : U1 r.1 0 0 = T 0 0 0 := by rw [e1, up2_ne (by decide)]
  have hhr : hrv (up2 (T 0) 0 4 (nI 0)) = hrv (T 0) := by unfold hrv; rw [up2_ne (by decide)]
  refine lv_aload_n hx hb dX0_check_16 rfl (hl.at rfl) ?_
  refine lv_iload_n hx hb dX0_check_17 rfl (hl.at rfl) ?_
  refine x_pV hC hK hP (x_rWB hK hP hn) (cX0_isWheel_ hn hr) cv_X0_231 rfl rfl hl.1 (Nat.le_of_ble_eq_true rfl) dX0_check_18 (rk (by decide) (by decide)) ⟨Nat.le_refl _, Nat.le_refl _⟩ (fun r18 p18 => ?_)
  rcases p18 with ⟨rfl, p18⟩ | ⟨rfl, p18⟩
  · obtain ⟨w, hw, rfl⟩ := isWh_of (S := U1 r.1) (by rw [e1]; exact hI1) p18
    have hwh8 := (inv_wh (S := U1 r.1) (by rw [e1]; exact hI1)).2
    refine l_ifne_1 hx hb 30 dX0_check_21 rfl ?_
    refine lv_aload_n hx hb dX0_check_30 rfl (hl.at rfl) ?_
    refine x_vVq hC hK hP hS (x_rWB hK hP hn) (cX0_begins_ hn hD hr hr2 hne (by rw [e1]; exact hI1) (by rw [e1]; exact hQ3)) cv_X0_319 rfl rfl hl.1 (Nat.le_of_ble_eq_true rfl) dX0_check_31 (rk (by decide) (by decide)) ⟨Nat.le_refl _, Nat.le_refl _⟩ (fun U31 ρ31 q31 H locs p31 hP hS => ?_)
    obtain ⟨rfl, rfl, rfl⟩ := p31
    have g0 : uS U1 r.2 (U1 r.1) r.2 = up2 (T 0) 0 4 (nI 0) := by rw [uS_s, e1]
    have hQ1 : HQ cA ad f0 n (bρ ρ r.2 r.1) (up2 (T 0) 0 4 (nI 0)) r.2 := hq_bec hQ3
    refine lv_iconst (v := nI 0) hx hb dX0_check_34 rfl ?_
    refine l_istore_n hx hb 3 dX0_check_35 rfl hl rfl (fun ls hl => ?_)
    refine lv_iconst (v := nI 1) hx hb dX0_check_36 rfl ?_
    refine l_istore hx hb 4 dX0_check_37 hl rfl (fun ls hl => ?_)
    have loop : ∀ (i k : Nat) (V : Tta), k ≤ n1 → n1 + 1 ≤ k + i → Kh HL r.2 (uS U1 r.2 (U1 r.1)) V → V r.2 = hrN (up2 (T 0) 0 4 (nI 0)) k → ckn (up2 (T 0) 0 4 (nI 0)) w (n1 - k) k = ckn (up2 (T 0) 0 4 (nI 0)) w n1 0 → ∀ (H : Heap) (locs : List Loc) (ls : Array Slot), XW D cA ad n f0 (bρ ρ r.2 r.1) (r.2, r.1) V H → va_S A s.heap H locs → lh ls [some (.ref (ad 0)), some (.int (nI w)), some (.int (nI n1)), some (.int (nI k)), some (.int (nI 1)), none] → W p l e (rmG 8 0 0) s m args below meth c H locs 0 0 Q (F0 m 39 ls []) := by
      intro i
      induction i with
      | zero => intro k V h1 h2; exact absurd h2 (by omega)
      | succ i ih =>
        intro k V h1 h2 hk h0 hck H locs ls hP hS hl
        obtain ⟨i1, i2, i3⟩ := hrN_inv hI1 k (by omega)
        refine lv_iload_n hx hb dX0_check_39 rfl (hl.at rfl) ?_
        refine lv_iload_n hx hb dX0_check_40 rfl (hl.at rfl) ?_
        refine l_geN hx hb 99 dX0_check_41 rfl (by omega) (by omega) (fun c41 => ?_) (fun c41 => ?_)
        · have e5 : k = n1 := by omega
          have hw : ckn (up2 (T 0) 0 4 (nI 0)) w n1 0 = (k, true) := by rw [← hck, e5, Nat.sub_self]; rfl
          refine lv_aload_n hx hb dX0_check_99 rfl (hl.at rfl) ?_
          refine x_vVq hC hK hP hS (x_rWB hK hP hn) (cX0_swaps_ hn hD hr2 hr) cv_X0_313 rfl rfl hl.1 (Nat.le_of_ble_eq_true rfl) dX0_check_100 (rk (by decide) (by decide)) ⟨Nat.le_refl _, Nat.le_refl _⟩ (fun U100 ρ100 q100 H locs p100 hP hS => ?_)
          obtain ⟨rfl, rfl, rfl⟩ := p100
          refine lv_iload hx hb dX0_check_103 (hl.at rfl) ?_
          refine lv_if_eq (tgt := 112) hx hb dX0_check_105 rfl (fun z => absurd z (by decide)) (fun _ => ?_)
          refine lv_iconst (v := nI 0) hx hb dX0_check_108 rfl ?_
          refine lv_goto (tgt := 115) hx hb dX0_check_109 rfl ?_
          refine hret _ _ ls _ _ (_, _, _) hP hS dX0_check_115 ?_
          dsimp only
          first | (rw [op_check, if_neg (by rw [← e4]; exact p18)]; exact hX1.e p26 (by decide)) | (rw [op_check, if_pos (by rw [← e4]; exact p18), cn_nI (by omega), ← en1, hw]; exact ⟨rfl, hX1.bk (fun z z1 z2 => by rw [(hk).1 z z1 z2, uS_n z2]) (fun z hz => by rw [(hk).2 z (by unfold HL; simp; omega), uS_n (Ne.symm hr23)]) RK.b⟩) | (rw [op_check, if_pos (by rw [← e4]; exact p18), cn_nI (by omega), ← en1, hw]; exact ⟨rfl, hX1.bk (fun z z1 z2 => by rw [(hk.tr p50.2.1).1 z z1 z2, uS_n z2]) (fun z hz => by rw [(hk.tr p50.2.1).2 z (by unfold HL; simp; omega), uS_n (Ne.symm hr23)]) RK.b⟩)
        · refine lv_iload hx hb dX0_check_44 (hl.at rfl) ?_
          refine lv_if_eq (tgt := 99) hx hb dX0_check_46 rfl (fun z => absurd z (by decide)) (fun _ => ?_)
          refine lv_aload_n hx hb dX0_check_49 rfl (hl.at rfl) ?_
          refine x_iV hC hK hP hS (x_rWB hK hP hn) (cX0_anHour_ hn hD hr2 (by show Inv (V r.2); rw [h0]; exact i1) (by show HQ cA ad f0 n (bρ ρ r.2 r.1) (V r.2) r.2; rw [h0]; exact hQ1.hrN k) (by show hrv (V r.2) < 20000; rw [h0, i2]; omega)) cv_X0_291 rfl rfl hl.1 (Nat.le_of_ble_eq_true rfl) dX0_check_50 (rk (by decide) (by decide)) ⟨Nat.le_refl _, Nat.le_refl _⟩ (fun r50 U50 H locs p50 hP hS => ?_)
          have g1 : U50 r.2 = hrN (up2 (T 0) 0 4 (nI 0)) (k + 1) := by rw [show U50 r.2 = sp_hour (V r.2) from p50.2.2.1, h0]; rfl
          refine l_istore hx hb 5 dX0_check_53 hl rfl (fun ls hl => ?_)
          refine lv_aload_n hx hb dX0_check_55 rfl (hl.at rfl) ?_
          refine c_get hC hK hP 0 (by omega) (wo_wb) rfl in_X0 2 (by decide) q254 rfl rfl dX0_check_56 ?_
          refine c_getN hC hK hP (3 + 22 * r.2) (by omega) (wo_ho hr2) rfl in_X1 18 (by decide) q183 rfl rfl dX0_check_59 ?_
          refine lv_iload_n hx hb dX0_check_62 rfl (hl.at rfl) ?_
          refine c_ldi hC hK hP (3 + 22 * r.2 + 13) (by omega) (c_ldH r.2 13 15 0 24 hr2 (by decide) (fun _ _ _ => rfl)) _ (rfl) (show _ < 24 by omega) (by decide) dX0_check_63 ?_
          refine l_top ((up2 (T 0) 0 4 (nI 0)) 15 k) (by show U50 r.2 15 k = _; rw [g1, hrN_row (by decide) (by decide) (by decide) (by decide)]) ?_
          refine lv_aload_n hx hb dX0_check_64 rfl (hl.at rfl) ?_
          refine c_get hC hK hP 0 (by omega) (wo_wb) rfl in_X0 2 (by decide) q254 rfl rfl dX0_check_65 ?_
          refine c_getN hC hK hP (3 + 22 * r.2) (by omega) (wo_ho hr2) rfl in_X1 14 (by decide) q174 rfl rfl dX0_check_68 ?_
          refine lv_iload_n hx hb dX0_check_71 rfl (hl.at rfl) ?_
          refine c_ldi hC hK hP (3 + 22 * r.2 + 9) (by omega) (c_ldH r.2 9 10 0 8 hr2 (by decide) (fun _ _ _ => rfl)) _ (rfl) (show _ < 8 by omega) (by decide) dX0_check_72 ?_
          refine l_top (hrN (up2 (T 0) 0 4 (nI 0)) (k + 1) 10 w) (by show U50 r.2 10 w = _; rw [g1]) ?_
          refine lv_icmp_ne (tgt := 80) hx hb dX0_check_73 rfl (fun c73 => ?_) (fun c73 => ?_)
          · have hw : ckn (up2 (T 0) 0 4 (nI 0)) w n1 0 = (k, false) := by rw [← hck, show n1 - k = (n1 - (k + 1)) + 1 by omega, ckn, if_neg c73]
            refine lv_iconst (v := nI 0) hx hb dX0_check_80 rfl ?_
            refine l_istore hx hb 4 dX0_check_81 hl rfl (fun ls hl => ?_)
            refine lv_iload_n hx hb dX0_check_83 rfl (hl.at rfl) ?_
            refine lv_iload hx hb dX0_check_84 (hl.at rfl) ?_
            refine lv_if_eq (tgt := 93) hx hb dX0_check_86 rfl (fun _ => ?_) (fun z => absurd (by decide) z)
            refine lv_iconst (v := nI 0) hx hb dX0_check_93 rfl ?_
            refine l_addN hx hb dX0_check_94 ?_
            refine l_istore_n hx hb 3 dX0_check_95 rfl hl rfl (fun ls hl => ?_)
            refine lv_goto (tgt := 39) hx hb dX0_check_96 rfl ?_
            refine lv_iload_n hx hb dX0_check_39 rfl (hl.at rfl) ?_
            refine lv_iload_n hx hb dX0_check_40 rfl (hl.at rfl) ?_
            refine l_geN hx hb 99 dX0_check_41 rfl (by omega) (by omega) (fun c41 => ?_) (fun c41 => ?_)
            · have e5 : k = n1 := by omega
              have hw : ckn (up2 (T 0) 0 4 (nI 0)) w n1 0 = (k, true) := by rw [← hck, e5, Nat.sub_self]; rfl
              exact absurd c41 (by omega)
            · refine lv_iload hx hb dX0_check_44 (hl.at rfl) ?_
              refine lv_if_eq (tgt := 99) hx hb dX0_check_46 rfl (fun _ => ?_) (fun z => absurd (by decide) z)
              refine lv_aload_n hx hb dX0_check_99 rfl (hl.at rfl) ?_
              refine x_vVq hC hK hP hS (x_rWB hK hP hn) (cX0_swaps_ hn hD hr2 hr) cv_X0_313 rfl rfl hl.1 (Nat.le_of_ble_eq_true rfl) dX0_check_100 (rk (by decide) (by decide)) ⟨Nat.le_refl _, Nat.le_refl _⟩ (fun U100 ρ100 q100 H locs p100 hP hS => ?_)
              obtain ⟨rfl, rfl, rfl⟩ := p100
              refine lv_iload hx hb dX0_check_103 (hl.at rfl) ?_
              refine lv_if_eq (tgt := 112) hx hb dX0_check_105 rfl (fun _ => ?_) (fun z => absurd (by decide) z)
              refine lv_iconst (v := nI 1) hx hb dX0_check_112 rfl ?_
              refine lv_iload_n hx hb dX0_check_113 rfl (hl.at rfl) ?_
              refine l_addN hx hb dX0_check_114 ?_
              refine hret _ _ ls _ _ (_, _, _) hP hS dX0_check_115 ?_
              dsimp only
              first | (rw [op_check, if_neg (by rw [← e4]; exact p18)]; exact hX1.e p26 (by decide)) | (rw [op_check, if_pos (by rw [← e4]; exact p18), cn_nI (by omega), ← en1, hw]; exact ⟨rfl, hX1.bk (fun z z1 z2 => by rw [(hk).1 z z1 z2, uS_n z2]) (fun z hz => by rw [(hk).2 z (by unfold HL; simp; omega), uS_n (Ne.symm hr23)]) RK.b⟩) | (rw [op_check, if_pos (by rw [← e4]; exact p18), cn_nI (by omega), ← en1, hw]; exact ⟨rfl, hX1.bk (fun z z1 z2 => by rw [(hk.tr p50.2.1).1 z z1 z2, uS_n z2]) (fun z hz => by rw [(hk.tr p50.2.1).2 z (by unfold HL; simp; omega), uS_n (Ne.symm hr23)]) RK.b⟩)
          · refine lv_iconst (v := nI 1) hx hb dX0_check_76 rfl ?_
            refine lv_goto (tgt := 81) hx hb dX0_check_77 rfl ?_
            refine l_istore hx hb 4 dX0_check_81 hl rfl (fun ls hl => ?_)
            refine lv_iload_n hx hb dX0_check_83 rfl (hl.at rfl) ?_
            refine lv_iload hx hb dX0_check_84 (hl.at rfl) ?_
            refine lv_if_eq (tgt := 93) hx hb dX0_check_86 rfl (fun z => absurd z (by decide)) (fun _ => ?_)
            refine lv_iconst (v := nI 1) hx hb dX0_check_89 rfl ?_
            refine lv_goto (tgt := 94) hx hb dX0_check_90 rfl ?_
            refine l_addN hx hb dX0_check_94 ?_
            refine l_istore_n hx hb 3 dX0_check_95 rfl hl rfl (fun ls hl => ?_)
            refine lv_goto (tgt := 39) hx hb dX0_check_96 rfl ?_
            exact ih (k + 1) _ (by omega) (by omega) (hk.tr p50.2.1) g1 (by rw [← hck, show n1 - k = (n1 - (k + 1)) + 1 by omega, ckn, if_pos c73]) _ _ _ hP hS (hl.mask [true, true, true, true, true, false])
    exact loop (n1 + 1) 0 _ (by omega) (by omega) Kh.rf g0 rfl _ _ _ hP hS (hl.mask [true, true, true, true, true, false])
  · refine l_ifne_0 hx hb 30 dX0_check_21 rfl ?_
    refine lv_aload_n hx hb dX0_check_24 rfl (hl.at rfl) ?_
    refine lv_iconst (v := nI 1) hx hb dX0_check_25 rfl ?_
    refine x_iV hC hK hP hS (x_rWB hK hP hn) (cX0_finds_ hn hD (k := 1) rfl (by decide)) cv_X0_173 rfl rfl hl.1 (Nat.le_of_ble_eq_true rfl) dX0_check_26 (rk (by decide) (by decide)) ⟨Nat.le_refl _, Nat.le_refl _⟩ (fun r26 U26 H locs p26 hP hS => ?_)
    refine hret _ _ ls _ _ (_, _, _) hP hS dX0_check_29 ?_
    dsimp only
    first | (rw [op_check, if_neg (by rw [← e4]; exact p18)]; exact hX1.e p26 (by decide)) | (rw [op_check, if_pos (by rw [← e4]; exact p18), cn_nI (by omega), ← en1, hw]; exact ⟨rfl, hX1.bk (fun z z1 z2 => by rw [(hk).1 z z1 z2, uS_n z2]) (fun z hz => by rw [(hk).2 z (by unfold HL; simp; omega), uS_n (Ne.symm hr23)]) RK.b⟩) | (rw [op_check, if_pos (by rw [← e4]; exact p18), cn_nI (by omega), ← en1, hw]; exact ⟨rfl, hX1.bk (fun z z1 z2 => by rw [(hk.tr p50.2.1).1 z z1 z2, uS_n z2]) (fun z hz => by rw [(hk.tr p50.2.1).2 z (by unfold HL; simp; omega), uS_n (Ne.symm hr23)]) RK.b⟩)
