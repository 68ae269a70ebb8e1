theorem cv_X0_154 : CV RX0 RX1 154 yX1_forceNow cX1_forceNow 1 (some .int) 0 := ⟨lw_V q488 q489 q490 q84 q491, by decide +kernel⟩
theorem cv_X0_167 : CV RX0 RX0 167 yX0_wantsOf cX0_wantsOf 5 (some .int) 2 := ⟨lw_V q495 q497 qs6 q83 q498, by decide +kernel⟩
theorem cX0_goDown_ {l : Launch} {D : va_G} {cA : Nat → ClassId} {ad : Nat → Nat} {n : Nat} {f0 : Nat → va_E} {ρ : Nat → Nat → Option Nat} {r : Nat × Nat} {U : Nat → Nat → Nat → Int32} (hn : 81 ≤ n) {A : Nat → Prop} (hD : gD A ad n) (hr : r.1 < 3) (hI : Inv (U r.1)) (hQ : HQ cA ad f0 n ρ (U r.1) r.1) : XV l D cA ad n f0 ρ r U A yX0_goDown cX0_goDown 5 (6) [.ref (ad 0)] (fun V => GD U V r.1) := by
  refine Cv.of (by decide +kernel) (Nat.le_of_ble_eq_true rfl) ?_
  intro p e s m args below meth c Q hC hK hP hret ls hl
  have hx := hC.1
  have hb := hC.2.1
  have hown := hC.2.2.2.1
  have hts := hC.2.2.2.2
  have hS : va_S A s.heap s.heap [] := va_S.rf
  have hr3 : r.1 ≠ 3 := by omega
  obtain ⟨eN, h8⟩ := inv_wh hI
  obtain ⟨hh, hh1, hh2, -⟩ := inv_hod hI
  refine lv_aload_n hx hb dX0_goDown_0 rfl (hl.at rfl) ?_
  refine c_get hC hK hP 0 (by omega) (wo_wb) rfl in_X0 2 (by decide) q254 rfl rfl dX0_goDown_1 ?_
  refine x_pV hC hK hP (x_rHO hr hK hP hn) (cX1_forceNow_ hn hr hI) cv_X0_154 rfl rfl hl.1 (Nat.le_of_ble_eq_true rfl) dX0_goDown_4 (rk (by decide) (by decide)) ⟨Nat.le_refl _, Nat.le_refl _⟩ (fun r4 p4 => ?_)
  refine l_istore_n hx hb 1 dX0_goDown_7 rfl hl rfl (fun ls hl => ?_)
  refine lv_aload_n hx hb dX0_goDown_8 rfl (hl.at rfl) ?_
  refine lv_iconst (v := nI 0) hx hb dX0_goDown_9 rfl ?_
  refine c_put (ty := .int) hC hK hP hD hS 0 (by omega) (wo_wb) rfl in_X0 tyX0_ok nmX0 13 (by decide) q265 rfl rfl (by decide +kernel) rfl rfl (by show 13 < 15; decide) (cp_lost hn) dX0_goDown_10 (fun H locs hP hS => ?_)
  refine lv_iconst (v := nI 0) hx hb dX0_goDown_13 rfl ?_
  refine l_istore_n hx hb 2 dX0_goDown_14 rfl hl rfl (fun ls hl => ?_)
  obtain ⟨X, hX0⟩ : ∃ X, X = sp_flow (U r.1) (U 3 6) (U 3 7) := ⟨_, rfl⟩
  have outer : ∀ (i p0 : Nat) (left taken : Int32) (V : Tta), p0 ≤ 12 → 13 ≤ p0 + i → Bd left 99 → fl_out (U r.1) (12 - p0) p0 (left, V 3 10 0, taken, V 3 6, V 3 7) = X → Kq [4, 5, 6, 7, 9, 10] U V → ∀ (H : Heap) (locs : List Loc) (ls : Array Slot), XW D cA ad n f0 ρ r V H → va_S A s.heap H locs → lh ls [some (.ref (ad 0)), some (.int left), some (.int (nI p0)), none, none] → W p l e (rmG 6 0 0) s m args below meth c H locs 0 0 Q (F0 m 15 ls []) := by
    intro i
    induction i with
    | zero => intro p0 left taken V h1 h2; exact absurd h2 (by omega)
    | succ i ih =>
      intro p0 left taken V h1 h2 hb9 hX hk H locs ls hP hS hl
      have h0 : V r.1 = U r.1 := hk.1 _ hr3
      refine lv_iload_n hx hb dX0_goDown_15 rfl (hl.at rfl) ?_
      refine lv_bipush (v := nI 12) hx hb dX0_goDown_16 rfl ?_
      refine l_geN hx hb 124 dX0_goDown_18 rfl (by omega) (by omega) (fun c18 => ?_) (fun c18 => ?_)
      · have e5 : p0 = 12 := by omega
        refine lv_aload_n hx hb dX0_goDown_124 rfl (hl.at rfl) ?_
        refine lv_iload_n hx hb dX0_goDown_125 rfl (hl.at rfl) ?_
        refine c_put (ty := .int) hC hK hP hD hS 0 (by omega) (wo_wb) rfl in_X0 tyX0_ok nmX0 12 (by decide) q264 rfl rfl (by decide +kernel) rfl rfl (by show 12 < 15; decide) (cp_gone hn) dX0_goDown_126 (fun H locs hP hS => ?_)
        refine hret _ _ ls _ _ hP hS dX0_goDown_129 ?_
        rw [e5, Nat.sub_self, fl_out] at hX
        subst hX0
        refine ⟨hk.up (by decide), ?_⟩
        rw [← hX, up3_s, up1_s, up1_n (by decide), up1_n (by decide), up1_n (by decide)]
        exact ⟨rfl, rfl, rfl, rfl⟩
      · refine lv_aload_n hx hb dX0_goDown_21 rfl (hl.at rfl) ?_
        refine c_get hC hK hP 0 (by omega) (wo_wb) rfl in_X0 11 (by decide) q263 rfl rfl dX0_goDown_22 ?_
        refine lv_iload_n hx hb dX0_goDown_25 rfl (hl.at rfl) ?_
        refine lv_iload_n hx hb dX0_goDown_26 rfl (hl.at rfl) ?_
        refine c_sti hC hK hP hD hS 79 (by omega) (wo_79) _ (rfl) (show _ < 12 by omega) (by decide) (c_wO 79 7 0 12 (by decide) (by decide) hn rfl (fun _ _ => rfl)) dX0_goDown_27 (fun H locs hP hS => ?_)
        refine lv_iload_n hx hb dX0_goDown_28 rfl (hl.at rfl) ?_
        refine lv_aload_n hx hb dX0_goDown_29 rfl (hl.at rfl) ?_
        refine c_get hC hK hP 0 (by omega) (wo_wb) rfl in_X0 2 (by decide) q254 rfl rfl dX0_goDown_30 ?_
        refine c_getN hC hK hP (3 + 22 * r.1) (by omega) (wo_ho hr) rfl in_X1 7 (by decide) q158 rfl rfl dX0_goDown_33 ?_
        refine lv_iload_n hx hb dX0_goDown_36 rfl (hl.at rfl) ?_
        refine c_ldb hC hK hP (3 + 22 * r.1 + 2) (by omega) (c_ldH r.1 2 2 1 12 hr (by decide) (fun _ _ _ => rfl)) _ (rfl) (show _ < 12 by omega) (by decide) dX0_goDown_37 ?_
        refine x_min hC q492 hl.1 (by decide) (Nat.le_of_ble_eq_true rfl) ⟨Nat.le_refl _, Nat.le_refl _⟩ dX0_goDown_38 ?_
        refine l_top (fl_wd (U r.1) p0 left) (by rw [up3_n hr3, h0]; exact mn_wd) ?_
        refine l_istore_n hx hb 3 dX0_goDown_41 rfl hl rfl (fun ls hl => ?_)
        refine lv_aload_n hx hb dX0_goDown_42 rfl (hl.at rfl) ?_
        refine lv_dup hx hb dX0_goDown_43 rfl ?_
        refine c_get hC hK hP 0 (by omega) (wo_wb) rfl in_X0 13 (by decide) q265 rfl rfl dX0_goDown_44 ?_
        refine lv_iload_n hx hb dX0_goDown_47 rfl (hl.at rfl) ?_
        refine lv_iadd hx hb dX0_goDown_48 ?_
        refine c_put (ty := .int) hC hK hP hD hS 0 (by omega) (wo_wb) rfl in_X0 tyX0_ok nmX0 13 (by decide) q265 rfl rfl (by decide +kernel) rfl rfl (by show 13 < 15; decide) (cp_lost hn) dX0_goDown_49 (fun H locs hP hS => ?_)
        refine lv_iload_n hx hb dX0_goDown_52 rfl (hl.at rfl) ?_
        refine lv_iload_n hx hb dX0_goDown_53 rfl (hl.at rfl) ?_
        refine lv_isub hx hb dX0_goDown_54 ?_
        refine l_istore_n hx hb 1 dX0_goDown_55 rfl hl rfl (fun ls hl => ?_)
        refine lv_iconst (v := nI 0) hx hb dX0_goDown_56 rfl ?_
        refine l_istore hx hb 4 dX0_goDown_57 hl rfl (fun ls hl => ?_)
        obtain ⟨Y, hYe⟩ : ∃ Y, Y = fl_in (U r.1) p0 (wh (U r.1)) 0 (left - fl_wd (U r.1) p0 left, taken, V 3 6) := ⟨_, rfl⟩
        rw [show 12 - p0 = (12 - (p0 + 1)) + 1 by omega, fl_out] at hX
        simp only [← hYe] at hX
        have inner : ∀ (j w : Nat) (lf tn : Int32) (Z : Tta), w ≤ wh (U r.1) → wh (U r.1) + 1 ≤ w + j → Bd lf 99 → fl_in (U r.1) p0 (wh (U r.1) - w) w (lf, tn, Z 3 6) = Y → Kq [4, 5, 6, 7, 9, 10] U Z → Z 3 10 0 = V 3 10 0 + fl_wd (U r.1) p0 left → Z 3 7 = upd (V 3 7) p0 left → ∀ (H : Heap) (locs : List Loc) (ls : Array Slot), XW D cA ad n f0 ρ r Z H → va_S A s.heap H locs → lh ls [some (.ref (ad 0)), some (.int lf), some (.int (nI p0)), none, some (.int (nI w))] → W p l e (rmG 6 0 0) s m args below meth c H locs 0 0 Q (F0 m 59 ls []) := by
          intro j
          induction j with
          | zero => intro w lf tn Z g1 g2; exact absurd g2 (by omega)
          | succ j ih2 =>
            intro w lf tn Z g1 g2 gb hY gk g10 g7 H locs ls hP hS hl
            have g0 : Z r.1 = U r.1 := gk.1 _ hr3
            refine lv_iload hx hb dX0_goDown_59 (hl.at rfl) ?_
            refine lv_aload_n hx hb dX0_goDown_61 rfl (hl.at rfl) ?_
            refine c_get hC hK hP 0 (by omega) (wo_wb) rfl in_X0 2 (by decide) q254 rfl rfl dX0_goDown_62 ?_
            refine c_getN hC hK hP (3 + 22 * r.1) (by omega) (wo_ho hr) rfl in_X1 0 (by decide) q143 rfl rfl dX0_goDown_65 ?_
            refine l_top (nI (wh (U r.1))) (by rw [g0]; exact eN) ?_
            refine l_geN hx hb 118 dX0_goDown_68 rfl (by omega) (by omega) (fun c68 => ?_) (fun c68 => ?_)
            · have e6 : w = wh (U r.1) := by omega
              rw [e6, Nat.sub_self, fl_in] at hY
              refine l_inc1 hx hb 2 dX0_goDown_118 hl rfl rfl (fun ls hl => ?_)
              refine lv_goto (tgt := 15) hx hb dX0_goDown_121 rfl ?_
              rw [← hY] at hX
              exact ih (p0 + 1) lf tn Z (by omega) (by omega) gb (by rw [g10, g7]; exact hX) gk _ _ _ hP hS (hl.mask [true, true, true, false, false])
            · refine lv_aload_n hx hb dX0_goDown_71 rfl (hl.at rfl) ?_
              refine c_get hC hK hP 0 (by omega) (wo_wb) rfl in_X0 2 (by decide) q254 rfl rfl dX0_goDown_72 ?_
              refine c_getN hC hK hP (3 + 22 * r.1) (by omega) (wo_ho hr) rfl in_X1 11 (by decide) q167 rfl rfl dX0_goDown_75 ?_
              refine lv_iload hx hb dX0_goDown_78 (hl.at rfl) ?_
              refine c_ldb hC hK hP (3 + 22 * r.1 + 6) (by omega) (c_ldH r.1 6 7 1 8 hr (by decide) (fun _ _ _ => rfl)) _ (rfl) (show _ < 8 by omega) (by decide) dX0_goDown_80 ?_
              refine l_top (U r.1 7 w) (by rw [g0]) ?_
              refine lv_iload_n hx hb dX0_goDown_81 rfl (hl.at rfl) ?_
              refine lv_icmp_eq (tgt := 88) hx hb dX0_goDown_82 rfl (fun c82 => ?_) (fun c82 => ?_)
              · refine lv_aload_n hx hb dX0_goDown_88 rfl (hl.at rfl) ?_
                refine c_get hC hK hP 0 (by omega) (wo_wb) rfl in_X0 10 (by decide) q262 rfl rfl dX0_goDown_89 ?_
                refine lv_iload hx hb dX0_goDown_92 (hl.at rfl) ?_
                refine lv_aload_n hx hb dX0_goDown_94 rfl (hl.at rfl) ?_
                refine lv_iload hx hb dX0_goDown_95 (hl.at rfl) ?_
                refine lv_iload_n hx hb dX0_goDown_97 rfl (hl.at rfl) ?_
                refine x_iV hC hK hP hS (x_rWB hK hP hn) (cX0_wantsOf_ hn hD hr (by rw [g0]; exact hI) (by rw [g0]; exact hQ) (k := w) (by rw [g0]; omega) rfl gb) cv_X0_167 rfl rfl hl.1 (Nat.le_of_ble_eq_true rfl) dX0_goDown_98 (rk (by decide) (by decide)) ⟨Nat.le_refl _, Nat.le_refl _⟩ (fun r98 U98 H locs p98 hP hS => ?_)
                refine c_sti hC hK hP hD hS 78 (by omega) (wo_78) _ (rfl) (show _ < 8 by omega) (by decide) (c_wO 78 6 0 8 (by decide) (by decide) hn rfl (fun _ _ => rfl)) dX0_goDown_101 (fun H locs hP hS => ?_)
                refine lv_iload_n hx hb dX0_goDown_102 rfl (hl.at rfl) ?_
                refine lv_aload_n hx hb dX0_goDown_103 rfl (hl.at rfl) ?_
                refine c_get hC hK hP 0 (by omega) (wo_wb) rfl in_X0 10 (by decide) q262 rfl rfl dX0_goDown_104 ?_
                refine lv_iload hx hb dX0_goDown_107 (hl.at rfl) ?_
                refine c_ldi hC hK hP 78 (by omega) (wo_78) _ (rfl) (show _ < 8 by omega) (by decide) dX0_goDown_109 ?_
                refine l_top r98 (by rw [up3_s, up1_s, pk_us]) ?_
                refine lv_isub hx hb dX0_goDown_110 ?_
                refine l_istore_n hx hb 1 dX0_goDown_111 rfl hl rfl (fun ls hl => ?_)
                refine l_inc1 hx hb 4 dX0_goDown_112 hl rfl rfl (fun ls hl => ?_)
                refine lv_goto (tgt := 59) hx hb dX0_goDown_115 rfl ?_
                first | exact ih2 (w + 1) _ (tn + r98) _ (by omega) (by omega) (by rw [p98.1, g0]; exact wants_sb gb) (by rw [show wh (U r.1) - w = (wh (U r.1) - (w + 1)) + 1 by omega, fl_in, if_pos c82, ← g0, ← p98.1] at hY; rw [up3_s, up1_s, p98.2.2 6 (by decide), ← g0]; exact hY) ((gk.tr (p98.2.mono (by decide))).up (by decide)) (by rw [up3_s, up1_n (by decide), p98.2.2 10 (by decide)]; exact g10) (by rw [up3_s, up1_n (by decide), p98.2.2 7 (by decide)]; exact g7) _ _ _ hP hS (hl.mask [true, true, true, false, true]) | exact ih2 (w + 1) lf tn Z (by omega) (by omega) gb (by rw [show wh (U r.1) - w = (wh (U r.1) - (w + 1)) + 1 by omega, fl_in, if_neg c82] at hY; exact hY) gk g10 g7 _ _ _ hP hS (hl.mask [true, true, true, false, true])
              · refine lv_goto (tgt := 112) hx hb dX0_goDown_85 rfl ?_
                refine l_inc1 hx hb 4 dX0_goDown_112 hl rfl rfl (fun ls hl => ?_)
                refine lv_goto (tgt := 59) hx hb dX0_goDown_115 rfl ?_
                first | exact ih2 (w + 1) _ (tn + r98) _ (by omega) (by omega) (by rw [p98.1, g0]; exact wants_sb gb) (by rw [show wh (U r.1) - w = (wh (U r.1) - (w + 1)) + 1 by omega, fl_in, if_pos c82, ← g0, ← p98.1] at hY; rw [up3_s, up1_s, p98.2.2 6 (by decide), ← g0]; exact hY) ((gk.tr (p98.2.mono (by decide))).up (by decide)) (by rw [up3_s, up1_n (by decide), p98.2.2 10 (by decide)]; exact g10) (by rw [up3_s, up1_n (by decide), p98.2.2 7 (by decide)]; exact g7) _ _ _ hP hS (hl.mask [true, true, true, false, true]) | exact ih2 (w + 1) lf tn Z (by omega) (by omega) gb (by rw [show wh (U r.1) - w = (wh (U r.1) - (w + 1)) + 1 by omega, fl_in, if_neg c82] at hY; exact hY) gk g10 g7 _ _ _ hP hS (hl.mask [true, true, true, false, true])
        exact inner (wh (U r.1) + 1) 0 _ taken _ (by omega) (by omega) (wd_sb hI (by omega) hb9) (by rw [hYe, up3_s, up1_n (by decide), up3_s, up1_n (by decide)]; rfl) ((hk.up (by decide)).up (by decide)) (by rw [up3_s, up1_s, up3_s, up1_n (by decide)]) (by rw [up3_s, up1_n (by decide), up3_s, up1_s]) _ _ _ hP hS (hl.mask [true, true, true, false, true])
  exact outer 13 0 r4 (nI 0) _ (by omega) (by omega) (by rw [p4, hh2, cn_nI (by omega)]; exact inv_bd hI 1 hh (by show hh < 24; omega)) (by rw [p4, hX0, up3_s, up1_s, up1_n (by decide), up1_n (by decide)]; rfl) (Kq.rf.up (by decide)) _ _ _ hP hS (hl.mask [true, true, true, false, false])
