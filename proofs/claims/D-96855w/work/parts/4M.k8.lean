theorem cv_X0_222 : CV RX0 RX0 222 yX0_goDown cX0_goDown 5 (none) 0 := ⟨lw_V q484 q486 qs5 q83 q487, by decide +kernel⟩
theorem cv_X0_225 : CV RX0 RX0 225 yX0_turnsOf cX0_turnsOf 4 (some .int) 2 := ⟨lw_V q562 q564 qs8 q83 q565, by decide +kernel⟩
theorem cv_X0_228 : CV RX0 RX0 228 yX0_showsOf cX0_showsOf 4 (some .int) 2 := ⟨lw_V q610 q612 qs9 q83 q613, by decide +kernel⟩
theorem cv_X0_285 : CV RX0 RX1 285 yX1_turns cX1_turns 3 (none) 2 := ⟨lw_V q949 q950 q951 q84 q952, by decide +kernel⟩
theorem cX0_anHour_ {l : Launch} {D : va_G} {cA : Nat → ClassId} {ad : Nat → Nat} {n : Nat} {f0 : Nat → va_E} {ρ : Nat → Nat → Option Nat} {r : Nat × Nat} {U : Nat → Nat → Nat → Int32} (hn : 81 ≤ n) {A : Nat → Prop} (hD : gD A ad n) (hr : r.1 < 3) (hI : Inv (U r.1)) (hQ : HQ cA ad f0 n ρ (U r.1) r.1) (hh : hrv (U r.1) < 20000) : XI l D cA ad n f0 ρ r U A yX0_anHour cX0_anHour 5 (some .int) (7) [.ref (ad 0)] (fun v V => v = (sp_fl (U r.1)).2.2.1 ∧ AH U V r.1) := by
  refine Ci.of rfl (by decide +kernel) (Nat.le_of_ble_eq_true rfl) ?_
  intro p e s m args below meth c Q hC hK hP hret ls hl
  have hx := hC.1
  have hb := hC.2.1
  have hown := hC.2.2.2.1
  have hts := hC.2.2.2.2
  have hS : va_S A s.heap s.heap [] := va_S.rf
  have hr3 : r.1 ≠ 3 := by omega
  obtain ⟨eN, h8⟩ := inv_wh hI
  refine lv_aload_n hx hb dX0_anHour_0 rfl (hl.at rfl) ?_
  refine x_vV hC hK hP hS (x_rWB hK hP hn) (cX0_goDown_ hn hD hr hI hQ) cv_X0_222 rfl rfl hl.1 (Nat.le_of_ble_eq_true rfl) dX0_anHour_1 (rk (by decide) (by decide)) ⟨Nat.le_refl _, Nat.le_refl _⟩ (fun U1 H locs p1 hP hS => ?_)
  refine lv_iconst (v := nI 0) hx hb dX0_anHour_4 rfl ?_
  refine l_istore_n hx hb 1 dX0_anHour_5 rfl hl rfl (fun ls hl => ?_)
  refine lv_iconst (v := nI 0) hx hb dX0_anHour_6 rfl ?_
  refine l_istore_n hx hb 2 dX0_anHour_7 rfl hl rfl (fun ls hl => ?_)
  have loop : ∀ (i k : Nat) (v : Int32) (V : Tta), k ≤ wh (U r.1) → wh (U r.1) + 1 ≤ k + i → v = sm (sp_took (U r.1)) k → Kh HL r.1 U V → V r.1 = hrs (U r.1) (sp_took (U r.1)) k → (∀ j, j < wh (U r.1) → V 3 6 j = sp_took (U r.1) j) → (∀ j, V 3 8 j = if j < k then U 3 8 j + trn (U r.1) j else U 3 8 j) → ∀ (H : Heap) (locs : List Loc) (ls : Array Slot), XW D cA ad n f0 ρ r V H → va_S A s.heap H locs → lh ls [some (.ref (ad 0)), some (.int v), some (.int (nI k)), none, none] → W p l e (rmG 7 0 0) s m args below meth c H locs 0 0 Q (F0 m 8 ls []) := by
    intro i
    induction i with
    | zero => intro k v V h1 h2; exact absurd h2 (by omega)
    | succ i ih =>
      intro k v V h1 h2 hv hk h0 htk hsu H locs ls hP hS hl
      refine lv_iload_n hx hb dX0_anHour_8 rfl (hl.at rfl) ?_
      refine lv_aload_n hx hb dX0_anHour_9 rfl (hl.at rfl) ?_
      refine c_get hC hK hP 0 (by omega) (wo_wb) rfl in_X0 2 (by decide) q254 rfl rfl dX0_anHour_10 ?_
      refine c_getN hC hK hP (3 + 22 * r.1) (by omega) (wo_ho hr) rfl in_X1 0 (by decide) q143 rfl rfl dX0_anHour_13 ?_
      refine l_top (nI (wh (U r.1))) (by rw [h0, hrs_row (by decide) (by decide) (by decide)]; exact eN) ?_
      refine l_geN hx hb 104 dX0_anHour_16 rfl (by omega) (by omega) (fun c16 => ?_) (fun c16 => ?_)
      · have e5 : k = wh (U r.1) := by omega
        refine lv_aload_n hx hb dX0_anHour_104 rfl (hl.at rfl) ?_
        refine c_get hC hK hP 0 (by omega) (wo_wb) rfl in_X0 2 (by decide) q254 rfl rfl dX0_anHour_105 ?_
        refine lv_dup hx hb dX0_anHour_108 rfl ?_
        refine c_getN hC hK hP (3 + 22 * r.1) (by omega) (wo_ho hr) rfl in_X1 1 (by decide) q146 rfl rfl dX0_anHour_109 ?_
        refine lv_iconst (v := nI 1) hx hb dX0_anHour_112 rfl ?_
        refine lv_iadd hx hb dX0_anHour_113 ?_
        refine c_putN (ty := .int) hC hK hP hD hS (3 + 22 * r.1) (by omega) (wo_ho hr) rfl in_X1 tyX1_ok nmX1 1 (by decide) q146 rfl rfl (by decide +kernel) rfl rfl (by show 1 < 19; decide) (cp_hour hr hn) dX0_anHour_114 (fun H locs hP hS => ?_)
        refine lv_iload_n hx hb dX0_anHour_117 rfl (hl.at rfl) ?_
        refine hret _ _ ls _ _ _ hP hS dX0_anHour_118 ?_
        refine ⟨by rw [hv, e5]; exact sm_took hI, ?_⟩
        refine ⟨hk.S hr3, ?_, fun j hj => ?_, fun j hj => ?_⟩
        · rw [up3_s, h0, e5, sp_hour, hrs_row (r := 0) (by decide) (by decide) (by decide), up2, hrs_row (r := 0) (by decide) (by decide) (by decide)]
        · rw [up3_n (Ne.symm hr3), hsu, e5, if_pos hj]
        · rw [up3_n (Ne.symm hr3), hsu, e5, if_neg (by omega)]
      · refine lv_aload_n hx hb dX0_anHour_19 rfl (hl.at rfl) ?_
        refine lv_iload_n hx hb dX0_anHour_20 rfl (hl.at rfl) ?_
        refine lv_aload_n hx hb dX0_anHour_21 rfl (hl.at rfl) ?_
        refine c_get hC hK hP 0 (by omega) (wo_wb) rfl in_X0 10 (by decide) q262 rfl rfl dX0_anHour_22 ?_
        refine lv_iload_n hx hb dX0_anHour_25 rfl (hl.at rfl) ?_
        refine c_ldi hC hK hP 78 (by omega) (wo_78) _ (rfl) (show _ < 8 by omega) (by decide) dX0_anHour_26 ?_
        refine l_top (sp_took (U r.1) k) (htk k (by omega)) ?_
        refine x_iV hC hK hP hS (x_rWB hK hP hn) (cX0_turnsOf_ hn hD hr (by rw [h0]; exact hrs_inv hI _ _) (by rw [h0]; exact hQ.hrs _ _) (by rw [h0, hrs_wh]; omega) rfl (took_bd hI (by omega))) cv_X0_225 rfl rfl hl.1 (Nat.le_of_ble_eq_true rfl) dX0_anHour_27 (rk (by decide) (by decide)) ⟨Nat.le_refl _, Nat.le_refl _⟩ (fun r27 U27 H locs p27 hP hS => ?_)
        refine l_istore_n hx hb 3 dX0_anHour_30 rfl hl rfl (fun ls hl => ?_)
        have g0 : U27 r.1 = hrs (U r.1) (sp_took (U r.1)) k := (p27.2.1 _ hr3).trans h0
        refine lv_aload_n hx hb dX0_anHour_31 rfl (hl.at rfl) ?_
        refine lv_iload_n hx hb dX0_anHour_32 rfl (hl.at rfl) ?_
        refine lv_aload_n hx hb dX0_anHour_33 rfl (hl.at rfl) ?_
        refine c_get hC hK hP 0 (by omega) (wo_wb) rfl in_X0 10 (by decide) q262 rfl rfl dX0_anHour_34 ?_
        refine lv_iload_n hx hb dX0_anHour_37 rfl (hl.at rfl) ?_
        refine c_ldi hC hK hP 78 (by omega) (wo_78) _ (rfl) (show _ < 8 by omega) (by decide) dX0_anHour_38 ?_
        refine l_top (sp_took (U r.1) k) (by rw [p27.2.2 6 (by decide)]; exact htk k (by omega)) ?_
        refine x_iV hC hK hP hS (x_rWB hK hP hn) (cX0_showsOf_ hn hD hr (by rw [g0]; exact hrs_inv hI _ _) (by rw [g0]; exact hQ.hrs _ _) (by rw [g0, hrs_wh]; omega) rfl (took_bd hI (by omega))) cv_X0_228 rfl rfl hl.1 (Nat.le_of_ble_eq_true rfl) dX0_anHour_39 (rk (by decide) (by decide)) ⟨Nat.le_refl _, Nat.le_refl _⟩ (fun r39 U39 H locs p39 hP hS => ?_)
        refine l_istore hx hb 4 dX0_anHour_42 hl rfl (fun ls hl => ?_)
        have g1 : U39 r.1 = hrs (U r.1) (sp_took (U r.1)) k := (p39.2.1 _ hr3).trans g0
        refine lv_aload_n hx hb dX0_anHour_44 rfl (hl.at rfl) ?_
        refine c_get hC hK hP 0 (by omega) (wo_wb) rfl in_X0 2 (by decide) q254 rfl rfl dX0_anHour_45 ?_
        refine lv_iload_n hx hb dX0_anHour_48 rfl (hl.at rfl) ?_
        refine lv_iload_n hx hb dX0_anHour_49 rfl (hl.at rfl) ?_
        refine x_vV hC hK hP hS (x_rHO hr hK hP hn) (cX1_turns_ hn hD hr rfl (by omega) (by rw [g1]; exact hrs_inv hI _ _) (by rw [p27.1]; exact turns_bd)) cv_X0_285 rfl rfl hl.1 (Nat.le_of_ble_eq_true rfl) dX0_anHour_50 (rk (by decide) (by decide)) ⟨Nat.le_refl _, Nat.le_refl _⟩ (fun U50 H locs p50 hP hS => ?_)
        subst p50
        refine lv_aload_n hx hb dX0_anHour_53 rfl (hl.at rfl) ?_
        refine c_get hC hK hP 0 (by omega) (wo_wb) rfl in_X0 14 (by decide) q266 rfl rfl dX0_anHour_54 ?_
        refine lv_iload_n hx hb dX0_anHour_57 rfl (hl.at rfl) ?_
        refine lv_dup2_11 hx hb dX0_anHour_58 rfl rfl ?_
        refine c_ldi hC hK hP 80 (by omega) (wo_80) _ (rfl) (show _ < 8 by omega) (by decide) dX0_anHour_59 ?_
        refine lv_iload_n hx hb dX0_anHour_60 rfl (hl.at rfl) ?_
        refine lv_iadd hx hb dX0_anHour_61 ?_
        refine c_sti hC hK hP hD hS 80 (by omega) (wo_80) _ (rfl) (show _ < 8 by omega) (by decide) (c_wO 80 8 0 8 (by decide) (by decide) hn rfl (fun _ _ => rfl)) dX0_anHour_62 (fun H locs hP hS => ?_)
        refine lv_aload_n hx hb dX0_anHour_63 rfl (hl.at rfl) ?_
        refine c_get hC hK hP 0 (by omega) (wo_wb) rfl in_X0 2 (by decide) q254 rfl rfl dX0_anHour_64 ?_
        refine c_getN hC hK hP (3 + 22 * r.1) (by omega) (wo_ho hr) rfl in_X1 14 (by decide) q174 rfl rfl dX0_anHour_67 ?_
        refine lv_iload_n hx hb dX0_anHour_70 rfl (hl.at rfl) ?_
        refine lv_ldc (v := 999999) hx hb hown (hts _ q657) dX0_anHour_71 ?_
        refine lv_aload_n hx hb dX0_anHour_73 rfl (hl.at rfl) ?_
        refine c_get hC hK hP 0 (by omega) (wo_wb) rfl in_X0 2 (by decide) q254 rfl rfl dX0_anHour_74 ?_
        refine c_getN hC hK hP (3 + 22 * r.1) (by omega) (wo_ho hr) rfl in_X1 14 (by decide) q174 rfl rfl dX0_anHour_77 ?_
        refine lv_iload_n hx hb dX0_anHour_80 rfl (hl.at rfl) ?_
        refine c_ldi hC hK hP (3 + 22 * r.1 + 9) (by omega) (c_ldH r.1 9 10 0 8 hr (by decide) (fun _ _ _ => rfl)) _ (rfl) (show _ < 8 by omega) (by decide) dX0_anHour_81 ?_
        refine lv_iload hx hb dX0_anHour_82 (hl.at rfl) ?_
        refine lv_iadd hx hb dX0_anHour_84 ?_
        refine x_min hC q492 hl.1 (by decide) (Nat.le_of_ble_eq_true rfl) ⟨Nat.le_refl _, Nat.le_refl _⟩ dX0_anHour_85 ?_
        refine c_sti hC hK hP hD hS (3 + 22 * r.1 + 9) (by omega) (c_ldH r.1 9 10 0 8 hr (by decide) (fun _ _ _ => rfl)) _ (rfl) (show _ < 8 by omega) (by decide) (c_wH r.1 9 10 0 8 hr hn (by decide) rfl (fun _ _ _ => rfl)) dX0_anHour_88 (fun H locs hP hS => ?_)
        refine lv_iload_n hx hb dX0_anHour_89 rfl (hl.at rfl) ?_
        refine lv_aload_n hx hb dX0_anHour_90 rfl (hl.at rfl) ?_
        refine c_get hC hK hP 0 (by omega) (wo_wb) rfl in_X0 10 (by decide) q262 rfl rfl dX0_anHour_91 ?_
        refine lv_iload_n hx hb dX0_anHour_94 rfl (hl.at rfl) ?_
        refine c_ldi hC hK hP 78 (by omega) (wo_78) _ (rfl) (show _ < 8 by omega) (by decide) dX0_anHour_95 ?_
        refine l_top (sp_took (U r.1) k) (by rw [up3_n (Ne.symm hr3), up3_s, up1_n (by decide), uS_n (Ne.symm hr3), p39.2.2 6 (by decide), p27.2.2 6 (by decide)]; exact htk k (by omega)) ?_
        refine lv_iadd hx hb dX0_anHour_96 ?_
        refine l_istore_n hx hb 1 dX0_anHour_97 rfl hl rfl (fun ls hl => ?_)
        have hs1 : Bd (hrs (U r.1) (sp_took (U r.1)) k 10 k + r39) 1009998 := bd_ad2 (inv_bd (hrs_inv hI (sp_took (U r.1)) k) 10 k (by show k < 8; omega)) (by rw [p39.1]; exact shows_bd (took_bd hI (by omega))) (by decide)
        have e7 : r27 = sp_turns (hrs (U r.1) (sp_took (U r.1)) k) k (sp_took (U r.1) k) := by rw [p27.1, h0]
        have e6 : r39 = sp_shows (hrs (U r.1) (sp_took (U r.1)) k) k (sp_took (U r.1) k) := by rw [p39.1, g0]
        rw [mn_held (by rw [up3_n hr3, uS_s, turn1_row (by decide) (by decide), g1]; exact bd_nn hs1 (by decide))] at hP
        have e8 : up3 (up3 (uS U39 r.1 (sp_turn1 (U39 r.1) k r27)) 3 8 (upd (uS U39 r.1 (sp_turn1 (U39 r.1) k r27) 3 8) k (uS U39 r.1 (sp_turn1 (U39 r.1) k r27) 3 8 k + r27))) r.1 10 (upd (up3 (uS U39 r.1 (sp_turn1 (U39 r.1) k r27)) 3 8 (upd (uS U39 r.1 (sp_turn1 (U39 r.1) k r27) 3 8) k (uS U39 r.1 (sp_turn1 (U39 r.1) k r27) 3 8 k + r27)) r.1 10) k (sp_held (up3 (uS U39 r.1 (sp_turn1 (U39 r.1) k r27)) 3 8 (upd (uS U39 r.1 (sp_turn1 (U39 r.1) k r27) 3 8) k (uS U39 r.1 (sp_turn1 (U39 r.1) k r27) 3 8 k + r27)) r.1 10 k + r39) (nI 0) 999999)) r.1 = hrs (U r.1) (sp_took (U r.1)) (k + 1) := by rw [up3_s, up3_n hr3, uS_s, turn1_row (r := 10) (by decide) (by decide), g1, hrs, hr1, ← e7, e6, sp_shows, ← e7, up2, turn1_row (r := 10) (by decide) (by decide)]
        have e9 := su_st hsu e7
        refine l_inc1 hx hb 2 dX0_anHour_98 hl rfl rfl (fun ls hl => ?_)
        refine lv_goto (tgt := 8) hx hb dX0_anHour_101 rfl ?_
        exact ih (k + 1) _ _ (by omega) (by omega) (by rw [sm, hv]) (by have h9 := hk.tr ((p27.2.tr p39.2).h (by decide)); exact ((h9.S hr3).up (by decide)).S hr3) e8 (fun j hj => by rw [up3_n (Ne.symm hr3), up3_s, up1_n (by decide), uS_n (Ne.symm hr3), p39.2.2 6 (by decide), p27.2.2 6 (by decide)]; exact htk j hj) (fun j => by rw [up3_n (Ne.symm hr3), up3_s, up1_s, uS_n (Ne.symm hr3), p39.2.2 8 (by decide), p27.2.2 8 (by decide)]; exact e9 j) _ _ _ hP hS (hl.mask [true, true, true, false, false])
  exact loop (wh (U r.1) + 1) 0 _ U1 (by omega) (by omega) rfl (p1.1.h (by decide)) (p1.1.1 _ hr3) (fun j hj => by rw [p1.2.1]; exact (flow_ag hI _ _).2.2.2.1 j hj) (fun j => by rw [p1.1.2 8 (by decide), if_neg (by omega)]) _ _ _ hP hS (hl.mask [true, true, true, false, false])
theorem cv_X0_291 : CV RX0 RX0 291 yX0_anHour cX0_anHour 5 (some .int) 0 := ⟨lw_V q945 q947 qs24 q83 q948, by decide +kernel⟩
theorem cX0_goOn_ {l : Launch} {D : va_G} {cA : Nat → ClassId} {ad : Nat → Nat} {n : Nat} {f0 : Nat → va_E} {ρ : Nat → Nat → Option Nat} {r : Nat × Nat} {U : Nat → Nat → Nat → Int32} (hn : 81 ≤ n) {A : Nat → Prop} (hD : gD A ad n) (hr : r.1 < 3) (hI : Inv (U r.1)) (hQ : HQ cA ad f0 n ρ (U r.1) r.1) {x : Int32} {m0 : Nat} (hx1 : x = nI m0) (hh : hrv (U r.1) + m0 ≤ 20000) : XI l D cA ad n f0 ρ r U A yX0_goOn cX0_goOn 4 (some .int) (8) [.ref (ad 0), .int x] (fun v V => v = tkN (U r.1) m0 ∧ GO U V r.1 m0) := by
  refine Ci.of rfl (by decide +kernel) (Nat.le_of_ble_eq_true rfl) ?_
  intro p e s m args below meth c Q hC hK hP hret ls hl
  have hx := hC.1
  have hb := hC.2.1
  have hown := hC.2.2.2.1
  have hts := hC.2.2.2.2
  have hS : va_S A s.heap s.heap [] := va_S.rf
  subst hx1
  refine lv_iconst (v := nI 0) hx hb dX0_goOn_0 rfl ?_
  refine l_istore_n hx hb 2 dX0_goOn_1 rfl hl rfl (fun ls hl => ?_)
  refine lv_iconst (v := nI 0) hx hb dX0_goOn_2 rfl ?_
  refine l_istore_n hx hb 3 dX0_goOn_3 rfl hl rfl (fun ls hl => ?_)
  have loop : ∀ (i k : Nat) (v : Int32) (V : Tta), k ≤ m0 → m0 + 1 ≤ k + i → v = tkN (U r.1) k → GO U V r.1 k → ∀ (H : Heap) (locs : List Loc) (ls : Array Slot), XW D cA ad n f0 ρ r V H → va_S A s.heap H locs → lh ls [some (.ref (ad 0)), some (.int (nI m0)), some (.int v), some (.int (nI k))] → W p l e (rmG 8 0 0) s m args below meth c H locs 0 0 Q (F0 m 4 ls []) := by
    intro i
    induction i with
    | zero => intro k v V h1 h2; exact absurd h2 (by omega)
    | succ i ih =>
      intro k v V h1 h2 hv hG H locs ls hP hS hl
      obtain ⟨i1, i2, i3⟩ := hrN_inv hI k (by omega)
      refine lv_iload_n hx hb dX0_goOn_4 rfl (hl.at rfl) ?_
      refine lv_iload_n hx hb dX0_goOn_5 rfl (hl.at rfl) ?_
      refine l_geN hx hb 22 dX0_goOn_6 rfl (by omega) (by omega) (fun c6 => ?_) (fun c6 => ?_)
      · have e5 : k = m0 := by omega
        refine lv_iload_n hx hb dX0_goOn_22 rfl (hl.at rfl) ?_
        refine hret _ _ ls _ _ _ hP hS dX0_goOn_23 ?_
        rw [e5] at hv hG; exact ⟨hv, hG⟩
      · refine lv_iload_n hx hb dX0_goOn_9 rfl (hl.at rfl) ?_
        refine lv_aload_n hx hb dX0_goOn_10 rfl (hl.at rfl) ?_
        refine x_iV hC hK hP hS (x_rWB hK hP hn) (cX0_anHour_ hn hD hr (by rw [hG.2.1]; exact i1) (by rw [hG.2.1]; exact hQ.hrN k) (by rw [hG.2.1, i2]; omega)) cv_X0_291 rfl rfl hl.1 (Nat.le_of_ble_eq_true rfl) dX0_goOn_11 (rk (by decide) (by decide)) ⟨Nat.le_refl _, Nat.le_refl _⟩ (fun r11 U11 H locs p11 hP hS => ?_)
        refine lv_iadd hx hb dX0_goOn_14 ?_
        refine l_istore_n hx hb 2 dX0_goOn_15 rfl hl rfl (fun ls hl => ?_)
        refine l_inc1 hx hb 3 dX0_goOn_16 hl rfl rfl (fun ls hl => ?_)
        refine lv_goto (tgt := 4) hx hb dX0_goOn_19 rfl ?_
        exact ih (k + 1) _ _ (by omega) (by omega) (by rw [tkN, hv, p11.1, hG.2.1]) (hG.st (by rw [hG.2.1, i3]) p11.2) _ _ _ hP hS hl
  exact loop (m0 + 1) 0 _ U (by omega) (by omega) rfl GO.rf _ _ _ hP hS hl
