theorem cs_X0_248 : CS RX0 248 yX0_mostOf cX0_mostOf 1 (some .int) 1 := ⟨lw_S q654 q655 q83 q656, by decide +kernel⟩
theorem cs_X0_251 : CS RX0 251 yX0_made cX0_made 3 ((Option.some (Jvm.ClassFile.FieldType.object "WheelBrook$Wheel"))) 3 := ⟨lw_S q658 q357 q83 q358, by decide +kernel⟩
theorem cX0_set_ {l : Launch} {D : va_G} {cA : Nat → ClassId} {ad : Nat → Nat} {n : Nat} {f0 : Nat → va_E} {ρ : Nat → Nat → Option Nat} {r : Nat × Nat} {U : Nat → Nat → Nat → Int32} (hn : 81 ≤ n) {A : Nat → Prop} (hD : gD A ad n) (hB : RB ρ n) {z : Nat} (hAz : ∀ q, z ≤ q → A q) {x q v : Int32} {T : Tta} (hX : CQ cA ad n f0 U ρ r T) (hI : Inv (T 0)) : XIg l D cA ad n f0 ρ r U A z yX0_set cX0_set 6 (some .int) (8) 1 2 [.ref (ad 0), .int x, .int q, .int v] (fun o ad1 n1 f1 V ρ1 r1 => o = (op_set x q v T).1 ∧ CQ cA ad1 n1 f1 V ρ1 r1 (op_set x q v T).2 ∧ AX A ad n f0 ρ1 ad1 n1 f1) := by
  refine Ci.of rfl (by decide +kernel) (Nat.le_of_ble_eq_true rfl) ?_
  intro p e s m args below meth c Q hC hK hP hret ls hl
  have hx := hC.1
  have hb := hC.2.1
  have hown := hC.2.2.2.1
  have hts := hC.2.2.2.2
  obtain ⟨hP, hz⟩ := hP
  have hS : va_S A s.heap s.heap [] := va_S.rf
  have hT : CT U r T := hX.1
  have hQ : HQ cA ad f0 n ρ (T 0) r.1 := hX.2.1
  have hr2 : r.2 < 3 := hT.lt2
  have hne : r.1 ≠ r.2 := hT.1.2.2
  have hr23 : r.2 ≠ 3 := by omega
  have hr : r.1 < 3 := hT.lt
  have e0 : U r.1 = T 0 := hT.2.1
  have hI2 : Inv (U r.1) := by rw [e0]; exact hI
  have hQ2 : HQ cA ad f0 n ρ (U r.1) r.1 := by rw [e0]; exact hQ
  have hr3 : r.1 ≠ 3 := by omega
  obtain ⟨eN, h8⟩ := inv_wh hI2
  have eH : U r.1 0 1 = nI (hrv (T 0)) := by rw [e0]; exact (inv_hr hI).1
  have hH := (inv_hr hI).2
  rw [e0] at eN h8
  refine lv_aload_n hx hb dX0_set_0 rfl (hl.at rfl) ?_
  refine lv_iload_n hx hb dX0_set_1 rfl (hl.at rfl) ?_
  refine x_pV hC hK hP (x_rWB hK hP hn) (cX0_isWheel_ hn hr) cv_X0_231 rfl rfl hl.1 (Nat.le_of_ble_eq_true rfl) dX0_set_2 (rk (by decide) (by decide)) ⟨by decide, by decide⟩ (fun r2 p2 => ?_)
  rcases p2 with ⟨rfl, p2⟩ | ⟨rfl, p2⟩
  · obtain ⟨k, hk, rfl⟩ := isWh_of hI2 p2
    have hk8 : k < 8 := by rw [e0] at hk; omega
    refine l_ifeq_1 hx hb 20 dX0_set_5 rfl ?_
    refine lv_iload_n hx hb dX0_set_8 rfl (hl.at rfl) ?_
    refine lv_iconst (v := nI 0) hx hb dX0_set_9 rfl ?_
    refine lv_iload_n hx hb dX0_set_10 rfl (hl.at rfl) ?_
    refine x_sS hC (cX0_mostOf_ ) cs_X0_248 rfl rfl hl.1 (Nat.le_of_ble_eq_true rfl) dX0_set_11 (rk (by decide) (by decide)) ⟨by decide, by decide⟩ (fun r11 p11 => ?_)
    refine x_sS hC (cX0_isIn_ ) cs_X0_122 rfl rfl hl.1 (Nat.le_of_ble_eq_true rfl) dX0_set_14 (rk (by decide) (by decide)) ⟨by decide, by decide⟩ (fun r14 p14 => ?_)
    rcases p14 with ⟨rfl, p14⟩ | ⟨rfl, p14⟩
    · obtain ⟨hq, hv⟩ := mo_in p11 p14
      obtain ⟨j, hj, rfl⟩ := in_nI hq
      refine l_ifne_1 hx hb 26 dX0_set_17 rfl ?_
      refine lv_aload_n hx hb dX0_set_26 rfl (hl.at rfl) ?_
      refine lv_iload_n hx hb dX0_set_27 rfl (hl.at rfl) ?_
      refine lv_iload_n hx hb dX0_set_28 rfl (hl.at rfl) ?_
      refine x_iV hC hK hP hS (x_rWB hK hP hn) (cX0_wheelTold_ hn hD hr hI2 hQ2 rfl hk (nI_in2 (by omega))) cv_X0_234 rfl rfl hl.1 (Nat.le_of_ble_eq_true rfl) dX0_set_29 (rk (by decide) (by decide)) ⟨by decide, by decide⟩ (fun r29 U29 H locs p29 hP hS => ?_)
      have g0 : U29 r.1 = T 0 := (p29.2.1 _ hr3).trans e0
      have k29 : CT U29 r T := p29.2.CT hT (by decide)
      obtain ⟨w, kd, hWK⟩ := hQ2.1 k hk
      have hWK2 := hWK
      obtain ⟨w0, w1, w2, w3, w4, w5⟩ := hWK2
      refine l_istore hx hb 4 dX0_set_32 hl rfl (fun ls hl => ?_)
      refine lv_aload_n hx hb dX0_set_34 rfl (hl.at rfl) ?_
      refine c_get hC hK hP 0 (by omega) (wo_wb) rfl in_X0 2 (by decide) q254 rfl rfl dX0_set_35 ?_
      refine lv_iload_n hx hb dX0_set_38 rfl (hl.at rfl) ?_
      refine x_rV hC hK hP (x_rHO hr hK hP hn) (cX1_at_ hn hr rfl hk8 hWK) cv_X0_126 rfl rfl hl.1 (Nat.le_of_ble_eq_true rfl) dX0_set_39 (rk (by decide) (by decide)) ⟨by decide, by decide⟩ (fun a39 p39 => ?_)
      subst p39
      refine l_astore hx hb 5 dX0_set_42 hl rfl (fun ls hl => ?_)
      refine lv_iload_n hx hb dX0_set_44 rfl (hl.at rfl) ?_
      rcases (by omega : j = 0 ∨ j = 1 ∨ j = 2 ∨ j = 3 ∨ j = 4 ∨ j = 5) with rfl | rfl | rfl | rfl | rfl | rfl
      · obtain ⟨vk, hv11, rfl, hv6⟩ := most_bd (by decide) hv
        have hv6 := hv6 rfl
        refine lv_tableIn (tgt := 80) hx hb dX0_set_45 (by decide) (by decide) rfl rfl ?_
        refine lv_aload_n hx hb dX0_set_80 rfl (hl.at rfl) ?_
        refine c_get hC hK hP 0 (by omega) (wo_wb) rfl in_X0 2 (by decide) q254 rfl rfl dX0_set_81 ?_
        refine c_getN hC hK hP (3 + 22 * r.1) (by omega) (wo_ho hr) rfl in_X1 10 (by decide) q164 rfl rfl dX0_set_84 ?_
        refine lv_iload_n hx hb dX0_set_87 rfl (hl.at rfl) ?_
        refine x_ald hC hK hP (3 + 22 * r.1 + 5) (by omega) 3 (wo_wh hr) rfl k (rfl) (hk8) (by decide) dX0_set_88 ?_
        refine lv_iload_n hx hb dX0_set_89 rfl (hl.at rfl) ?_
        refine lv_iload_n hx hb dX0_set_90 rfl (hl.at rfl) ?_
        refine lv_aload hx hb dX0_set_91 (hl.at rfl) ?_
        refine x_getm hC hK hP w1 w2 w3 w5 q381 dX0_set_93 ?_
        refine x_gS hC hK ⟨hP, Nat.le_trans hz hS.1⟩ hS (cX0_made_ hn hD hB hAz hr hr2 (kd := vk) rfl hv6) (fun _ h => h) cs_X0_251 rfl rfl hl.1 (Nat.le_of_ble_eq_true rfl) dX0_set_96 (rk (by decide) (by decide)) ⟨by decide, by decide⟩ (fun ad1 a96 H locs p96 hP hS => ?_)
        obtain ⟨rfl, hP⟩ := hP
        obtain ⟨had, hD⟩ := p96
        have hn0 := hn
        have hn : 81 ≤ n + 1 := by omega
        rw [← had 0 (by omega)] at hl
        rw [← had (3 + 22 * r.1 + 14 + k) (by omega)]
        refine c_putN (ty := .object "java/lang/Object") hC hK hP hD hS (3 + 22 * r.1 + 14 + k) (by omega) (wo_sl hr (hk8)) rfl in_X2 tyX2_ok nmX2 0 (by decide) q136 rfl rfl (by decide +kernel) (rf_n (some n)) (rf_f (some n)) (by show 0 < 1; decide) (c_wL (w := some n) hr (hk8) hn) dX0_set_99 (fun H locs hP hS => ?_)
        replace hP := XW.gh hP hr (S := up2 (T 0) 5 k (nI vk)) (fun j _ => by rw [g0, up2_row (by decide)]) (fun q z0 z1 z2 z3 z4 z5 => by rw [g0]; exact up2_row (by omega))
        refine lv_goto (tgt := 182) hx hb dX0_set_102 rfl ?_
        try rw [up3_uS, g0] at hP
        refine lv_iload hx hb dX0_set_182 (hl.at rfl) ?_
        refine W.widen (k := 1) (n := 2) (by decide) (by decide) ?_
        refine hret _ _ ls _ _ (_, _, _, _, _, _) hP hS dX0_set_184 ?_
        dsimp only
        first | (rw [op_set_er (fun z => p2 (by rw [e0]; exact z.1))]; exact ⟨(hX.e p22 (by decide)).1, (hX.e p22 (by decide)).2, Ext.rf, hD, hB⟩) | (rw [op_set_er (fun z => mo_out p11 p14 z.2)]; exact ⟨(hX.e p22 (by decide)).1, (hX.e p22 (by decide)).2, Ext.rf, hD, hB⟩) | (rw [op_set, if_pos (by rw [← e0]; exact p2), if_pos hq, if_pos hv, cn_nI (by omega), cn_nI (by omega), p29.1, tw_lt (by omega), e0]; exact ⟨rfl, hX.re k29.S hn0 (by omega) had (by unfold wh; rw [up2_row (by decide)]) (by rw [up2, up1_s]) (by rw [up2_row (by decide), upd_id (by rw [← e0])]) (up2_row (by decide)) (up2_row (by decide)), Ext.one had, hD, RB.rh (hB.mono (by omega)) (fun w9 z => by cases z; omega)⟩) | (rw [op_set, if_pos (by rw [← e0]; exact p2), if_pos hq, if_pos hv, cn_nI (by omega), cn_nI (by omega), p29.1, tw_lt (by omega), e0]; exact ⟨rfl, hX.re k29.S hn0 w3 had (by unfold wh; rw [up2_row (by decide)]) (by rw [up2_row (by decide), upd_id (by rw [← e0]; exact w4.symm)]) (by rw [up2, up1_s]) (up2_row (by decide)) (up2_row (by decide)), Ext.one had, hD, RB.rh (hB.mono (by omega)) (fun w9 z => by cases z; omega)⟩) | (rw [op_set, if_pos (by rw [← e0]; exact p2), if_pos hq, if_pos hv, cn_nI (by omega), cn_nI (by omega), p29.1, tw_lt (by omega), e0]; exact ⟨rfl, hX.S k29.S (hq_r hQ (by decide) (by decide) (by decide) (by decide) (by decide)), Ext.rf, hD, hB⟩)
      · obtain ⟨vk, hv11, rfl, -⟩ := most_bd (by decide) hv
        refine lv_tableIn (tgt := 105) hx hb dX0_set_45 (by decide) (by decide) rfl rfl ?_
        refine lv_aload_n hx hb dX0_set_105 rfl (hl.at rfl) ?_
        refine c_get hC hK hP 0 (by omega) (wo_wb) rfl in_X0 2 (by decide) q254 rfl rfl dX0_set_106 ?_
        refine c_getN hC hK hP (3 + 22 * r.1) (by omega) (wo_ho hr) rfl in_X1 10 (by decide) q164 rfl rfl dX0_set_109 ?_
        refine lv_iload_n hx hb dX0_set_112 rfl (hl.at rfl) ?_
        refine x_ald hC hK hP (3 + 22 * r.1 + 5) (by omega) 3 (wo_wh hr) rfl k (rfl) (hk8) (by decide) dX0_set_113 ?_
        refine lv_aload hx hb dX0_set_114 (hl.at rfl) ?_
        rcases (by omega : kd = 0 ∨ kd = 1 ∨ kd = 2 ∨ kd = 3 ∨ kd = 4 ∨ kd = 5 ∨ kd = 6) with rfl | rfl | rfl | rfl | rfl | rfl | rfl
        · refine x_pO hC hK hP (x_rPO hK hP w1 w2 w5 rfl) (cX6_kind_0 hn w1 w2 w5) cov_X0_213_X6 rfl rfl hl.1 (Nat.le_of_ble_eq_true rfl) dX0_set_116 (rk (by decide) (by decide)) ⟨by decide, by decide⟩ (fun r116 p116 => ?_)
          refine lv_iload_n hx hb dX0_set_119 rfl (hl.at rfl) ?_
          refine lv_iload_n hx hb dX0_set_120 rfl (hl.at rfl) ?_
          refine x_gS hC hK ⟨hP, Nat.le_trans hz hS.1⟩ hS (cX0_made_ hn hD hB hAz hr hr2 p116 (by decide)) (fun _ h => h) cs_X0_251 rfl rfl hl.1 (Nat.le_of_ble_eq_true rfl) dX0_set_121 (rk (by decide) (by decide)) ⟨by decide, by decide⟩ (fun ad1 a121 H locs p121 hP hS => ?_)
          obtain ⟨rfl, hP⟩ := hP
          obtain ⟨had, hD⟩ := p121
          have hn0 := hn
          have hn : 81 ≤ n + 1 := by omega
          rw [← had 0 (by omega)] at hl
          rw [← had (3 + 22 * r.1 + 14 + k) (by omega)]
          refine c_putN (ty := .object "java/lang/Object") hC hK hP hD hS (3 + 22 * r.1 + 14 + k) (by omega) (wo_sl hr (hk8)) rfl in_X2 tyX2_ok nmX2 0 (by decide) q136 rfl rfl (by decide +kernel) (rf_n (some n)) (rf_f (some n)) (by show 0 < 1; decide) (c_wL (w := some n) hr (hk8) hn) dX0_set_124 (fun H locs hP hS => ?_)
          replace hP := XW.gh hP hr (S := up2 (T 0) 6 k (nI vk)) (fun j _ => by rw [g0, up2_row (by decide)]) (fun q z0 z1 z2 z3 z4 z5 => by rw [g0]; exact up2_row (by omega))
          refine lv_goto (tgt := 182) hx hb dX0_set_127 rfl ?_
          try rw [up3_uS, g0] at hP
          refine lv_iload hx hb dX0_set_182 (hl.at rfl) ?_
          refine W.widen (k := 1) (n := 2) (by decide) (by decide) ?_
          refine hret _ _ ls _ _ (_, _, _, _, _, _) hP hS dX0_set_184 ?_
          dsimp only
          first | (rw [op_set_er (fun z => p2 (by rw [e0]; exact z.1))]; exact ⟨(hX.e p22 (by decide)).1, (hX.e p22 (by decide)).2, Ext.rf, hD, hB⟩) | (rw [op_set_er (fun z => mo_out p11 p14 z.2)]; exact ⟨(hX.e p22 (by decide)).1, (hX.e p22 (by decide)).2, Ext.rf, hD, hB⟩) | (rw [op_set, if_pos (by rw [← e0]; exact p2), if_pos hq, if_pos hv, cn_nI (by omega), cn_nI (by omega), p29.1, tw_lt (by omega), e0]; exact ⟨rfl, hX.re k29.S hn0 (by omega) had (by unfold wh; rw [up2_row (by decide)]) (by rw [up2, up1_s]) (by rw [up2_row (by decide), upd_id (by rw [← e0])]) (up2_row (by decide)) (up2_row (by decide)), Ext.one had, hD, RB.rh (hB.mono (by omega)) (fun w9 z => by cases z; omega)⟩) | (rw [op_set, if_pos (by rw [← e0]; exact p2), if_pos hq, if_pos hv, cn_nI (by omega), cn_nI (by omega), p29.1, tw_lt (by omega), e0]; exact ⟨rfl, hX.re k29.S hn0 w3 had (by unfold wh; rw [up2_row (by decide)]) (by rw [up2_row (by decide), upd_id (by rw [← e0]; exact w4.symm)]) (by rw [up2, up1_s]) (up2_row (by decide)) (up2_row (by decide)), Ext.one had, hD, RB.rh (hB.mono (by omega)) (fun w9 z => by cases z; omega)⟩) | (rw [op_set, if_pos (by rw [← e0]; exact p2), if_pos hq, if_pos hv, cn_nI (by omega), cn_nI (by omega), p29.1, tw_lt (by omega), e0]; exact ⟨rfl, hX.S k29.S (hq_r hQ (by decide) (by decide) (by decide) (by decide) (by decide)), Ext.rf, hD, hB⟩)
        · refine x_pO hC hK hP (x_rPO hK hP w1 w2 w5 rfl) (cX7_kind_1 hn w1 w2 w5) cov_X0_213_X7 rfl rfl hl.1 (Nat.le_of_ble_eq_true rfl) dX0_set_116 (rk (by decide) (by decide)) ⟨by decide, by decide⟩ (fun r116 p116 => ?_)
          refine lv_iload_n hx hb dX0_set_119 rfl (hl.at rfl) ?_
          refine lv_iload_n hx hb dX0_set_120 rfl (hl.at rfl) ?_
          refine x_gS hC hK ⟨hP, Nat.le_trans hz hS.1⟩ hS (cX0_made_ hn hD hB hAz hr hr2 p116 (by decide)) (fun _ h => h) cs_X0_251 rfl rfl hl.1 (Nat.le_of_ble_eq_true rfl) dX0_set_121 (rk (by decide) (by decide)) ⟨by decide, by decide⟩ (fun ad1 a121 H locs p121 hP hS => ?_)
          obtain ⟨rfl, hP⟩ := hP
          obtain ⟨had, hD⟩ := p121
          have hn0 := hn
          have hn : 81 ≤ n + 1 := by omega
          rw [← had 0 (by omega)] at hl
          rw [← had (3 + 22 * r.1 + 14 + k) (by omega)]
          refine c_putN (ty := .object "java/lang/Object") hC hK hP hD hS (3 + 22 * r.1 + 14 + k) (by omega) (wo_sl hr (hk8)) rfl in_X2 tyX2_ok nmX2 0 (by decide) q136 rfl rfl (by decide +kernel) (rf_n (some n)) (rf_f (some n)) (by show 0 < 1; decide) (c_wL (w := some n) hr (hk8) hn) dX0_set_124 (fun H locs hP hS => ?_)
          replace hP := XW.gh hP hr (S := up2 (T 0) 6 k (nI vk)) (fun j _ => by rw [g0, up2_row (by decide)]) (fun q z0 z1 z2 z3 z4 z5 => by rw [g0]; exact up2_row (by omega))
          refine lv_goto (tgt := 182) hx hb dX0_set_127 rfl ?_
          try rw [up3_uS, g0] at hP
          refine lv_iload hx hb dX0_set_182 (hl.at rfl) ?_
          refine W.widen (k := 1) (n := 2) (by decide) (by decide) ?_
          refine hret _ _ ls _ _ (_, _, _, _, _, _) hP hS dX0_set_184 ?_
          dsimp only
          first | (rw [op_set_er (fun z => p2 (by rw [e0]; exact z.1))]; exact ⟨(hX.e p22 (by decide)).1, (hX.e p22 (by decide)).2, Ext.rf, hD, hB⟩) | (rw [op_set_er (fun z => mo_out p11 p14 z.2)]; exact ⟨(hX.e p22 (by decide)).1, (hX.e p22 (by decide)).2, Ext.rf, hD, hB⟩) | (rw [op_set, if_pos (by rw [← e0]; exact p2), if_pos hq, if_pos hv, cn_nI (by omega), cn_nI (by omega), p29.1, tw_lt (by omega), e0]; exact ⟨rfl, hX.re k29.S hn0 (by omega) had (by unfold wh; rw [up2_row (by decide)]) (by rw [up2, up1_s]) (by rw [up2_row (by decide), upd_id (by rw [← e0])]) (up2_row (by decide)) (up2_row (by decide)), Ext.one had, hD, RB.rh (hB.mono (by omega)) (fun w9 z => by cases z; omega)⟩) | (rw [op_set, if_pos (by rw [← e0]; exact p2), if_pos hq, if_pos hv, cn_nI (by omega), cn_nI (by omega), p29.1, tw_lt (by omega), e0]; exact ⟨rfl, hX.re k29.S hn0 w3 had (by unfold wh; rw [up2_row (by decide)]) (by rw [up2_row (by decide), upd_id (by rw [← e0]; exact w4.symm)]) (by rw [up2, up1_s]) (up2_row (by decide)) (up2_row (by decide)), Ext.one had, hD, RB.rh (hB.mono (by omega)) (fun w9 z => by cases z; omega)⟩) | (rw [op_set, if_pos (by rw [← e0]; exact p2), if_pos hq, if_pos hv, cn_nI (by omega), cn_nI (by omega), p29.1, tw_lt (by omega), e0]; exact ⟨rfl, hX.S k29.S (hq_r hQ (by decide) (by decide) (by decide) (by decide) (by decide)), Ext.rf, hD, hB⟩)
        · refine x_pO hC hK hP (x_rPO hK hP w1 w2 w5 rfl) (cX8_kind_2 hn w1 w2 w5) cov_X0_213_X8 rfl rfl hl.1 (Nat.le_of_ble_eq_true rfl) dX0_set_116 (rk (by decide) (by decide)) ⟨by decide, by decide⟩ (fun r116 p116 => ?_)
          refine lv_iload_n hx hb dX0_set_119 rfl (hl.at rfl) ?_
          refine lv_iload_n hx hb dX0_set_120 rfl (hl.at rfl) ?_
          refine x_gS hC hK ⟨hP, Nat.le_trans hz hS.1⟩ hS (cX0_made_ hn hD hB hAz hr hr2 p116 (by decide)) (fun _ h => h) cs_X0_251 rfl rfl hl.1 (Nat.le_of_ble_eq_true rfl) dX0_set_121 (rk (by decide) (by decide)) ⟨by decide, by decide⟩ (fun ad1 a121 H locs p121 hP hS => ?_)
          obtain ⟨rfl, hP⟩ := hP
          obtain ⟨had, hD⟩ := p121
          have hn0 := hn
          have hn : 81 ≤ n + 1 := by omega
          rw [← had 0 (by omega)] at hl
          rw [← had (3 + 22 * r.1 + 14 + k) (by omega)]
          refine c_putN (ty := .object "java/lang/Object") hC hK hP hD hS (3 + 22 * r.1 + 14 + k) (by omega) (wo_sl hr (hk8)) rfl in_X2 tyX2_ok nmX2 0 (by decide) q136 rfl rfl (by decide +kernel) (rf_n (some n)) (rf_f (some n)) (by show 0 < 1; decide) (c_wL (w := some n) hr (hk8) hn) dX0_set_124 (fun H locs hP hS => ?_)
          replace hP := XW.gh hP hr (S := up2 (T 0) 6 k (nI vk)) (fun j _ => by rw [g0, up2_row (by decide)]) (fun q z0 z1 z2 z3 z4 z5 => by rw [g0]; exact up2_row (by omega))
          refine lv_goto (tgt := 182) hx hb dX0_set_127 rfl ?_
          try rw [up3_uS, g0] at hP
          refine lv_iload hx hb dX0_set_182 (hl.at rfl) ?_
          refine W.widen (k := 1) (n := 2) (by decide) (by decide) ?_
          refine hret _ _ ls _ _ (_, _, _, _, _, _) hP hS dX0_set_184 ?_
          dsimp only
          first | (rw [op_set_er (fun z => p2 (by rw [e0]; exact z.1))]; exact ⟨(hX.e p22 (by decide)).1, (hX.e p22 (by decide)).2, Ext.rf, hD, hB⟩) | (rw [op_set_er (fun z => mo_out p11 p14 z.2)]; exact ⟨(hX.e p22 (by decide)).1, (hX.e p22 (by decide)).2, Ext.rf, hD, hB⟩) | (rw [op_set, if_pos (by rw [← e0]; exact p2), if_pos hq, if_pos hv, cn_nI (by omega), cn_nI (by omega), p29.1, tw_lt (by omega), e0]; exact ⟨rfl, hX.re k29.S hn0 (by omega) had (by unfold wh; rw [up2_row (by decide)]) (by rw [up2, up1_s]) (by rw [up2_row (by decide), upd_id (by rw [← e0])]) (up2_row (by decide)) (up2_row (by decide)), Ext.one had, hD, RB.rh (hB.mono (by omega)) (fun w9 z => by cases z; omega)⟩) | (rw [op_set, if_pos (by rw [← e0]; exact p2), if_pos hq, if_pos hv, cn_nI (by omega), cn_nI (by omega), p29.1, tw_lt (by omega), e0]; exact ⟨rfl, hX.re k29.S hn0 w3 had (by unfold wh; rw [up2_row (by decide)]) (by rw [up2_row (by decide), upd_id (by rw [← e0]; exact w4.symm)]) (by rw [up2, up1_s]) (up2_row (by decide)) (up2_row (by decide)), Ext.one had, hD, RB.rh (hB.mono (by omega)) (fun w9 z => by cases z; omega)⟩) | (rw [op_set, if_pos (by rw [← e0]; exact p2), if_pos hq, if_pos hv, cn_nI (by omega), cn_nI (by omega), p29.1, tw_lt (by omega), e0]; exact ⟨rfl, hX.S k29.S (hq_r hQ (by decide) (by decide) (by decide) (by decide) (by decide)), Ext.rf, hD, hB⟩)
        · refine x_pO hC hK hP (x_rPO hK hP w1 w2 w5 rfl) (cX9_kind_3 hn w1 w2 w5) cov_X0_213_X9 rfl rfl hl.1 (Nat.le_of_ble_eq_true rfl) dX0_set_116 (rk (by decide) (by decide)) ⟨by decide, by decide⟩ (fun r116 p116 => ?_)
          refine lv_iload_n hx hb dX0_set_119 rfl (hl.at rfl) ?_
          refine lv_iload_n hx hb dX0_set_120 rfl (hl.at rfl) ?_
          refine x_gS hC hK ⟨hP, Nat.le_trans hz hS.1⟩ hS (cX0_made_ hn hD hB hAz hr hr2 p116 (by decide)) (fun _ h => h) cs_X0_251 rfl rfl hl.1 (Nat.le_of_ble_eq_true rfl) dX0_set_121 (rk (by decide) (by decide)) ⟨by decide, by decide⟩ (fun ad1 a121 H locs p121 hP hS => ?_)
          obtain ⟨rfl, hP⟩ := hP
          obtain ⟨had, hD⟩ := p121
          have hn0 := hn
          have hn : 81 ≤ n + 1 := by omega
          rw [← had 0 (by omega)] at hl
          rw [← had (3 + 22 * r.1 + 14 + k) (by omega)]
          refine c_putN (ty := .object "java/lang/Object") hC hK hP hD hS (3 + 22 * r.1 + 14 + k) (by omega) (wo_sl hr (hk8)) rfl in_X2 tyX2_ok nmX2 0 (by decide) q136 rfl rfl (by decide +kernel) (rf_n (some n)) (rf_f (some n)) (by show 0 < 1; decide) (c_wL (w := some n) hr (hk8) hn) dX0_set_124 (fun H locs hP hS => ?_)
          replace hP := XW.gh hP hr (S := up2 (T 0) 6 k (nI vk)) (fun j _ => by rw [g0, up2_row (by decide)]) (fun q z0 z1 z2 z3 z4 z5 => by rw [g0]; exact up2_row (by omega))
          refine lv_goto (tgt := 182) hx hb dX0_set_127 rfl ?_
          try rw [up3_uS, g0] at hP
          refine lv_iload hx hb dX0_set_182 (hl.at rfl) ?_
          refine W.widen (k := 1) (n := 2) (by decide) (by decide) ?_
          refine hret _ _ ls _ _ (_, _, _, _, _, _) hP hS dX0_set_184 ?_
          dsimp only
          first | (rw [op_set_er (fun z => p2 (by rw [e0]; exact z.1))]; exact ⟨(hX.e p22 (by decide)).1, (hX.e p22 (by decide)).2, Ext.rf, hD, hB⟩) | (rw [op_set_er (fun z => mo_out p11 p14 z.2)]; exact ⟨(hX.e p22 (by decide)).1, (hX.e p22 (by decide)).2, Ext.rf, hD, hB⟩) | (rw [op_set, if_pos (by rw [← e0]; exact p2), if_pos hq, if_pos hv, cn_nI (by omega), cn_nI (by omega), p29.1, tw_lt (by omega), e0]; exact ⟨rfl, hX.re k29.S hn0 (by omega) had (by unfold wh; rw [up2_row (by decide)]) (by rw [up2, up1_s]) (by rw [up2_row (by decide), upd_id (by rw [← e0])]) (up2_row (by decide)) (up2_row (by decide)), Ext.one had, hD, RB.rh (hB.mono (by omega)) (fun w9 z => by cases z; omega)⟩) | (rw [op_set, if_pos (by rw [← e0]; exact p2), if_pos hq, if_pos hv, cn_nI (by omega), cn_nI (by omega), p29.1, tw_lt (by omega), e0]; exact ⟨rfl, hX.re k29.S hn0 w3 had (by unfold wh; rw [up2_row (by decide)]) (by rw [up2_row (by decide), upd_id (by rw [← e0]; exact w4.symm)]) (by rw [up2, up1_s]) (up2_row (by decide)) (up2_row (by decide)), Ext.one had, hD, RB.rh (hB.mono (by omega)) (fun w9 z => by cases z; omega)⟩) | (rw [op_set, if_pos (by rw [← e0]; exact p2), if_pos hq, if_pos hv, cn_nI (by omega), cn_nI (by omega), p29.1, tw_lt (by omega), e0]; exact ⟨rfl, hX.S k29.S (hq_r hQ (by decide) (by decide) (by decide) (by decide) (by decide)), Ext.rf, hD, hB⟩)
        · refine x_pO hC hK hP (x_rPO hK hP w1 w2 w5 rfl) (cX10_kind_4 hn w1 w2 w5) cov_X0_213_X10 rfl rfl hl.1 (Nat.le_of_ble_eq_true rfl) dX0_set_116 (rk (by decide) (by decide)) ⟨by decide, by decide⟩ (fun r116 p116 => ?_)
          refine lv_iload_n hx hb dX0_set_119 rfl (hl.at rfl) ?_
          refine lv_iload_n hx hb dX0_set_120 rfl (hl.at rfl) ?_
          refine x_gS hC hK ⟨hP, Nat.le_trans hz hS.1⟩ hS (cX0_made_ hn hD hB hAz hr hr2 p116 (by decide)) (fun _ h => h) cs_X0_251 rfl rfl hl.1 (Nat.le_of_ble_eq_true rfl) dX0_set_121 (rk (by decide) (by decide)) ⟨by decide, by decide⟩ (fun ad1 a121 H locs p121 hP hS => ?_)
          obtain ⟨rfl, hP⟩ := hP
          obtain ⟨had, hD⟩ := p121
          have hn0 := hn
          have hn : 81 ≤ n + 1 := by omega
          rw [← had 0 (by omega)] at hl
          rw [← had (3 + 22 * r.1 + 14 + k) (by omega)]
          refine c_putN (ty := .object "java/lang/Object") hC hK hP hD hS (3 + 22 * r.1 + 14 + k) (by omega) (wo_sl hr (hk8)) rfl in_X2 tyX2_ok nmX2 0 (by decide) q136 rfl rfl (by decide +kernel) (rf_n (some n)) (rf_f (some n)) (by show 0 < 1; decide) (c_wL (w := some n) hr (hk8) hn) dX0_set_124 (fun H locs hP hS => ?_)
          replace hP := XW.gh hP hr (S := up2 (T 0) 6 k (nI vk)) (fun j _ => by rw [g0, up2_row (by decide)]) (fun q z0 z1 z2 z3 z4 z5 => by rw [g0]; exact up2_row (by omega))
          refine lv_goto (tgt := 182) hx hb dX0_set_127 rfl ?_
          try rw [up3_uS, g0] at hP
          refine lv_iload hx hb dX0_set_182 (hl.at rfl) ?_
          refine W.widen (k := 1) (n := 2) (by decide) (by decide) ?_
          refine hret _ _ ls _ _ (_, _, _, _, _, _) hP hS dX0_set_184 ?_
          dsimp only
          first | (rw [op_set_er (fun z => p2 (by rw [e0]; exact z.1))]; exact ⟨(hX.e p22 (by decide)).1, (hX.e p22 (by decide)).2, Ext.rf, hD, hB⟩) | (rw [op_set_er (fun z => mo_out p11 p14 z.2)]; exact ⟨(hX.e p22 (by decide)).1, (hX.e p22 (by decide)).2, Ext.rf, hD, hB⟩) | (rw [op_set, if_pos (by rw [← e0]; exact p2), if_pos hq, if_pos hv, cn_nI (by omega), cn_nI (by omega), p29.1, tw_lt (by omega), e0]; exact ⟨rfl, hX.re k29.S hn0 (by omega) had (by unfold wh; rw [up2_row (by decide)]) (by rw [up2, up1_s]) (by rw [up2_row (by decide), upd_id (by rw [← e0])]) (up2_row (by decide)) (up2_row (by decide)), Ext.one had, hD, RB.rh (hB.mono (by omega)) (fun w9 z => by cases z; omega)⟩) | (rw [op_set, if_pos (by rw [← e0]; exact p2), if_pos hq, if_pos hv, cn_nI (by omega), cn_nI (by omega), p29.1, tw_lt (by omega), e0]; exact ⟨rfl, hX.re k29.S hn0 w3 had (by unfold wh; rw [up2_row (by decide)]) (by rw [up2_row (by decide), upd_id (by rw [← e0]; exact w4.symm)]) (by rw [up2, up1_s]) (up2_row (by decide)) (up2_row (by decide)), Ext.one had, hD, RB.rh (hB.mono (by omega)) (fun w9 z => by cases z; omega)⟩) | (rw [op_set, if_pos (by rw [← e0]; exact p2), if_pos hq, if_pos hv, cn_nI (by omega), cn_nI (by omega), p29.1, tw_lt (by omega), e0]; exact ⟨rfl, hX.S k29.S (hq_r hQ (by decide) (by decide) (by decide) (by decide) (by decide)), Ext.rf, hD, hB⟩)
        · refine x_pO hC hK hP (x_rPO hK hP w1 w2 w5 rfl) (cX11_kind_5 hn w1 w2 w5) cov_X0_213_X11 rfl rfl hl.1 (Nat.le_of_ble_eq_true rfl) dX0_set_116 (rk (by decide) (by decide)) ⟨by decide, by decide⟩ (fun r116 p116 => ?_)
          refine lv_iload_n hx hb dX0_set_119 rfl (hl.at rfl) ?_
          refine lv_iload_n hx hb dX0_set_120 rfl (hl.at rfl) ?_
          refine x_gS hC hK ⟨hP, Nat.le_trans hz hS.1⟩ hS (cX0_made_ hn hD hB hAz hr hr2 p116 (by decide)) (fun _ h => h) cs_X0_251 rfl rfl hl.1 (Nat.le_of_ble_eq_true rfl) dX0_set_121 (rk (by decide) (by decide)) ⟨by decide, by decide⟩ (fun ad1 a121 H locs p121 hP hS => ?_)
          obtain ⟨rfl, hP⟩ := hP
          obtain ⟨had, hD⟩ := p121
          have hn0 := hn
          have hn : 81 ≤ n + 1 := by omega
          rw [← had 0 (by omega)] at hl
          rw [← had (3 + 22 * r.1 + 14 + k) (by omega)]
          refine c_putN (ty := .object "java/lang/Object") hC hK hP hD hS (3 + 22 * r.1 + 14 + k) (by omega) (wo_sl hr (hk8)) rfl in_X2 tyX2_ok nmX2 0 (by decide) q136 rfl rfl (by decide +kernel) (rf_n (some n)) (rf_f (some n)) (by show 0 < 1; decide) (c_wL (w := some n) hr (hk8) hn) dX0_set_124 (fun H locs hP hS => ?_)
          replace hP := XW.gh hP hr (S := up2 (T 0) 6 k (nI vk)) (fun j _ => by rw [g0, up2_row (by decide)]) (fun q z0 z1 z2 z3 z4 z5 => by rw [g0]; exact up2_row (by omega))
          refine lv_goto (tgt := 182) hx hb dX0_set_127 rfl ?_
          try rw [up3_uS, g0] at hP
          refine lv_iload hx hb dX0_set_182 (hl.at rfl) ?_
          refine W.widen (k := 1) (n := 2) (by decide) (by decide) ?_
          refine hret _ _ ls _ _ (_, _, _, _, _, _) hP hS dX0_set_184 ?_
          dsimp only
          first | (rw [op_set_er (fun z => p2 (by rw [e0]; exact z.1))]; exact ⟨(hX.e p22 (by decide)).1, (hX.e p22 (by decide)).2, Ext.rf, hD, hB⟩) | (rw [op_set_er (fun z => mo_out p11 p14 z.2)]; exact ⟨(hX.e p22 (by decide)).1, (hX.e p22 (by decide)).2, Ext.rf, hD, hB⟩) | (rw [op_set, if_pos (by rw [← e0]; exact p2), if_pos hq, if_pos hv, cn_nI (by omega), cn_nI (by omega), p29.1, tw_lt (by omega), e0]; exact ⟨rfl, hX.re k29.S hn0 (by omega) had (by unfold wh; rw [up2_row (by decide)]) (by rw [up2, up1_s]) (by rw [up2_row (by decide), upd_id (by rw [← e0])]) (up2_row (by decide)) (up2_row (by decide)), Ext.one had, hD, RB.rh (hB.mono (by omega)) (fun w9 z => by cases z; omega)⟩) | (rw [op_set, if_pos (by rw [← e0]; exact p2), if_pos hq, if_pos hv, cn_nI (by omega), cn_nI (by omega), p29.1, tw_lt (by omega), e0]; exact ⟨rfl, hX.re k29.S hn0 w3 had (by unfold wh; rw [up2_row (by decide)]) (by rw [up2_row (by decide), upd_id (by rw [← e0]; exact w4.symm)]) (by rw [up2, up1_s]) (up2_row (by decide)) (up2_row (by decide)), Ext.one had, hD, RB.rh (hB.mono (by omega)) (fun w9 z => by cases z; omega)⟩) | (rw [op_set, if_pos (by rw [← e0]; exact p2), if_pos hq, if_pos hv, cn_nI (by omega), cn_nI (by omega), p29.1, tw_lt (by omega), e0]; exact ⟨rfl, hX.S k29.S (hq_r hQ (by decide) (by decide) (by decide) (by decide) (by decide)), Ext.rf, hD, hB⟩)
        · refine x_pO hC hK hP (x_rPO hK hP w1 w2 w5 rfl) (cX12_kind_6 hn w1 w2 w5) cov_X0_213_X12 rfl rfl hl.1 (Nat.le_of_ble_eq_true rfl) dX0_set_116 (rk (by decide) (by decide)) ⟨by decide, by decide⟩ (fun r116 p116 => ?_)
          refine lv_iload_n hx hb dX0_set_119 rfl (hl.at rfl) ?_
          refine lv_iload_n hx hb dX0_set_120 rfl (hl.at rfl) ?_
          refine x_gS hC hK ⟨hP, Nat.le_trans hz hS.1⟩ hS (cX0_made_ hn hD hB hAz hr hr2 p116 (by decide)) (fun _ h => h) cs_X0_251 rfl rfl hl.1 (Nat.le_of_ble_eq_true rfl) dX0_set_121 (rk (by decide) (by decide)) ⟨by decide, by decide⟩ (fun ad1 a121 H locs p121 hP hS => ?_)
          obtain ⟨rfl, hP⟩ := hP
          obtain ⟨had, hD⟩ := p121
          have hn0 := hn
          have hn : 81 ≤ n + 1 := by omega
          rw [← had 0 (by omega)] at hl
          rw [← had (3 + 22 * r.1 + 14 + k) (by omega)]
          refine c_putN (ty := .object "java/lang/Object") hC hK hP hD hS (3 + 22 * r.1 + 14 + k) (by omega) (wo_sl hr (hk8)) rfl in_X2 tyX2_ok nmX2 0 (by decide) q136 rfl rfl (by decide +kernel) (rf_n (some n)) (rf_f (some n)) (by show 0 < 1; decide) (c_wL (w := some n) hr (hk8) hn) dX0_set_124 (fun H locs hP hS => ?_)
          replace hP := XW.gh hP hr (S := up2 (T 0) 6 k (nI vk)) (fun j _ => by rw [g0, up2_row (by decide)]) (fun q z0 z1 z2 z3 z4 z5 => by rw [g0]; exact up2_row (by omega))
          refine lv_goto (tgt := 182) hx hb dX0_set_127 rfl ?_
          try rw [up3_uS, g0] at hP
          refine lv_iload hx hb dX0_set_182 (hl.at rfl) ?_
          refine W.widen (k := 1) (n := 2) (by decide) (by decide) ?_
          refine hret _ _ ls _ _ (_, _, _, _, _, _) hP hS dX0_set_184 ?_
          dsimp only
          first | (rw [op_set_er (fun z => p2 (by rw [e0]; exact z.1))]; exact ⟨(hX.e p22 (by decide)).1, (hX.e p22 (by decide)).2, Ext.rf, hD, hB⟩) | (rw [op_set_er (fun z => mo_out p11 p14 z.2)]; exact ⟨(hX.e p22 (by decide)).1, (hX.e p22 (by decide)).2, Ext.rf, hD, hB⟩) | (rw [op_set, if_pos (by rw [← e0]; exact p2), if_pos hq, if_pos hv, cn_nI (by omega), cn_nI (by omega), p29.1, tw_lt (by omega), e0]; exact ⟨rfl, hX.re k29.S hn0 (by omega) had (by unfold wh; rw [up2_row (by decide)]) (by rw [up2, up1_s]) (by rw [up2_row (by decide), upd_id (by rw [← e0])]) (up2_row (by decide)) (up2_row (by decide)), Ext.one had, hD, RB.rh (hB.mono (by omega)) (fun w9 z => by cases z; omega)⟩) | (rw [op_set, if_pos (by rw [← e0]; exact p2), if_pos hq, if_pos hv, cn_nI (by omega), cn_nI (by omega), p29.1, tw_lt (by omega), e0]; exact ⟨rfl, hX.re k29.S hn0 w3 had (by unfold wh; rw [up2_row (by decide)]) (by rw [up2_row (by decide), upd_id (by rw [← e0]; exact w4.symm)]) (by rw [up2, up1_s]) (up2_row (by decide)) (up2_row (by decide)), Ext.one had, hD, RB.rh (hB.mono (by omega)) (fun w9 z => by cases z; omega)⟩) | (rw [op_set, if_pos (by rw [← e0]; exact p2), if_pos hq, if_pos hv, cn_nI (by omega), cn_nI (by omega), p29.1, tw_lt (by omega), e0]; exact ⟨rfl, hX.S k29.S (hq_r hQ (by decide) (by decide) (by decide) (by decide) (by decide)), Ext.rf, hD, hB⟩)
      · obtain ⟨vk, hv11, rfl, -⟩ := most_bd (by decide) hv
        refine lv_tableIn (tgt := 130) hx hb dX0_set_45 (by decide) (by decide) rfl rfl ?_
        refine lv_aload_n hx hb dX0_set_130 rfl (hl.at rfl) ?_
        refine c_get hC hK hP 0 (by omega) (wo_wb) rfl in_X0 2 (by decide) q254 rfl rfl dX0_set_131 ?_
        refine c_getN hC hK hP (3 + 22 * r.1) (by omega) (wo_ho hr) rfl in_X1 11 (by decide) q167 rfl rfl dX0_set_134 ?_
        refine lv_iload_n hx hb dX0_set_137 rfl (hl.at rfl) ?_
        refine lv_iload_n hx hb dX0_set_138 rfl (hl.at rfl) ?_
        refine lv_i2b hx hb dX0_set_139 (nB_nI (by omega)) ?_
        refine c_stb hC hK hP hD hS (3 + 22 * r.1 + 6) (by omega) (c_ldH r.1 6 7 1 8 hr (by decide) (fun _ _ _ => rfl)) _ (nB_nI (by omega)) _ (rfl) (show _ < 8 by omega) (by decide) (c_wH r.1 6 7 1 8 hr hn (by decide) rfl (fun _ _ _ => rfl)) dX0_set_140 (fun H locs hP hS => ?_)
        refine lv_goto (tgt := 182) hx hb dX0_set_141 rfl ?_
        try rw [up3_uS, g0] at hP
        refine lv_iload hx hb dX0_set_182 (hl.at rfl) ?_
        refine W.widen (k := 1) (n := 2) (by decide) (by decide) ?_
        refine hret _ _ ls _ _ (_, _, _, _, _, _) hP hS dX0_set_184 ?_
        dsimp only
        first | (rw [op_set_er (fun z => p2 (by rw [e0]; exact z.1))]; exact ⟨(hX.e p22 (by decide)).1, (hX.e p22 (by decide)).2, Ext.rf, hD, hB⟩) | (rw [op_set_er (fun z => mo_out p11 p14 z.2)]; exact ⟨(hX.e p22 (by decide)).1, (hX.e p22 (by decide)).2, Ext.rf, hD, hB⟩) | (rw [op_set, if_pos (by rw [← e0]; exact p2), if_pos hq, if_pos hv, cn_nI (by omega), cn_nI (by omega), p29.1, tw_lt (by omega), e0]; exact ⟨rfl, hX.re k29.S hn0 (by omega) had (by unfold wh; rw [up2_row (by decide)]) (by rw [up2, up1_s]) (by rw [up2_row (by decide), upd_id (by rw [← e0])]) (up2_row (by decide)) (up2_row (by decide)), Ext.one had, hD, RB.rh (hB.mono (by omega)) (fun w9 z => by cases z; omega)⟩) | (rw [op_set, if_pos (by rw [← e0]; exact p2), if_pos hq, if_pos hv, cn_nI (by omega), cn_nI (by omega), p29.1, tw_lt (by omega), e0]; exact ⟨rfl, hX.re k29.S hn0 w3 had (by unfold wh; rw [up2_row (by decide)]) (by rw [up2_row (by decide), upd_id (by rw [← e0]; exact w4.symm)]) (by rw [up2, up1_s]) (up2_row (by decide)) (up2_row (by decide)), Ext.one had, hD, RB.rh (hB.mono (by omega)) (fun w9 z => by cases z; omega)⟩) | (rw [op_set, if_pos (by rw [← e0]; exact p2), if_pos hq, if_pos hv, cn_nI (by omega), cn_nI (by omega), p29.1, tw_lt (by omega), e0]; exact ⟨rfl, hX.S k29.S (hq_r hQ (by decide) (by decide) (by decide) (by decide) (by decide)), Ext.rf, hD, hB⟩)
      · obtain ⟨vk, hv11, rfl, -⟩ := most_bd (by decide) hv
        refine lv_tableIn (tgt := 144) hx hb dX0_set_45 (by decide) (by decide) rfl rfl ?_
        refine lv_aload_n hx hb dX0_set_144 rfl (hl.at rfl) ?_
        refine c_get hC hK hP 0 (by omega) (wo_wb) rfl in_X0 2 (by decide) q254 rfl rfl dX0_set_145 ?_
        refine c_getN hC hK hP (3 + 22 * r.1) (by omega) (wo_ho hr) rfl in_X1 12 (by decide) q169 rfl rfl dX0_set_148 ?_
        refine lv_iload_n hx hb dX0_set_151 rfl (hl.at rfl) ?_
        refine lv_iload_n hx hb dX0_set_152 rfl (hl.at rfl) ?_
        refine lv_i2b hx hb dX0_set_153 (nB_nI (by omega)) ?_
        refine c_stb hC hK hP hD hS (3 + 22 * r.1 + 7) (by omega) (c_ldH r.1 7 8 1 8 hr (by decide) (fun _ _ _ => rfl)) _ (nB_nI (by omega)) _ (rfl) (show _ < 8 by omega) (by decide) (c_wH r.1 7 8 1 8 hr hn (by decide) rfl (fun _ _ _ => rfl)) dX0_set_154 (fun H locs hP hS => ?_)
        refine lv_goto (tgt := 182) hx hb dX0_set_155 rfl ?_
        try rw [up3_uS, g0] at hP
        refine lv_iload hx hb dX0_set_182 (hl.at rfl) ?_
        refine W.widen (k := 1) (n := 2) (by decide) (by decide) ?_
        refine hret _ _ ls _ _ (_, _, _, _, _, _) hP hS dX0_set_184 ?_
        dsimp only
        first | (rw [op_set_er (fun z => p2 (by rw [e0]; exact z.1))]; exact ⟨(hX.e p22 (by decide)).1, (hX.e p22 (by decide)).2, Ext.rf, hD, hB⟩) | (rw [op_set_er (fun z => mo_out p11 p14 z.2)]; exact ⟨(hX.e p22 (by decide)).1, (hX.e p22 (by decide)).2, Ext.rf, hD, hB⟩) | (rw [op_set, if_pos (by rw [← e0]; exact p2), if_pos hq, if_pos hv, cn_nI (by omega), cn_nI (by omega), p29.1, tw_lt (by omega), e0]; exact ⟨rfl, hX.re k29.S hn0 (by omega) had (by unfold wh; rw [up2_row (by decide)]) (by rw [up2, up1_s]) (by rw [up2_row (by decide), upd_id (by rw [← e0])]) (up2_row (by decide)) (up2_row (by decide)), Ext.one had, hD, RB.rh (hB.mono (by omega)) (fun w9 z => by cases z; omega)⟩) | (rw [op_set, if_pos (by rw [← e0]; exact p2), if_pos hq, if_pos hv, cn_nI (by omega), cn_nI (by omega), p29.1, tw_lt (by omega), e0]; exact ⟨rfl, hX.re k29.S hn0 w3 had (by unfold wh; rw [up2_row (by decide)]) (by rw [up2_row (by decide), upd_id (by rw [← e0]; exact w4.symm)]) (by rw [up2, up1_s]) (up2_row (by decide)) (up2_row (by decide)), Ext.one had, hD, RB.rh (hB.mono (by omega)) (fun w9 z => by cases z; omega)⟩) | (rw [op_set, if_pos (by rw [← e0]; exact p2), if_pos hq, if_pos hv, cn_nI (by omega), cn_nI (by omega), p29.1, tw_lt (by omega), e0]; exact ⟨rfl, hX.S k29.S (hq_r hQ (by decide) (by decide) (by decide) (by decide) (by decide)), Ext.rf, hD, hB⟩)
      · obtain ⟨vk, hv11, rfl, -⟩ := most_bd (by decide) hv
        refine lv_tableIn (tgt := 158) hx hb dX0_set_45 (by decide) (by decide) rfl rfl ?_
        refine lv_aload_n hx hb dX0_set_158 rfl (hl.at rfl) ?_
        refine c_get hC hK hP 0 (by omega) (wo_wb) rfl in_X0 2 (by decide) q254 rfl rfl dX0_set_159 ?_
        refine c_getN hC hK hP (3 + 22 * r.1) (by omega) (wo_ho hr) rfl in_X1 13 (by decide) q171 rfl rfl dX0_set_162 ?_
        refine lv_iload_n hx hb dX0_set_165 rfl (hl.at rfl) ?_
        refine lv_iload_n hx hb dX0_set_166 rfl (hl.at rfl) ?_
        refine lv_i2b hx hb dX0_set_167 (nB_nI (by omega)) ?_
        refine c_stb hC hK hP hD hS (3 + 22 * r.1 + 8) (by omega) (c_ldH r.1 8 9 1 8 hr (by decide) (fun _ _ _ => rfl)) _ (nB_nI (by omega)) _ (rfl) (show _ < 8 by omega) (by decide) (c_wH r.1 8 9 1 8 hr hn (by decide) rfl (fun _ _ _ => rfl)) dX0_set_168 (fun H locs hP hS => ?_)
        refine lv_goto (tgt := 182) hx hb dX0_set_169 rfl ?_
        try rw [up3_uS, g0] at hP
        refine lv_iload hx hb dX0_set_182 (hl.at rfl) ?_
        refine W.widen (k := 1) (n := 2) (by decide) (by decide) ?_
        refine hret _ _ ls _ _ (_, _, _, _, _, _) hP hS dX0_set_184 ?_
        dsimp only
        first | (rw [op_set_er (fun z => p2 (by rw [e0]; exact z.1))]; exact ⟨(hX.e p22 (by decide)).1, (hX.e p22 (by decide)).2, Ext.rf, hD, hB⟩) | (rw [op_set_er (fun z => mo_out p11 p14 z.2)]; exact ⟨(hX.e p22 (by decide)).1, (hX.e p22 (by decide)).2, Ext.rf, hD, hB⟩) | (rw [op_set, if_pos (by rw [← e0]; exact p2), if_pos hq, if_pos hv, cn_nI (by omega), cn_nI (by omega), p29.1, tw_lt (by omega), e0]; exact ⟨rfl, hX.re k29.S hn0 (by omega) had (by unfold wh; rw [up2_row (by decide)]) (by rw [up2, up1_s]) (by rw [up2_row (by decide), upd_id (by rw [← e0])]) (up2_row (by decide)) (up2_row (by decide)), Ext.one had, hD, RB.rh (hB.mono (by omega)) (fun w9 z => by cases z; omega)⟩) | (rw [op_set, if_pos (by rw [← e0]; exact p2), if_pos hq, if_pos hv, cn_nI (by omega), cn_nI (by omega), p29.1, tw_lt (by omega), e0]; exact ⟨rfl, hX.re k29.S hn0 w3 had (by unfold wh; rw [up2_row (by decide)]) (by rw [up2_row (by decide), upd_id (by rw [← e0]; exact w4.symm)]) (by rw [up2, up1_s]) (up2_row (by decide)) (up2_row (by decide)), Ext.one had, hD, RB.rh (hB.mono (by omega)) (fun w9 z => by cases z; omega)⟩) | (rw [op_set, if_pos (by rw [← e0]; exact p2), if_pos hq, if_pos hv, cn_nI (by omega), cn_nI (by omega), p29.1, tw_lt (by omega), e0]; exact ⟨rfl, hX.S k29.S (hq_r hQ (by decide) (by decide) (by decide) (by decide) (by decide)), Ext.rf, hD, hB⟩)
      · refine lv_tableOut (tgt := 172) hx hb dX0_set_45 (by decide) rfl ?_
        refine lv_aload_n hx hb dX0_set_172 rfl (hl.at rfl) ?_
        refine c_get hC hK hP 0 (by omega) (wo_wb) rfl in_X0 2 (by decide) q254 rfl rfl dX0_set_173 ?_
        refine c_getN hC hK hP (3 + 22 * r.1) (by omega) (wo_ho hr) rfl in_X1 14 (by decide) q174 rfl rfl dX0_set_176 ?_
        refine lv_iload_n hx hb dX0_set_179 rfl (hl.at rfl) ?_
        refine lv_iload_n hx hb dX0_set_180 rfl (hl.at rfl) ?_
        refine c_sti hC hK hP hD hS (3 + 22 * r.1 + 9) (by omega) (c_ldH r.1 9 10 0 8 hr (by decide) (fun _ _ _ => rfl)) _ (rfl) (show _ < 8 by omega) (by decide) (c_wH r.1 9 10 0 8 hr hn (by decide) rfl (fun _ _ _ => rfl)) dX0_set_181 (fun H locs hP hS => ?_)
        try rw [up3_uS, g0] at hP
        refine lv_iload hx hb dX0_set_182 (hl.at rfl) ?_
        refine W.widen (k := 1) (n := 2) (by decide) (by decide) ?_
        refine hret _ _ ls _ _ (_, _, _, _, _, _) hP hS dX0_set_184 ?_
        dsimp only
        first | (rw [op_set_er (fun z => p2 (by rw [e0]; exact z.1))]; exact ⟨(hX.e p22 (by decide)).1, (hX.e p22 (by decide)).2, Ext.rf, hD, hB⟩) | (rw [op_set_er (fun z => mo_out p11 p14 z.2)]; exact ⟨(hX.e p22 (by decide)).1, (hX.e p22 (by decide)).2, Ext.rf, hD, hB⟩) | (rw [op_set, if_pos (by rw [← e0]; exact p2), if_pos hq, if_pos hv, cn_nI (by omega), cn_nI (by omega), p29.1, tw_lt (by omega), e0]; exact ⟨rfl, hX.re k29.S hn0 (by omega) had (by unfold wh; rw [up2_row (by decide)]) (by rw [up2, up1_s]) (by rw [up2_row (by decide), upd_id (by rw [← e0])]) (up2_row (by decide)) (up2_row (by decide)), Ext.one had, hD, RB.rh (hB.mono (by omega)) (fun w9 z => by cases z; omega)⟩) | (rw [op_set, if_pos (by rw [← e0]; exact p2), if_pos hq, if_pos hv, cn_nI (by omega), cn_nI (by omega), p29.1, tw_lt (by omega), e0]; exact ⟨rfl, hX.re k29.S hn0 w3 had (by unfold wh; rw [up2_row (by decide)]) (by rw [up2_row (by decide), upd_id (by rw [← e0]; exact w4.symm)]) (by rw [up2, up1_s]) (up2_row (by decide)) (up2_row (by decide)), Ext.one had, hD, RB.rh (hB.mono (by omega)) (fun w9 z => by cases z; omega)⟩) | (rw [op_set, if_pos (by rw [← e0]; exact p2), if_pos hq, if_pos hv, cn_nI (by omega), cn_nI (by omega), p29.1, tw_lt (by omega), e0]; exact ⟨rfl, hX.S k29.S (hq_r hQ (by decide) (by decide) (by decide) (by decide) (by decide)), Ext.rf, hD, hB⟩)
    · refine l_ifne_0 hx hb 26 dX0_set_17 rfl ?_
      refine lv_aload_n hx hb dX0_set_20 rfl (hl.at rfl) ?_
      refine lv_iconst (v := nI 1) hx hb dX0_set_21 rfl ?_
      refine x_iV hC hK hP hS (x_rWB hK hP hn) (cX0_finds_ hn hD (k := 1) rfl (by decide)) cv_X0_173 rfl rfl hl.1 (Nat.le_of_ble_eq_true rfl) dX0_set_22 (rk (by decide) (by decide)) ⟨by decide, by decide⟩ (fun r22 U22 H locs p22 hP hS => ?_)
      refine W.widen (k := 1) (n := 2) (by decide) (by decide) ?_
      refine hret _ _ ls _ _ (_, _, _, _, _, _) hP hS dX0_set_25 ?_
      dsimp only
      first | (rw [op_set_er (fun z => p2 (by rw [e0]; exact z.1))]; exact ⟨(hX.e p22 (by decide)).1, (hX.e p22 (by decide)).2, Ext.rf, hD, hB⟩) | (rw [op_set_er (fun z => mo_out p11 p14 z.2)]; exact ⟨(hX.e p22 (by decide)).1, (hX.e p22 (by decide)).2, Ext.rf, hD, hB⟩) | (rw [op_set, if_pos (by rw [← e0]; exact p2), if_pos hq, if_pos hv, cn_nI (by omega), cn_nI (by omega), p29.1, tw_lt (by omega), e0]; exact ⟨rfl, hX.re k29.S hn0 (by omega) had (by unfold wh; rw [up2_row (by decide)]) (by rw [up2, up1_s]) (by rw [up2_row (by decide), upd_id (by rw [← e0])]) (up2_row (by decide)) (up2_row (by decide)), Ext.one had, hD, RB.rh (hB.mono (by omega)) (fun w9 z => by cases z; omega)⟩) | (rw [op_set, if_pos (by rw [← e0]; exact p2), if_pos hq, if_pos hv, cn_nI (by omega), cn_nI (by omega), p29.1, tw_lt (by omega), e0]; exact ⟨rfl, hX.re k29.S hn0 w3 had (by unfold wh; rw [up2_row (by decide)]) (by rw [up2_row (by decide), upd_id (by rw [← e0]; exact w4.symm)]) (by rw [up2, up1_s]) (up2_row (by decide)) (up2_row (by decide)), Ext.one had, hD, RB.rh (hB.mono (by omega)) (fun w9 z => by cases z; omega)⟩) | (rw [op_set, if_pos (by rw [← e0]; exact p2), if_pos hq, if_pos hv, cn_nI (by omega), cn_nI (by omega), p29.1, tw_lt (by omega), e0]; exact ⟨rfl, hX.S k29.S (hq_r hQ (by decide) (by decide) (by decide) (by decide) (by decide)), Ext.rf, hD, hB⟩)
  · refine l_ifeq_0 hx hb 20 dX0_set_5 rfl ?_
    refine lv_aload_n hx hb dX0_set_20 rfl (hl.at rfl) ?_
    refine lv_iconst (v := nI 1) hx hb dX0_set_21 rfl ?_
    refine x_iV hC hK hP hS (x_rWB hK hP hn) (cX0_finds_ hn hD (k := 1) rfl (by decide)) cv_X0_173 rfl rfl hl.1 (Nat.le_of_ble_eq_true rfl) dX0_set_22 (rk (by decide) (by decide)) ⟨by decide, by decide⟩ (fun r22 U22 H locs p22 hP hS => ?_)
    refine W.widen (k := 1) (n := 2) (by decide) (by decide) ?_
    refine hret _ _ ls _ _ (_, _, _, _, _, _) hP hS dX0_set_25 ?_
    dsimp only
    first | (rw [op_set_er (fun z => p2 (by rw [e0]; exact z.1))]; exact ⟨(hX.e p22 (by decide)).1, (hX.e p22 (by decide)).2, Ext.rf, hD, hB⟩) | (rw [op_set_er (fun z => mo_out p11 p14 z.2)]; exact ⟨(hX.e p22 (by decide)).1, (hX.e p22 (by decide)).2, Ext.rf, hD, hB⟩) | (rw [op_set, if_pos (by rw [← e0]; exact p2), if_pos hq, if_pos hv, cn_nI (by omega), cn_nI (by omega), p29.1, tw_lt (by omega), e0]; exact ⟨rfl, hX.re k29.S hn0 (by omega) had (by unfold wh; rw [up2_row (by decide)]) (by rw [up2, up1_s]) (by rw [up2_row (by decide), upd_id (by rw [← e0])]) (up2_row (by decide)) (up2_row (by decide)), Ext.one had, hD, RB.rh (hB.mono (by omega)) (fun w9 z => by cases z; omega)⟩) | (rw [op_set, if_pos (by rw [← e0]; exact p2), if_pos hq, if_pos hv, cn_nI (by omega), cn_nI (by omega), p29.1, tw_lt (by omega), e0]; exact ⟨rfl, hX.re k29.S hn0 w3 had (by unfold wh; rw [up2_row (by decide)]) (by rw [up2_row (by decide), upd_id (by rw [← e0]; exact w4.symm)]) (by rw [up2, up1_s]) (up2_row (by decide)) (up2_row (by decide)), Ext.one had, hD, RB.rh (hB.mono (by omega)) (fun w9 z => by cases z; omega)⟩) | (rw [op_set, if_pos (by rw [← e0]; exact p2), if_pos hq, if_pos hv, cn_nI (by omega), cn_nI (by omega), p29.1, tw_lt (by omega), e0]; exact ⟨rfl, hX.S k29.S (hq_r hQ (by decide) (by decide) (by decide) (by decide) (by decide)), Ext.rf, hD, hB⟩)
