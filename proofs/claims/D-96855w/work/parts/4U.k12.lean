theorem cv_X0_326 : CV RX0 RX1 326 yX1_areAllPaid cX1_areAllPaid 3 (some .boolean) 0 := ⟨lw_V q1022 q1023 q1024 q84 q1025, by decide +kernel⟩
theorem cX0_sluices_ {l : Launch} {D : va_G} {cA : Nat → ClassId} {ad : Nat → Nat} {n : Nat} {f0 : Nat → va_E} {ρ : Nat → Nat → Option Nat} {r : Nat × Nat} {U : Nat → Nat → Nat → Int32} (hn : 81 ≤ n) {A : Nat → Prop} (hD : gD A ad n) {x y : Int32} {T : Tta} (hX : CQ cA ad n f0 U ρ r T) (hI : Inv (T 0)) (hh : hrv (T 0) ≤ 9999) : XIq l D cA ad n f0 ρ r U A yX0_sluices cX0_sluices 8 (some .int) (9) [.ref (ad 0), .int x, .int y] (fun o V ρ1 r1 => o = (op_sluices x y T).1 ∧ CQ cA ad n f0 V ρ1 r1 (op_sluices x y T).2) := by
  refine Ci.of rfl (by decide +kernel) (Nat.le_of_ble_eq_true rfl) ?_
  intro p e s m args below meth c Q hC hK hP hret ls hl
  have hx := hC.1
  have hb := hC.2.1
  have hown := hC.2.2.2.1
  have hts := hC.2.2.2.2
  have hS : va_S A s.heap s.heap [] := va_S.rf
  have hT : CT U r T := hX.1
  have hQ : HQ cA ad f0 n ρ (T 0) r.1 := hX.2.1
  have hr2 : r.2 < 3 := hT.lt2
  have hne : r.1 ≠ r.2 := hT.1.2.2
  have hr23 : r.2 ≠ 3 := by omega
  have hr : r.1 < 3 := hT.lt
  have e0 : U r.1 = T 0 := hT.2.1
  have hI2 : Inv (U r.1) := by rw [e0]; exact hI
  have hQ2 : HQ cA ad f0 n ρ (U r.1) r.1 := by rw [e0]; exact hQ
  have hr3 : r.1 ≠ 3 := by omega
  obtain ⟨eN, h8⟩ := inv_wh hI2
  have eH : U r.1 0 1 = nI (hrv (T 0)) := by rw [e0]; exact (inv_hr hI).1
  have hH := (inv_hr hI).2
  rw [e0] at eN h8
  have hpw := pow8 h8
  refine lv_iload_n hx hb dX0_sluices_0 rfl (hl.at rfl) ?_
  refine lv_iconst (v := nI 1) hx hb dX0_sluices_1 rfl ?_
  refine lv_bipush (v := nI 6) hx hb dX0_sluices_2 rfl ?_
  refine x_sS hC (cX0_isIn_ ) cs_X0_122 rfl rfl hl.1 (Nat.le_of_ble_eq_true rfl) dX0_sluices_4 (rk (by decide) (by decide)) ⟨Nat.le_refl _, Nat.le_refl _⟩ (fun r4 p4 => ?_)
  rcases p4 with ⟨rfl, p4⟩ | ⟨rfl, p4⟩
  · obtain ⟨k, hk0, hk, rfl⟩ := in_nI1 p4
    refine l_ifeq_1 hx hb 19 dX0_sluices_7 rfl ?_
    refine lv_iload_n hx hb dX0_sluices_10 rfl (hl.at rfl) ?_
    refine lv_iconst (v := nI 0) hx hb dX0_sluices_11 rfl ?_
    refine lv_iconst (v := nI 1) hx hb dX0_sluices_12 rfl ?_
    refine x_sS hC (cX0_isIn_ ) cs_X0_122 rfl rfl hl.1 (Nat.le_of_ble_eq_true rfl) dX0_sluices_13 (rk (by decide) (by decide)) ⟨Nat.le_refl _, Nat.le_refl _⟩ (fun r13 p13 => ?_)
    rcases p13 with ⟨rfl, p13⟩ | ⟨rfl, p13⟩
    · refine l_ifne_1 hx hb 25 dX0_sluices_16 rfl ?_
      refine lv_iconst (v := -1) hx hb dX0_sluices_25 rfl ?_
      refine l_istore_n hx hb 3 dX0_sluices_26 rfl hl rfl (fun ls hl => ?_)
      refine lv_iconst (v := nI 0) hx hb dX0_sluices_27 rfl ?_
      refine l_istore hx hb 4 dX0_sluices_28 hl rfl (fun ls hl => ?_)
      refine lv_iconst (v := nI 0) hx hb dX0_sluices_30 rfl ?_
      refine l_istore hx hb 5 dX0_sluices_31 hl rfl (fun ls hl => ?_)
      have loop : ∀ (i x0 : Nat) (V : Tta) (ρ1 : Rho), x0 ≤ 2 ^ wh (T 0) → 2 ^ wh (T 0) + 1 ≤ x0 + i → CQ cA ad n f0 V ρ1 r T → ∀ (H : Heap) (locs : List Loc) (ls : Array Slot), XW D cA ad n f0 ρ1 r V H → va_S A s.heap H locs → lh ls [some (.ref (ad 0)), some (.int (nI k)), some (.int y), some (.int (sl_ (T 0) k x0).1), some (.int (sl_ (T 0) k x0).2), some (.int (nI x0)), none, none] → W p l e (rmG 9 0 0) s m args below meth c H locs 0 0 Q (F0 m 33 ls []) := by
        intro i
        induction i with
        | zero => intro x0 V ρ1 h1 h2; exact absurd h2 (by omega)
        | succ i ih =>
          intro x0 V ρ1 h1 h2 hX1 H locs ls hP hS hl
          have e0v : V r.1 = T 0 := hX1.1.2.1
          have hIv : Inv (V r.1) := by rw [e0v]; exact hI
          have hQv : HQ cA ad f0 n ρ1 (V r.1) r.1 := by rw [e0v]; exact hX1.2.1
          refine lv_iload hx hb dX0_sluices_33 (hl.at rfl) ?_
          refine lv_iconst (v := nI 1) hx hb dX0_sluices_35 rfl ?_
          refine lv_aload_n hx hb dX0_sluices_36 rfl (hl.at rfl) ?_
          refine c_get hC hK hP 0 (by omega) (wo_wb) rfl in_X0 2 (by decide) q254 rfl rfl dX0_sluices_37 ?_
          refine c_getN hC hK hP (3 + 22 * r.1) (by omega) (wo_ho hr) rfl in_X1 0 (by decide) q143 rfl rfl dX0_sluices_40 ?_
          refine l_top (nI (wh (T 0))) (by rw [e0v]; exact eN) ?_
          refine lv_ishl hx hb dX0_sluices_43 ?_
          refine l_top (nI (2 ^ wh (T 0))) (shl1 h8) ?_
          refine l_geN hx hb 110 dX0_sluices_44 rfl (by omega) (by omega) (fun c44 => ?_) (fun c44 => ?_)
          · have e5 : x0 = 2 ^ wh (T 0) := by omega
            refine lv_iload_n hx hb dX0_sluices_110 rfl (hl.at rfl) ?_
            refine lv_iconst (v := -1) hx hb dX0_sluices_111 rfl ?_
            refine lv_icmp_ne (tgt := 121) hx hb dX0_sluices_112 rfl (fun c112 => ?_) (fun c112 => ?_)
            · refine lv_iload_n hx hb dX0_sluices_121 rfl (hl.at rfl) ?_
              refine lv_if_ne (tgt := 129) hx hb dX0_sluices_122 rfl (fun c122 => ?_) (fun c122 => ?_)
              · refine lv_iload hx hb dX0_sluices_129 (hl.at rfl) ?_
                refine hret _ _ ls _ _ (_, _, _) hP hS dX0_sluices_131 ?_
                dsimp only
                first | (rw [op_sluices, if_neg p4]; exact hX.e p21 (by decide)) | (rw [op_sluices, if_pos p4, if_neg p13]; exact hX.e p21 (by decide)) | (rw [op_sluices, if_pos p4, if_pos p13, cn_nI (by omega), ← e5, if_pos c112]; exact hX1.e p117 (by decide)) | (rw [op_sluices, if_pos p4, if_pos p13, cn_nI (by omega), ← e5, if_neg c112, if_pos c122]; exact ⟨rfl, hX1⟩) | (rw [op_sluices, if_pos p4, if_pos p13, cn_nI (by omega), ← e5, if_neg c112, if_neg c122]; exact ⟨rfl, hX1⟩)
              · refine lv_iload_n hx hb dX0_sluices_125 rfl (hl.at rfl) ?_
                refine lv_goto (tgt := 131) hx hb dX0_sluices_126 rfl ?_
                refine hret _ _ ls _ _ (_, _, _) hP hS dX0_sluices_131 ?_
                dsimp only
                first | (rw [op_sluices, if_neg p4]; exact hX.e p21 (by decide)) | (rw [op_sluices, if_pos p4, if_neg p13]; exact hX.e p21 (by decide)) | (rw [op_sluices, if_pos p4, if_pos p13, cn_nI (by omega), ← e5, if_pos c112]; exact hX1.e p117 (by decide)) | (rw [op_sluices, if_pos p4, if_pos p13, cn_nI (by omega), ← e5, if_neg c112, if_pos c122]; exact ⟨rfl, hX1⟩) | (rw [op_sluices, if_pos p4, if_pos p13, cn_nI (by omega), ← e5, if_neg c112, if_neg c122]; exact ⟨rfl, hX1⟩)
            · refine lv_aload_n hx hb dX0_sluices_115 rfl (hl.at rfl) ?_
              refine lv_iconst (v := nI 2) hx hb dX0_sluices_116 rfl ?_
              refine x_iV hC hK hP hS (x_rWB hK hP hn) (cX0_finds_ hn hD (k := 2) rfl (by decide)) cv_X0_173 rfl rfl hl.1 (Nat.le_of_ble_eq_true rfl) dX0_sluices_117 (rk (by decide) (by decide)) ⟨Nat.le_refl _, Nat.le_refl _⟩ (fun r117 U117 H locs p117 hP hS => ?_)
              refine hret _ _ ls _ _ (_, _, _) hP hS dX0_sluices_120 ?_
              dsimp only
              first | (rw [op_sluices, if_neg p4]; exact hX.e p21 (by decide)) | (rw [op_sluices, if_pos p4, if_neg p13]; exact hX.e p21 (by decide)) | (rw [op_sluices, if_pos p4, if_pos p13, cn_nI (by omega), ← e5, if_pos c112]; exact hX1.e p117 (by decide)) | (rw [op_sluices, if_pos p4, if_pos p13, cn_nI (by omega), ← e5, if_neg c112, if_pos c122]; exact ⟨rfl, hX1⟩) | (rw [op_sluices, if_pos p4, if_pos p13, cn_nI (by omega), ← e5, if_neg c112, if_neg c122]; exact ⟨rfl, hX1⟩)
          · refine lv_aload_n hx hb dX0_sluices_47 rfl (hl.at rfl) ?_
            refine x_vVq hC hK hP hS (x_rWB hK hP hn) (cX0_begins_ hn hD hr hr2 hne hIv hQv) cv_X0_319 rfl rfl hl.1 (Nat.le_of_ble_eq_true rfl) dX0_sluices_48 (rk (by decide) (by decide)) ⟨Nat.le_refl _, Nat.le_refl _⟩ (fun U48 ρ48 q48 H locs p48 hP hS => ?_)
            obtain ⟨rfl, rfl, rfl⟩ := p48
            have g0 : uS V r.2 (V r.1) r.2 = T 0 := by rw [uS_s, e0v]
            have hQ1 : HQ cA ad f0 n (bρ ρ1 r.2 r.1) (T 0) r.2 := hq_bec hX1.2.1
            refine lv_aload_n hx hb dX0_sluices_51 rfl (hl.at rfl) ?_
            refine lv_iload hx hb dX0_sluices_52 (hl.at rfl) ?_
            refine x_vV hC hK hP hS (x_rWB hK hP hn) (cX0_opens_ hn hD hr2 (by show Inv (uS V r.2 (V r.1) r.2); rw [g0]; exact hI)) cv_X0_322 rfl rfl hl.1 (Nat.le_of_ble_eq_true rfl) dX0_sluices_54 (rk (by decide) (by decide)) ⟨Nat.le_refl _, Nat.le_refl _⟩ (fun U54 H locs p54 hP hS => ?_)
            subst p54
            have g1 : uS (uS V r.2 (V r.1)) r.2 (sp_op (uS V r.2 (V r.1) r.2) (nI x0)) r.2 = sp_op (T 0) (nI x0) := by rw [uS_s, g0]
            obtain ⟨o1, o2, o3⟩ := op_inv hI (nI x0)
            refine lv_aload_n hx hb dX0_sluices_57 rfl (hl.at rfl) ?_
            refine lv_iload_n hx hb dX0_sluices_58 rfl (hl.at rfl) ?_
            refine x_iV hC hK hP hS (x_rWB hK hP hn) (cX0_goOn_ hn hD hr2 (by show Inv ((uS (uS V r.2 (V r.1)) r.2 (sp_op (uS V r.2 (V r.1) r.2) (nI x0))) r.2); rw [g1]; exact o1) (by show HQ cA ad f0 n (bρ ρ1 r.2 r.1) ((uS (uS V r.2 (V r.1)) r.2 (sp_op (uS V r.2 (V r.1) r.2) (nI x0))) r.2) r.2; rw [g1]; exact hq_op hQ1 _) (m0 := k) rfl (by show hrv ((uS (uS V r.2 (V r.1)) r.2 (sp_op (uS V r.2 (V r.1) r.2) (nI x0))) r.2) + k ≤ 20000; rw [g1, o2]; omega)) cv_X0_294 rfl rfl hl.1 (Nat.le_of_ble_eq_true rfl) dX0_sluices_59 (rk (by decide) (by decide)) ⟨Nat.le_refl _, Nat.le_refl _⟩ (fun r59 U59 H locs p59 hP hS => ?_)
            have e6 : r59 = tkN (sp_op (T 0) (nI x0)) k := by rw [← g1]; exact p59.1
            subst e6
            have g2 : U59 r.2 = hrN (sp_op (T 0) (nI x0)) k := by rw [← g1]; exact p59.2.2.1
            have hX2 : CQ cA ad n f0 U59 (bρ ρ1 r.2 r.1) r T := hX1.bk (fun z z1 z2 => by rw [p59.2.keep.1 z z1 z2, uS_n z2, uS_n z2]) (fun z hz => by rw [p59.2.keep.2 z hz, uS_n (Ne.symm hr23), uS_n (Ne.symm hr23)]) RK.b
            refine l_istore hx hb 6 dX0_sluices_62 hl rfl (fun ls hl => ?_)
            refine lv_aload_n hx hb dX0_sluices_64 rfl (hl.at rfl) ?_
            refine c_get hC hK hP 0 (by omega) (wo_wb) rfl in_X0 2 (by decide) q254 rfl rfl dX0_sluices_65 ?_
            refine x_pV hC hK hP (x_rHO hr2 hK hP hn) (cX1_areAllPaid_ hn hr2) cv_X0_326 rfl rfl hl.1 (Nat.le_of_ble_eq_true rfl) dX0_sluices_68 (rk (by decide) (by decide)) ⟨Nat.le_refl _, Nat.le_refl _⟩ (fun r68 p68 => ?_)
            rcases p68 with ⟨rfl, p68⟩ | ⟨rfl, p68⟩
            · replace p68 : apk (U59 r.2) 5 := p68
              refine l_istore hx hb 7 dX0_sluices_71 hl rfl (fun ls hl => ?_)
              refine lv_aload_n hx hb dX0_sluices_73 rfl (hl.at rfl) ?_
              refine x_vVq hC hK hP hS (x_rWB hK hP hn) (cX0_swaps_ hn hD hr2 hr) cv_X0_313 rfl rfl hl.1 (Nat.le_of_ble_eq_true rfl) dX0_sluices_74 (rk (by decide) (by decide)) ⟨Nat.le_refl _, Nat.le_refl _⟩ (fun U74 ρ74 q74 H locs p74 hP hS => ?_)
              obtain ⟨rfl, rfl, rfl⟩ := p74
              refine lv_iload hx hb dX0_sluices_77 (hl.at rfl) ?_
              refine l_ifeq_1 hx hb 104 dX0_sluices_79 rfl ?_
              refine lv_iload_n hx hb dX0_sluices_82 rfl (hl.at rfl) ?_
              refine lv_iconst (v := -1) hx hb dX0_sluices_83 rfl ?_
              refine lv_icmp_eq (tgt := 97) hx hb dX0_sluices_84 rfl (fun c84 => ?_) (fun c84 => ?_)
              · refine lv_iload hx hb dX0_sluices_97 (hl.at rfl) ?_
                refine l_istore_n hx hb 3 dX0_sluices_99 rfl hl rfl (fun ls hl => ?_)
                refine lv_iload hx hb dX0_sluices_100 (hl.at rfl) ?_
                refine l_istore hx hb 4 dX0_sluices_102 hl rfl (fun ls hl => ?_)
                refine l_inc1 hx hb 5 dX0_sluices_104 hl rfl rfl (fun ls hl => ?_)
                refine lv_goto (tgt := 33) hx hb dX0_sluices_107 rfl ?_
                first | exact ih (x0 + 1) _ _ (by omega) (by omega) hX2 _ _ _ hP hS (by rw [sl_, if_neg (fun z => p68 (apk_5.mpr (by rw [g2]; exact z)))]; exact hl.mask [true, true, true, true, true, true, false, false]) | exact ih (x0 + 1) _ _ (by omega) (by omega) hX2 _ _ _ hP hS (by rw [sl_, if_pos (by rw [← g2]; exact apk_5.mp p68), if_pos c84]; exact hl.mask [true, true, true, true, true, true, false, false]) | exact ih (x0 + 1) _ _ (by omega) (by omega) hX2 _ _ _ hP hS (by rw [sl_, if_pos (by rw [← g2]; exact apk_5.mp p68), if_neg c84, if_neg (Int32.not_le.mpr c91)]; exact hl.mask [true, true, true, true, true, true, false, false]) | exact ih (x0 + 1) _ _ (by omega) (by omega) hX2 _ _ _ hP hS (by rw [sl_, if_pos (by rw [← g2]; exact apk_5.mp p68), if_neg c84, if_pos (Int32.not_lt.mp c91)]; exact hl.mask [true, true, true, true, true, true, false, false])
              · refine lv_iload hx hb dX0_sluices_87 (hl.at rfl) ?_
                refine lv_iload hx hb dX0_sluices_89 (hl.at rfl) ?_
                refine lv_icmp_lt (tgt := 97) hx hb dX0_sluices_91 rfl (fun c91 => ?_) (fun c91 => ?_)
                · refine lv_iload hx hb dX0_sluices_97 (hl.at rfl) ?_
                  refine l_istore_n hx hb 3 dX0_sluices_99 rfl hl rfl (fun ls hl => ?_)
                  refine lv_iload hx hb dX0_sluices_100 (hl.at rfl) ?_
                  refine l_istore hx hb 4 dX0_sluices_102 hl rfl (fun ls hl => ?_)
                  refine l_inc1 hx hb 5 dX0_sluices_104 hl rfl rfl (fun ls hl => ?_)
                  refine lv_goto (tgt := 33) hx hb dX0_sluices_107 rfl ?_
                  first | exact ih (x0 + 1) _ _ (by omega) (by omega) hX2 _ _ _ hP hS (by rw [sl_, if_neg (fun z => p68 (apk_5.mpr (by rw [g2]; exact z)))]; exact hl.mask [true, true, true, true, true, true, false, false]) | exact ih (x0 + 1) _ _ (by omega) (by omega) hX2 _ _ _ hP hS (by rw [sl_, if_pos (by rw [← g2]; exact apk_5.mp p68), if_pos c84]; exact hl.mask [true, true, true, true, true, true, false, false]) | exact ih (x0 + 1) _ _ (by omega) (by omega) hX2 _ _ _ hP hS (by rw [sl_, if_pos (by rw [← g2]; exact apk_5.mp p68), if_neg c84, if_neg (Int32.not_le.mpr c91)]; exact hl.mask [true, true, true, true, true, true, false, false]) | exact ih (x0 + 1) _ _ (by omega) (by omega) hX2 _ _ _ hP hS (by rw [sl_, if_pos (by rw [← g2]; exact apk_5.mp p68), if_neg c84, if_pos (Int32.not_lt.mp c91)]; exact hl.mask [true, true, true, true, true, true, false, false])
                · refine lv_goto (tgt := 104) hx hb dX0_sluices_94 rfl ?_
                  refine l_inc1 hx hb 5 dX0_sluices_104 hl rfl rfl (fun ls hl => ?_)
                  refine lv_goto (tgt := 33) hx hb dX0_sluices_107 rfl ?_
                  first | exact ih (x0 + 1) _ _ (by omega) (by omega) hX2 _ _ _ hP hS (by rw [sl_, if_neg (fun z => p68 (apk_5.mpr (by rw [g2]; exact z)))]; exact hl.mask [true, true, true, true, true, true, false, false]) | exact ih (x0 + 1) _ _ (by omega) (by omega) hX2 _ _ _ hP hS (by rw [sl_, if_pos (by rw [← g2]; exact apk_5.mp p68), if_pos c84]; exact hl.mask [true, true, true, true, true, true, false, false]) | exact ih (x0 + 1) _ _ (by omega) (by omega) hX2 _ _ _ hP hS (by rw [sl_, if_pos (by rw [← g2]; exact apk_5.mp p68), if_neg c84, if_neg (Int32.not_le.mpr c91)]; exact hl.mask [true, true, true, true, true, true, false, false]) | exact ih (x0 + 1) _ _ (by omega) (by omega) hX2 _ _ _ hP hS (by rw [sl_, if_pos (by rw [← g2]; exact apk_5.mp p68), if_neg c84, if_pos (Int32.not_lt.mp c91)]; exact hl.mask [true, true, true, true, true, true, false, false])
            · replace p68 : ¬ apk (U59 r.2) 5 := p68
              refine l_istore hx hb 7 dX0_sluices_71 hl rfl (fun ls hl => ?_)
              refine lv_aload_n hx hb dX0_sluices_73 rfl (hl.at rfl) ?_
              refine x_vVq hC hK hP hS (x_rWB hK hP hn) (cX0_swaps_ hn hD hr2 hr) cv_X0_313 rfl rfl hl.1 (Nat.le_of_ble_eq_true rfl) dX0_sluices_74 (rk (by decide) (by decide)) ⟨Nat.le_refl _, Nat.le_refl _⟩ (fun U74 ρ74 q74 H locs p74 hP hS => ?_)
              obtain ⟨rfl, rfl, rfl⟩ := p74
              refine lv_iload hx hb dX0_sluices_77 (hl.at rfl) ?_
              refine l_ifeq_0 hx hb 104 dX0_sluices_79 rfl ?_
              refine l_inc1 hx hb 5 dX0_sluices_104 hl rfl rfl (fun ls hl => ?_)
              refine lv_goto (tgt := 33) hx hb dX0_sluices_107 rfl ?_
              first | exact ih (x0 + 1) _ _ (by omega) (by omega) hX2 _ _ _ hP hS (by rw [sl_, if_neg (fun z => p68 (apk_5.mpr (by rw [g2]; exact z)))]; exact hl.mask [true, true, true, true, true, true, false, false]) | exact ih (x0 + 1) _ _ (by omega) (by omega) hX2 _ _ _ hP hS (by rw [sl_, if_pos (by rw [← g2]; exact apk_5.mp p68), if_pos c84]; exact hl.mask [true, true, true, true, true, true, false, false]) | exact ih (x0 + 1) _ _ (by omega) (by omega) hX2 _ _ _ hP hS (by rw [sl_, if_pos (by rw [← g2]; exact apk_5.mp p68), if_neg c84, if_neg (Int32.not_le.mpr c91)]; exact hl.mask [true, true, true, true, true, true, false, false]) | exact ih (x0 + 1) _ _ (by omega) (by omega) hX2 _ _ _ hP hS (by rw [sl_, if_pos (by rw [← g2]; exact apk_5.mp p68), if_neg c84, if_pos (Int32.not_lt.mp c91)]; exact hl.mask [true, true, true, true, true, true, false, false])
      exact loop (2 ^ wh (T 0) + 1) 0 U ρ (by omega) (by omega) hX _ _ _ hP hS (hl.mask [true, true, true, true, true, true, false, false])
    · refine l_ifne_0 hx hb 25 dX0_sluices_16 rfl ?_
      refine lv_aload_n hx hb dX0_sluices_19 rfl (hl.at rfl) ?_
      refine lv_iconst (v := nI 1) hx hb dX0_sluices_20 rfl ?_
      refine x_iV hC hK hP hS (x_rWB hK hP hn) (cX0_finds_ hn hD (k := 1) rfl (by decide)) cv_X0_173 rfl rfl hl.1 (Nat.le_of_ble_eq_true rfl) dX0_sluices_21 (rk (by decide) (by decide)) ⟨Nat.le_refl _, Nat.le_refl _⟩ (fun r21 U21 H locs p21 hP hS => ?_)
      refine hret _ _ ls _ _ (_, _, _) hP hS dX0_sluices_24 ?_
      dsimp only
      first | (rw [op_sluices, if_neg p4]; exact hX.e p21 (by decide)) | (rw [op_sluices, if_pos p4, if_neg p13]; exact hX.e p21 (by decide)) | (rw [op_sluices, if_pos p4, if_pos p13, cn_nI (by omega), ← e5, if_pos c112]; exact hX1.e p117 (by decide)) | (rw [op_sluices, if_pos p4, if_pos p13, cn_nI (by omega), ← e5, if_neg c112, if_pos c122]; exact ⟨rfl, hX1⟩) | (rw [op_sluices, if_pos p4, if_pos p13, cn_nI (by omega), ← e5, if_neg c112, if_neg c122]; exact ⟨rfl, hX1⟩)
  · refine l_ifeq_0 hx hb 19 dX0_sluices_7 rfl ?_
    refine lv_aload_n hx hb dX0_sluices_19 rfl (hl.at rfl) ?_
    refine lv_iconst (v := nI 1) hx hb dX0_sluices_20 rfl ?_
    refine x_iV hC hK hP hS (x_rWB hK hP hn) (cX0_finds_ hn hD (k := 1) rfl (by decide)) cv_X0_173 rfl rfl hl.1 (Nat.le_of_ble_eq_true rfl) dX0_sluices_21 (rk (by decide) (by decide)) ⟨Nat.le_refl _, Nat.le_refl _⟩ (fun r21 U21 H locs p21 hP hS => ?_)
    refine hret _ _ ls _ _ (_, _, _) hP hS dX0_sluices_24 ?_
    dsimp only
    first | (rw [op_sluices, if_neg p4]; exact hX.e p21 (by decide)) | (rw [op_sluices, if_pos p4, if_neg p13]; exact hX.e p21 (by decide)) | (rw [op_sluices, if_pos p4, if_pos p13, cn_nI (by omega), ← e5, if_pos c112]; exact hX1.e p117 (by decide)) | (rw [op_sluices, if_pos p4, if_pos p13, cn_nI (by omega), ← e5, if_neg c112, if_pos c122]; exact ⟨rfl, hX1⟩) | (rw [op_sluices, if_pos p4, if_pos p13, cn_nI (by omega), ← e5, if_neg c112, if_neg c122]; exact ⟨rfl, hX1⟩)
theorem cv_X0_339 : CV RX0 RX0 339 yX0_goneBy cX0_goneBy 3 (some .int) 1 := ⟨lw_V q1051 q1053 qs32 q83 q1054, by decide +kernel⟩
theorem cX0_who_ {l : Launch} {D : va_G} {cA : Nat → ClassId} {ad : Nat → Nat} {n : Nat} {f0 : Nat → va_E} {ρ : Nat → Nat → Option Nat} {r : Nat × Nat} {U : Nat → Nat → Nat → Int32} (hn : 81 ≤ n) {A : Nat → Prop} (hD : gD A ad n) {x y : Int32} {T : Tta} (hX : CQ cA ad n f0 U ρ r T) (hI : Inv (T 0)) : XIq l D cA ad n f0 ρ r U A yX0_who cX0_who 8 (some .int) (8) [.ref (ad 0), .int x, .int y] (fun o V ρ1 r1 => o = (op_who x y T).1 ∧ CQ cA ad n f0 V ρ1 r1 (op_who x y T).2) := by
  refine Ci.of rfl (by decide +kernel) (Nat.le_of_ble_eq_true rfl) ?_
  intro p e s m args below meth c Q hC hK hP hret ls hl
  have hx := hC.1
  have hb := hC.2.1
  have hown := hC.2.2.2.1
  have hts := hC.2.2.2.2
  have hS : va_S A s.heap s.heap [] := va_S.rf
  have hT : CT U r T := hX.1
  have hQ : HQ cA ad f0 n ρ (T 0) r.1 := hX.2.1
  have hr2 : r.2 < 3 := hT.lt2
  have hne : r.1 ≠ r.2 := hT.1.2.2
  have hr23 : r.2 ≠ 3 := by omega
  have hr : r.1 < 3 := hT.lt
  have e0 : U r.1 = T 0 := hT.2.1
  have hI2 : Inv (U r.1) := by rw [e0]; exact hI
  have hQ2 : HQ cA ad f0 n ρ (U r.1) r.1 := by rw [e0]; exact hQ
  have hr3 : r.1 ≠ 3 := by omega
  obtain ⟨eN, h8⟩ := inv_wh hI2
  have eH : U r.1 0 1 = nI (hrv (T 0)) := by rw [e0]; exact (inv_hr hI).1
  have hH := (inv_hr hI).2
  rw [e0] at eN h8
  have hpw := pow8 h8
  refine lv_iload_n hx hb dX0_who_0 rfl (hl.at rfl) ?_
  refine lv_iconst (v := nI 0) hx hb dX0_who_1 rfl ?_
  refine lv_bipush (v := nI 99) hx hb dX0_who_2 rfl ?_
  refine x_sS hC (cX0_isIn_ ) cs_X0_122 rfl rfl hl.1 (Nat.le_of_ble_eq_true rfl) dX0_who_4 (rk (by decide) (by decide)) ⟨Nat.le_refl _, Nat.le_refl _⟩ (fun r4 p4 => ?_)
  rcases p4 with ⟨rfl, p4⟩ | ⟨rfl, p4⟩
  · refine l_ifeq_1 hx hb 19 dX0_who_7 rfl ?_
    refine lv_iload_n hx hb dX0_who_10 rfl (hl.at rfl) ?_
    refine lv_iconst (v := nI 0) hx hb dX0_who_11 rfl ?_
    refine lv_iconst (v := nI 3) hx hb dX0_who_12 rfl ?_
    refine x_sS hC (cX0_isIn_ ) cs_X0_122 rfl rfl hl.1 (Nat.le_of_ble_eq_true rfl) dX0_who_13 (rk (by decide) (by decide)) ⟨Nat.le_refl _, Nat.le_refl _⟩ (fun r13 p13 => ?_)
    rcases p13 with ⟨rfl, p13⟩ | ⟨rfl, p13⟩
    · refine l_ifne_1 hx hb 25 dX0_who_16 rfl ?_
      refine lv_iconst (v := nI 0) hx hb dX0_who_25 rfl ?_
      refine l_istore_n hx hb 3 dX0_who_26 rfl hl rfl (fun ls hl => ?_)
      refine lv_iconst (v := -1) hx hb dX0_who_27 rfl ?_
      refine l_istore hx hb 4 dX0_who_28 hl rfl (fun ls hl => ?_)
      refine lv_iconst (v := nI 1) hx hb dX0_who_30 rfl ?_
      refine lv_aload_n hx hb dX0_who_31 rfl (hl.at rfl) ?_
      refine c_get hC hK hP 0 (by omega) (wo_wb) rfl in_X0 2 (by decide) q254 rfl rfl dX0_who_32 ?_
      refine c_getN hC hK hP (3 + 22 * r.1) (by omega) (wo_ho hr) rfl in_X1 0 (by decide) q143 rfl rfl dX0_who_35 ?_
      refine l_top (nI (wh (T 0))) (by rw [e0]; exact eN) ?_
      refine lv_ishl hx hb dX0_who_38 ?_
      refine l_top (nI (2 ^ wh (T 0))) (shl1 h8) ?_
      refine lv_iconst (v := nI 1) hx hb dX0_who_39 rfl ?_
      refine l_subN hx hb dX0_who_40 (by omega) ?_
      refine l_istore hx hb 5 dX0_who_41 hl rfl (fun ls hl => ?_)
      refine lv_iconst (v := nI 0) hx hb dX0_who_43 rfl ?_
      refine l_istore hx hb 6 dX0_who_44 hl rfl (fun ls hl => ?_)
      refine lv_iconst (v := nI 0) hx hb dX0_who_46 rfl ?_
      refine l_istore hx hb 7 dX0_who_47 hl rfl (fun ls hl => ?_)
      have loop : ∀ (i x0 : Nat) (V : Tta) (ρ1 : Rho), x0 ≤ 2 ^ wh (T 0) → 2 ^ wh (T 0) + 1 ≤ x0 + i → CQ cA ad n f0 V ρ1 r T → ∀ (H : Heap) (locs : List Loc) (ls : Array Slot), XW D cA ad n f0 ρ1 r V H → va_S A s.heap H locs → lh ls [some (.ref (ad 0)), some (.int x), some (.int y), some (.int (nI (wo_ (T 0) x x0).1)), some (.int (wo_ (T 0) x x0).2.1), some (.int (wo_ (T 0) x x0).2.2.1), some (.int (wo_ (T 0) x x0).2.2.2), some (.int (nI x0))] → W p l e (rmG 8 0 0) s m args below meth c H locs 0 0 Q (F0 m 49 ls []) := by
        intro i
        induction i with
        | zero => intro x0 V ρ1 h1 h2; exact absurd h2 (by omega)
        | succ i ih =>
          intro x0 V ρ1 h1 h2 hX1 H locs ls hP hS hl
          have e0v : V r.1 = T 0 := hX1.1.2.1
          have hIv : Inv (V r.1) := by rw [e0v]; exact hI
          have hQv : HQ cA ad f0 n ρ1 (V r.1) r.1 := by rw [e0v]; exact hX1.2.1
          refine lv_iload hx hb dX0_who_49 (hl.at rfl) ?_
          refine lv_iconst (v := nI 1) hx hb dX0_who_51 rfl ?_
          refine lv_aload_n hx hb dX0_who_52 rfl (hl.at rfl) ?_
          refine c_get hC hK hP 0 (by omega) (wo_wb) rfl in_X0 2 (by decide) q254 rfl rfl dX0_who_53 ?_
          refine c_getN hC hK hP (3 + 22 * r.1) (by omega) (wo_ho hr) rfl in_X1 0 (by decide) q143 rfl rfl dX0_who_56 ?_
          refine l_top (nI (wh (T 0))) (by rw [e0v]; exact eN) ?_
          refine lv_ishl hx hb dX0_who_59 ?_
          refine l_top (nI (2 ^ wh (T 0))) (shl1 h8) ?_
          refine l_geN hx hb 114 dX0_who_60 rfl (by omega) (by omega) (fun c60 => ?_) (fun c60 => ?_)
          · have e5 : x0 = 2 ^ wh (T 0) := by omega
            have hwl := wo_le (S := T 0) (g := x) x0
            refine lv_iload_n hx hb dX0_who_114 rfl (hl.at rfl) ?_
            refine lv_if_ne (tgt := 133) hx hb dX0_who_115 rfl (fun c115 => ?_) (fun c115 => ?_)
            · refine lv_iload_n hx hb dX0_who_133 rfl (hl.at rfl) ?_
              refine lv_if_ne (tgt := 141) hx hb dX0_who_134 rfl (fun c134 => ?_) (fun c134 => ?_)
              · refine lv_iload_n hx hb dX0_who_141 rfl (hl.at rfl) ?_
                refine lv_iconst (v := nI 1) hx hb dX0_who_142 rfl ?_
                refine lv_icmp_ne (tgt := 151) hx hb dX0_who_143 rfl (fun c143 => ?_) (fun c143 => ?_)
                · refine lv_iload_n hx hb dX0_who_151 rfl (hl.at rfl) ?_
                  refine lv_iconst (v := nI 2) hx hb dX0_who_152 rfl ?_
                  refine lv_icmp_ne (tgt := 161) hx hb dX0_who_153 rfl (fun c153 => ?_) (fun c153 => ?_)
                  · refine lv_iload hx hb dX0_who_161 (hl.at rfl) ?_
                    refine hret _ _ ls _ _ (_, _, _) hP hS dX0_who_163 ?_
                    dsimp only
                    first | (rw [op_who, if_neg p4]; exact hX.e p21 (by decide)) | (rw [op_who, if_pos p4, if_neg p13]; exact hX.e p21 (by decide)) | (rw [op_who, if_pos p4, if_pos p13, ← e5, if_pos ⟨(nI_eq (by omega) (by decide)).mp c115, in_12 p121⟩]; exact hX1.e p129 (by decide)) | (rw [op_who, if_pos p4, if_pos p13, ← e5, if_neg (fun z => c115 (by rw [show (wo_ (T 0) x x0).1 = 0 from z.1]; rfl)), if_pos c134]; exact ⟨rfl, hX1⟩) | (rw [op_who, if_pos p4, if_pos p13, ← e5, if_neg (fun z => c115 (by rw [show (wo_ (T 0) x x0).1 = 0 from z.1]; rfl)), if_neg c134, if_pos c143]; exact ⟨rfl, hX1⟩) | (rw [op_who, if_pos p4, if_pos p13, ← e5, if_neg (fun z => c115 (by rw [show (wo_ (T 0) x x0).1 = 0 from z.1]; rfl)), if_neg c134, if_neg c143, if_pos c153]; exact ⟨rfl, hX1⟩) | (rw [op_who, if_pos p4, if_pos p13, ← e5, if_neg (fun z => c115 (by rw [show (wo_ (T 0) x x0).1 = 0 from z.1]; rfl)), if_neg c134, if_neg c143, if_neg c153]; exact ⟨rfl, hX1⟩) | (rw [op_who, if_pos p4, if_pos p13, ← e5, if_neg (fun z => p121 (by rcases z.2 with h | h <;> rw [h] <;> decide)), if_pos c134]; exact ⟨rfl, hX1⟩) | (rw [op_who, if_pos p4, if_pos p13, ← e5, if_neg (fun z => p121 (by rcases z.2 with h | h <;> rw [h] <;> decide)), if_neg c134, if_pos c143]; exact ⟨rfl, hX1⟩) | (rw [op_who, if_pos p4, if_pos p13, ← e5, if_neg (fun z => p121 (by rcases z.2 with h | h <;> rw [h] <;> decide)), if_neg c134, if_neg c143, if_pos c153]; exact ⟨rfl, hX1⟩) | (rw [op_who, if_pos p4, if_pos p13, ← e5, if_neg (fun z => p121 (by rcases z.2 with h | h <;> rw [h] <;> decide)), if_neg c134, if_neg c143, if_neg c153]; exact ⟨rfl, hX1⟩)
                  · refine lv_iload hx hb dX0_who_156 (hl.at rfl) ?_
                    refine lv_goto (tgt := 163) hx hb dX0_who_158 rfl ?_
                    refine hret _ _ ls _ _ (_, _, _) hP hS dX0_who_163 ?_
                    dsimp only
                    first | (rw [op_who, if_neg p4]; exact hX.e p21 (by decide)) | (rw [op_who, if_pos p4, if_neg p13]; exact hX.e p21 (by decide)) | (rw [op_who, if_pos p4, if_pos p13, ← e5, if_pos ⟨(nI_eq (by omega) (by decide)).mp c115, in_12 p121⟩]; exact hX1.e p129 (by decide)) | (rw [op_who, if_pos p4, if_pos p13, ← e5, if_neg (fun z => c115 (by rw [show (wo_ (T 0) x x0).1 = 0 from z.1]; rfl)), if_pos c134]; exact ⟨rfl, hX1⟩) | (rw [op_who, if_pos p4, if_pos p13, ← e5, if_neg (fun z => c115 (by rw [show (wo_ (T 0) x x0).1 = 0 from z.1]; rfl)), if_neg c134, if_pos c143]; exact ⟨rfl, hX1⟩) | (rw [op_who, if_pos p4, if_pos p13, ← e5, if_neg (fun z => c115 (by rw [show (wo_ (T 0) x x0).1 = 0 from z.1]; rfl)), if_neg c134, if_neg c143, if_pos c153]; exact ⟨rfl, hX1⟩) | (rw [op_who, if_pos p4, if_pos p13, ← e5, if_neg (fun z => c115 (by rw [show (wo_ (T 0) x x0).1 = 0 from z.1]; rfl)), if_neg c134, if_neg c143, if_neg c153]; exact ⟨rfl, hX1⟩) | (rw [op_who, if_pos p4, if_pos p13, ← e5, if_neg (fun z => p121 (by rcases z.2 with h | h <;> rw [h] <;> decide)), if_pos c134]; exact ⟨rfl, hX1⟩) | (rw [op_who, if_pos p4, if_pos p13, ← e5, if_neg (fun z => p121 (by rcases z.2 with h | h <;> rw [h] <;> decide)), if_neg c134, if_pos c143]; exact ⟨rfl, hX1⟩) | (rw [op_who, if_pos p4, if_pos p13, ← e5, if_neg (fun z => p121 (by rcases z.2 with h | h <;> rw [h] <;> decide)), if_neg c134, if_neg c143, if_pos c153]; exact ⟨rfl, hX1⟩) | (rw [op_who, if_pos p4, if_pos p13, ← e5, if_neg (fun z => p121 (by rcases z.2 with h | h <;> rw [h] <;> decide)), if_neg c134, if_neg c143, if_neg c153]; exact ⟨rfl, hX1⟩)
                · refine lv_iload hx hb dX0_who_146 (hl.at rfl) ?_
                  refine lv_goto (tgt := 163) hx hb dX0_who_148 rfl ?_
                  refine hret _ _ ls _ _ (_, _, _) hP hS dX0_who_163 ?_
                  dsimp only
                  first | (rw [op_who, if_neg p4]; exact hX.e p21 (by decide)) | (rw [op_who, if_pos p4, if_neg p13]; exact hX.e p21 (by decide)) | (rw [op_who, if_pos p4, if_pos p13, ← e5, if_pos ⟨(nI_eq (by omega) (by decide)).mp c115, in_12 p121⟩]; exact hX1.e p129 (by decide)) | (rw [op_who, if_pos p4, if_pos p13, ← e5, if_neg (fun z => c115 (by rw [show (wo_ (T 0) x x0).1 = 0 from z.1]; rfl)), if_pos c134]; exact ⟨rfl, hX1⟩) | (rw [op_who, if_pos p4, if_pos p13, ← e5, if_neg (fun z => c115 (by rw [show (wo_ (T 0) x x0).1 = 0 from z.1]; rfl)), if_neg c134, if_pos c143]; exact ⟨rfl, hX1⟩) | (rw [op_who, if_pos p4, if_pos p13, ← e5, if_neg (fun z => c115 (by rw [show (wo_ (T 0) x x0).1 = 0 from z.1]; rfl)), if_neg c134, if_neg c143, if_pos c153]; exact ⟨rfl, hX1⟩) | (rw [op_who, if_pos p4, if_pos p13, ← e5, if_neg (fun z => c115 (by rw [show (wo_ (T 0) x x0).1 = 0 from z.1]; rfl)), if_neg c134, if_neg c143, if_neg c153]; exact ⟨rfl, hX1⟩) | (rw [op_who, if_pos p4, if_pos p13, ← e5, if_neg (fun z => p121 (by rcases z.2 with h | h <;> rw [h] <;> decide)), if_pos c134]; exact ⟨rfl, hX1⟩) | (rw [op_who, if_pos p4, if_pos p13, ← e5, if_neg (fun z => p121 (by rcases z.2 with h | h <;> rw [h] <;> decide)), if_neg c134, if_pos c143]; exact ⟨rfl, hX1⟩) | (rw [op_who, if_pos p4, if_pos p13, ← e5, if_neg (fun z => p121 (by rcases z.2 with h | h <;> rw [h] <;> decide)), if_neg c134, if_neg c143, if_pos c153]; exact ⟨rfl, hX1⟩) | (rw [op_who, if_pos p4, if_pos p13, ← e5, if_neg (fun z => p121 (by rcases z.2 with h | h <;> rw [h] <;> decide)), if_neg c134, if_neg c143, if_neg c153]; exact ⟨rfl, hX1⟩)
              · refine lv_iload_n hx hb dX0_who_137 rfl (hl.at rfl) ?_
                refine lv_goto (tgt := 163) hx hb dX0_who_138 rfl ?_
                refine hret _ _ ls _ _ (_, _, _) hP hS dX0_who_163 ?_
                dsimp only
                first | (rw [op_who, if_neg p4]; exact hX.e p21 (by decide)) | (rw [op_who, if_pos p4, if_neg p13]; exact hX.e p21 (by decide)) | (rw [op_who, if_pos p4, if_pos p13, ← e5, if_pos ⟨(nI_eq (by omega) (by decide)).mp c115, in_12 p121⟩]; exact hX1.e p129 (by decide)) | (rw [op_who, if_pos p4, if_pos p13, ← e5, if_neg (fun z => c115 (by rw [show (wo_ (T 0) x x0).1 = 0 from z.1]; rfl)), if_pos c134]; exact ⟨rfl, hX1⟩) | (rw [op_who, if_pos p4, if_pos p13, ← e5, if_neg (fun z => c115 (by rw [show (wo_ (T 0) x x0).1 = 0 from z.1]; rfl)), if_neg c134, if_pos c143]; exact ⟨rfl, hX1⟩) | (rw [op_who, if_pos p4, if_pos p13, ← e5, if_neg (fun z => c115 (by rw [show (wo_ (T 0) x x0).1 = 0 from z.1]; rfl)), if_neg c134, if_neg c143, if_pos c153]; exact ⟨rfl, hX1⟩) | (rw [op_who, if_pos p4, if_pos p13, ← e5, if_neg (fun z => c115 (by rw [show (wo_ (T 0) x x0).1 = 0 from z.1]; rfl)), if_neg c134, if_neg c143, if_neg c153]; exact ⟨rfl, hX1⟩) | (rw [op_who, if_pos p4, if_pos p13, ← e5, if_neg (fun z => p121 (by rcases z.2 with h | h <;> rw [h] <;> decide)), if_pos c134]; exact ⟨rfl, hX1⟩) | (rw [op_who, if_pos p4, if_pos p13, ← e5, if_neg (fun z => p121 (by rcases z.2 with h | h <;> rw [h] <;> decide)), if_neg c134, if_pos c143]; exact ⟨rfl, hX1⟩) | (rw [op_who, if_pos p4, if_pos p13, ← e5, if_neg (fun z => p121 (by rcases z.2 with h | h <;> rw [h] <;> decide)), if_neg c134, if_neg c143, if_pos c153]; exact ⟨rfl, hX1⟩) | (rw [op_who, if_pos p4, if_pos p13, ← e5, if_neg (fun z => p121 (by rcases z.2 with h | h <;> rw [h] <;> decide)), if_neg c134, if_neg c143, if_neg c153]; exact ⟨rfl, hX1⟩)
            · refine lv_iload_n hx hb dX0_who_118 rfl (hl.at rfl) ?_
              refine lv_iconst (v := nI 1) hx hb dX0_who_119 rfl ?_
              refine lv_iconst (v := nI 2) hx hb dX0_who_120 rfl ?_
              refine x_sS hC (cX0_isIn_ ) cs_X0_122 rfl rfl hl.1 (Nat.le_of_ble_eq_true rfl) dX0_who_121 (rk (by decide) (by decide)) ⟨Nat.le_refl _, Nat.le_refl _⟩ (fun r121 p121 => ?_)
              rcases p121 with ⟨rfl, p121⟩ | ⟨rfl, p121⟩
              · refine l_ifeq_1 hx hb 133 dX0_who_124 rfl ?_
                refine lv_aload_n hx hb dX0_who_127 rfl (hl.at rfl) ?_
                refine lv_iconst (v := nI 2) hx hb dX0_who_128 rfl ?_
                refine x_iV hC hK hP hS (x_rWB hK hP hn) (cX0_finds_ hn hD (k := 2) rfl (by decide)) cv_X0_173 rfl rfl hl.1 (Nat.le_of_ble_eq_true rfl) dX0_who_129 (rk (by decide) (by decide)) ⟨Nat.le_refl _, Nat.le_refl _⟩ (fun r129 U129 H locs p129 hP hS => ?_)
                refine hret _ _ ls _ _ (_, _, _) hP hS dX0_who_132 ?_
                dsimp only
                first | (rw [op_who, if_neg p4]; exact hX.e p21 (by decide)) | (rw [op_who, if_pos p4, if_neg p13]; exact hX.e p21 (by decide)) | (rw [op_who, if_pos p4, if_pos p13, ← e5, if_pos ⟨(nI_eq (by omega) (by decide)).mp c115, in_12 p121⟩]; exact hX1.e p129 (by decide)) | (rw [op_who, if_pos p4, if_pos p13, ← e5, if_neg (fun z => c115 (by rw [show (wo_ (T 0) x x0).1 = 0 from z.1]; rfl)), if_pos c134]; exact ⟨rfl, hX1⟩) | (rw [op_who, if_pos p4, if_pos p13, ← e5, if_neg (fun z => c115 (by rw [show (wo_ (T 0) x x0).1 = 0 from z.1]; rfl)), if_neg c134, if_pos c143]; exact ⟨rfl, hX1⟩) | (rw [op_who, if_pos p4, if_pos p13, ← e5, if_neg (fun z => c115 (by rw [show (wo_ (T 0) x x0).1 = 0 from z.1]; rfl)), if_neg c134, if_neg c143, if_pos c153]; exact ⟨rfl, hX1⟩) | (rw [op_who, if_pos p4, if_pos p13, ← e5, if_neg (fun z => c115 (by rw [show (wo_ (T 0) x x0).1 = 0 from z.1]; rfl)), if_neg c134, if_neg c143, if_neg c153]; exact ⟨rfl, hX1⟩) | (rw [op_who, if_pos p4, if_pos p13, ← e5, if_neg (fun z => p121 (by rcases z.2 with h | h <;> rw [h] <;> decide)), if_pos c134]; exact ⟨rfl, hX1⟩) | (rw [op_who, if_pos p4, if_pos p13, ← e5, if_neg (fun z => p121 (by rcases z.2 with h | h <;> rw [h] <;> decide)), if_neg c134, if_pos c143]; exact ⟨rfl, hX1⟩) | (rw [op_who, if_pos p4, if_pos p13, ← e5, if_neg (fun z => p121 (by rcases z.2 with h | h <;> rw [h] <;> decide)), if_neg c134, if_neg c143, if_pos c153]; exact ⟨rfl, hX1⟩) | (rw [op_who, if_pos p4, if_pos p13, ← e5, if_neg (fun z => p121 (by rcases z.2 with h | h <;> rw [h] <;> decide)), if_neg c134, if_neg c143, if_neg c153]; exact ⟨rfl, hX1⟩)
              · refine l_ifeq_0 hx hb 133 dX0_who_124 rfl ?_
                refine lv_iload_n hx hb dX0_who_133 rfl (hl.at rfl) ?_
                refine lv_if_ne (tgt := 141) hx hb dX0_who_134 rfl (fun c134 => ?_) (fun c134 => ?_)
                · refine lv_iload_n hx hb dX0_who_141 rfl (hl.at rfl) ?_
                  refine lv_iconst (v := nI 1) hx hb dX0_who_142 rfl ?_
                  refine lv_icmp_ne (tgt := 151) hx hb dX0_who_143 rfl (fun c143 => ?_) (fun c143 => ?_)
                  · refine lv_iload_n hx hb dX0_who_151 rfl (hl.at rfl) ?_
                    refine lv_iconst (v := nI 2) hx hb dX0_who_152 rfl ?_
                    refine lv_icmp_ne (tgt := 161) hx hb dX0_who_153 rfl (fun c153 => ?_) (fun c153 => ?_)
                    · refine lv_iload hx hb dX0_who_161 (hl.at rfl) ?_
                      refine hret _ _ ls _ _ (_, _, _) hP hS dX0_who_163 ?_
                      dsimp only
                      first | (rw [op_who, if_neg p4]; exact hX.e p21 (by decide)) | (rw [op_who, if_pos p4, if_neg p13]; exact hX.e p21 (by decide)) | (rw [op_who, if_pos p4, if_pos p13, ← e5, if_pos ⟨(nI_eq (by omega) (by decide)).mp c115, in_12 p121⟩]; exact hX1.e p129 (by decide)) | (rw [op_who, if_pos p4, if_pos p13, ← e5, if_neg (fun z => c115 (by rw [show (wo_ (T 0) x x0).1 = 0 from z.1]; rfl)), if_pos c134]; exact ⟨rfl, hX1⟩) | (rw [op_who, if_pos p4, if_pos p13, ← e5, if_neg (fun z => c115 (by rw [show (wo_ (T 0) x x0).1 = 0 from z.1]; rfl)), if_neg c134, if_pos c143]; exact ⟨rfl, hX1⟩) | (rw [op_who, if_pos p4, if_pos p13, ← e5, if_neg (fun z => c115 (by rw [show (wo_ (T 0) x x0).1 = 0 from z.1]; rfl)), if_neg c134, if_neg c143, if_pos c153]; exact ⟨rfl, hX1⟩) | (rw [op_who, if_pos p4, if_pos p13, ← e5, if_neg (fun z => c115 (by rw [show (wo_ (T 0) x x0).1 = 0 from z.1]; rfl)), if_neg c134, if_neg c143, if_neg c153]; exact ⟨rfl, hX1⟩) | (rw [op_who, if_pos p4, if_pos p13, ← e5, if_neg (fun z => p121 (by rcases z.2 with h | h <;> rw [h] <;> decide)), if_pos c134]; exact ⟨rfl, hX1⟩) | (rw [op_who, if_pos p4, if_pos p13, ← e5, if_neg (fun z => p121 (by rcases z.2 with h | h <;> rw [h] <;> decide)), if_neg c134, if_pos c143]; exact ⟨rfl, hX1⟩) | (rw [op_who, if_pos p4, if_pos p13, ← e5, if_neg (fun z => p121 (by rcases z.2 with h | h <;> rw [h] <;> decide)), if_neg c134, if_neg c143, if_pos c153]; exact ⟨rfl, hX1⟩) | (rw [op_who, if_pos p4, if_pos p13, ← e5, if_neg (fun z => p121 (by rcases z.2 with h | h <;> rw [h] <;> decide)), if_neg c134, if_neg c143, if_neg c153]; exact ⟨rfl, hX1⟩)
                    · refine lv_iload hx hb dX0_who_156 (hl.at rfl) ?_
                      refine lv_goto (tgt := 163) hx hb dX0_who_158 rfl ?_
                      refine hret _ _ ls _ _ (_, _, _) hP hS dX0_who_163 ?_
                      dsimp only
                      first | (rw [op_who, if_neg p4]; exact hX.e p21 (by decide)) | (rw [op_who, if_pos p4, if_neg p13]; exact hX.e p21 (by decide)) | (rw [op_who, if_pos p4, if_pos p13, ← e5, if_pos ⟨(nI_eq (by omega) (by decide)).mp c115, in_12 p121⟩]; exact hX1.e p129 (by decide)) | (rw [op_who, if_pos p4, if_pos p13, ← e5, if_neg (fun z => c115 (by rw [show (wo_ (T 0) x x0).1 = 0 from z.1]; rfl)), if_pos c134]; exact ⟨rfl, hX1⟩) | (rw [op_who, if_pos p4, if_pos p13, ← e5, if_neg (fun z => c115 (by rw [show (wo_ (T 0) x x0).1 = 0 from z.1]; rfl)), if_neg c134, if_pos c143]; exact ⟨rfl, hX1⟩) | (rw [op_who, if_pos p4, if_pos p13, ← e5, if_neg (fun z => c115 (by rw [show (wo_ (T 0) x x0).1 = 0 from z.1]; rfl)), if_neg c134, if_neg c143, if_pos c153]; exact ⟨rfl, hX1⟩) | (rw [op_who, if_pos p4, if_pos p13, ← e5, if_neg (fun z => c115 (by rw [show (wo_ (T 0) x x0).1 = 0 from z.1]; rfl)), if_neg c134, if_neg c143, if_neg c153]; exact ⟨rfl, hX1⟩) | (rw [op_who, if_pos p4, if_pos p13, ← e5, if_neg (fun z => p121 (by rcases z.2 with h | h <;> rw [h] <;> decide)), if_pos c134]; exact ⟨rfl, hX1⟩) | (rw [op_who, if_pos p4, if_pos p13, ← e5, if_neg (fun z => p121 (by rcases z.2 with h | h <;> rw [h] <;> decide)), if_neg c134, if_pos c143]; exact ⟨rfl, hX1⟩) | (rw [op_who, if_pos p4, if_pos p13, ← e5, if_neg (fun z => p121 (by rcases z.2 with h | h <;> rw [h] <;> decide)), if_neg c134, if_neg c143, if_pos c153]; exact ⟨rfl, hX1⟩) | (rw [op_who, if_pos p4, if_pos p13, ← e5, if_neg (fun z => p121 (by rcases z.2 with h | h <;> rw [h] <;> decide)), if_neg c134, if_neg c143, if_neg c153]; exact ⟨rfl, hX1⟩)
                  · refine lv_iload hx hb dX0_who_146 (hl.at rfl) ?_
                    refine lv_goto (tgt := 163) hx hb dX0_who_148 rfl ?_
                    refine hret _ _ ls _ _ (_, _, _) hP hS dX0_who_163 ?_
                    dsimp only
                    first | (rw [op_who, if_neg p4]; exact hX.e p21 (by decide)) | (rw [op_who, if_pos p4, if_neg p13]; exact hX.e p21 (by decide)) | (rw [op_who, if_pos p4, if_pos p13, ← e5, if_pos ⟨(nI_eq (by omega) (by decide)).mp c115, in_12 p121⟩]; exact hX1.e p129 (by decide)) | (rw [op_who, if_pos p4, if_pos p13, ← e5, if_neg (fun z => c115 (by rw [show (wo_ (T 0) x x0).1 = 0 from z.1]; rfl)), if_pos c134]; exact ⟨rfl, hX1⟩) | (rw [op_who, if_pos p4, if_pos p13, ← e5, if_neg (fun z => c115 (by rw [show (wo_ (T 0) x x0).1 = 0 from z.1]; rfl)), if_neg c134, if_pos c143]; exact ⟨rfl, hX1⟩) | (rw [op_who, if_pos p4, if_pos p13, ← e5, if_neg (fun z => c115 (by rw [show (wo_ (T 0) x x0).1 = 0 from z.1]; rfl)), if_neg c134, if_neg c143, if_pos c153]; exact ⟨rfl, hX1⟩) | (rw [op_who, if_pos p4, if_pos p13, ← e5, if_neg (fun z => c115 (by rw [show (wo_ (T 0) x x0).1 = 0 from z.1]; rfl)), if_neg c134, if_neg c143, if_neg c153]; exact ⟨rfl, hX1⟩) | (rw [op_who, if_pos p4, if_pos p13, ← e5, if_neg (fun z => p121 (by rcases z.2 with h | h <;> rw [h] <;> decide)), if_pos c134]; exact ⟨rfl, hX1⟩) | (rw [op_who, if_pos p4, if_pos p13, ← e5, if_neg (fun z => p121 (by rcases z.2 with h | h <;> rw [h] <;> decide)), if_neg c134, if_pos c143]; exact ⟨rfl, hX1⟩) | (rw [op_who, if_pos p4, if_pos p13, ← e5, if_neg (fun z => p121 (by rcases z.2 with h | h <;> rw [h] <;> decide)), if_neg c134, if_neg c143, if_pos c153]; exact ⟨rfl, hX1⟩) | (rw [op_who, if_pos p4, if_pos p13, ← e5, if_neg (fun z => p121 (by rcases z.2 with h | h <;> rw [h] <;> decide)), if_neg c134, if_neg c143, if_neg c153]; exact ⟨rfl, hX1⟩)
                · refine lv_iload_n hx hb dX0_who_137 rfl (hl.at rfl) ?_
                  refine lv_goto (tgt := 163) hx hb dX0_who_138 rfl ?_
                  refine hret _ _ ls _ _ (_, _, _) hP hS dX0_who_163 ?_
                  dsimp only
                  first | (rw [op_who, if_neg p4]; exact hX.e p21 (by decide)) | (rw [op_who, if_pos p4, if_neg p13]; exact hX.e p21 (by decide)) | (rw [op_who, if_pos p4, if_pos p13, ← e5, if_pos ⟨(nI_eq (by omega) (by decide)).mp c115, in_12 p121⟩]; exact hX1.e p129 (by decide)) | (rw [op_who, if_pos p4, if_pos p13, ← e5, if_neg (fun z => c115 (by rw [show (wo_ (T 0) x x0).1 = 0 from z.1]; rfl)), if_pos c134]; exact ⟨rfl, hX1⟩) | (rw [op_who, if_pos p4, if_pos p13, ← e5, if_neg (fun z => c115 (by rw [show (wo_ (T 0) x x0).1 = 0 from z.1]; rfl)), if_neg c134, if_pos c143]; exact ⟨rfl, hX1⟩) | (rw [op_who, if_pos p4, if_pos p13, ← e5, if_neg (fun z => c115 (by rw [show (wo_ (T 0) x x0).1 = 0 from z.1]; rfl)), if_neg c134, if_neg c143, if_pos c153]; exact ⟨rfl, hX1⟩) | (rw [op_who, if_pos p4, if_pos p13, ← e5, if_neg (fun z => c115 (by rw [show (wo_ (T 0) x x0).1 = 0 from z.1]; rfl)), if_neg c134, if_neg c143, if_neg c153]; exact ⟨rfl, hX1⟩) | (rw [op_who, if_pos p4, if_pos p13, ← e5, if_neg (fun z => p121 (by rcases z.2 with h | h <;> rw [h] <;> decide)), if_pos c134]; exact ⟨rfl, hX1⟩) | (rw [op_who, if_pos p4, if_pos p13, ← e5, if_neg (fun z => p121 (by rcases z.2 with h | h <;> rw [h] <;> decide)), if_neg c134, if_pos c143]; exact ⟨rfl, hX1⟩) | (rw [op_who, if_pos p4, if_pos p13, ← e5, if_neg (fun z => p121 (by rcases z.2 with h | h <;> rw [h] <;> decide)), if_neg c134, if_neg c143, if_pos c153]; exact ⟨rfl, hX1⟩) | (rw [op_who, if_pos p4, if_pos p13, ← e5, if_neg (fun z => p121 (by rcases z.2 with h | h <;> rw [h] <;> decide)), if_neg c134, if_neg c143, if_neg c153]; exact ⟨rfl, hX1⟩)
          · refine lv_aload_n hx hb dX0_who_63 rfl (hl.at rfl) ?_
            refine lv_iload hx hb dX0_who_64 (hl.at rfl) ?_
            refine x_iVq hC hK hP hS (x_rWB hK hP hn) (cX0_goneBy_ hn hD hX1 hI) cv_X0_339 rfl rfl hl.1 (Nat.le_of_ble_eq_true rfl) dX0_who_66 (rk (by decide) (by decide)) ⟨Nat.le_refl _, Nat.le_refl _⟩ (fun r66 U66 ρ66 q66 H locs p66 hP hS => ?_)
            obtain ⟨p66, hX2, e66⟩ := p66
            rw [e66] at hP hX2
            refine lv_iload_n hx hb dX0_who_69 rfl (hl.at rfl) ?_
            refine lv_icmp_eq (tgt := 76) hx hb dX0_who_70 rfl (fun c70 => ?_) (fun c70 => ?_)
            · refine l_inc1 hx hb 3 dX0_who_76 hl rfl rfl (fun ls hl => ?_)
              refine lv_iload hx hb dX0_who_79 (hl.at rfl) ?_
              refine lv_iconst (v := -1) hx hb dX0_who_81 rfl ?_
              refine lv_icmp_ne (tgt := 90) hx hb dX0_who_82 rfl (fun c82 => ?_) (fun c82 => ?_)
              · refine lv_iload hx hb dX0_who_90 (hl.at rfl) ?_
                refine l_istore hx hb 4 dX0_who_92 hl rfl (fun ls hl => ?_)
                refine lv_iload hx hb dX0_who_94 (hl.at rfl) ?_
                refine lv_iload hx hb dX0_who_96 (hl.at rfl) ?_
                refine lv_iand hx hb dX0_who_98 ?_
                refine l_istore hx hb 5 dX0_who_99 hl rfl (fun ls hl => ?_)
                refine lv_iload hx hb dX0_who_101 (hl.at rfl) ?_
                refine lv_iload hx hb dX0_who_103 (hl.at rfl) ?_
                refine lv_ior hx hb dX0_who_105 ?_
                refine l_istore hx hb 6 dX0_who_106 hl rfl (fun ls hl => ?_)
                refine l_inc1 hx hb 7 dX0_who_108 hl rfl rfl (fun ls hl => ?_)
                refine lv_goto (tgt := 49) hx hb dX0_who_111 rfl ?_
                first | exact ih (x0 + 1) _ _ (by omega) (by omega) hX2 _ _ _ hP hS (by rw [wo_, if_neg (by rw [← p66]; exact c70)]; exact hl) | exact ih (x0 + 1) _ _ (by omega) (by omega) hX2 _ _ _ hP hS (by rw [wo_, if_pos (by rw [← p66]; exact c70), if_neg c82]; exact hl) | exact ih (x0 + 1) _ _ (by omega) (by omega) hX2 _ _ _ hP hS (by rw [wo_, if_pos (by rw [← p66]; exact c70), if_pos c82]; exact hl)
              · refine lv_iload hx hb dX0_who_85 (hl.at rfl) ?_
                refine lv_goto (tgt := 92) hx hb dX0_who_87 rfl ?_
                refine l_istore hx hb 4 dX0_who_92 hl rfl (fun ls hl => ?_)
                refine lv_iload hx hb dX0_who_94 (hl.at rfl) ?_
                refine lv_iload hx hb dX0_who_96 (hl.at rfl) ?_
                refine lv_iand hx hb dX0_who_98 ?_
                refine l_istore hx hb 5 dX0_who_99 hl rfl (fun ls hl => ?_)
                refine lv_iload hx hb dX0_who_101 (hl.at rfl) ?_
                refine lv_iload hx hb dX0_who_103 (hl.at rfl) ?_
                refine lv_ior hx hb dX0_who_105 ?_
                refine l_istore hx hb 6 dX0_who_106 hl rfl (fun ls hl => ?_)
                refine l_inc1 hx hb 7 dX0_who_108 hl rfl rfl (fun ls hl => ?_)
                refine lv_goto (tgt := 49) hx hb dX0_who_111 rfl ?_
                first | exact ih (x0 + 1) _ _ (by omega) (by omega) hX2 _ _ _ hP hS (by rw [wo_, if_neg (by rw [← p66]; exact c70)]; exact hl) | exact ih (x0 + 1) _ _ (by omega) (by omega) hX2 _ _ _ hP hS (by rw [wo_, if_pos (by rw [← p66]; exact c70), if_neg c82]; exact hl) | exact ih (x0 + 1) _ _ (by omega) (by omega) hX2 _ _ _ hP hS (by rw [wo_, if_pos (by rw [← p66]; exact c70), if_pos c82]; exact hl)
            · refine lv_goto (tgt := 108) hx hb dX0_who_73 rfl ?_
              refine l_inc1 hx hb 7 dX0_who_108 hl rfl rfl (fun ls hl => ?_)
              refine lv_goto (tgt := 49) hx hb dX0_who_111 rfl ?_
              first | exact ih (x0 + 1) _ _ (by omega) (by omega) hX2 _ _ _ hP hS (by rw [wo_, if_neg (by rw [← p66]; exact c70)]; exact hl) | exact ih (x0 + 1) _ _ (by omega) (by omega) hX2 _ _ _ hP hS (by rw [wo_, if_pos (by rw [← p66]; exact c70), if_neg c82]; exact hl) | exact ih (x0 + 1) _ _ (by omega) (by omega) hX2 _ _ _ hP hS (by rw [wo_, if_pos (by rw [← p66]; exact c70), if_pos c82]; exact hl)
      exact loop (2 ^ wh (T 0) + 1) 0 U ρ (by omega) (by omega) hX _ _ _ hP hS hl
    · refine l_ifne_0 hx hb 25 dX0_who_16 rfl ?_
      refine lv_aload_n hx hb dX0_who_19 rfl (hl.at rfl) ?_
      refine lv_iconst (v := nI 1) hx hb dX0_who_20 rfl ?_
      refine x_iV hC hK hP hS (x_rWB hK hP hn) (cX0_finds_ hn hD (k := 1) rfl (by decide)) cv_X0_173 rfl rfl hl.1 (Nat.le_of_ble_eq_true rfl) dX0_who_21 (rk (by decide) (by decide)) ⟨Nat.le_refl _, Nat.le_refl _⟩ (fun r21 U21 H locs p21 hP hS => ?_)
      refine hret _ _ ls _ _ (_, _, _) hP hS dX0_who_24 ?_
      dsimp only
      first | (rw [op_who, if_neg p4]; exact hX.e p21 (by decide)) | (rw [op_who, if_pos p4, if_neg p13]; exact hX.e p21 (by decide)) | (rw [op_who, if_pos p4, if_pos p13, ← e5, if_pos ⟨(nI_eq (by omega) (by decide)).mp c115, in_12 p121⟩]; exact hX1.e p129 (by decide)) | (rw [op_who, if_pos p4, if_pos p13, ← e5, if_neg (fun z => c115 (by rw [show (wo_ (T 0) x x0).1 = 0 from z.1]; rfl)), if_pos c134]; exact ⟨rfl, hX1⟩) | (rw [op_who, if_pos p4, if_pos p13, ← e5, if_neg (fun z => c115 (by rw [show (wo_ (T 0) x x0).1 = 0 from z.1]; rfl)), if_neg c134, if_pos c143]; exact ⟨rfl, hX1⟩) | (rw [op_who, if_pos p4, if_pos p13, ← e5, if_neg (fun z => c115 (by rw [show (wo_ (T 0) x x0).1 = 0 from z.1]; rfl)), if_neg c134, if_neg c143, if_pos c153]; exact ⟨rfl, hX1⟩) | (rw [op_who, if_pos p4, if_pos p13, ← e5, if_neg (fun z => c115 (by rw [show (wo_ (T 0) x x0).1 = 0 from z.1]; rfl)), if_neg c134, if_neg c143, if_neg c153]; exact ⟨rfl, hX1⟩) | (rw [op_who, if_pos p4, if_pos p13, ← e5, if_neg (fun z => p121 (by rcases z.2 with h | h <;> rw [h] <;> decide)), if_pos c134]; exact ⟨rfl, hX1⟩) | (rw [op_who, if_pos p4, if_pos p13, ← e5, if_neg (fun z => p121 (by rcases z.2 with h | h <;> rw [h] <;> decide)), if_neg c134, if_pos c143]; exact ⟨rfl, hX1⟩) | (rw [op_who, if_pos p4, if_pos p13, ← e5, if_neg (fun z => p121 (by rcases z.2 with h | h <;> rw [h] <;> decide)), if_neg c134, if_neg c143, if_pos c153]; exact ⟨rfl, hX1⟩) | (rw [op_who, if_pos p4, if_pos p13, ← e5, if_neg (fun z => p121 (by rcases z.2 with h | h <;> rw [h] <;> decide)), if_neg c134, if_neg c143, if_neg c153]; exact ⟨rfl, hX1⟩)
  · refine l_ifeq_0 hx hb 19 dX0_who_7 rfl ?_
    refine lv_aload_n hx hb dX0_who_19 rfl (hl.at rfl) ?_
    refine lv_iconst (v := nI 1) hx hb dX0_who_20 rfl ?_
    refine x_iV hC hK hP hS (x_rWB hK hP hn) (cX0_finds_ hn hD (k := 1) rfl (by decide)) cv_X0_173 rfl rfl hl.1 (Nat.le_of_ble_eq_true rfl) dX0_who_21 (rk (by decide) (by decide)) ⟨Nat.le_refl _, Nat.le_refl _⟩ (fun r21 U21 H locs p21 hP hS => ?_)
    refine hret _ _ ls _ _ (_, _, _) hP hS dX0_who_24 ?_
    dsimp only
    first | (rw [op_who, if_neg p4]; exact hX.e p21 (by decide)) | (rw [op_who, if_pos p4, if_neg p13]; exact hX.e p21 (by decide)) | (rw [op_who, if_pos p4, if_pos p13, ← e5, if_pos ⟨(nI_eq (by omega) (by decide)).mp c115, in_12 p121⟩]; exact hX1.e p129 (by decide)) | (rw [op_who, if_pos p4, if_pos p13, ← e5, if_neg (fun z => c115 (by rw [show (wo_ (T 0) x x0).1 = 0 from z.1]; rfl)), if_pos c134]; exact ⟨rfl, hX1⟩) | (rw [op_who, if_pos p4, if_pos p13, ← e5, if_neg (fun z => c115 (by rw [show (wo_ (T 0) x x0).1 = 0 from z.1]; rfl)), if_neg c134, if_pos c143]; exact ⟨rfl, hX1⟩) | (rw [op_who, if_pos p4, if_pos p13, ← e5, if_neg (fun z => c115 (by rw [show (wo_ (T 0) x x0).1 = 0 from z.1]; rfl)), if_neg c134, if_neg c143, if_pos c153]; exact ⟨rfl, hX1⟩) | (rw [op_who, if_pos p4, if_pos p13, ← e5, if_neg (fun z => c115 (by rw [show (wo_ (T 0) x x0).1 = 0 from z.1]; rfl)), if_neg c134, if_neg c143, if_neg c153]; exact ⟨rfl, hX1⟩) | (rw [op_who, if_pos p4, if_pos p13, ← e5, if_neg (fun z => p121 (by rcases z.2 with h | h <;> rw [h] <;> decide)), if_pos c134]; exact ⟨rfl, hX1⟩) | (rw [op_who, if_pos p4, if_pos p13, ← e5, if_neg (fun z => p121 (by rcases z.2 with h | h <;> rw [h] <;> decide)), if_neg c134, if_pos c143]; exact ⟨rfl, hX1⟩) | (rw [op_who, if_pos p4, if_pos p13, ← e5, if_neg (fun z => p121 (by rcases z.2 with h | h <;> rw [h] <;> decide)), if_neg c134, if_neg c143, if_pos c153]; exact ⟨rfl, hX1⟩) | (rw [op_who, if_pos p4, if_pos p13, ← e5, if_neg (fun z => p121 (by rcases z.2 with h | h <;> rw [h] <;> decide)), if_neg c134, if_neg c143, if_neg c153]; exact ⟨rfl, hX1⟩)
theorem cX0_image_ {l : Launch} {D : va_G} {cA : Nat → ClassId} {ad : Nat → Nat} {n : Nat} {f0 : Nat → va_E} {ρ : Nat → Nat → Option Nat} {r : Nat × Nat} {U : Nat → Nat → Nat → Int32} (hn : 81 ≤ n) {A : Nat → Prop} (hD : gD A ad n) {T : Tta} (hX : CQ cA ad n f0 U ρ r T) (hI : Inv (T 0)) : XIq l D cA ad n f0 ρ r U A yX0_image cX0_image 1 (some .int) (2) [.ref (ad 0)] (fun o V ρ1 r1 => o = (op_image T).1 ∧ CQ cA ad n f0 V ρ1 r1 (op_image T).2) := by
  refine Ci.of rfl (by decide +kernel) (Nat.le_of_ble_eq_true rfl) ?_
  intro p e s m args below meth c Q hC hK hP hret ls hl
  have hx := hC.1
  have hb := hC.2.1
  have hown := hC.2.2.2.1
  have hts := hC.2.2.2.2
  have hS : va_S A s.heap s.heap [] := va_S.rf
  have hT : CT U r T := hX.1
  have hQ : HQ cA ad f0 n ρ (T 0) r.1 := hX.2.1
  have hr2 : r.2 < 3 := hT.lt2
  have hne : r.1 ≠ r.2 := hT.1.2.2
  have hr23 : r.2 ≠ 3 := by omega
  have hr : r.1 < 3 := hT.lt
  have e0 : U r.1 = T 0 := hT.2.1
  have hI2 : Inv (U r.1) := by rw [e0]; exact hI
  have hQ2 : HQ cA ad f0 n ρ (U r.1) r.1 := by rw [e0]; exact hQ
  have hr3 : r.1 ≠ 3 := by omega
  obtain ⟨eN, h8⟩ := inv_wh hI2
  have eH : U r.1 0 1 = nI (hrv (T 0)) := by rw [e0]; exact (inv_hr hI).1
  have hH := (inv_hr hI).2
  refine lv_aload_n hx hb dX0_image_0 rfl (hl.at rfl) ?_
  refine c_get hC hK hP 0 (by omega) (wo_wb) rfl in_X0 4 (by decide) q256 rfl rfl dX0_image_1 ?_
  refine lv_aload_n hx hb dX0_image_4 rfl (hl.at rfl) ?_
  refine c_get hC hK hP 0 (by omega) (wo_wb) rfl in_X0 2 (by decide) q254 rfl rfl dX0_image_5 ?_
  refine x_vVq hC hK hP hS (x_rHO (by decide) hK hP hn) (cX1_become_ hn hD (by decide) hr (by have := hT.1.1; omega) hI2 (hq_tx hQ2)) cv_X0_309 rfl rfl hl.1 (Nat.le_of_ble_eq_true rfl) dX0_image_8 (rk (by decide) (by decide)) ⟨Nat.le_refl _, Nat.le_refl _⟩ (fun U8 ρ8 q8 H locs p8 hP hS => ?_)
  obtain ⟨rfl, rfl, e8⟩ := p8
  rw [e8] at hP
  refine lv_aload_n hx hb dX0_image_11 rfl (hl.at rfl) ?_
  refine lv_dup hx hb dX0_image_12 rfl ?_
  refine c_get hC hK hP 0 (by omega) (wo_wb) rfl in_X0 9 (by decide) q261 rfl rfl dX0_image_13 ?_
  refine lv_iconst (v := nI 1) hx hb dX0_image_16 rfl ?_
  refine lv_iadd hx hb dX0_image_17 ?_
  refine c_put (ty := .int) hC hK hP hD hS 0 (by omega) (wo_wb) rfl in_X0 tyX0_ok nmX0 9 (by decide) q261 rfl rfl (by decide +kernel) rfl rfl (by show 9 < 15; decide) (cp_images hn) dX0_image_18 (fun H locs hP hS => ?_)
  refine lv_aload_n hx hb dX0_image_21 rfl (hl.at rfl) ?_
  refine c_get hC hK hP 0 (by omega) (wo_wb) rfl in_X0 9 (by decide) q261 rfl rfl dX0_image_22 ?_
  refine hret _ _ ls _ _ (_, _, _) hP hS dX0_image_25 ?_
  dsimp only
  show _ = T 2 3 0 + nI 1 ∧ CQ cA ad n f0 _ _ r (tX (tK T (T 0)) 3 (fun _ => T 2 3 0 + nI 1))
  refine ⟨?_, ?_⟩
  · rw [up3_s, up1_s, uS_n (by decide), hT.2.2.2 3 0 (by decide) (by decide)]
  · have h4 : CT (uS U 2 (U r.1)) r (tK T (T 0)) := by rw [e0]; exact hT.K
    have z1 := hT.1.1
    exact ⟨h4.X 3 (fun j hj => by rw [uS_n (by decide), hT.2.2.2 3 0 (by decide) (by decide)]), hq_ρ hQ (bρ_n (by omega) (by omega)) (bρ_n (by omega) (by omega)), hq_bec hQ, hX.2.2.2.cg (bρ_n (by omega) (by omega)) (show tX (tK T (T 0)) 3 _ 2 4 = T 2 4 from tX_2n (by decide)) (show tX (tK T (T 0)) 3 _ 2 5 = T 2 5 from tX_2n (by decide)) (show tX (tK T (T 0)) 3 _ 2 6 = T 2 6 from tX_2n (by decide))⟩
theorem cX0_restore_ {l : Launch} {D : va_G} {cA : Nat → ClassId} {ad : Nat → Nat} {n : Nat} {f0 : Nat → va_E} {ρ : Nat → Nat → Option Nat} {r : Nat × Nat} {U : Nat → Nat → Nat → Int32} (hn : 81 ≤ n) {A : Nat → Prop} (hD : gD A ad n) {T : Tta} (hX : CQ cA ad n f0 U ρ r T) (hI : Inv (T 0)) (hI1 : Inv (T 1)) : XIq l D cA ad n f0 ρ r U A yX0_restore cX0_restore 1 (some .int) (2) [.ref (ad 0)] (fun o V ρ1 r1 => o = (op_restore T).1 ∧ CQ cA ad n f0 V ρ1 r1 (op_restore T).2) := by
  refine Ci.of rfl (by decide +kernel) (Nat.le_of_ble_eq_true rfl) ?_
  intro p e s m args below meth c Q hC hK hP hret ls hl
  have hx := hC.1
  have hb := hC.2.1
  have hown := hC.2.2.2.1
  have hts := hC.2.2.2.2
  have hS : va_S A s.heap s.heap [] := va_S.rf
  have hT : CT U r T := hX.1
  have hQ : HQ cA ad f0 n ρ (T 0) r.1 := hX.2.1
  have hr2 : r.2 < 3 := hT.lt2
  have hne : r.1 ≠ r.2 := hT.1.2.2
  have hr23 : r.2 ≠ 3 := by omega
  have hr : r.1 < 3 := hT.lt
  have e0 : U r.1 = T 0 := hT.2.1
  have hI2 : Inv (U r.1) := by rw [e0]; exact hI
  have hQ2 : HQ cA ad f0 n ρ (U r.1) r.1 := by rw [e0]; exact hQ
  have hr3 : r.1 ≠ 3 := by omega
  obtain ⟨eN, h8⟩ := inv_wh hI2
  have eH : U r.1 0 1 = nI (hrv (T 0)) := by rw [e0]; exact (inv_hr hI).1
  have hH := (inv_hr hI).2
  refine lv_aload_n hx hb dX0_restore_0 rfl (hl.at rfl) ?_
  refine c_get hC hK hP 0 (by omega) (wo_wb) rfl in_X0 9 (by decide) q261 rfl rfl dX0_restore_1 ?_
  refine l_top _ (hT.2.2.2 3 0 (by decide) (by decide)) ?_
  refine lv_if_ne (tgt := 13) hx hb dX0_restore_4 rfl (fun c4 => ?_) (fun c4 => ?_)
  · refine lv_aload_n hx hb dX0_restore_13 rfl (hl.at rfl) ?_
    refine c_get hC hK hP 0 (by omega) (wo_wb) rfl in_X0 2 (by decide) q254 rfl rfl dX0_restore_14 ?_
    refine lv_aload_n hx hb dX0_restore_17 rfl (hl.at rfl) ?_
    refine c_get hC hK hP 0 (by omega) (wo_wb) rfl in_X0 4 (by decide) q256 rfl rfl dX0_restore_18 ?_
    refine x_vVq hC hK hP hS (x_rHO hr hK hP hn) (cX1_become_ hn hD hr (by decide) (by have := hT.1.1; omega) (by rw [hT.2.2.1]; exact hI1) (hq_tx hX.2.2.1)) cv_X0_309 rfl rfl hl.1 (Nat.le_of_ble_eq_true rfl) dX0_restore_21 (rk (by decide) (by decide)) ⟨Nat.le_refl _, Nat.le_refl _⟩ (fun U21 ρ21 q21 H locs p21 hP hS => ?_)
    obtain ⟨rfl, rfl, e8⟩ := p21
    rw [e8] at hP
    refine lv_aload_n hx hb dX0_restore_24 rfl (hl.at rfl) ?_
    refine c_get hC hK hP 0 (by omega) (wo_wb) rfl in_X0 2 (by decide) q254 rfl rfl dX0_restore_25 ?_
    refine c_getN hC hK hP (3 + 22 * r.1) (by omega) (wo_ho hr) rfl in_X1 1 (by decide) q146 rfl rfl dX0_restore_28 ?_
    refine hret _ _ ls _ _ (_, _, _) hP hS dX0_restore_31 ?_
    dsimp only
    first | (rw [op_restore, if_pos c4]; exact hX.e p9 (by decide)) | (rw [op_restore, if_neg c4]; have z1 := hT.1.1; exact ⟨by rw [uS_s, hT.2.2.1], by rw [hT.2.2.1]; exact hT.S, hq_bec hX.2.2.1, hq_ρ hX.2.2.1 (bρ_n (by omega) (by omega)) (bρ_n (by omega) (by omega)), hX.2.2.2.cg (bρ_n (by omega) (by omega)) rfl rfl rfl⟩)
  · refine lv_aload_n hx hb dX0_restore_7 rfl (hl.at rfl) ?_
    refine lv_iconst (v := nI 2) hx hb dX0_restore_8 rfl ?_
    refine x_iV hC hK hP hS (x_rWB hK hP hn) (cX0_finds_ hn hD (k := 2) rfl (by decide)) cv_X0_173 rfl rfl hl.1 (Nat.le_of_ble_eq_true rfl) dX0_restore_9 (rk (by decide) (by decide)) ⟨Nat.le_refl _, Nat.le_refl _⟩ (fun r9 U9 H locs p9 hP hS => ?_)
    refine hret _ _ ls _ _ (_, _, _) hP hS dX0_restore_12 ?_
    dsimp only
    first | (rw [op_restore, if_pos c4]; exact hX.e p9 (by decide)) | (rw [op_restore, if_neg c4]; have z1 := hT.1.1; exact ⟨by rw [uS_s, hT.2.2.1], by rw [hT.2.2.1]; exact hT.S, hq_bec hX.2.2.1, hq_ρ hX.2.2.1 (bρ_n (by omega) (by omega)) (bρ_n (by omega) (by omega)), hX.2.2.2.cg (bρ_n (by omega) (by omega)) rfl rfl rfl⟩)
