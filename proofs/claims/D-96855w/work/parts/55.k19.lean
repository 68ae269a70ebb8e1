theorem cs_X0_380 : CS RX0 380 yX0_numberOf cX0_numberOf 2 (some .int) 2 := ⟨lw_S q1259 q1260 q83 q1261, by decide +kernel⟩
theorem cX0_forces_ {l : Launch} {D : va_G} {cA : Nat → ClassId} {ad : Nat → Nat} {n : Nat} {f0 : Nat → va_E} {ρ : Nat → Nat → Option Nat} {r : Nat × Nat} {U : Nat → Nat → Nat → Int32} (hn : 81 ≤ n) {A : Nat → Prop} (hD : gD A ad n) {x : Int32} {T : Tta} (hX : CQ cA ad n f0 U ρ r T) (hI : Inv (T 0)) : XIq l D cA ad n f0 ρ r U A yX0_forces cX0_forces 4 (some .int) (2) [.ref (ad 0), .int x] (fun o V ρ1 r1 => o = (op_forces x T).1 ∧ CQ cA ad n f0 V ρ1 r1 (op_forces x T).2) := by
  refine Ci.of rfl (by decide +kernel) (Nat.le_of_ble_eq_true rfl) ?_
  intro p e s m args below meth c Q hC hK hP hret ls hl
  have hx := hC.1
  have hb := hC.2.1
  have hown := hC.2.2.2.1
  have hts := hC.2.2.2.2
  have hS : va_S A s.heap s.heap [] := va_S.rf
  have hT : CT U r T := hX.1
  have hQ : HQ cA ad f0 n ρ (T 0) r.1 := hX.2.1
  have hr2 : r.2 < 3 := hT.lt2
  have hne : r.1 ≠ r.2 := hT.1.2.2
  have hr23 : r.2 ≠ 3 := by omega
  have hr : r.1 < 3 := hT.lt
  have e0 : U r.1 = T 0 := hT.2.1
  have hI2 : Inv (U r.1) := by rw [e0]; exact hI
  have hQ2 : HQ cA ad f0 n ρ (U r.1) r.1 := by rw [e0]; exact hQ
  have hr3 : r.1 ≠ 3 := by omega
  obtain ⟨eN, h8⟩ := inv_wh hI2
  have eH : U r.1 0 1 = nI (hrv (T 0)) := by rw [e0]; exact (inv_hr hI).1
  have hH := (inv_hr hI).2
  rw [e0] at eN h8
  refine lv_iload_n hx hb dX0_forces_0 rfl (hl.at rfl) ?_
  refine x_sS hC (cX0_isSheet_ ) cs_X0_363 rfl rfl hl.1 (Nat.le_of_ble_eq_true rfl) dX0_forces_1 (rk (by decide) (by decide)) ⟨Nat.le_refl _, Nat.le_refl _⟩ (fun r1 p1 => ?_)
  rcases p1 with ⟨rfl, p1⟩ | ⟨rfl, p1⟩
  · obtain ⟨k, hk, rfl⟩ := in_nI p1
    refine l_ifne_1 hx hb 13 dX0_forces_4 rfl ?_
    rcases hX.2.2.2.1 k (by omega) with ⟨hb0, s0⟩ | ⟨w, z, t, g, s0, w1, w2, ht, hz, hw, sb, ss, sg⟩
    · refine lv_aload_n hx hb dX0_forces_13 rfl (hl.at rfl) ?_
      refine c_get hC hK hP 0 (by omega) (wo_wb) rfl in_X0 7 (by decide) q259 rfl rfl dX0_forces_14 ?_
      refine lv_iload_n hx hb dX0_forces_17 rfl (hl.at rfl) ?_
      refine x_ald hC hK hP 72 (by omega) 3 wo_sh rfl k (rfl) ((show k < 4 by omega)) (by decide) dX0_forces_18 ?_
      refine c_getN hC hK hP (73 + k) (by omega) (wo_sk ((show k < 4 by omega))) rfl in_X2 0 (by decide) q136 rfl (show ([rf ad (ρ 6 k)] : List Value)[0]? = some .null from by simp [rf, s0, va_rf]) dX0_forces_19 ?_
      refine l_astore_nN hx hb 2 dX0_forces_22 rfl hl rfl (fun ls hl => ?_)
      refine lv_aload_nN hx hb dX0_forces_23 rfl (hl.at rfl) ?_
      refine lv_ifnonnullN hx hb dX0_forces_24 ?_
      refine lv_aload_n hx hb dX0_forces_27 rfl (hl.at rfl) ?_
      refine lv_iconst (v := nI 2) hx hb dX0_forces_28 rfl ?_
      refine x_iV hC hK hP hS (x_rWB hK hP hn) (cX0_finds_ hn hD (k := 2) rfl (by decide)) cv_X0_173 rfl rfl hl.1 (Nat.le_of_ble_eq_true rfl) dX0_forces_29 (rk (by decide) (by decide)) ⟨Nat.le_refl _, Nat.le_refl _⟩ (fun r29 U29 H locs p29 hP hS => ?_)
      refine hret _ _ ls _ _ (_, _, _) hP hS dX0_forces_32 ?_
      dsimp only
      first | (rw [op_forces, lk_1 p1, if_neg (by decide)]; exact hX.e p9 (by decide)) | (rw [op_forces, lk_2 (by omega) hb0, if_neg (by decide)]; exact hX.e p29 (by decide)) | (rw [op_forces, lk_0 (by omega) (sbt_0 sb), if_pos rfl, cn_nI (by omega), ss, cn_nI (by omega), hw2]; exact ⟨rfl, hX.S hT.S (hq_fc hQ _)⟩)
    · refine lv_aload_n hx hb dX0_forces_13 rfl (hl.at rfl) ?_
      refine c_get hC hK hP 0 (by omega) (wo_wb) rfl in_X0 7 (by decide) q259 rfl rfl dX0_forces_14 ?_
      refine lv_iload_n hx hb dX0_forces_17 rfl (hl.at rfl) ?_
      refine x_ald hC hK hP 72 (by omega) 3 wo_sh rfl k (rfl) ((show k < 4 by omega)) (by decide) dX0_forces_18 ?_
      refine c_getN hC hK hP (73 + k) (by omega) (wo_sk ((show k < 4 by omega))) rfl in_X2 0 (by decide) q136 rfl (show ([rf ad (ρ 6 k)] : List Value)[0]? = some (.ref (ad w)) from by simp [rf, s0, va_rf]) dX0_forces_19 ?_
      refine l_astore_n hx hb 2 dX0_forces_22 rfl hl rfl (fun ls hl => ?_)
      refine lv_aload_n hx hb dX0_forces_23 rfl (hl.at rfl) ?_
      refine lv_ifnonnull (tgt := 33) hx hb dX0_forces_24 rfl ?_
      refine lv_iconst (v := nI 0) hx hb dX0_forces_33 rfl ?_
      refine l_istore_n hx hb 3 dX0_forces_34 rfl hl rfl (fun ls hl => ?_)
      have loop : ∀ (i c0 : Nat), c0 ≤ z → z + 1 ≤ c0 + i → fcn (nums T k) (z - c0) c0 = fcn (nums T k) z 0 → ∀ (H : Heap) (locs : List Loc) (ls : Array Slot), XW D cA ad n f0 ρ r (uS U r.1 (fcS (T 0) (nums T k) c0)) H → va_S A s.heap H locs → lh ls [some (.ref (ad 0)), some (.int (nI k)), some (.ref (ad w)), some (.int (nI c0))] → W p l e (rmG 2 0 0) s m args below meth c H locs 0 0 Q (F0 m 35 ls []) := by
        intro i
        induction i with
        | zero => intro c0 h1 h2; exact absurd h2 (by omega)
        | succ i ih =>
          intro c0 h1 h2 hfc H locs ls hP hS hl
          refine lv_iload_n hx hb dX0_forces_35 rfl (hl.at rfl) ?_
          refine lv_aload_n hx hb dX0_forces_36 rfl (hl.at rfl) ?_
          refine x_pS hC hK hP  (cX0_sizeOf_ hn ht w1 w2 hw) cs_X0_368 rfl rfl hl.1 (Nat.le_of_ble_eq_true rfl) dX0_forces_37 (rk (by decide) (by decide)) ⟨Nat.le_refl _, Nat.le_refl _⟩ (fun r37 p37 => ?_)
          subst p37
          refine l_geN hx hb 84 dX0_forces_40 rfl (by omega) (by omega) (fun c40 => ?_) (fun c40 => ?_)
          · have e5 : c0 = z := by omega
            have hw2 : fcn (nums T k) z 0 = c0 := by rw [← hfc, e5, Nat.sub_self]; rfl
            refine lv_iload_n hx hb dX0_forces_84 rfl (hl.at rfl) ?_
            refine hret _ _ ls _ _ (_, _, _) hP hS dX0_forces_85 ?_
            dsimp only
            first | (rw [op_forces, lk_1 p1, if_neg (by decide)]; exact hX.e p9 (by decide)) | (rw [op_forces, lk_2 (by omega) hb0, if_neg (by decide)]; exact hX.e p29 (by decide)) | (rw [op_forces, lk_0 (by omega) (sbt_0 sb), if_pos rfl, cn_nI (by omega), ss, cn_nI (by omega), hw2]; exact ⟨rfl, hX.S hT.S (hq_fc hQ _)⟩)
          · refine lv_iload_n hx hb dX0_forces_43 rfl (hl.at rfl) ?_
            refine lv_bipush (v := nI 24) hx hb dX0_forces_44 rfl ?_
            refine l_geN hx hb 84 dX0_forces_46 rfl (by omega) (by omega) (fun c46 => ?_) (fun c46 => ?_)
            · exact absurd c46 (by omega)
            · refine lv_aload_n hx hb dX0_forces_49 rfl (hl.at rfl) ?_
              refine lv_iload_n hx hb dX0_forces_50 rfl (hl.at rfl) ?_
              refine x_pS hC hK hP  (cX0_numberOf_ hn ht w1 w2 hw rfl (by omega) hz) cs_X0_380 rfl rfl hl.1 (Nat.le_of_ble_eq_true rfl) dX0_forces_51 (rk (by decide) (by decide)) ⟨Nat.le_refl _, Nat.le_refl _⟩ (fun r51 p51 => ?_)
              have ec : r51 = nums T k c0 := by rw [p51]; exact sg c0 (by omega)
              refine lv_iconst (v := nI 0) hx hb dX0_forces_54 rfl ?_
              refine lv_bipush (v := nI 99) hx hb dX0_forces_55 rfl ?_
              refine x_sS hC (cX0_isIn_ ) cs_X0_122 rfl rfl hl.1 (Nat.le_of_ble_eq_true rfl) dX0_forces_57 (rk (by decide) (by decide)) ⟨Nat.le_refl _, Nat.le_refl _⟩ (fun r57 p57 => ?_)
              rcases p57 with ⟨rfl, p57⟩ | ⟨rfl, p57⟩
              · have hbd : Bd r51 99 := in_nI p57
                refine l_ifeq_1 hx hb 84 dX0_forces_60 rfl ?_
                refine lv_aload_n hx hb dX0_forces_63 rfl (hl.at rfl) ?_
                refine c_get hC hK hP 0 (by omega) (wo_wb) rfl in_X0 2 (by decide) q254 rfl rfl dX0_forces_64 ?_
                refine c_getN hC hK hP (3 + 22 * r.1) (by omega) (wo_ho hr) rfl in_X1 6 (by decide) q156 rfl rfl dX0_forces_67 ?_
                refine lv_iload_n hx hb dX0_forces_70 rfl (hl.at rfl) ?_
                refine lv_aload_n hx hb dX0_forces_71 rfl (hl.at rfl) ?_
                refine lv_iload_n hx hb dX0_forces_72 rfl (hl.at rfl) ?_
                refine x_pS hC hK hP  (cX0_numberOf_ hn ht w1 w2 hw rfl (by omega) hz) cs_X0_380 rfl rfl hl.1 (Nat.le_of_ble_eq_true rfl) dX0_forces_73 (rk (by decide) (by decide)) ⟨Nat.le_refl _, Nat.le_refl _⟩ (fun r73 p73 => ?_)
                rw [← p51] at p73
                refine lv_i2b hx hb dX0_forces_76 (nB_bd (by rw [p73]; exact hbd) (by decide)) ?_
                refine c_stb hC hK hP hD hS (3 + 22 * r.1 + 1) (by omega) (c_ldH r.1 1 1 1 24 hr (by decide) (fun _ _ _ => rfl)) _ (nB_bd (by rw [p73]; exact hbd) (by decide)) _ (rfl) (show _ < 24 by omega) (by decide) (c_wH r.1 1 1 1 24 hr hn (by decide) rfl (fun _ _ _ => rfl)) dX0_forces_77 (fun H locs hP hS => ?_)
                refine l_inc1 hx hb 3 dX0_forces_78 hl rfl rfl (fun ls hl => ?_)
                refine lv_goto (tgt := 35) hx hb dX0_forces_81 rfl ?_
                exact ih (c0 + 1) (by omega) (by omega) (by rw [← hfc, show z - c0 = (z - (c0 + 1)) + 1 by omega, fcn, if_pos (by rw [← ec]; exact p57)]) _ _ _ (by simp only [up3_uS, uS_uS, uS_s] at hP; rw [fcS, ← ec, ← p73]; exact hP) hS hl
              · have hw2 : fcn (nums T k) z 0 = c0 := by rw [← hfc, show z - c0 = (z - (c0 + 1)) + 1 by omega, fcn, if_neg (by rw [← ec]; exact p57)]
                refine l_ifeq_0 hx hb 84 dX0_forces_60 rfl ?_
                refine lv_iload_n hx hb dX0_forces_84 rfl (hl.at rfl) ?_
                refine hret _ _ ls _ _ (_, _, _) hP hS dX0_forces_85 ?_
                dsimp only
                first | (rw [op_forces, lk_1 p1, if_neg (by decide)]; exact hX.e p9 (by decide)) | (rw [op_forces, lk_2 (by omega) hb0, if_neg (by decide)]; exact hX.e p29 (by decide)) | (rw [op_forces, lk_0 (by omega) (sbt_0 sb), if_pos rfl, cn_nI (by omega), ss, cn_nI (by omega), hw2]; exact ⟨rfl, hX.S hT.S (hq_fc hQ _)⟩)
      exact loop (z + 1) 0 (by omega) (by omega) rfl _ _ _ (by rw [fcS, ← e0, uS_self]; exact hP) hS hl
  · refine l_ifne_0 hx hb 13 dX0_forces_4 rfl ?_
    refine lv_aload_n hx hb dX0_forces_7 rfl (hl.at rfl) ?_
    refine lv_iconst (v := nI 1) hx hb dX0_forces_8 rfl ?_
    refine x_iV hC hK hP hS (x_rWB hK hP hn) (cX0_finds_ hn hD (k := 1) rfl (by decide)) cv_X0_173 rfl rfl hl.1 (Nat.le_of_ble_eq_true rfl) dX0_forces_9 (rk (by decide) (by decide)) ⟨Nat.le_refl _, Nat.le_refl _⟩ (fun r9 U9 H locs p9 hP hS => ?_)
    refine hret _ _ ls _ _ (_, _, _) hP hS dX0_forces_12 ?_
    dsimp only
    first | (rw [op_forces, lk_1 p1, if_neg (by decide)]; exact hX.e p9 (by decide)) | (rw [op_forces, lk_2 (by omega) hb0, if_neg (by decide)]; exact hX.e p29 (by decide)) | (rw [op_forces, lk_0 (by omega) (sbt_0 sb), if_pos rfl, cn_nI (by omega), ss, cn_nI (by omega), hw2]; exact ⟨rfl, hX.S hT.S (hq_fc hQ _)⟩)
theorem cX0_judge_ {l : Launch} {D : va_G} {cA : Nat → ClassId} {ad : Nat → Nat} {n : Nat} {f0 : Nat → va_E} {ρ : Nat → Nat → Option Nat} {r : Nat × Nat} {U : Nat → Nat → Nat → Int32} (hn : 81 ≤ n) {A : Nat → Prop} (hD : gD A ad n) {x : Int32} {T : Tta} (hX : CQ cA ad n f0 U ρ r T) (hI : Inv (T 0)) : XIq l D cA ad n f0 ρ r U A yX0_judge cX0_judge 4 (some .int) (7) [.ref (ad 0), .int x] (fun o V ρ1 r1 => o = (op_judge x T).1 ∧ CQ cA ad n f0 V ρ1 r1 (op_judge x T).2) := by
  refine Ci.of rfl (by decide +kernel) (Nat.le_of_ble_eq_true rfl) ?_
  intro p e s m args below meth c Q hC hK hP hret ls hl
  have hx := hC.1
  have hb := hC.2.1
  have hown := hC.2.2.2.1
  have hts := hC.2.2.2.2
  have hS : va_S A s.heap s.heap [] := va_S.rf
  have hT : CT U r T := hX.1
  have hQ : HQ cA ad f0 n ρ (T 0) r.1 := hX.2.1
  have hr2 : r.2 < 3 := hT.lt2
  have hne : r.1 ≠ r.2 := hT.1.2.2
  have hr23 : r.2 ≠ 3 := by omega
  have hr : r.1 < 3 := hT.lt
  have e0 : U r.1 = T 0 := hT.2.1
  have hI2 : Inv (U r.1) := by rw [e0]; exact hI
  have hQ2 : HQ cA ad f0 n ρ (U r.1) r.1 := by rw [e0]; exact hQ
  have hr3 : r.1 ≠ 3 := by omega
  obtain ⟨eN, h8⟩ := inv_wh hI2
  have eH : U r.1 0 1 = nI (hrv (T 0)) := by rw [e0]; exact (inv_hr hI).1
  have hH := (inv_hr hI).2
  rw [e0] at eN h8
  refine lv_iload_n hx hb dX0_judge_0 rfl (hl.at rfl) ?_
  refine x_sS hC (cX0_isSheet_ ) cs_X0_363 rfl rfl hl.1 (Nat.le_of_ble_eq_true rfl) dX0_judge_1 (rk (by decide) (by decide)) ⟨Nat.le_refl _, Nat.le_refl _⟩ (fun r1 p1 => ?_)
  rcases p1 with ⟨rfl, p1⟩ | ⟨rfl, p1⟩
  · obtain ⟨k, hk, rfl⟩ := in_nI p1
    refine l_ifne_1 hx hb 13 dX0_judge_4 rfl ?_
    rcases hX.2.2.2.1 k (by omega) with ⟨hb0, s0⟩ | ⟨w, z, t, g, s0, w1, w2, ht, hz, hw, sb, ss, sg⟩
    · refine lv_aload_n hx hb dX0_judge_13 rfl (hl.at rfl) ?_
      refine c_get hC hK hP 0 (by omega) (wo_wb) rfl in_X0 7 (by decide) q259 rfl rfl dX0_judge_14 ?_
      refine lv_iload_n hx hb dX0_judge_17 rfl (hl.at rfl) ?_
      refine x_ald hC hK hP 72 (by omega) 3 wo_sh rfl k (rfl) ((show k < 4 by omega)) (by decide) dX0_judge_18 ?_
      refine c_getN hC hK hP (73 + k) (by omega) (wo_sk ((show k < 4 by omega))) rfl in_X2 0 (by decide) q136 rfl (show ([rf ad (ρ 6 k)] : List Value)[0]? = some .null from by simp [rf, s0, va_rf]) dX0_judge_19 ?_
      refine l_astore_nN hx hb 2 dX0_judge_22 rfl hl rfl (fun ls hl => ?_)
      refine lv_aload_nN hx hb dX0_judge_23 rfl (hl.at rfl) ?_
      refine lv_ifnonnullN hx hb dX0_judge_24 ?_
      refine lv_aload_n hx hb dX0_judge_27 rfl (hl.at rfl) ?_
      refine lv_iconst (v := nI 2) hx hb dX0_judge_28 rfl ?_
      refine x_iV hC hK hP hS (x_rWB hK hP hn) (cX0_finds_ hn hD (k := 2) rfl (by decide)) cv_X0_173 rfl rfl hl.1 (Nat.le_of_ble_eq_true rfl) dX0_judge_29 (rk (by decide) (by decide)) ⟨Nat.le_refl _, Nat.le_refl _⟩ (fun r29 U29 H locs p29 hP hS => ?_)
      refine hret _ _ ls _ _ (_, _, _) hP hS dX0_judge_32 ?_
      dsimp only
      first | (rw [op_judge, lk_1 p1, if_neg (by decide)]; exact hX.e p9 (by decide)) | (rw [op_judge, lk_2 (by omega) hb0, if_neg (by decide)]; exact hX.e p29 (by decide)) | (rw [op_judge, lk_0 (by omega) (sbt_0 sb), if_pos rfl, cn_nI (by omega), ss, cn_nI (by omega), hw2]; exact ⟨rfl, hX.k (p34.1.CT hT (by decide))⟩)
    · refine lv_aload_n hx hb dX0_judge_13 rfl (hl.at rfl) ?_
      refine c_get hC hK hP 0 (by omega) (wo_wb) rfl in_X0 7 (by decide) q259 rfl rfl dX0_judge_14 ?_
      refine lv_iload_n hx hb dX0_judge_17 rfl (hl.at rfl) ?_
      refine x_ald hC hK hP 72 (by omega) 3 wo_sh rfl k (rfl) ((show k < 4 by omega)) (by decide) dX0_judge_18 ?_
      refine c_getN hC hK hP (73 + k) (by omega) (wo_sk ((show k < 4 by omega))) rfl in_X2 0 (by decide) q136 rfl (show ([rf ad (ρ 6 k)] : List Value)[0]? = some (.ref (ad w)) from by simp [rf, s0, va_rf]) dX0_judge_19 ?_
      refine l_astore_n hx hb 2 dX0_judge_22 rfl hl rfl (fun ls hl => ?_)
      refine lv_aload_n hx hb dX0_judge_23 rfl (hl.at rfl) ?_
      refine lv_ifnonnull (tgt := 33) hx hb dX0_judge_24 rfl ?_
      refine lv_aload_n hx hb dX0_judge_33 rfl (hl.at rfl) ?_
      refine x_vV hC hK hP hS (x_rWB hK hP hn) (cX0_goDown_ hn hD hr hI2 hQ2) cv_X0_222 rfl rfl hl.1 (Nat.le_of_ble_eq_true rfl) dX0_judge_34 (rk (by decide) (by decide)) ⟨Nat.le_refl _, Nat.le_refl _⟩ (fun U34 H locs p34 hP hS => ?_)
      refine lv_iconst (v := nI 0) hx hb dX0_judge_37 rfl ?_
      refine l_istore_n hx hb 3 dX0_judge_38 rfl hl rfl (fun ls hl => ?_)
      have loop : ∀ (i c0 : Nat), c0 ≤ 12 → 13 ≤ c0 + i → jdn (nums T k) (sp_fl (T 0)).2.2.2.2 z (12 - c0) c0 = jdn (nums T k) (sp_fl (T 0)).2.2.2.2 z 12 0 → ∀ (ls : Array Slot), lh ls [some (.ref (ad 0)), some (.int (nI k)), some (.ref (ad w)), some (.int (nI c0))] → W p l e (rmG 7 0 0) s m args below meth c H locs 0 0 Q (F0 m 39 ls []) := by
        intro i
        induction i with
        | zero => intro c0 h1 h2; exact absurd h2 (by omega)
        | succ i ih =>
          intro c0 h1 h2 hjd ls hl
          refine lv_iload_n hx hb dX0_judge_39 rfl (hl.at rfl) ?_
          refine lv_aload_n hx hb dX0_judge_40 rfl (hl.at rfl) ?_
          refine x_pS hC hK hP  (cX0_sizeOf_ hn ht w1 w2 hw) cs_X0_368 rfl rfl hl.1 (Nat.le_of_ble_eq_true rfl) dX0_judge_41 (rk (by decide) (by decide)) ⟨Nat.le_refl _, Nat.le_refl _⟩ (fun r41 p41 => ?_)
          subst p41
          refine l_geN hx hb 73 dX0_judge_44 rfl (by omega) (by omega) (fun c44 => ?_) (fun c44 => ?_)
          · have hw2 : jdn (nums T k) (sp_fl (T 0)).2.2.2.2 z 12 0 = c0 := by rw [← hjd]; exact jdn_z (by omega)
            refine lv_iload_n hx hb dX0_judge_73 rfl (hl.at rfl) ?_
            refine hret _ _ ls _ _ (_, _, _) hP hS dX0_judge_74 ?_
            dsimp only
            first | (rw [op_judge, lk_1 p1, if_neg (by decide)]; exact hX.e p9 (by decide)) | (rw [op_judge, lk_2 (by omega) hb0, if_neg (by decide)]; exact hX.e p29 (by decide)) | (rw [op_judge, lk_0 (by omega) (sbt_0 sb), if_pos rfl, cn_nI (by omega), ss, cn_nI (by omega), hw2]; exact ⟨rfl, hX.k (p34.1.CT hT (by decide))⟩)
          · refine lv_iload_n hx hb dX0_judge_47 rfl (hl.at rfl) ?_
            refine lv_bipush (v := nI 12) hx hb dX0_judge_48 rfl ?_
            refine l_geN hx hb 73 dX0_judge_50 rfl (by omega) (by omega) (fun c50 => ?_) (fun c50 => ?_)
            · have hw2 : jdn (nums T k) (sp_fl (T 0)).2.2.2.2 z 12 0 = c0 := by rw [← hjd, show 12 - c0 = 0 by omega]; rfl
              refine lv_iload_n hx hb dX0_judge_73 rfl (hl.at rfl) ?_
              refine hret _ _ ls _ _ (_, _, _) hP hS dX0_judge_74 ?_
              dsimp only
              first | (rw [op_judge, lk_1 p1, if_neg (by decide)]; exact hX.e p9 (by decide)) | (rw [op_judge, lk_2 (by omega) hb0, if_neg (by decide)]; exact hX.e p29 (by decide)) | (rw [op_judge, lk_0 (by omega) (sbt_0 sb), if_pos rfl, cn_nI (by omega), ss, cn_nI (by omega), hw2]; exact ⟨rfl, hX.k (p34.1.CT hT (by decide))⟩)
            · refine lv_aload_n hx hb dX0_judge_53 rfl (hl.at rfl) ?_
              refine lv_iload_n hx hb dX0_judge_54 rfl (hl.at rfl) ?_
              refine x_pS hC hK hP  (cX0_numberOf_ hn ht w1 w2 hw rfl (by omega) hz) cs_X0_380 rfl rfl hl.1 (Nat.le_of_ble_eq_true rfl) dX0_judge_55 (rk (by decide) (by decide)) ⟨Nat.le_refl _, Nat.le_refl _⟩ (fun r55 p55 => ?_)
              have ec : r55 = nums T k c0 := by rw [p55]; exact sg c0 (by omega)
              have efl : U34 3 7 c0 = (sp_fl (T 0)).2.2.2.2 c0 := by rw [← e0]; exact p34.fw hI2 (by omega)
              refine lv_aload_n hx hb dX0_judge_58 rfl (hl.at rfl) ?_
              refine c_get hC hK hP 0 (by omega) (wo_wb) rfl in_X0 11 (by decide) q263 rfl rfl dX0_judge_59 ?_
              refine lv_iload_n hx hb dX0_judge_62 rfl (hl.at rfl) ?_
              refine c_ldi hC hK hP 79 (by omega) (wo_79) _ (rfl) (show _ < 12 by omega) (by decide) dX0_judge_63 ?_
              refine lv_icmp_ne (tgt := 73) hx hb dX0_judge_64 rfl (fun c64 => ?_) (fun c64 => ?_)
              · have hw2 : jdn (nums T k) (sp_fl (T 0)).2.2.2.2 z 12 0 = c0 := by rw [← hjd, show 12 - c0 = (12 - (c0 + 1)) + 1 by omega, jdn, if_neg (by omega), if_neg (by rw [← ec, ← efl]; exact c64)]
                refine lv_iload_n hx hb dX0_judge_73 rfl (hl.at rfl) ?_
                refine hret _ _ ls _ _ (_, _, _) hP hS dX0_judge_74 ?_
                dsimp only
                first | (rw [op_judge, lk_1 p1, if_neg (by decide)]; exact hX.e p9 (by decide)) | (rw [op_judge, lk_2 (by omega) hb0, if_neg (by decide)]; exact hX.e p29 (by decide)) | (rw [op_judge, lk_0 (by omega) (sbt_0 sb), if_pos rfl, cn_nI (by omega), ss, cn_nI (by omega), hw2]; exact ⟨rfl, hX.k (p34.1.CT hT (by decide))⟩)
              · refine l_inc1 hx hb 3 dX0_judge_67 hl rfl rfl (fun ls hl => ?_)
                refine lv_goto (tgt := 39) hx hb dX0_judge_70 rfl ?_
                exact ih (c0 + 1) (by omega) (by omega) (by rw [← hjd, show 12 - c0 = (12 - (c0 + 1)) + 1 by omega, jdn, if_neg (by omega), if_pos (by rw [← ec, ← efl]; exact c64)]) ls hl
      exact loop 13 0 (by omega) (by omega) rfl ls hl
  · refine l_ifne_0 hx hb 13 dX0_judge_4 rfl ?_
    refine lv_aload_n hx hb dX0_judge_7 rfl (hl.at rfl) ?_
    refine lv_iconst (v := nI 1) hx hb dX0_judge_8 rfl ?_
    refine x_iV hC hK hP hS (x_rWB hK hP hn) (cX0_finds_ hn hD (k := 1) rfl (by decide)) cv_X0_173 rfl rfl hl.1 (Nat.le_of_ble_eq_true rfl) dX0_judge_9 (rk (by decide) (by decide)) ⟨Nat.le_refl _, Nat.le_refl _⟩ (fun r9 U9 H locs p9 hP hS => ?_)
    refine hret _ _ ls _ _ (_, _, _) hP hS dX0_judge_12 ?_
    dsimp only
    first | (rw [op_judge, lk_1 p1, if_neg (by decide)]; exact hX.e p9 (by decide)) | (rw [op_judge, lk_2 (by omega) hb0, if_neg (by decide)]; exact hX.e p29 (by decide)) | (rw [op_judge, lk_0 (by omega) (sbt_0 sb), if_pos rfl, cn_nI (by omega), ss, cn_nI (by omega), hw2]; exact ⟨rfl, hX.k (p34.1.CT hT (by decide))⟩)
