theorem cX0_held_ {l : Launch} {v lo hi : Int32} (h : lo ≤ hi) : Cp l (fun _ => True) yX0_held cX0_held 3 (some .int) (1) [.int v, .int lo, .int hi] (fun _ => True) (fun x => x = sp_held v lo hi) := by
  refine Cp.of rfl (by decide +kernel) (Nat.le_of_ble_eq_true rfl) ?_
  intro p e s m args below meth c Q hC hK hP hret ls hl
  have hx := hC.1
  have hb := hC.2.1
  have hown := hC.2.2.2.1
  have hts := hC.2.2.2.2
  refine lv_iload_n hx hb dX0_held_0 rfl (hl.at rfl) ?_
  refine lv_iload_n hx hb dX0_held_1 rfl (hl.at rfl) ?_
  refine lv_iload_n hx hb dX0_held_2 rfl (hl.at rfl) ?_
  refine x_min hC q492 hl.1 (by decide) (Nat.le_of_ble_eq_true rfl) ⟨Nat.le_refl _, Nat.le_refl _⟩ dX0_held_3 ?_
  refine x_max hC q559 hl.1 (by decide) (Nat.le_of_ble_eq_true rfl) ⟨Nat.le_refl _, Nat.le_refl _⟩ dX0_held_6 ?_
  refine hret ls _ _ dX0_held_9 ?_
  exact hld_eq h
theorem cX1_turns_ {l : Launch} {D : va_G} {cA : Nat → ClassId} {ad : Nat → Nat} {n : Nat} {f0 : Nat → va_E} {ρ : Nat → Nat → Option Nat} {r : Nat × Nat} {U : Nat → Nat → Nat → Int32} (hn : 81 ≤ n) {A : Nat → Prop} (hD : gD A ad n) {a : Nat} (ha : a < 3) {x u : Int32} {k : Nat} (hx1 : x = nI k) (hk : k < 8) (hI : Inv (U a)) (hu : Bd u 9999) : XV l D cA ad n f0 ρ r U A yX1_turns cX1_turns 3 (1) [.ref (ad (3 + 22 * a)), .int x, .int u] (fun V => V = uS U a (sp_turn1 (U a) k u)) := by
  refine Cv.of (by decide +kernel) (Nat.le_of_ble_eq_true rfl) ?_
  intro p e s m args below meth c Q hC hK hP hret ls hl
  have hx := hC.1
  have hb := hC.2.1
  have hown := hC.2.2.2.1
  have hts := hC.2.2.2.2
  have hS : va_S A s.heap s.heap [] := va_S.rf
  subst hx1
  obtain ⟨f, hf, ef⟩ := inv_bd hI 8 k hk
  replace hf : f ≤ 4 := hf
  have hs1 : Bd (U a 11 k + u) 1010000 := bd_ad2 (inv_bd hI 11 k hk) hu (by decide)
  have hs2 : Bd (U a 4 f + u) 1010000 := bd_ad2 (inv_bd hI 4 f (by show f < 5; omega)) hu (by decide)
  refine lv_aload_n hx hb dX1_turns_0 rfl (hl.at rfl) ?_
  refine c_get hC hK hP (3 + 22 * a) (by omega) (wo_ho ha) rfl in_X1 15 (by decide) q175 rfl rfl dX1_turns_1 ?_
  refine lv_iload_n hx hb dX1_turns_4 rfl (hl.at rfl) ?_
  refine lv_ldc (v := 999999) hx hb hown (hts _ q953) dX1_turns_5 ?_
  refine lv_aload_n hx hb dX1_turns_7 rfl (hl.at rfl) ?_
  refine c_get hC hK hP (3 + 22 * a) (by omega) (wo_ho ha) rfl in_X1 15 (by decide) q175 rfl rfl dX1_turns_8 ?_
  refine lv_iload_n hx hb dX1_turns_11 rfl (hl.at rfl) ?_
  refine c_ldi hC hK hP (3 + 22 * a + 10) (by omega) (c_ldH a 10 11 0 8 ha (by decide) (fun _ _ _ => rfl)) _ (rfl) (show _ < 8 by omega) (by decide) dX1_turns_12 ?_
  refine lv_iload_n hx hb dX1_turns_13 rfl (hl.at rfl) ?_
  refine lv_iadd hx hb dX1_turns_14 ?_
  refine x_min hC q954 hl.1 (by decide) (Nat.le_of_ble_eq_true rfl) ⟨Nat.le_refl _, Nat.le_refl _⟩ dX1_turns_15 ?_
  refine c_sti hC hK hP hD hS (3 + 22 * a + 10) (by omega) (c_ldH a 10 11 0 8 ha (by decide) (fun _ _ _ => rfl)) _ (rfl) (show _ < 8 by omega) (by decide) (c_wH a 10 11 0 8 ha hn (by decide) rfl (fun _ _ _ => rfl)) dX1_turns_18 (fun H locs hP hS => ?_)
  refine lv_aload_n hx hb dX1_turns_19 rfl (hl.at rfl) ?_
  refine c_get hC hK hP (3 + 22 * a) (by omega) (wo_ho ha) rfl in_X1 9 (by decide) q161 rfl rfl dX1_turns_20 ?_
  refine lv_aload_n hx hb dX1_turns_23 rfl (hl.at rfl) ?_
  refine c_get hC hK hP (3 + 22 * a) (by omega) (wo_ho ha) rfl in_X1 12 (by decide) q168 rfl rfl dX1_turns_24 ?_
  refine lv_iload_n hx hb dX1_turns_27 rfl (hl.at rfl) ?_
  refine c_ldb hC hK hP (3 + 22 * a + 7) (by omega) (c_ldH a 7 8 1 8 ha (by decide) (fun _ _ _ => rfl)) _ (rfl) (show _ < 8 by omega) (by decide) dX1_turns_28 ?_
  refine l_top (nI f) (by rw [up3_s, up1_n (by decide)]; exact ef) ?_
  refine lv_ldc (v := 999999) hx hb hown (hts _ q953) dX1_turns_29 ?_
  refine lv_aload_n hx hb dX1_turns_31 rfl (hl.at rfl) ?_
  refine c_get hC hK hP (3 + 22 * a) (by omega) (wo_ho ha) rfl in_X1 9 (by decide) q161 rfl rfl dX1_turns_32 ?_
  refine lv_aload_n hx hb dX1_turns_35 rfl (hl.at rfl) ?_
  refine c_get hC hK hP (3 + 22 * a) (by omega) (wo_ho ha) rfl in_X1 12 (by decide) q168 rfl rfl dX1_turns_36 ?_
  refine lv_iload_n hx hb dX1_turns_39 rfl (hl.at rfl) ?_
  refine c_ldb hC hK hP (3 + 22 * a + 7) (by omega) (c_ldH a 7 8 1 8 ha (by decide) (fun _ _ _ => rfl)) _ (rfl) (show _ < 8 by omega) (by decide) dX1_turns_40 ?_
  refine l_top (nI f) (by rw [up3_s, up1_n (by decide)]; exact ef) ?_
  refine c_ldi hC hK hP (3 + 22 * a + 4) (by omega) (c_ldH a 4 4 0 5 ha (by decide) (fun _ _ _ => rfl)) _ (rfl) (show _ < 5 by omega) (by decide) dX1_turns_41 ?_
  refine lv_iload_n hx hb dX1_turns_42 rfl (hl.at rfl) ?_
  refine lv_iadd hx hb dX1_turns_43 ?_
  refine x_min hC q954 hl.1 (by decide) (Nat.le_of_ble_eq_true rfl) ⟨Nat.le_refl _, Nat.le_refl _⟩ dX1_turns_44 ?_
  refine c_sti hC hK hP hD hS (3 + 22 * a + 4) (by omega) (c_ldH a 4 4 0 5 ha (by decide) (fun _ _ _ => rfl)) _ (rfl) (show _ < 5 by omega) (by decide) (c_wH a 4 4 0 5 ha hn (by decide) rfl (fun _ _ _ => rfl)) dX1_turns_47 (fun H locs hP hS => ?_)
  refine hret _ _ ls _ _ hP hS dX1_turns_48 ?_
  rw [mn_held (bd_nn hs1 (by decide))]
  rw [mn_held (by rw [up3_s, up1_n (by decide)]; exact bd_nn hs2 (by decide))]
  simp only [up3_uS, uS_uS, uS_s]
  rw [sp_turn1, ef, cn_nI (by omega)]
  rfl
theorem cX1_drawn_ {l : Launch} {D : va_G} {cA : Nat → ClassId} {ad : Nat → Nat} {n : Nat} {f0 : Nat → va_E} {ρ : Nat → Nat → Option Nat} {r : Nat × Nat} {U : Nat → Nat → Nat → Int32} (hn : 81 ≤ n) {A : Nat → Prop} (hD : gD A ad n) {a : Nat} (ha : a < 3) : XI l D cA ad n f0 ρ r U A yX1_drawn cX1_drawn 1 (some .int) (0) [.ref (ad (3 + 22 * a))] (fun v V => v = sp_dr (sp_dz (U a)) ∧ V = uS U a (up2 (U a) 0 5 (sp_dz (U a)))) := by
  refine Ci.of rfl (by decide +kernel) (Nat.le_of_ble_eq_true rfl) ?_
  intro p e s m args below meth c Q hC hK hP hret ls hl
  have hx := hC.1
  have hb := hC.2.1
  have hown := hC.2.2.2.1
  have hts := hC.2.2.2.2
  have hS : va_S A s.heap s.heap [] := va_S.rf
  refine lv_aload_n hx hb dX1_drawn_0 rfl (hl.at rfl) ?_
  refine lv_aload_n hx hb dX1_drawn_1 rfl (hl.at rfl) ?_
  refine c_get hC hK hP (3 + 22 * a) (by omega) (wo_ho ha) rfl in_X1 3 (by decide) q149 rfl rfl dX1_drawn_2 ?_
  refine lv_ldc (v := 1103515245) hx hb hown (hts _ q967) dX1_drawn_5 ?_
  refine lv_imul hx hb dX1_drawn_7 ?_
  refine lv_sipush (v := nI 12345) hx hb dX1_drawn_8 rfl ?_
  refine lv_iadd hx hb dX1_drawn_11 ?_
  refine c_put (ty := .int) hC hK hP hD hS (3 + 22 * a) (by omega) (wo_ho ha) rfl in_X1 tyX1_ok nmX1 3 (by decide) q149 rfl rfl (by decide +kernel) rfl rfl (by show 3 < 19; decide) (cp_z ha hn) dX1_drawn_12 (fun H locs hP hS => ?_)
  refine lv_aload_n hx hb dX1_drawn_15 rfl (hl.at rfl) ?_
  refine c_get hC hK hP (3 + 22 * a) (by omega) (wo_ho ha) rfl in_X1 3 (by decide) q149 rfl rfl dX1_drawn_16 ?_
  refine lv_bipush (v := nI 8) hx hb dX1_drawn_19 rfl ?_
  refine lv_iushr hx hb dX1_drawn_21 rfl ?_
  refine hret _ _ ls _ _ _ hP hS dX1_drawn_22 ?_
  refine ⟨?_, rfl⟩
  rw [up3_s, up1_s, pk_us]
  rfl
theorem cv_X1_97 : CV RX1 RX1 97 yX1_isPaid cX1_isPaid 2 (some .boolean) 1 := ⟨lw_V q1026 q338 q339 q84 q340, by decide +kernel⟩
theorem cX1_areAllPaid_ {l : Launch} {D : va_G} {cA : Nat → ClassId} {ad : Nat → Nat} {n : Nat} {f0 : Nat → va_E} {ρ : Nat → Nat → Option Nat} {r : Nat × Nat} {U : Nat → Nat → Nat → Int32} (hn : 81 ≤ n) {a : Nat} (ha : a < 3) : XP l D cA ad n f0 ρ r U yX1_areAllPaid cX1_areAllPaid 3 (some .boolean) (1) [.ref (ad (3 + 22 * a))] (bz (apk (U a) 5)) := by
  refine Cp.ofz rfl (by decide +kernel) (Nat.le_of_ble_eq_true rfl) ?_
  intro p e s m args below meth c Q hC hK hP hret ls hl
  have hx := hC.1
  have hb := hC.2.1
  have hown := hC.2.2.2.1
  have hts := hC.2.2.2.2
  refine lv_iconst (v := nI 1) hx hb dX1_areAllPaid_0 rfl ?_
  refine l_istore_n hx hb 1 dX1_areAllPaid_1 rfl hl rfl (fun ls hl => ?_)
  refine lv_iconst (v := nI 0) hx hb dX1_areAllPaid_2 rfl ?_
  refine l_istore_n hx hb 2 dX1_areAllPaid_3 rfl hl rfl (fun ls hl => ?_)
  have loop : ∀ (n k : Nat) (v : Int32), k ≤ 5 → 6 ≤ k + n → bz (apk (U a) k) v → ∀ ls : Array Slot, lh ls [some (.ref (ad (3 + 22 * a))), some (.int v), some (.int (nI k))] → W p l e (rmG 1 0 0) s m args below meth c s.heap [] 0 0 Q (F0 m 4 ls []) := by
    intro n
    induction n with
    | zero => intro k v h1 h2; exact absurd h2 (by omega)
    | succ n ih =>
      intro k v h1 h2 hv ls hl
      refine lv_iload_n hx hb dX1_areAllPaid_4 rfl (hl.at rfl) ?_
      refine lv_iconst (v := nI 5) hx hb dX1_areAllPaid_5 rfl ?_
      refine l_geN hx hb 23 dX1_areAllPaid_6 rfl (by omega) (by omega) (fun c6 => ?_) (fun c6 => ?_)
      · have e5 : k = 5 := by omega
        subst e5
        refine lv_iload_n hx hb dX1_areAllPaid_23 rfl (hl.at rfl) ?_
        refine hret ls _ _ dX1_areAllPaid_24 (by rcases hv with ⟨h, _⟩ | ⟨h, _⟩ <;> simp [h]) ?_
        exact hv
      · refine lv_iload_n hx hb dX1_areAllPaid_9 rfl (hl.at rfl) ?_
        refine lv_aload_n hx hb dX1_areAllPaid_10 rfl (hl.at rfl) ?_
        refine lv_iload_n hx hb dX1_areAllPaid_11 rfl (hl.at rfl) ?_
        refine x_pV hC hK hP (x_rHO ha hK hP hn) (cX1_isPaid_ hn ha (f := k) rfl (by omega)) cv_X1_97 rfl rfl hl.1 (Nat.le_of_ble_eq_true rfl) dX1_areAllPaid_12 (rk (by decide) (by decide)) ⟨Nat.le_refl _, Nat.le_refl _⟩ (fun r12 p12 => ?_)
        refine lv_iand hx hb dX1_areAllPaid_15 ?_
        refine l_istore_n hx hb 1 dX1_areAllPaid_16 rfl hl rfl (fun ls hl => ?_)
        refine l_inc1 hx hb 2 dX1_areAllPaid_17 hl rfl rfl (fun ls hl => ?_)
        refine lv_goto (tgt := 4) hx hb dX1_areAllPaid_20 rfl ?_
        exact ih (k + 1) _ (by omega) (by omega) (bz_and hv p12) ls hl
  exact loop 6 0 _ (by omega) (by omega) (Or.inl ⟨rfl, trivial⟩) ls hl
theorem cX1_allPrayed_ {l : Launch} {D : va_G} {cA : Nat → ClassId} {ad : Nat → Nat} {n : Nat} {f0 : Nat → va_E} {ρ : Nat → Nat → Option Nat} {r : Nat × Nat} {U : Nat → Nat → Nat → Int32} (hn : 81 ≤ n) {a : Nat} (ha : a < 3) : XP l D cA ad n f0 ρ r U yX1_allPrayed cX1_allPrayed 3 (some .int) (0) [.ref (ad (3 + 22 * a))] (fun v => v = sumP (U a) 5) := by
  refine Cp.of rfl (by decide +kernel) (Nat.le_of_ble_eq_true rfl) ?_
  intro p e s m args below meth c Q hC hK hP hret ls hl
  have hx := hC.1
  have hb := hC.2.1
  have hown := hC.2.2.2.1
  have hts := hC.2.2.2.2
  refine lv_iconst (v := nI 0) hx hb dX1_allPrayed_0 rfl ?_
  refine l_istore_n hx hb 1 dX1_allPrayed_1 rfl hl rfl (fun ls hl => ?_)
  refine lv_iconst (v := nI 0) hx hb dX1_allPrayed_2 rfl ?_
  refine l_istore_n hx hb 2 dX1_allPrayed_3 rfl hl rfl (fun ls hl => ?_)
  have loop : ∀ (n k : Nat) (v : Int32), k ≤ 5 → 6 ≤ k + n → v = sumP (U a) k → ∀ ls : Array Slot, lh ls [some (.ref (ad (3 + 22 * a))), some (.int v), some (.int (nI k))] → W p l e (rmG 0 0 0) s m args below meth c s.heap [] 0 0 Q (F0 m 4 ls []) := by
    intro n
    induction n with
    | zero => intro k v h1 h2; exact absurd h2 (by omega)
    | succ n ih =>
      intro k v h1 h2 hv ls hl
      refine lv_iload_n hx hb dX1_allPrayed_4 rfl (hl.at rfl) ?_
      refine lv_iconst (v := nI 5) hx hb dX1_allPrayed_5 rfl ?_
      refine l_geN hx hb 24 dX1_allPrayed_6 rfl (by omega) (by omega) (fun c6 => ?_) (fun c6 => ?_)
      · have e5 : k = 5 := by omega
        subst e5
        refine lv_iload_n hx hb dX1_allPrayed_24 rfl (hl.at rfl) ?_
        refine hret ls _ _ dX1_allPrayed_25 ?_
        exact hv
      · refine lv_iload_n hx hb dX1_allPrayed_9 rfl (hl.at rfl) ?_
        refine lv_aload_n hx hb dX1_allPrayed_10 rfl (hl.at rfl) ?_
        refine c_get hC hK hP (3 + 22 * a) (by omega) (wo_ho ha) rfl in_X1 9 (by decide) q161 rfl rfl dX1_allPrayed_11 ?_
        refine lv_iload_n hx hb dX1_allPrayed_14 rfl (hl.at rfl) ?_
        refine c_ldi hC hK hP (3 + 22 * a + 4) (by omega) (c_ldH a 4 4 0 5 ha (by decide) (fun _ _ _ => rfl)) _ (rfl) (show _ < 5 by omega) (by decide) dX1_allPrayed_15 ?_
        refine lv_iadd hx hb dX1_allPrayed_16 ?_
        refine l_istore_n hx hb 1 dX1_allPrayed_17 rfl hl rfl (fun ls hl => ?_)
        refine l_inc1 hx hb 2 dX1_allPrayed_18 hl rfl rfl (fun ls hl => ?_)
        refine lv_goto (tgt := 4) hx hb dX1_allPrayed_21 rfl ?_
        exact ih (k + 1) _ (by omega) (by omega) (by rw [sumP, hv]) ls hl
  exact loop 6 0 _ (by omega) (by omega) rfl ls hl
theorem cX0_wheelsOf_ {l : Launch} {D : va_G} {cA : Nat → ClassId} {ad : Nat → Nat} {n : Nat} {f0 : Nat → va_E} {ρ : Nat → Nat → Option Nat} {r : Nat × Nat} {U : Nat → Nat → Nat → Int32} (hn : 81 ≤ n) {x : Int32} {f : Nat} (hr : r.1 < 3) (hI : Inv (U r.1)) (hx1 : x = nI f) (hf : f < 5) : XP l D cA ad n f0 ρ r U yX0_wheelsOf cX0_wheelsOf 4 (some .int) (0) [.ref (ad 0), .int x] (fun v => v = nI (wof (U r.1) f (wh (U r.1)))) := by
  refine Cp.of rfl (by decide +kernel) (Nat.le_of_ble_eq_true rfl) ?_
  intro p e s m args below meth c Q hC hK hP hret ls hl
  have hx := hC.1
  have hb := hC.2.1
  have hown := hC.2.2.2.1
  have hts := hC.2.2.2.2
  subst hx1
  obtain ⟨eN, hN⟩ := inv_wh hI
  refine lv_iconst (v := nI 0) hx hb dX0_wheelsOf_0 rfl ?_
  refine l_istore_n hx hb 2 dX0_wheelsOf_1 rfl hl rfl (fun ls hl => ?_)
  refine lv_iconst (v := nI 0) hx hb dX0_wheelsOf_2 rfl ?_
  refine l_istore_n hx hb 3 dX0_wheelsOf_3 rfl hl rfl (fun ls hl => ?_)
  have loop : ∀ (n k v : Nat), k ≤ wh (U r.1) → wh (U r.1) + 1 ≤ k + n → v = wof (U r.1) f k → ∀ ls : Array Slot, lh ls [some (.ref (ad 0)), some (.int (nI f)), some (.int (nI v)), some (.int (nI k))] → W p l e (rmG 0 0 0) s m args below meth c s.heap [] 0 0 Q (F0 m 4 ls []) := by
    intro n
    induction n with
    | zero => intro k v h1 h2; exact absurd h2 (by omega)
    | succ n ih =>
      intro k v h1 h2 hv ls hl
      refine lv_iload_n hx hb dX0_wheelsOf_4 rfl (hl.at rfl) ?_
      refine lv_aload_n hx hb dX0_wheelsOf_5 rfl (hl.at rfl) ?_
      refine c_get hC hK hP 0 (by omega) (wo_wb) rfl in_X0 2 (by decide) q254 rfl rfl dX0_wheelsOf_6 ?_
      refine c_getN hC hK hP (3 + 22 * r.1) (by omega) (wo_ho hr) rfl in_X1 0 (by decide) q143 rfl rfl dX0_wheelsOf_9 ?_
      refine l_top (nI (wh (U r.1))) eN ?_
      refine l_geN hx hb 42 dX0_wheelsOf_12 rfl (by omega) (by omega) (fun c12 => ?_) (fun c12 => ?_)
      · have e5 : k = wh (U r.1) := by omega
        rw [e5] at hv
        refine lv_iload_n hx hb dX0_wheelsOf_42 rfl (hl.at rfl) ?_
        refine hret ls _ _ dX0_wheelsOf_43 ?_
        rw [hv]
      · refine lv_iload_n hx hb dX0_wheelsOf_15 rfl (hl.at rfl) ?_
        refine lv_aload_n hx hb dX0_wheelsOf_16 rfl (hl.at rfl) ?_
        refine c_get hC hK hP 0 (by omega) (wo_wb) rfl in_X0 2 (by decide) q254 rfl rfl dX0_wheelsOf_17 ?_
        refine c_getN hC hK hP (3 + 22 * r.1) (by omega) (wo_ho hr) rfl in_X1 12 (by decide) q169 rfl rfl dX0_wheelsOf_20 ?_
        refine lv_iload_n hx hb dX0_wheelsOf_23 rfl (hl.at rfl) ?_
        refine c_ldb hC hK hP (3 + 22 * r.1 + 7) (by omega) (c_ldH r.1 7 8 1 8 hr (by decide) (fun _ _ _ => rfl)) _ (rfl) (show _ < 8 by omega) (by decide) dX0_wheelsOf_24 ?_
        refine lv_iload_n hx hb dX0_wheelsOf_25 rfl (hl.at rfl) ?_
        refine lv_icmp_ne (tgt := 33) hx hb dX0_wheelsOf_26 rfl (fun c26 => ?_) (fun c26 => ?_)
        · refine lv_iconst (v := nI 0) hx hb dX0_wheelsOf_33 rfl ?_
          refine l_addN hx hb dX0_wheelsOf_34 ?_
          refine l_istore_n hx hb 2 dX0_wheelsOf_35 rfl hl rfl (fun ls hl => ?_)
          refine l_inc1 hx hb 3 dX0_wheelsOf_36 hl rfl rfl (fun ls hl => ?_)
          refine lv_goto (tgt := 4) hx hb dX0_wheelsOf_39 rfl ?_
          first | exact ih (k + 1) _ (by omega) (by omega) (by rw [wof, if_pos c26, hv]) ls hl | exact ih (k + 1) _ (by omega) (by omega) (by rw [wof, if_neg c26, hv]) ls hl
        · refine lv_iconst (v := nI 1) hx hb dX0_wheelsOf_29 rfl ?_
          refine lv_goto (tgt := 34) hx hb dX0_wheelsOf_30 rfl ?_
          refine l_addN hx hb dX0_wheelsOf_34 ?_
          refine l_istore_n hx hb 2 dX0_wheelsOf_35 rfl hl rfl (fun ls hl => ?_)
          refine l_inc1 hx hb 3 dX0_wheelsOf_36 hl rfl rfl (fun ls hl => ?_)
          refine lv_goto (tgt := 4) hx hb dX0_wheelsOf_39 rfl ?_
          first | exact ih (k + 1) _ (by omega) (by omega) (by rw [wof, if_pos c26, hv]) ls hl | exact ih (k + 1) _ (by omega) (by omega) (by rw [wof, if_neg c26, hv]) ls hl
  exact loop (wh (U r.1) + 1) 0 0 (by omega) (by omega) rfl ls hl
theorem cX0_slipped_ {l : Launch} {D : va_G} {cA : Nat → ClassId} {ad : Nat → Nat} {n : Nat} {f0 : Nat → va_E} {ρ : Nat → Nat → Option Nat} {r : Nat × Nat} {U : Nat → Nat → Nat → Int32} (hn : 81 ≤ n) (hr : r.1 < 3) (hI : Inv (U r.1)) : XP l D cA ad n f0 ρ r U yX0_slipped cX0_slipped 3 (some .int) (0) [.ref (ad 0)] (fun v => v = slp (U r.1) (wh (U r.1))) := by
  refine Cp.of rfl (by decide +kernel) (Nat.le_of_ble_eq_true rfl) ?_
  intro p e s m args below meth c Q hC hK hP hret ls hl
  have hx := hC.1
  have hb := hC.2.1
  have hown := hC.2.2.2.1
  have hts := hC.2.2.2.2
  obtain ⟨eN, hN⟩ := inv_wh hI
  refine lv_iconst (v := nI 0) hx hb dX0_slipped_0 rfl ?_
  refine l_istore_n hx hb 1 dX0_slipped_1 rfl hl rfl (fun ls hl => ?_)
  refine lv_iconst (v := nI 0) hx hb dX0_slipped_2 rfl ?_
  refine l_istore_n hx hb 2 dX0_slipped_3 rfl hl rfl (fun ls hl => ?_)
  have loop : ∀ (n k : Nat) (v : Int32), k ≤ wh (U r.1) → wh (U r.1) + 1 ≤ k + n → v = slp (U r.1) k → ∀ ls : Array Slot, lh ls [some (.ref (ad 0)), some (.int v), some (.int (nI k))] → W p l e (rmG 0 0 0) s m args below meth c s.heap [] 0 0 Q (F0 m 4 ls []) := by
    intro n
    induction n with
    | zero => intro k v h1 h2; exact absurd h2 (by omega)
    | succ n ih =>
      intro k v h1 h2 hv ls hl
      refine lv_iload_n hx hb dX0_slipped_4 rfl (hl.at rfl) ?_
      refine lv_aload_n hx hb dX0_slipped_5 rfl (hl.at rfl) ?_
      refine c_get hC hK hP 0 (by omega) (wo_wb) rfl in_X0 2 (by decide) q254 rfl rfl dX0_slipped_6 ?_
      refine c_getN hC hK hP (3 + 22 * r.1) (by omega) (wo_ho hr) rfl in_X1 0 (by decide) q143 rfl rfl dX0_slipped_9 ?_
      refine l_top (nI (wh (U r.1))) eN ?_
      refine l_geN hx hb 52 dX0_slipped_12 rfl (by omega) (by omega) (fun c12 => ?_) (fun c12 => ?_)
      · have e5 : k = wh (U r.1) := by omega
        rw [e5] at hv
        refine lv_iload_n hx hb dX0_slipped_52 rfl (hl.at rfl) ?_
        refine hret ls _ _ dX0_slipped_53 ?_
        exact hv
      · refine lv_iload_n hx hb dX0_slipped_15 rfl (hl.at rfl) ?_
        refine lv_aload_n hx hb dX0_slipped_16 rfl (hl.at rfl) ?_
        refine c_get hC hK hP 0 (by omega) (wo_wb) rfl in_X0 2 (by decide) q254 rfl rfl dX0_slipped_17 ?_
        refine c_getN hC hK hP (3 + 22 * r.1) (by omega) (wo_ho hr) rfl in_X1 14 (by decide) q174 rfl rfl dX0_slipped_20 ?_
        refine lv_iload_n hx hb dX0_slipped_23 rfl (hl.at rfl) ?_
        refine c_ldi hC hK hP (3 + 22 * r.1 + 9) (by omega) (c_ldH r.1 9 10 0 8 hr (by decide) (fun _ _ _ => rfl)) _ (rfl) (show _ < 8 by omega) (by decide) dX0_slipped_24 ?_
        refine lv_aload_n hx hb dX0_slipped_25 rfl (hl.at rfl) ?_
        refine c_get hC hK hP 0 (by omega) (wo_wb) rfl in_X0 2 (by decide) q254 rfl rfl dX0_slipped_26 ?_
        refine c_getN hC hK hP (3 + 22 * r.1) (by omega) (wo_ho hr) rfl in_X1 15 (by decide) q176 rfl rfl dX0_slipped_29 ?_
        refine lv_iload_n hx hb dX0_slipped_32 rfl (hl.at rfl) ?_
        refine c_ldi hC hK hP (3 + 22 * r.1 + 10) (by omega) (c_ldH r.1 10 11 0 8 hr (by decide) (fun _ _ _ => rfl)) _ (rfl) (show _ < 8 by omega) (by decide) dX0_slipped_33 ?_
        refine lv_icmp_ne (tgt := 41) hx hb dX0_slipped_34 rfl (fun c34 => ?_) (fun c34 => ?_)
        · refine lv_iconst (v := nI 1) hx hb dX0_slipped_41 rfl ?_
          refine lv_iload_n hx hb dX0_slipped_42 rfl (hl.at rfl) ?_
          refine lv_ishl hx hb dX0_slipped_43 ?_
          refine lv_ior hx hb dX0_slipped_44 ?_
          refine l_istore_n hx hb 1 dX0_slipped_45 rfl hl rfl (fun ls hl => ?_)
          refine l_inc1 hx hb 2 dX0_slipped_46 hl rfl rfl (fun ls hl => ?_)
          refine lv_goto (tgt := 4) hx hb dX0_slipped_49 rfl ?_
          first | exact ih (k + 1) _ (by omega) (by omega) (by rw [slp, if_pos c34, hv]) ls hl | exact ih (k + 1) _ (by omega) (by omega) (by rw [slp, if_neg c34, hv]) ls hl
        · refine lv_iconst (v := nI 0) hx hb dX0_slipped_37 rfl ?_
          refine lv_goto (tgt := 44) hx hb dX0_slipped_38 rfl ?_
          refine lv_ior hx hb dX0_slipped_44 ?_
          refine l_istore_n hx hb 1 dX0_slipped_45 rfl hl rfl (fun ls hl => ?_)
          refine l_inc1 hx hb 2 dX0_slipped_46 hl rfl rfl (fun ls hl => ?_)
          refine lv_goto (tgt := 4) hx hb dX0_slipped_49 rfl ?_
          first | exact ih (k + 1) _ (by omega) (by omega) (by rw [slp, if_pos c34, hv]) ls hl | exact ih (k + 1) _ (by omega) (by omega) (by rw [slp, if_neg c34, hv]) ls hl
  exact loop (wh (U r.1) + 1) 0 _ (by omega) (by omega) rfl ls hl
theorem cv_X0_197 : CV RX0 RX1 197 yX1_isPaid cX1_isPaid 2 (some .boolean) 1 := ⟨lw_V q337 q338 q339 q84 q340, by decide +kernel⟩
theorem cv_X0_200 : CV RX0 RX0 200 yX0_wheelsOf cX0_wheelsOf 4 (some .int) 1 := ⟨lw_V q341 q343 qs2 q83 q344, by decide +kernel⟩
theorem cX0_familyTold_ {l : Launch} {D : va_G} {cA : Nat → ClassId} {ad : Nat → Nat} {n : Nat} {f0 : Nat → va_E} {ρ : Nat → Nat → Option Nat} {r : Nat × Nat} {U : Nat → Nat → Nat → Int32} (hn : 81 ≤ n) {x q : Int32} {f : Nat} (hr : r.1 < 3) (hI : Inv (U r.1)) (hx1 : x = nI f) (hf : f < 5) (hq : nI 0 ≤ q ∧ q ≤ nI 3) : XP l D cA ad n f0 ρ r U yX0_familyTold cX0_familyTold 3 (some .int) (1) [.ref (ad 0), .int x, .int q] (fun v => v = sp_told (U r.1) f q) := by
  refine Cp.of rfl (by decide +kernel) (Nat.le_of_ble_eq_true rfl) ?_
  intro p e s m args below meth c Q hC hK hP hret ls hl
  have hx := hC.1
  have hb := hC.2.1
  have hown := hC.2.2.2.1
  have hts := hC.2.2.2.2
  subst hx1
  refine lv_iload_n hx hb dX0_familyTold_0 rfl (hl.at rfl) ?_
  refine lv_if_ne (tgt := 16) hx hb dX0_familyTold_1 rfl (fun c1 => ?_) (fun c1 => ?_)
  · refine lv_iload_n hx hb dX0_familyTold_16 rfl (hl.at rfl) ?_
    refine lv_iconst (v := nI 1) hx hb dX0_familyTold_17 rfl ?_
    refine lv_icmp_ne (tgt := 33) hx hb dX0_familyTold_18 rfl (fun c18 => ?_) (fun c18 => ?_)
    · refine lv_iload_n hx hb dX0_familyTold_33 rfl (hl.at rfl) ?_
      refine lv_iconst (v := nI 2) hx hb dX0_familyTold_34 rfl ?_
      refine lv_icmp_ne (tgt := 57) hx hb dX0_familyTold_35 rfl (fun c35 => ?_) (fun c35 => ?_)
      · refine lv_aload_n hx hb dX0_familyTold_57 rfl (hl.at rfl) ?_
        refine lv_iload_n hx hb dX0_familyTold_58 rfl (hl.at rfl) ?_
        refine x_pV hC hK hP (x_rWB hK hP hn) (cX0_wheelsOf_ hn hr hI rfl hf) cv_X0_200 rfl rfl hl.1 (Nat.le_of_ble_eq_true rfl) dX0_familyTold_59 (rk (by decide) (by decide)) ⟨Nat.le_refl _, Nat.le_refl _⟩ (fun r59 p59 => ?_)
        refine hret ls _ _ dX0_familyTold_62 ?_
        first | (rw [tld_0 c1]; done) | (rw [tld_1 c18]; done) | (rw [tld_2 c35, if_pos p43]; done) | (rw [tld_2 c35, if_neg p43]; done) | (rw [tld_3 hq c1 c18 c35]; exact p59)
      · refine lv_aload_n hx hb dX0_familyTold_38 rfl (hl.at rfl) ?_
        refine c_get hC hK hP 0 (by omega) (wo_wb) rfl in_X0 2 (by decide) q254 rfl rfl dX0_familyTold_39 ?_
        refine lv_iload_n hx hb dX0_familyTold_42 rfl (hl.at rfl) ?_
        refine x_pV hC hK hP (x_rHO hr hK hP hn) (cX1_isPaid_ hn hr (f := f) rfl hf) cv_X0_197 rfl rfl hl.1 (Nat.le_of_ble_eq_true rfl) dX0_familyTold_43 (rk (by decide) (by decide)) ⟨Nat.le_refl _, Nat.le_refl _⟩ (fun r43 p43 => ?_)
        rcases p43 with ⟨rfl, p43⟩ | ⟨rfl, p43⟩
        · refine l_ifeq_1 hx hb 53 dX0_familyTold_46 rfl ?_
          refine lv_iconst (v := nI 1) hx hb dX0_familyTold_49 rfl ?_
          refine lv_goto (tgt := 62) hx hb dX0_familyTold_50 rfl ?_
          refine hret ls _ _ dX0_familyTold_62 ?_
          first | (rw [tld_0 c1]; done) | (rw [tld_1 c18]; done) | (rw [tld_2 c35, if_pos p43]; done) | (rw [tld_2 c35, if_neg p43]; done) | (rw [tld_3 hq c1 c18 c35]; exact p59)
        · refine l_ifeq_0 hx hb 53 dX0_familyTold_46 rfl ?_
          refine lv_iconst (v := nI 0) hx hb dX0_familyTold_53 rfl ?_
          refine lv_goto (tgt := 62) hx hb dX0_familyTold_54 rfl ?_
          refine hret ls _ _ dX0_familyTold_62 ?_
          first | (rw [tld_0 c1]; done) | (rw [tld_1 c18]; done) | (rw [tld_2 c35, if_pos p43]; done) | (rw [tld_2 c35, if_neg p43]; done) | (rw [tld_3 hq c1 c18 c35]; exact p59)
    · refine lv_aload_n hx hb dX0_familyTold_21 rfl (hl.at rfl) ?_
      refine c_get hC hK hP 0 (by omega) (wo_wb) rfl in_X0 2 (by decide) q254 rfl rfl dX0_familyTold_22 ?_
      refine c_getN hC hK hP (3 + 22 * r.1) (by omega) (wo_ho hr) rfl in_X1 9 (by decide) q162 rfl rfl dX0_familyTold_25 ?_
      refine lv_iload_n hx hb dX0_familyTold_28 rfl (hl.at rfl) ?_
      refine c_ldi hC hK hP (3 + 22 * r.1 + 4) (by omega) (c_ldH r.1 4 4 0 5 hr (by decide) (fun _ _ _ => rfl)) _ (rfl) (show _ < 5 by omega) (by decide) dX0_familyTold_29 ?_
      refine lv_goto (tgt := 62) hx hb dX0_familyTold_30 rfl ?_
      refine hret ls _ _ dX0_familyTold_62 ?_
      first | (rw [tld_0 c1]; done) | (rw [tld_1 c18]; done) | (rw [tld_2 c35, if_pos p43]; done) | (rw [tld_2 c35, if_neg p43]; done) | (rw [tld_3 hq c1 c18 c35]; exact p59)
  · refine lv_aload_n hx hb dX0_familyTold_4 rfl (hl.at rfl) ?_
    refine c_get hC hK hP 0 (by omega) (wo_wb) rfl in_X0 2 (by decide) q254 rfl rfl dX0_familyTold_5 ?_
    refine c_getN hC hK hP (3 + 22 * r.1) (by omega) (wo_ho hr) rfl in_X1 8 (by decide) q160 rfl rfl dX0_familyTold_8 ?_
    refine lv_iload_n hx hb dX0_familyTold_11 rfl (hl.at rfl) ?_
    refine c_ldi hC hK hP (3 + 22 * r.1 + 3) (by omega) (c_ldH r.1 3 3 0 5 hr (by decide) (fun _ _ _ => rfl)) _ (rfl) (show _ < 5 by omega) (by decide) dX0_familyTold_12 ?_
    refine lv_goto (tgt := 62) hx hb dX0_familyTold_13 rfl ?_
    refine hret ls _ _ dX0_familyTold_62 ?_
    first | (rw [tld_0 c1]; done) | (rw [tld_1 c18]; done) | (rw [tld_2 c35, if_pos p43]; done) | (rw [tld_2 c35, if_neg p43]; done) | (rw [tld_3 hq c1 c18 c35]; exact p59)
theorem cv_X0_173 : CV RX0 RX0 173 yX0_finds cX0_finds 2 (some .int) 1 := ⟨lw_V q305 q307 qs0 q83 q308, by decide +kernel⟩
theorem cs_X0_184 : CS RX0 184 yX0_isFamily cX0_isFamily 1 (some .boolean) 1 := ⟨lw_S q325 q326 q83 q327, by decide +kernel⟩
theorem cv_X0_203 : CV RX0 RX0 203 yX0_familyTold cX0_familyTold 3 (some .int) 2 := ⟨lw_V q333 q335 qs1 q83 q336, by decide +kernel⟩
theorem cX0_familyIs_ {l : Launch} {D : va_G} {cA : Nat → ClassId} {ad : Nat → Nat} {n : Nat} {f0 : Nat → va_E} {ρ : Nat → Nat → Option Nat} {r : Nat × Nat} {U : Nat → Nat → Nat → Int32} (hn : 81 ≤ n) {A : Nat → Prop} (hD : gD A ad n) {x v : Int32} {T : Tta} (hT : CT U r T) (hI : Inv (T 0)) : XI l D cA ad n f0 ρ r U A yX0_familyIs cX0_familyIs 3 (some .int) (3) [.ref (ad 0), .int x, .int v] (fun o V => o = (op_familyIs x v T).1 ∧ CT V r (op_familyIs x v T).2) := by
  refine Ci.of rfl (by decide +kernel) (Nat.le_of_ble_eq_true rfl) ?_
  intro p e s m args below meth c Q hC hK hP hret ls hl
  have hx := hC.1
  have hb := hC.2.1
  have hown := hC.2.2.2.1
  have hts := hC.2.2.2.2
  have hS : va_S A s.heap s.heap [] := va_S.rf
  have hr : r.1 < 3 := hT.lt
  have e0 : U r.1 = T 0 := hT.2.1
  refine lv_iload_n hx hb dX0_familyIs_0 rfl (hl.at rfl) ?_
  refine x_sS hC (cX0_isFamily_ ) cs_X0_184 rfl rfl hl.1 (Nat.le_of_ble_eq_true rfl) dX0_familyIs_1 (rk (by decide) (by decide)) ⟨Nat.le_refl _, Nat.le_refl _⟩ (fun r1 p1 => ?_)
  rcases p1 with ⟨rfl, p1⟩ | ⟨rfl, p1⟩
  · obtain ⟨k, hk, rfl⟩ := in_nI p1
    refine l_ifeq_1 hx hb 25 dX0_familyIs_4 rfl ?_
    refine lv_iload_n hx hb dX0_familyIs_7 rfl (hl.at rfl) ?_
    refine lv_iconst (v := nI 0) hx hb dX0_familyIs_8 rfl ?_
    refine lv_iconst (v := nI 3) hx hb dX0_familyIs_9 rfl ?_
    refine x_sS hC (cX0_isIn_ ) cs_X0_122 rfl rfl hl.1 (Nat.le_of_ble_eq_true rfl) dX0_familyIs_10 (rk (by decide) (by decide)) ⟨Nat.le_refl _, Nat.le_refl _⟩ (fun r10 p10 => ?_)
    rcases p10 with ⟨rfl, p10⟩ | ⟨rfl, p10⟩
    · refine l_ifeq_1 hx hb 25 dX0_familyIs_13 rfl ?_
      refine lv_aload_n hx hb dX0_familyIs_16 rfl (hl.at rfl) ?_
      refine lv_iload_n hx hb dX0_familyIs_17 rfl (hl.at rfl) ?_
      refine lv_iload_n hx hb dX0_familyIs_18 rfl (hl.at rfl) ?_
      refine x_pV hC hK hP (x_rWB hK hP hn) (cX0_familyTold_ hn hr (by rw [e0]; exact hI) rfl (by omega) p10) cv_X0_203 rfl rfl hl.1 (Nat.le_of_ble_eq_true rfl) dX0_familyIs_19 (rk (by decide) (by decide)) ⟨Nat.le_refl _, Nat.le_refl _⟩ (fun r19 p19 => ?_)
      refine lv_goto (tgt := 30) hx hb dX0_familyIs_22 rfl ?_
      refine hret _ _ ls _ _ _ hP hS dX0_familyIs_30 ?_
      first | (rw [op_familyIs, if_pos p1, if_pos p10, cn_nI (by omega), ← e0]; exact ⟨p19, hT⟩) | (rw [op_familyIs, if_neg p1]; exact hT.e p27 (by decide)) | (rw [op_familyIs, if_pos p1, if_neg p10]; exact hT.e p27 (by decide))
    · refine l_ifeq_0 hx hb 25 dX0_familyIs_13 rfl ?_
      refine lv_aload_n hx hb dX0_familyIs_25 rfl (hl.at rfl) ?_
      refine lv_iconst (v := nI 1) hx hb dX0_familyIs_26 rfl ?_
      refine x_iV hC hK hP hS (x_rWB hK hP hn) (cX0_finds_ hn hD (k := 1) rfl (by decide)) cv_X0_173 rfl rfl hl.1 (Nat.le_of_ble_eq_true rfl) dX0_familyIs_27 (rk (by decide) (by decide)) ⟨Nat.le_refl _, Nat.le_refl _⟩ (fun r27 U27 H locs p27 hP hS => ?_)
      refine hret _ _ ls _ _ _ hP hS dX0_familyIs_30 ?_
      first | (rw [op_familyIs, if_pos p1, if_pos p10, cn_nI (by omega), ← e0]; exact ⟨p19, hT⟩) | (rw [op_familyIs, if_neg p1]; exact hT.e p27 (by decide)) | (rw [op_familyIs, if_pos p1, if_neg p10]; exact hT.e p27 (by decide))
  · refine l_ifeq_0 hx hb 25 dX0_familyIs_4 rfl ?_
    refine lv_aload_n hx hb dX0_familyIs_25 rfl (hl.at rfl) ?_
    refine lv_iconst (v := nI 1) hx hb dX0_familyIs_26 rfl ?_
    refine x_iV hC hK hP hS (x_rWB hK hP hn) (cX0_finds_ hn hD (k := 1) rfl (by decide)) cv_X0_173 rfl rfl hl.1 (Nat.le_of_ble_eq_true rfl) dX0_familyIs_27 (rk (by decide) (by decide)) ⟨Nat.le_refl _, Nat.le_refl _⟩ (fun r27 U27 H locs p27 hP hS => ?_)
    refine hret _ _ ls _ _ _ hP hS dX0_familyIs_30 ?_
    first | (rw [op_familyIs, if_pos p1, if_pos p10, cn_nI (by omega), ← e0]; exact ⟨p19, hT⟩) | (rw [op_familyIs, if_neg p1]; exact hT.e p27 (by decide)) | (rw [op_familyIs, if_pos p1, if_neg p10]; exact hT.e p27 (by decide))
theorem cX0_force_ {l : Launch} {D : va_G} {cA : Nat → ClassId} {ad : Nat → Nat} {n : Nat} {f0 : Nat → va_E} {ρ : Nat → Nat → Option Nat} {r : Nat × Nat} {U : Nat → Nat → Nat → Int32} (hn : 81 ≤ n) {A : Nat → Prop} (hD : gD A ad n) {x v : Int32} {T : Tta} (hT : CT U r T) : XI l D cA ad n f0 ρ r U A yX0_force cX0_force 4 (some .int) (2) [.ref (ad 0), .int x, .int v] (fun o V => o = (op_force x v T).1 ∧ CT V r (op_force x v T).2) := by
  refine Ci.of rfl (by decide +kernel) (Nat.le_of_ble_eq_true rfl) ?_
  intro p e s m args below meth c Q hC hK hP hret ls hl
  have hx := hC.1
  have hb := hC.2.1
  have hown := hC.2.2.2.1
  have hts := hC.2.2.2.2
  have hS : va_S A s.heap s.heap [] := va_S.rf
  have hr : r.1 < 3 := hT.lt
  have e0 : U r.1 = T 0 := hT.2.1
  refine lv_iload_n hx hb dX0_force_0 rfl (hl.at rfl) ?_
  refine lv_iconst (v := nI 0) hx hb dX0_force_1 rfl ?_
  refine lv_bipush (v := nI 23) hx hb dX0_force_2 rfl ?_
  refine x_sS hC (cX0_isIn_ ) cs_X0_122 rfl rfl hl.1 (Nat.le_of_ble_eq_true rfl) dX0_force_4 (rk (by decide) (by decide)) ⟨Nat.le_refl _, Nat.le_refl _⟩ (fun r4 p4 => ?_)
  rcases p4 with ⟨rfl, p4⟩ | ⟨rfl, p4⟩
  · obtain ⟨k, hk, rfl⟩ := in_nI p4
    refine l_ifeq_1 hx hb 20 dX0_force_7 rfl ?_
    refine lv_iload_n hx hb dX0_force_10 rfl (hl.at rfl) ?_
    refine lv_iconst (v := nI 0) hx hb dX0_force_11 rfl ?_
    refine lv_bipush (v := nI 99) hx hb dX0_force_12 rfl ?_
    refine x_sS hC (cX0_isIn_ ) cs_X0_122 rfl rfl hl.1 (Nat.le_of_ble_eq_true rfl) dX0_force_14 (rk (by decide) (by decide)) ⟨Nat.le_refl _, Nat.le_refl _⟩ (fun r14 p14 => ?_)
    rcases p14 with ⟨rfl, p14⟩ | ⟨rfl, p14⟩
    · refine l_ifne_1 hx hb 26 dX0_force_17 rfl ?_
      refine lv_aload_n hx hb dX0_force_26 rfl (hl.at rfl) ?_
      refine c_get hC hK hP 0 (by omega) (wo_wb) rfl in_X0 2 (by decide) q254 rfl rfl dX0_force_27 ?_
      refine c_getN hC hK hP (3 + 22 * r.1) (by omega) (wo_ho hr) rfl in_X1 6 (by decide) q156 rfl rfl dX0_force_30 ?_
      refine lv_iload_n hx hb dX0_force_33 rfl (hl.at rfl) ?_
      refine c_ldb hC hK hP (3 + 22 * r.1 + 1) (by omega) (c_ldH r.1 1 1 1 24 hr (by decide) (fun _ _ _ => rfl)) _ (rfl) (show _ < 24 by omega) (by decide) dX0_force_34 ?_
      refine l_istore_n hx hb 3 dX0_force_35 rfl hl rfl (fun ls hl => ?_)
      refine lv_aload_n hx hb dX0_force_36 rfl (hl.at rfl) ?_
      refine c_get hC hK hP 0 (by omega) (wo_wb) rfl in_X0 2 (by decide) q254 rfl rfl dX0_force_37 ?_
      refine c_getN hC hK hP (3 + 22 * r.1) (by omega) (wo_ho hr) rfl in_X1 6 (by decide) q156 rfl rfl dX0_force_40 ?_
      refine lv_iload_n hx hb dX0_force_43 rfl (hl.at rfl) ?_
      refine lv_iload_n hx hb dX0_force_44 rfl (hl.at rfl) ?_
      obtain ⟨w, hw, rfl⟩ := in_nI p14
      refine lv_i2b hx hb dX0_force_45 (nB_nI (by omega)) ?_
      refine c_stb hC hK hP hD hS (3 + 22 * r.1 + 1) (by omega) (c_ldH r.1 1 1 1 24 hr (by decide) (fun _ _ _ => rfl)) _ (nB_nI (by omega)) _ (rfl) (show _ < 24 by omega) (by decide) (c_wH r.1 1 1 1 24 hr hn (by decide) rfl (fun _ _ _ => rfl)) dX0_force_46 (fun H locs hP hS => ?_)
      refine lv_iload_n hx hb dX0_force_47 rfl (hl.at rfl) ?_
      refine hret _ _ ls _ _ _ hP hS dX0_force_48 ?_
      first | (rw [op_force, if_pos p4, if_pos p14, cn_nI (by omega), ← e0]; exact ⟨rfl, hT.S⟩) | (rw [op_force, if_neg p4]; exact hT.e p22 (by decide)) | (rw [op_force, if_pos p4, if_neg p14]; exact hT.e p22 (by decide))
    · refine l_ifne_0 hx hb 26 dX0_force_17 rfl ?_
      refine lv_aload_n hx hb dX0_force_20 rfl (hl.at rfl) ?_
      refine lv_iconst (v := nI 1) hx hb dX0_force_21 rfl ?_
      refine x_iV hC hK hP hS (x_rWB hK hP hn) (cX0_finds_ hn hD (k := 1) rfl (by decide)) cv_X0_173 rfl rfl hl.1 (Nat.le_of_ble_eq_true rfl) dX0_force_22 (rk (by decide) (by decide)) ⟨Nat.le_refl _, Nat.le_refl _⟩ (fun r22 U22 H locs p22 hP hS => ?_)
      refine hret _ _ ls _ _ _ hP hS dX0_force_25 ?_
      first | (rw [op_force, if_pos p4, if_pos p14, cn_nI (by omega), ← e0]; exact ⟨rfl, hT.S⟩) | (rw [op_force, if_neg p4]; exact hT.e p22 (by decide)) | (rw [op_force, if_pos p4, if_neg p14]; exact hT.e p22 (by decide))
  · refine l_ifeq_0 hx hb 20 dX0_force_7 rfl ?_
    refine lv_aload_n hx hb dX0_force_20 rfl (hl.at rfl) ?_
    refine lv_iconst (v := nI 1) hx hb dX0_force_21 rfl ?_
    refine x_iV hC hK hP hS (x_rWB hK hP hn) (cX0_finds_ hn hD (k := 1) rfl (by decide)) cv_X0_173 rfl rfl hl.1 (Nat.le_of_ble_eq_true rfl) dX0_force_22 (rk (by decide) (by decide)) ⟨Nat.le_refl _, Nat.le_refl _⟩ (fun r22 U22 H locs p22 hP hS => ?_)
    refine hret _ _ ls _ _ _ hP hS dX0_force_25 ?_
    first | (rw [op_force, if_pos p4, if_pos p14, cn_nI (by omega), ← e0]; exact ⟨rfl, hT.S⟩) | (rw [op_force, if_neg p4]; exact hT.e p22 (by decide)) | (rw [op_force, if_pos p4, if_neg p14]; exact hT.e p22 (by decide))
theorem cs_X0_180 : CS RX0 180 yX0_isPlace cX0_isPlace 1 (some .boolean) 1 := ⟨lw_S q314 q315 q83 q316, by decide +kernel⟩
theorem cX0_weed_ {l : Launch} {D : va_G} {cA : Nat → ClassId} {ad : Nat → Nat} {n : Nat} {f0 : Nat → va_E} {ρ : Nat → Nat → Option Nat} {r : Nat × Nat} {U : Nat → Nat → Nat → Int32} (hn : 81 ≤ n) {A : Nat → Prop} (hD : gD A ad n) {x v : Int32} {T : Tta} (hT : CT U r T) : XI l D cA ad n f0 ρ r U A yX0_weed cX0_weed 4 (some .int) (2) [.ref (ad 0), .int x, .int v] (fun o V => o = (op_weed x v T).1 ∧ CT V r (op_weed x v T).2) := by
  refine Ci.of rfl (by decide +kernel) (Nat.le_of_ble_eq_true rfl) ?_
  intro p e s m args below meth c Q hC hK hP hret ls hl
  have hx := hC.1
  have hb := hC.2.1
  have hown := hC.2.2.2.1
  have hts := hC.2.2.2.2
  have hS : va_S A s.heap s.heap [] := va_S.rf
  have hr : r.1 < 3 := hT.lt
  have e0 : U r.1 = T 0 := hT.2.1
  refine lv_iload_n hx hb dX0_weed_0 rfl (hl.at rfl) ?_
  refine x_sS hC (cX0_isPlace_ ) cs_X0_180 rfl rfl hl.1 (Nat.le_of_ble_eq_true rfl) dX0_weed_1 (rk (by decide) (by decide)) ⟨Nat.le_refl _, Nat.le_refl _⟩ (fun r1 p1 => ?_)
  rcases p1 with ⟨rfl, p1⟩ | ⟨rfl, p1⟩
  · obtain ⟨k, hk, rfl⟩ := in_nI p1
    refine l_ifeq_1 hx hb 17 dX0_weed_4 rfl ?_
    refine lv_iload_n hx hb dX0_weed_7 rfl (hl.at rfl) ?_
    refine lv_iconst (v := nI 0) hx hb dX0_weed_8 rfl ?_
    refine lv_bipush (v := nI 9) hx hb dX0_weed_9 rfl ?_
    refine x_sS hC (cX0_isIn_ ) cs_X0_122 rfl rfl hl.1 (Nat.le_of_ble_eq_true rfl) dX0_weed_11 (rk (by decide) (by decide)) ⟨Nat.le_refl _, Nat.le_refl _⟩ (fun r11 p11 => ?_)
    rcases p11 with ⟨rfl, p11⟩ | ⟨rfl, p11⟩
    · refine l_ifne_1 hx hb 23 dX0_weed_14 rfl ?_
      refine lv_aload_n hx hb dX0_weed_23 rfl (hl.at rfl) ?_
      refine c_get hC hK hP 0 (by omega) (wo_wb) rfl in_X0 2 (by decide) q254 rfl rfl dX0_weed_24 ?_
      refine c_getN hC hK hP (3 + 22 * r.1) (by omega) (wo_ho hr) rfl in_X1 7 (by decide) q158 rfl rfl dX0_weed_27 ?_
      refine lv_iload_n hx hb dX0_weed_30 rfl (hl.at rfl) ?_
      refine c_ldb hC hK hP (3 + 22 * r.1 + 2) (by omega) (c_ldH r.1 2 2 1 12 hr (by decide) (fun _ _ _ => rfl)) _ (rfl) (show _ < 12 by omega) (by decide) dX0_weed_31 ?_
      refine l_istore_n hx hb 3 dX0_weed_32 rfl hl rfl (fun ls hl => ?_)
      refine lv_aload_n hx hb dX0_weed_33 rfl (hl.at rfl) ?_
      refine c_get hC hK hP 0 (by omega) (wo_wb) rfl in_X0 2 (by decide) q254 rfl rfl dX0_weed_34 ?_
      refine c_getN hC hK hP (3 + 22 * r.1) (by omega) (wo_ho hr) rfl in_X1 7 (by decide) q158 rfl rfl dX0_weed_37 ?_
      refine lv_iload_n hx hb dX0_weed_40 rfl (hl.at rfl) ?_
      refine lv_iload_n hx hb dX0_weed_41 rfl (hl.at rfl) ?_
      obtain ⟨w, hw, rfl⟩ := in_nI p11
      refine lv_i2b hx hb dX0_weed_42 (nB_nI (by omega)) ?_
      refine c_stb hC hK hP hD hS (3 + 22 * r.1 + 2) (by omega) (c_ldH r.1 2 2 1 12 hr (by decide) (fun _ _ _ => rfl)) _ (nB_nI (by omega)) _ (rfl) (show _ < 12 by omega) (by decide) (c_wH r.1 2 2 1 12 hr hn (by decide) rfl (fun _ _ _ => rfl)) dX0_weed_43 (fun H locs hP hS => ?_)
      refine lv_iload_n hx hb dX0_weed_44 rfl (hl.at rfl) ?_
      refine hret _ _ ls _ _ _ hP hS dX0_weed_45 ?_
      first | (rw [op_weed, if_pos p1, if_pos p11, cn_nI (by omega), ← e0]; exact ⟨rfl, hT.S⟩) | (rw [op_weed, if_neg p1]; exact hT.e p19 (by decide)) | (rw [op_weed, if_pos p1, if_neg p11]; exact hT.e p19 (by decide))
    · refine l_ifne_0 hx hb 23 dX0_weed_14 rfl ?_
      refine lv_aload_n hx hb dX0_weed_17 rfl (hl.at rfl) ?_
      refine lv_iconst (v := nI 1) hx hb dX0_weed_18 rfl ?_
      refine x_iV hC hK hP hS (x_rWB hK hP hn) (cX0_finds_ hn hD (k := 1) rfl (by decide)) cv_X0_173 rfl rfl hl.1 (Nat.le_of_ble_eq_true rfl) dX0_weed_19 (rk (by decide) (by decide)) ⟨Nat.le_refl _, Nat.le_refl _⟩ (fun r19 U19 H locs p19 hP hS => ?_)
      refine hret _ _ ls _ _ _ hP hS dX0_weed_22 ?_
      first | (rw [op_weed, if_pos p1, if_pos p11, cn_nI (by omega), ← e0]; exact ⟨rfl, hT.S⟩) | (rw [op_weed, if_neg p1]; exact hT.e p19 (by decide)) | (rw [op_weed, if_pos p1, if_neg p11]; exact hT.e p19 (by decide))
  · refine l_ifeq_0 hx hb 17 dX0_weed_4 rfl ?_
    refine lv_aload_n hx hb dX0_weed_17 rfl (hl.at rfl) ?_
    refine lv_iconst (v := nI 1) hx hb dX0_weed_18 rfl ?_
    refine x_iV hC hK hP hS (x_rWB hK hP hn) (cX0_finds_ hn hD (k := 1) rfl (by decide)) cv_X0_173 rfl rfl hl.1 (Nat.le_of_ble_eq_true rfl) dX0_weed_19 (rk (by decide) (by decide)) ⟨Nat.le_refl _, Nat.le_refl _⟩ (fun r19 U19 H locs p19 hP hS => ?_)
    refine hret _ _ ls _ _ _ hP hS dX0_weed_22 ?_
    first | (rw [op_weed, if_pos p1, if_pos p11, cn_nI (by omega), ← e0]; exact ⟨rfl, hT.S⟩) | (rw [op_weed, if_neg p1]; exact hT.e p19 (by decide)) | (rw [op_weed, if_pos p1, if_neg p11]; exact hT.e p19 (by decide))
theorem cX0_owe_ {l : Launch} {D : va_G} {cA : Nat → ClassId} {ad : Nat → Nat} {n : Nat} {f0 : Nat → va_E} {ρ : Nat → Nat → Option Nat} {r : Nat × Nat} {U : Nat → Nat → Nat → Int32} (hn : 81 ≤ n) {A : Nat → Prop} (hD : gD A ad n) {x v : Int32} {T : Tta} (hT : CT U r T) : XI l D cA ad n f0 ρ r U A yX0_owe cX0_owe 4 (some .int) (2) [.ref (ad 0), .int x, .int v] (fun o V => o = (op_owe x v T).1 ∧ CT V r (op_owe x v T).2) := by
  refine Ci.of rfl (by decide +kernel) (Nat.le_of_ble_eq_true rfl) ?_
  intro p e s m args below meth c Q hC hK hP hret ls hl
  have hx := hC.1
  have hb := hC.2.1
  have hown := hC.2.2.2.1
  have hts := hC.2.2.2.2
  have hS : va_S A s.heap s.heap [] := va_S.rf
  have hr : r.1 < 3 := hT.lt
  have e0 : U r.1 = T 0 := hT.2.1
  refine lv_iload_n hx hb dX0_owe_0 rfl (hl.at rfl) ?_
  refine x_sS hC (cX0_isFamily_ ) cs_X0_184 rfl rfl hl.1 (Nat.le_of_ble_eq_true rfl) dX0_owe_1 (rk (by decide) (by decide)) ⟨Nat.le_refl _, Nat.le_refl _⟩ (fun r1 p1 => ?_)
  rcases p1 with ⟨rfl, p1⟩ | ⟨rfl, p1⟩
  · obtain ⟨k, hk, rfl⟩ := in_nI p1
    refine l_ifeq_1 hx hb 17 dX0_owe_4 rfl ?_
    refine lv_iload_n hx hb dX0_owe_7 rfl (hl.at rfl) ?_
    refine lv_iconst (v := nI 0) hx hb dX0_owe_8 rfl ?_
    refine lv_ldc (v := 99999) hx hb hown (hts _ q328) dX0_owe_9 ?_
    refine x_sS hC (cX0_isIn_ ) cs_X0_122 rfl rfl hl.1 (Nat.le_of_ble_eq_true rfl) dX0_owe_11 (rk (by decide) (by decide)) ⟨Nat.le_refl _, Nat.le_refl _⟩ (fun r11 p11 => ?_)
    rcases p11 with ⟨rfl, p11⟩ | ⟨rfl, p11⟩
    · refine l_ifne_1 hx hb 23 dX0_owe_14 rfl ?_
      refine lv_aload_n hx hb dX0_owe_23 rfl (hl.at rfl) ?_
      refine c_get hC hK hP 0 (by omega) (wo_wb) rfl in_X0 2 (by decide) q254 rfl rfl dX0_owe_24 ?_
      refine c_getN hC hK hP (3 + 22 * r.1) (by omega) (wo_ho hr) rfl in_X1 8 (by decide) q160 rfl rfl dX0_owe_27 ?_
      refine lv_iload_n hx hb dX0_owe_30 rfl (hl.at rfl) ?_
      refine c_ldi hC hK hP (3 + 22 * r.1 + 3) (by omega) (c_ldH r.1 3 3 0 5 hr (by decide) (fun _ _ _ => rfl)) _ (rfl) (show _ < 5 by omega) (by decide) dX0_owe_31 ?_
      refine l_istore_n hx hb 3 dX0_owe_32 rfl hl rfl (fun ls hl => ?_)
      refine lv_aload_n hx hb dX0_owe_33 rfl (hl.at rfl) ?_
      refine c_get hC hK hP 0 (by omega) (wo_wb) rfl in_X0 2 (by decide) q254 rfl rfl dX0_owe_34 ?_
      refine c_getN hC hK hP (3 + 22 * r.1) (by omega) (wo_ho hr) rfl in_X1 8 (by decide) q160 rfl rfl dX0_owe_37 ?_
      refine lv_iload_n hx hb dX0_owe_40 rfl (hl.at rfl) ?_
      refine lv_iload_n hx hb dX0_owe_41 rfl (hl.at rfl) ?_
      refine c_sti hC hK hP hD hS (3 + 22 * r.1 + 3) (by omega) (c_ldH r.1 3 3 0 5 hr (by decide) (fun _ _ _ => rfl)) _ (rfl) (show _ < 5 by omega) (by decide) (c_wH r.1 3 3 0 5 hr hn (by decide) rfl (fun _ _ _ => rfl)) dX0_owe_42 (fun H locs hP hS => ?_)
      refine lv_iload_n hx hb dX0_owe_43 rfl (hl.at rfl) ?_
      refine hret _ _ ls _ _ _ hP hS dX0_owe_44 ?_
      first | (rw [op_owe, if_pos p1, if_pos p11, cn_nI (by omega), ← e0]; exact ⟨rfl, hT.S⟩) | (rw [op_owe, if_neg p1]; exact hT.e p19 (by decide)) | (rw [op_owe, if_pos p1, if_neg p11]; exact hT.e p19 (by decide))
    · refine l_ifne_0 hx hb 23 dX0_owe_14 rfl ?_
      refine lv_aload_n hx hb dX0_owe_17 rfl (hl.at rfl) ?_
      refine lv_iconst (v := nI 1) hx hb dX0_owe_18 rfl ?_
      refine x_iV hC hK hP hS (x_rWB hK hP hn) (cX0_finds_ hn hD (k := 1) rfl (by decide)) cv_X0_173 rfl rfl hl.1 (Nat.le_of_ble_eq_true rfl) dX0_owe_19 (rk (by decide) (by decide)) ⟨Nat.le_refl _, Nat.le_refl _⟩ (fun r19 U19 H locs p19 hP hS => ?_)
      refine hret _ _ ls _ _ _ hP hS dX0_owe_22 ?_
      first | (rw [op_owe, if_pos p1, if_pos p11, cn_nI (by omega), ← e0]; exact ⟨rfl, hT.S⟩) | (rw [op_owe, if_neg p1]; exact hT.e p19 (by decide)) | (rw [op_owe, if_pos p1, if_neg p11]; exact hT.e p19 (by decide))
  · refine l_ifeq_0 hx hb 17 dX0_owe_4 rfl ?_
    refine lv_aload_n hx hb dX0_owe_17 rfl (hl.at rfl) ?_
    refine lv_iconst (v := nI 1) hx hb dX0_owe_18 rfl ?_
    refine x_iV hC hK hP hS (x_rWB hK hP hn) (cX0_finds_ hn hD (k := 1) rfl (by decide)) cv_X0_173 rfl rfl hl.1 (Nat.le_of_ble_eq_true rfl) dX0_owe_19 (rk (by decide) (by decide)) ⟨Nat.le_refl _, Nat.le_refl _⟩ (fun r19 U19 H locs p19 hP hS => ?_)
    refine hret _ _ ls _ _ _ hP hS dX0_owe_22 ?_
    first | (rw [op_owe, if_pos p1, if_pos p11, cn_nI (by omega), ← e0]; exact ⟨rfl, hT.S⟩) | (rw [op_owe, if_neg p1]; exact hT.e p19 (by decide)) | (rw [op_owe, if_pos p1, if_neg p11]; exact hT.e p19 (by decide))
theorem cX0_frost_ {l : Launch} {D : va_G} {cA : Nat → ClassId} {ad : Nat → Nat} {n : Nat} {f0 : Nat → va_E} {ρ : Nat → Nat → Option Nat} {r : Nat × Nat} {U : Nat → Nat → Nat → Int32} (hn : 81 ≤ n) {A : Nat → Prop} (hD : gD A ad n) {v : Int32} {T : Tta} (hT : CT U r T) : XI l D cA ad n f0 ρ r U A yX0_frost cX0_frost 3 (some .int) (2) [.ref (ad 0), .int v] (fun o V => o = (op_frost v T).1 ∧ CT V r (op_frost v T).2) := by
  refine Ci.of rfl (by decide +kernel) (Nat.le_of_ble_eq_true rfl) ?_
  intro p e s m args below meth c Q hC hK hP hret ls hl
  have hx := hC.1
  have hb := hC.2.1
  have hown := hC.2.2.2.1
  have hts := hC.2.2.2.2
  have hS : va_S A s.heap s.heap [] := va_S.rf
  have hr : r.1 < 3 := hT.lt
  have e0 : U r.1 = T 0 := hT.2.1
  refine lv_iload_n hx hb dX0_frost_0 rfl (hl.at rfl) ?_
  refine lv_iconst (v := nI 0) hx hb dX0_frost_1 rfl ?_
  refine lv_bipush (v := nI 9) hx hb dX0_frost_2 rfl ?_
  refine x_sS hC (cX0_isIn_ ) cs_X0_122 rfl rfl hl.1 (Nat.le_of_ble_eq_true rfl) dX0_frost_4 (rk (by decide) (by decide)) ⟨Nat.le_refl _, Nat.le_refl _⟩ (fun r4 p4 => ?_)
  rcases p4 with ⟨rfl, p4⟩ | ⟨rfl, p4⟩
  · refine l_ifne_1 hx hb 16 dX0_frost_7 rfl ?_
    refine lv_aload_n hx hb dX0_frost_16 rfl (hl.at rfl) ?_
    refine c_get hC hK hP 0 (by omega) (wo_wb) rfl in_X0 2 (by decide) q254 rfl rfl dX0_frost_17 ?_
    refine c_getN hC hK hP (3 + 22 * r.1) (by omega) (wo_ho hr) rfl in_X1 2 (by decide) q148 rfl rfl dX0_frost_20 ?_
    refine l_istore_n hx hb 2 dX0_frost_23 rfl hl rfl (fun ls hl => ?_)
    refine lv_aload_n hx hb dX0_frost_24 rfl (hl.at rfl) ?_
    refine c_get hC hK hP 0 (by omega) (wo_wb) rfl in_X0 2 (by decide) q254 rfl rfl dX0_frost_25 ?_
    refine lv_iload_n hx hb dX0_frost_28 rfl (hl.at rfl) ?_
    refine c_putN (ty := .int) hC hK hP hD hS (3 + 22 * r.1) (by omega) (wo_ho hr) rfl in_X1 tyX1_ok nmX1 2 (by decide) q148 rfl rfl (by decide +kernel) rfl rfl (by show 2 < 19; decide) (cp_frost hr hn) dX0_frost_29 (fun H locs hP hS => ?_)
    refine lv_iload_n hx hb dX0_frost_32 rfl (hl.at rfl) ?_
    refine hret _ _ ls _ _ _ hP hS dX0_frost_33 ?_
    first | (rw [op_frost, if_pos p4, ← e0]; exact ⟨rfl, hT.S⟩) | (rw [op_frost, if_neg p4]; exact hT.e p12 (by decide))
  · refine l_ifne_0 hx hb 16 dX0_frost_7 rfl ?_
    refine lv_aload_n hx hb dX0_frost_10 rfl (hl.at rfl) ?_
    refine lv_iconst (v := nI 1) hx hb dX0_frost_11 rfl ?_
    refine x_iV hC hK hP hS (x_rWB hK hP hn) (cX0_finds_ hn hD (k := 1) rfl (by decide)) cv_X0_173 rfl rfl hl.1 (Nat.le_of_ble_eq_true rfl) dX0_frost_12 (rk (by decide) (by decide)) ⟨Nat.le_refl _, Nat.le_refl _⟩ (fun r12 U12 H locs p12 hP hS => ?_)
    refine hret _ _ ls _ _ _ hP hS dX0_frost_15 ?_
    first | (rw [op_frost, if_pos p4, ← e0]; exact ⟨rfl, hT.S⟩) | (rw [op_frost, if_neg p4]; exact hT.e p12 (by decide))
theorem cX0_seed_ {l : Launch} {D : va_G} {cA : Nat → ClassId} {ad : Nat → Nat} {n : Nat} {f0 : Nat → va_E} {ρ : Nat → Nat → Option Nat} {r : Nat × Nat} {U : Nat → Nat → Nat → Int32} (hn : 81 ≤ n) {A : Nat → Prop} (hD : gD A ad n) {v : Int32} {T : Tta} (hT : CT U r T) : XI l D cA ad n f0 ρ r U A yX0_seed cX0_seed 3 (some .int) (2) [.ref (ad 0), .int v] (fun o V => o = (op_seed v T).1 ∧ CT V r (op_seed v T).2) := by
  refine Ci.of rfl (by decide +kernel) (Nat.le_of_ble_eq_true rfl) ?_
  intro p e s m args below meth c Q hC hK hP hret ls hl
  have hx := hC.1
  have hb := hC.2.1
  have hown := hC.2.2.2.1
  have hts := hC.2.2.2.2
  have hS : va_S A s.heap s.heap [] := va_S.rf
  have hr : r.1 < 3 := hT.lt
  have e0 : U r.1 = T 0 := hT.2.1
  refine lv_aload_n hx hb dX0_seed_0 rfl (hl.at rfl) ?_
  refine c_get hC hK hP 0 (by omega) (wo_wb) rfl in_X0 2 (by decide) q254 rfl rfl dX0_seed_1 ?_
  refine c_getN hC hK hP (3 + 22 * r.1) (by omega) (wo_ho hr) rfl in_X1 3 (by decide) q150 rfl rfl dX0_seed_4 ?_
  refine l_istore_n hx hb 2 dX0_seed_7 rfl hl rfl (fun ls hl => ?_)
  refine lv_aload_n hx hb dX0_seed_8 rfl (hl.at rfl) ?_
  refine c_get hC hK hP 0 (by omega) (wo_wb) rfl in_X0 2 (by decide) q254 rfl rfl dX0_seed_9 ?_
  refine lv_iload_n hx hb dX0_seed_12 rfl (hl.at rfl) ?_
  refine c_putN (ty := .int) hC hK hP hD hS (3 + 22 * r.1) (by omega) (wo_ho hr) rfl in_X1 tyX1_ok nmX1 3 (by decide) q150 rfl rfl (by decide +kernel) rfl rfl (by show 3 < 19; decide) (cp_z hr hn) dX0_seed_13 (fun H locs hP hS => ?_)
  refine lv_iload_n hx hb dX0_seed_16 rfl (hl.at rfl) ?_
  refine hret _ _ ls _ _ _ hP hS dX0_seed_17 ?_
  rw [op_seed, ← e0]; exact ⟨rfl, hT.S⟩
theorem cX0_told_ {l : Launch} {D : va_G} {cA : Nat → ClassId} {ad : Nat → Nat} {n : Nat} {f0 : Nat → va_E} {ρ : Nat → Nat → Option Nat} {r : Nat × Nat} {U : Nat → Nat → Nat → Int32} (hn : 81 ≤ n) {A : Nat → Prop} (hD : gD A ad n) {x : Int32} {T : Tta} (hT : CT U r T) : XI l D cA ad n f0 ρ r U A yX0_told cX0_told 2 (some .int) (2) [.ref (ad 0), .int x] (fun o V => o = (op_told x T).1 ∧ CT V r (op_told x T).2) := by
  refine Ci.of rfl (by decide +kernel) (Nat.le_of_ble_eq_true rfl) ?_
  intro p e s m args below meth c Q hC hK hP hret ls hl
  have hx := hC.1
  have hb := hC.2.1
  have hown := hC.2.2.2.1
  have hts := hC.2.2.2.2
  have hS : va_S A s.heap s.heap [] := va_S.rf
  refine lv_iload_n hx hb dX0_told_0 rfl (hl.at rfl) ?_
  refine lv_iconst (v := nI 1) hx hb dX0_told_1 rfl ?_
  refine lv_bipush (v := nI 6) hx hb dX0_told_2 rfl ?_
  refine x_sS hC (cX0_isIn_ ) cs_X0_122 rfl rfl hl.1 (Nat.le_of_ble_eq_true rfl) dX0_told_4 (rk (by decide) (by decide)) ⟨Nat.le_refl _, Nat.le_refl _⟩ (fun r4 p4 => ?_)
  rcases p4 with ⟨rfl, p4⟩ | ⟨rfl, p4⟩
  · obtain ⟨k, hk, rfl⟩ := in_nI (n := 6) ⟨Int32.le_trans (by decide) p4.1, p4.2⟩
    refine l_ifeq_1 hx hb 19 dX0_told_7 rfl ?_
    refine lv_aload_n hx hb dX0_told_10 rfl (hl.at rfl) ?_
    refine c_get hC hK hP 0 (by omega) (wo_wb) rfl in_X0 6 (by decide) q258 rfl rfl dX0_told_11 ?_
    refine lv_iload_n hx hb dX0_told_14 rfl (hl.at rfl) ?_
    refine c_ldi hC hK hP 71 (by omega) (wo_71) _ (rfl) (show _ < 7 by omega) (by decide) dX0_told_15 ?_
    refine lv_goto (tgt := 24) hx hb dX0_told_16 rfl ?_
    refine hret _ _ ls _ _ _ hP hS dX0_told_24 ?_
    first | (rw [op_told, if_pos p4, cn_nI (by omega)]; exact ⟨hT.2.2.2 0 k (by decide) (by show k < 7; omega), hT⟩) | (rw [op_told, if_neg p4]; exact hT.e p21 (by decide))
  · refine l_ifeq_0 hx hb 19 dX0_told_7 rfl ?_
    refine lv_aload_n hx hb dX0_told_19 rfl (hl.at rfl) ?_
    refine lv_iconst (v := nI 1) hx hb dX0_told_20 rfl ?_
    refine x_iV hC hK hP hS (x_rWB hK hP hn) (cX0_finds_ hn hD (k := 1) rfl (by decide)) cv_X0_173 rfl rfl hl.1 (Nat.le_of_ble_eq_true rfl) dX0_told_21 (rk (by decide) (by decide)) ⟨Nat.le_refl _, Nat.le_refl _⟩ (fun r21 U21 H locs p21 hP hS => ?_)
    refine hret _ _ ls _ _ _ hP hS dX0_told_24 ?_
    first | (rw [op_told, if_pos p4, cn_nI (by omega)]; exact ⟨hT.2.2.2 0 k (by decide) (by show k < 7; omega), hT⟩) | (rw [op_told, if_neg p4]; exact hT.e p21 (by decide))
theorem cX0_fair_ {l : Launch} {D : va_G} {cA : Nat → ClassId} {ad : Nat → Nat} {n : Nat} {f0 : Nat → va_E} {ρ : Nat → Nat → Option Nat} {r : Nat × Nat} {U : Nat → Nat → Nat → Int32} (hn : 81 ≤ n) {A : Nat → Prop} (hD : gD A ad n) {x y : Int32} {T : Tta} (hT : CT U r T) : XI l D cA ad n f0 ρ r U A yX0_fair cX0_fair 3 (some .int) (2) [.ref (ad 0), .int x, .int y] (fun o V => o = (op_fair x y T).1 ∧ CT V r (op_fair x y T).2) := by
  refine Ci.of rfl (by decide +kernel) (Nat.le_of_ble_eq_true rfl) ?_
  intro p e s m args below meth c Q hC hK hP hret ls hl
  have hx := hC.1
  have hb := hC.2.1
  have hown := hC.2.2.2.1
  have hts := hC.2.2.2.2
  have hS : va_S A s.heap s.heap [] := va_S.rf
  have hr : r.1 < 3 := hT.lt
  have e0 : U r.1 = T 0 := hT.2.1
  refine lv_iload_n hx hb dX0_fair_0 rfl (hl.at rfl) ?_
  refine x_sS hC (cX0_isFamily_ ) cs_X0_184 rfl rfl hl.1 (Nat.le_of_ble_eq_true rfl) dX0_fair_1 (rk (by decide) (by decide)) ⟨Nat.le_refl _, Nat.le_refl _⟩ (fun r1 p1 => ?_)
  rcases p1 with ⟨rfl, p1⟩ | ⟨rfl, p1⟩
  · obtain ⟨f, hf, rfl⟩ := in_nI p1
    refine l_ifeq_1 hx hb 19 dX0_fair_4 rfl ?_
    refine lv_iload_n hx hb dX0_fair_7 rfl (hl.at rfl) ?_
    refine x_sS hC (cX0_isFamily_ ) cs_X0_184 rfl rfl hl.1 (Nat.le_of_ble_eq_true rfl) dX0_fair_8 (rk (by decide) (by decide)) ⟨Nat.le_refl _, Nat.le_refl _⟩ (fun r8 p8 => ?_)
    rcases p8 with ⟨rfl, p8⟩ | ⟨rfl, p8⟩
    · obtain ⟨g, hg, rfl⟩ := in_nI p8
      refine l_ifeq_1 hx hb 19 dX0_fair_11 rfl ?_
      refine lv_iload_n hx hb dX0_fair_14 rfl (hl.at rfl) ?_
      refine lv_iload_n hx hb dX0_fair_15 rfl (hl.at rfl) ?_
      refine l_neN hx hb 25 dX0_fair_16 rfl (by omega) (by omega) (fun c16 => ?_) (fun c16 => ?_)
      · refine lv_aload_n hx hb dX0_fair_25 rfl (hl.at rfl) ?_
        refine c_get hC hK hP 0 (by omega) (wo_wb) rfl in_X0 2 (by decide) q254 rfl rfl dX0_fair_26 ?_
        refine c_getN hC hK hP (3 + 22 * r.1) (by omega) (wo_ho hr) rfl in_X1 9 (by decide) q162 rfl rfl dX0_fair_29 ?_
        refine lv_iload_n hx hb dX0_fair_32 rfl (hl.at rfl) ?_
        refine c_ldi hC hK hP (3 + 22 * r.1 + 4) (by omega) (c_ldH r.1 4 4 0 5 hr (by decide) (fun _ _ _ => rfl)) _ (rfl) (show _ < 5 by omega) (by decide) dX0_fair_33 ?_
        refine lv_aload_n hx hb dX0_fair_34 rfl (hl.at rfl) ?_
        refine c_get hC hK hP 0 (by omega) (wo_wb) rfl in_X0 2 (by decide) q254 rfl rfl dX0_fair_35 ?_
        refine c_getN hC hK hP (3 + 22 * r.1) (by omega) (wo_ho hr) rfl in_X1 8 (by decide) q160 rfl rfl dX0_fair_38 ?_
        refine lv_iload_n hx hb dX0_fair_41 rfl (hl.at rfl) ?_
        refine c_ldi hC hK hP (3 + 22 * r.1 + 3) (by omega) (c_ldH r.1 3 3 0 5 hr (by decide) (fun _ _ _ => rfl)) _ (rfl) (show _ < 5 by omega) (by decide) dX0_fair_42 ?_
        refine lv_isub hx hb dX0_fair_43 ?_
        refine lv_aload_n hx hb dX0_fair_44 rfl (hl.at rfl) ?_
        refine c_get hC hK hP 0 (by omega) (wo_wb) rfl in_X0 2 (by decide) q254 rfl rfl dX0_fair_45 ?_
        refine c_getN hC hK hP (3 + 22 * r.1) (by omega) (wo_ho hr) rfl in_X1 9 (by decide) q162 rfl rfl dX0_fair_48 ?_
        refine lv_iload_n hx hb dX0_fair_51 rfl (hl.at rfl) ?_
        refine c_ldi hC hK hP (3 + 22 * r.1 + 4) (by omega) (c_ldH r.1 4 4 0 5 hr (by decide) (fun _ _ _ => rfl)) _ (rfl) (show _ < 5 by omega) (by decide) dX0_fair_52 ?_
        refine lv_aload_n hx hb dX0_fair_53 rfl (hl.at rfl) ?_
        refine c_get hC hK hP 0 (by omega) (wo_wb) rfl in_X0 2 (by decide) q254 rfl rfl dX0_fair_54 ?_
        refine c_getN hC hK hP (3 + 22 * r.1) (by omega) (wo_ho hr) rfl in_X1 8 (by decide) q160 rfl rfl dX0_fair_57 ?_
        refine lv_iload_n hx hb dX0_fair_60 rfl (hl.at rfl) ?_
        refine c_ldi hC hK hP (3 + 22 * r.1 + 3) (by omega) (c_ldH r.1 3 3 0 5 hr (by decide) (fun _ _ _ => rfl)) _ (rfl) (show _ < 5 by omega) (by decide) dX0_fair_61 ?_
        refine lv_isub hx hb dX0_fair_62 ?_
        refine lv_isub hx hb dX0_fair_63 ?_
        refine lv_iconst (v := nI 2) hx hb dX0_fair_64 rfl ?_
        refine lv_idiv hx hb dX0_fair_65 (nI_ne0 (by decide) (by decide)) ?_
        refine hret _ _ ls _ _ _ hP hS dX0_fair_66 ?_
        first | (rw [op_fair, if_neg p1]; exact hT.e p21 (by decide)) | (rw [op_fair, if_pos p1, if_neg p8]; exact hT.e p21 (by decide)) | (rw [op_fair, if_pos p1, if_pos p8, if_pos (by rw [c16])]; exact hT.e p21 (by decide)) | (rw [op_fair, if_pos p1, if_pos p8, if_neg (fun z => c16 ((nI_eq (by omega) (by omega)).mp z)), cn_nI (by omega), cn_nI (by omega), ← e0]; exact ⟨by rw [i32_s2], hT⟩)
      · refine lv_aload_n hx hb dX0_fair_19 rfl (hl.at rfl) ?_
        refine lv_iconst (v := nI 1) hx hb dX0_fair_20 rfl ?_
        refine x_iV hC hK hP hS (x_rWB hK hP hn) (cX0_finds_ hn hD (k := 1) rfl (by decide)) cv_X0_173 rfl rfl hl.1 (Nat.le_of_ble_eq_true rfl) dX0_fair_21 (rk (by decide) (by decide)) ⟨Nat.le_refl _, Nat.le_refl _⟩ (fun r21 U21 H locs p21 hP hS => ?_)
        refine hret _ _ ls _ _ _ hP hS dX0_fair_24 ?_
        first | (rw [op_fair, if_neg p1]; exact hT.e p21 (by decide)) | (rw [op_fair, if_pos p1, if_neg p8]; exact hT.e p21 (by decide)) | (rw [op_fair, if_pos p1, if_pos p8, if_pos (by rw [c16])]; exact hT.e p21 (by decide)) | (rw [op_fair, if_pos p1, if_pos p8, if_neg (fun z => c16 ((nI_eq (by omega) (by omega)).mp z)), cn_nI (by omega), cn_nI (by omega), ← e0]; exact ⟨by rw [i32_s2], hT⟩)
    · refine l_ifeq_0 hx hb 19 dX0_fair_11 rfl ?_
      refine lv_aload_n hx hb dX0_fair_19 rfl (hl.at rfl) ?_
      refine lv_iconst (v := nI 1) hx hb dX0_fair_20 rfl ?_
      refine x_iV hC hK hP hS (x_rWB hK hP hn) (cX0_finds_ hn hD (k := 1) rfl (by decide)) cv_X0_173 rfl rfl hl.1 (Nat.le_of_ble_eq_true rfl) dX0_fair_21 (rk (by decide) (by decide)) ⟨Nat.le_refl _, Nat.le_refl _⟩ (fun r21 U21 H locs p21 hP hS => ?_)
      refine hret _ _ ls _ _ _ hP hS dX0_fair_24 ?_
      first | (rw [op_fair, if_neg p1]; exact hT.e p21 (by decide)) | (rw [op_fair, if_pos p1, if_neg p8]; exact hT.e p21 (by decide)) | (rw [op_fair, if_pos p1, if_pos p8, if_pos (by rw [c16])]; exact hT.e p21 (by decide)) | (rw [op_fair, if_pos p1, if_pos p8, if_neg (fun z => c16 ((nI_eq (by omega) (by omega)).mp z)), cn_nI (by omega), cn_nI (by omega), ← e0]; exact ⟨by rw [i32_s2], hT⟩)
  · refine l_ifeq_0 hx hb 19 dX0_fair_4 rfl ?_
    refine lv_aload_n hx hb dX0_fair_19 rfl (hl.at rfl) ?_
    refine lv_iconst (v := nI 1) hx hb dX0_fair_20 rfl ?_
    refine x_iV hC hK hP hS (x_rWB hK hP hn) (cX0_finds_ hn hD (k := 1) rfl (by decide)) cv_X0_173 rfl rfl hl.1 (Nat.le_of_ble_eq_true rfl) dX0_fair_21 (rk (by decide) (by decide)) ⟨Nat.le_refl _, Nat.le_refl _⟩ (fun r21 U21 H locs p21 hP hS => ?_)
    refine hret _ _ ls _ _ _ hP hS dX0_fair_24 ?_
    first | (rw [op_fair, if_neg p1]; exact hT.e p21 (by decide)) | (rw [op_fair, if_pos p1, if_neg p8]; exact hT.e p21 (by decide)) | (rw [op_fair, if_pos p1, if_pos p8, if_pos (by rw [c16])]; exact hT.e p21 (by decide)) | (rw [op_fair, if_pos p1, if_pos p8, if_neg (fun z => c16 ((nI_eq (by omega) (by omega)).mp z)), cn_nI (by omega), cn_nI (by omega), ← e0]; exact ⟨by rw [i32_s2], hT⟩)
theorem cX0_isKind_ {l : Launch} {x : Int32} : Cp l (fun _ => True) yX0_isKind cX0_isKind 1 (some .boolean) (0) [.int x] (fun _ => True) (bz (nI 0 ≤ x ∧ x ≤ nI 69)) := by
  refine Cp.ofz rfl (by decide +kernel) (Nat.le_of_ble_eq_true rfl) ?_
  intro p e s m args below meth c Q hC hK hP hret ls hl
  have hx := hC.1
  have hb := hC.2.1
  have hown := hC.2.2.2.1
  have hts := hC.2.2.2.2
  refine lv_iload_n hx hb dX0_isKind_0 rfl (hl.at rfl) ?_
  refine lv_if_lt (tgt := 17) hx hb dX0_isKind_1 rfl (fun c1 => ?_) (fun c1 => ?_)
  · refine lv_iconst (v := nI 0) hx hb dX0_isKind_17 rfl ?_
    refine hret ls _ _ dX0_isKind_18 (by first | exact Or.inl rfl | exact Or.inr rfl) ?_
    first | (exact Or.inl ⟨rfl, kd_iff.mp ⟨c1, c10⟩⟩) | (exact Or.inr ⟨rfl, fun z => absurd c1 (kd_iff.mpr z).1⟩) | (exact Or.inr ⟨rfl, fun z => absurd c10 (kd_iff.mpr z).2⟩)
  · refine lv_iload_n hx hb dX0_isKind_4 rfl (hl.at rfl) ?_
    refine lv_bipush (v := nI 10) hx hb dX0_isKind_5 rfl ?_
    refine lv_idiv hx hb dX0_isKind_7 (nI_ne0 (by decide) (by decide)) ?_
    refine lv_bipush (v := nI 6) hx hb dX0_isKind_8 rfl ?_
    refine lv_icmp_gt (tgt := 17) hx hb dX0_isKind_10 rfl (fun c10 => ?_) (fun c10 => ?_)
    · refine lv_iconst (v := nI 0) hx hb dX0_isKind_17 rfl ?_
      refine hret ls _ _ dX0_isKind_18 (by first | exact Or.inl rfl | exact Or.inr rfl) ?_
      first | (exact Or.inl ⟨rfl, kd_iff.mp ⟨c1, c10⟩⟩) | (exact Or.inr ⟨rfl, fun z => absurd c1 (kd_iff.mpr z).1⟩) | (exact Or.inr ⟨rfl, fun z => absurd c10 (kd_iff.mpr z).2⟩)
    · refine lv_iconst (v := nI 1) hx hb dX0_isKind_13 rfl ?_
      refine lv_goto (tgt := 18) hx hb dX0_isKind_14 rfl ?_
      refine hret ls _ _ dX0_isKind_18 (by first | exact Or.inl rfl | exact Or.inr rfl) ?_
      first | (exact Or.inl ⟨rfl, kd_iff.mp ⟨c1, c10⟩⟩) | (exact Or.inr ⟨rfl, fun z => absurd c1 (kd_iff.mpr z).1⟩) | (exact Or.inr ⟨rfl, fun z => absurd c10 (kd_iff.mpr z).2⟩)
theorem cX0_tell_ {l : Launch} {D : va_G} {cA : Nat → ClassId} {ad : Nat → Nat} {n : Nat} {f0 : Nat → va_E} {ρ : Nat → Nat → Option Nat} {r : Nat × Nat} {U : Nat → Nat → Nat → Int32} (hn : 81 ≤ n) {A : Nat → Prop} (hD : gD A ad n) {v : Int32} {T : Tta} (hT : CT U r T) (hI : Inv (T 0)) : XI l D cA ad n f0 ρ r U A yX0_tell cX0_tell 2 (some .int) (2) [.ref (ad 0), .int v] (fun o V => o = (op_tell v T).1 ∧ CT V r (op_tell v T).2) := by
  refine Ci.of rfl (by decide +kernel) (Nat.le_of_ble_eq_true rfl) ?_
  intro p e s m args below meth c Q hC hK hP hret ls hl
  have hx := hC.1
  have hb := hC.2.1
  have hown := hC.2.2.2.1
  have hts := hC.2.2.2.2
  have hS : va_S A s.heap s.heap [] := va_S.rf
  have hr : r.1 < 3 := hT.lt
  have e0 : U r.1 = T 0 := hT.2.1
  obtain ⟨eW0, hW⟩ := inv_wt hI
  have eW : U r.1 0 4 = nI (wtg (T 0)) := by rw [e0]; exact eW0
  refine lv_aload_n hx hb dX0_tell_0 rfl (hl.at rfl) ?_
  refine c_get hC hK hP 0 (by omega) (wo_wb) rfl in_X0 2 (by decide) q254 rfl rfl dX0_tell_1 ?_
  refine c_getN hC hK hP (3 + 22 * r.1) (by omega) (wo_ho hr) rfl in_X1 5 (by decide) q154 rfl rfl dX0_tell_4 ?_
  refine l_top (nI (wtg (T 0))) eW ?_
  refine lv_bipush (v := nI 24) hx hb dX0_tell_7 rfl ?_
  refine l_neN hx hb 18 dX0_tell_9 rfl (by omega) (by omega) (fun c9 => ?_) (fun c9 => ?_)
  · refine lv_aload_n hx hb dX0_tell_18 rfl (hl.at rfl) ?_
    refine c_get hC hK hP 0 (by omega) (wo_wb) rfl in_X0 2 (by decide) q254 rfl rfl dX0_tell_19 ?_
    refine c_getN hC hK hP (3 + 22 * r.1) (by omega) (wo_ho hr) rfl in_X1 18 (by decide) q183 rfl rfl dX0_tell_22 ?_
    refine lv_aload_n hx hb dX0_tell_25 rfl (hl.at rfl) ?_
    refine c_get hC hK hP 0 (by omega) (wo_wb) rfl in_X0 2 (by decide) q254 rfl rfl dX0_tell_26 ?_
    refine c_getN hC hK hP (3 + 22 * r.1) (by omega) (wo_ho hr) rfl in_X1 5 (by decide) q154 rfl rfl dX0_tell_29 ?_
    refine l_top (nI (wtg (T 0))) eW ?_
    refine lv_iload_n hx hb dX0_tell_32 rfl (hl.at rfl) ?_
    refine c_sti hC hK hP hD hS (3 + 22 * r.1 + 13) (by omega) (c_ldH r.1 13 15 0 24 hr (by decide) (fun _ _ _ => rfl)) _ (rfl) (show _ < 24 by omega) (by decide) (c_wH r.1 13 15 0 24 hr hn (by decide) rfl (fun _ _ _ => rfl)) dX0_tell_33 (fun H locs hP hS => ?_)
    refine lv_aload_n hx hb dX0_tell_34 rfl (hl.at rfl) ?_
    refine c_get hC hK hP 0 (by omega) (wo_wb) rfl in_X0 2 (by decide) q254 rfl rfl dX0_tell_35 ?_
    refine lv_dup hx hb dX0_tell_38 rfl ?_
    refine c_getN hC hK hP (3 + 22 * r.1) (by omega) (wo_ho hr) rfl in_X1 5 (by decide) q154 rfl rfl dX0_tell_39 ?_
    refine lv_iconst (v := nI 1) hx hb dX0_tell_42 rfl ?_
    refine lv_iadd hx hb dX0_tell_43 ?_
    refine c_putN (ty := .int) hC hK hP hD hS (3 + 22 * r.1) (by omega) (wo_ho hr) rfl in_X1 tyX1_ok nmX1 5 (by decide) q154 rfl rfl (by decide +kernel) rfl rfl (by show 5 < 19; decide) (cp_waiting hr hn) dX0_tell_44 (fun H locs hP hS => ?_)
    refine lv_aload_n hx hb dX0_tell_47 rfl (hl.at rfl) ?_
    refine c_get hC hK hP 0 (by omega) (wo_wb) rfl in_X0 2 (by decide) q254 rfl rfl dX0_tell_48 ?_
    refine c_getN hC hK hP (3 + 22 * r.1) (by omega) (wo_ho hr) rfl in_X1 5 (by decide) q154 rfl rfl dX0_tell_51 ?_
    refine hret _ _ ls _ _ _ hP hS dX0_tell_54 ?_
    first | (rw [op_tell, if_pos c9]; exact hT.e p14 (by decide)) | (rw [op_tell, if_neg c9, sp_tell]; simp only [up3_uS, uS_uS, uS_s, e0, up1_s, up1_n (show (0 : Nat) ≠ 15 by decide), pk_us, eW0, nI_add]; exact ⟨trivial, hT.S⟩)
  · refine lv_aload_n hx hb dX0_tell_12 rfl (hl.at rfl) ?_
    refine lv_iconst (v := nI 4) hx hb dX0_tell_13 rfl ?_
    refine x_iV hC hK hP hS (x_rWB hK hP hn) (cX0_finds_ hn hD (k := 4) rfl (by decide)) cv_X0_173 rfl rfl hl.1 (Nat.le_of_ble_eq_true rfl) dX0_tell_14 (rk (by decide) (by decide)) ⟨Nat.le_refl _, Nat.le_refl _⟩ (fun r14 U14 H locs p14 hP hS => ?_)
    refine hret _ _ ls _ _ _ hP hS dX0_tell_17 ?_
    first | (rw [op_tell, if_pos c9]; exact hT.e p14 (by decide)) | (rw [op_tell, if_neg c9, sp_tell]; simp only [up3_uS, uS_uS, uS_s, e0, up1_s, up1_n (show (0 : Nat) ≠ 15 by decide), pk_us, eW0, nI_add]; exact ⟨trivial, hT.S⟩)
theorem cX0_sell_ {l : Launch} {D : va_G} {cA : Nat → ClassId} {ad : Nat → Nat} {n : Nat} {f0 : Nat → va_E} {ρ : Nat → Nat → Option Nat} {r : Nat × Nat} {U : Nat → Nat → Nat → Int32} (hn : 81 ≤ n) {A : Nat → Prop} (hD : gD A ad n) {x y z : Int32} {T : Tta} (hT : CT U r T) (hI : Inv (T 0)) : XI l D cA ad n f0 ρ r U A yX0_sell cX0_sell 4 (some .int) (2) [.ref (ad 0), .int x, .int y, .int z] (fun o V => o = (op_sell x y z T).1 ∧ CT V r (op_sell x y z T).2) := by
  refine Ci.of rfl (by decide +kernel) (Nat.le_of_ble_eq_true rfl) ?_
  intro p e s m args below meth c Q hC hK hP hret ls hl
  have hx := hC.1
  have hb := hC.2.1
  have hown := hC.2.2.2.1
  have hts := hC.2.2.2.2
  have hS : va_S A s.heap s.heap [] := va_S.rf
  have hr : r.1 < 3 := hT.lt
  have e0 : U r.1 = T 0 := hT.2.1
  refine lv_iload_n hx hb dX0_sell_0 rfl (hl.at rfl) ?_
  refine x_sS hC (cX0_isFamily_ ) cs_X0_184 rfl rfl hl.1 (Nat.le_of_ble_eq_true rfl) dX0_sell_1 (rk (by decide) (by decide)) ⟨Nat.le_refl _, Nat.le_refl _⟩ (fun r1 p1 => ?_)
  rcases p1 with ⟨rfl, p1⟩ | ⟨rfl, p1⟩
  · obtain ⟨f, hf, rfl⟩ := in_nI p1
    refine l_ifeq_1 hx hb 30 dX0_sell_4 rfl ?_
    refine lv_iload_n hx hb dX0_sell_7 rfl (hl.at rfl) ?_
    refine x_sS hC (cX0_isFamily_ ) cs_X0_184 rfl rfl hl.1 (Nat.le_of_ble_eq_true rfl) dX0_sell_8 (rk (by decide) (by decide)) ⟨Nat.le_refl _, Nat.le_refl _⟩ (fun r8 p8 => ?_)
    rcases p8 with ⟨rfl, p8⟩ | ⟨rfl, p8⟩
    · obtain ⟨g, hg, rfl⟩ := in_nI p8
      refine l_ifeq_1 hx hb 30 dX0_sell_11 rfl ?_
      refine lv_iload_n hx hb dX0_sell_14 rfl (hl.at rfl) ?_
      refine lv_iload_n hx hb dX0_sell_15 rfl (hl.at rfl) ?_
      refine l_eqN hx hb 30 dX0_sell_16 rfl (by omega) (by omega) (fun c16 => ?_) (fun c16 => ?_)
      · refine lv_aload_n hx hb dX0_sell_30 rfl (hl.at rfl) ?_
        refine lv_iconst (v := nI 1) hx hb dX0_sell_31 rfl ?_
        refine x_iV hC hK hP hS (x_rWB hK hP hn) (cX0_finds_ hn hD (k := 1) rfl (by decide)) cv_X0_173 rfl rfl hl.1 (Nat.le_of_ble_eq_true rfl) dX0_sell_32 (rk (by decide) (by decide)) ⟨Nat.le_refl _, Nat.le_refl _⟩ (fun r32 U32 H locs p32 hP hS => ?_)
        refine hret _ _ ls _ _ _ hP hS dX0_sell_35 ?_
        first | (rw [op_sell, if_neg p1]; exact hT.e p32 (by decide)) | (rw [op_sell, if_pos p1, if_neg p8]; exact hT.e p32 (by decide)) | (rw [op_sell, if_pos p1, if_pos p8, if_pos (by rw [c16])]; exact hT.e p32 (by decide)) | (rw [op_sell, if_pos p1, if_pos p8, if_neg (fun z => c16 ((nI_eq (by omega) (by omega)).mp z)), if_neg p24]; exact hT.e p32 (by decide)) | (rw [op_sell, if_pos p1, if_pos p8, if_neg (fun z => c16 ((nI_eq (by omega) (by omega)).mp z)), if_pos p24, cn_nI (by omega), if_neg (show ¬ z ≤ T 0 4 f from by rw [← e0]; exact c46)]; exact hT.e p51 (by decide)) | (have hz : Bd z 9999 := in_nI ⟨Int32.le_trans (by decide) p24.1, p24.2⟩; have b1 : Bd (U r.1 4 f - z) 999999 := bd_sub (by rw [e0]; exact inv_bd hI 4 f (by show f < 5; omega)) hz (by decide) (by decide) c46; have b2 : ¬ (up3 U r.1 4 (upd (U r.1 4) f (U r.1 4 f - z)) r.1 4 g + z < nI 0) := (by rw [up3_s, up1_s, pk_un (fun q => c16 q.symm), e0]; exact bd_nn (bd_ad2 (inv_bd hI 4 g (by show g < 5; omega)) hz (Nat.le_refl _)) (by decide)); rw [op_sell, if_pos p1, if_pos p8, if_neg (fun z => c16 ((nI_eq (by omega) (by omega)).mp z)), if_pos p24, cn_nI (by omega), cn_nI (by omega), if_pos (show z ≤ T 0 4 f from by rw [← e0]; exact c46), ← e0, hld_id b1 (by decide), mn_held b2]; simp only [up3_uS, uS_uS, uS_s, up1_s]; exact ⟨rfl, hT.S⟩)
      · refine lv_iload_n hx hb dX0_sell_19 rfl (hl.at rfl) ?_
        refine lv_iconst (v := nI 1) hx hb dX0_sell_20 rfl ?_
        refine lv_sipush (v := nI 9999) hx hb dX0_sell_21 rfl ?_
        refine x_sS hC (cX0_isIn_ ) cs_X0_122 rfl rfl hl.1 (Nat.le_of_ble_eq_true rfl) dX0_sell_24 (rk (by decide) (by decide)) ⟨Nat.le_refl _, Nat.le_refl _⟩ (fun r24 p24 => ?_)
        rcases p24 with ⟨rfl, p24⟩ | ⟨rfl, p24⟩
        · refine l_ifne_1 hx hb 36 dX0_sell_27 rfl ?_
          refine lv_aload_n hx hb dX0_sell_36 rfl (hl.at rfl) ?_
          refine c_get hC hK hP 0 (by omega) (wo_wb) rfl in_X0 2 (by decide) q254 rfl rfl dX0_sell_37 ?_
          refine c_getN hC hK hP (3 + 22 * r.1) (by omega) (wo_ho hr) rfl in_X1 9 (by decide) q162 rfl rfl dX0_sell_40 ?_
          refine lv_iload_n hx hb dX0_sell_43 rfl (hl.at rfl) ?_
          refine c_ldi hC hK hP (3 + 22 * r.1 + 4) (by omega) (c_ldH r.1 4 4 0 5 hr (by decide) (fun _ _ _ => rfl)) _ (rfl) (show _ < 5 by omega) (by decide) dX0_sell_44 ?_
          refine lv_iload_n hx hb dX0_sell_45 rfl (hl.at rfl) ?_
          refine lv_icmp_ge (tgt := 55) hx hb dX0_sell_46 rfl (fun c46 => ?_) (fun c46 => ?_)
          · refine lv_aload_n hx hb dX0_sell_55 rfl (hl.at rfl) ?_
            refine c_get hC hK hP 0 (by omega) (wo_wb) rfl in_X0 2 (by decide) q254 rfl rfl dX0_sell_56 ?_
            refine c_getN hC hK hP (3 + 22 * r.1) (by omega) (wo_ho hr) rfl in_X1 9 (by decide) q162 rfl rfl dX0_sell_59 ?_
            refine lv_iload_n hx hb dX0_sell_62 rfl (hl.at rfl) ?_
            refine lv_dup2_11 hx hb dX0_sell_63 rfl rfl ?_
            refine c_ldi hC hK hP (3 + 22 * r.1 + 4) (by omega) (c_ldH r.1 4 4 0 5 hr (by decide) (fun _ _ _ => rfl)) _ (rfl) (show _ < 5 by omega) (by decide) dX0_sell_64 ?_
            refine lv_iload_n hx hb dX0_sell_65 rfl (hl.at rfl) ?_
            refine lv_isub hx hb dX0_sell_66 ?_
            refine c_sti hC hK hP hD hS (3 + 22 * r.1 + 4) (by omega) (c_ldH r.1 4 4 0 5 hr (by decide) (fun _ _ _ => rfl)) _ (rfl) (show _ < 5 by omega) (by decide) (c_wH r.1 4 4 0 5 hr hn (by decide) rfl (fun _ _ _ => rfl)) dX0_sell_67 (fun H locs hP hS => ?_)
            refine lv_aload_n hx hb dX0_sell_68 rfl (hl.at rfl) ?_
            refine c_get hC hK hP 0 (by omega) (wo_wb) rfl in_X0 2 (by decide) q254 rfl rfl dX0_sell_69 ?_
            refine c_getN hC hK hP (3 + 22 * r.1) (by omega) (wo_ho hr) rfl in_X1 9 (by decide) q162 rfl rfl dX0_sell_72 ?_
            refine lv_iload_n hx hb dX0_sell_75 rfl (hl.at rfl) ?_
            refine lv_ldc (v := 999999) hx hb hown (hts _ q657) dX0_sell_76 ?_
            refine lv_aload_n hx hb dX0_sell_78 rfl (hl.at rfl) ?_
            refine c_get hC hK hP 0 (by omega) (wo_wb) rfl in_X0 2 (by decide) q254 rfl rfl dX0_sell_79 ?_
            refine c_getN hC hK hP (3 + 22 * r.1) (by omega) (wo_ho hr) rfl in_X1 9 (by decide) q162 rfl rfl dX0_sell_82 ?_
            refine lv_iload_n hx hb dX0_sell_85 rfl (hl.at rfl) ?_
            refine c_ldi hC hK hP (3 + 22 * r.1 + 4) (by omega) (c_ldH r.1 4 4 0 5 hr (by decide) (fun _ _ _ => rfl)) _ (rfl) (show _ < 5 by omega) (by decide) dX0_sell_86 ?_
            refine lv_iload_n hx hb dX0_sell_87 rfl (hl.at rfl) ?_
            refine lv_iadd hx hb dX0_sell_88 ?_
            refine x_min hC q492 hl.1 (by decide) (Nat.le_of_ble_eq_true rfl) ⟨Nat.le_refl _, Nat.le_refl _⟩ dX0_sell_89 ?_
            refine c_sti hC hK hP hD hS (3 + 22 * r.1 + 4) (by omega) (c_ldH r.1 4 4 0 5 hr (by decide) (fun _ _ _ => rfl)) _ (rfl) (show _ < 5 by omega) (by decide) (c_wH r.1 4 4 0 5 hr hn (by decide) rfl (fun _ _ _ => rfl)) dX0_sell_92 (fun H locs hP hS => ?_)
            refine lv_aload_n hx hb dX0_sell_93 rfl (hl.at rfl) ?_
            refine c_get hC hK hP 0 (by omega) (wo_wb) rfl in_X0 2 (by decide) q254 rfl rfl dX0_sell_94 ?_
            refine c_getN hC hK hP (3 + 22 * r.1) (by omega) (wo_ho hr) rfl in_X1 9 (by decide) q162 rfl rfl dX0_sell_97 ?_
            refine lv_iload_n hx hb dX0_sell_100 rfl (hl.at rfl) ?_
            refine c_ldi hC hK hP (3 + 22 * r.1 + 4) (by omega) (c_ldH r.1 4 4 0 5 hr (by decide) (fun _ _ _ => rfl)) _ (rfl) (show _ < 5 by omega) (by decide) dX0_sell_101 ?_
            refine hret _ _ ls _ _ _ hP hS dX0_sell_102 ?_
            first | (rw [op_sell, if_neg p1]; exact hT.e p32 (by decide)) | (rw [op_sell, if_pos p1, if_neg p8]; exact hT.e p32 (by decide)) | (rw [op_sell, if_pos p1, if_pos p8, if_pos (by rw [c16])]; exact hT.e p32 (by decide)) | (rw [op_sell, if_pos p1, if_pos p8, if_neg (fun z => c16 ((nI_eq (by omega) (by omega)).mp z)), if_neg p24]; exact hT.e p32 (by decide)) | (rw [op_sell, if_pos p1, if_pos p8, if_neg (fun z => c16 ((nI_eq (by omega) (by omega)).mp z)), if_pos p24, cn_nI (by omega), if_neg (show ¬ z ≤ T 0 4 f from by rw [← e0]; exact c46)]; exact hT.e p51 (by decide)) | (have hz : Bd z 9999 := in_nI ⟨Int32.le_trans (by decide) p24.1, p24.2⟩; have b1 : Bd (U r.1 4 f - z) 999999 := bd_sub (by rw [e0]; exact inv_bd hI 4 f (by show f < 5; omega)) hz (by decide) (by decide) c46; have b2 : ¬ (up3 U r.1 4 (upd (U r.1 4) f (U r.1 4 f - z)) r.1 4 g + z < nI 0) := (by rw [up3_s, up1_s, pk_un (fun q => c16 q.symm), e0]; exact bd_nn (bd_ad2 (inv_bd hI 4 g (by show g < 5; omega)) hz (Nat.le_refl _)) (by decide)); rw [op_sell, if_pos p1, if_pos p8, if_neg (fun z => c16 ((nI_eq (by omega) (by omega)).mp z)), if_pos p24, cn_nI (by omega), cn_nI (by omega), if_pos (show z ≤ T 0 4 f from by rw [← e0]; exact c46), ← e0, hld_id b1 (by decide), mn_held b2]; simp only [up3_uS, uS_uS, uS_s, up1_s]; exact ⟨rfl, hT.S⟩)
          · refine lv_aload_n hx hb dX0_sell_49 rfl (hl.at rfl) ?_
            refine lv_iconst (v := nI 3) hx hb dX0_sell_50 rfl ?_
            refine x_iV hC hK hP hS (x_rWB hK hP hn) (cX0_finds_ hn hD (k := 3) rfl (by decide)) cv_X0_173 rfl rfl hl.1 (Nat.le_of_ble_eq_true rfl) dX0_sell_51 (rk (by decide) (by decide)) ⟨Nat.le_refl _, Nat.le_refl _⟩ (fun r51 U51 H locs p51 hP hS => ?_)
            refine hret _ _ ls _ _ _ hP hS dX0_sell_54 ?_
            first | (rw [op_sell, if_neg p1]; exact hT.e p32 (by decide)) | (rw [op_sell, if_pos p1, if_neg p8]; exact hT.e p32 (by decide)) | (rw [op_sell, if_pos p1, if_pos p8, if_pos (by rw [c16])]; exact hT.e p32 (by decide)) | (rw [op_sell, if_pos p1, if_pos p8, if_neg (fun z => c16 ((nI_eq (by omega) (by omega)).mp z)), if_neg p24]; exact hT.e p32 (by decide)) | (rw [op_sell, if_pos p1, if_pos p8, if_neg (fun z => c16 ((nI_eq (by omega) (by omega)).mp z)), if_pos p24, cn_nI (by omega), if_neg (show ¬ z ≤ T 0 4 f from by rw [← e0]; exact c46)]; exact hT.e p51 (by decide)) | (have hz : Bd z 9999 := in_nI ⟨Int32.le_trans (by decide) p24.1, p24.2⟩; have b1 : Bd (U r.1 4 f - z) 999999 := bd_sub (by rw [e0]; exact inv_bd hI 4 f (by show f < 5; omega)) hz (by decide) (by decide) c46; have b2 : ¬ (up3 U r.1 4 (upd (U r.1 4) f (U r.1 4 f - z)) r.1 4 g + z < nI 0) := (by rw [up3_s, up1_s, pk_un (fun q => c16 q.symm), e0]; exact bd_nn (bd_ad2 (inv_bd hI 4 g (by show g < 5; omega)) hz (Nat.le_refl _)) (by decide)); rw [op_sell, if_pos p1, if_pos p8, if_neg (fun z => c16 ((nI_eq (by omega) (by omega)).mp z)), if_pos p24, cn_nI (by omega), cn_nI (by omega), if_pos (show z ≤ T 0 4 f from by rw [← e0]; exact c46), ← e0, hld_id b1 (by decide), mn_held b2]; simp only [up3_uS, uS_uS, uS_s, up1_s]; exact ⟨rfl, hT.S⟩)
        · refine l_ifne_0 hx hb 36 dX0_sell_27 rfl ?_
          refine lv_aload_n hx hb dX0_sell_30 rfl (hl.at rfl) ?_
          refine lv_iconst (v := nI 1) hx hb dX0_sell_31 rfl ?_
          refine x_iV hC hK hP hS (x_rWB hK hP hn) (cX0_finds_ hn hD (k := 1) rfl (by decide)) cv_X0_173 rfl rfl hl.1 (Nat.le_of_ble_eq_true rfl) dX0_sell_32 (rk (by decide) (by decide)) ⟨Nat.le_refl _, Nat.le_refl _⟩ (fun r32 U32 H locs p32 hP hS => ?_)
          refine hret _ _ ls _ _ _ hP hS dX0_sell_35 ?_
          first | (rw [op_sell, if_neg p1]; exact hT.e p32 (by decide)) | (rw [op_sell, if_pos p1, if_neg p8]; exact hT.e p32 (by decide)) | (rw [op_sell, if_pos p1, if_pos p8, if_pos (by rw [c16])]; exact hT.e p32 (by decide)) | (rw [op_sell, if_pos p1, if_pos p8, if_neg (fun z => c16 ((nI_eq (by omega) (by omega)).mp z)), if_neg p24]; exact hT.e p32 (by decide)) | (rw [op_sell, if_pos p1, if_pos p8, if_neg (fun z => c16 ((nI_eq (by omega) (by omega)).mp z)), if_pos p24, cn_nI (by omega), if_neg (show ¬ z ≤ T 0 4 f from by rw [← e0]; exact c46)]; exact hT.e p51 (by decide)) | (have hz : Bd z 9999 := in_nI ⟨Int32.le_trans (by decide) p24.1, p24.2⟩; have b1 : Bd (U r.1 4 f - z) 999999 := bd_sub (by rw [e0]; exact inv_bd hI 4 f (by show f < 5; omega)) hz (by decide) (by decide) c46; have b2 : ¬ (up3 U r.1 4 (upd (U r.1 4) f (U r.1 4 f - z)) r.1 4 g + z < nI 0) := (by rw [up3_s, up1_s, pk_un (fun q => c16 q.symm), e0]; exact bd_nn (bd_ad2 (inv_bd hI 4 g (by show g < 5; omega)) hz (Nat.le_refl _)) (by decide)); rw [op_sell, if_pos p1, if_pos p8, if_neg (fun z => c16 ((nI_eq (by omega) (by omega)).mp z)), if_pos p24, cn_nI (by omega), cn_nI (by omega), if_pos (show z ≤ T 0 4 f from by rw [← e0]; exact c46), ← e0, hld_id b1 (by decide), mn_held b2]; simp only [up3_uS, uS_uS, uS_s, up1_s]; exact ⟨rfl, hT.S⟩)
    · refine l_ifeq_0 hx hb 30 dX0_sell_11 rfl ?_
      refine lv_aload_n hx hb dX0_sell_30 rfl (hl.at rfl) ?_
      refine lv_iconst (v := nI 1) hx hb dX0_sell_31 rfl ?_
      refine x_iV hC hK hP hS (x_rWB hK hP hn) (cX0_finds_ hn hD (k := 1) rfl (by decide)) cv_X0_173 rfl rfl hl.1 (Nat.le_of_ble_eq_true rfl) dX0_sell_32 (rk (by decide) (by decide)) ⟨Nat.le_refl _, Nat.le_refl _⟩ (fun r32 U32 H locs p32 hP hS => ?_)
      refine hret _ _ ls _ _ _ hP hS dX0_sell_35 ?_
      first | (rw [op_sell, if_neg p1]; exact hT.e p32 (by decide)) | (rw [op_sell, if_pos p1, if_neg p8]; exact hT.e p32 (by decide)) | (rw [op_sell, if_pos p1, if_pos p8, if_pos (by rw [c16])]; exact hT.e p32 (by decide)) | (rw [op_sell, if_pos p1, if_pos p8, if_neg (fun z => c16 ((nI_eq (by omega) (by omega)).mp z)), if_neg p24]; exact hT.e p32 (by decide)) | (rw [op_sell, if_pos p1, if_pos p8, if_neg (fun z => c16 ((nI_eq (by omega) (by omega)).mp z)), if_pos p24, cn_nI (by omega), if_neg (show ¬ z ≤ T 0 4 f from by rw [← e0]; exact c46)]; exact hT.e p51 (by decide)) | (have hz : Bd z 9999 := in_nI ⟨Int32.le_trans (by decide) p24.1, p24.2⟩; have b1 : Bd (U r.1 4 f - z) 999999 := bd_sub (by rw [e0]; exact inv_bd hI 4 f (by show f < 5; omega)) hz (by decide) (by decide) c46; have b2 : ¬ (up3 U r.1 4 (upd (U r.1 4) f (U r.1 4 f - z)) r.1 4 g + z < nI 0) := (by rw [up3_s, up1_s, pk_un (fun q => c16 q.symm), e0]; exact bd_nn (bd_ad2 (inv_bd hI 4 g (by show g < 5; omega)) hz (Nat.le_refl _)) (by decide)); rw [op_sell, if_pos p1, if_pos p8, if_neg (fun z => c16 ((nI_eq (by omega) (by omega)).mp z)), if_pos p24, cn_nI (by omega), cn_nI (by omega), if_pos (show z ≤ T 0 4 f from by rw [← e0]; exact c46), ← e0, hld_id b1 (by decide), mn_held b2]; simp only [up3_uS, uS_uS, uS_s, up1_s]; exact ⟨rfl, hT.S⟩)
  · refine l_ifeq_0 hx hb 30 dX0_sell_4 rfl ?_
    refine lv_aload_n hx hb dX0_sell_30 rfl (hl.at rfl) ?_
    refine lv_iconst (v := nI 1) hx hb dX0_sell_31 rfl ?_
    refine x_iV hC hK hP hS (x_rWB hK hP hn) (cX0_finds_ hn hD (k := 1) rfl (by decide)) cv_X0_173 rfl rfl hl.1 (Nat.le_of_ble_eq_true rfl) dX0_sell_32 (rk (by decide) (by decide)) ⟨Nat.le_refl _, Nat.le_refl _⟩ (fun r32 U32 H locs p32 hP hS => ?_)
    refine hret _ _ ls _ _ _ hP hS dX0_sell_35 ?_
    first | (rw [op_sell, if_neg p1]; exact hT.e p32 (by decide)) | (rw [op_sell, if_pos p1, if_neg p8]; exact hT.e p32 (by decide)) | (rw [op_sell, if_pos p1, if_pos p8, if_pos (by rw [c16])]; exact hT.e p32 (by decide)) | (rw [op_sell, if_pos p1, if_pos p8, if_neg (fun z => c16 ((nI_eq (by omega) (by omega)).mp z)), if_neg p24]; exact hT.e p32 (by decide)) | (rw [op_sell, if_pos p1, if_pos p8, if_neg (fun z => c16 ((nI_eq (by omega) (by omega)).mp z)), if_pos p24, cn_nI (by omega), if_neg (show ¬ z ≤ T 0 4 f from by rw [← e0]; exact c46)]; exact hT.e p51 (by decide)) | (have hz : Bd z 9999 := in_nI ⟨Int32.le_trans (by decide) p24.1, p24.2⟩; have b1 : Bd (U r.1 4 f - z) 999999 := bd_sub (by rw [e0]; exact inv_bd hI 4 f (by show f < 5; omega)) hz (by decide) (by decide) c46; have b2 : ¬ (up3 U r.1 4 (upd (U r.1 4) f (U r.1 4 f - z)) r.1 4 g + z < nI 0) := (by rw [up3_s, up1_s, pk_un (fun q => c16 q.symm), e0]; exact bd_nn (bd_ad2 (inv_bd hI 4 g (by show g < 5; omega)) hz (Nat.le_refl _)) (by decide)); rw [op_sell, if_pos p1, if_pos p8, if_neg (fun z => c16 ((nI_eq (by omega) (by omega)).mp z)), if_pos p24, cn_nI (by omega), cn_nI (by omega), if_pos (show z ≤ T 0 4 f from by rw [← e0]; exact c46), ← e0, hld_id b1 (by decide), mn_held b2]; simp only [up3_uS, uS_uS, uS_s, up1_s]; exact ⟨rfl, hT.S⟩)
