theorem met_begins {l : Launch} {D : va_G} {cA : Nat → ClassId} {b : Nat} {σ : Nat → Nat → Int32} {x : Int32} {k : Nat} {t : TR} (ht : TRr σ t) (hx1 : x = nI k) : MV l D cA b yX5_begins cX5_begins 2 (0) [.ref b, .int x] σ (fun τ => TRr τ (ran k t) ∧ Kp [10, 24] σ τ) := by
  refine Cv.of (by decide +kernel) (Nat.le_of_ble_eq_true rfl) ?_
  intro p e s m args below meth c Q hC hK hP hret ls hl
  have hx := hC.1
  have hb := hC.2.1
  have hown := hC.2.2.2.1
  have hts := hC.2.2.2.2
  have hS : va_S (mA b) s.heap s.heap [] := va_S.rf
  subst hx1
  have h30 := ht.2.2
  refine lv_aload_n hx hb dX5_begins_0 rfl (hl.at rfl) ?_
  refine mg_traced hC hK hP dX5_begins_1 ?_
  refine l_top _ ht.2.1 ?_
  refine lv_bipush (v := nI 30) hx hb dX5_begins_4 rfl ?_
  refine l_geN hx hb 29 dX5_begins_6 rfl (by omega) (by omega) (fun c6 => ?_) (fun c6 => ?_)
  · refine hret _ _ ls _ _ hP hS dX5_begins_29 ?_
    first | (refine ⟨⟨fun j hj => ?_, ?_, ?_⟩, (Kp.rf.up (by decide)).up (by decide)⟩; (show upd (σ 10) t.2 (nI k) j = _; rw [ran, if_pos c6]; show _ = upd t.1 t.2 (nI k) j; by_cases e : j = t.2; (rw [e, pk_us, pk_us]); (rw [pk_un e, pk_un e]; exact ht.1 j hj)); (show nI (t.2 + 1) = _; rw [ran, if_pos c6]); (rw [ran, if_pos c6]; show t.2 + 1 ≤ 30; omega)) | (exact ⟨by rw [ran, if_neg (by omega)]; exact ht, Kp.rf⟩)
  · refine lv_aload_n hx hb dX5_begins_9 rfl (hl.at rfl) ?_
    refine mg_trace hC hK hP dX5_begins_10 ?_
    refine lv_aload_n hx hb dX5_begins_13 rfl (hl.at rfl) ?_
    refine mg_traced hC hK hP dX5_begins_14 ?_
    refine l_top _ ht.2.1 ?_
    refine lv_iload_n hx hb dX5_begins_17 rfl (hl.at rfl) ?_
    refine m_st 10 _ (by decide) hC hK hP hS (rfl) (show _ < 30 by omega) dX5_begins_18 (fun H locs hP hS => ?_)
    refine lv_aload_n hx hb dX5_begins_19 rfl (hl.at rfl) ?_
    refine lv_dup hx hb dX5_begins_20 rfl ?_
    refine mg_traced hC hK hP dX5_begins_21 ?_
    refine l_top (nI t.2) ht.2.1 ?_
    refine lv_iconst (v := nI 1) hx hb dX5_begins_24 rfl ?_
    refine l_addN hx hb dX5_begins_25 ?_
    refine mp_traced hC hK hP hS dX5_begins_26 (fun H locs hP hS => ?_)
    refine hret _ _ ls _ _ hP hS dX5_begins_29 ?_
    first | (refine ⟨⟨fun j hj => ?_, ?_, ?_⟩, (Kp.rf.up (by decide)).up (by decide)⟩; (show upd (σ 10) t.2 (nI k) j = _; rw [ran, if_pos c6]; show _ = upd t.1 t.2 (nI k) j; by_cases e : j = t.2; (rw [e, pk_us, pk_us]); (rw [pk_un e, pk_un e]; exact ht.1 j hj)); (show nI (t.2 + 1) = _; rw [ran, if_pos c6]); (rw [ran, if_pos c6]; show t.2 + 1 ≤ 30; omega)) | (exact ⟨by rw [ran, if_neg (by omega)]; exact ht, Kp.rf⟩)
theorem met_above {l : Launch} {q : Int32} : Cp l (fun _ => True) yX5_above cX5_above 1 (some .int) (0) [.int q] (fun _ => True) (fun r => r = sp_above q) := by
  refine Cp.of rfl (by decide +kernel) (Nat.le_of_ble_eq_true rfl) ?_
  intro p e s m args below meth c Q hC hK hP hret ls hl
  have hx := hC.1
  have hb := hC.2.1
  have hown := hC.2.2.2.1
  have hts := hC.2.2.2.2
  refine lv_iload_n hx hb dX5_above_0 rfl (hl.at rfl) ?_
  refine lv_iconst (v := nI 4) hx hb dX5_above_1 rfl ?_
  refine lv_icmp_ne (tgt := 9) hx hb dX5_above_2 rfl (fun c2 => ?_) (fun c2 => ?_)
  · refine lv_iload_n hx hb dX5_above_9 rfl (hl.at rfl) ?_
    refine lv_iconst (v := nI 5) hx hb dX5_above_10 rfl ?_
    refine lv_icmp_ne (tgt := 18) hx hb dX5_above_11 rfl (fun c11 => ?_) (fun c11 => ?_)
    · refine lv_iconst (v := nI 0) hx hb dX5_above_18 rfl ?_
      refine hret ls _ _ dX5_above_19 ?_
      first | (rw [sp_above, if_pos c2]; done) | (rw [sp_above, if_neg c2, if_pos c11]; done) | (rw [sp_above, if_neg c2, if_neg c11]; done)
    · refine lv_iconst (v := nI 3) hx hb dX5_above_14 rfl ?_
      refine lv_goto (tgt := 19) hx hb dX5_above_15 rfl ?_
      refine hret ls _ _ dX5_above_19 ?_
      first | (rw [sp_above, if_pos c2]; done) | (rw [sp_above, if_neg c2, if_pos c11]; done) | (rw [sp_above, if_neg c2, if_neg c11]; done)
  · refine lv_iconst (v := nI 1) hx hb dX5_above_5 rfl ?_
    refine lv_goto (tgt := 19) hx hb dX5_above_6 rfl ?_
    refine hret ls _ _ dX5_above_19 ?_
    first | (rw [sp_above, if_pos c2]; done) | (rw [sp_above, if_neg c2, if_pos c11]; done) | (rw [sp_above, if_neg c2, if_neg c11]; done)
theorem met_kindNow {l : Launch} {D : va_G} {cA : Nat → ClassId} {b : Nat} {σ : Nat → Nat → Int32} {S : Sta} {w : Nat} (hR : RM (σ 0) S) (hs : σ 25 0 = nI w) (hw : w < 8) : MP l D cA b yX5_kindNow cX5_kindNow 1 (some .int) (1) [.ref b] σ (fun r => r = S 5 w) := by
  refine Cp.of rfl (by decide +kernel) (Nat.le_of_ble_eq_true rfl) ?_
  intro p e s m args below meth c Q hC hK hP hret ls hl
  have hx := hC.1
  have hb := hC.2.1
  have hown := hC.2.2.2.1
  have hts := hC.2.2.2.2
  refine lv_aload_n hx hb dX5_kindNow_0 rfl (hl.at rfl) ?_
  refine lv_aload_n hx hb dX5_kindNow_1 rfl (hl.at rfl) ?_
  refine mg_speaks hC hK hP dX5_kindNow_2 ?_
  refine l_top _ hs ?_
  refine lv_iconst (v := nI 0) hx hb dX5_kindNow_5 rfl ?_
  refine m_pV hC hK hP (met_its (S := S) (w := w) (q := 0) hR rfl rfl hw (by decide)) cv_X5_90 rfl rfl hl.1 (Nat.le_of_ble_eq_true rfl) dX5_kindNow_6 (by decide) (by decide) (fun r6 p6 => ?_)
  refine hret ls _ _ dX5_kindNow_9 ?_
  exact p6
theorem met_mNow {l : Launch} {D : va_G} {cA : Nat → ClassId} {b : Nat} {σ : Nat → Nat → Int32} {S : Sta} {w : Nat} (hR : RM (σ 0) S) (hs : σ 25 0 = nI w) (hw : w < 8) : MP l D cA b yX5_mNow cX5_mNow 1 (some .int) (1) [.ref b] σ (fun r => r = S 6 w) := by
  refine Cp.of rfl (by decide +kernel) (Nat.le_of_ble_eq_true rfl) ?_
  intro p e s m args below meth c Q hC hK hP hret ls hl
  have hx := hC.1
  have hb := hC.2.1
  have hown := hC.2.2.2.1
  have hts := hC.2.2.2.2
  refine lv_aload_n hx hb dX5_mNow_0 rfl (hl.at rfl) ?_
  refine lv_aload_n hx hb dX5_mNow_1 rfl (hl.at rfl) ?_
  refine mg_speaks hC hK hP dX5_mNow_2 ?_
  refine l_top _ hs ?_
  refine lv_iconst (v := nI 1) hx hb dX5_mNow_5 rfl ?_
  refine m_pV hC hK hP (met_its (S := S) (w := w) (q := 1) hR rfl rfl hw (by decide)) cv_X5_90 rfl rfl hl.1 (Nat.le_of_ble_eq_true rfl) dX5_mNow_6 (by decide) (by decide) (fun r6 p6 => ?_)
  refine hret ls _ _ dX5_mNow_9 ?_
  exact p6
theorem cv_X5_253 : CV RX5 RX5 253 yX5_begins cX5_begins 2 (none) 1 := ⟨lw_V q1690 q1692 qs76 q88 q1693, by decide +kernel⟩
theorem met_flowsAs_0 {l : Launch} {D : va_G} {cA : Nat → ClassId} {b : Nat} {σ : Nat → Nat → Int32} {S : Sta} {x y : Int32} {w : Nat} {t : TR} (dp : Nat) (hdp : 1 ≤ dp) (hR : RM (σ 0) S) (hI : Inv S) (hs : σ 25 0 = nI w) (hw : w < 8) (ht : TRr σ t) (hx1 : x = nI 0) : MI l D cA b yX5_flowsAs cX5_flowsAs 3 (some .int) (dp) [.ref b, .int x, .int y] σ (fun r τ => r = (vf w 0 y t).1 ∧ TRr τ (vf w 0 y t).2 ∧ Kp [10, 24] σ τ) := by
  refine Ci.of rfl (by decide +kernel) (Nat.le_of_ble_eq_true rfl) ?_
  intro p e s m args below meth c Q hC hK hP hret ls hl
  have hx := hC.1
  have hb := hC.2.1
  have hown := hC.2.2.2.1
  have hts := hC.2.2.2.2
  have hS : va_S (mA b) s.heap s.heap [] := va_S.rf
  subst hx1
  refine lv_iload_n hx hb dX5_flowsAs_0 rfl (hl.at rfl) ?_
  refine lv_tableIn (tgt := 44) hx hb dX5_flowsAs_1 (by decide) (by decide) rfl rfl ?_
  refine lv_aload_n hx hb dX5_flowsAs_44 rfl (hl.at rfl) ?_
  refine lv_bipush (v := nI 10) hx hb dX5_flowsAs_45 rfl ?_
  refine m_vV hC hK hP hS (met_begins (k := 10) (t := t) ht rfl) cv_X5_253 rfl rfl hl.1 (Nat.le_of_ble_eq_true rfl) dX5_flowsAs_47 (by omega) (by decide) (fun σ47 H locs p47 hP hS => ?_)
  refine lv_iload_n hx hb dX5_flowsAs_50 rfl (hl.at rfl) ?_
  refine lv_aload_n hx hb dX5_flowsAs_51 rfl (hl.at rfl) ?_
  refine mg_speaks hC hK hP dX5_flowsAs_52 ?_
  refine l_top _ ((congrFun (p47.2 25 (by decide)) 0).trans hs) ?_
  refine lv_iadd hx hb dX5_flowsAs_55 ?_
  refine hret _ _ ls _ _ _ hP hS dX5_flowsAs_56 ?_
  exact ⟨rfl, p47.1, p47.2⟩
theorem cs_X5_256 : CS RX5 256 yX5_above cX5_above 1 (some .int) 1 := ⟨lw_S q1694 q1695 q88 q1696, by decide +kernel⟩
theorem cv_X5_259 : CV RX5 RX5 259 yX5_flowsAs cX5_flowsAs 3 (some .int) 2 := ⟨lw_V q1686 q1688 qs75 q88 q1689, by decide +kernel⟩
theorem met_flowsAs_1 {l : Launch} {D : va_G} {cA : Nat → ClassId} {b : Nat} {σ : Nat → Nat → Int32} {S : Sta} {x y : Int32} {w : Nat} {t : TR} (dp : Nat) (hdp : 2 ≤ dp) (hR : RM (σ 0) S) (hI : Inv S) (hs : σ 25 0 = nI w) (hw : w < 8) (ht : TRr σ t) (hx1 : x = nI 1) : MI l D cA b yX5_flowsAs cX5_flowsAs 3 (some .int) (dp) [.ref b, .int x, .int y] σ (fun r τ => r = (vf w 1 y t).1 ∧ TRr τ (vf w 1 y t).2 ∧ Kp [10, 24] σ τ) := by
  refine Ci.of rfl (by decide +kernel) (Nat.le_of_ble_eq_true rfl) ?_
  intro p e s m args below meth c Q hC hK hP hret ls hl
  have hx := hC.1
  have hb := hC.2.1
  have hown := hC.2.2.2.1
  have hts := hC.2.2.2.2
  have hS : va_S (mA b) s.heap s.heap [] := va_S.rf
  subst hx1
  refine lv_iload_n hx hb dX5_flowsAs_0 rfl (hl.at rfl) ?_
  refine lv_tableIn (tgt := 57) hx hb dX5_flowsAs_1 (by decide) (by decide) rfl rfl ?_
  refine lv_aload_n hx hb dX5_flowsAs_57 rfl (hl.at rfl) ?_
  refine lv_bipush (v := nI 20) hx hb dX5_flowsAs_58 rfl ?_
  refine m_vV hC hK hP hS (met_begins (k := 20) (t := t) ht rfl) cv_X5_253 rfl rfl hl.1 (Nat.le_of_ble_eq_true rfl) dX5_flowsAs_60 (by omega) (by decide) (fun σ60 H locs p60 hP hS => ?_)
  refine lv_aload_n hx hb dX5_flowsAs_63 rfl (hl.at rfl) ?_
  refine lv_iconst (v := nI 1) hx hb dX5_flowsAs_64 rfl ?_
  refine m_sS hC (met_above ) cs_X5_256 rfl rfl hl.1 (Nat.le_of_ble_eq_true rfl) dX5_flowsAs_65 (by omega) (by decide) (fun r65 p65 => ?_)
  obtain rfl : r65 = nI 0 := p65.trans (by decide)
  refine lv_iload_n hx hb dX5_flowsAs_68 rfl (hl.at rfl) ?_
  refine m_iV hC hK hP hS (met_flowsAs_0 (dp - 1) (by omega) (by rw [p60.2 0 (by decide)]; exact hR) hI (by rw [p60.2 25 (by decide)]; exact hs) hw p60.1 rfl) cv_X5_259 rfl rfl hl.1 (Nat.le_of_ble_eq_true rfl) dX5_flowsAs_69 (by omega) (by decide) (fun r69 σ69 H locs p69 hP hS => ?_)
  refine lv_iconst (v := nI 4) hx hb dX5_flowsAs_72 rfl ?_
  refine lv_isub hx hb dX5_flowsAs_73 ?_
  refine hret _ _ ls _ _ _ hP hS dX5_flowsAs_74 ?_
  exact ⟨by rw [p69.1]; rfl, p69.2.1, p60.2.tr p69.2.2⟩
theorem met_flowsAs_2 {l : Launch} {D : va_G} {cA : Nat → ClassId} {b : Nat} {σ : Nat → Nat → Int32} {S : Sta} {x y : Int32} {w : Nat} {t : TR} (dp : Nat) (hdp : 2 ≤ dp) (hR : RM (σ 0) S) (hI : Inv S) (hs : σ 25 0 = nI w) (hw : w < 8) (ht : TRr σ t) (hx1 : x = nI 2) : MI l D cA b yX5_flowsAs cX5_flowsAs 3 (some .int) (dp) [.ref b, .int x, .int y] σ (fun r τ => r = (vf w 2 y t).1 ∧ TRr τ (vf w 2 y t).2 ∧ Kp [10, 24] σ τ) := by
  refine Ci.of rfl (by decide +kernel) (Nat.le_of_ble_eq_true rfl) ?_
  intro p e s m args below meth c Q hC hK hP hret ls hl
  have hx := hC.1
  have hb := hC.2.1
  have hown := hC.2.2.2.1
  have hts := hC.2.2.2.2
  have hS : va_S (mA b) s.heap s.heap [] := va_S.rf
  subst hx1
  refine lv_iload_n hx hb dX5_flowsAs_0 rfl (hl.at rfl) ?_
  refine lv_tableIn (tgt := 101) hx hb dX5_flowsAs_1 (by decide) (by decide) rfl rfl ?_
  refine lv_aload_n hx hb dX5_flowsAs_101 rfl (hl.at rfl) ?_
  refine lv_iload_n hx hb dX5_flowsAs_102 rfl (hl.at rfl) ?_
  refine m_sS hC (met_above ) cs_X5_256 rfl rfl hl.1 (Nat.le_of_ble_eq_true rfl) dX5_flowsAs_103 (by omega) (by decide) (fun r103 p103 => ?_)
  obtain rfl : r103 = nI 0 := p103.trans (by decide)
  refine lv_iload_n hx hb dX5_flowsAs_106 rfl (hl.at rfl) ?_
  refine m_iV hC hK hP hS (met_flowsAs_0 (dp - 1) (by omega) hR hI hs hw ht rfl) cv_X5_259 rfl rfl hl.1 (Nat.le_of_ble_eq_true rfl) dX5_flowsAs_107 (by omega) (by decide) (fun r107 σ107 H locs p107 hP hS => ?_)
  refine hret _ _ ls _ _ _ hP hS dX5_flowsAs_110 ?_
  exact p107
theorem met_flowsAs_3 {l : Launch} {D : va_G} {cA : Nat → ClassId} {b : Nat} {σ : Nat → Nat → Int32} {S : Sta} {x y : Int32} {w : Nat} {t : TR} (dp : Nat) (hdp : 2 ≤ dp) (hR : RM (σ 0) S) (hI : Inv S) (hs : σ 25 0 = nI w) (hw : w < 8) (ht : TRr σ t) (hx1 : x = nI 3) : MI l D cA b yX5_flowsAs cX5_flowsAs 3 (some .int) (dp) [.ref b, .int x, .int y] σ (fun r τ => r = (vf w 3 y t).1 ∧ TRr τ (vf w 3 y t).2 ∧ Kp [10, 24] σ τ) := by
  refine Ci.of rfl (by decide +kernel) (Nat.le_of_ble_eq_true rfl) ?_
  intro p e s m args below meth c Q hC hK hP hret ls hl
  have hx := hC.1
  have hb := hC.2.1
  have hown := hC.2.2.2.1
  have hts := hC.2.2.2.2
  have hS : va_S (mA b) s.heap s.heap [] := va_S.rf
  subst hx1
  refine lv_iload_n hx hb dX5_flowsAs_0 rfl (hl.at rfl) ?_
  refine lv_tableIn (tgt := 101) hx hb dX5_flowsAs_1 (by decide) (by decide) rfl rfl ?_
  refine lv_aload_n hx hb dX5_flowsAs_101 rfl (hl.at rfl) ?_
  refine lv_iload_n hx hb dX5_flowsAs_102 rfl (hl.at rfl) ?_
  refine m_sS hC (met_above ) cs_X5_256 rfl rfl hl.1 (Nat.le_of_ble_eq_true rfl) dX5_flowsAs_103 (by omega) (by decide) (fun r103 p103 => ?_)
  obtain rfl : r103 = nI 0 := p103.trans (by decide)
  refine lv_iload_n hx hb dX5_flowsAs_106 rfl (hl.at rfl) ?_
  refine m_iV hC hK hP hS (met_flowsAs_0 (dp - 1) (by omega) hR hI hs hw ht rfl) cv_X5_259 rfl rfl hl.1 (Nat.le_of_ble_eq_true rfl) dX5_flowsAs_107 (by omega) (by decide) (fun r107 σ107 H locs p107 hP hS => ?_)
  refine hret _ _ ls _ _ _ hP hS dX5_flowsAs_110 ?_
  exact p107
theorem met_flowsAs_4 {l : Launch} {D : va_G} {cA : Nat → ClassId} {b : Nat} {σ : Nat → Nat → Int32} {S : Sta} {x y : Int32} {w : Nat} {t : TR} (dp : Nat) (hdp : 3 ≤ dp) (hR : RM (σ 0) S) (hI : Inv S) (hs : σ 25 0 = nI w) (hw : w < 8) (ht : TRr σ t) (hx1 : x = nI 4) : MI l D cA b yX5_flowsAs cX5_flowsAs 3 (some .int) (dp) [.ref b, .int x, .int y] σ (fun r τ => r = (vf w 4 y t).1 ∧ TRr τ (vf w 4 y t).2 ∧ Kp [10, 24] σ τ) := by
  refine Ci.of rfl (by decide +kernel) (Nat.le_of_ble_eq_true rfl) ?_
  intro p e s m args below meth c Q hC hK hP hret ls hl
  have hx := hC.1
  have hb := hC.2.1
  have hown := hC.2.2.2.1
  have hts := hC.2.2.2.2
  have hS : va_S (mA b) s.heap s.heap [] := va_S.rf
  subst hx1
  refine lv_iload_n hx hb dX5_flowsAs_0 rfl (hl.at rfl) ?_
  refine lv_tableIn (tgt := 75) hx hb dX5_flowsAs_1 (by decide) (by decide) rfl rfl ?_
  refine lv_aload_n hx hb dX5_flowsAs_75 rfl (hl.at rfl) ?_
  refine lv_bipush (v := nI 50) hx hb dX5_flowsAs_76 rfl ?_
  refine m_vV hC hK hP hS (met_begins (k := 50) (t := t) ht rfl) cv_X5_253 rfl rfl hl.1 (Nat.le_of_ble_eq_true rfl) dX5_flowsAs_78 (by omega) (by decide) (fun σ78 H locs p78 hP hS => ?_)
  refine lv_aload_n hx hb dX5_flowsAs_81 rfl (hl.at rfl) ?_
  refine lv_iconst (v := nI 4) hx hb dX5_flowsAs_82 rfl ?_
  refine m_sS hC (met_above ) cs_X5_256 rfl rfl hl.1 (Nat.le_of_ble_eq_true rfl) dX5_flowsAs_83 (by omega) (by decide) (fun r83 p83 => ?_)
  obtain rfl : r83 = nI 1 := p83.trans (by decide)
  refine lv_iload_n hx hb dX5_flowsAs_86 rfl (hl.at rfl) ?_
  refine m_iV hC hK hP hS (met_flowsAs_1 (dp - 1) (by omega) (by rw [p78.2 0 (by decide)]; exact hR) hI (by rw [p78.2 25 (by decide)]; exact hs) hw p78.1 rfl) cv_X5_259 rfl rfl hl.1 (Nat.le_of_ble_eq_true rfl) dX5_flowsAs_87 (by omega) (by decide) (fun r87 σ87 H locs p87 hP hS => ?_)
  refine lv_iconst (v := nI 3) hx hb dX5_flowsAs_90 rfl ?_
  refine lv_imul hx hb dX5_flowsAs_91 ?_
  refine hret _ _ ls _ _ _ hP hS dX5_flowsAs_92 ?_
  exact ⟨by rw [p87.1]; rfl, p87.2.1, p78.2.tr p87.2.2⟩
theorem met_flowsAs_5 {l : Launch} {D : va_G} {cA : Nat → ClassId} {b : Nat} {σ : Nat → Nat → Int32} {S : Sta} {x y : Int32} {w : Nat} {t : TR} (dp : Nat) (hdp : 3 ≤ dp) (hR : RM (σ 0) S) (hI : Inv S) (hs : σ 25 0 = nI w) (hw : w < 8) (ht : TRr σ t) (hx1 : x = nI 5) : MI l D cA b yX5_flowsAs cX5_flowsAs 3 (some .int) (dp) [.ref b, .int x, .int y] σ (fun r τ => r = (vf w 5 y t).1 ∧ TRr τ (vf w 5 y t).2 ∧ Kp [10, 24] σ τ) := by
  refine Ci.of rfl (by decide +kernel) (Nat.le_of_ble_eq_true rfl) ?_
  intro p e s m args below meth c Q hC hK hP hret ls hl
  have hx := hC.1
  have hb := hC.2.1
  have hown := hC.2.2.2.1
  have hts := hC.2.2.2.2
  have hS : va_S (mA b) s.heap s.heap [] := va_S.rf
  subst hx1
  refine lv_iload_n hx hb dX5_flowsAs_0 rfl (hl.at rfl) ?_
  refine lv_tableIn (tgt := 101) hx hb dX5_flowsAs_1 (by decide) (by decide) rfl rfl ?_
  refine lv_aload_n hx hb dX5_flowsAs_101 rfl (hl.at rfl) ?_
  refine lv_iload_n hx hb dX5_flowsAs_102 rfl (hl.at rfl) ?_
  refine m_sS hC (met_above ) cs_X5_256 rfl rfl hl.1 (Nat.le_of_ble_eq_true rfl) dX5_flowsAs_103 (by omega) (by decide) (fun r103 p103 => ?_)
  obtain rfl : r103 = nI 3 := p103.trans (by decide)
  refine lv_iload_n hx hb dX5_flowsAs_106 rfl (hl.at rfl) ?_
  refine m_iV hC hK hP hS (met_flowsAs_3 (dp - 1) (by omega) hR hI hs hw ht rfl) cv_X5_259 rfl rfl hl.1 (Nat.le_of_ble_eq_true rfl) dX5_flowsAs_107 (by omega) (by decide) (fun r107 σ107 H locs p107 hP hS => ?_)
  refine hret _ _ ls _ _ _ hP hS dX5_flowsAs_110 ?_
  exact p107
theorem met_flowsAs_6 {l : Launch} {D : va_G} {cA : Nat → ClassId} {b : Nat} {σ : Nat → Nat → Int32} {S : Sta} {x y : Int32} {w : Nat} {t : TR} (dp : Nat) (hdp : 1 ≤ dp) (hR : RM (σ 0) S) (hI : Inv S) (hs : σ 25 0 = nI w) (hw : w < 8) (ht : TRr σ t) (hx1 : x = nI 6) : MI l D cA b yX5_flowsAs cX5_flowsAs 3 (some .int) (dp) [.ref b, .int x, .int y] σ (fun r τ => r = (vf w 6 y t).1 ∧ TRr τ (vf w 6 y t).2 ∧ Kp [10, 24] σ τ) := by
  refine Ci.of rfl (by decide +kernel) (Nat.le_of_ble_eq_true rfl) ?_
  intro p e s m args below meth c Q hC hK hP hret ls hl
  have hx := hC.1
  have hb := hC.2.1
  have hown := hC.2.2.2.1
  have hts := hC.2.2.2.2
  have hS : va_S (mA b) s.heap s.heap [] := va_S.rf
  subst hx1
  refine lv_iload_n hx hb dX5_flowsAs_0 rfl (hl.at rfl) ?_
  refine lv_tableIn (tgt := 93) hx hb dX5_flowsAs_1 (by decide) (by decide) rfl rfl ?_
  refine lv_aload_n hx hb dX5_flowsAs_93 rfl (hl.at rfl) ?_
  refine lv_bipush (v := nI 70) hx hb dX5_flowsAs_94 rfl ?_
  refine m_vV hC hK hP hS (met_begins (k := 70) (t := t) ht rfl) cv_X5_253 rfl rfl hl.1 (Nat.le_of_ble_eq_true rfl) dX5_flowsAs_96 (by omega) (by decide) (fun σ96 H locs p96 hP hS => ?_)
  refine lv_iconst (v := nI 2) hx hb dX5_flowsAs_99 rfl ?_
  refine hret _ _ ls _ _ _ hP hS dX5_flowsAs_100 ?_
  exact ⟨rfl, p96.1, p96.2⟩
theorem met_flowsAs {l : Launch} {D : va_G} {cA : Nat → ClassId} {b : Nat} {σ : Nat → Nat → Int32} {S : Sta} {x y : Int32} {w k : Nat} {t : TR} (hk : k ≤ 6) (hR : RM (σ 0) S) (hI : Inv S) (hs : σ 25 0 = nI w) (hw : w < 8) (ht : TRr σ t) (hx1 : x = nI k) : MI l D cA b yX5_flowsAs cX5_flowsAs 3 (some .int) 3 [.ref b, .int x, .int y] σ (fun r τ => r = (vf w k y t).1 ∧ TRr τ (vf w k y t).2 ∧ Kp [10, 24] σ τ) := by
  rcases (by omega : k = 0 ∨ k = 1 ∨ k = 2 ∨ k = 3 ∨ k = 4 ∨ k = 5 ∨ k = 6) with rfl | rfl | rfl | rfl | rfl | rfl | rfl
  · exact met_flowsAs_0 3 (by decide) hR hI hs hw ht hx1
  · exact met_flowsAs_1 3 (by decide) hR hI hs hw ht hx1
  · exact met_flowsAs_2 3 (by decide) hR hI hs hw ht hx1
  · exact met_flowsAs_3 3 (by decide) hR hI hs hw ht hx1
  · exact met_flowsAs_4 3 (by decide) hR hI hs hw ht hx1
  · exact met_flowsAs_5 3 (by decide) hR hI hs hw ht hx1
  · exact met_flowsAs_6 3 (by decide) hR hI hs hw ht hx1
theorem cv_X5_262 : CV RX5 RX5 262 yX5_kindNow cX5_kindNow 1 (some .int) 0 := ⟨lw_V q1682 q1684 qs74 q88 q1685, by decide +kernel⟩
theorem met_turnsAs_0 {l : Launch} {D : va_G} {cA : Nat → ClassId} {b : Nat} {σ : Nat → Nat → Int32} {S : Sta} {x y : Int32} {w : Nat} {t : TR} (dp : Nat) (hdp : 4 ≤ dp) (hR : RM (σ 0) S) (hI : Inv S) (hs : σ 25 0 = nI w) (hw : w < 8) (ht : TRr σ t) (hx1 : x = nI 0) : MI l D cA b yX5_turnsAs cX5_turnsAs 3 (some .int) (dp) [.ref b, .int x, .int y] σ (fun r τ => r = (vt S w 0 y t).1 ∧ TRr τ (vt S w 0 y t).2 ∧ Kp [10, 24] σ τ) := by
  refine Ci.of rfl (by decide +kernel) (Nat.le_of_ble_eq_true rfl) ?_
  intro p e s m args below meth c Q hC hK hP hret ls hl
  have hx := hC.1
  have hb := hC.2.1
  have hown := hC.2.2.2.1
  have hts := hC.2.2.2.2
  have hS : va_S (mA b) s.heap s.heap [] := va_S.rf
  subst hx1
  refine lv_iload_n hx hb dX5_turnsAs_0 rfl (hl.at rfl) ?_
  refine lv_tableIn (tgt := 44) hx hb dX5_turnsAs_1 (by decide) (by decide) rfl rfl ?_
  refine lv_aload_n hx hb dX5_turnsAs_44 rfl (hl.at rfl) ?_
  refine lv_bipush (v := nI 11) hx hb dX5_turnsAs_45 rfl ?_
  refine m_vV hC hK hP hS (met_begins (k := 11) (t := t) ht rfl) cv_X5_253 rfl rfl hl.1 (Nat.le_of_ble_eq_true rfl) dX5_turnsAs_47 (by omega) (by decide) (fun σ47 H locs p47 hP hS => ?_)
  refine lv_aload_n hx hb dX5_turnsAs_50 rfl (hl.at rfl) ?_
  refine lv_aload_n hx hb dX5_turnsAs_51 rfl (hl.at rfl) ?_
  refine m_pV hC hK hP (met_kindNow (S := S) (w := w) (by rw [p47.2 0 (by decide)]; exact hR) (by rw [p47.2 25 (by decide)]; exact hs) hw) cv_X5_262 rfl rfl hl.1 (Nat.le_of_ble_eq_true rfl) dX5_turnsAs_52 (by omega) (by decide) (fun r52 p52 => ?_)
  obtain ⟨kn, hkn, ekn⟩ := inv_bd hI 5 w hw
  have hkn : kn ≤ 6 := hkn
  obtain rfl : r52 = nI kn := p52.trans ekn
  refine lv_iload_n hx hb dX5_turnsAs_55 rfl (hl.at rfl) ?_
  refine m_iV hC hK hP hS (met_flowsAs (k := kn) hkn (by rw [p47.2 0 (by decide)]; exact hR) hI (by rw [p47.2 25 (by decide)]; exact hs) hw p47.1 rfl) cv_X5_259 rfl rfl hl.1 (Nat.le_of_ble_eq_true rfl) dX5_turnsAs_56 (by omega) (by decide) (fun r56 σ56 H locs p56 hP hS => ?_)
  refine lv_iconst (v := nI 2) hx hb dX5_turnsAs_59 rfl ?_
  refine lv_imul hx hb dX5_turnsAs_60 ?_
  refine hret _ _ ls _ _ _ hP hS dX5_turnsAs_61 ?_
  exact ⟨by show _ = (vf w (cn (S 5 w)) y (ran 11 t)).1 * nI 2; rw [ekn, cn_nI (by omega), p56.1], by show TRr _ (vf w (cn (S 5 w)) y (ran 11 t)).2; rw [ekn, cn_nI (by omega)]; exact p56.2.1, p47.2.tr p56.2.2⟩
theorem cv_X5_265 : CV RX5 RX5 265 yX5_turnsAs cX5_turnsAs 3 (some .int) 2 := ⟨lw_V q1697 q1699 qs77 q88 q1700, by decide +kernel⟩
theorem met_turnsAs_1 {l : Launch} {D : va_G} {cA : Nat → ClassId} {b : Nat} {σ : Nat → Nat → Int32} {S : Sta} {x y : Int32} {w : Nat} {t : TR} (dp : Nat) (hdp : 5 ≤ dp) (hR : RM (σ 0) S) (hI : Inv S) (hs : σ 25 0 = nI w) (hw : w < 8) (ht : TRr σ t) (hx1 : x = nI 1) : MI l D cA b yX5_turnsAs cX5_turnsAs 3 (some .int) (dp) [.ref b, .int x, .int y] σ (fun r τ => r = (vt S w 1 y t).1 ∧ TRr τ (vt S w 1 y t).2 ∧ Kp [10, 24] σ τ) := by
  refine Ci.of rfl (by decide +kernel) (Nat.le_of_ble_eq_true rfl) ?_
  intro p e s m args below meth c Q hC hK hP hret ls hl
  have hx := hC.1
  have hb := hC.2.1
  have hown := hC.2.2.2.1
  have hts := hC.2.2.2.2
  have hS : va_S (mA b) s.heap s.heap [] := va_S.rf
  subst hx1
  refine lv_iload_n hx hb dX5_turnsAs_0 rfl (hl.at rfl) ?_
  refine lv_tableIn (tgt := 120) hx hb dX5_turnsAs_1 (by decide) (by decide) rfl rfl ?_
  refine lv_aload_n hx hb dX5_turnsAs_120 rfl (hl.at rfl) ?_
  refine lv_iload_n hx hb dX5_turnsAs_121 rfl (hl.at rfl) ?_
  refine m_sS hC (met_above ) cs_X5_256 rfl rfl hl.1 (Nat.le_of_ble_eq_true rfl) dX5_turnsAs_122 (by omega) (by decide) (fun r122 p122 => ?_)
  obtain rfl : r122 = nI 0 := p122.trans (by decide)
  refine lv_iload_n hx hb dX5_turnsAs_125 rfl (hl.at rfl) ?_
  refine m_iV hC hK hP hS (met_turnsAs_0 (dp - 1) (by omega) hR hI hs hw ht rfl) cv_X5_265 rfl rfl hl.1 (Nat.le_of_ble_eq_true rfl) dX5_turnsAs_126 (by omega) (by decide) (fun r126 σ126 H locs p126 hP hS => ?_)
  refine hret _ _ ls _ _ _ hP hS dX5_turnsAs_129 ?_
  exact p126
theorem met_turnsAs_3 {l : Launch} {D : va_G} {cA : Nat → ClassId} {b : Nat} {σ : Nat → Nat → Int32} {S : Sta} {x y : Int32} {w : Nat} {t : TR} (dp : Nat) (hdp : 5 ≤ dp) (hR : RM (σ 0) S) (hI : Inv S) (hs : σ 25 0 = nI w) (hw : w < 8) (ht : TRr σ t) (hx1 : x = nI 3) : MI l D cA b yX5_turnsAs cX5_turnsAs 3 (some .int) (dp) [.ref b, .int x, .int y] σ (fun r τ => r = (vt S w 3 y t).1 ∧ TRr τ (vt S w 3 y t).2 ∧ Kp [10, 24] σ τ) := by
  refine Ci.of rfl (by decide +kernel) (Nat.le_of_ble_eq_true rfl) ?_
  intro p e s m args below meth c Q hC hK hP hret ls hl
  have hx := hC.1
  have hb := hC.2.1
  have hown := hC.2.2.2.1
  have hts := hC.2.2.2.2
  have hS : va_S (mA b) s.heap s.heap [] := va_S.rf
  subst hx1
  refine lv_iload_n hx hb dX5_turnsAs_0 rfl (hl.at rfl) ?_
  refine lv_tableIn (tgt := 120) hx hb dX5_turnsAs_1 (by decide) (by decide) rfl rfl ?_
  refine lv_aload_n hx hb dX5_turnsAs_120 rfl (hl.at rfl) ?_
  refine lv_iload_n hx hb dX5_turnsAs_121 rfl (hl.at rfl) ?_
  refine m_sS hC (met_above ) cs_X5_256 rfl rfl hl.1 (Nat.le_of_ble_eq_true rfl) dX5_turnsAs_122 (by omega) (by decide) (fun r122 p122 => ?_)
  obtain rfl : r122 = nI 0 := p122.trans (by decide)
  refine lv_iload_n hx hb dX5_turnsAs_125 rfl (hl.at rfl) ?_
  refine m_iV hC hK hP hS (met_turnsAs_0 (dp - 1) (by omega) hR hI hs hw ht rfl) cv_X5_265 rfl rfl hl.1 (Nat.le_of_ble_eq_true rfl) dX5_turnsAs_126 (by omega) (by decide) (fun r126 σ126 H locs p126 hP hS => ?_)
  refine hret _ _ ls _ _ _ hP hS dX5_turnsAs_129 ?_
  exact p126
theorem met_turnsAs_2 {l : Launch} {D : va_G} {cA : Nat → ClassId} {b : Nat} {σ : Nat → Nat → Int32} {S : Sta} {x y : Int32} {w : Nat} {t : TR} (dp : Nat) (hdp : 5 ≤ dp) (hR : RM (σ 0) S) (hI : Inv S) (hs : σ 25 0 = nI w) (hw : w < 8) (ht : TRr σ t) (hx1 : x = nI 2) : MI l D cA b yX5_turnsAs cX5_turnsAs 3 (some .int) (dp) [.ref b, .int x, .int y] σ (fun r τ => r = (vt S w 2 y t).1 ∧ TRr τ (vt S w 2 y t).2 ∧ Kp [10, 24] σ τ) := by
  refine Ci.of rfl (by decide +kernel) (Nat.le_of_ble_eq_true rfl) ?_
  intro p e s m args below meth c Q hC hK hP hret ls hl
  have hx := hC.1
  have hb := hC.2.1
  have hown := hC.2.2.2.1
  have hts := hC.2.2.2.2
  have hS : va_S (mA b) s.heap s.heap [] := va_S.rf
  subst hx1
  refine lv_iload_n hx hb dX5_turnsAs_0 rfl (hl.at rfl) ?_
  refine lv_tableIn (tgt := 62) hx hb dX5_turnsAs_1 (by decide) (by decide) rfl rfl ?_
  refine lv_aload_n hx hb dX5_turnsAs_62 rfl (hl.at rfl) ?_
  refine lv_bipush (v := nI 30) hx hb dX5_turnsAs_63 rfl ?_
  refine m_vV hC hK hP hS (met_begins (k := 30) (t := t) ht rfl) cv_X5_253 rfl rfl hl.1 (Nat.le_of_ble_eq_true rfl) dX5_turnsAs_65 (by omega) (by decide) (fun σ65 H locs p65 hP hS => ?_)
  refine lv_iconst (v := nI 0) hx hb dX5_turnsAs_68 rfl ?_
  refine lv_aload_n hx hb dX5_turnsAs_69 rfl (hl.at rfl) ?_
  refine lv_iconst (v := nI 2) hx hb dX5_turnsAs_70 rfl ?_
  refine m_sS hC (met_above ) cs_X5_256 rfl rfl hl.1 (Nat.le_of_ble_eq_true rfl) dX5_turnsAs_71 (by omega) (by decide) (fun r71 p71 => ?_)
  obtain rfl : r71 = nI 0 := p71.trans (by decide)
  refine lv_iload_n hx hb dX5_turnsAs_74 rfl (hl.at rfl) ?_
  refine m_iV hC hK hP hS (met_turnsAs_0 (dp - 1) (by omega) (by rw [p65.2 0 (by decide)]; exact hR) hI (by rw [p65.2 25 (by decide)]; exact hs) hw p65.1 rfl) cv_X5_265 rfl rfl hl.1 (Nat.le_of_ble_eq_true rfl) dX5_turnsAs_75 (by omega) (by decide) (fun r75 σ75 H locs p75 hP hS => ?_)
  refine lv_isub hx hb dX5_turnsAs_78 ?_
  refine hret _ _ ls _ _ _ hP hS dX5_turnsAs_79 ?_
  exact ⟨by rw [p75.1]; rfl, p75.2.1, p65.2.tr p75.2.2⟩
theorem met_turnsAs_4 {l : Launch} {D : va_G} {cA : Nat → ClassId} {b : Nat} {σ : Nat → Nat → Int32} {S : Sta} {x y : Int32} {w : Nat} {t : TR} (dp : Nat) (hdp : 6 ≤ dp) (hR : RM (σ 0) S) (hI : Inv S) (hs : σ 25 0 = nI w) (hw : w < 8) (ht : TRr σ t) (hx1 : x = nI 4) : MI l D cA b yX5_turnsAs cX5_turnsAs 3 (some .int) (dp) [.ref b, .int x, .int y] σ (fun r τ => r = (vt S w 4 y t).1 ∧ TRr τ (vt S w 4 y t).2 ∧ Kp [10, 24] σ τ) := by
  refine Ci.of rfl (by decide +kernel) (Nat.le_of_ble_eq_true rfl) ?_
  intro p e s m args below meth c Q hC hK hP hret ls hl
  have hx := hC.1
  have hb := hC.2.1
  have hown := hC.2.2.2.1
  have hts := hC.2.2.2.2
  have hS : va_S (mA b) s.heap s.heap [] := va_S.rf
  subst hx1
  refine lv_iload_n hx hb dX5_turnsAs_0 rfl (hl.at rfl) ?_
  refine lv_tableIn (tgt := 120) hx hb dX5_turnsAs_1 (by decide) (by decide) rfl rfl ?_
  refine lv_aload_n hx hb dX5_turnsAs_120 rfl (hl.at rfl) ?_
  refine lv_iload_n hx hb dX5_turnsAs_121 rfl (hl.at rfl) ?_
  refine m_sS hC (met_above ) cs_X5_256 rfl rfl hl.1 (Nat.le_of_ble_eq_true rfl) dX5_turnsAs_122 (by omega) (by decide) (fun r122 p122 => ?_)
  obtain rfl : r122 = nI 1 := p122.trans (by decide)
  refine lv_iload_n hx hb dX5_turnsAs_125 rfl (hl.at rfl) ?_
  refine m_iV hC hK hP hS (met_turnsAs_1 (dp - 1) (by omega) hR hI hs hw ht rfl) cv_X5_265 rfl rfl hl.1 (Nat.le_of_ble_eq_true rfl) dX5_turnsAs_126 (by omega) (by decide) (fun r126 σ126 H locs p126 hP hS => ?_)
  refine hret _ _ ls _ _ _ hP hS dX5_turnsAs_129 ?_
  exact p126
theorem met_turnsAs_5 {l : Launch} {D : va_G} {cA : Nat → ClassId} {b : Nat} {σ : Nat → Nat → Int32} {S : Sta} {x y : Int32} {w : Nat} {t : TR} (dp : Nat) (hdp : 6 ≤ dp) (hR : RM (σ 0) S) (hI : Inv S) (hs : σ 25 0 = nI w) (hw : w < 8) (ht : TRr σ t) (hx1 : x = nI 5) : MI l D cA b yX5_turnsAs cX5_turnsAs 3 (some .int) (dp) [.ref b, .int x, .int y] σ (fun r τ => r = (vt S w 5 y t).1 ∧ TRr τ (vt S w 5 y t).2 ∧ Kp [10, 24] σ τ) := by
  refine Ci.of rfl (by decide +kernel) (Nat.le_of_ble_eq_true rfl) ?_
  intro p e s m args below meth c Q hC hK hP hret ls hl
  have hx := hC.1
  have hb := hC.2.1
  have hown := hC.2.2.2.1
  have hts := hC.2.2.2.2
  have hS : va_S (mA b) s.heap s.heap [] := va_S.rf
  subst hx1
  refine lv_iload_n hx hb dX5_turnsAs_0 rfl (hl.at rfl) ?_
  refine lv_tableIn (tgt := 80) hx hb dX5_turnsAs_1 (by decide) (by decide) rfl rfl ?_
  refine lv_aload_n hx hb dX5_turnsAs_80 rfl (hl.at rfl) ?_
  refine lv_bipush (v := nI 60) hx hb dX5_turnsAs_81 rfl ?_
  refine m_vV hC hK hP hS (met_begins (k := 60) (t := t) ht rfl) cv_X5_253 rfl rfl hl.1 (Nat.le_of_ble_eq_true rfl) dX5_turnsAs_83 (by omega) (by decide) (fun σ83 H locs p83 hP hS => ?_)
  refine lv_aload_n hx hb dX5_turnsAs_86 rfl (hl.at rfl) ?_
  refine lv_iconst (v := nI 5) hx hb dX5_turnsAs_87 rfl ?_
  refine m_sS hC (met_above ) cs_X5_256 rfl rfl hl.1 (Nat.le_of_ble_eq_true rfl) dX5_turnsAs_88 (by omega) (by decide) (fun r88 p88 => ?_)
  obtain rfl : r88 = nI 3 := p88.trans (by decide)
  refine lv_iload_n hx hb dX5_turnsAs_91 rfl (hl.at rfl) ?_
  refine lv_iconst (v := nI 1) hx hb dX5_turnsAs_92 rfl ?_
  refine lv_iadd hx hb dX5_turnsAs_93 ?_
  refine m_iV hC hK hP hS (met_turnsAs_3 (dp - 1) (by omega) (by rw [p83.2 0 (by decide)]; exact hR) hI (by rw [p83.2 25 (by decide)]; exact hs) hw p83.1 rfl) cv_X5_265 rfl rfl hl.1 (Nat.le_of_ble_eq_true rfl) dX5_turnsAs_94 (by omega) (by decide) (fun r94 σ94 H locs p94 hP hS => ?_)
  refine hret _ _ ls _ _ _ hP hS dX5_turnsAs_97 ?_
  exact ⟨by rw [p94.1]; rfl, p94.2.1, p83.2.tr p94.2.2⟩
theorem cv_X5_268 : CV RX5 RX5 268 yX5_mNow cX5_mNow 1 (some .int) 0 := ⟨lw_V q1701 q1703 qs78 q88 q1704, by decide +kernel⟩
theorem met_turnsAs_6 {l : Launch} {D : va_G} {cA : Nat → ClassId} {b : Nat} {σ : Nat → Nat → Int32} {S : Sta} {x y : Int32} {w : Nat} {t : TR} (dp : Nat) (hdp : 5 ≤ dp) (hR : RM (σ 0) S) (hI : Inv S) (hs : σ 25 0 = nI w) (hw : w < 8) (ht : TRr σ t) (hx1 : x = nI 6) : MI l D cA b yX5_turnsAs cX5_turnsAs 3 (some .int) (dp) [.ref b, .int x, .int y] σ (fun r τ => r = (vt S w 6 y t).1 ∧ TRr τ (vt S w 6 y t).2 ∧ Kp [10, 24] σ τ) := by
  refine Ci.of rfl (by decide +kernel) (Nat.le_of_ble_eq_true rfl) ?_
  intro p e s m args below meth c Q hC hK hP hret ls hl
  have hx := hC.1
  have hb := hC.2.1
  have hown := hC.2.2.2.1
  have hts := hC.2.2.2.2
  have hS : va_S (mA b) s.heap s.heap [] := va_S.rf
  subst hx1
  refine lv_iload_n hx hb dX5_turnsAs_0 rfl (hl.at rfl) ?_
  refine lv_tableIn (tgt := 98) hx hb dX5_turnsAs_1 (by decide) (by decide) rfl rfl ?_
  refine lv_aload_n hx hb dX5_turnsAs_98 rfl (hl.at rfl) ?_
  refine lv_bipush (v := nI 71) hx hb dX5_turnsAs_99 rfl ?_
  refine m_vV hC hK hP hS (met_begins (k := 71) (t := t) ht rfl) cv_X5_253 rfl rfl hl.1 (Nat.le_of_ble_eq_true rfl) dX5_turnsAs_101 (by omega) (by decide) (fun σ101 H locs p101 hP hS => ?_)
  refine lv_aload_n hx hb dX5_turnsAs_104 rfl (hl.at rfl) ?_
  refine lv_bipush (v := nI 6) hx hb dX5_turnsAs_105 rfl ?_
  refine m_sS hC (met_above ) cs_X5_256 rfl rfl hl.1 (Nat.le_of_ble_eq_true rfl) dX5_turnsAs_107 (by omega) (by decide) (fun r107 p107 => ?_)
  obtain rfl : r107 = nI 0 := p107.trans (by decide)
  refine lv_iload_n hx hb dX5_turnsAs_110 rfl (hl.at rfl) ?_
  refine m_iV hC hK hP hS (met_turnsAs_0 (dp - 1) (by omega) (by rw [p101.2 0 (by decide)]; exact hR) hI (by rw [p101.2 25 (by decide)]; exact hs) hw p101.1 rfl) cv_X5_265 rfl rfl hl.1 (Nat.le_of_ble_eq_true rfl) dX5_turnsAs_111 (by omega) (by decide) (fun r111 σ111 H locs p111 hP hS => ?_)
  refine lv_aload_n hx hb dX5_turnsAs_114 rfl (hl.at rfl) ?_
  refine m_pV hC hK hP (met_mNow (S := S) (w := w) (by rw [p111.2.2 0 (by decide), p101.2 0 (by decide)]; exact hR) (by rw [p111.2.2 25 (by decide), p101.2 25 (by decide)]; exact hs) hw) cv_X5_268 rfl rfl hl.1 (Nat.le_of_ble_eq_true rfl) dX5_turnsAs_115 (by omega) (by decide) (fun r115 p115 => ?_)
  refine lv_iadd hx hb dX5_turnsAs_118 ?_
  refine hret _ _ ls _ _ _ hP hS dX5_turnsAs_119 ?_
  exact ⟨by rw [p111.1, p115]; rfl, p111.2.1, p101.2.tr p111.2.2⟩
theorem met_turnsAs {l : Launch} {D : va_G} {cA : Nat → ClassId} {b : Nat} {σ : Nat → Nat → Int32} {S : Sta} {x y : Int32} {w k : Nat} {t : TR} (hk : k ≤ 6) (hR : RM (σ 0) S) (hI : Inv S) (hs : σ 25 0 = nI w) (hw : w < 8) (ht : TRr σ t) (hx1 : x = nI k) : MI l D cA b yX5_turnsAs cX5_turnsAs 3 (some .int) 6 [.ref b, .int x, .int y] σ (fun r τ => r = (vt S w k y t).1 ∧ TRr τ (vt S w k y t).2 ∧ Kp [10, 24] σ τ) := by
  rcases (by omega : k = 0 ∨ k = 1 ∨ k = 2 ∨ k = 3 ∨ k = 4 ∨ k = 5 ∨ k = 6) with rfl | rfl | rfl | rfl | rfl | rfl | rfl
  · exact met_turnsAs_0 6 (by decide) hR hI hs hw ht hx1
  · exact met_turnsAs_1 6 (by decide) hR hI hs hw ht hx1
  · exact met_turnsAs_2 6 (by decide) hR hI hs hw ht hx1
  · exact met_turnsAs_3 6 (by decide) hR hI hs hw ht hx1
  · exact met_turnsAs_4 6 (by decide) hR hI hs hw ht hx1
  · exact met_turnsAs_5 6 (by decide) hR hI hs hw ht hx1
  · exact met_turnsAs_6 6 (by decide) hR hI hs hw ht hx1
theorem met_praysAs_0 {l : Launch} {D : va_G} {cA : Nat → ClassId} {b : Nat} {σ : Nat → Nat → Int32} {S : Sta} {x y : Int32} {w : Nat} {t : TR} (dp : Nat) (hdp : 7 ≤ dp) (hR : RM (σ 0) S) (hI : Inv S) (hs : σ 25 0 = nI w) (hw : w < 8) (ht : TRr σ t) (hx1 : x = nI 0) : MI l D cA b yX5_praysAs cX5_praysAs 3 (some .int) (dp) [.ref b, .int x, .int y] σ (fun r τ => r = (vp S w 0 y t).1 ∧ TRr τ (vp S w 0 y t).2 ∧ Kp [10, 24] σ τ) := by
  refine Ci.of rfl (by decide +kernel) (Nat.le_of_ble_eq_true rfl) ?_
  intro p e s m args below meth c Q hC hK hP hret ls hl
  have hx := hC.1
  have hb := hC.2.1
  have hown := hC.2.2.2.1
  have hts := hC.2.2.2.2
  have hS : va_S (mA b) s.heap s.heap [] := va_S.rf
  subst hx1
  refine lv_iload_n hx hb dX5_praysAs_0 rfl (hl.at rfl) ?_
  refine lv_tableIn (tgt := 36) hx hb dX5_praysAs_1 (by decide) (by decide) rfl rfl ?_
  refine lv_aload_n hx hb dX5_praysAs_36 rfl (hl.at rfl) ?_
  refine lv_bipush (v := nI 12) hx hb dX5_praysAs_37 rfl ?_
  refine m_vV hC hK hP hS (met_begins (k := 12) (t := t) ht rfl) cv_X5_253 rfl rfl hl.1 (Nat.le_of_ble_eq_true rfl) dX5_praysAs_39 (by omega) (by decide) (fun σ39 H locs p39 hP hS => ?_)
  refine lv_aload_n hx hb dX5_praysAs_42 rfl (hl.at rfl) ?_
  refine lv_aload_n hx hb dX5_praysAs_43 rfl (hl.at rfl) ?_
  refine m_pV hC hK hP (met_kindNow (S := S) (w := w) (by rw [p39.2 0 (by decide)]; exact hR) (by rw [p39.2 25 (by decide)]; exact hs) hw) cv_X5_262 rfl rfl hl.1 (Nat.le_of_ble_eq_true rfl) dX5_praysAs_44 (by omega) (by decide) (fun r44 p44 => ?_)
  obtain ⟨kn, hkn, ekn⟩ := inv_bd hI 5 w hw
  have hkn : kn ≤ 6 := hkn
  obtain rfl : r44 = nI kn := p44.trans ekn
  refine lv_iload_n hx hb dX5_praysAs_47 rfl (hl.at rfl) ?_
  refine m_iV hC hK hP hS (met_turnsAs (k := kn) hkn (by rw [p39.2 0 (by decide)]; exact hR) hI (by rw [p39.2 25 (by decide)]; exact hs) hw p39.1 rfl) cv_X5_265 rfl rfl hl.1 (Nat.le_of_ble_eq_true rfl) dX5_praysAs_48 (by omega) (by decide) (fun r48 σ48 H locs p48 hP hS => ?_)
  refine lv_aload_n hx hb dX5_praysAs_51 rfl (hl.at rfl) ?_
  refine m_pV hC hK hP (met_mNow (S := S) (w := w) (by rw [p48.2.2 0 (by decide), p39.2 0 (by decide)]; exact hR) (by rw [p48.2.2 25 (by decide), p39.2 25 (by decide)]; exact hs) hw) cv_X5_268 rfl rfl hl.1 (Nat.le_of_ble_eq_true rfl) dX5_praysAs_52 (by omega) (by decide) (fun r52 p52 => ?_)
  refine lv_isub hx hb dX5_praysAs_55 ?_
  refine hret _ _ ls _ _ _ hP hS dX5_praysAs_56 ?_
  exact ⟨by show _ = (vt S w (cn (S 5 w)) y (ran 12 t)).1 - S 6 w; rw [ekn, cn_nI (by omega), p48.1, p52], by show TRr _ (vt S w (cn (S 5 w)) y (ran 12 t)).2; rw [ekn, cn_nI (by omega)]; exact p48.2.1, p39.2.tr p48.2.2⟩
theorem cv_X5_271 : CV RX5 RX5 271 yX5_praysAs cX5_praysAs 3 (some .int) 2 := ⟨lw_V q1705 q1707 qs79 q88 q1708, by decide +kernel⟩
theorem met_praysAs_1 {l : Launch} {D : va_G} {cA : Nat → ClassId} {b : Nat} {σ : Nat → Nat → Int32} {S : Sta} {x y : Int32} {w : Nat} {t : TR} (dp : Nat) (hdp : 8 ≤ dp) (hR : RM (σ 0) S) (hI : Inv S) (hs : σ 25 0 = nI w) (hw : w < 8) (ht : TRr σ t) (hx1 : x = nI 1) : MI l D cA b yX5_praysAs cX5_praysAs 3 (some .int) (dp) [.ref b, .int x, .int y] σ (fun r τ => r = (vp S w 1 y t).1 ∧ TRr τ (vp S w 1 y t).2 ∧ Kp [10, 24] σ τ) := by
  refine Ci.of rfl (by decide +kernel) (Nat.le_of_ble_eq_true rfl) ?_
  intro p e s m args below meth c Q hC hK hP hret ls hl
  have hx := hC.1
  have hb := hC.2.1
  have hown := hC.2.2.2.1
  have hts := hC.2.2.2.2
  have hS : va_S (mA b) s.heap s.heap [] := va_S.rf
  subst hx1
  refine lv_iload_n hx hb dX5_praysAs_0 rfl (hl.at rfl) ?_
  refine lv_tableIn (tgt := 96) hx hb dX5_praysAs_1 (by decide) (by decide) rfl rfl ?_
  refine lv_aload_n hx hb dX5_praysAs_96 rfl (hl.at rfl) ?_
  refine lv_iload_n hx hb dX5_praysAs_97 rfl (hl.at rfl) ?_
  refine m_sS hC (met_above ) cs_X5_256 rfl rfl hl.1 (Nat.le_of_ble_eq_true rfl) dX5_praysAs_98 (by omega) (by decide) (fun r98 p98 => ?_)
  obtain rfl : r98 = nI 0 := p98.trans (by decide)
  refine lv_iload_n hx hb dX5_praysAs_101 rfl (hl.at rfl) ?_
  refine m_iV hC hK hP hS (met_praysAs_0 (dp - 1) (by omega) hR hI hs hw ht rfl) cv_X5_271 rfl rfl hl.1 (Nat.le_of_ble_eq_true rfl) dX5_praysAs_102 (by omega) (by decide) (fun r102 σ102 H locs p102 hP hS => ?_)
  refine hret _ _ ls _ _ _ hP hS dX5_praysAs_105 ?_
  exact p102
theorem met_praysAs_2 {l : Launch} {D : va_G} {cA : Nat → ClassId} {b : Nat} {σ : Nat → Nat → Int32} {S : Sta} {x y : Int32} {w : Nat} {t : TR} (dp : Nat) (hdp : 8 ≤ dp) (hR : RM (σ 0) S) (hI : Inv S) (hs : σ 25 0 = nI w) (hw : w < 8) (ht : TRr σ t) (hx1 : x = nI 2) : MI l D cA b yX5_praysAs cX5_praysAs 3 (some .int) (dp) [.ref b, .int x, .int y] σ (fun r τ => r = (vp S w 2 y t).1 ∧ TRr τ (vp S w 2 y t).2 ∧ Kp [10, 24] σ τ) := by
  refine Ci.of rfl (by decide +kernel) (Nat.le_of_ble_eq_true rfl) ?_
  intro p e s m args below meth c Q hC hK hP hret ls hl
  have hx := hC.1
  have hb := hC.2.1
  have hown := hC.2.2.2.1
  have hts := hC.2.2.2.2
  have hS : va_S (mA b) s.heap s.heap [] := va_S.rf
  subst hx1
  refine lv_iload_n hx hb dX5_praysAs_0 rfl (hl.at rfl) ?_
  refine lv_tableIn (tgt := 96) hx hb dX5_praysAs_1 (by decide) (by decide) rfl rfl ?_
  refine lv_aload_n hx hb dX5_praysAs_96 rfl (hl.at rfl) ?_
  refine lv_iload_n hx hb dX5_praysAs_97 rfl (hl.at rfl) ?_
  refine m_sS hC (met_above ) cs_X5_256 rfl rfl hl.1 (Nat.le_of_ble_eq_true rfl) dX5_praysAs_98 (by omega) (by decide) (fun r98 p98 => ?_)
  obtain rfl : r98 = nI 0 := p98.trans (by decide)
  refine lv_iload_n hx hb dX5_praysAs_101 rfl (hl.at rfl) ?_
  refine m_iV hC hK hP hS (met_praysAs_0 (dp - 1) (by omega) hR hI hs hw ht rfl) cv_X5_271 rfl rfl hl.1 (Nat.le_of_ble_eq_true rfl) dX5_praysAs_102 (by omega) (by decide) (fun r102 σ102 H locs p102 hP hS => ?_)
  refine hret _ _ ls _ _ _ hP hS dX5_praysAs_105 ?_
  exact p102
theorem met_praysAs_6 {l : Launch} {D : va_G} {cA : Nat → ClassId} {b : Nat} {σ : Nat → Nat → Int32} {S : Sta} {x y : Int32} {w : Nat} {t : TR} (dp : Nat) (hdp : 8 ≤ dp) (hR : RM (σ 0) S) (hI : Inv S) (hs : σ 25 0 = nI w) (hw : w < 8) (ht : TRr σ t) (hx1 : x = nI 6) : MI l D cA b yX5_praysAs cX5_praysAs 3 (some .int) (dp) [.ref b, .int x, .int y] σ (fun r τ => r = (vp S w 6 y t).1 ∧ TRr τ (vp S w 6 y t).2 ∧ Kp [10, 24] σ τ) := by
  refine Ci.of rfl (by decide +kernel) (Nat.le_of_ble_eq_true rfl) ?_
  intro p e s m args below meth c Q hC hK hP hret ls hl
  have hx := hC.1
  have hb := hC.2.1
  have hown := hC.2.2.2.1
  have hts := hC.2.2.2.2
  have hS : va_S (mA b) s.heap s.heap [] := va_S.rf
  subst hx1
  refine lv_iload_n hx hb dX5_praysAs_0 rfl (hl.at rfl) ?_
  refine lv_tableOut (tgt := 96) hx hb dX5_praysAs_1 (by decide) rfl ?_
  refine lv_aload_n hx hb dX5_praysAs_96 rfl (hl.at rfl) ?_
  refine lv_iload_n hx hb dX5_praysAs_97 rfl (hl.at rfl) ?_
  refine m_sS hC (met_above ) cs_X5_256 rfl rfl hl.1 (Nat.le_of_ble_eq_true rfl) dX5_praysAs_98 (by omega) (by decide) (fun r98 p98 => ?_)
  obtain rfl : r98 = nI 0 := p98.trans (by decide)
  refine lv_iload_n hx hb dX5_praysAs_101 rfl (hl.at rfl) ?_
  refine m_iV hC hK hP hS (met_praysAs_0 (dp - 1) (by omega) hR hI hs hw ht rfl) cv_X5_271 rfl rfl hl.1 (Nat.le_of_ble_eq_true rfl) dX5_praysAs_102 (by omega) (by decide) (fun r102 σ102 H locs p102 hP hS => ?_)
  refine hret _ _ ls _ _ _ hP hS dX5_praysAs_105 ?_
  exact p102
theorem met_praysAs_3 {l : Launch} {D : va_G} {cA : Nat → ClassId} {b : Nat} {σ : Nat → Nat → Int32} {S : Sta} {x y : Int32} {w : Nat} {t : TR} (dp : Nat) (hdp : 8 ≤ dp) (hR : RM (σ 0) S) (hI : Inv S) (hs : σ 25 0 = nI w) (hw : w < 8) (ht : TRr σ t) (hx1 : x = nI 3) : MI l D cA b yX5_praysAs cX5_praysAs 3 (some .int) (dp) [.ref b, .int x, .int y] σ (fun r τ => r = (vp S w 3 y t).1 ∧ TRr τ (vp S w 3 y t).2 ∧ Kp [10, 24] σ τ) := by
  refine Ci.of rfl (by decide +kernel) (Nat.le_of_ble_eq_true rfl) ?_
  intro p e s m args below meth c Q hC hK hP hret ls hl
  have hx := hC.1
  have hb := hC.2.1
  have hown := hC.2.2.2.1
  have hts := hC.2.2.2.2
  have hS : va_S (mA b) s.heap s.heap [] := va_S.rf
  subst hx1
  refine lv_iload_n hx hb dX5_praysAs_0 rfl (hl.at rfl) ?_
  refine lv_tableIn (tgt := 57) hx hb dX5_praysAs_1 (by decide) (by decide) rfl rfl ?_
  refine lv_aload_n hx hb dX5_praysAs_57 rfl (hl.at rfl) ?_
  refine lv_bipush (v := nI 40) hx hb dX5_praysAs_58 rfl ?_
  refine m_vV hC hK hP hS (met_begins (k := 40) (t := t) ht rfl) cv_X5_253 rfl rfl hl.1 (Nat.le_of_ble_eq_true rfl) dX5_praysAs_60 (by omega) (by decide) (fun σ60 H locs p60 hP hS => ?_)
  refine lv_aload_n hx hb dX5_praysAs_63 rfl (hl.at rfl) ?_
  refine lv_iconst (v := nI 3) hx hb dX5_praysAs_64 rfl ?_
  refine m_sS hC (met_above ) cs_X5_256 rfl rfl hl.1 (Nat.le_of_ble_eq_true rfl) dX5_praysAs_65 (by omega) (by decide) (fun r65 p65 => ?_)
  obtain rfl : r65 = nI 0 := p65.trans (by decide)
  refine lv_iload_n hx hb dX5_praysAs_68 rfl (hl.at rfl) ?_
  refine lv_iconst (v := nI 2) hx hb dX5_praysAs_69 rfl ?_
  refine lv_idiv hx hb dX5_praysAs_70 (nI_ne0 (by decide) (by decide)) ?_
  refine m_iV hC hK hP hS (met_praysAs_0 (dp - 1) (by omega) (by rw [p60.2 0 (by decide)]; exact hR) hI (by rw [p60.2 25 (by decide)]; exact hs) hw p60.1 rfl) cv_X5_271 rfl rfl hl.1 (Nat.le_of_ble_eq_true rfl) dX5_praysAs_71 (by omega) (by decide) (fun r71 σ71 H locs p71 hP hS => ?_)
  refine hret _ _ ls _ _ _ hP hS dX5_praysAs_74 ?_
  exact ⟨p71.1, p71.2.1, p60.2.tr p71.2.2⟩
theorem met_praysAs_4 {l : Launch} {D : va_G} {cA : Nat → ClassId} {b : Nat} {σ : Nat → Nat → Int32} {S : Sta} {x y : Int32} {w : Nat} {t : TR} (dp : Nat) (hdp : 9 ≤ dp) (hR : RM (σ 0) S) (hI : Inv S) (hs : σ 25 0 = nI w) (hw : w < 8) (ht : TRr σ t) (hx1 : x = nI 4) : MI l D cA b yX5_praysAs cX5_praysAs 3 (some .int) (dp) [.ref b, .int x, .int y] σ (fun r τ => r = (vp S w 4 y t).1 ∧ TRr τ (vp S w 4 y t).2 ∧ Kp [10, 24] σ τ) := by
  refine Ci.of rfl (by decide +kernel) (Nat.le_of_ble_eq_true rfl) ?_
  intro p e s m args below meth c Q hC hK hP hret ls hl
  have hx := hC.1
  have hb := hC.2.1
  have hown := hC.2.2.2.1
  have hts := hC.2.2.2.2
  have hS : va_S (mA b) s.heap s.heap [] := va_S.rf
  subst hx1
  refine lv_iload_n hx hb dX5_praysAs_0 rfl (hl.at rfl) ?_
  refine lv_tableIn (tgt := 75) hx hb dX5_praysAs_1 (by decide) (by decide) rfl rfl ?_
  refine lv_aload_n hx hb dX5_praysAs_75 rfl (hl.at rfl) ?_
  refine lv_bipush (v := nI 51) hx hb dX5_praysAs_76 rfl ?_
  refine m_vV hC hK hP hS (met_begins (k := 51) (t := t) ht rfl) cv_X5_253 rfl rfl hl.1 (Nat.le_of_ble_eq_true rfl) dX5_praysAs_78 (by omega) (by decide) (fun σ78 H locs p78 hP hS => ?_)
  refine lv_aload_n hx hb dX5_praysAs_81 rfl (hl.at rfl) ?_
  refine lv_iconst (v := nI 4) hx hb dX5_praysAs_82 rfl ?_
  refine m_sS hC (met_above ) cs_X5_256 rfl rfl hl.1 (Nat.le_of_ble_eq_true rfl) dX5_praysAs_83 (by omega) (by decide) (fun r83 p83 => ?_)
  obtain rfl : r83 = nI 1 := p83.trans (by decide)
  refine lv_iload_n hx hb dX5_praysAs_86 rfl (hl.at rfl) ?_
  refine m_iV hC hK hP hS (met_praysAs_1 (dp - 1) (by omega) (by rw [p78.2 0 (by decide)]; exact hR) hI (by rw [p78.2 25 (by decide)]; exact hs) hw p78.1 rfl) cv_X5_271 rfl rfl hl.1 (Nat.le_of_ble_eq_true rfl) dX5_praysAs_87 (by omega) (by decide) (fun r87 σ87 H locs p87 hP hS => ?_)
  refine lv_aload_n hx hb dX5_praysAs_90 rfl (hl.at rfl) ?_
  refine mg_speaks hC hK hP dX5_praysAs_91 ?_
  refine l_top _ ((congrFun (p87.2.2 25 (by decide)) 0).trans ((congrFun (p78.2 25 (by decide)) 0).trans hs)) ?_
  refine lv_ixor hx hb dX5_praysAs_94 ?_
  refine hret _ _ ls _ _ _ hP hS dX5_praysAs_95 ?_
  exact ⟨by rw [p87.1]; rfl, p87.2.1, p78.2.tr p87.2.2⟩
theorem met_praysAs_5 {l : Launch} {D : va_G} {cA : Nat → ClassId} {b : Nat} {σ : Nat → Nat → Int32} {S : Sta} {x y : Int32} {w : Nat} {t : TR} (dp : Nat) (hdp : 9 ≤ dp) (hR : RM (σ 0) S) (hI : Inv S) (hs : σ 25 0 = nI w) (hw : w < 8) (ht : TRr σ t) (hx1 : x = nI 5) : MI l D cA b yX5_praysAs cX5_praysAs 3 (some .int) (dp) [.ref b, .int x, .int y] σ (fun r τ => r = (vp S w 5 y t).1 ∧ TRr τ (vp S w 5 y t).2 ∧ Kp [10, 24] σ τ) := by
  refine Ci.of rfl (by decide +kernel) (Nat.le_of_ble_eq_true rfl) ?_
  intro p e s m args below meth c Q hC hK hP hret ls hl
  have hx := hC.1
  have hb := hC.2.1
  have hown := hC.2.2.2.1
  have hts := hC.2.2.2.2
  have hS : va_S (mA b) s.heap s.heap [] := va_S.rf
  subst hx1
  refine lv_iload_n hx hb dX5_praysAs_0 rfl (hl.at rfl) ?_
  refine lv_tableOut (tgt := 96) hx hb dX5_praysAs_1 (by decide) rfl ?_
  refine lv_aload_n hx hb dX5_praysAs_96 rfl (hl.at rfl) ?_
  refine lv_iload_n hx hb dX5_praysAs_97 rfl (hl.at rfl) ?_
  refine m_sS hC (met_above ) cs_X5_256 rfl rfl hl.1 (Nat.le_of_ble_eq_true rfl) dX5_praysAs_98 (by omega) (by decide) (fun r98 p98 => ?_)
  obtain rfl : r98 = nI 3 := p98.trans (by decide)
  refine lv_iload_n hx hb dX5_praysAs_101 rfl (hl.at rfl) ?_
  refine m_iV hC hK hP hS (met_praysAs_3 (dp - 1) (by omega) hR hI hs hw ht rfl) cv_X5_271 rfl rfl hl.1 (Nat.le_of_ble_eq_true rfl) dX5_praysAs_102 (by omega) (by decide) (fun r102 σ102 H locs p102 hP hS => ?_)
  refine hret _ _ ls _ _ _ hP hS dX5_praysAs_105 ?_
  exact p102
theorem met_praysAs {l : Launch} {D : va_G} {cA : Nat → ClassId} {b : Nat} {σ : Nat → Nat → Int32} {S : Sta} {x y : Int32} {w k : Nat} {t : TR} (hk : k ≤ 6) (hR : RM (σ 0) S) (hI : Inv S) (hs : σ 25 0 = nI w) (hw : w < 8) (ht : TRr σ t) (hx1 : x = nI k) : MI l D cA b yX5_praysAs cX5_praysAs 3 (some .int) 9 [.ref b, .int x, .int y] σ (fun r τ => r = (vp S w k y t).1 ∧ TRr τ (vp S w k y t).2 ∧ Kp [10, 24] σ τ) := by
  rcases (by omega : k = 0 ∨ k = 1 ∨ k = 2 ∨ k = 3 ∨ k = 4 ∨ k = 5 ∨ k = 6) with rfl | rfl | rfl | rfl | rfl | rfl | rfl
  · exact met_praysAs_0 9 (by decide) hR hI hs hw ht hx1
  · exact met_praysAs_1 9 (by decide) hR hI hs hw ht hx1
  · exact met_praysAs_2 9 (by decide) hR hI hs hw ht hx1
  · exact met_praysAs_3 9 (by decide) hR hI hs hw ht hx1
  · exact met_praysAs_4 9 (by decide) hR hI hs hw ht hx1
  · exact met_praysAs_5 9 (by decide) hR hI hs hw ht hx1
  · exact met_praysAs_6 9 (by decide) hR hI hs hw ht hx1
theorem met_partsAs_0 {l : Launch} {D : va_G} {cA : Nat → ClassId} {b : Nat} {σ : Nat → Nat → Int32} {S : Sta} {x y : Int32} {w : Nat} {t : TR} (dp : Nat) (hdp : 2 ≤ dp) (hR : RM (σ 0) S) (hI : Inv S) (hs : σ 25 0 = nI w) (hw : w < 8) (ht : TRr σ t) (hx1 : x = nI 0) : MI l D cA b yX5_partsAs cX5_partsAs 5 (some .int) (dp) [.ref b, .int x, .int y] σ (fun r τ => r = (vq S w 0 y t).1 ∧ TRr τ (vq S w 0 y t).2 ∧ τ 26 0 = pz S w ∧ Kp [10, 24, 26] σ τ) := by
  refine Ci.of rfl (by decide +kernel) (Nat.le_of_ble_eq_true rfl) ?_
  intro p e s m args below meth c Q hC hK hP hret ls hl
  have hx := hC.1
  have hb := hC.2.1
  have hown := hC.2.2.2.1
  have hts := hC.2.2.2.2
  have hS : va_S (mA b) s.heap s.heap [] := va_S.rf
  subst hx1
  refine lv_iload_n hx hb dX5_partsAs_0 rfl (hl.at rfl) ?_
  refine lv_lookup (off := 27) (tgt := 28) hx hb dX5_partsAs_1 (by decide) (by decide) rfl ?_
  refine lv_aload_n hx hb dX5_partsAs_28 rfl (hl.at rfl) ?_
  refine lv_bipush (v := nI 13) hx hb dX5_partsAs_29 rfl ?_
  refine m_vV hC hK hP hS (met_begins (k := 13) (t := t) ht rfl) cv_X5_253 rfl rfl hl.1 (Nat.le_of_ble_eq_true rfl) dX5_partsAs_31 (by omega) (by decide) (fun σ31 H locs p31 hP hS => ?_)
  refine lv_aload_n hx hb dX5_partsAs_34 rfl (hl.at rfl) ?_
  refine m_pV hC hK hP (met_mNow (S := S) (w := w) (by rw [p31.2 0 (by decide)]; exact hR) (by rw [p31.2 25 (by decide)]; exact hs) hw) cv_X5_268 rfl rfl hl.1 (Nat.le_of_ble_eq_true rfl) dX5_partsAs_35 (by omega) (by decide) (fun r35 p35 => ?_)
  subst p35
  refine lv_aload_n hx hb dX5_partsAs_38 rfl (hl.at rfl) ?_
  refine mg_speaks hC hK hP dX5_partsAs_39 ?_
  refine l_top _ ((congrFun (p31.2 25 (by decide)) 0).trans hs) ?_
  refine lv_isub hx hb dX5_partsAs_42 ?_
  refine l_top (vqb S w) rfl ?_
  refine l_istore_n hx hb 3 dX5_partsAs_43 rfl hl rfl (fun ls hl => ?_)
  refine lv_aload_n hx hb dX5_partsAs_44 rfl (hl.at rfl) ?_
  refine lv_iload_n hx hb dX5_partsAs_45 rfl (hl.at rfl) ?_
  refine lv_if_ne (tgt := 53) hx hb dX5_partsAs_46 rfl (fun c46 => ?_) (fun c46 => ?_)
  · refine lv_iconst (v := nI 0) hx hb dX5_partsAs_53 rfl ?_
    refine mp_isParted hC hK hP hS (by first | exact Or.inl rfl | exact Or.inr rfl) dX5_partsAs_54 (fun H locs hP hS => ?_)
    refine lv_iload_n hx hb dX5_partsAs_57 rfl (hl.at rfl) ?_
    refine lv_if_ne (tgt := 65) hx hb dX5_partsAs_58 rfl (fun c58 => ?_) (fun c58 => ?_)
    · refine lv_iload_n hx hb dX5_partsAs_65 rfl (hl.at rfl) ?_
      refine lv_iconst (v := -1) hx hb dX5_partsAs_66 rfl ?_
      refine lv_icmp_ne (tgt := 75) hx hb dX5_partsAs_67 rfl (fun c67 => ?_) (fun c67 => ?_)
      · refine lv_iload_n hx hb dX5_partsAs_75 rfl (hl.at rfl) ?_
        refine lv_iload_n hx hb dX5_partsAs_76 rfl (hl.at rfl) ?_
        refine lv_idiv hx hb dX5_partsAs_77 (c46) ?_
        refine hret _ _ ls _ _ _ hP hS dX5_partsAs_78 ?_
        first | (exact ⟨by show _ = vqv S w y; rw [vqv, if_pos c46], p31.1, by show nI 1 = _; rw [pz, if_pos c46], (p31.2.mono (by decide)).up (by decide)⟩) | (exact ⟨by show _ = vqv S w y; rw [vqv, if_neg c46, if_pos c67], p31.1, by show nI 0 = _; rw [pz, if_neg c46], (p31.2.mono (by decide)).up (by decide)⟩) | (exact ⟨by show _ = vqv S w y; rw [vqv, if_neg c46, if_neg c67], p31.1, by show nI 0 = _; rw [pz, if_neg c46], (p31.2.mono (by decide)).up (by decide)⟩)
      · refine lv_iload_n hx hb dX5_partsAs_70 rfl (hl.at rfl) ?_
        refine lv_ineg hx hb dX5_partsAs_71 ?_
        refine lv_goto (tgt := 78) hx hb dX5_partsAs_72 rfl ?_
        refine hret _ _ ls _ _ _ hP hS dX5_partsAs_78 ?_
        first | (exact ⟨by show _ = vqv S w y; rw [vqv, if_pos c46], p31.1, by show nI 1 = _; rw [pz, if_pos c46], (p31.2.mono (by decide)).up (by decide)⟩) | (exact ⟨by show _ = vqv S w y; rw [vqv, if_neg c46, if_pos c67], p31.1, by show nI 0 = _; rw [pz, if_neg c46], (p31.2.mono (by decide)).up (by decide)⟩) | (exact ⟨by show _ = vqv S w y; rw [vqv, if_neg c46, if_neg c67], p31.1, by show nI 0 = _; rw [pz, if_neg c46], (p31.2.mono (by decide)).up (by decide)⟩)
    · exact absurd c58 c46
  · refine lv_iconst (v := nI 1) hx hb dX5_partsAs_49 rfl ?_
    refine lv_goto (tgt := 54) hx hb dX5_partsAs_50 rfl ?_
    refine mp_isParted hC hK hP hS (by first | exact Or.inl rfl | exact Or.inr rfl) dX5_partsAs_54 (fun H locs hP hS => ?_)
    refine lv_iload_n hx hb dX5_partsAs_57 rfl (hl.at rfl) ?_
    refine lv_if_ne (tgt := 65) hx hb dX5_partsAs_58 rfl (fun c58 => ?_) (fun c58 => ?_)
    · exact absurd c46 c58
    · refine lv_iconst (v := nI 0) hx hb dX5_partsAs_61 rfl ?_
      refine lv_goto (tgt := 78) hx hb dX5_partsAs_62 rfl ?_
      refine hret _ _ ls _ _ _ hP hS dX5_partsAs_78 ?_
      first | (exact ⟨by show _ = vqv S w y; rw [vqv, if_pos c46], p31.1, by show nI 1 = _; rw [pz, if_pos c46], (p31.2.mono (by decide)).up (by decide)⟩) | (exact ⟨by show _ = vqv S w y; rw [vqv, if_neg c46, if_pos c67], p31.1, by show nI 0 = _; rw [pz, if_neg c46], (p31.2.mono (by decide)).up (by decide)⟩) | (exact ⟨by show _ = vqv S w y; rw [vqv, if_neg c46, if_neg c67], p31.1, by show nI 0 = _; rw [pz, if_neg c46], (p31.2.mono (by decide)).up (by decide)⟩)
theorem cv_X5_278 : CV RX5 RX5 278 yX5_partsAs cX5_partsAs 5 (some .int) 2 := ⟨lw_V q1709 q1711 qs80 q88 q1712, by decide +kernel⟩
theorem met_partsAs_1 {l : Launch} {D : va_G} {cA : Nat → ClassId} {b : Nat} {σ : Nat → Nat → Int32} {S : Sta} {x y : Int32} {w : Nat} {t : TR} (dp : Nat) (hdp : 7 ≤ dp) (hR : RM (σ 0) S) (hI : Inv S) (hs : σ 25 0 = nI w) (hw : w < 8) (ht : TRr σ t) (hx1 : x = nI 1) : MI l D cA b yX5_partsAs cX5_partsAs 5 (some .int) (dp) [.ref b, .int x, .int y] σ (fun r τ => r = (vq S w 1 y t).1 ∧ TRr τ (vq S w 1 y t).2 ∧ τ 26 0 = pz S w ∧ Kp [10, 24, 26] σ τ) := by
  refine Ci.of rfl (by decide +kernel) (Nat.le_of_ble_eq_true rfl) ?_
  intro p e s m args below meth c Q hC hK hP hret ls hl
  have hx := hC.1
  have hb := hC.2.1
  have hown := hC.2.2.2.1
  have hts := hC.2.2.2.2
  have hS : va_S (mA b) s.heap s.heap [] := va_S.rf
  subst hx1
  refine lv_iload_n hx hb dX5_partsAs_0 rfl (hl.at rfl) ?_
  refine lv_lookup (off := 78) (tgt := 79) hx hb dX5_partsAs_1 (by decide) (by decide) rfl ?_
  refine lv_aload_n hx hb dX5_partsAs_79 rfl (hl.at rfl) ?_
  refine lv_bipush (v := nI 21) hx hb dX5_partsAs_80 rfl ?_
  refine m_vV hC hK hP hS (met_begins (k := 21) (t := t) ht rfl) cv_X5_253 rfl rfl hl.1 (Nat.le_of_ble_eq_true rfl) dX5_partsAs_82 (by omega) (by decide) (fun σ82 H locs p82 hP hS => ?_)
  refine lv_aload_n hx hb dX5_partsAs_85 rfl (hl.at rfl) ?_
  refine lv_iconst (v := nI 1) hx hb dX5_partsAs_86 rfl ?_
  refine m_sS hC (met_above ) cs_X5_256 rfl rfl hl.1 (Nat.le_of_ble_eq_true rfl) dX5_partsAs_87 (by omega) (by decide) (fun r87 p87 => ?_)
  obtain rfl : r87 = nI 0 := p87.trans (by decide)
  refine lv_iload_n hx hb dX5_partsAs_90 rfl (hl.at rfl) ?_
  refine m_iV hC hK hP hS (met_partsAs_0 (dp - 1) (by omega) (by rw [p82.2 0 (by decide)]; exact hR) hI (by rw [p82.2 25 (by decide)]; exact hs) hw p82.1 rfl) cv_X5_278 rfl rfl hl.1 (Nat.le_of_ble_eq_true rfl) dX5_partsAs_91 (by omega) (by decide) (fun r91 σ91 H locs p91 hP hS => ?_)
  refine l_istore hx hb 4 dX5_partsAs_94 hl rfl (fun ls hl => ?_)
  refine lv_aload_n hx hb dX5_partsAs_96 rfl (hl.at rfl) ?_
  refine mg_isParted hC hK hP dX5_partsAs_97 ?_
  refine l_top _ p91.2.2.1 ?_
  refine lv_if_eq (tgt := 107) hx hb dX5_partsAs_100 rfl (fun c100 => ?_) (fun c100 => ?_)
  · have hz : ¬ vqb S w = 0 := fun z => by rw [pz, if_pos z] at c100; exact absurd c100 (by decide)
    refine lv_iload hx hb dX5_partsAs_107 (hl.at rfl) ?_
    refine lv_aload_n hx hb dX5_partsAs_109 rfl (hl.at rfl) ?_
    refine lv_aload_n hx hb dX5_partsAs_110 rfl (hl.at rfl) ?_
    refine m_pV hC hK hP (met_kindNow (S := S) (w := w) (by rw [p91.2.2.2 0 (by decide), p82.2 0 (by decide)]; exact hR) (by rw [p91.2.2.2 25 (by decide), p82.2 25 (by decide)]; exact hs) hw) cv_X5_262 rfl rfl hl.1 (Nat.le_of_ble_eq_true rfl) dX5_partsAs_111 (by omega) (by decide) (fun r111 p111 => ?_)
    obtain ⟨kn, hkn, ekn⟩ := inv_bd hI 5 w hw
    have hkn : kn ≤ 6 := hkn
    obtain rfl : r111 = nI kn := p111.trans ekn
    refine lv_iconst (v := nI 1) hx hb dX5_partsAs_114 rfl ?_
    refine m_iV hC hK hP hS (met_turnsAs (k := kn) hkn (by rw [p91.2.2.2 0 (by decide), p82.2 0 (by decide)]; exact hR) hI (by rw [p91.2.2.2 25 (by decide), p82.2 25 (by decide)]; exact hs) hw p91.2.1 rfl) cv_X5_265 rfl rfl hl.1 (Nat.le_of_ble_eq_true rfl) dX5_partsAs_115 (by omega) (by decide) (fun r115 σ115 H locs p115 hP hS => ?_)
    refine lv_iadd hx hb dX5_partsAs_118 ?_
    refine hret _ _ ls _ _ _ hP hS dX5_partsAs_119 ?_
    first | (exact ⟨by show _ = (vq1 S w y t).1; rw [vq1, if_pos hz], by show TRr _ (vq1 S w y t).2; rw [vq1, if_pos hz]; exact p91.2.1, p91.2.2.1, (p82.2.mono (by decide)).tr p91.2.2.2⟩) | (exact ⟨by show _ = (vq1 S w y t).1; rw [vq1, if_neg hz, ekn, cn_nI (by omega), p91.1, p115.1]; rfl, by show TRr _ (vq1 S w y t).2; rw [vq1, if_neg hz, ekn, cn_nI (by omega)]; exact p115.2.1, by rw [p115.2.2 26 (by decide)]; exact p91.2.2.1, ((p82.2.mono (by decide)).tr p91.2.2.2).tr (p115.2.2.mono (by decide))⟩)
  · have hz : vqb S w = 0 := by by_cases z : vqb S w = 0; exact z; (rw [pz, if_neg z] at c100; exact absurd rfl c100)
    refine lv_iconst (v := nI 0) hx hb dX5_partsAs_103 rfl ?_
    refine lv_goto (tgt := 119) hx hb dX5_partsAs_104 rfl ?_
    refine hret _ _ ls _ _ _ hP hS dX5_partsAs_119 ?_
    first | (exact ⟨by show _ = (vq1 S w y t).1; rw [vq1, if_pos hz], by show TRr _ (vq1 S w y t).2; rw [vq1, if_pos hz]; exact p91.2.1, p91.2.2.1, (p82.2.mono (by decide)).tr p91.2.2.2⟩) | (exact ⟨by show _ = (vq1 S w y t).1; rw [vq1, if_neg hz, ekn, cn_nI (by omega), p91.1, p115.1]; rfl, by show TRr _ (vq1 S w y t).2; rw [vq1, if_neg hz, ekn, cn_nI (by omega)]; exact p115.2.1, by rw [p115.2.2 26 (by decide)]; exact p91.2.2.1, ((p82.2.mono (by decide)).tr p91.2.2.2).tr (p115.2.2.mono (by decide))⟩)
theorem met_partsAs_2 {l : Launch} {D : va_G} {cA : Nat → ClassId} {b : Nat} {σ : Nat → Nat → Int32} {S : Sta} {x y : Int32} {w : Nat} {t : TR} (dp : Nat) (hdp : 3 ≤ dp) (hR : RM (σ 0) S) (hI : Inv S) (hs : σ 25 0 = nI w) (hw : w < 8) (ht : TRr σ t) (hx1 : x = nI 2) : MI l D cA b yX5_partsAs cX5_partsAs 5 (some .int) (dp) [.ref b, .int x, .int y] σ (fun r τ => r = (vq S w 2 y t).1 ∧ TRr τ (vq S w 2 y t).2 ∧ τ 26 0 = pz S w ∧ Kp [10, 24, 26] σ τ) := by
  refine Ci.of rfl (by decide +kernel) (Nat.le_of_ble_eq_true rfl) ?_
  intro p e s m args below meth c Q hC hK hP hret ls hl
  have hx := hC.1
  have hb := hC.2.1
  have hown := hC.2.2.2.1
  have hts := hC.2.2.2.2
  have hS : va_S (mA b) s.heap s.heap [] := va_S.rf
  subst hx1
  refine lv_iload_n hx hb dX5_partsAs_0 rfl (hl.at rfl) ?_
  refine lv_lookup (off := 119) (tgt := 120) hx hb dX5_partsAs_1 (by decide) (by decide) rfl ?_
  refine lv_aload_n hx hb dX5_partsAs_120 rfl (hl.at rfl) ?_
  refine lv_iload_n hx hb dX5_partsAs_121 rfl (hl.at rfl) ?_
  refine m_sS hC (met_above ) cs_X5_256 rfl rfl hl.1 (Nat.le_of_ble_eq_true rfl) dX5_partsAs_122 (by omega) (by decide) (fun r122 p122 => ?_)
  obtain rfl : r122 = nI 0 := p122.trans (by decide)
  refine lv_iload_n hx hb dX5_partsAs_125 rfl (hl.at rfl) ?_
  refine m_iV hC hK hP hS (met_partsAs_0 (dp - 1) (by omega) hR hI hs hw ht rfl) cv_X5_278 rfl rfl hl.1 (Nat.le_of_ble_eq_true rfl) dX5_partsAs_126 (by omega) (by decide) (fun r126 σ126 H locs p126 hP hS => ?_)
  refine hret _ _ ls _ _ _ hP hS dX5_partsAs_129 ?_
  exact p126
theorem met_partsAs_3 {l : Launch} {D : va_G} {cA : Nat → ClassId} {b : Nat} {σ : Nat → Nat → Int32} {S : Sta} {x y : Int32} {w : Nat} {t : TR} (dp : Nat) (hdp : 3 ≤ dp) (hR : RM (σ 0) S) (hI : Inv S) (hs : σ 25 0 = nI w) (hw : w < 8) (ht : TRr σ t) (hx1 : x = nI 3) : MI l D cA b yX5_partsAs cX5_partsAs 5 (some .int) (dp) [.ref b, .int x, .int y] σ (fun r τ => r = (vq S w 3 y t).1 ∧ TRr τ (vq S w 3 y t).2 ∧ τ 26 0 = pz S w ∧ Kp [10, 24, 26] σ τ) := by
  refine Ci.of rfl (by decide +kernel) (Nat.le_of_ble_eq_true rfl) ?_
  intro p e s m args below meth c Q hC hK hP hret ls hl
  have hx := hC.1
  have hb := hC.2.1
  have hown := hC.2.2.2.1
  have hts := hC.2.2.2.2
  have hS : va_S (mA b) s.heap s.heap [] := va_S.rf
  subst hx1
  refine lv_iload_n hx hb dX5_partsAs_0 rfl (hl.at rfl) ?_
  refine lv_lookup (off := 119) (tgt := 120) hx hb dX5_partsAs_1 (by decide) (by decide) rfl ?_
  refine lv_aload_n hx hb dX5_partsAs_120 rfl (hl.at rfl) ?_
  refine lv_iload_n hx hb dX5_partsAs_121 rfl (hl.at rfl) ?_
  refine m_sS hC (met_above ) cs_X5_256 rfl rfl hl.1 (Nat.le_of_ble_eq_true rfl) dX5_partsAs_122 (by omega) (by decide) (fun r122 p122 => ?_)
  obtain rfl : r122 = nI 0 := p122.trans (by decide)
  refine lv_iload_n hx hb dX5_partsAs_125 rfl (hl.at rfl) ?_
  refine m_iV hC hK hP hS (met_partsAs_0 (dp - 1) (by omega) hR hI hs hw ht rfl) cv_X5_278 rfl rfl hl.1 (Nat.le_of_ble_eq_true rfl) dX5_partsAs_126 (by omega) (by decide) (fun r126 σ126 H locs p126 hP hS => ?_)
  refine hret _ _ ls _ _ _ hP hS dX5_partsAs_129 ?_
  exact p126
theorem met_partsAs_6 {l : Launch} {D : va_G} {cA : Nat → ClassId} {b : Nat} {σ : Nat → Nat → Int32} {S : Sta} {x y : Int32} {w : Nat} {t : TR} (dp : Nat) (hdp : 3 ≤ dp) (hR : RM (σ 0) S) (hI : Inv S) (hs : σ 25 0 = nI w) (hw : w < 8) (ht : TRr σ t) (hx1 : x = nI 6) : MI l D cA b yX5_partsAs cX5_partsAs 5 (some .int) (dp) [.ref b, .int x, .int y] σ (fun r τ => r = (vq S w 6 y t).1 ∧ TRr τ (vq S w 6 y t).2 ∧ τ 26 0 = pz S w ∧ Kp [10, 24, 26] σ τ) := by
  refine Ci.of rfl (by decide +kernel) (Nat.le_of_ble_eq_true rfl) ?_
  intro p e s m args below meth c Q hC hK hP hret ls hl
  have hx := hC.1
  have hb := hC.2.1
  have hown := hC.2.2.2.1
  have hts := hC.2.2.2.2
  have hS : va_S (mA b) s.heap s.heap [] := va_S.rf
  subst hx1
  refine lv_iload_n hx hb dX5_partsAs_0 rfl (hl.at rfl) ?_
  refine lv_lookup (off := 119) (tgt := 120) hx hb dX5_partsAs_1 (by decide) (by decide) rfl ?_
  refine lv_aload_n hx hb dX5_partsAs_120 rfl (hl.at rfl) ?_
  refine lv_iload_n hx hb dX5_partsAs_121 rfl (hl.at rfl) ?_
  refine m_sS hC (met_above ) cs_X5_256 rfl rfl hl.1 (Nat.le_of_ble_eq_true rfl) dX5_partsAs_122 (by omega) (by decide) (fun r122 p122 => ?_)
  obtain rfl : r122 = nI 0 := p122.trans (by decide)
  refine lv_iload_n hx hb dX5_partsAs_125 rfl (hl.at rfl) ?_
  refine m_iV hC hK hP hS (met_partsAs_0 (dp - 1) (by omega) hR hI hs hw ht rfl) cv_X5_278 rfl rfl hl.1 (Nat.le_of_ble_eq_true rfl) dX5_partsAs_126 (by omega) (by decide) (fun r126 σ126 H locs p126 hP hS => ?_)
  refine hret _ _ ls _ _ _ hP hS dX5_partsAs_129 ?_
  exact p126
theorem met_partsAs_4 {l : Launch} {D : va_G} {cA : Nat → ClassId} {b : Nat} {σ : Nat → Nat → Int32} {S : Sta} {x y : Int32} {w : Nat} {t : TR} (dp : Nat) (hdp : 8 ≤ dp) (hR : RM (σ 0) S) (hI : Inv S) (hs : σ 25 0 = nI w) (hw : w < 8) (ht : TRr σ t) (hx1 : x = nI 4) : MI l D cA b yX5_partsAs cX5_partsAs 5 (some .int) (dp) [.ref b, .int x, .int y] σ (fun r τ => r = (vq S w 4 y t).1 ∧ TRr τ (vq S w 4 y t).2 ∧ τ 26 0 = pz S w ∧ Kp [10, 24, 26] σ τ) := by
  refine Ci.of rfl (by decide +kernel) (Nat.le_of_ble_eq_true rfl) ?_
  intro p e s m args below meth c Q hC hK hP hret ls hl
  have hx := hC.1
  have hb := hC.2.1
  have hown := hC.2.2.2.1
  have hts := hC.2.2.2.2
  have hS : va_S (mA b) s.heap s.heap [] := va_S.rf
  subst hx1
  refine lv_iload_n hx hb dX5_partsAs_0 rfl (hl.at rfl) ?_
  refine lv_lookup (off := 119) (tgt := 120) hx hb dX5_partsAs_1 (by decide) (by decide) rfl ?_
  refine lv_aload_n hx hb dX5_partsAs_120 rfl (hl.at rfl) ?_
  refine lv_iload_n hx hb dX5_partsAs_121 rfl (hl.at rfl) ?_
  refine m_sS hC (met_above ) cs_X5_256 rfl rfl hl.1 (Nat.le_of_ble_eq_true rfl) dX5_partsAs_122 (by omega) (by decide) (fun r122 p122 => ?_)
  obtain rfl : r122 = nI 1 := p122.trans (by decide)
  refine lv_iload_n hx hb dX5_partsAs_125 rfl (hl.at rfl) ?_
  refine m_iV hC hK hP hS (met_partsAs_1 (dp - 1) (by omega) hR hI hs hw ht rfl) cv_X5_278 rfl rfl hl.1 (Nat.le_of_ble_eq_true rfl) dX5_partsAs_126 (by omega) (by decide) (fun r126 σ126 H locs p126 hP hS => ?_)
  refine hret _ _ ls _ _ _ hP hS dX5_partsAs_129 ?_
  exact p126
theorem met_partsAs_5 {l : Launch} {D : va_G} {cA : Nat → ClassId} {b : Nat} {σ : Nat → Nat → Int32} {S : Sta} {x y : Int32} {w : Nat} {t : TR} (dp : Nat) (hdp : 4 ≤ dp) (hR : RM (σ 0) S) (hI : Inv S) (hs : σ 25 0 = nI w) (hw : w < 8) (ht : TRr σ t) (hx1 : x = nI 5) : MI l D cA b yX5_partsAs cX5_partsAs 5 (some .int) (dp) [.ref b, .int x, .int y] σ (fun r τ => r = (vq S w 5 y t).1 ∧ TRr τ (vq S w 5 y t).2 ∧ τ 26 0 = pz S w ∧ Kp [10, 24, 26] σ τ) := by
  refine Ci.of rfl (by decide +kernel) (Nat.le_of_ble_eq_true rfl) ?_
  intro p e s m args below meth c Q hC hK hP hret ls hl
  have hx := hC.1
  have hb := hC.2.1
  have hown := hC.2.2.2.1
  have hts := hC.2.2.2.2
  have hS : va_S (mA b) s.heap s.heap [] := va_S.rf
  subst hx1
  refine lv_iload_n hx hb dX5_partsAs_0 rfl (hl.at rfl) ?_
  refine lv_lookup (off := 119) (tgt := 120) hx hb dX5_partsAs_1 (by decide) (by decide) rfl ?_
  refine lv_aload_n hx hb dX5_partsAs_120 rfl (hl.at rfl) ?_
  refine lv_iload_n hx hb dX5_partsAs_121 rfl (hl.at rfl) ?_
  refine m_sS hC (met_above ) cs_X5_256 rfl rfl hl.1 (Nat.le_of_ble_eq_true rfl) dX5_partsAs_122 (by omega) (by decide) (fun r122 p122 => ?_)
  obtain rfl : r122 = nI 3 := p122.trans (by decide)
  refine lv_iload_n hx hb dX5_partsAs_125 rfl (hl.at rfl) ?_
  refine m_iV hC hK hP hS (met_partsAs_3 (dp - 1) (by omega) hR hI hs hw ht rfl) cv_X5_278 rfl rfl hl.1 (Nat.le_of_ble_eq_true rfl) dX5_partsAs_126 (by omega) (by decide) (fun r126 σ126 H locs p126 hP hS => ?_)
  refine hret _ _ ls _ _ _ hP hS dX5_partsAs_129 ?_
  exact p126
theorem met_partsAs {l : Launch} {D : va_G} {cA : Nat → ClassId} {b : Nat} {σ : Nat → Nat → Int32} {S : Sta} {x y : Int32} {w k : Nat} {t : TR} (hk : k ≤ 6) (hR : RM (σ 0) S) (hI : Inv S) (hs : σ 25 0 = nI w) (hw : w < 8) (ht : TRr σ t) (hx1 : x = nI k) : MI l D cA b yX5_partsAs cX5_partsAs 5 (some .int) 8 [.ref b, .int x, .int y] σ (fun r τ => r = (vq S w k y t).1 ∧ TRr τ (vq S w k y t).2 ∧ τ 26 0 = pz S w ∧ Kp [10, 24, 26] σ τ) := by
  rcases (by omega : k = 0 ∨ k = 1 ∨ k = 2 ∨ k = 3 ∨ k = 4 ∨ k = 5 ∨ k = 6) with rfl | rfl | rfl | rfl | rfl | rfl | rfl
  · exact met_partsAs_0 8 (by decide) hR hI hs hw ht hx1
  · exact met_partsAs_1 8 (by decide) hR hI hs hw ht hx1
  · exact met_partsAs_2 8 (by decide) hR hI hs hw ht hx1
  · exact met_partsAs_3 8 (by decide) hR hI hs hw ht hx1
  · exact met_partsAs_4 8 (by decide) hR hI hs hw ht hx1
  · exact met_partsAs_5 8 (by decide) hR hI hs hw ht hx1
  · exact met_partsAs_6 8 (by decide) hR hI hs hw ht hx1
theorem met_voice {l : Launch} {D : va_G} {cA : Nat → ClassId} {b : Nat} {σ : Nat → Nat → Int32} {x q y : Int32} {T : Tta} (hT : RT σ T) (hI : Inv (T 0)) : MI l D cA b yX5_voice cX5_voice 6 (some .int) (10) [.ref b, .int x, .int q, .int y] σ (fun r τ => r = (op_voice x q y T).1 ∧ RT τ (op_voice x q y T).2) := by
  refine Ci.of rfl (by decide +kernel) (Nat.le_of_ble_eq_true rfl) ?_
  intro p e s m args below meth c Q hC hK hP hret ls hl
  have hx := hC.1
  have hb := hC.2.1
  have hown := hC.2.2.2.1
  have hts := hC.2.2.2.2
  have hS : va_S (mA b) s.heap s.heap [] := va_S.rf
  obtain ⟨eN, hN⟩ := inv_wh hI
  refine lv_aload_n hx hb dX5_voice_0 rfl (hl.at rfl) ?_
  refine lv_iload_n hx hb dX5_voice_1 rfl (hl.at rfl) ?_
  refine m_pV hC hK hP (met_isWheel (S := T 0) hT.1) cv_X5_112 rfl rfl hl.1 (Nat.le_of_ble_eq_true rfl) dX5_voice_2 (by decide) (by decide) (fun r2 p2 => ?_)
  rcases p2 with ⟨rfl, p2⟩ | ⟨rfl, p2⟩
  · obtain ⟨w, hw, rfl⟩ := isWh_of hI p2
    refine l_ifeq_1 hx hb 17 dX5_voice_5 rfl ?_
    refine lv_iload_n hx hb dX5_voice_8 rfl (hl.at rfl) ?_
    refine lv_iconst (v := nI 0) hx hb dX5_voice_9 rfl ?_
    refine lv_iconst (v := nI 3) hx hb dX5_voice_10 rfl ?_
    refine m_sS hC (met_in ) cs_X5_56 rfl rfl hl.1 (Nat.le_of_ble_eq_true rfl) dX5_voice_11 (by decide) (by decide) (fun r11 p11 => ?_)
    rcases p11 with ⟨rfl, p11⟩ | ⟨rfl, p11⟩
    · obtain ⟨qq, hqq, rfl⟩ := in_nI p11
      refine l_ifne_1 hx hb 23 dX5_voice_14 rfl ?_
      refine lv_aload_n hx hb dX5_voice_23 rfl (hl.at rfl) ?_
      refine lv_iconst (v := nI 0) hx hb dX5_voice_24 rfl ?_
      refine mp_traced hC hK hP hS dX5_voice_25 (fun H locs hP hS => ?_)
      refine lv_aload_n hx hb dX5_voice_28 rfl (hl.at rfl) ?_
      refine lv_iload_n hx hb dX5_voice_29 rfl (hl.at rfl) ?_
      refine mp_speaks hC hK hP hS dX5_voice_30 (fun H locs hP hS => ?_)
      refine lv_aload_n hx hb dX5_voice_33 rfl (hl.at rfl) ?_
      refine lv_iconst (v := nI 0) hx hb dX5_voice_34 rfl ?_
      refine mp_isParted hC hK hP hS (Or.inl rfl) dX5_voice_35 (fun H locs hP hS => ?_)
      refine lv_aload_n hx hb dX5_voice_38 rfl (hl.at rfl) ?_
      refine m_pV hC hK hP (met_kindNow (S := T 0) (w := w) hT.1 rfl (by omega)) cv_X5_262 rfl rfl hl.1 (Nat.le_of_ble_eq_true rfl) dX5_voice_39 (by decide) (by decide) (fun r39 p39 => ?_)
      obtain ⟨kn, hkn, ekn⟩ := inv_bd hI 5 w (by show w < 8; omega)
      have hkn : kn ≤ 6 := hkn
      obtain rfl : r39 = nI kn := p39.trans ekn
      have ht0 : TRr (up1 (up1 (up1 σ 24 (fun _ => nI 0)) 25 (fun _ => nI w)) 26 (fun _ => nI 0)) (T 2 1, 0) := ⟨fun j hj => hT.2.2 1 j hj, rfl, Nat.zero_le _⟩
      refine l_istore hx hb 4 dX5_voice_42 hl rfl (fun ls hl => ?_)
      refine lv_iload_n hx hb dX5_voice_44 rfl (hl.at rfl) ?_
      refine lv_if_ne (tgt := 58) hx hb dX5_voice_45 rfl (fun c45 => ?_) (fun c45 => ?_)
      · refine lv_iload_n hx hb dX5_voice_58 rfl (hl.at rfl) ?_
        refine lv_iconst (v := nI 1) hx hb dX5_voice_59 rfl ?_
        refine l_neN hx hb 73 dX5_voice_60 rfl (by omega) (by omega) (fun c60 => ?_) (fun c60 => ?_)
        · refine lv_iload_n hx hb dX5_voice_73 rfl (hl.at rfl) ?_
          refine lv_iconst (v := nI 2) hx hb dX5_voice_74 rfl ?_
          refine l_neN hx hb 88 dX5_voice_75 rfl (by omega) (by omega) (fun c75 => ?_) (fun c75 => ?_)
          · refine lv_aload_n hx hb dX5_voice_88 rfl (hl.at rfl) ?_
            refine lv_iload hx hb dX5_voice_89 (hl.at rfl) ?_
            refine lv_iload_n hx hb dX5_voice_91 rfl (hl.at rfl) ?_
            refine m_iV hC hK hP hS (met_partsAs (k := kn) (t := (T 2 1, 0)) hkn hT.1 hI rfl (by omega) (by exact ht0) rfl) cv_X5_278 rfl rfl hl.1 (Nat.le_of_ble_eq_true rfl) dX5_voice_92 (by decide) (by decide) (fun r92 σ92 H locs p92 hP hS => ?_)
            refine l_istore hx hb 5 dX5_voice_95 hl rfl (fun ls hl => ?_)
            refine lv_aload_n hx hb dX5_voice_97 rfl (hl.at rfl) ?_
            refine mg_isParted hC hK hP dX5_voice_98 ?_
            have hq3 : qq = 3 := by (have : qq ≠ 0 := fun z => c45 (by rw [z]; rfl)); omega
            refine l_top _ p92.2.2.1 ?_
            refine lv_if_eq (tgt := 113) hx hb dX5_voice_101 rfl (fun c101 => ?_) (fun c101 => ?_)
            · have hz : ¬ vqb (T 0) w = 0 := fun z => by rw [pz, if_pos z] at c101; exact absurd c101 (by decide)
              refine lv_iload hx hb dX5_voice_113 (hl.at rfl) ?_
              refine hret _ _ ls _ _ _ hP hS dX5_voice_115 ?_
              first | (rw [op_voice, if_neg p2]; exact p19) | (rw [op_voice, if_pos p2, if_neg p11]; exact p19) | (rw [op_voice, if_pos p2, if_pos p11, if_neg (fun z => absurd (c45.symm.trans z.1) (by decide)), cn_nI (by omega), sp_voice, if_pos c45, ekn, cn_nI (by omega)]; exact ⟨p52.1, RT_TR hT p52.2.1 ((((Kp.rf.up (by decide)).up (by decide)).up (by decide)).tr (p52.2.2.mono (by decide)))⟩) | (rw [op_voice, if_pos p2, if_pos p11, if_neg (fun z => absurd ((nI_eq (by omega) (by decide)).mp z.1) (by omega)), cn_nI (by omega), sp_voice, if_neg c45, if_pos (by rw [c60]), ekn, cn_nI (by omega)]; exact ⟨p67.1, RT_TR hT p67.2.1 ((((Kp.rf.up (by decide)).up (by decide)).up (by decide)).tr (p67.2.2.mono (by decide)))⟩) | (rw [op_voice, if_pos p2, if_pos p11, if_neg (fun z => absurd ((nI_eq (by omega) (by decide)).mp z.1) (by omega)), cn_nI (by omega), sp_voice, if_neg c45, if_neg (fun z => c60 ((nI_eq (by omega) (by omega)).mp z)), if_pos (by rw [c75]), ekn, cn_nI (by omega)]; exact ⟨p82.1, RT_TR hT p82.2.1 ((((Kp.rf.up (by decide)).up (by decide)).up (by decide)).tr (p82.2.2.mono (by decide)))⟩) | (rw [op_voice, if_pos p2, if_pos p11, cn_nI (by omega), if_pos ⟨by rw [hq3], hz⟩, sp_voice, if_neg c45, if_neg (fun z => c60 ((nI_eq (by omega) (by omega)).mp z)), if_neg (fun z => c75 ((nI_eq (by omega) (by omega)).mp z)), ekn, cn_nI (by omega)]; exact p107) | (rw [op_voice, if_pos p2, if_pos p11, cn_nI (by omega), if_neg (fun z => hz z.2), sp_voice, if_neg c45, if_neg (fun z => c60 ((nI_eq (by omega) (by omega)).mp z)), if_neg (fun z => c75 ((nI_eq (by omega) (by omega)).mp z)), ekn, cn_nI (by omega)]; exact ⟨p92.1, RT_TR hT p92.2.1 ((((Kp.rf.up (by decide)).up (by decide)).up (by decide)).tr (p92.2.2.2.mono (by decide)))⟩)
            · have hz : vqb (T 0) w = 0 := by by_cases z : vqb (T 0) w = 0; exact z; (rw [pz, if_neg z] at c101; exact absurd rfl c101)
              refine lv_aload_n hx hb dX5_voice_104 rfl (hl.at rfl) ?_
              refine lv_bipush (v := nI 6) hx hb dX5_voice_105 rfl ?_
              refine m_iV hC hK hP hS (met_error (T := tTR T (vq (T 0) w kn y (T 2 1, 0)).2) (RT_TR hT p92.2.1 ((((Kp.rf.up (by decide)).up (by decide)).up (by decide)).tr (p92.2.2.2.mono (by decide)))) rfl (by decide)) cv_X5_76 rfl rfl hl.1 (Nat.le_of_ble_eq_true rfl) dX5_voice_107 (by decide) (by decide) (fun r107 σ107 H locs p107 hP hS => ?_)
              refine lv_goto (tgt := 115) hx hb dX5_voice_110 rfl ?_
              refine hret _ _ ls _ _ _ hP hS dX5_voice_115 ?_
              first | (rw [op_voice, if_neg p2]; exact p19) | (rw [op_voice, if_pos p2, if_neg p11]; exact p19) | (rw [op_voice, if_pos p2, if_pos p11, if_neg (fun z => absurd (c45.symm.trans z.1) (by decide)), cn_nI (by omega), sp_voice, if_pos c45, ekn, cn_nI (by omega)]; exact ⟨p52.1, RT_TR hT p52.2.1 ((((Kp.rf.up (by decide)).up (by decide)).up (by decide)).tr (p52.2.2.mono (by decide)))⟩) | (rw [op_voice, if_pos p2, if_pos p11, if_neg (fun z => absurd ((nI_eq (by omega) (by decide)).mp z.1) (by omega)), cn_nI (by omega), sp_voice, if_neg c45, if_pos (by rw [c60]), ekn, cn_nI (by omega)]; exact ⟨p67.1, RT_TR hT p67.2.1 ((((Kp.rf.up (by decide)).up (by decide)).up (by decide)).tr (p67.2.2.mono (by decide)))⟩) | (rw [op_voice, if_pos p2, if_pos p11, if_neg (fun z => absurd ((nI_eq (by omega) (by decide)).mp z.1) (by omega)), cn_nI (by omega), sp_voice, if_neg c45, if_neg (fun z => c60 ((nI_eq (by omega) (by omega)).mp z)), if_pos (by rw [c75]), ekn, cn_nI (by omega)]; exact ⟨p82.1, RT_TR hT p82.2.1 ((((Kp.rf.up (by decide)).up (by decide)).up (by decide)).tr (p82.2.2.mono (by decide)))⟩) | (rw [op_voice, if_pos p2, if_pos p11, cn_nI (by omega), if_pos ⟨by rw [hq3], hz⟩, sp_voice, if_neg c45, if_neg (fun z => c60 ((nI_eq (by omega) (by omega)).mp z)), if_neg (fun z => c75 ((nI_eq (by omega) (by omega)).mp z)), ekn, cn_nI (by omega)]; exact p107) | (rw [op_voice, if_pos p2, if_pos p11, cn_nI (by omega), if_neg (fun z => hz z.2), sp_voice, if_neg c45, if_neg (fun z => c60 ((nI_eq (by omega) (by omega)).mp z)), if_neg (fun z => c75 ((nI_eq (by omega) (by omega)).mp z)), ekn, cn_nI (by omega)]; exact ⟨p92.1, RT_TR hT p92.2.1 ((((Kp.rf.up (by decide)).up (by decide)).up (by decide)).tr (p92.2.2.2.mono (by decide)))⟩)
          · refine lv_aload_n hx hb dX5_voice_78 rfl (hl.at rfl) ?_
            refine lv_iload hx hb dX5_voice_79 (hl.at rfl) ?_
            refine lv_iload_n hx hb dX5_voice_81 rfl (hl.at rfl) ?_
            refine m_iV hC hK hP hS (met_praysAs (k := kn) (t := (T 2 1, 0)) hkn hT.1 hI rfl (by omega) (by exact ht0) rfl) cv_X5_271 rfl rfl hl.1 (Nat.le_of_ble_eq_true rfl) dX5_voice_82 (by decide) (by decide) (fun r82 σ82 H locs p82 hP hS => ?_)
            refine lv_goto (tgt := 95) hx hb dX5_voice_85 rfl ?_
            refine l_istore hx hb 5 dX5_voice_95 hl rfl (fun ls hl => ?_)
            refine lv_aload_n hx hb dX5_voice_97 rfl (hl.at rfl) ?_
            refine mg_isParted hC hK hP dX5_voice_98 ?_
            refine l_top (nI 0) (congrFun (p82.2.2 26 (by decide)) 0) ?_
            refine lv_if_eq (tgt := 113) hx hb dX5_voice_101 rfl (fun _ => ?_) (fun z => absurd (by decide) z)
            refine lv_iload hx hb dX5_voice_113 (hl.at rfl) ?_
            refine hret _ _ ls _ _ _ hP hS dX5_voice_115 ?_
            first | (rw [op_voice, if_neg p2]; exact p19) | (rw [op_voice, if_pos p2, if_neg p11]; exact p19) | (rw [op_voice, if_pos p2, if_pos p11, if_neg (fun z => absurd (c45.symm.trans z.1) (by decide)), cn_nI (by omega), sp_voice, if_pos c45, ekn, cn_nI (by omega)]; exact ⟨p52.1, RT_TR hT p52.2.1 ((((Kp.rf.up (by decide)).up (by decide)).up (by decide)).tr (p52.2.2.mono (by decide)))⟩) | (rw [op_voice, if_pos p2, if_pos p11, if_neg (fun z => absurd ((nI_eq (by omega) (by decide)).mp z.1) (by omega)), cn_nI (by omega), sp_voice, if_neg c45, if_pos (by rw [c60]), ekn, cn_nI (by omega)]; exact ⟨p67.1, RT_TR hT p67.2.1 ((((Kp.rf.up (by decide)).up (by decide)).up (by decide)).tr (p67.2.2.mono (by decide)))⟩) | (rw [op_voice, if_pos p2, if_pos p11, if_neg (fun z => absurd ((nI_eq (by omega) (by decide)).mp z.1) (by omega)), cn_nI (by omega), sp_voice, if_neg c45, if_neg (fun z => c60 ((nI_eq (by omega) (by omega)).mp z)), if_pos (by rw [c75]), ekn, cn_nI (by omega)]; exact ⟨p82.1, RT_TR hT p82.2.1 ((((Kp.rf.up (by decide)).up (by decide)).up (by decide)).tr (p82.2.2.mono (by decide)))⟩) | (rw [op_voice, if_pos p2, if_pos p11, cn_nI (by omega), if_pos ⟨by rw [hq3], hz⟩, sp_voice, if_neg c45, if_neg (fun z => c60 ((nI_eq (by omega) (by omega)).mp z)), if_neg (fun z => c75 ((nI_eq (by omega) (by omega)).mp z)), ekn, cn_nI (by omega)]; exact p107) | (rw [op_voice, if_pos p2, if_pos p11, cn_nI (by omega), if_neg (fun z => hz z.2), sp_voice, if_neg c45, if_neg (fun z => c60 ((nI_eq (by omega) (by omega)).mp z)), if_neg (fun z => c75 ((nI_eq (by omega) (by omega)).mp z)), ekn, cn_nI (by omega)]; exact ⟨p92.1, RT_TR hT p92.2.1 ((((Kp.rf.up (by decide)).up (by decide)).up (by decide)).tr (p92.2.2.2.mono (by decide)))⟩)
        · refine lv_aload_n hx hb dX5_voice_63 rfl (hl.at rfl) ?_
          refine lv_iload hx hb dX5_voice_64 (hl.at rfl) ?_
          refine lv_iload_n hx hb dX5_voice_66 rfl (hl.at rfl) ?_
          refine m_iV hC hK hP hS (met_turnsAs (k := kn) (t := (T 2 1, 0)) hkn hT.1 hI rfl (by omega) (by exact ht0) rfl) cv_X5_265 rfl rfl hl.1 (Nat.le_of_ble_eq_true rfl) dX5_voice_67 (by decide) (by decide) (fun r67 σ67 H locs p67 hP hS => ?_)
          refine lv_goto (tgt := 95) hx hb dX5_voice_70 rfl ?_
          refine l_istore hx hb 5 dX5_voice_95 hl rfl (fun ls hl => ?_)
          refine lv_aload_n hx hb dX5_voice_97 rfl (hl.at rfl) ?_
          refine mg_isParted hC hK hP dX5_voice_98 ?_
          refine l_top (nI 0) (congrFun (p67.2.2 26 (by decide)) 0) ?_
          refine lv_if_eq (tgt := 113) hx hb dX5_voice_101 rfl (fun _ => ?_) (fun z => absurd (by decide) z)
          refine lv_iload hx hb dX5_voice_113 (hl.at rfl) ?_
          refine hret _ _ ls _ _ _ hP hS dX5_voice_115 ?_
          first | (rw [op_voice, if_neg p2]; exact p19) | (rw [op_voice, if_pos p2, if_neg p11]; exact p19) | (rw [op_voice, if_pos p2, if_pos p11, if_neg (fun z => absurd (c45.symm.trans z.1) (by decide)), cn_nI (by omega), sp_voice, if_pos c45, ekn, cn_nI (by omega)]; exact ⟨p52.1, RT_TR hT p52.2.1 ((((Kp.rf.up (by decide)).up (by decide)).up (by decide)).tr (p52.2.2.mono (by decide)))⟩) | (rw [op_voice, if_pos p2, if_pos p11, if_neg (fun z => absurd ((nI_eq (by omega) (by decide)).mp z.1) (by omega)), cn_nI (by omega), sp_voice, if_neg c45, if_pos (by rw [c60]), ekn, cn_nI (by omega)]; exact ⟨p67.1, RT_TR hT p67.2.1 ((((Kp.rf.up (by decide)).up (by decide)).up (by decide)).tr (p67.2.2.mono (by decide)))⟩) | (rw [op_voice, if_pos p2, if_pos p11, if_neg (fun z => absurd ((nI_eq (by omega) (by decide)).mp z.1) (by omega)), cn_nI (by omega), sp_voice, if_neg c45, if_neg (fun z => c60 ((nI_eq (by omega) (by omega)).mp z)), if_pos (by rw [c75]), ekn, cn_nI (by omega)]; exact ⟨p82.1, RT_TR hT p82.2.1 ((((Kp.rf.up (by decide)).up (by decide)).up (by decide)).tr (p82.2.2.mono (by decide)))⟩) | (rw [op_voice, if_pos p2, if_pos p11, cn_nI (by omega), if_pos ⟨by rw [hq3], hz⟩, sp_voice, if_neg c45, if_neg (fun z => c60 ((nI_eq (by omega) (by omega)).mp z)), if_neg (fun z => c75 ((nI_eq (by omega) (by omega)).mp z)), ekn, cn_nI (by omega)]; exact p107) | (rw [op_voice, if_pos p2, if_pos p11, cn_nI (by omega), if_neg (fun z => hz z.2), sp_voice, if_neg c45, if_neg (fun z => c60 ((nI_eq (by omega) (by omega)).mp z)), if_neg (fun z => c75 ((nI_eq (by omega) (by omega)).mp z)), ekn, cn_nI (by omega)]; exact ⟨p92.1, RT_TR hT p92.2.1 ((((Kp.rf.up (by decide)).up (by decide)).up (by decide)).tr (p92.2.2.2.mono (by decide)))⟩)
      · refine lv_aload_n hx hb dX5_voice_48 rfl (hl.at rfl) ?_
        refine lv_iload hx hb dX5_voice_49 (hl.at rfl) ?_
        refine lv_iload_n hx hb dX5_voice_51 rfl (hl.at rfl) ?_
        refine m_iV hC hK hP hS (met_flowsAs (k := kn) (t := (T 2 1, 0)) hkn hT.1 hI rfl (by omega) (by exact ht0) rfl) cv_X5_259 rfl rfl hl.1 (Nat.le_of_ble_eq_true rfl) dX5_voice_52 (by decide) (by decide) (fun r52 σ52 H locs p52 hP hS => ?_)
        refine lv_goto (tgt := 95) hx hb dX5_voice_55 rfl ?_
        refine l_istore hx hb 5 dX5_voice_95 hl rfl (fun ls hl => ?_)
        refine lv_aload_n hx hb dX5_voice_97 rfl (hl.at rfl) ?_
        refine mg_isParted hC hK hP dX5_voice_98 ?_
        refine l_top (nI 0) (congrFun (p52.2.2 26 (by decide)) 0) ?_
        refine lv_if_eq (tgt := 113) hx hb dX5_voice_101 rfl (fun _ => ?_) (fun z => absurd (by decide) z)
        refine lv_iload hx hb dX5_voice_113 (hl.at rfl) ?_
        refine hret _ _ ls _ _ _ hP hS dX5_voice_115 ?_
        first | (rw [op_voice, if_neg p2]; exact p19) | (rw [op_voice, if_pos p2, if_neg p11]; exact p19) | (rw [op_voice, if_pos p2, if_pos p11, if_neg (fun z => absurd (c45.symm.trans z.1) (by decide)), cn_nI (by omega), sp_voice, if_pos c45, ekn, cn_nI (by omega)]; exact ⟨p52.1, RT_TR hT p52.2.1 ((((Kp.rf.up (by decide)).up (by decide)).up (by decide)).tr (p52.2.2.mono (by decide)))⟩) | (rw [op_voice, if_pos p2, if_pos p11, if_neg (fun z => absurd ((nI_eq (by omega) (by decide)).mp z.1) (by omega)), cn_nI (by omega), sp_voice, if_neg c45, if_pos (by rw [c60]), ekn, cn_nI (by omega)]; exact ⟨p67.1, RT_TR hT p67.2.1 ((((Kp.rf.up (by decide)).up (by decide)).up (by decide)).tr (p67.2.2.mono (by decide)))⟩) | (rw [op_voice, if_pos p2, if_pos p11, if_neg (fun z => absurd ((nI_eq (by omega) (by decide)).mp z.1) (by omega)), cn_nI (by omega), sp_voice, if_neg c45, if_neg (fun z => c60 ((nI_eq (by omega) (by omega)).mp z)), if_pos (by rw [c75]), ekn, cn_nI (by omega)]; exact ⟨p82.1, RT_TR hT p82.2.1 ((((Kp.rf.up (by decide)).up (by decide)).up (by decide)).tr (p82.2.2.mono (by decide)))⟩) | (rw [op_voice, if_pos p2, if_pos p11, cn_nI (by omega), if_pos ⟨by rw [hq3], hz⟩, sp_voice, if_neg c45, if_neg (fun z => c60 ((nI_eq (by omega) (by omega)).mp z)), if_neg (fun z => c75 ((nI_eq (by omega) (by omega)).mp z)), ekn, cn_nI (by omega)]; exact p107) | (rw [op_voice, if_pos p2, if_pos p11, cn_nI (by omega), if_neg (fun z => hz z.2), sp_voice, if_neg c45, if_neg (fun z => c60 ((nI_eq (by omega) (by omega)).mp z)), if_neg (fun z => c75 ((nI_eq (by omega) (by omega)).mp z)), ekn, cn_nI (by omega)]; exact ⟨p92.1, RT_TR hT p92.2.1 ((((Kp.rf.up (by decide)).up (by decide)).up (by decide)).tr (p92.2.2.2.mono (by decide)))⟩)
    · refine l_ifne_0 hx hb 23 dX5_voice_14 rfl ?_
      refine lv_aload_n hx hb dX5_voice_17 rfl (hl.at rfl) ?_
      refine lv_iconst (v := nI 1) hx hb dX5_voice_18 rfl ?_
      refine m_iV hC hK hP hS (met_error hT rfl (by decide)) cv_X5_76 rfl rfl hl.1 (Nat.le_of_ble_eq_true rfl) dX5_voice_19 (by decide) (by decide) (fun r19 σ19 H locs p19 hP hS => ?_)
      refine hret _ _ ls _ _ _ hP hS dX5_voice_22 ?_
      first | (rw [op_voice, if_neg p2]; exact p19) | (rw [op_voice, if_pos p2, if_neg p11]; exact p19) | (rw [op_voice, if_pos p2, if_pos p11, if_neg (fun z => absurd (c45.symm.trans z.1) (by decide)), cn_nI (by omega), sp_voice, if_pos c45, ekn, cn_nI (by omega)]; exact ⟨p52.1, RT_TR hT p52.2.1 ((((Kp.rf.up (by decide)).up (by decide)).up (by decide)).tr (p52.2.2.mono (by decide)))⟩) | (rw [op_voice, if_pos p2, if_pos p11, if_neg (fun z => absurd ((nI_eq (by omega) (by decide)).mp z.1) (by omega)), cn_nI (by omega), sp_voice, if_neg c45, if_pos (by rw [c60]), ekn, cn_nI (by omega)]; exact ⟨p67.1, RT_TR hT p67.2.1 ((((Kp.rf.up (by decide)).up (by decide)).up (by decide)).tr (p67.2.2.mono (by decide)))⟩) | (rw [op_voice, if_pos p2, if_pos p11, if_neg (fun z => absurd ((nI_eq (by omega) (by decide)).mp z.1) (by omega)), cn_nI (by omega), sp_voice, if_neg c45, if_neg (fun z => c60 ((nI_eq (by omega) (by omega)).mp z)), if_pos (by rw [c75]), ekn, cn_nI (by omega)]; exact ⟨p82.1, RT_TR hT p82.2.1 ((((Kp.rf.up (by decide)).up (by decide)).up (by decide)).tr (p82.2.2.mono (by decide)))⟩) | (rw [op_voice, if_pos p2, if_pos p11, cn_nI (by omega), if_pos ⟨by rw [hq3], hz⟩, sp_voice, if_neg c45, if_neg (fun z => c60 ((nI_eq (by omega) (by omega)).mp z)), if_neg (fun z => c75 ((nI_eq (by omega) (by omega)).mp z)), ekn, cn_nI (by omega)]; exact p107) | (rw [op_voice, if_pos p2, if_pos p11, cn_nI (by omega), if_neg (fun z => hz z.2), sp_voice, if_neg c45, if_neg (fun z => c60 ((nI_eq (by omega) (by omega)).mp z)), if_neg (fun z => c75 ((nI_eq (by omega) (by omega)).mp z)), ekn, cn_nI (by omega)]; exact ⟨p92.1, RT_TR hT p92.2.1 ((((Kp.rf.up (by decide)).up (by decide)).up (by decide)).tr (p92.2.2.2.mono (by decide)))⟩)
  · refine l_ifeq_0 hx hb 17 dX5_voice_5 rfl ?_
    refine lv_aload_n hx hb dX5_voice_17 rfl (hl.at rfl) ?_
    refine lv_iconst (v := nI 1) hx hb dX5_voice_18 rfl ?_
    refine m_iV hC hK hP hS (met_error hT rfl (by decide)) cv_X5_76 rfl rfl hl.1 (Nat.le_of_ble_eq_true rfl) dX5_voice_19 (by decide) (by decide) (fun r19 σ19 H locs p19 hP hS => ?_)
    refine hret _ _ ls _ _ _ hP hS dX5_voice_22 ?_
    first | (rw [op_voice, if_neg p2]; exact p19) | (rw [op_voice, if_pos p2, if_neg p11]; exact p19) | (rw [op_voice, if_pos p2, if_pos p11, if_neg (fun z => absurd (c45.symm.trans z.1) (by decide)), cn_nI (by omega), sp_voice, if_pos c45, ekn, cn_nI (by omega)]; exact ⟨p52.1, RT_TR hT p52.2.1 ((((Kp.rf.up (by decide)).up (by decide)).up (by decide)).tr (p52.2.2.mono (by decide)))⟩) | (rw [op_voice, if_pos p2, if_pos p11, if_neg (fun z => absurd ((nI_eq (by omega) (by decide)).mp z.1) (by omega)), cn_nI (by omega), sp_voice, if_neg c45, if_pos (by rw [c60]), ekn, cn_nI (by omega)]; exact ⟨p67.1, RT_TR hT p67.2.1 ((((Kp.rf.up (by decide)).up (by decide)).up (by decide)).tr (p67.2.2.mono (by decide)))⟩) | (rw [op_voice, if_pos p2, if_pos p11, if_neg (fun z => absurd ((nI_eq (by omega) (by decide)).mp z.1) (by omega)), cn_nI (by omega), sp_voice, if_neg c45, if_neg (fun z => c60 ((nI_eq (by omega) (by omega)).mp z)), if_pos (by rw [c75]), ekn, cn_nI (by omega)]; exact ⟨p82.1, RT_TR hT p82.2.1 ((((Kp.rf.up (by decide)).up (by decide)).up (by decide)).tr (p82.2.2.mono (by decide)))⟩) | (rw [op_voice, if_pos p2, if_pos p11, cn_nI (by omega), if_pos ⟨by rw [hq3], hz⟩, sp_voice, if_neg c45, if_neg (fun z => c60 ((nI_eq (by omega) (by omega)).mp z)), if_neg (fun z => c75 ((nI_eq (by omega) (by omega)).mp z)), ekn, cn_nI (by omega)]; exact p107) | (rw [op_voice, if_pos p2, if_pos p11, cn_nI (by omega), if_neg (fun z => hz z.2), sp_voice, if_neg c45, if_neg (fun z => c60 ((nI_eq (by omega) (by omega)).mp z)), if_neg (fun z => c75 ((nI_eq (by omega) (by omega)).mp z)), ekn, cn_nI (by omega)]; exact ⟨p92.1, RT_TR hT p92.2.1 ((((Kp.rf.up (by decide)).up (by decide)).up (by decide)).tr (p92.2.2.2.mono (by decide)))⟩)
theorem met_body {l : Launch} {D : va_G} {cA : Nat → ClassId} {b : Nat} {σ : Nat → Nat → Int32} {x : Int32} {T : Tta} (hT : RT σ T) (h30 : Bd (T 2 2 0) 30) : MI l D cA b yX5_body cX5_body 2 (some .int) (2) [.ref b, .int x] σ (fun r τ => r = (op_body x T).1 ∧ RT τ (op_body x T).2) := by
  refine Ci.of rfl (by decide +kernel) (Nat.le_of_ble_eq_true rfl) ?_
  intro p e s m args below meth c Q hC hK hP hret ls hl
  have hx := hC.1
  have hb := hC.2.1
  have hown := hC.2.2.2.1
  have hts := hC.2.2.2.2
  have hS : va_S (mA b) s.heap s.heap [] := va_S.rf
  obtain ⟨n30, hn30, en⟩ := h30
  refine lv_iload_n hx hb dX5_body_0 rfl (hl.at rfl) ?_
  refine lv_iconst (v := nI 0) hx hb dX5_body_1 rfl ?_
  refine lv_aload_n hx hb dX5_body_2 rfl (hl.at rfl) ?_
  refine mg_traced hC hK hP dX5_body_3 ?_
  refine l_top _ (hT.2.2 2 0 (by decide)) ?_
  refine lv_iconst (v := nI 1) hx hb dX5_body_6 rfl ?_
  refine lv_isub hx hb dX5_body_7 ?_
  refine m_sS hC (met_in ) cs_X5_56 rfl rfl hl.1 (Nat.le_of_ble_eq_true rfl) dX5_body_8 (by decide) (by decide) (fun r8 p8 => ?_)
  rcases p8 with ⟨rfl, p8⟩ | ⟨rfl, p8⟩
  · obtain ⟨k, hk, rfl⟩ : ∃ k, k < 30 ∧ x = nI k := by (have p9 := p8; rw [en] at p9; rcases Nat.eq_zero_or_pos n30 with z | z; (rw [z] at p9; exact absurd (Int32.le_trans p9.1 p9.2) (by decide)); (rw [pk_sub z] at p9; obtain ⟨k, hk, e⟩ := in_nI p9 (by omega); exact ⟨k, by omega, e⟩))
    refine l_ifeq_1 hx hb 23 dX5_body_11 rfl ?_
    refine lv_aload_n hx hb dX5_body_14 rfl (hl.at rfl) ?_
    refine mg_trace hC hK hP dX5_body_15 ?_
    refine lv_iload_n hx hb dX5_body_18 rfl (hl.at rfl) ?_
    refine m_ld 10 _ (by decide) hC hK hP (rfl) (show _ < 30 by omega) dX5_body_19 ?_
    refine lv_goto (tgt := 28) hx hb dX5_body_20 rfl ?_
    refine hret _ _ ls _ _ _ hP hS dX5_body_28 ?_
    first | (rw [op_body, if_pos p8, cn_nI (by omega)]; exact ⟨hT.2.2 1 k (by show k < 30; omega), hT⟩) | (rw [op_body, if_neg p8]; exact p25)
  · refine l_ifeq_0 hx hb 23 dX5_body_11 rfl ?_
    refine lv_aload_n hx hb dX5_body_23 rfl (hl.at rfl) ?_
    refine lv_iconst (v := nI 2) hx hb dX5_body_24 rfl ?_
    refine m_iV hC hK hP hS (met_error hT rfl (by decide)) cv_X5_76 rfl rfl hl.1 (Nat.le_of_ble_eq_true rfl) dX5_body_25 (by decide) (by decide) (fun r25 σ25 H locs p25 hP hS => ?_)
    refine hret _ _ ls _ _ _ hP hS dX5_body_28 ?_
    first | (rw [op_body, if_pos p8, cn_nI (by omega)]; exact ⟨hT.2.2 1 k (by show k < 30; omega), hT⟩) | (rw [op_body, if_neg p8]; exact p25)
