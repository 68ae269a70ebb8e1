theorem met_look {l : Launch} {D : va_G} {cA : Nat → ClassId} {b : Nat} {σ : Nat → Nat → Int32} {f0 tp : Nat → Int32} {N a : Nat} (h0 : σ 0 = f0) (ht : TPo N tp f0) (ha : σ 16 0 = nI a) (hN : a ≤ N) : MP l D cA b yX5_look cX5_look 1 (some .int) (0) [.ref b] σ (fun r => r = lk N tp a) := by
  refine Cp.of rfl (by decide +kernel) (Nat.le_of_ble_eq_true rfl) ?_
  intro p e s m args below meth c Q hC hK hP hret ls hl
  have hx := hC.1
  have hb := hC.2.1
  have hown := hC.2.2.2.1
  have hts := hC.2.2.2.2
  have hN60 := ht.2.2
  refine lv_aload_n hx hb dX5_look_0 rfl (hl.at rfl) ?_
  refine mg_at hC hK hP dX5_look_1 ?_
  refine l_top _ ha ?_
  refine lv_aload_n hx hb dX5_look_4 rfl (hl.at rfl) ?_
  refine mg_s hC hK hP dX5_look_5 ?_
  refine lv_iconst (v := nI 3) hx hb dX5_look_8 rfl ?_
  refine m_ld 0 _ (by decide) hC hK hP (rfl) (show _ < 449 by omega) dX5_look_9 ?_
  refine l_top _ ((congrFun h0 3).trans ht.1) ?_
  refine l_geN hx hb 29 dX5_look_10 rfl (by omega) (by omega) (fun c10 => ?_) (fun c10 => ?_)
  · refine lv_iconst (v := -1) hx hb dX5_look_29 rfl ?_
    refine hret ls _ _ dX5_look_30 ?_
    first | (rw [lk, if_pos c10, h0]; exact ht.2.1 a c10) | (rw [lk, if_neg (by omega)])
  · refine lv_aload_n hx hb dX5_look_13 rfl (hl.at rfl) ?_
    refine mg_s hC hK hP dX5_look_14 ?_
    refine lv_sipush (v := nI 365) hx hb dX5_look_17 rfl ?_
    refine lv_aload_n hx hb dX5_look_20 rfl (hl.at rfl) ?_
    refine mg_at hC hK hP dX5_look_21 ?_
    refine l_top _ ha ?_
    refine l_addN hx hb dX5_look_24 ?_
    refine m_ld 0 _ (by decide) hC hK hP (rfl) (show _ < 449 by omega) dX5_look_25 ?_
    refine lv_goto (tgt := 30) hx hb dX5_look_26 rfl ?_
    refine hret ls _ _ dX5_look_30 ?_
    first | (rw [lk, if_pos c10, h0]; exact ht.2.1 a c10) | (rw [lk, if_neg (by omega)])
theorem met_isName {l : Launch} {D : va_G} {cA : Nat → ClassId} {b : Nat} {σ : Nat → Nat → Int32} {x : Int32} {u : Nat} (hu : σ 19 0 = nI u) (hu2 : u < 2) : MP l D cA b yX5_isName cX5_isName 2 (some .boolean) (0) [.ref b, .int x] σ (bz (isNb u x = true)) := by
  refine Cp.ofz rfl (by decide +kernel) (Nat.le_of_ble_eq_true rfl) ?_
  intro p e s m args below meth c Q hC hK hP hret ls hl
  have hx := hC.1
  have hb := hC.2.1
  have hown := hC.2.2.2.1
  have hts := hC.2.2.2.2
  refine lv_iload_n hx hb dX5_isName_0 rfl (hl.at rfl) ?_
  refine lv_bipush (v := nI 109) hx hb dX5_isName_1 rfl ?_
  refine lv_icmp_ne (tgt := 8) hx hb dX5_isName_3 rfl (fun c3 => ?_) (fun c3 => ?_)
  · refine lv_aload_n hx hb dX5_isName_8 rfl (hl.at rfl) ?_
    refine mg_use hC hK hP dX5_isName_9 ?_
    refine l_top _ hu ?_
    refine lv_if_ne (tgt := 41) hx hb dX5_isName_12 rfl (fun c12 => ?_) (fun c12 => ?_)
    · have hu1 : ¬ u = 0 := fun z => c12 (by rw [z]; rfl)
      refine lv_iload_n hx hb dX5_isName_41 rfl (hl.at rfl) ?_
      refine lv_bipush (v := nI 116) hx hb dX5_isName_42 rfl ?_
      refine lv_icmp_eq (tgt := 53) hx hb dX5_isName_44 rfl (fun c44 => ?_) (fun c44 => ?_)
      · refine lv_iconst (v := nI 1) hx hb dX5_isName_53 rfl ?_
        refine lv_goto (tgt := 58) hx hb dX5_isName_54 rfl ?_
        refine hret ls _ _ dX5_isName_58 (by first | exact Or.inl rfl | exact Or.inr rfl) ?_
        first | (exact Or.inl ⟨rfl, by rw [isNb, if_pos c3]⟩) | (exact Or.inl ⟨rfl, by rw [isNb, if_neg c3, if_pos hu0, if_pos c18]⟩) | (exact Or.inl ⟨rfl, by rw [isNb, if_neg c3, if_pos hu0, if_neg c18, if_pos c24]⟩) | (exact Or.inl ⟨rfl, by rw [isNb, if_neg c3, if_pos hu0, if_neg c18, if_neg c24, if_pos c30]⟩) | (exact Or.inr ⟨rfl, by rw [isNb, if_neg c3, if_pos hu0, if_neg c18, if_neg c24, if_neg c30]; exact Bool.false_ne_true⟩) | (exact Or.inl ⟨rfl, by rw [isNb, if_neg c3, if_neg hu1, if_pos c44]⟩) | (exact Or.inl ⟨rfl, by rw [isNb, if_neg c3, if_neg hu1, if_neg c44, if_pos c50]⟩) | (exact Or.inr ⟨rfl, by rw [isNb, if_neg c3, if_neg hu1, if_neg c44, if_neg c50]; exact Bool.false_ne_true⟩)
      · refine lv_iload_n hx hb dX5_isName_47 rfl (hl.at rfl) ?_
        refine lv_bipush (v := nI 99) hx hb dX5_isName_48 rfl ?_
        refine lv_icmp_ne (tgt := 57) hx hb dX5_isName_50 rfl (fun c50 => ?_) (fun c50 => ?_)
        · refine lv_iconst (v := nI 0) hx hb dX5_isName_57 rfl ?_
          refine hret ls _ _ dX5_isName_58 (by first | exact Or.inl rfl | exact Or.inr rfl) ?_
          first | (exact Or.inl ⟨rfl, by rw [isNb, if_pos c3]⟩) | (exact Or.inl ⟨rfl, by rw [isNb, if_neg c3, if_pos hu0, if_pos c18]⟩) | (exact Or.inl ⟨rfl, by rw [isNb, if_neg c3, if_pos hu0, if_neg c18, if_pos c24]⟩) | (exact Or.inl ⟨rfl, by rw [isNb, if_neg c3, if_pos hu0, if_neg c18, if_neg c24, if_pos c30]⟩) | (exact Or.inr ⟨rfl, by rw [isNb, if_neg c3, if_pos hu0, if_neg c18, if_neg c24, if_neg c30]; exact Bool.false_ne_true⟩) | (exact Or.inl ⟨rfl, by rw [isNb, if_neg c3, if_neg hu1, if_pos c44]⟩) | (exact Or.inl ⟨rfl, by rw [isNb, if_neg c3, if_neg hu1, if_neg c44, if_pos c50]⟩) | (exact Or.inr ⟨rfl, by rw [isNb, if_neg c3, if_neg hu1, if_neg c44, if_neg c50]; exact Bool.false_ne_true⟩)
        · refine lv_iconst (v := nI 1) hx hb dX5_isName_53 rfl ?_
          refine lv_goto (tgt := 58) hx hb dX5_isName_54 rfl ?_
          refine hret ls _ _ dX5_isName_58 (by first | exact Or.inl rfl | exact Or.inr rfl) ?_
          first | (exact Or.inl ⟨rfl, by rw [isNb, if_pos c3]⟩) | (exact Or.inl ⟨rfl, by rw [isNb, if_neg c3, if_pos hu0, if_pos c18]⟩) | (exact Or.inl ⟨rfl, by rw [isNb, if_neg c3, if_pos hu0, if_neg c18, if_pos c24]⟩) | (exact Or.inl ⟨rfl, by rw [isNb, if_neg c3, if_pos hu0, if_neg c18, if_neg c24, if_pos c30]⟩) | (exact Or.inr ⟨rfl, by rw [isNb, if_neg c3, if_pos hu0, if_neg c18, if_neg c24, if_neg c30]; exact Bool.false_ne_true⟩) | (exact Or.inl ⟨rfl, by rw [isNb, if_neg c3, if_neg hu1, if_pos c44]⟩) | (exact Or.inl ⟨rfl, by rw [isNb, if_neg c3, if_neg hu1, if_neg c44, if_pos c50]⟩) | (exact Or.inr ⟨rfl, by rw [isNb, if_neg c3, if_neg hu1, if_neg c44, if_neg c50]; exact Bool.false_ne_true⟩)
    · have hu0 : u = 0 := (nI_eq (by omega) (by decide)).mp c12
      refine lv_iload_n hx hb dX5_isName_15 rfl (hl.at rfl) ?_
      refine lv_bipush (v := nI 102) hx hb dX5_isName_16 rfl ?_
      refine lv_icmp_eq (tgt := 33) hx hb dX5_isName_18 rfl (fun c18 => ?_) (fun c18 => ?_)
      · refine lv_iconst (v := nI 1) hx hb dX5_isName_33 rfl ?_
        refine lv_goto (tgt := 58) hx hb dX5_isName_34 rfl ?_
        refine hret ls _ _ dX5_isName_58 (by first | exact Or.inl rfl | exact Or.inr rfl) ?_
        first | (exact Or.inl ⟨rfl, by rw [isNb, if_pos c3]⟩) | (exact Or.inl ⟨rfl, by rw [isNb, if_neg c3, if_pos hu0, if_pos c18]⟩) | (exact Or.inl ⟨rfl, by rw [isNb, if_neg c3, if_pos hu0, if_neg c18, if_pos c24]⟩) | (exact Or.inl ⟨rfl, by rw [isNb, if_neg c3, if_pos hu0, if_neg c18, if_neg c24, if_pos c30]⟩) | (exact Or.inr ⟨rfl, by rw [isNb, if_neg c3, if_pos hu0, if_neg c18, if_neg c24, if_neg c30]; exact Bool.false_ne_true⟩) | (exact Or.inl ⟨rfl, by rw [isNb, if_neg c3, if_neg hu1, if_pos c44]⟩) | (exact Or.inl ⟨rfl, by rw [isNb, if_neg c3, if_neg hu1, if_neg c44, if_pos c50]⟩) | (exact Or.inr ⟨rfl, by rw [isNb, if_neg c3, if_neg hu1, if_neg c44, if_neg c50]; exact Bool.false_ne_true⟩)
      · refine lv_iload_n hx hb dX5_isName_21 rfl (hl.at rfl) ?_
        refine lv_bipush (v := nI 112) hx hb dX5_isName_22 rfl ?_
        refine lv_icmp_eq (tgt := 33) hx hb dX5_isName_24 rfl (fun c24 => ?_) (fun c24 => ?_)
        · refine lv_iconst (v := nI 1) hx hb dX5_isName_33 rfl ?_
          refine lv_goto (tgt := 58) hx hb dX5_isName_34 rfl ?_
          refine hret ls _ _ dX5_isName_58 (by first | exact Or.inl rfl | exact Or.inr rfl) ?_
          first | (exact Or.inl ⟨rfl, by rw [isNb, if_pos c3]⟩) | (exact Or.inl ⟨rfl, by rw [isNb, if_neg c3, if_pos hu0, if_pos c18]⟩) | (exact Or.inl ⟨rfl, by rw [isNb, if_neg c3, if_pos hu0, if_neg c18, if_pos c24]⟩) | (exact Or.inl ⟨rfl, by rw [isNb, if_neg c3, if_pos hu0, if_neg c18, if_neg c24, if_pos c30]⟩) | (exact Or.inr ⟨rfl, by rw [isNb, if_neg c3, if_pos hu0, if_neg c18, if_neg c24, if_neg c30]; exact Bool.false_ne_true⟩) | (exact Or.inl ⟨rfl, by rw [isNb, if_neg c3, if_neg hu1, if_pos c44]⟩) | (exact Or.inl ⟨rfl, by rw [isNb, if_neg c3, if_neg hu1, if_neg c44, if_pos c50]⟩) | (exact Or.inr ⟨rfl, by rw [isNb, if_neg c3, if_neg hu1, if_neg c44, if_neg c50]; exact Bool.false_ne_true⟩)
        · refine lv_iload_n hx hb dX5_isName_27 rfl (hl.at rfl) ?_
          refine lv_bipush (v := nI 104) hx hb dX5_isName_28 rfl ?_
          refine lv_icmp_ne (tgt := 37) hx hb dX5_isName_30 rfl (fun c30 => ?_) (fun c30 => ?_)
          · refine lv_iconst (v := nI 0) hx hb dX5_isName_37 rfl ?_
            refine lv_goto (tgt := 58) hx hb dX5_isName_38 rfl ?_
            refine hret ls _ _ dX5_isName_58 (by first | exact Or.inl rfl | exact Or.inr rfl) ?_
            first | (exact Or.inl ⟨rfl, by rw [isNb, if_pos c3]⟩) | (exact Or.inl ⟨rfl, by rw [isNb, if_neg c3, if_pos hu0, if_pos c18]⟩) | (exact Or.inl ⟨rfl, by rw [isNb, if_neg c3, if_pos hu0, if_neg c18, if_pos c24]⟩) | (exact Or.inl ⟨rfl, by rw [isNb, if_neg c3, if_pos hu0, if_neg c18, if_neg c24, if_pos c30]⟩) | (exact Or.inr ⟨rfl, by rw [isNb, if_neg c3, if_pos hu0, if_neg c18, if_neg c24, if_neg c30]; exact Bool.false_ne_true⟩) | (exact Or.inl ⟨rfl, by rw [isNb, if_neg c3, if_neg hu1, if_pos c44]⟩) | (exact Or.inl ⟨rfl, by rw [isNb, if_neg c3, if_neg hu1, if_neg c44, if_pos c50]⟩) | (exact Or.inr ⟨rfl, by rw [isNb, if_neg c3, if_neg hu1, if_neg c44, if_neg c50]; exact Bool.false_ne_true⟩)
          · refine lv_iconst (v := nI 1) hx hb dX5_isName_33 rfl ?_
            refine lv_goto (tgt := 58) hx hb dX5_isName_34 rfl ?_
            refine hret ls _ _ dX5_isName_58 (by first | exact Or.inl rfl | exact Or.inr rfl) ?_
            first | (exact Or.inl ⟨rfl, by rw [isNb, if_pos c3]⟩) | (exact Or.inl ⟨rfl, by rw [isNb, if_neg c3, if_pos hu0, if_pos c18]⟩) | (exact Or.inl ⟨rfl, by rw [isNb, if_neg c3, if_pos hu0, if_neg c18, if_pos c24]⟩) | (exact Or.inl ⟨rfl, by rw [isNb, if_neg c3, if_pos hu0, if_neg c18, if_neg c24, if_pos c30]⟩) | (exact Or.inr ⟨rfl, by rw [isNb, if_neg c3, if_pos hu0, if_neg c18, if_neg c24, if_neg c30]; exact Bool.false_ne_true⟩) | (exact Or.inl ⟨rfl, by rw [isNb, if_neg c3, if_neg hu1, if_pos c44]⟩) | (exact Or.inl ⟨rfl, by rw [isNb, if_neg c3, if_neg hu1, if_neg c44, if_pos c50]⟩) | (exact Or.inr ⟨rfl, by rw [isNb, if_neg c3, if_neg hu1, if_neg c44, if_neg c50]; exact Bool.false_ne_true⟩)
  · refine lv_iconst (v := nI 1) hx hb dX5_isName_6 rfl ?_
    refine hret ls _ _ dX5_isName_7 (by first | exact Or.inl rfl | exact Or.inr rfl) ?_
    first | (exact Or.inl ⟨rfl, by rw [isNb, if_pos c3]⟩) | (exact Or.inl ⟨rfl, by rw [isNb, if_neg c3, if_pos hu0, if_pos c18]⟩) | (exact Or.inl ⟨rfl, by rw [isNb, if_neg c3, if_pos hu0, if_neg c18, if_pos c24]⟩) | (exact Or.inl ⟨rfl, by rw [isNb, if_neg c3, if_pos hu0, if_neg c18, if_neg c24, if_pos c30]⟩) | (exact Or.inr ⟨rfl, by rw [isNb, if_neg c3, if_pos hu0, if_neg c18, if_neg c24, if_neg c30]; exact Bool.false_ne_true⟩) | (exact Or.inl ⟨rfl, by rw [isNb, if_neg c3, if_neg hu1, if_pos c44]⟩) | (exact Or.inl ⟨rfl, by rw [isNb, if_neg c3, if_neg hu1, if_neg c44, if_pos c50]⟩) | (exact Or.inr ⟨rfl, by rw [isNb, if_neg c3, if_neg hu1, if_neg c44, if_neg c50]; exact Bool.false_ne_true⟩)
theorem met_step1 {l : Launch} {D : va_G} {cA : Nat → ClassId} {b : Nat} {σ : Nat → Nat → Int32} {x y : Int32} {ll : PL_} (hs : PSs σ ll) (hln : ll.length ≤ 60) : MV l D cA b yX5_step1 cX5_step1 3 (0) [.ref b, .int x, .int y] σ (fun τ => PSs τ (ll ++ [(x, y)]) ∧ Kp [4, 18] σ τ) := by
  refine Cv.of (by decide +kernel) (Nat.le_of_ble_eq_true rfl) ?_
  intro p e s m args below meth c Q hC hK hP hret ls hl
  have hx := hC.1
  have hb := hC.2.1
  have hown := hC.2.2.2.1
  have hts := hC.2.2.2.2
  have hS : va_S (mA b) s.heap s.heap [] := va_S.rf
  refine lv_aload_n hx hb dX5_step1_0 rfl (hl.at rfl) ?_
  refine mg_step hC hK hP dX5_step1_1 ?_
  refine lv_iconst (v := nI 2) hx hb dX5_step1_4 rfl ?_
  refine lv_aload_n hx hb dX5_step1_5 rfl (hl.at rfl) ?_
  refine mg_steps hC hK hP dX5_step1_6 ?_
  refine l_top _ hs.1 ?_
  refine l_mulN hx hb dX5_step1_9 ?_
  refine lv_iload_n hx hb dX5_step1_10 rfl (hl.at rfl) ?_
  refine m_st 4 _ (by decide) hC hK hP hS (rfl) (show _ < 124 by omega) dX5_step1_11 (fun H locs hP hS => ?_)
  refine lv_aload_n hx hb dX5_step1_12 rfl (hl.at rfl) ?_
  refine mg_step hC hK hP dX5_step1_13 ?_
  refine lv_iconst (v := nI 2) hx hb dX5_step1_16 rfl ?_
  refine lv_aload_n hx hb dX5_step1_17 rfl (hl.at rfl) ?_
  refine mg_steps hC hK hP dX5_step1_18 ?_
  refine l_top (nI ll.length) hs.1 ?_
  refine l_mulN hx hb dX5_step1_21 ?_
  refine lv_iconst (v := nI 1) hx hb dX5_step1_22 rfl ?_
  refine l_addN hx hb dX5_step1_23 ?_
  refine lv_iload_n hx hb dX5_step1_24 rfl (hl.at rfl) ?_
  refine m_st 4 _ (by decide) hC hK hP hS (rfl) (show _ < 124 by omega) dX5_step1_25 (fun H locs hP hS => ?_)
  refine lv_aload_n hx hb dX5_step1_26 rfl (hl.at rfl) ?_
  refine lv_dup hx hb dX5_step1_27 rfl ?_
  refine mg_steps hC hK hP dX5_step1_28 ?_
  refine l_top (nI ll.length) hs.1 ?_
  refine lv_iconst (v := nI 1) hx hb dX5_step1_31 rfl ?_
  refine l_addN hx hb dX5_step1_32 ?_
  refine mp_steps hC hK hP hS dX5_step1_33 (fun H locs hP hS => ?_)
  refine hret _ _ ls _ _ hP hS dX5_step1_36 ?_
  exact ⟨PSs_add hs rfl (by show upd (up1 σ 4 _ 4) _ _ = _; rw [up1_s]), ((Kp.rf.up (by decide)).up (by decide)).up (by decide)⟩
theorem met_opens {l : Launch} {D : va_G} {cA : Nat → ClassId} {b : Nat} {σ : Nat → Nat → Int32} {f0 : Nat → Int32} {u d a : Nat} {ll : PL_} (hx0 : PSx f0 u d σ a ll) (hd : d ≤ 5) (ha : a ≤ 60) : MI l D cA b yX5_opens cX5_opens 1 (some .boolean) (0) [.ref b] σ (fun r τ => bz (0 < d) r ∧ (0 < d → PSx f0 u (d - 1) τ (a + 1) ll) ∧ (d = 0 → τ 16 0 = nI a) ∧ Kp [4, 16, 17, 18] σ τ) := by
  refine Ci.ofz rfl (by decide +kernel) (Nat.le_of_ble_eq_true rfl) ?_
  intro p e s m args below meth c Q hC hK hP hret ls hl
  have hx := hC.1
  have hb := hC.2.1
  have hown := hC.2.2.2.1
  have hts := hC.2.2.2.2
  have hS : va_S (mA b) s.heap s.heap [] := va_S.rf
  refine lv_aload_n hx hb dX5_opens_0 rfl (hl.at rfl) ?_
  refine mg_open hC hK hP dX5_opens_1 ?_
  refine l_top _ hx0.2.2.1 ?_
  refine lv_iconst (v := nI 5) hx hb dX5_opens_4 rfl ?_
  refine l_neN hx hb 10 dX5_opens_5 rfl (by omega) (by omega) (fun c5 => ?_) (fun c5 => ?_)
  · refine lv_aload_n hx hb dX5_opens_10 rfl (hl.at rfl) ?_
    refine lv_dup hx hb dX5_opens_11 rfl ?_
    refine mg_open hC hK hP dX5_opens_12 ?_
    refine l_top _ hx0.2.2.1 ?_
    refine lv_iconst (v := nI 1) hx hb dX5_opens_15 rfl ?_
    refine l_addN hx hb dX5_opens_16 ?_
    refine mp_open hC hK hP hS dX5_opens_17 (fun H locs hP hS => ?_)
    refine lv_aload_n hx hb dX5_opens_20 rfl (hl.at rfl) ?_
    refine lv_dup hx hb dX5_opens_21 rfl ?_
    refine mg_at hC hK hP dX5_opens_22 ?_
    refine l_top (nI a) hx0.2.2.2.1 ?_
    refine lv_iconst (v := nI 1) hx hb dX5_opens_25 rfl ?_
    refine l_addN hx hb dX5_opens_26 ?_
    refine mp_at hC hK hP hS dX5_opens_27 (fun H locs hP hS => ?_)
    refine lv_iconst (v := nI 1) hx hb dX5_opens_30 rfl ?_
    refine hret _ _ ls _ _ _ hP hS dX5_opens_31 (by first | exact Or.inl rfl | exact Or.inr rfl) ?_
    first | (exact ⟨Or.inr ⟨rfl, by omega⟩, fun z => absurd z (by omega), fun _ => hx0.2.2.2.1, Kp.rf⟩) | (exact ⟨Or.inl ⟨rfl, by omega⟩, fun z => ⟨hx0.1, hx0.2.1, by show nI (5 - d + 1) = _; rw [show 5 - d + 1 = 5 - (d - 1) by omega], rfl, hx0.2.2.2.2⟩, fun z => absurd z (by omega), (Kp.rf.up (by decide)).up (by decide)⟩)
  · refine lv_iconst (v := nI 0) hx hb dX5_opens_8 rfl ?_
    refine hret _ _ ls _ _ _ hP hS dX5_opens_9 (by first | exact Or.inl rfl | exact Or.inr rfl) ?_
    first | (exact ⟨Or.inr ⟨rfl, by omega⟩, fun z => absurd z (by omega), fun _ => hx0.2.2.2.1, Kp.rf⟩) | (exact ⟨Or.inl ⟨rfl, by omega⟩, fun z => ⟨hx0.1, hx0.2.1, by show nI (5 - d + 1) = _; rw [show 5 - d + 1 = 5 - (d - 1) by omega], rfl, hx0.2.2.2.2⟩, fun z => absurd z (by omega), (Kp.rf.up (by decide)).up (by decide)⟩)
theorem cv_X5_141 : CV RX5 RX5 141 yX5_look cX5_look 1 (some .int) 0 := ⟨lw_V q1555 q1557 qs60 q88 q1558, by decide +kernel⟩
theorem cv_X5_145 : CV RX5 RX5 145 yX5_step1 cX5_step1 3 (none) 2 := ⟨lw_V q1563 q1565 qs62 q88 q1566, by decide +kernel⟩
theorem cv_X5_158 : CV RX5 RX5 158 yX5_one cX5_one 4 (some .boolean) 0 := ⟨lw_V q1551 q1553 qs59 q88 q1554, by decide +kernel⟩
theorem met_product {l : Launch} {D : va_G} {cA : Nat → ClassId} {b : Nat} {σ : Nat → Nat → Int32} {f0 tp : Nat → Int32} {u d N a : Nat} {ll : PL_} {q : PP} (dp : Nat) (hdp : 1 ≤ dp) (htp : TPo N tp f0) (hq : PM N q) (h1 : PC l D cA b f0 u d N yX5_one cX5_one 4 dp q) (hx0 : PSx f0 u d σ a ll) (ha : a ≤ N) (hl0 : ll.length ≤ a) : MI l D cA b yX5_product cX5_product 2 (some .boolean) (dp + 1) [.ref b] σ (pcPost f0 u d σ (p_ch N tp q opP a ll)) := by
  refine Ci.ofz rfl (by decide +kernel) (Nat.le_of_ble_eq_true rfl) ?_
  intro p e s m args below meth c Q hC hK hP hret ls hl
  have hx := hC.1
  have hb := hC.2.1
  have hown := hC.2.2.2.1
  have hts := hC.2.2.2.2
  have hS : va_S (mA b) s.heap s.heap [] := va_S.rf
  have hN60 := htp.2.2
  obtain ⟨R0, hR0⟩ : ∃ R0, R0 = p_ch N tp q opP a ll := ⟨_, rfl⟩
  have m1 := hq a ll ha
  refine lv_aload_n hx hb dX5_product_0 rfl (hl.at rfl) ?_
  refine m_iV hC hK hP hS (h1 _ a ll hx0 ha hl0) cv_X5_158 rfl rfl hl.1 (Nat.le_of_ble_eq_true rfl) dX5_product_1 (by omega) (by decide) (fun r1 σ1 H locs p1 hP hS => ?_)
  rcases p1 with ⟨⟨rfl, p1⟩ | ⟨rfl, p1⟩, u1⟩
  · refine l_ifne_1 hx hb 9 dX5_product_4 rfl ?_
    have loop : ∀ (f a2 : Nat) (l2 : PL_) (τ : Sta), a2 ≤ N → N + 1 ≤ a2 + f → l2.length ≤ a2 → PSx f0 u d τ a2 l2 → p_lp N tp q opP f a2 l2 = R0 → Kp [4, 16, 17, 18] σ τ → ∀ (H : Heap) (locs : List Loc) (ls : Array Slot), MWP D cA b τ H → va_S (mA b) s.heap H locs → lh ls [some (.ref b), none] → W p l e (rmG (dp + 1) 0 0) s m args below meth c H locs 0 0 Q (F0 m 9 ls []) := by
      intro f
      induction f with
      | zero => intro a2 l2 τ h1 h2; exact absurd h2 (by omega)
      | succ f ih =>
        intro a2 l2 τ g1 g2 g3 gx gE hk H locs ls hP hS hl
        refine lv_aload_n hx hb dX5_product_9 rfl (hl.at rfl) ?_
        refine m_pV hC hK hP (met_look (a := a2) gx.1 htp gx.2.2.2.1 g1) cv_X5_141 rfl rfl hl.1 (Nat.le_of_ble_eq_true rfl) dX5_product_10 (by omega) (by decide) (fun r10 p10 => ?_)
        subst p10
        refine lv_bipush (v := nI 42) hx hb dX5_product_13 rfl ?_
        refine lv_icmp_eq (tgt := 36) hx hb dX5_product_15 rfl (fun c15 => ?_) (fun c15 => ?_)
        · first | have hop : opP (lk N tp a2) = true := (by rw [opP, if_pos c15]) | have hop : opP (lk N tp a2) = true := (by rw [opP, if_neg c15, if_pos c24]) | have hop : opP (lk N tp a2) = true := (by rw [opP, if_neg c15, if_neg c24, if_pos c33])
          have hlt := op_lt opP_m hop
          have m2 := hq (a2 + 1) l2 (by omega)
          refine lv_aload_n hx hb dX5_product_36 rfl (hl.at rfl) ?_
          refine m_pV hC hK hP (met_look (a := a2) gx.1 htp gx.2.2.2.1 g1) cv_X5_141 rfl rfl hl.1 (Nat.le_of_ble_eq_true rfl) dX5_product_37 (by omega) (by decide) (fun r37 p37 => ?_)
          subst p37
          refine l_istore_n hx hb 1 dX5_product_40 rfl hl rfl (fun ls hl => ?_)
          refine lv_aload_n hx hb dX5_product_41 rfl (hl.at rfl) ?_
          refine lv_dup hx hb dX5_product_42 rfl ?_
          refine mg_at hC hK hP dX5_product_43 ?_
          refine l_top (nI a2) gx.2.2.2.1 ?_
          refine lv_iconst (v := nI 1) hx hb dX5_product_46 rfl ?_
          refine l_addN hx hb dX5_product_47 ?_
          refine mp_at hC hK hP hS dX5_product_48 (fun H locs hP hS => ?_)
          refine lv_aload_n hx hb dX5_product_51 rfl (hl.at rfl) ?_
          refine m_iV hC hK hP hS (h1 _ (a2 + 1) l2 (gx.at (a2 + 1)) (by omega) (by omega)) cv_X5_158 rfl rfl hl.1 (Nat.le_of_ble_eq_true rfl) dX5_product_52 (by omega) (by decide) (fun r52 σ52 H locs p52 hP hS => ?_)
          rcases p52 with ⟨⟨rfl, p52⟩ | ⟨rfl, p52⟩, u52⟩
          · have gx2 := u52.1 p52
            refine l_ifne_1 hx hb 60 dX5_product_55 rfl ?_
            refine lv_aload_n hx hb dX5_product_60 rfl (hl.at rfl) ?_
            refine lv_iconst (v := nI 3) hx hb dX5_product_61 rfl ?_
            refine lv_iload_n hx hb dX5_product_62 rfl (hl.at rfl) ?_
            refine m_vV hC hK hP hS (met_step1 gx2.2.2.2.2 (by have := m2.2.2 p52; have := m2.2.1; omega)) cv_X5_145 rfl rfl hl.1 (Nat.le_of_ble_eq_true rfl) dX5_product_63 (by omega) (by decide) (fun σ63 H locs p63 hP hS => ?_)
            refine lv_goto (tgt := 9) hx hb dX5_product_66 rfl ?_
            exact ih _ _ σ63 m2.2.1 (by have := m2.1; omega) (by rw [len1]; have := m2.2.2 p52; omega) (gx2.st p63.1 p63.2) (by rw [p_lp, if_pos hop, if_pos p52] at gE; exact gE) (((hk.up (by decide)).tr u52.2.2).tr (p63.2.mono (by decide))) _ _ _ hP hS (hl.mask [true, false])
          · refine l_ifne_0 hx hb 60 dX5_product_55 rfl ?_
            refine lv_iconst (v := nI 0) hx hb dX5_product_58 rfl ?_
            refine hret _ _ ls _ _ _ hP hS dX5_product_59 (by first | exact Or.inl rfl | exact Or.inr rfl) ?_
            rw [← hR0]
            first | (have e9 : R0 = (true, a2, l2) := (by rw [← gE, p_lp, if_neg hno]); rw [e9]; exact ⟨Or.inl ⟨rfl, rfl⟩, fun _ => gx, gx.2.2.2.1, hk⟩) | (have e9 : R0 = (false, (q (a2 + 1) l2).2.1, l2) := (by rw [← gE, p_lp, if_pos hop, if_neg p52]); rw [e9]; exact ⟨Or.inr ⟨rfl, Bool.false_ne_true⟩, fun z => absurd z Bool.false_ne_true, u52.2.1, (hk.up (by decide)).tr u52.2.2⟩) | (have e9 : R0 = (false, (q a ll).2.1, ll) := (by rw [hR0, p_ch, if_neg p1]); rw [e9]; exact ⟨Or.inr ⟨rfl, Bool.false_ne_true⟩, fun z => absurd z Bool.false_ne_true, u1.2.1, u1.2.2⟩)
        · refine lv_aload_n hx hb dX5_product_18 rfl (hl.at rfl) ?_
          refine m_pV hC hK hP (met_look (a := a2) gx.1 htp gx.2.2.2.1 g1) cv_X5_141 rfl rfl hl.1 (Nat.le_of_ble_eq_true rfl) dX5_product_19 (by omega) (by decide) (fun r19 p19 => ?_)
          subst p19
          refine lv_bipush (v := nI 47) hx hb dX5_product_22 rfl ?_
          refine lv_icmp_eq (tgt := 36) hx hb dX5_product_24 rfl (fun c24 => ?_) (fun c24 => ?_)
          · first | have hop : opP (lk N tp a2) = true := (by rw [opP, if_pos c15]) | have hop : opP (lk N tp a2) = true := (by rw [opP, if_neg c15, if_pos c24]) | have hop : opP (lk N tp a2) = true := (by rw [opP, if_neg c15, if_neg c24, if_pos c33])
            have hlt := op_lt opP_m hop
            have m2 := hq (a2 + 1) l2 (by omega)
            refine lv_aload_n hx hb dX5_product_36 rfl (hl.at rfl) ?_
            refine m_pV hC hK hP (met_look (a := a2) gx.1 htp gx.2.2.2.1 g1) cv_X5_141 rfl rfl hl.1 (Nat.le_of_ble_eq_true rfl) dX5_product_37 (by omega) (by decide) (fun r37 p37 => ?_)
            subst p37
            refine l_istore_n hx hb 1 dX5_product_40 rfl hl rfl (fun ls hl => ?_)
            refine lv_aload_n hx hb dX5_product_41 rfl (hl.at rfl) ?_
            refine lv_dup hx hb dX5_product_42 rfl ?_
            refine mg_at hC hK hP dX5_product_43 ?_
            refine l_top (nI a2) gx.2.2.2.1 ?_
            refine lv_iconst (v := nI 1) hx hb dX5_product_46 rfl ?_
            refine l_addN hx hb dX5_product_47 ?_
            refine mp_at hC hK hP hS dX5_product_48 (fun H locs hP hS => ?_)
            refine lv_aload_n hx hb dX5_product_51 rfl (hl.at rfl) ?_
            refine m_iV hC hK hP hS (h1 _ (a2 + 1) l2 (gx.at (a2 + 1)) (by omega) (by omega)) cv_X5_158 rfl rfl hl.1 (Nat.le_of_ble_eq_true rfl) dX5_product_52 (by omega) (by decide) (fun r52 σ52 H locs p52 hP hS => ?_)
            rcases p52 with ⟨⟨rfl, p52⟩ | ⟨rfl, p52⟩, u52⟩
            · have gx2 := u52.1 p52
              refine l_ifne_1 hx hb 60 dX5_product_55 rfl ?_
              refine lv_aload_n hx hb dX5_product_60 rfl (hl.at rfl) ?_
              refine lv_iconst (v := nI 3) hx hb dX5_product_61 rfl ?_
              refine lv_iload_n hx hb dX5_product_62 rfl (hl.at rfl) ?_
              refine m_vV hC hK hP hS (met_step1 gx2.2.2.2.2 (by have := m2.2.2 p52; have := m2.2.1; omega)) cv_X5_145 rfl rfl hl.1 (Nat.le_of_ble_eq_true rfl) dX5_product_63 (by omega) (by decide) (fun σ63 H locs p63 hP hS => ?_)
              refine lv_goto (tgt := 9) hx hb dX5_product_66 rfl ?_
              exact ih _ _ σ63 m2.2.1 (by have := m2.1; omega) (by rw [len1]; have := m2.2.2 p52; omega) (gx2.st p63.1 p63.2) (by rw [p_lp, if_pos hop, if_pos p52] at gE; exact gE) (((hk.up (by decide)).tr u52.2.2).tr (p63.2.mono (by decide))) _ _ _ hP hS (hl.mask [true, false])
            · refine l_ifne_0 hx hb 60 dX5_product_55 rfl ?_
              refine lv_iconst (v := nI 0) hx hb dX5_product_58 rfl ?_
              refine hret _ _ ls _ _ _ hP hS dX5_product_59 (by first | exact Or.inl rfl | exact Or.inr rfl) ?_
              rw [← hR0]
              first | (have e9 : R0 = (true, a2, l2) := (by rw [← gE, p_lp, if_neg hno]); rw [e9]; exact ⟨Or.inl ⟨rfl, rfl⟩, fun _ => gx, gx.2.2.2.1, hk⟩) | (have e9 : R0 = (false, (q (a2 + 1) l2).2.1, l2) := (by rw [← gE, p_lp, if_pos hop, if_neg p52]); rw [e9]; exact ⟨Or.inr ⟨rfl, Bool.false_ne_true⟩, fun z => absurd z Bool.false_ne_true, u52.2.1, (hk.up (by decide)).tr u52.2.2⟩) | (have e9 : R0 = (false, (q a ll).2.1, ll) := (by rw [hR0, p_ch, if_neg p1]); rw [e9]; exact ⟨Or.inr ⟨rfl, Bool.false_ne_true⟩, fun z => absurd z Bool.false_ne_true, u1.2.1, u1.2.2⟩)
          · refine lv_aload_n hx hb dX5_product_27 rfl (hl.at rfl) ?_
            refine m_pV hC hK hP (met_look (a := a2) gx.1 htp gx.2.2.2.1 g1) cv_X5_141 rfl rfl hl.1 (Nat.le_of_ble_eq_true rfl) dX5_product_28 (by omega) (by decide) (fun r28 p28 => ?_)
            subst p28
            refine lv_bipush (v := nI 37) hx hb dX5_product_31 rfl ?_
            refine lv_icmp_ne (tgt := 69) hx hb dX5_product_33 rfl (fun c33 => ?_) (fun c33 => ?_)
            · have hno : ¬ opP (lk N tp a2) = true := (by rw [opP, if_neg c15, if_neg c24, if_neg c33]; exact Bool.false_ne_true)
              refine lv_iconst (v := nI 1) hx hb dX5_product_69 rfl ?_
              refine hret _ _ ls _ _ _ hP hS dX5_product_70 (by first | exact Or.inl rfl | exact Or.inr rfl) ?_
              rw [← hR0]
              first | (have e9 : R0 = (true, a2, l2) := (by rw [← gE, p_lp, if_neg hno]); rw [e9]; exact ⟨Or.inl ⟨rfl, rfl⟩, fun _ => gx, gx.2.2.2.1, hk⟩) | (have e9 : R0 = (false, (q (a2 + 1) l2).2.1, l2) := (by rw [← gE, p_lp, if_pos hop, if_neg p52]); rw [e9]; exact ⟨Or.inr ⟨rfl, Bool.false_ne_true⟩, fun z => absurd z Bool.false_ne_true, u52.2.1, (hk.up (by decide)).tr u52.2.2⟩) | (have e9 : R0 = (false, (q a ll).2.1, ll) := (by rw [hR0, p_ch, if_neg p1]); rw [e9]; exact ⟨Or.inr ⟨rfl, Bool.false_ne_true⟩, fun z => absurd z Bool.false_ne_true, u1.2.1, u1.2.2⟩)
            · first | have hop : opP (lk N tp a2) = true := (by rw [opP, if_pos c15]) | have hop : opP (lk N tp a2) = true := (by rw [opP, if_neg c15, if_pos c24]) | have hop : opP (lk N tp a2) = true := (by rw [opP, if_neg c15, if_neg c24, if_pos c33])
              have hlt := op_lt opP_m hop
              have m2 := hq (a2 + 1) l2 (by omega)
              refine lv_aload_n hx hb dX5_product_36 rfl (hl.at rfl) ?_
              refine m_pV hC hK hP (met_look (a := a2) gx.1 htp gx.2.2.2.1 g1) cv_X5_141 rfl rfl hl.1 (Nat.le_of_ble_eq_true rfl) dX5_product_37 (by omega) (by decide) (fun r37 p37 => ?_)
              subst p37
              refine l_istore_n hx hb 1 dX5_product_40 rfl hl rfl (fun ls hl => ?_)
              refine lv_aload_n hx hb dX5_product_41 rfl (hl.at rfl) ?_
              refine lv_dup hx hb dX5_product_42 rfl ?_
              refine mg_at hC hK hP dX5_product_43 ?_
              refine l_top (nI a2) gx.2.2.2.1 ?_
              refine lv_iconst (v := nI 1) hx hb dX5_product_46 rfl ?_
              refine l_addN hx hb dX5_product_47 ?_
              refine mp_at hC hK hP hS dX5_product_48 (fun H locs hP hS => ?_)
              refine lv_aload_n hx hb dX5_product_51 rfl (hl.at rfl) ?_
              refine m_iV hC hK hP hS (h1 _ (a2 + 1) l2 (gx.at (a2 + 1)) (by omega) (by omega)) cv_X5_158 rfl rfl hl.1 (Nat.le_of_ble_eq_true rfl) dX5_product_52 (by omega) (by decide) (fun r52 σ52 H locs p52 hP hS => ?_)
              rcases p52 with ⟨⟨rfl, p52⟩ | ⟨rfl, p52⟩, u52⟩
              · have gx2 := u52.1 p52
                refine l_ifne_1 hx hb 60 dX5_product_55 rfl ?_
                refine lv_aload_n hx hb dX5_product_60 rfl (hl.at rfl) ?_
                refine lv_iconst (v := nI 3) hx hb dX5_product_61 rfl ?_
                refine lv_iload_n hx hb dX5_product_62 rfl (hl.at rfl) ?_
                refine m_vV hC hK hP hS (met_step1 gx2.2.2.2.2 (by have := m2.2.2 p52; have := m2.2.1; omega)) cv_X5_145 rfl rfl hl.1 (Nat.le_of_ble_eq_true rfl) dX5_product_63 (by omega) (by decide) (fun σ63 H locs p63 hP hS => ?_)
                refine lv_goto (tgt := 9) hx hb dX5_product_66 rfl ?_
                exact ih _ _ σ63 m2.2.1 (by have := m2.1; omega) (by rw [len1]; have := m2.2.2 p52; omega) (gx2.st p63.1 p63.2) (by rw [p_lp, if_pos hop, if_pos p52] at gE; exact gE) (((hk.up (by decide)).tr u52.2.2).tr (p63.2.mono (by decide))) _ _ _ hP hS (hl.mask [true, false])
              · refine l_ifne_0 hx hb 60 dX5_product_55 rfl ?_
                refine lv_iconst (v := nI 0) hx hb dX5_product_58 rfl ?_
                refine hret _ _ ls _ _ _ hP hS dX5_product_59 (by first | exact Or.inl rfl | exact Or.inr rfl) ?_
                rw [← hR0]
                first | (have e9 : R0 = (true, a2, l2) := (by rw [← gE, p_lp, if_neg hno]); rw [e9]; exact ⟨Or.inl ⟨rfl, rfl⟩, fun _ => gx, gx.2.2.2.1, hk⟩) | (have e9 : R0 = (false, (q (a2 + 1) l2).2.1, l2) := (by rw [← gE, p_lp, if_pos hop, if_neg p52]); rw [e9]; exact ⟨Or.inr ⟨rfl, Bool.false_ne_true⟩, fun z => absurd z Bool.false_ne_true, u52.2.1, (hk.up (by decide)).tr u52.2.2⟩) | (have e9 : R0 = (false, (q a ll).2.1, ll) := (by rw [hR0, p_ch, if_neg p1]); rw [e9]; exact ⟨Or.inr ⟨rfl, Bool.false_ne_true⟩, fun z => absurd z Bool.false_ne_true, u1.2.1, u1.2.2⟩)
    exact loop 61 _ _ σ1 m1.2.1 (by have := m1.1; omega) (by have := m1.2.2 p1; omega) (u1.1 p1) (by rw [hR0, p_ch, if_pos p1]) u1.2.2 _ _ _ hP hS hl
  · refine l_ifne_0 hx hb 9 dX5_product_4 rfl ?_
    refine lv_iconst (v := nI 0) hx hb dX5_product_7 rfl ?_
    refine hret _ _ ls _ _ _ hP hS dX5_product_8 (by first | exact Or.inl rfl | exact Or.inr rfl) ?_
    rw [← hR0]
    first | (have e9 : R0 = (true, a2, l2) := (by rw [← gE, p_lp, if_neg hno]); rw [e9]; exact ⟨Or.inl ⟨rfl, rfl⟩, fun _ => gx, gx.2.2.2.1, hk⟩) | (have e9 : R0 = (false, (q (a2 + 1) l2).2.1, l2) := (by rw [← gE, p_lp, if_pos hop, if_neg p52]); rw [e9]; exact ⟨Or.inr ⟨rfl, Bool.false_ne_true⟩, fun z => absurd z Bool.false_ne_true, u52.2.1, (hk.up (by decide)).tr u52.2.2⟩) | (have e9 : R0 = (false, (q a ll).2.1, ll) := (by rw [hR0, p_ch, if_neg p1]); rw [e9]; exact ⟨Or.inr ⟨rfl, Bool.false_ne_true⟩, fun z => absurd z Bool.false_ne_true, u1.2.1, u1.2.2⟩)
theorem cv_X5_155 : CV RX5 RX5 155 yX5_product cX5_product 2 (some .boolean) 0 := ⟨lw_V q1547 q1549 qs58 q88 q1550, by decide +kernel⟩
theorem met_sum {l : Launch} {D : va_G} {cA : Nat → ClassId} {b : Nat} {σ : Nat → Nat → Int32} {f0 tp : Nat → Int32} {u d N a : Nat} {ll : PL_} {q : PP} (dp : Nat) (hdp : 1 ≤ dp) (htp : TPo N tp f0) (hq : PM N q) (h1 : PC l D cA b f0 u d N yX5_product cX5_product 2 dp q) (hx0 : PSx f0 u d σ a ll) (ha : a ≤ N) (hl0 : ll.length ≤ a) : MI l D cA b yX5_sum cX5_sum 2 (some .boolean) (dp + 1) [.ref b] σ (pcPost f0 u d σ (p_ch N tp q opS a ll)) := by
  refine Ci.ofz rfl (by decide +kernel) (Nat.le_of_ble_eq_true rfl) ?_
  intro p e s m args below meth c Q hC hK hP hret ls hl
  have hx := hC.1
  have hb := hC.2.1
  have hown := hC.2.2.2.1
  have hts := hC.2.2.2.2
  have hS : va_S (mA b) s.heap s.heap [] := va_S.rf
  have hN60 := htp.2.2
  obtain ⟨R0, hR0⟩ : ∃ R0, R0 = p_ch N tp q opS a ll := ⟨_, rfl⟩
  have m1 := hq a ll ha
  refine lv_aload_n hx hb dX5_sum_0 rfl (hl.at rfl) ?_
  refine m_iV hC hK hP hS (h1 _ a ll hx0 ha hl0) cv_X5_155 rfl rfl hl.1 (Nat.le_of_ble_eq_true rfl) dX5_sum_1 (by omega) (by decide) (fun r1 σ1 H locs p1 hP hS => ?_)
  rcases p1 with ⟨⟨rfl, p1⟩ | ⟨rfl, p1⟩, u1⟩
  · refine l_ifne_1 hx hb 9 dX5_sum_4 rfl ?_
    have loop : ∀ (f a2 : Nat) (l2 : PL_) (τ : Sta), a2 ≤ N → N + 1 ≤ a2 + f → l2.length ≤ a2 → PSx f0 u d τ a2 l2 → p_lp N tp q opS f a2 l2 = R0 → Kp [4, 16, 17, 18] σ τ → ∀ (H : Heap) (locs : List Loc) (ls : Array Slot), MWP D cA b τ H → va_S (mA b) s.heap H locs → lh ls [some (.ref b), none] → W p l e (rmG (dp + 1) 0 0) s m args below meth c H locs 0 0 Q (F0 m 9 ls []) := by
      intro f
      induction f with
      | zero => intro a2 l2 τ h1 h2; exact absurd h2 (by omega)
      | succ f ih =>
        intro a2 l2 τ g1 g2 g3 gx gE hk H locs ls hP hS hl
        refine lv_aload_n hx hb dX5_sum_9 rfl (hl.at rfl) ?_
        refine m_pV hC hK hP (met_look (a := a2) gx.1 htp gx.2.2.2.1 g1) cv_X5_141 rfl rfl hl.1 (Nat.le_of_ble_eq_true rfl) dX5_sum_10 (by omega) (by decide) (fun r10 p10 => ?_)
        subst p10
        refine lv_bipush (v := nI 43) hx hb dX5_sum_13 rfl ?_
        refine lv_icmp_eq (tgt := 27) hx hb dX5_sum_15 rfl (fun c15 => ?_) (fun c15 => ?_)
        · first | have hop : opS (lk N tp a2) = true := (by rw [opS, if_pos c15]) | have hop : opS (lk N tp a2) = true := (by rw [opS, if_neg c15, if_pos c24])
          have hlt := op_lt opS_m hop
          have m2 := hq (a2 + 1) l2 (by omega)
          refine lv_aload_n hx hb dX5_sum_27 rfl (hl.at rfl) ?_
          refine m_pV hC hK hP (met_look (a := a2) gx.1 htp gx.2.2.2.1 g1) cv_X5_141 rfl rfl hl.1 (Nat.le_of_ble_eq_true rfl) dX5_sum_28 (by omega) (by decide) (fun r28 p28 => ?_)
          subst p28
          refine l_istore_n hx hb 1 dX5_sum_31 rfl hl rfl (fun ls hl => ?_)
          refine lv_aload_n hx hb dX5_sum_32 rfl (hl.at rfl) ?_
          refine lv_dup hx hb dX5_sum_33 rfl ?_
          refine mg_at hC hK hP dX5_sum_34 ?_
          refine l_top (nI a2) gx.2.2.2.1 ?_
          refine lv_iconst (v := nI 1) hx hb dX5_sum_37 rfl ?_
          refine l_addN hx hb dX5_sum_38 ?_
          refine mp_at hC hK hP hS dX5_sum_39 (fun H locs hP hS => ?_)
          refine lv_aload_n hx hb dX5_sum_42 rfl (hl.at rfl) ?_
          refine m_iV hC hK hP hS (h1 _ (a2 + 1) l2 (gx.at (a2 + 1)) (by omega) (by omega)) cv_X5_155 rfl rfl hl.1 (Nat.le_of_ble_eq_true rfl) dX5_sum_43 (by omega) (by decide) (fun r43 σ43 H locs p43 hP hS => ?_)
          rcases p43 with ⟨⟨rfl, p43⟩ | ⟨rfl, p43⟩, u43⟩
          · have gx2 := u43.1 p43
            refine l_ifne_1 hx hb 51 dX5_sum_46 rfl ?_
            refine lv_aload_n hx hb dX5_sum_51 rfl (hl.at rfl) ?_
            refine lv_iconst (v := nI 3) hx hb dX5_sum_52 rfl ?_
            refine lv_iload_n hx hb dX5_sum_53 rfl (hl.at rfl) ?_
            refine m_vV hC hK hP hS (met_step1 gx2.2.2.2.2 (by have := m2.2.2 p43; have := m2.2.1; omega)) cv_X5_145 rfl rfl hl.1 (Nat.le_of_ble_eq_true rfl) dX5_sum_54 (by omega) (by decide) (fun σ54 H locs p54 hP hS => ?_)
            refine lv_goto (tgt := 9) hx hb dX5_sum_57 rfl ?_
            exact ih _ _ σ54 m2.2.1 (by have := m2.1; omega) (by rw [len1]; have := m2.2.2 p43; omega) (gx2.st p54.1 p54.2) (by rw [p_lp, if_pos hop, if_pos p43] at gE; exact gE) (((hk.up (by decide)).tr u43.2.2).tr (p54.2.mono (by decide))) _ _ _ hP hS (hl.mask [true, false])
          · refine l_ifne_0 hx hb 51 dX5_sum_46 rfl ?_
            refine lv_iconst (v := nI 0) hx hb dX5_sum_49 rfl ?_
            refine hret _ _ ls _ _ _ hP hS dX5_sum_50 (by first | exact Or.inl rfl | exact Or.inr rfl) ?_
            rw [← hR0]
            first | (have e9 : R0 = (true, a2, l2) := (by rw [← gE, p_lp, if_neg hno]); rw [e9]; exact ⟨Or.inl ⟨rfl, rfl⟩, fun _ => gx, gx.2.2.2.1, hk⟩) | (have e9 : R0 = (false, (q (a2 + 1) l2).2.1, l2) := (by rw [← gE, p_lp, if_pos hop, if_neg p43]); rw [e9]; exact ⟨Or.inr ⟨rfl, Bool.false_ne_true⟩, fun z => absurd z Bool.false_ne_true, u43.2.1, (hk.up (by decide)).tr u43.2.2⟩) | (have e9 : R0 = (false, (q a ll).2.1, ll) := (by rw [hR0, p_ch, if_neg p1]); rw [e9]; exact ⟨Or.inr ⟨rfl, Bool.false_ne_true⟩, fun z => absurd z Bool.false_ne_true, u1.2.1, u1.2.2⟩)
        · refine lv_aload_n hx hb dX5_sum_18 rfl (hl.at rfl) ?_
          refine m_pV hC hK hP (met_look (a := a2) gx.1 htp gx.2.2.2.1 g1) cv_X5_141 rfl rfl hl.1 (Nat.le_of_ble_eq_true rfl) dX5_sum_19 (by omega) (by decide) (fun r19 p19 => ?_)
          subst p19
          refine lv_bipush (v := nI 45) hx hb dX5_sum_22 rfl ?_
          refine lv_icmp_ne (tgt := 60) hx hb dX5_sum_24 rfl (fun c24 => ?_) (fun c24 => ?_)
          · have hno : ¬ opS (lk N tp a2) = true := (by rw [opS, if_neg c15, if_neg c24]; exact Bool.false_ne_true)
            refine lv_iconst (v := nI 1) hx hb dX5_sum_60 rfl ?_
            refine hret _ _ ls _ _ _ hP hS dX5_sum_61 (by first | exact Or.inl rfl | exact Or.inr rfl) ?_
            rw [← hR0]
            first | (have e9 : R0 = (true, a2, l2) := (by rw [← gE, p_lp, if_neg hno]); rw [e9]; exact ⟨Or.inl ⟨rfl, rfl⟩, fun _ => gx, gx.2.2.2.1, hk⟩) | (have e9 : R0 = (false, (q (a2 + 1) l2).2.1, l2) := (by rw [← gE, p_lp, if_pos hop, if_neg p43]); rw [e9]; exact ⟨Or.inr ⟨rfl, Bool.false_ne_true⟩, fun z => absurd z Bool.false_ne_true, u43.2.1, (hk.up (by decide)).tr u43.2.2⟩) | (have e9 : R0 = (false, (q a ll).2.1, ll) := (by rw [hR0, p_ch, if_neg p1]); rw [e9]; exact ⟨Or.inr ⟨rfl, Bool.false_ne_true⟩, fun z => absurd z Bool.false_ne_true, u1.2.1, u1.2.2⟩)
          · first | have hop : opS (lk N tp a2) = true := (by rw [opS, if_pos c15]) | have hop : opS (lk N tp a2) = true := (by rw [opS, if_neg c15, if_pos c24])
            have hlt := op_lt opS_m hop
            have m2 := hq (a2 + 1) l2 (by omega)
            refine lv_aload_n hx hb dX5_sum_27 rfl (hl.at rfl) ?_
            refine m_pV hC hK hP (met_look (a := a2) gx.1 htp gx.2.2.2.1 g1) cv_X5_141 rfl rfl hl.1 (Nat.le_of_ble_eq_true rfl) dX5_sum_28 (by omega) (by decide) (fun r28 p28 => ?_)
            subst p28
            refine l_istore_n hx hb 1 dX5_sum_31 rfl hl rfl (fun ls hl => ?_)
            refine lv_aload_n hx hb dX5_sum_32 rfl (hl.at rfl) ?_
            refine lv_dup hx hb dX5_sum_33 rfl ?_
            refine mg_at hC hK hP dX5_sum_34 ?_
            refine l_top (nI a2) gx.2.2.2.1 ?_
            refine lv_iconst (v := nI 1) hx hb dX5_sum_37 rfl ?_
            refine l_addN hx hb dX5_sum_38 ?_
            refine mp_at hC hK hP hS dX5_sum_39 (fun H locs hP hS => ?_)
            refine lv_aload_n hx hb dX5_sum_42 rfl (hl.at rfl) ?_
            refine m_iV hC hK hP hS (h1 _ (a2 + 1) l2 (gx.at (a2 + 1)) (by omega) (by omega)) cv_X5_155 rfl rfl hl.1 (Nat.le_of_ble_eq_true rfl) dX5_sum_43 (by omega) (by decide) (fun r43 σ43 H locs p43 hP hS => ?_)
            rcases p43 with ⟨⟨rfl, p43⟩ | ⟨rfl, p43⟩, u43⟩
            · have gx2 := u43.1 p43
              refine l_ifne_1 hx hb 51 dX5_sum_46 rfl ?_
              refine lv_aload_n hx hb dX5_sum_51 rfl (hl.at rfl) ?_
              refine lv_iconst (v := nI 3) hx hb dX5_sum_52 rfl ?_
              refine lv_iload_n hx hb dX5_sum_53 rfl (hl.at rfl) ?_
              refine m_vV hC hK hP hS (met_step1 gx2.2.2.2.2 (by have := m2.2.2 p43; have := m2.2.1; omega)) cv_X5_145 rfl rfl hl.1 (Nat.le_of_ble_eq_true rfl) dX5_sum_54 (by omega) (by decide) (fun σ54 H locs p54 hP hS => ?_)
              refine lv_goto (tgt := 9) hx hb dX5_sum_57 rfl ?_
              exact ih _ _ σ54 m2.2.1 (by have := m2.1; omega) (by rw [len1]; have := m2.2.2 p43; omega) (gx2.st p54.1 p54.2) (by rw [p_lp, if_pos hop, if_pos p43] at gE; exact gE) (((hk.up (by decide)).tr u43.2.2).tr (p54.2.mono (by decide))) _ _ _ hP hS (hl.mask [true, false])
            · refine l_ifne_0 hx hb 51 dX5_sum_46 rfl ?_
              refine lv_iconst (v := nI 0) hx hb dX5_sum_49 rfl ?_
              refine hret _ _ ls _ _ _ hP hS dX5_sum_50 (by first | exact Or.inl rfl | exact Or.inr rfl) ?_
              rw [← hR0]
              first | (have e9 : R0 = (true, a2, l2) := (by rw [← gE, p_lp, if_neg hno]); rw [e9]; exact ⟨Or.inl ⟨rfl, rfl⟩, fun _ => gx, gx.2.2.2.1, hk⟩) | (have e9 : R0 = (false, (q (a2 + 1) l2).2.1, l2) := (by rw [← gE, p_lp, if_pos hop, if_neg p43]); rw [e9]; exact ⟨Or.inr ⟨rfl, Bool.false_ne_true⟩, fun z => absurd z Bool.false_ne_true, u43.2.1, (hk.up (by decide)).tr u43.2.2⟩) | (have e9 : R0 = (false, (q a ll).2.1, ll) := (by rw [hR0, p_ch, if_neg p1]); rw [e9]; exact ⟨Or.inr ⟨rfl, Bool.false_ne_true⟩, fun z => absurd z Bool.false_ne_true, u1.2.1, u1.2.2⟩)
    exact loop 61 _ _ σ1 m1.2.1 (by have := m1.1; omega) (by have := m1.2.2 p1; omega) (u1.1 p1) (by rw [hR0, p_ch, if_pos p1]) u1.2.2 _ _ _ hP hS hl
  · refine l_ifne_0 hx hb 9 dX5_sum_4 rfl ?_
    refine lv_iconst (v := nI 0) hx hb dX5_sum_7 rfl ?_
    refine hret _ _ ls _ _ _ hP hS dX5_sum_8 (by first | exact Or.inl rfl | exact Or.inr rfl) ?_
    rw [← hR0]
    first | (have e9 : R0 = (true, a2, l2) := (by rw [← gE, p_lp, if_neg hno]); rw [e9]; exact ⟨Or.inl ⟨rfl, rfl⟩, fun _ => gx, gx.2.2.2.1, hk⟩) | (have e9 : R0 = (false, (q (a2 + 1) l2).2.1, l2) := (by rw [← gE, p_lp, if_pos hop, if_neg p43]); rw [e9]; exact ⟨Or.inr ⟨rfl, Bool.false_ne_true⟩, fun z => absurd z Bool.false_ne_true, u43.2.1, (hk.up (by decide)).tr u43.2.2⟩) | (have e9 : R0 = (false, (q a ll).2.1, ll) := (by rw [hR0, p_ch, if_neg p1]); rw [e9]; exact ⟨Or.inr ⟨rfl, Bool.false_ne_true⟩, fun z => absurd z Bool.false_ne_true, u1.2.1, u1.2.2⟩)
theorem cv_X5_149 : CV RX5 RX5 149 yX5_compared cX5_compared 2 (some .boolean) 0 := ⟨lw_V q1539 q1541 qs56 q88 q1542, by decide +kernel⟩
theorem met_both {l : Launch} {D : va_G} {cA : Nat → ClassId} {b : Nat} {σ : Nat → Nat → Int32} {f0 tp : Nat → Int32} {u d N a : Nat} {ll : PL_} {q : PP} (dp : Nat) (hdp : 1 ≤ dp) (htp : TPo N tp f0) (hq : PM N q) (h1 : PC l D cA b f0 u d N yX5_compared cX5_compared 2 dp q) (hx0 : PSx f0 u d σ a ll) (ha : a ≤ N) (hl0 : ll.length ≤ a) : MI l D cA b yX5_both cX5_both 1 (some .boolean) (dp + 1) [.ref b] σ (pcPost f0 u d σ (p_ch N tp q opB a ll)) := by
  refine Ci.ofz rfl (by decide +kernel) (Nat.le_of_ble_eq_true rfl) ?_
  intro p e s m args below meth c Q hC hK hP hret ls hl
  have hx := hC.1
  have hb := hC.2.1
  have hown := hC.2.2.2.1
  have hts := hC.2.2.2.2
  have hS : va_S (mA b) s.heap s.heap [] := va_S.rf
  have hN60 := htp.2.2
  obtain ⟨R0, hR0⟩ : ∃ R0, R0 = p_ch N tp q opB a ll := ⟨_, rfl⟩
  have m1 := hq a ll ha
  refine lv_aload_n hx hb dX5_both_0 rfl (hl.at rfl) ?_
  refine m_iV hC hK hP hS (h1 _ a ll hx0 ha hl0) cv_X5_149 rfl rfl hl.1 (Nat.le_of_ble_eq_true rfl) dX5_both_1 (by omega) (by decide) (fun r1 σ1 H locs p1 hP hS => ?_)
  rcases p1 with ⟨⟨rfl, p1⟩ | ⟨rfl, p1⟩, u1⟩
  · refine l_ifne_1 hx hb 9 dX5_both_4 rfl ?_
    have loop : ∀ (f a2 : Nat) (l2 : PL_) (τ : Sta), a2 ≤ N → N + 1 ≤ a2 + f → l2.length ≤ a2 → PSx f0 u d τ a2 l2 → p_lp N tp q opB f a2 l2 = R0 → Kp [4, 16, 17, 18] σ τ → ∀ (H : Heap) (locs : List Loc) (ls : Array Slot), MWP D cA b τ H → va_S (mA b) s.heap H locs → lh ls [some (.ref b)] → W p l e (rmG (dp + 1) 0 0) s m args below meth c H locs 0 0 Q (F0 m 9 ls []) := by
      intro f
      induction f with
      | zero => intro a2 l2 τ h1 h2; exact absurd h2 (by omega)
      | succ f ih =>
        intro a2 l2 τ g1 g2 g3 gx gE hk H locs ls hP hS hl
        refine lv_aload_n hx hb dX5_both_9 rfl (hl.at rfl) ?_
        refine m_pV hC hK hP (met_look (a := a2) gx.1 htp gx.2.2.2.1 g1) cv_X5_141 rfl rfl hl.1 (Nat.le_of_ble_eq_true rfl) dX5_both_10 (by omega) (by decide) (fun r10 p10 => ?_)
        subst p10
        refine lv_bipush (v := nI 38) hx hb dX5_both_13 rfl ?_
        refine lv_icmp_ne (tgt := 47) hx hb dX5_both_15 rfl (fun c15 => ?_) (fun c15 => ?_)
        · have hno : ¬ opB (lk N tp a2) = true := (by rw [opB, if_neg c15]; exact Bool.false_ne_true)
          refine lv_iconst (v := nI 1) hx hb dX5_both_47 rfl ?_
          refine hret _ _ ls _ _ _ hP hS dX5_both_48 (by first | exact Or.inl rfl | exact Or.inr rfl) ?_
          rw [← hR0]
          first | (have e9 : R0 = (true, a2, l2) := (by rw [← gE, p_lp, if_neg hno]); rw [e9]; exact ⟨Or.inl ⟨rfl, rfl⟩, fun _ => gx, gx.2.2.2.1, hk⟩) | (have e9 : R0 = (false, (q (a2 + 1) l2).2.1, l2) := (by rw [← gE, p_lp, if_pos hop, if_neg p29]); rw [e9]; exact ⟨Or.inr ⟨rfl, Bool.false_ne_true⟩, fun z => absurd z Bool.false_ne_true, u29.2.1, (hk.up (by decide)).tr u29.2.2⟩) | (have e9 : R0 = (false, (q a ll).2.1, ll) := (by rw [hR0, p_ch, if_neg p1]); rw [e9]; exact ⟨Or.inr ⟨rfl, Bool.false_ne_true⟩, fun z => absurd z Bool.false_ne_true, u1.2.1, u1.2.2⟩)
        · first | have hop : opB (lk N tp a2) = true := (by rw [opB, if_pos c15])
          have hlt := op_lt opB_m hop
          have m2 := hq (a2 + 1) l2 (by omega)
          refine lv_aload_n hx hb dX5_both_18 rfl (hl.at rfl) ?_
          refine lv_dup hx hb dX5_both_19 rfl ?_
          refine mg_at hC hK hP dX5_both_20 ?_
          refine l_top (nI a2) gx.2.2.2.1 ?_
          refine lv_iconst (v := nI 1) hx hb dX5_both_23 rfl ?_
          refine l_addN hx hb dX5_both_24 ?_
          refine mp_at hC hK hP hS dX5_both_25 (fun H locs hP hS => ?_)
          refine lv_aload_n hx hb dX5_both_28 rfl (hl.at rfl) ?_
          refine m_iV hC hK hP hS (h1 _ (a2 + 1) l2 (gx.at (a2 + 1)) (by omega) (by omega)) cv_X5_149 rfl rfl hl.1 (Nat.le_of_ble_eq_true rfl) dX5_both_29 (by omega) (by decide) (fun r29 σ29 H locs p29 hP hS => ?_)
          rcases p29 with ⟨⟨rfl, p29⟩ | ⟨rfl, p29⟩, u29⟩
          · have gx2 := u29.1 p29
            refine l_ifne_1 hx hb 37 dX5_both_32 rfl ?_
            refine lv_aload_n hx hb dX5_both_37 rfl (hl.at rfl) ?_
            refine lv_iconst (v := nI 3) hx hb dX5_both_38 rfl ?_
            refine lv_bipush (v := nI 38) hx hb dX5_both_39 rfl ?_
            refine m_vV hC hK hP hS (met_step1 gx2.2.2.2.2 (by have := m2.2.2 p29; have := m2.2.1; omega)) cv_X5_145 rfl rfl hl.1 (Nat.le_of_ble_eq_true rfl) dX5_both_41 (by omega) (by decide) (fun σ41 H locs p41 hP hS => ?_)
            refine lv_goto (tgt := 9) hx hb dX5_both_44 rfl ?_
            exact ih _ _ σ41 m2.2.1 (by have := m2.1; omega) (by rw [len1]; have := m2.2.2 p29; omega) (gx2.st p41.1 p41.2) (by rw [p_lp, if_pos hop, if_pos p29] at gE; rw [c15] at gE; exact gE) (((hk.up (by decide)).tr u29.2.2).tr (p41.2.mono (by decide))) _ _ _ hP hS hl
          · refine l_ifne_0 hx hb 37 dX5_both_32 rfl ?_
            refine lv_iconst (v := nI 0) hx hb dX5_both_35 rfl ?_
            refine hret _ _ ls _ _ _ hP hS dX5_both_36 (by first | exact Or.inl rfl | exact Or.inr rfl) ?_
            rw [← hR0]
            first | (have e9 : R0 = (true, a2, l2) := (by rw [← gE, p_lp, if_neg hno]); rw [e9]; exact ⟨Or.inl ⟨rfl, rfl⟩, fun _ => gx, gx.2.2.2.1, hk⟩) | (have e9 : R0 = (false, (q (a2 + 1) l2).2.1, l2) := (by rw [← gE, p_lp, if_pos hop, if_neg p29]); rw [e9]; exact ⟨Or.inr ⟨rfl, Bool.false_ne_true⟩, fun z => absurd z Bool.false_ne_true, u29.2.1, (hk.up (by decide)).tr u29.2.2⟩) | (have e9 : R0 = (false, (q a ll).2.1, ll) := (by rw [hR0, p_ch, if_neg p1]); rw [e9]; exact ⟨Or.inr ⟨rfl, Bool.false_ne_true⟩, fun z => absurd z Bool.false_ne_true, u1.2.1, u1.2.2⟩)
    exact loop 61 _ _ σ1 m1.2.1 (by have := m1.1; omega) (by have := m1.2.2 p1; omega) (u1.1 p1) (by rw [hR0, p_ch, if_pos p1]) u1.2.2 _ _ _ hP hS hl
  · refine l_ifne_0 hx hb 9 dX5_both_4 rfl ?_
    refine lv_iconst (v := nI 0) hx hb dX5_both_7 rfl ?_
    refine hret _ _ ls _ _ _ hP hS dX5_both_8 (by first | exact Or.inl rfl | exact Or.inr rfl) ?_
    rw [← hR0]
    first | (have e9 : R0 = (true, a2, l2) := (by rw [← gE, p_lp, if_neg hno]); rw [e9]; exact ⟨Or.inl ⟨rfl, rfl⟩, fun _ => gx, gx.2.2.2.1, hk⟩) | (have e9 : R0 = (false, (q (a2 + 1) l2).2.1, l2) := (by rw [← gE, p_lp, if_pos hop, if_neg p29]); rw [e9]; exact ⟨Or.inr ⟨rfl, Bool.false_ne_true⟩, fun z => absurd z Bool.false_ne_true, u29.2.1, (hk.up (by decide)).tr u29.2.2⟩) | (have e9 : R0 = (false, (q a ll).2.1, ll) := (by rw [hR0, p_ch, if_neg p1]); rw [e9]; exact ⟨Or.inr ⟨rfl, Bool.false_ne_true⟩, fun z => absurd z Bool.false_ne_true, u1.2.1, u1.2.2⟩)
theorem cv_X5_137 : CV RX5 RX5 137 yX5_both cX5_both 1 (some .boolean) 0 := ⟨lw_V q1535 q1537 qs55 q88 q1538, by decide +kernel⟩
theorem met_whole {l : Launch} {D : va_G} {cA : Nat → ClassId} {b : Nat} {σ : Nat → Nat → Int32} {f0 tp : Nat → Int32} {u d N a : Nat} {ll : PL_} {q : PP} (dp : Nat) (hdp : 1 ≤ dp) (htp : TPo N tp f0) (hq : PM N q) (h1 : PC l D cA b f0 u d N yX5_both cX5_both 1 dp q) (hx0 : PSx f0 u d σ a ll) (ha : a ≤ N) (hl0 : ll.length ≤ a) : MI l D cA b yX5_whole cX5_whole 1 (some .boolean) (dp + 1) [.ref b] σ (pcPost f0 u d σ (p_ch N tp q opW a ll)) := by
  refine Ci.ofz rfl (by decide +kernel) (Nat.le_of_ble_eq_true rfl) ?_
  intro p e s m args below meth c Q hC hK hP hret ls hl
  have hx := hC.1
  have hb := hC.2.1
  have hown := hC.2.2.2.1
  have hts := hC.2.2.2.2
  have hS : va_S (mA b) s.heap s.heap [] := va_S.rf
  have hN60 := htp.2.2
  obtain ⟨R0, hR0⟩ : ∃ R0, R0 = p_ch N tp q opW a ll := ⟨_, rfl⟩
  have m1 := hq a ll ha
  refine lv_aload_n hx hb dX5_whole_0 rfl (hl.at rfl) ?_
  refine m_iV hC hK hP hS (h1 _ a ll hx0 ha hl0) cv_X5_137 rfl rfl hl.1 (Nat.le_of_ble_eq_true rfl) dX5_whole_1 (by omega) (by decide) (fun r1 σ1 H locs p1 hP hS => ?_)
  rcases p1 with ⟨⟨rfl, p1⟩ | ⟨rfl, p1⟩, u1⟩
  · refine l_ifne_1 hx hb 9 dX5_whole_4 rfl ?_
    have loop : ∀ (f a2 : Nat) (l2 : PL_) (τ : Sta), a2 ≤ N → N + 1 ≤ a2 + f → l2.length ≤ a2 → PSx f0 u d τ a2 l2 → p_lp N tp q opW f a2 l2 = R0 → Kp [4, 16, 17, 18] σ τ → ∀ (H : Heap) (locs : List Loc) (ls : Array Slot), MWP D cA b τ H → va_S (mA b) s.heap H locs → lh ls [some (.ref b)] → W p l e (rmG (dp + 1) 0 0) s m args below meth c H locs 0 0 Q (F0 m 9 ls []) := by
      intro f
      induction f with
      | zero => intro a2 l2 τ h1 h2; exact absurd h2 (by omega)
      | succ f ih =>
        intro a2 l2 τ g1 g2 g3 gx gE hk H locs ls hP hS hl
        refine lv_aload_n hx hb dX5_whole_9 rfl (hl.at rfl) ?_
        refine m_pV hC hK hP (met_look (a := a2) gx.1 htp gx.2.2.2.1 g1) cv_X5_141 rfl rfl hl.1 (Nat.le_of_ble_eq_true rfl) dX5_whole_10 (by omega) (by decide) (fun r10 p10 => ?_)
        subst p10
        refine lv_bipush (v := nI 124) hx hb dX5_whole_13 rfl ?_
        refine lv_icmp_ne (tgt := 47) hx hb dX5_whole_15 rfl (fun c15 => ?_) (fun c15 => ?_)
        · have hno : ¬ opW (lk N tp a2) = true := (by rw [opW, if_neg c15]; exact Bool.false_ne_true)
          refine lv_iconst (v := nI 1) hx hb dX5_whole_47 rfl ?_
          refine hret _ _ ls _ _ _ hP hS dX5_whole_48 (by first | exact Or.inl rfl | exact Or.inr rfl) ?_
          rw [← hR0]
          first | (have e9 : R0 = (true, a2, l2) := (by rw [← gE, p_lp, if_neg hno]); rw [e9]; exact ⟨Or.inl ⟨rfl, rfl⟩, fun _ => gx, gx.2.2.2.1, hk⟩) | (have e9 : R0 = (false, (q (a2 + 1) l2).2.1, l2) := (by rw [← gE, p_lp, if_pos hop, if_neg p29]); rw [e9]; exact ⟨Or.inr ⟨rfl, Bool.false_ne_true⟩, fun z => absurd z Bool.false_ne_true, u29.2.1, (hk.up (by decide)).tr u29.2.2⟩) | (have e9 : R0 = (false, (q a ll).2.1, ll) := (by rw [hR0, p_ch, if_neg p1]); rw [e9]; exact ⟨Or.inr ⟨rfl, Bool.false_ne_true⟩, fun z => absurd z Bool.false_ne_true, u1.2.1, u1.2.2⟩)
        · first | have hop : opW (lk N tp a2) = true := (by rw [opW, if_pos c15])
          have hlt := op_lt opW_m hop
          have m2 := hq (a2 + 1) l2 (by omega)
          refine lv_aload_n hx hb dX5_whole_18 rfl (hl.at rfl) ?_
          refine lv_dup hx hb dX5_whole_19 rfl ?_
          refine mg_at hC hK hP dX5_whole_20 ?_
          refine l_top (nI a2) gx.2.2.2.1 ?_
          refine lv_iconst (v := nI 1) hx hb dX5_whole_23 rfl ?_
          refine l_addN hx hb dX5_whole_24 ?_
          refine mp_at hC hK hP hS dX5_whole_25 (fun H locs hP hS => ?_)
          refine lv_aload_n hx hb dX5_whole_28 rfl (hl.at rfl) ?_
          refine m_iV hC hK hP hS (h1 _ (a2 + 1) l2 (gx.at (a2 + 1)) (by omega) (by omega)) cv_X5_137 rfl rfl hl.1 (Nat.le_of_ble_eq_true rfl) dX5_whole_29 (by omega) (by decide) (fun r29 σ29 H locs p29 hP hS => ?_)
          rcases p29 with ⟨⟨rfl, p29⟩ | ⟨rfl, p29⟩, u29⟩
          · have gx2 := u29.1 p29
            refine l_ifne_1 hx hb 37 dX5_whole_32 rfl ?_
            refine lv_aload_n hx hb dX5_whole_37 rfl (hl.at rfl) ?_
            refine lv_iconst (v := nI 3) hx hb dX5_whole_38 rfl ?_
            refine lv_bipush (v := nI 124) hx hb dX5_whole_39 rfl ?_
            refine m_vV hC hK hP hS (met_step1 gx2.2.2.2.2 (by have := m2.2.2 p29; have := m2.2.1; omega)) cv_X5_145 rfl rfl hl.1 (Nat.le_of_ble_eq_true rfl) dX5_whole_41 (by omega) (by decide) (fun σ41 H locs p41 hP hS => ?_)
            refine lv_goto (tgt := 9) hx hb dX5_whole_44 rfl ?_
            exact ih _ _ σ41 m2.2.1 (by have := m2.1; omega) (by rw [len1]; have := m2.2.2 p29; omega) (gx2.st p41.1 p41.2) (by rw [p_lp, if_pos hop, if_pos p29] at gE; rw [c15] at gE; exact gE) (((hk.up (by decide)).tr u29.2.2).tr (p41.2.mono (by decide))) _ _ _ hP hS hl
          · refine l_ifne_0 hx hb 37 dX5_whole_32 rfl ?_
            refine lv_iconst (v := nI 0) hx hb dX5_whole_35 rfl ?_
            refine hret _ _ ls _ _ _ hP hS dX5_whole_36 (by first | exact Or.inl rfl | exact Or.inr rfl) ?_
            rw [← hR0]
            first | (have e9 : R0 = (true, a2, l2) := (by rw [← gE, p_lp, if_neg hno]); rw [e9]; exact ⟨Or.inl ⟨rfl, rfl⟩, fun _ => gx, gx.2.2.2.1, hk⟩) | (have e9 : R0 = (false, (q (a2 + 1) l2).2.1, l2) := (by rw [← gE, p_lp, if_pos hop, if_neg p29]); rw [e9]; exact ⟨Or.inr ⟨rfl, Bool.false_ne_true⟩, fun z => absurd z Bool.false_ne_true, u29.2.1, (hk.up (by decide)).tr u29.2.2⟩) | (have e9 : R0 = (false, (q a ll).2.1, ll) := (by rw [hR0, p_ch, if_neg p1]); rw [e9]; exact ⟨Or.inr ⟨rfl, Bool.false_ne_true⟩, fun z => absurd z Bool.false_ne_true, u1.2.1, u1.2.2⟩)
    exact loop 61 _ _ σ1 m1.2.1 (by have := m1.1; omega) (by have := m1.2.2 p1; omega) (u1.1 p1) (by rw [hR0, p_ch, if_pos p1]) u1.2.2 _ _ _ hP hS hl
  · refine l_ifne_0 hx hb 9 dX5_whole_4 rfl ?_
    refine lv_iconst (v := nI 0) hx hb dX5_whole_7 rfl ?_
    refine hret _ _ ls _ _ _ hP hS dX5_whole_8 (by first | exact Or.inl rfl | exact Or.inr rfl) ?_
    rw [← hR0]
    first | (have e9 : R0 = (true, a2, l2) := (by rw [← gE, p_lp, if_neg hno]); rw [e9]; exact ⟨Or.inl ⟨rfl, rfl⟩, fun _ => gx, gx.2.2.2.1, hk⟩) | (have e9 : R0 = (false, (q (a2 + 1) l2).2.1, l2) := (by rw [← gE, p_lp, if_pos hop, if_neg p29]); rw [e9]; exact ⟨Or.inr ⟨rfl, Bool.false_ne_true⟩, fun z => absurd z Bool.false_ne_true, u29.2.1, (hk.up (by decide)).tr u29.2.2⟩) | (have e9 : R0 = (false, (q a ll).2.1, ll) := (by rw [hR0, p_ch, if_neg p1]); rw [e9]; exact ⟨Or.inr ⟨rfl, Bool.false_ne_true⟩, fun z => absurd z Bool.false_ne_true, u1.2.1, u1.2.2⟩)
theorem cv_X5_152 : CV RX5 RX5 152 yX5_sum cX5_sum 2 (some .boolean) 0 := ⟨lw_V q1543 q1545 qs57 q88 q1546, by decide +kernel⟩
theorem met_compared {l : Launch} {D : va_G} {cA : Nat → ClassId} {b : Nat} {σ : Nat → Nat → Int32} {f0 tp : Nat → Int32} {u d N a : Nat} {ll : PL_} {p0 : PP} (dp : Nat) (hdp : 1 ≤ dp) (htp : TPo N tp f0) (hq : PM N (p_sum N tp p0)) (h1 : PC l D cA b f0 u d N yX5_sum cX5_sum 2 dp (p_sum N tp p0)) (hx0 : PSx f0 u d σ a ll) (ha : a ≤ N) (hl0 : ll.length ≤ a) : MI l D cA b yX5_compared cX5_compared 2 (some .boolean) (dp + 1) [.ref b] σ (pcPost f0 u d σ (p_cmp N tp p0 a ll)) := by
  refine Ci.ofz rfl (by decide +kernel) (Nat.le_of_ble_eq_true rfl) ?_
  intro p e s m args below meth c Q hC hK hP hret ls hl
  have hx := hC.1
  have hb := hC.2.1
  have hown := hC.2.2.2.1
  have hts := hC.2.2.2.2
  have hS : va_S (mA b) s.heap s.heap [] := va_S.rf
  have hN60 := htp.2.2
  have m1 := hq a ll ha
  refine lv_aload_n hx hb dX5_compared_0 rfl (hl.at rfl) ?_
  refine m_iV hC hK hP hS (h1 _ a ll hx0 ha hl0) cv_X5_152 rfl rfl hl.1 (Nat.le_of_ble_eq_true rfl) dX5_compared_1 (by omega) (by decide) (fun r1 σ1 H locs p1 hP hS => ?_)
  rcases p1 with ⟨⟨rfl, p1⟩ | ⟨rfl, p1⟩, u1⟩
  · have gx := u1.1 p1
    refine l_ifne_1 hx hb 9 dX5_compared_4 rfl ?_
    refine lv_aload_n hx hb dX5_compared_9 rfl (hl.at rfl) ?_
    refine m_pV hC hK hP (met_look (a := (p_sum N tp p0 a ll).2.1) gx.1 htp gx.2.2.2.1 m1.2.1) cv_X5_141 rfl rfl hl.1 (Nat.le_of_ble_eq_true rfl) dX5_compared_10 (by omega) (by decide) (fun r10 p10 => ?_)
    subst p10
    refine l_istore_n hx hb 1 dX5_compared_13 rfl hl rfl (fun ls hl => ?_)
    refine lv_iload_n hx hb dX5_compared_14 rfl (hl.at rfl) ?_
    refine lv_bipush (v := nI 60) hx hb dX5_compared_15 rfl ?_
    refine lv_icmp_eq (tgt := 34) hx hb dX5_compared_17 rfl (fun c17 => ?_) (fun c17 => ?_)
    · first | have hop : opC (lk N tp (p_sum N tp p0 a ll).2.1) = true := (by rw [opC, if_pos c17]) | have hop : opC (lk N tp (p_sum N tp p0 a ll).2.1) = true := (by rw [opC, if_neg c17, if_pos c23]) | have hop : opC (lk N tp (p_sum N tp p0 a ll).2.1) = true := (by rw [opC, if_neg c17, if_neg c23, if_pos c29])
      have hlt := op_lt opC_m hop
      have m2 := hq ((p_sum N tp p0 a ll).2.1 + 1) (p_sum N tp p0 a ll).2.2 (by omega)
      refine lv_aload_n hx hb dX5_compared_34 rfl (hl.at rfl) ?_
      refine lv_dup hx hb dX5_compared_35 rfl ?_
      refine mg_at hC hK hP dX5_compared_36 ?_
      refine l_top (nI (p_sum N tp p0 a ll).2.1) gx.2.2.2.1 ?_
      refine lv_iconst (v := nI 1) hx hb dX5_compared_39 rfl ?_
      refine l_addN hx hb dX5_compared_40 ?_
      refine mp_at hC hK hP hS dX5_compared_41 (fun H locs hP hS => ?_)
      refine lv_aload_n hx hb dX5_compared_44 rfl (hl.at rfl) ?_
      refine m_iV hC hK hP hS (h1 _ _ _ (gx.at ((p_sum N tp p0 a ll).2.1 + 1)) (by omega) (by have := m1.2.2 p1; omega)) cv_X5_152 rfl rfl hl.1 (Nat.le_of_ble_eq_true rfl) dX5_compared_45 (by omega) (by decide) (fun r45 σ45 H locs p45 hP hS => ?_)
      rcases p45 with ⟨⟨rfl, p45⟩ | ⟨rfl, p45⟩, u45⟩
      · have gx2 := u45.1 p45
        refine l_ifne_1 hx hb 53 dX5_compared_48 rfl ?_
        refine lv_aload_n hx hb dX5_compared_53 rfl (hl.at rfl) ?_
        refine lv_iconst (v := nI 3) hx hb dX5_compared_54 rfl ?_
        refine lv_iload_n hx hb dX5_compared_55 rfl (hl.at rfl) ?_
        refine m_vV hC hK hP hS (met_step1 gx2.2.2.2.2 (by have := m2.2.2 p45; have := m2.2.1; have := m1.2.2 p1; omega)) cv_X5_145 rfl rfl hl.1 (Nat.le_of_ble_eq_true rfl) dX5_compared_56 (by omega) (by decide) (fun σ56 H locs p56 hP hS => ?_)
        refine lv_iconst (v := nI 1) hx hb dX5_compared_59 rfl ?_
        refine hret _ _ ls _ _ _ hP hS dX5_compared_60 (by first | exact Or.inl rfl | exact Or.inr rfl) ?_
        first | (rw [p_cmp, if_neg p1]; exact ⟨Or.inr ⟨rfl, Bool.false_ne_true⟩, fun z => absurd z Bool.false_ne_true, u1.2.1, u1.2.2⟩) | (rw [p_cmp, if_pos p1, if_neg hno]; exact ⟨Or.inl ⟨rfl, p1⟩, u1.1, u1.2.1, u1.2.2⟩) | (rw [p_cmp, if_pos p1, if_pos hop, if_neg p45]; exact ⟨Or.inr ⟨rfl, Bool.false_ne_true⟩, fun z => absurd z Bool.false_ne_true, u45.2.1, (u1.2.2.up (by decide)).tr u45.2.2⟩) | (rw [p_cmp, if_pos p1, if_pos hop, if_pos p45]; exact ⟨Or.inl ⟨rfl, rfl⟩, fun _ => gx2.st p56.1 p56.2, (gx2.st p56.1 p56.2).2.2.2.1, ((u1.2.2.up (by decide)).tr u45.2.2).tr (p56.2.mono (by decide))⟩)
      · refine l_ifne_0 hx hb 53 dX5_compared_48 rfl ?_
        refine lv_iconst (v := nI 0) hx hb dX5_compared_51 rfl ?_
        refine hret _ _ ls _ _ _ hP hS dX5_compared_52 (by first | exact Or.inl rfl | exact Or.inr rfl) ?_
        first | (rw [p_cmp, if_neg p1]; exact ⟨Or.inr ⟨rfl, Bool.false_ne_true⟩, fun z => absurd z Bool.false_ne_true, u1.2.1, u1.2.2⟩) | (rw [p_cmp, if_pos p1, if_neg hno]; exact ⟨Or.inl ⟨rfl, p1⟩, u1.1, u1.2.1, u1.2.2⟩) | (rw [p_cmp, if_pos p1, if_pos hop, if_neg p45]; exact ⟨Or.inr ⟨rfl, Bool.false_ne_true⟩, fun z => absurd z Bool.false_ne_true, u45.2.1, (u1.2.2.up (by decide)).tr u45.2.2⟩) | (rw [p_cmp, if_pos p1, if_pos hop, if_pos p45]; exact ⟨Or.inl ⟨rfl, rfl⟩, fun _ => gx2.st p56.1 p56.2, (gx2.st p56.1 p56.2).2.2.2.1, ((u1.2.2.up (by decide)).tr u45.2.2).tr (p56.2.mono (by decide))⟩)
    · refine lv_iload_n hx hb dX5_compared_20 rfl (hl.at rfl) ?_
      refine lv_bipush (v := nI 61) hx hb dX5_compared_21 rfl ?_
      refine lv_icmp_eq (tgt := 34) hx hb dX5_compared_23 rfl (fun c23 => ?_) (fun c23 => ?_)
      · first | have hop : opC (lk N tp (p_sum N tp p0 a ll).2.1) = true := (by rw [opC, if_pos c17]) | have hop : opC (lk N tp (p_sum N tp p0 a ll).2.1) = true := (by rw [opC, if_neg c17, if_pos c23]) | have hop : opC (lk N tp (p_sum N tp p0 a ll).2.1) = true := (by rw [opC, if_neg c17, if_neg c23, if_pos c29])
        have hlt := op_lt opC_m hop
        have m2 := hq ((p_sum N tp p0 a ll).2.1 + 1) (p_sum N tp p0 a ll).2.2 (by omega)
        refine lv_aload_n hx hb dX5_compared_34 rfl (hl.at rfl) ?_
        refine lv_dup hx hb dX5_compared_35 rfl ?_
        refine mg_at hC hK hP dX5_compared_36 ?_
        refine l_top (nI (p_sum N tp p0 a ll).2.1) gx.2.2.2.1 ?_
        refine lv_iconst (v := nI 1) hx hb dX5_compared_39 rfl ?_
        refine l_addN hx hb dX5_compared_40 ?_
        refine mp_at hC hK hP hS dX5_compared_41 (fun H locs hP hS => ?_)
        refine lv_aload_n hx hb dX5_compared_44 rfl (hl.at rfl) ?_
        refine m_iV hC hK hP hS (h1 _ _ _ (gx.at ((p_sum N tp p0 a ll).2.1 + 1)) (by omega) (by have := m1.2.2 p1; omega)) cv_X5_152 rfl rfl hl.1 (Nat.le_of_ble_eq_true rfl) dX5_compared_45 (by omega) (by decide) (fun r45 σ45 H locs p45 hP hS => ?_)
        rcases p45 with ⟨⟨rfl, p45⟩ | ⟨rfl, p45⟩, u45⟩
        · have gx2 := u45.1 p45
          refine l_ifne_1 hx hb 53 dX5_compared_48 rfl ?_
          refine lv_aload_n hx hb dX5_compared_53 rfl (hl.at rfl) ?_
          refine lv_iconst (v := nI 3) hx hb dX5_compared_54 rfl ?_
          refine lv_iload_n hx hb dX5_compared_55 rfl (hl.at rfl) ?_
          refine m_vV hC hK hP hS (met_step1 gx2.2.2.2.2 (by have := m2.2.2 p45; have := m2.2.1; have := m1.2.2 p1; omega)) cv_X5_145 rfl rfl hl.1 (Nat.le_of_ble_eq_true rfl) dX5_compared_56 (by omega) (by decide) (fun σ56 H locs p56 hP hS => ?_)
          refine lv_iconst (v := nI 1) hx hb dX5_compared_59 rfl ?_
          refine hret _ _ ls _ _ _ hP hS dX5_compared_60 (by first | exact Or.inl rfl | exact Or.inr rfl) ?_
          first | (rw [p_cmp, if_neg p1]; exact ⟨Or.inr ⟨rfl, Bool.false_ne_true⟩, fun z => absurd z Bool.false_ne_true, u1.2.1, u1.2.2⟩) | (rw [p_cmp, if_pos p1, if_neg hno]; exact ⟨Or.inl ⟨rfl, p1⟩, u1.1, u1.2.1, u1.2.2⟩) | (rw [p_cmp, if_pos p1, if_pos hop, if_neg p45]; exact ⟨Or.inr ⟨rfl, Bool.false_ne_true⟩, fun z => absurd z Bool.false_ne_true, u45.2.1, (u1.2.2.up (by decide)).tr u45.2.2⟩) | (rw [p_cmp, if_pos p1, if_pos hop, if_pos p45]; exact ⟨Or.inl ⟨rfl, rfl⟩, fun _ => gx2.st p56.1 p56.2, (gx2.st p56.1 p56.2).2.2.2.1, ((u1.2.2.up (by decide)).tr u45.2.2).tr (p56.2.mono (by decide))⟩)
        · refine l_ifne_0 hx hb 53 dX5_compared_48 rfl ?_
          refine lv_iconst (v := nI 0) hx hb dX5_compared_51 rfl ?_
          refine hret _ _ ls _ _ _ hP hS dX5_compared_52 (by first | exact Or.inl rfl | exact Or.inr rfl) ?_
          first | (rw [p_cmp, if_neg p1]; exact ⟨Or.inr ⟨rfl, Bool.false_ne_true⟩, fun z => absurd z Bool.false_ne_true, u1.2.1, u1.2.2⟩) | (rw [p_cmp, if_pos p1, if_neg hno]; exact ⟨Or.inl ⟨rfl, p1⟩, u1.1, u1.2.1, u1.2.2⟩) | (rw [p_cmp, if_pos p1, if_pos hop, if_neg p45]; exact ⟨Or.inr ⟨rfl, Bool.false_ne_true⟩, fun z => absurd z Bool.false_ne_true, u45.2.1, (u1.2.2.up (by decide)).tr u45.2.2⟩) | (rw [p_cmp, if_pos p1, if_pos hop, if_pos p45]; exact ⟨Or.inl ⟨rfl, rfl⟩, fun _ => gx2.st p56.1 p56.2, (gx2.st p56.1 p56.2).2.2.2.1, ((u1.2.2.up (by decide)).tr u45.2.2).tr (p56.2.mono (by decide))⟩)
      · refine lv_iload_n hx hb dX5_compared_26 rfl (hl.at rfl) ?_
        refine lv_bipush (v := nI 62) hx hb dX5_compared_27 rfl ?_
        refine lv_icmp_eq (tgt := 34) hx hb dX5_compared_29 rfl (fun c29 => ?_) (fun c29 => ?_)
        · first | have hop : opC (lk N tp (p_sum N tp p0 a ll).2.1) = true := (by rw [opC, if_pos c17]) | have hop : opC (lk N tp (p_sum N tp p0 a ll).2.1) = true := (by rw [opC, if_neg c17, if_pos c23]) | have hop : opC (lk N tp (p_sum N tp p0 a ll).2.1) = true := (by rw [opC, if_neg c17, if_neg c23, if_pos c29])
          have hlt := op_lt opC_m hop
          have m2 := hq ((p_sum N tp p0 a ll).2.1 + 1) (p_sum N tp p0 a ll).2.2 (by omega)
          refine lv_aload_n hx hb dX5_compared_34 rfl (hl.at rfl) ?_
          refine lv_dup hx hb dX5_compared_35 rfl ?_
          refine mg_at hC hK hP dX5_compared_36 ?_
          refine l_top (nI (p_sum N tp p0 a ll).2.1) gx.2.2.2.1 ?_
          refine lv_iconst (v := nI 1) hx hb dX5_compared_39 rfl ?_
          refine l_addN hx hb dX5_compared_40 ?_
          refine mp_at hC hK hP hS dX5_compared_41 (fun H locs hP hS => ?_)
          refine lv_aload_n hx hb dX5_compared_44 rfl (hl.at rfl) ?_
          refine m_iV hC hK hP hS (h1 _ _ _ (gx.at ((p_sum N tp p0 a ll).2.1 + 1)) (by omega) (by have := m1.2.2 p1; omega)) cv_X5_152 rfl rfl hl.1 (Nat.le_of_ble_eq_true rfl) dX5_compared_45 (by omega) (by decide) (fun r45 σ45 H locs p45 hP hS => ?_)
          rcases p45 with ⟨⟨rfl, p45⟩ | ⟨rfl, p45⟩, u45⟩
          · have gx2 := u45.1 p45
            refine l_ifne_1 hx hb 53 dX5_compared_48 rfl ?_
            refine lv_aload_n hx hb dX5_compared_53 rfl (hl.at rfl) ?_
            refine lv_iconst (v := nI 3) hx hb dX5_compared_54 rfl ?_
            refine lv_iload_n hx hb dX5_compared_55 rfl (hl.at rfl) ?_
            refine m_vV hC hK hP hS (met_step1 gx2.2.2.2.2 (by have := m2.2.2 p45; have := m2.2.1; have := m1.2.2 p1; omega)) cv_X5_145 rfl rfl hl.1 (Nat.le_of_ble_eq_true rfl) dX5_compared_56 (by omega) (by decide) (fun σ56 H locs p56 hP hS => ?_)
            refine lv_iconst (v := nI 1) hx hb dX5_compared_59 rfl ?_
            refine hret _ _ ls _ _ _ hP hS dX5_compared_60 (by first | exact Or.inl rfl | exact Or.inr rfl) ?_
            first | (rw [p_cmp, if_neg p1]; exact ⟨Or.inr ⟨rfl, Bool.false_ne_true⟩, fun z => absurd z Bool.false_ne_true, u1.2.1, u1.2.2⟩) | (rw [p_cmp, if_pos p1, if_neg hno]; exact ⟨Or.inl ⟨rfl, p1⟩, u1.1, u1.2.1, u1.2.2⟩) | (rw [p_cmp, if_pos p1, if_pos hop, if_neg p45]; exact ⟨Or.inr ⟨rfl, Bool.false_ne_true⟩, fun z => absurd z Bool.false_ne_true, u45.2.1, (u1.2.2.up (by decide)).tr u45.2.2⟩) | (rw [p_cmp, if_pos p1, if_pos hop, if_pos p45]; exact ⟨Or.inl ⟨rfl, rfl⟩, fun _ => gx2.st p56.1 p56.2, (gx2.st p56.1 p56.2).2.2.2.1, ((u1.2.2.up (by decide)).tr u45.2.2).tr (p56.2.mono (by decide))⟩)
          · refine l_ifne_0 hx hb 53 dX5_compared_48 rfl ?_
            refine lv_iconst (v := nI 0) hx hb dX5_compared_51 rfl ?_
            refine hret _ _ ls _ _ _ hP hS dX5_compared_52 (by first | exact Or.inl rfl | exact Or.inr rfl) ?_
            first | (rw [p_cmp, if_neg p1]; exact ⟨Or.inr ⟨rfl, Bool.false_ne_true⟩, fun z => absurd z Bool.false_ne_true, u1.2.1, u1.2.2⟩) | (rw [p_cmp, if_pos p1, if_neg hno]; exact ⟨Or.inl ⟨rfl, p1⟩, u1.1, u1.2.1, u1.2.2⟩) | (rw [p_cmp, if_pos p1, if_pos hop, if_neg p45]; exact ⟨Or.inr ⟨rfl, Bool.false_ne_true⟩, fun z => absurd z Bool.false_ne_true, u45.2.1, (u1.2.2.up (by decide)).tr u45.2.2⟩) | (rw [p_cmp, if_pos p1, if_pos hop, if_pos p45]; exact ⟨Or.inl ⟨rfl, rfl⟩, fun _ => gx2.st p56.1 p56.2, (gx2.st p56.1 p56.2).2.2.2.1, ((u1.2.2.up (by decide)).tr u45.2.2).tr (p56.2.mono (by decide))⟩)
        · have hno : ¬ opC (lk N tp (p_sum N tp p0 a ll).2.1) = true := (by rw [opC, if_neg c17, if_neg c23, if_neg c29]; exact Bool.false_ne_true)
          refine lv_iconst (v := nI 1) hx hb dX5_compared_32 rfl ?_
          refine hret _ _ ls _ _ _ hP hS dX5_compared_33 (by first | exact Or.inl rfl | exact Or.inr rfl) ?_
          first | (rw [p_cmp, if_neg p1]; exact ⟨Or.inr ⟨rfl, Bool.false_ne_true⟩, fun z => absurd z Bool.false_ne_true, u1.2.1, u1.2.2⟩) | (rw [p_cmp, if_pos p1, if_neg hno]; exact ⟨Or.inl ⟨rfl, p1⟩, u1.1, u1.2.1, u1.2.2⟩) | (rw [p_cmp, if_pos p1, if_pos hop, if_neg p45]; exact ⟨Or.inr ⟨rfl, Bool.false_ne_true⟩, fun z => absurd z Bool.false_ne_true, u45.2.1, (u1.2.2.up (by decide)).tr u45.2.2⟩) | (rw [p_cmp, if_pos p1, if_pos hop, if_pos p45]; exact ⟨Or.inl ⟨rfl, rfl⟩, fun _ => gx2.st p56.1 p56.2, (gx2.st p56.1 p56.2).2.2.2.1, ((u1.2.2.up (by decide)).tr u45.2.2).tr (p56.2.mono (by decide))⟩)
  · refine l_ifne_0 hx hb 9 dX5_compared_4 rfl ?_
    refine lv_iconst (v := nI 0) hx hb dX5_compared_7 rfl ?_
    refine hret _ _ ls _ _ _ hP hS dX5_compared_8 (by first | exact Or.inl rfl | exact Or.inr rfl) ?_
    first | (rw [p_cmp, if_neg p1]; exact ⟨Or.inr ⟨rfl, Bool.false_ne_true⟩, fun z => absurd z Bool.false_ne_true, u1.2.1, u1.2.2⟩) | (rw [p_cmp, if_pos p1, if_neg hno]; exact ⟨Or.inl ⟨rfl, p1⟩, u1.1, u1.2.1, u1.2.2⟩) | (rw [p_cmp, if_pos p1, if_pos hop, if_neg p45]; exact ⟨Or.inr ⟨rfl, Bool.false_ne_true⟩, fun z => absurd z Bool.false_ne_true, u45.2.1, (u1.2.2.up (by decide)).tr u45.2.2⟩) | (rw [p_cmp, if_pos p1, if_pos hop, if_pos p45]; exact ⟨Or.inl ⟨rfl, rfl⟩, fun _ => gx2.st p56.1 p56.2, (gx2.st p56.1 p56.2).2.2.2.1, ((u1.2.2.up (by decide)).tr u45.2.2).tr (p56.2.mono (by decide))⟩)
