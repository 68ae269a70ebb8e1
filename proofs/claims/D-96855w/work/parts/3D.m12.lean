theorem cv_X5_164 : CV RX5 RX5 164 yX5_isName cX5_isName 2 (some .boolean) 1 := ⟨lw_V q1559 q1561 qs61 q88 q1562, by decide +kernel⟩
theorem cv_X5_167 : CV RX5 RX5 167 yX5_opens cX5_opens 1 (some .boolean) 0 := ⟨lw_V q1567 q1569 qs63 q88 q1570, by decide +kernel⟩
theorem met_one_z {l : Launch} {D : va_G} {cA : Nat → ClassId} {b : Nat} {σ : Nat → Nat → Int32} {f0 tp : Nat → Int32} {u N a : Nat} {ll : PL_} (dp : Nat) (hdp : 1 ≤ dp) (htp : TPo N tp f0) (hu2 : u < 2) (hx0 : PSx f0 u 0 σ a ll) (ha : a ≤ N) (hl0 : ll.length ≤ a) : MI l D cA b yX5_one cX5_one 4 (some .boolean) (dp + 1) [.ref b] σ (pcPost f0 u 0 σ (p_b u N tp none a ll)) := by
  refine Ci.ofz rfl (by decide +kernel) (Nat.le_of_ble_eq_true rfl) ?_
  intro p e s m args below meth c Q hC hK hP hret ls hl
  have hx := hC.1
  have hb := hC.2.1
  have hown := hC.2.2.2.1
  have hts := hC.2.2.2.2
  have hS : va_S (mA b) s.heap s.heap [] := va_S.rf
  have hN60 := htp.2.2
  refine lv_aload_n hx hb dX5_one_0 rfl (hl.at rfl) ?_
  refine m_pV hC hK hP (met_look (a := a) hx0.1 htp hx0.2.2.2.1 ha) cv_X5_141 rfl rfl hl.1 (Nat.le_of_ble_eq_true rfl) dX5_one_1 (by omega) (by decide) (fun r1 p1 => ?_)
  subst p1
  refine l_istore_n hx hb 1 dX5_one_4 rfl hl rfl (fun ls hl => ?_)
  refine lv_aload_n hx hb dX5_one_5 rfl (hl.at rfl) ?_
  refine lv_iload_n hx hb dX5_one_6 rfl (hl.at rfl) ?_
  refine m_pV hC hK hP (met_isName hx0.2.1 hu2) cv_X5_164 rfl rfl hl.1 (Nat.le_of_ble_eq_true rfl) dX5_one_7 (by omega) (by decide) (fun r7 p7 => ?_)
  rcases p7 with ⟨rfl, p7⟩ | ⟨rfl, p7⟩
  · refine l_ifeq_1 hx hb 31 dX5_one_10 rfl ?_
    refine lv_aload_n hx hb dX5_one_13 rfl (hl.at rfl) ?_
    refine lv_dup hx hb dX5_one_14 rfl ?_
    refine mg_at hC hK hP dX5_one_15 ?_
    have hlt := op_lt (op := isNb u) (isNb_m u) p7
    refine l_top (nI a) hx0.2.2.2.1 ?_
    refine lv_iconst (v := nI 1) hx hb dX5_one_18 rfl ?_
    refine l_addN hx hb dX5_one_19 ?_
    refine mp_at hC hK hP hS dX5_one_20 (fun H locs hP hS => ?_)
    refine lv_aload_n hx hb dX5_one_23 rfl (hl.at rfl) ?_
    refine lv_iconst (v := nI 1) hx hb dX5_one_24 rfl ?_
    refine lv_iload_n hx hb dX5_one_25 rfl (hl.at rfl) ?_
    refine m_vV hC hK hP hS (met_step1 (hx0.at (a + 1)).2.2.2.2 (by omega)) cv_X5_145 rfl rfl hl.1 (Nat.le_of_ble_eq_true rfl) dX5_one_26 (by omega) (by decide) (fun σ26 H locs p26 hP hS => ?_)
    refine lv_iconst (v := nI 1) hx hb dX5_one_29 rfl ?_
    refine hret _ _ ls _ _ _ hP hS dX5_one_30 (by first | exact Or.inl rfl | exact Or.inr rfl) ?_
    first | (rw [p_b, if_pos p7]; exact ⟨Or.inl ⟨rfl, rfl⟩, fun _ => (hx0.at (a + 1)).st p26.1 p26.2, ((hx0.at (a + 1)).st p26.1 p26.2).2.2.2.1, (Kp.rf.up (by decide)).tr (p26.2.mono (by decide))⟩) | (rw [p_b, if_neg p7, if_pos p36, ← hRe, ← gE, eR]; exact ⟨Or.inl ⟨rfl, rfl⟩, fun _ => gx.st p97.1 p97.2, (gx.st p97.1 p97.2).2.2.2.1, hk.tr (p97.2.mono (by decide))⟩) | (rw [p_b, if_neg p7, if_neg p36, if_neg c105, if_neg c145]; exact ⟨Or.inr ⟨rfl, Bool.false_ne_true⟩, fun z => absurd z Bool.false_ne_true, hx0.2.2.2.1, Kp.rf⟩) | (rw [p_b, if_neg p7, if_neg p36, if_pos c105, p_nt]; exact ⟨Or.inr ⟨rfl, Bool.false_ne_true⟩, fun z => absurd z Bool.false_ne_true, u109.2.1 rfl, u109.2.2⟩) | (rw [p_b, if_neg p7, if_neg p36, if_neg c105, if_pos c145, p_pa]; exact ⟨Or.inr ⟨rfl, Bool.false_ne_true⟩, fun z => absurd z Bool.false_ne_true, u149.2.1 rfl, u149.2.2⟩)
  · refine l_ifeq_0 hx hb 31 dX5_one_10 rfl ?_
    refine lv_iload_n hx hb dX5_one_31 rfl (hl.at rfl) ?_
    refine lv_bipush (v := nI 48) hx hb dX5_one_32 rfl ?_
    refine lv_bipush (v := nI 57) hx hb dX5_one_34 rfl ?_
    refine m_sS hC (met_in ) cs_X5_56 rfl rfl hl.1 (Nat.le_of_ble_eq_true rfl) dX5_one_36 (by omega) (by decide) (fun r36 p36 => ?_)
    rcases p36 with ⟨rfl, p36⟩ | ⟨rfl, p36⟩
    · obtain ⟨R, hRe⟩ : ∃ R, R = p_num N tp 4 a (nI 0) := ⟨_, rfl⟩
      obtain ⟨hlt, -, -⟩ := num_lt p36
      refine l_ifeq_1 hx hb 102 dX5_one_39 rfl ?_
      refine lv_iconst (v := nI 0) hx hb dX5_one_42 rfl ?_
      refine l_istore_n hx hb 2 dX5_one_43 rfl hl rfl (fun ls hl => ?_)
      refine lv_iconst (v := nI 0) hx hb dX5_one_44 rfl ?_
      refine l_istore_n hx hb 3 dX5_one_45 rfl hl rfl (fun ls hl => ?_)
      have loop : ∀ (m0 k a2 : Nat) (v : Int32) (τ : Sta), k ≤ 4 → 5 ≤ k + m0 → a2 ≤ N → PSx f0 u 0 τ a2 ll → p_num N tp (4 - k) a2 v = R → Kp [4, 16, 17, 18] σ τ → ∀ (H : Heap) (locs : List Loc) (ls : Array Slot), MWP D cA b τ H → va_S (mA b) s.heap H locs → lh ls [some (.ref b), some (.int (lk N tp a)), some (.int v), some (.int (nI k))] → W p l e (rmG (dp + 1) 0 0) s m args below meth c H locs 0 0 Q (F0 m 46 ls []) := by
        intro m0
        induction m0 with
        | zero => intro k a2 v τ h1 h2; exact absurd h2 (by omega)
        | succ m0 ih =>
          intro k a2 v τ g1 g2 g3 gx gE hk H locs ls hP hS hl
          refine lv_iload_n hx hb dX5_one_46 rfl (hl.at rfl) ?_
          refine lv_iconst (v := nI 4) hx hb dX5_one_47 rfl ?_
          refine l_geN hx hb 94 dX5_one_48 rfl (by omega) (by omega) (fun c48 => ?_) (fun c48 => ?_)
          · have eR : p_num N tp (4 - k) a2 v = (a2, v) := by rw [show 4 - k = 0 by omega, p_num]
            refine lv_aload_n hx hb dX5_one_94 rfl (hl.at rfl) ?_
            refine lv_iconst (v := nI 0) hx hb dX5_one_95 rfl ?_
            refine lv_iload_n hx hb dX5_one_96 rfl (hl.at rfl) ?_
            refine m_vV hC hK hP hS (met_step1 gx.2.2.2.2 (by omega)) cv_X5_145 rfl rfl hl.1 (Nat.le_of_ble_eq_true rfl) dX5_one_97 (by omega) (by decide) (fun σ97 H locs p97 hP hS => ?_)
            refine lv_iconst (v := nI 1) hx hb dX5_one_100 rfl ?_
            refine hret _ _ ls _ _ _ hP hS dX5_one_101 (by first | exact Or.inl rfl | exact Or.inr rfl) ?_
            first | (rw [p_b, if_pos p7]; exact ⟨Or.inl ⟨rfl, rfl⟩, fun _ => (hx0.at (a + 1)).st p26.1 p26.2, ((hx0.at (a + 1)).st p26.1 p26.2).2.2.2.1, (Kp.rf.up (by decide)).tr (p26.2.mono (by decide))⟩) | (rw [p_b, if_neg p7, if_pos p36, ← hRe, ← gE, eR]; exact ⟨Or.inl ⟨rfl, rfl⟩, fun _ => gx.st p97.1 p97.2, (gx.st p97.1 p97.2).2.2.2.1, hk.tr (p97.2.mono (by decide))⟩) | (rw [p_b, if_neg p7, if_neg p36, if_neg c105, if_neg c145]; exact ⟨Or.inr ⟨rfl, Bool.false_ne_true⟩, fun z => absurd z Bool.false_ne_true, hx0.2.2.2.1, Kp.rf⟩) | (rw [p_b, if_neg p7, if_neg p36, if_pos c105, p_nt]; exact ⟨Or.inr ⟨rfl, Bool.false_ne_true⟩, fun z => absurd z Bool.false_ne_true, u109.2.1 rfl, u109.2.2⟩) | (rw [p_b, if_neg p7, if_neg p36, if_neg c105, if_pos c145, p_pa]; exact ⟨Or.inr ⟨rfl, Bool.false_ne_true⟩, fun z => absurd z Bool.false_ne_true, u149.2.1 rfl, u149.2.2⟩)
          · refine lv_aload_n hx hb dX5_one_51 rfl (hl.at rfl) ?_
            refine m_pV hC hK hP (met_look (a := a2) gx.1 htp gx.2.2.2.1 g3) cv_X5_141 rfl rfl hl.1 (Nat.le_of_ble_eq_true rfl) dX5_one_52 (by omega) (by decide) (fun r52 p52 => ?_)
            subst p52
            refine lv_bipush (v := nI 48) hx hb dX5_one_55 rfl ?_
            refine lv_bipush (v := nI 57) hx hb dX5_one_57 rfl ?_
            refine m_sS hC (met_in ) cs_X5_56 rfl rfl hl.1 (Nat.le_of_ble_eq_true rfl) dX5_one_59 (by omega) (by decide) (fun r59 p59 => ?_)
            rcases p59 with ⟨rfl, p59⟩ | ⟨rfl, p59⟩
            · obtain ⟨hlt2, -, -⟩ := num_lt p59
              refine l_ifeq_1 hx hb 94 dX5_one_62 rfl ?_
              refine lv_bipush (v := nI 10) hx hb dX5_one_65 rfl ?_
              refine lv_iload_n hx hb dX5_one_67 rfl (hl.at rfl) ?_
              refine lv_imul hx hb dX5_one_68 ?_
              refine lv_aload_n hx hb dX5_one_69 rfl (hl.at rfl) ?_
              refine m_pV hC hK hP (met_look (a := a2) gx.1 htp gx.2.2.2.1 g3) cv_X5_141 rfl rfl hl.1 (Nat.le_of_ble_eq_true rfl) dX5_one_70 (by omega) (by decide) (fun r70 p70 => ?_)
              subst p70
              refine lv_iadd hx hb dX5_one_73 ?_
              refine lv_bipush (v := nI 48) hx hb dX5_one_74 rfl ?_
              refine lv_isub hx hb dX5_one_76 ?_
              refine l_istore_n hx hb 2 dX5_one_77 rfl hl rfl (fun ls hl => ?_)
              refine lv_aload_n hx hb dX5_one_78 rfl (hl.at rfl) ?_
              refine lv_dup hx hb dX5_one_79 rfl ?_
              refine mg_at hC hK hP dX5_one_80 ?_
              refine l_top (nI a2) gx.2.2.2.1 ?_
              refine lv_iconst (v := nI 1) hx hb dX5_one_83 rfl ?_
              refine l_addN hx hb dX5_one_84 ?_
              refine mp_at hC hK hP hS dX5_one_85 (fun H locs hP hS => ?_)
              refine l_inc1 hx hb 3 dX5_one_88 hl rfl rfl (fun ls hl => ?_)
              refine lv_goto (tgt := 46) hx hb dX5_one_91 rfl ?_
              exact ih (k + 1) (a2 + 1) _ _ (by omega) (by omega) (by omega) (gx.at (a2 + 1)) (by rw [show 4 - k = (4 - (k + 1)) + 1 by omega, p_num, if_pos p59] at gE; exact gE) (hk.up (by decide)) _ _ _ hP hS hl
            · have eR : p_num N tp (4 - k) a2 v = (a2, v) := by rw [show 4 - k = (4 - (k + 1)) + 1 by omega, p_num, if_neg p59]
              refine l_ifeq_0 hx hb 94 dX5_one_62 rfl ?_
              refine lv_aload_n hx hb dX5_one_94 rfl (hl.at rfl) ?_
              refine lv_iconst (v := nI 0) hx hb dX5_one_95 rfl ?_
              refine lv_iload_n hx hb dX5_one_96 rfl (hl.at rfl) ?_
              refine m_vV hC hK hP hS (met_step1 gx.2.2.2.2 (by omega)) cv_X5_145 rfl rfl hl.1 (Nat.le_of_ble_eq_true rfl) dX5_one_97 (by omega) (by decide) (fun σ97 H locs p97 hP hS => ?_)
              refine lv_iconst (v := nI 1) hx hb dX5_one_100 rfl ?_
              refine hret _ _ ls _ _ _ hP hS dX5_one_101 (by first | exact Or.inl rfl | exact Or.inr rfl) ?_
              first | (rw [p_b, if_pos p7]; exact ⟨Or.inl ⟨rfl, rfl⟩, fun _ => (hx0.at (a + 1)).st p26.1 p26.2, ((hx0.at (a + 1)).st p26.1 p26.2).2.2.2.1, (Kp.rf.up (by decide)).tr (p26.2.mono (by decide))⟩) | (rw [p_b, if_neg p7, if_pos p36, ← hRe, ← gE, eR]; exact ⟨Or.inl ⟨rfl, rfl⟩, fun _ => gx.st p97.1 p97.2, (gx.st p97.1 p97.2).2.2.2.1, hk.tr (p97.2.mono (by decide))⟩) | (rw [p_b, if_neg p7, if_neg p36, if_neg c105, if_neg c145]; exact ⟨Or.inr ⟨rfl, Bool.false_ne_true⟩, fun z => absurd z Bool.false_ne_true, hx0.2.2.2.1, Kp.rf⟩) | (rw [p_b, if_neg p7, if_neg p36, if_pos c105, p_nt]; exact ⟨Or.inr ⟨rfl, Bool.false_ne_true⟩, fun z => absurd z Bool.false_ne_true, u109.2.1 rfl, u109.2.2⟩) | (rw [p_b, if_neg p7, if_neg p36, if_neg c105, if_pos c145, p_pa]; exact ⟨Or.inr ⟨rfl, Bool.false_ne_true⟩, fun z => absurd z Bool.false_ne_true, u149.2.1 rfl, u149.2.2⟩)
      exact loop 5 0 a _ _ (by omega) (by omega) ha hx0 hRe.symm Kp.rf _ _ _ hP hS hl
    · refine l_ifeq_0 hx hb 102 dX5_one_39 rfl ?_
      refine lv_iload_n hx hb dX5_one_102 rfl (hl.at rfl) ?_
      refine lv_bipush (v := nI 33) hx hb dX5_one_103 rfl ?_
      refine lv_icmp_ne (tgt := 142) hx hb dX5_one_105 rfl (fun c105 => ?_) (fun c105 => ?_)
      · refine lv_iload_n hx hb dX5_one_142 rfl (hl.at rfl) ?_
        refine lv_bipush (v := nI 40) hx hb dX5_one_143 rfl ?_
        refine lv_icmp_ne (tgt := 171) hx hb dX5_one_145 rfl (fun c145 => ?_) (fun c145 => ?_)
        · refine lv_iconst (v := nI 0) hx hb dX5_one_171 rfl ?_
          refine hret _ _ ls _ _ _ hP hS dX5_one_172 (by first | exact Or.inl rfl | exact Or.inr rfl) ?_
          first | (rw [p_b, if_pos p7]; exact ⟨Or.inl ⟨rfl, rfl⟩, fun _ => (hx0.at (a + 1)).st p26.1 p26.2, ((hx0.at (a + 1)).st p26.1 p26.2).2.2.2.1, (Kp.rf.up (by decide)).tr (p26.2.mono (by decide))⟩) | (rw [p_b, if_neg p7, if_pos p36, ← hRe, ← gE, eR]; exact ⟨Or.inl ⟨rfl, rfl⟩, fun _ => gx.st p97.1 p97.2, (gx.st p97.1 p97.2).2.2.2.1, hk.tr (p97.2.mono (by decide))⟩) | (rw [p_b, if_neg p7, if_neg p36, if_neg c105, if_neg c145]; exact ⟨Or.inr ⟨rfl, Bool.false_ne_true⟩, fun z => absurd z Bool.false_ne_true, hx0.2.2.2.1, Kp.rf⟩) | (rw [p_b, if_neg p7, if_neg p36, if_pos c105, p_nt]; exact ⟨Or.inr ⟨rfl, Bool.false_ne_true⟩, fun z => absurd z Bool.false_ne_true, u109.2.1 rfl, u109.2.2⟩) | (rw [p_b, if_neg p7, if_neg p36, if_neg c105, if_pos c145, p_pa]; exact ⟨Or.inr ⟨rfl, Bool.false_ne_true⟩, fun z => absurd z Bool.false_ne_true, u149.2.1 rfl, u149.2.2⟩)
        · refine lv_aload_n hx hb dX5_one_148 rfl (hl.at rfl) ?_
          refine m_iV hC hK hP hS (met_opens (d := 0) hx0 (by omega) (by omega)) cv_X5_167 rfl rfl hl.1 (Nat.le_of_ble_eq_true rfl) dX5_one_149 (by omega) (by decide) (fun r149 σ149 H locs p149 hP hS => ?_)
          rcases p149 with ⟨⟨rfl, p149⟩ | ⟨rfl, p149⟩, u149⟩
          · exact absurd p149 (by decide)
          · refine l_ifeq_0 hx hb 171 dX5_one_152 rfl ?_
            refine lv_iconst (v := nI 0) hx hb dX5_one_171 rfl ?_
            refine hret _ _ ls _ _ _ hP hS dX5_one_172 (by first | exact Or.inl rfl | exact Or.inr rfl) ?_
            first | (rw [p_b, if_pos p7]; exact ⟨Or.inl ⟨rfl, rfl⟩, fun _ => (hx0.at (a + 1)).st p26.1 p26.2, ((hx0.at (a + 1)).st p26.1 p26.2).2.2.2.1, (Kp.rf.up (by decide)).tr (p26.2.mono (by decide))⟩) | (rw [p_b, if_neg p7, if_pos p36, ← hRe, ← gE, eR]; exact ⟨Or.inl ⟨rfl, rfl⟩, fun _ => gx.st p97.1 p97.2, (gx.st p97.1 p97.2).2.2.2.1, hk.tr (p97.2.mono (by decide))⟩) | (rw [p_b, if_neg p7, if_neg p36, if_neg c105, if_neg c145]; exact ⟨Or.inr ⟨rfl, Bool.false_ne_true⟩, fun z => absurd z Bool.false_ne_true, hx0.2.2.2.1, Kp.rf⟩) | (rw [p_b, if_neg p7, if_neg p36, if_pos c105, p_nt]; exact ⟨Or.inr ⟨rfl, Bool.false_ne_true⟩, fun z => absurd z Bool.false_ne_true, u109.2.1 rfl, u109.2.2⟩) | (rw [p_b, if_neg p7, if_neg p36, if_neg c105, if_pos c145, p_pa]; exact ⟨Or.inr ⟨rfl, Bool.false_ne_true⟩, fun z => absurd z Bool.false_ne_true, u149.2.1 rfl, u149.2.2⟩)
      · refine lv_aload_n hx hb dX5_one_108 rfl (hl.at rfl) ?_
        refine m_iV hC hK hP hS (met_opens (d := 0) hx0 (by omega) (by omega)) cv_X5_167 rfl rfl hl.1 (Nat.le_of_ble_eq_true rfl) dX5_one_109 (by omega) (by decide) (fun r109 σ109 H locs p109 hP hS => ?_)
        rcases p109 with ⟨⟨rfl, p109⟩ | ⟨rfl, p109⟩, u109⟩
        · exact absurd p109 (by decide)
        · refine l_ifeq_0 hx hb 122 dX5_one_112 rfl ?_
          refine lv_iconst (v := nI 0) hx hb dX5_one_122 rfl ?_
          refine hret _ _ ls _ _ _ hP hS dX5_one_123 (by first | exact Or.inl rfl | exact Or.inr rfl) ?_
          first | (rw [p_b, if_pos p7]; exact ⟨Or.inl ⟨rfl, rfl⟩, fun _ => (hx0.at (a + 1)).st p26.1 p26.2, ((hx0.at (a + 1)).st p26.1 p26.2).2.2.2.1, (Kp.rf.up (by decide)).tr (p26.2.mono (by decide))⟩) | (rw [p_b, if_neg p7, if_pos p36, ← hRe, ← gE, eR]; exact ⟨Or.inl ⟨rfl, rfl⟩, fun _ => gx.st p97.1 p97.2, (gx.st p97.1 p97.2).2.2.2.1, hk.tr (p97.2.mono (by decide))⟩) | (rw [p_b, if_neg p7, if_neg p36, if_neg c105, if_neg c145]; exact ⟨Or.inr ⟨rfl, Bool.false_ne_true⟩, fun z => absurd z Bool.false_ne_true, hx0.2.2.2.1, Kp.rf⟩) | (rw [p_b, if_neg p7, if_neg p36, if_pos c105, p_nt]; exact ⟨Or.inr ⟨rfl, Bool.false_ne_true⟩, fun z => absurd z Bool.false_ne_true, u109.2.1 rfl, u109.2.2⟩) | (rw [p_b, if_neg p7, if_neg p36, if_neg c105, if_pos c145, p_pa]; exact ⟨Or.inr ⟨rfl, Bool.false_ne_true⟩, fun z => absurd z Bool.false_ne_true, u149.2.1 rfl, u149.2.2⟩)
theorem cv_X5_170 : CV RX5 RX5 170 yX5_whole cX5_whole 1 (some .boolean) 0 := ⟨lw_V q1531 q1533 qs54 q88 q1534, by decide +kernel⟩
theorem met_one_s {l : Launch} {D : va_G} {cA : Nat → ClassId} {b : Nat} {σ : Nat → Nat → Int32} {f0 tp : Nat → Int32} {u N a : Nat} {ll : PL_} (dp : Nat) (hdp : 1 ≤ dp) (htp : TPo N tp f0) (hu2 : u < 2) {d : Nat} {p0 : PP} (hd : d + 1 ≤ 5) (dq : Nat) (hdq : dq ≤ dp) (dw : Nat) (hdw : dw ≤ dp) (hq : PM N p0) (h1 : PC l D cA b f0 u d N yX5_one cX5_one 4 dq p0) (hw : PC l D cA b f0 u d N yX5_whole cX5_whole 1 dw (p_whole N tp p0)) (hx0 : PSx f0 u (d + 1) σ a ll) (ha : a ≤ N) (hl0 : ll.length ≤ a) : MI l D cA b yX5_one cX5_one 4 (some .boolean) (dp + 1) [.ref b] σ (pcPost f0 u (d + 1) σ (p_b u N tp (some p0) a ll)) := by
  refine Ci.ofz rfl (by decide +kernel) (Nat.le_of_ble_eq_true rfl) ?_
  intro p e s m args below meth c Q hC hK hP hret ls hl
  have hx := hC.1
  have hb := hC.2.1
  have hown := hC.2.2.2.1
  have hts := hC.2.2.2.2
  have hS : va_S (mA b) s.heap s.heap [] := va_S.rf
  have hN60 := htp.2.2
  refine lv_aload_n hx hb dX5_one_0 rfl (hl.at rfl) ?_
  refine m_pV hC hK hP (met_look (a := a) hx0.1 htp hx0.2.2.2.1 ha) cv_X5_141 rfl rfl hl.1 (Nat.le_of_ble_eq_true rfl) dX5_one_1 (by omega) (by decide) (fun r1 p1 => ?_)
  subst p1
  refine l_istore_n hx hb 1 dX5_one_4 rfl hl rfl (fun ls hl => ?_)
  refine lv_aload_n hx hb dX5_one_5 rfl (hl.at rfl) ?_
  refine lv_iload_n hx hb dX5_one_6 rfl (hl.at rfl) ?_
  refine m_pV hC hK hP (met_isName hx0.2.1 hu2) cv_X5_164 rfl rfl hl.1 (Nat.le_of_ble_eq_true rfl) dX5_one_7 (by omega) (by decide) (fun r7 p7 => ?_)
  rcases p7 with ⟨rfl, p7⟩ | ⟨rfl, p7⟩
  · refine l_ifeq_1 hx hb 31 dX5_one_10 rfl ?_
    refine lv_aload_n hx hb dX5_one_13 rfl (hl.at rfl) ?_
    refine lv_dup hx hb dX5_one_14 rfl ?_
    refine mg_at hC hK hP dX5_one_15 ?_
    have hlt := op_lt (op := isNb u) (isNb_m u) p7
    refine l_top (nI a) hx0.2.2.2.1 ?_
    refine lv_iconst (v := nI 1) hx hb dX5_one_18 rfl ?_
    refine l_addN hx hb dX5_one_19 ?_
    refine mp_at hC hK hP hS dX5_one_20 (fun H locs hP hS => ?_)
    refine lv_aload_n hx hb dX5_one_23 rfl (hl.at rfl) ?_
    refine lv_iconst (v := nI 1) hx hb dX5_one_24 rfl ?_
    refine lv_iload_n hx hb dX5_one_25 rfl (hl.at rfl) ?_
    refine m_vV hC hK hP hS (met_step1 (hx0.at (a + 1)).2.2.2.2 (by omega)) cv_X5_145 rfl rfl hl.1 (Nat.le_of_ble_eq_true rfl) dX5_one_26 (by omega) (by decide) (fun σ26 H locs p26 hP hS => ?_)
    refine lv_iconst (v := nI 1) hx hb dX5_one_29 rfl ?_
    refine hret _ _ ls _ _ _ hP hS dX5_one_30 (by first | exact Or.inl rfl | exact Or.inr rfl) ?_
    first | (rw [p_b, if_pos p7]; exact ⟨Or.inl ⟨rfl, rfl⟩, fun _ => (hx0.at (a + 1)).st p26.1 p26.2, ((hx0.at (a + 1)).st p26.1 p26.2).2.2.2.1, (Kp.rf.up (by decide)).tr (p26.2.mono (by decide))⟩) | (rw [p_b, if_neg p7, if_pos p36, ← hRe, ← gE, eR]; exact ⟨Or.inl ⟨rfl, rfl⟩, fun _ => gx.st p97.1 p97.2, (gx.st p97.1 p97.2).2.2.2.1, hk.tr (p97.2.mono (by decide))⟩) | (rw [p_b, if_neg p7, if_neg p36, if_neg c105, if_neg c145]; exact ⟨Or.inr ⟨rfl, Bool.false_ne_true⟩, fun z => absurd z Bool.false_ne_true, hx0.2.2.2.1, Kp.rf⟩) | (rw [p_b, if_neg p7, if_neg p36, if_pos c105, p_nt]; simp only [if_neg p116]; exact ⟨Or.inr ⟨rfl, Bool.false_ne_true⟩, fun z => absurd z Bool.false_ne_true, u116.2.1, u109.2.2.tr u116.2.2⟩) | (rw [p_b, if_neg p7, if_neg p36, if_pos c105, p_nt]; simp only [if_pos p116]; exact ⟨Or.inl ⟨rfl, rfl⟩, fun _ => hx4, hx4.2.2.2.1, ((u109.2.2.tr u116.2.2).up (by decide)).tr (p137.2.mono (by decide))⟩) | (rw [p_b, if_neg p7, if_neg p36, if_neg c105, if_pos c145, p_pa]; simp only [if_neg p156]; exact ⟨Or.inr ⟨rfl, Bool.false_ne_true⟩, fun z => absurd z Bool.false_ne_true, u156.2.1, u149.2.2.tr u156.2.2⟩) | (rw [p_b, if_neg p7, if_neg p36, if_neg c105, if_pos c145, p_pa]; simp only [if_pos p156, if_neg c168]; exact ⟨Or.inr ⟨rfl, Bool.false_ne_true⟩, fun z => absurd z Bool.false_ne_true, u156.2.1, u149.2.2.tr u156.2.2⟩) | (rw [p_b, if_neg p7, if_neg p36, if_neg c105, if_pos c145, p_pa]; simp only [if_pos p156, if_pos c168]; exact ⟨Or.inl ⟨rfl, rfl⟩, fun _ => hx4, rfl, ((u149.2.2.tr u156.2.2).up (by decide)).up (by decide)⟩)
  · refine l_ifeq_0 hx hb 31 dX5_one_10 rfl ?_
    refine lv_iload_n hx hb dX5_one_31 rfl (hl.at rfl) ?_
    refine lv_bipush (v := nI 48) hx hb dX5_one_32 rfl ?_
    refine lv_bipush (v := nI 57) hx hb dX5_one_34 rfl ?_
    refine m_sS hC (met_in ) cs_X5_56 rfl rfl hl.1 (Nat.le_of_ble_eq_true rfl) dX5_one_36 (by omega) (by decide) (fun r36 p36 => ?_)
    rcases p36 with ⟨rfl, p36⟩ | ⟨rfl, p36⟩
    · obtain ⟨R, hRe⟩ : ∃ R, R = p_num N tp 4 a (nI 0) := ⟨_, rfl⟩
      obtain ⟨hlt, -, -⟩ := num_lt p36
      refine l_ifeq_1 hx hb 102 dX5_one_39 rfl ?_
      refine lv_iconst (v := nI 0) hx hb dX5_one_42 rfl ?_
      refine l_istore_n hx hb 2 dX5_one_43 rfl hl rfl (fun ls hl => ?_)
      refine lv_iconst (v := nI 0) hx hb dX5_one_44 rfl ?_
      refine l_istore_n hx hb 3 dX5_one_45 rfl hl rfl (fun ls hl => ?_)
      have loop : ∀ (m0 k a2 : Nat) (v : Int32) (τ : Sta), k ≤ 4 → 5 ≤ k + m0 → a2 ≤ N → PSx f0 u (d + 1) τ a2 ll → p_num N tp (4 - k) a2 v = R → Kp [4, 16, 17, 18] σ τ → ∀ (H : Heap) (locs : List Loc) (ls : Array Slot), MWP D cA b τ H → va_S (mA b) s.heap H locs → lh ls [some (.ref b), some (.int (lk N tp a)), some (.int v), some (.int (nI k))] → W p l e (rmG (dp + 1) 0 0) s m args below meth c H locs 0 0 Q (F0 m 46 ls []) := by
        intro m0
        induction m0 with
        | zero => intro k a2 v τ h1 h2; exact absurd h2 (by omega)
        | succ m0 ih =>
          intro k a2 v τ g1 g2 g3 gx gE hk H locs ls hP hS hl
          refine lv_iload_n hx hb dX5_one_46 rfl (hl.at rfl) ?_
          refine lv_iconst (v := nI 4) hx hb dX5_one_47 rfl ?_
          refine l_geN hx hb 94 dX5_one_48 rfl (by omega) (by omega) (fun c48 => ?_) (fun c48 => ?_)
          · have eR : p_num N tp (4 - k) a2 v = (a2, v) := by rw [show 4 - k = 0 by omega, p_num]
            refine lv_aload_n hx hb dX5_one_94 rfl (hl.at rfl) ?_
            refine lv_iconst (v := nI 0) hx hb dX5_one_95 rfl ?_
            refine lv_iload_n hx hb dX5_one_96 rfl (hl.at rfl) ?_
            refine m_vV hC hK hP hS (met_step1 gx.2.2.2.2 (by omega)) cv_X5_145 rfl rfl hl.1 (Nat.le_of_ble_eq_true rfl) dX5_one_97 (by omega) (by decide) (fun σ97 H locs p97 hP hS => ?_)
            refine lv_iconst (v := nI 1) hx hb dX5_one_100 rfl ?_
            refine hret _ _ ls _ _ _ hP hS dX5_one_101 (by first | exact Or.inl rfl | exact Or.inr rfl) ?_
            first | (rw [p_b, if_pos p7]; exact ⟨Or.inl ⟨rfl, rfl⟩, fun _ => (hx0.at (a + 1)).st p26.1 p26.2, ((hx0.at (a + 1)).st p26.1 p26.2).2.2.2.1, (Kp.rf.up (by decide)).tr (p26.2.mono (by decide))⟩) | (rw [p_b, if_neg p7, if_pos p36, ← hRe, ← gE, eR]; exact ⟨Or.inl ⟨rfl, rfl⟩, fun _ => gx.st p97.1 p97.2, (gx.st p97.1 p97.2).2.2.2.1, hk.tr (p97.2.mono (by decide))⟩) | (rw [p_b, if_neg p7, if_neg p36, if_neg c105, if_neg c145]; exact ⟨Or.inr ⟨rfl, Bool.false_ne_true⟩, fun z => absurd z Bool.false_ne_true, hx0.2.2.2.1, Kp.rf⟩) | (rw [p_b, if_neg p7, if_neg p36, if_pos c105, p_nt]; simp only [if_neg p116]; exact ⟨Or.inr ⟨rfl, Bool.false_ne_true⟩, fun z => absurd z Bool.false_ne_true, u116.2.1, u109.2.2.tr u116.2.2⟩) | (rw [p_b, if_neg p7, if_neg p36, if_pos c105, p_nt]; simp only [if_pos p116]; exact ⟨Or.inl ⟨rfl, rfl⟩, fun _ => hx4, hx4.2.2.2.1, ((u109.2.2.tr u116.2.2).up (by decide)).tr (p137.2.mono (by decide))⟩) | (rw [p_b, if_neg p7, if_neg p36, if_neg c105, if_pos c145, p_pa]; simp only [if_neg p156]; exact ⟨Or.inr ⟨rfl, Bool.false_ne_true⟩, fun z => absurd z Bool.false_ne_true, u156.2.1, u149.2.2.tr u156.2.2⟩) | (rw [p_b, if_neg p7, if_neg p36, if_neg c105, if_pos c145, p_pa]; simp only [if_pos p156, if_neg c168]; exact ⟨Or.inr ⟨rfl, Bool.false_ne_true⟩, fun z => absurd z Bool.false_ne_true, u156.2.1, u149.2.2.tr u156.2.2⟩) | (rw [p_b, if_neg p7, if_neg p36, if_neg c105, if_pos c145, p_pa]; simp only [if_pos p156, if_pos c168]; exact ⟨Or.inl ⟨rfl, rfl⟩, fun _ => hx4, rfl, ((u149.2.2.tr u156.2.2).up (by decide)).up (by decide)⟩)
          · refine lv_aload_n hx hb dX5_one_51 rfl (hl.at rfl) ?_
            refine m_pV hC hK hP (met_look (a := a2) gx.1 htp gx.2.2.2.1 g3) cv_X5_141 rfl rfl hl.1 (Nat.le_of_ble_eq_true rfl) dX5_one_52 (by omega) (by decide) (fun r52 p52 => ?_)
            subst p52
            refine lv_bipush (v := nI 48) hx hb dX5_one_55 rfl ?_
            refine lv_bipush (v := nI 57) hx hb dX5_one_57 rfl ?_
            refine m_sS hC (met_in ) cs_X5_56 rfl rfl hl.1 (Nat.le_of_ble_eq_true rfl) dX5_one_59 (by omega) (by decide) (fun r59 p59 => ?_)
            rcases p59 with ⟨rfl, p59⟩ | ⟨rfl, p59⟩
            · obtain ⟨hlt2, -, -⟩ := num_lt p59
              refine l_ifeq_1 hx hb 94 dX5_one_62 rfl ?_
              refine lv_bipush (v := nI 10) hx hb dX5_one_65 rfl ?_
              refine lv_iload_n hx hb dX5_one_67 rfl (hl.at rfl) ?_
              refine lv_imul hx hb dX5_one_68 ?_
              refine lv_aload_n hx hb dX5_one_69 rfl (hl.at rfl) ?_
              refine m_pV hC hK hP (met_look (a := a2) gx.1 htp gx.2.2.2.1 g3) cv_X5_141 rfl rfl hl.1 (Nat.le_of_ble_eq_true rfl) dX5_one_70 (by omega) (by decide) (fun r70 p70 => ?_)
              subst p70
              refine lv_iadd hx hb dX5_one_73 ?_
              refine lv_bipush (v := nI 48) hx hb dX5_one_74 rfl ?_
              refine lv_isub hx hb dX5_one_76 ?_
              refine l_istore_n hx hb 2 dX5_one_77 rfl hl rfl (fun ls hl => ?_)
              refine lv_aload_n hx hb dX5_one_78 rfl (hl.at rfl) ?_
              refine lv_dup hx hb dX5_one_79 rfl ?_
              refine mg_at hC hK hP dX5_one_80 ?_
              refine l_top (nI a2) gx.2.2.2.1 ?_
              refine lv_iconst (v := nI 1) hx hb dX5_one_83 rfl ?_
              refine l_addN hx hb dX5_one_84 ?_
              refine mp_at hC hK hP hS dX5_one_85 (fun H locs hP hS => ?_)
              refine l_inc1 hx hb 3 dX5_one_88 hl rfl rfl (fun ls hl => ?_)
              refine lv_goto (tgt := 46) hx hb dX5_one_91 rfl ?_
              exact ih (k + 1) (a2 + 1) _ _ (by omega) (by omega) (by omega) (gx.at (a2 + 1)) (by rw [show 4 - k = (4 - (k + 1)) + 1 by omega, p_num, if_pos p59] at gE; exact gE) (hk.up (by decide)) _ _ _ hP hS hl
            · have eR : p_num N tp (4 - k) a2 v = (a2, v) := by rw [show 4 - k = (4 - (k + 1)) + 1 by omega, p_num, if_neg p59]
              refine l_ifeq_0 hx hb 94 dX5_one_62 rfl ?_
              refine lv_aload_n hx hb dX5_one_94 rfl (hl.at rfl) ?_
              refine lv_iconst (v := nI 0) hx hb dX5_one_95 rfl ?_
              refine lv_iload_n hx hb dX5_one_96 rfl (hl.at rfl) ?_
              refine m_vV hC hK hP hS (met_step1 gx.2.2.2.2 (by omega)) cv_X5_145 rfl rfl hl.1 (Nat.le_of_ble_eq_true rfl) dX5_one_97 (by omega) (by decide) (fun σ97 H locs p97 hP hS => ?_)
              refine lv_iconst (v := nI 1) hx hb dX5_one_100 rfl ?_
              refine hret _ _ ls _ _ _ hP hS dX5_one_101 (by first | exact Or.inl rfl | exact Or.inr rfl) ?_
              first | (rw [p_b, if_pos p7]; exact ⟨Or.inl ⟨rfl, rfl⟩, fun _ => (hx0.at (a + 1)).st p26.1 p26.2, ((hx0.at (a + 1)).st p26.1 p26.2).2.2.2.1, (Kp.rf.up (by decide)).tr (p26.2.mono (by decide))⟩) | (rw [p_b, if_neg p7, if_pos p36, ← hRe, ← gE, eR]; exact ⟨Or.inl ⟨rfl, rfl⟩, fun _ => gx.st p97.1 p97.2, (gx.st p97.1 p97.2).2.2.2.1, hk.tr (p97.2.mono (by decide))⟩) | (rw [p_b, if_neg p7, if_neg p36, if_neg c105, if_neg c145]; exact ⟨Or.inr ⟨rfl, Bool.false_ne_true⟩, fun z => absurd z Bool.false_ne_true, hx0.2.2.2.1, Kp.rf⟩) | (rw [p_b, if_neg p7, if_neg p36, if_pos c105, p_nt]; simp only [if_neg p116]; exact ⟨Or.inr ⟨rfl, Bool.false_ne_true⟩, fun z => absurd z Bool.false_ne_true, u116.2.1, u109.2.2.tr u116.2.2⟩) | (rw [p_b, if_neg p7, if_neg p36, if_pos c105, p_nt]; simp only [if_pos p116]; exact ⟨Or.inl ⟨rfl, rfl⟩, fun _ => hx4, hx4.2.2.2.1, ((u109.2.2.tr u116.2.2).up (by decide)).tr (p137.2.mono (by decide))⟩) | (rw [p_b, if_neg p7, if_neg p36, if_neg c105, if_pos c145, p_pa]; simp only [if_neg p156]; exact ⟨Or.inr ⟨rfl, Bool.false_ne_true⟩, fun z => absurd z Bool.false_ne_true, u156.2.1, u149.2.2.tr u156.2.2⟩) | (rw [p_b, if_neg p7, if_neg p36, if_neg c105, if_pos c145, p_pa]; simp only [if_pos p156, if_neg c168]; exact ⟨Or.inr ⟨rfl, Bool.false_ne_true⟩, fun z => absurd z Bool.false_ne_true, u156.2.1, u149.2.2.tr u156.2.2⟩) | (rw [p_b, if_neg p7, if_neg p36, if_neg c105, if_pos c145, p_pa]; simp only [if_pos p156, if_pos c168]; exact ⟨Or.inl ⟨rfl, rfl⟩, fun _ => hx4, rfl, ((u149.2.2.tr u156.2.2).up (by decide)).up (by decide)⟩)
      exact loop 5 0 a _ _ (by omega) (by omega) ha hx0 hRe.symm Kp.rf _ _ _ hP hS hl
    · refine l_ifeq_0 hx hb 102 dX5_one_39 rfl ?_
      refine lv_iload_n hx hb dX5_one_102 rfl (hl.at rfl) ?_
      refine lv_bipush (v := nI 33) hx hb dX5_one_103 rfl ?_
      refine lv_icmp_ne (tgt := 142) hx hb dX5_one_105 rfl (fun c105 => ?_) (fun c105 => ?_)
      · refine lv_iload_n hx hb dX5_one_142 rfl (hl.at rfl) ?_
        refine lv_bipush (v := nI 40) hx hb dX5_one_143 rfl ?_
        refine lv_icmp_ne (tgt := 171) hx hb dX5_one_145 rfl (fun c145 => ?_) (fun c145 => ?_)
        · refine lv_iconst (v := nI 0) hx hb dX5_one_171 rfl ?_
          refine hret _ _ ls _ _ _ hP hS dX5_one_172 (by first | exact Or.inl rfl | exact Or.inr rfl) ?_
          first | (rw [p_b, if_pos p7]; exact ⟨Or.inl ⟨rfl, rfl⟩, fun _ => (hx0.at (a + 1)).st p26.1 p26.2, ((hx0.at (a + 1)).st p26.1 p26.2).2.2.2.1, (Kp.rf.up (by decide)).tr (p26.2.mono (by decide))⟩) | (rw [p_b, if_neg p7, if_pos p36, ← hRe, ← gE, eR]; exact ⟨Or.inl ⟨rfl, rfl⟩, fun _ => gx.st p97.1 p97.2, (gx.st p97.1 p97.2).2.2.2.1, hk.tr (p97.2.mono (by decide))⟩) | (rw [p_b, if_neg p7, if_neg p36, if_neg c105, if_neg c145]; exact ⟨Or.inr ⟨rfl, Bool.false_ne_true⟩, fun z => absurd z Bool.false_ne_true, hx0.2.2.2.1, Kp.rf⟩) | (rw [p_b, if_neg p7, if_neg p36, if_pos c105, p_nt]; simp only [if_neg p116]; exact ⟨Or.inr ⟨rfl, Bool.false_ne_true⟩, fun z => absurd z Bool.false_ne_true, u116.2.1, u109.2.2.tr u116.2.2⟩) | (rw [p_b, if_neg p7, if_neg p36, if_pos c105, p_nt]; simp only [if_pos p116]; exact ⟨Or.inl ⟨rfl, rfl⟩, fun _ => hx4, hx4.2.2.2.1, ((u109.2.2.tr u116.2.2).up (by decide)).tr (p137.2.mono (by decide))⟩) | (rw [p_b, if_neg p7, if_neg p36, if_neg c105, if_pos c145, p_pa]; simp only [if_neg p156]; exact ⟨Or.inr ⟨rfl, Bool.false_ne_true⟩, fun z => absurd z Bool.false_ne_true, u156.2.1, u149.2.2.tr u156.2.2⟩) | (rw [p_b, if_neg p7, if_neg p36, if_neg c105, if_pos c145, p_pa]; simp only [if_pos p156, if_neg c168]; exact ⟨Or.inr ⟨rfl, Bool.false_ne_true⟩, fun z => absurd z Bool.false_ne_true, u156.2.1, u149.2.2.tr u156.2.2⟩) | (rw [p_b, if_neg p7, if_neg p36, if_neg c105, if_pos c145, p_pa]; simp only [if_pos p156, if_pos c168]; exact ⟨Or.inl ⟨rfl, rfl⟩, fun _ => hx4, rfl, ((u149.2.2.tr u156.2.2).up (by decide)).up (by decide)⟩)
        · refine lv_aload_n hx hb dX5_one_148 rfl (hl.at rfl) ?_
          refine m_iV hC hK hP hS (met_opens (d := (d + 1)) hx0 (by omega) (by omega)) cv_X5_167 rfl rfl hl.1 (Nat.le_of_ble_eq_true rfl) dX5_one_149 (by omega) (by decide) (fun r149 σ149 H locs p149 hP hS => ?_)
          rcases p149 with ⟨⟨rfl, p149⟩ | ⟨rfl, p149⟩, u149⟩
          · have hlt : a < N := lk_lt (tp := tp) (fun z => by rw [z] at c145; exact absurd c145 (by decide))
            have hx1 := u149.1 p149
            have m1 := pm_whole (tp := tp) hq (a + 1) ll (by omega)
            refine l_ifeq_1 hx hb 171 dX5_one_152 rfl ?_
            refine lv_aload_n hx hb dX5_one_155 rfl (hl.at rfl) ?_
            refine m_iV hC hK hP hS (hw _ (a + 1) ll hx1 (by omega) (by omega)) cv_X5_170 rfl rfl hl.1 (Nat.le_of_ble_eq_true rfl) dX5_one_156 (by omega) (by decide) (fun r156 σ156 H locs p156 hP hS => ?_)
            rcases p156 with ⟨⟨rfl, p156⟩ | ⟨rfl, p156⟩, u156⟩
            · have hx2 := u156.1 p156
              refine l_ifeq_1 hx hb 171 dX5_one_159 rfl ?_
              refine lv_aload_n hx hb dX5_one_162 rfl (hl.at rfl) ?_
              refine m_pV hC hK hP (met_look (a := (p_whole N tp p0 (a + 1) ll).2.1) hx2.1 htp hx2.2.2.2.1 m1.2.1) cv_X5_141 rfl rfl hl.1 (Nat.le_of_ble_eq_true rfl) dX5_one_163 (by omega) (by decide) (fun r163 p163 => ?_)
              subst p163
              refine lv_bipush (v := nI 41) hx hb dX5_one_166 rfl ?_
              refine lv_icmp_eq (tgt := 173) hx hb dX5_one_168 rfl (fun c168 => ?_) (fun c168 => ?_)
              · refine lv_aload_n hx hb dX5_one_173 rfl (hl.at rfl) ?_
                refine lv_dup hx hb dX5_one_174 rfl ?_
                refine mg_at hC hK hP dX5_one_175 ?_
                refine l_top (nI (p_whole N tp p0 (a + 1) ll).2.1) hx2.2.2.2.1 ?_
                refine lv_iconst (v := nI 1) hx hb dX5_one_178 rfl ?_
                refine l_addN hx hb dX5_one_179 ?_
                refine mp_at hC hK hP hS dX5_one_180 (fun H locs hP hS => ?_)
                refine lv_aload_n hx hb dX5_one_183 rfl (hl.at rfl) ?_
                refine lv_dup hx hb dX5_one_184 rfl ?_
                refine mg_open hC hK hP dX5_one_185 ?_
                refine l_top (nI (5 - d)) hx2.2.2.1 ?_
                refine lv_iconst (v := nI 1) hx hb dX5_one_188 rfl ?_
                refine l_subN hx hb dX5_one_189 (by omega) ?_
                refine mp_open hC hK hP hS dX5_one_190 (fun H locs hP hS => ?_)
                have hx4 : PSx f0 u (d + 1) (up1 (up1 σ156 16 (fun _ => nI ((p_whole N tp p0 (a + 1) ll).2.1 + 1))) 17 (fun _ => nI (5 - d - 1))) ((p_whole N tp p0 (a + 1) ll).2.1 + 1) (p_whole N tp p0 (a + 1) ll).2.2 := by rw [show 5 - d - 1 = 5 - (d + 1) by omega]; exact (hx2.at ((p_whole N tp p0 (a + 1) ll).2.1 + 1)).op (d + 1)
                refine lv_iconst (v := nI 1) hx hb dX5_one_193 rfl ?_
                refine hret _ _ ls _ _ _ hP hS dX5_one_194 (by first | exact Or.inl rfl | exact Or.inr rfl) ?_
                first | (rw [p_b, if_pos p7]; exact ⟨Or.inl ⟨rfl, rfl⟩, fun _ => (hx0.at (a + 1)).st p26.1 p26.2, ((hx0.at (a + 1)).st p26.1 p26.2).2.2.2.1, (Kp.rf.up (by decide)).tr (p26.2.mono (by decide))⟩) | (rw [p_b, if_neg p7, if_pos p36, ← hRe, ← gE, eR]; exact ⟨Or.inl ⟨rfl, rfl⟩, fun _ => gx.st p97.1 p97.2, (gx.st p97.1 p97.2).2.2.2.1, hk.tr (p97.2.mono (by decide))⟩) | (rw [p_b, if_neg p7, if_neg p36, if_neg c105, if_neg c145]; exact ⟨Or.inr ⟨rfl, Bool.false_ne_true⟩, fun z => absurd z Bool.false_ne_true, hx0.2.2.2.1, Kp.rf⟩) | (rw [p_b, if_neg p7, if_neg p36, if_pos c105, p_nt]; simp only [if_neg p116]; exact ⟨Or.inr ⟨rfl, Bool.false_ne_true⟩, fun z => absurd z Bool.false_ne_true, u116.2.1, u109.2.2.tr u116.2.2⟩) | (rw [p_b, if_neg p7, if_neg p36, if_pos c105, p_nt]; simp only [if_pos p116]; exact ⟨Or.inl ⟨rfl, rfl⟩, fun _ => hx4, hx4.2.2.2.1, ((u109.2.2.tr u116.2.2).up (by decide)).tr (p137.2.mono (by decide))⟩) | (rw [p_b, if_neg p7, if_neg p36, if_neg c105, if_pos c145, p_pa]; simp only [if_neg p156]; exact ⟨Or.inr ⟨rfl, Bool.false_ne_true⟩, fun z => absurd z Bool.false_ne_true, u156.2.1, u149.2.2.tr u156.2.2⟩) | (rw [p_b, if_neg p7, if_neg p36, if_neg c105, if_pos c145, p_pa]; simp only [if_pos p156, if_neg c168]; exact ⟨Or.inr ⟨rfl, Bool.false_ne_true⟩, fun z => absurd z Bool.false_ne_true, u156.2.1, u149.2.2.tr u156.2.2⟩) | (rw [p_b, if_neg p7, if_neg p36, if_neg c105, if_pos c145, p_pa]; simp only [if_pos p156, if_pos c168]; exact ⟨Or.inl ⟨rfl, rfl⟩, fun _ => hx4, rfl, ((u149.2.2.tr u156.2.2).up (by decide)).up (by decide)⟩)
              · refine lv_iconst (v := nI 0) hx hb dX5_one_171 rfl ?_
                refine hret _ _ ls _ _ _ hP hS dX5_one_172 (by first | exact Or.inl rfl | exact Or.inr rfl) ?_
                first | (rw [p_b, if_pos p7]; exact ⟨Or.inl ⟨rfl, rfl⟩, fun _ => (hx0.at (a + 1)).st p26.1 p26.2, ((hx0.at (a + 1)).st p26.1 p26.2).2.2.2.1, (Kp.rf.up (by decide)).tr (p26.2.mono (by decide))⟩) | (rw [p_b, if_neg p7, if_pos p36, ← hRe, ← gE, eR]; exact ⟨Or.inl ⟨rfl, rfl⟩, fun _ => gx.st p97.1 p97.2, (gx.st p97.1 p97.2).2.2.2.1, hk.tr (p97.2.mono (by decide))⟩) | (rw [p_b, if_neg p7, if_neg p36, if_neg c105, if_neg c145]; exact ⟨Or.inr ⟨rfl, Bool.false_ne_true⟩, fun z => absurd z Bool.false_ne_true, hx0.2.2.2.1, Kp.rf⟩) | (rw [p_b, if_neg p7, if_neg p36, if_pos c105, p_nt]; simp only [if_neg p116]; exact ⟨Or.inr ⟨rfl, Bool.false_ne_true⟩, fun z => absurd z Bool.false_ne_true, u116.2.1, u109.2.2.tr u116.2.2⟩) | (rw [p_b, if_neg p7, if_neg p36, if_pos c105, p_nt]; simp only [if_pos p116]; exact ⟨Or.inl ⟨rfl, rfl⟩, fun _ => hx4, hx4.2.2.2.1, ((u109.2.2.tr u116.2.2).up (by decide)).tr (p137.2.mono (by decide))⟩) | (rw [p_b, if_neg p7, if_neg p36, if_neg c105, if_pos c145, p_pa]; simp only [if_neg p156]; exact ⟨Or.inr ⟨rfl, Bool.false_ne_true⟩, fun z => absurd z Bool.false_ne_true, u156.2.1, u149.2.2.tr u156.2.2⟩) | (rw [p_b, if_neg p7, if_neg p36, if_neg c105, if_pos c145, p_pa]; simp only [if_pos p156, if_neg c168]; exact ⟨Or.inr ⟨rfl, Bool.false_ne_true⟩, fun z => absurd z Bool.false_ne_true, u156.2.1, u149.2.2.tr u156.2.2⟩) | (rw [p_b, if_neg p7, if_neg p36, if_neg c105, if_pos c145, p_pa]; simp only [if_pos p156, if_pos c168]; exact ⟨Or.inl ⟨rfl, rfl⟩, fun _ => hx4, rfl, ((u149.2.2.tr u156.2.2).up (by decide)).up (by decide)⟩)
            · refine l_ifeq_0 hx hb 171 dX5_one_159 rfl ?_
              refine lv_iconst (v := nI 0) hx hb dX5_one_171 rfl ?_
              refine hret _ _ ls _ _ _ hP hS dX5_one_172 (by first | exact Or.inl rfl | exact Or.inr rfl) ?_
              first | (rw [p_b, if_pos p7]; exact ⟨Or.inl ⟨rfl, rfl⟩, fun _ => (hx0.at (a + 1)).st p26.1 p26.2, ((hx0.at (a + 1)).st p26.1 p26.2).2.2.2.1, (Kp.rf.up (by decide)).tr (p26.2.mono (by decide))⟩) | (rw [p_b, if_neg p7, if_pos p36, ← hRe, ← gE, eR]; exact ⟨Or.inl ⟨rfl, rfl⟩, fun _ => gx.st p97.1 p97.2, (gx.st p97.1 p97.2).2.2.2.1, hk.tr (p97.2.mono (by decide))⟩) | (rw [p_b, if_neg p7, if_neg p36, if_neg c105, if_neg c145]; exact ⟨Or.inr ⟨rfl, Bool.false_ne_true⟩, fun z => absurd z Bool.false_ne_true, hx0.2.2.2.1, Kp.rf⟩) | (rw [p_b, if_neg p7, if_neg p36, if_pos c105, p_nt]; simp only [if_neg p116]; exact ⟨Or.inr ⟨rfl, Bool.false_ne_true⟩, fun z => absurd z Bool.false_ne_true, u116.2.1, u109.2.2.tr u116.2.2⟩) | (rw [p_b, if_neg p7, if_neg p36, if_pos c105, p_nt]; simp only [if_pos p116]; exact ⟨Or.inl ⟨rfl, rfl⟩, fun _ => hx4, hx4.2.2.2.1, ((u109.2.2.tr u116.2.2).up (by decide)).tr (p137.2.mono (by decide))⟩) | (rw [p_b, if_neg p7, if_neg p36, if_neg c105, if_pos c145, p_pa]; simp only [if_neg p156]; exact ⟨Or.inr ⟨rfl, Bool.false_ne_true⟩, fun z => absurd z Bool.false_ne_true, u156.2.1, u149.2.2.tr u156.2.2⟩) | (rw [p_b, if_neg p7, if_neg p36, if_neg c105, if_pos c145, p_pa]; simp only [if_pos p156, if_neg c168]; exact ⟨Or.inr ⟨rfl, Bool.false_ne_true⟩, fun z => absurd z Bool.false_ne_true, u156.2.1, u149.2.2.tr u156.2.2⟩) | (rw [p_b, if_neg p7, if_neg p36, if_neg c105, if_pos c145, p_pa]; simp only [if_pos p156, if_pos c168]; exact ⟨Or.inl ⟨rfl, rfl⟩, fun _ => hx4, rfl, ((u149.2.2.tr u156.2.2).up (by decide)).up (by decide)⟩)
          · exact absurd (Nat.succ_pos d) p149
      · refine lv_aload_n hx hb dX5_one_108 rfl (hl.at rfl) ?_
        refine m_iV hC hK hP hS (met_opens (d := (d + 1)) hx0 (by omega) (by omega)) cv_X5_167 rfl rfl hl.1 (Nat.le_of_ble_eq_true rfl) dX5_one_109 (by omega) (by decide) (fun r109 σ109 H locs p109 hP hS => ?_)
        rcases p109 with ⟨⟨rfl, p109⟩ | ⟨rfl, p109⟩, u109⟩
        · have hlt : a < N := lk_lt (tp := tp) (fun z => by rw [z] at c105; exact absurd c105 (by decide))
          have hx1 := u109.1 p109
          have m1 := hq (a + 1) ll (by omega)
          refine l_ifeq_1 hx hb 122 dX5_one_112 rfl ?_
          refine lv_aload_n hx hb dX5_one_115 rfl (hl.at rfl) ?_
          refine m_iV hC hK hP hS (h1 _ (a + 1) ll hx1 (by omega) (by omega)) cv_X5_158 rfl rfl hl.1 (Nat.le_of_ble_eq_true rfl) dX5_one_116 (by omega) (by decide) (fun r116 σ116 H locs p116 hP hS => ?_)
          rcases p116 with ⟨⟨rfl, p116⟩ | ⟨rfl, p116⟩, u116⟩
          · have hx2 := u116.1 p116
            refine l_ifne_1 hx hb 124 dX5_one_119 rfl ?_
            refine lv_aload_n hx hb dX5_one_124 rfl (hl.at rfl) ?_
            refine lv_dup hx hb dX5_one_125 rfl ?_
            refine mg_open hC hK hP dX5_one_126 ?_
            refine l_top (nI (5 - d)) hx2.2.2.1 ?_
            refine lv_iconst (v := nI 1) hx hb dX5_one_129 rfl ?_
            refine l_subN hx hb dX5_one_130 (by omega) ?_
            refine mp_open hC hK hP hS dX5_one_131 (fun H locs hP hS => ?_)
            have hx3 : PSx f0 u (d + 1) (up1 σ116 17 (fun _ => nI (5 - d - 1))) (p0 (a + 1) ll).2.1 (p0 (a + 1) ll).2.2 := by rw [show 5 - d - 1 = 5 - (d + 1) by omega]; exact hx2.op (d + 1)
            refine lv_aload_n hx hb dX5_one_134 rfl (hl.at rfl) ?_
            refine lv_iconst (v := nI 2) hx hb dX5_one_135 rfl ?_
            refine lv_iconst (v := nI 0) hx hb dX5_one_136 rfl ?_
            refine m_vV hC hK hP hS (met_step1 hx3.2.2.2.2 (by have := m1.2.2 p116; have := m1.2.1; omega)) cv_X5_145 rfl rfl hl.1 (Nat.le_of_ble_eq_true rfl) dX5_one_137 (by omega) (by decide) (fun σ137 H locs p137 hP hS => ?_)
            have hx4 := hx3.st p137.1 p137.2
            refine lv_iconst (v := nI 1) hx hb dX5_one_140 rfl ?_
            refine hret _ _ ls _ _ _ hP hS dX5_one_141 (by first | exact Or.inl rfl | exact Or.inr rfl) ?_
            first | (rw [p_b, if_pos p7]; exact ⟨Or.inl ⟨rfl, rfl⟩, fun _ => (hx0.at (a + 1)).st p26.1 p26.2, ((hx0.at (a + 1)).st p26.1 p26.2).2.2.2.1, (Kp.rf.up (by decide)).tr (p26.2.mono (by decide))⟩) | (rw [p_b, if_neg p7, if_pos p36, ← hRe, ← gE, eR]; exact ⟨Or.inl ⟨rfl, rfl⟩, fun _ => gx.st p97.1 p97.2, (gx.st p97.1 p97.2).2.2.2.1, hk.tr (p97.2.mono (by decide))⟩) | (rw [p_b, if_neg p7, if_neg p36, if_neg c105, if_neg c145]; exact ⟨Or.inr ⟨rfl, Bool.false_ne_true⟩, fun z => absurd z Bool.false_ne_true, hx0.2.2.2.1, Kp.rf⟩) | (rw [p_b, if_neg p7, if_neg p36, if_pos c105, p_nt]; simp only [if_neg p116]; exact ⟨Or.inr ⟨rfl, Bool.false_ne_true⟩, fun z => absurd z Bool.false_ne_true, u116.2.1, u109.2.2.tr u116.2.2⟩) | (rw [p_b, if_neg p7, if_neg p36, if_pos c105, p_nt]; simp only [if_pos p116]; exact ⟨Or.inl ⟨rfl, rfl⟩, fun _ => hx4, hx4.2.2.2.1, ((u109.2.2.tr u116.2.2).up (by decide)).tr (p137.2.mono (by decide))⟩) | (rw [p_b, if_neg p7, if_neg p36, if_neg c105, if_pos c145, p_pa]; simp only [if_neg p156]; exact ⟨Or.inr ⟨rfl, Bool.false_ne_true⟩, fun z => absurd z Bool.false_ne_true, u156.2.1, u149.2.2.tr u156.2.2⟩) | (rw [p_b, if_neg p7, if_neg p36, if_neg c105, if_pos c145, p_pa]; simp only [if_pos p156, if_neg c168]; exact ⟨Or.inr ⟨rfl, Bool.false_ne_true⟩, fun z => absurd z Bool.false_ne_true, u156.2.1, u149.2.2.tr u156.2.2⟩) | (rw [p_b, if_neg p7, if_neg p36, if_neg c105, if_pos c145, p_pa]; simp only [if_pos p156, if_pos c168]; exact ⟨Or.inl ⟨rfl, rfl⟩, fun _ => hx4, rfl, ((u149.2.2.tr u156.2.2).up (by decide)).up (by decide)⟩)
          · refine l_ifne_0 hx hb 124 dX5_one_119 rfl ?_
            refine lv_iconst (v := nI 0) hx hb dX5_one_122 rfl ?_
            refine hret _ _ ls _ _ _ hP hS dX5_one_123 (by first | exact Or.inl rfl | exact Or.inr rfl) ?_
            first | (rw [p_b, if_pos p7]; exact ⟨Or.inl ⟨rfl, rfl⟩, fun _ => (hx0.at (a + 1)).st p26.1 p26.2, ((hx0.at (a + 1)).st p26.1 p26.2).2.2.2.1, (Kp.rf.up (by decide)).tr (p26.2.mono (by decide))⟩) | (rw [p_b, if_neg p7, if_pos p36, ← hRe, ← gE, eR]; exact ⟨Or.inl ⟨rfl, rfl⟩, fun _ => gx.st p97.1 p97.2, (gx.st p97.1 p97.2).2.2.2.1, hk.tr (p97.2.mono (by decide))⟩) | (rw [p_b, if_neg p7, if_neg p36, if_neg c105, if_neg c145]; exact ⟨Or.inr ⟨rfl, Bool.false_ne_true⟩, fun z => absurd z Bool.false_ne_true, hx0.2.2.2.1, Kp.rf⟩) | (rw [p_b, if_neg p7, if_neg p36, if_pos c105, p_nt]; simp only [if_neg p116]; exact ⟨Or.inr ⟨rfl, Bool.false_ne_true⟩, fun z => absurd z Bool.false_ne_true, u116.2.1, u109.2.2.tr u116.2.2⟩) | (rw [p_b, if_neg p7, if_neg p36, if_pos c105, p_nt]; simp only [if_pos p116]; exact ⟨Or.inl ⟨rfl, rfl⟩, fun _ => hx4, hx4.2.2.2.1, ((u109.2.2.tr u116.2.2).up (by decide)).tr (p137.2.mono (by decide))⟩) | (rw [p_b, if_neg p7, if_neg p36, if_neg c105, if_pos c145, p_pa]; simp only [if_neg p156]; exact ⟨Or.inr ⟨rfl, Bool.false_ne_true⟩, fun z => absurd z Bool.false_ne_true, u156.2.1, u149.2.2.tr u156.2.2⟩) | (rw [p_b, if_neg p7, if_neg p36, if_neg c105, if_pos c145, p_pa]; simp only [if_pos p156, if_neg c168]; exact ⟨Or.inr ⟨rfl, Bool.false_ne_true⟩, fun z => absurd z Bool.false_ne_true, u156.2.1, u149.2.2.tr u156.2.2⟩) | (rw [p_b, if_neg p7, if_neg p36, if_neg c105, if_pos c145, p_pa]; simp only [if_pos p156, if_pos c168]; exact ⟨Or.inl ⟨rfl, rfl⟩, fun _ => hx4, rfl, ((u149.2.2.tr u156.2.2).up (by decide)).up (by decide)⟩)
        · exact absurd (Nat.succ_pos d) p109
theorem pc_prod {l : Launch} {D : va_G} {cA : Nat → ClassId} {b : Nat} {f0 tp : Nat → Int32} {u N : Nat} {d : Nat} {q : PP} (dp : Nat) (hdp : 1 ≤ dp) (htp : TPo N tp f0) (hq : PM N q) (h1 : PC l D cA b f0 u d N yX5_one cX5_one 4 dp q) : PC l D cA b f0 u d N yX5_product cX5_product 2 (dp + 1) (p_prod N tp q) := fun σ a ll hx ha hl => met_product dp hdp htp hq h1 hx ha hl
theorem pc_sum {l : Launch} {D : va_G} {cA : Nat → ClassId} {b : Nat} {f0 tp : Nat → Int32} {u N : Nat} {d : Nat} {q : PP} (dp : Nat) (hdp : 1 ≤ dp) (htp : TPo N tp f0) (hq : PM N q) (h1 : PC l D cA b f0 u d N yX5_one cX5_one 4 dp q) : PC l D cA b f0 u d N yX5_sum cX5_sum 2 (dp + 1 + 1) (p_sum N tp q) := fun σ a ll hx ha hl => met_sum (dp + 1) (by omega) htp (pm_prod hq) (pc_prod dp hdp htp hq h1) hx ha hl
theorem pc_cmp {l : Launch} {D : va_G} {cA : Nat → ClassId} {b : Nat} {f0 tp : Nat → Int32} {u N : Nat} {d : Nat} {q : PP} (dp : Nat) (hdp : 1 ≤ dp) (htp : TPo N tp f0) (hq : PM N q) (h1 : PC l D cA b f0 u d N yX5_one cX5_one 4 dp q) : PC l D cA b f0 u d N yX5_compared cX5_compared 2 (dp + 1 + 1 + 1) (p_cmp N tp q) := fun σ a ll hx ha hl => met_compared (dp + 1 + 1) (by omega) htp (pm_sum hq) (pc_sum dp hdp htp hq h1) hx ha hl
theorem pc_both {l : Launch} {D : va_G} {cA : Nat → ClassId} {b : Nat} {f0 tp : Nat → Int32} {u N : Nat} {d : Nat} {q : PP} (dp : Nat) (hdp : 1 ≤ dp) (htp : TPo N tp f0) (hq : PM N q) (h1 : PC l D cA b f0 u d N yX5_one cX5_one 4 dp q) : PC l D cA b f0 u d N yX5_both cX5_both 1 (dp + 1 + 1 + 1 + 1) (p_both N tp q) := fun σ a ll hx ha hl => met_both (dp + 1 + 1 + 1) (by omega) htp (pm_cmp (pm_sum hq)) (pc_cmp dp hdp htp hq h1) hx ha hl
theorem pc_whole {l : Launch} {D : va_G} {cA : Nat → ClassId} {b : Nat} {f0 tp : Nat → Int32} {u N : Nat} {d : Nat} {q : PP} (dp : Nat) (hdp : 1 ≤ dp) (htp : TPo N tp f0) (hq : PM N q) (h1 : PC l D cA b f0 u d N yX5_one cX5_one 4 dp q) : PC l D cA b f0 u d N yX5_whole cX5_whole 1 (dp + 1 + 1 + 1 + 1 + 1) (p_whole N tp q) := fun σ a ll hx ha hl => met_whole (dp + 1 + 1 + 1 + 1) (by omega) htp (pm_both hq) (pc_both dp hdp htp hq h1) hx ha hl
theorem pc_one {l : Launch} {D : va_G} {cA : Nat → ClassId} {b : Nat} {f0 tp : Nat → Int32} {u N : Nat} (htp : TPo N tp f0) (hu2 : u < 2) : ∀ d, d ≤ 5 → PC l D cA b f0 u d N yX5_one cX5_one 4 (2 + 6 * d) (p_one u N tp d)
  | 0, _ => fun σ a ll hx ha hl => met_one_z 1 (by decide) htp hu2 hx ha hl
  | d + 1, h => fun σ a ll hx ha hl => met_one_s (2 + 6 * d + 5) (by omega) htp hu2 h (2 + 6 * d) (by omega) (2 + 6 * d + 5) (by omega) (pm_one d) (pc_one htp hu2 d (by omega)) (pc_whole (2 + 6 * d) (by omega) htp (pm_one d) (pc_one htp hu2 d (by omega))) hx ha hl
theorem met_whole5 {l : Launch} {D : va_G} {cA : Nat → ClassId} {b : Nat} {f0 tp : Nat → Int32} {u N : Nat} {σ : Sta} (htp : TPo N tp f0) (hu2 : u < 2) (hx : PSx f0 u 5 σ 0 []) : MI l D cA b yX5_whole cX5_whole 1 (some .boolean) 37 [.ref b] σ (pcPost f0 u 5 σ (p_whole N tp (p_one u N tp 5) 0 [])) := pc_whole 32 (by decide) htp (pm_one 5) (pc_one htp hu2 5 (by decide)) σ 0 [] hx (Nat.zero_le _) (Nat.zero_le _)
theorem met_text {l : Launch} {D : va_G} {cA : Nat → ClassId} {b : Nat} {σ : Nat → Nat → Int32} {x : Int32} {T : Tta} (hT : RT σ T) (hI : Inv (T 0)) : MI l D cA b yX5_text cX5_text 5 (some .int) (38) [.ref b, .int x] σ (fun r τ => r = (op_text x T).1 ∧ RT τ (op_text x T).2) := by
  refine Ci.of rfl (by decide +kernel) (Nat.le_of_ble_eq_true rfl) ?_
  intro p e s m args below meth c Q hC hK hP hret ls hl
  have hx := hC.1
  have hb := hC.2.1
  have hown := hC.2.2.2.1
  have hts := hC.2.2.2.2
  have hS : va_S (mA b) s.heap s.heap [] := va_S.rf
  obtain ⟨eT0, hT0⟩ := inv_tp hI
  have htp : TPo (tpd (T 0)) (T 0 14) (σ 0) := ⟨(hT.1.at 0 3 (n := 3) (by decide) rfl).trans eT0, fun j hj => hT.1.at 14 j (by show j < 60; omega) (by show 365 + j = 365 + 1 * j; omega), hT0⟩
  refine lv_iload_n hx hb dX5_text_0 rfl (hl.at rfl) ?_
  refine lv_iconst (v := nI 0) hx hb dX5_text_1 rfl ?_
  refine lv_iconst (v := nI 1) hx hb dX5_text_2 rfl ?_
  refine m_sS hC (met_in ) cs_X5_56 rfl rfl hl.1 (Nat.le_of_ble_eq_true rfl) dX5_text_3 (by decide) (by decide) (fun r3 p3 => ?_)
  rcases p3 with ⟨rfl, p3⟩ | ⟨rfl, p3⟩
  · obtain ⟨k0, hk0, rfl⟩ := in_nI p3
    refine l_ifne_1 hx hb 15 dX5_text_6 rfl ?_
    refine lv_aload_n hx hb dX5_text_15 rfl (hl.at rfl) ?_
    refine lv_iload_n hx hb dX5_text_16 rfl (hl.at rfl) ?_
    refine mp_use hC hK hP hS dX5_text_17 (fun H locs hP hS => ?_)
    refine lv_aload_n hx hb dX5_text_20 rfl (hl.at rfl) ?_
    refine lv_iconst (v := nI 0) hx hb dX5_text_21 rfl ?_
    refine mp_at hC hK hP hS dX5_text_22 (fun H locs hP hS => ?_)
    refine lv_aload_n hx hb dX5_text_25 rfl (hl.at rfl) ?_
    refine lv_iconst (v := nI 0) hx hb dX5_text_26 rfl ?_
    refine mp_open hC hK hP hS dX5_text_27 (fun H locs hP hS => ?_)
    refine lv_aload_n hx hb dX5_text_30 rfl (hl.at rfl) ?_
    refine lv_iconst (v := nI 0) hx hb dX5_text_31 rfl ?_
    refine mp_steps hC hK hP hS dX5_text_32 (fun H locs hP hS => ?_)
    refine lv_aload_n hx hb dX5_text_35 rfl (hl.at rfl) ?_
    refine m_iV hC hK hP hS (met_whole5 (u := k0) htp (by omega) ⟨rfl, rfl, rfl, rfl, rfl, fun k w v h => by cases h⟩) cv_X5_170 rfl rfl hl.1 (Nat.le_of_ble_eq_true rfl) dX5_text_36 (by decide) (by decide) (fun r36 σ36 H locs p36 hP hS => ?_)
    rcases p36 with ⟨⟨rfl, p36⟩ | ⟨rfl, p36⟩, u36⟩
    · have hx2 := u36.1 p36
      have mw := pm_whole (tp := T 0 14) (pm_one (u := k0) (tp := T 0 14) 5) 0 [] (Nat.zero_le (tpd (T 0)))
      have mw1 := mw.2.1
      have mw2 := mw.2.2 p36
      obtain ⟨LN, eLN⟩ : ∃ LN, LN = (p_whole (tpd (T 0)) (T 0 14) (p_one k0 (tpd (T 0)) (T 0 14) 5) 0 []).2.2.length := ⟨_, rfl⟩
      rw [← eLN] at mw2
      have mw2 : LN ≤ (p_whole (tpd (T 0)) (T 0 14) (p_one k0 (tpd (T 0)) (T 0 14) 5) 0 []).2.1 := by simpa using mw2
      refine l_ifeq_1 hx hb 59 dX5_text_39 rfl ?_
      refine lv_aload_n hx hb dX5_text_42 rfl (hl.at rfl) ?_
      refine mg_at hC hK hP dX5_text_43 ?_
      refine l_top _ hx2.2.2.2.1 ?_
      refine lv_aload_n hx hb dX5_text_46 rfl (hl.at rfl) ?_
      refine mg_s hC hK hP dX5_text_47 ?_
      refine lv_iconst (v := nI 3) hx hb dX5_text_50 rfl ?_
      refine m_ld 0 _ (by decide) hC hK hP (rfl) (show _ < 449 by omega) dX5_text_51 ?_
      refine l_top (nI (tpd (T 0))) ((congrFun hx2.1 3).trans htp.1) ?_
      refine l_neN hx hb 59 dX5_text_52 rfl (by omega) (by omega) (fun c52 => ?_) (fun c52 => ?_)
      · refine lv_iconst (v := nI 0) hx hb dX5_text_59 rfl ?_
        refine l_istore_n hx hb 2 dX5_text_60 rfl hl rfl (fun ls hl => ?_)
        refine lv_aload_n hx hb dX5_text_61 rfl (hl.at rfl) ?_
        refine mg_s hC hK hP dX5_text_62 ?_
        refine lv_iconst (v := nI 3) hx hb dX5_text_65 rfl ?_
        refine lv_iconst (v := nI 0) hx hb dX5_text_66 rfl ?_
        refine m_st 0 _ (by decide) hC hK hP hS (rfl) (show _ < 449 by omega) dX5_text_67 (fun H locs hP hS => ?_)
        refine lv_iload_n hx hb dX5_text_68 rfl (hl.at rfl) ?_
        refine lv_if_ne (tgt := 80) hx hb dX5_text_69 rfl (fun z => absurd rfl z) (fun _ => ?_)
        refine lv_bipush (v := -10) hx hb dX5_text_72 rfl ?_
        refine lv_aload_n hx hb dX5_text_74 rfl (hl.at rfl) ?_
        refine mg_at hC hK hP dX5_text_75 ?_
        refine l_top _ u36.2.1 ?_
        refine lv_isub hx hb dX5_text_78 ?_
        refine hret _ _ ls _ _ _ hP hS dX5_text_79 ?_
        first | (rw [op_text, if_neg p3]; exact p11) | (rw [op_text, if_pos p3, cn_nI (by omega), p_text, if_neg p36]; exact ⟨rfl, hT.S (by rw [up1_s, u36.2.2 0 (by decide)]; exact hT.1.set (i := 0) (j := 3) (by decide) rfl) ((((((Kp.rf.up (by decide)).up (by decide)).up (by decide)).up (by decide) : Kp [0, 4, 16, 17, 18, 19] σ _).tr (u36.2.2.mono (by decide))).up (by decide) |>.mono (by decide))⟩) | (rw [op_text, if_pos p3, cn_nI (by omega), p_text, if_pos p36, if_neg c52]; exact ⟨rfl, hT.S (by rw [up1_s, u36.2.2 0 (by decide)]; exact hT.1.set (i := 0) (j := 3) (by decide) rfl) ((((((Kp.rf.up (by decide)).up (by decide)).up (by decide)).up (by decide) : Kp [0, 4, 16, 17, 18, 19] σ _).tr (u36.2.2.mono (by decide))).up (by decide) |>.mono (by decide))⟩) | (rw [op_text, if_pos p3, cn_nI (by omega), p_text, if_pos p36, if_pos c52]; exact ⟨rfl, hT.S h9 (hk.mono (by decide))⟩)
      · refine lv_iconst (v := nI 1) hx hb dX5_text_55 rfl ?_
        refine lv_goto (tgt := 60) hx hb dX5_text_56 rfl ?_
        refine l_istore_n hx hb 2 dX5_text_60 rfl hl rfl (fun ls hl => ?_)
        refine lv_aload_n hx hb dX5_text_61 rfl (hl.at rfl) ?_
        refine mg_s hC hK hP dX5_text_62 ?_
        refine lv_iconst (v := nI 3) hx hb dX5_text_65 rfl ?_
        refine lv_iconst (v := nI 0) hx hb dX5_text_66 rfl ?_
        refine m_st 0 _ (by decide) hC hK hP hS (rfl) (show _ < 449 by omega) dX5_text_67 (fun H locs hP hS => ?_)
        refine lv_iload_n hx hb dX5_text_68 rfl (hl.at rfl) ?_
        refine lv_if_ne (tgt := 80) hx hb dX5_text_69 rfl (fun _ => ?_) (fun z => absurd z (by decide))
        refine lv_bipush (v := nI 115) hx hb dX5_text_80 rfl ?_
        refine lv_bipush (v := nI 125) hx hb dX5_text_82 rfl ?_
        refine lv_iload_n hx hb dX5_text_84 rfl (hl.at rfl) ?_
        refine l_mulN hx hb dX5_text_85 ?_
        refine l_addN hx hb dX5_text_86 ?_
        refine l_istore_n hx hb 3 dX5_text_87 rfl hl rfl (fun ls hl => ?_)
        refine lv_aload_n hx hb dX5_text_88 rfl (hl.at rfl) ?_
        refine mg_s hC hK hP dX5_text_89 ?_
        refine lv_iload_n hx hb dX5_text_92 rfl (hl.at rfl) ?_
        refine lv_aload_n hx hb dX5_text_93 rfl (hl.at rfl) ?_
        refine mg_steps hC hK hP dX5_text_94 ?_
        refine l_top (nI LN) (by rw [eLN]; exact hx2.2.2.2.2.1) ?_
        refine m_st 0 _ (by decide) hC hK hP hS (rfl) (show _ < 449 by omega) dX5_text_97 (fun H locs hP hS => ?_)
        refine lv_iconst (v := nI 0) hx hb dX5_text_98 rfl ?_
        refine l_istore hx hb 4 dX5_text_99 hl rfl (fun ls hl => ?_)
        have loop : ∀ (m0 k : Nat) (τ : Sta), k ≤ 2 * LN → 2 * LN + 1 ≤ k + m0 → Kp [0, 4, 16, 17, 18, 19] σ τ → τ 4 = σ36 4 → τ 18 0 = nI LN → (∀ n, n < 449 → τ 0 n = if 115 + 125 * k0 + 1 ≤ n ∧ n < 115 + 125 * k0 + 1 + k then σ36 4 (n - (115 + 125 * k0 + 1)) else upd (upd (σ 0) 3 (nI 0)) (115 + 125 * k0) (nI LN) n) → ∀ (H : Heap) (locs : List Loc) (ls : Array Slot), MWP D cA b τ H → va_S (mA b) s.heap H locs → lh ls [some (.ref b), some (.int (nI k0)), some (.int (nI 1)), some (.int (nI (115 + 125 * k0))), some (.int (nI k))] → W p l e (rmG 38 0 0) s m args below meth c H locs 0 0 Q (F0 m 101 ls []) := by
          intro m0
          induction m0 with
          | zero => intro k τ h1 h2; exact absurd h2 (by omega)
          | succ m0 ih =>
            intro k τ g1 g2 hk h4 h18 hn H locs ls hP hS hl
            refine lv_iload hx hb dX5_text_101 (hl.at rfl) ?_
            refine lv_iconst (v := nI 2) hx hb dX5_text_103 rfl ?_
            refine lv_aload_n hx hb dX5_text_104 rfl (hl.at rfl) ?_
            refine mg_steps hC hK hP dX5_text_105 ?_
            refine l_top (nI LN) h18 ?_
            refine l_mulN hx hb dX5_text_108 ?_
            refine l_geN hx hb 136 dX5_text_109 rfl (by omega) (by omega) (fun c109 => ?_) (fun c109 => ?_)
            · have e5 : k = 2 * LN := by omega
              subst e5
              have h9 := tx_RM (f' := τ 0) (u := k0) (S := up2 (T 0) 0 3 (nI 0)) (by omega) (hT.1.set (i := 0) (j := 3) (n := 3) (v := nI 0) (by decide) rfl) hx2.2.2.2.2 (by omega) (by rw [hn _ (by omega), if_neg (by omega), pk_us, eLN]) (fun q hq => by rw [hn _ (by omega), if_pos (by omega), show 115 + 125 * k0 + 1 + q - (115 + 125 * k0 + 1) = q by omega]) (fun n hn1 hn2 => by rw [hn n hn1, if_neg (by omega), pk_un (by omega)])
              rw [up2_row (by omega)] at h9
              refine lv_iconst (v := nI 1) hx hb dX5_text_136 rfl ?_
              refine hret _ _ ls _ _ _ hP hS dX5_text_137 ?_
              first | (rw [op_text, if_neg p3]; exact p11) | (rw [op_text, if_pos p3, cn_nI (by omega), p_text, if_neg p36]; exact ⟨rfl, hT.S (by rw [up1_s, u36.2.2 0 (by decide)]; exact hT.1.set (i := 0) (j := 3) (by decide) rfl) ((((((Kp.rf.up (by decide)).up (by decide)).up (by decide)).up (by decide) : Kp [0, 4, 16, 17, 18, 19] σ _).tr (u36.2.2.mono (by decide))).up (by decide) |>.mono (by decide))⟩) | (rw [op_text, if_pos p3, cn_nI (by omega), p_text, if_pos p36, if_neg c52]; exact ⟨rfl, hT.S (by rw [up1_s, u36.2.2 0 (by decide)]; exact hT.1.set (i := 0) (j := 3) (by decide) rfl) ((((((Kp.rf.up (by decide)).up (by decide)).up (by decide)).up (by decide) : Kp [0, 4, 16, 17, 18, 19] σ _).tr (u36.2.2.mono (by decide))).up (by decide) |>.mono (by decide))⟩) | (rw [op_text, if_pos p3, cn_nI (by omega), p_text, if_pos p36, if_pos c52]; exact ⟨rfl, hT.S h9 (hk.mono (by decide))⟩)
            · refine lv_aload_n hx hb dX5_text_112 rfl (hl.at rfl) ?_
              refine mg_s hC hK hP dX5_text_113 ?_
              refine lv_iload_n hx hb dX5_text_116 rfl (hl.at rfl) ?_
              refine lv_iconst (v := nI 1) hx hb dX5_text_117 rfl ?_
              refine l_addN hx hb dX5_text_118 ?_
              refine lv_iload hx hb dX5_text_119 (hl.at rfl) ?_
              refine l_addN hx hb dX5_text_121 ?_
              refine lv_aload_n hx hb dX5_text_122 rfl (hl.at rfl) ?_
              refine mg_step hC hK hP dX5_text_123 ?_
              refine lv_iload hx hb dX5_text_126 (hl.at rfl) ?_
              refine m_ld 4 _ (by decide) hC hK hP (rfl) (show _ < 124 by omega) dX5_text_128 ?_
              refine m_st 0 _ (by decide) hC hK hP hS (rfl) (show _ < 449 by omega) dX5_text_129 (fun H locs hP hS => ?_)
              refine l_inc1 hx hb 4 dX5_text_130 hl rfl rfl (fun ls hl => ?_)
              refine lv_goto (tgt := 101) hx hb dX5_text_133 rfl ?_
              exact ih (k + 1) _ (by omega) (by omega) (hk.up (by decide)) (by exact h4) (by exact h18) (fun n hn1 => by rw [up1_s]; by_cases e : n = 115 + 125 * k0 + 1 + k; (rw [e, pk_us, if_pos (by omega), h4, show 115 + 125 * k0 + 1 + k - (115 + 125 * k0 + 1) = k by omega]); (rw [pk_un e, hn n hn1]; by_cases e2 : 115 + 125 * k0 + 1 ≤ n ∧ n < 115 + 125 * k0 + 1 + k; (rw [if_pos e2, if_pos (by omega)]); (rw [if_neg e2, if_neg (by omega)]))) _ _ _ hP hS hl
        exact loop (2 * LN + 1) 0 _ (Nat.zero_le _) (by omega) (((((((Kp.rf.up (by decide)).up (by decide)).up (by decide)).up (by decide)).tr (u36.2.2.mono (by decide))).up (by decide)).up (by decide)) rfl (by rw [eLN]; exact hx2.2.2.2.2.1) (fun n hn1 => by rw [if_neg (by omega), up1_s, up1_s, hx2.1]) _ _ _ hP hS hl
    · refine l_ifeq_0 hx hb 59 dX5_text_39 rfl ?_
      refine lv_iconst (v := nI 0) hx hb dX5_text_59 rfl ?_
      refine l_istore_n hx hb 2 dX5_text_60 rfl hl rfl (fun ls hl => ?_)
      refine lv_aload_n hx hb dX5_text_61 rfl (hl.at rfl) ?_
      refine mg_s hC hK hP dX5_text_62 ?_
      refine lv_iconst (v := nI 3) hx hb dX5_text_65 rfl ?_
      refine lv_iconst (v := nI 0) hx hb dX5_text_66 rfl ?_
      refine m_st 0 _ (by decide) hC hK hP hS (rfl) (show _ < 449 by omega) dX5_text_67 (fun H locs hP hS => ?_)
      refine lv_iload_n hx hb dX5_text_68 rfl (hl.at rfl) ?_
      refine lv_if_ne (tgt := 80) hx hb dX5_text_69 rfl (fun z => absurd rfl z) (fun _ => ?_)
      refine lv_bipush (v := -10) hx hb dX5_text_72 rfl ?_
      refine lv_aload_n hx hb dX5_text_74 rfl (hl.at rfl) ?_
      refine mg_at hC hK hP dX5_text_75 ?_
      refine l_top _ u36.2.1 ?_
      refine lv_isub hx hb dX5_text_78 ?_
      refine hret _ _ ls _ _ _ hP hS dX5_text_79 ?_
      first | (rw [op_text, if_neg p3]; exact p11) | (rw [op_text, if_pos p3, cn_nI (by omega), p_text, if_neg p36]; exact ⟨rfl, hT.S (by rw [up1_s, u36.2.2 0 (by decide)]; exact hT.1.set (i := 0) (j := 3) (by decide) rfl) ((((((Kp.rf.up (by decide)).up (by decide)).up (by decide)).up (by decide) : Kp [0, 4, 16, 17, 18, 19] σ _).tr (u36.2.2.mono (by decide))).up (by decide) |>.mono (by decide))⟩) | (rw [op_text, if_pos p3, cn_nI (by omega), p_text, if_pos p36, if_neg c52]; exact ⟨rfl, hT.S (by rw [up1_s, u36.2.2 0 (by decide)]; exact hT.1.set (i := 0) (j := 3) (by decide) rfl) ((((((Kp.rf.up (by decide)).up (by decide)).up (by decide)).up (by decide) : Kp [0, 4, 16, 17, 18, 19] σ _).tr (u36.2.2.mono (by decide))).up (by decide) |>.mono (by decide))⟩) | (rw [op_text, if_pos p3, cn_nI (by omega), p_text, if_pos p36, if_pos c52]; exact ⟨rfl, hT.S h9 (hk.mono (by decide))⟩)
  · refine l_ifne_0 hx hb 15 dX5_text_6 rfl ?_
    refine lv_aload_n hx hb dX5_text_9 rfl (hl.at rfl) ?_
    refine lv_iconst (v := nI 1) hx hb dX5_text_10 rfl ?_
    refine m_iV hC hK hP hS (met_error hT rfl (by decide)) cv_X5_76 rfl rfl hl.1 (Nat.le_of_ble_eq_true rfl) dX5_text_11 (by decide) (by decide) (fun r11 σ11 H locs p11 hP hS => ?_)
    refine hret _ _ ls _ _ _ hP hS dX5_text_14 ?_
    first | (rw [op_text, if_neg p3]; exact p11) | (rw [op_text, if_pos p3, cn_nI (by omega), p_text, if_neg p36]; exact ⟨rfl, hT.S (by rw [up1_s, u36.2.2 0 (by decide)]; exact hT.1.set (i := 0) (j := 3) (by decide) rfl) ((((((Kp.rf.up (by decide)).up (by decide)).up (by decide)).up (by decide) : Kp [0, 4, 16, 17, 18, 19] σ _).tr (u36.2.2.mono (by decide))).up (by decide) |>.mono (by decide))⟩) | (rw [op_text, if_pos p3, cn_nI (by omega), p_text, if_pos p36, if_neg c52]; exact ⟨rfl, hT.S (by rw [up1_s, u36.2.2 0 (by decide)]; exact hT.1.set (i := 0) (j := 3) (by decide) rfl) ((((((Kp.rf.up (by decide)).up (by decide)).up (by decide)).up (by decide) : Kp [0, 4, 16, 17, 18, 19] σ _).tr (u36.2.2.mono (by decide))).up (by decide) |>.mono (by decide))⟩) | (rw [op_text, if_pos p3, cn_nI (by omega), p_text, if_pos p36, if_pos c52]; exact ⟨rfl, hT.S h9 (hk.mono (by decide))⟩)
