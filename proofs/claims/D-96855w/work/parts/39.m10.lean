theorem cs_X5_281 : CS RX5 281 yX5_isSheet cX5_isSheet 1 (some .boolean) 1 := ⟨lw_S q1721 q1722 q88 q1723, by decide +kernel⟩
theorem met_sheet {l : Launch} {D : va_G} {cA : Nat → ClassId} {b : Nat} {σ : Nat → Nat → Int32} {x bt n : Int32} {T : Tta} (hT : RT σ T) : MI l D cA b yX5_sheet cX5_sheet 5 (some .int) (2) [.ref b, .int x, .int bt, .int n] σ (fun r τ => r = (op_sheet x bt n T).1 ∧ RT τ (op_sheet x bt n T).2) := by
  refine Ci.of rfl (by decide +kernel) (Nat.le_of_ble_eq_true rfl) ?_
  intro p e s m args below meth c Q hC hK hP hret ls hl
  have hx := hC.1
  have hb := hC.2.1
  have hown := hC.2.2.2.1
  have hts := hC.2.2.2.2
  have hS : va_S (mA b) s.heap s.heap [] := va_S.rf
  refine lv_iload_n hx hb dX5_sheet_0 rfl (hl.at rfl) ?_
  refine m_sS hC (met_isSheet ) cs_X5_281 rfl rfl hl.1 (Nat.le_of_ble_eq_true rfl) dX5_sheet_1 (by decide) (by decide) (fun r1 p1 => ?_)
  rcases p1 with ⟨rfl, p1⟩ | ⟨rfl, p1⟩
  · obtain ⟨k, hk, rfl⟩ := in_nI p1
    refine l_ifeq_1 hx hb 29 dX5_sheet_4 rfl ?_
    refine lv_iload_n hx hb dX5_sheet_7 rfl (hl.at rfl) ?_
    refine lv_if_eq (tgt := 35) hx hb dX5_sheet_8 rfl (fun c8 => ?_) (fun c8 => ?_)
    · refine lv_iload_n hx hb dX5_sheet_35 rfl (hl.at rfl) ?_
      refine lv_if_eq (tgt := 49) hx hb dX5_sheet_36 rfl (fun c36 => ?_) (fun c36 => ?_)
      · refine lv_iload_n hx hb dX5_sheet_49 rfl (hl.at rfl) ?_
        refine lv_if_eq (tgt := 65) hx hb dX5_sheet_50 rfl (fun c50 => ?_) (fun c50 => ?_)
        · refine lv_aload_n hx hb dX5_sheet_65 rfl (hl.at rfl) ?_
          refine mg_bits hC hK hP dX5_sheet_66 ?_
          refine lv_iload_n hx hb dX5_sheet_69 rfl (hl.at rfl) ?_
          refine lv_iload_n hx hb dX5_sheet_70 rfl (hl.at rfl) ?_
          refine m_st 11 _ (by decide) hC hK hP hS (rfl) (show _ < 4 by omega) dX5_sheet_71 (fun H locs hP hS => ?_)
          refine lv_aload_n hx hb dX5_sheet_72 rfl (hl.at rfl) ?_
          refine mg_sizes hC hK hP dX5_sheet_73 ?_
          refine lv_iload_n hx hb dX5_sheet_76 rfl (hl.at rfl) ?_
          refine lv_iload_n hx hb dX5_sheet_77 rfl (hl.at rfl) ?_
          refine lv_if_ne (tgt := 85) hx hb dX5_sheet_78 rfl (fun c78 => ?_) (fun c78 => ?_)
          · exact absurd c8 c78
          · refine lv_iconst (v := nI 0) hx hb dX5_sheet_81 rfl ?_
            refine lv_goto (tgt := 86) hx hb dX5_sheet_82 rfl ?_
            first | refine l_top (if bt = 0 then nI 0 else n) (by rw [if_pos c8]) ?_ | refine l_top (if bt = 0 then nI 0 else n) (by rw [if_neg c8]) ?_
            refine m_st 12 _ (by decide) hC hK hP hS (rfl) (show _ < 4 by omega) dX5_sheet_86 (fun H locs hP hS => ?_)
            refine lv_iconst (v := nI 0) hx hb dX5_sheet_87 rfl ?_
            refine l_istore hx hb 4 dX5_sheet_88 hl rfl (fun ls hl => ?_)
            have loop : ∀ (m0 q : Nat) (τ : Sta), q ≤ 24 → 25 ≤ q + m0 → RT τ (tX (tX (tX T 4 (upd (T 2 4) k bt)) 5 (upd (T 2 5) k (if bt = 0 then nI 0 else n))) 6 (shz (T 2 6) k q)) → ∀ (H : Heap) (locs : List Loc) (ls : Array Slot), MWP D cA b τ H → va_S (mA b) s.heap H locs → lh ls [some (.ref b), some (.int (nI k)), some (.int bt), some (.int n), some (.int (nI q))] → W p l e (rmG 2 0 0) s m args below meth c H locs 0 0 Q (F0 m 90 ls []) := by
              intro m0
              induction m0 with
              | zero => intro q τ h1 h2; exact absurd h2 (by omega)
              | succ m0 ih =>
                intro q τ h1 h2 hTq H locs ls hP hS hl
                refine lv_iload hx hb dX5_sheet_90 (hl.at rfl) ?_
                refine lv_bipush (v := nI 24) hx hb dX5_sheet_92 rfl ?_
                refine l_geN hx hb 116 dX5_sheet_94 rfl (by omega) (by omega) (fun c94 => ?_) (fun c94 => ?_)
                · have e5 : q = 24 := by omega
                  refine lv_iconst (v := nI 1) hx hb dX5_sheet_116 rfl ?_
                  refine hret _ _ ls _ _ _ hP hS dX5_sheet_117 ?_
                  first | (rw [op_sheet, if_neg p1]; exact p31) | (rw [op_sheet, if_pos p1, if_neg (fun z => by rcases z with z | z | z | z; exact c8 z; exact c14 z; exact c20 z; exact c26 z)]; exact p31) | (rw [op_sheet, if_pos p1, if_pos (Or.inr (Or.inl c14)), if_pos ⟨c8, Int32.not_le.mp c40⟩]; exact p45) | (rw [op_sheet, if_pos p1, if_pos (Or.inr (Or.inl c14)), if_neg (fun z => absurd z.2 (Int32.not_lt.mpr c40)), if_pos ⟨c8, Int32.not_le.mp c56⟩]; exact p61) | (rw [op_sheet, if_pos p1, if_pos (Or.inr (Or.inl c14)), if_neg (fun z => absurd z.2 (Int32.not_lt.mpr c40)), if_neg (fun z => absurd z.2 (Int32.not_lt.mpr c56)), tSh, cn_nI (by omega)]; exact ⟨rfl, by rw [e5] at hTq; exact hTq⟩) | (rw [op_sheet, if_pos p1, if_pos (Or.inr (Or.inr (Or.inl c20))), if_pos ⟨c8, Int32.not_le.mp c40⟩]; exact p45) | (rw [op_sheet, if_pos p1, if_pos (Or.inr (Or.inr (Or.inl c20))), if_neg (fun z => absurd z.2 (Int32.not_lt.mpr c40)), if_pos ⟨c8, Int32.not_le.mp c56⟩]; exact p61) | (rw [op_sheet, if_pos p1, if_pos (Or.inr (Or.inr (Or.inl c20))), if_neg (fun z => absurd z.2 (Int32.not_lt.mpr c40)), if_neg (fun z => absurd z.2 (Int32.not_lt.mpr c56)), tSh, cn_nI (by omega)]; exact ⟨rfl, by rw [e5] at hTq; exact hTq⟩) | (rw [op_sheet, if_pos p1, if_pos (Or.inr (Or.inr (Or.inr c26))), if_pos ⟨c8, Int32.not_le.mp c40⟩]; exact p45) | (rw [op_sheet, if_pos p1, if_pos (Or.inr (Or.inr (Or.inr c26))), if_neg (fun z => absurd z.2 (Int32.not_lt.mpr c40)), if_pos ⟨c8, Int32.not_le.mp c56⟩]; exact p61) | (rw [op_sheet, if_pos p1, if_pos (Or.inr (Or.inr (Or.inr c26))), if_neg (fun z => absurd z.2 (Int32.not_lt.mpr c40)), if_neg (fun z => absurd z.2 (Int32.not_lt.mpr c56)), tSh, cn_nI (by omega)]; exact ⟨rfl, by rw [e5] at hTq; exact hTq⟩) | (rw [op_sheet, if_pos p1, if_pos (Or.inl c8), if_neg (fun z => z.1 c8), if_neg (fun z => z.1 c8), tSh, cn_nI (by omega)]; exact ⟨rfl, by rw [e5] at hTq; exact hTq⟩)
                · refine lv_aload_n hx hb dX5_sheet_97 rfl (hl.at rfl) ?_
                  refine mg_number hC hK hP dX5_sheet_98 ?_
                  refine lv_bipush (v := nI 24) hx hb dX5_sheet_101 rfl ?_
                  refine lv_iload_n hx hb dX5_sheet_103 rfl (hl.at rfl) ?_
                  refine l_mulN hx hb dX5_sheet_104 ?_
                  refine lv_iload hx hb dX5_sheet_105 (hl.at rfl) ?_
                  refine l_addN hx hb dX5_sheet_107 ?_
                  refine lv_iconst (v := nI 0) hx hb dX5_sheet_108 rfl ?_
                  refine m_st 13 _ (by decide) hC hK hP hS (rfl) (show _ < 96 by omega) dX5_sheet_109 (fun H locs hP hS => ?_)
                  refine l_inc1 hx hb 4 dX5_sheet_110 hl rfl rfl (fun ls hl => ?_)
                  refine lv_goto (tgt := 90) hx hb dX5_sheet_113 rfl ?_
                  exact ih (q + 1) _ (by omega) (by omega) (by have h9 := hTq.stX 6 (24 * k + q) (nI 0) (by decide); rw [tX_tX, tX_2] at h9; exact h9) _ _ _ hP hS hl
            exact loop 25 0 _ (by omega) (by omega) (by have h9 := (hT.stX 4 k bt (by decide)).stX 5 k (if bt = 0 then nI 0 else n) (by decide); rw [show shz (T 2 6) k 0 = (tX (tX T 4 (upd (T 2 4) k bt)) 5 (upd (T 2 5) k (if bt = 0 then nI 0 else n))) 2 6 from rfl, tX_self]; exact h9) _ _ _ hP hS hl
        · exact absurd c8 c50
      · exact absurd c8 c36
    · refine lv_iload_n hx hb dX5_sheet_11 rfl (hl.at rfl) ?_
      refine lv_bipush (v := nI 8) hx hb dX5_sheet_12 rfl ?_
      refine lv_icmp_eq (tgt := 35) hx hb dX5_sheet_14 rfl (fun c14 => ?_) (fun c14 => ?_)
      · refine lv_iload_n hx hb dX5_sheet_35 rfl (hl.at rfl) ?_
        refine lv_if_eq (tgt := 49) hx hb dX5_sheet_36 rfl (fun c36 => ?_) (fun c36 => ?_)
        · exact absurd c36 c8
        · refine lv_iload_n hx hb dX5_sheet_39 rfl (hl.at rfl) ?_
          refine lv_if_ge (tgt := 49) hx hb dX5_sheet_40 rfl (fun c40 => ?_) (fun c40 => ?_)
          · refine lv_iload_n hx hb dX5_sheet_49 rfl (hl.at rfl) ?_
            refine lv_if_eq (tgt := 65) hx hb dX5_sheet_50 rfl (fun c50 => ?_) (fun c50 => ?_)
            · exact absurd c50 c8
            · refine lv_iload_n hx hb dX5_sheet_53 rfl (hl.at rfl) ?_
              refine lv_bipush (v := nI 24) hx hb dX5_sheet_54 rfl ?_
              refine lv_icmp_le (tgt := 65) hx hb dX5_sheet_56 rfl (fun c56 => ?_) (fun c56 => ?_)
              · refine lv_aload_n hx hb dX5_sheet_65 rfl (hl.at rfl) ?_
                refine mg_bits hC hK hP dX5_sheet_66 ?_
                refine lv_iload_n hx hb dX5_sheet_69 rfl (hl.at rfl) ?_
                refine lv_iload_n hx hb dX5_sheet_70 rfl (hl.at rfl) ?_
                refine m_st 11 _ (by decide) hC hK hP hS (rfl) (show _ < 4 by omega) dX5_sheet_71 (fun H locs hP hS => ?_)
                refine lv_aload_n hx hb dX5_sheet_72 rfl (hl.at rfl) ?_
                refine mg_sizes hC hK hP dX5_sheet_73 ?_
                refine lv_iload_n hx hb dX5_sheet_76 rfl (hl.at rfl) ?_
                refine lv_iload_n hx hb dX5_sheet_77 rfl (hl.at rfl) ?_
                refine lv_if_ne (tgt := 85) hx hb dX5_sheet_78 rfl (fun c78 => ?_) (fun c78 => ?_)
                · refine lv_iload_n hx hb dX5_sheet_85 rfl (hl.at rfl) ?_
                  first | refine l_top (if bt = 0 then nI 0 else n) (by rw [if_pos c8]) ?_ | refine l_top (if bt = 0 then nI 0 else n) (by rw [if_neg c8]) ?_
                  refine m_st 12 _ (by decide) hC hK hP hS (rfl) (show _ < 4 by omega) dX5_sheet_86 (fun H locs hP hS => ?_)
                  refine lv_iconst (v := nI 0) hx hb dX5_sheet_87 rfl ?_
                  refine l_istore hx hb 4 dX5_sheet_88 hl rfl (fun ls hl => ?_)
                  have loop : ∀ (m0 q : Nat) (τ : Sta), q ≤ 24 → 25 ≤ q + m0 → RT τ (tX (tX (tX T 4 (upd (T 2 4) k bt)) 5 (upd (T 2 5) k (if bt = 0 then nI 0 else n))) 6 (shz (T 2 6) k q)) → ∀ (H : Heap) (locs : List Loc) (ls : Array Slot), MWP D cA b τ H → va_S (mA b) s.heap H locs → lh ls [some (.ref b), some (.int (nI k)), some (.int bt), some (.int n), some (.int (nI q))] → W p l e (rmG 2 0 0) s m args below meth c H locs 0 0 Q (F0 m 90 ls []) := by
                    intro m0
                    induction m0 with
                    | zero => intro q τ h1 h2; exact absurd h2 (by omega)
                    | succ m0 ih =>
                      intro q τ h1 h2 hTq H locs ls hP hS hl
                      refine lv_iload hx hb dX5_sheet_90 (hl.at rfl) ?_
                      refine lv_bipush (v := nI 24) hx hb dX5_sheet_92 rfl ?_
                      refine l_geN hx hb 116 dX5_sheet_94 rfl (by omega) (by omega) (fun c94 => ?_) (fun c94 => ?_)
                      · have e5 : q = 24 := by omega
                        refine lv_iconst (v := nI 1) hx hb dX5_sheet_116 rfl ?_
                        refine hret _ _ ls _ _ _ hP hS dX5_sheet_117 ?_
                        first | (rw [op_sheet, if_neg p1]; exact p31) | (rw [op_sheet, if_pos p1, if_neg (fun z => by rcases z with z | z | z | z; exact c8 z; exact c14 z; exact c20 z; exact c26 z)]; exact p31) | (rw [op_sheet, if_pos p1, if_pos (Or.inr (Or.inl c14)), if_pos ⟨c8, Int32.not_le.mp c40⟩]; exact p45) | (rw [op_sheet, if_pos p1, if_pos (Or.inr (Or.inl c14)), if_neg (fun z => absurd z.2 (Int32.not_lt.mpr c40)), if_pos ⟨c8, Int32.not_le.mp c56⟩]; exact p61) | (rw [op_sheet, if_pos p1, if_pos (Or.inr (Or.inl c14)), if_neg (fun z => absurd z.2 (Int32.not_lt.mpr c40)), if_neg (fun z => absurd z.2 (Int32.not_lt.mpr c56)), tSh, cn_nI (by omega)]; exact ⟨rfl, by rw [e5] at hTq; exact hTq⟩) | (rw [op_sheet, if_pos p1, if_pos (Or.inr (Or.inr (Or.inl c20))), if_pos ⟨c8, Int32.not_le.mp c40⟩]; exact p45) | (rw [op_sheet, if_pos p1, if_pos (Or.inr (Or.inr (Or.inl c20))), if_neg (fun z => absurd z.2 (Int32.not_lt.mpr c40)), if_pos ⟨c8, Int32.not_le.mp c56⟩]; exact p61) | (rw [op_sheet, if_pos p1, if_pos (Or.inr (Or.inr (Or.inl c20))), if_neg (fun z => absurd z.2 (Int32.not_lt.mpr c40)), if_neg (fun z => absurd z.2 (Int32.not_lt.mpr c56)), tSh, cn_nI (by omega)]; exact ⟨rfl, by rw [e5] at hTq; exact hTq⟩) | (rw [op_sheet, if_pos p1, if_pos (Or.inr (Or.inr (Or.inr c26))), if_pos ⟨c8, Int32.not_le.mp c40⟩]; exact p45) | (rw [op_sheet, if_pos p1, if_pos (Or.inr (Or.inr (Or.inr c26))), if_neg (fun z => absurd z.2 (Int32.not_lt.mpr c40)), if_pos ⟨c8, Int32.not_le.mp c56⟩]; exact p61) | (rw [op_sheet, if_pos p1, if_pos (Or.inr (Or.inr (Or.inr c26))), if_neg (fun z => absurd z.2 (Int32.not_lt.mpr c40)), if_neg (fun z => absurd z.2 (Int32.not_lt.mpr c56)), tSh, cn_nI (by omega)]; exact ⟨rfl, by rw [e5] at hTq; exact hTq⟩) | (rw [op_sheet, if_pos p1, if_pos (Or.inl c8), if_neg (fun z => z.1 c8), if_neg (fun z => z.1 c8), tSh, cn_nI (by omega)]; exact ⟨rfl, by rw [e5] at hTq; exact hTq⟩)
                      · refine lv_aload_n hx hb dX5_sheet_97 rfl (hl.at rfl) ?_
                        refine mg_number hC hK hP dX5_sheet_98 ?_
                        refine lv_bipush (v := nI 24) hx hb dX5_sheet_101 rfl ?_
                        refine lv_iload_n hx hb dX5_sheet_103 rfl (hl.at rfl) ?_
                        refine l_mulN hx hb dX5_sheet_104 ?_
                        refine lv_iload hx hb dX5_sheet_105 (hl.at rfl) ?_
                        refine l_addN hx hb dX5_sheet_107 ?_
                        refine lv_iconst (v := nI 0) hx hb dX5_sheet_108 rfl ?_
                        refine m_st 13 _ (by decide) hC hK hP hS (rfl) (show _ < 96 by omega) dX5_sheet_109 (fun H locs hP hS => ?_)
                        refine l_inc1 hx hb 4 dX5_sheet_110 hl rfl rfl (fun ls hl => ?_)
                        refine lv_goto (tgt := 90) hx hb dX5_sheet_113 rfl ?_
                        exact ih (q + 1) _ (by omega) (by omega) (by have h9 := hTq.stX 6 (24 * k + q) (nI 0) (by decide); rw [tX_tX, tX_2] at h9; exact h9) _ _ _ hP hS hl
                  exact loop 25 0 _ (by omega) (by omega) (by have h9 := (hT.stX 4 k bt (by decide)).stX 5 k (if bt = 0 then nI 0 else n) (by decide); rw [show shz (T 2 6) k 0 = (tX (tX T 4 (upd (T 2 4) k bt)) 5 (upd (T 2 5) k (if bt = 0 then nI 0 else n))) 2 6 from rfl, tX_self]; exact h9) _ _ _ hP hS hl
                · exact absurd c78 c8
              · refine lv_aload_n hx hb dX5_sheet_59 rfl (hl.at rfl) ?_
                refine lv_iconst (v := nI 1) hx hb dX5_sheet_60 rfl ?_
                refine m_iV hC hK hP hS (met_error hT rfl (by decide)) cv_X5_76 rfl rfl hl.1 (Nat.le_of_ble_eq_true rfl) dX5_sheet_61 (by decide) (by decide) (fun r61 σ61 H locs p61 hP hS => ?_)
                refine hret _ _ ls _ _ _ hP hS dX5_sheet_64 ?_
                first | (rw [op_sheet, if_neg p1]; exact p31) | (rw [op_sheet, if_pos p1, if_neg (fun z => by rcases z with z | z | z | z; exact c8 z; exact c14 z; exact c20 z; exact c26 z)]; exact p31) | (rw [op_sheet, if_pos p1, if_pos (Or.inr (Or.inl c14)), if_pos ⟨c8, Int32.not_le.mp c40⟩]; exact p45) | (rw [op_sheet, if_pos p1, if_pos (Or.inr (Or.inl c14)), if_neg (fun z => absurd z.2 (Int32.not_lt.mpr c40)), if_pos ⟨c8, Int32.not_le.mp c56⟩]; exact p61) | (rw [op_sheet, if_pos p1, if_pos (Or.inr (Or.inl c14)), if_neg (fun z => absurd z.2 (Int32.not_lt.mpr c40)), if_neg (fun z => absurd z.2 (Int32.not_lt.mpr c56)), tSh, cn_nI (by omega)]; exact ⟨rfl, by rw [e5] at hTq; exact hTq⟩) | (rw [op_sheet, if_pos p1, if_pos (Or.inr (Or.inr (Or.inl c20))), if_pos ⟨c8, Int32.not_le.mp c40⟩]; exact p45) | (rw [op_sheet, if_pos p1, if_pos (Or.inr (Or.inr (Or.inl c20))), if_neg (fun z => absurd z.2 (Int32.not_lt.mpr c40)), if_pos ⟨c8, Int32.not_le.mp c56⟩]; exact p61) | (rw [op_sheet, if_pos p1, if_pos (Or.inr (Or.inr (Or.inl c20))), if_neg (fun z => absurd z.2 (Int32.not_lt.mpr c40)), if_neg (fun z => absurd z.2 (Int32.not_lt.mpr c56)), tSh, cn_nI (by omega)]; exact ⟨rfl, by rw [e5] at hTq; exact hTq⟩) | (rw [op_sheet, if_pos p1, if_pos (Or.inr (Or.inr (Or.inr c26))), if_pos ⟨c8, Int32.not_le.mp c40⟩]; exact p45) | (rw [op_sheet, if_pos p1, if_pos (Or.inr (Or.inr (Or.inr c26))), if_neg (fun z => absurd z.2 (Int32.not_lt.mpr c40)), if_pos ⟨c8, Int32.not_le.mp c56⟩]; exact p61) | (rw [op_sheet, if_pos p1, if_pos (Or.inr (Or.inr (Or.inr c26))), if_neg (fun z => absurd z.2 (Int32.not_lt.mpr c40)), if_neg (fun z => absurd z.2 (Int32.not_lt.mpr c56)), tSh, cn_nI (by omega)]; exact ⟨rfl, by rw [e5] at hTq; exact hTq⟩) | (rw [op_sheet, if_pos p1, if_pos (Or.inl c8), if_neg (fun z => z.1 c8), if_neg (fun z => z.1 c8), tSh, cn_nI (by omega)]; exact ⟨rfl, by rw [e5] at hTq; exact hTq⟩)
          · refine lv_aload_n hx hb dX5_sheet_43 rfl (hl.at rfl) ?_
            refine lv_iconst (v := nI 3) hx hb dX5_sheet_44 rfl ?_
            refine m_iV hC hK hP hS (met_error hT rfl (by decide)) cv_X5_76 rfl rfl hl.1 (Nat.le_of_ble_eq_true rfl) dX5_sheet_45 (by decide) (by decide) (fun r45 σ45 H locs p45 hP hS => ?_)
            refine hret _ _ ls _ _ _ hP hS dX5_sheet_48 ?_
            first | (rw [op_sheet, if_neg p1]; exact p31) | (rw [op_sheet, if_pos p1, if_neg (fun z => by rcases z with z | z | z | z; exact c8 z; exact c14 z; exact c20 z; exact c26 z)]; exact p31) | (rw [op_sheet, if_pos p1, if_pos (Or.inr (Or.inl c14)), if_pos ⟨c8, Int32.not_le.mp c40⟩]; exact p45) | (rw [op_sheet, if_pos p1, if_pos (Or.inr (Or.inl c14)), if_neg (fun z => absurd z.2 (Int32.not_lt.mpr c40)), if_pos ⟨c8, Int32.not_le.mp c56⟩]; exact p61) | (rw [op_sheet, if_pos p1, if_pos (Or.inr (Or.inl c14)), if_neg (fun z => absurd z.2 (Int32.not_lt.mpr c40)), if_neg (fun z => absurd z.2 (Int32.not_lt.mpr c56)), tSh, cn_nI (by omega)]; exact ⟨rfl, by rw [e5] at hTq; exact hTq⟩) | (rw [op_sheet, if_pos p1, if_pos (Or.inr (Or.inr (Or.inl c20))), if_pos ⟨c8, Int32.not_le.mp c40⟩]; exact p45) | (rw [op_sheet, if_pos p1, if_pos (Or.inr (Or.inr (Or.inl c20))), if_neg (fun z => absurd z.2 (Int32.not_lt.mpr c40)), if_pos ⟨c8, Int32.not_le.mp c56⟩]; exact p61) | (rw [op_sheet, if_pos p1, if_pos (Or.inr (Or.inr (Or.inl c20))), if_neg (fun z => absurd z.2 (Int32.not_lt.mpr c40)), if_neg (fun z => absurd z.2 (Int32.not_lt.mpr c56)), tSh, cn_nI (by omega)]; exact ⟨rfl, by rw [e5] at hTq; exact hTq⟩) | (rw [op_sheet, if_pos p1, if_pos (Or.inr (Or.inr (Or.inr c26))), if_pos ⟨c8, Int32.not_le.mp c40⟩]; exact p45) | (rw [op_sheet, if_pos p1, if_pos (Or.inr (Or.inr (Or.inr c26))), if_neg (fun z => absurd z.2 (Int32.not_lt.mpr c40)), if_pos ⟨c8, Int32.not_le.mp c56⟩]; exact p61) | (rw [op_sheet, if_pos p1, if_pos (Or.inr (Or.inr (Or.inr c26))), if_neg (fun z => absurd z.2 (Int32.not_lt.mpr c40)), if_neg (fun z => absurd z.2 (Int32.not_lt.mpr c56)), tSh, cn_nI (by omega)]; exact ⟨rfl, by rw [e5] at hTq; exact hTq⟩) | (rw [op_sheet, if_pos p1, if_pos (Or.inl c8), if_neg (fun z => z.1 c8), if_neg (fun z => z.1 c8), tSh, cn_nI (by omega)]; exact ⟨rfl, by rw [e5] at hTq; exact hTq⟩)
      · refine lv_iload_n hx hb dX5_sheet_17 rfl (hl.at rfl) ?_
        refine lv_bipush (v := nI 16) hx hb dX5_sheet_18 rfl ?_
        refine lv_icmp_eq (tgt := 35) hx hb dX5_sheet_20 rfl (fun c20 => ?_) (fun c20 => ?_)
        · refine lv_iload_n hx hb dX5_sheet_35 rfl (hl.at rfl) ?_
          refine lv_if_eq (tgt := 49) hx hb dX5_sheet_36 rfl (fun c36 => ?_) (fun c36 => ?_)
          · exact absurd c36 c8
          · refine lv_iload_n hx hb dX5_sheet_39 rfl (hl.at rfl) ?_
            refine lv_if_ge (tgt := 49) hx hb dX5_sheet_40 rfl (fun c40 => ?_) (fun c40 => ?_)
            · refine lv_iload_n hx hb dX5_sheet_49 rfl (hl.at rfl) ?_
              refine lv_if_eq (tgt := 65) hx hb dX5_sheet_50 rfl (fun c50 => ?_) (fun c50 => ?_)
              · exact absurd c50 c8
              · refine lv_iload_n hx hb dX5_sheet_53 rfl (hl.at rfl) ?_
                refine lv_bipush (v := nI 24) hx hb dX5_sheet_54 rfl ?_
                refine lv_icmp_le (tgt := 65) hx hb dX5_sheet_56 rfl (fun c56 => ?_) (fun c56 => ?_)
                · refine lv_aload_n hx hb dX5_sheet_65 rfl (hl.at rfl) ?_
                  refine mg_bits hC hK hP dX5_sheet_66 ?_
                  refine lv_iload_n hx hb dX5_sheet_69 rfl (hl.at rfl) ?_
                  refine lv_iload_n hx hb dX5_sheet_70 rfl (hl.at rfl) ?_
                  refine m_st 11 _ (by decide) hC hK hP hS (rfl) (show _ < 4 by omega) dX5_sheet_71 (fun H locs hP hS => ?_)
                  refine lv_aload_n hx hb dX5_sheet_72 rfl (hl.at rfl) ?_
                  refine mg_sizes hC hK hP dX5_sheet_73 ?_
                  refine lv_iload_n hx hb dX5_sheet_76 rfl (hl.at rfl) ?_
                  refine lv_iload_n hx hb dX5_sheet_77 rfl (hl.at rfl) ?_
                  refine lv_if_ne (tgt := 85) hx hb dX5_sheet_78 rfl (fun c78 => ?_) (fun c78 => ?_)
                  · refine lv_iload_n hx hb dX5_sheet_85 rfl (hl.at rfl) ?_
                    first | refine l_top (if bt = 0 then nI 0 else n) (by rw [if_pos c8]) ?_ | refine l_top (if bt = 0 then nI 0 else n) (by rw [if_neg c8]) ?_
                    refine m_st 12 _ (by decide) hC hK hP hS (rfl) (show _ < 4 by omega) dX5_sheet_86 (fun H locs hP hS => ?_)
                    refine lv_iconst (v := nI 0) hx hb dX5_sheet_87 rfl ?_
                    refine l_istore hx hb 4 dX5_sheet_88 hl rfl (fun ls hl => ?_)
                    have loop : ∀ (m0 q : Nat) (τ : Sta), q ≤ 24 → 25 ≤ q + m0 → RT τ (tX (tX (tX T 4 (upd (T 2 4) k bt)) 5 (upd (T 2 5) k (if bt = 0 then nI 0 else n))) 6 (shz (T 2 6) k q)) → ∀ (H : Heap) (locs : List Loc) (ls : Array Slot), MWP D cA b τ H → va_S (mA b) s.heap H locs → lh ls [some (.ref b), some (.int (nI k)), some (.int bt), some (.int n), some (.int (nI q))] → W p l e (rmG 2 0 0) s m args below meth c H locs 0 0 Q (F0 m 90 ls []) := by
                      intro m0
                      induction m0 with
                      | zero => intro q τ h1 h2; exact absurd h2 (by omega)
                      | succ m0 ih =>
                        intro q τ h1 h2 hTq H locs ls hP hS hl
                        refine lv_iload hx hb dX5_sheet_90 (hl.at rfl) ?_
                        refine lv_bipush (v := nI 24) hx hb dX5_sheet_92 rfl ?_
                        refine l_geN hx hb 116 dX5_sheet_94 rfl (by omega) (by omega) (fun c94 => ?_) (fun c94 => ?_)
                        · have e5 : q = 24 := by omega
                          refine lv_iconst (v := nI 1) hx hb dX5_sheet_116 rfl ?_
                          refine hret _ _ ls _ _ _ hP hS dX5_sheet_117 ?_
                          first | (rw [op_sheet, if_neg p1]; exact p31) | (rw [op_sheet, if_pos p1, if_neg (fun z => by rcases z with z | z | z | z; exact c8 z; exact c14 z; exact c20 z; exact c26 z)]; exact p31) | (rw [op_sheet, if_pos p1, if_pos (Or.inr (Or.inl c14)), if_pos ⟨c8, Int32.not_le.mp c40⟩]; exact p45) | (rw [op_sheet, if_pos p1, if_pos (Or.inr (Or.inl c14)), if_neg (fun z => absurd z.2 (Int32.not_lt.mpr c40)), if_pos ⟨c8, Int32.not_le.mp c56⟩]; exact p61) | (rw [op_sheet, if_pos p1, if_pos (Or.inr (Or.inl c14)), if_neg (fun z => absurd z.2 (Int32.not_lt.mpr c40)), if_neg (fun z => absurd z.2 (Int32.not_lt.mpr c56)), tSh, cn_nI (by omega)]; exact ⟨rfl, by rw [e5] at hTq; exact hTq⟩) | (rw [op_sheet, if_pos p1, if_pos (Or.inr (Or.inr (Or.inl c20))), if_pos ⟨c8, Int32.not_le.mp c40⟩]; exact p45) | (rw [op_sheet, if_pos p1, if_pos (Or.inr (Or.inr (Or.inl c20))), if_neg (fun z => absurd z.2 (Int32.not_lt.mpr c40)), if_pos ⟨c8, Int32.not_le.mp c56⟩]; exact p61) | (rw [op_sheet, if_pos p1, if_pos (Or.inr (Or.inr (Or.inl c20))), if_neg (fun z => absurd z.2 (Int32.not_lt.mpr c40)), if_neg (fun z => absurd z.2 (Int32.not_lt.mpr c56)), tSh, cn_nI (by omega)]; exact ⟨rfl, by rw [e5] at hTq; exact hTq⟩) | (rw [op_sheet, if_pos p1, if_pos (Or.inr (Or.inr (Or.inr c26))), if_pos ⟨c8, Int32.not_le.mp c40⟩]; exact p45) | (rw [op_sheet, if_pos p1, if_pos (Or.inr (Or.inr (Or.inr c26))), if_neg (fun z => absurd z.2 (Int32.not_lt.mpr c40)), if_pos ⟨c8, Int32.not_le.mp c56⟩]; exact p61) | (rw [op_sheet, if_pos p1, if_pos (Or.inr (Or.inr (Or.inr c26))), if_neg (fun z => absurd z.2 (Int32.not_lt.mpr c40)), if_neg (fun z => absurd z.2 (Int32.not_lt.mpr c56)), tSh, cn_nI (by omega)]; exact ⟨rfl, by rw [e5] at hTq; exact hTq⟩) | (rw [op_sheet, if_pos p1, if_pos (Or.inl c8), if_neg (fun z => z.1 c8), if_neg (fun z => z.1 c8), tSh, cn_nI (by omega)]; exact ⟨rfl, by rw [e5] at hTq; exact hTq⟩)
                        · refine lv_aload_n hx hb dX5_sheet_97 rfl (hl.at rfl) ?_
                          refine mg_number hC hK hP dX5_sheet_98 ?_
                          refine lv_bipush (v := nI 24) hx hb dX5_sheet_101 rfl ?_
                          refine lv_iload_n hx hb dX5_sheet_103 rfl (hl.at rfl) ?_
                          refine l_mulN hx hb dX5_sheet_104 ?_
                          refine lv_iload hx hb dX5_sheet_105 (hl.at rfl) ?_
                          refine l_addN hx hb dX5_sheet_107 ?_
                          refine lv_iconst (v := nI 0) hx hb dX5_sheet_108 rfl ?_
                          refine m_st 13 _ (by decide) hC hK hP hS (rfl) (show _ < 96 by omega) dX5_sheet_109 (fun H locs hP hS => ?_)
                          refine l_inc1 hx hb 4 dX5_sheet_110 hl rfl rfl (fun ls hl => ?_)
                          refine lv_goto (tgt := 90) hx hb dX5_sheet_113 rfl ?_
                          exact ih (q + 1) _ (by omega) (by omega) (by have h9 := hTq.stX 6 (24 * k + q) (nI 0) (by decide); rw [tX_tX, tX_2] at h9; exact h9) _ _ _ hP hS hl
                    exact loop 25 0 _ (by omega) (by omega) (by have h9 := (hT.stX 4 k bt (by decide)).stX 5 k (if bt = 0 then nI 0 else n) (by decide); rw [show shz (T 2 6) k 0 = (tX (tX T 4 (upd (T 2 4) k bt)) 5 (upd (T 2 5) k (if bt = 0 then nI 0 else n))) 2 6 from rfl, tX_self]; exact h9) _ _ _ hP hS hl
                  · exact absurd c78 c8
                · refine lv_aload_n hx hb dX5_sheet_59 rfl (hl.at rfl) ?_
                  refine lv_iconst (v := nI 1) hx hb dX5_sheet_60 rfl ?_
                  refine m_iV hC hK hP hS (met_error hT rfl (by decide)) cv_X5_76 rfl rfl hl.1 (Nat.le_of_ble_eq_true rfl) dX5_sheet_61 (by decide) (by decide) (fun r61 σ61 H locs p61 hP hS => ?_)
                  refine hret _ _ ls _ _ _ hP hS dX5_sheet_64 ?_
                  first | (rw [op_sheet, if_neg p1]; exact p31) | (rw [op_sheet, if_pos p1, if_neg (fun z => by rcases z with z | z | z | z; exact c8 z; exact c14 z; exact c20 z; exact c26 z)]; exact p31) | (rw [op_sheet, if_pos p1, if_pos (Or.inr (Or.inl c14)), if_pos ⟨c8, Int32.not_le.mp c40⟩]; exact p45) | (rw [op_sheet, if_pos p1, if_pos (Or.inr (Or.inl c14)), if_neg (fun z => absurd z.2 (Int32.not_lt.mpr c40)), if_pos ⟨c8, Int32.not_le.mp c56⟩]; exact p61) | (rw [op_sheet, if_pos p1, if_pos (Or.inr (Or.inl c14)), if_neg (fun z => absurd z.2 (Int32.not_lt.mpr c40)), if_neg (fun z => absurd z.2 (Int32.not_lt.mpr c56)), tSh, cn_nI (by omega)]; exact ⟨rfl, by rw [e5] at hTq; exact hTq⟩) | (rw [op_sheet, if_pos p1, if_pos (Or.inr (Or.inr (Or.inl c20))), if_pos ⟨c8, Int32.not_le.mp c40⟩]; exact p45) | (rw [op_sheet, if_pos p1, if_pos (Or.inr (Or.inr (Or.inl c20))), if_neg (fun z => absurd z.2 (Int32.not_lt.mpr c40)), if_pos ⟨c8, Int32.not_le.mp c56⟩]; exact p61) | (rw [op_sheet, if_pos p1, if_pos (Or.inr (Or.inr (Or.inl c20))), if_neg (fun z => absurd z.2 (Int32.not_lt.mpr c40)), if_neg (fun z => absurd z.2 (Int32.not_lt.mpr c56)), tSh, cn_nI (by omega)]; exact ⟨rfl, by rw [e5] at hTq; exact hTq⟩) | (rw [op_sheet, if_pos p1, if_pos (Or.inr (Or.inr (Or.inr c26))), if_pos ⟨c8, Int32.not_le.mp c40⟩]; exact p45) | (rw [op_sheet, if_pos p1, if_pos (Or.inr (Or.inr (Or.inr c26))), if_neg (fun z => absurd z.2 (Int32.not_lt.mpr c40)), if_pos ⟨c8, Int32.not_le.mp c56⟩]; exact p61) | (rw [op_sheet, if_pos p1, if_pos (Or.inr (Or.inr (Or.inr c26))), if_neg (fun z => absurd z.2 (Int32.not_lt.mpr c40)), if_neg (fun z => absurd z.2 (Int32.not_lt.mpr c56)), tSh, cn_nI (by omega)]; exact ⟨rfl, by rw [e5] at hTq; exact hTq⟩) | (rw [op_sheet, if_pos p1, if_pos (Or.inl c8), if_neg (fun z => z.1 c8), if_neg (fun z => z.1 c8), tSh, cn_nI (by omega)]; exact ⟨rfl, by rw [e5] at hTq; exact hTq⟩)
            · refine lv_aload_n hx hb dX5_sheet_43 rfl (hl.at rfl) ?_
              refine lv_iconst (v := nI 3) hx hb dX5_sheet_44 rfl ?_
              refine m_iV hC hK hP hS (met_error hT rfl (by decide)) cv_X5_76 rfl rfl hl.1 (Nat.le_of_ble_eq_true rfl) dX5_sheet_45 (by decide) (by decide) (fun r45 σ45 H locs p45 hP hS => ?_)
              refine hret _ _ ls _ _ _ hP hS dX5_sheet_48 ?_
              first | (rw [op_sheet, if_neg p1]; exact p31) | (rw [op_sheet, if_pos p1, if_neg (fun z => by rcases z with z | z | z | z; exact c8 z; exact c14 z; exact c20 z; exact c26 z)]; exact p31) | (rw [op_sheet, if_pos p1, if_pos (Or.inr (Or.inl c14)), if_pos ⟨c8, Int32.not_le.mp c40⟩]; exact p45) | (rw [op_sheet, if_pos p1, if_pos (Or.inr (Or.inl c14)), if_neg (fun z => absurd z.2 (Int32.not_lt.mpr c40)), if_pos ⟨c8, Int32.not_le.mp c56⟩]; exact p61) | (rw [op_sheet, if_pos p1, if_pos (Or.inr (Or.inl c14)), if_neg (fun z => absurd z.2 (Int32.not_lt.mpr c40)), if_neg (fun z => absurd z.2 (Int32.not_lt.mpr c56)), tSh, cn_nI (by omega)]; exact ⟨rfl, by rw [e5] at hTq; exact hTq⟩) | (rw [op_sheet, if_pos p1, if_pos (Or.inr (Or.inr (Or.inl c20))), if_pos ⟨c8, Int32.not_le.mp c40⟩]; exact p45) | (rw [op_sheet, if_pos p1, if_pos (Or.inr (Or.inr (Or.inl c20))), if_neg (fun z => absurd z.2 (Int32.not_lt.mpr c40)), if_pos ⟨c8, Int32.not_le.mp c56⟩]; exact p61) | (rw [op_sheet, if_pos p1, if_pos (Or.inr (Or.inr (Or.inl c20))), if_neg (fun z => absurd z.2 (Int32.not_lt.mpr c40)), if_neg (fun z => absurd z.2 (Int32.not_lt.mpr c56)), tSh, cn_nI (by omega)]; exact ⟨rfl, by rw [e5] at hTq; exact hTq⟩) | (rw [op_sheet, if_pos p1, if_pos (Or.inr (Or.inr (Or.inr c26))), if_pos ⟨c8, Int32.not_le.mp c40⟩]; exact p45) | (rw [op_sheet, if_pos p1, if_pos (Or.inr (Or.inr (Or.inr c26))), if_neg (fun z => absurd z.2 (Int32.not_lt.mpr c40)), if_pos ⟨c8, Int32.not_le.mp c56⟩]; exact p61) | (rw [op_sheet, if_pos p1, if_pos (Or.inr (Or.inr (Or.inr c26))), if_neg (fun z => absurd z.2 (Int32.not_lt.mpr c40)), if_neg (fun z => absurd z.2 (Int32.not_lt.mpr c56)), tSh, cn_nI (by omega)]; exact ⟨rfl, by rw [e5] at hTq; exact hTq⟩) | (rw [op_sheet, if_pos p1, if_pos (Or.inl c8), if_neg (fun z => z.1 c8), if_neg (fun z => z.1 c8), tSh, cn_nI (by omega)]; exact ⟨rfl, by rw [e5] at hTq; exact hTq⟩)
        · refine lv_iload_n hx hb dX5_sheet_23 rfl (hl.at rfl) ?_
          refine lv_bipush (v := nI 32) hx hb dX5_sheet_24 rfl ?_
          refine lv_icmp_eq (tgt := 35) hx hb dX5_sheet_26 rfl (fun c26 => ?_) (fun c26 => ?_)
          · refine lv_iload_n hx hb dX5_sheet_35 rfl (hl.at rfl) ?_
            refine lv_if_eq (tgt := 49) hx hb dX5_sheet_36 rfl (fun c36 => ?_) (fun c36 => ?_)
            · exact absurd c36 c8
            · refine lv_iload_n hx hb dX5_sheet_39 rfl (hl.at rfl) ?_
              refine lv_if_ge (tgt := 49) hx hb dX5_sheet_40 rfl (fun c40 => ?_) (fun c40 => ?_)
              · refine lv_iload_n hx hb dX5_sheet_49 rfl (hl.at rfl) ?_
                refine lv_if_eq (tgt := 65) hx hb dX5_sheet_50 rfl (fun c50 => ?_) (fun c50 => ?_)
                · exact absurd c50 c8
                · refine lv_iload_n hx hb dX5_sheet_53 rfl (hl.at rfl) ?_
                  refine lv_bipush (v := nI 24) hx hb dX5_sheet_54 rfl ?_
                  refine lv_icmp_le (tgt := 65) hx hb dX5_sheet_56 rfl (fun c56 => ?_) (fun c56 => ?_)
                  · refine lv_aload_n hx hb dX5_sheet_65 rfl (hl.at rfl) ?_
                    refine mg_bits hC hK hP dX5_sheet_66 ?_
                    refine lv_iload_n hx hb dX5_sheet_69 rfl (hl.at rfl) ?_
                    refine lv_iload_n hx hb dX5_sheet_70 rfl (hl.at rfl) ?_
                    refine m_st 11 _ (by decide) hC hK hP hS (rfl) (show _ < 4 by omega) dX5_sheet_71 (fun H locs hP hS => ?_)
                    refine lv_aload_n hx hb dX5_sheet_72 rfl (hl.at rfl) ?_
                    refine mg_sizes hC hK hP dX5_sheet_73 ?_
                    refine lv_iload_n hx hb dX5_sheet_76 rfl (hl.at rfl) ?_
                    refine lv_iload_n hx hb dX5_sheet_77 rfl (hl.at rfl) ?_
                    refine lv_if_ne (tgt := 85) hx hb dX5_sheet_78 rfl (fun c78 => ?_) (fun c78 => ?_)
                    · refine lv_iload_n hx hb dX5_sheet_85 rfl (hl.at rfl) ?_
                      first | refine l_top (if bt = 0 then nI 0 else n) (by rw [if_pos c8]) ?_ | refine l_top (if bt = 0 then nI 0 else n) (by rw [if_neg c8]) ?_
                      refine m_st 12 _ (by decide) hC hK hP hS (rfl) (show _ < 4 by omega) dX5_sheet_86 (fun H locs hP hS => ?_)
                      refine lv_iconst (v := nI 0) hx hb dX5_sheet_87 rfl ?_
                      refine l_istore hx hb 4 dX5_sheet_88 hl rfl (fun ls hl => ?_)
                      have loop : ∀ (m0 q : Nat) (τ : Sta), q ≤ 24 → 25 ≤ q + m0 → RT τ (tX (tX (tX T 4 (upd (T 2 4) k bt)) 5 (upd (T 2 5) k (if bt = 0 then nI 0 else n))) 6 (shz (T 2 6) k q)) → ∀ (H : Heap) (locs : List Loc) (ls : Array Slot), MWP D cA b τ H → va_S (mA b) s.heap H locs → lh ls [some (.ref b), some (.int (nI k)), some (.int bt), some (.int n), some (.int (nI q))] → W p l e (rmG 2 0 0) s m args below meth c H locs 0 0 Q (F0 m 90 ls []) := by
                        intro m0
                        induction m0 with
                        | zero => intro q τ h1 h2; exact absurd h2 (by omega)
                        | succ m0 ih =>
                          intro q τ h1 h2 hTq H locs ls hP hS hl
                          refine lv_iload hx hb dX5_sheet_90 (hl.at rfl) ?_
                          refine lv_bipush (v := nI 24) hx hb dX5_sheet_92 rfl ?_
                          refine l_geN hx hb 116 dX5_sheet_94 rfl (by omega) (by omega) (fun c94 => ?_) (fun c94 => ?_)
                          · have e5 : q = 24 := by omega
                            refine lv_iconst (v := nI 1) hx hb dX5_sheet_116 rfl ?_
                            refine hret _ _ ls _ _ _ hP hS dX5_sheet_117 ?_
                            first | (rw [op_sheet, if_neg p1]; exact p31) | (rw [op_sheet, if_pos p1, if_neg (fun z => by rcases z with z | z | z | z; exact c8 z; exact c14 z; exact c20 z; exact c26 z)]; exact p31) | (rw [op_sheet, if_pos p1, if_pos (Or.inr (Or.inl c14)), if_pos ⟨c8, Int32.not_le.mp c40⟩]; exact p45) | (rw [op_sheet, if_pos p1, if_pos (Or.inr (Or.inl c14)), if_neg (fun z => absurd z.2 (Int32.not_lt.mpr c40)), if_pos ⟨c8, Int32.not_le.mp c56⟩]; exact p61) | (rw [op_sheet, if_pos p1, if_pos (Or.inr (Or.inl c14)), if_neg (fun z => absurd z.2 (Int32.not_lt.mpr c40)), if_neg (fun z => absurd z.2 (Int32.not_lt.mpr c56)), tSh, cn_nI (by omega)]; exact ⟨rfl, by rw [e5] at hTq; exact hTq⟩) | (rw [op_sheet, if_pos p1, if_pos (Or.inr (Or.inr (Or.inl c20))), if_pos ⟨c8, Int32.not_le.mp c40⟩]; exact p45) | (rw [op_sheet, if_pos p1, if_pos (Or.inr (Or.inr (Or.inl c20))), if_neg (fun z => absurd z.2 (Int32.not_lt.mpr c40)), if_pos ⟨c8, Int32.not_le.mp c56⟩]; exact p61) | (rw [op_sheet, if_pos p1, if_pos (Or.inr (Or.inr (Or.inl c20))), if_neg (fun z => absurd z.2 (Int32.not_lt.mpr c40)), if_neg (fun z => absurd z.2 (Int32.not_lt.mpr c56)), tSh, cn_nI (by omega)]; exact ⟨rfl, by rw [e5] at hTq; exact hTq⟩) | (rw [op_sheet, if_pos p1, if_pos (Or.inr (Or.inr (Or.inr c26))), if_pos ⟨c8, Int32.not_le.mp c40⟩]; exact p45) | (rw [op_sheet, if_pos p1, if_pos (Or.inr (Or.inr (Or.inr c26))), if_neg (fun z => absurd z.2 (Int32.not_lt.mpr c40)), if_pos ⟨c8, Int32.not_le.mp c56⟩]; exact p61) | (rw [op_sheet, if_pos p1, if_pos (Or.inr (Or.inr (Or.inr c26))), if_neg (fun z => absurd z.2 (Int32.not_lt.mpr c40)), if_neg (fun z => absurd z.2 (Int32.not_lt.mpr c56)), tSh, cn_nI (by omega)]; exact ⟨rfl, by rw [e5] at hTq; exact hTq⟩) | (rw [op_sheet, if_pos p1, if_pos (Or.inl c8), if_neg (fun z => z.1 c8), if_neg (fun z => z.1 c8), tSh, cn_nI (by omega)]; exact ⟨rfl, by rw [e5] at hTq; exact hTq⟩)
                          · refine lv_aload_n hx hb dX5_sheet_97 rfl (hl.at rfl) ?_
                            refine mg_number hC hK hP dX5_sheet_98 ?_
                            refine lv_bipush (v := nI 24) hx hb dX5_sheet_101 rfl ?_
                            refine lv_iload_n hx hb dX5_sheet_103 rfl (hl.at rfl) ?_
                            refine l_mulN hx hb dX5_sheet_104 ?_
                            refine lv_iload hx hb dX5_sheet_105 (hl.at rfl) ?_
                            refine l_addN hx hb dX5_sheet_107 ?_
                            refine lv_iconst (v := nI 0) hx hb dX5_sheet_108 rfl ?_
                            refine m_st 13 _ (by decide) hC hK hP hS (rfl) (show _ < 96 by omega) dX5_sheet_109 (fun H locs hP hS => ?_)
                            refine l_inc1 hx hb 4 dX5_sheet_110 hl rfl rfl (fun ls hl => ?_)
                            refine lv_goto (tgt := 90) hx hb dX5_sheet_113 rfl ?_
                            exact ih (q + 1) _ (by omega) (by omega) (by have h9 := hTq.stX 6 (24 * k + q) (nI 0) (by decide); rw [tX_tX, tX_2] at h9; exact h9) _ _ _ hP hS hl
                      exact loop 25 0 _ (by omega) (by omega) (by have h9 := (hT.stX 4 k bt (by decide)).stX 5 k (if bt = 0 then nI 0 else n) (by decide); rw [show shz (T 2 6) k 0 = (tX (tX T 4 (upd (T 2 4) k bt)) 5 (upd (T 2 5) k (if bt = 0 then nI 0 else n))) 2 6 from rfl, tX_self]; exact h9) _ _ _ hP hS hl
                    · exact absurd c78 c8
                  · refine lv_aload_n hx hb dX5_sheet_59 rfl (hl.at rfl) ?_
                    refine lv_iconst (v := nI 1) hx hb dX5_sheet_60 rfl ?_
                    refine m_iV hC hK hP hS (met_error hT rfl (by decide)) cv_X5_76 rfl rfl hl.1 (Nat.le_of_ble_eq_true rfl) dX5_sheet_61 (by decide) (by decide) (fun r61 σ61 H locs p61 hP hS => ?_)
                    refine hret _ _ ls _ _ _ hP hS dX5_sheet_64 ?_
                    first | (rw [op_sheet, if_neg p1]; exact p31) | (rw [op_sheet, if_pos p1, if_neg (fun z => by rcases z with z | z | z | z; exact c8 z; exact c14 z; exact c20 z; exact c26 z)]; exact p31) | (rw [op_sheet, if_pos p1, if_pos (Or.inr (Or.inl c14)), if_pos ⟨c8, Int32.not_le.mp c40⟩]; exact p45) | (rw [op_sheet, if_pos p1, if_pos (Or.inr (Or.inl c14)), if_neg (fun z => absurd z.2 (Int32.not_lt.mpr c40)), if_pos ⟨c8, Int32.not_le.mp c56⟩]; exact p61) | (rw [op_sheet, if_pos p1, if_pos (Or.inr (Or.inl c14)), if_neg (fun z => absurd z.2 (Int32.not_lt.mpr c40)), if_neg (fun z => absurd z.2 (Int32.not_lt.mpr c56)), tSh, cn_nI (by omega)]; exact ⟨rfl, by rw [e5] at hTq; exact hTq⟩) | (rw [op_sheet, if_pos p1, if_pos (Or.inr (Or.inr (Or.inl c20))), if_pos ⟨c8, Int32.not_le.mp c40⟩]; exact p45) | (rw [op_sheet, if_pos p1, if_pos (Or.inr (Or.inr (Or.inl c20))), if_neg (fun z => absurd z.2 (Int32.not_lt.mpr c40)), if_pos ⟨c8, Int32.not_le.mp c56⟩]; exact p61) | (rw [op_sheet, if_pos p1, if_pos (Or.inr (Or.inr (Or.inl c20))), if_neg (fun z => absurd z.2 (Int32.not_lt.mpr c40)), if_neg (fun z => absurd z.2 (Int32.not_lt.mpr c56)), tSh, cn_nI (by omega)]; exact ⟨rfl, by rw [e5] at hTq; exact hTq⟩) | (rw [op_sheet, if_pos p1, if_pos (Or.inr (Or.inr (Or.inr c26))), if_pos ⟨c8, Int32.not_le.mp c40⟩]; exact p45) | (rw [op_sheet, if_pos p1, if_pos (Or.inr (Or.inr (Or.inr c26))), if_neg (fun z => absurd z.2 (Int32.not_lt.mpr c40)), if_pos ⟨c8, Int32.not_le.mp c56⟩]; exact p61) | (rw [op_sheet, if_pos p1, if_pos (Or.inr (Or.inr (Or.inr c26))), if_neg (fun z => absurd z.2 (Int32.not_lt.mpr c40)), if_neg (fun z => absurd z.2 (Int32.not_lt.mpr c56)), tSh, cn_nI (by omega)]; exact ⟨rfl, by rw [e5] at hTq; exact hTq⟩) | (rw [op_sheet, if_pos p1, if_pos (Or.inl c8), if_neg (fun z => z.1 c8), if_neg (fun z => z.1 c8), tSh, cn_nI (by omega)]; exact ⟨rfl, by rw [e5] at hTq; exact hTq⟩)
              · refine lv_aload_n hx hb dX5_sheet_43 rfl (hl.at rfl) ?_
                refine lv_iconst (v := nI 3) hx hb dX5_sheet_44 rfl ?_
                refine m_iV hC hK hP hS (met_error hT rfl (by decide)) cv_X5_76 rfl rfl hl.1 (Nat.le_of_ble_eq_true rfl) dX5_sheet_45 (by decide) (by decide) (fun r45 σ45 H locs p45 hP hS => ?_)
                refine hret _ _ ls _ _ _ hP hS dX5_sheet_48 ?_
                first | (rw [op_sheet, if_neg p1]; exact p31) | (rw [op_sheet, if_pos p1, if_neg (fun z => by rcases z with z | z | z | z; exact c8 z; exact c14 z; exact c20 z; exact c26 z)]; exact p31) | (rw [op_sheet, if_pos p1, if_pos (Or.inr (Or.inl c14)), if_pos ⟨c8, Int32.not_le.mp c40⟩]; exact p45) | (rw [op_sheet, if_pos p1, if_pos (Or.inr (Or.inl c14)), if_neg (fun z => absurd z.2 (Int32.not_lt.mpr c40)), if_pos ⟨c8, Int32.not_le.mp c56⟩]; exact p61) | (rw [op_sheet, if_pos p1, if_pos (Or.inr (Or.inl c14)), if_neg (fun z => absurd z.2 (Int32.not_lt.mpr c40)), if_neg (fun z => absurd z.2 (Int32.not_lt.mpr c56)), tSh, cn_nI (by omega)]; exact ⟨rfl, by rw [e5] at hTq; exact hTq⟩) | (rw [op_sheet, if_pos p1, if_pos (Or.inr (Or.inr (Or.inl c20))), if_pos ⟨c8, Int32.not_le.mp c40⟩]; exact p45) | (rw [op_sheet, if_pos p1, if_pos (Or.inr (Or.inr (Or.inl c20))), if_neg (fun z => absurd z.2 (Int32.not_lt.mpr c40)), if_pos ⟨c8, Int32.not_le.mp c56⟩]; exact p61) | (rw [op_sheet, if_pos p1, if_pos (Or.inr (Or.inr (Or.inl c20))), if_neg (fun z => absurd z.2 (Int32.not_lt.mpr c40)), if_neg (fun z => absurd z.2 (Int32.not_lt.mpr c56)), tSh, cn_nI (by omega)]; exact ⟨rfl, by rw [e5] at hTq; exact hTq⟩) | (rw [op_sheet, if_pos p1, if_pos (Or.inr (Or.inr (Or.inr c26))), if_pos ⟨c8, Int32.not_le.mp c40⟩]; exact p45) | (rw [op_sheet, if_pos p1, if_pos (Or.inr (Or.inr (Or.inr c26))), if_neg (fun z => absurd z.2 (Int32.not_lt.mpr c40)), if_pos ⟨c8, Int32.not_le.mp c56⟩]; exact p61) | (rw [op_sheet, if_pos p1, if_pos (Or.inr (Or.inr (Or.inr c26))), if_neg (fun z => absurd z.2 (Int32.not_lt.mpr c40)), if_neg (fun z => absurd z.2 (Int32.not_lt.mpr c56)), tSh, cn_nI (by omega)]; exact ⟨rfl, by rw [e5] at hTq; exact hTq⟩) | (rw [op_sheet, if_pos p1, if_pos (Or.inl c8), if_neg (fun z => z.1 c8), if_neg (fun z => z.1 c8), tSh, cn_nI (by omega)]; exact ⟨rfl, by rw [e5] at hTq; exact hTq⟩)
          · refine lv_aload_n hx hb dX5_sheet_29 rfl (hl.at rfl) ?_
            refine lv_iconst (v := nI 1) hx hb dX5_sheet_30 rfl ?_
            refine m_iV hC hK hP hS (met_error hT rfl (by decide)) cv_X5_76 rfl rfl hl.1 (Nat.le_of_ble_eq_true rfl) dX5_sheet_31 (by decide) (by decide) (fun r31 σ31 H locs p31 hP hS => ?_)
            refine hret _ _ ls _ _ _ hP hS dX5_sheet_34 ?_
            first | (rw [op_sheet, if_neg p1]; exact p31) | (rw [op_sheet, if_pos p1, if_neg (fun z => by rcases z with z | z | z | z; exact c8 z; exact c14 z; exact c20 z; exact c26 z)]; exact p31) | (rw [op_sheet, if_pos p1, if_pos (Or.inr (Or.inl c14)), if_pos ⟨c8, Int32.not_le.mp c40⟩]; exact p45) | (rw [op_sheet, if_pos p1, if_pos (Or.inr (Or.inl c14)), if_neg (fun z => absurd z.2 (Int32.not_lt.mpr c40)), if_pos ⟨c8, Int32.not_le.mp c56⟩]; exact p61) | (rw [op_sheet, if_pos p1, if_pos (Or.inr (Or.inl c14)), if_neg (fun z => absurd z.2 (Int32.not_lt.mpr c40)), if_neg (fun z => absurd z.2 (Int32.not_lt.mpr c56)), tSh, cn_nI (by omega)]; exact ⟨rfl, by rw [e5] at hTq; exact hTq⟩) | (rw [op_sheet, if_pos p1, if_pos (Or.inr (Or.inr (Or.inl c20))), if_pos ⟨c8, Int32.not_le.mp c40⟩]; exact p45) | (rw [op_sheet, if_pos p1, if_pos (Or.inr (Or.inr (Or.inl c20))), if_neg (fun z => absurd z.2 (Int32.not_lt.mpr c40)), if_pos ⟨c8, Int32.not_le.mp c56⟩]; exact p61) | (rw [op_sheet, if_pos p1, if_pos (Or.inr (Or.inr (Or.inl c20))), if_neg (fun z => absurd z.2 (Int32.not_lt.mpr c40)), if_neg (fun z => absurd z.2 (Int32.not_lt.mpr c56)), tSh, cn_nI (by omega)]; exact ⟨rfl, by rw [e5] at hTq; exact hTq⟩) | (rw [op_sheet, if_pos p1, if_pos (Or.inr (Or.inr (Or.inr c26))), if_pos ⟨c8, Int32.not_le.mp c40⟩]; exact p45) | (rw [op_sheet, if_pos p1, if_pos (Or.inr (Or.inr (Or.inr c26))), if_neg (fun z => absurd z.2 (Int32.not_lt.mpr c40)), if_pos ⟨c8, Int32.not_le.mp c56⟩]; exact p61) | (rw [op_sheet, if_pos p1, if_pos (Or.inr (Or.inr (Or.inr c26))), if_neg (fun z => absurd z.2 (Int32.not_lt.mpr c40)), if_neg (fun z => absurd z.2 (Int32.not_lt.mpr c56)), tSh, cn_nI (by omega)]; exact ⟨rfl, by rw [e5] at hTq; exact hTq⟩) | (rw [op_sheet, if_pos p1, if_pos (Or.inl c8), if_neg (fun z => z.1 c8), if_neg (fun z => z.1 c8), tSh, cn_nI (by omega)]; exact ⟨rfl, by rw [e5] at hTq; exact hTq⟩)
  · refine l_ifeq_0 hx hb 29 dX5_sheet_4 rfl ?_
    refine lv_aload_n hx hb dX5_sheet_29 rfl (hl.at rfl) ?_
    refine lv_iconst (v := nI 1) hx hb dX5_sheet_30 rfl ?_
    refine m_iV hC hK hP hS (met_error hT rfl (by decide)) cv_X5_76 rfl rfl hl.1 (Nat.le_of_ble_eq_true rfl) dX5_sheet_31 (by decide) (by decide) (fun r31 σ31 H locs p31 hP hS => ?_)
    refine hret _ _ ls _ _ _ hP hS dX5_sheet_34 ?_
    first | (rw [op_sheet, if_neg p1]; exact p31) | (rw [op_sheet, if_pos p1, if_neg (fun z => by rcases z with z | z | z | z; exact c8 z; exact c14 z; exact c20 z; exact c26 z)]; exact p31) | (rw [op_sheet, if_pos p1, if_pos (Or.inr (Or.inl c14)), if_pos ⟨c8, Int32.not_le.mp c40⟩]; exact p45) | (rw [op_sheet, if_pos p1, if_pos (Or.inr (Or.inl c14)), if_neg (fun z => absurd z.2 (Int32.not_lt.mpr c40)), if_pos ⟨c8, Int32.not_le.mp c56⟩]; exact p61) | (rw [op_sheet, if_pos p1, if_pos (Or.inr (Or.inl c14)), if_neg (fun z => absurd z.2 (Int32.not_lt.mpr c40)), if_neg (fun z => absurd z.2 (Int32.not_lt.mpr c56)), tSh, cn_nI (by omega)]; exact ⟨rfl, by rw [e5] at hTq; exact hTq⟩) | (rw [op_sheet, if_pos p1, if_pos (Or.inr (Or.inr (Or.inl c20))), if_pos ⟨c8, Int32.not_le.mp c40⟩]; exact p45) | (rw [op_sheet, if_pos p1, if_pos (Or.inr (Or.inr (Or.inl c20))), if_neg (fun z => absurd z.2 (Int32.not_lt.mpr c40)), if_pos ⟨c8, Int32.not_le.mp c56⟩]; exact p61) | (rw [op_sheet, if_pos p1, if_pos (Or.inr (Or.inr (Or.inl c20))), if_neg (fun z => absurd z.2 (Int32.not_lt.mpr c40)), if_neg (fun z => absurd z.2 (Int32.not_lt.mpr c56)), tSh, cn_nI (by omega)]; exact ⟨rfl, by rw [e5] at hTq; exact hTq⟩) | (rw [op_sheet, if_pos p1, if_pos (Or.inr (Or.inr (Or.inr c26))), if_pos ⟨c8, Int32.not_le.mp c40⟩]; exact p45) | (rw [op_sheet, if_pos p1, if_pos (Or.inr (Or.inr (Or.inr c26))), if_neg (fun z => absurd z.2 (Int32.not_lt.mpr c40)), if_pos ⟨c8, Int32.not_le.mp c56⟩]; exact p61) | (rw [op_sheet, if_pos p1, if_pos (Or.inr (Or.inr (Or.inr c26))), if_neg (fun z => absurd z.2 (Int32.not_lt.mpr c40)), if_neg (fun z => absurd z.2 (Int32.not_lt.mpr c56)), tSh, cn_nI (by omega)]; exact ⟨rfl, by rw [e5] at hTq; exact hTq⟩) | (rw [op_sheet, if_pos p1, if_pos (Or.inl c8), if_neg (fun z => z.1 c8), if_neg (fun z => z.1 c8), tSh, cn_nI (by omega)]; exact ⟨rfl, by rw [e5] at hTq; exact hTq⟩)
theorem met_put {l : Launch} {D : va_G} {cA : Nat → ClassId} {b : Nat} {σ : Nat → Nat → Int32} {x i v : Int32} {T : Tta} (hT : RT σ T) (hz : ∀ s, s < 4 → Bd (T 2 5 s) 24) : MI l D cA b yX5_put cX5_put 5 (some .int) (2) [.ref b, .int x, .int i, .int v] σ (fun r τ => r = (op_put x i v T).1 ∧ RT τ (op_put x i v T).2) := by
  refine Ci.of rfl (by decide +kernel) (Nat.le_of_ble_eq_true rfl) ?_
  intro p e s m args below meth c Q hC hK hP hret ls hl
  have hx := hC.1
  have hb := hC.2.1
  have hown := hC.2.2.2.1
  have hts := hC.2.2.2.2
  have hS : va_S (mA b) s.heap s.heap [] := va_S.rf
  refine lv_iload_n hx hb dX5_put_0 rfl (hl.at rfl) ?_
  refine m_sS hC (met_isSheet ) cs_X5_281 rfl rfl hl.1 (Nat.le_of_ble_eq_true rfl) dX5_put_1 (by decide) (by decide) (fun r1 p1 => ?_)
  rcases p1 with ⟨rfl, p1⟩ | ⟨rfl, p1⟩
  · obtain ⟨k, hk, rfl⟩ := in_nI p1
    obtain ⟨z, hz1, ez⟩ := hz k (by omega)
    refine l_ifne_1 hx hb 13 dX5_put_4 rfl ?_
    refine lv_aload_n hx hb dX5_put_13 rfl (hl.at rfl) ?_
    refine mg_bits hC hK hP dX5_put_14 ?_
    refine lv_iload_n hx hb dX5_put_17 rfl (hl.at rfl) ?_
    refine m_ld 11 _ (by decide) hC hK hP (rfl) (show _ < 4 by omega) dX5_put_18 ?_
    refine l_top _ (hT.2.2 4 k (by show k < 4; omega)) ?_
    refine lv_if_ne (tgt := 28) hx hb dX5_put_19 rfl (fun c19 => ?_) (fun c19 => ?_)
    · refine lv_iload_n hx hb dX5_put_28 rfl (hl.at rfl) ?_
      refine lv_iconst (v := nI 0) hx hb dX5_put_29 rfl ?_
      refine lv_aload_n hx hb dX5_put_30 rfl (hl.at rfl) ?_
      refine mg_sizes hC hK hP dX5_put_31 ?_
      refine lv_iload_n hx hb dX5_put_34 rfl (hl.at rfl) ?_
      refine m_ld 12 _ (by decide) hC hK hP (rfl) (show _ < 4 by omega) dX5_put_35 ?_
      refine l_top _ (hT.2.2 5 k (by show k < 4; omega)) ?_
      refine lv_iconst (v := nI 1) hx hb dX5_put_36 rfl ?_
      refine lv_isub hx hb dX5_put_37 ?_
      refine m_sS hC (met_in ) cs_X5_56 rfl rfl hl.1 (Nat.le_of_ble_eq_true rfl) dX5_put_38 (by decide) (by decide) (fun r38 p38 => ?_)
      rcases p38 with ⟨rfl, p38⟩ | ⟨rfl, p38⟩
      · obtain ⟨j, hj, rfl⟩ := in_sz hz1 (by rw [← ez]; exact p38)
        refine l_ifne_1 hx hb 50 dX5_put_41 rfl ?_
        refine lv_bipush (v := nI 32) hx hb dX5_put_50 rfl ?_
        refine lv_aload_n hx hb dX5_put_52 rfl (hl.at rfl) ?_
        refine mg_bits hC hK hP dX5_put_53 ?_
        refine lv_iload_n hx hb dX5_put_56 rfl (hl.at rfl) ?_
        refine m_ld 11 _ (by decide) hC hK hP (rfl) (show _ < 4 by omega) dX5_put_57 ?_
        refine l_top _ (hT.2.2 4 k (by show k < 4; omega)) ?_
        refine lv_isub hx hb dX5_put_58 ?_
        refine l_istore hx hb 4 dX5_put_59 hl rfl (fun ls hl => ?_)
        refine lv_aload_n hx hb dX5_put_61 rfl (hl.at rfl) ?_
        refine mg_number hC hK hP dX5_put_62 ?_
        refine lv_bipush (v := nI 24) hx hb dX5_put_65 rfl ?_
        refine lv_iload_n hx hb dX5_put_67 rfl (hl.at rfl) ?_
        refine l_mulN hx hb dX5_put_68 ?_
        refine lv_iload_n hx hb dX5_put_69 rfl (hl.at rfl) ?_
        refine l_addN hx hb dX5_put_70 ?_
        refine lv_iload_n hx hb dX5_put_71 rfl (hl.at rfl) ?_
        refine lv_iload hx hb dX5_put_72 (hl.at rfl) ?_
        refine lv_ishl hx hb dX5_put_74 ?_
        refine lv_iload hx hb dX5_put_75 (hl.at rfl) ?_
        refine lv_ishr hx hb dX5_put_77 ?_
        refine m_st 13 _ (by decide) hC hK hP hS (rfl) (show _ < 96 by omega) dX5_put_78 (fun H locs hP hS => ?_)
        refine lv_iconst (v := nI 1) hx hb dX5_put_79 rfl ?_
        refine hret _ _ ls _ _ _ hP hS dX5_put_80 ?_
        first | (rw [op_put, if_pos p1, cn_nI (by omega), if_neg c19, if_pos p38, cn_nI (by omega)]; exact ⟨rfl, hT.stX 6 (24 * k + j) _ (by decide)⟩) | (rw [op_put, if_neg p1]; exact p9) | (rw [op_put, if_pos p1, cn_nI (by omega), if_pos c19]; exact p24) | (rw [op_put, if_pos p1, cn_nI (by omega), if_neg c19, if_neg p38]; exact p46)
      · refine l_ifne_0 hx hb 50 dX5_put_41 rfl ?_
        refine lv_aload_n hx hb dX5_put_44 rfl (hl.at rfl) ?_
        refine lv_iconst (v := nI 1) hx hb dX5_put_45 rfl ?_
        refine m_iV hC hK hP hS (met_error hT rfl (by decide)) cv_X5_76 rfl rfl hl.1 (Nat.le_of_ble_eq_true rfl) dX5_put_46 (by decide) (by decide) (fun r46 σ46 H locs p46 hP hS => ?_)
        refine hret _ _ ls _ _ _ hP hS dX5_put_49 ?_
        first | (rw [op_put, if_pos p1, cn_nI (by omega), if_neg c19, if_pos p38, cn_nI (by omega)]; exact ⟨rfl, hT.stX 6 (24 * k + j) _ (by decide)⟩) | (rw [op_put, if_neg p1]; exact p9) | (rw [op_put, if_pos p1, cn_nI (by omega), if_pos c19]; exact p24) | (rw [op_put, if_pos p1, cn_nI (by omega), if_neg c19, if_neg p38]; exact p46)
    · refine lv_aload_n hx hb dX5_put_22 rfl (hl.at rfl) ?_
      refine lv_iconst (v := nI 2) hx hb dX5_put_23 rfl ?_
      refine m_iV hC hK hP hS (met_error hT rfl (by decide)) cv_X5_76 rfl rfl hl.1 (Nat.le_of_ble_eq_true rfl) dX5_put_24 (by decide) (by decide) (fun r24 σ24 H locs p24 hP hS => ?_)
      refine hret _ _ ls _ _ _ hP hS dX5_put_27 ?_
      first | (rw [op_put, if_pos p1, cn_nI (by omega), if_neg c19, if_pos p38, cn_nI (by omega)]; exact ⟨rfl, hT.stX 6 (24 * k + j) _ (by decide)⟩) | (rw [op_put, if_neg p1]; exact p9) | (rw [op_put, if_pos p1, cn_nI (by omega), if_pos c19]; exact p24) | (rw [op_put, if_pos p1, cn_nI (by omega), if_neg c19, if_neg p38]; exact p46)
  · refine l_ifne_0 hx hb 13 dX5_put_4 rfl ?_
    refine lv_aload_n hx hb dX5_put_7 rfl (hl.at rfl) ?_
    refine lv_iconst (v := nI 1) hx hb dX5_put_8 rfl ?_
    refine m_iV hC hK hP hS (met_error hT rfl (by decide)) cv_X5_76 rfl rfl hl.1 (Nat.le_of_ble_eq_true rfl) dX5_put_9 (by decide) (by decide) (fun r9 σ9 H locs p9 hP hS => ?_)
    refine hret _ _ ls _ _ _ hP hS dX5_put_12 ?_
    first | (rw [op_put, if_pos p1, cn_nI (by omega), if_neg c19, if_pos p38, cn_nI (by omega)]; exact ⟨rfl, hT.stX 6 (24 * k + j) _ (by decide)⟩) | (rw [op_put, if_neg p1]; exact p9) | (rw [op_put, if_pos p1, cn_nI (by omega), if_pos c19]; exact p24) | (rw [op_put, if_pos p1, cn_nI (by omega), if_neg c19, if_neg p38]; exact p46)
theorem met_move {l : Launch} {D : va_G} {cA : Nat → ClassId} {b : Nat} {σ : Nat → Nat → Int32} {x i o j n : Int32} {T : Tta} (hT : RT σ T) (hz : ∀ s, s < 4 → Bd (T 2 5 s) 24) : MI l D cA b yX5_move cX5_move 7 (some .int) (2) [.ref b, .int x, .int i, .int o, .int j, .int n] σ (fun r τ => r = (op_move x i o j n T).1 ∧ RT τ (op_move x i o j n T).2) := by
  refine Ci.of rfl (by decide +kernel) (Nat.le_of_ble_eq_true rfl) ?_
  intro p e s m args below meth c Q hC hK hP hret ls hl
  have hx := hC.1
  have hb := hC.2.1
  have hown := hC.2.2.2.1
  have hts := hC.2.2.2.2
  have hS : va_S (mA b) s.heap s.heap [] := va_S.rf
  refine lv_iload_n hx hb dX5_move_0 rfl (hl.at rfl) ?_
  refine m_sS hC (met_isSheet ) cs_X5_281 rfl rfl hl.1 (Nat.le_of_ble_eq_true rfl) dX5_move_1 (by decide) (by decide) (fun r1 p1 => ?_)
  rcases p1 with ⟨rfl, p1⟩ | ⟨rfl, p1⟩
  · obtain ⟨k, hk, rfl⟩ := in_nI p1
    obtain ⟨z, hz1, ez⟩ := hz k (by omega)
    refine l_ifeq_1 hx hb 14 dX5_move_4 rfl ?_
    refine lv_iload_n hx hb dX5_move_7 rfl (hl.at rfl) ?_
    refine m_sS hC (met_isSheet ) cs_X5_281 rfl rfl hl.1 (Nat.le_of_ble_eq_true rfl) dX5_move_8 (by decide) (by decide) (fun r8 p8 => ?_)
    rcases p8 with ⟨rfl, p8⟩ | ⟨rfl, p8⟩
    · obtain ⟨o1, ho, rfl⟩ := in_nI p8
      obtain ⟨z2, hz2, eo⟩ := hz o1 (by omega)
      refine l_ifne_1 hx hb 20 dX5_move_11 rfl ?_
      refine lv_aload_n hx hb dX5_move_20 rfl (hl.at rfl) ?_
      refine mg_bits hC hK hP dX5_move_21 ?_
      refine lv_iload_n hx hb dX5_move_24 rfl (hl.at rfl) ?_
      refine m_ld 11 _ (by decide) hC hK hP (rfl) (show _ < 4 by omega) dX5_move_25 ?_
      refine l_top _ (hT.2.2 4 k (by show k < 4; omega)) ?_
      refine lv_if_eq (tgt := 38) hx hb dX5_move_26 rfl (fun c26 => ?_) (fun c26 => ?_)
      · refine lv_aload_n hx hb dX5_move_38 rfl (hl.at rfl) ?_
        refine lv_iconst (v := nI 2) hx hb dX5_move_39 rfl ?_
        refine m_iV hC hK hP hS (met_error hT rfl (by decide)) cv_X5_76 rfl rfl hl.1 (Nat.le_of_ble_eq_true rfl) dX5_move_40 (by decide) (by decide) (fun r40 σ40 H locs p40 hP hS => ?_)
        refine hret _ _ ls _ _ _ hP hS dX5_move_43 ?_
        first | (rw [op_move, if_neg p1]; exact p16) | (rw [op_move, if_pos p1, if_neg p8]; exact p16) | (rw [op_move, if_pos p1, if_pos p8, cn_nI (by omega), if_pos c26]; exact p40) | (rw [op_move, if_pos p1, if_pos p8, cn_nI (by omega), cn_nI (by omega), if_neg c26, if_pos c35]; exact p40) | (rw [op_move, if_pos p1, if_pos p8, cn_nI (by omega), cn_nI (by omega), if_neg c26, if_neg c35, if_neg c56]; exact p61) | (rw [op_move, if_pos p1, if_pos p8, cn_nI (by omega), cn_nI (by omega), if_neg c26, if_neg c35, if_pos c56, if_pos c67]; exact p108) | (rw [op_move, if_pos p1, if_pos p8, cn_nI (by omega), cn_nI (by omega), if_neg c26, if_neg c35, if_pos c56, if_neg c67, if_pos c71]; exact p108) | (rw [op_move, if_pos p1, if_pos p8, cn_nI (by omega), cn_nI (by omega), if_neg c26, if_neg c35, if_pos c56, if_neg c67, if_neg c71, if_pos c76]; exact p108) | (rw [op_move, if_pos p1, if_pos p8, cn_nI (by omega), cn_nI (by omega), if_neg c26, if_neg c35, if_pos c56, if_neg c67, if_neg c71, if_neg c76, cn_nI (by omega), cn_nI (by omega), cn_nI (by omega), ez, eo, cn_nI (by omega), cn_nI (by omega), if_neg (by omega)]; exact p108) | (rw [op_move, if_pos p1, if_pos p8, cn_nI (by omega), cn_nI (by omega), if_neg c26, if_neg c35, if_pos c56, if_neg c67, if_neg c71, if_neg c76, cn_nI (by omega), cn_nI (by omega), cn_nI (by omega), ez, eo, cn_nI (by omega), cn_nI (by omega), if_pos (by omega), if_neg (by omega)]; exact p108) | (rw [op_move, if_pos p1, if_pos p8, cn_nI (by omega), cn_nI (by omega), if_neg c26, if_neg c35, if_pos c56, if_neg c67, if_neg c71, if_neg c76, cn_nI (by omega), cn_nI (by omega), cn_nI (by omega), ez, eo, cn_nI (by omega), cn_nI (by omega), if_pos (by omega), if_pos (by omega)]; exact ⟨rfl, hT.X 6 (L := [13, 14]) (fun r hr => by rw [show n1 = q by omega]; exact g13 r hr) gk (by decide) (by decide) (by decide)⟩)
      · refine lv_aload_n hx hb dX5_move_29 rfl (hl.at rfl) ?_
        refine mg_bits hC hK hP dX5_move_30 ?_
        refine lv_iload_n hx hb dX5_move_33 rfl (hl.at rfl) ?_
        refine m_ld 11 _ (by decide) hC hK hP (rfl) (show _ < 4 by omega) dX5_move_34 ?_
        refine l_top _ (hT.2.2 4 o1 (by show o1 < 4; omega)) ?_
        refine lv_if_ne (tgt := 44) hx hb dX5_move_35 rfl (fun c35 => ?_) (fun c35 => ?_)
        · refine lv_aload_n hx hb dX5_move_44 rfl (hl.at rfl) ?_
          refine mg_bits hC hK hP dX5_move_45 ?_
          refine lv_iload_n hx hb dX5_move_48 rfl (hl.at rfl) ?_
          refine m_ld 11 _ (by decide) hC hK hP (rfl) (show _ < 4 by omega) dX5_move_49 ?_
          refine l_top _ (hT.2.2 4 k (by show k < 4; omega)) ?_
          refine lv_aload_n hx hb dX5_move_50 rfl (hl.at rfl) ?_
          refine mg_bits hC hK hP dX5_move_51 ?_
          refine lv_iload_n hx hb dX5_move_54 rfl (hl.at rfl) ?_
          refine m_ld 11 _ (by decide) hC hK hP (rfl) (show _ < 4 by omega) dX5_move_55 ?_
          refine l_top _ (hT.2.2 4 o1 (by show o1 < 4; omega)) ?_
          refine lv_icmp_eq (tgt := 65) hx hb dX5_move_56 rfl (fun c56 => ?_) (fun c56 => ?_)
          · refine lv_iload hx hb dX5_move_65 (hl.at rfl) ?_
            refine lv_if_lt (tgt := 106) hx hb dX5_move_67 rfl (fun c67 => ?_) (fun c67 => ?_)
            · refine lv_aload_n hx hb dX5_move_106 rfl (hl.at rfl) ?_
              refine lv_iconst (v := nI 1) hx hb dX5_move_107 rfl ?_
              refine m_iV hC hK hP hS (met_error hT rfl (by decide)) cv_X5_76 rfl rfl hl.1 (Nat.le_of_ble_eq_true rfl) dX5_move_108 (by decide) (by decide) (fun r108 σ108 H locs p108 hP hS => ?_)
              refine hret _ _ ls _ _ _ hP hS dX5_move_111 ?_
              first | (rw [op_move, if_neg p1]; exact p16) | (rw [op_move, if_pos p1, if_neg p8]; exact p16) | (rw [op_move, if_pos p1, if_pos p8, cn_nI (by omega), if_pos c26]; exact p40) | (rw [op_move, if_pos p1, if_pos p8, cn_nI (by omega), cn_nI (by omega), if_neg c26, if_pos c35]; exact p40) | (rw [op_move, if_pos p1, if_pos p8, cn_nI (by omega), cn_nI (by omega), if_neg c26, if_neg c35, if_neg c56]; exact p61) | (rw [op_move, if_pos p1, if_pos p8, cn_nI (by omega), cn_nI (by omega), if_neg c26, if_neg c35, if_pos c56, if_pos c67]; exact p108) | (rw [op_move, if_pos p1, if_pos p8, cn_nI (by omega), cn_nI (by omega), if_neg c26, if_neg c35, if_pos c56, if_neg c67, if_pos c71]; exact p108) | (rw [op_move, if_pos p1, if_pos p8, cn_nI (by omega), cn_nI (by omega), if_neg c26, if_neg c35, if_pos c56, if_neg c67, if_neg c71, if_pos c76]; exact p108) | (rw [op_move, if_pos p1, if_pos p8, cn_nI (by omega), cn_nI (by omega), if_neg c26, if_neg c35, if_pos c56, if_neg c67, if_neg c71, if_neg c76, cn_nI (by omega), cn_nI (by omega), cn_nI (by omega), ez, eo, cn_nI (by omega), cn_nI (by omega), if_neg (by omega)]; exact p108) | (rw [op_move, if_pos p1, if_pos p8, cn_nI (by omega), cn_nI (by omega), if_neg c26, if_neg c35, if_pos c56, if_neg c67, if_neg c71, if_neg c76, cn_nI (by omega), cn_nI (by omega), cn_nI (by omega), ez, eo, cn_nI (by omega), cn_nI (by omega), if_pos (by omega), if_neg (by omega)]; exact p108) | (rw [op_move, if_pos p1, if_pos p8, cn_nI (by omega), cn_nI (by omega), if_neg c26, if_neg c35, if_pos c56, if_neg c67, if_neg c71, if_neg c76, cn_nI (by omega), cn_nI (by omega), cn_nI (by omega), ez, eo, cn_nI (by omega), cn_nI (by omega), if_pos (by omega), if_pos (by omega)]; exact ⟨rfl, hT.X 6 (L := [13, 14]) (fun r hr => by rw [show n1 = q by omega]; exact g13 r hr) gk (by decide) (by decide) (by decide)⟩)
            · obtain ⟨n1, hn1, rfl⟩ := nI_of c67
              refine lv_iload_n hx hb dX5_move_70 rfl (hl.at rfl) ?_
              refine lv_if_lt (tgt := 106) hx hb dX5_move_71 rfl (fun c71 => ?_) (fun c71 => ?_)
              · refine lv_aload_n hx hb dX5_move_106 rfl (hl.at rfl) ?_
                refine lv_iconst (v := nI 1) hx hb dX5_move_107 rfl ?_
                refine m_iV hC hK hP hS (met_error hT rfl (by decide)) cv_X5_76 rfl rfl hl.1 (Nat.le_of_ble_eq_true rfl) dX5_move_108 (by decide) (by decide) (fun r108 σ108 H locs p108 hP hS => ?_)
                refine hret _ _ ls _ _ _ hP hS dX5_move_111 ?_
                first | (rw [op_move, if_neg p1]; exact p16) | (rw [op_move, if_pos p1, if_neg p8]; exact p16) | (rw [op_move, if_pos p1, if_pos p8, cn_nI (by omega), if_pos c26]; exact p40) | (rw [op_move, if_pos p1, if_pos p8, cn_nI (by omega), cn_nI (by omega), if_neg c26, if_pos c35]; exact p40) | (rw [op_move, if_pos p1, if_pos p8, cn_nI (by omega), cn_nI (by omega), if_neg c26, if_neg c35, if_neg c56]; exact p61) | (rw [op_move, if_pos p1, if_pos p8, cn_nI (by omega), cn_nI (by omega), if_neg c26, if_neg c35, if_pos c56, if_pos c67]; exact p108) | (rw [op_move, if_pos p1, if_pos p8, cn_nI (by omega), cn_nI (by omega), if_neg c26, if_neg c35, if_pos c56, if_neg c67, if_pos c71]; exact p108) | (rw [op_move, if_pos p1, if_pos p8, cn_nI (by omega), cn_nI (by omega), if_neg c26, if_neg c35, if_pos c56, if_neg c67, if_neg c71, if_pos c76]; exact p108) | (rw [op_move, if_pos p1, if_pos p8, cn_nI (by omega), cn_nI (by omega), if_neg c26, if_neg c35, if_pos c56, if_neg c67, if_neg c71, if_neg c76, cn_nI (by omega), cn_nI (by omega), cn_nI (by omega), ez, eo, cn_nI (by omega), cn_nI (by omega), if_neg (by omega)]; exact p108) | (rw [op_move, if_pos p1, if_pos p8, cn_nI (by omega), cn_nI (by omega), if_neg c26, if_neg c35, if_pos c56, if_neg c67, if_neg c71, if_neg c76, cn_nI (by omega), cn_nI (by omega), cn_nI (by omega), ez, eo, cn_nI (by omega), cn_nI (by omega), if_pos (by omega), if_neg (by omega)]; exact p108) | (rw [op_move, if_pos p1, if_pos p8, cn_nI (by omega), cn_nI (by omega), if_neg c26, if_neg c35, if_pos c56, if_neg c67, if_neg c71, if_neg c76, cn_nI (by omega), cn_nI (by omega), cn_nI (by omega), ez, eo, cn_nI (by omega), cn_nI (by omega), if_pos (by omega), if_pos (by omega)]; exact ⟨rfl, hT.X 6 (L := [13, 14]) (fun r hr => by rw [show n1 = q by omega]; exact g13 r hr) gk (by decide) (by decide) (by decide)⟩)
              · obtain ⟨i1, hi1, rfl⟩ := nI_of c71
                refine lv_iload hx hb dX5_move_74 (hl.at rfl) ?_
                refine lv_if_lt (tgt := 106) hx hb dX5_move_76 rfl (fun c76 => ?_) (fun c76 => ?_)
                · refine lv_aload_n hx hb dX5_move_106 rfl (hl.at rfl) ?_
                  refine lv_iconst (v := nI 1) hx hb dX5_move_107 rfl ?_
                  refine m_iV hC hK hP hS (met_error hT rfl (by decide)) cv_X5_76 rfl rfl hl.1 (Nat.le_of_ble_eq_true rfl) dX5_move_108 (by decide) (by decide) (fun r108 σ108 H locs p108 hP hS => ?_)
                  refine hret _ _ ls _ _ _ hP hS dX5_move_111 ?_
                  first | (rw [op_move, if_neg p1]; exact p16) | (rw [op_move, if_pos p1, if_neg p8]; exact p16) | (rw [op_move, if_pos p1, if_pos p8, cn_nI (by omega), if_pos c26]; exact p40) | (rw [op_move, if_pos p1, if_pos p8, cn_nI (by omega), cn_nI (by omega), if_neg c26, if_pos c35]; exact p40) | (rw [op_move, if_pos p1, if_pos p8, cn_nI (by omega), cn_nI (by omega), if_neg c26, if_neg c35, if_neg c56]; exact p61) | (rw [op_move, if_pos p1, if_pos p8, cn_nI (by omega), cn_nI (by omega), if_neg c26, if_neg c35, if_pos c56, if_pos c67]; exact p108) | (rw [op_move, if_pos p1, if_pos p8, cn_nI (by omega), cn_nI (by omega), if_neg c26, if_neg c35, if_pos c56, if_neg c67, if_pos c71]; exact p108) | (rw [op_move, if_pos p1, if_pos p8, cn_nI (by omega), cn_nI (by omega), if_neg c26, if_neg c35, if_pos c56, if_neg c67, if_neg c71, if_pos c76]; exact p108) | (rw [op_move, if_pos p1, if_pos p8, cn_nI (by omega), cn_nI (by omega), if_neg c26, if_neg c35, if_pos c56, if_neg c67, if_neg c71, if_neg c76, cn_nI (by omega), cn_nI (by omega), cn_nI (by omega), ez, eo, cn_nI (by omega), cn_nI (by omega), if_neg (by omega)]; exact p108) | (rw [op_move, if_pos p1, if_pos p8, cn_nI (by omega), cn_nI (by omega), if_neg c26, if_neg c35, if_pos c56, if_neg c67, if_neg c71, if_neg c76, cn_nI (by omega), cn_nI (by omega), cn_nI (by omega), ez, eo, cn_nI (by omega), cn_nI (by omega), if_pos (by omega), if_neg (by omega)]; exact p108) | (rw [op_move, if_pos p1, if_pos p8, cn_nI (by omega), cn_nI (by omega), if_neg c26, if_neg c35, if_pos c56, if_neg c67, if_neg c71, if_neg c76, cn_nI (by omega), cn_nI (by omega), cn_nI (by omega), ez, eo, cn_nI (by omega), cn_nI (by omega), if_pos (by omega), if_pos (by omega)]; exact ⟨rfl, hT.X 6 (L := [13, 14]) (fun r hr => by rw [show n1 = q by omega]; exact g13 r hr) gk (by decide) (by decide) (by decide)⟩)
                · obtain ⟨j1, hj1, rfl⟩ := nI_of c76
                  refine lv_iload_n hx hb dX5_move_79 rfl (hl.at rfl) ?_
                  refine lv_aload_n hx hb dX5_move_80 rfl (hl.at rfl) ?_
                  refine mg_sizes hC hK hP dX5_move_81 ?_
                  refine lv_iload_n hx hb dX5_move_84 rfl (hl.at rfl) ?_
                  refine m_ld 12 _ (by decide) hC hK hP (rfl) (show _ < 4 by omega) dX5_move_85 ?_
                  refine l_top _ ((hT.2.2 5 k (by show k < 4; omega)).trans ez) ?_
                  refine lv_iload hx hb dX5_move_86 (hl.at rfl) ?_
                  refine lv_isub hx hb dX5_move_88 ?_
                  refine lv_icmp_gt (tgt := 106) hx hb dX5_move_89 rfl (fun c89 => ?_) (fun c89 => ?_)
                  · have c89 := (lt_sub_N (by omega) (by omega) (by omega)).mp c89
                    refine lv_aload_n hx hb dX5_move_106 rfl (hl.at rfl) ?_
                    refine lv_iconst (v := nI 1) hx hb dX5_move_107 rfl ?_
                    refine m_iV hC hK hP hS (met_error hT rfl (by decide)) cv_X5_76 rfl rfl hl.1 (Nat.le_of_ble_eq_true rfl) dX5_move_108 (by decide) (by decide) (fun r108 σ108 H locs p108 hP hS => ?_)
                    refine hret _ _ ls _ _ _ hP hS dX5_move_111 ?_
                    first | (rw [op_move, if_neg p1]; exact p16) | (rw [op_move, if_pos p1, if_neg p8]; exact p16) | (rw [op_move, if_pos p1, if_pos p8, cn_nI (by omega), if_pos c26]; exact p40) | (rw [op_move, if_pos p1, if_pos p8, cn_nI (by omega), cn_nI (by omega), if_neg c26, if_pos c35]; exact p40) | (rw [op_move, if_pos p1, if_pos p8, cn_nI (by omega), cn_nI (by omega), if_neg c26, if_neg c35, if_neg c56]; exact p61) | (rw [op_move, if_pos p1, if_pos p8, cn_nI (by omega), cn_nI (by omega), if_neg c26, if_neg c35, if_pos c56, if_pos c67]; exact p108) | (rw [op_move, if_pos p1, if_pos p8, cn_nI (by omega), cn_nI (by omega), if_neg c26, if_neg c35, if_pos c56, if_neg c67, if_pos c71]; exact p108) | (rw [op_move, if_pos p1, if_pos p8, cn_nI (by omega), cn_nI (by omega), if_neg c26, if_neg c35, if_pos c56, if_neg c67, if_neg c71, if_pos c76]; exact p108) | (rw [op_move, if_pos p1, if_pos p8, cn_nI (by omega), cn_nI (by omega), if_neg c26, if_neg c35, if_pos c56, if_neg c67, if_neg c71, if_neg c76, cn_nI (by omega), cn_nI (by omega), cn_nI (by omega), ez, eo, cn_nI (by omega), cn_nI (by omega), if_neg (by omega)]; exact p108) | (rw [op_move, if_pos p1, if_pos p8, cn_nI (by omega), cn_nI (by omega), if_neg c26, if_neg c35, if_pos c56, if_neg c67, if_neg c71, if_neg c76, cn_nI (by omega), cn_nI (by omega), cn_nI (by omega), ez, eo, cn_nI (by omega), cn_nI (by omega), if_pos (by omega), if_neg (by omega)]; exact p108) | (rw [op_move, if_pos p1, if_pos p8, cn_nI (by omega), cn_nI (by omega), if_neg c26, if_neg c35, if_pos c56, if_neg c67, if_neg c71, if_neg c76, cn_nI (by omega), cn_nI (by omega), cn_nI (by omega), ez, eo, cn_nI (by omega), cn_nI (by omega), if_pos (by omega), if_pos (by omega)]; exact ⟨rfl, hT.X 6 (L := [13, 14]) (fun r hr => by rw [show n1 = q by omega]; exact g13 r hr) gk (by decide) (by decide) (by decide)⟩)
                  · have c89 := fun z => c89 ((lt_sub_N (by omega) (by omega) (by omega)).mpr z)
                    have c89 : i1 + n1 ≤ z := Nat.le_of_not_lt c89
                    refine lv_iload hx hb dX5_move_92 (hl.at rfl) ?_
                    refine lv_aload_n hx hb dX5_move_94 rfl (hl.at rfl) ?_
                    refine mg_sizes hC hK hP dX5_move_95 ?_
                    refine lv_iload_n hx hb dX5_move_98 rfl (hl.at rfl) ?_
                    refine m_ld 12 _ (by decide) hC hK hP (rfl) (show _ < 4 by omega) dX5_move_99 ?_
                    refine l_top _ ((hT.2.2 5 o1 (by show o1 < 4; omega)).trans eo) ?_
                    refine lv_iload hx hb dX5_move_100 (hl.at rfl) ?_
                    refine lv_isub hx hb dX5_move_102 ?_
                    refine lv_icmp_le (tgt := 112) hx hb dX5_move_103 rfl (fun c103 => ?_) (fun c103 => ?_)
                    · have c103 := (le_sub_N (by omega) (by omega) (by omega)).mp c103
                      refine lv_iconst (v := nI 0) hx hb dX5_move_112 rfl ?_
                      refine l_istore hx hb 6 dX5_move_113 hl rfl (fun ls hl => ?_)
                      have loop : ∀ (m0 q : Nat) (τ : Sta), q ≤ n1 → n1 + 1 ≤ q + m0 → Kp [14] σ τ → (∀ r, r < q → τ 14 r = σ 13 (24 * k + i1 + r)) → ∀ (H : Heap) (locs : List Loc) (ls : Array Slot), MWP D cA b τ H → va_S (mA b) s.heap H locs → lh ls [some (.ref b), some (.int (nI k)), some (.int (nI i1)), some (.int (nI o1)), some (.int (nI j1)), some (.int (nI n1)), some (.int (nI q))] → W p l e (rmG 2 0 0) s m args below meth c H locs 0 0 Q (F0 m 115 ls []) := by
                        intro m0
                        induction m0 with
                        | zero => intro q τ h1 h2; exact absurd h2 (by omega)
                        | succ m0 ih =>
                          intro q τ h1 h2 hk1 h14 H locs ls hP hS hl
                          refine lv_iload hx hb dX5_move_115 (hl.at rfl) ?_
                          refine lv_iload hx hb dX5_move_117 (hl.at rfl) ?_
                          refine l_geN hx hb 149 dX5_move_119 rfl (by omega) (by omega) (fun c119 => ?_) (fun c119 => ?_)
                          · have e6 : q = n1 := by omega
                            refine lv_iconst (v := nI 0) hx hb dX5_move_149 rfl ?_
                            refine l_istore hx hb 6 dX5_move_150 hl rfl (fun ls hl => ?_)
                            have loop2 : ∀ (m0 q : Nat) (υ : Sta), q ≤ n1 → n1 + 1 ≤ q + m0 → Kp [13, 14] σ υ → (∀ r, r < n1 → υ 14 r = σ 13 (24 * k + i1 + r)) → (∀ r, r < 96 → υ 13 r = mvf (T 2 6) (24 * k + i1) (24 * o1 + j1) q r) → ∀ (H : Heap) (locs : List Loc) (ls : Array Slot), MWP D cA b υ H → va_S (mA b) s.heap H locs → lh ls [some (.ref b), some (.int (nI k)), some (.int (nI i1)), some (.int (nI o1)), some (.int (nI j1)), some (.int (nI n1)), some (.int (nI q))] → W p l e (rmG 2 0 0) s m args below meth c H locs 0 0 Q (F0 m 152 ls []) := by
                              intro m0
                              induction m0 with
                              | zero => intro q υ g1 g2; exact absurd g2 (by omega)
                              | succ m0 ih2 =>
                                intro q υ g1 g2 gk g14 g13 H locs ls hP hS hl
                                refine lv_iload hx hb dX5_move_152 (hl.at rfl) ?_
                                refine lv_iload hx hb dX5_move_154 (hl.at rfl) ?_
                                refine l_geN hx hb 187 dX5_move_156 rfl (by omega) (by omega) (fun c156 => ?_) (fun c156 => ?_)
                                · refine lv_iload hx hb dX5_move_187 (hl.at rfl) ?_
                                  refine hret _ _ ls _ _ _ hP hS dX5_move_189 ?_
                                  first | (rw [op_move, if_neg p1]; exact p16) | (rw [op_move, if_pos p1, if_neg p8]; exact p16) | (rw [op_move, if_pos p1, if_pos p8, cn_nI (by omega), if_pos c26]; exact p40) | (rw [op_move, if_pos p1, if_pos p8, cn_nI (by omega), cn_nI (by omega), if_neg c26, if_pos c35]; exact p40) | (rw [op_move, if_pos p1, if_pos p8, cn_nI (by omega), cn_nI (by omega), if_neg c26, if_neg c35, if_neg c56]; exact p61) | (rw [op_move, if_pos p1, if_pos p8, cn_nI (by omega), cn_nI (by omega), if_neg c26, if_neg c35, if_pos c56, if_pos c67]; exact p108) | (rw [op_move, if_pos p1, if_pos p8, cn_nI (by omega), cn_nI (by omega), if_neg c26, if_neg c35, if_pos c56, if_neg c67, if_pos c71]; exact p108) | (rw [op_move, if_pos p1, if_pos p8, cn_nI (by omega), cn_nI (by omega), if_neg c26, if_neg c35, if_pos c56, if_neg c67, if_neg c71, if_pos c76]; exact p108) | (rw [op_move, if_pos p1, if_pos p8, cn_nI (by omega), cn_nI (by omega), if_neg c26, if_neg c35, if_pos c56, if_neg c67, if_neg c71, if_neg c76, cn_nI (by omega), cn_nI (by omega), cn_nI (by omega), ez, eo, cn_nI (by omega), cn_nI (by omega), if_neg (by omega)]; exact p108) | (rw [op_move, if_pos p1, if_pos p8, cn_nI (by omega), cn_nI (by omega), if_neg c26, if_neg c35, if_pos c56, if_neg c67, if_neg c71, if_neg c76, cn_nI (by omega), cn_nI (by omega), cn_nI (by omega), ez, eo, cn_nI (by omega), cn_nI (by omega), if_pos (by omega), if_neg (by omega)]; exact p108) | (rw [op_move, if_pos p1, if_pos p8, cn_nI (by omega), cn_nI (by omega), if_neg c26, if_neg c35, if_pos c56, if_neg c67, if_neg c71, if_neg c76, cn_nI (by omega), cn_nI (by omega), cn_nI (by omega), ez, eo, cn_nI (by omega), cn_nI (by omega), if_pos (by omega), if_pos (by omega)]; exact ⟨rfl, hT.X 6 (L := [13, 14]) (fun r hr => by rw [show n1 = q by omega]; exact g13 r hr) gk (by decide) (by decide) (by decide)⟩)
                                · refine lv_aload_n hx hb dX5_move_159 rfl (hl.at rfl) ?_
                                  refine mg_number hC hK hP dX5_move_160 ?_
                                  refine lv_bipush (v := nI 24) hx hb dX5_move_163 rfl ?_
                                  refine lv_iload_n hx hb dX5_move_165 rfl (hl.at rfl) ?_
                                  refine l_mulN hx hb dX5_move_166 ?_
                                  refine lv_iload hx hb dX5_move_167 (hl.at rfl) ?_
                                  refine l_addN hx hb dX5_move_169 ?_
                                  refine lv_iload hx hb dX5_move_170 (hl.at rfl) ?_
                                  refine l_addN hx hb dX5_move_172 ?_
                                  refine lv_aload_n hx hb dX5_move_173 rfl (hl.at rfl) ?_
                                  refine mg_aside hC hK hP dX5_move_174 ?_
                                  refine lv_iload hx hb dX5_move_177 (hl.at rfl) ?_
                                  refine m_ld 14 _ (by decide) hC hK hP (rfl) (show _ < 24 by omega) dX5_move_179 ?_
                                  refine m_st 13 _ (by decide) hC hK hP hS (rfl) (show _ < 96 by omega) dX5_move_180 (fun H locs hP hS => ?_)
                                  refine l_inc1 hx hb 6 dX5_move_181 hl rfl rfl (fun ls hl => ?_)
                                  refine lv_goto (tgt := 152) hx hb dX5_move_184 rfl ?_
                                  exact ih2 (q + 1) _ (by omega) (by omega) (gk.up (by decide)) (by exact g14) (fun r hr => by rw [up1_s]; show upd (υ 13) (24 * o1 + j1 + q) (υ 14 q) r = _; by_cases e : r = 24 * o1 + j1 + q; (rw [e, pk_us, g14 q (by omega), mvf, if_pos (by omega), show 24 * o1 + j1 + q - (24 * o1 + j1) = q by omega]; exact hT.2.2 6 _ (by show _ < 96; omega)); (rw [pk_un e, g13 r hr, mvf, mvf]; by_cases e2 : 24 * o1 + j1 ≤ r ∧ r < 24 * o1 + j1 + q; (rw [if_pos e2, if_pos (by omega)]); (rw [if_neg e2, if_neg (by omega)]))) _ _ _ hP hS hl
                            exact loop2 (n1 + 1) 0 τ (Nat.zero_le _) (by omega) (hk1.mono (by decide)) (fun r hr => h14 r (by omega)) (fun r hr => by rw [hk1 13 (by decide), mvf, if_neg (by omega)]; exact hT.2.2 6 r hr) _ _ _ hP hS hl
                          · refine lv_aload_n hx hb dX5_move_122 rfl (hl.at rfl) ?_
                            refine mg_aside hC hK hP dX5_move_123 ?_
                            refine lv_iload hx hb dX5_move_126 (hl.at rfl) ?_
                            refine lv_aload_n hx hb dX5_move_128 rfl (hl.at rfl) ?_
                            refine mg_number hC hK hP dX5_move_129 ?_
                            refine lv_bipush (v := nI 24) hx hb dX5_move_132 rfl ?_
                            refine lv_iload_n hx hb dX5_move_134 rfl (hl.at rfl) ?_
                            refine l_mulN hx hb dX5_move_135 ?_
                            refine lv_iload_n hx hb dX5_move_136 rfl (hl.at rfl) ?_
                            refine l_addN hx hb dX5_move_137 ?_
                            refine lv_iload hx hb dX5_move_138 (hl.at rfl) ?_
                            refine l_addN hx hb dX5_move_140 ?_
                            refine m_ld 13 _ (by decide) hC hK hP (rfl) (show _ < 96 by omega) dX5_move_141 ?_
                            refine m_st 14 _ (by decide) hC hK hP hS (rfl) (show _ < 24 by omega) dX5_move_142 (fun H locs hP hS => ?_)
                            refine l_inc1 hx hb 6 dX5_move_143 hl rfl rfl (fun ls hl => ?_)
                            refine lv_goto (tgt := 115) hx hb dX5_move_146 rfl ?_
                            exact ih (q + 1) _ (by omega) (by omega) (hk1.up (by decide)) (fun r hr => by rw [up1_s, hk1 13 (by decide)]; by_cases e : r = q; (rw [e, pk_us]); (rw [pk_un e]; exact h14 r (by omega))) _ _ _ hP hS hl
                      exact loop (n1 + 1) 0 σ (Nat.zero_le _) (by omega) Kp.rf (fun r hr => absurd hr (by omega)) _ _ _ hP hS hl
                    · have c103 := fun z => c103 ((le_sub_N (by omega) (by omega) (by omega)).mpr z)
                      have c103 : z2 < j1 + n1 := Nat.lt_of_not_le c103
                      refine lv_aload_n hx hb dX5_move_106 rfl (hl.at rfl) ?_
                      refine lv_iconst (v := nI 1) hx hb dX5_move_107 rfl ?_
                      refine m_iV hC hK hP hS (met_error hT rfl (by decide)) cv_X5_76 rfl rfl hl.1 (Nat.le_of_ble_eq_true rfl) dX5_move_108 (by decide) (by decide) (fun r108 σ108 H locs p108 hP hS => ?_)
                      refine hret _ _ ls _ _ _ hP hS dX5_move_111 ?_
                      first | (rw [op_move, if_neg p1]; exact p16) | (rw [op_move, if_pos p1, if_neg p8]; exact p16) | (rw [op_move, if_pos p1, if_pos p8, cn_nI (by omega), if_pos c26]; exact p40) | (rw [op_move, if_pos p1, if_pos p8, cn_nI (by omega), cn_nI (by omega), if_neg c26, if_pos c35]; exact p40) | (rw [op_move, if_pos p1, if_pos p8, cn_nI (by omega), cn_nI (by omega), if_neg c26, if_neg c35, if_neg c56]; exact p61) | (rw [op_move, if_pos p1, if_pos p8, cn_nI (by omega), cn_nI (by omega), if_neg c26, if_neg c35, if_pos c56, if_pos c67]; exact p108) | (rw [op_move, if_pos p1, if_pos p8, cn_nI (by omega), cn_nI (by omega), if_neg c26, if_neg c35, if_pos c56, if_neg c67, if_pos c71]; exact p108) | (rw [op_move, if_pos p1, if_pos p8, cn_nI (by omega), cn_nI (by omega), if_neg c26, if_neg c35, if_pos c56, if_neg c67, if_neg c71, if_pos c76]; exact p108) | (rw [op_move, if_pos p1, if_pos p8, cn_nI (by omega), cn_nI (by omega), if_neg c26, if_neg c35, if_pos c56, if_neg c67, if_neg c71, if_neg c76, cn_nI (by omega), cn_nI (by omega), cn_nI (by omega), ez, eo, cn_nI (by omega), cn_nI (by omega), if_neg (by omega)]; exact p108) | (rw [op_move, if_pos p1, if_pos p8, cn_nI (by omega), cn_nI (by omega), if_neg c26, if_neg c35, if_pos c56, if_neg c67, if_neg c71, if_neg c76, cn_nI (by omega), cn_nI (by omega), cn_nI (by omega), ez, eo, cn_nI (by omega), cn_nI (by omega), if_pos (by omega), if_neg (by omega)]; exact p108) | (rw [op_move, if_pos p1, if_pos p8, cn_nI (by omega), cn_nI (by omega), if_neg c26, if_neg c35, if_pos c56, if_neg c67, if_neg c71, if_neg c76, cn_nI (by omega), cn_nI (by omega), cn_nI (by omega), ez, eo, cn_nI (by omega), cn_nI (by omega), if_pos (by omega), if_pos (by omega)]; exact ⟨rfl, hT.X 6 (L := [13, 14]) (fun r hr => by rw [show n1 = q by omega]; exact g13 r hr) gk (by decide) (by decide) (by decide)⟩)
          · refine lv_aload_n hx hb dX5_move_59 rfl (hl.at rfl) ?_
            refine lv_iconst (v := nI 5) hx hb dX5_move_60 rfl ?_
            refine m_iV hC hK hP hS (met_error hT rfl (by decide)) cv_X5_76 rfl rfl hl.1 (Nat.le_of_ble_eq_true rfl) dX5_move_61 (by decide) (by decide) (fun r61 σ61 H locs p61 hP hS => ?_)
            refine hret _ _ ls _ _ _ hP hS dX5_move_64 ?_
            first | (rw [op_move, if_neg p1]; exact p16) | (rw [op_move, if_pos p1, if_neg p8]; exact p16) | (rw [op_move, if_pos p1, if_pos p8, cn_nI (by omega), if_pos c26]; exact p40) | (rw [op_move, if_pos p1, if_pos p8, cn_nI (by omega), cn_nI (by omega), if_neg c26, if_pos c35]; exact p40) | (rw [op_move, if_pos p1, if_pos p8, cn_nI (by omega), cn_nI (by omega), if_neg c26, if_neg c35, if_neg c56]; exact p61) | (rw [op_move, if_pos p1, if_pos p8, cn_nI (by omega), cn_nI (by omega), if_neg c26, if_neg c35, if_pos c56, if_pos c67]; exact p108) | (rw [op_move, if_pos p1, if_pos p8, cn_nI (by omega), cn_nI (by omega), if_neg c26, if_neg c35, if_pos c56, if_neg c67, if_pos c71]; exact p108) | (rw [op_move, if_pos p1, if_pos p8, cn_nI (by omega), cn_nI (by omega), if_neg c26, if_neg c35, if_pos c56, if_neg c67, if_neg c71, if_pos c76]; exact p108) | (rw [op_move, if_pos p1, if_pos p8, cn_nI (by omega), cn_nI (by omega), if_neg c26, if_neg c35, if_pos c56, if_neg c67, if_neg c71, if_neg c76, cn_nI (by omega), cn_nI (by omega), cn_nI (by omega), ez, eo, cn_nI (by omega), cn_nI (by omega), if_neg (by omega)]; exact p108) | (rw [op_move, if_pos p1, if_pos p8, cn_nI (by omega), cn_nI (by omega), if_neg c26, if_neg c35, if_pos c56, if_neg c67, if_neg c71, if_neg c76, cn_nI (by omega), cn_nI (by omega), cn_nI (by omega), ez, eo, cn_nI (by omega), cn_nI (by omega), if_pos (by omega), if_neg (by omega)]; exact p108) | (rw [op_move, if_pos p1, if_pos p8, cn_nI (by omega), cn_nI (by omega), if_neg c26, if_neg c35, if_pos c56, if_neg c67, if_neg c71, if_neg c76, cn_nI (by omega), cn_nI (by omega), cn_nI (by omega), ez, eo, cn_nI (by omega), cn_nI (by omega), if_pos (by omega), if_pos (by omega)]; exact ⟨rfl, hT.X 6 (L := [13, 14]) (fun r hr => by rw [show n1 = q by omega]; exact g13 r hr) gk (by decide) (by decide) (by decide)⟩)
        · refine lv_aload_n hx hb dX5_move_38 rfl (hl.at rfl) ?_
          refine lv_iconst (v := nI 2) hx hb dX5_move_39 rfl ?_
          refine m_iV hC hK hP hS (met_error hT rfl (by decide)) cv_X5_76 rfl rfl hl.1 (Nat.le_of_ble_eq_true rfl) dX5_move_40 (by decide) (by decide) (fun r40 σ40 H locs p40 hP hS => ?_)
          refine hret _ _ ls _ _ _ hP hS dX5_move_43 ?_
          first | (rw [op_move, if_neg p1]; exact p16) | (rw [op_move, if_pos p1, if_neg p8]; exact p16) | (rw [op_move, if_pos p1, if_pos p8, cn_nI (by omega), if_pos c26]; exact p40) | (rw [op_move, if_pos p1, if_pos p8, cn_nI (by omega), cn_nI (by omega), if_neg c26, if_pos c35]; exact p40) | (rw [op_move, if_pos p1, if_pos p8, cn_nI (by omega), cn_nI (by omega), if_neg c26, if_neg c35, if_neg c56]; exact p61) | (rw [op_move, if_pos p1, if_pos p8, cn_nI (by omega), cn_nI (by omega), if_neg c26, if_neg c35, if_pos c56, if_pos c67]; exact p108) | (rw [op_move, if_pos p1, if_pos p8, cn_nI (by omega), cn_nI (by omega), if_neg c26, if_neg c35, if_pos c56, if_neg c67, if_pos c71]; exact p108) | (rw [op_move, if_pos p1, if_pos p8, cn_nI (by omega), cn_nI (by omega), if_neg c26, if_neg c35, if_pos c56, if_neg c67, if_neg c71, if_pos c76]; exact p108) | (rw [op_move, if_pos p1, if_pos p8, cn_nI (by omega), cn_nI (by omega), if_neg c26, if_neg c35, if_pos c56, if_neg c67, if_neg c71, if_neg c76, cn_nI (by omega), cn_nI (by omega), cn_nI (by omega), ez, eo, cn_nI (by omega), cn_nI (by omega), if_neg (by omega)]; exact p108) | (rw [op_move, if_pos p1, if_pos p8, cn_nI (by omega), cn_nI (by omega), if_neg c26, if_neg c35, if_pos c56, if_neg c67, if_neg c71, if_neg c76, cn_nI (by omega), cn_nI (by omega), cn_nI (by omega), ez, eo, cn_nI (by omega), cn_nI (by omega), if_pos (by omega), if_neg (by omega)]; exact p108) | (rw [op_move, if_pos p1, if_pos p8, cn_nI (by omega), cn_nI (by omega), if_neg c26, if_neg c35, if_pos c56, if_neg c67, if_neg c71, if_neg c76, cn_nI (by omega), cn_nI (by omega), cn_nI (by omega), ez, eo, cn_nI (by omega), cn_nI (by omega), if_pos (by omega), if_pos (by omega)]; exact ⟨rfl, hT.X 6 (L := [13, 14]) (fun r hr => by rw [show n1 = q by omega]; exact g13 r hr) gk (by decide) (by decide) (by decide)⟩)
    · refine l_ifne_0 hx hb 20 dX5_move_11 rfl ?_
      refine lv_aload_n hx hb dX5_move_14 rfl (hl.at rfl) ?_
      refine lv_iconst (v := nI 1) hx hb dX5_move_15 rfl ?_
      refine m_iV hC hK hP hS (met_error hT rfl (by decide)) cv_X5_76 rfl rfl hl.1 (Nat.le_of_ble_eq_true rfl) dX5_move_16 (by decide) (by decide) (fun r16 σ16 H locs p16 hP hS => ?_)
      refine hret _ _ ls _ _ _ hP hS dX5_move_19 ?_
      first | (rw [op_move, if_neg p1]; exact p16) | (rw [op_move, if_pos p1, if_neg p8]; exact p16) | (rw [op_move, if_pos p1, if_pos p8, cn_nI (by omega), if_pos c26]; exact p40) | (rw [op_move, if_pos p1, if_pos p8, cn_nI (by omega), cn_nI (by omega), if_neg c26, if_pos c35]; exact p40) | (rw [op_move, if_pos p1, if_pos p8, cn_nI (by omega), cn_nI (by omega), if_neg c26, if_neg c35, if_neg c56]; exact p61) | (rw [op_move, if_pos p1, if_pos p8, cn_nI (by omega), cn_nI (by omega), if_neg c26, if_neg c35, if_pos c56, if_pos c67]; exact p108) | (rw [op_move, if_pos p1, if_pos p8, cn_nI (by omega), cn_nI (by omega), if_neg c26, if_neg c35, if_pos c56, if_neg c67, if_pos c71]; exact p108) | (rw [op_move, if_pos p1, if_pos p8, cn_nI (by omega), cn_nI (by omega), if_neg c26, if_neg c35, if_pos c56, if_neg c67, if_neg c71, if_pos c76]; exact p108) | (rw [op_move, if_pos p1, if_pos p8, cn_nI (by omega), cn_nI (by omega), if_neg c26, if_neg c35, if_pos c56, if_neg c67, if_neg c71, if_neg c76, cn_nI (by omega), cn_nI (by omega), cn_nI (by omega), ez, eo, cn_nI (by omega), cn_nI (by omega), if_neg (by omega)]; exact p108) | (rw [op_move, if_pos p1, if_pos p8, cn_nI (by omega), cn_nI (by omega), if_neg c26, if_neg c35, if_pos c56, if_neg c67, if_neg c71, if_neg c76, cn_nI (by omega), cn_nI (by omega), cn_nI (by omega), ez, eo, cn_nI (by omega), cn_nI (by omega), if_pos (by omega), if_neg (by omega)]; exact p108) | (rw [op_move, if_pos p1, if_pos p8, cn_nI (by omega), cn_nI (by omega), if_neg c26, if_neg c35, if_pos c56, if_neg c67, if_neg c71, if_neg c76, cn_nI (by omega), cn_nI (by omega), cn_nI (by omega), ez, eo, cn_nI (by omega), cn_nI (by omega), if_pos (by omega), if_pos (by omega)]; exact ⟨rfl, hT.X 6 (L := [13, 14]) (fun r hr => by rw [show n1 = q by omega]; exact g13 r hr) gk (by decide) (by decide) (by decide)⟩)
  · refine l_ifeq_0 hx hb 14 dX5_move_4 rfl ?_
    refine lv_aload_n hx hb dX5_move_14 rfl (hl.at rfl) ?_
    refine lv_iconst (v := nI 1) hx hb dX5_move_15 rfl ?_
    refine m_iV hC hK hP hS (met_error hT rfl (by decide)) cv_X5_76 rfl rfl hl.1 (Nat.le_of_ble_eq_true rfl) dX5_move_16 (by decide) (by decide) (fun r16 σ16 H locs p16 hP hS => ?_)
    refine hret _ _ ls _ _ _ hP hS dX5_move_19 ?_
    first | (rw [op_move, if_neg p1]; exact p16) | (rw [op_move, if_pos p1, if_neg p8]; exact p16) | (rw [op_move, if_pos p1, if_pos p8, cn_nI (by omega), if_pos c26]; exact p40) | (rw [op_move, if_pos p1, if_pos p8, cn_nI (by omega), cn_nI (by omega), if_neg c26, if_pos c35]; exact p40) | (rw [op_move, if_pos p1, if_pos p8, cn_nI (by omega), cn_nI (by omega), if_neg c26, if_neg c35, if_neg c56]; exact p61) | (rw [op_move, if_pos p1, if_pos p8, cn_nI (by omega), cn_nI (by omega), if_neg c26, if_neg c35, if_pos c56, if_pos c67]; exact p108) | (rw [op_move, if_pos p1, if_pos p8, cn_nI (by omega), cn_nI (by omega), if_neg c26, if_neg c35, if_pos c56, if_neg c67, if_pos c71]; exact p108) | (rw [op_move, if_pos p1, if_pos p8, cn_nI (by omega), cn_nI (by omega), if_neg c26, if_neg c35, if_pos c56, if_neg c67, if_neg c71, if_pos c76]; exact p108) | (rw [op_move, if_pos p1, if_pos p8, cn_nI (by omega), cn_nI (by omega), if_neg c26, if_neg c35, if_pos c56, if_neg c67, if_neg c71, if_neg c76, cn_nI (by omega), cn_nI (by omega), cn_nI (by omega), ez, eo, cn_nI (by omega), cn_nI (by omega), if_neg (by omega)]; exact p108) | (rw [op_move, if_pos p1, if_pos p8, cn_nI (by omega), cn_nI (by omega), if_neg c26, if_neg c35, if_pos c56, if_neg c67, if_neg c71, if_neg c76, cn_nI (by omega), cn_nI (by omega), cn_nI (by omega), ez, eo, cn_nI (by omega), cn_nI (by omega), if_pos (by omega), if_neg (by omega)]; exact p108) | (rw [op_move, if_pos p1, if_pos p8, cn_nI (by omega), cn_nI (by omega), if_neg c26, if_neg c35, if_pos c56, if_neg c67, if_neg c71, if_neg c76, cn_nI (by omega), cn_nI (by omega), cn_nI (by omega), ez, eo, cn_nI (by omega), cn_nI (by omega), if_pos (by omega), if_pos (by omega)]; exact ⟨rfl, hT.X 6 (L := [13, 14]) (fun r hr => by rw [show n1 = q by omega]; exact g13 r hr) gk (by decide) (by decide) (by decide)⟩)
theorem met_lacks {l : Launch} {D : va_G} {cA : Nat → ClassId} {b : Nat} {σ : Nat → Nat → Int32} {x : Int32} {T : Tta} (hT : RT σ T) : MP l D cA b yX5_lacks cX5_lacks 2 (some .int) (2) [.ref b, .int x] σ (fun r => r = nI (sp_lacks x T)) := by
  refine Cp.of rfl (by decide +kernel) (Nat.le_of_ble_eq_true rfl) ?_
  intro p e s m args below meth c Q hC hK hP hret ls hl
  have hx := hC.1
  have hb := hC.2.1
  have hown := hC.2.2.2.1
  have hts := hC.2.2.2.2
  refine lv_iload_n hx hb dX5_lacks_0 rfl (hl.at rfl) ?_
  refine m_sS hC (met_isSheet ) cs_X5_281 rfl rfl hl.1 (Nat.le_of_ble_eq_true rfl) dX5_lacks_1 (by decide) (by decide) (fun r1 p1 => ?_)
  rcases p1 with ⟨rfl, p1⟩ | ⟨rfl, p1⟩
  · obtain ⟨k, hk, rfl⟩ := in_nI p1
    refine l_ifne_1 hx hb 11 dX5_lacks_4 rfl ?_
    refine lv_aload_n hx hb dX5_lacks_11 rfl (hl.at rfl) ?_
    refine mg_bits hC hK hP dX5_lacks_12 ?_
    refine lv_iload_n hx hb dX5_lacks_15 rfl (hl.at rfl) ?_
    refine m_ld 11 _ (by decide) hC hK hP (rfl) (show _ < 4 by omega) dX5_lacks_16 ?_
    refine l_top _ (hT.2.2 4 k (by show k < 4; omega)) ?_
    refine lv_if_ne (tgt := 24) hx hb dX5_lacks_17 rfl (fun c17 => ?_) (fun c17 => ?_)
    · refine lv_iconst (v := nI 0) hx hb dX5_lacks_24 rfl ?_
      refine hret ls _ _ dX5_lacks_25 ?_
      first | (rw [sp_lacks, if_neg p1]) | (rw [sp_lacks, if_pos p1, cn_nI (by omega), if_pos c17]) | (rw [sp_lacks, if_pos p1, cn_nI (by omega), if_neg c17])
    · refine lv_iconst (v := nI 2) hx hb dX5_lacks_20 rfl ?_
      refine lv_goto (tgt := 25) hx hb dX5_lacks_21 rfl ?_
      refine hret ls _ _ dX5_lacks_25 ?_
      first | (rw [sp_lacks, if_neg p1]) | (rw [sp_lacks, if_pos p1, cn_nI (by omega), if_pos c17]) | (rw [sp_lacks, if_pos p1, cn_nI (by omega), if_neg c17])
  · refine l_ifne_0 hx hb 11 dX5_lacks_4 rfl ?_
    refine lv_iconst (v := nI 1) hx hb dX5_lacks_7 rfl ?_
    refine lv_goto (tgt := 25) hx hb dX5_lacks_8 rfl ?_
    refine hret ls _ _ dX5_lacks_25 ?_
    first | (rw [sp_lacks, if_neg p1]) | (rw [sp_lacks, if_pos p1, cn_nI (by omega), if_pos c17]) | (rw [sp_lacks, if_pos p1, cn_nI (by omega), if_neg c17])
theorem cv_X5_284 : CV RX5 RX5 284 yX5_lacks cX5_lacks 2 (some .int) 1 := ⟨lw_V q1736 q1738 qs81 q88 q1739, by decide +kernel⟩
theorem met_forces {l : Launch} {D : va_G} {cA : Nat → ClassId} {b : Nat} {σ : Nat → Nat → Int32} {x : Int32} {T : Tta} (hT : RT σ T) (hz : ∀ s, s < 4 → Bd (T 2 5 s) 24) : MI l D cA b yX5_forces cX5_forces 4 (some .int) (3) [.ref b, .int x] σ (fun r τ => r = (op_forces x T).1 ∧ RT τ (op_forces x T).2) := by
  refine Ci.of rfl (by decide +kernel) (Nat.le_of_ble_eq_true rfl) ?_
  intro p e s m args below meth c Q hC hK hP hret ls hl
  have hx := hC.1
  have hb := hC.2.1
  have hown := hC.2.2.2.1
  have hts := hC.2.2.2.2
  have hS : va_S (mA b) s.heap s.heap [] := va_S.rf
  refine lv_aload_n hx hb dX5_forces_0 rfl (hl.at rfl) ?_
  refine lv_iload_n hx hb dX5_forces_1 rfl (hl.at rfl) ?_
  refine m_pV hC hK hP (met_lacks hT) cv_X5_284 rfl rfl hl.1 (Nat.le_of_ble_eq_true rfl) dX5_forces_2 (by decide) (by decide) (fun r2 p2 => ?_)
  subst p2
  have hLe := lacks_le (x := x) (T := T)
  refine l_istore_n hx hb 2 dX5_forces_5 rfl hl rfl (fun ls hl => ?_)
  refine lv_iload_n hx hb dX5_forces_6 rfl (hl.at rfl) ?_
  refine lv_if_le (tgt := 16) hx hb dX5_forces_7 rfl (fun c7 => ?_) (fun c7 => ?_)
  · have hL0 : sp_lacks x T = 0 := by (rcases Nat.eq_zero_or_pos (sp_lacks x T) with zz | zz; exact zz; exact absurd c7 (nI_nle zz (by omega)))
    obtain ⟨k, hk4, rfl, hb4⟩ := lacks0 hL0
    obtain ⟨z, hz1, ez⟩ := hz k hk4
    refine lv_iconst (v := nI 0) hx hb dX5_forces_16 rfl ?_
    refine l_istore_n hx hb 3 dX5_forces_17 rfl hl rfl (fun ls hl => ?_)
    obtain ⟨C, hCe⟩ : ∃ C, C = fcn (nums T k) z 0 := ⟨_, rfl⟩
    have loop : ∀ (m0 q : Nat) (τ : Sta), q ≤ z → z + 1 ≤ q + m0 → fcn (nums T k) (z - q) q = C → RM (τ 0) (fcS (T 0) (nums T k) q) → Kp [0] σ τ → ∀ (H : Heap) (locs : List Loc) (ls : Array Slot), MWP D cA b τ H → va_S (mA b) s.heap H locs → lh ls [some (.ref b), some (.int (nI k)), some (.int (nI (sp_lacks (nI k) T))), some (.int (nI q))] → W p l e (rmG 3 0 0) s m args below meth c H locs 0 0 Q (F0 m 18 ls []) := by
      intro m0
      induction m0 with
      | zero => intro q τ h1 h2; exact absurd h2 (by omega)
      | succ m0 ih =>
        intro q τ h1 h2 hC0 hRk hk H locs ls hP hS hl
        refine lv_iload_n hx hb dX5_forces_18 rfl (hl.at rfl) ?_
        refine lv_aload_n hx hb dX5_forces_19 rfl (hl.at rfl) ?_
        refine mg_sizes hC hK hP dX5_forces_20 ?_
        refine lv_iload_n hx hb dX5_forces_23 rfl (hl.at rfl) ?_
        refine m_ld 12 _ (by decide) hC hK hP (rfl) (show _ < 4 by omega) dX5_forces_24 ?_
        refine l_top _ ((congrFun (hk 12 (by decide)) k).trans ((hT.2.2 5 k (by show k < 4; omega)).trans ez)) ?_
        refine l_geN hx hb 80 dX5_forces_25 rfl (by omega) (by omega) (fun c25 => ?_) (fun c25 => ?_)
        · have eC : q = C := by rw [← hC0, show z - q = 0 by omega, fcn]
          refine lv_iload_n hx hb dX5_forces_80 rfl (hl.at rfl) ?_
          refine hret _ _ ls _ _ _ hP hS dX5_forces_81 ?_
          first | (rw [op_forces, if_pos hL0, cn_nI (by omega), ez, cn_nI (by omega), ← hCe, ← eC]; exact ⟨rfl, hT.S hRk (hk.mono (by decide))⟩) | (rw [op_forces, if_neg hL1]; exact p12)
        · refine lv_iload_n hx hb dX5_forces_28 rfl (hl.at rfl) ?_
          refine lv_bipush (v := nI 24) hx hb dX5_forces_29 rfl ?_
          refine l_geN hx hb 80 dX5_forces_31 rfl (by omega) (by omega) (fun c31 => ?_) (fun c31 => ?_)
          · exact absurd c31 (by omega)
          · refine lv_aload_n hx hb dX5_forces_34 rfl (hl.at rfl) ?_
            refine mg_number hC hK hP dX5_forces_35 ?_
            refine lv_bipush (v := nI 24) hx hb dX5_forces_38 rfl ?_
            refine lv_iload_n hx hb dX5_forces_40 rfl (hl.at rfl) ?_
            refine l_mulN hx hb dX5_forces_41 ?_
            refine lv_iload_n hx hb dX5_forces_42 rfl (hl.at rfl) ?_
            refine l_addN hx hb dX5_forces_43 ?_
            refine m_ld 13 _ (by decide) hC hK hP (rfl) (show _ < 96 by omega) dX5_forces_44 ?_
            refine l_top (nums T k q) ((congrFun (hk 13 (by decide)) _).trans (hT.2.2 6 (24 * k + q) (by show _ < 96; omega))) ?_
            refine lv_iconst (v := nI 0) hx hb dX5_forces_45 rfl ?_
            refine lv_bipush (v := nI 99) hx hb dX5_forces_46 rfl ?_
            refine m_sS hC (met_in ) cs_X5_56 rfl rfl hl.1 (Nat.le_of_ble_eq_true rfl) dX5_forces_48 (by decide) (by decide) (fun r48 p48 => ?_)
            rcases p48 with ⟨rfl, p48⟩ | ⟨rfl, p48⟩
            · refine l_ifeq_1 hx hb 80 dX5_forces_51 rfl ?_
              refine lv_aload_n hx hb dX5_forces_54 rfl (hl.at rfl) ?_
              refine mg_s hC hK hP dX5_forces_55 ?_
              refine lv_bipush (v := nI 6) hx hb dX5_forces_58 rfl ?_
              refine lv_iload_n hx hb dX5_forces_60 rfl (hl.at rfl) ?_
              refine l_addN hx hb dX5_forces_61 ?_
              refine lv_aload_n hx hb dX5_forces_62 rfl (hl.at rfl) ?_
              refine mg_number hC hK hP dX5_forces_63 ?_
              refine lv_bipush (v := nI 24) hx hb dX5_forces_66 rfl ?_
              refine lv_iload_n hx hb dX5_forces_68 rfl (hl.at rfl) ?_
              refine l_mulN hx hb dX5_forces_69 ?_
              refine lv_iload_n hx hb dX5_forces_70 rfl (hl.at rfl) ?_
              refine l_addN hx hb dX5_forces_71 ?_
              refine m_ld 13 _ (by decide) hC hK hP (rfl) (show _ < 96 by omega) dX5_forces_72 ?_
              refine l_top (nums T k q) ((congrFun (hk 13 (by decide)) _).trans (hT.2.2 6 (24 * k + q) (by show _ < 96; omega))) ?_
              refine m_st 0 _ (by decide) hC hK hP hS (rfl) (show _ < 449 by omega) dX5_forces_73 (fun H locs hP hS => ?_)
              refine l_inc1 hx hb 3 dX5_forces_74 hl rfl rfl (fun ls hl => ?_)
              refine lv_goto (tgt := 18) hx hb dX5_forces_77 rfl ?_
              exact ih (q + 1) _ (by omega) (by omega) (by rw [show z - q = (z - (q + 1)) + 1 by omega, fcn, if_pos p48] at hC0; exact hC0) (by rw [up1_s]; exact hRk.set (i := 1) (j := q) (by show q < 24; omega) (by show 6 + q = 6 + 1 * q; omega)) (hk.up (by decide)) _ _ _ hP hS hl
            · have eC : q = C := by rw [← hC0, show z - q = (z - (q + 1)) + 1 by omega, fcn, if_neg p48]
              refine l_ifeq_0 hx hb 80 dX5_forces_51 rfl ?_
              refine lv_iload_n hx hb dX5_forces_80 rfl (hl.at rfl) ?_
              refine hret _ _ ls _ _ _ hP hS dX5_forces_81 ?_
              first | (rw [op_forces, if_pos hL0, cn_nI (by omega), ez, cn_nI (by omega), ← hCe, ← eC]; exact ⟨rfl, hT.S hRk (hk.mono (by decide))⟩) | (rw [op_forces, if_neg hL1]; exact p12)
    exact loop (z + 1) 0 σ (Nat.zero_le _) (by omega) hCe.symm hT.1 Kp.rf _ _ _ hP hS hl
  · have hL1 : ¬ sp_lacks x T = 0 := fun zz => c7 (by rw [zz]; decide)
    refine lv_aload_n hx hb dX5_forces_10 rfl (hl.at rfl) ?_
    refine lv_iload_n hx hb dX5_forces_11 rfl (hl.at rfl) ?_
    refine m_iV hC hK hP hS (met_error hT rfl (by omega)) cv_X5_76 rfl rfl hl.1 (Nat.le_of_ble_eq_true rfl) dX5_forces_12 (by decide) (by decide) (fun r12 σ12 H locs p12 hP hS => ?_)
    refine hret _ _ ls _ _ _ hP hS dX5_forces_15 ?_
    first | (rw [op_forces, if_pos hL0, cn_nI (by omega), ez, cn_nI (by omega), ← hCe, ← eC]; exact ⟨rfl, hT.S hRk (hk.mono (by decide))⟩) | (rw [op_forces, if_neg hL1]; exact p12)
theorem met_judge {l : Launch} {D : va_G} {cA : Nat → ClassId} {b : Nat} {σ : Nat → Nat → Int32} {x : Int32} {T : Tta} (hT : RT σ T) (hz : ∀ s, s < 4 → Bd (T 2 5 s) 24) (hI : Inv (T 0)) : MI l D cA b yX5_judge cX5_judge 4 (some .int) (5) [.ref b, .int x] σ (fun r τ => r = (op_judge x T).1 ∧ RT τ (op_judge x T).2) := by
  refine Ci.of rfl (by decide +kernel) (Nat.le_of_ble_eq_true rfl) ?_
  intro p e s m args below meth c Q hC hK hP hret ls hl
  have hx := hC.1
  have hb := hC.2.1
  have hown := hC.2.2.2.1
  have hts := hC.2.2.2.2
  have hS : va_S (mA b) s.heap s.heap [] := va_S.rf
  refine lv_aload_n hx hb dX5_judge_0 rfl (hl.at rfl) ?_
  refine lv_iload_n hx hb dX5_judge_1 rfl (hl.at rfl) ?_
  refine m_pV hC hK hP (met_lacks hT) cv_X5_284 rfl rfl hl.1 (Nat.le_of_ble_eq_true rfl) dX5_judge_2 (by decide) (by decide) (fun r2 p2 => ?_)
  subst p2
  have hLe := lacks_le (x := x) (T := T)
  refine l_istore_n hx hb 2 dX5_judge_5 rfl hl rfl (fun ls hl => ?_)
  refine lv_iload_n hx hb dX5_judge_6 rfl (hl.at rfl) ?_
  refine lv_if_le (tgt := 16) hx hb dX5_judge_7 rfl (fun c7 => ?_) (fun c7 => ?_)
  · have hL0 : sp_lacks x T = 0 := by (rcases Nat.eq_zero_or_pos (sp_lacks x T) with zz | zz; exact zz; exact absurd c7 (nI_nle zz (by omega)))
    obtain ⟨k, hk4, rfl, hb4⟩ := lacks0 hL0
    obtain ⟨z, hz1, ez⟩ := hz k hk4
    refine lv_aload_n hx hb dX5_judge_16 rfl (hl.at rfl) ?_
    refine m_vV hC hK hP hS (met_flow (S := T 0) hT.1 hI) cv_X5_103 rfl rfl hl.1 (Nat.le_of_ble_eq_true rfl) dX5_judge_17 (by decide) (by decide) (fun σ17 H locs p17 hP hS => ?_)
    refine lv_iconst (v := nI 0) hx hb dX5_judge_20 rfl ?_
    refine l_istore_n hx hb 3 dX5_judge_21 rfl hl rfl (fun ls hl => ?_)
    obtain ⟨C, hCe⟩ : ∃ C, C = jdn (nums T k) (sp_fl (T 0)).2.2.2.2 z 12 0 := ⟨_, rfl⟩
    have loop : ∀ (m0 q : Nat), q ≤ 12 → 13 ≤ q + m0 → jdn (nums T k) (sp_fl (T 0)).2.2.2.2 z (12 - q) q = C → ∀ ls : Array Slot, lh ls [some (.ref b), some (.int (nI k)), some (.int (nI (sp_lacks (nI k) T))), some (.int (nI q))] → W p l e (rmG 5 0 0) s m args below meth c H locs 0 0 Q (F0 m 22 ls []) := by
      intro m0
      induction m0 with
      | zero => intro q h1 h2; exact absurd h2 (by omega)
      | succ m0 ih =>
        intro q h1 h2 hC0 ls hl
        refine lv_iload_n hx hb dX5_judge_22 rfl (hl.at rfl) ?_
        refine lv_aload_n hx hb dX5_judge_23 rfl (hl.at rfl) ?_
        refine mg_sizes hC hK hP dX5_judge_24 ?_
        refine lv_iload_n hx hb dX5_judge_27 rfl (hl.at rfl) ?_
        refine m_ld 12 _ (by decide) hC hK hP (rfl) (show _ < 4 by omega) dX5_judge_28 ?_
        refine l_top _ ((congrFun (p17.1 12 (by decide)) k).trans ((hT.2.2 5 k (by show k < 4; omega)).trans ez)) ?_
        refine l_geN hx hb 64 dX5_judge_29 rfl (by omega) (by omega) (fun c29 => ?_) (fun c29 => ?_)
        · have eC : q = C := by rw [← hC0, jdn_z c29]
          refine lv_iload_n hx hb dX5_judge_64 rfl (hl.at rfl) ?_
          refine hret _ _ ls _ _ _ hP hS dX5_judge_65 ?_
          first | (rw [op_judge, if_pos hL0, cn_nI (by omega), ez, cn_nI (by omega), ← hCe, ← eC]; exact ⟨rfl, hT.same (p17.1.mono (by decide))⟩) | (rw [op_judge, if_neg hL1]; exact p12)
        · refine lv_iload_n hx hb dX5_judge_32 rfl (hl.at rfl) ?_
          refine lv_bipush (v := nI 12) hx hb dX5_judge_33 rfl ?_
          refine l_geN hx hb 64 dX5_judge_35 rfl (by omega) (by omega) (fun c35 => ?_) (fun c35 => ?_)
          · have eC : q = C := by rw [← hC0, show 12 - q = 0 by omega, jdn]
            refine lv_iload_n hx hb dX5_judge_64 rfl (hl.at rfl) ?_
            refine hret _ _ ls _ _ _ hP hS dX5_judge_65 ?_
            first | (rw [op_judge, if_pos hL0, cn_nI (by omega), ez, cn_nI (by omega), ← hCe, ← eC]; exact ⟨rfl, hT.same (p17.1.mono (by decide))⟩) | (rw [op_judge, if_neg hL1]; exact p12)
          · refine lv_aload_n hx hb dX5_judge_38 rfl (hl.at rfl) ?_
            refine mg_number hC hK hP dX5_judge_39 ?_
            refine lv_bipush (v := nI 24) hx hb dX5_judge_42 rfl ?_
            refine lv_iload_n hx hb dX5_judge_44 rfl (hl.at rfl) ?_
            refine l_mulN hx hb dX5_judge_45 ?_
            refine lv_iload_n hx hb dX5_judge_46 rfl (hl.at rfl) ?_
            refine l_addN hx hb dX5_judge_47 ?_
            refine m_ld 13 _ (by decide) hC hK hP (rfl) (show _ < 96 by omega) dX5_judge_48 ?_
            refine l_top (nums T k q) ((congrFun (p17.1 13 (by decide)) _).trans (hT.2.2 6 (24 * k + q) (by show _ < 96; omega))) ?_
            refine lv_aload_n hx hb dX5_judge_49 rfl (hl.at rfl) ?_
            refine mg_flowing hC hK hP dX5_judge_50 ?_
            refine lv_iload_n hx hb dX5_judge_53 rfl (hl.at rfl) ?_
            refine m_ld 7 _ (by decide) hC hK hP (rfl) (show _ < 13 by omega) dX5_judge_54 ?_
            refine l_top _ (p17.2.2.2.2.1 q (by omega)) ?_
            refine lv_icmp_ne (tgt := 64) hx hb dX5_judge_55 rfl (fun c55 => ?_) (fun c55 => ?_)
            · have eC : q = C := by rw [← hC0, show 12 - q = (12 - (q + 1)) + 1 by omega, jdn, if_neg (by omega), if_neg c55]
              refine lv_iload_n hx hb dX5_judge_64 rfl (hl.at rfl) ?_
              refine hret _ _ ls _ _ _ hP hS dX5_judge_65 ?_
              first | (rw [op_judge, if_pos hL0, cn_nI (by omega), ez, cn_nI (by omega), ← hCe, ← eC]; exact ⟨rfl, hT.same (p17.1.mono (by decide))⟩) | (rw [op_judge, if_neg hL1]; exact p12)
            · refine l_inc1 hx hb 3 dX5_judge_58 hl rfl rfl (fun ls hl => ?_)
              refine lv_goto (tgt := 22) hx hb dX5_judge_61 rfl ?_
              exact ih (q + 1) (by omega) (by omega) (by rw [show 12 - q = (12 - (q + 1)) + 1 by omega, jdn, if_neg (by omega), if_pos c55] at hC0; exact hC0) ls hl
    exact loop 13 0 (by omega) (by omega) hCe.symm _ hl
  · have hL1 : ¬ sp_lacks x T = 0 := fun zz => c7 (by rw [zz]; decide)
    refine lv_aload_n hx hb dX5_judge_10 rfl (hl.at rfl) ?_
    refine lv_iload_n hx hb dX5_judge_11 rfl (hl.at rfl) ?_
    refine m_iV hC hK hP hS (met_error hT rfl (by omega)) cv_X5_76 rfl rfl hl.1 (Nat.le_of_ble_eq_true rfl) dX5_judge_12 (by decide) (by decide) (fun r12 σ12 H locs p12 hP hS => ?_)
    refine hret _ _ ls _ _ _ hP hS dX5_judge_15 ?_
    first | (rw [op_judge, if_pos hL0, cn_nI (by omega), ez, cn_nI (by omega), ← hCe, ← eC]; exact ⟨rfl, hT.same (p17.1.mono (by decide))⟩) | (rw [op_judge, if_neg hL1]; exact p12)
theorem met_image {l : Launch} {D : va_G} {cA : Nat → ClassId} {b : Nat} {σ : Nat → Nat → Int32} {T : Tta} (hT : RT σ T) : MI l D cA b yX5_image cX5_image 1 (some .int) (1) [.ref b] σ (fun r τ => r = (op_image T).1 ∧ RT τ (op_image T).2) := by
  refine Ci.of rfl (by decide +kernel) (Nat.le_of_ble_eq_true rfl) ?_
  intro p e s m args below meth c Q hC hK hP hret ls hl
  have hx := hC.1
  have hb := hC.2.1
  have hown := hC.2.2.2.1
  have hts := hC.2.2.2.2
  have hS : va_S (mA b) s.heap s.heap [] := va_S.rf
  refine lv_aload_n hx hb dX5_image_0 rfl (hl.at rfl) ?_
  refine mg_s hC hK hP dX5_image_1 ?_
  refine lv_aload_n hx hb dX5_image_4 rfl (hl.at rfl) ?_
  refine mg_kept hC hK hP dX5_image_5 ?_
  refine m_vS hC hK hP hS (met_carry (i := 0) (j := 1) (by decide) (by decide) (by decide)) cs_X5_226 rfl rfl hl.1 (Nat.le_of_ble_eq_true rfl) dX5_image_8 (by decide) (by decide) (fun σ8 H locs p8 hP hS => ?_)
  refine lv_aload_n hx hb dX5_image_11 rfl (hl.at rfl) ?_
  refine lv_dup hx hb dX5_image_12 rfl ?_
  refine mg_images hC hK hP dX5_image_13 ?_
  refine l_top (T 2 3 0) ((congrFun (p8.2 15 (by decide)) 0).trans (hT.2.2 3 0 (by decide))) ?_
  refine lv_iconst (v := nI 1) hx hb dX5_image_16 rfl ?_
  refine lv_iadd hx hb dX5_image_17 ?_
  refine mp_images hC hK hP hS dX5_image_18 (fun H locs hP hS => ?_)
  refine lv_aload_n hx hb dX5_image_21 rfl (hl.at rfl) ?_
  refine mg_images hC hK hP dX5_image_22 ?_
  refine hret _ _ ls _ _ _ hP hS dX5_image_25 ?_
  exact ⟨rfl, RT_image hT (by exact p8.1) rfl ((p8.2.mono (by decide)).up (by decide))⟩
theorem met_restore {l : Launch} {D : va_G} {cA : Nat → ClassId} {b : Nat} {σ : Nat → Nat → Int32} {T : Tta} (hT : RT σ T) : MI l D cA b yX5_restore cX5_restore 1 (some .int) (1) [.ref b] σ (fun r τ => r = (op_restore T).1 ∧ RT τ (op_restore T).2) := by
  refine Ci.of rfl (by decide +kernel) (Nat.le_of_ble_eq_true rfl) ?_
  intro p e s m args below meth c Q hC hK hP hret ls hl
  have hx := hC.1
  have hb := hC.2.1
  have hown := hC.2.2.2.1
  have hts := hC.2.2.2.2
  have hS : va_S (mA b) s.heap s.heap [] := va_S.rf
  refine lv_aload_n hx hb dX5_restore_0 rfl (hl.at rfl) ?_
  refine mg_images hC hK hP dX5_restore_1 ?_
  refine l_top _ (hT.2.2 3 0 (by decide)) ?_
  refine lv_if_ne (tgt := 13) hx hb dX5_restore_4 rfl (fun c4 => ?_) (fun c4 => ?_)
  · refine lv_aload_n hx hb dX5_restore_13 rfl (hl.at rfl) ?_
    refine mg_kept hC hK hP dX5_restore_14 ?_
    refine lv_aload_n hx hb dX5_restore_17 rfl (hl.at rfl) ?_
    refine mg_s hC hK hP dX5_restore_18 ?_
    refine m_vS hC hK hP hS (met_carry (i := 1) (j := 0) (by decide) (by decide) (by decide)) cs_X5_226 rfl rfl hl.1 (Nat.le_of_ble_eq_true rfl) dX5_restore_21 (by decide) (by decide) (fun σ21 H locs p21 hP hS => ?_)
    have hR1 : RM (σ21 0) (T 1) := hT.2.1.same p21.1
    refine lv_aload_n hx hb dX5_restore_24 rfl (hl.at rfl) ?_
    refine mg_s hC hK hP dX5_restore_25 ?_
    refine lv_iconst (v := nI 1) hx hb dX5_restore_28 rfl ?_
    refine m_ld 0 _ (by decide) hC hK hP (rfl) (show _ < 449 by omega) dX5_restore_29 ?_
    refine l_top _ (hR1.at 0 1 (n := 1) (by decide) rfl) ?_
    refine hret _ _ ls _ _ _ hP hS dX5_restore_30 ?_
    first | (rw [op_restore, if_neg c4]; exact ⟨rfl, hT.S hR1 (p21.2.mono (by decide))⟩) | (rw [op_restore, if_pos c4]; exact p9)
  · refine lv_aload_n hx hb dX5_restore_7 rfl (hl.at rfl) ?_
    refine lv_iconst (v := nI 2) hx hb dX5_restore_8 rfl ?_
    refine m_iV hC hK hP hS (met_error hT rfl (by decide)) cv_X5_76 rfl rfl hl.1 (Nat.le_of_ble_eq_true rfl) dX5_restore_9 (by decide) (by decide) (fun r9 σ9 H locs p9 hP hS => ?_)
    refine hret _ _ ls _ _ _ hP hS dX5_restore_12 ?_
    first | (rw [op_restore, if_neg c4]; exact ⟨rfl, hT.S hR1 (p21.2.mono (by decide))⟩) | (rw [op_restore, if_pos c4]; exact p9)
theorem met_tell {l : Launch} {D : va_G} {cA : Nat → ClassId} {b : Nat} {σ : Nat → Nat → Int32} {v : Int32} {T : Tta} (hT : RT σ T) (hI : Inv (T 0)) : MI l D cA b yX5_tell cX5_tell 2 (some .int) (1) [.ref b, .int v] σ (fun r τ => r = (op_tell v T).1 ∧ RT τ (op_tell v T).2) := by
  refine Ci.of rfl (by decide +kernel) (Nat.le_of_ble_eq_true rfl) ?_
  intro p e s m args below meth c Q hC hK hP hret ls hl
  have hx := hC.1
  have hb := hC.2.1
  have hown := hC.2.2.2.1
  have hts := hC.2.2.2.2
  have hS : va_S (mA b) s.heap s.heap [] := va_S.rf
  obtain ⟨eW, hW⟩ := inv_wt hI
  refine lv_aload_n hx hb dX5_tell_0 rfl (hl.at rfl) ?_
  refine mg_s hC hK hP dX5_tell_1 ?_
  refine lv_iconst (v := nI 4) hx hb dX5_tell_4 rfl ?_
  refine m_ld 0 _ (by decide) hC hK hP (rfl) (show _ < 449 by omega) dX5_tell_5 ?_
  refine l_top _ ((hT.1.at 0 4 (n := 4) (by decide) rfl).trans eW) ?_
  refine lv_bipush (v := nI 24) hx hb dX5_tell_6 rfl ?_
  refine l_neN hx hb 17 dX5_tell_8 rfl (by omega) (by omega) (fun c8 => ?_) (fun c8 => ?_)
  · refine lv_aload_n hx hb dX5_tell_17 rfl (hl.at rfl) ?_
    refine mg_s hC hK hP dX5_tell_18 ?_
    refine lv_sipush (v := nI 425) hx hb dX5_tell_21 rfl ?_
    refine lv_aload_n hx hb dX5_tell_24 rfl (hl.at rfl) ?_
    refine mg_s hC hK hP dX5_tell_25 ?_
    refine lv_iconst (v := nI 4) hx hb dX5_tell_28 rfl ?_
    refine m_ld 0 _ (by decide) hC hK hP (rfl) (show _ < 449 by omega) dX5_tell_29 ?_
    refine l_top _ ((hT.1.at 0 4 (n := 4) (by decide) rfl).trans eW) ?_
    refine l_addN hx hb dX5_tell_30 ?_
    refine lv_iload_n hx hb dX5_tell_31 rfl (hl.at rfl) ?_
    refine m_st 0 _ (by decide) hC hK hP hS (rfl) (show _ < 449 by omega) dX5_tell_32 (fun H locs hP hS => ?_)
    have hR1 : RM (up1 σ 0 (upd (σ 0) (425 + wtg (T 0)) v) 0) (up2 (T 0) 15 (wtg (T 0)) v) := by rw [up1_s]; exact hT.1.set (i := 15) (j := wtg (T 0)) (by show _ < 24; omega) (by show 425 + wtg (T 0) = 425 + 1 * wtg (T 0); omega)
    refine lv_aload_n hx hb dX5_tell_33 rfl (hl.at rfl) ?_
    refine mg_s hC hK hP dX5_tell_34 ?_
    refine lv_iconst (v := nI 4) hx hb dX5_tell_37 rfl ?_
    refine lv_dup2_11 hx hb dX5_tell_38 rfl rfl ?_
    refine m_ld 0 _ (by decide) hC hK hP (rfl) (show _ < 449 by omega) dX5_tell_39 ?_
    refine l_top (nI (wtg (T 0))) ((hR1.at 0 4 (n := 4) (by decide) rfl).trans eW) ?_
    refine lv_iconst (v := nI 1) hx hb dX5_tell_40 rfl ?_
    refine l_addN hx hb dX5_tell_41 ?_
    refine m_st 0 _ (by decide) hC hK hP hS (rfl) (show _ < 449 by omega) dX5_tell_42 (fun H locs hP hS => ?_)
    refine lv_aload_n hx hb dX5_tell_43 rfl (hl.at rfl) ?_
    refine mg_s hC hK hP dX5_tell_44 ?_
    refine lv_iconst (v := nI 4) hx hb dX5_tell_47 rfl ?_
    refine m_ld 0 _ (by decide) hC hK hP (rfl) (show _ < 449 by omega) dX5_tell_48 ?_
    refine hret _ _ ls _ _ _ hP hS dX5_tell_49 ?_
    first | (rw [op_tell, if_neg (by omega)]; exact ⟨by rw [up1_s, pk_us], hT.S (by rw [up1_s]; exact hR1.set (i := 0) (j := 4) (by decide) rfl) (((Kp.rf.up (by decide)).up (by decide)).mono (L := [0]) (by decide))⟩) | (rw [op_tell, if_pos c8]; exact p13)
  · refine lv_aload_n hx hb dX5_tell_11 rfl (hl.at rfl) ?_
    refine lv_iconst (v := nI 4) hx hb dX5_tell_12 rfl ?_
    refine m_iV hC hK hP hS (met_error hT rfl (by decide)) cv_X5_76 rfl rfl hl.1 (Nat.le_of_ble_eq_true rfl) dX5_tell_13 (by decide) (by decide) (fun r13 σ13 H locs p13 hP hS => ?_)
    refine hret _ _ ls _ _ _ hP hS dX5_tell_16 ?_
    first | (rw [op_tell, if_neg (by omega)]; exact ⟨by rw [up1_s, pk_us], hT.S (by rw [up1_s]; exact hR1.set (i := 0) (j := 4) (by decide) rfl) (((Kp.rf.up (by decide)).up (by decide)).mono (L := [0]) (by decide))⟩) | (rw [op_tell, if_pos c8]; exact p13)
theorem met_told {l : Launch} {D : va_G} {cA : Nat → ClassId} {b : Nat} {σ : Nat → Nat → Int32} {x : Int32} {T : Tta} (hT : RT σ T) : MI l D cA b yX5_told cX5_told 2 (some .int) (2) [.ref b, .int x] σ (fun r τ => r = (op_told x T).1 ∧ RT τ (op_told x T).2) := by
  refine Ci.of rfl (by decide +kernel) (Nat.le_of_ble_eq_true rfl) ?_
  intro p e s m args below meth c Q hC hK hP hret ls hl
  have hx := hC.1
  have hb := hC.2.1
  have hown := hC.2.2.2.1
  have hts := hC.2.2.2.2
  have hS : va_S (mA b) s.heap s.heap [] := va_S.rf
  refine lv_iload_n hx hb dX5_told_0 rfl (hl.at rfl) ?_
  refine lv_iconst (v := nI 1) hx hb dX5_told_1 rfl ?_
  refine lv_bipush (v := nI 6) hx hb dX5_told_2 rfl ?_
  refine m_sS hC (met_in ) cs_X5_56 rfl rfl hl.1 (Nat.le_of_ble_eq_true rfl) dX5_told_4 (by decide) (by decide) (fun r4 p4 => ?_)
  rcases p4 with ⟨rfl, p4⟩ | ⟨rfl, p4⟩
  · obtain ⟨k, hk1, hk, rfl⟩ := in_nI1 p4
    refine l_ifeq_1 hx hb 19 dX5_told_7 rfl ?_
    refine lv_aload_n hx hb dX5_told_10 rfl (hl.at rfl) ?_
    refine mg_errors hC hK hP dX5_told_11 ?_
    refine lv_iload_n hx hb dX5_told_14 rfl (hl.at rfl) ?_
    refine m_ld 3 _ (by decide) hC hK hP (rfl) (show _ < 7 by omega) dX5_told_15 ?_
    refine lv_goto (tgt := 24) hx hb dX5_told_16 rfl ?_
    refine hret _ _ ls _ _ _ hP hS dX5_told_24 ?_
    first | (rw [op_told, if_pos p4, cn_nI (by omega)]; exact ⟨hT.2.2 0 k (by show k < 7; omega), hT⟩) | (rw [op_told, if_neg p4]; exact p21)
  · refine l_ifeq_0 hx hb 19 dX5_told_7 rfl ?_
    refine lv_aload_n hx hb dX5_told_19 rfl (hl.at rfl) ?_
    refine lv_iconst (v := nI 1) hx hb dX5_told_20 rfl ?_
    refine m_iV hC hK hP hS (met_error hT rfl (by decide)) cv_X5_76 rfl rfl hl.1 (Nat.le_of_ble_eq_true rfl) dX5_told_21 (by decide) (by decide) (fun r21 σ21 H locs p21 hP hS => ?_)
    refine hret _ _ ls _ _ _ hP hS dX5_told_24 ?_
    first | (rw [op_told, if_pos p4, cn_nI (by omega)]; exact ⟨hT.2.2 0 k (by show k < 7; omega), hT⟩) | (rw [op_told, if_neg p4]; exact p21)
theorem met_untell {l : Launch} {D : va_G} {cA : Nat → ClassId} {b : Nat} {σ : Nat → Nat → Int32} {x : Int32} {T : Tta} (hT : RT σ T) : MI l D cA b yX5_untell cX5_untell 3 (some .int) (2) [.ref b, .int x] σ (fun r τ => r = (op_untell x T).1 ∧ RT τ (op_untell x T).2) := by
  refine Ci.of rfl (by decide +kernel) (Nat.le_of_ble_eq_true rfl) ?_
  intro p e s m args below meth c Q hC hK hP hret ls hl
  have hx := hC.1
  have hb := hC.2.1
  have hown := hC.2.2.2.1
  have hts := hC.2.2.2.2
  have hS : va_S (mA b) s.heap s.heap [] := va_S.rf
  refine lv_iload_n hx hb dX5_untell_0 rfl (hl.at rfl) ?_
  refine lv_iconst (v := nI 0) hx hb dX5_untell_1 rfl ?_
  refine lv_iconst (v := nI 1) hx hb dX5_untell_2 rfl ?_
  refine m_sS hC (met_in ) cs_X5_56 rfl rfl hl.1 (Nat.le_of_ble_eq_true rfl) dX5_untell_3 (by decide) (by decide) (fun r3 p3 => ?_)
  rcases p3 with ⟨rfl, p3⟩ | ⟨rfl, p3⟩
  · obtain ⟨k, hk, rfl⟩ := in_nI p3
    have hRu : RM (upd (σ 0) (115 + 125 * k) (nI 0)) (up2 (T 0) (12 + k) 0 (nI 0)) := by (rcases (by omega : k = 0 ∨ k = 1) with rfl | rfl; exact hT.1.set (i := 12) (j := 0) (by decide) rfl; exact hT.1.set (i := 13) (j := 0) (by decide) rfl)
    refine l_ifne_1 hx hb 15 dX5_untell_6 rfl ?_
    refine lv_aload_n hx hb dX5_untell_15 rfl (hl.at rfl) ?_
    refine lv_iload_n hx hb dX5_untell_16 rfl (hl.at rfl) ?_
    refine m_pV hC hK hP (met_hasText (S := T 0) (u := k) hT.1 rfl (by omega)) cv_X5_173 rfl rfl hl.1 (Nat.le_of_ble_eq_true rfl) dX5_untell_17 (by decide) (by decide) (fun r17 p17 => ?_)
    rcases p17 with ⟨rfl, p17⟩ | ⟨rfl, p17⟩
    · refine l_ifeq_1 hx hb 27 dX5_untell_20 rfl ?_
      refine lv_iconst (v := nI 1) hx hb dX5_untell_23 rfl ?_
      refine lv_goto (tgt := 28) hx hb dX5_untell_24 rfl ?_
      refine l_istore_n hx hb 2 dX5_untell_28 rfl hl rfl (fun ls hl => ?_)
      refine lv_aload_n hx hb dX5_untell_29 rfl (hl.at rfl) ?_
      refine mg_s hC hK hP dX5_untell_30 ?_
      refine lv_bipush (v := nI 115) hx hb dX5_untell_33 rfl ?_
      refine lv_bipush (v := nI 125) hx hb dX5_untell_35 rfl ?_
      refine lv_iload_n hx hb dX5_untell_37 rfl (hl.at rfl) ?_
      refine l_mulN hx hb dX5_untell_38 ?_
      refine l_addN hx hb dX5_untell_39 ?_
      refine lv_iconst (v := nI 0) hx hb dX5_untell_40 rfl ?_
      refine m_st 0 _ (by decide) hC hK hP hS (rfl) (show _ < 449 by omega) dX5_untell_41 (fun H locs hP hS => ?_)
      refine lv_iload_n hx hb dX5_untell_42 rfl (hl.at rfl) ?_
      refine hret _ _ ls _ _ _ hP hS dX5_untell_43 ?_
      first | (rw [op_untell, if_pos p3, cn_nI (by omega), if_pos p17]; exact ⟨rfl, hT.S (by rw [up1_s]; exact hRu) ((Kp.rf.up (by decide)).mono (L := [0]) (by decide))⟩) | (rw [op_untell, if_pos p3, cn_nI (by omega), if_neg p17]; exact ⟨rfl, hT.S (by rw [up1_s]; exact hRu) ((Kp.rf.up (by decide)).mono (L := [0]) (by decide))⟩) | (rw [op_untell, if_neg p3]; exact p11)
    · refine l_ifeq_0 hx hb 27 dX5_untell_20 rfl ?_
      refine lv_iconst (v := nI 0) hx hb dX5_untell_27 rfl ?_
      refine l_istore_n hx hb 2 dX5_untell_28 rfl hl rfl (fun ls hl => ?_)
      refine lv_aload_n hx hb dX5_untell_29 rfl (hl.at rfl) ?_
      refine mg_s hC hK hP dX5_untell_30 ?_
      refine lv_bipush (v := nI 115) hx hb dX5_untell_33 rfl ?_
      refine lv_bipush (v := nI 125) hx hb dX5_untell_35 rfl ?_
      refine lv_iload_n hx hb dX5_untell_37 rfl (hl.at rfl) ?_
      refine l_mulN hx hb dX5_untell_38 ?_
      refine l_addN hx hb dX5_untell_39 ?_
      refine lv_iconst (v := nI 0) hx hb dX5_untell_40 rfl ?_
      refine m_st 0 _ (by decide) hC hK hP hS (rfl) (show _ < 449 by omega) dX5_untell_41 (fun H locs hP hS => ?_)
      refine lv_iload_n hx hb dX5_untell_42 rfl (hl.at rfl) ?_
      refine hret _ _ ls _ _ _ hP hS dX5_untell_43 ?_
      first | (rw [op_untell, if_pos p3, cn_nI (by omega), if_pos p17]; exact ⟨rfl, hT.S (by rw [up1_s]; exact hRu) ((Kp.rf.up (by decide)).mono (L := [0]) (by decide))⟩) | (rw [op_untell, if_pos p3, cn_nI (by omega), if_neg p17]; exact ⟨rfl, hT.S (by rw [up1_s]; exact hRu) ((Kp.rf.up (by decide)).mono (L := [0]) (by decide))⟩) | (rw [op_untell, if_neg p3]; exact p11)
  · refine l_ifne_0 hx hb 15 dX5_untell_6 rfl ?_
    refine lv_aload_n hx hb dX5_untell_9 rfl (hl.at rfl) ?_
    refine lv_iconst (v := nI 1) hx hb dX5_untell_10 rfl ?_
    refine m_iV hC hK hP hS (met_error hT rfl (by decide)) cv_X5_76 rfl rfl hl.1 (Nat.le_of_ble_eq_true rfl) dX5_untell_11 (by decide) (by decide) (fun r11 σ11 H locs p11 hP hS => ?_)
    refine hret _ _ ls _ _ _ hP hS dX5_untell_14 ?_
    first | (rw [op_untell, if_pos p3, cn_nI (by omega), if_pos p17]; exact ⟨rfl, hT.S (by rw [up1_s]; exact hRu) ((Kp.rf.up (by decide)).mono (L := [0]) (by decide))⟩) | (rw [op_untell, if_pos p3, cn_nI (by omega), if_neg p17]; exact ⟨rfl, hT.S (by rw [up1_s]; exact hRu) ((Kp.rf.up (by decide)).mono (L := [0]) (by decide))⟩) | (rw [op_untell, if_neg p3]; exact p11)
theorem met_feed {l : Launch} {D : va_G} {cA : Nat → ClassId} {b : Nat} {σ : Nat → Nat → Int32} {wd : Int64} {x : Int32} {T : Tta} (hT : RT σ T) (hI : Inv (T 0)) : MI l D cA b yX5_feed cX5_feed 5 (some .int) (2) [.ref b, .long wd, .int x] σ (fun r τ => r = (op_feed wd x T).1 ∧ RT τ (op_feed wd x T).2) := by
  refine Ci.of rfl (by decide +kernel) (Nat.le_of_ble_eq_true rfl) ?_
  intro p e s m args below meth c Q hC hK hP hret ls hl
  have hx := hC.1
  have hb := hC.2.1
  have hown := hC.2.2.2.1
  have hts := hC.2.2.2.2
  have hS : va_S (mA b) s.heap s.heap [] := va_S.rf
  obtain ⟨eT0, hT0⟩ := inv_tp hI
  refine lv_iload_n hx hb dX5_feed_0 rfl (hl.at rfl) ?_
  refine lv_iconst (v := nI 1) hx hb dX5_feed_1 rfl ?_
  refine lv_bipush (v := nI 8) hx hb dX5_feed_2 rfl ?_
  refine m_sS hC (met_in ) cs_X5_56 rfl rfl hl.1 (Nat.le_of_ble_eq_true rfl) dX5_feed_4 (by decide) (by decide) (fun r4 p4 => ?_)
  rcases p4 with ⟨rfl, p4⟩ | ⟨rfl, p4⟩
  · obtain ⟨n1, hn11, hn1, rfl⟩ := in_nI1 p4
    refine l_ifne_1 hx hb 16 dX5_feed_7 rfl ?_
    refine lv_aload_n hx hb dX5_feed_16 rfl (hl.at rfl) ?_
    refine mg_s hC hK hP dX5_feed_17 ?_
    refine lv_iconst (v := nI 3) hx hb dX5_feed_20 rfl ?_
    refine m_ld 0 _ (by decide) hC hK hP (rfl) (show _ < 449 by omega) dX5_feed_21 ?_
    refine l_top _ ((hT.1.at 0 3 (n := 3) (by decide) rfl).trans eT0) ?_
    refine lv_iload_n hx hb dX5_feed_22 rfl (hl.at rfl) ?_
    refine l_addN hx hb dX5_feed_23 ?_
    refine lv_bipush (v := nI 60) hx hb dX5_feed_24 rfl ?_
    refine l_leN hx hb 35 dX5_feed_26 rfl (by omega) (by omega) (fun c26 => ?_) (fun c26 => ?_)
    · refine lv_iconst (v := nI 0) hx hb dX5_feed_35 rfl ?_
      refine l_istore hx hb 4 dX5_feed_36 hl rfl (fun ls hl => ?_)
      have loop : ∀ (m0 q : Nat) (τ : Sta), q ≤ n1 → n1 + 1 ≤ q + m0 → RM (τ 0) (fdS (T 0) wd q) → Kp [0] σ τ → ∀ (H : Heap) (locs : List Loc) (ls : Array Slot), MWP D cA b τ H → va_S (mA b) s.heap H locs → lh ls [some (.ref b), some (.long wd), none, some (.int (nI n1)), some (.int (nI q))] → W p l e (rmG 2 0 0) s m args below meth c H locs 0 0 Q (F0 m 38 ls []) := by
        intro m0
        induction m0 with
        | zero => intro q τ h1 h2; exact absurd h2 (by omega)
        | succ m0 ih =>
          intro q τ h1 h2 hRk hk H locs ls hP hS hl
          have eT := fdS_0 (w := wd) q hI
          refine lv_iload hx hb dX5_feed_38 (hl.at rfl) ?_
          refine lv_iload_n hx hb dX5_feed_40 rfl (hl.at rfl) ?_
          refine l_geN hx hb 87 dX5_feed_41 rfl (by omega) (by omega) (fun c41 => ?_) (fun c41 => ?_)
          · refine lv_aload_n hx hb dX5_feed_87 rfl (hl.at rfl) ?_
            refine mg_s hC hK hP dX5_feed_88 ?_
            refine lv_iconst (v := nI 3) hx hb dX5_feed_91 rfl ?_
            refine m_ld 0 _ (by decide) hC hK hP (rfl) (show _ < 449 by omega) dX5_feed_92 ?_
            refine hret _ _ ls _ _ _ hP hS dX5_feed_93 ?_
            first | (rw [op_feed, if_pos p4, cn_nI (by omega), if_pos (by omega)]; exact ⟨by rw [hRk.at 0 3 (n := 3) (by decide) rfl, eT, show q = n1 by omega], hT.S (by rw [show n1 = q by omega]; exact hRk) (hk.mono (by decide))⟩) | (rw [op_feed, if_pos p4, cn_nI (by omega), if_neg (by omega)]; exact p31) | (rw [op_feed, if_neg p4]; exact p12)
          · refine lv_aload_n hx hb dX5_feed_44 rfl (hl.at rfl) ?_
            refine mg_s hC hK hP dX5_feed_45 ?_
            refine lv_sipush (v := nI 365) hx hb dX5_feed_48 rfl ?_
            refine lv_aload_n hx hb dX5_feed_51 rfl (hl.at rfl) ?_
            refine mg_s hC hK hP dX5_feed_52 ?_
            refine lv_iconst (v := nI 3) hx hb dX5_feed_55 rfl ?_
            refine m_ld 0 _ (by decide) hC hK hP (rfl) (show _ < 449 by omega) dX5_feed_56 ?_
            refine l_top _ ((hRk.at 0 3 (n := 3) (by decide) rfl).trans eT) ?_
            refine l_addN hx hb dX5_feed_57 ?_
            refine lv_lload_n hx hb dX5_feed_58 rfl (hl.at rfl) ?_
            refine lv_bipush (v := nI 8) hx hb dX5_feed_59 rfl ?_
            refine lv_iload hx hb dX5_feed_61 (hl.at rfl) ?_
            refine l_mulN hx hb dX5_feed_63 ?_
            refine lv_lshr hx hb dX5_feed_64 rfl ?_
            refine lv_ldc2 (v := 255) hx hb hown (hts _ q1526) dX5_feed_65 ?_
            refine lv_land hx hb dX5_feed_68 ?_
            refine lv_l2i hx hb dX5_feed_69 rfl ?_
            refine m_st 0 _ (by decide) hC hK hP hS (rfl) (show _ < 449 by omega) dX5_feed_70 (fun H locs hP hS => ?_)
            have hR1 : RM (up1 τ 0 (upd (τ 0) (365 + (tpd (T 0) + q)) (fdv wd q)) 0) (up2 (fdS (T 0) wd q) 14 (tpd (T 0) + q) (fdv wd q)) := by rw [up1_s]; exact hRk.set (i := 14) (j := tpd (T 0) + q) (by show _ < 60; omega) (by show 365 + (tpd (T 0) + q) = 365 + 1 * (tpd (T 0) + q); omega)
            refine lv_aload_n hx hb dX5_feed_71 rfl (hl.at rfl) ?_
            refine mg_s hC hK hP dX5_feed_72 ?_
            refine lv_iconst (v := nI 3) hx hb dX5_feed_75 rfl ?_
            refine lv_dup2_11 hx hb dX5_feed_76 rfl rfl ?_
            refine m_ld 0 _ (by decide) hC hK hP (rfl) (show _ < 449 by omega) dX5_feed_77 ?_
            refine l_top (nI (tpd (T 0) + q)) ((hR1.at 0 3 (n := 3) (by decide) rfl).trans eT) ?_
            refine lv_iconst (v := nI 1) hx hb dX5_feed_78 rfl ?_
            refine l_addN hx hb dX5_feed_79 ?_
            refine m_st 0 _ (by decide) hC hK hP hS (rfl) (show _ < 449 by omega) dX5_feed_80 (fun H locs hP hS => ?_)
            refine l_inc1 hx hb 4 dX5_feed_81 hl rfl rfl (fun ls hl => ?_)
            refine lv_goto (tgt := 38) hx hb dX5_feed_84 rfl ?_
            exact ih (q + 1) _ (by omega) (by omega) (by rw [up1_s, fdS]; exact hR1.set (i := 0) (j := 3) (by decide) rfl) ((hk.up (by decide)).up (by decide)) _ _ _ hP hS hl
      exact loop (n1 + 1) 0 σ (Nat.zero_le _) (by omega) hT.1 Kp.rf _ _ _ hP hS hl
    · refine lv_aload_n hx hb dX5_feed_29 rfl (hl.at rfl) ?_
      refine lv_iconst (v := nI 4) hx hb dX5_feed_30 rfl ?_
      refine m_iV hC hK hP hS (met_error hT rfl (by decide)) cv_X5_76 rfl rfl hl.1 (Nat.le_of_ble_eq_true rfl) dX5_feed_31 (by decide) (by decide) (fun r31 σ31 H locs p31 hP hS => ?_)
      refine hret _ _ ls _ _ _ hP hS dX5_feed_34 ?_
      first | (rw [op_feed, if_pos p4, cn_nI (by omega), if_pos (by omega)]; exact ⟨by rw [hRk.at 0 3 (n := 3) (by decide) rfl, eT, show q = n1 by omega], hT.S (by rw [show n1 = q by omega]; exact hRk) (hk.mono (by decide))⟩) | (rw [op_feed, if_pos p4, cn_nI (by omega), if_neg (by omega)]; exact p31) | (rw [op_feed, if_neg p4]; exact p12)
  · refine l_ifne_0 hx hb 16 dX5_feed_7 rfl ?_
    refine lv_aload_n hx hb dX5_feed_10 rfl (hl.at rfl) ?_
    refine lv_iconst (v := nI 1) hx hb dX5_feed_11 rfl ?_
    refine m_iV hC hK hP hS (met_error hT rfl (by decide)) cv_X5_76 rfl rfl hl.1 (Nat.le_of_ble_eq_true rfl) dX5_feed_12 (by decide) (by decide) (fun r12 σ12 H locs p12 hP hS => ?_)
    refine hret _ _ ls _ _ _ hP hS dX5_feed_15 ?_
    first | (rw [op_feed, if_pos p4, cn_nI (by omega), if_pos (by omega)]; exact ⟨by rw [hRk.at 0 3 (n := 3) (by decide) rfl, eT, show q = n1 by omega], hT.S (by rw [show n1 = q by omega]; exact hRk) (hk.mono (by decide))⟩) | (rw [op_feed, if_pos p4, cn_nI (by omega), if_neg (by omega)]; exact p31) | (rw [op_feed, if_neg p4]; exact p12)
theorem met_count {l : Launch} {D : va_G} {cA : Nat → ClassId} {b : Nat} {σ : Nat → Nat → Int32} {q : Int32} {T : Tta} (hT : RT σ T) (hI : Inv (T 0)) : MI l D cA b yX5_count cX5_count 2 (some .int) (5) [.ref b, .int q] σ (fun r τ => r = (op_count q T).1 ∧ RT τ (op_count q T).2) := by
  refine Ci.of rfl (by decide +kernel) (Nat.le_of_ble_eq_true rfl) ?_
  intro p e s m args below meth c Q hC hK hP hret ls hl
  have hx := hC.1
  have hb := hC.2.1
  have hown := hC.2.2.2.1
  have hts := hC.2.2.2.2
  have hS : va_S (mA b) s.heap s.heap [] := va_S.rf
  obtain ⟨hh, hh24, ehh, -⟩ := inv_hod hI
  refine lv_iload_n hx hb dX5_count_0 rfl (hl.at rfl) ?_
  refine lv_bipush (v := nI 11) hx hb dX5_count_1 rfl ?_
  refine lv_bipush (v := nI 22) hx hb dX5_count_3 rfl ?_
  refine m_sS hC (met_in ) cs_X5_56 rfl rfl hl.1 (Nat.le_of_ble_eq_true rfl) dX5_count_5 (by decide) (by decide) (fun r5 p5 => ?_)
  rcases p5 with ⟨rfl, p5⟩ | ⟨rfl, p5⟩
  · obtain ⟨k, hk1, hk, rfl⟩ := in_nIl p5 (by decide)
    refine l_ifeq_1 hx hb 24 dX5_count_8 rfl ?_
    refine lv_aload_n hx hb dX5_count_11 rfl (hl.at rfl) ?_
    refine mg_s hC hK hP dX5_count_12 ?_
    refine lv_bipush (v := nI 30) hx hb dX5_count_15 rfl ?_
    refine lv_iload_n hx hb dX5_count_17 rfl (hl.at rfl) ?_
    refine l_addN hx hb dX5_count_18 ?_
    refine lv_bipush (v := nI 11) hx hb dX5_count_19 rfl ?_
    refine l_subN hx hb dX5_count_21 (by omega) ?_
    refine m_ld 0 _ (by decide) hC hK hP (rfl) (show _ < 449 by omega) dX5_count_22 ?_
    refine hret _ _ ls _ _ _ hP hS dX5_count_23 ?_
    first | (rw [op_count, if_pos p5, cn_nI (by omega), ← hT.1.at 2 (k - 11) (n := 30 + k - 11) (by show _ < 12; omega) (by show 30 + k - 11 = 30 + 1 * (k - 11); omega)]; exact ⟨rfl, hT⟩) | (rw [op_count, if_neg p5]; exact ⟨(congrFun (p25.1 0 (by decide)) _).trans (hT.1.at 0 0 (n := 0) (by decide) rfl), hT.same (p25.1.mono (by decide))⟩) | (rw [op_count, if_neg p5]; exact ⟨(congrFun (p25.1 0 (by decide)) _).trans (hT.1.at 0 1 (n := 1) (by decide) rfl), hT.same (p25.1.mono (by decide))⟩) | (rw [op_count, if_neg p5]; exact ⟨(congrFun (p25.1 0 (by decide)) _).trans (by rw [ehh, cn_nI (by omega)]; exact hT.1.at 1 hh (by show hh < 24; omega) (by show 6 + hh = 6 + 1 * hh; omega)), hT.same (p25.1.mono (by decide))⟩) | (rw [op_count, if_neg p5]; exact ⟨p25.2.2.2.2.2, hT.same (p25.1.mono (by decide))⟩) | (rw [op_count, if_neg p5]; exact ⟨p25.2.1, hT.same (p25.1.mono (by decide))⟩) | (rw [op_count, if_neg p5]; exact ⟨(congrFun (p25.1 0 (by decide)) _).trans (hT.1.at 0 2 (n := 2) (by decide) rfl), hT.same (p25.1.mono (by decide))⟩) | (rw [op_count, if_neg p5]; exact ⟨p136, hT.same (p25.1.mono (by decide))⟩) | (rw [op_count, if_neg p5]; exact ⟨(congrFun (p25.1 0 (by decide)) _).trans (hT.1.at 0 3 (n := 3) (by decide) rfl), hT.same (p25.1.mono (by decide))⟩) | (rw [op_count, if_neg p5]; exact ⟨(congrFun (p25.1 0 (by decide)) _).trans (hT.1.at 0 4 (n := 4) (by decide) rfl), hT.same (p25.1.mono (by decide))⟩) | (rw [op_count, if_neg p5]; exact ⟨(congrFun (p25.1 24 (by decide)) 0).trans (hT.2.2 2 0 (by decide)), hT.same (p25.1.mono (by decide))⟩) | (rw [op_count, if_neg p5]; exact ⟨(congrFun (p25.1 0 (by decide)) _).trans (hT.1.at 0 5 (n := 5) (by decide) rfl), hT.same (p25.1.mono (by decide))⟩) | (rw [op_count, if_neg p5, if_neg (fun z => by rw [z] at hq; exact absurd hq (by decide)), if_neg (fun z => by rw [z] at hq; exact absurd hq (by decide)), if_neg (fun z => by rw [z] at hq; exact absurd hq (by decide)), if_neg (fun z => by rw [z] at hq; exact absurd hq (by decide)), if_neg (fun z => by rw [z] at hq; exact absurd hq (by decide)), if_neg (fun z => by rw [z] at hq; exact absurd hq (by decide)), if_neg (fun z => by rw [z] at hq; exact absurd hq (by decide)), if_neg (fun z => by rw [z] at hq; exact absurd hq (by decide)), if_neg (fun z => by rw [z] at hq; exact absurd hq (by decide)), if_neg (fun z => by rw [z] at hq; exact absurd hq (by decide)), if_neg (fun z => by rw [z] at hq; exact absurd hq (by decide))]; exact p168)
  · refine l_ifeq_0 hx hb 24 dX5_count_8 rfl ?_
    refine lv_aload_n hx hb dX5_count_24 rfl (hl.at rfl) ?_
    refine m_vV hC hK hP hS (met_flow (S := T 0) hT.1 hI) cv_X5_103 rfl rfl hl.1 (Nat.le_of_ble_eq_true rfl) dX5_count_25 (by decide) (by decide) (fun σ25 H locs p25 hP hS => ?_)
    refine lv_iload_n hx hb dX5_count_28 rfl (hl.at rfl) ?_
    rcases cnt_cases q with rfl | rfl | rfl | rfl | rfl | rfl | rfl | rfl | rfl | rfl | rfl | hq
    · refine lv_tableIn (tgt := 88) hx hb dX5_count_29 (by decide) (by decide) rfl rfl ?_
      refine lv_aload_n hx hb dX5_count_88 rfl (hl.at rfl) ?_
      refine mg_s hC hK hP dX5_count_89 ?_
      refine lv_iconst (v := nI 0) hx hb dX5_count_92 rfl ?_
      refine m_ld 0 _ (by decide) hC hK hP (rfl) (show _ < 449 by omega) dX5_count_93 ?_
      refine hret _ _ ls _ _ _ hP hS dX5_count_94 ?_
      first | (rw [op_count, if_pos p5, cn_nI (by omega), ← hT.1.at 2 (k - 11) (n := 30 + k - 11) (by show _ < 12; omega) (by show 30 + k - 11 = 30 + 1 * (k - 11); omega)]; exact ⟨rfl, hT⟩) | (rw [op_count, if_neg p5]; exact ⟨(congrFun (p25.1 0 (by decide)) _).trans (hT.1.at 0 0 (n := 0) (by decide) rfl), hT.same (p25.1.mono (by decide))⟩) | (rw [op_count, if_neg p5]; exact ⟨(congrFun (p25.1 0 (by decide)) _).trans (hT.1.at 0 1 (n := 1) (by decide) rfl), hT.same (p25.1.mono (by decide))⟩) | (rw [op_count, if_neg p5]; exact ⟨(congrFun (p25.1 0 (by decide)) _).trans (by rw [ehh, cn_nI (by omega)]; exact hT.1.at 1 hh (by show hh < 24; omega) (by show 6 + hh = 6 + 1 * hh; omega)), hT.same (p25.1.mono (by decide))⟩) | (rw [op_count, if_neg p5]; exact ⟨p25.2.2.2.2.2, hT.same (p25.1.mono (by decide))⟩) | (rw [op_count, if_neg p5]; exact ⟨p25.2.1, hT.same (p25.1.mono (by decide))⟩) | (rw [op_count, if_neg p5]; exact ⟨(congrFun (p25.1 0 (by decide)) _).trans (hT.1.at 0 2 (n := 2) (by decide) rfl), hT.same (p25.1.mono (by decide))⟩) | (rw [op_count, if_neg p5]; exact ⟨p136, hT.same (p25.1.mono (by decide))⟩) | (rw [op_count, if_neg p5]; exact ⟨(congrFun (p25.1 0 (by decide)) _).trans (hT.1.at 0 3 (n := 3) (by decide) rfl), hT.same (p25.1.mono (by decide))⟩) | (rw [op_count, if_neg p5]; exact ⟨(congrFun (p25.1 0 (by decide)) _).trans (hT.1.at 0 4 (n := 4) (by decide) rfl), hT.same (p25.1.mono (by decide))⟩) | (rw [op_count, if_neg p5]; exact ⟨(congrFun (p25.1 24 (by decide)) 0).trans (hT.2.2 2 0 (by decide)), hT.same (p25.1.mono (by decide))⟩) | (rw [op_count, if_neg p5]; exact ⟨(congrFun (p25.1 0 (by decide)) _).trans (hT.1.at 0 5 (n := 5) (by decide) rfl), hT.same (p25.1.mono (by decide))⟩) | (rw [op_count, if_neg p5, if_neg (fun z => by rw [z] at hq; exact absurd hq (by decide)), if_neg (fun z => by rw [z] at hq; exact absurd hq (by decide)), if_neg (fun z => by rw [z] at hq; exact absurd hq (by decide)), if_neg (fun z => by rw [z] at hq; exact absurd hq (by decide)), if_neg (fun z => by rw [z] at hq; exact absurd hq (by decide)), if_neg (fun z => by rw [z] at hq; exact absurd hq (by decide)), if_neg (fun z => by rw [z] at hq; exact absurd hq (by decide)), if_neg (fun z => by rw [z] at hq; exact absurd hq (by decide)), if_neg (fun z => by rw [z] at hq; exact absurd hq (by decide)), if_neg (fun z => by rw [z] at hq; exact absurd hq (by decide)), if_neg (fun z => by rw [z] at hq; exact absurd hq (by decide))]; exact p168)
    · refine lv_tableIn (tgt := 95) hx hb dX5_count_29 (by decide) (by decide) rfl rfl ?_
      refine lv_aload_n hx hb dX5_count_95 rfl (hl.at rfl) ?_
      refine mg_s hC hK hP dX5_count_96 ?_
      refine lv_iconst (v := nI 1) hx hb dX5_count_99 rfl ?_
      refine m_ld 0 _ (by decide) hC hK hP (rfl) (show _ < 449 by omega) dX5_count_100 ?_
      refine hret _ _ ls _ _ _ hP hS dX5_count_101 ?_
      first | (rw [op_count, if_pos p5, cn_nI (by omega), ← hT.1.at 2 (k - 11) (n := 30 + k - 11) (by show _ < 12; omega) (by show 30 + k - 11 = 30 + 1 * (k - 11); omega)]; exact ⟨rfl, hT⟩) | (rw [op_count, if_neg p5]; exact ⟨(congrFun (p25.1 0 (by decide)) _).trans (hT.1.at 0 0 (n := 0) (by decide) rfl), hT.same (p25.1.mono (by decide))⟩) | (rw [op_count, if_neg p5]; exact ⟨(congrFun (p25.1 0 (by decide)) _).trans (hT.1.at 0 1 (n := 1) (by decide) rfl), hT.same (p25.1.mono (by decide))⟩) | (rw [op_count, if_neg p5]; exact ⟨(congrFun (p25.1 0 (by decide)) _).trans (by rw [ehh, cn_nI (by omega)]; exact hT.1.at 1 hh (by show hh < 24; omega) (by show 6 + hh = 6 + 1 * hh; omega)), hT.same (p25.1.mono (by decide))⟩) | (rw [op_count, if_neg p5]; exact ⟨p25.2.2.2.2.2, hT.same (p25.1.mono (by decide))⟩) | (rw [op_count, if_neg p5]; exact ⟨p25.2.1, hT.same (p25.1.mono (by decide))⟩) | (rw [op_count, if_neg p5]; exact ⟨(congrFun (p25.1 0 (by decide)) _).trans (hT.1.at 0 2 (n := 2) (by decide) rfl), hT.same (p25.1.mono (by decide))⟩) | (rw [op_count, if_neg p5]; exact ⟨p136, hT.same (p25.1.mono (by decide))⟩) | (rw [op_count, if_neg p5]; exact ⟨(congrFun (p25.1 0 (by decide)) _).trans (hT.1.at 0 3 (n := 3) (by decide) rfl), hT.same (p25.1.mono (by decide))⟩) | (rw [op_count, if_neg p5]; exact ⟨(congrFun (p25.1 0 (by decide)) _).trans (hT.1.at 0 4 (n := 4) (by decide) rfl), hT.same (p25.1.mono (by decide))⟩) | (rw [op_count, if_neg p5]; exact ⟨(congrFun (p25.1 24 (by decide)) 0).trans (hT.2.2 2 0 (by decide)), hT.same (p25.1.mono (by decide))⟩) | (rw [op_count, if_neg p5]; exact ⟨(congrFun (p25.1 0 (by decide)) _).trans (hT.1.at 0 5 (n := 5) (by decide) rfl), hT.same (p25.1.mono (by decide))⟩) | (rw [op_count, if_neg p5, if_neg (fun z => by rw [z] at hq; exact absurd hq (by decide)), if_neg (fun z => by rw [z] at hq; exact absurd hq (by decide)), if_neg (fun z => by rw [z] at hq; exact absurd hq (by decide)), if_neg (fun z => by rw [z] at hq; exact absurd hq (by decide)), if_neg (fun z => by rw [z] at hq; exact absurd hq (by decide)), if_neg (fun z => by rw [z] at hq; exact absurd hq (by decide)), if_neg (fun z => by rw [z] at hq; exact absurd hq (by decide)), if_neg (fun z => by rw [z] at hq; exact absurd hq (by decide)), if_neg (fun z => by rw [z] at hq; exact absurd hq (by decide)), if_neg (fun z => by rw [z] at hq; exact absurd hq (by decide)), if_neg (fun z => by rw [z] at hq; exact absurd hq (by decide))]; exact p168)
    · refine lv_tableIn (tgt := 102) hx hb dX5_count_29 (by decide) (by decide) rfl rfl ?_
      refine lv_aload_n hx hb dX5_count_102 rfl (hl.at rfl) ?_
      refine mg_s hC hK hP dX5_count_103 ?_
      refine lv_bipush (v := nI 6) hx hb dX5_count_106 rfl ?_
      refine lv_aload_n hx hb dX5_count_108 rfl (hl.at rfl) ?_
      refine m_pV hC hK hP (met_hourOfDay (S := T 0) (by rw [p25.1 0 (by decide)]; exact hT.1)) cv_X5_179 rfl rfl hl.1 (Nat.le_of_ble_eq_true rfl) dX5_count_109 (by decide) (by decide) (fun r109 p109 => ?_)
      refine l_top _ (p109.trans ehh) ?_
      refine l_addN hx hb dX5_count_112 ?_
      refine m_ld 0 _ (by decide) hC hK hP (rfl) (show _ < 449 by omega) dX5_count_113 ?_
      refine hret _ _ ls _ _ _ hP hS dX5_count_114 ?_
      first | (rw [op_count, if_pos p5, cn_nI (by omega), ← hT.1.at 2 (k - 11) (n := 30 + k - 11) (by show _ < 12; omega) (by show 30 + k - 11 = 30 + 1 * (k - 11); omega)]; exact ⟨rfl, hT⟩) | (rw [op_count, if_neg p5]; exact ⟨(congrFun (p25.1 0 (by decide)) _).trans (hT.1.at 0 0 (n := 0) (by decide) rfl), hT.same (p25.1.mono (by decide))⟩) | (rw [op_count, if_neg p5]; exact ⟨(congrFun (p25.1 0 (by decide)) _).trans (hT.1.at 0 1 (n := 1) (by decide) rfl), hT.same (p25.1.mono (by decide))⟩) | (rw [op_count, if_neg p5]; exact ⟨(congrFun (p25.1 0 (by decide)) _).trans (by rw [ehh, cn_nI (by omega)]; exact hT.1.at 1 hh (by show hh < 24; omega) (by show 6 + hh = 6 + 1 * hh; omega)), hT.same (p25.1.mono (by decide))⟩) | (rw [op_count, if_neg p5]; exact ⟨p25.2.2.2.2.2, hT.same (p25.1.mono (by decide))⟩) | (rw [op_count, if_neg p5]; exact ⟨p25.2.1, hT.same (p25.1.mono (by decide))⟩) | (rw [op_count, if_neg p5]; exact ⟨(congrFun (p25.1 0 (by decide)) _).trans (hT.1.at 0 2 (n := 2) (by decide) rfl), hT.same (p25.1.mono (by decide))⟩) | (rw [op_count, if_neg p5]; exact ⟨p136, hT.same (p25.1.mono (by decide))⟩) | (rw [op_count, if_neg p5]; exact ⟨(congrFun (p25.1 0 (by decide)) _).trans (hT.1.at 0 3 (n := 3) (by decide) rfl), hT.same (p25.1.mono (by decide))⟩) | (rw [op_count, if_neg p5]; exact ⟨(congrFun (p25.1 0 (by decide)) _).trans (hT.1.at 0 4 (n := 4) (by decide) rfl), hT.same (p25.1.mono (by decide))⟩) | (rw [op_count, if_neg p5]; exact ⟨(congrFun (p25.1 24 (by decide)) 0).trans (hT.2.2 2 0 (by decide)), hT.same (p25.1.mono (by decide))⟩) | (rw [op_count, if_neg p5]; exact ⟨(congrFun (p25.1 0 (by decide)) _).trans (hT.1.at 0 5 (n := 5) (by decide) rfl), hT.same (p25.1.mono (by decide))⟩) | (rw [op_count, if_neg p5, if_neg (fun z => by rw [z] at hq; exact absurd hq (by decide)), if_neg (fun z => by rw [z] at hq; exact absurd hq (by decide)), if_neg (fun z => by rw [z] at hq; exact absurd hq (by decide)), if_neg (fun z => by rw [z] at hq; exact absurd hq (by decide)), if_neg (fun z => by rw [z] at hq; exact absurd hq (by decide)), if_neg (fun z => by rw [z] at hq; exact absurd hq (by decide)), if_neg (fun z => by rw [z] at hq; exact absurd hq (by decide)), if_neg (fun z => by rw [z] at hq; exact absurd hq (by decide)), if_neg (fun z => by rw [z] at hq; exact absurd hq (by decide)), if_neg (fun z => by rw [z] at hq; exact absurd hq (by decide)), if_neg (fun z => by rw [z] at hq; exact absurd hq (by decide))]; exact p168)
    · refine lv_tableIn (tgt := 115) hx hb dX5_count_29 (by decide) (by decide) rfl rfl ?_
      refine lv_aload_n hx hb dX5_count_115 rfl (hl.at rfl) ?_
      refine mg_flowing hC hK hP dX5_count_116 ?_
      refine lv_bipush (v := nI 12) hx hb dX5_count_119 rfl ?_
      refine m_ld 7 _ (by decide) hC hK hP (rfl) (show _ < 13 by omega) dX5_count_121 ?_
      refine hret _ _ ls _ _ _ hP hS dX5_count_122 ?_
      first | (rw [op_count, if_pos p5, cn_nI (by omega), ← hT.1.at 2 (k - 11) (n := 30 + k - 11) (by show _ < 12; omega) (by show 30 + k - 11 = 30 + 1 * (k - 11); omega)]; exact ⟨rfl, hT⟩) | (rw [op_count, if_neg p5]; exact ⟨(congrFun (p25.1 0 (by decide)) _).trans (hT.1.at 0 0 (n := 0) (by decide) rfl), hT.same (p25.1.mono (by decide))⟩) | (rw [op_count, if_neg p5]; exact ⟨(congrFun (p25.1 0 (by decide)) _).trans (hT.1.at 0 1 (n := 1) (by decide) rfl), hT.same (p25.1.mono (by decide))⟩) | (rw [op_count, if_neg p5]; exact ⟨(congrFun (p25.1 0 (by decide)) _).trans (by rw [ehh, cn_nI (by omega)]; exact hT.1.at 1 hh (by show hh < 24; omega) (by show 6 + hh = 6 + 1 * hh; omega)), hT.same (p25.1.mono (by decide))⟩) | (rw [op_count, if_neg p5]; exact ⟨p25.2.2.2.2.2, hT.same (p25.1.mono (by decide))⟩) | (rw [op_count, if_neg p5]; exact ⟨p25.2.1, hT.same (p25.1.mono (by decide))⟩) | (rw [op_count, if_neg p5]; exact ⟨(congrFun (p25.1 0 (by decide)) _).trans (hT.1.at 0 2 (n := 2) (by decide) rfl), hT.same (p25.1.mono (by decide))⟩) | (rw [op_count, if_neg p5]; exact ⟨p136, hT.same (p25.1.mono (by decide))⟩) | (rw [op_count, if_neg p5]; exact ⟨(congrFun (p25.1 0 (by decide)) _).trans (hT.1.at 0 3 (n := 3) (by decide) rfl), hT.same (p25.1.mono (by decide))⟩) | (rw [op_count, if_neg p5]; exact ⟨(congrFun (p25.1 0 (by decide)) _).trans (hT.1.at 0 4 (n := 4) (by decide) rfl), hT.same (p25.1.mono (by decide))⟩) | (rw [op_count, if_neg p5]; exact ⟨(congrFun (p25.1 24 (by decide)) 0).trans (hT.2.2 2 0 (by decide)), hT.same (p25.1.mono (by decide))⟩) | (rw [op_count, if_neg p5]; exact ⟨(congrFun (p25.1 0 (by decide)) _).trans (hT.1.at 0 5 (n := 5) (by decide) rfl), hT.same (p25.1.mono (by decide))⟩) | (rw [op_count, if_neg p5, if_neg (fun z => by rw [z] at hq; exact absurd hq (by decide)), if_neg (fun z => by rw [z] at hq; exact absurd hq (by decide)), if_neg (fun z => by rw [z] at hq; exact absurd hq (by decide)), if_neg (fun z => by rw [z] at hq; exact absurd hq (by decide)), if_neg (fun z => by rw [z] at hq; exact absurd hq (by decide)), if_neg (fun z => by rw [z] at hq; exact absurd hq (by decide)), if_neg (fun z => by rw [z] at hq; exact absurd hq (by decide)), if_neg (fun z => by rw [z] at hq; exact absurd hq (by decide)), if_neg (fun z => by rw [z] at hq; exact absurd hq (by decide)), if_neg (fun z => by rw [z] at hq; exact absurd hq (by decide)), if_neg (fun z => by rw [z] at hq; exact absurd hq (by decide))]; exact p168)
    · refine lv_tableIn (tgt := 123) hx hb dX5_count_29 (by decide) (by decide) rfl rfl ?_
      refine lv_aload_n hx hb dX5_count_123 rfl (hl.at rfl) ?_
      refine mg_lost hC hK hP dX5_count_124 ?_
      refine hret _ _ ls _ _ _ hP hS dX5_count_127 ?_
      first | (rw [op_count, if_pos p5, cn_nI (by omega), ← hT.1.at 2 (k - 11) (n := 30 + k - 11) (by show _ < 12; omega) (by show 30 + k - 11 = 30 + 1 * (k - 11); omega)]; exact ⟨rfl, hT⟩) | (rw [op_count, if_neg p5]; exact ⟨(congrFun (p25.1 0 (by decide)) _).trans (hT.1.at 0 0 (n := 0) (by decide) rfl), hT.same (p25.1.mono (by decide))⟩) | (rw [op_count, if_neg p5]; exact ⟨(congrFun (p25.1 0 (by decide)) _).trans (hT.1.at 0 1 (n := 1) (by decide) rfl), hT.same (p25.1.mono (by decide))⟩) | (rw [op_count, if_neg p5]; exact ⟨(congrFun (p25.1 0 (by decide)) _).trans (by rw [ehh, cn_nI (by omega)]; exact hT.1.at 1 hh (by show hh < 24; omega) (by show 6 + hh = 6 + 1 * hh; omega)), hT.same (p25.1.mono (by decide))⟩) | (rw [op_count, if_neg p5]; exact ⟨p25.2.2.2.2.2, hT.same (p25.1.mono (by decide))⟩) | (rw [op_count, if_neg p5]; exact ⟨p25.2.1, hT.same (p25.1.mono (by decide))⟩) | (rw [op_count, if_neg p5]; exact ⟨(congrFun (p25.1 0 (by decide)) _).trans (hT.1.at 0 2 (n := 2) (by decide) rfl), hT.same (p25.1.mono (by decide))⟩) | (rw [op_count, if_neg p5]; exact ⟨p136, hT.same (p25.1.mono (by decide))⟩) | (rw [op_count, if_neg p5]; exact ⟨(congrFun (p25.1 0 (by decide)) _).trans (hT.1.at 0 3 (n := 3) (by decide) rfl), hT.same (p25.1.mono (by decide))⟩) | (rw [op_count, if_neg p5]; exact ⟨(congrFun (p25.1 0 (by decide)) _).trans (hT.1.at 0 4 (n := 4) (by decide) rfl), hT.same (p25.1.mono (by decide))⟩) | (rw [op_count, if_neg p5]; exact ⟨(congrFun (p25.1 24 (by decide)) 0).trans (hT.2.2 2 0 (by decide)), hT.same (p25.1.mono (by decide))⟩) | (rw [op_count, if_neg p5]; exact ⟨(congrFun (p25.1 0 (by decide)) _).trans (hT.1.at 0 5 (n := 5) (by decide) rfl), hT.same (p25.1.mono (by decide))⟩) | (rw [op_count, if_neg p5, if_neg (fun z => by rw [z] at hq; exact absurd hq (by decide)), if_neg (fun z => by rw [z] at hq; exact absurd hq (by decide)), if_neg (fun z => by rw [z] at hq; exact absurd hq (by decide)), if_neg (fun z => by rw [z] at hq; exact absurd hq (by decide)), if_neg (fun z => by rw [z] at hq; exact absurd hq (by decide)), if_neg (fun z => by rw [z] at hq; exact absurd hq (by decide)), if_neg (fun z => by rw [z] at hq; exact absurd hq (by decide)), if_neg (fun z => by rw [z] at hq; exact absurd hq (by decide)), if_neg (fun z => by rw [z] at hq; exact absurd hq (by decide)), if_neg (fun z => by rw [z] at hq; exact absurd hq (by decide)), if_neg (fun z => by rw [z] at hq; exact absurd hq (by decide))]; exact p168)
    · refine lv_tableIn (tgt := 128) hx hb dX5_count_29 (by decide) (by decide) rfl rfl ?_
      refine lv_aload_n hx hb dX5_count_128 rfl (hl.at rfl) ?_
      refine mg_s hC hK hP dX5_count_129 ?_
      refine lv_iconst (v := nI 2) hx hb dX5_count_132 rfl ?_
      refine m_ld 0 _ (by decide) hC hK hP (rfl) (show _ < 449 by omega) dX5_count_133 ?_
      refine hret _ _ ls _ _ _ hP hS dX5_count_134 ?_
      first | (rw [op_count, if_pos p5, cn_nI (by omega), ← hT.1.at 2 (k - 11) (n := 30 + k - 11) (by show _ < 12; omega) (by show 30 + k - 11 = 30 + 1 * (k - 11); omega)]; exact ⟨rfl, hT⟩) | (rw [op_count, if_neg p5]; exact ⟨(congrFun (p25.1 0 (by decide)) _).trans (hT.1.at 0 0 (n := 0) (by decide) rfl), hT.same (p25.1.mono (by decide))⟩) | (rw [op_count, if_neg p5]; exact ⟨(congrFun (p25.1 0 (by decide)) _).trans (hT.1.at 0 1 (n := 1) (by decide) rfl), hT.same (p25.1.mono (by decide))⟩) | (rw [op_count, if_neg p5]; exact ⟨(congrFun (p25.1 0 (by decide)) _).trans (by rw [ehh, cn_nI (by omega)]; exact hT.1.at 1 hh (by show hh < 24; omega) (by show 6 + hh = 6 + 1 * hh; omega)), hT.same (p25.1.mono (by decide))⟩) | (rw [op_count, if_neg p5]; exact ⟨p25.2.2.2.2.2, hT.same (p25.1.mono (by decide))⟩) | (rw [op_count, if_neg p5]; exact ⟨p25.2.1, hT.same (p25.1.mono (by decide))⟩) | (rw [op_count, if_neg p5]; exact ⟨(congrFun (p25.1 0 (by decide)) _).trans (hT.1.at 0 2 (n := 2) (by decide) rfl), hT.same (p25.1.mono (by decide))⟩) | (rw [op_count, if_neg p5]; exact ⟨p136, hT.same (p25.1.mono (by decide))⟩) | (rw [op_count, if_neg p5]; exact ⟨(congrFun (p25.1 0 (by decide)) _).trans (hT.1.at 0 3 (n := 3) (by decide) rfl), hT.same (p25.1.mono (by decide))⟩) | (rw [op_count, if_neg p5]; exact ⟨(congrFun (p25.1 0 (by decide)) _).trans (hT.1.at 0 4 (n := 4) (by decide) rfl), hT.same (p25.1.mono (by decide))⟩) | (rw [op_count, if_neg p5]; exact ⟨(congrFun (p25.1 24 (by decide)) 0).trans (hT.2.2 2 0 (by decide)), hT.same (p25.1.mono (by decide))⟩) | (rw [op_count, if_neg p5]; exact ⟨(congrFun (p25.1 0 (by decide)) _).trans (hT.1.at 0 5 (n := 5) (by decide) rfl), hT.same (p25.1.mono (by decide))⟩) | (rw [op_count, if_neg p5, if_neg (fun z => by rw [z] at hq; exact absurd hq (by decide)), if_neg (fun z => by rw [z] at hq; exact absurd hq (by decide)), if_neg (fun z => by rw [z] at hq; exact absurd hq (by decide)), if_neg (fun z => by rw [z] at hq; exact absurd hq (by decide)), if_neg (fun z => by rw [z] at hq; exact absurd hq (by decide)), if_neg (fun z => by rw [z] at hq; exact absurd hq (by decide)), if_neg (fun z => by rw [z] at hq; exact absurd hq (by decide)), if_neg (fun z => by rw [z] at hq; exact absurd hq (by decide)), if_neg (fun z => by rw [z] at hq; exact absurd hq (by decide)), if_neg (fun z => by rw [z] at hq; exact absurd hq (by decide)), if_neg (fun z => by rw [z] at hq; exact absurd hq (by decide))]; exact p168)
    · refine lv_tableIn (tgt := 135) hx hb dX5_count_29 (by decide) (by decide) rfl rfl ?_
      refine lv_aload_n hx hb dX5_count_135 rfl (hl.at rfl) ?_
      refine m_pV hC hK hP (met_allPrayed (S := T 0) (by rw [p25.1 0 (by decide)]; exact hT.1)) cv_X5_216 rfl rfl hl.1 (Nat.le_of_ble_eq_true rfl) dX5_count_136 (by decide) (by decide) (fun r136 p136 => ?_)
      refine hret _ _ ls _ _ _ hP hS dX5_count_139 ?_
      first | (rw [op_count, if_pos p5, cn_nI (by omega), ← hT.1.at 2 (k - 11) (n := 30 + k - 11) (by show _ < 12; omega) (by show 30 + k - 11 = 30 + 1 * (k - 11); omega)]; exact ⟨rfl, hT⟩) | (rw [op_count, if_neg p5]; exact ⟨(congrFun (p25.1 0 (by decide)) _).trans (hT.1.at 0 0 (n := 0) (by decide) rfl), hT.same (p25.1.mono (by decide))⟩) | (rw [op_count, if_neg p5]; exact ⟨(congrFun (p25.1 0 (by decide)) _).trans (hT.1.at 0 1 (n := 1) (by decide) rfl), hT.same (p25.1.mono (by decide))⟩) | (rw [op_count, if_neg p5]; exact ⟨(congrFun (p25.1 0 (by decide)) _).trans (by rw [ehh, cn_nI (by omega)]; exact hT.1.at 1 hh (by show hh < 24; omega) (by show 6 + hh = 6 + 1 * hh; omega)), hT.same (p25.1.mono (by decide))⟩) | (rw [op_count, if_neg p5]; exact ⟨p25.2.2.2.2.2, hT.same (p25.1.mono (by decide))⟩) | (rw [op_count, if_neg p5]; exact ⟨p25.2.1, hT.same (p25.1.mono (by decide))⟩) | (rw [op_count, if_neg p5]; exact ⟨(congrFun (p25.1 0 (by decide)) _).trans (hT.1.at 0 2 (n := 2) (by decide) rfl), hT.same (p25.1.mono (by decide))⟩) | (rw [op_count, if_neg p5]; exact ⟨p136, hT.same (p25.1.mono (by decide))⟩) | (rw [op_count, if_neg p5]; exact ⟨(congrFun (p25.1 0 (by decide)) _).trans (hT.1.at 0 3 (n := 3) (by decide) rfl), hT.same (p25.1.mono (by decide))⟩) | (rw [op_count, if_neg p5]; exact ⟨(congrFun (p25.1 0 (by decide)) _).trans (hT.1.at 0 4 (n := 4) (by decide) rfl), hT.same (p25.1.mono (by decide))⟩) | (rw [op_count, if_neg p5]; exact ⟨(congrFun (p25.1 24 (by decide)) 0).trans (hT.2.2 2 0 (by decide)), hT.same (p25.1.mono (by decide))⟩) | (rw [op_count, if_neg p5]; exact ⟨(congrFun (p25.1 0 (by decide)) _).trans (hT.1.at 0 5 (n := 5) (by decide) rfl), hT.same (p25.1.mono (by decide))⟩) | (rw [op_count, if_neg p5, if_neg (fun z => by rw [z] at hq; exact absurd hq (by decide)), if_neg (fun z => by rw [z] at hq; exact absurd hq (by decide)), if_neg (fun z => by rw [z] at hq; exact absurd hq (by decide)), if_neg (fun z => by rw [z] at hq; exact absurd hq (by decide)), if_neg (fun z => by rw [z] at hq; exact absurd hq (by decide)), if_neg (fun z => by rw [z] at hq; exact absurd hq (by decide)), if_neg (fun z => by rw [z] at hq; exact absurd hq (by decide)), if_neg (fun z => by rw [z] at hq; exact absurd hq (by decide)), if_neg (fun z => by rw [z] at hq; exact absurd hq (by decide)), if_neg (fun z => by rw [z] at hq; exact absurd hq (by decide)), if_neg (fun z => by rw [z] at hq; exact absurd hq (by decide))]; exact p168)
    · refine lv_tableIn (tgt := 140) hx hb dX5_count_29 (by decide) (by decide) rfl rfl ?_
      refine lv_aload_n hx hb dX5_count_140 rfl (hl.at rfl) ?_
      refine mg_s hC hK hP dX5_count_141 ?_
      refine lv_iconst (v := nI 3) hx hb dX5_count_144 rfl ?_
      refine m_ld 0 _ (by decide) hC hK hP (rfl) (show _ < 449 by omega) dX5_count_145 ?_
      refine hret _ _ ls _ _ _ hP hS dX5_count_146 ?_
      first | (rw [op_count, if_pos p5, cn_nI (by omega), ← hT.1.at 2 (k - 11) (n := 30 + k - 11) (by show _ < 12; omega) (by show 30 + k - 11 = 30 + 1 * (k - 11); omega)]; exact ⟨rfl, hT⟩) | (rw [op_count, if_neg p5]; exact ⟨(congrFun (p25.1 0 (by decide)) _).trans (hT.1.at 0 0 (n := 0) (by decide) rfl), hT.same (p25.1.mono (by decide))⟩) | (rw [op_count, if_neg p5]; exact ⟨(congrFun (p25.1 0 (by decide)) _).trans (hT.1.at 0 1 (n := 1) (by decide) rfl), hT.same (p25.1.mono (by decide))⟩) | (rw [op_count, if_neg p5]; exact ⟨(congrFun (p25.1 0 (by decide)) _).trans (by rw [ehh, cn_nI (by omega)]; exact hT.1.at 1 hh (by show hh < 24; omega) (by show 6 + hh = 6 + 1 * hh; omega)), hT.same (p25.1.mono (by decide))⟩) | (rw [op_count, if_neg p5]; exact ⟨p25.2.2.2.2.2, hT.same (p25.1.mono (by decide))⟩) | (rw [op_count, if_neg p5]; exact ⟨p25.2.1, hT.same (p25.1.mono (by decide))⟩) | (rw [op_count, if_neg p5]; exact ⟨(congrFun (p25.1 0 (by decide)) _).trans (hT.1.at 0 2 (n := 2) (by decide) rfl), hT.same (p25.1.mono (by decide))⟩) | (rw [op_count, if_neg p5]; exact ⟨p136, hT.same (p25.1.mono (by decide))⟩) | (rw [op_count, if_neg p5]; exact ⟨(congrFun (p25.1 0 (by decide)) _).trans (hT.1.at 0 3 (n := 3) (by decide) rfl), hT.same (p25.1.mono (by decide))⟩) | (rw [op_count, if_neg p5]; exact ⟨(congrFun (p25.1 0 (by decide)) _).trans (hT.1.at 0 4 (n := 4) (by decide) rfl), hT.same (p25.1.mono (by decide))⟩) | (rw [op_count, if_neg p5]; exact ⟨(congrFun (p25.1 24 (by decide)) 0).trans (hT.2.2 2 0 (by decide)), hT.same (p25.1.mono (by decide))⟩) | (rw [op_count, if_neg p5]; exact ⟨(congrFun (p25.1 0 (by decide)) _).trans (hT.1.at 0 5 (n := 5) (by decide) rfl), hT.same (p25.1.mono (by decide))⟩) | (rw [op_count, if_neg p5, if_neg (fun z => by rw [z] at hq; exact absurd hq (by decide)), if_neg (fun z => by rw [z] at hq; exact absurd hq (by decide)), if_neg (fun z => by rw [z] at hq; exact absurd hq (by decide)), if_neg (fun z => by rw [z] at hq; exact absurd hq (by decide)), if_neg (fun z => by rw [z] at hq; exact absurd hq (by decide)), if_neg (fun z => by rw [z] at hq; exact absurd hq (by decide)), if_neg (fun z => by rw [z] at hq; exact absurd hq (by decide)), if_neg (fun z => by rw [z] at hq; exact absurd hq (by decide)), if_neg (fun z => by rw [z] at hq; exact absurd hq (by decide)), if_neg (fun z => by rw [z] at hq; exact absurd hq (by decide)), if_neg (fun z => by rw [z] at hq; exact absurd hq (by decide))]; exact p168)
    · refine lv_tableIn (tgt := 147) hx hb dX5_count_29 (by decide) (by decide) rfl rfl ?_
      refine lv_aload_n hx hb dX5_count_147 rfl (hl.at rfl) ?_
      refine mg_s hC hK hP dX5_count_148 ?_
      refine lv_iconst (v := nI 4) hx hb dX5_count_151 rfl ?_
      refine m_ld 0 _ (by decide) hC hK hP (rfl) (show _ < 449 by omega) dX5_count_152 ?_
      refine hret _ _ ls _ _ _ hP hS dX5_count_153 ?_
      first | (rw [op_count, if_pos p5, cn_nI (by omega), ← hT.1.at 2 (k - 11) (n := 30 + k - 11) (by show _ < 12; omega) (by show 30 + k - 11 = 30 + 1 * (k - 11); omega)]; exact ⟨rfl, hT⟩) | (rw [op_count, if_neg p5]; exact ⟨(congrFun (p25.1 0 (by decide)) _).trans (hT.1.at 0 0 (n := 0) (by decide) rfl), hT.same (p25.1.mono (by decide))⟩) | (rw [op_count, if_neg p5]; exact ⟨(congrFun (p25.1 0 (by decide)) _).trans (hT.1.at 0 1 (n := 1) (by decide) rfl), hT.same (p25.1.mono (by decide))⟩) | (rw [op_count, if_neg p5]; exact ⟨(congrFun (p25.1 0 (by decide)) _).trans (by rw [ehh, cn_nI (by omega)]; exact hT.1.at 1 hh (by show hh < 24; omega) (by show 6 + hh = 6 + 1 * hh; omega)), hT.same (p25.1.mono (by decide))⟩) | (rw [op_count, if_neg p5]; exact ⟨p25.2.2.2.2.2, hT.same (p25.1.mono (by decide))⟩) | (rw [op_count, if_neg p5]; exact ⟨p25.2.1, hT.same (p25.1.mono (by decide))⟩) | (rw [op_count, if_neg p5]; exact ⟨(congrFun (p25.1 0 (by decide)) _).trans (hT.1.at 0 2 (n := 2) (by decide) rfl), hT.same (p25.1.mono (by decide))⟩) | (rw [op_count, if_neg p5]; exact ⟨p136, hT.same (p25.1.mono (by decide))⟩) | (rw [op_count, if_neg p5]; exact ⟨(congrFun (p25.1 0 (by decide)) _).trans (hT.1.at 0 3 (n := 3) (by decide) rfl), hT.same (p25.1.mono (by decide))⟩) | (rw [op_count, if_neg p5]; exact ⟨(congrFun (p25.1 0 (by decide)) _).trans (hT.1.at 0 4 (n := 4) (by decide) rfl), hT.same (p25.1.mono (by decide))⟩) | (rw [op_count, if_neg p5]; exact ⟨(congrFun (p25.1 24 (by decide)) 0).trans (hT.2.2 2 0 (by decide)), hT.same (p25.1.mono (by decide))⟩) | (rw [op_count, if_neg p5]; exact ⟨(congrFun (p25.1 0 (by decide)) _).trans (hT.1.at 0 5 (n := 5) (by decide) rfl), hT.same (p25.1.mono (by decide))⟩) | (rw [op_count, if_neg p5, if_neg (fun z => by rw [z] at hq; exact absurd hq (by decide)), if_neg (fun z => by rw [z] at hq; exact absurd hq (by decide)), if_neg (fun z => by rw [z] at hq; exact absurd hq (by decide)), if_neg (fun z => by rw [z] at hq; exact absurd hq (by decide)), if_neg (fun z => by rw [z] at hq; exact absurd hq (by decide)), if_neg (fun z => by rw [z] at hq; exact absurd hq (by decide)), if_neg (fun z => by rw [z] at hq; exact absurd hq (by decide)), if_neg (fun z => by rw [z] at hq; exact absurd hq (by decide)), if_neg (fun z => by rw [z] at hq; exact absurd hq (by decide)), if_neg (fun z => by rw [z] at hq; exact absurd hq (by decide)), if_neg (fun z => by rw [z] at hq; exact absurd hq (by decide))]; exact p168)
    · refine lv_tableIn (tgt := 154) hx hb dX5_count_29 (by decide) (by decide) rfl rfl ?_
      refine lv_aload_n hx hb dX5_count_154 rfl (hl.at rfl) ?_
      refine mg_traced hC hK hP dX5_count_155 ?_
      refine hret _ _ ls _ _ _ hP hS dX5_count_158 ?_
      first | (rw [op_count, if_pos p5, cn_nI (by omega), ← hT.1.at 2 (k - 11) (n := 30 + k - 11) (by show _ < 12; omega) (by show 30 + k - 11 = 30 + 1 * (k - 11); omega)]; exact ⟨rfl, hT⟩) | (rw [op_count, if_neg p5]; exact ⟨(congrFun (p25.1 0 (by decide)) _).trans (hT.1.at 0 0 (n := 0) (by decide) rfl), hT.same (p25.1.mono (by decide))⟩) | (rw [op_count, if_neg p5]; exact ⟨(congrFun (p25.1 0 (by decide)) _).trans (hT.1.at 0 1 (n := 1) (by decide) rfl), hT.same (p25.1.mono (by decide))⟩) | (rw [op_count, if_neg p5]; exact ⟨(congrFun (p25.1 0 (by decide)) _).trans (by rw [ehh, cn_nI (by omega)]; exact hT.1.at 1 hh (by show hh < 24; omega) (by show 6 + hh = 6 + 1 * hh; omega)), hT.same (p25.1.mono (by decide))⟩) | (rw [op_count, if_neg p5]; exact ⟨p25.2.2.2.2.2, hT.same (p25.1.mono (by decide))⟩) | (rw [op_count, if_neg p5]; exact ⟨p25.2.1, hT.same (p25.1.mono (by decide))⟩) | (rw [op_count, if_neg p5]; exact ⟨(congrFun (p25.1 0 (by decide)) _).trans (hT.1.at 0 2 (n := 2) (by decide) rfl), hT.same (p25.1.mono (by decide))⟩) | (rw [op_count, if_neg p5]; exact ⟨p136, hT.same (p25.1.mono (by decide))⟩) | (rw [op_count, if_neg p5]; exact ⟨(congrFun (p25.1 0 (by decide)) _).trans (hT.1.at 0 3 (n := 3) (by decide) rfl), hT.same (p25.1.mono (by decide))⟩) | (rw [op_count, if_neg p5]; exact ⟨(congrFun (p25.1 0 (by decide)) _).trans (hT.1.at 0 4 (n := 4) (by decide) rfl), hT.same (p25.1.mono (by decide))⟩) | (rw [op_count, if_neg p5]; exact ⟨(congrFun (p25.1 24 (by decide)) 0).trans (hT.2.2 2 0 (by decide)), hT.same (p25.1.mono (by decide))⟩) | (rw [op_count, if_neg p5]; exact ⟨(congrFun (p25.1 0 (by decide)) _).trans (hT.1.at 0 5 (n := 5) (by decide) rfl), hT.same (p25.1.mono (by decide))⟩) | (rw [op_count, if_neg p5, if_neg (fun z => by rw [z] at hq; exact absurd hq (by decide)), if_neg (fun z => by rw [z] at hq; exact absurd hq (by decide)), if_neg (fun z => by rw [z] at hq; exact absurd hq (by decide)), if_neg (fun z => by rw [z] at hq; exact absurd hq (by decide)), if_neg (fun z => by rw [z] at hq; exact absurd hq (by decide)), if_neg (fun z => by rw [z] at hq; exact absurd hq (by decide)), if_neg (fun z => by rw [z] at hq; exact absurd hq (by decide)), if_neg (fun z => by rw [z] at hq; exact absurd hq (by decide)), if_neg (fun z => by rw [z] at hq; exact absurd hq (by decide)), if_neg (fun z => by rw [z] at hq; exact absurd hq (by decide)), if_neg (fun z => by rw [z] at hq; exact absurd hq (by decide))]; exact p168)
    · refine lv_tableIn (tgt := 159) hx hb dX5_count_29 (by decide) (by decide) rfl rfl ?_
      refine lv_aload_n hx hb dX5_count_159 rfl (hl.at rfl) ?_
      refine mg_s hC hK hP dX5_count_160 ?_
      refine lv_iconst (v := nI 5) hx hb dX5_count_163 rfl ?_
      refine m_ld 0 _ (by decide) hC hK hP (rfl) (show _ < 449 by omega) dX5_count_164 ?_
      refine hret _ _ ls _ _ _ hP hS dX5_count_165 ?_
      first | (rw [op_count, if_pos p5, cn_nI (by omega), ← hT.1.at 2 (k - 11) (n := 30 + k - 11) (by show _ < 12; omega) (by show 30 + k - 11 = 30 + 1 * (k - 11); omega)]; exact ⟨rfl, hT⟩) | (rw [op_count, if_neg p5]; exact ⟨(congrFun (p25.1 0 (by decide)) _).trans (hT.1.at 0 0 (n := 0) (by decide) rfl), hT.same (p25.1.mono (by decide))⟩) | (rw [op_count, if_neg p5]; exact ⟨(congrFun (p25.1 0 (by decide)) _).trans (hT.1.at 0 1 (n := 1) (by decide) rfl), hT.same (p25.1.mono (by decide))⟩) | (rw [op_count, if_neg p5]; exact ⟨(congrFun (p25.1 0 (by decide)) _).trans (by rw [ehh, cn_nI (by omega)]; exact hT.1.at 1 hh (by show hh < 24; omega) (by show 6 + hh = 6 + 1 * hh; omega)), hT.same (p25.1.mono (by decide))⟩) | (rw [op_count, if_neg p5]; exact ⟨p25.2.2.2.2.2, hT.same (p25.1.mono (by decide))⟩) | (rw [op_count, if_neg p5]; exact ⟨p25.2.1, hT.same (p25.1.mono (by decide))⟩) | (rw [op_count, if_neg p5]; exact ⟨(congrFun (p25.1 0 (by decide)) _).trans (hT.1.at 0 2 (n := 2) (by decide) rfl), hT.same (p25.1.mono (by decide))⟩) | (rw [op_count, if_neg p5]; exact ⟨p136, hT.same (p25.1.mono (by decide))⟩) | (rw [op_count, if_neg p5]; exact ⟨(congrFun (p25.1 0 (by decide)) _).trans (hT.1.at 0 3 (n := 3) (by decide) rfl), hT.same (p25.1.mono (by decide))⟩) | (rw [op_count, if_neg p5]; exact ⟨(congrFun (p25.1 0 (by decide)) _).trans (hT.1.at 0 4 (n := 4) (by decide) rfl), hT.same (p25.1.mono (by decide))⟩) | (rw [op_count, if_neg p5]; exact ⟨(congrFun (p25.1 24 (by decide)) 0).trans (hT.2.2 2 0 (by decide)), hT.same (p25.1.mono (by decide))⟩) | (rw [op_count, if_neg p5]; exact ⟨(congrFun (p25.1 0 (by decide)) _).trans (hT.1.at 0 5 (n := 5) (by decide) rfl), hT.same (p25.1.mono (by decide))⟩) | (rw [op_count, if_neg p5, if_neg (fun z => by rw [z] at hq; exact absurd hq (by decide)), if_neg (fun z => by rw [z] at hq; exact absurd hq (by decide)), if_neg (fun z => by rw [z] at hq; exact absurd hq (by decide)), if_neg (fun z => by rw [z] at hq; exact absurd hq (by decide)), if_neg (fun z => by rw [z] at hq; exact absurd hq (by decide)), if_neg (fun z => by rw [z] at hq; exact absurd hq (by decide)), if_neg (fun z => by rw [z] at hq; exact absurd hq (by decide)), if_neg (fun z => by rw [z] at hq; exact absurd hq (by decide)), if_neg (fun z => by rw [z] at hq; exact absurd hq (by decide)), if_neg (fun z => by rw [z] at hq; exact absurd hq (by decide)), if_neg (fun z => by rw [z] at hq; exact absurd hq (by decide))]; exact p168)
    · refine lv_tableOut (tgt := 166) hx hb dX5_count_29 (hq) rfl ?_
      refine lv_aload_n hx hb dX5_count_166 rfl (hl.at rfl) ?_
      refine lv_iconst (v := nI 1) hx hb dX5_count_167 rfl ?_
      refine m_iV hC hK hP hS (met_error (T := T) (hT.same (p25.1.mono (by decide))) rfl (by decide)) cv_X5_76 rfl rfl hl.1 (Nat.le_of_ble_eq_true rfl) dX5_count_168 (by decide) (by decide) (fun r168 σ168 H locs p168 hP hS => ?_)
      refine hret _ _ ls _ _ _ hP hS dX5_count_171 ?_
      first | (rw [op_count, if_pos p5, cn_nI (by omega), ← hT.1.at 2 (k - 11) (n := 30 + k - 11) (by show _ < 12; omega) (by show 30 + k - 11 = 30 + 1 * (k - 11); omega)]; exact ⟨rfl, hT⟩) | (rw [op_count, if_neg p5]; exact ⟨(congrFun (p25.1 0 (by decide)) _).trans (hT.1.at 0 0 (n := 0) (by decide) rfl), hT.same (p25.1.mono (by decide))⟩) | (rw [op_count, if_neg p5]; exact ⟨(congrFun (p25.1 0 (by decide)) _).trans (hT.1.at 0 1 (n := 1) (by decide) rfl), hT.same (p25.1.mono (by decide))⟩) | (rw [op_count, if_neg p5]; exact ⟨(congrFun (p25.1 0 (by decide)) _).trans (by rw [ehh, cn_nI (by omega)]; exact hT.1.at 1 hh (by show hh < 24; omega) (by show 6 + hh = 6 + 1 * hh; omega)), hT.same (p25.1.mono (by decide))⟩) | (rw [op_count, if_neg p5]; exact ⟨p25.2.2.2.2.2, hT.same (p25.1.mono (by decide))⟩) | (rw [op_count, if_neg p5]; exact ⟨p25.2.1, hT.same (p25.1.mono (by decide))⟩) | (rw [op_count, if_neg p5]; exact ⟨(congrFun (p25.1 0 (by decide)) _).trans (hT.1.at 0 2 (n := 2) (by decide) rfl), hT.same (p25.1.mono (by decide))⟩) | (rw [op_count, if_neg p5]; exact ⟨p136, hT.same (p25.1.mono (by decide))⟩) | (rw [op_count, if_neg p5]; exact ⟨(congrFun (p25.1 0 (by decide)) _).trans (hT.1.at 0 3 (n := 3) (by decide) rfl), hT.same (p25.1.mono (by decide))⟩) | (rw [op_count, if_neg p5]; exact ⟨(congrFun (p25.1 0 (by decide)) _).trans (hT.1.at 0 4 (n := 4) (by decide) rfl), hT.same (p25.1.mono (by decide))⟩) | (rw [op_count, if_neg p5]; exact ⟨(congrFun (p25.1 24 (by decide)) 0).trans (hT.2.2 2 0 (by decide)), hT.same (p25.1.mono (by decide))⟩) | (rw [op_count, if_neg p5]; exact ⟨(congrFun (p25.1 0 (by decide)) _).trans (hT.1.at 0 5 (n := 5) (by decide) rfl), hT.same (p25.1.mono (by decide))⟩) | (rw [op_count, if_neg p5, if_neg (fun z => by rw [z] at hq; exact absurd hq (by decide)), if_neg (fun z => by rw [z] at hq; exact absurd hq (by decide)), if_neg (fun z => by rw [z] at hq; exact absurd hq (by decide)), if_neg (fun z => by rw [z] at hq; exact absurd hq (by decide)), if_neg (fun z => by rw [z] at hq; exact absurd hq (by decide)), if_neg (fun z => by rw [z] at hq; exact absurd hq (by decide)), if_neg (fun z => by rw [z] at hq; exact absurd hq (by decide)), if_neg (fun z => by rw [z] at hq; exact absurd hq (by decide)), if_neg (fun z => by rw [z] at hq; exact absurd hq (by decide)), if_neg (fun z => by rw [z] at hq; exact absurd hq (by decide)), if_neg (fun z => by rw [z] at hq; exact absurd hq (by decide))]; exact p168)
theorem met_check {l : Launch} {D : va_G} {cA : Nat → ClassId} {b : Nat} {σ : Nat → Nat → Int32} {x : Int32} {T : Tta} (hT : RT σ T) (hI : Inv (T 0)) (hH9 : hrv (T 0) ≤ 9999) : MI l D cA b yX5_check cX5_check 5 (some .int) (7) [.ref b, .int x] σ (fun r τ => r = (op_check x T).1 ∧ RT τ (op_check x T).2) := by
  refine Ci.of rfl (by decide +kernel) (Nat.le_of_ble_eq_true rfl) ?_
  intro p e s m args below meth c Q hC hK hP hret ls hl
  have hx := hC.1
  have hb := hC.2.1
  have hown := hC.2.2.2.1
  have hts := hC.2.2.2.2
  have hS : va_S (mA b) s.heap s.heap [] := va_S.rf
  obtain ⟨eN, hN⟩ := inv_wh hI
  obtain ⟨eW, hW⟩ := inv_wt hI
  have h1r : RM (up1 σ 0 (upd (σ 0) 4 (nI 0)) 0) (up2 (T 0) 0 4 (nI 0)) := by rw [up1_s]; exact hT.1.set (i := 0) (j := 4) (by decide) rfl
  refine lv_aload_n hx hb dX5_check_0 rfl (hl.at rfl) ?_
  refine mg_s hC hK hP dX5_check_1 ?_
  refine lv_iconst (v := nI 4) hx hb dX5_check_4 rfl ?_
  refine m_ld 0 _ (by decide) hC hK hP (rfl) (show _ < 449 by omega) dX5_check_5 ?_
  refine l_top _ ((hT.1.at 0 4 (n := 4) (by decide) rfl).trans eW) ?_
  refine l_istore_n hx hb 2 dX5_check_6 rfl hl rfl (fun ls hl => ?_)
  refine lv_aload_n hx hb dX5_check_7 rfl (hl.at rfl) ?_
  refine mg_s hC hK hP dX5_check_8 ?_
  refine lv_iconst (v := nI 4) hx hb dX5_check_11 rfl ?_
  refine lv_iconst (v := nI 0) hx hb dX5_check_12 rfl ?_
  refine m_st 0 _ (by decide) hC hK hP hS (rfl) (show _ < 449 by omega) dX5_check_13 (fun H locs hP hS => ?_)
  refine lv_aload_n hx hb dX5_check_14 rfl (hl.at rfl) ?_
  refine lv_iload_n hx hb dX5_check_15 rfl (hl.at rfl) ?_
  refine m_pV hC hK hP (met_isWheel (S := up2 (T 0) 0 4 (nI 0)) h1r) cv_X5_112 rfl rfl hl.1 (Nat.le_of_ble_eq_true rfl) dX5_check_16 (by decide) (by decide) (fun r16 p16 => ?_)
  replace p16 : bz (nI 0 ≤ x ∧ x ≤ T 0 0 0 - nI 1) r16 := p16
  rcases p16 with ⟨rfl, p16⟩ | ⟨rfl, p16⟩
  · obtain ⟨w, hw, rfl⟩ := isWh_of hI p16
    obtain ⟨S1, eS1⟩ : ∃ S1, S1 = up2 (T 0) 0 4 (nI 0) := ⟨_, rfl⟩
    have hI1 : Inv S1 := by rw [eS1]; exact inv_set0 hI (fun h => by omega) (fun h => by omega) (fun h => by omega) (fun h => by omega) (fun _ => ⟨0, by decide, rfl⟩)
    have hH1 : hrv S1 = hrv (T 0) := by rw [eS1]; rfl
    obtain ⟨R, hRe⟩ : ∃ R, R = ckn S1 w (wtg (T 0)) 0 := ⟨_, rfl⟩
    refine l_ifne_1 hx hb 28 dX5_check_19 rfl ?_
    refine lv_aload_n hx hb dX5_check_28 rfl (hl.at rfl) ?_
    refine mg_s hC hK hP dX5_check_29 ?_
    refine lv_aload_n hx hb dX5_check_32 rfl (hl.at rfl) ?_
    refine mg_put hC hK hP dX5_check_33 ?_
    refine m_vS hC hK hP hS (met_carry (i := 0) (j := 2) (by decide) (by decide) (by decide)) cs_X5_226 rfl rfl hl.1 (Nat.le_of_ble_eq_true rfl) dX5_check_36 (by decide) (by decide) (fun σ36 H locs p36 hP hS => ?_)
    refine lv_iconst (v := nI 0) hx hb dX5_check_39 rfl ?_
    refine l_istore_n hx hb 3 dX5_check_40 rfl hl rfl (fun ls hl => ?_)
    refine lv_iconst (v := nI 1) hx hb dX5_check_41 rfl ?_
    refine l_istore hx hb 4 dX5_check_42 hl rfl (fun ls hl => ?_)
    have loop : ∀ (m0 q : Nat) (v : Int32) (τ : Sta), q ≤ wtg (T 0) → 1 ≤ m0 → ((v = 1 ∧ wtg (T 0) + 2 ≤ q + m0 ∧ ckn S1 w (wtg (T 0) - q) q = R ∧ RM (τ 0) (hrN S1 q)) ∨ (v = 0 ∧ R = (q, false))) → Kp [0, 5, 6, 7, 8, 9, 20, 21] σ36 τ → ∀ (H : Heap) (locs : List Loc) (ls : Array Slot), MWP D cA b τ H → va_S (mA b) s.heap H locs → lh ls [some (.ref b), some (.int (nI w)), some (.int (nI (wtg (T 0)))), some (.int (nI q)), some (.int v)] → W p l e (rmG 7 0 0) s m args below meth c H locs 0 0 Q (F0 m 44 ls []) := by
      intro m0
      induction m0 with
      | zero => intro q v τ h1 h2; exact absurd h2 (by omega)
      | succ m0 ih =>
        intro q v τ h1 h2 hv hk H locs ls hP hS hl
        refine lv_iload_n hx hb dX5_check_44 rfl (hl.at rfl) ?_
        refine lv_iload_n hx hb dX5_check_45 rfl (hl.at rfl) ?_
        refine l_geN hx hb 100 dX5_check_46 rfl (by omega) (by omega) (fun c46 => ?_) (fun c46 => ?_)
        · have hx9 : (v = 1 ∧ R.2 = true) ∨ (v = 0 ∧ R = (q, false)) := by (rcases hv with ⟨a1, a2, a3, a4⟩ | a1; (rw [show wtg (T 0) - q = 0 by omega, ckn] at a3; exact Or.inl ⟨a1, by rw [← a3]⟩); exact Or.inr a1)
          refine lv_aload_n hx hb dX5_check_100 rfl (hl.at rfl) ?_
          refine mg_put hC hK hP dX5_check_101 ?_
          refine lv_aload_n hx hb dX5_check_104 rfl (hl.at rfl) ?_
          refine mg_s hC hK hP dX5_check_105 ?_
          refine m_vS hC hK hP hS (met_carry (i := 2) (j := 0) (by decide) (by decide) (by decide)) cs_X5_226 rfl rfl hl.1 (Nat.le_of_ble_eq_true rfl) dX5_check_108 (by decide) (by decide) (fun σ108 H locs p108 hP hS => ?_)
          refine lv_iload hx hb dX5_check_111 (hl.at rfl) ?_
          refine lv_if_eq (tgt := 120) hx hb dX5_check_113 rfl (fun c113 => ?_) (fun c113 => ?_)
          · have hRr : R = (q, false) := by (rcases hx9 with a1 | a1; (rw [a1.1] at c113; exact absurd c113 (by decide)); exact a1.2)
            refine lv_iconst (v := nI 1) hx hb dX5_check_120 rfl ?_
            refine lv_iload_n hx hb dX5_check_121 rfl (hl.at rfl) ?_
            refine l_addN hx hb dX5_check_122 ?_
            refine hret _ _ ls _ _ _ hP hS dX5_check_123 ?_
            first | (rw [op_check, if_neg p16]; exact p24) | (rw [op_check, if_pos p16, cn_nI (by omega), ← eS1, ← hRe, hRr, if_neg (fun z => Bool.false_ne_true z)]; exact ⟨rfl, by rw [eS1]; exact hT.S (h1r.same (fun r hr => by rw [p108.1 r hr, hk 2 (by decide), p36.1 r hr])) (((((Kp.rf.up (by decide)).mono (L := [0]) (by decide)).tr (p36.2.mono (by decide))).tr (hk.mono (by decide))).tr (p108.2.mono (by decide)))⟩) | (rw [op_check, if_pos p16, cn_nI (by omega), ← eS1, ← hRe, if_pos hRr]; exact ⟨rfl, by rw [eS1]; exact hT.S (h1r.same (fun r hr => by rw [p108.1 r hr, hk 2 (by decide), p36.1 r hr])) (((((Kp.rf.up (by decide)).mono (L := [0]) (by decide)).tr (p36.2.mono (by decide))).tr (hk.mono (by decide))).tr (p108.2.mono (by decide)))⟩)
          · have hRr : R.2 = true := by (rcases hx9 with a1 | a1; exact a1.2; exact absurd a1.1 c113)
            refine lv_iconst (v := nI 0) hx hb dX5_check_116 rfl ?_
            refine lv_goto (tgt := 123) hx hb dX5_check_117 rfl ?_
            refine hret _ _ ls _ _ _ hP hS dX5_check_123 ?_
            first | (rw [op_check, if_neg p16]; exact p24) | (rw [op_check, if_pos p16, cn_nI (by omega), ← eS1, ← hRe, hRr, if_neg (fun z => Bool.false_ne_true z)]; exact ⟨rfl, by rw [eS1]; exact hT.S (h1r.same (fun r hr => by rw [p108.1 r hr, hk 2 (by decide), p36.1 r hr])) (((((Kp.rf.up (by decide)).mono (L := [0]) (by decide)).tr (p36.2.mono (by decide))).tr (hk.mono (by decide))).tr (p108.2.mono (by decide)))⟩) | (rw [op_check, if_pos p16, cn_nI (by omega), ← eS1, ← hRe, if_pos hRr]; exact ⟨rfl, by rw [eS1]; exact hT.S (h1r.same (fun r hr => by rw [p108.1 r hr, hk 2 (by decide), p36.1 r hr])) (((((Kp.rf.up (by decide)).mono (L := [0]) (by decide)).tr (p36.2.mono (by decide))).tr (hk.mono (by decide))).tr (p108.2.mono (by decide)))⟩)
        · refine lv_iload hx hb dX5_check_49 (hl.at rfl) ?_
          refine lv_if_eq (tgt := 100) hx hb dX5_check_51 rfl (fun c51 => ?_) (fun c51 => ?_)
          · have hx9 : (v = 1 ∧ R.2 = true) ∨ (v = 0 ∧ R = (q, false)) := by (rcases hv with ⟨a1, _⟩ | a1; (rw [a1] at c51; exact absurd c51 (by decide)); exact Or.inr a1)
            refine lv_aload_n hx hb dX5_check_100 rfl (hl.at rfl) ?_
            refine mg_put hC hK hP dX5_check_101 ?_
            refine lv_aload_n hx hb dX5_check_104 rfl (hl.at rfl) ?_
            refine mg_s hC hK hP dX5_check_105 ?_
            refine m_vS hC hK hP hS (met_carry (i := 2) (j := 0) (by decide) (by decide) (by decide)) cs_X5_226 rfl rfl hl.1 (Nat.le_of_ble_eq_true rfl) dX5_check_108 (by decide) (by decide) (fun σ108 H locs p108 hP hS => ?_)
            refine lv_iload hx hb dX5_check_111 (hl.at rfl) ?_
            refine lv_if_eq (tgt := 120) hx hb dX5_check_113 rfl (fun c113 => ?_) (fun c113 => ?_)
            · have hRr : R = (q, false) := by (rcases hx9 with a1 | a1; (rw [a1.1] at c113; exact absurd c113 (by decide)); exact a1.2)
              refine lv_iconst (v := nI 1) hx hb dX5_check_120 rfl ?_
              refine lv_iload_n hx hb dX5_check_121 rfl (hl.at rfl) ?_
              refine l_addN hx hb dX5_check_122 ?_
              refine hret _ _ ls _ _ _ hP hS dX5_check_123 ?_
              first | (rw [op_check, if_neg p16]; exact p24) | (rw [op_check, if_pos p16, cn_nI (by omega), ← eS1, ← hRe, hRr, if_neg (fun z => Bool.false_ne_true z)]; exact ⟨rfl, by rw [eS1]; exact hT.S (h1r.same (fun r hr => by rw [p108.1 r hr, hk 2 (by decide), p36.1 r hr])) (((((Kp.rf.up (by decide)).mono (L := [0]) (by decide)).tr (p36.2.mono (by decide))).tr (hk.mono (by decide))).tr (p108.2.mono (by decide)))⟩) | (rw [op_check, if_pos p16, cn_nI (by omega), ← eS1, ← hRe, if_pos hRr]; exact ⟨rfl, by rw [eS1]; exact hT.S (h1r.same (fun r hr => by rw [p108.1 r hr, hk 2 (by decide), p36.1 r hr])) (((((Kp.rf.up (by decide)).mono (L := [0]) (by decide)).tr (p36.2.mono (by decide))).tr (hk.mono (by decide))).tr (p108.2.mono (by decide)))⟩)
            · have hRr : R.2 = true := by (rcases hx9 with a1 | a1; exact a1.2; exact absurd a1.1 c113)
              refine lv_iconst (v := nI 0) hx hb dX5_check_116 rfl ?_
              refine lv_goto (tgt := 123) hx hb dX5_check_117 rfl ?_
              refine hret _ _ ls _ _ _ hP hS dX5_check_123 ?_
              first | (rw [op_check, if_neg p16]; exact p24) | (rw [op_check, if_pos p16, cn_nI (by omega), ← eS1, ← hRe, hRr, if_neg (fun z => Bool.false_ne_true z)]; exact ⟨rfl, by rw [eS1]; exact hT.S (h1r.same (fun r hr => by rw [p108.1 r hr, hk 2 (by decide), p36.1 r hr])) (((((Kp.rf.up (by decide)).mono (L := [0]) (by decide)).tr (p36.2.mono (by decide))).tr (hk.mono (by decide))).tr (p108.2.mono (by decide)))⟩) | (rw [op_check, if_pos p16, cn_nI (by omega), ← eS1, ← hRe, if_pos hRr]; exact ⟨rfl, by rw [eS1]; exact hT.S (h1r.same (fun r hr => by rw [p108.1 r hr, hk 2 (by decide), p36.1 r hr])) (((((Kp.rf.up (by decide)).mono (L := [0]) (by decide)).tr (p36.2.mono (by decide))).tr (hk.mono (by decide))).tr (p108.2.mono (by decide)))⟩)
          · have hv2 : wtg (T 0) + 2 ≤ q + (m0 + 1) ∧ ckn S1 w (wtg (T 0) - q) q = R ∧ RM (τ 0) (hrN S1 q) := by (rcases hv with ⟨a1, a2, a3, a4⟩ | a1; exact ⟨a2, a3, a4⟩; exact absurd a1.1 c51)
            obtain ⟨hv2, hv3, hRk⟩ := hv2
            obtain ⟨hIk, -, -⟩ := hrN_inv hI1 q (by omega)
            refine lv_aload_n hx hb dX5_check_54 rfl (hl.at rfl) ?_
            refine m_vV hC hK hP hS (met_hour (S := hrN S1 q) hRk hIk) cv_X5_209 rfl rfl hl.1 (Nat.le_of_ble_eq_true rfl) dX5_check_55 (by decide) (by decide) (fun σ55 H locs p55 hP hS => ?_)
            refine lv_aload_n hx hb dX5_check_58 rfl (hl.at rfl) ?_
            refine mg_s hC hK hP dX5_check_59 ?_
            refine lv_sipush (v := nI 425) hx hb dX5_check_62 rfl ?_
            refine lv_iload_n hx hb dX5_check_65 rfl (hl.at rfl) ?_
            refine l_addN hx hb dX5_check_66 ?_
            refine m_ld 0 _ (by decide) hC hK hP (rfl) (show _ < 449 by omega) dX5_check_67 ?_
            refine l_top (S1 15 q) ((p55.1.at 15 q (by show q < 24; omega) (by show 425 + q = 425 + 1 * q; omega)).trans (congrFun (hrN_row (by decide) (by decide) (by decide) (by decide) (q + 1)) q)) ?_
            refine lv_aload_n hx hb dX5_check_68 rfl (hl.at rfl) ?_
            refine lv_iload_n hx hb dX5_check_69 rfl (hl.at rfl) ?_
            refine lv_iconst (v := nI 5) hx hb dX5_check_70 rfl ?_
            refine m_pV hC hK hP (met_its (S := hrN S1 (q + 1)) (w := w) (q := 5) p55.1 rfl rfl (by omega) (by decide)) cv_X5_90 rfl rfl hl.1 (Nat.le_of_ble_eq_true rfl) dX5_check_71 (by decide) (by decide) (fun r71 p71 => ?_)
            obtain rfl : r71 = hrN S1 (q + 1) 10 w := p71
            refine lv_icmp_ne (tgt := 81) hx hb dX5_check_74 rfl (fun c74 => ?_) (fun c74 => ?_)
            · refine lv_iconst (v := nI 0) hx hb dX5_check_81 rfl ?_
              refine l_istore hx hb 4 dX5_check_82 hl rfl (fun ls hl => ?_)
              refine lv_iload_n hx hb dX5_check_84 rfl (hl.at rfl) ?_
              refine lv_iload hx hb dX5_check_85 (hl.at rfl) ?_
              refine lv_if_eq (tgt := 94) hx hb dX5_check_87 rfl (fun _ => ?_) (fun z => absurd (by decide) z)
              refine lv_iconst (v := nI 0) hx hb dX5_check_94 rfl ?_
              refine l_addN hx hb dX5_check_95 ?_
              refine l_istore_n hx hb 3 dX5_check_96 rfl hl rfl (fun ls hl => ?_)
              refine lv_goto (tgt := 44) hx hb dX5_check_97 rfl ?_
              first | exact ih (q + 1) _ σ55 (by omega) (by omega) (Or.inl ⟨rfl, by omega, by rw [show wtg (T 0) - q = (wtg (T 0) - (q + 1)) + 1 by omega, ckn, if_pos c74] at hv3; exact hv3, p55.1⟩) (hk.tr p55.2.1) _ _ _ hP hS hl | exact ih q _ σ55 (by omega) (by omega) (Or.inr ⟨rfl, by rw [show wtg (T 0) - q = (wtg (T 0) - (q + 1)) + 1 by omega, ckn, if_neg c74] at hv3; exact hv3.symm⟩) (hk.tr p55.2.1) _ _ _ hP hS hl
            · refine lv_iconst (v := nI 1) hx hb dX5_check_77 rfl ?_
              refine lv_goto (tgt := 82) hx hb dX5_check_78 rfl ?_
              refine l_istore hx hb 4 dX5_check_82 hl rfl (fun ls hl => ?_)
              refine lv_iload_n hx hb dX5_check_84 rfl (hl.at rfl) ?_
              refine lv_iload hx hb dX5_check_85 (hl.at rfl) ?_
              refine lv_if_eq (tgt := 94) hx hb dX5_check_87 rfl (fun z => absurd z (by decide)) (fun _ => ?_)
              refine lv_iconst (v := nI 1) hx hb dX5_check_90 rfl ?_
              refine lv_goto (tgt := 95) hx hb dX5_check_91 rfl ?_
              refine l_addN hx hb dX5_check_95 ?_
              refine l_istore_n hx hb 3 dX5_check_96 rfl hl rfl (fun ls hl => ?_)
              refine lv_goto (tgt := 44) hx hb dX5_check_97 rfl ?_
              first | exact ih (q + 1) _ σ55 (by omega) (by omega) (Or.inl ⟨rfl, by omega, by rw [show wtg (T 0) - q = (wtg (T 0) - (q + 1)) + 1 by omega, ckn, if_pos c74] at hv3; exact hv3, p55.1⟩) (hk.tr p55.2.1) _ _ _ hP hS hl | exact ih q _ σ55 (by omega) (by omega) (Or.inr ⟨rfl, by rw [show wtg (T 0) - q = (wtg (T 0) - (q + 1)) + 1 by omega, ckn, if_neg c74] at hv3; exact hv3.symm⟩) (hk.tr p55.2.1) _ _ _ hP hS hl
    exact loop (wtg (T 0) + 2) 0 _ σ36 (Nat.zero_le _) (by omega) (Or.inl ⟨rfl, by omega, hRe.symm, by rw [p36.2 0 (by decide), eS1]; exact h1r⟩) Kp.rf _ _ _ hP hS hl
  · refine l_ifne_0 hx hb 28 dX5_check_19 rfl ?_
    refine lv_aload_n hx hb dX5_check_22 rfl (hl.at rfl) ?_
    refine lv_iconst (v := nI 1) hx hb dX5_check_23 rfl ?_
    refine m_iV hC hK hP hS (met_error (T := tS T (up2 (T 0) 0 4 (nI 0))) (hT.S h1r ((Kp.rf.up (by decide)).mono (L := [0]) (by decide))) rfl (by decide)) cv_X5_76 rfl rfl hl.1 (Nat.le_of_ble_eq_true rfl) dX5_check_24 (by decide) (by decide) (fun r24 σ24 H locs p24 hP hS => ?_)
    refine hret _ _ ls _ _ _ hP hS dX5_check_27 ?_
    first | (rw [op_check, if_neg p16]; exact p24) | (rw [op_check, if_pos p16, cn_nI (by omega), ← eS1, ← hRe, hRr, if_neg (fun z => Bool.false_ne_true z)]; exact ⟨rfl, by rw [eS1]; exact hT.S (h1r.same (fun r hr => by rw [p108.1 r hr, hk 2 (by decide), p36.1 r hr])) (((((Kp.rf.up (by decide)).mono (L := [0]) (by decide)).tr (p36.2.mono (by decide))).tr (hk.mono (by decide))).tr (p108.2.mono (by decide)))⟩) | (rw [op_check, if_pos p16, cn_nI (by omega), ← eS1, ← hRe, if_pos hRr]; exact ⟨rfl, by rw [eS1]; exact hT.S (h1r.same (fun r hr => by rw [p108.1 r hr, hk 2 (by decide), p36.1 r hr])) (((((Kp.rf.up (by decide)).mono (L := [0]) (by decide)).tr (p36.2.mono (by decide))).tr (hk.mono (by decide))).tr (p108.2.mono (by decide)))⟩)
