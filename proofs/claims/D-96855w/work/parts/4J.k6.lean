theorem cX0_both_ {l : Launch} {c0 x y : Int32} {k : Nat} (hk : c0 = nI k) (hs : isSg k) : Cp l (fun _ => True) yX0_both cX0_both 3 (some .int) (0) [.int c0, .int x, .int y] (fun _ => True) (fun v => v = sp_join (nI k) x y) := by
  refine Cp.of rfl (by decide +kernel) (Nat.le_of_ble_eq_true rfl) ?_
  intro p e s m args below meth c Q hC hK hP hret ls hl
  have hx := hC.1
  have hb := hC.2.1
  have hown := hC.2.2.2.1
  have hts := hC.2.2.2.2
  subst hk
  refine lv_iload_n hx hb dX0_both_0 rfl (hl.at rfl) ?_
  simp only [isSg, List.mem_cons, List.not_mem_nil, or_false] at hs
  rcases hs with rfl | rfl | rfl | rfl | rfl | rfl | rfl | rfl | rfl | rfl
  · refine lv_tableOut (tgt := 203) hx hb dX0_both_1 (by decide) rfl ?_
    refine lv_iload_n hx hb dX0_both_203 rfl (hl.at rfl) ?_
    refine lv_if_ne (tgt := 211) hx hb dX0_both_204 rfl (fun c204 => ?_) (fun c204 => ?_)
    · refine lv_iconst (v := nI 1) hx hb dX0_both_211 rfl ?_
      refine lv_goto (tgt := 216) hx hb dX0_both_212 rfl ?_
      refine hret ls _ _ dX0_both_216 ?_
      first | (rfl) | (exact (if_pos (by assumption)).symm) | (exact (jn_d c133).symm) | (exact (jn_r c145).symm) | (exact (if_neg (Int32.not_lt.mpr c158)).symm) | (exact (if_pos (Int32.not_le.mp c158)).symm) | (exact (if_neg c169).symm) | (exact (if_pos c169).symm) | (exact (if_neg (Int32.not_lt.mpr c180)).symm) | (exact (if_pos (Int32.not_le.mp c180)).symm) | (exact (if_pos c190).symm) | (exact ((if_neg c190).trans (if_pos c194)).symm) | (exact ((if_neg c190).trans (if_neg c194)).symm) | (exact (if_neg c204).symm) | (exact ((if_pos c204).trans (if_pos c208)).symm) | (exact ((if_pos c204).trans (if_neg c208)).symm)
    · refine lv_iload_n hx hb dX0_both_207 rfl (hl.at rfl) ?_
      refine lv_if_eq (tgt := 215) hx hb dX0_both_208 rfl (fun c208 => ?_) (fun c208 => ?_)
      · refine lv_iconst (v := nI 0) hx hb dX0_both_215 rfl ?_
        refine hret ls _ _ dX0_both_216 ?_
        first | (rfl) | (exact (if_pos (by assumption)).symm) | (exact (jn_d c133).symm) | (exact (jn_r c145).symm) | (exact (if_neg (Int32.not_lt.mpr c158)).symm) | (exact (if_pos (Int32.not_le.mp c158)).symm) | (exact (if_neg c169).symm) | (exact (if_pos c169).symm) | (exact (if_neg (Int32.not_lt.mpr c180)).symm) | (exact (if_pos (Int32.not_le.mp c180)).symm) | (exact (if_pos c190).symm) | (exact ((if_neg c190).trans (if_pos c194)).symm) | (exact ((if_neg c190).trans (if_neg c194)).symm) | (exact (if_neg c204).symm) | (exact ((if_pos c204).trans (if_pos c208)).symm) | (exact ((if_pos c204).trans (if_neg c208)).symm)
      · refine lv_iconst (v := nI 1) hx hb dX0_both_211 rfl ?_
        refine lv_goto (tgt := 216) hx hb dX0_both_212 rfl ?_
        refine hret ls _ _ dX0_both_216 ?_
        first | (rfl) | (exact (if_pos (by assumption)).symm) | (exact (jn_d c133).symm) | (exact (jn_r c145).symm) | (exact (if_neg (Int32.not_lt.mpr c158)).symm) | (exact (if_pos (Int32.not_le.mp c158)).symm) | (exact (if_neg c169).symm) | (exact (if_pos c169).symm) | (exact (if_neg (Int32.not_lt.mpr c180)).symm) | (exact (if_pos (Int32.not_le.mp c180)).symm) | (exact (if_pos c190).symm) | (exact ((if_neg c190).trans (if_pos c194)).symm) | (exact ((if_neg c190).trans (if_neg c194)).symm) | (exact (if_neg c204).symm) | (exact ((if_pos c204).trans (if_pos c208)).symm) | (exact ((if_pos c204).trans (if_neg c208)).symm)
  · refine lv_tableIn (tgt := 189) hx hb dX0_both_1 (by decide) (by decide) rfl rfl ?_
    refine lv_iload_n hx hb dX0_both_189 rfl (hl.at rfl) ?_
    refine lv_if_eq (tgt := 201) hx hb dX0_both_190 rfl (fun c190 => ?_) (fun c190 => ?_)
    · refine lv_iconst (v := nI 0) hx hb dX0_both_201 rfl ?_
      refine hret ls _ _ dX0_both_202 ?_
      first | (rfl) | (exact (if_pos (by assumption)).symm) | (exact (jn_d c133).symm) | (exact (jn_r c145).symm) | (exact (if_neg (Int32.not_lt.mpr c158)).symm) | (exact (if_pos (Int32.not_le.mp c158)).symm) | (exact (if_neg c169).symm) | (exact (if_pos c169).symm) | (exact (if_neg (Int32.not_lt.mpr c180)).symm) | (exact (if_pos (Int32.not_le.mp c180)).symm) | (exact (if_pos c190).symm) | (exact ((if_neg c190).trans (if_pos c194)).symm) | (exact ((if_neg c190).trans (if_neg c194)).symm) | (exact (if_neg c204).symm) | (exact ((if_pos c204).trans (if_pos c208)).symm) | (exact ((if_pos c204).trans (if_neg c208)).symm)
    · refine lv_iload_n hx hb dX0_both_193 rfl (hl.at rfl) ?_
      refine lv_if_eq (tgt := 201) hx hb dX0_both_194 rfl (fun c194 => ?_) (fun c194 => ?_)
      · refine lv_iconst (v := nI 0) hx hb dX0_both_201 rfl ?_
        refine hret ls _ _ dX0_both_202 ?_
        first | (rfl) | (exact (if_pos (by assumption)).symm) | (exact (jn_d c133).symm) | (exact (jn_r c145).symm) | (exact (if_neg (Int32.not_lt.mpr c158)).symm) | (exact (if_pos (Int32.not_le.mp c158)).symm) | (exact (if_neg c169).symm) | (exact (if_pos c169).symm) | (exact (if_neg (Int32.not_lt.mpr c180)).symm) | (exact (if_pos (Int32.not_le.mp c180)).symm) | (exact (if_pos c190).symm) | (exact ((if_neg c190).trans (if_pos c194)).symm) | (exact ((if_neg c190).trans (if_neg c194)).symm) | (exact (if_neg c204).symm) | (exact ((if_pos c204).trans (if_pos c208)).symm) | (exact ((if_pos c204).trans (if_neg c208)).symm)
      · refine lv_iconst (v := nI 1) hx hb dX0_both_197 rfl ?_
        refine lv_goto (tgt := 202) hx hb dX0_both_198 rfl ?_
        refine hret ls _ _ dX0_both_202 ?_
        first | (rfl) | (exact (if_pos (by assumption)).symm) | (exact (jn_d c133).symm) | (exact (jn_r c145).symm) | (exact (if_neg (Int32.not_lt.mpr c158)).symm) | (exact (if_pos (Int32.not_le.mp c158)).symm) | (exact (if_neg c169).symm) | (exact (if_pos c169).symm) | (exact (if_neg (Int32.not_lt.mpr c180)).symm) | (exact (if_pos (Int32.not_le.mp c180)).symm) | (exact (if_pos c190).symm) | (exact ((if_neg c190).trans (if_pos c194)).symm) | (exact ((if_neg c190).trans (if_neg c194)).symm) | (exact (if_neg c204).symm) | (exact ((if_pos c204).trans (if_pos c208)).symm) | (exact ((if_pos c204).trans (if_neg c208)).symm)
  · refine lv_tableIn (tgt := 156) hx hb dX0_both_1 (by decide) (by decide) rfl rfl ?_
    refine lv_iload_n hx hb dX0_both_156 rfl (hl.at rfl) ?_
    refine lv_iload_n hx hb dX0_both_157 rfl (hl.at rfl) ?_
    refine lv_icmp_ge (tgt := 165) hx hb dX0_both_158 rfl (fun c158 => ?_) (fun c158 => ?_)
    · refine lv_iconst (v := nI 0) hx hb dX0_both_165 rfl ?_
      refine hret ls _ _ dX0_both_166 ?_
      first | (rfl) | (exact (if_pos (by assumption)).symm) | (exact (jn_d c133).symm) | (exact (jn_r c145).symm) | (exact (if_neg (Int32.not_lt.mpr c158)).symm) | (exact (if_pos (Int32.not_le.mp c158)).symm) | (exact (if_neg c169).symm) | (exact (if_pos c169).symm) | (exact (if_neg (Int32.not_lt.mpr c180)).symm) | (exact (if_pos (Int32.not_le.mp c180)).symm) | (exact (if_pos c190).symm) | (exact ((if_neg c190).trans (if_pos c194)).symm) | (exact ((if_neg c190).trans (if_neg c194)).symm) | (exact (if_neg c204).symm) | (exact ((if_pos c204).trans (if_pos c208)).symm) | (exact ((if_pos c204).trans (if_neg c208)).symm)
    · refine lv_iconst (v := nI 1) hx hb dX0_both_161 rfl ?_
      refine lv_goto (tgt := 166) hx hb dX0_both_162 rfl ?_
      refine hret ls _ _ dX0_both_166 ?_
      first | (rfl) | (exact (if_pos (by assumption)).symm) | (exact (jn_d c133).symm) | (exact (jn_r c145).symm) | (exact (if_neg (Int32.not_lt.mpr c158)).symm) | (exact (if_pos (Int32.not_le.mp c158)).symm) | (exact (if_neg c169).symm) | (exact (if_pos c169).symm) | (exact (if_neg (Int32.not_lt.mpr c180)).symm) | (exact (if_pos (Int32.not_le.mp c180)).symm) | (exact (if_pos c190).symm) | (exact ((if_neg c190).trans (if_pos c194)).symm) | (exact ((if_neg c190).trans (if_neg c194)).symm) | (exact (if_neg c204).symm) | (exact ((if_pos c204).trans (if_pos c208)).symm) | (exact ((if_pos c204).trans (if_neg c208)).symm)
  · refine lv_tableIn (tgt := 167) hx hb dX0_both_1 (by decide) (by decide) rfl rfl ?_
    refine lv_iload_n hx hb dX0_both_167 rfl (hl.at rfl) ?_
    refine lv_iload_n hx hb dX0_both_168 rfl (hl.at rfl) ?_
    refine lv_icmp_ne (tgt := 176) hx hb dX0_both_169 rfl (fun c169 => ?_) (fun c169 => ?_)
    · refine lv_iconst (v := nI 0) hx hb dX0_both_176 rfl ?_
      refine hret ls _ _ dX0_both_177 ?_
      first | (rfl) | (exact (if_pos (by assumption)).symm) | (exact (jn_d c133).symm) | (exact (jn_r c145).symm) | (exact (if_neg (Int32.not_lt.mpr c158)).symm) | (exact (if_pos (Int32.not_le.mp c158)).symm) | (exact (if_neg c169).symm) | (exact (if_pos c169).symm) | (exact (if_neg (Int32.not_lt.mpr c180)).symm) | (exact (if_pos (Int32.not_le.mp c180)).symm) | (exact (if_pos c190).symm) | (exact ((if_neg c190).trans (if_pos c194)).symm) | (exact ((if_neg c190).trans (if_neg c194)).symm) | (exact (if_neg c204).symm) | (exact ((if_pos c204).trans (if_pos c208)).symm) | (exact ((if_pos c204).trans (if_neg c208)).symm)
    · refine lv_iconst (v := nI 1) hx hb dX0_both_172 rfl ?_
      refine lv_goto (tgt := 177) hx hb dX0_both_173 rfl ?_
      refine hret ls _ _ dX0_both_177 ?_
      first | (rfl) | (exact (if_pos (by assumption)).symm) | (exact (jn_d c133).symm) | (exact (jn_r c145).symm) | (exact (if_neg (Int32.not_lt.mpr c158)).symm) | (exact (if_pos (Int32.not_le.mp c158)).symm) | (exact (if_neg c169).symm) | (exact (if_pos c169).symm) | (exact (if_neg (Int32.not_lt.mpr c180)).symm) | (exact (if_pos (Int32.not_le.mp c180)).symm) | (exact (if_pos c190).symm) | (exact ((if_neg c190).trans (if_pos c194)).symm) | (exact ((if_neg c190).trans (if_neg c194)).symm) | (exact (if_neg c204).symm) | (exact ((if_pos c204).trans (if_pos c208)).symm) | (exact ((if_pos c204).trans (if_neg c208)).symm)
  · refine lv_tableIn (tgt := 178) hx hb dX0_both_1 (by decide) (by decide) rfl rfl ?_
    refine lv_iload_n hx hb dX0_both_178 rfl (hl.at rfl) ?_
    refine lv_iload_n hx hb dX0_both_179 rfl (hl.at rfl) ?_
    refine lv_icmp_le (tgt := 187) hx hb dX0_both_180 rfl (fun c180 => ?_) (fun c180 => ?_)
    · refine lv_iconst (v := nI 0) hx hb dX0_both_187 rfl ?_
      refine hret ls _ _ dX0_both_188 ?_
      first | (rfl) | (exact (if_pos (by assumption)).symm) | (exact (jn_d c133).symm) | (exact (jn_r c145).symm) | (exact (if_neg (Int32.not_lt.mpr c158)).symm) | (exact (if_pos (Int32.not_le.mp c158)).symm) | (exact (if_neg c169).symm) | (exact (if_pos c169).symm) | (exact (if_neg (Int32.not_lt.mpr c180)).symm) | (exact (if_pos (Int32.not_le.mp c180)).symm) | (exact (if_pos c190).symm) | (exact ((if_neg c190).trans (if_pos c194)).symm) | (exact ((if_neg c190).trans (if_neg c194)).symm) | (exact (if_neg c204).symm) | (exact ((if_pos c204).trans (if_pos c208)).symm) | (exact ((if_pos c204).trans (if_neg c208)).symm)
    · refine lv_iconst (v := nI 1) hx hb dX0_both_183 rfl ?_
      refine lv_goto (tgt := 188) hx hb dX0_both_184 rfl ?_
      refine hret ls _ _ dX0_both_188 ?_
      first | (rfl) | (exact (if_pos (by assumption)).symm) | (exact (jn_d c133).symm) | (exact (jn_r c145).symm) | (exact (if_neg (Int32.not_lt.mpr c158)).symm) | (exact (if_pos (Int32.not_le.mp c158)).symm) | (exact (if_neg c169).symm) | (exact (if_pos c169).symm) | (exact (if_neg (Int32.not_lt.mpr c180)).symm) | (exact (if_pos (Int32.not_le.mp c180)).symm) | (exact (if_pos c190).symm) | (exact ((if_neg c190).trans (if_pos c194)).symm) | (exact ((if_neg c190).trans (if_neg c194)).symm) | (exact (if_neg c204).symm) | (exact ((if_pos c204).trans (if_pos c208)).symm) | (exact ((if_pos c204).trans (if_neg c208)).symm)
  · refine lv_tableIn (tgt := 120) hx hb dX0_both_1 (by decide) (by decide) rfl rfl ?_
    refine lv_iload_n hx hb dX0_both_120 rfl (hl.at rfl) ?_
    refine lv_iload_n hx hb dX0_both_121 rfl (hl.at rfl) ?_
    refine lv_iadd hx hb dX0_both_122 ?_
    refine hret ls _ _ dX0_both_123 ?_
    first | (rfl) | (exact (if_pos (by assumption)).symm) | (exact (jn_d c133).symm) | (exact (jn_r c145).symm) | (exact (if_neg (Int32.not_lt.mpr c158)).symm) | (exact (if_pos (Int32.not_le.mp c158)).symm) | (exact (if_neg c169).symm) | (exact (if_pos c169).symm) | (exact (if_neg (Int32.not_lt.mpr c180)).symm) | (exact (if_pos (Int32.not_le.mp c180)).symm) | (exact (if_pos c190).symm) | (exact ((if_neg c190).trans (if_pos c194)).symm) | (exact ((if_neg c190).trans (if_neg c194)).symm) | (exact (if_neg c204).symm) | (exact ((if_pos c204).trans (if_pos c208)).symm) | (exact ((if_pos c204).trans (if_neg c208)).symm)
  · refine lv_tableIn (tgt := 124) hx hb dX0_both_1 (by decide) (by decide) rfl rfl ?_
    refine lv_iload_n hx hb dX0_both_124 rfl (hl.at rfl) ?_
    refine lv_iload_n hx hb dX0_both_125 rfl (hl.at rfl) ?_
    refine lv_isub hx hb dX0_both_126 ?_
    refine hret ls _ _ dX0_both_127 ?_
    first | (rfl) | (exact (if_pos (by assumption)).symm) | (exact (jn_d c133).symm) | (exact (jn_r c145).symm) | (exact (if_neg (Int32.not_lt.mpr c158)).symm) | (exact (if_pos (Int32.not_le.mp c158)).symm) | (exact (if_neg c169).symm) | (exact (if_pos c169).symm) | (exact (if_neg (Int32.not_lt.mpr c180)).symm) | (exact (if_pos (Int32.not_le.mp c180)).symm) | (exact (if_pos c190).symm) | (exact ((if_neg c190).trans (if_pos c194)).symm) | (exact ((if_neg c190).trans (if_neg c194)).symm) | (exact (if_neg c204).symm) | (exact ((if_pos c204).trans (if_pos c208)).symm) | (exact ((if_pos c204).trans (if_neg c208)).symm)
  · refine lv_tableIn (tgt := 128) hx hb dX0_both_1 (by decide) (by decide) rfl rfl ?_
    refine lv_iload_n hx hb dX0_both_128 rfl (hl.at rfl) ?_
    refine lv_iload_n hx hb dX0_both_129 rfl (hl.at rfl) ?_
    refine lv_imul hx hb dX0_both_130 ?_
    refine hret ls _ _ dX0_both_131 ?_
    first | (rfl) | (exact (if_pos (by assumption)).symm) | (exact (jn_d c133).symm) | (exact (jn_r c145).symm) | (exact (if_neg (Int32.not_lt.mpr c158)).symm) | (exact (if_pos (Int32.not_le.mp c158)).symm) | (exact (if_neg c169).symm) | (exact (if_pos c169).symm) | (exact (if_neg (Int32.not_lt.mpr c180)).symm) | (exact (if_pos (Int32.not_le.mp c180)).symm) | (exact (if_pos c190).symm) | (exact ((if_neg c190).trans (if_pos c194)).symm) | (exact ((if_neg c190).trans (if_neg c194)).symm) | (exact (if_neg c204).symm) | (exact ((if_pos c204).trans (if_pos c208)).symm) | (exact ((if_pos c204).trans (if_neg c208)).symm)
  · refine lv_tableIn (tgt := 132) hx hb dX0_both_1 (by decide) (by decide) rfl rfl ?_
    refine lv_iload_n hx hb dX0_both_132 rfl (hl.at rfl) ?_
    refine lv_if_ne (tgt := 140) hx hb dX0_both_133 rfl (fun c133 => ?_) (fun c133 => ?_)
    · refine lv_iload_n hx hb dX0_both_140 rfl (hl.at rfl) ?_
      refine lv_iload_n hx hb dX0_both_141 rfl (hl.at rfl) ?_
      refine lv_idiv hx hb dX0_both_142 (c133) ?_
      refine hret ls _ _ dX0_both_143 ?_
      first | (rfl) | (exact (if_pos (by assumption)).symm) | (exact (jn_d c133).symm) | (exact (jn_r c145).symm) | (exact (if_neg (Int32.not_lt.mpr c158)).symm) | (exact (if_pos (Int32.not_le.mp c158)).symm) | (exact (if_neg c169).symm) | (exact (if_pos c169).symm) | (exact (if_neg (Int32.not_lt.mpr c180)).symm) | (exact (if_pos (Int32.not_le.mp c180)).symm) | (exact (if_pos c190).symm) | (exact ((if_neg c190).trans (if_pos c194)).symm) | (exact ((if_neg c190).trans (if_neg c194)).symm) | (exact (if_neg c204).symm) | (exact ((if_pos c204).trans (if_pos c208)).symm) | (exact ((if_pos c204).trans (if_neg c208)).symm)
    · refine lv_iconst (v := nI 0) hx hb dX0_both_136 rfl ?_
      refine lv_goto (tgt := 143) hx hb dX0_both_137 rfl ?_
      refine hret ls _ _ dX0_both_143 ?_
      first | (rfl) | (exact (if_pos (by assumption)).symm) | (exact (jn_d c133).symm) | (exact (jn_r c145).symm) | (exact (if_neg (Int32.not_lt.mpr c158)).symm) | (exact (if_pos (Int32.not_le.mp c158)).symm) | (exact (if_neg c169).symm) | (exact (if_pos c169).symm) | (exact (if_neg (Int32.not_lt.mpr c180)).symm) | (exact (if_pos (Int32.not_le.mp c180)).symm) | (exact (if_pos c190).symm) | (exact ((if_neg c190).trans (if_pos c194)).symm) | (exact ((if_neg c190).trans (if_neg c194)).symm) | (exact (if_neg c204).symm) | (exact ((if_pos c204).trans (if_pos c208)).symm) | (exact ((if_pos c204).trans (if_neg c208)).symm)
  · refine lv_tableIn (tgt := 144) hx hb dX0_both_1 (by decide) (by decide) rfl rfl ?_
    refine lv_iload_n hx hb dX0_both_144 rfl (hl.at rfl) ?_
    refine lv_if_ne (tgt := 152) hx hb dX0_both_145 rfl (fun c145 => ?_) (fun c145 => ?_)
    · refine lv_iload_n hx hb dX0_both_152 rfl (hl.at rfl) ?_
      refine lv_iload_n hx hb dX0_both_153 rfl (hl.at rfl) ?_
      refine lv_irem hx hb dX0_both_154 (c145) ?_
      refine hret ls _ _ dX0_both_155 ?_
      first | (rfl) | (exact (if_pos (by assumption)).symm) | (exact (jn_d c133).symm) | (exact (jn_r c145).symm) | (exact (if_neg (Int32.not_lt.mpr c158)).symm) | (exact (if_pos (Int32.not_le.mp c158)).symm) | (exact (if_neg c169).symm) | (exact (if_pos c169).symm) | (exact (if_neg (Int32.not_lt.mpr c180)).symm) | (exact (if_pos (Int32.not_le.mp c180)).symm) | (exact (if_pos c190).symm) | (exact ((if_neg c190).trans (if_pos c194)).symm) | (exact ((if_neg c190).trans (if_neg c194)).symm) | (exact (if_neg c204).symm) | (exact ((if_pos c204).trans (if_pos c208)).symm) | (exact ((if_pos c204).trans (if_neg c208)).symm)
    · refine lv_iconst (v := nI 0) hx hb dX0_both_148 rfl ?_
      refine lv_goto (tgt := 155) hx hb dX0_both_149 rfl ?_
      refine hret ls _ _ dX0_both_155 ?_
      first | (rfl) | (exact (if_pos (by assumption)).symm) | (exact (jn_d c133).symm) | (exact (jn_r c145).symm) | (exact (if_neg (Int32.not_lt.mpr c158)).symm) | (exact (if_pos (Int32.not_le.mp c158)).symm) | (exact (if_neg c169).symm) | (exact (if_pos c169).symm) | (exact (if_neg (Int32.not_lt.mpr c180)).symm) | (exact (if_pos (Int32.not_le.mp c180)).symm) | (exact (if_pos c190).symm) | (exact ((if_neg c190).trans (if_pos c194)).symm) | (exact ((if_neg c190).trans (if_neg c194)).symm) | (exact (if_neg c204).symm) | (exact ((if_pos c204).trans (if_pos c208)).symm) | (exact ((if_pos c204).trans (if_neg c208)).symm)
theorem cs_X0_61 : CS RX0 61 yX0_both cX0_both 3 (some .int) 3 := ⟨lw_S q550 q551 q83 q552, by decide +kernel⟩
theorem cX0_worked_ {l : Launch} {D : va_G} {cA : Nat → ClassId} {ad : Nat → Nat} {n : Nat} {f0 : Nat → va_E} {ρ : Nat → Nat → Option Nat} {r : Nat × Nat} {U : Nat → Nat → Nat → Int32} (hn : 81 ≤ n) {A : Nat → Prop} (hD : gD A ad n) {u w : Nat} {f : Nat → Int32} (nm : Nat → Int32) (hT : TOK u f) (h0 : 0 < f 0) (hTX : TXK cA ad f0 n u f w) (hnm : ∀ c, okc u c → U 3 5 (ixc u c) = nm c) : XI l D cA ad n f0 ρ r U A yX0_worked cX0_worked 5 (some .int) (1) [.ref (ad 0), .ref (ad w)] (fun v V => v = sp_work f nm ∧ Kq [4] U V) := by
  refine Ci.of rfl (by decide +kernel) (Nat.le_of_ble_eq_true rfl) ?_
  intro p e s m args below meth c Q hC hK hP hret ls hl
  have hx := hC.1
  have hb := hC.2.1
  have hown := hC.2.2.2.1
  have hts := hC.2.2.2.2
  have hS : va_S A s.heap s.heap [] := va_S.rf
  obtain ⟨N, hN, eN, hok, hlast⟩ := hT
  have hN0 : 0 < N := by rcases Nat.eq_zero_or_pos N with z | z; (rw [eN, z] at h0; exact absurd h0 (by decide)); exact z
  obtain ⟨a, b, sp, vl, hw, ha, hb0, hw0, hsp, hvl, hsr⟩ := hTX
  rw [eN, cn_nI (by omega)] at hsr
  refine lv_iconst (v := nI 0) hx hb dX0_worked_0 rfl ?_
  refine l_istore_n hx hb 2 dX0_worked_1 rfl hl rfl (fun ls hl => ?_)
  refine lv_iconst (v := nI 0) hx hb dX0_worked_2 rfl ?_
  refine l_istore_n hx hb 3 dX0_worked_3 rfl hl rfl (fun ls hl => ?_)
  have loop : ∀ (i k dd : Nat) (V : Tta), k ≤ N → N + 1 ≤ k + i → dd = dep f k → Kq [4] U V → (∀ j, j < dd → V 3 4 j = evp f nm k j) → ∀ (H : Heap) (locs : List Loc) (ls : Array Slot), XW D cA ad n f0 ρ r V H → va_S A s.heap H locs → lh ls [some (.ref (ad 0)), some (.ref (ad w)), some (.int (nI dd)), some (.int (nI k)), none] → W p l e (rmG 1 0 0) s m args below meth c H locs 0 0 Q (F0 m 4 ls []) := by
    intro i
    induction i with
    | zero => intro k dd V h1 h2; exact absurd h2 (by omega)
    | succ i ih =>
      intro k dd V h1 h2 hdd hk hag H locs ls hP hS hl
      have hdk := dep_le (f := f) k
      refine lv_iload_n hx hb dX0_worked_4 rfl (hl.at rfl) ?_
      refine lv_aload_n hx hb dX0_worked_5 rfl (hl.at rfl) ?_
      refine c_getN hC hK hP w (hw.2) (wo_po hw.1 hw0) rfl in_X14 2 (by decide) q697 rfl rfl dX0_worked_6 ?_
      refine l_top _ eN ?_
      refine l_geN hx hb 139 dX0_worked_9 rfl (by omega) (by omega) (fun c9 => ?_) (fun c9 => ?_)
      · have e5 : k = N := by omega
        have hl1 := hlast hN0
        rw [← e5, ← hdd] at hl1
        refine lv_aload_n hx hb dX0_worked_139 rfl (hl.at rfl) ?_
        refine c_get hC hK hP 0 (by omega) (wo_wb) rfl in_X0 0 (by decide) q250 rfl rfl dX0_worked_140 ?_
        refine lv_iconst (v := nI 0) hx hb dX0_worked_143 rfl ?_
        refine c_ldi hC hK hP 1 (by omega) (wo_1) _ (rfl) (show _ < 60 by omega) (by decide) dX0_worked_144 ?_
        refine hret _ _ ls _ _ _ hP hS dX0_worked_145 ?_
        exact ⟨by rw [hag 0 (by omega), e5, sp_work, eN, cn_nI (by omega)], hk⟩
      · refine lv_aload_n hx hb dX0_worked_12 rfl (hl.at rfl) ?_
        refine c_getN hC hK hP w (hw.2) (wo_po hw.1 hw0) rfl in_X14 0 (by decide) q693 rfl rfl dX0_worked_13 ?_
        refine lv_iload_n hx hb dX0_worked_16 rfl (hl.at rfl) ?_
        refine c_ldb hC hK hP a (ha.2) (wo_po ha.1 hsp) _ (rfl) (show _ < 60 by omega) (by decide) dX0_worked_17 ?_
        rcases hok k (by omega) with ⟨e1, hbd⟩ | ⟨e1, c0, ho, e2⟩ | ⟨e1, hd0⟩ | ⟨e1, hd0, c0, hs0, e2⟩
        · have hst := (hsr k (by omega)).1 e1
          refine l_top _ hst.1 ?_
          refine l_istore hx hb 4 dX0_worked_18 hl rfl (fun ls hl => ?_)
          refine lv_iload hx hb dX0_worked_20 (hl.at rfl) ?_
          refine lv_iconst (v := nI 1) hx hb dX0_worked_22 rfl ?_
          refine lv_icmp_eq (tgt := 32) hx hb dX0_worked_23 rfl (fun _ => ?_) (fun z => absurd (by decide) z)
          refine lv_aload_n hx hb dX0_worked_32 rfl (hl.at rfl) ?_
          refine c_get hC hK hP 0 (by omega) (wo_wb) rfl in_X0 0 (by decide) q250 rfl rfl dX0_worked_33 ?_
          refine lv_iload_n hx hb dX0_worked_36 rfl (hl.at rfl) ?_
          refine lv_iload hx hb dX0_worked_37 (hl.at rfl) ?_
          refine lv_iconst (v := nI 1) hx hb dX0_worked_39 rfl ?_
          refine lv_icmp_ne (tgt := 52) hx hb dX0_worked_40 rfl (fun z => absurd rfl z) (fun _ => ?_)
          refine lv_aload_n hx hb dX0_worked_43 rfl (hl.at rfl) ?_
          refine c_getN hC hK hP w (hw.2) (wo_po hw.1 hw0) rfl in_X14 1 (by decide) q695 rfl rfl dX0_worked_44 ?_
          refine lv_iload_n hx hb dX0_worked_47 rfl (hl.at rfl) ?_
          refine c_lds hC hK hP b (hb0.2) (wo_po hb0.1 hvl) _ (rfl) (show _ < 60 by omega) (by decide) dX0_worked_48 ?_
          refine lv_goto (tgt := 63) hx hb dX0_worked_49 rfl ?_
          refine c_sti hC hK hP hD hS 1 (by omega) (wo_1) _ (rfl) (show _ < 60 by omega) (by decide) (c_wO 1 4 0 60 (by decide) (by decide) hn rfl (fun _ _ => rfl)) dX0_worked_63 (fun H locs hP hS => ?_)
          refine l_inc1 hx hb 2 dX0_worked_64 hl rfl rfl (fun ls hl => ?_)
          refine lv_goto (tgt := 133) hx hb dX0_worked_67 rfl ?_
          refine l_inc1 hx hb 3 dX0_worked_133 hl rfl rfl (fun ls hl => ?_)
          refine lv_goto (tgt := 4) hx hb dX0_worked_136 rfl ?_
          exact ih (k + 1) (dd + 1) _ (by omega) (by omega) (by rw [hdd]; exact (evp_0 (nm := nm) e1).2.symm) (hk.up (by decide)) (by rw [up3_s, up1_s, (evp_0 e1).1, ← hdd, ← hst.2]; exact ag_up hag (Or.inr ⟨rfl, rfl⟩)) _ _ _ hP hS (hl.mask [true, true, true, true, false])
        · have hst := (hsr k (by omega)).2.1 e1
          rw [e2, cn_nI (by have := okc_lt ho; omega)] at hst
          refine l_top _ hst.1 ?_
          refine l_istore hx hb 4 dX0_worked_18 hl rfl (fun ls hl => ?_)
          refine lv_iload hx hb dX0_worked_20 (hl.at rfl) ?_
          refine lv_iconst (v := nI 1) hx hb dX0_worked_22 rfl ?_
          refine lv_icmp_eq (tgt := 32) hx hb dX0_worked_23 rfl (fun z => absurd z (by decide)) (fun _ => ?_)
          refine lv_iload hx hb dX0_worked_26 (hl.at rfl) ?_
          refine lv_iconst (v := nI 2) hx hb dX0_worked_28 rfl ?_
          refine lv_icmp_ne (tgt := 70) hx hb dX0_worked_29 rfl (fun z => absurd rfl z) (fun _ => ?_)
          refine lv_aload_n hx hb dX0_worked_32 rfl (hl.at rfl) ?_
          refine c_get hC hK hP 0 (by omega) (wo_wb) rfl in_X0 0 (by decide) q250 rfl rfl dX0_worked_33 ?_
          refine lv_iload_n hx hb dX0_worked_36 rfl (hl.at rfl) ?_
          refine lv_iload hx hb dX0_worked_37 (hl.at rfl) ?_
          refine lv_iconst (v := nI 1) hx hb dX0_worked_39 rfl ?_
          refine lv_icmp_ne (tgt := 52) hx hb dX0_worked_40 rfl (fun _ => ?_) (fun z => absurd z (by decide))
          refine lv_aload_n hx hb dX0_worked_52 rfl (hl.at rfl) ?_
          refine c_get hC hK hP 0 (by omega) (wo_wb) rfl in_X0 1 (by decide) q252 rfl rfl dX0_worked_53 ?_
          refine lv_aload_n hx hb dX0_worked_56 rfl (hl.at rfl) ?_
          refine c_getN hC hK hP w (hw.2) (wo_po hw.1 hw0) rfl in_X14 1 (by decide) q695 rfl rfl dX0_worked_57 ?_
          refine lv_iload_n hx hb dX0_worked_60 rfl (hl.at rfl) ?_
          refine c_lds hC hK hP b (hb0.2) (wo_po hb0.1 hvl) _ (rfl) (show _ < 60 by omega) (by decide) dX0_worked_61 ?_
          refine l_top _ hst.2 ?_
          refine c_ldi hC hK hP 2 (by omega) (wo_2) _ (rfl) (ixc_lt) (by decide) dX0_worked_62 ?_
          refine c_sti hC hK hP hD hS 1 (by omega) (wo_1) _ (rfl) (show _ < 60 by omega) (by decide) (c_wO 1 4 0 60 (by decide) (by decide) hn rfl (fun _ _ => rfl)) dX0_worked_63 (fun H locs hP hS => ?_)
          refine l_inc1 hx hb 2 dX0_worked_64 hl rfl rfl (fun ls hl => ?_)
          refine lv_goto (tgt := 133) hx hb dX0_worked_67 rfl ?_
          refine l_inc1 hx hb 3 dX0_worked_133 hl rfl rfl (fun ls hl => ?_)
          refine lv_goto (tgt := 4) hx hb dX0_worked_136 rfl ?_
          exact ih (k + 1) (dd + 1) _ (by omega) (by omega) (by rw [hdd]; exact (evp_1 (nm := nm) e1).2.symm) (hk.up (by decide)) (by rw [up3_s, up1_s, (evp_1 e1).1, ← hdd, hk.2 5 (by decide), hnm c0 ho, show f (2 + 2 * k) = nI c0 from e2, cn_nI (by have := okc_lt ho; omega)]; exact ag_up hag (Or.inr ⟨rfl, rfl⟩)) _ _ _ hP hS (hl.mask [true, true, true, true, false])
        · have hst := (hsr k (by omega)).2.2.1 e1
          refine l_top _ hst ?_
          refine l_istore hx hb 4 dX0_worked_18 hl rfl (fun ls hl => ?_)
          refine lv_iload hx hb dX0_worked_20 (hl.at rfl) ?_
          refine lv_iconst (v := nI 1) hx hb dX0_worked_22 rfl ?_
          refine lv_icmp_eq (tgt := 32) hx hb dX0_worked_23 rfl (fun z => absurd z (by decide)) (fun _ => ?_)
          refine lv_iload hx hb dX0_worked_26 (hl.at rfl) ?_
          refine lv_iconst (v := nI 2) hx hb dX0_worked_28 rfl ?_
          refine lv_icmp_ne (tgt := 70) hx hb dX0_worked_29 rfl (fun _ => ?_) (fun z => absurd z (by decide))
          refine lv_iload hx hb dX0_worked_70 (hl.at rfl) ?_
          refine lv_iconst (v := nI 3) hx hb dX0_worked_72 rfl ?_
          refine lv_icmp_ne (tgt := 103) hx hb dX0_worked_73 rfl (fun z => absurd rfl z) (fun _ => ?_)
          refine lv_aload_n hx hb dX0_worked_76 rfl (hl.at rfl) ?_
          refine c_get hC hK hP 0 (by omega) (wo_wb) rfl in_X0 0 (by decide) q250 rfl rfl dX0_worked_77 ?_
          refine lv_iload_n hx hb dX0_worked_80 rfl (hl.at rfl) ?_
          refine lv_iconst (v := nI 1) hx hb dX0_worked_81 rfl ?_
          refine l_subN hx hb dX0_worked_82 (by omega) ?_
          refine lv_aload_n hx hb dX0_worked_83 rfl (hl.at rfl) ?_
          refine c_get hC hK hP 0 (by omega) (wo_wb) rfl in_X0 0 (by decide) q250 rfl rfl dX0_worked_84 ?_
          refine lv_iload_n hx hb dX0_worked_87 rfl (hl.at rfl) ?_
          refine lv_iconst (v := nI 1) hx hb dX0_worked_88 rfl ?_
          refine l_subN hx hb dX0_worked_89 (by omega) ?_
          refine c_ldi hC hK hP 1 (by omega) (wo_1) _ (rfl) (show _ < 60 by omega) (by decide) dX0_worked_90 ?_
          refine lv_if_ne (tgt := 98) hx hb dX0_worked_91 rfl (fun c91 => ?_) (fun c91 => ?_)
          · refine lv_iconst (v := nI 0) hx hb dX0_worked_98 rfl ?_
            refine c_sti hC hK hP hD hS 1 (by omega) (wo_1) _ (rfl) (show _ < 60 by omega) (by decide) (c_wO 1 4 0 60 (by decide) (by decide) hn rfl (fun _ _ => rfl)) dX0_worked_99 (fun H locs hP hS => ?_)
            refine lv_goto (tgt := 133) hx hb dX0_worked_100 rfl ?_
            refine l_inc1 hx hb 3 dX0_worked_133 hl rfl rfl (fun ls hl => ?_)
            refine lv_goto (tgt := 4) hx hb dX0_worked_136 rfl ?_
            first | exact ih (k + 1) dd _ (by omega) (by omega) (by rw [hdd]; exact (evp_2 (nm := nm) e1).2.symm) (hk.up (by decide)) (by rw [up3_s, up1_s, (evp_2 e1).1, ← hdd, if_pos (by rw [← hag (dd - 1) (by omega)]; exact c91)]; exact ag_up hag (Or.inl (Nat.le_refl _))) _ _ _ hP hS (hl.mask [true, true, true, true, false]) | exact ih (k + 1) dd _ (by omega) (by omega) (by rw [hdd]; exact (evp_2 (nm := nm) e1).2.symm) (hk.up (by decide)) (by rw [up3_s, up1_s, (evp_2 e1).1, ← hdd, if_neg (by rw [← hag (dd - 1) (by omega)]; exact c91)]; exact ag_up hag (Or.inl (Nat.le_refl _))) _ _ _ hP hS (hl.mask [true, true, true, true, false])
          · refine lv_iconst (v := nI 1) hx hb dX0_worked_94 rfl ?_
            refine lv_goto (tgt := 99) hx hb dX0_worked_95 rfl ?_
            refine c_sti hC hK hP hD hS 1 (by omega) (wo_1) _ (rfl) (show _ < 60 by omega) (by decide) (c_wO 1 4 0 60 (by decide) (by decide) hn rfl (fun _ _ => rfl)) dX0_worked_99 (fun H locs hP hS => ?_)
            refine lv_goto (tgt := 133) hx hb dX0_worked_100 rfl ?_
            refine l_inc1 hx hb 3 dX0_worked_133 hl rfl rfl (fun ls hl => ?_)
            refine lv_goto (tgt := 4) hx hb dX0_worked_136 rfl ?_
            first | exact ih (k + 1) dd _ (by omega) (by omega) (by rw [hdd]; exact (evp_2 (nm := nm) e1).2.symm) (hk.up (by decide)) (by rw [up3_s, up1_s, (evp_2 e1).1, ← hdd, if_pos (by rw [← hag (dd - 1) (by omega)]; exact c91)]; exact ag_up hag (Or.inl (Nat.le_refl _))) _ _ _ hP hS (hl.mask [true, true, true, true, false]) | exact ih (k + 1) dd _ (by omega) (by omega) (by rw [hdd]; exact (evp_2 (nm := nm) e1).2.symm) (hk.up (by decide)) (by rw [up3_s, up1_s, (evp_2 e1).1, ← hdd, if_neg (by rw [← hag (dd - 1) (by omega)]; exact c91)]; exact ag_up hag (Or.inl (Nat.le_refl _))) _ _ _ hP hS (hl.mask [true, true, true, true, false])
        · have hst := (hsr k (by omega)).2.2.2 e1
          have hc0 := sg_lt hs0
          refine l_top _ (hst.trans e2) ?_
          refine l_istore hx hb 4 dX0_worked_18 hl rfl (fun ls hl => ?_)
          refine lv_iload hx hb dX0_worked_20 (hl.at rfl) ?_
          refine lv_iconst (v := nI 1) hx hb dX0_worked_22 rfl ?_
          refine l_eqN hx hb 32 dX0_worked_23 rfl (by omega) (by omega) (fun c23 => ?_) (fun c23 => ?_)
          · exact absurd c23 (by omega)
          · refine lv_iload hx hb dX0_worked_26 (hl.at rfl) ?_
            refine lv_iconst (v := nI 2) hx hb dX0_worked_28 rfl ?_
            refine l_neN hx hb 70 dX0_worked_29 rfl (by omega) (by omega) (fun c29 => ?_) (fun c29 => ?_)
            · refine lv_iload hx hb dX0_worked_70 (hl.at rfl) ?_
              refine lv_iconst (v := nI 3) hx hb dX0_worked_72 rfl ?_
              refine l_neN hx hb 103 dX0_worked_73 rfl (by omega) (by omega) (fun c73 => ?_) (fun c73 => ?_)
              · refine l_dec1 hx hb 2 dX0_worked_103 hl rfl (by omega) rfl (fun ls hl => ?_)
                refine lv_aload_n hx hb dX0_worked_106 rfl (hl.at rfl) ?_
                refine c_get hC hK hP 0 (by omega) (wo_wb) rfl in_X0 0 (by decide) q250 rfl rfl dX0_worked_107 ?_
                refine lv_iload_n hx hb dX0_worked_110 rfl (hl.at rfl) ?_
                refine lv_iconst (v := nI 1) hx hb dX0_worked_111 rfl ?_
                refine l_subN hx hb dX0_worked_112 (by omega) ?_
                refine lv_iload hx hb dX0_worked_113 (hl.at rfl) ?_
                refine lv_aload_n hx hb dX0_worked_115 rfl (hl.at rfl) ?_
                refine c_get hC hK hP 0 (by omega) (wo_wb) rfl in_X0 0 (by decide) q250 rfl rfl dX0_worked_116 ?_
                refine lv_iload_n hx hb dX0_worked_119 rfl (hl.at rfl) ?_
                refine lv_iconst (v := nI 1) hx hb dX0_worked_120 rfl ?_
                refine l_subN hx hb dX0_worked_121 (by omega) ?_
                refine c_ldi hC hK hP 1 (by omega) (wo_1) _ (rfl) (show _ < 60 by omega) (by decide) dX0_worked_122 ?_
                refine lv_aload_n hx hb dX0_worked_123 rfl (hl.at rfl) ?_
                refine c_get hC hK hP 0 (by omega) (wo_wb) rfl in_X0 0 (by decide) q250 rfl rfl dX0_worked_124 ?_
                refine lv_iload_n hx hb dX0_worked_127 rfl (hl.at rfl) ?_
                refine c_ldi hC hK hP 1 (by omega) (wo_1) _ (rfl) (show _ < 60 by omega) (by decide) dX0_worked_128 ?_
                refine x_sS hC (cX0_both_ rfl hs0) cs_X0_61 rfl rfl hl.1 (Nat.le_of_ble_eq_true rfl) dX0_worked_129 (rk (by decide) (by decide)) ⟨Nat.le_refl _, Nat.le_refl _⟩ (fun r129 p129 => ?_)
                refine c_sti hC hK hP hD hS 1 (by omega) (wo_1) _ (rfl) (show _ < 60 by omega) (by decide) (c_wO 1 4 0 60 (by decide) (by decide) hn rfl (fun _ _ => rfl)) dX0_worked_132 (fun H locs hP hS => ?_)
                refine l_inc1 hx hb 3 dX0_worked_133 hl rfl rfl (fun ls hl => ?_)
                refine lv_goto (tgt := 4) hx hb dX0_worked_136 rfl ?_
                exact ih (k + 1) (dd - 1) _ (by omega) (by omega) (by rw [hdd]; exact (evp_3 (nm := nm) e1).2.symm) (hk.up (by decide)) (by rw [up3_s, up1_s, (evp_3 e1).1, ← hdd, show f (2 + 2 * k) = nI c0 from e2, ← hag (dd - 1) (by omega), ← hag (dd - 2) (by omega), p129]; exact ag_up hag (Or.inl (by omega))) _ _ _ hP hS (hl.mask [true, true, true, true, false])
              · exact absurd c73 (by omega)
            · exact absurd c29 (by omega)
  exact loop (N + 1) 0 0 U (Nat.zero_le _) (by omega) rfl Kq.rf (fun j hj => absurd hj (by omega)) _ _ _ hP hS hl
theorem cvn_X4_46 : CVN RX4 RX0 "WheelBrook" 46 yX0_worked cX0_worked 5 (some .int) 1 := ⟨lw_meth q549, q546, q83, q548, qs7, by decide +kernel⟩
theorem cv_X4_37 : CV RX4 RX1 37 yX1_at cX1_at 2 ((Option.some (Jvm.ClassFile.FieldType.object "WheelBrook$Wheel"))) 1 := ⟨lw_V q545 q451 q452 q84 q453, by decide +kernel⟩
theorem cX4_takes_ {l : Launch} {D : va_G} {cA : Nat → ClassId} {ad : Nat → Nat} {n : Nat} {f0 : Nat → va_E} {ρ : Nat → Nat → Option Nat} {r : Nat × Nat} {U : Nat → Nat → Nat → Int32} (hn : 81 ≤ n) {A : Nat → Prop} (hD : gD A ad n) {x fl : Int32} {k : Nat} (hr : r.1 < 3) (hI : Inv (U r.1)) (hQ : HQ cA ad f0 n ρ (U r.1) r.1) (hk : k < wh (U r.1)) (hx1 : x = nI k) : XI l D cA ad n f0 ρ r U A yX4_takes cX4_takes 3 (some .int) (2) [.ref (ad 77), .int x, .int fl] (fun v V => v = sp_tt (U r.1) k fl ∧ Kq [4, 5] U V) := by
  refine Ci.of rfl (by decide +kernel) (Nat.le_of_ble_eq_true rfl) ?_
  intro p e s m args below meth c Q hC hK hP hret ls hl
  have hx := hC.1
  have hb := hC.2.1
  have hown := hC.2.2.2.1
  have hts := hC.2.2.2.2
  have hS : va_S A s.heap s.heap [] := va_S.rf
  obtain ⟨w, kd, hWK⟩ := hQ.1 k hk
  have hWK2 := hWK
  obtain ⟨w0, w1, w2, w3, w4, w5⟩ := hWK2
  have h8 := (inv_wh hI).2
  have hr3 : r.1 ≠ 3 := by omega
  subst hx1
  rcases hQ.2 0 (by decide) with ⟨t1, t2⟩ | ⟨t1, tw, t2, t3⟩
  · refine lv_aload_n hx hb dX4_takes_0 rfl (hl.at rfl) ?_
    refine c_get hC hK hP 77 (by omega) (wo_ey) rfl in_X4 0 (by decide) q246 rfl rfl dX4_takes_1 ?_
    refine c_getN hC hK hP 0 (by omega) (wo_wb) rfl in_X0 2 (by decide) q253 rfl rfl dX4_takes_4 ?_
    refine c_getN hC hK hP (3 + 22 * r.1) (by omega) (wo_ho hr) rfl in_X1 16 (by decide) q178 rfl rfl dX4_takes_7 ?_
    refine lv_iconst (v := nI 0) hx hb dX4_takes_10 rfl ?_
    refine x_ald hC hK hP (3 + 22 * r.1 + 11) (by omega) 4 (wo_tx hr) rfl 0 (rfl) (by decide) (by decide) dX4_takes_11 ?_
    refine l_topV .null (by rw [t2]; rfl) ?_
    refine lv_ifnonnullN hx hb dX4_takes_12 ?_
    refine lv_iload_n hx hb dX4_takes_15 rfl (hl.at rfl) ?_
    refine lv_iconst (v := nI 2) hx hb dX4_takes_16 rfl ?_
    refine lv_idiv hx hb dX4_takes_17 (nI_ne0 (by decide) (by decide)) ?_
    refine hret _ _ ls _ _ _ hP hS dX4_takes_18 ?_
    first | (exact ⟨by rw [sp_tt, if_neg (by rw [show U r.1 12 0 = 0 from t1]; decide)], Kq.rf⟩) | (exact ⟨by rw [sp_tt, if_pos t1]; exact p111.1, (Kq.rf.up (by decide)).tr (p111.2.mono (by decide))⟩)
  · refine lv_aload_n hx hb dX4_takes_0 rfl (hl.at rfl) ?_
    refine c_get hC hK hP 77 (by omega) (wo_ey) rfl in_X4 0 (by decide) q246 rfl rfl dX4_takes_1 ?_
    refine c_getN hC hK hP 0 (by omega) (wo_wb) rfl in_X0 2 (by decide) q253 rfl rfl dX4_takes_4 ?_
    refine c_getN hC hK hP (3 + 22 * r.1) (by omega) (wo_ho hr) rfl in_X1 16 (by decide) q178 rfl rfl dX4_takes_7 ?_
    refine lv_iconst (v := nI 0) hx hb dX4_takes_10 rfl ?_
    refine x_ald hC hK hP (3 + 22 * r.1 + 11) (by omega) 4 (wo_tx hr) rfl 0 (rfl) (by decide) (by decide) dX4_takes_11 ?_
    refine l_topV (.ref (ad tw)) (by rw [t2]; rfl) ?_
    refine lv_ifnonnull (tgt := 19) hx hb dX4_takes_12 rfl ?_
    refine lv_aload_n hx hb dX4_takes_19 rfl (hl.at rfl) ?_
    refine c_get hC hK hP 77 (by omega) (wo_ey) rfl in_X4 0 (by decide) q246 rfl rfl dX4_takes_20 ?_
    refine c_getN hC hK hP 0 (by omega) (wo_wb) rfl in_X0 1 (by decide) q251 rfl rfl dX4_takes_23 ?_
    refine lv_iconst (v := nI 0) hx hb dX4_takes_26 rfl ?_
    refine lv_iload_n hx hb dX4_takes_27 rfl (hl.at rfl) ?_
    refine c_sti hC hK hP hD hS 2 (by omega) (wo_2) _ (rfl) (show _ < 4 by omega) (by decide) (c_wO 2 5 0 4 (by decide) (by decide) hn rfl (fun _ _ => rfl)) dX4_takes_28 (fun H locs hP hS => ?_)
    refine lv_aload_n hx hb dX4_takes_29 rfl (hl.at rfl) ?_
    refine c_get hC hK hP 77 (by omega) (wo_ey) rfl in_X4 0 (by decide) q246 rfl rfl dX4_takes_30 ?_
    refine c_getN hC hK hP 0 (by omega) (wo_wb) rfl in_X0 1 (by decide) q251 rfl rfl dX4_takes_33 ?_
    refine lv_iconst (v := nI 1) hx hb dX4_takes_36 rfl ?_
    refine lv_aload_n hx hb dX4_takes_37 rfl (hl.at rfl) ?_
    refine c_get hC hK hP 77 (by omega) (wo_ey) rfl in_X4 0 (by decide) q246 rfl rfl dX4_takes_38 ?_
    refine c_getN hC hK hP 0 (by omega) (wo_wb) rfl in_X0 2 (by decide) q253 rfl rfl dX4_takes_41 ?_
    refine c_getN hC hK hP (3 + 22 * r.1) (by omega) (wo_ho hr) rfl in_X1 11 (by decide) q166 rfl rfl dX4_takes_44 ?_
    refine lv_iload_n hx hb dX4_takes_47 rfl (hl.at rfl) ?_
    refine c_ldb hC hK hP (3 + 22 * r.1 + 6) (by omega) (c_ldH r.1 6 7 1 8 hr (by decide) (fun _ _ _ => rfl)) _ (rfl) (show _ < 8 by omega) (by decide) dX4_takes_48 ?_
    refine c_sti hC hK hP hD hS 2 (by omega) (wo_2) _ (rfl) (show _ < 4 by omega) (by decide) (c_wO 2 5 0 4 (by decide) (by decide) hn rfl (fun _ _ => rfl)) dX4_takes_49 (fun H locs hP hS => ?_)
    refine lv_aload_n hx hb dX4_takes_50 rfl (hl.at rfl) ?_
    refine c_get hC hK hP 77 (by omega) (wo_ey) rfl in_X4 0 (by decide) q246 rfl rfl dX4_takes_51 ?_
    refine c_getN hC hK hP 0 (by omega) (wo_wb) rfl in_X0 1 (by decide) q251 rfl rfl dX4_takes_54 ?_
    refine lv_iconst (v := nI 2) hx hb dX4_takes_57 rfl ?_
    refine lv_aload_n hx hb dX4_takes_58 rfl (hl.at rfl) ?_
    refine c_get hC hK hP 77 (by omega) (wo_ey) rfl in_X4 0 (by decide) q246 rfl rfl dX4_takes_59 ?_
    refine c_getN hC hK hP 0 (by omega) (wo_wb) rfl in_X0 2 (by decide) q253 rfl rfl dX4_takes_62 ?_
    refine c_getN hC hK hP (3 + 22 * r.1) (by omega) (wo_ho hr) rfl in_X1 1 (by decide) q145 rfl rfl dX4_takes_65 ?_
    refine lv_bipush (v := nI 24) hx hb dX4_takes_68 rfl ?_
    refine lv_irem hx hb dX4_takes_70 (nI_ne0 (by decide) (by decide)) ?_
    refine c_sti hC hK hP hD hS 2 (by omega) (wo_2) _ (rfl) (show _ < 4 by omega) (by decide) (c_wO 2 5 0 4 (by decide) (by decide) hn rfl (fun _ _ => rfl)) dX4_takes_71 (fun H locs hP hS => ?_)
    refine lv_aload_n hx hb dX4_takes_72 rfl (hl.at rfl) ?_
    refine c_get hC hK hP 77 (by omega) (wo_ey) rfl in_X4 0 (by decide) q246 rfl rfl dX4_takes_73 ?_
    refine c_getN hC hK hP 0 (by omega) (wo_wb) rfl in_X0 1 (by decide) q251 rfl rfl dX4_takes_76 ?_
    refine lv_iconst (v := nI 3) hx hb dX4_takes_79 rfl ?_
    refine lv_aload_n hx hb dX4_takes_80 rfl (hl.at rfl) ?_
    refine c_get hC hK hP 77 (by omega) (wo_ey) rfl in_X4 0 (by decide) q246 rfl rfl dX4_takes_81 ?_
    refine c_getN hC hK hP 0 (by omega) (wo_wb) rfl in_X0 2 (by decide) q253 rfl rfl dX4_takes_84 ?_
    refine lv_iload_n hx hb dX4_takes_87 rfl (hl.at rfl) ?_
    refine x_rV hC hK hP (x_rHO hr hK hP hn) (cX1_at_ hn hr rfl (by omega) hWK) cv_X4_37 rfl rfl hl.1 (Nat.le_of_ble_eq_true rfl) dX4_takes_88 (rk (by decide) (by decide)) ⟨Nat.le_refl _, Nat.le_refl _⟩ (fun a88 p88 => ?_)
    subst p88
    refine x_getm hC hK hP w1 w2 w3 w5 q374 dX4_takes_91 ?_
    refine c_sti hC hK hP hD hS 2 (by omega) (wo_2) _ (rfl) (show _ < 4 by omega) (by decide) (c_wO 2 5 0 4 (by decide) (by decide) hn rfl (fun _ _ => rfl)) dX4_takes_94 (fun H locs hP hS => ?_)
    refine lv_aload_n hx hb dX4_takes_95 rfl (hl.at rfl) ?_
    refine c_get hC hK hP 77 (by omega) (wo_ey) rfl in_X4 0 (by decide) q246 rfl rfl dX4_takes_96 ?_
    refine lv_aload_n hx hb dX4_takes_99 rfl (hl.at rfl) ?_
    refine c_get hC hK hP 77 (by omega) (wo_ey) rfl in_X4 0 (by decide) q246 rfl rfl dX4_takes_100 ?_
    refine c_getN hC hK hP 0 (by omega) (wo_wb) rfl in_X0 2 (by decide) q253 rfl rfl dX4_takes_103 ?_
    refine c_getN hC hK hP (3 + 22 * r.1) (by omega) (wo_ho hr) rfl in_X1 16 (by decide) q178 rfl rfl dX4_takes_106 ?_
    refine lv_iconst (v := nI 0) hx hb dX4_takes_109 rfl ?_
    refine x_ald hC hK hP (3 + 22 * r.1 + 11) (by omega) 4 (wo_tx hr) rfl 0 (rfl) (by decide) (by decide) dX4_takes_110 ?_
    refine l_topV (.ref (ad tw)) (by rw [t2]; rfl) ?_
    simp only [up3_up3, up3_s, up1_s, up3_n hr3] at hP
    refine x_iVN hC hK hP hS (x_rWB hK hP hn) (cX0_worked_ hn hD (u := 0) (f := U r.1 12) (nm0 (U r.1) k fl) hI.2.2.2.2.2.2.1 t1 t3 (fun c0 ho => by rw [up3_s, up1_s]; rcases ho with rfl | ⟨_, rfl | rfl | rfl⟩ | ⟨z, _⟩ <;> first | rfl | exact absurd z (by decide))) cvn_X4_46 rfl rfl hl.1 (Nat.le_of_ble_eq_true rfl) dX4_takes_111 (rk (by decide) (by decide)) ⟨Nat.le_refl _, Nat.le_refl _⟩ (fun r111 U111 H locs p111 hP hS => ?_)
    refine hret _ _ ls _ _ _ hP hS dX4_takes_114 ?_
    first | (exact ⟨by rw [sp_tt, if_neg (by rw [show U r.1 12 0 = 0 from t1]; decide)], Kq.rf⟩) | (exact ⟨by rw [sp_tt, if_pos t1]; exact p111.1, (Kq.rf.up (by decide)).tr (p111.2.mono (by decide))⟩)
theorem cX4_turns_ {l : Launch} {D : va_G} {cA : Nat → ClassId} {ad : Nat → Nat} {n : Nat} {f0 : Nat → va_E} {ρ : Nat → Nat → Option Nat} {r : Nat × Nat} {U : Nat → Nat → Nat → Int32} (hn : 81 ≤ n) {A : Nat → Prop} (hD : gD A ad n) {x fl : Int32} {k : Nat} (hr : r.1 < 3) (hI : Inv (U r.1)) (hQ : HQ cA ad f0 n ρ (U r.1) r.1) (hk : k < wh (U r.1)) (hx1 : x = nI k) : XI l D cA ad n f0 ρ r U A yX4_turns cX4_turns 3 (some .int) (2) [.ref (ad 77), .int x, .int fl] (fun v V => v = sp_ut (U r.1) k fl ∧ Kq [4, 5] U V) := by
  refine Ci.of rfl (by decide +kernel) (Nat.le_of_ble_eq_true rfl) ?_
  intro p e s m args below meth c Q hC hK hP hret ls hl
  have hx := hC.1
  have hb := hC.2.1
  have hown := hC.2.2.2.1
  have hts := hC.2.2.2.2
  have hS : va_S A s.heap s.heap [] := va_S.rf
  obtain ⟨w, kd, hWK⟩ := hQ.1 k hk
  have hWK2 := hWK
  obtain ⟨w0, w1, w2, w3, w4, w5⟩ := hWK2
  have h8 := (inv_wh hI).2
  have hr3 : r.1 ≠ 3 := by omega
  subst hx1
  rcases hQ.2 1 (by decide) with ⟨t1, t2⟩ | ⟨t1, tw, t2, t3⟩
  · refine lv_aload_n hx hb dX4_turns_0 rfl (hl.at rfl) ?_
    refine c_get hC hK hP 77 (by omega) (wo_ey) rfl in_X4 0 (by decide) q246 rfl rfl dX4_turns_1 ?_
    refine c_getN hC hK hP 0 (by omega) (wo_wb) rfl in_X0 2 (by decide) q253 rfl rfl dX4_turns_4 ?_
    refine c_getN hC hK hP (3 + 22 * r.1) (by omega) (wo_ho hr) rfl in_X1 16 (by decide) q178 rfl rfl dX4_turns_7 ?_
    refine lv_iconst (v := nI 1) hx hb dX4_turns_10 rfl ?_
    refine x_ald hC hK hP (3 + 22 * r.1 + 11) (by omega) 4 (wo_tx hr) rfl 1 (rfl) (by decide) (by decide) dX4_turns_11 ?_
    refine l_topV .null (by rw [t2]; rfl) ?_
    refine lv_ifnonnullN hx hb dX4_turns_12 ?_
    refine lv_iload_n hx hb dX4_turns_15 rfl (hl.at rfl) ?_
    refine hret _ _ ls _ _ _ hP hS dX4_turns_16 ?_
    first | (exact ⟨by rw [sp_ut, if_neg (by rw [show U r.1 13 0 = 0 from t1]; decide)], Kq.rf⟩) | (exact ⟨by rw [sp_ut, if_pos t1]; exact p87.1, (Kq.rf.up (by decide)).tr (p87.2.mono (by decide))⟩)
  · refine lv_aload_n hx hb dX4_turns_0 rfl (hl.at rfl) ?_
    refine c_get hC hK hP 77 (by omega) (wo_ey) rfl in_X4 0 (by decide) q246 rfl rfl dX4_turns_1 ?_
    refine c_getN hC hK hP 0 (by omega) (wo_wb) rfl in_X0 2 (by decide) q253 rfl rfl dX4_turns_4 ?_
    refine c_getN hC hK hP (3 + 22 * r.1) (by omega) (wo_ho hr) rfl in_X1 16 (by decide) q178 rfl rfl dX4_turns_7 ?_
    refine lv_iconst (v := nI 1) hx hb dX4_turns_10 rfl ?_
    refine x_ald hC hK hP (3 + 22 * r.1 + 11) (by omega) 4 (wo_tx hr) rfl 1 (rfl) (by decide) (by decide) dX4_turns_11 ?_
    refine l_topV (.ref (ad tw)) (by rw [t2]; rfl) ?_
    refine lv_ifnonnull (tgt := 17) hx hb dX4_turns_12 rfl ?_
    refine lv_aload_n hx hb dX4_turns_17 rfl (hl.at rfl) ?_
    refine c_get hC hK hP 77 (by omega) (wo_ey) rfl in_X4 0 (by decide) q246 rfl rfl dX4_turns_18 ?_
    refine c_getN hC hK hP 0 (by omega) (wo_wb) rfl in_X0 1 (by decide) q251 rfl rfl dX4_turns_21 ?_
    refine lv_iconst (v := nI 0) hx hb dX4_turns_24 rfl ?_
    refine lv_iload_n hx hb dX4_turns_25 rfl (hl.at rfl) ?_
    refine c_sti hC hK hP hD hS 2 (by omega) (wo_2) _ (rfl) (show _ < 4 by omega) (by decide) (c_wO 2 5 0 4 (by decide) (by decide) hn rfl (fun _ _ => rfl)) dX4_turns_26 (fun H locs hP hS => ?_)
    refine lv_aload_n hx hb dX4_turns_27 rfl (hl.at rfl) ?_
    refine c_get hC hK hP 77 (by omega) (wo_ey) rfl in_X4 0 (by decide) q246 rfl rfl dX4_turns_28 ?_
    refine c_getN hC hK hP 0 (by omega) (wo_wb) rfl in_X0 1 (by decide) q251 rfl rfl dX4_turns_31 ?_
    refine lv_iconst (v := nI 1) hx hb dX4_turns_34 rfl ?_
    refine lv_aload_n hx hb dX4_turns_35 rfl (hl.at rfl) ?_
    refine c_get hC hK hP 77 (by omega) (wo_ey) rfl in_X4 0 (by decide) q246 rfl rfl dX4_turns_36 ?_
    refine c_getN hC hK hP 0 (by omega) (wo_wb) rfl in_X0 2 (by decide) q253 rfl rfl dX4_turns_39 ?_
    refine c_getN hC hK hP (3 + 22 * r.1) (by omega) (wo_ho hr) rfl in_X1 14 (by decide) q173 rfl rfl dX4_turns_42 ?_
    refine lv_iload_n hx hb dX4_turns_45 rfl (hl.at rfl) ?_
    refine c_ldi hC hK hP (3 + 22 * r.1 + 9) (by omega) (c_ldH r.1 9 10 0 8 hr (by decide) (fun _ _ _ => rfl)) _ (rfl) (show _ < 8 by omega) (by decide) dX4_turns_46 ?_
    refine c_sti hC hK hP hD hS 2 (by omega) (wo_2) _ (rfl) (show _ < 4 by omega) (by decide) (c_wO 2 5 0 4 (by decide) (by decide) hn rfl (fun _ _ => rfl)) dX4_turns_47 (fun H locs hP hS => ?_)
    refine lv_aload_n hx hb dX4_turns_48 rfl (hl.at rfl) ?_
    refine c_get hC hK hP 77 (by omega) (wo_ey) rfl in_X4 0 (by decide) q246 rfl rfl dX4_turns_49 ?_
    refine c_getN hC hK hP 0 (by omega) (wo_wb) rfl in_X0 1 (by decide) q251 rfl rfl dX4_turns_52 ?_
    refine lv_iconst (v := nI 2) hx hb dX4_turns_55 rfl ?_
    refine lv_aload_n hx hb dX4_turns_56 rfl (hl.at rfl) ?_
    refine c_get hC hK hP 77 (by omega) (wo_ey) rfl in_X4 0 (by decide) q246 rfl rfl dX4_turns_57 ?_
    refine c_getN hC hK hP 0 (by omega) (wo_wb) rfl in_X0 2 (by decide) q253 rfl rfl dX4_turns_60 ?_
    refine lv_iload_n hx hb dX4_turns_63 rfl (hl.at rfl) ?_
    refine x_rV hC hK hP (x_rHO hr hK hP hn) (cX1_at_ hn hr rfl (by omega) hWK) cv_X4_37 rfl rfl hl.1 (Nat.le_of_ble_eq_true rfl) dX4_turns_64 (rk (by decide) (by decide)) ⟨Nat.le_refl _, Nat.le_refl _⟩ (fun a64 p64 => ?_)
    subst p64
    refine x_getm hC hK hP w1 w2 w3 w5 q374 dX4_turns_67 ?_
    refine c_sti hC hK hP hD hS 2 (by omega) (wo_2) _ (rfl) (show _ < 4 by omega) (by decide) (c_wO 2 5 0 4 (by decide) (by decide) hn rfl (fun _ _ => rfl)) dX4_turns_70 (fun H locs hP hS => ?_)
    refine lv_aload_n hx hb dX4_turns_71 rfl (hl.at rfl) ?_
    refine c_get hC hK hP 77 (by omega) (wo_ey) rfl in_X4 0 (by decide) q246 rfl rfl dX4_turns_72 ?_
    refine lv_aload_n hx hb dX4_turns_75 rfl (hl.at rfl) ?_
    refine c_get hC hK hP 77 (by omega) (wo_ey) rfl in_X4 0 (by decide) q246 rfl rfl dX4_turns_76 ?_
    refine c_getN hC hK hP 0 (by omega) (wo_wb) rfl in_X0 2 (by decide) q253 rfl rfl dX4_turns_79 ?_
    refine c_getN hC hK hP (3 + 22 * r.1) (by omega) (wo_ho hr) rfl in_X1 16 (by decide) q178 rfl rfl dX4_turns_82 ?_
    refine lv_iconst (v := nI 1) hx hb dX4_turns_85 rfl ?_
    refine x_ald hC hK hP (3 + 22 * r.1 + 11) (by omega) 4 (wo_tx hr) rfl 1 (rfl) (by decide) (by decide) dX4_turns_86 ?_
    refine l_topV (.ref (ad tw)) (by rw [t2]; rfl) ?_
    simp only [up3_up3, up3_s, up1_s, up3_n hr3] at hP
    refine x_iVN hC hK hP hS (x_rWB hK hP hn) (cX0_worked_ hn hD (u := 1) (f := U r.1 13) (nm1 (U r.1) k fl) hI.2.2.2.2.2.2.2.1 t1 t3 (fun c0 ho => by rw [up3_s, up1_s]; rcases ho with rfl | ⟨z, _⟩ | ⟨_, rfl | rfl⟩ <;> first | rfl | exact absurd z (by decide))) cvn_X4_46 rfl rfl hl.1 (Nat.le_of_ble_eq_true rfl) dX4_turns_87 (rk (by decide) (by decide)) ⟨Nat.le_refl _, Nat.le_refl _⟩ (fun r87 U87 H locs p87 hP hS => ?_)
    refine hret _ _ ls _ _ _ hP hS dX4_turns_90 ?_
    first | (exact ⟨by rw [sp_ut, if_neg (by rw [show U r.1 13 0 = 0 from t1]; decide)], Kq.rf⟩) | (exact ⟨by rw [sp_ut, if_pos t1]; exact p87.1, (Kq.rf.up (by decide)).tr (p87.2.mono (by decide))⟩)
theorem cf_X12_19_X4 : CF RX12 RX4 19 (⟨"WheelBrook$Sees", "takes", "(II)I"⟩ : MethodName) yX4_takes cX4_takes 3 (some .int) 2 := ⟨lw_F q536 q540 q542 q87 q544, ⟨q538, q537, rfl, q543, q541, q539⟩, by decide +kernel⟩
theorem cX12_wants_6 {l : Launch} {D : va_G} {cA : Nat → ClassId} {ad : Nat → Nat} {n : Nat} {f0 : Nat → va_E} {ρ : Nat → Nat → Option Nat} {r : Nat × Nat} {U : Nat → Nat → Nat → Int32} (hn : 81 ≤ n) {A : Nat → Prop} (hD : gD A ad n) {w : Nat} {nu mm : Int32} (hw1 : 81 ≤ w) (hw2 : w < n) (hw : f0 w = .inr (12, [.int nu, .int mm])) {f : Int32} {k : Nat} (hr : r.1 < 3) (hI : Inv (U r.1)) (hQ : HQ cA ad f0 n ρ (U r.1) r.1) (hk : k < wh (U r.1)) (hnu : nu = nI k) : XI l D cA ad n f0 ρ r U A yX12_wants cX12_wants 3 (some .int) (3) [.ref (ad w), .ref (ad 77), .int f] (fun v V => v = sp_tt (U r.1) k f ∧ Kq [4, 5] U V) := by
  refine Ci.of rfl (by decide +kernel) (Nat.le_of_ble_eq_true rfl) ?_
  intro p e s m args below meth c Q hC hK hP hret ls hl
  have hx := hC.1
  have hb := hC.2.1
  have hown := hC.2.2.2.1
  have hts := hC.2.2.2.2
  have hS : va_S A s.heap s.heap [] := va_S.rf
  refine lv_aload_n hx hb dX12_wants_0 rfl (hl.at rfl) ?_
  refine lv_aload_n hx hb dX12_wants_1 rfl (hl.at rfl) ?_
  refine c_getS hC hK hP w (hw2) (wo_po hw1 hw) rfl in_X12 0 (by decide) q369 q370 rfl dX12_wants_2 ?_
  refine lv_iload_n hx hb dX12_wants_5 rfl (hl.at rfl) ?_
  refine x_iF (ci := 4) hC hK hP hS rfl (x_rc hK hP 77 (by omega) wo_ey rfl) (cX4_takes_ hn hD hr hI hQ hk hnu) cf_X12_19_X4 rfl rfl hl.1 (Nat.le_of_ble_eq_true rfl) dX12_wants_6 (rk (by decide) (by decide)) ⟨Nat.le_refl _, Nat.le_refl _⟩ (fun r6 U6 H locs p6 hP hS => ?_)
  refine hret _ _ ls _ _ _ hP hS dX12_wants_11 ?_
  exact p6
theorem cf_X12_25_X4 : CF RX12 RX4 25 (⟨"WheelBrook$Sees", "turns", "(II)I"⟩ : MethodName) yX4_turns cX4_turns 3 (some .int) 2 := ⟨lw_F q601 q604 q606 q87 q608, ⟨q603, q602, rfl, q607, q605, q539⟩, by decide +kernel⟩
theorem cX12_turnsBy_6 {l : Launch} {D : va_G} {cA : Nat → ClassId} {ad : Nat → Nat} {n : Nat} {f0 : Nat → va_E} {ρ : Nat → Nat → Option Nat} {r : Nat × Nat} {U : Nat → Nat → Nat → Int32} (hn : 81 ≤ n) {A : Nat → Prop} (hD : gD A ad n) {w : Nat} {nu mm : Int32} (hw1 : 81 ≤ w) (hw2 : w < n) (hw : f0 w = .inr (12, [.int nu, .int mm])) {f : Int32} {k : Nat} (hr : r.1 < 3) (hI : Inv (U r.1)) (hQ : HQ cA ad f0 n ρ (U r.1) r.1) (hk : k < wh (U r.1)) (hnu : nu = nI k) : XI l D cA ad n f0 ρ r U A yX12_turnsBy cX12_turnsBy 3 (some .int) (3) [.ref (ad w), .ref (ad 77), .int f] (fun v V => v = sp_ut (U r.1) k f ∧ Kq [4, 5] U V) := by
  refine Ci.of rfl (by decide +kernel) (Nat.le_of_ble_eq_true rfl) ?_
  intro p e s m args below meth c Q hC hK hP hret ls hl
  have hx := hC.1
  have hb := hC.2.1
  have hown := hC.2.2.2.1
  have hts := hC.2.2.2.2
  have hS : va_S A s.heap s.heap [] := va_S.rf
  refine lv_aload_n hx hb dX12_turnsBy_0 rfl (hl.at rfl) ?_
  refine lv_aload_n hx hb dX12_turnsBy_1 rfl (hl.at rfl) ?_
  refine c_getS hC hK hP w (hw2) (wo_po hw1 hw) rfl in_X12 0 (by decide) q369 q370 rfl dX12_turnsBy_2 ?_
  refine lv_iload_n hx hb dX12_turnsBy_5 rfl (hl.at rfl) ?_
  refine x_iF (ci := 4) hC hK hP hS rfl (x_rc hK hP 77 (by omega) wo_ey rfl) (cX4_turns_ hn hD hr hI hQ hk hnu) cf_X12_25_X4 rfl rfl hl.1 (Nat.le_of_ble_eq_true rfl) dX12_turnsBy_6 (rk (by decide) (by decide)) ⟨Nat.le_refl _, Nat.le_refl _⟩ (fun r6 U6 H locs p6 hP hS => ?_)
  refine hret _ _ ls _ _ _ hP hS dX12_turnsBy_11 ?_
  exact p6
theorem cf_X16_1_X12 : CF RX16 RX12 1 (⟨RX16, "turnsBy", "(LWheelBrook$Sees;I)I"⟩ : MethodName) yX12_turnsBy cX12_turnsBy 3 (some .int) 2 := ⟨lw_F q623 q595 q597 q95 q599, ⟨q569, q568, rfl, q598, q596, q529⟩, by decide +kernel⟩
theorem cX16_shows_6 {l : Launch} {D : va_G} {cA : Nat → ClassId} {ad : Nat → Nat} {n : Nat} {f0 : Nat → va_E} {ρ : Nat → Nat → Option Nat} {r : Nat × Nat} {U : Nat → Nat → Nat → Int32} (hn : 81 ≤ n) {A : Nat → Prop} (hD : gD A ad n) {w : Nat} {nu mm : Int32} (hw1 : 81 ≤ w) (hw2 : w < n) (hw : f0 w = .inr (12, [.int nu, .int mm])) {f : Int32} {k : Nat} (hr : r.1 < 3) (hI : Inv (U r.1)) (hQ : HQ cA ad f0 n ρ (U r.1) r.1) (hk : k < wh (U r.1)) (hnu : nu = nI k) : XId l D cA ad n f0 ρ r U A yX16_shows cX16_shows 3 (some .int) (4) [.ref (ad w), .ref (ad 77), .int f] (fun v V => v = sp_ut (U r.1) k f ∧ Kq [4, 5] U V) := by
  refine Di.of rfl (by decide +kernel) (Nat.le_of_ble_eq_true rfl) ?_
  intro p e s m args below meth c Q hC hK hP hret ls hl
  have hx := hC.1
  have hb := hC.2.1
  have hown := hC.2.2.2.1
  have hts := hC.2.2.2.2
  have hS : va_S A s.heap s.heap [] := va_S.rf
  refine lv_aload_n hx hb dX16_shows_0 rfl (hl.at rfl) ?_
  refine lv_aload_n hx hb dX16_shows_1 rfl (hl.at rfl) ?_
  refine lv_iload_n hx hb dX16_shows_2 rfl (hl.at rfl) ?_
  refine x_iF (ci := 12) hC hK hP hS rfl (x_rPO hK hP hw1 hw2 hw rfl) (cX12_turnsBy_6 hn hD hw1 hw2 hw hr hI hQ hk hnu) cf_X16_1_X12 rfl rfl hl.1 (Nat.le_of_ble_eq_true rfl) dX16_shows_3 (rk (by decide) (by decide)) ⟨Nat.le_refl _, Nat.le_refl _⟩ (fun r3 U3 H locs p3 hP hS => ?_)
  refine hret _ _ ls _ _ _ hP hS dX16_shows_8 ?_
  exact p3
theorem cdf_X0_139_X6 : CDF RX0 RX6 139 yX16_wants := ⟨q500, q502, q501, q555, q553, rfl, List.mem_of_getElem? (i := 12) rfl⟩
theorem cf_X0_139_X7 : CF RX0 RX7 139 (⟨RX16, "wants", "(LWheelBrook$Sees;I)I"⟩ : MethodName) yX7_wants cX7_wants 3 (some .int) 2 := ⟨lw_F q500 q527 q523 q90 q525, ⟨q502, q501, rfl, q524, q528, q526⟩, by decide +kernel⟩
theorem cf_X0_139_X8 : CF RX0 RX8 139 (⟨RX16, "wants", "(LWheelBrook$Sees;I)I"⟩ : MethodName) yX8_wants cX8_wants 3 (some .int) 2 := ⟨lw_F q500 q515 q517 q91 q519, ⟨q502, q501, rfl, q518, q516, q514⟩, by decide +kernel⟩
theorem cf_X0_139_X9 : CF RX0 RX9 139 (⟨RX16, "wants", "(LWheelBrook$Sees;I)I"⟩ : MethodName) yX9_wants cX9_wants 3 (some .int) 2 := ⟨lw_F q500 q504 q506 q92 q508, ⟨q502, q501, rfl, q507, q505, q503⟩, by decide +kernel⟩
theorem cf_X0_139_X10 : CF RX0 RX10 139 (⟨RX16, "wants", "(LWheelBrook$Sees;I)I"⟩ : MethodName) yX7_wants cX7_wants 3 (some .int) 2 := ⟨lw_F q500 q521 q523 q90 q525, ⟨q502, q501, rfl, q524, q522, q520⟩, by decide +kernel⟩
theorem cf_X0_139_X11 : CF RX0 RX11 139 (⟨RX16, "wants", "(LWheelBrook$Sees;I)I"⟩ : MethodName) yX9_wants cX9_wants 3 (some .int) 2 := ⟨lw_F q500 q512 q506 q92 q508, ⟨q502, q501, rfl, q507, q513, q511⟩, by decide +kernel⟩
theorem cf_X0_139_X12 : CF RX0 RX12 139 (⟨RX16, "wants", "(LWheelBrook$Sees;I)I"⟩ : MethodName) yX12_wants cX12_wants 3 (some .int) 2 := ⟨lw_F q500 q530 q532 q95 q534, ⟨q502, q501, rfl, q533, q531, q529⟩, by decide +kernel⟩
theorem cv_X0_126 : CV RX0 RX1 126 yX1_at cX1_at 2 ((Option.some (Jvm.ClassFile.FieldType.object "WheelBrook$Wheel"))) 1 := ⟨lw_V q450 q451 q452 q84 q453, by decide +kernel⟩
theorem cs_X0_145 : CS RX0 145 yX0_held cX0_held 3 (some .int) 3 := ⟨lw_S q556 q557 q83 q558, by decide +kernel⟩
theorem cX0_wantsOf_ {l : Launch} {D : va_G} {cA : Nat → ClassId} {ad : Nat → Nat} {n : Nat} {f0 : Nat → va_E} {ρ : Nat → Nat → Option Nat} {r : Nat × Nat} {U : Nat → Nat → Nat → Int32} (hn : 81 ≤ n) {A : Nat → Prop} (hD : gD A ad n) {x fl : Int32} {k : Nat} (hr : r.1 < 3) (hI : Inv (U r.1)) (hQ : HQ cA ad f0 n ρ (U r.1) r.1) (hk : k < wh (U r.1)) (hx1 : x = nI k) (hf : Bd fl 99) : XI l D cA ad n f0 ρ r U A yX0_wantsOf cX0_wantsOf 5 (some .int) (5) [.ref (ad 0), .int x, .int fl] (fun v V => v = sp_wants (U r.1) k fl ∧ Kq [4, 5] U V) := by
  refine Ci.of rfl (by decide +kernel) (Nat.le_of_ble_eq_true rfl) ?_
  intro p e s m args below meth c Q hC hK hP hret ls hl
  have hx := hC.1
  have hb := hC.2.1
  have hown := hC.2.2.2.1
  have hts := hC.2.2.2.2
  have hS : va_S A s.heap s.heap [] := va_S.rf
  obtain ⟨w, kd, hWK⟩ := hQ.1 k hk
  have hWK2 := hWK
  obtain ⟨w0, w1, w2, w3, w4, w5⟩ := hWK2
  have h8 := (inv_wh hI).2
  have hr3 : r.1 ≠ 3 := by omega
  subst hx1
  obtain ⟨a, ha9, rfl⟩ := hf
  refine lv_aload_n hx hb dX0_wantsOf_0 rfl (hl.at rfl) ?_
  refine c_get hC hK hP 0 (by omega) (wo_wb) rfl in_X0 2 (by decide) q254 rfl rfl dX0_wantsOf_1 ?_
  refine lv_iload_n hx hb dX0_wantsOf_4 rfl (hl.at rfl) ?_
  refine x_rV hC hK hP (x_rHO hr hK hP hn) (cX1_at_ hn hr rfl (by omega) hWK) cv_X0_126 rfl rfl hl.1 (Nat.le_of_ble_eq_true rfl) dX0_wantsOf_5 (rk (by decide) (by decide)) ⟨Nat.le_refl _, Nat.le_refl _⟩ (fun a5 p5 => ?_)
  subst p5
  refine l_astore_n hx hb 3 dX0_wantsOf_8 rfl hl rfl (fun ls hl => ?_)
  refine lv_aload_n hx hb dX0_wantsOf_9 rfl (hl.at rfl) ?_
  refine c_get hC hK hP 0 (by omega) (wo_wb) rfl in_X0 2 (by decide) q254 rfl rfl dX0_wantsOf_10 ?_
  refine c_getN hC hK hP (3 + 22 * r.1) (by omega) (wo_ho hr) rfl in_X1 13 (by decide) q171 rfl rfl dX0_wantsOf_13 ?_
  refine lv_iload_n hx hb dX0_wantsOf_16 rfl (hl.at rfl) ?_
  refine c_ldb hC hK hP (3 + 22 * r.1 + 8) (by omega) (c_ldH r.1 8 9 1 8 hr (by decide) (fun _ _ _ => rfl)) _ (rfl) (show _ < 8 by omega) (by decide) dX0_wantsOf_17 ?_
  refine lv_if_eq (tgt := 42) hx hb dX0_wantsOf_18 rfl (fun c18 => ?_) (fun c18 => ?_)
  · refine lv_iconst (v := nI 1) hx hb dX0_wantsOf_42 rfl ?_
    refine lv_goto (tgt := 47) hx hb dX0_wantsOf_43 rfl ?_
    refine l_istore hx hb 4 dX0_wantsOf_47 hl rfl (fun ls hl => ?_)
    refine lv_iload hx hb dX0_wantsOf_49 (hl.at rfl) ?_
    refine lv_if_eq (tgt := 58) hx hb dX0_wantsOf_51 rfl (fun z => absurd z (by decide)) (fun _ => ?_)
    refine lv_iconst (v := nI 0) hx hb dX0_wantsOf_54 rfl ?_
    refine lv_goto (tgt := 74) hx hb dX0_wantsOf_55 rfl ?_
    refine hret _ _ ls _ _ _ hP hS dX0_wantsOf_74 ?_
    first | (exact ⟨by rw [sp_wants, if_pos c18], Kq.rf⟩) | (exact ⟨by rw [sp_wants, if_neg c18, if_neg c39], Kq.rf⟩)
  · refine lv_aload_n hx hb dX0_wantsOf_21 rfl (hl.at rfl) ?_
    refine c_get hC hK hP 0 (by omega) (wo_wb) rfl in_X0 2 (by decide) q254 rfl rfl dX0_wantsOf_22 ?_
    refine lv_iload_n hx hb dX0_wantsOf_25 rfl (hl.at rfl) ?_
    refine x_rV hC hK hP (x_rHO hr hK hP hn) (cX1_at_ hn hr rfl (by omega) hWK) cv_X0_126 rfl rfl hl.1 (Nat.le_of_ble_eq_true rfl) dX0_wantsOf_26 (rk (by decide) (by decide)) ⟨Nat.le_refl _, Nat.le_refl _⟩ (fun a26 p26 => ?_)
    subst p26
    refine x_getm hC hK hP w1 w2 w3 w5 q381 dX0_wantsOf_29 ?_
    refine lv_aload_n hx hb dX0_wantsOf_32 rfl (hl.at rfl) ?_
    refine c_get hC hK hP 0 (by omega) (wo_wb) rfl in_X0 2 (by decide) q254 rfl rfl dX0_wantsOf_33 ?_
    refine c_getN hC hK hP (3 + 22 * r.1) (by omega) (wo_ho hr) rfl in_X1 2 (by decide) q148 rfl rfl dX0_wantsOf_36 ?_
    refine lv_icmp_ge (tgt := 46) hx hb dX0_wantsOf_39 rfl (fun c39 => ?_) (fun c39 => ?_)
    · refine lv_iconst (v := nI 0) hx hb dX0_wantsOf_46 rfl ?_
      refine l_istore hx hb 4 dX0_wantsOf_47 hl rfl (fun ls hl => ?_)
      refine lv_iload hx hb dX0_wantsOf_49 (hl.at rfl) ?_
      refine lv_if_eq (tgt := 58) hx hb dX0_wantsOf_51 rfl (fun _ => ?_) (fun z => absurd (by decide) z)
      rcases (by omega : kd = 0 ∨ kd = 1 ∨ kd = 2 ∨ kd = 3 ∨ kd = 4 ∨ kd = 5 ∨ kd = 6) with rfl | rfl | rfl | rfl | rfl | rfl | rfl
      · refine lv_aload_n hx hb dX0_wantsOf_58 rfl (hl.at rfl) ?_
        refine lv_aload_n hx hb dX0_wantsOf_59 rfl (hl.at rfl) ?_
        refine c_get hC hK hP 0 (by omega) (wo_wb) rfl in_X0 8 (by decide) q260 rfl rfl dX0_wantsOf_60 ?_
        refine lv_iload_n hx hb dX0_wantsOf_63 rfl (hl.at rfl) ?_
        refine x_pFD (ci := 6) hC hK hP rfl (x_rPO hK hP w1 w2 w5 rfl) (cX16_wants_0 hn w1 w2 w5) cd_X16_wants cdf_X0_139_X6 rfl rfl hl.1 (Nat.le_of_ble_eq_true rfl) dX0_wantsOf_64 (rk (by decide) (by decide)) ⟨Nat.le_refl _, Nat.le_refl _⟩ (fun r64 p64 => ?_)
        refine lv_iconst (v := nI 0) hx hb dX0_wantsOf_69 rfl ?_
        refine lv_iload_n hx hb dX0_wantsOf_70 rfl (hl.at rfl) ?_
        refine x_sS hC (cX0_held_ (h := nI_le (Nat.zero_le _) (by omega))) cs_X0_145 rfl rfl hl.1 (Nat.le_of_ble_eq_true rfl) dX0_wantsOf_71 (rk (by decide) (by decide)) ⟨Nat.le_refl _, Nat.le_refl _⟩ (fun r71 p71 => ?_)
        refine hret _ _ ls _ _ _ hP hS dX0_wantsOf_74 ?_
        rw [p71, p64, sp_wants, if_neg c18, if_pos c39, want0_0 w4]
        exact ⟨rfl, Kq.rf⟩
      · refine lv_aload_n hx hb dX0_wantsOf_58 rfl (hl.at rfl) ?_
        refine lv_aload_n hx hb dX0_wantsOf_59 rfl (hl.at rfl) ?_
        refine c_get hC hK hP 0 (by omega) (wo_wb) rfl in_X0 8 (by decide) q260 rfl rfl dX0_wantsOf_60 ?_
        refine lv_iload_n hx hb dX0_wantsOf_63 rfl (hl.at rfl) ?_
        refine x_pF (ci := 7) hC hK hP rfl (x_rPO hK hP w1 w2 w5 rfl) (cX7_wants_1 hn w1 w2 w5) cf_X0_139_X7 rfl rfl hl.1 (Nat.le_of_ble_eq_true rfl) dX0_wantsOf_64 (rk (by decide) (by decide)) ⟨Nat.le_refl _, Nat.le_refl _⟩ (fun r64 p64 => ?_)
        refine lv_iconst (v := nI 0) hx hb dX0_wantsOf_69 rfl ?_
        refine lv_iload_n hx hb dX0_wantsOf_70 rfl (hl.at rfl) ?_
        refine x_sS hC (cX0_held_ (h := nI_le (Nat.zero_le _) (by omega))) cs_X0_145 rfl rfl hl.1 (Nat.le_of_ble_eq_true rfl) dX0_wantsOf_71 (rk (by decide) (by decide)) ⟨Nat.le_refl _, Nat.le_refl _⟩ (fun r71 p71 => ?_)
        refine hret _ _ ls _ _ _ hP hS dX0_wantsOf_74 ?_
        rw [p71, p64, sp_wants, if_neg c18, if_pos c39, want0_1 w4]
        exact ⟨rfl, Kq.rf⟩
      · refine lv_aload_n hx hb dX0_wantsOf_58 rfl (hl.at rfl) ?_
        refine lv_aload_n hx hb dX0_wantsOf_59 rfl (hl.at rfl) ?_
        refine c_get hC hK hP 0 (by omega) (wo_wb) rfl in_X0 8 (by decide) q260 rfl rfl dX0_wantsOf_60 ?_
        refine lv_iload_n hx hb dX0_wantsOf_63 rfl (hl.at rfl) ?_
        refine x_pF (ci := 8) hC hK hP rfl (x_rPO hK hP w1 w2 w5 rfl) (cX8_wants_2 hn w1 w2 w5) cf_X0_139_X8 rfl rfl hl.1 (Nat.le_of_ble_eq_true rfl) dX0_wantsOf_64 (rk (by decide) (by decide)) ⟨Nat.le_refl _, Nat.le_refl _⟩ (fun r64 p64 => ?_)
        refine lv_iconst (v := nI 0) hx hb dX0_wantsOf_69 rfl ?_
        refine lv_iload_n hx hb dX0_wantsOf_70 rfl (hl.at rfl) ?_
        refine x_sS hC (cX0_held_ (h := nI_le (Nat.zero_le _) (by omega))) cs_X0_145 rfl rfl hl.1 (Nat.le_of_ble_eq_true rfl) dX0_wantsOf_71 (rk (by decide) (by decide)) ⟨Nat.le_refl _, Nat.le_refl _⟩ (fun r71 p71 => ?_)
        refine hret _ _ ls _ _ _ hP hS dX0_wantsOf_74 ?_
        rw [p71, p64, sp_wants, if_neg c18, if_pos c39, want0_2 w4]
        exact ⟨rfl, Kq.rf⟩
      · refine lv_aload_n hx hb dX0_wantsOf_58 rfl (hl.at rfl) ?_
        refine lv_aload_n hx hb dX0_wantsOf_59 rfl (hl.at rfl) ?_
        refine c_get hC hK hP 0 (by omega) (wo_wb) rfl in_X0 8 (by decide) q260 rfl rfl dX0_wantsOf_60 ?_
        refine lv_iload_n hx hb dX0_wantsOf_63 rfl (hl.at rfl) ?_
        refine x_pF (ci := 9) hC hK hP rfl (x_rPO hK hP w1 w2 w5 rfl) (cX9_wants_3 hn w1 w2 w5) cf_X0_139_X9 rfl rfl hl.1 (Nat.le_of_ble_eq_true rfl) dX0_wantsOf_64 (rk (by decide) (by decide)) ⟨Nat.le_refl _, Nat.le_refl _⟩ (fun r64 p64 => ?_)
        refine lv_iconst (v := nI 0) hx hb dX0_wantsOf_69 rfl ?_
        refine lv_iload_n hx hb dX0_wantsOf_70 rfl (hl.at rfl) ?_
        refine x_sS hC (cX0_held_ (h := nI_le (Nat.zero_le _) (by omega))) cs_X0_145 rfl rfl hl.1 (Nat.le_of_ble_eq_true rfl) dX0_wantsOf_71 (rk (by decide) (by decide)) ⟨Nat.le_refl _, Nat.le_refl _⟩ (fun r71 p71 => ?_)
        refine hret _ _ ls _ _ _ hP hS dX0_wantsOf_74 ?_
        rw [p71, p64, sp_wants, if_neg c18, if_pos c39, want0_3 w4]
        rw [Int32.mul_comm]; exact ⟨rfl, Kq.rf⟩
      · refine lv_aload_n hx hb dX0_wantsOf_58 rfl (hl.at rfl) ?_
        refine lv_aload_n hx hb dX0_wantsOf_59 rfl (hl.at rfl) ?_
        refine c_get hC hK hP 0 (by omega) (wo_wb) rfl in_X0 8 (by decide) q260 rfl rfl dX0_wantsOf_60 ?_
        refine lv_iload_n hx hb dX0_wantsOf_63 rfl (hl.at rfl) ?_
        refine x_pF (ci := 10) hC hK hP rfl (x_rPO hK hP w1 w2 w5 rfl) (cX7_wants_4 hn w1 w2 w5) cf_X0_139_X10 rfl rfl hl.1 (Nat.le_of_ble_eq_true rfl) dX0_wantsOf_64 (rk (by decide) (by decide)) ⟨Nat.le_refl _, Nat.le_refl _⟩ (fun r64 p64 => ?_)
        refine lv_iconst (v := nI 0) hx hb dX0_wantsOf_69 rfl ?_
        refine lv_iload_n hx hb dX0_wantsOf_70 rfl (hl.at rfl) ?_
        refine x_sS hC (cX0_held_ (h := nI_le (Nat.zero_le _) (by omega))) cs_X0_145 rfl rfl hl.1 (Nat.le_of_ble_eq_true rfl) dX0_wantsOf_71 (rk (by decide) (by decide)) ⟨Nat.le_refl _, Nat.le_refl _⟩ (fun r71 p71 => ?_)
        refine hret _ _ ls _ _ _ hP hS dX0_wantsOf_74 ?_
        rw [p71, p64, sp_wants, if_neg c18, if_pos c39, want0_4 w4]
        exact ⟨rfl, Kq.rf⟩
      · refine lv_aload_n hx hb dX0_wantsOf_58 rfl (hl.at rfl) ?_
        refine lv_aload_n hx hb dX0_wantsOf_59 rfl (hl.at rfl) ?_
        refine c_get hC hK hP 0 (by omega) (wo_wb) rfl in_X0 8 (by decide) q260 rfl rfl dX0_wantsOf_60 ?_
        refine lv_iload_n hx hb dX0_wantsOf_63 rfl (hl.at rfl) ?_
        refine x_pF (ci := 11) hC hK hP rfl (x_rPO hK hP w1 w2 w5 rfl) (cX9_wants_5 hn w1 w2 w5) cf_X0_139_X11 rfl rfl hl.1 (Nat.le_of_ble_eq_true rfl) dX0_wantsOf_64 (rk (by decide) (by decide)) ⟨Nat.le_refl _, Nat.le_refl _⟩ (fun r64 p64 => ?_)
        refine lv_iconst (v := nI 0) hx hb dX0_wantsOf_69 rfl ?_
        refine lv_iload_n hx hb dX0_wantsOf_70 rfl (hl.at rfl) ?_
        refine x_sS hC (cX0_held_ (h := nI_le (Nat.zero_le _) (by omega))) cs_X0_145 rfl rfl hl.1 (Nat.le_of_ble_eq_true rfl) dX0_wantsOf_71 (rk (by decide) (by decide)) ⟨Nat.le_refl _, Nat.le_refl _⟩ (fun r71 p71 => ?_)
        refine hret _ _ ls _ _ _ hP hS dX0_wantsOf_74 ?_
        rw [p71, p64, sp_wants, if_neg c18, if_pos c39, want0_5 w4]
        rw [Int32.mul_comm]; exact ⟨rfl, Kq.rf⟩
      · refine lv_aload_n hx hb dX0_wantsOf_58 rfl (hl.at rfl) ?_
        refine lv_aload_n hx hb dX0_wantsOf_59 rfl (hl.at rfl) ?_
        refine c_get hC hK hP 0 (by omega) (wo_wb) rfl in_X0 8 (by decide) q260 rfl rfl dX0_wantsOf_60 ?_
        refine lv_iload_n hx hb dX0_wantsOf_63 rfl (hl.at rfl) ?_
        refine x_iF (ci := 12) hC hK hP hS rfl (x_rPO hK hP w1 w2 w5 rfl) (cX12_wants_6 hn hD w1 w2 w5 hr hI hQ hk rfl) cf_X0_139_X12 rfl rfl hl.1 (Nat.le_of_ble_eq_true rfl) dX0_wantsOf_64 (rk (by decide) (by decide)) ⟨Nat.le_refl _, Nat.le_refl _⟩ (fun r64 U64 H locs p64 hP hS => ?_)
        refine lv_iconst (v := nI 0) hx hb dX0_wantsOf_69 rfl ?_
        refine lv_iload_n hx hb dX0_wantsOf_70 rfl (hl.at rfl) ?_
        refine x_sS hC (cX0_held_ (h := nI_le (Nat.zero_le _) (by omega))) cs_X0_145 rfl rfl hl.1 (Nat.le_of_ble_eq_true rfl) dX0_wantsOf_71 (rk (by decide) (by decide)) ⟨Nat.le_refl _, Nat.le_refl _⟩ (fun r71 p71 => ?_)
        refine hret _ _ ls _ _ _ hP hS dX0_wantsOf_74 ?_
        rw [p71, p64.1, sp_wants, if_neg c18, if_pos c39, want0_6 w4]
        exact ⟨rfl, p64.2⟩
    · refine lv_iconst (v := nI 1) hx hb dX0_wantsOf_42 rfl ?_
      refine lv_goto (tgt := 47) hx hb dX0_wantsOf_43 rfl ?_
      refine l_istore hx hb 4 dX0_wantsOf_47 hl rfl (fun ls hl => ?_)
      refine lv_iload hx hb dX0_wantsOf_49 (hl.at rfl) ?_
      refine lv_if_eq (tgt := 58) hx hb dX0_wantsOf_51 rfl (fun z => absurd z (by decide)) (fun _ => ?_)
      refine lv_iconst (v := nI 0) hx hb dX0_wantsOf_54 rfl ?_
      refine lv_goto (tgt := 74) hx hb dX0_wantsOf_55 rfl ?_
      refine hret _ _ ls _ _ _ hP hS dX0_wantsOf_74 ?_
      first | (exact ⟨by rw [sp_wants, if_pos c18], Kq.rf⟩) | (exact ⟨by rw [sp_wants, if_neg c18, if_neg c39], Kq.rf⟩)
theorem cdf_X0_148_X6 : CDF RX0 RX6 148 yX16_turnsBy := ⟨q567, q569, q568, q583, q553, rfl, List.mem_of_getElem? (i := 11) rfl⟩
theorem cf_X0_148_X7 : CF RX0 RX7 148 (⟨RX16, "turnsBy", "(LWheelBrook$Sees;I)I"⟩ : MethodName) yX7_turnsBy cX7_turnsBy 3 (some .int) 2 := ⟨lw_F q567 q592 q590 q90 q591, ⟨q569, q568, rfl, q594, q593, q526⟩, by decide +kernel⟩
theorem cdf_X0_148_X8 : CDF RX0 RX8 148 yX16_turnsBy := ⟨q567, q569, q568, q583, q514, rfl, List.mem_of_getElem? (i := 3) rfl⟩
theorem cf_X0_148_X9 : CF RX0 RX9 148 (⟨RX16, "turnsBy", "(LWheelBrook$Sees;I)I"⟩ : MethodName) yX9_turnsBy cX9_turnsBy 3 (some .int) 2 := ⟨lw_F q567 q570 q572 q92 q574, ⟨q569, q568, rfl, q573, q571, q503⟩, by decide +kernel⟩
theorem cf_X0_148_X10 : CF RX0 RX10 148 (⟨RX16, "turnsBy", "(LWheelBrook$Sees;I)I"⟩ : MethodName) yX10_turnsBy cX10_turnsBy 4 (some .int) 2 := ⟨lw_F q567 q584 q586 q93 q588, ⟨q569, q568, rfl, q587, q585, q520⟩, by decide +kernel⟩
theorem cf_X0_148_X11 : CF RX0 RX11 148 (⟨RX16, "turnsBy", "(LWheelBrook$Sees;I)I"⟩ : MethodName) yX11_turnsBy cX11_turnsBy 3 (some .int) 2 := ⟨lw_F q567 q577 q579 q94 q581, ⟨q569, q568, rfl, q580, q578, q511⟩, by decide +kernel⟩
theorem cf_X0_148_X12 : CF RX0 RX12 148 (⟨RX16, "turnsBy", "(LWheelBrook$Sees;I)I"⟩ : MethodName) yX12_turnsBy cX12_turnsBy 3 (some .int) 2 := ⟨lw_F q567 q595 q597 q95 q599, ⟨q569, q568, rfl, q598, q596, q529⟩, by decide +kernel⟩
theorem cX0_turnsOf_ {l : Launch} {D : va_G} {cA : Nat → ClassId} {ad : Nat → Nat} {n : Nat} {f0 : Nat → va_E} {ρ : Nat → Nat → Option Nat} {r : Nat × Nat} {U : Nat → Nat → Nat → Int32} (hn : 81 ≤ n) {A : Nat → Prop} (hD : gD A ad n) {x fl : Int32} {k : Nat} (hr : r.1 < 3) (hI : Inv (U r.1)) (hQ : HQ cA ad f0 n ρ (U r.1) r.1) (hk : k < wh (U r.1)) (hx1 : x = nI k) (hf : Bd fl 99) : XI l D cA ad n f0 ρ r U A yX0_turnsOf cX0_turnsOf 4 (some .int) (5) [.ref (ad 0), .int x, .int fl] (fun v V => v = sp_turns (U r.1) k fl ∧ Kq [4, 5] U V) := by
  refine Ci.of rfl (by decide +kernel) (Nat.le_of_ble_eq_true rfl) ?_
  intro p e s m args below meth c Q hC hK hP hret ls hl
  have hx := hC.1
  have hb := hC.2.1
  have hown := hC.2.2.2.1
  have hts := hC.2.2.2.2
  have hS : va_S A s.heap s.heap [] := va_S.rf
  obtain ⟨w, kd, hWK⟩ := hQ.1 k hk
  have hWK2 := hWK
  obtain ⟨w0, w1, w2, w3, w4, w5⟩ := hWK2
  have h8 := (inv_wh hI).2
  have hr3 : r.1 ≠ 3 := by omega
  subst hx1
  obtain ⟨a, ha9, rfl⟩ := hf
  refine lv_aload_n hx hb dX0_turnsOf_0 rfl (hl.at rfl) ?_
  refine c_get hC hK hP 0 (by omega) (wo_wb) rfl in_X0 2 (by decide) q254 rfl rfl dX0_turnsOf_1 ?_
  refine lv_iload_n hx hb dX0_turnsOf_4 rfl (hl.at rfl) ?_
  refine x_rV hC hK hP (x_rHO hr hK hP hn) (cX1_at_ hn hr rfl (by omega) hWK) cv_X0_126 rfl rfl hl.1 (Nat.le_of_ble_eq_true rfl) dX0_turnsOf_5 (rk (by decide) (by decide)) ⟨Nat.le_refl _, Nat.le_refl _⟩ (fun a5 p5 => ?_)
  subst p5
  refine l_astore_n hx hb 3 dX0_turnsOf_8 rfl hl rfl (fun ls hl => ?_)
  rcases (by omega : kd = 0 ∨ kd = 1 ∨ kd = 2 ∨ kd = 3 ∨ kd = 4 ∨ kd = 5 ∨ kd = 6) with rfl | rfl | rfl | rfl | rfl | rfl | rfl
  · refine lv_aload_n hx hb dX0_turnsOf_9 rfl (hl.at rfl) ?_
    refine lv_aload_n hx hb dX0_turnsOf_10 rfl (hl.at rfl) ?_
    refine c_get hC hK hP 0 (by omega) (wo_wb) rfl in_X0 8 (by decide) q260 rfl rfl dX0_turnsOf_11 ?_
    refine lv_iload_n hx hb dX0_turnsOf_14 rfl (hl.at rfl) ?_
    refine x_pFD (ci := 6) hC hK hP rfl (x_rPO hK hP w1 w2 w5 rfl) (cX16_turnsBy_0 hn w1 w2 w5) cd_X16_turnsBy cdf_X0_148_X6 rfl rfl hl.1 (Nat.le_of_ble_eq_true rfl) dX0_turnsOf_15 (rk (by decide) (by decide)) ⟨Nat.le_refl _, Nat.le_refl _⟩ (fun r15 p15 => ?_)
    refine lv_iconst (v := nI 0) hx hb dX0_turnsOf_20 rfl ?_
    refine lv_sipush (v := nI 9999) hx hb dX0_turnsOf_21 rfl ?_
    refine x_sS hC (cX0_held_ (h := by decide)) cs_X0_145 rfl rfl hl.1 (Nat.le_of_ble_eq_true rfl) dX0_turnsOf_24 (rk (by decide) (by decide)) ⟨Nat.le_refl _, Nat.le_refl _⟩ (fun r24 p24 => ?_)
    refine hret _ _ ls _ _ _ hP hS dX0_turnsOf_27 ?_
    rw [p24, p15, sp_turns, turn0_0 w4]
    exact ⟨rfl, Kq.rf⟩
  · refine lv_aload_n hx hb dX0_turnsOf_9 rfl (hl.at rfl) ?_
    refine lv_aload_n hx hb dX0_turnsOf_10 rfl (hl.at rfl) ?_
    refine c_get hC hK hP 0 (by omega) (wo_wb) rfl in_X0 8 (by decide) q260 rfl rfl dX0_turnsOf_11 ?_
    refine lv_iload_n hx hb dX0_turnsOf_14 rfl (hl.at rfl) ?_
    refine x_pF (ci := 7) hC hK hP rfl (x_rPO hK hP w1 w2 w5 rfl) (cX7_turnsBy_1 hn w1 w2 w5) cf_X0_148_X7 rfl rfl hl.1 (Nat.le_of_ble_eq_true rfl) dX0_turnsOf_15 (rk (by decide) (by decide)) ⟨Nat.le_refl _, Nat.le_refl _⟩ (fun r15 p15 => ?_)
    refine lv_iconst (v := nI 0) hx hb dX0_turnsOf_20 rfl ?_
    refine lv_sipush (v := nI 9999) hx hb dX0_turnsOf_21 rfl ?_
    refine x_sS hC (cX0_held_ (h := by decide)) cs_X0_145 rfl rfl hl.1 (Nat.le_of_ble_eq_true rfl) dX0_turnsOf_24 (rk (by decide) (by decide)) ⟨Nat.le_refl _, Nat.le_refl _⟩ (fun r24 p24 => ?_)
    refine hret _ _ ls _ _ _ hP hS dX0_turnsOf_27 ?_
    rw [p24, p15, sp_turns, turn0_1 w4]
    exact ⟨rfl, Kq.rf⟩
  · refine lv_aload_n hx hb dX0_turnsOf_9 rfl (hl.at rfl) ?_
    refine lv_aload_n hx hb dX0_turnsOf_10 rfl (hl.at rfl) ?_
    refine c_get hC hK hP 0 (by omega) (wo_wb) rfl in_X0 8 (by decide) q260 rfl rfl dX0_turnsOf_11 ?_
    refine lv_iload_n hx hb dX0_turnsOf_14 rfl (hl.at rfl) ?_
    refine x_pFD (ci := 8) hC hK hP rfl (x_rPO hK hP w1 w2 w5 rfl) (cX16_turnsBy_2 hn w1 w2 w5) cd_X16_turnsBy cdf_X0_148_X8 rfl rfl hl.1 (Nat.le_of_ble_eq_true rfl) dX0_turnsOf_15 (rk (by decide) (by decide)) ⟨Nat.le_refl _, Nat.le_refl _⟩ (fun r15 p15 => ?_)
    refine lv_iconst (v := nI 0) hx hb dX0_turnsOf_20 rfl ?_
    refine lv_sipush (v := nI 9999) hx hb dX0_turnsOf_21 rfl ?_
    refine x_sS hC (cX0_held_ (h := by decide)) cs_X0_145 rfl rfl hl.1 (Nat.le_of_ble_eq_true rfl) dX0_turnsOf_24 (rk (by decide) (by decide)) ⟨Nat.le_refl _, Nat.le_refl _⟩ (fun r24 p24 => ?_)
    refine hret _ _ ls _ _ _ hP hS dX0_turnsOf_27 ?_
    rw [p24, p15, sp_turns, turn0_2 w4]
    exact ⟨rfl, Kq.rf⟩
  · refine lv_aload_n hx hb dX0_turnsOf_9 rfl (hl.at rfl) ?_
    refine lv_aload_n hx hb dX0_turnsOf_10 rfl (hl.at rfl) ?_
    refine c_get hC hK hP 0 (by omega) (wo_wb) rfl in_X0 8 (by decide) q260 rfl rfl dX0_turnsOf_11 ?_
    refine lv_iload_n hx hb dX0_turnsOf_14 rfl (hl.at rfl) ?_
    refine x_pF (ci := 9) hC hK hP rfl (x_rPO hK hP w1 w2 w5 rfl) (cX9_turnsBy_3 hn w1 w2 w5) cf_X0_148_X9 rfl rfl hl.1 (Nat.le_of_ble_eq_true rfl) dX0_turnsOf_15 (rk (by decide) (by decide)) ⟨Nat.le_refl _, Nat.le_refl _⟩ (fun r15 p15 => ?_)
    refine lv_iconst (v := nI 0) hx hb dX0_turnsOf_20 rfl ?_
    refine lv_sipush (v := nI 9999) hx hb dX0_turnsOf_21 rfl ?_
    refine x_sS hC (cX0_held_ (h := by decide)) cs_X0_145 rfl rfl hl.1 (Nat.le_of_ble_eq_true rfl) dX0_turnsOf_24 (rk (by decide) (by decide)) ⟨Nat.le_refl _, Nat.le_refl _⟩ (fun r24 p24 => ?_)
    refine hret _ _ ls _ _ _ hP hS dX0_turnsOf_27 ?_
    rw [p24, p15, sp_turns, turn0_3 w4, Int32.mul_comm]
    exact ⟨rfl, Kq.rf⟩
  · refine lv_aload_n hx hb dX0_turnsOf_9 rfl (hl.at rfl) ?_
    refine lv_aload_n hx hb dX0_turnsOf_10 rfl (hl.at rfl) ?_
    refine c_get hC hK hP 0 (by omega) (wo_wb) rfl in_X0 8 (by decide) q260 rfl rfl dX0_turnsOf_11 ?_
    refine lv_iload_n hx hb dX0_turnsOf_14 rfl (hl.at rfl) ?_
    refine x_pF (ci := 10) hC hK hP rfl (x_rPO hK hP w1 w2 w5 rfl) (cX10_turnsBy_4 hn w1 w2 w5) cf_X0_148_X10 rfl rfl hl.1 (Nat.le_of_ble_eq_true rfl) dX0_turnsOf_15 (rk (by decide) (by decide)) ⟨Nat.le_refl _, Nat.le_refl _⟩ (fun r15 p15 => ?_)
    refine lv_iconst (v := nI 0) hx hb dX0_turnsOf_20 rfl ?_
    refine lv_sipush (v := nI 9999) hx hb dX0_turnsOf_21 rfl ?_
    refine x_sS hC (cX0_held_ (h := by decide)) cs_X0_145 rfl rfl hl.1 (Nat.le_of_ble_eq_true rfl) dX0_turnsOf_24 (rk (by decide) (by decide)) ⟨Nat.le_refl _, Nat.le_refl _⟩ (fun r24 p24 => ?_)
    refine hret _ _ ls _ _ _ hP hS dX0_turnsOf_27 ?_
    rw [p24, p15, sp_turns, turn0_4 w4, tn_4 ha9]
    exact ⟨rfl, Kq.rf⟩
  · refine lv_aload_n hx hb dX0_turnsOf_9 rfl (hl.at rfl) ?_
    refine lv_aload_n hx hb dX0_turnsOf_10 rfl (hl.at rfl) ?_
    refine c_get hC hK hP 0 (by omega) (wo_wb) rfl in_X0 8 (by decide) q260 rfl rfl dX0_turnsOf_11 ?_
    refine lv_iload_n hx hb dX0_turnsOf_14 rfl (hl.at rfl) ?_
    refine x_pF (ci := 11) hC hK hP rfl (x_rPO hK hP w1 w2 w5 rfl) (cX11_turnsBy_5 hn w1 w2 w5) cf_X0_148_X11 rfl rfl hl.1 (Nat.le_of_ble_eq_true rfl) dX0_turnsOf_15 (rk (by decide) (by decide)) ⟨Nat.le_refl _, Nat.le_refl _⟩ (fun r15 p15 => ?_)
    refine lv_iconst (v := nI 0) hx hb dX0_turnsOf_20 rfl ?_
    refine lv_sipush (v := nI 9999) hx hb dX0_turnsOf_21 rfl ?_
    refine x_sS hC (cX0_held_ (h := by decide)) cs_X0_145 rfl rfl hl.1 (Nat.le_of_ble_eq_true rfl) dX0_turnsOf_24 (rk (by decide) (by decide)) ⟨Nat.le_refl _, Nat.le_refl _⟩ (fun r24 p24 => ?_)
    refine hret _ _ ls _ _ _ hP hS dX0_turnsOf_27 ?_
    rw [p24, p15, sp_turns, turn0_5 w4]
    exact ⟨rfl, Kq.rf⟩
  · refine lv_aload_n hx hb dX0_turnsOf_9 rfl (hl.at rfl) ?_
    refine lv_aload_n hx hb dX0_turnsOf_10 rfl (hl.at rfl) ?_
    refine c_get hC hK hP 0 (by omega) (wo_wb) rfl in_X0 8 (by decide) q260 rfl rfl dX0_turnsOf_11 ?_
    refine lv_iload_n hx hb dX0_turnsOf_14 rfl (hl.at rfl) ?_
    refine x_iF (ci := 12) hC hK hP hS rfl (x_rPO hK hP w1 w2 w5 rfl) (cX12_turnsBy_6 hn hD w1 w2 w5 hr hI hQ hk rfl) cf_X0_148_X12 rfl rfl hl.1 (Nat.le_of_ble_eq_true rfl) dX0_turnsOf_15 (rk (by decide) (by decide)) ⟨Nat.le_refl _, Nat.le_refl _⟩ (fun r15 U15 H locs p15 hP hS => ?_)
    refine lv_iconst (v := nI 0) hx hb dX0_turnsOf_20 rfl ?_
    refine lv_sipush (v := nI 9999) hx hb dX0_turnsOf_21 rfl ?_
    refine x_sS hC (cX0_held_ (h := by decide)) cs_X0_145 rfl rfl hl.1 (Nat.le_of_ble_eq_true rfl) dX0_turnsOf_24 (rk (by decide) (by decide)) ⟨Nat.le_refl _, Nat.le_refl _⟩ (fun r24 p24 => ?_)
    refine hret _ _ ls _ _ _ hP hS dX0_turnsOf_27 ?_
    rw [p24, p15.1, sp_turns, turn0_6 w4]
    exact ⟨rfl, p15.2⟩
theorem cdf_X0_151_X6 : CDF RX0 RX6 151 yX16_shows := ⟨q615, q617, q616, q620, q553, rfl, List.mem_of_getElem? (i := 10) rfl⟩
theorem cdf_X0_151_X7 : CDF RX0 RX7 151 yX16_shows := ⟨q615, q617, q616, q620, q526, rfl, List.mem_of_getElem? (i := 7) rfl⟩
theorem cf_X0_151_X8 : CF RX0 RX8 151 (⟨RX16, "shows", "(LWheelBrook$Sees;I)I"⟩ : MethodName) yX8_shows cX8_shows 3 (some .int) 2 := ⟨lw_F q615 q630 q632 q91 q634, ⟨q617, q616, rfl, q633, q631, q514⟩, by decide +kernel⟩
theorem cdf_X0_151_X9 : CDF RX0 RX9 151 yX16_shows := ⟨q615, q617, q616, q620, q503, rfl, List.mem_of_getElem? (i := 1) rfl⟩
theorem cf_X0_151_X10 : CF RX0 RX10 151 (⟨RX16, "shows", "(LWheelBrook$Sees;I)I"⟩ : MethodName) yX10_shows cX10_shows 3 (some .int) 2 := ⟨lw_F q615 q635 q637 q93 q639, ⟨q617, q616, rfl, q638, q636, q520⟩, by decide +kernel⟩
theorem cf_X0_151_X11 : CF RX0 RX11 151 (⟨RX16, "shows", "(LWheelBrook$Sees;I)I"⟩ : MethodName) yX11_shows cX11_shows 3 (some .int) 2 := ⟨lw_F q615 q624 q626 q94 q628, ⟨q617, q616, rfl, q627, q625, q511⟩, by decide +kernel⟩
theorem cdf_X0_151_X12 : CDF RX0 RX12 151 yX16_shows := ⟨q615, q617, q616, q620, q529, rfl, List.mem_of_getElem? (i := 9) rfl⟩
theorem cX0_showsOf_ {l : Launch} {D : va_G} {cA : Nat → ClassId} {ad : Nat → Nat} {n : Nat} {f0 : Nat → va_E} {ρ : Nat → Nat → Option Nat} {r : Nat × Nat} {U : Nat → Nat → Nat → Int32} (hn : 81 ≤ n) {A : Nat → Prop} (hD : gD A ad n) {x fl : Int32} {k : Nat} (hr : r.1 < 3) (hI : Inv (U r.1)) (hQ : HQ cA ad f0 n ρ (U r.1) r.1) (hk : k < wh (U r.1)) (hx1 : x = nI k) (hf : Bd fl 99) : XI l D cA ad n f0 ρ r U A yX0_showsOf cX0_showsOf 4 (some .int) (5) [.ref (ad 0), .int x, .int fl] (fun v V => v = sp_shows (U r.1) k fl ∧ Kq [4, 5] U V) := by
  refine Ci.of rfl (by decide +kernel) (Nat.le_of_ble_eq_true rfl) ?_
  intro p e s m args below meth c Q hC hK hP hret ls hl
  have hx := hC.1
  have hb := hC.2.1
  have hown := hC.2.2.2.1
  have hts := hC.2.2.2.2
  have hS : va_S A s.heap s.heap [] := va_S.rf
  obtain ⟨w, kd, hWK⟩ := hQ.1 k hk
  have hWK2 := hWK
  obtain ⟨w0, w1, w2, w3, w4, w5⟩ := hWK2
  have h8 := (inv_wh hI).2
  have hr3 : r.1 ≠ 3 := by omega
  subst hx1
  obtain ⟨a, ha9, rfl⟩ := hf
  refine lv_aload_n hx hb dX0_showsOf_0 rfl (hl.at rfl) ?_
  refine c_get hC hK hP 0 (by omega) (wo_wb) rfl in_X0 2 (by decide) q254 rfl rfl dX0_showsOf_1 ?_
  refine lv_iload_n hx hb dX0_showsOf_4 rfl (hl.at rfl) ?_
  refine x_rV hC hK hP (x_rHO hr hK hP hn) (cX1_at_ hn hr rfl (by omega) hWK) cv_X0_126 rfl rfl hl.1 (Nat.le_of_ble_eq_true rfl) dX0_showsOf_5 (rk (by decide) (by decide)) ⟨Nat.le_refl _, Nat.le_refl _⟩ (fun a5 p5 => ?_)
  subst p5
  refine l_astore_n hx hb 3 dX0_showsOf_8 rfl hl rfl (fun ls hl => ?_)
  rcases (by omega : kd = 0 ∨ kd = 1 ∨ kd = 2 ∨ kd = 3 ∨ kd = 4 ∨ kd = 5 ∨ kd = 6) with rfl | rfl | rfl | rfl | rfl | rfl | rfl
  · refine lv_aload_n hx hb dX0_showsOf_9 rfl (hl.at rfl) ?_
    refine lv_aload_n hx hb dX0_showsOf_10 rfl (hl.at rfl) ?_
    refine c_get hC hK hP 0 (by omega) (wo_wb) rfl in_X0 8 (by decide) q260 rfl rfl dX0_showsOf_11 ?_
    refine lv_iload_n hx hb dX0_showsOf_14 rfl (hl.at rfl) ?_
    refine x_pFD (ci := 6) hC hK hP rfl (x_rPO hK hP w1 w2 w5 rfl) (cX16_shows_0 hn w1 w2 w5) cd_X16_shows cdf_X0_151_X6 rfl rfl hl.1 (Nat.le_of_ble_eq_true rfl) dX0_showsOf_15 (rk (by decide) (by decide)) ⟨Nat.le_refl _, Nat.le_refl _⟩ (fun r15 p15 => ?_)
    refine lv_iconst (v := nI 0) hx hb dX0_showsOf_20 rfl ?_
    refine lv_sipush (v := nI 9999) hx hb dX0_showsOf_21 rfl ?_
    refine x_sS hC (cX0_held_ (h := by decide)) cs_X0_145 rfl rfl hl.1 (Nat.le_of_ble_eq_true rfl) dX0_showsOf_24 (rk (by decide) (by decide)) ⟨Nat.le_refl _, Nat.le_refl _⟩ (fun r24 p24 => ?_)
    refine hret _ _ ls _ _ _ hP hS dX0_showsOf_27 ?_
    rw [p24, p15, sp_shows, shB_0 w4, sp_turns, turn0_0 w4]
    exact ⟨rfl, Kq.rf⟩
  · refine lv_aload_n hx hb dX0_showsOf_9 rfl (hl.at rfl) ?_
    refine lv_aload_n hx hb dX0_showsOf_10 rfl (hl.at rfl) ?_
    refine c_get hC hK hP 0 (by omega) (wo_wb) rfl in_X0 8 (by decide) q260 rfl rfl dX0_showsOf_11 ?_
    refine lv_iload_n hx hb dX0_showsOf_14 rfl (hl.at rfl) ?_
    refine x_pFD (ci := 7) hC hK hP rfl (x_rPO hK hP w1 w2 w5 rfl) (cX16_shows_1 hn w1 w2 w5) cd_X16_shows cdf_X0_151_X7 rfl rfl hl.1 (Nat.le_of_ble_eq_true rfl) dX0_showsOf_15 (rk (by decide) (by decide)) ⟨Nat.le_refl _, Nat.le_refl _⟩ (fun r15 p15 => ?_)
    refine lv_iconst (v := nI 0) hx hb dX0_showsOf_20 rfl ?_
    refine lv_sipush (v := nI 9999) hx hb dX0_showsOf_21 rfl ?_
    refine x_sS hC (cX0_held_ (h := by decide)) cs_X0_145 rfl rfl hl.1 (Nat.le_of_ble_eq_true rfl) dX0_showsOf_24 (rk (by decide) (by decide)) ⟨Nat.le_refl _, Nat.le_refl _⟩ (fun r24 p24 => ?_)
    refine hret _ _ ls _ _ _ hP hS dX0_showsOf_27 ?_
    rw [p24, p15, sp_shows, shB_1 w4, sp_turns, turn0_1 w4]
    exact ⟨rfl, Kq.rf⟩
  · refine lv_aload_n hx hb dX0_showsOf_9 rfl (hl.at rfl) ?_
    refine lv_aload_n hx hb dX0_showsOf_10 rfl (hl.at rfl) ?_
    refine c_get hC hK hP 0 (by omega) (wo_wb) rfl in_X0 8 (by decide) q260 rfl rfl dX0_showsOf_11 ?_
    refine lv_iload_n hx hb dX0_showsOf_14 rfl (hl.at rfl) ?_
    refine x_pF (ci := 8) hC hK hP rfl (x_rPO hK hP w1 w2 w5 rfl) (cX8_shows_2 hn w1 w2 w5) cf_X0_151_X8 rfl rfl hl.1 (Nat.le_of_ble_eq_true rfl) dX0_showsOf_15 (rk (by decide) (by decide)) ⟨Nat.le_refl _, Nat.le_refl _⟩ (fun r15 p15 => ?_)
    refine lv_iconst (v := nI 0) hx hb dX0_showsOf_20 rfl ?_
    refine lv_sipush (v := nI 9999) hx hb dX0_showsOf_21 rfl ?_
    refine x_sS hC (cX0_held_ (h := by decide)) cs_X0_145 rfl rfl hl.1 (Nat.le_of_ble_eq_true rfl) dX0_showsOf_24 (rk (by decide) (by decide)) ⟨Nat.le_refl _, Nat.le_refl _⟩ (fun r24 p24 => ?_)
    refine hret _ _ ls _ _ _ hP hS dX0_showsOf_27 ?_
    rw [p24, p15]
    exact ⟨sh_2 w4 ha9, Kq.rf⟩
  · refine lv_aload_n hx hb dX0_showsOf_9 rfl (hl.at rfl) ?_
    refine lv_aload_n hx hb dX0_showsOf_10 rfl (hl.at rfl) ?_
    refine c_get hC hK hP 0 (by omega) (wo_wb) rfl in_X0 8 (by decide) q260 rfl rfl dX0_showsOf_11 ?_
    refine lv_iload_n hx hb dX0_showsOf_14 rfl (hl.at rfl) ?_
    refine x_pFD (ci := 9) hC hK hP rfl (x_rPO hK hP w1 w2 w5 rfl) (cX16_shows_3 hn w1 w2 w5) cd_X16_shows cdf_X0_151_X9 rfl rfl hl.1 (Nat.le_of_ble_eq_true rfl) dX0_showsOf_15 (rk (by decide) (by decide)) ⟨Nat.le_refl _, Nat.le_refl _⟩ (fun r15 p15 => ?_)
    refine lv_iconst (v := nI 0) hx hb dX0_showsOf_20 rfl ?_
    refine lv_sipush (v := nI 9999) hx hb dX0_showsOf_21 rfl ?_
    refine x_sS hC (cX0_held_ (h := by decide)) cs_X0_145 rfl rfl hl.1 (Nat.le_of_ble_eq_true rfl) dX0_showsOf_24 (rk (by decide) (by decide)) ⟨Nat.le_refl _, Nat.le_refl _⟩ (fun r24 p24 => ?_)
    refine hret _ _ ls _ _ _ hP hS dX0_showsOf_27 ?_
    rw [p24, p15, sp_shows, shB_3 w4, sp_turns, turn0_3 w4, Int32.mul_comm]
    exact ⟨rfl, Kq.rf⟩
  · refine lv_aload_n hx hb dX0_showsOf_9 rfl (hl.at rfl) ?_
    refine lv_aload_n hx hb dX0_showsOf_10 rfl (hl.at rfl) ?_
    refine c_get hC hK hP 0 (by omega) (wo_wb) rfl in_X0 8 (by decide) q260 rfl rfl dX0_showsOf_11 ?_
    refine lv_iload_n hx hb dX0_showsOf_14 rfl (hl.at rfl) ?_
    refine x_pF (ci := 10) hC hK hP rfl (x_rPO hK hP w1 w2 w5 rfl) (cX10_shows_4 hn w1 w2 w5) cf_X0_151_X10 rfl rfl hl.1 (Nat.le_of_ble_eq_true rfl) dX0_showsOf_15 (rk (by decide) (by decide)) ⟨Nat.le_refl _, Nat.le_refl _⟩ (fun r15 p15 => ?_)
    refine lv_iconst (v := nI 0) hx hb dX0_showsOf_20 rfl ?_
    refine lv_sipush (v := nI 9999) hx hb dX0_showsOf_21 rfl ?_
    refine x_sS hC (cX0_held_ (h := by decide)) cs_X0_145 rfl rfl hl.1 (Nat.le_of_ble_eq_true rfl) dX0_showsOf_24 (rk (by decide) (by decide)) ⟨Nat.le_refl _, Nat.le_refl _⟩ (fun r24 p24 => ?_)
    refine hret _ _ ls _ _ _ hP hS dX0_showsOf_27 ?_
    rw [p24, p15]
    exact ⟨sh_4 w4, Kq.rf⟩
  · refine lv_aload_n hx hb dX0_showsOf_9 rfl (hl.at rfl) ?_
    refine lv_aload_n hx hb dX0_showsOf_10 rfl (hl.at rfl) ?_
    refine c_get hC hK hP 0 (by omega) (wo_wb) rfl in_X0 8 (by decide) q260 rfl rfl dX0_showsOf_11 ?_
    refine lv_iload_n hx hb dX0_showsOf_14 rfl (hl.at rfl) ?_
    refine x_pF (ci := 11) hC hK hP rfl (x_rPO hK hP w1 w2 w5 rfl) (cX11_shows_5 hn w1 w2 w5) cf_X0_151_X11 rfl rfl hl.1 (Nat.le_of_ble_eq_true rfl) dX0_showsOf_15 (rk (by decide) (by decide)) ⟨Nat.le_refl _, Nat.le_refl _⟩ (fun r15 p15 => ?_)
    refine lv_iconst (v := nI 0) hx hb dX0_showsOf_20 rfl ?_
    refine lv_sipush (v := nI 9999) hx hb dX0_showsOf_21 rfl ?_
    refine x_sS hC (cX0_held_ (h := by decide)) cs_X0_145 rfl rfl hl.1 (Nat.le_of_ble_eq_true rfl) dX0_showsOf_24 (rk (by decide) (by decide)) ⟨Nat.le_refl _, Nat.le_refl _⟩ (fun r24 p24 => ?_)
    refine hret _ _ ls _ _ _ hP hS dX0_showsOf_27 ?_
    rw [p24, p15]
    exact ⟨sh_5 w4 ha9, Kq.rf⟩
  · refine lv_aload_n hx hb dX0_showsOf_9 rfl (hl.at rfl) ?_
    refine lv_aload_n hx hb dX0_showsOf_10 rfl (hl.at rfl) ?_
    refine c_get hC hK hP 0 (by omega) (wo_wb) rfl in_X0 8 (by decide) q260 rfl rfl dX0_showsOf_11 ?_
    refine lv_iload_n hx hb dX0_showsOf_14 rfl (hl.at rfl) ?_
    refine x_iFD (ci := 12) hC hK hP hS rfl (x_rPO hK hP w1 w2 w5 rfl) (cX16_shows_6 hn hD w1 w2 w5 hr hI hQ hk rfl) cd_X16_shows cdf_X0_151_X12 rfl rfl hl.1 (Nat.le_of_ble_eq_true rfl) dX0_showsOf_15 (rk (by decide) (by decide)) ⟨Nat.le_refl _, Nat.le_refl _⟩ (fun r15 U15 H locs p15 hP hS => ?_)
    refine lv_iconst (v := nI 0) hx hb dX0_showsOf_20 rfl ?_
    refine lv_sipush (v := nI 9999) hx hb dX0_showsOf_21 rfl ?_
    refine x_sS hC (cX0_held_ (h := by decide)) cs_X0_145 rfl rfl hl.1 (Nat.le_of_ble_eq_true rfl) dX0_showsOf_24 (rk (by decide) (by decide)) ⟨Nat.le_refl _, Nat.le_refl _⟩ (fun r24 p24 => ?_)
    refine hret _ _ ls _ _ _ hP hS dX0_showsOf_27 ?_
    rw [p24, p15.1, sp_shows, shB_6 w4, sp_turns, turn0_6 w4]
    exact ⟨rfl, p15.2⟩
