theorem met_joined {l : Launch} {c0 x y : Int32} {k : Nat} (hk : c0 = nI k) (hs : isSg k) : Cp l (fun _ => True) yX5_joined cX5_joined 3 (some .int) (0) [.int c0, .int x, .int y] (fun _ => True) (fun r => r = sp_join (nI k) x y) := by
  refine Cp.of rfl (by decide +kernel) (Nat.le_of_ble_eq_true rfl) ?_
  intro p e s m args below meth c Q hC hK hP hret ls hl
  have hx := hC.1
  have hb := hC.2.1
  have hown := hC.2.2.2.1
  have hts := hC.2.2.2.2
  subst hk
  refine lv_iload_n hx hb dX5_joined_0 rfl (hl.at rfl) ?_
  simp only [isSg, List.mem_cons, List.not_mem_nil, or_false] at hs
  rcases hs with rfl | rfl | rfl | rfl | rfl | rfl | rfl | rfl | rfl | rfl
  · refine lv_tableOut (tgt := 218) hx hb dX5_joined_1 (by decide) rfl ?_
    refine lv_iload_n hx hb dX5_joined_218 rfl (hl.at rfl) ?_
    refine lv_if_ne (tgt := 226) hx hb dX5_joined_219 rfl (fun c219 => ?_) (fun c219 => ?_)
    · refine lv_iconst (v := nI 1) hx hb dX5_joined_226 rfl ?_
      refine lv_goto (tgt := 231) hx hb dX5_joined_227 rfl ?_
      refine hret ls _ _ dX5_joined_231 ?_
      first | (rfl) | (exact (if_pos c133).symm) | (exact ((if_neg c133).trans (if_pos c142)).symm) | (exact ((if_neg c133).trans (if_neg c142)).symm) | (exact (if_pos c155).symm) | (exact ((if_neg c155).trans (if_pos c160)).symm) | (exact ((if_neg c155).trans (if_neg c160)).symm) | (exact (if_pos (Int32.not_le.mp c173)).symm) | (exact (if_neg (Int32.not_lt.mpr c173)).symm) | (exact (if_pos (Int32.not_le.mp c184)).symm) | (exact (if_neg (Int32.not_lt.mpr c184)).symm) | (exact (if_pos c195).symm) | (exact (if_neg c195).symm) | (exact (if_pos c205).symm) | (exact ((if_neg c205).trans (if_pos c209)).symm) | (exact ((if_neg c205).trans (if_neg c209)).symm) | (exact ((if_pos c219).trans (if_pos c223)).symm) | (exact ((if_pos c219).trans (if_neg c223)).symm) | (exact (if_neg c219).symm)
    · refine lv_iload_n hx hb dX5_joined_222 rfl (hl.at rfl) ?_
      refine lv_if_eq (tgt := 230) hx hb dX5_joined_223 rfl (fun c223 => ?_) (fun c223 => ?_)
      · refine lv_iconst (v := nI 0) hx hb dX5_joined_230 rfl ?_
        refine hret ls _ _ dX5_joined_231 ?_
        first | (rfl) | (exact (if_pos c133).symm) | (exact ((if_neg c133).trans (if_pos c142)).symm) | (exact ((if_neg c133).trans (if_neg c142)).symm) | (exact (if_pos c155).symm) | (exact ((if_neg c155).trans (if_pos c160)).symm) | (exact ((if_neg c155).trans (if_neg c160)).symm) | (exact (if_pos (Int32.not_le.mp c173)).symm) | (exact (if_neg (Int32.not_lt.mpr c173)).symm) | (exact (if_pos (Int32.not_le.mp c184)).symm) | (exact (if_neg (Int32.not_lt.mpr c184)).symm) | (exact (if_pos c195).symm) | (exact (if_neg c195).symm) | (exact (if_pos c205).symm) | (exact ((if_neg c205).trans (if_pos c209)).symm) | (exact ((if_neg c205).trans (if_neg c209)).symm) | (exact ((if_pos c219).trans (if_pos c223)).symm) | (exact ((if_pos c219).trans (if_neg c223)).symm) | (exact (if_neg c219).symm)
      · refine lv_iconst (v := nI 1) hx hb dX5_joined_226 rfl ?_
        refine lv_goto (tgt := 231) hx hb dX5_joined_227 rfl ?_
        refine hret ls _ _ dX5_joined_231 ?_
        first | (rfl) | (exact (if_pos c133).symm) | (exact ((if_neg c133).trans (if_pos c142)).symm) | (exact ((if_neg c133).trans (if_neg c142)).symm) | (exact (if_pos c155).symm) | (exact ((if_neg c155).trans (if_pos c160)).symm) | (exact ((if_neg c155).trans (if_neg c160)).symm) | (exact (if_pos (Int32.not_le.mp c173)).symm) | (exact (if_neg (Int32.not_lt.mpr c173)).symm) | (exact (if_pos (Int32.not_le.mp c184)).symm) | (exact (if_neg (Int32.not_lt.mpr c184)).symm) | (exact (if_pos c195).symm) | (exact (if_neg c195).symm) | (exact (if_pos c205).symm) | (exact ((if_neg c205).trans (if_pos c209)).symm) | (exact ((if_neg c205).trans (if_neg c209)).symm) | (exact ((if_pos c219).trans (if_pos c223)).symm) | (exact ((if_pos c219).trans (if_neg c223)).symm) | (exact (if_neg c219).symm)
  · refine lv_tableIn (tgt := 204) hx hb dX5_joined_1 (by decide) (by decide) rfl rfl ?_
    refine lv_iload_n hx hb dX5_joined_204 rfl (hl.at rfl) ?_
    refine lv_if_eq (tgt := 216) hx hb dX5_joined_205 rfl (fun c205 => ?_) (fun c205 => ?_)
    · refine lv_iconst (v := nI 0) hx hb dX5_joined_216 rfl ?_
      refine hret ls _ _ dX5_joined_217 ?_
      first | (rfl) | (exact (if_pos c133).symm) | (exact ((if_neg c133).trans (if_pos c142)).symm) | (exact ((if_neg c133).trans (if_neg c142)).symm) | (exact (if_pos c155).symm) | (exact ((if_neg c155).trans (if_pos c160)).symm) | (exact ((if_neg c155).trans (if_neg c160)).symm) | (exact (if_pos (Int32.not_le.mp c173)).symm) | (exact (if_neg (Int32.not_lt.mpr c173)).symm) | (exact (if_pos (Int32.not_le.mp c184)).symm) | (exact (if_neg (Int32.not_lt.mpr c184)).symm) | (exact (if_pos c195).symm) | (exact (if_neg c195).symm) | (exact (if_pos c205).symm) | (exact ((if_neg c205).trans (if_pos c209)).symm) | (exact ((if_neg c205).trans (if_neg c209)).symm) | (exact ((if_pos c219).trans (if_pos c223)).symm) | (exact ((if_pos c219).trans (if_neg c223)).symm) | (exact (if_neg c219).symm)
    · refine lv_iload_n hx hb dX5_joined_208 rfl (hl.at rfl) ?_
      refine lv_if_eq (tgt := 216) hx hb dX5_joined_209 rfl (fun c209 => ?_) (fun c209 => ?_)
      · refine lv_iconst (v := nI 0) hx hb dX5_joined_216 rfl ?_
        refine hret ls _ _ dX5_joined_217 ?_
        first | (rfl) | (exact (if_pos c133).symm) | (exact ((if_neg c133).trans (if_pos c142)).symm) | (exact ((if_neg c133).trans (if_neg c142)).symm) | (exact (if_pos c155).symm) | (exact ((if_neg c155).trans (if_pos c160)).symm) | (exact ((if_neg c155).trans (if_neg c160)).symm) | (exact (if_pos (Int32.not_le.mp c173)).symm) | (exact (if_neg (Int32.not_lt.mpr c173)).symm) | (exact (if_pos (Int32.not_le.mp c184)).symm) | (exact (if_neg (Int32.not_lt.mpr c184)).symm) | (exact (if_pos c195).symm) | (exact (if_neg c195).symm) | (exact (if_pos c205).symm) | (exact ((if_neg c205).trans (if_pos c209)).symm) | (exact ((if_neg c205).trans (if_neg c209)).symm) | (exact ((if_pos c219).trans (if_pos c223)).symm) | (exact ((if_pos c219).trans (if_neg c223)).symm) | (exact (if_neg c219).symm)
      · refine lv_iconst (v := nI 1) hx hb dX5_joined_212 rfl ?_
        refine lv_goto (tgt := 217) hx hb dX5_joined_213 rfl ?_
        refine hret ls _ _ dX5_joined_217 ?_
        first | (rfl) | (exact (if_pos c133).symm) | (exact ((if_neg c133).trans (if_pos c142)).symm) | (exact ((if_neg c133).trans (if_neg c142)).symm) | (exact (if_pos c155).symm) | (exact ((if_neg c155).trans (if_pos c160)).symm) | (exact ((if_neg c155).trans (if_neg c160)).symm) | (exact (if_pos (Int32.not_le.mp c173)).symm) | (exact (if_neg (Int32.not_lt.mpr c173)).symm) | (exact (if_pos (Int32.not_le.mp c184)).symm) | (exact (if_neg (Int32.not_lt.mpr c184)).symm) | (exact (if_pos c195).symm) | (exact (if_neg c195).symm) | (exact (if_pos c205).symm) | (exact ((if_neg c205).trans (if_pos c209)).symm) | (exact ((if_neg c205).trans (if_neg c209)).symm) | (exact ((if_pos c219).trans (if_pos c223)).symm) | (exact ((if_pos c219).trans (if_neg c223)).symm) | (exact (if_neg c219).symm)
  · refine lv_tableIn (tgt := 171) hx hb dX5_joined_1 (by decide) (by decide) rfl rfl ?_
    refine lv_iload_n hx hb dX5_joined_171 rfl (hl.at rfl) ?_
    refine lv_iload_n hx hb dX5_joined_172 rfl (hl.at rfl) ?_
    refine lv_icmp_ge (tgt := 180) hx hb dX5_joined_173 rfl (fun c173 => ?_) (fun c173 => ?_)
    · refine lv_iconst (v := nI 0) hx hb dX5_joined_180 rfl ?_
      refine hret ls _ _ dX5_joined_181 ?_
      first | (rfl) | (exact (if_pos c133).symm) | (exact ((if_neg c133).trans (if_pos c142)).symm) | (exact ((if_neg c133).trans (if_neg c142)).symm) | (exact (if_pos c155).symm) | (exact ((if_neg c155).trans (if_pos c160)).symm) | (exact ((if_neg c155).trans (if_neg c160)).symm) | (exact (if_pos (Int32.not_le.mp c173)).symm) | (exact (if_neg (Int32.not_lt.mpr c173)).symm) | (exact (if_pos (Int32.not_le.mp c184)).symm) | (exact (if_neg (Int32.not_lt.mpr c184)).symm) | (exact (if_pos c195).symm) | (exact (if_neg c195).symm) | (exact (if_pos c205).symm) | (exact ((if_neg c205).trans (if_pos c209)).symm) | (exact ((if_neg c205).trans (if_neg c209)).symm) | (exact ((if_pos c219).trans (if_pos c223)).symm) | (exact ((if_pos c219).trans (if_neg c223)).symm) | (exact (if_neg c219).symm)
    · refine lv_iconst (v := nI 1) hx hb dX5_joined_176 rfl ?_
      refine lv_goto (tgt := 181) hx hb dX5_joined_177 rfl ?_
      refine hret ls _ _ dX5_joined_181 ?_
      first | (rfl) | (exact (if_pos c133).symm) | (exact ((if_neg c133).trans (if_pos c142)).symm) | (exact ((if_neg c133).trans (if_neg c142)).symm) | (exact (if_pos c155).symm) | (exact ((if_neg c155).trans (if_pos c160)).symm) | (exact ((if_neg c155).trans (if_neg c160)).symm) | (exact (if_pos (Int32.not_le.mp c173)).symm) | (exact (if_neg (Int32.not_lt.mpr c173)).symm) | (exact (if_pos (Int32.not_le.mp c184)).symm) | (exact (if_neg (Int32.not_lt.mpr c184)).symm) | (exact (if_pos c195).symm) | (exact (if_neg c195).symm) | (exact (if_pos c205).symm) | (exact ((if_neg c205).trans (if_pos c209)).symm) | (exact ((if_neg c205).trans (if_neg c209)).symm) | (exact ((if_pos c219).trans (if_pos c223)).symm) | (exact ((if_pos c219).trans (if_neg c223)).symm) | (exact (if_neg c219).symm)
  · refine lv_tableIn (tgt := 193) hx hb dX5_joined_1 (by decide) (by decide) rfl rfl ?_
    refine lv_iload_n hx hb dX5_joined_193 rfl (hl.at rfl) ?_
    refine lv_iload_n hx hb dX5_joined_194 rfl (hl.at rfl) ?_
    refine lv_icmp_ne (tgt := 202) hx hb dX5_joined_195 rfl (fun c195 => ?_) (fun c195 => ?_)
    · refine lv_iconst (v := nI 0) hx hb dX5_joined_202 rfl ?_
      refine hret ls _ _ dX5_joined_203 ?_
      first | (rfl) | (exact (if_pos c133).symm) | (exact ((if_neg c133).trans (if_pos c142)).symm) | (exact ((if_neg c133).trans (if_neg c142)).symm) | (exact (if_pos c155).symm) | (exact ((if_neg c155).trans (if_pos c160)).symm) | (exact ((if_neg c155).trans (if_neg c160)).symm) | (exact (if_pos (Int32.not_le.mp c173)).symm) | (exact (if_neg (Int32.not_lt.mpr c173)).symm) | (exact (if_pos (Int32.not_le.mp c184)).symm) | (exact (if_neg (Int32.not_lt.mpr c184)).symm) | (exact (if_pos c195).symm) | (exact (if_neg c195).symm) | (exact (if_pos c205).symm) | (exact ((if_neg c205).trans (if_pos c209)).symm) | (exact ((if_neg c205).trans (if_neg c209)).symm) | (exact ((if_pos c219).trans (if_pos c223)).symm) | (exact ((if_pos c219).trans (if_neg c223)).symm) | (exact (if_neg c219).symm)
    · refine lv_iconst (v := nI 1) hx hb dX5_joined_198 rfl ?_
      refine lv_goto (tgt := 203) hx hb dX5_joined_199 rfl ?_
      refine hret ls _ _ dX5_joined_203 ?_
      first | (rfl) | (exact (if_pos c133).symm) | (exact ((if_neg c133).trans (if_pos c142)).symm) | (exact ((if_neg c133).trans (if_neg c142)).symm) | (exact (if_pos c155).symm) | (exact ((if_neg c155).trans (if_pos c160)).symm) | (exact ((if_neg c155).trans (if_neg c160)).symm) | (exact (if_pos (Int32.not_le.mp c173)).symm) | (exact (if_neg (Int32.not_lt.mpr c173)).symm) | (exact (if_pos (Int32.not_le.mp c184)).symm) | (exact (if_neg (Int32.not_lt.mpr c184)).symm) | (exact (if_pos c195).symm) | (exact (if_neg c195).symm) | (exact (if_pos c205).symm) | (exact ((if_neg c205).trans (if_pos c209)).symm) | (exact ((if_neg c205).trans (if_neg c209)).symm) | (exact ((if_pos c219).trans (if_pos c223)).symm) | (exact ((if_pos c219).trans (if_neg c223)).symm) | (exact (if_neg c219).symm)
  · refine lv_tableIn (tgt := 182) hx hb dX5_joined_1 (by decide) (by decide) rfl rfl ?_
    refine lv_iload_n hx hb dX5_joined_182 rfl (hl.at rfl) ?_
    refine lv_iload_n hx hb dX5_joined_183 rfl (hl.at rfl) ?_
    refine lv_icmp_le (tgt := 191) hx hb dX5_joined_184 rfl (fun c184 => ?_) (fun c184 => ?_)
    · refine lv_iconst (v := nI 0) hx hb dX5_joined_191 rfl ?_
      refine hret ls _ _ dX5_joined_192 ?_
      first | (rfl) | (exact (if_pos c133).symm) | (exact ((if_neg c133).trans (if_pos c142)).symm) | (exact ((if_neg c133).trans (if_neg c142)).symm) | (exact (if_pos c155).symm) | (exact ((if_neg c155).trans (if_pos c160)).symm) | (exact ((if_neg c155).trans (if_neg c160)).symm) | (exact (if_pos (Int32.not_le.mp c173)).symm) | (exact (if_neg (Int32.not_lt.mpr c173)).symm) | (exact (if_pos (Int32.not_le.mp c184)).symm) | (exact (if_neg (Int32.not_lt.mpr c184)).symm) | (exact (if_pos c195).symm) | (exact (if_neg c195).symm) | (exact (if_pos c205).symm) | (exact ((if_neg c205).trans (if_pos c209)).symm) | (exact ((if_neg c205).trans (if_neg c209)).symm) | (exact ((if_pos c219).trans (if_pos c223)).symm) | (exact ((if_pos c219).trans (if_neg c223)).symm) | (exact (if_neg c219).symm)
    · refine lv_iconst (v := nI 1) hx hb dX5_joined_187 rfl ?_
      refine lv_goto (tgt := 192) hx hb dX5_joined_188 rfl ?_
      refine hret ls _ _ dX5_joined_192 ?_
      first | (rfl) | (exact (if_pos c133).symm) | (exact ((if_neg c133).trans (if_pos c142)).symm) | (exact ((if_neg c133).trans (if_neg c142)).symm) | (exact (if_pos c155).symm) | (exact ((if_neg c155).trans (if_pos c160)).symm) | (exact ((if_neg c155).trans (if_neg c160)).symm) | (exact (if_pos (Int32.not_le.mp c173)).symm) | (exact (if_neg (Int32.not_lt.mpr c173)).symm) | (exact (if_pos (Int32.not_le.mp c184)).symm) | (exact (if_neg (Int32.not_lt.mpr c184)).symm) | (exact (if_pos c195).symm) | (exact (if_neg c195).symm) | (exact (if_pos c205).symm) | (exact ((if_neg c205).trans (if_pos c209)).symm) | (exact ((if_neg c205).trans (if_neg c209)).symm) | (exact ((if_pos c219).trans (if_pos c223)).symm) | (exact ((if_pos c219).trans (if_neg c223)).symm) | (exact (if_neg c219).symm)
  · refine lv_tableIn (tgt := 120) hx hb dX5_joined_1 (by decide) (by decide) rfl rfl ?_
    refine lv_iload_n hx hb dX5_joined_120 rfl (hl.at rfl) ?_
    refine lv_iload_n hx hb dX5_joined_121 rfl (hl.at rfl) ?_
    refine lv_iadd hx hb dX5_joined_122 ?_
    refine hret ls _ _ dX5_joined_123 ?_
    first | (rfl) | (exact (if_pos c133).symm) | (exact ((if_neg c133).trans (if_pos c142)).symm) | (exact ((if_neg c133).trans (if_neg c142)).symm) | (exact (if_pos c155).symm) | (exact ((if_neg c155).trans (if_pos c160)).symm) | (exact ((if_neg c155).trans (if_neg c160)).symm) | (exact (if_pos (Int32.not_le.mp c173)).symm) | (exact (if_neg (Int32.not_lt.mpr c173)).symm) | (exact (if_pos (Int32.not_le.mp c184)).symm) | (exact (if_neg (Int32.not_lt.mpr c184)).symm) | (exact (if_pos c195).symm) | (exact (if_neg c195).symm) | (exact (if_pos c205).symm) | (exact ((if_neg c205).trans (if_pos c209)).symm) | (exact ((if_neg c205).trans (if_neg c209)).symm) | (exact ((if_pos c219).trans (if_pos c223)).symm) | (exact ((if_pos c219).trans (if_neg c223)).symm) | (exact (if_neg c219).symm)
  · refine lv_tableIn (tgt := 124) hx hb dX5_joined_1 (by decide) (by decide) rfl rfl ?_
    refine lv_iload_n hx hb dX5_joined_124 rfl (hl.at rfl) ?_
    refine lv_iload_n hx hb dX5_joined_125 rfl (hl.at rfl) ?_
    refine lv_isub hx hb dX5_joined_126 ?_
    refine hret ls _ _ dX5_joined_127 ?_
    first | (rfl) | (exact (if_pos c133).symm) | (exact ((if_neg c133).trans (if_pos c142)).symm) | (exact ((if_neg c133).trans (if_neg c142)).symm) | (exact (if_pos c155).symm) | (exact ((if_neg c155).trans (if_pos c160)).symm) | (exact ((if_neg c155).trans (if_neg c160)).symm) | (exact (if_pos (Int32.not_le.mp c173)).symm) | (exact (if_neg (Int32.not_lt.mpr c173)).symm) | (exact (if_pos (Int32.not_le.mp c184)).symm) | (exact (if_neg (Int32.not_lt.mpr c184)).symm) | (exact (if_pos c195).symm) | (exact (if_neg c195).symm) | (exact (if_pos c205).symm) | (exact ((if_neg c205).trans (if_pos c209)).symm) | (exact ((if_neg c205).trans (if_neg c209)).symm) | (exact ((if_pos c219).trans (if_pos c223)).symm) | (exact ((if_pos c219).trans (if_neg c223)).symm) | (exact (if_neg c219).symm)
  · refine lv_tableIn (tgt := 128) hx hb dX5_joined_1 (by decide) (by decide) rfl rfl ?_
    refine lv_iload_n hx hb dX5_joined_128 rfl (hl.at rfl) ?_
    refine lv_iload_n hx hb dX5_joined_129 rfl (hl.at rfl) ?_
    refine lv_imul hx hb dX5_joined_130 ?_
    refine hret ls _ _ dX5_joined_131 ?_
    first | (rfl) | (exact (if_pos c133).symm) | (exact ((if_neg c133).trans (if_pos c142)).symm) | (exact ((if_neg c133).trans (if_neg c142)).symm) | (exact (if_pos c155).symm) | (exact ((if_neg c155).trans (if_pos c160)).symm) | (exact ((if_neg c155).trans (if_neg c160)).symm) | (exact (if_pos (Int32.not_le.mp c173)).symm) | (exact (if_neg (Int32.not_lt.mpr c173)).symm) | (exact (if_pos (Int32.not_le.mp c184)).symm) | (exact (if_neg (Int32.not_lt.mpr c184)).symm) | (exact (if_pos c195).symm) | (exact (if_neg c195).symm) | (exact (if_pos c205).symm) | (exact ((if_neg c205).trans (if_pos c209)).symm) | (exact ((if_neg c205).trans (if_neg c209)).symm) | (exact ((if_pos c219).trans (if_pos c223)).symm) | (exact ((if_pos c219).trans (if_neg c223)).symm) | (exact (if_neg c219).symm)
  · refine lv_tableIn (tgt := 132) hx hb dX5_joined_1 (by decide) (by decide) rfl rfl ?_
    refine lv_iload_n hx hb dX5_joined_132 rfl (hl.at rfl) ?_
    refine lv_if_ne (tgt := 140) hx hb dX5_joined_133 rfl (fun c133 => ?_) (fun c133 => ?_)
    · refine lv_iload_n hx hb dX5_joined_140 rfl (hl.at rfl) ?_
      refine lv_iconst (v := -1) hx hb dX5_joined_141 rfl ?_
      refine lv_icmp_ne (tgt := 150) hx hb dX5_joined_142 rfl (fun c142 => ?_) (fun c142 => ?_)
      · refine lv_iload_n hx hb dX5_joined_150 rfl (hl.at rfl) ?_
        refine lv_iload_n hx hb dX5_joined_151 rfl (hl.at rfl) ?_
        refine lv_idiv hx hb dX5_joined_152 (c133) ?_
        refine hret ls _ _ dX5_joined_153 ?_
        first | (rfl) | (exact (if_pos c133).symm) | (exact ((if_neg c133).trans (if_pos c142)).symm) | (exact ((if_neg c133).trans (if_neg c142)).symm) | (exact (if_pos c155).symm) | (exact ((if_neg c155).trans (if_pos c160)).symm) | (exact ((if_neg c155).trans (if_neg c160)).symm) | (exact (if_pos (Int32.not_le.mp c173)).symm) | (exact (if_neg (Int32.not_lt.mpr c173)).symm) | (exact (if_pos (Int32.not_le.mp c184)).symm) | (exact (if_neg (Int32.not_lt.mpr c184)).symm) | (exact (if_pos c195).symm) | (exact (if_neg c195).symm) | (exact (if_pos c205).symm) | (exact ((if_neg c205).trans (if_pos c209)).symm) | (exact ((if_neg c205).trans (if_neg c209)).symm) | (exact ((if_pos c219).trans (if_pos c223)).symm) | (exact ((if_pos c219).trans (if_neg c223)).symm) | (exact (if_neg c219).symm)
      · refine lv_iload_n hx hb dX5_joined_145 rfl (hl.at rfl) ?_
        refine lv_ineg hx hb dX5_joined_146 ?_
        refine lv_goto (tgt := 153) hx hb dX5_joined_147 rfl ?_
        refine hret ls _ _ dX5_joined_153 ?_
        first | (rfl) | (exact (if_pos c133).symm) | (exact ((if_neg c133).trans (if_pos c142)).symm) | (exact ((if_neg c133).trans (if_neg c142)).symm) | (exact (if_pos c155).symm) | (exact ((if_neg c155).trans (if_pos c160)).symm) | (exact ((if_neg c155).trans (if_neg c160)).symm) | (exact (if_pos (Int32.not_le.mp c173)).symm) | (exact (if_neg (Int32.not_lt.mpr c173)).symm) | (exact (if_pos (Int32.not_le.mp c184)).symm) | (exact (if_neg (Int32.not_lt.mpr c184)).symm) | (exact (if_pos c195).symm) | (exact (if_neg c195).symm) | (exact (if_pos c205).symm) | (exact ((if_neg c205).trans (if_pos c209)).symm) | (exact ((if_neg c205).trans (if_neg c209)).symm) | (exact ((if_pos c219).trans (if_pos c223)).symm) | (exact ((if_pos c219).trans (if_neg c223)).symm) | (exact (if_neg c219).symm)
    · refine lv_iconst (v := nI 0) hx hb dX5_joined_136 rfl ?_
      refine lv_goto (tgt := 153) hx hb dX5_joined_137 rfl ?_
      refine hret ls _ _ dX5_joined_153 ?_
      first | (rfl) | (exact (if_pos c133).symm) | (exact ((if_neg c133).trans (if_pos c142)).symm) | (exact ((if_neg c133).trans (if_neg c142)).symm) | (exact (if_pos c155).symm) | (exact ((if_neg c155).trans (if_pos c160)).symm) | (exact ((if_neg c155).trans (if_neg c160)).symm) | (exact (if_pos (Int32.not_le.mp c173)).symm) | (exact (if_neg (Int32.not_lt.mpr c173)).symm) | (exact (if_pos (Int32.not_le.mp c184)).symm) | (exact (if_neg (Int32.not_lt.mpr c184)).symm) | (exact (if_pos c195).symm) | (exact (if_neg c195).symm) | (exact (if_pos c205).symm) | (exact ((if_neg c205).trans (if_pos c209)).symm) | (exact ((if_neg c205).trans (if_neg c209)).symm) | (exact ((if_pos c219).trans (if_pos c223)).symm) | (exact ((if_pos c219).trans (if_neg c223)).symm) | (exact (if_neg c219).symm)
  · refine lv_tableIn (tgt := 154) hx hb dX5_joined_1 (by decide) (by decide) rfl rfl ?_
    refine lv_iload_n hx hb dX5_joined_154 rfl (hl.at rfl) ?_
    refine lv_if_eq (tgt := 163) hx hb dX5_joined_155 rfl (fun c155 => ?_) (fun c155 => ?_)
    · refine lv_iconst (v := nI 0) hx hb dX5_joined_163 rfl ?_
      refine lv_goto (tgt := 170) hx hb dX5_joined_164 rfl ?_
      refine hret ls _ _ dX5_joined_170 ?_
      first | (rfl) | (exact (if_pos c133).symm) | (exact ((if_neg c133).trans (if_pos c142)).symm) | (exact ((if_neg c133).trans (if_neg c142)).symm) | (exact (if_pos c155).symm) | (exact ((if_neg c155).trans (if_pos c160)).symm) | (exact ((if_neg c155).trans (if_neg c160)).symm) | (exact (if_pos (Int32.not_le.mp c173)).symm) | (exact (if_neg (Int32.not_lt.mpr c173)).symm) | (exact (if_pos (Int32.not_le.mp c184)).symm) | (exact (if_neg (Int32.not_lt.mpr c184)).symm) | (exact (if_pos c195).symm) | (exact (if_neg c195).symm) | (exact (if_pos c205).symm) | (exact ((if_neg c205).trans (if_pos c209)).symm) | (exact ((if_neg c205).trans (if_neg c209)).symm) | (exact ((if_pos c219).trans (if_pos c223)).symm) | (exact ((if_pos c219).trans (if_neg c223)).symm) | (exact (if_neg c219).symm)
    · refine lv_iload_n hx hb dX5_joined_158 rfl (hl.at rfl) ?_
      refine lv_iconst (v := -1) hx hb dX5_joined_159 rfl ?_
      refine lv_icmp_ne (tgt := 167) hx hb dX5_joined_160 rfl (fun c160 => ?_) (fun c160 => ?_)
      · refine lv_iload_n hx hb dX5_joined_167 rfl (hl.at rfl) ?_
        refine lv_iload_n hx hb dX5_joined_168 rfl (hl.at rfl) ?_
        refine lv_irem hx hb dX5_joined_169 (c155) ?_
        refine hret ls _ _ dX5_joined_170 ?_
        first | (rfl) | (exact (if_pos c133).symm) | (exact ((if_neg c133).trans (if_pos c142)).symm) | (exact ((if_neg c133).trans (if_neg c142)).symm) | (exact (if_pos c155).symm) | (exact ((if_neg c155).trans (if_pos c160)).symm) | (exact ((if_neg c155).trans (if_neg c160)).symm) | (exact (if_pos (Int32.not_le.mp c173)).symm) | (exact (if_neg (Int32.not_lt.mpr c173)).symm) | (exact (if_pos (Int32.not_le.mp c184)).symm) | (exact (if_neg (Int32.not_lt.mpr c184)).symm) | (exact (if_pos c195).symm) | (exact (if_neg c195).symm) | (exact (if_pos c205).symm) | (exact ((if_neg c205).trans (if_pos c209)).symm) | (exact ((if_neg c205).trans (if_neg c209)).symm) | (exact ((if_pos c219).trans (if_pos c223)).symm) | (exact ((if_pos c219).trans (if_neg c223)).symm) | (exact (if_neg c219).symm)
      · refine lv_iconst (v := nI 0) hx hb dX5_joined_163 rfl ?_
        refine lv_goto (tgt := 170) hx hb dX5_joined_164 rfl ?_
        refine hret ls _ _ dX5_joined_170 ?_
        first | (rfl) | (exact (if_pos c133).symm) | (exact ((if_neg c133).trans (if_pos c142)).symm) | (exact ((if_neg c133).trans (if_neg c142)).symm) | (exact (if_pos c155).symm) | (exact ((if_neg c155).trans (if_pos c160)).symm) | (exact ((if_neg c155).trans (if_neg c160)).symm) | (exact (if_pos (Int32.not_le.mp c173)).symm) | (exact (if_neg (Int32.not_lt.mpr c173)).symm) | (exact (if_pos (Int32.not_le.mp c184)).symm) | (exact (if_neg (Int32.not_lt.mpr c184)).symm) | (exact (if_pos c195).symm) | (exact (if_neg c195).symm) | (exact (if_pos c205).symm) | (exact ((if_neg c205).trans (if_pos c209)).symm) | (exact ((if_neg c205).trans (if_neg c209)).symm) | (exact ((if_pos c219).trans (if_pos c223)).symm) | (exact ((if_pos c219).trans (if_neg c223)).symm) | (exact (if_neg c219).symm)
theorem met_hasText {l : Launch} {D : va_G} {cA : Nat → ClassId} {b : Nat} {σ : Nat → Nat → Int32} {S : Sta} {x : Int32} {u : Nat} (hR : RM (σ 0) S) (hx1 : x = nI u) (hu : u < 2) : MP l D cA b yX5_hasText cX5_hasText 2 (some .boolean) (0) [.ref b, .int x] σ (bz (0 < S (12 + u) 0)) := by
  refine Cp.ofz rfl (by decide +kernel) (Nat.le_of_ble_eq_true rfl) ?_
  intro p e s m args below meth c Q hC hK hP hret ls hl
  have hx := hC.1
  have hb := hC.2.1
  have hown := hC.2.2.2.1
  have hts := hC.2.2.2.2
  subst hx1
  refine lv_aload_n hx hb dX5_hasText_0 rfl (hl.at rfl) ?_
  refine mg_s hC hK hP dX5_hasText_1 ?_
  refine lv_bipush (v := nI 115) hx hb dX5_hasText_4 rfl ?_
  refine lv_bipush (v := nI 125) hx hb dX5_hasText_6 rfl ?_
  refine lv_iload_n hx hb dX5_hasText_8 rfl (hl.at rfl) ?_
  refine l_mulN hx hb dX5_hasText_9 ?_
  refine l_addN hx hb dX5_hasText_10 ?_
  refine m_ld 0 _ (by decide) hC hK hP (rfl) (show _ < 449 by omega) dX5_hasText_11 ?_
  refine lv_if_le (tgt := 19) hx hb dX5_hasText_12 rfl (fun c12 => ?_) (fun c12 => ?_)
  · refine lv_iconst (v := nI 0) hx hb dX5_hasText_19 rfl ?_
    refine hret ls _ _ dX5_hasText_20 (by first | exact Or.inl rfl | exact Or.inr rfl) ?_
    first | (rw [tx_at (j := 0) (n := 115 + 125 * u) hR hu (by decide) rfl] at c12; exact Or.inl ⟨rfl, Int32.not_le.mp c12⟩) | (rw [tx_at (j := 0) (n := 115 + 125 * u) hR hu (by decide) rfl] at c12; exact Or.inr ⟨rfl, Int32.not_lt.mpr c12⟩)
  · refine lv_iconst (v := nI 1) hx hb dX5_hasText_15 rfl ?_
    refine lv_goto (tgt := 20) hx hb dX5_hasText_16 rfl ?_
    refine hret ls _ _ dX5_hasText_20 (by first | exact Or.inl rfl | exact Or.inr rfl) ?_
    first | (rw [tx_at (j := 0) (n := 115 + 125 * u) hR hu (by decide) rfl] at c12; exact Or.inl ⟨rfl, Int32.not_le.mp c12⟩) | (rw [tx_at (j := 0) (n := 115 + 125 * u) hR hu (by decide) rfl] at c12; exact Or.inr ⟨rfl, Int32.not_lt.mpr c12⟩)
theorem cs_X5_176 : CS RX5 176 yX5_joined cX5_joined 3 (some .int) 3 := ⟨lw_S q1485 q1486 q88 q1487, by decide +kernel⟩
theorem met_worked {l : Launch} {D : va_G} {cA : Nat → ClassId} {b : Nat} {σ : Nat → Nat → Int32} {S : Sta} {x : Int32} {u : Nat} (nm : Nat → Int32) (hR : RM (σ 0) S) (hT : TOK u (S (12 + u))) (h0 : 0 < S (12 + u) 0) (hnm : ∀ c, okc u c → σ 5 c = nm c) (hx1 : x = nI u) (hu : u < 2) : MI l D cA b yX5_worked cX5_worked 7 (some .int) (1) [.ref b, .int x] σ (fun r τ => r = sp_work (S (12 + u)) nm ∧ Kp [6] σ τ) := by
  refine Ci.of rfl (by decide +kernel) (Nat.le_of_ble_eq_true rfl) ?_
  intro p e s m args below meth c Q hC hK hP hret ls hl
  have hx := hC.1
  have hb := hC.2.1
  have hown := hC.2.2.2.1
  have hts := hC.2.2.2.2
  have hS : va_S (mA b) s.heap s.heap [] := va_S.rf
  subst hx1
  obtain ⟨N, hN, eN, hok, hlast⟩ := hT
  have hN0 : 0 < N := by rcases Nat.eq_zero_or_pos N with z | z; (rw [eN, z] at h0; exact absurd h0 (by decide)); exact z
  refine lv_bipush (v := nI 115) hx hb dX5_worked_0 rfl ?_
  refine lv_bipush (v := nI 125) hx hb dX5_worked_2 rfl ?_
  refine lv_iload_n hx hb dX5_worked_4 rfl (hl.at rfl) ?_
  refine l_mulN hx hb dX5_worked_5 ?_
  refine l_addN hx hb dX5_worked_6 ?_
  refine l_istore_n hx hb 2 dX5_worked_7 rfl hl rfl (fun ls hl => ?_)
  refine lv_iconst (v := nI 0) hx hb dX5_worked_8 rfl ?_
  refine l_istore_n hx hb 3 dX5_worked_9 rfl hl rfl (fun ls hl => ?_)
  refine lv_iconst (v := nI 0) hx hb dX5_worked_10 rfl ?_
  refine l_istore hx hb 4 dX5_worked_11 hl rfl (fun ls hl => ?_)
  have loop : ∀ (n k dd : Nat) (τ : Sta), k ≤ N → N + 1 ≤ k + n → dd = dep (S (12 + u)) k → Kp [6] σ τ → (∀ j, j < dd → τ 6 j = evp (S (12 + u)) nm k j) → ∀ (H : Heap) (locs : List Loc) (ls : Array Slot), MWP D cA b τ H → va_S (mA b) s.heap H locs → lh ls [some (.ref b), some (.int (nI u)), some (.int (nI (115 + 125 * u))), some (.int (nI dd)), some (.int (nI k)), none, none] → W p l e (rmG 1 0 0) s m args below meth c H locs 0 0 Q (F0 m 13 ls []) := by
    intro n
    induction n with
    | zero => intro k dd τ h1 h2; exact absurd h2 (by omega)
    | succ n ih =>
      intro k dd τ h1 h2 hdd hk hag H locs ls hP hS hl
      have h0 : τ 0 = σ 0 := hk 0 (by decide)
      have hdk := dep_le (f := S (12 + u)) k
      refine lv_iload hx hb dX5_worked_13 (hl.at rfl) ?_
      refine lv_aload_n hx hb dX5_worked_15 rfl (hl.at rfl) ?_
      refine mg_s hC hK hP dX5_worked_16 ?_
      refine lv_iload_n hx hb dX5_worked_19 rfl (hl.at rfl) ?_
      refine m_ld 0 _ (by decide) hC hK hP (rfl) (show _ < 449 by omega) dX5_worked_20 ?_
      refine l_top _ ((tx_at (j := 0) (h0 ▸ hR) hu (by decide) rfl).trans eN) ?_
      refine l_geN hx hb 163 dX5_worked_21 rfl (by omega) (by omega) (fun c21 => ?_) (fun c21 => ?_)
      · have e5 : k = N := by omega
        have hl1 := hlast hN0
        rw [← e5, ← hdd] at hl1
        refine lv_aload_n hx hb dX5_worked_163 rfl (hl.at rfl) ?_
        refine mg_pile hC hK hP dX5_worked_164 ?_
        refine lv_iconst (v := nI 0) hx hb dX5_worked_167 rfl ?_
        refine m_ld 6 _ (by decide) hC hK hP (rfl) (show _ < 64 by omega) dX5_worked_168 ?_
        refine hret _ _ ls _ _ _ hP hS dX5_worked_169 ?_
        exact ⟨by rw [hag 0 (by omega), e5, sp_work, eN, cn_nI (by omega)], hk⟩
      · refine lv_aload_n hx hb dX5_worked_24 rfl (hl.at rfl) ?_
        refine mg_s hC hK hP dX5_worked_25 ?_
        refine lv_iload_n hx hb dX5_worked_28 rfl (hl.at rfl) ?_
        refine lv_iconst (v := nI 1) hx hb dX5_worked_29 rfl ?_
        refine l_addN hx hb dX5_worked_30 ?_
        refine lv_iconst (v := nI 2) hx hb dX5_worked_31 rfl ?_
        refine lv_iload hx hb dX5_worked_32 (hl.at rfl) ?_
        refine l_mulN hx hb dX5_worked_34 ?_
        refine l_addN hx hb dX5_worked_35 ?_
        refine m_ld 0 _ (by decide) hC hK hP (rfl) (show _ < 449 by omega) dX5_worked_36 ?_
        rcases hok k (by omega) with ⟨e1, hbd⟩ | ⟨e1, c0, ho, e2⟩ | ⟨e1, hd0⟩ | ⟨e1, hd0, c0, hs0, e2⟩
        · refine l_top _ ((tx_at (j := 1 + 2 * k) (h0 ▸ hR) hu (by omega) (by omega)).trans e1) ?_
          refine l_istore hx hb 5 dX5_worked_37 hl rfl (fun ls hl => ?_)
          refine lv_aload_n hx hb dX5_worked_39 rfl (hl.at rfl) ?_
          refine mg_s hC hK hP dX5_worked_40 ?_
          refine lv_iload_n hx hb dX5_worked_43 rfl (hl.at rfl) ?_
          refine lv_iconst (v := nI 2) hx hb dX5_worked_44 rfl ?_
          refine l_addN hx hb dX5_worked_45 ?_
          refine lv_iconst (v := nI 2) hx hb dX5_worked_46 rfl ?_
          refine lv_iload hx hb dX5_worked_47 (hl.at rfl) ?_
          refine l_mulN hx hb dX5_worked_49 ?_
          refine l_addN hx hb dX5_worked_50 ?_
          refine m_ld 0 _ (by decide) hC hK hP (rfl) (show _ < 449 by omega) dX5_worked_51 ?_
          refine l_top _ (tx_at (j := 2 + 2 * k) (h0 ▸ hR) hu (by omega) (by omega)) ?_
          refine l_istore hx hb 6 dX5_worked_52 hl rfl (fun ls hl => ?_)
          refine lv_iload hx hb dX5_worked_54 (hl.at rfl) ?_
          refine lv_if_eq (tgt := 65) hx hb dX5_worked_56 rfl (fun _ => ?_) (fun z => absurd (by decide) z)
          refine lv_aload_n hx hb dX5_worked_65 rfl (hl.at rfl) ?_
          refine mg_pile hC hK hP dX5_worked_66 ?_
          refine lv_iload_n hx hb dX5_worked_69 rfl (hl.at rfl) ?_
          refine lv_iload hx hb dX5_worked_70 (hl.at rfl) ?_
          refine lv_if_ne (tgt := 80) hx hb dX5_worked_72 rfl (fun z => absurd rfl z) (fun _ => ?_)
          refine lv_iload hx hb dX5_worked_75 (hl.at rfl) ?_
          refine lv_goto (tgt := 87) hx hb dX5_worked_77 rfl ?_
          refine m_st 6 _ (by decide) hC hK hP hS (rfl) (show _ < 64 by omega) dX5_worked_87 (fun H locs hP hS => ?_)
          refine l_inc1 hx hb 3 dX5_worked_88 hl rfl rfl (fun ls hl => ?_)
          refine lv_goto (tgt := 157) hx hb dX5_worked_91 rfl ?_
          refine l_inc1 hx hb 4 dX5_worked_157 hl rfl rfl (fun ls hl => ?_)
          refine lv_goto (tgt := 13) hx hb dX5_worked_160 rfl ?_
          exact ih (k + 1) (dd + 1) _ (by omega) (by omega) (by rw [hdd]; exact (evp_0 (nm := nm) e1).2.symm) (hk.up (by decide)) (by rw [up1_s, (evp_0 e1).1, ← hdd]; exact ag_up hag (Or.inr ⟨rfl, rfl⟩)) _ _ _ hP hS (hl.mask [true, true, true, true, true, false, false])
        · have hc := okc_lt ho
          refine l_top _ ((tx_at (j := 1 + 2 * k) (h0 ▸ hR) hu (by omega) (by omega)).trans e1) ?_
          refine l_istore hx hb 5 dX5_worked_37 hl rfl (fun ls hl => ?_)
          refine lv_aload_n hx hb dX5_worked_39 rfl (hl.at rfl) ?_
          refine mg_s hC hK hP dX5_worked_40 ?_
          refine lv_iload_n hx hb dX5_worked_43 rfl (hl.at rfl) ?_
          refine lv_iconst (v := nI 2) hx hb dX5_worked_44 rfl ?_
          refine l_addN hx hb dX5_worked_45 ?_
          refine lv_iconst (v := nI 2) hx hb dX5_worked_46 rfl ?_
          refine lv_iload hx hb dX5_worked_47 (hl.at rfl) ?_
          refine l_mulN hx hb dX5_worked_49 ?_
          refine l_addN hx hb dX5_worked_50 ?_
          refine m_ld 0 _ (by decide) hC hK hP (rfl) (show _ < 449 by omega) dX5_worked_51 ?_
          refine l_top _ ((tx_at (j := 2 + 2 * k) (h0 ▸ hR) hu (by omega) (by omega)).trans e2) ?_
          refine l_istore hx hb 6 dX5_worked_52 hl rfl (fun ls hl => ?_)
          refine lv_iload hx hb dX5_worked_54 (hl.at rfl) ?_
          refine lv_if_eq (tgt := 65) hx hb dX5_worked_56 rfl (fun z => absurd z (by decide)) (fun _ => ?_)
          refine lv_iload hx hb dX5_worked_59 (hl.at rfl) ?_
          refine lv_iconst (v := nI 1) hx hb dX5_worked_61 rfl ?_
          refine lv_icmp_ne (tgt := 94) hx hb dX5_worked_62 rfl (fun z => absurd rfl z) (fun _ => ?_)
          refine lv_aload_n hx hb dX5_worked_65 rfl (hl.at rfl) ?_
          refine mg_pile hC hK hP dX5_worked_66 ?_
          refine lv_iload_n hx hb dX5_worked_69 rfl (hl.at rfl) ?_
          refine lv_iload hx hb dX5_worked_70 (hl.at rfl) ?_
          refine lv_if_ne (tgt := 80) hx hb dX5_worked_72 rfl (fun _ => ?_) (fun z => absurd z (by decide))
          refine lv_aload_n hx hb dX5_worked_80 rfl (hl.at rfl) ?_
          refine mg_named hC hK hP dX5_worked_81 ?_
          refine lv_iload hx hb dX5_worked_84 (hl.at rfl) ?_
          refine m_ld 5 _ (by decide) hC hK hP (rfl) (show _ < 128 by omega) dX5_worked_86 ?_
          refine m_st 6 _ (by decide) hC hK hP hS (rfl) (show _ < 64 by omega) dX5_worked_87 (fun H locs hP hS => ?_)
          refine l_inc1 hx hb 3 dX5_worked_88 hl rfl rfl (fun ls hl => ?_)
          refine lv_goto (tgt := 157) hx hb dX5_worked_91 rfl ?_
          refine l_inc1 hx hb 4 dX5_worked_157 hl rfl rfl (fun ls hl => ?_)
          refine lv_goto (tgt := 13) hx hb dX5_worked_160 rfl ?_
          exact ih (k + 1) (dd + 1) _ (by omega) (by omega) (by rw [hdd]; exact (evp_1 (nm := nm) e1).2.symm) (hk.up (by decide)) (by rw [up1_s, (evp_1 e1).1, ← hdd, hk 5 (by decide), hnm c0 ho, show S (12 + u) (2 + 2 * k) = nI c0 from e2, cn_nI (by omega)]; exact ag_up hag (Or.inr ⟨rfl, rfl⟩)) _ _ _ hP hS (hl.mask [true, true, true, true, true, false, false])
        · refine l_top _ ((tx_at (j := 1 + 2 * k) (h0 ▸ hR) hu (by omega) (by omega)).trans e1) ?_
          refine l_istore hx hb 5 dX5_worked_37 hl rfl (fun ls hl => ?_)
          refine lv_aload_n hx hb dX5_worked_39 rfl (hl.at rfl) ?_
          refine mg_s hC hK hP dX5_worked_40 ?_
          refine lv_iload_n hx hb dX5_worked_43 rfl (hl.at rfl) ?_
          refine lv_iconst (v := nI 2) hx hb dX5_worked_44 rfl ?_
          refine l_addN hx hb dX5_worked_45 ?_
          refine lv_iconst (v := nI 2) hx hb dX5_worked_46 rfl ?_
          refine lv_iload hx hb dX5_worked_47 (hl.at rfl) ?_
          refine l_mulN hx hb dX5_worked_49 ?_
          refine l_addN hx hb dX5_worked_50 ?_
          refine m_ld 0 _ (by decide) hC hK hP (rfl) (show _ < 449 by omega) dX5_worked_51 ?_
          refine l_istore hx hb 6 dX5_worked_52 hl rfl (fun ls hl => ?_)
          refine lv_iload hx hb dX5_worked_54 (hl.at rfl) ?_
          refine lv_if_eq (tgt := 65) hx hb dX5_worked_56 rfl (fun z => absurd z (by decide)) (fun _ => ?_)
          refine lv_iload hx hb dX5_worked_59 (hl.at rfl) ?_
          refine lv_iconst (v := nI 1) hx hb dX5_worked_61 rfl ?_
          refine lv_icmp_ne (tgt := 94) hx hb dX5_worked_62 rfl (fun _ => ?_) (fun z => absurd z (by decide))
          refine lv_iload hx hb dX5_worked_94 (hl.at rfl) ?_
          refine lv_iconst (v := nI 2) hx hb dX5_worked_96 rfl ?_
          refine lv_icmp_ne (tgt := 127) hx hb dX5_worked_97 rfl (fun z => absurd rfl z) (fun _ => ?_)
          refine lv_aload_n hx hb dX5_worked_100 rfl (hl.at rfl) ?_
          refine mg_pile hC hK hP dX5_worked_101 ?_
          refine lv_iload_n hx hb dX5_worked_104 rfl (hl.at rfl) ?_
          refine lv_iconst (v := nI 1) hx hb dX5_worked_105 rfl ?_
          refine l_subN hx hb dX5_worked_106 (by omega) ?_
          refine lv_aload_n hx hb dX5_worked_107 rfl (hl.at rfl) ?_
          refine mg_pile hC hK hP dX5_worked_108 ?_
          refine lv_iload_n hx hb dX5_worked_111 rfl (hl.at rfl) ?_
          refine lv_iconst (v := nI 1) hx hb dX5_worked_112 rfl ?_
          refine l_subN hx hb dX5_worked_113 (by omega) ?_
          refine m_ld 6 _ (by decide) hC hK hP (rfl) (show _ < 64 by omega) dX5_worked_114 ?_
          refine lv_if_ne (tgt := 122) hx hb dX5_worked_115 rfl (fun c115 => ?_) (fun c115 => ?_)
          · refine lv_iconst (v := nI 0) hx hb dX5_worked_122 rfl ?_
            refine m_st 6 _ (by decide) hC hK hP hS (rfl) (show _ < 64 by omega) dX5_worked_123 (fun H locs hP hS => ?_)
            refine lv_goto (tgt := 157) hx hb dX5_worked_124 rfl ?_
            refine l_inc1 hx hb 4 dX5_worked_157 hl rfl rfl (fun ls hl => ?_)
            refine lv_goto (tgt := 13) hx hb dX5_worked_160 rfl ?_
            first | exact ih (k + 1) dd _ (by omega) (by omega) (by rw [hdd]; exact (evp_2 (nm := nm) e1).2.symm) (hk.up (by decide)) (by rw [up1_s, (evp_2 e1).1, ← hdd, if_pos (by rw [← hag (dd - 1) (by omega)]; exact c115)]; exact ag_up hag (Or.inl (Nat.le_refl _))) _ _ _ hP hS (hl.mask [true, true, true, true, true, false, false]) | exact ih (k + 1) dd _ (by omega) (by omega) (by rw [hdd]; exact (evp_2 (nm := nm) e1).2.symm) (hk.up (by decide)) (by rw [up1_s, (evp_2 e1).1, ← hdd, if_neg (by rw [← hag (dd - 1) (by omega)]; exact c115)]; exact ag_up hag (Or.inl (Nat.le_refl _))) _ _ _ hP hS (hl.mask [true, true, true, true, true, false, false])
          · refine lv_iconst (v := nI 1) hx hb dX5_worked_118 rfl ?_
            refine lv_goto (tgt := 123) hx hb dX5_worked_119 rfl ?_
            refine m_st 6 _ (by decide) hC hK hP hS (rfl) (show _ < 64 by omega) dX5_worked_123 (fun H locs hP hS => ?_)
            refine lv_goto (tgt := 157) hx hb dX5_worked_124 rfl ?_
            refine l_inc1 hx hb 4 dX5_worked_157 hl rfl rfl (fun ls hl => ?_)
            refine lv_goto (tgt := 13) hx hb dX5_worked_160 rfl ?_
            first | exact ih (k + 1) dd _ (by omega) (by omega) (by rw [hdd]; exact (evp_2 (nm := nm) e1).2.symm) (hk.up (by decide)) (by rw [up1_s, (evp_2 e1).1, ← hdd, if_pos (by rw [← hag (dd - 1) (by omega)]; exact c115)]; exact ag_up hag (Or.inl (Nat.le_refl _))) _ _ _ hP hS (hl.mask [true, true, true, true, true, false, false]) | exact ih (k + 1) dd _ (by omega) (by omega) (by rw [hdd]; exact (evp_2 (nm := nm) e1).2.symm) (hk.up (by decide)) (by rw [up1_s, (evp_2 e1).1, ← hdd, if_neg (by rw [← hag (dd - 1) (by omega)]; exact c115)]; exact ag_up hag (Or.inl (Nat.le_refl _))) _ _ _ hP hS (hl.mask [true, true, true, true, true, false, false])
        · refine l_top _ ((tx_at (j := 1 + 2 * k) (h0 ▸ hR) hu (by omega) (by omega)).trans e1) ?_
          refine l_istore hx hb 5 dX5_worked_37 hl rfl (fun ls hl => ?_)
          refine lv_aload_n hx hb dX5_worked_39 rfl (hl.at rfl) ?_
          refine mg_s hC hK hP dX5_worked_40 ?_
          refine lv_iload_n hx hb dX5_worked_43 rfl (hl.at rfl) ?_
          refine lv_iconst (v := nI 2) hx hb dX5_worked_44 rfl ?_
          refine l_addN hx hb dX5_worked_45 ?_
          refine lv_iconst (v := nI 2) hx hb dX5_worked_46 rfl ?_
          refine lv_iload hx hb dX5_worked_47 (hl.at rfl) ?_
          refine l_mulN hx hb dX5_worked_49 ?_
          refine l_addN hx hb dX5_worked_50 ?_
          refine m_ld 0 _ (by decide) hC hK hP (rfl) (show _ < 449 by omega) dX5_worked_51 ?_
          refine l_top _ ((tx_at (j := 2 + 2 * k) (h0 ▸ hR) hu (by omega) (by omega)).trans e2) ?_
          refine l_istore hx hb 6 dX5_worked_52 hl rfl (fun ls hl => ?_)
          refine lv_iload hx hb dX5_worked_54 (hl.at rfl) ?_
          refine lv_if_eq (tgt := 65) hx hb dX5_worked_56 rfl (fun z => absurd z (by decide)) (fun _ => ?_)
          refine lv_iload hx hb dX5_worked_59 (hl.at rfl) ?_
          refine lv_iconst (v := nI 1) hx hb dX5_worked_61 rfl ?_
          refine lv_icmp_ne (tgt := 94) hx hb dX5_worked_62 rfl (fun _ => ?_) (fun z => absurd z (by decide))
          refine lv_iload hx hb dX5_worked_94 (hl.at rfl) ?_
          refine lv_iconst (v := nI 2) hx hb dX5_worked_96 rfl ?_
          refine lv_icmp_ne (tgt := 127) hx hb dX5_worked_97 rfl (fun _ => ?_) (fun z => absurd z (by decide))
          refine l_dec1 hx hb 3 dX5_worked_127 hl rfl (by omega) rfl (fun ls hl => ?_)
          refine lv_aload_n hx hb dX5_worked_130 rfl (hl.at rfl) ?_
          refine mg_pile hC hK hP dX5_worked_131 ?_
          refine lv_iload_n hx hb dX5_worked_134 rfl (hl.at rfl) ?_
          refine lv_iconst (v := nI 1) hx hb dX5_worked_135 rfl ?_
          refine l_subN hx hb dX5_worked_136 (by omega) ?_
          refine lv_iload hx hb dX5_worked_137 (hl.at rfl) ?_
          refine lv_aload_n hx hb dX5_worked_139 rfl (hl.at rfl) ?_
          refine mg_pile hC hK hP dX5_worked_140 ?_
          refine lv_iload_n hx hb dX5_worked_143 rfl (hl.at rfl) ?_
          refine lv_iconst (v := nI 1) hx hb dX5_worked_144 rfl ?_
          refine l_subN hx hb dX5_worked_145 (by omega) ?_
          refine m_ld 6 _ (by decide) hC hK hP (rfl) (show _ < 64 by omega) dX5_worked_146 ?_
          refine lv_aload_n hx hb dX5_worked_147 rfl (hl.at rfl) ?_
          refine mg_pile hC hK hP dX5_worked_148 ?_
          refine lv_iload_n hx hb dX5_worked_151 rfl (hl.at rfl) ?_
          refine m_ld 6 _ (by decide) hC hK hP (rfl) (show _ < 64 by omega) dX5_worked_152 ?_
          refine m_sS hC (met_joined rfl hs0) cs_X5_176 rfl rfl hl.1 (Nat.le_of_ble_eq_true rfl) dX5_worked_153 (by decide) (by decide) (fun r153 p153 => ?_)
          refine m_st 6 _ (by decide) hC hK hP hS (rfl) (show _ < 64 by omega) dX5_worked_156 (fun H locs hP hS => ?_)
          refine l_inc1 hx hb 4 dX5_worked_157 hl rfl rfl (fun ls hl => ?_)
          refine lv_goto (tgt := 13) hx hb dX5_worked_160 rfl ?_
          exact ih (k + 1) (dd - 1) _ (by omega) (by omega) (by rw [hdd]; exact (evp_3 (nm := nm) e1).2.symm) (hk.up (by decide)) (by rw [up1_s, (evp_3 e1).1, ← hdd, show S (12 + u) (2 + 2 * k) = nI c0 from e2, ← hag (dd - 1) (by omega), ← hag (dd - 2) (by omega), p153]; exact ag_up hag (Or.inl (by omega))) _ _ _ hP hS (hl.mask [true, true, true, true, true, false, false])
  exact loop (N + 1) 0 0 σ (Nat.zero_le _) (by omega) rfl Kp.rf (fun j hj => absurd hj (by omega)) _ _ _ hP hS hl
