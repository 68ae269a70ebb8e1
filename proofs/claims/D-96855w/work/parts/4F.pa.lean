/-! a wheel's parts; joins -/
theorem dv_m1 (x : Int32) : x / (-1) = -x := by
  apply Int32.toBitVec_inj.mp
  rw [Int32.toBitVec_div]
  show x.toBitVec.sdiv (-1#32) = -x.toBitVec
  rw [BitVec.sdiv_neg (by decide), BitVec.sdiv_one]
theorem vqv_d {S : Sta} {w : Nat} {x : Int32} (h : vqb S w ≠ 0) : vqv S w x = x / vqb S w := by
  rw [vqv, if_neg h]
  by_cases h1 : vqb S w = -1
  · rw [if_pos h1, h1, dv_m1]
  · rw [if_neg h1]
