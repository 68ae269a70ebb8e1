/-! WheelBrookModel -/
set_option maxRecDepth 100000
def RX5 : String := "WheelBrookModel"
def TX5 : u_T := fun k => match k with
  | 0 => ("WheelBrookModel", "s", "[I", true)
  | 1 => ("WheelBrookModel", "kept", "[I", true)
  | 2 => ("WheelBrookModel", "put", "[I", true)
  | 3 => ("WheelBrookModel", "images", "I", false)
  | 4 => ("WheelBrookModel", "errors", "[I", true)
  | 5 => ("WheelBrookModel", "at", "I", false)
  | 6 => ("WheelBrookModel", "open", "I", false)
  | 7 => ("WheelBrookModel", "steps", "I", false)
  | 8 => ("WheelBrookModel", "use", "I", false)
  | 9 => ("WheelBrookModel", "step", "[I", true)
  | 10 => ("WheelBrookModel", "named", "[I", true)
  | 11 => ("WheelBrookModel", "pile", "[I", true)
  | 12 => ("WheelBrookModel", "flowing", "[I", true)
  | 13 => ("WheelBrookModel", "took", "[I", true)
  | 14 => ("WheelBrookModel", "lost", "I", false)
  | 15 => ("WheelBrookModel", "taken", "I", false)
  | 16 => ("WheelBrookModel", "turned", "[I", true)
  | 17 => ("WheelBrookModel", "others", "I", false)
  | 18 => ("WheelBrookModel", "own", "I", false)
  | 19 => ("WheelBrookModel", "trace", "[I", true)
  | 20 => ("WheelBrookModel", "traced", "I", false)
  | 21 => ("WheelBrookModel", "speaks", "I", false)
  | 22 => ("WheelBrookModel", "isParted", "Z", false)
  | 23 => ("WheelBrookModel", "bits", "[I", true)
  | 24 => ("WheelBrookModel", "sizes", "[I", true)
  | 25 => ("WheelBrookModel", "number", "[I", true)
  | _ => ("WheelBrookModel", "aside", "[I", true)
def tyX5 : Nat → FieldType := fun k => match k with
  | 0 => .array .int
  | 1 => .array .int
  | 2 => .array .int
  | 3 => .int
  | 4 => .array .int
  | 5 => .int
  | 6 => .int
  | 7 => .int
  | 8 => .int
  | 9 => .array .int
  | 10 => .array .int
  | 11 => .array .int
  | 12 => .array .int
  | 13 => .array .int
  | 14 => .int
  | 15 => .int
  | 16 => .array .int
  | 17 => .int
  | 18 => .int
  | 19 => .array .int
  | 20 => .int
  | 21 => .int
  | 22 => .boolean
  | 23 => .array .int
  | 24 => .array .int
  | 25 => .array .int
  | _ => .array .int
abbrev wsX50 : List Cond := u_ws RX5 TX5 27
set_option maxRecDepth 100000 in
theorem nmX5 : ∀ a, a < 27 → ∀ b, b < 27 → a ≠ b → (TX5 a).2.1 ≠ (TX5 b).2.1 := by decide +kernel
set_option maxRecDepth 100000 in
theorem tyX5_ok : ∀ k, k < 27 → parseFieldDescriptor (TX5 k).2.2.1 = some (tyX5 k) := by decide +kernel
abbrev cX5_init : ByteArray := prog_20_method_1_code
def yX5_init : MethodName := ⟨RX5, "<init>", "()V"⟩
def dkwX5_init_6 : List UInt8 := [162, 0, 20, 42, 180, 0, 7, 16, 6, 27, 96, 16, 30, 79, 132, 1, 1, 167, 255, 236, 177]
abbrev dktX5_init_6 : List UInt8 := dkwX5_init_6 ++ []
def dkwX5_init_5 : List UInt8 := [181, 0, 49, 42, 16, 24, 188, 10, 181, 0, 52, 42, 180, 0, 7, 8, 4, 79, 3, 60, 27, 16, 24]
abbrev dktX5_init_5 : List UInt8 := dkwX5_init_5 ++ dktX5_init_6
def dkwX5_init_4 : List UInt8 := [181, 0, 40, 42, 7, 188, 10, 181, 0, 43, 42, 7, 188, 10, 181, 0, 46, 42, 16, 96, 188, 10]
abbrev dktX5_init_4 : List UInt8 := dkwX5_init_4 ++ dktX5_init_5
def dkwX5_init_3 : List UInt8 := [181, 0, 31, 42, 16, 9, 188, 10, 181, 0, 34, 42, 16, 9, 188, 10, 181, 0, 37, 42, 16, 30, 188, 10]
abbrev dktX5_init_3 : List UInt8 := dkwX5_init_3 ++ dktX5_init_4
def dkwX5_init_2 : List UInt8 := [42, 17, 0, 128, 188, 10, 181, 0, 25, 42, 16, 64, 188, 10, 181, 0, 28, 42, 16, 13, 188, 10]
abbrev dktX5_init_2 : List UInt8 := dkwX5_init_2 ++ dktX5_init_3
def dkwX5_init_1 : List UInt8 := [17, 1, 193, 188, 10, 181, 0, 16, 42, 16, 7, 188, 10, 181, 0, 19, 42, 16, 124, 188, 10, 181, 0, 22]
abbrev dktX5_init_1 : List UInt8 := dkwX5_init_1 ++ dktX5_init_2
def dkwX5_init_0 : List UInt8 := [42, 183, 0, 1, 42, 17, 1, 193, 188, 10, 181, 0, 7, 42, 17, 1, 193, 188, 10, 181, 0, 13, 42]
abbrev dktX5_init_0 : List UInt8 := dkwX5_init_0 ++ dktX5_init_1
theorem dksX5_init_0 : cX5_init.data.toList.drop 0 = dktX5_init_0 := by decide +kernel
theorem dksX5_init_1 : cX5_init.data.toList.drop 23 = dktX5_init_1 := dk_seg dksX5_init_0 23 rfl rfl
theorem dksX5_init_2 : cX5_init.data.toList.drop 47 = dktX5_init_2 := dk_seg dksX5_init_1 24 rfl rfl
theorem dksX5_init_3 : cX5_init.data.toList.drop 69 = dktX5_init_3 := dk_seg dksX5_init_2 22 rfl rfl
theorem dksX5_init_4 : cX5_init.data.toList.drop 93 = dktX5_init_4 := dk_seg dksX5_init_3 24 rfl rfl
theorem dksX5_init_5 : cX5_init.data.toList.drop 115 = dktX5_init_5 := dk_seg dksX5_init_4 22 rfl rfl
theorem dksX5_init_6 : cX5_init.data.toList.drop 138 = dktX5_init_6 := dk_seg dksX5_init_5 23 rfl rfl
theorem dX5_init_0 : decode cX5_init 0 = .ok (.aload_n 0, 1) := dk_42 (dk_at dksX5_init_0 0 rfl rfl)
theorem dX5_init_1 : decode cX5_init 1 = .ok (.invokespecial 1, 3) := dk_183 0 1 (dk_at dksX5_init_0 1 rfl rfl)
theorem dX5_init_4 : decode cX5_init 4 = .ok (.aload_n 0, 1) := dk_42 (dk_at dksX5_init_0 4 rfl rfl)
theorem dX5_init_5 : decode cX5_init 5 = .ok (.sipush 449, 3) := dk_17 1 193 (dk_at dksX5_init_0 5 rfl rfl)
theorem dX5_init_8 : decode cX5_init 8 = .ok (.newarray .int, 2) := dk_188_10 (dk_at dksX5_init_0 8 rfl rfl)
theorem dX5_init_10 : decode cX5_init 10 = .ok (.putfield 7, 3) := dk_181 0 7 (dk_at dksX5_init_0 10 rfl rfl)
theorem dX5_init_13 : decode cX5_init 13 = .ok (.aload_n 0, 1) := dk_42 (dk_at dksX5_init_0 13 rfl rfl)
theorem dX5_init_14 : decode cX5_init 14 = .ok (.sipush 449, 3) := dk_17 1 193 (dk_at dksX5_init_0 14 rfl rfl)
theorem dX5_init_17 : decode cX5_init 17 = .ok (.newarray .int, 2) := dk_188_10 (dk_at dksX5_init_0 17 rfl rfl)
theorem dX5_init_19 : decode cX5_init 19 = .ok (.putfield 13, 3) := dk_181 0 13 (dk_at dksX5_init_0 19 rfl rfl)
theorem dX5_init_22 : decode cX5_init 22 = .ok (.aload_n 0, 1) := dk_42 (dk_at dksX5_init_0 22 rfl rfl)
theorem dX5_init_23 : decode cX5_init 23 = .ok (.sipush 449, 3) := dk_17 1 193 (dk_at dksX5_init_1 0 rfl rfl)
theorem dX5_init_26 : decode cX5_init 26 = .ok (.newarray .int, 2) := dk_188_10 (dk_at dksX5_init_1 3 rfl rfl)
theorem dX5_init_28 : decode cX5_init 28 = .ok (.putfield 16, 3) := dk_181 0 16 (dk_at dksX5_init_1 5 rfl rfl)
theorem dX5_init_31 : decode cX5_init 31 = .ok (.aload_n 0, 1) := dk_42 (dk_at dksX5_init_1 8 rfl rfl)
theorem dX5_init_32 : decode cX5_init 32 = .ok (.bipush 7, 2) := dk_16 7 (dk_at dksX5_init_1 9 rfl rfl)
theorem dX5_init_34 : decode cX5_init 34 = .ok (.newarray .int, 2) := dk_188_10 (dk_at dksX5_init_1 11 rfl rfl)
theorem dX5_init_36 : decode cX5_init 36 = .ok (.putfield 19, 3) := dk_181 0 19 (dk_at dksX5_init_1 13 rfl rfl)
theorem dX5_init_39 : decode cX5_init 39 = .ok (.aload_n 0, 1) := dk_42 (dk_at dksX5_init_1 16 rfl rfl)
theorem dX5_init_40 : decode cX5_init 40 = .ok (.bipush 124, 2) := dk_16 124 (dk_at dksX5_init_1 17 rfl rfl)
theorem dX5_init_42 : decode cX5_init 42 = .ok (.newarray .int, 2) := dk_188_10 (dk_at dksX5_init_1 19 rfl rfl)
theorem dX5_init_44 : decode cX5_init 44 = .ok (.putfield 22, 3) := dk_181 0 22 (dk_at dksX5_init_1 21 rfl rfl)
theorem dX5_init_47 : decode cX5_init 47 = .ok (.aload_n 0, 1) := dk_42 (dk_at dksX5_init_2 0 rfl rfl)
theorem dX5_init_48 : decode cX5_init 48 = .ok (.sipush 128, 3) := dk_17 0 128 (dk_at dksX5_init_2 1 rfl rfl)
theorem dX5_init_51 : decode cX5_init 51 = .ok (.newarray .int, 2) := dk_188_10 (dk_at dksX5_init_2 4 rfl rfl)
theorem dX5_init_53 : decode cX5_init 53 = .ok (.putfield 25, 3) := dk_181 0 25 (dk_at dksX5_init_2 6 rfl rfl)
theorem dX5_init_56 : decode cX5_init 56 = .ok (.aload_n 0, 1) := dk_42 (dk_at dksX5_init_2 9 rfl rfl)
theorem dX5_init_57 : decode cX5_init 57 = .ok (.bipush 64, 2) := dk_16 64 (dk_at dksX5_init_2 10 rfl rfl)
theorem dX5_init_59 : decode cX5_init 59 = .ok (.newarray .int, 2) := dk_188_10 (dk_at dksX5_init_2 12 rfl rfl)
theorem dX5_init_61 : decode cX5_init 61 = .ok (.putfield 28, 3) := dk_181 0 28 (dk_at dksX5_init_2 14 rfl rfl)
theorem dX5_init_64 : decode cX5_init 64 = .ok (.aload_n 0, 1) := dk_42 (dk_at dksX5_init_2 17 rfl rfl)
theorem dX5_init_65 : decode cX5_init 65 = .ok (.bipush 13, 2) := dk_16 13 (dk_at dksX5_init_2 18 rfl rfl)
theorem dX5_init_67 : decode cX5_init 67 = .ok (.newarray .int, 2) := dk_188_10 (dk_at dksX5_init_2 20 rfl rfl)
theorem dX5_init_69 : decode cX5_init 69 = .ok (.putfield 31, 3) := dk_181 0 31 (dk_at dksX5_init_3 0 rfl rfl)
theorem dX5_init_72 : decode cX5_init 72 = .ok (.aload_n 0, 1) := dk_42 (dk_at dksX5_init_3 3 rfl rfl)
theorem dX5_init_73 : decode cX5_init 73 = .ok (.bipush 9, 2) := dk_16 9 (dk_at dksX5_init_3 4 rfl rfl)
theorem dX5_init_75 : decode cX5_init 75 = .ok (.newarray .int, 2) := dk_188_10 (dk_at dksX5_init_3 6 rfl rfl)
theorem dX5_init_77 : decode cX5_init 77 = .ok (.putfield 34, 3) := dk_181 0 34 (dk_at dksX5_init_3 8 rfl rfl)
theorem dX5_init_80 : decode cX5_init 80 = .ok (.aload_n 0, 1) := dk_42 (dk_at dksX5_init_3 11 rfl rfl)
theorem dX5_init_81 : decode cX5_init 81 = .ok (.bipush 9, 2) := dk_16 9 (dk_at dksX5_init_3 12 rfl rfl)
theorem dX5_init_83 : decode cX5_init 83 = .ok (.newarray .int, 2) := dk_188_10 (dk_at dksX5_init_3 14 rfl rfl)
theorem dX5_init_85 : decode cX5_init 85 = .ok (.putfield 37, 3) := dk_181 0 37 (dk_at dksX5_init_3 16 rfl rfl)
theorem dX5_init_88 : decode cX5_init 88 = .ok (.aload_n 0, 1) := dk_42 (dk_at dksX5_init_3 19 rfl rfl)
theorem dX5_init_89 : decode cX5_init 89 = .ok (.bipush 30, 2) := dk_16 30 (dk_at dksX5_init_3 20 rfl rfl)
theorem dX5_init_91 : decode cX5_init 91 = .ok (.newarray .int, 2) := dk_188_10 (dk_at dksX5_init_3 22 rfl rfl)
theorem dX5_init_93 : decode cX5_init 93 = .ok (.putfield 40, 3) := dk_181 0 40 (dk_at dksX5_init_4 0 rfl rfl)
theorem dX5_init_96 : decode cX5_init 96 = .ok (.aload_n 0, 1) := dk_42 (dk_at dksX5_init_4 3 rfl rfl)
theorem dX5_init_97 : decode cX5_init 97 = .ok (.iconst 4, 1) := dk_7 (dk_at dksX5_init_4 4 rfl rfl)
theorem dX5_init_98 : decode cX5_init 98 = .ok (.newarray .int, 2) := dk_188_10 (dk_at dksX5_init_4 5 rfl rfl)
theorem dX5_init_100 : decode cX5_init 100 = .ok (.putfield 43, 3) := dk_181 0 43 (dk_at dksX5_init_4 7 rfl rfl)
theorem dX5_init_103 : decode cX5_init 103 = .ok (.aload_n 0, 1) := dk_42 (dk_at dksX5_init_4 10 rfl rfl)
theorem dX5_init_104 : decode cX5_init 104 = .ok (.iconst 4, 1) := dk_7 (dk_at dksX5_init_4 11 rfl rfl)
theorem dX5_init_105 : decode cX5_init 105 = .ok (.newarray .int, 2) := dk_188_10 (dk_at dksX5_init_4 12 rfl rfl)
theorem dX5_init_107 : decode cX5_init 107 = .ok (.putfield 46, 3) := dk_181 0 46 (dk_at dksX5_init_4 14 rfl rfl)
theorem dX5_init_110 : decode cX5_init 110 = .ok (.aload_n 0, 1) := dk_42 (dk_at dksX5_init_4 17 rfl rfl)
theorem dX5_init_111 : decode cX5_init 111 = .ok (.bipush 96, 2) := dk_16 96 (dk_at dksX5_init_4 18 rfl rfl)
theorem dX5_init_113 : decode cX5_init 113 = .ok (.newarray .int, 2) := dk_188_10 (dk_at dksX5_init_4 20 rfl rfl)
theorem dX5_init_115 : decode cX5_init 115 = .ok (.putfield 49, 3) := dk_181 0 49 (dk_at dksX5_init_5 0 rfl rfl)
theorem dX5_init_118 : decode cX5_init 118 = .ok (.aload_n 0, 1) := dk_42 (dk_at dksX5_init_5 3 rfl rfl)
theorem dX5_init_119 : decode cX5_init 119 = .ok (.bipush 24, 2) := dk_16 24 (dk_at dksX5_init_5 4 rfl rfl)
theorem dX5_init_121 : decode cX5_init 121 = .ok (.newarray .int, 2) := dk_188_10 (dk_at dksX5_init_5 6 rfl rfl)
theorem dX5_init_123 : decode cX5_init 123 = .ok (.putfield 52, 3) := dk_181 0 52 (dk_at dksX5_init_5 8 rfl rfl)
theorem dX5_init_126 : decode cX5_init 126 = .ok (.aload_n 0, 1) := dk_42 (dk_at dksX5_init_5 11 rfl rfl)
theorem dX5_init_127 : decode cX5_init 127 = .ok (.getfield 7, 3) := dk_180 0 7 (dk_at dksX5_init_5 12 rfl rfl)
theorem dX5_init_130 : decode cX5_init 130 = .ok (.iconst 5, 1) := dk_8 (dk_at dksX5_init_5 15 rfl rfl)
theorem dX5_init_131 : decode cX5_init 131 = .ok (.iconst 1, 1) := dk_4 (dk_at dksX5_init_5 16 rfl rfl)
theorem dX5_init_132 : decode cX5_init 132 = .ok (.iastore, 1) := dk_79 (dk_at dksX5_init_5 17 rfl rfl)
theorem dX5_init_133 : decode cX5_init 133 = .ok (.iconst 0, 1) := dk_3 (dk_at dksX5_init_5 18 rfl rfl)
theorem dX5_init_134 : decode cX5_init 134 = .ok (.istore_n 1, 1) := dk_60 (dk_at dksX5_init_5 19 rfl rfl)
theorem dX5_init_135 : decode cX5_init 135 = .ok (.iload_n 1, 1) := dk_27 (dk_at dksX5_init_5 20 rfl rfl)
theorem dX5_init_136 : decode cX5_init 136 = .ok (.bipush 24, 2) := dk_16 24 (dk_at dksX5_init_5 21 rfl rfl)
theorem dX5_init_138 : decode cX5_init 138 = .ok (.if_icmp .ge 20, 3) := dk_162 0 20 (dk_at dksX5_init_6 0 rfl rfl)
theorem dX5_init_141 : decode cX5_init 141 = .ok (.aload_n 0, 1) := dk_42 (dk_at dksX5_init_6 3 rfl rfl)
theorem dX5_init_142 : decode cX5_init 142 = .ok (.getfield 7, 3) := dk_180 0 7 (dk_at dksX5_init_6 4 rfl rfl)
theorem dX5_init_145 : decode cX5_init 145 = .ok (.bipush 6, 2) := dk_16 6 (dk_at dksX5_init_6 7 rfl rfl)
theorem dX5_init_147 : decode cX5_init 147 = .ok (.iload_n 1, 1) := dk_27 (dk_at dksX5_init_6 9 rfl rfl)
theorem dX5_init_148 : decode cX5_init 148 = .ok (.iadd, 1) := dk_96 (dk_at dksX5_init_6 10 rfl rfl)
theorem dX5_init_149 : decode cX5_init 149 = .ok (.bipush 30, 2) := dk_16 30 (dk_at dksX5_init_6 11 rfl rfl)
theorem dX5_init_151 : decode cX5_init 151 = .ok (.iastore, 1) := dk_79 (dk_at dksX5_init_6 13 rfl rfl)
theorem dX5_init_152 : decode cX5_init 152 = .ok (.iinc 1 1, 3) := dk_132 1 1 (dk_at dksX5_init_6 14 rfl rfl)
theorem dX5_init_155 : decode cX5_init 155 = .ok (.goto (-20), 3) := dk_167 255 236 (dk_at dksX5_init_6 17 rfl rfl)
theorem dX5_init_158 : decode cX5_init 158 = .ok (.return_, 1) := dk_177 (dk_at dksX5_init_6 20 rfl rfl)
abbrev cX5_force : ByteArray := prog_20_method_17_code
def yX5_force : MethodName := ⟨RX5, "force", "(II)I"⟩
def dkwX5_force_1 : List UInt8 := [96, 28, 182, 0, 72, 167, 0, 8, 42, 4, 182, 0, 76, 172]
abbrev dktX5_force_1 : List UInt8 := dkwX5_force_1 ++ []
def dkwX5_force_0 : List UInt8 := [27, 3, 16, 23, 184, 0, 56, 153, 0, 25, 28, 3, 16, 99, 184, 0, 56, 153, 0, 15, 42, 16, 6, 27]
abbrev dktX5_force_0 : List UInt8 := dkwX5_force_0 ++ dktX5_force_1
theorem dksX5_force_0 : cX5_force.data.toList.drop 0 = dktX5_force_0 := by decide +kernel
theorem dksX5_force_1 : cX5_force.data.toList.drop 24 = dktX5_force_1 := dk_seg dksX5_force_0 24 rfl rfl
theorem dX5_force_0 : decode cX5_force 0 = .ok (.iload_n 1, 1) := dk_27 (dk_at dksX5_force_0 0 rfl rfl)
theorem dX5_force_1 : decode cX5_force 1 = .ok (.iconst 0, 1) := dk_3 (dk_at dksX5_force_0 1 rfl rfl)
theorem dX5_force_2 : decode cX5_force 2 = .ok (.bipush 23, 2) := dk_16 23 (dk_at dksX5_force_0 2 rfl rfl)
theorem dX5_force_4 : decode cX5_force 4 = .ok (.invokestatic 56, 3) := dk_184 0 56 (dk_at dksX5_force_0 4 rfl rfl)
theorem dX5_force_7 : decode cX5_force 7 = .ok (.ifCond .eq 25, 3) := dk_153 0 25 (dk_at dksX5_force_0 7 rfl rfl)
theorem dX5_force_10 : decode cX5_force 10 = .ok (.iload_n 2, 1) := dk_28 (dk_at dksX5_force_0 10 rfl rfl)
theorem dX5_force_11 : decode cX5_force 11 = .ok (.iconst 0, 1) := dk_3 (dk_at dksX5_force_0 11 rfl rfl)
theorem dX5_force_12 : decode cX5_force 12 = .ok (.bipush 99, 2) := dk_16 99 (dk_at dksX5_force_0 12 rfl rfl)
theorem dX5_force_14 : decode cX5_force 14 = .ok (.invokestatic 56, 3) := dk_184 0 56 (dk_at dksX5_force_0 14 rfl rfl)
theorem dX5_force_17 : decode cX5_force 17 = .ok (.ifCond .eq 15, 3) := dk_153 0 15 (dk_at dksX5_force_0 17 rfl rfl)
theorem dX5_force_20 : decode cX5_force 20 = .ok (.aload_n 0, 1) := dk_42 (dk_at dksX5_force_0 20 rfl rfl)
theorem dX5_force_21 : decode cX5_force 21 = .ok (.bipush 6, 2) := dk_16 6 (dk_at dksX5_force_0 21 rfl rfl)
theorem dX5_force_23 : decode cX5_force 23 = .ok (.iload_n 1, 1) := dk_27 (dk_at dksX5_force_0 23 rfl rfl)
theorem dX5_force_24 : decode cX5_force 24 = .ok (.iadd, 1) := dk_96 (dk_at dksX5_force_1 0 rfl rfl)
theorem dX5_force_25 : decode cX5_force 25 = .ok (.iload_n 2, 1) := dk_28 (dk_at dksX5_force_1 1 rfl rfl)
theorem dX5_force_26 : decode cX5_force 26 = .ok (.invokevirtual 72, 3) := dk_182 0 72 (dk_at dksX5_force_1 2 rfl rfl)
theorem dX5_force_29 : decode cX5_force 29 = .ok (.goto 8, 3) := dk_167 0 8 (dk_at dksX5_force_1 5 rfl rfl)
theorem dX5_force_32 : decode cX5_force 32 = .ok (.aload_n 0, 1) := dk_42 (dk_at dksX5_force_1 8 rfl rfl)
theorem dX5_force_33 : decode cX5_force 33 = .ok (.iconst 1, 1) := dk_4 (dk_at dksX5_force_1 9 rfl rfl)
theorem dX5_force_34 : decode cX5_force 34 = .ok (.invokevirtual 76, 3) := dk_182 0 76 (dk_at dksX5_force_1 10 rfl rfl)
theorem dX5_force_37 : decode cX5_force 37 = .ok (.ireturn, 1) := dk_172 (dk_at dksX5_force_1 13 rfl rfl)
abbrev cX5_in : ByteArray := prog_20_method_3_code
def yX5_in : MethodName := ⟨RX5, "in", "(III)Z"⟩
def dkwX5_in_0 : List UInt8 := [26, 27, 161, 0, 12, 26, 28, 163, 0, 7, 4, 167, 0, 4, 3, 172]
abbrev dktX5_in_0 : List UInt8 := dkwX5_in_0 ++ []
theorem dksX5_in_0 : cX5_in.data.toList.drop 0 = dktX5_in_0 := by decide +kernel
theorem dX5_in_0 : decode cX5_in 0 = .ok (.iload_n 0, 1) := dk_26 (dk_at dksX5_in_0 0 rfl rfl)
theorem dX5_in_1 : decode cX5_in 1 = .ok (.iload_n 1, 1) := dk_27 (dk_at dksX5_in_0 1 rfl rfl)
theorem dX5_in_2 : decode cX5_in 2 = .ok (.if_icmp .lt 12, 3) := dk_161 0 12 (dk_at dksX5_in_0 2 rfl rfl)
theorem dX5_in_5 : decode cX5_in 5 = .ok (.iload_n 0, 1) := dk_26 (dk_at dksX5_in_0 5 rfl rfl)
theorem dX5_in_6 : decode cX5_in 6 = .ok (.iload_n 2, 1) := dk_28 (dk_at dksX5_in_0 6 rfl rfl)
theorem dX5_in_7 : decode cX5_in 7 = .ok (.if_icmp .gt 7, 3) := dk_163 0 7 (dk_at dksX5_in_0 7 rfl rfl)
theorem dX5_in_10 : decode cX5_in 10 = .ok (.iconst 1, 1) := dk_4 (dk_at dksX5_in_0 10 rfl rfl)
theorem dX5_in_11 : decode cX5_in 11 = .ok (.goto 4, 3) := dk_167 0 4 (dk_at dksX5_in_0 11 rfl rfl)
theorem dX5_in_14 : decode cX5_in 14 = .ok (.iconst 0, 1) := dk_3 (dk_at dksX5_in_0 14 rfl rfl)
theorem dX5_in_15 : decode cX5_in 15 = .ok (.ireturn, 1) := dk_172 (dk_at dksX5_in_0 15 rfl rfl)
abbrev cX5_change : ByteArray := prog_20_method_16_code
def yX5_change : MethodName := ⟨RX5, "change", "(II)I"⟩
def dkwX5_change_0 : List UInt8 := [42, 180, 0, 7, 27, 46, 62, 42, 180, 0, 7, 27, 28, 79, 29, 172]
abbrev dktX5_change_0 : List UInt8 := dkwX5_change_0 ++ []
theorem dksX5_change_0 : cX5_change.data.toList.drop 0 = dktX5_change_0 := by decide +kernel
theorem dX5_change_0 : decode cX5_change 0 = .ok (.aload_n 0, 1) := dk_42 (dk_at dksX5_change_0 0 rfl rfl)
theorem dX5_change_1 : decode cX5_change 1 = .ok (.getfield 7, 3) := dk_180 0 7 (dk_at dksX5_change_0 1 rfl rfl)
theorem dX5_change_4 : decode cX5_change 4 = .ok (.iload_n 1, 1) := dk_27 (dk_at dksX5_change_0 4 rfl rfl)
theorem dX5_change_5 : decode cX5_change 5 = .ok (.iaload, 1) := dk_46 (dk_at dksX5_change_0 5 rfl rfl)
theorem dX5_change_6 : decode cX5_change 6 = .ok (.istore_n 3, 1) := dk_62 (dk_at dksX5_change_0 6 rfl rfl)
theorem dX5_change_7 : decode cX5_change 7 = .ok (.aload_n 0, 1) := dk_42 (dk_at dksX5_change_0 7 rfl rfl)
theorem dX5_change_8 : decode cX5_change 8 = .ok (.getfield 7, 3) := dk_180 0 7 (dk_at dksX5_change_0 8 rfl rfl)
theorem dX5_change_11 : decode cX5_change 11 = .ok (.iload_n 1, 1) := dk_27 (dk_at dksX5_change_0 11 rfl rfl)
theorem dX5_change_12 : decode cX5_change 12 = .ok (.iload_n 2, 1) := dk_28 (dk_at dksX5_change_0 12 rfl rfl)
theorem dX5_change_13 : decode cX5_change 13 = .ok (.iastore, 1) := dk_79 (dk_at dksX5_change_0 13 rfl rfl)
theorem dX5_change_14 : decode cX5_change 14 = .ok (.iload_n 3, 1) := dk_29 (dk_at dksX5_change_0 14 rfl rfl)
theorem dX5_change_15 : decode cX5_change 15 = .ok (.ireturn, 1) := dk_172 (dk_at dksX5_change_0 15 rfl rfl)
abbrev cX5_error : ByteArray := prog_20_method_2_code
def yX5_error : MethodName := ⟨RX5, "error", "(I)I"⟩
def dkwX5_error_0 : List UInt8 := [42, 180, 0, 19, 27, 92, 46, 4, 96, 79, 18, 55, 27, 100, 172]
abbrev dktX5_error_0 : List UInt8 := dkwX5_error_0 ++ []
theorem dksX5_error_0 : cX5_error.data.toList.drop 0 = dktX5_error_0 := by decide +kernel
theorem dX5_error_0 : decode cX5_error 0 = .ok (.aload_n 0, 1) := dk_42 (dk_at dksX5_error_0 0 rfl rfl)
theorem dX5_error_1 : decode cX5_error 1 = .ok (.getfield 19, 3) := dk_180 0 19 (dk_at dksX5_error_0 1 rfl rfl)
theorem dX5_error_4 : decode cX5_error 4 = .ok (.iload_n 1, 1) := dk_27 (dk_at dksX5_error_0 4 rfl rfl)
theorem dX5_error_5 : decode cX5_error 5 = .ok (.dup2, 1) := dk_92 (dk_at dksX5_error_0 5 rfl rfl)
theorem dX5_error_6 : decode cX5_error 6 = .ok (.iaload, 1) := dk_46 (dk_at dksX5_error_0 6 rfl rfl)
theorem dX5_error_7 : decode cX5_error 7 = .ok (.iconst 1, 1) := dk_4 (dk_at dksX5_error_0 7 rfl rfl)
theorem dX5_error_8 : decode cX5_error 8 = .ok (.iadd, 1) := dk_96 (dk_at dksX5_error_0 8 rfl rfl)
theorem dX5_error_9 : decode cX5_error 9 = .ok (.iastore, 1) := dk_79 (dk_at dksX5_error_0 9 rfl rfl)
theorem dX5_error_10 : decode cX5_error 10 = .ok (.ldc 55, 2) := dk_18 55 (dk_at dksX5_error_0 10 rfl rfl)
theorem dX5_error_12 : decode cX5_error 12 = .ok (.iload_n 1, 1) := dk_27 (dk_at dksX5_error_0 12 rfl rfl)
theorem dX5_error_13 : decode cX5_error 13 = .ok (.isub, 1) := dk_100 (dk_at dksX5_error_0 13 rfl rfl)
theorem dX5_error_14 : decode cX5_error 14 = .ok (.ireturn, 1) := dk_172 (dk_at dksX5_error_0 14 rfl rfl)
abbrev cX5_weed : ByteArray := prog_20_method_18_code
def yX5_weed : MethodName := ⟨RX5, "weed", "(II)I"⟩
def dkwX5_weed_1 : List UInt8 := [182, 0, 72, 167, 0, 8, 42, 4, 182, 0, 76, 172]
abbrev dktX5_weed_1 : List UInt8 := dkwX5_weed_1 ++ []
def dkwX5_weed_0 : List UInt8 := [27, 184, 0, 79, 153, 0, 25, 28, 3, 16, 9, 184, 0, 56, 153, 0, 15, 42, 16, 30, 27, 96, 28]
abbrev dktX5_weed_0 : List UInt8 := dkwX5_weed_0 ++ dktX5_weed_1
theorem dksX5_weed_0 : cX5_weed.data.toList.drop 0 = dktX5_weed_0 := by decide +kernel
theorem dksX5_weed_1 : cX5_weed.data.toList.drop 23 = dktX5_weed_1 := dk_seg dksX5_weed_0 23 rfl rfl
theorem dX5_weed_0 : decode cX5_weed 0 = .ok (.iload_n 1, 1) := dk_27 (dk_at dksX5_weed_0 0 rfl rfl)
theorem dX5_weed_1 : decode cX5_weed 1 = .ok (.invokestatic 79, 3) := dk_184 0 79 (dk_at dksX5_weed_0 1 rfl rfl)
theorem dX5_weed_4 : decode cX5_weed 4 = .ok (.ifCond .eq 25, 3) := dk_153 0 25 (dk_at dksX5_weed_0 4 rfl rfl)
theorem dX5_weed_7 : decode cX5_weed 7 = .ok (.iload_n 2, 1) := dk_28 (dk_at dksX5_weed_0 7 rfl rfl)
theorem dX5_weed_8 : decode cX5_weed 8 = .ok (.iconst 0, 1) := dk_3 (dk_at dksX5_weed_0 8 rfl rfl)
theorem dX5_weed_9 : decode cX5_weed 9 = .ok (.bipush 9, 2) := dk_16 9 (dk_at dksX5_weed_0 9 rfl rfl)
theorem dX5_weed_11 : decode cX5_weed 11 = .ok (.invokestatic 56, 3) := dk_184 0 56 (dk_at dksX5_weed_0 11 rfl rfl)
theorem dX5_weed_14 : decode cX5_weed 14 = .ok (.ifCond .eq 15, 3) := dk_153 0 15 (dk_at dksX5_weed_0 14 rfl rfl)
theorem dX5_weed_17 : decode cX5_weed 17 = .ok (.aload_n 0, 1) := dk_42 (dk_at dksX5_weed_0 17 rfl rfl)
theorem dX5_weed_18 : decode cX5_weed 18 = .ok (.bipush 30, 2) := dk_16 30 (dk_at dksX5_weed_0 18 rfl rfl)
theorem dX5_weed_20 : decode cX5_weed 20 = .ok (.iload_n 1, 1) := dk_27 (dk_at dksX5_weed_0 20 rfl rfl)
theorem dX5_weed_21 : decode cX5_weed 21 = .ok (.iadd, 1) := dk_96 (dk_at dksX5_weed_0 21 rfl rfl)
theorem dX5_weed_22 : decode cX5_weed 22 = .ok (.iload_n 2, 1) := dk_28 (dk_at dksX5_weed_0 22 rfl rfl)
theorem dX5_weed_23 : decode cX5_weed 23 = .ok (.invokevirtual 72, 3) := dk_182 0 72 (dk_at dksX5_weed_1 0 rfl rfl)
theorem dX5_weed_26 : decode cX5_weed 26 = .ok (.goto 8, 3) := dk_167 0 8 (dk_at dksX5_weed_1 3 rfl rfl)
theorem dX5_weed_29 : decode cX5_weed 29 = .ok (.aload_n 0, 1) := dk_42 (dk_at dksX5_weed_1 6 rfl rfl)
theorem dX5_weed_30 : decode cX5_weed 30 = .ok (.iconst 1, 1) := dk_4 (dk_at dksX5_weed_1 7 rfl rfl)
theorem dX5_weed_31 : decode cX5_weed 31 = .ok (.invokevirtual 76, 3) := dk_182 0 76 (dk_at dksX5_weed_1 8 rfl rfl)
theorem dX5_weed_34 : decode cX5_weed 34 = .ok (.ireturn, 1) := dk_172 (dk_at dksX5_weed_1 11 rfl rfl)
abbrev cX5_isPlace : ByteArray := prog_20_method_8_code
def yX5_isPlace : MethodName := ⟨RX5, "isPlace", "(I)Z"⟩
def dkwX5_isPlace_0 : List UInt8 := [26, 3, 16, 11, 184, 0, 56, 172]
abbrev dktX5_isPlace_0 : List UInt8 := dkwX5_isPlace_0 ++ []
theorem dksX5_isPlace_0 : cX5_isPlace.data.toList.drop 0 = dktX5_isPlace_0 := by decide +kernel
theorem dX5_isPlace_0 : decode cX5_isPlace 0 = .ok (.iload_n 0, 1) := dk_26 (dk_at dksX5_isPlace_0 0 rfl rfl)
theorem dX5_isPlace_1 : decode cX5_isPlace 1 = .ok (.iconst 0, 1) := dk_3 (dk_at dksX5_isPlace_0 1 rfl rfl)
theorem dX5_isPlace_2 : decode cX5_isPlace 2 = .ok (.bipush 11, 2) := dk_16 11 (dk_at dksX5_isPlace_0 2 rfl rfl)
theorem dX5_isPlace_4 : decode cX5_isPlace 4 = .ok (.invokestatic 56, 3) := dk_184 0 56 (dk_at dksX5_isPlace_0 4 rfl rfl)
theorem dX5_isPlace_7 : decode cX5_isPlace 7 = .ok (.ireturn, 1) := dk_172 (dk_at dksX5_isPlace_0 7 rfl rfl)
abbrev cX5_frost : ByteArray := prog_20_method_19_code
def yX5_frost : MethodName := ⟨RX5, "frost", "(I)I"⟩
def dkwX5_frost_1 : List UInt8 := [172]
abbrev dktX5_frost_1 : List UInt8 := dkwX5_frost_1 ++ []
def dkwX5_frost_0 : List UInt8 := [27, 3, 16, 9, 184, 0, 56, 153, 0, 12, 42, 5, 27, 182, 0, 72, 167, 0, 8, 42, 4, 182, 0, 76]
abbrev dktX5_frost_0 : List UInt8 := dkwX5_frost_0 ++ dktX5_frost_1
theorem dksX5_frost_0 : cX5_frost.data.toList.drop 0 = dktX5_frost_0 := by decide +kernel
theorem dksX5_frost_1 : cX5_frost.data.toList.drop 24 = dktX5_frost_1 := dk_seg dksX5_frost_0 24 rfl rfl
theorem dX5_frost_0 : decode cX5_frost 0 = .ok (.iload_n 1, 1) := dk_27 (dk_at dksX5_frost_0 0 rfl rfl)
theorem dX5_frost_1 : decode cX5_frost 1 = .ok (.iconst 0, 1) := dk_3 (dk_at dksX5_frost_0 1 rfl rfl)
theorem dX5_frost_2 : decode cX5_frost 2 = .ok (.bipush 9, 2) := dk_16 9 (dk_at dksX5_frost_0 2 rfl rfl)
theorem dX5_frost_4 : decode cX5_frost 4 = .ok (.invokestatic 56, 3) := dk_184 0 56 (dk_at dksX5_frost_0 4 rfl rfl)
theorem dX5_frost_7 : decode cX5_frost 7 = .ok (.ifCond .eq 12, 3) := dk_153 0 12 (dk_at dksX5_frost_0 7 rfl rfl)
theorem dX5_frost_10 : decode cX5_frost 10 = .ok (.aload_n 0, 1) := dk_42 (dk_at dksX5_frost_0 10 rfl rfl)
theorem dX5_frost_11 : decode cX5_frost 11 = .ok (.iconst 2, 1) := dk_5 (dk_at dksX5_frost_0 11 rfl rfl)
theorem dX5_frost_12 : decode cX5_frost 12 = .ok (.iload_n 1, 1) := dk_27 (dk_at dksX5_frost_0 12 rfl rfl)
theorem dX5_frost_13 : decode cX5_frost 13 = .ok (.invokevirtual 72, 3) := dk_182 0 72 (dk_at dksX5_frost_0 13 rfl rfl)
theorem dX5_frost_16 : decode cX5_frost 16 = .ok (.goto 8, 3) := dk_167 0 8 (dk_at dksX5_frost_0 16 rfl rfl)
theorem dX5_frost_19 : decode cX5_frost 19 = .ok (.aload_n 0, 1) := dk_42 (dk_at dksX5_frost_0 19 rfl rfl)
theorem dX5_frost_20 : decode cX5_frost 20 = .ok (.iconst 1, 1) := dk_4 (dk_at dksX5_frost_0 20 rfl rfl)
theorem dX5_frost_21 : decode cX5_frost 21 = .ok (.invokevirtual 76, 3) := dk_182 0 76 (dk_at dksX5_frost_0 21 rfl rfl)
theorem dX5_frost_24 : decode cX5_frost 24 = .ok (.ireturn, 1) := dk_172 (dk_at dksX5_frost_1 0 rfl rfl)
abbrev cX5_owe : ByteArray := prog_20_method_20_code
def yX5_owe : MethodName := ⟨RX5, "owe", "(II)I"⟩
def dkwX5_owe_1 : List UInt8 := [28, 182, 0, 72, 167, 0, 8, 42, 4, 182, 0, 76, 172]
abbrev dktX5_owe_1 : List UInt8 := dkwX5_owe_1 ++ []
def dkwX5_owe_0 : List UInt8 := [27, 184, 0, 83, 153, 0, 27, 28, 3, 18, 86, 184, 0, 56, 153, 0, 17, 42, 16, 42, 5, 27, 104, 96]
abbrev dktX5_owe_0 : List UInt8 := dkwX5_owe_0 ++ dktX5_owe_1
theorem dksX5_owe_0 : cX5_owe.data.toList.drop 0 = dktX5_owe_0 := by decide +kernel
theorem dksX5_owe_1 : cX5_owe.data.toList.drop 24 = dktX5_owe_1 := dk_seg dksX5_owe_0 24 rfl rfl
theorem dX5_owe_0 : decode cX5_owe 0 = .ok (.iload_n 1, 1) := dk_27 (dk_at dksX5_owe_0 0 rfl rfl)
theorem dX5_owe_1 : decode cX5_owe 1 = .ok (.invokestatic 83, 3) := dk_184 0 83 (dk_at dksX5_owe_0 1 rfl rfl)
theorem dX5_owe_4 : decode cX5_owe 4 = .ok (.ifCond .eq 27, 3) := dk_153 0 27 (dk_at dksX5_owe_0 4 rfl rfl)
theorem dX5_owe_7 : decode cX5_owe 7 = .ok (.iload_n 2, 1) := dk_28 (dk_at dksX5_owe_0 7 rfl rfl)
theorem dX5_owe_8 : decode cX5_owe 8 = .ok (.iconst 0, 1) := dk_3 (dk_at dksX5_owe_0 8 rfl rfl)
theorem dX5_owe_9 : decode cX5_owe 9 = .ok (.ldc 86, 2) := dk_18 86 (dk_at dksX5_owe_0 9 rfl rfl)
theorem dX5_owe_11 : decode cX5_owe 11 = .ok (.invokestatic 56, 3) := dk_184 0 56 (dk_at dksX5_owe_0 11 rfl rfl)
theorem dX5_owe_14 : decode cX5_owe 14 = .ok (.ifCond .eq 17, 3) := dk_153 0 17 (dk_at dksX5_owe_0 14 rfl rfl)
theorem dX5_owe_17 : decode cX5_owe 17 = .ok (.aload_n 0, 1) := dk_42 (dk_at dksX5_owe_0 17 rfl rfl)
theorem dX5_owe_18 : decode cX5_owe 18 = .ok (.bipush 42, 2) := dk_16 42 (dk_at dksX5_owe_0 18 rfl rfl)
theorem dX5_owe_20 : decode cX5_owe 20 = .ok (.iconst 2, 1) := dk_5 (dk_at dksX5_owe_0 20 rfl rfl)
theorem dX5_owe_21 : decode cX5_owe 21 = .ok (.iload_n 1, 1) := dk_27 (dk_at dksX5_owe_0 21 rfl rfl)
theorem dX5_owe_22 : decode cX5_owe 22 = .ok (.imul, 1) := dk_104 (dk_at dksX5_owe_0 22 rfl rfl)
theorem dX5_owe_23 : decode cX5_owe 23 = .ok (.iadd, 1) := dk_96 (dk_at dksX5_owe_0 23 rfl rfl)
theorem dX5_owe_24 : decode cX5_owe 24 = .ok (.iload_n 2, 1) := dk_28 (dk_at dksX5_owe_1 0 rfl rfl)
theorem dX5_owe_25 : decode cX5_owe 25 = .ok (.invokevirtual 72, 3) := dk_182 0 72 (dk_at dksX5_owe_1 1 rfl rfl)
theorem dX5_owe_28 : decode cX5_owe 28 = .ok (.goto 8, 3) := dk_167 0 8 (dk_at dksX5_owe_1 4 rfl rfl)
theorem dX5_owe_31 : decode cX5_owe 31 = .ok (.aload_n 0, 1) := dk_42 (dk_at dksX5_owe_1 7 rfl rfl)
theorem dX5_owe_32 : decode cX5_owe 32 = .ok (.iconst 1, 1) := dk_4 (dk_at dksX5_owe_1 8 rfl rfl)
theorem dX5_owe_33 : decode cX5_owe 33 = .ok (.invokevirtual 76, 3) := dk_182 0 76 (dk_at dksX5_owe_1 9 rfl rfl)
theorem dX5_owe_36 : decode cX5_owe 36 = .ok (.ireturn, 1) := dk_172 (dk_at dksX5_owe_1 12 rfl rfl)
abbrev cX5_isFamily : ByteArray := prog_20_method_7_code
def yX5_isFamily : MethodName := ⟨RX5, "isFamily", "(I)Z"⟩
def dkwX5_isFamily_0 : List UInt8 := [26, 3, 7, 184, 0, 56, 172]
abbrev dktX5_isFamily_0 : List UInt8 := dkwX5_isFamily_0 ++ []
theorem dksX5_isFamily_0 : cX5_isFamily.data.toList.drop 0 = dktX5_isFamily_0 := by decide +kernel
theorem dX5_isFamily_0 : decode cX5_isFamily 0 = .ok (.iload_n 0, 1) := dk_26 (dk_at dksX5_isFamily_0 0 rfl rfl)
theorem dX5_isFamily_1 : decode cX5_isFamily 1 = .ok (.iconst 0, 1) := dk_3 (dk_at dksX5_isFamily_0 1 rfl rfl)
theorem dX5_isFamily_2 : decode cX5_isFamily 2 = .ok (.iconst 4, 1) := dk_7 (dk_at dksX5_isFamily_0 2 rfl rfl)
theorem dX5_isFamily_3 : decode cX5_isFamily 3 = .ok (.invokestatic 56, 3) := dk_184 0 56 (dk_at dksX5_isFamily_0 3 rfl rfl)
theorem dX5_isFamily_6 : decode cX5_isFamily 6 = .ok (.ireturn, 1) := dk_172 (dk_at dksX5_isFamily_0 6 rfl rfl)
abbrev cX5_familyIs : ByteArray := prog_20_method_22_code
def yX5_familyIs : MethodName := ⟨RX5, "familyIs", "(II)I"⟩
def dkwX5_familyIs_1 : List UInt8 := [167, 0, 8, 42, 4, 182, 0, 76, 172]
abbrev dktX5_familyIs_1 : List UInt8 := dkwX5_familyIs_1 ++ []
def dkwX5_familyIs_0 : List UInt8 := [27, 184, 0, 83, 153, 0, 21, 28, 3, 6, 184, 0, 56, 153, 0, 12, 42, 27, 28, 182, 0, 93]
abbrev dktX5_familyIs_0 : List UInt8 := dkwX5_familyIs_0 ++ dktX5_familyIs_1
theorem dksX5_familyIs_0 : cX5_familyIs.data.toList.drop 0 = dktX5_familyIs_0 := by decide +kernel
theorem dksX5_familyIs_1 : cX5_familyIs.data.toList.drop 22 = dktX5_familyIs_1 := dk_seg dksX5_familyIs_0 22 rfl rfl
theorem dX5_familyIs_0 : decode cX5_familyIs 0 = .ok (.iload_n 1, 1) := dk_27 (dk_at dksX5_familyIs_0 0 rfl rfl)
theorem dX5_familyIs_1 : decode cX5_familyIs 1 = .ok (.invokestatic 83, 3) := dk_184 0 83 (dk_at dksX5_familyIs_0 1 rfl rfl)
theorem dX5_familyIs_4 : decode cX5_familyIs 4 = .ok (.ifCond .eq 21, 3) := dk_153 0 21 (dk_at dksX5_familyIs_0 4 rfl rfl)
theorem dX5_familyIs_7 : decode cX5_familyIs 7 = .ok (.iload_n 2, 1) := dk_28 (dk_at dksX5_familyIs_0 7 rfl rfl)
theorem dX5_familyIs_8 : decode cX5_familyIs 8 = .ok (.iconst 0, 1) := dk_3 (dk_at dksX5_familyIs_0 8 rfl rfl)
theorem dX5_familyIs_9 : decode cX5_familyIs 9 = .ok (.iconst 3, 1) := dk_6 (dk_at dksX5_familyIs_0 9 rfl rfl)
theorem dX5_familyIs_10 : decode cX5_familyIs 10 = .ok (.invokestatic 56, 3) := dk_184 0 56 (dk_at dksX5_familyIs_0 10 rfl rfl)
theorem dX5_familyIs_13 : decode cX5_familyIs 13 = .ok (.ifCond .eq 12, 3) := dk_153 0 12 (dk_at dksX5_familyIs_0 13 rfl rfl)
theorem dX5_familyIs_16 : decode cX5_familyIs 16 = .ok (.aload_n 0, 1) := dk_42 (dk_at dksX5_familyIs_0 16 rfl rfl)
theorem dX5_familyIs_17 : decode cX5_familyIs 17 = .ok (.iload_n 1, 1) := dk_27 (dk_at dksX5_familyIs_0 17 rfl rfl)
theorem dX5_familyIs_18 : decode cX5_familyIs 18 = .ok (.iload_n 2, 1) := dk_28 (dk_at dksX5_familyIs_0 18 rfl rfl)
theorem dX5_familyIs_19 : decode cX5_familyIs 19 = .ok (.invokevirtual 93, 3) := dk_182 0 93 (dk_at dksX5_familyIs_0 19 rfl rfl)
theorem dX5_familyIs_22 : decode cX5_familyIs 22 = .ok (.goto 8, 3) := dk_167 0 8 (dk_at dksX5_familyIs_1 0 rfl rfl)
theorem dX5_familyIs_25 : decode cX5_familyIs 25 = .ok (.aload_n 0, 1) := dk_42 (dk_at dksX5_familyIs_1 3 rfl rfl)
theorem dX5_familyIs_26 : decode cX5_familyIs 26 = .ok (.iconst 1, 1) := dk_4 (dk_at dksX5_familyIs_1 4 rfl rfl)
theorem dX5_familyIs_27 : decode cX5_familyIs 27 = .ok (.invokevirtual 76, 3) := dk_182 0 76 (dk_at dksX5_familyIs_1 5 rfl rfl)
theorem dX5_familyIs_30 : decode cX5_familyIs 30 = .ok (.ireturn, 1) := dk_172 (dk_at dksX5_familyIs_1 8 rfl rfl)
abbrev cX5_toldFamily : ByteArray := prog_20_method_21_code
def yX5_toldFamily : MethodName := ⟨RX5, "toldFamily", "(II)I"⟩
def dkwX5_toldFamily_3 : List UInt8 := [160, 0, 7, 4, 167, 0, 4, 3, 96, 62, 132, 4, 1, 167, 255, 223, 29, 172]
abbrev dktX5_toldFamily_3 : List UInt8 := dkwX5_toldFamily_3 ++ []
def dkwX5_toldFamily_2 : List UInt8 := [54, 4, 21, 4, 42, 180, 0, 7, 3, 46, 162, 0, 28, 29, 42, 21, 4, 6, 182, 0, 90, 27]
abbrev dktX5_toldFamily_2 : List UInt8 := dkwX5_toldFamily_2 ++ dktX5_toldFamily_3
def dkwX5_toldFamily_1 : List UInt8 := [182, 0, 65, 167, 0, 16, 42, 27, 182, 0, 87, 153, 0, 7, 4, 167, 0, 4, 3, 172, 3, 62, 3]
abbrev dktX5_toldFamily_1 : List UInt8 := dkwX5_toldFamily_1 ++ dktX5_toldFamily_2
def dkwX5_toldFamily_0 : List UInt8 := [28, 6, 162, 0, 42, 28, 154, 0, 11, 42, 27, 182, 0, 69, 167, 0, 29, 28, 4, 160, 0, 11, 42, 27]
abbrev dktX5_toldFamily_0 : List UInt8 := dkwX5_toldFamily_0 ++ dktX5_toldFamily_1
theorem dksX5_toldFamily_0 : cX5_toldFamily.data.toList.drop 0 = dktX5_toldFamily_0 := by decide +kernel
theorem dksX5_toldFamily_1 : cX5_toldFamily.data.toList.drop 24 = dktX5_toldFamily_1 := dk_seg dksX5_toldFamily_0 24 rfl rfl
theorem dksX5_toldFamily_2 : cX5_toldFamily.data.toList.drop 47 = dktX5_toldFamily_2 := dk_seg dksX5_toldFamily_1 23 rfl rfl
theorem dksX5_toldFamily_3 : cX5_toldFamily.data.toList.drop 69 = dktX5_toldFamily_3 := dk_seg dksX5_toldFamily_2 22 rfl rfl
theorem dX5_toldFamily_0 : decode cX5_toldFamily 0 = .ok (.iload_n 2, 1) := dk_28 (dk_at dksX5_toldFamily_0 0 rfl rfl)
theorem dX5_toldFamily_1 : decode cX5_toldFamily 1 = .ok (.iconst 3, 1) := dk_6 (dk_at dksX5_toldFamily_0 1 rfl rfl)
theorem dX5_toldFamily_2 : decode cX5_toldFamily 2 = .ok (.if_icmp .ge 42, 3) := dk_162 0 42 (dk_at dksX5_toldFamily_0 2 rfl rfl)
theorem dX5_toldFamily_5 : decode cX5_toldFamily 5 = .ok (.iload_n 2, 1) := dk_28 (dk_at dksX5_toldFamily_0 5 rfl rfl)
theorem dX5_toldFamily_6 : decode cX5_toldFamily 6 = .ok (.ifCond .ne 11, 3) := dk_154 0 11 (dk_at dksX5_toldFamily_0 6 rfl rfl)
theorem dX5_toldFamily_9 : decode cX5_toldFamily 9 = .ok (.aload_n 0, 1) := dk_42 (dk_at dksX5_toldFamily_0 9 rfl rfl)
theorem dX5_toldFamily_10 : decode cX5_toldFamily 10 = .ok (.iload_n 1, 1) := dk_27 (dk_at dksX5_toldFamily_0 10 rfl rfl)
theorem dX5_toldFamily_11 : decode cX5_toldFamily 11 = .ok (.invokevirtual 69, 3) := dk_182 0 69 (dk_at dksX5_toldFamily_0 11 rfl rfl)
theorem dX5_toldFamily_14 : decode cX5_toldFamily 14 = .ok (.goto 29, 3) := dk_167 0 29 (dk_at dksX5_toldFamily_0 14 rfl rfl)
theorem dX5_toldFamily_17 : decode cX5_toldFamily 17 = .ok (.iload_n 2, 1) := dk_28 (dk_at dksX5_toldFamily_0 17 rfl rfl)
theorem dX5_toldFamily_18 : decode cX5_toldFamily 18 = .ok (.iconst 1, 1) := dk_4 (dk_at dksX5_toldFamily_0 18 rfl rfl)
theorem dX5_toldFamily_19 : decode cX5_toldFamily 19 = .ok (.if_icmp .ne 11, 3) := dk_160 0 11 (dk_at dksX5_toldFamily_0 19 rfl rfl)
theorem dX5_toldFamily_22 : decode cX5_toldFamily 22 = .ok (.aload_n 0, 1) := dk_42 (dk_at dksX5_toldFamily_0 22 rfl rfl)
theorem dX5_toldFamily_23 : decode cX5_toldFamily 23 = .ok (.iload_n 1, 1) := dk_27 (dk_at dksX5_toldFamily_0 23 rfl rfl)
theorem dX5_toldFamily_24 : decode cX5_toldFamily 24 = .ok (.invokevirtual 65, 3) := dk_182 0 65 (dk_at dksX5_toldFamily_1 0 rfl rfl)
theorem dX5_toldFamily_27 : decode cX5_toldFamily 27 = .ok (.goto 16, 3) := dk_167 0 16 (dk_at dksX5_toldFamily_1 3 rfl rfl)
theorem dX5_toldFamily_30 : decode cX5_toldFamily 30 = .ok (.aload_n 0, 1) := dk_42 (dk_at dksX5_toldFamily_1 6 rfl rfl)
theorem dX5_toldFamily_31 : decode cX5_toldFamily 31 = .ok (.iload_n 1, 1) := dk_27 (dk_at dksX5_toldFamily_1 7 rfl rfl)
theorem dX5_toldFamily_32 : decode cX5_toldFamily 32 = .ok (.invokevirtual 87, 3) := dk_182 0 87 (dk_at dksX5_toldFamily_1 8 rfl rfl)
theorem dX5_toldFamily_35 : decode cX5_toldFamily 35 = .ok (.ifCond .eq 7, 3) := dk_153 0 7 (dk_at dksX5_toldFamily_1 11 rfl rfl)
theorem dX5_toldFamily_38 : decode cX5_toldFamily 38 = .ok (.iconst 1, 1) := dk_4 (dk_at dksX5_toldFamily_1 14 rfl rfl)
theorem dX5_toldFamily_39 : decode cX5_toldFamily 39 = .ok (.goto 4, 3) := dk_167 0 4 (dk_at dksX5_toldFamily_1 15 rfl rfl)
theorem dX5_toldFamily_42 : decode cX5_toldFamily 42 = .ok (.iconst 0, 1) := dk_3 (dk_at dksX5_toldFamily_1 18 rfl rfl)
theorem dX5_toldFamily_43 : decode cX5_toldFamily 43 = .ok (.ireturn, 1) := dk_172 (dk_at dksX5_toldFamily_1 19 rfl rfl)
theorem dX5_toldFamily_44 : decode cX5_toldFamily 44 = .ok (.iconst 0, 1) := dk_3 (dk_at dksX5_toldFamily_1 20 rfl rfl)
theorem dX5_toldFamily_45 : decode cX5_toldFamily 45 = .ok (.istore_n 3, 1) := dk_62 (dk_at dksX5_toldFamily_1 21 rfl rfl)
theorem dX5_toldFamily_46 : decode cX5_toldFamily 46 = .ok (.iconst 0, 1) := dk_3 (dk_at dksX5_toldFamily_1 22 rfl rfl)
theorem dX5_toldFamily_47 : decode cX5_toldFamily 47 = .ok (.istore 4, 2) := dk_54 4 (dk_at dksX5_toldFamily_2 0 rfl rfl)
theorem dX5_toldFamily_49 : decode cX5_toldFamily 49 = .ok (.iload 4, 2) := dk_21 4 (dk_at dksX5_toldFamily_2 2 rfl rfl)
theorem dX5_toldFamily_51 : decode cX5_toldFamily 51 = .ok (.aload_n 0, 1) := dk_42 (dk_at dksX5_toldFamily_2 4 rfl rfl)
theorem dX5_toldFamily_52 : decode cX5_toldFamily 52 = .ok (.getfield 7, 3) := dk_180 0 7 (dk_at dksX5_toldFamily_2 5 rfl rfl)
theorem dX5_toldFamily_55 : decode cX5_toldFamily 55 = .ok (.iconst 0, 1) := dk_3 (dk_at dksX5_toldFamily_2 8 rfl rfl)
theorem dX5_toldFamily_56 : decode cX5_toldFamily 56 = .ok (.iaload, 1) := dk_46 (dk_at dksX5_toldFamily_2 9 rfl rfl)
theorem dX5_toldFamily_57 : decode cX5_toldFamily 57 = .ok (.if_icmp .ge 28, 3) := dk_162 0 28 (dk_at dksX5_toldFamily_2 10 rfl rfl)
theorem dX5_toldFamily_60 : decode cX5_toldFamily 60 = .ok (.iload_n 3, 1) := dk_29 (dk_at dksX5_toldFamily_2 13 rfl rfl)
theorem dX5_toldFamily_61 : decode cX5_toldFamily 61 = .ok (.aload_n 0, 1) := dk_42 (dk_at dksX5_toldFamily_2 14 rfl rfl)
theorem dX5_toldFamily_62 : decode cX5_toldFamily 62 = .ok (.iload 4, 2) := dk_21 4 (dk_at dksX5_toldFamily_2 15 rfl rfl)
theorem dX5_toldFamily_64 : decode cX5_toldFamily 64 = .ok (.iconst 3, 1) := dk_6 (dk_at dksX5_toldFamily_2 17 rfl rfl)
theorem dX5_toldFamily_65 : decode cX5_toldFamily 65 = .ok (.invokevirtual 90, 3) := dk_182 0 90 (dk_at dksX5_toldFamily_2 18 rfl rfl)
theorem dX5_toldFamily_68 : decode cX5_toldFamily 68 = .ok (.iload_n 1, 1) := dk_27 (dk_at dksX5_toldFamily_2 21 rfl rfl)
theorem dX5_toldFamily_69 : decode cX5_toldFamily 69 = .ok (.if_icmp .ne 7, 3) := dk_160 0 7 (dk_at dksX5_toldFamily_3 0 rfl rfl)
theorem dX5_toldFamily_72 : decode cX5_toldFamily 72 = .ok (.iconst 1, 1) := dk_4 (dk_at dksX5_toldFamily_3 3 rfl rfl)
theorem dX5_toldFamily_73 : decode cX5_toldFamily 73 = .ok (.goto 4, 3) := dk_167 0 4 (dk_at dksX5_toldFamily_3 4 rfl rfl)
theorem dX5_toldFamily_76 : decode cX5_toldFamily 76 = .ok (.iconst 0, 1) := dk_3 (dk_at dksX5_toldFamily_3 7 rfl rfl)
theorem dX5_toldFamily_77 : decode cX5_toldFamily 77 = .ok (.iadd, 1) := dk_96 (dk_at dksX5_toldFamily_3 8 rfl rfl)
theorem dX5_toldFamily_78 : decode cX5_toldFamily 78 = .ok (.istore_n 3, 1) := dk_62 (dk_at dksX5_toldFamily_3 9 rfl rfl)
theorem dX5_toldFamily_79 : decode cX5_toldFamily 79 = .ok (.iinc 4 1, 3) := dk_132 4 1 (dk_at dksX5_toldFamily_3 10 rfl rfl)
theorem dX5_toldFamily_82 : decode cX5_toldFamily 82 = .ok (.goto (-33), 3) := dk_167 255 223 (dk_at dksX5_toldFamily_3 13 rfl rfl)
theorem dX5_toldFamily_85 : decode cX5_toldFamily 85 = .ok (.iload_n 3, 1) := dk_29 (dk_at dksX5_toldFamily_3 16 rfl rfl)
theorem dX5_toldFamily_86 : decode cX5_toldFamily 86 = .ok (.ireturn, 1) := dk_172 (dk_at dksX5_toldFamily_3 17 rfl rfl)
abbrev cX5_owed : ByteArray := prog_20_method_11_code
def yX5_owed : MethodName := ⟨RX5, "owed", "(I)I"⟩
def dkwX5_owed_0 : List UInt8 := [42, 180, 0, 7, 16, 42, 5, 27, 104, 96, 46, 172]
abbrev dktX5_owed_0 : List UInt8 := dkwX5_owed_0 ++ []
theorem dksX5_owed_0 : cX5_owed.data.toList.drop 0 = dktX5_owed_0 := by decide +kernel
theorem dX5_owed_0 : decode cX5_owed 0 = .ok (.aload_n 0, 1) := dk_42 (dk_at dksX5_owed_0 0 rfl rfl)
theorem dX5_owed_1 : decode cX5_owed 1 = .ok (.getfield 7, 3) := dk_180 0 7 (dk_at dksX5_owed_0 1 rfl rfl)
theorem dX5_owed_4 : decode cX5_owed 4 = .ok (.bipush 42, 2) := dk_16 42 (dk_at dksX5_owed_0 4 rfl rfl)
theorem dX5_owed_6 : decode cX5_owed 6 = .ok (.iconst 2, 1) := dk_5 (dk_at dksX5_owed_0 6 rfl rfl)
theorem dX5_owed_7 : decode cX5_owed 7 = .ok (.iload_n 1, 1) := dk_27 (dk_at dksX5_owed_0 7 rfl rfl)
theorem dX5_owed_8 : decode cX5_owed 8 = .ok (.imul, 1) := dk_104 (dk_at dksX5_owed_0 8 rfl rfl)
theorem dX5_owed_9 : decode cX5_owed 9 = .ok (.iadd, 1) := dk_96 (dk_at dksX5_owed_0 9 rfl rfl)
theorem dX5_owed_10 : decode cX5_owed 10 = .ok (.iaload, 1) := dk_46 (dk_at dksX5_owed_0 10 rfl rfl)
theorem dX5_owed_11 : decode cX5_owed 11 = .ok (.ireturn, 1) := dk_172 (dk_at dksX5_owed_0 11 rfl rfl)
abbrev cX5_prayed : ByteArray := prog_20_method_12_code
def yX5_prayed : MethodName := ⟨RX5, "prayed", "(I)I"⟩
def dkwX5_prayed_0 : List UInt8 := [42, 180, 0, 7, 16, 42, 5, 27, 104, 96, 4, 96, 46, 172]
abbrev dktX5_prayed_0 : List UInt8 := dkwX5_prayed_0 ++ []
theorem dksX5_prayed_0 : cX5_prayed.data.toList.drop 0 = dktX5_prayed_0 := by decide +kernel
theorem dX5_prayed_0 : decode cX5_prayed 0 = .ok (.aload_n 0, 1) := dk_42 (dk_at dksX5_prayed_0 0 rfl rfl)
theorem dX5_prayed_1 : decode cX5_prayed 1 = .ok (.getfield 7, 3) := dk_180 0 7 (dk_at dksX5_prayed_0 1 rfl rfl)
theorem dX5_prayed_4 : decode cX5_prayed 4 = .ok (.bipush 42, 2) := dk_16 42 (dk_at dksX5_prayed_0 4 rfl rfl)
theorem dX5_prayed_6 : decode cX5_prayed 6 = .ok (.iconst 2, 1) := dk_5 (dk_at dksX5_prayed_0 6 rfl rfl)
theorem dX5_prayed_7 : decode cX5_prayed 7 = .ok (.iload_n 1, 1) := dk_27 (dk_at dksX5_prayed_0 7 rfl rfl)
theorem dX5_prayed_8 : decode cX5_prayed 8 = .ok (.imul, 1) := dk_104 (dk_at dksX5_prayed_0 8 rfl rfl)
theorem dX5_prayed_9 : decode cX5_prayed 9 = .ok (.iadd, 1) := dk_96 (dk_at dksX5_prayed_0 9 rfl rfl)
theorem dX5_prayed_10 : decode cX5_prayed 10 = .ok (.iconst 1, 1) := dk_4 (dk_at dksX5_prayed_0 10 rfl rfl)
theorem dX5_prayed_11 : decode cX5_prayed 11 = .ok (.iadd, 1) := dk_96 (dk_at dksX5_prayed_0 11 rfl rfl)
theorem dX5_prayed_12 : decode cX5_prayed 12 = .ok (.iaload, 1) := dk_46 (dk_at dksX5_prayed_0 12 rfl rfl)
theorem dX5_prayed_13 : decode cX5_prayed 13 = .ok (.ireturn, 1) := dk_172 (dk_at dksX5_prayed_0 13 rfl rfl)
abbrev cX5_isPaid : ByteArray := prog_20_method_14_code
def yX5_isPaid : MethodName := ⟨RX5, "isPaid", "(I)Z"⟩
def dkwX5_isPaid_0 : List UInt8 := [42, 27, 182, 0, 65, 42, 27, 182, 0, 69, 161, 0, 7, 4, 167, 0, 4, 3, 172]
abbrev dktX5_isPaid_0 : List UInt8 := dkwX5_isPaid_0 ++ []
theorem dksX5_isPaid_0 : cX5_isPaid.data.toList.drop 0 = dktX5_isPaid_0 := by decide +kernel
theorem dX5_isPaid_0 : decode cX5_isPaid 0 = .ok (.aload_n 0, 1) := dk_42 (dk_at dksX5_isPaid_0 0 rfl rfl)
theorem dX5_isPaid_1 : decode cX5_isPaid 1 = .ok (.iload_n 1, 1) := dk_27 (dk_at dksX5_isPaid_0 1 rfl rfl)
theorem dX5_isPaid_2 : decode cX5_isPaid 2 = .ok (.invokevirtual 65, 3) := dk_182 0 65 (dk_at dksX5_isPaid_0 2 rfl rfl)
theorem dX5_isPaid_5 : decode cX5_isPaid 5 = .ok (.aload_n 0, 1) := dk_42 (dk_at dksX5_isPaid_0 5 rfl rfl)
theorem dX5_isPaid_6 : decode cX5_isPaid 6 = .ok (.iload_n 1, 1) := dk_27 (dk_at dksX5_isPaid_0 6 rfl rfl)
theorem dX5_isPaid_7 : decode cX5_isPaid 7 = .ok (.invokevirtual 69, 3) := dk_182 0 69 (dk_at dksX5_isPaid_0 7 rfl rfl)
theorem dX5_isPaid_10 : decode cX5_isPaid 10 = .ok (.if_icmp .lt 7, 3) := dk_161 0 7 (dk_at dksX5_isPaid_0 10 rfl rfl)
theorem dX5_isPaid_13 : decode cX5_isPaid 13 = .ok (.iconst 1, 1) := dk_4 (dk_at dksX5_isPaid_0 13 rfl rfl)
theorem dX5_isPaid_14 : decode cX5_isPaid 14 = .ok (.goto 4, 3) := dk_167 0 4 (dk_at dksX5_isPaid_0 14 rfl rfl)
theorem dX5_isPaid_17 : decode cX5_isPaid 17 = .ok (.iconst 0, 1) := dk_3 (dk_at dksX5_isPaid_0 17 rfl rfl)
theorem dX5_isPaid_18 : decode cX5_isPaid 18 = .ok (.ireturn, 1) := dk_172 (dk_at dksX5_isPaid_0 18 rfl rfl)
abbrev cX5_its : ByteArray := prog_20_method_9_code
def yX5_its : MethodName := ⟨RX5, "its", "(II)I"⟩
def dkwX5_its_0 : List UInt8 := [42, 180, 0, 7, 16, 52, 16, 7, 27, 104, 96, 28, 96, 46, 172]
abbrev dktX5_its_0 : List UInt8 := dkwX5_its_0 ++ []
theorem dksX5_its_0 : cX5_its.data.toList.drop 0 = dktX5_its_0 := by decide +kernel
theorem dX5_its_0 : decode cX5_its 0 = .ok (.aload_n 0, 1) := dk_42 (dk_at dksX5_its_0 0 rfl rfl)
theorem dX5_its_1 : decode cX5_its 1 = .ok (.getfield 7, 3) := dk_180 0 7 (dk_at dksX5_its_0 1 rfl rfl)
theorem dX5_its_4 : decode cX5_its 4 = .ok (.bipush 52, 2) := dk_16 52 (dk_at dksX5_its_0 4 rfl rfl)
theorem dX5_its_6 : decode cX5_its 6 = .ok (.bipush 7, 2) := dk_16 7 (dk_at dksX5_its_0 6 rfl rfl)
theorem dX5_its_8 : decode cX5_its 8 = .ok (.iload_n 1, 1) := dk_27 (dk_at dksX5_its_0 8 rfl rfl)
theorem dX5_its_9 : decode cX5_its 9 = .ok (.imul, 1) := dk_104 (dk_at dksX5_its_0 9 rfl rfl)
theorem dX5_its_10 : decode cX5_its 10 = .ok (.iadd, 1) := dk_96 (dk_at dksX5_its_0 10 rfl rfl)
theorem dX5_its_11 : decode cX5_its 11 = .ok (.iload_n 2, 1) := dk_28 (dk_at dksX5_its_0 11 rfl rfl)
theorem dX5_its_12 : decode cX5_its 12 = .ok (.iadd, 1) := dk_96 (dk_at dksX5_its_0 12 rfl rfl)
theorem dX5_its_13 : decode cX5_its 13 = .ok (.iaload, 1) := dk_46 (dk_at dksX5_its_0 13 rfl rfl)
theorem dX5_its_14 : decode cX5_its 14 = .ok (.ireturn, 1) := dk_172 (dk_at dksX5_its_0 14 rfl rfl)
abbrev cX5_wheel : ByteArray := prog_20_method_24_code
def yX5_wheel : MethodName := ⟨RX5, "wheel", "(II)I"⟩
def dkwX5_wheel_2 : List UInt8 := [182, 0, 76, 167, 0, 9, 42, 27, 28, 182, 0, 100, 172]
abbrev dktX5_wheel_2 : List UInt8 := dkwX5_wheel_2 ++ []
def dkwX5_wheel_1 : List UInt8 := [7, 164, 0, 9, 42, 4, 182, 0, 76, 172, 42, 180, 0, 7, 3, 46, 16, 8, 160, 0, 11, 42, 7]
abbrev dktX5_wheel_1 : List UInt8 := dkwX5_wheel_1 ++ dktX5_wheel_2
def dkwX5_wheel_0 : List UInt8 := [27, 3, 16, 69, 184, 0, 56, 153, 0, 21, 28, 3, 16, 114, 184, 0, 56, 153, 0, 11, 28, 16, 10, 112]
abbrev dktX5_wheel_0 : List UInt8 := dkwX5_wheel_0 ++ dktX5_wheel_1
theorem dksX5_wheel_0 : cX5_wheel.data.toList.drop 0 = dktX5_wheel_0 := by decide +kernel
theorem dksX5_wheel_1 : cX5_wheel.data.toList.drop 24 = dktX5_wheel_1 := dk_seg dksX5_wheel_0 24 rfl rfl
theorem dksX5_wheel_2 : cX5_wheel.data.toList.drop 47 = dktX5_wheel_2 := dk_seg dksX5_wheel_1 23 rfl rfl
theorem dX5_wheel_0 : decode cX5_wheel 0 = .ok (.iload_n 1, 1) := dk_27 (dk_at dksX5_wheel_0 0 rfl rfl)
theorem dX5_wheel_1 : decode cX5_wheel 1 = .ok (.iconst 0, 1) := dk_3 (dk_at dksX5_wheel_0 1 rfl rfl)
theorem dX5_wheel_2 : decode cX5_wheel 2 = .ok (.bipush 69, 2) := dk_16 69 (dk_at dksX5_wheel_0 2 rfl rfl)
theorem dX5_wheel_4 : decode cX5_wheel 4 = .ok (.invokestatic 56, 3) := dk_184 0 56 (dk_at dksX5_wheel_0 4 rfl rfl)
theorem dX5_wheel_7 : decode cX5_wheel 7 = .ok (.ifCond .eq 21, 3) := dk_153 0 21 (dk_at dksX5_wheel_0 7 rfl rfl)
theorem dX5_wheel_10 : decode cX5_wheel 10 = .ok (.iload_n 2, 1) := dk_28 (dk_at dksX5_wheel_0 10 rfl rfl)
theorem dX5_wheel_11 : decode cX5_wheel 11 = .ok (.iconst 0, 1) := dk_3 (dk_at dksX5_wheel_0 11 rfl rfl)
theorem dX5_wheel_12 : decode cX5_wheel 12 = .ok (.bipush 114, 2) := dk_16 114 (dk_at dksX5_wheel_0 12 rfl rfl)
theorem dX5_wheel_14 : decode cX5_wheel 14 = .ok (.invokestatic 56, 3) := dk_184 0 56 (dk_at dksX5_wheel_0 14 rfl rfl)
theorem dX5_wheel_17 : decode cX5_wheel 17 = .ok (.ifCond .eq 11, 3) := dk_153 0 11 (dk_at dksX5_wheel_0 17 rfl rfl)
theorem dX5_wheel_20 : decode cX5_wheel 20 = .ok (.iload_n 2, 1) := dk_28 (dk_at dksX5_wheel_0 20 rfl rfl)
theorem dX5_wheel_21 : decode cX5_wheel 21 = .ok (.bipush 10, 2) := dk_16 10 (dk_at dksX5_wheel_0 21 rfl rfl)
theorem dX5_wheel_23 : decode cX5_wheel 23 = .ok (.irem, 1) := dk_112 (dk_at dksX5_wheel_0 23 rfl rfl)
theorem dX5_wheel_24 : decode cX5_wheel 24 = .ok (.iconst 4, 1) := dk_7 (dk_at dksX5_wheel_1 0 rfl rfl)
theorem dX5_wheel_25 : decode cX5_wheel 25 = .ok (.if_icmp .le 9, 3) := dk_164 0 9 (dk_at dksX5_wheel_1 1 rfl rfl)
theorem dX5_wheel_28 : decode cX5_wheel 28 = .ok (.aload_n 0, 1) := dk_42 (dk_at dksX5_wheel_1 4 rfl rfl)
theorem dX5_wheel_29 : decode cX5_wheel 29 = .ok (.iconst 1, 1) := dk_4 (dk_at dksX5_wheel_1 5 rfl rfl)
theorem dX5_wheel_30 : decode cX5_wheel 30 = .ok (.invokevirtual 76, 3) := dk_182 0 76 (dk_at dksX5_wheel_1 6 rfl rfl)
theorem dX5_wheel_33 : decode cX5_wheel 33 = .ok (.ireturn, 1) := dk_172 (dk_at dksX5_wheel_1 9 rfl rfl)
theorem dX5_wheel_34 : decode cX5_wheel 34 = .ok (.aload_n 0, 1) := dk_42 (dk_at dksX5_wheel_1 10 rfl rfl)
theorem dX5_wheel_35 : decode cX5_wheel 35 = .ok (.getfield 7, 3) := dk_180 0 7 (dk_at dksX5_wheel_1 11 rfl rfl)
theorem dX5_wheel_38 : decode cX5_wheel 38 = .ok (.iconst 0, 1) := dk_3 (dk_at dksX5_wheel_1 14 rfl rfl)
theorem dX5_wheel_39 : decode cX5_wheel 39 = .ok (.iaload, 1) := dk_46 (dk_at dksX5_wheel_1 15 rfl rfl)
theorem dX5_wheel_40 : decode cX5_wheel 40 = .ok (.bipush 8, 2) := dk_16 8 (dk_at dksX5_wheel_1 16 rfl rfl)
theorem dX5_wheel_42 : decode cX5_wheel 42 = .ok (.if_icmp .ne 11, 3) := dk_160 0 11 (dk_at dksX5_wheel_1 18 rfl rfl)
theorem dX5_wheel_45 : decode cX5_wheel 45 = .ok (.aload_n 0, 1) := dk_42 (dk_at dksX5_wheel_1 21 rfl rfl)
theorem dX5_wheel_46 : decode cX5_wheel 46 = .ok (.iconst 4, 1) := dk_7 (dk_at dksX5_wheel_1 22 rfl rfl)
theorem dX5_wheel_47 : decode cX5_wheel 47 = .ok (.invokevirtual 76, 3) := dk_182 0 76 (dk_at dksX5_wheel_2 0 rfl rfl)
theorem dX5_wheel_50 : decode cX5_wheel 50 = .ok (.goto 9, 3) := dk_167 0 9 (dk_at dksX5_wheel_2 3 rfl rfl)
theorem dX5_wheel_53 : decode cX5_wheel 53 = .ok (.aload_n 0, 1) := dk_42 (dk_at dksX5_wheel_2 6 rfl rfl)
theorem dX5_wheel_54 : decode cX5_wheel 54 = .ok (.iload_n 1, 1) := dk_27 (dk_at dksX5_wheel_2 7 rfl rfl)
theorem dX5_wheel_55 : decode cX5_wheel 55 = .ok (.iload_n 2, 1) := dk_28 (dk_at dksX5_wheel_2 8 rfl rfl)
theorem dX5_wheel_56 : decode cX5_wheel 56 = .ok (.invokevirtual 100, 3) := dk_182 0 100 (dk_at dksX5_wheel_2 9 rfl rfl)
theorem dX5_wheel_59 : decode cX5_wheel 59 = .ok (.ireturn, 1) := dk_172 (dk_at dksX5_wheel_2 12 rfl rfl)
abbrev cX5_adds : ByteArray := prog_20_method_23_code
def yX5_adds : MethodName := ⟨RX5, "adds", "(II)I"⟩
def dkwX5_adds_3 : List UInt8 := [180, 0, 7, 3, 92, 46, 4, 96, 79, 29, 172]
abbrev dktX5_adds_3 : List UInt8 := dkwX5_adds_3 ++ []
def dkwX5_adds_2 : List UInt8 := [29, 7, 4, 182, 0, 96, 42, 29, 8, 3, 182, 0, 96, 42, 29, 16, 6, 3, 182, 0, 96, 42]
abbrev dktX5_adds_2 : List UInt8 := dkwX5_adds_2 ++ dktX5_adds_3
def dkwX5_adds_1 : List UInt8 := [182, 0, 96, 42, 29, 5, 28, 16, 10, 108, 182, 0, 96, 42, 29, 6, 28, 16, 10, 112, 182, 0, 96, 42]
abbrev dktX5_adds_1 : List UInt8 := dkwX5_adds_1 ++ dktX5_adds_2
def dkwX5_adds_0 : List UInt8 := [42, 180, 0, 7, 3, 46, 62, 42, 29, 3, 27, 16, 10, 108, 182, 0, 96, 42, 29, 4, 27, 16, 10, 112]
abbrev dktX5_adds_0 : List UInt8 := dkwX5_adds_0 ++ dktX5_adds_1
theorem dksX5_adds_0 : cX5_adds.data.toList.drop 0 = dktX5_adds_0 := by decide +kernel
theorem dksX5_adds_1 : cX5_adds.data.toList.drop 24 = dktX5_adds_1 := dk_seg dksX5_adds_0 24 rfl rfl
theorem dksX5_adds_2 : cX5_adds.data.toList.drop 48 = dktX5_adds_2 := dk_seg dksX5_adds_1 24 rfl rfl
theorem dksX5_adds_3 : cX5_adds.data.toList.drop 70 = dktX5_adds_3 := dk_seg dksX5_adds_2 22 rfl rfl
theorem dX5_adds_0 : decode cX5_adds 0 = .ok (.aload_n 0, 1) := dk_42 (dk_at dksX5_adds_0 0 rfl rfl)
theorem dX5_adds_1 : decode cX5_adds 1 = .ok (.getfield 7, 3) := dk_180 0 7 (dk_at dksX5_adds_0 1 rfl rfl)
theorem dX5_adds_4 : decode cX5_adds 4 = .ok (.iconst 0, 1) := dk_3 (dk_at dksX5_adds_0 4 rfl rfl)
theorem dX5_adds_5 : decode cX5_adds 5 = .ok (.iaload, 1) := dk_46 (dk_at dksX5_adds_0 5 rfl rfl)
theorem dX5_adds_6 : decode cX5_adds 6 = .ok (.istore_n 3, 1) := dk_62 (dk_at dksX5_adds_0 6 rfl rfl)
theorem dX5_adds_7 : decode cX5_adds 7 = .ok (.aload_n 0, 1) := dk_42 (dk_at dksX5_adds_0 7 rfl rfl)
theorem dX5_adds_8 : decode cX5_adds 8 = .ok (.iload_n 3, 1) := dk_29 (dk_at dksX5_adds_0 8 rfl rfl)
theorem dX5_adds_9 : decode cX5_adds 9 = .ok (.iconst 0, 1) := dk_3 (dk_at dksX5_adds_0 9 rfl rfl)
theorem dX5_adds_10 : decode cX5_adds 10 = .ok (.iload_n 1, 1) := dk_27 (dk_at dksX5_adds_0 10 rfl rfl)
theorem dX5_adds_11 : decode cX5_adds 11 = .ok (.bipush 10, 2) := dk_16 10 (dk_at dksX5_adds_0 11 rfl rfl)
theorem dX5_adds_13 : decode cX5_adds 13 = .ok (.idiv, 1) := dk_108 (dk_at dksX5_adds_0 13 rfl rfl)
theorem dX5_adds_14 : decode cX5_adds 14 = .ok (.invokevirtual 96, 3) := dk_182 0 96 (dk_at dksX5_adds_0 14 rfl rfl)
theorem dX5_adds_17 : decode cX5_adds 17 = .ok (.aload_n 0, 1) := dk_42 (dk_at dksX5_adds_0 17 rfl rfl)
theorem dX5_adds_18 : decode cX5_adds 18 = .ok (.iload_n 3, 1) := dk_29 (dk_at dksX5_adds_0 18 rfl rfl)
theorem dX5_adds_19 : decode cX5_adds 19 = .ok (.iconst 1, 1) := dk_4 (dk_at dksX5_adds_0 19 rfl rfl)
theorem dX5_adds_20 : decode cX5_adds 20 = .ok (.iload_n 1, 1) := dk_27 (dk_at dksX5_adds_0 20 rfl rfl)
theorem dX5_adds_21 : decode cX5_adds 21 = .ok (.bipush 10, 2) := dk_16 10 (dk_at dksX5_adds_0 21 rfl rfl)
theorem dX5_adds_23 : decode cX5_adds 23 = .ok (.irem, 1) := dk_112 (dk_at dksX5_adds_0 23 rfl rfl)
theorem dX5_adds_24 : decode cX5_adds 24 = .ok (.invokevirtual 96, 3) := dk_182 0 96 (dk_at dksX5_adds_1 0 rfl rfl)
theorem dX5_adds_27 : decode cX5_adds 27 = .ok (.aload_n 0, 1) := dk_42 (dk_at dksX5_adds_1 3 rfl rfl)
theorem dX5_adds_28 : decode cX5_adds 28 = .ok (.iload_n 3, 1) := dk_29 (dk_at dksX5_adds_1 4 rfl rfl)
theorem dX5_adds_29 : decode cX5_adds 29 = .ok (.iconst 2, 1) := dk_5 (dk_at dksX5_adds_1 5 rfl rfl)
theorem dX5_adds_30 : decode cX5_adds 30 = .ok (.iload_n 2, 1) := dk_28 (dk_at dksX5_adds_1 6 rfl rfl)
theorem dX5_adds_31 : decode cX5_adds 31 = .ok (.bipush 10, 2) := dk_16 10 (dk_at dksX5_adds_1 7 rfl rfl)
theorem dX5_adds_33 : decode cX5_adds 33 = .ok (.idiv, 1) := dk_108 (dk_at dksX5_adds_1 9 rfl rfl)
theorem dX5_adds_34 : decode cX5_adds 34 = .ok (.invokevirtual 96, 3) := dk_182 0 96 (dk_at dksX5_adds_1 10 rfl rfl)
theorem dX5_adds_37 : decode cX5_adds 37 = .ok (.aload_n 0, 1) := dk_42 (dk_at dksX5_adds_1 13 rfl rfl)
theorem dX5_adds_38 : decode cX5_adds 38 = .ok (.iload_n 3, 1) := dk_29 (dk_at dksX5_adds_1 14 rfl rfl)
theorem dX5_adds_39 : decode cX5_adds 39 = .ok (.iconst 3, 1) := dk_6 (dk_at dksX5_adds_1 15 rfl rfl)
theorem dX5_adds_40 : decode cX5_adds 40 = .ok (.iload_n 2, 1) := dk_28 (dk_at dksX5_adds_1 16 rfl rfl)
theorem dX5_adds_41 : decode cX5_adds 41 = .ok (.bipush 10, 2) := dk_16 10 (dk_at dksX5_adds_1 17 rfl rfl)
theorem dX5_adds_43 : decode cX5_adds 43 = .ok (.irem, 1) := dk_112 (dk_at dksX5_adds_1 19 rfl rfl)
theorem dX5_adds_44 : decode cX5_adds 44 = .ok (.invokevirtual 96, 3) := dk_182 0 96 (dk_at dksX5_adds_1 20 rfl rfl)
theorem dX5_adds_47 : decode cX5_adds 47 = .ok (.aload_n 0, 1) := dk_42 (dk_at dksX5_adds_1 23 rfl rfl)
theorem dX5_adds_48 : decode cX5_adds 48 = .ok (.iload_n 3, 1) := dk_29 (dk_at dksX5_adds_2 0 rfl rfl)
theorem dX5_adds_49 : decode cX5_adds 49 = .ok (.iconst 4, 1) := dk_7 (dk_at dksX5_adds_2 1 rfl rfl)
theorem dX5_adds_50 : decode cX5_adds 50 = .ok (.iconst 1, 1) := dk_4 (dk_at dksX5_adds_2 2 rfl rfl)
theorem dX5_adds_51 : decode cX5_adds 51 = .ok (.invokevirtual 96, 3) := dk_182 0 96 (dk_at dksX5_adds_2 3 rfl rfl)
theorem dX5_adds_54 : decode cX5_adds 54 = .ok (.aload_n 0, 1) := dk_42 (dk_at dksX5_adds_2 6 rfl rfl)
theorem dX5_adds_55 : decode cX5_adds 55 = .ok (.iload_n 3, 1) := dk_29 (dk_at dksX5_adds_2 7 rfl rfl)
theorem dX5_adds_56 : decode cX5_adds 56 = .ok (.iconst 5, 1) := dk_8 (dk_at dksX5_adds_2 8 rfl rfl)
theorem dX5_adds_57 : decode cX5_adds 57 = .ok (.iconst 0, 1) := dk_3 (dk_at dksX5_adds_2 9 rfl rfl)
theorem dX5_adds_58 : decode cX5_adds 58 = .ok (.invokevirtual 96, 3) := dk_182 0 96 (dk_at dksX5_adds_2 10 rfl rfl)
theorem dX5_adds_61 : decode cX5_adds 61 = .ok (.aload_n 0, 1) := dk_42 (dk_at dksX5_adds_2 13 rfl rfl)
theorem dX5_adds_62 : decode cX5_adds 62 = .ok (.iload_n 3, 1) := dk_29 (dk_at dksX5_adds_2 14 rfl rfl)
theorem dX5_adds_63 : decode cX5_adds 63 = .ok (.bipush 6, 2) := dk_16 6 (dk_at dksX5_adds_2 15 rfl rfl)
theorem dX5_adds_65 : decode cX5_adds 65 = .ok (.iconst 0, 1) := dk_3 (dk_at dksX5_adds_2 17 rfl rfl)
theorem dX5_adds_66 : decode cX5_adds 66 = .ok (.invokevirtual 96, 3) := dk_182 0 96 (dk_at dksX5_adds_2 18 rfl rfl)
theorem dX5_adds_69 : decode cX5_adds 69 = .ok (.aload_n 0, 1) := dk_42 (dk_at dksX5_adds_2 21 rfl rfl)
theorem dX5_adds_70 : decode cX5_adds 70 = .ok (.getfield 7, 3) := dk_180 0 7 (dk_at dksX5_adds_3 0 rfl rfl)
theorem dX5_adds_73 : decode cX5_adds 73 = .ok (.iconst 0, 1) := dk_3 (dk_at dksX5_adds_3 3 rfl rfl)
theorem dX5_adds_74 : decode cX5_adds 74 = .ok (.dup2, 1) := dk_92 (dk_at dksX5_adds_3 4 rfl rfl)
theorem dX5_adds_75 : decode cX5_adds 75 = .ok (.iaload, 1) := dk_46 (dk_at dksX5_adds_3 5 rfl rfl)
theorem dX5_adds_76 : decode cX5_adds 76 = .ok (.iconst 1, 1) := dk_4 (dk_at dksX5_adds_3 6 rfl rfl)
theorem dX5_adds_77 : decode cX5_adds 77 = .ok (.iadd, 1) := dk_96 (dk_at dksX5_adds_3 7 rfl rfl)
theorem dX5_adds_78 : decode cX5_adds 78 = .ok (.iastore, 1) := dk_79 (dk_at dksX5_adds_3 8 rfl rfl)
theorem dX5_adds_79 : decode cX5_adds 79 = .ok (.iload_n 3, 1) := dk_29 (dk_at dksX5_adds_3 9 rfl rfl)
theorem dX5_adds_80 : decode cX5_adds 80 = .ok (.ireturn, 1) := dk_172 (dk_at dksX5_adds_3 10 rfl rfl)
abbrev cX5_lays1 : ByteArray := prog_20_method_10_code
def yX5_lays1 : MethodName := ⟨RX5, "lays1", "(III)V"⟩
def dkwX5_lays1_0 : List UInt8 := [42, 180, 0, 7, 16, 52, 16, 7, 27, 104, 96, 28, 96, 29, 79, 177]
abbrev dktX5_lays1_0 : List UInt8 := dkwX5_lays1_0 ++ []
theorem dksX5_lays1_0 : cX5_lays1.data.toList.drop 0 = dktX5_lays1_0 := by decide +kernel
theorem dX5_lays1_0 : decode cX5_lays1 0 = .ok (.aload_n 0, 1) := dk_42 (dk_at dksX5_lays1_0 0 rfl rfl)
theorem dX5_lays1_1 : decode cX5_lays1 1 = .ok (.getfield 7, 3) := dk_180 0 7 (dk_at dksX5_lays1_0 1 rfl rfl)
theorem dX5_lays1_4 : decode cX5_lays1 4 = .ok (.bipush 52, 2) := dk_16 52 (dk_at dksX5_lays1_0 4 rfl rfl)
theorem dX5_lays1_6 : decode cX5_lays1 6 = .ok (.bipush 7, 2) := dk_16 7 (dk_at dksX5_lays1_0 6 rfl rfl)
theorem dX5_lays1_8 : decode cX5_lays1 8 = .ok (.iload_n 1, 1) := dk_27 (dk_at dksX5_lays1_0 8 rfl rfl)
theorem dX5_lays1_9 : decode cX5_lays1 9 = .ok (.imul, 1) := dk_104 (dk_at dksX5_lays1_0 9 rfl rfl)
theorem dX5_lays1_10 : decode cX5_lays1 10 = .ok (.iadd, 1) := dk_96 (dk_at dksX5_lays1_0 10 rfl rfl)
theorem dX5_lays1_11 : decode cX5_lays1 11 = .ok (.iload_n 2, 1) := dk_28 (dk_at dksX5_lays1_0 11 rfl rfl)
theorem dX5_lays1_12 : decode cX5_lays1 12 = .ok (.iadd, 1) := dk_96 (dk_at dksX5_lays1_0 12 rfl rfl)
theorem dX5_lays1_13 : decode cX5_lays1 13 = .ok (.iload_n 3, 1) := dk_29 (dk_at dksX5_lays1_0 13 rfl rfl)
theorem dX5_lays1_14 : decode cX5_lays1 14 = .ok (.iastore, 1) := dk_79 (dk_at dksX5_lays1_0 14 rfl rfl)
theorem dX5_lays1_15 : decode cX5_lays1 15 = .ok (.return_, 1) := dk_177 (dk_at dksX5_lays1_0 15 rfl rfl)
abbrev cX5_wheelIs : ByteArray := prog_20_method_26_code
def yX5_wheelIs : MethodName := ⟨RX5, "wheelIs", "(II)I"⟩
def dkwX5_wheelIs_1 : List UInt8 := [167, 0, 8, 42, 4, 182, 0, 76, 172]
abbrev dktX5_wheelIs_1 : List UInt8 := dkwX5_wheelIs_1 ++ []
def dkwX5_wheelIs_0 : List UInt8 := [42, 27, 182, 0, 112, 153, 0, 22, 28, 3, 16, 9, 184, 0, 56, 153, 0, 12, 42, 27, 28, 182, 0, 115]
abbrev dktX5_wheelIs_0 : List UInt8 := dkwX5_wheelIs_0 ++ dktX5_wheelIs_1
theorem dksX5_wheelIs_0 : cX5_wheelIs.data.toList.drop 0 = dktX5_wheelIs_0 := by decide +kernel
theorem dksX5_wheelIs_1 : cX5_wheelIs.data.toList.drop 24 = dktX5_wheelIs_1 := dk_seg dksX5_wheelIs_0 24 rfl rfl
theorem dX5_wheelIs_0 : decode cX5_wheelIs 0 = .ok (.aload_n 0, 1) := dk_42 (dk_at dksX5_wheelIs_0 0 rfl rfl)
theorem dX5_wheelIs_1 : decode cX5_wheelIs 1 = .ok (.iload_n 1, 1) := dk_27 (dk_at dksX5_wheelIs_0 1 rfl rfl)
theorem dX5_wheelIs_2 : decode cX5_wheelIs 2 = .ok (.invokevirtual 112, 3) := dk_182 0 112 (dk_at dksX5_wheelIs_0 2 rfl rfl)
theorem dX5_wheelIs_5 : decode cX5_wheelIs 5 = .ok (.ifCond .eq 22, 3) := dk_153 0 22 (dk_at dksX5_wheelIs_0 5 rfl rfl)
theorem dX5_wheelIs_8 : decode cX5_wheelIs 8 = .ok (.iload_n 2, 1) := dk_28 (dk_at dksX5_wheelIs_0 8 rfl rfl)
theorem dX5_wheelIs_9 : decode cX5_wheelIs 9 = .ok (.iconst 0, 1) := dk_3 (dk_at dksX5_wheelIs_0 9 rfl rfl)
theorem dX5_wheelIs_10 : decode cX5_wheelIs 10 = .ok (.bipush 9, 2) := dk_16 9 (dk_at dksX5_wheelIs_0 10 rfl rfl)
theorem dX5_wheelIs_12 : decode cX5_wheelIs 12 = .ok (.invokestatic 56, 3) := dk_184 0 56 (dk_at dksX5_wheelIs_0 12 rfl rfl)
theorem dX5_wheelIs_15 : decode cX5_wheelIs 15 = .ok (.ifCond .eq 12, 3) := dk_153 0 12 (dk_at dksX5_wheelIs_0 15 rfl rfl)
theorem dX5_wheelIs_18 : decode cX5_wheelIs 18 = .ok (.aload_n 0, 1) := dk_42 (dk_at dksX5_wheelIs_0 18 rfl rfl)
theorem dX5_wheelIs_19 : decode cX5_wheelIs 19 = .ok (.iload_n 1, 1) := dk_27 (dk_at dksX5_wheelIs_0 19 rfl rfl)
theorem dX5_wheelIs_20 : decode cX5_wheelIs 20 = .ok (.iload_n 2, 1) := dk_28 (dk_at dksX5_wheelIs_0 20 rfl rfl)
theorem dX5_wheelIs_21 : decode cX5_wheelIs 21 = .ok (.invokevirtual 115, 3) := dk_182 0 115 (dk_at dksX5_wheelIs_0 21 rfl rfl)
theorem dX5_wheelIs_24 : decode cX5_wheelIs 24 = .ok (.goto 8, 3) := dk_167 0 8 (dk_at dksX5_wheelIs_1 0 rfl rfl)
theorem dX5_wheelIs_27 : decode cX5_wheelIs 27 = .ok (.aload_n 0, 1) := dk_42 (dk_at dksX5_wheelIs_1 3 rfl rfl)
theorem dX5_wheelIs_28 : decode cX5_wheelIs 28 = .ok (.iconst 1, 1) := dk_4 (dk_at dksX5_wheelIs_1 4 rfl rfl)
theorem dX5_wheelIs_29 : decode cX5_wheelIs 29 = .ok (.invokevirtual 76, 3) := dk_182 0 76 (dk_at dksX5_wheelIs_1 5 rfl rfl)
theorem dX5_wheelIs_32 : decode cX5_wheelIs 32 = .ok (.ireturn, 1) := dk_172 (dk_at dksX5_wheelIs_1 8 rfl rfl)
abbrev cX5_isWheel : ByteArray := prog_20_method_6_code
def yX5_isWheel : MethodName := ⟨RX5, "isWheel", "(I)Z"⟩
def dkwX5_isWheel_0 : List UInt8 := [27, 3, 42, 180, 0, 7, 3, 46, 4, 100, 184, 0, 56, 172]
abbrev dktX5_isWheel_0 : List UInt8 := dkwX5_isWheel_0 ++ []
theorem dksX5_isWheel_0 : cX5_isWheel.data.toList.drop 0 = dktX5_isWheel_0 := by decide +kernel
theorem dX5_isWheel_0 : decode cX5_isWheel 0 = .ok (.iload_n 1, 1) := dk_27 (dk_at dksX5_isWheel_0 0 rfl rfl)
theorem dX5_isWheel_1 : decode cX5_isWheel 1 = .ok (.iconst 0, 1) := dk_3 (dk_at dksX5_isWheel_0 1 rfl rfl)
theorem dX5_isWheel_2 : decode cX5_isWheel 2 = .ok (.aload_n 0, 1) := dk_42 (dk_at dksX5_isWheel_0 2 rfl rfl)
theorem dX5_isWheel_3 : decode cX5_isWheel 3 = .ok (.getfield 7, 3) := dk_180 0 7 (dk_at dksX5_isWheel_0 3 rfl rfl)
theorem dX5_isWheel_6 : decode cX5_isWheel 6 = .ok (.iconst 0, 1) := dk_3 (dk_at dksX5_isWheel_0 6 rfl rfl)
theorem dX5_isWheel_7 : decode cX5_isWheel 7 = .ok (.iaload, 1) := dk_46 (dk_at dksX5_isWheel_0 7 rfl rfl)
theorem dX5_isWheel_8 : decode cX5_isWheel 8 = .ok (.iconst 1, 1) := dk_4 (dk_at dksX5_isWheel_0 8 rfl rfl)
theorem dX5_isWheel_9 : decode cX5_isWheel 9 = .ok (.isub, 1) := dk_100 (dk_at dksX5_isWheel_0 9 rfl rfl)
theorem dX5_isWheel_10 : decode cX5_isWheel 10 = .ok (.invokestatic 56, 3) := dk_184 0 56 (dk_at dksX5_isWheel_0 10 rfl rfl)
theorem dX5_isWheel_13 : decode cX5_isWheel 13 = .ok (.ireturn, 1) := dk_172 (dk_at dksX5_isWheel_0 13 rfl rfl)
abbrev cX5_toldWheel : ByteArray := prog_20_method_25_code
def yX5_toldWheel : MethodName := ⟨RX5, "toldWheel", "(II)I"⟩
def dkwX5_toldWheel_2 : List UInt8 := [182, 0, 106, 167, 0, 14, 42, 27, 42, 180, 0, 34, 27, 46, 182, 0, 109, 172]
abbrev dktX5_toldWheel_2 : List UInt8 := dkwX5_toldWheel_2 ++ []
def dkwX5_toldWheel_1 : List UInt8 := [180, 0, 34, 27, 46, 167, 0, 34, 28, 16, 8, 160, 0, 17, 42, 27, 42, 180, 0, 34, 27, 46]
abbrev dktX5_toldWheel_1 : List UInt8 := dkwX5_toldWheel_1 ++ dktX5_toldWheel_2
def dkwX5_toldWheel_0 : List UInt8 := [28, 16, 7, 162, 0, 10, 42, 27, 28, 182, 0, 90, 172, 42, 182, 0, 103, 28, 16, 7, 160, 0, 12, 42]
abbrev dktX5_toldWheel_0 : List UInt8 := dkwX5_toldWheel_0 ++ dktX5_toldWheel_1
theorem dksX5_toldWheel_0 : cX5_toldWheel.data.toList.drop 0 = dktX5_toldWheel_0 := by decide +kernel
theorem dksX5_toldWheel_1 : cX5_toldWheel.data.toList.drop 24 = dktX5_toldWheel_1 := dk_seg dksX5_toldWheel_0 24 rfl rfl
theorem dksX5_toldWheel_2 : cX5_toldWheel.data.toList.drop 46 = dktX5_toldWheel_2 := dk_seg dksX5_toldWheel_1 22 rfl rfl
theorem dX5_toldWheel_0 : decode cX5_toldWheel 0 = .ok (.iload_n 2, 1) := dk_28 (dk_at dksX5_toldWheel_0 0 rfl rfl)
theorem dX5_toldWheel_1 : decode cX5_toldWheel 1 = .ok (.bipush 7, 2) := dk_16 7 (dk_at dksX5_toldWheel_0 1 rfl rfl)
theorem dX5_toldWheel_3 : decode cX5_toldWheel 3 = .ok (.if_icmp .ge 10, 3) := dk_162 0 10 (dk_at dksX5_toldWheel_0 3 rfl rfl)
theorem dX5_toldWheel_6 : decode cX5_toldWheel 6 = .ok (.aload_n 0, 1) := dk_42 (dk_at dksX5_toldWheel_0 6 rfl rfl)
theorem dX5_toldWheel_7 : decode cX5_toldWheel 7 = .ok (.iload_n 1, 1) := dk_27 (dk_at dksX5_toldWheel_0 7 rfl rfl)
theorem dX5_toldWheel_8 : decode cX5_toldWheel 8 = .ok (.iload_n 2, 1) := dk_28 (dk_at dksX5_toldWheel_0 8 rfl rfl)
theorem dX5_toldWheel_9 : decode cX5_toldWheel 9 = .ok (.invokevirtual 90, 3) := dk_182 0 90 (dk_at dksX5_toldWheel_0 9 rfl rfl)
theorem dX5_toldWheel_12 : decode cX5_toldWheel 12 = .ok (.ireturn, 1) := dk_172 (dk_at dksX5_toldWheel_0 12 rfl rfl)
theorem dX5_toldWheel_13 : decode cX5_toldWheel 13 = .ok (.aload_n 0, 1) := dk_42 (dk_at dksX5_toldWheel_0 13 rfl rfl)
theorem dX5_toldWheel_14 : decode cX5_toldWheel 14 = .ok (.invokevirtual 103, 3) := dk_182 0 103 (dk_at dksX5_toldWheel_0 14 rfl rfl)
theorem dX5_toldWheel_17 : decode cX5_toldWheel 17 = .ok (.iload_n 2, 1) := dk_28 (dk_at dksX5_toldWheel_0 17 rfl rfl)
theorem dX5_toldWheel_18 : decode cX5_toldWheel 18 = .ok (.bipush 7, 2) := dk_16 7 (dk_at dksX5_toldWheel_0 18 rfl rfl)
theorem dX5_toldWheel_20 : decode cX5_toldWheel 20 = .ok (.if_icmp .ne 12, 3) := dk_160 0 12 (dk_at dksX5_toldWheel_0 20 rfl rfl)
theorem dX5_toldWheel_23 : decode cX5_toldWheel 23 = .ok (.aload_n 0, 1) := dk_42 (dk_at dksX5_toldWheel_0 23 rfl rfl)
theorem dX5_toldWheel_24 : decode cX5_toldWheel 24 = .ok (.getfield 34, 3) := dk_180 0 34 (dk_at dksX5_toldWheel_1 0 rfl rfl)
theorem dX5_toldWheel_27 : decode cX5_toldWheel 27 = .ok (.iload_n 1, 1) := dk_27 (dk_at dksX5_toldWheel_1 3 rfl rfl)
theorem dX5_toldWheel_28 : decode cX5_toldWheel 28 = .ok (.iaload, 1) := dk_46 (dk_at dksX5_toldWheel_1 4 rfl rfl)
theorem dX5_toldWheel_29 : decode cX5_toldWheel 29 = .ok (.goto 34, 3) := dk_167 0 34 (dk_at dksX5_toldWheel_1 5 rfl rfl)
theorem dX5_toldWheel_32 : decode cX5_toldWheel 32 = .ok (.iload_n 2, 1) := dk_28 (dk_at dksX5_toldWheel_1 8 rfl rfl)
theorem dX5_toldWheel_33 : decode cX5_toldWheel 33 = .ok (.bipush 8, 2) := dk_16 8 (dk_at dksX5_toldWheel_1 9 rfl rfl)
theorem dX5_toldWheel_35 : decode cX5_toldWheel 35 = .ok (.if_icmp .ne 17, 3) := dk_160 0 17 (dk_at dksX5_toldWheel_1 11 rfl rfl)
theorem dX5_toldWheel_38 : decode cX5_toldWheel 38 = .ok (.aload_n 0, 1) := dk_42 (dk_at dksX5_toldWheel_1 14 rfl rfl)
theorem dX5_toldWheel_39 : decode cX5_toldWheel 39 = .ok (.iload_n 1, 1) := dk_27 (dk_at dksX5_toldWheel_1 15 rfl rfl)
theorem dX5_toldWheel_40 : decode cX5_toldWheel 40 = .ok (.aload_n 0, 1) := dk_42 (dk_at dksX5_toldWheel_1 16 rfl rfl)
theorem dX5_toldWheel_41 : decode cX5_toldWheel 41 = .ok (.getfield 34, 3) := dk_180 0 34 (dk_at dksX5_toldWheel_1 17 rfl rfl)
theorem dX5_toldWheel_44 : decode cX5_toldWheel 44 = .ok (.iload_n 1, 1) := dk_27 (dk_at dksX5_toldWheel_1 20 rfl rfl)
theorem dX5_toldWheel_45 : decode cX5_toldWheel 45 = .ok (.iaload, 1) := dk_46 (dk_at dksX5_toldWheel_1 21 rfl rfl)
theorem dX5_toldWheel_46 : decode cX5_toldWheel 46 = .ok (.invokevirtual 106, 3) := dk_182 0 106 (dk_at dksX5_toldWheel_2 0 rfl rfl)
theorem dX5_toldWheel_49 : decode cX5_toldWheel 49 = .ok (.goto 14, 3) := dk_167 0 14 (dk_at dksX5_toldWheel_2 3 rfl rfl)
theorem dX5_toldWheel_52 : decode cX5_toldWheel 52 = .ok (.aload_n 0, 1) := dk_42 (dk_at dksX5_toldWheel_2 6 rfl rfl)
theorem dX5_toldWheel_53 : decode cX5_toldWheel 53 = .ok (.iload_n 1, 1) := dk_27 (dk_at dksX5_toldWheel_2 7 rfl rfl)
theorem dX5_toldWheel_54 : decode cX5_toldWheel 54 = .ok (.aload_n 0, 1) := dk_42 (dk_at dksX5_toldWheel_2 8 rfl rfl)
theorem dX5_toldWheel_55 : decode cX5_toldWheel 55 = .ok (.getfield 34, 3) := dk_180 0 34 (dk_at dksX5_toldWheel_2 9 rfl rfl)
theorem dX5_toldWheel_58 : decode cX5_toldWheel 58 = .ok (.iload_n 1, 1) := dk_27 (dk_at dksX5_toldWheel_2 12 rfl rfl)
theorem dX5_toldWheel_59 : decode cX5_toldWheel 59 = .ok (.iaload, 1) := dk_46 (dk_at dksX5_toldWheel_2 13 rfl rfl)
theorem dX5_toldWheel_60 : decode cX5_toldWheel 60 = .ok (.invokevirtual 109, 3) := dk_182 0 109 (dk_at dksX5_toldWheel_2 14 rfl rfl)
theorem dX5_toldWheel_63 : decode cX5_toldWheel 63 = .ok (.ireturn, 1) := dk_172 (dk_at dksX5_toldWheel_2 17 rfl rfl)
abbrev cX5_flow : ByteArray := prog_20_method_53_code
def yX5_flow : MethodName := ⟨RX5, "flow", "()V"⟩
def dkwX5_flow_6 : List UInt8 := [181, 0, 197, 132, 4, 1, 167, 255, 191, 132, 2, 1, 167, 255, 128, 42, 180, 0, 31, 16, 12, 27, 79, 177]
abbrev dktX5_flow_6 : List UInt8 := dkwX5_flow_6 ++ []
def dkwX5_flow_5 : List UInt8 := [27, 42, 180, 0, 34, 21, 4, 46, 100, 60, 42, 89, 180, 0, 197, 42, 180, 0, 34, 21, 4, 46, 96]
abbrev dktX5_flow_5 : List UInt8 := dkwX5_flow_5 ++ dktX5_flow_6
def dkwX5_flow_4 : List UInt8 := [21, 4, 5, 182, 0, 90, 28, 160, 0, 43, 42, 180, 0, 34, 21, 4, 42, 21, 4, 27, 182, 0, 200, 79]
abbrev dktX5_flow_4 : List UInt8 := dkwX5_flow_4 ++ dktX5_flow_5
def dkwX5_flow_3 : List UInt8 := [180, 0, 194, 29, 96, 181, 0, 194, 3, 54, 4, 21, 4, 42, 180, 0, 7, 3, 46, 162, 0, 60, 42]
abbrev dktX5_flow_3 : List UInt8 := dkwX5_flow_3 ++ dktX5_flow_4
def dkwX5_flow_2 : List UInt8 := [162, 0, 15, 42, 180, 0, 7, 16, 30, 28, 96, 46, 167, 0, 4, 27, 62, 27, 29, 100, 60, 42, 89]
abbrev dktX5_flow_2 : List UInt8 := dkwX5_flow_2 ++ dktX5_flow_3
def dkwX5_flow_1 : List UInt8 := [61, 28, 16, 12, 162, 0, 128, 42, 180, 0, 31, 28, 27, 79, 42, 180, 0, 7, 16, 30, 28, 96, 46, 27]
abbrev dktX5_flow_1 : List UInt8 := dkwX5_flow_1 ++ dktX5_flow_2
def dkwX5_flow_0 : List UInt8 := [42, 180, 0, 7, 16, 6, 42, 182, 0, 179, 96, 46, 60, 42, 3, 181, 0, 194, 42, 3, 181, 0, 197, 3]
abbrev dktX5_flow_0 : List UInt8 := dkwX5_flow_0 ++ dktX5_flow_1
theorem dksX5_flow_0 : cX5_flow.data.toList.drop 0 = dktX5_flow_0 := by decide +kernel
theorem dksX5_flow_1 : cX5_flow.data.toList.drop 24 = dktX5_flow_1 := dk_seg dksX5_flow_0 24 rfl rfl
theorem dksX5_flow_2 : cX5_flow.data.toList.drop 48 = dktX5_flow_2 := dk_seg dksX5_flow_1 24 rfl rfl
theorem dksX5_flow_3 : cX5_flow.data.toList.drop 71 = dktX5_flow_3 := dk_seg dksX5_flow_2 23 rfl rfl
theorem dksX5_flow_4 : cX5_flow.data.toList.drop 94 = dktX5_flow_4 := dk_seg dksX5_flow_3 23 rfl rfl
theorem dksX5_flow_5 : cX5_flow.data.toList.drop 118 = dktX5_flow_5 := dk_seg dksX5_flow_4 24 rfl rfl
theorem dksX5_flow_6 : cX5_flow.data.toList.drop 141 = dktX5_flow_6 := dk_seg dksX5_flow_5 23 rfl rfl
theorem dX5_flow_0 : decode cX5_flow 0 = .ok (.aload_n 0, 1) := dk_42 (dk_at dksX5_flow_0 0 rfl rfl)
theorem dX5_flow_1 : decode cX5_flow 1 = .ok (.getfield 7, 3) := dk_180 0 7 (dk_at dksX5_flow_0 1 rfl rfl)
theorem dX5_flow_4 : decode cX5_flow 4 = .ok (.bipush 6, 2) := dk_16 6 (dk_at dksX5_flow_0 4 rfl rfl)
theorem dX5_flow_6 : decode cX5_flow 6 = .ok (.aload_n 0, 1) := dk_42 (dk_at dksX5_flow_0 6 rfl rfl)
theorem dX5_flow_7 : decode cX5_flow 7 = .ok (.invokevirtual 179, 3) := dk_182 0 179 (dk_at dksX5_flow_0 7 rfl rfl)
theorem dX5_flow_10 : decode cX5_flow 10 = .ok (.iadd, 1) := dk_96 (dk_at dksX5_flow_0 10 rfl rfl)
theorem dX5_flow_11 : decode cX5_flow 11 = .ok (.iaload, 1) := dk_46 (dk_at dksX5_flow_0 11 rfl rfl)
theorem dX5_flow_12 : decode cX5_flow 12 = .ok (.istore_n 1, 1) := dk_60 (dk_at dksX5_flow_0 12 rfl rfl)
theorem dX5_flow_13 : decode cX5_flow 13 = .ok (.aload_n 0, 1) := dk_42 (dk_at dksX5_flow_0 13 rfl rfl)
theorem dX5_flow_14 : decode cX5_flow 14 = .ok (.iconst 0, 1) := dk_3 (dk_at dksX5_flow_0 14 rfl rfl)
theorem dX5_flow_15 : decode cX5_flow 15 = .ok (.putfield 194, 3) := dk_181 0 194 (dk_at dksX5_flow_0 15 rfl rfl)
theorem dX5_flow_18 : decode cX5_flow 18 = .ok (.aload_n 0, 1) := dk_42 (dk_at dksX5_flow_0 18 rfl rfl)
theorem dX5_flow_19 : decode cX5_flow 19 = .ok (.iconst 0, 1) := dk_3 (dk_at dksX5_flow_0 19 rfl rfl)
theorem dX5_flow_20 : decode cX5_flow 20 = .ok (.putfield 197, 3) := dk_181 0 197 (dk_at dksX5_flow_0 20 rfl rfl)
theorem dX5_flow_23 : decode cX5_flow 23 = .ok (.iconst 0, 1) := dk_3 (dk_at dksX5_flow_0 23 rfl rfl)
theorem dX5_flow_24 : decode cX5_flow 24 = .ok (.istore_n 2, 1) := dk_61 (dk_at dksX5_flow_1 0 rfl rfl)
theorem dX5_flow_25 : decode cX5_flow 25 = .ok (.iload_n 2, 1) := dk_28 (dk_at dksX5_flow_1 1 rfl rfl)
theorem dX5_flow_26 : decode cX5_flow 26 = .ok (.bipush 12, 2) := dk_16 12 (dk_at dksX5_flow_1 2 rfl rfl)
theorem dX5_flow_28 : decode cX5_flow 28 = .ok (.if_icmp .ge 128, 3) := dk_162 0 128 (dk_at dksX5_flow_1 4 rfl rfl)
theorem dX5_flow_31 : decode cX5_flow 31 = .ok (.aload_n 0, 1) := dk_42 (dk_at dksX5_flow_1 7 rfl rfl)
theorem dX5_flow_32 : decode cX5_flow 32 = .ok (.getfield 31, 3) := dk_180 0 31 (dk_at dksX5_flow_1 8 rfl rfl)
theorem dX5_flow_35 : decode cX5_flow 35 = .ok (.iload_n 2, 1) := dk_28 (dk_at dksX5_flow_1 11 rfl rfl)
theorem dX5_flow_36 : decode cX5_flow 36 = .ok (.iload_n 1, 1) := dk_27 (dk_at dksX5_flow_1 12 rfl rfl)
theorem dX5_flow_37 : decode cX5_flow 37 = .ok (.iastore, 1) := dk_79 (dk_at dksX5_flow_1 13 rfl rfl)
theorem dX5_flow_38 : decode cX5_flow 38 = .ok (.aload_n 0, 1) := dk_42 (dk_at dksX5_flow_1 14 rfl rfl)
theorem dX5_flow_39 : decode cX5_flow 39 = .ok (.getfield 7, 3) := dk_180 0 7 (dk_at dksX5_flow_1 15 rfl rfl)
theorem dX5_flow_42 : decode cX5_flow 42 = .ok (.bipush 30, 2) := dk_16 30 (dk_at dksX5_flow_1 18 rfl rfl)
theorem dX5_flow_44 : decode cX5_flow 44 = .ok (.iload_n 2, 1) := dk_28 (dk_at dksX5_flow_1 20 rfl rfl)
theorem dX5_flow_45 : decode cX5_flow 45 = .ok (.iadd, 1) := dk_96 (dk_at dksX5_flow_1 21 rfl rfl)
theorem dX5_flow_46 : decode cX5_flow 46 = .ok (.iaload, 1) := dk_46 (dk_at dksX5_flow_1 22 rfl rfl)
theorem dX5_flow_47 : decode cX5_flow 47 = .ok (.iload_n 1, 1) := dk_27 (dk_at dksX5_flow_1 23 rfl rfl)
theorem dX5_flow_48 : decode cX5_flow 48 = .ok (.if_icmp .ge 15, 3) := dk_162 0 15 (dk_at dksX5_flow_2 0 rfl rfl)
theorem dX5_flow_51 : decode cX5_flow 51 = .ok (.aload_n 0, 1) := dk_42 (dk_at dksX5_flow_2 3 rfl rfl)
theorem dX5_flow_52 : decode cX5_flow 52 = .ok (.getfield 7, 3) := dk_180 0 7 (dk_at dksX5_flow_2 4 rfl rfl)
theorem dX5_flow_55 : decode cX5_flow 55 = .ok (.bipush 30, 2) := dk_16 30 (dk_at dksX5_flow_2 7 rfl rfl)
theorem dX5_flow_57 : decode cX5_flow 57 = .ok (.iload_n 2, 1) := dk_28 (dk_at dksX5_flow_2 9 rfl rfl)
theorem dX5_flow_58 : decode cX5_flow 58 = .ok (.iadd, 1) := dk_96 (dk_at dksX5_flow_2 10 rfl rfl)
theorem dX5_flow_59 : decode cX5_flow 59 = .ok (.iaload, 1) := dk_46 (dk_at dksX5_flow_2 11 rfl rfl)
theorem dX5_flow_60 : decode cX5_flow 60 = .ok (.goto 4, 3) := dk_167 0 4 (dk_at dksX5_flow_2 12 rfl rfl)
theorem dX5_flow_63 : decode cX5_flow 63 = .ok (.iload_n 1, 1) := dk_27 (dk_at dksX5_flow_2 15 rfl rfl)
theorem dX5_flow_64 : decode cX5_flow 64 = .ok (.istore_n 3, 1) := dk_62 (dk_at dksX5_flow_2 16 rfl rfl)
theorem dX5_flow_65 : decode cX5_flow 65 = .ok (.iload_n 1, 1) := dk_27 (dk_at dksX5_flow_2 17 rfl rfl)
theorem dX5_flow_66 : decode cX5_flow 66 = .ok (.iload_n 3, 1) := dk_29 (dk_at dksX5_flow_2 18 rfl rfl)
theorem dX5_flow_67 : decode cX5_flow 67 = .ok (.isub, 1) := dk_100 (dk_at dksX5_flow_2 19 rfl rfl)
theorem dX5_flow_68 : decode cX5_flow 68 = .ok (.istore_n 1, 1) := dk_60 (dk_at dksX5_flow_2 20 rfl rfl)
theorem dX5_flow_69 : decode cX5_flow 69 = .ok (.aload_n 0, 1) := dk_42 (dk_at dksX5_flow_2 21 rfl rfl)
theorem dX5_flow_70 : decode cX5_flow 70 = .ok (.dup, 1) := dk_89 (dk_at dksX5_flow_2 22 rfl rfl)
theorem dX5_flow_71 : decode cX5_flow 71 = .ok (.getfield 194, 3) := dk_180 0 194 (dk_at dksX5_flow_3 0 rfl rfl)
theorem dX5_flow_74 : decode cX5_flow 74 = .ok (.iload_n 3, 1) := dk_29 (dk_at dksX5_flow_3 3 rfl rfl)
theorem dX5_flow_75 : decode cX5_flow 75 = .ok (.iadd, 1) := dk_96 (dk_at dksX5_flow_3 4 rfl rfl)
theorem dX5_flow_76 : decode cX5_flow 76 = .ok (.putfield 194, 3) := dk_181 0 194 (dk_at dksX5_flow_3 5 rfl rfl)
theorem dX5_flow_79 : decode cX5_flow 79 = .ok (.iconst 0, 1) := dk_3 (dk_at dksX5_flow_3 8 rfl rfl)
theorem dX5_flow_80 : decode cX5_flow 80 = .ok (.istore 4, 2) := dk_54 4 (dk_at dksX5_flow_3 9 rfl rfl)
theorem dX5_flow_82 : decode cX5_flow 82 = .ok (.iload 4, 2) := dk_21 4 (dk_at dksX5_flow_3 11 rfl rfl)
theorem dX5_flow_84 : decode cX5_flow 84 = .ok (.aload_n 0, 1) := dk_42 (dk_at dksX5_flow_3 13 rfl rfl)
theorem dX5_flow_85 : decode cX5_flow 85 = .ok (.getfield 7, 3) := dk_180 0 7 (dk_at dksX5_flow_3 14 rfl rfl)
theorem dX5_flow_88 : decode cX5_flow 88 = .ok (.iconst 0, 1) := dk_3 (dk_at dksX5_flow_3 17 rfl rfl)
theorem dX5_flow_89 : decode cX5_flow 89 = .ok (.iaload, 1) := dk_46 (dk_at dksX5_flow_3 18 rfl rfl)
theorem dX5_flow_90 : decode cX5_flow 90 = .ok (.if_icmp .ge 60, 3) := dk_162 0 60 (dk_at dksX5_flow_3 19 rfl rfl)
theorem dX5_flow_93 : decode cX5_flow 93 = .ok (.aload_n 0, 1) := dk_42 (dk_at dksX5_flow_3 22 rfl rfl)
theorem dX5_flow_94 : decode cX5_flow 94 = .ok (.iload 4, 2) := dk_21 4 (dk_at dksX5_flow_4 0 rfl rfl)
theorem dX5_flow_96 : decode cX5_flow 96 = .ok (.iconst 2, 1) := dk_5 (dk_at dksX5_flow_4 2 rfl rfl)
theorem dX5_flow_97 : decode cX5_flow 97 = .ok (.invokevirtual 90, 3) := dk_182 0 90 (dk_at dksX5_flow_4 3 rfl rfl)
theorem dX5_flow_100 : decode cX5_flow 100 = .ok (.iload_n 2, 1) := dk_28 (dk_at dksX5_flow_4 6 rfl rfl)
theorem dX5_flow_101 : decode cX5_flow 101 = .ok (.if_icmp .ne 43, 3) := dk_160 0 43 (dk_at dksX5_flow_4 7 rfl rfl)
theorem dX5_flow_104 : decode cX5_flow 104 = .ok (.aload_n 0, 1) := dk_42 (dk_at dksX5_flow_4 10 rfl rfl)
theorem dX5_flow_105 : decode cX5_flow 105 = .ok (.getfield 34, 3) := dk_180 0 34 (dk_at dksX5_flow_4 11 rfl rfl)
theorem dX5_flow_108 : decode cX5_flow 108 = .ok (.iload 4, 2) := dk_21 4 (dk_at dksX5_flow_4 14 rfl rfl)
theorem dX5_flow_110 : decode cX5_flow 110 = .ok (.aload_n 0, 1) := dk_42 (dk_at dksX5_flow_4 16 rfl rfl)
theorem dX5_flow_111 : decode cX5_flow 111 = .ok (.iload 4, 2) := dk_21 4 (dk_at dksX5_flow_4 17 rfl rfl)
theorem dX5_flow_113 : decode cX5_flow 113 = .ok (.iload_n 1, 1) := dk_27 (dk_at dksX5_flow_4 19 rfl rfl)
theorem dX5_flow_114 : decode cX5_flow 114 = .ok (.invokevirtual 200, 3) := dk_182 0 200 (dk_at dksX5_flow_4 20 rfl rfl)
theorem dX5_flow_117 : decode cX5_flow 117 = .ok (.iastore, 1) := dk_79 (dk_at dksX5_flow_4 23 rfl rfl)
theorem dX5_flow_118 : decode cX5_flow 118 = .ok (.iload_n 1, 1) := dk_27 (dk_at dksX5_flow_5 0 rfl rfl)
theorem dX5_flow_119 : decode cX5_flow 119 = .ok (.aload_n 0, 1) := dk_42 (dk_at dksX5_flow_5 1 rfl rfl)
theorem dX5_flow_120 : decode cX5_flow 120 = .ok (.getfield 34, 3) := dk_180 0 34 (dk_at dksX5_flow_5 2 rfl rfl)
theorem dX5_flow_123 : decode cX5_flow 123 = .ok (.iload 4, 2) := dk_21 4 (dk_at dksX5_flow_5 5 rfl rfl)
theorem dX5_flow_125 : decode cX5_flow 125 = .ok (.iaload, 1) := dk_46 (dk_at dksX5_flow_5 7 rfl rfl)
theorem dX5_flow_126 : decode cX5_flow 126 = .ok (.isub, 1) := dk_100 (dk_at dksX5_flow_5 8 rfl rfl)
theorem dX5_flow_127 : decode cX5_flow 127 = .ok (.istore_n 1, 1) := dk_60 (dk_at dksX5_flow_5 9 rfl rfl)
theorem dX5_flow_128 : decode cX5_flow 128 = .ok (.aload_n 0, 1) := dk_42 (dk_at dksX5_flow_5 10 rfl rfl)
theorem dX5_flow_129 : decode cX5_flow 129 = .ok (.dup, 1) := dk_89 (dk_at dksX5_flow_5 11 rfl rfl)
theorem dX5_flow_130 : decode cX5_flow 130 = .ok (.getfield 197, 3) := dk_180 0 197 (dk_at dksX5_flow_5 12 rfl rfl)
theorem dX5_flow_133 : decode cX5_flow 133 = .ok (.aload_n 0, 1) := dk_42 (dk_at dksX5_flow_5 15 rfl rfl)
theorem dX5_flow_134 : decode cX5_flow 134 = .ok (.getfield 34, 3) := dk_180 0 34 (dk_at dksX5_flow_5 16 rfl rfl)
theorem dX5_flow_137 : decode cX5_flow 137 = .ok (.iload 4, 2) := dk_21 4 (dk_at dksX5_flow_5 19 rfl rfl)
theorem dX5_flow_139 : decode cX5_flow 139 = .ok (.iaload, 1) := dk_46 (dk_at dksX5_flow_5 21 rfl rfl)
theorem dX5_flow_140 : decode cX5_flow 140 = .ok (.iadd, 1) := dk_96 (dk_at dksX5_flow_5 22 rfl rfl)
theorem dX5_flow_141 : decode cX5_flow 141 = .ok (.putfield 197, 3) := dk_181 0 197 (dk_at dksX5_flow_6 0 rfl rfl)
theorem dX5_flow_144 : decode cX5_flow 144 = .ok (.iinc 4 1, 3) := dk_132 4 1 (dk_at dksX5_flow_6 3 rfl rfl)
theorem dX5_flow_147 : decode cX5_flow 147 = .ok (.goto (-65), 3) := dk_167 255 191 (dk_at dksX5_flow_6 6 rfl rfl)
theorem dX5_flow_150 : decode cX5_flow 150 = .ok (.iinc 2 1, 3) := dk_132 2 1 (dk_at dksX5_flow_6 9 rfl rfl)
theorem dX5_flow_153 : decode cX5_flow 153 = .ok (.goto (-128), 3) := dk_167 255 128 (dk_at dksX5_flow_6 12 rfl rfl)
theorem dX5_flow_156 : decode cX5_flow 156 = .ok (.aload_n 0, 1) := dk_42 (dk_at dksX5_flow_6 15 rfl rfl)
theorem dX5_flow_157 : decode cX5_flow 157 = .ok (.getfield 31, 3) := dk_180 0 31 (dk_at dksX5_flow_6 16 rfl rfl)
theorem dX5_flow_160 : decode cX5_flow 160 = .ok (.bipush 12, 2) := dk_16 12 (dk_at dksX5_flow_6 19 rfl rfl)
theorem dX5_flow_162 : decode cX5_flow 162 = .ok (.iload_n 1, 1) := dk_27 (dk_at dksX5_flow_6 21 rfl rfl)
theorem dX5_flow_163 : decode cX5_flow 163 = .ok (.iastore, 1) := dk_79 (dk_at dksX5_flow_6 22 rfl rfl)
theorem dX5_flow_164 : decode cX5_flow 164 = .ok (.return_, 1) := dk_177 (dk_at dksX5_flow_6 23 rfl rfl)
abbrev cX5_hourOfDay : ByteArray := prog_20_method_15_code
def yX5_hourOfDay : MethodName := ⟨RX5, "hourOfDay", "()I"⟩
def dkwX5_hourOfDay_0 : List UInt8 := [42, 180, 0, 7, 4, 46, 16, 24, 112, 172]
abbrev dktX5_hourOfDay_0 : List UInt8 := dkwX5_hourOfDay_0 ++ []
theorem dksX5_hourOfDay_0 : cX5_hourOfDay.data.toList.drop 0 = dktX5_hourOfDay_0 := by decide +kernel
theorem dX5_hourOfDay_0 : decode cX5_hourOfDay 0 = .ok (.aload_n 0, 1) := dk_42 (dk_at dksX5_hourOfDay_0 0 rfl rfl)
theorem dX5_hourOfDay_1 : decode cX5_hourOfDay 1 = .ok (.getfield 7, 3) := dk_180 0 7 (dk_at dksX5_hourOfDay_0 1 rfl rfl)
theorem dX5_hourOfDay_4 : decode cX5_hourOfDay 4 = .ok (.iconst 1, 1) := dk_4 (dk_at dksX5_hourOfDay_0 4 rfl rfl)
theorem dX5_hourOfDay_5 : decode cX5_hourOfDay 5 = .ok (.iaload, 1) := dk_46 (dk_at dksX5_hourOfDay_0 5 rfl rfl)
theorem dX5_hourOfDay_6 : decode cX5_hourOfDay 6 = .ok (.bipush 24, 2) := dk_16 24 (dk_at dksX5_hourOfDay_0 6 rfl rfl)
theorem dX5_hourOfDay_8 : decode cX5_hourOfDay 8 = .ok (.irem, 1) := dk_112 (dk_at dksX5_hourOfDay_0 8 rfl rfl)
theorem dX5_hourOfDay_9 : decode cX5_hourOfDay 9 = .ok (.ireturn, 1) := dk_172 (dk_at dksX5_hourOfDay_0 9 rfl rfl)
abbrev cX5_wants : ByteArray := prog_20_method_48_code
def yX5_wants : MethodName := ⟨RX5, "wants", "(II)I"⟩
def dkwX5_wants_4 : List UInt8 := [167, 0, 14, 42, 27, 28, 182, 0, 185, 54, 4, 167, 0, 3, 21, 4, 3, 28, 184, 0, 61, 172]
abbrev dktX5_wants_4 : List UInt8 := dkwX5_wants_4 ++ []
def dkwX5_wants_3 : List UInt8 := [28, 6, 108, 29, 96, 54, 4, 167, 0, 30, 29, 54, 4, 167, 0, 24, 5, 28, 6, 108, 104, 54, 4]
abbrev dktX5_wants_3 : List UInt8 := dkwX5_wants_3 ++ dktX5_wants_4
def dkwX5_wants_2 : List UInt8 := [170, 0, 0, 0, 74, 0, 0, 0, 1, 0, 0, 0, 6, 0, 0, 0, 37, 0, 0, 0, 47, 0, 0, 0, 53, 0, 0, 0, 37, 0, 0, 0, 53, 0, 0, 0, 63]
abbrev dktX5_wants_2 : List UInt8 := dkwX5_wants_2 ++ dktX5_wants_3
def dkwX5_wants_1 : List UInt8 := [162, 0, 5, 3, 172, 28, 6, 108, 54, 4, 42, 27, 3, 182, 0, 90]
abbrev dktX5_wants_1 : List UInt8 := dkwX5_wants_1 ++ dktX5_wants_2
def dkwX5_wants_0 : List UInt8 := [42, 27, 4, 182, 0, 90, 62, 42, 27, 7, 182, 0, 90, 153, 0, 13, 29, 42, 180, 0, 7, 5, 46]
abbrev dktX5_wants_0 : List UInt8 := dkwX5_wants_0 ++ dktX5_wants_1
theorem dksX5_wants_0 : cX5_wants.data.toList.drop 0 = dktX5_wants_0 := by decide +kernel
theorem dksX5_wants_1 : cX5_wants.data.toList.drop 23 = dktX5_wants_1 := dk_seg dksX5_wants_0 23 rfl rfl
theorem dksX5_wants_2 : cX5_wants.data.toList.drop 39 = dktX5_wants_2 := dk_seg dksX5_wants_1 16 rfl rfl
theorem dksX5_wants_3 : cX5_wants.data.toList.drop 76 = dktX5_wants_3 := dk_seg dksX5_wants_2 37 rfl rfl
theorem dksX5_wants_4 : cX5_wants.data.toList.drop 99 = dktX5_wants_4 := dk_seg dksX5_wants_3 23 rfl rfl
theorem dX5_wants_0 : decode cX5_wants 0 = .ok (.aload_n 0, 1) := dk_42 (dk_at dksX5_wants_0 0 rfl rfl)
theorem dX5_wants_1 : decode cX5_wants 1 = .ok (.iload_n 1, 1) := dk_27 (dk_at dksX5_wants_0 1 rfl rfl)
theorem dX5_wants_2 : decode cX5_wants 2 = .ok (.iconst 1, 1) := dk_4 (dk_at dksX5_wants_0 2 rfl rfl)
theorem dX5_wants_3 : decode cX5_wants 3 = .ok (.invokevirtual 90, 3) := dk_182 0 90 (dk_at dksX5_wants_0 3 rfl rfl)
theorem dX5_wants_6 : decode cX5_wants 6 = .ok (.istore_n 3, 1) := dk_62 (dk_at dksX5_wants_0 6 rfl rfl)
theorem dX5_wants_7 : decode cX5_wants 7 = .ok (.aload_n 0, 1) := dk_42 (dk_at dksX5_wants_0 7 rfl rfl)
theorem dX5_wants_8 : decode cX5_wants 8 = .ok (.iload_n 1, 1) := dk_27 (dk_at dksX5_wants_0 8 rfl rfl)
theorem dX5_wants_9 : decode cX5_wants 9 = .ok (.iconst 4, 1) := dk_7 (dk_at dksX5_wants_0 9 rfl rfl)
theorem dX5_wants_10 : decode cX5_wants 10 = .ok (.invokevirtual 90, 3) := dk_182 0 90 (dk_at dksX5_wants_0 10 rfl rfl)
theorem dX5_wants_13 : decode cX5_wants 13 = .ok (.ifCond .eq 13, 3) := dk_153 0 13 (dk_at dksX5_wants_0 13 rfl rfl)
theorem dX5_wants_16 : decode cX5_wants 16 = .ok (.iload_n 3, 1) := dk_29 (dk_at dksX5_wants_0 16 rfl rfl)
theorem dX5_wants_17 : decode cX5_wants 17 = .ok (.aload_n 0, 1) := dk_42 (dk_at dksX5_wants_0 17 rfl rfl)
theorem dX5_wants_18 : decode cX5_wants 18 = .ok (.getfield 7, 3) := dk_180 0 7 (dk_at dksX5_wants_0 18 rfl rfl)
theorem dX5_wants_21 : decode cX5_wants 21 = .ok (.iconst 2, 1) := dk_5 (dk_at dksX5_wants_0 21 rfl rfl)
theorem dX5_wants_22 : decode cX5_wants 22 = .ok (.iaload, 1) := dk_46 (dk_at dksX5_wants_0 22 rfl rfl)
theorem dX5_wants_23 : decode cX5_wants 23 = .ok (.if_icmp .ge 5, 3) := dk_162 0 5 (dk_at dksX5_wants_1 0 rfl rfl)
theorem dX5_wants_26 : decode cX5_wants 26 = .ok (.iconst 0, 1) := dk_3 (dk_at dksX5_wants_1 3 rfl rfl)
theorem dX5_wants_27 : decode cX5_wants 27 = .ok (.ireturn, 1) := dk_172 (dk_at dksX5_wants_1 4 rfl rfl)
theorem dX5_wants_28 : decode cX5_wants 28 = .ok (.iload_n 2, 1) := dk_28 (dk_at dksX5_wants_1 5 rfl rfl)
theorem dX5_wants_29 : decode cX5_wants 29 = .ok (.iconst 3, 1) := dk_6 (dk_at dksX5_wants_1 6 rfl rfl)
theorem dX5_wants_30 : decode cX5_wants 30 = .ok (.idiv, 1) := dk_108 (dk_at dksX5_wants_1 7 rfl rfl)
theorem dX5_wants_31 : decode cX5_wants 31 = .ok (.istore 4, 2) := dk_54 4 (dk_at dksX5_wants_1 8 rfl rfl)
theorem dX5_wants_33 : decode cX5_wants 33 = .ok (.aload_n 0, 1) := dk_42 (dk_at dksX5_wants_1 10 rfl rfl)
theorem dX5_wants_34 : decode cX5_wants 34 = .ok (.iload_n 1, 1) := dk_27 (dk_at dksX5_wants_1 11 rfl rfl)
theorem dX5_wants_35 : decode cX5_wants 35 = .ok (.iconst 0, 1) := dk_3 (dk_at dksX5_wants_1 12 rfl rfl)
theorem dX5_wants_36 : decode cX5_wants 36 = .ok (.invokevirtual 90, 3) := dk_182 0 90 (dk_at dksX5_wants_1 13 rfl rfl)
theorem dX5_wants_39 : decode cX5_wants 39 = .ok (.tableswitch 74 1 6 #[37, 47, 53, 37, 53, 63], 37) := by decide +kernel
theorem dX5_wants_76 : decode cX5_wants 76 = .ok (.iload_n 2, 1) := dk_28 (dk_at dksX5_wants_3 0 rfl rfl)
theorem dX5_wants_77 : decode cX5_wants 77 = .ok (.iconst 3, 1) := dk_6 (dk_at dksX5_wants_3 1 rfl rfl)
theorem dX5_wants_78 : decode cX5_wants 78 = .ok (.idiv, 1) := dk_108 (dk_at dksX5_wants_3 2 rfl rfl)
theorem dX5_wants_79 : decode cX5_wants 79 = .ok (.iload_n 3, 1) := dk_29 (dk_at dksX5_wants_3 3 rfl rfl)
theorem dX5_wants_80 : decode cX5_wants 80 = .ok (.iadd, 1) := dk_96 (dk_at dksX5_wants_3 4 rfl rfl)
theorem dX5_wants_81 : decode cX5_wants 81 = .ok (.istore 4, 2) := dk_54 4 (dk_at dksX5_wants_3 5 rfl rfl)
theorem dX5_wants_83 : decode cX5_wants 83 = .ok (.goto 30, 3) := dk_167 0 30 (dk_at dksX5_wants_3 7 rfl rfl)
theorem dX5_wants_86 : decode cX5_wants 86 = .ok (.iload_n 3, 1) := dk_29 (dk_at dksX5_wants_3 10 rfl rfl)
theorem dX5_wants_87 : decode cX5_wants 87 = .ok (.istore 4, 2) := dk_54 4 (dk_at dksX5_wants_3 11 rfl rfl)
theorem dX5_wants_89 : decode cX5_wants 89 = .ok (.goto 24, 3) := dk_167 0 24 (dk_at dksX5_wants_3 13 rfl rfl)
theorem dX5_wants_92 : decode cX5_wants 92 = .ok (.iconst 2, 1) := dk_5 (dk_at dksX5_wants_3 16 rfl rfl)
theorem dX5_wants_93 : decode cX5_wants 93 = .ok (.iload_n 2, 1) := dk_28 (dk_at dksX5_wants_3 17 rfl rfl)
theorem dX5_wants_94 : decode cX5_wants 94 = .ok (.iconst 3, 1) := dk_6 (dk_at dksX5_wants_3 18 rfl rfl)
theorem dX5_wants_95 : decode cX5_wants 95 = .ok (.idiv, 1) := dk_108 (dk_at dksX5_wants_3 19 rfl rfl)
theorem dX5_wants_96 : decode cX5_wants 96 = .ok (.imul, 1) := dk_104 (dk_at dksX5_wants_3 20 rfl rfl)
theorem dX5_wants_97 : decode cX5_wants 97 = .ok (.istore 4, 2) := dk_54 4 (dk_at dksX5_wants_3 21 rfl rfl)
theorem dX5_wants_99 : decode cX5_wants 99 = .ok (.goto 14, 3) := dk_167 0 14 (dk_at dksX5_wants_4 0 rfl rfl)
theorem dX5_wants_102 : decode cX5_wants 102 = .ok (.aload_n 0, 1) := dk_42 (dk_at dksX5_wants_4 3 rfl rfl)
theorem dX5_wants_103 : decode cX5_wants 103 = .ok (.iload_n 1, 1) := dk_27 (dk_at dksX5_wants_4 4 rfl rfl)
theorem dX5_wants_104 : decode cX5_wants 104 = .ok (.iload_n 2, 1) := dk_28 (dk_at dksX5_wants_4 5 rfl rfl)
theorem dX5_wants_105 : decode cX5_wants 105 = .ok (.invokevirtual 185, 3) := dk_182 0 185 (dk_at dksX5_wants_4 6 rfl rfl)
theorem dX5_wants_108 : decode cX5_wants 108 = .ok (.istore 4, 2) := dk_54 4 (dk_at dksX5_wants_4 9 rfl rfl)
theorem dX5_wants_110 : decode cX5_wants 110 = .ok (.goto 3, 3) := dk_167 0 3 (dk_at dksX5_wants_4 11 rfl rfl)
theorem dX5_wants_113 : decode cX5_wants 113 = .ok (.iload 4, 2) := dk_21 4 (dk_at dksX5_wants_4 14 rfl rfl)
theorem dX5_wants_115 : decode cX5_wants 115 = .ok (.iconst 0, 1) := dk_3 (dk_at dksX5_wants_4 16 rfl rfl)
theorem dX5_wants_116 : decode cX5_wants 116 = .ok (.iload_n 2, 1) := dk_28 (dk_at dksX5_wants_4 17 rfl rfl)
theorem dX5_wants_117 : decode cX5_wants 117 = .ok (.invokestatic 61, 3) := dk_184 0 61 (dk_at dksX5_wants_4 18 rfl rfl)
theorem dX5_wants_120 : decode cX5_wants 120 = .ok (.ireturn, 1) := dk_172 (dk_at dksX5_wants_4 21 rfl rfl)
abbrev cX5_takesTold : ByteArray := prog_20_method_47_code
def yX5_takesTold : MethodName := ⟨RX5, "takesTold", "(II)I"⟩
def dkwX5_takesTold_2 : List UInt8 := [16, 109, 42, 27, 4, 182, 0, 90, 79, 42, 3, 182, 0, 182, 172]
abbrev dktX5_takesTold_2 : List UInt8 := dkwX5_takesTold_2 ++ []
def dkwX5_takesTold_1 : List UInt8 := [16, 112, 42, 27, 5, 182, 0, 90, 79, 42, 180, 0, 25, 16, 104, 42, 182, 0, 179, 79, 42, 180, 0, 25]
abbrev dktX5_takesTold_1 : List UInt8 := dkwX5_takesTold_1 ++ dktX5_takesTold_2
def dkwX5_takesTold_0 : List UInt8 := [42, 3, 182, 0, 173, 154, 0, 7, 28, 5, 108, 172, 42, 180, 0, 25, 16, 102, 28, 79, 42, 180, 0, 25]
abbrev dktX5_takesTold_0 : List UInt8 := dkwX5_takesTold_0 ++ dktX5_takesTold_1
theorem dksX5_takesTold_0 : cX5_takesTold.data.toList.drop 0 = dktX5_takesTold_0 := by decide +kernel
theorem dksX5_takesTold_1 : cX5_takesTold.data.toList.drop 24 = dktX5_takesTold_1 := dk_seg dksX5_takesTold_0 24 rfl rfl
theorem dksX5_takesTold_2 : cX5_takesTold.data.toList.drop 48 = dktX5_takesTold_2 := dk_seg dksX5_takesTold_1 24 rfl rfl
theorem dX5_takesTold_0 : decode cX5_takesTold 0 = .ok (.aload_n 0, 1) := dk_42 (dk_at dksX5_takesTold_0 0 rfl rfl)
theorem dX5_takesTold_1 : decode cX5_takesTold 1 = .ok (.iconst 0, 1) := dk_3 (dk_at dksX5_takesTold_0 1 rfl rfl)
theorem dX5_takesTold_2 : decode cX5_takesTold 2 = .ok (.invokevirtual 173, 3) := dk_182 0 173 (dk_at dksX5_takesTold_0 2 rfl rfl)
theorem dX5_takesTold_5 : decode cX5_takesTold 5 = .ok (.ifCond .ne 7, 3) := dk_154 0 7 (dk_at dksX5_takesTold_0 5 rfl rfl)
theorem dX5_takesTold_8 : decode cX5_takesTold 8 = .ok (.iload_n 2, 1) := dk_28 (dk_at dksX5_takesTold_0 8 rfl rfl)
theorem dX5_takesTold_9 : decode cX5_takesTold 9 = .ok (.iconst 2, 1) := dk_5 (dk_at dksX5_takesTold_0 9 rfl rfl)
theorem dX5_takesTold_10 : decode cX5_takesTold 10 = .ok (.idiv, 1) := dk_108 (dk_at dksX5_takesTold_0 10 rfl rfl)
theorem dX5_takesTold_11 : decode cX5_takesTold 11 = .ok (.ireturn, 1) := dk_172 (dk_at dksX5_takesTold_0 11 rfl rfl)
theorem dX5_takesTold_12 : decode cX5_takesTold 12 = .ok (.aload_n 0, 1) := dk_42 (dk_at dksX5_takesTold_0 12 rfl rfl)
theorem dX5_takesTold_13 : decode cX5_takesTold 13 = .ok (.getfield 25, 3) := dk_180 0 25 (dk_at dksX5_takesTold_0 13 rfl rfl)
theorem dX5_takesTold_16 : decode cX5_takesTold 16 = .ok (.bipush 102, 2) := dk_16 102 (dk_at dksX5_takesTold_0 16 rfl rfl)
theorem dX5_takesTold_18 : decode cX5_takesTold 18 = .ok (.iload_n 2, 1) := dk_28 (dk_at dksX5_takesTold_0 18 rfl rfl)
theorem dX5_takesTold_19 : decode cX5_takesTold 19 = .ok (.iastore, 1) := dk_79 (dk_at dksX5_takesTold_0 19 rfl rfl)
theorem dX5_takesTold_20 : decode cX5_takesTold 20 = .ok (.aload_n 0, 1) := dk_42 (dk_at dksX5_takesTold_0 20 rfl rfl)
theorem dX5_takesTold_21 : decode cX5_takesTold 21 = .ok (.getfield 25, 3) := dk_180 0 25 (dk_at dksX5_takesTold_0 21 rfl rfl)
theorem dX5_takesTold_24 : decode cX5_takesTold 24 = .ok (.bipush 112, 2) := dk_16 112 (dk_at dksX5_takesTold_1 0 rfl rfl)
theorem dX5_takesTold_26 : decode cX5_takesTold 26 = .ok (.aload_n 0, 1) := dk_42 (dk_at dksX5_takesTold_1 2 rfl rfl)
theorem dX5_takesTold_27 : decode cX5_takesTold 27 = .ok (.iload_n 1, 1) := dk_27 (dk_at dksX5_takesTold_1 3 rfl rfl)
theorem dX5_takesTold_28 : decode cX5_takesTold 28 = .ok (.iconst 2, 1) := dk_5 (dk_at dksX5_takesTold_1 4 rfl rfl)
theorem dX5_takesTold_29 : decode cX5_takesTold 29 = .ok (.invokevirtual 90, 3) := dk_182 0 90 (dk_at dksX5_takesTold_1 5 rfl rfl)
theorem dX5_takesTold_32 : decode cX5_takesTold 32 = .ok (.iastore, 1) := dk_79 (dk_at dksX5_takesTold_1 8 rfl rfl)
theorem dX5_takesTold_33 : decode cX5_takesTold 33 = .ok (.aload_n 0, 1) := dk_42 (dk_at dksX5_takesTold_1 9 rfl rfl)
theorem dX5_takesTold_34 : decode cX5_takesTold 34 = .ok (.getfield 25, 3) := dk_180 0 25 (dk_at dksX5_takesTold_1 10 rfl rfl)
theorem dX5_takesTold_37 : decode cX5_takesTold 37 = .ok (.bipush 104, 2) := dk_16 104 (dk_at dksX5_takesTold_1 13 rfl rfl)
theorem dX5_takesTold_39 : decode cX5_takesTold 39 = .ok (.aload_n 0, 1) := dk_42 (dk_at dksX5_takesTold_1 15 rfl rfl)
theorem dX5_takesTold_40 : decode cX5_takesTold 40 = .ok (.invokevirtual 179, 3) := dk_182 0 179 (dk_at dksX5_takesTold_1 16 rfl rfl)
theorem dX5_takesTold_43 : decode cX5_takesTold 43 = .ok (.iastore, 1) := dk_79 (dk_at dksX5_takesTold_1 19 rfl rfl)
theorem dX5_takesTold_44 : decode cX5_takesTold 44 = .ok (.aload_n 0, 1) := dk_42 (dk_at dksX5_takesTold_1 20 rfl rfl)
theorem dX5_takesTold_45 : decode cX5_takesTold 45 = .ok (.getfield 25, 3) := dk_180 0 25 (dk_at dksX5_takesTold_1 21 rfl rfl)
theorem dX5_takesTold_48 : decode cX5_takesTold 48 = .ok (.bipush 109, 2) := dk_16 109 (dk_at dksX5_takesTold_2 0 rfl rfl)
theorem dX5_takesTold_50 : decode cX5_takesTold 50 = .ok (.aload_n 0, 1) := dk_42 (dk_at dksX5_takesTold_2 2 rfl rfl)
theorem dX5_takesTold_51 : decode cX5_takesTold 51 = .ok (.iload_n 1, 1) := dk_27 (dk_at dksX5_takesTold_2 3 rfl rfl)
theorem dX5_takesTold_52 : decode cX5_takesTold 52 = .ok (.iconst 1, 1) := dk_4 (dk_at dksX5_takesTold_2 4 rfl rfl)
theorem dX5_takesTold_53 : decode cX5_takesTold 53 = .ok (.invokevirtual 90, 3) := dk_182 0 90 (dk_at dksX5_takesTold_2 5 rfl rfl)
theorem dX5_takesTold_56 : decode cX5_takesTold 56 = .ok (.iastore, 1) := dk_79 (dk_at dksX5_takesTold_2 8 rfl rfl)
theorem dX5_takesTold_57 : decode cX5_takesTold 57 = .ok (.aload_n 0, 1) := dk_42 (dk_at dksX5_takesTold_2 9 rfl rfl)
theorem dX5_takesTold_58 : decode cX5_takesTold 58 = .ok (.iconst 0, 1) := dk_3 (dk_at dksX5_takesTold_2 10 rfl rfl)
theorem dX5_takesTold_59 : decode cX5_takesTold 59 = .ok (.invokevirtual 182, 3) := dk_182 0 182 (dk_at dksX5_takesTold_2 11 rfl rfl)
theorem dX5_takesTold_62 : decode cX5_takesTold 62 = .ok (.ireturn, 1) := dk_172 (dk_at dksX5_takesTold_2 14 rfl rfl)
abbrev cX5_hasText : ByteArray := prog_20_method_42_code
def yX5_hasText : MethodName := ⟨RX5, "hasText", "(I)Z"⟩
def dkwX5_hasText_0 : List UInt8 := [42, 180, 0, 7, 16, 115, 16, 125, 27, 104, 96, 46, 158, 0, 7, 4, 167, 0, 4, 3, 172]
abbrev dktX5_hasText_0 : List UInt8 := dkwX5_hasText_0 ++ []
theorem dksX5_hasText_0 : cX5_hasText.data.toList.drop 0 = dktX5_hasText_0 := by decide +kernel
theorem dX5_hasText_0 : decode cX5_hasText 0 = .ok (.aload_n 0, 1) := dk_42 (dk_at dksX5_hasText_0 0 rfl rfl)
theorem dX5_hasText_1 : decode cX5_hasText 1 = .ok (.getfield 7, 3) := dk_180 0 7 (dk_at dksX5_hasText_0 1 rfl rfl)
theorem dX5_hasText_4 : decode cX5_hasText 4 = .ok (.bipush 115, 2) := dk_16 115 (dk_at dksX5_hasText_0 4 rfl rfl)
theorem dX5_hasText_6 : decode cX5_hasText 6 = .ok (.bipush 125, 2) := dk_16 125 (dk_at dksX5_hasText_0 6 rfl rfl)
theorem dX5_hasText_8 : decode cX5_hasText 8 = .ok (.iload_n 1, 1) := dk_27 (dk_at dksX5_hasText_0 8 rfl rfl)
theorem dX5_hasText_9 : decode cX5_hasText 9 = .ok (.imul, 1) := dk_104 (dk_at dksX5_hasText_0 9 rfl rfl)
theorem dX5_hasText_10 : decode cX5_hasText 10 = .ok (.iadd, 1) := dk_96 (dk_at dksX5_hasText_0 10 rfl rfl)
theorem dX5_hasText_11 : decode cX5_hasText 11 = .ok (.iaload, 1) := dk_46 (dk_at dksX5_hasText_0 11 rfl rfl)
theorem dX5_hasText_12 : decode cX5_hasText 12 = .ok (.ifCond .le 7, 3) := dk_158 0 7 (dk_at dksX5_hasText_0 12 rfl rfl)
theorem dX5_hasText_15 : decode cX5_hasText 15 = .ok (.iconst 1, 1) := dk_4 (dk_at dksX5_hasText_0 15 rfl rfl)
theorem dX5_hasText_16 : decode cX5_hasText 16 = .ok (.goto 4, 3) := dk_167 0 4 (dk_at dksX5_hasText_0 16 rfl rfl)
theorem dX5_hasText_19 : decode cX5_hasText 19 = .ok (.iconst 0, 1) := dk_3 (dk_at dksX5_hasText_0 19 rfl rfl)
theorem dX5_hasText_20 : decode cX5_hasText 20 = .ok (.ireturn, 1) := dk_172 (dk_at dksX5_hasText_0 20 rfl rfl)
abbrev cX5_worked : ByteArray := prog_20_method_46_code
def yX5_worked : MethodName := ⟨RX5, "worked", "(I)I"⟩
def dkwX5_worked_7 : List UInt8 := [180, 0, 28, 3, 46, 172]
abbrev dktX5_worked_7 : List UInt8 := dkwX5_worked_7 ++ []
def dkwX5_worked_6 : List UInt8 := [180, 0, 28, 29, 4, 100, 46, 42, 180, 0, 28, 29, 46, 184, 0, 176, 79, 132, 4, 1, 167, 255, 109, 42]
abbrev dktX5_worked_6 : List UInt8 := dkwX5_worked_6 ++ dktX5_worked_7
def dkwX5_worked_5 : List UInt8 := [4, 167, 0, 4, 3, 79, 167, 0, 33, 132, 3, 255, 42, 180, 0, 28, 29, 4, 100, 21, 6, 42]
abbrev dktX5_worked_5 : List UInt8 := dkwX5_worked_5 ++ dktX5_worked_6
def dkwX5_worked_4 : List UInt8 := [21, 5, 5, 160, 0, 30, 42, 180, 0, 28, 29, 4, 100, 42, 180, 0, 28, 29, 4, 100, 46, 154, 0, 7]
abbrev dktX5_worked_4 : List UInt8 := dkwX5_worked_4 ++ dktX5_worked_5
def dkwX5_worked_3 : List UInt8 := [21, 5, 154, 0, 8, 21, 6, 167, 0, 10, 42, 180, 0, 25, 21, 6, 46, 79, 132, 3, 1, 167, 0, 66]
abbrev dktX5_worked_3 : List UInt8 := dkwX5_worked_3 ++ dktX5_worked_4
def dkwX5_worked_2 : List UInt8 := [21, 4, 104, 96, 46, 54, 6, 21, 5, 153, 0, 9, 21, 5, 4, 160, 0, 32, 42, 180, 0, 28, 29]
abbrev dktX5_worked_2 : List UInt8 := dkwX5_worked_2 ++ dktX5_worked_3
def dkwX5_worked_1 : List UInt8 := [42, 180, 0, 7, 28, 4, 96, 5, 21, 4, 104, 96, 46, 54, 5, 42, 180, 0, 7, 28, 5, 96, 5]
abbrev dktX5_worked_1 : List UInt8 := dkwX5_worked_1 ++ dktX5_worked_2
def dkwX5_worked_0 : List UInt8 := [16, 115, 16, 125, 27, 104, 96, 61, 3, 62, 3, 54, 4, 21, 4, 42, 180, 0, 7, 28, 46, 162, 0, 142]
abbrev dktX5_worked_0 : List UInt8 := dkwX5_worked_0 ++ dktX5_worked_1
theorem dksX5_worked_0 : cX5_worked.data.toList.drop 0 = dktX5_worked_0 := by decide +kernel
theorem dksX5_worked_1 : cX5_worked.data.toList.drop 24 = dktX5_worked_1 := dk_seg dksX5_worked_0 24 rfl rfl
theorem dksX5_worked_2 : cX5_worked.data.toList.drop 47 = dktX5_worked_2 := dk_seg dksX5_worked_1 23 rfl rfl
theorem dksX5_worked_3 : cX5_worked.data.toList.drop 70 = dktX5_worked_3 := dk_seg dksX5_worked_2 23 rfl rfl
theorem dksX5_worked_4 : cX5_worked.data.toList.drop 94 = dktX5_worked_4 := dk_seg dksX5_worked_3 24 rfl rfl
theorem dksX5_worked_5 : cX5_worked.data.toList.drop 118 = dktX5_worked_5 := dk_seg dksX5_worked_4 24 rfl rfl
theorem dksX5_worked_6 : cX5_worked.data.toList.drop 140 = dktX5_worked_6 := dk_seg dksX5_worked_5 22 rfl rfl
theorem dksX5_worked_7 : cX5_worked.data.toList.drop 164 = dktX5_worked_7 := dk_seg dksX5_worked_6 24 rfl rfl
theorem dX5_worked_0 : decode cX5_worked 0 = .ok (.bipush 115, 2) := dk_16 115 (dk_at dksX5_worked_0 0 rfl rfl)
theorem dX5_worked_2 : decode cX5_worked 2 = .ok (.bipush 125, 2) := dk_16 125 (dk_at dksX5_worked_0 2 rfl rfl)
theorem dX5_worked_4 : decode cX5_worked 4 = .ok (.iload_n 1, 1) := dk_27 (dk_at dksX5_worked_0 4 rfl rfl)
theorem dX5_worked_5 : decode cX5_worked 5 = .ok (.imul, 1) := dk_104 (dk_at dksX5_worked_0 5 rfl rfl)
theorem dX5_worked_6 : decode cX5_worked 6 = .ok (.iadd, 1) := dk_96 (dk_at dksX5_worked_0 6 rfl rfl)
theorem dX5_worked_7 : decode cX5_worked 7 = .ok (.istore_n 2, 1) := dk_61 (dk_at dksX5_worked_0 7 rfl rfl)
theorem dX5_worked_8 : decode cX5_worked 8 = .ok (.iconst 0, 1) := dk_3 (dk_at dksX5_worked_0 8 rfl rfl)
theorem dX5_worked_9 : decode cX5_worked 9 = .ok (.istore_n 3, 1) := dk_62 (dk_at dksX5_worked_0 9 rfl rfl)
theorem dX5_worked_10 : decode cX5_worked 10 = .ok (.iconst 0, 1) := dk_3 (dk_at dksX5_worked_0 10 rfl rfl)
theorem dX5_worked_11 : decode cX5_worked 11 = .ok (.istore 4, 2) := dk_54 4 (dk_at dksX5_worked_0 11 rfl rfl)
theorem dX5_worked_13 : decode cX5_worked 13 = .ok (.iload 4, 2) := dk_21 4 (dk_at dksX5_worked_0 13 rfl rfl)
theorem dX5_worked_15 : decode cX5_worked 15 = .ok (.aload_n 0, 1) := dk_42 (dk_at dksX5_worked_0 15 rfl rfl)
theorem dX5_worked_16 : decode cX5_worked 16 = .ok (.getfield 7, 3) := dk_180 0 7 (dk_at dksX5_worked_0 16 rfl rfl)
theorem dX5_worked_19 : decode cX5_worked 19 = .ok (.iload_n 2, 1) := dk_28 (dk_at dksX5_worked_0 19 rfl rfl)
theorem dX5_worked_20 : decode cX5_worked 20 = .ok (.iaload, 1) := dk_46 (dk_at dksX5_worked_0 20 rfl rfl)
theorem dX5_worked_21 : decode cX5_worked 21 = .ok (.if_icmp .ge 142, 3) := dk_162 0 142 (dk_at dksX5_worked_0 21 rfl rfl)
theorem dX5_worked_24 : decode cX5_worked 24 = .ok (.aload_n 0, 1) := dk_42 (dk_at dksX5_worked_1 0 rfl rfl)
theorem dX5_worked_25 : decode cX5_worked 25 = .ok (.getfield 7, 3) := dk_180 0 7 (dk_at dksX5_worked_1 1 rfl rfl)
theorem dX5_worked_28 : decode cX5_worked 28 = .ok (.iload_n 2, 1) := dk_28 (dk_at dksX5_worked_1 4 rfl rfl)
theorem dX5_worked_29 : decode cX5_worked 29 = .ok (.iconst 1, 1) := dk_4 (dk_at dksX5_worked_1 5 rfl rfl)
theorem dX5_worked_30 : decode cX5_worked 30 = .ok (.iadd, 1) := dk_96 (dk_at dksX5_worked_1 6 rfl rfl)
theorem dX5_worked_31 : decode cX5_worked 31 = .ok (.iconst 2, 1) := dk_5 (dk_at dksX5_worked_1 7 rfl rfl)
theorem dX5_worked_32 : decode cX5_worked 32 = .ok (.iload 4, 2) := dk_21 4 (dk_at dksX5_worked_1 8 rfl rfl)
theorem dX5_worked_34 : decode cX5_worked 34 = .ok (.imul, 1) := dk_104 (dk_at dksX5_worked_1 10 rfl rfl)
theorem dX5_worked_35 : decode cX5_worked 35 = .ok (.iadd, 1) := dk_96 (dk_at dksX5_worked_1 11 rfl rfl)
theorem dX5_worked_36 : decode cX5_worked 36 = .ok (.iaload, 1) := dk_46 (dk_at dksX5_worked_1 12 rfl rfl)
theorem dX5_worked_37 : decode cX5_worked 37 = .ok (.istore 5, 2) := dk_54 5 (dk_at dksX5_worked_1 13 rfl rfl)
theorem dX5_worked_39 : decode cX5_worked 39 = .ok (.aload_n 0, 1) := dk_42 (dk_at dksX5_worked_1 15 rfl rfl)
theorem dX5_worked_40 : decode cX5_worked 40 = .ok (.getfield 7, 3) := dk_180 0 7 (dk_at dksX5_worked_1 16 rfl rfl)
theorem dX5_worked_43 : decode cX5_worked 43 = .ok (.iload_n 2, 1) := dk_28 (dk_at dksX5_worked_1 19 rfl rfl)
theorem dX5_worked_44 : decode cX5_worked 44 = .ok (.iconst 2, 1) := dk_5 (dk_at dksX5_worked_1 20 rfl rfl)
theorem dX5_worked_45 : decode cX5_worked 45 = .ok (.iadd, 1) := dk_96 (dk_at dksX5_worked_1 21 rfl rfl)
theorem dX5_worked_46 : decode cX5_worked 46 = .ok (.iconst 2, 1) := dk_5 (dk_at dksX5_worked_1 22 rfl rfl)
theorem dX5_worked_47 : decode cX5_worked 47 = .ok (.iload 4, 2) := dk_21 4 (dk_at dksX5_worked_2 0 rfl rfl)
theorem dX5_worked_49 : decode cX5_worked 49 = .ok (.imul, 1) := dk_104 (dk_at dksX5_worked_2 2 rfl rfl)
theorem dX5_worked_50 : decode cX5_worked 50 = .ok (.iadd, 1) := dk_96 (dk_at dksX5_worked_2 3 rfl rfl)
theorem dX5_worked_51 : decode cX5_worked 51 = .ok (.iaload, 1) := dk_46 (dk_at dksX5_worked_2 4 rfl rfl)
theorem dX5_worked_52 : decode cX5_worked 52 = .ok (.istore 6, 2) := dk_54 6 (dk_at dksX5_worked_2 5 rfl rfl)
theorem dX5_worked_54 : decode cX5_worked 54 = .ok (.iload 5, 2) := dk_21 5 (dk_at dksX5_worked_2 7 rfl rfl)
theorem dX5_worked_56 : decode cX5_worked 56 = .ok (.ifCond .eq 9, 3) := dk_153 0 9 (dk_at dksX5_worked_2 9 rfl rfl)
theorem dX5_worked_59 : decode cX5_worked 59 = .ok (.iload 5, 2) := dk_21 5 (dk_at dksX5_worked_2 12 rfl rfl)
theorem dX5_worked_61 : decode cX5_worked 61 = .ok (.iconst 1, 1) := dk_4 (dk_at dksX5_worked_2 14 rfl rfl)
theorem dX5_worked_62 : decode cX5_worked 62 = .ok (.if_icmp .ne 32, 3) := dk_160 0 32 (dk_at dksX5_worked_2 15 rfl rfl)
theorem dX5_worked_65 : decode cX5_worked 65 = .ok (.aload_n 0, 1) := dk_42 (dk_at dksX5_worked_2 18 rfl rfl)
theorem dX5_worked_66 : decode cX5_worked 66 = .ok (.getfield 28, 3) := dk_180 0 28 (dk_at dksX5_worked_2 19 rfl rfl)
theorem dX5_worked_69 : decode cX5_worked 69 = .ok (.iload_n 3, 1) := dk_29 (dk_at dksX5_worked_2 22 rfl rfl)
theorem dX5_worked_70 : decode cX5_worked 70 = .ok (.iload 5, 2) := dk_21 5 (dk_at dksX5_worked_3 0 rfl rfl)
theorem dX5_worked_72 : decode cX5_worked 72 = .ok (.ifCond .ne 8, 3) := dk_154 0 8 (dk_at dksX5_worked_3 2 rfl rfl)
theorem dX5_worked_75 : decode cX5_worked 75 = .ok (.iload 6, 2) := dk_21 6 (dk_at dksX5_worked_3 5 rfl rfl)
theorem dX5_worked_77 : decode cX5_worked 77 = .ok (.goto 10, 3) := dk_167 0 10 (dk_at dksX5_worked_3 7 rfl rfl)
theorem dX5_worked_80 : decode cX5_worked 80 = .ok (.aload_n 0, 1) := dk_42 (dk_at dksX5_worked_3 10 rfl rfl)
theorem dX5_worked_81 : decode cX5_worked 81 = .ok (.getfield 25, 3) := dk_180 0 25 (dk_at dksX5_worked_3 11 rfl rfl)
theorem dX5_worked_84 : decode cX5_worked 84 = .ok (.iload 6, 2) := dk_21 6 (dk_at dksX5_worked_3 14 rfl rfl)
theorem dX5_worked_86 : decode cX5_worked 86 = .ok (.iaload, 1) := dk_46 (dk_at dksX5_worked_3 16 rfl rfl)
theorem dX5_worked_87 : decode cX5_worked 87 = .ok (.iastore, 1) := dk_79 (dk_at dksX5_worked_3 17 rfl rfl)
theorem dX5_worked_88 : decode cX5_worked 88 = .ok (.iinc 3 1, 3) := dk_132 3 1 (dk_at dksX5_worked_3 18 rfl rfl)
theorem dX5_worked_91 : decode cX5_worked 91 = .ok (.goto 66, 3) := dk_167 0 66 (dk_at dksX5_worked_3 21 rfl rfl)
theorem dX5_worked_94 : decode cX5_worked 94 = .ok (.iload 5, 2) := dk_21 5 (dk_at dksX5_worked_4 0 rfl rfl)
theorem dX5_worked_96 : decode cX5_worked 96 = .ok (.iconst 2, 1) := dk_5 (dk_at dksX5_worked_4 2 rfl rfl)
theorem dX5_worked_97 : decode cX5_worked 97 = .ok (.if_icmp .ne 30, 3) := dk_160 0 30 (dk_at dksX5_worked_4 3 rfl rfl)
theorem dX5_worked_100 : decode cX5_worked 100 = .ok (.aload_n 0, 1) := dk_42 (dk_at dksX5_worked_4 6 rfl rfl)
theorem dX5_worked_101 : decode cX5_worked 101 = .ok (.getfield 28, 3) := dk_180 0 28 (dk_at dksX5_worked_4 7 rfl rfl)
theorem dX5_worked_104 : decode cX5_worked 104 = .ok (.iload_n 3, 1) := dk_29 (dk_at dksX5_worked_4 10 rfl rfl)
theorem dX5_worked_105 : decode cX5_worked 105 = .ok (.iconst 1, 1) := dk_4 (dk_at dksX5_worked_4 11 rfl rfl)
theorem dX5_worked_106 : decode cX5_worked 106 = .ok (.isub, 1) := dk_100 (dk_at dksX5_worked_4 12 rfl rfl)
theorem dX5_worked_107 : decode cX5_worked 107 = .ok (.aload_n 0, 1) := dk_42 (dk_at dksX5_worked_4 13 rfl rfl)
theorem dX5_worked_108 : decode cX5_worked 108 = .ok (.getfield 28, 3) := dk_180 0 28 (dk_at dksX5_worked_4 14 rfl rfl)
theorem dX5_worked_111 : decode cX5_worked 111 = .ok (.iload_n 3, 1) := dk_29 (dk_at dksX5_worked_4 17 rfl rfl)
theorem dX5_worked_112 : decode cX5_worked 112 = .ok (.iconst 1, 1) := dk_4 (dk_at dksX5_worked_4 18 rfl rfl)
theorem dX5_worked_113 : decode cX5_worked 113 = .ok (.isub, 1) := dk_100 (dk_at dksX5_worked_4 19 rfl rfl)
theorem dX5_worked_114 : decode cX5_worked 114 = .ok (.iaload, 1) := dk_46 (dk_at dksX5_worked_4 20 rfl rfl)
theorem dX5_worked_115 : decode cX5_worked 115 = .ok (.ifCond .ne 7, 3) := dk_154 0 7 (dk_at dksX5_worked_4 21 rfl rfl)
theorem dX5_worked_118 : decode cX5_worked 118 = .ok (.iconst 1, 1) := dk_4 (dk_at dksX5_worked_5 0 rfl rfl)
theorem dX5_worked_119 : decode cX5_worked 119 = .ok (.goto 4, 3) := dk_167 0 4 (dk_at dksX5_worked_5 1 rfl rfl)
theorem dX5_worked_122 : decode cX5_worked 122 = .ok (.iconst 0, 1) := dk_3 (dk_at dksX5_worked_5 4 rfl rfl)
theorem dX5_worked_123 : decode cX5_worked 123 = .ok (.iastore, 1) := dk_79 (dk_at dksX5_worked_5 5 rfl rfl)
theorem dX5_worked_124 : decode cX5_worked 124 = .ok (.goto 33, 3) := dk_167 0 33 (dk_at dksX5_worked_5 6 rfl rfl)
theorem dX5_worked_127 : decode cX5_worked 127 = .ok (.iinc 3 (-1), 3) := dk_132 3 255 (dk_at dksX5_worked_5 9 rfl rfl)
theorem dX5_worked_130 : decode cX5_worked 130 = .ok (.aload_n 0, 1) := dk_42 (dk_at dksX5_worked_5 12 rfl rfl)
theorem dX5_worked_131 : decode cX5_worked 131 = .ok (.getfield 28, 3) := dk_180 0 28 (dk_at dksX5_worked_5 13 rfl rfl)
theorem dX5_worked_134 : decode cX5_worked 134 = .ok (.iload_n 3, 1) := dk_29 (dk_at dksX5_worked_5 16 rfl rfl)
theorem dX5_worked_135 : decode cX5_worked 135 = .ok (.iconst 1, 1) := dk_4 (dk_at dksX5_worked_5 17 rfl rfl)
theorem dX5_worked_136 : decode cX5_worked 136 = .ok (.isub, 1) := dk_100 (dk_at dksX5_worked_5 18 rfl rfl)
theorem dX5_worked_137 : decode cX5_worked 137 = .ok (.iload 6, 2) := dk_21 6 (dk_at dksX5_worked_5 19 rfl rfl)
theorem dX5_worked_139 : decode cX5_worked 139 = .ok (.aload_n 0, 1) := dk_42 (dk_at dksX5_worked_5 21 rfl rfl)
theorem dX5_worked_140 : decode cX5_worked 140 = .ok (.getfield 28, 3) := dk_180 0 28 (dk_at dksX5_worked_6 0 rfl rfl)
theorem dX5_worked_143 : decode cX5_worked 143 = .ok (.iload_n 3, 1) := dk_29 (dk_at dksX5_worked_6 3 rfl rfl)
theorem dX5_worked_144 : decode cX5_worked 144 = .ok (.iconst 1, 1) := dk_4 (dk_at dksX5_worked_6 4 rfl rfl)
theorem dX5_worked_145 : decode cX5_worked 145 = .ok (.isub, 1) := dk_100 (dk_at dksX5_worked_6 5 rfl rfl)
theorem dX5_worked_146 : decode cX5_worked 146 = .ok (.iaload, 1) := dk_46 (dk_at dksX5_worked_6 6 rfl rfl)
theorem dX5_worked_147 : decode cX5_worked 147 = .ok (.aload_n 0, 1) := dk_42 (dk_at dksX5_worked_6 7 rfl rfl)
theorem dX5_worked_148 : decode cX5_worked 148 = .ok (.getfield 28, 3) := dk_180 0 28 (dk_at dksX5_worked_6 8 rfl rfl)
theorem dX5_worked_151 : decode cX5_worked 151 = .ok (.iload_n 3, 1) := dk_29 (dk_at dksX5_worked_6 11 rfl rfl)
theorem dX5_worked_152 : decode cX5_worked 152 = .ok (.iaload, 1) := dk_46 (dk_at dksX5_worked_6 12 rfl rfl)
theorem dX5_worked_153 : decode cX5_worked 153 = .ok (.invokestatic 176, 3) := dk_184 0 176 (dk_at dksX5_worked_6 13 rfl rfl)
theorem dX5_worked_156 : decode cX5_worked 156 = .ok (.iastore, 1) := dk_79 (dk_at dksX5_worked_6 16 rfl rfl)
theorem dX5_worked_157 : decode cX5_worked 157 = .ok (.iinc 4 1, 3) := dk_132 4 1 (dk_at dksX5_worked_6 17 rfl rfl)
theorem dX5_worked_160 : decode cX5_worked 160 = .ok (.goto (-147), 3) := dk_167 255 109 (dk_at dksX5_worked_6 20 rfl rfl)
theorem dX5_worked_163 : decode cX5_worked 163 = .ok (.aload_n 0, 1) := dk_42 (dk_at dksX5_worked_6 23 rfl rfl)
theorem dX5_worked_164 : decode cX5_worked 164 = .ok (.getfield 28, 3) := dk_180 0 28 (dk_at dksX5_worked_7 0 rfl rfl)
theorem dX5_worked_167 : decode cX5_worked 167 = .ok (.iconst 0, 1) := dk_3 (dk_at dksX5_worked_7 3 rfl rfl)
theorem dX5_worked_168 : decode cX5_worked 168 = .ok (.iaload, 1) := dk_46 (dk_at dksX5_worked_7 4 rfl rfl)
theorem dX5_worked_169 : decode cX5_worked 169 = .ok (.ireturn, 1) := dk_172 (dk_at dksX5_worked_7 5 rfl rfl)
abbrev cX5_joined : ByteArray := prog_20_method_45_code
def yX5_joined : MethodName := ⟨RX5, "joined", "(III)I"⟩
def dkwX5_joined_6 : List UInt8 := [4, 167, 0, 4, 3, 172, 27, 154, 0, 7, 28, 153, 0, 7, 4, 167, 0, 4, 3, 172]
abbrev dktX5_joined_6 : List UInt8 := dkwX5_joined_6 ++ []
def dkwX5_joined_5 : List UInt8 := [167, 0, 4, 3, 172, 27, 28, 160, 0, 7, 4, 167, 0, 4, 3, 172, 27, 153, 0, 11, 28, 153, 0, 7]
abbrev dktX5_joined_5 : List UInt8 := dkwX5_joined_5 ++ dktX5_joined_6
def dkwX5_joined_4 : List UInt8 := [167, 0, 6, 27, 28, 112, 172, 27, 28, 162, 0, 7, 4, 167, 0, 4, 3, 172, 27, 28, 164, 0, 7, 4]
abbrev dktX5_joined_4 : List UInt8 := dkwX5_joined_4 ++ dktX5_joined_5
def dkwX5_joined_3 : List UInt8 := [160, 0, 8, 27, 116, 167, 0, 6, 27, 28, 108, 172, 28, 153, 0, 8, 28, 2, 160, 0, 7, 3]
abbrev dktX5_joined_3 : List UInt8 := dkwX5_joined_3 ++ dktX5_joined_4
def dkwX5_joined_2 : List UInt8 := [27, 28, 96, 172, 27, 28, 100, 172, 27, 28, 104, 172, 28, 154, 0, 7, 3, 167, 0, 16, 28, 2]
abbrev dktX5_joined_2 : List UInt8 := dkwX5_joined_2 ++ dktX5_joined_3
def dkwX5_joined_1 : List UInt8 := [170, 0, 0, 0, 0, 0, 217, 0, 0, 0, 37, 0, 0, 0, 62, 0, 0, 0, 153, 0, 0, 0, 203, 0, 0, 0, 217, 0, 0, 0, 217, 0, 0, 0, 217, 0, 0, 0, 127, 0, 0, 0, 119, 0, 0, 0, 217, 0, 0, 0, 123, 0, 0, 0, 217, 0, 0, 0, 131, 0, 0, 0, 217, 0, 0, 0, 217, 0, 0, 0, 217, 0, 0, 0, 217, 0, 0, 0, 217, 0, 0, 0, 217, 0, 0, 0, 217, 0, 0, 0, 217, 0, 0, 0, 217, 0, 0, 0, 217, 0, 0, 0, 217, 0, 0, 0, 217, 0, 0, 0, 170, 0, 0, 0, 192, 0, 0, 0, 181]
abbrev dktX5_joined_1 : List UInt8 := dkwX5_joined_1 ++ dktX5_joined_2
def dkwX5_joined_0 : List UInt8 := [26]
abbrev dktX5_joined_0 : List UInt8 := dkwX5_joined_0 ++ dktX5_joined_1
theorem dksX5_joined_0 : cX5_joined.data.toList.drop 0 = dktX5_joined_0 := by decide +kernel
theorem dksX5_joined_1 : cX5_joined.data.toList.drop 1 = dktX5_joined_1 := dk_seg dksX5_joined_0 1 rfl rfl
theorem dksX5_joined_2 : cX5_joined.data.toList.drop 120 = dktX5_joined_2 := dk_seg dksX5_joined_1 119 rfl rfl
theorem dksX5_joined_3 : cX5_joined.data.toList.drop 142 = dktX5_joined_3 := dk_seg dksX5_joined_2 22 rfl rfl
theorem dksX5_joined_4 : cX5_joined.data.toList.drop 164 = dktX5_joined_4 := dk_seg dksX5_joined_3 22 rfl rfl
theorem dksX5_joined_5 : cX5_joined.data.toList.drop 188 = dktX5_joined_5 := dk_seg dksX5_joined_4 24 rfl rfl
theorem dksX5_joined_6 : cX5_joined.data.toList.drop 212 = dktX5_joined_6 := dk_seg dksX5_joined_5 24 rfl rfl
theorem dX5_joined_0 : decode cX5_joined 0 = .ok (.iload_n 0, 1) := dk_26 (dk_at dksX5_joined_0 0 rfl rfl)
theorem dX5_joined_1 : decode cX5_joined 1 = .ok (.tableswitch 217 37 62 #[153, 203, 217, 217, 217, 127, 119, 217, 123, 217, 131, 217, 217, 217, 217, 217, 217, 217, 217, 217, 217, 217, 217, 170, 192, 181], 119) := by decide +kernel
theorem dX5_joined_120 : decode cX5_joined 120 = .ok (.iload_n 1, 1) := dk_27 (dk_at dksX5_joined_2 0 rfl rfl)
theorem dX5_joined_121 : decode cX5_joined 121 = .ok (.iload_n 2, 1) := dk_28 (dk_at dksX5_joined_2 1 rfl rfl)
theorem dX5_joined_122 : decode cX5_joined 122 = .ok (.iadd, 1) := dk_96 (dk_at dksX5_joined_2 2 rfl rfl)
theorem dX5_joined_123 : decode cX5_joined 123 = .ok (.ireturn, 1) := dk_172 (dk_at dksX5_joined_2 3 rfl rfl)
theorem dX5_joined_124 : decode cX5_joined 124 = .ok (.iload_n 1, 1) := dk_27 (dk_at dksX5_joined_2 4 rfl rfl)
theorem dX5_joined_125 : decode cX5_joined 125 = .ok (.iload_n 2, 1) := dk_28 (dk_at dksX5_joined_2 5 rfl rfl)
theorem dX5_joined_126 : decode cX5_joined 126 = .ok (.isub, 1) := dk_100 (dk_at dksX5_joined_2 6 rfl rfl)
theorem dX5_joined_127 : decode cX5_joined 127 = .ok (.ireturn, 1) := dk_172 (dk_at dksX5_joined_2 7 rfl rfl)
theorem dX5_joined_128 : decode cX5_joined 128 = .ok (.iload_n 1, 1) := dk_27 (dk_at dksX5_joined_2 8 rfl rfl)
theorem dX5_joined_129 : decode cX5_joined 129 = .ok (.iload_n 2, 1) := dk_28 (dk_at dksX5_joined_2 9 rfl rfl)
theorem dX5_joined_130 : decode cX5_joined 130 = .ok (.imul, 1) := dk_104 (dk_at dksX5_joined_2 10 rfl rfl)
theorem dX5_joined_131 : decode cX5_joined 131 = .ok (.ireturn, 1) := dk_172 (dk_at dksX5_joined_2 11 rfl rfl)
theorem dX5_joined_132 : decode cX5_joined 132 = .ok (.iload_n 2, 1) := dk_28 (dk_at dksX5_joined_2 12 rfl rfl)
theorem dX5_joined_133 : decode cX5_joined 133 = .ok (.ifCond .ne 7, 3) := dk_154 0 7 (dk_at dksX5_joined_2 13 rfl rfl)
theorem dX5_joined_136 : decode cX5_joined 136 = .ok (.iconst 0, 1) := dk_3 (dk_at dksX5_joined_2 16 rfl rfl)
theorem dX5_joined_137 : decode cX5_joined 137 = .ok (.goto 16, 3) := dk_167 0 16 (dk_at dksX5_joined_2 17 rfl rfl)
theorem dX5_joined_140 : decode cX5_joined 140 = .ok (.iload_n 2, 1) := dk_28 (dk_at dksX5_joined_2 20 rfl rfl)
theorem dX5_joined_141 : decode cX5_joined 141 = .ok (.iconst (-1), 1) := dk_2 (dk_at dksX5_joined_2 21 rfl rfl)
theorem dX5_joined_142 : decode cX5_joined 142 = .ok (.if_icmp .ne 8, 3) := dk_160 0 8 (dk_at dksX5_joined_3 0 rfl rfl)
theorem dX5_joined_145 : decode cX5_joined 145 = .ok (.iload_n 1, 1) := dk_27 (dk_at dksX5_joined_3 3 rfl rfl)
theorem dX5_joined_146 : decode cX5_joined 146 = .ok (.ineg, 1) := dk_116 (dk_at dksX5_joined_3 4 rfl rfl)
theorem dX5_joined_147 : decode cX5_joined 147 = .ok (.goto 6, 3) := dk_167 0 6 (dk_at dksX5_joined_3 5 rfl rfl)
theorem dX5_joined_150 : decode cX5_joined 150 = .ok (.iload_n 1, 1) := dk_27 (dk_at dksX5_joined_3 8 rfl rfl)
theorem dX5_joined_151 : decode cX5_joined 151 = .ok (.iload_n 2, 1) := dk_28 (dk_at dksX5_joined_3 9 rfl rfl)
theorem dX5_joined_152 : decode cX5_joined 152 = .ok (.idiv, 1) := dk_108 (dk_at dksX5_joined_3 10 rfl rfl)
theorem dX5_joined_153 : decode cX5_joined 153 = .ok (.ireturn, 1) := dk_172 (dk_at dksX5_joined_3 11 rfl rfl)
theorem dX5_joined_154 : decode cX5_joined 154 = .ok (.iload_n 2, 1) := dk_28 (dk_at dksX5_joined_3 12 rfl rfl)
theorem dX5_joined_155 : decode cX5_joined 155 = .ok (.ifCond .eq 8, 3) := dk_153 0 8 (dk_at dksX5_joined_3 13 rfl rfl)
theorem dX5_joined_158 : decode cX5_joined 158 = .ok (.iload_n 2, 1) := dk_28 (dk_at dksX5_joined_3 16 rfl rfl)
theorem dX5_joined_159 : decode cX5_joined 159 = .ok (.iconst (-1), 1) := dk_2 (dk_at dksX5_joined_3 17 rfl rfl)
theorem dX5_joined_160 : decode cX5_joined 160 = .ok (.if_icmp .ne 7, 3) := dk_160 0 7 (dk_at dksX5_joined_3 18 rfl rfl)
theorem dX5_joined_163 : decode cX5_joined 163 = .ok (.iconst 0, 1) := dk_3 (dk_at dksX5_joined_3 21 rfl rfl)
theorem dX5_joined_164 : decode cX5_joined 164 = .ok (.goto 6, 3) := dk_167 0 6 (dk_at dksX5_joined_4 0 rfl rfl)
theorem dX5_joined_167 : decode cX5_joined 167 = .ok (.iload_n 1, 1) := dk_27 (dk_at dksX5_joined_4 3 rfl rfl)
theorem dX5_joined_168 : decode cX5_joined 168 = .ok (.iload_n 2, 1) := dk_28 (dk_at dksX5_joined_4 4 rfl rfl)
theorem dX5_joined_169 : decode cX5_joined 169 = .ok (.irem, 1) := dk_112 (dk_at dksX5_joined_4 5 rfl rfl)
theorem dX5_joined_170 : decode cX5_joined 170 = .ok (.ireturn, 1) := dk_172 (dk_at dksX5_joined_4 6 rfl rfl)
theorem dX5_joined_171 : decode cX5_joined 171 = .ok (.iload_n 1, 1) := dk_27 (dk_at dksX5_joined_4 7 rfl rfl)
theorem dX5_joined_172 : decode cX5_joined 172 = .ok (.iload_n 2, 1) := dk_28 (dk_at dksX5_joined_4 8 rfl rfl)
theorem dX5_joined_173 : decode cX5_joined 173 = .ok (.if_icmp .ge 7, 3) := dk_162 0 7 (dk_at dksX5_joined_4 9 rfl rfl)
theorem dX5_joined_176 : decode cX5_joined 176 = .ok (.iconst 1, 1) := dk_4 (dk_at dksX5_joined_4 12 rfl rfl)
theorem dX5_joined_177 : decode cX5_joined 177 = .ok (.goto 4, 3) := dk_167 0 4 (dk_at dksX5_joined_4 13 rfl rfl)
theorem dX5_joined_180 : decode cX5_joined 180 = .ok (.iconst 0, 1) := dk_3 (dk_at dksX5_joined_4 16 rfl rfl)
theorem dX5_joined_181 : decode cX5_joined 181 = .ok (.ireturn, 1) := dk_172 (dk_at dksX5_joined_4 17 rfl rfl)
theorem dX5_joined_182 : decode cX5_joined 182 = .ok (.iload_n 1, 1) := dk_27 (dk_at dksX5_joined_4 18 rfl rfl)
theorem dX5_joined_183 : decode cX5_joined 183 = .ok (.iload_n 2, 1) := dk_28 (dk_at dksX5_joined_4 19 rfl rfl)
theorem dX5_joined_184 : decode cX5_joined 184 = .ok (.if_icmp .le 7, 3) := dk_164 0 7 (dk_at dksX5_joined_4 20 rfl rfl)
theorem dX5_joined_187 : decode cX5_joined 187 = .ok (.iconst 1, 1) := dk_4 (dk_at dksX5_joined_4 23 rfl rfl)
theorem dX5_joined_188 : decode cX5_joined 188 = .ok (.goto 4, 3) := dk_167 0 4 (dk_at dksX5_joined_5 0 rfl rfl)
theorem dX5_joined_191 : decode cX5_joined 191 = .ok (.iconst 0, 1) := dk_3 (dk_at dksX5_joined_5 3 rfl rfl)
theorem dX5_joined_192 : decode cX5_joined 192 = .ok (.ireturn, 1) := dk_172 (dk_at dksX5_joined_5 4 rfl rfl)
theorem dX5_joined_193 : decode cX5_joined 193 = .ok (.iload_n 1, 1) := dk_27 (dk_at dksX5_joined_5 5 rfl rfl)
theorem dX5_joined_194 : decode cX5_joined 194 = .ok (.iload_n 2, 1) := dk_28 (dk_at dksX5_joined_5 6 rfl rfl)
theorem dX5_joined_195 : decode cX5_joined 195 = .ok (.if_icmp .ne 7, 3) := dk_160 0 7 (dk_at dksX5_joined_5 7 rfl rfl)
theorem dX5_joined_198 : decode cX5_joined 198 = .ok (.iconst 1, 1) := dk_4 (dk_at dksX5_joined_5 10 rfl rfl)
theorem dX5_joined_199 : decode cX5_joined 199 = .ok (.goto 4, 3) := dk_167 0 4 (dk_at dksX5_joined_5 11 rfl rfl)
theorem dX5_joined_202 : decode cX5_joined 202 = .ok (.iconst 0, 1) := dk_3 (dk_at dksX5_joined_5 14 rfl rfl)
theorem dX5_joined_203 : decode cX5_joined 203 = .ok (.ireturn, 1) := dk_172 (dk_at dksX5_joined_5 15 rfl rfl)
theorem dX5_joined_204 : decode cX5_joined 204 = .ok (.iload_n 1, 1) := dk_27 (dk_at dksX5_joined_5 16 rfl rfl)
theorem dX5_joined_205 : decode cX5_joined 205 = .ok (.ifCond .eq 11, 3) := dk_153 0 11 (dk_at dksX5_joined_5 17 rfl rfl)
theorem dX5_joined_208 : decode cX5_joined 208 = .ok (.iload_n 2, 1) := dk_28 (dk_at dksX5_joined_5 20 rfl rfl)
theorem dX5_joined_209 : decode cX5_joined 209 = .ok (.ifCond .eq 7, 3) := dk_153 0 7 (dk_at dksX5_joined_5 21 rfl rfl)
theorem dX5_joined_212 : decode cX5_joined 212 = .ok (.iconst 1, 1) := dk_4 (dk_at dksX5_joined_6 0 rfl rfl)
theorem dX5_joined_213 : decode cX5_joined 213 = .ok (.goto 4, 3) := dk_167 0 4 (dk_at dksX5_joined_6 1 rfl rfl)
theorem dX5_joined_216 : decode cX5_joined 216 = .ok (.iconst 0, 1) := dk_3 (dk_at dksX5_joined_6 4 rfl rfl)
theorem dX5_joined_217 : decode cX5_joined 217 = .ok (.ireturn, 1) := dk_172 (dk_at dksX5_joined_6 5 rfl rfl)
theorem dX5_joined_218 : decode cX5_joined 218 = .ok (.iload_n 1, 1) := dk_27 (dk_at dksX5_joined_6 6 rfl rfl)
theorem dX5_joined_219 : decode cX5_joined 219 = .ok (.ifCond .ne 7, 3) := dk_154 0 7 (dk_at dksX5_joined_6 7 rfl rfl)
theorem dX5_joined_222 : decode cX5_joined 222 = .ok (.iload_n 2, 1) := dk_28 (dk_at dksX5_joined_6 10 rfl rfl)
theorem dX5_joined_223 : decode cX5_joined 223 = .ok (.ifCond .eq 7, 3) := dk_153 0 7 (dk_at dksX5_joined_6 11 rfl rfl)
theorem dX5_joined_226 : decode cX5_joined 226 = .ok (.iconst 1, 1) := dk_4 (dk_at dksX5_joined_6 14 rfl rfl)
theorem dX5_joined_227 : decode cX5_joined 227 = .ok (.goto 4, 3) := dk_167 0 4 (dk_at dksX5_joined_6 15 rfl rfl)
theorem dX5_joined_230 : decode cX5_joined 230 = .ok (.iconst 0, 1) := dk_3 (dk_at dksX5_joined_6 18 rfl rfl)
theorem dX5_joined_231 : decode cX5_joined 231 = .ok (.ireturn, 1) := dk_172 (dk_at dksX5_joined_6 19 rfl rfl)
abbrev cX5_held : ByteArray := prog_20_method_4_code
def yX5_held : MethodName := ⟨RX5, "held", "(III)I"⟩
def dkwX5_held_0 : List UInt8 := [26, 27, 162, 0, 7, 27, 167, 0, 13, 26, 28, 164, 0, 7, 28, 167, 0, 4, 26, 172]
abbrev dktX5_held_0 : List UInt8 := dkwX5_held_0 ++ []
theorem dksX5_held_0 : cX5_held.data.toList.drop 0 = dktX5_held_0 := by decide +kernel
theorem dX5_held_0 : decode cX5_held 0 = .ok (.iload_n 0, 1) := dk_26 (dk_at dksX5_held_0 0 rfl rfl)
theorem dX5_held_1 : decode cX5_held 1 = .ok (.iload_n 1, 1) := dk_27 (dk_at dksX5_held_0 1 rfl rfl)
theorem dX5_held_2 : decode cX5_held 2 = .ok (.if_icmp .ge 7, 3) := dk_162 0 7 (dk_at dksX5_held_0 2 rfl rfl)
theorem dX5_held_5 : decode cX5_held 5 = .ok (.iload_n 1, 1) := dk_27 (dk_at dksX5_held_0 5 rfl rfl)
theorem dX5_held_6 : decode cX5_held 6 = .ok (.goto 13, 3) := dk_167 0 13 (dk_at dksX5_held_0 6 rfl rfl)
theorem dX5_held_9 : decode cX5_held 9 = .ok (.iload_n 0, 1) := dk_26 (dk_at dksX5_held_0 9 rfl rfl)
theorem dX5_held_10 : decode cX5_held 10 = .ok (.iload_n 2, 1) := dk_28 (dk_at dksX5_held_0 10 rfl rfl)
theorem dX5_held_11 : decode cX5_held 11 = .ok (.if_icmp .le 7, 3) := dk_164 0 7 (dk_at dksX5_held_0 11 rfl rfl)
theorem dX5_held_14 : decode cX5_held 14 = .ok (.iload_n 2, 1) := dk_28 (dk_at dksX5_held_0 14 rfl rfl)
theorem dX5_held_15 : decode cX5_held 15 = .ok (.goto 4, 3) := dk_167 0 4 (dk_at dksX5_held_0 15 rfl rfl)
theorem dX5_held_18 : decode cX5_held 18 = .ok (.iload_n 0, 1) := dk_26 (dk_at dksX5_held_0 18 rfl rfl)
theorem dX5_held_19 : decode cX5_held 19 = .ok (.ireturn, 1) := dk_172 (dk_at dksX5_held_0 19 rfl rfl)
abbrev cX5_turns : ByteArray := prog_20_method_50_code
def yX5_turns : MethodName := ⟨RX5, "turns", "(II)I"⟩
def dkwX5_turns_4 : List UInt8 := [29, 3, 17, 39, 15, 184, 0, 61, 172]
abbrev dktX5_turns_4 : List UInt8 := dkwX5_turns_4 ++ []
def dkwX5_turns_3 : List UInt8 := [96, 167, 0, 4, 3, 62, 167, 0, 18, 3, 62, 167, 0, 13, 42, 27, 28, 182, 0, 188, 62, 167, 0, 3]
abbrev dktX5_turns_3 : List UInt8 := dkwX5_turns_3 ++ dktX5_turns_4
def dkwX5_turns_2 : List UInt8 := [28, 5, 108, 62, 167, 0, 44, 5, 28, 104, 62, 167, 0, 37, 28, 5, 108, 158, 0, 11, 28, 5, 108, 4]
abbrev dktX5_turns_2 : List UInt8 := dkwX5_turns_2 ++ dktX5_turns_3
def dkwX5_turns_1 : List UInt8 := [170, 0, 0, 0, 0, 0, 0, 88, 0, 0, 0, 1, 0, 0, 0, 6, 0, 0, 0, 40, 0, 0, 0, 88, 0, 0, 0, 47, 0, 0, 0, 54, 0, 0, 0, 73, 0, 0, 0, 78]
abbrev dktX5_turns_1 : List UInt8 := dkwX5_turns_1 ++ dktX5_turns_2
def dkwX5_turns_0 : List UInt8 := [28, 62, 42, 27, 3, 182, 0, 90]
abbrev dktX5_turns_0 : List UInt8 := dkwX5_turns_0 ++ dktX5_turns_1
theorem dksX5_turns_0 : cX5_turns.data.toList.drop 0 = dktX5_turns_0 := by decide +kernel
theorem dksX5_turns_1 : cX5_turns.data.toList.drop 8 = dktX5_turns_1 := dk_seg dksX5_turns_0 8 rfl rfl
theorem dksX5_turns_2 : cX5_turns.data.toList.drop 48 = dktX5_turns_2 := dk_seg dksX5_turns_1 40 rfl rfl
theorem dksX5_turns_3 : cX5_turns.data.toList.drop 72 = dktX5_turns_3 := dk_seg dksX5_turns_2 24 rfl rfl
theorem dksX5_turns_4 : cX5_turns.data.toList.drop 96 = dktX5_turns_4 := dk_seg dksX5_turns_3 24 rfl rfl
theorem dX5_turns_0 : decode cX5_turns 0 = .ok (.iload_n 2, 1) := dk_28 (dk_at dksX5_turns_0 0 rfl rfl)
theorem dX5_turns_1 : decode cX5_turns 1 = .ok (.istore_n 3, 1) := dk_62 (dk_at dksX5_turns_0 1 rfl rfl)
theorem dX5_turns_2 : decode cX5_turns 2 = .ok (.aload_n 0, 1) := dk_42 (dk_at dksX5_turns_0 2 rfl rfl)
theorem dX5_turns_3 : decode cX5_turns 3 = .ok (.iload_n 1, 1) := dk_27 (dk_at dksX5_turns_0 3 rfl rfl)
theorem dX5_turns_4 : decode cX5_turns 4 = .ok (.iconst 0, 1) := dk_3 (dk_at dksX5_turns_0 4 rfl rfl)
theorem dX5_turns_5 : decode cX5_turns 5 = .ok (.invokevirtual 90, 3) := dk_182 0 90 (dk_at dksX5_turns_0 5 rfl rfl)
theorem dX5_turns_8 : decode cX5_turns 8 = .ok (.tableswitch 88 1 6 #[40, 88, 47, 54, 73, 78], 40) := by decide +kernel
theorem dX5_turns_48 : decode cX5_turns 48 = .ok (.iload_n 2, 1) := dk_28 (dk_at dksX5_turns_2 0 rfl rfl)
theorem dX5_turns_49 : decode cX5_turns 49 = .ok (.iconst 2, 1) := dk_5 (dk_at dksX5_turns_2 1 rfl rfl)
theorem dX5_turns_50 : decode cX5_turns 50 = .ok (.idiv, 1) := dk_108 (dk_at dksX5_turns_2 2 rfl rfl)
theorem dX5_turns_51 : decode cX5_turns 51 = .ok (.istore_n 3, 1) := dk_62 (dk_at dksX5_turns_2 3 rfl rfl)
theorem dX5_turns_52 : decode cX5_turns 52 = .ok (.goto 44, 3) := dk_167 0 44 (dk_at dksX5_turns_2 4 rfl rfl)
theorem dX5_turns_55 : decode cX5_turns 55 = .ok (.iconst 2, 1) := dk_5 (dk_at dksX5_turns_2 7 rfl rfl)
theorem dX5_turns_56 : decode cX5_turns 56 = .ok (.iload_n 2, 1) := dk_28 (dk_at dksX5_turns_2 8 rfl rfl)
theorem dX5_turns_57 : decode cX5_turns 57 = .ok (.imul, 1) := dk_104 (dk_at dksX5_turns_2 9 rfl rfl)
theorem dX5_turns_58 : decode cX5_turns 58 = .ok (.istore_n 3, 1) := dk_62 (dk_at dksX5_turns_2 10 rfl rfl)
theorem dX5_turns_59 : decode cX5_turns 59 = .ok (.goto 37, 3) := dk_167 0 37 (dk_at dksX5_turns_2 11 rfl rfl)
theorem dX5_turns_62 : decode cX5_turns 62 = .ok (.iload_n 2, 1) := dk_28 (dk_at dksX5_turns_2 14 rfl rfl)
theorem dX5_turns_63 : decode cX5_turns 63 = .ok (.iconst 2, 1) := dk_5 (dk_at dksX5_turns_2 15 rfl rfl)
theorem dX5_turns_64 : decode cX5_turns 64 = .ok (.idiv, 1) := dk_108 (dk_at dksX5_turns_2 16 rfl rfl)
theorem dX5_turns_65 : decode cX5_turns 65 = .ok (.ifCond .le 11, 3) := dk_158 0 11 (dk_at dksX5_turns_2 17 rfl rfl)
theorem dX5_turns_68 : decode cX5_turns 68 = .ok (.iload_n 2, 1) := dk_28 (dk_at dksX5_turns_2 20 rfl rfl)
theorem dX5_turns_69 : decode cX5_turns 69 = .ok (.iconst 2, 1) := dk_5 (dk_at dksX5_turns_2 21 rfl rfl)
theorem dX5_turns_70 : decode cX5_turns 70 = .ok (.idiv, 1) := dk_108 (dk_at dksX5_turns_2 22 rfl rfl)
theorem dX5_turns_71 : decode cX5_turns 71 = .ok (.iconst 1, 1) := dk_4 (dk_at dksX5_turns_2 23 rfl rfl)
theorem dX5_turns_72 : decode cX5_turns 72 = .ok (.iadd, 1) := dk_96 (dk_at dksX5_turns_3 0 rfl rfl)
theorem dX5_turns_73 : decode cX5_turns 73 = .ok (.goto 4, 3) := dk_167 0 4 (dk_at dksX5_turns_3 1 rfl rfl)
theorem dX5_turns_76 : decode cX5_turns 76 = .ok (.iconst 0, 1) := dk_3 (dk_at dksX5_turns_3 4 rfl rfl)
theorem dX5_turns_77 : decode cX5_turns 77 = .ok (.istore_n 3, 1) := dk_62 (dk_at dksX5_turns_3 5 rfl rfl)
theorem dX5_turns_78 : decode cX5_turns 78 = .ok (.goto 18, 3) := dk_167 0 18 (dk_at dksX5_turns_3 6 rfl rfl)
theorem dX5_turns_81 : decode cX5_turns 81 = .ok (.iconst 0, 1) := dk_3 (dk_at dksX5_turns_3 9 rfl rfl)
theorem dX5_turns_82 : decode cX5_turns 82 = .ok (.istore_n 3, 1) := dk_62 (dk_at dksX5_turns_3 10 rfl rfl)
theorem dX5_turns_83 : decode cX5_turns 83 = .ok (.goto 13, 3) := dk_167 0 13 (dk_at dksX5_turns_3 11 rfl rfl)
theorem dX5_turns_86 : decode cX5_turns 86 = .ok (.aload_n 0, 1) := dk_42 (dk_at dksX5_turns_3 14 rfl rfl)
theorem dX5_turns_87 : decode cX5_turns 87 = .ok (.iload_n 1, 1) := dk_27 (dk_at dksX5_turns_3 15 rfl rfl)
theorem dX5_turns_88 : decode cX5_turns 88 = .ok (.iload_n 2, 1) := dk_28 (dk_at dksX5_turns_3 16 rfl rfl)
theorem dX5_turns_89 : decode cX5_turns 89 = .ok (.invokevirtual 188, 3) := dk_182 0 188 (dk_at dksX5_turns_3 17 rfl rfl)
theorem dX5_turns_92 : decode cX5_turns 92 = .ok (.istore_n 3, 1) := dk_62 (dk_at dksX5_turns_3 20 rfl rfl)
theorem dX5_turns_93 : decode cX5_turns 93 = .ok (.goto 3, 3) := dk_167 0 3 (dk_at dksX5_turns_3 21 rfl rfl)
theorem dX5_turns_96 : decode cX5_turns 96 = .ok (.iload_n 3, 1) := dk_29 (dk_at dksX5_turns_4 0 rfl rfl)
theorem dX5_turns_97 : decode cX5_turns 97 = .ok (.iconst 0, 1) := dk_3 (dk_at dksX5_turns_4 1 rfl rfl)
theorem dX5_turns_98 : decode cX5_turns 98 = .ok (.sipush 9999, 3) := dk_17 39 15 (dk_at dksX5_turns_4 2 rfl rfl)
theorem dX5_turns_101 : decode cX5_turns 101 = .ok (.invokestatic 61, 3) := dk_184 0 61 (dk_at dksX5_turns_4 5 rfl rfl)
theorem dX5_turns_104 : decode cX5_turns 104 = .ok (.ireturn, 1) := dk_172 (dk_at dksX5_turns_4 8 rfl rfl)
abbrev cX5_turnsTold : ByteArray := prog_20_method_49_code
def yX5_turnsTold : MethodName := ⟨RX5, "turnsTold", "(II)I"⟩
def dkwX5_turnsTold_2 : List UInt8 := [182, 0, 182, 172]
abbrev dktX5_turnsTold_2 : List UInt8 := dkwX5_turnsTold_2 ++ []
def dkwX5_turnsTold_1 : List UInt8 := [42, 27, 8, 182, 0, 90, 79, 42, 180, 0, 25, 16, 109, 42, 27, 4, 182, 0, 90, 79, 42, 4]
abbrev dktX5_turnsTold_1 : List UInt8 := dkwX5_turnsTold_1 ++ dktX5_turnsTold_2
def dkwX5_turnsTold_0 : List UInt8 := [42, 4, 182, 0, 173, 154, 0, 5, 28, 172, 42, 180, 0, 25, 16, 116, 28, 79, 42, 180, 0, 25, 16, 99]
abbrev dktX5_turnsTold_0 : List UInt8 := dkwX5_turnsTold_0 ++ dktX5_turnsTold_1
theorem dksX5_turnsTold_0 : cX5_turnsTold.data.toList.drop 0 = dktX5_turnsTold_0 := by decide +kernel
theorem dksX5_turnsTold_1 : cX5_turnsTold.data.toList.drop 24 = dktX5_turnsTold_1 := dk_seg dksX5_turnsTold_0 24 rfl rfl
theorem dksX5_turnsTold_2 : cX5_turnsTold.data.toList.drop 46 = dktX5_turnsTold_2 := dk_seg dksX5_turnsTold_1 22 rfl rfl
theorem dX5_turnsTold_0 : decode cX5_turnsTold 0 = .ok (.aload_n 0, 1) := dk_42 (dk_at dksX5_turnsTold_0 0 rfl rfl)
theorem dX5_turnsTold_1 : decode cX5_turnsTold 1 = .ok (.iconst 1, 1) := dk_4 (dk_at dksX5_turnsTold_0 1 rfl rfl)
theorem dX5_turnsTold_2 : decode cX5_turnsTold 2 = .ok (.invokevirtual 173, 3) := dk_182 0 173 (dk_at dksX5_turnsTold_0 2 rfl rfl)
theorem dX5_turnsTold_5 : decode cX5_turnsTold 5 = .ok (.ifCond .ne 5, 3) := dk_154 0 5 (dk_at dksX5_turnsTold_0 5 rfl rfl)
theorem dX5_turnsTold_8 : decode cX5_turnsTold 8 = .ok (.iload_n 2, 1) := dk_28 (dk_at dksX5_turnsTold_0 8 rfl rfl)
theorem dX5_turnsTold_9 : decode cX5_turnsTold 9 = .ok (.ireturn, 1) := dk_172 (dk_at dksX5_turnsTold_0 9 rfl rfl)
theorem dX5_turnsTold_10 : decode cX5_turnsTold 10 = .ok (.aload_n 0, 1) := dk_42 (dk_at dksX5_turnsTold_0 10 rfl rfl)
theorem dX5_turnsTold_11 : decode cX5_turnsTold 11 = .ok (.getfield 25, 3) := dk_180 0 25 (dk_at dksX5_turnsTold_0 11 rfl rfl)
theorem dX5_turnsTold_14 : decode cX5_turnsTold 14 = .ok (.bipush 116, 2) := dk_16 116 (dk_at dksX5_turnsTold_0 14 rfl rfl)
theorem dX5_turnsTold_16 : decode cX5_turnsTold 16 = .ok (.iload_n 2, 1) := dk_28 (dk_at dksX5_turnsTold_0 16 rfl rfl)
theorem dX5_turnsTold_17 : decode cX5_turnsTold 17 = .ok (.iastore, 1) := dk_79 (dk_at dksX5_turnsTold_0 17 rfl rfl)
theorem dX5_turnsTold_18 : decode cX5_turnsTold 18 = .ok (.aload_n 0, 1) := dk_42 (dk_at dksX5_turnsTold_0 18 rfl rfl)
theorem dX5_turnsTold_19 : decode cX5_turnsTold 19 = .ok (.getfield 25, 3) := dk_180 0 25 (dk_at dksX5_turnsTold_0 19 rfl rfl)
theorem dX5_turnsTold_22 : decode cX5_turnsTold 22 = .ok (.bipush 99, 2) := dk_16 99 (dk_at dksX5_turnsTold_0 22 rfl rfl)
theorem dX5_turnsTold_24 : decode cX5_turnsTold 24 = .ok (.aload_n 0, 1) := dk_42 (dk_at dksX5_turnsTold_1 0 rfl rfl)
theorem dX5_turnsTold_25 : decode cX5_turnsTold 25 = .ok (.iload_n 1, 1) := dk_27 (dk_at dksX5_turnsTold_1 1 rfl rfl)
theorem dX5_turnsTold_26 : decode cX5_turnsTold 26 = .ok (.iconst 5, 1) := dk_8 (dk_at dksX5_turnsTold_1 2 rfl rfl)
theorem dX5_turnsTold_27 : decode cX5_turnsTold 27 = .ok (.invokevirtual 90, 3) := dk_182 0 90 (dk_at dksX5_turnsTold_1 3 rfl rfl)
theorem dX5_turnsTold_30 : decode cX5_turnsTold 30 = .ok (.iastore, 1) := dk_79 (dk_at dksX5_turnsTold_1 6 rfl rfl)
theorem dX5_turnsTold_31 : decode cX5_turnsTold 31 = .ok (.aload_n 0, 1) := dk_42 (dk_at dksX5_turnsTold_1 7 rfl rfl)
theorem dX5_turnsTold_32 : decode cX5_turnsTold 32 = .ok (.getfield 25, 3) := dk_180 0 25 (dk_at dksX5_turnsTold_1 8 rfl rfl)
theorem dX5_turnsTold_35 : decode cX5_turnsTold 35 = .ok (.bipush 109, 2) := dk_16 109 (dk_at dksX5_turnsTold_1 11 rfl rfl)
theorem dX5_turnsTold_37 : decode cX5_turnsTold 37 = .ok (.aload_n 0, 1) := dk_42 (dk_at dksX5_turnsTold_1 13 rfl rfl)
theorem dX5_turnsTold_38 : decode cX5_turnsTold 38 = .ok (.iload_n 1, 1) := dk_27 (dk_at dksX5_turnsTold_1 14 rfl rfl)
theorem dX5_turnsTold_39 : decode cX5_turnsTold 39 = .ok (.iconst 1, 1) := dk_4 (dk_at dksX5_turnsTold_1 15 rfl rfl)
theorem dX5_turnsTold_40 : decode cX5_turnsTold 40 = .ok (.invokevirtual 90, 3) := dk_182 0 90 (dk_at dksX5_turnsTold_1 16 rfl rfl)
theorem dX5_turnsTold_43 : decode cX5_turnsTold 43 = .ok (.iastore, 1) := dk_79 (dk_at dksX5_turnsTold_1 19 rfl rfl)
theorem dX5_turnsTold_44 : decode cX5_turnsTold 44 = .ok (.aload_n 0, 1) := dk_42 (dk_at dksX5_turnsTold_1 20 rfl rfl)
theorem dX5_turnsTold_45 : decode cX5_turnsTold 45 = .ok (.iconst 1, 1) := dk_4 (dk_at dksX5_turnsTold_1 21 rfl rfl)
theorem dX5_turnsTold_46 : decode cX5_turnsTold 46 = .ok (.invokevirtual 182, 3) := dk_182 0 182 (dk_at dksX5_turnsTold_2 0 rfl rfl)
theorem dX5_turnsTold_49 : decode cX5_turnsTold 49 = .ok (.ireturn, 1) := dk_172 (dk_at dksX5_turnsTold_2 3 rfl rfl)
abbrev cX5_shows : ByteArray := prog_20_method_51_code
def yX5_shows : MethodName := ⟨RX5, "shows", "(II)I"⟩
def dkwX5_shows_0 : List UInt8 := [42, 27, 28, 42, 27, 28, 182, 0, 106, 182, 0, 191, 172]
abbrev dktX5_shows_0 : List UInt8 := dkwX5_shows_0 ++ []
theorem dksX5_shows_0 : cX5_shows.data.toList.drop 0 = dktX5_shows_0 := by decide +kernel
theorem dX5_shows_0 : decode cX5_shows 0 = .ok (.aload_n 0, 1) := dk_42 (dk_at dksX5_shows_0 0 rfl rfl)
theorem dX5_shows_1 : decode cX5_shows 1 = .ok (.iload_n 1, 1) := dk_27 (dk_at dksX5_shows_0 1 rfl rfl)
theorem dX5_shows_2 : decode cX5_shows 2 = .ok (.iload_n 2, 1) := dk_28 (dk_at dksX5_shows_0 2 rfl rfl)
theorem dX5_shows_3 : decode cX5_shows 3 = .ok (.aload_n 0, 1) := dk_42 (dk_at dksX5_shows_0 3 rfl rfl)
theorem dX5_shows_4 : decode cX5_shows 4 = .ok (.iload_n 1, 1) := dk_27 (dk_at dksX5_shows_0 4 rfl rfl)
theorem dX5_shows_5 : decode cX5_shows 5 = .ok (.iload_n 2, 1) := dk_28 (dk_at dksX5_shows_0 5 rfl rfl)
theorem dX5_shows_6 : decode cX5_shows 6 = .ok (.invokevirtual 106, 3) := dk_182 0 106 (dk_at dksX5_shows_0 6 rfl rfl)
theorem dX5_shows_9 : decode cX5_shows 9 = .ok (.invokevirtual 191, 3) := dk_182 0 191 (dk_at dksX5_shows_0 9 rfl rfl)
theorem dX5_shows_12 : decode cX5_shows 12 = .ok (.ireturn, 1) := dk_172 (dk_at dksX5_shows_0 12 rfl rfl)
abbrev cX5_showsBy : ByteArray := prog_20_method_52_code
def yX5_showsBy : MethodName := ⟨RX5, "showsBy", "(III)I"⟩
def dkwX5_showsBy_2 : List UInt8 := [3, 172, 5, 28, 104, 172, 29, 5, 108, 172, 29, 172]
abbrev dktX5_showsBy_2 : List UInt8 := dkwX5_showsBy_2 ++ []
def dkwX5_showsBy_1 : List UInt8 := [170, 0, 0, 0, 0, 40, 0, 0, 0, 2, 0, 0, 0, 5, 0, 0, 0, 36, 0, 0, 0, 40, 0, 0, 0, 30, 0, 0, 0, 32]
abbrev dktX5_showsBy_1 : List UInt8 := dkwX5_showsBy_1 ++ dktX5_showsBy_2
def dkwX5_showsBy_0 : List UInt8 := [42, 27, 3, 182, 0, 90]
abbrev dktX5_showsBy_0 : List UInt8 := dkwX5_showsBy_0 ++ dktX5_showsBy_1
theorem dksX5_showsBy_0 : cX5_showsBy.data.toList.drop 0 = dktX5_showsBy_0 := by decide +kernel
theorem dksX5_showsBy_1 : cX5_showsBy.data.toList.drop 6 = dktX5_showsBy_1 := dk_seg dksX5_showsBy_0 6 rfl rfl
theorem dksX5_showsBy_2 : cX5_showsBy.data.toList.drop 36 = dktX5_showsBy_2 := dk_seg dksX5_showsBy_1 30 rfl rfl
theorem dX5_showsBy_0 : decode cX5_showsBy 0 = .ok (.aload_n 0, 1) := dk_42 (dk_at dksX5_showsBy_0 0 rfl rfl)
theorem dX5_showsBy_1 : decode cX5_showsBy 1 = .ok (.iload_n 1, 1) := dk_27 (dk_at dksX5_showsBy_0 1 rfl rfl)
theorem dX5_showsBy_2 : decode cX5_showsBy 2 = .ok (.iconst 0, 1) := dk_3 (dk_at dksX5_showsBy_0 2 rfl rfl)
theorem dX5_showsBy_3 : decode cX5_showsBy 3 = .ok (.invokevirtual 90, 3) := dk_182 0 90 (dk_at dksX5_showsBy_0 3 rfl rfl)
theorem dX5_showsBy_6 : decode cX5_showsBy 6 = .ok (.tableswitch 40 2 5 #[36, 40, 30, 32], 30) := by decide +kernel
theorem dX5_showsBy_36 : decode cX5_showsBy 36 = .ok (.iconst 0, 1) := dk_3 (dk_at dksX5_showsBy_2 0 rfl rfl)
theorem dX5_showsBy_37 : decode cX5_showsBy 37 = .ok (.ireturn, 1) := dk_172 (dk_at dksX5_showsBy_2 1 rfl rfl)
theorem dX5_showsBy_38 : decode cX5_showsBy 38 = .ok (.iconst 2, 1) := dk_5 (dk_at dksX5_showsBy_2 2 rfl rfl)
theorem dX5_showsBy_39 : decode cX5_showsBy 39 = .ok (.iload_n 2, 1) := dk_28 (dk_at dksX5_showsBy_2 3 rfl rfl)
theorem dX5_showsBy_40 : decode cX5_showsBy 40 = .ok (.imul, 1) := dk_104 (dk_at dksX5_showsBy_2 4 rfl rfl)
theorem dX5_showsBy_41 : decode cX5_showsBy 41 = .ok (.ireturn, 1) := dk_172 (dk_at dksX5_showsBy_2 5 rfl rfl)
theorem dX5_showsBy_42 : decode cX5_showsBy 42 = .ok (.iload_n 3, 1) := dk_29 (dk_at dksX5_showsBy_2 6 rfl rfl)
theorem dX5_showsBy_43 : decode cX5_showsBy 43 = .ok (.iconst 2, 1) := dk_5 (dk_at dksX5_showsBy_2 7 rfl rfl)
theorem dX5_showsBy_44 : decode cX5_showsBy 44 = .ok (.idiv, 1) := dk_108 (dk_at dksX5_showsBy_2 8 rfl rfl)
theorem dX5_showsBy_45 : decode cX5_showsBy 45 = .ok (.ireturn, 1) := dk_172 (dk_at dksX5_showsBy_2 9 rfl rfl)
theorem dX5_showsBy_46 : decode cX5_showsBy 46 = .ok (.iload_n 3, 1) := dk_29 (dk_at dksX5_showsBy_2 10 rfl rfl)
theorem dX5_showsBy_47 : decode cX5_showsBy 47 = .ok (.ireturn, 1) := dk_172 (dk_at dksX5_showsBy_2 11 rfl rfl)
abbrev cX5_as : ByteArray := prog_20_method_28_code
def yX5_as : MethodName := ⟨RX5, "as", "(II)I"⟩
def dkwX5_as_2 : List UInt8 := [182, 0, 76, 172]
abbrev dktX5_as_2 : List UInt8 := dkwX5_as_2 ++ []
def dkwX5_as_1 : List UInt8 := [42, 27, 3, 182, 0, 90, 28, 184, 0, 118, 153, 0, 12, 42, 27, 8, 182, 0, 90, 167, 0, 8, 42, 8]
abbrev dktX5_as_1 : List UInt8 := dkwX5_as_1 ++ dktX5_as_2
def dkwX5_as_0 : List UInt8 := [42, 27, 182, 0, 112, 153, 0, 13, 28, 3, 16, 6, 184, 0, 56, 154, 0, 9, 42, 4, 182, 0, 76, 172]
abbrev dktX5_as_0 : List UInt8 := dkwX5_as_0 ++ dktX5_as_1
theorem dksX5_as_0 : cX5_as.data.toList.drop 0 = dktX5_as_0 := by decide +kernel
theorem dksX5_as_1 : cX5_as.data.toList.drop 24 = dktX5_as_1 := dk_seg dksX5_as_0 24 rfl rfl
theorem dksX5_as_2 : cX5_as.data.toList.drop 48 = dktX5_as_2 := dk_seg dksX5_as_1 24 rfl rfl
theorem dX5_as_0 : decode cX5_as 0 = .ok (.aload_n 0, 1) := dk_42 (dk_at dksX5_as_0 0 rfl rfl)
theorem dX5_as_1 : decode cX5_as 1 = .ok (.iload_n 1, 1) := dk_27 (dk_at dksX5_as_0 1 rfl rfl)
theorem dX5_as_2 : decode cX5_as 2 = .ok (.invokevirtual 112, 3) := dk_182 0 112 (dk_at dksX5_as_0 2 rfl rfl)
theorem dX5_as_5 : decode cX5_as 5 = .ok (.ifCond .eq 13, 3) := dk_153 0 13 (dk_at dksX5_as_0 5 rfl rfl)
theorem dX5_as_8 : decode cX5_as 8 = .ok (.iload_n 2, 1) := dk_28 (dk_at dksX5_as_0 8 rfl rfl)
theorem dX5_as_9 : decode cX5_as 9 = .ok (.iconst 0, 1) := dk_3 (dk_at dksX5_as_0 9 rfl rfl)
theorem dX5_as_10 : decode cX5_as 10 = .ok (.bipush 6, 2) := dk_16 6 (dk_at dksX5_as_0 10 rfl rfl)
theorem dX5_as_12 : decode cX5_as 12 = .ok (.invokestatic 56, 3) := dk_184 0 56 (dk_at dksX5_as_0 12 rfl rfl)
theorem dX5_as_15 : decode cX5_as 15 = .ok (.ifCond .ne 9, 3) := dk_154 0 9 (dk_at dksX5_as_0 15 rfl rfl)
theorem dX5_as_18 : decode cX5_as 18 = .ok (.aload_n 0, 1) := dk_42 (dk_at dksX5_as_0 18 rfl rfl)
theorem dX5_as_19 : decode cX5_as 19 = .ok (.iconst 1, 1) := dk_4 (dk_at dksX5_as_0 19 rfl rfl)
theorem dX5_as_20 : decode cX5_as 20 = .ok (.invokevirtual 76, 3) := dk_182 0 76 (dk_at dksX5_as_0 20 rfl rfl)
theorem dX5_as_23 : decode cX5_as 23 = .ok (.ireturn, 1) := dk_172 (dk_at dksX5_as_0 23 rfl rfl)
theorem dX5_as_24 : decode cX5_as 24 = .ok (.aload_n 0, 1) := dk_42 (dk_at dksX5_as_1 0 rfl rfl)
theorem dX5_as_25 : decode cX5_as 25 = .ok (.iload_n 1, 1) := dk_27 (dk_at dksX5_as_1 1 rfl rfl)
theorem dX5_as_26 : decode cX5_as 26 = .ok (.iconst 0, 1) := dk_3 (dk_at dksX5_as_1 2 rfl rfl)
theorem dX5_as_27 : decode cX5_as 27 = .ok (.invokevirtual 90, 3) := dk_182 0 90 (dk_at dksX5_as_1 3 rfl rfl)
theorem dX5_as_30 : decode cX5_as 30 = .ok (.iload_n 2, 1) := dk_28 (dk_at dksX5_as_1 6 rfl rfl)
theorem dX5_as_31 : decode cX5_as 31 = .ok (.invokestatic 118, 3) := dk_184 0 118 (dk_at dksX5_as_1 7 rfl rfl)
theorem dX5_as_34 : decode cX5_as 34 = .ok (.ifCond .eq 12, 3) := dk_153 0 12 (dk_at dksX5_as_1 10 rfl rfl)
theorem dX5_as_37 : decode cX5_as 37 = .ok (.aload_n 0, 1) := dk_42 (dk_at dksX5_as_1 13 rfl rfl)
theorem dX5_as_38 : decode cX5_as 38 = .ok (.iload_n 1, 1) := dk_27 (dk_at dksX5_as_1 14 rfl rfl)
theorem dX5_as_39 : decode cX5_as 39 = .ok (.iconst 5, 1) := dk_8 (dk_at dksX5_as_1 15 rfl rfl)
theorem dX5_as_40 : decode cX5_as 40 = .ok (.invokevirtual 90, 3) := dk_182 0 90 (dk_at dksX5_as_1 16 rfl rfl)
theorem dX5_as_43 : decode cX5_as 43 = .ok (.goto 8, 3) := dk_167 0 8 (dk_at dksX5_as_1 19 rfl rfl)
theorem dX5_as_46 : decode cX5_as 46 = .ok (.aload_n 0, 1) := dk_42 (dk_at dksX5_as_1 22 rfl rfl)
theorem dX5_as_47 : decode cX5_as 47 = .ok (.iconst 5, 1) := dk_8 (dk_at dksX5_as_1 23 rfl rfl)
theorem dX5_as_48 : decode cX5_as 48 = .ok (.invokevirtual 76, 3) := dk_182 0 76 (dk_at dksX5_as_2 0 rfl rfl)
theorem dX5_as_51 : decode cX5_as 51 = .ok (.ireturn, 1) := dk_172 (dk_at dksX5_as_2 3 rfl rfl)
abbrev cX5_isUnder : ByteArray := prog_20_method_27_code
def yX5_isUnder : MethodName := ⟨RX5, "isUnder", "(II)Z"⟩
def dkwX5_isUnder_1 : List UInt8 := [26, 8, 160, 0, 7, 4, 167, 0, 4, 3, 172]
abbrev dktX5_isUnder_1 : List UInt8 := dkwX5_isUnder_1 ++ []
def dkwX5_isUnder_0 : List UInt8 := [27, 153, 0, 28, 26, 27, 159, 0, 23, 27, 4, 160, 0, 8, 26, 7, 159, 0, 13, 27, 6, 160, 0, 12]
abbrev dktX5_isUnder_0 : List UInt8 := dkwX5_isUnder_0 ++ dktX5_isUnder_1
theorem dksX5_isUnder_0 : cX5_isUnder.data.toList.drop 0 = dktX5_isUnder_0 := by decide +kernel
theorem dksX5_isUnder_1 : cX5_isUnder.data.toList.drop 24 = dktX5_isUnder_1 := dk_seg dksX5_isUnder_0 24 rfl rfl
theorem dX5_isUnder_0 : decode cX5_isUnder 0 = .ok (.iload_n 1, 1) := dk_27 (dk_at dksX5_isUnder_0 0 rfl rfl)
theorem dX5_isUnder_1 : decode cX5_isUnder 1 = .ok (.ifCond .eq 28, 3) := dk_153 0 28 (dk_at dksX5_isUnder_0 1 rfl rfl)
theorem dX5_isUnder_4 : decode cX5_isUnder 4 = .ok (.iload_n 0, 1) := dk_26 (dk_at dksX5_isUnder_0 4 rfl rfl)
theorem dX5_isUnder_5 : decode cX5_isUnder 5 = .ok (.iload_n 1, 1) := dk_27 (dk_at dksX5_isUnder_0 5 rfl rfl)
theorem dX5_isUnder_6 : decode cX5_isUnder 6 = .ok (.if_icmp .eq 23, 3) := dk_159 0 23 (dk_at dksX5_isUnder_0 6 rfl rfl)
theorem dX5_isUnder_9 : decode cX5_isUnder 9 = .ok (.iload_n 1, 1) := dk_27 (dk_at dksX5_isUnder_0 9 rfl rfl)
theorem dX5_isUnder_10 : decode cX5_isUnder 10 = .ok (.iconst 1, 1) := dk_4 (dk_at dksX5_isUnder_0 10 rfl rfl)
theorem dX5_isUnder_11 : decode cX5_isUnder 11 = .ok (.if_icmp .ne 8, 3) := dk_160 0 8 (dk_at dksX5_isUnder_0 11 rfl rfl)
theorem dX5_isUnder_14 : decode cX5_isUnder 14 = .ok (.iload_n 0, 1) := dk_26 (dk_at dksX5_isUnder_0 14 rfl rfl)
theorem dX5_isUnder_15 : decode cX5_isUnder 15 = .ok (.iconst 4, 1) := dk_7 (dk_at dksX5_isUnder_0 15 rfl rfl)
theorem dX5_isUnder_16 : decode cX5_isUnder 16 = .ok (.if_icmp .eq 13, 3) := dk_159 0 13 (dk_at dksX5_isUnder_0 16 rfl rfl)
theorem dX5_isUnder_19 : decode cX5_isUnder 19 = .ok (.iload_n 1, 1) := dk_27 (dk_at dksX5_isUnder_0 19 rfl rfl)
theorem dX5_isUnder_20 : decode cX5_isUnder 20 = .ok (.iconst 3, 1) := dk_6 (dk_at dksX5_isUnder_0 20 rfl rfl)
theorem dX5_isUnder_21 : decode cX5_isUnder 21 = .ok (.if_icmp .ne 12, 3) := dk_160 0 12 (dk_at dksX5_isUnder_0 21 rfl rfl)
theorem dX5_isUnder_24 : decode cX5_isUnder 24 = .ok (.iload_n 0, 1) := dk_26 (dk_at dksX5_isUnder_1 0 rfl rfl)
theorem dX5_isUnder_25 : decode cX5_isUnder 25 = .ok (.iconst 5, 1) := dk_8 (dk_at dksX5_isUnder_1 1 rfl rfl)
theorem dX5_isUnder_26 : decode cX5_isUnder 26 = .ok (.if_icmp .ne 7, 3) := dk_160 0 7 (dk_at dksX5_isUnder_1 2 rfl rfl)
theorem dX5_isUnder_29 : decode cX5_isUnder 29 = .ok (.iconst 1, 1) := dk_4 (dk_at dksX5_isUnder_1 5 rfl rfl)
theorem dX5_isUnder_30 : decode cX5_isUnder 30 = .ok (.goto 4, 3) := dk_167 0 4 (dk_at dksX5_isUnder_1 6 rfl rfl)
theorem dX5_isUnder_33 : decode cX5_isUnder 33 = .ok (.iconst 0, 1) := dk_3 (dk_at dksX5_isUnder_1 9 rfl rfl)
theorem dX5_isUnder_34 : decode cX5_isUnder 34 = .ok (.ireturn, 1) := dk_172 (dk_at dksX5_isUnder_1 10 rfl rfl)
abbrev cX5_set : ByteArray := prog_20_method_30_code
def yX5_set : MethodName := ⟨RX5, "set", "(III)I"⟩
def dkwX5_set_2 : List UInt8 := [182, 0, 72, 172]
abbrev dktX5_set_2 : List UInt8 := dkwX5_set_2 ++ []
def dkwX5_set_1 : List UInt8 := [184, 0, 56, 154, 0, 9, 42, 4, 182, 0, 76, 172, 42, 16, 52, 16, 7, 27, 104, 96, 28, 96, 29]
abbrev dktX5_set_1 : List UInt8 := dkwX5_set_1 ++ dktX5_set_2
def dkwX5_set_0 : List UInt8 := [42, 27, 182, 0, 112, 153, 0, 24, 28, 3, 8, 184, 0, 56, 153, 0, 15, 29, 3, 28, 184, 0, 122]
abbrev dktX5_set_0 : List UInt8 := dkwX5_set_0 ++ dktX5_set_1
theorem dksX5_set_0 : cX5_set.data.toList.drop 0 = dktX5_set_0 := by decide +kernel
theorem dksX5_set_1 : cX5_set.data.toList.drop 23 = dktX5_set_1 := dk_seg dksX5_set_0 23 rfl rfl
theorem dksX5_set_2 : cX5_set.data.toList.drop 46 = dktX5_set_2 := dk_seg dksX5_set_1 23 rfl rfl
theorem dX5_set_0 : decode cX5_set 0 = .ok (.aload_n 0, 1) := dk_42 (dk_at dksX5_set_0 0 rfl rfl)
theorem dX5_set_1 : decode cX5_set 1 = .ok (.iload_n 1, 1) := dk_27 (dk_at dksX5_set_0 1 rfl rfl)
theorem dX5_set_2 : decode cX5_set 2 = .ok (.invokevirtual 112, 3) := dk_182 0 112 (dk_at dksX5_set_0 2 rfl rfl)
theorem dX5_set_5 : decode cX5_set 5 = .ok (.ifCond .eq 24, 3) := dk_153 0 24 (dk_at dksX5_set_0 5 rfl rfl)
theorem dX5_set_8 : decode cX5_set 8 = .ok (.iload_n 2, 1) := dk_28 (dk_at dksX5_set_0 8 rfl rfl)
theorem dX5_set_9 : decode cX5_set 9 = .ok (.iconst 0, 1) := dk_3 (dk_at dksX5_set_0 9 rfl rfl)
theorem dX5_set_10 : decode cX5_set 10 = .ok (.iconst 5, 1) := dk_8 (dk_at dksX5_set_0 10 rfl rfl)
theorem dX5_set_11 : decode cX5_set 11 = .ok (.invokestatic 56, 3) := dk_184 0 56 (dk_at dksX5_set_0 11 rfl rfl)
theorem dX5_set_14 : decode cX5_set 14 = .ok (.ifCond .eq 15, 3) := dk_153 0 15 (dk_at dksX5_set_0 14 rfl rfl)
theorem dX5_set_17 : decode cX5_set 17 = .ok (.iload_n 3, 1) := dk_29 (dk_at dksX5_set_0 17 rfl rfl)
theorem dX5_set_18 : decode cX5_set 18 = .ok (.iconst 0, 1) := dk_3 (dk_at dksX5_set_0 18 rfl rfl)
theorem dX5_set_19 : decode cX5_set 19 = .ok (.iload_n 2, 1) := dk_28 (dk_at dksX5_set_0 19 rfl rfl)
theorem dX5_set_20 : decode cX5_set 20 = .ok (.invokestatic 122, 3) := dk_184 0 122 (dk_at dksX5_set_0 20 rfl rfl)
theorem dX5_set_23 : decode cX5_set 23 = .ok (.invokestatic 56, 3) := dk_184 0 56 (dk_at dksX5_set_1 0 rfl rfl)
theorem dX5_set_26 : decode cX5_set 26 = .ok (.ifCond .ne 9, 3) := dk_154 0 9 (dk_at dksX5_set_1 3 rfl rfl)
theorem dX5_set_29 : decode cX5_set 29 = .ok (.aload_n 0, 1) := dk_42 (dk_at dksX5_set_1 6 rfl rfl)
theorem dX5_set_30 : decode cX5_set 30 = .ok (.iconst 1, 1) := dk_4 (dk_at dksX5_set_1 7 rfl rfl)
theorem dX5_set_31 : decode cX5_set 31 = .ok (.invokevirtual 76, 3) := dk_182 0 76 (dk_at dksX5_set_1 8 rfl rfl)
theorem dX5_set_34 : decode cX5_set 34 = .ok (.ireturn, 1) := dk_172 (dk_at dksX5_set_1 11 rfl rfl)
theorem dX5_set_35 : decode cX5_set 35 = .ok (.aload_n 0, 1) := dk_42 (dk_at dksX5_set_1 12 rfl rfl)
theorem dX5_set_36 : decode cX5_set 36 = .ok (.bipush 52, 2) := dk_16 52 (dk_at dksX5_set_1 13 rfl rfl)
theorem dX5_set_38 : decode cX5_set 38 = .ok (.bipush 7, 2) := dk_16 7 (dk_at dksX5_set_1 15 rfl rfl)
theorem dX5_set_40 : decode cX5_set 40 = .ok (.iload_n 1, 1) := dk_27 (dk_at dksX5_set_1 17 rfl rfl)
theorem dX5_set_41 : decode cX5_set 41 = .ok (.imul, 1) := dk_104 (dk_at dksX5_set_1 18 rfl rfl)
theorem dX5_set_42 : decode cX5_set 42 = .ok (.iadd, 1) := dk_96 (dk_at dksX5_set_1 19 rfl rfl)
theorem dX5_set_43 : decode cX5_set 43 = .ok (.iload_n 2, 1) := dk_28 (dk_at dksX5_set_1 20 rfl rfl)
theorem dX5_set_44 : decode cX5_set 44 = .ok (.iadd, 1) := dk_96 (dk_at dksX5_set_1 21 rfl rfl)
theorem dX5_set_45 : decode cX5_set 45 = .ok (.iload_n 3, 1) := dk_29 (dk_at dksX5_set_1 22 rfl rfl)
theorem dX5_set_46 : decode cX5_set 46 = .ok (.invokevirtual 72, 3) := dk_182 0 72 (dk_at dksX5_set_2 0 rfl rfl)
theorem dX5_set_49 : decode cX5_set 49 = .ok (.ireturn, 1) := dk_172 (dk_at dksX5_set_2 3 rfl rfl)
abbrev cX5_most : ByteArray := prog_20_method_29_code
def yX5_most : MethodName := ⟨RX5, "most", "(I)I"⟩
def dkwX5_most_2 : List UInt8 := [18, 60, 172]
abbrev dktX5_most_2 : List UInt8 := dkwX5_most_2 ++ []
def dkwX5_most_1 : List UInt8 := [16, 11, 167, 0, 23, 26, 6, 160, 0, 7, 7, 167, 0, 14, 26, 7, 160, 0, 7, 4, 167, 0, 5]
abbrev dktX5_most_1 : List UInt8 := dkwX5_most_1 ++ dktX5_most_2
def dkwX5_most_0 : List UInt8 := [26, 154, 0, 8, 16, 6, 167, 0, 43, 26, 4, 160, 0, 8, 16, 9, 167, 0, 33, 26, 5, 160, 0, 8]
abbrev dktX5_most_0 : List UInt8 := dkwX5_most_0 ++ dktX5_most_1
theorem dksX5_most_0 : cX5_most.data.toList.drop 0 = dktX5_most_0 := by decide +kernel
theorem dksX5_most_1 : cX5_most.data.toList.drop 24 = dktX5_most_1 := dk_seg dksX5_most_0 24 rfl rfl
theorem dksX5_most_2 : cX5_most.data.toList.drop 47 = dktX5_most_2 := dk_seg dksX5_most_1 23 rfl rfl
theorem dX5_most_0 : decode cX5_most 0 = .ok (.iload_n 0, 1) := dk_26 (dk_at dksX5_most_0 0 rfl rfl)
theorem dX5_most_1 : decode cX5_most 1 = .ok (.ifCond .ne 8, 3) := dk_154 0 8 (dk_at dksX5_most_0 1 rfl rfl)
theorem dX5_most_4 : decode cX5_most 4 = .ok (.bipush 6, 2) := dk_16 6 (dk_at dksX5_most_0 4 rfl rfl)
theorem dX5_most_6 : decode cX5_most 6 = .ok (.goto 43, 3) := dk_167 0 43 (dk_at dksX5_most_0 6 rfl rfl)
theorem dX5_most_9 : decode cX5_most 9 = .ok (.iload_n 0, 1) := dk_26 (dk_at dksX5_most_0 9 rfl rfl)
theorem dX5_most_10 : decode cX5_most 10 = .ok (.iconst 1, 1) := dk_4 (dk_at dksX5_most_0 10 rfl rfl)
theorem dX5_most_11 : decode cX5_most 11 = .ok (.if_icmp .ne 8, 3) := dk_160 0 8 (dk_at dksX5_most_0 11 rfl rfl)
theorem dX5_most_14 : decode cX5_most 14 = .ok (.bipush 9, 2) := dk_16 9 (dk_at dksX5_most_0 14 rfl rfl)
theorem dX5_most_16 : decode cX5_most 16 = .ok (.goto 33, 3) := dk_167 0 33 (dk_at dksX5_most_0 16 rfl rfl)
theorem dX5_most_19 : decode cX5_most 19 = .ok (.iload_n 0, 1) := dk_26 (dk_at dksX5_most_0 19 rfl rfl)
theorem dX5_most_20 : decode cX5_most 20 = .ok (.iconst 2, 1) := dk_5 (dk_at dksX5_most_0 20 rfl rfl)
theorem dX5_most_21 : decode cX5_most 21 = .ok (.if_icmp .ne 8, 3) := dk_160 0 8 (dk_at dksX5_most_0 21 rfl rfl)
theorem dX5_most_24 : decode cX5_most 24 = .ok (.bipush 11, 2) := dk_16 11 (dk_at dksX5_most_1 0 rfl rfl)
theorem dX5_most_26 : decode cX5_most 26 = .ok (.goto 23, 3) := dk_167 0 23 (dk_at dksX5_most_1 2 rfl rfl)
theorem dX5_most_29 : decode cX5_most 29 = .ok (.iload_n 0, 1) := dk_26 (dk_at dksX5_most_1 5 rfl rfl)
theorem dX5_most_30 : decode cX5_most 30 = .ok (.iconst 3, 1) := dk_6 (dk_at dksX5_most_1 6 rfl rfl)
theorem dX5_most_31 : decode cX5_most 31 = .ok (.if_icmp .ne 7, 3) := dk_160 0 7 (dk_at dksX5_most_1 7 rfl rfl)
theorem dX5_most_34 : decode cX5_most 34 = .ok (.iconst 4, 1) := dk_7 (dk_at dksX5_most_1 10 rfl rfl)
theorem dX5_most_35 : decode cX5_most 35 = .ok (.goto 14, 3) := dk_167 0 14 (dk_at dksX5_most_1 11 rfl rfl)
theorem dX5_most_38 : decode cX5_most 38 = .ok (.iload_n 0, 1) := dk_26 (dk_at dksX5_most_1 14 rfl rfl)
theorem dX5_most_39 : decode cX5_most 39 = .ok (.iconst 4, 1) := dk_7 (dk_at dksX5_most_1 15 rfl rfl)
theorem dX5_most_40 : decode cX5_most 40 = .ok (.if_icmp .ne 7, 3) := dk_160 0 7 (dk_at dksX5_most_1 16 rfl rfl)
theorem dX5_most_43 : decode cX5_most 43 = .ok (.iconst 1, 1) := dk_4 (dk_at dksX5_most_1 19 rfl rfl)
theorem dX5_most_44 : decode cX5_most 44 = .ok (.goto 5, 3) := dk_167 0 5 (dk_at dksX5_most_1 20 rfl rfl)
theorem dX5_most_47 : decode cX5_most 47 = .ok (.ldc 60, 2) := dk_18 60 (dk_at dksX5_most_2 0 rfl rfl)
theorem dX5_most_49 : decode cX5_most 49 = .ok (.ireturn, 1) := dk_172 (dk_at dksX5_most_2 2 rfl rfl)
abbrev cX5_feed : ByteArray := prog_20_method_31_code
def yX5_feed : MethodName := ⟨RX5, "feed", "(JI)I"⟩
def dkwX5_feed_3 : List UInt8 := [180, 0, 7, 6, 92, 46, 4, 96, 79, 132, 4, 1, 167, 255, 210, 42, 180, 0, 7, 6, 46, 172]
abbrev dktX5_feed_3 : List UInt8 := dkwX5_feed_3 ++ []
def dkwX5_feed_2 : List UInt8 := [17, 1, 109, 42, 180, 0, 7, 6, 46, 96, 31, 16, 8, 21, 4, 104, 123, 20, 0, 125, 127, 136, 79, 42]
abbrev dktX5_feed_2 : List UInt8 := dkwX5_feed_2 ++ dktX5_feed_3
def dkwX5_feed_1 : List UInt8 := [16, 60, 164, 0, 9, 42, 7, 182, 0, 76, 172, 3, 54, 4, 21, 4, 29, 162, 0, 46, 42, 180, 0, 7]
abbrev dktX5_feed_1 : List UInt8 := dkwX5_feed_1 ++ dktX5_feed_2
def dkwX5_feed_0 : List UInt8 := [29, 4, 16, 8, 184, 0, 56, 154, 0, 9, 42, 4, 182, 0, 76, 172, 42, 180, 0, 7, 6, 46, 29, 96]
abbrev dktX5_feed_0 : List UInt8 := dkwX5_feed_0 ++ dktX5_feed_1
theorem dksX5_feed_0 : cX5_feed.data.toList.drop 0 = dktX5_feed_0 := by decide +kernel
theorem dksX5_feed_1 : cX5_feed.data.toList.drop 24 = dktX5_feed_1 := dk_seg dksX5_feed_0 24 rfl rfl
theorem dksX5_feed_2 : cX5_feed.data.toList.drop 48 = dktX5_feed_2 := dk_seg dksX5_feed_1 24 rfl rfl
theorem dksX5_feed_3 : cX5_feed.data.toList.drop 72 = dktX5_feed_3 := dk_seg dksX5_feed_2 24 rfl rfl
theorem dX5_feed_0 : decode cX5_feed 0 = .ok (.iload_n 3, 1) := dk_29 (dk_at dksX5_feed_0 0 rfl rfl)
theorem dX5_feed_1 : decode cX5_feed 1 = .ok (.iconst 1, 1) := dk_4 (dk_at dksX5_feed_0 1 rfl rfl)
theorem dX5_feed_2 : decode cX5_feed 2 = .ok (.bipush 8, 2) := dk_16 8 (dk_at dksX5_feed_0 2 rfl rfl)
theorem dX5_feed_4 : decode cX5_feed 4 = .ok (.invokestatic 56, 3) := dk_184 0 56 (dk_at dksX5_feed_0 4 rfl rfl)
theorem dX5_feed_7 : decode cX5_feed 7 = .ok (.ifCond .ne 9, 3) := dk_154 0 9 (dk_at dksX5_feed_0 7 rfl rfl)
theorem dX5_feed_10 : decode cX5_feed 10 = .ok (.aload_n 0, 1) := dk_42 (dk_at dksX5_feed_0 10 rfl rfl)
theorem dX5_feed_11 : decode cX5_feed 11 = .ok (.iconst 1, 1) := dk_4 (dk_at dksX5_feed_0 11 rfl rfl)
theorem dX5_feed_12 : decode cX5_feed 12 = .ok (.invokevirtual 76, 3) := dk_182 0 76 (dk_at dksX5_feed_0 12 rfl rfl)
theorem dX5_feed_15 : decode cX5_feed 15 = .ok (.ireturn, 1) := dk_172 (dk_at dksX5_feed_0 15 rfl rfl)
theorem dX5_feed_16 : decode cX5_feed 16 = .ok (.aload_n 0, 1) := dk_42 (dk_at dksX5_feed_0 16 rfl rfl)
theorem dX5_feed_17 : decode cX5_feed 17 = .ok (.getfield 7, 3) := dk_180 0 7 (dk_at dksX5_feed_0 17 rfl rfl)
theorem dX5_feed_20 : decode cX5_feed 20 = .ok (.iconst 3, 1) := dk_6 (dk_at dksX5_feed_0 20 rfl rfl)
theorem dX5_feed_21 : decode cX5_feed 21 = .ok (.iaload, 1) := dk_46 (dk_at dksX5_feed_0 21 rfl rfl)
theorem dX5_feed_22 : decode cX5_feed 22 = .ok (.iload_n 3, 1) := dk_29 (dk_at dksX5_feed_0 22 rfl rfl)
theorem dX5_feed_23 : decode cX5_feed 23 = .ok (.iadd, 1) := dk_96 (dk_at dksX5_feed_0 23 rfl rfl)
theorem dX5_feed_24 : decode cX5_feed 24 = .ok (.bipush 60, 2) := dk_16 60 (dk_at dksX5_feed_1 0 rfl rfl)
theorem dX5_feed_26 : decode cX5_feed 26 = .ok (.if_icmp .le 9, 3) := dk_164 0 9 (dk_at dksX5_feed_1 2 rfl rfl)
theorem dX5_feed_29 : decode cX5_feed 29 = .ok (.aload_n 0, 1) := dk_42 (dk_at dksX5_feed_1 5 rfl rfl)
theorem dX5_feed_30 : decode cX5_feed 30 = .ok (.iconst 4, 1) := dk_7 (dk_at dksX5_feed_1 6 rfl rfl)
theorem dX5_feed_31 : decode cX5_feed 31 = .ok (.invokevirtual 76, 3) := dk_182 0 76 (dk_at dksX5_feed_1 7 rfl rfl)
theorem dX5_feed_34 : decode cX5_feed 34 = .ok (.ireturn, 1) := dk_172 (dk_at dksX5_feed_1 10 rfl rfl)
theorem dX5_feed_35 : decode cX5_feed 35 = .ok (.iconst 0, 1) := dk_3 (dk_at dksX5_feed_1 11 rfl rfl)
theorem dX5_feed_36 : decode cX5_feed 36 = .ok (.istore 4, 2) := dk_54 4 (dk_at dksX5_feed_1 12 rfl rfl)
theorem dX5_feed_38 : decode cX5_feed 38 = .ok (.iload 4, 2) := dk_21 4 (dk_at dksX5_feed_1 14 rfl rfl)
theorem dX5_feed_40 : decode cX5_feed 40 = .ok (.iload_n 3, 1) := dk_29 (dk_at dksX5_feed_1 16 rfl rfl)
theorem dX5_feed_41 : decode cX5_feed 41 = .ok (.if_icmp .ge 46, 3) := dk_162 0 46 (dk_at dksX5_feed_1 17 rfl rfl)
theorem dX5_feed_44 : decode cX5_feed 44 = .ok (.aload_n 0, 1) := dk_42 (dk_at dksX5_feed_1 20 rfl rfl)
theorem dX5_feed_45 : decode cX5_feed 45 = .ok (.getfield 7, 3) := dk_180 0 7 (dk_at dksX5_feed_1 21 rfl rfl)
theorem dX5_feed_48 : decode cX5_feed 48 = .ok (.sipush 365, 3) := dk_17 1 109 (dk_at dksX5_feed_2 0 rfl rfl)
theorem dX5_feed_51 : decode cX5_feed 51 = .ok (.aload_n 0, 1) := dk_42 (dk_at dksX5_feed_2 3 rfl rfl)
theorem dX5_feed_52 : decode cX5_feed 52 = .ok (.getfield 7, 3) := dk_180 0 7 (dk_at dksX5_feed_2 4 rfl rfl)
theorem dX5_feed_55 : decode cX5_feed 55 = .ok (.iconst 3, 1) := dk_6 (dk_at dksX5_feed_2 7 rfl rfl)
theorem dX5_feed_56 : decode cX5_feed 56 = .ok (.iaload, 1) := dk_46 (dk_at dksX5_feed_2 8 rfl rfl)
theorem dX5_feed_57 : decode cX5_feed 57 = .ok (.iadd, 1) := dk_96 (dk_at dksX5_feed_2 9 rfl rfl)
theorem dX5_feed_58 : decode cX5_feed 58 = .ok (.lload_n 1, 1) := dk_31 (dk_at dksX5_feed_2 10 rfl rfl)
theorem dX5_feed_59 : decode cX5_feed 59 = .ok (.bipush 8, 2) := dk_16 8 (dk_at dksX5_feed_2 11 rfl rfl)
theorem dX5_feed_61 : decode cX5_feed 61 = .ok (.iload 4, 2) := dk_21 4 (dk_at dksX5_feed_2 13 rfl rfl)
theorem dX5_feed_63 : decode cX5_feed 63 = .ok (.imul, 1) := dk_104 (dk_at dksX5_feed_2 15 rfl rfl)
theorem dX5_feed_64 : decode cX5_feed 64 = .ok (.lshr, 1) := dk_123 (dk_at dksX5_feed_2 16 rfl rfl)
theorem dX5_feed_65 : decode cX5_feed 65 = .ok (.ldc2_w 125, 3) := dk_20 0 125 (dk_at dksX5_feed_2 17 rfl rfl)
theorem dX5_feed_68 : decode cX5_feed 68 = .ok (.land, 1) := dk_127 (dk_at dksX5_feed_2 20 rfl rfl)
theorem dX5_feed_69 : decode cX5_feed 69 = .ok (.l2i, 1) := dk_136 (dk_at dksX5_feed_2 21 rfl rfl)
theorem dX5_feed_70 : decode cX5_feed 70 = .ok (.iastore, 1) := dk_79 (dk_at dksX5_feed_2 22 rfl rfl)
theorem dX5_feed_71 : decode cX5_feed 71 = .ok (.aload_n 0, 1) := dk_42 (dk_at dksX5_feed_2 23 rfl rfl)
theorem dX5_feed_72 : decode cX5_feed 72 = .ok (.getfield 7, 3) := dk_180 0 7 (dk_at dksX5_feed_3 0 rfl rfl)
theorem dX5_feed_75 : decode cX5_feed 75 = .ok (.iconst 3, 1) := dk_6 (dk_at dksX5_feed_3 3 rfl rfl)
theorem dX5_feed_76 : decode cX5_feed 76 = .ok (.dup2, 1) := dk_92 (dk_at dksX5_feed_3 4 rfl rfl)
theorem dX5_feed_77 : decode cX5_feed 77 = .ok (.iaload, 1) := dk_46 (dk_at dksX5_feed_3 5 rfl rfl)
theorem dX5_feed_78 : decode cX5_feed 78 = .ok (.iconst 1, 1) := dk_4 (dk_at dksX5_feed_3 6 rfl rfl)
theorem dX5_feed_79 : decode cX5_feed 79 = .ok (.iadd, 1) := dk_96 (dk_at dksX5_feed_3 7 rfl rfl)
theorem dX5_feed_80 : decode cX5_feed 80 = .ok (.iastore, 1) := dk_79 (dk_at dksX5_feed_3 8 rfl rfl)
theorem dX5_feed_81 : decode cX5_feed 81 = .ok (.iinc 4 1, 3) := dk_132 4 1 (dk_at dksX5_feed_3 9 rfl rfl)
theorem dX5_feed_84 : decode cX5_feed 84 = .ok (.goto (-46), 3) := dk_167 255 210 (dk_at dksX5_feed_3 12 rfl rfl)
theorem dX5_feed_87 : decode cX5_feed 87 = .ok (.aload_n 0, 1) := dk_42 (dk_at dksX5_feed_3 15 rfl rfl)
theorem dX5_feed_88 : decode cX5_feed 88 = .ok (.getfield 7, 3) := dk_180 0 7 (dk_at dksX5_feed_3 16 rfl rfl)
theorem dX5_feed_91 : decode cX5_feed 91 = .ok (.iconst 3, 1) := dk_6 (dk_at dksX5_feed_3 19 rfl rfl)
theorem dX5_feed_92 : decode cX5_feed 92 = .ok (.iaload, 1) := dk_46 (dk_at dksX5_feed_3 20 rfl rfl)
theorem dX5_feed_93 : decode cX5_feed 93 = .ok (.ireturn, 1) := dk_172 (dk_at dksX5_feed_3 21 rfl rfl)
abbrev cX5_text : ByteArray := prog_20_method_43_code
def yX5_text : MethodName := ⟨RX5, "text", "(I)I"⟩
def dkwX5_text_5 : List UInt8 := [4, 96, 21, 4, 96, 42, 180, 0, 22, 21, 4, 46, 79, 132, 4, 1, 167, 255, 224, 4, 172]
abbrev dktX5_text_5 : List UInt8 := dkwX5_text_5 ++ []
def dkwX5_text_4 : List UInt8 := [42, 180, 0, 134, 79, 3, 54, 4, 21, 4, 5, 42, 180, 0, 134, 104, 162, 0, 27, 42, 180, 0, 7, 29]
abbrev dktX5_text_4 : List UInt8 := dkwX5_text_4 ++ dktX5_text_5
def dkwX5_text_3 : List UInt8 := [154, 0, 11, 16, 246, 42, 180, 0, 127, 100, 172, 16, 115, 16, 125, 27, 104, 96, 62, 42, 180, 0, 7, 29]
abbrev dktX5_text_3 : List UInt8 := dkwX5_text_3 ++ dktX5_text_4
def dkwX5_text_2 : List UInt8 := [42, 180, 0, 7, 6, 46, 160, 0, 7, 4, 167, 0, 4, 3, 61, 42, 180, 0, 7, 6, 3, 79, 28]
abbrev dktX5_text_2 : List UInt8 := dkwX5_text_2 ++ dktX5_text_3
def dkwX5_text_1 : List UInt8 := [181, 0, 127, 42, 3, 181, 0, 161, 42, 3, 181, 0, 134, 42, 182, 0, 170, 153, 0, 20, 42, 180, 0, 127]
abbrev dktX5_text_1 : List UInt8 := dkwX5_text_1 ++ dktX5_text_2
def dkwX5_text_0 : List UInt8 := [27, 3, 4, 184, 0, 56, 154, 0, 9, 42, 4, 182, 0, 76, 172, 42, 27, 181, 0, 131, 42, 3]
abbrev dktX5_text_0 : List UInt8 := dkwX5_text_0 ++ dktX5_text_1
theorem dksX5_text_0 : cX5_text.data.toList.drop 0 = dktX5_text_0 := by decide +kernel
theorem dksX5_text_1 : cX5_text.data.toList.drop 22 = dktX5_text_1 := dk_seg dksX5_text_0 22 rfl rfl
theorem dksX5_text_2 : cX5_text.data.toList.drop 46 = dktX5_text_2 := dk_seg dksX5_text_1 24 rfl rfl
theorem dksX5_text_3 : cX5_text.data.toList.drop 69 = dktX5_text_3 := dk_seg dksX5_text_2 23 rfl rfl
theorem dksX5_text_4 : cX5_text.data.toList.drop 93 = dktX5_text_4 := dk_seg dksX5_text_3 24 rfl rfl
theorem dksX5_text_5 : cX5_text.data.toList.drop 117 = dktX5_text_5 := dk_seg dksX5_text_4 24 rfl rfl
theorem dX5_text_0 : decode cX5_text 0 = .ok (.iload_n 1, 1) := dk_27 (dk_at dksX5_text_0 0 rfl rfl)
theorem dX5_text_1 : decode cX5_text 1 = .ok (.iconst 0, 1) := dk_3 (dk_at dksX5_text_0 1 rfl rfl)
theorem dX5_text_2 : decode cX5_text 2 = .ok (.iconst 1, 1) := dk_4 (dk_at dksX5_text_0 2 rfl rfl)
theorem dX5_text_3 : decode cX5_text 3 = .ok (.invokestatic 56, 3) := dk_184 0 56 (dk_at dksX5_text_0 3 rfl rfl)
theorem dX5_text_6 : decode cX5_text 6 = .ok (.ifCond .ne 9, 3) := dk_154 0 9 (dk_at dksX5_text_0 6 rfl rfl)
theorem dX5_text_9 : decode cX5_text 9 = .ok (.aload_n 0, 1) := dk_42 (dk_at dksX5_text_0 9 rfl rfl)
theorem dX5_text_10 : decode cX5_text 10 = .ok (.iconst 1, 1) := dk_4 (dk_at dksX5_text_0 10 rfl rfl)
theorem dX5_text_11 : decode cX5_text 11 = .ok (.invokevirtual 76, 3) := dk_182 0 76 (dk_at dksX5_text_0 11 rfl rfl)
theorem dX5_text_14 : decode cX5_text 14 = .ok (.ireturn, 1) := dk_172 (dk_at dksX5_text_0 14 rfl rfl)
theorem dX5_text_15 : decode cX5_text 15 = .ok (.aload_n 0, 1) := dk_42 (dk_at dksX5_text_0 15 rfl rfl)
theorem dX5_text_16 : decode cX5_text 16 = .ok (.iload_n 1, 1) := dk_27 (dk_at dksX5_text_0 16 rfl rfl)
theorem dX5_text_17 : decode cX5_text 17 = .ok (.putfield 131, 3) := dk_181 0 131 (dk_at dksX5_text_0 17 rfl rfl)
theorem dX5_text_20 : decode cX5_text 20 = .ok (.aload_n 0, 1) := dk_42 (dk_at dksX5_text_0 20 rfl rfl)
theorem dX5_text_21 : decode cX5_text 21 = .ok (.iconst 0, 1) := dk_3 (dk_at dksX5_text_0 21 rfl rfl)
theorem dX5_text_22 : decode cX5_text 22 = .ok (.putfield 127, 3) := dk_181 0 127 (dk_at dksX5_text_1 0 rfl rfl)
theorem dX5_text_25 : decode cX5_text 25 = .ok (.aload_n 0, 1) := dk_42 (dk_at dksX5_text_1 3 rfl rfl)
theorem dX5_text_26 : decode cX5_text 26 = .ok (.iconst 0, 1) := dk_3 (dk_at dksX5_text_1 4 rfl rfl)
theorem dX5_text_27 : decode cX5_text 27 = .ok (.putfield 161, 3) := dk_181 0 161 (dk_at dksX5_text_1 5 rfl rfl)
theorem dX5_text_30 : decode cX5_text 30 = .ok (.aload_n 0, 1) := dk_42 (dk_at dksX5_text_1 8 rfl rfl)
theorem dX5_text_31 : decode cX5_text 31 = .ok (.iconst 0, 1) := dk_3 (dk_at dksX5_text_1 9 rfl rfl)
theorem dX5_text_32 : decode cX5_text 32 = .ok (.putfield 134, 3) := dk_181 0 134 (dk_at dksX5_text_1 10 rfl rfl)
theorem dX5_text_35 : decode cX5_text 35 = .ok (.aload_n 0, 1) := dk_42 (dk_at dksX5_text_1 13 rfl rfl)
theorem dX5_text_36 : decode cX5_text 36 = .ok (.invokevirtual 170, 3) := dk_182 0 170 (dk_at dksX5_text_1 14 rfl rfl)
theorem dX5_text_39 : decode cX5_text 39 = .ok (.ifCond .eq 20, 3) := dk_153 0 20 (dk_at dksX5_text_1 17 rfl rfl)
theorem dX5_text_42 : decode cX5_text 42 = .ok (.aload_n 0, 1) := dk_42 (dk_at dksX5_text_1 20 rfl rfl)
theorem dX5_text_43 : decode cX5_text 43 = .ok (.getfield 127, 3) := dk_180 0 127 (dk_at dksX5_text_1 21 rfl rfl)
theorem dX5_text_46 : decode cX5_text 46 = .ok (.aload_n 0, 1) := dk_42 (dk_at dksX5_text_2 0 rfl rfl)
theorem dX5_text_47 : decode cX5_text 47 = .ok (.getfield 7, 3) := dk_180 0 7 (dk_at dksX5_text_2 1 rfl rfl)
theorem dX5_text_50 : decode cX5_text 50 = .ok (.iconst 3, 1) := dk_6 (dk_at dksX5_text_2 4 rfl rfl)
theorem dX5_text_51 : decode cX5_text 51 = .ok (.iaload, 1) := dk_46 (dk_at dksX5_text_2 5 rfl rfl)
theorem dX5_text_52 : decode cX5_text 52 = .ok (.if_icmp .ne 7, 3) := dk_160 0 7 (dk_at dksX5_text_2 6 rfl rfl)
theorem dX5_text_55 : decode cX5_text 55 = .ok (.iconst 1, 1) := dk_4 (dk_at dksX5_text_2 9 rfl rfl)
theorem dX5_text_56 : decode cX5_text 56 = .ok (.goto 4, 3) := dk_167 0 4 (dk_at dksX5_text_2 10 rfl rfl)
theorem dX5_text_59 : decode cX5_text 59 = .ok (.iconst 0, 1) := dk_3 (dk_at dksX5_text_2 13 rfl rfl)
theorem dX5_text_60 : decode cX5_text 60 = .ok (.istore_n 2, 1) := dk_61 (dk_at dksX5_text_2 14 rfl rfl)
theorem dX5_text_61 : decode cX5_text 61 = .ok (.aload_n 0, 1) := dk_42 (dk_at dksX5_text_2 15 rfl rfl)
theorem dX5_text_62 : decode cX5_text 62 = .ok (.getfield 7, 3) := dk_180 0 7 (dk_at dksX5_text_2 16 rfl rfl)
theorem dX5_text_65 : decode cX5_text 65 = .ok (.iconst 3, 1) := dk_6 (dk_at dksX5_text_2 19 rfl rfl)
theorem dX5_text_66 : decode cX5_text 66 = .ok (.iconst 0, 1) := dk_3 (dk_at dksX5_text_2 20 rfl rfl)
theorem dX5_text_67 : decode cX5_text 67 = .ok (.iastore, 1) := dk_79 (dk_at dksX5_text_2 21 rfl rfl)
theorem dX5_text_68 : decode cX5_text 68 = .ok (.iload_n 2, 1) := dk_28 (dk_at dksX5_text_2 22 rfl rfl)
theorem dX5_text_69 : decode cX5_text 69 = .ok (.ifCond .ne 11, 3) := dk_154 0 11 (dk_at dksX5_text_3 0 rfl rfl)
theorem dX5_text_72 : decode cX5_text 72 = .ok (.bipush (-10), 2) := dk_16 246 (dk_at dksX5_text_3 3 rfl rfl)
theorem dX5_text_74 : decode cX5_text 74 = .ok (.aload_n 0, 1) := dk_42 (dk_at dksX5_text_3 5 rfl rfl)
theorem dX5_text_75 : decode cX5_text 75 = .ok (.getfield 127, 3) := dk_180 0 127 (dk_at dksX5_text_3 6 rfl rfl)
theorem dX5_text_78 : decode cX5_text 78 = .ok (.isub, 1) := dk_100 (dk_at dksX5_text_3 9 rfl rfl)
theorem dX5_text_79 : decode cX5_text 79 = .ok (.ireturn, 1) := dk_172 (dk_at dksX5_text_3 10 rfl rfl)
theorem dX5_text_80 : decode cX5_text 80 = .ok (.bipush 115, 2) := dk_16 115 (dk_at dksX5_text_3 11 rfl rfl)
theorem dX5_text_82 : decode cX5_text 82 = .ok (.bipush 125, 2) := dk_16 125 (dk_at dksX5_text_3 13 rfl rfl)
theorem dX5_text_84 : decode cX5_text 84 = .ok (.iload_n 1, 1) := dk_27 (dk_at dksX5_text_3 15 rfl rfl)
theorem dX5_text_85 : decode cX5_text 85 = .ok (.imul, 1) := dk_104 (dk_at dksX5_text_3 16 rfl rfl)
theorem dX5_text_86 : decode cX5_text 86 = .ok (.iadd, 1) := dk_96 (dk_at dksX5_text_3 17 rfl rfl)
theorem dX5_text_87 : decode cX5_text 87 = .ok (.istore_n 3, 1) := dk_62 (dk_at dksX5_text_3 18 rfl rfl)
theorem dX5_text_88 : decode cX5_text 88 = .ok (.aload_n 0, 1) := dk_42 (dk_at dksX5_text_3 19 rfl rfl)
theorem dX5_text_89 : decode cX5_text 89 = .ok (.getfield 7, 3) := dk_180 0 7 (dk_at dksX5_text_3 20 rfl rfl)
theorem dX5_text_92 : decode cX5_text 92 = .ok (.iload_n 3, 1) := dk_29 (dk_at dksX5_text_3 23 rfl rfl)
theorem dX5_text_93 : decode cX5_text 93 = .ok (.aload_n 0, 1) := dk_42 (dk_at dksX5_text_4 0 rfl rfl)
theorem dX5_text_94 : decode cX5_text 94 = .ok (.getfield 134, 3) := dk_180 0 134 (dk_at dksX5_text_4 1 rfl rfl)
theorem dX5_text_97 : decode cX5_text 97 = .ok (.iastore, 1) := dk_79 (dk_at dksX5_text_4 4 rfl rfl)
theorem dX5_text_98 : decode cX5_text 98 = .ok (.iconst 0, 1) := dk_3 (dk_at dksX5_text_4 5 rfl rfl)
theorem dX5_text_99 : decode cX5_text 99 = .ok (.istore 4, 2) := dk_54 4 (dk_at dksX5_text_4 6 rfl rfl)
theorem dX5_text_101 : decode cX5_text 101 = .ok (.iload 4, 2) := dk_21 4 (dk_at dksX5_text_4 8 rfl rfl)
theorem dX5_text_103 : decode cX5_text 103 = .ok (.iconst 2, 1) := dk_5 (dk_at dksX5_text_4 10 rfl rfl)
theorem dX5_text_104 : decode cX5_text 104 = .ok (.aload_n 0, 1) := dk_42 (dk_at dksX5_text_4 11 rfl rfl)
theorem dX5_text_105 : decode cX5_text 105 = .ok (.getfield 134, 3) := dk_180 0 134 (dk_at dksX5_text_4 12 rfl rfl)
theorem dX5_text_108 : decode cX5_text 108 = .ok (.imul, 1) := dk_104 (dk_at dksX5_text_4 15 rfl rfl)
theorem dX5_text_109 : decode cX5_text 109 = .ok (.if_icmp .ge 27, 3) := dk_162 0 27 (dk_at dksX5_text_4 16 rfl rfl)
theorem dX5_text_112 : decode cX5_text 112 = .ok (.aload_n 0, 1) := dk_42 (dk_at dksX5_text_4 19 rfl rfl)
theorem dX5_text_113 : decode cX5_text 113 = .ok (.getfield 7, 3) := dk_180 0 7 (dk_at dksX5_text_4 20 rfl rfl)
theorem dX5_text_116 : decode cX5_text 116 = .ok (.iload_n 3, 1) := dk_29 (dk_at dksX5_text_4 23 rfl rfl)
theorem dX5_text_117 : decode cX5_text 117 = .ok (.iconst 1, 1) := dk_4 (dk_at dksX5_text_5 0 rfl rfl)
theorem dX5_text_118 : decode cX5_text 118 = .ok (.iadd, 1) := dk_96 (dk_at dksX5_text_5 1 rfl rfl)
theorem dX5_text_119 : decode cX5_text 119 = .ok (.iload 4, 2) := dk_21 4 (dk_at dksX5_text_5 2 rfl rfl)
theorem dX5_text_121 : decode cX5_text 121 = .ok (.iadd, 1) := dk_96 (dk_at dksX5_text_5 4 rfl rfl)
theorem dX5_text_122 : decode cX5_text 122 = .ok (.aload_n 0, 1) := dk_42 (dk_at dksX5_text_5 5 rfl rfl)
theorem dX5_text_123 : decode cX5_text 123 = .ok (.getfield 22, 3) := dk_180 0 22 (dk_at dksX5_text_5 6 rfl rfl)
theorem dX5_text_126 : decode cX5_text 126 = .ok (.iload 4, 2) := dk_21 4 (dk_at dksX5_text_5 9 rfl rfl)
theorem dX5_text_128 : decode cX5_text 128 = .ok (.iaload, 1) := dk_46 (dk_at dksX5_text_5 11 rfl rfl)
theorem dX5_text_129 : decode cX5_text 129 = .ok (.iastore, 1) := dk_79 (dk_at dksX5_text_5 12 rfl rfl)
theorem dX5_text_130 : decode cX5_text 130 = .ok (.iinc 4 1, 3) := dk_132 4 1 (dk_at dksX5_text_5 13 rfl rfl)
theorem dX5_text_133 : decode cX5_text 133 = .ok (.goto (-32), 3) := dk_167 255 224 (dk_at dksX5_text_5 16 rfl rfl)
theorem dX5_text_136 : decode cX5_text 136 = .ok (.iconst 1, 1) := dk_4 (dk_at dksX5_text_5 19 rfl rfl)
theorem dX5_text_137 : decode cX5_text 137 = .ok (.ireturn, 1) := dk_172 (dk_at dksX5_text_5 20 rfl rfl)
abbrev cX5_whole : ByteArray := prog_20_method_35_code
def yX5_whole : MethodName := ⟨RX5, "whole", "()Z"⟩
def dkwX5_whole_2 : List UInt8 := [172]
abbrev dktX5_whole_2 : List UInt8 := dkwX5_whole_2 ++ []
def dkwX5_whole_1 : List UInt8 := [96, 181, 0, 127, 42, 182, 0, 137, 154, 0, 5, 3, 172, 42, 6, 16, 124, 182, 0, 145, 167, 255, 221, 4]
abbrev dktX5_whole_1 : List UInt8 := dkwX5_whole_1 ++ dktX5_whole_2
def dkwX5_whole_0 : List UInt8 := [42, 182, 0, 137, 154, 0, 5, 3, 172, 42, 182, 0, 141, 16, 124, 160, 0, 32, 42, 89, 180, 0, 127, 4]
abbrev dktX5_whole_0 : List UInt8 := dkwX5_whole_0 ++ dktX5_whole_1
theorem dksX5_whole_0 : cX5_whole.data.toList.drop 0 = dktX5_whole_0 := by decide +kernel
theorem dksX5_whole_1 : cX5_whole.data.toList.drop 24 = dktX5_whole_1 := dk_seg dksX5_whole_0 24 rfl rfl
theorem dksX5_whole_2 : cX5_whole.data.toList.drop 48 = dktX5_whole_2 := dk_seg dksX5_whole_1 24 rfl rfl
theorem dX5_whole_0 : decode cX5_whole 0 = .ok (.aload_n 0, 1) := dk_42 (dk_at dksX5_whole_0 0 rfl rfl)
theorem dX5_whole_1 : decode cX5_whole 1 = .ok (.invokevirtual 137, 3) := dk_182 0 137 (dk_at dksX5_whole_0 1 rfl rfl)
theorem dX5_whole_4 : decode cX5_whole 4 = .ok (.ifCond .ne 5, 3) := dk_154 0 5 (dk_at dksX5_whole_0 4 rfl rfl)
theorem dX5_whole_7 : decode cX5_whole 7 = .ok (.iconst 0, 1) := dk_3 (dk_at dksX5_whole_0 7 rfl rfl)
theorem dX5_whole_8 : decode cX5_whole 8 = .ok (.ireturn, 1) := dk_172 (dk_at dksX5_whole_0 8 rfl rfl)
theorem dX5_whole_9 : decode cX5_whole 9 = .ok (.aload_n 0, 1) := dk_42 (dk_at dksX5_whole_0 9 rfl rfl)
theorem dX5_whole_10 : decode cX5_whole 10 = .ok (.invokevirtual 141, 3) := dk_182 0 141 (dk_at dksX5_whole_0 10 rfl rfl)
theorem dX5_whole_13 : decode cX5_whole 13 = .ok (.bipush 124, 2) := dk_16 124 (dk_at dksX5_whole_0 13 rfl rfl)
theorem dX5_whole_15 : decode cX5_whole 15 = .ok (.if_icmp .ne 32, 3) := dk_160 0 32 (dk_at dksX5_whole_0 15 rfl rfl)
theorem dX5_whole_18 : decode cX5_whole 18 = .ok (.aload_n 0, 1) := dk_42 (dk_at dksX5_whole_0 18 rfl rfl)
theorem dX5_whole_19 : decode cX5_whole 19 = .ok (.dup, 1) := dk_89 (dk_at dksX5_whole_0 19 rfl rfl)
theorem dX5_whole_20 : decode cX5_whole 20 = .ok (.getfield 127, 3) := dk_180 0 127 (dk_at dksX5_whole_0 20 rfl rfl)
theorem dX5_whole_23 : decode cX5_whole 23 = .ok (.iconst 1, 1) := dk_4 (dk_at dksX5_whole_0 23 rfl rfl)
theorem dX5_whole_24 : decode cX5_whole 24 = .ok (.iadd, 1) := dk_96 (dk_at dksX5_whole_1 0 rfl rfl)
theorem dX5_whole_25 : decode cX5_whole 25 = .ok (.putfield 127, 3) := dk_181 0 127 (dk_at dksX5_whole_1 1 rfl rfl)
theorem dX5_whole_28 : decode cX5_whole 28 = .ok (.aload_n 0, 1) := dk_42 (dk_at dksX5_whole_1 4 rfl rfl)
theorem dX5_whole_29 : decode cX5_whole 29 = .ok (.invokevirtual 137, 3) := dk_182 0 137 (dk_at dksX5_whole_1 5 rfl rfl)
theorem dX5_whole_32 : decode cX5_whole 32 = .ok (.ifCond .ne 5, 3) := dk_154 0 5 (dk_at dksX5_whole_1 8 rfl rfl)
theorem dX5_whole_35 : decode cX5_whole 35 = .ok (.iconst 0, 1) := dk_3 (dk_at dksX5_whole_1 11 rfl rfl)
theorem dX5_whole_36 : decode cX5_whole 36 = .ok (.ireturn, 1) := dk_172 (dk_at dksX5_whole_1 12 rfl rfl)
theorem dX5_whole_37 : decode cX5_whole 37 = .ok (.aload_n 0, 1) := dk_42 (dk_at dksX5_whole_1 13 rfl rfl)
theorem dX5_whole_38 : decode cX5_whole 38 = .ok (.iconst 3, 1) := dk_6 (dk_at dksX5_whole_1 14 rfl rfl)
theorem dX5_whole_39 : decode cX5_whole 39 = .ok (.bipush 124, 2) := dk_16 124 (dk_at dksX5_whole_1 15 rfl rfl)
theorem dX5_whole_41 : decode cX5_whole 41 = .ok (.invokevirtual 145, 3) := dk_182 0 145 (dk_at dksX5_whole_1 17 rfl rfl)
theorem dX5_whole_44 : decode cX5_whole 44 = .ok (.goto (-35), 3) := dk_167 255 221 (dk_at dksX5_whole_1 20 rfl rfl)
theorem dX5_whole_47 : decode cX5_whole 47 = .ok (.iconst 1, 1) := dk_4 (dk_at dksX5_whole_1 23 rfl rfl)
theorem dX5_whole_48 : decode cX5_whole 48 = .ok (.ireturn, 1) := dk_172 (dk_at dksX5_whole_2 0 rfl rfl)
abbrev cX5_both : ByteArray := prog_20_method_36_code
def yX5_both : MethodName := ⟨RX5, "both", "()Z"⟩
def dkwX5_both_2 : List UInt8 := [172]
abbrev dktX5_both_2 : List UInt8 := dkwX5_both_2 ++ []
def dkwX5_both_1 : List UInt8 := [96, 181, 0, 127, 42, 182, 0, 149, 154, 0, 5, 3, 172, 42, 6, 16, 38, 182, 0, 145, 167, 255, 221, 4]
abbrev dktX5_both_1 : List UInt8 := dkwX5_both_1 ++ dktX5_both_2
def dkwX5_both_0 : List UInt8 := [42, 182, 0, 149, 154, 0, 5, 3, 172, 42, 182, 0, 141, 16, 38, 160, 0, 32, 42, 89, 180, 0, 127, 4]
abbrev dktX5_both_0 : List UInt8 := dkwX5_both_0 ++ dktX5_both_1
theorem dksX5_both_0 : cX5_both.data.toList.drop 0 = dktX5_both_0 := by decide +kernel
theorem dksX5_both_1 : cX5_both.data.toList.drop 24 = dktX5_both_1 := dk_seg dksX5_both_0 24 rfl rfl
theorem dksX5_both_2 : cX5_both.data.toList.drop 48 = dktX5_both_2 := dk_seg dksX5_both_1 24 rfl rfl
theorem dX5_both_0 : decode cX5_both 0 = .ok (.aload_n 0, 1) := dk_42 (dk_at dksX5_both_0 0 rfl rfl)
theorem dX5_both_1 : decode cX5_both 1 = .ok (.invokevirtual 149, 3) := dk_182 0 149 (dk_at dksX5_both_0 1 rfl rfl)
theorem dX5_both_4 : decode cX5_both 4 = .ok (.ifCond .ne 5, 3) := dk_154 0 5 (dk_at dksX5_both_0 4 rfl rfl)
theorem dX5_both_7 : decode cX5_both 7 = .ok (.iconst 0, 1) := dk_3 (dk_at dksX5_both_0 7 rfl rfl)
theorem dX5_both_8 : decode cX5_both 8 = .ok (.ireturn, 1) := dk_172 (dk_at dksX5_both_0 8 rfl rfl)
theorem dX5_both_9 : decode cX5_both 9 = .ok (.aload_n 0, 1) := dk_42 (dk_at dksX5_both_0 9 rfl rfl)
theorem dX5_both_10 : decode cX5_both 10 = .ok (.invokevirtual 141, 3) := dk_182 0 141 (dk_at dksX5_both_0 10 rfl rfl)
theorem dX5_both_13 : decode cX5_both 13 = .ok (.bipush 38, 2) := dk_16 38 (dk_at dksX5_both_0 13 rfl rfl)
theorem dX5_both_15 : decode cX5_both 15 = .ok (.if_icmp .ne 32, 3) := dk_160 0 32 (dk_at dksX5_both_0 15 rfl rfl)
theorem dX5_both_18 : decode cX5_both 18 = .ok (.aload_n 0, 1) := dk_42 (dk_at dksX5_both_0 18 rfl rfl)
theorem dX5_both_19 : decode cX5_both 19 = .ok (.dup, 1) := dk_89 (dk_at dksX5_both_0 19 rfl rfl)
theorem dX5_both_20 : decode cX5_both 20 = .ok (.getfield 127, 3) := dk_180 0 127 (dk_at dksX5_both_0 20 rfl rfl)
theorem dX5_both_23 : decode cX5_both 23 = .ok (.iconst 1, 1) := dk_4 (dk_at dksX5_both_0 23 rfl rfl)
theorem dX5_both_24 : decode cX5_both 24 = .ok (.iadd, 1) := dk_96 (dk_at dksX5_both_1 0 rfl rfl)
theorem dX5_both_25 : decode cX5_both 25 = .ok (.putfield 127, 3) := dk_181 0 127 (dk_at dksX5_both_1 1 rfl rfl)
theorem dX5_both_28 : decode cX5_both 28 = .ok (.aload_n 0, 1) := dk_42 (dk_at dksX5_both_1 4 rfl rfl)
theorem dX5_both_29 : decode cX5_both 29 = .ok (.invokevirtual 149, 3) := dk_182 0 149 (dk_at dksX5_both_1 5 rfl rfl)
theorem dX5_both_32 : decode cX5_both 32 = .ok (.ifCond .ne 5, 3) := dk_154 0 5 (dk_at dksX5_both_1 8 rfl rfl)
theorem dX5_both_35 : decode cX5_both 35 = .ok (.iconst 0, 1) := dk_3 (dk_at dksX5_both_1 11 rfl rfl)
theorem dX5_both_36 : decode cX5_both 36 = .ok (.ireturn, 1) := dk_172 (dk_at dksX5_both_1 12 rfl rfl)
theorem dX5_both_37 : decode cX5_both 37 = .ok (.aload_n 0, 1) := dk_42 (dk_at dksX5_both_1 13 rfl rfl)
theorem dX5_both_38 : decode cX5_both 38 = .ok (.iconst 3, 1) := dk_6 (dk_at dksX5_both_1 14 rfl rfl)
theorem dX5_both_39 : decode cX5_both 39 = .ok (.bipush 38, 2) := dk_16 38 (dk_at dksX5_both_1 15 rfl rfl)
theorem dX5_both_41 : decode cX5_both 41 = .ok (.invokevirtual 145, 3) := dk_182 0 145 (dk_at dksX5_both_1 17 rfl rfl)
theorem dX5_both_44 : decode cX5_both 44 = .ok (.goto (-35), 3) := dk_167 255 221 (dk_at dksX5_both_1 20 rfl rfl)
theorem dX5_both_47 : decode cX5_both 47 = .ok (.iconst 1, 1) := dk_4 (dk_at dksX5_both_1 23 rfl rfl)
theorem dX5_both_48 : decode cX5_both 48 = .ok (.ireturn, 1) := dk_172 (dk_at dksX5_both_2 0 rfl rfl)
abbrev cX5_compared : ByteArray := prog_20_method_37_code
def yX5_compared : MethodName := ⟨RX5, "compared", "()Z"⟩
def dkwX5_compared_2 : List UInt8 := [182, 0, 152, 154, 0, 5, 3, 172, 42, 6, 27, 182, 0, 145, 4, 172]
abbrev dktX5_compared_2 : List UInt8 := dkwX5_compared_2 ++ []
def dkwX5_compared_1 : List UInt8 := [159, 0, 11, 27, 16, 62, 159, 0, 5, 4, 172, 42, 89, 180, 0, 127, 4, 96, 181, 0, 127, 42]
abbrev dktX5_compared_1 : List UInt8 := dkwX5_compared_1 ++ dktX5_compared_2
def dkwX5_compared_0 : List UInt8 := [42, 182, 0, 152, 154, 0, 5, 3, 172, 42, 182, 0, 141, 60, 27, 16, 60, 159, 0, 17, 27, 16, 61]
abbrev dktX5_compared_0 : List UInt8 := dkwX5_compared_0 ++ dktX5_compared_1
theorem dksX5_compared_0 : cX5_compared.data.toList.drop 0 = dktX5_compared_0 := by decide +kernel
theorem dksX5_compared_1 : cX5_compared.data.toList.drop 23 = dktX5_compared_1 := dk_seg dksX5_compared_0 23 rfl rfl
theorem dksX5_compared_2 : cX5_compared.data.toList.drop 45 = dktX5_compared_2 := dk_seg dksX5_compared_1 22 rfl rfl
theorem dX5_compared_0 : decode cX5_compared 0 = .ok (.aload_n 0, 1) := dk_42 (dk_at dksX5_compared_0 0 rfl rfl)
theorem dX5_compared_1 : decode cX5_compared 1 = .ok (.invokevirtual 152, 3) := dk_182 0 152 (dk_at dksX5_compared_0 1 rfl rfl)
theorem dX5_compared_4 : decode cX5_compared 4 = .ok (.ifCond .ne 5, 3) := dk_154 0 5 (dk_at dksX5_compared_0 4 rfl rfl)
theorem dX5_compared_7 : decode cX5_compared 7 = .ok (.iconst 0, 1) := dk_3 (dk_at dksX5_compared_0 7 rfl rfl)
theorem dX5_compared_8 : decode cX5_compared 8 = .ok (.ireturn, 1) := dk_172 (dk_at dksX5_compared_0 8 rfl rfl)
theorem dX5_compared_9 : decode cX5_compared 9 = .ok (.aload_n 0, 1) := dk_42 (dk_at dksX5_compared_0 9 rfl rfl)
theorem dX5_compared_10 : decode cX5_compared 10 = .ok (.invokevirtual 141, 3) := dk_182 0 141 (dk_at dksX5_compared_0 10 rfl rfl)
theorem dX5_compared_13 : decode cX5_compared 13 = .ok (.istore_n 1, 1) := dk_60 (dk_at dksX5_compared_0 13 rfl rfl)
theorem dX5_compared_14 : decode cX5_compared 14 = .ok (.iload_n 1, 1) := dk_27 (dk_at dksX5_compared_0 14 rfl rfl)
theorem dX5_compared_15 : decode cX5_compared 15 = .ok (.bipush 60, 2) := dk_16 60 (dk_at dksX5_compared_0 15 rfl rfl)
theorem dX5_compared_17 : decode cX5_compared 17 = .ok (.if_icmp .eq 17, 3) := dk_159 0 17 (dk_at dksX5_compared_0 17 rfl rfl)
theorem dX5_compared_20 : decode cX5_compared 20 = .ok (.iload_n 1, 1) := dk_27 (dk_at dksX5_compared_0 20 rfl rfl)
theorem dX5_compared_21 : decode cX5_compared 21 = .ok (.bipush 61, 2) := dk_16 61 (dk_at dksX5_compared_0 21 rfl rfl)
theorem dX5_compared_23 : decode cX5_compared 23 = .ok (.if_icmp .eq 11, 3) := dk_159 0 11 (dk_at dksX5_compared_1 0 rfl rfl)
theorem dX5_compared_26 : decode cX5_compared 26 = .ok (.iload_n 1, 1) := dk_27 (dk_at dksX5_compared_1 3 rfl rfl)
theorem dX5_compared_27 : decode cX5_compared 27 = .ok (.bipush 62, 2) := dk_16 62 (dk_at dksX5_compared_1 4 rfl rfl)
theorem dX5_compared_29 : decode cX5_compared 29 = .ok (.if_icmp .eq 5, 3) := dk_159 0 5 (dk_at dksX5_compared_1 6 rfl rfl)
theorem dX5_compared_32 : decode cX5_compared 32 = .ok (.iconst 1, 1) := dk_4 (dk_at dksX5_compared_1 9 rfl rfl)
theorem dX5_compared_33 : decode cX5_compared 33 = .ok (.ireturn, 1) := dk_172 (dk_at dksX5_compared_1 10 rfl rfl)
theorem dX5_compared_34 : decode cX5_compared 34 = .ok (.aload_n 0, 1) := dk_42 (dk_at dksX5_compared_1 11 rfl rfl)
theorem dX5_compared_35 : decode cX5_compared 35 = .ok (.dup, 1) := dk_89 (dk_at dksX5_compared_1 12 rfl rfl)
theorem dX5_compared_36 : decode cX5_compared 36 = .ok (.getfield 127, 3) := dk_180 0 127 (dk_at dksX5_compared_1 13 rfl rfl)
theorem dX5_compared_39 : decode cX5_compared 39 = .ok (.iconst 1, 1) := dk_4 (dk_at dksX5_compared_1 16 rfl rfl)
theorem dX5_compared_40 : decode cX5_compared 40 = .ok (.iadd, 1) := dk_96 (dk_at dksX5_compared_1 17 rfl rfl)
theorem dX5_compared_41 : decode cX5_compared 41 = .ok (.putfield 127, 3) := dk_181 0 127 (dk_at dksX5_compared_1 18 rfl rfl)
theorem dX5_compared_44 : decode cX5_compared 44 = .ok (.aload_n 0, 1) := dk_42 (dk_at dksX5_compared_1 21 rfl rfl)
theorem dX5_compared_45 : decode cX5_compared 45 = .ok (.invokevirtual 152, 3) := dk_182 0 152 (dk_at dksX5_compared_2 0 rfl rfl)
theorem dX5_compared_48 : decode cX5_compared 48 = .ok (.ifCond .ne 5, 3) := dk_154 0 5 (dk_at dksX5_compared_2 3 rfl rfl)
theorem dX5_compared_51 : decode cX5_compared 51 = .ok (.iconst 0, 1) := dk_3 (dk_at dksX5_compared_2 6 rfl rfl)
theorem dX5_compared_52 : decode cX5_compared 52 = .ok (.ireturn, 1) := dk_172 (dk_at dksX5_compared_2 7 rfl rfl)
theorem dX5_compared_53 : decode cX5_compared 53 = .ok (.aload_n 0, 1) := dk_42 (dk_at dksX5_compared_2 8 rfl rfl)
theorem dX5_compared_54 : decode cX5_compared 54 = .ok (.iconst 3, 1) := dk_6 (dk_at dksX5_compared_2 9 rfl rfl)
theorem dX5_compared_55 : decode cX5_compared 55 = .ok (.iload_n 1, 1) := dk_27 (dk_at dksX5_compared_2 10 rfl rfl)
theorem dX5_compared_56 : decode cX5_compared 56 = .ok (.invokevirtual 145, 3) := dk_182 0 145 (dk_at dksX5_compared_2 11 rfl rfl)
theorem dX5_compared_59 : decode cX5_compared 59 = .ok (.iconst 1, 1) := dk_4 (dk_at dksX5_compared_2 14 rfl rfl)
theorem dX5_compared_60 : decode cX5_compared 60 = .ok (.ireturn, 1) := dk_172 (dk_at dksX5_compared_2 15 rfl rfl)
abbrev cX5_sum : ByteArray := prog_20_method_38_code
def yX5_sum : MethodName := ⟨RX5, "sum", "()Z"⟩
def dkwX5_sum_2 : List UInt8 := [154, 0, 5, 3, 172, 42, 6, 27, 182, 0, 145, 167, 255, 208, 4, 172]
abbrev dktX5_sum_2 : List UInt8 := dkwX5_sum_2 ++ []
def dkwX5_sum_1 : List UInt8 := [160, 0, 36, 42, 182, 0, 141, 60, 42, 89, 180, 0, 127, 4, 96, 181, 0, 127, 42, 182, 0, 155]
abbrev dktX5_sum_1 : List UInt8 := dkwX5_sum_1 ++ dktX5_sum_2
def dkwX5_sum_0 : List UInt8 := [42, 182, 0, 155, 154, 0, 5, 3, 172, 42, 182, 0, 141, 16, 43, 159, 0, 12, 42, 182, 0, 141, 16, 45]
abbrev dktX5_sum_0 : List UInt8 := dkwX5_sum_0 ++ dktX5_sum_1
theorem dksX5_sum_0 : cX5_sum.data.toList.drop 0 = dktX5_sum_0 := by decide +kernel
theorem dksX5_sum_1 : cX5_sum.data.toList.drop 24 = dktX5_sum_1 := dk_seg dksX5_sum_0 24 rfl rfl
theorem dksX5_sum_2 : cX5_sum.data.toList.drop 46 = dktX5_sum_2 := dk_seg dksX5_sum_1 22 rfl rfl
theorem dX5_sum_0 : decode cX5_sum 0 = .ok (.aload_n 0, 1) := dk_42 (dk_at dksX5_sum_0 0 rfl rfl)
theorem dX5_sum_1 : decode cX5_sum 1 = .ok (.invokevirtual 155, 3) := dk_182 0 155 (dk_at dksX5_sum_0 1 rfl rfl)
theorem dX5_sum_4 : decode cX5_sum 4 = .ok (.ifCond .ne 5, 3) := dk_154 0 5 (dk_at dksX5_sum_0 4 rfl rfl)
theorem dX5_sum_7 : decode cX5_sum 7 = .ok (.iconst 0, 1) := dk_3 (dk_at dksX5_sum_0 7 rfl rfl)
theorem dX5_sum_8 : decode cX5_sum 8 = .ok (.ireturn, 1) := dk_172 (dk_at dksX5_sum_0 8 rfl rfl)
theorem dX5_sum_9 : decode cX5_sum 9 = .ok (.aload_n 0, 1) := dk_42 (dk_at dksX5_sum_0 9 rfl rfl)
theorem dX5_sum_10 : decode cX5_sum 10 = .ok (.invokevirtual 141, 3) := dk_182 0 141 (dk_at dksX5_sum_0 10 rfl rfl)
theorem dX5_sum_13 : decode cX5_sum 13 = .ok (.bipush 43, 2) := dk_16 43 (dk_at dksX5_sum_0 13 rfl rfl)
theorem dX5_sum_15 : decode cX5_sum 15 = .ok (.if_icmp .eq 12, 3) := dk_159 0 12 (dk_at dksX5_sum_0 15 rfl rfl)
theorem dX5_sum_18 : decode cX5_sum 18 = .ok (.aload_n 0, 1) := dk_42 (dk_at dksX5_sum_0 18 rfl rfl)
theorem dX5_sum_19 : decode cX5_sum 19 = .ok (.invokevirtual 141, 3) := dk_182 0 141 (dk_at dksX5_sum_0 19 rfl rfl)
theorem dX5_sum_22 : decode cX5_sum 22 = .ok (.bipush 45, 2) := dk_16 45 (dk_at dksX5_sum_0 22 rfl rfl)
theorem dX5_sum_24 : decode cX5_sum 24 = .ok (.if_icmp .ne 36, 3) := dk_160 0 36 (dk_at dksX5_sum_1 0 rfl rfl)
theorem dX5_sum_27 : decode cX5_sum 27 = .ok (.aload_n 0, 1) := dk_42 (dk_at dksX5_sum_1 3 rfl rfl)
theorem dX5_sum_28 : decode cX5_sum 28 = .ok (.invokevirtual 141, 3) := dk_182 0 141 (dk_at dksX5_sum_1 4 rfl rfl)
theorem dX5_sum_31 : decode cX5_sum 31 = .ok (.istore_n 1, 1) := dk_60 (dk_at dksX5_sum_1 7 rfl rfl)
theorem dX5_sum_32 : decode cX5_sum 32 = .ok (.aload_n 0, 1) := dk_42 (dk_at dksX5_sum_1 8 rfl rfl)
theorem dX5_sum_33 : decode cX5_sum 33 = .ok (.dup, 1) := dk_89 (dk_at dksX5_sum_1 9 rfl rfl)
theorem dX5_sum_34 : decode cX5_sum 34 = .ok (.getfield 127, 3) := dk_180 0 127 (dk_at dksX5_sum_1 10 rfl rfl)
theorem dX5_sum_37 : decode cX5_sum 37 = .ok (.iconst 1, 1) := dk_4 (dk_at dksX5_sum_1 13 rfl rfl)
theorem dX5_sum_38 : decode cX5_sum 38 = .ok (.iadd, 1) := dk_96 (dk_at dksX5_sum_1 14 rfl rfl)
theorem dX5_sum_39 : decode cX5_sum 39 = .ok (.putfield 127, 3) := dk_181 0 127 (dk_at dksX5_sum_1 15 rfl rfl)
theorem dX5_sum_42 : decode cX5_sum 42 = .ok (.aload_n 0, 1) := dk_42 (dk_at dksX5_sum_1 18 rfl rfl)
theorem dX5_sum_43 : decode cX5_sum 43 = .ok (.invokevirtual 155, 3) := dk_182 0 155 (dk_at dksX5_sum_1 19 rfl rfl)
theorem dX5_sum_46 : decode cX5_sum 46 = .ok (.ifCond .ne 5, 3) := dk_154 0 5 (dk_at dksX5_sum_2 0 rfl rfl)
theorem dX5_sum_49 : decode cX5_sum 49 = .ok (.iconst 0, 1) := dk_3 (dk_at dksX5_sum_2 3 rfl rfl)
theorem dX5_sum_50 : decode cX5_sum 50 = .ok (.ireturn, 1) := dk_172 (dk_at dksX5_sum_2 4 rfl rfl)
theorem dX5_sum_51 : decode cX5_sum 51 = .ok (.aload_n 0, 1) := dk_42 (dk_at dksX5_sum_2 5 rfl rfl)
theorem dX5_sum_52 : decode cX5_sum 52 = .ok (.iconst 3, 1) := dk_6 (dk_at dksX5_sum_2 6 rfl rfl)
theorem dX5_sum_53 : decode cX5_sum 53 = .ok (.iload_n 1, 1) := dk_27 (dk_at dksX5_sum_2 7 rfl rfl)
theorem dX5_sum_54 : decode cX5_sum 54 = .ok (.invokevirtual 145, 3) := dk_182 0 145 (dk_at dksX5_sum_2 8 rfl rfl)
theorem dX5_sum_57 : decode cX5_sum 57 = .ok (.goto (-48), 3) := dk_167 255 208 (dk_at dksX5_sum_2 11 rfl rfl)
theorem dX5_sum_60 : decode cX5_sum 60 = .ok (.iconst 1, 1) := dk_4 (dk_at dksX5_sum_2 14 rfl rfl)
theorem dX5_sum_61 : decode cX5_sum 61 = .ok (.ireturn, 1) := dk_172 (dk_at dksX5_sum_2 15 rfl rfl)
abbrev cX5_product : ByteArray := prog_20_method_39_code
def yX5_product : MethodName := ⟨RX5, "product", "()Z"⟩
def dkwX5_product_2 : List UInt8 := [181, 0, 127, 42, 182, 0, 158, 154, 0, 5, 3, 172, 42, 6, 27, 182, 0, 145, 167, 255, 199, 4, 172]
abbrev dktX5_product_2 : List UInt8 := dkwX5_product_2 ++ []
def dkwX5_product_1 : List UInt8 := [159, 0, 12, 42, 182, 0, 141, 16, 37, 160, 0, 36, 42, 182, 0, 141, 60, 42, 89, 180, 0, 127, 4, 96]
abbrev dktX5_product_1 : List UInt8 := dkwX5_product_1 ++ dktX5_product_2
def dkwX5_product_0 : List UInt8 := [42, 182, 0, 158, 154, 0, 5, 3, 172, 42, 182, 0, 141, 16, 42, 159, 0, 21, 42, 182, 0, 141, 16, 47]
abbrev dktX5_product_0 : List UInt8 := dkwX5_product_0 ++ dktX5_product_1
theorem dksX5_product_0 : cX5_product.data.toList.drop 0 = dktX5_product_0 := by decide +kernel
theorem dksX5_product_1 : cX5_product.data.toList.drop 24 = dktX5_product_1 := dk_seg dksX5_product_0 24 rfl rfl
theorem dksX5_product_2 : cX5_product.data.toList.drop 48 = dktX5_product_2 := dk_seg dksX5_product_1 24 rfl rfl
theorem dX5_product_0 : decode cX5_product 0 = .ok (.aload_n 0, 1) := dk_42 (dk_at dksX5_product_0 0 rfl rfl)
theorem dX5_product_1 : decode cX5_product 1 = .ok (.invokevirtual 158, 3) := dk_182 0 158 (dk_at dksX5_product_0 1 rfl rfl)
theorem dX5_product_4 : decode cX5_product 4 = .ok (.ifCond .ne 5, 3) := dk_154 0 5 (dk_at dksX5_product_0 4 rfl rfl)
theorem dX5_product_7 : decode cX5_product 7 = .ok (.iconst 0, 1) := dk_3 (dk_at dksX5_product_0 7 rfl rfl)
theorem dX5_product_8 : decode cX5_product 8 = .ok (.ireturn, 1) := dk_172 (dk_at dksX5_product_0 8 rfl rfl)
theorem dX5_product_9 : decode cX5_product 9 = .ok (.aload_n 0, 1) := dk_42 (dk_at dksX5_product_0 9 rfl rfl)
theorem dX5_product_10 : decode cX5_product 10 = .ok (.invokevirtual 141, 3) := dk_182 0 141 (dk_at dksX5_product_0 10 rfl rfl)
theorem dX5_product_13 : decode cX5_product 13 = .ok (.bipush 42, 2) := dk_16 42 (dk_at dksX5_product_0 13 rfl rfl)
theorem dX5_product_15 : decode cX5_product 15 = .ok (.if_icmp .eq 21, 3) := dk_159 0 21 (dk_at dksX5_product_0 15 rfl rfl)
theorem dX5_product_18 : decode cX5_product 18 = .ok (.aload_n 0, 1) := dk_42 (dk_at dksX5_product_0 18 rfl rfl)
theorem dX5_product_19 : decode cX5_product 19 = .ok (.invokevirtual 141, 3) := dk_182 0 141 (dk_at dksX5_product_0 19 rfl rfl)
theorem dX5_product_22 : decode cX5_product 22 = .ok (.bipush 47, 2) := dk_16 47 (dk_at dksX5_product_0 22 rfl rfl)
theorem dX5_product_24 : decode cX5_product 24 = .ok (.if_icmp .eq 12, 3) := dk_159 0 12 (dk_at dksX5_product_1 0 rfl rfl)
theorem dX5_product_27 : decode cX5_product 27 = .ok (.aload_n 0, 1) := dk_42 (dk_at dksX5_product_1 3 rfl rfl)
theorem dX5_product_28 : decode cX5_product 28 = .ok (.invokevirtual 141, 3) := dk_182 0 141 (dk_at dksX5_product_1 4 rfl rfl)
theorem dX5_product_31 : decode cX5_product 31 = .ok (.bipush 37, 2) := dk_16 37 (dk_at dksX5_product_1 7 rfl rfl)
theorem dX5_product_33 : decode cX5_product 33 = .ok (.if_icmp .ne 36, 3) := dk_160 0 36 (dk_at dksX5_product_1 9 rfl rfl)
theorem dX5_product_36 : decode cX5_product 36 = .ok (.aload_n 0, 1) := dk_42 (dk_at dksX5_product_1 12 rfl rfl)
theorem dX5_product_37 : decode cX5_product 37 = .ok (.invokevirtual 141, 3) := dk_182 0 141 (dk_at dksX5_product_1 13 rfl rfl)
theorem dX5_product_40 : decode cX5_product 40 = .ok (.istore_n 1, 1) := dk_60 (dk_at dksX5_product_1 16 rfl rfl)
theorem dX5_product_41 : decode cX5_product 41 = .ok (.aload_n 0, 1) := dk_42 (dk_at dksX5_product_1 17 rfl rfl)
theorem dX5_product_42 : decode cX5_product 42 = .ok (.dup, 1) := dk_89 (dk_at dksX5_product_1 18 rfl rfl)
theorem dX5_product_43 : decode cX5_product 43 = .ok (.getfield 127, 3) := dk_180 0 127 (dk_at dksX5_product_1 19 rfl rfl)
theorem dX5_product_46 : decode cX5_product 46 = .ok (.iconst 1, 1) := dk_4 (dk_at dksX5_product_1 22 rfl rfl)
theorem dX5_product_47 : decode cX5_product 47 = .ok (.iadd, 1) := dk_96 (dk_at dksX5_product_1 23 rfl rfl)
theorem dX5_product_48 : decode cX5_product 48 = .ok (.putfield 127, 3) := dk_181 0 127 (dk_at dksX5_product_2 0 rfl rfl)
theorem dX5_product_51 : decode cX5_product 51 = .ok (.aload_n 0, 1) := dk_42 (dk_at dksX5_product_2 3 rfl rfl)
theorem dX5_product_52 : decode cX5_product 52 = .ok (.invokevirtual 158, 3) := dk_182 0 158 (dk_at dksX5_product_2 4 rfl rfl)
theorem dX5_product_55 : decode cX5_product 55 = .ok (.ifCond .ne 5, 3) := dk_154 0 5 (dk_at dksX5_product_2 7 rfl rfl)
theorem dX5_product_58 : decode cX5_product 58 = .ok (.iconst 0, 1) := dk_3 (dk_at dksX5_product_2 10 rfl rfl)
theorem dX5_product_59 : decode cX5_product 59 = .ok (.ireturn, 1) := dk_172 (dk_at dksX5_product_2 11 rfl rfl)
theorem dX5_product_60 : decode cX5_product 60 = .ok (.aload_n 0, 1) := dk_42 (dk_at dksX5_product_2 12 rfl rfl)
theorem dX5_product_61 : decode cX5_product 61 = .ok (.iconst 3, 1) := dk_6 (dk_at dksX5_product_2 13 rfl rfl)
theorem dX5_product_62 : decode cX5_product 62 = .ok (.iload_n 1, 1) := dk_27 (dk_at dksX5_product_2 14 rfl rfl)
theorem dX5_product_63 : decode cX5_product 63 = .ok (.invokevirtual 145, 3) := dk_182 0 145 (dk_at dksX5_product_2 15 rfl rfl)
theorem dX5_product_66 : decode cX5_product 66 = .ok (.goto (-57), 3) := dk_167 255 199 (dk_at dksX5_product_2 18 rfl rfl)
theorem dX5_product_69 : decode cX5_product 69 = .ok (.iconst 1, 1) := dk_4 (dk_at dksX5_product_2 21 rfl rfl)
theorem dX5_product_70 : decode cX5_product 70 = .ok (.ireturn, 1) := dk_172 (dk_at dksX5_product_2 22 rfl rfl)
abbrev cX5_one : ByteArray := prog_20_method_41_code
def yX5_one : MethodName := ⟨RX5, "one", "()Z"⟩
def dkwX5_one_8 : List UInt8 := [180, 0, 161, 4, 100, 181, 0, 161, 4, 172]
abbrev dktX5_one_8 : List UInt8 := dkwX5_one_8 ++ []
def dkwX5_one_7 : List UInt8 := [182, 0, 141, 16, 41, 159, 0, 5, 3, 172, 42, 89, 180, 0, 127, 4, 96, 181, 0, 127, 42, 89]
abbrev dktX5_one_7 : List UInt8 := dkwX5_one_7 ++ dktX5_one_8
def dkwX5_one_6 : List UInt8 := [4, 172, 27, 16, 40, 160, 0, 26, 42, 182, 0, 167, 153, 0, 19, 42, 182, 0, 170, 153, 0, 12, 42]
abbrev dktX5_one_6 : List UInt8 := dkwX5_one_6 ++ dktX5_one_7
def dkwX5_one_5 : List UInt8 := [182, 0, 158, 154, 0, 5, 3, 172, 42, 89, 180, 0, 161, 4, 100, 181, 0, 161, 42, 5, 3, 182, 0, 145]
abbrev dktX5_one_5 : List UInt8 := dkwX5_one_5 ++ dktX5_one_6
def dkwX5_one_4 : List UInt8 := [42, 3, 28, 182, 0, 145, 4, 172, 27, 16, 33, 160, 0, 37, 42, 182, 0, 167, 153, 0, 10, 42]
abbrev dktX5_one_4 : List UInt8 := dkwX5_one_4 ++ dktX5_one_5
def dkwX5_one_3 : List UInt8 := [182, 0, 141, 96, 16, 48, 100, 61, 42, 89, 180, 0, 127, 4, 96, 181, 0, 127, 132, 3, 1, 167, 255, 211]
abbrev dktX5_one_3 : List UInt8 := dkwX5_one_3 ++ dktX5_one_4
def dkwX5_one_2 : List UInt8 := [162, 0, 46, 42, 182, 0, 141, 16, 48, 16, 57, 184, 0, 56, 153, 0, 32, 16, 10, 28, 104, 42]
abbrev dktX5_one_2 : List UInt8 := dkwX5_one_2 ++ dktX5_one_3
def dkwX5_one_1 : List UInt8 := [4, 27, 182, 0, 145, 4, 172, 27, 16, 48, 16, 57, 184, 0, 56, 153, 0, 63, 3, 61, 3, 62, 29, 7]
abbrev dktX5_one_1 : List UInt8 := dkwX5_one_1 ++ dktX5_one_2
def dkwX5_one_0 : List UInt8 := [42, 182, 0, 141, 60, 42, 27, 182, 0, 164, 153, 0, 21, 42, 89, 180, 0, 127, 4, 96, 181, 0, 127, 42]
abbrev dktX5_one_0 : List UInt8 := dkwX5_one_0 ++ dktX5_one_1
theorem dksX5_one_0 : cX5_one.data.toList.drop 0 = dktX5_one_0 := by decide +kernel
theorem dksX5_one_1 : cX5_one.data.toList.drop 24 = dktX5_one_1 := dk_seg dksX5_one_0 24 rfl rfl
theorem dksX5_one_2 : cX5_one.data.toList.drop 48 = dktX5_one_2 := dk_seg dksX5_one_1 24 rfl rfl
theorem dksX5_one_3 : cX5_one.data.toList.drop 70 = dktX5_one_3 := dk_seg dksX5_one_2 22 rfl rfl
theorem dksX5_one_4 : cX5_one.data.toList.drop 94 = dktX5_one_4 := dk_seg dksX5_one_3 24 rfl rfl
theorem dksX5_one_5 : cX5_one.data.toList.drop 116 = dktX5_one_5 := dk_seg dksX5_one_4 22 rfl rfl
theorem dksX5_one_6 : cX5_one.data.toList.drop 140 = dktX5_one_6 := dk_seg dksX5_one_5 24 rfl rfl
theorem dksX5_one_7 : cX5_one.data.toList.drop 163 = dktX5_one_7 := dk_seg dksX5_one_6 23 rfl rfl
theorem dksX5_one_8 : cX5_one.data.toList.drop 185 = dktX5_one_8 := dk_seg dksX5_one_7 22 rfl rfl
theorem dX5_one_0 : decode cX5_one 0 = .ok (.aload_n 0, 1) := dk_42 (dk_at dksX5_one_0 0 rfl rfl)
theorem dX5_one_1 : decode cX5_one 1 = .ok (.invokevirtual 141, 3) := dk_182 0 141 (dk_at dksX5_one_0 1 rfl rfl)
theorem dX5_one_4 : decode cX5_one 4 = .ok (.istore_n 1, 1) := dk_60 (dk_at dksX5_one_0 4 rfl rfl)
theorem dX5_one_5 : decode cX5_one 5 = .ok (.aload_n 0, 1) := dk_42 (dk_at dksX5_one_0 5 rfl rfl)
theorem dX5_one_6 : decode cX5_one 6 = .ok (.iload_n 1, 1) := dk_27 (dk_at dksX5_one_0 6 rfl rfl)
theorem dX5_one_7 : decode cX5_one 7 = .ok (.invokevirtual 164, 3) := dk_182 0 164 (dk_at dksX5_one_0 7 rfl rfl)
theorem dX5_one_10 : decode cX5_one 10 = .ok (.ifCond .eq 21, 3) := dk_153 0 21 (dk_at dksX5_one_0 10 rfl rfl)
theorem dX5_one_13 : decode cX5_one 13 = .ok (.aload_n 0, 1) := dk_42 (dk_at dksX5_one_0 13 rfl rfl)
theorem dX5_one_14 : decode cX5_one 14 = .ok (.dup, 1) := dk_89 (dk_at dksX5_one_0 14 rfl rfl)
theorem dX5_one_15 : decode cX5_one 15 = .ok (.getfield 127, 3) := dk_180 0 127 (dk_at dksX5_one_0 15 rfl rfl)
theorem dX5_one_18 : decode cX5_one 18 = .ok (.iconst 1, 1) := dk_4 (dk_at dksX5_one_0 18 rfl rfl)
theorem dX5_one_19 : decode cX5_one 19 = .ok (.iadd, 1) := dk_96 (dk_at dksX5_one_0 19 rfl rfl)
theorem dX5_one_20 : decode cX5_one 20 = .ok (.putfield 127, 3) := dk_181 0 127 (dk_at dksX5_one_0 20 rfl rfl)
theorem dX5_one_23 : decode cX5_one 23 = .ok (.aload_n 0, 1) := dk_42 (dk_at dksX5_one_0 23 rfl rfl)
theorem dX5_one_24 : decode cX5_one 24 = .ok (.iconst 1, 1) := dk_4 (dk_at dksX5_one_1 0 rfl rfl)
theorem dX5_one_25 : decode cX5_one 25 = .ok (.iload_n 1, 1) := dk_27 (dk_at dksX5_one_1 1 rfl rfl)
theorem dX5_one_26 : decode cX5_one 26 = .ok (.invokevirtual 145, 3) := dk_182 0 145 (dk_at dksX5_one_1 2 rfl rfl)
theorem dX5_one_29 : decode cX5_one 29 = .ok (.iconst 1, 1) := dk_4 (dk_at dksX5_one_1 5 rfl rfl)
theorem dX5_one_30 : decode cX5_one 30 = .ok (.ireturn, 1) := dk_172 (dk_at dksX5_one_1 6 rfl rfl)
theorem dX5_one_31 : decode cX5_one 31 = .ok (.iload_n 1, 1) := dk_27 (dk_at dksX5_one_1 7 rfl rfl)
theorem dX5_one_32 : decode cX5_one 32 = .ok (.bipush 48, 2) := dk_16 48 (dk_at dksX5_one_1 8 rfl rfl)
theorem dX5_one_34 : decode cX5_one 34 = .ok (.bipush 57, 2) := dk_16 57 (dk_at dksX5_one_1 10 rfl rfl)
theorem dX5_one_36 : decode cX5_one 36 = .ok (.invokestatic 56, 3) := dk_184 0 56 (dk_at dksX5_one_1 12 rfl rfl)
theorem dX5_one_39 : decode cX5_one 39 = .ok (.ifCond .eq 63, 3) := dk_153 0 63 (dk_at dksX5_one_1 15 rfl rfl)
theorem dX5_one_42 : decode cX5_one 42 = .ok (.iconst 0, 1) := dk_3 (dk_at dksX5_one_1 18 rfl rfl)
theorem dX5_one_43 : decode cX5_one 43 = .ok (.istore_n 2, 1) := dk_61 (dk_at dksX5_one_1 19 rfl rfl)
theorem dX5_one_44 : decode cX5_one 44 = .ok (.iconst 0, 1) := dk_3 (dk_at dksX5_one_1 20 rfl rfl)
theorem dX5_one_45 : decode cX5_one 45 = .ok (.istore_n 3, 1) := dk_62 (dk_at dksX5_one_1 21 rfl rfl)
theorem dX5_one_46 : decode cX5_one 46 = .ok (.iload_n 3, 1) := dk_29 (dk_at dksX5_one_1 22 rfl rfl)
theorem dX5_one_47 : decode cX5_one 47 = .ok (.iconst 4, 1) := dk_7 (dk_at dksX5_one_1 23 rfl rfl)
theorem dX5_one_48 : decode cX5_one 48 = .ok (.if_icmp .ge 46, 3) := dk_162 0 46 (dk_at dksX5_one_2 0 rfl rfl)
theorem dX5_one_51 : decode cX5_one 51 = .ok (.aload_n 0, 1) := dk_42 (dk_at dksX5_one_2 3 rfl rfl)
theorem dX5_one_52 : decode cX5_one 52 = .ok (.invokevirtual 141, 3) := dk_182 0 141 (dk_at dksX5_one_2 4 rfl rfl)
theorem dX5_one_55 : decode cX5_one 55 = .ok (.bipush 48, 2) := dk_16 48 (dk_at dksX5_one_2 7 rfl rfl)
theorem dX5_one_57 : decode cX5_one 57 = .ok (.bipush 57, 2) := dk_16 57 (dk_at dksX5_one_2 9 rfl rfl)
theorem dX5_one_59 : decode cX5_one 59 = .ok (.invokestatic 56, 3) := dk_184 0 56 (dk_at dksX5_one_2 11 rfl rfl)
theorem dX5_one_62 : decode cX5_one 62 = .ok (.ifCond .eq 32, 3) := dk_153 0 32 (dk_at dksX5_one_2 14 rfl rfl)
theorem dX5_one_65 : decode cX5_one 65 = .ok (.bipush 10, 2) := dk_16 10 (dk_at dksX5_one_2 17 rfl rfl)
theorem dX5_one_67 : decode cX5_one 67 = .ok (.iload_n 2, 1) := dk_28 (dk_at dksX5_one_2 19 rfl rfl)
theorem dX5_one_68 : decode cX5_one 68 = .ok (.imul, 1) := dk_104 (dk_at dksX5_one_2 20 rfl rfl)
theorem dX5_one_69 : decode cX5_one 69 = .ok (.aload_n 0, 1) := dk_42 (dk_at dksX5_one_2 21 rfl rfl)
theorem dX5_one_70 : decode cX5_one 70 = .ok (.invokevirtual 141, 3) := dk_182 0 141 (dk_at dksX5_one_3 0 rfl rfl)
theorem dX5_one_73 : decode cX5_one 73 = .ok (.iadd, 1) := dk_96 (dk_at dksX5_one_3 3 rfl rfl)
theorem dX5_one_74 : decode cX5_one 74 = .ok (.bipush 48, 2) := dk_16 48 (dk_at dksX5_one_3 4 rfl rfl)
theorem dX5_one_76 : decode cX5_one 76 = .ok (.isub, 1) := dk_100 (dk_at dksX5_one_3 6 rfl rfl)
theorem dX5_one_77 : decode cX5_one 77 = .ok (.istore_n 2, 1) := dk_61 (dk_at dksX5_one_3 7 rfl rfl)
theorem dX5_one_78 : decode cX5_one 78 = .ok (.aload_n 0, 1) := dk_42 (dk_at dksX5_one_3 8 rfl rfl)
theorem dX5_one_79 : decode cX5_one 79 = .ok (.dup, 1) := dk_89 (dk_at dksX5_one_3 9 rfl rfl)
theorem dX5_one_80 : decode cX5_one 80 = .ok (.getfield 127, 3) := dk_180 0 127 (dk_at dksX5_one_3 10 rfl rfl)
theorem dX5_one_83 : decode cX5_one 83 = .ok (.iconst 1, 1) := dk_4 (dk_at dksX5_one_3 13 rfl rfl)
theorem dX5_one_84 : decode cX5_one 84 = .ok (.iadd, 1) := dk_96 (dk_at dksX5_one_3 14 rfl rfl)
theorem dX5_one_85 : decode cX5_one 85 = .ok (.putfield 127, 3) := dk_181 0 127 (dk_at dksX5_one_3 15 rfl rfl)
theorem dX5_one_88 : decode cX5_one 88 = .ok (.iinc 3 1, 3) := dk_132 3 1 (dk_at dksX5_one_3 18 rfl rfl)
theorem dX5_one_91 : decode cX5_one 91 = .ok (.goto (-45), 3) := dk_167 255 211 (dk_at dksX5_one_3 21 rfl rfl)
theorem dX5_one_94 : decode cX5_one 94 = .ok (.aload_n 0, 1) := dk_42 (dk_at dksX5_one_4 0 rfl rfl)
theorem dX5_one_95 : decode cX5_one 95 = .ok (.iconst 0, 1) := dk_3 (dk_at dksX5_one_4 1 rfl rfl)
theorem dX5_one_96 : decode cX5_one 96 = .ok (.iload_n 2, 1) := dk_28 (dk_at dksX5_one_4 2 rfl rfl)
theorem dX5_one_97 : decode cX5_one 97 = .ok (.invokevirtual 145, 3) := dk_182 0 145 (dk_at dksX5_one_4 3 rfl rfl)
theorem dX5_one_100 : decode cX5_one 100 = .ok (.iconst 1, 1) := dk_4 (dk_at dksX5_one_4 6 rfl rfl)
theorem dX5_one_101 : decode cX5_one 101 = .ok (.ireturn, 1) := dk_172 (dk_at dksX5_one_4 7 rfl rfl)
theorem dX5_one_102 : decode cX5_one 102 = .ok (.iload_n 1, 1) := dk_27 (dk_at dksX5_one_4 8 rfl rfl)
theorem dX5_one_103 : decode cX5_one 103 = .ok (.bipush 33, 2) := dk_16 33 (dk_at dksX5_one_4 9 rfl rfl)
theorem dX5_one_105 : decode cX5_one 105 = .ok (.if_icmp .ne 37, 3) := dk_160 0 37 (dk_at dksX5_one_4 11 rfl rfl)
theorem dX5_one_108 : decode cX5_one 108 = .ok (.aload_n 0, 1) := dk_42 (dk_at dksX5_one_4 14 rfl rfl)
theorem dX5_one_109 : decode cX5_one 109 = .ok (.invokevirtual 167, 3) := dk_182 0 167 (dk_at dksX5_one_4 15 rfl rfl)
theorem dX5_one_112 : decode cX5_one 112 = .ok (.ifCond .eq 10, 3) := dk_153 0 10 (dk_at dksX5_one_4 18 rfl rfl)
theorem dX5_one_115 : decode cX5_one 115 = .ok (.aload_n 0, 1) := dk_42 (dk_at dksX5_one_4 21 rfl rfl)
theorem dX5_one_116 : decode cX5_one 116 = .ok (.invokevirtual 158, 3) := dk_182 0 158 (dk_at dksX5_one_5 0 rfl rfl)
theorem dX5_one_119 : decode cX5_one 119 = .ok (.ifCond .ne 5, 3) := dk_154 0 5 (dk_at dksX5_one_5 3 rfl rfl)
theorem dX5_one_122 : decode cX5_one 122 = .ok (.iconst 0, 1) := dk_3 (dk_at dksX5_one_5 6 rfl rfl)
theorem dX5_one_123 : decode cX5_one 123 = .ok (.ireturn, 1) := dk_172 (dk_at dksX5_one_5 7 rfl rfl)
theorem dX5_one_124 : decode cX5_one 124 = .ok (.aload_n 0, 1) := dk_42 (dk_at dksX5_one_5 8 rfl rfl)
theorem dX5_one_125 : decode cX5_one 125 = .ok (.dup, 1) := dk_89 (dk_at dksX5_one_5 9 rfl rfl)
theorem dX5_one_126 : decode cX5_one 126 = .ok (.getfield 161, 3) := dk_180 0 161 (dk_at dksX5_one_5 10 rfl rfl)
theorem dX5_one_129 : decode cX5_one 129 = .ok (.iconst 1, 1) := dk_4 (dk_at dksX5_one_5 13 rfl rfl)
theorem dX5_one_130 : decode cX5_one 130 = .ok (.isub, 1) := dk_100 (dk_at dksX5_one_5 14 rfl rfl)
theorem dX5_one_131 : decode cX5_one 131 = .ok (.putfield 161, 3) := dk_181 0 161 (dk_at dksX5_one_5 15 rfl rfl)
theorem dX5_one_134 : decode cX5_one 134 = .ok (.aload_n 0, 1) := dk_42 (dk_at dksX5_one_5 18 rfl rfl)
theorem dX5_one_135 : decode cX5_one 135 = .ok (.iconst 2, 1) := dk_5 (dk_at dksX5_one_5 19 rfl rfl)
theorem dX5_one_136 : decode cX5_one 136 = .ok (.iconst 0, 1) := dk_3 (dk_at dksX5_one_5 20 rfl rfl)
theorem dX5_one_137 : decode cX5_one 137 = .ok (.invokevirtual 145, 3) := dk_182 0 145 (dk_at dksX5_one_5 21 rfl rfl)
theorem dX5_one_140 : decode cX5_one 140 = .ok (.iconst 1, 1) := dk_4 (dk_at dksX5_one_6 0 rfl rfl)
theorem dX5_one_141 : decode cX5_one 141 = .ok (.ireturn, 1) := dk_172 (dk_at dksX5_one_6 1 rfl rfl)
theorem dX5_one_142 : decode cX5_one 142 = .ok (.iload_n 1, 1) := dk_27 (dk_at dksX5_one_6 2 rfl rfl)
theorem dX5_one_143 : decode cX5_one 143 = .ok (.bipush 40, 2) := dk_16 40 (dk_at dksX5_one_6 3 rfl rfl)
theorem dX5_one_145 : decode cX5_one 145 = .ok (.if_icmp .ne 26, 3) := dk_160 0 26 (dk_at dksX5_one_6 5 rfl rfl)
theorem dX5_one_148 : decode cX5_one 148 = .ok (.aload_n 0, 1) := dk_42 (dk_at dksX5_one_6 8 rfl rfl)
theorem dX5_one_149 : decode cX5_one 149 = .ok (.invokevirtual 167, 3) := dk_182 0 167 (dk_at dksX5_one_6 9 rfl rfl)
theorem dX5_one_152 : decode cX5_one 152 = .ok (.ifCond .eq 19, 3) := dk_153 0 19 (dk_at dksX5_one_6 12 rfl rfl)
theorem dX5_one_155 : decode cX5_one 155 = .ok (.aload_n 0, 1) := dk_42 (dk_at dksX5_one_6 15 rfl rfl)
theorem dX5_one_156 : decode cX5_one 156 = .ok (.invokevirtual 170, 3) := dk_182 0 170 (dk_at dksX5_one_6 16 rfl rfl)
theorem dX5_one_159 : decode cX5_one 159 = .ok (.ifCond .eq 12, 3) := dk_153 0 12 (dk_at dksX5_one_6 19 rfl rfl)
theorem dX5_one_162 : decode cX5_one 162 = .ok (.aload_n 0, 1) := dk_42 (dk_at dksX5_one_6 22 rfl rfl)
theorem dX5_one_163 : decode cX5_one 163 = .ok (.invokevirtual 141, 3) := dk_182 0 141 (dk_at dksX5_one_7 0 rfl rfl)
theorem dX5_one_166 : decode cX5_one 166 = .ok (.bipush 41, 2) := dk_16 41 (dk_at dksX5_one_7 3 rfl rfl)
theorem dX5_one_168 : decode cX5_one 168 = .ok (.if_icmp .eq 5, 3) := dk_159 0 5 (dk_at dksX5_one_7 5 rfl rfl)
theorem dX5_one_171 : decode cX5_one 171 = .ok (.iconst 0, 1) := dk_3 (dk_at dksX5_one_7 8 rfl rfl)
theorem dX5_one_172 : decode cX5_one 172 = .ok (.ireturn, 1) := dk_172 (dk_at dksX5_one_7 9 rfl rfl)
theorem dX5_one_173 : decode cX5_one 173 = .ok (.aload_n 0, 1) := dk_42 (dk_at dksX5_one_7 10 rfl rfl)
theorem dX5_one_174 : decode cX5_one 174 = .ok (.dup, 1) := dk_89 (dk_at dksX5_one_7 11 rfl rfl)
theorem dX5_one_175 : decode cX5_one 175 = .ok (.getfield 127, 3) := dk_180 0 127 (dk_at dksX5_one_7 12 rfl rfl)
theorem dX5_one_178 : decode cX5_one 178 = .ok (.iconst 1, 1) := dk_4 (dk_at dksX5_one_7 15 rfl rfl)
theorem dX5_one_179 : decode cX5_one 179 = .ok (.iadd, 1) := dk_96 (dk_at dksX5_one_7 16 rfl rfl)
theorem dX5_one_180 : decode cX5_one 180 = .ok (.putfield 127, 3) := dk_181 0 127 (dk_at dksX5_one_7 17 rfl rfl)
theorem dX5_one_183 : decode cX5_one 183 = .ok (.aload_n 0, 1) := dk_42 (dk_at dksX5_one_7 20 rfl rfl)
theorem dX5_one_184 : decode cX5_one 184 = .ok (.dup, 1) := dk_89 (dk_at dksX5_one_7 21 rfl rfl)
theorem dX5_one_185 : decode cX5_one 185 = .ok (.getfield 161, 3) := dk_180 0 161 (dk_at dksX5_one_8 0 rfl rfl)
theorem dX5_one_188 : decode cX5_one 188 = .ok (.iconst 1, 1) := dk_4 (dk_at dksX5_one_8 3 rfl rfl)
theorem dX5_one_189 : decode cX5_one 189 = .ok (.isub, 1) := dk_100 (dk_at dksX5_one_8 4 rfl rfl)
theorem dX5_one_190 : decode cX5_one 190 = .ok (.putfield 161, 3) := dk_181 0 161 (dk_at dksX5_one_8 5 rfl rfl)
theorem dX5_one_193 : decode cX5_one 193 = .ok (.iconst 1, 1) := dk_4 (dk_at dksX5_one_8 8 rfl rfl)
theorem dX5_one_194 : decode cX5_one 194 = .ok (.ireturn, 1) := dk_172 (dk_at dksX5_one_8 9 rfl rfl)
abbrev cX5_look : ByteArray := prog_20_method_32_code
def yX5_look : MethodName := ⟨RX5, "look", "()I"⟩
def dkwX5_look_1 : List UInt8 := [96, 46, 167, 0, 4, 2, 172]
abbrev dktX5_look_1 : List UInt8 := dkwX5_look_1 ++ []
def dkwX5_look_0 : List UInt8 := [42, 180, 0, 127, 42, 180, 0, 7, 6, 46, 162, 0, 19, 42, 180, 0, 7, 17, 1, 109, 42, 180, 0, 127]
abbrev dktX5_look_0 : List UInt8 := dkwX5_look_0 ++ dktX5_look_1
theorem dksX5_look_0 : cX5_look.data.toList.drop 0 = dktX5_look_0 := by decide +kernel
theorem dksX5_look_1 : cX5_look.data.toList.drop 24 = dktX5_look_1 := dk_seg dksX5_look_0 24 rfl rfl
theorem dX5_look_0 : decode cX5_look 0 = .ok (.aload_n 0, 1) := dk_42 (dk_at dksX5_look_0 0 rfl rfl)
theorem dX5_look_1 : decode cX5_look 1 = .ok (.getfield 127, 3) := dk_180 0 127 (dk_at dksX5_look_0 1 rfl rfl)
theorem dX5_look_4 : decode cX5_look 4 = .ok (.aload_n 0, 1) := dk_42 (dk_at dksX5_look_0 4 rfl rfl)
theorem dX5_look_5 : decode cX5_look 5 = .ok (.getfield 7, 3) := dk_180 0 7 (dk_at dksX5_look_0 5 rfl rfl)
theorem dX5_look_8 : decode cX5_look 8 = .ok (.iconst 3, 1) := dk_6 (dk_at dksX5_look_0 8 rfl rfl)
theorem dX5_look_9 : decode cX5_look 9 = .ok (.iaload, 1) := dk_46 (dk_at dksX5_look_0 9 rfl rfl)
theorem dX5_look_10 : decode cX5_look 10 = .ok (.if_icmp .ge 19, 3) := dk_162 0 19 (dk_at dksX5_look_0 10 rfl rfl)
theorem dX5_look_13 : decode cX5_look 13 = .ok (.aload_n 0, 1) := dk_42 (dk_at dksX5_look_0 13 rfl rfl)
theorem dX5_look_14 : decode cX5_look 14 = .ok (.getfield 7, 3) := dk_180 0 7 (dk_at dksX5_look_0 14 rfl rfl)
theorem dX5_look_17 : decode cX5_look 17 = .ok (.sipush 365, 3) := dk_17 1 109 (dk_at dksX5_look_0 17 rfl rfl)
theorem dX5_look_20 : decode cX5_look 20 = .ok (.aload_n 0, 1) := dk_42 (dk_at dksX5_look_0 20 rfl rfl)
theorem dX5_look_21 : decode cX5_look 21 = .ok (.getfield 127, 3) := dk_180 0 127 (dk_at dksX5_look_0 21 rfl rfl)
theorem dX5_look_24 : decode cX5_look 24 = .ok (.iadd, 1) := dk_96 (dk_at dksX5_look_1 0 rfl rfl)
theorem dX5_look_25 : decode cX5_look 25 = .ok (.iaload, 1) := dk_46 (dk_at dksX5_look_1 1 rfl rfl)
theorem dX5_look_26 : decode cX5_look 26 = .ok (.goto 4, 3) := dk_167 0 4 (dk_at dksX5_look_1 2 rfl rfl)
theorem dX5_look_29 : decode cX5_look 29 = .ok (.iconst (-1), 1) := dk_2 (dk_at dksX5_look_1 5 rfl rfl)
theorem dX5_look_30 : decode cX5_look 30 = .ok (.ireturn, 1) := dk_172 (dk_at dksX5_look_1 6 rfl rfl)
abbrev cX5_isName : ByteArray := prog_20_method_33_code
def yX5_isName : MethodName := ⟨RX5, "isName", "(I)Z"⟩
def dkwX5_isName_2 : List UInt8 := [16, 99, 160, 0, 7, 4, 167, 0, 4, 3, 172]
abbrev dktX5_isName_2 : List UInt8 := dkwX5_isName_2 ++ []
def dkwX5_isName_1 : List UInt8 := [159, 0, 9, 27, 16, 104, 160, 0, 7, 4, 167, 0, 24, 3, 167, 0, 20, 27, 16, 116, 159, 0, 9, 27]
abbrev dktX5_isName_1 : List UInt8 := dkwX5_isName_1 ++ dktX5_isName_2
def dkwX5_isName_0 : List UInt8 := [27, 16, 109, 160, 0, 5, 4, 172, 42, 180, 0, 131, 154, 0, 29, 27, 16, 102, 159, 0, 15, 27, 16, 112]
abbrev dktX5_isName_0 : List UInt8 := dkwX5_isName_0 ++ dktX5_isName_1
theorem dksX5_isName_0 : cX5_isName.data.toList.drop 0 = dktX5_isName_0 := by decide +kernel
theorem dksX5_isName_1 : cX5_isName.data.toList.drop 24 = dktX5_isName_1 := dk_seg dksX5_isName_0 24 rfl rfl
theorem dksX5_isName_2 : cX5_isName.data.toList.drop 48 = dktX5_isName_2 := dk_seg dksX5_isName_1 24 rfl rfl
theorem dX5_isName_0 : decode cX5_isName 0 = .ok (.iload_n 1, 1) := dk_27 (dk_at dksX5_isName_0 0 rfl rfl)
theorem dX5_isName_1 : decode cX5_isName 1 = .ok (.bipush 109, 2) := dk_16 109 (dk_at dksX5_isName_0 1 rfl rfl)
theorem dX5_isName_3 : decode cX5_isName 3 = .ok (.if_icmp .ne 5, 3) := dk_160 0 5 (dk_at dksX5_isName_0 3 rfl rfl)
theorem dX5_isName_6 : decode cX5_isName 6 = .ok (.iconst 1, 1) := dk_4 (dk_at dksX5_isName_0 6 rfl rfl)
theorem dX5_isName_7 : decode cX5_isName 7 = .ok (.ireturn, 1) := dk_172 (dk_at dksX5_isName_0 7 rfl rfl)
theorem dX5_isName_8 : decode cX5_isName 8 = .ok (.aload_n 0, 1) := dk_42 (dk_at dksX5_isName_0 8 rfl rfl)
theorem dX5_isName_9 : decode cX5_isName 9 = .ok (.getfield 131, 3) := dk_180 0 131 (dk_at dksX5_isName_0 9 rfl rfl)
theorem dX5_isName_12 : decode cX5_isName 12 = .ok (.ifCond .ne 29, 3) := dk_154 0 29 (dk_at dksX5_isName_0 12 rfl rfl)
theorem dX5_isName_15 : decode cX5_isName 15 = .ok (.iload_n 1, 1) := dk_27 (dk_at dksX5_isName_0 15 rfl rfl)
theorem dX5_isName_16 : decode cX5_isName 16 = .ok (.bipush 102, 2) := dk_16 102 (dk_at dksX5_isName_0 16 rfl rfl)
theorem dX5_isName_18 : decode cX5_isName 18 = .ok (.if_icmp .eq 15, 3) := dk_159 0 15 (dk_at dksX5_isName_0 18 rfl rfl)
theorem dX5_isName_21 : decode cX5_isName 21 = .ok (.iload_n 1, 1) := dk_27 (dk_at dksX5_isName_0 21 rfl rfl)
theorem dX5_isName_22 : decode cX5_isName 22 = .ok (.bipush 112, 2) := dk_16 112 (dk_at dksX5_isName_0 22 rfl rfl)
theorem dX5_isName_24 : decode cX5_isName 24 = .ok (.if_icmp .eq 9, 3) := dk_159 0 9 (dk_at dksX5_isName_1 0 rfl rfl)
theorem dX5_isName_27 : decode cX5_isName 27 = .ok (.iload_n 1, 1) := dk_27 (dk_at dksX5_isName_1 3 rfl rfl)
theorem dX5_isName_28 : decode cX5_isName 28 = .ok (.bipush 104, 2) := dk_16 104 (dk_at dksX5_isName_1 4 rfl rfl)
theorem dX5_isName_30 : decode cX5_isName 30 = .ok (.if_icmp .ne 7, 3) := dk_160 0 7 (dk_at dksX5_isName_1 6 rfl rfl)
theorem dX5_isName_33 : decode cX5_isName 33 = .ok (.iconst 1, 1) := dk_4 (dk_at dksX5_isName_1 9 rfl rfl)
theorem dX5_isName_34 : decode cX5_isName 34 = .ok (.goto 24, 3) := dk_167 0 24 (dk_at dksX5_isName_1 10 rfl rfl)
theorem dX5_isName_37 : decode cX5_isName 37 = .ok (.iconst 0, 1) := dk_3 (dk_at dksX5_isName_1 13 rfl rfl)
theorem dX5_isName_38 : decode cX5_isName 38 = .ok (.goto 20, 3) := dk_167 0 20 (dk_at dksX5_isName_1 14 rfl rfl)
theorem dX5_isName_41 : decode cX5_isName 41 = .ok (.iload_n 1, 1) := dk_27 (dk_at dksX5_isName_1 17 rfl rfl)
theorem dX5_isName_42 : decode cX5_isName 42 = .ok (.bipush 116, 2) := dk_16 116 (dk_at dksX5_isName_1 18 rfl rfl)
theorem dX5_isName_44 : decode cX5_isName 44 = .ok (.if_icmp .eq 9, 3) := dk_159 0 9 (dk_at dksX5_isName_1 20 rfl rfl)
theorem dX5_isName_47 : decode cX5_isName 47 = .ok (.iload_n 1, 1) := dk_27 (dk_at dksX5_isName_1 23 rfl rfl)
theorem dX5_isName_48 : decode cX5_isName 48 = .ok (.bipush 99, 2) := dk_16 99 (dk_at dksX5_isName_2 0 rfl rfl)
theorem dX5_isName_50 : decode cX5_isName 50 = .ok (.if_icmp .ne 7, 3) := dk_160 0 7 (dk_at dksX5_isName_2 2 rfl rfl)
theorem dX5_isName_53 : decode cX5_isName 53 = .ok (.iconst 1, 1) := dk_4 (dk_at dksX5_isName_2 5 rfl rfl)
theorem dX5_isName_54 : decode cX5_isName 54 = .ok (.goto 4, 3) := dk_167 0 4 (dk_at dksX5_isName_2 6 rfl rfl)
theorem dX5_isName_57 : decode cX5_isName 57 = .ok (.iconst 0, 1) := dk_3 (dk_at dksX5_isName_2 9 rfl rfl)
theorem dX5_isName_58 : decode cX5_isName 58 = .ok (.ireturn, 1) := dk_172 (dk_at dksX5_isName_2 10 rfl rfl)
abbrev cX5_step1 : ByteArray := prog_20_method_34_code
def yX5_step1 : MethodName := ⟨RX5, "step1", "(II)V"⟩
def dkwX5_step1_1 : List UInt8 := [28, 79, 42, 89, 180, 0, 134, 4, 96, 181, 0, 134, 177]
abbrev dktX5_step1_1 : List UInt8 := dkwX5_step1_1 ++ []
def dkwX5_step1_0 : List UInt8 := [42, 180, 0, 22, 5, 42, 180, 0, 134, 104, 27, 79, 42, 180, 0, 22, 5, 42, 180, 0, 134, 104, 4, 96]
abbrev dktX5_step1_0 : List UInt8 := dkwX5_step1_0 ++ dktX5_step1_1
theorem dksX5_step1_0 : cX5_step1.data.toList.drop 0 = dktX5_step1_0 := by decide +kernel
theorem dksX5_step1_1 : cX5_step1.data.toList.drop 24 = dktX5_step1_1 := dk_seg dksX5_step1_0 24 rfl rfl
theorem dX5_step1_0 : decode cX5_step1 0 = .ok (.aload_n 0, 1) := dk_42 (dk_at dksX5_step1_0 0 rfl rfl)
theorem dX5_step1_1 : decode cX5_step1 1 = .ok (.getfield 22, 3) := dk_180 0 22 (dk_at dksX5_step1_0 1 rfl rfl)
theorem dX5_step1_4 : decode cX5_step1 4 = .ok (.iconst 2, 1) := dk_5 (dk_at dksX5_step1_0 4 rfl rfl)
theorem dX5_step1_5 : decode cX5_step1 5 = .ok (.aload_n 0, 1) := dk_42 (dk_at dksX5_step1_0 5 rfl rfl)
theorem dX5_step1_6 : decode cX5_step1 6 = .ok (.getfield 134, 3) := dk_180 0 134 (dk_at dksX5_step1_0 6 rfl rfl)
theorem dX5_step1_9 : decode cX5_step1 9 = .ok (.imul, 1) := dk_104 (dk_at dksX5_step1_0 9 rfl rfl)
theorem dX5_step1_10 : decode cX5_step1 10 = .ok (.iload_n 1, 1) := dk_27 (dk_at dksX5_step1_0 10 rfl rfl)
theorem dX5_step1_11 : decode cX5_step1 11 = .ok (.iastore, 1) := dk_79 (dk_at dksX5_step1_0 11 rfl rfl)
theorem dX5_step1_12 : decode cX5_step1 12 = .ok (.aload_n 0, 1) := dk_42 (dk_at dksX5_step1_0 12 rfl rfl)
theorem dX5_step1_13 : decode cX5_step1 13 = .ok (.getfield 22, 3) := dk_180 0 22 (dk_at dksX5_step1_0 13 rfl rfl)
theorem dX5_step1_16 : decode cX5_step1 16 = .ok (.iconst 2, 1) := dk_5 (dk_at dksX5_step1_0 16 rfl rfl)
theorem dX5_step1_17 : decode cX5_step1 17 = .ok (.aload_n 0, 1) := dk_42 (dk_at dksX5_step1_0 17 rfl rfl)
theorem dX5_step1_18 : decode cX5_step1 18 = .ok (.getfield 134, 3) := dk_180 0 134 (dk_at dksX5_step1_0 18 rfl rfl)
theorem dX5_step1_21 : decode cX5_step1 21 = .ok (.imul, 1) := dk_104 (dk_at dksX5_step1_0 21 rfl rfl)
theorem dX5_step1_22 : decode cX5_step1 22 = .ok (.iconst 1, 1) := dk_4 (dk_at dksX5_step1_0 22 rfl rfl)
theorem dX5_step1_23 : decode cX5_step1 23 = .ok (.iadd, 1) := dk_96 (dk_at dksX5_step1_0 23 rfl rfl)
theorem dX5_step1_24 : decode cX5_step1 24 = .ok (.iload_n 2, 1) := dk_28 (dk_at dksX5_step1_1 0 rfl rfl)
theorem dX5_step1_25 : decode cX5_step1 25 = .ok (.iastore, 1) := dk_79 (dk_at dksX5_step1_1 1 rfl rfl)
theorem dX5_step1_26 : decode cX5_step1 26 = .ok (.aload_n 0, 1) := dk_42 (dk_at dksX5_step1_1 2 rfl rfl)
theorem dX5_step1_27 : decode cX5_step1 27 = .ok (.dup, 1) := dk_89 (dk_at dksX5_step1_1 3 rfl rfl)
theorem dX5_step1_28 : decode cX5_step1 28 = .ok (.getfield 134, 3) := dk_180 0 134 (dk_at dksX5_step1_1 4 rfl rfl)
theorem dX5_step1_31 : decode cX5_step1 31 = .ok (.iconst 1, 1) := dk_4 (dk_at dksX5_step1_1 7 rfl rfl)
theorem dX5_step1_32 : decode cX5_step1 32 = .ok (.iadd, 1) := dk_96 (dk_at dksX5_step1_1 8 rfl rfl)
theorem dX5_step1_33 : decode cX5_step1 33 = .ok (.putfield 134, 3) := dk_181 0 134 (dk_at dksX5_step1_1 9 rfl rfl)
theorem dX5_step1_36 : decode cX5_step1 36 = .ok (.return_, 1) := dk_177 (dk_at dksX5_step1_1 12 rfl rfl)
abbrev cX5_opens : ByteArray := prog_20_method_40_code
def yX5_opens : MethodName := ⟨RX5, "opens", "()Z"⟩
def dkwX5_opens_1 : List UInt8 := [180, 0, 127, 4, 96, 181, 0, 127, 4, 172]
abbrev dktX5_opens_1 : List UInt8 := dkwX5_opens_1 ++ []
def dkwX5_opens_0 : List UInt8 := [42, 180, 0, 161, 8, 160, 0, 5, 3, 172, 42, 89, 180, 0, 161, 4, 96, 181, 0, 161, 42, 89]
abbrev dktX5_opens_0 : List UInt8 := dkwX5_opens_0 ++ dktX5_opens_1
theorem dksX5_opens_0 : cX5_opens.data.toList.drop 0 = dktX5_opens_0 := by decide +kernel
theorem dksX5_opens_1 : cX5_opens.data.toList.drop 22 = dktX5_opens_1 := dk_seg dksX5_opens_0 22 rfl rfl
theorem dX5_opens_0 : decode cX5_opens 0 = .ok (.aload_n 0, 1) := dk_42 (dk_at dksX5_opens_0 0 rfl rfl)
theorem dX5_opens_1 : decode cX5_opens 1 = .ok (.getfield 161, 3) := dk_180 0 161 (dk_at dksX5_opens_0 1 rfl rfl)
theorem dX5_opens_4 : decode cX5_opens 4 = .ok (.iconst 5, 1) := dk_8 (dk_at dksX5_opens_0 4 rfl rfl)
theorem dX5_opens_5 : decode cX5_opens 5 = .ok (.if_icmp .ne 5, 3) := dk_160 0 5 (dk_at dksX5_opens_0 5 rfl rfl)
theorem dX5_opens_8 : decode cX5_opens 8 = .ok (.iconst 0, 1) := dk_3 (dk_at dksX5_opens_0 8 rfl rfl)
theorem dX5_opens_9 : decode cX5_opens 9 = .ok (.ireturn, 1) := dk_172 (dk_at dksX5_opens_0 9 rfl rfl)
theorem dX5_opens_10 : decode cX5_opens 10 = .ok (.aload_n 0, 1) := dk_42 (dk_at dksX5_opens_0 10 rfl rfl)
theorem dX5_opens_11 : decode cX5_opens 11 = .ok (.dup, 1) := dk_89 (dk_at dksX5_opens_0 11 rfl rfl)
theorem dX5_opens_12 : decode cX5_opens 12 = .ok (.getfield 161, 3) := dk_180 0 161 (dk_at dksX5_opens_0 12 rfl rfl)
theorem dX5_opens_15 : decode cX5_opens 15 = .ok (.iconst 1, 1) := dk_4 (dk_at dksX5_opens_0 15 rfl rfl)
theorem dX5_opens_16 : decode cX5_opens 16 = .ok (.iadd, 1) := dk_96 (dk_at dksX5_opens_0 16 rfl rfl)
theorem dX5_opens_17 : decode cX5_opens 17 = .ok (.putfield 161, 3) := dk_181 0 161 (dk_at dksX5_opens_0 17 rfl rfl)
theorem dX5_opens_20 : decode cX5_opens 20 = .ok (.aload_n 0, 1) := dk_42 (dk_at dksX5_opens_0 20 rfl rfl)
theorem dX5_opens_21 : decode cX5_opens 21 = .ok (.dup, 1) := dk_89 (dk_at dksX5_opens_0 21 rfl rfl)
theorem dX5_opens_22 : decode cX5_opens 22 = .ok (.getfield 127, 3) := dk_180 0 127 (dk_at dksX5_opens_1 0 rfl rfl)
theorem dX5_opens_25 : decode cX5_opens 25 = .ok (.iconst 1, 1) := dk_4 (dk_at dksX5_opens_1 3 rfl rfl)
theorem dX5_opens_26 : decode cX5_opens 26 = .ok (.iadd, 1) := dk_96 (dk_at dksX5_opens_1 4 rfl rfl)
theorem dX5_opens_27 : decode cX5_opens 27 = .ok (.putfield 127, 3) := dk_181 0 127 (dk_at dksX5_opens_1 5 rfl rfl)
theorem dX5_opens_30 : decode cX5_opens 30 = .ok (.iconst 1, 1) := dk_4 (dk_at dksX5_opens_1 8 rfl rfl)
theorem dX5_opens_31 : decode cX5_opens 31 = .ok (.ireturn, 1) := dk_172 (dk_at dksX5_opens_1 9 rfl rfl)
abbrev cX5_untell : ByteArray := prog_20_method_44_code
def yX5_untell : MethodName := ⟨RX5, "untell", "(I)I"⟩
def dkwX5_untell_1 : List UInt8 := [167, 0, 4, 3, 61, 42, 180, 0, 7, 16, 115, 16, 125, 27, 104, 96, 3, 79, 28, 172]
abbrev dktX5_untell_1 : List UInt8 := dkwX5_untell_1 ++ []
def dkwX5_untell_0 : List UInt8 := [27, 3, 4, 184, 0, 56, 154, 0, 9, 42, 4, 182, 0, 76, 172, 42, 27, 182, 0, 173, 153, 0, 7, 4]
abbrev dktX5_untell_0 : List UInt8 := dkwX5_untell_0 ++ dktX5_untell_1
theorem dksX5_untell_0 : cX5_untell.data.toList.drop 0 = dktX5_untell_0 := by decide +kernel
theorem dksX5_untell_1 : cX5_untell.data.toList.drop 24 = dktX5_untell_1 := dk_seg dksX5_untell_0 24 rfl rfl
theorem dX5_untell_0 : decode cX5_untell 0 = .ok (.iload_n 1, 1) := dk_27 (dk_at dksX5_untell_0 0 rfl rfl)
theorem dX5_untell_1 : decode cX5_untell 1 = .ok (.iconst 0, 1) := dk_3 (dk_at dksX5_untell_0 1 rfl rfl)
theorem dX5_untell_2 : decode cX5_untell 2 = .ok (.iconst 1, 1) := dk_4 (dk_at dksX5_untell_0 2 rfl rfl)
theorem dX5_untell_3 : decode cX5_untell 3 = .ok (.invokestatic 56, 3) := dk_184 0 56 (dk_at dksX5_untell_0 3 rfl rfl)
theorem dX5_untell_6 : decode cX5_untell 6 = .ok (.ifCond .ne 9, 3) := dk_154 0 9 (dk_at dksX5_untell_0 6 rfl rfl)
theorem dX5_untell_9 : decode cX5_untell 9 = .ok (.aload_n 0, 1) := dk_42 (dk_at dksX5_untell_0 9 rfl rfl)
theorem dX5_untell_10 : decode cX5_untell 10 = .ok (.iconst 1, 1) := dk_4 (dk_at dksX5_untell_0 10 rfl rfl)
theorem dX5_untell_11 : decode cX5_untell 11 = .ok (.invokevirtual 76, 3) := dk_182 0 76 (dk_at dksX5_untell_0 11 rfl rfl)
theorem dX5_untell_14 : decode cX5_untell 14 = .ok (.ireturn, 1) := dk_172 (dk_at dksX5_untell_0 14 rfl rfl)
theorem dX5_untell_15 : decode cX5_untell 15 = .ok (.aload_n 0, 1) := dk_42 (dk_at dksX5_untell_0 15 rfl rfl)
theorem dX5_untell_16 : decode cX5_untell 16 = .ok (.iload_n 1, 1) := dk_27 (dk_at dksX5_untell_0 16 rfl rfl)
theorem dX5_untell_17 : decode cX5_untell 17 = .ok (.invokevirtual 173, 3) := dk_182 0 173 (dk_at dksX5_untell_0 17 rfl rfl)
theorem dX5_untell_20 : decode cX5_untell 20 = .ok (.ifCond .eq 7, 3) := dk_153 0 7 (dk_at dksX5_untell_0 20 rfl rfl)
theorem dX5_untell_23 : decode cX5_untell 23 = .ok (.iconst 1, 1) := dk_4 (dk_at dksX5_untell_0 23 rfl rfl)
theorem dX5_untell_24 : decode cX5_untell 24 = .ok (.goto 4, 3) := dk_167 0 4 (dk_at dksX5_untell_1 0 rfl rfl)
theorem dX5_untell_27 : decode cX5_untell 27 = .ok (.iconst 0, 1) := dk_3 (dk_at dksX5_untell_1 3 rfl rfl)
theorem dX5_untell_28 : decode cX5_untell 28 = .ok (.istore_n 2, 1) := dk_61 (dk_at dksX5_untell_1 4 rfl rfl)
theorem dX5_untell_29 : decode cX5_untell 29 = .ok (.aload_n 0, 1) := dk_42 (dk_at dksX5_untell_1 5 rfl rfl)
theorem dX5_untell_30 : decode cX5_untell 30 = .ok (.getfield 7, 3) := dk_180 0 7 (dk_at dksX5_untell_1 6 rfl rfl)
theorem dX5_untell_33 : decode cX5_untell 33 = .ok (.bipush 115, 2) := dk_16 115 (dk_at dksX5_untell_1 9 rfl rfl)
theorem dX5_untell_35 : decode cX5_untell 35 = .ok (.bipush 125, 2) := dk_16 125 (dk_at dksX5_untell_1 11 rfl rfl)
theorem dX5_untell_37 : decode cX5_untell 37 = .ok (.iload_n 1, 1) := dk_27 (dk_at dksX5_untell_1 13 rfl rfl)
theorem dX5_untell_38 : decode cX5_untell 38 = .ok (.imul, 1) := dk_104 (dk_at dksX5_untell_1 14 rfl rfl)
theorem dX5_untell_39 : decode cX5_untell 39 = .ok (.iadd, 1) := dk_96 (dk_at dksX5_untell_1 15 rfl rfl)
theorem dX5_untell_40 : decode cX5_untell 40 = .ok (.iconst 0, 1) := dk_3 (dk_at dksX5_untell_1 16 rfl rfl)
theorem dX5_untell_41 : decode cX5_untell 41 = .ok (.iastore, 1) := dk_79 (dk_at dksX5_untell_1 17 rfl rfl)
theorem dX5_untell_42 : decode cX5_untell 42 = .ok (.iload_n 2, 1) := dk_28 (dk_at dksX5_untell_1 18 rfl rfl)
theorem dX5_untell_43 : decode cX5_untell 43 = .ok (.ireturn, 1) := dk_172 (dk_at dksX5_untell_1 19 rfl rfl)
abbrev cX5_flows : ByteArray := prog_20_method_54_code
def yX5_flows : MethodName := ⟨RX5, "flows", "(I)I"⟩
def dkwX5_flows_0 : List UInt8 := [27, 184, 0, 79, 154, 0, 9, 42, 4, 182, 0, 76, 172, 42, 182, 0, 103, 42, 180, 0, 31, 27, 46, 172]
abbrev dktX5_flows_0 : List UInt8 := dkwX5_flows_0 ++ []
theorem dksX5_flows_0 : cX5_flows.data.toList.drop 0 = dktX5_flows_0 := by decide +kernel
theorem dX5_flows_0 : decode cX5_flows 0 = .ok (.iload_n 1, 1) := dk_27 (dk_at dksX5_flows_0 0 rfl rfl)
theorem dX5_flows_1 : decode cX5_flows 1 = .ok (.invokestatic 79, 3) := dk_184 0 79 (dk_at dksX5_flows_0 1 rfl rfl)
theorem dX5_flows_4 : decode cX5_flows 4 = .ok (.ifCond .ne 9, 3) := dk_154 0 9 (dk_at dksX5_flows_0 4 rfl rfl)
theorem dX5_flows_7 : decode cX5_flows 7 = .ok (.aload_n 0, 1) := dk_42 (dk_at dksX5_flows_0 7 rfl rfl)
theorem dX5_flows_8 : decode cX5_flows 8 = .ok (.iconst 1, 1) := dk_4 (dk_at dksX5_flows_0 8 rfl rfl)
theorem dX5_flows_9 : decode cX5_flows 9 = .ok (.invokevirtual 76, 3) := dk_182 0 76 (dk_at dksX5_flows_0 9 rfl rfl)
theorem dX5_flows_12 : decode cX5_flows 12 = .ok (.ireturn, 1) := dk_172 (dk_at dksX5_flows_0 12 rfl rfl)
theorem dX5_flows_13 : decode cX5_flows 13 = .ok (.aload_n 0, 1) := dk_42 (dk_at dksX5_flows_0 13 rfl rfl)
theorem dX5_flows_14 : decode cX5_flows 14 = .ok (.invokevirtual 103, 3) := dk_182 0 103 (dk_at dksX5_flows_0 14 rfl rfl)
theorem dX5_flows_17 : decode cX5_flows 17 = .ok (.aload_n 0, 1) := dk_42 (dk_at dksX5_flows_0 17 rfl rfl)
theorem dX5_flows_18 : decode cX5_flows 18 = .ok (.getfield 31, 3) := dk_180 0 31 (dk_at dksX5_flows_0 18 rfl rfl)
theorem dX5_flows_21 : decode cX5_flows 21 = .ok (.iload_n 1, 1) := dk_27 (dk_at dksX5_flows_0 21 rfl rfl)
theorem dX5_flows_22 : decode cX5_flows 22 = .ok (.iaload, 1) := dk_46 (dk_at dksX5_flows_0 22 rfl rfl)
theorem dX5_flows_23 : decode cX5_flows 23 = .ok (.ireturn, 1) := dk_172 (dk_at dksX5_flows_0 23 rfl rfl)
abbrev cX5_hours : ByteArray := prog_20_method_59_code
def yX5_hours : MethodName := ⟨RX5, "hours", "(I)I"⟩
def dkwX5_hours_1 : List UInt8 := [96, 17, 39, 15, 164, 0, 9, 42, 6, 182, 0, 76, 172, 42, 27, 182, 0, 212, 42, 182, 0, 216, 172]
abbrev dktX5_hours_1 : List UInt8 := dkwX5_hours_1 ++ []
def dkwX5_hours_0 : List UInt8 := [27, 4, 17, 0, 240, 184, 0, 56, 154, 0, 9, 42, 4, 182, 0, 76, 172, 42, 180, 0, 7, 4, 46, 27]
abbrev dktX5_hours_0 : List UInt8 := dkwX5_hours_0 ++ dktX5_hours_1
theorem dksX5_hours_0 : cX5_hours.data.toList.drop 0 = dktX5_hours_0 := by decide +kernel
theorem dksX5_hours_1 : cX5_hours.data.toList.drop 24 = dktX5_hours_1 := dk_seg dksX5_hours_0 24 rfl rfl
theorem dX5_hours_0 : decode cX5_hours 0 = .ok (.iload_n 1, 1) := dk_27 (dk_at dksX5_hours_0 0 rfl rfl)
theorem dX5_hours_1 : decode cX5_hours 1 = .ok (.iconst 1, 1) := dk_4 (dk_at dksX5_hours_0 1 rfl rfl)
theorem dX5_hours_2 : decode cX5_hours 2 = .ok (.sipush 240, 3) := dk_17 0 240 (dk_at dksX5_hours_0 2 rfl rfl)
theorem dX5_hours_5 : decode cX5_hours 5 = .ok (.invokestatic 56, 3) := dk_184 0 56 (dk_at dksX5_hours_0 5 rfl rfl)
theorem dX5_hours_8 : decode cX5_hours 8 = .ok (.ifCond .ne 9, 3) := dk_154 0 9 (dk_at dksX5_hours_0 8 rfl rfl)
theorem dX5_hours_11 : decode cX5_hours 11 = .ok (.aload_n 0, 1) := dk_42 (dk_at dksX5_hours_0 11 rfl rfl)
theorem dX5_hours_12 : decode cX5_hours 12 = .ok (.iconst 1, 1) := dk_4 (dk_at dksX5_hours_0 12 rfl rfl)
theorem dX5_hours_13 : decode cX5_hours 13 = .ok (.invokevirtual 76, 3) := dk_182 0 76 (dk_at dksX5_hours_0 13 rfl rfl)
theorem dX5_hours_16 : decode cX5_hours 16 = .ok (.ireturn, 1) := dk_172 (dk_at dksX5_hours_0 16 rfl rfl)
theorem dX5_hours_17 : decode cX5_hours 17 = .ok (.aload_n 0, 1) := dk_42 (dk_at dksX5_hours_0 17 rfl rfl)
theorem dX5_hours_18 : decode cX5_hours 18 = .ok (.getfield 7, 3) := dk_180 0 7 (dk_at dksX5_hours_0 18 rfl rfl)
theorem dX5_hours_21 : decode cX5_hours 21 = .ok (.iconst 1, 1) := dk_4 (dk_at dksX5_hours_0 21 rfl rfl)
theorem dX5_hours_22 : decode cX5_hours 22 = .ok (.iaload, 1) := dk_46 (dk_at dksX5_hours_0 22 rfl rfl)
theorem dX5_hours_23 : decode cX5_hours 23 = .ok (.iload_n 1, 1) := dk_27 (dk_at dksX5_hours_0 23 rfl rfl)
theorem dX5_hours_24 : decode cX5_hours 24 = .ok (.iadd, 1) := dk_96 (dk_at dksX5_hours_1 0 rfl rfl)
theorem dX5_hours_25 : decode cX5_hours 25 = .ok (.sipush 9999, 3) := dk_17 39 15 (dk_at dksX5_hours_1 1 rfl rfl)
theorem dX5_hours_28 : decode cX5_hours 28 = .ok (.if_icmp .le 9, 3) := dk_164 0 9 (dk_at dksX5_hours_1 4 rfl rfl)
theorem dX5_hours_31 : decode cX5_hours 31 = .ok (.aload_n 0, 1) := dk_42 (dk_at dksX5_hours_1 7 rfl rfl)
theorem dX5_hours_32 : decode cX5_hours 32 = .ok (.iconst 3, 1) := dk_6 (dk_at dksX5_hours_1 8 rfl rfl)
theorem dX5_hours_33 : decode cX5_hours 33 = .ok (.invokevirtual 76, 3) := dk_182 0 76 (dk_at dksX5_hours_1 9 rfl rfl)
theorem dX5_hours_36 : decode cX5_hours 36 = .ok (.ireturn, 1) := dk_172 (dk_at dksX5_hours_1 12 rfl rfl)
theorem dX5_hours_37 : decode cX5_hours 37 = .ok (.aload_n 0, 1) := dk_42 (dk_at dksX5_hours_1 13 rfl rfl)
theorem dX5_hours_38 : decode cX5_hours 38 = .ok (.iload_n 1, 1) := dk_27 (dk_at dksX5_hours_1 14 rfl rfl)
theorem dX5_hours_39 : decode cX5_hours 39 = .ok (.invokevirtual 212, 3) := dk_182 0 212 (dk_at dksX5_hours_1 15 rfl rfl)
theorem dX5_hours_42 : decode cX5_hours 42 = .ok (.aload_n 0, 1) := dk_42 (dk_at dksX5_hours_1 18 rfl rfl)
theorem dX5_hours_43 : decode cX5_hours 43 = .ok (.invokevirtual 216, 3) := dk_182 0 216 (dk_at dksX5_hours_1 19 rfl rfl)
theorem dX5_hours_46 : decode cX5_hours 46 = .ok (.ireturn, 1) := dk_172 (dk_at dksX5_hours_1 22 rfl rfl)
abbrev cX5_go : ByteArray := prog_20_method_57_code
def yX5_go : MethodName := ⟨RX5, "go", "(I)V"⟩
def dkwX5_go_0 : List UInt8 := [3, 61, 28, 27, 162, 0, 13, 42, 182, 0, 209, 132, 2, 1, 167, 255, 244, 177]
abbrev dktX5_go_0 : List UInt8 := dkwX5_go_0 ++ []
theorem dksX5_go_0 : cX5_go.data.toList.drop 0 = dktX5_go_0 := by decide +kernel
theorem dX5_go_0 : decode cX5_go 0 = .ok (.iconst 0, 1) := dk_3 (dk_at dksX5_go_0 0 rfl rfl)
theorem dX5_go_1 : decode cX5_go 1 = .ok (.istore_n 2, 1) := dk_61 (dk_at dksX5_go_0 1 rfl rfl)
theorem dX5_go_2 : decode cX5_go 2 = .ok (.iload_n 2, 1) := dk_28 (dk_at dksX5_go_0 2 rfl rfl)
theorem dX5_go_3 : decode cX5_go 3 = .ok (.iload_n 1, 1) := dk_27 (dk_at dksX5_go_0 3 rfl rfl)
theorem dX5_go_4 : decode cX5_go 4 = .ok (.if_icmp .ge 13, 3) := dk_162 0 13 (dk_at dksX5_go_0 4 rfl rfl)
theorem dX5_go_7 : decode cX5_go 7 = .ok (.aload_n 0, 1) := dk_42 (dk_at dksX5_go_0 7 rfl rfl)
theorem dX5_go_8 : decode cX5_go 8 = .ok (.invokevirtual 209, 3) := dk_182 0 209 (dk_at dksX5_go_0 8 rfl rfl)
theorem dX5_go_11 : decode cX5_go 11 = .ok (.iinc 2 1, 3) := dk_132 2 1 (dk_at dksX5_go_0 11 rfl rfl)
theorem dX5_go_14 : decode cX5_go 14 = .ok (.goto (-12), 3) := dk_167 255 244 (dk_at dksX5_go_0 14 rfl rfl)
theorem dX5_go_17 : decode cX5_go 17 = .ok (.return_, 1) := dk_177 (dk_at dksX5_go_0 17 rfl rfl)
abbrev cX5_hour : ByteArray := prog_20_method_56_code
def yX5_hour : MethodName := ⟨RX5, "hour", "()V"⟩
def dkwX5_hour_4 : List UInt8 := [4, 96, 79, 177]
abbrev dktX5_hour_4 : List UInt8 := dkwX5_hour_4 ++ []
def dkwX5_hour_3 : List UInt8 := [28, 96, 3, 18, 60, 184, 0, 61, 182, 0, 96, 132, 1, 1, 167, 255, 177, 42, 180, 0, 7, 4, 92, 46]
abbrev dktX5_hour_3 : List UInt8 := dkwX5_hour_3 ++ dktX5_hour_4
def dkwX5_hour_2 : List UInt8 := [182, 0, 191, 61, 42, 27, 42, 180, 0, 37, 27, 46, 182, 0, 206, 42, 27, 8, 42, 27, 8, 182, 0, 90]
abbrev dktX5_hour_2 : List UInt8 := dkwX5_hour_2 ++ dktX5_hour_3
def dkwX5_hour_1 : List UInt8 := [180, 0, 34, 27, 46, 182, 0, 106, 79, 42, 27, 42, 180, 0, 34, 27, 46, 42, 180, 0, 37, 27, 46]
abbrev dktX5_hour_1 : List UInt8 := dkwX5_hour_1 ++ dktX5_hour_2
def dkwX5_hour_0 : List UInt8 := [42, 182, 0, 103, 3, 60, 27, 42, 180, 0, 7, 3, 46, 162, 0, 75, 42, 180, 0, 37, 27, 42, 27, 42]
abbrev dktX5_hour_0 : List UInt8 := dkwX5_hour_0 ++ dktX5_hour_1
theorem dksX5_hour_0 : cX5_hour.data.toList.drop 0 = dktX5_hour_0 := by decide +kernel
theorem dksX5_hour_1 : cX5_hour.data.toList.drop 24 = dktX5_hour_1 := dk_seg dksX5_hour_0 24 rfl rfl
theorem dksX5_hour_2 : cX5_hour.data.toList.drop 47 = dktX5_hour_2 := dk_seg dksX5_hour_1 23 rfl rfl
theorem dksX5_hour_3 : cX5_hour.data.toList.drop 71 = dktX5_hour_3 := dk_seg dksX5_hour_2 24 rfl rfl
theorem dksX5_hour_4 : cX5_hour.data.toList.drop 95 = dktX5_hour_4 := dk_seg dksX5_hour_3 24 rfl rfl
theorem dX5_hour_0 : decode cX5_hour 0 = .ok (.aload_n 0, 1) := dk_42 (dk_at dksX5_hour_0 0 rfl rfl)
theorem dX5_hour_1 : decode cX5_hour 1 = .ok (.invokevirtual 103, 3) := dk_182 0 103 (dk_at dksX5_hour_0 1 rfl rfl)
theorem dX5_hour_4 : decode cX5_hour 4 = .ok (.iconst 0, 1) := dk_3 (dk_at dksX5_hour_0 4 rfl rfl)
theorem dX5_hour_5 : decode cX5_hour 5 = .ok (.istore_n 1, 1) := dk_60 (dk_at dksX5_hour_0 5 rfl rfl)
theorem dX5_hour_6 : decode cX5_hour 6 = .ok (.iload_n 1, 1) := dk_27 (dk_at dksX5_hour_0 6 rfl rfl)
theorem dX5_hour_7 : decode cX5_hour 7 = .ok (.aload_n 0, 1) := dk_42 (dk_at dksX5_hour_0 7 rfl rfl)
theorem dX5_hour_8 : decode cX5_hour 8 = .ok (.getfield 7, 3) := dk_180 0 7 (dk_at dksX5_hour_0 8 rfl rfl)
theorem dX5_hour_11 : decode cX5_hour 11 = .ok (.iconst 0, 1) := dk_3 (dk_at dksX5_hour_0 11 rfl rfl)
theorem dX5_hour_12 : decode cX5_hour 12 = .ok (.iaload, 1) := dk_46 (dk_at dksX5_hour_0 12 rfl rfl)
theorem dX5_hour_13 : decode cX5_hour 13 = .ok (.if_icmp .ge 75, 3) := dk_162 0 75 (dk_at dksX5_hour_0 13 rfl rfl)
theorem dX5_hour_16 : decode cX5_hour 16 = .ok (.aload_n 0, 1) := dk_42 (dk_at dksX5_hour_0 16 rfl rfl)
theorem dX5_hour_17 : decode cX5_hour 17 = .ok (.getfield 37, 3) := dk_180 0 37 (dk_at dksX5_hour_0 17 rfl rfl)
theorem dX5_hour_20 : decode cX5_hour 20 = .ok (.iload_n 1, 1) := dk_27 (dk_at dksX5_hour_0 20 rfl rfl)
theorem dX5_hour_21 : decode cX5_hour 21 = .ok (.aload_n 0, 1) := dk_42 (dk_at dksX5_hour_0 21 rfl rfl)
theorem dX5_hour_22 : decode cX5_hour 22 = .ok (.iload_n 1, 1) := dk_27 (dk_at dksX5_hour_0 22 rfl rfl)
theorem dX5_hour_23 : decode cX5_hour 23 = .ok (.aload_n 0, 1) := dk_42 (dk_at dksX5_hour_0 23 rfl rfl)
theorem dX5_hour_24 : decode cX5_hour 24 = .ok (.getfield 34, 3) := dk_180 0 34 (dk_at dksX5_hour_1 0 rfl rfl)
theorem dX5_hour_27 : decode cX5_hour 27 = .ok (.iload_n 1, 1) := dk_27 (dk_at dksX5_hour_1 3 rfl rfl)
theorem dX5_hour_28 : decode cX5_hour 28 = .ok (.iaload, 1) := dk_46 (dk_at dksX5_hour_1 4 rfl rfl)
theorem dX5_hour_29 : decode cX5_hour 29 = .ok (.invokevirtual 106, 3) := dk_182 0 106 (dk_at dksX5_hour_1 5 rfl rfl)
theorem dX5_hour_32 : decode cX5_hour 32 = .ok (.iastore, 1) := dk_79 (dk_at dksX5_hour_1 8 rfl rfl)
theorem dX5_hour_33 : decode cX5_hour 33 = .ok (.aload_n 0, 1) := dk_42 (dk_at dksX5_hour_1 9 rfl rfl)
theorem dX5_hour_34 : decode cX5_hour 34 = .ok (.iload_n 1, 1) := dk_27 (dk_at dksX5_hour_1 10 rfl rfl)
theorem dX5_hour_35 : decode cX5_hour 35 = .ok (.aload_n 0, 1) := dk_42 (dk_at dksX5_hour_1 11 rfl rfl)
theorem dX5_hour_36 : decode cX5_hour 36 = .ok (.getfield 34, 3) := dk_180 0 34 (dk_at dksX5_hour_1 12 rfl rfl)
theorem dX5_hour_39 : decode cX5_hour 39 = .ok (.iload_n 1, 1) := dk_27 (dk_at dksX5_hour_1 15 rfl rfl)
theorem dX5_hour_40 : decode cX5_hour 40 = .ok (.iaload, 1) := dk_46 (dk_at dksX5_hour_1 16 rfl rfl)
theorem dX5_hour_41 : decode cX5_hour 41 = .ok (.aload_n 0, 1) := dk_42 (dk_at dksX5_hour_1 17 rfl rfl)
theorem dX5_hour_42 : decode cX5_hour 42 = .ok (.getfield 37, 3) := dk_180 0 37 (dk_at dksX5_hour_1 18 rfl rfl)
theorem dX5_hour_45 : decode cX5_hour 45 = .ok (.iload_n 1, 1) := dk_27 (dk_at dksX5_hour_1 21 rfl rfl)
theorem dX5_hour_46 : decode cX5_hour 46 = .ok (.iaload, 1) := dk_46 (dk_at dksX5_hour_1 22 rfl rfl)
theorem dX5_hour_47 : decode cX5_hour 47 = .ok (.invokevirtual 191, 3) := dk_182 0 191 (dk_at dksX5_hour_2 0 rfl rfl)
theorem dX5_hour_50 : decode cX5_hour 50 = .ok (.istore_n 2, 1) := dk_61 (dk_at dksX5_hour_2 3 rfl rfl)
theorem dX5_hour_51 : decode cX5_hour 51 = .ok (.aload_n 0, 1) := dk_42 (dk_at dksX5_hour_2 4 rfl rfl)
theorem dX5_hour_52 : decode cX5_hour 52 = .ok (.iload_n 1, 1) := dk_27 (dk_at dksX5_hour_2 5 rfl rfl)
theorem dX5_hour_53 : decode cX5_hour 53 = .ok (.aload_n 0, 1) := dk_42 (dk_at dksX5_hour_2 6 rfl rfl)
theorem dX5_hour_54 : decode cX5_hour 54 = .ok (.getfield 37, 3) := dk_180 0 37 (dk_at dksX5_hour_2 7 rfl rfl)
theorem dX5_hour_57 : decode cX5_hour 57 = .ok (.iload_n 1, 1) := dk_27 (dk_at dksX5_hour_2 10 rfl rfl)
theorem dX5_hour_58 : decode cX5_hour 58 = .ok (.iaload, 1) := dk_46 (dk_at dksX5_hour_2 11 rfl rfl)
theorem dX5_hour_59 : decode cX5_hour 59 = .ok (.invokevirtual 206, 3) := dk_182 0 206 (dk_at dksX5_hour_2 12 rfl rfl)
theorem dX5_hour_62 : decode cX5_hour 62 = .ok (.aload_n 0, 1) := dk_42 (dk_at dksX5_hour_2 15 rfl rfl)
theorem dX5_hour_63 : decode cX5_hour 63 = .ok (.iload_n 1, 1) := dk_27 (dk_at dksX5_hour_2 16 rfl rfl)
theorem dX5_hour_64 : decode cX5_hour 64 = .ok (.iconst 5, 1) := dk_8 (dk_at dksX5_hour_2 17 rfl rfl)
theorem dX5_hour_65 : decode cX5_hour 65 = .ok (.aload_n 0, 1) := dk_42 (dk_at dksX5_hour_2 18 rfl rfl)
theorem dX5_hour_66 : decode cX5_hour 66 = .ok (.iload_n 1, 1) := dk_27 (dk_at dksX5_hour_2 19 rfl rfl)
theorem dX5_hour_67 : decode cX5_hour 67 = .ok (.iconst 5, 1) := dk_8 (dk_at dksX5_hour_2 20 rfl rfl)
theorem dX5_hour_68 : decode cX5_hour 68 = .ok (.invokevirtual 90, 3) := dk_182 0 90 (dk_at dksX5_hour_2 21 rfl rfl)
theorem dX5_hour_71 : decode cX5_hour 71 = .ok (.iload_n 2, 1) := dk_28 (dk_at dksX5_hour_3 0 rfl rfl)
theorem dX5_hour_72 : decode cX5_hour 72 = .ok (.iadd, 1) := dk_96 (dk_at dksX5_hour_3 1 rfl rfl)
theorem dX5_hour_73 : decode cX5_hour 73 = .ok (.iconst 0, 1) := dk_3 (dk_at dksX5_hour_3 2 rfl rfl)
theorem dX5_hour_74 : decode cX5_hour 74 = .ok (.ldc 60, 2) := dk_18 60 (dk_at dksX5_hour_3 3 rfl rfl)
theorem dX5_hour_76 : decode cX5_hour 76 = .ok (.invokestatic 61, 3) := dk_184 0 61 (dk_at dksX5_hour_3 5 rfl rfl)
theorem dX5_hour_79 : decode cX5_hour 79 = .ok (.invokevirtual 96, 3) := dk_182 0 96 (dk_at dksX5_hour_3 8 rfl rfl)
theorem dX5_hour_82 : decode cX5_hour 82 = .ok (.iinc 1 1, 3) := dk_132 1 1 (dk_at dksX5_hour_3 11 rfl rfl)
theorem dX5_hour_85 : decode cX5_hour 85 = .ok (.goto (-79), 3) := dk_167 255 177 (dk_at dksX5_hour_3 14 rfl rfl)
theorem dX5_hour_88 : decode cX5_hour 88 = .ok (.aload_n 0, 1) := dk_42 (dk_at dksX5_hour_3 17 rfl rfl)
theorem dX5_hour_89 : decode cX5_hour 89 = .ok (.getfield 7, 3) := dk_180 0 7 (dk_at dksX5_hour_3 18 rfl rfl)
theorem dX5_hour_92 : decode cX5_hour 92 = .ok (.iconst 1, 1) := dk_4 (dk_at dksX5_hour_3 21 rfl rfl)
theorem dX5_hour_93 : decode cX5_hour 93 = .ok (.dup2, 1) := dk_92 (dk_at dksX5_hour_3 22 rfl rfl)
theorem dX5_hour_94 : decode cX5_hour 94 = .ok (.iaload, 1) := dk_46 (dk_at dksX5_hour_3 23 rfl rfl)
theorem dX5_hour_95 : decode cX5_hour 95 = .ok (.iconst 1, 1) := dk_4 (dk_at dksX5_hour_4 0 rfl rfl)
theorem dX5_hour_96 : decode cX5_hour 96 = .ok (.iadd, 1) := dk_96 (dk_at dksX5_hour_4 1 rfl rfl)
theorem dX5_hour_97 : decode cX5_hour 97 = .ok (.iastore, 1) := dk_79 (dk_at dksX5_hour_4 2 rfl rfl)
theorem dX5_hour_98 : decode cX5_hour 98 = .ok (.return_, 1) := dk_177 (dk_at dksX5_hour_4 3 rfl rfl)
abbrev cX5_turn1 : ByteArray := prog_20_method_55_code
def yX5_turn1 : MethodName := ⟨RX5, "turn1", "(II)V"⟩
def dkwX5_turn1_1 : List UInt8 := [27, 6, 182, 0, 90, 42, 42, 27, 6, 182, 0, 90, 182, 0, 65, 28, 96, 182, 0, 203, 177]
abbrev dktX5_turn1_1 : List UInt8 := dkwX5_turn1_1 ++ []
def dkwX5_turn1_0 : List UInt8 := [42, 27, 16, 6, 42, 27, 16, 6, 182, 0, 90, 28, 96, 3, 18, 60, 184, 0, 61, 182, 0, 96, 42, 42]
abbrev dktX5_turn1_0 : List UInt8 := dkwX5_turn1_0 ++ dktX5_turn1_1
theorem dksX5_turn1_0 : cX5_turn1.data.toList.drop 0 = dktX5_turn1_0 := by decide +kernel
theorem dksX5_turn1_1 : cX5_turn1.data.toList.drop 24 = dktX5_turn1_1 := dk_seg dksX5_turn1_0 24 rfl rfl
theorem dX5_turn1_0 : decode cX5_turn1 0 = .ok (.aload_n 0, 1) := dk_42 (dk_at dksX5_turn1_0 0 rfl rfl)
theorem dX5_turn1_1 : decode cX5_turn1 1 = .ok (.iload_n 1, 1) := dk_27 (dk_at dksX5_turn1_0 1 rfl rfl)
theorem dX5_turn1_2 : decode cX5_turn1 2 = .ok (.bipush 6, 2) := dk_16 6 (dk_at dksX5_turn1_0 2 rfl rfl)
theorem dX5_turn1_4 : decode cX5_turn1 4 = .ok (.aload_n 0, 1) := dk_42 (dk_at dksX5_turn1_0 4 rfl rfl)
theorem dX5_turn1_5 : decode cX5_turn1 5 = .ok (.iload_n 1, 1) := dk_27 (dk_at dksX5_turn1_0 5 rfl rfl)
theorem dX5_turn1_6 : decode cX5_turn1 6 = .ok (.bipush 6, 2) := dk_16 6 (dk_at dksX5_turn1_0 6 rfl rfl)
theorem dX5_turn1_8 : decode cX5_turn1 8 = .ok (.invokevirtual 90, 3) := dk_182 0 90 (dk_at dksX5_turn1_0 8 rfl rfl)
theorem dX5_turn1_11 : decode cX5_turn1 11 = .ok (.iload_n 2, 1) := dk_28 (dk_at dksX5_turn1_0 11 rfl rfl)
theorem dX5_turn1_12 : decode cX5_turn1 12 = .ok (.iadd, 1) := dk_96 (dk_at dksX5_turn1_0 12 rfl rfl)
theorem dX5_turn1_13 : decode cX5_turn1 13 = .ok (.iconst 0, 1) := dk_3 (dk_at dksX5_turn1_0 13 rfl rfl)
theorem dX5_turn1_14 : decode cX5_turn1 14 = .ok (.ldc 60, 2) := dk_18 60 (dk_at dksX5_turn1_0 14 rfl rfl)
theorem dX5_turn1_16 : decode cX5_turn1 16 = .ok (.invokestatic 61, 3) := dk_184 0 61 (dk_at dksX5_turn1_0 16 rfl rfl)
theorem dX5_turn1_19 : decode cX5_turn1 19 = .ok (.invokevirtual 96, 3) := dk_182 0 96 (dk_at dksX5_turn1_0 19 rfl rfl)
theorem dX5_turn1_22 : decode cX5_turn1 22 = .ok (.aload_n 0, 1) := dk_42 (dk_at dksX5_turn1_0 22 rfl rfl)
theorem dX5_turn1_23 : decode cX5_turn1 23 = .ok (.aload_n 0, 1) := dk_42 (dk_at dksX5_turn1_0 23 rfl rfl)
theorem dX5_turn1_24 : decode cX5_turn1 24 = .ok (.iload_n 1, 1) := dk_27 (dk_at dksX5_turn1_1 0 rfl rfl)
theorem dX5_turn1_25 : decode cX5_turn1 25 = .ok (.iconst 3, 1) := dk_6 (dk_at dksX5_turn1_1 1 rfl rfl)
theorem dX5_turn1_26 : decode cX5_turn1 26 = .ok (.invokevirtual 90, 3) := dk_182 0 90 (dk_at dksX5_turn1_1 2 rfl rfl)
theorem dX5_turn1_29 : decode cX5_turn1 29 = .ok (.aload_n 0, 1) := dk_42 (dk_at dksX5_turn1_1 5 rfl rfl)
theorem dX5_turn1_30 : decode cX5_turn1 30 = .ok (.aload_n 0, 1) := dk_42 (dk_at dksX5_turn1_1 6 rfl rfl)
theorem dX5_turn1_31 : decode cX5_turn1 31 = .ok (.iload_n 1, 1) := dk_27 (dk_at dksX5_turn1_1 7 rfl rfl)
theorem dX5_turn1_32 : decode cX5_turn1 32 = .ok (.iconst 3, 1) := dk_6 (dk_at dksX5_turn1_1 8 rfl rfl)
theorem dX5_turn1_33 : decode cX5_turn1 33 = .ok (.invokevirtual 90, 3) := dk_182 0 90 (dk_at dksX5_turn1_1 9 rfl rfl)
theorem dX5_turn1_36 : decode cX5_turn1 36 = .ok (.invokevirtual 65, 3) := dk_182 0 65 (dk_at dksX5_turn1_1 12 rfl rfl)
theorem dX5_turn1_39 : decode cX5_turn1 39 = .ok (.iload_n 2, 1) := dk_28 (dk_at dksX5_turn1_1 15 rfl rfl)
theorem dX5_turn1_40 : decode cX5_turn1 40 = .ok (.iadd, 1) := dk_96 (dk_at dksX5_turn1_1 16 rfl rfl)
theorem dX5_turn1_41 : decode cX5_turn1 41 = .ok (.invokevirtual 203, 3) := dk_182 0 203 (dk_at dksX5_turn1_1 17 rfl rfl)
theorem dX5_turn1_44 : decode cX5_turn1 44 = .ok (.return_, 1) := dk_177 (dk_at dksX5_turn1_1 20 rfl rfl)
abbrev cX5_prays : ByteArray := prog_20_method_13_code
def yX5_prays : MethodName := ⟨RX5, "prays", "(II)V"⟩
def dkwX5_prays_0 : List UInt8 := [42, 180, 0, 7, 16, 42, 5, 27, 104, 96, 4, 96, 28, 3, 18, 60, 184, 0, 61, 79, 177]
abbrev dktX5_prays_0 : List UInt8 := dkwX5_prays_0 ++ []
theorem dksX5_prays_0 : cX5_prays.data.toList.drop 0 = dktX5_prays_0 := by decide +kernel
theorem dX5_prays_0 : decode cX5_prays 0 = .ok (.aload_n 0, 1) := dk_42 (dk_at dksX5_prays_0 0 rfl rfl)
theorem dX5_prays_1 : decode cX5_prays 1 = .ok (.getfield 7, 3) := dk_180 0 7 (dk_at dksX5_prays_0 1 rfl rfl)
theorem dX5_prays_4 : decode cX5_prays 4 = .ok (.bipush 42, 2) := dk_16 42 (dk_at dksX5_prays_0 4 rfl rfl)
theorem dX5_prays_6 : decode cX5_prays 6 = .ok (.iconst 2, 1) := dk_5 (dk_at dksX5_prays_0 6 rfl rfl)
theorem dX5_prays_7 : decode cX5_prays 7 = .ok (.iload_n 1, 1) := dk_27 (dk_at dksX5_prays_0 7 rfl rfl)
theorem dX5_prays_8 : decode cX5_prays 8 = .ok (.imul, 1) := dk_104 (dk_at dksX5_prays_0 8 rfl rfl)
theorem dX5_prays_9 : decode cX5_prays 9 = .ok (.iadd, 1) := dk_96 (dk_at dksX5_prays_0 9 rfl rfl)
theorem dX5_prays_10 : decode cX5_prays 10 = .ok (.iconst 1, 1) := dk_4 (dk_at dksX5_prays_0 10 rfl rfl)
theorem dX5_prays_11 : decode cX5_prays 11 = .ok (.iadd, 1) := dk_96 (dk_at dksX5_prays_0 11 rfl rfl)
theorem dX5_prays_12 : decode cX5_prays 12 = .ok (.iload_n 2, 1) := dk_28 (dk_at dksX5_prays_0 12 rfl rfl)
theorem dX5_prays_13 : decode cX5_prays 13 = .ok (.iconst 0, 1) := dk_3 (dk_at dksX5_prays_0 13 rfl rfl)
theorem dX5_prays_14 : decode cX5_prays 14 = .ok (.ldc 60, 2) := dk_18 60 (dk_at dksX5_prays_0 14 rfl rfl)
theorem dX5_prays_16 : decode cX5_prays 16 = .ok (.invokestatic 61, 3) := dk_184 0 61 (dk_at dksX5_prays_0 16 rfl rfl)
theorem dX5_prays_19 : decode cX5_prays 19 = .ok (.iastore, 1) := dk_79 (dk_at dksX5_prays_0 19 rfl rfl)
theorem dX5_prays_20 : decode cX5_prays 20 = .ok (.return_, 1) := dk_177 (dk_at dksX5_prays_0 20 rfl rfl)
abbrev cX5_allPrayed : ByteArray := prog_20_method_58_code
def yX5_allPrayed : MethodName := ⟨RX5, "allPrayed", "()I"⟩
def dkwX5_allPrayed_1 : List UInt8 := [172]
abbrev dktX5_allPrayed_1 : List UInt8 := dkwX5_allPrayed_1 ++ []
def dkwX5_allPrayed_0 : List UInt8 := [3, 60, 3, 61, 28, 8, 162, 0, 17, 27, 42, 28, 182, 0, 65, 96, 60, 132, 2, 1, 167, 255, 240, 27]
abbrev dktX5_allPrayed_0 : List UInt8 := dkwX5_allPrayed_0 ++ dktX5_allPrayed_1
theorem dksX5_allPrayed_0 : cX5_allPrayed.data.toList.drop 0 = dktX5_allPrayed_0 := by decide +kernel
theorem dksX5_allPrayed_1 : cX5_allPrayed.data.toList.drop 24 = dktX5_allPrayed_1 := dk_seg dksX5_allPrayed_0 24 rfl rfl
theorem dX5_allPrayed_0 : decode cX5_allPrayed 0 = .ok (.iconst 0, 1) := dk_3 (dk_at dksX5_allPrayed_0 0 rfl rfl)
theorem dX5_allPrayed_1 : decode cX5_allPrayed 1 = .ok (.istore_n 1, 1) := dk_60 (dk_at dksX5_allPrayed_0 1 rfl rfl)
theorem dX5_allPrayed_2 : decode cX5_allPrayed 2 = .ok (.iconst 0, 1) := dk_3 (dk_at dksX5_allPrayed_0 2 rfl rfl)
theorem dX5_allPrayed_3 : decode cX5_allPrayed 3 = .ok (.istore_n 2, 1) := dk_61 (dk_at dksX5_allPrayed_0 3 rfl rfl)
theorem dX5_allPrayed_4 : decode cX5_allPrayed 4 = .ok (.iload_n 2, 1) := dk_28 (dk_at dksX5_allPrayed_0 4 rfl rfl)
theorem dX5_allPrayed_5 : decode cX5_allPrayed 5 = .ok (.iconst 5, 1) := dk_8 (dk_at dksX5_allPrayed_0 5 rfl rfl)
theorem dX5_allPrayed_6 : decode cX5_allPrayed 6 = .ok (.if_icmp .ge 17, 3) := dk_162 0 17 (dk_at dksX5_allPrayed_0 6 rfl rfl)
theorem dX5_allPrayed_9 : decode cX5_allPrayed 9 = .ok (.iload_n 1, 1) := dk_27 (dk_at dksX5_allPrayed_0 9 rfl rfl)
theorem dX5_allPrayed_10 : decode cX5_allPrayed 10 = .ok (.aload_n 0, 1) := dk_42 (dk_at dksX5_allPrayed_0 10 rfl rfl)
theorem dX5_allPrayed_11 : decode cX5_allPrayed 11 = .ok (.iload_n 2, 1) := dk_28 (dk_at dksX5_allPrayed_0 11 rfl rfl)
theorem dX5_allPrayed_12 : decode cX5_allPrayed 12 = .ok (.invokevirtual 65, 3) := dk_182 0 65 (dk_at dksX5_allPrayed_0 12 rfl rfl)
theorem dX5_allPrayed_15 : decode cX5_allPrayed 15 = .ok (.iadd, 1) := dk_96 (dk_at dksX5_allPrayed_0 15 rfl rfl)
theorem dX5_allPrayed_16 : decode cX5_allPrayed 16 = .ok (.istore_n 1, 1) := dk_60 (dk_at dksX5_allPrayed_0 16 rfl rfl)
theorem dX5_allPrayed_17 : decode cX5_allPrayed 17 = .ok (.iinc 2 1, 3) := dk_132 2 1 (dk_at dksX5_allPrayed_0 17 rfl rfl)
theorem dX5_allPrayed_20 : decode cX5_allPrayed 20 = .ok (.goto (-16), 3) := dk_167 255 240 (dk_at dksX5_allPrayed_0 20 rfl rfl)
theorem dX5_allPrayed_23 : decode cX5_allPrayed 23 = .ok (.iload_n 1, 1) := dk_27 (dk_at dksX5_allPrayed_0 23 rfl rfl)
theorem dX5_allPrayed_24 : decode cX5_allPrayed 24 = .ok (.ireturn, 1) := dk_172 (dk_at dksX5_allPrayed_1 0 rfl rfl)
abbrev cX5_draws : ByteArray := prog_20_method_61_code
def yX5_draws : MethodName := ⟨RX5, "draws", "(I)I"⟩
def dkwX5_draws_7 : List UInt8 := [184, 0, 61, 79, 42, 182, 0, 209, 132, 3, 1, 167, 255, 120, 28, 172]
abbrev dktX5_draws_7 : List UInt8 := dkwX5_draws_7 ++ []
def dkwX5_draws_6 : List UInt8 := [4, 167, 0, 19, 21, 4, 7, 16, 6, 184, 0, 56, 153, 0, 7, 2, 167, 0, 4, 3, 96, 3, 16, 9]
abbrev dktX5_draws_6 : List UInt8 := dkwX5_draws_6 ++ dktX5_draws_7
def dkwX5_draws_5 : List UInt8 := [167, 255, 209, 42, 180, 0, 7, 5, 42, 180, 0, 7, 5, 46, 21, 4, 4, 6, 184, 0, 56, 153, 0, 7]
abbrev dktX5_draws_5 : List UInt8 := dkwX5_draws_5 ++ dktX5_draws_6
def dkwX5_draws_4 : List UInt8 := [182, 0, 90, 4, 160, 0, 13, 42, 21, 5, 4, 182, 0, 90, 167, 0, 4, 3, 182, 0, 206, 132, 5, 1]
abbrev dktX5_draws_4 : List UInt8 := dkwX5_draws_4 ++ dktX5_draws_5
def dkwX5_draws_3 : List UInt8 := [21, 5, 42, 180, 0, 7, 3, 46, 162, 0, 42, 21, 4, 154, 0, 37, 42, 21, 5, 42, 21, 5, 7]
abbrev dktX5_draws_3 : List UInt8 := dkwX5_draws_3 ++ dktX5_draws_4
def dkwX5_draws_2 : List UInt8 := [182, 0, 220, 16, 16, 112, 54, 4, 28, 21, 4, 154, 0, 7, 4, 167, 0, 4, 3, 96, 61, 3, 54, 5]
abbrev dktX5_draws_2 : List UInt8 := dkwX5_draws_2 ++ dktX5_draws_3
def dkwX5_draws_1 : List UInt8 := [17, 39, 15, 164, 0, 9, 42, 6, 182, 0, 76, 172, 3, 61, 3, 62, 29, 27, 162, 0, 137, 42]
abbrev dktX5_draws_1 : List UInt8 := dkwX5_draws_1 ++ dktX5_draws_2
def dkwX5_draws_0 : List UInt8 := [27, 4, 16, 60, 184, 0, 56, 154, 0, 9, 42, 4, 182, 0, 76, 172, 42, 180, 0, 7, 4, 46, 27, 96]
abbrev dktX5_draws_0 : List UInt8 := dkwX5_draws_0 ++ dktX5_draws_1
theorem dksX5_draws_0 : cX5_draws.data.toList.drop 0 = dktX5_draws_0 := by decide +kernel
theorem dksX5_draws_1 : cX5_draws.data.toList.drop 24 = dktX5_draws_1 := dk_seg dksX5_draws_0 24 rfl rfl
theorem dksX5_draws_2 : cX5_draws.data.toList.drop 46 = dktX5_draws_2 := dk_seg dksX5_draws_1 22 rfl rfl
theorem dksX5_draws_3 : cX5_draws.data.toList.drop 70 = dktX5_draws_3 := dk_seg dksX5_draws_2 24 rfl rfl
theorem dksX5_draws_4 : cX5_draws.data.toList.drop 93 = dktX5_draws_4 := dk_seg dksX5_draws_3 23 rfl rfl
theorem dksX5_draws_5 : cX5_draws.data.toList.drop 117 = dktX5_draws_5 := dk_seg dksX5_draws_4 24 rfl rfl
theorem dksX5_draws_6 : cX5_draws.data.toList.drop 141 = dktX5_draws_6 := dk_seg dksX5_draws_5 24 rfl rfl
theorem dksX5_draws_7 : cX5_draws.data.toList.drop 165 = dktX5_draws_7 := dk_seg dksX5_draws_6 24 rfl rfl
theorem dX5_draws_0 : decode cX5_draws 0 = .ok (.iload_n 1, 1) := dk_27 (dk_at dksX5_draws_0 0 rfl rfl)
theorem dX5_draws_1 : decode cX5_draws 1 = .ok (.iconst 1, 1) := dk_4 (dk_at dksX5_draws_0 1 rfl rfl)
theorem dX5_draws_2 : decode cX5_draws 2 = .ok (.bipush 60, 2) := dk_16 60 (dk_at dksX5_draws_0 2 rfl rfl)
theorem dX5_draws_4 : decode cX5_draws 4 = .ok (.invokestatic 56, 3) := dk_184 0 56 (dk_at dksX5_draws_0 4 rfl rfl)
theorem dX5_draws_7 : decode cX5_draws 7 = .ok (.ifCond .ne 9, 3) := dk_154 0 9 (dk_at dksX5_draws_0 7 rfl rfl)
theorem dX5_draws_10 : decode cX5_draws 10 = .ok (.aload_n 0, 1) := dk_42 (dk_at dksX5_draws_0 10 rfl rfl)
theorem dX5_draws_11 : decode cX5_draws 11 = .ok (.iconst 1, 1) := dk_4 (dk_at dksX5_draws_0 11 rfl rfl)
theorem dX5_draws_12 : decode cX5_draws 12 = .ok (.invokevirtual 76, 3) := dk_182 0 76 (dk_at dksX5_draws_0 12 rfl rfl)
theorem dX5_draws_15 : decode cX5_draws 15 = .ok (.ireturn, 1) := dk_172 (dk_at dksX5_draws_0 15 rfl rfl)
theorem dX5_draws_16 : decode cX5_draws 16 = .ok (.aload_n 0, 1) := dk_42 (dk_at dksX5_draws_0 16 rfl rfl)
theorem dX5_draws_17 : decode cX5_draws 17 = .ok (.getfield 7, 3) := dk_180 0 7 (dk_at dksX5_draws_0 17 rfl rfl)
theorem dX5_draws_20 : decode cX5_draws 20 = .ok (.iconst 1, 1) := dk_4 (dk_at dksX5_draws_0 20 rfl rfl)
theorem dX5_draws_21 : decode cX5_draws 21 = .ok (.iaload, 1) := dk_46 (dk_at dksX5_draws_0 21 rfl rfl)
theorem dX5_draws_22 : decode cX5_draws 22 = .ok (.iload_n 1, 1) := dk_27 (dk_at dksX5_draws_0 22 rfl rfl)
theorem dX5_draws_23 : decode cX5_draws 23 = .ok (.iadd, 1) := dk_96 (dk_at dksX5_draws_0 23 rfl rfl)
theorem dX5_draws_24 : decode cX5_draws 24 = .ok (.sipush 9999, 3) := dk_17 39 15 (dk_at dksX5_draws_1 0 rfl rfl)
theorem dX5_draws_27 : decode cX5_draws 27 = .ok (.if_icmp .le 9, 3) := dk_164 0 9 (dk_at dksX5_draws_1 3 rfl rfl)
theorem dX5_draws_30 : decode cX5_draws 30 = .ok (.aload_n 0, 1) := dk_42 (dk_at dksX5_draws_1 6 rfl rfl)
theorem dX5_draws_31 : decode cX5_draws 31 = .ok (.iconst 3, 1) := dk_6 (dk_at dksX5_draws_1 7 rfl rfl)
theorem dX5_draws_32 : decode cX5_draws 32 = .ok (.invokevirtual 76, 3) := dk_182 0 76 (dk_at dksX5_draws_1 8 rfl rfl)
theorem dX5_draws_35 : decode cX5_draws 35 = .ok (.ireturn, 1) := dk_172 (dk_at dksX5_draws_1 11 rfl rfl)
theorem dX5_draws_36 : decode cX5_draws 36 = .ok (.iconst 0, 1) := dk_3 (dk_at dksX5_draws_1 12 rfl rfl)
theorem dX5_draws_37 : decode cX5_draws 37 = .ok (.istore_n 2, 1) := dk_61 (dk_at dksX5_draws_1 13 rfl rfl)
theorem dX5_draws_38 : decode cX5_draws 38 = .ok (.iconst 0, 1) := dk_3 (dk_at dksX5_draws_1 14 rfl rfl)
theorem dX5_draws_39 : decode cX5_draws 39 = .ok (.istore_n 3, 1) := dk_62 (dk_at dksX5_draws_1 15 rfl rfl)
theorem dX5_draws_40 : decode cX5_draws 40 = .ok (.iload_n 3, 1) := dk_29 (dk_at dksX5_draws_1 16 rfl rfl)
theorem dX5_draws_41 : decode cX5_draws 41 = .ok (.iload_n 1, 1) := dk_27 (dk_at dksX5_draws_1 17 rfl rfl)
theorem dX5_draws_42 : decode cX5_draws 42 = .ok (.if_icmp .ge 137, 3) := dk_162 0 137 (dk_at dksX5_draws_1 18 rfl rfl)
theorem dX5_draws_45 : decode cX5_draws 45 = .ok (.aload_n 0, 1) := dk_42 (dk_at dksX5_draws_1 21 rfl rfl)
theorem dX5_draws_46 : decode cX5_draws 46 = .ok (.invokevirtual 220, 3) := dk_182 0 220 (dk_at dksX5_draws_2 0 rfl rfl)
theorem dX5_draws_49 : decode cX5_draws 49 = .ok (.bipush 16, 2) := dk_16 16 (dk_at dksX5_draws_2 3 rfl rfl)
theorem dX5_draws_51 : decode cX5_draws 51 = .ok (.irem, 1) := dk_112 (dk_at dksX5_draws_2 5 rfl rfl)
theorem dX5_draws_52 : decode cX5_draws 52 = .ok (.istore 4, 2) := dk_54 4 (dk_at dksX5_draws_2 6 rfl rfl)
theorem dX5_draws_54 : decode cX5_draws 54 = .ok (.iload_n 2, 1) := dk_28 (dk_at dksX5_draws_2 8 rfl rfl)
theorem dX5_draws_55 : decode cX5_draws 55 = .ok (.iload 4, 2) := dk_21 4 (dk_at dksX5_draws_2 9 rfl rfl)
theorem dX5_draws_57 : decode cX5_draws 57 = .ok (.ifCond .ne 7, 3) := dk_154 0 7 (dk_at dksX5_draws_2 11 rfl rfl)
theorem dX5_draws_60 : decode cX5_draws 60 = .ok (.iconst 1, 1) := dk_4 (dk_at dksX5_draws_2 14 rfl rfl)
theorem dX5_draws_61 : decode cX5_draws 61 = .ok (.goto 4, 3) := dk_167 0 4 (dk_at dksX5_draws_2 15 rfl rfl)
theorem dX5_draws_64 : decode cX5_draws 64 = .ok (.iconst 0, 1) := dk_3 (dk_at dksX5_draws_2 18 rfl rfl)
theorem dX5_draws_65 : decode cX5_draws 65 = .ok (.iadd, 1) := dk_96 (dk_at dksX5_draws_2 19 rfl rfl)
theorem dX5_draws_66 : decode cX5_draws 66 = .ok (.istore_n 2, 1) := dk_61 (dk_at dksX5_draws_2 20 rfl rfl)
theorem dX5_draws_67 : decode cX5_draws 67 = .ok (.iconst 0, 1) := dk_3 (dk_at dksX5_draws_2 21 rfl rfl)
theorem dX5_draws_68 : decode cX5_draws 68 = .ok (.istore 5, 2) := dk_54 5 (dk_at dksX5_draws_2 22 rfl rfl)
theorem dX5_draws_70 : decode cX5_draws 70 = .ok (.iload 5, 2) := dk_21 5 (dk_at dksX5_draws_3 0 rfl rfl)
theorem dX5_draws_72 : decode cX5_draws 72 = .ok (.aload_n 0, 1) := dk_42 (dk_at dksX5_draws_3 2 rfl rfl)
theorem dX5_draws_73 : decode cX5_draws 73 = .ok (.getfield 7, 3) := dk_180 0 7 (dk_at dksX5_draws_3 3 rfl rfl)
theorem dX5_draws_76 : decode cX5_draws 76 = .ok (.iconst 0, 1) := dk_3 (dk_at dksX5_draws_3 6 rfl rfl)
theorem dX5_draws_77 : decode cX5_draws 77 = .ok (.iaload, 1) := dk_46 (dk_at dksX5_draws_3 7 rfl rfl)
theorem dX5_draws_78 : decode cX5_draws 78 = .ok (.if_icmp .ge 42, 3) := dk_162 0 42 (dk_at dksX5_draws_3 8 rfl rfl)
theorem dX5_draws_81 : decode cX5_draws 81 = .ok (.iload 4, 2) := dk_21 4 (dk_at dksX5_draws_3 11 rfl rfl)
theorem dX5_draws_83 : decode cX5_draws 83 = .ok (.ifCond .ne 37, 3) := dk_154 0 37 (dk_at dksX5_draws_3 13 rfl rfl)
theorem dX5_draws_86 : decode cX5_draws 86 = .ok (.aload_n 0, 1) := dk_42 (dk_at dksX5_draws_3 16 rfl rfl)
theorem dX5_draws_87 : decode cX5_draws 87 = .ok (.iload 5, 2) := dk_21 5 (dk_at dksX5_draws_3 17 rfl rfl)
theorem dX5_draws_89 : decode cX5_draws 89 = .ok (.aload_n 0, 1) := dk_42 (dk_at dksX5_draws_3 19 rfl rfl)
theorem dX5_draws_90 : decode cX5_draws 90 = .ok (.iload 5, 2) := dk_21 5 (dk_at dksX5_draws_3 20 rfl rfl)
theorem dX5_draws_92 : decode cX5_draws 92 = .ok (.iconst 4, 1) := dk_7 (dk_at dksX5_draws_3 22 rfl rfl)
theorem dX5_draws_93 : decode cX5_draws 93 = .ok (.invokevirtual 90, 3) := dk_182 0 90 (dk_at dksX5_draws_4 0 rfl rfl)
theorem dX5_draws_96 : decode cX5_draws 96 = .ok (.iconst 1, 1) := dk_4 (dk_at dksX5_draws_4 3 rfl rfl)
theorem dX5_draws_97 : decode cX5_draws 97 = .ok (.if_icmp .ne 13, 3) := dk_160 0 13 (dk_at dksX5_draws_4 4 rfl rfl)
theorem dX5_draws_100 : decode cX5_draws 100 = .ok (.aload_n 0, 1) := dk_42 (dk_at dksX5_draws_4 7 rfl rfl)
theorem dX5_draws_101 : decode cX5_draws 101 = .ok (.iload 5, 2) := dk_21 5 (dk_at dksX5_draws_4 8 rfl rfl)
theorem dX5_draws_103 : decode cX5_draws 103 = .ok (.iconst 1, 1) := dk_4 (dk_at dksX5_draws_4 10 rfl rfl)
theorem dX5_draws_104 : decode cX5_draws 104 = .ok (.invokevirtual 90, 3) := dk_182 0 90 (dk_at dksX5_draws_4 11 rfl rfl)
theorem dX5_draws_107 : decode cX5_draws 107 = .ok (.goto 4, 3) := dk_167 0 4 (dk_at dksX5_draws_4 14 rfl rfl)
theorem dX5_draws_110 : decode cX5_draws 110 = .ok (.iconst 0, 1) := dk_3 (dk_at dksX5_draws_4 17 rfl rfl)
theorem dX5_draws_111 : decode cX5_draws 111 = .ok (.invokevirtual 206, 3) := dk_182 0 206 (dk_at dksX5_draws_4 18 rfl rfl)
theorem dX5_draws_114 : decode cX5_draws 114 = .ok (.iinc 5 1, 3) := dk_132 5 1 (dk_at dksX5_draws_4 21 rfl rfl)
theorem dX5_draws_117 : decode cX5_draws 117 = .ok (.goto (-47), 3) := dk_167 255 209 (dk_at dksX5_draws_5 0 rfl rfl)
theorem dX5_draws_120 : decode cX5_draws 120 = .ok (.aload_n 0, 1) := dk_42 (dk_at dksX5_draws_5 3 rfl rfl)
theorem dX5_draws_121 : decode cX5_draws 121 = .ok (.getfield 7, 3) := dk_180 0 7 (dk_at dksX5_draws_5 4 rfl rfl)
theorem dX5_draws_124 : decode cX5_draws 124 = .ok (.iconst 2, 1) := dk_5 (dk_at dksX5_draws_5 7 rfl rfl)
theorem dX5_draws_125 : decode cX5_draws 125 = .ok (.aload_n 0, 1) := dk_42 (dk_at dksX5_draws_5 8 rfl rfl)
theorem dX5_draws_126 : decode cX5_draws 126 = .ok (.getfield 7, 3) := dk_180 0 7 (dk_at dksX5_draws_5 9 rfl rfl)
theorem dX5_draws_129 : decode cX5_draws 129 = .ok (.iconst 2, 1) := dk_5 (dk_at dksX5_draws_5 12 rfl rfl)
theorem dX5_draws_130 : decode cX5_draws 130 = .ok (.iaload, 1) := dk_46 (dk_at dksX5_draws_5 13 rfl rfl)
theorem dX5_draws_131 : decode cX5_draws 131 = .ok (.iload 4, 2) := dk_21 4 (dk_at dksX5_draws_5 14 rfl rfl)
theorem dX5_draws_133 : decode cX5_draws 133 = .ok (.iconst 1, 1) := dk_4 (dk_at dksX5_draws_5 16 rfl rfl)
theorem dX5_draws_134 : decode cX5_draws 134 = .ok (.iconst 3, 1) := dk_6 (dk_at dksX5_draws_5 17 rfl rfl)
theorem dX5_draws_135 : decode cX5_draws 135 = .ok (.invokestatic 56, 3) := dk_184 0 56 (dk_at dksX5_draws_5 18 rfl rfl)
theorem dX5_draws_138 : decode cX5_draws 138 = .ok (.ifCond .eq 7, 3) := dk_153 0 7 (dk_at dksX5_draws_5 21 rfl rfl)
theorem dX5_draws_141 : decode cX5_draws 141 = .ok (.iconst 1, 1) := dk_4 (dk_at dksX5_draws_6 0 rfl rfl)
theorem dX5_draws_142 : decode cX5_draws 142 = .ok (.goto 19, 3) := dk_167 0 19 (dk_at dksX5_draws_6 1 rfl rfl)
theorem dX5_draws_145 : decode cX5_draws 145 = .ok (.iload 4, 2) := dk_21 4 (dk_at dksX5_draws_6 4 rfl rfl)
theorem dX5_draws_147 : decode cX5_draws 147 = .ok (.iconst 4, 1) := dk_7 (dk_at dksX5_draws_6 6 rfl rfl)
theorem dX5_draws_148 : decode cX5_draws 148 = .ok (.bipush 6, 2) := dk_16 6 (dk_at dksX5_draws_6 7 rfl rfl)
theorem dX5_draws_150 : decode cX5_draws 150 = .ok (.invokestatic 56, 3) := dk_184 0 56 (dk_at dksX5_draws_6 9 rfl rfl)
theorem dX5_draws_153 : decode cX5_draws 153 = .ok (.ifCond .eq 7, 3) := dk_153 0 7 (dk_at dksX5_draws_6 12 rfl rfl)
theorem dX5_draws_156 : decode cX5_draws 156 = .ok (.iconst (-1), 1) := dk_2 (dk_at dksX5_draws_6 15 rfl rfl)
theorem dX5_draws_157 : decode cX5_draws 157 = .ok (.goto 4, 3) := dk_167 0 4 (dk_at dksX5_draws_6 16 rfl rfl)
theorem dX5_draws_160 : decode cX5_draws 160 = .ok (.iconst 0, 1) := dk_3 (dk_at dksX5_draws_6 19 rfl rfl)
theorem dX5_draws_161 : decode cX5_draws 161 = .ok (.iadd, 1) := dk_96 (dk_at dksX5_draws_6 20 rfl rfl)
theorem dX5_draws_162 : decode cX5_draws 162 = .ok (.iconst 0, 1) := dk_3 (dk_at dksX5_draws_6 21 rfl rfl)
theorem dX5_draws_163 : decode cX5_draws 163 = .ok (.bipush 9, 2) := dk_16 9 (dk_at dksX5_draws_6 22 rfl rfl)
theorem dX5_draws_165 : decode cX5_draws 165 = .ok (.invokestatic 61, 3) := dk_184 0 61 (dk_at dksX5_draws_7 0 rfl rfl)
theorem dX5_draws_168 : decode cX5_draws 168 = .ok (.iastore, 1) := dk_79 (dk_at dksX5_draws_7 3 rfl rfl)
theorem dX5_draws_169 : decode cX5_draws 169 = .ok (.aload_n 0, 1) := dk_42 (dk_at dksX5_draws_7 4 rfl rfl)
theorem dX5_draws_170 : decode cX5_draws 170 = .ok (.invokevirtual 209, 3) := dk_182 0 209 (dk_at dksX5_draws_7 5 rfl rfl)
theorem dX5_draws_173 : decode cX5_draws 173 = .ok (.iinc 3 1, 3) := dk_132 3 1 (dk_at dksX5_draws_7 8 rfl rfl)
theorem dX5_draws_176 : decode cX5_draws 176 = .ok (.goto (-136), 3) := dk_167 255 120 (dk_at dksX5_draws_7 11 rfl rfl)
theorem dX5_draws_179 : decode cX5_draws 179 = .ok (.iload_n 2, 1) := dk_28 (dk_at dksX5_draws_7 14 rfl rfl)
theorem dX5_draws_180 : decode cX5_draws 180 = .ok (.ireturn, 1) := dk_172 (dk_at dksX5_draws_7 15 rfl rfl)
abbrev cX5_draw : ByteArray := prog_20_method_60_code
def yX5_draw : MethodName := ⟨RX5, "draw", "()I"⟩
def dkwX5_draw_1 : List UInt8 := [46, 16, 8, 124, 172]
abbrev dktX5_draw_1 : List UInt8 := dkwX5_draw_1 ++ []
def dkwX5_draw_0 : List UInt8 := [42, 180, 0, 7, 8, 42, 180, 0, 7, 8, 46, 18, 219, 104, 17, 48, 57, 96, 79, 42, 180, 0, 7, 8]
abbrev dktX5_draw_0 : List UInt8 := dkwX5_draw_0 ++ dktX5_draw_1
theorem dksX5_draw_0 : cX5_draw.data.toList.drop 0 = dktX5_draw_0 := by decide +kernel
theorem dksX5_draw_1 : cX5_draw.data.toList.drop 24 = dktX5_draw_1 := dk_seg dksX5_draw_0 24 rfl rfl
theorem dX5_draw_0 : decode cX5_draw 0 = .ok (.aload_n 0, 1) := dk_42 (dk_at dksX5_draw_0 0 rfl rfl)
theorem dX5_draw_1 : decode cX5_draw 1 = .ok (.getfield 7, 3) := dk_180 0 7 (dk_at dksX5_draw_0 1 rfl rfl)
theorem dX5_draw_4 : decode cX5_draw 4 = .ok (.iconst 5, 1) := dk_8 (dk_at dksX5_draw_0 4 rfl rfl)
theorem dX5_draw_5 : decode cX5_draw 5 = .ok (.aload_n 0, 1) := dk_42 (dk_at dksX5_draw_0 5 rfl rfl)
theorem dX5_draw_6 : decode cX5_draw 6 = .ok (.getfield 7, 3) := dk_180 0 7 (dk_at dksX5_draw_0 6 rfl rfl)
theorem dX5_draw_9 : decode cX5_draw 9 = .ok (.iconst 5, 1) := dk_8 (dk_at dksX5_draw_0 9 rfl rfl)
theorem dX5_draw_10 : decode cX5_draw 10 = .ok (.iaload, 1) := dk_46 (dk_at dksX5_draw_0 10 rfl rfl)
theorem dX5_draw_11 : decode cX5_draw 11 = .ok (.ldc 219, 2) := dk_18 219 (dk_at dksX5_draw_0 11 rfl rfl)
theorem dX5_draw_13 : decode cX5_draw 13 = .ok (.imul, 1) := dk_104 (dk_at dksX5_draw_0 13 rfl rfl)
theorem dX5_draw_14 : decode cX5_draw 14 = .ok (.sipush 12345, 3) := dk_17 48 57 (dk_at dksX5_draw_0 14 rfl rfl)
theorem dX5_draw_17 : decode cX5_draw 17 = .ok (.iadd, 1) := dk_96 (dk_at dksX5_draw_0 17 rfl rfl)
theorem dX5_draw_18 : decode cX5_draw 18 = .ok (.iastore, 1) := dk_79 (dk_at dksX5_draw_0 18 rfl rfl)
theorem dX5_draw_19 : decode cX5_draw 19 = .ok (.aload_n 0, 1) := dk_42 (dk_at dksX5_draw_0 19 rfl rfl)
theorem dX5_draw_20 : decode cX5_draw 20 = .ok (.getfield 7, 3) := dk_180 0 7 (dk_at dksX5_draw_0 20 rfl rfl)
theorem dX5_draw_23 : decode cX5_draw 23 = .ok (.iconst 5, 1) := dk_8 (dk_at dksX5_draw_0 23 rfl rfl)
theorem dX5_draw_24 : decode cX5_draw 24 = .ok (.iaload, 1) := dk_46 (dk_at dksX5_draw_1 0 rfl rfl)
theorem dX5_draw_25 : decode cX5_draw 25 = .ok (.bipush 8, 2) := dk_16 8 (dk_at dksX5_draw_1 1 rfl rfl)
theorem dX5_draw_27 : decode cX5_draw 27 = .ok (.iushr, 1) := dk_124 (dk_at dksX5_draw_1 3 rfl rfl)
theorem dX5_draw_28 : decode cX5_draw 28 = .ok (.ireturn, 1) := dk_172 (dk_at dksX5_draw_1 4 rfl rfl)
abbrev cX5_seed : ByteArray := prog_20_method_62_code
def yX5_seed : MethodName := ⟨RX5, "seed", "(I)I"⟩
def dkwX5_seed_0 : List UInt8 := [42, 8, 27, 182, 0, 72, 172]
abbrev dktX5_seed_0 : List UInt8 := dkwX5_seed_0 ++ []
theorem dksX5_seed_0 : cX5_seed.data.toList.drop 0 = dktX5_seed_0 := by decide +kernel
theorem dX5_seed_0 : decode cX5_seed 0 = .ok (.aload_n 0, 1) := dk_42 (dk_at dksX5_seed_0 0 rfl rfl)
theorem dX5_seed_1 : decode cX5_seed 1 = .ok (.iconst 5, 1) := dk_8 (dk_at dksX5_seed_0 1 rfl rfl)
theorem dX5_seed_2 : decode cX5_seed 2 = .ok (.iload_n 1, 1) := dk_27 (dk_at dksX5_seed_0 2 rfl rfl)
theorem dX5_seed_3 : decode cX5_seed 3 = .ok (.invokevirtual 72, 3) := dk_182 0 72 (dk_at dksX5_seed_0 3 rfl rfl)
theorem dX5_seed_6 : decode cX5_seed 6 = .ok (.ireturn, 1) := dk_172 (dk_at dksX5_seed_0 6 rfl rfl)
abbrev cX5_sell : ByteArray := prog_20_method_63_code
def yX5_sell : MethodName := ⟨RX5, "sell", "(III)I"⟩
def dkwX5_sell_3 : List UInt8 := [96, 182, 0, 203, 42, 28, 182, 0, 65, 172]
abbrev dktX5_sell_3 : List UInt8 := dkwX5_sell_3 ++ []
def dkwX5_sell_2 : List UInt8 := [182, 0, 76, 172, 42, 27, 42, 27, 182, 0, 65, 29, 100, 182, 0, 203, 42, 28, 42, 28, 182, 0, 65, 29]
abbrev dktX5_sell_2 : List UInt8 := dkwX5_sell_2 ++ dktX5_sell_3
def dkwX5_sell_1 : List UInt8 := [184, 0, 56, 154, 0, 9, 42, 4, 182, 0, 76, 172, 42, 27, 182, 0, 65, 29, 162, 0, 9, 42, 6]
abbrev dktX5_sell_1 : List UInt8 := dkwX5_sell_1 ++ dktX5_sell_2
def dkwX5_sell_0 : List UInt8 := [27, 184, 0, 83, 153, 0, 26, 28, 184, 0, 83, 153, 0, 19, 27, 28, 159, 0, 14, 29, 4, 17, 39, 15]
abbrev dktX5_sell_0 : List UInt8 := dkwX5_sell_0 ++ dktX5_sell_1
theorem dksX5_sell_0 : cX5_sell.data.toList.drop 0 = dktX5_sell_0 := by decide +kernel
theorem dksX5_sell_1 : cX5_sell.data.toList.drop 24 = dktX5_sell_1 := dk_seg dksX5_sell_0 24 rfl rfl
theorem dksX5_sell_2 : cX5_sell.data.toList.drop 47 = dktX5_sell_2 := dk_seg dksX5_sell_1 23 rfl rfl
theorem dksX5_sell_3 : cX5_sell.data.toList.drop 71 = dktX5_sell_3 := dk_seg dksX5_sell_2 24 rfl rfl
theorem dX5_sell_0 : decode cX5_sell 0 = .ok (.iload_n 1, 1) := dk_27 (dk_at dksX5_sell_0 0 rfl rfl)
theorem dX5_sell_1 : decode cX5_sell 1 = .ok (.invokestatic 83, 3) := dk_184 0 83 (dk_at dksX5_sell_0 1 rfl rfl)
theorem dX5_sell_4 : decode cX5_sell 4 = .ok (.ifCond .eq 26, 3) := dk_153 0 26 (dk_at dksX5_sell_0 4 rfl rfl)
theorem dX5_sell_7 : decode cX5_sell 7 = .ok (.iload_n 2, 1) := dk_28 (dk_at dksX5_sell_0 7 rfl rfl)
theorem dX5_sell_8 : decode cX5_sell 8 = .ok (.invokestatic 83, 3) := dk_184 0 83 (dk_at dksX5_sell_0 8 rfl rfl)
theorem dX5_sell_11 : decode cX5_sell 11 = .ok (.ifCond .eq 19, 3) := dk_153 0 19 (dk_at dksX5_sell_0 11 rfl rfl)
theorem dX5_sell_14 : decode cX5_sell 14 = .ok (.iload_n 1, 1) := dk_27 (dk_at dksX5_sell_0 14 rfl rfl)
theorem dX5_sell_15 : decode cX5_sell 15 = .ok (.iload_n 2, 1) := dk_28 (dk_at dksX5_sell_0 15 rfl rfl)
theorem dX5_sell_16 : decode cX5_sell 16 = .ok (.if_icmp .eq 14, 3) := dk_159 0 14 (dk_at dksX5_sell_0 16 rfl rfl)
theorem dX5_sell_19 : decode cX5_sell 19 = .ok (.iload_n 3, 1) := dk_29 (dk_at dksX5_sell_0 19 rfl rfl)
theorem dX5_sell_20 : decode cX5_sell 20 = .ok (.iconst 1, 1) := dk_4 (dk_at dksX5_sell_0 20 rfl rfl)
theorem dX5_sell_21 : decode cX5_sell 21 = .ok (.sipush 9999, 3) := dk_17 39 15 (dk_at dksX5_sell_0 21 rfl rfl)
theorem dX5_sell_24 : decode cX5_sell 24 = .ok (.invokestatic 56, 3) := dk_184 0 56 (dk_at dksX5_sell_1 0 rfl rfl)
theorem dX5_sell_27 : decode cX5_sell 27 = .ok (.ifCond .ne 9, 3) := dk_154 0 9 (dk_at dksX5_sell_1 3 rfl rfl)
theorem dX5_sell_30 : decode cX5_sell 30 = .ok (.aload_n 0, 1) := dk_42 (dk_at dksX5_sell_1 6 rfl rfl)
theorem dX5_sell_31 : decode cX5_sell 31 = .ok (.iconst 1, 1) := dk_4 (dk_at dksX5_sell_1 7 rfl rfl)
theorem dX5_sell_32 : decode cX5_sell 32 = .ok (.invokevirtual 76, 3) := dk_182 0 76 (dk_at dksX5_sell_1 8 rfl rfl)
theorem dX5_sell_35 : decode cX5_sell 35 = .ok (.ireturn, 1) := dk_172 (dk_at dksX5_sell_1 11 rfl rfl)
theorem dX5_sell_36 : decode cX5_sell 36 = .ok (.aload_n 0, 1) := dk_42 (dk_at dksX5_sell_1 12 rfl rfl)
theorem dX5_sell_37 : decode cX5_sell 37 = .ok (.iload_n 1, 1) := dk_27 (dk_at dksX5_sell_1 13 rfl rfl)
theorem dX5_sell_38 : decode cX5_sell 38 = .ok (.invokevirtual 65, 3) := dk_182 0 65 (dk_at dksX5_sell_1 14 rfl rfl)
theorem dX5_sell_41 : decode cX5_sell 41 = .ok (.iload_n 3, 1) := dk_29 (dk_at dksX5_sell_1 17 rfl rfl)
theorem dX5_sell_42 : decode cX5_sell 42 = .ok (.if_icmp .ge 9, 3) := dk_162 0 9 (dk_at dksX5_sell_1 18 rfl rfl)
theorem dX5_sell_45 : decode cX5_sell 45 = .ok (.aload_n 0, 1) := dk_42 (dk_at dksX5_sell_1 21 rfl rfl)
theorem dX5_sell_46 : decode cX5_sell 46 = .ok (.iconst 3, 1) := dk_6 (dk_at dksX5_sell_1 22 rfl rfl)
theorem dX5_sell_47 : decode cX5_sell 47 = .ok (.invokevirtual 76, 3) := dk_182 0 76 (dk_at dksX5_sell_2 0 rfl rfl)
theorem dX5_sell_50 : decode cX5_sell 50 = .ok (.ireturn, 1) := dk_172 (dk_at dksX5_sell_2 3 rfl rfl)
theorem dX5_sell_51 : decode cX5_sell 51 = .ok (.aload_n 0, 1) := dk_42 (dk_at dksX5_sell_2 4 rfl rfl)
theorem dX5_sell_52 : decode cX5_sell 52 = .ok (.iload_n 1, 1) := dk_27 (dk_at dksX5_sell_2 5 rfl rfl)
theorem dX5_sell_53 : decode cX5_sell 53 = .ok (.aload_n 0, 1) := dk_42 (dk_at dksX5_sell_2 6 rfl rfl)
theorem dX5_sell_54 : decode cX5_sell 54 = .ok (.iload_n 1, 1) := dk_27 (dk_at dksX5_sell_2 7 rfl rfl)
theorem dX5_sell_55 : decode cX5_sell 55 = .ok (.invokevirtual 65, 3) := dk_182 0 65 (dk_at dksX5_sell_2 8 rfl rfl)
theorem dX5_sell_58 : decode cX5_sell 58 = .ok (.iload_n 3, 1) := dk_29 (dk_at dksX5_sell_2 11 rfl rfl)
theorem dX5_sell_59 : decode cX5_sell 59 = .ok (.isub, 1) := dk_100 (dk_at dksX5_sell_2 12 rfl rfl)
theorem dX5_sell_60 : decode cX5_sell 60 = .ok (.invokevirtual 203, 3) := dk_182 0 203 (dk_at dksX5_sell_2 13 rfl rfl)
theorem dX5_sell_63 : decode cX5_sell 63 = .ok (.aload_n 0, 1) := dk_42 (dk_at dksX5_sell_2 16 rfl rfl)
theorem dX5_sell_64 : decode cX5_sell 64 = .ok (.iload_n 2, 1) := dk_28 (dk_at dksX5_sell_2 17 rfl rfl)
theorem dX5_sell_65 : decode cX5_sell 65 = .ok (.aload_n 0, 1) := dk_42 (dk_at dksX5_sell_2 18 rfl rfl)
theorem dX5_sell_66 : decode cX5_sell 66 = .ok (.iload_n 2, 1) := dk_28 (dk_at dksX5_sell_2 19 rfl rfl)
theorem dX5_sell_67 : decode cX5_sell 67 = .ok (.invokevirtual 65, 3) := dk_182 0 65 (dk_at dksX5_sell_2 20 rfl rfl)
theorem dX5_sell_70 : decode cX5_sell 70 = .ok (.iload_n 3, 1) := dk_29 (dk_at dksX5_sell_2 23 rfl rfl)
theorem dX5_sell_71 : decode cX5_sell 71 = .ok (.iadd, 1) := dk_96 (dk_at dksX5_sell_3 0 rfl rfl)
theorem dX5_sell_72 : decode cX5_sell 72 = .ok (.invokevirtual 203, 3) := dk_182 0 203 (dk_at dksX5_sell_3 1 rfl rfl)
theorem dX5_sell_75 : decode cX5_sell 75 = .ok (.aload_n 0, 1) := dk_42 (dk_at dksX5_sell_3 4 rfl rfl)
theorem dX5_sell_76 : decode cX5_sell 76 = .ok (.iload_n 2, 1) := dk_28 (dk_at dksX5_sell_3 5 rfl rfl)
theorem dX5_sell_77 : decode cX5_sell 77 = .ok (.invokevirtual 65, 3) := dk_182 0 65 (dk_at dksX5_sell_3 6 rfl rfl)
theorem dX5_sell_80 : decode cX5_sell 80 = .ok (.ireturn, 1) := dk_172 (dk_at dksX5_sell_3 9 rfl rfl)
abbrev cX5_fair : ByteArray := prog_20_method_64_code
def yX5_fair : MethodName := ⟨RX5, "fair", "(II)I"⟩
def dkwX5_fair_2 : List UInt8 := [5, 108, 172]
abbrev dktX5_fair_2 : List UInt8 := dkwX5_fair_2 ++ []
def dkwX5_fair_1 : List UInt8 := [172, 42, 27, 182, 0, 65, 42, 27, 182, 0, 69, 100, 42, 28, 182, 0, 65, 100, 42, 28, 182, 0, 69, 96]
abbrev dktX5_fair_1 : List UInt8 := dkwX5_fair_1 ++ dktX5_fair_2
def dkwX5_fair_0 : List UInt8 := [27, 184, 0, 83, 153, 0, 15, 28, 184, 0, 83, 153, 0, 8, 27, 28, 160, 0, 9, 42, 4, 182, 0, 76]
abbrev dktX5_fair_0 : List UInt8 := dkwX5_fair_0 ++ dktX5_fair_1
theorem dksX5_fair_0 : cX5_fair.data.toList.drop 0 = dktX5_fair_0 := by decide +kernel
theorem dksX5_fair_1 : cX5_fair.data.toList.drop 24 = dktX5_fair_1 := dk_seg dksX5_fair_0 24 rfl rfl
theorem dksX5_fair_2 : cX5_fair.data.toList.drop 48 = dktX5_fair_2 := dk_seg dksX5_fair_1 24 rfl rfl
theorem dX5_fair_0 : decode cX5_fair 0 = .ok (.iload_n 1, 1) := dk_27 (dk_at dksX5_fair_0 0 rfl rfl)
theorem dX5_fair_1 : decode cX5_fair 1 = .ok (.invokestatic 83, 3) := dk_184 0 83 (dk_at dksX5_fair_0 1 rfl rfl)
theorem dX5_fair_4 : decode cX5_fair 4 = .ok (.ifCond .eq 15, 3) := dk_153 0 15 (dk_at dksX5_fair_0 4 rfl rfl)
theorem dX5_fair_7 : decode cX5_fair 7 = .ok (.iload_n 2, 1) := dk_28 (dk_at dksX5_fair_0 7 rfl rfl)
theorem dX5_fair_8 : decode cX5_fair 8 = .ok (.invokestatic 83, 3) := dk_184 0 83 (dk_at dksX5_fair_0 8 rfl rfl)
theorem dX5_fair_11 : decode cX5_fair 11 = .ok (.ifCond .eq 8, 3) := dk_153 0 8 (dk_at dksX5_fair_0 11 rfl rfl)
theorem dX5_fair_14 : decode cX5_fair 14 = .ok (.iload_n 1, 1) := dk_27 (dk_at dksX5_fair_0 14 rfl rfl)
theorem dX5_fair_15 : decode cX5_fair 15 = .ok (.iload_n 2, 1) := dk_28 (dk_at dksX5_fair_0 15 rfl rfl)
theorem dX5_fair_16 : decode cX5_fair 16 = .ok (.if_icmp .ne 9, 3) := dk_160 0 9 (dk_at dksX5_fair_0 16 rfl rfl)
theorem dX5_fair_19 : decode cX5_fair 19 = .ok (.aload_n 0, 1) := dk_42 (dk_at dksX5_fair_0 19 rfl rfl)
theorem dX5_fair_20 : decode cX5_fair 20 = .ok (.iconst 1, 1) := dk_4 (dk_at dksX5_fair_0 20 rfl rfl)
theorem dX5_fair_21 : decode cX5_fair 21 = .ok (.invokevirtual 76, 3) := dk_182 0 76 (dk_at dksX5_fair_0 21 rfl rfl)
theorem dX5_fair_24 : decode cX5_fair 24 = .ok (.ireturn, 1) := dk_172 (dk_at dksX5_fair_1 0 rfl rfl)
theorem dX5_fair_25 : decode cX5_fair 25 = .ok (.aload_n 0, 1) := dk_42 (dk_at dksX5_fair_1 1 rfl rfl)
theorem dX5_fair_26 : decode cX5_fair 26 = .ok (.iload_n 1, 1) := dk_27 (dk_at dksX5_fair_1 2 rfl rfl)
theorem dX5_fair_27 : decode cX5_fair 27 = .ok (.invokevirtual 65, 3) := dk_182 0 65 (dk_at dksX5_fair_1 3 rfl rfl)
theorem dX5_fair_30 : decode cX5_fair 30 = .ok (.aload_n 0, 1) := dk_42 (dk_at dksX5_fair_1 6 rfl rfl)
theorem dX5_fair_31 : decode cX5_fair 31 = .ok (.iload_n 1, 1) := dk_27 (dk_at dksX5_fair_1 7 rfl rfl)
theorem dX5_fair_32 : decode cX5_fair 32 = .ok (.invokevirtual 69, 3) := dk_182 0 69 (dk_at dksX5_fair_1 8 rfl rfl)
theorem dX5_fair_35 : decode cX5_fair 35 = .ok (.isub, 1) := dk_100 (dk_at dksX5_fair_1 11 rfl rfl)
theorem dX5_fair_36 : decode cX5_fair 36 = .ok (.aload_n 0, 1) := dk_42 (dk_at dksX5_fair_1 12 rfl rfl)
theorem dX5_fair_37 : decode cX5_fair 37 = .ok (.iload_n 2, 1) := dk_28 (dk_at dksX5_fair_1 13 rfl rfl)
theorem dX5_fair_38 : decode cX5_fair 38 = .ok (.invokevirtual 65, 3) := dk_182 0 65 (dk_at dksX5_fair_1 14 rfl rfl)
theorem dX5_fair_41 : decode cX5_fair 41 = .ok (.isub, 1) := dk_100 (dk_at dksX5_fair_1 17 rfl rfl)
theorem dX5_fair_42 : decode cX5_fair 42 = .ok (.aload_n 0, 1) := dk_42 (dk_at dksX5_fair_1 18 rfl rfl)
theorem dX5_fair_43 : decode cX5_fair 43 = .ok (.iload_n 2, 1) := dk_28 (dk_at dksX5_fair_1 19 rfl rfl)
theorem dX5_fair_44 : decode cX5_fair 44 = .ok (.invokevirtual 69, 3) := dk_182 0 69 (dk_at dksX5_fair_1 20 rfl rfl)
theorem dX5_fair_47 : decode cX5_fair 47 = .ok (.iadd, 1) := dk_96 (dk_at dksX5_fair_1 23 rfl rfl)
theorem dX5_fair_48 : decode cX5_fair 48 = .ok (.iconst 2, 1) := dk_5 (dk_at dksX5_fair_2 0 rfl rfl)
theorem dX5_fair_49 : decode cX5_fair 49 = .ok (.idiv, 1) := dk_108 (dk_at dksX5_fair_2 1 rfl rfl)
theorem dX5_fair_50 : decode cX5_fair 50 = .ok (.ireturn, 1) := dk_172 (dk_at dksX5_fair_2 2 rfl rfl)
abbrev cX5_then : ByteArray := prog_20_method_66_code
def yX5_then : MethodName := ⟨RX5, "then", "(III)I"⟩
def dkwX5_then_3 : List UInt8 := [172]
abbrev dktX5_then_3 : List UInt8 := dkwX5_then_3 ++ []
def dkwX5_then_2 : List UInt8 := [182, 0, 212, 42, 28, 29, 182, 0, 115, 54, 4, 42, 180, 0, 16, 42, 180, 0, 7, 184, 0, 226, 21, 4]
abbrev dktX5_then_2 : List UInt8 := dkwX5_then_2 ++ dktX5_then_3
def dkwX5_then_1 : List UInt8 := [154, 0, 9, 42, 4, 182, 0, 76, 172, 42, 180, 0, 7, 42, 180, 0, 16, 184, 0, 226, 42, 27]
abbrev dktX5_then_1 : List UInt8 := dkwX5_then_1 ++ dktX5_then_2
def dkwX5_then_0 : List UInt8 := [27, 184, 0, 223, 153, 0, 21, 42, 28, 182, 0, 112, 153, 0, 13, 29, 3, 16, 9, 184, 0, 56]
abbrev dktX5_then_0 : List UInt8 := dkwX5_then_0 ++ dktX5_then_1
theorem dksX5_then_0 : cX5_then.data.toList.drop 0 = dktX5_then_0 := by decide +kernel
theorem dksX5_then_1 : cX5_then.data.toList.drop 22 = dktX5_then_1 := dk_seg dksX5_then_0 22 rfl rfl
theorem dksX5_then_2 : cX5_then.data.toList.drop 44 = dktX5_then_2 := dk_seg dksX5_then_1 22 rfl rfl
theorem dksX5_then_3 : cX5_then.data.toList.drop 68 = dktX5_then_3 := dk_seg dksX5_then_2 24 rfl rfl
theorem dX5_then_0 : decode cX5_then 0 = .ok (.iload_n 1, 1) := dk_27 (dk_at dksX5_then_0 0 rfl rfl)
theorem dX5_then_1 : decode cX5_then 1 = .ok (.invokestatic 223, 3) := dk_184 0 223 (dk_at dksX5_then_0 1 rfl rfl)
theorem dX5_then_4 : decode cX5_then 4 = .ok (.ifCond .eq 21, 3) := dk_153 0 21 (dk_at dksX5_then_0 4 rfl rfl)
theorem dX5_then_7 : decode cX5_then 7 = .ok (.aload_n 0, 1) := dk_42 (dk_at dksX5_then_0 7 rfl rfl)
theorem dX5_then_8 : decode cX5_then 8 = .ok (.iload_n 2, 1) := dk_28 (dk_at dksX5_then_0 8 rfl rfl)
theorem dX5_then_9 : decode cX5_then 9 = .ok (.invokevirtual 112, 3) := dk_182 0 112 (dk_at dksX5_then_0 9 rfl rfl)
theorem dX5_then_12 : decode cX5_then 12 = .ok (.ifCond .eq 13, 3) := dk_153 0 13 (dk_at dksX5_then_0 12 rfl rfl)
theorem dX5_then_15 : decode cX5_then 15 = .ok (.iload_n 3, 1) := dk_29 (dk_at dksX5_then_0 15 rfl rfl)
theorem dX5_then_16 : decode cX5_then 16 = .ok (.iconst 0, 1) := dk_3 (dk_at dksX5_then_0 16 rfl rfl)
theorem dX5_then_17 : decode cX5_then 17 = .ok (.bipush 9, 2) := dk_16 9 (dk_at dksX5_then_0 17 rfl rfl)
theorem dX5_then_19 : decode cX5_then 19 = .ok (.invokestatic 56, 3) := dk_184 0 56 (dk_at dksX5_then_0 19 rfl rfl)
theorem dX5_then_22 : decode cX5_then 22 = .ok (.ifCond .ne 9, 3) := dk_154 0 9 (dk_at dksX5_then_1 0 rfl rfl)
theorem dX5_then_25 : decode cX5_then 25 = .ok (.aload_n 0, 1) := dk_42 (dk_at dksX5_then_1 3 rfl rfl)
theorem dX5_then_26 : decode cX5_then 26 = .ok (.iconst 1, 1) := dk_4 (dk_at dksX5_then_1 4 rfl rfl)
theorem dX5_then_27 : decode cX5_then 27 = .ok (.invokevirtual 76, 3) := dk_182 0 76 (dk_at dksX5_then_1 5 rfl rfl)
theorem dX5_then_30 : decode cX5_then 30 = .ok (.ireturn, 1) := dk_172 (dk_at dksX5_then_1 8 rfl rfl)
theorem dX5_then_31 : decode cX5_then 31 = .ok (.aload_n 0, 1) := dk_42 (dk_at dksX5_then_1 9 rfl rfl)
theorem dX5_then_32 : decode cX5_then 32 = .ok (.getfield 7, 3) := dk_180 0 7 (dk_at dksX5_then_1 10 rfl rfl)
theorem dX5_then_35 : decode cX5_then 35 = .ok (.aload_n 0, 1) := dk_42 (dk_at dksX5_then_1 13 rfl rfl)
theorem dX5_then_36 : decode cX5_then 36 = .ok (.getfield 16, 3) := dk_180 0 16 (dk_at dksX5_then_1 14 rfl rfl)
theorem dX5_then_39 : decode cX5_then 39 = .ok (.invokestatic 226, 3) := dk_184 0 226 (dk_at dksX5_then_1 17 rfl rfl)
theorem dX5_then_42 : decode cX5_then 42 = .ok (.aload_n 0, 1) := dk_42 (dk_at dksX5_then_1 20 rfl rfl)
theorem dX5_then_43 : decode cX5_then 43 = .ok (.iload_n 1, 1) := dk_27 (dk_at dksX5_then_1 21 rfl rfl)
theorem dX5_then_44 : decode cX5_then 44 = .ok (.invokevirtual 212, 3) := dk_182 0 212 (dk_at dksX5_then_2 0 rfl rfl)
theorem dX5_then_47 : decode cX5_then 47 = .ok (.aload_n 0, 1) := dk_42 (dk_at dksX5_then_2 3 rfl rfl)
theorem dX5_then_48 : decode cX5_then 48 = .ok (.iload_n 2, 1) := dk_28 (dk_at dksX5_then_2 4 rfl rfl)
theorem dX5_then_49 : decode cX5_then 49 = .ok (.iload_n 3, 1) := dk_29 (dk_at dksX5_then_2 5 rfl rfl)
theorem dX5_then_50 : decode cX5_then 50 = .ok (.invokevirtual 115, 3) := dk_182 0 115 (dk_at dksX5_then_2 6 rfl rfl)
theorem dX5_then_53 : decode cX5_then 53 = .ok (.istore 4, 2) := dk_54 4 (dk_at dksX5_then_2 9 rfl rfl)
theorem dX5_then_55 : decode cX5_then 55 = .ok (.aload_n 0, 1) := dk_42 (dk_at dksX5_then_2 11 rfl rfl)
theorem dX5_then_56 : decode cX5_then 56 = .ok (.getfield 16, 3) := dk_180 0 16 (dk_at dksX5_then_2 12 rfl rfl)
theorem dX5_then_59 : decode cX5_then 59 = .ok (.aload_n 0, 1) := dk_42 (dk_at dksX5_then_2 15 rfl rfl)
theorem dX5_then_60 : decode cX5_then 60 = .ok (.getfield 7, 3) := dk_180 0 7 (dk_at dksX5_then_2 16 rfl rfl)
theorem dX5_then_63 : decode cX5_then 63 = .ok (.invokestatic 226, 3) := dk_184 0 226 (dk_at dksX5_then_2 19 rfl rfl)
theorem dX5_then_66 : decode cX5_then 66 = .ok (.iload 4, 2) := dk_21 4 (dk_at dksX5_then_2 22 rfl rfl)
theorem dX5_then_68 : decode cX5_then 68 = .ok (.ireturn, 1) := dk_172 (dk_at dksX5_then_3 0 rfl rfl)
abbrev cX5_isAhead : ByteArray := prog_20_method_65_code
def yX5_isAhead : MethodName := ⟨RX5, "isAhead", "(I)Z"⟩
def dkwX5_isAhead_0 : List UInt8 := [26, 3, 17, 0, 240, 184, 0, 56, 172]
abbrev dktX5_isAhead_0 : List UInt8 := dkwX5_isAhead_0 ++ []
theorem dksX5_isAhead_0 : cX5_isAhead.data.toList.drop 0 = dktX5_isAhead_0 := by decide +kernel
theorem dX5_isAhead_0 : decode cX5_isAhead 0 = .ok (.iload_n 0, 1) := dk_26 (dk_at dksX5_isAhead_0 0 rfl rfl)
theorem dX5_isAhead_1 : decode cX5_isAhead 1 = .ok (.iconst 0, 1) := dk_3 (dk_at dksX5_isAhead_0 1 rfl rfl)
theorem dX5_isAhead_2 : decode cX5_isAhead 2 = .ok (.sipush 240, 3) := dk_17 0 240 (dk_at dksX5_isAhead_0 2 rfl rfl)
theorem dX5_isAhead_5 : decode cX5_isAhead 5 = .ok (.invokestatic 56, 3) := dk_184 0 56 (dk_at dksX5_isAhead_0 5 rfl rfl)
theorem dX5_isAhead_8 : decode cX5_isAhead 8 = .ok (.ireturn, 1) := dk_172 (dk_at dksX5_isAhead_0 8 rfl rfl)
abbrev cX5_carry : ByteArray := prog_20_method_5_code
def yX5_carry : MethodName := ⟨RX5, "carry", "([I[I)V"⟩
def dkwX5_carry_0 : List UInt8 := [3, 61, 28, 17, 1, 193, 162, 0, 15, 43, 28, 42, 28, 46, 79, 132, 2, 1, 167, 255, 240, 177]
abbrev dktX5_carry_0 : List UInt8 := dkwX5_carry_0 ++ []
theorem dksX5_carry_0 : cX5_carry.data.toList.drop 0 = dktX5_carry_0 := by decide +kernel
theorem dX5_carry_0 : decode cX5_carry 0 = .ok (.iconst 0, 1) := dk_3 (dk_at dksX5_carry_0 0 rfl rfl)
theorem dX5_carry_1 : decode cX5_carry 1 = .ok (.istore_n 2, 1) := dk_61 (dk_at dksX5_carry_0 1 rfl rfl)
theorem dX5_carry_2 : decode cX5_carry 2 = .ok (.iload_n 2, 1) := dk_28 (dk_at dksX5_carry_0 2 rfl rfl)
theorem dX5_carry_3 : decode cX5_carry 3 = .ok (.sipush 449, 3) := dk_17 1 193 (dk_at dksX5_carry_0 3 rfl rfl)
theorem dX5_carry_6 : decode cX5_carry 6 = .ok (.if_icmp .ge 15, 3) := dk_162 0 15 (dk_at dksX5_carry_0 6 rfl rfl)
theorem dX5_carry_9 : decode cX5_carry 9 = .ok (.aload_n 1, 1) := dk_43 (dk_at dksX5_carry_0 9 rfl rfl)
theorem dX5_carry_10 : decode cX5_carry 10 = .ok (.iload_n 2, 1) := dk_28 (dk_at dksX5_carry_0 10 rfl rfl)
theorem dX5_carry_11 : decode cX5_carry 11 = .ok (.aload_n 0, 1) := dk_42 (dk_at dksX5_carry_0 11 rfl rfl)
theorem dX5_carry_12 : decode cX5_carry 12 = .ok (.iload_n 2, 1) := dk_28 (dk_at dksX5_carry_0 12 rfl rfl)
theorem dX5_carry_13 : decode cX5_carry 13 = .ok (.iaload, 1) := dk_46 (dk_at dksX5_carry_0 13 rfl rfl)
theorem dX5_carry_14 : decode cX5_carry 14 = .ok (.iastore, 1) := dk_79 (dk_at dksX5_carry_0 14 rfl rfl)
theorem dX5_carry_15 : decode cX5_carry 15 = .ok (.iinc 2 1, 3) := dk_132 2 1 (dk_at dksX5_carry_0 15 rfl rfl)
theorem dX5_carry_18 : decode cX5_carry 18 = .ok (.goto (-16), 3) := dk_167 255 240 (dk_at dksX5_carry_0 18 rfl rfl)
theorem dX5_carry_21 : decode cX5_carry 21 = .ok (.return_, 1) := dk_177 (dk_at dksX5_carry_0 21 rfl rfl)
abbrev cX5_thenFamily : ByteArray := prog_20_method_67_code
def yX5_thenFamily : MethodName := ⟨RX5, "thenFamily", "(III)I"⟩
def dkwX5_thenFamily_2 : List UInt8 := [182, 0, 93, 54, 4, 42, 180, 0, 16, 42, 180, 0, 7, 184, 0, 226, 21, 4, 172]
abbrev dktX5_thenFamily_2 : List UInt8 := dkwX5_thenFamily_2 ++ []
def dkwX5_thenFamily_1 : List UInt8 := [4, 182, 0, 76, 172, 42, 180, 0, 7, 42, 180, 0, 16, 184, 0, 226, 42, 27, 182, 0, 212, 42, 28, 29]
abbrev dktX5_thenFamily_1 : List UInt8 := dkwX5_thenFamily_1 ++ dktX5_thenFamily_2
def dkwX5_thenFamily_0 : List UInt8 := [27, 184, 0, 223, 153, 0, 19, 28, 184, 0, 83, 153, 0, 12, 29, 3, 6, 184, 0, 56, 154, 0, 9, 42]
abbrev dktX5_thenFamily_0 : List UInt8 := dkwX5_thenFamily_0 ++ dktX5_thenFamily_1
theorem dksX5_thenFamily_0 : cX5_thenFamily.data.toList.drop 0 = dktX5_thenFamily_0 := by decide +kernel
theorem dksX5_thenFamily_1 : cX5_thenFamily.data.toList.drop 24 = dktX5_thenFamily_1 := dk_seg dksX5_thenFamily_0 24 rfl rfl
theorem dksX5_thenFamily_2 : cX5_thenFamily.data.toList.drop 48 = dktX5_thenFamily_2 := dk_seg dksX5_thenFamily_1 24 rfl rfl
theorem dX5_thenFamily_0 : decode cX5_thenFamily 0 = .ok (.iload_n 1, 1) := dk_27 (dk_at dksX5_thenFamily_0 0 rfl rfl)
theorem dX5_thenFamily_1 : decode cX5_thenFamily 1 = .ok (.invokestatic 223, 3) := dk_184 0 223 (dk_at dksX5_thenFamily_0 1 rfl rfl)
theorem dX5_thenFamily_4 : decode cX5_thenFamily 4 = .ok (.ifCond .eq 19, 3) := dk_153 0 19 (dk_at dksX5_thenFamily_0 4 rfl rfl)
theorem dX5_thenFamily_7 : decode cX5_thenFamily 7 = .ok (.iload_n 2, 1) := dk_28 (dk_at dksX5_thenFamily_0 7 rfl rfl)
theorem dX5_thenFamily_8 : decode cX5_thenFamily 8 = .ok (.invokestatic 83, 3) := dk_184 0 83 (dk_at dksX5_thenFamily_0 8 rfl rfl)
theorem dX5_thenFamily_11 : decode cX5_thenFamily 11 = .ok (.ifCond .eq 12, 3) := dk_153 0 12 (dk_at dksX5_thenFamily_0 11 rfl rfl)
theorem dX5_thenFamily_14 : decode cX5_thenFamily 14 = .ok (.iload_n 3, 1) := dk_29 (dk_at dksX5_thenFamily_0 14 rfl rfl)
theorem dX5_thenFamily_15 : decode cX5_thenFamily 15 = .ok (.iconst 0, 1) := dk_3 (dk_at dksX5_thenFamily_0 15 rfl rfl)
theorem dX5_thenFamily_16 : decode cX5_thenFamily 16 = .ok (.iconst 3, 1) := dk_6 (dk_at dksX5_thenFamily_0 16 rfl rfl)
theorem dX5_thenFamily_17 : decode cX5_thenFamily 17 = .ok (.invokestatic 56, 3) := dk_184 0 56 (dk_at dksX5_thenFamily_0 17 rfl rfl)
theorem dX5_thenFamily_20 : decode cX5_thenFamily 20 = .ok (.ifCond .ne 9, 3) := dk_154 0 9 (dk_at dksX5_thenFamily_0 20 rfl rfl)
theorem dX5_thenFamily_23 : decode cX5_thenFamily 23 = .ok (.aload_n 0, 1) := dk_42 (dk_at dksX5_thenFamily_0 23 rfl rfl)
theorem dX5_thenFamily_24 : decode cX5_thenFamily 24 = .ok (.iconst 1, 1) := dk_4 (dk_at dksX5_thenFamily_1 0 rfl rfl)
theorem dX5_thenFamily_25 : decode cX5_thenFamily 25 = .ok (.invokevirtual 76, 3) := dk_182 0 76 (dk_at dksX5_thenFamily_1 1 rfl rfl)
theorem dX5_thenFamily_28 : decode cX5_thenFamily 28 = .ok (.ireturn, 1) := dk_172 (dk_at dksX5_thenFamily_1 4 rfl rfl)
theorem dX5_thenFamily_29 : decode cX5_thenFamily 29 = .ok (.aload_n 0, 1) := dk_42 (dk_at dksX5_thenFamily_1 5 rfl rfl)
theorem dX5_thenFamily_30 : decode cX5_thenFamily 30 = .ok (.getfield 7, 3) := dk_180 0 7 (dk_at dksX5_thenFamily_1 6 rfl rfl)
theorem dX5_thenFamily_33 : decode cX5_thenFamily 33 = .ok (.aload_n 0, 1) := dk_42 (dk_at dksX5_thenFamily_1 9 rfl rfl)
theorem dX5_thenFamily_34 : decode cX5_thenFamily 34 = .ok (.getfield 16, 3) := dk_180 0 16 (dk_at dksX5_thenFamily_1 10 rfl rfl)
theorem dX5_thenFamily_37 : decode cX5_thenFamily 37 = .ok (.invokestatic 226, 3) := dk_184 0 226 (dk_at dksX5_thenFamily_1 13 rfl rfl)
theorem dX5_thenFamily_40 : decode cX5_thenFamily 40 = .ok (.aload_n 0, 1) := dk_42 (dk_at dksX5_thenFamily_1 16 rfl rfl)
theorem dX5_thenFamily_41 : decode cX5_thenFamily 41 = .ok (.iload_n 1, 1) := dk_27 (dk_at dksX5_thenFamily_1 17 rfl rfl)
theorem dX5_thenFamily_42 : decode cX5_thenFamily 42 = .ok (.invokevirtual 212, 3) := dk_182 0 212 (dk_at dksX5_thenFamily_1 18 rfl rfl)
theorem dX5_thenFamily_45 : decode cX5_thenFamily 45 = .ok (.aload_n 0, 1) := dk_42 (dk_at dksX5_thenFamily_1 21 rfl rfl)
theorem dX5_thenFamily_46 : decode cX5_thenFamily 46 = .ok (.iload_n 2, 1) := dk_28 (dk_at dksX5_thenFamily_1 22 rfl rfl)
theorem dX5_thenFamily_47 : decode cX5_thenFamily 47 = .ok (.iload_n 3, 1) := dk_29 (dk_at dksX5_thenFamily_1 23 rfl rfl)
theorem dX5_thenFamily_48 : decode cX5_thenFamily 48 = .ok (.invokevirtual 93, 3) := dk_182 0 93 (dk_at dksX5_thenFamily_2 0 rfl rfl)
theorem dX5_thenFamily_51 : decode cX5_thenFamily 51 = .ok (.istore 4, 2) := dk_54 4 (dk_at dksX5_thenFamily_2 3 rfl rfl)
theorem dX5_thenFamily_53 : decode cX5_thenFamily 53 = .ok (.aload_n 0, 1) := dk_42 (dk_at dksX5_thenFamily_2 5 rfl rfl)
theorem dX5_thenFamily_54 : decode cX5_thenFamily 54 = .ok (.getfield 16, 3) := dk_180 0 16 (dk_at dksX5_thenFamily_2 6 rfl rfl)
theorem dX5_thenFamily_57 : decode cX5_thenFamily 57 = .ok (.aload_n 0, 1) := dk_42 (dk_at dksX5_thenFamily_2 9 rfl rfl)
theorem dX5_thenFamily_58 : decode cX5_thenFamily 58 = .ok (.getfield 7, 3) := dk_180 0 7 (dk_at dksX5_thenFamily_2 10 rfl rfl)
theorem dX5_thenFamily_61 : decode cX5_thenFamily 61 = .ok (.invokestatic 226, 3) := dk_184 0 226 (dk_at dksX5_thenFamily_2 13 rfl rfl)
theorem dX5_thenFamily_64 : decode cX5_thenFamily 64 = .ok (.iload 4, 2) := dk_21 4 (dk_at dksX5_thenFamily_2 16 rfl rfl)
theorem dX5_thenFamily_66 : decode cX5_thenFamily 66 = .ok (.ireturn, 1) := dk_172 (dk_at dksX5_thenFamily_2 18 rfl rfl)
abbrev cX5_when : ByteArray := prog_20_method_68_code
def yX5_when : MethodName := ⟨RX5, "when", "(II)I"⟩
def dkwX5_when_3 : List UInt8 := [184, 0, 226, 21, 4, 153, 0, 7, 29, 167, 0, 8, 42, 5, 182, 0, 76, 172]
abbrev dktX5_when_3 : List UInt8 := dkwX5_when_3 ++ []
def dkwX5_when_2 : List UInt8 := [182, 0, 209, 132, 3, 1, 167, 255, 236, 42, 27, 182, 0, 87, 54, 4, 42, 180, 0, 16, 42, 180, 0, 7]
abbrev dktX5_when_2 : List UInt8 := dkwX5_when_2 ++ dktX5_when_3
def dkwX5_when_1 : List UInt8 := [42, 180, 0, 16, 184, 0, 226, 3, 62, 29, 28, 162, 0, 21, 42, 27, 182, 0, 87, 154, 0, 13, 42]
abbrev dktX5_when_1 : List UInt8 := dkwX5_when_1 ++ dktX5_when_2
def dkwX5_when_0 : List UInt8 := [27, 184, 0, 83, 153, 0, 10, 28, 184, 0, 223, 154, 0, 9, 42, 4, 182, 0, 76, 172, 42, 180, 0, 7]
abbrev dktX5_when_0 : List UInt8 := dkwX5_when_0 ++ dktX5_when_1
theorem dksX5_when_0 : cX5_when.data.toList.drop 0 = dktX5_when_0 := by decide +kernel
theorem dksX5_when_1 : cX5_when.data.toList.drop 24 = dktX5_when_1 := dk_seg dksX5_when_0 24 rfl rfl
theorem dksX5_when_2 : cX5_when.data.toList.drop 47 = dktX5_when_2 := dk_seg dksX5_when_1 23 rfl rfl
theorem dksX5_when_3 : cX5_when.data.toList.drop 71 = dktX5_when_3 := dk_seg dksX5_when_2 24 rfl rfl
theorem dX5_when_0 : decode cX5_when 0 = .ok (.iload_n 1, 1) := dk_27 (dk_at dksX5_when_0 0 rfl rfl)
theorem dX5_when_1 : decode cX5_when 1 = .ok (.invokestatic 83, 3) := dk_184 0 83 (dk_at dksX5_when_0 1 rfl rfl)
theorem dX5_when_4 : decode cX5_when 4 = .ok (.ifCond .eq 10, 3) := dk_153 0 10 (dk_at dksX5_when_0 4 rfl rfl)
theorem dX5_when_7 : decode cX5_when 7 = .ok (.iload_n 2, 1) := dk_28 (dk_at dksX5_when_0 7 rfl rfl)
theorem dX5_when_8 : decode cX5_when 8 = .ok (.invokestatic 223, 3) := dk_184 0 223 (dk_at dksX5_when_0 8 rfl rfl)
theorem dX5_when_11 : decode cX5_when 11 = .ok (.ifCond .ne 9, 3) := dk_154 0 9 (dk_at dksX5_when_0 11 rfl rfl)
theorem dX5_when_14 : decode cX5_when 14 = .ok (.aload_n 0, 1) := dk_42 (dk_at dksX5_when_0 14 rfl rfl)
theorem dX5_when_15 : decode cX5_when 15 = .ok (.iconst 1, 1) := dk_4 (dk_at dksX5_when_0 15 rfl rfl)
theorem dX5_when_16 : decode cX5_when 16 = .ok (.invokevirtual 76, 3) := dk_182 0 76 (dk_at dksX5_when_0 16 rfl rfl)
theorem dX5_when_19 : decode cX5_when 19 = .ok (.ireturn, 1) := dk_172 (dk_at dksX5_when_0 19 rfl rfl)
theorem dX5_when_20 : decode cX5_when 20 = .ok (.aload_n 0, 1) := dk_42 (dk_at dksX5_when_0 20 rfl rfl)
theorem dX5_when_21 : decode cX5_when 21 = .ok (.getfield 7, 3) := dk_180 0 7 (dk_at dksX5_when_0 21 rfl rfl)
theorem dX5_when_24 : decode cX5_when 24 = .ok (.aload_n 0, 1) := dk_42 (dk_at dksX5_when_1 0 rfl rfl)
theorem dX5_when_25 : decode cX5_when 25 = .ok (.getfield 16, 3) := dk_180 0 16 (dk_at dksX5_when_1 1 rfl rfl)
theorem dX5_when_28 : decode cX5_when 28 = .ok (.invokestatic 226, 3) := dk_184 0 226 (dk_at dksX5_when_1 4 rfl rfl)
theorem dX5_when_31 : decode cX5_when 31 = .ok (.iconst 0, 1) := dk_3 (dk_at dksX5_when_1 7 rfl rfl)
theorem dX5_when_32 : decode cX5_when 32 = .ok (.istore_n 3, 1) := dk_62 (dk_at dksX5_when_1 8 rfl rfl)
theorem dX5_when_33 : decode cX5_when 33 = .ok (.iload_n 3, 1) := dk_29 (dk_at dksX5_when_1 9 rfl rfl)
theorem dX5_when_34 : decode cX5_when 34 = .ok (.iload_n 2, 1) := dk_28 (dk_at dksX5_when_1 10 rfl rfl)
theorem dX5_when_35 : decode cX5_when 35 = .ok (.if_icmp .ge 21, 3) := dk_162 0 21 (dk_at dksX5_when_1 11 rfl rfl)
theorem dX5_when_38 : decode cX5_when 38 = .ok (.aload_n 0, 1) := dk_42 (dk_at dksX5_when_1 14 rfl rfl)
theorem dX5_when_39 : decode cX5_when 39 = .ok (.iload_n 1, 1) := dk_27 (dk_at dksX5_when_1 15 rfl rfl)
theorem dX5_when_40 : decode cX5_when 40 = .ok (.invokevirtual 87, 3) := dk_182 0 87 (dk_at dksX5_when_1 16 rfl rfl)
theorem dX5_when_43 : decode cX5_when 43 = .ok (.ifCond .ne 13, 3) := dk_154 0 13 (dk_at dksX5_when_1 19 rfl rfl)
theorem dX5_when_46 : decode cX5_when 46 = .ok (.aload_n 0, 1) := dk_42 (dk_at dksX5_when_1 22 rfl rfl)
theorem dX5_when_47 : decode cX5_when 47 = .ok (.invokevirtual 209, 3) := dk_182 0 209 (dk_at dksX5_when_2 0 rfl rfl)
theorem dX5_when_50 : decode cX5_when 50 = .ok (.iinc 3 1, 3) := dk_132 3 1 (dk_at dksX5_when_2 3 rfl rfl)
theorem dX5_when_53 : decode cX5_when 53 = .ok (.goto (-20), 3) := dk_167 255 236 (dk_at dksX5_when_2 6 rfl rfl)
theorem dX5_when_56 : decode cX5_when 56 = .ok (.aload_n 0, 1) := dk_42 (dk_at dksX5_when_2 9 rfl rfl)
theorem dX5_when_57 : decode cX5_when 57 = .ok (.iload_n 1, 1) := dk_27 (dk_at dksX5_when_2 10 rfl rfl)
theorem dX5_when_58 : decode cX5_when 58 = .ok (.invokevirtual 87, 3) := dk_182 0 87 (dk_at dksX5_when_2 11 rfl rfl)
theorem dX5_when_61 : decode cX5_when 61 = .ok (.istore 4, 2) := dk_54 4 (dk_at dksX5_when_2 14 rfl rfl)
theorem dX5_when_63 : decode cX5_when 63 = .ok (.aload_n 0, 1) := dk_42 (dk_at dksX5_when_2 16 rfl rfl)
theorem dX5_when_64 : decode cX5_when 64 = .ok (.getfield 16, 3) := dk_180 0 16 (dk_at dksX5_when_2 17 rfl rfl)
theorem dX5_when_67 : decode cX5_when 67 = .ok (.aload_n 0, 1) := dk_42 (dk_at dksX5_when_2 20 rfl rfl)
theorem dX5_when_68 : decode cX5_when 68 = .ok (.getfield 7, 3) := dk_180 0 7 (dk_at dksX5_when_2 21 rfl rfl)
theorem dX5_when_71 : decode cX5_when 71 = .ok (.invokestatic 226, 3) := dk_184 0 226 (dk_at dksX5_when_3 0 rfl rfl)
theorem dX5_when_74 : decode cX5_when 74 = .ok (.iload 4, 2) := dk_21 4 (dk_at dksX5_when_3 3 rfl rfl)
theorem dX5_when_76 : decode cX5_when 76 = .ok (.ifCond .eq 7, 3) := dk_153 0 7 (dk_at dksX5_when_3 5 rfl rfl)
theorem dX5_when_79 : decode cX5_when 79 = .ok (.iload_n 3, 1) := dk_29 (dk_at dksX5_when_3 8 rfl rfl)
theorem dX5_when_80 : decode cX5_when 80 = .ok (.goto 8, 3) := dk_167 0 8 (dk_at dksX5_when_3 9 rfl rfl)
theorem dX5_when_83 : decode cX5_when 83 = .ok (.aload_n 0, 1) := dk_42 (dk_at dksX5_when_3 12 rfl rfl)
theorem dX5_when_84 : decode cX5_when 84 = .ok (.iconst 2, 1) := dk_5 (dk_at dksX5_when_3 13 rfl rfl)
theorem dX5_when_85 : decode cX5_when 85 = .ok (.invokevirtual 76, 3) := dk_182 0 76 (dk_at dksX5_when_3 14 rfl rfl)
theorem dX5_when_88 : decode cX5_when 88 = .ok (.ireturn, 1) := dk_172 (dk_at dksX5_when_3 17 rfl rfl)
abbrev cX5_sluices : ByteArray := prog_20_method_71_code
def yX5_sluices : MethodName := ⟨RX5, "sluices", "(II)I"⟩
def dkwX5_sluices_6 : List UInt8 := [42, 5, 182, 0, 76, 167, 0, 13, 28, 154, 0, 7, 29, 167, 0, 5, 21, 4, 172]
abbrev dktX5_sluices_6 : List UInt8 := dkwX5_sluices_6 ++ []
def dkwX5_sluices_5 : List UInt8 := [54, 4, 42, 180, 0, 16, 42, 180, 0, 7, 184, 0, 226, 132, 5, 1, 167, 255, 155, 29, 2, 160, 0, 11]
abbrev dktX5_sluices_5 : List UInt8 := dkwX5_sluices_5 ++ dktX5_sluices_6
def dkwX5_sluices_4 : List UInt8 := [182, 0, 232, 153, 0, 22, 29, 2, 159, 0, 10, 21, 6, 21, 4, 162, 0, 10, 21, 5, 62, 21, 6]
abbrev dktX5_sluices_4 : List UInt8 := dkwX5_sluices_4 ++ dktX5_sluices_5
def dkwX5_sluices_3 : List UInt8 := [27, 162, 0, 22, 42, 182, 0, 209, 21, 6, 42, 180, 0, 197, 96, 54, 6, 132, 7, 1, 167, 255, 234, 42]
abbrev dktX5_sluices_3 : List UInt8 := dkwX5_sluices_3 ++ dktX5_sluices_4
def dkwX5_sluices_2 : List UInt8 := [180, 0, 7, 42, 180, 0, 16, 184, 0, 226, 42, 21, 5, 182, 0, 230, 3, 54, 6, 3, 54, 7, 21, 7]
abbrev dktX5_sluices_2 : List UInt8 := dkwX5_sluices_2 ++ dktX5_sluices_3
def dkwX5_sluices_1 : List UInt8 := [172, 2, 62, 3, 54, 4, 3, 54, 5, 21, 5, 4, 42, 180, 0, 7, 3, 46, 120, 162, 0, 94, 42]
abbrev dktX5_sluices_1 : List UInt8 := dkwX5_sluices_1 ++ dktX5_sluices_2
def dkwX5_sluices_0 : List UInt8 := [27, 4, 16, 6, 184, 0, 56, 153, 0, 12, 28, 3, 4, 184, 0, 56, 154, 0, 9, 42, 4, 182, 0, 76]
abbrev dktX5_sluices_0 : List UInt8 := dkwX5_sluices_0 ++ dktX5_sluices_1
theorem dksX5_sluices_0 : cX5_sluices.data.toList.drop 0 = dktX5_sluices_0 := by decide +kernel
theorem dksX5_sluices_1 : cX5_sluices.data.toList.drop 24 = dktX5_sluices_1 := dk_seg dksX5_sluices_0 24 rfl rfl
theorem dksX5_sluices_2 : cX5_sluices.data.toList.drop 47 = dktX5_sluices_2 := dk_seg dksX5_sluices_1 23 rfl rfl
theorem dksX5_sluices_3 : cX5_sluices.data.toList.drop 71 = dktX5_sluices_3 := dk_seg dksX5_sluices_2 24 rfl rfl
theorem dksX5_sluices_4 : cX5_sluices.data.toList.drop 95 = dktX5_sluices_4 := dk_seg dksX5_sluices_3 24 rfl rfl
theorem dksX5_sluices_5 : cX5_sluices.data.toList.drop 118 = dktX5_sluices_5 := dk_seg dksX5_sluices_4 23 rfl rfl
theorem dksX5_sluices_6 : cX5_sluices.data.toList.drop 142 = dktX5_sluices_6 := dk_seg dksX5_sluices_5 24 rfl rfl
theorem dX5_sluices_0 : decode cX5_sluices 0 = .ok (.iload_n 1, 1) := dk_27 (dk_at dksX5_sluices_0 0 rfl rfl)
theorem dX5_sluices_1 : decode cX5_sluices 1 = .ok (.iconst 1, 1) := dk_4 (dk_at dksX5_sluices_0 1 rfl rfl)
theorem dX5_sluices_2 : decode cX5_sluices 2 = .ok (.bipush 6, 2) := dk_16 6 (dk_at dksX5_sluices_0 2 rfl rfl)
theorem dX5_sluices_4 : decode cX5_sluices 4 = .ok (.invokestatic 56, 3) := dk_184 0 56 (dk_at dksX5_sluices_0 4 rfl rfl)
theorem dX5_sluices_7 : decode cX5_sluices 7 = .ok (.ifCond .eq 12, 3) := dk_153 0 12 (dk_at dksX5_sluices_0 7 rfl rfl)
theorem dX5_sluices_10 : decode cX5_sluices 10 = .ok (.iload_n 2, 1) := dk_28 (dk_at dksX5_sluices_0 10 rfl rfl)
theorem dX5_sluices_11 : decode cX5_sluices 11 = .ok (.iconst 0, 1) := dk_3 (dk_at dksX5_sluices_0 11 rfl rfl)
theorem dX5_sluices_12 : decode cX5_sluices 12 = .ok (.iconst 1, 1) := dk_4 (dk_at dksX5_sluices_0 12 rfl rfl)
theorem dX5_sluices_13 : decode cX5_sluices 13 = .ok (.invokestatic 56, 3) := dk_184 0 56 (dk_at dksX5_sluices_0 13 rfl rfl)
theorem dX5_sluices_16 : decode cX5_sluices 16 = .ok (.ifCond .ne 9, 3) := dk_154 0 9 (dk_at dksX5_sluices_0 16 rfl rfl)
theorem dX5_sluices_19 : decode cX5_sluices 19 = .ok (.aload_n 0, 1) := dk_42 (dk_at dksX5_sluices_0 19 rfl rfl)
theorem dX5_sluices_20 : decode cX5_sluices 20 = .ok (.iconst 1, 1) := dk_4 (dk_at dksX5_sluices_0 20 rfl rfl)
theorem dX5_sluices_21 : decode cX5_sluices 21 = .ok (.invokevirtual 76, 3) := dk_182 0 76 (dk_at dksX5_sluices_0 21 rfl rfl)
theorem dX5_sluices_24 : decode cX5_sluices 24 = .ok (.ireturn, 1) := dk_172 (dk_at dksX5_sluices_1 0 rfl rfl)
theorem dX5_sluices_25 : decode cX5_sluices 25 = .ok (.iconst (-1), 1) := dk_2 (dk_at dksX5_sluices_1 1 rfl rfl)
theorem dX5_sluices_26 : decode cX5_sluices 26 = .ok (.istore_n 3, 1) := dk_62 (dk_at dksX5_sluices_1 2 rfl rfl)
theorem dX5_sluices_27 : decode cX5_sluices 27 = .ok (.iconst 0, 1) := dk_3 (dk_at dksX5_sluices_1 3 rfl rfl)
theorem dX5_sluices_28 : decode cX5_sluices 28 = .ok (.istore 4, 2) := dk_54 4 (dk_at dksX5_sluices_1 4 rfl rfl)
theorem dX5_sluices_30 : decode cX5_sluices 30 = .ok (.iconst 0, 1) := dk_3 (dk_at dksX5_sluices_1 6 rfl rfl)
theorem dX5_sluices_31 : decode cX5_sluices 31 = .ok (.istore 5, 2) := dk_54 5 (dk_at dksX5_sluices_1 7 rfl rfl)
theorem dX5_sluices_33 : decode cX5_sluices 33 = .ok (.iload 5, 2) := dk_21 5 (dk_at dksX5_sluices_1 9 rfl rfl)
theorem dX5_sluices_35 : decode cX5_sluices 35 = .ok (.iconst 1, 1) := dk_4 (dk_at dksX5_sluices_1 11 rfl rfl)
theorem dX5_sluices_36 : decode cX5_sluices 36 = .ok (.aload_n 0, 1) := dk_42 (dk_at dksX5_sluices_1 12 rfl rfl)
theorem dX5_sluices_37 : decode cX5_sluices 37 = .ok (.getfield 7, 3) := dk_180 0 7 (dk_at dksX5_sluices_1 13 rfl rfl)
theorem dX5_sluices_40 : decode cX5_sluices 40 = .ok (.iconst 0, 1) := dk_3 (dk_at dksX5_sluices_1 16 rfl rfl)
theorem dX5_sluices_41 : decode cX5_sluices 41 = .ok (.iaload, 1) := dk_46 (dk_at dksX5_sluices_1 17 rfl rfl)
theorem dX5_sluices_42 : decode cX5_sluices 42 = .ok (.ishl, 1) := dk_120 (dk_at dksX5_sluices_1 18 rfl rfl)
theorem dX5_sluices_43 : decode cX5_sluices 43 = .ok (.if_icmp .ge 94, 3) := dk_162 0 94 (dk_at dksX5_sluices_1 19 rfl rfl)
theorem dX5_sluices_46 : decode cX5_sluices 46 = .ok (.aload_n 0, 1) := dk_42 (dk_at dksX5_sluices_1 22 rfl rfl)
theorem dX5_sluices_47 : decode cX5_sluices 47 = .ok (.getfield 7, 3) := dk_180 0 7 (dk_at dksX5_sluices_2 0 rfl rfl)
theorem dX5_sluices_50 : decode cX5_sluices 50 = .ok (.aload_n 0, 1) := dk_42 (dk_at dksX5_sluices_2 3 rfl rfl)
theorem dX5_sluices_51 : decode cX5_sluices 51 = .ok (.getfield 16, 3) := dk_180 0 16 (dk_at dksX5_sluices_2 4 rfl rfl)
theorem dX5_sluices_54 : decode cX5_sluices 54 = .ok (.invokestatic 226, 3) := dk_184 0 226 (dk_at dksX5_sluices_2 7 rfl rfl)
theorem dX5_sluices_57 : decode cX5_sluices 57 = .ok (.aload_n 0, 1) := dk_42 (dk_at dksX5_sluices_2 10 rfl rfl)
theorem dX5_sluices_58 : decode cX5_sluices 58 = .ok (.iload 5, 2) := dk_21 5 (dk_at dksX5_sluices_2 11 rfl rfl)
theorem dX5_sluices_60 : decode cX5_sluices 60 = .ok (.invokevirtual 230, 3) := dk_182 0 230 (dk_at dksX5_sluices_2 13 rfl rfl)
theorem dX5_sluices_63 : decode cX5_sluices 63 = .ok (.iconst 0, 1) := dk_3 (dk_at dksX5_sluices_2 16 rfl rfl)
theorem dX5_sluices_64 : decode cX5_sluices 64 = .ok (.istore 6, 2) := dk_54 6 (dk_at dksX5_sluices_2 17 rfl rfl)
theorem dX5_sluices_66 : decode cX5_sluices 66 = .ok (.iconst 0, 1) := dk_3 (dk_at dksX5_sluices_2 19 rfl rfl)
theorem dX5_sluices_67 : decode cX5_sluices 67 = .ok (.istore 7, 2) := dk_54 7 (dk_at dksX5_sluices_2 20 rfl rfl)
theorem dX5_sluices_69 : decode cX5_sluices 69 = .ok (.iload 7, 2) := dk_21 7 (dk_at dksX5_sluices_2 22 rfl rfl)
theorem dX5_sluices_71 : decode cX5_sluices 71 = .ok (.iload_n 1, 1) := dk_27 (dk_at dksX5_sluices_3 0 rfl rfl)
theorem dX5_sluices_72 : decode cX5_sluices 72 = .ok (.if_icmp .ge 22, 3) := dk_162 0 22 (dk_at dksX5_sluices_3 1 rfl rfl)
theorem dX5_sluices_75 : decode cX5_sluices 75 = .ok (.aload_n 0, 1) := dk_42 (dk_at dksX5_sluices_3 4 rfl rfl)
theorem dX5_sluices_76 : decode cX5_sluices 76 = .ok (.invokevirtual 209, 3) := dk_182 0 209 (dk_at dksX5_sluices_3 5 rfl rfl)
theorem dX5_sluices_79 : decode cX5_sluices 79 = .ok (.iload 6, 2) := dk_21 6 (dk_at dksX5_sluices_3 8 rfl rfl)
theorem dX5_sluices_81 : decode cX5_sluices 81 = .ok (.aload_n 0, 1) := dk_42 (dk_at dksX5_sluices_3 10 rfl rfl)
theorem dX5_sluices_82 : decode cX5_sluices 82 = .ok (.getfield 197, 3) := dk_180 0 197 (dk_at dksX5_sluices_3 11 rfl rfl)
theorem dX5_sluices_85 : decode cX5_sluices 85 = .ok (.iadd, 1) := dk_96 (dk_at dksX5_sluices_3 14 rfl rfl)
theorem dX5_sluices_86 : decode cX5_sluices 86 = .ok (.istore 6, 2) := dk_54 6 (dk_at dksX5_sluices_3 15 rfl rfl)
theorem dX5_sluices_88 : decode cX5_sluices 88 = .ok (.iinc 7 1, 3) := dk_132 7 1 (dk_at dksX5_sluices_3 17 rfl rfl)
theorem dX5_sluices_91 : decode cX5_sluices 91 = .ok (.goto (-22), 3) := dk_167 255 234 (dk_at dksX5_sluices_3 20 rfl rfl)
theorem dX5_sluices_94 : decode cX5_sluices 94 = .ok (.aload_n 0, 1) := dk_42 (dk_at dksX5_sluices_3 23 rfl rfl)
theorem dX5_sluices_95 : decode cX5_sluices 95 = .ok (.invokevirtual 232, 3) := dk_182 0 232 (dk_at dksX5_sluices_4 0 rfl rfl)
theorem dX5_sluices_98 : decode cX5_sluices 98 = .ok (.ifCond .eq 22, 3) := dk_153 0 22 (dk_at dksX5_sluices_4 3 rfl rfl)
theorem dX5_sluices_101 : decode cX5_sluices 101 = .ok (.iload_n 3, 1) := dk_29 (dk_at dksX5_sluices_4 6 rfl rfl)
theorem dX5_sluices_102 : decode cX5_sluices 102 = .ok (.iconst (-1), 1) := dk_2 (dk_at dksX5_sluices_4 7 rfl rfl)
theorem dX5_sluices_103 : decode cX5_sluices 103 = .ok (.if_icmp .eq 10, 3) := dk_159 0 10 (dk_at dksX5_sluices_4 8 rfl rfl)
theorem dX5_sluices_106 : decode cX5_sluices 106 = .ok (.iload 6, 2) := dk_21 6 (dk_at dksX5_sluices_4 11 rfl rfl)
theorem dX5_sluices_108 : decode cX5_sluices 108 = .ok (.iload 4, 2) := dk_21 4 (dk_at dksX5_sluices_4 13 rfl rfl)
theorem dX5_sluices_110 : decode cX5_sluices 110 = .ok (.if_icmp .ge 10, 3) := dk_162 0 10 (dk_at dksX5_sluices_4 15 rfl rfl)
theorem dX5_sluices_113 : decode cX5_sluices 113 = .ok (.iload 5, 2) := dk_21 5 (dk_at dksX5_sluices_4 18 rfl rfl)
theorem dX5_sluices_115 : decode cX5_sluices 115 = .ok (.istore_n 3, 1) := dk_62 (dk_at dksX5_sluices_4 20 rfl rfl)
theorem dX5_sluices_116 : decode cX5_sluices 116 = .ok (.iload 6, 2) := dk_21 6 (dk_at dksX5_sluices_4 21 rfl rfl)
theorem dX5_sluices_118 : decode cX5_sluices 118 = .ok (.istore 4, 2) := dk_54 4 (dk_at dksX5_sluices_5 0 rfl rfl)
theorem dX5_sluices_120 : decode cX5_sluices 120 = .ok (.aload_n 0, 1) := dk_42 (dk_at dksX5_sluices_5 2 rfl rfl)
theorem dX5_sluices_121 : decode cX5_sluices 121 = .ok (.getfield 16, 3) := dk_180 0 16 (dk_at dksX5_sluices_5 3 rfl rfl)
theorem dX5_sluices_124 : decode cX5_sluices 124 = .ok (.aload_n 0, 1) := dk_42 (dk_at dksX5_sluices_5 6 rfl rfl)
theorem dX5_sluices_125 : decode cX5_sluices 125 = .ok (.getfield 7, 3) := dk_180 0 7 (dk_at dksX5_sluices_5 7 rfl rfl)
theorem dX5_sluices_128 : decode cX5_sluices 128 = .ok (.invokestatic 226, 3) := dk_184 0 226 (dk_at dksX5_sluices_5 10 rfl rfl)
theorem dX5_sluices_131 : decode cX5_sluices 131 = .ok (.iinc 5 1, 3) := dk_132 5 1 (dk_at dksX5_sluices_5 13 rfl rfl)
theorem dX5_sluices_134 : decode cX5_sluices 134 = .ok (.goto (-101), 3) := dk_167 255 155 (dk_at dksX5_sluices_5 16 rfl rfl)
theorem dX5_sluices_137 : decode cX5_sluices 137 = .ok (.iload_n 3, 1) := dk_29 (dk_at dksX5_sluices_5 19 rfl rfl)
theorem dX5_sluices_138 : decode cX5_sluices 138 = .ok (.iconst (-1), 1) := dk_2 (dk_at dksX5_sluices_5 20 rfl rfl)
theorem dX5_sluices_139 : decode cX5_sluices 139 = .ok (.if_icmp .ne 11, 3) := dk_160 0 11 (dk_at dksX5_sluices_5 21 rfl rfl)
theorem dX5_sluices_142 : decode cX5_sluices 142 = .ok (.aload_n 0, 1) := dk_42 (dk_at dksX5_sluices_6 0 rfl rfl)
theorem dX5_sluices_143 : decode cX5_sluices 143 = .ok (.iconst 2, 1) := dk_5 (dk_at dksX5_sluices_6 1 rfl rfl)
theorem dX5_sluices_144 : decode cX5_sluices 144 = .ok (.invokevirtual 76, 3) := dk_182 0 76 (dk_at dksX5_sluices_6 2 rfl rfl)
theorem dX5_sluices_147 : decode cX5_sluices 147 = .ok (.goto 13, 3) := dk_167 0 13 (dk_at dksX5_sluices_6 5 rfl rfl)
theorem dX5_sluices_150 : decode cX5_sluices 150 = .ok (.iload_n 2, 1) := dk_28 (dk_at dksX5_sluices_6 8 rfl rfl)
theorem dX5_sluices_151 : decode cX5_sluices 151 = .ok (.ifCond .ne 7, 3) := dk_154 0 7 (dk_at dksX5_sluices_6 9 rfl rfl)
theorem dX5_sluices_154 : decode cX5_sluices 154 = .ok (.iload_n 3, 1) := dk_29 (dk_at dksX5_sluices_6 12 rfl rfl)
theorem dX5_sluices_155 : decode cX5_sluices 155 = .ok (.goto 5, 3) := dk_167 0 5 (dk_at dksX5_sluices_6 13 rfl rfl)
theorem dX5_sluices_158 : decode cX5_sluices 158 = .ok (.iload 4, 2) := dk_21 4 (dk_at dksX5_sluices_6 16 rfl rfl)
theorem dX5_sluices_160 : decode cX5_sluices 160 = .ok (.ireturn, 1) := dk_172 (dk_at dksX5_sluices_6 18 rfl rfl)
abbrev cX5_opens_2 : ByteArray := prog_20_method_69_code
def yX5_opens_2 : MethodName := ⟨RX5, "opens", "(I)V"⟩
def dkwX5_opens_2_1 : List UInt8 := [132, 2, 1, 167, 255, 232, 177]
abbrev dktX5_opens_2_1 : List UInt8 := dkwX5_opens_2_1 ++ []
def dkwX5_opens_2_0 : List UInt8 := [3, 61, 28, 42, 180, 0, 7, 3, 46, 162, 0, 20, 42, 28, 7, 27, 28, 122, 4, 126, 182, 0, 96]
abbrev dktX5_opens_2_0 : List UInt8 := dkwX5_opens_2_0 ++ dktX5_opens_2_1
theorem dksX5_opens_2_0 : cX5_opens_2.data.toList.drop 0 = dktX5_opens_2_0 := by decide +kernel
theorem dksX5_opens_2_1 : cX5_opens_2.data.toList.drop 23 = dktX5_opens_2_1 := dk_seg dksX5_opens_2_0 23 rfl rfl
theorem dX5_opens_2_0 : decode cX5_opens_2 0 = .ok (.iconst 0, 1) := dk_3 (dk_at dksX5_opens_2_0 0 rfl rfl)
theorem dX5_opens_2_1 : decode cX5_opens_2 1 = .ok (.istore_n 2, 1) := dk_61 (dk_at dksX5_opens_2_0 1 rfl rfl)
theorem dX5_opens_2_2 : decode cX5_opens_2 2 = .ok (.iload_n 2, 1) := dk_28 (dk_at dksX5_opens_2_0 2 rfl rfl)
theorem dX5_opens_2_3 : decode cX5_opens_2 3 = .ok (.aload_n 0, 1) := dk_42 (dk_at dksX5_opens_2_0 3 rfl rfl)
theorem dX5_opens_2_4 : decode cX5_opens_2 4 = .ok (.getfield 7, 3) := dk_180 0 7 (dk_at dksX5_opens_2_0 4 rfl rfl)
theorem dX5_opens_2_7 : decode cX5_opens_2 7 = .ok (.iconst 0, 1) := dk_3 (dk_at dksX5_opens_2_0 7 rfl rfl)
theorem dX5_opens_2_8 : decode cX5_opens_2 8 = .ok (.iaload, 1) := dk_46 (dk_at dksX5_opens_2_0 8 rfl rfl)
theorem dX5_opens_2_9 : decode cX5_opens_2 9 = .ok (.if_icmp .ge 20, 3) := dk_162 0 20 (dk_at dksX5_opens_2_0 9 rfl rfl)
theorem dX5_opens_2_12 : decode cX5_opens_2 12 = .ok (.aload_n 0, 1) := dk_42 (dk_at dksX5_opens_2_0 12 rfl rfl)
theorem dX5_opens_2_13 : decode cX5_opens_2 13 = .ok (.iload_n 2, 1) := dk_28 (dk_at dksX5_opens_2_0 13 rfl rfl)
theorem dX5_opens_2_14 : decode cX5_opens_2 14 = .ok (.iconst 4, 1) := dk_7 (dk_at dksX5_opens_2_0 14 rfl rfl)
theorem dX5_opens_2_15 : decode cX5_opens_2 15 = .ok (.iload_n 1, 1) := dk_27 (dk_at dksX5_opens_2_0 15 rfl rfl)
theorem dX5_opens_2_16 : decode cX5_opens_2 16 = .ok (.iload_n 2, 1) := dk_28 (dk_at dksX5_opens_2_0 16 rfl rfl)
theorem dX5_opens_2_17 : decode cX5_opens_2 17 = .ok (.ishr, 1) := dk_122 (dk_at dksX5_opens_2_0 17 rfl rfl)
theorem dX5_opens_2_18 : decode cX5_opens_2 18 = .ok (.iconst 1, 1) := dk_4 (dk_at dksX5_opens_2_0 18 rfl rfl)
theorem dX5_opens_2_19 : decode cX5_opens_2 19 = .ok (.iand, 1) := dk_126 (dk_at dksX5_opens_2_0 19 rfl rfl)
theorem dX5_opens_2_20 : decode cX5_opens_2 20 = .ok (.invokevirtual 96, 3) := dk_182 0 96 (dk_at dksX5_opens_2_0 20 rfl rfl)
theorem dX5_opens_2_23 : decode cX5_opens_2 23 = .ok (.iinc 2 1, 3) := dk_132 2 1 (dk_at dksX5_opens_2_1 0 rfl rfl)
theorem dX5_opens_2_26 : decode cX5_opens_2 26 = .ok (.goto (-24), 3) := dk_167 255 232 (dk_at dksX5_opens_2_1 3 rfl rfl)
theorem dX5_opens_2_29 : decode cX5_opens_2 29 = .ok (.return_, 1) := dk_177 (dk_at dksX5_opens_2_1 6 rfl rfl)
abbrev cX5_areAllPaid : ByteArray := prog_20_method_70_code
def yX5_areAllPaid : MethodName := ⟨RX5, "areAllPaid", "()Z"⟩
def dkwX5_areAllPaid_1 : List UInt8 := [167, 0, 4, 3, 60, 132, 2, 1, 167, 255, 230, 27, 172]
abbrev dktX5_areAllPaid_1 : List UInt8 := dkwX5_areAllPaid_1 ++ []
def dkwX5_areAllPaid_0 : List UInt8 := [4, 60, 3, 61, 28, 8, 162, 0, 27, 27, 153, 0, 15, 42, 28, 182, 0, 87, 153, 0, 7, 4]
abbrev dktX5_areAllPaid_0 : List UInt8 := dkwX5_areAllPaid_0 ++ dktX5_areAllPaid_1
theorem dksX5_areAllPaid_0 : cX5_areAllPaid.data.toList.drop 0 = dktX5_areAllPaid_0 := by decide +kernel
theorem dksX5_areAllPaid_1 : cX5_areAllPaid.data.toList.drop 22 = dktX5_areAllPaid_1 := dk_seg dksX5_areAllPaid_0 22 rfl rfl
theorem dX5_areAllPaid_0 : decode cX5_areAllPaid 0 = .ok (.iconst 1, 1) := dk_4 (dk_at dksX5_areAllPaid_0 0 rfl rfl)
theorem dX5_areAllPaid_1 : decode cX5_areAllPaid 1 = .ok (.istore_n 1, 1) := dk_60 (dk_at dksX5_areAllPaid_0 1 rfl rfl)
theorem dX5_areAllPaid_2 : decode cX5_areAllPaid 2 = .ok (.iconst 0, 1) := dk_3 (dk_at dksX5_areAllPaid_0 2 rfl rfl)
theorem dX5_areAllPaid_3 : decode cX5_areAllPaid 3 = .ok (.istore_n 2, 1) := dk_61 (dk_at dksX5_areAllPaid_0 3 rfl rfl)
theorem dX5_areAllPaid_4 : decode cX5_areAllPaid 4 = .ok (.iload_n 2, 1) := dk_28 (dk_at dksX5_areAllPaid_0 4 rfl rfl)
theorem dX5_areAllPaid_5 : decode cX5_areAllPaid 5 = .ok (.iconst 5, 1) := dk_8 (dk_at dksX5_areAllPaid_0 5 rfl rfl)
theorem dX5_areAllPaid_6 : decode cX5_areAllPaid 6 = .ok (.if_icmp .ge 27, 3) := dk_162 0 27 (dk_at dksX5_areAllPaid_0 6 rfl rfl)
theorem dX5_areAllPaid_9 : decode cX5_areAllPaid 9 = .ok (.iload_n 1, 1) := dk_27 (dk_at dksX5_areAllPaid_0 9 rfl rfl)
theorem dX5_areAllPaid_10 : decode cX5_areAllPaid 10 = .ok (.ifCond .eq 15, 3) := dk_153 0 15 (dk_at dksX5_areAllPaid_0 10 rfl rfl)
theorem dX5_areAllPaid_13 : decode cX5_areAllPaid 13 = .ok (.aload_n 0, 1) := dk_42 (dk_at dksX5_areAllPaid_0 13 rfl rfl)
theorem dX5_areAllPaid_14 : decode cX5_areAllPaid 14 = .ok (.iload_n 2, 1) := dk_28 (dk_at dksX5_areAllPaid_0 14 rfl rfl)
theorem dX5_areAllPaid_15 : decode cX5_areAllPaid 15 = .ok (.invokevirtual 87, 3) := dk_182 0 87 (dk_at dksX5_areAllPaid_0 15 rfl rfl)
theorem dX5_areAllPaid_18 : decode cX5_areAllPaid 18 = .ok (.ifCond .eq 7, 3) := dk_153 0 7 (dk_at dksX5_areAllPaid_0 18 rfl rfl)
theorem dX5_areAllPaid_21 : decode cX5_areAllPaid 21 = .ok (.iconst 1, 1) := dk_4 (dk_at dksX5_areAllPaid_0 21 rfl rfl)
theorem dX5_areAllPaid_22 : decode cX5_areAllPaid 22 = .ok (.goto 4, 3) := dk_167 0 4 (dk_at dksX5_areAllPaid_1 0 rfl rfl)
theorem dX5_areAllPaid_25 : decode cX5_areAllPaid 25 = .ok (.iconst 0, 1) := dk_3 (dk_at dksX5_areAllPaid_1 3 rfl rfl)
theorem dX5_areAllPaid_26 : decode cX5_areAllPaid 26 = .ok (.istore_n 1, 1) := dk_60 (dk_at dksX5_areAllPaid_1 4 rfl rfl)
theorem dX5_areAllPaid_27 : decode cX5_areAllPaid 27 = .ok (.iinc 2 1, 3) := dk_132 2 1 (dk_at dksX5_areAllPaid_1 5 rfl rfl)
theorem dX5_areAllPaid_30 : decode cX5_areAllPaid 30 = .ok (.goto (-26), 3) := dk_167 255 230 (dk_at dksX5_areAllPaid_1 8 rfl rfl)
theorem dX5_areAllPaid_33 : decode cX5_areAllPaid 33 = .ok (.iload_n 1, 1) := dk_27 (dk_at dksX5_areAllPaid_1 11 rfl rfl)
theorem dX5_areAllPaid_34 : decode cX5_areAllPaid 34 = .ok (.ireturn, 1) := dk_172 (dk_at dksX5_areAllPaid_1 12 rfl rfl)
abbrev cX5_fewer : ByteArray := prog_20_method_74_code
def yX5_fewer : MethodName := ⟨RX5, "fewer", "(III)I"⟩
def dkwX5_fewer_4 : List UInt8 := [100, 172]
abbrev dktX5_fewer_4 : List UInt8 := dkwX5_fewer_4 ++ []
def dkwX5_fewer_3 : List UInt8 := [42, 27, 16, 10, 28, 104, 182, 0, 100, 54, 6, 42, 21, 4, 29, 182, 0, 244, 21, 5, 42, 180, 0, 235]
abbrev dktX5_fewer_3 : List UInt8 := dkwX5_fewer_3 ++ dktX5_fewer_4
def dkwX5_fewer_2 : List UInt8 := [42, 180, 0, 7, 42, 180, 0, 16, 184, 0, 226, 42, 21, 4, 29, 182, 0, 244, 42, 180, 0, 235, 54, 5]
abbrev dktX5_fewer_2 : List UInt8 := dkwX5_fewer_2 ++ dktX5_fewer_3
def dkwX5_fewer_1 : List UInt8 := [180, 0, 7, 3, 46, 16, 8, 160, 0, 9, 42, 7, 182, 0, 76, 172, 42, 180, 0, 7, 3, 46, 54, 4]
abbrev dktX5_fewer_1 : List UInt8 := dkwX5_fewer_1 ++ dktX5_fewer_2
def dkwX5_fewer_0 : List UInt8 := [42, 27, 29, 182, 0, 241, 153, 0, 10, 28, 184, 0, 79, 154, 0, 9, 42, 4, 182, 0, 76, 172, 42]
abbrev dktX5_fewer_0 : List UInt8 := dkwX5_fewer_0 ++ dktX5_fewer_1
theorem dksX5_fewer_0 : cX5_fewer.data.toList.drop 0 = dktX5_fewer_0 := by decide +kernel
theorem dksX5_fewer_1 : cX5_fewer.data.toList.drop 23 = dktX5_fewer_1 := dk_seg dksX5_fewer_0 23 rfl rfl
theorem dksX5_fewer_2 : cX5_fewer.data.toList.drop 47 = dktX5_fewer_2 := dk_seg dksX5_fewer_1 24 rfl rfl
theorem dksX5_fewer_3 : cX5_fewer.data.toList.drop 71 = dktX5_fewer_3 := dk_seg dksX5_fewer_2 24 rfl rfl
theorem dksX5_fewer_4 : cX5_fewer.data.toList.drop 95 = dktX5_fewer_4 := dk_seg dksX5_fewer_3 24 rfl rfl
theorem dX5_fewer_0 : decode cX5_fewer 0 = .ok (.aload_n 0, 1) := dk_42 (dk_at dksX5_fewer_0 0 rfl rfl)
theorem dX5_fewer_1 : decode cX5_fewer 1 = .ok (.iload_n 1, 1) := dk_27 (dk_at dksX5_fewer_0 1 rfl rfl)
theorem dX5_fewer_2 : decode cX5_fewer 2 = .ok (.iload_n 3, 1) := dk_29 (dk_at dksX5_fewer_0 2 rfl rfl)
theorem dX5_fewer_3 : decode cX5_fewer 3 = .ok (.invokevirtual 241, 3) := dk_182 0 241 (dk_at dksX5_fewer_0 3 rfl rfl)
theorem dX5_fewer_6 : decode cX5_fewer 6 = .ok (.ifCond .eq 10, 3) := dk_153 0 10 (dk_at dksX5_fewer_0 6 rfl rfl)
theorem dX5_fewer_9 : decode cX5_fewer 9 = .ok (.iload_n 2, 1) := dk_28 (dk_at dksX5_fewer_0 9 rfl rfl)
theorem dX5_fewer_10 : decode cX5_fewer 10 = .ok (.invokestatic 79, 3) := dk_184 0 79 (dk_at dksX5_fewer_0 10 rfl rfl)
theorem dX5_fewer_13 : decode cX5_fewer 13 = .ok (.ifCond .ne 9, 3) := dk_154 0 9 (dk_at dksX5_fewer_0 13 rfl rfl)
theorem dX5_fewer_16 : decode cX5_fewer 16 = .ok (.aload_n 0, 1) := dk_42 (dk_at dksX5_fewer_0 16 rfl rfl)
theorem dX5_fewer_17 : decode cX5_fewer 17 = .ok (.iconst 1, 1) := dk_4 (dk_at dksX5_fewer_0 17 rfl rfl)
theorem dX5_fewer_18 : decode cX5_fewer 18 = .ok (.invokevirtual 76, 3) := dk_182 0 76 (dk_at dksX5_fewer_0 18 rfl rfl)
theorem dX5_fewer_21 : decode cX5_fewer 21 = .ok (.ireturn, 1) := dk_172 (dk_at dksX5_fewer_0 21 rfl rfl)
theorem dX5_fewer_22 : decode cX5_fewer 22 = .ok (.aload_n 0, 1) := dk_42 (dk_at dksX5_fewer_0 22 rfl rfl)
theorem dX5_fewer_23 : decode cX5_fewer 23 = .ok (.getfield 7, 3) := dk_180 0 7 (dk_at dksX5_fewer_1 0 rfl rfl)
theorem dX5_fewer_26 : decode cX5_fewer 26 = .ok (.iconst 0, 1) := dk_3 (dk_at dksX5_fewer_1 3 rfl rfl)
theorem dX5_fewer_27 : decode cX5_fewer 27 = .ok (.iaload, 1) := dk_46 (dk_at dksX5_fewer_1 4 rfl rfl)
theorem dX5_fewer_28 : decode cX5_fewer 28 = .ok (.bipush 8, 2) := dk_16 8 (dk_at dksX5_fewer_1 5 rfl rfl)
theorem dX5_fewer_30 : decode cX5_fewer 30 = .ok (.if_icmp .ne 9, 3) := dk_160 0 9 (dk_at dksX5_fewer_1 7 rfl rfl)
theorem dX5_fewer_33 : decode cX5_fewer 33 = .ok (.aload_n 0, 1) := dk_42 (dk_at dksX5_fewer_1 10 rfl rfl)
theorem dX5_fewer_34 : decode cX5_fewer 34 = .ok (.iconst 4, 1) := dk_7 (dk_at dksX5_fewer_1 11 rfl rfl)
theorem dX5_fewer_35 : decode cX5_fewer 35 = .ok (.invokevirtual 76, 3) := dk_182 0 76 (dk_at dksX5_fewer_1 12 rfl rfl)
theorem dX5_fewer_38 : decode cX5_fewer 38 = .ok (.ireturn, 1) := dk_172 (dk_at dksX5_fewer_1 15 rfl rfl)
theorem dX5_fewer_39 : decode cX5_fewer 39 = .ok (.aload_n 0, 1) := dk_42 (dk_at dksX5_fewer_1 16 rfl rfl)
theorem dX5_fewer_40 : decode cX5_fewer 40 = .ok (.getfield 7, 3) := dk_180 0 7 (dk_at dksX5_fewer_1 17 rfl rfl)
theorem dX5_fewer_43 : decode cX5_fewer 43 = .ok (.iconst 0, 1) := dk_3 (dk_at dksX5_fewer_1 20 rfl rfl)
theorem dX5_fewer_44 : decode cX5_fewer 44 = .ok (.iaload, 1) := dk_46 (dk_at dksX5_fewer_1 21 rfl rfl)
theorem dX5_fewer_45 : decode cX5_fewer 45 = .ok (.istore 4, 2) := dk_54 4 (dk_at dksX5_fewer_1 22 rfl rfl)
theorem dX5_fewer_47 : decode cX5_fewer 47 = .ok (.aload_n 0, 1) := dk_42 (dk_at dksX5_fewer_2 0 rfl rfl)
theorem dX5_fewer_48 : decode cX5_fewer 48 = .ok (.getfield 7, 3) := dk_180 0 7 (dk_at dksX5_fewer_2 1 rfl rfl)
theorem dX5_fewer_51 : decode cX5_fewer 51 = .ok (.aload_n 0, 1) := dk_42 (dk_at dksX5_fewer_2 4 rfl rfl)
theorem dX5_fewer_52 : decode cX5_fewer 52 = .ok (.getfield 16, 3) := dk_180 0 16 (dk_at dksX5_fewer_2 5 rfl rfl)
theorem dX5_fewer_55 : decode cX5_fewer 55 = .ok (.invokestatic 226, 3) := dk_184 0 226 (dk_at dksX5_fewer_2 8 rfl rfl)
theorem dX5_fewer_58 : decode cX5_fewer 58 = .ok (.aload_n 0, 1) := dk_42 (dk_at dksX5_fewer_2 11 rfl rfl)
theorem dX5_fewer_59 : decode cX5_fewer 59 = .ok (.iload 4, 2) := dk_21 4 (dk_at dksX5_fewer_2 12 rfl rfl)
theorem dX5_fewer_61 : decode cX5_fewer 61 = .ok (.iload_n 3, 1) := dk_29 (dk_at dksX5_fewer_2 14 rfl rfl)
theorem dX5_fewer_62 : decode cX5_fewer 62 = .ok (.invokevirtual 244, 3) := dk_182 0 244 (dk_at dksX5_fewer_2 15 rfl rfl)
theorem dX5_fewer_65 : decode cX5_fewer 65 = .ok (.aload_n 0, 1) := dk_42 (dk_at dksX5_fewer_2 18 rfl rfl)
theorem dX5_fewer_66 : decode cX5_fewer 66 = .ok (.getfield 235, 3) := dk_180 0 235 (dk_at dksX5_fewer_2 19 rfl rfl)
theorem dX5_fewer_69 : decode cX5_fewer 69 = .ok (.istore 5, 2) := dk_54 5 (dk_at dksX5_fewer_2 22 rfl rfl)
theorem dX5_fewer_71 : decode cX5_fewer 71 = .ok (.aload_n 0, 1) := dk_42 (dk_at dksX5_fewer_3 0 rfl rfl)
theorem dX5_fewer_72 : decode cX5_fewer 72 = .ok (.iload_n 1, 1) := dk_27 (dk_at dksX5_fewer_3 1 rfl rfl)
theorem dX5_fewer_73 : decode cX5_fewer 73 = .ok (.bipush 10, 2) := dk_16 10 (dk_at dksX5_fewer_3 2 rfl rfl)
theorem dX5_fewer_75 : decode cX5_fewer 75 = .ok (.iload_n 2, 1) := dk_28 (dk_at dksX5_fewer_3 4 rfl rfl)
theorem dX5_fewer_76 : decode cX5_fewer 76 = .ok (.imul, 1) := dk_104 (dk_at dksX5_fewer_3 5 rfl rfl)
theorem dX5_fewer_77 : decode cX5_fewer 77 = .ok (.invokevirtual 100, 3) := dk_182 0 100 (dk_at dksX5_fewer_3 6 rfl rfl)
theorem dX5_fewer_80 : decode cX5_fewer 80 = .ok (.istore 6, 2) := dk_54 6 (dk_at dksX5_fewer_3 9 rfl rfl)
theorem dX5_fewer_82 : decode cX5_fewer 82 = .ok (.aload_n 0, 1) := dk_42 (dk_at dksX5_fewer_3 11 rfl rfl)
theorem dX5_fewer_83 : decode cX5_fewer 83 = .ok (.iload 4, 2) := dk_21 4 (dk_at dksX5_fewer_3 12 rfl rfl)
theorem dX5_fewer_85 : decode cX5_fewer 85 = .ok (.iload_n 3, 1) := dk_29 (dk_at dksX5_fewer_3 14 rfl rfl)
theorem dX5_fewer_86 : decode cX5_fewer 86 = .ok (.invokevirtual 244, 3) := dk_182 0 244 (dk_at dksX5_fewer_3 15 rfl rfl)
theorem dX5_fewer_89 : decode cX5_fewer 89 = .ok (.iload 5, 2) := dk_21 5 (dk_at dksX5_fewer_3 18 rfl rfl)
theorem dX5_fewer_91 : decode cX5_fewer 91 = .ok (.aload_n 0, 1) := dk_42 (dk_at dksX5_fewer_3 20 rfl rfl)
theorem dX5_fewer_92 : decode cX5_fewer 92 = .ok (.getfield 235, 3) := dk_180 0 235 (dk_at dksX5_fewer_3 21 rfl rfl)
theorem dX5_fewer_95 : decode cX5_fewer 95 = .ok (.isub, 1) := dk_100 (dk_at dksX5_fewer_4 0 rfl rfl)
theorem dX5_fewer_96 : decode cX5_fewer 96 = .ok (.ireturn, 1) := dk_172 (dk_at dksX5_fewer_4 1 rfl rfl)
abbrev cX5_isTold : ByteArray := prog_20_method_73_code
def yX5_isTold : MethodName := ⟨RX5, "isTold", "(II)Z"⟩
def dkwX5_isTold_1 : List UInt8 := [3, 172]
abbrev dktX5_isTold_1 : List UInt8 := dkwX5_isTold_1 ++ []
def dkwX5_isTold_0 : List UInt8 := [27, 3, 16, 69, 184, 0, 56, 153, 0, 17, 28, 4, 16, 48, 184, 0, 56, 153, 0, 7, 4, 167, 0, 4]
abbrev dktX5_isTold_0 : List UInt8 := dkwX5_isTold_0 ++ dktX5_isTold_1
theorem dksX5_isTold_0 : cX5_isTold.data.toList.drop 0 = dktX5_isTold_0 := by decide +kernel
theorem dksX5_isTold_1 : cX5_isTold.data.toList.drop 24 = dktX5_isTold_1 := dk_seg dksX5_isTold_0 24 rfl rfl
theorem dX5_isTold_0 : decode cX5_isTold 0 = .ok (.iload_n 1, 1) := dk_27 (dk_at dksX5_isTold_0 0 rfl rfl)
theorem dX5_isTold_1 : decode cX5_isTold 1 = .ok (.iconst 0, 1) := dk_3 (dk_at dksX5_isTold_0 1 rfl rfl)
theorem dX5_isTold_2 : decode cX5_isTold 2 = .ok (.bipush 69, 2) := dk_16 69 (dk_at dksX5_isTold_0 2 rfl rfl)
theorem dX5_isTold_4 : decode cX5_isTold 4 = .ok (.invokestatic 56, 3) := dk_184 0 56 (dk_at dksX5_isTold_0 4 rfl rfl)
theorem dX5_isTold_7 : decode cX5_isTold 7 = .ok (.ifCond .eq 17, 3) := dk_153 0 17 (dk_at dksX5_isTold_0 7 rfl rfl)
theorem dX5_isTold_10 : decode cX5_isTold 10 = .ok (.iload_n 2, 1) := dk_28 (dk_at dksX5_isTold_0 10 rfl rfl)
theorem dX5_isTold_11 : decode cX5_isTold 11 = .ok (.iconst 1, 1) := dk_4 (dk_at dksX5_isTold_0 11 rfl rfl)
theorem dX5_isTold_12 : decode cX5_isTold 12 = .ok (.bipush 48, 2) := dk_16 48 (dk_at dksX5_isTold_0 12 rfl rfl)
theorem dX5_isTold_14 : decode cX5_isTold 14 = .ok (.invokestatic 56, 3) := dk_184 0 56 (dk_at dksX5_isTold_0 14 rfl rfl)
theorem dX5_isTold_17 : decode cX5_isTold 17 = .ok (.ifCond .eq 7, 3) := dk_153 0 7 (dk_at dksX5_isTold_0 17 rfl rfl)
theorem dX5_isTold_20 : decode cX5_isTold 20 = .ok (.iconst 1, 1) := dk_4 (dk_at dksX5_isTold_0 20 rfl rfl)
theorem dX5_isTold_21 : decode cX5_isTold 21 = .ok (.goto 4, 3) := dk_167 0 4 (dk_at dksX5_isTold_0 21 rfl rfl)
theorem dX5_isTold_24 : decode cX5_isTold 24 = .ok (.iconst 0, 1) := dk_3 (dk_at dksX5_isTold_1 0 rfl rfl)
theorem dX5_isTold_25 : decode cX5_isTold 25 = .ok (.ireturn, 1) := dk_172 (dk_at dksX5_isTold_1 1 rfl rfl)
abbrev cX5_findTurns : ByteArray := prog_20_method_72_code
def yX5_findTurns : MethodName := ⟨RX5, "findTurns", "(II)V"⟩
def dkwX5_findTurns_4 : List UInt8 := [132, 3, 1, 167, 255, 172, 42, 180, 0, 16, 42, 180, 0, 7, 184, 0, 226, 177]
abbrev dktX5_findTurns_4 : List UInt8 := dkwX5_findTurns_4 ++ []
def dkwX5_findTurns_3 : List UInt8 := [162, 0, 7, 3, 167, 0, 10, 42, 180, 0, 37, 21, 4, 46, 96, 181, 0, 238, 132, 4, 1, 167, 255, 190]
abbrev dktX5_findTurns_3 : List UInt8 := dkwX5_findTurns_3 ++ dktX5_findTurns_4
def dkwX5_findTurns_2 : List UInt8 := [180, 0, 37, 21, 4, 46, 167, 0, 4, 3, 96, 181, 0, 235, 42, 89, 180, 0, 238, 21, 4, 27]
abbrev dktX5_findTurns_2 : List UInt8 := dkwX5_findTurns_2 ++ dktX5_findTurns_3
def dkwX5_findTurns_1 : List UInt8 := [21, 4, 42, 180, 0, 7, 3, 46, 162, 0, 61, 42, 89, 180, 0, 235, 21, 4, 27, 162, 0, 13, 42]
abbrev dktX5_findTurns_1 : List UInt8 := dkwX5_findTurns_1 ++ dktX5_findTurns_2
def dkwX5_findTurns_0 : List UInt8 := [42, 3, 181, 0, 235, 42, 3, 181, 0, 238, 3, 62, 29, 28, 162, 0, 85, 42, 182, 0, 209, 3, 54, 4]
abbrev dktX5_findTurns_0 : List UInt8 := dkwX5_findTurns_0 ++ dktX5_findTurns_1
theorem dksX5_findTurns_0 : cX5_findTurns.data.toList.drop 0 = dktX5_findTurns_0 := by decide +kernel
theorem dksX5_findTurns_1 : cX5_findTurns.data.toList.drop 24 = dktX5_findTurns_1 := dk_seg dksX5_findTurns_0 24 rfl rfl
theorem dksX5_findTurns_2 : cX5_findTurns.data.toList.drop 47 = dktX5_findTurns_2 := dk_seg dksX5_findTurns_1 23 rfl rfl
theorem dksX5_findTurns_3 : cX5_findTurns.data.toList.drop 69 = dktX5_findTurns_3 := dk_seg dksX5_findTurns_2 22 rfl rfl
theorem dksX5_findTurns_4 : cX5_findTurns.data.toList.drop 93 = dktX5_findTurns_4 := dk_seg dksX5_findTurns_3 24 rfl rfl
theorem dX5_findTurns_0 : decode cX5_findTurns 0 = .ok (.aload_n 0, 1) := dk_42 (dk_at dksX5_findTurns_0 0 rfl rfl)
theorem dX5_findTurns_1 : decode cX5_findTurns 1 = .ok (.iconst 0, 1) := dk_3 (dk_at dksX5_findTurns_0 1 rfl rfl)
theorem dX5_findTurns_2 : decode cX5_findTurns 2 = .ok (.putfield 235, 3) := dk_181 0 235 (dk_at dksX5_findTurns_0 2 rfl rfl)
theorem dX5_findTurns_5 : decode cX5_findTurns 5 = .ok (.aload_n 0, 1) := dk_42 (dk_at dksX5_findTurns_0 5 rfl rfl)
theorem dX5_findTurns_6 : decode cX5_findTurns 6 = .ok (.iconst 0, 1) := dk_3 (dk_at dksX5_findTurns_0 6 rfl rfl)
theorem dX5_findTurns_7 : decode cX5_findTurns 7 = .ok (.putfield 238, 3) := dk_181 0 238 (dk_at dksX5_findTurns_0 7 rfl rfl)
theorem dX5_findTurns_10 : decode cX5_findTurns 10 = .ok (.iconst 0, 1) := dk_3 (dk_at dksX5_findTurns_0 10 rfl rfl)
theorem dX5_findTurns_11 : decode cX5_findTurns 11 = .ok (.istore_n 3, 1) := dk_62 (dk_at dksX5_findTurns_0 11 rfl rfl)
theorem dX5_findTurns_12 : decode cX5_findTurns 12 = .ok (.iload_n 3, 1) := dk_29 (dk_at dksX5_findTurns_0 12 rfl rfl)
theorem dX5_findTurns_13 : decode cX5_findTurns 13 = .ok (.iload_n 2, 1) := dk_28 (dk_at dksX5_findTurns_0 13 rfl rfl)
theorem dX5_findTurns_14 : decode cX5_findTurns 14 = .ok (.if_icmp .ge 85, 3) := dk_162 0 85 (dk_at dksX5_findTurns_0 14 rfl rfl)
theorem dX5_findTurns_17 : decode cX5_findTurns 17 = .ok (.aload_n 0, 1) := dk_42 (dk_at dksX5_findTurns_0 17 rfl rfl)
theorem dX5_findTurns_18 : decode cX5_findTurns 18 = .ok (.invokevirtual 209, 3) := dk_182 0 209 (dk_at dksX5_findTurns_0 18 rfl rfl)
theorem dX5_findTurns_21 : decode cX5_findTurns 21 = .ok (.iconst 0, 1) := dk_3 (dk_at dksX5_findTurns_0 21 rfl rfl)
theorem dX5_findTurns_22 : decode cX5_findTurns 22 = .ok (.istore 4, 2) := dk_54 4 (dk_at dksX5_findTurns_0 22 rfl rfl)
theorem dX5_findTurns_24 : decode cX5_findTurns 24 = .ok (.iload 4, 2) := dk_21 4 (dk_at dksX5_findTurns_1 0 rfl rfl)
theorem dX5_findTurns_26 : decode cX5_findTurns 26 = .ok (.aload_n 0, 1) := dk_42 (dk_at dksX5_findTurns_1 2 rfl rfl)
theorem dX5_findTurns_27 : decode cX5_findTurns 27 = .ok (.getfield 7, 3) := dk_180 0 7 (dk_at dksX5_findTurns_1 3 rfl rfl)
theorem dX5_findTurns_30 : decode cX5_findTurns 30 = .ok (.iconst 0, 1) := dk_3 (dk_at dksX5_findTurns_1 6 rfl rfl)
theorem dX5_findTurns_31 : decode cX5_findTurns 31 = .ok (.iaload, 1) := dk_46 (dk_at dksX5_findTurns_1 7 rfl rfl)
theorem dX5_findTurns_32 : decode cX5_findTurns 32 = .ok (.if_icmp .ge 61, 3) := dk_162 0 61 (dk_at dksX5_findTurns_1 8 rfl rfl)
theorem dX5_findTurns_35 : decode cX5_findTurns 35 = .ok (.aload_n 0, 1) := dk_42 (dk_at dksX5_findTurns_1 11 rfl rfl)
theorem dX5_findTurns_36 : decode cX5_findTurns 36 = .ok (.dup, 1) := dk_89 (dk_at dksX5_findTurns_1 12 rfl rfl)
theorem dX5_findTurns_37 : decode cX5_findTurns 37 = .ok (.getfield 235, 3) := dk_180 0 235 (dk_at dksX5_findTurns_1 13 rfl rfl)
theorem dX5_findTurns_40 : decode cX5_findTurns 40 = .ok (.iload 4, 2) := dk_21 4 (dk_at dksX5_findTurns_1 16 rfl rfl)
theorem dX5_findTurns_42 : decode cX5_findTurns 42 = .ok (.iload_n 1, 1) := dk_27 (dk_at dksX5_findTurns_1 18 rfl rfl)
theorem dX5_findTurns_43 : decode cX5_findTurns 43 = .ok (.if_icmp .ge 13, 3) := dk_162 0 13 (dk_at dksX5_findTurns_1 19 rfl rfl)
theorem dX5_findTurns_46 : decode cX5_findTurns 46 = .ok (.aload_n 0, 1) := dk_42 (dk_at dksX5_findTurns_1 22 rfl rfl)
theorem dX5_findTurns_47 : decode cX5_findTurns 47 = .ok (.getfield 37, 3) := dk_180 0 37 (dk_at dksX5_findTurns_2 0 rfl rfl)
theorem dX5_findTurns_50 : decode cX5_findTurns 50 = .ok (.iload 4, 2) := dk_21 4 (dk_at dksX5_findTurns_2 3 rfl rfl)
theorem dX5_findTurns_52 : decode cX5_findTurns 52 = .ok (.iaload, 1) := dk_46 (dk_at dksX5_findTurns_2 5 rfl rfl)
theorem dX5_findTurns_53 : decode cX5_findTurns 53 = .ok (.goto 4, 3) := dk_167 0 4 (dk_at dksX5_findTurns_2 6 rfl rfl)
theorem dX5_findTurns_56 : decode cX5_findTurns 56 = .ok (.iconst 0, 1) := dk_3 (dk_at dksX5_findTurns_2 9 rfl rfl)
theorem dX5_findTurns_57 : decode cX5_findTurns 57 = .ok (.iadd, 1) := dk_96 (dk_at dksX5_findTurns_2 10 rfl rfl)
theorem dX5_findTurns_58 : decode cX5_findTurns 58 = .ok (.putfield 235, 3) := dk_181 0 235 (dk_at dksX5_findTurns_2 11 rfl rfl)
theorem dX5_findTurns_61 : decode cX5_findTurns 61 = .ok (.aload_n 0, 1) := dk_42 (dk_at dksX5_findTurns_2 14 rfl rfl)
theorem dX5_findTurns_62 : decode cX5_findTurns 62 = .ok (.dup, 1) := dk_89 (dk_at dksX5_findTurns_2 15 rfl rfl)
theorem dX5_findTurns_63 : decode cX5_findTurns 63 = .ok (.getfield 238, 3) := dk_180 0 238 (dk_at dksX5_findTurns_2 16 rfl rfl)
theorem dX5_findTurns_66 : decode cX5_findTurns 66 = .ok (.iload 4, 2) := dk_21 4 (dk_at dksX5_findTurns_2 19 rfl rfl)
theorem dX5_findTurns_68 : decode cX5_findTurns 68 = .ok (.iload_n 1, 1) := dk_27 (dk_at dksX5_findTurns_2 21 rfl rfl)
theorem dX5_findTurns_69 : decode cX5_findTurns 69 = .ok (.if_icmp .ge 7, 3) := dk_162 0 7 (dk_at dksX5_findTurns_3 0 rfl rfl)
theorem dX5_findTurns_72 : decode cX5_findTurns 72 = .ok (.iconst 0, 1) := dk_3 (dk_at dksX5_findTurns_3 3 rfl rfl)
theorem dX5_findTurns_73 : decode cX5_findTurns 73 = .ok (.goto 10, 3) := dk_167 0 10 (dk_at dksX5_findTurns_3 4 rfl rfl)
theorem dX5_findTurns_76 : decode cX5_findTurns 76 = .ok (.aload_n 0, 1) := dk_42 (dk_at dksX5_findTurns_3 7 rfl rfl)
theorem dX5_findTurns_77 : decode cX5_findTurns 77 = .ok (.getfield 37, 3) := dk_180 0 37 (dk_at dksX5_findTurns_3 8 rfl rfl)
theorem dX5_findTurns_80 : decode cX5_findTurns 80 = .ok (.iload 4, 2) := dk_21 4 (dk_at dksX5_findTurns_3 11 rfl rfl)
theorem dX5_findTurns_82 : decode cX5_findTurns 82 = .ok (.iaload, 1) := dk_46 (dk_at dksX5_findTurns_3 13 rfl rfl)
theorem dX5_findTurns_83 : decode cX5_findTurns 83 = .ok (.iadd, 1) := dk_96 (dk_at dksX5_findTurns_3 14 rfl rfl)
theorem dX5_findTurns_84 : decode cX5_findTurns 84 = .ok (.putfield 238, 3) := dk_181 0 238 (dk_at dksX5_findTurns_3 15 rfl rfl)
theorem dX5_findTurns_87 : decode cX5_findTurns 87 = .ok (.iinc 4 1, 3) := dk_132 4 1 (dk_at dksX5_findTurns_3 18 rfl rfl)
theorem dX5_findTurns_90 : decode cX5_findTurns 90 = .ok (.goto (-66), 3) := dk_167 255 190 (dk_at dksX5_findTurns_3 21 rfl rfl)
theorem dX5_findTurns_93 : decode cX5_findTurns 93 = .ok (.iinc 3 1, 3) := dk_132 3 1 (dk_at dksX5_findTurns_4 0 rfl rfl)
theorem dX5_findTurns_96 : decode cX5_findTurns 96 = .ok (.goto (-84), 3) := dk_167 255 172 (dk_at dksX5_findTurns_4 3 rfl rfl)
theorem dX5_findTurns_99 : decode cX5_findTurns 99 = .ok (.aload_n 0, 1) := dk_42 (dk_at dksX5_findTurns_4 6 rfl rfl)
theorem dX5_findTurns_100 : decode cX5_findTurns 100 = .ok (.getfield 16, 3) := dk_180 0 16 (dk_at dksX5_findTurns_4 7 rfl rfl)
theorem dX5_findTurns_103 : decode cX5_findTurns 103 = .ok (.aload_n 0, 1) := dk_42 (dk_at dksX5_findTurns_4 10 rfl rfl)
theorem dX5_findTurns_104 : decode cX5_findTurns 104 = .ok (.getfield 7, 3) := dk_180 0 7 (dk_at dksX5_findTurns_4 11 rfl rfl)
theorem dX5_findTurns_107 : decode cX5_findTurns 107 = .ok (.invokestatic 226, 3) := dk_184 0 226 (dk_at dksX5_findTurns_4 14 rfl rfl)
theorem dX5_findTurns_110 : decode cX5_findTurns 110 = .ok (.return_, 1) := dk_177 (dk_at dksX5_findTurns_4 17 rfl rfl)
abbrev cX5_bestPlace : ByteArray := prog_20_method_75_code
def yX5_bestPlace : MethodName := ⟨RX5, "bestPlace", "(II)I"⟩
def dkwX5_bestPlace_5 : List UInt8 := [167, 0, 5, 21, 5, 54, 5, 132, 6, 1, 167, 255, 190, 21, 4, 172]
abbrev dktX5_bestPlace_5 : List UInt8 := dkwX5_bestPlace_5 ++ []
def dkwX5_bestPlace_4 : List UInt8 := [21, 6, 167, 0, 5, 21, 4, 54, 4, 42, 180, 0, 238, 21, 5, 164, 0, 10, 42, 180, 0, 238]
abbrev dktX5_bestPlace_4 : List UInt8 := dkwX5_bestPlace_4 ++ dktX5_bestPlace_5
def dkwX5_bestPlace_3 : List UInt8 := [21, 6, 104, 182, 0, 100, 54, 7, 42, 29, 28, 182, 0, 244, 42, 180, 0, 238, 21, 5, 164, 0, 8]
abbrev dktX5_bestPlace_3 : List UInt8 := dkwX5_bestPlace_3 ++ dktX5_bestPlace_4
def dkwX5_bestPlace_2 : List UInt8 := [180, 0, 7, 42, 180, 0, 16, 184, 0, 226, 3, 54, 6, 21, 6, 16, 12, 162, 0, 65, 42, 27, 16, 10]
abbrev dktX5_bestPlace_2 : List UInt8 := dkwX5_bestPlace_2 ++ dktX5_bestPlace_3
def dkwX5_bestPlace_1 : List UInt8 := [160, 0, 9, 42, 7, 182, 0, 76, 172, 42, 180, 0, 7, 3, 46, 62, 3, 54, 4, 2, 54, 5, 42]
abbrev dktX5_bestPlace_1 : List UInt8 := dkwX5_bestPlace_1 ++ dktX5_bestPlace_2
def dkwX5_bestPlace_0 : List UInt8 := [42, 27, 28, 182, 0, 241, 154, 0, 9, 42, 4, 182, 0, 76, 172, 42, 180, 0, 7, 3, 46, 16, 8]
abbrev dktX5_bestPlace_0 : List UInt8 := dkwX5_bestPlace_0 ++ dktX5_bestPlace_1
theorem dksX5_bestPlace_0 : cX5_bestPlace.data.toList.drop 0 = dktX5_bestPlace_0 := by decide +kernel
theorem dksX5_bestPlace_1 : cX5_bestPlace.data.toList.drop 23 = dktX5_bestPlace_1 := dk_seg dksX5_bestPlace_0 23 rfl rfl
theorem dksX5_bestPlace_2 : cX5_bestPlace.data.toList.drop 46 = dktX5_bestPlace_2 := dk_seg dksX5_bestPlace_1 23 rfl rfl
theorem dksX5_bestPlace_3 : cX5_bestPlace.data.toList.drop 70 = dktX5_bestPlace_3 := dk_seg dksX5_bestPlace_2 24 rfl rfl
theorem dksX5_bestPlace_4 : cX5_bestPlace.data.toList.drop 93 = dktX5_bestPlace_4 := dk_seg dksX5_bestPlace_3 23 rfl rfl
theorem dksX5_bestPlace_5 : cX5_bestPlace.data.toList.drop 115 = dktX5_bestPlace_5 := dk_seg dksX5_bestPlace_4 22 rfl rfl
theorem dX5_bestPlace_0 : decode cX5_bestPlace 0 = .ok (.aload_n 0, 1) := dk_42 (dk_at dksX5_bestPlace_0 0 rfl rfl)
theorem dX5_bestPlace_1 : decode cX5_bestPlace 1 = .ok (.iload_n 1, 1) := dk_27 (dk_at dksX5_bestPlace_0 1 rfl rfl)
theorem dX5_bestPlace_2 : decode cX5_bestPlace 2 = .ok (.iload_n 2, 1) := dk_28 (dk_at dksX5_bestPlace_0 2 rfl rfl)
theorem dX5_bestPlace_3 : decode cX5_bestPlace 3 = .ok (.invokevirtual 241, 3) := dk_182 0 241 (dk_at dksX5_bestPlace_0 3 rfl rfl)
theorem dX5_bestPlace_6 : decode cX5_bestPlace 6 = .ok (.ifCond .ne 9, 3) := dk_154 0 9 (dk_at dksX5_bestPlace_0 6 rfl rfl)
theorem dX5_bestPlace_9 : decode cX5_bestPlace 9 = .ok (.aload_n 0, 1) := dk_42 (dk_at dksX5_bestPlace_0 9 rfl rfl)
theorem dX5_bestPlace_10 : decode cX5_bestPlace 10 = .ok (.iconst 1, 1) := dk_4 (dk_at dksX5_bestPlace_0 10 rfl rfl)
theorem dX5_bestPlace_11 : decode cX5_bestPlace 11 = .ok (.invokevirtual 76, 3) := dk_182 0 76 (dk_at dksX5_bestPlace_0 11 rfl rfl)
theorem dX5_bestPlace_14 : decode cX5_bestPlace 14 = .ok (.ireturn, 1) := dk_172 (dk_at dksX5_bestPlace_0 14 rfl rfl)
theorem dX5_bestPlace_15 : decode cX5_bestPlace 15 = .ok (.aload_n 0, 1) := dk_42 (dk_at dksX5_bestPlace_0 15 rfl rfl)
theorem dX5_bestPlace_16 : decode cX5_bestPlace 16 = .ok (.getfield 7, 3) := dk_180 0 7 (dk_at dksX5_bestPlace_0 16 rfl rfl)
theorem dX5_bestPlace_19 : decode cX5_bestPlace 19 = .ok (.iconst 0, 1) := dk_3 (dk_at dksX5_bestPlace_0 19 rfl rfl)
theorem dX5_bestPlace_20 : decode cX5_bestPlace 20 = .ok (.iaload, 1) := dk_46 (dk_at dksX5_bestPlace_0 20 rfl rfl)
theorem dX5_bestPlace_21 : decode cX5_bestPlace 21 = .ok (.bipush 8, 2) := dk_16 8 (dk_at dksX5_bestPlace_0 21 rfl rfl)
theorem dX5_bestPlace_23 : decode cX5_bestPlace 23 = .ok (.if_icmp .ne 9, 3) := dk_160 0 9 (dk_at dksX5_bestPlace_1 0 rfl rfl)
theorem dX5_bestPlace_26 : decode cX5_bestPlace 26 = .ok (.aload_n 0, 1) := dk_42 (dk_at dksX5_bestPlace_1 3 rfl rfl)
theorem dX5_bestPlace_27 : decode cX5_bestPlace 27 = .ok (.iconst 4, 1) := dk_7 (dk_at dksX5_bestPlace_1 4 rfl rfl)
theorem dX5_bestPlace_28 : decode cX5_bestPlace 28 = .ok (.invokevirtual 76, 3) := dk_182 0 76 (dk_at dksX5_bestPlace_1 5 rfl rfl)
theorem dX5_bestPlace_31 : decode cX5_bestPlace 31 = .ok (.ireturn, 1) := dk_172 (dk_at dksX5_bestPlace_1 8 rfl rfl)
theorem dX5_bestPlace_32 : decode cX5_bestPlace 32 = .ok (.aload_n 0, 1) := dk_42 (dk_at dksX5_bestPlace_1 9 rfl rfl)
theorem dX5_bestPlace_33 : decode cX5_bestPlace 33 = .ok (.getfield 7, 3) := dk_180 0 7 (dk_at dksX5_bestPlace_1 10 rfl rfl)
theorem dX5_bestPlace_36 : decode cX5_bestPlace 36 = .ok (.iconst 0, 1) := dk_3 (dk_at dksX5_bestPlace_1 13 rfl rfl)
theorem dX5_bestPlace_37 : decode cX5_bestPlace 37 = .ok (.iaload, 1) := dk_46 (dk_at dksX5_bestPlace_1 14 rfl rfl)
theorem dX5_bestPlace_38 : decode cX5_bestPlace 38 = .ok (.istore_n 3, 1) := dk_62 (dk_at dksX5_bestPlace_1 15 rfl rfl)
theorem dX5_bestPlace_39 : decode cX5_bestPlace 39 = .ok (.iconst 0, 1) := dk_3 (dk_at dksX5_bestPlace_1 16 rfl rfl)
theorem dX5_bestPlace_40 : decode cX5_bestPlace 40 = .ok (.istore 4, 2) := dk_54 4 (dk_at dksX5_bestPlace_1 17 rfl rfl)
theorem dX5_bestPlace_42 : decode cX5_bestPlace 42 = .ok (.iconst (-1), 1) := dk_2 (dk_at dksX5_bestPlace_1 19 rfl rfl)
theorem dX5_bestPlace_43 : decode cX5_bestPlace 43 = .ok (.istore 5, 2) := dk_54 5 (dk_at dksX5_bestPlace_1 20 rfl rfl)
theorem dX5_bestPlace_45 : decode cX5_bestPlace 45 = .ok (.aload_n 0, 1) := dk_42 (dk_at dksX5_bestPlace_1 22 rfl rfl)
theorem dX5_bestPlace_46 : decode cX5_bestPlace 46 = .ok (.getfield 7, 3) := dk_180 0 7 (dk_at dksX5_bestPlace_2 0 rfl rfl)
theorem dX5_bestPlace_49 : decode cX5_bestPlace 49 = .ok (.aload_n 0, 1) := dk_42 (dk_at dksX5_bestPlace_2 3 rfl rfl)
theorem dX5_bestPlace_50 : decode cX5_bestPlace 50 = .ok (.getfield 16, 3) := dk_180 0 16 (dk_at dksX5_bestPlace_2 4 rfl rfl)
theorem dX5_bestPlace_53 : decode cX5_bestPlace 53 = .ok (.invokestatic 226, 3) := dk_184 0 226 (dk_at dksX5_bestPlace_2 7 rfl rfl)
theorem dX5_bestPlace_56 : decode cX5_bestPlace 56 = .ok (.iconst 0, 1) := dk_3 (dk_at dksX5_bestPlace_2 10 rfl rfl)
theorem dX5_bestPlace_57 : decode cX5_bestPlace 57 = .ok (.istore 6, 2) := dk_54 6 (dk_at dksX5_bestPlace_2 11 rfl rfl)
theorem dX5_bestPlace_59 : decode cX5_bestPlace 59 = .ok (.iload 6, 2) := dk_21 6 (dk_at dksX5_bestPlace_2 13 rfl rfl)
theorem dX5_bestPlace_61 : decode cX5_bestPlace 61 = .ok (.bipush 12, 2) := dk_16 12 (dk_at dksX5_bestPlace_2 15 rfl rfl)
theorem dX5_bestPlace_63 : decode cX5_bestPlace 63 = .ok (.if_icmp .ge 65, 3) := dk_162 0 65 (dk_at dksX5_bestPlace_2 17 rfl rfl)
theorem dX5_bestPlace_66 : decode cX5_bestPlace 66 = .ok (.aload_n 0, 1) := dk_42 (dk_at dksX5_bestPlace_2 20 rfl rfl)
theorem dX5_bestPlace_67 : decode cX5_bestPlace 67 = .ok (.iload_n 1, 1) := dk_27 (dk_at dksX5_bestPlace_2 21 rfl rfl)
theorem dX5_bestPlace_68 : decode cX5_bestPlace 68 = .ok (.bipush 10, 2) := dk_16 10 (dk_at dksX5_bestPlace_2 22 rfl rfl)
theorem dX5_bestPlace_70 : decode cX5_bestPlace 70 = .ok (.iload 6, 2) := dk_21 6 (dk_at dksX5_bestPlace_3 0 rfl rfl)
theorem dX5_bestPlace_72 : decode cX5_bestPlace 72 = .ok (.imul, 1) := dk_104 (dk_at dksX5_bestPlace_3 2 rfl rfl)
theorem dX5_bestPlace_73 : decode cX5_bestPlace 73 = .ok (.invokevirtual 100, 3) := dk_182 0 100 (dk_at dksX5_bestPlace_3 3 rfl rfl)
theorem dX5_bestPlace_76 : decode cX5_bestPlace 76 = .ok (.istore 7, 2) := dk_54 7 (dk_at dksX5_bestPlace_3 6 rfl rfl)
theorem dX5_bestPlace_78 : decode cX5_bestPlace 78 = .ok (.aload_n 0, 1) := dk_42 (dk_at dksX5_bestPlace_3 8 rfl rfl)
theorem dX5_bestPlace_79 : decode cX5_bestPlace 79 = .ok (.iload_n 3, 1) := dk_29 (dk_at dksX5_bestPlace_3 9 rfl rfl)
theorem dX5_bestPlace_80 : decode cX5_bestPlace 80 = .ok (.iload_n 2, 1) := dk_28 (dk_at dksX5_bestPlace_3 10 rfl rfl)
theorem dX5_bestPlace_81 : decode cX5_bestPlace 81 = .ok (.invokevirtual 244, 3) := dk_182 0 244 (dk_at dksX5_bestPlace_3 11 rfl rfl)
theorem dX5_bestPlace_84 : decode cX5_bestPlace 84 = .ok (.aload_n 0, 1) := dk_42 (dk_at dksX5_bestPlace_3 14 rfl rfl)
theorem dX5_bestPlace_85 : decode cX5_bestPlace 85 = .ok (.getfield 238, 3) := dk_180 0 238 (dk_at dksX5_bestPlace_3 15 rfl rfl)
theorem dX5_bestPlace_88 : decode cX5_bestPlace 88 = .ok (.iload 5, 2) := dk_21 5 (dk_at dksX5_bestPlace_3 18 rfl rfl)
theorem dX5_bestPlace_90 : decode cX5_bestPlace 90 = .ok (.if_icmp .le 8, 3) := dk_164 0 8 (dk_at dksX5_bestPlace_3 20 rfl rfl)
theorem dX5_bestPlace_93 : decode cX5_bestPlace 93 = .ok (.iload 6, 2) := dk_21 6 (dk_at dksX5_bestPlace_4 0 rfl rfl)
theorem dX5_bestPlace_95 : decode cX5_bestPlace 95 = .ok (.goto 5, 3) := dk_167 0 5 (dk_at dksX5_bestPlace_4 2 rfl rfl)
theorem dX5_bestPlace_98 : decode cX5_bestPlace 98 = .ok (.iload 4, 2) := dk_21 4 (dk_at dksX5_bestPlace_4 5 rfl rfl)
theorem dX5_bestPlace_100 : decode cX5_bestPlace 100 = .ok (.istore 4, 2) := dk_54 4 (dk_at dksX5_bestPlace_4 7 rfl rfl)
theorem dX5_bestPlace_102 : decode cX5_bestPlace 102 = .ok (.aload_n 0, 1) := dk_42 (dk_at dksX5_bestPlace_4 9 rfl rfl)
theorem dX5_bestPlace_103 : decode cX5_bestPlace 103 = .ok (.getfield 238, 3) := dk_180 0 238 (dk_at dksX5_bestPlace_4 10 rfl rfl)
theorem dX5_bestPlace_106 : decode cX5_bestPlace 106 = .ok (.iload 5, 2) := dk_21 5 (dk_at dksX5_bestPlace_4 13 rfl rfl)
theorem dX5_bestPlace_108 : decode cX5_bestPlace 108 = .ok (.if_icmp .le 10, 3) := dk_164 0 10 (dk_at dksX5_bestPlace_4 15 rfl rfl)
theorem dX5_bestPlace_111 : decode cX5_bestPlace 111 = .ok (.aload_n 0, 1) := dk_42 (dk_at dksX5_bestPlace_4 18 rfl rfl)
theorem dX5_bestPlace_112 : decode cX5_bestPlace 112 = .ok (.getfield 238, 3) := dk_180 0 238 (dk_at dksX5_bestPlace_4 19 rfl rfl)
theorem dX5_bestPlace_115 : decode cX5_bestPlace 115 = .ok (.goto 5, 3) := dk_167 0 5 (dk_at dksX5_bestPlace_5 0 rfl rfl)
theorem dX5_bestPlace_118 : decode cX5_bestPlace 118 = .ok (.iload 5, 2) := dk_21 5 (dk_at dksX5_bestPlace_5 3 rfl rfl)
theorem dX5_bestPlace_120 : decode cX5_bestPlace 120 = .ok (.istore 5, 2) := dk_54 5 (dk_at dksX5_bestPlace_5 5 rfl rfl)
theorem dX5_bestPlace_122 : decode cX5_bestPlace 122 = .ok (.iinc 6 1, 3) := dk_132 6 1 (dk_at dksX5_bestPlace_5 7 rfl rfl)
theorem dX5_bestPlace_125 : decode cX5_bestPlace 125 = .ok (.goto (-66), 3) := dk_167 255 190 (dk_at dksX5_bestPlace_5 10 rfl rfl)
theorem dX5_bestPlace_128 : decode cX5_bestPlace 128 = .ok (.iload 4, 2) := dk_21 4 (dk_at dksX5_bestPlace_5 13 rfl rfl)
theorem dX5_bestPlace_130 : decode cX5_bestPlace 130 = .ok (.ireturn, 1) := dk_172 (dk_at dksX5_bestPlace_5 15 rfl rfl)
abbrev cX5_who : ByteArray := prog_20_method_76_code
def yX5_who : MethodName := ⟨RX5, "who", "(II)I"⟩
def dkwX5_who_8 : List UInt8 := [21, 7, 172]
abbrev dktX5_who_8 : List UInt8 := dkwX5_who_8 ++ []
def dkwX5_who_7 : List UInt8 := [167, 0, 25, 28, 4, 160, 0, 8, 21, 5, 167, 0, 15, 28, 5, 160, 0, 8, 21, 6, 167, 0, 5]
abbrev dktX5_who_7 : List UInt8 := dkwX5_who_7 ++ dktX5_who_8
def dkwX5_who_6 : List UInt8 := [28, 4, 159, 0, 8, 28, 5, 160, 0, 9, 42, 5, 182, 0, 76, 172, 28, 154, 0, 8, 21, 4]
abbrev dktX5_who_6 : List UInt8 := dkwX5_who_6 ++ dktX5_who_7
def dkwX5_who_5 : List UInt8 := [54, 7, 132, 8, 1, 167, 255, 194, 42, 180, 0, 16, 42, 180, 0, 7, 184, 0, 226, 21, 4, 154, 0, 19]
abbrev dktX5_who_5 : List UInt8 := dkwX5_who_5 ++ dktX5_who_6
def dkwX5_who_4 : List UInt8 := [160, 0, 8, 21, 8, 167, 0, 5, 21, 5, 54, 5, 21, 6, 21, 8, 126, 54, 6, 21, 7, 21, 8, 128]
abbrev dktX5_who_4 : List UInt8 := dkwX5_who_4 ++ dktX5_who_5
def dkwX5_who_3 : List UInt8 := [182, 0, 230, 42, 182, 0, 103, 42, 180, 0, 31, 16, 12, 46, 27, 160, 0, 35, 132, 4, 1, 21, 5, 2]
abbrev dktX5_who_3 : List UInt8 := dkwX5_who_3 ++ dktX5_who_4
def dkwX5_who_2 : List UInt8 := [42, 180, 0, 7, 42, 180, 0, 16, 184, 0, 226, 3, 54, 8, 21, 8, 29, 163, 0, 62, 42, 21, 8]
abbrev dktX5_who_2 : List UInt8 := dkwX5_who_2 ++ dktX5_who_3
def dkwX5_who_1 : List UInt8 := [172, 4, 42, 180, 0, 7, 3, 46, 120, 4, 100, 62, 3, 54, 4, 2, 54, 5, 29, 54, 6, 3, 54, 7]
abbrev dktX5_who_1 : List UInt8 := dkwX5_who_1 ++ dktX5_who_2
def dkwX5_who_0 : List UInt8 := [27, 3, 16, 99, 184, 0, 56, 153, 0, 12, 28, 3, 6, 184, 0, 56, 154, 0, 9, 42, 4, 182, 0, 76]
abbrev dktX5_who_0 : List UInt8 := dkwX5_who_0 ++ dktX5_who_1
theorem dksX5_who_0 : cX5_who.data.toList.drop 0 = dktX5_who_0 := by decide +kernel
theorem dksX5_who_1 : cX5_who.data.toList.drop 24 = dktX5_who_1 := dk_seg dksX5_who_0 24 rfl rfl
theorem dksX5_who_2 : cX5_who.data.toList.drop 48 = dktX5_who_2 := dk_seg dksX5_who_1 24 rfl rfl
theorem dksX5_who_3 : cX5_who.data.toList.drop 71 = dktX5_who_3 := dk_seg dksX5_who_2 23 rfl rfl
theorem dksX5_who_4 : cX5_who.data.toList.drop 95 = dktX5_who_4 := dk_seg dksX5_who_3 24 rfl rfl
theorem dksX5_who_5 : cX5_who.data.toList.drop 119 = dktX5_who_5 := dk_seg dksX5_who_4 24 rfl rfl
theorem dksX5_who_6 : cX5_who.data.toList.drop 143 = dktX5_who_6 := dk_seg dksX5_who_5 24 rfl rfl
theorem dksX5_who_7 : cX5_who.data.toList.drop 165 = dktX5_who_7 := dk_seg dksX5_who_6 22 rfl rfl
theorem dksX5_who_8 : cX5_who.data.toList.drop 188 = dktX5_who_8 := dk_seg dksX5_who_7 23 rfl rfl
theorem dX5_who_0 : decode cX5_who 0 = .ok (.iload_n 1, 1) := dk_27 (dk_at dksX5_who_0 0 rfl rfl)
theorem dX5_who_1 : decode cX5_who 1 = .ok (.iconst 0, 1) := dk_3 (dk_at dksX5_who_0 1 rfl rfl)
theorem dX5_who_2 : decode cX5_who 2 = .ok (.bipush 99, 2) := dk_16 99 (dk_at dksX5_who_0 2 rfl rfl)
theorem dX5_who_4 : decode cX5_who 4 = .ok (.invokestatic 56, 3) := dk_184 0 56 (dk_at dksX5_who_0 4 rfl rfl)
theorem dX5_who_7 : decode cX5_who 7 = .ok (.ifCond .eq 12, 3) := dk_153 0 12 (dk_at dksX5_who_0 7 rfl rfl)
theorem dX5_who_10 : decode cX5_who 10 = .ok (.iload_n 2, 1) := dk_28 (dk_at dksX5_who_0 10 rfl rfl)
theorem dX5_who_11 : decode cX5_who 11 = .ok (.iconst 0, 1) := dk_3 (dk_at dksX5_who_0 11 rfl rfl)
theorem dX5_who_12 : decode cX5_who 12 = .ok (.iconst 3, 1) := dk_6 (dk_at dksX5_who_0 12 rfl rfl)
theorem dX5_who_13 : decode cX5_who 13 = .ok (.invokestatic 56, 3) := dk_184 0 56 (dk_at dksX5_who_0 13 rfl rfl)
theorem dX5_who_16 : decode cX5_who 16 = .ok (.ifCond .ne 9, 3) := dk_154 0 9 (dk_at dksX5_who_0 16 rfl rfl)
theorem dX5_who_19 : decode cX5_who 19 = .ok (.aload_n 0, 1) := dk_42 (dk_at dksX5_who_0 19 rfl rfl)
theorem dX5_who_20 : decode cX5_who 20 = .ok (.iconst 1, 1) := dk_4 (dk_at dksX5_who_0 20 rfl rfl)
theorem dX5_who_21 : decode cX5_who 21 = .ok (.invokevirtual 76, 3) := dk_182 0 76 (dk_at dksX5_who_0 21 rfl rfl)
theorem dX5_who_24 : decode cX5_who 24 = .ok (.ireturn, 1) := dk_172 (dk_at dksX5_who_1 0 rfl rfl)
theorem dX5_who_25 : decode cX5_who 25 = .ok (.iconst 1, 1) := dk_4 (dk_at dksX5_who_1 1 rfl rfl)
theorem dX5_who_26 : decode cX5_who 26 = .ok (.aload_n 0, 1) := dk_42 (dk_at dksX5_who_1 2 rfl rfl)
theorem dX5_who_27 : decode cX5_who 27 = .ok (.getfield 7, 3) := dk_180 0 7 (dk_at dksX5_who_1 3 rfl rfl)
theorem dX5_who_30 : decode cX5_who 30 = .ok (.iconst 0, 1) := dk_3 (dk_at dksX5_who_1 6 rfl rfl)
theorem dX5_who_31 : decode cX5_who 31 = .ok (.iaload, 1) := dk_46 (dk_at dksX5_who_1 7 rfl rfl)
theorem dX5_who_32 : decode cX5_who 32 = .ok (.ishl, 1) := dk_120 (dk_at dksX5_who_1 8 rfl rfl)
theorem dX5_who_33 : decode cX5_who 33 = .ok (.iconst 1, 1) := dk_4 (dk_at dksX5_who_1 9 rfl rfl)
theorem dX5_who_34 : decode cX5_who 34 = .ok (.isub, 1) := dk_100 (dk_at dksX5_who_1 10 rfl rfl)
theorem dX5_who_35 : decode cX5_who 35 = .ok (.istore_n 3, 1) := dk_62 (dk_at dksX5_who_1 11 rfl rfl)
theorem dX5_who_36 : decode cX5_who 36 = .ok (.iconst 0, 1) := dk_3 (dk_at dksX5_who_1 12 rfl rfl)
theorem dX5_who_37 : decode cX5_who 37 = .ok (.istore 4, 2) := dk_54 4 (dk_at dksX5_who_1 13 rfl rfl)
theorem dX5_who_39 : decode cX5_who 39 = .ok (.iconst (-1), 1) := dk_2 (dk_at dksX5_who_1 15 rfl rfl)
theorem dX5_who_40 : decode cX5_who 40 = .ok (.istore 5, 2) := dk_54 5 (dk_at dksX5_who_1 16 rfl rfl)
theorem dX5_who_42 : decode cX5_who 42 = .ok (.iload_n 3, 1) := dk_29 (dk_at dksX5_who_1 18 rfl rfl)
theorem dX5_who_43 : decode cX5_who 43 = .ok (.istore 6, 2) := dk_54 6 (dk_at dksX5_who_1 19 rfl rfl)
theorem dX5_who_45 : decode cX5_who 45 = .ok (.iconst 0, 1) := dk_3 (dk_at dksX5_who_1 21 rfl rfl)
theorem dX5_who_46 : decode cX5_who 46 = .ok (.istore 7, 2) := dk_54 7 (dk_at dksX5_who_1 22 rfl rfl)
theorem dX5_who_48 : decode cX5_who 48 = .ok (.aload_n 0, 1) := dk_42 (dk_at dksX5_who_2 0 rfl rfl)
theorem dX5_who_49 : decode cX5_who 49 = .ok (.getfield 7, 3) := dk_180 0 7 (dk_at dksX5_who_2 1 rfl rfl)
theorem dX5_who_52 : decode cX5_who 52 = .ok (.aload_n 0, 1) := dk_42 (dk_at dksX5_who_2 4 rfl rfl)
theorem dX5_who_53 : decode cX5_who 53 = .ok (.getfield 16, 3) := dk_180 0 16 (dk_at dksX5_who_2 5 rfl rfl)
theorem dX5_who_56 : decode cX5_who 56 = .ok (.invokestatic 226, 3) := dk_184 0 226 (dk_at dksX5_who_2 8 rfl rfl)
theorem dX5_who_59 : decode cX5_who 59 = .ok (.iconst 0, 1) := dk_3 (dk_at dksX5_who_2 11 rfl rfl)
theorem dX5_who_60 : decode cX5_who 60 = .ok (.istore 8, 2) := dk_54 8 (dk_at dksX5_who_2 12 rfl rfl)
theorem dX5_who_62 : decode cX5_who 62 = .ok (.iload 8, 2) := dk_21 8 (dk_at dksX5_who_2 14 rfl rfl)
theorem dX5_who_64 : decode cX5_who 64 = .ok (.iload_n 3, 1) := dk_29 (dk_at dksX5_who_2 16 rfl rfl)
theorem dX5_who_65 : decode cX5_who 65 = .ok (.if_icmp .gt 62, 3) := dk_163 0 62 (dk_at dksX5_who_2 17 rfl rfl)
theorem dX5_who_68 : decode cX5_who 68 = .ok (.aload_n 0, 1) := dk_42 (dk_at dksX5_who_2 20 rfl rfl)
theorem dX5_who_69 : decode cX5_who 69 = .ok (.iload 8, 2) := dk_21 8 (dk_at dksX5_who_2 21 rfl rfl)
theorem dX5_who_71 : decode cX5_who 71 = .ok (.invokevirtual 230, 3) := dk_182 0 230 (dk_at dksX5_who_3 0 rfl rfl)
theorem dX5_who_74 : decode cX5_who 74 = .ok (.aload_n 0, 1) := dk_42 (dk_at dksX5_who_3 3 rfl rfl)
theorem dX5_who_75 : decode cX5_who 75 = .ok (.invokevirtual 103, 3) := dk_182 0 103 (dk_at dksX5_who_3 4 rfl rfl)
theorem dX5_who_78 : decode cX5_who 78 = .ok (.aload_n 0, 1) := dk_42 (dk_at dksX5_who_3 7 rfl rfl)
theorem dX5_who_79 : decode cX5_who 79 = .ok (.getfield 31, 3) := dk_180 0 31 (dk_at dksX5_who_3 8 rfl rfl)
theorem dX5_who_82 : decode cX5_who 82 = .ok (.bipush 12, 2) := dk_16 12 (dk_at dksX5_who_3 11 rfl rfl)
theorem dX5_who_84 : decode cX5_who 84 = .ok (.iaload, 1) := dk_46 (dk_at dksX5_who_3 13 rfl rfl)
theorem dX5_who_85 : decode cX5_who 85 = .ok (.iload_n 1, 1) := dk_27 (dk_at dksX5_who_3 14 rfl rfl)
theorem dX5_who_86 : decode cX5_who 86 = .ok (.if_icmp .ne 35, 3) := dk_160 0 35 (dk_at dksX5_who_3 15 rfl rfl)
theorem dX5_who_89 : decode cX5_who 89 = .ok (.iinc 4 1, 3) := dk_132 4 1 (dk_at dksX5_who_3 18 rfl rfl)
theorem dX5_who_92 : decode cX5_who 92 = .ok (.iload 5, 2) := dk_21 5 (dk_at dksX5_who_3 21 rfl rfl)
theorem dX5_who_94 : decode cX5_who 94 = .ok (.iconst (-1), 1) := dk_2 (dk_at dksX5_who_3 23 rfl rfl)
theorem dX5_who_95 : decode cX5_who 95 = .ok (.if_icmp .ne 8, 3) := dk_160 0 8 (dk_at dksX5_who_4 0 rfl rfl)
theorem dX5_who_98 : decode cX5_who 98 = .ok (.iload 8, 2) := dk_21 8 (dk_at dksX5_who_4 3 rfl rfl)
theorem dX5_who_100 : decode cX5_who 100 = .ok (.goto 5, 3) := dk_167 0 5 (dk_at dksX5_who_4 5 rfl rfl)
theorem dX5_who_103 : decode cX5_who 103 = .ok (.iload 5, 2) := dk_21 5 (dk_at dksX5_who_4 8 rfl rfl)
theorem dX5_who_105 : decode cX5_who 105 = .ok (.istore 5, 2) := dk_54 5 (dk_at dksX5_who_4 10 rfl rfl)
theorem dX5_who_107 : decode cX5_who 107 = .ok (.iload 6, 2) := dk_21 6 (dk_at dksX5_who_4 12 rfl rfl)
theorem dX5_who_109 : decode cX5_who 109 = .ok (.iload 8, 2) := dk_21 8 (dk_at dksX5_who_4 14 rfl rfl)
theorem dX5_who_111 : decode cX5_who 111 = .ok (.iand, 1) := dk_126 (dk_at dksX5_who_4 16 rfl rfl)
theorem dX5_who_112 : decode cX5_who 112 = .ok (.istore 6, 2) := dk_54 6 (dk_at dksX5_who_4 17 rfl rfl)
theorem dX5_who_114 : decode cX5_who 114 = .ok (.iload 7, 2) := dk_21 7 (dk_at dksX5_who_4 19 rfl rfl)
theorem dX5_who_116 : decode cX5_who 116 = .ok (.iload 8, 2) := dk_21 8 (dk_at dksX5_who_4 21 rfl rfl)
theorem dX5_who_118 : decode cX5_who 118 = .ok (.ior, 1) := dk_128 (dk_at dksX5_who_4 23 rfl rfl)
theorem dX5_who_119 : decode cX5_who 119 = .ok (.istore 7, 2) := dk_54 7 (dk_at dksX5_who_5 0 rfl rfl)
theorem dX5_who_121 : decode cX5_who 121 = .ok (.iinc 8 1, 3) := dk_132 8 1 (dk_at dksX5_who_5 2 rfl rfl)
theorem dX5_who_124 : decode cX5_who 124 = .ok (.goto (-62), 3) := dk_167 255 194 (dk_at dksX5_who_5 5 rfl rfl)
theorem dX5_who_127 : decode cX5_who 127 = .ok (.aload_n 0, 1) := dk_42 (dk_at dksX5_who_5 8 rfl rfl)
theorem dX5_who_128 : decode cX5_who 128 = .ok (.getfield 16, 3) := dk_180 0 16 (dk_at dksX5_who_5 9 rfl rfl)
theorem dX5_who_131 : decode cX5_who 131 = .ok (.aload_n 0, 1) := dk_42 (dk_at dksX5_who_5 12 rfl rfl)
theorem dX5_who_132 : decode cX5_who 132 = .ok (.getfield 7, 3) := dk_180 0 7 (dk_at dksX5_who_5 13 rfl rfl)
theorem dX5_who_135 : decode cX5_who 135 = .ok (.invokestatic 226, 3) := dk_184 0 226 (dk_at dksX5_who_5 16 rfl rfl)
theorem dX5_who_138 : decode cX5_who 138 = .ok (.iload 4, 2) := dk_21 4 (dk_at dksX5_who_5 19 rfl rfl)
theorem dX5_who_140 : decode cX5_who 140 = .ok (.ifCond .ne 19, 3) := dk_154 0 19 (dk_at dksX5_who_5 21 rfl rfl)
theorem dX5_who_143 : decode cX5_who 143 = .ok (.iload_n 2, 1) := dk_28 (dk_at dksX5_who_6 0 rfl rfl)
theorem dX5_who_144 : decode cX5_who 144 = .ok (.iconst 1, 1) := dk_4 (dk_at dksX5_who_6 1 rfl rfl)
theorem dX5_who_145 : decode cX5_who 145 = .ok (.if_icmp .eq 8, 3) := dk_159 0 8 (dk_at dksX5_who_6 2 rfl rfl)
theorem dX5_who_148 : decode cX5_who 148 = .ok (.iload_n 2, 1) := dk_28 (dk_at dksX5_who_6 5 rfl rfl)
theorem dX5_who_149 : decode cX5_who 149 = .ok (.iconst 2, 1) := dk_5 (dk_at dksX5_who_6 6 rfl rfl)
theorem dX5_who_150 : decode cX5_who 150 = .ok (.if_icmp .ne 9, 3) := dk_160 0 9 (dk_at dksX5_who_6 7 rfl rfl)
theorem dX5_who_153 : decode cX5_who 153 = .ok (.aload_n 0, 1) := dk_42 (dk_at dksX5_who_6 10 rfl rfl)
theorem dX5_who_154 : decode cX5_who 154 = .ok (.iconst 2, 1) := dk_5 (dk_at dksX5_who_6 11 rfl rfl)
theorem dX5_who_155 : decode cX5_who 155 = .ok (.invokevirtual 76, 3) := dk_182 0 76 (dk_at dksX5_who_6 12 rfl rfl)
theorem dX5_who_158 : decode cX5_who 158 = .ok (.ireturn, 1) := dk_172 (dk_at dksX5_who_6 15 rfl rfl)
theorem dX5_who_159 : decode cX5_who 159 = .ok (.iload_n 2, 1) := dk_28 (dk_at dksX5_who_6 16 rfl rfl)
theorem dX5_who_160 : decode cX5_who 160 = .ok (.ifCond .ne 8, 3) := dk_154 0 8 (dk_at dksX5_who_6 17 rfl rfl)
theorem dX5_who_163 : decode cX5_who 163 = .ok (.iload 4, 2) := dk_21 4 (dk_at dksX5_who_6 20 rfl rfl)
theorem dX5_who_165 : decode cX5_who 165 = .ok (.goto 25, 3) := dk_167 0 25 (dk_at dksX5_who_7 0 rfl rfl)
theorem dX5_who_168 : decode cX5_who 168 = .ok (.iload_n 2, 1) := dk_28 (dk_at dksX5_who_7 3 rfl rfl)
theorem dX5_who_169 : decode cX5_who 169 = .ok (.iconst 1, 1) := dk_4 (dk_at dksX5_who_7 4 rfl rfl)
theorem dX5_who_170 : decode cX5_who 170 = .ok (.if_icmp .ne 8, 3) := dk_160 0 8 (dk_at dksX5_who_7 5 rfl rfl)
theorem dX5_who_173 : decode cX5_who 173 = .ok (.iload 5, 2) := dk_21 5 (dk_at dksX5_who_7 8 rfl rfl)
theorem dX5_who_175 : decode cX5_who 175 = .ok (.goto 15, 3) := dk_167 0 15 (dk_at dksX5_who_7 10 rfl rfl)
theorem dX5_who_178 : decode cX5_who 178 = .ok (.iload_n 2, 1) := dk_28 (dk_at dksX5_who_7 13 rfl rfl)
theorem dX5_who_179 : decode cX5_who 179 = .ok (.iconst 2, 1) := dk_5 (dk_at dksX5_who_7 14 rfl rfl)
theorem dX5_who_180 : decode cX5_who 180 = .ok (.if_icmp .ne 8, 3) := dk_160 0 8 (dk_at dksX5_who_7 15 rfl rfl)
theorem dX5_who_183 : decode cX5_who 183 = .ok (.iload 6, 2) := dk_21 6 (dk_at dksX5_who_7 18 rfl rfl)
theorem dX5_who_185 : decode cX5_who 185 = .ok (.goto 5, 3) := dk_167 0 5 (dk_at dksX5_who_7 20 rfl rfl)
theorem dX5_who_188 : decode cX5_who 188 = .ok (.iload 7, 2) := dk_21 7 (dk_at dksX5_who_8 0 rfl rfl)
theorem dX5_who_190 : decode cX5_who 190 = .ok (.ireturn, 1) := dk_172 (dk_at dksX5_who_8 2 rfl rfl)
abbrev cX5_slipped : ByteArray := prog_20_method_77_code
def yX5_slipped : MethodName := ⟨RX5, "slipped", "()I"⟩
def dkwX5_slipped_2 : List UInt8 := [172]
abbrev dktX5_slipped_2 : List UInt8 := dkwX5_slipped_2 ++ []
def dkwX5_slipped_1 : List UInt8 := [16, 6, 182, 0, 90, 159, 0, 9, 4, 28, 120, 167, 0, 4, 3, 128, 60, 132, 2, 1, 167, 255, 217, 27]
abbrev dktX5_slipped_1 : List UInt8 := dkwX5_slipped_1 ++ dktX5_slipped_2
def dkwX5_slipped_0 : List UInt8 := [3, 60, 3, 61, 28, 42, 180, 0, 7, 3, 46, 162, 0, 35, 27, 42, 28, 8, 182, 0, 90, 42, 28]
abbrev dktX5_slipped_0 : List UInt8 := dkwX5_slipped_0 ++ dktX5_slipped_1
theorem dksX5_slipped_0 : cX5_slipped.data.toList.drop 0 = dktX5_slipped_0 := by decide +kernel
theorem dksX5_slipped_1 : cX5_slipped.data.toList.drop 23 = dktX5_slipped_1 := dk_seg dksX5_slipped_0 23 rfl rfl
theorem dksX5_slipped_2 : cX5_slipped.data.toList.drop 47 = dktX5_slipped_2 := dk_seg dksX5_slipped_1 24 rfl rfl
theorem dX5_slipped_0 : decode cX5_slipped 0 = .ok (.iconst 0, 1) := dk_3 (dk_at dksX5_slipped_0 0 rfl rfl)
theorem dX5_slipped_1 : decode cX5_slipped 1 = .ok (.istore_n 1, 1) := dk_60 (dk_at dksX5_slipped_0 1 rfl rfl)
theorem dX5_slipped_2 : decode cX5_slipped 2 = .ok (.iconst 0, 1) := dk_3 (dk_at dksX5_slipped_0 2 rfl rfl)
theorem dX5_slipped_3 : decode cX5_slipped 3 = .ok (.istore_n 2, 1) := dk_61 (dk_at dksX5_slipped_0 3 rfl rfl)
theorem dX5_slipped_4 : decode cX5_slipped 4 = .ok (.iload_n 2, 1) := dk_28 (dk_at dksX5_slipped_0 4 rfl rfl)
theorem dX5_slipped_5 : decode cX5_slipped 5 = .ok (.aload_n 0, 1) := dk_42 (dk_at dksX5_slipped_0 5 rfl rfl)
theorem dX5_slipped_6 : decode cX5_slipped 6 = .ok (.getfield 7, 3) := dk_180 0 7 (dk_at dksX5_slipped_0 6 rfl rfl)
theorem dX5_slipped_9 : decode cX5_slipped 9 = .ok (.iconst 0, 1) := dk_3 (dk_at dksX5_slipped_0 9 rfl rfl)
theorem dX5_slipped_10 : decode cX5_slipped 10 = .ok (.iaload, 1) := dk_46 (dk_at dksX5_slipped_0 10 rfl rfl)
theorem dX5_slipped_11 : decode cX5_slipped 11 = .ok (.if_icmp .ge 35, 3) := dk_162 0 35 (dk_at dksX5_slipped_0 11 rfl rfl)
theorem dX5_slipped_14 : decode cX5_slipped 14 = .ok (.iload_n 1, 1) := dk_27 (dk_at dksX5_slipped_0 14 rfl rfl)
theorem dX5_slipped_15 : decode cX5_slipped 15 = .ok (.aload_n 0, 1) := dk_42 (dk_at dksX5_slipped_0 15 rfl rfl)
theorem dX5_slipped_16 : decode cX5_slipped 16 = .ok (.iload_n 2, 1) := dk_28 (dk_at dksX5_slipped_0 16 rfl rfl)
theorem dX5_slipped_17 : decode cX5_slipped 17 = .ok (.iconst 5, 1) := dk_8 (dk_at dksX5_slipped_0 17 rfl rfl)
theorem dX5_slipped_18 : decode cX5_slipped 18 = .ok (.invokevirtual 90, 3) := dk_182 0 90 (dk_at dksX5_slipped_0 18 rfl rfl)
theorem dX5_slipped_21 : decode cX5_slipped 21 = .ok (.aload_n 0, 1) := dk_42 (dk_at dksX5_slipped_0 21 rfl rfl)
theorem dX5_slipped_22 : decode cX5_slipped 22 = .ok (.iload_n 2, 1) := dk_28 (dk_at dksX5_slipped_0 22 rfl rfl)
theorem dX5_slipped_23 : decode cX5_slipped 23 = .ok (.bipush 6, 2) := dk_16 6 (dk_at dksX5_slipped_1 0 rfl rfl)
theorem dX5_slipped_25 : decode cX5_slipped 25 = .ok (.invokevirtual 90, 3) := dk_182 0 90 (dk_at dksX5_slipped_1 2 rfl rfl)
theorem dX5_slipped_28 : decode cX5_slipped 28 = .ok (.if_icmp .eq 9, 3) := dk_159 0 9 (dk_at dksX5_slipped_1 5 rfl rfl)
theorem dX5_slipped_31 : decode cX5_slipped 31 = .ok (.iconst 1, 1) := dk_4 (dk_at dksX5_slipped_1 8 rfl rfl)
theorem dX5_slipped_32 : decode cX5_slipped 32 = .ok (.iload_n 2, 1) := dk_28 (dk_at dksX5_slipped_1 9 rfl rfl)
theorem dX5_slipped_33 : decode cX5_slipped 33 = .ok (.ishl, 1) := dk_120 (dk_at dksX5_slipped_1 10 rfl rfl)
theorem dX5_slipped_34 : decode cX5_slipped 34 = .ok (.goto 4, 3) := dk_167 0 4 (dk_at dksX5_slipped_1 11 rfl rfl)
theorem dX5_slipped_37 : decode cX5_slipped 37 = .ok (.iconst 0, 1) := dk_3 (dk_at dksX5_slipped_1 14 rfl rfl)
theorem dX5_slipped_38 : decode cX5_slipped 38 = .ok (.ior, 1) := dk_128 (dk_at dksX5_slipped_1 15 rfl rfl)
theorem dX5_slipped_39 : decode cX5_slipped 39 = .ok (.istore_n 1, 1) := dk_60 (dk_at dksX5_slipped_1 16 rfl rfl)
theorem dX5_slipped_40 : decode cX5_slipped 40 = .ok (.iinc 2 1, 3) := dk_132 2 1 (dk_at dksX5_slipped_1 17 rfl rfl)
theorem dX5_slipped_43 : decode cX5_slipped 43 = .ok (.goto (-39), 3) := dk_167 255 217 (dk_at dksX5_slipped_1 20 rfl rfl)
theorem dX5_slipped_46 : decode cX5_slipped 46 = .ok (.iload_n 1, 1) := dk_27 (dk_at dksX5_slipped_1 23 rfl rfl)
theorem dX5_slipped_47 : decode cX5_slipped 47 = .ok (.ireturn, 1) := dk_172 (dk_at dksX5_slipped_2 0 rfl rfl)
abbrev cX5_voice : ByteArray := prog_20_method_86_code
def yX5_voice : MethodName := ⟨RX5, "voice", "(III)I"⟩
def dkwX5_voice_4 : List UInt8 := [182, 1, 22, 54, 5, 42, 180, 1, 18, 153, 0, 12, 42, 16, 6, 182, 0, 76, 167, 0, 5, 21, 5, 172]
abbrev dktX5_voice_4 : List UInt8 := dkwX5_voice_4 ++ []
def dkwX5_voice_3 : List UInt8 := [167, 0, 25, 28, 5, 160, 0, 13, 42, 21, 4, 29, 182, 1, 15, 167, 0, 10, 42, 21, 4, 29]
abbrev dktX5_voice_3 : List UInt8 := dkwX5_voice_3 ++ dktX5_voice_4
def dkwX5_voice_2 : List UInt8 := [42, 21, 4, 29, 182, 1, 3, 167, 0, 40, 28, 4, 160, 0, 13, 42, 21, 4, 29, 182, 1, 9]
abbrev dktX5_voice_2 : List UInt8 := dkwX5_voice_2 ++ dktX5_voice_3
def dkwX5_voice_1 : List UInt8 := [3, 181, 0, 247, 42, 27, 181, 0, 250, 42, 3, 181, 1, 18, 42, 182, 1, 6, 54, 4, 28, 154, 0, 13]
abbrev dktX5_voice_1 : List UInt8 := dkwX5_voice_1 ++ dktX5_voice_2
def dkwX5_voice_0 : List UInt8 := [42, 27, 182, 0, 112, 153, 0, 12, 28, 3, 6, 184, 0, 56, 154, 0, 9, 42, 4, 182, 0, 76, 172, 42]
abbrev dktX5_voice_0 : List UInt8 := dkwX5_voice_0 ++ dktX5_voice_1
theorem dksX5_voice_0 : cX5_voice.data.toList.drop 0 = dktX5_voice_0 := by decide +kernel
theorem dksX5_voice_1 : cX5_voice.data.toList.drop 24 = dktX5_voice_1 := dk_seg dksX5_voice_0 24 rfl rfl
theorem dksX5_voice_2 : cX5_voice.data.toList.drop 48 = dktX5_voice_2 := dk_seg dksX5_voice_1 24 rfl rfl
theorem dksX5_voice_3 : cX5_voice.data.toList.drop 70 = dktX5_voice_3 := dk_seg dksX5_voice_2 22 rfl rfl
theorem dksX5_voice_4 : cX5_voice.data.toList.drop 92 = dktX5_voice_4 := dk_seg dksX5_voice_3 22 rfl rfl
theorem dX5_voice_0 : decode cX5_voice 0 = .ok (.aload_n 0, 1) := dk_42 (dk_at dksX5_voice_0 0 rfl rfl)
theorem dX5_voice_1 : decode cX5_voice 1 = .ok (.iload_n 1, 1) := dk_27 (dk_at dksX5_voice_0 1 rfl rfl)
theorem dX5_voice_2 : decode cX5_voice 2 = .ok (.invokevirtual 112, 3) := dk_182 0 112 (dk_at dksX5_voice_0 2 rfl rfl)
theorem dX5_voice_5 : decode cX5_voice 5 = .ok (.ifCond .eq 12, 3) := dk_153 0 12 (dk_at dksX5_voice_0 5 rfl rfl)
theorem dX5_voice_8 : decode cX5_voice 8 = .ok (.iload_n 2, 1) := dk_28 (dk_at dksX5_voice_0 8 rfl rfl)
theorem dX5_voice_9 : decode cX5_voice 9 = .ok (.iconst 0, 1) := dk_3 (dk_at dksX5_voice_0 9 rfl rfl)
theorem dX5_voice_10 : decode cX5_voice 10 = .ok (.iconst 3, 1) := dk_6 (dk_at dksX5_voice_0 10 rfl rfl)
theorem dX5_voice_11 : decode cX5_voice 11 = .ok (.invokestatic 56, 3) := dk_184 0 56 (dk_at dksX5_voice_0 11 rfl rfl)
theorem dX5_voice_14 : decode cX5_voice 14 = .ok (.ifCond .ne 9, 3) := dk_154 0 9 (dk_at dksX5_voice_0 14 rfl rfl)
theorem dX5_voice_17 : decode cX5_voice 17 = .ok (.aload_n 0, 1) := dk_42 (dk_at dksX5_voice_0 17 rfl rfl)
theorem dX5_voice_18 : decode cX5_voice 18 = .ok (.iconst 1, 1) := dk_4 (dk_at dksX5_voice_0 18 rfl rfl)
theorem dX5_voice_19 : decode cX5_voice 19 = .ok (.invokevirtual 76, 3) := dk_182 0 76 (dk_at dksX5_voice_0 19 rfl rfl)
theorem dX5_voice_22 : decode cX5_voice 22 = .ok (.ireturn, 1) := dk_172 (dk_at dksX5_voice_0 22 rfl rfl)
theorem dX5_voice_23 : decode cX5_voice 23 = .ok (.aload_n 0, 1) := dk_42 (dk_at dksX5_voice_0 23 rfl rfl)
theorem dX5_voice_24 : decode cX5_voice 24 = .ok (.iconst 0, 1) := dk_3 (dk_at dksX5_voice_1 0 rfl rfl)
theorem dX5_voice_25 : decode cX5_voice 25 = .ok (.putfield 247, 3) := dk_181 0 247 (dk_at dksX5_voice_1 1 rfl rfl)
theorem dX5_voice_28 : decode cX5_voice 28 = .ok (.aload_n 0, 1) := dk_42 (dk_at dksX5_voice_1 4 rfl rfl)
theorem dX5_voice_29 : decode cX5_voice 29 = .ok (.iload_n 1, 1) := dk_27 (dk_at dksX5_voice_1 5 rfl rfl)
theorem dX5_voice_30 : decode cX5_voice 30 = .ok (.putfield 250, 3) := dk_181 0 250 (dk_at dksX5_voice_1 6 rfl rfl)
theorem dX5_voice_33 : decode cX5_voice 33 = .ok (.aload_n 0, 1) := dk_42 (dk_at dksX5_voice_1 9 rfl rfl)
theorem dX5_voice_34 : decode cX5_voice 34 = .ok (.iconst 0, 1) := dk_3 (dk_at dksX5_voice_1 10 rfl rfl)
theorem dX5_voice_35 : decode cX5_voice 35 = .ok (.putfield 274, 3) := dk_181 1 18 (dk_at dksX5_voice_1 11 rfl rfl)
theorem dX5_voice_38 : decode cX5_voice 38 = .ok (.aload_n 0, 1) := dk_42 (dk_at dksX5_voice_1 14 rfl rfl)
theorem dX5_voice_39 : decode cX5_voice 39 = .ok (.invokevirtual 262, 3) := dk_182 1 6 (dk_at dksX5_voice_1 15 rfl rfl)
theorem dX5_voice_42 : decode cX5_voice 42 = .ok (.istore 4, 2) := dk_54 4 (dk_at dksX5_voice_1 18 rfl rfl)
theorem dX5_voice_44 : decode cX5_voice 44 = .ok (.iload_n 2, 1) := dk_28 (dk_at dksX5_voice_1 20 rfl rfl)
theorem dX5_voice_45 : decode cX5_voice 45 = .ok (.ifCond .ne 13, 3) := dk_154 0 13 (dk_at dksX5_voice_1 21 rfl rfl)
theorem dX5_voice_48 : decode cX5_voice 48 = .ok (.aload_n 0, 1) := dk_42 (dk_at dksX5_voice_2 0 rfl rfl)
theorem dX5_voice_49 : decode cX5_voice 49 = .ok (.iload 4, 2) := dk_21 4 (dk_at dksX5_voice_2 1 rfl rfl)
theorem dX5_voice_51 : decode cX5_voice 51 = .ok (.iload_n 3, 1) := dk_29 (dk_at dksX5_voice_2 3 rfl rfl)
theorem dX5_voice_52 : decode cX5_voice 52 = .ok (.invokevirtual 259, 3) := dk_182 1 3 (dk_at dksX5_voice_2 4 rfl rfl)
theorem dX5_voice_55 : decode cX5_voice 55 = .ok (.goto 40, 3) := dk_167 0 40 (dk_at dksX5_voice_2 7 rfl rfl)
theorem dX5_voice_58 : decode cX5_voice 58 = .ok (.iload_n 2, 1) := dk_28 (dk_at dksX5_voice_2 10 rfl rfl)
theorem dX5_voice_59 : decode cX5_voice 59 = .ok (.iconst 1, 1) := dk_4 (dk_at dksX5_voice_2 11 rfl rfl)
theorem dX5_voice_60 : decode cX5_voice 60 = .ok (.if_icmp .ne 13, 3) := dk_160 0 13 (dk_at dksX5_voice_2 12 rfl rfl)
theorem dX5_voice_63 : decode cX5_voice 63 = .ok (.aload_n 0, 1) := dk_42 (dk_at dksX5_voice_2 15 rfl rfl)
theorem dX5_voice_64 : decode cX5_voice 64 = .ok (.iload 4, 2) := dk_21 4 (dk_at dksX5_voice_2 16 rfl rfl)
theorem dX5_voice_66 : decode cX5_voice 66 = .ok (.iload_n 3, 1) := dk_29 (dk_at dksX5_voice_2 18 rfl rfl)
theorem dX5_voice_67 : decode cX5_voice 67 = .ok (.invokevirtual 265, 3) := dk_182 1 9 (dk_at dksX5_voice_2 19 rfl rfl)
theorem dX5_voice_70 : decode cX5_voice 70 = .ok (.goto 25, 3) := dk_167 0 25 (dk_at dksX5_voice_3 0 rfl rfl)
theorem dX5_voice_73 : decode cX5_voice 73 = .ok (.iload_n 2, 1) := dk_28 (dk_at dksX5_voice_3 3 rfl rfl)
theorem dX5_voice_74 : decode cX5_voice 74 = .ok (.iconst 2, 1) := dk_5 (dk_at dksX5_voice_3 4 rfl rfl)
theorem dX5_voice_75 : decode cX5_voice 75 = .ok (.if_icmp .ne 13, 3) := dk_160 0 13 (dk_at dksX5_voice_3 5 rfl rfl)
theorem dX5_voice_78 : decode cX5_voice 78 = .ok (.aload_n 0, 1) := dk_42 (dk_at dksX5_voice_3 8 rfl rfl)
theorem dX5_voice_79 : decode cX5_voice 79 = .ok (.iload 4, 2) := dk_21 4 (dk_at dksX5_voice_3 9 rfl rfl)
theorem dX5_voice_81 : decode cX5_voice 81 = .ok (.iload_n 3, 1) := dk_29 (dk_at dksX5_voice_3 11 rfl rfl)
theorem dX5_voice_82 : decode cX5_voice 82 = .ok (.invokevirtual 271, 3) := dk_182 1 15 (dk_at dksX5_voice_3 12 rfl rfl)
theorem dX5_voice_85 : decode cX5_voice 85 = .ok (.goto 10, 3) := dk_167 0 10 (dk_at dksX5_voice_3 15 rfl rfl)
theorem dX5_voice_88 : decode cX5_voice 88 = .ok (.aload_n 0, 1) := dk_42 (dk_at dksX5_voice_3 18 rfl rfl)
theorem dX5_voice_89 : decode cX5_voice 89 = .ok (.iload 4, 2) := dk_21 4 (dk_at dksX5_voice_3 19 rfl rfl)
theorem dX5_voice_91 : decode cX5_voice 91 = .ok (.iload_n 3, 1) := dk_29 (dk_at dksX5_voice_3 21 rfl rfl)
theorem dX5_voice_92 : decode cX5_voice 92 = .ok (.invokevirtual 278, 3) := dk_182 1 22 (dk_at dksX5_voice_4 0 rfl rfl)
theorem dX5_voice_95 : decode cX5_voice 95 = .ok (.istore 5, 2) := dk_54 5 (dk_at dksX5_voice_4 3 rfl rfl)
theorem dX5_voice_97 : decode cX5_voice 97 = .ok (.aload_n 0, 1) := dk_42 (dk_at dksX5_voice_4 5 rfl rfl)
theorem dX5_voice_98 : decode cX5_voice 98 = .ok (.getfield 274, 3) := dk_180 1 18 (dk_at dksX5_voice_4 6 rfl rfl)
theorem dX5_voice_101 : decode cX5_voice 101 = .ok (.ifCond .eq 12, 3) := dk_153 0 12 (dk_at dksX5_voice_4 9 rfl rfl)
theorem dX5_voice_104 : decode cX5_voice 104 = .ok (.aload_n 0, 1) := dk_42 (dk_at dksX5_voice_4 12 rfl rfl)
theorem dX5_voice_105 : decode cX5_voice 105 = .ok (.bipush 6, 2) := dk_16 6 (dk_at dksX5_voice_4 13 rfl rfl)
theorem dX5_voice_107 : decode cX5_voice 107 = .ok (.invokevirtual 76, 3) := dk_182 0 76 (dk_at dksX5_voice_4 15 rfl rfl)
theorem dX5_voice_110 : decode cX5_voice 110 = .ok (.goto 5, 3) := dk_167 0 5 (dk_at dksX5_voice_4 18 rfl rfl)
theorem dX5_voice_113 : decode cX5_voice 113 = .ok (.iload 5, 2) := dk_21 5 (dk_at dksX5_voice_4 21 rfl rfl)
theorem dX5_voice_115 : decode cX5_voice 115 = .ok (.ireturn, 1) := dk_172 (dk_at dksX5_voice_4 23 rfl rfl)
abbrev cX5_kindNow : ByteArray := prog_20_method_80_code
def yX5_kindNow : MethodName := ⟨RX5, "kindNow", "()I"⟩
def dkwX5_kindNow_0 : List UInt8 := [42, 42, 180, 0, 250, 3, 182, 0, 90, 172]
abbrev dktX5_kindNow_0 : List UInt8 := dkwX5_kindNow_0 ++ []
theorem dksX5_kindNow_0 : cX5_kindNow.data.toList.drop 0 = dktX5_kindNow_0 := by decide +kernel
theorem dX5_kindNow_0 : decode cX5_kindNow 0 = .ok (.aload_n 0, 1) := dk_42 (dk_at dksX5_kindNow_0 0 rfl rfl)
theorem dX5_kindNow_1 : decode cX5_kindNow 1 = .ok (.aload_n 0, 1) := dk_42 (dk_at dksX5_kindNow_0 1 rfl rfl)
theorem dX5_kindNow_2 : decode cX5_kindNow 2 = .ok (.getfield 250, 3) := dk_180 0 250 (dk_at dksX5_kindNow_0 2 rfl rfl)
theorem dX5_kindNow_5 : decode cX5_kindNow 5 = .ok (.iconst 0, 1) := dk_3 (dk_at dksX5_kindNow_0 5 rfl rfl)
theorem dX5_kindNow_6 : decode cX5_kindNow 6 = .ok (.invokevirtual 90, 3) := dk_182 0 90 (dk_at dksX5_kindNow_0 6 rfl rfl)
theorem dX5_kindNow_9 : decode cX5_kindNow 9 = .ok (.ireturn, 1) := dk_172 (dk_at dksX5_kindNow_0 9 rfl rfl)
abbrev cX5_flowsAs : ByteArray := prog_20_method_82_code
def yX5_flowsAs : MethodName := ⟨RX5, "flowsAs", "(II)I"⟩
def dkwX5_flowsAs_4 : List UInt8 := [172, 42, 16, 70, 182, 0, 253, 5, 172, 42, 27, 184, 1, 0, 28, 182, 1, 3, 172]
abbrev dktX5_flowsAs_4 : List UInt8 := dkwX5_flowsAs_4 ++ []
def dkwX5_flowsAs_3 : List UInt8 := [28, 182, 1, 3, 7, 100, 172, 42, 16, 50, 182, 0, 253, 42, 7, 184, 1, 0, 28, 182, 1, 3, 6, 104]
abbrev dktX5_flowsAs_3 : List UInt8 := dkwX5_flowsAs_3 ++ dktX5_flowsAs_4
def dkwX5_flowsAs_2 : List UInt8 := [42, 16, 10, 182, 0, 253, 28, 42, 180, 0, 250, 96, 172, 42, 16, 20, 182, 0, 253, 42, 4, 184, 1, 0]
abbrev dktX5_flowsAs_2 : List UInt8 := dkwX5_flowsAs_2 ++ dktX5_flowsAs_3
def dkwX5_flowsAs_1 : List UInt8 := [170, 0, 0, 0, 0, 0, 100, 0, 0, 0, 0, 0, 0, 0, 6, 0, 0, 0, 43, 0, 0, 0, 56, 0, 0, 0, 100, 0, 0, 0, 100, 0, 0, 0, 74, 0, 0, 0, 100, 0, 0, 0, 92]
abbrev dktX5_flowsAs_1 : List UInt8 := dkwX5_flowsAs_1 ++ dktX5_flowsAs_2
def dkwX5_flowsAs_0 : List UInt8 := [27]
abbrev dktX5_flowsAs_0 : List UInt8 := dkwX5_flowsAs_0 ++ dktX5_flowsAs_1
theorem dksX5_flowsAs_0 : cX5_flowsAs.data.toList.drop 0 = dktX5_flowsAs_0 := by decide +kernel
theorem dksX5_flowsAs_1 : cX5_flowsAs.data.toList.drop 1 = dktX5_flowsAs_1 := dk_seg dksX5_flowsAs_0 1 rfl rfl
theorem dksX5_flowsAs_2 : cX5_flowsAs.data.toList.drop 44 = dktX5_flowsAs_2 := dk_seg dksX5_flowsAs_1 43 rfl rfl
theorem dksX5_flowsAs_3 : cX5_flowsAs.data.toList.drop 68 = dktX5_flowsAs_3 := dk_seg dksX5_flowsAs_2 24 rfl rfl
theorem dksX5_flowsAs_4 : cX5_flowsAs.data.toList.drop 92 = dktX5_flowsAs_4 := dk_seg dksX5_flowsAs_3 24 rfl rfl
theorem dX5_flowsAs_0 : decode cX5_flowsAs 0 = .ok (.iload_n 1, 1) := dk_27 (dk_at dksX5_flowsAs_0 0 rfl rfl)
theorem dX5_flowsAs_1 : decode cX5_flowsAs 1 = .ok (.tableswitch 100 0 6 #[43, 56, 100, 100, 74, 100, 92], 43) := by decide +kernel
theorem dX5_flowsAs_44 : decode cX5_flowsAs 44 = .ok (.aload_n 0, 1) := dk_42 (dk_at dksX5_flowsAs_2 0 rfl rfl)
theorem dX5_flowsAs_45 : decode cX5_flowsAs 45 = .ok (.bipush 10, 2) := dk_16 10 (dk_at dksX5_flowsAs_2 1 rfl rfl)
theorem dX5_flowsAs_47 : decode cX5_flowsAs 47 = .ok (.invokevirtual 253, 3) := dk_182 0 253 (dk_at dksX5_flowsAs_2 3 rfl rfl)
theorem dX5_flowsAs_50 : decode cX5_flowsAs 50 = .ok (.iload_n 2, 1) := dk_28 (dk_at dksX5_flowsAs_2 6 rfl rfl)
theorem dX5_flowsAs_51 : decode cX5_flowsAs 51 = .ok (.aload_n 0, 1) := dk_42 (dk_at dksX5_flowsAs_2 7 rfl rfl)
theorem dX5_flowsAs_52 : decode cX5_flowsAs 52 = .ok (.getfield 250, 3) := dk_180 0 250 (dk_at dksX5_flowsAs_2 8 rfl rfl)
theorem dX5_flowsAs_55 : decode cX5_flowsAs 55 = .ok (.iadd, 1) := dk_96 (dk_at dksX5_flowsAs_2 11 rfl rfl)
theorem dX5_flowsAs_56 : decode cX5_flowsAs 56 = .ok (.ireturn, 1) := dk_172 (dk_at dksX5_flowsAs_2 12 rfl rfl)
theorem dX5_flowsAs_57 : decode cX5_flowsAs 57 = .ok (.aload_n 0, 1) := dk_42 (dk_at dksX5_flowsAs_2 13 rfl rfl)
theorem dX5_flowsAs_58 : decode cX5_flowsAs 58 = .ok (.bipush 20, 2) := dk_16 20 (dk_at dksX5_flowsAs_2 14 rfl rfl)
theorem dX5_flowsAs_60 : decode cX5_flowsAs 60 = .ok (.invokevirtual 253, 3) := dk_182 0 253 (dk_at dksX5_flowsAs_2 16 rfl rfl)
theorem dX5_flowsAs_63 : decode cX5_flowsAs 63 = .ok (.aload_n 0, 1) := dk_42 (dk_at dksX5_flowsAs_2 19 rfl rfl)
theorem dX5_flowsAs_64 : decode cX5_flowsAs 64 = .ok (.iconst 1, 1) := dk_4 (dk_at dksX5_flowsAs_2 20 rfl rfl)
theorem dX5_flowsAs_65 : decode cX5_flowsAs 65 = .ok (.invokestatic 256, 3) := dk_184 1 0 (dk_at dksX5_flowsAs_2 21 rfl rfl)
theorem dX5_flowsAs_68 : decode cX5_flowsAs 68 = .ok (.iload_n 2, 1) := dk_28 (dk_at dksX5_flowsAs_3 0 rfl rfl)
theorem dX5_flowsAs_69 : decode cX5_flowsAs 69 = .ok (.invokevirtual 259, 3) := dk_182 1 3 (dk_at dksX5_flowsAs_3 1 rfl rfl)
theorem dX5_flowsAs_72 : decode cX5_flowsAs 72 = .ok (.iconst 4, 1) := dk_7 (dk_at dksX5_flowsAs_3 4 rfl rfl)
theorem dX5_flowsAs_73 : decode cX5_flowsAs 73 = .ok (.isub, 1) := dk_100 (dk_at dksX5_flowsAs_3 5 rfl rfl)
theorem dX5_flowsAs_74 : decode cX5_flowsAs 74 = .ok (.ireturn, 1) := dk_172 (dk_at dksX5_flowsAs_3 6 rfl rfl)
theorem dX5_flowsAs_75 : decode cX5_flowsAs 75 = .ok (.aload_n 0, 1) := dk_42 (dk_at dksX5_flowsAs_3 7 rfl rfl)
theorem dX5_flowsAs_76 : decode cX5_flowsAs 76 = .ok (.bipush 50, 2) := dk_16 50 (dk_at dksX5_flowsAs_3 8 rfl rfl)
theorem dX5_flowsAs_78 : decode cX5_flowsAs 78 = .ok (.invokevirtual 253, 3) := dk_182 0 253 (dk_at dksX5_flowsAs_3 10 rfl rfl)
theorem dX5_flowsAs_81 : decode cX5_flowsAs 81 = .ok (.aload_n 0, 1) := dk_42 (dk_at dksX5_flowsAs_3 13 rfl rfl)
theorem dX5_flowsAs_82 : decode cX5_flowsAs 82 = .ok (.iconst 4, 1) := dk_7 (dk_at dksX5_flowsAs_3 14 rfl rfl)
theorem dX5_flowsAs_83 : decode cX5_flowsAs 83 = .ok (.invokestatic 256, 3) := dk_184 1 0 (dk_at dksX5_flowsAs_3 15 rfl rfl)
theorem dX5_flowsAs_86 : decode cX5_flowsAs 86 = .ok (.iload_n 2, 1) := dk_28 (dk_at dksX5_flowsAs_3 18 rfl rfl)
theorem dX5_flowsAs_87 : decode cX5_flowsAs 87 = .ok (.invokevirtual 259, 3) := dk_182 1 3 (dk_at dksX5_flowsAs_3 19 rfl rfl)
theorem dX5_flowsAs_90 : decode cX5_flowsAs 90 = .ok (.iconst 3, 1) := dk_6 (dk_at dksX5_flowsAs_3 22 rfl rfl)
theorem dX5_flowsAs_91 : decode cX5_flowsAs 91 = .ok (.imul, 1) := dk_104 (dk_at dksX5_flowsAs_3 23 rfl rfl)
theorem dX5_flowsAs_92 : decode cX5_flowsAs 92 = .ok (.ireturn, 1) := dk_172 (dk_at dksX5_flowsAs_4 0 rfl rfl)
theorem dX5_flowsAs_93 : decode cX5_flowsAs 93 = .ok (.aload_n 0, 1) := dk_42 (dk_at dksX5_flowsAs_4 1 rfl rfl)
theorem dX5_flowsAs_94 : decode cX5_flowsAs 94 = .ok (.bipush 70, 2) := dk_16 70 (dk_at dksX5_flowsAs_4 2 rfl rfl)
theorem dX5_flowsAs_96 : decode cX5_flowsAs 96 = .ok (.invokevirtual 253, 3) := dk_182 0 253 (dk_at dksX5_flowsAs_4 4 rfl rfl)
theorem dX5_flowsAs_99 : decode cX5_flowsAs 99 = .ok (.iconst 2, 1) := dk_5 (dk_at dksX5_flowsAs_4 7 rfl rfl)
theorem dX5_flowsAs_100 : decode cX5_flowsAs 100 = .ok (.ireturn, 1) := dk_172 (dk_at dksX5_flowsAs_4 8 rfl rfl)
theorem dX5_flowsAs_101 : decode cX5_flowsAs 101 = .ok (.aload_n 0, 1) := dk_42 (dk_at dksX5_flowsAs_4 9 rfl rfl)
theorem dX5_flowsAs_102 : decode cX5_flowsAs 102 = .ok (.iload_n 1, 1) := dk_27 (dk_at dksX5_flowsAs_4 10 rfl rfl)
theorem dX5_flowsAs_103 : decode cX5_flowsAs 103 = .ok (.invokestatic 256, 3) := dk_184 1 0 (dk_at dksX5_flowsAs_4 11 rfl rfl)
theorem dX5_flowsAs_106 : decode cX5_flowsAs 106 = .ok (.iload_n 2, 1) := dk_28 (dk_at dksX5_flowsAs_4 14 rfl rfl)
theorem dX5_flowsAs_107 : decode cX5_flowsAs 107 = .ok (.invokevirtual 259, 3) := dk_182 1 3 (dk_at dksX5_flowsAs_4 15 rfl rfl)
theorem dX5_flowsAs_110 : decode cX5_flowsAs 110 = .ok (.ireturn, 1) := dk_172 (dk_at dksX5_flowsAs_4 18 rfl rfl)
abbrev cX5_begins : ByteArray := prog_20_method_78_code
def yX5_begins : MethodName := ⟨RX5, "begins", "(I)V"⟩
def dkwX5_begins_1 : List UInt8 := [4, 96, 181, 0, 247, 177]
abbrev dktX5_begins_1 : List UInt8 := dkwX5_begins_1 ++ []
def dkwX5_begins_0 : List UInt8 := [42, 180, 0, 247, 16, 30, 162, 0, 23, 42, 180, 0, 40, 42, 180, 0, 247, 27, 79, 42, 89, 180, 0, 247]
abbrev dktX5_begins_0 : List UInt8 := dkwX5_begins_0 ++ dktX5_begins_1
theorem dksX5_begins_0 : cX5_begins.data.toList.drop 0 = dktX5_begins_0 := by decide +kernel
theorem dksX5_begins_1 : cX5_begins.data.toList.drop 24 = dktX5_begins_1 := dk_seg dksX5_begins_0 24 rfl rfl
theorem dX5_begins_0 : decode cX5_begins 0 = .ok (.aload_n 0, 1) := dk_42 (dk_at dksX5_begins_0 0 rfl rfl)
theorem dX5_begins_1 : decode cX5_begins 1 = .ok (.getfield 247, 3) := dk_180 0 247 (dk_at dksX5_begins_0 1 rfl rfl)
theorem dX5_begins_4 : decode cX5_begins 4 = .ok (.bipush 30, 2) := dk_16 30 (dk_at dksX5_begins_0 4 rfl rfl)
theorem dX5_begins_6 : decode cX5_begins 6 = .ok (.if_icmp .ge 23, 3) := dk_162 0 23 (dk_at dksX5_begins_0 6 rfl rfl)
theorem dX5_begins_9 : decode cX5_begins 9 = .ok (.aload_n 0, 1) := dk_42 (dk_at dksX5_begins_0 9 rfl rfl)
theorem dX5_begins_10 : decode cX5_begins 10 = .ok (.getfield 40, 3) := dk_180 0 40 (dk_at dksX5_begins_0 10 rfl rfl)
theorem dX5_begins_13 : decode cX5_begins 13 = .ok (.aload_n 0, 1) := dk_42 (dk_at dksX5_begins_0 13 rfl rfl)
theorem dX5_begins_14 : decode cX5_begins 14 = .ok (.getfield 247, 3) := dk_180 0 247 (dk_at dksX5_begins_0 14 rfl rfl)
theorem dX5_begins_17 : decode cX5_begins 17 = .ok (.iload_n 1, 1) := dk_27 (dk_at dksX5_begins_0 17 rfl rfl)
theorem dX5_begins_18 : decode cX5_begins 18 = .ok (.iastore, 1) := dk_79 (dk_at dksX5_begins_0 18 rfl rfl)
theorem dX5_begins_19 : decode cX5_begins 19 = .ok (.aload_n 0, 1) := dk_42 (dk_at dksX5_begins_0 19 rfl rfl)
theorem dX5_begins_20 : decode cX5_begins 20 = .ok (.dup, 1) := dk_89 (dk_at dksX5_begins_0 20 rfl rfl)
theorem dX5_begins_21 : decode cX5_begins 21 = .ok (.getfield 247, 3) := dk_180 0 247 (dk_at dksX5_begins_0 21 rfl rfl)
theorem dX5_begins_24 : decode cX5_begins 24 = .ok (.iconst 1, 1) := dk_4 (dk_at dksX5_begins_1 0 rfl rfl)
theorem dX5_begins_25 : decode cX5_begins 25 = .ok (.iadd, 1) := dk_96 (dk_at dksX5_begins_1 1 rfl rfl)
theorem dX5_begins_26 : decode cX5_begins 26 = .ok (.putfield 247, 3) := dk_181 0 247 (dk_at dksX5_begins_1 2 rfl rfl)
theorem dX5_begins_29 : decode cX5_begins 29 = .ok (.return_, 1) := dk_177 (dk_at dksX5_begins_1 5 rfl rfl)
abbrev cX5_above : ByteArray := prog_20_method_79_code
def yX5_above : MethodName := ⟨RX5, "above", "(I)I"⟩
def dkwX5_above_0 : List UInt8 := [26, 7, 160, 0, 7, 4, 167, 0, 13, 26, 8, 160, 0, 7, 6, 167, 0, 4, 3, 172]
abbrev dktX5_above_0 : List UInt8 := dkwX5_above_0 ++ []
theorem dksX5_above_0 : cX5_above.data.toList.drop 0 = dktX5_above_0 := by decide +kernel
theorem dX5_above_0 : decode cX5_above 0 = .ok (.iload_n 0, 1) := dk_26 (dk_at dksX5_above_0 0 rfl rfl)
theorem dX5_above_1 : decode cX5_above 1 = .ok (.iconst 4, 1) := dk_7 (dk_at dksX5_above_0 1 rfl rfl)
theorem dX5_above_2 : decode cX5_above 2 = .ok (.if_icmp .ne 7, 3) := dk_160 0 7 (dk_at dksX5_above_0 2 rfl rfl)
theorem dX5_above_5 : decode cX5_above 5 = .ok (.iconst 1, 1) := dk_4 (dk_at dksX5_above_0 5 rfl rfl)
theorem dX5_above_6 : decode cX5_above 6 = .ok (.goto 13, 3) := dk_167 0 13 (dk_at dksX5_above_0 6 rfl rfl)
theorem dX5_above_9 : decode cX5_above 9 = .ok (.iload_n 0, 1) := dk_26 (dk_at dksX5_above_0 9 rfl rfl)
theorem dX5_above_10 : decode cX5_above 10 = .ok (.iconst 5, 1) := dk_8 (dk_at dksX5_above_0 10 rfl rfl)
theorem dX5_above_11 : decode cX5_above 11 = .ok (.if_icmp .ne 7, 3) := dk_160 0 7 (dk_at dksX5_above_0 11 rfl rfl)
theorem dX5_above_14 : decode cX5_above 14 = .ok (.iconst 3, 1) := dk_6 (dk_at dksX5_above_0 14 rfl rfl)
theorem dX5_above_15 : decode cX5_above 15 = .ok (.goto 4, 3) := dk_167 0 4 (dk_at dksX5_above_0 15 rfl rfl)
theorem dX5_above_18 : decode cX5_above 18 = .ok (.iconst 0, 1) := dk_3 (dk_at dksX5_above_0 18 rfl rfl)
theorem dX5_above_19 : decode cX5_above 19 = .ok (.ireturn, 1) := dk_172 (dk_at dksX5_above_0 19 rfl rfl)
abbrev cX5_turnsAs : ByteArray := prog_20_method_83_code
def yX5_turnsAs : MethodName := ⟨RX5, "turnsAs", "(II)I"⟩
def dkwX5_turnsAs_5 : List UInt8 := [182, 1, 12, 96, 172, 42, 27, 184, 1, 0, 28, 182, 1, 9, 172]
abbrev dktX5_turnsAs_5 : List UInt8 := dkwX5_turnsAs_5 ++ []
def dkwX5_turnsAs_4 : List UInt8 := [4, 96, 182, 1, 9, 172, 42, 16, 71, 182, 0, 253, 42, 16, 6, 184, 1, 0, 28, 182, 1, 9, 42]
abbrev dktX5_turnsAs_4 : List UInt8 := dkwX5_turnsAs_4 ++ dktX5_turnsAs_5
def dkwX5_turnsAs_3 : List UInt8 := [3, 42, 5, 184, 1, 0, 28, 182, 1, 9, 100, 172, 42, 16, 60, 182, 0, 253, 42, 8, 184, 1, 0, 28]
abbrev dktX5_turnsAs_3 : List UInt8 := dkwX5_turnsAs_3 ++ dktX5_turnsAs_4
def dkwX5_turnsAs_2 : List UInt8 := [42, 16, 11, 182, 0, 253, 42, 42, 182, 1, 6, 28, 182, 1, 3, 5, 104, 172, 42, 16, 30, 182, 0, 253]
abbrev dktX5_turnsAs_2 : List UInt8 := dkwX5_turnsAs_2 ++ dktX5_turnsAs_3
def dkwX5_turnsAs_1 : List UInt8 := [170, 0, 0, 0, 0, 0, 119, 0, 0, 0, 0, 0, 0, 0, 6, 0, 0, 0, 43, 0, 0, 0, 119, 0, 0, 0, 61, 0, 0, 0, 119, 0, 0, 0, 119, 0, 0, 0, 79, 0, 0, 0, 97]
abbrev dktX5_turnsAs_1 : List UInt8 := dkwX5_turnsAs_1 ++ dktX5_turnsAs_2
def dkwX5_turnsAs_0 : List UInt8 := [27]
abbrev dktX5_turnsAs_0 : List UInt8 := dkwX5_turnsAs_0 ++ dktX5_turnsAs_1
theorem dksX5_turnsAs_0 : cX5_turnsAs.data.toList.drop 0 = dktX5_turnsAs_0 := by decide +kernel
theorem dksX5_turnsAs_1 : cX5_turnsAs.data.toList.drop 1 = dktX5_turnsAs_1 := dk_seg dksX5_turnsAs_0 1 rfl rfl
theorem dksX5_turnsAs_2 : cX5_turnsAs.data.toList.drop 44 = dktX5_turnsAs_2 := dk_seg dksX5_turnsAs_1 43 rfl rfl
theorem dksX5_turnsAs_3 : cX5_turnsAs.data.toList.drop 68 = dktX5_turnsAs_3 := dk_seg dksX5_turnsAs_2 24 rfl rfl
theorem dksX5_turnsAs_4 : cX5_turnsAs.data.toList.drop 92 = dktX5_turnsAs_4 := dk_seg dksX5_turnsAs_3 24 rfl rfl
theorem dksX5_turnsAs_5 : cX5_turnsAs.data.toList.drop 115 = dktX5_turnsAs_5 := dk_seg dksX5_turnsAs_4 23 rfl rfl
theorem dX5_turnsAs_0 : decode cX5_turnsAs 0 = .ok (.iload_n 1, 1) := dk_27 (dk_at dksX5_turnsAs_0 0 rfl rfl)
theorem dX5_turnsAs_1 : decode cX5_turnsAs 1 = .ok (.tableswitch 119 0 6 #[43, 119, 61, 119, 119, 79, 97], 43) := by decide +kernel
theorem dX5_turnsAs_44 : decode cX5_turnsAs 44 = .ok (.aload_n 0, 1) := dk_42 (dk_at dksX5_turnsAs_2 0 rfl rfl)
theorem dX5_turnsAs_45 : decode cX5_turnsAs 45 = .ok (.bipush 11, 2) := dk_16 11 (dk_at dksX5_turnsAs_2 1 rfl rfl)
theorem dX5_turnsAs_47 : decode cX5_turnsAs 47 = .ok (.invokevirtual 253, 3) := dk_182 0 253 (dk_at dksX5_turnsAs_2 3 rfl rfl)
theorem dX5_turnsAs_50 : decode cX5_turnsAs 50 = .ok (.aload_n 0, 1) := dk_42 (dk_at dksX5_turnsAs_2 6 rfl rfl)
theorem dX5_turnsAs_51 : decode cX5_turnsAs 51 = .ok (.aload_n 0, 1) := dk_42 (dk_at dksX5_turnsAs_2 7 rfl rfl)
theorem dX5_turnsAs_52 : decode cX5_turnsAs 52 = .ok (.invokevirtual 262, 3) := dk_182 1 6 (dk_at dksX5_turnsAs_2 8 rfl rfl)
theorem dX5_turnsAs_55 : decode cX5_turnsAs 55 = .ok (.iload_n 2, 1) := dk_28 (dk_at dksX5_turnsAs_2 11 rfl rfl)
theorem dX5_turnsAs_56 : decode cX5_turnsAs 56 = .ok (.invokevirtual 259, 3) := dk_182 1 3 (dk_at dksX5_turnsAs_2 12 rfl rfl)
theorem dX5_turnsAs_59 : decode cX5_turnsAs 59 = .ok (.iconst 2, 1) := dk_5 (dk_at dksX5_turnsAs_2 15 rfl rfl)
theorem dX5_turnsAs_60 : decode cX5_turnsAs 60 = .ok (.imul, 1) := dk_104 (dk_at dksX5_turnsAs_2 16 rfl rfl)
theorem dX5_turnsAs_61 : decode cX5_turnsAs 61 = .ok (.ireturn, 1) := dk_172 (dk_at dksX5_turnsAs_2 17 rfl rfl)
theorem dX5_turnsAs_62 : decode cX5_turnsAs 62 = .ok (.aload_n 0, 1) := dk_42 (dk_at dksX5_turnsAs_2 18 rfl rfl)
theorem dX5_turnsAs_63 : decode cX5_turnsAs 63 = .ok (.bipush 30, 2) := dk_16 30 (dk_at dksX5_turnsAs_2 19 rfl rfl)
theorem dX5_turnsAs_65 : decode cX5_turnsAs 65 = .ok (.invokevirtual 253, 3) := dk_182 0 253 (dk_at dksX5_turnsAs_2 21 rfl rfl)
theorem dX5_turnsAs_68 : decode cX5_turnsAs 68 = .ok (.iconst 0, 1) := dk_3 (dk_at dksX5_turnsAs_3 0 rfl rfl)
theorem dX5_turnsAs_69 : decode cX5_turnsAs 69 = .ok (.aload_n 0, 1) := dk_42 (dk_at dksX5_turnsAs_3 1 rfl rfl)
theorem dX5_turnsAs_70 : decode cX5_turnsAs 70 = .ok (.iconst 2, 1) := dk_5 (dk_at dksX5_turnsAs_3 2 rfl rfl)
theorem dX5_turnsAs_71 : decode cX5_turnsAs 71 = .ok (.invokestatic 256, 3) := dk_184 1 0 (dk_at dksX5_turnsAs_3 3 rfl rfl)
theorem dX5_turnsAs_74 : decode cX5_turnsAs 74 = .ok (.iload_n 2, 1) := dk_28 (dk_at dksX5_turnsAs_3 6 rfl rfl)
theorem dX5_turnsAs_75 : decode cX5_turnsAs 75 = .ok (.invokevirtual 265, 3) := dk_182 1 9 (dk_at dksX5_turnsAs_3 7 rfl rfl)
theorem dX5_turnsAs_78 : decode cX5_turnsAs 78 = .ok (.isub, 1) := dk_100 (dk_at dksX5_turnsAs_3 10 rfl rfl)
theorem dX5_turnsAs_79 : decode cX5_turnsAs 79 = .ok (.ireturn, 1) := dk_172 (dk_at dksX5_turnsAs_3 11 rfl rfl)
theorem dX5_turnsAs_80 : decode cX5_turnsAs 80 = .ok (.aload_n 0, 1) := dk_42 (dk_at dksX5_turnsAs_3 12 rfl rfl)
theorem dX5_turnsAs_81 : decode cX5_turnsAs 81 = .ok (.bipush 60, 2) := dk_16 60 (dk_at dksX5_turnsAs_3 13 rfl rfl)
theorem dX5_turnsAs_83 : decode cX5_turnsAs 83 = .ok (.invokevirtual 253, 3) := dk_182 0 253 (dk_at dksX5_turnsAs_3 15 rfl rfl)
theorem dX5_turnsAs_86 : decode cX5_turnsAs 86 = .ok (.aload_n 0, 1) := dk_42 (dk_at dksX5_turnsAs_3 18 rfl rfl)
theorem dX5_turnsAs_87 : decode cX5_turnsAs 87 = .ok (.iconst 5, 1) := dk_8 (dk_at dksX5_turnsAs_3 19 rfl rfl)
theorem dX5_turnsAs_88 : decode cX5_turnsAs 88 = .ok (.invokestatic 256, 3) := dk_184 1 0 (dk_at dksX5_turnsAs_3 20 rfl rfl)
theorem dX5_turnsAs_91 : decode cX5_turnsAs 91 = .ok (.iload_n 2, 1) := dk_28 (dk_at dksX5_turnsAs_3 23 rfl rfl)
theorem dX5_turnsAs_92 : decode cX5_turnsAs 92 = .ok (.iconst 1, 1) := dk_4 (dk_at dksX5_turnsAs_4 0 rfl rfl)
theorem dX5_turnsAs_93 : decode cX5_turnsAs 93 = .ok (.iadd, 1) := dk_96 (dk_at dksX5_turnsAs_4 1 rfl rfl)
theorem dX5_turnsAs_94 : decode cX5_turnsAs 94 = .ok (.invokevirtual 265, 3) := dk_182 1 9 (dk_at dksX5_turnsAs_4 2 rfl rfl)
theorem dX5_turnsAs_97 : decode cX5_turnsAs 97 = .ok (.ireturn, 1) := dk_172 (dk_at dksX5_turnsAs_4 5 rfl rfl)
theorem dX5_turnsAs_98 : decode cX5_turnsAs 98 = .ok (.aload_n 0, 1) := dk_42 (dk_at dksX5_turnsAs_4 6 rfl rfl)
theorem dX5_turnsAs_99 : decode cX5_turnsAs 99 = .ok (.bipush 71, 2) := dk_16 71 (dk_at dksX5_turnsAs_4 7 rfl rfl)
theorem dX5_turnsAs_101 : decode cX5_turnsAs 101 = .ok (.invokevirtual 253, 3) := dk_182 0 253 (dk_at dksX5_turnsAs_4 9 rfl rfl)
theorem dX5_turnsAs_104 : decode cX5_turnsAs 104 = .ok (.aload_n 0, 1) := dk_42 (dk_at dksX5_turnsAs_4 12 rfl rfl)
theorem dX5_turnsAs_105 : decode cX5_turnsAs 105 = .ok (.bipush 6, 2) := dk_16 6 (dk_at dksX5_turnsAs_4 13 rfl rfl)
theorem dX5_turnsAs_107 : decode cX5_turnsAs 107 = .ok (.invokestatic 256, 3) := dk_184 1 0 (dk_at dksX5_turnsAs_4 15 rfl rfl)
theorem dX5_turnsAs_110 : decode cX5_turnsAs 110 = .ok (.iload_n 2, 1) := dk_28 (dk_at dksX5_turnsAs_4 18 rfl rfl)
theorem dX5_turnsAs_111 : decode cX5_turnsAs 111 = .ok (.invokevirtual 265, 3) := dk_182 1 9 (dk_at dksX5_turnsAs_4 19 rfl rfl)
theorem dX5_turnsAs_114 : decode cX5_turnsAs 114 = .ok (.aload_n 0, 1) := dk_42 (dk_at dksX5_turnsAs_4 22 rfl rfl)
theorem dX5_turnsAs_115 : decode cX5_turnsAs 115 = .ok (.invokevirtual 268, 3) := dk_182 1 12 (dk_at dksX5_turnsAs_5 0 rfl rfl)
theorem dX5_turnsAs_118 : decode cX5_turnsAs 118 = .ok (.iadd, 1) := dk_96 (dk_at dksX5_turnsAs_5 3 rfl rfl)
theorem dX5_turnsAs_119 : decode cX5_turnsAs 119 = .ok (.ireturn, 1) := dk_172 (dk_at dksX5_turnsAs_5 4 rfl rfl)
theorem dX5_turnsAs_120 : decode cX5_turnsAs 120 = .ok (.aload_n 0, 1) := dk_42 (dk_at dksX5_turnsAs_5 5 rfl rfl)
theorem dX5_turnsAs_121 : decode cX5_turnsAs 121 = .ok (.iload_n 1, 1) := dk_27 (dk_at dksX5_turnsAs_5 6 rfl rfl)
theorem dX5_turnsAs_122 : decode cX5_turnsAs 122 = .ok (.invokestatic 256, 3) := dk_184 1 0 (dk_at dksX5_turnsAs_5 7 rfl rfl)
theorem dX5_turnsAs_125 : decode cX5_turnsAs 125 = .ok (.iload_n 2, 1) := dk_28 (dk_at dksX5_turnsAs_5 10 rfl rfl)
theorem dX5_turnsAs_126 : decode cX5_turnsAs 126 = .ok (.invokevirtual 265, 3) := dk_182 1 9 (dk_at dksX5_turnsAs_5 11 rfl rfl)
theorem dX5_turnsAs_129 : decode cX5_turnsAs 129 = .ok (.ireturn, 1) := dk_172 (dk_at dksX5_turnsAs_5 14 rfl rfl)
abbrev cX5_mNow : ByteArray := prog_20_method_81_code
def yX5_mNow : MethodName := ⟨RX5, "mNow", "()I"⟩
def dkwX5_mNow_0 : List UInt8 := [42, 42, 180, 0, 250, 4, 182, 0, 90, 172]
abbrev dktX5_mNow_0 : List UInt8 := dkwX5_mNow_0 ++ []
theorem dksX5_mNow_0 : cX5_mNow.data.toList.drop 0 = dktX5_mNow_0 := by decide +kernel
theorem dX5_mNow_0 : decode cX5_mNow 0 = .ok (.aload_n 0, 1) := dk_42 (dk_at dksX5_mNow_0 0 rfl rfl)
theorem dX5_mNow_1 : decode cX5_mNow 1 = .ok (.aload_n 0, 1) := dk_42 (dk_at dksX5_mNow_0 1 rfl rfl)
theorem dX5_mNow_2 : decode cX5_mNow 2 = .ok (.getfield 250, 3) := dk_180 0 250 (dk_at dksX5_mNow_0 2 rfl rfl)
theorem dX5_mNow_5 : decode cX5_mNow 5 = .ok (.iconst 1, 1) := dk_4 (dk_at dksX5_mNow_0 5 rfl rfl)
theorem dX5_mNow_6 : decode cX5_mNow 6 = .ok (.invokevirtual 90, 3) := dk_182 0 90 (dk_at dksX5_mNow_0 6 rfl rfl)
theorem dX5_mNow_9 : decode cX5_mNow 9 = .ok (.ireturn, 1) := dk_172 (dk_at dksX5_mNow_0 9 rfl rfl)
abbrev cX5_praysAs : ByteArray := prog_20_method_84_code
def yX5_praysAs : MethodName := ⟨RX5, "praysAs", "(II)I"⟩
def dkwX5_praysAs_4 : List UInt8 := [184, 1, 0, 28, 182, 1, 15, 42, 180, 0, 250, 130, 172, 42, 27, 184, 1, 0, 28, 182, 1, 15, 172]
abbrev dktX5_praysAs_4 : List UInt8 := dkwX5_praysAs_4 ++ []
def dkwX5_praysAs_3 : List UInt8 := [182, 0, 253, 42, 6, 184, 1, 0, 28, 5, 108, 182, 1, 15, 172, 42, 16, 51, 182, 0, 253, 42, 7]
abbrev dktX5_praysAs_3 : List UInt8 := dkwX5_praysAs_3 ++ dktX5_praysAs_4
def dkwX5_praysAs_2 : List UInt8 := [42, 16, 12, 182, 0, 253, 42, 42, 182, 1, 6, 28, 182, 1, 9, 42, 182, 1, 12, 100, 172, 42, 16, 40]
abbrev dktX5_praysAs_2 : List UInt8 := dkwX5_praysAs_2 ++ dktX5_praysAs_3
def dkwX5_praysAs_1 : List UInt8 := [170, 0, 0, 0, 0, 0, 95, 0, 0, 0, 0, 0, 0, 0, 4, 0, 0, 0, 35, 0, 0, 0, 95, 0, 0, 0, 95, 0, 0, 0, 56, 0, 0, 0, 74]
abbrev dktX5_praysAs_1 : List UInt8 := dkwX5_praysAs_1 ++ dktX5_praysAs_2
def dkwX5_praysAs_0 : List UInt8 := [27]
abbrev dktX5_praysAs_0 : List UInt8 := dkwX5_praysAs_0 ++ dktX5_praysAs_1
theorem dksX5_praysAs_0 : cX5_praysAs.data.toList.drop 0 = dktX5_praysAs_0 := by decide +kernel
theorem dksX5_praysAs_1 : cX5_praysAs.data.toList.drop 1 = dktX5_praysAs_1 := dk_seg dksX5_praysAs_0 1 rfl rfl
theorem dksX5_praysAs_2 : cX5_praysAs.data.toList.drop 36 = dktX5_praysAs_2 := dk_seg dksX5_praysAs_1 35 rfl rfl
theorem dksX5_praysAs_3 : cX5_praysAs.data.toList.drop 60 = dktX5_praysAs_3 := dk_seg dksX5_praysAs_2 24 rfl rfl
theorem dksX5_praysAs_4 : cX5_praysAs.data.toList.drop 83 = dktX5_praysAs_4 := dk_seg dksX5_praysAs_3 23 rfl rfl
theorem dX5_praysAs_0 : decode cX5_praysAs 0 = .ok (.iload_n 1, 1) := dk_27 (dk_at dksX5_praysAs_0 0 rfl rfl)
theorem dX5_praysAs_1 : decode cX5_praysAs 1 = .ok (.tableswitch 95 0 4 #[35, 95, 95, 56, 74], 35) := by decide +kernel
theorem dX5_praysAs_36 : decode cX5_praysAs 36 = .ok (.aload_n 0, 1) := dk_42 (dk_at dksX5_praysAs_2 0 rfl rfl)
theorem dX5_praysAs_37 : decode cX5_praysAs 37 = .ok (.bipush 12, 2) := dk_16 12 (dk_at dksX5_praysAs_2 1 rfl rfl)
theorem dX5_praysAs_39 : decode cX5_praysAs 39 = .ok (.invokevirtual 253, 3) := dk_182 0 253 (dk_at dksX5_praysAs_2 3 rfl rfl)
theorem dX5_praysAs_42 : decode cX5_praysAs 42 = .ok (.aload_n 0, 1) := dk_42 (dk_at dksX5_praysAs_2 6 rfl rfl)
theorem dX5_praysAs_43 : decode cX5_praysAs 43 = .ok (.aload_n 0, 1) := dk_42 (dk_at dksX5_praysAs_2 7 rfl rfl)
theorem dX5_praysAs_44 : decode cX5_praysAs 44 = .ok (.invokevirtual 262, 3) := dk_182 1 6 (dk_at dksX5_praysAs_2 8 rfl rfl)
theorem dX5_praysAs_47 : decode cX5_praysAs 47 = .ok (.iload_n 2, 1) := dk_28 (dk_at dksX5_praysAs_2 11 rfl rfl)
theorem dX5_praysAs_48 : decode cX5_praysAs 48 = .ok (.invokevirtual 265, 3) := dk_182 1 9 (dk_at dksX5_praysAs_2 12 rfl rfl)
theorem dX5_praysAs_51 : decode cX5_praysAs 51 = .ok (.aload_n 0, 1) := dk_42 (dk_at dksX5_praysAs_2 15 rfl rfl)
theorem dX5_praysAs_52 : decode cX5_praysAs 52 = .ok (.invokevirtual 268, 3) := dk_182 1 12 (dk_at dksX5_praysAs_2 16 rfl rfl)
theorem dX5_praysAs_55 : decode cX5_praysAs 55 = .ok (.isub, 1) := dk_100 (dk_at dksX5_praysAs_2 19 rfl rfl)
theorem dX5_praysAs_56 : decode cX5_praysAs 56 = .ok (.ireturn, 1) := dk_172 (dk_at dksX5_praysAs_2 20 rfl rfl)
theorem dX5_praysAs_57 : decode cX5_praysAs 57 = .ok (.aload_n 0, 1) := dk_42 (dk_at dksX5_praysAs_2 21 rfl rfl)
theorem dX5_praysAs_58 : decode cX5_praysAs 58 = .ok (.bipush 40, 2) := dk_16 40 (dk_at dksX5_praysAs_2 22 rfl rfl)
theorem dX5_praysAs_60 : decode cX5_praysAs 60 = .ok (.invokevirtual 253, 3) := dk_182 0 253 (dk_at dksX5_praysAs_3 0 rfl rfl)
theorem dX5_praysAs_63 : decode cX5_praysAs 63 = .ok (.aload_n 0, 1) := dk_42 (dk_at dksX5_praysAs_3 3 rfl rfl)
theorem dX5_praysAs_64 : decode cX5_praysAs 64 = .ok (.iconst 3, 1) := dk_6 (dk_at dksX5_praysAs_3 4 rfl rfl)
theorem dX5_praysAs_65 : decode cX5_praysAs 65 = .ok (.invokestatic 256, 3) := dk_184 1 0 (dk_at dksX5_praysAs_3 5 rfl rfl)
theorem dX5_praysAs_68 : decode cX5_praysAs 68 = .ok (.iload_n 2, 1) := dk_28 (dk_at dksX5_praysAs_3 8 rfl rfl)
theorem dX5_praysAs_69 : decode cX5_praysAs 69 = .ok (.iconst 2, 1) := dk_5 (dk_at dksX5_praysAs_3 9 rfl rfl)
theorem dX5_praysAs_70 : decode cX5_praysAs 70 = .ok (.idiv, 1) := dk_108 (dk_at dksX5_praysAs_3 10 rfl rfl)
theorem dX5_praysAs_71 : decode cX5_praysAs 71 = .ok (.invokevirtual 271, 3) := dk_182 1 15 (dk_at dksX5_praysAs_3 11 rfl rfl)
theorem dX5_praysAs_74 : decode cX5_praysAs 74 = .ok (.ireturn, 1) := dk_172 (dk_at dksX5_praysAs_3 14 rfl rfl)
theorem dX5_praysAs_75 : decode cX5_praysAs 75 = .ok (.aload_n 0, 1) := dk_42 (dk_at dksX5_praysAs_3 15 rfl rfl)
theorem dX5_praysAs_76 : decode cX5_praysAs 76 = .ok (.bipush 51, 2) := dk_16 51 (dk_at dksX5_praysAs_3 16 rfl rfl)
theorem dX5_praysAs_78 : decode cX5_praysAs 78 = .ok (.invokevirtual 253, 3) := dk_182 0 253 (dk_at dksX5_praysAs_3 18 rfl rfl)
theorem dX5_praysAs_81 : decode cX5_praysAs 81 = .ok (.aload_n 0, 1) := dk_42 (dk_at dksX5_praysAs_3 21 rfl rfl)
theorem dX5_praysAs_82 : decode cX5_praysAs 82 = .ok (.iconst 4, 1) := dk_7 (dk_at dksX5_praysAs_3 22 rfl rfl)
theorem dX5_praysAs_83 : decode cX5_praysAs 83 = .ok (.invokestatic 256, 3) := dk_184 1 0 (dk_at dksX5_praysAs_4 0 rfl rfl)
theorem dX5_praysAs_86 : decode cX5_praysAs 86 = .ok (.iload_n 2, 1) := dk_28 (dk_at dksX5_praysAs_4 3 rfl rfl)
theorem dX5_praysAs_87 : decode cX5_praysAs 87 = .ok (.invokevirtual 271, 3) := dk_182 1 15 (dk_at dksX5_praysAs_4 4 rfl rfl)
theorem dX5_praysAs_90 : decode cX5_praysAs 90 = .ok (.aload_n 0, 1) := dk_42 (dk_at dksX5_praysAs_4 7 rfl rfl)
theorem dX5_praysAs_91 : decode cX5_praysAs 91 = .ok (.getfield 250, 3) := dk_180 0 250 (dk_at dksX5_praysAs_4 8 rfl rfl)
theorem dX5_praysAs_94 : decode cX5_praysAs 94 = .ok (.ixor, 1) := dk_130 (dk_at dksX5_praysAs_4 11 rfl rfl)
theorem dX5_praysAs_95 : decode cX5_praysAs 95 = .ok (.ireturn, 1) := dk_172 (dk_at dksX5_praysAs_4 12 rfl rfl)
theorem dX5_praysAs_96 : decode cX5_praysAs 96 = .ok (.aload_n 0, 1) := dk_42 (dk_at dksX5_praysAs_4 13 rfl rfl)
theorem dX5_praysAs_97 : decode cX5_praysAs 97 = .ok (.iload_n 1, 1) := dk_27 (dk_at dksX5_praysAs_4 14 rfl rfl)
theorem dX5_praysAs_98 : decode cX5_praysAs 98 = .ok (.invokestatic 256, 3) := dk_184 1 0 (dk_at dksX5_praysAs_4 15 rfl rfl)
theorem dX5_praysAs_101 : decode cX5_praysAs 101 = .ok (.iload_n 2, 1) := dk_28 (dk_at dksX5_praysAs_4 18 rfl rfl)
theorem dX5_praysAs_102 : decode cX5_praysAs 102 = .ok (.invokevirtual 271, 3) := dk_182 1 15 (dk_at dksX5_praysAs_4 19 rfl rfl)
theorem dX5_praysAs_105 : decode cX5_praysAs 105 = .ok (.ireturn, 1) := dk_172 (dk_at dksX5_praysAs_4 22 rfl rfl)
abbrev cX5_partsAs : ByteArray := prog_20_method_85_code
def yX5_partsAs : MethodName := ⟨RX5, "partsAs", "(II)I"⟩
def dkwX5_partsAs_6 : List UInt8 := [42, 27, 184, 1, 0, 28, 182, 1, 22, 172]
abbrev dktX5_partsAs_6 : List UInt8 := dkwX5_partsAs_6 ++ []
def dkwX5_partsAs_5 : List UInt8 := [42, 180, 1, 18, 153, 0, 7, 3, 167, 0, 15, 21, 4, 42, 42, 182, 1, 6, 4, 182, 1, 9, 96, 172]
abbrev dktX5_partsAs_5 : List UInt8 := dkwX5_partsAs_5 ++ dktX5_partsAs_6
def dkwX5_partsAs_4 : List UInt8 := [167, 0, 6, 28, 29, 108, 172, 42, 16, 21, 182, 0, 253, 42, 4, 184, 1, 0, 28, 182, 1, 22, 54, 4]
abbrev dktX5_partsAs_4 : List UInt8 := dkwX5_partsAs_4 ++ dktX5_partsAs_5
def dkwX5_partsAs_3 : List UInt8 := [167, 0, 4, 3, 181, 1, 18, 29, 154, 0, 7, 3, 167, 0, 16, 29, 2, 160, 0, 8, 28, 116]
abbrev dktX5_partsAs_3 : List UInt8 := dkwX5_partsAs_3 ++ dktX5_partsAs_4
def dkwX5_partsAs_2 : List UInt8 := [42, 16, 13, 182, 0, 253, 42, 182, 1, 12, 42, 180, 0, 250, 100, 62, 42, 29, 154, 0, 7, 4]
abbrev dktX5_partsAs_2 : List UInt8 := dkwX5_partsAs_2 ++ dktX5_partsAs_3
def dkwX5_partsAs_1 : List UInt8 := [171, 0, 0, 0, 0, 0, 119, 0, 0, 0, 2, 0, 0, 0, 0, 0, 0, 0, 27, 0, 0, 0, 1, 0, 0, 0, 78]
abbrev dktX5_partsAs_1 : List UInt8 := dkwX5_partsAs_1 ++ dktX5_partsAs_2
def dkwX5_partsAs_0 : List UInt8 := [27]
abbrev dktX5_partsAs_0 : List UInt8 := dkwX5_partsAs_0 ++ dktX5_partsAs_1
theorem dksX5_partsAs_0 : cX5_partsAs.data.toList.drop 0 = dktX5_partsAs_0 := by decide +kernel
theorem dksX5_partsAs_1 : cX5_partsAs.data.toList.drop 1 = dktX5_partsAs_1 := dk_seg dksX5_partsAs_0 1 rfl rfl
theorem dksX5_partsAs_2 : cX5_partsAs.data.toList.drop 28 = dktX5_partsAs_2 := dk_seg dksX5_partsAs_1 27 rfl rfl
theorem dksX5_partsAs_3 : cX5_partsAs.data.toList.drop 50 = dktX5_partsAs_3 := dk_seg dksX5_partsAs_2 22 rfl rfl
theorem dksX5_partsAs_4 : cX5_partsAs.data.toList.drop 72 = dktX5_partsAs_4 := dk_seg dksX5_partsAs_3 22 rfl rfl
theorem dksX5_partsAs_5 : cX5_partsAs.data.toList.drop 96 = dktX5_partsAs_5 := dk_seg dksX5_partsAs_4 24 rfl rfl
theorem dksX5_partsAs_6 : cX5_partsAs.data.toList.drop 120 = dktX5_partsAs_6 := dk_seg dksX5_partsAs_5 24 rfl rfl
theorem dX5_partsAs_0 : decode cX5_partsAs 0 = .ok (.iload_n 1, 1) := dk_27 (dk_at dksX5_partsAs_0 0 rfl rfl)
theorem dX5_partsAs_1 : decode cX5_partsAs 1 = .ok (.lookupswitch 119 #[(0, 27), (1, 78)], 27) := by decide +kernel
theorem dX5_partsAs_28 : decode cX5_partsAs 28 = .ok (.aload_n 0, 1) := dk_42 (dk_at dksX5_partsAs_2 0 rfl rfl)
theorem dX5_partsAs_29 : decode cX5_partsAs 29 = .ok (.bipush 13, 2) := dk_16 13 (dk_at dksX5_partsAs_2 1 rfl rfl)
theorem dX5_partsAs_31 : decode cX5_partsAs 31 = .ok (.invokevirtual 253, 3) := dk_182 0 253 (dk_at dksX5_partsAs_2 3 rfl rfl)
theorem dX5_partsAs_34 : decode cX5_partsAs 34 = .ok (.aload_n 0, 1) := dk_42 (dk_at dksX5_partsAs_2 6 rfl rfl)
theorem dX5_partsAs_35 : decode cX5_partsAs 35 = .ok (.invokevirtual 268, 3) := dk_182 1 12 (dk_at dksX5_partsAs_2 7 rfl rfl)
theorem dX5_partsAs_38 : decode cX5_partsAs 38 = .ok (.aload_n 0, 1) := dk_42 (dk_at dksX5_partsAs_2 10 rfl rfl)
theorem dX5_partsAs_39 : decode cX5_partsAs 39 = .ok (.getfield 250, 3) := dk_180 0 250 (dk_at dksX5_partsAs_2 11 rfl rfl)
theorem dX5_partsAs_42 : decode cX5_partsAs 42 = .ok (.isub, 1) := dk_100 (dk_at dksX5_partsAs_2 14 rfl rfl)
theorem dX5_partsAs_43 : decode cX5_partsAs 43 = .ok (.istore_n 3, 1) := dk_62 (dk_at dksX5_partsAs_2 15 rfl rfl)
theorem dX5_partsAs_44 : decode cX5_partsAs 44 = .ok (.aload_n 0, 1) := dk_42 (dk_at dksX5_partsAs_2 16 rfl rfl)
theorem dX5_partsAs_45 : decode cX5_partsAs 45 = .ok (.iload_n 3, 1) := dk_29 (dk_at dksX5_partsAs_2 17 rfl rfl)
theorem dX5_partsAs_46 : decode cX5_partsAs 46 = .ok (.ifCond .ne 7, 3) := dk_154 0 7 (dk_at dksX5_partsAs_2 18 rfl rfl)
theorem dX5_partsAs_49 : decode cX5_partsAs 49 = .ok (.iconst 1, 1) := dk_4 (dk_at dksX5_partsAs_2 21 rfl rfl)
theorem dX5_partsAs_50 : decode cX5_partsAs 50 = .ok (.goto 4, 3) := dk_167 0 4 (dk_at dksX5_partsAs_3 0 rfl rfl)
theorem dX5_partsAs_53 : decode cX5_partsAs 53 = .ok (.iconst 0, 1) := dk_3 (dk_at dksX5_partsAs_3 3 rfl rfl)
theorem dX5_partsAs_54 : decode cX5_partsAs 54 = .ok (.putfield 274, 3) := dk_181 1 18 (dk_at dksX5_partsAs_3 4 rfl rfl)
theorem dX5_partsAs_57 : decode cX5_partsAs 57 = .ok (.iload_n 3, 1) := dk_29 (dk_at dksX5_partsAs_3 7 rfl rfl)
theorem dX5_partsAs_58 : decode cX5_partsAs 58 = .ok (.ifCond .ne 7, 3) := dk_154 0 7 (dk_at dksX5_partsAs_3 8 rfl rfl)
theorem dX5_partsAs_61 : decode cX5_partsAs 61 = .ok (.iconst 0, 1) := dk_3 (dk_at dksX5_partsAs_3 11 rfl rfl)
theorem dX5_partsAs_62 : decode cX5_partsAs 62 = .ok (.goto 16, 3) := dk_167 0 16 (dk_at dksX5_partsAs_3 12 rfl rfl)
theorem dX5_partsAs_65 : decode cX5_partsAs 65 = .ok (.iload_n 3, 1) := dk_29 (dk_at dksX5_partsAs_3 15 rfl rfl)
theorem dX5_partsAs_66 : decode cX5_partsAs 66 = .ok (.iconst (-1), 1) := dk_2 (dk_at dksX5_partsAs_3 16 rfl rfl)
theorem dX5_partsAs_67 : decode cX5_partsAs 67 = .ok (.if_icmp .ne 8, 3) := dk_160 0 8 (dk_at dksX5_partsAs_3 17 rfl rfl)
theorem dX5_partsAs_70 : decode cX5_partsAs 70 = .ok (.iload_n 2, 1) := dk_28 (dk_at dksX5_partsAs_3 20 rfl rfl)
theorem dX5_partsAs_71 : decode cX5_partsAs 71 = .ok (.ineg, 1) := dk_116 (dk_at dksX5_partsAs_3 21 rfl rfl)
theorem dX5_partsAs_72 : decode cX5_partsAs 72 = .ok (.goto 6, 3) := dk_167 0 6 (dk_at dksX5_partsAs_4 0 rfl rfl)
theorem dX5_partsAs_75 : decode cX5_partsAs 75 = .ok (.iload_n 2, 1) := dk_28 (dk_at dksX5_partsAs_4 3 rfl rfl)
theorem dX5_partsAs_76 : decode cX5_partsAs 76 = .ok (.iload_n 3, 1) := dk_29 (dk_at dksX5_partsAs_4 4 rfl rfl)
theorem dX5_partsAs_77 : decode cX5_partsAs 77 = .ok (.idiv, 1) := dk_108 (dk_at dksX5_partsAs_4 5 rfl rfl)
theorem dX5_partsAs_78 : decode cX5_partsAs 78 = .ok (.ireturn, 1) := dk_172 (dk_at dksX5_partsAs_4 6 rfl rfl)
theorem dX5_partsAs_79 : decode cX5_partsAs 79 = .ok (.aload_n 0, 1) := dk_42 (dk_at dksX5_partsAs_4 7 rfl rfl)
theorem dX5_partsAs_80 : decode cX5_partsAs 80 = .ok (.bipush 21, 2) := dk_16 21 (dk_at dksX5_partsAs_4 8 rfl rfl)
theorem dX5_partsAs_82 : decode cX5_partsAs 82 = .ok (.invokevirtual 253, 3) := dk_182 0 253 (dk_at dksX5_partsAs_4 10 rfl rfl)
theorem dX5_partsAs_85 : decode cX5_partsAs 85 = .ok (.aload_n 0, 1) := dk_42 (dk_at dksX5_partsAs_4 13 rfl rfl)
theorem dX5_partsAs_86 : decode cX5_partsAs 86 = .ok (.iconst 1, 1) := dk_4 (dk_at dksX5_partsAs_4 14 rfl rfl)
theorem dX5_partsAs_87 : decode cX5_partsAs 87 = .ok (.invokestatic 256, 3) := dk_184 1 0 (dk_at dksX5_partsAs_4 15 rfl rfl)
theorem dX5_partsAs_90 : decode cX5_partsAs 90 = .ok (.iload_n 2, 1) := dk_28 (dk_at dksX5_partsAs_4 18 rfl rfl)
theorem dX5_partsAs_91 : decode cX5_partsAs 91 = .ok (.invokevirtual 278, 3) := dk_182 1 22 (dk_at dksX5_partsAs_4 19 rfl rfl)
theorem dX5_partsAs_94 : decode cX5_partsAs 94 = .ok (.istore 4, 2) := dk_54 4 (dk_at dksX5_partsAs_4 22 rfl rfl)
theorem dX5_partsAs_96 : decode cX5_partsAs 96 = .ok (.aload_n 0, 1) := dk_42 (dk_at dksX5_partsAs_5 0 rfl rfl)
theorem dX5_partsAs_97 : decode cX5_partsAs 97 = .ok (.getfield 274, 3) := dk_180 1 18 (dk_at dksX5_partsAs_5 1 rfl rfl)
theorem dX5_partsAs_100 : decode cX5_partsAs 100 = .ok (.ifCond .eq 7, 3) := dk_153 0 7 (dk_at dksX5_partsAs_5 4 rfl rfl)
theorem dX5_partsAs_103 : decode cX5_partsAs 103 = .ok (.iconst 0, 1) := dk_3 (dk_at dksX5_partsAs_5 7 rfl rfl)
theorem dX5_partsAs_104 : decode cX5_partsAs 104 = .ok (.goto 15, 3) := dk_167 0 15 (dk_at dksX5_partsAs_5 8 rfl rfl)
theorem dX5_partsAs_107 : decode cX5_partsAs 107 = .ok (.iload 4, 2) := dk_21 4 (dk_at dksX5_partsAs_5 11 rfl rfl)
theorem dX5_partsAs_109 : decode cX5_partsAs 109 = .ok (.aload_n 0, 1) := dk_42 (dk_at dksX5_partsAs_5 13 rfl rfl)
theorem dX5_partsAs_110 : decode cX5_partsAs 110 = .ok (.aload_n 0, 1) := dk_42 (dk_at dksX5_partsAs_5 14 rfl rfl)
theorem dX5_partsAs_111 : decode cX5_partsAs 111 = .ok (.invokevirtual 262, 3) := dk_182 1 6 (dk_at dksX5_partsAs_5 15 rfl rfl)
theorem dX5_partsAs_114 : decode cX5_partsAs 114 = .ok (.iconst 1, 1) := dk_4 (dk_at dksX5_partsAs_5 18 rfl rfl)
theorem dX5_partsAs_115 : decode cX5_partsAs 115 = .ok (.invokevirtual 265, 3) := dk_182 1 9 (dk_at dksX5_partsAs_5 19 rfl rfl)
theorem dX5_partsAs_118 : decode cX5_partsAs 118 = .ok (.iadd, 1) := dk_96 (dk_at dksX5_partsAs_5 22 rfl rfl)
theorem dX5_partsAs_119 : decode cX5_partsAs 119 = .ok (.ireturn, 1) := dk_172 (dk_at dksX5_partsAs_5 23 rfl rfl)
theorem dX5_partsAs_120 : decode cX5_partsAs 120 = .ok (.aload_n 0, 1) := dk_42 (dk_at dksX5_partsAs_6 0 rfl rfl)
theorem dX5_partsAs_121 : decode cX5_partsAs 121 = .ok (.iload_n 1, 1) := dk_27 (dk_at dksX5_partsAs_6 1 rfl rfl)
theorem dX5_partsAs_122 : decode cX5_partsAs 122 = .ok (.invokestatic 256, 3) := dk_184 1 0 (dk_at dksX5_partsAs_6 2 rfl rfl)
theorem dX5_partsAs_125 : decode cX5_partsAs 125 = .ok (.iload_n 2, 1) := dk_28 (dk_at dksX5_partsAs_6 5 rfl rfl)
theorem dX5_partsAs_126 : decode cX5_partsAs 126 = .ok (.invokevirtual 278, 3) := dk_182 1 22 (dk_at dksX5_partsAs_6 6 rfl rfl)
theorem dX5_partsAs_129 : decode cX5_partsAs 129 = .ok (.ireturn, 1) := dk_172 (dk_at dksX5_partsAs_6 9 rfl rfl)
abbrev cX5_body : ByteArray := prog_20_method_87_code
def yX5_body : MethodName := ⟨RX5, "body", "(I)I"⟩
def dkwX5_body_1 : List UInt8 := [5, 182, 0, 76, 172]
abbrev dktX5_body_1 : List UInt8 := dkwX5_body_1 ++ []
def dkwX5_body_0 : List UInt8 := [27, 3, 42, 180, 0, 247, 4, 100, 184, 0, 56, 153, 0, 12, 42, 180, 0, 40, 27, 46, 167, 0, 8, 42]
abbrev dktX5_body_0 : List UInt8 := dkwX5_body_0 ++ dktX5_body_1
theorem dksX5_body_0 : cX5_body.data.toList.drop 0 = dktX5_body_0 := by decide +kernel
theorem dksX5_body_1 : cX5_body.data.toList.drop 24 = dktX5_body_1 := dk_seg dksX5_body_0 24 rfl rfl
theorem dX5_body_0 : decode cX5_body 0 = .ok (.iload_n 1, 1) := dk_27 (dk_at dksX5_body_0 0 rfl rfl)
theorem dX5_body_1 : decode cX5_body 1 = .ok (.iconst 0, 1) := dk_3 (dk_at dksX5_body_0 1 rfl rfl)
theorem dX5_body_2 : decode cX5_body 2 = .ok (.aload_n 0, 1) := dk_42 (dk_at dksX5_body_0 2 rfl rfl)
theorem dX5_body_3 : decode cX5_body 3 = .ok (.getfield 247, 3) := dk_180 0 247 (dk_at dksX5_body_0 3 rfl rfl)
theorem dX5_body_6 : decode cX5_body 6 = .ok (.iconst 1, 1) := dk_4 (dk_at dksX5_body_0 6 rfl rfl)
theorem dX5_body_7 : decode cX5_body 7 = .ok (.isub, 1) := dk_100 (dk_at dksX5_body_0 7 rfl rfl)
theorem dX5_body_8 : decode cX5_body 8 = .ok (.invokestatic 56, 3) := dk_184 0 56 (dk_at dksX5_body_0 8 rfl rfl)
theorem dX5_body_11 : decode cX5_body 11 = .ok (.ifCond .eq 12, 3) := dk_153 0 12 (dk_at dksX5_body_0 11 rfl rfl)
theorem dX5_body_14 : decode cX5_body 14 = .ok (.aload_n 0, 1) := dk_42 (dk_at dksX5_body_0 14 rfl rfl)
theorem dX5_body_15 : decode cX5_body 15 = .ok (.getfield 40, 3) := dk_180 0 40 (dk_at dksX5_body_0 15 rfl rfl)
theorem dX5_body_18 : decode cX5_body 18 = .ok (.iload_n 1, 1) := dk_27 (dk_at dksX5_body_0 18 rfl rfl)
theorem dX5_body_19 : decode cX5_body 19 = .ok (.iaload, 1) := dk_46 (dk_at dksX5_body_0 19 rfl rfl)
theorem dX5_body_20 : decode cX5_body 20 = .ok (.goto 8, 3) := dk_167 0 8 (dk_at dksX5_body_0 20 rfl rfl)
theorem dX5_body_23 : decode cX5_body 23 = .ok (.aload_n 0, 1) := dk_42 (dk_at dksX5_body_0 23 rfl rfl)
theorem dX5_body_24 : decode cX5_body 24 = .ok (.iconst 2, 1) := dk_5 (dk_at dksX5_body_1 0 rfl rfl)
theorem dX5_body_25 : decode cX5_body 25 = .ok (.invokevirtual 76, 3) := dk_182 0 76 (dk_at dksX5_body_1 1 rfl rfl)
theorem dX5_body_28 : decode cX5_body 28 = .ok (.ireturn, 1) := dk_172 (dk_at dksX5_body_1 4 rfl rfl)
abbrev cX5_sheet : ByteArray := prog_20_method_89_code
def yX5_sheet : MethodName := ⟨RX5, "sheet", "(III)I"⟩
def dkwX5_sheet_4 : List UInt8 := [162, 0, 22, 42, 180, 0, 49, 16, 24, 27, 104, 21, 4, 96, 3, 79, 132, 4, 1, 167, 255, 233, 4, 172]
abbrev dktX5_sheet_4 : List UInt8 := dkwX5_sheet_4 ++ []
def dkwX5_sheet_3 : List UInt8 := [42, 180, 0, 46, 27, 28, 154, 0, 7, 3, 167, 0, 4, 29, 79, 3, 54, 4, 21, 4, 16, 24]
abbrev dktX5_sheet_3 : List UInt8 := dkwX5_sheet_3 ++ dktX5_sheet_4
def dkwX5_sheet_2 : List UInt8 := [172, 28, 153, 0, 15, 29, 16, 24, 164, 0, 9, 42, 4, 182, 0, 76, 172, 42, 180, 0, 43, 27, 28, 79]
abbrev dktX5_sheet_2 : List UInt8 := dkwX5_sheet_2 ++ dktX5_sheet_3
def dkwX5_sheet_1 : List UInt8 := [16, 32, 159, 0, 9, 42, 4, 182, 0, 76, 172, 28, 153, 0, 13, 29, 156, 0, 9, 42, 6, 182, 0, 76]
abbrev dktX5_sheet_1 : List UInt8 := dkwX5_sheet_1 ++ dktX5_sheet_2
def dkwX5_sheet_0 : List UInt8 := [27, 184, 1, 25, 153, 0, 25, 28, 153, 0, 27, 28, 16, 8, 159, 0, 21, 28, 16, 16, 159, 0, 15, 28]
abbrev dktX5_sheet_0 : List UInt8 := dkwX5_sheet_0 ++ dktX5_sheet_1
theorem dksX5_sheet_0 : cX5_sheet.data.toList.drop 0 = dktX5_sheet_0 := by decide +kernel
theorem dksX5_sheet_1 : cX5_sheet.data.toList.drop 24 = dktX5_sheet_1 := dk_seg dksX5_sheet_0 24 rfl rfl
theorem dksX5_sheet_2 : cX5_sheet.data.toList.drop 48 = dktX5_sheet_2 := dk_seg dksX5_sheet_1 24 rfl rfl
theorem dksX5_sheet_3 : cX5_sheet.data.toList.drop 72 = dktX5_sheet_3 := dk_seg dksX5_sheet_2 24 rfl rfl
theorem dksX5_sheet_4 : cX5_sheet.data.toList.drop 94 = dktX5_sheet_4 := dk_seg dksX5_sheet_3 22 rfl rfl
theorem dX5_sheet_0 : decode cX5_sheet 0 = .ok (.iload_n 1, 1) := dk_27 (dk_at dksX5_sheet_0 0 rfl rfl)
theorem dX5_sheet_1 : decode cX5_sheet 1 = .ok (.invokestatic 281, 3) := dk_184 1 25 (dk_at dksX5_sheet_0 1 rfl rfl)
theorem dX5_sheet_4 : decode cX5_sheet 4 = .ok (.ifCond .eq 25, 3) := dk_153 0 25 (dk_at dksX5_sheet_0 4 rfl rfl)
theorem dX5_sheet_7 : decode cX5_sheet 7 = .ok (.iload_n 2, 1) := dk_28 (dk_at dksX5_sheet_0 7 rfl rfl)
theorem dX5_sheet_8 : decode cX5_sheet 8 = .ok (.ifCond .eq 27, 3) := dk_153 0 27 (dk_at dksX5_sheet_0 8 rfl rfl)
theorem dX5_sheet_11 : decode cX5_sheet 11 = .ok (.iload_n 2, 1) := dk_28 (dk_at dksX5_sheet_0 11 rfl rfl)
theorem dX5_sheet_12 : decode cX5_sheet 12 = .ok (.bipush 8, 2) := dk_16 8 (dk_at dksX5_sheet_0 12 rfl rfl)
theorem dX5_sheet_14 : decode cX5_sheet 14 = .ok (.if_icmp .eq 21, 3) := dk_159 0 21 (dk_at dksX5_sheet_0 14 rfl rfl)
theorem dX5_sheet_17 : decode cX5_sheet 17 = .ok (.iload_n 2, 1) := dk_28 (dk_at dksX5_sheet_0 17 rfl rfl)
theorem dX5_sheet_18 : decode cX5_sheet 18 = .ok (.bipush 16, 2) := dk_16 16 (dk_at dksX5_sheet_0 18 rfl rfl)
theorem dX5_sheet_20 : decode cX5_sheet 20 = .ok (.if_icmp .eq 15, 3) := dk_159 0 15 (dk_at dksX5_sheet_0 20 rfl rfl)
theorem dX5_sheet_23 : decode cX5_sheet 23 = .ok (.iload_n 2, 1) := dk_28 (dk_at dksX5_sheet_0 23 rfl rfl)
theorem dX5_sheet_24 : decode cX5_sheet 24 = .ok (.bipush 32, 2) := dk_16 32 (dk_at dksX5_sheet_1 0 rfl rfl)
theorem dX5_sheet_26 : decode cX5_sheet 26 = .ok (.if_icmp .eq 9, 3) := dk_159 0 9 (dk_at dksX5_sheet_1 2 rfl rfl)
theorem dX5_sheet_29 : decode cX5_sheet 29 = .ok (.aload_n 0, 1) := dk_42 (dk_at dksX5_sheet_1 5 rfl rfl)
theorem dX5_sheet_30 : decode cX5_sheet 30 = .ok (.iconst 1, 1) := dk_4 (dk_at dksX5_sheet_1 6 rfl rfl)
theorem dX5_sheet_31 : decode cX5_sheet 31 = .ok (.invokevirtual 76, 3) := dk_182 0 76 (dk_at dksX5_sheet_1 7 rfl rfl)
theorem dX5_sheet_34 : decode cX5_sheet 34 = .ok (.ireturn, 1) := dk_172 (dk_at dksX5_sheet_1 10 rfl rfl)
theorem dX5_sheet_35 : decode cX5_sheet 35 = .ok (.iload_n 2, 1) := dk_28 (dk_at dksX5_sheet_1 11 rfl rfl)
theorem dX5_sheet_36 : decode cX5_sheet 36 = .ok (.ifCond .eq 13, 3) := dk_153 0 13 (dk_at dksX5_sheet_1 12 rfl rfl)
theorem dX5_sheet_39 : decode cX5_sheet 39 = .ok (.iload_n 3, 1) := dk_29 (dk_at dksX5_sheet_1 15 rfl rfl)
theorem dX5_sheet_40 : decode cX5_sheet 40 = .ok (.ifCond .ge 9, 3) := dk_156 0 9 (dk_at dksX5_sheet_1 16 rfl rfl)
theorem dX5_sheet_43 : decode cX5_sheet 43 = .ok (.aload_n 0, 1) := dk_42 (dk_at dksX5_sheet_1 19 rfl rfl)
theorem dX5_sheet_44 : decode cX5_sheet 44 = .ok (.iconst 3, 1) := dk_6 (dk_at dksX5_sheet_1 20 rfl rfl)
theorem dX5_sheet_45 : decode cX5_sheet 45 = .ok (.invokevirtual 76, 3) := dk_182 0 76 (dk_at dksX5_sheet_1 21 rfl rfl)
theorem dX5_sheet_48 : decode cX5_sheet 48 = .ok (.ireturn, 1) := dk_172 (dk_at dksX5_sheet_2 0 rfl rfl)
theorem dX5_sheet_49 : decode cX5_sheet 49 = .ok (.iload_n 2, 1) := dk_28 (dk_at dksX5_sheet_2 1 rfl rfl)
theorem dX5_sheet_50 : decode cX5_sheet 50 = .ok (.ifCond .eq 15, 3) := dk_153 0 15 (dk_at dksX5_sheet_2 2 rfl rfl)
theorem dX5_sheet_53 : decode cX5_sheet 53 = .ok (.iload_n 3, 1) := dk_29 (dk_at dksX5_sheet_2 5 rfl rfl)
theorem dX5_sheet_54 : decode cX5_sheet 54 = .ok (.bipush 24, 2) := dk_16 24 (dk_at dksX5_sheet_2 6 rfl rfl)
theorem dX5_sheet_56 : decode cX5_sheet 56 = .ok (.if_icmp .le 9, 3) := dk_164 0 9 (dk_at dksX5_sheet_2 8 rfl rfl)
theorem dX5_sheet_59 : decode cX5_sheet 59 = .ok (.aload_n 0, 1) := dk_42 (dk_at dksX5_sheet_2 11 rfl rfl)
theorem dX5_sheet_60 : decode cX5_sheet 60 = .ok (.iconst 1, 1) := dk_4 (dk_at dksX5_sheet_2 12 rfl rfl)
theorem dX5_sheet_61 : decode cX5_sheet 61 = .ok (.invokevirtual 76, 3) := dk_182 0 76 (dk_at dksX5_sheet_2 13 rfl rfl)
theorem dX5_sheet_64 : decode cX5_sheet 64 = .ok (.ireturn, 1) := dk_172 (dk_at dksX5_sheet_2 16 rfl rfl)
theorem dX5_sheet_65 : decode cX5_sheet 65 = .ok (.aload_n 0, 1) := dk_42 (dk_at dksX5_sheet_2 17 rfl rfl)
theorem dX5_sheet_66 : decode cX5_sheet 66 = .ok (.getfield 43, 3) := dk_180 0 43 (dk_at dksX5_sheet_2 18 rfl rfl)
theorem dX5_sheet_69 : decode cX5_sheet 69 = .ok (.iload_n 1, 1) := dk_27 (dk_at dksX5_sheet_2 21 rfl rfl)
theorem dX5_sheet_70 : decode cX5_sheet 70 = .ok (.iload_n 2, 1) := dk_28 (dk_at dksX5_sheet_2 22 rfl rfl)
theorem dX5_sheet_71 : decode cX5_sheet 71 = .ok (.iastore, 1) := dk_79 (dk_at dksX5_sheet_2 23 rfl rfl)
theorem dX5_sheet_72 : decode cX5_sheet 72 = .ok (.aload_n 0, 1) := dk_42 (dk_at dksX5_sheet_3 0 rfl rfl)
theorem dX5_sheet_73 : decode cX5_sheet 73 = .ok (.getfield 46, 3) := dk_180 0 46 (dk_at dksX5_sheet_3 1 rfl rfl)
theorem dX5_sheet_76 : decode cX5_sheet 76 = .ok (.iload_n 1, 1) := dk_27 (dk_at dksX5_sheet_3 4 rfl rfl)
theorem dX5_sheet_77 : decode cX5_sheet 77 = .ok (.iload_n 2, 1) := dk_28 (dk_at dksX5_sheet_3 5 rfl rfl)
theorem dX5_sheet_78 : decode cX5_sheet 78 = .ok (.ifCond .ne 7, 3) := dk_154 0 7 (dk_at dksX5_sheet_3 6 rfl rfl)
theorem dX5_sheet_81 : decode cX5_sheet 81 = .ok (.iconst 0, 1) := dk_3 (dk_at dksX5_sheet_3 9 rfl rfl)
theorem dX5_sheet_82 : decode cX5_sheet 82 = .ok (.goto 4, 3) := dk_167 0 4 (dk_at dksX5_sheet_3 10 rfl rfl)
theorem dX5_sheet_85 : decode cX5_sheet 85 = .ok (.iload_n 3, 1) := dk_29 (dk_at dksX5_sheet_3 13 rfl rfl)
theorem dX5_sheet_86 : decode cX5_sheet 86 = .ok (.iastore, 1) := dk_79 (dk_at dksX5_sheet_3 14 rfl rfl)
theorem dX5_sheet_87 : decode cX5_sheet 87 = .ok (.iconst 0, 1) := dk_3 (dk_at dksX5_sheet_3 15 rfl rfl)
theorem dX5_sheet_88 : decode cX5_sheet 88 = .ok (.istore 4, 2) := dk_54 4 (dk_at dksX5_sheet_3 16 rfl rfl)
theorem dX5_sheet_90 : decode cX5_sheet 90 = .ok (.iload 4, 2) := dk_21 4 (dk_at dksX5_sheet_3 18 rfl rfl)
theorem dX5_sheet_92 : decode cX5_sheet 92 = .ok (.bipush 24, 2) := dk_16 24 (dk_at dksX5_sheet_3 20 rfl rfl)
theorem dX5_sheet_94 : decode cX5_sheet 94 = .ok (.if_icmp .ge 22, 3) := dk_162 0 22 (dk_at dksX5_sheet_4 0 rfl rfl)
theorem dX5_sheet_97 : decode cX5_sheet 97 = .ok (.aload_n 0, 1) := dk_42 (dk_at dksX5_sheet_4 3 rfl rfl)
theorem dX5_sheet_98 : decode cX5_sheet 98 = .ok (.getfield 49, 3) := dk_180 0 49 (dk_at dksX5_sheet_4 4 rfl rfl)
theorem dX5_sheet_101 : decode cX5_sheet 101 = .ok (.bipush 24, 2) := dk_16 24 (dk_at dksX5_sheet_4 7 rfl rfl)
theorem dX5_sheet_103 : decode cX5_sheet 103 = .ok (.iload_n 1, 1) := dk_27 (dk_at dksX5_sheet_4 9 rfl rfl)
theorem dX5_sheet_104 : decode cX5_sheet 104 = .ok (.imul, 1) := dk_104 (dk_at dksX5_sheet_4 10 rfl rfl)
theorem dX5_sheet_105 : decode cX5_sheet 105 = .ok (.iload 4, 2) := dk_21 4 (dk_at dksX5_sheet_4 11 rfl rfl)
theorem dX5_sheet_107 : decode cX5_sheet 107 = .ok (.iadd, 1) := dk_96 (dk_at dksX5_sheet_4 13 rfl rfl)
theorem dX5_sheet_108 : decode cX5_sheet 108 = .ok (.iconst 0, 1) := dk_3 (dk_at dksX5_sheet_4 14 rfl rfl)
theorem dX5_sheet_109 : decode cX5_sheet 109 = .ok (.iastore, 1) := dk_79 (dk_at dksX5_sheet_4 15 rfl rfl)
theorem dX5_sheet_110 : decode cX5_sheet 110 = .ok (.iinc 4 1, 3) := dk_132 4 1 (dk_at dksX5_sheet_4 16 rfl rfl)
theorem dX5_sheet_113 : decode cX5_sheet 113 = .ok (.goto (-23), 3) := dk_167 255 233 (dk_at dksX5_sheet_4 19 rfl rfl)
theorem dX5_sheet_116 : decode cX5_sheet 116 = .ok (.iconst 1, 1) := dk_4 (dk_at dksX5_sheet_4 22 rfl rfl)
theorem dX5_sheet_117 : decode cX5_sheet 117 = .ok (.ireturn, 1) := dk_172 (dk_at dksX5_sheet_4 23 rfl rfl)
abbrev cX5_isSheet : ByteArray := prog_20_method_88_code
def yX5_isSheet : MethodName := ⟨RX5, "isSheet", "(I)Z"⟩
def dkwX5_isSheet_0 : List UInt8 := [26, 3, 6, 184, 0, 56, 172]
abbrev dktX5_isSheet_0 : List UInt8 := dkwX5_isSheet_0 ++ []
theorem dksX5_isSheet_0 : cX5_isSheet.data.toList.drop 0 = dktX5_isSheet_0 := by decide +kernel
theorem dX5_isSheet_0 : decode cX5_isSheet 0 = .ok (.iload_n 0, 1) := dk_26 (dk_at dksX5_isSheet_0 0 rfl rfl)
theorem dX5_isSheet_1 : decode cX5_isSheet 1 = .ok (.iconst 0, 1) := dk_3 (dk_at dksX5_isSheet_0 1 rfl rfl)
theorem dX5_isSheet_2 : decode cX5_isSheet 2 = .ok (.iconst 3, 1) := dk_6 (dk_at dksX5_isSheet_0 2 rfl rfl)
theorem dX5_isSheet_3 : decode cX5_isSheet 3 = .ok (.invokestatic 56, 3) := dk_184 0 56 (dk_at dksX5_isSheet_0 3 rfl rfl)
theorem dX5_isSheet_6 : decode cX5_isSheet 6 = .ok (.ireturn, 1) := dk_172 (dk_at dksX5_isSheet_0 6 rfl rfl)
abbrev cX5_put : ByteArray := prog_20_method_90_code
def yX5_put : MethodName := ⟨RX5, "put", "(III)I"⟩
def dkwX5_put_3 : List UInt8 := [96, 29, 21, 4, 120, 21, 4, 122, 79, 4, 172]
abbrev dktX5_put_3 : List UInt8 := dkwX5_put_3 ++ []
def dkwX5_put_2 : List UInt8 := [182, 0, 76, 172, 16, 32, 42, 180, 0, 43, 27, 46, 100, 54, 4, 42, 180, 0, 49, 16, 24, 27, 104, 28]
abbrev dktX5_put_2 : List UInt8 := dkwX5_put_2 ++ dktX5_put_3
def dkwX5_put_1 : List UInt8 := [182, 0, 76, 172, 28, 3, 42, 180, 0, 46, 27, 46, 4, 100, 184, 0, 56, 154, 0, 9, 42, 4]
abbrev dktX5_put_1 : List UInt8 := dkwX5_put_1 ++ dktX5_put_2
def dkwX5_put_0 : List UInt8 := [27, 184, 1, 25, 154, 0, 9, 42, 4, 182, 0, 76, 172, 42, 180, 0, 43, 27, 46, 154, 0, 9, 42, 5]
abbrev dktX5_put_0 : List UInt8 := dkwX5_put_0 ++ dktX5_put_1
theorem dksX5_put_0 : cX5_put.data.toList.drop 0 = dktX5_put_0 := by decide +kernel
theorem dksX5_put_1 : cX5_put.data.toList.drop 24 = dktX5_put_1 := dk_seg dksX5_put_0 24 rfl rfl
theorem dksX5_put_2 : cX5_put.data.toList.drop 46 = dktX5_put_2 := dk_seg dksX5_put_1 22 rfl rfl
theorem dksX5_put_3 : cX5_put.data.toList.drop 70 = dktX5_put_3 := dk_seg dksX5_put_2 24 rfl rfl
theorem dX5_put_0 : decode cX5_put 0 = .ok (.iload_n 1, 1) := dk_27 (dk_at dksX5_put_0 0 rfl rfl)
theorem dX5_put_1 : decode cX5_put 1 = .ok (.invokestatic 281, 3) := dk_184 1 25 (dk_at dksX5_put_0 1 rfl rfl)
theorem dX5_put_4 : decode cX5_put 4 = .ok (.ifCond .ne 9, 3) := dk_154 0 9 (dk_at dksX5_put_0 4 rfl rfl)
theorem dX5_put_7 : decode cX5_put 7 = .ok (.aload_n 0, 1) := dk_42 (dk_at dksX5_put_0 7 rfl rfl)
theorem dX5_put_8 : decode cX5_put 8 = .ok (.iconst 1, 1) := dk_4 (dk_at dksX5_put_0 8 rfl rfl)
theorem dX5_put_9 : decode cX5_put 9 = .ok (.invokevirtual 76, 3) := dk_182 0 76 (dk_at dksX5_put_0 9 rfl rfl)
theorem dX5_put_12 : decode cX5_put 12 = .ok (.ireturn, 1) := dk_172 (dk_at dksX5_put_0 12 rfl rfl)
theorem dX5_put_13 : decode cX5_put 13 = .ok (.aload_n 0, 1) := dk_42 (dk_at dksX5_put_0 13 rfl rfl)
theorem dX5_put_14 : decode cX5_put 14 = .ok (.getfield 43, 3) := dk_180 0 43 (dk_at dksX5_put_0 14 rfl rfl)
theorem dX5_put_17 : decode cX5_put 17 = .ok (.iload_n 1, 1) := dk_27 (dk_at dksX5_put_0 17 rfl rfl)
theorem dX5_put_18 : decode cX5_put 18 = .ok (.iaload, 1) := dk_46 (dk_at dksX5_put_0 18 rfl rfl)
theorem dX5_put_19 : decode cX5_put 19 = .ok (.ifCond .ne 9, 3) := dk_154 0 9 (dk_at dksX5_put_0 19 rfl rfl)
theorem dX5_put_22 : decode cX5_put 22 = .ok (.aload_n 0, 1) := dk_42 (dk_at dksX5_put_0 22 rfl rfl)
theorem dX5_put_23 : decode cX5_put 23 = .ok (.iconst 2, 1) := dk_5 (dk_at dksX5_put_0 23 rfl rfl)
theorem dX5_put_24 : decode cX5_put 24 = .ok (.invokevirtual 76, 3) := dk_182 0 76 (dk_at dksX5_put_1 0 rfl rfl)
theorem dX5_put_27 : decode cX5_put 27 = .ok (.ireturn, 1) := dk_172 (dk_at dksX5_put_1 3 rfl rfl)
theorem dX5_put_28 : decode cX5_put 28 = .ok (.iload_n 2, 1) := dk_28 (dk_at dksX5_put_1 4 rfl rfl)
theorem dX5_put_29 : decode cX5_put 29 = .ok (.iconst 0, 1) := dk_3 (dk_at dksX5_put_1 5 rfl rfl)
theorem dX5_put_30 : decode cX5_put 30 = .ok (.aload_n 0, 1) := dk_42 (dk_at dksX5_put_1 6 rfl rfl)
theorem dX5_put_31 : decode cX5_put 31 = .ok (.getfield 46, 3) := dk_180 0 46 (dk_at dksX5_put_1 7 rfl rfl)
theorem dX5_put_34 : decode cX5_put 34 = .ok (.iload_n 1, 1) := dk_27 (dk_at dksX5_put_1 10 rfl rfl)
theorem dX5_put_35 : decode cX5_put 35 = .ok (.iaload, 1) := dk_46 (dk_at dksX5_put_1 11 rfl rfl)
theorem dX5_put_36 : decode cX5_put 36 = .ok (.iconst 1, 1) := dk_4 (dk_at dksX5_put_1 12 rfl rfl)
theorem dX5_put_37 : decode cX5_put 37 = .ok (.isub, 1) := dk_100 (dk_at dksX5_put_1 13 rfl rfl)
theorem dX5_put_38 : decode cX5_put 38 = .ok (.invokestatic 56, 3) := dk_184 0 56 (dk_at dksX5_put_1 14 rfl rfl)
theorem dX5_put_41 : decode cX5_put 41 = .ok (.ifCond .ne 9, 3) := dk_154 0 9 (dk_at dksX5_put_1 17 rfl rfl)
theorem dX5_put_44 : decode cX5_put 44 = .ok (.aload_n 0, 1) := dk_42 (dk_at dksX5_put_1 20 rfl rfl)
theorem dX5_put_45 : decode cX5_put 45 = .ok (.iconst 1, 1) := dk_4 (dk_at dksX5_put_1 21 rfl rfl)
theorem dX5_put_46 : decode cX5_put 46 = .ok (.invokevirtual 76, 3) := dk_182 0 76 (dk_at dksX5_put_2 0 rfl rfl)
theorem dX5_put_49 : decode cX5_put 49 = .ok (.ireturn, 1) := dk_172 (dk_at dksX5_put_2 3 rfl rfl)
theorem dX5_put_50 : decode cX5_put 50 = .ok (.bipush 32, 2) := dk_16 32 (dk_at dksX5_put_2 4 rfl rfl)
theorem dX5_put_52 : decode cX5_put 52 = .ok (.aload_n 0, 1) := dk_42 (dk_at dksX5_put_2 6 rfl rfl)
theorem dX5_put_53 : decode cX5_put 53 = .ok (.getfield 43, 3) := dk_180 0 43 (dk_at dksX5_put_2 7 rfl rfl)
theorem dX5_put_56 : decode cX5_put 56 = .ok (.iload_n 1, 1) := dk_27 (dk_at dksX5_put_2 10 rfl rfl)
theorem dX5_put_57 : decode cX5_put 57 = .ok (.iaload, 1) := dk_46 (dk_at dksX5_put_2 11 rfl rfl)
theorem dX5_put_58 : decode cX5_put 58 = .ok (.isub, 1) := dk_100 (dk_at dksX5_put_2 12 rfl rfl)
theorem dX5_put_59 : decode cX5_put 59 = .ok (.istore 4, 2) := dk_54 4 (dk_at dksX5_put_2 13 rfl rfl)
theorem dX5_put_61 : decode cX5_put 61 = .ok (.aload_n 0, 1) := dk_42 (dk_at dksX5_put_2 15 rfl rfl)
theorem dX5_put_62 : decode cX5_put 62 = .ok (.getfield 49, 3) := dk_180 0 49 (dk_at dksX5_put_2 16 rfl rfl)
theorem dX5_put_65 : decode cX5_put 65 = .ok (.bipush 24, 2) := dk_16 24 (dk_at dksX5_put_2 19 rfl rfl)
theorem dX5_put_67 : decode cX5_put 67 = .ok (.iload_n 1, 1) := dk_27 (dk_at dksX5_put_2 21 rfl rfl)
theorem dX5_put_68 : decode cX5_put 68 = .ok (.imul, 1) := dk_104 (dk_at dksX5_put_2 22 rfl rfl)
theorem dX5_put_69 : decode cX5_put 69 = .ok (.iload_n 2, 1) := dk_28 (dk_at dksX5_put_2 23 rfl rfl)
theorem dX5_put_70 : decode cX5_put 70 = .ok (.iadd, 1) := dk_96 (dk_at dksX5_put_3 0 rfl rfl)
theorem dX5_put_71 : decode cX5_put 71 = .ok (.iload_n 3, 1) := dk_29 (dk_at dksX5_put_3 1 rfl rfl)
theorem dX5_put_72 : decode cX5_put 72 = .ok (.iload 4, 2) := dk_21 4 (dk_at dksX5_put_3 2 rfl rfl)
theorem dX5_put_74 : decode cX5_put 74 = .ok (.ishl, 1) := dk_120 (dk_at dksX5_put_3 4 rfl rfl)
theorem dX5_put_75 : decode cX5_put 75 = .ok (.iload 4, 2) := dk_21 4 (dk_at dksX5_put_3 5 rfl rfl)
theorem dX5_put_77 : decode cX5_put 77 = .ok (.ishr, 1) := dk_122 (dk_at dksX5_put_3 7 rfl rfl)
theorem dX5_put_78 : decode cX5_put 78 = .ok (.iastore, 1) := dk_79 (dk_at dksX5_put_3 8 rfl rfl)
theorem dX5_put_79 : decode cX5_put 79 = .ok (.iconst 1, 1) := dk_4 (dk_at dksX5_put_3 9 rfl rfl)
theorem dX5_put_80 : decode cX5_put 80 = .ok (.ireturn, 1) := dk_172 (dk_at dksX5_put_3 10 rfl rfl)
abbrev cX5_move : ByteArray := prog_20_method_91_code
def yX5_move : MethodName := ⟨RX5, "move", "(IIIII)I"⟩
def dkwX5_move_7 : List UInt8 := [21, 4, 96, 21, 6, 96, 42, 180, 0, 52, 21, 6, 46, 79, 132, 6, 1, 167, 255, 224, 21, 5, 172]
abbrev dktX5_move_7 : List UInt8 := dkwX5_move_7 ++ []
def dkwX5_move_6 : List UInt8 := [132, 6, 1, 167, 255, 225, 3, 54, 6, 21, 6, 21, 5, 162, 0, 31, 42, 180, 0, 49, 16, 24, 29, 104]
abbrev dktX5_move_6 : List UInt8 := dkwX5_move_6 ++ dktX5_move_7
def dkwX5_move_5 : List UInt8 := [162, 0, 30, 42, 180, 0, 52, 21, 6, 42, 180, 0, 49, 16, 24, 27, 104, 28, 96, 21, 6, 96, 46, 79]
abbrev dktX5_move_5 : List UInt8 := dkwX5_move_5 ++ dktX5_move_6
def dkwX5_move_4 : List UInt8 := [180, 0, 46, 29, 46, 21, 5, 100, 164, 0, 9, 42, 4, 182, 0, 76, 172, 3, 54, 6, 21, 6, 21, 5]
abbrev dktX5_move_4 : List UInt8 := dkwX5_move_4 ++ dktX5_move_5
def dkwX5_move_3 : List UInt8 := [155, 0, 35, 21, 4, 155, 0, 30, 28, 42, 180, 0, 46, 27, 46, 21, 5, 100, 163, 0, 17, 21, 4, 42]
abbrev dktX5_move_3 : List UInt8 := dkwX5_move_3 ++ dktX5_move_4
def dkwX5_move_2 : List UInt8 := [27, 46, 42, 180, 0, 43, 29, 46, 159, 0, 9, 42, 8, 182, 0, 76, 172, 21, 5, 155, 0, 39, 28]
abbrev dktX5_move_2 : List UInt8 := dkwX5_move_2 ++ dktX5_move_3
def dkwX5_move_1 : List UInt8 := [27, 46, 153, 0, 12, 42, 180, 0, 43, 29, 46, 154, 0, 9, 42, 5, 182, 0, 76, 172, 42, 180, 0, 43]
abbrev dktX5_move_1 : List UInt8 := dkwX5_move_1 ++ dktX5_move_2
def dkwX5_move_0 : List UInt8 := [27, 184, 1, 25, 153, 0, 10, 29, 184, 1, 25, 154, 0, 9, 42, 4, 182, 0, 76, 172, 42, 180, 0, 43]
abbrev dktX5_move_0 : List UInt8 := dkwX5_move_0 ++ dktX5_move_1
theorem dksX5_move_0 : cX5_move.data.toList.drop 0 = dktX5_move_0 := by decide +kernel
theorem dksX5_move_1 : cX5_move.data.toList.drop 24 = dktX5_move_1 := dk_seg dksX5_move_0 24 rfl rfl
theorem dksX5_move_2 : cX5_move.data.toList.drop 48 = dktX5_move_2 := dk_seg dksX5_move_1 24 rfl rfl
theorem dksX5_move_3 : cX5_move.data.toList.drop 71 = dktX5_move_3 := dk_seg dksX5_move_2 23 rfl rfl
theorem dksX5_move_4 : cX5_move.data.toList.drop 95 = dktX5_move_4 := dk_seg dksX5_move_3 24 rfl rfl
theorem dksX5_move_5 : cX5_move.data.toList.drop 119 = dktX5_move_5 := dk_seg dksX5_move_4 24 rfl rfl
theorem dksX5_move_6 : cX5_move.data.toList.drop 143 = dktX5_move_6 := dk_seg dksX5_move_5 24 rfl rfl
theorem dksX5_move_7 : cX5_move.data.toList.drop 167 = dktX5_move_7 := dk_seg dksX5_move_6 24 rfl rfl
theorem dX5_move_0 : decode cX5_move 0 = .ok (.iload_n 1, 1) := dk_27 (dk_at dksX5_move_0 0 rfl rfl)
theorem dX5_move_1 : decode cX5_move 1 = .ok (.invokestatic 281, 3) := dk_184 1 25 (dk_at dksX5_move_0 1 rfl rfl)
theorem dX5_move_4 : decode cX5_move 4 = .ok (.ifCond .eq 10, 3) := dk_153 0 10 (dk_at dksX5_move_0 4 rfl rfl)
theorem dX5_move_7 : decode cX5_move 7 = .ok (.iload_n 3, 1) := dk_29 (dk_at dksX5_move_0 7 rfl rfl)
theorem dX5_move_8 : decode cX5_move 8 = .ok (.invokestatic 281, 3) := dk_184 1 25 (dk_at dksX5_move_0 8 rfl rfl)
theorem dX5_move_11 : decode cX5_move 11 = .ok (.ifCond .ne 9, 3) := dk_154 0 9 (dk_at dksX5_move_0 11 rfl rfl)
theorem dX5_move_14 : decode cX5_move 14 = .ok (.aload_n 0, 1) := dk_42 (dk_at dksX5_move_0 14 rfl rfl)
theorem dX5_move_15 : decode cX5_move 15 = .ok (.iconst 1, 1) := dk_4 (dk_at dksX5_move_0 15 rfl rfl)
theorem dX5_move_16 : decode cX5_move 16 = .ok (.invokevirtual 76, 3) := dk_182 0 76 (dk_at dksX5_move_0 16 rfl rfl)
theorem dX5_move_19 : decode cX5_move 19 = .ok (.ireturn, 1) := dk_172 (dk_at dksX5_move_0 19 rfl rfl)
theorem dX5_move_20 : decode cX5_move 20 = .ok (.aload_n 0, 1) := dk_42 (dk_at dksX5_move_0 20 rfl rfl)
theorem dX5_move_21 : decode cX5_move 21 = .ok (.getfield 43, 3) := dk_180 0 43 (dk_at dksX5_move_0 21 rfl rfl)
theorem dX5_move_24 : decode cX5_move 24 = .ok (.iload_n 1, 1) := dk_27 (dk_at dksX5_move_1 0 rfl rfl)
theorem dX5_move_25 : decode cX5_move 25 = .ok (.iaload, 1) := dk_46 (dk_at dksX5_move_1 1 rfl rfl)
theorem dX5_move_26 : decode cX5_move 26 = .ok (.ifCond .eq 12, 3) := dk_153 0 12 (dk_at dksX5_move_1 2 rfl rfl)
theorem dX5_move_29 : decode cX5_move 29 = .ok (.aload_n 0, 1) := dk_42 (dk_at dksX5_move_1 5 rfl rfl)
theorem dX5_move_30 : decode cX5_move 30 = .ok (.getfield 43, 3) := dk_180 0 43 (dk_at dksX5_move_1 6 rfl rfl)
theorem dX5_move_33 : decode cX5_move 33 = .ok (.iload_n 3, 1) := dk_29 (dk_at dksX5_move_1 9 rfl rfl)
theorem dX5_move_34 : decode cX5_move 34 = .ok (.iaload, 1) := dk_46 (dk_at dksX5_move_1 10 rfl rfl)
theorem dX5_move_35 : decode cX5_move 35 = .ok (.ifCond .ne 9, 3) := dk_154 0 9 (dk_at dksX5_move_1 11 rfl rfl)
theorem dX5_move_38 : decode cX5_move 38 = .ok (.aload_n 0, 1) := dk_42 (dk_at dksX5_move_1 14 rfl rfl)
theorem dX5_move_39 : decode cX5_move 39 = .ok (.iconst 2, 1) := dk_5 (dk_at dksX5_move_1 15 rfl rfl)
theorem dX5_move_40 : decode cX5_move 40 = .ok (.invokevirtual 76, 3) := dk_182 0 76 (dk_at dksX5_move_1 16 rfl rfl)
theorem dX5_move_43 : decode cX5_move 43 = .ok (.ireturn, 1) := dk_172 (dk_at dksX5_move_1 19 rfl rfl)
theorem dX5_move_44 : decode cX5_move 44 = .ok (.aload_n 0, 1) := dk_42 (dk_at dksX5_move_1 20 rfl rfl)
theorem dX5_move_45 : decode cX5_move 45 = .ok (.getfield 43, 3) := dk_180 0 43 (dk_at dksX5_move_1 21 rfl rfl)
theorem dX5_move_48 : decode cX5_move 48 = .ok (.iload_n 1, 1) := dk_27 (dk_at dksX5_move_2 0 rfl rfl)
theorem dX5_move_49 : decode cX5_move 49 = .ok (.iaload, 1) := dk_46 (dk_at dksX5_move_2 1 rfl rfl)
theorem dX5_move_50 : decode cX5_move 50 = .ok (.aload_n 0, 1) := dk_42 (dk_at dksX5_move_2 2 rfl rfl)
theorem dX5_move_51 : decode cX5_move 51 = .ok (.getfield 43, 3) := dk_180 0 43 (dk_at dksX5_move_2 3 rfl rfl)
theorem dX5_move_54 : decode cX5_move 54 = .ok (.iload_n 3, 1) := dk_29 (dk_at dksX5_move_2 6 rfl rfl)
theorem dX5_move_55 : decode cX5_move 55 = .ok (.iaload, 1) := dk_46 (dk_at dksX5_move_2 7 rfl rfl)
theorem dX5_move_56 : decode cX5_move 56 = .ok (.if_icmp .eq 9, 3) := dk_159 0 9 (dk_at dksX5_move_2 8 rfl rfl)
theorem dX5_move_59 : decode cX5_move 59 = .ok (.aload_n 0, 1) := dk_42 (dk_at dksX5_move_2 11 rfl rfl)
theorem dX5_move_60 : decode cX5_move 60 = .ok (.iconst 5, 1) := dk_8 (dk_at dksX5_move_2 12 rfl rfl)
theorem dX5_move_61 : decode cX5_move 61 = .ok (.invokevirtual 76, 3) := dk_182 0 76 (dk_at dksX5_move_2 13 rfl rfl)
theorem dX5_move_64 : decode cX5_move 64 = .ok (.ireturn, 1) := dk_172 (dk_at dksX5_move_2 16 rfl rfl)
theorem dX5_move_65 : decode cX5_move 65 = .ok (.iload 5, 2) := dk_21 5 (dk_at dksX5_move_2 17 rfl rfl)
theorem dX5_move_67 : decode cX5_move 67 = .ok (.ifCond .lt 39, 3) := dk_155 0 39 (dk_at dksX5_move_2 19 rfl rfl)
theorem dX5_move_70 : decode cX5_move 70 = .ok (.iload_n 2, 1) := dk_28 (dk_at dksX5_move_2 22 rfl rfl)
theorem dX5_move_71 : decode cX5_move 71 = .ok (.ifCond .lt 35, 3) := dk_155 0 35 (dk_at dksX5_move_3 0 rfl rfl)
theorem dX5_move_74 : decode cX5_move 74 = .ok (.iload 4, 2) := dk_21 4 (dk_at dksX5_move_3 3 rfl rfl)
theorem dX5_move_76 : decode cX5_move 76 = .ok (.ifCond .lt 30, 3) := dk_155 0 30 (dk_at dksX5_move_3 5 rfl rfl)
theorem dX5_move_79 : decode cX5_move 79 = .ok (.iload_n 2, 1) := dk_28 (dk_at dksX5_move_3 8 rfl rfl)
theorem dX5_move_80 : decode cX5_move 80 = .ok (.aload_n 0, 1) := dk_42 (dk_at dksX5_move_3 9 rfl rfl)
theorem dX5_move_81 : decode cX5_move 81 = .ok (.getfield 46, 3) := dk_180 0 46 (dk_at dksX5_move_3 10 rfl rfl)
theorem dX5_move_84 : decode cX5_move 84 = .ok (.iload_n 1, 1) := dk_27 (dk_at dksX5_move_3 13 rfl rfl)
theorem dX5_move_85 : decode cX5_move 85 = .ok (.iaload, 1) := dk_46 (dk_at dksX5_move_3 14 rfl rfl)
theorem dX5_move_86 : decode cX5_move 86 = .ok (.iload 5, 2) := dk_21 5 (dk_at dksX5_move_3 15 rfl rfl)
theorem dX5_move_88 : decode cX5_move 88 = .ok (.isub, 1) := dk_100 (dk_at dksX5_move_3 17 rfl rfl)
theorem dX5_move_89 : decode cX5_move 89 = .ok (.if_icmp .gt 17, 3) := dk_163 0 17 (dk_at dksX5_move_3 18 rfl rfl)
theorem dX5_move_92 : decode cX5_move 92 = .ok (.iload 4, 2) := dk_21 4 (dk_at dksX5_move_3 21 rfl rfl)
theorem dX5_move_94 : decode cX5_move 94 = .ok (.aload_n 0, 1) := dk_42 (dk_at dksX5_move_3 23 rfl rfl)
theorem dX5_move_95 : decode cX5_move 95 = .ok (.getfield 46, 3) := dk_180 0 46 (dk_at dksX5_move_4 0 rfl rfl)
theorem dX5_move_98 : decode cX5_move 98 = .ok (.iload_n 3, 1) := dk_29 (dk_at dksX5_move_4 3 rfl rfl)
theorem dX5_move_99 : decode cX5_move 99 = .ok (.iaload, 1) := dk_46 (dk_at dksX5_move_4 4 rfl rfl)
theorem dX5_move_100 : decode cX5_move 100 = .ok (.iload 5, 2) := dk_21 5 (dk_at dksX5_move_4 5 rfl rfl)
theorem dX5_move_102 : decode cX5_move 102 = .ok (.isub, 1) := dk_100 (dk_at dksX5_move_4 7 rfl rfl)
theorem dX5_move_103 : decode cX5_move 103 = .ok (.if_icmp .le 9, 3) := dk_164 0 9 (dk_at dksX5_move_4 8 rfl rfl)
theorem dX5_move_106 : decode cX5_move 106 = .ok (.aload_n 0, 1) := dk_42 (dk_at dksX5_move_4 11 rfl rfl)
theorem dX5_move_107 : decode cX5_move 107 = .ok (.iconst 1, 1) := dk_4 (dk_at dksX5_move_4 12 rfl rfl)
theorem dX5_move_108 : decode cX5_move 108 = .ok (.invokevirtual 76, 3) := dk_182 0 76 (dk_at dksX5_move_4 13 rfl rfl)
theorem dX5_move_111 : decode cX5_move 111 = .ok (.ireturn, 1) := dk_172 (dk_at dksX5_move_4 16 rfl rfl)
theorem dX5_move_112 : decode cX5_move 112 = .ok (.iconst 0, 1) := dk_3 (dk_at dksX5_move_4 17 rfl rfl)
theorem dX5_move_113 : decode cX5_move 113 = .ok (.istore 6, 2) := dk_54 6 (dk_at dksX5_move_4 18 rfl rfl)
theorem dX5_move_115 : decode cX5_move 115 = .ok (.iload 6, 2) := dk_21 6 (dk_at dksX5_move_4 20 rfl rfl)
theorem dX5_move_117 : decode cX5_move 117 = .ok (.iload 5, 2) := dk_21 5 (dk_at dksX5_move_4 22 rfl rfl)
theorem dX5_move_119 : decode cX5_move 119 = .ok (.if_icmp .ge 30, 3) := dk_162 0 30 (dk_at dksX5_move_5 0 rfl rfl)
theorem dX5_move_122 : decode cX5_move 122 = .ok (.aload_n 0, 1) := dk_42 (dk_at dksX5_move_5 3 rfl rfl)
theorem dX5_move_123 : decode cX5_move 123 = .ok (.getfield 52, 3) := dk_180 0 52 (dk_at dksX5_move_5 4 rfl rfl)
theorem dX5_move_126 : decode cX5_move 126 = .ok (.iload 6, 2) := dk_21 6 (dk_at dksX5_move_5 7 rfl rfl)
theorem dX5_move_128 : decode cX5_move 128 = .ok (.aload_n 0, 1) := dk_42 (dk_at dksX5_move_5 9 rfl rfl)
theorem dX5_move_129 : decode cX5_move 129 = .ok (.getfield 49, 3) := dk_180 0 49 (dk_at dksX5_move_5 10 rfl rfl)
theorem dX5_move_132 : decode cX5_move 132 = .ok (.bipush 24, 2) := dk_16 24 (dk_at dksX5_move_5 13 rfl rfl)
theorem dX5_move_134 : decode cX5_move 134 = .ok (.iload_n 1, 1) := dk_27 (dk_at dksX5_move_5 15 rfl rfl)
theorem dX5_move_135 : decode cX5_move 135 = .ok (.imul, 1) := dk_104 (dk_at dksX5_move_5 16 rfl rfl)
theorem dX5_move_136 : decode cX5_move 136 = .ok (.iload_n 2, 1) := dk_28 (dk_at dksX5_move_5 17 rfl rfl)
theorem dX5_move_137 : decode cX5_move 137 = .ok (.iadd, 1) := dk_96 (dk_at dksX5_move_5 18 rfl rfl)
theorem dX5_move_138 : decode cX5_move 138 = .ok (.iload 6, 2) := dk_21 6 (dk_at dksX5_move_5 19 rfl rfl)
theorem dX5_move_140 : decode cX5_move 140 = .ok (.iadd, 1) := dk_96 (dk_at dksX5_move_5 21 rfl rfl)
theorem dX5_move_141 : decode cX5_move 141 = .ok (.iaload, 1) := dk_46 (dk_at dksX5_move_5 22 rfl rfl)
theorem dX5_move_142 : decode cX5_move 142 = .ok (.iastore, 1) := dk_79 (dk_at dksX5_move_5 23 rfl rfl)
theorem dX5_move_143 : decode cX5_move 143 = .ok (.iinc 6 1, 3) := dk_132 6 1 (dk_at dksX5_move_6 0 rfl rfl)
theorem dX5_move_146 : decode cX5_move 146 = .ok (.goto (-31), 3) := dk_167 255 225 (dk_at dksX5_move_6 3 rfl rfl)
theorem dX5_move_149 : decode cX5_move 149 = .ok (.iconst 0, 1) := dk_3 (dk_at dksX5_move_6 6 rfl rfl)
theorem dX5_move_150 : decode cX5_move 150 = .ok (.istore 6, 2) := dk_54 6 (dk_at dksX5_move_6 7 rfl rfl)
theorem dX5_move_152 : decode cX5_move 152 = .ok (.iload 6, 2) := dk_21 6 (dk_at dksX5_move_6 9 rfl rfl)
theorem dX5_move_154 : decode cX5_move 154 = .ok (.iload 5, 2) := dk_21 5 (dk_at dksX5_move_6 11 rfl rfl)
theorem dX5_move_156 : decode cX5_move 156 = .ok (.if_icmp .ge 31, 3) := dk_162 0 31 (dk_at dksX5_move_6 13 rfl rfl)
theorem dX5_move_159 : decode cX5_move 159 = .ok (.aload_n 0, 1) := dk_42 (dk_at dksX5_move_6 16 rfl rfl)
theorem dX5_move_160 : decode cX5_move 160 = .ok (.getfield 49, 3) := dk_180 0 49 (dk_at dksX5_move_6 17 rfl rfl)
theorem dX5_move_163 : decode cX5_move 163 = .ok (.bipush 24, 2) := dk_16 24 (dk_at dksX5_move_6 20 rfl rfl)
theorem dX5_move_165 : decode cX5_move 165 = .ok (.iload_n 3, 1) := dk_29 (dk_at dksX5_move_6 22 rfl rfl)
theorem dX5_move_166 : decode cX5_move 166 = .ok (.imul, 1) := dk_104 (dk_at dksX5_move_6 23 rfl rfl)
theorem dX5_move_167 : decode cX5_move 167 = .ok (.iload 4, 2) := dk_21 4 (dk_at dksX5_move_7 0 rfl rfl)
theorem dX5_move_169 : decode cX5_move 169 = .ok (.iadd, 1) := dk_96 (dk_at dksX5_move_7 2 rfl rfl)
theorem dX5_move_170 : decode cX5_move 170 = .ok (.iload 6, 2) := dk_21 6 (dk_at dksX5_move_7 3 rfl rfl)
theorem dX5_move_172 : decode cX5_move 172 = .ok (.iadd, 1) := dk_96 (dk_at dksX5_move_7 5 rfl rfl)
theorem dX5_move_173 : decode cX5_move 173 = .ok (.aload_n 0, 1) := dk_42 (dk_at dksX5_move_7 6 rfl rfl)
theorem dX5_move_174 : decode cX5_move 174 = .ok (.getfield 52, 3) := dk_180 0 52 (dk_at dksX5_move_7 7 rfl rfl)
theorem dX5_move_177 : decode cX5_move 177 = .ok (.iload 6, 2) := dk_21 6 (dk_at dksX5_move_7 10 rfl rfl)
theorem dX5_move_179 : decode cX5_move 179 = .ok (.iaload, 1) := dk_46 (dk_at dksX5_move_7 12 rfl rfl)
theorem dX5_move_180 : decode cX5_move 180 = .ok (.iastore, 1) := dk_79 (dk_at dksX5_move_7 13 rfl rfl)
theorem dX5_move_181 : decode cX5_move 181 = .ok (.iinc 6 1, 3) := dk_132 6 1 (dk_at dksX5_move_7 14 rfl rfl)
theorem dX5_move_184 : decode cX5_move 184 = .ok (.goto (-32), 3) := dk_167 255 224 (dk_at dksX5_move_7 17 rfl rfl)
theorem dX5_move_187 : decode cX5_move 187 = .ok (.iload 5, 2) := dk_21 5 (dk_at dksX5_move_7 20 rfl rfl)
theorem dX5_move_189 : decode cX5_move 189 = .ok (.ireturn, 1) := dk_172 (dk_at dksX5_move_7 22 rfl rfl)
abbrev cX5_forces : ByteArray := prog_20_method_93_code
def yX5_forces : MethodName := ⟨RX5, "forces", "(I)I"⟩
def dkwX5_forces_3 : List UInt8 := [46, 79, 132, 3, 1, 167, 255, 197, 29, 172]
abbrev dktX5_forces_3 : List UInt8 := dkwX5_forces_3 ++ []
def dkwX5_forces_2 : List UInt8 := [184, 0, 56, 153, 0, 29, 42, 180, 0, 7, 16, 6, 29, 96, 42, 180, 0, 49, 16, 24, 27, 104, 29, 96]
abbrev dktX5_forces_2 : List UInt8 := dkwX5_forces_2 ++ dktX5_forces_3
def dkwX5_forces_1 : List UInt8 := [46, 162, 0, 55, 29, 16, 24, 162, 0, 49, 42, 180, 0, 49, 16, 24, 27, 104, 29, 96, 46, 3, 16, 99]
abbrev dktX5_forces_1 : List UInt8 := dkwX5_forces_1 ++ dktX5_forces_2
def dkwX5_forces_0 : List UInt8 := [42, 27, 182, 1, 28, 61, 28, 158, 0, 9, 42, 28, 182, 0, 76, 172, 3, 62, 29, 42, 180, 0, 46, 27]
abbrev dktX5_forces_0 : List UInt8 := dkwX5_forces_0 ++ dktX5_forces_1
theorem dksX5_forces_0 : cX5_forces.data.toList.drop 0 = dktX5_forces_0 := by decide +kernel
theorem dksX5_forces_1 : cX5_forces.data.toList.drop 24 = dktX5_forces_1 := dk_seg dksX5_forces_0 24 rfl rfl
theorem dksX5_forces_2 : cX5_forces.data.toList.drop 48 = dktX5_forces_2 := dk_seg dksX5_forces_1 24 rfl rfl
theorem dksX5_forces_3 : cX5_forces.data.toList.drop 72 = dktX5_forces_3 := dk_seg dksX5_forces_2 24 rfl rfl
theorem dX5_forces_0 : decode cX5_forces 0 = .ok (.aload_n 0, 1) := dk_42 (dk_at dksX5_forces_0 0 rfl rfl)
theorem dX5_forces_1 : decode cX5_forces 1 = .ok (.iload_n 1, 1) := dk_27 (dk_at dksX5_forces_0 1 rfl rfl)
theorem dX5_forces_2 : decode cX5_forces 2 = .ok (.invokevirtual 284, 3) := dk_182 1 28 (dk_at dksX5_forces_0 2 rfl rfl)
theorem dX5_forces_5 : decode cX5_forces 5 = .ok (.istore_n 2, 1) := dk_61 (dk_at dksX5_forces_0 5 rfl rfl)
theorem dX5_forces_6 : decode cX5_forces 6 = .ok (.iload_n 2, 1) := dk_28 (dk_at dksX5_forces_0 6 rfl rfl)
theorem dX5_forces_7 : decode cX5_forces 7 = .ok (.ifCond .le 9, 3) := dk_158 0 9 (dk_at dksX5_forces_0 7 rfl rfl)
theorem dX5_forces_10 : decode cX5_forces 10 = .ok (.aload_n 0, 1) := dk_42 (dk_at dksX5_forces_0 10 rfl rfl)
theorem dX5_forces_11 : decode cX5_forces 11 = .ok (.iload_n 2, 1) := dk_28 (dk_at dksX5_forces_0 11 rfl rfl)
theorem dX5_forces_12 : decode cX5_forces 12 = .ok (.invokevirtual 76, 3) := dk_182 0 76 (dk_at dksX5_forces_0 12 rfl rfl)
theorem dX5_forces_15 : decode cX5_forces 15 = .ok (.ireturn, 1) := dk_172 (dk_at dksX5_forces_0 15 rfl rfl)
theorem dX5_forces_16 : decode cX5_forces 16 = .ok (.iconst 0, 1) := dk_3 (dk_at dksX5_forces_0 16 rfl rfl)
theorem dX5_forces_17 : decode cX5_forces 17 = .ok (.istore_n 3, 1) := dk_62 (dk_at dksX5_forces_0 17 rfl rfl)
theorem dX5_forces_18 : decode cX5_forces 18 = .ok (.iload_n 3, 1) := dk_29 (dk_at dksX5_forces_0 18 rfl rfl)
theorem dX5_forces_19 : decode cX5_forces 19 = .ok (.aload_n 0, 1) := dk_42 (dk_at dksX5_forces_0 19 rfl rfl)
theorem dX5_forces_20 : decode cX5_forces 20 = .ok (.getfield 46, 3) := dk_180 0 46 (dk_at dksX5_forces_0 20 rfl rfl)
theorem dX5_forces_23 : decode cX5_forces 23 = .ok (.iload_n 1, 1) := dk_27 (dk_at dksX5_forces_0 23 rfl rfl)
theorem dX5_forces_24 : decode cX5_forces 24 = .ok (.iaload, 1) := dk_46 (dk_at dksX5_forces_1 0 rfl rfl)
theorem dX5_forces_25 : decode cX5_forces 25 = .ok (.if_icmp .ge 55, 3) := dk_162 0 55 (dk_at dksX5_forces_1 1 rfl rfl)
theorem dX5_forces_28 : decode cX5_forces 28 = .ok (.iload_n 3, 1) := dk_29 (dk_at dksX5_forces_1 4 rfl rfl)
theorem dX5_forces_29 : decode cX5_forces 29 = .ok (.bipush 24, 2) := dk_16 24 (dk_at dksX5_forces_1 5 rfl rfl)
theorem dX5_forces_31 : decode cX5_forces 31 = .ok (.if_icmp .ge 49, 3) := dk_162 0 49 (dk_at dksX5_forces_1 7 rfl rfl)
theorem dX5_forces_34 : decode cX5_forces 34 = .ok (.aload_n 0, 1) := dk_42 (dk_at dksX5_forces_1 10 rfl rfl)
theorem dX5_forces_35 : decode cX5_forces 35 = .ok (.getfield 49, 3) := dk_180 0 49 (dk_at dksX5_forces_1 11 rfl rfl)
theorem dX5_forces_38 : decode cX5_forces 38 = .ok (.bipush 24, 2) := dk_16 24 (dk_at dksX5_forces_1 14 rfl rfl)
theorem dX5_forces_40 : decode cX5_forces 40 = .ok (.iload_n 1, 1) := dk_27 (dk_at dksX5_forces_1 16 rfl rfl)
theorem dX5_forces_41 : decode cX5_forces 41 = .ok (.imul, 1) := dk_104 (dk_at dksX5_forces_1 17 rfl rfl)
theorem dX5_forces_42 : decode cX5_forces 42 = .ok (.iload_n 3, 1) := dk_29 (dk_at dksX5_forces_1 18 rfl rfl)
theorem dX5_forces_43 : decode cX5_forces 43 = .ok (.iadd, 1) := dk_96 (dk_at dksX5_forces_1 19 rfl rfl)
theorem dX5_forces_44 : decode cX5_forces 44 = .ok (.iaload, 1) := dk_46 (dk_at dksX5_forces_1 20 rfl rfl)
theorem dX5_forces_45 : decode cX5_forces 45 = .ok (.iconst 0, 1) := dk_3 (dk_at dksX5_forces_1 21 rfl rfl)
theorem dX5_forces_46 : decode cX5_forces 46 = .ok (.bipush 99, 2) := dk_16 99 (dk_at dksX5_forces_1 22 rfl rfl)
theorem dX5_forces_48 : decode cX5_forces 48 = .ok (.invokestatic 56, 3) := dk_184 0 56 (dk_at dksX5_forces_2 0 rfl rfl)
theorem dX5_forces_51 : decode cX5_forces 51 = .ok (.ifCond .eq 29, 3) := dk_153 0 29 (dk_at dksX5_forces_2 3 rfl rfl)
theorem dX5_forces_54 : decode cX5_forces 54 = .ok (.aload_n 0, 1) := dk_42 (dk_at dksX5_forces_2 6 rfl rfl)
theorem dX5_forces_55 : decode cX5_forces 55 = .ok (.getfield 7, 3) := dk_180 0 7 (dk_at dksX5_forces_2 7 rfl rfl)
theorem dX5_forces_58 : decode cX5_forces 58 = .ok (.bipush 6, 2) := dk_16 6 (dk_at dksX5_forces_2 10 rfl rfl)
theorem dX5_forces_60 : decode cX5_forces 60 = .ok (.iload_n 3, 1) := dk_29 (dk_at dksX5_forces_2 12 rfl rfl)
theorem dX5_forces_61 : decode cX5_forces 61 = .ok (.iadd, 1) := dk_96 (dk_at dksX5_forces_2 13 rfl rfl)
theorem dX5_forces_62 : decode cX5_forces 62 = .ok (.aload_n 0, 1) := dk_42 (dk_at dksX5_forces_2 14 rfl rfl)
theorem dX5_forces_63 : decode cX5_forces 63 = .ok (.getfield 49, 3) := dk_180 0 49 (dk_at dksX5_forces_2 15 rfl rfl)
theorem dX5_forces_66 : decode cX5_forces 66 = .ok (.bipush 24, 2) := dk_16 24 (dk_at dksX5_forces_2 18 rfl rfl)
theorem dX5_forces_68 : decode cX5_forces 68 = .ok (.iload_n 1, 1) := dk_27 (dk_at dksX5_forces_2 20 rfl rfl)
theorem dX5_forces_69 : decode cX5_forces 69 = .ok (.imul, 1) := dk_104 (dk_at dksX5_forces_2 21 rfl rfl)
theorem dX5_forces_70 : decode cX5_forces 70 = .ok (.iload_n 3, 1) := dk_29 (dk_at dksX5_forces_2 22 rfl rfl)
theorem dX5_forces_71 : decode cX5_forces 71 = .ok (.iadd, 1) := dk_96 (dk_at dksX5_forces_2 23 rfl rfl)
theorem dX5_forces_72 : decode cX5_forces 72 = .ok (.iaload, 1) := dk_46 (dk_at dksX5_forces_3 0 rfl rfl)
theorem dX5_forces_73 : decode cX5_forces 73 = .ok (.iastore, 1) := dk_79 (dk_at dksX5_forces_3 1 rfl rfl)
theorem dX5_forces_74 : decode cX5_forces 74 = .ok (.iinc 3 1, 3) := dk_132 3 1 (dk_at dksX5_forces_3 2 rfl rfl)
theorem dX5_forces_77 : decode cX5_forces 77 = .ok (.goto (-59), 3) := dk_167 255 197 (dk_at dksX5_forces_3 5 rfl rfl)
theorem dX5_forces_80 : decode cX5_forces 80 = .ok (.iload_n 3, 1) := dk_29 (dk_at dksX5_forces_3 8 rfl rfl)
theorem dX5_forces_81 : decode cX5_forces 81 = .ok (.ireturn, 1) := dk_172 (dk_at dksX5_forces_3 9 rfl rfl)
abbrev cX5_lacks : ByteArray := prog_20_method_92_code
def yX5_lacks : MethodName := ⟨RX5, "lacks", "(I)I"⟩
def dkwX5_lacks_1 : List UInt8 := [3, 172]
abbrev dktX5_lacks_1 : List UInt8 := dkwX5_lacks_1 ++ []
def dkwX5_lacks_0 : List UInt8 := [27, 184, 1, 25, 154, 0, 7, 4, 167, 0, 17, 42, 180, 0, 43, 27, 46, 154, 0, 7, 5, 167, 0, 4]
abbrev dktX5_lacks_0 : List UInt8 := dkwX5_lacks_0 ++ dktX5_lacks_1
theorem dksX5_lacks_0 : cX5_lacks.data.toList.drop 0 = dktX5_lacks_0 := by decide +kernel
theorem dksX5_lacks_1 : cX5_lacks.data.toList.drop 24 = dktX5_lacks_1 := dk_seg dksX5_lacks_0 24 rfl rfl
theorem dX5_lacks_0 : decode cX5_lacks 0 = .ok (.iload_n 1, 1) := dk_27 (dk_at dksX5_lacks_0 0 rfl rfl)
theorem dX5_lacks_1 : decode cX5_lacks 1 = .ok (.invokestatic 281, 3) := dk_184 1 25 (dk_at dksX5_lacks_0 1 rfl rfl)
theorem dX5_lacks_4 : decode cX5_lacks 4 = .ok (.ifCond .ne 7, 3) := dk_154 0 7 (dk_at dksX5_lacks_0 4 rfl rfl)
theorem dX5_lacks_7 : decode cX5_lacks 7 = .ok (.iconst 1, 1) := dk_4 (dk_at dksX5_lacks_0 7 rfl rfl)
theorem dX5_lacks_8 : decode cX5_lacks 8 = .ok (.goto 17, 3) := dk_167 0 17 (dk_at dksX5_lacks_0 8 rfl rfl)
theorem dX5_lacks_11 : decode cX5_lacks 11 = .ok (.aload_n 0, 1) := dk_42 (dk_at dksX5_lacks_0 11 rfl rfl)
theorem dX5_lacks_12 : decode cX5_lacks 12 = .ok (.getfield 43, 3) := dk_180 0 43 (dk_at dksX5_lacks_0 12 rfl rfl)
theorem dX5_lacks_15 : decode cX5_lacks 15 = .ok (.iload_n 1, 1) := dk_27 (dk_at dksX5_lacks_0 15 rfl rfl)
theorem dX5_lacks_16 : decode cX5_lacks 16 = .ok (.iaload, 1) := dk_46 (dk_at dksX5_lacks_0 16 rfl rfl)
theorem dX5_lacks_17 : decode cX5_lacks 17 = .ok (.ifCond .ne 7, 3) := dk_154 0 7 (dk_at dksX5_lacks_0 17 rfl rfl)
theorem dX5_lacks_20 : decode cX5_lacks 20 = .ok (.iconst 2, 1) := dk_5 (dk_at dksX5_lacks_0 20 rfl rfl)
theorem dX5_lacks_21 : decode cX5_lacks 21 = .ok (.goto 4, 3) := dk_167 0 4 (dk_at dksX5_lacks_0 21 rfl rfl)
theorem dX5_lacks_24 : decode cX5_lacks 24 = .ok (.iconst 0, 1) := dk_3 (dk_at dksX5_lacks_1 0 rfl rfl)
theorem dX5_lacks_25 : decode cX5_lacks 25 = .ok (.ireturn, 1) := dk_172 (dk_at dksX5_lacks_1 1 rfl rfl)
abbrev cX5_judge : ByteArray := prog_20_method_94_code
def yX5_judge : MethodName := ⟨RX5, "judge", "(I)I"⟩
def dkwX5_judge_2 : List UInt8 := [46, 42, 180, 0, 31, 29, 46, 160, 0, 9, 132, 3, 1, 167, 255, 217, 29, 172]
abbrev dktX5_judge_2 : List UInt8 := dkwX5_judge_2 ++ []
def dkwX5_judge_1 : List UInt8 := [180, 0, 46, 27, 46, 162, 0, 35, 29, 16, 12, 162, 0, 29, 42, 180, 0, 49, 16, 24, 27, 104, 29, 96]
abbrev dktX5_judge_1 : List UInt8 := dkwX5_judge_1 ++ dktX5_judge_2
def dkwX5_judge_0 : List UInt8 := [42, 27, 182, 1, 28, 61, 28, 158, 0, 9, 42, 28, 182, 0, 76, 172, 42, 182, 0, 103, 3, 62, 29, 42]
abbrev dktX5_judge_0 : List UInt8 := dkwX5_judge_0 ++ dktX5_judge_1
theorem dksX5_judge_0 : cX5_judge.data.toList.drop 0 = dktX5_judge_0 := by decide +kernel
theorem dksX5_judge_1 : cX5_judge.data.toList.drop 24 = dktX5_judge_1 := dk_seg dksX5_judge_0 24 rfl rfl
theorem dksX5_judge_2 : cX5_judge.data.toList.drop 48 = dktX5_judge_2 := dk_seg dksX5_judge_1 24 rfl rfl
theorem dX5_judge_0 : decode cX5_judge 0 = .ok (.aload_n 0, 1) := dk_42 (dk_at dksX5_judge_0 0 rfl rfl)
theorem dX5_judge_1 : decode cX5_judge 1 = .ok (.iload_n 1, 1) := dk_27 (dk_at dksX5_judge_0 1 rfl rfl)
theorem dX5_judge_2 : decode cX5_judge 2 = .ok (.invokevirtual 284, 3) := dk_182 1 28 (dk_at dksX5_judge_0 2 rfl rfl)
theorem dX5_judge_5 : decode cX5_judge 5 = .ok (.istore_n 2, 1) := dk_61 (dk_at dksX5_judge_0 5 rfl rfl)
theorem dX5_judge_6 : decode cX5_judge 6 = .ok (.iload_n 2, 1) := dk_28 (dk_at dksX5_judge_0 6 rfl rfl)
theorem dX5_judge_7 : decode cX5_judge 7 = .ok (.ifCond .le 9, 3) := dk_158 0 9 (dk_at dksX5_judge_0 7 rfl rfl)
theorem dX5_judge_10 : decode cX5_judge 10 = .ok (.aload_n 0, 1) := dk_42 (dk_at dksX5_judge_0 10 rfl rfl)
theorem dX5_judge_11 : decode cX5_judge 11 = .ok (.iload_n 2, 1) := dk_28 (dk_at dksX5_judge_0 11 rfl rfl)
theorem dX5_judge_12 : decode cX5_judge 12 = .ok (.invokevirtual 76, 3) := dk_182 0 76 (dk_at dksX5_judge_0 12 rfl rfl)
theorem dX5_judge_15 : decode cX5_judge 15 = .ok (.ireturn, 1) := dk_172 (dk_at dksX5_judge_0 15 rfl rfl)
theorem dX5_judge_16 : decode cX5_judge 16 = .ok (.aload_n 0, 1) := dk_42 (dk_at dksX5_judge_0 16 rfl rfl)
theorem dX5_judge_17 : decode cX5_judge 17 = .ok (.invokevirtual 103, 3) := dk_182 0 103 (dk_at dksX5_judge_0 17 rfl rfl)
theorem dX5_judge_20 : decode cX5_judge 20 = .ok (.iconst 0, 1) := dk_3 (dk_at dksX5_judge_0 20 rfl rfl)
theorem dX5_judge_21 : decode cX5_judge 21 = .ok (.istore_n 3, 1) := dk_62 (dk_at dksX5_judge_0 21 rfl rfl)
theorem dX5_judge_22 : decode cX5_judge 22 = .ok (.iload_n 3, 1) := dk_29 (dk_at dksX5_judge_0 22 rfl rfl)
theorem dX5_judge_23 : decode cX5_judge 23 = .ok (.aload_n 0, 1) := dk_42 (dk_at dksX5_judge_0 23 rfl rfl)
theorem dX5_judge_24 : decode cX5_judge 24 = .ok (.getfield 46, 3) := dk_180 0 46 (dk_at dksX5_judge_1 0 rfl rfl)
theorem dX5_judge_27 : decode cX5_judge 27 = .ok (.iload_n 1, 1) := dk_27 (dk_at dksX5_judge_1 3 rfl rfl)
theorem dX5_judge_28 : decode cX5_judge 28 = .ok (.iaload, 1) := dk_46 (dk_at dksX5_judge_1 4 rfl rfl)
theorem dX5_judge_29 : decode cX5_judge 29 = .ok (.if_icmp .ge 35, 3) := dk_162 0 35 (dk_at dksX5_judge_1 5 rfl rfl)
theorem dX5_judge_32 : decode cX5_judge 32 = .ok (.iload_n 3, 1) := dk_29 (dk_at dksX5_judge_1 8 rfl rfl)
theorem dX5_judge_33 : decode cX5_judge 33 = .ok (.bipush 12, 2) := dk_16 12 (dk_at dksX5_judge_1 9 rfl rfl)
theorem dX5_judge_35 : decode cX5_judge 35 = .ok (.if_icmp .ge 29, 3) := dk_162 0 29 (dk_at dksX5_judge_1 11 rfl rfl)
theorem dX5_judge_38 : decode cX5_judge 38 = .ok (.aload_n 0, 1) := dk_42 (dk_at dksX5_judge_1 14 rfl rfl)
theorem dX5_judge_39 : decode cX5_judge 39 = .ok (.getfield 49, 3) := dk_180 0 49 (dk_at dksX5_judge_1 15 rfl rfl)
theorem dX5_judge_42 : decode cX5_judge 42 = .ok (.bipush 24, 2) := dk_16 24 (dk_at dksX5_judge_1 18 rfl rfl)
theorem dX5_judge_44 : decode cX5_judge 44 = .ok (.iload_n 1, 1) := dk_27 (dk_at dksX5_judge_1 20 rfl rfl)
theorem dX5_judge_45 : decode cX5_judge 45 = .ok (.imul, 1) := dk_104 (dk_at dksX5_judge_1 21 rfl rfl)
theorem dX5_judge_46 : decode cX5_judge 46 = .ok (.iload_n 3, 1) := dk_29 (dk_at dksX5_judge_1 22 rfl rfl)
theorem dX5_judge_47 : decode cX5_judge 47 = .ok (.iadd, 1) := dk_96 (dk_at dksX5_judge_1 23 rfl rfl)
theorem dX5_judge_48 : decode cX5_judge 48 = .ok (.iaload, 1) := dk_46 (dk_at dksX5_judge_2 0 rfl rfl)
theorem dX5_judge_49 : decode cX5_judge 49 = .ok (.aload_n 0, 1) := dk_42 (dk_at dksX5_judge_2 1 rfl rfl)
theorem dX5_judge_50 : decode cX5_judge 50 = .ok (.getfield 31, 3) := dk_180 0 31 (dk_at dksX5_judge_2 2 rfl rfl)
theorem dX5_judge_53 : decode cX5_judge 53 = .ok (.iload_n 3, 1) := dk_29 (dk_at dksX5_judge_2 5 rfl rfl)
theorem dX5_judge_54 : decode cX5_judge 54 = .ok (.iaload, 1) := dk_46 (dk_at dksX5_judge_2 6 rfl rfl)
theorem dX5_judge_55 : decode cX5_judge 55 = .ok (.if_icmp .ne 9, 3) := dk_160 0 9 (dk_at dksX5_judge_2 7 rfl rfl)
theorem dX5_judge_58 : decode cX5_judge 58 = .ok (.iinc 3 1, 3) := dk_132 3 1 (dk_at dksX5_judge_2 10 rfl rfl)
theorem dX5_judge_61 : decode cX5_judge 61 = .ok (.goto (-39), 3) := dk_167 255 217 (dk_at dksX5_judge_2 13 rfl rfl)
theorem dX5_judge_64 : decode cX5_judge 64 = .ok (.iload_n 3, 1) := dk_29 (dk_at dksX5_judge_2 16 rfl rfl)
theorem dX5_judge_65 : decode cX5_judge 65 = .ok (.ireturn, 1) := dk_172 (dk_at dksX5_judge_2 17 rfl rfl)
abbrev cX5_image : ByteArray := prog_20_method_95_code
def yX5_image : MethodName := ⟨RX5, "image", "()I"⟩
def dkwX5_image_1 : List UInt8 := [180, 1, 31, 172]
abbrev dktX5_image_1 : List UInt8 := dkwX5_image_1 ++ []
def dkwX5_image_0 : List UInt8 := [42, 180, 0, 7, 42, 180, 0, 13, 184, 0, 226, 42, 89, 180, 1, 31, 4, 96, 181, 1, 31, 42]
abbrev dktX5_image_0 : List UInt8 := dkwX5_image_0 ++ dktX5_image_1
theorem dksX5_image_0 : cX5_image.data.toList.drop 0 = dktX5_image_0 := by decide +kernel
theorem dksX5_image_1 : cX5_image.data.toList.drop 22 = dktX5_image_1 := dk_seg dksX5_image_0 22 rfl rfl
theorem dX5_image_0 : decode cX5_image 0 = .ok (.aload_n 0, 1) := dk_42 (dk_at dksX5_image_0 0 rfl rfl)
theorem dX5_image_1 : decode cX5_image 1 = .ok (.getfield 7, 3) := dk_180 0 7 (dk_at dksX5_image_0 1 rfl rfl)
theorem dX5_image_4 : decode cX5_image 4 = .ok (.aload_n 0, 1) := dk_42 (dk_at dksX5_image_0 4 rfl rfl)
theorem dX5_image_5 : decode cX5_image 5 = .ok (.getfield 13, 3) := dk_180 0 13 (dk_at dksX5_image_0 5 rfl rfl)
theorem dX5_image_8 : decode cX5_image 8 = .ok (.invokestatic 226, 3) := dk_184 0 226 (dk_at dksX5_image_0 8 rfl rfl)
theorem dX5_image_11 : decode cX5_image 11 = .ok (.aload_n 0, 1) := dk_42 (dk_at dksX5_image_0 11 rfl rfl)
theorem dX5_image_12 : decode cX5_image 12 = .ok (.dup, 1) := dk_89 (dk_at dksX5_image_0 12 rfl rfl)
theorem dX5_image_13 : decode cX5_image 13 = .ok (.getfield 287, 3) := dk_180 1 31 (dk_at dksX5_image_0 13 rfl rfl)
theorem dX5_image_16 : decode cX5_image 16 = .ok (.iconst 1, 1) := dk_4 (dk_at dksX5_image_0 16 rfl rfl)
theorem dX5_image_17 : decode cX5_image 17 = .ok (.iadd, 1) := dk_96 (dk_at dksX5_image_0 17 rfl rfl)
theorem dX5_image_18 : decode cX5_image 18 = .ok (.putfield 287, 3) := dk_181 1 31 (dk_at dksX5_image_0 18 rfl rfl)
theorem dX5_image_21 : decode cX5_image 21 = .ok (.aload_n 0, 1) := dk_42 (dk_at dksX5_image_0 21 rfl rfl)
theorem dX5_image_22 : decode cX5_image 22 = .ok (.getfield 287, 3) := dk_180 1 31 (dk_at dksX5_image_1 0 rfl rfl)
theorem dX5_image_25 : decode cX5_image 25 = .ok (.ireturn, 1) := dk_172 (dk_at dksX5_image_1 3 rfl rfl)
abbrev cX5_restore : ByteArray := prog_20_method_96_code
def yX5_restore : MethodName := ⟨RX5, "restore", "()I"⟩
def dkwX5_restore_1 : List UInt8 := [42, 180, 0, 7, 4, 46, 172]
abbrev dktX5_restore_1 : List UInt8 := dkwX5_restore_1 ++ []
def dkwX5_restore_0 : List UInt8 := [42, 180, 1, 31, 154, 0, 9, 42, 5, 182, 0, 76, 172, 42, 180, 0, 13, 42, 180, 0, 7, 184, 0, 226]
abbrev dktX5_restore_0 : List UInt8 := dkwX5_restore_0 ++ dktX5_restore_1
theorem dksX5_restore_0 : cX5_restore.data.toList.drop 0 = dktX5_restore_0 := by decide +kernel
theorem dksX5_restore_1 : cX5_restore.data.toList.drop 24 = dktX5_restore_1 := dk_seg dksX5_restore_0 24 rfl rfl
theorem dX5_restore_0 : decode cX5_restore 0 = .ok (.aload_n 0, 1) := dk_42 (dk_at dksX5_restore_0 0 rfl rfl)
theorem dX5_restore_1 : decode cX5_restore 1 = .ok (.getfield 287, 3) := dk_180 1 31 (dk_at dksX5_restore_0 1 rfl rfl)
theorem dX5_restore_4 : decode cX5_restore 4 = .ok (.ifCond .ne 9, 3) := dk_154 0 9 (dk_at dksX5_restore_0 4 rfl rfl)
theorem dX5_restore_7 : decode cX5_restore 7 = .ok (.aload_n 0, 1) := dk_42 (dk_at dksX5_restore_0 7 rfl rfl)
theorem dX5_restore_8 : decode cX5_restore 8 = .ok (.iconst 2, 1) := dk_5 (dk_at dksX5_restore_0 8 rfl rfl)
theorem dX5_restore_9 : decode cX5_restore 9 = .ok (.invokevirtual 76, 3) := dk_182 0 76 (dk_at dksX5_restore_0 9 rfl rfl)
theorem dX5_restore_12 : decode cX5_restore 12 = .ok (.ireturn, 1) := dk_172 (dk_at dksX5_restore_0 12 rfl rfl)
theorem dX5_restore_13 : decode cX5_restore 13 = .ok (.aload_n 0, 1) := dk_42 (dk_at dksX5_restore_0 13 rfl rfl)
theorem dX5_restore_14 : decode cX5_restore 14 = .ok (.getfield 13, 3) := dk_180 0 13 (dk_at dksX5_restore_0 14 rfl rfl)
theorem dX5_restore_17 : decode cX5_restore 17 = .ok (.aload_n 0, 1) := dk_42 (dk_at dksX5_restore_0 17 rfl rfl)
theorem dX5_restore_18 : decode cX5_restore 18 = .ok (.getfield 7, 3) := dk_180 0 7 (dk_at dksX5_restore_0 18 rfl rfl)
theorem dX5_restore_21 : decode cX5_restore 21 = .ok (.invokestatic 226, 3) := dk_184 0 226 (dk_at dksX5_restore_0 21 rfl rfl)
theorem dX5_restore_24 : decode cX5_restore 24 = .ok (.aload_n 0, 1) := dk_42 (dk_at dksX5_restore_1 0 rfl rfl)
theorem dX5_restore_25 : decode cX5_restore 25 = .ok (.getfield 7, 3) := dk_180 0 7 (dk_at dksX5_restore_1 1 rfl rfl)
theorem dX5_restore_28 : decode cX5_restore 28 = .ok (.iconst 1, 1) := dk_4 (dk_at dksX5_restore_1 4 rfl rfl)
theorem dX5_restore_29 : decode cX5_restore 29 = .ok (.iaload, 1) := dk_46 (dk_at dksX5_restore_1 5 rfl rfl)
theorem dX5_restore_30 : decode cX5_restore 30 = .ok (.ireturn, 1) := dk_172 (dk_at dksX5_restore_1 6 rfl rfl)
abbrev cX5_tell : ByteArray := prog_20_method_97_code
def yX5_tell : MethodName := ⟨RX5, "tell", "(I)I"⟩
def dkwX5_tell_2 : List UInt8 := [46, 172]
abbrev dktX5_tell_2 : List UInt8 := dkwX5_tell_2 ++ []
def dkwX5_tell_1 : List UInt8 := [42, 180, 0, 7, 7, 46, 96, 27, 79, 42, 180, 0, 7, 7, 92, 46, 4, 96, 79, 42, 180, 0, 7, 7]
abbrev dktX5_tell_1 : List UInt8 := dkwX5_tell_1 ++ dktX5_tell_2
def dkwX5_tell_0 : List UInt8 := [42, 180, 0, 7, 7, 46, 16, 24, 160, 0, 9, 42, 7, 182, 0, 76, 172, 42, 180, 0, 7, 17, 1, 169]
abbrev dktX5_tell_0 : List UInt8 := dkwX5_tell_0 ++ dktX5_tell_1
theorem dksX5_tell_0 : cX5_tell.data.toList.drop 0 = dktX5_tell_0 := by decide +kernel
theorem dksX5_tell_1 : cX5_tell.data.toList.drop 24 = dktX5_tell_1 := dk_seg dksX5_tell_0 24 rfl rfl
theorem dksX5_tell_2 : cX5_tell.data.toList.drop 48 = dktX5_tell_2 := dk_seg dksX5_tell_1 24 rfl rfl
theorem dX5_tell_0 : decode cX5_tell 0 = .ok (.aload_n 0, 1) := dk_42 (dk_at dksX5_tell_0 0 rfl rfl)
theorem dX5_tell_1 : decode cX5_tell 1 = .ok (.getfield 7, 3) := dk_180 0 7 (dk_at dksX5_tell_0 1 rfl rfl)
theorem dX5_tell_4 : decode cX5_tell 4 = .ok (.iconst 4, 1) := dk_7 (dk_at dksX5_tell_0 4 rfl rfl)
theorem dX5_tell_5 : decode cX5_tell 5 = .ok (.iaload, 1) := dk_46 (dk_at dksX5_tell_0 5 rfl rfl)
theorem dX5_tell_6 : decode cX5_tell 6 = .ok (.bipush 24, 2) := dk_16 24 (dk_at dksX5_tell_0 6 rfl rfl)
theorem dX5_tell_8 : decode cX5_tell 8 = .ok (.if_icmp .ne 9, 3) := dk_160 0 9 (dk_at dksX5_tell_0 8 rfl rfl)
theorem dX5_tell_11 : decode cX5_tell 11 = .ok (.aload_n 0, 1) := dk_42 (dk_at dksX5_tell_0 11 rfl rfl)
theorem dX5_tell_12 : decode cX5_tell 12 = .ok (.iconst 4, 1) := dk_7 (dk_at dksX5_tell_0 12 rfl rfl)
theorem dX5_tell_13 : decode cX5_tell 13 = .ok (.invokevirtual 76, 3) := dk_182 0 76 (dk_at dksX5_tell_0 13 rfl rfl)
theorem dX5_tell_16 : decode cX5_tell 16 = .ok (.ireturn, 1) := dk_172 (dk_at dksX5_tell_0 16 rfl rfl)
theorem dX5_tell_17 : decode cX5_tell 17 = .ok (.aload_n 0, 1) := dk_42 (dk_at dksX5_tell_0 17 rfl rfl)
theorem dX5_tell_18 : decode cX5_tell 18 = .ok (.getfield 7, 3) := dk_180 0 7 (dk_at dksX5_tell_0 18 rfl rfl)
theorem dX5_tell_21 : decode cX5_tell 21 = .ok (.sipush 425, 3) := dk_17 1 169 (dk_at dksX5_tell_0 21 rfl rfl)
theorem dX5_tell_24 : decode cX5_tell 24 = .ok (.aload_n 0, 1) := dk_42 (dk_at dksX5_tell_1 0 rfl rfl)
theorem dX5_tell_25 : decode cX5_tell 25 = .ok (.getfield 7, 3) := dk_180 0 7 (dk_at dksX5_tell_1 1 rfl rfl)
theorem dX5_tell_28 : decode cX5_tell 28 = .ok (.iconst 4, 1) := dk_7 (dk_at dksX5_tell_1 4 rfl rfl)
theorem dX5_tell_29 : decode cX5_tell 29 = .ok (.iaload, 1) := dk_46 (dk_at dksX5_tell_1 5 rfl rfl)
theorem dX5_tell_30 : decode cX5_tell 30 = .ok (.iadd, 1) := dk_96 (dk_at dksX5_tell_1 6 rfl rfl)
theorem dX5_tell_31 : decode cX5_tell 31 = .ok (.iload_n 1, 1) := dk_27 (dk_at dksX5_tell_1 7 rfl rfl)
theorem dX5_tell_32 : decode cX5_tell 32 = .ok (.iastore, 1) := dk_79 (dk_at dksX5_tell_1 8 rfl rfl)
theorem dX5_tell_33 : decode cX5_tell 33 = .ok (.aload_n 0, 1) := dk_42 (dk_at dksX5_tell_1 9 rfl rfl)
theorem dX5_tell_34 : decode cX5_tell 34 = .ok (.getfield 7, 3) := dk_180 0 7 (dk_at dksX5_tell_1 10 rfl rfl)
theorem dX5_tell_37 : decode cX5_tell 37 = .ok (.iconst 4, 1) := dk_7 (dk_at dksX5_tell_1 13 rfl rfl)
theorem dX5_tell_38 : decode cX5_tell 38 = .ok (.dup2, 1) := dk_92 (dk_at dksX5_tell_1 14 rfl rfl)
theorem dX5_tell_39 : decode cX5_tell 39 = .ok (.iaload, 1) := dk_46 (dk_at dksX5_tell_1 15 rfl rfl)
theorem dX5_tell_40 : decode cX5_tell 40 = .ok (.iconst 1, 1) := dk_4 (dk_at dksX5_tell_1 16 rfl rfl)
theorem dX5_tell_41 : decode cX5_tell 41 = .ok (.iadd, 1) := dk_96 (dk_at dksX5_tell_1 17 rfl rfl)
theorem dX5_tell_42 : decode cX5_tell 42 = .ok (.iastore, 1) := dk_79 (dk_at dksX5_tell_1 18 rfl rfl)
theorem dX5_tell_43 : decode cX5_tell 43 = .ok (.aload_n 0, 1) := dk_42 (dk_at dksX5_tell_1 19 rfl rfl)
theorem dX5_tell_44 : decode cX5_tell 44 = .ok (.getfield 7, 3) := dk_180 0 7 (dk_at dksX5_tell_1 20 rfl rfl)
theorem dX5_tell_47 : decode cX5_tell 47 = .ok (.iconst 4, 1) := dk_7 (dk_at dksX5_tell_1 23 rfl rfl)
theorem dX5_tell_48 : decode cX5_tell 48 = .ok (.iaload, 1) := dk_46 (dk_at dksX5_tell_2 0 rfl rfl)
theorem dX5_tell_49 : decode cX5_tell 49 = .ok (.ireturn, 1) := dk_172 (dk_at dksX5_tell_2 1 rfl rfl)
abbrev cX5_check : ByteArray := prog_20_method_98_code
def yX5_check : MethodName := ⟨RX5, "check", "(I)I"⟩
def dkwX5_check_5 : List UInt8 := [167, 0, 6, 4, 29, 96, 172]
abbrev dktX5_check_5 : List UInt8 := dkwX5_check_5 ++ []
def dkwX5_check_4 : List UInt8 := [3, 96, 62, 167, 255, 203, 42, 180, 0, 16, 42, 180, 0, 7, 184, 0, 226, 21, 4, 153, 0, 7, 3]
abbrev dktX5_check_4 : List UInt8 := dkwX5_check_4 ++ dktX5_check_5
def dkwX5_check_3 : List UInt8 := [8, 182, 0, 90, 160, 0, 7, 4, 167, 0, 4, 3, 54, 4, 29, 21, 4, 153, 0, 7, 4, 167, 0, 4]
abbrev dktX5_check_3 : List UInt8 := dkwX5_check_3 ++ dktX5_check_4
def dkwX5_check_2 : List UInt8 := [162, 0, 54, 21, 4, 153, 0, 49, 42, 182, 0, 209, 42, 180, 0, 7, 17, 1, 169, 29, 96, 46, 42, 27]
abbrev dktX5_check_2 : List UInt8 := dkwX5_check_2 ++ dktX5_check_3
def dkwX5_check_1 : List UInt8 := [182, 0, 76, 172, 42, 180, 0, 7, 42, 180, 0, 16, 184, 0, 226, 3, 62, 4, 54, 4, 29, 28]
abbrev dktX5_check_1 : List UInt8 := dkwX5_check_1 ++ dktX5_check_2
def dkwX5_check_0 : List UInt8 := [42, 180, 0, 7, 7, 46, 61, 42, 180, 0, 7, 7, 3, 79, 42, 27, 182, 0, 112, 154, 0, 9, 42, 4]
abbrev dktX5_check_0 : List UInt8 := dkwX5_check_0 ++ dktX5_check_1
theorem dksX5_check_0 : cX5_check.data.toList.drop 0 = dktX5_check_0 := by decide +kernel
theorem dksX5_check_1 : cX5_check.data.toList.drop 24 = dktX5_check_1 := dk_seg dksX5_check_0 24 rfl rfl
theorem dksX5_check_2 : cX5_check.data.toList.drop 46 = dktX5_check_2 := dk_seg dksX5_check_1 22 rfl rfl
theorem dksX5_check_3 : cX5_check.data.toList.drop 70 = dktX5_check_3 := dk_seg dksX5_check_2 24 rfl rfl
theorem dksX5_check_4 : cX5_check.data.toList.drop 94 = dktX5_check_4 := dk_seg dksX5_check_3 24 rfl rfl
theorem dksX5_check_5 : cX5_check.data.toList.drop 117 = dktX5_check_5 := dk_seg dksX5_check_4 23 rfl rfl
theorem dX5_check_0 : decode cX5_check 0 = .ok (.aload_n 0, 1) := dk_42 (dk_at dksX5_check_0 0 rfl rfl)
theorem dX5_check_1 : decode cX5_check 1 = .ok (.getfield 7, 3) := dk_180 0 7 (dk_at dksX5_check_0 1 rfl rfl)
theorem dX5_check_4 : decode cX5_check 4 = .ok (.iconst 4, 1) := dk_7 (dk_at dksX5_check_0 4 rfl rfl)
theorem dX5_check_5 : decode cX5_check 5 = .ok (.iaload, 1) := dk_46 (dk_at dksX5_check_0 5 rfl rfl)
theorem dX5_check_6 : decode cX5_check 6 = .ok (.istore_n 2, 1) := dk_61 (dk_at dksX5_check_0 6 rfl rfl)
theorem dX5_check_7 : decode cX5_check 7 = .ok (.aload_n 0, 1) := dk_42 (dk_at dksX5_check_0 7 rfl rfl)
theorem dX5_check_8 : decode cX5_check 8 = .ok (.getfield 7, 3) := dk_180 0 7 (dk_at dksX5_check_0 8 rfl rfl)
theorem dX5_check_11 : decode cX5_check 11 = .ok (.iconst 4, 1) := dk_7 (dk_at dksX5_check_0 11 rfl rfl)
theorem dX5_check_12 : decode cX5_check 12 = .ok (.iconst 0, 1) := dk_3 (dk_at dksX5_check_0 12 rfl rfl)
theorem dX5_check_13 : decode cX5_check 13 = .ok (.iastore, 1) := dk_79 (dk_at dksX5_check_0 13 rfl rfl)
theorem dX5_check_14 : decode cX5_check 14 = .ok (.aload_n 0, 1) := dk_42 (dk_at dksX5_check_0 14 rfl rfl)
theorem dX5_check_15 : decode cX5_check 15 = .ok (.iload_n 1, 1) := dk_27 (dk_at dksX5_check_0 15 rfl rfl)
theorem dX5_check_16 : decode cX5_check 16 = .ok (.invokevirtual 112, 3) := dk_182 0 112 (dk_at dksX5_check_0 16 rfl rfl)
theorem dX5_check_19 : decode cX5_check 19 = .ok (.ifCond .ne 9, 3) := dk_154 0 9 (dk_at dksX5_check_0 19 rfl rfl)
theorem dX5_check_22 : decode cX5_check 22 = .ok (.aload_n 0, 1) := dk_42 (dk_at dksX5_check_0 22 rfl rfl)
theorem dX5_check_23 : decode cX5_check 23 = .ok (.iconst 1, 1) := dk_4 (dk_at dksX5_check_0 23 rfl rfl)
theorem dX5_check_24 : decode cX5_check 24 = .ok (.invokevirtual 76, 3) := dk_182 0 76 (dk_at dksX5_check_1 0 rfl rfl)
theorem dX5_check_27 : decode cX5_check 27 = .ok (.ireturn, 1) := dk_172 (dk_at dksX5_check_1 3 rfl rfl)
theorem dX5_check_28 : decode cX5_check 28 = .ok (.aload_n 0, 1) := dk_42 (dk_at dksX5_check_1 4 rfl rfl)
theorem dX5_check_29 : decode cX5_check 29 = .ok (.getfield 7, 3) := dk_180 0 7 (dk_at dksX5_check_1 5 rfl rfl)
theorem dX5_check_32 : decode cX5_check 32 = .ok (.aload_n 0, 1) := dk_42 (dk_at dksX5_check_1 8 rfl rfl)
theorem dX5_check_33 : decode cX5_check 33 = .ok (.getfield 16, 3) := dk_180 0 16 (dk_at dksX5_check_1 9 rfl rfl)
theorem dX5_check_36 : decode cX5_check 36 = .ok (.invokestatic 226, 3) := dk_184 0 226 (dk_at dksX5_check_1 12 rfl rfl)
theorem dX5_check_39 : decode cX5_check 39 = .ok (.iconst 0, 1) := dk_3 (dk_at dksX5_check_1 15 rfl rfl)
theorem dX5_check_40 : decode cX5_check 40 = .ok (.istore_n 3, 1) := dk_62 (dk_at dksX5_check_1 16 rfl rfl)
theorem dX5_check_41 : decode cX5_check 41 = .ok (.iconst 1, 1) := dk_4 (dk_at dksX5_check_1 17 rfl rfl)
theorem dX5_check_42 : decode cX5_check 42 = .ok (.istore 4, 2) := dk_54 4 (dk_at dksX5_check_1 18 rfl rfl)
theorem dX5_check_44 : decode cX5_check 44 = .ok (.iload_n 3, 1) := dk_29 (dk_at dksX5_check_1 20 rfl rfl)
theorem dX5_check_45 : decode cX5_check 45 = .ok (.iload_n 2, 1) := dk_28 (dk_at dksX5_check_1 21 rfl rfl)
theorem dX5_check_46 : decode cX5_check 46 = .ok (.if_icmp .ge 54, 3) := dk_162 0 54 (dk_at dksX5_check_2 0 rfl rfl)
theorem dX5_check_49 : decode cX5_check 49 = .ok (.iload 4, 2) := dk_21 4 (dk_at dksX5_check_2 3 rfl rfl)
theorem dX5_check_51 : decode cX5_check 51 = .ok (.ifCond .eq 49, 3) := dk_153 0 49 (dk_at dksX5_check_2 5 rfl rfl)
theorem dX5_check_54 : decode cX5_check 54 = .ok (.aload_n 0, 1) := dk_42 (dk_at dksX5_check_2 8 rfl rfl)
theorem dX5_check_55 : decode cX5_check 55 = .ok (.invokevirtual 209, 3) := dk_182 0 209 (dk_at dksX5_check_2 9 rfl rfl)
theorem dX5_check_58 : decode cX5_check 58 = .ok (.aload_n 0, 1) := dk_42 (dk_at dksX5_check_2 12 rfl rfl)
theorem dX5_check_59 : decode cX5_check 59 = .ok (.getfield 7, 3) := dk_180 0 7 (dk_at dksX5_check_2 13 rfl rfl)
theorem dX5_check_62 : decode cX5_check 62 = .ok (.sipush 425, 3) := dk_17 1 169 (dk_at dksX5_check_2 16 rfl rfl)
theorem dX5_check_65 : decode cX5_check 65 = .ok (.iload_n 3, 1) := dk_29 (dk_at dksX5_check_2 19 rfl rfl)
theorem dX5_check_66 : decode cX5_check 66 = .ok (.iadd, 1) := dk_96 (dk_at dksX5_check_2 20 rfl rfl)
theorem dX5_check_67 : decode cX5_check 67 = .ok (.iaload, 1) := dk_46 (dk_at dksX5_check_2 21 rfl rfl)
theorem dX5_check_68 : decode cX5_check 68 = .ok (.aload_n 0, 1) := dk_42 (dk_at dksX5_check_2 22 rfl rfl)
theorem dX5_check_69 : decode cX5_check 69 = .ok (.iload_n 1, 1) := dk_27 (dk_at dksX5_check_2 23 rfl rfl)
theorem dX5_check_70 : decode cX5_check 70 = .ok (.iconst 5, 1) := dk_8 (dk_at dksX5_check_3 0 rfl rfl)
theorem dX5_check_71 : decode cX5_check 71 = .ok (.invokevirtual 90, 3) := dk_182 0 90 (dk_at dksX5_check_3 1 rfl rfl)
theorem dX5_check_74 : decode cX5_check 74 = .ok (.if_icmp .ne 7, 3) := dk_160 0 7 (dk_at dksX5_check_3 4 rfl rfl)
theorem dX5_check_77 : decode cX5_check 77 = .ok (.iconst 1, 1) := dk_4 (dk_at dksX5_check_3 7 rfl rfl)
theorem dX5_check_78 : decode cX5_check 78 = .ok (.goto 4, 3) := dk_167 0 4 (dk_at dksX5_check_3 8 rfl rfl)
theorem dX5_check_81 : decode cX5_check 81 = .ok (.iconst 0, 1) := dk_3 (dk_at dksX5_check_3 11 rfl rfl)
theorem dX5_check_82 : decode cX5_check 82 = .ok (.istore 4, 2) := dk_54 4 (dk_at dksX5_check_3 12 rfl rfl)
theorem dX5_check_84 : decode cX5_check 84 = .ok (.iload_n 3, 1) := dk_29 (dk_at dksX5_check_3 14 rfl rfl)
theorem dX5_check_85 : decode cX5_check 85 = .ok (.iload 4, 2) := dk_21 4 (dk_at dksX5_check_3 15 rfl rfl)
theorem dX5_check_87 : decode cX5_check 87 = .ok (.ifCond .eq 7, 3) := dk_153 0 7 (dk_at dksX5_check_3 17 rfl rfl)
theorem dX5_check_90 : decode cX5_check 90 = .ok (.iconst 1, 1) := dk_4 (dk_at dksX5_check_3 20 rfl rfl)
theorem dX5_check_91 : decode cX5_check 91 = .ok (.goto 4, 3) := dk_167 0 4 (dk_at dksX5_check_3 21 rfl rfl)
theorem dX5_check_94 : decode cX5_check 94 = .ok (.iconst 0, 1) := dk_3 (dk_at dksX5_check_4 0 rfl rfl)
theorem dX5_check_95 : decode cX5_check 95 = .ok (.iadd, 1) := dk_96 (dk_at dksX5_check_4 1 rfl rfl)
theorem dX5_check_96 : decode cX5_check 96 = .ok (.istore_n 3, 1) := dk_62 (dk_at dksX5_check_4 2 rfl rfl)
theorem dX5_check_97 : decode cX5_check 97 = .ok (.goto (-53), 3) := dk_167 255 203 (dk_at dksX5_check_4 3 rfl rfl)
theorem dX5_check_100 : decode cX5_check 100 = .ok (.aload_n 0, 1) := dk_42 (dk_at dksX5_check_4 6 rfl rfl)
theorem dX5_check_101 : decode cX5_check 101 = .ok (.getfield 16, 3) := dk_180 0 16 (dk_at dksX5_check_4 7 rfl rfl)
theorem dX5_check_104 : decode cX5_check 104 = .ok (.aload_n 0, 1) := dk_42 (dk_at dksX5_check_4 10 rfl rfl)
theorem dX5_check_105 : decode cX5_check 105 = .ok (.getfield 7, 3) := dk_180 0 7 (dk_at dksX5_check_4 11 rfl rfl)
theorem dX5_check_108 : decode cX5_check 108 = .ok (.invokestatic 226, 3) := dk_184 0 226 (dk_at dksX5_check_4 14 rfl rfl)
theorem dX5_check_111 : decode cX5_check 111 = .ok (.iload 4, 2) := dk_21 4 (dk_at dksX5_check_4 17 rfl rfl)
theorem dX5_check_113 : decode cX5_check 113 = .ok (.ifCond .eq 7, 3) := dk_153 0 7 (dk_at dksX5_check_4 19 rfl rfl)
theorem dX5_check_116 : decode cX5_check 116 = .ok (.iconst 0, 1) := dk_3 (dk_at dksX5_check_4 22 rfl rfl)
theorem dX5_check_117 : decode cX5_check 117 = .ok (.goto 6, 3) := dk_167 0 6 (dk_at dksX5_check_5 0 rfl rfl)
theorem dX5_check_120 : decode cX5_check 120 = .ok (.iconst 1, 1) := dk_4 (dk_at dksX5_check_5 3 rfl rfl)
theorem dX5_check_121 : decode cX5_check 121 = .ok (.iload_n 3, 1) := dk_29 (dk_at dksX5_check_5 4 rfl rfl)
theorem dX5_check_122 : decode cX5_check 122 = .ok (.iadd, 1) := dk_96 (dk_at dksX5_check_5 5 rfl rfl)
theorem dX5_check_123 : decode cX5_check 123 = .ok (.ireturn, 1) := dk_172 (dk_at dksX5_check_5 6 rfl rfl)
abbrev cX5_count : ByteArray := prog_20_method_99_code
def yX5_count : MethodName := ⟨RX5, "count", "(I)I"⟩
def dkwX5_count_6 : List UInt8 := [180, 0, 7, 8, 46, 172, 42, 4, 182, 0, 76, 172]
abbrev dktX5_count_6 : List UInt8 := dkwX5_count_6 ++ []
def dkwX5_count_5 : List UInt8 := [182, 0, 216, 172, 42, 180, 0, 7, 6, 46, 172, 42, 180, 0, 7, 7, 46, 172, 42, 180, 0, 247, 172, 42]
abbrev dktX5_count_5 : List UInt8 := dkwX5_count_5 ++ dktX5_count_6
def dkwX5_count_4 : List UInt8 := [96, 46, 172, 42, 180, 0, 31, 16, 12, 46, 172, 42, 180, 0, 194, 172, 42, 180, 0, 7, 5, 46, 172, 42]
abbrev dktX5_count_4 : List UInt8 := dkwX5_count_4 ++ dktX5_count_5
def dkwX5_count_3 : List UInt8 := [42, 180, 0, 7, 3, 46, 172, 42, 180, 0, 7, 4, 46, 172, 42, 180, 0, 7, 16, 6, 42, 182, 0, 179]
abbrev dktX5_count_3 : List UInt8 := dkwX5_count_3 ++ dktX5_count_4
def dkwX5_count_2 : List UInt8 := [170, 0, 0, 0, 0, 0, 137, 0, 0, 0, 0, 0, 0, 0, 10, 0, 0, 0, 59, 0, 0, 0, 66, 0, 0, 0, 73, 0, 0, 0, 86, 0, 0, 0, 94, 0, 0, 0, 99, 0, 0, 0, 106, 0, 0, 0, 111, 0, 0, 0, 118, 0, 0, 0, 125, 0, 0, 0, 130]
abbrev dktX5_count_2 : List UInt8 := dkwX5_count_2 ++ dktX5_count_3
def dkwX5_count_1 : List UInt8 := [42, 182, 0, 103, 27]
abbrev dktX5_count_1 : List UInt8 := dkwX5_count_1 ++ dktX5_count_2
def dkwX5_count_0 : List UInt8 := [27, 16, 11, 16, 22, 184, 0, 56, 153, 0, 16, 42, 180, 0, 7, 16, 30, 27, 96, 16, 11, 100, 46, 172]
abbrev dktX5_count_0 : List UInt8 := dkwX5_count_0 ++ dktX5_count_1
theorem dksX5_count_0 : cX5_count.data.toList.drop 0 = dktX5_count_0 := by decide +kernel
theorem dksX5_count_1 : cX5_count.data.toList.drop 24 = dktX5_count_1 := dk_seg dksX5_count_0 24 rfl rfl
theorem dksX5_count_2 : cX5_count.data.toList.drop 29 = dktX5_count_2 := dk_seg dksX5_count_1 5 rfl rfl
theorem dksX5_count_3 : cX5_count.data.toList.drop 88 = dktX5_count_3 := dk_seg dksX5_count_2 59 rfl rfl
theorem dksX5_count_4 : cX5_count.data.toList.drop 112 = dktX5_count_4 := dk_seg dksX5_count_3 24 rfl rfl
theorem dksX5_count_5 : cX5_count.data.toList.drop 136 = dktX5_count_5 := dk_seg dksX5_count_4 24 rfl rfl
theorem dksX5_count_6 : cX5_count.data.toList.drop 160 = dktX5_count_6 := dk_seg dksX5_count_5 24 rfl rfl
theorem dX5_count_0 : decode cX5_count 0 = .ok (.iload_n 1, 1) := dk_27 (dk_at dksX5_count_0 0 rfl rfl)
theorem dX5_count_1 : decode cX5_count 1 = .ok (.bipush 11, 2) := dk_16 11 (dk_at dksX5_count_0 1 rfl rfl)
theorem dX5_count_3 : decode cX5_count 3 = .ok (.bipush 22, 2) := dk_16 22 (dk_at dksX5_count_0 3 rfl rfl)
theorem dX5_count_5 : decode cX5_count 5 = .ok (.invokestatic 56, 3) := dk_184 0 56 (dk_at dksX5_count_0 5 rfl rfl)
theorem dX5_count_8 : decode cX5_count 8 = .ok (.ifCond .eq 16, 3) := dk_153 0 16 (dk_at dksX5_count_0 8 rfl rfl)
theorem dX5_count_11 : decode cX5_count 11 = .ok (.aload_n 0, 1) := dk_42 (dk_at dksX5_count_0 11 rfl rfl)
theorem dX5_count_12 : decode cX5_count 12 = .ok (.getfield 7, 3) := dk_180 0 7 (dk_at dksX5_count_0 12 rfl rfl)
theorem dX5_count_15 : decode cX5_count 15 = .ok (.bipush 30, 2) := dk_16 30 (dk_at dksX5_count_0 15 rfl rfl)
theorem dX5_count_17 : decode cX5_count 17 = .ok (.iload_n 1, 1) := dk_27 (dk_at dksX5_count_0 17 rfl rfl)
theorem dX5_count_18 : decode cX5_count 18 = .ok (.iadd, 1) := dk_96 (dk_at dksX5_count_0 18 rfl rfl)
theorem dX5_count_19 : decode cX5_count 19 = .ok (.bipush 11, 2) := dk_16 11 (dk_at dksX5_count_0 19 rfl rfl)
theorem dX5_count_21 : decode cX5_count 21 = .ok (.isub, 1) := dk_100 (dk_at dksX5_count_0 21 rfl rfl)
theorem dX5_count_22 : decode cX5_count 22 = .ok (.iaload, 1) := dk_46 (dk_at dksX5_count_0 22 rfl rfl)
theorem dX5_count_23 : decode cX5_count 23 = .ok (.ireturn, 1) := dk_172 (dk_at dksX5_count_0 23 rfl rfl)
theorem dX5_count_24 : decode cX5_count 24 = .ok (.aload_n 0, 1) := dk_42 (dk_at dksX5_count_1 0 rfl rfl)
theorem dX5_count_25 : decode cX5_count 25 = .ok (.invokevirtual 103, 3) := dk_182 0 103 (dk_at dksX5_count_1 1 rfl rfl)
theorem dX5_count_28 : decode cX5_count 28 = .ok (.iload_n 1, 1) := dk_27 (dk_at dksX5_count_1 4 rfl rfl)
theorem dX5_count_29 : decode cX5_count 29 = .ok (.tableswitch 137 0 10 #[59, 66, 73, 86, 94, 99, 106, 111, 118, 125, 130], 59) := by decide +kernel
theorem dX5_count_88 : decode cX5_count 88 = .ok (.aload_n 0, 1) := dk_42 (dk_at dksX5_count_3 0 rfl rfl)
theorem dX5_count_89 : decode cX5_count 89 = .ok (.getfield 7, 3) := dk_180 0 7 (dk_at dksX5_count_3 1 rfl rfl)
theorem dX5_count_92 : decode cX5_count 92 = .ok (.iconst 0, 1) := dk_3 (dk_at dksX5_count_3 4 rfl rfl)
theorem dX5_count_93 : decode cX5_count 93 = .ok (.iaload, 1) := dk_46 (dk_at dksX5_count_3 5 rfl rfl)
theorem dX5_count_94 : decode cX5_count 94 = .ok (.ireturn, 1) := dk_172 (dk_at dksX5_count_3 6 rfl rfl)
theorem dX5_count_95 : decode cX5_count 95 = .ok (.aload_n 0, 1) := dk_42 (dk_at dksX5_count_3 7 rfl rfl)
theorem dX5_count_96 : decode cX5_count 96 = .ok (.getfield 7, 3) := dk_180 0 7 (dk_at dksX5_count_3 8 rfl rfl)
theorem dX5_count_99 : decode cX5_count 99 = .ok (.iconst 1, 1) := dk_4 (dk_at dksX5_count_3 11 rfl rfl)
theorem dX5_count_100 : decode cX5_count 100 = .ok (.iaload, 1) := dk_46 (dk_at dksX5_count_3 12 rfl rfl)
theorem dX5_count_101 : decode cX5_count 101 = .ok (.ireturn, 1) := dk_172 (dk_at dksX5_count_3 13 rfl rfl)
theorem dX5_count_102 : decode cX5_count 102 = .ok (.aload_n 0, 1) := dk_42 (dk_at dksX5_count_3 14 rfl rfl)
theorem dX5_count_103 : decode cX5_count 103 = .ok (.getfield 7, 3) := dk_180 0 7 (dk_at dksX5_count_3 15 rfl rfl)
theorem dX5_count_106 : decode cX5_count 106 = .ok (.bipush 6, 2) := dk_16 6 (dk_at dksX5_count_3 18 rfl rfl)
theorem dX5_count_108 : decode cX5_count 108 = .ok (.aload_n 0, 1) := dk_42 (dk_at dksX5_count_3 20 rfl rfl)
theorem dX5_count_109 : decode cX5_count 109 = .ok (.invokevirtual 179, 3) := dk_182 0 179 (dk_at dksX5_count_3 21 rfl rfl)
theorem dX5_count_112 : decode cX5_count 112 = .ok (.iadd, 1) := dk_96 (dk_at dksX5_count_4 0 rfl rfl)
theorem dX5_count_113 : decode cX5_count 113 = .ok (.iaload, 1) := dk_46 (dk_at dksX5_count_4 1 rfl rfl)
theorem dX5_count_114 : decode cX5_count 114 = .ok (.ireturn, 1) := dk_172 (dk_at dksX5_count_4 2 rfl rfl)
theorem dX5_count_115 : decode cX5_count 115 = .ok (.aload_n 0, 1) := dk_42 (dk_at dksX5_count_4 3 rfl rfl)
theorem dX5_count_116 : decode cX5_count 116 = .ok (.getfield 31, 3) := dk_180 0 31 (dk_at dksX5_count_4 4 rfl rfl)
theorem dX5_count_119 : decode cX5_count 119 = .ok (.bipush 12, 2) := dk_16 12 (dk_at dksX5_count_4 7 rfl rfl)
theorem dX5_count_121 : decode cX5_count 121 = .ok (.iaload, 1) := dk_46 (dk_at dksX5_count_4 9 rfl rfl)
theorem dX5_count_122 : decode cX5_count 122 = .ok (.ireturn, 1) := dk_172 (dk_at dksX5_count_4 10 rfl rfl)
theorem dX5_count_123 : decode cX5_count 123 = .ok (.aload_n 0, 1) := dk_42 (dk_at dksX5_count_4 11 rfl rfl)
theorem dX5_count_124 : decode cX5_count 124 = .ok (.getfield 194, 3) := dk_180 0 194 (dk_at dksX5_count_4 12 rfl rfl)
theorem dX5_count_127 : decode cX5_count 127 = .ok (.ireturn, 1) := dk_172 (dk_at dksX5_count_4 15 rfl rfl)
theorem dX5_count_128 : decode cX5_count 128 = .ok (.aload_n 0, 1) := dk_42 (dk_at dksX5_count_4 16 rfl rfl)
theorem dX5_count_129 : decode cX5_count 129 = .ok (.getfield 7, 3) := dk_180 0 7 (dk_at dksX5_count_4 17 rfl rfl)
theorem dX5_count_132 : decode cX5_count 132 = .ok (.iconst 2, 1) := dk_5 (dk_at dksX5_count_4 20 rfl rfl)
theorem dX5_count_133 : decode cX5_count 133 = .ok (.iaload, 1) := dk_46 (dk_at dksX5_count_4 21 rfl rfl)
theorem dX5_count_134 : decode cX5_count 134 = .ok (.ireturn, 1) := dk_172 (dk_at dksX5_count_4 22 rfl rfl)
theorem dX5_count_135 : decode cX5_count 135 = .ok (.aload_n 0, 1) := dk_42 (dk_at dksX5_count_4 23 rfl rfl)
theorem dX5_count_136 : decode cX5_count 136 = .ok (.invokevirtual 216, 3) := dk_182 0 216 (dk_at dksX5_count_5 0 rfl rfl)
theorem dX5_count_139 : decode cX5_count 139 = .ok (.ireturn, 1) := dk_172 (dk_at dksX5_count_5 3 rfl rfl)
theorem dX5_count_140 : decode cX5_count 140 = .ok (.aload_n 0, 1) := dk_42 (dk_at dksX5_count_5 4 rfl rfl)
theorem dX5_count_141 : decode cX5_count 141 = .ok (.getfield 7, 3) := dk_180 0 7 (dk_at dksX5_count_5 5 rfl rfl)
theorem dX5_count_144 : decode cX5_count 144 = .ok (.iconst 3, 1) := dk_6 (dk_at dksX5_count_5 8 rfl rfl)
theorem dX5_count_145 : decode cX5_count 145 = .ok (.iaload, 1) := dk_46 (dk_at dksX5_count_5 9 rfl rfl)
theorem dX5_count_146 : decode cX5_count 146 = .ok (.ireturn, 1) := dk_172 (dk_at dksX5_count_5 10 rfl rfl)
theorem dX5_count_147 : decode cX5_count 147 = .ok (.aload_n 0, 1) := dk_42 (dk_at dksX5_count_5 11 rfl rfl)
theorem dX5_count_148 : decode cX5_count 148 = .ok (.getfield 7, 3) := dk_180 0 7 (dk_at dksX5_count_5 12 rfl rfl)
theorem dX5_count_151 : decode cX5_count 151 = .ok (.iconst 4, 1) := dk_7 (dk_at dksX5_count_5 15 rfl rfl)
theorem dX5_count_152 : decode cX5_count 152 = .ok (.iaload, 1) := dk_46 (dk_at dksX5_count_5 16 rfl rfl)
theorem dX5_count_153 : decode cX5_count 153 = .ok (.ireturn, 1) := dk_172 (dk_at dksX5_count_5 17 rfl rfl)
theorem dX5_count_154 : decode cX5_count 154 = .ok (.aload_n 0, 1) := dk_42 (dk_at dksX5_count_5 18 rfl rfl)
theorem dX5_count_155 : decode cX5_count 155 = .ok (.getfield 247, 3) := dk_180 0 247 (dk_at dksX5_count_5 19 rfl rfl)
theorem dX5_count_158 : decode cX5_count 158 = .ok (.ireturn, 1) := dk_172 (dk_at dksX5_count_5 22 rfl rfl)
theorem dX5_count_159 : decode cX5_count 159 = .ok (.aload_n 0, 1) := dk_42 (dk_at dksX5_count_5 23 rfl rfl)
theorem dX5_count_160 : decode cX5_count 160 = .ok (.getfield 7, 3) := dk_180 0 7 (dk_at dksX5_count_6 0 rfl rfl)
theorem dX5_count_163 : decode cX5_count 163 = .ok (.iconst 5, 1) := dk_8 (dk_at dksX5_count_6 3 rfl rfl)
theorem dX5_count_164 : decode cX5_count 164 = .ok (.iaload, 1) := dk_46 (dk_at dksX5_count_6 4 rfl rfl)
theorem dX5_count_165 : decode cX5_count 165 = .ok (.ireturn, 1) := dk_172 (dk_at dksX5_count_6 5 rfl rfl)
theorem dX5_count_166 : decode cX5_count 166 = .ok (.aload_n 0, 1) := dk_42 (dk_at dksX5_count_6 6 rfl rfl)
theorem dX5_count_167 : decode cX5_count 167 = .ok (.iconst 1, 1) := dk_4 (dk_at dksX5_count_6 7 rfl rfl)
theorem dX5_count_168 : decode cX5_count 168 = .ok (.invokevirtual 76, 3) := dk_182 0 76 (dk_at dksX5_count_6 8 rfl rfl)
theorem dX5_count_171 : decode cX5_count 171 = .ok (.ireturn, 1) := dk_172 (dk_at dksX5_count_6 11 rfl rfl)
abbrev cX5_told : ByteArray := prog_20_method_100_code
def yX5_told : MethodName := ⟨RX5, "told", "(I)I"⟩
def dkwX5_told_1 : List UInt8 := [172]
abbrev dktX5_told_1 : List UInt8 := dkwX5_told_1 ++ []
def dkwX5_told_0 : List UInt8 := [27, 4, 16, 6, 184, 0, 56, 153, 0, 12, 42, 180, 0, 19, 27, 46, 167, 0, 8, 42, 4, 182, 0, 76]
abbrev dktX5_told_0 : List UInt8 := dkwX5_told_0 ++ dktX5_told_1
theorem dksX5_told_0 : cX5_told.data.toList.drop 0 = dktX5_told_0 := by decide +kernel
theorem dksX5_told_1 : cX5_told.data.toList.drop 24 = dktX5_told_1 := dk_seg dksX5_told_0 24 rfl rfl
theorem dX5_told_0 : decode cX5_told 0 = .ok (.iload_n 1, 1) := dk_27 (dk_at dksX5_told_0 0 rfl rfl)
theorem dX5_told_1 : decode cX5_told 1 = .ok (.iconst 1, 1) := dk_4 (dk_at dksX5_told_0 1 rfl rfl)
theorem dX5_told_2 : decode cX5_told 2 = .ok (.bipush 6, 2) := dk_16 6 (dk_at dksX5_told_0 2 rfl rfl)
theorem dX5_told_4 : decode cX5_told 4 = .ok (.invokestatic 56, 3) := dk_184 0 56 (dk_at dksX5_told_0 4 rfl rfl)
theorem dX5_told_7 : decode cX5_told 7 = .ok (.ifCond .eq 12, 3) := dk_153 0 12 (dk_at dksX5_told_0 7 rfl rfl)
theorem dX5_told_10 : decode cX5_told 10 = .ok (.aload_n 0, 1) := dk_42 (dk_at dksX5_told_0 10 rfl rfl)
theorem dX5_told_11 : decode cX5_told 11 = .ok (.getfield 19, 3) := dk_180 0 19 (dk_at dksX5_told_0 11 rfl rfl)
theorem dX5_told_14 : decode cX5_told 14 = .ok (.iload_n 1, 1) := dk_27 (dk_at dksX5_told_0 14 rfl rfl)
theorem dX5_told_15 : decode cX5_told 15 = .ok (.iaload, 1) := dk_46 (dk_at dksX5_told_0 15 rfl rfl)
theorem dX5_told_16 : decode cX5_told 16 = .ok (.goto 8, 3) := dk_167 0 8 (dk_at dksX5_told_0 16 rfl rfl)
theorem dX5_told_19 : decode cX5_told 19 = .ok (.aload_n 0, 1) := dk_42 (dk_at dksX5_told_0 19 rfl rfl)
theorem dX5_told_20 : decode cX5_told 20 = .ok (.iconst 1, 1) := dk_4 (dk_at dksX5_told_0 20 rfl rfl)
theorem dX5_told_21 : decode cX5_told 21 = .ok (.invokevirtual 76, 3) := dk_182 0 76 (dk_at dksX5_told_0 21 rfl rfl)
theorem dX5_told_24 : decode cX5_told 24 = .ok (.ireturn, 1) := dk_172 (dk_at dksX5_told_1 0 rfl rfl)
theorem q88 : (Jvm.Cond.initialized "WheelBrookModel") ∈ lw_all := lw_g (lw_at lw_m1 6 rfl) rfl
theorem q1291 : (Jvm.Cond.instantiable "WheelBrookModel" (27 : Nat)) ∈ lw_all := lw_g (lw_at lw_m6 9 rfl) rfl
theorem q1293 : (Jvm.Cond.instanceMethod ({ cls := "WheelBrookModel", name := "<init>", desc := "()V" } : Jvm.MethodName)) ∈ lw_all := lw_g (lw_at lw_m6 11 rfl) rfl
theorem q1294 : (Jvm.Cond.code ({ cls := "WheelBrookModel", name := "<init>", desc := "()V" } : Jvm.MethodName) prog_20_method_1_code (2 : Nat) (Option.none : Option Jvm.ClassFile.FieldType)) ∈ lw_all := lw_g (lw_at lw_m6 12 rfl) rfl
theorem q1295 : (Jvm.Cond.methodLink "WheelBrookModel" (1 : Nat) ({ cls := "java/lang/Object", name := "<init>", desc := "()V" } : Jvm.MethodName)) ∈ lw_all := lw_g (lw_at lw_m6 13 rfl) rfl
theorem q1296 : (Jvm.Cond.fieldLink "WheelBrookModel" (7 : Nat) "WheelBrookModel" "s" "[I") ∈ lw_all := lw_g (lw_at lw_m6 14 rfl) rfl
theorem q1297 : (Jvm.Cond.fieldLink "WheelBrookModel" (13 : Nat) "WheelBrookModel" "kept" "[I") ∈ lw_all := lw_g (lw_at lw_m6 15 rfl) rfl
theorem q1298 : (Jvm.Cond.fieldLink "WheelBrookModel" (16 : Nat) "WheelBrookModel" "put" "[I") ∈ lw_all := lw_g (lw_at lw_m6 16 rfl) rfl
theorem q1299 : (Jvm.Cond.fieldLink "WheelBrookModel" (287 : Nat) "WheelBrookModel" "images" "I") ∈ lw_all := lw_g (lw_at lw_m6 17 rfl) rfl
theorem q1300 : (Jvm.Cond.fieldLink "WheelBrookModel" (19 : Nat) "WheelBrookModel" "errors" "[I") ∈ lw_all := lw_g (lw_at lw_m6 18 rfl) rfl
theorem q1301 : (Jvm.Cond.fieldLink "WheelBrookModel" (127 : Nat) "WheelBrookModel" "at" "I") ∈ lw_all := lw_g (lw_at lw_m6 19 rfl) rfl
theorem q1302 : (Jvm.Cond.fieldLink "WheelBrookModel" (161 : Nat) "WheelBrookModel" "open" "I") ∈ lw_all := lw_g (lw_at lw_m6 20 rfl) rfl
theorem q1303 : (Jvm.Cond.fieldLink "WheelBrookModel" (134 : Nat) "WheelBrookModel" "steps" "I") ∈ lw_all := lw_g (lw_at lw_m6 21 rfl) rfl
theorem q1304 : (Jvm.Cond.fieldLink "WheelBrookModel" (131 : Nat) "WheelBrookModel" "use" "I") ∈ lw_all := lw_g (lw_at lw_m6 22 rfl) rfl
theorem q1305 : (Jvm.Cond.fieldLink "WheelBrookModel" (22 : Nat) "WheelBrookModel" "step" "[I") ∈ lw_all := lw_g (lw_at lw_m6 23 rfl) rfl
theorem q1306 : (Jvm.Cond.fieldLink "WheelBrookModel" (25 : Nat) "WheelBrookModel" "named" "[I") ∈ lw_all := lw_g (lw_at lw_m6 24 rfl) rfl
theorem q1307 : (Jvm.Cond.fieldLink "WheelBrookModel" (28 : Nat) "WheelBrookModel" "pile" "[I") ∈ lw_all := lw_g (lw_at lw_m6 25 rfl) rfl
theorem q1308 : (Jvm.Cond.fieldLink "WheelBrookModel" (31 : Nat) "WheelBrookModel" "flowing" "[I") ∈ lw_all := lw_g (lw_at lw_m6 26 rfl) rfl
theorem q1309 : (Jvm.Cond.fieldLink "WheelBrookModel" (34 : Nat) "WheelBrookModel" "took" "[I") ∈ lw_all := lw_g (lw_at lw_m6 27 rfl) rfl
theorem q1310 : (Jvm.Cond.fieldLink "WheelBrookModel" (194 : Nat) "WheelBrookModel" "lost" "I") ∈ lw_all := lw_g (lw_at lw_m6 28 rfl) rfl
theorem q1311 : (Jvm.Cond.fieldLink "WheelBrookModel" (197 : Nat) "WheelBrookModel" "taken" "I") ∈ lw_all := lw_g (lw_at lw_m6 29 rfl) rfl
theorem q1312 : (Jvm.Cond.fieldLink "WheelBrookModel" (37 : Nat) "WheelBrookModel" "turned" "[I") ∈ lw_all := lw_g (lw_at lw_m6 30 rfl) rfl
theorem q1313 : (Jvm.Cond.fieldLink "WheelBrookModel" (235 : Nat) "WheelBrookModel" "others" "I") ∈ lw_all := lw_g (lw_at lw_m6 31 rfl) rfl
theorem q1314 : (Jvm.Cond.fieldLink "WheelBrookModel" (238 : Nat) "WheelBrookModel" "own" "I") ∈ lw_all := lw_g (lw_at lw_m6 32 rfl) rfl
theorem q1315 : (Jvm.Cond.fieldLink "WheelBrookModel" (40 : Nat) "WheelBrookModel" "trace" "[I") ∈ lw_all := lw_g (lw_at lw_m6 33 rfl) rfl
theorem q1316 : (Jvm.Cond.fieldLink "WheelBrookModel" (247 : Nat) "WheelBrookModel" "traced" "I") ∈ lw_all := lw_g (lw_at lw_m6 34 rfl) rfl
theorem q1317 : (Jvm.Cond.fieldLink "WheelBrookModel" (250 : Nat) "WheelBrookModel" "speaks" "I") ∈ lw_all := lw_g (lw_at lw_m6 35 rfl) rfl
theorem q1318 : (Jvm.Cond.fieldLink "WheelBrookModel" (274 : Nat) "WheelBrookModel" "isParted" "Z") ∈ lw_all := lw_g (lw_at lw_m6 36 rfl) rfl
theorem q1319 : (Jvm.Cond.fieldLink "WheelBrookModel" (43 : Nat) "WheelBrookModel" "bits" "[I") ∈ lw_all := lw_g (lw_at lw_m6 37 rfl) rfl
theorem q1320 : (Jvm.Cond.fieldLink "WheelBrookModel" (46 : Nat) "WheelBrookModel" "sizes" "[I") ∈ lw_all := lw_g (lw_at lw_m6 38 rfl) rfl
theorem q1321 : (Jvm.Cond.fieldLink "WheelBrookModel" (49 : Nat) "WheelBrookModel" "number" "[I") ∈ lw_all := lw_g (lw_at lw_m6 39 rfl) rfl
theorem q1322 : (Jvm.Cond.fieldLink "WheelBrookModel" (52 : Nat) "WheelBrookModel" "aside" "[I") ∈ lw_all := lw_g (lw_at lw_m6 40 rfl) rfl
theorem q1323 : (Jvm.Cond.laysFinal "WheelBrookModel" "WheelBrookModel" "s" "[I") ∈ lw_all := lw_g (lw_at lw_m6 41 rfl) rfl
theorem q1324 : (Jvm.Cond.soleField "WheelBrookModel" "s") ∈ lw_all := lw_g (lw_at lw_m6 42 rfl) rfl
theorem q1325 : (Jvm.Cond.laysFinal "WheelBrookModel" "WheelBrookModel" "kept" "[I") ∈ lw_all := lw_g (lw_at lw_m6 43 rfl) rfl
theorem q1326 : (Jvm.Cond.soleField "WheelBrookModel" "kept") ∈ lw_all := lw_g (lw_at lw_m6 44 rfl) rfl
theorem q1327 : (Jvm.Cond.laysFinal "WheelBrookModel" "WheelBrookModel" "put" "[I") ∈ lw_all := lw_g (lw_at lw_m6 45 rfl) rfl
theorem q1328 : (Jvm.Cond.soleField "WheelBrookModel" "put") ∈ lw_all := lw_g (lw_at lw_m6 46 rfl) rfl
theorem q1329 : (Jvm.Cond.lays "WheelBrookModel" "WheelBrookModel" "images" "I") ∈ lw_all := lw_g (lw_at lw_m6 47 rfl) rfl
theorem q1330 : (Jvm.Cond.soleField "WheelBrookModel" "images") ∈ lw_all := lw_g (lw_at lw_m6 48 rfl) rfl
theorem q1331 : (Jvm.Cond.laysFinal "WheelBrookModel" "WheelBrookModel" "errors" "[I") ∈ lw_all := lw_g (lw_at lw_m6 49 rfl) rfl
theorem q1332 : (Jvm.Cond.soleField "WheelBrookModel" "errors") ∈ lw_all := lw_g (lw_at lw_m6 50 rfl) rfl
theorem q1333 : (Jvm.Cond.lays "WheelBrookModel" "WheelBrookModel" "at" "I") ∈ lw_all := lw_g (lw_at lw_m6 51 rfl) rfl
theorem q1334 : (Jvm.Cond.soleField "WheelBrookModel" "at") ∈ lw_all := lw_g (lw_at lw_m6 52 rfl) rfl
theorem q1335 : (Jvm.Cond.lays "WheelBrookModel" "WheelBrookModel" "open" "I") ∈ lw_all := lw_g (lw_at lw_m6 53 rfl) rfl
theorem q1336 : (Jvm.Cond.soleField "WheelBrookModel" "open") ∈ lw_all := lw_g (lw_at lw_m6 54 rfl) rfl
theorem q1337 : (Jvm.Cond.lays "WheelBrookModel" "WheelBrookModel" "steps" "I") ∈ lw_all := lw_g (lw_at lw_m6 55 rfl) rfl
theorem q1338 : (Jvm.Cond.soleField "WheelBrookModel" "steps") ∈ lw_all := lw_g (lw_at lw_m6 56 rfl) rfl
theorem q1339 : (Jvm.Cond.lays "WheelBrookModel" "WheelBrookModel" "use" "I") ∈ lw_all := lw_g (lw_at lw_m6 57 rfl) rfl
theorem q1340 : (Jvm.Cond.soleField "WheelBrookModel" "use") ∈ lw_all := lw_g (lw_at lw_m6 58 rfl) rfl
theorem q1341 : (Jvm.Cond.laysFinal "WheelBrookModel" "WheelBrookModel" "step" "[I") ∈ lw_all := lw_g (lw_at lw_m6 59 rfl) rfl
theorem q1342 : (Jvm.Cond.soleField "WheelBrookModel" "step") ∈ lw_all := lw_g (lw_at lw_m6 60 rfl) rfl
theorem q1343 : (Jvm.Cond.laysFinal "WheelBrookModel" "WheelBrookModel" "named" "[I") ∈ lw_all := lw_g (lw_at lw_m6 61 rfl) rfl
theorem q1344 : (Jvm.Cond.soleField "WheelBrookModel" "named") ∈ lw_all := lw_g (lw_at lw_m6 62 rfl) rfl
theorem q1345 : (Jvm.Cond.laysFinal "WheelBrookModel" "WheelBrookModel" "pile" "[I") ∈ lw_all := lw_g (lw_at lw_m6 63 rfl) rfl
theorem q1346 : (Jvm.Cond.soleField "WheelBrookModel" "pile") ∈ lw_all := lw_g (lw_at lw_m6 64 rfl) rfl
theorem q1347 : (Jvm.Cond.laysFinal "WheelBrookModel" "WheelBrookModel" "flowing" "[I") ∈ lw_all := lw_g (lw_at lw_m6 65 rfl) rfl
theorem q1348 : (Jvm.Cond.soleField "WheelBrookModel" "flowing") ∈ lw_all := lw_g (lw_at lw_m6 66 rfl) rfl
theorem q1349 : (Jvm.Cond.laysFinal "WheelBrookModel" "WheelBrookModel" "took" "[I") ∈ lw_all := lw_g (lw_at lw_m6 67 rfl) rfl
theorem q1350 : (Jvm.Cond.soleField "WheelBrookModel" "took") ∈ lw_all := lw_g (lw_at lw_m6 68 rfl) rfl
theorem q1351 : (Jvm.Cond.lays "WheelBrookModel" "WheelBrookModel" "lost" "I") ∈ lw_all := lw_g (lw_at lw_m6 69 rfl) rfl
theorem q1352 : (Jvm.Cond.soleField "WheelBrookModel" "lost") ∈ lw_all := lw_g (lw_at lw_m6 70 rfl) rfl
theorem q1353 : (Jvm.Cond.lays "WheelBrookModel" "WheelBrookModel" "taken" "I") ∈ lw_all := lw_g (lw_at lw_m6 71 rfl) rfl
theorem q1354 : (Jvm.Cond.soleField "WheelBrookModel" "taken") ∈ lw_all := lw_g (lw_at lw_m6 72 rfl) rfl
theorem q1355 : (Jvm.Cond.laysFinal "WheelBrookModel" "WheelBrookModel" "turned" "[I") ∈ lw_all := lw_g (lw_at lw_m6 73 rfl) rfl
theorem q1356 : (Jvm.Cond.soleField "WheelBrookModel" "turned") ∈ lw_all := lw_g (lw_at lw_m6 74 rfl) rfl
theorem q1357 : (Jvm.Cond.lays "WheelBrookModel" "WheelBrookModel" "others" "I") ∈ lw_all := lw_g (lw_at lw_m6 75 rfl) rfl
theorem q1358 : (Jvm.Cond.soleField "WheelBrookModel" "others") ∈ lw_all := lw_g (lw_at lw_m6 76 rfl) rfl
theorem q1359 : (Jvm.Cond.lays "WheelBrookModel" "WheelBrookModel" "own" "I") ∈ lw_all := lw_g (lw_at lw_m6 77 rfl) rfl
theorem q1360 : (Jvm.Cond.soleField "WheelBrookModel" "own") ∈ lw_all := lw_g (lw_at lw_m6 78 rfl) rfl
theorem q1361 : (Jvm.Cond.laysFinal "WheelBrookModel" "WheelBrookModel" "trace" "[I") ∈ lw_all := lw_g (lw_at lw_m6 79 rfl) rfl
theorem q1362 : (Jvm.Cond.soleField "WheelBrookModel" "trace") ∈ lw_all := lw_g (lw_at lw_m6 80 rfl) rfl
theorem q1363 : (Jvm.Cond.lays "WheelBrookModel" "WheelBrookModel" "traced" "I") ∈ lw_all := lw_g (lw_at lw_m6 81 rfl) rfl
theorem q1364 : (Jvm.Cond.soleField "WheelBrookModel" "traced") ∈ lw_all := lw_g (lw_at lw_m6 82 rfl) rfl
theorem q1365 : (Jvm.Cond.lays "WheelBrookModel" "WheelBrookModel" "speaks" "I") ∈ lw_all := lw_g (lw_at lw_m6 83 rfl) rfl
theorem q1366 : (Jvm.Cond.soleField "WheelBrookModel" "speaks") ∈ lw_all := lw_g (lw_at lw_m6 84 rfl) rfl
theorem q1367 : (Jvm.Cond.lays "WheelBrookModel" "WheelBrookModel" "isParted" "Z") ∈ lw_all := lw_g (lw_at lw_m6 85 rfl) rfl
theorem q1368 : (Jvm.Cond.soleField "WheelBrookModel" "isParted") ∈ lw_all := lw_g (lw_at lw_m6 86 rfl) rfl
theorem q1369 : (Jvm.Cond.laysFinal "WheelBrookModel" "WheelBrookModel" "bits" "[I") ∈ lw_all := lw_g (lw_at lw_m6 87 rfl) rfl
theorem q1370 : (Jvm.Cond.soleField "WheelBrookModel" "bits") ∈ lw_all := lw_g (lw_at lw_m6 88 rfl) rfl
theorem q1371 : (Jvm.Cond.laysFinal "WheelBrookModel" "WheelBrookModel" "sizes" "[I") ∈ lw_all := lw_g (lw_at lw_m6 89 rfl) rfl
theorem q1372 : (Jvm.Cond.soleField "WheelBrookModel" "sizes") ∈ lw_all := lw_g (lw_at lw_m6 90 rfl) rfl
theorem q1373 : (Jvm.Cond.laysFinal "WheelBrookModel" "WheelBrookModel" "number" "[I") ∈ lw_all := lw_g (lw_at lw_m6 91 rfl) rfl
theorem q1374 : (Jvm.Cond.soleField "WheelBrookModel" "number") ∈ lw_all := lw_g (lw_at lw_m6 92 rfl) rfl
theorem q1375 : (Jvm.Cond.laysFinal "WheelBrookModel" "WheelBrookModel" "aside" "[I") ∈ lw_all := lw_g (lw_at lw_m6 93 rfl) rfl
theorem q1376 : (Jvm.Cond.soleField "WheelBrookModel" "aside") ∈ lw_all := lw_g (lw_at lw_m6 94 rfl) rfl
theorem q1377 : (Jvm.Cond.superclass "WheelBrookModel" "java/lang/Object") ∈ lw_all := lw_g (lw_at lw_m6 95 rfl) rfl
theorem q1379 : (Jvm.Cond.instanceMethod ({ cls := "WheelBrookModel", name := "force", desc := "(II)I" } : Jvm.MethodName)) ∈ lw_all := lw_g (lw_at lw_m6 97 rfl) rfl
theorem q1380 : (Jvm.Cond.selects "WheelBrookModel" ({ cls := "WheelBrookModel", name := "force", desc := "(II)I" } : Jvm.MethodName) ({ cls := "WheelBrookModel", name := "force", desc := "(II)I" } : Jvm.MethodName)) ∈ lw_all := lw_g (lw_at lw_m6 98 rfl) rfl
theorem q1381 : (Jvm.Cond.code ({ cls := "WheelBrookModel", name := "force", desc := "(II)I" } : Jvm.MethodName) prog_20_method_17_code (3 : Nat) (Option.some Jvm.ClassFile.FieldType.int)) ∈ lw_all := lw_g (lw_at lw_m6 99 rfl) rfl
theorem q1382 : (Jvm.Cond.methodLink "WheelBrookModel" (56 : Nat) ({ cls := "WheelBrookModel", name := "in", desc := "(III)Z" } : Jvm.MethodName)) ∈ lw_all := lw_g (lw_at lw_m6 100 rfl) rfl
theorem q1383 : (Jvm.Cond.static ({ cls := "WheelBrookModel", name := "in", desc := "(III)Z" } : Jvm.MethodName)) ∈ lw_all := lw_g (lw_at lw_m6 101 rfl) rfl
theorem q1384 : (Jvm.Cond.code ({ cls := "WheelBrookModel", name := "in", desc := "(III)Z" } : Jvm.MethodName) prog_20_method_3_code (3 : Nat) (Option.some Jvm.ClassFile.FieldType.boolean)) ∈ lw_all := lw_g (lw_at lw_m6 102 rfl) rfl
theorem q1385 : (Jvm.Cond.methodLink "WheelBrookModel" (72 : Nat) ({ cls := "WheelBrookModel", name := "change", desc := "(II)I" } : Jvm.MethodName)) ∈ lw_all := lw_g (lw_at lw_m6 103 rfl) rfl
theorem q1386 : (Jvm.Cond.privateMethod ({ cls := "WheelBrookModel", name := "change", desc := "(II)I" } : Jvm.MethodName)) ∈ lw_tbl := lw_at lw_m6 104 rfl
theorem q1387 : (Jvm.Cond.instanceMethod ({ cls := "WheelBrookModel", name := "change", desc := "(II)I" } : Jvm.MethodName)) ∈ lw_all := lw_g (lw_at lw_m6 105 rfl) rfl
theorem q1388 : (Jvm.Cond.code ({ cls := "WheelBrookModel", name := "change", desc := "(II)I" } : Jvm.MethodName) prog_20_method_16_code (4 : Nat) (Option.some Jvm.ClassFile.FieldType.int)) ∈ lw_all := lw_g (lw_at lw_m6 106 rfl) rfl
theorem q1389 : (Jvm.Cond.methodLink "WheelBrookModel" (76 : Nat) ({ cls := "WheelBrookModel", name := "error", desc := "(I)I" } : Jvm.MethodName)) ∈ lw_all := lw_g (lw_at lw_m6 107 rfl) rfl
theorem q1390 : (Jvm.Cond.privateMethod ({ cls := "WheelBrookModel", name := "error", desc := "(I)I" } : Jvm.MethodName)) ∈ lw_tbl := lw_at lw_m6 108 rfl
theorem q1391 : (Jvm.Cond.instanceMethod ({ cls := "WheelBrookModel", name := "error", desc := "(I)I" } : Jvm.MethodName)) ∈ lw_all := lw_g (lw_at lw_m6 109 rfl) rfl
theorem q1392 : (Jvm.Cond.code ({ cls := "WheelBrookModel", name := "error", desc := "(I)I" } : Jvm.MethodName) prog_20_method_2_code (2 : Nat) (Option.some Jvm.ClassFile.FieldType.int)) ∈ lw_all := lw_g (lw_at lw_m6 110 rfl) rfl
theorem q1393 : (Jvm.Cond.constant "WheelBrookModel" (55 : Nat) (-1000000000 : Int32)) ∈ lw_all := lw_g (lw_at lw_m6 111 rfl) rfl
theorem q1395 : (Jvm.Cond.instanceMethod ({ cls := "WheelBrookModel", name := "weed", desc := "(II)I" } : Jvm.MethodName)) ∈ lw_all := lw_g (lw_at lw_m6 113 rfl) rfl
theorem q1396 : (Jvm.Cond.selects "WheelBrookModel" ({ cls := "WheelBrookModel", name := "weed", desc := "(II)I" } : Jvm.MethodName) ({ cls := "WheelBrookModel", name := "weed", desc := "(II)I" } : Jvm.MethodName)) ∈ lw_all := lw_g (lw_at lw_m6 114 rfl) rfl
theorem q1397 : (Jvm.Cond.code ({ cls := "WheelBrookModel", name := "weed", desc := "(II)I" } : Jvm.MethodName) prog_20_method_18_code (3 : Nat) (Option.some Jvm.ClassFile.FieldType.int)) ∈ lw_all := lw_g (lw_at lw_m6 115 rfl) rfl
theorem q1398 : (Jvm.Cond.methodLink "WheelBrookModel" (79 : Nat) ({ cls := "WheelBrookModel", name := "isPlace", desc := "(I)Z" } : Jvm.MethodName)) ∈ lw_all := lw_g (lw_at lw_m6 116 rfl) rfl
theorem q1399 : (Jvm.Cond.static ({ cls := "WheelBrookModel", name := "isPlace", desc := "(I)Z" } : Jvm.MethodName)) ∈ lw_all := lw_g (lw_at lw_m6 117 rfl) rfl
theorem q1400 : (Jvm.Cond.code ({ cls := "WheelBrookModel", name := "isPlace", desc := "(I)Z" } : Jvm.MethodName) prog_20_method_8_code (1 : Nat) (Option.some Jvm.ClassFile.FieldType.boolean)) ∈ lw_all := lw_g (lw_at lw_m6 118 rfl) rfl
theorem q1402 : (Jvm.Cond.instanceMethod ({ cls := "WheelBrookModel", name := "frost", desc := "(I)I" } : Jvm.MethodName)) ∈ lw_all := lw_g (lw_at lw_m6 120 rfl) rfl
theorem q1403 : (Jvm.Cond.selects "WheelBrookModel" ({ cls := "WheelBrookModel", name := "frost", desc := "(I)I" } : Jvm.MethodName) ({ cls := "WheelBrookModel", name := "frost", desc := "(I)I" } : Jvm.MethodName)) ∈ lw_all := lw_g (lw_at lw_m6 121 rfl) rfl
theorem q1404 : (Jvm.Cond.code ({ cls := "WheelBrookModel", name := "frost", desc := "(I)I" } : Jvm.MethodName) prog_20_method_19_code (2 : Nat) (Option.some Jvm.ClassFile.FieldType.int)) ∈ lw_all := lw_g (lw_at lw_m6 122 rfl) rfl
theorem q1406 : (Jvm.Cond.instanceMethod ({ cls := "WheelBrookModel", name := "owe", desc := "(II)I" } : Jvm.MethodName)) ∈ lw_all := lw_g (lw_at lw_m6 124 rfl) rfl
theorem q1407 : (Jvm.Cond.selects "WheelBrookModel" ({ cls := "WheelBrookModel", name := "owe", desc := "(II)I" } : Jvm.MethodName) ({ cls := "WheelBrookModel", name := "owe", desc := "(II)I" } : Jvm.MethodName)) ∈ lw_all := lw_g (lw_at lw_m6 125 rfl) rfl
theorem q1408 : (Jvm.Cond.code ({ cls := "WheelBrookModel", name := "owe", desc := "(II)I" } : Jvm.MethodName) prog_20_method_20_code (3 : Nat) (Option.some Jvm.ClassFile.FieldType.int)) ∈ lw_all := lw_g (lw_at lw_m6 126 rfl) rfl
theorem q1409 : (Jvm.Cond.methodLink "WheelBrookModel" (83 : Nat) ({ cls := "WheelBrookModel", name := "isFamily", desc := "(I)Z" } : Jvm.MethodName)) ∈ lw_all := lw_g (lw_at lw_m6 127 rfl) rfl
theorem q1410 : (Jvm.Cond.static ({ cls := "WheelBrookModel", name := "isFamily", desc := "(I)Z" } : Jvm.MethodName)) ∈ lw_all := lw_g (lw_at lw_m6 128 rfl) rfl
theorem q1411 : (Jvm.Cond.code ({ cls := "WheelBrookModel", name := "isFamily", desc := "(I)Z" } : Jvm.MethodName) prog_20_method_7_code (1 : Nat) (Option.some Jvm.ClassFile.FieldType.boolean)) ∈ lw_all := lw_g (lw_at lw_m6 129 rfl) rfl
theorem q1412 : (Jvm.Cond.constant "WheelBrookModel" (86 : Nat) (99999 : Int32)) ∈ lw_all := lw_g (lw_at lw_m6 130 rfl) rfl
theorem q1414 : (Jvm.Cond.instanceMethod ({ cls := "WheelBrookModel", name := "familyIs", desc := "(II)I" } : Jvm.MethodName)) ∈ lw_all := lw_g (lw_at lw_m6 132 rfl) rfl
theorem q1415 : (Jvm.Cond.selects "WheelBrookModel" ({ cls := "WheelBrookModel", name := "familyIs", desc := "(II)I" } : Jvm.MethodName) ({ cls := "WheelBrookModel", name := "familyIs", desc := "(II)I" } : Jvm.MethodName)) ∈ lw_all := lw_g (lw_at lw_m6 133 rfl) rfl
theorem q1416 : (Jvm.Cond.code ({ cls := "WheelBrookModel", name := "familyIs", desc := "(II)I" } : Jvm.MethodName) prog_20_method_22_code (3 : Nat) (Option.some Jvm.ClassFile.FieldType.int)) ∈ lw_all := lw_g (lw_at lw_m6 134 rfl) rfl
theorem q1417 : (Jvm.Cond.methodLink "WheelBrookModel" (93 : Nat) ({ cls := "WheelBrookModel", name := "toldFamily", desc := "(II)I" } : Jvm.MethodName)) ∈ lw_all := lw_g (lw_at lw_m6 135 rfl) rfl
theorem q1418 : (Jvm.Cond.privateMethod ({ cls := "WheelBrookModel", name := "toldFamily", desc := "(II)I" } : Jvm.MethodName)) ∈ lw_tbl := lw_at lw_m6 136 rfl
theorem q1419 : (Jvm.Cond.instanceMethod ({ cls := "WheelBrookModel", name := "toldFamily", desc := "(II)I" } : Jvm.MethodName)) ∈ lw_all := lw_g (lw_at lw_m6 137 rfl) rfl
theorem q1420 : (Jvm.Cond.code ({ cls := "WheelBrookModel", name := "toldFamily", desc := "(II)I" } : Jvm.MethodName) prog_20_method_21_code (5 : Nat) (Option.some Jvm.ClassFile.FieldType.int)) ∈ lw_all := lw_g (lw_at lw_m6 138 rfl) rfl
theorem q1421 : (Jvm.Cond.methodLink "WheelBrookModel" (69 : Nat) ({ cls := "WheelBrookModel", name := "owed", desc := "(I)I" } : Jvm.MethodName)) ∈ lw_all := lw_g (lw_at lw_m6 139 rfl) rfl
theorem q1422 : (Jvm.Cond.privateMethod ({ cls := "WheelBrookModel", name := "owed", desc := "(I)I" } : Jvm.MethodName)) ∈ lw_tbl := lw_at lw_m6 140 rfl
theorem q1423 : (Jvm.Cond.instanceMethod ({ cls := "WheelBrookModel", name := "owed", desc := "(I)I" } : Jvm.MethodName)) ∈ lw_all := lw_g (lw_at lw_m6 141 rfl) rfl
theorem q1424 : (Jvm.Cond.code ({ cls := "WheelBrookModel", name := "owed", desc := "(I)I" } : Jvm.MethodName) prog_20_method_11_code (2 : Nat) (Option.some Jvm.ClassFile.FieldType.int)) ∈ lw_all := lw_g (lw_at lw_m6 142 rfl) rfl
theorem q1425 : (Jvm.Cond.methodLink "WheelBrookModel" (65 : Nat) ({ cls := "WheelBrookModel", name := "prayed", desc := "(I)I" } : Jvm.MethodName)) ∈ lw_all := lw_g (lw_at lw_m6 143 rfl) rfl
theorem q1426 : (Jvm.Cond.privateMethod ({ cls := "WheelBrookModel", name := "prayed", desc := "(I)I" } : Jvm.MethodName)) ∈ lw_tbl := lw_at lw_m6 144 rfl
theorem q1427 : (Jvm.Cond.instanceMethod ({ cls := "WheelBrookModel", name := "prayed", desc := "(I)I" } : Jvm.MethodName)) ∈ lw_all := lw_g (lw_at lw_m6 145 rfl) rfl
theorem q1428 : (Jvm.Cond.code ({ cls := "WheelBrookModel", name := "prayed", desc := "(I)I" } : Jvm.MethodName) prog_20_method_12_code (2 : Nat) (Option.some Jvm.ClassFile.FieldType.int)) ∈ lw_all := lw_g (lw_at lw_m6 146 rfl) rfl
theorem q1429 : (Jvm.Cond.methodLink "WheelBrookModel" (87 : Nat) ({ cls := "WheelBrookModel", name := "isPaid", desc := "(I)Z" } : Jvm.MethodName)) ∈ lw_all := lw_g (lw_at lw_m6 147 rfl) rfl
theorem q1430 : (Jvm.Cond.privateMethod ({ cls := "WheelBrookModel", name := "isPaid", desc := "(I)Z" } : Jvm.MethodName)) ∈ lw_tbl := lw_at lw_m6 148 rfl
theorem q1431 : (Jvm.Cond.instanceMethod ({ cls := "WheelBrookModel", name := "isPaid", desc := "(I)Z" } : Jvm.MethodName)) ∈ lw_all := lw_g (lw_at lw_m6 149 rfl) rfl
theorem q1432 : (Jvm.Cond.code ({ cls := "WheelBrookModel", name := "isPaid", desc := "(I)Z" } : Jvm.MethodName) prog_20_method_14_code (2 : Nat) (Option.some Jvm.ClassFile.FieldType.boolean)) ∈ lw_all := lw_g (lw_at lw_m6 150 rfl) rfl
theorem q1433 : (Jvm.Cond.methodLink "WheelBrookModel" (90 : Nat) ({ cls := "WheelBrookModel", name := "its", desc := "(II)I" } : Jvm.MethodName)) ∈ lw_all := lw_g (lw_at lw_m6 151 rfl) rfl
theorem q1434 : (Jvm.Cond.privateMethod ({ cls := "WheelBrookModel", name := "its", desc := "(II)I" } : Jvm.MethodName)) ∈ lw_tbl := lw_at lw_m6 152 rfl
theorem q1435 : (Jvm.Cond.instanceMethod ({ cls := "WheelBrookModel", name := "its", desc := "(II)I" } : Jvm.MethodName)) ∈ lw_all := lw_g (lw_at lw_m6 153 rfl) rfl
theorem q1436 : (Jvm.Cond.code ({ cls := "WheelBrookModel", name := "its", desc := "(II)I" } : Jvm.MethodName) prog_20_method_9_code (3 : Nat) (Option.some Jvm.ClassFile.FieldType.int)) ∈ lw_all := lw_g (lw_at lw_m6 154 rfl) rfl
theorem q1438 : (Jvm.Cond.instanceMethod ({ cls := "WheelBrookModel", name := "wheel", desc := "(II)I" } : Jvm.MethodName)) ∈ lw_all := lw_g (lw_at lw_m6 156 rfl) rfl
theorem q1439 : (Jvm.Cond.selects "WheelBrookModel" ({ cls := "WheelBrookModel", name := "wheel", desc := "(II)I" } : Jvm.MethodName) ({ cls := "WheelBrookModel", name := "wheel", desc := "(II)I" } : Jvm.MethodName)) ∈ lw_all := lw_g (lw_at lw_m6 157 rfl) rfl
theorem q1440 : (Jvm.Cond.code ({ cls := "WheelBrookModel", name := "wheel", desc := "(II)I" } : Jvm.MethodName) prog_20_method_24_code (3 : Nat) (Option.some Jvm.ClassFile.FieldType.int)) ∈ lw_all := lw_g (lw_at lw_m6 158 rfl) rfl
theorem q1441 : (Jvm.Cond.methodLink "WheelBrookModel" (100 : Nat) ({ cls := "WheelBrookModel", name := "adds", desc := "(II)I" } : Jvm.MethodName)) ∈ lw_all := lw_g (lw_at lw_m6 159 rfl) rfl
theorem q1442 : (Jvm.Cond.privateMethod ({ cls := "WheelBrookModel", name := "adds", desc := "(II)I" } : Jvm.MethodName)) ∈ lw_tbl := lw_at lw_m6 160 rfl
theorem q1443 : (Jvm.Cond.instanceMethod ({ cls := "WheelBrookModel", name := "adds", desc := "(II)I" } : Jvm.MethodName)) ∈ lw_all := lw_g (lw_at lw_m6 161 rfl) rfl
theorem q1444 : (Jvm.Cond.code ({ cls := "WheelBrookModel", name := "adds", desc := "(II)I" } : Jvm.MethodName) prog_20_method_23_code (4 : Nat) (Option.some Jvm.ClassFile.FieldType.int)) ∈ lw_all := lw_g (lw_at lw_m6 162 rfl) rfl
theorem q1445 : (Jvm.Cond.methodLink "WheelBrookModel" (96 : Nat) ({ cls := "WheelBrookModel", name := "lays1", desc := "(III)V" } : Jvm.MethodName)) ∈ lw_all := lw_g (lw_at lw_m6 163 rfl) rfl
theorem q1446 : (Jvm.Cond.privateMethod ({ cls := "WheelBrookModel", name := "lays1", desc := "(III)V" } : Jvm.MethodName)) ∈ lw_tbl := lw_at lw_m6 164 rfl
theorem q1447 : (Jvm.Cond.instanceMethod ({ cls := "WheelBrookModel", name := "lays1", desc := "(III)V" } : Jvm.MethodName)) ∈ lw_all := lw_g (lw_at lw_m6 165 rfl) rfl
theorem q1448 : (Jvm.Cond.code ({ cls := "WheelBrookModel", name := "lays1", desc := "(III)V" } : Jvm.MethodName) prog_20_method_10_code (4 : Nat) (Option.none : Option Jvm.ClassFile.FieldType)) ∈ lw_all := lw_g (lw_at lw_m6 166 rfl) rfl
theorem q1450 : (Jvm.Cond.instanceMethod ({ cls := "WheelBrookModel", name := "wheelIs", desc := "(II)I" } : Jvm.MethodName)) ∈ lw_all := lw_g (lw_at lw_m6 168 rfl) rfl
theorem q1451 : (Jvm.Cond.selects "WheelBrookModel" ({ cls := "WheelBrookModel", name := "wheelIs", desc := "(II)I" } : Jvm.MethodName) ({ cls := "WheelBrookModel", name := "wheelIs", desc := "(II)I" } : Jvm.MethodName)) ∈ lw_all := lw_g (lw_at lw_m6 169 rfl) rfl
theorem q1452 : (Jvm.Cond.code ({ cls := "WheelBrookModel", name := "wheelIs", desc := "(II)I" } : Jvm.MethodName) prog_20_method_26_code (3 : Nat) (Option.some Jvm.ClassFile.FieldType.int)) ∈ lw_all := lw_g (lw_at lw_m6 170 rfl) rfl
theorem q1453 : (Jvm.Cond.methodLink "WheelBrookModel" (112 : Nat) ({ cls := "WheelBrookModel", name := "isWheel", desc := "(I)Z" } : Jvm.MethodName)) ∈ lw_all := lw_g (lw_at lw_m6 171 rfl) rfl
theorem q1454 : (Jvm.Cond.privateMethod ({ cls := "WheelBrookModel", name := "isWheel", desc := "(I)Z" } : Jvm.MethodName)) ∈ lw_tbl := lw_at lw_m6 172 rfl
theorem q1455 : (Jvm.Cond.instanceMethod ({ cls := "WheelBrookModel", name := "isWheel", desc := "(I)Z" } : Jvm.MethodName)) ∈ lw_all := lw_g (lw_at lw_m6 173 rfl) rfl
theorem q1456 : (Jvm.Cond.code ({ cls := "WheelBrookModel", name := "isWheel", desc := "(I)Z" } : Jvm.MethodName) prog_20_method_6_code (2 : Nat) (Option.some Jvm.ClassFile.FieldType.boolean)) ∈ lw_all := lw_g (lw_at lw_m6 174 rfl) rfl
theorem q1457 : (Jvm.Cond.methodLink "WheelBrookModel" (115 : Nat) ({ cls := "WheelBrookModel", name := "toldWheel", desc := "(II)I" } : Jvm.MethodName)) ∈ lw_all := lw_g (lw_at lw_m6 175 rfl) rfl
theorem q1458 : (Jvm.Cond.privateMethod ({ cls := "WheelBrookModel", name := "toldWheel", desc := "(II)I" } : Jvm.MethodName)) ∈ lw_tbl := lw_at lw_m6 176 rfl
theorem q1459 : (Jvm.Cond.instanceMethod ({ cls := "WheelBrookModel", name := "toldWheel", desc := "(II)I" } : Jvm.MethodName)) ∈ lw_all := lw_g (lw_at lw_m6 177 rfl) rfl
theorem q1460 : (Jvm.Cond.code ({ cls := "WheelBrookModel", name := "toldWheel", desc := "(II)I" } : Jvm.MethodName) prog_20_method_25_code (3 : Nat) (Option.some Jvm.ClassFile.FieldType.int)) ∈ lw_all := lw_g (lw_at lw_m6 178 rfl) rfl
theorem q1461 : (Jvm.Cond.methodLink "WheelBrookModel" (103 : Nat) ({ cls := "WheelBrookModel", name := "flow", desc := "()V" } : Jvm.MethodName)) ∈ lw_all := lw_g (lw_at lw_m6 179 rfl) rfl
theorem q1462 : (Jvm.Cond.privateMethod ({ cls := "WheelBrookModel", name := "flow", desc := "()V" } : Jvm.MethodName)) ∈ lw_tbl := lw_at lw_m6 180 rfl
theorem q1463 : (Jvm.Cond.instanceMethod ({ cls := "WheelBrookModel", name := "flow", desc := "()V" } : Jvm.MethodName)) ∈ lw_all := lw_g (lw_at lw_m6 181 rfl) rfl
theorem q1464 : (Jvm.Cond.code ({ cls := "WheelBrookModel", name := "flow", desc := "()V" } : Jvm.MethodName) prog_20_method_53_code (5 : Nat) (Option.none : Option Jvm.ClassFile.FieldType)) ∈ lw_all := lw_g (lw_at lw_m6 182 rfl) rfl
theorem q1465 : (Jvm.Cond.methodLink "WheelBrookModel" (179 : Nat) ({ cls := "WheelBrookModel", name := "hourOfDay", desc := "()I" } : Jvm.MethodName)) ∈ lw_all := lw_g (lw_at lw_m6 183 rfl) rfl
theorem q1466 : (Jvm.Cond.privateMethod ({ cls := "WheelBrookModel", name := "hourOfDay", desc := "()I" } : Jvm.MethodName)) ∈ lw_tbl := lw_at lw_m6 184 rfl
theorem q1467 : (Jvm.Cond.instanceMethod ({ cls := "WheelBrookModel", name := "hourOfDay", desc := "()I" } : Jvm.MethodName)) ∈ lw_all := lw_g (lw_at lw_m6 185 rfl) rfl
theorem q1468 : (Jvm.Cond.code ({ cls := "WheelBrookModel", name := "hourOfDay", desc := "()I" } : Jvm.MethodName) prog_20_method_15_code (1 : Nat) (Option.some Jvm.ClassFile.FieldType.int)) ∈ lw_all := lw_g (lw_at lw_m6 186 rfl) rfl
theorem q1469 : (Jvm.Cond.methodLink "WheelBrookModel" (200 : Nat) ({ cls := "WheelBrookModel", name := "wants", desc := "(II)I" } : Jvm.MethodName)) ∈ lw_all := lw_g (lw_at lw_m6 187 rfl) rfl
theorem q1470 : (Jvm.Cond.privateMethod ({ cls := "WheelBrookModel", name := "wants", desc := "(II)I" } : Jvm.MethodName)) ∈ lw_tbl := lw_at lw_m6 188 rfl
theorem q1471 : (Jvm.Cond.instanceMethod ({ cls := "WheelBrookModel", name := "wants", desc := "(II)I" } : Jvm.MethodName)) ∈ lw_all := lw_g (lw_at lw_m6 189 rfl) rfl
theorem q1472 : (Jvm.Cond.code ({ cls := "WheelBrookModel", name := "wants", desc := "(II)I" } : Jvm.MethodName) prog_20_method_48_code (5 : Nat) (Option.some Jvm.ClassFile.FieldType.int)) ∈ lw_all := lw_g (lw_at lw_m6 190 rfl) rfl
theorem q1473 : (Jvm.Cond.methodLink "WheelBrookModel" (185 : Nat) ({ cls := "WheelBrookModel", name := "takesTold", desc := "(II)I" } : Jvm.MethodName)) ∈ lw_all := lw_g (lw_at lw_m6 191 rfl) rfl
theorem q1474 : (Jvm.Cond.privateMethod ({ cls := "WheelBrookModel", name := "takesTold", desc := "(II)I" } : Jvm.MethodName)) ∈ lw_tbl := lw_at lw_m6 192 rfl
theorem q1475 : (Jvm.Cond.instanceMethod ({ cls := "WheelBrookModel", name := "takesTold", desc := "(II)I" } : Jvm.MethodName)) ∈ lw_all := lw_g (lw_at lw_m6 193 rfl) rfl
theorem q1476 : (Jvm.Cond.code ({ cls := "WheelBrookModel", name := "takesTold", desc := "(II)I" } : Jvm.MethodName) prog_20_method_47_code (3 : Nat) (Option.some Jvm.ClassFile.FieldType.int)) ∈ lw_all := lw_g (lw_at lw_m6 194 rfl) rfl
theorem q1477 : (Jvm.Cond.methodLink "WheelBrookModel" (173 : Nat) ({ cls := "WheelBrookModel", name := "hasText", desc := "(I)Z" } : Jvm.MethodName)) ∈ lw_all := lw_g (lw_at lw_m6 195 rfl) rfl
theorem q1478 : (Jvm.Cond.privateMethod ({ cls := "WheelBrookModel", name := "hasText", desc := "(I)Z" } : Jvm.MethodName)) ∈ lw_tbl := lw_at lw_m6 196 rfl
theorem q1479 : (Jvm.Cond.instanceMethod ({ cls := "WheelBrookModel", name := "hasText", desc := "(I)Z" } : Jvm.MethodName)) ∈ lw_all := lw_g (lw_at lw_m6 197 rfl) rfl
theorem q1480 : (Jvm.Cond.code ({ cls := "WheelBrookModel", name := "hasText", desc := "(I)Z" } : Jvm.MethodName) prog_20_method_42_code (2 : Nat) (Option.some Jvm.ClassFile.FieldType.boolean)) ∈ lw_all := lw_g (lw_at lw_m6 198 rfl) rfl
theorem q1481 : (Jvm.Cond.methodLink "WheelBrookModel" (182 : Nat) ({ cls := "WheelBrookModel", name := "worked", desc := "(I)I" } : Jvm.MethodName)) ∈ lw_all := lw_g (lw_at lw_m6 199 rfl) rfl
theorem q1482 : (Jvm.Cond.privateMethod ({ cls := "WheelBrookModel", name := "worked", desc := "(I)I" } : Jvm.MethodName)) ∈ lw_tbl := lw_at lw_m6 200 rfl
theorem q1483 : (Jvm.Cond.instanceMethod ({ cls := "WheelBrookModel", name := "worked", desc := "(I)I" } : Jvm.MethodName)) ∈ lw_all := lw_g (lw_at lw_m6 201 rfl) rfl
theorem q1484 : (Jvm.Cond.code ({ cls := "WheelBrookModel", name := "worked", desc := "(I)I" } : Jvm.MethodName) prog_20_method_46_code (7 : Nat) (Option.some Jvm.ClassFile.FieldType.int)) ∈ lw_all := lw_g (lw_at lw_m6 202 rfl) rfl
theorem q1485 : (Jvm.Cond.methodLink "WheelBrookModel" (176 : Nat) ({ cls := "WheelBrookModel", name := "joined", desc := "(III)I" } : Jvm.MethodName)) ∈ lw_all := lw_g (lw_at lw_m6 203 rfl) rfl
theorem q1486 : (Jvm.Cond.static ({ cls := "WheelBrookModel", name := "joined", desc := "(III)I" } : Jvm.MethodName)) ∈ lw_all := lw_g (lw_at lw_m6 204 rfl) rfl
theorem q1487 : (Jvm.Cond.code ({ cls := "WheelBrookModel", name := "joined", desc := "(III)I" } : Jvm.MethodName) prog_20_method_45_code (3 : Nat) (Option.some Jvm.ClassFile.FieldType.int)) ∈ lw_all := lw_g (lw_at lw_m6 205 rfl) rfl
theorem q1488 : (Jvm.Cond.methodLink "WheelBrookModel" (61 : Nat) ({ cls := "WheelBrookModel", name := "held", desc := "(III)I" } : Jvm.MethodName)) ∈ lw_all := lw_g (lw_at lw_m6 206 rfl) rfl
theorem q1489 : (Jvm.Cond.static ({ cls := "WheelBrookModel", name := "held", desc := "(III)I" } : Jvm.MethodName)) ∈ lw_all := lw_g (lw_at lw_m6 207 rfl) rfl
theorem q1490 : (Jvm.Cond.code ({ cls := "WheelBrookModel", name := "held", desc := "(III)I" } : Jvm.MethodName) prog_20_method_4_code (3 : Nat) (Option.some Jvm.ClassFile.FieldType.int)) ∈ lw_all := lw_g (lw_at lw_m6 208 rfl) rfl
theorem q1491 : (Jvm.Cond.methodLink "WheelBrookModel" (106 : Nat) ({ cls := "WheelBrookModel", name := "turns", desc := "(II)I" } : Jvm.MethodName)) ∈ lw_all := lw_g (lw_at lw_m6 209 rfl) rfl
theorem q1492 : (Jvm.Cond.privateMethod ({ cls := "WheelBrookModel", name := "turns", desc := "(II)I" } : Jvm.MethodName)) ∈ lw_tbl := lw_at lw_m6 210 rfl
theorem q1493 : (Jvm.Cond.instanceMethod ({ cls := "WheelBrookModel", name := "turns", desc := "(II)I" } : Jvm.MethodName)) ∈ lw_all := lw_g (lw_at lw_m6 211 rfl) rfl
theorem q1494 : (Jvm.Cond.code ({ cls := "WheelBrookModel", name := "turns", desc := "(II)I" } : Jvm.MethodName) prog_20_method_50_code (4 : Nat) (Option.some Jvm.ClassFile.FieldType.int)) ∈ lw_all := lw_g (lw_at lw_m6 212 rfl) rfl
theorem q1495 : (Jvm.Cond.methodLink "WheelBrookModel" (188 : Nat) ({ cls := "WheelBrookModel", name := "turnsTold", desc := "(II)I" } : Jvm.MethodName)) ∈ lw_all := lw_g (lw_at lw_m6 213 rfl) rfl
theorem q1496 : (Jvm.Cond.privateMethod ({ cls := "WheelBrookModel", name := "turnsTold", desc := "(II)I" } : Jvm.MethodName)) ∈ lw_tbl := lw_at lw_m6 214 rfl
theorem q1497 : (Jvm.Cond.instanceMethod ({ cls := "WheelBrookModel", name := "turnsTold", desc := "(II)I" } : Jvm.MethodName)) ∈ lw_all := lw_g (lw_at lw_m6 215 rfl) rfl
theorem q1498 : (Jvm.Cond.code ({ cls := "WheelBrookModel", name := "turnsTold", desc := "(II)I" } : Jvm.MethodName) prog_20_method_49_code (3 : Nat) (Option.some Jvm.ClassFile.FieldType.int)) ∈ lw_all := lw_g (lw_at lw_m6 216 rfl) rfl
theorem q1499 : (Jvm.Cond.methodLink "WheelBrookModel" (109 : Nat) ({ cls := "WheelBrookModel", name := "shows", desc := "(II)I" } : Jvm.MethodName)) ∈ lw_all := lw_g (lw_at lw_m6 217 rfl) rfl
theorem q1500 : (Jvm.Cond.privateMethod ({ cls := "WheelBrookModel", name := "shows", desc := "(II)I" } : Jvm.MethodName)) ∈ lw_tbl := lw_at lw_m6 218 rfl
theorem q1501 : (Jvm.Cond.instanceMethod ({ cls := "WheelBrookModel", name := "shows", desc := "(II)I" } : Jvm.MethodName)) ∈ lw_all := lw_g (lw_at lw_m6 219 rfl) rfl
theorem q1502 : (Jvm.Cond.code ({ cls := "WheelBrookModel", name := "shows", desc := "(II)I" } : Jvm.MethodName) prog_20_method_51_code (3 : Nat) (Option.some Jvm.ClassFile.FieldType.int)) ∈ lw_all := lw_g (lw_at lw_m6 220 rfl) rfl
theorem q1503 : (Jvm.Cond.methodLink "WheelBrookModel" (191 : Nat) ({ cls := "WheelBrookModel", name := "showsBy", desc := "(III)I" } : Jvm.MethodName)) ∈ lw_all := lw_g (lw_at lw_m6 221 rfl) rfl
theorem q1504 : (Jvm.Cond.privateMethod ({ cls := "WheelBrookModel", name := "showsBy", desc := "(III)I" } : Jvm.MethodName)) ∈ lw_tbl := lw_at lw_m6 222 rfl
theorem q1505 : (Jvm.Cond.instanceMethod ({ cls := "WheelBrookModel", name := "showsBy", desc := "(III)I" } : Jvm.MethodName)) ∈ lw_all := lw_g (lw_at lw_m6 223 rfl) rfl
theorem q1506 : (Jvm.Cond.code ({ cls := "WheelBrookModel", name := "showsBy", desc := "(III)I" } : Jvm.MethodName) prog_20_method_52_code (4 : Nat) (Option.some Jvm.ClassFile.FieldType.int)) ∈ lw_all := lw_g (lw_at lw_m6 224 rfl) rfl
theorem q1508 : (Jvm.Cond.instanceMethod ({ cls := "WheelBrookModel", name := "as", desc := "(II)I" } : Jvm.MethodName)) ∈ lw_all := lw_g (lw_at lw_m6 226 rfl) rfl
theorem q1509 : (Jvm.Cond.selects "WheelBrookModel" ({ cls := "WheelBrookModel", name := "as", desc := "(II)I" } : Jvm.MethodName) ({ cls := "WheelBrookModel", name := "as", desc := "(II)I" } : Jvm.MethodName)) ∈ lw_all := lw_g (lw_at lw_m6 227 rfl) rfl
theorem q1510 : (Jvm.Cond.code ({ cls := "WheelBrookModel", name := "as", desc := "(II)I" } : Jvm.MethodName) prog_20_method_28_code (3 : Nat) (Option.some Jvm.ClassFile.FieldType.int)) ∈ lw_all := lw_g (lw_at lw_m6 228 rfl) rfl
theorem q1511 : (Jvm.Cond.methodLink "WheelBrookModel" (118 : Nat) ({ cls := "WheelBrookModel", name := "isUnder", desc := "(II)Z" } : Jvm.MethodName)) ∈ lw_all := lw_g (lw_at lw_m6 229 rfl) rfl
theorem q1512 : (Jvm.Cond.static ({ cls := "WheelBrookModel", name := "isUnder", desc := "(II)Z" } : Jvm.MethodName)) ∈ lw_all := lw_g (lw_at lw_m6 230 rfl) rfl
theorem q1513 : (Jvm.Cond.code ({ cls := "WheelBrookModel", name := "isUnder", desc := "(II)Z" } : Jvm.MethodName) prog_20_method_27_code (2 : Nat) (Option.some Jvm.ClassFile.FieldType.boolean)) ∈ lw_all := lw_g (lw_at lw_m6 231 rfl) rfl
theorem q1515 : (Jvm.Cond.instanceMethod ({ cls := "WheelBrookModel", name := "set", desc := "(III)I" } : Jvm.MethodName)) ∈ lw_all := lw_g (lw_at lw_m6 233 rfl) rfl
theorem q1516 : (Jvm.Cond.selects "WheelBrookModel" ({ cls := "WheelBrookModel", name := "set", desc := "(III)I" } : Jvm.MethodName) ({ cls := "WheelBrookModel", name := "set", desc := "(III)I" } : Jvm.MethodName)) ∈ lw_all := lw_g (lw_at lw_m6 234 rfl) rfl
theorem q1517 : (Jvm.Cond.code ({ cls := "WheelBrookModel", name := "set", desc := "(III)I" } : Jvm.MethodName) prog_20_method_30_code (4 : Nat) (Option.some Jvm.ClassFile.FieldType.int)) ∈ lw_all := lw_g (lw_at lw_m6 235 rfl) rfl
theorem q1518 : (Jvm.Cond.methodLink "WheelBrookModel" (122 : Nat) ({ cls := "WheelBrookModel", name := "most", desc := "(I)I" } : Jvm.MethodName)) ∈ lw_all := lw_g (lw_at lw_m6 236 rfl) rfl
theorem q1519 : (Jvm.Cond.static ({ cls := "WheelBrookModel", name := "most", desc := "(I)I" } : Jvm.MethodName)) ∈ lw_all := lw_g (lw_at lw_m6 237 rfl) rfl
theorem q1520 : (Jvm.Cond.code ({ cls := "WheelBrookModel", name := "most", desc := "(I)I" } : Jvm.MethodName) prog_20_method_29_code (1 : Nat) (Option.some Jvm.ClassFile.FieldType.int)) ∈ lw_all := lw_g (lw_at lw_m6 238 rfl) rfl
theorem q1521 : (Jvm.Cond.constant "WheelBrookModel" (60 : Nat) (999999 : Int32)) ∈ lw_all := lw_g (lw_at lw_m6 239 rfl) rfl
theorem q1523 : (Jvm.Cond.instanceMethod ({ cls := "WheelBrookModel", name := "feed", desc := "(JI)I" } : Jvm.MethodName)) ∈ lw_all := lw_g (lw_at lw_m7 1 rfl) rfl
theorem q1524 : (Jvm.Cond.selects "WheelBrookModel" ({ cls := "WheelBrookModel", name := "feed", desc := "(JI)I" } : Jvm.MethodName) ({ cls := "WheelBrookModel", name := "feed", desc := "(JI)I" } : Jvm.MethodName)) ∈ lw_all := lw_g (lw_at lw_m7 2 rfl) rfl
theorem q1525 : (Jvm.Cond.code ({ cls := "WheelBrookModel", name := "feed", desc := "(JI)I" } : Jvm.MethodName) prog_20_method_31_code (5 : Nat) (Option.some Jvm.ClassFile.FieldType.int)) ∈ lw_all := lw_g (lw_at lw_m7 3 rfl) rfl
theorem q1526 : (Jvm.Cond.constantLong "WheelBrookModel" (125 : Nat) (255 : Int64)) ∈ lw_all := lw_g (lw_at lw_m7 4 rfl) rfl
theorem q1528 : (Jvm.Cond.instanceMethod ({ cls := "WheelBrookModel", name := "text", desc := "(I)I" } : Jvm.MethodName)) ∈ lw_all := lw_g (lw_at lw_m7 6 rfl) rfl
theorem q1529 : (Jvm.Cond.selects "WheelBrookModel" ({ cls := "WheelBrookModel", name := "text", desc := "(I)I" } : Jvm.MethodName) ({ cls := "WheelBrookModel", name := "text", desc := "(I)I" } : Jvm.MethodName)) ∈ lw_all := lw_g (lw_at lw_m7 7 rfl) rfl
theorem q1530 : (Jvm.Cond.code ({ cls := "WheelBrookModel", name := "text", desc := "(I)I" } : Jvm.MethodName) prog_20_method_43_code (5 : Nat) (Option.some Jvm.ClassFile.FieldType.int)) ∈ lw_all := lw_g (lw_at lw_m7 8 rfl) rfl
theorem q1531 : (Jvm.Cond.methodLink "WheelBrookModel" (170 : Nat) ({ cls := "WheelBrookModel", name := "whole", desc := "()Z" } : Jvm.MethodName)) ∈ lw_all := lw_g (lw_at lw_m7 9 rfl) rfl
theorem q1532 : (Jvm.Cond.privateMethod ({ cls := "WheelBrookModel", name := "whole", desc := "()Z" } : Jvm.MethodName)) ∈ lw_tbl := lw_at lw_m7 10 rfl
theorem q1533 : (Jvm.Cond.instanceMethod ({ cls := "WheelBrookModel", name := "whole", desc := "()Z" } : Jvm.MethodName)) ∈ lw_all := lw_g (lw_at lw_m7 11 rfl) rfl
theorem q1534 : (Jvm.Cond.code ({ cls := "WheelBrookModel", name := "whole", desc := "()Z" } : Jvm.MethodName) prog_20_method_35_code (1 : Nat) (Option.some Jvm.ClassFile.FieldType.boolean)) ∈ lw_all := lw_g (lw_at lw_m7 12 rfl) rfl
theorem q1535 : (Jvm.Cond.methodLink "WheelBrookModel" (137 : Nat) ({ cls := "WheelBrookModel", name := "both", desc := "()Z" } : Jvm.MethodName)) ∈ lw_all := lw_g (lw_at lw_m7 13 rfl) rfl
theorem q1536 : (Jvm.Cond.privateMethod ({ cls := "WheelBrookModel", name := "both", desc := "()Z" } : Jvm.MethodName)) ∈ lw_tbl := lw_at lw_m7 14 rfl
theorem q1537 : (Jvm.Cond.instanceMethod ({ cls := "WheelBrookModel", name := "both", desc := "()Z" } : Jvm.MethodName)) ∈ lw_all := lw_g (lw_at lw_m7 15 rfl) rfl
theorem q1538 : (Jvm.Cond.code ({ cls := "WheelBrookModel", name := "both", desc := "()Z" } : Jvm.MethodName) prog_20_method_36_code (1 : Nat) (Option.some Jvm.ClassFile.FieldType.boolean)) ∈ lw_all := lw_g (lw_at lw_m7 16 rfl) rfl
theorem q1539 : (Jvm.Cond.methodLink "WheelBrookModel" (149 : Nat) ({ cls := "WheelBrookModel", name := "compared", desc := "()Z" } : Jvm.MethodName)) ∈ lw_all := lw_g (lw_at lw_m7 17 rfl) rfl
theorem q1540 : (Jvm.Cond.privateMethod ({ cls := "WheelBrookModel", name := "compared", desc := "()Z" } : Jvm.MethodName)) ∈ lw_tbl := lw_at lw_m7 18 rfl
theorem q1541 : (Jvm.Cond.instanceMethod ({ cls := "WheelBrookModel", name := "compared", desc := "()Z" } : Jvm.MethodName)) ∈ lw_all := lw_g (lw_at lw_m7 19 rfl) rfl
theorem q1542 : (Jvm.Cond.code ({ cls := "WheelBrookModel", name := "compared", desc := "()Z" } : Jvm.MethodName) prog_20_method_37_code (2 : Nat) (Option.some Jvm.ClassFile.FieldType.boolean)) ∈ lw_all := lw_g (lw_at lw_m7 20 rfl) rfl
theorem q1543 : (Jvm.Cond.methodLink "WheelBrookModel" (152 : Nat) ({ cls := "WheelBrookModel", name := "sum", desc := "()Z" } : Jvm.MethodName)) ∈ lw_all := lw_g (lw_at lw_m7 21 rfl) rfl
theorem q1544 : (Jvm.Cond.privateMethod ({ cls := "WheelBrookModel", name := "sum", desc := "()Z" } : Jvm.MethodName)) ∈ lw_tbl := lw_at lw_m7 22 rfl
theorem q1545 : (Jvm.Cond.instanceMethod ({ cls := "WheelBrookModel", name := "sum", desc := "()Z" } : Jvm.MethodName)) ∈ lw_all := lw_g (lw_at lw_m7 23 rfl) rfl
theorem q1546 : (Jvm.Cond.code ({ cls := "WheelBrookModel", name := "sum", desc := "()Z" } : Jvm.MethodName) prog_20_method_38_code (2 : Nat) (Option.some Jvm.ClassFile.FieldType.boolean)) ∈ lw_all := lw_g (lw_at lw_m7 24 rfl) rfl
theorem q1547 : (Jvm.Cond.methodLink "WheelBrookModel" (155 : Nat) ({ cls := "WheelBrookModel", name := "product", desc := "()Z" } : Jvm.MethodName)) ∈ lw_all := lw_g (lw_at lw_m7 25 rfl) rfl
theorem q1548 : (Jvm.Cond.privateMethod ({ cls := "WheelBrookModel", name := "product", desc := "()Z" } : Jvm.MethodName)) ∈ lw_tbl := lw_at lw_m7 26 rfl
theorem q1549 : (Jvm.Cond.instanceMethod ({ cls := "WheelBrookModel", name := "product", desc := "()Z" } : Jvm.MethodName)) ∈ lw_all := lw_g (lw_at lw_m7 27 rfl) rfl
theorem q1550 : (Jvm.Cond.code ({ cls := "WheelBrookModel", name := "product", desc := "()Z" } : Jvm.MethodName) prog_20_method_39_code (2 : Nat) (Option.some Jvm.ClassFile.FieldType.boolean)) ∈ lw_all := lw_g (lw_at lw_m7 28 rfl) rfl
theorem q1551 : (Jvm.Cond.methodLink "WheelBrookModel" (158 : Nat) ({ cls := "WheelBrookModel", name := "one", desc := "()Z" } : Jvm.MethodName)) ∈ lw_all := lw_g (lw_at lw_m7 29 rfl) rfl
theorem q1552 : (Jvm.Cond.privateMethod ({ cls := "WheelBrookModel", name := "one", desc := "()Z" } : Jvm.MethodName)) ∈ lw_tbl := lw_at lw_m7 30 rfl
theorem q1553 : (Jvm.Cond.instanceMethod ({ cls := "WheelBrookModel", name := "one", desc := "()Z" } : Jvm.MethodName)) ∈ lw_all := lw_g (lw_at lw_m7 31 rfl) rfl
theorem q1554 : (Jvm.Cond.code ({ cls := "WheelBrookModel", name := "one", desc := "()Z" } : Jvm.MethodName) prog_20_method_41_code (4 : Nat) (Option.some Jvm.ClassFile.FieldType.boolean)) ∈ lw_all := lw_g (lw_at lw_m7 32 rfl) rfl
theorem q1555 : (Jvm.Cond.methodLink "WheelBrookModel" (141 : Nat) ({ cls := "WheelBrookModel", name := "look", desc := "()I" } : Jvm.MethodName)) ∈ lw_all := lw_g (lw_at lw_m7 33 rfl) rfl
theorem q1556 : (Jvm.Cond.privateMethod ({ cls := "WheelBrookModel", name := "look", desc := "()I" } : Jvm.MethodName)) ∈ lw_tbl := lw_at lw_m7 34 rfl
theorem q1557 : (Jvm.Cond.instanceMethod ({ cls := "WheelBrookModel", name := "look", desc := "()I" } : Jvm.MethodName)) ∈ lw_all := lw_g (lw_at lw_m7 35 rfl) rfl
theorem q1558 : (Jvm.Cond.code ({ cls := "WheelBrookModel", name := "look", desc := "()I" } : Jvm.MethodName) prog_20_method_32_code (1 : Nat) (Option.some Jvm.ClassFile.FieldType.int)) ∈ lw_all := lw_g (lw_at lw_m7 36 rfl) rfl
theorem q1559 : (Jvm.Cond.methodLink "WheelBrookModel" (164 : Nat) ({ cls := "WheelBrookModel", name := "isName", desc := "(I)Z" } : Jvm.MethodName)) ∈ lw_all := lw_g (lw_at lw_m7 37 rfl) rfl
theorem q1560 : (Jvm.Cond.privateMethod ({ cls := "WheelBrookModel", name := "isName", desc := "(I)Z" } : Jvm.MethodName)) ∈ lw_tbl := lw_at lw_m7 38 rfl
theorem q1561 : (Jvm.Cond.instanceMethod ({ cls := "WheelBrookModel", name := "isName", desc := "(I)Z" } : Jvm.MethodName)) ∈ lw_all := lw_g (lw_at lw_m7 39 rfl) rfl
theorem q1562 : (Jvm.Cond.code ({ cls := "WheelBrookModel", name := "isName", desc := "(I)Z" } : Jvm.MethodName) prog_20_method_33_code (2 : Nat) (Option.some Jvm.ClassFile.FieldType.boolean)) ∈ lw_all := lw_g (lw_at lw_m7 40 rfl) rfl
theorem q1563 : (Jvm.Cond.methodLink "WheelBrookModel" (145 : Nat) ({ cls := "WheelBrookModel", name := "step1", desc := "(II)V" } : Jvm.MethodName)) ∈ lw_all := lw_g (lw_at lw_m7 41 rfl) rfl
theorem q1564 : (Jvm.Cond.privateMethod ({ cls := "WheelBrookModel", name := "step1", desc := "(II)V" } : Jvm.MethodName)) ∈ lw_tbl := lw_at lw_m7 42 rfl
theorem q1565 : (Jvm.Cond.instanceMethod ({ cls := "WheelBrookModel", name := "step1", desc := "(II)V" } : Jvm.MethodName)) ∈ lw_all := lw_g (lw_at lw_m7 43 rfl) rfl
theorem q1566 : (Jvm.Cond.code ({ cls := "WheelBrookModel", name := "step1", desc := "(II)V" } : Jvm.MethodName) prog_20_method_34_code (3 : Nat) (Option.none : Option Jvm.ClassFile.FieldType)) ∈ lw_all := lw_g (lw_at lw_m7 44 rfl) rfl
theorem q1567 : (Jvm.Cond.methodLink "WheelBrookModel" (167 : Nat) ({ cls := "WheelBrookModel", name := "opens", desc := "()Z" } : Jvm.MethodName)) ∈ lw_all := lw_g (lw_at lw_m7 45 rfl) rfl
theorem q1568 : (Jvm.Cond.privateMethod ({ cls := "WheelBrookModel", name := "opens", desc := "()Z" } : Jvm.MethodName)) ∈ lw_tbl := lw_at lw_m7 46 rfl
theorem q1569 : (Jvm.Cond.instanceMethod ({ cls := "WheelBrookModel", name := "opens", desc := "()Z" } : Jvm.MethodName)) ∈ lw_all := lw_g (lw_at lw_m7 47 rfl) rfl
theorem q1570 : (Jvm.Cond.code ({ cls := "WheelBrookModel", name := "opens", desc := "()Z" } : Jvm.MethodName) prog_20_method_40_code (1 : Nat) (Option.some Jvm.ClassFile.FieldType.boolean)) ∈ lw_all := lw_g (lw_at lw_m7 48 rfl) rfl
theorem q1572 : (Jvm.Cond.instanceMethod ({ cls := "WheelBrookModel", name := "untell", desc := "(I)I" } : Jvm.MethodName)) ∈ lw_all := lw_g (lw_at lw_m7 50 rfl) rfl
theorem q1573 : (Jvm.Cond.selects "WheelBrookModel" ({ cls := "WheelBrookModel", name := "untell", desc := "(I)I" } : Jvm.MethodName) ({ cls := "WheelBrookModel", name := "untell", desc := "(I)I" } : Jvm.MethodName)) ∈ lw_all := lw_g (lw_at lw_m7 51 rfl) rfl
theorem q1574 : (Jvm.Cond.code ({ cls := "WheelBrookModel", name := "untell", desc := "(I)I" } : Jvm.MethodName) prog_20_method_44_code (3 : Nat) (Option.some Jvm.ClassFile.FieldType.int)) ∈ lw_all := lw_g (lw_at lw_m7 52 rfl) rfl
theorem q1576 : (Jvm.Cond.instanceMethod ({ cls := "WheelBrookModel", name := "flows", desc := "(I)I" } : Jvm.MethodName)) ∈ lw_all := lw_g (lw_at lw_m7 54 rfl) rfl
theorem q1577 : (Jvm.Cond.selects "WheelBrookModel" ({ cls := "WheelBrookModel", name := "flows", desc := "(I)I" } : Jvm.MethodName) ({ cls := "WheelBrookModel", name := "flows", desc := "(I)I" } : Jvm.MethodName)) ∈ lw_all := lw_g (lw_at lw_m7 55 rfl) rfl
theorem q1578 : (Jvm.Cond.code ({ cls := "WheelBrookModel", name := "flows", desc := "(I)I" } : Jvm.MethodName) prog_20_method_54_code (2 : Nat) (Option.some Jvm.ClassFile.FieldType.int)) ∈ lw_all := lw_g (lw_at lw_m7 56 rfl) rfl
theorem q1580 : (Jvm.Cond.instanceMethod ({ cls := "WheelBrookModel", name := "hours", desc := "(I)I" } : Jvm.MethodName)) ∈ lw_all := lw_g (lw_at lw_m7 58 rfl) rfl
theorem q1581 : (Jvm.Cond.selects "WheelBrookModel" ({ cls := "WheelBrookModel", name := "hours", desc := "(I)I" } : Jvm.MethodName) ({ cls := "WheelBrookModel", name := "hours", desc := "(I)I" } : Jvm.MethodName)) ∈ lw_all := lw_g (lw_at lw_m7 59 rfl) rfl
theorem q1582 : (Jvm.Cond.code ({ cls := "WheelBrookModel", name := "hours", desc := "(I)I" } : Jvm.MethodName) prog_20_method_59_code (2 : Nat) (Option.some Jvm.ClassFile.FieldType.int)) ∈ lw_all := lw_g (lw_at lw_m7 60 rfl) rfl
theorem q1583 : (Jvm.Cond.methodLink "WheelBrookModel" (212 : Nat) ({ cls := "WheelBrookModel", name := "go", desc := "(I)V" } : Jvm.MethodName)) ∈ lw_all := lw_g (lw_at lw_m7 61 rfl) rfl
theorem q1584 : (Jvm.Cond.privateMethod ({ cls := "WheelBrookModel", name := "go", desc := "(I)V" } : Jvm.MethodName)) ∈ lw_tbl := lw_at lw_m7 62 rfl
theorem q1585 : (Jvm.Cond.instanceMethod ({ cls := "WheelBrookModel", name := "go", desc := "(I)V" } : Jvm.MethodName)) ∈ lw_all := lw_g (lw_at lw_m7 63 rfl) rfl
theorem q1586 : (Jvm.Cond.code ({ cls := "WheelBrookModel", name := "go", desc := "(I)V" } : Jvm.MethodName) prog_20_method_57_code (3 : Nat) (Option.none : Option Jvm.ClassFile.FieldType)) ∈ lw_all := lw_g (lw_at lw_m7 64 rfl) rfl
theorem q1587 : (Jvm.Cond.methodLink "WheelBrookModel" (209 : Nat) ({ cls := "WheelBrookModel", name := "hour", desc := "()V" } : Jvm.MethodName)) ∈ lw_all := lw_g (lw_at lw_m7 65 rfl) rfl
theorem q1588 : (Jvm.Cond.privateMethod ({ cls := "WheelBrookModel", name := "hour", desc := "()V" } : Jvm.MethodName)) ∈ lw_tbl := lw_at lw_m7 66 rfl
theorem q1589 : (Jvm.Cond.instanceMethod ({ cls := "WheelBrookModel", name := "hour", desc := "()V" } : Jvm.MethodName)) ∈ lw_all := lw_g (lw_at lw_m7 67 rfl) rfl
theorem q1590 : (Jvm.Cond.code ({ cls := "WheelBrookModel", name := "hour", desc := "()V" } : Jvm.MethodName) prog_20_method_56_code (3 : Nat) (Option.none : Option Jvm.ClassFile.FieldType)) ∈ lw_all := lw_g (lw_at lw_m7 68 rfl) rfl
theorem q1591 : (Jvm.Cond.methodLink "WheelBrookModel" (206 : Nat) ({ cls := "WheelBrookModel", name := "turn1", desc := "(II)V" } : Jvm.MethodName)) ∈ lw_all := lw_g (lw_at lw_m7 69 rfl) rfl
theorem q1592 : (Jvm.Cond.privateMethod ({ cls := "WheelBrookModel", name := "turn1", desc := "(II)V" } : Jvm.MethodName)) ∈ lw_tbl := lw_at lw_m7 70 rfl
theorem q1593 : (Jvm.Cond.instanceMethod ({ cls := "WheelBrookModel", name := "turn1", desc := "(II)V" } : Jvm.MethodName)) ∈ lw_all := lw_g (lw_at lw_m7 71 rfl) rfl
theorem q1594 : (Jvm.Cond.code ({ cls := "WheelBrookModel", name := "turn1", desc := "(II)V" } : Jvm.MethodName) prog_20_method_55_code (3 : Nat) (Option.none : Option Jvm.ClassFile.FieldType)) ∈ lw_all := lw_g (lw_at lw_m7 72 rfl) rfl
theorem q1595 : (Jvm.Cond.methodLink "WheelBrookModel" (203 : Nat) ({ cls := "WheelBrookModel", name := "prays", desc := "(II)V" } : Jvm.MethodName)) ∈ lw_all := lw_g (lw_at lw_m7 73 rfl) rfl
theorem q1596 : (Jvm.Cond.privateMethod ({ cls := "WheelBrookModel", name := "prays", desc := "(II)V" } : Jvm.MethodName)) ∈ lw_tbl := lw_at lw_m7 74 rfl
theorem q1597 : (Jvm.Cond.instanceMethod ({ cls := "WheelBrookModel", name := "prays", desc := "(II)V" } : Jvm.MethodName)) ∈ lw_all := lw_g (lw_at lw_m7 75 rfl) rfl
theorem q1598 : (Jvm.Cond.code ({ cls := "WheelBrookModel", name := "prays", desc := "(II)V" } : Jvm.MethodName) prog_20_method_13_code (3 : Nat) (Option.none : Option Jvm.ClassFile.FieldType)) ∈ lw_all := lw_g (lw_at lw_m7 76 rfl) rfl
theorem q1599 : (Jvm.Cond.methodLink "WheelBrookModel" (216 : Nat) ({ cls := "WheelBrookModel", name := "allPrayed", desc := "()I" } : Jvm.MethodName)) ∈ lw_all := lw_g (lw_at lw_m7 77 rfl) rfl
theorem q1600 : (Jvm.Cond.privateMethod ({ cls := "WheelBrookModel", name := "allPrayed", desc := "()I" } : Jvm.MethodName)) ∈ lw_tbl := lw_at lw_m7 78 rfl
theorem q1601 : (Jvm.Cond.instanceMethod ({ cls := "WheelBrookModel", name := "allPrayed", desc := "()I" } : Jvm.MethodName)) ∈ lw_all := lw_g (lw_at lw_m7 79 rfl) rfl
theorem q1602 : (Jvm.Cond.code ({ cls := "WheelBrookModel", name := "allPrayed", desc := "()I" } : Jvm.MethodName) prog_20_method_58_code (3 : Nat) (Option.some Jvm.ClassFile.FieldType.int)) ∈ lw_all := lw_g (lw_at lw_m7 80 rfl) rfl
theorem q1604 : (Jvm.Cond.instanceMethod ({ cls := "WheelBrookModel", name := "draws", desc := "(I)I" } : Jvm.MethodName)) ∈ lw_all := lw_g (lw_at lw_m7 82 rfl) rfl
theorem q1605 : (Jvm.Cond.selects "WheelBrookModel" ({ cls := "WheelBrookModel", name := "draws", desc := "(I)I" } : Jvm.MethodName) ({ cls := "WheelBrookModel", name := "draws", desc := "(I)I" } : Jvm.MethodName)) ∈ lw_all := lw_g (lw_at lw_m7 83 rfl) rfl
theorem q1606 : (Jvm.Cond.code ({ cls := "WheelBrookModel", name := "draws", desc := "(I)I" } : Jvm.MethodName) prog_20_method_61_code (6 : Nat) (Option.some Jvm.ClassFile.FieldType.int)) ∈ lw_all := lw_g (lw_at lw_m7 84 rfl) rfl
theorem q1607 : (Jvm.Cond.methodLink "WheelBrookModel" (220 : Nat) ({ cls := "WheelBrookModel", name := "draw", desc := "()I" } : Jvm.MethodName)) ∈ lw_all := lw_g (lw_at lw_m7 85 rfl) rfl
theorem q1608 : (Jvm.Cond.privateMethod ({ cls := "WheelBrookModel", name := "draw", desc := "()I" } : Jvm.MethodName)) ∈ lw_tbl := lw_at lw_m7 86 rfl
theorem q1609 : (Jvm.Cond.instanceMethod ({ cls := "WheelBrookModel", name := "draw", desc := "()I" } : Jvm.MethodName)) ∈ lw_all := lw_g (lw_at lw_m7 87 rfl) rfl
theorem q1610 : (Jvm.Cond.code ({ cls := "WheelBrookModel", name := "draw", desc := "()I" } : Jvm.MethodName) prog_20_method_60_code (1 : Nat) (Option.some Jvm.ClassFile.FieldType.int)) ∈ lw_all := lw_g (lw_at lw_m7 88 rfl) rfl
theorem q1611 : (Jvm.Cond.constant "WheelBrookModel" (219 : Nat) (1103515245 : Int32)) ∈ lw_all := lw_g (lw_at lw_m7 89 rfl) rfl
theorem q1613 : (Jvm.Cond.instanceMethod ({ cls := "WheelBrookModel", name := "seed", desc := "(I)I" } : Jvm.MethodName)) ∈ lw_all := lw_g (lw_at lw_m7 91 rfl) rfl
theorem q1614 : (Jvm.Cond.selects "WheelBrookModel" ({ cls := "WheelBrookModel", name := "seed", desc := "(I)I" } : Jvm.MethodName) ({ cls := "WheelBrookModel", name := "seed", desc := "(I)I" } : Jvm.MethodName)) ∈ lw_all := lw_g (lw_at lw_m7 92 rfl) rfl
theorem q1615 : (Jvm.Cond.code ({ cls := "WheelBrookModel", name := "seed", desc := "(I)I" } : Jvm.MethodName) prog_20_method_62_code (2 : Nat) (Option.some Jvm.ClassFile.FieldType.int)) ∈ lw_all := lw_g (lw_at lw_m7 93 rfl) rfl
theorem q1617 : (Jvm.Cond.instanceMethod ({ cls := "WheelBrookModel", name := "sell", desc := "(III)I" } : Jvm.MethodName)) ∈ lw_all := lw_g (lw_at lw_m7 95 rfl) rfl
theorem q1618 : (Jvm.Cond.selects "WheelBrookModel" ({ cls := "WheelBrookModel", name := "sell", desc := "(III)I" } : Jvm.MethodName) ({ cls := "WheelBrookModel", name := "sell", desc := "(III)I" } : Jvm.MethodName)) ∈ lw_all := lw_g (lw_at lw_m7 96 rfl) rfl
theorem q1619 : (Jvm.Cond.code ({ cls := "WheelBrookModel", name := "sell", desc := "(III)I" } : Jvm.MethodName) prog_20_method_63_code (4 : Nat) (Option.some Jvm.ClassFile.FieldType.int)) ∈ lw_all := lw_g (lw_at lw_m7 97 rfl) rfl
theorem q1621 : (Jvm.Cond.instanceMethod ({ cls := "WheelBrookModel", name := "fair", desc := "(II)I" } : Jvm.MethodName)) ∈ lw_all := lw_g (lw_at lw_m7 99 rfl) rfl
theorem q1622 : (Jvm.Cond.selects "WheelBrookModel" ({ cls := "WheelBrookModel", name := "fair", desc := "(II)I" } : Jvm.MethodName) ({ cls := "WheelBrookModel", name := "fair", desc := "(II)I" } : Jvm.MethodName)) ∈ lw_all := lw_g (lw_at lw_m7 100 rfl) rfl
theorem q1623 : (Jvm.Cond.code ({ cls := "WheelBrookModel", name := "fair", desc := "(II)I" } : Jvm.MethodName) prog_20_method_64_code (3 : Nat) (Option.some Jvm.ClassFile.FieldType.int)) ∈ lw_all := lw_g (lw_at lw_m7 101 rfl) rfl
theorem q1625 : (Jvm.Cond.instanceMethod ({ cls := "WheelBrookModel", name := "then", desc := "(III)I" } : Jvm.MethodName)) ∈ lw_all := lw_g (lw_at lw_m7 103 rfl) rfl
theorem q1626 : (Jvm.Cond.selects "WheelBrookModel" ({ cls := "WheelBrookModel", name := "then", desc := "(III)I" } : Jvm.MethodName) ({ cls := "WheelBrookModel", name := "then", desc := "(III)I" } : Jvm.MethodName)) ∈ lw_all := lw_g (lw_at lw_m7 104 rfl) rfl
theorem q1627 : (Jvm.Cond.code ({ cls := "WheelBrookModel", name := "then", desc := "(III)I" } : Jvm.MethodName) prog_20_method_66_code (5 : Nat) (Option.some Jvm.ClassFile.FieldType.int)) ∈ lw_all := lw_g (lw_at lw_m7 105 rfl) rfl
theorem q1628 : (Jvm.Cond.methodLink "WheelBrookModel" (223 : Nat) ({ cls := "WheelBrookModel", name := "isAhead", desc := "(I)Z" } : Jvm.MethodName)) ∈ lw_all := lw_g (lw_at lw_m7 106 rfl) rfl
theorem q1629 : (Jvm.Cond.static ({ cls := "WheelBrookModel", name := "isAhead", desc := "(I)Z" } : Jvm.MethodName)) ∈ lw_all := lw_g (lw_at lw_m7 107 rfl) rfl
theorem q1630 : (Jvm.Cond.code ({ cls := "WheelBrookModel", name := "isAhead", desc := "(I)Z" } : Jvm.MethodName) prog_20_method_65_code (1 : Nat) (Option.some Jvm.ClassFile.FieldType.boolean)) ∈ lw_all := lw_g (lw_at lw_m7 108 rfl) rfl
theorem q1631 : (Jvm.Cond.methodLink "WheelBrookModel" (226 : Nat) ({ cls := "WheelBrookModel", name := "carry", desc := "([I[I)V" } : Jvm.MethodName)) ∈ lw_all := lw_g (lw_at lw_m7 109 rfl) rfl
theorem q1632 : (Jvm.Cond.static ({ cls := "WheelBrookModel", name := "carry", desc := "([I[I)V" } : Jvm.MethodName)) ∈ lw_all := lw_g (lw_at lw_m7 110 rfl) rfl
theorem q1633 : (Jvm.Cond.code ({ cls := "WheelBrookModel", name := "carry", desc := "([I[I)V" } : Jvm.MethodName) prog_20_method_5_code (3 : Nat) (Option.none : Option Jvm.ClassFile.FieldType)) ∈ lw_all := lw_g (lw_at lw_m7 111 rfl) rfl
theorem q1635 : (Jvm.Cond.instanceMethod ({ cls := "WheelBrookModel", name := "thenFamily", desc := "(III)I" } : Jvm.MethodName)) ∈ lw_all := lw_g (lw_at lw_m7 113 rfl) rfl
theorem q1636 : (Jvm.Cond.selects "WheelBrookModel" ({ cls := "WheelBrookModel", name := "thenFamily", desc := "(III)I" } : Jvm.MethodName) ({ cls := "WheelBrookModel", name := "thenFamily", desc := "(III)I" } : Jvm.MethodName)) ∈ lw_all := lw_g (lw_at lw_m7 114 rfl) rfl
theorem q1637 : (Jvm.Cond.code ({ cls := "WheelBrookModel", name := "thenFamily", desc := "(III)I" } : Jvm.MethodName) prog_20_method_67_code (5 : Nat) (Option.some Jvm.ClassFile.FieldType.int)) ∈ lw_all := lw_g (lw_at lw_m7 115 rfl) rfl
theorem q1639 : (Jvm.Cond.instanceMethod ({ cls := "WheelBrookModel", name := "when", desc := "(II)I" } : Jvm.MethodName)) ∈ lw_all := lw_g (lw_at lw_m7 117 rfl) rfl
theorem q1640 : (Jvm.Cond.selects "WheelBrookModel" ({ cls := "WheelBrookModel", name := "when", desc := "(II)I" } : Jvm.MethodName) ({ cls := "WheelBrookModel", name := "when", desc := "(II)I" } : Jvm.MethodName)) ∈ lw_all := lw_g (lw_at lw_m7 118 rfl) rfl
theorem q1641 : (Jvm.Cond.code ({ cls := "WheelBrookModel", name := "when", desc := "(II)I" } : Jvm.MethodName) prog_20_method_68_code (5 : Nat) (Option.some Jvm.ClassFile.FieldType.int)) ∈ lw_all := lw_g (lw_at lw_m7 119 rfl) rfl
theorem q1643 : (Jvm.Cond.instanceMethod ({ cls := "WheelBrookModel", name := "sluices", desc := "(II)I" } : Jvm.MethodName)) ∈ lw_all := lw_g (lw_at lw_m7 121 rfl) rfl
theorem q1644 : (Jvm.Cond.selects "WheelBrookModel" ({ cls := "WheelBrookModel", name := "sluices", desc := "(II)I" } : Jvm.MethodName) ({ cls := "WheelBrookModel", name := "sluices", desc := "(II)I" } : Jvm.MethodName)) ∈ lw_all := lw_g (lw_at lw_m7 122 rfl) rfl
theorem q1645 : (Jvm.Cond.code ({ cls := "WheelBrookModel", name := "sluices", desc := "(II)I" } : Jvm.MethodName) prog_20_method_71_code (8 : Nat) (Option.some Jvm.ClassFile.FieldType.int)) ∈ lw_all := lw_g (lw_at lw_m7 123 rfl) rfl
theorem q1646 : (Jvm.Cond.methodLink "WheelBrookModel" (230 : Nat) ({ cls := "WheelBrookModel", name := "opens", desc := "(I)V" } : Jvm.MethodName)) ∈ lw_all := lw_g (lw_at lw_m7 124 rfl) rfl
theorem q1647 : (Jvm.Cond.privateMethod ({ cls := "WheelBrookModel", name := "opens", desc := "(I)V" } : Jvm.MethodName)) ∈ lw_tbl := lw_at lw_m7 125 rfl
theorem q1648 : (Jvm.Cond.instanceMethod ({ cls := "WheelBrookModel", name := "opens", desc := "(I)V" } : Jvm.MethodName)) ∈ lw_all := lw_g (lw_at lw_m7 126 rfl) rfl
theorem q1649 : (Jvm.Cond.code ({ cls := "WheelBrookModel", name := "opens", desc := "(I)V" } : Jvm.MethodName) prog_20_method_69_code (3 : Nat) (Option.none : Option Jvm.ClassFile.FieldType)) ∈ lw_all := lw_g (lw_at lw_m7 127 rfl) rfl
theorem q1650 : (Jvm.Cond.methodLink "WheelBrookModel" (232 : Nat) ({ cls := "WheelBrookModel", name := "areAllPaid", desc := "()Z" } : Jvm.MethodName)) ∈ lw_all := lw_g (lw_at lw_m7 128 rfl) rfl
theorem q1651 : (Jvm.Cond.privateMethod ({ cls := "WheelBrookModel", name := "areAllPaid", desc := "()Z" } : Jvm.MethodName)) ∈ lw_tbl := lw_at lw_m7 129 rfl
theorem q1652 : (Jvm.Cond.instanceMethod ({ cls := "WheelBrookModel", name := "areAllPaid", desc := "()Z" } : Jvm.MethodName)) ∈ lw_all := lw_g (lw_at lw_m7 130 rfl) rfl
theorem q1653 : (Jvm.Cond.code ({ cls := "WheelBrookModel", name := "areAllPaid", desc := "()Z" } : Jvm.MethodName) prog_20_method_70_code (3 : Nat) (Option.some Jvm.ClassFile.FieldType.boolean)) ∈ lw_all := lw_g (lw_at lw_m7 131 rfl) rfl
theorem q1655 : (Jvm.Cond.instanceMethod ({ cls := "WheelBrookModel", name := "fewer", desc := "(III)I" } : Jvm.MethodName)) ∈ lw_all := lw_g (lw_at lw_m7 133 rfl) rfl
theorem q1656 : (Jvm.Cond.selects "WheelBrookModel" ({ cls := "WheelBrookModel", name := "fewer", desc := "(III)I" } : Jvm.MethodName) ({ cls := "WheelBrookModel", name := "fewer", desc := "(III)I" } : Jvm.MethodName)) ∈ lw_all := lw_g (lw_at lw_m7 134 rfl) rfl
theorem q1657 : (Jvm.Cond.code ({ cls := "WheelBrookModel", name := "fewer", desc := "(III)I" } : Jvm.MethodName) prog_20_method_74_code (7 : Nat) (Option.some Jvm.ClassFile.FieldType.int)) ∈ lw_all := lw_g (lw_at lw_m7 135 rfl) rfl
theorem q1658 : (Jvm.Cond.methodLink "WheelBrookModel" (241 : Nat) ({ cls := "WheelBrookModel", name := "isTold", desc := "(II)Z" } : Jvm.MethodName)) ∈ lw_all := lw_g (lw_at lw_m7 136 rfl) rfl
theorem q1659 : (Jvm.Cond.privateMethod ({ cls := "WheelBrookModel", name := "isTold", desc := "(II)Z" } : Jvm.MethodName)) ∈ lw_tbl := lw_at lw_m7 137 rfl
theorem q1660 : (Jvm.Cond.instanceMethod ({ cls := "WheelBrookModel", name := "isTold", desc := "(II)Z" } : Jvm.MethodName)) ∈ lw_all := lw_g (lw_at lw_m7 138 rfl) rfl
theorem q1661 : (Jvm.Cond.code ({ cls := "WheelBrookModel", name := "isTold", desc := "(II)Z" } : Jvm.MethodName) prog_20_method_73_code (3 : Nat) (Option.some Jvm.ClassFile.FieldType.boolean)) ∈ lw_all := lw_g (lw_at lw_m7 139 rfl) rfl
theorem q1662 : (Jvm.Cond.methodLink "WheelBrookModel" (244 : Nat) ({ cls := "WheelBrookModel", name := "findTurns", desc := "(II)V" } : Jvm.MethodName)) ∈ lw_all := lw_g (lw_at lw_m7 140 rfl) rfl
theorem q1663 : (Jvm.Cond.privateMethod ({ cls := "WheelBrookModel", name := "findTurns", desc := "(II)V" } : Jvm.MethodName)) ∈ lw_tbl := lw_at lw_m7 141 rfl
theorem q1664 : (Jvm.Cond.instanceMethod ({ cls := "WheelBrookModel", name := "findTurns", desc := "(II)V" } : Jvm.MethodName)) ∈ lw_all := lw_g (lw_at lw_m7 142 rfl) rfl
theorem q1665 : (Jvm.Cond.code ({ cls := "WheelBrookModel", name := "findTurns", desc := "(II)V" } : Jvm.MethodName) prog_20_method_72_code (5 : Nat) (Option.none : Option Jvm.ClassFile.FieldType)) ∈ lw_all := lw_g (lw_at lw_m7 143 rfl) rfl
theorem q1667 : (Jvm.Cond.instanceMethod ({ cls := "WheelBrookModel", name := "bestPlace", desc := "(II)I" } : Jvm.MethodName)) ∈ lw_all := lw_g (lw_at lw_m7 145 rfl) rfl
theorem q1668 : (Jvm.Cond.selects "WheelBrookModel" ({ cls := "WheelBrookModel", name := "bestPlace", desc := "(II)I" } : Jvm.MethodName) ({ cls := "WheelBrookModel", name := "bestPlace", desc := "(II)I" } : Jvm.MethodName)) ∈ lw_all := lw_g (lw_at lw_m7 146 rfl) rfl
theorem q1669 : (Jvm.Cond.code ({ cls := "WheelBrookModel", name := "bestPlace", desc := "(II)I" } : Jvm.MethodName) prog_20_method_75_code (8 : Nat) (Option.some Jvm.ClassFile.FieldType.int)) ∈ lw_all := lw_g (lw_at lw_m7 147 rfl) rfl
theorem q1671 : (Jvm.Cond.instanceMethod ({ cls := "WheelBrookModel", name := "who", desc := "(II)I" } : Jvm.MethodName)) ∈ lw_all := lw_g (lw_at lw_m7 149 rfl) rfl
theorem q1672 : (Jvm.Cond.selects "WheelBrookModel" ({ cls := "WheelBrookModel", name := "who", desc := "(II)I" } : Jvm.MethodName) ({ cls := "WheelBrookModel", name := "who", desc := "(II)I" } : Jvm.MethodName)) ∈ lw_all := lw_g (lw_at lw_m7 150 rfl) rfl
theorem q1673 : (Jvm.Cond.code ({ cls := "WheelBrookModel", name := "who", desc := "(II)I" } : Jvm.MethodName) prog_20_method_76_code (9 : Nat) (Option.some Jvm.ClassFile.FieldType.int)) ∈ lw_all := lw_g (lw_at lw_m7 151 rfl) rfl
theorem q1675 : (Jvm.Cond.instanceMethod ({ cls := "WheelBrookModel", name := "slipped", desc := "()I" } : Jvm.MethodName)) ∈ lw_all := lw_g (lw_at lw_m7 153 rfl) rfl
theorem q1676 : (Jvm.Cond.selects "WheelBrookModel" ({ cls := "WheelBrookModel", name := "slipped", desc := "()I" } : Jvm.MethodName) ({ cls := "WheelBrookModel", name := "slipped", desc := "()I" } : Jvm.MethodName)) ∈ lw_all := lw_g (lw_at lw_m7 154 rfl) rfl
theorem q1677 : (Jvm.Cond.code ({ cls := "WheelBrookModel", name := "slipped", desc := "()I" } : Jvm.MethodName) prog_20_method_77_code (3 : Nat) (Option.some Jvm.ClassFile.FieldType.int)) ∈ lw_all := lw_g (lw_at lw_m7 155 rfl) rfl
theorem q1679 : (Jvm.Cond.instanceMethod ({ cls := "WheelBrookModel", name := "voice", desc := "(III)I" } : Jvm.MethodName)) ∈ lw_all := lw_g (lw_at lw_m7 157 rfl) rfl
theorem q1680 : (Jvm.Cond.selects "WheelBrookModel" ({ cls := "WheelBrookModel", name := "voice", desc := "(III)I" } : Jvm.MethodName) ({ cls := "WheelBrookModel", name := "voice", desc := "(III)I" } : Jvm.MethodName)) ∈ lw_all := lw_g (lw_at lw_m7 158 rfl) rfl
theorem q1681 : (Jvm.Cond.code ({ cls := "WheelBrookModel", name := "voice", desc := "(III)I" } : Jvm.MethodName) prog_20_method_86_code (6 : Nat) (Option.some Jvm.ClassFile.FieldType.int)) ∈ lw_all := lw_g (lw_at lw_m7 159 rfl) rfl
theorem q1682 : (Jvm.Cond.methodLink "WheelBrookModel" (262 : Nat) ({ cls := "WheelBrookModel", name := "kindNow", desc := "()I" } : Jvm.MethodName)) ∈ lw_all := lw_g (lw_at lw_m7 160 rfl) rfl
theorem q1683 : (Jvm.Cond.privateMethod ({ cls := "WheelBrookModel", name := "kindNow", desc := "()I" } : Jvm.MethodName)) ∈ lw_tbl := lw_at lw_m7 161 rfl
theorem q1684 : (Jvm.Cond.instanceMethod ({ cls := "WheelBrookModel", name := "kindNow", desc := "()I" } : Jvm.MethodName)) ∈ lw_all := lw_g (lw_at lw_m7 162 rfl) rfl
theorem q1685 : (Jvm.Cond.code ({ cls := "WheelBrookModel", name := "kindNow", desc := "()I" } : Jvm.MethodName) prog_20_method_80_code (1 : Nat) (Option.some Jvm.ClassFile.FieldType.int)) ∈ lw_all := lw_g (lw_at lw_m7 163 rfl) rfl
theorem q1686 : (Jvm.Cond.methodLink "WheelBrookModel" (259 : Nat) ({ cls := "WheelBrookModel", name := "flowsAs", desc := "(II)I" } : Jvm.MethodName)) ∈ lw_all := lw_g (lw_at lw_m7 164 rfl) rfl
theorem q1687 : (Jvm.Cond.privateMethod ({ cls := "WheelBrookModel", name := "flowsAs", desc := "(II)I" } : Jvm.MethodName)) ∈ lw_tbl := lw_at lw_m7 165 rfl
theorem q1688 : (Jvm.Cond.instanceMethod ({ cls := "WheelBrookModel", name := "flowsAs", desc := "(II)I" } : Jvm.MethodName)) ∈ lw_all := lw_g (lw_at lw_m7 166 rfl) rfl
theorem q1689 : (Jvm.Cond.code ({ cls := "WheelBrookModel", name := "flowsAs", desc := "(II)I" } : Jvm.MethodName) prog_20_method_82_code (3 : Nat) (Option.some Jvm.ClassFile.FieldType.int)) ∈ lw_all := lw_g (lw_at lw_m7 167 rfl) rfl
theorem q1690 : (Jvm.Cond.methodLink "WheelBrookModel" (253 : Nat) ({ cls := "WheelBrookModel", name := "begins", desc := "(I)V" } : Jvm.MethodName)) ∈ lw_all := lw_g (lw_at lw_m7 168 rfl) rfl
theorem q1691 : (Jvm.Cond.privateMethod ({ cls := "WheelBrookModel", name := "begins", desc := "(I)V" } : Jvm.MethodName)) ∈ lw_tbl := lw_at lw_m7 169 rfl
theorem q1692 : (Jvm.Cond.instanceMethod ({ cls := "WheelBrookModel", name := "begins", desc := "(I)V" } : Jvm.MethodName)) ∈ lw_all := lw_g (lw_at lw_m7 170 rfl) rfl
theorem q1693 : (Jvm.Cond.code ({ cls := "WheelBrookModel", name := "begins", desc := "(I)V" } : Jvm.MethodName) prog_20_method_78_code (2 : Nat) (Option.none : Option Jvm.ClassFile.FieldType)) ∈ lw_all := lw_g (lw_at lw_m7 171 rfl) rfl
theorem q1694 : (Jvm.Cond.methodLink "WheelBrookModel" (256 : Nat) ({ cls := "WheelBrookModel", name := "above", desc := "(I)I" } : Jvm.MethodName)) ∈ lw_all := lw_g (lw_at lw_m7 172 rfl) rfl
theorem q1695 : (Jvm.Cond.static ({ cls := "WheelBrookModel", name := "above", desc := "(I)I" } : Jvm.MethodName)) ∈ lw_all := lw_g (lw_at lw_m7 173 rfl) rfl
theorem q1696 : (Jvm.Cond.code ({ cls := "WheelBrookModel", name := "above", desc := "(I)I" } : Jvm.MethodName) prog_20_method_79_code (1 : Nat) (Option.some Jvm.ClassFile.FieldType.int)) ∈ lw_all := lw_g (lw_at lw_m7 174 rfl) rfl
theorem q1697 : (Jvm.Cond.methodLink "WheelBrookModel" (265 : Nat) ({ cls := "WheelBrookModel", name := "turnsAs", desc := "(II)I" } : Jvm.MethodName)) ∈ lw_all := lw_g (lw_at lw_m7 175 rfl) rfl
theorem q1698 : (Jvm.Cond.privateMethod ({ cls := "WheelBrookModel", name := "turnsAs", desc := "(II)I" } : Jvm.MethodName)) ∈ lw_tbl := lw_at lw_m7 176 rfl
theorem q1699 : (Jvm.Cond.instanceMethod ({ cls := "WheelBrookModel", name := "turnsAs", desc := "(II)I" } : Jvm.MethodName)) ∈ lw_all := lw_g (lw_at lw_m7 177 rfl) rfl
theorem q1700 : (Jvm.Cond.code ({ cls := "WheelBrookModel", name := "turnsAs", desc := "(II)I" } : Jvm.MethodName) prog_20_method_83_code (3 : Nat) (Option.some Jvm.ClassFile.FieldType.int)) ∈ lw_all := lw_g (lw_at lw_m7 178 rfl) rfl
theorem q1701 : (Jvm.Cond.methodLink "WheelBrookModel" (268 : Nat) ({ cls := "WheelBrookModel", name := "mNow", desc := "()I" } : Jvm.MethodName)) ∈ lw_all := lw_g (lw_at lw_m7 179 rfl) rfl
theorem q1702 : (Jvm.Cond.privateMethod ({ cls := "WheelBrookModel", name := "mNow", desc := "()I" } : Jvm.MethodName)) ∈ lw_tbl := lw_at lw_m7 180 rfl
theorem q1703 : (Jvm.Cond.instanceMethod ({ cls := "WheelBrookModel", name := "mNow", desc := "()I" } : Jvm.MethodName)) ∈ lw_all := lw_g (lw_at lw_m7 181 rfl) rfl
theorem q1704 : (Jvm.Cond.code ({ cls := "WheelBrookModel", name := "mNow", desc := "()I" } : Jvm.MethodName) prog_20_method_81_code (1 : Nat) (Option.some Jvm.ClassFile.FieldType.int)) ∈ lw_all := lw_g (lw_at lw_m7 182 rfl) rfl
theorem q1705 : (Jvm.Cond.methodLink "WheelBrookModel" (271 : Nat) ({ cls := "WheelBrookModel", name := "praysAs", desc := "(II)I" } : Jvm.MethodName)) ∈ lw_all := lw_g (lw_at lw_m7 183 rfl) rfl
theorem q1706 : (Jvm.Cond.privateMethod ({ cls := "WheelBrookModel", name := "praysAs", desc := "(II)I" } : Jvm.MethodName)) ∈ lw_tbl := lw_at lw_m7 184 rfl
theorem q1707 : (Jvm.Cond.instanceMethod ({ cls := "WheelBrookModel", name := "praysAs", desc := "(II)I" } : Jvm.MethodName)) ∈ lw_all := lw_g (lw_at lw_m7 185 rfl) rfl
theorem q1708 : (Jvm.Cond.code ({ cls := "WheelBrookModel", name := "praysAs", desc := "(II)I" } : Jvm.MethodName) prog_20_method_84_code (3 : Nat) (Option.some Jvm.ClassFile.FieldType.int)) ∈ lw_all := lw_g (lw_at lw_m7 186 rfl) rfl
theorem q1709 : (Jvm.Cond.methodLink "WheelBrookModel" (278 : Nat) ({ cls := "WheelBrookModel", name := "partsAs", desc := "(II)I" } : Jvm.MethodName)) ∈ lw_all := lw_g (lw_at lw_m7 187 rfl) rfl
theorem q1710 : (Jvm.Cond.privateMethod ({ cls := "WheelBrookModel", name := "partsAs", desc := "(II)I" } : Jvm.MethodName)) ∈ lw_tbl := lw_at lw_m7 188 rfl
theorem q1711 : (Jvm.Cond.instanceMethod ({ cls := "WheelBrookModel", name := "partsAs", desc := "(II)I" } : Jvm.MethodName)) ∈ lw_all := lw_g (lw_at lw_m7 189 rfl) rfl
theorem q1712 : (Jvm.Cond.code ({ cls := "WheelBrookModel", name := "partsAs", desc := "(II)I" } : Jvm.MethodName) prog_20_method_85_code (5 : Nat) (Option.some Jvm.ClassFile.FieldType.int)) ∈ lw_all := lw_g (lw_at lw_m7 190 rfl) rfl
theorem q1714 : (Jvm.Cond.instanceMethod ({ cls := "WheelBrookModel", name := "body", desc := "(I)I" } : Jvm.MethodName)) ∈ lw_all := lw_g (lw_at lw_m7 192 rfl) rfl
theorem q1715 : (Jvm.Cond.selects "WheelBrookModel" ({ cls := "WheelBrookModel", name := "body", desc := "(I)I" } : Jvm.MethodName) ({ cls := "WheelBrookModel", name := "body", desc := "(I)I" } : Jvm.MethodName)) ∈ lw_all := lw_g (lw_at lw_m7 193 rfl) rfl
theorem q1716 : (Jvm.Cond.code ({ cls := "WheelBrookModel", name := "body", desc := "(I)I" } : Jvm.MethodName) prog_20_method_87_code (2 : Nat) (Option.some Jvm.ClassFile.FieldType.int)) ∈ lw_all := lw_g (lw_at lw_m7 194 rfl) rfl
theorem q1718 : (Jvm.Cond.instanceMethod ({ cls := "WheelBrookModel", name := "sheet", desc := "(III)I" } : Jvm.MethodName)) ∈ lw_all := lw_g (lw_at lw_m7 196 rfl) rfl
theorem q1719 : (Jvm.Cond.selects "WheelBrookModel" ({ cls := "WheelBrookModel", name := "sheet", desc := "(III)I" } : Jvm.MethodName) ({ cls := "WheelBrookModel", name := "sheet", desc := "(III)I" } : Jvm.MethodName)) ∈ lw_all := lw_g (lw_at lw_m7 197 rfl) rfl
theorem q1720 : (Jvm.Cond.code ({ cls := "WheelBrookModel", name := "sheet", desc := "(III)I" } : Jvm.MethodName) prog_20_method_89_code (5 : Nat) (Option.some Jvm.ClassFile.FieldType.int)) ∈ lw_all := lw_g (lw_at lw_m7 198 rfl) rfl
theorem q1721 : (Jvm.Cond.methodLink "WheelBrookModel" (281 : Nat) ({ cls := "WheelBrookModel", name := "isSheet", desc := "(I)Z" } : Jvm.MethodName)) ∈ lw_all := lw_g (lw_at lw_m7 199 rfl) rfl
theorem q1722 : (Jvm.Cond.static ({ cls := "WheelBrookModel", name := "isSheet", desc := "(I)Z" } : Jvm.MethodName)) ∈ lw_all := lw_g (lw_at lw_m7 200 rfl) rfl
theorem q1723 : (Jvm.Cond.code ({ cls := "WheelBrookModel", name := "isSheet", desc := "(I)Z" } : Jvm.MethodName) prog_20_method_88_code (1 : Nat) (Option.some Jvm.ClassFile.FieldType.boolean)) ∈ lw_all := lw_g (lw_at lw_m7 201 rfl) rfl
theorem q1725 : (Jvm.Cond.instanceMethod ({ cls := "WheelBrookModel", name := "put", desc := "(III)I" } : Jvm.MethodName)) ∈ lw_all := lw_g (lw_at lw_m7 203 rfl) rfl
theorem q1726 : (Jvm.Cond.selects "WheelBrookModel" ({ cls := "WheelBrookModel", name := "put", desc := "(III)I" } : Jvm.MethodName) ({ cls := "WheelBrookModel", name := "put", desc := "(III)I" } : Jvm.MethodName)) ∈ lw_all := lw_g (lw_at lw_m7 204 rfl) rfl
theorem q1727 : (Jvm.Cond.code ({ cls := "WheelBrookModel", name := "put", desc := "(III)I" } : Jvm.MethodName) prog_20_method_90_code (5 : Nat) (Option.some Jvm.ClassFile.FieldType.int)) ∈ lw_all := lw_g (lw_at lw_m7 205 rfl) rfl
theorem q1729 : (Jvm.Cond.instanceMethod ({ cls := "WheelBrookModel", name := "move", desc := "(IIIII)I" } : Jvm.MethodName)) ∈ lw_all := lw_g (lw_at lw_m7 207 rfl) rfl
theorem q1730 : (Jvm.Cond.selects "WheelBrookModel" ({ cls := "WheelBrookModel", name := "move", desc := "(IIIII)I" } : Jvm.MethodName) ({ cls := "WheelBrookModel", name := "move", desc := "(IIIII)I" } : Jvm.MethodName)) ∈ lw_all := lw_g (lw_at lw_m7 208 rfl) rfl
theorem q1731 : (Jvm.Cond.code ({ cls := "WheelBrookModel", name := "move", desc := "(IIIII)I" } : Jvm.MethodName) prog_20_method_91_code (7 : Nat) (Option.some Jvm.ClassFile.FieldType.int)) ∈ lw_all := lw_g (lw_at lw_m7 209 rfl) rfl
theorem q1733 : (Jvm.Cond.instanceMethod ({ cls := "WheelBrookModel", name := "forces", desc := "(I)I" } : Jvm.MethodName)) ∈ lw_all := lw_g (lw_at lw_m7 211 rfl) rfl
theorem q1734 : (Jvm.Cond.selects "WheelBrookModel" ({ cls := "WheelBrookModel", name := "forces", desc := "(I)I" } : Jvm.MethodName) ({ cls := "WheelBrookModel", name := "forces", desc := "(I)I" } : Jvm.MethodName)) ∈ lw_all := lw_g (lw_at lw_m7 212 rfl) rfl
theorem q1735 : (Jvm.Cond.code ({ cls := "WheelBrookModel", name := "forces", desc := "(I)I" } : Jvm.MethodName) prog_20_method_93_code (4 : Nat) (Option.some Jvm.ClassFile.FieldType.int)) ∈ lw_all := lw_g (lw_at lw_m7 213 rfl) rfl
theorem q1736 : (Jvm.Cond.methodLink "WheelBrookModel" (284 : Nat) ({ cls := "WheelBrookModel", name := "lacks", desc := "(I)I" } : Jvm.MethodName)) ∈ lw_all := lw_g (lw_at lw_m7 214 rfl) rfl
theorem q1737 : (Jvm.Cond.privateMethod ({ cls := "WheelBrookModel", name := "lacks", desc := "(I)I" } : Jvm.MethodName)) ∈ lw_tbl := lw_at lw_m7 215 rfl
theorem q1738 : (Jvm.Cond.instanceMethod ({ cls := "WheelBrookModel", name := "lacks", desc := "(I)I" } : Jvm.MethodName)) ∈ lw_all := lw_g (lw_at lw_m7 216 rfl) rfl
theorem q1739 : (Jvm.Cond.code ({ cls := "WheelBrookModel", name := "lacks", desc := "(I)I" } : Jvm.MethodName) prog_20_method_92_code (2 : Nat) (Option.some Jvm.ClassFile.FieldType.int)) ∈ lw_all := lw_g (lw_at lw_m7 217 rfl) rfl
theorem q1741 : (Jvm.Cond.instanceMethod ({ cls := "WheelBrookModel", name := "judge", desc := "(I)I" } : Jvm.MethodName)) ∈ lw_all := lw_g (lw_at lw_m7 219 rfl) rfl
theorem q1742 : (Jvm.Cond.selects "WheelBrookModel" ({ cls := "WheelBrookModel", name := "judge", desc := "(I)I" } : Jvm.MethodName) ({ cls := "WheelBrookModel", name := "judge", desc := "(I)I" } : Jvm.MethodName)) ∈ lw_all := lw_g (lw_at lw_m7 220 rfl) rfl
theorem q1743 : (Jvm.Cond.code ({ cls := "WheelBrookModel", name := "judge", desc := "(I)I" } : Jvm.MethodName) prog_20_method_94_code (4 : Nat) (Option.some Jvm.ClassFile.FieldType.int)) ∈ lw_all := lw_g (lw_at lw_m7 221 rfl) rfl
theorem q1745 : (Jvm.Cond.instanceMethod ({ cls := "WheelBrookModel", name := "image", desc := "()I" } : Jvm.MethodName)) ∈ lw_all := lw_g (lw_at lw_m7 223 rfl) rfl
theorem q1746 : (Jvm.Cond.selects "WheelBrookModel" ({ cls := "WheelBrookModel", name := "image", desc := "()I" } : Jvm.MethodName) ({ cls := "WheelBrookModel", name := "image", desc := "()I" } : Jvm.MethodName)) ∈ lw_all := lw_g (lw_at lw_m7 224 rfl) rfl
theorem q1747 : (Jvm.Cond.code ({ cls := "WheelBrookModel", name := "image", desc := "()I" } : Jvm.MethodName) prog_20_method_95_code (1 : Nat) (Option.some Jvm.ClassFile.FieldType.int)) ∈ lw_all := lw_g (lw_at lw_m7 225 rfl) rfl
theorem q1749 : (Jvm.Cond.instanceMethod ({ cls := "WheelBrookModel", name := "restore", desc := "()I" } : Jvm.MethodName)) ∈ lw_all := lw_g (lw_at lw_m7 227 rfl) rfl
theorem q1750 : (Jvm.Cond.selects "WheelBrookModel" ({ cls := "WheelBrookModel", name := "restore", desc := "()I" } : Jvm.MethodName) ({ cls := "WheelBrookModel", name := "restore", desc := "()I" } : Jvm.MethodName)) ∈ lw_all := lw_g (lw_at lw_m7 228 rfl) rfl
theorem q1751 : (Jvm.Cond.code ({ cls := "WheelBrookModel", name := "restore", desc := "()I" } : Jvm.MethodName) prog_20_method_96_code (1 : Nat) (Option.some Jvm.ClassFile.FieldType.int)) ∈ lw_all := lw_g (lw_at lw_m7 229 rfl) rfl
theorem q1753 : (Jvm.Cond.instanceMethod ({ cls := "WheelBrookModel", name := "tell", desc := "(I)I" } : Jvm.MethodName)) ∈ lw_all := lw_g (lw_at lw_m7 231 rfl) rfl
theorem q1754 : (Jvm.Cond.selects "WheelBrookModel" ({ cls := "WheelBrookModel", name := "tell", desc := "(I)I" } : Jvm.MethodName) ({ cls := "WheelBrookModel", name := "tell", desc := "(I)I" } : Jvm.MethodName)) ∈ lw_all := lw_g (lw_at lw_m7 232 rfl) rfl
theorem q1755 : (Jvm.Cond.code ({ cls := "WheelBrookModel", name := "tell", desc := "(I)I" } : Jvm.MethodName) prog_20_method_97_code (2 : Nat) (Option.some Jvm.ClassFile.FieldType.int)) ∈ lw_all := lw_g (lw_at lw_m7 233 rfl) rfl
theorem q1757 : (Jvm.Cond.instanceMethod ({ cls := "WheelBrookModel", name := "check", desc := "(I)I" } : Jvm.MethodName)) ∈ lw_all := lw_g (lw_at lw_m7 235 rfl) rfl
theorem q1758 : (Jvm.Cond.selects "WheelBrookModel" ({ cls := "WheelBrookModel", name := "check", desc := "(I)I" } : Jvm.MethodName) ({ cls := "WheelBrookModel", name := "check", desc := "(I)I" } : Jvm.MethodName)) ∈ lw_all := lw_g (lw_at lw_m7 236 rfl) rfl
theorem q1759 : (Jvm.Cond.code ({ cls := "WheelBrookModel", name := "check", desc := "(I)I" } : Jvm.MethodName) prog_20_method_98_code (5 : Nat) (Option.some Jvm.ClassFile.FieldType.int)) ∈ lw_all := lw_g (lw_at lw_m7 237 rfl) rfl
theorem q1761 : (Jvm.Cond.instanceMethod ({ cls := "WheelBrookModel", name := "count", desc := "(I)I" } : Jvm.MethodName)) ∈ lw_all := lw_g (lw_at lw_m7 239 rfl) rfl
theorem q1762 : (Jvm.Cond.selects "WheelBrookModel" ({ cls := "WheelBrookModel", name := "count", desc := "(I)I" } : Jvm.MethodName) ({ cls := "WheelBrookModel", name := "count", desc := "(I)I" } : Jvm.MethodName)) ∈ lw_all := lw_g (lw_at lw_m8 0 rfl) rfl
theorem q1763 : (Jvm.Cond.code ({ cls := "WheelBrookModel", name := "count", desc := "(I)I" } : Jvm.MethodName) prog_20_method_99_code (2 : Nat) (Option.some Jvm.ClassFile.FieldType.int)) ∈ lw_all := lw_g (lw_at lw_m8 1 rfl) rfl
theorem q1765 : (Jvm.Cond.instanceMethod ({ cls := "WheelBrookModel", name := "told", desc := "(I)I" } : Jvm.MethodName)) ∈ lw_all := lw_g (lw_at lw_m8 3 rfl) rfl
theorem q1766 : (Jvm.Cond.selects "WheelBrookModel" ({ cls := "WheelBrookModel", name := "told", desc := "(I)I" } : Jvm.MethodName) ({ cls := "WheelBrookModel", name := "told", desc := "(I)I" } : Jvm.MethodName)) ∈ lw_all := lw_g (lw_at lw_m8 4 rfl) rfl
theorem q1767 : (Jvm.Cond.code ({ cls := "WheelBrookModel", name := "told", desc := "(I)I" } : Jvm.MethodName) prog_20_method_100_code (2 : Nat) (Option.some Jvm.ClassFile.FieldType.int)) ∈ lw_all := lw_g (lw_at lw_m8 5 rfl) rfl
theorem in_X5 : ∀ w ∈ wsX50, w ∈ lw_all := lw_in wsX50 [1323, 1325, 1327, 1329, 1331, 1333, 1335, 1337, 1339, 1341, 1343, 1345, 1347, 1349, 1351, 1353, 1355, 1357, 1359, 1361, 1363, 1365, 1367, 1369, 1371, 1373, 1375] (by decide +kernel) (by decide +kernel)
