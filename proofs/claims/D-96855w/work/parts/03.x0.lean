/-! WheelBrook -/
set_option maxRecDepth 100000
def RX0 : String := "WheelBrook"
def TX0 : u_T := fun k => match k with
  | 0 => ("WheelBrook", "pile", "[I", true)
  | 1 => ("WheelBrook", "named", "[I", true)
  | 2 => ("WheelBrook", "house", "LWheelBrook$House;", false)
  | 3 => ("WheelBrook", "aside", "LWheelBrook$House;", false)
  | 4 => ("WheelBrook", "kept", "LWheelBrook$House;", true)
  | 5 => ("WheelBrook", "trace", "LWheelBrook$Trace;", true)
  | 6 => ("WheelBrook", "found", "[I", true)
  | 7 => ("WheelBrook", "sheets", "[LWheelBrook$Slot;", true)
  | 8 => ("WheelBrook", "eyes", "LWheelBrook$Sees;", true)
  | 9 => ("WheelBrook", "images", "I", false)
  | 10 => ("WheelBrook", "took", "[I", true)
  | 11 => ("WheelBrook", "flowing", "[I", true)
  | 12 => ("WheelBrook", "gone", "I", false)
  | 13 => ("WheelBrook", "lost", "I", false)
  | _ => ("WheelBrook", "summed", "[I", true)
def tyX0 : Nat → FieldType := fun k => match k with
  | 0 => .array .int
  | 1 => .array .int
  | 2 => .object "WheelBrook$House"
  | 3 => .object "WheelBrook$House"
  | 4 => .object "WheelBrook$House"
  | 5 => .object "WheelBrook$Trace"
  | 6 => .array .int
  | 7 => .array (.object "WheelBrook$Slot")
  | 8 => .object "WheelBrook$Sees"
  | 9 => .int
  | 10 => .array .int
  | 11 => .array .int
  | 12 => .int
  | 13 => .int
  | _ => .array .int
abbrev wsX00 : List Cond := u_ws RX0 TX0 15
set_option maxRecDepth 100000 in
theorem nmX0 : ∀ a, a < 15 → ∀ b, b < 15 → a ≠ b → (TX0 a).2.1 ≠ (TX0 b).2.1 := by decide +kernel
set_option maxRecDepth 100000 in
theorem tyX0_ok : ∀ k, k < 15 → parseFieldDescriptor (TX0 k).2.2.1 = some (tyX0 k) := by decide +kernel
abbrev cX0_init : ByteArray := prog_1_method_8_code
def yX0_init : MethodName := ⟨RX0, "<init>", "()V"⟩
def dkwX0_init_6 : List UInt8 := [16, 12, 188, 10, 181, 0, 112, 42, 16, 8, 188, 10, 181, 0, 115, 177]
abbrev dktX0_init_6 : List UInt8 := dkwX0_init_6 ++ []
def dkwX0_init_5 : List UInt8 := [181, 0, 96, 42, 187, 0, 100, 89, 42, 183, 0, 102, 181, 0, 105, 42, 16, 8, 188, 10, 181, 0, 109, 42]
abbrev dktX0_init_5 : List UInt8 := dkwX0_init_5 ++ dktX0_init_6
def dkwX0_init_4 : List UInt8 := [183, 0, 95, 83, 89, 5, 187, 0, 93, 89, 183, 0, 95, 83, 89, 6, 187, 0, 93, 89, 183, 0, 95, 83]
abbrev dktX0_init_4 : List UInt8 := dkwX0_init_4 ++ dktX0_init_5
def dkwX0_init_3 : List UInt8 := [181, 0, 90, 42, 7, 189, 0, 93, 89, 3, 187, 0, 93, 89, 183, 0, 95, 83, 89, 4, 187, 0, 93, 89]
abbrev dktX0_init_3 : List UInt8 := dkwX0_init_3 ++ dktX0_init_4
def dkwX0_init_2 : List UInt8 := [183, 0, 72, 181, 0, 80, 42, 187, 0, 83, 89, 183, 0, 85, 181, 0, 86, 42, 16, 7, 188, 10]
abbrev dktX0_init_2 : List UInt8 := dkwX0_init_2 ++ dktX0_init_3
def dkwX0_init_1 : List UInt8 := [183, 0, 72, 181, 0, 73, 42, 187, 0, 70, 89, 183, 0, 72, 181, 0, 77, 42, 187, 0, 70, 89]
abbrev dktX0_init_1 : List UInt8 := dkwX0_init_1 ++ dktX0_init_2
def dkwX0_init_0 : List UInt8 := [42, 183, 0, 65, 42, 16, 60, 188, 10, 181, 0, 50, 42, 7, 188, 10, 181, 0, 58, 42, 187, 0, 70, 89]
abbrev dktX0_init_0 : List UInt8 := dkwX0_init_0 ++ dktX0_init_1
theorem dksX0_init_0 : cX0_init.data.toList.drop 0 = dktX0_init_0 := by decide +kernel
theorem dksX0_init_1 : cX0_init.data.toList.drop 24 = dktX0_init_1 := dk_seg dksX0_init_0 24 rfl rfl
theorem dksX0_init_2 : cX0_init.data.toList.drop 46 = dktX0_init_2 := dk_seg dksX0_init_1 22 rfl rfl
theorem dksX0_init_3 : cX0_init.data.toList.drop 68 = dktX0_init_3 := dk_seg dksX0_init_2 22 rfl rfl
theorem dksX0_init_4 : cX0_init.data.toList.drop 92 = dktX0_init_4 := dk_seg dksX0_init_3 24 rfl rfl
theorem dksX0_init_5 : cX0_init.data.toList.drop 116 = dktX0_init_5 := dk_seg dksX0_init_4 24 rfl rfl
theorem dksX0_init_6 : cX0_init.data.toList.drop 140 = dktX0_init_6 := dk_seg dksX0_init_5 24 rfl rfl
theorem dX0_init_0 : decode cX0_init 0 = .ok (.aload_n 0, 1) := dk_42 (dk_at dksX0_init_0 0 rfl rfl)
theorem dX0_init_1 : decode cX0_init 1 = .ok (.invokespecial 65, 3) := dk_183 0 65 (dk_at dksX0_init_0 1 rfl rfl)
theorem dX0_init_4 : decode cX0_init 4 = .ok (.aload_n 0, 1) := dk_42 (dk_at dksX0_init_0 4 rfl rfl)
theorem dX0_init_5 : decode cX0_init 5 = .ok (.bipush 60, 2) := dk_16 60 (dk_at dksX0_init_0 5 rfl rfl)
theorem dX0_init_7 : decode cX0_init 7 = .ok (.newarray .int, 2) := dk_188_10 (dk_at dksX0_init_0 7 rfl rfl)
theorem dX0_init_9 : decode cX0_init 9 = .ok (.putfield 50, 3) := dk_181 0 50 (dk_at dksX0_init_0 9 rfl rfl)
theorem dX0_init_12 : decode cX0_init 12 = .ok (.aload_n 0, 1) := dk_42 (dk_at dksX0_init_0 12 rfl rfl)
theorem dX0_init_13 : decode cX0_init 13 = .ok (.iconst 4, 1) := dk_7 (dk_at dksX0_init_0 13 rfl rfl)
theorem dX0_init_14 : decode cX0_init 14 = .ok (.newarray .int, 2) := dk_188_10 (dk_at dksX0_init_0 14 rfl rfl)
theorem dX0_init_16 : decode cX0_init 16 = .ok (.putfield 58, 3) := dk_181 0 58 (dk_at dksX0_init_0 16 rfl rfl)
theorem dX0_init_19 : decode cX0_init 19 = .ok (.aload_n 0, 1) := dk_42 (dk_at dksX0_init_0 19 rfl rfl)
theorem dX0_init_20 : decode cX0_init 20 = .ok (.new 70, 3) := dk_187 0 70 (dk_at dksX0_init_0 20 rfl rfl)
theorem dX0_init_23 : decode cX0_init 23 = .ok (.dup, 1) := dk_89 (dk_at dksX0_init_0 23 rfl rfl)
theorem dX0_init_24 : decode cX0_init 24 = .ok (.invokespecial 72, 3) := dk_183 0 72 (dk_at dksX0_init_1 0 rfl rfl)
theorem dX0_init_27 : decode cX0_init 27 = .ok (.putfield 73, 3) := dk_181 0 73 (dk_at dksX0_init_1 3 rfl rfl)
theorem dX0_init_30 : decode cX0_init 30 = .ok (.aload_n 0, 1) := dk_42 (dk_at dksX0_init_1 6 rfl rfl)
theorem dX0_init_31 : decode cX0_init 31 = .ok (.new 70, 3) := dk_187 0 70 (dk_at dksX0_init_1 7 rfl rfl)
theorem dX0_init_34 : decode cX0_init 34 = .ok (.dup, 1) := dk_89 (dk_at dksX0_init_1 10 rfl rfl)
theorem dX0_init_35 : decode cX0_init 35 = .ok (.invokespecial 72, 3) := dk_183 0 72 (dk_at dksX0_init_1 11 rfl rfl)
theorem dX0_init_38 : decode cX0_init 38 = .ok (.putfield 77, 3) := dk_181 0 77 (dk_at dksX0_init_1 14 rfl rfl)
theorem dX0_init_41 : decode cX0_init 41 = .ok (.aload_n 0, 1) := dk_42 (dk_at dksX0_init_1 17 rfl rfl)
theorem dX0_init_42 : decode cX0_init 42 = .ok (.new 70, 3) := dk_187 0 70 (dk_at dksX0_init_1 18 rfl rfl)
theorem dX0_init_45 : decode cX0_init 45 = .ok (.dup, 1) := dk_89 (dk_at dksX0_init_1 21 rfl rfl)
theorem dX0_init_46 : decode cX0_init 46 = .ok (.invokespecial 72, 3) := dk_183 0 72 (dk_at dksX0_init_2 0 rfl rfl)
theorem dX0_init_49 : decode cX0_init 49 = .ok (.putfield 80, 3) := dk_181 0 80 (dk_at dksX0_init_2 3 rfl rfl)
theorem dX0_init_52 : decode cX0_init 52 = .ok (.aload_n 0, 1) := dk_42 (dk_at dksX0_init_2 6 rfl rfl)
theorem dX0_init_53 : decode cX0_init 53 = .ok (.new 83, 3) := dk_187 0 83 (dk_at dksX0_init_2 7 rfl rfl)
theorem dX0_init_56 : decode cX0_init 56 = .ok (.dup, 1) := dk_89 (dk_at dksX0_init_2 10 rfl rfl)
theorem dX0_init_57 : decode cX0_init 57 = .ok (.invokespecial 85, 3) := dk_183 0 85 (dk_at dksX0_init_2 11 rfl rfl)
theorem dX0_init_60 : decode cX0_init 60 = .ok (.putfield 86, 3) := dk_181 0 86 (dk_at dksX0_init_2 14 rfl rfl)
theorem dX0_init_63 : decode cX0_init 63 = .ok (.aload_n 0, 1) := dk_42 (dk_at dksX0_init_2 17 rfl rfl)
theorem dX0_init_64 : decode cX0_init 64 = .ok (.bipush 7, 2) := dk_16 7 (dk_at dksX0_init_2 18 rfl rfl)
theorem dX0_init_66 : decode cX0_init 66 = .ok (.newarray .int, 2) := dk_188_10 (dk_at dksX0_init_2 20 rfl rfl)
theorem dX0_init_68 : decode cX0_init 68 = .ok (.putfield 90, 3) := dk_181 0 90 (dk_at dksX0_init_3 0 rfl rfl)
theorem dX0_init_71 : decode cX0_init 71 = .ok (.aload_n 0, 1) := dk_42 (dk_at dksX0_init_3 3 rfl rfl)
theorem dX0_init_72 : decode cX0_init 72 = .ok (.iconst 4, 1) := dk_7 (dk_at dksX0_init_3 4 rfl rfl)
theorem dX0_init_73 : decode cX0_init 73 = .ok (.anewarray 93, 3) := dk_189 0 93 (dk_at dksX0_init_3 5 rfl rfl)
theorem dX0_init_76 : decode cX0_init 76 = .ok (.dup, 1) := dk_89 (dk_at dksX0_init_3 8 rfl rfl)
theorem dX0_init_77 : decode cX0_init 77 = .ok (.iconst 0, 1) := dk_3 (dk_at dksX0_init_3 9 rfl rfl)
theorem dX0_init_78 : decode cX0_init 78 = .ok (.new 93, 3) := dk_187 0 93 (dk_at dksX0_init_3 10 rfl rfl)
theorem dX0_init_81 : decode cX0_init 81 = .ok (.dup, 1) := dk_89 (dk_at dksX0_init_3 13 rfl rfl)
theorem dX0_init_82 : decode cX0_init 82 = .ok (.invokespecial 95, 3) := dk_183 0 95 (dk_at dksX0_init_3 14 rfl rfl)
theorem dX0_init_85 : decode cX0_init 85 = .ok (.aastore, 1) := dk_83 (dk_at dksX0_init_3 17 rfl rfl)
theorem dX0_init_86 : decode cX0_init 86 = .ok (.dup, 1) := dk_89 (dk_at dksX0_init_3 18 rfl rfl)
theorem dX0_init_87 : decode cX0_init 87 = .ok (.iconst 1, 1) := dk_4 (dk_at dksX0_init_3 19 rfl rfl)
theorem dX0_init_88 : decode cX0_init 88 = .ok (.new 93, 3) := dk_187 0 93 (dk_at dksX0_init_3 20 rfl rfl)
theorem dX0_init_91 : decode cX0_init 91 = .ok (.dup, 1) := dk_89 (dk_at dksX0_init_3 23 rfl rfl)
theorem dX0_init_92 : decode cX0_init 92 = .ok (.invokespecial 95, 3) := dk_183 0 95 (dk_at dksX0_init_4 0 rfl rfl)
theorem dX0_init_95 : decode cX0_init 95 = .ok (.aastore, 1) := dk_83 (dk_at dksX0_init_4 3 rfl rfl)
theorem dX0_init_96 : decode cX0_init 96 = .ok (.dup, 1) := dk_89 (dk_at dksX0_init_4 4 rfl rfl)
theorem dX0_init_97 : decode cX0_init 97 = .ok (.iconst 2, 1) := dk_5 (dk_at dksX0_init_4 5 rfl rfl)
theorem dX0_init_98 : decode cX0_init 98 = .ok (.new 93, 3) := dk_187 0 93 (dk_at dksX0_init_4 6 rfl rfl)
theorem dX0_init_101 : decode cX0_init 101 = .ok (.dup, 1) := dk_89 (dk_at dksX0_init_4 9 rfl rfl)
theorem dX0_init_102 : decode cX0_init 102 = .ok (.invokespecial 95, 3) := dk_183 0 95 (dk_at dksX0_init_4 10 rfl rfl)
theorem dX0_init_105 : decode cX0_init 105 = .ok (.aastore, 1) := dk_83 (dk_at dksX0_init_4 13 rfl rfl)
theorem dX0_init_106 : decode cX0_init 106 = .ok (.dup, 1) := dk_89 (dk_at dksX0_init_4 14 rfl rfl)
theorem dX0_init_107 : decode cX0_init 107 = .ok (.iconst 3, 1) := dk_6 (dk_at dksX0_init_4 15 rfl rfl)
theorem dX0_init_108 : decode cX0_init 108 = .ok (.new 93, 3) := dk_187 0 93 (dk_at dksX0_init_4 16 rfl rfl)
theorem dX0_init_111 : decode cX0_init 111 = .ok (.dup, 1) := dk_89 (dk_at dksX0_init_4 19 rfl rfl)
theorem dX0_init_112 : decode cX0_init 112 = .ok (.invokespecial 95, 3) := dk_183 0 95 (dk_at dksX0_init_4 20 rfl rfl)
theorem dX0_init_115 : decode cX0_init 115 = .ok (.aastore, 1) := dk_83 (dk_at dksX0_init_4 23 rfl rfl)
theorem dX0_init_116 : decode cX0_init 116 = .ok (.putfield 96, 3) := dk_181 0 96 (dk_at dksX0_init_5 0 rfl rfl)
theorem dX0_init_119 : decode cX0_init 119 = .ok (.aload_n 0, 1) := dk_42 (dk_at dksX0_init_5 3 rfl rfl)
theorem dX0_init_120 : decode cX0_init 120 = .ok (.new 100, 3) := dk_187 0 100 (dk_at dksX0_init_5 4 rfl rfl)
theorem dX0_init_123 : decode cX0_init 123 = .ok (.dup, 1) := dk_89 (dk_at dksX0_init_5 7 rfl rfl)
theorem dX0_init_124 : decode cX0_init 124 = .ok (.aload_n 0, 1) := dk_42 (dk_at dksX0_init_5 8 rfl rfl)
theorem dX0_init_125 : decode cX0_init 125 = .ok (.invokespecial 102, 3) := dk_183 0 102 (dk_at dksX0_init_5 9 rfl rfl)
theorem dX0_init_128 : decode cX0_init 128 = .ok (.putfield 105, 3) := dk_181 0 105 (dk_at dksX0_init_5 12 rfl rfl)
theorem dX0_init_131 : decode cX0_init 131 = .ok (.aload_n 0, 1) := dk_42 (dk_at dksX0_init_5 15 rfl rfl)
theorem dX0_init_132 : decode cX0_init 132 = .ok (.bipush 8, 2) := dk_16 8 (dk_at dksX0_init_5 16 rfl rfl)
theorem dX0_init_134 : decode cX0_init 134 = .ok (.newarray .int, 2) := dk_188_10 (dk_at dksX0_init_5 18 rfl rfl)
theorem dX0_init_136 : decode cX0_init 136 = .ok (.putfield 109, 3) := dk_181 0 109 (dk_at dksX0_init_5 20 rfl rfl)
theorem dX0_init_139 : decode cX0_init 139 = .ok (.aload_n 0, 1) := dk_42 (dk_at dksX0_init_5 23 rfl rfl)
theorem dX0_init_140 : decode cX0_init 140 = .ok (.bipush 12, 2) := dk_16 12 (dk_at dksX0_init_6 0 rfl rfl)
theorem dX0_init_142 : decode cX0_init 142 = .ok (.newarray .int, 2) := dk_188_10 (dk_at dksX0_init_6 2 rfl rfl)
theorem dX0_init_144 : decode cX0_init 144 = .ok (.putfield 112, 3) := dk_181 0 112 (dk_at dksX0_init_6 4 rfl rfl)
theorem dX0_init_147 : decode cX0_init 147 = .ok (.aload_n 0, 1) := dk_42 (dk_at dksX0_init_6 7 rfl rfl)
theorem dX0_init_148 : decode cX0_init 148 = .ok (.bipush 8, 2) := dk_16 8 (dk_at dksX0_init_6 8 rfl rfl)
theorem dX0_init_150 : decode cX0_init 150 = .ok (.newarray .int, 2) := dk_188_10 (dk_at dksX0_init_6 10 rfl rfl)
theorem dX0_init_152 : decode cX0_init 152 = .ok (.putfield 115, 3) := dk_181 0 115 (dk_at dksX0_init_6 12 rfl rfl)
theorem dX0_init_155 : decode cX0_init 155 = .ok (.return_, 1) := dk_177 (dk_at dksX0_init_6 15 rfl rfl)
abbrev cX0_force : ByteArray := prog_1_method_17_code
def yX0_force : MethodName := ⟨RX0, "force", "(II)I"⟩
def dkwX0_force_2 : List UInt8 := [84, 29, 172]
abbrev dktX0_force_2 : List UInt8 := dkwX0_force_2 ++ []
def dkwX0_force_1 : List UInt8 := [182, 0, 173, 172, 42, 180, 0, 73, 180, 0, 177, 27, 51, 62, 42, 180, 0, 73, 180, 0, 177, 27, 28, 145]
abbrev dktX0_force_1 : List UInt8 := dkwX0_force_1 ++ dktX0_force_2
def dkwX0_force_0 : List UInt8 := [27, 3, 16, 23, 184, 0, 122, 153, 0, 13, 28, 3, 16, 99, 184, 0, 122, 154, 0, 9, 42, 4]
abbrev dktX0_force_0 : List UInt8 := dkwX0_force_0 ++ dktX0_force_1
theorem dksX0_force_0 : cX0_force.data.toList.drop 0 = dktX0_force_0 := by decide +kernel
theorem dksX0_force_1 : cX0_force.data.toList.drop 22 = dktX0_force_1 := dk_seg dksX0_force_0 22 rfl rfl
theorem dksX0_force_2 : cX0_force.data.toList.drop 46 = dktX0_force_2 := dk_seg dksX0_force_1 24 rfl rfl
theorem dX0_force_0 : decode cX0_force 0 = .ok (.iload_n 1, 1) := dk_27 (dk_at dksX0_force_0 0 rfl rfl)
theorem dX0_force_1 : decode cX0_force 1 = .ok (.iconst 0, 1) := dk_3 (dk_at dksX0_force_0 1 rfl rfl)
theorem dX0_force_2 : decode cX0_force 2 = .ok (.bipush 23, 2) := dk_16 23 (dk_at dksX0_force_0 2 rfl rfl)
theorem dX0_force_4 : decode cX0_force 4 = .ok (.invokestatic 122, 3) := dk_184 0 122 (dk_at dksX0_force_0 4 rfl rfl)
theorem dX0_force_7 : decode cX0_force 7 = .ok (.ifCond .eq 13, 3) := dk_153 0 13 (dk_at dksX0_force_0 7 rfl rfl)
theorem dX0_force_10 : decode cX0_force 10 = .ok (.iload_n 2, 1) := dk_28 (dk_at dksX0_force_0 10 rfl rfl)
theorem dX0_force_11 : decode cX0_force 11 = .ok (.iconst 0, 1) := dk_3 (dk_at dksX0_force_0 11 rfl rfl)
theorem dX0_force_12 : decode cX0_force 12 = .ok (.bipush 99, 2) := dk_16 99 (dk_at dksX0_force_0 12 rfl rfl)
theorem dX0_force_14 : decode cX0_force 14 = .ok (.invokestatic 122, 3) := dk_184 0 122 (dk_at dksX0_force_0 14 rfl rfl)
theorem dX0_force_17 : decode cX0_force 17 = .ok (.ifCond .ne 9, 3) := dk_154 0 9 (dk_at dksX0_force_0 17 rfl rfl)
theorem dX0_force_20 : decode cX0_force 20 = .ok (.aload_n 0, 1) := dk_42 (dk_at dksX0_force_0 20 rfl rfl)
theorem dX0_force_21 : decode cX0_force 21 = .ok (.iconst 1, 1) := dk_4 (dk_at dksX0_force_0 21 rfl rfl)
theorem dX0_force_22 : decode cX0_force 22 = .ok (.invokevirtual 173, 3) := dk_182 0 173 (dk_at dksX0_force_1 0 rfl rfl)
theorem dX0_force_25 : decode cX0_force 25 = .ok (.ireturn, 1) := dk_172 (dk_at dksX0_force_1 3 rfl rfl)
theorem dX0_force_26 : decode cX0_force 26 = .ok (.aload_n 0, 1) := dk_42 (dk_at dksX0_force_1 4 rfl rfl)
theorem dX0_force_27 : decode cX0_force 27 = .ok (.getfield 73, 3) := dk_180 0 73 (dk_at dksX0_force_1 5 rfl rfl)
theorem dX0_force_30 : decode cX0_force 30 = .ok (.getfield 177, 3) := dk_180 0 177 (dk_at dksX0_force_1 8 rfl rfl)
theorem dX0_force_33 : decode cX0_force 33 = .ok (.iload_n 1, 1) := dk_27 (dk_at dksX0_force_1 11 rfl rfl)
theorem dX0_force_34 : decode cX0_force 34 = .ok (.baload, 1) := dk_51 (dk_at dksX0_force_1 12 rfl rfl)
theorem dX0_force_35 : decode cX0_force 35 = .ok (.istore_n 3, 1) := dk_62 (dk_at dksX0_force_1 13 rfl rfl)
theorem dX0_force_36 : decode cX0_force 36 = .ok (.aload_n 0, 1) := dk_42 (dk_at dksX0_force_1 14 rfl rfl)
theorem dX0_force_37 : decode cX0_force 37 = .ok (.getfield 73, 3) := dk_180 0 73 (dk_at dksX0_force_1 15 rfl rfl)
theorem dX0_force_40 : decode cX0_force 40 = .ok (.getfield 177, 3) := dk_180 0 177 (dk_at dksX0_force_1 18 rfl rfl)
theorem dX0_force_43 : decode cX0_force 43 = .ok (.iload_n 1, 1) := dk_27 (dk_at dksX0_force_1 21 rfl rfl)
theorem dX0_force_44 : decode cX0_force 44 = .ok (.iload_n 2, 1) := dk_28 (dk_at dksX0_force_1 22 rfl rfl)
theorem dX0_force_45 : decode cX0_force 45 = .ok (.i2b, 1) := dk_145 (dk_at dksX0_force_1 23 rfl rfl)
theorem dX0_force_46 : decode cX0_force 46 = .ok (.bastore, 1) := dk_84 (dk_at dksX0_force_2 0 rfl rfl)
theorem dX0_force_47 : decode cX0_force 47 = .ok (.iload_n 3, 1) := dk_29 (dk_at dksX0_force_2 1 rfl rfl)
theorem dX0_force_48 : decode cX0_force 48 = .ok (.ireturn, 1) := dk_172 (dk_at dksX0_force_2 2 rfl rfl)
abbrev cX0_isIn : ByteArray := prog_1_method_1_code
def yX0_isIn : MethodName := ⟨RX0, "isIn", "(III)Z"⟩
def dkwX0_isIn_0 : List UInt8 := [26, 27, 161, 0, 12, 26, 28, 163, 0, 7, 4, 167, 0, 4, 3, 172]
abbrev dktX0_isIn_0 : List UInt8 := dkwX0_isIn_0 ++ []
theorem dksX0_isIn_0 : cX0_isIn.data.toList.drop 0 = dktX0_isIn_0 := by decide +kernel
theorem dX0_isIn_0 : decode cX0_isIn 0 = .ok (.iload_n 0, 1) := dk_26 (dk_at dksX0_isIn_0 0 rfl rfl)
theorem dX0_isIn_1 : decode cX0_isIn 1 = .ok (.iload_n 1, 1) := dk_27 (dk_at dksX0_isIn_0 1 rfl rfl)
theorem dX0_isIn_2 : decode cX0_isIn 2 = .ok (.if_icmp .lt 12, 3) := dk_161 0 12 (dk_at dksX0_isIn_0 2 rfl rfl)
theorem dX0_isIn_5 : decode cX0_isIn 5 = .ok (.iload_n 0, 1) := dk_26 (dk_at dksX0_isIn_0 5 rfl rfl)
theorem dX0_isIn_6 : decode cX0_isIn 6 = .ok (.iload_n 2, 1) := dk_28 (dk_at dksX0_isIn_0 6 rfl rfl)
theorem dX0_isIn_7 : decode cX0_isIn 7 = .ok (.if_icmp .gt 7, 3) := dk_163 0 7 (dk_at dksX0_isIn_0 7 rfl rfl)
theorem dX0_isIn_10 : decode cX0_isIn 10 = .ok (.iconst 1, 1) := dk_4 (dk_at dksX0_isIn_0 10 rfl rfl)
theorem dX0_isIn_11 : decode cX0_isIn 11 = .ok (.goto 4, 3) := dk_167 0 4 (dk_at dksX0_isIn_0 11 rfl rfl)
theorem dX0_isIn_14 : decode cX0_isIn 14 = .ok (.iconst 0, 1) := dk_3 (dk_at dksX0_isIn_0 14 rfl rfl)
theorem dX0_isIn_15 : decode cX0_isIn 15 = .ok (.ireturn, 1) := dk_172 (dk_at dksX0_isIn_0 15 rfl rfl)
abbrev cX0_finds : ByteArray := prog_1_method_9_code
def yX0_finds : MethodName := ⟨RX0, "finds", "(I)I"⟩
def dkwX0_finds_0 : List UInt8 := [42, 180, 0, 90, 27, 92, 46, 4, 96, 79, 18, 118, 27, 100, 172]
abbrev dktX0_finds_0 : List UInt8 := dkwX0_finds_0 ++ []
theorem dksX0_finds_0 : cX0_finds.data.toList.drop 0 = dktX0_finds_0 := by decide +kernel
theorem dX0_finds_0 : decode cX0_finds 0 = .ok (.aload_n 0, 1) := dk_42 (dk_at dksX0_finds_0 0 rfl rfl)
theorem dX0_finds_1 : decode cX0_finds 1 = .ok (.getfield 90, 3) := dk_180 0 90 (dk_at dksX0_finds_0 1 rfl rfl)
theorem dX0_finds_4 : decode cX0_finds 4 = .ok (.iload_n 1, 1) := dk_27 (dk_at dksX0_finds_0 4 rfl rfl)
theorem dX0_finds_5 : decode cX0_finds 5 = .ok (.dup2, 1) := dk_92 (dk_at dksX0_finds_0 5 rfl rfl)
theorem dX0_finds_6 : decode cX0_finds 6 = .ok (.iaload, 1) := dk_46 (dk_at dksX0_finds_0 6 rfl rfl)
theorem dX0_finds_7 : decode cX0_finds 7 = .ok (.iconst 1, 1) := dk_4 (dk_at dksX0_finds_0 7 rfl rfl)
theorem dX0_finds_8 : decode cX0_finds 8 = .ok (.iadd, 1) := dk_96 (dk_at dksX0_finds_0 8 rfl rfl)
theorem dX0_finds_9 : decode cX0_finds 9 = .ok (.iastore, 1) := dk_79 (dk_at dksX0_finds_0 9 rfl rfl)
theorem dX0_finds_10 : decode cX0_finds 10 = .ok (.ldc 118, 2) := dk_18 118 (dk_at dksX0_finds_0 10 rfl rfl)
theorem dX0_finds_12 : decode cX0_finds 12 = .ok (.iload_n 1, 1) := dk_27 (dk_at dksX0_finds_0 12 rfl rfl)
theorem dX0_finds_13 : decode cX0_finds 13 = .ok (.isub, 1) := dk_100 (dk_at dksX0_finds_0 13 rfl rfl)
theorem dX0_finds_14 : decode cX0_finds 14 = .ok (.ireturn, 1) := dk_172 (dk_at dksX0_finds_0 14 rfl rfl)
abbrev cX0_weed : ByteArray := prog_1_method_18_code
def yX0_weed : MethodName := ⟨RX0, "weed", "(II)I"⟩
def dkwX0_weed_1 : List UInt8 := [180, 0, 73, 180, 0, 161, 27, 51, 62, 42, 180, 0, 73, 180, 0, 161, 27, 28, 145, 84, 29, 172]
abbrev dktX0_weed_1 : List UInt8 := dkwX0_weed_1 ++ []
def dkwX0_weed_0 : List UInt8 := [27, 184, 0, 180, 153, 0, 13, 28, 3, 16, 9, 184, 0, 122, 154, 0, 9, 42, 4, 182, 0, 173, 172, 42]
abbrev dktX0_weed_0 : List UInt8 := dkwX0_weed_0 ++ dktX0_weed_1
theorem dksX0_weed_0 : cX0_weed.data.toList.drop 0 = dktX0_weed_0 := by decide +kernel
theorem dksX0_weed_1 : cX0_weed.data.toList.drop 24 = dktX0_weed_1 := dk_seg dksX0_weed_0 24 rfl rfl
theorem dX0_weed_0 : decode cX0_weed 0 = .ok (.iload_n 1, 1) := dk_27 (dk_at dksX0_weed_0 0 rfl rfl)
theorem dX0_weed_1 : decode cX0_weed 1 = .ok (.invokestatic 180, 3) := dk_184 0 180 (dk_at dksX0_weed_0 1 rfl rfl)
theorem dX0_weed_4 : decode cX0_weed 4 = .ok (.ifCond .eq 13, 3) := dk_153 0 13 (dk_at dksX0_weed_0 4 rfl rfl)
theorem dX0_weed_7 : decode cX0_weed 7 = .ok (.iload_n 2, 1) := dk_28 (dk_at dksX0_weed_0 7 rfl rfl)
theorem dX0_weed_8 : decode cX0_weed 8 = .ok (.iconst 0, 1) := dk_3 (dk_at dksX0_weed_0 8 rfl rfl)
theorem dX0_weed_9 : decode cX0_weed 9 = .ok (.bipush 9, 2) := dk_16 9 (dk_at dksX0_weed_0 9 rfl rfl)
theorem dX0_weed_11 : decode cX0_weed 11 = .ok (.invokestatic 122, 3) := dk_184 0 122 (dk_at dksX0_weed_0 11 rfl rfl)
theorem dX0_weed_14 : decode cX0_weed 14 = .ok (.ifCond .ne 9, 3) := dk_154 0 9 (dk_at dksX0_weed_0 14 rfl rfl)
theorem dX0_weed_17 : decode cX0_weed 17 = .ok (.aload_n 0, 1) := dk_42 (dk_at dksX0_weed_0 17 rfl rfl)
theorem dX0_weed_18 : decode cX0_weed 18 = .ok (.iconst 1, 1) := dk_4 (dk_at dksX0_weed_0 18 rfl rfl)
theorem dX0_weed_19 : decode cX0_weed 19 = .ok (.invokevirtual 173, 3) := dk_182 0 173 (dk_at dksX0_weed_0 19 rfl rfl)
theorem dX0_weed_22 : decode cX0_weed 22 = .ok (.ireturn, 1) := dk_172 (dk_at dksX0_weed_0 22 rfl rfl)
theorem dX0_weed_23 : decode cX0_weed 23 = .ok (.aload_n 0, 1) := dk_42 (dk_at dksX0_weed_0 23 rfl rfl)
theorem dX0_weed_24 : decode cX0_weed 24 = .ok (.getfield 73, 3) := dk_180 0 73 (dk_at dksX0_weed_1 0 rfl rfl)
theorem dX0_weed_27 : decode cX0_weed 27 = .ok (.getfield 161, 3) := dk_180 0 161 (dk_at dksX0_weed_1 3 rfl rfl)
theorem dX0_weed_30 : decode cX0_weed 30 = .ok (.iload_n 1, 1) := dk_27 (dk_at dksX0_weed_1 6 rfl rfl)
theorem dX0_weed_31 : decode cX0_weed 31 = .ok (.baload, 1) := dk_51 (dk_at dksX0_weed_1 7 rfl rfl)
theorem dX0_weed_32 : decode cX0_weed 32 = .ok (.istore_n 3, 1) := dk_62 (dk_at dksX0_weed_1 8 rfl rfl)
theorem dX0_weed_33 : decode cX0_weed 33 = .ok (.aload_n 0, 1) := dk_42 (dk_at dksX0_weed_1 9 rfl rfl)
theorem dX0_weed_34 : decode cX0_weed 34 = .ok (.getfield 73, 3) := dk_180 0 73 (dk_at dksX0_weed_1 10 rfl rfl)
theorem dX0_weed_37 : decode cX0_weed 37 = .ok (.getfield 161, 3) := dk_180 0 161 (dk_at dksX0_weed_1 13 rfl rfl)
theorem dX0_weed_40 : decode cX0_weed 40 = .ok (.iload_n 1, 1) := dk_27 (dk_at dksX0_weed_1 16 rfl rfl)
theorem dX0_weed_41 : decode cX0_weed 41 = .ok (.iload_n 2, 1) := dk_28 (dk_at dksX0_weed_1 17 rfl rfl)
theorem dX0_weed_42 : decode cX0_weed 42 = .ok (.i2b, 1) := dk_145 (dk_at dksX0_weed_1 18 rfl rfl)
theorem dX0_weed_43 : decode cX0_weed 43 = .ok (.bastore, 1) := dk_84 (dk_at dksX0_weed_1 19 rfl rfl)
theorem dX0_weed_44 : decode cX0_weed 44 = .ok (.iload_n 3, 1) := dk_29 (dk_at dksX0_weed_1 20 rfl rfl)
theorem dX0_weed_45 : decode cX0_weed 45 = .ok (.ireturn, 1) := dk_172 (dk_at dksX0_weed_1 21 rfl rfl)
abbrev cX0_isPlace : ByteArray := prog_1_method_11_code
def yX0_isPlace : MethodName := ⟨RX0, "isPlace", "(I)Z"⟩
def dkwX0_isPlace_0 : List UInt8 := [26, 3, 16, 11, 184, 0, 122, 172]
abbrev dktX0_isPlace_0 : List UInt8 := dkwX0_isPlace_0 ++ []
theorem dksX0_isPlace_0 : cX0_isPlace.data.toList.drop 0 = dktX0_isPlace_0 := by decide +kernel
theorem dX0_isPlace_0 : decode cX0_isPlace 0 = .ok (.iload_n 0, 1) := dk_26 (dk_at dksX0_isPlace_0 0 rfl rfl)
theorem dX0_isPlace_1 : decode cX0_isPlace 1 = .ok (.iconst 0, 1) := dk_3 (dk_at dksX0_isPlace_0 1 rfl rfl)
theorem dX0_isPlace_2 : decode cX0_isPlace 2 = .ok (.bipush 11, 2) := dk_16 11 (dk_at dksX0_isPlace_0 2 rfl rfl)
theorem dX0_isPlace_4 : decode cX0_isPlace 4 = .ok (.invokestatic 122, 3) := dk_184 0 122 (dk_at dksX0_isPlace_0 4 rfl rfl)
theorem dX0_isPlace_7 : decode cX0_isPlace 7 = .ok (.ireturn, 1) := dk_172 (dk_at dksX0_isPlace_0 7 rfl rfl)
abbrev cX0_frost : ByteArray := prog_1_method_19_code
def yX0_frost : MethodName := ⟨RX0, "frost", "(I)I"⟩
def dkwX0_frost_1 : List UInt8 := [42, 180, 0, 73, 27, 181, 0, 136, 28, 172]
abbrev dktX0_frost_1 : List UInt8 := dkwX0_frost_1 ++ []
def dkwX0_frost_0 : List UInt8 := [27, 3, 16, 9, 184, 0, 122, 154, 0, 9, 42, 4, 182, 0, 173, 172, 42, 180, 0, 73, 180, 0, 136, 61]
abbrev dktX0_frost_0 : List UInt8 := dkwX0_frost_0 ++ dktX0_frost_1
theorem dksX0_frost_0 : cX0_frost.data.toList.drop 0 = dktX0_frost_0 := by decide +kernel
theorem dksX0_frost_1 : cX0_frost.data.toList.drop 24 = dktX0_frost_1 := dk_seg dksX0_frost_0 24 rfl rfl
theorem dX0_frost_0 : decode cX0_frost 0 = .ok (.iload_n 1, 1) := dk_27 (dk_at dksX0_frost_0 0 rfl rfl)
theorem dX0_frost_1 : decode cX0_frost 1 = .ok (.iconst 0, 1) := dk_3 (dk_at dksX0_frost_0 1 rfl rfl)
theorem dX0_frost_2 : decode cX0_frost 2 = .ok (.bipush 9, 2) := dk_16 9 (dk_at dksX0_frost_0 2 rfl rfl)
theorem dX0_frost_4 : decode cX0_frost 4 = .ok (.invokestatic 122, 3) := dk_184 0 122 (dk_at dksX0_frost_0 4 rfl rfl)
theorem dX0_frost_7 : decode cX0_frost 7 = .ok (.ifCond .ne 9, 3) := dk_154 0 9 (dk_at dksX0_frost_0 7 rfl rfl)
theorem dX0_frost_10 : decode cX0_frost 10 = .ok (.aload_n 0, 1) := dk_42 (dk_at dksX0_frost_0 10 rfl rfl)
theorem dX0_frost_11 : decode cX0_frost 11 = .ok (.iconst 1, 1) := dk_4 (dk_at dksX0_frost_0 11 rfl rfl)
theorem dX0_frost_12 : decode cX0_frost 12 = .ok (.invokevirtual 173, 3) := dk_182 0 173 (dk_at dksX0_frost_0 12 rfl rfl)
theorem dX0_frost_15 : decode cX0_frost 15 = .ok (.ireturn, 1) := dk_172 (dk_at dksX0_frost_0 15 rfl rfl)
theorem dX0_frost_16 : decode cX0_frost 16 = .ok (.aload_n 0, 1) := dk_42 (dk_at dksX0_frost_0 16 rfl rfl)
theorem dX0_frost_17 : decode cX0_frost 17 = .ok (.getfield 73, 3) := dk_180 0 73 (dk_at dksX0_frost_0 17 rfl rfl)
theorem dX0_frost_20 : decode cX0_frost 20 = .ok (.getfield 136, 3) := dk_180 0 136 (dk_at dksX0_frost_0 20 rfl rfl)
theorem dX0_frost_23 : decode cX0_frost 23 = .ok (.istore_n 2, 1) := dk_61 (dk_at dksX0_frost_0 23 rfl rfl)
theorem dX0_frost_24 : decode cX0_frost 24 = .ok (.aload_n 0, 1) := dk_42 (dk_at dksX0_frost_1 0 rfl rfl)
theorem dX0_frost_25 : decode cX0_frost 25 = .ok (.getfield 73, 3) := dk_180 0 73 (dk_at dksX0_frost_1 1 rfl rfl)
theorem dX0_frost_28 : decode cX0_frost 28 = .ok (.iload_n 1, 1) := dk_27 (dk_at dksX0_frost_1 4 rfl rfl)
theorem dX0_frost_29 : decode cX0_frost 29 = .ok (.putfield 136, 3) := dk_181 0 136 (dk_at dksX0_frost_1 5 rfl rfl)
theorem dX0_frost_32 : decode cX0_frost 32 = .ok (.iload_n 2, 1) := dk_28 (dk_at dksX0_frost_1 8 rfl rfl)
theorem dX0_frost_33 : decode cX0_frost 33 = .ok (.ireturn, 1) := dk_172 (dk_at dksX0_frost_1 9 rfl rfl)
abbrev cX0_owe : ByteArray := prog_1_method_20_code
def yX0_owe : MethodName := ⟨RX0, "owe", "(II)I"⟩
def dkwX0_owe_1 : List UInt8 := [180, 0, 73, 180, 0, 188, 27, 46, 62, 42, 180, 0, 73, 180, 0, 188, 27, 28, 79, 29, 172]
abbrev dktX0_owe_1 : List UInt8 := dkwX0_owe_1 ++ []
def dkwX0_owe_0 : List UInt8 := [27, 184, 0, 184, 153, 0, 13, 28, 3, 18, 187, 184, 0, 122, 154, 0, 9, 42, 4, 182, 0, 173, 172, 42]
abbrev dktX0_owe_0 : List UInt8 := dkwX0_owe_0 ++ dktX0_owe_1
theorem dksX0_owe_0 : cX0_owe.data.toList.drop 0 = dktX0_owe_0 := by decide +kernel
theorem dksX0_owe_1 : cX0_owe.data.toList.drop 24 = dktX0_owe_1 := dk_seg dksX0_owe_0 24 rfl rfl
theorem dX0_owe_0 : decode cX0_owe 0 = .ok (.iload_n 1, 1) := dk_27 (dk_at dksX0_owe_0 0 rfl rfl)
theorem dX0_owe_1 : decode cX0_owe 1 = .ok (.invokestatic 184, 3) := dk_184 0 184 (dk_at dksX0_owe_0 1 rfl rfl)
theorem dX0_owe_4 : decode cX0_owe 4 = .ok (.ifCond .eq 13, 3) := dk_153 0 13 (dk_at dksX0_owe_0 4 rfl rfl)
theorem dX0_owe_7 : decode cX0_owe 7 = .ok (.iload_n 2, 1) := dk_28 (dk_at dksX0_owe_0 7 rfl rfl)
theorem dX0_owe_8 : decode cX0_owe 8 = .ok (.iconst 0, 1) := dk_3 (dk_at dksX0_owe_0 8 rfl rfl)
theorem dX0_owe_9 : decode cX0_owe 9 = .ok (.ldc 187, 2) := dk_18 187 (dk_at dksX0_owe_0 9 rfl rfl)
theorem dX0_owe_11 : decode cX0_owe 11 = .ok (.invokestatic 122, 3) := dk_184 0 122 (dk_at dksX0_owe_0 11 rfl rfl)
theorem dX0_owe_14 : decode cX0_owe 14 = .ok (.ifCond .ne 9, 3) := dk_154 0 9 (dk_at dksX0_owe_0 14 rfl rfl)
theorem dX0_owe_17 : decode cX0_owe 17 = .ok (.aload_n 0, 1) := dk_42 (dk_at dksX0_owe_0 17 rfl rfl)
theorem dX0_owe_18 : decode cX0_owe 18 = .ok (.iconst 1, 1) := dk_4 (dk_at dksX0_owe_0 18 rfl rfl)
theorem dX0_owe_19 : decode cX0_owe 19 = .ok (.invokevirtual 173, 3) := dk_182 0 173 (dk_at dksX0_owe_0 19 rfl rfl)
theorem dX0_owe_22 : decode cX0_owe 22 = .ok (.ireturn, 1) := dk_172 (dk_at dksX0_owe_0 22 rfl rfl)
theorem dX0_owe_23 : decode cX0_owe 23 = .ok (.aload_n 0, 1) := dk_42 (dk_at dksX0_owe_0 23 rfl rfl)
theorem dX0_owe_24 : decode cX0_owe 24 = .ok (.getfield 73, 3) := dk_180 0 73 (dk_at dksX0_owe_1 0 rfl rfl)
theorem dX0_owe_27 : decode cX0_owe 27 = .ok (.getfield 188, 3) := dk_180 0 188 (dk_at dksX0_owe_1 3 rfl rfl)
theorem dX0_owe_30 : decode cX0_owe 30 = .ok (.iload_n 1, 1) := dk_27 (dk_at dksX0_owe_1 6 rfl rfl)
theorem dX0_owe_31 : decode cX0_owe 31 = .ok (.iaload, 1) := dk_46 (dk_at dksX0_owe_1 7 rfl rfl)
theorem dX0_owe_32 : decode cX0_owe 32 = .ok (.istore_n 3, 1) := dk_62 (dk_at dksX0_owe_1 8 rfl rfl)
theorem dX0_owe_33 : decode cX0_owe 33 = .ok (.aload_n 0, 1) := dk_42 (dk_at dksX0_owe_1 9 rfl rfl)
theorem dX0_owe_34 : decode cX0_owe 34 = .ok (.getfield 73, 3) := dk_180 0 73 (dk_at dksX0_owe_1 10 rfl rfl)
theorem dX0_owe_37 : decode cX0_owe 37 = .ok (.getfield 188, 3) := dk_180 0 188 (dk_at dksX0_owe_1 13 rfl rfl)
theorem dX0_owe_40 : decode cX0_owe 40 = .ok (.iload_n 1, 1) := dk_27 (dk_at dksX0_owe_1 16 rfl rfl)
theorem dX0_owe_41 : decode cX0_owe 41 = .ok (.iload_n 2, 1) := dk_28 (dk_at dksX0_owe_1 17 rfl rfl)
theorem dX0_owe_42 : decode cX0_owe 42 = .ok (.iastore, 1) := dk_79 (dk_at dksX0_owe_1 18 rfl rfl)
theorem dX0_owe_43 : decode cX0_owe 43 = .ok (.iload_n 3, 1) := dk_29 (dk_at dksX0_owe_1 19 rfl rfl)
theorem dX0_owe_44 : decode cX0_owe 44 = .ok (.ireturn, 1) := dk_172 (dk_at dksX0_owe_1 20 rfl rfl)
abbrev cX0_isFamily : ByteArray := prog_1_method_12_code
def yX0_isFamily : MethodName := ⟨RX0, "isFamily", "(I)Z"⟩
def dkwX0_isFamily_0 : List UInt8 := [26, 3, 7, 184, 0, 122, 172]
abbrev dktX0_isFamily_0 : List UInt8 := dkwX0_isFamily_0 ++ []
theorem dksX0_isFamily_0 : cX0_isFamily.data.toList.drop 0 = dktX0_isFamily_0 := by decide +kernel
theorem dX0_isFamily_0 : decode cX0_isFamily 0 = .ok (.iload_n 0, 1) := dk_26 (dk_at dksX0_isFamily_0 0 rfl rfl)
theorem dX0_isFamily_1 : decode cX0_isFamily 1 = .ok (.iconst 0, 1) := dk_3 (dk_at dksX0_isFamily_0 1 rfl rfl)
theorem dX0_isFamily_2 : decode cX0_isFamily 2 = .ok (.iconst 4, 1) := dk_7 (dk_at dksX0_isFamily_0 2 rfl rfl)
theorem dX0_isFamily_3 : decode cX0_isFamily 3 = .ok (.invokestatic 122, 3) := dk_184 0 122 (dk_at dksX0_isFamily_0 3 rfl rfl)
theorem dX0_isFamily_6 : decode cX0_isFamily 6 = .ok (.ireturn, 1) := dk_172 (dk_at dksX0_isFamily_0 6 rfl rfl)
abbrev cX0_familyIs : ByteArray := prog_1_method_23_code
def yX0_familyIs : MethodName := ⟨RX0, "familyIs", "(II)I"⟩
def dkwX0_familyIs_1 : List UInt8 := [167, 0, 8, 42, 4, 182, 0, 173, 172]
abbrev dktX0_familyIs_1 : List UInt8 := dkwX0_familyIs_1 ++ []
def dkwX0_familyIs_0 : List UInt8 := [27, 184, 0, 184, 153, 0, 21, 28, 3, 6, 184, 0, 122, 153, 0, 12, 42, 27, 28, 182, 0, 203]
abbrev dktX0_familyIs_0 : List UInt8 := dkwX0_familyIs_0 ++ dktX0_familyIs_1
theorem dksX0_familyIs_0 : cX0_familyIs.data.toList.drop 0 = dktX0_familyIs_0 := by decide +kernel
theorem dksX0_familyIs_1 : cX0_familyIs.data.toList.drop 22 = dktX0_familyIs_1 := dk_seg dksX0_familyIs_0 22 rfl rfl
theorem dX0_familyIs_0 : decode cX0_familyIs 0 = .ok (.iload_n 1, 1) := dk_27 (dk_at dksX0_familyIs_0 0 rfl rfl)
theorem dX0_familyIs_1 : decode cX0_familyIs 1 = .ok (.invokestatic 184, 3) := dk_184 0 184 (dk_at dksX0_familyIs_0 1 rfl rfl)
theorem dX0_familyIs_4 : decode cX0_familyIs 4 = .ok (.ifCond .eq 21, 3) := dk_153 0 21 (dk_at dksX0_familyIs_0 4 rfl rfl)
theorem dX0_familyIs_7 : decode cX0_familyIs 7 = .ok (.iload_n 2, 1) := dk_28 (dk_at dksX0_familyIs_0 7 rfl rfl)
theorem dX0_familyIs_8 : decode cX0_familyIs 8 = .ok (.iconst 0, 1) := dk_3 (dk_at dksX0_familyIs_0 8 rfl rfl)
theorem dX0_familyIs_9 : decode cX0_familyIs 9 = .ok (.iconst 3, 1) := dk_6 (dk_at dksX0_familyIs_0 9 rfl rfl)
theorem dX0_familyIs_10 : decode cX0_familyIs 10 = .ok (.invokestatic 122, 3) := dk_184 0 122 (dk_at dksX0_familyIs_0 10 rfl rfl)
theorem dX0_familyIs_13 : decode cX0_familyIs 13 = .ok (.ifCond .eq 12, 3) := dk_153 0 12 (dk_at dksX0_familyIs_0 13 rfl rfl)
theorem dX0_familyIs_16 : decode cX0_familyIs 16 = .ok (.aload_n 0, 1) := dk_42 (dk_at dksX0_familyIs_0 16 rfl rfl)
theorem dX0_familyIs_17 : decode cX0_familyIs 17 = .ok (.iload_n 1, 1) := dk_27 (dk_at dksX0_familyIs_0 17 rfl rfl)
theorem dX0_familyIs_18 : decode cX0_familyIs 18 = .ok (.iload_n 2, 1) := dk_28 (dk_at dksX0_familyIs_0 18 rfl rfl)
theorem dX0_familyIs_19 : decode cX0_familyIs 19 = .ok (.invokevirtual 203, 3) := dk_182 0 203 (dk_at dksX0_familyIs_0 19 rfl rfl)
theorem dX0_familyIs_22 : decode cX0_familyIs 22 = .ok (.goto 8, 3) := dk_167 0 8 (dk_at dksX0_familyIs_1 0 rfl rfl)
theorem dX0_familyIs_25 : decode cX0_familyIs 25 = .ok (.aload_n 0, 1) := dk_42 (dk_at dksX0_familyIs_1 3 rfl rfl)
theorem dX0_familyIs_26 : decode cX0_familyIs 26 = .ok (.iconst 1, 1) := dk_4 (dk_at dksX0_familyIs_1 4 rfl rfl)
theorem dX0_familyIs_27 : decode cX0_familyIs 27 = .ok (.invokevirtual 173, 3) := dk_182 0 173 (dk_at dksX0_familyIs_1 5 rfl rfl)
theorem dX0_familyIs_30 : decode cX0_familyIs 30 = .ok (.ireturn, 1) := dk_172 (dk_at dksX0_familyIs_1 8 rfl rfl)
abbrev cX0_familyTold : ByteArray := prog_1_method_22_code
def yX0_familyTold : MethodName := ⟨RX0, "familyTold", "(II)I"⟩
def dkwX0_familyTold_2 : List UInt8 := [153, 0, 7, 4, 167, 0, 12, 3, 167, 0, 8, 42, 27, 182, 0, 200, 172]
abbrev dktX0_familyTold_2 : List UInt8 := dkwX0_familyTold_2 ++ []
def dkwX0_familyTold_1 : List UInt8 := [180, 0, 73, 180, 0, 194, 27, 46, 167, 0, 32, 28, 5, 160, 0, 22, 42, 180, 0, 73, 27, 182, 0, 197]
abbrev dktX0_familyTold_1 : List UInt8 := dkwX0_familyTold_1 ++ dktX0_familyTold_2
def dkwX0_familyTold_0 : List UInt8 := [28, 154, 0, 15, 42, 180, 0, 73, 180, 0, 188, 27, 46, 167, 0, 49, 28, 4, 160, 0, 15, 42]
abbrev dktX0_familyTold_0 : List UInt8 := dkwX0_familyTold_0 ++ dktX0_familyTold_1
theorem dksX0_familyTold_0 : cX0_familyTold.data.toList.drop 0 = dktX0_familyTold_0 := by decide +kernel
theorem dksX0_familyTold_1 : cX0_familyTold.data.toList.drop 22 = dktX0_familyTold_1 := dk_seg dksX0_familyTold_0 22 rfl rfl
theorem dksX0_familyTold_2 : cX0_familyTold.data.toList.drop 46 = dktX0_familyTold_2 := dk_seg dksX0_familyTold_1 24 rfl rfl
theorem dX0_familyTold_0 : decode cX0_familyTold 0 = .ok (.iload_n 2, 1) := dk_28 (dk_at dksX0_familyTold_0 0 rfl rfl)
theorem dX0_familyTold_1 : decode cX0_familyTold 1 = .ok (.ifCond .ne 15, 3) := dk_154 0 15 (dk_at dksX0_familyTold_0 1 rfl rfl)
theorem dX0_familyTold_4 : decode cX0_familyTold 4 = .ok (.aload_n 0, 1) := dk_42 (dk_at dksX0_familyTold_0 4 rfl rfl)
theorem dX0_familyTold_5 : decode cX0_familyTold 5 = .ok (.getfield 73, 3) := dk_180 0 73 (dk_at dksX0_familyTold_0 5 rfl rfl)
theorem dX0_familyTold_8 : decode cX0_familyTold 8 = .ok (.getfield 188, 3) := dk_180 0 188 (dk_at dksX0_familyTold_0 8 rfl rfl)
theorem dX0_familyTold_11 : decode cX0_familyTold 11 = .ok (.iload_n 1, 1) := dk_27 (dk_at dksX0_familyTold_0 11 rfl rfl)
theorem dX0_familyTold_12 : decode cX0_familyTold 12 = .ok (.iaload, 1) := dk_46 (dk_at dksX0_familyTold_0 12 rfl rfl)
theorem dX0_familyTold_13 : decode cX0_familyTold 13 = .ok (.goto 49, 3) := dk_167 0 49 (dk_at dksX0_familyTold_0 13 rfl rfl)
theorem dX0_familyTold_16 : decode cX0_familyTold 16 = .ok (.iload_n 2, 1) := dk_28 (dk_at dksX0_familyTold_0 16 rfl rfl)
theorem dX0_familyTold_17 : decode cX0_familyTold 17 = .ok (.iconst 1, 1) := dk_4 (dk_at dksX0_familyTold_0 17 rfl rfl)
theorem dX0_familyTold_18 : decode cX0_familyTold 18 = .ok (.if_icmp .ne 15, 3) := dk_160 0 15 (dk_at dksX0_familyTold_0 18 rfl rfl)
theorem dX0_familyTold_21 : decode cX0_familyTold 21 = .ok (.aload_n 0, 1) := dk_42 (dk_at dksX0_familyTold_0 21 rfl rfl)
theorem dX0_familyTold_22 : decode cX0_familyTold 22 = .ok (.getfield 73, 3) := dk_180 0 73 (dk_at dksX0_familyTold_1 0 rfl rfl)
theorem dX0_familyTold_25 : decode cX0_familyTold 25 = .ok (.getfield 194, 3) := dk_180 0 194 (dk_at dksX0_familyTold_1 3 rfl rfl)
theorem dX0_familyTold_28 : decode cX0_familyTold 28 = .ok (.iload_n 1, 1) := dk_27 (dk_at dksX0_familyTold_1 6 rfl rfl)
theorem dX0_familyTold_29 : decode cX0_familyTold 29 = .ok (.iaload, 1) := dk_46 (dk_at dksX0_familyTold_1 7 rfl rfl)
theorem dX0_familyTold_30 : decode cX0_familyTold 30 = .ok (.goto 32, 3) := dk_167 0 32 (dk_at dksX0_familyTold_1 8 rfl rfl)
theorem dX0_familyTold_33 : decode cX0_familyTold 33 = .ok (.iload_n 2, 1) := dk_28 (dk_at dksX0_familyTold_1 11 rfl rfl)
theorem dX0_familyTold_34 : decode cX0_familyTold 34 = .ok (.iconst 2, 1) := dk_5 (dk_at dksX0_familyTold_1 12 rfl rfl)
theorem dX0_familyTold_35 : decode cX0_familyTold 35 = .ok (.if_icmp .ne 22, 3) := dk_160 0 22 (dk_at dksX0_familyTold_1 13 rfl rfl)
theorem dX0_familyTold_38 : decode cX0_familyTold 38 = .ok (.aload_n 0, 1) := dk_42 (dk_at dksX0_familyTold_1 16 rfl rfl)
theorem dX0_familyTold_39 : decode cX0_familyTold 39 = .ok (.getfield 73, 3) := dk_180 0 73 (dk_at dksX0_familyTold_1 17 rfl rfl)
theorem dX0_familyTold_42 : decode cX0_familyTold 42 = .ok (.iload_n 1, 1) := dk_27 (dk_at dksX0_familyTold_1 20 rfl rfl)
theorem dX0_familyTold_43 : decode cX0_familyTold 43 = .ok (.invokevirtual 197, 3) := dk_182 0 197 (dk_at dksX0_familyTold_1 21 rfl rfl)
theorem dX0_familyTold_46 : decode cX0_familyTold 46 = .ok (.ifCond .eq 7, 3) := dk_153 0 7 (dk_at dksX0_familyTold_2 0 rfl rfl)
theorem dX0_familyTold_49 : decode cX0_familyTold 49 = .ok (.iconst 1, 1) := dk_4 (dk_at dksX0_familyTold_2 3 rfl rfl)
theorem dX0_familyTold_50 : decode cX0_familyTold 50 = .ok (.goto 12, 3) := dk_167 0 12 (dk_at dksX0_familyTold_2 4 rfl rfl)
theorem dX0_familyTold_53 : decode cX0_familyTold 53 = .ok (.iconst 0, 1) := dk_3 (dk_at dksX0_familyTold_2 7 rfl rfl)
theorem dX0_familyTold_54 : decode cX0_familyTold 54 = .ok (.goto 8, 3) := dk_167 0 8 (dk_at dksX0_familyTold_2 8 rfl rfl)
theorem dX0_familyTold_57 : decode cX0_familyTold 57 = .ok (.aload_n 0, 1) := dk_42 (dk_at dksX0_familyTold_2 11 rfl rfl)
theorem dX0_familyTold_58 : decode cX0_familyTold 58 = .ok (.iload_n 1, 1) := dk_27 (dk_at dksX0_familyTold_2 12 rfl rfl)
theorem dX0_familyTold_59 : decode cX0_familyTold 59 = .ok (.invokevirtual 200, 3) := dk_182 0 200 (dk_at dksX0_familyTold_2 13 rfl rfl)
theorem dX0_familyTold_62 : decode cX0_familyTold 62 = .ok (.ireturn, 1) := dk_172 (dk_at dksX0_familyTold_2 16 rfl rfl)
abbrev cX0_wheelsOf : ByteArray := prog_1_method_21_code
def yX0_wheelsOf : MethodName := ⟨RX0, "wheelsOf", "(I)I"⟩
def dkwX0_wheelsOf_1 : List UInt8 := [51, 27, 160, 0, 7, 4, 167, 0, 4, 3, 96, 61, 132, 3, 1, 167, 255, 221, 28, 172]
abbrev dktX0_wheelsOf_1 : List UInt8 := dkwX0_wheelsOf_1 ++ []
def dkwX0_wheelsOf_0 : List UInt8 := [3, 61, 3, 62, 29, 42, 180, 0, 73, 180, 0, 119, 162, 0, 30, 28, 42, 180, 0, 73, 180, 0, 191, 29]
abbrev dktX0_wheelsOf_0 : List UInt8 := dkwX0_wheelsOf_0 ++ dktX0_wheelsOf_1
theorem dksX0_wheelsOf_0 : cX0_wheelsOf.data.toList.drop 0 = dktX0_wheelsOf_0 := by decide +kernel
theorem dksX0_wheelsOf_1 : cX0_wheelsOf.data.toList.drop 24 = dktX0_wheelsOf_1 := dk_seg dksX0_wheelsOf_0 24 rfl rfl
theorem dX0_wheelsOf_0 : decode cX0_wheelsOf 0 = .ok (.iconst 0, 1) := dk_3 (dk_at dksX0_wheelsOf_0 0 rfl rfl)
theorem dX0_wheelsOf_1 : decode cX0_wheelsOf 1 = .ok (.istore_n 2, 1) := dk_61 (dk_at dksX0_wheelsOf_0 1 rfl rfl)
theorem dX0_wheelsOf_2 : decode cX0_wheelsOf 2 = .ok (.iconst 0, 1) := dk_3 (dk_at dksX0_wheelsOf_0 2 rfl rfl)
theorem dX0_wheelsOf_3 : decode cX0_wheelsOf 3 = .ok (.istore_n 3, 1) := dk_62 (dk_at dksX0_wheelsOf_0 3 rfl rfl)
theorem dX0_wheelsOf_4 : decode cX0_wheelsOf 4 = .ok (.iload_n 3, 1) := dk_29 (dk_at dksX0_wheelsOf_0 4 rfl rfl)
theorem dX0_wheelsOf_5 : decode cX0_wheelsOf 5 = .ok (.aload_n 0, 1) := dk_42 (dk_at dksX0_wheelsOf_0 5 rfl rfl)
theorem dX0_wheelsOf_6 : decode cX0_wheelsOf 6 = .ok (.getfield 73, 3) := dk_180 0 73 (dk_at dksX0_wheelsOf_0 6 rfl rfl)
theorem dX0_wheelsOf_9 : decode cX0_wheelsOf 9 = .ok (.getfield 119, 3) := dk_180 0 119 (dk_at dksX0_wheelsOf_0 9 rfl rfl)
theorem dX0_wheelsOf_12 : decode cX0_wheelsOf 12 = .ok (.if_icmp .ge 30, 3) := dk_162 0 30 (dk_at dksX0_wheelsOf_0 12 rfl rfl)
theorem dX0_wheelsOf_15 : decode cX0_wheelsOf 15 = .ok (.iload_n 2, 1) := dk_28 (dk_at dksX0_wheelsOf_0 15 rfl rfl)
theorem dX0_wheelsOf_16 : decode cX0_wheelsOf 16 = .ok (.aload_n 0, 1) := dk_42 (dk_at dksX0_wheelsOf_0 16 rfl rfl)
theorem dX0_wheelsOf_17 : decode cX0_wheelsOf 17 = .ok (.getfield 73, 3) := dk_180 0 73 (dk_at dksX0_wheelsOf_0 17 rfl rfl)
theorem dX0_wheelsOf_20 : decode cX0_wheelsOf 20 = .ok (.getfield 191, 3) := dk_180 0 191 (dk_at dksX0_wheelsOf_0 20 rfl rfl)
theorem dX0_wheelsOf_23 : decode cX0_wheelsOf 23 = .ok (.iload_n 3, 1) := dk_29 (dk_at dksX0_wheelsOf_0 23 rfl rfl)
theorem dX0_wheelsOf_24 : decode cX0_wheelsOf 24 = .ok (.baload, 1) := dk_51 (dk_at dksX0_wheelsOf_1 0 rfl rfl)
theorem dX0_wheelsOf_25 : decode cX0_wheelsOf 25 = .ok (.iload_n 1, 1) := dk_27 (dk_at dksX0_wheelsOf_1 1 rfl rfl)
theorem dX0_wheelsOf_26 : decode cX0_wheelsOf 26 = .ok (.if_icmp .ne 7, 3) := dk_160 0 7 (dk_at dksX0_wheelsOf_1 2 rfl rfl)
theorem dX0_wheelsOf_29 : decode cX0_wheelsOf 29 = .ok (.iconst 1, 1) := dk_4 (dk_at dksX0_wheelsOf_1 5 rfl rfl)
theorem dX0_wheelsOf_30 : decode cX0_wheelsOf 30 = .ok (.goto 4, 3) := dk_167 0 4 (dk_at dksX0_wheelsOf_1 6 rfl rfl)
theorem dX0_wheelsOf_33 : decode cX0_wheelsOf 33 = .ok (.iconst 0, 1) := dk_3 (dk_at dksX0_wheelsOf_1 9 rfl rfl)
theorem dX0_wheelsOf_34 : decode cX0_wheelsOf 34 = .ok (.iadd, 1) := dk_96 (dk_at dksX0_wheelsOf_1 10 rfl rfl)
theorem dX0_wheelsOf_35 : decode cX0_wheelsOf 35 = .ok (.istore_n 2, 1) := dk_61 (dk_at dksX0_wheelsOf_1 11 rfl rfl)
theorem dX0_wheelsOf_36 : decode cX0_wheelsOf 36 = .ok (.iinc 3 1, 3) := dk_132 3 1 (dk_at dksX0_wheelsOf_1 12 rfl rfl)
theorem dX0_wheelsOf_39 : decode cX0_wheelsOf 39 = .ok (.goto (-35), 3) := dk_167 255 221 (dk_at dksX0_wheelsOf_1 15 rfl rfl)
theorem dX0_wheelsOf_42 : decode cX0_wheelsOf 42 = .ok (.iload_n 2, 1) := dk_28 (dk_at dksX0_wheelsOf_1 18 rfl rfl)
theorem dX0_wheelsOf_43 : decode cX0_wheelsOf 43 = .ok (.ireturn, 1) := dk_172 (dk_at dksX0_wheelsOf_1 19 rfl rfl)
abbrev cX0_wheel : ByteArray := prog_1_method_25_code
def yX0_wheel : MethodName := ⟨RX0, "wheel", "(II)I"⟩
def dkwX0_wheel_3 : List UInt8 := [16, 10, 108, 28, 16, 10, 112, 182, 0, 209, 172]
abbrev dktX0_wheel_3 : List UInt8 := dkwX0_wheel_3 ++ []
def dkwX0_wheel_2 : List UInt8 := [160, 0, 11, 42, 7, 182, 0, 173, 167, 0, 26, 42, 180, 0, 73, 27, 16, 10, 108, 27, 16, 10, 112, 28]
abbrev dktX0_wheel_2 : List UInt8 := dkwX0_wheel_2 ++ dktX0_wheel_3
def dkwX0_wheel_1 : List UInt8 := [112, 184, 0, 184, 154, 0, 9, 42, 4, 182, 0, 173, 172, 42, 180, 0, 73, 180, 0, 119, 16, 8]
abbrev dktX0_wheel_1 : List UInt8 := dkwX0_wheel_1 ++ dktX0_wheel_2
def dkwX0_wheel_0 : List UInt8 := [27, 184, 0, 206, 153, 0, 27, 28, 155, 0, 23, 28, 16, 10, 108, 184, 0, 180, 153, 0, 13, 28, 16, 10]
abbrev dktX0_wheel_0 : List UInt8 := dkwX0_wheel_0 ++ dktX0_wheel_1
theorem dksX0_wheel_0 : cX0_wheel.data.toList.drop 0 = dktX0_wheel_0 := by decide +kernel
theorem dksX0_wheel_1 : cX0_wheel.data.toList.drop 24 = dktX0_wheel_1 := dk_seg dksX0_wheel_0 24 rfl rfl
theorem dksX0_wheel_2 : cX0_wheel.data.toList.drop 46 = dktX0_wheel_2 := dk_seg dksX0_wheel_1 22 rfl rfl
theorem dksX0_wheel_3 : cX0_wheel.data.toList.drop 70 = dktX0_wheel_3 := dk_seg dksX0_wheel_2 24 rfl rfl
theorem dX0_wheel_0 : decode cX0_wheel 0 = .ok (.iload_n 1, 1) := dk_27 (dk_at dksX0_wheel_0 0 rfl rfl)
theorem dX0_wheel_1 : decode cX0_wheel 1 = .ok (.invokestatic 206, 3) := dk_184 0 206 (dk_at dksX0_wheel_0 1 rfl rfl)
theorem dX0_wheel_4 : decode cX0_wheel 4 = .ok (.ifCond .eq 27, 3) := dk_153 0 27 (dk_at dksX0_wheel_0 4 rfl rfl)
theorem dX0_wheel_7 : decode cX0_wheel 7 = .ok (.iload_n 2, 1) := dk_28 (dk_at dksX0_wheel_0 7 rfl rfl)
theorem dX0_wheel_8 : decode cX0_wheel 8 = .ok (.ifCond .lt 23, 3) := dk_155 0 23 (dk_at dksX0_wheel_0 8 rfl rfl)
theorem dX0_wheel_11 : decode cX0_wheel 11 = .ok (.iload_n 2, 1) := dk_28 (dk_at dksX0_wheel_0 11 rfl rfl)
theorem dX0_wheel_12 : decode cX0_wheel 12 = .ok (.bipush 10, 2) := dk_16 10 (dk_at dksX0_wheel_0 12 rfl rfl)
theorem dX0_wheel_14 : decode cX0_wheel 14 = .ok (.idiv, 1) := dk_108 (dk_at dksX0_wheel_0 14 rfl rfl)
theorem dX0_wheel_15 : decode cX0_wheel 15 = .ok (.invokestatic 180, 3) := dk_184 0 180 (dk_at dksX0_wheel_0 15 rfl rfl)
theorem dX0_wheel_18 : decode cX0_wheel 18 = .ok (.ifCond .eq 13, 3) := dk_153 0 13 (dk_at dksX0_wheel_0 18 rfl rfl)
theorem dX0_wheel_21 : decode cX0_wheel 21 = .ok (.iload_n 2, 1) := dk_28 (dk_at dksX0_wheel_0 21 rfl rfl)
theorem dX0_wheel_22 : decode cX0_wheel 22 = .ok (.bipush 10, 2) := dk_16 10 (dk_at dksX0_wheel_0 22 rfl rfl)
theorem dX0_wheel_24 : decode cX0_wheel 24 = .ok (.irem, 1) := dk_112 (dk_at dksX0_wheel_1 0 rfl rfl)
theorem dX0_wheel_25 : decode cX0_wheel 25 = .ok (.invokestatic 184, 3) := dk_184 0 184 (dk_at dksX0_wheel_1 1 rfl rfl)
theorem dX0_wheel_28 : decode cX0_wheel 28 = .ok (.ifCond .ne 9, 3) := dk_154 0 9 (dk_at dksX0_wheel_1 4 rfl rfl)
theorem dX0_wheel_31 : decode cX0_wheel 31 = .ok (.aload_n 0, 1) := dk_42 (dk_at dksX0_wheel_1 7 rfl rfl)
theorem dX0_wheel_32 : decode cX0_wheel 32 = .ok (.iconst 1, 1) := dk_4 (dk_at dksX0_wheel_1 8 rfl rfl)
theorem dX0_wheel_33 : decode cX0_wheel 33 = .ok (.invokevirtual 173, 3) := dk_182 0 173 (dk_at dksX0_wheel_1 9 rfl rfl)
theorem dX0_wheel_36 : decode cX0_wheel 36 = .ok (.ireturn, 1) := dk_172 (dk_at dksX0_wheel_1 12 rfl rfl)
theorem dX0_wheel_37 : decode cX0_wheel 37 = .ok (.aload_n 0, 1) := dk_42 (dk_at dksX0_wheel_1 13 rfl rfl)
theorem dX0_wheel_38 : decode cX0_wheel 38 = .ok (.getfield 73, 3) := dk_180 0 73 (dk_at dksX0_wheel_1 14 rfl rfl)
theorem dX0_wheel_41 : decode cX0_wheel 41 = .ok (.getfield 119, 3) := dk_180 0 119 (dk_at dksX0_wheel_1 17 rfl rfl)
theorem dX0_wheel_44 : decode cX0_wheel 44 = .ok (.bipush 8, 2) := dk_16 8 (dk_at dksX0_wheel_1 20 rfl rfl)
theorem dX0_wheel_46 : decode cX0_wheel 46 = .ok (.if_icmp .ne 11, 3) := dk_160 0 11 (dk_at dksX0_wheel_2 0 rfl rfl)
theorem dX0_wheel_49 : decode cX0_wheel 49 = .ok (.aload_n 0, 1) := dk_42 (dk_at dksX0_wheel_2 3 rfl rfl)
theorem dX0_wheel_50 : decode cX0_wheel 50 = .ok (.iconst 4, 1) := dk_7 (dk_at dksX0_wheel_2 4 rfl rfl)
theorem dX0_wheel_51 : decode cX0_wheel 51 = .ok (.invokevirtual 173, 3) := dk_182 0 173 (dk_at dksX0_wheel_2 5 rfl rfl)
theorem dX0_wheel_54 : decode cX0_wheel 54 = .ok (.goto 26, 3) := dk_167 0 26 (dk_at dksX0_wheel_2 8 rfl rfl)
theorem dX0_wheel_57 : decode cX0_wheel 57 = .ok (.aload_n 0, 1) := dk_42 (dk_at dksX0_wheel_2 11 rfl rfl)
theorem dX0_wheel_58 : decode cX0_wheel 58 = .ok (.getfield 73, 3) := dk_180 0 73 (dk_at dksX0_wheel_2 12 rfl rfl)
theorem dX0_wheel_61 : decode cX0_wheel 61 = .ok (.iload_n 1, 1) := dk_27 (dk_at dksX0_wheel_2 15 rfl rfl)
theorem dX0_wheel_62 : decode cX0_wheel 62 = .ok (.bipush 10, 2) := dk_16 10 (dk_at dksX0_wheel_2 16 rfl rfl)
theorem dX0_wheel_64 : decode cX0_wheel 64 = .ok (.idiv, 1) := dk_108 (dk_at dksX0_wheel_2 18 rfl rfl)
theorem dX0_wheel_65 : decode cX0_wheel 65 = .ok (.iload_n 1, 1) := dk_27 (dk_at dksX0_wheel_2 19 rfl rfl)
theorem dX0_wheel_66 : decode cX0_wheel 66 = .ok (.bipush 10, 2) := dk_16 10 (dk_at dksX0_wheel_2 20 rfl rfl)
theorem dX0_wheel_68 : decode cX0_wheel 68 = .ok (.irem, 1) := dk_112 (dk_at dksX0_wheel_2 22 rfl rfl)
theorem dX0_wheel_69 : decode cX0_wheel 69 = .ok (.iload_n 2, 1) := dk_28 (dk_at dksX0_wheel_2 23 rfl rfl)
theorem dX0_wheel_70 : decode cX0_wheel 70 = .ok (.bipush 10, 2) := dk_16 10 (dk_at dksX0_wheel_3 0 rfl rfl)
theorem dX0_wheel_72 : decode cX0_wheel 72 = .ok (.idiv, 1) := dk_108 (dk_at dksX0_wheel_3 2 rfl rfl)
theorem dX0_wheel_73 : decode cX0_wheel 73 = .ok (.iload_n 2, 1) := dk_28 (dk_at dksX0_wheel_3 3 rfl rfl)
theorem dX0_wheel_74 : decode cX0_wheel 74 = .ok (.bipush 10, 2) := dk_16 10 (dk_at dksX0_wheel_3 4 rfl rfl)
theorem dX0_wheel_76 : decode cX0_wheel 76 = .ok (.irem, 1) := dk_112 (dk_at dksX0_wheel_3 6 rfl rfl)
theorem dX0_wheel_77 : decode cX0_wheel 77 = .ok (.invokevirtual 209, 3) := dk_182 0 209 (dk_at dksX0_wheel_3 7 rfl rfl)
theorem dX0_wheel_80 : decode cX0_wheel 80 = .ok (.ireturn, 1) := dk_172 (dk_at dksX0_wheel_3 10 rfl rfl)
abbrev cX0_isKind : ByteArray := prog_1_method_24_code
def yX0_isKind : MethodName := ⟨RX0, "isKind", "(I)Z"⟩
def dkwX0_isKind_0 : List UInt8 := [26, 155, 0, 16, 26, 16, 10, 108, 16, 6, 163, 0, 7, 4, 167, 0, 4, 3, 172]
abbrev dktX0_isKind_0 : List UInt8 := dkwX0_isKind_0 ++ []
theorem dksX0_isKind_0 : cX0_isKind.data.toList.drop 0 = dktX0_isKind_0 := by decide +kernel
theorem dX0_isKind_0 : decode cX0_isKind 0 = .ok (.iload_n 0, 1) := dk_26 (dk_at dksX0_isKind_0 0 rfl rfl)
theorem dX0_isKind_1 : decode cX0_isKind 1 = .ok (.ifCond .lt 16, 3) := dk_155 0 16 (dk_at dksX0_isKind_0 1 rfl rfl)
theorem dX0_isKind_4 : decode cX0_isKind 4 = .ok (.iload_n 0, 1) := dk_26 (dk_at dksX0_isKind_0 4 rfl rfl)
theorem dX0_isKind_5 : decode cX0_isKind 5 = .ok (.bipush 10, 2) := dk_16 10 (dk_at dksX0_isKind_0 5 rfl rfl)
theorem dX0_isKind_7 : decode cX0_isKind 7 = .ok (.idiv, 1) := dk_108 (dk_at dksX0_isKind_0 7 rfl rfl)
theorem dX0_isKind_8 : decode cX0_isKind 8 = .ok (.bipush 6, 2) := dk_16 6 (dk_at dksX0_isKind_0 8 rfl rfl)
theorem dX0_isKind_10 : decode cX0_isKind 10 = .ok (.if_icmp .gt 7, 3) := dk_163 0 7 (dk_at dksX0_isKind_0 10 rfl rfl)
theorem dX0_isKind_13 : decode cX0_isKind 13 = .ok (.iconst 1, 1) := dk_4 (dk_at dksX0_isKind_0 13 rfl rfl)
theorem dX0_isKind_14 : decode cX0_isKind 14 = .ok (.goto 4, 3) := dk_167 0 4 (dk_at dksX0_isKind_0 14 rfl rfl)
theorem dX0_isKind_17 : decode cX0_isKind 17 = .ok (.iconst 0, 1) := dk_3 (dk_at dksX0_isKind_0 17 rfl rfl)
theorem dX0_isKind_18 : decode cX0_isKind 18 = .ok (.ireturn, 1) := dk_172 (dk_at dksX0_isKind_0 18 rfl rfl)
abbrev cX0_made : ByteArray := prog_1_method_3_code
def yX0_made : MethodName := ⟨RX0, "made", "(III)LWheelBrook$Wheel;"⟩
def dkwX0_made_4 : List UInt8 := [183, 0, 27, 176, 187, 0, 28, 89, 27, 28, 183, 0, 30, 176, 187, 0, 31, 89, 27, 28, 183, 0, 33, 176]
abbrev dktX0_made_4 : List UInt8 := dkwX0_made_4 ++ []
def dkwX0_made_3 : List UInt8 := [27, 28, 183, 0, 21, 176, 187, 0, 22, 89, 27, 28, 183, 0, 24, 176, 187, 0, 25, 89, 27, 28]
abbrev dktX0_made_3 : List UInt8 := dkwX0_made_3 ++ dktX0_made_4
def dkwX0_made_2 : List UInt8 := [187, 0, 10, 89, 27, 28, 183, 0, 12, 176, 187, 0, 16, 89, 27, 28, 183, 0, 18, 176, 187, 0, 19, 89]
abbrev dktX0_made_2 : List UInt8 := dkwX0_made_2 ++ dktX0_made_3
def dkwX0_made_1 : List UInt8 := [170, 0, 0, 0, 0, 0, 99, 0, 0, 0, 1, 0, 0, 0, 6, 0, 0, 0, 39, 0, 0, 0, 49, 0, 0, 0, 59, 0, 0, 0, 69, 0, 0, 0, 79, 0, 0, 0, 89]
abbrev dktX0_made_1 : List UInt8 := dkwX0_made_1 ++ dktX0_made_2
def dkwX0_made_0 : List UInt8 := [26]
abbrev dktX0_made_0 : List UInt8 := dkwX0_made_0 ++ dktX0_made_1
theorem dksX0_made_0 : cX0_made.data.toList.drop 0 = dktX0_made_0 := by decide +kernel
theorem dksX0_made_1 : cX0_made.data.toList.drop 1 = dktX0_made_1 := dk_seg dksX0_made_0 1 rfl rfl
theorem dksX0_made_2 : cX0_made.data.toList.drop 40 = dktX0_made_2 := dk_seg dksX0_made_1 39 rfl rfl
theorem dksX0_made_3 : cX0_made.data.toList.drop 64 = dktX0_made_3 := dk_seg dksX0_made_2 24 rfl rfl
theorem dksX0_made_4 : cX0_made.data.toList.drop 86 = dktX0_made_4 := dk_seg dksX0_made_3 22 rfl rfl
theorem dX0_made_0 : decode cX0_made 0 = .ok (.iload_n 0, 1) := dk_26 (dk_at dksX0_made_0 0 rfl rfl)
theorem dX0_made_1 : decode cX0_made 1 = .ok (.tableswitch 99 1 6 #[39, 49, 59, 69, 79, 89], 39) := by decide +kernel
theorem dX0_made_40 : decode cX0_made 40 = .ok (.new 10, 3) := dk_187 0 10 (dk_at dksX0_made_2 0 rfl rfl)
theorem dX0_made_43 : decode cX0_made 43 = .ok (.dup, 1) := dk_89 (dk_at dksX0_made_2 3 rfl rfl)
theorem dX0_made_44 : decode cX0_made 44 = .ok (.iload_n 1, 1) := dk_27 (dk_at dksX0_made_2 4 rfl rfl)
theorem dX0_made_45 : decode cX0_made 45 = .ok (.iload_n 2, 1) := dk_28 (dk_at dksX0_made_2 5 rfl rfl)
theorem dX0_made_46 : decode cX0_made 46 = .ok (.invokespecial 12, 3) := dk_183 0 12 (dk_at dksX0_made_2 6 rfl rfl)
theorem dX0_made_49 : decode cX0_made 49 = .ok (.areturn, 1) := dk_176 (dk_at dksX0_made_2 9 rfl rfl)
theorem dX0_made_50 : decode cX0_made 50 = .ok (.new 16, 3) := dk_187 0 16 (dk_at dksX0_made_2 10 rfl rfl)
theorem dX0_made_53 : decode cX0_made 53 = .ok (.dup, 1) := dk_89 (dk_at dksX0_made_2 13 rfl rfl)
theorem dX0_made_54 : decode cX0_made 54 = .ok (.iload_n 1, 1) := dk_27 (dk_at dksX0_made_2 14 rfl rfl)
theorem dX0_made_55 : decode cX0_made 55 = .ok (.iload_n 2, 1) := dk_28 (dk_at dksX0_made_2 15 rfl rfl)
theorem dX0_made_56 : decode cX0_made 56 = .ok (.invokespecial 18, 3) := dk_183 0 18 (dk_at dksX0_made_2 16 rfl rfl)
theorem dX0_made_59 : decode cX0_made 59 = .ok (.areturn, 1) := dk_176 (dk_at dksX0_made_2 19 rfl rfl)
theorem dX0_made_60 : decode cX0_made 60 = .ok (.new 19, 3) := dk_187 0 19 (dk_at dksX0_made_2 20 rfl rfl)
theorem dX0_made_63 : decode cX0_made 63 = .ok (.dup, 1) := dk_89 (dk_at dksX0_made_2 23 rfl rfl)
theorem dX0_made_64 : decode cX0_made 64 = .ok (.iload_n 1, 1) := dk_27 (dk_at dksX0_made_3 0 rfl rfl)
theorem dX0_made_65 : decode cX0_made 65 = .ok (.iload_n 2, 1) := dk_28 (dk_at dksX0_made_3 1 rfl rfl)
theorem dX0_made_66 : decode cX0_made 66 = .ok (.invokespecial 21, 3) := dk_183 0 21 (dk_at dksX0_made_3 2 rfl rfl)
theorem dX0_made_69 : decode cX0_made 69 = .ok (.areturn, 1) := dk_176 (dk_at dksX0_made_3 5 rfl rfl)
theorem dX0_made_70 : decode cX0_made 70 = .ok (.new 22, 3) := dk_187 0 22 (dk_at dksX0_made_3 6 rfl rfl)
theorem dX0_made_73 : decode cX0_made 73 = .ok (.dup, 1) := dk_89 (dk_at dksX0_made_3 9 rfl rfl)
theorem dX0_made_74 : decode cX0_made 74 = .ok (.iload_n 1, 1) := dk_27 (dk_at dksX0_made_3 10 rfl rfl)
theorem dX0_made_75 : decode cX0_made 75 = .ok (.iload_n 2, 1) := dk_28 (dk_at dksX0_made_3 11 rfl rfl)
theorem dX0_made_76 : decode cX0_made 76 = .ok (.invokespecial 24, 3) := dk_183 0 24 (dk_at dksX0_made_3 12 rfl rfl)
theorem dX0_made_79 : decode cX0_made 79 = .ok (.areturn, 1) := dk_176 (dk_at dksX0_made_3 15 rfl rfl)
theorem dX0_made_80 : decode cX0_made 80 = .ok (.new 25, 3) := dk_187 0 25 (dk_at dksX0_made_3 16 rfl rfl)
theorem dX0_made_83 : decode cX0_made 83 = .ok (.dup, 1) := dk_89 (dk_at dksX0_made_3 19 rfl rfl)
theorem dX0_made_84 : decode cX0_made 84 = .ok (.iload_n 1, 1) := dk_27 (dk_at dksX0_made_3 20 rfl rfl)
theorem dX0_made_85 : decode cX0_made 85 = .ok (.iload_n 2, 1) := dk_28 (dk_at dksX0_made_3 21 rfl rfl)
theorem dX0_made_86 : decode cX0_made 86 = .ok (.invokespecial 27, 3) := dk_183 0 27 (dk_at dksX0_made_4 0 rfl rfl)
theorem dX0_made_89 : decode cX0_made 89 = .ok (.areturn, 1) := dk_176 (dk_at dksX0_made_4 3 rfl rfl)
theorem dX0_made_90 : decode cX0_made 90 = .ok (.new 28, 3) := dk_187 0 28 (dk_at dksX0_made_4 4 rfl rfl)
theorem dX0_made_93 : decode cX0_made 93 = .ok (.dup, 1) := dk_89 (dk_at dksX0_made_4 7 rfl rfl)
theorem dX0_made_94 : decode cX0_made 94 = .ok (.iload_n 1, 1) := dk_27 (dk_at dksX0_made_4 8 rfl rfl)
theorem dX0_made_95 : decode cX0_made 95 = .ok (.iload_n 2, 1) := dk_28 (dk_at dksX0_made_4 9 rfl rfl)
theorem dX0_made_96 : decode cX0_made 96 = .ok (.invokespecial 30, 3) := dk_183 0 30 (dk_at dksX0_made_4 10 rfl rfl)
theorem dX0_made_99 : decode cX0_made 99 = .ok (.areturn, 1) := dk_176 (dk_at dksX0_made_4 13 rfl rfl)
theorem dX0_made_100 : decode cX0_made 100 = .ok (.new 31, 3) := dk_187 0 31 (dk_at dksX0_made_4 14 rfl rfl)
theorem dX0_made_103 : decode cX0_made 103 = .ok (.dup, 1) := dk_89 (dk_at dksX0_made_4 17 rfl rfl)
theorem dX0_made_104 : decode cX0_made 104 = .ok (.iload_n 1, 1) := dk_27 (dk_at dksX0_made_4 18 rfl rfl)
theorem dX0_made_105 : decode cX0_made 105 = .ok (.iload_n 2, 1) := dk_28 (dk_at dksX0_made_4 19 rfl rfl)
theorem dX0_made_106 : decode cX0_made 106 = .ok (.invokespecial 33, 3) := dk_183 0 33 (dk_at dksX0_made_4 20 rfl rfl)
theorem dX0_made_109 : decode cX0_made 109 = .ok (.areturn, 1) := dk_176 (dk_at dksX0_made_4 23 rfl rfl)
abbrev cX0_wheelIs : ByteArray := prog_1_method_27_code
def yX0_wheelIs : MethodName := ⟨RX0, "wheelIs", "(II)I"⟩
def dkwX0_wheelIs_1 : List UInt8 := [167, 0, 8, 42, 4, 182, 0, 173, 172]
abbrev dktX0_wheelIs_1 : List UInt8 := dkwX0_wheelIs_1 ++ []
def dkwX0_wheelIs_0 : List UInt8 := [42, 27, 182, 0, 231, 153, 0, 22, 28, 3, 16, 9, 184, 0, 122, 153, 0, 12, 42, 27, 28, 182, 0, 234]
abbrev dktX0_wheelIs_0 : List UInt8 := dkwX0_wheelIs_0 ++ dktX0_wheelIs_1
theorem dksX0_wheelIs_0 : cX0_wheelIs.data.toList.drop 0 = dktX0_wheelIs_0 := by decide +kernel
theorem dksX0_wheelIs_1 : cX0_wheelIs.data.toList.drop 24 = dktX0_wheelIs_1 := dk_seg dksX0_wheelIs_0 24 rfl rfl
theorem dX0_wheelIs_0 : decode cX0_wheelIs 0 = .ok (.aload_n 0, 1) := dk_42 (dk_at dksX0_wheelIs_0 0 rfl rfl)
theorem dX0_wheelIs_1 : decode cX0_wheelIs 1 = .ok (.iload_n 1, 1) := dk_27 (dk_at dksX0_wheelIs_0 1 rfl rfl)
theorem dX0_wheelIs_2 : decode cX0_wheelIs 2 = .ok (.invokevirtual 231, 3) := dk_182 0 231 (dk_at dksX0_wheelIs_0 2 rfl rfl)
theorem dX0_wheelIs_5 : decode cX0_wheelIs 5 = .ok (.ifCond .eq 22, 3) := dk_153 0 22 (dk_at dksX0_wheelIs_0 5 rfl rfl)
theorem dX0_wheelIs_8 : decode cX0_wheelIs 8 = .ok (.iload_n 2, 1) := dk_28 (dk_at dksX0_wheelIs_0 8 rfl rfl)
theorem dX0_wheelIs_9 : decode cX0_wheelIs 9 = .ok (.iconst 0, 1) := dk_3 (dk_at dksX0_wheelIs_0 9 rfl rfl)
theorem dX0_wheelIs_10 : decode cX0_wheelIs 10 = .ok (.bipush 9, 2) := dk_16 9 (dk_at dksX0_wheelIs_0 10 rfl rfl)
theorem dX0_wheelIs_12 : decode cX0_wheelIs 12 = .ok (.invokestatic 122, 3) := dk_184 0 122 (dk_at dksX0_wheelIs_0 12 rfl rfl)
theorem dX0_wheelIs_15 : decode cX0_wheelIs 15 = .ok (.ifCond .eq 12, 3) := dk_153 0 12 (dk_at dksX0_wheelIs_0 15 rfl rfl)
theorem dX0_wheelIs_18 : decode cX0_wheelIs 18 = .ok (.aload_n 0, 1) := dk_42 (dk_at dksX0_wheelIs_0 18 rfl rfl)
theorem dX0_wheelIs_19 : decode cX0_wheelIs 19 = .ok (.iload_n 1, 1) := dk_27 (dk_at dksX0_wheelIs_0 19 rfl rfl)
theorem dX0_wheelIs_20 : decode cX0_wheelIs 20 = .ok (.iload_n 2, 1) := dk_28 (dk_at dksX0_wheelIs_0 20 rfl rfl)
theorem dX0_wheelIs_21 : decode cX0_wheelIs 21 = .ok (.invokevirtual 234, 3) := dk_182 0 234 (dk_at dksX0_wheelIs_0 21 rfl rfl)
theorem dX0_wheelIs_24 : decode cX0_wheelIs 24 = .ok (.goto 8, 3) := dk_167 0 8 (dk_at dksX0_wheelIs_1 0 rfl rfl)
theorem dX0_wheelIs_27 : decode cX0_wheelIs 27 = .ok (.aload_n 0, 1) := dk_42 (dk_at dksX0_wheelIs_1 3 rfl rfl)
theorem dX0_wheelIs_28 : decode cX0_wheelIs 28 = .ok (.iconst 1, 1) := dk_4 (dk_at dksX0_wheelIs_1 4 rfl rfl)
theorem dX0_wheelIs_29 : decode cX0_wheelIs 29 = .ok (.invokevirtual 173, 3) := dk_182 0 173 (dk_at dksX0_wheelIs_1 5 rfl rfl)
theorem dX0_wheelIs_32 : decode cX0_wheelIs 32 = .ok (.ireturn, 1) := dk_172 (dk_at dksX0_wheelIs_1 8 rfl rfl)
abbrev cX0_isWheel : ByteArray := prog_1_method_10_code
def yX0_isWheel : MethodName := ⟨RX0, "isWheel", "(I)Z"⟩
def dkwX0_isWheel_0 : List UInt8 := [27, 3, 42, 180, 0, 73, 180, 0, 119, 4, 100, 184, 0, 122, 172]
abbrev dktX0_isWheel_0 : List UInt8 := dkwX0_isWheel_0 ++ []
theorem dksX0_isWheel_0 : cX0_isWheel.data.toList.drop 0 = dktX0_isWheel_0 := by decide +kernel
theorem dX0_isWheel_0 : decode cX0_isWheel 0 = .ok (.iload_n 1, 1) := dk_27 (dk_at dksX0_isWheel_0 0 rfl rfl)
theorem dX0_isWheel_1 : decode cX0_isWheel 1 = .ok (.iconst 0, 1) := dk_3 (dk_at dksX0_isWheel_0 1 rfl rfl)
theorem dX0_isWheel_2 : decode cX0_isWheel 2 = .ok (.aload_n 0, 1) := dk_42 (dk_at dksX0_isWheel_0 2 rfl rfl)
theorem dX0_isWheel_3 : decode cX0_isWheel 3 = .ok (.getfield 73, 3) := dk_180 0 73 (dk_at dksX0_isWheel_0 3 rfl rfl)
theorem dX0_isWheel_6 : decode cX0_isWheel 6 = .ok (.getfield 119, 3) := dk_180 0 119 (dk_at dksX0_isWheel_0 6 rfl rfl)
theorem dX0_isWheel_9 : decode cX0_isWheel 9 = .ok (.iconst 1, 1) := dk_4 (dk_at dksX0_isWheel_0 9 rfl rfl)
theorem dX0_isWheel_10 : decode cX0_isWheel 10 = .ok (.isub, 1) := dk_100 (dk_at dksX0_isWheel_0 10 rfl rfl)
theorem dX0_isWheel_11 : decode cX0_isWheel 11 = .ok (.invokestatic 122, 3) := dk_184 0 122 (dk_at dksX0_isWheel_0 11 rfl rfl)
theorem dX0_isWheel_14 : decode cX0_isWheel 14 = .ok (.ireturn, 1) := dk_172 (dk_at dksX0_isWheel_0 14 rfl rfl)
abbrev cX0_wheelTold : ByteArray := prog_1_method_26_code
def yX0_wheelTold : MethodName := ⟨RX0, "wheelTold", "(II)I"⟩
def dkwX0_wheelTold_7 : List UInt8 := [46, 182, 0, 228, 172]
abbrev dktX0_wheelTold_7 : List UInt8 := dkwX0_wheelTold_7 ++ []
def dkwX0_wheelTold_6 : List UInt8 := [160, 0, 17, 42, 27, 42, 180, 0, 109, 27, 46, 182, 0, 225, 167, 0, 14, 42, 27, 42, 180, 0, 109, 27]
abbrev dktX0_wheelTold_6 : List UInt8 := dkwX0_wheelTold_6 ++ dktX0_wheelTold_7
def dkwX0_wheelTold_5 : List UInt8 := [46, 172, 42, 182, 0, 222, 28, 16, 7, 160, 0, 12, 42, 180, 0, 109, 27, 46, 167, 0, 34, 28, 16, 8]
abbrev dktX0_wheelTold_5 : List UInt8 := dkwX0_wheelTold_5 ++ dktX0_wheelTold_6
def dkwX0_wheelTold_4 : List UInt8 := [180, 0, 130, 27, 51, 172, 42, 180, 0, 73, 180, 0, 216, 27, 46, 172, 42, 180, 0, 73, 180, 0, 219, 27]
abbrev dktX0_wheelTold_4 : List UInt8 := dkwX0_wheelTold_4 ++ dktX0_wheelTold_5
def dkwX0_wheelTold_3 : List UInt8 := [42, 180, 0, 73, 180, 0, 164, 27, 51, 172, 42, 180, 0, 73, 180, 0, 191, 27, 51, 172, 42, 180, 0, 73]
abbrev dktX0_wheelTold_3 : List UInt8 := dkwX0_wheelTold_3 ++ dktX0_wheelTold_4
def dkwX0_wheelTold_2 : List UInt8 := [42, 180, 0, 73, 27, 182, 0, 126, 182, 0, 213, 172, 42, 180, 0, 73, 27, 182, 0, 126, 180, 0, 133, 172]
abbrev dktX0_wheelTold_2 : List UInt8 := dkwX0_wheelTold_2 ++ dktX0_wheelTold_3
def dkwX0_wheelTold_1 : List UInt8 := [170, 0, 0, 0, 0, 0, 117, 0, 0, 0, 0, 0, 0, 0, 6, 0, 0, 0, 43, 0, 0, 0, 55, 0, 0, 0, 67, 0, 0, 0, 77, 0, 0, 0, 87, 0, 0, 0, 97, 0, 0, 0, 107]
abbrev dktX0_wheelTold_1 : List UInt8 := dkwX0_wheelTold_1 ++ dktX0_wheelTold_2
def dkwX0_wheelTold_0 : List UInt8 := [28]
abbrev dktX0_wheelTold_0 : List UInt8 := dkwX0_wheelTold_0 ++ dktX0_wheelTold_1
theorem dksX0_wheelTold_0 : cX0_wheelTold.data.toList.drop 0 = dktX0_wheelTold_0 := by decide +kernel
theorem dksX0_wheelTold_1 : cX0_wheelTold.data.toList.drop 1 = dktX0_wheelTold_1 := dk_seg dksX0_wheelTold_0 1 rfl rfl
theorem dksX0_wheelTold_2 : cX0_wheelTold.data.toList.drop 44 = dktX0_wheelTold_2 := dk_seg dksX0_wheelTold_1 43 rfl rfl
theorem dksX0_wheelTold_3 : cX0_wheelTold.data.toList.drop 68 = dktX0_wheelTold_3 := dk_seg dksX0_wheelTold_2 24 rfl rfl
theorem dksX0_wheelTold_4 : cX0_wheelTold.data.toList.drop 92 = dktX0_wheelTold_4 := dk_seg dksX0_wheelTold_3 24 rfl rfl
theorem dksX0_wheelTold_5 : cX0_wheelTold.data.toList.drop 116 = dktX0_wheelTold_5 := dk_seg dksX0_wheelTold_4 24 rfl rfl
theorem dksX0_wheelTold_6 : cX0_wheelTold.data.toList.drop 140 = dktX0_wheelTold_6 := dk_seg dksX0_wheelTold_5 24 rfl rfl
theorem dksX0_wheelTold_7 : cX0_wheelTold.data.toList.drop 164 = dktX0_wheelTold_7 := dk_seg dksX0_wheelTold_6 24 rfl rfl
theorem dX0_wheelTold_0 : decode cX0_wheelTold 0 = .ok (.iload_n 2, 1) := dk_28 (dk_at dksX0_wheelTold_0 0 rfl rfl)
theorem dX0_wheelTold_1 : decode cX0_wheelTold 1 = .ok (.tableswitch 117 0 6 #[43, 55, 67, 77, 87, 97, 107], 43) := by decide +kernel
theorem dX0_wheelTold_44 : decode cX0_wheelTold 44 = .ok (.aload_n 0, 1) := dk_42 (dk_at dksX0_wheelTold_2 0 rfl rfl)
theorem dX0_wheelTold_45 : decode cX0_wheelTold 45 = .ok (.getfield 73, 3) := dk_180 0 73 (dk_at dksX0_wheelTold_2 1 rfl rfl)
theorem dX0_wheelTold_48 : decode cX0_wheelTold 48 = .ok (.iload_n 1, 1) := dk_27 (dk_at dksX0_wheelTold_2 4 rfl rfl)
theorem dX0_wheelTold_49 : decode cX0_wheelTold 49 = .ok (.invokevirtual 126, 3) := dk_182 0 126 (dk_at dksX0_wheelTold_2 5 rfl rfl)
theorem dX0_wheelTold_52 : decode cX0_wheelTold 52 = .ok (.invokevirtual 213, 3) := dk_182 0 213 (dk_at dksX0_wheelTold_2 8 rfl rfl)
theorem dX0_wheelTold_55 : decode cX0_wheelTold 55 = .ok (.ireturn, 1) := dk_172 (dk_at dksX0_wheelTold_2 11 rfl rfl)
theorem dX0_wheelTold_56 : decode cX0_wheelTold 56 = .ok (.aload_n 0, 1) := dk_42 (dk_at dksX0_wheelTold_2 12 rfl rfl)
theorem dX0_wheelTold_57 : decode cX0_wheelTold 57 = .ok (.getfield 73, 3) := dk_180 0 73 (dk_at dksX0_wheelTold_2 13 rfl rfl)
theorem dX0_wheelTold_60 : decode cX0_wheelTold 60 = .ok (.iload_n 1, 1) := dk_27 (dk_at dksX0_wheelTold_2 16 rfl rfl)
theorem dX0_wheelTold_61 : decode cX0_wheelTold 61 = .ok (.invokevirtual 126, 3) := dk_182 0 126 (dk_at dksX0_wheelTold_2 17 rfl rfl)
theorem dX0_wheelTold_64 : decode cX0_wheelTold 64 = .ok (.getfield 133, 3) := dk_180 0 133 (dk_at dksX0_wheelTold_2 20 rfl rfl)
theorem dX0_wheelTold_67 : decode cX0_wheelTold 67 = .ok (.ireturn, 1) := dk_172 (dk_at dksX0_wheelTold_2 23 rfl rfl)
theorem dX0_wheelTold_68 : decode cX0_wheelTold 68 = .ok (.aload_n 0, 1) := dk_42 (dk_at dksX0_wheelTold_3 0 rfl rfl)
theorem dX0_wheelTold_69 : decode cX0_wheelTold 69 = .ok (.getfield 73, 3) := dk_180 0 73 (dk_at dksX0_wheelTold_3 1 rfl rfl)
theorem dX0_wheelTold_72 : decode cX0_wheelTold 72 = .ok (.getfield 164, 3) := dk_180 0 164 (dk_at dksX0_wheelTold_3 4 rfl rfl)
theorem dX0_wheelTold_75 : decode cX0_wheelTold 75 = .ok (.iload_n 1, 1) := dk_27 (dk_at dksX0_wheelTold_3 7 rfl rfl)
theorem dX0_wheelTold_76 : decode cX0_wheelTold 76 = .ok (.baload, 1) := dk_51 (dk_at dksX0_wheelTold_3 8 rfl rfl)
theorem dX0_wheelTold_77 : decode cX0_wheelTold 77 = .ok (.ireturn, 1) := dk_172 (dk_at dksX0_wheelTold_3 9 rfl rfl)
theorem dX0_wheelTold_78 : decode cX0_wheelTold 78 = .ok (.aload_n 0, 1) := dk_42 (dk_at dksX0_wheelTold_3 10 rfl rfl)
theorem dX0_wheelTold_79 : decode cX0_wheelTold 79 = .ok (.getfield 73, 3) := dk_180 0 73 (dk_at dksX0_wheelTold_3 11 rfl rfl)
theorem dX0_wheelTold_82 : decode cX0_wheelTold 82 = .ok (.getfield 191, 3) := dk_180 0 191 (dk_at dksX0_wheelTold_3 14 rfl rfl)
theorem dX0_wheelTold_85 : decode cX0_wheelTold 85 = .ok (.iload_n 1, 1) := dk_27 (dk_at dksX0_wheelTold_3 17 rfl rfl)
theorem dX0_wheelTold_86 : decode cX0_wheelTold 86 = .ok (.baload, 1) := dk_51 (dk_at dksX0_wheelTold_3 18 rfl rfl)
theorem dX0_wheelTold_87 : decode cX0_wheelTold 87 = .ok (.ireturn, 1) := dk_172 (dk_at dksX0_wheelTold_3 19 rfl rfl)
theorem dX0_wheelTold_88 : decode cX0_wheelTold 88 = .ok (.aload_n 0, 1) := dk_42 (dk_at dksX0_wheelTold_3 20 rfl rfl)
theorem dX0_wheelTold_89 : decode cX0_wheelTold 89 = .ok (.getfield 73, 3) := dk_180 0 73 (dk_at dksX0_wheelTold_3 21 rfl rfl)
theorem dX0_wheelTold_92 : decode cX0_wheelTold 92 = .ok (.getfield 130, 3) := dk_180 0 130 (dk_at dksX0_wheelTold_4 0 rfl rfl)
theorem dX0_wheelTold_95 : decode cX0_wheelTold 95 = .ok (.iload_n 1, 1) := dk_27 (dk_at dksX0_wheelTold_4 3 rfl rfl)
theorem dX0_wheelTold_96 : decode cX0_wheelTold 96 = .ok (.baload, 1) := dk_51 (dk_at dksX0_wheelTold_4 4 rfl rfl)
theorem dX0_wheelTold_97 : decode cX0_wheelTold 97 = .ok (.ireturn, 1) := dk_172 (dk_at dksX0_wheelTold_4 5 rfl rfl)
theorem dX0_wheelTold_98 : decode cX0_wheelTold 98 = .ok (.aload_n 0, 1) := dk_42 (dk_at dksX0_wheelTold_4 6 rfl rfl)
theorem dX0_wheelTold_99 : decode cX0_wheelTold 99 = .ok (.getfield 73, 3) := dk_180 0 73 (dk_at dksX0_wheelTold_4 7 rfl rfl)
theorem dX0_wheelTold_102 : decode cX0_wheelTold 102 = .ok (.getfield 216, 3) := dk_180 0 216 (dk_at dksX0_wheelTold_4 10 rfl rfl)
theorem dX0_wheelTold_105 : decode cX0_wheelTold 105 = .ok (.iload_n 1, 1) := dk_27 (dk_at dksX0_wheelTold_4 13 rfl rfl)
theorem dX0_wheelTold_106 : decode cX0_wheelTold 106 = .ok (.iaload, 1) := dk_46 (dk_at dksX0_wheelTold_4 14 rfl rfl)
theorem dX0_wheelTold_107 : decode cX0_wheelTold 107 = .ok (.ireturn, 1) := dk_172 (dk_at dksX0_wheelTold_4 15 rfl rfl)
theorem dX0_wheelTold_108 : decode cX0_wheelTold 108 = .ok (.aload_n 0, 1) := dk_42 (dk_at dksX0_wheelTold_4 16 rfl rfl)
theorem dX0_wheelTold_109 : decode cX0_wheelTold 109 = .ok (.getfield 73, 3) := dk_180 0 73 (dk_at dksX0_wheelTold_4 17 rfl rfl)
theorem dX0_wheelTold_112 : decode cX0_wheelTold 112 = .ok (.getfield 219, 3) := dk_180 0 219 (dk_at dksX0_wheelTold_4 20 rfl rfl)
theorem dX0_wheelTold_115 : decode cX0_wheelTold 115 = .ok (.iload_n 1, 1) := dk_27 (dk_at dksX0_wheelTold_4 23 rfl rfl)
theorem dX0_wheelTold_116 : decode cX0_wheelTold 116 = .ok (.iaload, 1) := dk_46 (dk_at dksX0_wheelTold_5 0 rfl rfl)
theorem dX0_wheelTold_117 : decode cX0_wheelTold 117 = .ok (.ireturn, 1) := dk_172 (dk_at dksX0_wheelTold_5 1 rfl rfl)
theorem dX0_wheelTold_118 : decode cX0_wheelTold 118 = .ok (.aload_n 0, 1) := dk_42 (dk_at dksX0_wheelTold_5 2 rfl rfl)
theorem dX0_wheelTold_119 : decode cX0_wheelTold 119 = .ok (.invokevirtual 222, 3) := dk_182 0 222 (dk_at dksX0_wheelTold_5 3 rfl rfl)
theorem dX0_wheelTold_122 : decode cX0_wheelTold 122 = .ok (.iload_n 2, 1) := dk_28 (dk_at dksX0_wheelTold_5 6 rfl rfl)
theorem dX0_wheelTold_123 : decode cX0_wheelTold 123 = .ok (.bipush 7, 2) := dk_16 7 (dk_at dksX0_wheelTold_5 7 rfl rfl)
theorem dX0_wheelTold_125 : decode cX0_wheelTold 125 = .ok (.if_icmp .ne 12, 3) := dk_160 0 12 (dk_at dksX0_wheelTold_5 9 rfl rfl)
theorem dX0_wheelTold_128 : decode cX0_wheelTold 128 = .ok (.aload_n 0, 1) := dk_42 (dk_at dksX0_wheelTold_5 12 rfl rfl)
theorem dX0_wheelTold_129 : decode cX0_wheelTold 129 = .ok (.getfield 109, 3) := dk_180 0 109 (dk_at dksX0_wheelTold_5 13 rfl rfl)
theorem dX0_wheelTold_132 : decode cX0_wheelTold 132 = .ok (.iload_n 1, 1) := dk_27 (dk_at dksX0_wheelTold_5 16 rfl rfl)
theorem dX0_wheelTold_133 : decode cX0_wheelTold 133 = .ok (.iaload, 1) := dk_46 (dk_at dksX0_wheelTold_5 17 rfl rfl)
theorem dX0_wheelTold_134 : decode cX0_wheelTold 134 = .ok (.goto 34, 3) := dk_167 0 34 (dk_at dksX0_wheelTold_5 18 rfl rfl)
theorem dX0_wheelTold_137 : decode cX0_wheelTold 137 = .ok (.iload_n 2, 1) := dk_28 (dk_at dksX0_wheelTold_5 21 rfl rfl)
theorem dX0_wheelTold_138 : decode cX0_wheelTold 138 = .ok (.bipush 8, 2) := dk_16 8 (dk_at dksX0_wheelTold_5 22 rfl rfl)
theorem dX0_wheelTold_140 : decode cX0_wheelTold 140 = .ok (.if_icmp .ne 17, 3) := dk_160 0 17 (dk_at dksX0_wheelTold_6 0 rfl rfl)
theorem dX0_wheelTold_143 : decode cX0_wheelTold 143 = .ok (.aload_n 0, 1) := dk_42 (dk_at dksX0_wheelTold_6 3 rfl rfl)
theorem dX0_wheelTold_144 : decode cX0_wheelTold 144 = .ok (.iload_n 1, 1) := dk_27 (dk_at dksX0_wheelTold_6 4 rfl rfl)
theorem dX0_wheelTold_145 : decode cX0_wheelTold 145 = .ok (.aload_n 0, 1) := dk_42 (dk_at dksX0_wheelTold_6 5 rfl rfl)
theorem dX0_wheelTold_146 : decode cX0_wheelTold 146 = .ok (.getfield 109, 3) := dk_180 0 109 (dk_at dksX0_wheelTold_6 6 rfl rfl)
theorem dX0_wheelTold_149 : decode cX0_wheelTold 149 = .ok (.iload_n 1, 1) := dk_27 (dk_at dksX0_wheelTold_6 9 rfl rfl)
theorem dX0_wheelTold_150 : decode cX0_wheelTold 150 = .ok (.iaload, 1) := dk_46 (dk_at dksX0_wheelTold_6 10 rfl rfl)
theorem dX0_wheelTold_151 : decode cX0_wheelTold 151 = .ok (.invokevirtual 225, 3) := dk_182 0 225 (dk_at dksX0_wheelTold_6 11 rfl rfl)
theorem dX0_wheelTold_154 : decode cX0_wheelTold 154 = .ok (.goto 14, 3) := dk_167 0 14 (dk_at dksX0_wheelTold_6 14 rfl rfl)
theorem dX0_wheelTold_157 : decode cX0_wheelTold 157 = .ok (.aload_n 0, 1) := dk_42 (dk_at dksX0_wheelTold_6 17 rfl rfl)
theorem dX0_wheelTold_158 : decode cX0_wheelTold 158 = .ok (.iload_n 1, 1) := dk_27 (dk_at dksX0_wheelTold_6 18 rfl rfl)
theorem dX0_wheelTold_159 : decode cX0_wheelTold 159 = .ok (.aload_n 0, 1) := dk_42 (dk_at dksX0_wheelTold_6 19 rfl rfl)
theorem dX0_wheelTold_160 : decode cX0_wheelTold 160 = .ok (.getfield 109, 3) := dk_180 0 109 (dk_at dksX0_wheelTold_6 20 rfl rfl)
theorem dX0_wheelTold_163 : decode cX0_wheelTold 163 = .ok (.iload_n 1, 1) := dk_27 (dk_at dksX0_wheelTold_6 23 rfl rfl)
theorem dX0_wheelTold_164 : decode cX0_wheelTold 164 = .ok (.iaload, 1) := dk_46 (dk_at dksX0_wheelTold_7 0 rfl rfl)
theorem dX0_wheelTold_165 : decode cX0_wheelTold 165 = .ok (.invokevirtual 228, 3) := dk_182 0 228 (dk_at dksX0_wheelTold_7 1 rfl rfl)
theorem dX0_wheelTold_168 : decode cX0_wheelTold 168 = .ok (.ireturn, 1) := dk_172 (dk_at dksX0_wheelTold_7 4 rfl rfl)
abbrev cX0_goDown : ByteArray := prog_1_method_16_code
def yX0_goDown : MethodName := ⟨RX0, "goDown", "()V"⟩
def dkwX0_goDown_5 : List UInt8 := [167, 255, 200, 132, 2, 1, 167, 255, 150, 42, 27, 181, 0, 170, 177]
abbrev dktX0_goDown_5 : List UInt8 := dkwX0_goDown_5 ++ []
def dkwX0_goDown_4 : List UInt8 := [21, 4, 42, 21, 4, 27, 182, 0, 167, 79, 27, 42, 180, 0, 109, 21, 4, 46, 100, 60, 132, 4, 1]
abbrev dktX0_goDown_4 : List UInt8 := dkwX0_goDown_4 ++ dktX0_goDown_5
def dkwX0_goDown_3 : List UInt8 := [162, 0, 50, 42, 180, 0, 73, 180, 0, 164, 21, 4, 51, 28, 159, 0, 6, 167, 0, 27, 42, 180, 0, 109]
abbrev dktX0_goDown_3 : List UInt8 := dkwX0_goDown_3 ++ dktX0_goDown_4
def dkwX0_goDown_2 : List UInt8 := [180, 0, 158, 29, 96, 181, 0, 158, 27, 29, 100, 60, 3, 54, 4, 21, 4, 42, 180, 0, 73, 180, 0, 119]
abbrev dktX0_goDown_2 : List UInt8 := dkwX0_goDown_2 ++ dktX0_goDown_3
def dkwX0_goDown_1 : List UInt8 := [180, 0, 112, 28, 27, 79, 27, 42, 180, 0, 73, 180, 0, 161, 28, 51, 184, 0, 1, 62, 42, 89]
abbrev dktX0_goDown_1 : List UInt8 := dkwX0_goDown_1 ++ dktX0_goDown_2
def dkwX0_goDown_0 : List UInt8 := [42, 180, 0, 73, 182, 0, 154, 60, 42, 3, 181, 0, 158, 3, 61, 28, 16, 12, 162, 0, 106, 42]
abbrev dktX0_goDown_0 : List UInt8 := dkwX0_goDown_0 ++ dktX0_goDown_1
theorem dksX0_goDown_0 : cX0_goDown.data.toList.drop 0 = dktX0_goDown_0 := by decide +kernel
theorem dksX0_goDown_1 : cX0_goDown.data.toList.drop 22 = dktX0_goDown_1 := dk_seg dksX0_goDown_0 22 rfl rfl
theorem dksX0_goDown_2 : cX0_goDown.data.toList.drop 44 = dktX0_goDown_2 := dk_seg dksX0_goDown_1 22 rfl rfl
theorem dksX0_goDown_3 : cX0_goDown.data.toList.drop 68 = dktX0_goDown_3 := dk_seg dksX0_goDown_2 24 rfl rfl
theorem dksX0_goDown_4 : cX0_goDown.data.toList.drop 92 = dktX0_goDown_4 := dk_seg dksX0_goDown_3 24 rfl rfl
theorem dksX0_goDown_5 : cX0_goDown.data.toList.drop 115 = dktX0_goDown_5 := dk_seg dksX0_goDown_4 23 rfl rfl
theorem dX0_goDown_0 : decode cX0_goDown 0 = .ok (.aload_n 0, 1) := dk_42 (dk_at dksX0_goDown_0 0 rfl rfl)
theorem dX0_goDown_1 : decode cX0_goDown 1 = .ok (.getfield 73, 3) := dk_180 0 73 (dk_at dksX0_goDown_0 1 rfl rfl)
theorem dX0_goDown_4 : decode cX0_goDown 4 = .ok (.invokevirtual 154, 3) := dk_182 0 154 (dk_at dksX0_goDown_0 4 rfl rfl)
theorem dX0_goDown_7 : decode cX0_goDown 7 = .ok (.istore_n 1, 1) := dk_60 (dk_at dksX0_goDown_0 7 rfl rfl)
theorem dX0_goDown_8 : decode cX0_goDown 8 = .ok (.aload_n 0, 1) := dk_42 (dk_at dksX0_goDown_0 8 rfl rfl)
theorem dX0_goDown_9 : decode cX0_goDown 9 = .ok (.iconst 0, 1) := dk_3 (dk_at dksX0_goDown_0 9 rfl rfl)
theorem dX0_goDown_10 : decode cX0_goDown 10 = .ok (.putfield 158, 3) := dk_181 0 158 (dk_at dksX0_goDown_0 10 rfl rfl)
theorem dX0_goDown_13 : decode cX0_goDown 13 = .ok (.iconst 0, 1) := dk_3 (dk_at dksX0_goDown_0 13 rfl rfl)
theorem dX0_goDown_14 : decode cX0_goDown 14 = .ok (.istore_n 2, 1) := dk_61 (dk_at dksX0_goDown_0 14 rfl rfl)
theorem dX0_goDown_15 : decode cX0_goDown 15 = .ok (.iload_n 2, 1) := dk_28 (dk_at dksX0_goDown_0 15 rfl rfl)
theorem dX0_goDown_16 : decode cX0_goDown 16 = .ok (.bipush 12, 2) := dk_16 12 (dk_at dksX0_goDown_0 16 rfl rfl)
theorem dX0_goDown_18 : decode cX0_goDown 18 = .ok (.if_icmp .ge 106, 3) := dk_162 0 106 (dk_at dksX0_goDown_0 18 rfl rfl)
theorem dX0_goDown_21 : decode cX0_goDown 21 = .ok (.aload_n 0, 1) := dk_42 (dk_at dksX0_goDown_0 21 rfl rfl)
theorem dX0_goDown_22 : decode cX0_goDown 22 = .ok (.getfield 112, 3) := dk_180 0 112 (dk_at dksX0_goDown_1 0 rfl rfl)
theorem dX0_goDown_25 : decode cX0_goDown 25 = .ok (.iload_n 2, 1) := dk_28 (dk_at dksX0_goDown_1 3 rfl rfl)
theorem dX0_goDown_26 : decode cX0_goDown 26 = .ok (.iload_n 1, 1) := dk_27 (dk_at dksX0_goDown_1 4 rfl rfl)
theorem dX0_goDown_27 : decode cX0_goDown 27 = .ok (.iastore, 1) := dk_79 (dk_at dksX0_goDown_1 5 rfl rfl)
theorem dX0_goDown_28 : decode cX0_goDown 28 = .ok (.iload_n 1, 1) := dk_27 (dk_at dksX0_goDown_1 6 rfl rfl)
theorem dX0_goDown_29 : decode cX0_goDown 29 = .ok (.aload_n 0, 1) := dk_42 (dk_at dksX0_goDown_1 7 rfl rfl)
theorem dX0_goDown_30 : decode cX0_goDown 30 = .ok (.getfield 73, 3) := dk_180 0 73 (dk_at dksX0_goDown_1 8 rfl rfl)
theorem dX0_goDown_33 : decode cX0_goDown 33 = .ok (.getfield 161, 3) := dk_180 0 161 (dk_at dksX0_goDown_1 11 rfl rfl)
theorem dX0_goDown_36 : decode cX0_goDown 36 = .ok (.iload_n 2, 1) := dk_28 (dk_at dksX0_goDown_1 14 rfl rfl)
theorem dX0_goDown_37 : decode cX0_goDown 37 = .ok (.baload, 1) := dk_51 (dk_at dksX0_goDown_1 15 rfl rfl)
theorem dX0_goDown_38 : decode cX0_goDown 38 = .ok (.invokestatic 1, 3) := dk_184 0 1 (dk_at dksX0_goDown_1 16 rfl rfl)
theorem dX0_goDown_41 : decode cX0_goDown 41 = .ok (.istore_n 3, 1) := dk_62 (dk_at dksX0_goDown_1 19 rfl rfl)
theorem dX0_goDown_42 : decode cX0_goDown 42 = .ok (.aload_n 0, 1) := dk_42 (dk_at dksX0_goDown_1 20 rfl rfl)
theorem dX0_goDown_43 : decode cX0_goDown 43 = .ok (.dup, 1) := dk_89 (dk_at dksX0_goDown_1 21 rfl rfl)
theorem dX0_goDown_44 : decode cX0_goDown 44 = .ok (.getfield 158, 3) := dk_180 0 158 (dk_at dksX0_goDown_2 0 rfl rfl)
theorem dX0_goDown_47 : decode cX0_goDown 47 = .ok (.iload_n 3, 1) := dk_29 (dk_at dksX0_goDown_2 3 rfl rfl)
theorem dX0_goDown_48 : decode cX0_goDown 48 = .ok (.iadd, 1) := dk_96 (dk_at dksX0_goDown_2 4 rfl rfl)
theorem dX0_goDown_49 : decode cX0_goDown 49 = .ok (.putfield 158, 3) := dk_181 0 158 (dk_at dksX0_goDown_2 5 rfl rfl)
theorem dX0_goDown_52 : decode cX0_goDown 52 = .ok (.iload_n 1, 1) := dk_27 (dk_at dksX0_goDown_2 8 rfl rfl)
theorem dX0_goDown_53 : decode cX0_goDown 53 = .ok (.iload_n 3, 1) := dk_29 (dk_at dksX0_goDown_2 9 rfl rfl)
theorem dX0_goDown_54 : decode cX0_goDown 54 = .ok (.isub, 1) := dk_100 (dk_at dksX0_goDown_2 10 rfl rfl)
theorem dX0_goDown_55 : decode cX0_goDown 55 = .ok (.istore_n 1, 1) := dk_60 (dk_at dksX0_goDown_2 11 rfl rfl)
theorem dX0_goDown_56 : decode cX0_goDown 56 = .ok (.iconst 0, 1) := dk_3 (dk_at dksX0_goDown_2 12 rfl rfl)
theorem dX0_goDown_57 : decode cX0_goDown 57 = .ok (.istore 4, 2) := dk_54 4 (dk_at dksX0_goDown_2 13 rfl rfl)
theorem dX0_goDown_59 : decode cX0_goDown 59 = .ok (.iload 4, 2) := dk_21 4 (dk_at dksX0_goDown_2 15 rfl rfl)
theorem dX0_goDown_61 : decode cX0_goDown 61 = .ok (.aload_n 0, 1) := dk_42 (dk_at dksX0_goDown_2 17 rfl rfl)
theorem dX0_goDown_62 : decode cX0_goDown 62 = .ok (.getfield 73, 3) := dk_180 0 73 (dk_at dksX0_goDown_2 18 rfl rfl)
theorem dX0_goDown_65 : decode cX0_goDown 65 = .ok (.getfield 119, 3) := dk_180 0 119 (dk_at dksX0_goDown_2 21 rfl rfl)
theorem dX0_goDown_68 : decode cX0_goDown 68 = .ok (.if_icmp .ge 50, 3) := dk_162 0 50 (dk_at dksX0_goDown_3 0 rfl rfl)
theorem dX0_goDown_71 : decode cX0_goDown 71 = .ok (.aload_n 0, 1) := dk_42 (dk_at dksX0_goDown_3 3 rfl rfl)
theorem dX0_goDown_72 : decode cX0_goDown 72 = .ok (.getfield 73, 3) := dk_180 0 73 (dk_at dksX0_goDown_3 4 rfl rfl)
theorem dX0_goDown_75 : decode cX0_goDown 75 = .ok (.getfield 164, 3) := dk_180 0 164 (dk_at dksX0_goDown_3 7 rfl rfl)
theorem dX0_goDown_78 : decode cX0_goDown 78 = .ok (.iload 4, 2) := dk_21 4 (dk_at dksX0_goDown_3 10 rfl rfl)
theorem dX0_goDown_80 : decode cX0_goDown 80 = .ok (.baload, 1) := dk_51 (dk_at dksX0_goDown_3 12 rfl rfl)
theorem dX0_goDown_81 : decode cX0_goDown 81 = .ok (.iload_n 2, 1) := dk_28 (dk_at dksX0_goDown_3 13 rfl rfl)
theorem dX0_goDown_82 : decode cX0_goDown 82 = .ok (.if_icmp .eq 6, 3) := dk_159 0 6 (dk_at dksX0_goDown_3 14 rfl rfl)
theorem dX0_goDown_85 : decode cX0_goDown 85 = .ok (.goto 27, 3) := dk_167 0 27 (dk_at dksX0_goDown_3 17 rfl rfl)
theorem dX0_goDown_88 : decode cX0_goDown 88 = .ok (.aload_n 0, 1) := dk_42 (dk_at dksX0_goDown_3 20 rfl rfl)
theorem dX0_goDown_89 : decode cX0_goDown 89 = .ok (.getfield 109, 3) := dk_180 0 109 (dk_at dksX0_goDown_3 21 rfl rfl)
theorem dX0_goDown_92 : decode cX0_goDown 92 = .ok (.iload 4, 2) := dk_21 4 (dk_at dksX0_goDown_4 0 rfl rfl)
theorem dX0_goDown_94 : decode cX0_goDown 94 = .ok (.aload_n 0, 1) := dk_42 (dk_at dksX0_goDown_4 2 rfl rfl)
theorem dX0_goDown_95 : decode cX0_goDown 95 = .ok (.iload 4, 2) := dk_21 4 (dk_at dksX0_goDown_4 3 rfl rfl)
theorem dX0_goDown_97 : decode cX0_goDown 97 = .ok (.iload_n 1, 1) := dk_27 (dk_at dksX0_goDown_4 5 rfl rfl)
theorem dX0_goDown_98 : decode cX0_goDown 98 = .ok (.invokevirtual 167, 3) := dk_182 0 167 (dk_at dksX0_goDown_4 6 rfl rfl)
theorem dX0_goDown_101 : decode cX0_goDown 101 = .ok (.iastore, 1) := dk_79 (dk_at dksX0_goDown_4 9 rfl rfl)
theorem dX0_goDown_102 : decode cX0_goDown 102 = .ok (.iload_n 1, 1) := dk_27 (dk_at dksX0_goDown_4 10 rfl rfl)
theorem dX0_goDown_103 : decode cX0_goDown 103 = .ok (.aload_n 0, 1) := dk_42 (dk_at dksX0_goDown_4 11 rfl rfl)
theorem dX0_goDown_104 : decode cX0_goDown 104 = .ok (.getfield 109, 3) := dk_180 0 109 (dk_at dksX0_goDown_4 12 rfl rfl)
theorem dX0_goDown_107 : decode cX0_goDown 107 = .ok (.iload 4, 2) := dk_21 4 (dk_at dksX0_goDown_4 15 rfl rfl)
theorem dX0_goDown_109 : decode cX0_goDown 109 = .ok (.iaload, 1) := dk_46 (dk_at dksX0_goDown_4 17 rfl rfl)
theorem dX0_goDown_110 : decode cX0_goDown 110 = .ok (.isub, 1) := dk_100 (dk_at dksX0_goDown_4 18 rfl rfl)
theorem dX0_goDown_111 : decode cX0_goDown 111 = .ok (.istore_n 1, 1) := dk_60 (dk_at dksX0_goDown_4 19 rfl rfl)
theorem dX0_goDown_112 : decode cX0_goDown 112 = .ok (.iinc 4 1, 3) := dk_132 4 1 (dk_at dksX0_goDown_4 20 rfl rfl)
theorem dX0_goDown_115 : decode cX0_goDown 115 = .ok (.goto (-56), 3) := dk_167 255 200 (dk_at dksX0_goDown_5 0 rfl rfl)
theorem dX0_goDown_118 : decode cX0_goDown 118 = .ok (.iinc 2 1, 3) := dk_132 2 1 (dk_at dksX0_goDown_5 3 rfl rfl)
theorem dX0_goDown_121 : decode cX0_goDown 121 = .ok (.goto (-106), 3) := dk_167 255 150 (dk_at dksX0_goDown_5 6 rfl rfl)
theorem dX0_goDown_124 : decode cX0_goDown 124 = .ok (.aload_n 0, 1) := dk_42 (dk_at dksX0_goDown_5 9 rfl rfl)
theorem dX0_goDown_125 : decode cX0_goDown 125 = .ok (.iload_n 1, 1) := dk_27 (dk_at dksX0_goDown_5 10 rfl rfl)
theorem dX0_goDown_126 : decode cX0_goDown 126 = .ok (.putfield 170, 3) := dk_181 0 170 (dk_at dksX0_goDown_5 11 rfl rfl)
theorem dX0_goDown_129 : decode cX0_goDown 129 = .ok (.return_, 1) := dk_177 (dk_at dksX0_goDown_5 14 rfl rfl)
abbrev cX0_wantsOf : ByteArray := prog_1_method_13_code
def yX0_wantsOf : MethodName := ⟨RX0, "wantsOf", "(II)I"⟩
def dkwX0_wantsOf_3 : List UInt8 := [28, 184, 0, 145, 172]
abbrev dktX0_wantsOf_3 : List UInt8 := dkwX0_wantsOf_3 ++ []
def dkwX0_wantsOf_2 : List UInt8 := [3, 54, 4, 21, 4, 153, 0, 7, 3, 167, 0, 19, 45, 42, 180, 0, 105, 28, 185, 0, 139, 3, 0, 3]
abbrev dktX0_wantsOf_2 : List UInt8 := dkwX0_wantsOf_2 ++ dktX0_wantsOf_3
def dkwX0_wantsOf_1 : List UInt8 := [180, 0, 73, 27, 182, 0, 126, 180, 0, 133, 42, 180, 0, 73, 180, 0, 136, 162, 0, 7, 4, 167, 0, 4]
abbrev dktX0_wantsOf_1 : List UInt8 := dkwX0_wantsOf_1 ++ dktX0_wantsOf_2
def dkwX0_wantsOf_0 : List UInt8 := [42, 180, 0, 73, 27, 182, 0, 126, 78, 42, 180, 0, 73, 180, 0, 130, 27, 51, 153, 0, 24, 42]
abbrev dktX0_wantsOf_0 : List UInt8 := dkwX0_wantsOf_0 ++ dktX0_wantsOf_1
theorem dksX0_wantsOf_0 : cX0_wantsOf.data.toList.drop 0 = dktX0_wantsOf_0 := by decide +kernel
theorem dksX0_wantsOf_1 : cX0_wantsOf.data.toList.drop 22 = dktX0_wantsOf_1 := dk_seg dksX0_wantsOf_0 22 rfl rfl
theorem dksX0_wantsOf_2 : cX0_wantsOf.data.toList.drop 46 = dktX0_wantsOf_2 := dk_seg dksX0_wantsOf_1 24 rfl rfl
theorem dksX0_wantsOf_3 : cX0_wantsOf.data.toList.drop 70 = dktX0_wantsOf_3 := dk_seg dksX0_wantsOf_2 24 rfl rfl
theorem dX0_wantsOf_0 : decode cX0_wantsOf 0 = .ok (.aload_n 0, 1) := dk_42 (dk_at dksX0_wantsOf_0 0 rfl rfl)
theorem dX0_wantsOf_1 : decode cX0_wantsOf 1 = .ok (.getfield 73, 3) := dk_180 0 73 (dk_at dksX0_wantsOf_0 1 rfl rfl)
theorem dX0_wantsOf_4 : decode cX0_wantsOf 4 = .ok (.iload_n 1, 1) := dk_27 (dk_at dksX0_wantsOf_0 4 rfl rfl)
theorem dX0_wantsOf_5 : decode cX0_wantsOf 5 = .ok (.invokevirtual 126, 3) := dk_182 0 126 (dk_at dksX0_wantsOf_0 5 rfl rfl)
theorem dX0_wantsOf_8 : decode cX0_wantsOf 8 = .ok (.astore_n 3, 1) := dk_78 (dk_at dksX0_wantsOf_0 8 rfl rfl)
theorem dX0_wantsOf_9 : decode cX0_wantsOf 9 = .ok (.aload_n 0, 1) := dk_42 (dk_at dksX0_wantsOf_0 9 rfl rfl)
theorem dX0_wantsOf_10 : decode cX0_wantsOf 10 = .ok (.getfield 73, 3) := dk_180 0 73 (dk_at dksX0_wantsOf_0 10 rfl rfl)
theorem dX0_wantsOf_13 : decode cX0_wantsOf 13 = .ok (.getfield 130, 3) := dk_180 0 130 (dk_at dksX0_wantsOf_0 13 rfl rfl)
theorem dX0_wantsOf_16 : decode cX0_wantsOf 16 = .ok (.iload_n 1, 1) := dk_27 (dk_at dksX0_wantsOf_0 16 rfl rfl)
theorem dX0_wantsOf_17 : decode cX0_wantsOf 17 = .ok (.baload, 1) := dk_51 (dk_at dksX0_wantsOf_0 17 rfl rfl)
theorem dX0_wantsOf_18 : decode cX0_wantsOf 18 = .ok (.ifCond .eq 24, 3) := dk_153 0 24 (dk_at dksX0_wantsOf_0 18 rfl rfl)
theorem dX0_wantsOf_21 : decode cX0_wantsOf 21 = .ok (.aload_n 0, 1) := dk_42 (dk_at dksX0_wantsOf_0 21 rfl rfl)
theorem dX0_wantsOf_22 : decode cX0_wantsOf 22 = .ok (.getfield 73, 3) := dk_180 0 73 (dk_at dksX0_wantsOf_1 0 rfl rfl)
theorem dX0_wantsOf_25 : decode cX0_wantsOf 25 = .ok (.iload_n 1, 1) := dk_27 (dk_at dksX0_wantsOf_1 3 rfl rfl)
theorem dX0_wantsOf_26 : decode cX0_wantsOf 26 = .ok (.invokevirtual 126, 3) := dk_182 0 126 (dk_at dksX0_wantsOf_1 4 rfl rfl)
theorem dX0_wantsOf_29 : decode cX0_wantsOf 29 = .ok (.getfield 133, 3) := dk_180 0 133 (dk_at dksX0_wantsOf_1 7 rfl rfl)
theorem dX0_wantsOf_32 : decode cX0_wantsOf 32 = .ok (.aload_n 0, 1) := dk_42 (dk_at dksX0_wantsOf_1 10 rfl rfl)
theorem dX0_wantsOf_33 : decode cX0_wantsOf 33 = .ok (.getfield 73, 3) := dk_180 0 73 (dk_at dksX0_wantsOf_1 11 rfl rfl)
theorem dX0_wantsOf_36 : decode cX0_wantsOf 36 = .ok (.getfield 136, 3) := dk_180 0 136 (dk_at dksX0_wantsOf_1 14 rfl rfl)
theorem dX0_wantsOf_39 : decode cX0_wantsOf 39 = .ok (.if_icmp .ge 7, 3) := dk_162 0 7 (dk_at dksX0_wantsOf_1 17 rfl rfl)
theorem dX0_wantsOf_42 : decode cX0_wantsOf 42 = .ok (.iconst 1, 1) := dk_4 (dk_at dksX0_wantsOf_1 20 rfl rfl)
theorem dX0_wantsOf_43 : decode cX0_wantsOf 43 = .ok (.goto 4, 3) := dk_167 0 4 (dk_at dksX0_wantsOf_1 21 rfl rfl)
theorem dX0_wantsOf_46 : decode cX0_wantsOf 46 = .ok (.iconst 0, 1) := dk_3 (dk_at dksX0_wantsOf_2 0 rfl rfl)
theorem dX0_wantsOf_47 : decode cX0_wantsOf 47 = .ok (.istore 4, 2) := dk_54 4 (dk_at dksX0_wantsOf_2 1 rfl rfl)
theorem dX0_wantsOf_49 : decode cX0_wantsOf 49 = .ok (.iload 4, 2) := dk_21 4 (dk_at dksX0_wantsOf_2 3 rfl rfl)
theorem dX0_wantsOf_51 : decode cX0_wantsOf 51 = .ok (.ifCond .eq 7, 3) := dk_153 0 7 (dk_at dksX0_wantsOf_2 5 rfl rfl)
theorem dX0_wantsOf_54 : decode cX0_wantsOf 54 = .ok (.iconst 0, 1) := dk_3 (dk_at dksX0_wantsOf_2 8 rfl rfl)
theorem dX0_wantsOf_55 : decode cX0_wantsOf 55 = .ok (.goto 19, 3) := dk_167 0 19 (dk_at dksX0_wantsOf_2 9 rfl rfl)
theorem dX0_wantsOf_58 : decode cX0_wantsOf 58 = .ok (.aload_n 3, 1) := dk_45 (dk_at dksX0_wantsOf_2 12 rfl rfl)
theorem dX0_wantsOf_59 : decode cX0_wantsOf 59 = .ok (.aload_n 0, 1) := dk_42 (dk_at dksX0_wantsOf_2 13 rfl rfl)
theorem dX0_wantsOf_60 : decode cX0_wantsOf 60 = .ok (.getfield 105, 3) := dk_180 0 105 (dk_at dksX0_wantsOf_2 14 rfl rfl)
theorem dX0_wantsOf_63 : decode cX0_wantsOf 63 = .ok (.iload_n 2, 1) := dk_28 (dk_at dksX0_wantsOf_2 17 rfl rfl)
theorem dX0_wantsOf_64 : decode cX0_wantsOf 64 = .ok (.invokeinterface 139 3, 5) := by decide +kernel
theorem dX0_wantsOf_69 : decode cX0_wantsOf 69 = .ok (.iconst 0, 1) := dk_3 (dk_at dksX0_wantsOf_2 23 rfl rfl)
theorem dX0_wantsOf_70 : decode cX0_wantsOf 70 = .ok (.iload_n 2, 1) := dk_28 (dk_at dksX0_wantsOf_3 0 rfl rfl)
theorem dX0_wantsOf_71 : decode cX0_wantsOf 71 = .ok (.invokestatic 145, 3) := dk_184 0 145 (dk_at dksX0_wantsOf_3 1 rfl rfl)
theorem dX0_wantsOf_74 : decode cX0_wantsOf 74 = .ok (.ireturn, 1) := dk_172 (dk_at dksX0_wantsOf_3 4 rfl rfl)
abbrev cX0_worked : ByteArray := prog_1_method_7_code
def yX0_worked : MethodName := ⟨RX0, "worked", "(LWheelBrook$Text;)I"⟩
def dkwX0_worked_6 : List UInt8 := [180, 0, 50, 3, 46, 172]
abbrev dktX0_worked_6 : List UInt8 := dkwX0_worked_6 ++ []
def dkwX0_worked_5 : List UInt8 := [180, 0, 50, 28, 4, 100, 46, 42, 180, 0, 50, 28, 46, 184, 0, 61, 79, 132, 3, 1, 167, 255, 124, 42]
abbrev dktX0_worked_5 : List UInt8 := dkwX0_worked_5 ++ dktX0_worked_6
def dkwX0_worked_4 : List UInt8 := [4, 167, 0, 4, 3, 79, 167, 0, 33, 132, 2, 255, 42, 180, 0, 50, 28, 4, 100, 21, 4, 42]
abbrev dktX0_worked_4 : List UInt8 := dkwX0_worked_4 ++ dktX0_worked_5
def dkwX0_worked_3 : List UInt8 := [21, 4, 6, 160, 0, 30, 42, 180, 0, 50, 28, 4, 100, 42, 180, 0, 50, 28, 4, 100, 46, 154, 0, 7]
abbrev dktX0_worked_3 : List UInt8 := dkwX0_worked_3 ++ dktX0_worked_4
def dkwX0_worked_2 : List UInt8 := [29, 53, 167, 0, 14, 42, 180, 0, 58, 43, 180, 0, 54, 29, 53, 46, 79, 132, 2, 1, 167, 0, 66]
abbrev dktX0_worked_2 : List UInt8 := dkwX0_worked_2 ++ dktX0_worked_3
def dkwX0_worked_1 : List UInt8 := [159, 0, 9, 21, 4, 5, 160, 0, 41, 42, 180, 0, 50, 28, 21, 4, 4, 160, 0, 12, 43, 180, 0, 54]
abbrev dktX0_worked_1 : List UInt8 := dkwX0_worked_1 ++ dktX0_worked_2
def dkwX0_worked_0 : List UInt8 := [3, 61, 3, 62, 29, 43, 180, 0, 38, 162, 0, 130, 43, 180, 0, 44, 29, 51, 54, 4, 21, 4, 4]
abbrev dktX0_worked_0 : List UInt8 := dkwX0_worked_0 ++ dktX0_worked_1
theorem dksX0_worked_0 : cX0_worked.data.toList.drop 0 = dktX0_worked_0 := by decide +kernel
theorem dksX0_worked_1 : cX0_worked.data.toList.drop 23 = dktX0_worked_1 := dk_seg dksX0_worked_0 23 rfl rfl
theorem dksX0_worked_2 : cX0_worked.data.toList.drop 47 = dktX0_worked_2 := dk_seg dksX0_worked_1 24 rfl rfl
theorem dksX0_worked_3 : cX0_worked.data.toList.drop 70 = dktX0_worked_3 := dk_seg dksX0_worked_2 23 rfl rfl
theorem dksX0_worked_4 : cX0_worked.data.toList.drop 94 = dktX0_worked_4 := dk_seg dksX0_worked_3 24 rfl rfl
theorem dksX0_worked_5 : cX0_worked.data.toList.drop 116 = dktX0_worked_5 := dk_seg dksX0_worked_4 22 rfl rfl
theorem dksX0_worked_6 : cX0_worked.data.toList.drop 140 = dktX0_worked_6 := dk_seg dksX0_worked_5 24 rfl rfl
theorem dX0_worked_0 : decode cX0_worked 0 = .ok (.iconst 0, 1) := dk_3 (dk_at dksX0_worked_0 0 rfl rfl)
theorem dX0_worked_1 : decode cX0_worked 1 = .ok (.istore_n 2, 1) := dk_61 (dk_at dksX0_worked_0 1 rfl rfl)
theorem dX0_worked_2 : decode cX0_worked 2 = .ok (.iconst 0, 1) := dk_3 (dk_at dksX0_worked_0 2 rfl rfl)
theorem dX0_worked_3 : decode cX0_worked 3 = .ok (.istore_n 3, 1) := dk_62 (dk_at dksX0_worked_0 3 rfl rfl)
theorem dX0_worked_4 : decode cX0_worked 4 = .ok (.iload_n 3, 1) := dk_29 (dk_at dksX0_worked_0 4 rfl rfl)
theorem dX0_worked_5 : decode cX0_worked 5 = .ok (.aload_n 1, 1) := dk_43 (dk_at dksX0_worked_0 5 rfl rfl)
theorem dX0_worked_6 : decode cX0_worked 6 = .ok (.getfield 38, 3) := dk_180 0 38 (dk_at dksX0_worked_0 6 rfl rfl)
theorem dX0_worked_9 : decode cX0_worked 9 = .ok (.if_icmp .ge 130, 3) := dk_162 0 130 (dk_at dksX0_worked_0 9 rfl rfl)
theorem dX0_worked_12 : decode cX0_worked 12 = .ok (.aload_n 1, 1) := dk_43 (dk_at dksX0_worked_0 12 rfl rfl)
theorem dX0_worked_13 : decode cX0_worked 13 = .ok (.getfield 44, 3) := dk_180 0 44 (dk_at dksX0_worked_0 13 rfl rfl)
theorem dX0_worked_16 : decode cX0_worked 16 = .ok (.iload_n 3, 1) := dk_29 (dk_at dksX0_worked_0 16 rfl rfl)
theorem dX0_worked_17 : decode cX0_worked 17 = .ok (.baload, 1) := dk_51 (dk_at dksX0_worked_0 17 rfl rfl)
theorem dX0_worked_18 : decode cX0_worked 18 = .ok (.istore 4, 2) := dk_54 4 (dk_at dksX0_worked_0 18 rfl rfl)
theorem dX0_worked_20 : decode cX0_worked 20 = .ok (.iload 4, 2) := dk_21 4 (dk_at dksX0_worked_0 20 rfl rfl)
theorem dX0_worked_22 : decode cX0_worked 22 = .ok (.iconst 1, 1) := dk_4 (dk_at dksX0_worked_0 22 rfl rfl)
theorem dX0_worked_23 : decode cX0_worked 23 = .ok (.if_icmp .eq 9, 3) := dk_159 0 9 (dk_at dksX0_worked_1 0 rfl rfl)
theorem dX0_worked_26 : decode cX0_worked 26 = .ok (.iload 4, 2) := dk_21 4 (dk_at dksX0_worked_1 3 rfl rfl)
theorem dX0_worked_28 : decode cX0_worked 28 = .ok (.iconst 2, 1) := dk_5 (dk_at dksX0_worked_1 5 rfl rfl)
theorem dX0_worked_29 : decode cX0_worked 29 = .ok (.if_icmp .ne 41, 3) := dk_160 0 41 (dk_at dksX0_worked_1 6 rfl rfl)
theorem dX0_worked_32 : decode cX0_worked 32 = .ok (.aload_n 0, 1) := dk_42 (dk_at dksX0_worked_1 9 rfl rfl)
theorem dX0_worked_33 : decode cX0_worked 33 = .ok (.getfield 50, 3) := dk_180 0 50 (dk_at dksX0_worked_1 10 rfl rfl)
theorem dX0_worked_36 : decode cX0_worked 36 = .ok (.iload_n 2, 1) := dk_28 (dk_at dksX0_worked_1 13 rfl rfl)
theorem dX0_worked_37 : decode cX0_worked 37 = .ok (.iload 4, 2) := dk_21 4 (dk_at dksX0_worked_1 14 rfl rfl)
theorem dX0_worked_39 : decode cX0_worked 39 = .ok (.iconst 1, 1) := dk_4 (dk_at dksX0_worked_1 16 rfl rfl)
theorem dX0_worked_40 : decode cX0_worked 40 = .ok (.if_icmp .ne 12, 3) := dk_160 0 12 (dk_at dksX0_worked_1 17 rfl rfl)
theorem dX0_worked_43 : decode cX0_worked 43 = .ok (.aload_n 1, 1) := dk_43 (dk_at dksX0_worked_1 20 rfl rfl)
theorem dX0_worked_44 : decode cX0_worked 44 = .ok (.getfield 54, 3) := dk_180 0 54 (dk_at dksX0_worked_1 21 rfl rfl)
theorem dX0_worked_47 : decode cX0_worked 47 = .ok (.iload_n 3, 1) := dk_29 (dk_at dksX0_worked_2 0 rfl rfl)
theorem dX0_worked_48 : decode cX0_worked 48 = .ok (.saload, 1) := dk_53 (dk_at dksX0_worked_2 1 rfl rfl)
theorem dX0_worked_49 : decode cX0_worked 49 = .ok (.goto 14, 3) := dk_167 0 14 (dk_at dksX0_worked_2 2 rfl rfl)
theorem dX0_worked_52 : decode cX0_worked 52 = .ok (.aload_n 0, 1) := dk_42 (dk_at dksX0_worked_2 5 rfl rfl)
theorem dX0_worked_53 : decode cX0_worked 53 = .ok (.getfield 58, 3) := dk_180 0 58 (dk_at dksX0_worked_2 6 rfl rfl)
theorem dX0_worked_56 : decode cX0_worked 56 = .ok (.aload_n 1, 1) := dk_43 (dk_at dksX0_worked_2 9 rfl rfl)
theorem dX0_worked_57 : decode cX0_worked 57 = .ok (.getfield 54, 3) := dk_180 0 54 (dk_at dksX0_worked_2 10 rfl rfl)
theorem dX0_worked_60 : decode cX0_worked 60 = .ok (.iload_n 3, 1) := dk_29 (dk_at dksX0_worked_2 13 rfl rfl)
theorem dX0_worked_61 : decode cX0_worked 61 = .ok (.saload, 1) := dk_53 (dk_at dksX0_worked_2 14 rfl rfl)
theorem dX0_worked_62 : decode cX0_worked 62 = .ok (.iaload, 1) := dk_46 (dk_at dksX0_worked_2 15 rfl rfl)
theorem dX0_worked_63 : decode cX0_worked 63 = .ok (.iastore, 1) := dk_79 (dk_at dksX0_worked_2 16 rfl rfl)
theorem dX0_worked_64 : decode cX0_worked 64 = .ok (.iinc 2 1, 3) := dk_132 2 1 (dk_at dksX0_worked_2 17 rfl rfl)
theorem dX0_worked_67 : decode cX0_worked 67 = .ok (.goto 66, 3) := dk_167 0 66 (dk_at dksX0_worked_2 20 rfl rfl)
theorem dX0_worked_70 : decode cX0_worked 70 = .ok (.iload 4, 2) := dk_21 4 (dk_at dksX0_worked_3 0 rfl rfl)
theorem dX0_worked_72 : decode cX0_worked 72 = .ok (.iconst 3, 1) := dk_6 (dk_at dksX0_worked_3 2 rfl rfl)
theorem dX0_worked_73 : decode cX0_worked 73 = .ok (.if_icmp .ne 30, 3) := dk_160 0 30 (dk_at dksX0_worked_3 3 rfl rfl)
theorem dX0_worked_76 : decode cX0_worked 76 = .ok (.aload_n 0, 1) := dk_42 (dk_at dksX0_worked_3 6 rfl rfl)
theorem dX0_worked_77 : decode cX0_worked 77 = .ok (.getfield 50, 3) := dk_180 0 50 (dk_at dksX0_worked_3 7 rfl rfl)
theorem dX0_worked_80 : decode cX0_worked 80 = .ok (.iload_n 2, 1) := dk_28 (dk_at dksX0_worked_3 10 rfl rfl)
theorem dX0_worked_81 : decode cX0_worked 81 = .ok (.iconst 1, 1) := dk_4 (dk_at dksX0_worked_3 11 rfl rfl)
theorem dX0_worked_82 : decode cX0_worked 82 = .ok (.isub, 1) := dk_100 (dk_at dksX0_worked_3 12 rfl rfl)
theorem dX0_worked_83 : decode cX0_worked 83 = .ok (.aload_n 0, 1) := dk_42 (dk_at dksX0_worked_3 13 rfl rfl)
theorem dX0_worked_84 : decode cX0_worked 84 = .ok (.getfield 50, 3) := dk_180 0 50 (dk_at dksX0_worked_3 14 rfl rfl)
theorem dX0_worked_87 : decode cX0_worked 87 = .ok (.iload_n 2, 1) := dk_28 (dk_at dksX0_worked_3 17 rfl rfl)
theorem dX0_worked_88 : decode cX0_worked 88 = .ok (.iconst 1, 1) := dk_4 (dk_at dksX0_worked_3 18 rfl rfl)
theorem dX0_worked_89 : decode cX0_worked 89 = .ok (.isub, 1) := dk_100 (dk_at dksX0_worked_3 19 rfl rfl)
theorem dX0_worked_90 : decode cX0_worked 90 = .ok (.iaload, 1) := dk_46 (dk_at dksX0_worked_3 20 rfl rfl)
theorem dX0_worked_91 : decode cX0_worked 91 = .ok (.ifCond .ne 7, 3) := dk_154 0 7 (dk_at dksX0_worked_3 21 rfl rfl)
theorem dX0_worked_94 : decode cX0_worked 94 = .ok (.iconst 1, 1) := dk_4 (dk_at dksX0_worked_4 0 rfl rfl)
theorem dX0_worked_95 : decode cX0_worked 95 = .ok (.goto 4, 3) := dk_167 0 4 (dk_at dksX0_worked_4 1 rfl rfl)
theorem dX0_worked_98 : decode cX0_worked 98 = .ok (.iconst 0, 1) := dk_3 (dk_at dksX0_worked_4 4 rfl rfl)
theorem dX0_worked_99 : decode cX0_worked 99 = .ok (.iastore, 1) := dk_79 (dk_at dksX0_worked_4 5 rfl rfl)
theorem dX0_worked_100 : decode cX0_worked 100 = .ok (.goto 33, 3) := dk_167 0 33 (dk_at dksX0_worked_4 6 rfl rfl)
theorem dX0_worked_103 : decode cX0_worked 103 = .ok (.iinc 2 (-1), 3) := dk_132 2 255 (dk_at dksX0_worked_4 9 rfl rfl)
theorem dX0_worked_106 : decode cX0_worked 106 = .ok (.aload_n 0, 1) := dk_42 (dk_at dksX0_worked_4 12 rfl rfl)
theorem dX0_worked_107 : decode cX0_worked 107 = .ok (.getfield 50, 3) := dk_180 0 50 (dk_at dksX0_worked_4 13 rfl rfl)
theorem dX0_worked_110 : decode cX0_worked 110 = .ok (.iload_n 2, 1) := dk_28 (dk_at dksX0_worked_4 16 rfl rfl)
theorem dX0_worked_111 : decode cX0_worked 111 = .ok (.iconst 1, 1) := dk_4 (dk_at dksX0_worked_4 17 rfl rfl)
theorem dX0_worked_112 : decode cX0_worked 112 = .ok (.isub, 1) := dk_100 (dk_at dksX0_worked_4 18 rfl rfl)
theorem dX0_worked_113 : decode cX0_worked 113 = .ok (.iload 4, 2) := dk_21 4 (dk_at dksX0_worked_4 19 rfl rfl)
theorem dX0_worked_115 : decode cX0_worked 115 = .ok (.aload_n 0, 1) := dk_42 (dk_at dksX0_worked_4 21 rfl rfl)
theorem dX0_worked_116 : decode cX0_worked 116 = .ok (.getfield 50, 3) := dk_180 0 50 (dk_at dksX0_worked_5 0 rfl rfl)
theorem dX0_worked_119 : decode cX0_worked 119 = .ok (.iload_n 2, 1) := dk_28 (dk_at dksX0_worked_5 3 rfl rfl)
theorem dX0_worked_120 : decode cX0_worked 120 = .ok (.iconst 1, 1) := dk_4 (dk_at dksX0_worked_5 4 rfl rfl)
theorem dX0_worked_121 : decode cX0_worked 121 = .ok (.isub, 1) := dk_100 (dk_at dksX0_worked_5 5 rfl rfl)
theorem dX0_worked_122 : decode cX0_worked 122 = .ok (.iaload, 1) := dk_46 (dk_at dksX0_worked_5 6 rfl rfl)
theorem dX0_worked_123 : decode cX0_worked 123 = .ok (.aload_n 0, 1) := dk_42 (dk_at dksX0_worked_5 7 rfl rfl)
theorem dX0_worked_124 : decode cX0_worked 124 = .ok (.getfield 50, 3) := dk_180 0 50 (dk_at dksX0_worked_5 8 rfl rfl)
theorem dX0_worked_127 : decode cX0_worked 127 = .ok (.iload_n 2, 1) := dk_28 (dk_at dksX0_worked_5 11 rfl rfl)
theorem dX0_worked_128 : decode cX0_worked 128 = .ok (.iaload, 1) := dk_46 (dk_at dksX0_worked_5 12 rfl rfl)
theorem dX0_worked_129 : decode cX0_worked 129 = .ok (.invokestatic 61, 3) := dk_184 0 61 (dk_at dksX0_worked_5 13 rfl rfl)
theorem dX0_worked_132 : decode cX0_worked 132 = .ok (.iastore, 1) := dk_79 (dk_at dksX0_worked_5 16 rfl rfl)
theorem dX0_worked_133 : decode cX0_worked 133 = .ok (.iinc 3 1, 3) := dk_132 3 1 (dk_at dksX0_worked_5 17 rfl rfl)
theorem dX0_worked_136 : decode cX0_worked 136 = .ok (.goto (-132), 3) := dk_167 255 124 (dk_at dksX0_worked_5 20 rfl rfl)
theorem dX0_worked_139 : decode cX0_worked 139 = .ok (.aload_n 0, 1) := dk_42 (dk_at dksX0_worked_5 23 rfl rfl)
theorem dX0_worked_140 : decode cX0_worked 140 = .ok (.getfield 50, 3) := dk_180 0 50 (dk_at dksX0_worked_6 0 rfl rfl)
theorem dX0_worked_143 : decode cX0_worked 143 = .ok (.iconst 0, 1) := dk_3 (dk_at dksX0_worked_6 3 rfl rfl)
theorem dX0_worked_144 : decode cX0_worked 144 = .ok (.iaload, 1) := dk_46 (dk_at dksX0_worked_6 4 rfl rfl)
theorem dX0_worked_145 : decode cX0_worked 145 = .ok (.ireturn, 1) := dk_172 (dk_at dksX0_worked_6 5 rfl rfl)
abbrev cX0_both : ByteArray := prog_1_method_6_code
def yX0_both : MethodName := ⟨RX0, "both", "(III)I"⟩
def dkwX0_both_6 : List UInt8 := [167, 0, 4, 3, 172]
abbrev dktX0_both_6 : List UInt8 := dkwX0_both_6 ++ []
def dkwX0_both_5 : List UInt8 := [153, 0, 11, 28, 153, 0, 7, 4, 167, 0, 4, 3, 172, 27, 154, 0, 7, 28, 153, 0, 7, 4]
abbrev dktX0_both_5 : List UInt8 := dkwX0_both_5 ++ dktX0_both_6
def dkwX0_both_4 : List UInt8 := [28, 160, 0, 7, 4, 167, 0, 4, 3, 172, 27, 28, 164, 0, 7, 4, 167, 0, 4, 3, 172, 27]
abbrev dktX0_both_4 : List UInt8 := dkwX0_both_4 ++ dktX0_both_5
def dkwX0_both_3 : List UInt8 := [28, 154, 0, 7, 3, 167, 0, 6, 27, 28, 112, 172, 27, 28, 162, 0, 7, 4, 167, 0, 4, 3, 172, 27]
abbrev dktX0_both_3 : List UInt8 := dkwX0_both_3 ++ dktX0_both_4
def dkwX0_both_2 : List UInt8 := [27, 28, 96, 172, 27, 28, 100, 172, 27, 28, 104, 172, 28, 154, 0, 7, 3, 167, 0, 6, 27, 28, 108, 172]
abbrev dktX0_both_2 : List UInt8 := dkwX0_both_2 ++ dktX0_both_3
def dkwX0_both_1 : List UInt8 := [170, 0, 0, 0, 0, 0, 202, 0, 0, 0, 37, 0, 0, 0, 62, 0, 0, 0, 143, 0, 0, 0, 188, 0, 0, 0, 202, 0, 0, 0, 202, 0, 0, 0, 202, 0, 0, 0, 127, 0, 0, 0, 119, 0, 0, 0, 202, 0, 0, 0, 123, 0, 0, 0, 202, 0, 0, 0, 131, 0, 0, 0, 202, 0, 0, 0, 202, 0, 0, 0, 202, 0, 0, 0, 202, 0, 0, 0, 202, 0, 0, 0, 202, 0, 0, 0, 202, 0, 0, 0, 202, 0, 0, 0, 202, 0, 0, 0, 202, 0, 0, 0, 202, 0, 0, 0, 202, 0, 0, 0, 155, 0, 0, 0, 166, 0, 0, 0, 177]
abbrev dktX0_both_1 : List UInt8 := dkwX0_both_1 ++ dktX0_both_2
def dkwX0_both_0 : List UInt8 := [26]
abbrev dktX0_both_0 : List UInt8 := dkwX0_both_0 ++ dktX0_both_1
theorem dksX0_both_0 : cX0_both.data.toList.drop 0 = dktX0_both_0 := by decide +kernel
theorem dksX0_both_1 : cX0_both.data.toList.drop 1 = dktX0_both_1 := dk_seg dksX0_both_0 1 rfl rfl
theorem dksX0_both_2 : cX0_both.data.toList.drop 120 = dktX0_both_2 := dk_seg dksX0_both_1 119 rfl rfl
theorem dksX0_both_3 : cX0_both.data.toList.drop 144 = dktX0_both_3 := dk_seg dksX0_both_2 24 rfl rfl
theorem dksX0_both_4 : cX0_both.data.toList.drop 168 = dktX0_both_4 := dk_seg dksX0_both_3 24 rfl rfl
theorem dksX0_both_5 : cX0_both.data.toList.drop 190 = dktX0_both_5 := dk_seg dksX0_both_4 22 rfl rfl
theorem dksX0_both_6 : cX0_both.data.toList.drop 212 = dktX0_both_6 := dk_seg dksX0_both_5 22 rfl rfl
theorem dX0_both_0 : decode cX0_both 0 = .ok (.iload_n 0, 1) := dk_26 (dk_at dksX0_both_0 0 rfl rfl)
theorem dX0_both_1 : decode cX0_both 1 = .ok (.tableswitch 202 37 62 #[143, 188, 202, 202, 202, 127, 119, 202, 123, 202, 131, 202, 202, 202, 202, 202, 202, 202, 202, 202, 202, 202, 202, 155, 166, 177], 119) := by decide +kernel
theorem dX0_both_120 : decode cX0_both 120 = .ok (.iload_n 1, 1) := dk_27 (dk_at dksX0_both_2 0 rfl rfl)
theorem dX0_both_121 : decode cX0_both 121 = .ok (.iload_n 2, 1) := dk_28 (dk_at dksX0_both_2 1 rfl rfl)
theorem dX0_both_122 : decode cX0_both 122 = .ok (.iadd, 1) := dk_96 (dk_at dksX0_both_2 2 rfl rfl)
theorem dX0_both_123 : decode cX0_both 123 = .ok (.ireturn, 1) := dk_172 (dk_at dksX0_both_2 3 rfl rfl)
theorem dX0_both_124 : decode cX0_both 124 = .ok (.iload_n 1, 1) := dk_27 (dk_at dksX0_both_2 4 rfl rfl)
theorem dX0_both_125 : decode cX0_both 125 = .ok (.iload_n 2, 1) := dk_28 (dk_at dksX0_both_2 5 rfl rfl)
theorem dX0_both_126 : decode cX0_both 126 = .ok (.isub, 1) := dk_100 (dk_at dksX0_both_2 6 rfl rfl)
theorem dX0_both_127 : decode cX0_both 127 = .ok (.ireturn, 1) := dk_172 (dk_at dksX0_both_2 7 rfl rfl)
theorem dX0_both_128 : decode cX0_both 128 = .ok (.iload_n 1, 1) := dk_27 (dk_at dksX0_both_2 8 rfl rfl)
theorem dX0_both_129 : decode cX0_both 129 = .ok (.iload_n 2, 1) := dk_28 (dk_at dksX0_both_2 9 rfl rfl)
theorem dX0_both_130 : decode cX0_both 130 = .ok (.imul, 1) := dk_104 (dk_at dksX0_both_2 10 rfl rfl)
theorem dX0_both_131 : decode cX0_both 131 = .ok (.ireturn, 1) := dk_172 (dk_at dksX0_both_2 11 rfl rfl)
theorem dX0_both_132 : decode cX0_both 132 = .ok (.iload_n 2, 1) := dk_28 (dk_at dksX0_both_2 12 rfl rfl)
theorem dX0_both_133 : decode cX0_both 133 = .ok (.ifCond .ne 7, 3) := dk_154 0 7 (dk_at dksX0_both_2 13 rfl rfl)
theorem dX0_both_136 : decode cX0_both 136 = .ok (.iconst 0, 1) := dk_3 (dk_at dksX0_both_2 16 rfl rfl)
theorem dX0_both_137 : decode cX0_both 137 = .ok (.goto 6, 3) := dk_167 0 6 (dk_at dksX0_both_2 17 rfl rfl)
theorem dX0_both_140 : decode cX0_both 140 = .ok (.iload_n 1, 1) := dk_27 (dk_at dksX0_both_2 20 rfl rfl)
theorem dX0_both_141 : decode cX0_both 141 = .ok (.iload_n 2, 1) := dk_28 (dk_at dksX0_both_2 21 rfl rfl)
theorem dX0_both_142 : decode cX0_both 142 = .ok (.idiv, 1) := dk_108 (dk_at dksX0_both_2 22 rfl rfl)
theorem dX0_both_143 : decode cX0_both 143 = .ok (.ireturn, 1) := dk_172 (dk_at dksX0_both_2 23 rfl rfl)
theorem dX0_both_144 : decode cX0_both 144 = .ok (.iload_n 2, 1) := dk_28 (dk_at dksX0_both_3 0 rfl rfl)
theorem dX0_both_145 : decode cX0_both 145 = .ok (.ifCond .ne 7, 3) := dk_154 0 7 (dk_at dksX0_both_3 1 rfl rfl)
theorem dX0_both_148 : decode cX0_both 148 = .ok (.iconst 0, 1) := dk_3 (dk_at dksX0_both_3 4 rfl rfl)
theorem dX0_both_149 : decode cX0_both 149 = .ok (.goto 6, 3) := dk_167 0 6 (dk_at dksX0_both_3 5 rfl rfl)
theorem dX0_both_152 : decode cX0_both 152 = .ok (.iload_n 1, 1) := dk_27 (dk_at dksX0_both_3 8 rfl rfl)
theorem dX0_both_153 : decode cX0_both 153 = .ok (.iload_n 2, 1) := dk_28 (dk_at dksX0_both_3 9 rfl rfl)
theorem dX0_both_154 : decode cX0_both 154 = .ok (.irem, 1) := dk_112 (dk_at dksX0_both_3 10 rfl rfl)
theorem dX0_both_155 : decode cX0_both 155 = .ok (.ireturn, 1) := dk_172 (dk_at dksX0_both_3 11 rfl rfl)
theorem dX0_both_156 : decode cX0_both 156 = .ok (.iload_n 1, 1) := dk_27 (dk_at dksX0_both_3 12 rfl rfl)
theorem dX0_both_157 : decode cX0_both 157 = .ok (.iload_n 2, 1) := dk_28 (dk_at dksX0_both_3 13 rfl rfl)
theorem dX0_both_158 : decode cX0_both 158 = .ok (.if_icmp .ge 7, 3) := dk_162 0 7 (dk_at dksX0_both_3 14 rfl rfl)
theorem dX0_both_161 : decode cX0_both 161 = .ok (.iconst 1, 1) := dk_4 (dk_at dksX0_both_3 17 rfl rfl)
theorem dX0_both_162 : decode cX0_both 162 = .ok (.goto 4, 3) := dk_167 0 4 (dk_at dksX0_both_3 18 rfl rfl)
theorem dX0_both_165 : decode cX0_both 165 = .ok (.iconst 0, 1) := dk_3 (dk_at dksX0_both_3 21 rfl rfl)
theorem dX0_both_166 : decode cX0_both 166 = .ok (.ireturn, 1) := dk_172 (dk_at dksX0_both_3 22 rfl rfl)
theorem dX0_both_167 : decode cX0_both 167 = .ok (.iload_n 1, 1) := dk_27 (dk_at dksX0_both_3 23 rfl rfl)
theorem dX0_both_168 : decode cX0_both 168 = .ok (.iload_n 2, 1) := dk_28 (dk_at dksX0_both_4 0 rfl rfl)
theorem dX0_both_169 : decode cX0_both 169 = .ok (.if_icmp .ne 7, 3) := dk_160 0 7 (dk_at dksX0_both_4 1 rfl rfl)
theorem dX0_both_172 : decode cX0_both 172 = .ok (.iconst 1, 1) := dk_4 (dk_at dksX0_both_4 4 rfl rfl)
theorem dX0_both_173 : decode cX0_both 173 = .ok (.goto 4, 3) := dk_167 0 4 (dk_at dksX0_both_4 5 rfl rfl)
theorem dX0_both_176 : decode cX0_both 176 = .ok (.iconst 0, 1) := dk_3 (dk_at dksX0_both_4 8 rfl rfl)
theorem dX0_both_177 : decode cX0_both 177 = .ok (.ireturn, 1) := dk_172 (dk_at dksX0_both_4 9 rfl rfl)
theorem dX0_both_178 : decode cX0_both 178 = .ok (.iload_n 1, 1) := dk_27 (dk_at dksX0_both_4 10 rfl rfl)
theorem dX0_both_179 : decode cX0_both 179 = .ok (.iload_n 2, 1) := dk_28 (dk_at dksX0_both_4 11 rfl rfl)
theorem dX0_both_180 : decode cX0_both 180 = .ok (.if_icmp .le 7, 3) := dk_164 0 7 (dk_at dksX0_both_4 12 rfl rfl)
theorem dX0_both_183 : decode cX0_both 183 = .ok (.iconst 1, 1) := dk_4 (dk_at dksX0_both_4 15 rfl rfl)
theorem dX0_both_184 : decode cX0_both 184 = .ok (.goto 4, 3) := dk_167 0 4 (dk_at dksX0_both_4 16 rfl rfl)
theorem dX0_both_187 : decode cX0_both 187 = .ok (.iconst 0, 1) := dk_3 (dk_at dksX0_both_4 19 rfl rfl)
theorem dX0_both_188 : decode cX0_both 188 = .ok (.ireturn, 1) := dk_172 (dk_at dksX0_both_4 20 rfl rfl)
theorem dX0_both_189 : decode cX0_both 189 = .ok (.iload_n 1, 1) := dk_27 (dk_at dksX0_both_4 21 rfl rfl)
theorem dX0_both_190 : decode cX0_both 190 = .ok (.ifCond .eq 11, 3) := dk_153 0 11 (dk_at dksX0_both_5 0 rfl rfl)
theorem dX0_both_193 : decode cX0_both 193 = .ok (.iload_n 2, 1) := dk_28 (dk_at dksX0_both_5 3 rfl rfl)
theorem dX0_both_194 : decode cX0_both 194 = .ok (.ifCond .eq 7, 3) := dk_153 0 7 (dk_at dksX0_both_5 4 rfl rfl)
theorem dX0_both_197 : decode cX0_both 197 = .ok (.iconst 1, 1) := dk_4 (dk_at dksX0_both_5 7 rfl rfl)
theorem dX0_both_198 : decode cX0_both 198 = .ok (.goto 4, 3) := dk_167 0 4 (dk_at dksX0_both_5 8 rfl rfl)
theorem dX0_both_201 : decode cX0_both 201 = .ok (.iconst 0, 1) := dk_3 (dk_at dksX0_both_5 11 rfl rfl)
theorem dX0_both_202 : decode cX0_both 202 = .ok (.ireturn, 1) := dk_172 (dk_at dksX0_both_5 12 rfl rfl)
theorem dX0_both_203 : decode cX0_both 203 = .ok (.iload_n 1, 1) := dk_27 (dk_at dksX0_both_5 13 rfl rfl)
theorem dX0_both_204 : decode cX0_both 204 = .ok (.ifCond .ne 7, 3) := dk_154 0 7 (dk_at dksX0_both_5 14 rfl rfl)
theorem dX0_both_207 : decode cX0_both 207 = .ok (.iload_n 2, 1) := dk_28 (dk_at dksX0_both_5 17 rfl rfl)
theorem dX0_both_208 : decode cX0_both 208 = .ok (.ifCond .eq 7, 3) := dk_153 0 7 (dk_at dksX0_both_5 18 rfl rfl)
theorem dX0_both_211 : decode cX0_both 211 = .ok (.iconst 1, 1) := dk_4 (dk_at dksX0_both_5 21 rfl rfl)
theorem dX0_both_212 : decode cX0_both 212 = .ok (.goto 4, 3) := dk_167 0 4 (dk_at dksX0_both_6 0 rfl rfl)
theorem dX0_both_215 : decode cX0_both 215 = .ok (.iconst 0, 1) := dk_3 (dk_at dksX0_both_6 3 rfl rfl)
theorem dX0_both_216 : decode cX0_both 216 = .ok (.ireturn, 1) := dk_172 (dk_at dksX0_both_6 4 rfl rfl)
abbrev cX0_held : ByteArray := prog_1_method_2_code
def yX0_held : MethodName := ⟨RX0, "held", "(III)I"⟩
def dkwX0_held_0 : List UInt8 := [27, 28, 26, 184, 0, 1, 184, 0, 7, 172]
abbrev dktX0_held_0 : List UInt8 := dkwX0_held_0 ++ []
theorem dksX0_held_0 : cX0_held.data.toList.drop 0 = dktX0_held_0 := by decide +kernel
theorem dX0_held_0 : decode cX0_held 0 = .ok (.iload_n 1, 1) := dk_27 (dk_at dksX0_held_0 0 rfl rfl)
theorem dX0_held_1 : decode cX0_held 1 = .ok (.iload_n 2, 1) := dk_28 (dk_at dksX0_held_0 1 rfl rfl)
theorem dX0_held_2 : decode cX0_held 2 = .ok (.iload_n 0, 1) := dk_26 (dk_at dksX0_held_0 2 rfl rfl)
theorem dX0_held_3 : decode cX0_held 3 = .ok (.invokestatic 1, 3) := dk_184 0 1 (dk_at dksX0_held_0 3 rfl rfl)
theorem dX0_held_6 : decode cX0_held 6 = .ok (.invokestatic 7, 3) := dk_184 0 7 (dk_at dksX0_held_0 6 rfl rfl)
theorem dX0_held_9 : decode cX0_held 9 = .ok (.ireturn, 1) := dk_172 (dk_at dksX0_held_0 9 rfl rfl)
abbrev cX0_turnsOf : ByteArray := prog_1_method_14_code
def yX0_turnsOf : MethodName := ⟨RX0, "turnsOf", "(II)I"⟩
def dkwX0_turnsOf_1 : List UInt8 := [184, 0, 145, 172]
abbrev dktX0_turnsOf_1 : List UInt8 := dkwX0_turnsOf_1 ++ []
def dkwX0_turnsOf_0 : List UInt8 := [42, 180, 0, 73, 27, 182, 0, 126, 78, 45, 42, 180, 0, 105, 28, 185, 0, 148, 3, 0, 3, 17, 39, 15]
abbrev dktX0_turnsOf_0 : List UInt8 := dkwX0_turnsOf_0 ++ dktX0_turnsOf_1
theorem dksX0_turnsOf_0 : cX0_turnsOf.data.toList.drop 0 = dktX0_turnsOf_0 := by decide +kernel
theorem dksX0_turnsOf_1 : cX0_turnsOf.data.toList.drop 24 = dktX0_turnsOf_1 := dk_seg dksX0_turnsOf_0 24 rfl rfl
theorem dX0_turnsOf_0 : decode cX0_turnsOf 0 = .ok (.aload_n 0, 1) := dk_42 (dk_at dksX0_turnsOf_0 0 rfl rfl)
theorem dX0_turnsOf_1 : decode cX0_turnsOf 1 = .ok (.getfield 73, 3) := dk_180 0 73 (dk_at dksX0_turnsOf_0 1 rfl rfl)
theorem dX0_turnsOf_4 : decode cX0_turnsOf 4 = .ok (.iload_n 1, 1) := dk_27 (dk_at dksX0_turnsOf_0 4 rfl rfl)
theorem dX0_turnsOf_5 : decode cX0_turnsOf 5 = .ok (.invokevirtual 126, 3) := dk_182 0 126 (dk_at dksX0_turnsOf_0 5 rfl rfl)
theorem dX0_turnsOf_8 : decode cX0_turnsOf 8 = .ok (.astore_n 3, 1) := dk_78 (dk_at dksX0_turnsOf_0 8 rfl rfl)
theorem dX0_turnsOf_9 : decode cX0_turnsOf 9 = .ok (.aload_n 3, 1) := dk_45 (dk_at dksX0_turnsOf_0 9 rfl rfl)
theorem dX0_turnsOf_10 : decode cX0_turnsOf 10 = .ok (.aload_n 0, 1) := dk_42 (dk_at dksX0_turnsOf_0 10 rfl rfl)
theorem dX0_turnsOf_11 : decode cX0_turnsOf 11 = .ok (.getfield 105, 3) := dk_180 0 105 (dk_at dksX0_turnsOf_0 11 rfl rfl)
theorem dX0_turnsOf_14 : decode cX0_turnsOf 14 = .ok (.iload_n 2, 1) := dk_28 (dk_at dksX0_turnsOf_0 14 rfl rfl)
theorem dX0_turnsOf_15 : decode cX0_turnsOf 15 = .ok (.invokeinterface 148 3, 5) := by decide +kernel
theorem dX0_turnsOf_20 : decode cX0_turnsOf 20 = .ok (.iconst 0, 1) := dk_3 (dk_at dksX0_turnsOf_0 20 rfl rfl)
theorem dX0_turnsOf_21 : decode cX0_turnsOf 21 = .ok (.sipush 9999, 3) := dk_17 39 15 (dk_at dksX0_turnsOf_0 21 rfl rfl)
theorem dX0_turnsOf_24 : decode cX0_turnsOf 24 = .ok (.invokestatic 145, 3) := dk_184 0 145 (dk_at dksX0_turnsOf_1 0 rfl rfl)
theorem dX0_turnsOf_27 : decode cX0_turnsOf 27 = .ok (.ireturn, 1) := dk_172 (dk_at dksX0_turnsOf_1 3 rfl rfl)
abbrev cX0_showsOf : ByteArray := prog_1_method_15_code
def yX0_showsOf : MethodName := ⟨RX0, "showsOf", "(II)I"⟩
def dkwX0_showsOf_1 : List UInt8 := [184, 0, 145, 172]
abbrev dktX0_showsOf_1 : List UInt8 := dkwX0_showsOf_1 ++ []
def dkwX0_showsOf_0 : List UInt8 := [42, 180, 0, 73, 27, 182, 0, 126, 78, 45, 42, 180, 0, 105, 28, 185, 0, 151, 3, 0, 3, 17, 39, 15]
abbrev dktX0_showsOf_0 : List UInt8 := dkwX0_showsOf_0 ++ dktX0_showsOf_1
theorem dksX0_showsOf_0 : cX0_showsOf.data.toList.drop 0 = dktX0_showsOf_0 := by decide +kernel
theorem dksX0_showsOf_1 : cX0_showsOf.data.toList.drop 24 = dktX0_showsOf_1 := dk_seg dksX0_showsOf_0 24 rfl rfl
theorem dX0_showsOf_0 : decode cX0_showsOf 0 = .ok (.aload_n 0, 1) := dk_42 (dk_at dksX0_showsOf_0 0 rfl rfl)
theorem dX0_showsOf_1 : decode cX0_showsOf 1 = .ok (.getfield 73, 3) := dk_180 0 73 (dk_at dksX0_showsOf_0 1 rfl rfl)
theorem dX0_showsOf_4 : decode cX0_showsOf 4 = .ok (.iload_n 1, 1) := dk_27 (dk_at dksX0_showsOf_0 4 rfl rfl)
theorem dX0_showsOf_5 : decode cX0_showsOf 5 = .ok (.invokevirtual 126, 3) := dk_182 0 126 (dk_at dksX0_showsOf_0 5 rfl rfl)
theorem dX0_showsOf_8 : decode cX0_showsOf 8 = .ok (.astore_n 3, 1) := dk_78 (dk_at dksX0_showsOf_0 8 rfl rfl)
theorem dX0_showsOf_9 : decode cX0_showsOf 9 = .ok (.aload_n 3, 1) := dk_45 (dk_at dksX0_showsOf_0 9 rfl rfl)
theorem dX0_showsOf_10 : decode cX0_showsOf 10 = .ok (.aload_n 0, 1) := dk_42 (dk_at dksX0_showsOf_0 10 rfl rfl)
theorem dX0_showsOf_11 : decode cX0_showsOf 11 = .ok (.getfield 105, 3) := dk_180 0 105 (dk_at dksX0_showsOf_0 11 rfl rfl)
theorem dX0_showsOf_14 : decode cX0_showsOf 14 = .ok (.iload_n 2, 1) := dk_28 (dk_at dksX0_showsOf_0 14 rfl rfl)
theorem dX0_showsOf_15 : decode cX0_showsOf 15 = .ok (.invokeinterface 151 3, 5) := by decide +kernel
theorem dX0_showsOf_20 : decode cX0_showsOf 20 = .ok (.iconst 0, 1) := dk_3 (dk_at dksX0_showsOf_0 20 rfl rfl)
theorem dX0_showsOf_21 : decode cX0_showsOf 21 = .ok (.sipush 9999, 3) := dk_17 39 15 (dk_at dksX0_showsOf_0 21 rfl rfl)
theorem dX0_showsOf_24 : decode cX0_showsOf 24 = .ok (.invokestatic 145, 3) := dk_184 0 145 (dk_at dksX0_showsOf_1 0 rfl rfl)
theorem dX0_showsOf_27 : decode cX0_showsOf 27 = .ok (.ireturn, 1) := dk_172 (dk_at dksX0_showsOf_1 3 rfl rfl)
abbrev cX0_as : ByteArray := prog_1_method_28_code
def yX0_as : MethodName := ⟨RX0, "as", "(II)I"⟩
def dkwX0_as_2 : List UInt8 := [180, 0, 216, 27, 46, 167, 0, 8, 42, 8, 182, 0, 173, 172]
abbrev dktX0_as_2 : List UInt8 := dkwX0_as_2 ++ []
def dkwX0_as_1 : List UInt8 := [42, 180, 0, 73, 180, 0, 237, 27, 50, 180, 0, 240, 28, 184, 0, 243, 153, 0, 15, 42, 180, 0, 73]
abbrev dktX0_as_1 : List UInt8 := dkwX0_as_1 ++ dktX0_as_2
def dkwX0_as_0 : List UInt8 := [42, 27, 182, 0, 231, 153, 0, 13, 28, 3, 16, 6, 184, 0, 122, 154, 0, 9, 42, 4, 182, 0, 173, 172]
abbrev dktX0_as_0 : List UInt8 := dkwX0_as_0 ++ dktX0_as_1
theorem dksX0_as_0 : cX0_as.data.toList.drop 0 = dktX0_as_0 := by decide +kernel
theorem dksX0_as_1 : cX0_as.data.toList.drop 24 = dktX0_as_1 := dk_seg dksX0_as_0 24 rfl rfl
theorem dksX0_as_2 : cX0_as.data.toList.drop 47 = dktX0_as_2 := dk_seg dksX0_as_1 23 rfl rfl
theorem dX0_as_0 : decode cX0_as 0 = .ok (.aload_n 0, 1) := dk_42 (dk_at dksX0_as_0 0 rfl rfl)
theorem dX0_as_1 : decode cX0_as 1 = .ok (.iload_n 1, 1) := dk_27 (dk_at dksX0_as_0 1 rfl rfl)
theorem dX0_as_2 : decode cX0_as 2 = .ok (.invokevirtual 231, 3) := dk_182 0 231 (dk_at dksX0_as_0 2 rfl rfl)
theorem dX0_as_5 : decode cX0_as 5 = .ok (.ifCond .eq 13, 3) := dk_153 0 13 (dk_at dksX0_as_0 5 rfl rfl)
theorem dX0_as_8 : decode cX0_as 8 = .ok (.iload_n 2, 1) := dk_28 (dk_at dksX0_as_0 8 rfl rfl)
theorem dX0_as_9 : decode cX0_as 9 = .ok (.iconst 0, 1) := dk_3 (dk_at dksX0_as_0 9 rfl rfl)
theorem dX0_as_10 : decode cX0_as 10 = .ok (.bipush 6, 2) := dk_16 6 (dk_at dksX0_as_0 10 rfl rfl)
theorem dX0_as_12 : decode cX0_as 12 = .ok (.invokestatic 122, 3) := dk_184 0 122 (dk_at dksX0_as_0 12 rfl rfl)
theorem dX0_as_15 : decode cX0_as 15 = .ok (.ifCond .ne 9, 3) := dk_154 0 9 (dk_at dksX0_as_0 15 rfl rfl)
theorem dX0_as_18 : decode cX0_as 18 = .ok (.aload_n 0, 1) := dk_42 (dk_at dksX0_as_0 18 rfl rfl)
theorem dX0_as_19 : decode cX0_as 19 = .ok (.iconst 1, 1) := dk_4 (dk_at dksX0_as_0 19 rfl rfl)
theorem dX0_as_20 : decode cX0_as 20 = .ok (.invokevirtual 173, 3) := dk_182 0 173 (dk_at dksX0_as_0 20 rfl rfl)
theorem dX0_as_23 : decode cX0_as 23 = .ok (.ireturn, 1) := dk_172 (dk_at dksX0_as_0 23 rfl rfl)
theorem dX0_as_24 : decode cX0_as 24 = .ok (.aload_n 0, 1) := dk_42 (dk_at dksX0_as_1 0 rfl rfl)
theorem dX0_as_25 : decode cX0_as 25 = .ok (.getfield 73, 3) := dk_180 0 73 (dk_at dksX0_as_1 1 rfl rfl)
theorem dX0_as_28 : decode cX0_as 28 = .ok (.getfield 237, 3) := dk_180 0 237 (dk_at dksX0_as_1 4 rfl rfl)
theorem dX0_as_31 : decode cX0_as 31 = .ok (.iload_n 1, 1) := dk_27 (dk_at dksX0_as_1 7 rfl rfl)
theorem dX0_as_32 : decode cX0_as 32 = .ok (.aaload, 1) := dk_50 (dk_at dksX0_as_1 8 rfl rfl)
theorem dX0_as_33 : decode cX0_as 33 = .ok (.getfield 240, 3) := dk_180 0 240 (dk_at dksX0_as_1 9 rfl rfl)
theorem dX0_as_36 : decode cX0_as 36 = .ok (.iload_n 2, 1) := dk_28 (dk_at dksX0_as_1 12 rfl rfl)
theorem dX0_as_37 : decode cX0_as 37 = .ok (.invokestatic 243, 3) := dk_184 0 243 (dk_at dksX0_as_1 13 rfl rfl)
theorem dX0_as_40 : decode cX0_as 40 = .ok (.ifCond .eq 15, 3) := dk_153 0 15 (dk_at dksX0_as_1 16 rfl rfl)
theorem dX0_as_43 : decode cX0_as 43 = .ok (.aload_n 0, 1) := dk_42 (dk_at dksX0_as_1 19 rfl rfl)
theorem dX0_as_44 : decode cX0_as 44 = .ok (.getfield 73, 3) := dk_180 0 73 (dk_at dksX0_as_1 20 rfl rfl)
theorem dX0_as_47 : decode cX0_as 47 = .ok (.getfield 216, 3) := dk_180 0 216 (dk_at dksX0_as_2 0 rfl rfl)
theorem dX0_as_50 : decode cX0_as 50 = .ok (.iload_n 1, 1) := dk_27 (dk_at dksX0_as_2 3 rfl rfl)
theorem dX0_as_51 : decode cX0_as 51 = .ok (.iaload, 1) := dk_46 (dk_at dksX0_as_2 4 rfl rfl)
theorem dX0_as_52 : decode cX0_as 52 = .ok (.goto 8, 3) := dk_167 0 8 (dk_at dksX0_as_2 5 rfl rfl)
theorem dX0_as_55 : decode cX0_as 55 = .ok (.aload_n 0, 1) := dk_42 (dk_at dksX0_as_2 8 rfl rfl)
theorem dX0_as_56 : decode cX0_as 56 = .ok (.iconst 5, 1) := dk_8 (dk_at dksX0_as_2 9 rfl rfl)
theorem dX0_as_57 : decode cX0_as 57 = .ok (.invokevirtual 173, 3) := dk_182 0 173 (dk_at dksX0_as_2 10 rfl rfl)
theorem dX0_as_60 : decode cX0_as 60 = .ok (.ireturn, 1) := dk_172 (dk_at dksX0_as_2 13 rfl rfl)
abbrev cX0_isOf : ByteArray := prog_1_method_4_code
def yX0_isOf : MethodName := ⟨RX0, "isOf", "(Ljava/lang/Object;I)Z"⟩
def dkwX0_isOf_3 : List UInt8 := [172, 42, 193, 0, 28, 172, 42, 193, 0, 31, 172]
abbrev dktX0_isOf_3 : List UInt8 := dkwX0_isOf_3 ++ []
def dkwX0_isOf_2 : List UInt8 := [42, 193, 0, 10, 172, 42, 193, 0, 16, 172, 42, 193, 0, 19, 172, 42, 193, 0, 22, 172, 42, 193, 0, 25]
abbrev dktX0_isOf_2 : List UInt8 := dkwX0_isOf_2 ++ dktX0_isOf_3
def dkwX0_isOf_1 : List UInt8 := [170, 0, 0, 0, 0, 0, 69, 0, 0, 0, 1, 0, 0, 0, 6, 0, 0, 0, 39, 0, 0, 0, 44, 0, 0, 0, 49, 0, 0, 0, 54, 0, 0, 0, 59, 0, 0, 0, 64]
abbrev dktX0_isOf_1 : List UInt8 := dkwX0_isOf_1 ++ dktX0_isOf_2
def dkwX0_isOf_0 : List UInt8 := [27]
abbrev dktX0_isOf_0 : List UInt8 := dkwX0_isOf_0 ++ dktX0_isOf_1
theorem dksX0_isOf_0 : cX0_isOf.data.toList.drop 0 = dktX0_isOf_0 := by decide +kernel
theorem dksX0_isOf_1 : cX0_isOf.data.toList.drop 1 = dktX0_isOf_1 := dk_seg dksX0_isOf_0 1 rfl rfl
theorem dksX0_isOf_2 : cX0_isOf.data.toList.drop 40 = dktX0_isOf_2 := dk_seg dksX0_isOf_1 39 rfl rfl
theorem dksX0_isOf_3 : cX0_isOf.data.toList.drop 64 = dktX0_isOf_3 := dk_seg dksX0_isOf_2 24 rfl rfl
theorem dX0_isOf_0 : decode cX0_isOf 0 = .ok (.iload_n 1, 1) := dk_27 (dk_at dksX0_isOf_0 0 rfl rfl)
theorem dX0_isOf_1 : decode cX0_isOf 1 = .ok (.tableswitch 69 1 6 #[39, 44, 49, 54, 59, 64], 39) := by decide +kernel
theorem dX0_isOf_40 : decode cX0_isOf 40 = .ok (.aload_n 0, 1) := dk_42 (dk_at dksX0_isOf_2 0 rfl rfl)
theorem dX0_isOf_41 : decode cX0_isOf 41 = .ok (.instanceof 10, 3) := dk_193 0 10 (dk_at dksX0_isOf_2 1 rfl rfl)
theorem dX0_isOf_44 : decode cX0_isOf 44 = .ok (.ireturn, 1) := dk_172 (dk_at dksX0_isOf_2 4 rfl rfl)
theorem dX0_isOf_45 : decode cX0_isOf 45 = .ok (.aload_n 0, 1) := dk_42 (dk_at dksX0_isOf_2 5 rfl rfl)
theorem dX0_isOf_46 : decode cX0_isOf 46 = .ok (.instanceof 16, 3) := dk_193 0 16 (dk_at dksX0_isOf_2 6 rfl rfl)
theorem dX0_isOf_49 : decode cX0_isOf 49 = .ok (.ireturn, 1) := dk_172 (dk_at dksX0_isOf_2 9 rfl rfl)
theorem dX0_isOf_50 : decode cX0_isOf 50 = .ok (.aload_n 0, 1) := dk_42 (dk_at dksX0_isOf_2 10 rfl rfl)
theorem dX0_isOf_51 : decode cX0_isOf 51 = .ok (.instanceof 19, 3) := dk_193 0 19 (dk_at dksX0_isOf_2 11 rfl rfl)
theorem dX0_isOf_54 : decode cX0_isOf 54 = .ok (.ireturn, 1) := dk_172 (dk_at dksX0_isOf_2 14 rfl rfl)
theorem dX0_isOf_55 : decode cX0_isOf 55 = .ok (.aload_n 0, 1) := dk_42 (dk_at dksX0_isOf_2 15 rfl rfl)
theorem dX0_isOf_56 : decode cX0_isOf 56 = .ok (.instanceof 22, 3) := dk_193 0 22 (dk_at dksX0_isOf_2 16 rfl rfl)
theorem dX0_isOf_59 : decode cX0_isOf 59 = .ok (.ireturn, 1) := dk_172 (dk_at dksX0_isOf_2 19 rfl rfl)
theorem dX0_isOf_60 : decode cX0_isOf 60 = .ok (.aload_n 0, 1) := dk_42 (dk_at dksX0_isOf_2 20 rfl rfl)
theorem dX0_isOf_61 : decode cX0_isOf 61 = .ok (.instanceof 25, 3) := dk_193 0 25 (dk_at dksX0_isOf_2 21 rfl rfl)
theorem dX0_isOf_64 : decode cX0_isOf 64 = .ok (.ireturn, 1) := dk_172 (dk_at dksX0_isOf_3 0 rfl rfl)
theorem dX0_isOf_65 : decode cX0_isOf 65 = .ok (.aload_n 0, 1) := dk_42 (dk_at dksX0_isOf_3 1 rfl rfl)
theorem dX0_isOf_66 : decode cX0_isOf 66 = .ok (.instanceof 28, 3) := dk_193 0 28 (dk_at dksX0_isOf_3 2 rfl rfl)
theorem dX0_isOf_69 : decode cX0_isOf 69 = .ok (.ireturn, 1) := dk_172 (dk_at dksX0_isOf_3 5 rfl rfl)
theorem dX0_isOf_70 : decode cX0_isOf 70 = .ok (.aload_n 0, 1) := dk_42 (dk_at dksX0_isOf_3 6 rfl rfl)
theorem dX0_isOf_71 : decode cX0_isOf 71 = .ok (.instanceof 31, 3) := dk_193 0 31 (dk_at dksX0_isOf_3 7 rfl rfl)
theorem dX0_isOf_74 : decode cX0_isOf 74 = .ok (.ireturn, 1) := dk_172 (dk_at dksX0_isOf_3 10 rfl rfl)
abbrev cX0_set : ByteArray := prog_1_method_30_code
def yX0_set : MethodName := ⟨RX0, "set", "(III)I"⟩
def dkwX0_set_7 : List UInt8 := [42, 180, 0, 73, 180, 0, 216, 27, 29, 79, 21, 4, 172]
abbrev dktX0_set_7 : List UInt8 := dkwX0_set_7 ++ []
def dkwX0_set_6 : List UInt8 := [180, 0, 191, 27, 29, 145, 84, 167, 0, 27, 42, 180, 0, 73, 180, 0, 130, 27, 29, 145, 84, 167, 0, 13]
abbrev dktX0_set_6 : List UInt8 := dkwX0_set_6 ++ dktX0_set_7
def dkwX0_set_5 : List UInt8 := [181, 0, 240, 167, 0, 55, 42, 180, 0, 73, 180, 0, 164, 27, 29, 145, 84, 167, 0, 41, 42, 180, 0, 73]
abbrev dktX0_set_5 : List UInt8 := dkwX0_set_5 ++ dktX0_set_6
def dkwX0_set_4 : List UInt8 := [167, 0, 80, 42, 180, 0, 73, 180, 0, 237, 27, 50, 25, 5, 182, 0, 213, 27, 29, 184, 0, 251]
abbrev dktX0_set_4 : List UInt8 := dkwX0_set_4 ++ dktX0_set_5
def dkwX0_set_3 : List UInt8 := [42, 180, 0, 73, 180, 0, 237, 27, 50, 29, 27, 25, 5, 180, 0, 133, 184, 0, 251, 181, 0, 240]
abbrev dktX0_set_3 : List UInt8 := dkwX0_set_3 ++ dktX0_set_4
def dkwX0_set_2 : List UInt8 := [170, 0, 0, 0, 0, 0, 127, 0, 0, 0, 0, 0, 0, 0, 4, 0, 0, 0, 35, 0, 0, 0, 60, 0, 0, 0, 85, 0, 0, 0, 99, 0, 0, 0, 113]
abbrev dktX0_set_2 : List UInt8 := dkwX0_set_2 ++ dktX0_set_3
def dkwX0_set_1 : List UInt8 := [182, 0, 173, 172, 42, 27, 28, 182, 0, 234, 54, 4, 42, 180, 0, 73, 27, 182, 0, 126, 58, 5, 28]
abbrev dktX0_set_1 : List UInt8 := dkwX0_set_1 ++ dktX0_set_2
def dkwX0_set_0 : List UInt8 := [42, 27, 182, 0, 231, 153, 0, 15, 29, 3, 28, 184, 0, 248, 184, 0, 122, 154, 0, 9, 42, 4]
abbrev dktX0_set_0 : List UInt8 := dkwX0_set_0 ++ dktX0_set_1
theorem dksX0_set_0 : cX0_set.data.toList.drop 0 = dktX0_set_0 := by decide +kernel
theorem dksX0_set_1 : cX0_set.data.toList.drop 22 = dktX0_set_1 := dk_seg dksX0_set_0 22 rfl rfl
theorem dksX0_set_2 : cX0_set.data.toList.drop 45 = dktX0_set_2 := dk_seg dksX0_set_1 23 rfl rfl
theorem dksX0_set_3 : cX0_set.data.toList.drop 80 = dktX0_set_3 := dk_seg dksX0_set_2 35 rfl rfl
theorem dksX0_set_4 : cX0_set.data.toList.drop 102 = dktX0_set_4 := dk_seg dksX0_set_3 22 rfl rfl
theorem dksX0_set_5 : cX0_set.data.toList.drop 124 = dktX0_set_5 := dk_seg dksX0_set_4 22 rfl rfl
theorem dksX0_set_6 : cX0_set.data.toList.drop 148 = dktX0_set_6 := dk_seg dksX0_set_5 24 rfl rfl
theorem dksX0_set_7 : cX0_set.data.toList.drop 172 = dktX0_set_7 := dk_seg dksX0_set_6 24 rfl rfl
theorem dX0_set_0 : decode cX0_set 0 = .ok (.aload_n 0, 1) := dk_42 (dk_at dksX0_set_0 0 rfl rfl)
theorem dX0_set_1 : decode cX0_set 1 = .ok (.iload_n 1, 1) := dk_27 (dk_at dksX0_set_0 1 rfl rfl)
theorem dX0_set_2 : decode cX0_set 2 = .ok (.invokevirtual 231, 3) := dk_182 0 231 (dk_at dksX0_set_0 2 rfl rfl)
theorem dX0_set_5 : decode cX0_set 5 = .ok (.ifCond .eq 15, 3) := dk_153 0 15 (dk_at dksX0_set_0 5 rfl rfl)
theorem dX0_set_8 : decode cX0_set 8 = .ok (.iload_n 3, 1) := dk_29 (dk_at dksX0_set_0 8 rfl rfl)
theorem dX0_set_9 : decode cX0_set 9 = .ok (.iconst 0, 1) := dk_3 (dk_at dksX0_set_0 9 rfl rfl)
theorem dX0_set_10 : decode cX0_set 10 = .ok (.iload_n 2, 1) := dk_28 (dk_at dksX0_set_0 10 rfl rfl)
theorem dX0_set_11 : decode cX0_set 11 = .ok (.invokestatic 248, 3) := dk_184 0 248 (dk_at dksX0_set_0 11 rfl rfl)
theorem dX0_set_14 : decode cX0_set 14 = .ok (.invokestatic 122, 3) := dk_184 0 122 (dk_at dksX0_set_0 14 rfl rfl)
theorem dX0_set_17 : decode cX0_set 17 = .ok (.ifCond .ne 9, 3) := dk_154 0 9 (dk_at dksX0_set_0 17 rfl rfl)
theorem dX0_set_20 : decode cX0_set 20 = .ok (.aload_n 0, 1) := dk_42 (dk_at dksX0_set_0 20 rfl rfl)
theorem dX0_set_21 : decode cX0_set 21 = .ok (.iconst 1, 1) := dk_4 (dk_at dksX0_set_0 21 rfl rfl)
theorem dX0_set_22 : decode cX0_set 22 = .ok (.invokevirtual 173, 3) := dk_182 0 173 (dk_at dksX0_set_1 0 rfl rfl)
theorem dX0_set_25 : decode cX0_set 25 = .ok (.ireturn, 1) := dk_172 (dk_at dksX0_set_1 3 rfl rfl)
theorem dX0_set_26 : decode cX0_set 26 = .ok (.aload_n 0, 1) := dk_42 (dk_at dksX0_set_1 4 rfl rfl)
theorem dX0_set_27 : decode cX0_set 27 = .ok (.iload_n 1, 1) := dk_27 (dk_at dksX0_set_1 5 rfl rfl)
theorem dX0_set_28 : decode cX0_set 28 = .ok (.iload_n 2, 1) := dk_28 (dk_at dksX0_set_1 6 rfl rfl)
theorem dX0_set_29 : decode cX0_set 29 = .ok (.invokevirtual 234, 3) := dk_182 0 234 (dk_at dksX0_set_1 7 rfl rfl)
theorem dX0_set_32 : decode cX0_set 32 = .ok (.istore 4, 2) := dk_54 4 (dk_at dksX0_set_1 10 rfl rfl)
theorem dX0_set_34 : decode cX0_set 34 = .ok (.aload_n 0, 1) := dk_42 (dk_at dksX0_set_1 12 rfl rfl)
theorem dX0_set_35 : decode cX0_set 35 = .ok (.getfield 73, 3) := dk_180 0 73 (dk_at dksX0_set_1 13 rfl rfl)
theorem dX0_set_38 : decode cX0_set 38 = .ok (.iload_n 1, 1) := dk_27 (dk_at dksX0_set_1 16 rfl rfl)
theorem dX0_set_39 : decode cX0_set 39 = .ok (.invokevirtual 126, 3) := dk_182 0 126 (dk_at dksX0_set_1 17 rfl rfl)
theorem dX0_set_42 : decode cX0_set 42 = .ok (.astore 5, 2) := dk_58 5 (dk_at dksX0_set_1 20 rfl rfl)
theorem dX0_set_44 : decode cX0_set 44 = .ok (.iload_n 2, 1) := dk_28 (dk_at dksX0_set_1 22 rfl rfl)
theorem dX0_set_45 : decode cX0_set 45 = .ok (.tableswitch 127 0 4 #[35, 60, 85, 99, 113], 35) := by decide +kernel
theorem dX0_set_80 : decode cX0_set 80 = .ok (.aload_n 0, 1) := dk_42 (dk_at dksX0_set_3 0 rfl rfl)
theorem dX0_set_81 : decode cX0_set 81 = .ok (.getfield 73, 3) := dk_180 0 73 (dk_at dksX0_set_3 1 rfl rfl)
theorem dX0_set_84 : decode cX0_set 84 = .ok (.getfield 237, 3) := dk_180 0 237 (dk_at dksX0_set_3 4 rfl rfl)
theorem dX0_set_87 : decode cX0_set 87 = .ok (.iload_n 1, 1) := dk_27 (dk_at dksX0_set_3 7 rfl rfl)
theorem dX0_set_88 : decode cX0_set 88 = .ok (.aaload, 1) := dk_50 (dk_at dksX0_set_3 8 rfl rfl)
theorem dX0_set_89 : decode cX0_set 89 = .ok (.iload_n 3, 1) := dk_29 (dk_at dksX0_set_3 9 rfl rfl)
theorem dX0_set_90 : decode cX0_set 90 = .ok (.iload_n 1, 1) := dk_27 (dk_at dksX0_set_3 10 rfl rfl)
theorem dX0_set_91 : decode cX0_set 91 = .ok (.aload 5, 2) := dk_25 5 (dk_at dksX0_set_3 11 rfl rfl)
theorem dX0_set_93 : decode cX0_set 93 = .ok (.getfield 133, 3) := dk_180 0 133 (dk_at dksX0_set_3 13 rfl rfl)
theorem dX0_set_96 : decode cX0_set 96 = .ok (.invokestatic 251, 3) := dk_184 0 251 (dk_at dksX0_set_3 16 rfl rfl)
theorem dX0_set_99 : decode cX0_set 99 = .ok (.putfield 240, 3) := dk_181 0 240 (dk_at dksX0_set_3 19 rfl rfl)
theorem dX0_set_102 : decode cX0_set 102 = .ok (.goto 80, 3) := dk_167 0 80 (dk_at dksX0_set_4 0 rfl rfl)
theorem dX0_set_105 : decode cX0_set 105 = .ok (.aload_n 0, 1) := dk_42 (dk_at dksX0_set_4 3 rfl rfl)
theorem dX0_set_106 : decode cX0_set 106 = .ok (.getfield 73, 3) := dk_180 0 73 (dk_at dksX0_set_4 4 rfl rfl)
theorem dX0_set_109 : decode cX0_set 109 = .ok (.getfield 237, 3) := dk_180 0 237 (dk_at dksX0_set_4 7 rfl rfl)
theorem dX0_set_112 : decode cX0_set 112 = .ok (.iload_n 1, 1) := dk_27 (dk_at dksX0_set_4 10 rfl rfl)
theorem dX0_set_113 : decode cX0_set 113 = .ok (.aaload, 1) := dk_50 (dk_at dksX0_set_4 11 rfl rfl)
theorem dX0_set_114 : decode cX0_set 114 = .ok (.aload 5, 2) := dk_25 5 (dk_at dksX0_set_4 12 rfl rfl)
theorem dX0_set_116 : decode cX0_set 116 = .ok (.invokevirtual 213, 3) := dk_182 0 213 (dk_at dksX0_set_4 14 rfl rfl)
theorem dX0_set_119 : decode cX0_set 119 = .ok (.iload_n 1, 1) := dk_27 (dk_at dksX0_set_4 17 rfl rfl)
theorem dX0_set_120 : decode cX0_set 120 = .ok (.iload_n 3, 1) := dk_29 (dk_at dksX0_set_4 18 rfl rfl)
theorem dX0_set_121 : decode cX0_set 121 = .ok (.invokestatic 251, 3) := dk_184 0 251 (dk_at dksX0_set_4 19 rfl rfl)
theorem dX0_set_124 : decode cX0_set 124 = .ok (.putfield 240, 3) := dk_181 0 240 (dk_at dksX0_set_5 0 rfl rfl)
theorem dX0_set_127 : decode cX0_set 127 = .ok (.goto 55, 3) := dk_167 0 55 (dk_at dksX0_set_5 3 rfl rfl)
theorem dX0_set_130 : decode cX0_set 130 = .ok (.aload_n 0, 1) := dk_42 (dk_at dksX0_set_5 6 rfl rfl)
theorem dX0_set_131 : decode cX0_set 131 = .ok (.getfield 73, 3) := dk_180 0 73 (dk_at dksX0_set_5 7 rfl rfl)
theorem dX0_set_134 : decode cX0_set 134 = .ok (.getfield 164, 3) := dk_180 0 164 (dk_at dksX0_set_5 10 rfl rfl)
theorem dX0_set_137 : decode cX0_set 137 = .ok (.iload_n 1, 1) := dk_27 (dk_at dksX0_set_5 13 rfl rfl)
theorem dX0_set_138 : decode cX0_set 138 = .ok (.iload_n 3, 1) := dk_29 (dk_at dksX0_set_5 14 rfl rfl)
theorem dX0_set_139 : decode cX0_set 139 = .ok (.i2b, 1) := dk_145 (dk_at dksX0_set_5 15 rfl rfl)
theorem dX0_set_140 : decode cX0_set 140 = .ok (.bastore, 1) := dk_84 (dk_at dksX0_set_5 16 rfl rfl)
theorem dX0_set_141 : decode cX0_set 141 = .ok (.goto 41, 3) := dk_167 0 41 (dk_at dksX0_set_5 17 rfl rfl)
theorem dX0_set_144 : decode cX0_set 144 = .ok (.aload_n 0, 1) := dk_42 (dk_at dksX0_set_5 20 rfl rfl)
theorem dX0_set_145 : decode cX0_set 145 = .ok (.getfield 73, 3) := dk_180 0 73 (dk_at dksX0_set_5 21 rfl rfl)
theorem dX0_set_148 : decode cX0_set 148 = .ok (.getfield 191, 3) := dk_180 0 191 (dk_at dksX0_set_6 0 rfl rfl)
theorem dX0_set_151 : decode cX0_set 151 = .ok (.iload_n 1, 1) := dk_27 (dk_at dksX0_set_6 3 rfl rfl)
theorem dX0_set_152 : decode cX0_set 152 = .ok (.iload_n 3, 1) := dk_29 (dk_at dksX0_set_6 4 rfl rfl)
theorem dX0_set_153 : decode cX0_set 153 = .ok (.i2b, 1) := dk_145 (dk_at dksX0_set_6 5 rfl rfl)
theorem dX0_set_154 : decode cX0_set 154 = .ok (.bastore, 1) := dk_84 (dk_at dksX0_set_6 6 rfl rfl)
theorem dX0_set_155 : decode cX0_set 155 = .ok (.goto 27, 3) := dk_167 0 27 (dk_at dksX0_set_6 7 rfl rfl)
theorem dX0_set_158 : decode cX0_set 158 = .ok (.aload_n 0, 1) := dk_42 (dk_at dksX0_set_6 10 rfl rfl)
theorem dX0_set_159 : decode cX0_set 159 = .ok (.getfield 73, 3) := dk_180 0 73 (dk_at dksX0_set_6 11 rfl rfl)
theorem dX0_set_162 : decode cX0_set 162 = .ok (.getfield 130, 3) := dk_180 0 130 (dk_at dksX0_set_6 14 rfl rfl)
theorem dX0_set_165 : decode cX0_set 165 = .ok (.iload_n 1, 1) := dk_27 (dk_at dksX0_set_6 17 rfl rfl)
theorem dX0_set_166 : decode cX0_set 166 = .ok (.iload_n 3, 1) := dk_29 (dk_at dksX0_set_6 18 rfl rfl)
theorem dX0_set_167 : decode cX0_set 167 = .ok (.i2b, 1) := dk_145 (dk_at dksX0_set_6 19 rfl rfl)
theorem dX0_set_168 : decode cX0_set 168 = .ok (.bastore, 1) := dk_84 (dk_at dksX0_set_6 20 rfl rfl)
theorem dX0_set_169 : decode cX0_set 169 = .ok (.goto 13, 3) := dk_167 0 13 (dk_at dksX0_set_6 21 rfl rfl)
theorem dX0_set_172 : decode cX0_set 172 = .ok (.aload_n 0, 1) := dk_42 (dk_at dksX0_set_7 0 rfl rfl)
theorem dX0_set_173 : decode cX0_set 173 = .ok (.getfield 73, 3) := dk_180 0 73 (dk_at dksX0_set_7 1 rfl rfl)
theorem dX0_set_176 : decode cX0_set 176 = .ok (.getfield 216, 3) := dk_180 0 216 (dk_at dksX0_set_7 4 rfl rfl)
theorem dX0_set_179 : decode cX0_set 179 = .ok (.iload_n 1, 1) := dk_27 (dk_at dksX0_set_7 7 rfl rfl)
theorem dX0_set_180 : decode cX0_set 180 = .ok (.iload_n 3, 1) := dk_29 (dk_at dksX0_set_7 8 rfl rfl)
theorem dX0_set_181 : decode cX0_set 181 = .ok (.iastore, 1) := dk_79 (dk_at dksX0_set_7 9 rfl rfl)
theorem dX0_set_182 : decode cX0_set 182 = .ok (.iload 4, 2) := dk_21 4 (dk_at dksX0_set_7 10 rfl rfl)
theorem dX0_set_184 : decode cX0_set 184 = .ok (.ireturn, 1) := dk_172 (dk_at dksX0_set_7 12 rfl rfl)
abbrev cX0_mostOf : ByteArray := prog_1_method_29_code
def yX0_mostOf : MethodName := ⟨RX0, "mostOf", "(I)I"⟩
def dkwX0_mostOf_2 : List UInt8 := [16, 6, 172, 16, 9, 172, 16, 11, 172, 7, 172, 4, 172, 18, 247, 172, 2, 172]
abbrev dktX0_mostOf_2 : List UInt8 := dkwX0_mostOf_2 ++ []
def dkwX0_mostOf_1 : List UInt8 := [170, 0, 0, 0, 0, 0, 55, 0, 0, 0, 0, 0, 0, 0, 5, 0, 0, 0, 39, 0, 0, 0, 42, 0, 0, 0, 45, 0, 0, 0, 48, 0, 0, 0, 50, 0, 0, 0, 52]
abbrev dktX0_mostOf_1 : List UInt8 := dkwX0_mostOf_1 ++ dktX0_mostOf_2
def dkwX0_mostOf_0 : List UInt8 := [26]
abbrev dktX0_mostOf_0 : List UInt8 := dkwX0_mostOf_0 ++ dktX0_mostOf_1
theorem dksX0_mostOf_0 : cX0_mostOf.data.toList.drop 0 = dktX0_mostOf_0 := by decide +kernel
theorem dksX0_mostOf_1 : cX0_mostOf.data.toList.drop 1 = dktX0_mostOf_1 := dk_seg dksX0_mostOf_0 1 rfl rfl
theorem dksX0_mostOf_2 : cX0_mostOf.data.toList.drop 40 = dktX0_mostOf_2 := dk_seg dksX0_mostOf_1 39 rfl rfl
theorem dX0_mostOf_0 : decode cX0_mostOf 0 = .ok (.iload_n 0, 1) := dk_26 (dk_at dksX0_mostOf_0 0 rfl rfl)
theorem dX0_mostOf_1 : decode cX0_mostOf 1 = .ok (.tableswitch 55 0 5 #[39, 42, 45, 48, 50, 52], 39) := by decide +kernel
theorem dX0_mostOf_40 : decode cX0_mostOf 40 = .ok (.bipush 6, 2) := dk_16 6 (dk_at dksX0_mostOf_2 0 rfl rfl)
theorem dX0_mostOf_42 : decode cX0_mostOf 42 = .ok (.ireturn, 1) := dk_172 (dk_at dksX0_mostOf_2 2 rfl rfl)
theorem dX0_mostOf_43 : decode cX0_mostOf 43 = .ok (.bipush 9, 2) := dk_16 9 (dk_at dksX0_mostOf_2 3 rfl rfl)
theorem dX0_mostOf_45 : decode cX0_mostOf 45 = .ok (.ireturn, 1) := dk_172 (dk_at dksX0_mostOf_2 5 rfl rfl)
theorem dX0_mostOf_46 : decode cX0_mostOf 46 = .ok (.bipush 11, 2) := dk_16 11 (dk_at dksX0_mostOf_2 6 rfl rfl)
theorem dX0_mostOf_48 : decode cX0_mostOf 48 = .ok (.ireturn, 1) := dk_172 (dk_at dksX0_mostOf_2 8 rfl rfl)
theorem dX0_mostOf_49 : decode cX0_mostOf 49 = .ok (.iconst 4, 1) := dk_7 (dk_at dksX0_mostOf_2 9 rfl rfl)
theorem dX0_mostOf_50 : decode cX0_mostOf 50 = .ok (.ireturn, 1) := dk_172 (dk_at dksX0_mostOf_2 10 rfl rfl)
theorem dX0_mostOf_51 : decode cX0_mostOf 51 = .ok (.iconst 1, 1) := dk_4 (dk_at dksX0_mostOf_2 11 rfl rfl)
theorem dX0_mostOf_52 : decode cX0_mostOf 52 = .ok (.ireturn, 1) := dk_172 (dk_at dksX0_mostOf_2 12 rfl rfl)
theorem dX0_mostOf_53 : decode cX0_mostOf 53 = .ok (.ldc 247, 2) := dk_18 247 (dk_at dksX0_mostOf_2 13 rfl rfl)
theorem dX0_mostOf_55 : decode cX0_mostOf 55 = .ok (.ireturn, 1) := dk_172 (dk_at dksX0_mostOf_2 15 rfl rfl)
theorem dX0_mostOf_56 : decode cX0_mostOf 56 = .ok (.iconst (-1), 1) := dk_2 (dk_at dksX0_mostOf_2 16 rfl rfl)
theorem dX0_mostOf_57 : decode cX0_mostOf 57 = .ok (.ireturn, 1) := dk_172 (dk_at dksX0_mostOf_2 17 rfl rfl)
abbrev cX0_flows : ByteArray := prog_1_method_31_code
def yX0_flows : MethodName := ⟨RX0, "flows", "(I)I"⟩
def dkwX0_flows_0 : List UInt8 := [27, 184, 0, 180, 154, 0, 9, 42, 4, 182, 0, 173, 172, 42, 182, 0, 222, 42, 180, 0, 112, 27, 46, 172]
abbrev dktX0_flows_0 : List UInt8 := dkwX0_flows_0 ++ []
theorem dksX0_flows_0 : cX0_flows.data.toList.drop 0 = dktX0_flows_0 := by decide +kernel
theorem dX0_flows_0 : decode cX0_flows 0 = .ok (.iload_n 1, 1) := dk_27 (dk_at dksX0_flows_0 0 rfl rfl)
theorem dX0_flows_1 : decode cX0_flows 1 = .ok (.invokestatic 180, 3) := dk_184 0 180 (dk_at dksX0_flows_0 1 rfl rfl)
theorem dX0_flows_4 : decode cX0_flows 4 = .ok (.ifCond .ne 9, 3) := dk_154 0 9 (dk_at dksX0_flows_0 4 rfl rfl)
theorem dX0_flows_7 : decode cX0_flows 7 = .ok (.aload_n 0, 1) := dk_42 (dk_at dksX0_flows_0 7 rfl rfl)
theorem dX0_flows_8 : decode cX0_flows 8 = .ok (.iconst 1, 1) := dk_4 (dk_at dksX0_flows_0 8 rfl rfl)
theorem dX0_flows_9 : decode cX0_flows 9 = .ok (.invokevirtual 173, 3) := dk_182 0 173 (dk_at dksX0_flows_0 9 rfl rfl)
theorem dX0_flows_12 : decode cX0_flows 12 = .ok (.ireturn, 1) := dk_172 (dk_at dksX0_flows_0 12 rfl rfl)
theorem dX0_flows_13 : decode cX0_flows 13 = .ok (.aload_n 0, 1) := dk_42 (dk_at dksX0_flows_0 13 rfl rfl)
theorem dX0_flows_14 : decode cX0_flows 14 = .ok (.invokevirtual 222, 3) := dk_182 0 222 (dk_at dksX0_flows_0 14 rfl rfl)
theorem dX0_flows_17 : decode cX0_flows 17 = .ok (.aload_n 0, 1) := dk_42 (dk_at dksX0_flows_0 17 rfl rfl)
theorem dX0_flows_18 : decode cX0_flows 18 = .ok (.getfield 112, 3) := dk_180 0 112 (dk_at dksX0_flows_0 18 rfl rfl)
theorem dX0_flows_21 : decode cX0_flows 21 = .ok (.iload_n 1, 1) := dk_27 (dk_at dksX0_flows_0 21 rfl rfl)
theorem dX0_flows_22 : decode cX0_flows 22 = .ok (.iaload, 1) := dk_46 (dk_at dksX0_flows_0 22 rfl rfl)
theorem dX0_flows_23 : decode cX0_flows 23 = .ok (.ireturn, 1) := dk_172 (dk_at dksX0_flows_0 23 rfl rfl)
abbrev cX0_feed : ByteArray := prog_1_method_32_code
def yX0_feed : MethodName := ⟨RX0, "feed", "(JI)I"⟩
def dkwX0_feed_4 : List UInt8 := [180, 0, 255, 172]
abbrev dktX0_feed_4 : List UInt8 := dkwX0_feed_4 ++ []
def dkwX0_feed_3 : List UInt8 := [180, 0, 73, 89, 180, 0, 255, 4, 96, 181, 0, 255, 132, 4, 1, 167, 255, 210, 42, 180, 0, 73]
abbrev dktX0_feed_3 : List UInt8 := dkwX0_feed_3 ++ dktX0_feed_4
def dkwX0_feed_2 : List UInt8 := [180, 0, 73, 180, 1, 2, 42, 180, 0, 73, 180, 0, 255, 31, 16, 8, 21, 4, 104, 123, 136, 145, 84, 42]
abbrev dktX0_feed_2 : List UInt8 := dkwX0_feed_2 ++ dktX0_feed_3
def dkwX0_feed_1 : List UInt8 := [96, 16, 60, 164, 0, 9, 42, 7, 182, 0, 173, 172, 3, 54, 4, 21, 4, 29, 162, 0, 46, 42]
abbrev dktX0_feed_1 : List UInt8 := dkwX0_feed_1 ++ dktX0_feed_2
def dkwX0_feed_0 : List UInt8 := [29, 4, 16, 8, 184, 0, 122, 154, 0, 9, 42, 4, 182, 0, 173, 172, 42, 180, 0, 73, 180, 0, 255, 29]
abbrev dktX0_feed_0 : List UInt8 := dkwX0_feed_0 ++ dktX0_feed_1
theorem dksX0_feed_0 : cX0_feed.data.toList.drop 0 = dktX0_feed_0 := by decide +kernel
theorem dksX0_feed_1 : cX0_feed.data.toList.drop 24 = dktX0_feed_1 := dk_seg dksX0_feed_0 24 rfl rfl
theorem dksX0_feed_2 : cX0_feed.data.toList.drop 46 = dktX0_feed_2 := dk_seg dksX0_feed_1 22 rfl rfl
theorem dksX0_feed_3 : cX0_feed.data.toList.drop 70 = dktX0_feed_3 := dk_seg dksX0_feed_2 24 rfl rfl
theorem dksX0_feed_4 : cX0_feed.data.toList.drop 92 = dktX0_feed_4 := dk_seg dksX0_feed_3 22 rfl rfl
theorem dX0_feed_0 : decode cX0_feed 0 = .ok (.iload_n 3, 1) := dk_29 (dk_at dksX0_feed_0 0 rfl rfl)
theorem dX0_feed_1 : decode cX0_feed 1 = .ok (.iconst 1, 1) := dk_4 (dk_at dksX0_feed_0 1 rfl rfl)
theorem dX0_feed_2 : decode cX0_feed 2 = .ok (.bipush 8, 2) := dk_16 8 (dk_at dksX0_feed_0 2 rfl rfl)
theorem dX0_feed_4 : decode cX0_feed 4 = .ok (.invokestatic 122, 3) := dk_184 0 122 (dk_at dksX0_feed_0 4 rfl rfl)
theorem dX0_feed_7 : decode cX0_feed 7 = .ok (.ifCond .ne 9, 3) := dk_154 0 9 (dk_at dksX0_feed_0 7 rfl rfl)
theorem dX0_feed_10 : decode cX0_feed 10 = .ok (.aload_n 0, 1) := dk_42 (dk_at dksX0_feed_0 10 rfl rfl)
theorem dX0_feed_11 : decode cX0_feed 11 = .ok (.iconst 1, 1) := dk_4 (dk_at dksX0_feed_0 11 rfl rfl)
theorem dX0_feed_12 : decode cX0_feed 12 = .ok (.invokevirtual 173, 3) := dk_182 0 173 (dk_at dksX0_feed_0 12 rfl rfl)
theorem dX0_feed_15 : decode cX0_feed 15 = .ok (.ireturn, 1) := dk_172 (dk_at dksX0_feed_0 15 rfl rfl)
theorem dX0_feed_16 : decode cX0_feed 16 = .ok (.aload_n 0, 1) := dk_42 (dk_at dksX0_feed_0 16 rfl rfl)
theorem dX0_feed_17 : decode cX0_feed 17 = .ok (.getfield 73, 3) := dk_180 0 73 (dk_at dksX0_feed_0 17 rfl rfl)
theorem dX0_feed_20 : decode cX0_feed 20 = .ok (.getfield 255, 3) := dk_180 0 255 (dk_at dksX0_feed_0 20 rfl rfl)
theorem dX0_feed_23 : decode cX0_feed 23 = .ok (.iload_n 3, 1) := dk_29 (dk_at dksX0_feed_0 23 rfl rfl)
theorem dX0_feed_24 : decode cX0_feed 24 = .ok (.iadd, 1) := dk_96 (dk_at dksX0_feed_1 0 rfl rfl)
theorem dX0_feed_25 : decode cX0_feed 25 = .ok (.bipush 60, 2) := dk_16 60 (dk_at dksX0_feed_1 1 rfl rfl)
theorem dX0_feed_27 : decode cX0_feed 27 = .ok (.if_icmp .le 9, 3) := dk_164 0 9 (dk_at dksX0_feed_1 3 rfl rfl)
theorem dX0_feed_30 : decode cX0_feed 30 = .ok (.aload_n 0, 1) := dk_42 (dk_at dksX0_feed_1 6 rfl rfl)
theorem dX0_feed_31 : decode cX0_feed 31 = .ok (.iconst 4, 1) := dk_7 (dk_at dksX0_feed_1 7 rfl rfl)
theorem dX0_feed_32 : decode cX0_feed 32 = .ok (.invokevirtual 173, 3) := dk_182 0 173 (dk_at dksX0_feed_1 8 rfl rfl)
theorem dX0_feed_35 : decode cX0_feed 35 = .ok (.ireturn, 1) := dk_172 (dk_at dksX0_feed_1 11 rfl rfl)
theorem dX0_feed_36 : decode cX0_feed 36 = .ok (.iconst 0, 1) := dk_3 (dk_at dksX0_feed_1 12 rfl rfl)
theorem dX0_feed_37 : decode cX0_feed 37 = .ok (.istore 4, 2) := dk_54 4 (dk_at dksX0_feed_1 13 rfl rfl)
theorem dX0_feed_39 : decode cX0_feed 39 = .ok (.iload 4, 2) := dk_21 4 (dk_at dksX0_feed_1 15 rfl rfl)
theorem dX0_feed_41 : decode cX0_feed 41 = .ok (.iload_n 3, 1) := dk_29 (dk_at dksX0_feed_1 17 rfl rfl)
theorem dX0_feed_42 : decode cX0_feed 42 = .ok (.if_icmp .ge 46, 3) := dk_162 0 46 (dk_at dksX0_feed_1 18 rfl rfl)
theorem dX0_feed_45 : decode cX0_feed 45 = .ok (.aload_n 0, 1) := dk_42 (dk_at dksX0_feed_1 21 rfl rfl)
theorem dX0_feed_46 : decode cX0_feed 46 = .ok (.getfield 73, 3) := dk_180 0 73 (dk_at dksX0_feed_2 0 rfl rfl)
theorem dX0_feed_49 : decode cX0_feed 49 = .ok (.getfield 258, 3) := dk_180 1 2 (dk_at dksX0_feed_2 3 rfl rfl)
theorem dX0_feed_52 : decode cX0_feed 52 = .ok (.aload_n 0, 1) := dk_42 (dk_at dksX0_feed_2 6 rfl rfl)
theorem dX0_feed_53 : decode cX0_feed 53 = .ok (.getfield 73, 3) := dk_180 0 73 (dk_at dksX0_feed_2 7 rfl rfl)
theorem dX0_feed_56 : decode cX0_feed 56 = .ok (.getfield 255, 3) := dk_180 0 255 (dk_at dksX0_feed_2 10 rfl rfl)
theorem dX0_feed_59 : decode cX0_feed 59 = .ok (.lload_n 1, 1) := dk_31 (dk_at dksX0_feed_2 13 rfl rfl)
theorem dX0_feed_60 : decode cX0_feed 60 = .ok (.bipush 8, 2) := dk_16 8 (dk_at dksX0_feed_2 14 rfl rfl)
theorem dX0_feed_62 : decode cX0_feed 62 = .ok (.iload 4, 2) := dk_21 4 (dk_at dksX0_feed_2 16 rfl rfl)
theorem dX0_feed_64 : decode cX0_feed 64 = .ok (.imul, 1) := dk_104 (dk_at dksX0_feed_2 18 rfl rfl)
theorem dX0_feed_65 : decode cX0_feed 65 = .ok (.lshr, 1) := dk_123 (dk_at dksX0_feed_2 19 rfl rfl)
theorem dX0_feed_66 : decode cX0_feed 66 = .ok (.l2i, 1) := dk_136 (dk_at dksX0_feed_2 20 rfl rfl)
theorem dX0_feed_67 : decode cX0_feed 67 = .ok (.i2b, 1) := dk_145 (dk_at dksX0_feed_2 21 rfl rfl)
theorem dX0_feed_68 : decode cX0_feed 68 = .ok (.bastore, 1) := dk_84 (dk_at dksX0_feed_2 22 rfl rfl)
theorem dX0_feed_69 : decode cX0_feed 69 = .ok (.aload_n 0, 1) := dk_42 (dk_at dksX0_feed_2 23 rfl rfl)
theorem dX0_feed_70 : decode cX0_feed 70 = .ok (.getfield 73, 3) := dk_180 0 73 (dk_at dksX0_feed_3 0 rfl rfl)
theorem dX0_feed_73 : decode cX0_feed 73 = .ok (.dup, 1) := dk_89 (dk_at dksX0_feed_3 3 rfl rfl)
theorem dX0_feed_74 : decode cX0_feed 74 = .ok (.getfield 255, 3) := dk_180 0 255 (dk_at dksX0_feed_3 4 rfl rfl)
theorem dX0_feed_77 : decode cX0_feed 77 = .ok (.iconst 1, 1) := dk_4 (dk_at dksX0_feed_3 7 rfl rfl)
theorem dX0_feed_78 : decode cX0_feed 78 = .ok (.iadd, 1) := dk_96 (dk_at dksX0_feed_3 8 rfl rfl)
theorem dX0_feed_79 : decode cX0_feed 79 = .ok (.putfield 255, 3) := dk_181 0 255 (dk_at dksX0_feed_3 9 rfl rfl)
theorem dX0_feed_82 : decode cX0_feed 82 = .ok (.iinc 4 1, 3) := dk_132 4 1 (dk_at dksX0_feed_3 12 rfl rfl)
theorem dX0_feed_85 : decode cX0_feed 85 = .ok (.goto (-46), 3) := dk_167 255 210 (dk_at dksX0_feed_3 15 rfl rfl)
theorem dX0_feed_88 : decode cX0_feed 88 = .ok (.aload_n 0, 1) := dk_42 (dk_at dksX0_feed_3 18 rfl rfl)
theorem dX0_feed_89 : decode cX0_feed 89 = .ok (.getfield 73, 3) := dk_180 0 73 (dk_at dksX0_feed_3 19 rfl rfl)
theorem dX0_feed_92 : decode cX0_feed 92 = .ok (.getfield 255, 3) := dk_180 0 255 (dk_at dksX0_feed_4 0 rfl rfl)
theorem dX0_feed_95 : decode cX0_feed 95 = .ok (.ireturn, 1) := dk_172 (dk_at dksX0_feed_4 3 rfl rfl)
abbrev cX0_text : ByteArray := prog_1_method_34_code
def yX0_text : MethodName := ⟨RX0, "text", "(I)I"⟩
def dkwX0_text_4 : List UInt8 := [25, 5, 191]
abbrev dktX0_text_4 : List UInt8 := dkwX0_text_4 ++ []
def dkwX0_text_3 : List UInt8 := [54, 4, 42, 180, 0, 73, 3, 181, 0, 255, 21, 4, 172, 58, 5, 42, 180, 0, 73, 3, 181, 0, 255]
abbrev dktX0_text_3 : List UInt8 := dkwX0_text_3 ++ dktX0_text_4
def dkwX0_text_2 : List UInt8 := [182, 1, 21, 83, 4, 62, 42, 180, 0, 73, 3, 181, 0, 255, 29, 172, 78, 16, 246, 45, 180, 1, 27, 100]
abbrev dktX0_text_2 : List UInt8 := dkwX0_text_2 ++ dktX0_text_3
def dkwX0_text_1 : List UInt8 := [42, 180, 0, 73, 180, 0, 255, 27, 184, 1, 10, 183, 1, 14, 77, 42, 180, 0, 73, 180, 1, 17, 27, 44]
abbrev dktX0_text_1 : List UInt8 := dkwX0_text_1 ++ dktX0_text_2
def dkwX0_text_0 : List UInt8 := [27, 184, 1, 5, 154, 0, 9, 42, 4, 182, 0, 173, 172, 187, 1, 8, 89, 42, 180, 0, 73, 180, 1, 2]
abbrev dktX0_text_0 : List UInt8 := dkwX0_text_0 ++ dktX0_text_1
theorem dksX0_text_0 : cX0_text.data.toList.drop 0 = dktX0_text_0 := by decide +kernel
theorem dksX0_text_1 : cX0_text.data.toList.drop 24 = dktX0_text_1 := dk_seg dksX0_text_0 24 rfl rfl
theorem dksX0_text_2 : cX0_text.data.toList.drop 48 = dktX0_text_2 := dk_seg dksX0_text_1 24 rfl rfl
theorem dksX0_text_3 : cX0_text.data.toList.drop 72 = dktX0_text_3 := dk_seg dksX0_text_2 24 rfl rfl
theorem dksX0_text_4 : cX0_text.data.toList.drop 95 = dktX0_text_4 := dk_seg dksX0_text_3 23 rfl rfl
theorem dX0_text_0 : decode cX0_text 0 = .ok (.iload_n 1, 1) := dk_27 (dk_at dksX0_text_0 0 rfl rfl)
theorem dX0_text_1 : decode cX0_text 1 = .ok (.invokestatic 261, 3) := dk_184 1 5 (dk_at dksX0_text_0 1 rfl rfl)
theorem dX0_text_4 : decode cX0_text 4 = .ok (.ifCond .ne 9, 3) := dk_154 0 9 (dk_at dksX0_text_0 4 rfl rfl)
theorem dX0_text_7 : decode cX0_text 7 = .ok (.aload_n 0, 1) := dk_42 (dk_at dksX0_text_0 7 rfl rfl)
theorem dX0_text_8 : decode cX0_text 8 = .ok (.iconst 1, 1) := dk_4 (dk_at dksX0_text_0 8 rfl rfl)
theorem dX0_text_9 : decode cX0_text 9 = .ok (.invokevirtual 173, 3) := dk_182 0 173 (dk_at dksX0_text_0 9 rfl rfl)
theorem dX0_text_12 : decode cX0_text 12 = .ok (.ireturn, 1) := dk_172 (dk_at dksX0_text_0 12 rfl rfl)
theorem dX0_text_13 : decode cX0_text 13 = .ok (.new 264, 3) := dk_187 1 8 (dk_at dksX0_text_0 13 rfl rfl)
theorem dX0_text_16 : decode cX0_text 16 = .ok (.dup, 1) := dk_89 (dk_at dksX0_text_0 16 rfl rfl)
theorem dX0_text_17 : decode cX0_text 17 = .ok (.aload_n 0, 1) := dk_42 (dk_at dksX0_text_0 17 rfl rfl)
theorem dX0_text_18 : decode cX0_text 18 = .ok (.getfield 73, 3) := dk_180 0 73 (dk_at dksX0_text_0 18 rfl rfl)
theorem dX0_text_21 : decode cX0_text 21 = .ok (.getfield 258, 3) := dk_180 1 2 (dk_at dksX0_text_0 21 rfl rfl)
theorem dX0_text_24 : decode cX0_text 24 = .ok (.aload_n 0, 1) := dk_42 (dk_at dksX0_text_1 0 rfl rfl)
theorem dX0_text_25 : decode cX0_text 25 = .ok (.getfield 73, 3) := dk_180 0 73 (dk_at dksX0_text_1 1 rfl rfl)
theorem dX0_text_28 : decode cX0_text 28 = .ok (.getfield 255, 3) := dk_180 0 255 (dk_at dksX0_text_1 4 rfl rfl)
theorem dX0_text_31 : decode cX0_text 31 = .ok (.iload_n 1, 1) := dk_27 (dk_at dksX0_text_1 7 rfl rfl)
theorem dX0_text_32 : decode cX0_text 32 = .ok (.invokestatic 266, 3) := dk_184 1 10 (dk_at dksX0_text_1 8 rfl rfl)
theorem dX0_text_35 : decode cX0_text 35 = .ok (.invokespecial 270, 3) := dk_183 1 14 (dk_at dksX0_text_1 11 rfl rfl)
theorem dX0_text_38 : decode cX0_text 38 = .ok (.astore_n 2, 1) := dk_77 (dk_at dksX0_text_1 14 rfl rfl)
theorem dX0_text_39 : decode cX0_text 39 = .ok (.aload_n 0, 1) := dk_42 (dk_at dksX0_text_1 15 rfl rfl)
theorem dX0_text_40 : decode cX0_text 40 = .ok (.getfield 73, 3) := dk_180 0 73 (dk_at dksX0_text_1 16 rfl rfl)
theorem dX0_text_43 : decode cX0_text 43 = .ok (.getfield 273, 3) := dk_180 1 17 (dk_at dksX0_text_1 19 rfl rfl)
theorem dX0_text_46 : decode cX0_text 46 = .ok (.iload_n 1, 1) := dk_27 (dk_at dksX0_text_1 22 rfl rfl)
theorem dX0_text_47 : decode cX0_text 47 = .ok (.aload_n 2, 1) := dk_44 (dk_at dksX0_text_1 23 rfl rfl)
theorem dX0_text_48 : decode cX0_text 48 = .ok (.invokevirtual 277, 3) := dk_182 1 21 (dk_at dksX0_text_2 0 rfl rfl)
theorem dX0_text_51 : decode cX0_text 51 = .ok (.aastore, 1) := dk_83 (dk_at dksX0_text_2 3 rfl rfl)
theorem dX0_text_52 : decode cX0_text 52 = .ok (.iconst 1, 1) := dk_4 (dk_at dksX0_text_2 4 rfl rfl)
theorem dX0_text_53 : decode cX0_text 53 = .ok (.istore_n 3, 1) := dk_62 (dk_at dksX0_text_2 5 rfl rfl)
theorem dX0_text_54 : decode cX0_text 54 = .ok (.aload_n 0, 1) := dk_42 (dk_at dksX0_text_2 6 rfl rfl)
theorem dX0_text_55 : decode cX0_text 55 = .ok (.getfield 73, 3) := dk_180 0 73 (dk_at dksX0_text_2 7 rfl rfl)
theorem dX0_text_58 : decode cX0_text 58 = .ok (.iconst 0, 1) := dk_3 (dk_at dksX0_text_2 10 rfl rfl)
theorem dX0_text_59 : decode cX0_text 59 = .ok (.putfield 255, 3) := dk_181 0 255 (dk_at dksX0_text_2 11 rfl rfl)
theorem dX0_text_62 : decode cX0_text 62 = .ok (.iload_n 3, 1) := dk_29 (dk_at dksX0_text_2 14 rfl rfl)
theorem dX0_text_63 : decode cX0_text 63 = .ok (.ireturn, 1) := dk_172 (dk_at dksX0_text_2 15 rfl rfl)
theorem dX0_text_64 : decode cX0_text 64 = .ok (.astore_n 3, 1) := dk_78 (dk_at dksX0_text_2 16 rfl rfl)
theorem dX0_text_65 : decode cX0_text 65 = .ok (.bipush (-10), 2) := dk_16 246 (dk_at dksX0_text_2 17 rfl rfl)
theorem dX0_text_67 : decode cX0_text 67 = .ok (.aload_n 3, 1) := dk_45 (dk_at dksX0_text_2 19 rfl rfl)
theorem dX0_text_68 : decode cX0_text 68 = .ok (.getfield 283, 3) := dk_180 1 27 (dk_at dksX0_text_2 20 rfl rfl)
theorem dX0_text_71 : decode cX0_text 71 = .ok (.isub, 1) := dk_100 (dk_at dksX0_text_2 23 rfl rfl)
theorem dX0_text_72 : decode cX0_text 72 = .ok (.istore 4, 2) := dk_54 4 (dk_at dksX0_text_3 0 rfl rfl)
theorem dX0_text_74 : decode cX0_text 74 = .ok (.aload_n 0, 1) := dk_42 (dk_at dksX0_text_3 2 rfl rfl)
theorem dX0_text_75 : decode cX0_text 75 = .ok (.getfield 73, 3) := dk_180 0 73 (dk_at dksX0_text_3 3 rfl rfl)
theorem dX0_text_78 : decode cX0_text 78 = .ok (.iconst 0, 1) := dk_3 (dk_at dksX0_text_3 6 rfl rfl)
theorem dX0_text_79 : decode cX0_text 79 = .ok (.putfield 255, 3) := dk_181 0 255 (dk_at dksX0_text_3 7 rfl rfl)
theorem dX0_text_82 : decode cX0_text 82 = .ok (.iload 4, 2) := dk_21 4 (dk_at dksX0_text_3 10 rfl rfl)
theorem dX0_text_84 : decode cX0_text 84 = .ok (.ireturn, 1) := dk_172 (dk_at dksX0_text_3 12 rfl rfl)
theorem dX0_text_85 : decode cX0_text 85 = .ok (.astore 5, 2) := dk_58 5 (dk_at dksX0_text_3 13 rfl rfl)
theorem dX0_text_87 : decode cX0_text 87 = .ok (.aload_n 0, 1) := dk_42 (dk_at dksX0_text_3 15 rfl rfl)
theorem dX0_text_88 : decode cX0_text 88 = .ok (.getfield 73, 3) := dk_180 0 73 (dk_at dksX0_text_3 16 rfl rfl)
theorem dX0_text_91 : decode cX0_text 91 = .ok (.iconst 0, 1) := dk_3 (dk_at dksX0_text_3 19 rfl rfl)
theorem dX0_text_92 : decode cX0_text 92 = .ok (.putfield 255, 3) := dk_181 0 255 (dk_at dksX0_text_3 20 rfl rfl)
theorem dX0_text_95 : decode cX0_text 95 = .ok (.aload 5, 2) := dk_25 5 (dk_at dksX0_text_4 0 rfl rfl)
theorem dX0_text_97 : decode cX0_text 97 = .ok (.athrow, 1) := dk_191 (dk_at dksX0_text_4 2 rfl rfl)
abbrev cX0_isUse : ByteArray := prog_1_method_33_code
def yX0_isUse : MethodName := ⟨RX0, "isUse", "(I)Z"⟩
def dkwX0_isUse_0 : List UInt8 := [26, 3, 4, 184, 0, 122, 172]
abbrev dktX0_isUse_0 : List UInt8 := dkwX0_isUse_0 ++ []
theorem dksX0_isUse_0 : cX0_isUse.data.toList.drop 0 = dktX0_isUse_0 := by decide +kernel
theorem dX0_isUse_0 : decode cX0_isUse 0 = .ok (.iload_n 0, 1) := dk_26 (dk_at dksX0_isUse_0 0 rfl rfl)
theorem dX0_isUse_1 : decode cX0_isUse 1 = .ok (.iconst 0, 1) := dk_3 (dk_at dksX0_isUse_0 1 rfl rfl)
theorem dX0_isUse_2 : decode cX0_isUse 2 = .ok (.iconst 1, 1) := dk_4 (dk_at dksX0_isUse_0 2 rfl rfl)
theorem dX0_isUse_3 : decode cX0_isUse 3 = .ok (.invokestatic 122, 3) := dk_184 0 122 (dk_at dksX0_isUse_0 3 rfl rfl)
theorem dX0_isUse_6 : decode cX0_isUse 6 = .ok (.ireturn, 1) := dk_172 (dk_at dksX0_isUse_0 6 rfl rfl)
abbrev cX0_namesOf : ByteArray := prog_1_method_5_code
def yX0_namesOf : MethodName := ⟨RX0, "namesOf", "(I)Ljava/lang/String;"⟩
def dkwX0_namesOf_0 : List UInt8 := [26, 154, 0, 8, 18, 34, 167, 0, 5, 18, 36, 176]
abbrev dktX0_namesOf_0 : List UInt8 := dkwX0_namesOf_0 ++ []
theorem dksX0_namesOf_0 : cX0_namesOf.data.toList.drop 0 = dktX0_namesOf_0 := by decide +kernel
theorem dX0_namesOf_0 : decode cX0_namesOf 0 = .ok (.iload_n 0, 1) := dk_26 (dk_at dksX0_namesOf_0 0 rfl rfl)
theorem dX0_namesOf_1 : decode cX0_namesOf 1 = .ok (.ifCond .ne 8, 3) := dk_154 0 8 (dk_at dksX0_namesOf_0 1 rfl rfl)
theorem dX0_namesOf_4 : decode cX0_namesOf 4 = .ok (.ldc 34, 2) := dk_18 34 (dk_at dksX0_namesOf_0 4 rfl rfl)
theorem dX0_namesOf_6 : decode cX0_namesOf 6 = .ok (.goto 5, 3) := dk_167 0 5 (dk_at dksX0_namesOf_0 6 rfl rfl)
theorem dX0_namesOf_9 : decode cX0_namesOf 9 = .ok (.ldc 36, 2) := dk_18 36 (dk_at dksX0_namesOf_0 9 rfl rfl)
theorem dX0_namesOf_11 : decode cX0_namesOf 11 = .ok (.areturn, 1) := dk_176 (dk_at dksX0_namesOf_0 11 rfl rfl)
abbrev cX0_untell : ByteArray := prog_1_method_35_code
def yX0_untell : MethodName := ⟨RX0, "untell", "(I)I"⟩
def dkwX0_untell_1 : List UInt8 := [199, 0, 7, 3, 167, 0, 4, 4, 61, 42, 180, 0, 73, 180, 1, 17, 27, 1, 83, 28, 172]
abbrev dktX0_untell_1 : List UInt8 := dkwX0_untell_1 ++ []
def dkwX0_untell_0 : List UInt8 := [27, 184, 1, 5, 154, 0, 9, 42, 4, 182, 0, 173, 172, 42, 180, 0, 73, 180, 1, 17, 27, 50]
abbrev dktX0_untell_0 : List UInt8 := dkwX0_untell_0 ++ dktX0_untell_1
theorem dksX0_untell_0 : cX0_untell.data.toList.drop 0 = dktX0_untell_0 := by decide +kernel
theorem dksX0_untell_1 : cX0_untell.data.toList.drop 22 = dktX0_untell_1 := dk_seg dksX0_untell_0 22 rfl rfl
theorem dX0_untell_0 : decode cX0_untell 0 = .ok (.iload_n 1, 1) := dk_27 (dk_at dksX0_untell_0 0 rfl rfl)
theorem dX0_untell_1 : decode cX0_untell 1 = .ok (.invokestatic 261, 3) := dk_184 1 5 (dk_at dksX0_untell_0 1 rfl rfl)
theorem dX0_untell_4 : decode cX0_untell 4 = .ok (.ifCond .ne 9, 3) := dk_154 0 9 (dk_at dksX0_untell_0 4 rfl rfl)
theorem dX0_untell_7 : decode cX0_untell 7 = .ok (.aload_n 0, 1) := dk_42 (dk_at dksX0_untell_0 7 rfl rfl)
theorem dX0_untell_8 : decode cX0_untell 8 = .ok (.iconst 1, 1) := dk_4 (dk_at dksX0_untell_0 8 rfl rfl)
theorem dX0_untell_9 : decode cX0_untell 9 = .ok (.invokevirtual 173, 3) := dk_182 0 173 (dk_at dksX0_untell_0 9 rfl rfl)
theorem dX0_untell_12 : decode cX0_untell 12 = .ok (.ireturn, 1) := dk_172 (dk_at dksX0_untell_0 12 rfl rfl)
theorem dX0_untell_13 : decode cX0_untell 13 = .ok (.aload_n 0, 1) := dk_42 (dk_at dksX0_untell_0 13 rfl rfl)
theorem dX0_untell_14 : decode cX0_untell 14 = .ok (.getfield 73, 3) := dk_180 0 73 (dk_at dksX0_untell_0 14 rfl rfl)
theorem dX0_untell_17 : decode cX0_untell 17 = .ok (.getfield 273, 3) := dk_180 1 17 (dk_at dksX0_untell_0 17 rfl rfl)
theorem dX0_untell_20 : decode cX0_untell 20 = .ok (.iload_n 1, 1) := dk_27 (dk_at dksX0_untell_0 20 rfl rfl)
theorem dX0_untell_21 : decode cX0_untell 21 = .ok (.aaload, 1) := dk_50 (dk_at dksX0_untell_0 21 rfl rfl)
theorem dX0_untell_22 : decode cX0_untell 22 = .ok (.ifnonnull 7, 3) := dk_199 0 7 (dk_at dksX0_untell_1 0 rfl rfl)
theorem dX0_untell_25 : decode cX0_untell 25 = .ok (.iconst 0, 1) := dk_3 (dk_at dksX0_untell_1 3 rfl rfl)
theorem dX0_untell_26 : decode cX0_untell 26 = .ok (.goto 4, 3) := dk_167 0 4 (dk_at dksX0_untell_1 4 rfl rfl)
theorem dX0_untell_29 : decode cX0_untell 29 = .ok (.iconst 1, 1) := dk_4 (dk_at dksX0_untell_1 7 rfl rfl)
theorem dX0_untell_30 : decode cX0_untell 30 = .ok (.istore_n 2, 1) := dk_61 (dk_at dksX0_untell_1 8 rfl rfl)
theorem dX0_untell_31 : decode cX0_untell 31 = .ok (.aload_n 0, 1) := dk_42 (dk_at dksX0_untell_1 9 rfl rfl)
theorem dX0_untell_32 : decode cX0_untell 32 = .ok (.getfield 73, 3) := dk_180 0 73 (dk_at dksX0_untell_1 10 rfl rfl)
theorem dX0_untell_35 : decode cX0_untell 35 = .ok (.getfield 273, 3) := dk_180 1 17 (dk_at dksX0_untell_1 13 rfl rfl)
theorem dX0_untell_38 : decode cX0_untell 38 = .ok (.iload_n 1, 1) := dk_27 (dk_at dksX0_untell_1 16 rfl rfl)
theorem dX0_untell_39 : decode cX0_untell 39 = .ok (.aconst_null, 1) := dk_1 (dk_at dksX0_untell_1 17 rfl rfl)
theorem dX0_untell_40 : decode cX0_untell 40 = .ok (.aastore, 1) := dk_83 (dk_at dksX0_untell_1 18 rfl rfl)
theorem dX0_untell_41 : decode cX0_untell 41 = .ok (.iload_n 2, 1) := dk_28 (dk_at dksX0_untell_1 19 rfl rfl)
theorem dX0_untell_42 : decode cX0_untell 42 = .ok (.ireturn, 1) := dk_172 (dk_at dksX0_untell_1 20 rfl rfl)
abbrev cX0_hours : ByteArray := prog_1_method_39_code
def yX0_hours : MethodName := ⟨RX0, "hours", "(I)I"⟩
def dkwX0_hours_2 : List UInt8 := [182, 1, 41, 172]
abbrev dktX0_hours_2 : List UInt8 := dkwX0_hours_2 ++ []
def dkwX0_hours_1 : List UInt8 := [27, 96, 17, 39, 15, 164, 0, 9, 42, 6, 182, 0, 173, 172, 42, 27, 182, 1, 38, 61, 42, 180, 0, 73]
abbrev dktX0_hours_1 : List UInt8 := dkwX0_hours_1 ++ dktX0_hours_2
def dkwX0_hours_0 : List UInt8 := [27, 4, 17, 0, 240, 184, 0, 122, 154, 0, 9, 42, 4, 182, 0, 173, 172, 42, 180, 0, 73, 180, 1, 32]
abbrev dktX0_hours_0 : List UInt8 := dkwX0_hours_0 ++ dktX0_hours_1
theorem dksX0_hours_0 : cX0_hours.data.toList.drop 0 = dktX0_hours_0 := by decide +kernel
theorem dksX0_hours_1 : cX0_hours.data.toList.drop 24 = dktX0_hours_1 := dk_seg dksX0_hours_0 24 rfl rfl
theorem dksX0_hours_2 : cX0_hours.data.toList.drop 48 = dktX0_hours_2 := dk_seg dksX0_hours_1 24 rfl rfl
theorem dX0_hours_0 : decode cX0_hours 0 = .ok (.iload_n 1, 1) := dk_27 (dk_at dksX0_hours_0 0 rfl rfl)
theorem dX0_hours_1 : decode cX0_hours 1 = .ok (.iconst 1, 1) := dk_4 (dk_at dksX0_hours_0 1 rfl rfl)
theorem dX0_hours_2 : decode cX0_hours 2 = .ok (.sipush 240, 3) := dk_17 0 240 (dk_at dksX0_hours_0 2 rfl rfl)
theorem dX0_hours_5 : decode cX0_hours 5 = .ok (.invokestatic 122, 3) := dk_184 0 122 (dk_at dksX0_hours_0 5 rfl rfl)
theorem dX0_hours_8 : decode cX0_hours 8 = .ok (.ifCond .ne 9, 3) := dk_154 0 9 (dk_at dksX0_hours_0 8 rfl rfl)
theorem dX0_hours_11 : decode cX0_hours 11 = .ok (.aload_n 0, 1) := dk_42 (dk_at dksX0_hours_0 11 rfl rfl)
theorem dX0_hours_12 : decode cX0_hours 12 = .ok (.iconst 1, 1) := dk_4 (dk_at dksX0_hours_0 12 rfl rfl)
theorem dX0_hours_13 : decode cX0_hours 13 = .ok (.invokevirtual 173, 3) := dk_182 0 173 (dk_at dksX0_hours_0 13 rfl rfl)
theorem dX0_hours_16 : decode cX0_hours 16 = .ok (.ireturn, 1) := dk_172 (dk_at dksX0_hours_0 16 rfl rfl)
theorem dX0_hours_17 : decode cX0_hours 17 = .ok (.aload_n 0, 1) := dk_42 (dk_at dksX0_hours_0 17 rfl rfl)
theorem dX0_hours_18 : decode cX0_hours 18 = .ok (.getfield 73, 3) := dk_180 0 73 (dk_at dksX0_hours_0 18 rfl rfl)
theorem dX0_hours_21 : decode cX0_hours 21 = .ok (.getfield 288, 3) := dk_180 1 32 (dk_at dksX0_hours_0 21 rfl rfl)
theorem dX0_hours_24 : decode cX0_hours 24 = .ok (.iload_n 1, 1) := dk_27 (dk_at dksX0_hours_1 0 rfl rfl)
theorem dX0_hours_25 : decode cX0_hours 25 = .ok (.iadd, 1) := dk_96 (dk_at dksX0_hours_1 1 rfl rfl)
theorem dX0_hours_26 : decode cX0_hours 26 = .ok (.sipush 9999, 3) := dk_17 39 15 (dk_at dksX0_hours_1 2 rfl rfl)
theorem dX0_hours_29 : decode cX0_hours 29 = .ok (.if_icmp .le 9, 3) := dk_164 0 9 (dk_at dksX0_hours_1 5 rfl rfl)
theorem dX0_hours_32 : decode cX0_hours 32 = .ok (.aload_n 0, 1) := dk_42 (dk_at dksX0_hours_1 8 rfl rfl)
theorem dX0_hours_33 : decode cX0_hours 33 = .ok (.iconst 3, 1) := dk_6 (dk_at dksX0_hours_1 9 rfl rfl)
theorem dX0_hours_34 : decode cX0_hours 34 = .ok (.invokevirtual 173, 3) := dk_182 0 173 (dk_at dksX0_hours_1 10 rfl rfl)
theorem dX0_hours_37 : decode cX0_hours 37 = .ok (.ireturn, 1) := dk_172 (dk_at dksX0_hours_1 13 rfl rfl)
theorem dX0_hours_38 : decode cX0_hours 38 = .ok (.aload_n 0, 1) := dk_42 (dk_at dksX0_hours_1 14 rfl rfl)
theorem dX0_hours_39 : decode cX0_hours 39 = .ok (.iload_n 1, 1) := dk_27 (dk_at dksX0_hours_1 15 rfl rfl)
theorem dX0_hours_40 : decode cX0_hours 40 = .ok (.invokevirtual 294, 3) := dk_182 1 38 (dk_at dksX0_hours_1 16 rfl rfl)
theorem dX0_hours_43 : decode cX0_hours 43 = .ok (.istore_n 2, 1) := dk_61 (dk_at dksX0_hours_1 19 rfl rfl)
theorem dX0_hours_44 : decode cX0_hours 44 = .ok (.aload_n 0, 1) := dk_42 (dk_at dksX0_hours_1 20 rfl rfl)
theorem dX0_hours_45 : decode cX0_hours 45 = .ok (.getfield 73, 3) := dk_180 0 73 (dk_at dksX0_hours_1 21 rfl rfl)
theorem dX0_hours_48 : decode cX0_hours 48 = .ok (.invokevirtual 297, 3) := dk_182 1 41 (dk_at dksX0_hours_2 0 rfl rfl)
theorem dX0_hours_51 : decode cX0_hours 51 = .ok (.ireturn, 1) := dk_172 (dk_at dksX0_hours_2 3 rfl rfl)
abbrev cX0_goOn : ByteArray := prog_1_method_38_code
def yX0_goOn : MethodName := ⟨RX0, "goOn", "(I)I"⟩
def dkwX0_goOn_0 : List UInt8 := [3, 61, 3, 62, 29, 27, 162, 0, 16, 28, 42, 182, 1, 35, 96, 61, 132, 3, 1, 167, 255, 241, 28, 172]
abbrev dktX0_goOn_0 : List UInt8 := dkwX0_goOn_0 ++ []
theorem dksX0_goOn_0 : cX0_goOn.data.toList.drop 0 = dktX0_goOn_0 := by decide +kernel
theorem dX0_goOn_0 : decode cX0_goOn 0 = .ok (.iconst 0, 1) := dk_3 (dk_at dksX0_goOn_0 0 rfl rfl)
theorem dX0_goOn_1 : decode cX0_goOn 1 = .ok (.istore_n 2, 1) := dk_61 (dk_at dksX0_goOn_0 1 rfl rfl)
theorem dX0_goOn_2 : decode cX0_goOn 2 = .ok (.iconst 0, 1) := dk_3 (dk_at dksX0_goOn_0 2 rfl rfl)
theorem dX0_goOn_3 : decode cX0_goOn 3 = .ok (.istore_n 3, 1) := dk_62 (dk_at dksX0_goOn_0 3 rfl rfl)
theorem dX0_goOn_4 : decode cX0_goOn 4 = .ok (.iload_n 3, 1) := dk_29 (dk_at dksX0_goOn_0 4 rfl rfl)
theorem dX0_goOn_5 : decode cX0_goOn 5 = .ok (.iload_n 1, 1) := dk_27 (dk_at dksX0_goOn_0 5 rfl rfl)
theorem dX0_goOn_6 : decode cX0_goOn 6 = .ok (.if_icmp .ge 16, 3) := dk_162 0 16 (dk_at dksX0_goOn_0 6 rfl rfl)
theorem dX0_goOn_9 : decode cX0_goOn 9 = .ok (.iload_n 2, 1) := dk_28 (dk_at dksX0_goOn_0 9 rfl rfl)
theorem dX0_goOn_10 : decode cX0_goOn 10 = .ok (.aload_n 0, 1) := dk_42 (dk_at dksX0_goOn_0 10 rfl rfl)
theorem dX0_goOn_11 : decode cX0_goOn 11 = .ok (.invokevirtual 291, 3) := dk_182 1 35 (dk_at dksX0_goOn_0 11 rfl rfl)
theorem dX0_goOn_14 : decode cX0_goOn 14 = .ok (.iadd, 1) := dk_96 (dk_at dksX0_goOn_0 14 rfl rfl)
theorem dX0_goOn_15 : decode cX0_goOn 15 = .ok (.istore_n 2, 1) := dk_61 (dk_at dksX0_goOn_0 15 rfl rfl)
theorem dX0_goOn_16 : decode cX0_goOn 16 = .ok (.iinc 3 1, 3) := dk_132 3 1 (dk_at dksX0_goOn_0 16 rfl rfl)
theorem dX0_goOn_19 : decode cX0_goOn 19 = .ok (.goto (-15), 3) := dk_167 255 241 (dk_at dksX0_goOn_0 19 rfl rfl)
theorem dX0_goOn_22 : decode cX0_goOn 22 = .ok (.iload_n 2, 1) := dk_28 (dk_at dksX0_goOn_0 22 rfl rfl)
theorem dX0_goOn_23 : decode cX0_goOn 23 = .ok (.ireturn, 1) := dk_172 (dk_at dksX0_goOn_0 23 rfl rfl)
abbrev cX0_anHour : ByteArray := prog_1_method_37_code
def yX0_anHour : MethodName := ⟨RX0, "anHour", "()I"⟩
def dkwX0_anHour_5 : List UInt8 := [181, 1, 32, 27, 172]
abbrev dktX0_anHour_5 : List UInt8 := dkwX0_anHour_5 ++ []
def dkwX0_anHour_4 : List UInt8 := [180, 0, 109, 28, 46, 96, 60, 132, 2, 1, 167, 255, 163, 42, 180, 0, 73, 89, 180, 1, 32, 4, 96]
abbrev dktX0_anHour_4 : List UInt8 := dkwX0_anHour_4 ++ dktX0_anHour_5
def dkwX0_anHour_3 : List UInt8 := [180, 0, 216, 28, 18, 247, 42, 180, 0, 73, 180, 0, 216, 28, 46, 21, 4, 96, 184, 0, 1, 79, 27, 42]
abbrev dktX0_anHour_3 : List UInt8 := dkwX0_anHour_3 ++ dktX0_anHour_4
def dkwX0_anHour_2 : List UInt8 := [180, 0, 73, 28, 29, 182, 1, 29, 42, 180, 0, 115, 28, 92, 46, 29, 96, 79, 42, 180, 0, 73]
abbrev dktX0_anHour_2 : List UInt8 := dkwX0_anHour_2 ++ dktX0_anHour_3
def dkwX0_anHour_1 : List UInt8 := [180, 0, 109, 28, 46, 182, 0, 225, 62, 42, 28, 42, 180, 0, 109, 28, 46, 182, 0, 228, 54, 4, 42]
abbrev dktX0_anHour_1 : List UInt8 := dkwX0_anHour_1 ++ dktX0_anHour_2
def dkwX0_anHour_0 : List UInt8 := [42, 182, 0, 222, 3, 60, 3, 61, 28, 42, 180, 0, 73, 180, 0, 119, 162, 0, 88, 42, 28, 42]
abbrev dktX0_anHour_0 : List UInt8 := dkwX0_anHour_0 ++ dktX0_anHour_1
theorem dksX0_anHour_0 : cX0_anHour.data.toList.drop 0 = dktX0_anHour_0 := by decide +kernel
theorem dksX0_anHour_1 : cX0_anHour.data.toList.drop 22 = dktX0_anHour_1 := dk_seg dksX0_anHour_0 22 rfl rfl
theorem dksX0_anHour_2 : cX0_anHour.data.toList.drop 45 = dktX0_anHour_2 := dk_seg dksX0_anHour_1 23 rfl rfl
theorem dksX0_anHour_3 : cX0_anHour.data.toList.drop 67 = dktX0_anHour_3 := dk_seg dksX0_anHour_2 22 rfl rfl
theorem dksX0_anHour_4 : cX0_anHour.data.toList.drop 91 = dktX0_anHour_4 := dk_seg dksX0_anHour_3 24 rfl rfl
theorem dksX0_anHour_5 : cX0_anHour.data.toList.drop 114 = dktX0_anHour_5 := dk_seg dksX0_anHour_4 23 rfl rfl
theorem dX0_anHour_0 : decode cX0_anHour 0 = .ok (.aload_n 0, 1) := dk_42 (dk_at dksX0_anHour_0 0 rfl rfl)
theorem dX0_anHour_1 : decode cX0_anHour 1 = .ok (.invokevirtual 222, 3) := dk_182 0 222 (dk_at dksX0_anHour_0 1 rfl rfl)
theorem dX0_anHour_4 : decode cX0_anHour 4 = .ok (.iconst 0, 1) := dk_3 (dk_at dksX0_anHour_0 4 rfl rfl)
theorem dX0_anHour_5 : decode cX0_anHour 5 = .ok (.istore_n 1, 1) := dk_60 (dk_at dksX0_anHour_0 5 rfl rfl)
theorem dX0_anHour_6 : decode cX0_anHour 6 = .ok (.iconst 0, 1) := dk_3 (dk_at dksX0_anHour_0 6 rfl rfl)
theorem dX0_anHour_7 : decode cX0_anHour 7 = .ok (.istore_n 2, 1) := dk_61 (dk_at dksX0_anHour_0 7 rfl rfl)
theorem dX0_anHour_8 : decode cX0_anHour 8 = .ok (.iload_n 2, 1) := dk_28 (dk_at dksX0_anHour_0 8 rfl rfl)
theorem dX0_anHour_9 : decode cX0_anHour 9 = .ok (.aload_n 0, 1) := dk_42 (dk_at dksX0_anHour_0 9 rfl rfl)
theorem dX0_anHour_10 : decode cX0_anHour 10 = .ok (.getfield 73, 3) := dk_180 0 73 (dk_at dksX0_anHour_0 10 rfl rfl)
theorem dX0_anHour_13 : decode cX0_anHour 13 = .ok (.getfield 119, 3) := dk_180 0 119 (dk_at dksX0_anHour_0 13 rfl rfl)
theorem dX0_anHour_16 : decode cX0_anHour 16 = .ok (.if_icmp .ge 88, 3) := dk_162 0 88 (dk_at dksX0_anHour_0 16 rfl rfl)
theorem dX0_anHour_19 : decode cX0_anHour 19 = .ok (.aload_n 0, 1) := dk_42 (dk_at dksX0_anHour_0 19 rfl rfl)
theorem dX0_anHour_20 : decode cX0_anHour 20 = .ok (.iload_n 2, 1) := dk_28 (dk_at dksX0_anHour_0 20 rfl rfl)
theorem dX0_anHour_21 : decode cX0_anHour 21 = .ok (.aload_n 0, 1) := dk_42 (dk_at dksX0_anHour_0 21 rfl rfl)
theorem dX0_anHour_22 : decode cX0_anHour 22 = .ok (.getfield 109, 3) := dk_180 0 109 (dk_at dksX0_anHour_1 0 rfl rfl)
theorem dX0_anHour_25 : decode cX0_anHour 25 = .ok (.iload_n 2, 1) := dk_28 (dk_at dksX0_anHour_1 3 rfl rfl)
theorem dX0_anHour_26 : decode cX0_anHour 26 = .ok (.iaload, 1) := dk_46 (dk_at dksX0_anHour_1 4 rfl rfl)
theorem dX0_anHour_27 : decode cX0_anHour 27 = .ok (.invokevirtual 225, 3) := dk_182 0 225 (dk_at dksX0_anHour_1 5 rfl rfl)
theorem dX0_anHour_30 : decode cX0_anHour 30 = .ok (.istore_n 3, 1) := dk_62 (dk_at dksX0_anHour_1 8 rfl rfl)
theorem dX0_anHour_31 : decode cX0_anHour 31 = .ok (.aload_n 0, 1) := dk_42 (dk_at dksX0_anHour_1 9 rfl rfl)
theorem dX0_anHour_32 : decode cX0_anHour 32 = .ok (.iload_n 2, 1) := dk_28 (dk_at dksX0_anHour_1 10 rfl rfl)
theorem dX0_anHour_33 : decode cX0_anHour 33 = .ok (.aload_n 0, 1) := dk_42 (dk_at dksX0_anHour_1 11 rfl rfl)
theorem dX0_anHour_34 : decode cX0_anHour 34 = .ok (.getfield 109, 3) := dk_180 0 109 (dk_at dksX0_anHour_1 12 rfl rfl)
theorem dX0_anHour_37 : decode cX0_anHour 37 = .ok (.iload_n 2, 1) := dk_28 (dk_at dksX0_anHour_1 15 rfl rfl)
theorem dX0_anHour_38 : decode cX0_anHour 38 = .ok (.iaload, 1) := dk_46 (dk_at dksX0_anHour_1 16 rfl rfl)
theorem dX0_anHour_39 : decode cX0_anHour 39 = .ok (.invokevirtual 228, 3) := dk_182 0 228 (dk_at dksX0_anHour_1 17 rfl rfl)
theorem dX0_anHour_42 : decode cX0_anHour 42 = .ok (.istore 4, 2) := dk_54 4 (dk_at dksX0_anHour_1 20 rfl rfl)
theorem dX0_anHour_44 : decode cX0_anHour 44 = .ok (.aload_n 0, 1) := dk_42 (dk_at dksX0_anHour_1 22 rfl rfl)
theorem dX0_anHour_45 : decode cX0_anHour 45 = .ok (.getfield 73, 3) := dk_180 0 73 (dk_at dksX0_anHour_2 0 rfl rfl)
theorem dX0_anHour_48 : decode cX0_anHour 48 = .ok (.iload_n 2, 1) := dk_28 (dk_at dksX0_anHour_2 3 rfl rfl)
theorem dX0_anHour_49 : decode cX0_anHour 49 = .ok (.iload_n 3, 1) := dk_29 (dk_at dksX0_anHour_2 4 rfl rfl)
theorem dX0_anHour_50 : decode cX0_anHour 50 = .ok (.invokevirtual 285, 3) := dk_182 1 29 (dk_at dksX0_anHour_2 5 rfl rfl)
theorem dX0_anHour_53 : decode cX0_anHour 53 = .ok (.aload_n 0, 1) := dk_42 (dk_at dksX0_anHour_2 8 rfl rfl)
theorem dX0_anHour_54 : decode cX0_anHour 54 = .ok (.getfield 115, 3) := dk_180 0 115 (dk_at dksX0_anHour_2 9 rfl rfl)
theorem dX0_anHour_57 : decode cX0_anHour 57 = .ok (.iload_n 2, 1) := dk_28 (dk_at dksX0_anHour_2 12 rfl rfl)
theorem dX0_anHour_58 : decode cX0_anHour 58 = .ok (.dup2, 1) := dk_92 (dk_at dksX0_anHour_2 13 rfl rfl)
theorem dX0_anHour_59 : decode cX0_anHour 59 = .ok (.iaload, 1) := dk_46 (dk_at dksX0_anHour_2 14 rfl rfl)
theorem dX0_anHour_60 : decode cX0_anHour 60 = .ok (.iload_n 3, 1) := dk_29 (dk_at dksX0_anHour_2 15 rfl rfl)
theorem dX0_anHour_61 : decode cX0_anHour 61 = .ok (.iadd, 1) := dk_96 (dk_at dksX0_anHour_2 16 rfl rfl)
theorem dX0_anHour_62 : decode cX0_anHour 62 = .ok (.iastore, 1) := dk_79 (dk_at dksX0_anHour_2 17 rfl rfl)
theorem dX0_anHour_63 : decode cX0_anHour 63 = .ok (.aload_n 0, 1) := dk_42 (dk_at dksX0_anHour_2 18 rfl rfl)
theorem dX0_anHour_64 : decode cX0_anHour 64 = .ok (.getfield 73, 3) := dk_180 0 73 (dk_at dksX0_anHour_2 19 rfl rfl)
theorem dX0_anHour_67 : decode cX0_anHour 67 = .ok (.getfield 216, 3) := dk_180 0 216 (dk_at dksX0_anHour_3 0 rfl rfl)
theorem dX0_anHour_70 : decode cX0_anHour 70 = .ok (.iload_n 2, 1) := dk_28 (dk_at dksX0_anHour_3 3 rfl rfl)
theorem dX0_anHour_71 : decode cX0_anHour 71 = .ok (.ldc 247, 2) := dk_18 247 (dk_at dksX0_anHour_3 4 rfl rfl)
theorem dX0_anHour_73 : decode cX0_anHour 73 = .ok (.aload_n 0, 1) := dk_42 (dk_at dksX0_anHour_3 6 rfl rfl)
theorem dX0_anHour_74 : decode cX0_anHour 74 = .ok (.getfield 73, 3) := dk_180 0 73 (dk_at dksX0_anHour_3 7 rfl rfl)
theorem dX0_anHour_77 : decode cX0_anHour 77 = .ok (.getfield 216, 3) := dk_180 0 216 (dk_at dksX0_anHour_3 10 rfl rfl)
theorem dX0_anHour_80 : decode cX0_anHour 80 = .ok (.iload_n 2, 1) := dk_28 (dk_at dksX0_anHour_3 13 rfl rfl)
theorem dX0_anHour_81 : decode cX0_anHour 81 = .ok (.iaload, 1) := dk_46 (dk_at dksX0_anHour_3 14 rfl rfl)
theorem dX0_anHour_82 : decode cX0_anHour 82 = .ok (.iload 4, 2) := dk_21 4 (dk_at dksX0_anHour_3 15 rfl rfl)
theorem dX0_anHour_84 : decode cX0_anHour 84 = .ok (.iadd, 1) := dk_96 (dk_at dksX0_anHour_3 17 rfl rfl)
theorem dX0_anHour_85 : decode cX0_anHour 85 = .ok (.invokestatic 1, 3) := dk_184 0 1 (dk_at dksX0_anHour_3 18 rfl rfl)
theorem dX0_anHour_88 : decode cX0_anHour 88 = .ok (.iastore, 1) := dk_79 (dk_at dksX0_anHour_3 21 rfl rfl)
theorem dX0_anHour_89 : decode cX0_anHour 89 = .ok (.iload_n 1, 1) := dk_27 (dk_at dksX0_anHour_3 22 rfl rfl)
theorem dX0_anHour_90 : decode cX0_anHour 90 = .ok (.aload_n 0, 1) := dk_42 (dk_at dksX0_anHour_3 23 rfl rfl)
theorem dX0_anHour_91 : decode cX0_anHour 91 = .ok (.getfield 109, 3) := dk_180 0 109 (dk_at dksX0_anHour_4 0 rfl rfl)
theorem dX0_anHour_94 : decode cX0_anHour 94 = .ok (.iload_n 2, 1) := dk_28 (dk_at dksX0_anHour_4 3 rfl rfl)
theorem dX0_anHour_95 : decode cX0_anHour 95 = .ok (.iaload, 1) := dk_46 (dk_at dksX0_anHour_4 4 rfl rfl)
theorem dX0_anHour_96 : decode cX0_anHour 96 = .ok (.iadd, 1) := dk_96 (dk_at dksX0_anHour_4 5 rfl rfl)
theorem dX0_anHour_97 : decode cX0_anHour 97 = .ok (.istore_n 1, 1) := dk_60 (dk_at dksX0_anHour_4 6 rfl rfl)
theorem dX0_anHour_98 : decode cX0_anHour 98 = .ok (.iinc 2 1, 3) := dk_132 2 1 (dk_at dksX0_anHour_4 7 rfl rfl)
theorem dX0_anHour_101 : decode cX0_anHour 101 = .ok (.goto (-93), 3) := dk_167 255 163 (dk_at dksX0_anHour_4 10 rfl rfl)
theorem dX0_anHour_104 : decode cX0_anHour 104 = .ok (.aload_n 0, 1) := dk_42 (dk_at dksX0_anHour_4 13 rfl rfl)
theorem dX0_anHour_105 : decode cX0_anHour 105 = .ok (.getfield 73, 3) := dk_180 0 73 (dk_at dksX0_anHour_4 14 rfl rfl)
theorem dX0_anHour_108 : decode cX0_anHour 108 = .ok (.dup, 1) := dk_89 (dk_at dksX0_anHour_4 17 rfl rfl)
theorem dX0_anHour_109 : decode cX0_anHour 109 = .ok (.getfield 288, 3) := dk_180 1 32 (dk_at dksX0_anHour_4 18 rfl rfl)
theorem dX0_anHour_112 : decode cX0_anHour 112 = .ok (.iconst 1, 1) := dk_4 (dk_at dksX0_anHour_4 21 rfl rfl)
theorem dX0_anHour_113 : decode cX0_anHour 113 = .ok (.iadd, 1) := dk_96 (dk_at dksX0_anHour_4 22 rfl rfl)
theorem dX0_anHour_114 : decode cX0_anHour 114 = .ok (.putfield 288, 3) := dk_181 1 32 (dk_at dksX0_anHour_5 0 rfl rfl)
theorem dX0_anHour_117 : decode cX0_anHour 117 = .ok (.iload_n 1, 1) := dk_27 (dk_at dksX0_anHour_5 3 rfl rfl)
theorem dX0_anHour_118 : decode cX0_anHour 118 = .ok (.ireturn, 1) := dk_172 (dk_at dksX0_anHour_5 4 rfl rfl)
abbrev cX0_draws : ByteArray := prog_1_method_41_code
def yX0_draws : MethodName := ⟨RX0, "draws", "(I)I"⟩
def dkwX0_draws_5 : List UInt8 := [54, 5, 132, 3, 1, 167, 255, 175, 28, 172]
abbrev dktX0_draws_5 : List UInt8 := dkwX0_draws_5 ++ []
def dkwX0_draws_4 : List UInt8 := [7, 162, 0, 7, 4, 167, 0, 4, 2, 96, 3, 16, 9, 184, 0, 145, 181, 0, 136, 42, 182, 1, 35]
abbrev dktX0_draws_4 : List UInt8 := dkwX0_draws_4 ++ dktX0_draws_5
def dkwX0_draws_3 : List UInt8 := [21, 4, 4, 16, 6, 184, 0, 122, 153, 0, 35, 42, 180, 0, 73, 42, 180, 0, 73, 180, 0, 136, 21, 4]
abbrev dktX0_draws_3 : List UInt8 := dkwX0_draws_3 ++ dktX0_draws_4
def dkwX0_draws_2 : List UInt8 := [180, 0, 73, 182, 1, 44, 16, 16, 112, 54, 4, 21, 4, 154, 0, 10, 42, 182, 1, 47, 132, 2, 1]
abbrev dktX0_draws_2 : List UInt8 := dkwX0_draws_2 ++ dktX0_draws_3
def dkwX0_draws_1 : List UInt8 := [96, 17, 39, 15, 164, 0, 9, 42, 6, 182, 0, 173, 172, 3, 61, 3, 62, 29, 27, 162, 0, 82, 42]
abbrev dktX0_draws_1 : List UInt8 := dkwX0_draws_1 ++ dktX0_draws_2
def dkwX0_draws_0 : List UInt8 := [27, 4, 16, 60, 184, 0, 122, 154, 0, 9, 42, 4, 182, 0, 173, 172, 42, 180, 0, 73, 180, 1, 32, 27]
abbrev dktX0_draws_0 : List UInt8 := dkwX0_draws_0 ++ dktX0_draws_1
theorem dksX0_draws_0 : cX0_draws.data.toList.drop 0 = dktX0_draws_0 := by decide +kernel
theorem dksX0_draws_1 : cX0_draws.data.toList.drop 24 = dktX0_draws_1 := dk_seg dksX0_draws_0 24 rfl rfl
theorem dksX0_draws_2 : cX0_draws.data.toList.drop 47 = dktX0_draws_2 := dk_seg dksX0_draws_1 23 rfl rfl
theorem dksX0_draws_3 : cX0_draws.data.toList.drop 70 = dktX0_draws_3 := dk_seg dksX0_draws_2 23 rfl rfl
theorem dksX0_draws_4 : cX0_draws.data.toList.drop 94 = dktX0_draws_4 := dk_seg dksX0_draws_3 24 rfl rfl
theorem dksX0_draws_5 : cX0_draws.data.toList.drop 117 = dktX0_draws_5 := dk_seg dksX0_draws_4 23 rfl rfl
theorem dX0_draws_0 : decode cX0_draws 0 = .ok (.iload_n 1, 1) := dk_27 (dk_at dksX0_draws_0 0 rfl rfl)
theorem dX0_draws_1 : decode cX0_draws 1 = .ok (.iconst 1, 1) := dk_4 (dk_at dksX0_draws_0 1 rfl rfl)
theorem dX0_draws_2 : decode cX0_draws 2 = .ok (.bipush 60, 2) := dk_16 60 (dk_at dksX0_draws_0 2 rfl rfl)
theorem dX0_draws_4 : decode cX0_draws 4 = .ok (.invokestatic 122, 3) := dk_184 0 122 (dk_at dksX0_draws_0 4 rfl rfl)
theorem dX0_draws_7 : decode cX0_draws 7 = .ok (.ifCond .ne 9, 3) := dk_154 0 9 (dk_at dksX0_draws_0 7 rfl rfl)
theorem dX0_draws_10 : decode cX0_draws 10 = .ok (.aload_n 0, 1) := dk_42 (dk_at dksX0_draws_0 10 rfl rfl)
theorem dX0_draws_11 : decode cX0_draws 11 = .ok (.iconst 1, 1) := dk_4 (dk_at dksX0_draws_0 11 rfl rfl)
theorem dX0_draws_12 : decode cX0_draws 12 = .ok (.invokevirtual 173, 3) := dk_182 0 173 (dk_at dksX0_draws_0 12 rfl rfl)
theorem dX0_draws_15 : decode cX0_draws 15 = .ok (.ireturn, 1) := dk_172 (dk_at dksX0_draws_0 15 rfl rfl)
theorem dX0_draws_16 : decode cX0_draws 16 = .ok (.aload_n 0, 1) := dk_42 (dk_at dksX0_draws_0 16 rfl rfl)
theorem dX0_draws_17 : decode cX0_draws 17 = .ok (.getfield 73, 3) := dk_180 0 73 (dk_at dksX0_draws_0 17 rfl rfl)
theorem dX0_draws_20 : decode cX0_draws 20 = .ok (.getfield 288, 3) := dk_180 1 32 (dk_at dksX0_draws_0 20 rfl rfl)
theorem dX0_draws_23 : decode cX0_draws 23 = .ok (.iload_n 1, 1) := dk_27 (dk_at dksX0_draws_0 23 rfl rfl)
theorem dX0_draws_24 : decode cX0_draws 24 = .ok (.iadd, 1) := dk_96 (dk_at dksX0_draws_1 0 rfl rfl)
theorem dX0_draws_25 : decode cX0_draws 25 = .ok (.sipush 9999, 3) := dk_17 39 15 (dk_at dksX0_draws_1 1 rfl rfl)
theorem dX0_draws_28 : decode cX0_draws 28 = .ok (.if_icmp .le 9, 3) := dk_164 0 9 (dk_at dksX0_draws_1 4 rfl rfl)
theorem dX0_draws_31 : decode cX0_draws 31 = .ok (.aload_n 0, 1) := dk_42 (dk_at dksX0_draws_1 7 rfl rfl)
theorem dX0_draws_32 : decode cX0_draws 32 = .ok (.iconst 3, 1) := dk_6 (dk_at dksX0_draws_1 8 rfl rfl)
theorem dX0_draws_33 : decode cX0_draws 33 = .ok (.invokevirtual 173, 3) := dk_182 0 173 (dk_at dksX0_draws_1 9 rfl rfl)
theorem dX0_draws_36 : decode cX0_draws 36 = .ok (.ireturn, 1) := dk_172 (dk_at dksX0_draws_1 12 rfl rfl)
theorem dX0_draws_37 : decode cX0_draws 37 = .ok (.iconst 0, 1) := dk_3 (dk_at dksX0_draws_1 13 rfl rfl)
theorem dX0_draws_38 : decode cX0_draws 38 = .ok (.istore_n 2, 1) := dk_61 (dk_at dksX0_draws_1 14 rfl rfl)
theorem dX0_draws_39 : decode cX0_draws 39 = .ok (.iconst 0, 1) := dk_3 (dk_at dksX0_draws_1 15 rfl rfl)
theorem dX0_draws_40 : decode cX0_draws 40 = .ok (.istore_n 3, 1) := dk_62 (dk_at dksX0_draws_1 16 rfl rfl)
theorem dX0_draws_41 : decode cX0_draws 41 = .ok (.iload_n 3, 1) := dk_29 (dk_at dksX0_draws_1 17 rfl rfl)
theorem dX0_draws_42 : decode cX0_draws 42 = .ok (.iload_n 1, 1) := dk_27 (dk_at dksX0_draws_1 18 rfl rfl)
theorem dX0_draws_43 : decode cX0_draws 43 = .ok (.if_icmp .ge 82, 3) := dk_162 0 82 (dk_at dksX0_draws_1 19 rfl rfl)
theorem dX0_draws_46 : decode cX0_draws 46 = .ok (.aload_n 0, 1) := dk_42 (dk_at dksX0_draws_1 22 rfl rfl)
theorem dX0_draws_47 : decode cX0_draws 47 = .ok (.getfield 73, 3) := dk_180 0 73 (dk_at dksX0_draws_2 0 rfl rfl)
theorem dX0_draws_50 : decode cX0_draws 50 = .ok (.invokevirtual 300, 3) := dk_182 1 44 (dk_at dksX0_draws_2 3 rfl rfl)
theorem dX0_draws_53 : decode cX0_draws 53 = .ok (.bipush 16, 2) := dk_16 16 (dk_at dksX0_draws_2 6 rfl rfl)
theorem dX0_draws_55 : decode cX0_draws 55 = .ok (.irem, 1) := dk_112 (dk_at dksX0_draws_2 8 rfl rfl)
theorem dX0_draws_56 : decode cX0_draws 56 = .ok (.istore 4, 2) := dk_54 4 (dk_at dksX0_draws_2 9 rfl rfl)
theorem dX0_draws_58 : decode cX0_draws 58 = .ok (.iload 4, 2) := dk_21 4 (dk_at dksX0_draws_2 11 rfl rfl)
theorem dX0_draws_60 : decode cX0_draws 60 = .ok (.ifCond .ne 10, 3) := dk_154 0 10 (dk_at dksX0_draws_2 13 rfl rfl)
theorem dX0_draws_63 : decode cX0_draws 63 = .ok (.aload_n 0, 1) := dk_42 (dk_at dksX0_draws_2 16 rfl rfl)
theorem dX0_draws_64 : decode cX0_draws 64 = .ok (.invokevirtual 303, 3) := dk_182 1 47 (dk_at dksX0_draws_2 17 rfl rfl)
theorem dX0_draws_67 : decode cX0_draws 67 = .ok (.iinc 2 1, 3) := dk_132 2 1 (dk_at dksX0_draws_2 20 rfl rfl)
theorem dX0_draws_70 : decode cX0_draws 70 = .ok (.iload 4, 2) := dk_21 4 (dk_at dksX0_draws_3 0 rfl rfl)
theorem dX0_draws_72 : decode cX0_draws 72 = .ok (.iconst 1, 1) := dk_4 (dk_at dksX0_draws_3 2 rfl rfl)
theorem dX0_draws_73 : decode cX0_draws 73 = .ok (.bipush 6, 2) := dk_16 6 (dk_at dksX0_draws_3 3 rfl rfl)
theorem dX0_draws_75 : decode cX0_draws 75 = .ok (.invokestatic 122, 3) := dk_184 0 122 (dk_at dksX0_draws_3 5 rfl rfl)
theorem dX0_draws_78 : decode cX0_draws 78 = .ok (.ifCond .eq 35, 3) := dk_153 0 35 (dk_at dksX0_draws_3 8 rfl rfl)
theorem dX0_draws_81 : decode cX0_draws 81 = .ok (.aload_n 0, 1) := dk_42 (dk_at dksX0_draws_3 11 rfl rfl)
theorem dX0_draws_82 : decode cX0_draws 82 = .ok (.getfield 73, 3) := dk_180 0 73 (dk_at dksX0_draws_3 12 rfl rfl)
theorem dX0_draws_85 : decode cX0_draws 85 = .ok (.aload_n 0, 1) := dk_42 (dk_at dksX0_draws_3 15 rfl rfl)
theorem dX0_draws_86 : decode cX0_draws 86 = .ok (.getfield 73, 3) := dk_180 0 73 (dk_at dksX0_draws_3 16 rfl rfl)
theorem dX0_draws_89 : decode cX0_draws 89 = .ok (.getfield 136, 3) := dk_180 0 136 (dk_at dksX0_draws_3 19 rfl rfl)
theorem dX0_draws_92 : decode cX0_draws 92 = .ok (.iload 4, 2) := dk_21 4 (dk_at dksX0_draws_3 22 rfl rfl)
theorem dX0_draws_94 : decode cX0_draws 94 = .ok (.iconst 4, 1) := dk_7 (dk_at dksX0_draws_4 0 rfl rfl)
theorem dX0_draws_95 : decode cX0_draws 95 = .ok (.if_icmp .ge 7, 3) := dk_162 0 7 (dk_at dksX0_draws_4 1 rfl rfl)
theorem dX0_draws_98 : decode cX0_draws 98 = .ok (.iconst 1, 1) := dk_4 (dk_at dksX0_draws_4 4 rfl rfl)
theorem dX0_draws_99 : decode cX0_draws 99 = .ok (.goto 4, 3) := dk_167 0 4 (dk_at dksX0_draws_4 5 rfl rfl)
theorem dX0_draws_102 : decode cX0_draws 102 = .ok (.iconst (-1), 1) := dk_2 (dk_at dksX0_draws_4 8 rfl rfl)
theorem dX0_draws_103 : decode cX0_draws 103 = .ok (.iadd, 1) := dk_96 (dk_at dksX0_draws_4 9 rfl rfl)
theorem dX0_draws_104 : decode cX0_draws 104 = .ok (.iconst 0, 1) := dk_3 (dk_at dksX0_draws_4 10 rfl rfl)
theorem dX0_draws_105 : decode cX0_draws 105 = .ok (.bipush 9, 2) := dk_16 9 (dk_at dksX0_draws_4 11 rfl rfl)
theorem dX0_draws_107 : decode cX0_draws 107 = .ok (.invokestatic 145, 3) := dk_184 0 145 (dk_at dksX0_draws_4 13 rfl rfl)
theorem dX0_draws_110 : decode cX0_draws 110 = .ok (.putfield 136, 3) := dk_181 0 136 (dk_at dksX0_draws_4 16 rfl rfl)
theorem dX0_draws_113 : decode cX0_draws 113 = .ok (.aload_n 0, 1) := dk_42 (dk_at dksX0_draws_4 19 rfl rfl)
theorem dX0_draws_114 : decode cX0_draws 114 = .ok (.invokevirtual 291, 3) := dk_182 1 35 (dk_at dksX0_draws_4 20 rfl rfl)
theorem dX0_draws_117 : decode cX0_draws 117 = .ok (.istore 5, 2) := dk_54 5 (dk_at dksX0_draws_5 0 rfl rfl)
theorem dX0_draws_119 : decode cX0_draws 119 = .ok (.iinc 3 1, 3) := dk_132 3 1 (dk_at dksX0_draws_5 2 rfl rfl)
theorem dX0_draws_122 : decode cX0_draws 122 = .ok (.goto (-81), 3) := dk_167 255 175 (dk_at dksX0_draws_5 5 rfl rfl)
theorem dX0_draws_125 : decode cX0_draws 125 = .ok (.iload_n 2, 1) := dk_28 (dk_at dksX0_draws_5 8 rfl rfl)
theorem dX0_draws_126 : decode cX0_draws 126 = .ok (.ireturn, 1) := dk_172 (dk_at dksX0_draws_5 9 rfl rfl)
abbrev cX0_floods : ByteArray := prog_1_method_40_code
def yX0_floods : MethodName := ⟨RX0, "floods", "()V"⟩
def dkwX0_floods_2 : List UInt8 := [132, 1, 1, 167, 255, 210, 177]
abbrev dktX0_floods_2 : List UInt8 := dkwX0_floods_2 ++ []
def dkwX0_floods_1 : List UInt8 := [160, 0, 22, 42, 180, 0, 73, 27, 42, 180, 0, 73, 27, 182, 0, 126, 180, 0, 133, 182, 1, 29]
abbrev dktX0_floods_1 : List UInt8 := dkwX0_floods_1 ++ dktX0_floods_2
def dkwX0_floods_0 : List UInt8 := [3, 60, 27, 42, 180, 0, 73, 180, 0, 119, 162, 0, 41, 42, 180, 0, 73, 180, 0, 130, 27, 51, 4]
abbrev dktX0_floods_0 : List UInt8 := dkwX0_floods_0 ++ dktX0_floods_1
theorem dksX0_floods_0 : cX0_floods.data.toList.drop 0 = dktX0_floods_0 := by decide +kernel
theorem dksX0_floods_1 : cX0_floods.data.toList.drop 23 = dktX0_floods_1 := dk_seg dksX0_floods_0 23 rfl rfl
theorem dksX0_floods_2 : cX0_floods.data.toList.drop 45 = dktX0_floods_2 := dk_seg dksX0_floods_1 22 rfl rfl
theorem dX0_floods_0 : decode cX0_floods 0 = .ok (.iconst 0, 1) := dk_3 (dk_at dksX0_floods_0 0 rfl rfl)
theorem dX0_floods_1 : decode cX0_floods 1 = .ok (.istore_n 1, 1) := dk_60 (dk_at dksX0_floods_0 1 rfl rfl)
theorem dX0_floods_2 : decode cX0_floods 2 = .ok (.iload_n 1, 1) := dk_27 (dk_at dksX0_floods_0 2 rfl rfl)
theorem dX0_floods_3 : decode cX0_floods 3 = .ok (.aload_n 0, 1) := dk_42 (dk_at dksX0_floods_0 3 rfl rfl)
theorem dX0_floods_4 : decode cX0_floods 4 = .ok (.getfield 73, 3) := dk_180 0 73 (dk_at dksX0_floods_0 4 rfl rfl)
theorem dX0_floods_7 : decode cX0_floods 7 = .ok (.getfield 119, 3) := dk_180 0 119 (dk_at dksX0_floods_0 7 rfl rfl)
theorem dX0_floods_10 : decode cX0_floods 10 = .ok (.if_icmp .ge 41, 3) := dk_162 0 41 (dk_at dksX0_floods_0 10 rfl rfl)
theorem dX0_floods_13 : decode cX0_floods 13 = .ok (.aload_n 0, 1) := dk_42 (dk_at dksX0_floods_0 13 rfl rfl)
theorem dX0_floods_14 : decode cX0_floods 14 = .ok (.getfield 73, 3) := dk_180 0 73 (dk_at dksX0_floods_0 14 rfl rfl)
theorem dX0_floods_17 : decode cX0_floods 17 = .ok (.getfield 130, 3) := dk_180 0 130 (dk_at dksX0_floods_0 17 rfl rfl)
theorem dX0_floods_20 : decode cX0_floods 20 = .ok (.iload_n 1, 1) := dk_27 (dk_at dksX0_floods_0 20 rfl rfl)
theorem dX0_floods_21 : decode cX0_floods 21 = .ok (.baload, 1) := dk_51 (dk_at dksX0_floods_0 21 rfl rfl)
theorem dX0_floods_22 : decode cX0_floods 22 = .ok (.iconst 1, 1) := dk_4 (dk_at dksX0_floods_0 22 rfl rfl)
theorem dX0_floods_23 : decode cX0_floods 23 = .ok (.if_icmp .ne 22, 3) := dk_160 0 22 (dk_at dksX0_floods_1 0 rfl rfl)
theorem dX0_floods_26 : decode cX0_floods 26 = .ok (.aload_n 0, 1) := dk_42 (dk_at dksX0_floods_1 3 rfl rfl)
theorem dX0_floods_27 : decode cX0_floods 27 = .ok (.getfield 73, 3) := dk_180 0 73 (dk_at dksX0_floods_1 4 rfl rfl)
theorem dX0_floods_30 : decode cX0_floods 30 = .ok (.iload_n 1, 1) := dk_27 (dk_at dksX0_floods_1 7 rfl rfl)
theorem dX0_floods_31 : decode cX0_floods 31 = .ok (.aload_n 0, 1) := dk_42 (dk_at dksX0_floods_1 8 rfl rfl)
theorem dX0_floods_32 : decode cX0_floods 32 = .ok (.getfield 73, 3) := dk_180 0 73 (dk_at dksX0_floods_1 9 rfl rfl)
theorem dX0_floods_35 : decode cX0_floods 35 = .ok (.iload_n 1, 1) := dk_27 (dk_at dksX0_floods_1 12 rfl rfl)
theorem dX0_floods_36 : decode cX0_floods 36 = .ok (.invokevirtual 126, 3) := dk_182 0 126 (dk_at dksX0_floods_1 13 rfl rfl)
theorem dX0_floods_39 : decode cX0_floods 39 = .ok (.getfield 133, 3) := dk_180 0 133 (dk_at dksX0_floods_1 16 rfl rfl)
theorem dX0_floods_42 : decode cX0_floods 42 = .ok (.invokevirtual 285, 3) := dk_182 1 29 (dk_at dksX0_floods_1 19 rfl rfl)
theorem dX0_floods_45 : decode cX0_floods 45 = .ok (.iinc 1 1, 3) := dk_132 1 1 (dk_at dksX0_floods_2 0 rfl rfl)
theorem dX0_floods_48 : decode cX0_floods 48 = .ok (.goto (-46), 3) := dk_167 255 210 (dk_at dksX0_floods_2 3 rfl rfl)
theorem dX0_floods_51 : decode cX0_floods 51 = .ok (.return_, 1) := dk_177 (dk_at dksX0_floods_2 6 rfl rfl)
abbrev cX0_seed : ByteArray := prog_1_method_42_code
def yX0_seed : MethodName := ⟨RX0, "seed", "(I)I"⟩
def dkwX0_seed_0 : List UInt8 := [42, 180, 0, 73, 180, 1, 50, 61, 42, 180, 0, 73, 27, 181, 1, 50, 28, 172]
abbrev dktX0_seed_0 : List UInt8 := dkwX0_seed_0 ++ []
theorem dksX0_seed_0 : cX0_seed.data.toList.drop 0 = dktX0_seed_0 := by decide +kernel
theorem dX0_seed_0 : decode cX0_seed 0 = .ok (.aload_n 0, 1) := dk_42 (dk_at dksX0_seed_0 0 rfl rfl)
theorem dX0_seed_1 : decode cX0_seed 1 = .ok (.getfield 73, 3) := dk_180 0 73 (dk_at dksX0_seed_0 1 rfl rfl)
theorem dX0_seed_4 : decode cX0_seed 4 = .ok (.getfield 306, 3) := dk_180 1 50 (dk_at dksX0_seed_0 4 rfl rfl)
theorem dX0_seed_7 : decode cX0_seed 7 = .ok (.istore_n 2, 1) := dk_61 (dk_at dksX0_seed_0 7 rfl rfl)
theorem dX0_seed_8 : decode cX0_seed 8 = .ok (.aload_n 0, 1) := dk_42 (dk_at dksX0_seed_0 8 rfl rfl)
theorem dX0_seed_9 : decode cX0_seed 9 = .ok (.getfield 73, 3) := dk_180 0 73 (dk_at dksX0_seed_0 9 rfl rfl)
theorem dX0_seed_12 : decode cX0_seed 12 = .ok (.iload_n 1, 1) := dk_27 (dk_at dksX0_seed_0 12 rfl rfl)
theorem dX0_seed_13 : decode cX0_seed 13 = .ok (.putfield 306, 3) := dk_181 1 50 (dk_at dksX0_seed_0 13 rfl rfl)
theorem dX0_seed_16 : decode cX0_seed 16 = .ok (.iload_n 2, 1) := dk_28 (dk_at dksX0_seed_0 16 rfl rfl)
theorem dX0_seed_17 : decode cX0_seed 17 = .ok (.ireturn, 1) := dk_172 (dk_at dksX0_seed_0 17 rfl rfl)
abbrev cX0_sell : ByteArray := prog_1_method_43_code
def yX0_sell : MethodName := ⟨RX0, "sell", "(III)I"⟩
def dkwX0_sell_4 : List UInt8 := [42, 180, 0, 73, 180, 0, 194, 28, 46, 172]
abbrev dktX0_sell_4 : List UInt8 := dkwX0_sell_4 ++ []
def dkwX0_sell_3 : List UInt8 := [180, 0, 73, 180, 0, 194, 28, 18, 247, 42, 180, 0, 73, 180, 0, 194, 28, 46, 29, 96, 184, 0, 1, 79]
abbrev dktX0_sell_3 : List UInt8 := dkwX0_sell_3 ++ dktX0_sell_4
def dkwX0_sell_2 : List UInt8 := [162, 0, 9, 42, 6, 182, 0, 173, 172, 42, 180, 0, 73, 180, 0, 194, 27, 92, 46, 29, 100, 79, 42]
abbrev dktX0_sell_2 : List UInt8 := dkwX0_sell_2 ++ dktX0_sell_3
def dkwX0_sell_1 : List UInt8 := [184, 0, 122, 154, 0, 9, 42, 4, 182, 0, 173, 172, 42, 180, 0, 73, 180, 0, 194, 27, 46, 29]
abbrev dktX0_sell_1 : List UInt8 := dkwX0_sell_1 ++ dktX0_sell_2
def dkwX0_sell_0 : List UInt8 := [27, 184, 0, 184, 153, 0, 26, 28, 184, 0, 184, 153, 0, 19, 27, 28, 159, 0, 14, 29, 4, 17, 39, 15]
abbrev dktX0_sell_0 : List UInt8 := dkwX0_sell_0 ++ dktX0_sell_1
theorem dksX0_sell_0 : cX0_sell.data.toList.drop 0 = dktX0_sell_0 := by decide +kernel
theorem dksX0_sell_1 : cX0_sell.data.toList.drop 24 = dktX0_sell_1 := dk_seg dksX0_sell_0 24 rfl rfl
theorem dksX0_sell_2 : cX0_sell.data.toList.drop 46 = dktX0_sell_2 := dk_seg dksX0_sell_1 22 rfl rfl
theorem dksX0_sell_3 : cX0_sell.data.toList.drop 69 = dktX0_sell_3 := dk_seg dksX0_sell_2 23 rfl rfl
theorem dksX0_sell_4 : cX0_sell.data.toList.drop 93 = dktX0_sell_4 := dk_seg dksX0_sell_3 24 rfl rfl
theorem dX0_sell_0 : decode cX0_sell 0 = .ok (.iload_n 1, 1) := dk_27 (dk_at dksX0_sell_0 0 rfl rfl)
theorem dX0_sell_1 : decode cX0_sell 1 = .ok (.invokestatic 184, 3) := dk_184 0 184 (dk_at dksX0_sell_0 1 rfl rfl)
theorem dX0_sell_4 : decode cX0_sell 4 = .ok (.ifCond .eq 26, 3) := dk_153 0 26 (dk_at dksX0_sell_0 4 rfl rfl)
theorem dX0_sell_7 : decode cX0_sell 7 = .ok (.iload_n 2, 1) := dk_28 (dk_at dksX0_sell_0 7 rfl rfl)
theorem dX0_sell_8 : decode cX0_sell 8 = .ok (.invokestatic 184, 3) := dk_184 0 184 (dk_at dksX0_sell_0 8 rfl rfl)
theorem dX0_sell_11 : decode cX0_sell 11 = .ok (.ifCond .eq 19, 3) := dk_153 0 19 (dk_at dksX0_sell_0 11 rfl rfl)
theorem dX0_sell_14 : decode cX0_sell 14 = .ok (.iload_n 1, 1) := dk_27 (dk_at dksX0_sell_0 14 rfl rfl)
theorem dX0_sell_15 : decode cX0_sell 15 = .ok (.iload_n 2, 1) := dk_28 (dk_at dksX0_sell_0 15 rfl rfl)
theorem dX0_sell_16 : decode cX0_sell 16 = .ok (.if_icmp .eq 14, 3) := dk_159 0 14 (dk_at dksX0_sell_0 16 rfl rfl)
theorem dX0_sell_19 : decode cX0_sell 19 = .ok (.iload_n 3, 1) := dk_29 (dk_at dksX0_sell_0 19 rfl rfl)
theorem dX0_sell_20 : decode cX0_sell 20 = .ok (.iconst 1, 1) := dk_4 (dk_at dksX0_sell_0 20 rfl rfl)
theorem dX0_sell_21 : decode cX0_sell 21 = .ok (.sipush 9999, 3) := dk_17 39 15 (dk_at dksX0_sell_0 21 rfl rfl)
theorem dX0_sell_24 : decode cX0_sell 24 = .ok (.invokestatic 122, 3) := dk_184 0 122 (dk_at dksX0_sell_1 0 rfl rfl)
theorem dX0_sell_27 : decode cX0_sell 27 = .ok (.ifCond .ne 9, 3) := dk_154 0 9 (dk_at dksX0_sell_1 3 rfl rfl)
theorem dX0_sell_30 : decode cX0_sell 30 = .ok (.aload_n 0, 1) := dk_42 (dk_at dksX0_sell_1 6 rfl rfl)
theorem dX0_sell_31 : decode cX0_sell 31 = .ok (.iconst 1, 1) := dk_4 (dk_at dksX0_sell_1 7 rfl rfl)
theorem dX0_sell_32 : decode cX0_sell 32 = .ok (.invokevirtual 173, 3) := dk_182 0 173 (dk_at dksX0_sell_1 8 rfl rfl)
theorem dX0_sell_35 : decode cX0_sell 35 = .ok (.ireturn, 1) := dk_172 (dk_at dksX0_sell_1 11 rfl rfl)
theorem dX0_sell_36 : decode cX0_sell 36 = .ok (.aload_n 0, 1) := dk_42 (dk_at dksX0_sell_1 12 rfl rfl)
theorem dX0_sell_37 : decode cX0_sell 37 = .ok (.getfield 73, 3) := dk_180 0 73 (dk_at dksX0_sell_1 13 rfl rfl)
theorem dX0_sell_40 : decode cX0_sell 40 = .ok (.getfield 194, 3) := dk_180 0 194 (dk_at dksX0_sell_1 16 rfl rfl)
theorem dX0_sell_43 : decode cX0_sell 43 = .ok (.iload_n 1, 1) := dk_27 (dk_at dksX0_sell_1 19 rfl rfl)
theorem dX0_sell_44 : decode cX0_sell 44 = .ok (.iaload, 1) := dk_46 (dk_at dksX0_sell_1 20 rfl rfl)
theorem dX0_sell_45 : decode cX0_sell 45 = .ok (.iload_n 3, 1) := dk_29 (dk_at dksX0_sell_1 21 rfl rfl)
theorem dX0_sell_46 : decode cX0_sell 46 = .ok (.if_icmp .ge 9, 3) := dk_162 0 9 (dk_at dksX0_sell_2 0 rfl rfl)
theorem dX0_sell_49 : decode cX0_sell 49 = .ok (.aload_n 0, 1) := dk_42 (dk_at dksX0_sell_2 3 rfl rfl)
theorem dX0_sell_50 : decode cX0_sell 50 = .ok (.iconst 3, 1) := dk_6 (dk_at dksX0_sell_2 4 rfl rfl)
theorem dX0_sell_51 : decode cX0_sell 51 = .ok (.invokevirtual 173, 3) := dk_182 0 173 (dk_at dksX0_sell_2 5 rfl rfl)
theorem dX0_sell_54 : decode cX0_sell 54 = .ok (.ireturn, 1) := dk_172 (dk_at dksX0_sell_2 8 rfl rfl)
theorem dX0_sell_55 : decode cX0_sell 55 = .ok (.aload_n 0, 1) := dk_42 (dk_at dksX0_sell_2 9 rfl rfl)
theorem dX0_sell_56 : decode cX0_sell 56 = .ok (.getfield 73, 3) := dk_180 0 73 (dk_at dksX0_sell_2 10 rfl rfl)
theorem dX0_sell_59 : decode cX0_sell 59 = .ok (.getfield 194, 3) := dk_180 0 194 (dk_at dksX0_sell_2 13 rfl rfl)
theorem dX0_sell_62 : decode cX0_sell 62 = .ok (.iload_n 1, 1) := dk_27 (dk_at dksX0_sell_2 16 rfl rfl)
theorem dX0_sell_63 : decode cX0_sell 63 = .ok (.dup2, 1) := dk_92 (dk_at dksX0_sell_2 17 rfl rfl)
theorem dX0_sell_64 : decode cX0_sell 64 = .ok (.iaload, 1) := dk_46 (dk_at dksX0_sell_2 18 rfl rfl)
theorem dX0_sell_65 : decode cX0_sell 65 = .ok (.iload_n 3, 1) := dk_29 (dk_at dksX0_sell_2 19 rfl rfl)
theorem dX0_sell_66 : decode cX0_sell 66 = .ok (.isub, 1) := dk_100 (dk_at dksX0_sell_2 20 rfl rfl)
theorem dX0_sell_67 : decode cX0_sell 67 = .ok (.iastore, 1) := dk_79 (dk_at dksX0_sell_2 21 rfl rfl)
theorem dX0_sell_68 : decode cX0_sell 68 = .ok (.aload_n 0, 1) := dk_42 (dk_at dksX0_sell_2 22 rfl rfl)
theorem dX0_sell_69 : decode cX0_sell 69 = .ok (.getfield 73, 3) := dk_180 0 73 (dk_at dksX0_sell_3 0 rfl rfl)
theorem dX0_sell_72 : decode cX0_sell 72 = .ok (.getfield 194, 3) := dk_180 0 194 (dk_at dksX0_sell_3 3 rfl rfl)
theorem dX0_sell_75 : decode cX0_sell 75 = .ok (.iload_n 2, 1) := dk_28 (dk_at dksX0_sell_3 6 rfl rfl)
theorem dX0_sell_76 : decode cX0_sell 76 = .ok (.ldc 247, 2) := dk_18 247 (dk_at dksX0_sell_3 7 rfl rfl)
theorem dX0_sell_78 : decode cX0_sell 78 = .ok (.aload_n 0, 1) := dk_42 (dk_at dksX0_sell_3 9 rfl rfl)
theorem dX0_sell_79 : decode cX0_sell 79 = .ok (.getfield 73, 3) := dk_180 0 73 (dk_at dksX0_sell_3 10 rfl rfl)
theorem dX0_sell_82 : decode cX0_sell 82 = .ok (.getfield 194, 3) := dk_180 0 194 (dk_at dksX0_sell_3 13 rfl rfl)
theorem dX0_sell_85 : decode cX0_sell 85 = .ok (.iload_n 2, 1) := dk_28 (dk_at dksX0_sell_3 16 rfl rfl)
theorem dX0_sell_86 : decode cX0_sell 86 = .ok (.iaload, 1) := dk_46 (dk_at dksX0_sell_3 17 rfl rfl)
theorem dX0_sell_87 : decode cX0_sell 87 = .ok (.iload_n 3, 1) := dk_29 (dk_at dksX0_sell_3 18 rfl rfl)
theorem dX0_sell_88 : decode cX0_sell 88 = .ok (.iadd, 1) := dk_96 (dk_at dksX0_sell_3 19 rfl rfl)
theorem dX0_sell_89 : decode cX0_sell 89 = .ok (.invokestatic 1, 3) := dk_184 0 1 (dk_at dksX0_sell_3 20 rfl rfl)
theorem dX0_sell_92 : decode cX0_sell 92 = .ok (.iastore, 1) := dk_79 (dk_at dksX0_sell_3 23 rfl rfl)
theorem dX0_sell_93 : decode cX0_sell 93 = .ok (.aload_n 0, 1) := dk_42 (dk_at dksX0_sell_4 0 rfl rfl)
theorem dX0_sell_94 : decode cX0_sell 94 = .ok (.getfield 73, 3) := dk_180 0 73 (dk_at dksX0_sell_4 1 rfl rfl)
theorem dX0_sell_97 : decode cX0_sell 97 = .ok (.getfield 194, 3) := dk_180 0 194 (dk_at dksX0_sell_4 4 rfl rfl)
theorem dX0_sell_100 : decode cX0_sell 100 = .ok (.iload_n 2, 1) := dk_28 (dk_at dksX0_sell_4 7 rfl rfl)
theorem dX0_sell_101 : decode cX0_sell 101 = .ok (.iaload, 1) := dk_46 (dk_at dksX0_sell_4 8 rfl rfl)
theorem dX0_sell_102 : decode cX0_sell 102 = .ok (.ireturn, 1) := dk_172 (dk_at dksX0_sell_4 9 rfl rfl)
abbrev cX0_fair : ByteArray := prog_1_method_44_code
def yX0_fair : MethodName := ⟨RX0, "fair", "(II)I"⟩
def dkwX0_fair_2 : List UInt8 := [180, 0, 194, 28, 46, 42, 180, 0, 73, 180, 0, 188, 28, 46, 100, 100, 5, 108, 172]
abbrev dktX0_fair_2 : List UInt8 := dkwX0_fair_2 ++ []
def dkwX0_fair_1 : List UInt8 := [172, 42, 180, 0, 73, 180, 0, 194, 27, 46, 42, 180, 0, 73, 180, 0, 188, 27, 46, 100, 42, 180, 0, 73]
abbrev dktX0_fair_1 : List UInt8 := dkwX0_fair_1 ++ dktX0_fair_2
def dkwX0_fair_0 : List UInt8 := [27, 184, 0, 184, 153, 0, 15, 28, 184, 0, 184, 153, 0, 8, 27, 28, 160, 0, 9, 42, 4, 182, 0, 173]
abbrev dktX0_fair_0 : List UInt8 := dkwX0_fair_0 ++ dktX0_fair_1
theorem dksX0_fair_0 : cX0_fair.data.toList.drop 0 = dktX0_fair_0 := by decide +kernel
theorem dksX0_fair_1 : cX0_fair.data.toList.drop 24 = dktX0_fair_1 := dk_seg dksX0_fair_0 24 rfl rfl
theorem dksX0_fair_2 : cX0_fair.data.toList.drop 48 = dktX0_fair_2 := dk_seg dksX0_fair_1 24 rfl rfl
theorem dX0_fair_0 : decode cX0_fair 0 = .ok (.iload_n 1, 1) := dk_27 (dk_at dksX0_fair_0 0 rfl rfl)
theorem dX0_fair_1 : decode cX0_fair 1 = .ok (.invokestatic 184, 3) := dk_184 0 184 (dk_at dksX0_fair_0 1 rfl rfl)
theorem dX0_fair_4 : decode cX0_fair 4 = .ok (.ifCond .eq 15, 3) := dk_153 0 15 (dk_at dksX0_fair_0 4 rfl rfl)
theorem dX0_fair_7 : decode cX0_fair 7 = .ok (.iload_n 2, 1) := dk_28 (dk_at dksX0_fair_0 7 rfl rfl)
theorem dX0_fair_8 : decode cX0_fair 8 = .ok (.invokestatic 184, 3) := dk_184 0 184 (dk_at dksX0_fair_0 8 rfl rfl)
theorem dX0_fair_11 : decode cX0_fair 11 = .ok (.ifCond .eq 8, 3) := dk_153 0 8 (dk_at dksX0_fair_0 11 rfl rfl)
theorem dX0_fair_14 : decode cX0_fair 14 = .ok (.iload_n 1, 1) := dk_27 (dk_at dksX0_fair_0 14 rfl rfl)
theorem dX0_fair_15 : decode cX0_fair 15 = .ok (.iload_n 2, 1) := dk_28 (dk_at dksX0_fair_0 15 rfl rfl)
theorem dX0_fair_16 : decode cX0_fair 16 = .ok (.if_icmp .ne 9, 3) := dk_160 0 9 (dk_at dksX0_fair_0 16 rfl rfl)
theorem dX0_fair_19 : decode cX0_fair 19 = .ok (.aload_n 0, 1) := dk_42 (dk_at dksX0_fair_0 19 rfl rfl)
theorem dX0_fair_20 : decode cX0_fair 20 = .ok (.iconst 1, 1) := dk_4 (dk_at dksX0_fair_0 20 rfl rfl)
theorem dX0_fair_21 : decode cX0_fair 21 = .ok (.invokevirtual 173, 3) := dk_182 0 173 (dk_at dksX0_fair_0 21 rfl rfl)
theorem dX0_fair_24 : decode cX0_fair 24 = .ok (.ireturn, 1) := dk_172 (dk_at dksX0_fair_1 0 rfl rfl)
theorem dX0_fair_25 : decode cX0_fair 25 = .ok (.aload_n 0, 1) := dk_42 (dk_at dksX0_fair_1 1 rfl rfl)
theorem dX0_fair_26 : decode cX0_fair 26 = .ok (.getfield 73, 3) := dk_180 0 73 (dk_at dksX0_fair_1 2 rfl rfl)
theorem dX0_fair_29 : decode cX0_fair 29 = .ok (.getfield 194, 3) := dk_180 0 194 (dk_at dksX0_fair_1 5 rfl rfl)
theorem dX0_fair_32 : decode cX0_fair 32 = .ok (.iload_n 1, 1) := dk_27 (dk_at dksX0_fair_1 8 rfl rfl)
theorem dX0_fair_33 : decode cX0_fair 33 = .ok (.iaload, 1) := dk_46 (dk_at dksX0_fair_1 9 rfl rfl)
theorem dX0_fair_34 : decode cX0_fair 34 = .ok (.aload_n 0, 1) := dk_42 (dk_at dksX0_fair_1 10 rfl rfl)
theorem dX0_fair_35 : decode cX0_fair 35 = .ok (.getfield 73, 3) := dk_180 0 73 (dk_at dksX0_fair_1 11 rfl rfl)
theorem dX0_fair_38 : decode cX0_fair 38 = .ok (.getfield 188, 3) := dk_180 0 188 (dk_at dksX0_fair_1 14 rfl rfl)
theorem dX0_fair_41 : decode cX0_fair 41 = .ok (.iload_n 1, 1) := dk_27 (dk_at dksX0_fair_1 17 rfl rfl)
theorem dX0_fair_42 : decode cX0_fair 42 = .ok (.iaload, 1) := dk_46 (dk_at dksX0_fair_1 18 rfl rfl)
theorem dX0_fair_43 : decode cX0_fair 43 = .ok (.isub, 1) := dk_100 (dk_at dksX0_fair_1 19 rfl rfl)
theorem dX0_fair_44 : decode cX0_fair 44 = .ok (.aload_n 0, 1) := dk_42 (dk_at dksX0_fair_1 20 rfl rfl)
theorem dX0_fair_45 : decode cX0_fair 45 = .ok (.getfield 73, 3) := dk_180 0 73 (dk_at dksX0_fair_1 21 rfl rfl)
theorem dX0_fair_48 : decode cX0_fair 48 = .ok (.getfield 194, 3) := dk_180 0 194 (dk_at dksX0_fair_2 0 rfl rfl)
theorem dX0_fair_51 : decode cX0_fair 51 = .ok (.iload_n 2, 1) := dk_28 (dk_at dksX0_fair_2 3 rfl rfl)
theorem dX0_fair_52 : decode cX0_fair 52 = .ok (.iaload, 1) := dk_46 (dk_at dksX0_fair_2 4 rfl rfl)
theorem dX0_fair_53 : decode cX0_fair 53 = .ok (.aload_n 0, 1) := dk_42 (dk_at dksX0_fair_2 5 rfl rfl)
theorem dX0_fair_54 : decode cX0_fair 54 = .ok (.getfield 73, 3) := dk_180 0 73 (dk_at dksX0_fair_2 6 rfl rfl)
theorem dX0_fair_57 : decode cX0_fair 57 = .ok (.getfield 188, 3) := dk_180 0 188 (dk_at dksX0_fair_2 9 rfl rfl)
theorem dX0_fair_60 : decode cX0_fair 60 = .ok (.iload_n 2, 1) := dk_28 (dk_at dksX0_fair_2 12 rfl rfl)
theorem dX0_fair_61 : decode cX0_fair 61 = .ok (.iaload, 1) := dk_46 (dk_at dksX0_fair_2 13 rfl rfl)
theorem dX0_fair_62 : decode cX0_fair 62 = .ok (.isub, 1) := dk_100 (dk_at dksX0_fair_2 14 rfl rfl)
theorem dX0_fair_63 : decode cX0_fair 63 = .ok (.isub, 1) := dk_100 (dk_at dksX0_fair_2 15 rfl rfl)
theorem dX0_fair_64 : decode cX0_fair 64 = .ok (.iconst 2, 1) := dk_5 (dk_at dksX0_fair_2 16 rfl rfl)
theorem dX0_fair_65 : decode cX0_fair 65 = .ok (.idiv, 1) := dk_108 (dk_at dksX0_fair_2 17 rfl rfl)
theorem dX0_fair_66 : decode cX0_fair 66 = .ok (.ireturn, 1) := dk_172 (dk_at dksX0_fair_2 18 rfl rfl)
abbrev cX0_then : ByteArray := prog_1_method_48_code
def yX0_then : MethodName := ⟨RX0, "then", "(III)I"⟩
def dkwX0_then_2 : List UInt8 := [182, 0, 234, 54, 5, 42, 182, 1, 57, 21, 5, 172]
abbrev dktX0_then_2 : List UInt8 := dkwX0_then_2 ++ []
def dkwX0_then_1 : List UInt8 := [154, 0, 9, 42, 4, 182, 0, 173, 172, 42, 182, 1, 63, 42, 27, 182, 1, 38, 54, 4, 42, 28, 29]
abbrev dktX0_then_1 : List UInt8 := dkwX0_then_1 ++ dktX0_then_2
def dkwX0_then_0 : List UInt8 := [27, 184, 1, 60, 153, 0, 21, 42, 28, 182, 0, 231, 153, 0, 13, 29, 3, 16, 9, 184, 0, 122]
abbrev dktX0_then_0 : List UInt8 := dkwX0_then_0 ++ dktX0_then_1
theorem dksX0_then_0 : cX0_then.data.toList.drop 0 = dktX0_then_0 := by decide +kernel
theorem dksX0_then_1 : cX0_then.data.toList.drop 22 = dktX0_then_1 := dk_seg dksX0_then_0 22 rfl rfl
theorem dksX0_then_2 : cX0_then.data.toList.drop 45 = dktX0_then_2 := dk_seg dksX0_then_1 23 rfl rfl
theorem dX0_then_0 : decode cX0_then 0 = .ok (.iload_n 1, 1) := dk_27 (dk_at dksX0_then_0 0 rfl rfl)
theorem dX0_then_1 : decode cX0_then 1 = .ok (.invokestatic 316, 3) := dk_184 1 60 (dk_at dksX0_then_0 1 rfl rfl)
theorem dX0_then_4 : decode cX0_then 4 = .ok (.ifCond .eq 21, 3) := dk_153 0 21 (dk_at dksX0_then_0 4 rfl rfl)
theorem dX0_then_7 : decode cX0_then 7 = .ok (.aload_n 0, 1) := dk_42 (dk_at dksX0_then_0 7 rfl rfl)
theorem dX0_then_8 : decode cX0_then 8 = .ok (.iload_n 2, 1) := dk_28 (dk_at dksX0_then_0 8 rfl rfl)
theorem dX0_then_9 : decode cX0_then 9 = .ok (.invokevirtual 231, 3) := dk_182 0 231 (dk_at dksX0_then_0 9 rfl rfl)
theorem dX0_then_12 : decode cX0_then 12 = .ok (.ifCond .eq 13, 3) := dk_153 0 13 (dk_at dksX0_then_0 12 rfl rfl)
theorem dX0_then_15 : decode cX0_then 15 = .ok (.iload_n 3, 1) := dk_29 (dk_at dksX0_then_0 15 rfl rfl)
theorem dX0_then_16 : decode cX0_then 16 = .ok (.iconst 0, 1) := dk_3 (dk_at dksX0_then_0 16 rfl rfl)
theorem dX0_then_17 : decode cX0_then 17 = .ok (.bipush 9, 2) := dk_16 9 (dk_at dksX0_then_0 17 rfl rfl)
theorem dX0_then_19 : decode cX0_then 19 = .ok (.invokestatic 122, 3) := dk_184 0 122 (dk_at dksX0_then_0 19 rfl rfl)
theorem dX0_then_22 : decode cX0_then 22 = .ok (.ifCond .ne 9, 3) := dk_154 0 9 (dk_at dksX0_then_1 0 rfl rfl)
theorem dX0_then_25 : decode cX0_then 25 = .ok (.aload_n 0, 1) := dk_42 (dk_at dksX0_then_1 3 rfl rfl)
theorem dX0_then_26 : decode cX0_then 26 = .ok (.iconst 1, 1) := dk_4 (dk_at dksX0_then_1 4 rfl rfl)
theorem dX0_then_27 : decode cX0_then 27 = .ok (.invokevirtual 173, 3) := dk_182 0 173 (dk_at dksX0_then_1 5 rfl rfl)
theorem dX0_then_30 : decode cX0_then 30 = .ok (.ireturn, 1) := dk_172 (dk_at dksX0_then_1 8 rfl rfl)
theorem dX0_then_31 : decode cX0_then 31 = .ok (.aload_n 0, 1) := dk_42 (dk_at dksX0_then_1 9 rfl rfl)
theorem dX0_then_32 : decode cX0_then 32 = .ok (.invokevirtual 319, 3) := dk_182 1 63 (dk_at dksX0_then_1 10 rfl rfl)
theorem dX0_then_35 : decode cX0_then 35 = .ok (.aload_n 0, 1) := dk_42 (dk_at dksX0_then_1 13 rfl rfl)
theorem dX0_then_36 : decode cX0_then 36 = .ok (.iload_n 1, 1) := dk_27 (dk_at dksX0_then_1 14 rfl rfl)
theorem dX0_then_37 : decode cX0_then 37 = .ok (.invokevirtual 294, 3) := dk_182 1 38 (dk_at dksX0_then_1 15 rfl rfl)
theorem dX0_then_40 : decode cX0_then 40 = .ok (.istore 4, 2) := dk_54 4 (dk_at dksX0_then_1 18 rfl rfl)
theorem dX0_then_42 : decode cX0_then 42 = .ok (.aload_n 0, 1) := dk_42 (dk_at dksX0_then_1 20 rfl rfl)
theorem dX0_then_43 : decode cX0_then 43 = .ok (.iload_n 2, 1) := dk_28 (dk_at dksX0_then_1 21 rfl rfl)
theorem dX0_then_44 : decode cX0_then 44 = .ok (.iload_n 3, 1) := dk_29 (dk_at dksX0_then_1 22 rfl rfl)
theorem dX0_then_45 : decode cX0_then 45 = .ok (.invokevirtual 234, 3) := dk_182 0 234 (dk_at dksX0_then_2 0 rfl rfl)
theorem dX0_then_48 : decode cX0_then 48 = .ok (.istore 5, 2) := dk_54 5 (dk_at dksX0_then_2 3 rfl rfl)
theorem dX0_then_50 : decode cX0_then 50 = .ok (.aload_n 0, 1) := dk_42 (dk_at dksX0_then_2 5 rfl rfl)
theorem dX0_then_51 : decode cX0_then 51 = .ok (.invokevirtual 313, 3) := dk_182 1 57 (dk_at dksX0_then_2 6 rfl rfl)
theorem dX0_then_54 : decode cX0_then 54 = .ok (.iload 5, 2) := dk_21 5 (dk_at dksX0_then_2 9 rfl rfl)
theorem dX0_then_56 : decode cX0_then 56 = .ok (.ireturn, 1) := dk_172 (dk_at dksX0_then_2 11 rfl rfl)
abbrev cX0_isAhead : ByteArray := prog_1_method_45_code
def yX0_isAhead : MethodName := ⟨RX0, "isAhead", "(I)Z"⟩
def dkwX0_isAhead_0 : List UInt8 := [26, 3, 17, 0, 240, 184, 0, 122, 172]
abbrev dktX0_isAhead_0 : List UInt8 := dkwX0_isAhead_0 ++ []
theorem dksX0_isAhead_0 : cX0_isAhead.data.toList.drop 0 = dktX0_isAhead_0 := by decide +kernel
theorem dX0_isAhead_0 : decode cX0_isAhead 0 = .ok (.iload_n 0, 1) := dk_26 (dk_at dksX0_isAhead_0 0 rfl rfl)
theorem dX0_isAhead_1 : decode cX0_isAhead 1 = .ok (.iconst 0, 1) := dk_3 (dk_at dksX0_isAhead_0 1 rfl rfl)
theorem dX0_isAhead_2 : decode cX0_isAhead 2 = .ok (.sipush 240, 3) := dk_17 0 240 (dk_at dksX0_isAhead_0 2 rfl rfl)
theorem dX0_isAhead_5 : decode cX0_isAhead 5 = .ok (.invokestatic 122, 3) := dk_184 0 122 (dk_at dksX0_isAhead_0 5 rfl rfl)
theorem dX0_isAhead_8 : decode cX0_isAhead 8 = .ok (.ireturn, 1) := dk_172 (dk_at dksX0_isAhead_0 8 rfl rfl)
abbrev cX0_begins : ByteArray := prog_1_method_47_code
def yX0_begins : MethodName := ⟨RX0, "begins", "()V"⟩
def dkwX0_begins_0 : List UInt8 := [42, 180, 0, 77, 42, 180, 0, 73, 182, 1, 53, 42, 182, 1, 57, 177]
abbrev dktX0_begins_0 : List UInt8 := dkwX0_begins_0 ++ []
theorem dksX0_begins_0 : cX0_begins.data.toList.drop 0 = dktX0_begins_0 := by decide +kernel
theorem dX0_begins_0 : decode cX0_begins 0 = .ok (.aload_n 0, 1) := dk_42 (dk_at dksX0_begins_0 0 rfl rfl)
theorem dX0_begins_1 : decode cX0_begins 1 = .ok (.getfield 77, 3) := dk_180 0 77 (dk_at dksX0_begins_0 1 rfl rfl)
theorem dX0_begins_4 : decode cX0_begins 4 = .ok (.aload_n 0, 1) := dk_42 (dk_at dksX0_begins_0 4 rfl rfl)
theorem dX0_begins_5 : decode cX0_begins 5 = .ok (.getfield 73, 3) := dk_180 0 73 (dk_at dksX0_begins_0 5 rfl rfl)
theorem dX0_begins_8 : decode cX0_begins 8 = .ok (.invokevirtual 309, 3) := dk_182 1 53 (dk_at dksX0_begins_0 8 rfl rfl)
theorem dX0_begins_11 : decode cX0_begins 11 = .ok (.aload_n 0, 1) := dk_42 (dk_at dksX0_begins_0 11 rfl rfl)
theorem dX0_begins_12 : decode cX0_begins 12 = .ok (.invokevirtual 313, 3) := dk_182 1 57 (dk_at dksX0_begins_0 12 rfl rfl)
theorem dX0_begins_15 : decode cX0_begins 15 = .ok (.return_, 1) := dk_177 (dk_at dksX0_begins_0 15 rfl rfl)
abbrev cX0_swaps : ByteArray := prog_1_method_46_code
def yX0_swaps : MethodName := ⟨RX0, "swaps", "()V"⟩
def dkwX0_swaps_0 : List UInt8 := [42, 180, 0, 73, 76, 42, 42, 180, 0, 77, 181, 0, 73, 42, 43, 181, 0, 77, 177]
abbrev dktX0_swaps_0 : List UInt8 := dkwX0_swaps_0 ++ []
theorem dksX0_swaps_0 : cX0_swaps.data.toList.drop 0 = dktX0_swaps_0 := by decide +kernel
theorem dX0_swaps_0 : decode cX0_swaps 0 = .ok (.aload_n 0, 1) := dk_42 (dk_at dksX0_swaps_0 0 rfl rfl)
theorem dX0_swaps_1 : decode cX0_swaps 1 = .ok (.getfield 73, 3) := dk_180 0 73 (dk_at dksX0_swaps_0 1 rfl rfl)
theorem dX0_swaps_4 : decode cX0_swaps 4 = .ok (.astore_n 1, 1) := dk_76 (dk_at dksX0_swaps_0 4 rfl rfl)
theorem dX0_swaps_5 : decode cX0_swaps 5 = .ok (.aload_n 0, 1) := dk_42 (dk_at dksX0_swaps_0 5 rfl rfl)
theorem dX0_swaps_6 : decode cX0_swaps 6 = .ok (.aload_n 0, 1) := dk_42 (dk_at dksX0_swaps_0 6 rfl rfl)
theorem dX0_swaps_7 : decode cX0_swaps 7 = .ok (.getfield 77, 3) := dk_180 0 77 (dk_at dksX0_swaps_0 7 rfl rfl)
theorem dX0_swaps_10 : decode cX0_swaps 10 = .ok (.putfield 73, 3) := dk_181 0 73 (dk_at dksX0_swaps_0 10 rfl rfl)
theorem dX0_swaps_13 : decode cX0_swaps 13 = .ok (.aload_n 0, 1) := dk_42 (dk_at dksX0_swaps_0 13 rfl rfl)
theorem dX0_swaps_14 : decode cX0_swaps 14 = .ok (.aload_n 1, 1) := dk_43 (dk_at dksX0_swaps_0 14 rfl rfl)
theorem dX0_swaps_15 : decode cX0_swaps 15 = .ok (.putfield 77, 3) := dk_181 0 77 (dk_at dksX0_swaps_0 15 rfl rfl)
theorem dX0_swaps_18 : decode cX0_swaps 18 = .ok (.return_, 1) := dk_177 (dk_at dksX0_swaps_0 18 rfl rfl)
abbrev cX0_thenFamily : ByteArray := prog_1_method_49_code
def yX0_thenFamily : MethodName := ⟨RX0, "thenFamily", "(III)I"⟩
def dkwX0_thenFamily_2 : List UInt8 := [42, 182, 1, 57, 21, 5, 172]
abbrev dktX0_thenFamily_2 : List UInt8 := dkwX0_thenFamily_2 ++ []
def dkwX0_thenFamily_1 : List UInt8 := [4, 182, 0, 173, 172, 42, 182, 1, 63, 42, 27, 182, 1, 38, 54, 4, 42, 28, 29, 182, 0, 203, 54, 5]
abbrev dktX0_thenFamily_1 : List UInt8 := dkwX0_thenFamily_1 ++ dktX0_thenFamily_2
def dkwX0_thenFamily_0 : List UInt8 := [27, 184, 1, 60, 153, 0, 19, 28, 184, 0, 184, 153, 0, 12, 29, 3, 6, 184, 0, 122, 154, 0, 9, 42]
abbrev dktX0_thenFamily_0 : List UInt8 := dkwX0_thenFamily_0 ++ dktX0_thenFamily_1
theorem dksX0_thenFamily_0 : cX0_thenFamily.data.toList.drop 0 = dktX0_thenFamily_0 := by decide +kernel
theorem dksX0_thenFamily_1 : cX0_thenFamily.data.toList.drop 24 = dktX0_thenFamily_1 := dk_seg dksX0_thenFamily_0 24 rfl rfl
theorem dksX0_thenFamily_2 : cX0_thenFamily.data.toList.drop 48 = dktX0_thenFamily_2 := dk_seg dksX0_thenFamily_1 24 rfl rfl
theorem dX0_thenFamily_0 : decode cX0_thenFamily 0 = .ok (.iload_n 1, 1) := dk_27 (dk_at dksX0_thenFamily_0 0 rfl rfl)
theorem dX0_thenFamily_1 : decode cX0_thenFamily 1 = .ok (.invokestatic 316, 3) := dk_184 1 60 (dk_at dksX0_thenFamily_0 1 rfl rfl)
theorem dX0_thenFamily_4 : decode cX0_thenFamily 4 = .ok (.ifCond .eq 19, 3) := dk_153 0 19 (dk_at dksX0_thenFamily_0 4 rfl rfl)
theorem dX0_thenFamily_7 : decode cX0_thenFamily 7 = .ok (.iload_n 2, 1) := dk_28 (dk_at dksX0_thenFamily_0 7 rfl rfl)
theorem dX0_thenFamily_8 : decode cX0_thenFamily 8 = .ok (.invokestatic 184, 3) := dk_184 0 184 (dk_at dksX0_thenFamily_0 8 rfl rfl)
theorem dX0_thenFamily_11 : decode cX0_thenFamily 11 = .ok (.ifCond .eq 12, 3) := dk_153 0 12 (dk_at dksX0_thenFamily_0 11 rfl rfl)
theorem dX0_thenFamily_14 : decode cX0_thenFamily 14 = .ok (.iload_n 3, 1) := dk_29 (dk_at dksX0_thenFamily_0 14 rfl rfl)
theorem dX0_thenFamily_15 : decode cX0_thenFamily 15 = .ok (.iconst 0, 1) := dk_3 (dk_at dksX0_thenFamily_0 15 rfl rfl)
theorem dX0_thenFamily_16 : decode cX0_thenFamily 16 = .ok (.iconst 3, 1) := dk_6 (dk_at dksX0_thenFamily_0 16 rfl rfl)
theorem dX0_thenFamily_17 : decode cX0_thenFamily 17 = .ok (.invokestatic 122, 3) := dk_184 0 122 (dk_at dksX0_thenFamily_0 17 rfl rfl)
theorem dX0_thenFamily_20 : decode cX0_thenFamily 20 = .ok (.ifCond .ne 9, 3) := dk_154 0 9 (dk_at dksX0_thenFamily_0 20 rfl rfl)
theorem dX0_thenFamily_23 : decode cX0_thenFamily 23 = .ok (.aload_n 0, 1) := dk_42 (dk_at dksX0_thenFamily_0 23 rfl rfl)
theorem dX0_thenFamily_24 : decode cX0_thenFamily 24 = .ok (.iconst 1, 1) := dk_4 (dk_at dksX0_thenFamily_1 0 rfl rfl)
theorem dX0_thenFamily_25 : decode cX0_thenFamily 25 = .ok (.invokevirtual 173, 3) := dk_182 0 173 (dk_at dksX0_thenFamily_1 1 rfl rfl)
theorem dX0_thenFamily_28 : decode cX0_thenFamily 28 = .ok (.ireturn, 1) := dk_172 (dk_at dksX0_thenFamily_1 4 rfl rfl)
theorem dX0_thenFamily_29 : decode cX0_thenFamily 29 = .ok (.aload_n 0, 1) := dk_42 (dk_at dksX0_thenFamily_1 5 rfl rfl)
theorem dX0_thenFamily_30 : decode cX0_thenFamily 30 = .ok (.invokevirtual 319, 3) := dk_182 1 63 (dk_at dksX0_thenFamily_1 6 rfl rfl)
theorem dX0_thenFamily_33 : decode cX0_thenFamily 33 = .ok (.aload_n 0, 1) := dk_42 (dk_at dksX0_thenFamily_1 9 rfl rfl)
theorem dX0_thenFamily_34 : decode cX0_thenFamily 34 = .ok (.iload_n 1, 1) := dk_27 (dk_at dksX0_thenFamily_1 10 rfl rfl)
theorem dX0_thenFamily_35 : decode cX0_thenFamily 35 = .ok (.invokevirtual 294, 3) := dk_182 1 38 (dk_at dksX0_thenFamily_1 11 rfl rfl)
theorem dX0_thenFamily_38 : decode cX0_thenFamily 38 = .ok (.istore 4, 2) := dk_54 4 (dk_at dksX0_thenFamily_1 14 rfl rfl)
theorem dX0_thenFamily_40 : decode cX0_thenFamily 40 = .ok (.aload_n 0, 1) := dk_42 (dk_at dksX0_thenFamily_1 16 rfl rfl)
theorem dX0_thenFamily_41 : decode cX0_thenFamily 41 = .ok (.iload_n 2, 1) := dk_28 (dk_at dksX0_thenFamily_1 17 rfl rfl)
theorem dX0_thenFamily_42 : decode cX0_thenFamily 42 = .ok (.iload_n 3, 1) := dk_29 (dk_at dksX0_thenFamily_1 18 rfl rfl)
theorem dX0_thenFamily_43 : decode cX0_thenFamily 43 = .ok (.invokevirtual 203, 3) := dk_182 0 203 (dk_at dksX0_thenFamily_1 19 rfl rfl)
theorem dX0_thenFamily_46 : decode cX0_thenFamily 46 = .ok (.istore 5, 2) := dk_54 5 (dk_at dksX0_thenFamily_1 22 rfl rfl)
theorem dX0_thenFamily_48 : decode cX0_thenFamily 48 = .ok (.aload_n 0, 1) := dk_42 (dk_at dksX0_thenFamily_2 0 rfl rfl)
theorem dX0_thenFamily_49 : decode cX0_thenFamily 49 = .ok (.invokevirtual 313, 3) := dk_182 1 57 (dk_at dksX0_thenFamily_2 1 rfl rfl)
theorem dX0_thenFamily_52 : decode cX0_thenFamily 52 = .ok (.iload 5, 2) := dk_21 5 (dk_at dksX0_thenFamily_2 4 rfl rfl)
theorem dX0_thenFamily_54 : decode cX0_thenFamily 54 = .ok (.ireturn, 1) := dk_172 (dk_at dksX0_thenFamily_2 6 rfl rfl)
abbrev cX0_when : ByteArray := prog_1_method_50_code
def yX0_when : MethodName := ⟨RX0, "when", "(II)I"⟩
def dkwX0_when_3 : List UInt8 := [153, 0, 7, 29, 167, 0, 8, 42, 5, 182, 0, 173, 172]
abbrev dktX0_when_3 : List UInt8 := dkwX0_when_3 ++ []
def dkwX0_when_2 : List UInt8 := [132, 3, 1, 167, 255, 231, 42, 180, 0, 73, 27, 182, 0, 197, 54, 4, 42, 182, 1, 57, 21, 4]
abbrev dktX0_when_2 : List UInt8 := dkwX0_when_2 ++ dktX0_when_3
def dkwX0_when_1 : List UInt8 := [3, 62, 29, 28, 162, 0, 26, 42, 180, 0, 73, 27, 182, 0, 197, 154, 0, 15, 42, 182, 1, 35, 54, 4]
abbrev dktX0_when_1 : List UInt8 := dkwX0_when_1 ++ dktX0_when_2
def dkwX0_when_0 : List UInt8 := [27, 184, 0, 184, 153, 0, 10, 28, 184, 1, 60, 154, 0, 9, 42, 4, 182, 0, 173, 172, 42, 182, 1, 63]
abbrev dktX0_when_0 : List UInt8 := dkwX0_when_0 ++ dktX0_when_1
theorem dksX0_when_0 : cX0_when.data.toList.drop 0 = dktX0_when_0 := by decide +kernel
theorem dksX0_when_1 : cX0_when.data.toList.drop 24 = dktX0_when_1 := dk_seg dksX0_when_0 24 rfl rfl
theorem dksX0_when_2 : cX0_when.data.toList.drop 48 = dktX0_when_2 := dk_seg dksX0_when_1 24 rfl rfl
theorem dksX0_when_3 : cX0_when.data.toList.drop 70 = dktX0_when_3 := dk_seg dksX0_when_2 22 rfl rfl
theorem dX0_when_0 : decode cX0_when 0 = .ok (.iload_n 1, 1) := dk_27 (dk_at dksX0_when_0 0 rfl rfl)
theorem dX0_when_1 : decode cX0_when 1 = .ok (.invokestatic 184, 3) := dk_184 0 184 (dk_at dksX0_when_0 1 rfl rfl)
theorem dX0_when_4 : decode cX0_when 4 = .ok (.ifCond .eq 10, 3) := dk_153 0 10 (dk_at dksX0_when_0 4 rfl rfl)
theorem dX0_when_7 : decode cX0_when 7 = .ok (.iload_n 2, 1) := dk_28 (dk_at dksX0_when_0 7 rfl rfl)
theorem dX0_when_8 : decode cX0_when 8 = .ok (.invokestatic 316, 3) := dk_184 1 60 (dk_at dksX0_when_0 8 rfl rfl)
theorem dX0_when_11 : decode cX0_when 11 = .ok (.ifCond .ne 9, 3) := dk_154 0 9 (dk_at dksX0_when_0 11 rfl rfl)
theorem dX0_when_14 : decode cX0_when 14 = .ok (.aload_n 0, 1) := dk_42 (dk_at dksX0_when_0 14 rfl rfl)
theorem dX0_when_15 : decode cX0_when 15 = .ok (.iconst 1, 1) := dk_4 (dk_at dksX0_when_0 15 rfl rfl)
theorem dX0_when_16 : decode cX0_when 16 = .ok (.invokevirtual 173, 3) := dk_182 0 173 (dk_at dksX0_when_0 16 rfl rfl)
theorem dX0_when_19 : decode cX0_when 19 = .ok (.ireturn, 1) := dk_172 (dk_at dksX0_when_0 19 rfl rfl)
theorem dX0_when_20 : decode cX0_when 20 = .ok (.aload_n 0, 1) := dk_42 (dk_at dksX0_when_0 20 rfl rfl)
theorem dX0_when_21 : decode cX0_when 21 = .ok (.invokevirtual 319, 3) := dk_182 1 63 (dk_at dksX0_when_0 21 rfl rfl)
theorem dX0_when_24 : decode cX0_when 24 = .ok (.iconst 0, 1) := dk_3 (dk_at dksX0_when_1 0 rfl rfl)
theorem dX0_when_25 : decode cX0_when 25 = .ok (.istore_n 3, 1) := dk_62 (dk_at dksX0_when_1 1 rfl rfl)
theorem dX0_when_26 : decode cX0_when 26 = .ok (.iload_n 3, 1) := dk_29 (dk_at dksX0_when_1 2 rfl rfl)
theorem dX0_when_27 : decode cX0_when 27 = .ok (.iload_n 2, 1) := dk_28 (dk_at dksX0_when_1 3 rfl rfl)
theorem dX0_when_28 : decode cX0_when 28 = .ok (.if_icmp .ge 26, 3) := dk_162 0 26 (dk_at dksX0_when_1 4 rfl rfl)
theorem dX0_when_31 : decode cX0_when 31 = .ok (.aload_n 0, 1) := dk_42 (dk_at dksX0_when_1 7 rfl rfl)
theorem dX0_when_32 : decode cX0_when 32 = .ok (.getfield 73, 3) := dk_180 0 73 (dk_at dksX0_when_1 8 rfl rfl)
theorem dX0_when_35 : decode cX0_when 35 = .ok (.iload_n 1, 1) := dk_27 (dk_at dksX0_when_1 11 rfl rfl)
theorem dX0_when_36 : decode cX0_when 36 = .ok (.invokevirtual 197, 3) := dk_182 0 197 (dk_at dksX0_when_1 12 rfl rfl)
theorem dX0_when_39 : decode cX0_when 39 = .ok (.ifCond .ne 15, 3) := dk_154 0 15 (dk_at dksX0_when_1 15 rfl rfl)
theorem dX0_when_42 : decode cX0_when 42 = .ok (.aload_n 0, 1) := dk_42 (dk_at dksX0_when_1 18 rfl rfl)
theorem dX0_when_43 : decode cX0_when 43 = .ok (.invokevirtual 291, 3) := dk_182 1 35 (dk_at dksX0_when_1 19 rfl rfl)
theorem dX0_when_46 : decode cX0_when 46 = .ok (.istore 4, 2) := dk_54 4 (dk_at dksX0_when_1 22 rfl rfl)
theorem dX0_when_48 : decode cX0_when 48 = .ok (.iinc 3 1, 3) := dk_132 3 1 (dk_at dksX0_when_2 0 rfl rfl)
theorem dX0_when_51 : decode cX0_when 51 = .ok (.goto (-25), 3) := dk_167 255 231 (dk_at dksX0_when_2 3 rfl rfl)
theorem dX0_when_54 : decode cX0_when 54 = .ok (.aload_n 0, 1) := dk_42 (dk_at dksX0_when_2 6 rfl rfl)
theorem dX0_when_55 : decode cX0_when 55 = .ok (.getfield 73, 3) := dk_180 0 73 (dk_at dksX0_when_2 7 rfl rfl)
theorem dX0_when_58 : decode cX0_when 58 = .ok (.iload_n 1, 1) := dk_27 (dk_at dksX0_when_2 10 rfl rfl)
theorem dX0_when_59 : decode cX0_when 59 = .ok (.invokevirtual 197, 3) := dk_182 0 197 (dk_at dksX0_when_2 11 rfl rfl)
theorem dX0_when_62 : decode cX0_when 62 = .ok (.istore 4, 2) := dk_54 4 (dk_at dksX0_when_2 14 rfl rfl)
theorem dX0_when_64 : decode cX0_when 64 = .ok (.aload_n 0, 1) := dk_42 (dk_at dksX0_when_2 16 rfl rfl)
theorem dX0_when_65 : decode cX0_when 65 = .ok (.invokevirtual 313, 3) := dk_182 1 57 (dk_at dksX0_when_2 17 rfl rfl)
theorem dX0_when_68 : decode cX0_when 68 = .ok (.iload 4, 2) := dk_21 4 (dk_at dksX0_when_2 20 rfl rfl)
theorem dX0_when_70 : decode cX0_when 70 = .ok (.ifCond .eq 7, 3) := dk_153 0 7 (dk_at dksX0_when_3 0 rfl rfl)
theorem dX0_when_73 : decode cX0_when 73 = .ok (.iload_n 3, 1) := dk_29 (dk_at dksX0_when_3 3 rfl rfl)
theorem dX0_when_74 : decode cX0_when 74 = .ok (.goto 8, 3) := dk_167 0 8 (dk_at dksX0_when_3 4 rfl rfl)
theorem dX0_when_77 : decode cX0_when 77 = .ok (.aload_n 0, 1) := dk_42 (dk_at dksX0_when_3 7 rfl rfl)
theorem dX0_when_78 : decode cX0_when 78 = .ok (.iconst 2, 1) := dk_5 (dk_at dksX0_when_3 8 rfl rfl)
theorem dX0_when_79 : decode cX0_when 79 = .ok (.invokevirtual 173, 3) := dk_182 0 173 (dk_at dksX0_when_3 9 rfl rfl)
theorem dX0_when_82 : decode cX0_when 82 = .ok (.ireturn, 1) := dk_172 (dk_at dksX0_when_3 12 rfl rfl)
abbrev cX0_sluices : ByteArray := prog_1_method_52_code
def yX0_sluices : MethodName := ⟨RX0, "sluices", "(II)I"⟩
def dkwX0_sluices_5 : List UInt8 := [182, 0, 173, 172, 28, 154, 0, 7, 29, 167, 0, 5, 21, 4, 172]
abbrev dktX0_sluices_5 : List UInt8 := dkwX0_sluices_5 ++ []
def dkwX0_sluices_4 : List UInt8 := [167, 0, 10, 21, 5, 62, 21, 6, 54, 4, 132, 5, 1, 167, 255, 182, 29, 2, 160, 0, 9, 42, 5]
abbrev dktX0_sluices_4 : List UInt8 := dkwX0_sluices_4 ++ dktX0_sluices_5
def dkwX0_sluices_3 : List UInt8 := [54, 7, 42, 182, 1, 57, 21, 7, 153, 0, 25, 29, 2, 159, 0, 13, 21, 6, 21, 4, 161, 0, 6]
abbrev dktX0_sluices_3 : List UInt8 := dkwX0_sluices_3 ++ dktX0_sluices_4
def dkwX0_sluices_2 : List UInt8 := [182, 1, 63, 42, 21, 5, 182, 1, 66, 42, 27, 182, 1, 38, 54, 6, 42, 180, 0, 73, 182, 1, 70]
abbrev dktX0_sluices_2 : List UInt8 := dkwX0_sluices_2 ++ dktX0_sluices_3
def dkwX0_sluices_1 : List UInt8 := [172, 2, 62, 3, 54, 4, 3, 54, 5, 21, 5, 4, 42, 180, 0, 73, 180, 0, 119, 120, 162, 0, 66, 42]
abbrev dktX0_sluices_1 : List UInt8 := dkwX0_sluices_1 ++ dktX0_sluices_2
def dkwX0_sluices_0 : List UInt8 := [27, 4, 16, 6, 184, 0, 122, 153, 0, 12, 28, 3, 4, 184, 0, 122, 154, 0, 9, 42, 4, 182, 0, 173]
abbrev dktX0_sluices_0 : List UInt8 := dkwX0_sluices_0 ++ dktX0_sluices_1
theorem dksX0_sluices_0 : cX0_sluices.data.toList.drop 0 = dktX0_sluices_0 := by decide +kernel
theorem dksX0_sluices_1 : cX0_sluices.data.toList.drop 24 = dktX0_sluices_1 := dk_seg dksX0_sluices_0 24 rfl rfl
theorem dksX0_sluices_2 : cX0_sluices.data.toList.drop 48 = dktX0_sluices_2 := dk_seg dksX0_sluices_1 24 rfl rfl
theorem dksX0_sluices_3 : cX0_sluices.data.toList.drop 71 = dktX0_sluices_3 := dk_seg dksX0_sluices_2 23 rfl rfl
theorem dksX0_sluices_4 : cX0_sluices.data.toList.drop 94 = dktX0_sluices_4 := dk_seg dksX0_sluices_3 23 rfl rfl
theorem dksX0_sluices_5 : cX0_sluices.data.toList.drop 117 = dktX0_sluices_5 := dk_seg dksX0_sluices_4 23 rfl rfl
theorem dX0_sluices_0 : decode cX0_sluices 0 = .ok (.iload_n 1, 1) := dk_27 (dk_at dksX0_sluices_0 0 rfl rfl)
theorem dX0_sluices_1 : decode cX0_sluices 1 = .ok (.iconst 1, 1) := dk_4 (dk_at dksX0_sluices_0 1 rfl rfl)
theorem dX0_sluices_2 : decode cX0_sluices 2 = .ok (.bipush 6, 2) := dk_16 6 (dk_at dksX0_sluices_0 2 rfl rfl)
theorem dX0_sluices_4 : decode cX0_sluices 4 = .ok (.invokestatic 122, 3) := dk_184 0 122 (dk_at dksX0_sluices_0 4 rfl rfl)
theorem dX0_sluices_7 : decode cX0_sluices 7 = .ok (.ifCond .eq 12, 3) := dk_153 0 12 (dk_at dksX0_sluices_0 7 rfl rfl)
theorem dX0_sluices_10 : decode cX0_sluices 10 = .ok (.iload_n 2, 1) := dk_28 (dk_at dksX0_sluices_0 10 rfl rfl)
theorem dX0_sluices_11 : decode cX0_sluices 11 = .ok (.iconst 0, 1) := dk_3 (dk_at dksX0_sluices_0 11 rfl rfl)
theorem dX0_sluices_12 : decode cX0_sluices 12 = .ok (.iconst 1, 1) := dk_4 (dk_at dksX0_sluices_0 12 rfl rfl)
theorem dX0_sluices_13 : decode cX0_sluices 13 = .ok (.invokestatic 122, 3) := dk_184 0 122 (dk_at dksX0_sluices_0 13 rfl rfl)
theorem dX0_sluices_16 : decode cX0_sluices 16 = .ok (.ifCond .ne 9, 3) := dk_154 0 9 (dk_at dksX0_sluices_0 16 rfl rfl)
theorem dX0_sluices_19 : decode cX0_sluices 19 = .ok (.aload_n 0, 1) := dk_42 (dk_at dksX0_sluices_0 19 rfl rfl)
theorem dX0_sluices_20 : decode cX0_sluices 20 = .ok (.iconst 1, 1) := dk_4 (dk_at dksX0_sluices_0 20 rfl rfl)
theorem dX0_sluices_21 : decode cX0_sluices 21 = .ok (.invokevirtual 173, 3) := dk_182 0 173 (dk_at dksX0_sluices_0 21 rfl rfl)
theorem dX0_sluices_24 : decode cX0_sluices 24 = .ok (.ireturn, 1) := dk_172 (dk_at dksX0_sluices_1 0 rfl rfl)
theorem dX0_sluices_25 : decode cX0_sluices 25 = .ok (.iconst (-1), 1) := dk_2 (dk_at dksX0_sluices_1 1 rfl rfl)
theorem dX0_sluices_26 : decode cX0_sluices 26 = .ok (.istore_n 3, 1) := dk_62 (dk_at dksX0_sluices_1 2 rfl rfl)
theorem dX0_sluices_27 : decode cX0_sluices 27 = .ok (.iconst 0, 1) := dk_3 (dk_at dksX0_sluices_1 3 rfl rfl)
theorem dX0_sluices_28 : decode cX0_sluices 28 = .ok (.istore 4, 2) := dk_54 4 (dk_at dksX0_sluices_1 4 rfl rfl)
theorem dX0_sluices_30 : decode cX0_sluices 30 = .ok (.iconst 0, 1) := dk_3 (dk_at dksX0_sluices_1 6 rfl rfl)
theorem dX0_sluices_31 : decode cX0_sluices 31 = .ok (.istore 5, 2) := dk_54 5 (dk_at dksX0_sluices_1 7 rfl rfl)
theorem dX0_sluices_33 : decode cX0_sluices 33 = .ok (.iload 5, 2) := dk_21 5 (dk_at dksX0_sluices_1 9 rfl rfl)
theorem dX0_sluices_35 : decode cX0_sluices 35 = .ok (.iconst 1, 1) := dk_4 (dk_at dksX0_sluices_1 11 rfl rfl)
theorem dX0_sluices_36 : decode cX0_sluices 36 = .ok (.aload_n 0, 1) := dk_42 (dk_at dksX0_sluices_1 12 rfl rfl)
theorem dX0_sluices_37 : decode cX0_sluices 37 = .ok (.getfield 73, 3) := dk_180 0 73 (dk_at dksX0_sluices_1 13 rfl rfl)
theorem dX0_sluices_40 : decode cX0_sluices 40 = .ok (.getfield 119, 3) := dk_180 0 119 (dk_at dksX0_sluices_1 16 rfl rfl)
theorem dX0_sluices_43 : decode cX0_sluices 43 = .ok (.ishl, 1) := dk_120 (dk_at dksX0_sluices_1 19 rfl rfl)
theorem dX0_sluices_44 : decode cX0_sluices 44 = .ok (.if_icmp .ge 66, 3) := dk_162 0 66 (dk_at dksX0_sluices_1 20 rfl rfl)
theorem dX0_sluices_47 : decode cX0_sluices 47 = .ok (.aload_n 0, 1) := dk_42 (dk_at dksX0_sluices_1 23 rfl rfl)
theorem dX0_sluices_48 : decode cX0_sluices 48 = .ok (.invokevirtual 319, 3) := dk_182 1 63 (dk_at dksX0_sluices_2 0 rfl rfl)
theorem dX0_sluices_51 : decode cX0_sluices 51 = .ok (.aload_n 0, 1) := dk_42 (dk_at dksX0_sluices_2 3 rfl rfl)
theorem dX0_sluices_52 : decode cX0_sluices 52 = .ok (.iload 5, 2) := dk_21 5 (dk_at dksX0_sluices_2 4 rfl rfl)
theorem dX0_sluices_54 : decode cX0_sluices 54 = .ok (.invokevirtual 322, 3) := dk_182 1 66 (dk_at dksX0_sluices_2 6 rfl rfl)
theorem dX0_sluices_57 : decode cX0_sluices 57 = .ok (.aload_n 0, 1) := dk_42 (dk_at dksX0_sluices_2 9 rfl rfl)
theorem dX0_sluices_58 : decode cX0_sluices 58 = .ok (.iload_n 1, 1) := dk_27 (dk_at dksX0_sluices_2 10 rfl rfl)
theorem dX0_sluices_59 : decode cX0_sluices 59 = .ok (.invokevirtual 294, 3) := dk_182 1 38 (dk_at dksX0_sluices_2 11 rfl rfl)
theorem dX0_sluices_62 : decode cX0_sluices 62 = .ok (.istore 6, 2) := dk_54 6 (dk_at dksX0_sluices_2 14 rfl rfl)
theorem dX0_sluices_64 : decode cX0_sluices 64 = .ok (.aload_n 0, 1) := dk_42 (dk_at dksX0_sluices_2 16 rfl rfl)
theorem dX0_sluices_65 : decode cX0_sluices 65 = .ok (.getfield 73, 3) := dk_180 0 73 (dk_at dksX0_sluices_2 17 rfl rfl)
theorem dX0_sluices_68 : decode cX0_sluices 68 = .ok (.invokevirtual 326, 3) := dk_182 1 70 (dk_at dksX0_sluices_2 20 rfl rfl)
theorem dX0_sluices_71 : decode cX0_sluices 71 = .ok (.istore 7, 2) := dk_54 7 (dk_at dksX0_sluices_3 0 rfl rfl)
theorem dX0_sluices_73 : decode cX0_sluices 73 = .ok (.aload_n 0, 1) := dk_42 (dk_at dksX0_sluices_3 2 rfl rfl)
theorem dX0_sluices_74 : decode cX0_sluices 74 = .ok (.invokevirtual 313, 3) := dk_182 1 57 (dk_at dksX0_sluices_3 3 rfl rfl)
theorem dX0_sluices_77 : decode cX0_sluices 77 = .ok (.iload 7, 2) := dk_21 7 (dk_at dksX0_sluices_3 6 rfl rfl)
theorem dX0_sluices_79 : decode cX0_sluices 79 = .ok (.ifCond .eq 25, 3) := dk_153 0 25 (dk_at dksX0_sluices_3 8 rfl rfl)
theorem dX0_sluices_82 : decode cX0_sluices 82 = .ok (.iload_n 3, 1) := dk_29 (dk_at dksX0_sluices_3 11 rfl rfl)
theorem dX0_sluices_83 : decode cX0_sluices 83 = .ok (.iconst (-1), 1) := dk_2 (dk_at dksX0_sluices_3 12 rfl rfl)
theorem dX0_sluices_84 : decode cX0_sluices 84 = .ok (.if_icmp .eq 13, 3) := dk_159 0 13 (dk_at dksX0_sluices_3 13 rfl rfl)
theorem dX0_sluices_87 : decode cX0_sluices 87 = .ok (.iload 6, 2) := dk_21 6 (dk_at dksX0_sluices_3 16 rfl rfl)
theorem dX0_sluices_89 : decode cX0_sluices 89 = .ok (.iload 4, 2) := dk_21 4 (dk_at dksX0_sluices_3 18 rfl rfl)
theorem dX0_sluices_91 : decode cX0_sluices 91 = .ok (.if_icmp .lt 6, 3) := dk_161 0 6 (dk_at dksX0_sluices_3 20 rfl rfl)
theorem dX0_sluices_94 : decode cX0_sluices 94 = .ok (.goto 10, 3) := dk_167 0 10 (dk_at dksX0_sluices_4 0 rfl rfl)
theorem dX0_sluices_97 : decode cX0_sluices 97 = .ok (.iload 5, 2) := dk_21 5 (dk_at dksX0_sluices_4 3 rfl rfl)
theorem dX0_sluices_99 : decode cX0_sluices 99 = .ok (.istore_n 3, 1) := dk_62 (dk_at dksX0_sluices_4 5 rfl rfl)
theorem dX0_sluices_100 : decode cX0_sluices 100 = .ok (.iload 6, 2) := dk_21 6 (dk_at dksX0_sluices_4 6 rfl rfl)
theorem dX0_sluices_102 : decode cX0_sluices 102 = .ok (.istore 4, 2) := dk_54 4 (dk_at dksX0_sluices_4 8 rfl rfl)
theorem dX0_sluices_104 : decode cX0_sluices 104 = .ok (.iinc 5 1, 3) := dk_132 5 1 (dk_at dksX0_sluices_4 10 rfl rfl)
theorem dX0_sluices_107 : decode cX0_sluices 107 = .ok (.goto (-74), 3) := dk_167 255 182 (dk_at dksX0_sluices_4 13 rfl rfl)
theorem dX0_sluices_110 : decode cX0_sluices 110 = .ok (.iload_n 3, 1) := dk_29 (dk_at dksX0_sluices_4 16 rfl rfl)
theorem dX0_sluices_111 : decode cX0_sluices 111 = .ok (.iconst (-1), 1) := dk_2 (dk_at dksX0_sluices_4 17 rfl rfl)
theorem dX0_sluices_112 : decode cX0_sluices 112 = .ok (.if_icmp .ne 9, 3) := dk_160 0 9 (dk_at dksX0_sluices_4 18 rfl rfl)
theorem dX0_sluices_115 : decode cX0_sluices 115 = .ok (.aload_n 0, 1) := dk_42 (dk_at dksX0_sluices_4 21 rfl rfl)
theorem dX0_sluices_116 : decode cX0_sluices 116 = .ok (.iconst 2, 1) := dk_5 (dk_at dksX0_sluices_4 22 rfl rfl)
theorem dX0_sluices_117 : decode cX0_sluices 117 = .ok (.invokevirtual 173, 3) := dk_182 0 173 (dk_at dksX0_sluices_5 0 rfl rfl)
theorem dX0_sluices_120 : decode cX0_sluices 120 = .ok (.ireturn, 1) := dk_172 (dk_at dksX0_sluices_5 3 rfl rfl)
theorem dX0_sluices_121 : decode cX0_sluices 121 = .ok (.iload_n 2, 1) := dk_28 (dk_at dksX0_sluices_5 4 rfl rfl)
theorem dX0_sluices_122 : decode cX0_sluices 122 = .ok (.ifCond .ne 7, 3) := dk_154 0 7 (dk_at dksX0_sluices_5 5 rfl rfl)
theorem dX0_sluices_125 : decode cX0_sluices 125 = .ok (.iload_n 3, 1) := dk_29 (dk_at dksX0_sluices_5 8 rfl rfl)
theorem dX0_sluices_126 : decode cX0_sluices 126 = .ok (.goto 5, 3) := dk_167 0 5 (dk_at dksX0_sluices_5 9 rfl rfl)
theorem dX0_sluices_129 : decode cX0_sluices 129 = .ok (.iload 4, 2) := dk_21 4 (dk_at dksX0_sluices_5 12 rfl rfl)
theorem dX0_sluices_131 : decode cX0_sluices 131 = .ok (.ireturn, 1) := dk_172 (dk_at dksX0_sluices_5 14 rfl rfl)
abbrev cX0_opens : ByteArray := prog_1_method_51_code
def yX0_opens : MethodName := ⟨RX0, "opens", "(I)V"⟩
def dkwX0_opens_1 : List UInt8 := [4, 126, 145, 84, 132, 2, 1, 167, 255, 227, 177]
abbrev dktX0_opens_1 : List UInt8 := dkwX0_opens_1 ++ []
def dkwX0_opens_0 : List UInt8 := [3, 61, 28, 42, 180, 0, 73, 180, 0, 119, 162, 0, 24, 42, 180, 0, 73, 180, 0, 130, 28, 27, 28, 122]
abbrev dktX0_opens_0 : List UInt8 := dkwX0_opens_0 ++ dktX0_opens_1
theorem dksX0_opens_0 : cX0_opens.data.toList.drop 0 = dktX0_opens_0 := by decide +kernel
theorem dksX0_opens_1 : cX0_opens.data.toList.drop 24 = dktX0_opens_1 := dk_seg dksX0_opens_0 24 rfl rfl
theorem dX0_opens_0 : decode cX0_opens 0 = .ok (.iconst 0, 1) := dk_3 (dk_at dksX0_opens_0 0 rfl rfl)
theorem dX0_opens_1 : decode cX0_opens 1 = .ok (.istore_n 2, 1) := dk_61 (dk_at dksX0_opens_0 1 rfl rfl)
theorem dX0_opens_2 : decode cX0_opens 2 = .ok (.iload_n 2, 1) := dk_28 (dk_at dksX0_opens_0 2 rfl rfl)
theorem dX0_opens_3 : decode cX0_opens 3 = .ok (.aload_n 0, 1) := dk_42 (dk_at dksX0_opens_0 3 rfl rfl)
theorem dX0_opens_4 : decode cX0_opens 4 = .ok (.getfield 73, 3) := dk_180 0 73 (dk_at dksX0_opens_0 4 rfl rfl)
theorem dX0_opens_7 : decode cX0_opens 7 = .ok (.getfield 119, 3) := dk_180 0 119 (dk_at dksX0_opens_0 7 rfl rfl)
theorem dX0_opens_10 : decode cX0_opens 10 = .ok (.if_icmp .ge 24, 3) := dk_162 0 24 (dk_at dksX0_opens_0 10 rfl rfl)
theorem dX0_opens_13 : decode cX0_opens 13 = .ok (.aload_n 0, 1) := dk_42 (dk_at dksX0_opens_0 13 rfl rfl)
theorem dX0_opens_14 : decode cX0_opens 14 = .ok (.getfield 73, 3) := dk_180 0 73 (dk_at dksX0_opens_0 14 rfl rfl)
theorem dX0_opens_17 : decode cX0_opens 17 = .ok (.getfield 130, 3) := dk_180 0 130 (dk_at dksX0_opens_0 17 rfl rfl)
theorem dX0_opens_20 : decode cX0_opens 20 = .ok (.iload_n 2, 1) := dk_28 (dk_at dksX0_opens_0 20 rfl rfl)
theorem dX0_opens_21 : decode cX0_opens 21 = .ok (.iload_n 1, 1) := dk_27 (dk_at dksX0_opens_0 21 rfl rfl)
theorem dX0_opens_22 : decode cX0_opens 22 = .ok (.iload_n 2, 1) := dk_28 (dk_at dksX0_opens_0 22 rfl rfl)
theorem dX0_opens_23 : decode cX0_opens 23 = .ok (.ishr, 1) := dk_122 (dk_at dksX0_opens_0 23 rfl rfl)
theorem dX0_opens_24 : decode cX0_opens 24 = .ok (.iconst 1, 1) := dk_4 (dk_at dksX0_opens_1 0 rfl rfl)
theorem dX0_opens_25 : decode cX0_opens 25 = .ok (.iand, 1) := dk_126 (dk_at dksX0_opens_1 1 rfl rfl)
theorem dX0_opens_26 : decode cX0_opens 26 = .ok (.i2b, 1) := dk_145 (dk_at dksX0_opens_1 2 rfl rfl)
theorem dX0_opens_27 : decode cX0_opens 27 = .ok (.bastore, 1) := dk_84 (dk_at dksX0_opens_1 3 rfl rfl)
theorem dX0_opens_28 : decode cX0_opens 28 = .ok (.iinc 2 1, 3) := dk_132 2 1 (dk_at dksX0_opens_1 4 rfl rfl)
theorem dX0_opens_31 : decode cX0_opens 31 = .ok (.goto (-29), 3) := dk_167 255 227 (dk_at dksX0_opens_1 7 rfl rfl)
theorem dX0_opens_34 : decode cX0_opens 34 = .ok (.return_, 1) := dk_177 (dk_at dksX0_opens_1 10 rfl rfl)
abbrev cX0_fewer : ByteArray := prog_1_method_54_code
def yX0_fewer : MethodName := ⟨RX0, "fewer", "(III)I"⟩
def dkwX0_fewer_5 : List UInt8 := [21, 4, 182, 1, 77, 54, 8, 42, 182, 1, 57, 21, 6, 21, 8, 100, 172]
abbrev dktX0_fewer_5 : List UInt8 := dkwX0_fewer_5 ++ []
def dkwX0_fewer_4 : List UInt8 := [27, 16, 10, 112, 28, 3, 182, 0, 209, 54, 7, 42, 182, 1, 74, 42, 29, 182, 1, 38, 54, 5, 42]
abbrev dktX0_fewer_4 : List UInt8 := dkwX0_fewer_4 ++ dktX0_fewer_5
def dkwX0_fewer_3 : List UInt8 := [42, 21, 4, 182, 1, 77, 54, 6, 42, 182, 1, 57, 42, 182, 1, 63, 42, 180, 0, 73, 27, 16, 10, 108]
abbrev dktX0_fewer_3 : List UInt8 := dkwX0_fewer_3 ++ dktX0_fewer_4
def dkwX0_fewer_2 : List UInt8 := [42, 180, 0, 73, 180, 0, 119, 54, 4, 42, 182, 1, 63, 42, 182, 1, 74, 42, 29, 182, 1, 38, 54, 5]
abbrev dktX0_fewer_2 : List UInt8 := dkwX0_fewer_2 ++ dktX0_fewer_3
def dkwX0_fewer_1 : List UInt8 := [42, 4, 182, 0, 173, 172, 42, 180, 0, 73, 180, 0, 119, 16, 8, 160, 0, 9, 42, 7, 182, 0, 173, 172]
abbrev dktX0_fewer_1 : List UInt8 := dkwX0_fewer_1 ++ dktX0_fewer_2
def dkwX0_fewer_0 : List UInt8 := [27, 184, 0, 206, 153, 0, 20, 28, 184, 0, 180, 153, 0, 13, 29, 4, 16, 48, 184, 0, 122, 154, 0, 9]
abbrev dktX0_fewer_0 : List UInt8 := dkwX0_fewer_0 ++ dktX0_fewer_1
theorem dksX0_fewer_0 : cX0_fewer.data.toList.drop 0 = dktX0_fewer_0 := by decide +kernel
theorem dksX0_fewer_1 : cX0_fewer.data.toList.drop 24 = dktX0_fewer_1 := dk_seg dksX0_fewer_0 24 rfl rfl
theorem dksX0_fewer_2 : cX0_fewer.data.toList.drop 48 = dktX0_fewer_2 := dk_seg dksX0_fewer_1 24 rfl rfl
theorem dksX0_fewer_3 : cX0_fewer.data.toList.drop 72 = dktX0_fewer_3 := dk_seg dksX0_fewer_2 24 rfl rfl
theorem dksX0_fewer_4 : cX0_fewer.data.toList.drop 96 = dktX0_fewer_4 := dk_seg dksX0_fewer_3 24 rfl rfl
theorem dksX0_fewer_5 : cX0_fewer.data.toList.drop 119 = dktX0_fewer_5 := dk_seg dksX0_fewer_4 23 rfl rfl
theorem dX0_fewer_0 : decode cX0_fewer 0 = .ok (.iload_n 1, 1) := dk_27 (dk_at dksX0_fewer_0 0 rfl rfl)
theorem dX0_fewer_1 : decode cX0_fewer 1 = .ok (.invokestatic 206, 3) := dk_184 0 206 (dk_at dksX0_fewer_0 1 rfl rfl)
theorem dX0_fewer_4 : decode cX0_fewer 4 = .ok (.ifCond .eq 20, 3) := dk_153 0 20 (dk_at dksX0_fewer_0 4 rfl rfl)
theorem dX0_fewer_7 : decode cX0_fewer 7 = .ok (.iload_n 2, 1) := dk_28 (dk_at dksX0_fewer_0 7 rfl rfl)
theorem dX0_fewer_8 : decode cX0_fewer 8 = .ok (.invokestatic 180, 3) := dk_184 0 180 (dk_at dksX0_fewer_0 8 rfl rfl)
theorem dX0_fewer_11 : decode cX0_fewer 11 = .ok (.ifCond .eq 13, 3) := dk_153 0 13 (dk_at dksX0_fewer_0 11 rfl rfl)
theorem dX0_fewer_14 : decode cX0_fewer 14 = .ok (.iload_n 3, 1) := dk_29 (dk_at dksX0_fewer_0 14 rfl rfl)
theorem dX0_fewer_15 : decode cX0_fewer 15 = .ok (.iconst 1, 1) := dk_4 (dk_at dksX0_fewer_0 15 rfl rfl)
theorem dX0_fewer_16 : decode cX0_fewer 16 = .ok (.bipush 48, 2) := dk_16 48 (dk_at dksX0_fewer_0 16 rfl rfl)
theorem dX0_fewer_18 : decode cX0_fewer 18 = .ok (.invokestatic 122, 3) := dk_184 0 122 (dk_at dksX0_fewer_0 18 rfl rfl)
theorem dX0_fewer_21 : decode cX0_fewer 21 = .ok (.ifCond .ne 9, 3) := dk_154 0 9 (dk_at dksX0_fewer_0 21 rfl rfl)
theorem dX0_fewer_24 : decode cX0_fewer 24 = .ok (.aload_n 0, 1) := dk_42 (dk_at dksX0_fewer_1 0 rfl rfl)
theorem dX0_fewer_25 : decode cX0_fewer 25 = .ok (.iconst 1, 1) := dk_4 (dk_at dksX0_fewer_1 1 rfl rfl)
theorem dX0_fewer_26 : decode cX0_fewer 26 = .ok (.invokevirtual 173, 3) := dk_182 0 173 (dk_at dksX0_fewer_1 2 rfl rfl)
theorem dX0_fewer_29 : decode cX0_fewer 29 = .ok (.ireturn, 1) := dk_172 (dk_at dksX0_fewer_1 5 rfl rfl)
theorem dX0_fewer_30 : decode cX0_fewer 30 = .ok (.aload_n 0, 1) := dk_42 (dk_at dksX0_fewer_1 6 rfl rfl)
theorem dX0_fewer_31 : decode cX0_fewer 31 = .ok (.getfield 73, 3) := dk_180 0 73 (dk_at dksX0_fewer_1 7 rfl rfl)
theorem dX0_fewer_34 : decode cX0_fewer 34 = .ok (.getfield 119, 3) := dk_180 0 119 (dk_at dksX0_fewer_1 10 rfl rfl)
theorem dX0_fewer_37 : decode cX0_fewer 37 = .ok (.bipush 8, 2) := dk_16 8 (dk_at dksX0_fewer_1 13 rfl rfl)
theorem dX0_fewer_39 : decode cX0_fewer 39 = .ok (.if_icmp .ne 9, 3) := dk_160 0 9 (dk_at dksX0_fewer_1 15 rfl rfl)
theorem dX0_fewer_42 : decode cX0_fewer 42 = .ok (.aload_n 0, 1) := dk_42 (dk_at dksX0_fewer_1 18 rfl rfl)
theorem dX0_fewer_43 : decode cX0_fewer 43 = .ok (.iconst 4, 1) := dk_7 (dk_at dksX0_fewer_1 19 rfl rfl)
theorem dX0_fewer_44 : decode cX0_fewer 44 = .ok (.invokevirtual 173, 3) := dk_182 0 173 (dk_at dksX0_fewer_1 20 rfl rfl)
theorem dX0_fewer_47 : decode cX0_fewer 47 = .ok (.ireturn, 1) := dk_172 (dk_at dksX0_fewer_1 23 rfl rfl)
theorem dX0_fewer_48 : decode cX0_fewer 48 = .ok (.aload_n 0, 1) := dk_42 (dk_at dksX0_fewer_2 0 rfl rfl)
theorem dX0_fewer_49 : decode cX0_fewer 49 = .ok (.getfield 73, 3) := dk_180 0 73 (dk_at dksX0_fewer_2 1 rfl rfl)
theorem dX0_fewer_52 : decode cX0_fewer 52 = .ok (.getfield 119, 3) := dk_180 0 119 (dk_at dksX0_fewer_2 4 rfl rfl)
theorem dX0_fewer_55 : decode cX0_fewer 55 = .ok (.istore 4, 2) := dk_54 4 (dk_at dksX0_fewer_2 7 rfl rfl)
theorem dX0_fewer_57 : decode cX0_fewer 57 = .ok (.aload_n 0, 1) := dk_42 (dk_at dksX0_fewer_2 9 rfl rfl)
theorem dX0_fewer_58 : decode cX0_fewer 58 = .ok (.invokevirtual 319, 3) := dk_182 1 63 (dk_at dksX0_fewer_2 10 rfl rfl)
theorem dX0_fewer_61 : decode cX0_fewer 61 = .ok (.aload_n 0, 1) := dk_42 (dk_at dksX0_fewer_2 13 rfl rfl)
theorem dX0_fewer_62 : decode cX0_fewer 62 = .ok (.invokevirtual 330, 3) := dk_182 1 74 (dk_at dksX0_fewer_2 14 rfl rfl)
theorem dX0_fewer_65 : decode cX0_fewer 65 = .ok (.aload_n 0, 1) := dk_42 (dk_at dksX0_fewer_2 17 rfl rfl)
theorem dX0_fewer_66 : decode cX0_fewer 66 = .ok (.iload_n 3, 1) := dk_29 (dk_at dksX0_fewer_2 18 rfl rfl)
theorem dX0_fewer_67 : decode cX0_fewer 67 = .ok (.invokevirtual 294, 3) := dk_182 1 38 (dk_at dksX0_fewer_2 19 rfl rfl)
theorem dX0_fewer_70 : decode cX0_fewer 70 = .ok (.istore 5, 2) := dk_54 5 (dk_at dksX0_fewer_2 22 rfl rfl)
theorem dX0_fewer_72 : decode cX0_fewer 72 = .ok (.aload_n 0, 1) := dk_42 (dk_at dksX0_fewer_3 0 rfl rfl)
theorem dX0_fewer_73 : decode cX0_fewer 73 = .ok (.iload 4, 2) := dk_21 4 (dk_at dksX0_fewer_3 1 rfl rfl)
theorem dX0_fewer_75 : decode cX0_fewer 75 = .ok (.invokevirtual 333, 3) := dk_182 1 77 (dk_at dksX0_fewer_3 3 rfl rfl)
theorem dX0_fewer_78 : decode cX0_fewer 78 = .ok (.istore 6, 2) := dk_54 6 (dk_at dksX0_fewer_3 6 rfl rfl)
theorem dX0_fewer_80 : decode cX0_fewer 80 = .ok (.aload_n 0, 1) := dk_42 (dk_at dksX0_fewer_3 8 rfl rfl)
theorem dX0_fewer_81 : decode cX0_fewer 81 = .ok (.invokevirtual 313, 3) := dk_182 1 57 (dk_at dksX0_fewer_3 9 rfl rfl)
theorem dX0_fewer_84 : decode cX0_fewer 84 = .ok (.aload_n 0, 1) := dk_42 (dk_at dksX0_fewer_3 12 rfl rfl)
theorem dX0_fewer_85 : decode cX0_fewer 85 = .ok (.invokevirtual 319, 3) := dk_182 1 63 (dk_at dksX0_fewer_3 13 rfl rfl)
theorem dX0_fewer_88 : decode cX0_fewer 88 = .ok (.aload_n 0, 1) := dk_42 (dk_at dksX0_fewer_3 16 rfl rfl)
theorem dX0_fewer_89 : decode cX0_fewer 89 = .ok (.getfield 73, 3) := dk_180 0 73 (dk_at dksX0_fewer_3 17 rfl rfl)
theorem dX0_fewer_92 : decode cX0_fewer 92 = .ok (.iload_n 1, 1) := dk_27 (dk_at dksX0_fewer_3 20 rfl rfl)
theorem dX0_fewer_93 : decode cX0_fewer 93 = .ok (.bipush 10, 2) := dk_16 10 (dk_at dksX0_fewer_3 21 rfl rfl)
theorem dX0_fewer_95 : decode cX0_fewer 95 = .ok (.idiv, 1) := dk_108 (dk_at dksX0_fewer_3 23 rfl rfl)
theorem dX0_fewer_96 : decode cX0_fewer 96 = .ok (.iload_n 1, 1) := dk_27 (dk_at dksX0_fewer_4 0 rfl rfl)
theorem dX0_fewer_97 : decode cX0_fewer 97 = .ok (.bipush 10, 2) := dk_16 10 (dk_at dksX0_fewer_4 1 rfl rfl)
theorem dX0_fewer_99 : decode cX0_fewer 99 = .ok (.irem, 1) := dk_112 (dk_at dksX0_fewer_4 3 rfl rfl)
theorem dX0_fewer_100 : decode cX0_fewer 100 = .ok (.iload_n 2, 1) := dk_28 (dk_at dksX0_fewer_4 4 rfl rfl)
theorem dX0_fewer_101 : decode cX0_fewer 101 = .ok (.iconst 0, 1) := dk_3 (dk_at dksX0_fewer_4 5 rfl rfl)
theorem dX0_fewer_102 : decode cX0_fewer 102 = .ok (.invokevirtual 209, 3) := dk_182 0 209 (dk_at dksX0_fewer_4 6 rfl rfl)
theorem dX0_fewer_105 : decode cX0_fewer 105 = .ok (.istore 7, 2) := dk_54 7 (dk_at dksX0_fewer_4 9 rfl rfl)
theorem dX0_fewer_107 : decode cX0_fewer 107 = .ok (.aload_n 0, 1) := dk_42 (dk_at dksX0_fewer_4 11 rfl rfl)
theorem dX0_fewer_108 : decode cX0_fewer 108 = .ok (.invokevirtual 330, 3) := dk_182 1 74 (dk_at dksX0_fewer_4 12 rfl rfl)
theorem dX0_fewer_111 : decode cX0_fewer 111 = .ok (.aload_n 0, 1) := dk_42 (dk_at dksX0_fewer_4 15 rfl rfl)
theorem dX0_fewer_112 : decode cX0_fewer 112 = .ok (.iload_n 3, 1) := dk_29 (dk_at dksX0_fewer_4 16 rfl rfl)
theorem dX0_fewer_113 : decode cX0_fewer 113 = .ok (.invokevirtual 294, 3) := dk_182 1 38 (dk_at dksX0_fewer_4 17 rfl rfl)
theorem dX0_fewer_116 : decode cX0_fewer 116 = .ok (.istore 5, 2) := dk_54 5 (dk_at dksX0_fewer_4 20 rfl rfl)
theorem dX0_fewer_118 : decode cX0_fewer 118 = .ok (.aload_n 0, 1) := dk_42 (dk_at dksX0_fewer_4 22 rfl rfl)
theorem dX0_fewer_119 : decode cX0_fewer 119 = .ok (.iload 4, 2) := dk_21 4 (dk_at dksX0_fewer_5 0 rfl rfl)
theorem dX0_fewer_121 : decode cX0_fewer 121 = .ok (.invokevirtual 333, 3) := dk_182 1 77 (dk_at dksX0_fewer_5 2 rfl rfl)
theorem dX0_fewer_124 : decode cX0_fewer 124 = .ok (.istore 8, 2) := dk_54 8 (dk_at dksX0_fewer_5 5 rfl rfl)
theorem dX0_fewer_126 : decode cX0_fewer 126 = .ok (.aload_n 0, 1) := dk_42 (dk_at dksX0_fewer_5 7 rfl rfl)
theorem dX0_fewer_127 : decode cX0_fewer 127 = .ok (.invokevirtual 313, 3) := dk_182 1 57 (dk_at dksX0_fewer_5 8 rfl rfl)
theorem dX0_fewer_130 : decode cX0_fewer 130 = .ok (.iload 6, 2) := dk_21 6 (dk_at dksX0_fewer_5 11 rfl rfl)
theorem dX0_fewer_132 : decode cX0_fewer 132 = .ok (.iload 8, 2) := dk_21 8 (dk_at dksX0_fewer_5 13 rfl rfl)
theorem dX0_fewer_134 : decode cX0_fewer 134 = .ok (.isub, 1) := dk_100 (dk_at dksX0_fewer_5 15 rfl rfl)
theorem dX0_fewer_135 : decode cX0_fewer 135 = .ok (.ireturn, 1) := dk_172 (dk_at dksX0_fewer_5 16 rfl rfl)
abbrev cX0_sumAnew : ByteArray := prog_1_method_36_code
def yX0_sumAnew : MethodName := ⟨RX0, "sumAnew", "()V"⟩
def dkwX0_sumAnew_0 : List UInt8 := [3, 60, 27, 16, 8, 162, 0, 16, 42, 180, 0, 115, 27, 3, 79, 132, 1, 1, 167, 255, 240, 177]
abbrev dktX0_sumAnew_0 : List UInt8 := dkwX0_sumAnew_0 ++ []
theorem dksX0_sumAnew_0 : cX0_sumAnew.data.toList.drop 0 = dktX0_sumAnew_0 := by decide +kernel
theorem dX0_sumAnew_0 : decode cX0_sumAnew 0 = .ok (.iconst 0, 1) := dk_3 (dk_at dksX0_sumAnew_0 0 rfl rfl)
theorem dX0_sumAnew_1 : decode cX0_sumAnew 1 = .ok (.istore_n 1, 1) := dk_60 (dk_at dksX0_sumAnew_0 1 rfl rfl)
theorem dX0_sumAnew_2 : decode cX0_sumAnew 2 = .ok (.iload_n 1, 1) := dk_27 (dk_at dksX0_sumAnew_0 2 rfl rfl)
theorem dX0_sumAnew_3 : decode cX0_sumAnew 3 = .ok (.bipush 8, 2) := dk_16 8 (dk_at dksX0_sumAnew_0 3 rfl rfl)
theorem dX0_sumAnew_5 : decode cX0_sumAnew 5 = .ok (.if_icmp .ge 16, 3) := dk_162 0 16 (dk_at dksX0_sumAnew_0 5 rfl rfl)
theorem dX0_sumAnew_8 : decode cX0_sumAnew 8 = .ok (.aload_n 0, 1) := dk_42 (dk_at dksX0_sumAnew_0 8 rfl rfl)
theorem dX0_sumAnew_9 : decode cX0_sumAnew 9 = .ok (.getfield 115, 3) := dk_180 0 115 (dk_at dksX0_sumAnew_0 9 rfl rfl)
theorem dX0_sumAnew_12 : decode cX0_sumAnew 12 = .ok (.iload_n 1, 1) := dk_27 (dk_at dksX0_sumAnew_0 12 rfl rfl)
theorem dX0_sumAnew_13 : decode cX0_sumAnew 13 = .ok (.iconst 0, 1) := dk_3 (dk_at dksX0_sumAnew_0 13 rfl rfl)
theorem dX0_sumAnew_14 : decode cX0_sumAnew 14 = .ok (.iastore, 1) := dk_79 (dk_at dksX0_sumAnew_0 14 rfl rfl)
theorem dX0_sumAnew_15 : decode cX0_sumAnew 15 = .ok (.iinc 1 1, 3) := dk_132 1 1 (dk_at dksX0_sumAnew_0 15 rfl rfl)
theorem dX0_sumAnew_18 : decode cX0_sumAnew 18 = .ok (.goto (-16), 3) := dk_167 255 240 (dk_at dksX0_sumAnew_0 18 rfl rfl)
theorem dX0_sumAnew_21 : decode cX0_sumAnew 21 = .ok (.return_, 1) := dk_177 (dk_at dksX0_sumAnew_0 21 rfl rfl)
abbrev cX0_summedOf : ByteArray := prog_1_method_53_code
def yX0_summedOf : MethodName := ⟨RX0, "summedOf", "(I)I"⟩
def dkwX0_summedOf_1 : List UInt8 := [28, 172]
abbrev dktX0_summedOf_1 : List UInt8 := dkwX0_summedOf_1 ++ []
def dkwX0_summedOf_0 : List UInt8 := [3, 61, 3, 62, 29, 27, 162, 0, 18, 28, 42, 180, 0, 115, 29, 46, 96, 61, 132, 3, 1, 167, 255, 239]
abbrev dktX0_summedOf_0 : List UInt8 := dkwX0_summedOf_0 ++ dktX0_summedOf_1
theorem dksX0_summedOf_0 : cX0_summedOf.data.toList.drop 0 = dktX0_summedOf_0 := by decide +kernel
theorem dksX0_summedOf_1 : cX0_summedOf.data.toList.drop 24 = dktX0_summedOf_1 := dk_seg dksX0_summedOf_0 24 rfl rfl
theorem dX0_summedOf_0 : decode cX0_summedOf 0 = .ok (.iconst 0, 1) := dk_3 (dk_at dksX0_summedOf_0 0 rfl rfl)
theorem dX0_summedOf_1 : decode cX0_summedOf 1 = .ok (.istore_n 2, 1) := dk_61 (dk_at dksX0_summedOf_0 1 rfl rfl)
theorem dX0_summedOf_2 : decode cX0_summedOf 2 = .ok (.iconst 0, 1) := dk_3 (dk_at dksX0_summedOf_0 2 rfl rfl)
theorem dX0_summedOf_3 : decode cX0_summedOf 3 = .ok (.istore_n 3, 1) := dk_62 (dk_at dksX0_summedOf_0 3 rfl rfl)
theorem dX0_summedOf_4 : decode cX0_summedOf 4 = .ok (.iload_n 3, 1) := dk_29 (dk_at dksX0_summedOf_0 4 rfl rfl)
theorem dX0_summedOf_5 : decode cX0_summedOf 5 = .ok (.iload_n 1, 1) := dk_27 (dk_at dksX0_summedOf_0 5 rfl rfl)
theorem dX0_summedOf_6 : decode cX0_summedOf 6 = .ok (.if_icmp .ge 18, 3) := dk_162 0 18 (dk_at dksX0_summedOf_0 6 rfl rfl)
theorem dX0_summedOf_9 : decode cX0_summedOf 9 = .ok (.iload_n 2, 1) := dk_28 (dk_at dksX0_summedOf_0 9 rfl rfl)
theorem dX0_summedOf_10 : decode cX0_summedOf 10 = .ok (.aload_n 0, 1) := dk_42 (dk_at dksX0_summedOf_0 10 rfl rfl)
theorem dX0_summedOf_11 : decode cX0_summedOf 11 = .ok (.getfield 115, 3) := dk_180 0 115 (dk_at dksX0_summedOf_0 11 rfl rfl)
theorem dX0_summedOf_14 : decode cX0_summedOf 14 = .ok (.iload_n 3, 1) := dk_29 (dk_at dksX0_summedOf_0 14 rfl rfl)
theorem dX0_summedOf_15 : decode cX0_summedOf 15 = .ok (.iaload, 1) := dk_46 (dk_at dksX0_summedOf_0 15 rfl rfl)
theorem dX0_summedOf_16 : decode cX0_summedOf 16 = .ok (.iadd, 1) := dk_96 (dk_at dksX0_summedOf_0 16 rfl rfl)
theorem dX0_summedOf_17 : decode cX0_summedOf 17 = .ok (.istore_n 2, 1) := dk_61 (dk_at dksX0_summedOf_0 17 rfl rfl)
theorem dX0_summedOf_18 : decode cX0_summedOf 18 = .ok (.iinc 3 1, 3) := dk_132 3 1 (dk_at dksX0_summedOf_0 18 rfl rfl)
theorem dX0_summedOf_21 : decode cX0_summedOf 21 = .ok (.goto (-17), 3) := dk_167 255 239 (dk_at dksX0_summedOf_0 21 rfl rfl)
theorem dX0_summedOf_24 : decode cX0_summedOf 24 = .ok (.iload_n 2, 1) := dk_28 (dk_at dksX0_summedOf_1 0 rfl rfl)
theorem dX0_summedOf_25 : decode cX0_summedOf 25 = .ok (.ireturn, 1) := dk_172 (dk_at dksX0_summedOf_1 1 rfl rfl)
abbrev cX0_bestPlace : ByteArray := prog_1_method_56_code
def yX0_bestPlace : MethodName := ⟨RX0, "bestPlace", "(II)I"⟩
def dkwX0_bestPlace_4 : List UInt8 := [54, 4, 132, 5, 1, 167, 255, 213, 29, 172]
abbrev dktX0_bestPlace_4 : List UInt8 := dkwX0_bestPlace_4 ++ []
def dkwX0_bestPlace_3 : List UInt8 := [54, 6, 21, 6, 21, 4, 164, 0, 8, 21, 5, 167, 0, 4, 29, 62, 21, 4, 21, 6, 184, 0, 7]
abbrev dktX0_bestPlace_3 : List UInt8 := dkwX0_bestPlace_3 ++ dktX0_bestPlace_4
def dkwX0_bestPlace_2 : List UInt8 := [182, 1, 80, 54, 4, 4, 54, 5, 21, 5, 16, 12, 162, 0, 42, 42, 27, 21, 5, 28, 182, 1, 80]
abbrev dktX0_bestPlace_2 : List UInt8 := dkwX0_bestPlace_2 ++ dktX0_bestPlace_3
def dkwX0_bestPlace_1 : List UInt8 := [180, 0, 73, 180, 0, 119, 16, 8, 160, 0, 9, 42, 7, 182, 0, 173, 172, 3, 62, 42, 27, 3, 28]
abbrev dktX0_bestPlace_1 : List UInt8 := dkwX0_bestPlace_1 ++ dktX0_bestPlace_2
def dkwX0_bestPlace_0 : List UInt8 := [27, 184, 0, 206, 153, 0, 13, 28, 4, 16, 48, 184, 0, 122, 154, 0, 9, 42, 4, 182, 0, 173, 172, 42]
abbrev dktX0_bestPlace_0 : List UInt8 := dkwX0_bestPlace_0 ++ dktX0_bestPlace_1
theorem dksX0_bestPlace_0 : cX0_bestPlace.data.toList.drop 0 = dktX0_bestPlace_0 := by decide +kernel
theorem dksX0_bestPlace_1 : cX0_bestPlace.data.toList.drop 24 = dktX0_bestPlace_1 := dk_seg dksX0_bestPlace_0 24 rfl rfl
theorem dksX0_bestPlace_2 : cX0_bestPlace.data.toList.drop 47 = dktX0_bestPlace_2 := dk_seg dksX0_bestPlace_1 23 rfl rfl
theorem dksX0_bestPlace_3 : cX0_bestPlace.data.toList.drop 70 = dktX0_bestPlace_3 := dk_seg dksX0_bestPlace_2 23 rfl rfl
theorem dksX0_bestPlace_4 : cX0_bestPlace.data.toList.drop 93 = dktX0_bestPlace_4 := dk_seg dksX0_bestPlace_3 23 rfl rfl
theorem dX0_bestPlace_0 : decode cX0_bestPlace 0 = .ok (.iload_n 1, 1) := dk_27 (dk_at dksX0_bestPlace_0 0 rfl rfl)
theorem dX0_bestPlace_1 : decode cX0_bestPlace 1 = .ok (.invokestatic 206, 3) := dk_184 0 206 (dk_at dksX0_bestPlace_0 1 rfl rfl)
theorem dX0_bestPlace_4 : decode cX0_bestPlace 4 = .ok (.ifCond .eq 13, 3) := dk_153 0 13 (dk_at dksX0_bestPlace_0 4 rfl rfl)
theorem dX0_bestPlace_7 : decode cX0_bestPlace 7 = .ok (.iload_n 2, 1) := dk_28 (dk_at dksX0_bestPlace_0 7 rfl rfl)
theorem dX0_bestPlace_8 : decode cX0_bestPlace 8 = .ok (.iconst 1, 1) := dk_4 (dk_at dksX0_bestPlace_0 8 rfl rfl)
theorem dX0_bestPlace_9 : decode cX0_bestPlace 9 = .ok (.bipush 48, 2) := dk_16 48 (dk_at dksX0_bestPlace_0 9 rfl rfl)
theorem dX0_bestPlace_11 : decode cX0_bestPlace 11 = .ok (.invokestatic 122, 3) := dk_184 0 122 (dk_at dksX0_bestPlace_0 11 rfl rfl)
theorem dX0_bestPlace_14 : decode cX0_bestPlace 14 = .ok (.ifCond .ne 9, 3) := dk_154 0 9 (dk_at dksX0_bestPlace_0 14 rfl rfl)
theorem dX0_bestPlace_17 : decode cX0_bestPlace 17 = .ok (.aload_n 0, 1) := dk_42 (dk_at dksX0_bestPlace_0 17 rfl rfl)
theorem dX0_bestPlace_18 : decode cX0_bestPlace 18 = .ok (.iconst 1, 1) := dk_4 (dk_at dksX0_bestPlace_0 18 rfl rfl)
theorem dX0_bestPlace_19 : decode cX0_bestPlace 19 = .ok (.invokevirtual 173, 3) := dk_182 0 173 (dk_at dksX0_bestPlace_0 19 rfl rfl)
theorem dX0_bestPlace_22 : decode cX0_bestPlace 22 = .ok (.ireturn, 1) := dk_172 (dk_at dksX0_bestPlace_0 22 rfl rfl)
theorem dX0_bestPlace_23 : decode cX0_bestPlace 23 = .ok (.aload_n 0, 1) := dk_42 (dk_at dksX0_bestPlace_0 23 rfl rfl)
theorem dX0_bestPlace_24 : decode cX0_bestPlace 24 = .ok (.getfield 73, 3) := dk_180 0 73 (dk_at dksX0_bestPlace_1 0 rfl rfl)
theorem dX0_bestPlace_27 : decode cX0_bestPlace 27 = .ok (.getfield 119, 3) := dk_180 0 119 (dk_at dksX0_bestPlace_1 3 rfl rfl)
theorem dX0_bestPlace_30 : decode cX0_bestPlace 30 = .ok (.bipush 8, 2) := dk_16 8 (dk_at dksX0_bestPlace_1 6 rfl rfl)
theorem dX0_bestPlace_32 : decode cX0_bestPlace 32 = .ok (.if_icmp .ne 9, 3) := dk_160 0 9 (dk_at dksX0_bestPlace_1 8 rfl rfl)
theorem dX0_bestPlace_35 : decode cX0_bestPlace 35 = .ok (.aload_n 0, 1) := dk_42 (dk_at dksX0_bestPlace_1 11 rfl rfl)
theorem dX0_bestPlace_36 : decode cX0_bestPlace 36 = .ok (.iconst 4, 1) := dk_7 (dk_at dksX0_bestPlace_1 12 rfl rfl)
theorem dX0_bestPlace_37 : decode cX0_bestPlace 37 = .ok (.invokevirtual 173, 3) := dk_182 0 173 (dk_at dksX0_bestPlace_1 13 rfl rfl)
theorem dX0_bestPlace_40 : decode cX0_bestPlace 40 = .ok (.ireturn, 1) := dk_172 (dk_at dksX0_bestPlace_1 16 rfl rfl)
theorem dX0_bestPlace_41 : decode cX0_bestPlace 41 = .ok (.iconst 0, 1) := dk_3 (dk_at dksX0_bestPlace_1 17 rfl rfl)
theorem dX0_bestPlace_42 : decode cX0_bestPlace 42 = .ok (.istore_n 3, 1) := dk_62 (dk_at dksX0_bestPlace_1 18 rfl rfl)
theorem dX0_bestPlace_43 : decode cX0_bestPlace 43 = .ok (.aload_n 0, 1) := dk_42 (dk_at dksX0_bestPlace_1 19 rfl rfl)
theorem dX0_bestPlace_44 : decode cX0_bestPlace 44 = .ok (.iload_n 1, 1) := dk_27 (dk_at dksX0_bestPlace_1 20 rfl rfl)
theorem dX0_bestPlace_45 : decode cX0_bestPlace 45 = .ok (.iconst 0, 1) := dk_3 (dk_at dksX0_bestPlace_1 21 rfl rfl)
theorem dX0_bestPlace_46 : decode cX0_bestPlace 46 = .ok (.iload_n 2, 1) := dk_28 (dk_at dksX0_bestPlace_1 22 rfl rfl)
theorem dX0_bestPlace_47 : decode cX0_bestPlace 47 = .ok (.invokevirtual 336, 3) := dk_182 1 80 (dk_at dksX0_bestPlace_2 0 rfl rfl)
theorem dX0_bestPlace_50 : decode cX0_bestPlace 50 = .ok (.istore 4, 2) := dk_54 4 (dk_at dksX0_bestPlace_2 3 rfl rfl)
theorem dX0_bestPlace_52 : decode cX0_bestPlace 52 = .ok (.iconst 1, 1) := dk_4 (dk_at dksX0_bestPlace_2 5 rfl rfl)
theorem dX0_bestPlace_53 : decode cX0_bestPlace 53 = .ok (.istore 5, 2) := dk_54 5 (dk_at dksX0_bestPlace_2 6 rfl rfl)
theorem dX0_bestPlace_55 : decode cX0_bestPlace 55 = .ok (.iload 5, 2) := dk_21 5 (dk_at dksX0_bestPlace_2 8 rfl rfl)
theorem dX0_bestPlace_57 : decode cX0_bestPlace 57 = .ok (.bipush 12, 2) := dk_16 12 (dk_at dksX0_bestPlace_2 10 rfl rfl)
theorem dX0_bestPlace_59 : decode cX0_bestPlace 59 = .ok (.if_icmp .ge 42, 3) := dk_162 0 42 (dk_at dksX0_bestPlace_2 12 rfl rfl)
theorem dX0_bestPlace_62 : decode cX0_bestPlace 62 = .ok (.aload_n 0, 1) := dk_42 (dk_at dksX0_bestPlace_2 15 rfl rfl)
theorem dX0_bestPlace_63 : decode cX0_bestPlace 63 = .ok (.iload_n 1, 1) := dk_27 (dk_at dksX0_bestPlace_2 16 rfl rfl)
theorem dX0_bestPlace_64 : decode cX0_bestPlace 64 = .ok (.iload 5, 2) := dk_21 5 (dk_at dksX0_bestPlace_2 17 rfl rfl)
theorem dX0_bestPlace_66 : decode cX0_bestPlace 66 = .ok (.iload_n 2, 1) := dk_28 (dk_at dksX0_bestPlace_2 19 rfl rfl)
theorem dX0_bestPlace_67 : decode cX0_bestPlace 67 = .ok (.invokevirtual 336, 3) := dk_182 1 80 (dk_at dksX0_bestPlace_2 20 rfl rfl)
theorem dX0_bestPlace_70 : decode cX0_bestPlace 70 = .ok (.istore 6, 2) := dk_54 6 (dk_at dksX0_bestPlace_3 0 rfl rfl)
theorem dX0_bestPlace_72 : decode cX0_bestPlace 72 = .ok (.iload 6, 2) := dk_21 6 (dk_at dksX0_bestPlace_3 2 rfl rfl)
theorem dX0_bestPlace_74 : decode cX0_bestPlace 74 = .ok (.iload 4, 2) := dk_21 4 (dk_at dksX0_bestPlace_3 4 rfl rfl)
theorem dX0_bestPlace_76 : decode cX0_bestPlace 76 = .ok (.if_icmp .le 8, 3) := dk_164 0 8 (dk_at dksX0_bestPlace_3 6 rfl rfl)
theorem dX0_bestPlace_79 : decode cX0_bestPlace 79 = .ok (.iload 5, 2) := dk_21 5 (dk_at dksX0_bestPlace_3 9 rfl rfl)
theorem dX0_bestPlace_81 : decode cX0_bestPlace 81 = .ok (.goto 4, 3) := dk_167 0 4 (dk_at dksX0_bestPlace_3 11 rfl rfl)
theorem dX0_bestPlace_84 : decode cX0_bestPlace 84 = .ok (.iload_n 3, 1) := dk_29 (dk_at dksX0_bestPlace_3 14 rfl rfl)
theorem dX0_bestPlace_85 : decode cX0_bestPlace 85 = .ok (.istore_n 3, 1) := dk_62 (dk_at dksX0_bestPlace_3 15 rfl rfl)
theorem dX0_bestPlace_86 : decode cX0_bestPlace 86 = .ok (.iload 4, 2) := dk_21 4 (dk_at dksX0_bestPlace_3 16 rfl rfl)
theorem dX0_bestPlace_88 : decode cX0_bestPlace 88 = .ok (.iload 6, 2) := dk_21 6 (dk_at dksX0_bestPlace_3 18 rfl rfl)
theorem dX0_bestPlace_90 : decode cX0_bestPlace 90 = .ok (.invokestatic 7, 3) := dk_184 0 7 (dk_at dksX0_bestPlace_3 20 rfl rfl)
theorem dX0_bestPlace_93 : decode cX0_bestPlace 93 = .ok (.istore 4, 2) := dk_54 4 (dk_at dksX0_bestPlace_4 0 rfl rfl)
theorem dX0_bestPlace_95 : decode cX0_bestPlace 95 = .ok (.iinc 5 1, 3) := dk_132 5 1 (dk_at dksX0_bestPlace_4 2 rfl rfl)
theorem dX0_bestPlace_98 : decode cX0_bestPlace 98 = .ok (.goto (-43), 3) := dk_167 255 213 (dk_at dksX0_bestPlace_4 5 rfl rfl)
theorem dX0_bestPlace_101 : decode cX0_bestPlace 101 = .ok (.iload_n 3, 1) := dk_29 (dk_at dksX0_bestPlace_4 8 rfl rfl)
theorem dX0_bestPlace_102 : decode cX0_bestPlace 102 = .ok (.ireturn, 1) := dk_172 (dk_at dksX0_bestPlace_4 9 rfl rfl)
abbrev cX0_turnsAt : ByteArray := prog_1_method_55_code
def yX0_turnsAt : MethodName := ⟨RX0, "turnsAt", "(III)I"⟩
def dkwX0_turnsAt_2 : List UInt8 := [21, 6, 172]
abbrev dktX0_turnsAt_2 : List UInt8 := dkwX0_turnsAt_2 ++ []
def dkwX0_turnsAt_1 : List UInt8 := [182, 1, 74, 42, 29, 182, 1, 38, 54, 5, 42, 180, 0, 115, 21, 4, 46, 54, 6, 42, 182, 1, 57]
abbrev dktX0_turnsAt_1 : List UInt8 := dkwX0_turnsAt_1 ++ dktX0_turnsAt_2
def dkwX0_turnsAt_0 : List UInt8 := [42, 182, 1, 63, 42, 180, 0, 73, 27, 16, 10, 108, 27, 16, 10, 112, 28, 3, 182, 0, 209, 54, 4, 42]
abbrev dktX0_turnsAt_0 : List UInt8 := dkwX0_turnsAt_0 ++ dktX0_turnsAt_1
theorem dksX0_turnsAt_0 : cX0_turnsAt.data.toList.drop 0 = dktX0_turnsAt_0 := by decide +kernel
theorem dksX0_turnsAt_1 : cX0_turnsAt.data.toList.drop 24 = dktX0_turnsAt_1 := dk_seg dksX0_turnsAt_0 24 rfl rfl
theorem dksX0_turnsAt_2 : cX0_turnsAt.data.toList.drop 47 = dktX0_turnsAt_2 := dk_seg dksX0_turnsAt_1 23 rfl rfl
theorem dX0_turnsAt_0 : decode cX0_turnsAt 0 = .ok (.aload_n 0, 1) := dk_42 (dk_at dksX0_turnsAt_0 0 rfl rfl)
theorem dX0_turnsAt_1 : decode cX0_turnsAt 1 = .ok (.invokevirtual 319, 3) := dk_182 1 63 (dk_at dksX0_turnsAt_0 1 rfl rfl)
theorem dX0_turnsAt_4 : decode cX0_turnsAt 4 = .ok (.aload_n 0, 1) := dk_42 (dk_at dksX0_turnsAt_0 4 rfl rfl)
theorem dX0_turnsAt_5 : decode cX0_turnsAt 5 = .ok (.getfield 73, 3) := dk_180 0 73 (dk_at dksX0_turnsAt_0 5 rfl rfl)
theorem dX0_turnsAt_8 : decode cX0_turnsAt 8 = .ok (.iload_n 1, 1) := dk_27 (dk_at dksX0_turnsAt_0 8 rfl rfl)
theorem dX0_turnsAt_9 : decode cX0_turnsAt 9 = .ok (.bipush 10, 2) := dk_16 10 (dk_at dksX0_turnsAt_0 9 rfl rfl)
theorem dX0_turnsAt_11 : decode cX0_turnsAt 11 = .ok (.idiv, 1) := dk_108 (dk_at dksX0_turnsAt_0 11 rfl rfl)
theorem dX0_turnsAt_12 : decode cX0_turnsAt 12 = .ok (.iload_n 1, 1) := dk_27 (dk_at dksX0_turnsAt_0 12 rfl rfl)
theorem dX0_turnsAt_13 : decode cX0_turnsAt 13 = .ok (.bipush 10, 2) := dk_16 10 (dk_at dksX0_turnsAt_0 13 rfl rfl)
theorem dX0_turnsAt_15 : decode cX0_turnsAt 15 = .ok (.irem, 1) := dk_112 (dk_at dksX0_turnsAt_0 15 rfl rfl)
theorem dX0_turnsAt_16 : decode cX0_turnsAt 16 = .ok (.iload_n 2, 1) := dk_28 (dk_at dksX0_turnsAt_0 16 rfl rfl)
theorem dX0_turnsAt_17 : decode cX0_turnsAt 17 = .ok (.iconst 0, 1) := dk_3 (dk_at dksX0_turnsAt_0 17 rfl rfl)
theorem dX0_turnsAt_18 : decode cX0_turnsAt 18 = .ok (.invokevirtual 209, 3) := dk_182 0 209 (dk_at dksX0_turnsAt_0 18 rfl rfl)
theorem dX0_turnsAt_21 : decode cX0_turnsAt 21 = .ok (.istore 4, 2) := dk_54 4 (dk_at dksX0_turnsAt_0 21 rfl rfl)
theorem dX0_turnsAt_23 : decode cX0_turnsAt 23 = .ok (.aload_n 0, 1) := dk_42 (dk_at dksX0_turnsAt_0 23 rfl rfl)
theorem dX0_turnsAt_24 : decode cX0_turnsAt 24 = .ok (.invokevirtual 330, 3) := dk_182 1 74 (dk_at dksX0_turnsAt_1 0 rfl rfl)
theorem dX0_turnsAt_27 : decode cX0_turnsAt 27 = .ok (.aload_n 0, 1) := dk_42 (dk_at dksX0_turnsAt_1 3 rfl rfl)
theorem dX0_turnsAt_28 : decode cX0_turnsAt 28 = .ok (.iload_n 3, 1) := dk_29 (dk_at dksX0_turnsAt_1 4 rfl rfl)
theorem dX0_turnsAt_29 : decode cX0_turnsAt 29 = .ok (.invokevirtual 294, 3) := dk_182 1 38 (dk_at dksX0_turnsAt_1 5 rfl rfl)
theorem dX0_turnsAt_32 : decode cX0_turnsAt 32 = .ok (.istore 5, 2) := dk_54 5 (dk_at dksX0_turnsAt_1 8 rfl rfl)
theorem dX0_turnsAt_34 : decode cX0_turnsAt 34 = .ok (.aload_n 0, 1) := dk_42 (dk_at dksX0_turnsAt_1 10 rfl rfl)
theorem dX0_turnsAt_35 : decode cX0_turnsAt 35 = .ok (.getfield 115, 3) := dk_180 0 115 (dk_at dksX0_turnsAt_1 11 rfl rfl)
theorem dX0_turnsAt_38 : decode cX0_turnsAt 38 = .ok (.iload 4, 2) := dk_21 4 (dk_at dksX0_turnsAt_1 14 rfl rfl)
theorem dX0_turnsAt_40 : decode cX0_turnsAt 40 = .ok (.iaload, 1) := dk_46 (dk_at dksX0_turnsAt_1 16 rfl rfl)
theorem dX0_turnsAt_41 : decode cX0_turnsAt 41 = .ok (.istore 6, 2) := dk_54 6 (dk_at dksX0_turnsAt_1 17 rfl rfl)
theorem dX0_turnsAt_43 : decode cX0_turnsAt 43 = .ok (.aload_n 0, 1) := dk_42 (dk_at dksX0_turnsAt_1 19 rfl rfl)
theorem dX0_turnsAt_44 : decode cX0_turnsAt 44 = .ok (.invokevirtual 313, 3) := dk_182 1 57 (dk_at dksX0_turnsAt_1 20 rfl rfl)
theorem dX0_turnsAt_47 : decode cX0_turnsAt 47 = .ok (.iload 6, 2) := dk_21 6 (dk_at dksX0_turnsAt_2 0 rfl rfl)
theorem dX0_turnsAt_49 : decode cX0_turnsAt 49 = .ok (.ireturn, 1) := dk_172 (dk_at dksX0_turnsAt_2 2 rfl rfl)
abbrev cX0_who : ByteArray := prog_1_method_58_code
def yX0_who : MethodName := ⟨RX0, "who", "(II)I"⟩
def dkwX0_who_6 : List UInt8 := [4, 160, 0, 8, 21, 4, 167, 0, 15, 28, 5, 160, 0, 8, 21, 5, 167, 0, 5, 21, 6, 172]
abbrev dktX0_who_6 : List UInt8 := dkwX0_who_6 ++ []
def dkwX0_who_5 : List UInt8 := [28, 4, 5, 184, 0, 122, 153, 0, 9, 42, 5, 182, 0, 173, 172, 28, 154, 0, 7, 29, 167, 0, 25, 28]
abbrev dktX0_who_5 : List UInt8 := dkwX0_who_5 ++ dktX0_who_6
def dkwX0_who_4 : List UInt8 := [21, 5, 21, 7, 126, 54, 5, 21, 6, 21, 7, 128, 54, 6, 132, 7, 1, 167, 255, 194, 29, 154, 0, 18]
abbrev dktX0_who_4 : List UInt8 := dkwX0_who_4 ++ dktX0_who_5
def dkwX0_who_3 : List UInt8 := [159, 0, 6, 167, 0, 35, 132, 3, 1, 21, 4, 2, 160, 0, 8, 21, 7, 167, 0, 5, 21, 4, 54, 4]
abbrev dktX0_who_3 : List UInt8 := dkwX0_who_3 ++ dktX0_who_4
def dkwX0_who_2 : List UInt8 := [54, 7, 21, 7, 4, 42, 180, 0, 73, 180, 0, 119, 120, 162, 0, 54, 42, 21, 7, 182, 1, 83, 27]
abbrev dktX0_who_2 : List UInt8 := dkwX0_who_2 ++ dktX0_who_3
def dkwX0_who_1 : List UInt8 := [172, 3, 62, 2, 54, 4, 4, 42, 180, 0, 73, 180, 0, 119, 120, 4, 100, 54, 5, 3, 54, 6, 3]
abbrev dktX0_who_1 : List UInt8 := dkwX0_who_1 ++ dktX0_who_2
def dkwX0_who_0 : List UInt8 := [27, 3, 16, 99, 184, 0, 122, 153, 0, 12, 28, 3, 6, 184, 0, 122, 154, 0, 9, 42, 4, 182, 0, 173]
abbrev dktX0_who_0 : List UInt8 := dkwX0_who_0 ++ dktX0_who_1
theorem dksX0_who_0 : cX0_who.data.toList.drop 0 = dktX0_who_0 := by decide +kernel
theorem dksX0_who_1 : cX0_who.data.toList.drop 24 = dktX0_who_1 := dk_seg dksX0_who_0 24 rfl rfl
theorem dksX0_who_2 : cX0_who.data.toList.drop 47 = dktX0_who_2 := dk_seg dksX0_who_1 23 rfl rfl
theorem dksX0_who_3 : cX0_who.data.toList.drop 70 = dktX0_who_3 := dk_seg dksX0_who_2 23 rfl rfl
theorem dksX0_who_4 : cX0_who.data.toList.drop 94 = dktX0_who_4 := dk_seg dksX0_who_3 24 rfl rfl
theorem dksX0_who_5 : cX0_who.data.toList.drop 118 = dktX0_who_5 := dk_seg dksX0_who_4 24 rfl rfl
theorem dksX0_who_6 : cX0_who.data.toList.drop 142 = dktX0_who_6 := dk_seg dksX0_who_5 24 rfl rfl
theorem dX0_who_0 : decode cX0_who 0 = .ok (.iload_n 1, 1) := dk_27 (dk_at dksX0_who_0 0 rfl rfl)
theorem dX0_who_1 : decode cX0_who 1 = .ok (.iconst 0, 1) := dk_3 (dk_at dksX0_who_0 1 rfl rfl)
theorem dX0_who_2 : decode cX0_who 2 = .ok (.bipush 99, 2) := dk_16 99 (dk_at dksX0_who_0 2 rfl rfl)
theorem dX0_who_4 : decode cX0_who 4 = .ok (.invokestatic 122, 3) := dk_184 0 122 (dk_at dksX0_who_0 4 rfl rfl)
theorem dX0_who_7 : decode cX0_who 7 = .ok (.ifCond .eq 12, 3) := dk_153 0 12 (dk_at dksX0_who_0 7 rfl rfl)
theorem dX0_who_10 : decode cX0_who 10 = .ok (.iload_n 2, 1) := dk_28 (dk_at dksX0_who_0 10 rfl rfl)
theorem dX0_who_11 : decode cX0_who 11 = .ok (.iconst 0, 1) := dk_3 (dk_at dksX0_who_0 11 rfl rfl)
theorem dX0_who_12 : decode cX0_who 12 = .ok (.iconst 3, 1) := dk_6 (dk_at dksX0_who_0 12 rfl rfl)
theorem dX0_who_13 : decode cX0_who 13 = .ok (.invokestatic 122, 3) := dk_184 0 122 (dk_at dksX0_who_0 13 rfl rfl)
theorem dX0_who_16 : decode cX0_who 16 = .ok (.ifCond .ne 9, 3) := dk_154 0 9 (dk_at dksX0_who_0 16 rfl rfl)
theorem dX0_who_19 : decode cX0_who 19 = .ok (.aload_n 0, 1) := dk_42 (dk_at dksX0_who_0 19 rfl rfl)
theorem dX0_who_20 : decode cX0_who 20 = .ok (.iconst 1, 1) := dk_4 (dk_at dksX0_who_0 20 rfl rfl)
theorem dX0_who_21 : decode cX0_who 21 = .ok (.invokevirtual 173, 3) := dk_182 0 173 (dk_at dksX0_who_0 21 rfl rfl)
theorem dX0_who_24 : decode cX0_who 24 = .ok (.ireturn, 1) := dk_172 (dk_at dksX0_who_1 0 rfl rfl)
theorem dX0_who_25 : decode cX0_who 25 = .ok (.iconst 0, 1) := dk_3 (dk_at dksX0_who_1 1 rfl rfl)
theorem dX0_who_26 : decode cX0_who 26 = .ok (.istore_n 3, 1) := dk_62 (dk_at dksX0_who_1 2 rfl rfl)
theorem dX0_who_27 : decode cX0_who 27 = .ok (.iconst (-1), 1) := dk_2 (dk_at dksX0_who_1 3 rfl rfl)
theorem dX0_who_28 : decode cX0_who 28 = .ok (.istore 4, 2) := dk_54 4 (dk_at dksX0_who_1 4 rfl rfl)
theorem dX0_who_30 : decode cX0_who 30 = .ok (.iconst 1, 1) := dk_4 (dk_at dksX0_who_1 6 rfl rfl)
theorem dX0_who_31 : decode cX0_who 31 = .ok (.aload_n 0, 1) := dk_42 (dk_at dksX0_who_1 7 rfl rfl)
theorem dX0_who_32 : decode cX0_who 32 = .ok (.getfield 73, 3) := dk_180 0 73 (dk_at dksX0_who_1 8 rfl rfl)
theorem dX0_who_35 : decode cX0_who 35 = .ok (.getfield 119, 3) := dk_180 0 119 (dk_at dksX0_who_1 11 rfl rfl)
theorem dX0_who_38 : decode cX0_who 38 = .ok (.ishl, 1) := dk_120 (dk_at dksX0_who_1 14 rfl rfl)
theorem dX0_who_39 : decode cX0_who 39 = .ok (.iconst 1, 1) := dk_4 (dk_at dksX0_who_1 15 rfl rfl)
theorem dX0_who_40 : decode cX0_who 40 = .ok (.isub, 1) := dk_100 (dk_at dksX0_who_1 16 rfl rfl)
theorem dX0_who_41 : decode cX0_who 41 = .ok (.istore 5, 2) := dk_54 5 (dk_at dksX0_who_1 17 rfl rfl)
theorem dX0_who_43 : decode cX0_who 43 = .ok (.iconst 0, 1) := dk_3 (dk_at dksX0_who_1 19 rfl rfl)
theorem dX0_who_44 : decode cX0_who 44 = .ok (.istore 6, 2) := dk_54 6 (dk_at dksX0_who_1 20 rfl rfl)
theorem dX0_who_46 : decode cX0_who 46 = .ok (.iconst 0, 1) := dk_3 (dk_at dksX0_who_1 22 rfl rfl)
theorem dX0_who_47 : decode cX0_who 47 = .ok (.istore 7, 2) := dk_54 7 (dk_at dksX0_who_2 0 rfl rfl)
theorem dX0_who_49 : decode cX0_who 49 = .ok (.iload 7, 2) := dk_21 7 (dk_at dksX0_who_2 2 rfl rfl)
theorem dX0_who_51 : decode cX0_who 51 = .ok (.iconst 1, 1) := dk_4 (dk_at dksX0_who_2 4 rfl rfl)
theorem dX0_who_52 : decode cX0_who 52 = .ok (.aload_n 0, 1) := dk_42 (dk_at dksX0_who_2 5 rfl rfl)
theorem dX0_who_53 : decode cX0_who 53 = .ok (.getfield 73, 3) := dk_180 0 73 (dk_at dksX0_who_2 6 rfl rfl)
theorem dX0_who_56 : decode cX0_who 56 = .ok (.getfield 119, 3) := dk_180 0 119 (dk_at dksX0_who_2 9 rfl rfl)
theorem dX0_who_59 : decode cX0_who 59 = .ok (.ishl, 1) := dk_120 (dk_at dksX0_who_2 12 rfl rfl)
theorem dX0_who_60 : decode cX0_who 60 = .ok (.if_icmp .ge 54, 3) := dk_162 0 54 (dk_at dksX0_who_2 13 rfl rfl)
theorem dX0_who_63 : decode cX0_who 63 = .ok (.aload_n 0, 1) := dk_42 (dk_at dksX0_who_2 16 rfl rfl)
theorem dX0_who_64 : decode cX0_who 64 = .ok (.iload 7, 2) := dk_21 7 (dk_at dksX0_who_2 17 rfl rfl)
theorem dX0_who_66 : decode cX0_who 66 = .ok (.invokevirtual 339, 3) := dk_182 1 83 (dk_at dksX0_who_2 19 rfl rfl)
theorem dX0_who_69 : decode cX0_who 69 = .ok (.iload_n 1, 1) := dk_27 (dk_at dksX0_who_2 22 rfl rfl)
theorem dX0_who_70 : decode cX0_who 70 = .ok (.if_icmp .eq 6, 3) := dk_159 0 6 (dk_at dksX0_who_3 0 rfl rfl)
theorem dX0_who_73 : decode cX0_who 73 = .ok (.goto 35, 3) := dk_167 0 35 (dk_at dksX0_who_3 3 rfl rfl)
theorem dX0_who_76 : decode cX0_who 76 = .ok (.iinc 3 1, 3) := dk_132 3 1 (dk_at dksX0_who_3 6 rfl rfl)
theorem dX0_who_79 : decode cX0_who 79 = .ok (.iload 4, 2) := dk_21 4 (dk_at dksX0_who_3 9 rfl rfl)
theorem dX0_who_81 : decode cX0_who 81 = .ok (.iconst (-1), 1) := dk_2 (dk_at dksX0_who_3 11 rfl rfl)
theorem dX0_who_82 : decode cX0_who 82 = .ok (.if_icmp .ne 8, 3) := dk_160 0 8 (dk_at dksX0_who_3 12 rfl rfl)
theorem dX0_who_85 : decode cX0_who 85 = .ok (.iload 7, 2) := dk_21 7 (dk_at dksX0_who_3 15 rfl rfl)
theorem dX0_who_87 : decode cX0_who 87 = .ok (.goto 5, 3) := dk_167 0 5 (dk_at dksX0_who_3 17 rfl rfl)
theorem dX0_who_90 : decode cX0_who 90 = .ok (.iload 4, 2) := dk_21 4 (dk_at dksX0_who_3 20 rfl rfl)
theorem dX0_who_92 : decode cX0_who 92 = .ok (.istore 4, 2) := dk_54 4 (dk_at dksX0_who_3 22 rfl rfl)
theorem dX0_who_94 : decode cX0_who 94 = .ok (.iload 5, 2) := dk_21 5 (dk_at dksX0_who_4 0 rfl rfl)
theorem dX0_who_96 : decode cX0_who 96 = .ok (.iload 7, 2) := dk_21 7 (dk_at dksX0_who_4 2 rfl rfl)
theorem dX0_who_98 : decode cX0_who 98 = .ok (.iand, 1) := dk_126 (dk_at dksX0_who_4 4 rfl rfl)
theorem dX0_who_99 : decode cX0_who 99 = .ok (.istore 5, 2) := dk_54 5 (dk_at dksX0_who_4 5 rfl rfl)
theorem dX0_who_101 : decode cX0_who 101 = .ok (.iload 6, 2) := dk_21 6 (dk_at dksX0_who_4 7 rfl rfl)
theorem dX0_who_103 : decode cX0_who 103 = .ok (.iload 7, 2) := dk_21 7 (dk_at dksX0_who_4 9 rfl rfl)
theorem dX0_who_105 : decode cX0_who 105 = .ok (.ior, 1) := dk_128 (dk_at dksX0_who_4 11 rfl rfl)
theorem dX0_who_106 : decode cX0_who 106 = .ok (.istore 6, 2) := dk_54 6 (dk_at dksX0_who_4 12 rfl rfl)
theorem dX0_who_108 : decode cX0_who 108 = .ok (.iinc 7 1, 3) := dk_132 7 1 (dk_at dksX0_who_4 14 rfl rfl)
theorem dX0_who_111 : decode cX0_who 111 = .ok (.goto (-62), 3) := dk_167 255 194 (dk_at dksX0_who_4 17 rfl rfl)
theorem dX0_who_114 : decode cX0_who 114 = .ok (.iload_n 3, 1) := dk_29 (dk_at dksX0_who_4 20 rfl rfl)
theorem dX0_who_115 : decode cX0_who 115 = .ok (.ifCond .ne 18, 3) := dk_154 0 18 (dk_at dksX0_who_4 21 rfl rfl)
theorem dX0_who_118 : decode cX0_who 118 = .ok (.iload_n 2, 1) := dk_28 (dk_at dksX0_who_5 0 rfl rfl)
theorem dX0_who_119 : decode cX0_who 119 = .ok (.iconst 1, 1) := dk_4 (dk_at dksX0_who_5 1 rfl rfl)
theorem dX0_who_120 : decode cX0_who 120 = .ok (.iconst 2, 1) := dk_5 (dk_at dksX0_who_5 2 rfl rfl)
theorem dX0_who_121 : decode cX0_who 121 = .ok (.invokestatic 122, 3) := dk_184 0 122 (dk_at dksX0_who_5 3 rfl rfl)
theorem dX0_who_124 : decode cX0_who 124 = .ok (.ifCond .eq 9, 3) := dk_153 0 9 (dk_at dksX0_who_5 6 rfl rfl)
theorem dX0_who_127 : decode cX0_who 127 = .ok (.aload_n 0, 1) := dk_42 (dk_at dksX0_who_5 9 rfl rfl)
theorem dX0_who_128 : decode cX0_who 128 = .ok (.iconst 2, 1) := dk_5 (dk_at dksX0_who_5 10 rfl rfl)
theorem dX0_who_129 : decode cX0_who 129 = .ok (.invokevirtual 173, 3) := dk_182 0 173 (dk_at dksX0_who_5 11 rfl rfl)
theorem dX0_who_132 : decode cX0_who 132 = .ok (.ireturn, 1) := dk_172 (dk_at dksX0_who_5 14 rfl rfl)
theorem dX0_who_133 : decode cX0_who 133 = .ok (.iload_n 2, 1) := dk_28 (dk_at dksX0_who_5 15 rfl rfl)
theorem dX0_who_134 : decode cX0_who 134 = .ok (.ifCond .ne 7, 3) := dk_154 0 7 (dk_at dksX0_who_5 16 rfl rfl)
theorem dX0_who_137 : decode cX0_who 137 = .ok (.iload_n 3, 1) := dk_29 (dk_at dksX0_who_5 19 rfl rfl)
theorem dX0_who_138 : decode cX0_who 138 = .ok (.goto 25, 3) := dk_167 0 25 (dk_at dksX0_who_5 20 rfl rfl)
theorem dX0_who_141 : decode cX0_who 141 = .ok (.iload_n 2, 1) := dk_28 (dk_at dksX0_who_5 23 rfl rfl)
theorem dX0_who_142 : decode cX0_who 142 = .ok (.iconst 1, 1) := dk_4 (dk_at dksX0_who_6 0 rfl rfl)
theorem dX0_who_143 : decode cX0_who 143 = .ok (.if_icmp .ne 8, 3) := dk_160 0 8 (dk_at dksX0_who_6 1 rfl rfl)
theorem dX0_who_146 : decode cX0_who 146 = .ok (.iload 4, 2) := dk_21 4 (dk_at dksX0_who_6 4 rfl rfl)
theorem dX0_who_148 : decode cX0_who 148 = .ok (.goto 15, 3) := dk_167 0 15 (dk_at dksX0_who_6 6 rfl rfl)
theorem dX0_who_151 : decode cX0_who 151 = .ok (.iload_n 2, 1) := dk_28 (dk_at dksX0_who_6 9 rfl rfl)
theorem dX0_who_152 : decode cX0_who 152 = .ok (.iconst 2, 1) := dk_5 (dk_at dksX0_who_6 10 rfl rfl)
theorem dX0_who_153 : decode cX0_who 153 = .ok (.if_icmp .ne 8, 3) := dk_160 0 8 (dk_at dksX0_who_6 11 rfl rfl)
theorem dX0_who_156 : decode cX0_who 156 = .ok (.iload 5, 2) := dk_21 5 (dk_at dksX0_who_6 14 rfl rfl)
theorem dX0_who_158 : decode cX0_who 158 = .ok (.goto 5, 3) := dk_167 0 5 (dk_at dksX0_who_6 16 rfl rfl)
theorem dX0_who_161 : decode cX0_who 161 = .ok (.iload 6, 2) := dk_21 6 (dk_at dksX0_who_6 19 rfl rfl)
theorem dX0_who_163 : decode cX0_who 163 = .ok (.ireturn, 1) := dk_172 (dk_at dksX0_who_6 21 rfl rfl)
abbrev cX0_goneBy : ByteArray := prog_1_method_57_code
def yX0_goneBy : MethodName := ⟨RX0, "goneBy", "(I)I"⟩
def dkwX0_goneBy_0 : List UInt8 := [42, 182, 1, 63, 42, 27, 182, 1, 66, 42, 182, 0, 222, 42, 180, 0, 170, 61, 42, 182, 1, 57, 28, 172]
abbrev dktX0_goneBy_0 : List UInt8 := dkwX0_goneBy_0 ++ []
theorem dksX0_goneBy_0 : cX0_goneBy.data.toList.drop 0 = dktX0_goneBy_0 := by decide +kernel
theorem dX0_goneBy_0 : decode cX0_goneBy 0 = .ok (.aload_n 0, 1) := dk_42 (dk_at dksX0_goneBy_0 0 rfl rfl)
theorem dX0_goneBy_1 : decode cX0_goneBy 1 = .ok (.invokevirtual 319, 3) := dk_182 1 63 (dk_at dksX0_goneBy_0 1 rfl rfl)
theorem dX0_goneBy_4 : decode cX0_goneBy 4 = .ok (.aload_n 0, 1) := dk_42 (dk_at dksX0_goneBy_0 4 rfl rfl)
theorem dX0_goneBy_5 : decode cX0_goneBy 5 = .ok (.iload_n 1, 1) := dk_27 (dk_at dksX0_goneBy_0 5 rfl rfl)
theorem dX0_goneBy_6 : decode cX0_goneBy 6 = .ok (.invokevirtual 322, 3) := dk_182 1 66 (dk_at dksX0_goneBy_0 6 rfl rfl)
theorem dX0_goneBy_9 : decode cX0_goneBy 9 = .ok (.aload_n 0, 1) := dk_42 (dk_at dksX0_goneBy_0 9 rfl rfl)
theorem dX0_goneBy_10 : decode cX0_goneBy 10 = .ok (.invokevirtual 222, 3) := dk_182 0 222 (dk_at dksX0_goneBy_0 10 rfl rfl)
theorem dX0_goneBy_13 : decode cX0_goneBy 13 = .ok (.aload_n 0, 1) := dk_42 (dk_at dksX0_goneBy_0 13 rfl rfl)
theorem dX0_goneBy_14 : decode cX0_goneBy 14 = .ok (.getfield 170, 3) := dk_180 0 170 (dk_at dksX0_goneBy_0 14 rfl rfl)
theorem dX0_goneBy_17 : decode cX0_goneBy 17 = .ok (.istore_n 2, 1) := dk_61 (dk_at dksX0_goneBy_0 17 rfl rfl)
theorem dX0_goneBy_18 : decode cX0_goneBy 18 = .ok (.aload_n 0, 1) := dk_42 (dk_at dksX0_goneBy_0 18 rfl rfl)
theorem dX0_goneBy_19 : decode cX0_goneBy 19 = .ok (.invokevirtual 313, 3) := dk_182 1 57 (dk_at dksX0_goneBy_0 19 rfl rfl)
theorem dX0_goneBy_22 : decode cX0_goneBy 22 = .ok (.iload_n 2, 1) := dk_28 (dk_at dksX0_goneBy_0 22 rfl rfl)
theorem dX0_goneBy_23 : decode cX0_goneBy 23 = .ok (.ireturn, 1) := dk_172 (dk_at dksX0_goneBy_0 23 rfl rfl)
abbrev cX0_slipped : ByteArray := prog_1_method_59_code
def yX0_slipped : MethodName := ⟨RX0, "slipped", "()I"⟩
def dkwX0_slipped_2 : List UInt8 := [132, 2, 1, 167, 255, 211, 27, 172]
abbrev dktX0_slipped_2 : List UInt8 := dkwX0_slipped_2 ++ []
def dkwX0_slipped_1 : List UInt8 := [46, 42, 180, 0, 73, 180, 0, 219, 28, 46, 160, 0, 7, 3, 167, 0, 6, 4, 28, 120, 128, 60]
abbrev dktX0_slipped_1 : List UInt8 := dkwX0_slipped_1 ++ dktX0_slipped_2
def dkwX0_slipped_0 : List UInt8 := [3, 60, 3, 61, 28, 42, 180, 0, 73, 180, 0, 119, 162, 0, 40, 27, 42, 180, 0, 73, 180, 0, 216, 28]
abbrev dktX0_slipped_0 : List UInt8 := dkwX0_slipped_0 ++ dktX0_slipped_1
theorem dksX0_slipped_0 : cX0_slipped.data.toList.drop 0 = dktX0_slipped_0 := by decide +kernel
theorem dksX0_slipped_1 : cX0_slipped.data.toList.drop 24 = dktX0_slipped_1 := dk_seg dksX0_slipped_0 24 rfl rfl
theorem dksX0_slipped_2 : cX0_slipped.data.toList.drop 46 = dktX0_slipped_2 := dk_seg dksX0_slipped_1 22 rfl rfl
theorem dX0_slipped_0 : decode cX0_slipped 0 = .ok (.iconst 0, 1) := dk_3 (dk_at dksX0_slipped_0 0 rfl rfl)
theorem dX0_slipped_1 : decode cX0_slipped 1 = .ok (.istore_n 1, 1) := dk_60 (dk_at dksX0_slipped_0 1 rfl rfl)
theorem dX0_slipped_2 : decode cX0_slipped 2 = .ok (.iconst 0, 1) := dk_3 (dk_at dksX0_slipped_0 2 rfl rfl)
theorem dX0_slipped_3 : decode cX0_slipped 3 = .ok (.istore_n 2, 1) := dk_61 (dk_at dksX0_slipped_0 3 rfl rfl)
theorem dX0_slipped_4 : decode cX0_slipped 4 = .ok (.iload_n 2, 1) := dk_28 (dk_at dksX0_slipped_0 4 rfl rfl)
theorem dX0_slipped_5 : decode cX0_slipped 5 = .ok (.aload_n 0, 1) := dk_42 (dk_at dksX0_slipped_0 5 rfl rfl)
theorem dX0_slipped_6 : decode cX0_slipped 6 = .ok (.getfield 73, 3) := dk_180 0 73 (dk_at dksX0_slipped_0 6 rfl rfl)
theorem dX0_slipped_9 : decode cX0_slipped 9 = .ok (.getfield 119, 3) := dk_180 0 119 (dk_at dksX0_slipped_0 9 rfl rfl)
theorem dX0_slipped_12 : decode cX0_slipped 12 = .ok (.if_icmp .ge 40, 3) := dk_162 0 40 (dk_at dksX0_slipped_0 12 rfl rfl)
theorem dX0_slipped_15 : decode cX0_slipped 15 = .ok (.iload_n 1, 1) := dk_27 (dk_at dksX0_slipped_0 15 rfl rfl)
theorem dX0_slipped_16 : decode cX0_slipped 16 = .ok (.aload_n 0, 1) := dk_42 (dk_at dksX0_slipped_0 16 rfl rfl)
theorem dX0_slipped_17 : decode cX0_slipped 17 = .ok (.getfield 73, 3) := dk_180 0 73 (dk_at dksX0_slipped_0 17 rfl rfl)
theorem dX0_slipped_20 : decode cX0_slipped 20 = .ok (.getfield 216, 3) := dk_180 0 216 (dk_at dksX0_slipped_0 20 rfl rfl)
theorem dX0_slipped_23 : decode cX0_slipped 23 = .ok (.iload_n 2, 1) := dk_28 (dk_at dksX0_slipped_0 23 rfl rfl)
theorem dX0_slipped_24 : decode cX0_slipped 24 = .ok (.iaload, 1) := dk_46 (dk_at dksX0_slipped_1 0 rfl rfl)
theorem dX0_slipped_25 : decode cX0_slipped 25 = .ok (.aload_n 0, 1) := dk_42 (dk_at dksX0_slipped_1 1 rfl rfl)
theorem dX0_slipped_26 : decode cX0_slipped 26 = .ok (.getfield 73, 3) := dk_180 0 73 (dk_at dksX0_slipped_1 2 rfl rfl)
theorem dX0_slipped_29 : decode cX0_slipped 29 = .ok (.getfield 219, 3) := dk_180 0 219 (dk_at dksX0_slipped_1 5 rfl rfl)
theorem dX0_slipped_32 : decode cX0_slipped 32 = .ok (.iload_n 2, 1) := dk_28 (dk_at dksX0_slipped_1 8 rfl rfl)
theorem dX0_slipped_33 : decode cX0_slipped 33 = .ok (.iaload, 1) := dk_46 (dk_at dksX0_slipped_1 9 rfl rfl)
theorem dX0_slipped_34 : decode cX0_slipped 34 = .ok (.if_icmp .ne 7, 3) := dk_160 0 7 (dk_at dksX0_slipped_1 10 rfl rfl)
theorem dX0_slipped_37 : decode cX0_slipped 37 = .ok (.iconst 0, 1) := dk_3 (dk_at dksX0_slipped_1 13 rfl rfl)
theorem dX0_slipped_38 : decode cX0_slipped 38 = .ok (.goto 6, 3) := dk_167 0 6 (dk_at dksX0_slipped_1 14 rfl rfl)
theorem dX0_slipped_41 : decode cX0_slipped 41 = .ok (.iconst 1, 1) := dk_4 (dk_at dksX0_slipped_1 17 rfl rfl)
theorem dX0_slipped_42 : decode cX0_slipped 42 = .ok (.iload_n 2, 1) := dk_28 (dk_at dksX0_slipped_1 18 rfl rfl)
theorem dX0_slipped_43 : decode cX0_slipped 43 = .ok (.ishl, 1) := dk_120 (dk_at dksX0_slipped_1 19 rfl rfl)
theorem dX0_slipped_44 : decode cX0_slipped 44 = .ok (.ior, 1) := dk_128 (dk_at dksX0_slipped_1 20 rfl rfl)
theorem dX0_slipped_45 : decode cX0_slipped 45 = .ok (.istore_n 1, 1) := dk_60 (dk_at dksX0_slipped_1 21 rfl rfl)
theorem dX0_slipped_46 : decode cX0_slipped 46 = .ok (.iinc 2 1, 3) := dk_132 2 1 (dk_at dksX0_slipped_2 0 rfl rfl)
theorem dX0_slipped_49 : decode cX0_slipped 49 = .ok (.goto (-45), 3) := dk_167 255 211 (dk_at dksX0_slipped_2 3 rfl rfl)
theorem dX0_slipped_52 : decode cX0_slipped 52 = .ok (.iload_n 1, 1) := dk_27 (dk_at dksX0_slipped_2 6 rfl rfl)
theorem dX0_slipped_53 : decode cX0_slipped 53 = .ok (.ireturn, 1) := dk_172 (dk_at dksX0_slipped_2 7 rfl rfl)
abbrev cX0_voice : ByteArray := prog_1_method_60_code
def yX0_voice : MethodName := ⟨RX0, "voice", "(III)I"⟩
def dkwX0_voice_4 : List UInt8 := [25, 4, 29, 42, 180, 0, 86, 182, 1, 96, 172, 58, 5, 42, 16, 6, 182, 0, 173, 172]
abbrev dktX0_voice_4 : List UInt8 := dkwX0_voice_4 ++ []
def dkwX0_voice_3 : List UInt8 := [182, 1, 91, 167, 0, 31, 28, 5, 160, 0, 16, 25, 4, 29, 42, 180, 0, 86, 182, 1, 93, 167, 0, 13]
abbrev dktX0_voice_3 : List UInt8 := dkwX0_voice_3 ++ dktX0_voice_4
def dkwX0_voice_2 : List UInt8 := [42, 180, 0, 86, 182, 1, 87, 167, 0, 49, 28, 4, 160, 0, 16, 25, 4, 29, 42, 180, 0, 86]
abbrev dktX0_voice_2 : List UInt8 := dkwX0_voice_2 ++ dktX0_voice_3
def dkwX0_voice_1 : List UInt8 := [180, 0, 86, 3, 181, 1, 86, 42, 180, 0, 73, 27, 182, 0, 126, 58, 4, 28, 154, 0, 16, 25, 4, 29]
abbrev dktX0_voice_1 : List UInt8 := dkwX0_voice_1 ++ dktX0_voice_2
def dkwX0_voice_0 : List UInt8 := [42, 27, 182, 0, 231, 153, 0, 12, 28, 3, 6, 184, 0, 122, 154, 0, 9, 42, 4, 182, 0, 173, 172, 42]
abbrev dktX0_voice_0 : List UInt8 := dkwX0_voice_0 ++ dktX0_voice_1
theorem dksX0_voice_0 : cX0_voice.data.toList.drop 0 = dktX0_voice_0 := by decide +kernel
theorem dksX0_voice_1 : cX0_voice.data.toList.drop 24 = dktX0_voice_1 := dk_seg dksX0_voice_0 24 rfl rfl
theorem dksX0_voice_2 : cX0_voice.data.toList.drop 48 = dktX0_voice_2 := dk_seg dksX0_voice_1 24 rfl rfl
theorem dksX0_voice_3 : cX0_voice.data.toList.drop 70 = dktX0_voice_3 := dk_seg dksX0_voice_2 22 rfl rfl
theorem dksX0_voice_4 : cX0_voice.data.toList.drop 94 = dktX0_voice_4 := dk_seg dksX0_voice_3 24 rfl rfl
theorem dX0_voice_0 : decode cX0_voice 0 = .ok (.aload_n 0, 1) := dk_42 (dk_at dksX0_voice_0 0 rfl rfl)
theorem dX0_voice_1 : decode cX0_voice 1 = .ok (.iload_n 1, 1) := dk_27 (dk_at dksX0_voice_0 1 rfl rfl)
theorem dX0_voice_2 : decode cX0_voice 2 = .ok (.invokevirtual 231, 3) := dk_182 0 231 (dk_at dksX0_voice_0 2 rfl rfl)
theorem dX0_voice_5 : decode cX0_voice 5 = .ok (.ifCond .eq 12, 3) := dk_153 0 12 (dk_at dksX0_voice_0 5 rfl rfl)
theorem dX0_voice_8 : decode cX0_voice 8 = .ok (.iload_n 2, 1) := dk_28 (dk_at dksX0_voice_0 8 rfl rfl)
theorem dX0_voice_9 : decode cX0_voice 9 = .ok (.iconst 0, 1) := dk_3 (dk_at dksX0_voice_0 9 rfl rfl)
theorem dX0_voice_10 : decode cX0_voice 10 = .ok (.iconst 3, 1) := dk_6 (dk_at dksX0_voice_0 10 rfl rfl)
theorem dX0_voice_11 : decode cX0_voice 11 = .ok (.invokestatic 122, 3) := dk_184 0 122 (dk_at dksX0_voice_0 11 rfl rfl)
theorem dX0_voice_14 : decode cX0_voice 14 = .ok (.ifCond .ne 9, 3) := dk_154 0 9 (dk_at dksX0_voice_0 14 rfl rfl)
theorem dX0_voice_17 : decode cX0_voice 17 = .ok (.aload_n 0, 1) := dk_42 (dk_at dksX0_voice_0 17 rfl rfl)
theorem dX0_voice_18 : decode cX0_voice 18 = .ok (.iconst 1, 1) := dk_4 (dk_at dksX0_voice_0 18 rfl rfl)
theorem dX0_voice_19 : decode cX0_voice 19 = .ok (.invokevirtual 173, 3) := dk_182 0 173 (dk_at dksX0_voice_0 19 rfl rfl)
theorem dX0_voice_22 : decode cX0_voice 22 = .ok (.ireturn, 1) := dk_172 (dk_at dksX0_voice_0 22 rfl rfl)
theorem dX0_voice_23 : decode cX0_voice 23 = .ok (.aload_n 0, 1) := dk_42 (dk_at dksX0_voice_0 23 rfl rfl)
theorem dX0_voice_24 : decode cX0_voice 24 = .ok (.getfield 86, 3) := dk_180 0 86 (dk_at dksX0_voice_1 0 rfl rfl)
theorem dX0_voice_27 : decode cX0_voice 27 = .ok (.iconst 0, 1) := dk_3 (dk_at dksX0_voice_1 3 rfl rfl)
theorem dX0_voice_28 : decode cX0_voice 28 = .ok (.putfield 342, 3) := dk_181 1 86 (dk_at dksX0_voice_1 4 rfl rfl)
theorem dX0_voice_31 : decode cX0_voice 31 = .ok (.aload_n 0, 1) := dk_42 (dk_at dksX0_voice_1 7 rfl rfl)
theorem dX0_voice_32 : decode cX0_voice 32 = .ok (.getfield 73, 3) := dk_180 0 73 (dk_at dksX0_voice_1 8 rfl rfl)
theorem dX0_voice_35 : decode cX0_voice 35 = .ok (.iload_n 1, 1) := dk_27 (dk_at dksX0_voice_1 11 rfl rfl)
theorem dX0_voice_36 : decode cX0_voice 36 = .ok (.invokevirtual 126, 3) := dk_182 0 126 (dk_at dksX0_voice_1 12 rfl rfl)
theorem dX0_voice_39 : decode cX0_voice 39 = .ok (.astore 4, 2) := dk_58 4 (dk_at dksX0_voice_1 15 rfl rfl)
theorem dX0_voice_41 : decode cX0_voice 41 = .ok (.iload_n 2, 1) := dk_28 (dk_at dksX0_voice_1 17 rfl rfl)
theorem dX0_voice_42 : decode cX0_voice 42 = .ok (.ifCond .ne 16, 3) := dk_154 0 16 (dk_at dksX0_voice_1 18 rfl rfl)
theorem dX0_voice_45 : decode cX0_voice 45 = .ok (.aload 4, 2) := dk_25 4 (dk_at dksX0_voice_1 21 rfl rfl)
theorem dX0_voice_47 : decode cX0_voice 47 = .ok (.iload_n 3, 1) := dk_29 (dk_at dksX0_voice_1 23 rfl rfl)
theorem dX0_voice_48 : decode cX0_voice 48 = .ok (.aload_n 0, 1) := dk_42 (dk_at dksX0_voice_2 0 rfl rfl)
theorem dX0_voice_49 : decode cX0_voice 49 = .ok (.getfield 86, 3) := dk_180 0 86 (dk_at dksX0_voice_2 1 rfl rfl)
theorem dX0_voice_52 : decode cX0_voice 52 = .ok (.invokevirtual 343, 3) := dk_182 1 87 (dk_at dksX0_voice_2 4 rfl rfl)
theorem dX0_voice_55 : decode cX0_voice 55 = .ok (.goto 49, 3) := dk_167 0 49 (dk_at dksX0_voice_2 7 rfl rfl)
theorem dX0_voice_58 : decode cX0_voice 58 = .ok (.iload_n 2, 1) := dk_28 (dk_at dksX0_voice_2 10 rfl rfl)
theorem dX0_voice_59 : decode cX0_voice 59 = .ok (.iconst 1, 1) := dk_4 (dk_at dksX0_voice_2 11 rfl rfl)
theorem dX0_voice_60 : decode cX0_voice 60 = .ok (.if_icmp .ne 16, 3) := dk_160 0 16 (dk_at dksX0_voice_2 12 rfl rfl)
theorem dX0_voice_63 : decode cX0_voice 63 = .ok (.aload 4, 2) := dk_25 4 (dk_at dksX0_voice_2 15 rfl rfl)
theorem dX0_voice_65 : decode cX0_voice 65 = .ok (.iload_n 3, 1) := dk_29 (dk_at dksX0_voice_2 17 rfl rfl)
theorem dX0_voice_66 : decode cX0_voice 66 = .ok (.aload_n 0, 1) := dk_42 (dk_at dksX0_voice_2 18 rfl rfl)
theorem dX0_voice_67 : decode cX0_voice 67 = .ok (.getfield 86, 3) := dk_180 0 86 (dk_at dksX0_voice_2 19 rfl rfl)
theorem dX0_voice_70 : decode cX0_voice 70 = .ok (.invokevirtual 347, 3) := dk_182 1 91 (dk_at dksX0_voice_3 0 rfl rfl)
theorem dX0_voice_73 : decode cX0_voice 73 = .ok (.goto 31, 3) := dk_167 0 31 (dk_at dksX0_voice_3 3 rfl rfl)
theorem dX0_voice_76 : decode cX0_voice 76 = .ok (.iload_n 2, 1) := dk_28 (dk_at dksX0_voice_3 6 rfl rfl)
theorem dX0_voice_77 : decode cX0_voice 77 = .ok (.iconst 2, 1) := dk_5 (dk_at dksX0_voice_3 7 rfl rfl)
theorem dX0_voice_78 : decode cX0_voice 78 = .ok (.if_icmp .ne 16, 3) := dk_160 0 16 (dk_at dksX0_voice_3 8 rfl rfl)
theorem dX0_voice_81 : decode cX0_voice 81 = .ok (.aload 4, 2) := dk_25 4 (dk_at dksX0_voice_3 11 rfl rfl)
theorem dX0_voice_83 : decode cX0_voice 83 = .ok (.iload_n 3, 1) := dk_29 (dk_at dksX0_voice_3 13 rfl rfl)
theorem dX0_voice_84 : decode cX0_voice 84 = .ok (.aload_n 0, 1) := dk_42 (dk_at dksX0_voice_3 14 rfl rfl)
theorem dX0_voice_85 : decode cX0_voice 85 = .ok (.getfield 86, 3) := dk_180 0 86 (dk_at dksX0_voice_3 15 rfl rfl)
theorem dX0_voice_88 : decode cX0_voice 88 = .ok (.invokevirtual 349, 3) := dk_182 1 93 (dk_at dksX0_voice_3 18 rfl rfl)
theorem dX0_voice_91 : decode cX0_voice 91 = .ok (.goto 13, 3) := dk_167 0 13 (dk_at dksX0_voice_3 21 rfl rfl)
theorem dX0_voice_94 : decode cX0_voice 94 = .ok (.aload 4, 2) := dk_25 4 (dk_at dksX0_voice_4 0 rfl rfl)
theorem dX0_voice_96 : decode cX0_voice 96 = .ok (.iload_n 3, 1) := dk_29 (dk_at dksX0_voice_4 2 rfl rfl)
theorem dX0_voice_97 : decode cX0_voice 97 = .ok (.aload_n 0, 1) := dk_42 (dk_at dksX0_voice_4 3 rfl rfl)
theorem dX0_voice_98 : decode cX0_voice 98 = .ok (.getfield 86, 3) := dk_180 0 86 (dk_at dksX0_voice_4 4 rfl rfl)
theorem dX0_voice_101 : decode cX0_voice 101 = .ok (.invokevirtual 352, 3) := dk_182 1 96 (dk_at dksX0_voice_4 7 rfl rfl)
theorem dX0_voice_104 : decode cX0_voice 104 = .ok (.ireturn, 1) := dk_172 (dk_at dksX0_voice_4 10 rfl rfl)
theorem dX0_voice_105 : decode cX0_voice 105 = .ok (.astore 5, 2) := dk_58 5 (dk_at dksX0_voice_4 11 rfl rfl)
theorem dX0_voice_107 : decode cX0_voice 107 = .ok (.aload_n 0, 1) := dk_42 (dk_at dksX0_voice_4 13 rfl rfl)
theorem dX0_voice_108 : decode cX0_voice 108 = .ok (.bipush 6, 2) := dk_16 6 (dk_at dksX0_voice_4 14 rfl rfl)
theorem dX0_voice_110 : decode cX0_voice 110 = .ok (.invokevirtual 173, 3) := dk_182 0 173 (dk_at dksX0_voice_4 16 rfl rfl)
theorem dX0_voice_113 : decode cX0_voice 113 = .ok (.ireturn, 1) := dk_172 (dk_at dksX0_voice_4 19 rfl rfl)
abbrev cX0_body : ByteArray := prog_1_method_61_code
def yX0_body : MethodName := ⟨RX0, "body", "(I)I"⟩
def dkwX0_body_1 : List UInt8 := [27, 51, 167, 0, 8, 42, 5, 182, 0, 173, 172]
abbrev dktX0_body_1 : List UInt8 := dkwX0_body_1 ++ []
def dkwX0_body_0 : List UInt8 := [27, 3, 42, 180, 0, 86, 180, 1, 86, 4, 100, 184, 0, 122, 153, 0, 15, 42, 180, 0, 86, 180, 1, 101]
abbrev dktX0_body_0 : List UInt8 := dkwX0_body_0 ++ dktX0_body_1
theorem dksX0_body_0 : cX0_body.data.toList.drop 0 = dktX0_body_0 := by decide +kernel
theorem dksX0_body_1 : cX0_body.data.toList.drop 24 = dktX0_body_1 := dk_seg dksX0_body_0 24 rfl rfl
theorem dX0_body_0 : decode cX0_body 0 = .ok (.iload_n 1, 1) := dk_27 (dk_at dksX0_body_0 0 rfl rfl)
theorem dX0_body_1 : decode cX0_body 1 = .ok (.iconst 0, 1) := dk_3 (dk_at dksX0_body_0 1 rfl rfl)
theorem dX0_body_2 : decode cX0_body 2 = .ok (.aload_n 0, 1) := dk_42 (dk_at dksX0_body_0 2 rfl rfl)
theorem dX0_body_3 : decode cX0_body 3 = .ok (.getfield 86, 3) := dk_180 0 86 (dk_at dksX0_body_0 3 rfl rfl)
theorem dX0_body_6 : decode cX0_body 6 = .ok (.getfield 342, 3) := dk_180 1 86 (dk_at dksX0_body_0 6 rfl rfl)
theorem dX0_body_9 : decode cX0_body 9 = .ok (.iconst 1, 1) := dk_4 (dk_at dksX0_body_0 9 rfl rfl)
theorem dX0_body_10 : decode cX0_body 10 = .ok (.isub, 1) := dk_100 (dk_at dksX0_body_0 10 rfl rfl)
theorem dX0_body_11 : decode cX0_body 11 = .ok (.invokestatic 122, 3) := dk_184 0 122 (dk_at dksX0_body_0 11 rfl rfl)
theorem dX0_body_14 : decode cX0_body 14 = .ok (.ifCond .eq 15, 3) := dk_153 0 15 (dk_at dksX0_body_0 14 rfl rfl)
theorem dX0_body_17 : decode cX0_body 17 = .ok (.aload_n 0, 1) := dk_42 (dk_at dksX0_body_0 17 rfl rfl)
theorem dX0_body_18 : decode cX0_body 18 = .ok (.getfield 86, 3) := dk_180 0 86 (dk_at dksX0_body_0 18 rfl rfl)
theorem dX0_body_21 : decode cX0_body 21 = .ok (.getfield 357, 3) := dk_180 1 101 (dk_at dksX0_body_0 21 rfl rfl)
theorem dX0_body_24 : decode cX0_body 24 = .ok (.iload_n 1, 1) := dk_27 (dk_at dksX0_body_1 0 rfl rfl)
theorem dX0_body_25 : decode cX0_body 25 = .ok (.baload, 1) := dk_51 (dk_at dksX0_body_1 1 rfl rfl)
theorem dX0_body_26 : decode cX0_body 26 = .ok (.goto 8, 3) := dk_167 0 8 (dk_at dksX0_body_1 2 rfl rfl)
theorem dX0_body_29 : decode cX0_body 29 = .ok (.aload_n 0, 1) := dk_42 (dk_at dksX0_body_1 5 rfl rfl)
theorem dX0_body_30 : decode cX0_body 30 = .ok (.iconst 2, 1) := dk_5 (dk_at dksX0_body_1 6 rfl rfl)
theorem dX0_body_31 : decode cX0_body 31 = .ok (.invokevirtual 173, 3) := dk_182 0 173 (dk_at dksX0_body_1 7 rfl rfl)
theorem dX0_body_34 : decode cX0_body 34 = .ok (.ireturn, 1) := dk_172 (dk_at dksX0_body_1 10 rfl rfl)
abbrev cX0_sheet : ByteArray := prog_1_method_65_code
def yX0_sheet : MethodName := ⟨RX0, "sheet", "(III)I"⟩
def dkwX0_sheet_4 : List UInt8 := [4, 172, 58, 4, 42, 6, 182, 0, 173, 172]
abbrev dktX0_sheet_4 : List UInt8 := dkwX0_sheet_4 ++ []
def dkwX0_sheet_3 : List UInt8 := [29, 188, 8, 167, 0, 18, 28, 16, 16, 160, 0, 9, 29, 188, 9, 167, 0, 6, 29, 188, 10, 181, 0, 240]
abbrev dktX0_sheet_3 : List UInt8 := dkwX0_sheet_3 ++ dktX0_sheet_4
def dkwX0_sheet_2 : List UInt8 := [182, 0, 173, 172, 42, 180, 0, 96, 27, 50, 28, 154, 0, 7, 1, 167, 0, 30, 28, 16, 8, 160, 0, 9]
abbrev dktX0_sheet_2 : List UInt8 := dkwX0_sheet_2 ++ dktX0_sheet_3
def dkwX0_sheet_1 : List UInt8 := [16, 32, 159, 0, 9, 42, 4, 182, 0, 173, 172, 28, 153, 0, 15, 29, 16, 24, 164, 0, 9, 42, 4]
abbrev dktX0_sheet_1 : List UInt8 := dkwX0_sheet_1 ++ dktX0_sheet_2
def dkwX0_sheet_0 : List UInt8 := [27, 184, 1, 107, 153, 0, 25, 28, 153, 0, 27, 28, 16, 8, 159, 0, 21, 28, 16, 16, 159, 0, 15, 28]
abbrev dktX0_sheet_0 : List UInt8 := dkwX0_sheet_0 ++ dktX0_sheet_1
theorem dksX0_sheet_0 : cX0_sheet.data.toList.drop 0 = dktX0_sheet_0 := by decide +kernel
theorem dksX0_sheet_1 : cX0_sheet.data.toList.drop 24 = dktX0_sheet_1 := dk_seg dksX0_sheet_0 24 rfl rfl
theorem dksX0_sheet_2 : cX0_sheet.data.toList.drop 47 = dktX0_sheet_2 := dk_seg dksX0_sheet_1 23 rfl rfl
theorem dksX0_sheet_3 : cX0_sheet.data.toList.drop 71 = dktX0_sheet_3 := dk_seg dksX0_sheet_2 24 rfl rfl
theorem dksX0_sheet_4 : cX0_sheet.data.toList.drop 95 = dktX0_sheet_4 := dk_seg dksX0_sheet_3 24 rfl rfl
theorem dX0_sheet_0 : decode cX0_sheet 0 = .ok (.iload_n 1, 1) := dk_27 (dk_at dksX0_sheet_0 0 rfl rfl)
theorem dX0_sheet_1 : decode cX0_sheet 1 = .ok (.invokestatic 363, 3) := dk_184 1 107 (dk_at dksX0_sheet_0 1 rfl rfl)
theorem dX0_sheet_4 : decode cX0_sheet 4 = .ok (.ifCond .eq 25, 3) := dk_153 0 25 (dk_at dksX0_sheet_0 4 rfl rfl)
theorem dX0_sheet_7 : decode cX0_sheet 7 = .ok (.iload_n 2, 1) := dk_28 (dk_at dksX0_sheet_0 7 rfl rfl)
theorem dX0_sheet_8 : decode cX0_sheet 8 = .ok (.ifCond .eq 27, 3) := dk_153 0 27 (dk_at dksX0_sheet_0 8 rfl rfl)
theorem dX0_sheet_11 : decode cX0_sheet 11 = .ok (.iload_n 2, 1) := dk_28 (dk_at dksX0_sheet_0 11 rfl rfl)
theorem dX0_sheet_12 : decode cX0_sheet 12 = .ok (.bipush 8, 2) := dk_16 8 (dk_at dksX0_sheet_0 12 rfl rfl)
theorem dX0_sheet_14 : decode cX0_sheet 14 = .ok (.if_icmp .eq 21, 3) := dk_159 0 21 (dk_at dksX0_sheet_0 14 rfl rfl)
theorem dX0_sheet_17 : decode cX0_sheet 17 = .ok (.iload_n 2, 1) := dk_28 (dk_at dksX0_sheet_0 17 rfl rfl)
theorem dX0_sheet_18 : decode cX0_sheet 18 = .ok (.bipush 16, 2) := dk_16 16 (dk_at dksX0_sheet_0 18 rfl rfl)
theorem dX0_sheet_20 : decode cX0_sheet 20 = .ok (.if_icmp .eq 15, 3) := dk_159 0 15 (dk_at dksX0_sheet_0 20 rfl rfl)
theorem dX0_sheet_23 : decode cX0_sheet 23 = .ok (.iload_n 2, 1) := dk_28 (dk_at dksX0_sheet_0 23 rfl rfl)
theorem dX0_sheet_24 : decode cX0_sheet 24 = .ok (.bipush 32, 2) := dk_16 32 (dk_at dksX0_sheet_1 0 rfl rfl)
theorem dX0_sheet_26 : decode cX0_sheet 26 = .ok (.if_icmp .eq 9, 3) := dk_159 0 9 (dk_at dksX0_sheet_1 2 rfl rfl)
theorem dX0_sheet_29 : decode cX0_sheet 29 = .ok (.aload_n 0, 1) := dk_42 (dk_at dksX0_sheet_1 5 rfl rfl)
theorem dX0_sheet_30 : decode cX0_sheet 30 = .ok (.iconst 1, 1) := dk_4 (dk_at dksX0_sheet_1 6 rfl rfl)
theorem dX0_sheet_31 : decode cX0_sheet 31 = .ok (.invokevirtual 173, 3) := dk_182 0 173 (dk_at dksX0_sheet_1 7 rfl rfl)
theorem dX0_sheet_34 : decode cX0_sheet 34 = .ok (.ireturn, 1) := dk_172 (dk_at dksX0_sheet_1 10 rfl rfl)
theorem dX0_sheet_35 : decode cX0_sheet 35 = .ok (.iload_n 2, 1) := dk_28 (dk_at dksX0_sheet_1 11 rfl rfl)
theorem dX0_sheet_36 : decode cX0_sheet 36 = .ok (.ifCond .eq 15, 3) := dk_153 0 15 (dk_at dksX0_sheet_1 12 rfl rfl)
theorem dX0_sheet_39 : decode cX0_sheet 39 = .ok (.iload_n 3, 1) := dk_29 (dk_at dksX0_sheet_1 15 rfl rfl)
theorem dX0_sheet_40 : decode cX0_sheet 40 = .ok (.bipush 24, 2) := dk_16 24 (dk_at dksX0_sheet_1 16 rfl rfl)
theorem dX0_sheet_42 : decode cX0_sheet 42 = .ok (.if_icmp .le 9, 3) := dk_164 0 9 (dk_at dksX0_sheet_1 18 rfl rfl)
theorem dX0_sheet_45 : decode cX0_sheet 45 = .ok (.aload_n 0, 1) := dk_42 (dk_at dksX0_sheet_1 21 rfl rfl)
theorem dX0_sheet_46 : decode cX0_sheet 46 = .ok (.iconst 1, 1) := dk_4 (dk_at dksX0_sheet_1 22 rfl rfl)
theorem dX0_sheet_47 : decode cX0_sheet 47 = .ok (.invokevirtual 173, 3) := dk_182 0 173 (dk_at dksX0_sheet_2 0 rfl rfl)
theorem dX0_sheet_50 : decode cX0_sheet 50 = .ok (.ireturn, 1) := dk_172 (dk_at dksX0_sheet_2 3 rfl rfl)
theorem dX0_sheet_51 : decode cX0_sheet 51 = .ok (.aload_n 0, 1) := dk_42 (dk_at dksX0_sheet_2 4 rfl rfl)
theorem dX0_sheet_52 : decode cX0_sheet 52 = .ok (.getfield 96, 3) := dk_180 0 96 (dk_at dksX0_sheet_2 5 rfl rfl)
theorem dX0_sheet_55 : decode cX0_sheet 55 = .ok (.iload_n 1, 1) := dk_27 (dk_at dksX0_sheet_2 8 rfl rfl)
theorem dX0_sheet_56 : decode cX0_sheet 56 = .ok (.aaload, 1) := dk_50 (dk_at dksX0_sheet_2 9 rfl rfl)
theorem dX0_sheet_57 : decode cX0_sheet 57 = .ok (.iload_n 2, 1) := dk_28 (dk_at dksX0_sheet_2 10 rfl rfl)
theorem dX0_sheet_58 : decode cX0_sheet 58 = .ok (.ifCond .ne 7, 3) := dk_154 0 7 (dk_at dksX0_sheet_2 11 rfl rfl)
theorem dX0_sheet_61 : decode cX0_sheet 61 = .ok (.aconst_null, 1) := dk_1 (dk_at dksX0_sheet_2 14 rfl rfl)
theorem dX0_sheet_62 : decode cX0_sheet 62 = .ok (.goto 30, 3) := dk_167 0 30 (dk_at dksX0_sheet_2 15 rfl rfl)
theorem dX0_sheet_65 : decode cX0_sheet 65 = .ok (.iload_n 2, 1) := dk_28 (dk_at dksX0_sheet_2 18 rfl rfl)
theorem dX0_sheet_66 : decode cX0_sheet 66 = .ok (.bipush 8, 2) := dk_16 8 (dk_at dksX0_sheet_2 19 rfl rfl)
theorem dX0_sheet_68 : decode cX0_sheet 68 = .ok (.if_icmp .ne 9, 3) := dk_160 0 9 (dk_at dksX0_sheet_2 21 rfl rfl)
theorem dX0_sheet_71 : decode cX0_sheet 71 = .ok (.iload_n 3, 1) := dk_29 (dk_at dksX0_sheet_3 0 rfl rfl)
theorem dX0_sheet_72 : decode cX0_sheet 72 = .ok (.newarray .byte, 2) := dk_188_8 (dk_at dksX0_sheet_3 1 rfl rfl)
theorem dX0_sheet_74 : decode cX0_sheet 74 = .ok (.goto 18, 3) := dk_167 0 18 (dk_at dksX0_sheet_3 3 rfl rfl)
theorem dX0_sheet_77 : decode cX0_sheet 77 = .ok (.iload_n 2, 1) := dk_28 (dk_at dksX0_sheet_3 6 rfl rfl)
theorem dX0_sheet_78 : decode cX0_sheet 78 = .ok (.bipush 16, 2) := dk_16 16 (dk_at dksX0_sheet_3 7 rfl rfl)
theorem dX0_sheet_80 : decode cX0_sheet 80 = .ok (.if_icmp .ne 9, 3) := dk_160 0 9 (dk_at dksX0_sheet_3 9 rfl rfl)
theorem dX0_sheet_83 : decode cX0_sheet 83 = .ok (.iload_n 3, 1) := dk_29 (dk_at dksX0_sheet_3 12 rfl rfl)
theorem dX0_sheet_84 : decode cX0_sheet 84 = .ok (.newarray .short, 2) := dk_188_9 (dk_at dksX0_sheet_3 13 rfl rfl)
theorem dX0_sheet_86 : decode cX0_sheet 86 = .ok (.goto 6, 3) := dk_167 0 6 (dk_at dksX0_sheet_3 15 rfl rfl)
theorem dX0_sheet_89 : decode cX0_sheet 89 = .ok (.iload_n 3, 1) := dk_29 (dk_at dksX0_sheet_3 18 rfl rfl)
theorem dX0_sheet_90 : decode cX0_sheet 90 = .ok (.newarray .int, 2) := dk_188_10 (dk_at dksX0_sheet_3 19 rfl rfl)
theorem dX0_sheet_92 : decode cX0_sheet 92 = .ok (.putfield 240, 3) := dk_181 0 240 (dk_at dksX0_sheet_3 21 rfl rfl)
theorem dX0_sheet_95 : decode cX0_sheet 95 = .ok (.iconst 1, 1) := dk_4 (dk_at dksX0_sheet_4 0 rfl rfl)
theorem dX0_sheet_96 : decode cX0_sheet 96 = .ok (.ireturn, 1) := dk_172 (dk_at dksX0_sheet_4 1 rfl rfl)
theorem dX0_sheet_97 : decode cX0_sheet 97 = .ok (.astore 4, 2) := dk_58 4 (dk_at dksX0_sheet_4 2 rfl rfl)
theorem dX0_sheet_99 : decode cX0_sheet 99 = .ok (.aload_n 0, 1) := dk_42 (dk_at dksX0_sheet_4 4 rfl rfl)
theorem dX0_sheet_100 : decode cX0_sheet 100 = .ok (.iconst 3, 1) := dk_6 (dk_at dksX0_sheet_4 5 rfl rfl)
theorem dX0_sheet_101 : decode cX0_sheet 101 = .ok (.invokevirtual 173, 3) := dk_182 0 173 (dk_at dksX0_sheet_4 6 rfl rfl)
theorem dX0_sheet_104 : decode cX0_sheet 104 = .ok (.ireturn, 1) := dk_172 (dk_at dksX0_sheet_4 9 rfl rfl)
abbrev cX0_isSheet : ByteArray := prog_1_method_62_code
def yX0_isSheet : MethodName := ⟨RX0, "isSheet", "(I)Z"⟩
def dkwX0_isSheet_0 : List UInt8 := [26, 3, 6, 184, 0, 122, 172]
abbrev dktX0_isSheet_0 : List UInt8 := dkwX0_isSheet_0 ++ []
theorem dksX0_isSheet_0 : cX0_isSheet.data.toList.drop 0 = dktX0_isSheet_0 := by decide +kernel
theorem dX0_isSheet_0 : decode cX0_isSheet 0 = .ok (.iload_n 0, 1) := dk_26 (dk_at dksX0_isSheet_0 0 rfl rfl)
theorem dX0_isSheet_1 : decode cX0_isSheet 1 = .ok (.iconst 0, 1) := dk_3 (dk_at dksX0_isSheet_0 1 rfl rfl)
theorem dX0_isSheet_2 : decode cX0_isSheet 2 = .ok (.iconst 3, 1) := dk_6 (dk_at dksX0_isSheet_0 2 rfl rfl)
theorem dX0_isSheet_3 : decode cX0_isSheet 3 = .ok (.invokestatic 122, 3) := dk_184 0 122 (dk_at dksX0_isSheet_0 3 rfl rfl)
theorem dX0_isSheet_6 : decode cX0_isSheet 6 = .ok (.ireturn, 1) := dk_172 (dk_at dksX0_isSheet_0 6 rfl rfl)
abbrev cX0_put : ByteArray := prog_1_method_66_code
def yX0_put : MethodName := ⟨RX0, "put", "(III)I"⟩
def dkwX0_put_4 : List UInt8 := [167, 0, 11, 25, 4, 192, 1, 106, 28, 29, 79, 4, 172]
abbrev dktX0_put_4 : List UInt8 := dkwX0_put_4 ++ []
def dkwX0_put_3 : List UInt8 := [145, 84, 167, 0, 31, 25, 4, 193, 1, 105, 153, 0, 15, 25, 4, 192, 1, 105, 28, 29, 147, 86]
abbrev dktX0_put_3 : List UInt8 := dkwX0_put_3 ++ dktX0_put_4
def dkwX0_put_2 : List UInt8 := [154, 0, 9, 42, 4, 182, 0, 173, 172, 25, 4, 193, 1, 104, 153, 0, 15, 25, 4, 192, 1, 104, 28, 29]
abbrev dktX0_put_2 : List UInt8 := dkwX0_put_2 ++ dktX0_put_3
def dkwX0_put_1 : List UInt8 := [25, 4, 199, 0, 9, 42, 5, 182, 0, 173, 172, 28, 3, 25, 4, 184, 1, 112, 4, 100, 184, 0, 122]
abbrev dktX0_put_1 : List UInt8 := dkwX0_put_1 ++ dktX0_put_2
def dkwX0_put_0 : List UInt8 := [27, 184, 1, 107, 154, 0, 9, 42, 4, 182, 0, 173, 172, 42, 180, 0, 96, 27, 50, 180, 0, 240, 58, 4]
abbrev dktX0_put_0 : List UInt8 := dkwX0_put_0 ++ dktX0_put_1
theorem dksX0_put_0 : cX0_put.data.toList.drop 0 = dktX0_put_0 := by decide +kernel
theorem dksX0_put_1 : cX0_put.data.toList.drop 24 = dktX0_put_1 := dk_seg dksX0_put_0 24 rfl rfl
theorem dksX0_put_2 : cX0_put.data.toList.drop 47 = dktX0_put_2 := dk_seg dksX0_put_1 23 rfl rfl
theorem dksX0_put_3 : cX0_put.data.toList.drop 71 = dktX0_put_3 := dk_seg dksX0_put_2 24 rfl rfl
theorem dksX0_put_4 : cX0_put.data.toList.drop 93 = dktX0_put_4 := dk_seg dksX0_put_3 22 rfl rfl
theorem dX0_put_0 : decode cX0_put 0 = .ok (.iload_n 1, 1) := dk_27 (dk_at dksX0_put_0 0 rfl rfl)
theorem dX0_put_1 : decode cX0_put 1 = .ok (.invokestatic 363, 3) := dk_184 1 107 (dk_at dksX0_put_0 1 rfl rfl)
theorem dX0_put_4 : decode cX0_put 4 = .ok (.ifCond .ne 9, 3) := dk_154 0 9 (dk_at dksX0_put_0 4 rfl rfl)
theorem dX0_put_7 : decode cX0_put 7 = .ok (.aload_n 0, 1) := dk_42 (dk_at dksX0_put_0 7 rfl rfl)
theorem dX0_put_8 : decode cX0_put 8 = .ok (.iconst 1, 1) := dk_4 (dk_at dksX0_put_0 8 rfl rfl)
theorem dX0_put_9 : decode cX0_put 9 = .ok (.invokevirtual 173, 3) := dk_182 0 173 (dk_at dksX0_put_0 9 rfl rfl)
theorem dX0_put_12 : decode cX0_put 12 = .ok (.ireturn, 1) := dk_172 (dk_at dksX0_put_0 12 rfl rfl)
theorem dX0_put_13 : decode cX0_put 13 = .ok (.aload_n 0, 1) := dk_42 (dk_at dksX0_put_0 13 rfl rfl)
theorem dX0_put_14 : decode cX0_put 14 = .ok (.getfield 96, 3) := dk_180 0 96 (dk_at dksX0_put_0 14 rfl rfl)
theorem dX0_put_17 : decode cX0_put 17 = .ok (.iload_n 1, 1) := dk_27 (dk_at dksX0_put_0 17 rfl rfl)
theorem dX0_put_18 : decode cX0_put 18 = .ok (.aaload, 1) := dk_50 (dk_at dksX0_put_0 18 rfl rfl)
theorem dX0_put_19 : decode cX0_put 19 = .ok (.getfield 240, 3) := dk_180 0 240 (dk_at dksX0_put_0 19 rfl rfl)
theorem dX0_put_22 : decode cX0_put 22 = .ok (.astore 4, 2) := dk_58 4 (dk_at dksX0_put_0 22 rfl rfl)
theorem dX0_put_24 : decode cX0_put 24 = .ok (.aload 4, 2) := dk_25 4 (dk_at dksX0_put_1 0 rfl rfl)
theorem dX0_put_26 : decode cX0_put 26 = .ok (.ifnonnull 9, 3) := dk_199 0 9 (dk_at dksX0_put_1 2 rfl rfl)
theorem dX0_put_29 : decode cX0_put 29 = .ok (.aload_n 0, 1) := dk_42 (dk_at dksX0_put_1 5 rfl rfl)
theorem dX0_put_30 : decode cX0_put 30 = .ok (.iconst 2, 1) := dk_5 (dk_at dksX0_put_1 6 rfl rfl)
theorem dX0_put_31 : decode cX0_put 31 = .ok (.invokevirtual 173, 3) := dk_182 0 173 (dk_at dksX0_put_1 7 rfl rfl)
theorem dX0_put_34 : decode cX0_put 34 = .ok (.ireturn, 1) := dk_172 (dk_at dksX0_put_1 10 rfl rfl)
theorem dX0_put_35 : decode cX0_put 35 = .ok (.iload_n 2, 1) := dk_28 (dk_at dksX0_put_1 11 rfl rfl)
theorem dX0_put_36 : decode cX0_put 36 = .ok (.iconst 0, 1) := dk_3 (dk_at dksX0_put_1 12 rfl rfl)
theorem dX0_put_37 : decode cX0_put 37 = .ok (.aload 4, 2) := dk_25 4 (dk_at dksX0_put_1 13 rfl rfl)
theorem dX0_put_39 : decode cX0_put 39 = .ok (.invokestatic 368, 3) := dk_184 1 112 (dk_at dksX0_put_1 15 rfl rfl)
theorem dX0_put_42 : decode cX0_put 42 = .ok (.iconst 1, 1) := dk_4 (dk_at dksX0_put_1 18 rfl rfl)
theorem dX0_put_43 : decode cX0_put 43 = .ok (.isub, 1) := dk_100 (dk_at dksX0_put_1 19 rfl rfl)
theorem dX0_put_44 : decode cX0_put 44 = .ok (.invokestatic 122, 3) := dk_184 0 122 (dk_at dksX0_put_1 20 rfl rfl)
theorem dX0_put_47 : decode cX0_put 47 = .ok (.ifCond .ne 9, 3) := dk_154 0 9 (dk_at dksX0_put_2 0 rfl rfl)
theorem dX0_put_50 : decode cX0_put 50 = .ok (.aload_n 0, 1) := dk_42 (dk_at dksX0_put_2 3 rfl rfl)
theorem dX0_put_51 : decode cX0_put 51 = .ok (.iconst 1, 1) := dk_4 (dk_at dksX0_put_2 4 rfl rfl)
theorem dX0_put_52 : decode cX0_put 52 = .ok (.invokevirtual 173, 3) := dk_182 0 173 (dk_at dksX0_put_2 5 rfl rfl)
theorem dX0_put_55 : decode cX0_put 55 = .ok (.ireturn, 1) := dk_172 (dk_at dksX0_put_2 8 rfl rfl)
theorem dX0_put_56 : decode cX0_put 56 = .ok (.aload 4, 2) := dk_25 4 (dk_at dksX0_put_2 9 rfl rfl)
theorem dX0_put_58 : decode cX0_put 58 = .ok (.instanceof 360, 3) := dk_193 1 104 (dk_at dksX0_put_2 11 rfl rfl)
theorem dX0_put_61 : decode cX0_put 61 = .ok (.ifCond .eq 15, 3) := dk_153 0 15 (dk_at dksX0_put_2 14 rfl rfl)
theorem dX0_put_64 : decode cX0_put 64 = .ok (.aload 4, 2) := dk_25 4 (dk_at dksX0_put_2 17 rfl rfl)
theorem dX0_put_66 : decode cX0_put 66 = .ok (.checkcast 360, 3) := dk_192 1 104 (dk_at dksX0_put_2 19 rfl rfl)
theorem dX0_put_69 : decode cX0_put 69 = .ok (.iload_n 2, 1) := dk_28 (dk_at dksX0_put_2 22 rfl rfl)
theorem dX0_put_70 : decode cX0_put 70 = .ok (.iload_n 3, 1) := dk_29 (dk_at dksX0_put_2 23 rfl rfl)
theorem dX0_put_71 : decode cX0_put 71 = .ok (.i2b, 1) := dk_145 (dk_at dksX0_put_3 0 rfl rfl)
theorem dX0_put_72 : decode cX0_put 72 = .ok (.bastore, 1) := dk_84 (dk_at dksX0_put_3 1 rfl rfl)
theorem dX0_put_73 : decode cX0_put 73 = .ok (.goto 31, 3) := dk_167 0 31 (dk_at dksX0_put_3 2 rfl rfl)
theorem dX0_put_76 : decode cX0_put 76 = .ok (.aload 4, 2) := dk_25 4 (dk_at dksX0_put_3 5 rfl rfl)
theorem dX0_put_78 : decode cX0_put 78 = .ok (.instanceof 361, 3) := dk_193 1 105 (dk_at dksX0_put_3 7 rfl rfl)
theorem dX0_put_81 : decode cX0_put 81 = .ok (.ifCond .eq 15, 3) := dk_153 0 15 (dk_at dksX0_put_3 10 rfl rfl)
theorem dX0_put_84 : decode cX0_put 84 = .ok (.aload 4, 2) := dk_25 4 (dk_at dksX0_put_3 13 rfl rfl)
theorem dX0_put_86 : decode cX0_put 86 = .ok (.checkcast 361, 3) := dk_192 1 105 (dk_at dksX0_put_3 15 rfl rfl)
theorem dX0_put_89 : decode cX0_put 89 = .ok (.iload_n 2, 1) := dk_28 (dk_at dksX0_put_3 18 rfl rfl)
theorem dX0_put_90 : decode cX0_put 90 = .ok (.iload_n 3, 1) := dk_29 (dk_at dksX0_put_3 19 rfl rfl)
theorem dX0_put_91 : decode cX0_put 91 = .ok (.i2s, 1) := dk_147 (dk_at dksX0_put_3 20 rfl rfl)
theorem dX0_put_92 : decode cX0_put 92 = .ok (.sastore, 1) := dk_86 (dk_at dksX0_put_3 21 rfl rfl)
theorem dX0_put_93 : decode cX0_put 93 = .ok (.goto 11, 3) := dk_167 0 11 (dk_at dksX0_put_4 0 rfl rfl)
theorem dX0_put_96 : decode cX0_put 96 = .ok (.aload 4, 2) := dk_25 4 (dk_at dksX0_put_4 3 rfl rfl)
theorem dX0_put_98 : decode cX0_put 98 = .ok (.checkcast 362, 3) := dk_192 1 106 (dk_at dksX0_put_4 5 rfl rfl)
theorem dX0_put_101 : decode cX0_put 101 = .ok (.iload_n 2, 1) := dk_28 (dk_at dksX0_put_4 8 rfl rfl)
theorem dX0_put_102 : decode cX0_put 102 = .ok (.iload_n 3, 1) := dk_29 (dk_at dksX0_put_4 9 rfl rfl)
theorem dX0_put_103 : decode cX0_put 103 = .ok (.iastore, 1) := dk_79 (dk_at dksX0_put_4 10 rfl rfl)
theorem dX0_put_104 : decode cX0_put 104 = .ok (.iconst 1, 1) := dk_4 (dk_at dksX0_put_4 11 rfl rfl)
theorem dX0_put_105 : decode cX0_put 105 = .ok (.ireturn, 1) := dk_172 (dk_at dksX0_put_4 12 rfl rfl)
abbrev cX0_sizeOf : ByteArray := prog_1_method_63_code
def yX0_sizeOf : MethodName := ⟨RX0, "sizeOf", "(Ljava/lang/Object;)I"⟩
def dkwX0_sizeOf_1 : List UInt8 := [192, 1, 105, 190, 167, 0, 8, 42, 192, 1, 106, 190, 172]
abbrev dktX0_sizeOf_1 : List UInt8 := dkwX0_sizeOf_1 ++ []
def dkwX0_sizeOf_0 : List UInt8 := [42, 193, 1, 104, 153, 0, 11, 42, 192, 1, 104, 190, 167, 0, 23, 42, 193, 1, 105, 153, 0, 11, 42]
abbrev dktX0_sizeOf_0 : List UInt8 := dkwX0_sizeOf_0 ++ dktX0_sizeOf_1
theorem dksX0_sizeOf_0 : cX0_sizeOf.data.toList.drop 0 = dktX0_sizeOf_0 := by decide +kernel
theorem dksX0_sizeOf_1 : cX0_sizeOf.data.toList.drop 23 = dktX0_sizeOf_1 := dk_seg dksX0_sizeOf_0 23 rfl rfl
theorem dX0_sizeOf_0 : decode cX0_sizeOf 0 = .ok (.aload_n 0, 1) := dk_42 (dk_at dksX0_sizeOf_0 0 rfl rfl)
theorem dX0_sizeOf_1 : decode cX0_sizeOf 1 = .ok (.instanceof 360, 3) := dk_193 1 104 (dk_at dksX0_sizeOf_0 1 rfl rfl)
theorem dX0_sizeOf_4 : decode cX0_sizeOf 4 = .ok (.ifCond .eq 11, 3) := dk_153 0 11 (dk_at dksX0_sizeOf_0 4 rfl rfl)
theorem dX0_sizeOf_7 : decode cX0_sizeOf 7 = .ok (.aload_n 0, 1) := dk_42 (dk_at dksX0_sizeOf_0 7 rfl rfl)
theorem dX0_sizeOf_8 : decode cX0_sizeOf 8 = .ok (.checkcast 360, 3) := dk_192 1 104 (dk_at dksX0_sizeOf_0 8 rfl rfl)
theorem dX0_sizeOf_11 : decode cX0_sizeOf 11 = .ok (.arraylength, 1) := dk_190 (dk_at dksX0_sizeOf_0 11 rfl rfl)
theorem dX0_sizeOf_12 : decode cX0_sizeOf 12 = .ok (.goto 23, 3) := dk_167 0 23 (dk_at dksX0_sizeOf_0 12 rfl rfl)
theorem dX0_sizeOf_15 : decode cX0_sizeOf 15 = .ok (.aload_n 0, 1) := dk_42 (dk_at dksX0_sizeOf_0 15 rfl rfl)
theorem dX0_sizeOf_16 : decode cX0_sizeOf 16 = .ok (.instanceof 361, 3) := dk_193 1 105 (dk_at dksX0_sizeOf_0 16 rfl rfl)
theorem dX0_sizeOf_19 : decode cX0_sizeOf 19 = .ok (.ifCond .eq 11, 3) := dk_153 0 11 (dk_at dksX0_sizeOf_0 19 rfl rfl)
theorem dX0_sizeOf_22 : decode cX0_sizeOf 22 = .ok (.aload_n 0, 1) := dk_42 (dk_at dksX0_sizeOf_0 22 rfl rfl)
theorem dX0_sizeOf_23 : decode cX0_sizeOf 23 = .ok (.checkcast 361, 3) := dk_192 1 105 (dk_at dksX0_sizeOf_1 0 rfl rfl)
theorem dX0_sizeOf_26 : decode cX0_sizeOf 26 = .ok (.arraylength, 1) := dk_190 (dk_at dksX0_sizeOf_1 3 rfl rfl)
theorem dX0_sizeOf_27 : decode cX0_sizeOf 27 = .ok (.goto 8, 3) := dk_167 0 8 (dk_at dksX0_sizeOf_1 4 rfl rfl)
theorem dX0_sizeOf_30 : decode cX0_sizeOf 30 = .ok (.aload_n 0, 1) := dk_42 (dk_at dksX0_sizeOf_1 7 rfl rfl)
theorem dX0_sizeOf_31 : decode cX0_sizeOf 31 = .ok (.checkcast 362, 3) := dk_192 1 106 (dk_at dksX0_sizeOf_1 8 rfl rfl)
theorem dX0_sizeOf_34 : decode cX0_sizeOf 34 = .ok (.arraylength, 1) := dk_190 (dk_at dksX0_sizeOf_1 11 rfl rfl)
theorem dX0_sizeOf_35 : decode cX0_sizeOf 35 = .ok (.ireturn, 1) := dk_172 (dk_at dksX0_sizeOf_1 12 rfl rfl)
abbrev cX0_move : ByteArray := prog_1_method_67_code
def yX0_move : MethodName := ⟨RX0, "move", "(IIIII)I"⟩
def dkwX0_move_5 : List UInt8 := [4, 182, 0, 173, 172, 25, 6, 28, 25, 7, 21, 4, 21, 5, 184, 1, 116, 21, 5, 172]
abbrev dktX0_move_5 : List UInt8 := dkwX0_move_5 ++ []
def dkwX0_move_4 : List UInt8 := [25, 6, 184, 1, 112, 28, 100, 163, 0, 16, 21, 5, 25, 7, 184, 1, 112, 21, 4, 100, 164, 0, 9, 42]
abbrev dktX0_move_4 : List UInt8 := dkwX0_move_4 ++ dktX0_move_5
def dkwX0_move_3 : List UInt8 := [58, 8, 42, 8, 182, 0, 173, 172, 21, 5, 155, 0, 37, 28, 155, 0, 33, 21, 4, 155, 0, 28, 21, 5]
abbrev dktX0_move_3 : List UInt8 := dkwX0_move_3 ++ dktX0_move_4
def dkwX0_move_2 : List UInt8 := [25, 7, 199, 0, 9, 42, 5, 182, 0, 173, 172, 25, 6, 3, 25, 7, 3, 3, 184, 1, 116, 167, 0, 11]
abbrev dktX0_move_2 : List UInt8 := dkwX0_move_2 ++ dktX0_move_3
def dkwX0_move_1 : List UInt8 := [27, 50, 180, 0, 240, 58, 6, 42, 180, 0, 96, 29, 50, 180, 0, 240, 58, 7, 25, 6, 198, 0, 8]
abbrev dktX0_move_1 : List UInt8 := dkwX0_move_1 ++ dktX0_move_2
def dkwX0_move_0 : List UInt8 := [27, 184, 1, 107, 153, 0, 10, 29, 184, 1, 107, 154, 0, 9, 42, 4, 182, 0, 173, 172, 42, 180, 0, 96]
abbrev dktX0_move_0 : List UInt8 := dkwX0_move_0 ++ dktX0_move_1
theorem dksX0_move_0 : cX0_move.data.toList.drop 0 = dktX0_move_0 := by decide +kernel
theorem dksX0_move_1 : cX0_move.data.toList.drop 24 = dktX0_move_1 := dk_seg dksX0_move_0 24 rfl rfl
theorem dksX0_move_2 : cX0_move.data.toList.drop 47 = dktX0_move_2 := dk_seg dksX0_move_1 23 rfl rfl
theorem dksX0_move_3 : cX0_move.data.toList.drop 71 = dktX0_move_3 := dk_seg dksX0_move_2 24 rfl rfl
theorem dksX0_move_4 : cX0_move.data.toList.drop 95 = dktX0_move_4 := dk_seg dksX0_move_3 24 rfl rfl
theorem dksX0_move_5 : cX0_move.data.toList.drop 119 = dktX0_move_5 := dk_seg dksX0_move_4 24 rfl rfl
theorem dX0_move_0 : decode cX0_move 0 = .ok (.iload_n 1, 1) := dk_27 (dk_at dksX0_move_0 0 rfl rfl)
theorem dX0_move_1 : decode cX0_move 1 = .ok (.invokestatic 363, 3) := dk_184 1 107 (dk_at dksX0_move_0 1 rfl rfl)
theorem dX0_move_4 : decode cX0_move 4 = .ok (.ifCond .eq 10, 3) := dk_153 0 10 (dk_at dksX0_move_0 4 rfl rfl)
theorem dX0_move_7 : decode cX0_move 7 = .ok (.iload_n 3, 1) := dk_29 (dk_at dksX0_move_0 7 rfl rfl)
theorem dX0_move_8 : decode cX0_move 8 = .ok (.invokestatic 363, 3) := dk_184 1 107 (dk_at dksX0_move_0 8 rfl rfl)
theorem dX0_move_11 : decode cX0_move 11 = .ok (.ifCond .ne 9, 3) := dk_154 0 9 (dk_at dksX0_move_0 11 rfl rfl)
theorem dX0_move_14 : decode cX0_move 14 = .ok (.aload_n 0, 1) := dk_42 (dk_at dksX0_move_0 14 rfl rfl)
theorem dX0_move_15 : decode cX0_move 15 = .ok (.iconst 1, 1) := dk_4 (dk_at dksX0_move_0 15 rfl rfl)
theorem dX0_move_16 : decode cX0_move 16 = .ok (.invokevirtual 173, 3) := dk_182 0 173 (dk_at dksX0_move_0 16 rfl rfl)
theorem dX0_move_19 : decode cX0_move 19 = .ok (.ireturn, 1) := dk_172 (dk_at dksX0_move_0 19 rfl rfl)
theorem dX0_move_20 : decode cX0_move 20 = .ok (.aload_n 0, 1) := dk_42 (dk_at dksX0_move_0 20 rfl rfl)
theorem dX0_move_21 : decode cX0_move 21 = .ok (.getfield 96, 3) := dk_180 0 96 (dk_at dksX0_move_0 21 rfl rfl)
theorem dX0_move_24 : decode cX0_move 24 = .ok (.iload_n 1, 1) := dk_27 (dk_at dksX0_move_1 0 rfl rfl)
theorem dX0_move_25 : decode cX0_move 25 = .ok (.aaload, 1) := dk_50 (dk_at dksX0_move_1 1 rfl rfl)
theorem dX0_move_26 : decode cX0_move 26 = .ok (.getfield 240, 3) := dk_180 0 240 (dk_at dksX0_move_1 2 rfl rfl)
theorem dX0_move_29 : decode cX0_move 29 = .ok (.astore 6, 2) := dk_58 6 (dk_at dksX0_move_1 5 rfl rfl)
theorem dX0_move_31 : decode cX0_move 31 = .ok (.aload_n 0, 1) := dk_42 (dk_at dksX0_move_1 7 rfl rfl)
theorem dX0_move_32 : decode cX0_move 32 = .ok (.getfield 96, 3) := dk_180 0 96 (dk_at dksX0_move_1 8 rfl rfl)
theorem dX0_move_35 : decode cX0_move 35 = .ok (.iload_n 3, 1) := dk_29 (dk_at dksX0_move_1 11 rfl rfl)
theorem dX0_move_36 : decode cX0_move 36 = .ok (.aaload, 1) := dk_50 (dk_at dksX0_move_1 12 rfl rfl)
theorem dX0_move_37 : decode cX0_move 37 = .ok (.getfield 240, 3) := dk_180 0 240 (dk_at dksX0_move_1 13 rfl rfl)
theorem dX0_move_40 : decode cX0_move 40 = .ok (.astore 7, 2) := dk_58 7 (dk_at dksX0_move_1 16 rfl rfl)
theorem dX0_move_42 : decode cX0_move 42 = .ok (.aload 6, 2) := dk_25 6 (dk_at dksX0_move_1 18 rfl rfl)
theorem dX0_move_44 : decode cX0_move 44 = .ok (.ifnull 8, 3) := dk_198 0 8 (dk_at dksX0_move_1 20 rfl rfl)
theorem dX0_move_47 : decode cX0_move 47 = .ok (.aload 7, 2) := dk_25 7 (dk_at dksX0_move_2 0 rfl rfl)
theorem dX0_move_49 : decode cX0_move 49 = .ok (.ifnonnull 9, 3) := dk_199 0 9 (dk_at dksX0_move_2 2 rfl rfl)
theorem dX0_move_52 : decode cX0_move 52 = .ok (.aload_n 0, 1) := dk_42 (dk_at dksX0_move_2 5 rfl rfl)
theorem dX0_move_53 : decode cX0_move 53 = .ok (.iconst 2, 1) := dk_5 (dk_at dksX0_move_2 6 rfl rfl)
theorem dX0_move_54 : decode cX0_move 54 = .ok (.invokevirtual 173, 3) := dk_182 0 173 (dk_at dksX0_move_2 7 rfl rfl)
theorem dX0_move_57 : decode cX0_move 57 = .ok (.ireturn, 1) := dk_172 (dk_at dksX0_move_2 10 rfl rfl)
theorem dX0_move_58 : decode cX0_move 58 = .ok (.aload 6, 2) := dk_25 6 (dk_at dksX0_move_2 11 rfl rfl)
theorem dX0_move_60 : decode cX0_move 60 = .ok (.iconst 0, 1) := dk_3 (dk_at dksX0_move_2 13 rfl rfl)
theorem dX0_move_61 : decode cX0_move 61 = .ok (.aload 7, 2) := dk_25 7 (dk_at dksX0_move_2 14 rfl rfl)
theorem dX0_move_63 : decode cX0_move 63 = .ok (.iconst 0, 1) := dk_3 (dk_at dksX0_move_2 16 rfl rfl)
theorem dX0_move_64 : decode cX0_move 64 = .ok (.iconst 0, 1) := dk_3 (dk_at dksX0_move_2 17 rfl rfl)
theorem dX0_move_65 : decode cX0_move 65 = .ok (.invokestatic 372, 3) := dk_184 1 116 (dk_at dksX0_move_2 18 rfl rfl)
theorem dX0_move_68 : decode cX0_move 68 = .ok (.goto 11, 3) := dk_167 0 11 (dk_at dksX0_move_2 21 rfl rfl)
theorem dX0_move_71 : decode cX0_move 71 = .ok (.astore 8, 2) := dk_58 8 (dk_at dksX0_move_3 0 rfl rfl)
theorem dX0_move_73 : decode cX0_move 73 = .ok (.aload_n 0, 1) := dk_42 (dk_at dksX0_move_3 2 rfl rfl)
theorem dX0_move_74 : decode cX0_move 74 = .ok (.iconst 5, 1) := dk_8 (dk_at dksX0_move_3 3 rfl rfl)
theorem dX0_move_75 : decode cX0_move 75 = .ok (.invokevirtual 173, 3) := dk_182 0 173 (dk_at dksX0_move_3 4 rfl rfl)
theorem dX0_move_78 : decode cX0_move 78 = .ok (.ireturn, 1) := dk_172 (dk_at dksX0_move_3 7 rfl rfl)
theorem dX0_move_79 : decode cX0_move 79 = .ok (.iload 5, 2) := dk_21 5 (dk_at dksX0_move_3 8 rfl rfl)
theorem dX0_move_81 : decode cX0_move 81 = .ok (.ifCond .lt 37, 3) := dk_155 0 37 (dk_at dksX0_move_3 10 rfl rfl)
theorem dX0_move_84 : decode cX0_move 84 = .ok (.iload_n 2, 1) := dk_28 (dk_at dksX0_move_3 13 rfl rfl)
theorem dX0_move_85 : decode cX0_move 85 = .ok (.ifCond .lt 33, 3) := dk_155 0 33 (dk_at dksX0_move_3 14 rfl rfl)
theorem dX0_move_88 : decode cX0_move 88 = .ok (.iload 4, 2) := dk_21 4 (dk_at dksX0_move_3 17 rfl rfl)
theorem dX0_move_90 : decode cX0_move 90 = .ok (.ifCond .lt 28, 3) := dk_155 0 28 (dk_at dksX0_move_3 19 rfl rfl)
theorem dX0_move_93 : decode cX0_move 93 = .ok (.iload 5, 2) := dk_21 5 (dk_at dksX0_move_3 22 rfl rfl)
theorem dX0_move_95 : decode cX0_move 95 = .ok (.aload 6, 2) := dk_25 6 (dk_at dksX0_move_4 0 rfl rfl)
theorem dX0_move_97 : decode cX0_move 97 = .ok (.invokestatic 368, 3) := dk_184 1 112 (dk_at dksX0_move_4 2 rfl rfl)
theorem dX0_move_100 : decode cX0_move 100 = .ok (.iload_n 2, 1) := dk_28 (dk_at dksX0_move_4 5 rfl rfl)
theorem dX0_move_101 : decode cX0_move 101 = .ok (.isub, 1) := dk_100 (dk_at dksX0_move_4 6 rfl rfl)
theorem dX0_move_102 : decode cX0_move 102 = .ok (.if_icmp .gt 16, 3) := dk_163 0 16 (dk_at dksX0_move_4 7 rfl rfl)
theorem dX0_move_105 : decode cX0_move 105 = .ok (.iload 5, 2) := dk_21 5 (dk_at dksX0_move_4 10 rfl rfl)
theorem dX0_move_107 : decode cX0_move 107 = .ok (.aload 7, 2) := dk_25 7 (dk_at dksX0_move_4 12 rfl rfl)
theorem dX0_move_109 : decode cX0_move 109 = .ok (.invokestatic 368, 3) := dk_184 1 112 (dk_at dksX0_move_4 14 rfl rfl)
theorem dX0_move_112 : decode cX0_move 112 = .ok (.iload 4, 2) := dk_21 4 (dk_at dksX0_move_4 17 rfl rfl)
theorem dX0_move_114 : decode cX0_move 114 = .ok (.isub, 1) := dk_100 (dk_at dksX0_move_4 19 rfl rfl)
theorem dX0_move_115 : decode cX0_move 115 = .ok (.if_icmp .le 9, 3) := dk_164 0 9 (dk_at dksX0_move_4 20 rfl rfl)
theorem dX0_move_118 : decode cX0_move 118 = .ok (.aload_n 0, 1) := dk_42 (dk_at dksX0_move_4 23 rfl rfl)
theorem dX0_move_119 : decode cX0_move 119 = .ok (.iconst 1, 1) := dk_4 (dk_at dksX0_move_5 0 rfl rfl)
theorem dX0_move_120 : decode cX0_move 120 = .ok (.invokevirtual 173, 3) := dk_182 0 173 (dk_at dksX0_move_5 1 rfl rfl)
theorem dX0_move_123 : decode cX0_move 123 = .ok (.ireturn, 1) := dk_172 (dk_at dksX0_move_5 4 rfl rfl)
theorem dX0_move_124 : decode cX0_move 124 = .ok (.aload 6, 2) := dk_25 6 (dk_at dksX0_move_5 5 rfl rfl)
theorem dX0_move_126 : decode cX0_move 126 = .ok (.iload_n 2, 1) := dk_28 (dk_at dksX0_move_5 7 rfl rfl)
theorem dX0_move_127 : decode cX0_move 127 = .ok (.aload 7, 2) := dk_25 7 (dk_at dksX0_move_5 8 rfl rfl)
theorem dX0_move_129 : decode cX0_move 129 = .ok (.iload 4, 2) := dk_21 4 (dk_at dksX0_move_5 10 rfl rfl)
theorem dX0_move_131 : decode cX0_move 131 = .ok (.iload 5, 2) := dk_21 5 (dk_at dksX0_move_5 12 rfl rfl)
theorem dX0_move_133 : decode cX0_move 133 = .ok (.invokestatic 372, 3) := dk_184 1 116 (dk_at dksX0_move_5 14 rfl rfl)
theorem dX0_move_136 : decode cX0_move 136 = .ok (.iload 5, 2) := dk_21 5 (dk_at dksX0_move_5 17 rfl rfl)
theorem dX0_move_138 : decode cX0_move 138 = .ok (.ireturn, 1) := dk_172 (dk_at dksX0_move_5 19 rfl rfl)
abbrev cX0_forces : ByteArray := prog_1_method_68_code
def yX0_forces : MethodName := ⟨RX0, "forces", "(I)I"⟩
def dkwX0_forces_3 : List UInt8 := [29, 44, 29, 184, 1, 124, 145, 84, 132, 3, 1, 167, 255, 210, 29, 172]
abbrev dktX0_forces_3 : List UInt8 := dkwX0_forces_3 ++ []
def dkwX0_forces_2 : List UInt8 := [162, 0, 38, 44, 29, 184, 1, 124, 3, 16, 99, 184, 0, 122, 153, 0, 24, 42, 180, 0, 73, 180, 0, 177]
abbrev dktX0_forces_2 : List UInt8 := dkwX0_forces_2 ++ dktX0_forces_3
def dkwX0_forces_1 : List UInt8 := [199, 0, 9, 42, 5, 182, 0, 173, 172, 3, 62, 29, 44, 184, 1, 112, 162, 0, 44, 29, 16, 24]
abbrev dktX0_forces_1 : List UInt8 := dkwX0_forces_1 ++ dktX0_forces_2
def dkwX0_forces_0 : List UInt8 := [27, 184, 1, 107, 154, 0, 9, 42, 4, 182, 0, 173, 172, 42, 180, 0, 96, 27, 50, 180, 0, 240, 77, 44]
abbrev dktX0_forces_0 : List UInt8 := dkwX0_forces_0 ++ dktX0_forces_1
theorem dksX0_forces_0 : cX0_forces.data.toList.drop 0 = dktX0_forces_0 := by decide +kernel
theorem dksX0_forces_1 : cX0_forces.data.toList.drop 24 = dktX0_forces_1 := dk_seg dksX0_forces_0 24 rfl rfl
theorem dksX0_forces_2 : cX0_forces.data.toList.drop 46 = dktX0_forces_2 := dk_seg dksX0_forces_1 22 rfl rfl
theorem dksX0_forces_3 : cX0_forces.data.toList.drop 70 = dktX0_forces_3 := dk_seg dksX0_forces_2 24 rfl rfl
theorem dX0_forces_0 : decode cX0_forces 0 = .ok (.iload_n 1, 1) := dk_27 (dk_at dksX0_forces_0 0 rfl rfl)
theorem dX0_forces_1 : decode cX0_forces 1 = .ok (.invokestatic 363, 3) := dk_184 1 107 (dk_at dksX0_forces_0 1 rfl rfl)
theorem dX0_forces_4 : decode cX0_forces 4 = .ok (.ifCond .ne 9, 3) := dk_154 0 9 (dk_at dksX0_forces_0 4 rfl rfl)
theorem dX0_forces_7 : decode cX0_forces 7 = .ok (.aload_n 0, 1) := dk_42 (dk_at dksX0_forces_0 7 rfl rfl)
theorem dX0_forces_8 : decode cX0_forces 8 = .ok (.iconst 1, 1) := dk_4 (dk_at dksX0_forces_0 8 rfl rfl)
theorem dX0_forces_9 : decode cX0_forces 9 = .ok (.invokevirtual 173, 3) := dk_182 0 173 (dk_at dksX0_forces_0 9 rfl rfl)
theorem dX0_forces_12 : decode cX0_forces 12 = .ok (.ireturn, 1) := dk_172 (dk_at dksX0_forces_0 12 rfl rfl)
theorem dX0_forces_13 : decode cX0_forces 13 = .ok (.aload_n 0, 1) := dk_42 (dk_at dksX0_forces_0 13 rfl rfl)
theorem dX0_forces_14 : decode cX0_forces 14 = .ok (.getfield 96, 3) := dk_180 0 96 (dk_at dksX0_forces_0 14 rfl rfl)
theorem dX0_forces_17 : decode cX0_forces 17 = .ok (.iload_n 1, 1) := dk_27 (dk_at dksX0_forces_0 17 rfl rfl)
theorem dX0_forces_18 : decode cX0_forces 18 = .ok (.aaload, 1) := dk_50 (dk_at dksX0_forces_0 18 rfl rfl)
theorem dX0_forces_19 : decode cX0_forces 19 = .ok (.getfield 240, 3) := dk_180 0 240 (dk_at dksX0_forces_0 19 rfl rfl)
theorem dX0_forces_22 : decode cX0_forces 22 = .ok (.astore_n 2, 1) := dk_77 (dk_at dksX0_forces_0 22 rfl rfl)
theorem dX0_forces_23 : decode cX0_forces 23 = .ok (.aload_n 2, 1) := dk_44 (dk_at dksX0_forces_0 23 rfl rfl)
theorem dX0_forces_24 : decode cX0_forces 24 = .ok (.ifnonnull 9, 3) := dk_199 0 9 (dk_at dksX0_forces_1 0 rfl rfl)
theorem dX0_forces_27 : decode cX0_forces 27 = .ok (.aload_n 0, 1) := dk_42 (dk_at dksX0_forces_1 3 rfl rfl)
theorem dX0_forces_28 : decode cX0_forces 28 = .ok (.iconst 2, 1) := dk_5 (dk_at dksX0_forces_1 4 rfl rfl)
theorem dX0_forces_29 : decode cX0_forces 29 = .ok (.invokevirtual 173, 3) := dk_182 0 173 (dk_at dksX0_forces_1 5 rfl rfl)
theorem dX0_forces_32 : decode cX0_forces 32 = .ok (.ireturn, 1) := dk_172 (dk_at dksX0_forces_1 8 rfl rfl)
theorem dX0_forces_33 : decode cX0_forces 33 = .ok (.iconst 0, 1) := dk_3 (dk_at dksX0_forces_1 9 rfl rfl)
theorem dX0_forces_34 : decode cX0_forces 34 = .ok (.istore_n 3, 1) := dk_62 (dk_at dksX0_forces_1 10 rfl rfl)
theorem dX0_forces_35 : decode cX0_forces 35 = .ok (.iload_n 3, 1) := dk_29 (dk_at dksX0_forces_1 11 rfl rfl)
theorem dX0_forces_36 : decode cX0_forces 36 = .ok (.aload_n 2, 1) := dk_44 (dk_at dksX0_forces_1 12 rfl rfl)
theorem dX0_forces_37 : decode cX0_forces 37 = .ok (.invokestatic 368, 3) := dk_184 1 112 (dk_at dksX0_forces_1 13 rfl rfl)
theorem dX0_forces_40 : decode cX0_forces 40 = .ok (.if_icmp .ge 44, 3) := dk_162 0 44 (dk_at dksX0_forces_1 16 rfl rfl)
theorem dX0_forces_43 : decode cX0_forces 43 = .ok (.iload_n 3, 1) := dk_29 (dk_at dksX0_forces_1 19 rfl rfl)
theorem dX0_forces_44 : decode cX0_forces 44 = .ok (.bipush 24, 2) := dk_16 24 (dk_at dksX0_forces_1 20 rfl rfl)
theorem dX0_forces_46 : decode cX0_forces 46 = .ok (.if_icmp .ge 38, 3) := dk_162 0 38 (dk_at dksX0_forces_2 0 rfl rfl)
theorem dX0_forces_49 : decode cX0_forces 49 = .ok (.aload_n 2, 1) := dk_44 (dk_at dksX0_forces_2 3 rfl rfl)
theorem dX0_forces_50 : decode cX0_forces 50 = .ok (.iload_n 3, 1) := dk_29 (dk_at dksX0_forces_2 4 rfl rfl)
theorem dX0_forces_51 : decode cX0_forces 51 = .ok (.invokestatic 380, 3) := dk_184 1 124 (dk_at dksX0_forces_2 5 rfl rfl)
theorem dX0_forces_54 : decode cX0_forces 54 = .ok (.iconst 0, 1) := dk_3 (dk_at dksX0_forces_2 8 rfl rfl)
theorem dX0_forces_55 : decode cX0_forces 55 = .ok (.bipush 99, 2) := dk_16 99 (dk_at dksX0_forces_2 9 rfl rfl)
theorem dX0_forces_57 : decode cX0_forces 57 = .ok (.invokestatic 122, 3) := dk_184 0 122 (dk_at dksX0_forces_2 11 rfl rfl)
theorem dX0_forces_60 : decode cX0_forces 60 = .ok (.ifCond .eq 24, 3) := dk_153 0 24 (dk_at dksX0_forces_2 14 rfl rfl)
theorem dX0_forces_63 : decode cX0_forces 63 = .ok (.aload_n 0, 1) := dk_42 (dk_at dksX0_forces_2 17 rfl rfl)
theorem dX0_forces_64 : decode cX0_forces 64 = .ok (.getfield 73, 3) := dk_180 0 73 (dk_at dksX0_forces_2 18 rfl rfl)
theorem dX0_forces_67 : decode cX0_forces 67 = .ok (.getfield 177, 3) := dk_180 0 177 (dk_at dksX0_forces_2 21 rfl rfl)
theorem dX0_forces_70 : decode cX0_forces 70 = .ok (.iload_n 3, 1) := dk_29 (dk_at dksX0_forces_3 0 rfl rfl)
theorem dX0_forces_71 : decode cX0_forces 71 = .ok (.aload_n 2, 1) := dk_44 (dk_at dksX0_forces_3 1 rfl rfl)
theorem dX0_forces_72 : decode cX0_forces 72 = .ok (.iload_n 3, 1) := dk_29 (dk_at dksX0_forces_3 2 rfl rfl)
theorem dX0_forces_73 : decode cX0_forces 73 = .ok (.invokestatic 380, 3) := dk_184 1 124 (dk_at dksX0_forces_3 3 rfl rfl)
theorem dX0_forces_76 : decode cX0_forces 76 = .ok (.i2b, 1) := dk_145 (dk_at dksX0_forces_3 6 rfl rfl)
theorem dX0_forces_77 : decode cX0_forces 77 = .ok (.bastore, 1) := dk_84 (dk_at dksX0_forces_3 7 rfl rfl)
theorem dX0_forces_78 : decode cX0_forces 78 = .ok (.iinc 3 1, 3) := dk_132 3 1 (dk_at dksX0_forces_3 8 rfl rfl)
theorem dX0_forces_81 : decode cX0_forces 81 = .ok (.goto (-46), 3) := dk_167 255 210 (dk_at dksX0_forces_3 11 rfl rfl)
theorem dX0_forces_84 : decode cX0_forces 84 = .ok (.iload_n 3, 1) := dk_29 (dk_at dksX0_forces_3 14 rfl rfl)
theorem dX0_forces_85 : decode cX0_forces 85 = .ok (.ireturn, 1) := dk_172 (dk_at dksX0_forces_3 15 rfl rfl)
abbrev cX0_numberOf : ByteArray := prog_1_method_64_code
def yX0_numberOf : MethodName := ⟨RX0, "numberOf", "(Ljava/lang/Object;I)I"⟩
def dkwX0_numberOf_1 : List UInt8 := [192, 1, 105, 27, 53, 167, 0, 9, 42, 192, 1, 106, 27, 46, 172]
abbrev dktX0_numberOf_1 : List UInt8 := dkwX0_numberOf_1 ++ []
def dkwX0_numberOf_0 : List UInt8 := [42, 193, 1, 104, 153, 0, 12, 42, 192, 1, 104, 27, 51, 167, 0, 25, 42, 193, 1, 105, 153, 0, 12, 42]
abbrev dktX0_numberOf_0 : List UInt8 := dkwX0_numberOf_0 ++ dktX0_numberOf_1
theorem dksX0_numberOf_0 : cX0_numberOf.data.toList.drop 0 = dktX0_numberOf_0 := by decide +kernel
theorem dksX0_numberOf_1 : cX0_numberOf.data.toList.drop 24 = dktX0_numberOf_1 := dk_seg dksX0_numberOf_0 24 rfl rfl
theorem dX0_numberOf_0 : decode cX0_numberOf 0 = .ok (.aload_n 0, 1) := dk_42 (dk_at dksX0_numberOf_0 0 rfl rfl)
theorem dX0_numberOf_1 : decode cX0_numberOf 1 = .ok (.instanceof 360, 3) := dk_193 1 104 (dk_at dksX0_numberOf_0 1 rfl rfl)
theorem dX0_numberOf_4 : decode cX0_numberOf 4 = .ok (.ifCond .eq 12, 3) := dk_153 0 12 (dk_at dksX0_numberOf_0 4 rfl rfl)
theorem dX0_numberOf_7 : decode cX0_numberOf 7 = .ok (.aload_n 0, 1) := dk_42 (dk_at dksX0_numberOf_0 7 rfl rfl)
theorem dX0_numberOf_8 : decode cX0_numberOf 8 = .ok (.checkcast 360, 3) := dk_192 1 104 (dk_at dksX0_numberOf_0 8 rfl rfl)
theorem dX0_numberOf_11 : decode cX0_numberOf 11 = .ok (.iload_n 1, 1) := dk_27 (dk_at dksX0_numberOf_0 11 rfl rfl)
theorem dX0_numberOf_12 : decode cX0_numberOf 12 = .ok (.baload, 1) := dk_51 (dk_at dksX0_numberOf_0 12 rfl rfl)
theorem dX0_numberOf_13 : decode cX0_numberOf 13 = .ok (.goto 25, 3) := dk_167 0 25 (dk_at dksX0_numberOf_0 13 rfl rfl)
theorem dX0_numberOf_16 : decode cX0_numberOf 16 = .ok (.aload_n 0, 1) := dk_42 (dk_at dksX0_numberOf_0 16 rfl rfl)
theorem dX0_numberOf_17 : decode cX0_numberOf 17 = .ok (.instanceof 361, 3) := dk_193 1 105 (dk_at dksX0_numberOf_0 17 rfl rfl)
theorem dX0_numberOf_20 : decode cX0_numberOf 20 = .ok (.ifCond .eq 12, 3) := dk_153 0 12 (dk_at dksX0_numberOf_0 20 rfl rfl)
theorem dX0_numberOf_23 : decode cX0_numberOf 23 = .ok (.aload_n 0, 1) := dk_42 (dk_at dksX0_numberOf_0 23 rfl rfl)
theorem dX0_numberOf_24 : decode cX0_numberOf 24 = .ok (.checkcast 361, 3) := dk_192 1 105 (dk_at dksX0_numberOf_1 0 rfl rfl)
theorem dX0_numberOf_27 : decode cX0_numberOf 27 = .ok (.iload_n 1, 1) := dk_27 (dk_at dksX0_numberOf_1 3 rfl rfl)
theorem dX0_numberOf_28 : decode cX0_numberOf 28 = .ok (.saload, 1) := dk_53 (dk_at dksX0_numberOf_1 4 rfl rfl)
theorem dX0_numberOf_29 : decode cX0_numberOf 29 = .ok (.goto 9, 3) := dk_167 0 9 (dk_at dksX0_numberOf_1 5 rfl rfl)
theorem dX0_numberOf_32 : decode cX0_numberOf 32 = .ok (.aload_n 0, 1) := dk_42 (dk_at dksX0_numberOf_1 8 rfl rfl)
theorem dX0_numberOf_33 : decode cX0_numberOf 33 = .ok (.checkcast 362, 3) := dk_192 1 106 (dk_at dksX0_numberOf_1 9 rfl rfl)
theorem dX0_numberOf_36 : decode cX0_numberOf 36 = .ok (.iload_n 1, 1) := dk_27 (dk_at dksX0_numberOf_1 12 rfl rfl)
theorem dX0_numberOf_37 : decode cX0_numberOf 37 = .ok (.iaload, 1) := dk_46 (dk_at dksX0_numberOf_1 13 rfl rfl)
theorem dX0_numberOf_38 : decode cX0_numberOf 38 = .ok (.ireturn, 1) := dk_172 (dk_at dksX0_numberOf_1 14 rfl rfl)
abbrev cX0_judge : ByteArray := prog_1_method_69_code
def yX0_judge : MethodName := ⟨RX0, "judge", "(I)I"⟩
def dkwX0_judge_3 : List UInt8 := [167, 255, 225, 29, 172]
abbrev dktX0_judge_3 : List UInt8 := dkwX0_judge_3 ++ []
def dkwX0_judge_2 : List UInt8 := [16, 12, 162, 0, 23, 44, 29, 184, 1, 124, 42, 180, 0, 112, 29, 46, 160, 0, 9, 132, 3, 1]
abbrev dktX0_judge_2 : List UInt8 := dkwX0_judge_2 ++ dktX0_judge_3
def dkwX0_judge_1 : List UInt8 := [199, 0, 9, 42, 5, 182, 0, 173, 172, 42, 182, 0, 222, 3, 62, 29, 44, 184, 1, 112, 162, 0, 29, 29]
abbrev dktX0_judge_1 : List UInt8 := dkwX0_judge_1 ++ dktX0_judge_2
def dkwX0_judge_0 : List UInt8 := [27, 184, 1, 107, 154, 0, 9, 42, 4, 182, 0, 173, 172, 42, 180, 0, 96, 27, 50, 180, 0, 240, 77, 44]
abbrev dktX0_judge_0 : List UInt8 := dkwX0_judge_0 ++ dktX0_judge_1
theorem dksX0_judge_0 : cX0_judge.data.toList.drop 0 = dktX0_judge_0 := by decide +kernel
theorem dksX0_judge_1 : cX0_judge.data.toList.drop 24 = dktX0_judge_1 := dk_seg dksX0_judge_0 24 rfl rfl
theorem dksX0_judge_2 : cX0_judge.data.toList.drop 48 = dktX0_judge_2 := dk_seg dksX0_judge_1 24 rfl rfl
theorem dksX0_judge_3 : cX0_judge.data.toList.drop 70 = dktX0_judge_3 := dk_seg dksX0_judge_2 22 rfl rfl
theorem dX0_judge_0 : decode cX0_judge 0 = .ok (.iload_n 1, 1) := dk_27 (dk_at dksX0_judge_0 0 rfl rfl)
theorem dX0_judge_1 : decode cX0_judge 1 = .ok (.invokestatic 363, 3) := dk_184 1 107 (dk_at dksX0_judge_0 1 rfl rfl)
theorem dX0_judge_4 : decode cX0_judge 4 = .ok (.ifCond .ne 9, 3) := dk_154 0 9 (dk_at dksX0_judge_0 4 rfl rfl)
theorem dX0_judge_7 : decode cX0_judge 7 = .ok (.aload_n 0, 1) := dk_42 (dk_at dksX0_judge_0 7 rfl rfl)
theorem dX0_judge_8 : decode cX0_judge 8 = .ok (.iconst 1, 1) := dk_4 (dk_at dksX0_judge_0 8 rfl rfl)
theorem dX0_judge_9 : decode cX0_judge 9 = .ok (.invokevirtual 173, 3) := dk_182 0 173 (dk_at dksX0_judge_0 9 rfl rfl)
theorem dX0_judge_12 : decode cX0_judge 12 = .ok (.ireturn, 1) := dk_172 (dk_at dksX0_judge_0 12 rfl rfl)
theorem dX0_judge_13 : decode cX0_judge 13 = .ok (.aload_n 0, 1) := dk_42 (dk_at dksX0_judge_0 13 rfl rfl)
theorem dX0_judge_14 : decode cX0_judge 14 = .ok (.getfield 96, 3) := dk_180 0 96 (dk_at dksX0_judge_0 14 rfl rfl)
theorem dX0_judge_17 : decode cX0_judge 17 = .ok (.iload_n 1, 1) := dk_27 (dk_at dksX0_judge_0 17 rfl rfl)
theorem dX0_judge_18 : decode cX0_judge 18 = .ok (.aaload, 1) := dk_50 (dk_at dksX0_judge_0 18 rfl rfl)
theorem dX0_judge_19 : decode cX0_judge 19 = .ok (.getfield 240, 3) := dk_180 0 240 (dk_at dksX0_judge_0 19 rfl rfl)
theorem dX0_judge_22 : decode cX0_judge 22 = .ok (.astore_n 2, 1) := dk_77 (dk_at dksX0_judge_0 22 rfl rfl)
theorem dX0_judge_23 : decode cX0_judge 23 = .ok (.aload_n 2, 1) := dk_44 (dk_at dksX0_judge_0 23 rfl rfl)
theorem dX0_judge_24 : decode cX0_judge 24 = .ok (.ifnonnull 9, 3) := dk_199 0 9 (dk_at dksX0_judge_1 0 rfl rfl)
theorem dX0_judge_27 : decode cX0_judge 27 = .ok (.aload_n 0, 1) := dk_42 (dk_at dksX0_judge_1 3 rfl rfl)
theorem dX0_judge_28 : decode cX0_judge 28 = .ok (.iconst 2, 1) := dk_5 (dk_at dksX0_judge_1 4 rfl rfl)
theorem dX0_judge_29 : decode cX0_judge 29 = .ok (.invokevirtual 173, 3) := dk_182 0 173 (dk_at dksX0_judge_1 5 rfl rfl)
theorem dX0_judge_32 : decode cX0_judge 32 = .ok (.ireturn, 1) := dk_172 (dk_at dksX0_judge_1 8 rfl rfl)
theorem dX0_judge_33 : decode cX0_judge 33 = .ok (.aload_n 0, 1) := dk_42 (dk_at dksX0_judge_1 9 rfl rfl)
theorem dX0_judge_34 : decode cX0_judge 34 = .ok (.invokevirtual 222, 3) := dk_182 0 222 (dk_at dksX0_judge_1 10 rfl rfl)
theorem dX0_judge_37 : decode cX0_judge 37 = .ok (.iconst 0, 1) := dk_3 (dk_at dksX0_judge_1 13 rfl rfl)
theorem dX0_judge_38 : decode cX0_judge 38 = .ok (.istore_n 3, 1) := dk_62 (dk_at dksX0_judge_1 14 rfl rfl)
theorem dX0_judge_39 : decode cX0_judge 39 = .ok (.iload_n 3, 1) := dk_29 (dk_at dksX0_judge_1 15 rfl rfl)
theorem dX0_judge_40 : decode cX0_judge 40 = .ok (.aload_n 2, 1) := dk_44 (dk_at dksX0_judge_1 16 rfl rfl)
theorem dX0_judge_41 : decode cX0_judge 41 = .ok (.invokestatic 368, 3) := dk_184 1 112 (dk_at dksX0_judge_1 17 rfl rfl)
theorem dX0_judge_44 : decode cX0_judge 44 = .ok (.if_icmp .ge 29, 3) := dk_162 0 29 (dk_at dksX0_judge_1 20 rfl rfl)
theorem dX0_judge_47 : decode cX0_judge 47 = .ok (.iload_n 3, 1) := dk_29 (dk_at dksX0_judge_1 23 rfl rfl)
theorem dX0_judge_48 : decode cX0_judge 48 = .ok (.bipush 12, 2) := dk_16 12 (dk_at dksX0_judge_2 0 rfl rfl)
theorem dX0_judge_50 : decode cX0_judge 50 = .ok (.if_icmp .ge 23, 3) := dk_162 0 23 (dk_at dksX0_judge_2 2 rfl rfl)
theorem dX0_judge_53 : decode cX0_judge 53 = .ok (.aload_n 2, 1) := dk_44 (dk_at dksX0_judge_2 5 rfl rfl)
theorem dX0_judge_54 : decode cX0_judge 54 = .ok (.iload_n 3, 1) := dk_29 (dk_at dksX0_judge_2 6 rfl rfl)
theorem dX0_judge_55 : decode cX0_judge 55 = .ok (.invokestatic 380, 3) := dk_184 1 124 (dk_at dksX0_judge_2 7 rfl rfl)
theorem dX0_judge_58 : decode cX0_judge 58 = .ok (.aload_n 0, 1) := dk_42 (dk_at dksX0_judge_2 10 rfl rfl)
theorem dX0_judge_59 : decode cX0_judge 59 = .ok (.getfield 112, 3) := dk_180 0 112 (dk_at dksX0_judge_2 11 rfl rfl)
theorem dX0_judge_62 : decode cX0_judge 62 = .ok (.iload_n 3, 1) := dk_29 (dk_at dksX0_judge_2 14 rfl rfl)
theorem dX0_judge_63 : decode cX0_judge 63 = .ok (.iaload, 1) := dk_46 (dk_at dksX0_judge_2 15 rfl rfl)
theorem dX0_judge_64 : decode cX0_judge 64 = .ok (.if_icmp .ne 9, 3) := dk_160 0 9 (dk_at dksX0_judge_2 16 rfl rfl)
theorem dX0_judge_67 : decode cX0_judge 67 = .ok (.iinc 3 1, 3) := dk_132 3 1 (dk_at dksX0_judge_2 19 rfl rfl)
theorem dX0_judge_70 : decode cX0_judge 70 = .ok (.goto (-31), 3) := dk_167 255 225 (dk_at dksX0_judge_3 0 rfl rfl)
theorem dX0_judge_73 : decode cX0_judge 73 = .ok (.iload_n 3, 1) := dk_29 (dk_at dksX0_judge_3 3 rfl rfl)
theorem dX0_judge_74 : decode cX0_judge 74 = .ok (.ireturn, 1) := dk_172 (dk_at dksX0_judge_3 4 rfl rfl)
abbrev cX0_image : ByteArray := prog_1_method_70_code
def yX0_image : MethodName := ⟨RX0, "image", "()I"⟩
def dkwX0_image_1 : List UInt8 := [180, 1, 128, 172]
abbrev dktX0_image_1 : List UInt8 := dkwX0_image_1 ++ []
def dkwX0_image_0 : List UInt8 := [42, 180, 0, 80, 42, 180, 0, 73, 182, 1, 53, 42, 89, 180, 1, 128, 4, 96, 181, 1, 128, 42]
abbrev dktX0_image_0 : List UInt8 := dkwX0_image_0 ++ dktX0_image_1
theorem dksX0_image_0 : cX0_image.data.toList.drop 0 = dktX0_image_0 := by decide +kernel
theorem dksX0_image_1 : cX0_image.data.toList.drop 22 = dktX0_image_1 := dk_seg dksX0_image_0 22 rfl rfl
theorem dX0_image_0 : decode cX0_image 0 = .ok (.aload_n 0, 1) := dk_42 (dk_at dksX0_image_0 0 rfl rfl)
theorem dX0_image_1 : decode cX0_image 1 = .ok (.getfield 80, 3) := dk_180 0 80 (dk_at dksX0_image_0 1 rfl rfl)
theorem dX0_image_4 : decode cX0_image 4 = .ok (.aload_n 0, 1) := dk_42 (dk_at dksX0_image_0 4 rfl rfl)
theorem dX0_image_5 : decode cX0_image 5 = .ok (.getfield 73, 3) := dk_180 0 73 (dk_at dksX0_image_0 5 rfl rfl)
theorem dX0_image_8 : decode cX0_image 8 = .ok (.invokevirtual 309, 3) := dk_182 1 53 (dk_at dksX0_image_0 8 rfl rfl)
theorem dX0_image_11 : decode cX0_image 11 = .ok (.aload_n 0, 1) := dk_42 (dk_at dksX0_image_0 11 rfl rfl)
theorem dX0_image_12 : decode cX0_image 12 = .ok (.dup, 1) := dk_89 (dk_at dksX0_image_0 12 rfl rfl)
theorem dX0_image_13 : decode cX0_image 13 = .ok (.getfield 384, 3) := dk_180 1 128 (dk_at dksX0_image_0 13 rfl rfl)
theorem dX0_image_16 : decode cX0_image 16 = .ok (.iconst 1, 1) := dk_4 (dk_at dksX0_image_0 16 rfl rfl)
theorem dX0_image_17 : decode cX0_image 17 = .ok (.iadd, 1) := dk_96 (dk_at dksX0_image_0 17 rfl rfl)
theorem dX0_image_18 : decode cX0_image 18 = .ok (.putfield 384, 3) := dk_181 1 128 (dk_at dksX0_image_0 18 rfl rfl)
theorem dX0_image_21 : decode cX0_image 21 = .ok (.aload_n 0, 1) := dk_42 (dk_at dksX0_image_0 21 rfl rfl)
theorem dX0_image_22 : decode cX0_image 22 = .ok (.getfield 384, 3) := dk_180 1 128 (dk_at dksX0_image_1 0 rfl rfl)
theorem dX0_image_25 : decode cX0_image 25 = .ok (.ireturn, 1) := dk_172 (dk_at dksX0_image_1 3 rfl rfl)
abbrev cX0_restore : ByteArray := prog_1_method_71_code
def yX0_restore : MethodName := ⟨RX0, "restore", "()I"⟩
def dkwX0_restore_1 : List UInt8 := [42, 180, 0, 73, 180, 1, 32, 172]
abbrev dktX0_restore_1 : List UInt8 := dkwX0_restore_1 ++ []
def dkwX0_restore_0 : List UInt8 := [42, 180, 1, 128, 154, 0, 9, 42, 5, 182, 0, 173, 172, 42, 180, 0, 73, 42, 180, 0, 80, 182, 1, 53]
abbrev dktX0_restore_0 : List UInt8 := dkwX0_restore_0 ++ dktX0_restore_1
theorem dksX0_restore_0 : cX0_restore.data.toList.drop 0 = dktX0_restore_0 := by decide +kernel
theorem dksX0_restore_1 : cX0_restore.data.toList.drop 24 = dktX0_restore_1 := dk_seg dksX0_restore_0 24 rfl rfl
theorem dX0_restore_0 : decode cX0_restore 0 = .ok (.aload_n 0, 1) := dk_42 (dk_at dksX0_restore_0 0 rfl rfl)
theorem dX0_restore_1 : decode cX0_restore 1 = .ok (.getfield 384, 3) := dk_180 1 128 (dk_at dksX0_restore_0 1 rfl rfl)
theorem dX0_restore_4 : decode cX0_restore 4 = .ok (.ifCond .ne 9, 3) := dk_154 0 9 (dk_at dksX0_restore_0 4 rfl rfl)
theorem dX0_restore_7 : decode cX0_restore 7 = .ok (.aload_n 0, 1) := dk_42 (dk_at dksX0_restore_0 7 rfl rfl)
theorem dX0_restore_8 : decode cX0_restore 8 = .ok (.iconst 2, 1) := dk_5 (dk_at dksX0_restore_0 8 rfl rfl)
theorem dX0_restore_9 : decode cX0_restore 9 = .ok (.invokevirtual 173, 3) := dk_182 0 173 (dk_at dksX0_restore_0 9 rfl rfl)
theorem dX0_restore_12 : decode cX0_restore 12 = .ok (.ireturn, 1) := dk_172 (dk_at dksX0_restore_0 12 rfl rfl)
theorem dX0_restore_13 : decode cX0_restore 13 = .ok (.aload_n 0, 1) := dk_42 (dk_at dksX0_restore_0 13 rfl rfl)
theorem dX0_restore_14 : decode cX0_restore 14 = .ok (.getfield 73, 3) := dk_180 0 73 (dk_at dksX0_restore_0 14 rfl rfl)
theorem dX0_restore_17 : decode cX0_restore 17 = .ok (.aload_n 0, 1) := dk_42 (dk_at dksX0_restore_0 17 rfl rfl)
theorem dX0_restore_18 : decode cX0_restore 18 = .ok (.getfield 80, 3) := dk_180 0 80 (dk_at dksX0_restore_0 18 rfl rfl)
theorem dX0_restore_21 : decode cX0_restore 21 = .ok (.invokevirtual 309, 3) := dk_182 1 53 (dk_at dksX0_restore_0 21 rfl rfl)
theorem dX0_restore_24 : decode cX0_restore 24 = .ok (.aload_n 0, 1) := dk_42 (dk_at dksX0_restore_1 0 rfl rfl)
theorem dX0_restore_25 : decode cX0_restore 25 = .ok (.getfield 73, 3) := dk_180 0 73 (dk_at dksX0_restore_1 1 rfl rfl)
theorem dX0_restore_28 : decode cX0_restore 28 = .ok (.getfield 288, 3) := dk_180 1 32 (dk_at dksX0_restore_1 4 rfl rfl)
theorem dX0_restore_31 : decode cX0_restore 31 = .ok (.ireturn, 1) := dk_172 (dk_at dksX0_restore_1 7 rfl rfl)
abbrev cX0_tell : ByteArray := prog_1_method_72_code
def yX0_tell : MethodName := ⟨RX0, "tell", "(I)I"⟩
def dkwX0_tell_2 : List UInt8 := [181, 1, 131, 42, 180, 0, 73, 180, 1, 131, 172]
abbrev dktX0_tell_2 : List UInt8 := dkwX0_tell_2 ++ []
def dkwX0_tell_1 : List UInt8 := [180, 1, 134, 42, 180, 0, 73, 180, 1, 131, 27, 79, 42, 180, 0, 73, 89, 180, 1, 131, 4, 96]
abbrev dktX0_tell_1 : List UInt8 := dkwX0_tell_1 ++ dktX0_tell_2
def dkwX0_tell_0 : List UInt8 := [42, 180, 0, 73, 180, 1, 131, 16, 24, 160, 0, 9, 42, 7, 182, 0, 173, 172, 42, 180, 0, 73]
abbrev dktX0_tell_0 : List UInt8 := dkwX0_tell_0 ++ dktX0_tell_1
theorem dksX0_tell_0 : cX0_tell.data.toList.drop 0 = dktX0_tell_0 := by decide +kernel
theorem dksX0_tell_1 : cX0_tell.data.toList.drop 22 = dktX0_tell_1 := dk_seg dksX0_tell_0 22 rfl rfl
theorem dksX0_tell_2 : cX0_tell.data.toList.drop 44 = dktX0_tell_2 := dk_seg dksX0_tell_1 22 rfl rfl
theorem dX0_tell_0 : decode cX0_tell 0 = .ok (.aload_n 0, 1) := dk_42 (dk_at dksX0_tell_0 0 rfl rfl)
theorem dX0_tell_1 : decode cX0_tell 1 = .ok (.getfield 73, 3) := dk_180 0 73 (dk_at dksX0_tell_0 1 rfl rfl)
theorem dX0_tell_4 : decode cX0_tell 4 = .ok (.getfield 387, 3) := dk_180 1 131 (dk_at dksX0_tell_0 4 rfl rfl)
theorem dX0_tell_7 : decode cX0_tell 7 = .ok (.bipush 24, 2) := dk_16 24 (dk_at dksX0_tell_0 7 rfl rfl)
theorem dX0_tell_9 : decode cX0_tell 9 = .ok (.if_icmp .ne 9, 3) := dk_160 0 9 (dk_at dksX0_tell_0 9 rfl rfl)
theorem dX0_tell_12 : decode cX0_tell 12 = .ok (.aload_n 0, 1) := dk_42 (dk_at dksX0_tell_0 12 rfl rfl)
theorem dX0_tell_13 : decode cX0_tell 13 = .ok (.iconst 4, 1) := dk_7 (dk_at dksX0_tell_0 13 rfl rfl)
theorem dX0_tell_14 : decode cX0_tell 14 = .ok (.invokevirtual 173, 3) := dk_182 0 173 (dk_at dksX0_tell_0 14 rfl rfl)
theorem dX0_tell_17 : decode cX0_tell 17 = .ok (.ireturn, 1) := dk_172 (dk_at dksX0_tell_0 17 rfl rfl)
theorem dX0_tell_18 : decode cX0_tell 18 = .ok (.aload_n 0, 1) := dk_42 (dk_at dksX0_tell_0 18 rfl rfl)
theorem dX0_tell_19 : decode cX0_tell 19 = .ok (.getfield 73, 3) := dk_180 0 73 (dk_at dksX0_tell_0 19 rfl rfl)
theorem dX0_tell_22 : decode cX0_tell 22 = .ok (.getfield 390, 3) := dk_180 1 134 (dk_at dksX0_tell_1 0 rfl rfl)
theorem dX0_tell_25 : decode cX0_tell 25 = .ok (.aload_n 0, 1) := dk_42 (dk_at dksX0_tell_1 3 rfl rfl)
theorem dX0_tell_26 : decode cX0_tell 26 = .ok (.getfield 73, 3) := dk_180 0 73 (dk_at dksX0_tell_1 4 rfl rfl)
theorem dX0_tell_29 : decode cX0_tell 29 = .ok (.getfield 387, 3) := dk_180 1 131 (dk_at dksX0_tell_1 7 rfl rfl)
theorem dX0_tell_32 : decode cX0_tell 32 = .ok (.iload_n 1, 1) := dk_27 (dk_at dksX0_tell_1 10 rfl rfl)
theorem dX0_tell_33 : decode cX0_tell 33 = .ok (.iastore, 1) := dk_79 (dk_at dksX0_tell_1 11 rfl rfl)
theorem dX0_tell_34 : decode cX0_tell 34 = .ok (.aload_n 0, 1) := dk_42 (dk_at dksX0_tell_1 12 rfl rfl)
theorem dX0_tell_35 : decode cX0_tell 35 = .ok (.getfield 73, 3) := dk_180 0 73 (dk_at dksX0_tell_1 13 rfl rfl)
theorem dX0_tell_38 : decode cX0_tell 38 = .ok (.dup, 1) := dk_89 (dk_at dksX0_tell_1 16 rfl rfl)
theorem dX0_tell_39 : decode cX0_tell 39 = .ok (.getfield 387, 3) := dk_180 1 131 (dk_at dksX0_tell_1 17 rfl rfl)
theorem dX0_tell_42 : decode cX0_tell 42 = .ok (.iconst 1, 1) := dk_4 (dk_at dksX0_tell_1 20 rfl rfl)
theorem dX0_tell_43 : decode cX0_tell 43 = .ok (.iadd, 1) := dk_96 (dk_at dksX0_tell_1 21 rfl rfl)
theorem dX0_tell_44 : decode cX0_tell 44 = .ok (.putfield 387, 3) := dk_181 1 131 (dk_at dksX0_tell_2 0 rfl rfl)
theorem dX0_tell_47 : decode cX0_tell 47 = .ok (.aload_n 0, 1) := dk_42 (dk_at dksX0_tell_2 3 rfl rfl)
theorem dX0_tell_48 : decode cX0_tell 48 = .ok (.getfield 73, 3) := dk_180 0 73 (dk_at dksX0_tell_2 4 rfl rfl)
theorem dX0_tell_51 : decode cX0_tell 51 = .ok (.getfield 387, 3) := dk_180 1 131 (dk_at dksX0_tell_2 7 rfl rfl)
theorem dX0_tell_54 : decode cX0_tell 54 = .ok (.ireturn, 1) := dk_172 (dk_at dksX0_tell_2 10 rfl rfl)
abbrev cX0_check : ByteArray := prog_1_method_73_code
def yX0_check : MethodName := ⟨RX0, "check", "(I)I"⟩
def dkwX0_check_5 : List UInt8 := [96, 172]
abbrev dktX0_check_5 : List UInt8 := dkwX0_check_5 ++ []
def dkwX0_check_4 : List UInt8 := [167, 0, 4, 3, 96, 62, 167, 255, 199, 42, 182, 1, 57, 21, 4, 153, 0, 7, 3, 167, 0, 6, 4, 29]
abbrev dktX0_check_4 : List UInt8 := dkwX0_check_4 ++ dktX0_check_5
def dkwX0_check_3 : List UInt8 := [180, 0, 216, 27, 46, 160, 0, 7, 4, 167, 0, 4, 3, 54, 4, 29, 21, 4, 153, 0, 7, 4]
abbrev dktX0_check_3 : List UInt8 := dkwX0_check_3 ++ dktX0_check_4
def dkwX0_check_2 : List UInt8 := [153, 0, 53, 42, 182, 1, 35, 54, 5, 42, 180, 0, 73, 180, 1, 134, 29, 46, 42, 180, 0, 73]
abbrev dktX0_check_2 : List UInt8 := dkwX0_check_2 ++ dktX0_check_3
def dkwX0_check_1 : List UInt8 := [42, 4, 182, 0, 173, 172, 42, 182, 1, 63, 3, 62, 4, 54, 4, 29, 28, 162, 0, 58, 21, 4]
abbrev dktX0_check_1 : List UInt8 := dkwX0_check_1 ++ dktX0_check_2
def dkwX0_check_0 : List UInt8 := [42, 180, 0, 73, 180, 1, 131, 61, 42, 180, 0, 73, 3, 181, 1, 131, 42, 27, 182, 0, 231, 154, 0, 9]
abbrev dktX0_check_0 : List UInt8 := dkwX0_check_0 ++ dktX0_check_1
theorem dksX0_check_0 : cX0_check.data.toList.drop 0 = dktX0_check_0 := by decide +kernel
theorem dksX0_check_1 : cX0_check.data.toList.drop 24 = dktX0_check_1 := dk_seg dksX0_check_0 24 rfl rfl
theorem dksX0_check_2 : cX0_check.data.toList.drop 46 = dktX0_check_2 := dk_seg dksX0_check_1 22 rfl rfl
theorem dksX0_check_3 : cX0_check.data.toList.drop 68 = dktX0_check_3 := dk_seg dksX0_check_2 22 rfl rfl
theorem dksX0_check_4 : cX0_check.data.toList.drop 90 = dktX0_check_4 := dk_seg dksX0_check_3 22 rfl rfl
theorem dksX0_check_5 : cX0_check.data.toList.drop 114 = dktX0_check_5 := dk_seg dksX0_check_4 24 rfl rfl
theorem dX0_check_0 : decode cX0_check 0 = .ok (.aload_n 0, 1) := dk_42 (dk_at dksX0_check_0 0 rfl rfl)
theorem dX0_check_1 : decode cX0_check 1 = .ok (.getfield 73, 3) := dk_180 0 73 (dk_at dksX0_check_0 1 rfl rfl)
theorem dX0_check_4 : decode cX0_check 4 = .ok (.getfield 387, 3) := dk_180 1 131 (dk_at dksX0_check_0 4 rfl rfl)
theorem dX0_check_7 : decode cX0_check 7 = .ok (.istore_n 2, 1) := dk_61 (dk_at dksX0_check_0 7 rfl rfl)
theorem dX0_check_8 : decode cX0_check 8 = .ok (.aload_n 0, 1) := dk_42 (dk_at dksX0_check_0 8 rfl rfl)
theorem dX0_check_9 : decode cX0_check 9 = .ok (.getfield 73, 3) := dk_180 0 73 (dk_at dksX0_check_0 9 rfl rfl)
theorem dX0_check_12 : decode cX0_check 12 = .ok (.iconst 0, 1) := dk_3 (dk_at dksX0_check_0 12 rfl rfl)
theorem dX0_check_13 : decode cX0_check 13 = .ok (.putfield 387, 3) := dk_181 1 131 (dk_at dksX0_check_0 13 rfl rfl)
theorem dX0_check_16 : decode cX0_check 16 = .ok (.aload_n 0, 1) := dk_42 (dk_at dksX0_check_0 16 rfl rfl)
theorem dX0_check_17 : decode cX0_check 17 = .ok (.iload_n 1, 1) := dk_27 (dk_at dksX0_check_0 17 rfl rfl)
theorem dX0_check_18 : decode cX0_check 18 = .ok (.invokevirtual 231, 3) := dk_182 0 231 (dk_at dksX0_check_0 18 rfl rfl)
theorem dX0_check_21 : decode cX0_check 21 = .ok (.ifCond .ne 9, 3) := dk_154 0 9 (dk_at dksX0_check_0 21 rfl rfl)
theorem dX0_check_24 : decode cX0_check 24 = .ok (.aload_n 0, 1) := dk_42 (dk_at dksX0_check_1 0 rfl rfl)
theorem dX0_check_25 : decode cX0_check 25 = .ok (.iconst 1, 1) := dk_4 (dk_at dksX0_check_1 1 rfl rfl)
theorem dX0_check_26 : decode cX0_check 26 = .ok (.invokevirtual 173, 3) := dk_182 0 173 (dk_at dksX0_check_1 2 rfl rfl)
theorem dX0_check_29 : decode cX0_check 29 = .ok (.ireturn, 1) := dk_172 (dk_at dksX0_check_1 5 rfl rfl)
theorem dX0_check_30 : decode cX0_check 30 = .ok (.aload_n 0, 1) := dk_42 (dk_at dksX0_check_1 6 rfl rfl)
theorem dX0_check_31 : decode cX0_check 31 = .ok (.invokevirtual 319, 3) := dk_182 1 63 (dk_at dksX0_check_1 7 rfl rfl)
theorem dX0_check_34 : decode cX0_check 34 = .ok (.iconst 0, 1) := dk_3 (dk_at dksX0_check_1 10 rfl rfl)
theorem dX0_check_35 : decode cX0_check 35 = .ok (.istore_n 3, 1) := dk_62 (dk_at dksX0_check_1 11 rfl rfl)
theorem dX0_check_36 : decode cX0_check 36 = .ok (.iconst 1, 1) := dk_4 (dk_at dksX0_check_1 12 rfl rfl)
theorem dX0_check_37 : decode cX0_check 37 = .ok (.istore 4, 2) := dk_54 4 (dk_at dksX0_check_1 13 rfl rfl)
theorem dX0_check_39 : decode cX0_check 39 = .ok (.iload_n 3, 1) := dk_29 (dk_at dksX0_check_1 15 rfl rfl)
theorem dX0_check_40 : decode cX0_check 40 = .ok (.iload_n 2, 1) := dk_28 (dk_at dksX0_check_1 16 rfl rfl)
theorem dX0_check_41 : decode cX0_check 41 = .ok (.if_icmp .ge 58, 3) := dk_162 0 58 (dk_at dksX0_check_1 17 rfl rfl)
theorem dX0_check_44 : decode cX0_check 44 = .ok (.iload 4, 2) := dk_21 4 (dk_at dksX0_check_1 20 rfl rfl)
theorem dX0_check_46 : decode cX0_check 46 = .ok (.ifCond .eq 53, 3) := dk_153 0 53 (dk_at dksX0_check_2 0 rfl rfl)
theorem dX0_check_49 : decode cX0_check 49 = .ok (.aload_n 0, 1) := dk_42 (dk_at dksX0_check_2 3 rfl rfl)
theorem dX0_check_50 : decode cX0_check 50 = .ok (.invokevirtual 291, 3) := dk_182 1 35 (dk_at dksX0_check_2 4 rfl rfl)
theorem dX0_check_53 : decode cX0_check 53 = .ok (.istore 5, 2) := dk_54 5 (dk_at dksX0_check_2 7 rfl rfl)
theorem dX0_check_55 : decode cX0_check 55 = .ok (.aload_n 0, 1) := dk_42 (dk_at dksX0_check_2 9 rfl rfl)
theorem dX0_check_56 : decode cX0_check 56 = .ok (.getfield 73, 3) := dk_180 0 73 (dk_at dksX0_check_2 10 rfl rfl)
theorem dX0_check_59 : decode cX0_check 59 = .ok (.getfield 390, 3) := dk_180 1 134 (dk_at dksX0_check_2 13 rfl rfl)
theorem dX0_check_62 : decode cX0_check 62 = .ok (.iload_n 3, 1) := dk_29 (dk_at dksX0_check_2 16 rfl rfl)
theorem dX0_check_63 : decode cX0_check 63 = .ok (.iaload, 1) := dk_46 (dk_at dksX0_check_2 17 rfl rfl)
theorem dX0_check_64 : decode cX0_check 64 = .ok (.aload_n 0, 1) := dk_42 (dk_at dksX0_check_2 18 rfl rfl)
theorem dX0_check_65 : decode cX0_check 65 = .ok (.getfield 73, 3) := dk_180 0 73 (dk_at dksX0_check_2 19 rfl rfl)
theorem dX0_check_68 : decode cX0_check 68 = .ok (.getfield 216, 3) := dk_180 0 216 (dk_at dksX0_check_3 0 rfl rfl)
theorem dX0_check_71 : decode cX0_check 71 = .ok (.iload_n 1, 1) := dk_27 (dk_at dksX0_check_3 3 rfl rfl)
theorem dX0_check_72 : decode cX0_check 72 = .ok (.iaload, 1) := dk_46 (dk_at dksX0_check_3 4 rfl rfl)
theorem dX0_check_73 : decode cX0_check 73 = .ok (.if_icmp .ne 7, 3) := dk_160 0 7 (dk_at dksX0_check_3 5 rfl rfl)
theorem dX0_check_76 : decode cX0_check 76 = .ok (.iconst 1, 1) := dk_4 (dk_at dksX0_check_3 8 rfl rfl)
theorem dX0_check_77 : decode cX0_check 77 = .ok (.goto 4, 3) := dk_167 0 4 (dk_at dksX0_check_3 9 rfl rfl)
theorem dX0_check_80 : decode cX0_check 80 = .ok (.iconst 0, 1) := dk_3 (dk_at dksX0_check_3 12 rfl rfl)
theorem dX0_check_81 : decode cX0_check 81 = .ok (.istore 4, 2) := dk_54 4 (dk_at dksX0_check_3 13 rfl rfl)
theorem dX0_check_83 : decode cX0_check 83 = .ok (.iload_n 3, 1) := dk_29 (dk_at dksX0_check_3 15 rfl rfl)
theorem dX0_check_84 : decode cX0_check 84 = .ok (.iload 4, 2) := dk_21 4 (dk_at dksX0_check_3 16 rfl rfl)
theorem dX0_check_86 : decode cX0_check 86 = .ok (.ifCond .eq 7, 3) := dk_153 0 7 (dk_at dksX0_check_3 18 rfl rfl)
theorem dX0_check_89 : decode cX0_check 89 = .ok (.iconst 1, 1) := dk_4 (dk_at dksX0_check_3 21 rfl rfl)
theorem dX0_check_90 : decode cX0_check 90 = .ok (.goto 4, 3) := dk_167 0 4 (dk_at dksX0_check_4 0 rfl rfl)
theorem dX0_check_93 : decode cX0_check 93 = .ok (.iconst 0, 1) := dk_3 (dk_at dksX0_check_4 3 rfl rfl)
theorem dX0_check_94 : decode cX0_check 94 = .ok (.iadd, 1) := dk_96 (dk_at dksX0_check_4 4 rfl rfl)
theorem dX0_check_95 : decode cX0_check 95 = .ok (.istore_n 3, 1) := dk_62 (dk_at dksX0_check_4 5 rfl rfl)
theorem dX0_check_96 : decode cX0_check 96 = .ok (.goto (-57), 3) := dk_167 255 199 (dk_at dksX0_check_4 6 rfl rfl)
theorem dX0_check_99 : decode cX0_check 99 = .ok (.aload_n 0, 1) := dk_42 (dk_at dksX0_check_4 9 rfl rfl)
theorem dX0_check_100 : decode cX0_check 100 = .ok (.invokevirtual 313, 3) := dk_182 1 57 (dk_at dksX0_check_4 10 rfl rfl)
theorem dX0_check_103 : decode cX0_check 103 = .ok (.iload 4, 2) := dk_21 4 (dk_at dksX0_check_4 13 rfl rfl)
theorem dX0_check_105 : decode cX0_check 105 = .ok (.ifCond .eq 7, 3) := dk_153 0 7 (dk_at dksX0_check_4 15 rfl rfl)
theorem dX0_check_108 : decode cX0_check 108 = .ok (.iconst 0, 1) := dk_3 (dk_at dksX0_check_4 18 rfl rfl)
theorem dX0_check_109 : decode cX0_check 109 = .ok (.goto 6, 3) := dk_167 0 6 (dk_at dksX0_check_4 19 rfl rfl)
theorem dX0_check_112 : decode cX0_check 112 = .ok (.iconst 1, 1) := dk_4 (dk_at dksX0_check_4 22 rfl rfl)
theorem dX0_check_113 : decode cX0_check 113 = .ok (.iload_n 3, 1) := dk_29 (dk_at dksX0_check_4 23 rfl rfl)
theorem dX0_check_114 : decode cX0_check 114 = .ok (.iadd, 1) := dk_96 (dk_at dksX0_check_5 0 rfl rfl)
theorem dX0_check_115 : decode cX0_check 115 = .ok (.ireturn, 1) := dk_172 (dk_at dksX0_check_5 1 rfl rfl)
abbrev cX0_count : ByteArray := prog_1_method_74_code
def yX0_count : MethodName := ⟨RX0, "count", "(I)I"⟩
def dkwX0_count_6 : List UInt8 := [180, 0, 73, 180, 0, 161, 27, 16, 11, 100, 51, 167, 0, 8, 42, 4, 182, 0, 173, 172]
abbrev dktX0_count_6 : List UInt8 := dkwX0_count_6 ++ []
def dkwX0_count_5 : List UInt8 := [180, 1, 86, 172, 42, 180, 0, 73, 180, 1, 50, 172, 27, 16, 11, 16, 22, 184, 0, 122, 153, 0, 18, 42]
abbrev dktX0_count_5 : List UInt8 := dkwX0_count_5 ++ dktX0_count_6
def dkwX0_count_4 : List UInt8 := [182, 1, 41, 172, 42, 180, 0, 73, 180, 0, 255, 172, 42, 180, 0, 73, 180, 1, 131, 172, 42, 180, 0, 86]
abbrev dktX0_count_4 : List UInt8 := dkwX0_count_4 ++ dktX0_count_5
def dkwX0_count_3 : List UInt8 := [42, 180, 0, 170, 172, 42, 180, 0, 158, 172, 42, 180, 0, 73, 180, 0, 136, 172, 42, 180, 0, 73]
abbrev dktX0_count_3 : List UInt8 := dkwX0_count_3 ++ dktX0_count_4
def dkwX0_count_2 : List UInt8 := [42, 180, 0, 73, 180, 0, 119, 172, 42, 180, 0, 73, 180, 1, 32, 172, 42, 180, 0, 73, 182, 0, 154, 172]
abbrev dktX0_count_2 : List UInt8 := dkwX0_count_2 ++ dktX0_count_3
def dkwX0_count_1 : List UInt8 := [170, 0, 0, 0, 0, 0, 141, 0, 0, 0, 0, 0, 0, 0, 10, 0, 0, 0, 59, 0, 0, 0, 67, 0, 0, 0, 75, 0, 0, 0, 83, 0, 0, 0, 88, 0, 0, 0, 93, 0, 0, 0, 101, 0, 0, 0, 109, 0, 0, 0, 117, 0, 0, 0, 125, 0, 0, 0, 133]
abbrev dktX0_count_1 : List UInt8 := dkwX0_count_1 ++ dktX0_count_2
def dkwX0_count_0 : List UInt8 := [42, 182, 0, 222, 27]
abbrev dktX0_count_0 : List UInt8 := dkwX0_count_0 ++ dktX0_count_1
theorem dksX0_count_0 : cX0_count.data.toList.drop 0 = dktX0_count_0 := by decide +kernel
theorem dksX0_count_1 : cX0_count.data.toList.drop 5 = dktX0_count_1 := dk_seg dksX0_count_0 5 rfl rfl
theorem dksX0_count_2 : cX0_count.data.toList.drop 64 = dktX0_count_2 := dk_seg dksX0_count_1 59 rfl rfl
theorem dksX0_count_3 : cX0_count.data.toList.drop 88 = dktX0_count_3 := dk_seg dksX0_count_2 24 rfl rfl
theorem dksX0_count_4 : cX0_count.data.toList.drop 110 = dktX0_count_4 := dk_seg dksX0_count_3 22 rfl rfl
theorem dksX0_count_5 : cX0_count.data.toList.drop 134 = dktX0_count_5 := dk_seg dksX0_count_4 24 rfl rfl
theorem dksX0_count_6 : cX0_count.data.toList.drop 158 = dktX0_count_6 := dk_seg dksX0_count_5 24 rfl rfl
theorem dX0_count_0 : decode cX0_count 0 = .ok (.aload_n 0, 1) := dk_42 (dk_at dksX0_count_0 0 rfl rfl)
theorem dX0_count_1 : decode cX0_count 1 = .ok (.invokevirtual 222, 3) := dk_182 0 222 (dk_at dksX0_count_0 1 rfl rfl)
theorem dX0_count_4 : decode cX0_count 4 = .ok (.iload_n 1, 1) := dk_27 (dk_at dksX0_count_0 4 rfl rfl)
theorem dX0_count_5 : decode cX0_count 5 = .ok (.tableswitch 141 0 10 #[59, 67, 75, 83, 88, 93, 101, 109, 117, 125, 133], 59) := by decide +kernel
theorem dX0_count_64 : decode cX0_count 64 = .ok (.aload_n 0, 1) := dk_42 (dk_at dksX0_count_2 0 rfl rfl)
theorem dX0_count_65 : decode cX0_count 65 = .ok (.getfield 73, 3) := dk_180 0 73 (dk_at dksX0_count_2 1 rfl rfl)
theorem dX0_count_68 : decode cX0_count 68 = .ok (.getfield 119, 3) := dk_180 0 119 (dk_at dksX0_count_2 4 rfl rfl)
theorem dX0_count_71 : decode cX0_count 71 = .ok (.ireturn, 1) := dk_172 (dk_at dksX0_count_2 7 rfl rfl)
theorem dX0_count_72 : decode cX0_count 72 = .ok (.aload_n 0, 1) := dk_42 (dk_at dksX0_count_2 8 rfl rfl)
theorem dX0_count_73 : decode cX0_count 73 = .ok (.getfield 73, 3) := dk_180 0 73 (dk_at dksX0_count_2 9 rfl rfl)
theorem dX0_count_76 : decode cX0_count 76 = .ok (.getfield 288, 3) := dk_180 1 32 (dk_at dksX0_count_2 12 rfl rfl)
theorem dX0_count_79 : decode cX0_count 79 = .ok (.ireturn, 1) := dk_172 (dk_at dksX0_count_2 15 rfl rfl)
theorem dX0_count_80 : decode cX0_count 80 = .ok (.aload_n 0, 1) := dk_42 (dk_at dksX0_count_2 16 rfl rfl)
theorem dX0_count_81 : decode cX0_count 81 = .ok (.getfield 73, 3) := dk_180 0 73 (dk_at dksX0_count_2 17 rfl rfl)
theorem dX0_count_84 : decode cX0_count 84 = .ok (.invokevirtual 154, 3) := dk_182 0 154 (dk_at dksX0_count_2 20 rfl rfl)
theorem dX0_count_87 : decode cX0_count 87 = .ok (.ireturn, 1) := dk_172 (dk_at dksX0_count_2 23 rfl rfl)
theorem dX0_count_88 : decode cX0_count 88 = .ok (.aload_n 0, 1) := dk_42 (dk_at dksX0_count_3 0 rfl rfl)
theorem dX0_count_89 : decode cX0_count 89 = .ok (.getfield 170, 3) := dk_180 0 170 (dk_at dksX0_count_3 1 rfl rfl)
theorem dX0_count_92 : decode cX0_count 92 = .ok (.ireturn, 1) := dk_172 (dk_at dksX0_count_3 4 rfl rfl)
theorem dX0_count_93 : decode cX0_count 93 = .ok (.aload_n 0, 1) := dk_42 (dk_at dksX0_count_3 5 rfl rfl)
theorem dX0_count_94 : decode cX0_count 94 = .ok (.getfield 158, 3) := dk_180 0 158 (dk_at dksX0_count_3 6 rfl rfl)
theorem dX0_count_97 : decode cX0_count 97 = .ok (.ireturn, 1) := dk_172 (dk_at dksX0_count_3 9 rfl rfl)
theorem dX0_count_98 : decode cX0_count 98 = .ok (.aload_n 0, 1) := dk_42 (dk_at dksX0_count_3 10 rfl rfl)
theorem dX0_count_99 : decode cX0_count 99 = .ok (.getfield 73, 3) := dk_180 0 73 (dk_at dksX0_count_3 11 rfl rfl)
theorem dX0_count_102 : decode cX0_count 102 = .ok (.getfield 136, 3) := dk_180 0 136 (dk_at dksX0_count_3 14 rfl rfl)
theorem dX0_count_105 : decode cX0_count 105 = .ok (.ireturn, 1) := dk_172 (dk_at dksX0_count_3 17 rfl rfl)
theorem dX0_count_106 : decode cX0_count 106 = .ok (.aload_n 0, 1) := dk_42 (dk_at dksX0_count_3 18 rfl rfl)
theorem dX0_count_107 : decode cX0_count 107 = .ok (.getfield 73, 3) := dk_180 0 73 (dk_at dksX0_count_3 19 rfl rfl)
theorem dX0_count_110 : decode cX0_count 110 = .ok (.invokevirtual 297, 3) := dk_182 1 41 (dk_at dksX0_count_4 0 rfl rfl)
theorem dX0_count_113 : decode cX0_count 113 = .ok (.ireturn, 1) := dk_172 (dk_at dksX0_count_4 3 rfl rfl)
theorem dX0_count_114 : decode cX0_count 114 = .ok (.aload_n 0, 1) := dk_42 (dk_at dksX0_count_4 4 rfl rfl)
theorem dX0_count_115 : decode cX0_count 115 = .ok (.getfield 73, 3) := dk_180 0 73 (dk_at dksX0_count_4 5 rfl rfl)
theorem dX0_count_118 : decode cX0_count 118 = .ok (.getfield 255, 3) := dk_180 0 255 (dk_at dksX0_count_4 8 rfl rfl)
theorem dX0_count_121 : decode cX0_count 121 = .ok (.ireturn, 1) := dk_172 (dk_at dksX0_count_4 11 rfl rfl)
theorem dX0_count_122 : decode cX0_count 122 = .ok (.aload_n 0, 1) := dk_42 (dk_at dksX0_count_4 12 rfl rfl)
theorem dX0_count_123 : decode cX0_count 123 = .ok (.getfield 73, 3) := dk_180 0 73 (dk_at dksX0_count_4 13 rfl rfl)
theorem dX0_count_126 : decode cX0_count 126 = .ok (.getfield 387, 3) := dk_180 1 131 (dk_at dksX0_count_4 16 rfl rfl)
theorem dX0_count_129 : decode cX0_count 129 = .ok (.ireturn, 1) := dk_172 (dk_at dksX0_count_4 19 rfl rfl)
theorem dX0_count_130 : decode cX0_count 130 = .ok (.aload_n 0, 1) := dk_42 (dk_at dksX0_count_4 20 rfl rfl)
theorem dX0_count_131 : decode cX0_count 131 = .ok (.getfield 86, 3) := dk_180 0 86 (dk_at dksX0_count_4 21 rfl rfl)
theorem dX0_count_134 : decode cX0_count 134 = .ok (.getfield 342, 3) := dk_180 1 86 (dk_at dksX0_count_5 0 rfl rfl)
theorem dX0_count_137 : decode cX0_count 137 = .ok (.ireturn, 1) := dk_172 (dk_at dksX0_count_5 3 rfl rfl)
theorem dX0_count_138 : decode cX0_count 138 = .ok (.aload_n 0, 1) := dk_42 (dk_at dksX0_count_5 4 rfl rfl)
theorem dX0_count_139 : decode cX0_count 139 = .ok (.getfield 73, 3) := dk_180 0 73 (dk_at dksX0_count_5 5 rfl rfl)
theorem dX0_count_142 : decode cX0_count 142 = .ok (.getfield 306, 3) := dk_180 1 50 (dk_at dksX0_count_5 8 rfl rfl)
theorem dX0_count_145 : decode cX0_count 145 = .ok (.ireturn, 1) := dk_172 (dk_at dksX0_count_5 11 rfl rfl)
theorem dX0_count_146 : decode cX0_count 146 = .ok (.iload_n 1, 1) := dk_27 (dk_at dksX0_count_5 12 rfl rfl)
theorem dX0_count_147 : decode cX0_count 147 = .ok (.bipush 11, 2) := dk_16 11 (dk_at dksX0_count_5 13 rfl rfl)
theorem dX0_count_149 : decode cX0_count 149 = .ok (.bipush 22, 2) := dk_16 22 (dk_at dksX0_count_5 15 rfl rfl)
theorem dX0_count_151 : decode cX0_count 151 = .ok (.invokestatic 122, 3) := dk_184 0 122 (dk_at dksX0_count_5 17 rfl rfl)
theorem dX0_count_154 : decode cX0_count 154 = .ok (.ifCond .eq 18, 3) := dk_153 0 18 (dk_at dksX0_count_5 20 rfl rfl)
theorem dX0_count_157 : decode cX0_count 157 = .ok (.aload_n 0, 1) := dk_42 (dk_at dksX0_count_5 23 rfl rfl)
theorem dX0_count_158 : decode cX0_count 158 = .ok (.getfield 73, 3) := dk_180 0 73 (dk_at dksX0_count_6 0 rfl rfl)
theorem dX0_count_161 : decode cX0_count 161 = .ok (.getfield 161, 3) := dk_180 0 161 (dk_at dksX0_count_6 3 rfl rfl)
theorem dX0_count_164 : decode cX0_count 164 = .ok (.iload_n 1, 1) := dk_27 (dk_at dksX0_count_6 6 rfl rfl)
theorem dX0_count_165 : decode cX0_count 165 = .ok (.bipush 11, 2) := dk_16 11 (dk_at dksX0_count_6 7 rfl rfl)
theorem dX0_count_167 : decode cX0_count 167 = .ok (.isub, 1) := dk_100 (dk_at dksX0_count_6 9 rfl rfl)
theorem dX0_count_168 : decode cX0_count 168 = .ok (.baload, 1) := dk_51 (dk_at dksX0_count_6 10 rfl rfl)
theorem dX0_count_169 : decode cX0_count 169 = .ok (.goto 8, 3) := dk_167 0 8 (dk_at dksX0_count_6 11 rfl rfl)
theorem dX0_count_172 : decode cX0_count 172 = .ok (.aload_n 0, 1) := dk_42 (dk_at dksX0_count_6 14 rfl rfl)
theorem dX0_count_173 : decode cX0_count 173 = .ok (.iconst 1, 1) := dk_4 (dk_at dksX0_count_6 15 rfl rfl)
theorem dX0_count_174 : decode cX0_count 174 = .ok (.invokevirtual 173, 3) := dk_182 0 173 (dk_at dksX0_count_6 16 rfl rfl)
theorem dX0_count_177 : decode cX0_count 177 = .ok (.ireturn, 1) := dk_172 (dk_at dksX0_count_6 19 rfl rfl)
abbrev cX0_told : ByteArray := prog_1_method_75_code
def yX0_told : MethodName := ⟨RX0, "told", "(I)I"⟩
def dkwX0_told_1 : List UInt8 := [172]
abbrev dktX0_told_1 : List UInt8 := dkwX0_told_1 ++ []
def dkwX0_told_0 : List UInt8 := [27, 4, 16, 6, 184, 0, 122, 153, 0, 12, 42, 180, 0, 90, 27, 46, 167, 0, 8, 42, 4, 182, 0, 173]
abbrev dktX0_told_0 : List UInt8 := dkwX0_told_0 ++ dktX0_told_1
theorem dksX0_told_0 : cX0_told.data.toList.drop 0 = dktX0_told_0 := by decide +kernel
theorem dksX0_told_1 : cX0_told.data.toList.drop 24 = dktX0_told_1 := dk_seg dksX0_told_0 24 rfl rfl
theorem dX0_told_0 : decode cX0_told 0 = .ok (.iload_n 1, 1) := dk_27 (dk_at dksX0_told_0 0 rfl rfl)
theorem dX0_told_1 : decode cX0_told 1 = .ok (.iconst 1, 1) := dk_4 (dk_at dksX0_told_0 1 rfl rfl)
theorem dX0_told_2 : decode cX0_told 2 = .ok (.bipush 6, 2) := dk_16 6 (dk_at dksX0_told_0 2 rfl rfl)
theorem dX0_told_4 : decode cX0_told 4 = .ok (.invokestatic 122, 3) := dk_184 0 122 (dk_at dksX0_told_0 4 rfl rfl)
theorem dX0_told_7 : decode cX0_told 7 = .ok (.ifCond .eq 12, 3) := dk_153 0 12 (dk_at dksX0_told_0 7 rfl rfl)
theorem dX0_told_10 : decode cX0_told 10 = .ok (.aload_n 0, 1) := dk_42 (dk_at dksX0_told_0 10 rfl rfl)
theorem dX0_told_11 : decode cX0_told 11 = .ok (.getfield 90, 3) := dk_180 0 90 (dk_at dksX0_told_0 11 rfl rfl)
theorem dX0_told_14 : decode cX0_told 14 = .ok (.iload_n 1, 1) := dk_27 (dk_at dksX0_told_0 14 rfl rfl)
theorem dX0_told_15 : decode cX0_told 15 = .ok (.iaload, 1) := dk_46 (dk_at dksX0_told_0 15 rfl rfl)
theorem dX0_told_16 : decode cX0_told 16 = .ok (.goto 8, 3) := dk_167 0 8 (dk_at dksX0_told_0 16 rfl rfl)
theorem dX0_told_19 : decode cX0_told 19 = .ok (.aload_n 0, 1) := dk_42 (dk_at dksX0_told_0 19 rfl rfl)
theorem dX0_told_20 : decode cX0_told 20 = .ok (.iconst 1, 1) := dk_4 (dk_at dksX0_told_0 20 rfl rfl)
theorem dX0_told_21 : decode cX0_told 21 = .ok (.invokevirtual 173, 3) := dk_182 0 173 (dk_at dksX0_told_0 21 rfl rfl)
theorem dX0_told_24 : decode cX0_told 24 = .ok (.ireturn, 1) := dk_172 (dk_at dksX0_told_1 0 rfl rfl)
theorem q83 : (Jvm.Cond.initialized "WheelBrook") ∈ lw_all := lw_g (lw_at lw_m1 1 rfl) rfl
theorem q113 : (Jvm.Cond.instantiable "WheelBrook" (15 : Nat)) ∈ lw_all := lw_g (lw_at lw_m1 31 rfl) rfl
theorem q115 : (Jvm.Cond.instanceMethod ({ cls := "WheelBrook", name := "<init>", desc := "()V" } : Jvm.MethodName)) ∈ lw_all := lw_g (lw_at lw_m1 33 rfl) rfl
theorem q116 : (Jvm.Cond.code ({ cls := "WheelBrook", name := "<init>", desc := "()V" } : Jvm.MethodName) prog_1_method_8_code (1 : Nat) (Option.none : Option Jvm.ClassFile.FieldType)) ∈ lw_all := lw_g (lw_at lw_m1 34 rfl) rfl
theorem q117 : (Jvm.Cond.methodLink "WheelBrook" (65 : Nat) ({ cls := "java/lang/Object", name := "<init>", desc := "()V" } : Jvm.MethodName)) ∈ lw_all := lw_g (lw_at lw_m1 35 rfl) rfl
theorem q120 : (Jvm.Cond.classLink "WheelBrook" (70 : Nat) "WheelBrook$House") ∈ lw_all := lw_g (lw_at lw_m1 38 rfl) rfl
theorem q122 : (Jvm.Cond.methodLink "WheelBrook" (72 : Nat) ({ cls := "WheelBrook$House", name := "<init>", desc := "()V" } : Jvm.MethodName)) ∈ lw_all := lw_g (lw_at lw_m1 40 rfl) rfl
theorem q136 : (Jvm.Cond.fieldLinkNest "WheelBrook" (240 : Nat) "WheelBrook$Slot" "held" "Ljava/lang/Object;" "WheelBrook") ∈ lw_tbl := lw_at lw_m1 54 rfl
theorem q143 : (Jvm.Cond.fieldLinkNest "WheelBrook" (119 : Nat) "WheelBrook$House" "wheels" "I" "WheelBrook") ∈ lw_tbl := lw_at lw_m1 61 rfl
theorem q146 : (Jvm.Cond.fieldLinkNest "WheelBrook" (288 : Nat) "WheelBrook$House" "hour" "I" "WheelBrook") ∈ lw_tbl := lw_at lw_m1 64 rfl
theorem q148 : (Jvm.Cond.fieldLinkNest "WheelBrook" (136 : Nat) "WheelBrook$House" "frost" "I" "WheelBrook") ∈ lw_tbl := lw_at lw_m1 66 rfl
theorem q150 : (Jvm.Cond.fieldLinkNest "WheelBrook" (306 : Nat) "WheelBrook$House" "z" "I" "WheelBrook") ∈ lw_tbl := lw_at lw_m1 68 rfl
theorem q152 : (Jvm.Cond.fieldLinkNest "WheelBrook" (255 : Nat) "WheelBrook$House" "taped" "I" "WheelBrook") ∈ lw_tbl := lw_at lw_m1 70 rfl
theorem q154 : (Jvm.Cond.fieldLinkNest "WheelBrook" (387 : Nat) "WheelBrook$House" "waiting" "I" "WheelBrook") ∈ lw_tbl := lw_at lw_m1 72 rfl
theorem q156 : (Jvm.Cond.fieldLinkNest "WheelBrook" (177 : Nat) "WheelBrook$House" "force" "[B" "WheelBrook") ∈ lw_tbl := lw_at lw_m1 74 rfl
theorem q158 : (Jvm.Cond.fieldLinkNest "WheelBrook" (161 : Nat) "WheelBrook$House" "weed" "[B" "WheelBrook") ∈ lw_tbl := lw_at lw_m1 76 rfl
theorem q160 : (Jvm.Cond.fieldLinkNest "WheelBrook" (188 : Nat) "WheelBrook$House" "owed" "[I" "WheelBrook") ∈ lw_tbl := lw_at lw_m1 78 rfl
theorem q162 : (Jvm.Cond.fieldLinkNest "WheelBrook" (194 : Nat) "WheelBrook$House" "prayed" "[I" "WheelBrook") ∈ lw_tbl := lw_at lw_m1 80 rfl
theorem q164 : (Jvm.Cond.fieldLinkNest "WheelBrook" (237 : Nat) "WheelBrook$House" "wheel" "[LWheelBrook$Slot;" "WheelBrook") ∈ lw_tbl := lw_at lw_m1 82 rfl
theorem q167 : (Jvm.Cond.fieldLinkNest "WheelBrook" (164 : Nat) "WheelBrook$House" "place" "[B" "WheelBrook") ∈ lw_tbl := lw_at lw_m1 85 rfl
theorem q169 : (Jvm.Cond.fieldLinkNest "WheelBrook" (191 : Nat) "WheelBrook$House" "family" "[B" "WheelBrook") ∈ lw_tbl := lw_at lw_m1 87 rfl
theorem q171 : (Jvm.Cond.fieldLinkNest "WheelBrook" (130 : Nat) "WheelBrook$House" "open" "[B" "WheelBrook") ∈ lw_tbl := lw_at lw_m1 89 rfl
theorem q174 : (Jvm.Cond.fieldLinkNest "WheelBrook" (216 : Nat) "WheelBrook$House" "counter" "[I" "WheelBrook") ∈ lw_tbl := lw_at lw_m1 92 rfl
theorem q176 : (Jvm.Cond.fieldLinkNest "WheelBrook" (219 : Nat) "WheelBrook$House" "turned" "[I" "WheelBrook") ∈ lw_tbl := lw_at lw_m1 94 rfl
theorem q179 : (Jvm.Cond.fieldLinkNest "WheelBrook" (273 : Nat) "WheelBrook$House" "texts" "[LWheelBrook$Text;" "WheelBrook") ∈ lw_tbl := lw_at lw_m1 97 rfl
theorem q181 : (Jvm.Cond.fieldLinkNest "WheelBrook" (258 : Nat) "WheelBrook$House" "tape" "[B" "WheelBrook") ∈ lw_tbl := lw_at lw_m1 99 rfl
theorem q183 : (Jvm.Cond.fieldLinkNest "WheelBrook" (390 : Nat) "WheelBrook$House" "waits" "[I" "WheelBrook") ∈ lw_tbl := lw_at lw_m1 101 rfl
theorem q223 : (Jvm.Cond.classLink "WheelBrook" (83 : Nat) "WheelBrook$Trace") ∈ lw_all := lw_g (lw_at lw_m1 141 rfl) rfl
theorem q225 : (Jvm.Cond.methodLinkNest "WheelBrook" (85 : Nat) ({ cls := "WheelBrook$Trace", name := "<init>", desc := "()V" } : Jvm.MethodName) "WheelBrook") ∈ lw_tbl := lw_at lw_m1 143 rfl
theorem q230 : (Jvm.Cond.fieldLinkNest "WheelBrook" (357 : Nat) "WheelBrook$Trace" "bodies" "[B" "WheelBrook") ∈ lw_tbl := lw_at lw_m1 148 rfl
theorem q232 : (Jvm.Cond.fieldLinkNest "WheelBrook" (342 : Nat) "WheelBrook$Trace" "many" "I" "WheelBrook") ∈ lw_tbl := lw_at lw_m1 150 rfl
theorem q238 : (Jvm.Cond.classLink "WheelBrook" (93 : Nat) "WheelBrook$Slot") ∈ lw_all := lw_g (lw_at lw_m1 156 rfl) rfl
theorem q239 : (Jvm.Cond.methodLinkNest "WheelBrook" (95 : Nat) ({ cls := "WheelBrook$Slot", name := "<init>", desc := "()V" } : Jvm.MethodName) "WheelBrook") ∈ lw_tbl := lw_at lw_m1 157 rfl
theorem q240 : (Jvm.Cond.classLink "WheelBrook" (100 : Nat) "WheelBrook$Eyes") ∈ lw_all := lw_g (lw_at lw_m1 158 rfl) rfl
theorem q242 : (Jvm.Cond.methodLinkNest "WheelBrook" (102 : Nat) ({ cls := "WheelBrook$Eyes", name := "<init>", desc := "(LWheelBrook;)V" } : Jvm.MethodName) "WheelBrook") ∈ lw_tbl := lw_at lw_m1 160 rfl
theorem q250 : (Jvm.Cond.fieldLink "WheelBrook" (50 : Nat) "WheelBrook" "pile" "[I") ∈ lw_all := lw_g (lw_at lw_m1 168 rfl) rfl
theorem q252 : (Jvm.Cond.fieldLink "WheelBrook" (58 : Nat) "WheelBrook" "named" "[I") ∈ lw_all := lw_g (lw_at lw_m1 170 rfl) rfl
theorem q254 : (Jvm.Cond.fieldLink "WheelBrook" (73 : Nat) "WheelBrook" "house" "LWheelBrook$House;") ∈ lw_all := lw_g (lw_at lw_m1 172 rfl) rfl
theorem q255 : (Jvm.Cond.fieldLink "WheelBrook" (77 : Nat) "WheelBrook" "aside" "LWheelBrook$House;") ∈ lw_all := lw_g (lw_at lw_m1 173 rfl) rfl
theorem q256 : (Jvm.Cond.fieldLink "WheelBrook" (80 : Nat) "WheelBrook" "kept" "LWheelBrook$House;") ∈ lw_all := lw_g (lw_at lw_m1 174 rfl) rfl
theorem q257 : (Jvm.Cond.fieldLink "WheelBrook" (86 : Nat) "WheelBrook" "trace" "LWheelBrook$Trace;") ∈ lw_all := lw_g (lw_at lw_m1 175 rfl) rfl
theorem q258 : (Jvm.Cond.fieldLink "WheelBrook" (90 : Nat) "WheelBrook" "found" "[I") ∈ lw_all := lw_g (lw_at lw_m1 176 rfl) rfl
theorem q259 : (Jvm.Cond.fieldLink "WheelBrook" (96 : Nat) "WheelBrook" "sheets" "[LWheelBrook$Slot;") ∈ lw_all := lw_g (lw_at lw_m1 177 rfl) rfl
theorem q260 : (Jvm.Cond.fieldLink "WheelBrook" (105 : Nat) "WheelBrook" "eyes" "LWheelBrook$Sees;") ∈ lw_all := lw_g (lw_at lw_m1 178 rfl) rfl
theorem q261 : (Jvm.Cond.fieldLink "WheelBrook" (384 : Nat) "WheelBrook" "images" "I") ∈ lw_all := lw_g (lw_at lw_m1 179 rfl) rfl
theorem q262 : (Jvm.Cond.fieldLink "WheelBrook" (109 : Nat) "WheelBrook" "took" "[I") ∈ lw_all := lw_g (lw_at lw_m1 180 rfl) rfl
theorem q263 : (Jvm.Cond.fieldLink "WheelBrook" (112 : Nat) "WheelBrook" "flowing" "[I") ∈ lw_all := lw_g (lw_at lw_m1 181 rfl) rfl
theorem q264 : (Jvm.Cond.fieldLink "WheelBrook" (170 : Nat) "WheelBrook" "gone" "I") ∈ lw_all := lw_g (lw_at lw_m1 182 rfl) rfl
theorem q265 : (Jvm.Cond.fieldLink "WheelBrook" (158 : Nat) "WheelBrook" "lost" "I") ∈ lw_all := lw_g (lw_at lw_m1 183 rfl) rfl
theorem q266 : (Jvm.Cond.fieldLink "WheelBrook" (115 : Nat) "WheelBrook" "summed" "[I") ∈ lw_all := lw_g (lw_at lw_m1 184 rfl) rfl
theorem q267 : (Jvm.Cond.laysFinal "WheelBrook" "WheelBrook" "pile" "[I") ∈ lw_all := lw_g (lw_at lw_m1 185 rfl) rfl
theorem q268 : (Jvm.Cond.soleField "WheelBrook" "pile") ∈ lw_all := lw_g (lw_at lw_m1 186 rfl) rfl
theorem q269 : (Jvm.Cond.laysFinal "WheelBrook" "WheelBrook" "named" "[I") ∈ lw_all := lw_g (lw_at lw_m1 187 rfl) rfl
theorem q270 : (Jvm.Cond.soleField "WheelBrook" "named") ∈ lw_all := lw_g (lw_at lw_m1 188 rfl) rfl
theorem q271 : (Jvm.Cond.lays "WheelBrook" "WheelBrook" "house" "LWheelBrook$House;") ∈ lw_all := lw_g (lw_at lw_m1 189 rfl) rfl
theorem q272 : (Jvm.Cond.soleField "WheelBrook" "house") ∈ lw_all := lw_g (lw_at lw_m1 190 rfl) rfl
theorem q273 : (Jvm.Cond.lays "WheelBrook" "WheelBrook" "aside" "LWheelBrook$House;") ∈ lw_all := lw_g (lw_at lw_m1 191 rfl) rfl
theorem q274 : (Jvm.Cond.soleField "WheelBrook" "aside") ∈ lw_all := lw_g (lw_at lw_m1 192 rfl) rfl
theorem q275 : (Jvm.Cond.laysFinal "WheelBrook" "WheelBrook" "kept" "LWheelBrook$House;") ∈ lw_all := lw_g (lw_at lw_m1 193 rfl) rfl
theorem q276 : (Jvm.Cond.soleField "WheelBrook" "kept") ∈ lw_all := lw_g (lw_at lw_m1 194 rfl) rfl
theorem q277 : (Jvm.Cond.laysFinal "WheelBrook" "WheelBrook" "trace" "LWheelBrook$Trace;") ∈ lw_all := lw_g (lw_at lw_m1 195 rfl) rfl
theorem q278 : (Jvm.Cond.soleField "WheelBrook" "trace") ∈ lw_all := lw_g (lw_at lw_m1 196 rfl) rfl
theorem q279 : (Jvm.Cond.laysFinal "WheelBrook" "WheelBrook" "found" "[I") ∈ lw_all := lw_g (lw_at lw_m1 197 rfl) rfl
theorem q280 : (Jvm.Cond.soleField "WheelBrook" "found") ∈ lw_all := lw_g (lw_at lw_m1 198 rfl) rfl
theorem q281 : (Jvm.Cond.laysFinal "WheelBrook" "WheelBrook" "sheets" "[LWheelBrook$Slot;") ∈ lw_all := lw_g (lw_at lw_m1 199 rfl) rfl
theorem q282 : (Jvm.Cond.soleField "WheelBrook" "sheets") ∈ lw_all := lw_g (lw_at lw_m1 200 rfl) rfl
theorem q283 : (Jvm.Cond.laysFinal "WheelBrook" "WheelBrook" "eyes" "LWheelBrook$Sees;") ∈ lw_all := lw_g (lw_at lw_m1 201 rfl) rfl
theorem q284 : (Jvm.Cond.soleField "WheelBrook" "eyes") ∈ lw_all := lw_g (lw_at lw_m1 202 rfl) rfl
theorem q285 : (Jvm.Cond.lays "WheelBrook" "WheelBrook" "images" "I") ∈ lw_all := lw_g (lw_at lw_m1 203 rfl) rfl
theorem q286 : (Jvm.Cond.soleField "WheelBrook" "images") ∈ lw_all := lw_g (lw_at lw_m1 204 rfl) rfl
theorem q287 : (Jvm.Cond.laysFinal "WheelBrook" "WheelBrook" "took" "[I") ∈ lw_all := lw_g (lw_at lw_m1 205 rfl) rfl
theorem q288 : (Jvm.Cond.soleField "WheelBrook" "took") ∈ lw_all := lw_g (lw_at lw_m1 206 rfl) rfl
theorem q289 : (Jvm.Cond.laysFinal "WheelBrook" "WheelBrook" "flowing" "[I") ∈ lw_all := lw_g (lw_at lw_m1 207 rfl) rfl
theorem q290 : (Jvm.Cond.soleField "WheelBrook" "flowing") ∈ lw_all := lw_g (lw_at lw_m1 208 rfl) rfl
theorem q291 : (Jvm.Cond.lays "WheelBrook" "WheelBrook" "gone" "I") ∈ lw_all := lw_g (lw_at lw_m1 209 rfl) rfl
theorem q292 : (Jvm.Cond.soleField "WheelBrook" "gone") ∈ lw_all := lw_g (lw_at lw_m1 210 rfl) rfl
theorem q293 : (Jvm.Cond.lays "WheelBrook" "WheelBrook" "lost" "I") ∈ lw_all := lw_g (lw_at lw_m1 211 rfl) rfl
theorem q294 : (Jvm.Cond.soleField "WheelBrook" "lost") ∈ lw_all := lw_g (lw_at lw_m1 212 rfl) rfl
theorem q295 : (Jvm.Cond.laysFinal "WheelBrook" "WheelBrook" "summed" "[I") ∈ lw_all := lw_g (lw_at lw_m1 213 rfl) rfl
theorem q296 : (Jvm.Cond.soleField "WheelBrook" "summed") ∈ lw_all := lw_g (lw_at lw_m1 214 rfl) rfl
theorem q297 : (Jvm.Cond.superclass "WheelBrook" "java/lang/Object") ∈ lw_all := lw_g (lw_at lw_m1 215 rfl) rfl
theorem q299 : (Jvm.Cond.instanceMethod ({ cls := "WheelBrook", name := "force", desc := "(II)I" } : Jvm.MethodName)) ∈ lw_all := lw_g (lw_at lw_m1 217 rfl) rfl
theorem q300 : (Jvm.Cond.selects "WheelBrook" ({ cls := "WheelBrook", name := "force", desc := "(II)I" } : Jvm.MethodName) ({ cls := "WheelBrook", name := "force", desc := "(II)I" } : Jvm.MethodName)) ∈ lw_all := lw_g (lw_at lw_m1 218 rfl) rfl
theorem q301 : (Jvm.Cond.code ({ cls := "WheelBrook", name := "force", desc := "(II)I" } : Jvm.MethodName) prog_1_method_17_code (4 : Nat) (Option.some Jvm.ClassFile.FieldType.int)) ∈ lw_all := lw_g (lw_at lw_m1 219 rfl) rfl
theorem q302 : (Jvm.Cond.methodLink "WheelBrook" (122 : Nat) ({ cls := "WheelBrook", name := "isIn", desc := "(III)Z" } : Jvm.MethodName)) ∈ lw_all := lw_g (lw_at lw_m1 220 rfl) rfl
theorem q303 : (Jvm.Cond.static ({ cls := "WheelBrook", name := "isIn", desc := "(III)Z" } : Jvm.MethodName)) ∈ lw_all := lw_g (lw_at lw_m1 221 rfl) rfl
theorem q304 : (Jvm.Cond.code ({ cls := "WheelBrook", name := "isIn", desc := "(III)Z" } : Jvm.MethodName) prog_1_method_1_code (3 : Nat) (Option.some Jvm.ClassFile.FieldType.boolean)) ∈ lw_all := lw_g (lw_at lw_m1 222 rfl) rfl
theorem q305 : (Jvm.Cond.methodLink "WheelBrook" (173 : Nat) ({ cls := "WheelBrook", name := "finds", desc := "(I)I" } : Jvm.MethodName)) ∈ lw_all := lw_g (lw_at lw_m1 223 rfl) rfl
theorem q306 : (Jvm.Cond.privateMethod ({ cls := "WheelBrook", name := "finds", desc := "(I)I" } : Jvm.MethodName)) ∈ lw_tbl := lw_at lw_m1 224 rfl
theorem q307 : (Jvm.Cond.instanceMethod ({ cls := "WheelBrook", name := "finds", desc := "(I)I" } : Jvm.MethodName)) ∈ lw_all := lw_g (lw_at lw_m1 225 rfl) rfl
theorem q308 : (Jvm.Cond.code ({ cls := "WheelBrook", name := "finds", desc := "(I)I" } : Jvm.MethodName) prog_1_method_9_code (2 : Nat) (Option.some Jvm.ClassFile.FieldType.int)) ∈ lw_all := lw_g (lw_at lw_m1 226 rfl) rfl
theorem q309 : (Jvm.Cond.constant "WheelBrook" (118 : Nat) (-1000000000 : Int32)) ∈ lw_all := lw_g (lw_at lw_m1 227 rfl) rfl
theorem q311 : (Jvm.Cond.instanceMethod ({ cls := "WheelBrook", name := "weed", desc := "(II)I" } : Jvm.MethodName)) ∈ lw_all := lw_g (lw_at lw_m1 229 rfl) rfl
theorem q312 : (Jvm.Cond.selects "WheelBrook" ({ cls := "WheelBrook", name := "weed", desc := "(II)I" } : Jvm.MethodName) ({ cls := "WheelBrook", name := "weed", desc := "(II)I" } : Jvm.MethodName)) ∈ lw_all := lw_g (lw_at lw_m1 230 rfl) rfl
theorem q313 : (Jvm.Cond.code ({ cls := "WheelBrook", name := "weed", desc := "(II)I" } : Jvm.MethodName) prog_1_method_18_code (4 : Nat) (Option.some Jvm.ClassFile.FieldType.int)) ∈ lw_all := lw_g (lw_at lw_m1 231 rfl) rfl
theorem q314 : (Jvm.Cond.methodLink "WheelBrook" (180 : Nat) ({ cls := "WheelBrook", name := "isPlace", desc := "(I)Z" } : Jvm.MethodName)) ∈ lw_all := lw_g (lw_at lw_m1 232 rfl) rfl
theorem q315 : (Jvm.Cond.static ({ cls := "WheelBrook", name := "isPlace", desc := "(I)Z" } : Jvm.MethodName)) ∈ lw_all := lw_g (lw_at lw_m1 233 rfl) rfl
theorem q316 : (Jvm.Cond.code ({ cls := "WheelBrook", name := "isPlace", desc := "(I)Z" } : Jvm.MethodName) prog_1_method_11_code (1 : Nat) (Option.some Jvm.ClassFile.FieldType.boolean)) ∈ lw_all := lw_g (lw_at lw_m1 234 rfl) rfl
theorem q318 : (Jvm.Cond.instanceMethod ({ cls := "WheelBrook", name := "frost", desc := "(I)I" } : Jvm.MethodName)) ∈ lw_all := lw_g (lw_at lw_m1 236 rfl) rfl
theorem q319 : (Jvm.Cond.selects "WheelBrook" ({ cls := "WheelBrook", name := "frost", desc := "(I)I" } : Jvm.MethodName) ({ cls := "WheelBrook", name := "frost", desc := "(I)I" } : Jvm.MethodName)) ∈ lw_all := lw_g (lw_at lw_m1 237 rfl) rfl
theorem q320 : (Jvm.Cond.code ({ cls := "WheelBrook", name := "frost", desc := "(I)I" } : Jvm.MethodName) prog_1_method_19_code (3 : Nat) (Option.some Jvm.ClassFile.FieldType.int)) ∈ lw_all := lw_g (lw_at lw_m1 238 rfl) rfl
theorem q322 : (Jvm.Cond.instanceMethod ({ cls := "WheelBrook", name := "owe", desc := "(II)I" } : Jvm.MethodName)) ∈ lw_all := lw_g (lw_at lw_m2 0 rfl) rfl
theorem q323 : (Jvm.Cond.selects "WheelBrook" ({ cls := "WheelBrook", name := "owe", desc := "(II)I" } : Jvm.MethodName) ({ cls := "WheelBrook", name := "owe", desc := "(II)I" } : Jvm.MethodName)) ∈ lw_all := lw_g (lw_at lw_m2 1 rfl) rfl
theorem q324 : (Jvm.Cond.code ({ cls := "WheelBrook", name := "owe", desc := "(II)I" } : Jvm.MethodName) prog_1_method_20_code (4 : Nat) (Option.some Jvm.ClassFile.FieldType.int)) ∈ lw_all := lw_g (lw_at lw_m2 2 rfl) rfl
theorem q325 : (Jvm.Cond.methodLink "WheelBrook" (184 : Nat) ({ cls := "WheelBrook", name := "isFamily", desc := "(I)Z" } : Jvm.MethodName)) ∈ lw_all := lw_g (lw_at lw_m2 3 rfl) rfl
theorem q326 : (Jvm.Cond.static ({ cls := "WheelBrook", name := "isFamily", desc := "(I)Z" } : Jvm.MethodName)) ∈ lw_all := lw_g (lw_at lw_m2 4 rfl) rfl
theorem q327 : (Jvm.Cond.code ({ cls := "WheelBrook", name := "isFamily", desc := "(I)Z" } : Jvm.MethodName) prog_1_method_12_code (1 : Nat) (Option.some Jvm.ClassFile.FieldType.boolean)) ∈ lw_all := lw_g (lw_at lw_m2 5 rfl) rfl
theorem q328 : (Jvm.Cond.constant "WheelBrook" (187 : Nat) (99999 : Int32)) ∈ lw_all := lw_g (lw_at lw_m2 6 rfl) rfl
theorem q330 : (Jvm.Cond.instanceMethod ({ cls := "WheelBrook", name := "familyIs", desc := "(II)I" } : Jvm.MethodName)) ∈ lw_all := lw_g (lw_at lw_m2 8 rfl) rfl
theorem q331 : (Jvm.Cond.selects "WheelBrook" ({ cls := "WheelBrook", name := "familyIs", desc := "(II)I" } : Jvm.MethodName) ({ cls := "WheelBrook", name := "familyIs", desc := "(II)I" } : Jvm.MethodName)) ∈ lw_all := lw_g (lw_at lw_m2 9 rfl) rfl
theorem q332 : (Jvm.Cond.code ({ cls := "WheelBrook", name := "familyIs", desc := "(II)I" } : Jvm.MethodName) prog_1_method_23_code (3 : Nat) (Option.some Jvm.ClassFile.FieldType.int)) ∈ lw_all := lw_g (lw_at lw_m2 10 rfl) rfl
theorem q333 : (Jvm.Cond.methodLink "WheelBrook" (203 : Nat) ({ cls := "WheelBrook", name := "familyTold", desc := "(II)I" } : Jvm.MethodName)) ∈ lw_all := lw_g (lw_at lw_m2 11 rfl) rfl
theorem q334 : (Jvm.Cond.privateMethod ({ cls := "WheelBrook", name := "familyTold", desc := "(II)I" } : Jvm.MethodName)) ∈ lw_tbl := lw_at lw_m2 12 rfl
theorem q335 : (Jvm.Cond.instanceMethod ({ cls := "WheelBrook", name := "familyTold", desc := "(II)I" } : Jvm.MethodName)) ∈ lw_all := lw_g (lw_at lw_m2 13 rfl) rfl
theorem q336 : (Jvm.Cond.code ({ cls := "WheelBrook", name := "familyTold", desc := "(II)I" } : Jvm.MethodName) prog_1_method_22_code (3 : Nat) (Option.some Jvm.ClassFile.FieldType.int)) ∈ lw_all := lw_g (lw_at lw_m2 14 rfl) rfl
theorem q337 : (Jvm.Cond.methodLink "WheelBrook" (197 : Nat) ({ cls := "WheelBrook$House", name := "isPaid", desc := "(I)Z" } : Jvm.MethodName)) ∈ lw_all := lw_g (lw_at lw_m2 15 rfl) rfl
theorem q341 : (Jvm.Cond.methodLink "WheelBrook" (200 : Nat) ({ cls := "WheelBrook", name := "wheelsOf", desc := "(I)I" } : Jvm.MethodName)) ∈ lw_all := lw_g (lw_at lw_m2 19 rfl) rfl
theorem q342 : (Jvm.Cond.privateMethod ({ cls := "WheelBrook", name := "wheelsOf", desc := "(I)I" } : Jvm.MethodName)) ∈ lw_tbl := lw_at lw_m2 20 rfl
theorem q343 : (Jvm.Cond.instanceMethod ({ cls := "WheelBrook", name := "wheelsOf", desc := "(I)I" } : Jvm.MethodName)) ∈ lw_all := lw_g (lw_at lw_m2 21 rfl) rfl
theorem q344 : (Jvm.Cond.code ({ cls := "WheelBrook", name := "wheelsOf", desc := "(I)I" } : Jvm.MethodName) prog_1_method_21_code (4 : Nat) (Option.some Jvm.ClassFile.FieldType.int)) ∈ lw_all := lw_g (lw_at lw_m2 22 rfl) rfl
theorem q346 : (Jvm.Cond.instanceMethod ({ cls := "WheelBrook", name := "wheel", desc := "(II)I" } : Jvm.MethodName)) ∈ lw_all := lw_g (lw_at lw_m2 24 rfl) rfl
theorem q347 : (Jvm.Cond.selects "WheelBrook" ({ cls := "WheelBrook", name := "wheel", desc := "(II)I" } : Jvm.MethodName) ({ cls := "WheelBrook", name := "wheel", desc := "(II)I" } : Jvm.MethodName)) ∈ lw_all := lw_g (lw_at lw_m2 25 rfl) rfl
theorem q348 : (Jvm.Cond.code ({ cls := "WheelBrook", name := "wheel", desc := "(II)I" } : Jvm.MethodName) prog_1_method_25_code (3 : Nat) (Option.some Jvm.ClassFile.FieldType.int)) ∈ lw_all := lw_g (lw_at lw_m2 26 rfl) rfl
theorem q349 : (Jvm.Cond.methodLink "WheelBrook" (206 : Nat) ({ cls := "WheelBrook", name := "isKind", desc := "(I)Z" } : Jvm.MethodName)) ∈ lw_all := lw_g (lw_at lw_m2 27 rfl) rfl
theorem q350 : (Jvm.Cond.static ({ cls := "WheelBrook", name := "isKind", desc := "(I)Z" } : Jvm.MethodName)) ∈ lw_all := lw_g (lw_at lw_m2 28 rfl) rfl
theorem q351 : (Jvm.Cond.code ({ cls := "WheelBrook", name := "isKind", desc := "(I)Z" } : Jvm.MethodName) prog_1_method_24_code (1 : Nat) (Option.some Jvm.ClassFile.FieldType.boolean)) ∈ lw_all := lw_g (lw_at lw_m2 29 rfl) rfl
theorem q352 : (Jvm.Cond.methodLink "WheelBrook" (209 : Nat) ({ cls := "WheelBrook$House", name := "comes", desc := "(IIII)I" } : Jvm.MethodName)) ∈ lw_all := lw_g (lw_at lw_m2 30 rfl) rfl
theorem q357 : (Jvm.Cond.static ({ cls := "WheelBrook", name := "made", desc := "(III)LWheelBrook$Wheel;" } : Jvm.MethodName)) ∈ lw_all := lw_g (lw_at lw_m2 35 rfl) rfl
theorem q358 : (Jvm.Cond.code ({ cls := "WheelBrook", name := "made", desc := "(III)LWheelBrook$Wheel;" } : Jvm.MethodName) prog_1_method_3_code (3 : Nat) (Option.some (Jvm.ClassFile.FieldType.object "WheelBrook$Wheel"))) ∈ lw_all := lw_g (lw_at lw_m2 36 rfl) rfl
theorem q359 : (Jvm.Cond.classLink "WheelBrook" (10 : Nat) "WheelBrook$Slow") ∈ lw_all := lw_g (lw_at lw_m2 37 rfl) rfl
theorem q361 : (Jvm.Cond.methodLink "WheelBrook" (12 : Nat) ({ cls := "WheelBrook$Slow", name := "<init>", desc := "(II)V" } : Jvm.MethodName)) ∈ lw_all := lw_g (lw_at lw_m2 39 rfl) rfl
theorem q381 : (Jvm.Cond.fieldLink "WheelBrook" (133 : Nat) "WheelBrook$Wheel" "m" "I") ∈ lw_all := lw_g (lw_at lw_m2 59 rfl) rfl
theorem q387 : (Jvm.Cond.classLink "WheelBrook" (16 : Nat) "WheelBrook$Hidden") ∈ lw_all := lw_g (lw_at lw_m2 65 rfl) rfl
theorem q389 : (Jvm.Cond.methodLink "WheelBrook" (18 : Nat) ({ cls := "WheelBrook$Hidden", name := "<init>", desc := "(II)V" } : Jvm.MethodName)) ∈ lw_all := lw_g (lw_at lw_m2 67 rfl) rfl
theorem q396 : (Jvm.Cond.classLink "WheelBrook" (19 : Nat) "WheelBrook$Double") ∈ lw_all := lw_g (lw_at lw_m2 74 rfl) rfl
theorem q398 : (Jvm.Cond.methodLink "WheelBrook" (21 : Nat) ({ cls := "WheelBrook$Double", name := "<init>", desc := "(II)V" } : Jvm.MethodName)) ∈ lw_all := lw_g (lw_at lw_m2 76 rfl) rfl
theorem q405 : (Jvm.Cond.classLink "WheelBrook" (22 : Nat) "WheelBrook$Silent") ∈ lw_all := lw_g (lw_at lw_m2 83 rfl) rfl
theorem q407 : (Jvm.Cond.methodLink "WheelBrook" (24 : Nat) ({ cls := "WheelBrook$Silent", name := "<init>", desc := "(II)V" } : Jvm.MethodName)) ∈ lw_all := lw_g (lw_at lw_m2 85 rfl) rfl
theorem q414 : (Jvm.Cond.classLink "WheelBrook" (25 : Nat) "WheelBrook$False") ∈ lw_all := lw_g (lw_at lw_m2 92 rfl) rfl
theorem q416 : (Jvm.Cond.methodLink "WheelBrook" (27 : Nat) ({ cls := "WheelBrook$False", name := "<init>", desc := "(II)V" } : Jvm.MethodName)) ∈ lw_all := lw_g (lw_at lw_m2 94 rfl) rfl
theorem q423 : (Jvm.Cond.classLink "WheelBrook" (28 : Nat) "WheelBrook$Told") ∈ lw_all := lw_g (lw_at lw_m2 101 rfl) rfl
theorem q425 : (Jvm.Cond.methodLink "WheelBrook" (30 : Nat) ({ cls := "WheelBrook$Told", name := "<init>", desc := "(II)V" } : Jvm.MethodName)) ∈ lw_all := lw_g (lw_at lw_m2 103 rfl) rfl
theorem q432 : (Jvm.Cond.classLink "WheelBrook" (31 : Nat) "WheelBrook$Wheel") ∈ lw_all := lw_g (lw_at lw_m2 110 rfl) rfl
theorem q434 : (Jvm.Cond.methodLink "WheelBrook" (33 : Nat) ({ cls := "WheelBrook$Wheel", name := "<init>", desc := "(II)V" } : Jvm.MethodName)) ∈ lw_all := lw_g (lw_at lw_m2 112 rfl) rfl
theorem q439 : (Jvm.Cond.instanceMethod ({ cls := "WheelBrook", name := "wheelIs", desc := "(II)I" } : Jvm.MethodName)) ∈ lw_all := lw_g (lw_at lw_m2 117 rfl) rfl
theorem q440 : (Jvm.Cond.selects "WheelBrook" ({ cls := "WheelBrook", name := "wheelIs", desc := "(II)I" } : Jvm.MethodName) ({ cls := "WheelBrook", name := "wheelIs", desc := "(II)I" } : Jvm.MethodName)) ∈ lw_all := lw_g (lw_at lw_m2 118 rfl) rfl
theorem q441 : (Jvm.Cond.code ({ cls := "WheelBrook", name := "wheelIs", desc := "(II)I" } : Jvm.MethodName) prog_1_method_27_code (3 : Nat) (Option.some Jvm.ClassFile.FieldType.int)) ∈ lw_all := lw_g (lw_at lw_m2 119 rfl) rfl
theorem q442 : (Jvm.Cond.methodLink "WheelBrook" (231 : Nat) ({ cls := "WheelBrook", name := "isWheel", desc := "(I)Z" } : Jvm.MethodName)) ∈ lw_all := lw_g (lw_at lw_m2 120 rfl) rfl
theorem q443 : (Jvm.Cond.privateMethod ({ cls := "WheelBrook", name := "isWheel", desc := "(I)Z" } : Jvm.MethodName)) ∈ lw_tbl := lw_at lw_m2 121 rfl
theorem q444 : (Jvm.Cond.instanceMethod ({ cls := "WheelBrook", name := "isWheel", desc := "(I)Z" } : Jvm.MethodName)) ∈ lw_all := lw_g (lw_at lw_m2 122 rfl) rfl
theorem q445 : (Jvm.Cond.code ({ cls := "WheelBrook", name := "isWheel", desc := "(I)Z" } : Jvm.MethodName) prog_1_method_10_code (2 : Nat) (Option.some Jvm.ClassFile.FieldType.boolean)) ∈ lw_all := lw_g (lw_at lw_m2 123 rfl) rfl
theorem q446 : (Jvm.Cond.methodLink "WheelBrook" (234 : Nat) ({ cls := "WheelBrook", name := "wheelTold", desc := "(II)I" } : Jvm.MethodName)) ∈ lw_all := lw_g (lw_at lw_m2 124 rfl) rfl
theorem q447 : (Jvm.Cond.privateMethod ({ cls := "WheelBrook", name := "wheelTold", desc := "(II)I" } : Jvm.MethodName)) ∈ lw_tbl := lw_at lw_m2 125 rfl
theorem q448 : (Jvm.Cond.instanceMethod ({ cls := "WheelBrook", name := "wheelTold", desc := "(II)I" } : Jvm.MethodName)) ∈ lw_all := lw_g (lw_at lw_m2 126 rfl) rfl
theorem q449 : (Jvm.Cond.code ({ cls := "WheelBrook", name := "wheelTold", desc := "(II)I" } : Jvm.MethodName) prog_1_method_26_code (3 : Nat) (Option.some Jvm.ClassFile.FieldType.int)) ∈ lw_all := lw_g (lw_at lw_m2 127 rfl) rfl
theorem q450 : (Jvm.Cond.methodLink "WheelBrook" (126 : Nat) ({ cls := "WheelBrook$House", name := "at", desc := "(I)LWheelBrook$Wheel;" } : Jvm.MethodName)) ∈ lw_all := lw_g (lw_at lw_m2 128 rfl) rfl
theorem q455 : (Jvm.Cond.methodLink "WheelBrook" (213 : Nat) ({ cls := "WheelBrook$Wheel", name := "kind", desc := "()I" } : Jvm.MethodName)) ∈ lw_all := lw_g (lw_at lw_m2 133 rfl) rfl
theorem q484 : (Jvm.Cond.methodLink "WheelBrook" (222 : Nat) ({ cls := "WheelBrook", name := "goDown", desc := "()V" } : Jvm.MethodName)) ∈ lw_all := lw_g (lw_at lw_m2 162 rfl) rfl
theorem q485 : (Jvm.Cond.privateMethod ({ cls := "WheelBrook", name := "goDown", desc := "()V" } : Jvm.MethodName)) ∈ lw_tbl := lw_at lw_m2 163 rfl
theorem q486 : (Jvm.Cond.instanceMethod ({ cls := "WheelBrook", name := "goDown", desc := "()V" } : Jvm.MethodName)) ∈ lw_all := lw_g (lw_at lw_m2 164 rfl) rfl
theorem q487 : (Jvm.Cond.code ({ cls := "WheelBrook", name := "goDown", desc := "()V" } : Jvm.MethodName) prog_1_method_16_code (5 : Nat) (Option.none : Option Jvm.ClassFile.FieldType)) ∈ lw_all := lw_g (lw_at lw_m2 165 rfl) rfl
theorem q488 : (Jvm.Cond.methodLink "WheelBrook" (154 : Nat) ({ cls := "WheelBrook$House", name := "forceNow", desc := "()I" } : Jvm.MethodName)) ∈ lw_all := lw_g (lw_at lw_m2 166 rfl) rfl
theorem q492 : (Jvm.Cond.methodLink "WheelBrook" (1 : Nat) ({ cls := "java/lang/Math", name := "min", desc := "(II)I" } : Jvm.MethodName)) ∈ lw_all := lw_g (lw_at lw_m2 170 rfl) rfl
theorem q495 : (Jvm.Cond.methodLink "WheelBrook" (167 : Nat) ({ cls := "WheelBrook", name := "wantsOf", desc := "(II)I" } : Jvm.MethodName)) ∈ lw_all := lw_g (lw_at lw_m2 173 rfl) rfl
theorem q496 : (Jvm.Cond.privateMethod ({ cls := "WheelBrook", name := "wantsOf", desc := "(II)I" } : Jvm.MethodName)) ∈ lw_tbl := lw_at lw_m2 174 rfl
theorem q497 : (Jvm.Cond.instanceMethod ({ cls := "WheelBrook", name := "wantsOf", desc := "(II)I" } : Jvm.MethodName)) ∈ lw_all := lw_g (lw_at lw_m2 175 rfl) rfl
theorem q498 : (Jvm.Cond.code ({ cls := "WheelBrook", name := "wantsOf", desc := "(II)I" } : Jvm.MethodName) prog_1_method_13_code (5 : Nat) (Option.some Jvm.ClassFile.FieldType.int)) ∈ lw_all := lw_g (lw_at lw_m2 176 rfl) rfl
theorem q499 : (Jvm.Cond.interfaceEntry "WheelBrook" (139 : Nat)) ∈ lw_tbl := lw_at lw_m2 177 rfl
theorem q500 : (Jvm.Cond.methodLink "WheelBrook" (139 : Nat) ({ cls := "WheelBrook$Wants", name := "wants", desc := "(LWheelBrook$Sees;I)I" } : Jvm.MethodName)) ∈ lw_all := lw_g (lw_at lw_m2 178 rfl) rfl
theorem q547 : (Jvm.Cond.privateMethod ({ cls := "WheelBrook", name := "worked", desc := "(LWheelBrook$Text;)I" } : Jvm.MethodName)) ∈ lw_tbl := lw_at lw_m2 225 rfl
theorem q548 : (Jvm.Cond.instanceMethod ({ cls := "WheelBrook", name := "worked", desc := "(LWheelBrook$Text;)I" } : Jvm.MethodName)) ∈ lw_all := lw_g (lw_at lw_m2 226 rfl) rfl
theorem q549 : (Jvm.Cond.code ({ cls := "WheelBrook", name := "worked", desc := "(LWheelBrook$Text;)I" } : Jvm.MethodName) prog_1_method_7_code (5 : Nat) (Option.some Jvm.ClassFile.FieldType.int)) ∈ lw_all := lw_g (lw_at lw_m2 227 rfl) rfl
theorem q550 : (Jvm.Cond.methodLink "WheelBrook" (61 : Nat) ({ cls := "WheelBrook", name := "both", desc := "(III)I" } : Jvm.MethodName)) ∈ lw_all := lw_g (lw_at lw_m2 228 rfl) rfl
theorem q551 : (Jvm.Cond.static ({ cls := "WheelBrook", name := "both", desc := "(III)I" } : Jvm.MethodName)) ∈ lw_all := lw_g (lw_at lw_m2 229 rfl) rfl
theorem q552 : (Jvm.Cond.code ({ cls := "WheelBrook", name := "both", desc := "(III)I" } : Jvm.MethodName) prog_1_method_6_code (3 : Nat) (Option.some Jvm.ClassFile.FieldType.int)) ∈ lw_all := lw_g (lw_at lw_m2 230 rfl) rfl
theorem q556 : (Jvm.Cond.methodLink "WheelBrook" (145 : Nat) ({ cls := "WheelBrook", name := "held", desc := "(III)I" } : Jvm.MethodName)) ∈ lw_all := lw_g (lw_at lw_m2 234 rfl) rfl
theorem q557 : (Jvm.Cond.static ({ cls := "WheelBrook", name := "held", desc := "(III)I" } : Jvm.MethodName)) ∈ lw_all := lw_g (lw_at lw_m2 235 rfl) rfl
theorem q558 : (Jvm.Cond.code ({ cls := "WheelBrook", name := "held", desc := "(III)I" } : Jvm.MethodName) prog_1_method_2_code (3 : Nat) (Option.some Jvm.ClassFile.FieldType.int)) ∈ lw_all := lw_g (lw_at lw_m2 236 rfl) rfl
theorem q559 : (Jvm.Cond.methodLink "WheelBrook" (7 : Nat) ({ cls := "java/lang/Math", name := "max", desc := "(II)I" } : Jvm.MethodName)) ∈ lw_all := lw_g (lw_at lw_m2 237 rfl) rfl
theorem q562 : (Jvm.Cond.methodLink "WheelBrook" (225 : Nat) ({ cls := "WheelBrook", name := "turnsOf", desc := "(II)I" } : Jvm.MethodName)) ∈ lw_all := lw_g (lw_at lw_m3 0 rfl) rfl
theorem q563 : (Jvm.Cond.privateMethod ({ cls := "WheelBrook", name := "turnsOf", desc := "(II)I" } : Jvm.MethodName)) ∈ lw_tbl := lw_at lw_m3 1 rfl
theorem q564 : (Jvm.Cond.instanceMethod ({ cls := "WheelBrook", name := "turnsOf", desc := "(II)I" } : Jvm.MethodName)) ∈ lw_all := lw_g (lw_at lw_m3 2 rfl) rfl
theorem q565 : (Jvm.Cond.code ({ cls := "WheelBrook", name := "turnsOf", desc := "(II)I" } : Jvm.MethodName) prog_1_method_14_code (4 : Nat) (Option.some Jvm.ClassFile.FieldType.int)) ∈ lw_all := lw_g (lw_at lw_m3 3 rfl) rfl
theorem q566 : (Jvm.Cond.interfaceEntry "WheelBrook" (148 : Nat)) ∈ lw_tbl := lw_at lw_m3 4 rfl
theorem q567 : (Jvm.Cond.methodLink "WheelBrook" (148 : Nat) ({ cls := "WheelBrook$Wants", name := "turnsBy", desc := "(LWheelBrook$Sees;I)I" } : Jvm.MethodName)) ∈ lw_all := lw_g (lw_at lw_m3 5 rfl) rfl
theorem q610 : (Jvm.Cond.methodLink "WheelBrook" (228 : Nat) ({ cls := "WheelBrook", name := "showsOf", desc := "(II)I" } : Jvm.MethodName)) ∈ lw_all := lw_g (lw_at lw_m3 48 rfl) rfl
theorem q611 : (Jvm.Cond.privateMethod ({ cls := "WheelBrook", name := "showsOf", desc := "(II)I" } : Jvm.MethodName)) ∈ lw_tbl := lw_at lw_m3 49 rfl
theorem q612 : (Jvm.Cond.instanceMethod ({ cls := "WheelBrook", name := "showsOf", desc := "(II)I" } : Jvm.MethodName)) ∈ lw_all := lw_g (lw_at lw_m3 50 rfl) rfl
theorem q613 : (Jvm.Cond.code ({ cls := "WheelBrook", name := "showsOf", desc := "(II)I" } : Jvm.MethodName) prog_1_method_15_code (4 : Nat) (Option.some Jvm.ClassFile.FieldType.int)) ∈ lw_all := lw_g (lw_at lw_m3 51 rfl) rfl
theorem q614 : (Jvm.Cond.interfaceEntry "WheelBrook" (151 : Nat)) ∈ lw_tbl := lw_at lw_m3 52 rfl
theorem q615 : (Jvm.Cond.methodLink "WheelBrook" (151 : Nat) ({ cls := "WheelBrook$Wants", name := "shows", desc := "(LWheelBrook$Sees;I)I" } : Jvm.MethodName)) ∈ lw_all := lw_g (lw_at lw_m3 53 rfl) rfl
theorem q644 : (Jvm.Cond.instanceMethod ({ cls := "WheelBrook", name := "as", desc := "(II)I" } : Jvm.MethodName)) ∈ lw_all := lw_g (lw_at lw_m3 82 rfl) rfl
theorem q645 : (Jvm.Cond.selects "WheelBrook" ({ cls := "WheelBrook", name := "as", desc := "(II)I" } : Jvm.MethodName) ({ cls := "WheelBrook", name := "as", desc := "(II)I" } : Jvm.MethodName)) ∈ lw_all := lw_g (lw_at lw_m3 83 rfl) rfl
theorem q646 : (Jvm.Cond.code ({ cls := "WheelBrook", name := "as", desc := "(II)I" } : Jvm.MethodName) prog_1_method_28_code (3 : Nat) (Option.some Jvm.ClassFile.FieldType.int)) ∈ lw_all := lw_g (lw_at lw_m3 84 rfl) rfl
theorem q647 : (Jvm.Cond.methodLink "WheelBrook" (243 : Nat) ({ cls := "WheelBrook", name := "isOf", desc := "(Ljava/lang/Object;I)Z" } : Jvm.MethodName)) ∈ lw_all := lw_g (lw_at lw_m3 85 rfl) rfl
theorem q648 : (Jvm.Cond.static ({ cls := "WheelBrook", name := "isOf", desc := "(Ljava/lang/Object;I)Z" } : Jvm.MethodName)) ∈ lw_all := lw_g (lw_at lw_m3 86 rfl) rfl
theorem q649 : (Jvm.Cond.code ({ cls := "WheelBrook", name := "isOf", desc := "(Ljava/lang/Object;I)Z" } : Jvm.MethodName) prog_1_method_4_code (2 : Nat) (Option.some Jvm.ClassFile.FieldType.boolean)) ∈ lw_all := lw_g (lw_at lw_m3 87 rfl) rfl
theorem q651 : (Jvm.Cond.instanceMethod ({ cls := "WheelBrook", name := "set", desc := "(III)I" } : Jvm.MethodName)) ∈ lw_all := lw_g (lw_at lw_m3 89 rfl) rfl
theorem q652 : (Jvm.Cond.selects "WheelBrook" ({ cls := "WheelBrook", name := "set", desc := "(III)I" } : Jvm.MethodName) ({ cls := "WheelBrook", name := "set", desc := "(III)I" } : Jvm.MethodName)) ∈ lw_all := lw_g (lw_at lw_m3 90 rfl) rfl
theorem q653 : (Jvm.Cond.code ({ cls := "WheelBrook", name := "set", desc := "(III)I" } : Jvm.MethodName) prog_1_method_30_code (6 : Nat) (Option.some Jvm.ClassFile.FieldType.int)) ∈ lw_all := lw_g (lw_at lw_m3 91 rfl) rfl
theorem q654 : (Jvm.Cond.methodLink "WheelBrook" (248 : Nat) ({ cls := "WheelBrook", name := "mostOf", desc := "(I)I" } : Jvm.MethodName)) ∈ lw_all := lw_g (lw_at lw_m3 92 rfl) rfl
theorem q655 : (Jvm.Cond.static ({ cls := "WheelBrook", name := "mostOf", desc := "(I)I" } : Jvm.MethodName)) ∈ lw_all := lw_g (lw_at lw_m3 93 rfl) rfl
theorem q656 : (Jvm.Cond.code ({ cls := "WheelBrook", name := "mostOf", desc := "(I)I" } : Jvm.MethodName) prog_1_method_29_code (1 : Nat) (Option.some Jvm.ClassFile.FieldType.int)) ∈ lw_all := lw_g (lw_at lw_m3 94 rfl) rfl
theorem q657 : (Jvm.Cond.constant "WheelBrook" (247 : Nat) (999999 : Int32)) ∈ lw_all := lw_g (lw_at lw_m3 95 rfl) rfl
theorem q658 : (Jvm.Cond.methodLink "WheelBrook" (251 : Nat) ({ cls := "WheelBrook", name := "made", desc := "(III)LWheelBrook$Wheel;" } : Jvm.MethodName)) ∈ lw_all := lw_g (lw_at lw_m3 96 rfl) rfl
theorem q660 : (Jvm.Cond.instanceMethod ({ cls := "WheelBrook", name := "flows", desc := "(I)I" } : Jvm.MethodName)) ∈ lw_all := lw_g (lw_at lw_m3 98 rfl) rfl
theorem q661 : (Jvm.Cond.selects "WheelBrook" ({ cls := "WheelBrook", name := "flows", desc := "(I)I" } : Jvm.MethodName) ({ cls := "WheelBrook", name := "flows", desc := "(I)I" } : Jvm.MethodName)) ∈ lw_all := lw_g (lw_at lw_m3 99 rfl) rfl
theorem q662 : (Jvm.Cond.code ({ cls := "WheelBrook", name := "flows", desc := "(I)I" } : Jvm.MethodName) prog_1_method_31_code (2 : Nat) (Option.some Jvm.ClassFile.FieldType.int)) ∈ lw_all := lw_g (lw_at lw_m3 100 rfl) rfl
theorem q664 : (Jvm.Cond.instanceMethod ({ cls := "WheelBrook", name := "feed", desc := "(JI)I" } : Jvm.MethodName)) ∈ lw_all := lw_g (lw_at lw_m3 102 rfl) rfl
theorem q665 : (Jvm.Cond.selects "WheelBrook" ({ cls := "WheelBrook", name := "feed", desc := "(JI)I" } : Jvm.MethodName) ({ cls := "WheelBrook", name := "feed", desc := "(JI)I" } : Jvm.MethodName)) ∈ lw_all := lw_g (lw_at lw_m3 103 rfl) rfl
theorem q666 : (Jvm.Cond.code ({ cls := "WheelBrook", name := "feed", desc := "(JI)I" } : Jvm.MethodName) prog_1_method_32_code (5 : Nat) (Option.some Jvm.ClassFile.FieldType.int)) ∈ lw_all := lw_g (lw_at lw_m3 104 rfl) rfl
theorem q668 : (Jvm.Cond.instanceMethod ({ cls := "WheelBrook", name := "text", desc := "(I)I" } : Jvm.MethodName)) ∈ lw_all := lw_g (lw_at lw_m3 106 rfl) rfl
theorem q669 : (Jvm.Cond.selects "WheelBrook" ({ cls := "WheelBrook", name := "text", desc := "(I)I" } : Jvm.MethodName) ({ cls := "WheelBrook", name := "text", desc := "(I)I" } : Jvm.MethodName)) ∈ lw_all := lw_g (lw_at lw_m3 107 rfl) rfl
theorem q670 : (Jvm.Cond.codeWith ({ cls := "WheelBrook", name := "text", desc := "(I)I" } : Jvm.MethodName) prog_1_method_34_code (6 : Nat) (Option.some Jvm.ClassFile.FieldType.int) [((39 : Nat), (54 : Nat), (64 : Nat), (281 : Nat)), ((39 : Nat), (54 : Nat), (85 : Nat), (0 : Nat)), ((64 : Nat), (74 : Nat), (85 : Nat), (0 : Nat)), ((85 : Nat), (87 : Nat), (85 : Nat), (0 : Nat))]) ∈ lw_all := lw_g (lw_at lw_m3 108 rfl) rfl
theorem q671 : (Jvm.Cond.classLink "WheelBrook" (281 : Nat) "WheelBrook$Fault") ∈ lw_all := lw_g (lw_at lw_m3 109 rfl) rfl
theorem q672 : (Jvm.Cond.methodLink "WheelBrook" (261 : Nat) ({ cls := "WheelBrook", name := "isUse", desc := "(I)Z" } : Jvm.MethodName)) ∈ lw_all := lw_g (lw_at lw_m3 110 rfl) rfl
theorem q673 : (Jvm.Cond.static ({ cls := "WheelBrook", name := "isUse", desc := "(I)Z" } : Jvm.MethodName)) ∈ lw_all := lw_g (lw_at lw_m3 111 rfl) rfl
theorem q674 : (Jvm.Cond.code ({ cls := "WheelBrook", name := "isUse", desc := "(I)Z" } : Jvm.MethodName) prog_1_method_33_code (1 : Nat) (Option.some Jvm.ClassFile.FieldType.boolean)) ∈ lw_all := lw_g (lw_at lw_m3 112 rfl) rfl
theorem q675 : (Jvm.Cond.classLink "WheelBrook" (264 : Nat) "WheelBrook$Reader") ∈ lw_all := lw_g (lw_at lw_m3 113 rfl) rfl
theorem q677 : (Jvm.Cond.methodLink "WheelBrook" (266 : Nat) ({ cls := "WheelBrook", name := "namesOf", desc := "(I)Ljava/lang/String;" } : Jvm.MethodName)) ∈ lw_all := lw_g (lw_at lw_m3 115 rfl) rfl
theorem q678 : (Jvm.Cond.static ({ cls := "WheelBrook", name := "namesOf", desc := "(I)Ljava/lang/String;" } : Jvm.MethodName)) ∈ lw_all := lw_g (lw_at lw_m3 116 rfl) rfl
theorem q679 : (Jvm.Cond.code ({ cls := "WheelBrook", name := "namesOf", desc := "(I)Ljava/lang/String;" } : Jvm.MethodName) prog_1_method_5_code (1 : Nat) (Option.some (Jvm.ClassFile.FieldType.object "java/lang/String"))) ∈ lw_all := lw_g (lw_at lw_m3 117 rfl) rfl
theorem q680 : (Jvm.Cond.stringRef "WheelBrook" (34 : Nat) "fphm") ∈ lw_tbl := lw_at lw_m3 118 rfl
theorem q681 : (Jvm.Cond.stringRef "WheelBrook" (36 : Nat) "tcm") ∈ lw_tbl := lw_at lw_m3 119 rfl
theorem q682 : (Jvm.Cond.methodLink "WheelBrook" (270 : Nat) ({ cls := "WheelBrook$Reader", name := "<init>", desc := "([BILjava/lang/String;)V" } : Jvm.MethodName)) ∈ lw_all := lw_g (lw_at lw_m3 120 rfl) rfl
theorem q693 : (Jvm.Cond.fieldLinkNest "WheelBrook" (44 : Nat) "WheelBrook$Text" "step" "[B" "WheelBrook") ∈ lw_tbl := lw_at lw_m3 131 rfl
theorem q695 : (Jvm.Cond.fieldLinkNest "WheelBrook" (54 : Nat) "WheelBrook$Text" "value" "[S" "WheelBrook") ∈ lw_tbl := lw_at lw_m3 133 rfl
theorem q697 : (Jvm.Cond.fieldLinkNest "WheelBrook" (38 : Nat) "WheelBrook$Text" "many" "I" "WheelBrook") ∈ lw_tbl := lw_at lw_m3 135 rfl
theorem q725 : (Jvm.Cond.methodLink "WheelBrook" (277 : Nat) ({ cls := "WheelBrook$Reader", name := "read", desc := "()LWheelBrook$Text;" } : Jvm.MethodName)) ∈ lw_all := lw_g (lw_at lw_m3 163 rfl) rfl
theorem q815 : (Jvm.Cond.fieldLinkNest "WheelBrook" (283 : Nat) "WheelBrook$Fault" "place" "I" "WheelBrook") ∈ lw_tbl := lw_at lw_m4 13 rfl
theorem q934 : (Jvm.Cond.instanceMethod ({ cls := "WheelBrook", name := "untell", desc := "(I)I" } : Jvm.MethodName)) ∈ lw_all := lw_g (lw_at lw_m4 132 rfl) rfl
theorem q935 : (Jvm.Cond.selects "WheelBrook" ({ cls := "WheelBrook", name := "untell", desc := "(I)I" } : Jvm.MethodName) ({ cls := "WheelBrook", name := "untell", desc := "(I)I" } : Jvm.MethodName)) ∈ lw_all := lw_g (lw_at lw_m4 133 rfl) rfl
theorem q936 : (Jvm.Cond.code ({ cls := "WheelBrook", name := "untell", desc := "(I)I" } : Jvm.MethodName) prog_1_method_35_code (3 : Nat) (Option.some Jvm.ClassFile.FieldType.int)) ∈ lw_all := lw_g (lw_at lw_m4 134 rfl) rfl
theorem q938 : (Jvm.Cond.instanceMethod ({ cls := "WheelBrook", name := "hours", desc := "(I)I" } : Jvm.MethodName)) ∈ lw_all := lw_g (lw_at lw_m4 136 rfl) rfl
theorem q939 : (Jvm.Cond.selects "WheelBrook" ({ cls := "WheelBrook", name := "hours", desc := "(I)I" } : Jvm.MethodName) ({ cls := "WheelBrook", name := "hours", desc := "(I)I" } : Jvm.MethodName)) ∈ lw_all := lw_g (lw_at lw_m4 137 rfl) rfl
theorem q940 : (Jvm.Cond.code ({ cls := "WheelBrook", name := "hours", desc := "(I)I" } : Jvm.MethodName) prog_1_method_39_code (3 : Nat) (Option.some Jvm.ClassFile.FieldType.int)) ∈ lw_all := lw_g (lw_at lw_m4 138 rfl) rfl
theorem q941 : (Jvm.Cond.methodLink "WheelBrook" (294 : Nat) ({ cls := "WheelBrook", name := "goOn", desc := "(I)I" } : Jvm.MethodName)) ∈ lw_all := lw_g (lw_at lw_m4 139 rfl) rfl
theorem q942 : (Jvm.Cond.privateMethod ({ cls := "WheelBrook", name := "goOn", desc := "(I)I" } : Jvm.MethodName)) ∈ lw_tbl := lw_at lw_m4 140 rfl
theorem q943 : (Jvm.Cond.instanceMethod ({ cls := "WheelBrook", name := "goOn", desc := "(I)I" } : Jvm.MethodName)) ∈ lw_all := lw_g (lw_at lw_m4 141 rfl) rfl
theorem q944 : (Jvm.Cond.code ({ cls := "WheelBrook", name := "goOn", desc := "(I)I" } : Jvm.MethodName) prog_1_method_38_code (4 : Nat) (Option.some Jvm.ClassFile.FieldType.int)) ∈ lw_all := lw_g (lw_at lw_m4 142 rfl) rfl
theorem q945 : (Jvm.Cond.methodLink "WheelBrook" (291 : Nat) ({ cls := "WheelBrook", name := "anHour", desc := "()I" } : Jvm.MethodName)) ∈ lw_all := lw_g (lw_at lw_m4 143 rfl) rfl
theorem q946 : (Jvm.Cond.privateMethod ({ cls := "WheelBrook", name := "anHour", desc := "()I" } : Jvm.MethodName)) ∈ lw_tbl := lw_at lw_m4 144 rfl
theorem q947 : (Jvm.Cond.instanceMethod ({ cls := "WheelBrook", name := "anHour", desc := "()I" } : Jvm.MethodName)) ∈ lw_all := lw_g (lw_at lw_m4 145 rfl) rfl
theorem q948 : (Jvm.Cond.code ({ cls := "WheelBrook", name := "anHour", desc := "()I" } : Jvm.MethodName) prog_1_method_37_code (5 : Nat) (Option.some Jvm.ClassFile.FieldType.int)) ∈ lw_all := lw_g (lw_at lw_m4 146 rfl) rfl
theorem q949 : (Jvm.Cond.methodLink "WheelBrook" (285 : Nat) ({ cls := "WheelBrook$House", name := "turns", desc := "(II)V" } : Jvm.MethodName)) ∈ lw_all := lw_g (lw_at lw_m4 147 rfl) rfl
theorem q955 : (Jvm.Cond.methodLink "WheelBrook" (297 : Nat) ({ cls := "WheelBrook$House", name := "allPrayed", desc := "()I" } : Jvm.MethodName)) ∈ lw_all := lw_g (lw_at lw_m4 153 rfl) rfl
theorem q960 : (Jvm.Cond.instanceMethod ({ cls := "WheelBrook", name := "draws", desc := "(I)I" } : Jvm.MethodName)) ∈ lw_all := lw_g (lw_at lw_m4 158 rfl) rfl
theorem q961 : (Jvm.Cond.selects "WheelBrook" ({ cls := "WheelBrook", name := "draws", desc := "(I)I" } : Jvm.MethodName) ({ cls := "WheelBrook", name := "draws", desc := "(I)I" } : Jvm.MethodName)) ∈ lw_all := lw_g (lw_at lw_m4 159 rfl) rfl
theorem q962 : (Jvm.Cond.code ({ cls := "WheelBrook", name := "draws", desc := "(I)I" } : Jvm.MethodName) prog_1_method_41_code (6 : Nat) (Option.some Jvm.ClassFile.FieldType.int)) ∈ lw_all := lw_g (lw_at lw_m4 160 rfl) rfl
theorem q963 : (Jvm.Cond.methodLink "WheelBrook" (300 : Nat) ({ cls := "WheelBrook$House", name := "drawn", desc := "()I" } : Jvm.MethodName)) ∈ lw_all := lw_g (lw_at lw_m4 161 rfl) rfl
theorem q968 : (Jvm.Cond.methodLink "WheelBrook" (303 : Nat) ({ cls := "WheelBrook", name := "floods", desc := "()V" } : Jvm.MethodName)) ∈ lw_all := lw_g (lw_at lw_m4 166 rfl) rfl
theorem q969 : (Jvm.Cond.privateMethod ({ cls := "WheelBrook", name := "floods", desc := "()V" } : Jvm.MethodName)) ∈ lw_tbl := lw_at lw_m4 167 rfl
theorem q970 : (Jvm.Cond.instanceMethod ({ cls := "WheelBrook", name := "floods", desc := "()V" } : Jvm.MethodName)) ∈ lw_all := lw_g (lw_at lw_m4 168 rfl) rfl
theorem q971 : (Jvm.Cond.code ({ cls := "WheelBrook", name := "floods", desc := "()V" } : Jvm.MethodName) prog_1_method_40_code (2 : Nat) (Option.none : Option Jvm.ClassFile.FieldType)) ∈ lw_all := lw_g (lw_at lw_m4 169 rfl) rfl
theorem q973 : (Jvm.Cond.instanceMethod ({ cls := "WheelBrook", name := "seed", desc := "(I)I" } : Jvm.MethodName)) ∈ lw_all := lw_g (lw_at lw_m4 171 rfl) rfl
theorem q974 : (Jvm.Cond.selects "WheelBrook" ({ cls := "WheelBrook", name := "seed", desc := "(I)I" } : Jvm.MethodName) ({ cls := "WheelBrook", name := "seed", desc := "(I)I" } : Jvm.MethodName)) ∈ lw_all := lw_g (lw_at lw_m4 172 rfl) rfl
theorem q975 : (Jvm.Cond.code ({ cls := "WheelBrook", name := "seed", desc := "(I)I" } : Jvm.MethodName) prog_1_method_42_code (3 : Nat) (Option.some Jvm.ClassFile.FieldType.int)) ∈ lw_all := lw_g (lw_at lw_m4 173 rfl) rfl
theorem q977 : (Jvm.Cond.instanceMethod ({ cls := "WheelBrook", name := "sell", desc := "(III)I" } : Jvm.MethodName)) ∈ lw_all := lw_g (lw_at lw_m4 175 rfl) rfl
theorem q978 : (Jvm.Cond.selects "WheelBrook" ({ cls := "WheelBrook", name := "sell", desc := "(III)I" } : Jvm.MethodName) ({ cls := "WheelBrook", name := "sell", desc := "(III)I" } : Jvm.MethodName)) ∈ lw_all := lw_g (lw_at lw_m4 176 rfl) rfl
theorem q979 : (Jvm.Cond.code ({ cls := "WheelBrook", name := "sell", desc := "(III)I" } : Jvm.MethodName) prog_1_method_43_code (4 : Nat) (Option.some Jvm.ClassFile.FieldType.int)) ∈ lw_all := lw_g (lw_at lw_m4 177 rfl) rfl
theorem q981 : (Jvm.Cond.instanceMethod ({ cls := "WheelBrook", name := "fair", desc := "(II)I" } : Jvm.MethodName)) ∈ lw_all := lw_g (lw_at lw_m4 179 rfl) rfl
theorem q982 : (Jvm.Cond.selects "WheelBrook" ({ cls := "WheelBrook", name := "fair", desc := "(II)I" } : Jvm.MethodName) ({ cls := "WheelBrook", name := "fair", desc := "(II)I" } : Jvm.MethodName)) ∈ lw_all := lw_g (lw_at lw_m4 180 rfl) rfl
theorem q983 : (Jvm.Cond.code ({ cls := "WheelBrook", name := "fair", desc := "(II)I" } : Jvm.MethodName) prog_1_method_44_code (3 : Nat) (Option.some Jvm.ClassFile.FieldType.int)) ∈ lw_all := lw_g (lw_at lw_m4 181 rfl) rfl
theorem q985 : (Jvm.Cond.instanceMethod ({ cls := "WheelBrook", name := "then", desc := "(III)I" } : Jvm.MethodName)) ∈ lw_all := lw_g (lw_at lw_m4 183 rfl) rfl
theorem q986 : (Jvm.Cond.selects "WheelBrook" ({ cls := "WheelBrook", name := "then", desc := "(III)I" } : Jvm.MethodName) ({ cls := "WheelBrook", name := "then", desc := "(III)I" } : Jvm.MethodName)) ∈ lw_all := lw_g (lw_at lw_m4 184 rfl) rfl
theorem q987 : (Jvm.Cond.code ({ cls := "WheelBrook", name := "then", desc := "(III)I" } : Jvm.MethodName) prog_1_method_48_code (6 : Nat) (Option.some Jvm.ClassFile.FieldType.int)) ∈ lw_all := lw_g (lw_at lw_m4 185 rfl) rfl
theorem q988 : (Jvm.Cond.methodLink "WheelBrook" (316 : Nat) ({ cls := "WheelBrook", name := "isAhead", desc := "(I)Z" } : Jvm.MethodName)) ∈ lw_all := lw_g (lw_at lw_m4 186 rfl) rfl
theorem q989 : (Jvm.Cond.static ({ cls := "WheelBrook", name := "isAhead", desc := "(I)Z" } : Jvm.MethodName)) ∈ lw_all := lw_g (lw_at lw_m4 187 rfl) rfl
theorem q990 : (Jvm.Cond.code ({ cls := "WheelBrook", name := "isAhead", desc := "(I)Z" } : Jvm.MethodName) prog_1_method_45_code (1 : Nat) (Option.some Jvm.ClassFile.FieldType.boolean)) ∈ lw_all := lw_g (lw_at lw_m4 188 rfl) rfl
theorem q991 : (Jvm.Cond.methodLink "WheelBrook" (319 : Nat) ({ cls := "WheelBrook", name := "begins", desc := "()V" } : Jvm.MethodName)) ∈ lw_all := lw_g (lw_at lw_m4 189 rfl) rfl
theorem q992 : (Jvm.Cond.privateMethod ({ cls := "WheelBrook", name := "begins", desc := "()V" } : Jvm.MethodName)) ∈ lw_tbl := lw_at lw_m4 190 rfl
theorem q993 : (Jvm.Cond.instanceMethod ({ cls := "WheelBrook", name := "begins", desc := "()V" } : Jvm.MethodName)) ∈ lw_all := lw_g (lw_at lw_m4 191 rfl) rfl
theorem q994 : (Jvm.Cond.code ({ cls := "WheelBrook", name := "begins", desc := "()V" } : Jvm.MethodName) prog_1_method_47_code (1 : Nat) (Option.none : Option Jvm.ClassFile.FieldType)) ∈ lw_all := lw_g (lw_at lw_m4 192 rfl) rfl
theorem q995 : (Jvm.Cond.methodLink "WheelBrook" (309 : Nat) ({ cls := "WheelBrook$House", name := "become", desc := "(LWheelBrook$House;)V" } : Jvm.MethodName)) ∈ lw_all := lw_g (lw_at lw_m4 193 rfl) rfl
theorem q1002 : (Jvm.Cond.methodLink "WheelBrook" (313 : Nat) ({ cls := "WheelBrook", name := "swaps", desc := "()V" } : Jvm.MethodName)) ∈ lw_all := lw_g (lw_at lw_m4 200 rfl) rfl
theorem q1003 : (Jvm.Cond.privateMethod ({ cls := "WheelBrook", name := "swaps", desc := "()V" } : Jvm.MethodName)) ∈ lw_tbl := lw_at lw_m4 201 rfl
theorem q1004 : (Jvm.Cond.instanceMethod ({ cls := "WheelBrook", name := "swaps", desc := "()V" } : Jvm.MethodName)) ∈ lw_all := lw_g (lw_at lw_m4 202 rfl) rfl
theorem q1005 : (Jvm.Cond.code ({ cls := "WheelBrook", name := "swaps", desc := "()V" } : Jvm.MethodName) prog_1_method_46_code (2 : Nat) (Option.none : Option Jvm.ClassFile.FieldType)) ∈ lw_all := lw_g (lw_at lw_m4 203 rfl) rfl
theorem q1007 : (Jvm.Cond.instanceMethod ({ cls := "WheelBrook", name := "thenFamily", desc := "(III)I" } : Jvm.MethodName)) ∈ lw_all := lw_g (lw_at lw_m4 205 rfl) rfl
theorem q1008 : (Jvm.Cond.selects "WheelBrook" ({ cls := "WheelBrook", name := "thenFamily", desc := "(III)I" } : Jvm.MethodName) ({ cls := "WheelBrook", name := "thenFamily", desc := "(III)I" } : Jvm.MethodName)) ∈ lw_all := lw_g (lw_at lw_m4 206 rfl) rfl
theorem q1009 : (Jvm.Cond.code ({ cls := "WheelBrook", name := "thenFamily", desc := "(III)I" } : Jvm.MethodName) prog_1_method_49_code (6 : Nat) (Option.some Jvm.ClassFile.FieldType.int)) ∈ lw_all := lw_g (lw_at lw_m4 207 rfl) rfl
theorem q1011 : (Jvm.Cond.instanceMethod ({ cls := "WheelBrook", name := "when", desc := "(II)I" } : Jvm.MethodName)) ∈ lw_all := lw_g (lw_at lw_m4 209 rfl) rfl
theorem q1012 : (Jvm.Cond.selects "WheelBrook" ({ cls := "WheelBrook", name := "when", desc := "(II)I" } : Jvm.MethodName) ({ cls := "WheelBrook", name := "when", desc := "(II)I" } : Jvm.MethodName)) ∈ lw_all := lw_g (lw_at lw_m4 210 rfl) rfl
theorem q1013 : (Jvm.Cond.code ({ cls := "WheelBrook", name := "when", desc := "(II)I" } : Jvm.MethodName) prog_1_method_50_code (5 : Nat) (Option.some Jvm.ClassFile.FieldType.int)) ∈ lw_all := lw_g (lw_at lw_m4 211 rfl) rfl
theorem q1015 : (Jvm.Cond.instanceMethod ({ cls := "WheelBrook", name := "sluices", desc := "(II)I" } : Jvm.MethodName)) ∈ lw_all := lw_g (lw_at lw_m4 213 rfl) rfl
theorem q1016 : (Jvm.Cond.selects "WheelBrook" ({ cls := "WheelBrook", name := "sluices", desc := "(II)I" } : Jvm.MethodName) ({ cls := "WheelBrook", name := "sluices", desc := "(II)I" } : Jvm.MethodName)) ∈ lw_all := lw_g (lw_at lw_m4 214 rfl) rfl
theorem q1017 : (Jvm.Cond.code ({ cls := "WheelBrook", name := "sluices", desc := "(II)I" } : Jvm.MethodName) prog_1_method_52_code (8 : Nat) (Option.some Jvm.ClassFile.FieldType.int)) ∈ lw_all := lw_g (lw_at lw_m4 215 rfl) rfl
theorem q1018 : (Jvm.Cond.methodLink "WheelBrook" (322 : Nat) ({ cls := "WheelBrook", name := "opens", desc := "(I)V" } : Jvm.MethodName)) ∈ lw_all := lw_g (lw_at lw_m4 216 rfl) rfl
theorem q1019 : (Jvm.Cond.privateMethod ({ cls := "WheelBrook", name := "opens", desc := "(I)V" } : Jvm.MethodName)) ∈ lw_tbl := lw_at lw_m4 217 rfl
theorem q1020 : (Jvm.Cond.instanceMethod ({ cls := "WheelBrook", name := "opens", desc := "(I)V" } : Jvm.MethodName)) ∈ lw_all := lw_g (lw_at lw_m4 218 rfl) rfl
theorem q1021 : (Jvm.Cond.code ({ cls := "WheelBrook", name := "opens", desc := "(I)V" } : Jvm.MethodName) prog_1_method_51_code (3 : Nat) (Option.none : Option Jvm.ClassFile.FieldType)) ∈ lw_all := lw_g (lw_at lw_m4 219 rfl) rfl
theorem q1022 : (Jvm.Cond.methodLink "WheelBrook" (326 : Nat) ({ cls := "WheelBrook$House", name := "areAllPaid", desc := "()Z" } : Jvm.MethodName)) ∈ lw_all := lw_g (lw_at lw_m4 220 rfl) rfl
theorem q1028 : (Jvm.Cond.instanceMethod ({ cls := "WheelBrook", name := "fewer", desc := "(III)I" } : Jvm.MethodName)) ∈ lw_all := lw_g (lw_at lw_m4 226 rfl) rfl
theorem q1029 : (Jvm.Cond.selects "WheelBrook" ({ cls := "WheelBrook", name := "fewer", desc := "(III)I" } : Jvm.MethodName) ({ cls := "WheelBrook", name := "fewer", desc := "(III)I" } : Jvm.MethodName)) ∈ lw_all := lw_g (lw_at lw_m4 227 rfl) rfl
theorem q1030 : (Jvm.Cond.code ({ cls := "WheelBrook", name := "fewer", desc := "(III)I" } : Jvm.MethodName) prog_1_method_54_code (9 : Nat) (Option.some Jvm.ClassFile.FieldType.int)) ∈ lw_all := lw_g (lw_at lw_m4 228 rfl) rfl
theorem q1031 : (Jvm.Cond.methodLink "WheelBrook" (330 : Nat) ({ cls := "WheelBrook", name := "sumAnew", desc := "()V" } : Jvm.MethodName)) ∈ lw_all := lw_g (lw_at lw_m4 229 rfl) rfl
theorem q1032 : (Jvm.Cond.privateMethod ({ cls := "WheelBrook", name := "sumAnew", desc := "()V" } : Jvm.MethodName)) ∈ lw_tbl := lw_at lw_m4 230 rfl
theorem q1033 : (Jvm.Cond.instanceMethod ({ cls := "WheelBrook", name := "sumAnew", desc := "()V" } : Jvm.MethodName)) ∈ lw_all := lw_g (lw_at lw_m4 231 rfl) rfl
theorem q1034 : (Jvm.Cond.code ({ cls := "WheelBrook", name := "sumAnew", desc := "()V" } : Jvm.MethodName) prog_1_method_36_code (2 : Nat) (Option.none : Option Jvm.ClassFile.FieldType)) ∈ lw_all := lw_g (lw_at lw_m4 232 rfl) rfl
theorem q1035 : (Jvm.Cond.methodLink "WheelBrook" (333 : Nat) ({ cls := "WheelBrook", name := "summedOf", desc := "(I)I" } : Jvm.MethodName)) ∈ lw_all := lw_g (lw_at lw_m4 233 rfl) rfl
theorem q1036 : (Jvm.Cond.privateMethod ({ cls := "WheelBrook", name := "summedOf", desc := "(I)I" } : Jvm.MethodName)) ∈ lw_tbl := lw_at lw_m4 234 rfl
theorem q1037 : (Jvm.Cond.instanceMethod ({ cls := "WheelBrook", name := "summedOf", desc := "(I)I" } : Jvm.MethodName)) ∈ lw_all := lw_g (lw_at lw_m4 235 rfl) rfl
theorem q1038 : (Jvm.Cond.code ({ cls := "WheelBrook", name := "summedOf", desc := "(I)I" } : Jvm.MethodName) prog_1_method_53_code (4 : Nat) (Option.some Jvm.ClassFile.FieldType.int)) ∈ lw_all := lw_g (lw_at lw_m4 236 rfl) rfl
theorem q1040 : (Jvm.Cond.instanceMethod ({ cls := "WheelBrook", name := "bestPlace", desc := "(II)I" } : Jvm.MethodName)) ∈ lw_all := lw_g (lw_at lw_m4 238 rfl) rfl
theorem q1041 : (Jvm.Cond.selects "WheelBrook" ({ cls := "WheelBrook", name := "bestPlace", desc := "(II)I" } : Jvm.MethodName) ({ cls := "WheelBrook", name := "bestPlace", desc := "(II)I" } : Jvm.MethodName)) ∈ lw_all := lw_g (lw_at lw_m4 239 rfl) rfl
theorem q1042 : (Jvm.Cond.code ({ cls := "WheelBrook", name := "bestPlace", desc := "(II)I" } : Jvm.MethodName) prog_1_method_56_code (7 : Nat) (Option.some Jvm.ClassFile.FieldType.int)) ∈ lw_all := lw_g (lw_at lw_m5 0 rfl) rfl
theorem q1043 : (Jvm.Cond.methodLink "WheelBrook" (336 : Nat) ({ cls := "WheelBrook", name := "turnsAt", desc := "(III)I" } : Jvm.MethodName)) ∈ lw_all := lw_g (lw_at lw_m5 1 rfl) rfl
theorem q1044 : (Jvm.Cond.privateMethod ({ cls := "WheelBrook", name := "turnsAt", desc := "(III)I" } : Jvm.MethodName)) ∈ lw_tbl := lw_at lw_m5 2 rfl
theorem q1045 : (Jvm.Cond.instanceMethod ({ cls := "WheelBrook", name := "turnsAt", desc := "(III)I" } : Jvm.MethodName)) ∈ lw_all := lw_g (lw_at lw_m5 3 rfl) rfl
theorem q1046 : (Jvm.Cond.code ({ cls := "WheelBrook", name := "turnsAt", desc := "(III)I" } : Jvm.MethodName) prog_1_method_55_code (7 : Nat) (Option.some Jvm.ClassFile.FieldType.int)) ∈ lw_all := lw_g (lw_at lw_m5 4 rfl) rfl
theorem q1048 : (Jvm.Cond.instanceMethod ({ cls := "WheelBrook", name := "who", desc := "(II)I" } : Jvm.MethodName)) ∈ lw_all := lw_g (lw_at lw_m5 6 rfl) rfl
theorem q1049 : (Jvm.Cond.selects "WheelBrook" ({ cls := "WheelBrook", name := "who", desc := "(II)I" } : Jvm.MethodName) ({ cls := "WheelBrook", name := "who", desc := "(II)I" } : Jvm.MethodName)) ∈ lw_all := lw_g (lw_at lw_m5 7 rfl) rfl
theorem q1050 : (Jvm.Cond.code ({ cls := "WheelBrook", name := "who", desc := "(II)I" } : Jvm.MethodName) prog_1_method_58_code (8 : Nat) (Option.some Jvm.ClassFile.FieldType.int)) ∈ lw_all := lw_g (lw_at lw_m5 8 rfl) rfl
theorem q1051 : (Jvm.Cond.methodLink "WheelBrook" (339 : Nat) ({ cls := "WheelBrook", name := "goneBy", desc := "(I)I" } : Jvm.MethodName)) ∈ lw_all := lw_g (lw_at lw_m5 9 rfl) rfl
theorem q1052 : (Jvm.Cond.privateMethod ({ cls := "WheelBrook", name := "goneBy", desc := "(I)I" } : Jvm.MethodName)) ∈ lw_tbl := lw_at lw_m5 10 rfl
theorem q1053 : (Jvm.Cond.instanceMethod ({ cls := "WheelBrook", name := "goneBy", desc := "(I)I" } : Jvm.MethodName)) ∈ lw_all := lw_g (lw_at lw_m5 11 rfl) rfl
theorem q1054 : (Jvm.Cond.code ({ cls := "WheelBrook", name := "goneBy", desc := "(I)I" } : Jvm.MethodName) prog_1_method_57_code (3 : Nat) (Option.some Jvm.ClassFile.FieldType.int)) ∈ lw_all := lw_g (lw_at lw_m5 12 rfl) rfl
theorem q1056 : (Jvm.Cond.instanceMethod ({ cls := "WheelBrook", name := "slipped", desc := "()I" } : Jvm.MethodName)) ∈ lw_all := lw_g (lw_at lw_m5 14 rfl) rfl
theorem q1057 : (Jvm.Cond.selects "WheelBrook" ({ cls := "WheelBrook", name := "slipped", desc := "()I" } : Jvm.MethodName) ({ cls := "WheelBrook", name := "slipped", desc := "()I" } : Jvm.MethodName)) ∈ lw_all := lw_g (lw_at lw_m5 15 rfl) rfl
theorem q1058 : (Jvm.Cond.code ({ cls := "WheelBrook", name := "slipped", desc := "()I" } : Jvm.MethodName) prog_1_method_59_code (3 : Nat) (Option.some Jvm.ClassFile.FieldType.int)) ∈ lw_all := lw_g (lw_at lw_m5 16 rfl) rfl
theorem q1060 : (Jvm.Cond.instanceMethod ({ cls := "WheelBrook", name := "voice", desc := "(III)I" } : Jvm.MethodName)) ∈ lw_all := lw_g (lw_at lw_m5 18 rfl) rfl
theorem q1061 : (Jvm.Cond.selects "WheelBrook" ({ cls := "WheelBrook", name := "voice", desc := "(III)I" } : Jvm.MethodName) ({ cls := "WheelBrook", name := "voice", desc := "(III)I" } : Jvm.MethodName)) ∈ lw_all := lw_g (lw_at lw_m5 19 rfl) rfl
theorem q1062 : (Jvm.Cond.codeWith ({ cls := "WheelBrook", name := "voice", desc := "(III)I" } : Jvm.MethodName) prog_1_method_60_code (6 : Nat) (Option.some Jvm.ClassFile.FieldType.int) [((41 : Nat), (104 : Nat), (105 : Nat), (355 : Nat))]) ∈ lw_all := lw_g (lw_at lw_m5 20 rfl) rfl
theorem q1063 : (Jvm.Cond.classLink "WheelBrook" (355 : Nat) "java/lang/ArithmeticException") ∈ lw_all := lw_g (lw_at lw_m5 21 rfl) rfl
theorem q1092 : (Jvm.Cond.methodLink "WheelBrook" (343 : Nat) ({ cls := "WheelBrook$Wheel", name := "flows", desc := "(ILWheelBrook$Trace;)I" } : Jvm.MethodName)) ∈ lw_all := lw_g (lw_at lw_m5 50 rfl) rfl
theorem q1167 : (Jvm.Cond.methodLink "WheelBrook" (349 : Nat) ({ cls := "WheelBrook$Wheel", name := "prays", desc := "(ILWheelBrook$Trace;)I" } : Jvm.MethodName)) ∈ lw_all := lw_g (lw_at lw_m5 125 rfl) rfl
theorem q1187 : (Jvm.Cond.methodLink "WheelBrook" (352 : Nat) ({ cls := "WheelBrook$Wheel", name := "parts", desc := "(ILWheelBrook$Trace;)I" } : Jvm.MethodName)) ∈ lw_all := lw_g (lw_at lw_m5 145 rfl) rfl
theorem q1202 : (Jvm.Cond.instanceMethod ({ cls := "WheelBrook", name := "body", desc := "(I)I" } : Jvm.MethodName)) ∈ lw_all := lw_g (lw_at lw_m5 160 rfl) rfl
theorem q1203 : (Jvm.Cond.selects "WheelBrook" ({ cls := "WheelBrook", name := "body", desc := "(I)I" } : Jvm.MethodName) ({ cls := "WheelBrook", name := "body", desc := "(I)I" } : Jvm.MethodName)) ∈ lw_all := lw_g (lw_at lw_m5 161 rfl) rfl
theorem q1204 : (Jvm.Cond.code ({ cls := "WheelBrook", name := "body", desc := "(I)I" } : Jvm.MethodName) prog_1_method_61_code (2 : Nat) (Option.some Jvm.ClassFile.FieldType.int)) ∈ lw_all := lw_g (lw_at lw_m5 162 rfl) rfl
theorem q1206 : (Jvm.Cond.instanceMethod ({ cls := "WheelBrook", name := "sheet", desc := "(III)I" } : Jvm.MethodName)) ∈ lw_all := lw_g (lw_at lw_m5 164 rfl) rfl
theorem q1207 : (Jvm.Cond.selects "WheelBrook" ({ cls := "WheelBrook", name := "sheet", desc := "(III)I" } : Jvm.MethodName) ({ cls := "WheelBrook", name := "sheet", desc := "(III)I" } : Jvm.MethodName)) ∈ lw_all := lw_g (lw_at lw_m5 165 rfl) rfl
theorem q1208 : (Jvm.Cond.codeWith ({ cls := "WheelBrook", name := "sheet", desc := "(III)I" } : Jvm.MethodName) prog_1_method_65_code (5 : Nat) (Option.some Jvm.ClassFile.FieldType.int) [((51 : Nat), (96 : Nat), (97 : Nat), (366 : Nat))]) ∈ lw_all := lw_g (lw_at lw_m5 166 rfl) rfl
theorem q1209 : (Jvm.Cond.classLink "WheelBrook" (366 : Nat) "java/lang/NegativeArraySizeException") ∈ lw_all := lw_g (lw_at lw_m5 167 rfl) rfl
theorem q1223 : (Jvm.Cond.methodLink "WheelBrook" (363 : Nat) ({ cls := "WheelBrook", name := "isSheet", desc := "(I)Z" } : Jvm.MethodName)) ∈ lw_all := lw_g (lw_at lw_m5 181 rfl) rfl
theorem q1224 : (Jvm.Cond.static ({ cls := "WheelBrook", name := "isSheet", desc := "(I)Z" } : Jvm.MethodName)) ∈ lw_all := lw_g (lw_at lw_m5 182 rfl) rfl
theorem q1225 : (Jvm.Cond.code ({ cls := "WheelBrook", name := "isSheet", desc := "(I)Z" } : Jvm.MethodName) prog_1_method_62_code (1 : Nat) (Option.some Jvm.ClassFile.FieldType.boolean)) ∈ lw_all := lw_g (lw_at lw_m5 183 rfl) rfl
theorem q1227 : (Jvm.Cond.instanceMethod ({ cls := "WheelBrook", name := "put", desc := "(III)I" } : Jvm.MethodName)) ∈ lw_all := lw_g (lw_at lw_m5 185 rfl) rfl
theorem q1228 : (Jvm.Cond.selects "WheelBrook" ({ cls := "WheelBrook", name := "put", desc := "(III)I" } : Jvm.MethodName) ({ cls := "WheelBrook", name := "put", desc := "(III)I" } : Jvm.MethodName)) ∈ lw_all := lw_g (lw_at lw_m5 186 rfl) rfl
theorem q1229 : (Jvm.Cond.code ({ cls := "WheelBrook", name := "put", desc := "(III)I" } : Jvm.MethodName) prog_1_method_66_code (5 : Nat) (Option.some Jvm.ClassFile.FieldType.int)) ∈ lw_all := lw_g (lw_at lw_m5 187 rfl) rfl
theorem q1230 : (Jvm.Cond.methodLink "WheelBrook" (368 : Nat) ({ cls := "WheelBrook", name := "sizeOf", desc := "(Ljava/lang/Object;)I" } : Jvm.MethodName)) ∈ lw_all := lw_g (lw_at lw_m5 188 rfl) rfl
theorem q1231 : (Jvm.Cond.static ({ cls := "WheelBrook", name := "sizeOf", desc := "(Ljava/lang/Object;)I" } : Jvm.MethodName)) ∈ lw_all := lw_g (lw_at lw_m5 189 rfl) rfl
theorem q1232 : (Jvm.Cond.code ({ cls := "WheelBrook", name := "sizeOf", desc := "(Ljava/lang/Object;)I" } : Jvm.MethodName) prog_1_method_63_code (1 : Nat) (Option.some Jvm.ClassFile.FieldType.int)) ∈ lw_all := lw_g (lw_at lw_m5 190 rfl) rfl
theorem q1233 : (Jvm.Cond.classLink "WheelBrook" (360 : Nat) "[B") ∈ lw_all := lw_g (lw_at lw_m5 191 rfl) rfl
theorem q1234 : (Jvm.Cond.classLink "WheelBrook" (361 : Nat) "[S") ∈ lw_all := lw_g (lw_at lw_m5 192 rfl) rfl
theorem q1235 : (Jvm.Cond.classLink "WheelBrook" (362 : Nat) "[I") ∈ lw_all := lw_g (lw_at lw_m5 193 rfl) rfl
theorem q1237 : (Jvm.Cond.instanceMethod ({ cls := "WheelBrook", name := "move", desc := "(IIIII)I" } : Jvm.MethodName)) ∈ lw_all := lw_g (lw_at lw_m5 195 rfl) rfl
theorem q1238 : (Jvm.Cond.selects "WheelBrook" ({ cls := "WheelBrook", name := "move", desc := "(IIIII)I" } : Jvm.MethodName) ({ cls := "WheelBrook", name := "move", desc := "(IIIII)I" } : Jvm.MethodName)) ∈ lw_all := lw_g (lw_at lw_m5 196 rfl) rfl
theorem q1239 : (Jvm.Cond.codeWith ({ cls := "WheelBrook", name := "move", desc := "(IIIII)I" } : Jvm.MethodName) prog_1_method_67_code (9 : Nat) (Option.some Jvm.ClassFile.FieldType.int) [((58 : Nat), (68 : Nat), (71 : Nat), (378 : Nat))]) ∈ lw_all := lw_g (lw_at lw_m5 197 rfl) rfl
theorem q1240 : (Jvm.Cond.classLink "WheelBrook" (378 : Nat) "java/lang/ArrayStoreException") ∈ lw_all := lw_g (lw_at lw_m5 198 rfl) rfl
theorem q1254 : (Jvm.Cond.methodLink "WheelBrook" (372 : Nat) ({ cls := "java/lang/System", name := "arraycopy", desc := "(Ljava/lang/Object;ILjava/lang/Object;II)V" } : Jvm.MethodName)) ∈ lw_all := lw_g (lw_at lw_m5 212 rfl) rfl
theorem q1256 : (Jvm.Cond.instanceMethod ({ cls := "WheelBrook", name := "forces", desc := "(I)I" } : Jvm.MethodName)) ∈ lw_all := lw_g (lw_at lw_m5 214 rfl) rfl
theorem q1257 : (Jvm.Cond.selects "WheelBrook" ({ cls := "WheelBrook", name := "forces", desc := "(I)I" } : Jvm.MethodName) ({ cls := "WheelBrook", name := "forces", desc := "(I)I" } : Jvm.MethodName)) ∈ lw_all := lw_g (lw_at lw_m5 215 rfl) rfl
theorem q1258 : (Jvm.Cond.code ({ cls := "WheelBrook", name := "forces", desc := "(I)I" } : Jvm.MethodName) prog_1_method_68_code (4 : Nat) (Option.some Jvm.ClassFile.FieldType.int)) ∈ lw_all := lw_g (lw_at lw_m5 216 rfl) rfl
theorem q1259 : (Jvm.Cond.methodLink "WheelBrook" (380 : Nat) ({ cls := "WheelBrook", name := "numberOf", desc := "(Ljava/lang/Object;I)I" } : Jvm.MethodName)) ∈ lw_all := lw_g (lw_at lw_m5 217 rfl) rfl
theorem q1260 : (Jvm.Cond.static ({ cls := "WheelBrook", name := "numberOf", desc := "(Ljava/lang/Object;I)I" } : Jvm.MethodName)) ∈ lw_all := lw_g (lw_at lw_m5 218 rfl) rfl
theorem q1261 : (Jvm.Cond.code ({ cls := "WheelBrook", name := "numberOf", desc := "(Ljava/lang/Object;I)I" } : Jvm.MethodName) prog_1_method_64_code (2 : Nat) (Option.some Jvm.ClassFile.FieldType.int)) ∈ lw_all := lw_g (lw_at lw_m5 219 rfl) rfl
theorem q1263 : (Jvm.Cond.instanceMethod ({ cls := "WheelBrook", name := "judge", desc := "(I)I" } : Jvm.MethodName)) ∈ lw_all := lw_g (lw_at lw_m5 221 rfl) rfl
theorem q1264 : (Jvm.Cond.selects "WheelBrook" ({ cls := "WheelBrook", name := "judge", desc := "(I)I" } : Jvm.MethodName) ({ cls := "WheelBrook", name := "judge", desc := "(I)I" } : Jvm.MethodName)) ∈ lw_all := lw_g (lw_at lw_m5 222 rfl) rfl
theorem q1265 : (Jvm.Cond.code ({ cls := "WheelBrook", name := "judge", desc := "(I)I" } : Jvm.MethodName) prog_1_method_69_code (4 : Nat) (Option.some Jvm.ClassFile.FieldType.int)) ∈ lw_all := lw_g (lw_at lw_m5 223 rfl) rfl
theorem q1267 : (Jvm.Cond.instanceMethod ({ cls := "WheelBrook", name := "image", desc := "()I" } : Jvm.MethodName)) ∈ lw_all := lw_g (lw_at lw_m5 225 rfl) rfl
theorem q1268 : (Jvm.Cond.selects "WheelBrook" ({ cls := "WheelBrook", name := "image", desc := "()I" } : Jvm.MethodName) ({ cls := "WheelBrook", name := "image", desc := "()I" } : Jvm.MethodName)) ∈ lw_all := lw_g (lw_at lw_m5 226 rfl) rfl
theorem q1269 : (Jvm.Cond.code ({ cls := "WheelBrook", name := "image", desc := "()I" } : Jvm.MethodName) prog_1_method_70_code (1 : Nat) (Option.some Jvm.ClassFile.FieldType.int)) ∈ lw_all := lw_g (lw_at lw_m5 227 rfl) rfl
theorem q1271 : (Jvm.Cond.instanceMethod ({ cls := "WheelBrook", name := "restore", desc := "()I" } : Jvm.MethodName)) ∈ lw_all := lw_g (lw_at lw_m5 229 rfl) rfl
theorem q1272 : (Jvm.Cond.selects "WheelBrook" ({ cls := "WheelBrook", name := "restore", desc := "()I" } : Jvm.MethodName) ({ cls := "WheelBrook", name := "restore", desc := "()I" } : Jvm.MethodName)) ∈ lw_all := lw_g (lw_at lw_m5 230 rfl) rfl
theorem q1273 : (Jvm.Cond.code ({ cls := "WheelBrook", name := "restore", desc := "()I" } : Jvm.MethodName) prog_1_method_71_code (1 : Nat) (Option.some Jvm.ClassFile.FieldType.int)) ∈ lw_all := lw_g (lw_at lw_m5 231 rfl) rfl
theorem q1275 : (Jvm.Cond.instanceMethod ({ cls := "WheelBrook", name := "tell", desc := "(I)I" } : Jvm.MethodName)) ∈ lw_all := lw_g (lw_at lw_m5 233 rfl) rfl
theorem q1276 : (Jvm.Cond.selects "WheelBrook" ({ cls := "WheelBrook", name := "tell", desc := "(I)I" } : Jvm.MethodName) ({ cls := "WheelBrook", name := "tell", desc := "(I)I" } : Jvm.MethodName)) ∈ lw_all := lw_g (lw_at lw_m5 234 rfl) rfl
theorem q1277 : (Jvm.Cond.code ({ cls := "WheelBrook", name := "tell", desc := "(I)I" } : Jvm.MethodName) prog_1_method_72_code (2 : Nat) (Option.some Jvm.ClassFile.FieldType.int)) ∈ lw_all := lw_g (lw_at lw_m5 235 rfl) rfl
theorem q1279 : (Jvm.Cond.instanceMethod ({ cls := "WheelBrook", name := "check", desc := "(I)I" } : Jvm.MethodName)) ∈ lw_all := lw_g (lw_at lw_m5 237 rfl) rfl
theorem q1280 : (Jvm.Cond.selects "WheelBrook" ({ cls := "WheelBrook", name := "check", desc := "(I)I" } : Jvm.MethodName) ({ cls := "WheelBrook", name := "check", desc := "(I)I" } : Jvm.MethodName)) ∈ lw_all := lw_g (lw_at lw_m5 238 rfl) rfl
theorem q1281 : (Jvm.Cond.code ({ cls := "WheelBrook", name := "check", desc := "(I)I" } : Jvm.MethodName) prog_1_method_73_code (6 : Nat) (Option.some Jvm.ClassFile.FieldType.int)) ∈ lw_all := lw_g (lw_at lw_m5 239 rfl) rfl
theorem q1283 : (Jvm.Cond.instanceMethod ({ cls := "WheelBrook", name := "count", desc := "(I)I" } : Jvm.MethodName)) ∈ lw_all := lw_g (lw_at lw_m6 1 rfl) rfl
theorem q1284 : (Jvm.Cond.selects "WheelBrook" ({ cls := "WheelBrook", name := "count", desc := "(I)I" } : Jvm.MethodName) ({ cls := "WheelBrook", name := "count", desc := "(I)I" } : Jvm.MethodName)) ∈ lw_all := lw_g (lw_at lw_m6 2 rfl) rfl
theorem q1285 : (Jvm.Cond.code ({ cls := "WheelBrook", name := "count", desc := "(I)I" } : Jvm.MethodName) prog_1_method_74_code (2 : Nat) (Option.some Jvm.ClassFile.FieldType.int)) ∈ lw_all := lw_g (lw_at lw_m6 3 rfl) rfl
theorem q1287 : (Jvm.Cond.instanceMethod ({ cls := "WheelBrook", name := "told", desc := "(I)I" } : Jvm.MethodName)) ∈ lw_all := lw_g (lw_at lw_m6 5 rfl) rfl
theorem q1288 : (Jvm.Cond.selects "WheelBrook" ({ cls := "WheelBrook", name := "told", desc := "(I)I" } : Jvm.MethodName) ({ cls := "WheelBrook", name := "told", desc := "(I)I" } : Jvm.MethodName)) ∈ lw_all := lw_g (lw_at lw_m6 6 rfl) rfl
theorem q1289 : (Jvm.Cond.code ({ cls := "WheelBrook", name := "told", desc := "(I)I" } : Jvm.MethodName) prog_1_method_75_code (2 : Nat) (Option.some Jvm.ClassFile.FieldType.int)) ∈ lw_all := lw_g (lw_at lw_m6 7 rfl) rfl
theorem in_X0 : ∀ w ∈ wsX00, w ∈ lw_all := lw_in wsX00 [267, 269, 271, 273, 275, 277, 279, 281, 283, 285, 287, 289, 291, 293, 295] (by decide +kernel) (by decide +kernel)
