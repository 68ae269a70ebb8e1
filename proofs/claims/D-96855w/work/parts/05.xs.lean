/-! WheelBrook$House -/
set_option maxRecDepth 100000
def RX1 : String := "WheelBrook$House"
def TX1 : u_T := fun k => match k with
  | 0 => ("WheelBrook$House", "wheels", "I", false)
  | 1 => ("WheelBrook$House", "hour", "I", false)
  | 2 => ("WheelBrook$House", "frost", "I", false)
  | 3 => ("WheelBrook$House", "z", "I", false)
  | 4 => ("WheelBrook$House", "taped", "I", false)
  | 5 => ("WheelBrook$House", "waiting", "I", false)
  | 6 => ("WheelBrook$House", "force", "[B", true)
  | 7 => ("WheelBrook$House", "weed", "[B", true)
  | 8 => ("WheelBrook$House", "owed", "[I", true)
  | 9 => ("WheelBrook$House", "prayed", "[I", true)
  | 10 => ("WheelBrook$House", "wheel", "[LWheelBrook$Slot;", true)
  | 11 => ("WheelBrook$House", "place", "[B", true)
  | 12 => ("WheelBrook$House", "family", "[B", true)
  | 13 => ("WheelBrook$House", "open", "[B", true)
  | 14 => ("WheelBrook$House", "counter", "[I", true)
  | 15 => ("WheelBrook$House", "turned", "[I", true)
  | 16 => ("WheelBrook$House", "texts", "[LWheelBrook$Text;", true)
  | 17 => ("WheelBrook$House", "tape", "[B", true)
  | _ => ("WheelBrook$House", "waits", "[I", true)
def tyX1 : Nat → FieldType := fun k => match k with
  | 0 => .int
  | 1 => .int
  | 2 => .int
  | 3 => .int
  | 4 => .int
  | 5 => .int
  | 6 => .array .byte
  | 7 => .array .byte
  | 8 => .array .int
  | 9 => .array .int
  | 10 => .array (.object "WheelBrook$Slot")
  | 11 => .array .byte
  | 12 => .array .byte
  | 13 => .array .byte
  | 14 => .array .int
  | 15 => .array .int
  | 16 => .array (.object "WheelBrook$Text")
  | 17 => .array .byte
  | _ => .array .int
abbrev wsX10 : List Cond := u_ws RX1 TX1 19
set_option maxRecDepth 100000 in
theorem nmX1 : ∀ a, a < 19 → ∀ b, b < 19 → a ≠ b → (TX1 a).2.1 ≠ (TX1 b).2.1 := by decide +kernel
set_option maxRecDepth 100000 in
theorem tyX1_ok : ∀ k, k < 19 → parseFieldDescriptor (TX1 k).2.2.1 = some (tyX1 k) := by decide +kernel
abbrev cX1_init : ByteArray := prog_8_method_1_code
def yX1_init : MethodName := ⟨RX1, "<init>", "()V"⟩
def dkwX1_init_6 : List UInt8 := [27, 16, 24, 162, 0, 17, 42, 180, 0, 15, 27, 16, 30, 84, 132, 1, 1, 167, 255, 239, 177]
abbrev dktX1_init_6 : List UInt8 := dkwX1_init_6 ++ []
def dkwX1_init_5 : List UInt8 := [162, 0, 22, 42, 180, 0, 31, 27, 187, 0, 29, 89, 183, 0, 62, 83, 132, 1, 1, 167, 255, 234, 3, 60]
abbrev dktX1_init_5 : List UInt8 := dkwX1_init_5 ++ dktX1_init_6
def dkwX1_init_4 : List UInt8 := [181, 0, 52, 42, 16, 60, 188, 8, 181, 0, 56, 42, 16, 24, 188, 10, 181, 0, 59, 3, 60, 27, 16, 8]
abbrev dktX1_init_4 : List UInt8 := dkwX1_init_4 ++ dktX1_init_5
def dkwX1_init_3 : List UInt8 := [181, 0, 41, 42, 16, 8, 188, 10, 181, 0, 44, 42, 16, 8, 188, 10, 181, 0, 47, 42, 5, 189, 0, 50]
abbrev dktX1_init_3 : List UInt8 := dkwX1_init_3 ++ dktX1_init_4
def dkwX1_init_2 : List UInt8 := [181, 0, 31, 42, 16, 8, 188, 8, 181, 0, 35, 42, 16, 8, 188, 8, 181, 0, 38, 42, 16, 8, 188, 8]
abbrev dktX1_init_2 : List UInt8 := dkwX1_init_2 ++ dktX1_init_3
def dkwX1_init_1 : List UInt8 := [181, 0, 19, 42, 8, 188, 10, 181, 0, 22, 42, 8, 188, 10, 181, 0, 26, 42, 16, 8, 189, 0, 29]
abbrev dktX1_init_1 : List UInt8 := dkwX1_init_1 ++ dktX1_init_2
def dkwX1_init_0 : List UInt8 := [42, 183, 0, 3, 42, 4, 181, 0, 9, 42, 16, 24, 188, 8, 181, 0, 15, 42, 16, 12, 188, 8]
abbrev dktX1_init_0 : List UInt8 := dkwX1_init_0 ++ dktX1_init_1
theorem dksX1_init_0 : cX1_init.data.toList.drop 0 = dktX1_init_0 := by decide +kernel
theorem dksX1_init_1 : cX1_init.data.toList.drop 22 = dktX1_init_1 := dk_seg dksX1_init_0 22 rfl rfl
theorem dksX1_init_2 : cX1_init.data.toList.drop 45 = dktX1_init_2 := dk_seg dksX1_init_1 23 rfl rfl
theorem dksX1_init_3 : cX1_init.data.toList.drop 69 = dktX1_init_3 := dk_seg dksX1_init_2 24 rfl rfl
theorem dksX1_init_4 : cX1_init.data.toList.drop 93 = dktX1_init_4 := dk_seg dksX1_init_3 24 rfl rfl
theorem dksX1_init_5 : cX1_init.data.toList.drop 117 = dktX1_init_5 := dk_seg dksX1_init_4 24 rfl rfl
theorem dksX1_init_6 : cX1_init.data.toList.drop 141 = dktX1_init_6 := dk_seg dksX1_init_5 24 rfl rfl
theorem dX1_init_0 : decode cX1_init 0 = .ok (.aload_n 0, 1) := dk_42 (dk_at dksX1_init_0 0 rfl rfl)
theorem dX1_init_1 : decode cX1_init 1 = .ok (.invokespecial 3, 3) := dk_183 0 3 (dk_at dksX1_init_0 1 rfl rfl)
theorem dX1_init_4 : decode cX1_init 4 = .ok (.aload_n 0, 1) := dk_42 (dk_at dksX1_init_0 4 rfl rfl)
theorem dX1_init_5 : decode cX1_init 5 = .ok (.iconst 1, 1) := dk_4 (dk_at dksX1_init_0 5 rfl rfl)
theorem dX1_init_6 : decode cX1_init 6 = .ok (.putfield 9, 3) := dk_181 0 9 (dk_at dksX1_init_0 6 rfl rfl)
theorem dX1_init_9 : decode cX1_init 9 = .ok (.aload_n 0, 1) := dk_42 (dk_at dksX1_init_0 9 rfl rfl)
theorem dX1_init_10 : decode cX1_init 10 = .ok (.bipush 24, 2) := dk_16 24 (dk_at dksX1_init_0 10 rfl rfl)
theorem dX1_init_12 : decode cX1_init 12 = .ok (.newarray .byte, 2) := dk_188_8 (dk_at dksX1_init_0 12 rfl rfl)
theorem dX1_init_14 : decode cX1_init 14 = .ok (.putfield 15, 3) := dk_181 0 15 (dk_at dksX1_init_0 14 rfl rfl)
theorem dX1_init_17 : decode cX1_init 17 = .ok (.aload_n 0, 1) := dk_42 (dk_at dksX1_init_0 17 rfl rfl)
theorem dX1_init_18 : decode cX1_init 18 = .ok (.bipush 12, 2) := dk_16 12 (dk_at dksX1_init_0 18 rfl rfl)
theorem dX1_init_20 : decode cX1_init 20 = .ok (.newarray .byte, 2) := dk_188_8 (dk_at dksX1_init_0 20 rfl rfl)
theorem dX1_init_22 : decode cX1_init 22 = .ok (.putfield 19, 3) := dk_181 0 19 (dk_at dksX1_init_1 0 rfl rfl)
theorem dX1_init_25 : decode cX1_init 25 = .ok (.aload_n 0, 1) := dk_42 (dk_at dksX1_init_1 3 rfl rfl)
theorem dX1_init_26 : decode cX1_init 26 = .ok (.iconst 5, 1) := dk_8 (dk_at dksX1_init_1 4 rfl rfl)
theorem dX1_init_27 : decode cX1_init 27 = .ok (.newarray .int, 2) := dk_188_10 (dk_at dksX1_init_1 5 rfl rfl)
theorem dX1_init_29 : decode cX1_init 29 = .ok (.putfield 22, 3) := dk_181 0 22 (dk_at dksX1_init_1 7 rfl rfl)
theorem dX1_init_32 : decode cX1_init 32 = .ok (.aload_n 0, 1) := dk_42 (dk_at dksX1_init_1 10 rfl rfl)
theorem dX1_init_33 : decode cX1_init 33 = .ok (.iconst 5, 1) := dk_8 (dk_at dksX1_init_1 11 rfl rfl)
theorem dX1_init_34 : decode cX1_init 34 = .ok (.newarray .int, 2) := dk_188_10 (dk_at dksX1_init_1 12 rfl rfl)
theorem dX1_init_36 : decode cX1_init 36 = .ok (.putfield 26, 3) := dk_181 0 26 (dk_at dksX1_init_1 14 rfl rfl)
theorem dX1_init_39 : decode cX1_init 39 = .ok (.aload_n 0, 1) := dk_42 (dk_at dksX1_init_1 17 rfl rfl)
theorem dX1_init_40 : decode cX1_init 40 = .ok (.bipush 8, 2) := dk_16 8 (dk_at dksX1_init_1 18 rfl rfl)
theorem dX1_init_42 : decode cX1_init 42 = .ok (.anewarray 29, 3) := dk_189 0 29 (dk_at dksX1_init_1 20 rfl rfl)
theorem dX1_init_45 : decode cX1_init 45 = .ok (.putfield 31, 3) := dk_181 0 31 (dk_at dksX1_init_2 0 rfl rfl)
theorem dX1_init_48 : decode cX1_init 48 = .ok (.aload_n 0, 1) := dk_42 (dk_at dksX1_init_2 3 rfl rfl)
theorem dX1_init_49 : decode cX1_init 49 = .ok (.bipush 8, 2) := dk_16 8 (dk_at dksX1_init_2 4 rfl rfl)
theorem dX1_init_51 : decode cX1_init 51 = .ok (.newarray .byte, 2) := dk_188_8 (dk_at dksX1_init_2 6 rfl rfl)
theorem dX1_init_53 : decode cX1_init 53 = .ok (.putfield 35, 3) := dk_181 0 35 (dk_at dksX1_init_2 8 rfl rfl)
theorem dX1_init_56 : decode cX1_init 56 = .ok (.aload_n 0, 1) := dk_42 (dk_at dksX1_init_2 11 rfl rfl)
theorem dX1_init_57 : decode cX1_init 57 = .ok (.bipush 8, 2) := dk_16 8 (dk_at dksX1_init_2 12 rfl rfl)
theorem dX1_init_59 : decode cX1_init 59 = .ok (.newarray .byte, 2) := dk_188_8 (dk_at dksX1_init_2 14 rfl rfl)
theorem dX1_init_61 : decode cX1_init 61 = .ok (.putfield 38, 3) := dk_181 0 38 (dk_at dksX1_init_2 16 rfl rfl)
theorem dX1_init_64 : decode cX1_init 64 = .ok (.aload_n 0, 1) := dk_42 (dk_at dksX1_init_2 19 rfl rfl)
theorem dX1_init_65 : decode cX1_init 65 = .ok (.bipush 8, 2) := dk_16 8 (dk_at dksX1_init_2 20 rfl rfl)
theorem dX1_init_67 : decode cX1_init 67 = .ok (.newarray .byte, 2) := dk_188_8 (dk_at dksX1_init_2 22 rfl rfl)
theorem dX1_init_69 : decode cX1_init 69 = .ok (.putfield 41, 3) := dk_181 0 41 (dk_at dksX1_init_3 0 rfl rfl)
theorem dX1_init_72 : decode cX1_init 72 = .ok (.aload_n 0, 1) := dk_42 (dk_at dksX1_init_3 3 rfl rfl)
theorem dX1_init_73 : decode cX1_init 73 = .ok (.bipush 8, 2) := dk_16 8 (dk_at dksX1_init_3 4 rfl rfl)
theorem dX1_init_75 : decode cX1_init 75 = .ok (.newarray .int, 2) := dk_188_10 (dk_at dksX1_init_3 6 rfl rfl)
theorem dX1_init_77 : decode cX1_init 77 = .ok (.putfield 44, 3) := dk_181 0 44 (dk_at dksX1_init_3 8 rfl rfl)
theorem dX1_init_80 : decode cX1_init 80 = .ok (.aload_n 0, 1) := dk_42 (dk_at dksX1_init_3 11 rfl rfl)
theorem dX1_init_81 : decode cX1_init 81 = .ok (.bipush 8, 2) := dk_16 8 (dk_at dksX1_init_3 12 rfl rfl)
theorem dX1_init_83 : decode cX1_init 83 = .ok (.newarray .int, 2) := dk_188_10 (dk_at dksX1_init_3 14 rfl rfl)
theorem dX1_init_85 : decode cX1_init 85 = .ok (.putfield 47, 3) := dk_181 0 47 (dk_at dksX1_init_3 16 rfl rfl)
theorem dX1_init_88 : decode cX1_init 88 = .ok (.aload_n 0, 1) := dk_42 (dk_at dksX1_init_3 19 rfl rfl)
theorem dX1_init_89 : decode cX1_init 89 = .ok (.iconst 2, 1) := dk_5 (dk_at dksX1_init_3 20 rfl rfl)
theorem dX1_init_90 : decode cX1_init 90 = .ok (.anewarray 50, 3) := dk_189 0 50 (dk_at dksX1_init_3 21 rfl rfl)
theorem dX1_init_93 : decode cX1_init 93 = .ok (.putfield 52, 3) := dk_181 0 52 (dk_at dksX1_init_4 0 rfl rfl)
theorem dX1_init_96 : decode cX1_init 96 = .ok (.aload_n 0, 1) := dk_42 (dk_at dksX1_init_4 3 rfl rfl)
theorem dX1_init_97 : decode cX1_init 97 = .ok (.bipush 60, 2) := dk_16 60 (dk_at dksX1_init_4 4 rfl rfl)
theorem dX1_init_99 : decode cX1_init 99 = .ok (.newarray .byte, 2) := dk_188_8 (dk_at dksX1_init_4 6 rfl rfl)
theorem dX1_init_101 : decode cX1_init 101 = .ok (.putfield 56, 3) := dk_181 0 56 (dk_at dksX1_init_4 8 rfl rfl)
theorem dX1_init_104 : decode cX1_init 104 = .ok (.aload_n 0, 1) := dk_42 (dk_at dksX1_init_4 11 rfl rfl)
theorem dX1_init_105 : decode cX1_init 105 = .ok (.bipush 24, 2) := dk_16 24 (dk_at dksX1_init_4 12 rfl rfl)
theorem dX1_init_107 : decode cX1_init 107 = .ok (.newarray .int, 2) := dk_188_10 (dk_at dksX1_init_4 14 rfl rfl)
theorem dX1_init_109 : decode cX1_init 109 = .ok (.putfield 59, 3) := dk_181 0 59 (dk_at dksX1_init_4 16 rfl rfl)
theorem dX1_init_112 : decode cX1_init 112 = .ok (.iconst 0, 1) := dk_3 (dk_at dksX1_init_4 19 rfl rfl)
theorem dX1_init_113 : decode cX1_init 113 = .ok (.istore_n 1, 1) := dk_60 (dk_at dksX1_init_4 20 rfl rfl)
theorem dX1_init_114 : decode cX1_init 114 = .ok (.iload_n 1, 1) := dk_27 (dk_at dksX1_init_4 21 rfl rfl)
theorem dX1_init_115 : decode cX1_init 115 = .ok (.bipush 8, 2) := dk_16 8 (dk_at dksX1_init_4 22 rfl rfl)
theorem dX1_init_117 : decode cX1_init 117 = .ok (.if_icmp .ge 22, 3) := dk_162 0 22 (dk_at dksX1_init_5 0 rfl rfl)
theorem dX1_init_120 : decode cX1_init 120 = .ok (.aload_n 0, 1) := dk_42 (dk_at dksX1_init_5 3 rfl rfl)
theorem dX1_init_121 : decode cX1_init 121 = .ok (.getfield 31, 3) := dk_180 0 31 (dk_at dksX1_init_5 4 rfl rfl)
theorem dX1_init_124 : decode cX1_init 124 = .ok (.iload_n 1, 1) := dk_27 (dk_at dksX1_init_5 7 rfl rfl)
theorem dX1_init_125 : decode cX1_init 125 = .ok (.new 29, 3) := dk_187 0 29 (dk_at dksX1_init_5 8 rfl rfl)
theorem dX1_init_128 : decode cX1_init 128 = .ok (.dup, 1) := dk_89 (dk_at dksX1_init_5 11 rfl rfl)
theorem dX1_init_129 : decode cX1_init 129 = .ok (.invokespecial 62, 3) := dk_183 0 62 (dk_at dksX1_init_5 12 rfl rfl)
theorem dX1_init_132 : decode cX1_init 132 = .ok (.aastore, 1) := dk_83 (dk_at dksX1_init_5 15 rfl rfl)
theorem dX1_init_133 : decode cX1_init 133 = .ok (.iinc 1 1, 3) := dk_132 1 1 (dk_at dksX1_init_5 16 rfl rfl)
theorem dX1_init_136 : decode cX1_init 136 = .ok (.goto (-22), 3) := dk_167 255 234 (dk_at dksX1_init_5 19 rfl rfl)
theorem dX1_init_139 : decode cX1_init 139 = .ok (.iconst 0, 1) := dk_3 (dk_at dksX1_init_5 22 rfl rfl)
theorem dX1_init_140 : decode cX1_init 140 = .ok (.istore_n 1, 1) := dk_60 (dk_at dksX1_init_5 23 rfl rfl)
theorem dX1_init_141 : decode cX1_init 141 = .ok (.iload_n 1, 1) := dk_27 (dk_at dksX1_init_6 0 rfl rfl)
theorem dX1_init_142 : decode cX1_init 142 = .ok (.bipush 24, 2) := dk_16 24 (dk_at dksX1_init_6 1 rfl rfl)
theorem dX1_init_144 : decode cX1_init 144 = .ok (.if_icmp .ge 17, 3) := dk_162 0 17 (dk_at dksX1_init_6 3 rfl rfl)
theorem dX1_init_147 : decode cX1_init 147 = .ok (.aload_n 0, 1) := dk_42 (dk_at dksX1_init_6 6 rfl rfl)
theorem dX1_init_148 : decode cX1_init 148 = .ok (.getfield 15, 3) := dk_180 0 15 (dk_at dksX1_init_6 7 rfl rfl)
theorem dX1_init_151 : decode cX1_init 151 = .ok (.iload_n 1, 1) := dk_27 (dk_at dksX1_init_6 10 rfl rfl)
theorem dX1_init_152 : decode cX1_init 152 = .ok (.bipush 30, 2) := dk_16 30 (dk_at dksX1_init_6 11 rfl rfl)
theorem dX1_init_154 : decode cX1_init 154 = .ok (.bastore, 1) := dk_84 (dk_at dksX1_init_6 13 rfl rfl)
theorem dX1_init_155 : decode cX1_init 155 = .ok (.iinc 1 1, 3) := dk_132 1 1 (dk_at dksX1_init_6 14 rfl rfl)
theorem dX1_init_158 : decode cX1_init 158 = .ok (.goto (-17), 3) := dk_167 255 239 (dk_at dksX1_init_6 17 rfl rfl)
theorem dX1_init_161 : decode cX1_init 161 = .ok (.return_, 1) := dk_177 (dk_at dksX1_init_6 20 rfl rfl)
abbrev cX1_isPaid : ByteArray := prog_8_method_6_code
def yX1_isPaid : MethodName := ⟨RX1, "isPaid", "(I)Z"⟩
def dkwX1_isPaid_0 : List UInt8 := [42, 180, 0, 26, 27, 46, 42, 180, 0, 22, 27, 46, 161, 0, 7, 4, 167, 0, 4, 3, 172]
abbrev dktX1_isPaid_0 : List UInt8 := dkwX1_isPaid_0 ++ []
theorem dksX1_isPaid_0 : cX1_isPaid.data.toList.drop 0 = dktX1_isPaid_0 := by decide +kernel
theorem dX1_isPaid_0 : decode cX1_isPaid 0 = .ok (.aload_n 0, 1) := dk_42 (dk_at dksX1_isPaid_0 0 rfl rfl)
theorem dX1_isPaid_1 : decode cX1_isPaid 1 = .ok (.getfield 26, 3) := dk_180 0 26 (dk_at dksX1_isPaid_0 1 rfl rfl)
theorem dX1_isPaid_4 : decode cX1_isPaid 4 = .ok (.iload_n 1, 1) := dk_27 (dk_at dksX1_isPaid_0 4 rfl rfl)
theorem dX1_isPaid_5 : decode cX1_isPaid 5 = .ok (.iaload, 1) := dk_46 (dk_at dksX1_isPaid_0 5 rfl rfl)
theorem dX1_isPaid_6 : decode cX1_isPaid 6 = .ok (.aload_n 0, 1) := dk_42 (dk_at dksX1_isPaid_0 6 rfl rfl)
theorem dX1_isPaid_7 : decode cX1_isPaid 7 = .ok (.getfield 22, 3) := dk_180 0 22 (dk_at dksX1_isPaid_0 7 rfl rfl)
theorem dX1_isPaid_10 : decode cX1_isPaid 10 = .ok (.iload_n 1, 1) := dk_27 (dk_at dksX1_isPaid_0 10 rfl rfl)
theorem dX1_isPaid_11 : decode cX1_isPaid 11 = .ok (.iaload, 1) := dk_46 (dk_at dksX1_isPaid_0 11 rfl rfl)
theorem dX1_isPaid_12 : decode cX1_isPaid 12 = .ok (.if_icmp .lt 7, 3) := dk_161 0 7 (dk_at dksX1_isPaid_0 12 rfl rfl)
theorem dX1_isPaid_15 : decode cX1_isPaid 15 = .ok (.iconst 1, 1) := dk_4 (dk_at dksX1_isPaid_0 15 rfl rfl)
theorem dX1_isPaid_16 : decode cX1_isPaid 16 = .ok (.goto 4, 3) := dk_167 0 4 (dk_at dksX1_isPaid_0 16 rfl rfl)
theorem dX1_isPaid_19 : decode cX1_isPaid 19 = .ok (.iconst 0, 1) := dk_3 (dk_at dksX1_isPaid_0 19 rfl rfl)
theorem dX1_isPaid_20 : decode cX1_isPaid 20 = .ok (.ireturn, 1) := dk_172 (dk_at dksX1_isPaid_0 20 rfl rfl)
abbrev cX1_comes : ByteArray := prog_8_method_10_code
def yX1_comes : MethodName := ⟨RX1, "comes", "(IIII)I"⟩
def dkwX1_comes_3 : List UInt8 := [96, 181, 0, 63, 21, 5, 172]
abbrev dktX1_comes_3 : List UInt8 := dkwX1_comes_3 ++ []
def dkwX1_comes_2 : List UInt8 := [4, 84, 42, 180, 0, 44, 21, 5, 3, 79, 42, 180, 0, 47, 21, 5, 3, 79, 42, 89, 180, 0, 63, 4]
abbrev dktX1_comes_2 : List UInt8 := dkwX1_comes_2 ++ dktX1_comes_3
def dkwX1_comes_1 : List UInt8 := [180, 0, 35, 21, 5, 29, 145, 84, 42, 180, 0, 38, 21, 5, 21, 4, 145, 84, 42, 180, 0, 41, 21, 5]
abbrev dktX1_comes_1 : List UInt8 := dkwX1_comes_1 ++ dktX1_comes_2
def dkwX1_comes_0 : List UInt8 := [42, 180, 0, 63, 54, 5, 42, 180, 0, 31, 21, 5, 50, 27, 21, 5, 28, 184, 0, 102, 181, 0, 84, 42]
abbrev dktX1_comes_0 : List UInt8 := dkwX1_comes_0 ++ dktX1_comes_1
theorem dksX1_comes_0 : cX1_comes.data.toList.drop 0 = dktX1_comes_0 := by decide +kernel
theorem dksX1_comes_1 : cX1_comes.data.toList.drop 24 = dktX1_comes_1 := dk_seg dksX1_comes_0 24 rfl rfl
theorem dksX1_comes_2 : cX1_comes.data.toList.drop 48 = dktX1_comes_2 := dk_seg dksX1_comes_1 24 rfl rfl
theorem dksX1_comes_3 : cX1_comes.data.toList.drop 72 = dktX1_comes_3 := dk_seg dksX1_comes_2 24 rfl rfl
theorem dX1_comes_0 : decode cX1_comes 0 = .ok (.aload_n 0, 1) := dk_42 (dk_at dksX1_comes_0 0 rfl rfl)
theorem dX1_comes_1 : decode cX1_comes 1 = .ok (.getfield 63, 3) := dk_180 0 63 (dk_at dksX1_comes_0 1 rfl rfl)
theorem dX1_comes_4 : decode cX1_comes 4 = .ok (.istore 5, 2) := dk_54 5 (dk_at dksX1_comes_0 4 rfl rfl)
theorem dX1_comes_6 : decode cX1_comes 6 = .ok (.aload_n 0, 1) := dk_42 (dk_at dksX1_comes_0 6 rfl rfl)
theorem dX1_comes_7 : decode cX1_comes 7 = .ok (.getfield 31, 3) := dk_180 0 31 (dk_at dksX1_comes_0 7 rfl rfl)
theorem dX1_comes_10 : decode cX1_comes 10 = .ok (.iload 5, 2) := dk_21 5 (dk_at dksX1_comes_0 10 rfl rfl)
theorem dX1_comes_12 : decode cX1_comes 12 = .ok (.aaload, 1) := dk_50 (dk_at dksX1_comes_0 12 rfl rfl)
theorem dX1_comes_13 : decode cX1_comes 13 = .ok (.iload_n 1, 1) := dk_27 (dk_at dksX1_comes_0 13 rfl rfl)
theorem dX1_comes_14 : decode cX1_comes 14 = .ok (.iload 5, 2) := dk_21 5 (dk_at dksX1_comes_0 14 rfl rfl)
theorem dX1_comes_16 : decode cX1_comes 16 = .ok (.iload_n 2, 1) := dk_28 (dk_at dksX1_comes_0 16 rfl rfl)
theorem dX1_comes_17 : decode cX1_comes 17 = .ok (.invokestatic 102, 3) := dk_184 0 102 (dk_at dksX1_comes_0 17 rfl rfl)
theorem dX1_comes_20 : decode cX1_comes 20 = .ok (.putfield 84, 3) := dk_181 0 84 (dk_at dksX1_comes_0 20 rfl rfl)
theorem dX1_comes_23 : decode cX1_comes 23 = .ok (.aload_n 0, 1) := dk_42 (dk_at dksX1_comes_0 23 rfl rfl)
theorem dX1_comes_24 : decode cX1_comes 24 = .ok (.getfield 35, 3) := dk_180 0 35 (dk_at dksX1_comes_1 0 rfl rfl)
theorem dX1_comes_27 : decode cX1_comes 27 = .ok (.iload 5, 2) := dk_21 5 (dk_at dksX1_comes_1 3 rfl rfl)
theorem dX1_comes_29 : decode cX1_comes 29 = .ok (.iload_n 3, 1) := dk_29 (dk_at dksX1_comes_1 5 rfl rfl)
theorem dX1_comes_30 : decode cX1_comes 30 = .ok (.i2b, 1) := dk_145 (dk_at dksX1_comes_1 6 rfl rfl)
theorem dX1_comes_31 : decode cX1_comes 31 = .ok (.bastore, 1) := dk_84 (dk_at dksX1_comes_1 7 rfl rfl)
theorem dX1_comes_32 : decode cX1_comes 32 = .ok (.aload_n 0, 1) := dk_42 (dk_at dksX1_comes_1 8 rfl rfl)
theorem dX1_comes_33 : decode cX1_comes 33 = .ok (.getfield 38, 3) := dk_180 0 38 (dk_at dksX1_comes_1 9 rfl rfl)
theorem dX1_comes_36 : decode cX1_comes 36 = .ok (.iload 5, 2) := dk_21 5 (dk_at dksX1_comes_1 12 rfl rfl)
theorem dX1_comes_38 : decode cX1_comes 38 = .ok (.iload 4, 2) := dk_21 4 (dk_at dksX1_comes_1 14 rfl rfl)
theorem dX1_comes_40 : decode cX1_comes 40 = .ok (.i2b, 1) := dk_145 (dk_at dksX1_comes_1 16 rfl rfl)
theorem dX1_comes_41 : decode cX1_comes 41 = .ok (.bastore, 1) := dk_84 (dk_at dksX1_comes_1 17 rfl rfl)
theorem dX1_comes_42 : decode cX1_comes 42 = .ok (.aload_n 0, 1) := dk_42 (dk_at dksX1_comes_1 18 rfl rfl)
theorem dX1_comes_43 : decode cX1_comes 43 = .ok (.getfield 41, 3) := dk_180 0 41 (dk_at dksX1_comes_1 19 rfl rfl)
theorem dX1_comes_46 : decode cX1_comes 46 = .ok (.iload 5, 2) := dk_21 5 (dk_at dksX1_comes_1 22 rfl rfl)
theorem dX1_comes_48 : decode cX1_comes 48 = .ok (.iconst 1, 1) := dk_4 (dk_at dksX1_comes_2 0 rfl rfl)
theorem dX1_comes_49 : decode cX1_comes 49 = .ok (.bastore, 1) := dk_84 (dk_at dksX1_comes_2 1 rfl rfl)
theorem dX1_comes_50 : decode cX1_comes 50 = .ok (.aload_n 0, 1) := dk_42 (dk_at dksX1_comes_2 2 rfl rfl)
theorem dX1_comes_51 : decode cX1_comes 51 = .ok (.getfield 44, 3) := dk_180 0 44 (dk_at dksX1_comes_2 3 rfl rfl)
theorem dX1_comes_54 : decode cX1_comes 54 = .ok (.iload 5, 2) := dk_21 5 (dk_at dksX1_comes_2 6 rfl rfl)
theorem dX1_comes_56 : decode cX1_comes 56 = .ok (.iconst 0, 1) := dk_3 (dk_at dksX1_comes_2 8 rfl rfl)
theorem dX1_comes_57 : decode cX1_comes 57 = .ok (.iastore, 1) := dk_79 (dk_at dksX1_comes_2 9 rfl rfl)
theorem dX1_comes_58 : decode cX1_comes 58 = .ok (.aload_n 0, 1) := dk_42 (dk_at dksX1_comes_2 10 rfl rfl)
theorem dX1_comes_59 : decode cX1_comes 59 = .ok (.getfield 47, 3) := dk_180 0 47 (dk_at dksX1_comes_2 11 rfl rfl)
theorem dX1_comes_62 : decode cX1_comes 62 = .ok (.iload 5, 2) := dk_21 5 (dk_at dksX1_comes_2 14 rfl rfl)
theorem dX1_comes_64 : decode cX1_comes 64 = .ok (.iconst 0, 1) := dk_3 (dk_at dksX1_comes_2 16 rfl rfl)
theorem dX1_comes_65 : decode cX1_comes 65 = .ok (.iastore, 1) := dk_79 (dk_at dksX1_comes_2 17 rfl rfl)
theorem dX1_comes_66 : decode cX1_comes 66 = .ok (.aload_n 0, 1) := dk_42 (dk_at dksX1_comes_2 18 rfl rfl)
theorem dX1_comes_67 : decode cX1_comes 67 = .ok (.dup, 1) := dk_89 (dk_at dksX1_comes_2 19 rfl rfl)
theorem dX1_comes_68 : decode cX1_comes 68 = .ok (.getfield 63, 3) := dk_180 0 63 (dk_at dksX1_comes_2 20 rfl rfl)
theorem dX1_comes_71 : decode cX1_comes 71 = .ok (.iconst 1, 1) := dk_4 (dk_at dksX1_comes_2 23 rfl rfl)
theorem dX1_comes_72 : decode cX1_comes 72 = .ok (.iadd, 1) := dk_96 (dk_at dksX1_comes_3 0 rfl rfl)
theorem dX1_comes_73 : decode cX1_comes 73 = .ok (.putfield 63, 3) := dk_181 0 63 (dk_at dksX1_comes_3 1 rfl rfl)
theorem dX1_comes_76 : decode cX1_comes 76 = .ok (.iload 5, 2) := dk_21 5 (dk_at dksX1_comes_3 4 rfl rfl)
theorem dX1_comes_78 : decode cX1_comes 78 = .ok (.ireturn, 1) := dk_172 (dk_at dksX1_comes_3 6 rfl rfl)
abbrev cX1_at : ByteArray := prog_8_method_3_code
def yX1_at : MethodName := ⟨RX1, "at", "(I)LWheelBrook$Wheel;"⟩
def dkwX1_at_0 : List UInt8 := [42, 180, 0, 31, 27, 50, 180, 0, 84, 192, 0, 88, 176]
abbrev dktX1_at_0 : List UInt8 := dkwX1_at_0 ++ []
theorem dksX1_at_0 : cX1_at.data.toList.drop 0 = dktX1_at_0 := by decide +kernel
theorem dX1_at_0 : decode cX1_at 0 = .ok (.aload_n 0, 1) := dk_42 (dk_at dksX1_at_0 0 rfl rfl)
theorem dX1_at_1 : decode cX1_at 1 = .ok (.getfield 31, 3) := dk_180 0 31 (dk_at dksX1_at_0 1 rfl rfl)
theorem dX1_at_4 : decode cX1_at 4 = .ok (.iload_n 1, 1) := dk_27 (dk_at dksX1_at_0 4 rfl rfl)
theorem dX1_at_5 : decode cX1_at 5 = .ok (.aaload, 1) := dk_50 (dk_at dksX1_at_0 5 rfl rfl)
theorem dX1_at_6 : decode cX1_at 6 = .ok (.getfield 84, 3) := dk_180 0 84 (dk_at dksX1_at_0 6 rfl rfl)
theorem dX1_at_9 : decode cX1_at 9 = .ok (.checkcast 88, 3) := dk_192 0 88 (dk_at dksX1_at_0 9 rfl rfl)
theorem dX1_at_12 : decode cX1_at 12 = .ok (.areturn, 1) := dk_176 (dk_at dksX1_at_0 12 rfl rfl)
abbrev cX1_forceNow : ByteArray := prog_8_method_4_code
def yX1_forceNow : MethodName := ⟨RX1, "forceNow", "()I"⟩
def dkwX1_forceNow_0 : List UInt8 := [42, 180, 0, 15, 42, 180, 0, 66, 16, 24, 112, 51, 172]
abbrev dktX1_forceNow_0 : List UInt8 := dkwX1_forceNow_0 ++ []
theorem dksX1_forceNow_0 : cX1_forceNow.data.toList.drop 0 = dktX1_forceNow_0 := by decide +kernel
theorem dX1_forceNow_0 : decode cX1_forceNow 0 = .ok (.aload_n 0, 1) := dk_42 (dk_at dksX1_forceNow_0 0 rfl rfl)
theorem dX1_forceNow_1 : decode cX1_forceNow 1 = .ok (.getfield 15, 3) := dk_180 0 15 (dk_at dksX1_forceNow_0 1 rfl rfl)
theorem dX1_forceNow_4 : decode cX1_forceNow 4 = .ok (.aload_n 0, 1) := dk_42 (dk_at dksX1_forceNow_0 4 rfl rfl)
theorem dX1_forceNow_5 : decode cX1_forceNow 5 = .ok (.getfield 66, 3) := dk_180 0 66 (dk_at dksX1_forceNow_0 5 rfl rfl)
theorem dX1_forceNow_8 : decode cX1_forceNow 8 = .ok (.bipush 24, 2) := dk_16 24 (dk_at dksX1_forceNow_0 8 rfl rfl)
theorem dX1_forceNow_10 : decode cX1_forceNow 10 = .ok (.irem, 1) := dk_112 (dk_at dksX1_forceNow_0 10 rfl rfl)
theorem dX1_forceNow_11 : decode cX1_forceNow 11 = .ok (.baload, 1) := dk_51 (dk_at dksX1_forceNow_0 11 rfl rfl)
theorem dX1_forceNow_12 : decode cX1_forceNow 12 = .ok (.ireturn, 1) := dk_172 (dk_at dksX1_forceNow_0 12 rfl rfl)
abbrev cX1_turns : ByteArray := prog_8_method_5_code
def yX1_turns : MethodName := ⟨RX1, "turns", "(II)V"⟩
def dkwX1_turns_2 : List UInt8 := [177]
abbrev dktX1_turns_2 : List UInt8 := dkwX1_turns_2 ++ []
def dkwX1_turns_1 : List UInt8 := [180, 0, 38, 27, 51, 18, 90, 42, 180, 0, 26, 42, 180, 0, 38, 27, 51, 46, 28, 96, 184, 0, 91, 79]
abbrev dktX1_turns_1 : List UInt8 := dkwX1_turns_1 ++ dktX1_turns_2
def dkwX1_turns_0 : List UInt8 := [42, 180, 0, 47, 27, 18, 90, 42, 180, 0, 47, 27, 46, 28, 96, 184, 0, 91, 79, 42, 180, 0, 26, 42]
abbrev dktX1_turns_0 : List UInt8 := dkwX1_turns_0 ++ dktX1_turns_1
theorem dksX1_turns_0 : cX1_turns.data.toList.drop 0 = dktX1_turns_0 := by decide +kernel
theorem dksX1_turns_1 : cX1_turns.data.toList.drop 24 = dktX1_turns_1 := dk_seg dksX1_turns_0 24 rfl rfl
theorem dksX1_turns_2 : cX1_turns.data.toList.drop 48 = dktX1_turns_2 := dk_seg dksX1_turns_1 24 rfl rfl
theorem dX1_turns_0 : decode cX1_turns 0 = .ok (.aload_n 0, 1) := dk_42 (dk_at dksX1_turns_0 0 rfl rfl)
theorem dX1_turns_1 : decode cX1_turns 1 = .ok (.getfield 47, 3) := dk_180 0 47 (dk_at dksX1_turns_0 1 rfl rfl)
theorem dX1_turns_4 : decode cX1_turns 4 = .ok (.iload_n 1, 1) := dk_27 (dk_at dksX1_turns_0 4 rfl rfl)
theorem dX1_turns_5 : decode cX1_turns 5 = .ok (.ldc 90, 2) := dk_18 90 (dk_at dksX1_turns_0 5 rfl rfl)
theorem dX1_turns_7 : decode cX1_turns 7 = .ok (.aload_n 0, 1) := dk_42 (dk_at dksX1_turns_0 7 rfl rfl)
theorem dX1_turns_8 : decode cX1_turns 8 = .ok (.getfield 47, 3) := dk_180 0 47 (dk_at dksX1_turns_0 8 rfl rfl)
theorem dX1_turns_11 : decode cX1_turns 11 = .ok (.iload_n 1, 1) := dk_27 (dk_at dksX1_turns_0 11 rfl rfl)
theorem dX1_turns_12 : decode cX1_turns 12 = .ok (.iaload, 1) := dk_46 (dk_at dksX1_turns_0 12 rfl rfl)
theorem dX1_turns_13 : decode cX1_turns 13 = .ok (.iload_n 2, 1) := dk_28 (dk_at dksX1_turns_0 13 rfl rfl)
theorem dX1_turns_14 : decode cX1_turns 14 = .ok (.iadd, 1) := dk_96 (dk_at dksX1_turns_0 14 rfl rfl)
theorem dX1_turns_15 : decode cX1_turns 15 = .ok (.invokestatic 91, 3) := dk_184 0 91 (dk_at dksX1_turns_0 15 rfl rfl)
theorem dX1_turns_18 : decode cX1_turns 18 = .ok (.iastore, 1) := dk_79 (dk_at dksX1_turns_0 18 rfl rfl)
theorem dX1_turns_19 : decode cX1_turns 19 = .ok (.aload_n 0, 1) := dk_42 (dk_at dksX1_turns_0 19 rfl rfl)
theorem dX1_turns_20 : decode cX1_turns 20 = .ok (.getfield 26, 3) := dk_180 0 26 (dk_at dksX1_turns_0 20 rfl rfl)
theorem dX1_turns_23 : decode cX1_turns 23 = .ok (.aload_n 0, 1) := dk_42 (dk_at dksX1_turns_0 23 rfl rfl)
theorem dX1_turns_24 : decode cX1_turns 24 = .ok (.getfield 38, 3) := dk_180 0 38 (dk_at dksX1_turns_1 0 rfl rfl)
theorem dX1_turns_27 : decode cX1_turns 27 = .ok (.iload_n 1, 1) := dk_27 (dk_at dksX1_turns_1 3 rfl rfl)
theorem dX1_turns_28 : decode cX1_turns 28 = .ok (.baload, 1) := dk_51 (dk_at dksX1_turns_1 4 rfl rfl)
theorem dX1_turns_29 : decode cX1_turns 29 = .ok (.ldc 90, 2) := dk_18 90 (dk_at dksX1_turns_1 5 rfl rfl)
theorem dX1_turns_31 : decode cX1_turns 31 = .ok (.aload_n 0, 1) := dk_42 (dk_at dksX1_turns_1 7 rfl rfl)
theorem dX1_turns_32 : decode cX1_turns 32 = .ok (.getfield 26, 3) := dk_180 0 26 (dk_at dksX1_turns_1 8 rfl rfl)
theorem dX1_turns_35 : decode cX1_turns 35 = .ok (.aload_n 0, 1) := dk_42 (dk_at dksX1_turns_1 11 rfl rfl)
theorem dX1_turns_36 : decode cX1_turns 36 = .ok (.getfield 38, 3) := dk_180 0 38 (dk_at dksX1_turns_1 12 rfl rfl)
theorem dX1_turns_39 : decode cX1_turns 39 = .ok (.iload_n 1, 1) := dk_27 (dk_at dksX1_turns_1 15 rfl rfl)
theorem dX1_turns_40 : decode cX1_turns 40 = .ok (.baload, 1) := dk_51 (dk_at dksX1_turns_1 16 rfl rfl)
theorem dX1_turns_41 : decode cX1_turns 41 = .ok (.iaload, 1) := dk_46 (dk_at dksX1_turns_1 17 rfl rfl)
theorem dX1_turns_42 : decode cX1_turns 42 = .ok (.iload_n 2, 1) := dk_28 (dk_at dksX1_turns_1 18 rfl rfl)
theorem dX1_turns_43 : decode cX1_turns 43 = .ok (.iadd, 1) := dk_96 (dk_at dksX1_turns_1 19 rfl rfl)
theorem dX1_turns_44 : decode cX1_turns 44 = .ok (.invokestatic 91, 3) := dk_184 0 91 (dk_at dksX1_turns_1 20 rfl rfl)
theorem dX1_turns_47 : decode cX1_turns 47 = .ok (.iastore, 1) := dk_79 (dk_at dksX1_turns_1 23 rfl rfl)
theorem dX1_turns_48 : decode cX1_turns 48 = .ok (.return_, 1) := dk_177 (dk_at dksX1_turns_2 0 rfl rfl)
abbrev cX1_allPrayed : ByteArray := prog_8_method_8_code
def yX1_allPrayed : MethodName := ⟨RX1, "allPrayed", "()I"⟩
def dkwX1_allPrayed_1 : List UInt8 := [27, 172]
abbrev dktX1_allPrayed_1 : List UInt8 := dkwX1_allPrayed_1 ++ []
def dkwX1_allPrayed_0 : List UInt8 := [3, 60, 3, 61, 28, 8, 162, 0, 18, 27, 42, 180, 0, 26, 28, 46, 96, 60, 132, 2, 1, 167, 255, 239]
abbrev dktX1_allPrayed_0 : List UInt8 := dkwX1_allPrayed_0 ++ dktX1_allPrayed_1
theorem dksX1_allPrayed_0 : cX1_allPrayed.data.toList.drop 0 = dktX1_allPrayed_0 := by decide +kernel
theorem dksX1_allPrayed_1 : cX1_allPrayed.data.toList.drop 24 = dktX1_allPrayed_1 := dk_seg dksX1_allPrayed_0 24 rfl rfl
theorem dX1_allPrayed_0 : decode cX1_allPrayed 0 = .ok (.iconst 0, 1) := dk_3 (dk_at dksX1_allPrayed_0 0 rfl rfl)
theorem dX1_allPrayed_1 : decode cX1_allPrayed 1 = .ok (.istore_n 1, 1) := dk_60 (dk_at dksX1_allPrayed_0 1 rfl rfl)
theorem dX1_allPrayed_2 : decode cX1_allPrayed 2 = .ok (.iconst 0, 1) := dk_3 (dk_at dksX1_allPrayed_0 2 rfl rfl)
theorem dX1_allPrayed_3 : decode cX1_allPrayed 3 = .ok (.istore_n 2, 1) := dk_61 (dk_at dksX1_allPrayed_0 3 rfl rfl)
theorem dX1_allPrayed_4 : decode cX1_allPrayed 4 = .ok (.iload_n 2, 1) := dk_28 (dk_at dksX1_allPrayed_0 4 rfl rfl)
theorem dX1_allPrayed_5 : decode cX1_allPrayed 5 = .ok (.iconst 5, 1) := dk_8 (dk_at dksX1_allPrayed_0 5 rfl rfl)
theorem dX1_allPrayed_6 : decode cX1_allPrayed 6 = .ok (.if_icmp .ge 18, 3) := dk_162 0 18 (dk_at dksX1_allPrayed_0 6 rfl rfl)
theorem dX1_allPrayed_9 : decode cX1_allPrayed 9 = .ok (.iload_n 1, 1) := dk_27 (dk_at dksX1_allPrayed_0 9 rfl rfl)
theorem dX1_allPrayed_10 : decode cX1_allPrayed 10 = .ok (.aload_n 0, 1) := dk_42 (dk_at dksX1_allPrayed_0 10 rfl rfl)
theorem dX1_allPrayed_11 : decode cX1_allPrayed 11 = .ok (.getfield 26, 3) := dk_180 0 26 (dk_at dksX1_allPrayed_0 11 rfl rfl)
theorem dX1_allPrayed_14 : decode cX1_allPrayed 14 = .ok (.iload_n 2, 1) := dk_28 (dk_at dksX1_allPrayed_0 14 rfl rfl)
theorem dX1_allPrayed_15 : decode cX1_allPrayed 15 = .ok (.iaload, 1) := dk_46 (dk_at dksX1_allPrayed_0 15 rfl rfl)
theorem dX1_allPrayed_16 : decode cX1_allPrayed 16 = .ok (.iadd, 1) := dk_96 (dk_at dksX1_allPrayed_0 16 rfl rfl)
theorem dX1_allPrayed_17 : decode cX1_allPrayed 17 = .ok (.istore_n 1, 1) := dk_60 (dk_at dksX1_allPrayed_0 17 rfl rfl)
theorem dX1_allPrayed_18 : decode cX1_allPrayed 18 = .ok (.iinc 2 1, 3) := dk_132 2 1 (dk_at dksX1_allPrayed_0 18 rfl rfl)
theorem dX1_allPrayed_21 : decode cX1_allPrayed 21 = .ok (.goto (-17), 3) := dk_167 255 239 (dk_at dksX1_allPrayed_0 21 rfl rfl)
theorem dX1_allPrayed_24 : decode cX1_allPrayed 24 = .ok (.iload_n 1, 1) := dk_27 (dk_at dksX1_allPrayed_1 0 rfl rfl)
theorem dX1_allPrayed_25 : decode cX1_allPrayed 25 = .ok (.ireturn, 1) := dk_172 (dk_at dksX1_allPrayed_1 1 rfl rfl)
abbrev cX1_drawn : ByteArray := prog_8_method_9_code
def yX1_drawn : MethodName := ⟨RX1, "drawn", "()I"⟩
def dkwX1_drawn_0 : List UInt8 := [42, 42, 180, 0, 9, 18, 101, 104, 17, 48, 57, 96, 181, 0, 9, 42, 180, 0, 9, 16, 8, 124, 172]
abbrev dktX1_drawn_0 : List UInt8 := dkwX1_drawn_0 ++ []
theorem dksX1_drawn_0 : cX1_drawn.data.toList.drop 0 = dktX1_drawn_0 := by decide +kernel
theorem dX1_drawn_0 : decode cX1_drawn 0 = .ok (.aload_n 0, 1) := dk_42 (dk_at dksX1_drawn_0 0 rfl rfl)
theorem dX1_drawn_1 : decode cX1_drawn 1 = .ok (.aload_n 0, 1) := dk_42 (dk_at dksX1_drawn_0 1 rfl rfl)
theorem dX1_drawn_2 : decode cX1_drawn 2 = .ok (.getfield 9, 3) := dk_180 0 9 (dk_at dksX1_drawn_0 2 rfl rfl)
theorem dX1_drawn_5 : decode cX1_drawn 5 = .ok (.ldc 101, 2) := dk_18 101 (dk_at dksX1_drawn_0 5 rfl rfl)
theorem dX1_drawn_7 : decode cX1_drawn 7 = .ok (.imul, 1) := dk_104 (dk_at dksX1_drawn_0 7 rfl rfl)
theorem dX1_drawn_8 : decode cX1_drawn 8 = .ok (.sipush 12345, 3) := dk_17 48 57 (dk_at dksX1_drawn_0 8 rfl rfl)
theorem dX1_drawn_11 : decode cX1_drawn 11 = .ok (.iadd, 1) := dk_96 (dk_at dksX1_drawn_0 11 rfl rfl)
theorem dX1_drawn_12 : decode cX1_drawn 12 = .ok (.putfield 9, 3) := dk_181 0 9 (dk_at dksX1_drawn_0 12 rfl rfl)
theorem dX1_drawn_15 : decode cX1_drawn 15 = .ok (.aload_n 0, 1) := dk_42 (dk_at dksX1_drawn_0 15 rfl rfl)
theorem dX1_drawn_16 : decode cX1_drawn 16 = .ok (.getfield 9, 3) := dk_180 0 9 (dk_at dksX1_drawn_0 16 rfl rfl)
theorem dX1_drawn_19 : decode cX1_drawn 19 = .ok (.bipush 8, 2) := dk_16 8 (dk_at dksX1_drawn_0 19 rfl rfl)
theorem dX1_drawn_21 : decode cX1_drawn 21 = .ok (.iushr, 1) := dk_124 (dk_at dksX1_drawn_0 21 rfl rfl)
theorem dX1_drawn_22 : decode cX1_drawn 22 = .ok (.ireturn, 1) := dk_172 (dk_at dksX1_drawn_0 22 rfl rfl)
abbrev cX1_become : ByteArray := prog_8_method_2_code
def yX1_become : MethodName := ⟨RX1, "become", "(LWheelBrook$House;)V"⟩
def dkwX1_become_10 : List UInt8 := [16, 60, 184, 0, 78, 43, 180, 0, 59, 3, 42, 180, 0, 59, 3, 16, 24, 184, 0, 78, 177]
abbrev dktX1_become_10 : List UInt8 := dkwX1_become_10 ++ []
def dkwX1_become_9 : List UInt8 := [180, 0, 52, 3, 42, 180, 0, 52, 3, 5, 184, 0, 78, 43, 180, 0, 56, 3, 42, 180, 0, 56, 3]
abbrev dktX1_become_9 : List UInt8 := dkwX1_become_9 ++ dktX1_become_10
def dkwX1_become_8 : List UInt8 := [3, 16, 8, 184, 0, 78, 43, 180, 0, 47, 3, 42, 180, 0, 47, 3, 16, 8, 184, 0, 78, 43]
abbrev dktX1_become_8 : List UInt8 := dkwX1_become_8 ++ dktX1_become_9
def dkwX1_become_7 : List UInt8 := [43, 180, 0, 41, 3, 42, 180, 0, 41, 3, 16, 8, 184, 0, 78, 43, 180, 0, 44, 3, 42, 180, 0, 44]
abbrev dktX1_become_7 : List UInt8 := dkwX1_become_7 ++ dktX1_become_8
def dkwX1_become_6 : List UInt8 := [180, 0, 35, 3, 16, 8, 184, 0, 78, 43, 180, 0, 38, 3, 42, 180, 0, 38, 3, 16, 8, 184, 0, 78]
abbrev dktX1_become_6 : List UInt8 := dkwX1_become_6 ++ dktX1_become_7
def dkwX1_become_5 : List UInt8 := [43, 180, 0, 31, 28, 50, 180, 0, 84, 181, 0, 84, 132, 2, 1, 167, 255, 229, 43, 180, 0, 35, 3, 42]
abbrev dktX1_become_5 : List UInt8 := dkwX1_become_5 ++ dktX1_become_6
def dkwX1_become_4 : List UInt8 := [3, 42, 180, 0, 26, 3, 8, 184, 0, 78, 3, 61, 28, 16, 8, 162, 0, 27, 42, 180, 0, 31, 28, 50]
abbrev dktX1_become_4 : List UInt8 := dkwX1_become_4 ++ dktX1_become_5
def dkwX1_become_3 : List UInt8 := [3, 16, 12, 184, 0, 78, 43, 180, 0, 22, 3, 42, 180, 0, 22, 3, 8, 184, 0, 78, 43, 180, 0, 26]
abbrev dktX1_become_3 : List UInt8 := dkwX1_become_3 ++ dktX1_become_4
def dkwX1_become_2 : List UInt8 := [43, 180, 0, 15, 3, 42, 180, 0, 15, 3, 16, 24, 184, 0, 78, 43, 180, 0, 19, 3, 42, 180, 0, 19]
abbrev dktX1_become_2 : List UInt8 := dkwX1_become_2 ++ dktX1_become_3
def dkwX1_become_1 : List UInt8 := [42, 43, 180, 0, 9, 181, 0, 9, 42, 43, 180, 0, 72, 181, 0, 72, 42, 43, 180, 0, 75, 181, 0, 75]
abbrev dktX1_become_1 : List UInt8 := dkwX1_become_1 ++ dktX1_become_2
def dkwX1_become_0 : List UInt8 := [42, 43, 180, 0, 63, 181, 0, 63, 42, 43, 180, 0, 66, 181, 0, 66, 42, 43, 180, 0, 69, 181, 0, 69]
abbrev dktX1_become_0 : List UInt8 := dkwX1_become_0 ++ dktX1_become_1
theorem dksX1_become_0 : cX1_become.data.toList.drop 0 = dktX1_become_0 := by decide +kernel
theorem dksX1_become_1 : cX1_become.data.toList.drop 24 = dktX1_become_1 := dk_seg dksX1_become_0 24 rfl rfl
theorem dksX1_become_2 : cX1_become.data.toList.drop 48 = dktX1_become_2 := dk_seg dksX1_become_1 24 rfl rfl
theorem dksX1_become_3 : cX1_become.data.toList.drop 72 = dktX1_become_3 := dk_seg dksX1_become_2 24 rfl rfl
theorem dksX1_become_4 : cX1_become.data.toList.drop 96 = dktX1_become_4 := dk_seg dksX1_become_3 24 rfl rfl
theorem dksX1_become_5 : cX1_become.data.toList.drop 120 = dktX1_become_5 := dk_seg dksX1_become_4 24 rfl rfl
theorem dksX1_become_6 : cX1_become.data.toList.drop 144 = dktX1_become_6 := dk_seg dksX1_become_5 24 rfl rfl
theorem dksX1_become_7 : cX1_become.data.toList.drop 168 = dktX1_become_7 := dk_seg dksX1_become_6 24 rfl rfl
theorem dksX1_become_8 : cX1_become.data.toList.drop 192 = dktX1_become_8 := dk_seg dksX1_become_7 24 rfl rfl
theorem dksX1_become_9 : cX1_become.data.toList.drop 214 = dktX1_become_9 := dk_seg dksX1_become_8 22 rfl rfl
theorem dksX1_become_10 : cX1_become.data.toList.drop 237 = dktX1_become_10 := dk_seg dksX1_become_9 23 rfl rfl
theorem dX1_become_0 : decode cX1_become 0 = .ok (.aload_n 0, 1) := dk_42 (dk_at dksX1_become_0 0 rfl rfl)
theorem dX1_become_1 : decode cX1_become 1 = .ok (.aload_n 1, 1) := dk_43 (dk_at dksX1_become_0 1 rfl rfl)
theorem dX1_become_2 : decode cX1_become 2 = .ok (.getfield 63, 3) := dk_180 0 63 (dk_at dksX1_become_0 2 rfl rfl)
theorem dX1_become_5 : decode cX1_become 5 = .ok (.putfield 63, 3) := dk_181 0 63 (dk_at dksX1_become_0 5 rfl rfl)
theorem dX1_become_8 : decode cX1_become 8 = .ok (.aload_n 0, 1) := dk_42 (dk_at dksX1_become_0 8 rfl rfl)
theorem dX1_become_9 : decode cX1_become 9 = .ok (.aload_n 1, 1) := dk_43 (dk_at dksX1_become_0 9 rfl rfl)
theorem dX1_become_10 : decode cX1_become 10 = .ok (.getfield 66, 3) := dk_180 0 66 (dk_at dksX1_become_0 10 rfl rfl)
theorem dX1_become_13 : decode cX1_become 13 = .ok (.putfield 66, 3) := dk_181 0 66 (dk_at dksX1_become_0 13 rfl rfl)
theorem dX1_become_16 : decode cX1_become 16 = .ok (.aload_n 0, 1) := dk_42 (dk_at dksX1_become_0 16 rfl rfl)
theorem dX1_become_17 : decode cX1_become 17 = .ok (.aload_n 1, 1) := dk_43 (dk_at dksX1_become_0 17 rfl rfl)
theorem dX1_become_18 : decode cX1_become 18 = .ok (.getfield 69, 3) := dk_180 0 69 (dk_at dksX1_become_0 18 rfl rfl)
theorem dX1_become_21 : decode cX1_become 21 = .ok (.putfield 69, 3) := dk_181 0 69 (dk_at dksX1_become_0 21 rfl rfl)
theorem dX1_become_24 : decode cX1_become 24 = .ok (.aload_n 0, 1) := dk_42 (dk_at dksX1_become_1 0 rfl rfl)
theorem dX1_become_25 : decode cX1_become 25 = .ok (.aload_n 1, 1) := dk_43 (dk_at dksX1_become_1 1 rfl rfl)
theorem dX1_become_26 : decode cX1_become 26 = .ok (.getfield 9, 3) := dk_180 0 9 (dk_at dksX1_become_1 2 rfl rfl)
theorem dX1_become_29 : decode cX1_become 29 = .ok (.putfield 9, 3) := dk_181 0 9 (dk_at dksX1_become_1 5 rfl rfl)
theorem dX1_become_32 : decode cX1_become 32 = .ok (.aload_n 0, 1) := dk_42 (dk_at dksX1_become_1 8 rfl rfl)
theorem dX1_become_33 : decode cX1_become 33 = .ok (.aload_n 1, 1) := dk_43 (dk_at dksX1_become_1 9 rfl rfl)
theorem dX1_become_34 : decode cX1_become 34 = .ok (.getfield 72, 3) := dk_180 0 72 (dk_at dksX1_become_1 10 rfl rfl)
theorem dX1_become_37 : decode cX1_become 37 = .ok (.putfield 72, 3) := dk_181 0 72 (dk_at dksX1_become_1 13 rfl rfl)
theorem dX1_become_40 : decode cX1_become 40 = .ok (.aload_n 0, 1) := dk_42 (dk_at dksX1_become_1 16 rfl rfl)
theorem dX1_become_41 : decode cX1_become 41 = .ok (.aload_n 1, 1) := dk_43 (dk_at dksX1_become_1 17 rfl rfl)
theorem dX1_become_42 : decode cX1_become 42 = .ok (.getfield 75, 3) := dk_180 0 75 (dk_at dksX1_become_1 18 rfl rfl)
theorem dX1_become_45 : decode cX1_become 45 = .ok (.putfield 75, 3) := dk_181 0 75 (dk_at dksX1_become_1 21 rfl rfl)
theorem dX1_become_48 : decode cX1_become 48 = .ok (.aload_n 1, 1) := dk_43 (dk_at dksX1_become_2 0 rfl rfl)
theorem dX1_become_49 : decode cX1_become 49 = .ok (.getfield 15, 3) := dk_180 0 15 (dk_at dksX1_become_2 1 rfl rfl)
theorem dX1_become_52 : decode cX1_become 52 = .ok (.iconst 0, 1) := dk_3 (dk_at dksX1_become_2 4 rfl rfl)
theorem dX1_become_53 : decode cX1_become 53 = .ok (.aload_n 0, 1) := dk_42 (dk_at dksX1_become_2 5 rfl rfl)
theorem dX1_become_54 : decode cX1_become 54 = .ok (.getfield 15, 3) := dk_180 0 15 (dk_at dksX1_become_2 6 rfl rfl)
theorem dX1_become_57 : decode cX1_become 57 = .ok (.iconst 0, 1) := dk_3 (dk_at dksX1_become_2 9 rfl rfl)
theorem dX1_become_58 : decode cX1_become 58 = .ok (.bipush 24, 2) := dk_16 24 (dk_at dksX1_become_2 10 rfl rfl)
theorem dX1_become_60 : decode cX1_become 60 = .ok (.invokestatic 78, 3) := dk_184 0 78 (dk_at dksX1_become_2 12 rfl rfl)
theorem dX1_become_63 : decode cX1_become 63 = .ok (.aload_n 1, 1) := dk_43 (dk_at dksX1_become_2 15 rfl rfl)
theorem dX1_become_64 : decode cX1_become 64 = .ok (.getfield 19, 3) := dk_180 0 19 (dk_at dksX1_become_2 16 rfl rfl)
theorem dX1_become_67 : decode cX1_become 67 = .ok (.iconst 0, 1) := dk_3 (dk_at dksX1_become_2 19 rfl rfl)
theorem dX1_become_68 : decode cX1_become 68 = .ok (.aload_n 0, 1) := dk_42 (dk_at dksX1_become_2 20 rfl rfl)
theorem dX1_become_69 : decode cX1_become 69 = .ok (.getfield 19, 3) := dk_180 0 19 (dk_at dksX1_become_2 21 rfl rfl)
theorem dX1_become_72 : decode cX1_become 72 = .ok (.iconst 0, 1) := dk_3 (dk_at dksX1_become_3 0 rfl rfl)
theorem dX1_become_73 : decode cX1_become 73 = .ok (.bipush 12, 2) := dk_16 12 (dk_at dksX1_become_3 1 rfl rfl)
theorem dX1_become_75 : decode cX1_become 75 = .ok (.invokestatic 78, 3) := dk_184 0 78 (dk_at dksX1_become_3 3 rfl rfl)
theorem dX1_become_78 : decode cX1_become 78 = .ok (.aload_n 1, 1) := dk_43 (dk_at dksX1_become_3 6 rfl rfl)
theorem dX1_become_79 : decode cX1_become 79 = .ok (.getfield 22, 3) := dk_180 0 22 (dk_at dksX1_become_3 7 rfl rfl)
theorem dX1_become_82 : decode cX1_become 82 = .ok (.iconst 0, 1) := dk_3 (dk_at dksX1_become_3 10 rfl rfl)
theorem dX1_become_83 : decode cX1_become 83 = .ok (.aload_n 0, 1) := dk_42 (dk_at dksX1_become_3 11 rfl rfl)
theorem dX1_become_84 : decode cX1_become 84 = .ok (.getfield 22, 3) := dk_180 0 22 (dk_at dksX1_become_3 12 rfl rfl)
theorem dX1_become_87 : decode cX1_become 87 = .ok (.iconst 0, 1) := dk_3 (dk_at dksX1_become_3 15 rfl rfl)
theorem dX1_become_88 : decode cX1_become 88 = .ok (.iconst 5, 1) := dk_8 (dk_at dksX1_become_3 16 rfl rfl)
theorem dX1_become_89 : decode cX1_become 89 = .ok (.invokestatic 78, 3) := dk_184 0 78 (dk_at dksX1_become_3 17 rfl rfl)
theorem dX1_become_92 : decode cX1_become 92 = .ok (.aload_n 1, 1) := dk_43 (dk_at dksX1_become_3 20 rfl rfl)
theorem dX1_become_93 : decode cX1_become 93 = .ok (.getfield 26, 3) := dk_180 0 26 (dk_at dksX1_become_3 21 rfl rfl)
theorem dX1_become_96 : decode cX1_become 96 = .ok (.iconst 0, 1) := dk_3 (dk_at dksX1_become_4 0 rfl rfl)
theorem dX1_become_97 : decode cX1_become 97 = .ok (.aload_n 0, 1) := dk_42 (dk_at dksX1_become_4 1 rfl rfl)
theorem dX1_become_98 : decode cX1_become 98 = .ok (.getfield 26, 3) := dk_180 0 26 (dk_at dksX1_become_4 2 rfl rfl)
theorem dX1_become_101 : decode cX1_become 101 = .ok (.iconst 0, 1) := dk_3 (dk_at dksX1_become_4 5 rfl rfl)
theorem dX1_become_102 : decode cX1_become 102 = .ok (.iconst 5, 1) := dk_8 (dk_at dksX1_become_4 6 rfl rfl)
theorem dX1_become_103 : decode cX1_become 103 = .ok (.invokestatic 78, 3) := dk_184 0 78 (dk_at dksX1_become_4 7 rfl rfl)
theorem dX1_become_106 : decode cX1_become 106 = .ok (.iconst 0, 1) := dk_3 (dk_at dksX1_become_4 10 rfl rfl)
theorem dX1_become_107 : decode cX1_become 107 = .ok (.istore_n 2, 1) := dk_61 (dk_at dksX1_become_4 11 rfl rfl)
theorem dX1_become_108 : decode cX1_become 108 = .ok (.iload_n 2, 1) := dk_28 (dk_at dksX1_become_4 12 rfl rfl)
theorem dX1_become_109 : decode cX1_become 109 = .ok (.bipush 8, 2) := dk_16 8 (dk_at dksX1_become_4 13 rfl rfl)
theorem dX1_become_111 : decode cX1_become 111 = .ok (.if_icmp .ge 27, 3) := dk_162 0 27 (dk_at dksX1_become_4 15 rfl rfl)
theorem dX1_become_114 : decode cX1_become 114 = .ok (.aload_n 0, 1) := dk_42 (dk_at dksX1_become_4 18 rfl rfl)
theorem dX1_become_115 : decode cX1_become 115 = .ok (.getfield 31, 3) := dk_180 0 31 (dk_at dksX1_become_4 19 rfl rfl)
theorem dX1_become_118 : decode cX1_become 118 = .ok (.iload_n 2, 1) := dk_28 (dk_at dksX1_become_4 22 rfl rfl)
theorem dX1_become_119 : decode cX1_become 119 = .ok (.aaload, 1) := dk_50 (dk_at dksX1_become_4 23 rfl rfl)
theorem dX1_become_120 : decode cX1_become 120 = .ok (.aload_n 1, 1) := dk_43 (dk_at dksX1_become_5 0 rfl rfl)
theorem dX1_become_121 : decode cX1_become 121 = .ok (.getfield 31, 3) := dk_180 0 31 (dk_at dksX1_become_5 1 rfl rfl)
theorem dX1_become_124 : decode cX1_become 124 = .ok (.iload_n 2, 1) := dk_28 (dk_at dksX1_become_5 4 rfl rfl)
theorem dX1_become_125 : decode cX1_become 125 = .ok (.aaload, 1) := dk_50 (dk_at dksX1_become_5 5 rfl rfl)
theorem dX1_become_126 : decode cX1_become 126 = .ok (.getfield 84, 3) := dk_180 0 84 (dk_at dksX1_become_5 6 rfl rfl)
theorem dX1_become_129 : decode cX1_become 129 = .ok (.putfield 84, 3) := dk_181 0 84 (dk_at dksX1_become_5 9 rfl rfl)
theorem dX1_become_132 : decode cX1_become 132 = .ok (.iinc 2 1, 3) := dk_132 2 1 (dk_at dksX1_become_5 12 rfl rfl)
theorem dX1_become_135 : decode cX1_become 135 = .ok (.goto (-27), 3) := dk_167 255 229 (dk_at dksX1_become_5 15 rfl rfl)
theorem dX1_become_138 : decode cX1_become 138 = .ok (.aload_n 1, 1) := dk_43 (dk_at dksX1_become_5 18 rfl rfl)
theorem dX1_become_139 : decode cX1_become 139 = .ok (.getfield 35, 3) := dk_180 0 35 (dk_at dksX1_become_5 19 rfl rfl)
theorem dX1_become_142 : decode cX1_become 142 = .ok (.iconst 0, 1) := dk_3 (dk_at dksX1_become_5 22 rfl rfl)
theorem dX1_become_143 : decode cX1_become 143 = .ok (.aload_n 0, 1) := dk_42 (dk_at dksX1_become_5 23 rfl rfl)
theorem dX1_become_144 : decode cX1_become 144 = .ok (.getfield 35, 3) := dk_180 0 35 (dk_at dksX1_become_6 0 rfl rfl)
theorem dX1_become_147 : decode cX1_become 147 = .ok (.iconst 0, 1) := dk_3 (dk_at dksX1_become_6 3 rfl rfl)
theorem dX1_become_148 : decode cX1_become 148 = .ok (.bipush 8, 2) := dk_16 8 (dk_at dksX1_become_6 4 rfl rfl)
theorem dX1_become_150 : decode cX1_become 150 = .ok (.invokestatic 78, 3) := dk_184 0 78 (dk_at dksX1_become_6 6 rfl rfl)
theorem dX1_become_153 : decode cX1_become 153 = .ok (.aload_n 1, 1) := dk_43 (dk_at dksX1_become_6 9 rfl rfl)
theorem dX1_become_154 : decode cX1_become 154 = .ok (.getfield 38, 3) := dk_180 0 38 (dk_at dksX1_become_6 10 rfl rfl)
theorem dX1_become_157 : decode cX1_become 157 = .ok (.iconst 0, 1) := dk_3 (dk_at dksX1_become_6 13 rfl rfl)
theorem dX1_become_158 : decode cX1_become 158 = .ok (.aload_n 0, 1) := dk_42 (dk_at dksX1_become_6 14 rfl rfl)
theorem dX1_become_159 : decode cX1_become 159 = .ok (.getfield 38, 3) := dk_180 0 38 (dk_at dksX1_become_6 15 rfl rfl)
theorem dX1_become_162 : decode cX1_become 162 = .ok (.iconst 0, 1) := dk_3 (dk_at dksX1_become_6 18 rfl rfl)
theorem dX1_become_163 : decode cX1_become 163 = .ok (.bipush 8, 2) := dk_16 8 (dk_at dksX1_become_6 19 rfl rfl)
theorem dX1_become_165 : decode cX1_become 165 = .ok (.invokestatic 78, 3) := dk_184 0 78 (dk_at dksX1_become_6 21 rfl rfl)
theorem dX1_become_168 : decode cX1_become 168 = .ok (.aload_n 1, 1) := dk_43 (dk_at dksX1_become_7 0 rfl rfl)
theorem dX1_become_169 : decode cX1_become 169 = .ok (.getfield 41, 3) := dk_180 0 41 (dk_at dksX1_become_7 1 rfl rfl)
theorem dX1_become_172 : decode cX1_become 172 = .ok (.iconst 0, 1) := dk_3 (dk_at dksX1_become_7 4 rfl rfl)
theorem dX1_become_173 : decode cX1_become 173 = .ok (.aload_n 0, 1) := dk_42 (dk_at dksX1_become_7 5 rfl rfl)
theorem dX1_become_174 : decode cX1_become 174 = .ok (.getfield 41, 3) := dk_180 0 41 (dk_at dksX1_become_7 6 rfl rfl)
theorem dX1_become_177 : decode cX1_become 177 = .ok (.iconst 0, 1) := dk_3 (dk_at dksX1_become_7 9 rfl rfl)
theorem dX1_become_178 : decode cX1_become 178 = .ok (.bipush 8, 2) := dk_16 8 (dk_at dksX1_become_7 10 rfl rfl)
theorem dX1_become_180 : decode cX1_become 180 = .ok (.invokestatic 78, 3) := dk_184 0 78 (dk_at dksX1_become_7 12 rfl rfl)
theorem dX1_become_183 : decode cX1_become 183 = .ok (.aload_n 1, 1) := dk_43 (dk_at dksX1_become_7 15 rfl rfl)
theorem dX1_become_184 : decode cX1_become 184 = .ok (.getfield 44, 3) := dk_180 0 44 (dk_at dksX1_become_7 16 rfl rfl)
theorem dX1_become_187 : decode cX1_become 187 = .ok (.iconst 0, 1) := dk_3 (dk_at dksX1_become_7 19 rfl rfl)
theorem dX1_become_188 : decode cX1_become 188 = .ok (.aload_n 0, 1) := dk_42 (dk_at dksX1_become_7 20 rfl rfl)
theorem dX1_become_189 : decode cX1_become 189 = .ok (.getfield 44, 3) := dk_180 0 44 (dk_at dksX1_become_7 21 rfl rfl)
theorem dX1_become_192 : decode cX1_become 192 = .ok (.iconst 0, 1) := dk_3 (dk_at dksX1_become_8 0 rfl rfl)
theorem dX1_become_193 : decode cX1_become 193 = .ok (.bipush 8, 2) := dk_16 8 (dk_at dksX1_become_8 1 rfl rfl)
theorem dX1_become_195 : decode cX1_become 195 = .ok (.invokestatic 78, 3) := dk_184 0 78 (dk_at dksX1_become_8 3 rfl rfl)
theorem dX1_become_198 : decode cX1_become 198 = .ok (.aload_n 1, 1) := dk_43 (dk_at dksX1_become_8 6 rfl rfl)
theorem dX1_become_199 : decode cX1_become 199 = .ok (.getfield 47, 3) := dk_180 0 47 (dk_at dksX1_become_8 7 rfl rfl)
theorem dX1_become_202 : decode cX1_become 202 = .ok (.iconst 0, 1) := dk_3 (dk_at dksX1_become_8 10 rfl rfl)
theorem dX1_become_203 : decode cX1_become 203 = .ok (.aload_n 0, 1) := dk_42 (dk_at dksX1_become_8 11 rfl rfl)
theorem dX1_become_204 : decode cX1_become 204 = .ok (.getfield 47, 3) := dk_180 0 47 (dk_at dksX1_become_8 12 rfl rfl)
theorem dX1_become_207 : decode cX1_become 207 = .ok (.iconst 0, 1) := dk_3 (dk_at dksX1_become_8 15 rfl rfl)
theorem dX1_become_208 : decode cX1_become 208 = .ok (.bipush 8, 2) := dk_16 8 (dk_at dksX1_become_8 16 rfl rfl)
theorem dX1_become_210 : decode cX1_become 210 = .ok (.invokestatic 78, 3) := dk_184 0 78 (dk_at dksX1_become_8 18 rfl rfl)
theorem dX1_become_213 : decode cX1_become 213 = .ok (.aload_n 1, 1) := dk_43 (dk_at dksX1_become_8 21 rfl rfl)
theorem dX1_become_214 : decode cX1_become 214 = .ok (.getfield 52, 3) := dk_180 0 52 (dk_at dksX1_become_9 0 rfl rfl)
theorem dX1_become_217 : decode cX1_become 217 = .ok (.iconst 0, 1) := dk_3 (dk_at dksX1_become_9 3 rfl rfl)
theorem dX1_become_218 : decode cX1_become 218 = .ok (.aload_n 0, 1) := dk_42 (dk_at dksX1_become_9 4 rfl rfl)
theorem dX1_become_219 : decode cX1_become 219 = .ok (.getfield 52, 3) := dk_180 0 52 (dk_at dksX1_become_9 5 rfl rfl)
theorem dX1_become_222 : decode cX1_become 222 = .ok (.iconst 0, 1) := dk_3 (dk_at dksX1_become_9 8 rfl rfl)
theorem dX1_become_223 : decode cX1_become 223 = .ok (.iconst 2, 1) := dk_5 (dk_at dksX1_become_9 9 rfl rfl)
theorem dX1_become_224 : decode cX1_become 224 = .ok (.invokestatic 78, 3) := dk_184 0 78 (dk_at dksX1_become_9 10 rfl rfl)
theorem dX1_become_227 : decode cX1_become 227 = .ok (.aload_n 1, 1) := dk_43 (dk_at dksX1_become_9 13 rfl rfl)
theorem dX1_become_228 : decode cX1_become 228 = .ok (.getfield 56, 3) := dk_180 0 56 (dk_at dksX1_become_9 14 rfl rfl)
theorem dX1_become_231 : decode cX1_become 231 = .ok (.iconst 0, 1) := dk_3 (dk_at dksX1_become_9 17 rfl rfl)
theorem dX1_become_232 : decode cX1_become 232 = .ok (.aload_n 0, 1) := dk_42 (dk_at dksX1_become_9 18 rfl rfl)
theorem dX1_become_233 : decode cX1_become 233 = .ok (.getfield 56, 3) := dk_180 0 56 (dk_at dksX1_become_9 19 rfl rfl)
theorem dX1_become_236 : decode cX1_become 236 = .ok (.iconst 0, 1) := dk_3 (dk_at dksX1_become_9 22 rfl rfl)
theorem dX1_become_237 : decode cX1_become 237 = .ok (.bipush 60, 2) := dk_16 60 (dk_at dksX1_become_10 0 rfl rfl)
theorem dX1_become_239 : decode cX1_become 239 = .ok (.invokestatic 78, 3) := dk_184 0 78 (dk_at dksX1_become_10 2 rfl rfl)
theorem dX1_become_242 : decode cX1_become 242 = .ok (.aload_n 1, 1) := dk_43 (dk_at dksX1_become_10 5 rfl rfl)
theorem dX1_become_243 : decode cX1_become 243 = .ok (.getfield 59, 3) := dk_180 0 59 (dk_at dksX1_become_10 6 rfl rfl)
theorem dX1_become_246 : decode cX1_become 246 = .ok (.iconst 0, 1) := dk_3 (dk_at dksX1_become_10 9 rfl rfl)
theorem dX1_become_247 : decode cX1_become 247 = .ok (.aload_n 0, 1) := dk_42 (dk_at dksX1_become_10 10 rfl rfl)
theorem dX1_become_248 : decode cX1_become 248 = .ok (.getfield 59, 3) := dk_180 0 59 (dk_at dksX1_become_10 11 rfl rfl)
theorem dX1_become_251 : decode cX1_become 251 = .ok (.iconst 0, 1) := dk_3 (dk_at dksX1_become_10 14 rfl rfl)
theorem dX1_become_252 : decode cX1_become 252 = .ok (.bipush 24, 2) := dk_16 24 (dk_at dksX1_become_10 15 rfl rfl)
theorem dX1_become_254 : decode cX1_become 254 = .ok (.invokestatic 78, 3) := dk_184 0 78 (dk_at dksX1_become_10 17 rfl rfl)
theorem dX1_become_257 : decode cX1_become 257 = .ok (.return_, 1) := dk_177 (dk_at dksX1_become_10 20 rfl rfl)
abbrev cX1_areAllPaid : ByteArray := prog_8_method_7_code
def yX1_areAllPaid : MethodName := ⟨RX1, "areAllPaid", "()Z"⟩
def dkwX1_areAllPaid_1 : List UInt8 := [172]
abbrev dktX1_areAllPaid_1 : List UInt8 := dkwX1_areAllPaid_1 ++ []
def dkwX1_areAllPaid_0 : List UInt8 := [4, 60, 3, 61, 28, 8, 162, 0, 17, 27, 42, 28, 182, 0, 97, 126, 60, 132, 2, 1, 167, 255, 240, 27]
abbrev dktX1_areAllPaid_0 : List UInt8 := dkwX1_areAllPaid_0 ++ dktX1_areAllPaid_1
theorem dksX1_areAllPaid_0 : cX1_areAllPaid.data.toList.drop 0 = dktX1_areAllPaid_0 := by decide +kernel
theorem dksX1_areAllPaid_1 : cX1_areAllPaid.data.toList.drop 24 = dktX1_areAllPaid_1 := dk_seg dksX1_areAllPaid_0 24 rfl rfl
theorem dX1_areAllPaid_0 : decode cX1_areAllPaid 0 = .ok (.iconst 1, 1) := dk_4 (dk_at dksX1_areAllPaid_0 0 rfl rfl)
theorem dX1_areAllPaid_1 : decode cX1_areAllPaid 1 = .ok (.istore_n 1, 1) := dk_60 (dk_at dksX1_areAllPaid_0 1 rfl rfl)
theorem dX1_areAllPaid_2 : decode cX1_areAllPaid 2 = .ok (.iconst 0, 1) := dk_3 (dk_at dksX1_areAllPaid_0 2 rfl rfl)
theorem dX1_areAllPaid_3 : decode cX1_areAllPaid 3 = .ok (.istore_n 2, 1) := dk_61 (dk_at dksX1_areAllPaid_0 3 rfl rfl)
theorem dX1_areAllPaid_4 : decode cX1_areAllPaid 4 = .ok (.iload_n 2, 1) := dk_28 (dk_at dksX1_areAllPaid_0 4 rfl rfl)
theorem dX1_areAllPaid_5 : decode cX1_areAllPaid 5 = .ok (.iconst 5, 1) := dk_8 (dk_at dksX1_areAllPaid_0 5 rfl rfl)
theorem dX1_areAllPaid_6 : decode cX1_areAllPaid 6 = .ok (.if_icmp .ge 17, 3) := dk_162 0 17 (dk_at dksX1_areAllPaid_0 6 rfl rfl)
theorem dX1_areAllPaid_9 : decode cX1_areAllPaid 9 = .ok (.iload_n 1, 1) := dk_27 (dk_at dksX1_areAllPaid_0 9 rfl rfl)
theorem dX1_areAllPaid_10 : decode cX1_areAllPaid 10 = .ok (.aload_n 0, 1) := dk_42 (dk_at dksX1_areAllPaid_0 10 rfl rfl)
theorem dX1_areAllPaid_11 : decode cX1_areAllPaid 11 = .ok (.iload_n 2, 1) := dk_28 (dk_at dksX1_areAllPaid_0 11 rfl rfl)
theorem dX1_areAllPaid_12 : decode cX1_areAllPaid 12 = .ok (.invokevirtual 97, 3) := dk_182 0 97 (dk_at dksX1_areAllPaid_0 12 rfl rfl)
theorem dX1_areAllPaid_15 : decode cX1_areAllPaid 15 = .ok (.iand, 1) := dk_126 (dk_at dksX1_areAllPaid_0 15 rfl rfl)
theorem dX1_areAllPaid_16 : decode cX1_areAllPaid 16 = .ok (.istore_n 1, 1) := dk_60 (dk_at dksX1_areAllPaid_0 16 rfl rfl)
theorem dX1_areAllPaid_17 : decode cX1_areAllPaid 17 = .ok (.iinc 2 1, 3) := dk_132 2 1 (dk_at dksX1_areAllPaid_0 17 rfl rfl)
theorem dX1_areAllPaid_20 : decode cX1_areAllPaid 20 = .ok (.goto (-16), 3) := dk_167 255 240 (dk_at dksX1_areAllPaid_0 20 rfl rfl)
theorem dX1_areAllPaid_23 : decode cX1_areAllPaid 23 = .ok (.iload_n 1, 1) := dk_27 (dk_at dksX1_areAllPaid_0 23 rfl rfl)
theorem dX1_areAllPaid_24 : decode cX1_areAllPaid 24 = .ok (.ireturn, 1) := dk_172 (dk_at dksX1_areAllPaid_1 0 rfl rfl)
theorem q84 : (Jvm.Cond.initialized "WheelBrook$House") ∈ lw_all := lw_g (lw_at lw_m1 2 rfl) rfl
theorem q121 : (Jvm.Cond.instantiable "WheelBrook$House" (19 : Nat)) ∈ lw_all := lw_g (lw_at lw_m1 39 rfl) rfl
theorem q123 : (Jvm.Cond.instanceMethod ({ cls := "WheelBrook$House", name := "<init>", desc := "()V" } : Jvm.MethodName)) ∈ lw_all := lw_g (lw_at lw_m1 41 rfl) rfl
theorem q124 : (Jvm.Cond.code ({ cls := "WheelBrook$House", name := "<init>", desc := "()V" } : Jvm.MethodName) prog_8_method_1_code (2 : Nat) (Option.none : Option Jvm.ClassFile.FieldType)) ∈ lw_all := lw_g (lw_at lw_m1 42 rfl) rfl
theorem q125 : (Jvm.Cond.methodLink "WheelBrook$House" (3 : Nat) ({ cls := "java/lang/Object", name := "<init>", desc := "()V" } : Jvm.MethodName)) ∈ lw_all := lw_g (lw_at lw_m1 43 rfl) rfl
theorem q126 : (Jvm.Cond.classLink "WheelBrook$House" (29 : Nat) "WheelBrook$Slot") ∈ lw_all := lw_g (lw_at lw_m1 44 rfl) rfl
theorem q128 : (Jvm.Cond.classLink "WheelBrook$House" (50 : Nat) "WheelBrook$Text") ∈ lw_all := lw_g (lw_at lw_m1 46 rfl) rfl
theorem q131 : (Jvm.Cond.methodLinkNest "WheelBrook$House" (62 : Nat) ({ cls := "WheelBrook$Slot", name := "<init>", desc := "()V" } : Jvm.MethodName) "WheelBrook") ∈ lw_tbl := lw_at lw_m1 49 rfl
theorem q135 : (Jvm.Cond.fieldLinkNest "WheelBrook$House" (84 : Nat) "WheelBrook$Slot" "held" "Ljava/lang/Object;" "WheelBrook") ∈ lw_tbl := lw_at lw_m1 53 rfl
theorem q142 : (Jvm.Cond.fieldLink "WheelBrook$House" (63 : Nat) "WheelBrook$House" "wheels" "I") ∈ lw_all := lw_g (lw_at lw_m1 60 rfl) rfl
theorem q144 : (Jvm.Cond.fieldLink "WheelBrook$House" (66 : Nat) "WheelBrook$House" "hour" "I") ∈ lw_all := lw_g (lw_at lw_m1 62 rfl) rfl
theorem q147 : (Jvm.Cond.fieldLink "WheelBrook$House" (69 : Nat) "WheelBrook$House" "frost" "I") ∈ lw_all := lw_g (lw_at lw_m1 65 rfl) rfl
theorem q149 : (Jvm.Cond.fieldLink "WheelBrook$House" (9 : Nat) "WheelBrook$House" "z" "I") ∈ lw_all := lw_g (lw_at lw_m1 67 rfl) rfl
theorem q151 : (Jvm.Cond.fieldLink "WheelBrook$House" (72 : Nat) "WheelBrook$House" "taped" "I") ∈ lw_all := lw_g (lw_at lw_m1 69 rfl) rfl
theorem q153 : (Jvm.Cond.fieldLink "WheelBrook$House" (75 : Nat) "WheelBrook$House" "waiting" "I") ∈ lw_all := lw_g (lw_at lw_m1 71 rfl) rfl
theorem q155 : (Jvm.Cond.fieldLink "WheelBrook$House" (15 : Nat) "WheelBrook$House" "force" "[B") ∈ lw_all := lw_g (lw_at lw_m1 73 rfl) rfl
theorem q157 : (Jvm.Cond.fieldLink "WheelBrook$House" (19 : Nat) "WheelBrook$House" "weed" "[B") ∈ lw_all := lw_g (lw_at lw_m1 75 rfl) rfl
theorem q159 : (Jvm.Cond.fieldLink "WheelBrook$House" (22 : Nat) "WheelBrook$House" "owed" "[I") ∈ lw_all := lw_g (lw_at lw_m1 77 rfl) rfl
theorem q161 : (Jvm.Cond.fieldLink "WheelBrook$House" (26 : Nat) "WheelBrook$House" "prayed" "[I") ∈ lw_all := lw_g (lw_at lw_m1 79 rfl) rfl
theorem q163 : (Jvm.Cond.fieldLink "WheelBrook$House" (31 : Nat) "WheelBrook$House" "wheel" "[LWheelBrook$Slot;") ∈ lw_all := lw_g (lw_at lw_m1 81 rfl) rfl
theorem q165 : (Jvm.Cond.fieldLink "WheelBrook$House" (35 : Nat) "WheelBrook$House" "place" "[B") ∈ lw_all := lw_g (lw_at lw_m1 83 rfl) rfl
theorem q168 : (Jvm.Cond.fieldLink "WheelBrook$House" (38 : Nat) "WheelBrook$House" "family" "[B") ∈ lw_all := lw_g (lw_at lw_m1 86 rfl) rfl
theorem q170 : (Jvm.Cond.fieldLink "WheelBrook$House" (41 : Nat) "WheelBrook$House" "open" "[B") ∈ lw_all := lw_g (lw_at lw_m1 88 rfl) rfl
theorem q172 : (Jvm.Cond.fieldLink "WheelBrook$House" (44 : Nat) "WheelBrook$House" "counter" "[I") ∈ lw_all := lw_g (lw_at lw_m1 90 rfl) rfl
theorem q175 : (Jvm.Cond.fieldLink "WheelBrook$House" (47 : Nat) "WheelBrook$House" "turned" "[I") ∈ lw_all := lw_g (lw_at lw_m1 93 rfl) rfl
theorem q177 : (Jvm.Cond.fieldLink "WheelBrook$House" (52 : Nat) "WheelBrook$House" "texts" "[LWheelBrook$Text;") ∈ lw_all := lw_g (lw_at lw_m1 95 rfl) rfl
theorem q180 : (Jvm.Cond.fieldLink "WheelBrook$House" (56 : Nat) "WheelBrook$House" "tape" "[B") ∈ lw_all := lw_g (lw_at lw_m1 98 rfl) rfl
theorem q182 : (Jvm.Cond.fieldLink "WheelBrook$House" (59 : Nat) "WheelBrook$House" "waits" "[I") ∈ lw_all := lw_g (lw_at lw_m1 100 rfl) rfl
theorem q184 : (Jvm.Cond.lays "WheelBrook$House" "WheelBrook$House" "wheels" "I") ∈ lw_all := lw_g (lw_at lw_m1 102 rfl) rfl
theorem q185 : (Jvm.Cond.soleField "WheelBrook$House" "wheels") ∈ lw_all := lw_g (lw_at lw_m1 103 rfl) rfl
theorem q186 : (Jvm.Cond.lays "WheelBrook$House" "WheelBrook$House" "hour" "I") ∈ lw_all := lw_g (lw_at lw_m1 104 rfl) rfl
theorem q187 : (Jvm.Cond.soleField "WheelBrook$House" "hour") ∈ lw_all := lw_g (lw_at lw_m1 105 rfl) rfl
theorem q188 : (Jvm.Cond.lays "WheelBrook$House" "WheelBrook$House" "frost" "I") ∈ lw_all := lw_g (lw_at lw_m1 106 rfl) rfl
theorem q189 : (Jvm.Cond.soleField "WheelBrook$House" "frost") ∈ lw_all := lw_g (lw_at lw_m1 107 rfl) rfl
theorem q190 : (Jvm.Cond.lays "WheelBrook$House" "WheelBrook$House" "z" "I") ∈ lw_all := lw_g (lw_at lw_m1 108 rfl) rfl
theorem q191 : (Jvm.Cond.soleField "WheelBrook$House" "z") ∈ lw_all := lw_g (lw_at lw_m1 109 rfl) rfl
theorem q192 : (Jvm.Cond.lays "WheelBrook$House" "WheelBrook$House" "taped" "I") ∈ lw_all := lw_g (lw_at lw_m1 110 rfl) rfl
theorem q193 : (Jvm.Cond.soleField "WheelBrook$House" "taped") ∈ lw_all := lw_g (lw_at lw_m1 111 rfl) rfl
theorem q194 : (Jvm.Cond.lays "WheelBrook$House" "WheelBrook$House" "waiting" "I") ∈ lw_all := lw_g (lw_at lw_m1 112 rfl) rfl
theorem q195 : (Jvm.Cond.soleField "WheelBrook$House" "waiting") ∈ lw_all := lw_g (lw_at lw_m1 113 rfl) rfl
theorem q196 : (Jvm.Cond.laysFinal "WheelBrook$House" "WheelBrook$House" "force" "[B") ∈ lw_all := lw_g (lw_at lw_m1 114 rfl) rfl
theorem q197 : (Jvm.Cond.soleField "WheelBrook$House" "force") ∈ lw_all := lw_g (lw_at lw_m1 115 rfl) rfl
theorem q198 : (Jvm.Cond.laysFinal "WheelBrook$House" "WheelBrook$House" "weed" "[B") ∈ lw_all := lw_g (lw_at lw_m1 116 rfl) rfl
theorem q199 : (Jvm.Cond.soleField "WheelBrook$House" "weed") ∈ lw_all := lw_g (lw_at lw_m1 117 rfl) rfl
theorem q200 : (Jvm.Cond.laysFinal "WheelBrook$House" "WheelBrook$House" "owed" "[I") ∈ lw_all := lw_g (lw_at lw_m1 118 rfl) rfl
theorem q201 : (Jvm.Cond.soleField "WheelBrook$House" "owed") ∈ lw_all := lw_g (lw_at lw_m1 119 rfl) rfl
theorem q202 : (Jvm.Cond.laysFinal "WheelBrook$House" "WheelBrook$House" "prayed" "[I") ∈ lw_all := lw_g (lw_at lw_m1 120 rfl) rfl
theorem q203 : (Jvm.Cond.soleField "WheelBrook$House" "prayed") ∈ lw_all := lw_g (lw_at lw_m1 121 rfl) rfl
theorem q204 : (Jvm.Cond.laysFinal "WheelBrook$House" "WheelBrook$House" "wheel" "[LWheelBrook$Slot;") ∈ lw_all := lw_g (lw_at lw_m1 122 rfl) rfl
theorem q205 : (Jvm.Cond.soleField "WheelBrook$House" "wheel") ∈ lw_all := lw_g (lw_at lw_m1 123 rfl) rfl
theorem q206 : (Jvm.Cond.laysFinal "WheelBrook$House" "WheelBrook$House" "place" "[B") ∈ lw_all := lw_g (lw_at lw_m1 124 rfl) rfl
theorem q207 : (Jvm.Cond.soleField "WheelBrook$House" "place") ∈ lw_all := lw_g (lw_at lw_m1 125 rfl) rfl
theorem q208 : (Jvm.Cond.laysFinal "WheelBrook$House" "WheelBrook$House" "family" "[B") ∈ lw_all := lw_g (lw_at lw_m1 126 rfl) rfl
theorem q209 : (Jvm.Cond.soleField "WheelBrook$House" "family") ∈ lw_all := lw_g (lw_at lw_m1 127 rfl) rfl
theorem q210 : (Jvm.Cond.laysFinal "WheelBrook$House" "WheelBrook$House" "open" "[B") ∈ lw_all := lw_g (lw_at lw_m1 128 rfl) rfl
theorem q211 : (Jvm.Cond.soleField "WheelBrook$House" "open") ∈ lw_all := lw_g (lw_at lw_m1 129 rfl) rfl
theorem q212 : (Jvm.Cond.laysFinal "WheelBrook$House" "WheelBrook$House" "counter" "[I") ∈ lw_all := lw_g (lw_at lw_m1 130 rfl) rfl
theorem q213 : (Jvm.Cond.soleField "WheelBrook$House" "counter") ∈ lw_all := lw_g (lw_at lw_m1 131 rfl) rfl
theorem q214 : (Jvm.Cond.laysFinal "WheelBrook$House" "WheelBrook$House" "turned" "[I") ∈ lw_all := lw_g (lw_at lw_m1 132 rfl) rfl
theorem q215 : (Jvm.Cond.soleField "WheelBrook$House" "turned") ∈ lw_all := lw_g (lw_at lw_m1 133 rfl) rfl
theorem q216 : (Jvm.Cond.laysFinal "WheelBrook$House" "WheelBrook$House" "texts" "[LWheelBrook$Text;") ∈ lw_all := lw_g (lw_at lw_m1 134 rfl) rfl
theorem q217 : (Jvm.Cond.soleField "WheelBrook$House" "texts") ∈ lw_all := lw_g (lw_at lw_m1 135 rfl) rfl
theorem q218 : (Jvm.Cond.laysFinal "WheelBrook$House" "WheelBrook$House" "tape" "[B") ∈ lw_all := lw_g (lw_at lw_m1 136 rfl) rfl
theorem q219 : (Jvm.Cond.soleField "WheelBrook$House" "tape") ∈ lw_all := lw_g (lw_at lw_m1 137 rfl) rfl
theorem q220 : (Jvm.Cond.laysFinal "WheelBrook$House" "WheelBrook$House" "waits" "[I") ∈ lw_all := lw_g (lw_at lw_m1 138 rfl) rfl
theorem q221 : (Jvm.Cond.soleField "WheelBrook$House" "waits") ∈ lw_all := lw_g (lw_at lw_m1 139 rfl) rfl
theorem q222 : (Jvm.Cond.superclass "WheelBrook$House" "java/lang/Object") ∈ lw_all := lw_g (lw_at lw_m1 140 rfl) rfl
theorem q338 : (Jvm.Cond.instanceMethod ({ cls := "WheelBrook$House", name := "isPaid", desc := "(I)Z" } : Jvm.MethodName)) ∈ lw_all := lw_g (lw_at lw_m2 16 rfl) rfl
theorem q339 : (Jvm.Cond.selects "WheelBrook$House" ({ cls := "WheelBrook$House", name := "isPaid", desc := "(I)Z" } : Jvm.MethodName) ({ cls := "WheelBrook$House", name := "isPaid", desc := "(I)Z" } : Jvm.MethodName)) ∈ lw_all := lw_g (lw_at lw_m2 17 rfl) rfl
theorem q340 : (Jvm.Cond.code ({ cls := "WheelBrook$House", name := "isPaid", desc := "(I)Z" } : Jvm.MethodName) prog_8_method_6_code (2 : Nat) (Option.some Jvm.ClassFile.FieldType.boolean)) ∈ lw_all := lw_g (lw_at lw_m2 18 rfl) rfl
theorem q353 : (Jvm.Cond.instanceMethod ({ cls := "WheelBrook$House", name := "comes", desc := "(IIII)I" } : Jvm.MethodName)) ∈ lw_all := lw_g (lw_at lw_m2 31 rfl) rfl
theorem q354 : (Jvm.Cond.selects "WheelBrook$House" ({ cls := "WheelBrook$House", name := "comes", desc := "(IIII)I" } : Jvm.MethodName) ({ cls := "WheelBrook$House", name := "comes", desc := "(IIII)I" } : Jvm.MethodName)) ∈ lw_all := lw_g (lw_at lw_m2 32 rfl) rfl
theorem q355 : (Jvm.Cond.code ({ cls := "WheelBrook$House", name := "comes", desc := "(IIII)I" } : Jvm.MethodName) prog_8_method_10_code (6 : Nat) (Option.some Jvm.ClassFile.FieldType.int)) ∈ lw_all := lw_g (lw_at lw_m2 33 rfl) rfl
theorem q356 : (Jvm.Cond.methodLinkNest "WheelBrook$House" (102 : Nat) ({ cls := "WheelBrook", name := "made", desc := "(III)LWheelBrook$Wheel;" } : Jvm.MethodName) "WheelBrook") ∈ lw_tbl := lw_at lw_m2 34 rfl
theorem q451 : (Jvm.Cond.instanceMethod ({ cls := "WheelBrook$House", name := "at", desc := "(I)LWheelBrook$Wheel;" } : Jvm.MethodName)) ∈ lw_all := lw_g (lw_at lw_m2 129 rfl) rfl
theorem q452 : (Jvm.Cond.selects "WheelBrook$House" ({ cls := "WheelBrook$House", name := "at", desc := "(I)LWheelBrook$Wheel;" } : Jvm.MethodName) ({ cls := "WheelBrook$House", name := "at", desc := "(I)LWheelBrook$Wheel;" } : Jvm.MethodName)) ∈ lw_all := lw_g (lw_at lw_m2 130 rfl) rfl
theorem q453 : (Jvm.Cond.code ({ cls := "WheelBrook$House", name := "at", desc := "(I)LWheelBrook$Wheel;" } : Jvm.MethodName) prog_8_method_3_code (2 : Nat) (Option.some (Jvm.ClassFile.FieldType.object "WheelBrook$Wheel"))) ∈ lw_all := lw_g (lw_at lw_m2 131 rfl) rfl
theorem q454 : (Jvm.Cond.classLink "WheelBrook$House" (88 : Nat) "WheelBrook$Wheel") ∈ lw_all := lw_g (lw_at lw_m2 132 rfl) rfl
theorem q489 : (Jvm.Cond.instanceMethod ({ cls := "WheelBrook$House", name := "forceNow", desc := "()I" } : Jvm.MethodName)) ∈ lw_all := lw_g (lw_at lw_m2 167 rfl) rfl
theorem q490 : (Jvm.Cond.selects "WheelBrook$House" ({ cls := "WheelBrook$House", name := "forceNow", desc := "()I" } : Jvm.MethodName) ({ cls := "WheelBrook$House", name := "forceNow", desc := "()I" } : Jvm.MethodName)) ∈ lw_all := lw_g (lw_at lw_m2 168 rfl) rfl
theorem q491 : (Jvm.Cond.code ({ cls := "WheelBrook$House", name := "forceNow", desc := "()I" } : Jvm.MethodName) prog_8_method_4_code (1 : Nat) (Option.some Jvm.ClassFile.FieldType.int)) ∈ lw_all := lw_g (lw_at lw_m2 169 rfl) rfl
theorem q950 : (Jvm.Cond.instanceMethod ({ cls := "WheelBrook$House", name := "turns", desc := "(II)V" } : Jvm.MethodName)) ∈ lw_all := lw_g (lw_at lw_m4 148 rfl) rfl
theorem q951 : (Jvm.Cond.selects "WheelBrook$House" ({ cls := "WheelBrook$House", name := "turns", desc := "(II)V" } : Jvm.MethodName) ({ cls := "WheelBrook$House", name := "turns", desc := "(II)V" } : Jvm.MethodName)) ∈ lw_all := lw_g (lw_at lw_m4 149 rfl) rfl
theorem q952 : (Jvm.Cond.code ({ cls := "WheelBrook$House", name := "turns", desc := "(II)V" } : Jvm.MethodName) prog_8_method_5_code (3 : Nat) (Option.none : Option Jvm.ClassFile.FieldType)) ∈ lw_all := lw_g (lw_at lw_m4 150 rfl) rfl
theorem q953 : (Jvm.Cond.constant "WheelBrook$House" (90 : Nat) (999999 : Int32)) ∈ lw_all := lw_g (lw_at lw_m4 151 rfl) rfl
theorem q954 : (Jvm.Cond.methodLink "WheelBrook$House" (91 : Nat) ({ cls := "java/lang/Math", name := "min", desc := "(II)I" } : Jvm.MethodName)) ∈ lw_all := lw_g (lw_at lw_m4 152 rfl) rfl
theorem q956 : (Jvm.Cond.instanceMethod ({ cls := "WheelBrook$House", name := "allPrayed", desc := "()I" } : Jvm.MethodName)) ∈ lw_all := lw_g (lw_at lw_m4 154 rfl) rfl
theorem q957 : (Jvm.Cond.selects "WheelBrook$House" ({ cls := "WheelBrook$House", name := "allPrayed", desc := "()I" } : Jvm.MethodName) ({ cls := "WheelBrook$House", name := "allPrayed", desc := "()I" } : Jvm.MethodName)) ∈ lw_all := lw_g (lw_at lw_m4 155 rfl) rfl
theorem q958 : (Jvm.Cond.code ({ cls := "WheelBrook$House", name := "allPrayed", desc := "()I" } : Jvm.MethodName) prog_8_method_8_code (3 : Nat) (Option.some Jvm.ClassFile.FieldType.int)) ∈ lw_all := lw_g (lw_at lw_m4 156 rfl) rfl
theorem q964 : (Jvm.Cond.instanceMethod ({ cls := "WheelBrook$House", name := "drawn", desc := "()I" } : Jvm.MethodName)) ∈ lw_all := lw_g (lw_at lw_m4 162 rfl) rfl
theorem q965 : (Jvm.Cond.selects "WheelBrook$House" ({ cls := "WheelBrook$House", name := "drawn", desc := "()I" } : Jvm.MethodName) ({ cls := "WheelBrook$House", name := "drawn", desc := "()I" } : Jvm.MethodName)) ∈ lw_all := lw_g (lw_at lw_m4 163 rfl) rfl
theorem q966 : (Jvm.Cond.code ({ cls := "WheelBrook$House", name := "drawn", desc := "()I" } : Jvm.MethodName) prog_8_method_9_code (1 : Nat) (Option.some Jvm.ClassFile.FieldType.int)) ∈ lw_all := lw_g (lw_at lw_m4 164 rfl) rfl
theorem q967 : (Jvm.Cond.constant "WheelBrook$House" (101 : Nat) (1103515245 : Int32)) ∈ lw_all := lw_g (lw_at lw_m4 165 rfl) rfl
theorem q996 : (Jvm.Cond.instanceMethod ({ cls := "WheelBrook$House", name := "become", desc := "(LWheelBrook$House;)V" } : Jvm.MethodName)) ∈ lw_all := lw_g (lw_at lw_m4 194 rfl) rfl
theorem q997 : (Jvm.Cond.selects "WheelBrook$House" ({ cls := "WheelBrook$House", name := "become", desc := "(LWheelBrook$House;)V" } : Jvm.MethodName) ({ cls := "WheelBrook$House", name := "become", desc := "(LWheelBrook$House;)V" } : Jvm.MethodName)) ∈ lw_all := lw_g (lw_at lw_m4 195 rfl) rfl
theorem q998 : (Jvm.Cond.code ({ cls := "WheelBrook$House", name := "become", desc := "(LWheelBrook$House;)V" } : Jvm.MethodName) prog_8_method_2_code (3 : Nat) (Option.none : Option Jvm.ClassFile.FieldType)) ∈ lw_all := lw_g (lw_at lw_m4 196 rfl) rfl
theorem q999 : (Jvm.Cond.methodLink "WheelBrook$House" (78 : Nat) ({ cls := "java/lang/System", name := "arraycopy", desc := "(Ljava/lang/Object;ILjava/lang/Object;II)V" } : Jvm.MethodName)) ∈ lw_all := lw_g (lw_at lw_m4 197 rfl) rfl
theorem q1023 : (Jvm.Cond.instanceMethod ({ cls := "WheelBrook$House", name := "areAllPaid", desc := "()Z" } : Jvm.MethodName)) ∈ lw_all := lw_g (lw_at lw_m4 221 rfl) rfl
theorem q1024 : (Jvm.Cond.selects "WheelBrook$House" ({ cls := "WheelBrook$House", name := "areAllPaid", desc := "()Z" } : Jvm.MethodName) ({ cls := "WheelBrook$House", name := "areAllPaid", desc := "()Z" } : Jvm.MethodName)) ∈ lw_all := lw_g (lw_at lw_m4 222 rfl) rfl
theorem q1025 : (Jvm.Cond.code ({ cls := "WheelBrook$House", name := "areAllPaid", desc := "()Z" } : Jvm.MethodName) prog_8_method_7_code (3 : Nat) (Option.some Jvm.ClassFile.FieldType.boolean)) ∈ lw_all := lw_g (lw_at lw_m4 223 rfl) rfl
theorem q1026 : (Jvm.Cond.methodLink "WheelBrook$House" (97 : Nat) ({ cls := "WheelBrook$House", name := "isPaid", desc := "(I)Z" } : Jvm.MethodName)) ∈ lw_all := lw_g (lw_at lw_m4 224 rfl) rfl
theorem in_X1 : ∀ w ∈ wsX10, w ∈ lw_all := lw_in wsX10 [184, 186, 188, 190, 192, 194, 196, 198, 200, 202, 204, 206, 208, 210, 212, 214, 216, 218, 220] (by decide +kernel) (by decide +kernel)

/-! WheelBrook$Slot -/
set_option maxRecDepth 100000
def RX2 : String := "WheelBrook$Slot"
def TX2 : u_T := fun k => match k with
  | _ => ("WheelBrook$Slot", "held", "Ljava/lang/Object;", false)
def tyX2 : Nat → FieldType := fun k => match k with
  | _ => .object "java/lang/Object"
abbrev wsX20 : List Cond := u_ws RX2 TX2 1
theorem nmX2 : ∀ a, a < 1 → ∀ b, b < 1 → a ≠ b → (TX2 a).2.1 ≠ (TX2 b).2.1 := by decide +kernel
theorem tyX2_ok : ∀ k, k < 1 → parseFieldDescriptor (TX2 k).2.2.1 = some (tyX2 k) := by decide +kernel
abbrev cX2_init : ByteArray := prog_12_method_1_code
def yX2_init : MethodName := ⟨RX2, "<init>", "()V"⟩
theorem dX2_init_0 : decode cX2_init 0 = .ok (.aload_n 0, 1) := by decide +kernel
theorem dX2_init_1 : decode cX2_init 1 = .ok (.invokespecial 1, 3) := by decide +kernel
theorem dX2_init_4 : decode cX2_init 4 = .ok (.return_, 1) := by decide +kernel
theorem q85 : (Jvm.Cond.initialized "WheelBrook$Slot") ∈ lw_all := lw_g (lw_at lw_m1 3 rfl) rfl
theorem q130 : (Jvm.Cond.instantiable "WheelBrook$Slot" (1 : Nat)) ∈ lw_all := lw_g (lw_at lw_m1 48 rfl) rfl
theorem q132 : (Jvm.Cond.instanceMethod ({ cls := "WheelBrook$Slot", name := "<init>", desc := "()V" } : Jvm.MethodName)) ∈ lw_all := lw_g (lw_at lw_m1 50 rfl) rfl
theorem q133 : (Jvm.Cond.code ({ cls := "WheelBrook$Slot", name := "<init>", desc := "()V" } : Jvm.MethodName) prog_12_method_1_code (1 : Nat) (Option.none : Option Jvm.ClassFile.FieldType)) ∈ lw_all := lw_g (lw_at lw_m1 51 rfl) rfl
theorem q134 : (Jvm.Cond.methodLink "WheelBrook$Slot" (1 : Nat) ({ cls := "java/lang/Object", name := "<init>", desc := "()V" } : Jvm.MethodName)) ∈ lw_all := lw_g (lw_at lw_m1 52 rfl) rfl
theorem q137 : (Jvm.Cond.lays "WheelBrook$Slot" "WheelBrook$Slot" "held" "Ljava/lang/Object;") ∈ lw_all := lw_g (lw_at lw_m1 55 rfl) rfl
theorem q138 : (Jvm.Cond.soleField "WheelBrook$Slot" "held") ∈ lw_all := lw_g (lw_at lw_m1 56 rfl) rfl
theorem q139 : (Jvm.Cond.superclass "WheelBrook$Slot" "java/lang/Object") ∈ lw_all := lw_g (lw_at lw_m1 57 rfl) rfl
theorem in_X2 : ∀ w ∈ wsX20, w ∈ lw_all := lw_in wsX20 [137] (by decide +kernel) (by decide +kernel)

/-! WheelBrook$Trace -/
set_option maxRecDepth 100000
def RX3 : String := "WheelBrook$Trace"
def TX3 : u_T := fun k => match k with
  | 0 => ("WheelBrook$Trace", "bodies", "[B", true)
  | _ => ("WheelBrook$Trace", "many", "I", false)
def tyX3 : Nat → FieldType := fun k => match k with
  | 0 => .array .byte
  | _ => .int
abbrev wsX30 : List Cond := u_ws RX3 TX3 2
theorem nmX3 : ∀ a, a < 2 → ∀ b, b < 2 → a ≠ b → (TX3 a).2.1 ≠ (TX3 b).2.1 := by decide +kernel
theorem tyX3_ok : ∀ k, k < 2 → parseFieldDescriptor (TX3 k).2.2.1 = some (tyX3 k) := by decide +kernel
abbrev cX3_init : ByteArray := prog_16_method_1_code
def yX3_init : MethodName := ⟨RX3, "<init>", "()V"⟩
def dkwX3_init_0 : List UInt8 := [42, 183, 0, 3, 42, 16, 30, 188, 8, 181, 0, 9, 177]
abbrev dktX3_init_0 : List UInt8 := dkwX3_init_0 ++ []
theorem dksX3_init_0 : cX3_init.data.toList.drop 0 = dktX3_init_0 := by decide +kernel
theorem dX3_init_0 : decode cX3_init 0 = .ok (.aload_n 0, 1) := dk_42 (dk_at dksX3_init_0 0 rfl rfl)
theorem dX3_init_1 : decode cX3_init 1 = .ok (.invokespecial 3, 3) := dk_183 0 3 (dk_at dksX3_init_0 1 rfl rfl)
theorem dX3_init_4 : decode cX3_init 4 = .ok (.aload_n 0, 1) := dk_42 (dk_at dksX3_init_0 4 rfl rfl)
theorem dX3_init_5 : decode cX3_init 5 = .ok (.bipush 30, 2) := dk_16 30 (dk_at dksX3_init_0 5 rfl rfl)
theorem dX3_init_7 : decode cX3_init 7 = .ok (.newarray .byte, 2) := dk_188_8 (dk_at dksX3_init_0 7 rfl rfl)
theorem dX3_init_9 : decode cX3_init 9 = .ok (.putfield 9, 3) := dk_181 0 9 (dk_at dksX3_init_0 9 rfl rfl)
theorem dX3_init_12 : decode cX3_init 12 = .ok (.return_, 1) := dk_177 (dk_at dksX3_init_0 12 rfl rfl)
abbrev cX3_ran : ByteArray := prog_16_method_2_code
def yX3_ran : MethodName := ⟨RX3, "ran", "(I)V"⟩
def dkwX3_ran_1 : List UInt8 := [27, 145, 84, 177]
abbrev dktX3_ran_1 : List UInt8 := dkwX3_ran_1 ++ []
def dkwX3_ran_0 : List UInt8 := [42, 180, 0, 15, 16, 30, 162, 0, 21, 42, 180, 0, 9, 42, 89, 180, 0, 15, 90, 4, 96, 181, 0, 15]
abbrev dktX3_ran_0 : List UInt8 := dkwX3_ran_0 ++ dktX3_ran_1
theorem dksX3_ran_0 : cX3_ran.data.toList.drop 0 = dktX3_ran_0 := by decide +kernel
theorem dksX3_ran_1 : cX3_ran.data.toList.drop 24 = dktX3_ran_1 := dk_seg dksX3_ran_0 24 rfl rfl
theorem dX3_ran_0 : decode cX3_ran 0 = .ok (.aload_n 0, 1) := dk_42 (dk_at dksX3_ran_0 0 rfl rfl)
theorem dX3_ran_1 : decode cX3_ran 1 = .ok (.getfield 15, 3) := dk_180 0 15 (dk_at dksX3_ran_0 1 rfl rfl)
theorem dX3_ran_4 : decode cX3_ran 4 = .ok (.bipush 30, 2) := dk_16 30 (dk_at dksX3_ran_0 4 rfl rfl)
theorem dX3_ran_6 : decode cX3_ran 6 = .ok (.if_icmp .ge 21, 3) := dk_162 0 21 (dk_at dksX3_ran_0 6 rfl rfl)
theorem dX3_ran_9 : decode cX3_ran 9 = .ok (.aload_n 0, 1) := dk_42 (dk_at dksX3_ran_0 9 rfl rfl)
theorem dX3_ran_10 : decode cX3_ran 10 = .ok (.getfield 9, 3) := dk_180 0 9 (dk_at dksX3_ran_0 10 rfl rfl)
theorem dX3_ran_13 : decode cX3_ran 13 = .ok (.aload_n 0, 1) := dk_42 (dk_at dksX3_ran_0 13 rfl rfl)
theorem dX3_ran_14 : decode cX3_ran 14 = .ok (.dup, 1) := dk_89 (dk_at dksX3_ran_0 14 rfl rfl)
theorem dX3_ran_15 : decode cX3_ran 15 = .ok (.getfield 15, 3) := dk_180 0 15 (dk_at dksX3_ran_0 15 rfl rfl)
theorem dX3_ran_18 : decode cX3_ran 18 = .ok (.dup_x1, 1) := dk_90 (dk_at dksX3_ran_0 18 rfl rfl)
theorem dX3_ran_19 : decode cX3_ran 19 = .ok (.iconst 1, 1) := dk_4 (dk_at dksX3_ran_0 19 rfl rfl)
theorem dX3_ran_20 : decode cX3_ran 20 = .ok (.iadd, 1) := dk_96 (dk_at dksX3_ran_0 20 rfl rfl)
theorem dX3_ran_21 : decode cX3_ran 21 = .ok (.putfield 15, 3) := dk_181 0 15 (dk_at dksX3_ran_0 21 rfl rfl)
theorem dX3_ran_24 : decode cX3_ran 24 = .ok (.iload_n 1, 1) := dk_27 (dk_at dksX3_ran_1 0 rfl rfl)
theorem dX3_ran_25 : decode cX3_ran 25 = .ok (.i2b, 1) := dk_145 (dk_at dksX3_ran_1 1 rfl rfl)
theorem dX3_ran_26 : decode cX3_ran 26 = .ok (.bastore, 1) := dk_84 (dk_at dksX3_ran_1 2 rfl rfl)
theorem dX3_ran_27 : decode cX3_ran 27 = .ok (.return_, 1) := dk_177 (dk_at dksX3_ran_1 3 rfl rfl)
theorem q86 : (Jvm.Cond.initialized "WheelBrook$Trace") ∈ lw_all := lw_g (lw_at lw_m1 4 rfl) rfl
theorem q224 : (Jvm.Cond.instantiable "WheelBrook$Trace" (2 : Nat)) ∈ lw_all := lw_g (lw_at lw_m1 142 rfl) rfl
theorem q226 : (Jvm.Cond.instanceMethod ({ cls := "WheelBrook$Trace", name := "<init>", desc := "()V" } : Jvm.MethodName)) ∈ lw_all := lw_g (lw_at lw_m1 144 rfl) rfl
theorem q227 : (Jvm.Cond.code ({ cls := "WheelBrook$Trace", name := "<init>", desc := "()V" } : Jvm.MethodName) prog_16_method_1_code (1 : Nat) (Option.none : Option Jvm.ClassFile.FieldType)) ∈ lw_all := lw_g (lw_at lw_m1 145 rfl) rfl
theorem q228 : (Jvm.Cond.methodLink "WheelBrook$Trace" (3 : Nat) ({ cls := "java/lang/Object", name := "<init>", desc := "()V" } : Jvm.MethodName)) ∈ lw_all := lw_g (lw_at lw_m1 146 rfl) rfl
theorem q229 : (Jvm.Cond.fieldLink "WheelBrook$Trace" (9 : Nat) "WheelBrook$Trace" "bodies" "[B") ∈ lw_all := lw_g (lw_at lw_m1 147 rfl) rfl
theorem q231 : (Jvm.Cond.fieldLink "WheelBrook$Trace" (15 : Nat) "WheelBrook$Trace" "many" "I") ∈ lw_all := lw_g (lw_at lw_m1 149 rfl) rfl
theorem q233 : (Jvm.Cond.laysFinal "WheelBrook$Trace" "WheelBrook$Trace" "bodies" "[B") ∈ lw_all := lw_g (lw_at lw_m1 151 rfl) rfl
theorem q234 : (Jvm.Cond.soleField "WheelBrook$Trace" "bodies") ∈ lw_all := lw_g (lw_at lw_m1 152 rfl) rfl
theorem q235 : (Jvm.Cond.lays "WheelBrook$Trace" "WheelBrook$Trace" "many" "I") ∈ lw_all := lw_g (lw_at lw_m1 153 rfl) rfl
theorem q236 : (Jvm.Cond.soleField "WheelBrook$Trace" "many") ∈ lw_all := lw_g (lw_at lw_m1 154 rfl) rfl
theorem q237 : (Jvm.Cond.superclass "WheelBrook$Trace" "java/lang/Object") ∈ lw_all := lw_g (lw_at lw_m1 155 rfl) rfl
theorem q1103 : (Jvm.Cond.instanceMethod ({ cls := "WheelBrook$Trace", name := "ran", desc := "(I)V" } : Jvm.MethodName)) ∈ lw_all := lw_g (lw_at lw_m5 61 rfl) rfl
theorem q1104 : (Jvm.Cond.selects "WheelBrook$Trace" ({ cls := "WheelBrook$Trace", name := "ran", desc := "(I)V" } : Jvm.MethodName) ({ cls := "WheelBrook$Trace", name := "ran", desc := "(I)V" } : Jvm.MethodName)) ∈ lw_all := lw_g (lw_at lw_m5 62 rfl) rfl
theorem q1105 : (Jvm.Cond.code ({ cls := "WheelBrook$Trace", name := "ran", desc := "(I)V" } : Jvm.MethodName) prog_16_method_2_code (2 : Nat) (Option.none : Option Jvm.ClassFile.FieldType)) ∈ lw_all := lw_g (lw_at lw_m5 63 rfl) rfl
theorem in_X3 : ∀ w ∈ wsX30, w ∈ lw_all := lw_in wsX30 [233, 235] (by decide +kernel) (by decide +kernel)

/-! WheelBrook$Eyes -/
set_option maxRecDepth 100000
def RX4 : String := "WheelBrook$Eyes"
def TX4 : u_T := fun k => match k with
  | _ => ("WheelBrook$Eyes", "this$0", "LWheelBrook;", true)
def tyX4 : Nat → FieldType := fun k => match k with
  | _ => .object "WheelBrook"
abbrev wsX40 : List Cond := u_ws RX4 TX4 1
theorem nmX4 : ∀ a, a < 1 → ∀ b, b < 1 → a ≠ b → (TX4 a).2.1 ≠ (TX4 b).2.1 := by decide +kernel
theorem tyX4_ok : ∀ k, k < 1 → parseFieldDescriptor (TX4 k).2.2.1 = some (tyX4 k) := by decide +kernel
abbrev cX4_init : ByteArray := prog_3_method_1_code
def yX4_init : MethodName := ⟨RX4, "<init>", "(LWheelBrook;)V"⟩
def dkwX4_init_0 : List UInt8 := [42, 43, 181, 0, 3, 42, 183, 0, 9, 177]
abbrev dktX4_init_0 : List UInt8 := dkwX4_init_0 ++ []
theorem dksX4_init_0 : cX4_init.data.toList.drop 0 = dktX4_init_0 := by decide +kernel
theorem dX4_init_0 : decode cX4_init 0 = .ok (.aload_n 0, 1) := dk_42 (dk_at dksX4_init_0 0 rfl rfl)
theorem dX4_init_1 : decode cX4_init 1 = .ok (.aload_n 1, 1) := dk_43 (dk_at dksX4_init_0 1 rfl rfl)
theorem dX4_init_2 : decode cX4_init 2 = .ok (.putfield 3, 3) := dk_181 0 3 (dk_at dksX4_init_0 2 rfl rfl)
theorem dX4_init_5 : decode cX4_init 5 = .ok (.aload_n 0, 1) := dk_42 (dk_at dksX4_init_0 5 rfl rfl)
theorem dX4_init_6 : decode cX4_init 6 = .ok (.invokespecial 9, 3) := dk_183 0 9 (dk_at dksX4_init_0 6 rfl rfl)
theorem dX4_init_9 : decode cX4_init 9 = .ok (.return_, 1) := dk_177 (dk_at dksX4_init_0 9 rfl rfl)
abbrev cX4_takes : ByteArray := prog_3_method_2_code
def yX4_takes : MethodName := ⟨RX4, "takes", "(II)I"⟩
def dkwX4_takes_4 : List UInt8 := [42, 180, 0, 3, 42, 180, 0, 3, 180, 0, 15, 180, 0, 19, 3, 50, 182, 0, 46, 172]
abbrev dktX4_takes_4 : List UInt8 := dkwX4_takes_4 ++ []
def dkwX4_takes_3 : List UInt8 := [79, 42, 180, 0, 3, 180, 0, 25, 6, 42, 180, 0, 3, 180, 0, 15, 27, 182, 0, 37, 180, 0, 41, 79]
abbrev dktX4_takes_3 : List UInt8 := dkwX4_takes_3 ++ dktX4_takes_4
def dkwX4_takes_2 : List UInt8 := [27, 51, 79, 42, 180, 0, 3, 180, 0, 25, 5, 42, 180, 0, 3, 180, 0, 15, 180, 0, 33, 16, 24, 112]
abbrev dktX4_takes_2 : List UInt8 := dkwX4_takes_2 ++ dktX4_takes_3
def dkwX4_takes_1 : List UInt8 := [180, 0, 25, 3, 28, 79, 42, 180, 0, 3, 180, 0, 25, 4, 42, 180, 0, 3, 180, 0, 15, 180, 0, 29]
abbrev dktX4_takes_1 : List UInt8 := dkwX4_takes_1 ++ dktX4_takes_2
def dkwX4_takes_0 : List UInt8 := [42, 180, 0, 3, 180, 0, 15, 180, 0, 19, 3, 50, 199, 0, 7, 28, 5, 108, 172, 42, 180, 0, 3]
abbrev dktX4_takes_0 : List UInt8 := dkwX4_takes_0 ++ dktX4_takes_1
theorem dksX4_takes_0 : cX4_takes.data.toList.drop 0 = dktX4_takes_0 := by decide +kernel
theorem dksX4_takes_1 : cX4_takes.data.toList.drop 23 = dktX4_takes_1 := dk_seg dksX4_takes_0 23 rfl rfl
theorem dksX4_takes_2 : cX4_takes.data.toList.drop 47 = dktX4_takes_2 := dk_seg dksX4_takes_1 24 rfl rfl
theorem dksX4_takes_3 : cX4_takes.data.toList.drop 71 = dktX4_takes_3 := dk_seg dksX4_takes_2 24 rfl rfl
theorem dksX4_takes_4 : cX4_takes.data.toList.drop 95 = dktX4_takes_4 := dk_seg dksX4_takes_3 24 rfl rfl
theorem dX4_takes_0 : decode cX4_takes 0 = .ok (.aload_n 0, 1) := dk_42 (dk_at dksX4_takes_0 0 rfl rfl)
theorem dX4_takes_1 : decode cX4_takes 1 = .ok (.getfield 3, 3) := dk_180 0 3 (dk_at dksX4_takes_0 1 rfl rfl)
theorem dX4_takes_4 : decode cX4_takes 4 = .ok (.getfield 15, 3) := dk_180 0 15 (dk_at dksX4_takes_0 4 rfl rfl)
theorem dX4_takes_7 : decode cX4_takes 7 = .ok (.getfield 19, 3) := dk_180 0 19 (dk_at dksX4_takes_0 7 rfl rfl)
theorem dX4_takes_10 : decode cX4_takes 10 = .ok (.iconst 0, 1) := dk_3 (dk_at dksX4_takes_0 10 rfl rfl)
theorem dX4_takes_11 : decode cX4_takes 11 = .ok (.aaload, 1) := dk_50 (dk_at dksX4_takes_0 11 rfl rfl)
theorem dX4_takes_12 : decode cX4_takes 12 = .ok (.ifnonnull 7, 3) := dk_199 0 7 (dk_at dksX4_takes_0 12 rfl rfl)
theorem dX4_takes_15 : decode cX4_takes 15 = .ok (.iload_n 2, 1) := dk_28 (dk_at dksX4_takes_0 15 rfl rfl)
theorem dX4_takes_16 : decode cX4_takes 16 = .ok (.iconst 2, 1) := dk_5 (dk_at dksX4_takes_0 16 rfl rfl)
theorem dX4_takes_17 : decode cX4_takes 17 = .ok (.idiv, 1) := dk_108 (dk_at dksX4_takes_0 17 rfl rfl)
theorem dX4_takes_18 : decode cX4_takes 18 = .ok (.ireturn, 1) := dk_172 (dk_at dksX4_takes_0 18 rfl rfl)
theorem dX4_takes_19 : decode cX4_takes 19 = .ok (.aload_n 0, 1) := dk_42 (dk_at dksX4_takes_0 19 rfl rfl)
theorem dX4_takes_20 : decode cX4_takes 20 = .ok (.getfield 3, 3) := dk_180 0 3 (dk_at dksX4_takes_0 20 rfl rfl)
theorem dX4_takes_23 : decode cX4_takes 23 = .ok (.getfield 25, 3) := dk_180 0 25 (dk_at dksX4_takes_1 0 rfl rfl)
theorem dX4_takes_26 : decode cX4_takes 26 = .ok (.iconst 0, 1) := dk_3 (dk_at dksX4_takes_1 3 rfl rfl)
theorem dX4_takes_27 : decode cX4_takes 27 = .ok (.iload_n 2, 1) := dk_28 (dk_at dksX4_takes_1 4 rfl rfl)
theorem dX4_takes_28 : decode cX4_takes 28 = .ok (.iastore, 1) := dk_79 (dk_at dksX4_takes_1 5 rfl rfl)
theorem dX4_takes_29 : decode cX4_takes 29 = .ok (.aload_n 0, 1) := dk_42 (dk_at dksX4_takes_1 6 rfl rfl)
theorem dX4_takes_30 : decode cX4_takes 30 = .ok (.getfield 3, 3) := dk_180 0 3 (dk_at dksX4_takes_1 7 rfl rfl)
theorem dX4_takes_33 : decode cX4_takes 33 = .ok (.getfield 25, 3) := dk_180 0 25 (dk_at dksX4_takes_1 10 rfl rfl)
theorem dX4_takes_36 : decode cX4_takes 36 = .ok (.iconst 1, 1) := dk_4 (dk_at dksX4_takes_1 13 rfl rfl)
theorem dX4_takes_37 : decode cX4_takes 37 = .ok (.aload_n 0, 1) := dk_42 (dk_at dksX4_takes_1 14 rfl rfl)
theorem dX4_takes_38 : decode cX4_takes 38 = .ok (.getfield 3, 3) := dk_180 0 3 (dk_at dksX4_takes_1 15 rfl rfl)
theorem dX4_takes_41 : decode cX4_takes 41 = .ok (.getfield 15, 3) := dk_180 0 15 (dk_at dksX4_takes_1 18 rfl rfl)
theorem dX4_takes_44 : decode cX4_takes 44 = .ok (.getfield 29, 3) := dk_180 0 29 (dk_at dksX4_takes_1 21 rfl rfl)
theorem dX4_takes_47 : decode cX4_takes 47 = .ok (.iload_n 1, 1) := dk_27 (dk_at dksX4_takes_2 0 rfl rfl)
theorem dX4_takes_48 : decode cX4_takes 48 = .ok (.baload, 1) := dk_51 (dk_at dksX4_takes_2 1 rfl rfl)
theorem dX4_takes_49 : decode cX4_takes 49 = .ok (.iastore, 1) := dk_79 (dk_at dksX4_takes_2 2 rfl rfl)
theorem dX4_takes_50 : decode cX4_takes 50 = .ok (.aload_n 0, 1) := dk_42 (dk_at dksX4_takes_2 3 rfl rfl)
theorem dX4_takes_51 : decode cX4_takes 51 = .ok (.getfield 3, 3) := dk_180 0 3 (dk_at dksX4_takes_2 4 rfl rfl)
theorem dX4_takes_54 : decode cX4_takes 54 = .ok (.getfield 25, 3) := dk_180 0 25 (dk_at dksX4_takes_2 7 rfl rfl)
theorem dX4_takes_57 : decode cX4_takes 57 = .ok (.iconst 2, 1) := dk_5 (dk_at dksX4_takes_2 10 rfl rfl)
theorem dX4_takes_58 : decode cX4_takes 58 = .ok (.aload_n 0, 1) := dk_42 (dk_at dksX4_takes_2 11 rfl rfl)
theorem dX4_takes_59 : decode cX4_takes 59 = .ok (.getfield 3, 3) := dk_180 0 3 (dk_at dksX4_takes_2 12 rfl rfl)
theorem dX4_takes_62 : decode cX4_takes 62 = .ok (.getfield 15, 3) := dk_180 0 15 (dk_at dksX4_takes_2 15 rfl rfl)
theorem dX4_takes_65 : decode cX4_takes 65 = .ok (.getfield 33, 3) := dk_180 0 33 (dk_at dksX4_takes_2 18 rfl rfl)
theorem dX4_takes_68 : decode cX4_takes 68 = .ok (.bipush 24, 2) := dk_16 24 (dk_at dksX4_takes_2 21 rfl rfl)
theorem dX4_takes_70 : decode cX4_takes 70 = .ok (.irem, 1) := dk_112 (dk_at dksX4_takes_2 23 rfl rfl)
theorem dX4_takes_71 : decode cX4_takes 71 = .ok (.iastore, 1) := dk_79 (dk_at dksX4_takes_3 0 rfl rfl)
theorem dX4_takes_72 : decode cX4_takes 72 = .ok (.aload_n 0, 1) := dk_42 (dk_at dksX4_takes_3 1 rfl rfl)
theorem dX4_takes_73 : decode cX4_takes 73 = .ok (.getfield 3, 3) := dk_180 0 3 (dk_at dksX4_takes_3 2 rfl rfl)
theorem dX4_takes_76 : decode cX4_takes 76 = .ok (.getfield 25, 3) := dk_180 0 25 (dk_at dksX4_takes_3 5 rfl rfl)
theorem dX4_takes_79 : decode cX4_takes 79 = .ok (.iconst 3, 1) := dk_6 (dk_at dksX4_takes_3 8 rfl rfl)
theorem dX4_takes_80 : decode cX4_takes 80 = .ok (.aload_n 0, 1) := dk_42 (dk_at dksX4_takes_3 9 rfl rfl)
theorem dX4_takes_81 : decode cX4_takes 81 = .ok (.getfield 3, 3) := dk_180 0 3 (dk_at dksX4_takes_3 10 rfl rfl)
theorem dX4_takes_84 : decode cX4_takes 84 = .ok (.getfield 15, 3) := dk_180 0 15 (dk_at dksX4_takes_3 13 rfl rfl)
theorem dX4_takes_87 : decode cX4_takes 87 = .ok (.iload_n 1, 1) := dk_27 (dk_at dksX4_takes_3 16 rfl rfl)
theorem dX4_takes_88 : decode cX4_takes 88 = .ok (.invokevirtual 37, 3) := dk_182 0 37 (dk_at dksX4_takes_3 17 rfl rfl)
theorem dX4_takes_91 : decode cX4_takes 91 = .ok (.getfield 41, 3) := dk_180 0 41 (dk_at dksX4_takes_3 20 rfl rfl)
theorem dX4_takes_94 : decode cX4_takes 94 = .ok (.iastore, 1) := dk_79 (dk_at dksX4_takes_3 23 rfl rfl)
theorem dX4_takes_95 : decode cX4_takes 95 = .ok (.aload_n 0, 1) := dk_42 (dk_at dksX4_takes_4 0 rfl rfl)
theorem dX4_takes_96 : decode cX4_takes 96 = .ok (.getfield 3, 3) := dk_180 0 3 (dk_at dksX4_takes_4 1 rfl rfl)
theorem dX4_takes_99 : decode cX4_takes 99 = .ok (.aload_n 0, 1) := dk_42 (dk_at dksX4_takes_4 4 rfl rfl)
theorem dX4_takes_100 : decode cX4_takes 100 = .ok (.getfield 3, 3) := dk_180 0 3 (dk_at dksX4_takes_4 5 rfl rfl)
theorem dX4_takes_103 : decode cX4_takes 103 = .ok (.getfield 15, 3) := dk_180 0 15 (dk_at dksX4_takes_4 8 rfl rfl)
theorem dX4_takes_106 : decode cX4_takes 106 = .ok (.getfield 19, 3) := dk_180 0 19 (dk_at dksX4_takes_4 11 rfl rfl)
theorem dX4_takes_109 : decode cX4_takes 109 = .ok (.iconst 0, 1) := dk_3 (dk_at dksX4_takes_4 14 rfl rfl)
theorem dX4_takes_110 : decode cX4_takes 110 = .ok (.aaload, 1) := dk_50 (dk_at dksX4_takes_4 15 rfl rfl)
theorem dX4_takes_111 : decode cX4_takes 111 = .ok (.invokevirtual 46, 3) := dk_182 0 46 (dk_at dksX4_takes_4 16 rfl rfl)
theorem dX4_takes_114 : decode cX4_takes 114 = .ok (.ireturn, 1) := dk_172 (dk_at dksX4_takes_4 19 rfl rfl)
abbrev cX4_turns : ByteArray := prog_3_method_3_code
def yX4_turns : MethodName := ⟨RX4, "turns", "(II)I"⟩
def dkwX4_turns_3 : List UInt8 := [180, 0, 3, 42, 180, 0, 3, 180, 0, 15, 180, 0, 19, 4, 50, 182, 0, 46, 172]
abbrev dktX4_turns_3 : List UInt8 := dkwX4_turns_3 ++ []
def dkwX4_turns_2 : List UInt8 := [42, 180, 0, 3, 180, 0, 25, 5, 42, 180, 0, 3, 180, 0, 15, 27, 182, 0, 37, 180, 0, 41, 79, 42]
abbrev dktX4_turns_2 : List UInt8 := dkwX4_turns_2 ++ dktX4_turns_3
def dkwX4_turns_1 : List UInt8 := [3, 28, 79, 42, 180, 0, 3, 180, 0, 25, 4, 42, 180, 0, 3, 180, 0, 15, 180, 0, 50, 27, 46, 79]
abbrev dktX4_turns_1 : List UInt8 := dkwX4_turns_1 ++ dktX4_turns_2
def dkwX4_turns_0 : List UInt8 := [42, 180, 0, 3, 180, 0, 15, 180, 0, 19, 4, 50, 199, 0, 5, 28, 172, 42, 180, 0, 3, 180, 0, 25]
abbrev dktX4_turns_0 : List UInt8 := dkwX4_turns_0 ++ dktX4_turns_1
theorem dksX4_turns_0 : cX4_turns.data.toList.drop 0 = dktX4_turns_0 := by decide +kernel
theorem dksX4_turns_1 : cX4_turns.data.toList.drop 24 = dktX4_turns_1 := dk_seg dksX4_turns_0 24 rfl rfl
theorem dksX4_turns_2 : cX4_turns.data.toList.drop 48 = dktX4_turns_2 := dk_seg dksX4_turns_1 24 rfl rfl
theorem dksX4_turns_3 : cX4_turns.data.toList.drop 72 = dktX4_turns_3 := dk_seg dksX4_turns_2 24 rfl rfl
theorem dX4_turns_0 : decode cX4_turns 0 = .ok (.aload_n 0, 1) := dk_42 (dk_at dksX4_turns_0 0 rfl rfl)
theorem dX4_turns_1 : decode cX4_turns 1 = .ok (.getfield 3, 3) := dk_180 0 3 (dk_at dksX4_turns_0 1 rfl rfl)
theorem dX4_turns_4 : decode cX4_turns 4 = .ok (.getfield 15, 3) := dk_180 0 15 (dk_at dksX4_turns_0 4 rfl rfl)
theorem dX4_turns_7 : decode cX4_turns 7 = .ok (.getfield 19, 3) := dk_180 0 19 (dk_at dksX4_turns_0 7 rfl rfl)
theorem dX4_turns_10 : decode cX4_turns 10 = .ok (.iconst 1, 1) := dk_4 (dk_at dksX4_turns_0 10 rfl rfl)
theorem dX4_turns_11 : decode cX4_turns 11 = .ok (.aaload, 1) := dk_50 (dk_at dksX4_turns_0 11 rfl rfl)
theorem dX4_turns_12 : decode cX4_turns 12 = .ok (.ifnonnull 5, 3) := dk_199 0 5 (dk_at dksX4_turns_0 12 rfl rfl)
theorem dX4_turns_15 : decode cX4_turns 15 = .ok (.iload_n 2, 1) := dk_28 (dk_at dksX4_turns_0 15 rfl rfl)
theorem dX4_turns_16 : decode cX4_turns 16 = .ok (.ireturn, 1) := dk_172 (dk_at dksX4_turns_0 16 rfl rfl)
theorem dX4_turns_17 : decode cX4_turns 17 = .ok (.aload_n 0, 1) := dk_42 (dk_at dksX4_turns_0 17 rfl rfl)
theorem dX4_turns_18 : decode cX4_turns 18 = .ok (.getfield 3, 3) := dk_180 0 3 (dk_at dksX4_turns_0 18 rfl rfl)
theorem dX4_turns_21 : decode cX4_turns 21 = .ok (.getfield 25, 3) := dk_180 0 25 (dk_at dksX4_turns_0 21 rfl rfl)
theorem dX4_turns_24 : decode cX4_turns 24 = .ok (.iconst 0, 1) := dk_3 (dk_at dksX4_turns_1 0 rfl rfl)
theorem dX4_turns_25 : decode cX4_turns 25 = .ok (.iload_n 2, 1) := dk_28 (dk_at dksX4_turns_1 1 rfl rfl)
theorem dX4_turns_26 : decode cX4_turns 26 = .ok (.iastore, 1) := dk_79 (dk_at dksX4_turns_1 2 rfl rfl)
theorem dX4_turns_27 : decode cX4_turns 27 = .ok (.aload_n 0, 1) := dk_42 (dk_at dksX4_turns_1 3 rfl rfl)
theorem dX4_turns_28 : decode cX4_turns 28 = .ok (.getfield 3, 3) := dk_180 0 3 (dk_at dksX4_turns_1 4 rfl rfl)
theorem dX4_turns_31 : decode cX4_turns 31 = .ok (.getfield 25, 3) := dk_180 0 25 (dk_at dksX4_turns_1 7 rfl rfl)
theorem dX4_turns_34 : decode cX4_turns 34 = .ok (.iconst 1, 1) := dk_4 (dk_at dksX4_turns_1 10 rfl rfl)
theorem dX4_turns_35 : decode cX4_turns 35 = .ok (.aload_n 0, 1) := dk_42 (dk_at dksX4_turns_1 11 rfl rfl)
theorem dX4_turns_36 : decode cX4_turns 36 = .ok (.getfield 3, 3) := dk_180 0 3 (dk_at dksX4_turns_1 12 rfl rfl)
theorem dX4_turns_39 : decode cX4_turns 39 = .ok (.getfield 15, 3) := dk_180 0 15 (dk_at dksX4_turns_1 15 rfl rfl)
theorem dX4_turns_42 : decode cX4_turns 42 = .ok (.getfield 50, 3) := dk_180 0 50 (dk_at dksX4_turns_1 18 rfl rfl)
theorem dX4_turns_45 : decode cX4_turns 45 = .ok (.iload_n 1, 1) := dk_27 (dk_at dksX4_turns_1 21 rfl rfl)
theorem dX4_turns_46 : decode cX4_turns 46 = .ok (.iaload, 1) := dk_46 (dk_at dksX4_turns_1 22 rfl rfl)
theorem dX4_turns_47 : decode cX4_turns 47 = .ok (.iastore, 1) := dk_79 (dk_at dksX4_turns_1 23 rfl rfl)
theorem dX4_turns_48 : decode cX4_turns 48 = .ok (.aload_n 0, 1) := dk_42 (dk_at dksX4_turns_2 0 rfl rfl)
theorem dX4_turns_49 : decode cX4_turns 49 = .ok (.getfield 3, 3) := dk_180 0 3 (dk_at dksX4_turns_2 1 rfl rfl)
theorem dX4_turns_52 : decode cX4_turns 52 = .ok (.getfield 25, 3) := dk_180 0 25 (dk_at dksX4_turns_2 4 rfl rfl)
theorem dX4_turns_55 : decode cX4_turns 55 = .ok (.iconst 2, 1) := dk_5 (dk_at dksX4_turns_2 7 rfl rfl)
theorem dX4_turns_56 : decode cX4_turns 56 = .ok (.aload_n 0, 1) := dk_42 (dk_at dksX4_turns_2 8 rfl rfl)
theorem dX4_turns_57 : decode cX4_turns 57 = .ok (.getfield 3, 3) := dk_180 0 3 (dk_at dksX4_turns_2 9 rfl rfl)
theorem dX4_turns_60 : decode cX4_turns 60 = .ok (.getfield 15, 3) := dk_180 0 15 (dk_at dksX4_turns_2 12 rfl rfl)
theorem dX4_turns_63 : decode cX4_turns 63 = .ok (.iload_n 1, 1) := dk_27 (dk_at dksX4_turns_2 15 rfl rfl)
theorem dX4_turns_64 : decode cX4_turns 64 = .ok (.invokevirtual 37, 3) := dk_182 0 37 (dk_at dksX4_turns_2 16 rfl rfl)
theorem dX4_turns_67 : decode cX4_turns 67 = .ok (.getfield 41, 3) := dk_180 0 41 (dk_at dksX4_turns_2 19 rfl rfl)
theorem dX4_turns_70 : decode cX4_turns 70 = .ok (.iastore, 1) := dk_79 (dk_at dksX4_turns_2 22 rfl rfl)
theorem dX4_turns_71 : decode cX4_turns 71 = .ok (.aload_n 0, 1) := dk_42 (dk_at dksX4_turns_2 23 rfl rfl)
theorem dX4_turns_72 : decode cX4_turns 72 = .ok (.getfield 3, 3) := dk_180 0 3 (dk_at dksX4_turns_3 0 rfl rfl)
theorem dX4_turns_75 : decode cX4_turns 75 = .ok (.aload_n 0, 1) := dk_42 (dk_at dksX4_turns_3 3 rfl rfl)
theorem dX4_turns_76 : decode cX4_turns 76 = .ok (.getfield 3, 3) := dk_180 0 3 (dk_at dksX4_turns_3 4 rfl rfl)
theorem dX4_turns_79 : decode cX4_turns 79 = .ok (.getfield 15, 3) := dk_180 0 15 (dk_at dksX4_turns_3 7 rfl rfl)
theorem dX4_turns_82 : decode cX4_turns 82 = .ok (.getfield 19, 3) := dk_180 0 19 (dk_at dksX4_turns_3 10 rfl rfl)
theorem dX4_turns_85 : decode cX4_turns 85 = .ok (.iconst 1, 1) := dk_4 (dk_at dksX4_turns_3 13 rfl rfl)
theorem dX4_turns_86 : decode cX4_turns 86 = .ok (.aaload, 1) := dk_50 (dk_at dksX4_turns_3 14 rfl rfl)
theorem dX4_turns_87 : decode cX4_turns 87 = .ok (.invokevirtual 46, 3) := dk_182 0 46 (dk_at dksX4_turns_3 15 rfl rfl)
theorem dX4_turns_90 : decode cX4_turns 90 = .ok (.ireturn, 1) := dk_172 (dk_at dksX4_turns_3 18 rfl rfl)
theorem q87 : (Jvm.Cond.initialized "WheelBrook$Eyes") ∈ lw_all := lw_g (lw_at lw_m1 5 rfl) rfl
theorem q145 : (Jvm.Cond.fieldLinkNest "WheelBrook$Eyes" (33 : Nat) "WheelBrook$House" "hour" "I" "WheelBrook") ∈ lw_tbl := lw_at lw_m1 63 rfl
theorem q166 : (Jvm.Cond.fieldLinkNest "WheelBrook$Eyes" (29 : Nat) "WheelBrook$House" "place" "[B" "WheelBrook") ∈ lw_tbl := lw_at lw_m1 84 rfl
theorem q173 : (Jvm.Cond.fieldLinkNest "WheelBrook$Eyes" (50 : Nat) "WheelBrook$House" "counter" "[I" "WheelBrook") ∈ lw_tbl := lw_at lw_m1 91 rfl
theorem q178 : (Jvm.Cond.fieldLinkNest "WheelBrook$Eyes" (19 : Nat) "WheelBrook$House" "texts" "[LWheelBrook$Text;" "WheelBrook") ∈ lw_tbl := lw_at lw_m1 96 rfl
theorem q241 : (Jvm.Cond.instantiable "WheelBrook$Eyes" (1 : Nat)) ∈ lw_all := lw_g (lw_at lw_m1 159 rfl) rfl
theorem q243 : (Jvm.Cond.instanceMethod ({ cls := "WheelBrook$Eyes", name := "<init>", desc := "(LWheelBrook;)V" } : Jvm.MethodName)) ∈ lw_all := lw_g (lw_at lw_m1 161 rfl) rfl
theorem q244 : (Jvm.Cond.code ({ cls := "WheelBrook$Eyes", name := "<init>", desc := "(LWheelBrook;)V" } : Jvm.MethodName) prog_3_method_1_code (2 : Nat) (Option.none : Option Jvm.ClassFile.FieldType)) ∈ lw_all := lw_g (lw_at lw_m1 162 rfl) rfl
theorem q245 : (Jvm.Cond.methodLink "WheelBrook$Eyes" (9 : Nat) ({ cls := "java/lang/Object", name := "<init>", desc := "()V" } : Jvm.MethodName)) ∈ lw_all := lw_g (lw_at lw_m1 163 rfl) rfl
theorem q246 : (Jvm.Cond.fieldLink "WheelBrook$Eyes" (3 : Nat) "WheelBrook$Eyes" "this$0" "LWheelBrook;") ∈ lw_all := lw_g (lw_at lw_m1 164 rfl) rfl
theorem q247 : (Jvm.Cond.laysFinal "WheelBrook$Eyes" "WheelBrook$Eyes" "this$0" "LWheelBrook;") ∈ lw_all := lw_g (lw_at lw_m1 165 rfl) rfl
theorem q248 : (Jvm.Cond.soleField "WheelBrook$Eyes" "this$0") ∈ lw_all := lw_g (lw_at lw_m1 166 rfl) rfl
theorem q249 : (Jvm.Cond.superclass "WheelBrook$Eyes" "java/lang/Object") ∈ lw_all := lw_g (lw_at lw_m1 167 rfl) rfl
theorem q251 : (Jvm.Cond.fieldLinkNest "WheelBrook$Eyes" (25 : Nat) "WheelBrook" "named" "[I" "WheelBrook") ∈ lw_tbl := lw_at lw_m1 169 rfl
theorem q253 : (Jvm.Cond.fieldLinkNest "WheelBrook$Eyes" (15 : Nat) "WheelBrook" "house" "LWheelBrook$House;" "WheelBrook") ∈ lw_tbl := lw_at lw_m1 171 rfl
theorem q374 : (Jvm.Cond.fieldLink "WheelBrook$Eyes" (41 : Nat) "WheelBrook$Wheel" "m" "I") ∈ lw_all := lw_g (lw_at lw_m2 52 rfl) rfl
theorem q539 : (Jvm.Cond.castable "WheelBrook$Eyes" "WheelBrook$Sees") ∈ lw_tbl := lw_at lw_m2 217 rfl
theorem q540 : (Jvm.Cond.selects "WheelBrook$Eyes" ({ cls := "WheelBrook$Sees", name := "takes", desc := "(II)I" } : Jvm.MethodName) ({ cls := "WheelBrook$Eyes", name := "takes", desc := "(II)I" } : Jvm.MethodName)) ∈ lw_all := lw_g (lw_at lw_m2 218 rfl) rfl
theorem q541 : (Jvm.Cond.unhidden "WheelBrook$Eyes" "takes" "(II)I") ∈ lw_tbl := lw_at lw_m2 219 rfl
theorem q542 : (Jvm.Cond.instanceMethod ({ cls := "WheelBrook$Eyes", name := "takes", desc := "(II)I" } : Jvm.MethodName)) ∈ lw_all := lw_g (lw_at lw_m2 220 rfl) rfl
theorem q543 : (Jvm.Cond.publicMethod ({ cls := "WheelBrook$Eyes", name := "takes", desc := "(II)I" } : Jvm.MethodName)) ∈ lw_tbl := lw_at lw_m2 221 rfl
theorem q544 : (Jvm.Cond.code ({ cls := "WheelBrook$Eyes", name := "takes", desc := "(II)I" } : Jvm.MethodName) prog_3_method_2_code (3 : Nat) (Option.some Jvm.ClassFile.FieldType.int)) ∈ lw_all := lw_g (lw_at lw_m2 222 rfl) rfl
theorem q545 : (Jvm.Cond.methodLink "WheelBrook$Eyes" (37 : Nat) ({ cls := "WheelBrook$House", name := "at", desc := "(I)LWheelBrook$Wheel;" } : Jvm.MethodName)) ∈ lw_all := lw_g (lw_at lw_m2 223 rfl) rfl
theorem q546 : (Jvm.Cond.methodLinkNest "WheelBrook$Eyes" (46 : Nat) ({ cls := "WheelBrook", name := "worked", desc := "(LWheelBrook$Text;)I" } : Jvm.MethodName) "WheelBrook") ∈ lw_tbl := lw_at lw_m2 224 rfl
theorem q604 : (Jvm.Cond.selects "WheelBrook$Eyes" ({ cls := "WheelBrook$Sees", name := "turns", desc := "(II)I" } : Jvm.MethodName) ({ cls := "WheelBrook$Eyes", name := "turns", desc := "(II)I" } : Jvm.MethodName)) ∈ lw_all := lw_g (lw_at lw_m3 42 rfl) rfl
theorem q605 : (Jvm.Cond.unhidden "WheelBrook$Eyes" "turns" "(II)I") ∈ lw_tbl := lw_at lw_m3 43 rfl
theorem q606 : (Jvm.Cond.instanceMethod ({ cls := "WheelBrook$Eyes", name := "turns", desc := "(II)I" } : Jvm.MethodName)) ∈ lw_all := lw_g (lw_at lw_m3 44 rfl) rfl
theorem q607 : (Jvm.Cond.publicMethod ({ cls := "WheelBrook$Eyes", name := "turns", desc := "(II)I" } : Jvm.MethodName)) ∈ lw_tbl := lw_at lw_m3 45 rfl
theorem q608 : (Jvm.Cond.code ({ cls := "WheelBrook$Eyes", name := "turns", desc := "(II)I" } : Jvm.MethodName) prog_3_method_3_code (3 : Nat) (Option.some Jvm.ClassFile.FieldType.int)) ∈ lw_all := lw_g (lw_at lw_m3 46 rfl) rfl
theorem in_X4 : ∀ w ∈ wsX40, w ∈ lw_all := lw_in wsX40 [247] (by decide +kernel) (by decide +kernel)

/-! WheelBrook$Wheel -/
set_option maxRecDepth 100000
def RX6 : String := "WheelBrook$Wheel"
def TX6 : u_T := fun k => match k with
  | 0 => ("WheelBrook$Wheel", "number", "I", true)
  | _ => ("WheelBrook$Wheel", "m", "I", true)
def tyX6 : Nat → FieldType := fun k => match k with
  | 0 => .int
  | _ => .int
abbrev wsX60 : List Cond := u_ws RX6 TX6 2
theorem nmX6 : ∀ a, a < 2 → ∀ b, b < 2 → a ≠ b → (TX6 a).2.1 ≠ (TX6 b).2.1 := by decide +kernel
theorem tyX6_ok : ∀ k, k < 2 → parseFieldDescriptor (TX6 k).2.2.1 = some (tyX6 k) := by decide +kernel
abbrev cX6_init : ByteArray := prog_18_method_1_code
def yX6_init : MethodName := ⟨RX6, "<init>", "(II)V"⟩
def dkwX6_init_0 : List UInt8 := [42, 183, 0, 1, 42, 27, 181, 0, 7, 42, 28, 181, 0, 13, 177]
abbrev dktX6_init_0 : List UInt8 := dkwX6_init_0 ++ []
theorem dksX6_init_0 : cX6_init.data.toList.drop 0 = dktX6_init_0 := by decide +kernel
theorem dX6_init_0 : decode cX6_init 0 = .ok (.aload_n 0, 1) := dk_42 (dk_at dksX6_init_0 0 rfl rfl)
theorem dX6_init_1 : decode cX6_init 1 = .ok (.invokespecial 1, 3) := dk_183 0 1 (dk_at dksX6_init_0 1 rfl rfl)
theorem dX6_init_4 : decode cX6_init 4 = .ok (.aload_n 0, 1) := dk_42 (dk_at dksX6_init_0 4 rfl rfl)
theorem dX6_init_5 : decode cX6_init 5 = .ok (.iload_n 1, 1) := dk_27 (dk_at dksX6_init_0 5 rfl rfl)
theorem dX6_init_6 : decode cX6_init 6 = .ok (.putfield 7, 3) := dk_181 0 7 (dk_at dksX6_init_0 6 rfl rfl)
theorem dX6_init_9 : decode cX6_init 9 = .ok (.aload_n 0, 1) := dk_42 (dk_at dksX6_init_0 9 rfl rfl)
theorem dX6_init_10 : decode cX6_init 10 = .ok (.iload_n 2, 1) := dk_28 (dk_at dksX6_init_0 10 rfl rfl)
theorem dX6_init_11 : decode cX6_init 11 = .ok (.putfield 13, 3) := dk_181 0 13 (dk_at dksX6_init_0 11 rfl rfl)
theorem dX6_init_14 : decode cX6_init 14 = .ok (.return_, 1) := dk_177 (dk_at dksX6_init_0 14 rfl rfl)
abbrev cX6_kind : ByteArray := prog_18_method_2_code
def yX6_kind : MethodName := ⟨RX6, "kind", "()I"⟩
theorem dX6_kind_0 : decode cX6_kind 0 = .ok (.iconst 0, 1) := by decide +kernel
theorem dX6_kind_1 : decode cX6_kind 1 = .ok (.ireturn, 1) := by decide +kernel
abbrev cX6_flows : ByteArray := prog_18_method_3_code
def yX6_flows : MethodName := ⟨RX6, "flows", "(ILWheelBrook$Trace;)I"⟩
def dkwX6_flows_0 : List UInt8 := [44, 16, 10, 182, 0, 16, 27, 42, 180, 0, 7, 96, 172]
abbrev dktX6_flows_0 : List UInt8 := dkwX6_flows_0 ++ []
theorem dksX6_flows_0 : cX6_flows.data.toList.drop 0 = dktX6_flows_0 := by decide +kernel
theorem dX6_flows_0 : decode cX6_flows 0 = .ok (.aload_n 2, 1) := dk_44 (dk_at dksX6_flows_0 0 rfl rfl)
theorem dX6_flows_1 : decode cX6_flows 1 = .ok (.bipush 10, 2) := dk_16 10 (dk_at dksX6_flows_0 1 rfl rfl)
theorem dX6_flows_3 : decode cX6_flows 3 = .ok (.invokevirtual 16, 3) := dk_182 0 16 (dk_at dksX6_flows_0 3 rfl rfl)
theorem dX6_flows_6 : decode cX6_flows 6 = .ok (.iload_n 1, 1) := dk_27 (dk_at dksX6_flows_0 6 rfl rfl)
theorem dX6_flows_7 : decode cX6_flows 7 = .ok (.aload_n 0, 1) := dk_42 (dk_at dksX6_flows_0 7 rfl rfl)
theorem dX6_flows_8 : decode cX6_flows 8 = .ok (.getfield 7, 3) := dk_180 0 7 (dk_at dksX6_flows_0 8 rfl rfl)
theorem dX6_flows_11 : decode cX6_flows 11 = .ok (.iadd, 1) := dk_96 (dk_at dksX6_flows_0 11 rfl rfl)
theorem dX6_flows_12 : decode cX6_flows 12 = .ok (.ireturn, 1) := dk_172 (dk_at dksX6_flows_0 12 rfl rfl)
abbrev cX6_prays : ByteArray := prog_18_method_4_code
def yX6_prays : MethodName := ⟨RX6, "prays", "(ILWheelBrook$Trace;)I"⟩
def dkwX6_prays_0 : List UInt8 := [44, 16, 12, 182, 0, 16, 42, 27, 44, 182, 0, 22, 42, 180, 0, 13, 100, 172]
abbrev dktX6_prays_0 : List UInt8 := dkwX6_prays_0 ++ []
theorem dksX6_prays_0 : cX6_prays.data.toList.drop 0 = dktX6_prays_0 := by decide +kernel
theorem dX6_prays_0 : decode cX6_prays 0 = .ok (.aload_n 2, 1) := dk_44 (dk_at dksX6_prays_0 0 rfl rfl)
theorem dX6_prays_1 : decode cX6_prays 1 = .ok (.bipush 12, 2) := dk_16 12 (dk_at dksX6_prays_0 1 rfl rfl)
theorem dX6_prays_3 : decode cX6_prays 3 = .ok (.invokevirtual 16, 3) := dk_182 0 16 (dk_at dksX6_prays_0 3 rfl rfl)
theorem dX6_prays_6 : decode cX6_prays 6 = .ok (.aload_n 0, 1) := dk_42 (dk_at dksX6_prays_0 6 rfl rfl)
theorem dX6_prays_7 : decode cX6_prays 7 = .ok (.iload_n 1, 1) := dk_27 (dk_at dksX6_prays_0 7 rfl rfl)
theorem dX6_prays_8 : decode cX6_prays 8 = .ok (.aload_n 2, 1) := dk_44 (dk_at dksX6_prays_0 8 rfl rfl)
theorem dX6_prays_9 : decode cX6_prays 9 = .ok (.invokevirtual 22, 3) := dk_182 0 22 (dk_at dksX6_prays_0 9 rfl rfl)
theorem dX6_prays_12 : decode cX6_prays 12 = .ok (.aload_n 0, 1) := dk_42 (dk_at dksX6_prays_0 12 rfl rfl)
theorem dX6_prays_13 : decode cX6_prays 13 = .ok (.getfield 13, 3) := dk_180 0 13 (dk_at dksX6_prays_0 13 rfl rfl)
theorem dX6_prays_16 : decode cX6_prays 16 = .ok (.isub, 1) := dk_100 (dk_at dksX6_prays_0 16 rfl rfl)
theorem dX6_prays_17 : decode cX6_prays 17 = .ok (.ireturn, 1) := dk_172 (dk_at dksX6_prays_0 17 rfl rfl)
abbrev cX6_parts : ByteArray := prog_18_method_5_code
def yX6_parts : MethodName := ⟨RX6, "parts", "(ILWheelBrook$Trace;)I"⟩
def dkwX6_parts_0 : List UInt8 := [44, 16, 13, 182, 0, 16, 27, 42, 180, 0, 13, 42, 180, 0, 7, 100, 108, 172]
abbrev dktX6_parts_0 : List UInt8 := dkwX6_parts_0 ++ []
theorem dksX6_parts_0 : cX6_parts.data.toList.drop 0 = dktX6_parts_0 := by decide +kernel
theorem dX6_parts_0 : decode cX6_parts 0 = .ok (.aload_n 2, 1) := dk_44 (dk_at dksX6_parts_0 0 rfl rfl)
theorem dX6_parts_1 : decode cX6_parts 1 = .ok (.bipush 13, 2) := dk_16 13 (dk_at dksX6_parts_0 1 rfl rfl)
theorem dX6_parts_3 : decode cX6_parts 3 = .ok (.invokevirtual 16, 3) := dk_182 0 16 (dk_at dksX6_parts_0 3 rfl rfl)
theorem dX6_parts_6 : decode cX6_parts 6 = .ok (.iload_n 1, 1) := dk_27 (dk_at dksX6_parts_0 6 rfl rfl)
theorem dX6_parts_7 : decode cX6_parts 7 = .ok (.aload_n 0, 1) := dk_42 (dk_at dksX6_parts_0 7 rfl rfl)
theorem dX6_parts_8 : decode cX6_parts 8 = .ok (.getfield 13, 3) := dk_180 0 13 (dk_at dksX6_parts_0 8 rfl rfl)
theorem dX6_parts_11 : decode cX6_parts 11 = .ok (.aload_n 0, 1) := dk_42 (dk_at dksX6_parts_0 11 rfl rfl)
theorem dX6_parts_12 : decode cX6_parts 12 = .ok (.getfield 7, 3) := dk_180 0 7 (dk_at dksX6_parts_0 12 rfl rfl)
theorem dX6_parts_15 : decode cX6_parts 15 = .ok (.isub, 1) := dk_100 (dk_at dksX6_parts_0 15 rfl rfl)
theorem dX6_parts_16 : decode cX6_parts 16 = .ok (.idiv, 1) := dk_108 (dk_at dksX6_parts_0 16 rfl rfl)
theorem dX6_parts_17 : decode cX6_parts 17 = .ok (.ireturn, 1) := dk_172 (dk_at dksX6_parts_0 17 rfl rfl)
theorem q89 : (Jvm.Cond.initialized "WheelBrook$Wheel") ∈ lw_all := lw_g (lw_at lw_m1 7 rfl) rfl
theorem q365 : (Jvm.Cond.instanceMethod ({ cls := "WheelBrook$Wheel", name := "<init>", desc := "(II)V" } : Jvm.MethodName)) ∈ lw_all := lw_g (lw_at lw_m2 43 rfl) rfl
theorem q366 : (Jvm.Cond.code ({ cls := "WheelBrook$Wheel", name := "<init>", desc := "(II)V" } : Jvm.MethodName) prog_18_method_1_code (3 : Nat) (Option.none : Option Jvm.ClassFile.FieldType)) ∈ lw_all := lw_g (lw_at lw_m2 44 rfl) rfl
theorem q367 : (Jvm.Cond.methodLink "WheelBrook$Wheel" (1 : Nat) ({ cls := "java/lang/Object", name := "<init>", desc := "()V" } : Jvm.MethodName)) ∈ lw_all := lw_g (lw_at lw_m2 45 rfl) rfl
theorem q368 : (Jvm.Cond.fieldLink "WheelBrook$Wheel" (7 : Nat) "WheelBrook$Wheel" "number" "I") ∈ lw_all := lw_g (lw_at lw_m2 46 rfl) rfl
theorem q373 : (Jvm.Cond.fieldLink "WheelBrook$Wheel" (13 : Nat) "WheelBrook$Wheel" "m" "I") ∈ lw_all := lw_g (lw_at lw_m2 51 rfl) rfl
theorem q383 : (Jvm.Cond.soleField "WheelBrook$Wheel" "number") ∈ lw_all := lw_g (lw_at lw_m2 61 rfl) rfl
theorem q385 : (Jvm.Cond.soleField "WheelBrook$Wheel" "m") ∈ lw_all := lw_g (lw_at lw_m2 63 rfl) rfl
theorem q433 : (Jvm.Cond.instantiable "WheelBrook$Wheel" (2 : Nat)) ∈ lw_all := lw_g (lw_at lw_m2 111 rfl) rfl
theorem q435 : (Jvm.Cond.laysFinal "WheelBrook$Wheel" "WheelBrook$Wheel" "number" "I") ∈ lw_all := lw_g (lw_at lw_m2 113 rfl) rfl
theorem q436 : (Jvm.Cond.laysFinal "WheelBrook$Wheel" "WheelBrook$Wheel" "m" "I") ∈ lw_all := lw_g (lw_at lw_m2 114 rfl) rfl
theorem q437 : (Jvm.Cond.superclass "WheelBrook$Wheel" "java/lang/Object") ∈ lw_all := lw_g (lw_at lw_m2 115 rfl) rfl
theorem q456 : (Jvm.Cond.instanceMethod ({ cls := "WheelBrook$Wheel", name := "kind", desc := "()I" } : Jvm.MethodName)) ∈ lw_all := lw_g (lw_at lw_m2 134 rfl) rfl
theorem q457 : (Jvm.Cond.selects "WheelBrook$Wheel" ({ cls := "WheelBrook$Wheel", name := "kind", desc := "()I" } : Jvm.MethodName) ({ cls := "WheelBrook$Wheel", name := "kind", desc := "()I" } : Jvm.MethodName)) ∈ lw_all := lw_g (lw_at lw_m2 135 rfl) rfl
theorem q458 : (Jvm.Cond.sameMethod "WheelBrook$Wheel" "WheelBrook$Wheel" "kind" "()I") ∈ lw_all := lw_g (lw_at lw_m2 136 rfl) rfl
theorem q483 : (Jvm.Cond.code ({ cls := "WheelBrook$Wheel", name := "kind", desc := "()I" } : Jvm.MethodName) prog_18_method_2_code (1 : Nat) (Option.some Jvm.ClassFile.FieldType.int)) ∈ lw_all := lw_g (lw_at lw_m2 161 rfl) rfl
theorem q553 : (Jvm.Cond.castable "WheelBrook$Wheel" "WheelBrook$Wants") ∈ lw_tbl := lw_at lw_m2 231 rfl
theorem q554 : (Jvm.Cond.unhidden "WheelBrook$Wheel" "wants" "(LWheelBrook$Sees;I)I") ∈ lw_tbl := lw_at lw_m2 232 rfl
theorem q609 : (Jvm.Cond.unhidden "WheelBrook$Wheel" "turnsBy" "(LWheelBrook$Sees;I)I") ∈ lw_tbl := lw_at lw_m3 47 rfl
theorem q642 : (Jvm.Cond.unhidden "WheelBrook$Wheel" "shows" "(LWheelBrook$Sees;I)I") ∈ lw_tbl := lw_at lw_m3 80 rfl
theorem q1093 : (Jvm.Cond.instanceMethod ({ cls := "WheelBrook$Wheel", name := "flows", desc := "(ILWheelBrook$Trace;)I" } : Jvm.MethodName)) ∈ lw_all := lw_g (lw_at lw_m5 51 rfl) rfl
theorem q1094 : (Jvm.Cond.selects "WheelBrook$Wheel" ({ cls := "WheelBrook$Wheel", name := "flows", desc := "(ILWheelBrook$Trace;)I" } : Jvm.MethodName) ({ cls := "WheelBrook$Wheel", name := "flows", desc := "(ILWheelBrook$Trace;)I" } : Jvm.MethodName)) ∈ lw_all := lw_g (lw_at lw_m5 52 rfl) rfl
theorem q1095 : (Jvm.Cond.sameMethod "WheelBrook$Wheel" "WheelBrook$Wheel" "flows" "(ILWheelBrook$Trace;)I") ∈ lw_all := lw_g (lw_at lw_m5 53 rfl) rfl
theorem q1116 : (Jvm.Cond.code ({ cls := "WheelBrook$Wheel", name := "flows", desc := "(ILWheelBrook$Trace;)I" } : Jvm.MethodName) prog_18_method_3_code (3 : Nat) (Option.some Jvm.ClassFile.FieldType.int)) ∈ lw_all := lw_g (lw_at lw_m5 74 rfl) rfl
theorem q1117 : (Jvm.Cond.methodLink "WheelBrook$Wheel" (16 : Nat) ({ cls := "WheelBrook$Trace", name := "ran", desc := "(I)V" } : Jvm.MethodName)) ∈ lw_all := lw_g (lw_at lw_m5 75 rfl) rfl
theorem q1134 : (Jvm.Cond.publicMethod ({ cls := "WheelBrook$Wheel", name := "flows", desc := "(ILWheelBrook$Trace;)I" } : Jvm.MethodName)) ∈ lw_tbl := lw_at lw_m5 92 rfl
theorem q1153 : (Jvm.Cond.castable "WheelBrook$Wheel" "WheelBrook$Flows") ∈ lw_tbl := lw_at lw_m5 111 rfl
theorem q1154 : (Jvm.Cond.selects "WheelBrook$Wheel" ({ cls := "WheelBrook$Flows", name := "flows", desc := "(ILWheelBrook$Trace;)I" } : Jvm.MethodName) ({ cls := "WheelBrook$Wheel", name := "flows", desc := "(ILWheelBrook$Trace;)I" } : Jvm.MethodName)) ∈ lw_all := lw_g (lw_at lw_m5 112 rfl) rfl
theorem q1155 : (Jvm.Cond.unhidden "WheelBrook$Wheel" "flows" "(ILWheelBrook$Trace;)I") ∈ lw_tbl := lw_at lw_m5 113 rfl
theorem q1165 : (Jvm.Cond.unhidden "WheelBrook$Wheel" "turned" "(ILWheelBrook$Trace;)I") ∈ lw_tbl := lw_at lw_m5 123 rfl
theorem q1168 : (Jvm.Cond.instanceMethod ({ cls := "WheelBrook$Wheel", name := "prays", desc := "(ILWheelBrook$Trace;)I" } : Jvm.MethodName)) ∈ lw_all := lw_g (lw_at lw_m5 126 rfl) rfl
theorem q1169 : (Jvm.Cond.selects "WheelBrook$Wheel" ({ cls := "WheelBrook$Wheel", name := "prays", desc := "(ILWheelBrook$Trace;)I" } : Jvm.MethodName) ({ cls := "WheelBrook$Wheel", name := "prays", desc := "(ILWheelBrook$Trace;)I" } : Jvm.MethodName)) ∈ lw_all := lw_g (lw_at lw_m5 127 rfl) rfl
theorem q1170 : (Jvm.Cond.sameMethod "WheelBrook$Wheel" "WheelBrook$Wheel" "prays" "(ILWheelBrook$Trace;)I") ∈ lw_all := lw_g (lw_at lw_m5 128 rfl) rfl
theorem q1183 : (Jvm.Cond.declares ({ cls := "WheelBrook$Wheel", name := "prays", desc := "(ILWheelBrook$Trace;)I" } : Jvm.MethodName)) ∈ lw_tbl := lw_at lw_m5 141 rfl
theorem q1186 : (Jvm.Cond.code ({ cls := "WheelBrook$Wheel", name := "prays", desc := "(ILWheelBrook$Trace;)I" } : Jvm.MethodName) prog_18_method_4_code (3 : Nat) (Option.some Jvm.ClassFile.FieldType.int)) ∈ lw_all := lw_g (lw_at lw_m5 144 rfl) rfl
theorem q1188 : (Jvm.Cond.instanceMethod ({ cls := "WheelBrook$Wheel", name := "parts", desc := "(ILWheelBrook$Trace;)I" } : Jvm.MethodName)) ∈ lw_all := lw_g (lw_at lw_m5 146 rfl) rfl
theorem q1189 : (Jvm.Cond.selects "WheelBrook$Wheel" ({ cls := "WheelBrook$Wheel", name := "parts", desc := "(ILWheelBrook$Trace;)I" } : Jvm.MethodName) ({ cls := "WheelBrook$Wheel", name := "parts", desc := "(ILWheelBrook$Trace;)I" } : Jvm.MethodName)) ∈ lw_all := lw_g (lw_at lw_m5 147 rfl) rfl
theorem q1190 : (Jvm.Cond.sameMethod "WheelBrook$Wheel" "WheelBrook$Wheel" "parts" "(ILWheelBrook$Trace;)I") ∈ lw_all := lw_g (lw_at lw_m5 148 rfl) rfl
theorem q1200 : (Jvm.Cond.code ({ cls := "WheelBrook$Wheel", name := "parts", desc := "(ILWheelBrook$Trace;)I" } : Jvm.MethodName) prog_18_method_5_code (3 : Nat) (Option.some Jvm.ClassFile.FieldType.int)) ∈ lw_all := lw_g (lw_at lw_m5 158 rfl) rfl
theorem in_X6 : ∀ w ∈ wsX60, w ∈ lw_all := lw_in wsX60 [435, 436] (by decide +kernel) (by decide +kernel)

/-! WheelBrook$Slow -/
set_option maxRecDepth 100000
def RX7 : String := "WheelBrook$Slow"
def TX7 : u_T := fun k => match k with
  | 0 => ("WheelBrook$Wheel", "number", "I", true)
  | _ => ("WheelBrook$Wheel", "m", "I", true)
def tyX7 : Nat → FieldType := fun k => match k with
  | 0 => .int
  | _ => .int
abbrev wsX70 : List Cond := u_ws RX7 TX7 2
theorem nmX7 : ∀ a, a < 2 → ∀ b, b < 2 → a ≠ b → (TX7 a).2.1 ≠ (TX7 b).2.1 := by decide +kernel
theorem tyX7_ok : ∀ k, k < 2 → parseFieldDescriptor (TX7 k).2.2.1 = some (tyX7 k) := by decide +kernel
abbrev cX7_init : ByteArray := prog_13_method_1_code
def yX7_init : MethodName := ⟨RX7, "<init>", "(II)V"⟩
def dkwX7_init_0 : List UInt8 := [42, 27, 28, 183, 0, 3, 177]
abbrev dktX7_init_0 : List UInt8 := dkwX7_init_0 ++ []
theorem dksX7_init_0 : cX7_init.data.toList.drop 0 = dktX7_init_0 := by decide +kernel
theorem dX7_init_0 : decode cX7_init 0 = .ok (.aload_n 0, 1) := dk_42 (dk_at dksX7_init_0 0 rfl rfl)
theorem dX7_init_1 : decode cX7_init 1 = .ok (.iload_n 1, 1) := dk_27 (dk_at dksX7_init_0 1 rfl rfl)
theorem dX7_init_2 : decode cX7_init 2 = .ok (.iload_n 2, 1) := dk_28 (dk_at dksX7_init_0 2 rfl rfl)
theorem dX7_init_3 : decode cX7_init 3 = .ok (.invokespecial 3, 3) := dk_183 0 3 (dk_at dksX7_init_0 3 rfl rfl)
theorem dX7_init_6 : decode cX7_init 6 = .ok (.return_, 1) := dk_177 (dk_at dksX7_init_0 6 rfl rfl)
abbrev cX7_kind : ByteArray := prog_13_method_2_code
def yX7_kind : MethodName := ⟨RX7, "kind", "()I"⟩
def dkwX7_kind_0 : List UInt8 := [42, 183, 0, 9, 4, 96, 172]
abbrev dktX7_kind_0 : List UInt8 := dkwX7_kind_0 ++ []
theorem dksX7_kind_0 : cX7_kind.data.toList.drop 0 = dktX7_kind_0 := by decide +kernel
theorem dX7_kind_0 : decode cX7_kind 0 = .ok (.aload_n 0, 1) := dk_42 (dk_at dksX7_kind_0 0 rfl rfl)
theorem dX7_kind_1 : decode cX7_kind 1 = .ok (.invokespecial 9, 3) := dk_183 0 9 (dk_at dksX7_kind_0 1 rfl rfl)
theorem dX7_kind_4 : decode cX7_kind 4 = .ok (.iconst 1, 1) := dk_4 (dk_at dksX7_kind_0 4 rfl rfl)
theorem dX7_kind_5 : decode cX7_kind 5 = .ok (.iadd, 1) := dk_96 (dk_at dksX7_kind_0 5 rfl rfl)
theorem dX7_kind_6 : decode cX7_kind 6 = .ok (.ireturn, 1) := dk_172 (dk_at dksX7_kind_0 6 rfl rfl)
abbrev cX7_wants : ByteArray := prog_13_method_3_code
def yX7_wants : MethodName := ⟨RX7, "wants", "(LWheelBrook$Sees;I)I"⟩
def dkwX7_wants_0 : List UInt8 := [42, 43, 28, 183, 0, 13, 42, 180, 0, 17, 96, 172]
abbrev dktX7_wants_0 : List UInt8 := dkwX7_wants_0 ++ []
theorem dksX7_wants_0 : cX7_wants.data.toList.drop 0 = dktX7_wants_0 := by decide +kernel
theorem dX7_wants_0 : decode cX7_wants 0 = .ok (.aload_n 0, 1) := dk_42 (dk_at dksX7_wants_0 0 rfl rfl)
theorem dX7_wants_1 : decode cX7_wants 1 = .ok (.aload_n 1, 1) := dk_43 (dk_at dksX7_wants_0 1 rfl rfl)
theorem dX7_wants_2 : decode cX7_wants 2 = .ok (.iload_n 2, 1) := dk_28 (dk_at dksX7_wants_0 2 rfl rfl)
theorem dX7_wants_3 : decode cX7_wants 3 = .ok (.invokespecial 13, 3) := dk_183 0 13 (dk_at dksX7_wants_0 3 rfl rfl)
theorem dX7_wants_6 : decode cX7_wants 6 = .ok (.aload_n 0, 1) := dk_42 (dk_at dksX7_wants_0 6 rfl rfl)
theorem dX7_wants_7 : decode cX7_wants 7 = .ok (.getfield 17, 3) := dk_180 0 17 (dk_at dksX7_wants_0 7 rfl rfl)
theorem dX7_wants_10 : decode cX7_wants 10 = .ok (.iadd, 1) := dk_96 (dk_at dksX7_wants_0 10 rfl rfl)
theorem dX7_wants_11 : decode cX7_wants 11 = .ok (.ireturn, 1) := dk_172 (dk_at dksX7_wants_0 11 rfl rfl)
abbrev cX7_turnsBy : ByteArray := prog_13_method_4_code
def yX7_turnsBy : MethodName := ⟨RX7, "turnsBy", "(LWheelBrook$Sees;I)I"⟩
def dkwX7_turnsBy_0 : List UInt8 := [42, 43, 28, 183, 0, 23, 5, 108, 172]
abbrev dktX7_turnsBy_0 : List UInt8 := dkwX7_turnsBy_0 ++ []
theorem dksX7_turnsBy_0 : cX7_turnsBy.data.toList.drop 0 = dktX7_turnsBy_0 := by decide +kernel
theorem dX7_turnsBy_0 : decode cX7_turnsBy 0 = .ok (.aload_n 0, 1) := dk_42 (dk_at dksX7_turnsBy_0 0 rfl rfl)
theorem dX7_turnsBy_1 : decode cX7_turnsBy 1 = .ok (.aload_n 1, 1) := dk_43 (dk_at dksX7_turnsBy_0 1 rfl rfl)
theorem dX7_turnsBy_2 : decode cX7_turnsBy 2 = .ok (.iload_n 2, 1) := dk_28 (dk_at dksX7_turnsBy_0 2 rfl rfl)
theorem dX7_turnsBy_3 : decode cX7_turnsBy 3 = .ok (.invokespecial 23, 3) := dk_183 0 23 (dk_at dksX7_turnsBy_0 3 rfl rfl)
theorem dX7_turnsBy_6 : decode cX7_turnsBy 6 = .ok (.iconst 2, 1) := dk_5 (dk_at dksX7_turnsBy_0 6 rfl rfl)
theorem dX7_turnsBy_7 : decode cX7_turnsBy 7 = .ok (.idiv, 1) := dk_108 (dk_at dksX7_turnsBy_0 7 rfl rfl)
theorem dX7_turnsBy_8 : decode cX7_turnsBy 8 = .ok (.ireturn, 1) := dk_172 (dk_at dksX7_turnsBy_0 8 rfl rfl)
abbrev cX7_flows : ByteArray := prog_13_method_5_code
def yX7_flows : MethodName := ⟨RX7, "flows", "(ILWheelBrook$Trace;)I"⟩
def dkwX7_flows_0 : List UInt8 := [44, 16, 20, 182, 0, 26, 42, 27, 44, 183, 0, 32, 7, 100, 172]
abbrev dktX7_flows_0 : List UInt8 := dkwX7_flows_0 ++ []
theorem dksX7_flows_0 : cX7_flows.data.toList.drop 0 = dktX7_flows_0 := by decide +kernel
theorem dX7_flows_0 : decode cX7_flows 0 = .ok (.aload_n 2, 1) := dk_44 (dk_at dksX7_flows_0 0 rfl rfl)
theorem dX7_flows_1 : decode cX7_flows 1 = .ok (.bipush 20, 2) := dk_16 20 (dk_at dksX7_flows_0 1 rfl rfl)
theorem dX7_flows_3 : decode cX7_flows 3 = .ok (.invokevirtual 26, 3) := dk_182 0 26 (dk_at dksX7_flows_0 3 rfl rfl)
theorem dX7_flows_6 : decode cX7_flows 6 = .ok (.aload_n 0, 1) := dk_42 (dk_at dksX7_flows_0 6 rfl rfl)
theorem dX7_flows_7 : decode cX7_flows 7 = .ok (.iload_n 1, 1) := dk_27 (dk_at dksX7_flows_0 7 rfl rfl)
theorem dX7_flows_8 : decode cX7_flows 8 = .ok (.aload_n 2, 1) := dk_44 (dk_at dksX7_flows_0 8 rfl rfl)
theorem dX7_flows_9 : decode cX7_flows 9 = .ok (.invokespecial 32, 3) := dk_183 0 32 (dk_at dksX7_flows_0 9 rfl rfl)
theorem dX7_flows_12 : decode cX7_flows 12 = .ok (.iconst 4, 1) := dk_7 (dk_at dksX7_flows_0 12 rfl rfl)
theorem dX7_flows_13 : decode cX7_flows 13 = .ok (.isub, 1) := dk_100 (dk_at dksX7_flows_0 13 rfl rfl)
theorem dX7_flows_14 : decode cX7_flows 14 = .ok (.ireturn, 1) := dk_172 (dk_at dksX7_flows_0 14 rfl rfl)
abbrev cX7_parts : ByteArray := prog_13_method_6_code
def yX7_parts : MethodName := ⟨RX7, "parts", "(ILWheelBrook$Trace;)I"⟩
def dkwX7_parts_0 : List UInt8 := [44, 16, 21, 182, 0, 26, 42, 27, 44, 183, 0, 36, 62, 29, 42, 4, 44, 182, 0, 39, 96, 172]
abbrev dktX7_parts_0 : List UInt8 := dkwX7_parts_0 ++ []
theorem dksX7_parts_0 : cX7_parts.data.toList.drop 0 = dktX7_parts_0 := by decide +kernel
theorem dX7_parts_0 : decode cX7_parts 0 = .ok (.aload_n 2, 1) := dk_44 (dk_at dksX7_parts_0 0 rfl rfl)
theorem dX7_parts_1 : decode cX7_parts 1 = .ok (.bipush 21, 2) := dk_16 21 (dk_at dksX7_parts_0 1 rfl rfl)
theorem dX7_parts_3 : decode cX7_parts 3 = .ok (.invokevirtual 26, 3) := dk_182 0 26 (dk_at dksX7_parts_0 3 rfl rfl)
theorem dX7_parts_6 : decode cX7_parts 6 = .ok (.aload_n 0, 1) := dk_42 (dk_at dksX7_parts_0 6 rfl rfl)
theorem dX7_parts_7 : decode cX7_parts 7 = .ok (.iload_n 1, 1) := dk_27 (dk_at dksX7_parts_0 7 rfl rfl)
theorem dX7_parts_8 : decode cX7_parts 8 = .ok (.aload_n 2, 1) := dk_44 (dk_at dksX7_parts_0 8 rfl rfl)
theorem dX7_parts_9 : decode cX7_parts 9 = .ok (.invokespecial 36, 3) := dk_183 0 36 (dk_at dksX7_parts_0 9 rfl rfl)
theorem dX7_parts_12 : decode cX7_parts 12 = .ok (.istore_n 3, 1) := dk_62 (dk_at dksX7_parts_0 12 rfl rfl)
theorem dX7_parts_13 : decode cX7_parts 13 = .ok (.iload_n 3, 1) := dk_29 (dk_at dksX7_parts_0 13 rfl rfl)
theorem dX7_parts_14 : decode cX7_parts 14 = .ok (.aload_n 0, 1) := dk_42 (dk_at dksX7_parts_0 14 rfl rfl)
theorem dX7_parts_15 : decode cX7_parts 15 = .ok (.iconst 1, 1) := dk_4 (dk_at dksX7_parts_0 15 rfl rfl)
theorem dX7_parts_16 : decode cX7_parts 16 = .ok (.aload_n 2, 1) := dk_44 (dk_at dksX7_parts_0 16 rfl rfl)
theorem dX7_parts_17 : decode cX7_parts 17 = .ok (.invokevirtual 39, 3) := dk_182 0 39 (dk_at dksX7_parts_0 17 rfl rfl)
theorem dX7_parts_20 : decode cX7_parts 20 = .ok (.iadd, 1) := dk_96 (dk_at dksX7_parts_0 20 rfl rfl)
theorem dX7_parts_21 : decode cX7_parts 21 = .ok (.ireturn, 1) := dk_172 (dk_at dksX7_parts_0 21 rfl rfl)
theorem q90 : (Jvm.Cond.initialized "WheelBrook$Slow") ∈ lw_all := lw_g (lw_at lw_m1 8 rfl) rfl
theorem q360 : (Jvm.Cond.instantiable "WheelBrook$Slow" (2 : Nat)) ∈ lw_all := lw_g (lw_at lw_m2 38 rfl) rfl
theorem q362 : (Jvm.Cond.instanceMethod ({ cls := "WheelBrook$Slow", name := "<init>", desc := "(II)V" } : Jvm.MethodName)) ∈ lw_all := lw_g (lw_at lw_m2 40 rfl) rfl
theorem q363 : (Jvm.Cond.code ({ cls := "WheelBrook$Slow", name := "<init>", desc := "(II)V" } : Jvm.MethodName) prog_13_method_1_code (3 : Nat) (Option.none : Option Jvm.ClassFile.FieldType)) ∈ lw_all := lw_g (lw_at lw_m2 41 rfl) rfl
theorem q364 : (Jvm.Cond.methodLink "WheelBrook$Slow" (3 : Nat) ({ cls := "WheelBrook$Wheel", name := "<init>", desc := "(II)V" } : Jvm.MethodName)) ∈ lw_all := lw_g (lw_at lw_m2 42 rfl) rfl
theorem q377 : (Jvm.Cond.fieldLink "WheelBrook$Slow" (17 : Nat) "WheelBrook$Slow" "m" "I") ∈ lw_all := lw_g (lw_at lw_m2 55 rfl) rfl
theorem q378 : (Jvm.Cond.sameField "WheelBrook$Slow" "WheelBrook$Wheel" "m" "I") ∈ lw_all := lw_g (lw_at lw_m2 56 rfl) rfl
theorem q382 : (Jvm.Cond.laysFinal "WheelBrook$Slow" "WheelBrook$Wheel" "number" "I") ∈ lw_all := lw_g (lw_at lw_m2 60 rfl) rfl
theorem q384 : (Jvm.Cond.laysFinal "WheelBrook$Slow" "WheelBrook$Wheel" "m" "I") ∈ lw_all := lw_g (lw_at lw_m2 62 rfl) rfl
theorem q386 : (Jvm.Cond.superclass "WheelBrook$Slow" "WheelBrook$Wheel") ∈ lw_all := lw_g (lw_at lw_m2 64 rfl) rfl
theorem q475 : (Jvm.Cond.instanceMethod ({ cls := "WheelBrook$Slow", name := "kind", desc := "()I" } : Jvm.MethodName)) ∈ lw_all := lw_g (lw_at lw_m2 153 rfl) rfl
theorem q476 : (Jvm.Cond.code ({ cls := "WheelBrook$Slow", name := "kind", desc := "()I" } : Jvm.MethodName) prog_13_method_2_code (1 : Nat) (Option.some Jvm.ClassFile.FieldType.int)) ∈ lw_all := lw_g (lw_at lw_m2 154 rfl) rfl
theorem q477 : (Jvm.Cond.methodLink "WheelBrook$Slow" (9 : Nat) ({ cls := "WheelBrook$Wheel", name := "kind", desc := "()I" } : Jvm.MethodName)) ∈ lw_all := lw_g (lw_at lw_m2 155 rfl) rfl
theorem q478 : (Jvm.Cond.selects "WheelBrook$Slow" ({ cls := "WheelBrook$Wheel", name := "kind", desc := "()I" } : Jvm.MethodName) ({ cls := "WheelBrook$Slow", name := "kind", desc := "()I" } : Jvm.MethodName)) ∈ lw_all := lw_g (lw_at lw_m2 156 rfl) rfl
theorem q523 : (Jvm.Cond.instanceMethod ({ cls := "WheelBrook$Slow", name := "wants", desc := "(LWheelBrook$Sees;I)I" } : Jvm.MethodName)) ∈ lw_all := lw_g (lw_at lw_m2 201 rfl) rfl
theorem q524 : (Jvm.Cond.publicMethod ({ cls := "WheelBrook$Slow", name := "wants", desc := "(LWheelBrook$Sees;I)I" } : Jvm.MethodName)) ∈ lw_tbl := lw_at lw_m2 202 rfl
theorem q525 : (Jvm.Cond.code ({ cls := "WheelBrook$Slow", name := "wants", desc := "(LWheelBrook$Sees;I)I" } : Jvm.MethodName) prog_13_method_3_code (3 : Nat) (Option.some Jvm.ClassFile.FieldType.int)) ∈ lw_all := lw_g (lw_at lw_m2 203 rfl) rfl
theorem q526 : (Jvm.Cond.castable "WheelBrook$Slow" "WheelBrook$Wants") ∈ lw_tbl := lw_at lw_m2 204 rfl
theorem q527 : (Jvm.Cond.selects "WheelBrook$Slow" ({ cls := "WheelBrook$Wants", name := "wants", desc := "(LWheelBrook$Sees;I)I" } : Jvm.MethodName) ({ cls := "WheelBrook$Slow", name := "wants", desc := "(LWheelBrook$Sees;I)I" } : Jvm.MethodName)) ∈ lw_all := lw_g (lw_at lw_m2 205 rfl) rfl
theorem q528 : (Jvm.Cond.unhidden "WheelBrook$Slow" "wants" "(LWheelBrook$Sees;I)I") ∈ lw_tbl := lw_at lw_m2 206 rfl
theorem q590 : (Jvm.Cond.instanceMethod ({ cls := "WheelBrook$Slow", name := "turnsBy", desc := "(LWheelBrook$Sees;I)I" } : Jvm.MethodName)) ∈ lw_all := lw_g (lw_at lw_m3 28 rfl) rfl
theorem q591 : (Jvm.Cond.code ({ cls := "WheelBrook$Slow", name := "turnsBy", desc := "(LWheelBrook$Sees;I)I" } : Jvm.MethodName) prog_13_method_4_code (3 : Nat) (Option.some Jvm.ClassFile.FieldType.int)) ∈ lw_all := lw_g (lw_at lw_m3 29 rfl) rfl
theorem q592 : (Jvm.Cond.selects "WheelBrook$Slow" ({ cls := "WheelBrook$Wants", name := "turnsBy", desc := "(LWheelBrook$Sees;I)I" } : Jvm.MethodName) ({ cls := "WheelBrook$Slow", name := "turnsBy", desc := "(LWheelBrook$Sees;I)I" } : Jvm.MethodName)) ∈ lw_all := lw_g (lw_at lw_m3 30 rfl) rfl
theorem q593 : (Jvm.Cond.unhidden "WheelBrook$Slow" "turnsBy" "(LWheelBrook$Sees;I)I") ∈ lw_tbl := lw_at lw_m3 31 rfl
theorem q594 : (Jvm.Cond.publicMethod ({ cls := "WheelBrook$Slow", name := "turnsBy", desc := "(LWheelBrook$Sees;I)I" } : Jvm.MethodName)) ∈ lw_tbl := lw_at lw_m3 32 rfl
theorem q640 : (Jvm.Cond.unhidden "WheelBrook$Slow" "shows" "(LWheelBrook$Sees;I)I") ∈ lw_tbl := lw_at lw_m3 78 rfl
theorem q1107 : (Jvm.Cond.instanceMethod ({ cls := "WheelBrook$Slow", name := "flows", desc := "(ILWheelBrook$Trace;)I" } : Jvm.MethodName)) ∈ lw_all := lw_g (lw_at lw_m5 65 rfl) rfl
theorem q1108 : (Jvm.Cond.code ({ cls := "WheelBrook$Slow", name := "flows", desc := "(ILWheelBrook$Trace;)I" } : Jvm.MethodName) prog_13_method_5_code (3 : Nat) (Option.some Jvm.ClassFile.FieldType.int)) ∈ lw_all := lw_g (lw_at lw_m5 66 rfl) rfl
theorem q1109 : (Jvm.Cond.methodLink "WheelBrook$Slow" (26 : Nat) ({ cls := "WheelBrook$Trace", name := "ran", desc := "(I)V" } : Jvm.MethodName)) ∈ lw_all := lw_g (lw_at lw_m5 67 rfl) rfl
theorem q1110 : (Jvm.Cond.methodLink "WheelBrook$Slow" (32 : Nat) ({ cls := "WheelBrook$Wheel", name := "flows", desc := "(ILWheelBrook$Trace;)I" } : Jvm.MethodName)) ∈ lw_all := lw_g (lw_at lw_m5 68 rfl) rfl
theorem q1111 : (Jvm.Cond.selects "WheelBrook$Slow" ({ cls := "WheelBrook$Wheel", name := "flows", desc := "(ILWheelBrook$Trace;)I" } : Jvm.MethodName) ({ cls := "WheelBrook$Slow", name := "flows", desc := "(ILWheelBrook$Trace;)I" } : Jvm.MethodName)) ∈ lw_all := lw_g (lw_at lw_m5 69 rfl) rfl
theorem q1145 : (Jvm.Cond.castable "WheelBrook$Slow" "WheelBrook$Flows") ∈ lw_tbl := lw_at lw_m5 103 rfl
theorem q1146 : (Jvm.Cond.selects "WheelBrook$Slow" ({ cls := "WheelBrook$Flows", name := "flows", desc := "(ILWheelBrook$Trace;)I" } : Jvm.MethodName) ({ cls := "WheelBrook$Slow", name := "flows", desc := "(ILWheelBrook$Trace;)I" } : Jvm.MethodName)) ∈ lw_all := lw_g (lw_at lw_m5 104 rfl) rfl
theorem q1147 : (Jvm.Cond.unhidden "WheelBrook$Slow" "flows" "(ILWheelBrook$Trace;)I") ∈ lw_tbl := lw_at lw_m5 105 rfl
theorem q1148 : (Jvm.Cond.publicMethod ({ cls := "WheelBrook$Slow", name := "flows", desc := "(ILWheelBrook$Trace;)I" } : Jvm.MethodName)) ∈ lw_tbl := lw_at lw_m5 106 rfl
theorem q1161 : (Jvm.Cond.unhidden "WheelBrook$Slow" "turned" "(ILWheelBrook$Trace;)I") ∈ lw_tbl := lw_at lw_m5 119 rfl
theorem q1182 : (Jvm.Cond.sameMethod "WheelBrook$Slow" "WheelBrook$Wheel" "prays" "(ILWheelBrook$Trace;)I") ∈ lw_all := lw_g (lw_at lw_m5 140 rfl) rfl
theorem q1184 : (Jvm.Cond.selects "WheelBrook$Slow" ({ cls := "WheelBrook$Wheel", name := "prays", desc := "(ILWheelBrook$Trace;)I" } : Jvm.MethodName) ({ cls := "WheelBrook$Wheel", name := "prays", desc := "(ILWheelBrook$Trace;)I" } : Jvm.MethodName)) ∈ lw_all := lw_g (lw_at lw_m5 142 rfl) rfl
theorem q1195 : (Jvm.Cond.instanceMethod ({ cls := "WheelBrook$Slow", name := "parts", desc := "(ILWheelBrook$Trace;)I" } : Jvm.MethodName)) ∈ lw_all := lw_g (lw_at lw_m5 153 rfl) rfl
theorem q1196 : (Jvm.Cond.code ({ cls := "WheelBrook$Slow", name := "parts", desc := "(ILWheelBrook$Trace;)I" } : Jvm.MethodName) prog_13_method_6_code (4 : Nat) (Option.some Jvm.ClassFile.FieldType.int)) ∈ lw_all := lw_g (lw_at lw_m5 154 rfl) rfl
theorem q1197 : (Jvm.Cond.methodLink "WheelBrook$Slow" (36 : Nat) ({ cls := "WheelBrook$Wheel", name := "parts", desc := "(ILWheelBrook$Trace;)I" } : Jvm.MethodName)) ∈ lw_all := lw_g (lw_at lw_m5 155 rfl) rfl
theorem q1198 : (Jvm.Cond.selects "WheelBrook$Slow" ({ cls := "WheelBrook$Wheel", name := "parts", desc := "(ILWheelBrook$Trace;)I" } : Jvm.MethodName) ({ cls := "WheelBrook$Slow", name := "parts", desc := "(ILWheelBrook$Trace;)I" } : Jvm.MethodName)) ∈ lw_all := lw_g (lw_at lw_m5 156 rfl) rfl
theorem q1770 : (Jvm.Cond.sameMethod "WheelBrook$Slow" "WheelBrook$Slow" "kind" "()I") ∈ lw_all := lw_g (lw_at lw_m8 8 rfl) rfl
theorem q1771 : (Jvm.Cond.sameMethod "WheelBrook$Slow" "WheelBrook$Slow" "turnsBy" "(LWheelBrook$Sees;I)I") ∈ lw_all := lw_g (lw_at lw_m8 9 rfl) rfl
theorem q1774 : (Jvm.Cond.sameMethod "WheelBrook$Slow" "WheelBrook$Slow" "flows" "(ILWheelBrook$Trace;)I") ∈ lw_all := lw_g (lw_at lw_m8 12 rfl) rfl
theorem q1779 : (Jvm.Cond.castable "WheelBrook$Slow" "WheelBrook$Wheel") ∈ lw_tbl := lw_at lw_m8 17 rfl
theorem in_X7 : ∀ w ∈ wsX70, w ∈ lw_all := lw_in wsX70 [382, 384] (by decide +kernel) (by decide +kernel)

/-! WheelBrook$Hidden -/
set_option maxRecDepth 100000
def RX8 : String := "WheelBrook$Hidden"
def TX8 : u_T := fun k => match k with
  | 0 => ("WheelBrook$Wheel", "number", "I", true)
  | _ => ("WheelBrook$Wheel", "m", "I", true)
def tyX8 : Nat → FieldType := fun k => match k with
  | 0 => .int
  | _ => .int
abbrev wsX80 : List Cond := u_ws RX8 TX8 2
theorem nmX8 : ∀ a, a < 2 → ∀ b, b < 2 → a ≠ b → (TX8 a).2.1 ≠ (TX8 b).2.1 := by decide +kernel
theorem tyX8_ok : ∀ k, k < 2 → parseFieldDescriptor (TX8 k).2.2.1 = some (tyX8 k) := by decide +kernel
abbrev cX8_init : ByteArray := prog_7_method_1_code
def yX8_init : MethodName := ⟨RX8, "<init>", "(II)V"⟩
def dkwX8_init_0 : List UInt8 := [42, 27, 28, 183, 0, 3, 177]
abbrev dktX8_init_0 : List UInt8 := dkwX8_init_0 ++ []
theorem dksX8_init_0 : cX8_init.data.toList.drop 0 = dktX8_init_0 := by decide +kernel
theorem dX8_init_0 : decode cX8_init 0 = .ok (.aload_n 0, 1) := dk_42 (dk_at dksX8_init_0 0 rfl rfl)
theorem dX8_init_1 : decode cX8_init 1 = .ok (.iload_n 1, 1) := dk_27 (dk_at dksX8_init_0 1 rfl rfl)
theorem dX8_init_2 : decode cX8_init 2 = .ok (.iload_n 2, 1) := dk_28 (dk_at dksX8_init_0 2 rfl rfl)
theorem dX8_init_3 : decode cX8_init 3 = .ok (.invokespecial 3, 3) := dk_183 0 3 (dk_at dksX8_init_0 3 rfl rfl)
theorem dX8_init_6 : decode cX8_init 6 = .ok (.return_, 1) := dk_177 (dk_at dksX8_init_0 6 rfl rfl)
abbrev cX8_kind : ByteArray := prog_7_method_2_code
def yX8_kind : MethodName := ⟨RX8, "kind", "()I"⟩
def dkwX8_kind_0 : List UInt8 := [42, 183, 0, 9, 5, 96, 172]
abbrev dktX8_kind_0 : List UInt8 := dkwX8_kind_0 ++ []
theorem dksX8_kind_0 : cX8_kind.data.toList.drop 0 = dktX8_kind_0 := by decide +kernel
theorem dX8_kind_0 : decode cX8_kind 0 = .ok (.aload_n 0, 1) := dk_42 (dk_at dksX8_kind_0 0 rfl rfl)
theorem dX8_kind_1 : decode cX8_kind 1 = .ok (.invokespecial 9, 3) := dk_183 0 9 (dk_at dksX8_kind_0 1 rfl rfl)
theorem dX8_kind_4 : decode cX8_kind 4 = .ok (.iconst 2, 1) := dk_5 (dk_at dksX8_kind_0 4 rfl rfl)
theorem dX8_kind_5 : decode cX8_kind 5 = .ok (.iadd, 1) := dk_96 (dk_at dksX8_kind_0 5 rfl rfl)
theorem dX8_kind_6 : decode cX8_kind 6 = .ok (.ireturn, 1) := dk_172 (dk_at dksX8_kind_0 6 rfl rfl)
abbrev cX8_wants : ByteArray := prog_7_method_3_code
def yX8_wants : MethodName := ⟨RX8, "wants", "(LWheelBrook$Sees;I)I"⟩
theorem dX8_wants_0 : decode cX8_wants 0 = .ok (.aload_n 0, 1) := by decide +kernel
theorem dX8_wants_1 : decode cX8_wants 1 = .ok (.getfield 13, 3) := by decide +kernel
theorem dX8_wants_4 : decode cX8_wants 4 = .ok (.ireturn, 1) := by decide +kernel
abbrev cX8_shows : ByteArray := prog_7_method_4_code
def yX8_shows : MethodName := ⟨RX8, "shows", "(LWheelBrook$Sees;I)I"⟩
def dkwX8_shows_0 : List UInt8 := [42, 43, 28, 183, 0, 19, 5, 108, 172]
abbrev dktX8_shows_0 : List UInt8 := dkwX8_shows_0 ++ []
theorem dksX8_shows_0 : cX8_shows.data.toList.drop 0 = dktX8_shows_0 := by decide +kernel
theorem dX8_shows_0 : decode cX8_shows 0 = .ok (.aload_n 0, 1) := dk_42 (dk_at dksX8_shows_0 0 rfl rfl)
theorem dX8_shows_1 : decode cX8_shows 1 = .ok (.aload_n 1, 1) := dk_43 (dk_at dksX8_shows_0 1 rfl rfl)
theorem dX8_shows_2 : decode cX8_shows 2 = .ok (.iload_n 2, 1) := dk_28 (dk_at dksX8_shows_0 2 rfl rfl)
theorem dX8_shows_3 : decode cX8_shows 3 = .ok (.invokespecial 19, 3) := dk_183 0 19 (dk_at dksX8_shows_0 3 rfl rfl)
theorem dX8_shows_6 : decode cX8_shows 6 = .ok (.iconst 2, 1) := dk_5 (dk_at dksX8_shows_0 6 rfl rfl)
theorem dX8_shows_7 : decode cX8_shows 7 = .ok (.idiv, 1) := dk_108 (dk_at dksX8_shows_0 7 rfl rfl)
theorem dX8_shows_8 : decode cX8_shows 8 = .ok (.ireturn, 1) := dk_172 (dk_at dksX8_shows_0 8 rfl rfl)
abbrev cX8_turned : ByteArray := prog_7_method_5_code
def yX8_turned : MethodName := ⟨RX8, "turned", "(ILWheelBrook$Trace;)I"⟩
def dkwX8_turned_0 : List UInt8 := [44, 16, 30, 182, 0, 23, 3, 42, 27, 44, 183, 0, 29, 100, 172]
abbrev dktX8_turned_0 : List UInt8 := dkwX8_turned_0 ++ []
theorem dksX8_turned_0 : cX8_turned.data.toList.drop 0 = dktX8_turned_0 := by decide +kernel
theorem dX8_turned_0 : decode cX8_turned 0 = .ok (.aload_n 2, 1) := dk_44 (dk_at dksX8_turned_0 0 rfl rfl)
theorem dX8_turned_1 : decode cX8_turned 1 = .ok (.bipush 30, 2) := dk_16 30 (dk_at dksX8_turned_0 1 rfl rfl)
theorem dX8_turned_3 : decode cX8_turned 3 = .ok (.invokevirtual 23, 3) := dk_182 0 23 (dk_at dksX8_turned_0 3 rfl rfl)
theorem dX8_turned_6 : decode cX8_turned 6 = .ok (.iconst 0, 1) := dk_3 (dk_at dksX8_turned_0 6 rfl rfl)
theorem dX8_turned_7 : decode cX8_turned 7 = .ok (.aload_n 0, 1) := dk_42 (dk_at dksX8_turned_0 7 rfl rfl)
theorem dX8_turned_8 : decode cX8_turned 8 = .ok (.iload_n 1, 1) := dk_27 (dk_at dksX8_turned_0 8 rfl rfl)
theorem dX8_turned_9 : decode cX8_turned 9 = .ok (.aload_n 2, 1) := dk_44 (dk_at dksX8_turned_0 9 rfl rfl)
theorem dX8_turned_10 : decode cX8_turned 10 = .ok (.invokespecial 29, 3) := dk_183 0 29 (dk_at dksX8_turned_0 10 rfl rfl)
theorem dX8_turned_13 : decode cX8_turned 13 = .ok (.isub, 1) := dk_100 (dk_at dksX8_turned_0 13 rfl rfl)
theorem dX8_turned_14 : decode cX8_turned 14 = .ok (.ireturn, 1) := dk_172 (dk_at dksX8_turned_0 14 rfl rfl)
theorem q91 : (Jvm.Cond.initialized "WheelBrook$Hidden") ∈ lw_all := lw_g (lw_at lw_m1 9 rfl) rfl
theorem q375 : (Jvm.Cond.fieldLink "WheelBrook$Hidden" (13 : Nat) "WheelBrook$Hidden" "m" "I") ∈ lw_all := lw_g (lw_at lw_m2 53 rfl) rfl
theorem q376 : (Jvm.Cond.sameField "WheelBrook$Hidden" "WheelBrook$Wheel" "m" "I") ∈ lw_all := lw_g (lw_at lw_m2 54 rfl) rfl
theorem q388 : (Jvm.Cond.instantiable "WheelBrook$Hidden" (2 : Nat)) ∈ lw_all := lw_g (lw_at lw_m2 66 rfl) rfl
theorem q390 : (Jvm.Cond.instanceMethod ({ cls := "WheelBrook$Hidden", name := "<init>", desc := "(II)V" } : Jvm.MethodName)) ∈ lw_all := lw_g (lw_at lw_m2 68 rfl) rfl
theorem q391 : (Jvm.Cond.code ({ cls := "WheelBrook$Hidden", name := "<init>", desc := "(II)V" } : Jvm.MethodName) prog_7_method_1_code (3 : Nat) (Option.none : Option Jvm.ClassFile.FieldType)) ∈ lw_all := lw_g (lw_at lw_m2 69 rfl) rfl
theorem q392 : (Jvm.Cond.methodLink "WheelBrook$Hidden" (3 : Nat) ({ cls := "WheelBrook$Wheel", name := "<init>", desc := "(II)V" } : Jvm.MethodName)) ∈ lw_all := lw_g (lw_at lw_m2 70 rfl) rfl
theorem q393 : (Jvm.Cond.laysFinal "WheelBrook$Hidden" "WheelBrook$Wheel" "number" "I") ∈ lw_all := lw_g (lw_at lw_m2 71 rfl) rfl
theorem q394 : (Jvm.Cond.laysFinal "WheelBrook$Hidden" "WheelBrook$Wheel" "m" "I") ∈ lw_all := lw_g (lw_at lw_m2 72 rfl) rfl
theorem q395 : (Jvm.Cond.superclass "WheelBrook$Hidden" "WheelBrook$Wheel") ∈ lw_all := lw_g (lw_at lw_m2 73 rfl) rfl
theorem q467 : (Jvm.Cond.selects "WheelBrook$Hidden" ({ cls := "WheelBrook$Wheel", name := "kind", desc := "()I" } : Jvm.MethodName) ({ cls := "WheelBrook$Hidden", name := "kind", desc := "()I" } : Jvm.MethodName)) ∈ lw_all := lw_g (lw_at lw_m2 145 rfl) rfl
theorem q468 : (Jvm.Cond.instanceMethod ({ cls := "WheelBrook$Hidden", name := "kind", desc := "()I" } : Jvm.MethodName)) ∈ lw_all := lw_g (lw_at lw_m2 146 rfl) rfl
theorem q469 : (Jvm.Cond.code ({ cls := "WheelBrook$Hidden", name := "kind", desc := "()I" } : Jvm.MethodName) prog_7_method_2_code (1 : Nat) (Option.some Jvm.ClassFile.FieldType.int)) ∈ lw_all := lw_g (lw_at lw_m2 147 rfl) rfl
theorem q470 : (Jvm.Cond.methodLink "WheelBrook$Hidden" (9 : Nat) ({ cls := "WheelBrook$Wheel", name := "kind", desc := "()I" } : Jvm.MethodName)) ∈ lw_all := lw_g (lw_at lw_m2 148 rfl) rfl
theorem q514 : (Jvm.Cond.castable "WheelBrook$Hidden" "WheelBrook$Wants") ∈ lw_tbl := lw_at lw_m2 192 rfl
theorem q515 : (Jvm.Cond.selects "WheelBrook$Hidden" ({ cls := "WheelBrook$Wants", name := "wants", desc := "(LWheelBrook$Sees;I)I" } : Jvm.MethodName) ({ cls := "WheelBrook$Hidden", name := "wants", desc := "(LWheelBrook$Sees;I)I" } : Jvm.MethodName)) ∈ lw_all := lw_g (lw_at lw_m2 193 rfl) rfl
theorem q516 : (Jvm.Cond.unhidden "WheelBrook$Hidden" "wants" "(LWheelBrook$Sees;I)I") ∈ lw_tbl := lw_at lw_m2 194 rfl
theorem q517 : (Jvm.Cond.instanceMethod ({ cls := "WheelBrook$Hidden", name := "wants", desc := "(LWheelBrook$Sees;I)I" } : Jvm.MethodName)) ∈ lw_all := lw_g (lw_at lw_m2 195 rfl) rfl
theorem q518 : (Jvm.Cond.publicMethod ({ cls := "WheelBrook$Hidden", name := "wants", desc := "(LWheelBrook$Sees;I)I" } : Jvm.MethodName)) ∈ lw_tbl := lw_at lw_m2 196 rfl
theorem q519 : (Jvm.Cond.code ({ cls := "WheelBrook$Hidden", name := "wants", desc := "(LWheelBrook$Sees;I)I" } : Jvm.MethodName) prog_7_method_3_code (3 : Nat) (Option.some Jvm.ClassFile.FieldType.int)) ∈ lw_all := lw_g (lw_at lw_m2 197 rfl) rfl
theorem q582 : (Jvm.Cond.unhidden "WheelBrook$Hidden" "turnsBy" "(LWheelBrook$Sees;I)I") ∈ lw_tbl := lw_at lw_m3 20 rfl
theorem q630 : (Jvm.Cond.selects "WheelBrook$Hidden" ({ cls := "WheelBrook$Wants", name := "shows", desc := "(LWheelBrook$Sees;I)I" } : Jvm.MethodName) ({ cls := "WheelBrook$Hidden", name := "shows", desc := "(LWheelBrook$Sees;I)I" } : Jvm.MethodName)) ∈ lw_all := lw_g (lw_at lw_m3 68 rfl) rfl
theorem q631 : (Jvm.Cond.unhidden "WheelBrook$Hidden" "shows" "(LWheelBrook$Sees;I)I") ∈ lw_tbl := lw_at lw_m3 69 rfl
theorem q632 : (Jvm.Cond.instanceMethod ({ cls := "WheelBrook$Hidden", name := "shows", desc := "(LWheelBrook$Sees;I)I" } : Jvm.MethodName)) ∈ lw_all := lw_g (lw_at lw_m3 70 rfl) rfl
theorem q633 : (Jvm.Cond.publicMethod ({ cls := "WheelBrook$Hidden", name := "shows", desc := "(LWheelBrook$Sees;I)I" } : Jvm.MethodName)) ∈ lw_tbl := lw_at lw_m3 71 rfl
theorem q634 : (Jvm.Cond.code ({ cls := "WheelBrook$Hidden", name := "shows", desc := "(LWheelBrook$Sees;I)I" } : Jvm.MethodName) prog_7_method_4_code (3 : Nat) (Option.some Jvm.ClassFile.FieldType.int)) ∈ lw_all := lw_g (lw_at lw_m3 72 rfl) rfl
theorem q1098 : (Jvm.Cond.selects "WheelBrook$Hidden" ({ cls := "WheelBrook$Wheel", name := "flows", desc := "(ILWheelBrook$Trace;)I" } : Jvm.MethodName) ({ cls := "WheelBrook$Wheel", name := "flows", desc := "(ILWheelBrook$Trace;)I" } : Jvm.MethodName)) ∈ lw_all := lw_g (lw_at lw_m5 56 rfl) rfl
theorem q1138 : (Jvm.Cond.castable "WheelBrook$Hidden" "WheelBrook$Flows") ∈ lw_tbl := lw_at lw_m5 96 rfl
theorem q1139 : (Jvm.Cond.selects "WheelBrook$Hidden" ({ cls := "WheelBrook$Flows", name := "flows", desc := "(ILWheelBrook$Trace;)I" } : Jvm.MethodName) ({ cls := "WheelBrook$Wheel", name := "flows", desc := "(ILWheelBrook$Trace;)I" } : Jvm.MethodName)) ∈ lw_all := lw_g (lw_at lw_m5 97 rfl) rfl
theorem q1140 : (Jvm.Cond.unhidden "WheelBrook$Hidden" "flows" "(ILWheelBrook$Trace;)I") ∈ lw_tbl := lw_at lw_m5 98 rfl
theorem q1156 : (Jvm.Cond.selects "WheelBrook$Hidden" ({ cls := "WheelBrook$Flows", name := "turned", desc := "(ILWheelBrook$Trace;)I" } : Jvm.MethodName) ({ cls := "WheelBrook$Hidden", name := "turned", desc := "(ILWheelBrook$Trace;)I" } : Jvm.MethodName)) ∈ lw_all := lw_g (lw_at lw_m5 114 rfl) rfl
theorem q1157 : (Jvm.Cond.instanceMethod ({ cls := "WheelBrook$Hidden", name := "turned", desc := "(ILWheelBrook$Trace;)I" } : Jvm.MethodName)) ∈ lw_all := lw_g (lw_at lw_m5 115 rfl) rfl
theorem q1158 : (Jvm.Cond.code ({ cls := "WheelBrook$Hidden", name := "turned", desc := "(ILWheelBrook$Trace;)I" } : Jvm.MethodName) prog_7_method_5_code (3 : Nat) (Option.some Jvm.ClassFile.FieldType.int)) ∈ lw_all := lw_g (lw_at lw_m5 116 rfl) rfl
theorem q1159 : (Jvm.Cond.methodLink "WheelBrook$Hidden" (23 : Nat) ({ cls := "WheelBrook$Trace", name := "ran", desc := "(I)V" } : Jvm.MethodName)) ∈ lw_all := lw_g (lw_at lw_m5 117 rfl) rfl
theorem q1177 : (Jvm.Cond.selects "WheelBrook$Hidden" ({ cls := "WheelBrook$Wheel", name := "prays", desc := "(ILWheelBrook$Trace;)I" } : Jvm.MethodName) ({ cls := "WheelBrook$Wheel", name := "prays", desc := "(ILWheelBrook$Trace;)I" } : Jvm.MethodName)) ∈ lw_all := lw_g (lw_at lw_m5 135 rfl) rfl
theorem q1193 : (Jvm.Cond.selects "WheelBrook$Hidden" ({ cls := "WheelBrook$Wheel", name := "parts", desc := "(ILWheelBrook$Trace;)I" } : Jvm.MethodName) ({ cls := "WheelBrook$Wheel", name := "parts", desc := "(ILWheelBrook$Trace;)I" } : Jvm.MethodName)) ∈ lw_all := lw_g (lw_at lw_m5 151 rfl) rfl
theorem q1777 : (Jvm.Cond.castable "WheelBrook$Hidden" "WheelBrook$Wheel") ∈ lw_tbl := lw_at lw_m8 15 rfl
theorem in_X8 : ∀ w ∈ wsX80, w ∈ lw_all := lw_in wsX80 [393, 394] (by decide +kernel) (by decide +kernel)

/-! WheelBrook$Double -/
set_option maxRecDepth 100000
def RX9 : String := "WheelBrook$Double"
def TX9 : u_T := fun k => match k with
  | 0 => ("WheelBrook$Wheel", "number", "I", true)
  | _ => ("WheelBrook$Wheel", "m", "I", true)
def tyX9 : Nat → FieldType := fun k => match k with
  | 0 => .int
  | _ => .int
abbrev wsX90 : List Cond := u_ws RX9 TX9 2
theorem nmX9 : ∀ a, a < 2 → ∀ b, b < 2 → a ≠ b → (TX9 a).2.1 ≠ (TX9 b).2.1 := by decide +kernel
theorem tyX9_ok : ∀ k, k < 2 → parseFieldDescriptor (TX9 k).2.2.1 = some (tyX9 k) := by decide +kernel
abbrev cX9_init : ByteArray := prog_2_method_1_code
def yX9_init : MethodName := ⟨RX9, "<init>", "(II)V"⟩
def dkwX9_init_0 : List UInt8 := [42, 27, 28, 183, 0, 3, 177]
abbrev dktX9_init_0 : List UInt8 := dkwX9_init_0 ++ []
theorem dksX9_init_0 : cX9_init.data.toList.drop 0 = dktX9_init_0 := by decide +kernel
theorem dX9_init_0 : decode cX9_init 0 = .ok (.aload_n 0, 1) := dk_42 (dk_at dksX9_init_0 0 rfl rfl)
theorem dX9_init_1 : decode cX9_init 1 = .ok (.iload_n 1, 1) := dk_27 (dk_at dksX9_init_0 1 rfl rfl)
theorem dX9_init_2 : decode cX9_init 2 = .ok (.iload_n 2, 1) := dk_28 (dk_at dksX9_init_0 2 rfl rfl)
theorem dX9_init_3 : decode cX9_init 3 = .ok (.invokespecial 3, 3) := dk_183 0 3 (dk_at dksX9_init_0 3 rfl rfl)
theorem dX9_init_6 : decode cX9_init 6 = .ok (.return_, 1) := dk_177 (dk_at dksX9_init_0 6 rfl rfl)
abbrev cX9_kind : ByteArray := prog_2_method_2_code
def yX9_kind : MethodName := ⟨RX9, "kind", "()I"⟩
def dkwX9_kind_0 : List UInt8 := [42, 183, 0, 9, 6, 96, 172]
abbrev dktX9_kind_0 : List UInt8 := dkwX9_kind_0 ++ []
theorem dksX9_kind_0 : cX9_kind.data.toList.drop 0 = dktX9_kind_0 := by decide +kernel
theorem dX9_kind_0 : decode cX9_kind 0 = .ok (.aload_n 0, 1) := dk_42 (dk_at dksX9_kind_0 0 rfl rfl)
theorem dX9_kind_1 : decode cX9_kind 1 = .ok (.invokespecial 9, 3) := dk_183 0 9 (dk_at dksX9_kind_0 1 rfl rfl)
theorem dX9_kind_4 : decode cX9_kind 4 = .ok (.iconst 3, 1) := dk_6 (dk_at dksX9_kind_0 4 rfl rfl)
theorem dX9_kind_5 : decode cX9_kind 5 = .ok (.iadd, 1) := dk_96 (dk_at dksX9_kind_0 5 rfl rfl)
theorem dX9_kind_6 : decode cX9_kind 6 = .ok (.ireturn, 1) := dk_172 (dk_at dksX9_kind_0 6 rfl rfl)
abbrev cX9_wants : ByteArray := prog_2_method_3_code
def yX9_wants : MethodName := ⟨RX9, "wants", "(LWheelBrook$Sees;I)I"⟩
def dkwX9_wants_0 : List UInt8 := [42, 43, 28, 183, 0, 13, 5, 104, 172]
abbrev dktX9_wants_0 : List UInt8 := dkwX9_wants_0 ++ []
theorem dksX9_wants_0 : cX9_wants.data.toList.drop 0 = dktX9_wants_0 := by decide +kernel
theorem dX9_wants_0 : decode cX9_wants 0 = .ok (.aload_n 0, 1) := dk_42 (dk_at dksX9_wants_0 0 rfl rfl)
theorem dX9_wants_1 : decode cX9_wants 1 = .ok (.aload_n 1, 1) := dk_43 (dk_at dksX9_wants_0 1 rfl rfl)
theorem dX9_wants_2 : decode cX9_wants 2 = .ok (.iload_n 2, 1) := dk_28 (dk_at dksX9_wants_0 2 rfl rfl)
theorem dX9_wants_3 : decode cX9_wants 3 = .ok (.invokespecial 13, 3) := dk_183 0 13 (dk_at dksX9_wants_0 3 rfl rfl)
theorem dX9_wants_6 : decode cX9_wants 6 = .ok (.iconst 2, 1) := dk_5 (dk_at dksX9_wants_0 6 rfl rfl)
theorem dX9_wants_7 : decode cX9_wants 7 = .ok (.imul, 1) := dk_104 (dk_at dksX9_wants_0 7 rfl rfl)
theorem dX9_wants_8 : decode cX9_wants 8 = .ok (.ireturn, 1) := dk_172 (dk_at dksX9_wants_0 8 rfl rfl)
abbrev cX9_turnsBy : ByteArray := prog_2_method_4_code
def yX9_turnsBy : MethodName := ⟨RX9, "turnsBy", "(LWheelBrook$Sees;I)I"⟩
def dkwX9_turnsBy_0 : List UInt8 := [42, 43, 28, 183, 0, 17, 5, 104, 172]
abbrev dktX9_turnsBy_0 : List UInt8 := dkwX9_turnsBy_0 ++ []
theorem dksX9_turnsBy_0 : cX9_turnsBy.data.toList.drop 0 = dktX9_turnsBy_0 := by decide +kernel
theorem dX9_turnsBy_0 : decode cX9_turnsBy 0 = .ok (.aload_n 0, 1) := dk_42 (dk_at dksX9_turnsBy_0 0 rfl rfl)
theorem dX9_turnsBy_1 : decode cX9_turnsBy 1 = .ok (.aload_n 1, 1) := dk_43 (dk_at dksX9_turnsBy_0 1 rfl rfl)
theorem dX9_turnsBy_2 : decode cX9_turnsBy 2 = .ok (.iload_n 2, 1) := dk_28 (dk_at dksX9_turnsBy_0 2 rfl rfl)
theorem dX9_turnsBy_3 : decode cX9_turnsBy 3 = .ok (.invokespecial 17, 3) := dk_183 0 17 (dk_at dksX9_turnsBy_0 3 rfl rfl)
theorem dX9_turnsBy_6 : decode cX9_turnsBy 6 = .ok (.iconst 2, 1) := dk_5 (dk_at dksX9_turnsBy_0 6 rfl rfl)
theorem dX9_turnsBy_7 : decode cX9_turnsBy 7 = .ok (.imul, 1) := dk_104 (dk_at dksX9_turnsBy_0 7 rfl rfl)
theorem dX9_turnsBy_8 : decode cX9_turnsBy 8 = .ok (.ireturn, 1) := dk_172 (dk_at dksX9_turnsBy_0 8 rfl rfl)
abbrev cX9_prays : ByteArray := prog_2_method_5_code
def yX9_prays : MethodName := ⟨RX9, "prays", "(ILWheelBrook$Trace;)I"⟩
def dkwX9_prays_0 : List UInt8 := [44, 16, 40, 182, 0, 20, 42, 27, 5, 108, 44, 183, 0, 26, 172]
abbrev dktX9_prays_0 : List UInt8 := dkwX9_prays_0 ++ []
theorem dksX9_prays_0 : cX9_prays.data.toList.drop 0 = dktX9_prays_0 := by decide +kernel
theorem dX9_prays_0 : decode cX9_prays 0 = .ok (.aload_n 2, 1) := dk_44 (dk_at dksX9_prays_0 0 rfl rfl)
theorem dX9_prays_1 : decode cX9_prays 1 = .ok (.bipush 40, 2) := dk_16 40 (dk_at dksX9_prays_0 1 rfl rfl)
theorem dX9_prays_3 : decode cX9_prays 3 = .ok (.invokevirtual 20, 3) := dk_182 0 20 (dk_at dksX9_prays_0 3 rfl rfl)
theorem dX9_prays_6 : decode cX9_prays 6 = .ok (.aload_n 0, 1) := dk_42 (dk_at dksX9_prays_0 6 rfl rfl)
theorem dX9_prays_7 : decode cX9_prays 7 = .ok (.iload_n 1, 1) := dk_27 (dk_at dksX9_prays_0 7 rfl rfl)
theorem dX9_prays_8 : decode cX9_prays 8 = .ok (.iconst 2, 1) := dk_5 (dk_at dksX9_prays_0 8 rfl rfl)
theorem dX9_prays_9 : decode cX9_prays 9 = .ok (.idiv, 1) := dk_108 (dk_at dksX9_prays_0 9 rfl rfl)
theorem dX9_prays_10 : decode cX9_prays 10 = .ok (.aload_n 2, 1) := dk_44 (dk_at dksX9_prays_0 10 rfl rfl)
theorem dX9_prays_11 : decode cX9_prays 11 = .ok (.invokespecial 26, 3) := dk_183 0 26 (dk_at dksX9_prays_0 11 rfl rfl)
theorem dX9_prays_14 : decode cX9_prays 14 = .ok (.ireturn, 1) := dk_172 (dk_at dksX9_prays_0 14 rfl rfl)
theorem q92 : (Jvm.Cond.initialized "WheelBrook$Double") ∈ lw_all := lw_g (lw_at lw_m1 10 rfl) rfl
theorem q397 : (Jvm.Cond.instantiable "WheelBrook$Double" (2 : Nat)) ∈ lw_all := lw_g (lw_at lw_m2 75 rfl) rfl
theorem q399 : (Jvm.Cond.instanceMethod ({ cls := "WheelBrook$Double", name := "<init>", desc := "(II)V" } : Jvm.MethodName)) ∈ lw_all := lw_g (lw_at lw_m2 77 rfl) rfl
theorem q400 : (Jvm.Cond.code ({ cls := "WheelBrook$Double", name := "<init>", desc := "(II)V" } : Jvm.MethodName) prog_2_method_1_code (3 : Nat) (Option.none : Option Jvm.ClassFile.FieldType)) ∈ lw_all := lw_g (lw_at lw_m2 78 rfl) rfl
theorem q401 : (Jvm.Cond.methodLink "WheelBrook$Double" (3 : Nat) ({ cls := "WheelBrook$Wheel", name := "<init>", desc := "(II)V" } : Jvm.MethodName)) ∈ lw_all := lw_g (lw_at lw_m2 79 rfl) rfl
theorem q402 : (Jvm.Cond.laysFinal "WheelBrook$Double" "WheelBrook$Wheel" "number" "I") ∈ lw_all := lw_g (lw_at lw_m2 80 rfl) rfl
theorem q403 : (Jvm.Cond.laysFinal "WheelBrook$Double" "WheelBrook$Wheel" "m" "I") ∈ lw_all := lw_g (lw_at lw_m2 81 rfl) rfl
theorem q404 : (Jvm.Cond.superclass "WheelBrook$Double" "WheelBrook$Wheel") ∈ lw_all := lw_g (lw_at lw_m2 82 rfl) rfl
theorem q459 : (Jvm.Cond.selects "WheelBrook$Double" ({ cls := "WheelBrook$Wheel", name := "kind", desc := "()I" } : Jvm.MethodName) ({ cls := "WheelBrook$Double", name := "kind", desc := "()I" } : Jvm.MethodName)) ∈ lw_all := lw_g (lw_at lw_m2 137 rfl) rfl
theorem q460 : (Jvm.Cond.instanceMethod ({ cls := "WheelBrook$Double", name := "kind", desc := "()I" } : Jvm.MethodName)) ∈ lw_all := lw_g (lw_at lw_m2 138 rfl) rfl
theorem q461 : (Jvm.Cond.code ({ cls := "WheelBrook$Double", name := "kind", desc := "()I" } : Jvm.MethodName) prog_2_method_2_code (1 : Nat) (Option.some Jvm.ClassFile.FieldType.int)) ∈ lw_all := lw_g (lw_at lw_m2 139 rfl) rfl
theorem q462 : (Jvm.Cond.methodLink "WheelBrook$Double" (9 : Nat) ({ cls := "WheelBrook$Wheel", name := "kind", desc := "()I" } : Jvm.MethodName)) ∈ lw_all := lw_g (lw_at lw_m2 140 rfl) rfl
theorem q503 : (Jvm.Cond.castable "WheelBrook$Double" "WheelBrook$Wants") ∈ lw_tbl := lw_at lw_m2 181 rfl
theorem q504 : (Jvm.Cond.selects "WheelBrook$Double" ({ cls := "WheelBrook$Wants", name := "wants", desc := "(LWheelBrook$Sees;I)I" } : Jvm.MethodName) ({ cls := "WheelBrook$Double", name := "wants", desc := "(LWheelBrook$Sees;I)I" } : Jvm.MethodName)) ∈ lw_all := lw_g (lw_at lw_m2 182 rfl) rfl
theorem q505 : (Jvm.Cond.unhidden "WheelBrook$Double" "wants" "(LWheelBrook$Sees;I)I") ∈ lw_tbl := lw_at lw_m2 183 rfl
theorem q506 : (Jvm.Cond.instanceMethod ({ cls := "WheelBrook$Double", name := "wants", desc := "(LWheelBrook$Sees;I)I" } : Jvm.MethodName)) ∈ lw_all := lw_g (lw_at lw_m2 184 rfl) rfl
theorem q507 : (Jvm.Cond.publicMethod ({ cls := "WheelBrook$Double", name := "wants", desc := "(LWheelBrook$Sees;I)I" } : Jvm.MethodName)) ∈ lw_tbl := lw_at lw_m2 185 rfl
theorem q508 : (Jvm.Cond.code ({ cls := "WheelBrook$Double", name := "wants", desc := "(LWheelBrook$Sees;I)I" } : Jvm.MethodName) prog_2_method_3_code (3 : Nat) (Option.some Jvm.ClassFile.FieldType.int)) ∈ lw_all := lw_g (lw_at lw_m2 186 rfl) rfl
theorem q570 : (Jvm.Cond.selects "WheelBrook$Double" ({ cls := "WheelBrook$Wants", name := "turnsBy", desc := "(LWheelBrook$Sees;I)I" } : Jvm.MethodName) ({ cls := "WheelBrook$Double", name := "turnsBy", desc := "(LWheelBrook$Sees;I)I" } : Jvm.MethodName)) ∈ lw_all := lw_g (lw_at lw_m3 8 rfl) rfl
theorem q571 : (Jvm.Cond.unhidden "WheelBrook$Double" "turnsBy" "(LWheelBrook$Sees;I)I") ∈ lw_tbl := lw_at lw_m3 9 rfl
theorem q572 : (Jvm.Cond.instanceMethod ({ cls := "WheelBrook$Double", name := "turnsBy", desc := "(LWheelBrook$Sees;I)I" } : Jvm.MethodName)) ∈ lw_all := lw_g (lw_at lw_m3 10 rfl) rfl
theorem q573 : (Jvm.Cond.publicMethod ({ cls := "WheelBrook$Double", name := "turnsBy", desc := "(LWheelBrook$Sees;I)I" } : Jvm.MethodName)) ∈ lw_tbl := lw_at lw_m3 11 rfl
theorem q574 : (Jvm.Cond.code ({ cls := "WheelBrook$Double", name := "turnsBy", desc := "(LWheelBrook$Sees;I)I" } : Jvm.MethodName) prog_2_method_4_code (3 : Nat) (Option.some Jvm.ClassFile.FieldType.int)) ∈ lw_all := lw_g (lw_at lw_m3 12 rfl) rfl
theorem q618 : (Jvm.Cond.unhidden "WheelBrook$Double" "shows" "(LWheelBrook$Sees;I)I") ∈ lw_tbl := lw_at lw_m3 56 rfl
theorem q1096 : (Jvm.Cond.selects "WheelBrook$Double" ({ cls := "WheelBrook$Wheel", name := "flows", desc := "(ILWheelBrook$Trace;)I" } : Jvm.MethodName) ({ cls := "WheelBrook$Wheel", name := "flows", desc := "(ILWheelBrook$Trace;)I" } : Jvm.MethodName)) ∈ lw_all := lw_g (lw_at lw_m5 54 rfl) rfl
theorem q1119 : (Jvm.Cond.unhidden "WheelBrook$Double" "turned" "(ILWheelBrook$Trace;)I") ∈ lw_tbl := lw_at lw_m5 77 rfl
theorem q1131 : (Jvm.Cond.castable "WheelBrook$Double" "WheelBrook$Flows") ∈ lw_tbl := lw_at lw_m5 89 rfl
theorem q1132 : (Jvm.Cond.selects "WheelBrook$Double" ({ cls := "WheelBrook$Flows", name := "flows", desc := "(ILWheelBrook$Trace;)I" } : Jvm.MethodName) ({ cls := "WheelBrook$Wheel", name := "flows", desc := "(ILWheelBrook$Trace;)I" } : Jvm.MethodName)) ∈ lw_all := lw_g (lw_at lw_m5 90 rfl) rfl
theorem q1133 : (Jvm.Cond.unhidden "WheelBrook$Double" "flows" "(ILWheelBrook$Trace;)I") ∈ lw_tbl := lw_at lw_m5 91 rfl
theorem q1171 : (Jvm.Cond.selects "WheelBrook$Double" ({ cls := "WheelBrook$Wheel", name := "prays", desc := "(ILWheelBrook$Trace;)I" } : Jvm.MethodName) ({ cls := "WheelBrook$Double", name := "prays", desc := "(ILWheelBrook$Trace;)I" } : Jvm.MethodName)) ∈ lw_all := lw_g (lw_at lw_m5 129 rfl) rfl
theorem q1172 : (Jvm.Cond.instanceMethod ({ cls := "WheelBrook$Double", name := "prays", desc := "(ILWheelBrook$Trace;)I" } : Jvm.MethodName)) ∈ lw_all := lw_g (lw_at lw_m5 130 rfl) rfl
theorem q1173 : (Jvm.Cond.code ({ cls := "WheelBrook$Double", name := "prays", desc := "(ILWheelBrook$Trace;)I" } : Jvm.MethodName) prog_2_method_5_code (3 : Nat) (Option.some Jvm.ClassFile.FieldType.int)) ∈ lw_all := lw_g (lw_at lw_m5 131 rfl) rfl
theorem q1174 : (Jvm.Cond.methodLink "WheelBrook$Double" (20 : Nat) ({ cls := "WheelBrook$Trace", name := "ran", desc := "(I)V" } : Jvm.MethodName)) ∈ lw_all := lw_g (lw_at lw_m5 132 rfl) rfl
theorem q1175 : (Jvm.Cond.methodLink "WheelBrook$Double" (26 : Nat) ({ cls := "WheelBrook$Wheel", name := "prays", desc := "(ILWheelBrook$Trace;)I" } : Jvm.MethodName)) ∈ lw_all := lw_g (lw_at lw_m5 133 rfl) rfl
theorem q1191 : (Jvm.Cond.selects "WheelBrook$Double" ({ cls := "WheelBrook$Wheel", name := "parts", desc := "(ILWheelBrook$Trace;)I" } : Jvm.MethodName) ({ cls := "WheelBrook$Wheel", name := "parts", desc := "(ILWheelBrook$Trace;)I" } : Jvm.MethodName)) ∈ lw_all := lw_g (lw_at lw_m5 149 rfl) rfl
theorem q1769 : (Jvm.Cond.sameMethod "WheelBrook$Double" "WheelBrook$Double" "kind" "()I") ∈ lw_all := lw_g (lw_at lw_m8 7 rfl) rfl
theorem q1772 : (Jvm.Cond.sameMethod "WheelBrook$Double" "WheelBrook$Double" "turnsBy" "(LWheelBrook$Sees;I)I") ∈ lw_all := lw_g (lw_at lw_m8 10 rfl) rfl
theorem q1775 : (Jvm.Cond.castable "WheelBrook$Double" "WheelBrook$Wheel") ∈ lw_tbl := lw_at lw_m8 13 rfl
theorem in_X9 : ∀ w ∈ wsX90, w ∈ lw_all := lw_in wsX90 [402, 403] (by decide +kernel) (by decide +kernel)

/-! WheelBrook$Silent -/
set_option maxRecDepth 100000
def RX10 : String := "WheelBrook$Silent"
def TX10 : u_T := fun k => match k with
  | 0 => ("WheelBrook$Wheel", "number", "I", true)
  | _ => ("WheelBrook$Wheel", "m", "I", true)
def tyX10 : Nat → FieldType := fun k => match k with
  | 0 => .int
  | _ => .int
abbrev wsX100 : List Cond := u_ws RX10 TX10 2
theorem nmX10 : ∀ a, a < 2 → ∀ b, b < 2 → a ≠ b → (TX10 a).2.1 ≠ (TX10 b).2.1 := by decide +kernel
theorem tyX10_ok : ∀ k, k < 2 → parseFieldDescriptor (TX10 k).2.2.1 = some (tyX10 k) := by decide +kernel
abbrev cX10_init : ByteArray := prog_11_method_1_code
def yX10_init : MethodName := ⟨RX10, "<init>", "(II)V"⟩
def dkwX10_init_0 : List UInt8 := [42, 27, 28, 183, 0, 1, 177]
abbrev dktX10_init_0 : List UInt8 := dkwX10_init_0 ++ []
theorem dksX10_init_0 : cX10_init.data.toList.drop 0 = dktX10_init_0 := by decide +kernel
theorem dX10_init_0 : decode cX10_init 0 = .ok (.aload_n 0, 1) := dk_42 (dk_at dksX10_init_0 0 rfl rfl)
theorem dX10_init_1 : decode cX10_init 1 = .ok (.iload_n 1, 1) := dk_27 (dk_at dksX10_init_0 1 rfl rfl)
theorem dX10_init_2 : decode cX10_init 2 = .ok (.iload_n 2, 1) := dk_28 (dk_at dksX10_init_0 2 rfl rfl)
theorem dX10_init_3 : decode cX10_init 3 = .ok (.invokespecial 1, 3) := dk_183 0 1 (dk_at dksX10_init_0 3 rfl rfl)
theorem dX10_init_6 : decode cX10_init 6 = .ok (.return_, 1) := dk_177 (dk_at dksX10_init_0 6 rfl rfl)
abbrev cX10_kind : ByteArray := prog_11_method_2_code
def yX10_kind : MethodName := ⟨RX10, "kind", "()I"⟩
def dkwX10_kind_0 : List UInt8 := [42, 183, 0, 7, 6, 96, 172]
abbrev dktX10_kind_0 : List UInt8 := dkwX10_kind_0 ++ []
theorem dksX10_kind_0 : cX10_kind.data.toList.drop 0 = dktX10_kind_0 := by decide +kernel
theorem dX10_kind_0 : decode cX10_kind 0 = .ok (.aload_n 0, 1) := dk_42 (dk_at dksX10_kind_0 0 rfl rfl)
theorem dX10_kind_1 : decode cX10_kind 1 = .ok (.invokespecial 7, 3) := dk_183 0 7 (dk_at dksX10_kind_0 1 rfl rfl)
theorem dX10_kind_4 : decode cX10_kind 4 = .ok (.iconst 3, 1) := dk_6 (dk_at dksX10_kind_0 4 rfl rfl)
theorem dX10_kind_5 : decode cX10_kind 5 = .ok (.iadd, 1) := dk_96 (dk_at dksX10_kind_0 5 rfl rfl)
theorem dX10_kind_6 : decode cX10_kind 6 = .ok (.ireturn, 1) := dk_172 (dk_at dksX10_kind_0 6 rfl rfl)
abbrev cX10_turnsBy : ByteArray := prog_11_method_3_code
def yX10_turnsBy : MethodName := ⟨RX10, "turnsBy", "(LWheelBrook$Sees;I)I"⟩
def dkwX10_turnsBy_0 : List UInt8 := [42, 43, 28, 183, 0, 11, 62, 29, 158, 0, 9, 29, 4, 96, 167, 0, 4, 29, 172]
abbrev dktX10_turnsBy_0 : List UInt8 := dkwX10_turnsBy_0 ++ []
theorem dksX10_turnsBy_0 : cX10_turnsBy.data.toList.drop 0 = dktX10_turnsBy_0 := by decide +kernel
theorem dX10_turnsBy_0 : decode cX10_turnsBy 0 = .ok (.aload_n 0, 1) := dk_42 (dk_at dksX10_turnsBy_0 0 rfl rfl)
theorem dX10_turnsBy_1 : decode cX10_turnsBy 1 = .ok (.aload_n 1, 1) := dk_43 (dk_at dksX10_turnsBy_0 1 rfl rfl)
theorem dX10_turnsBy_2 : decode cX10_turnsBy 2 = .ok (.iload_n 2, 1) := dk_28 (dk_at dksX10_turnsBy_0 2 rfl rfl)
theorem dX10_turnsBy_3 : decode cX10_turnsBy 3 = .ok (.invokespecial 11, 3) := dk_183 0 11 (dk_at dksX10_turnsBy_0 3 rfl rfl)
theorem dX10_turnsBy_6 : decode cX10_turnsBy 6 = .ok (.istore_n 3, 1) := dk_62 (dk_at dksX10_turnsBy_0 6 rfl rfl)
theorem dX10_turnsBy_7 : decode cX10_turnsBy 7 = .ok (.iload_n 3, 1) := dk_29 (dk_at dksX10_turnsBy_0 7 rfl rfl)
theorem dX10_turnsBy_8 : decode cX10_turnsBy 8 = .ok (.ifCond .le 9, 3) := dk_158 0 9 (dk_at dksX10_turnsBy_0 8 rfl rfl)
theorem dX10_turnsBy_11 : decode cX10_turnsBy 11 = .ok (.iload_n 3, 1) := dk_29 (dk_at dksX10_turnsBy_0 11 rfl rfl)
theorem dX10_turnsBy_12 : decode cX10_turnsBy 12 = .ok (.iconst 1, 1) := dk_4 (dk_at dksX10_turnsBy_0 12 rfl rfl)
theorem dX10_turnsBy_13 : decode cX10_turnsBy 13 = .ok (.iadd, 1) := dk_96 (dk_at dksX10_turnsBy_0 13 rfl rfl)
theorem dX10_turnsBy_14 : decode cX10_turnsBy 14 = .ok (.goto 4, 3) := dk_167 0 4 (dk_at dksX10_turnsBy_0 14 rfl rfl)
theorem dX10_turnsBy_17 : decode cX10_turnsBy 17 = .ok (.iload_n 3, 1) := dk_29 (dk_at dksX10_turnsBy_0 17 rfl rfl)
theorem dX10_turnsBy_18 : decode cX10_turnsBy 18 = .ok (.ireturn, 1) := dk_172 (dk_at dksX10_turnsBy_0 18 rfl rfl)
abbrev cX10_shows : ByteArray := prog_11_method_4_code
def yX10_shows : MethodName := ⟨RX10, "shows", "(LWheelBrook$Sees;I)I"⟩
theorem dX10_shows_0 : decode cX10_shows 0 = .ok (.iconst 0, 1) := by decide +kernel
theorem dX10_shows_1 : decode cX10_shows 1 = .ok (.ireturn, 1) := by decide +kernel
abbrev cX10_flows : ByteArray := prog_11_method_5_code
def yX10_flows : MethodName := ⟨RX10, "flows", "(ILWheelBrook$Trace;)I"⟩
def dkwX10_flows_0 : List UInt8 := [44, 16, 50, 182, 0, 15, 42, 27, 44, 183, 0, 21, 6, 104, 172]
abbrev dktX10_flows_0 : List UInt8 := dkwX10_flows_0 ++ []
theorem dksX10_flows_0 : cX10_flows.data.toList.drop 0 = dktX10_flows_0 := by decide +kernel
theorem dX10_flows_0 : decode cX10_flows 0 = .ok (.aload_n 2, 1) := dk_44 (dk_at dksX10_flows_0 0 rfl rfl)
theorem dX10_flows_1 : decode cX10_flows 1 = .ok (.bipush 50, 2) := dk_16 50 (dk_at dksX10_flows_0 1 rfl rfl)
theorem dX10_flows_3 : decode cX10_flows 3 = .ok (.invokevirtual 15, 3) := dk_182 0 15 (dk_at dksX10_flows_0 3 rfl rfl)
theorem dX10_flows_6 : decode cX10_flows 6 = .ok (.aload_n 0, 1) := dk_42 (dk_at dksX10_flows_0 6 rfl rfl)
theorem dX10_flows_7 : decode cX10_flows 7 = .ok (.iload_n 1, 1) := dk_27 (dk_at dksX10_flows_0 7 rfl rfl)
theorem dX10_flows_8 : decode cX10_flows 8 = .ok (.aload_n 2, 1) := dk_44 (dk_at dksX10_flows_0 8 rfl rfl)
theorem dX10_flows_9 : decode cX10_flows 9 = .ok (.invokespecial 21, 3) := dk_183 0 21 (dk_at dksX10_flows_0 9 rfl rfl)
theorem dX10_flows_12 : decode cX10_flows 12 = .ok (.iconst 3, 1) := dk_6 (dk_at dksX10_flows_0 12 rfl rfl)
theorem dX10_flows_13 : decode cX10_flows 13 = .ok (.imul, 1) := dk_104 (dk_at dksX10_flows_0 13 rfl rfl)
theorem dX10_flows_14 : decode cX10_flows 14 = .ok (.ireturn, 1) := dk_172 (dk_at dksX10_flows_0 14 rfl rfl)
abbrev cX10_prays : ByteArray := prog_11_method_6_code
def yX10_prays : MethodName := ⟨RX10, "prays", "(ILWheelBrook$Trace;)I"⟩
def dkwX10_prays_0 : List UInt8 := [44, 16, 51, 182, 0, 15, 42, 27, 44, 183, 0, 25, 42, 180, 0, 28, 130, 172]
abbrev dktX10_prays_0 : List UInt8 := dkwX10_prays_0 ++ []
theorem dksX10_prays_0 : cX10_prays.data.toList.drop 0 = dktX10_prays_0 := by decide +kernel
theorem dX10_prays_0 : decode cX10_prays 0 = .ok (.aload_n 2, 1) := dk_44 (dk_at dksX10_prays_0 0 rfl rfl)
theorem dX10_prays_1 : decode cX10_prays 1 = .ok (.bipush 51, 2) := dk_16 51 (dk_at dksX10_prays_0 1 rfl rfl)
theorem dX10_prays_3 : decode cX10_prays 3 = .ok (.invokevirtual 15, 3) := dk_182 0 15 (dk_at dksX10_prays_0 3 rfl rfl)
theorem dX10_prays_6 : decode cX10_prays 6 = .ok (.aload_n 0, 1) := dk_42 (dk_at dksX10_prays_0 6 rfl rfl)
theorem dX10_prays_7 : decode cX10_prays 7 = .ok (.iload_n 1, 1) := dk_27 (dk_at dksX10_prays_0 7 rfl rfl)
theorem dX10_prays_8 : decode cX10_prays 8 = .ok (.aload_n 2, 1) := dk_44 (dk_at dksX10_prays_0 8 rfl rfl)
theorem dX10_prays_9 : decode cX10_prays 9 = .ok (.invokespecial 25, 3) := dk_183 0 25 (dk_at dksX10_prays_0 9 rfl rfl)
theorem dX10_prays_12 : decode cX10_prays 12 = .ok (.aload_n 0, 1) := dk_42 (dk_at dksX10_prays_0 12 rfl rfl)
theorem dX10_prays_13 : decode cX10_prays 13 = .ok (.getfield 28, 3) := dk_180 0 28 (dk_at dksX10_prays_0 13 rfl rfl)
theorem dX10_prays_16 : decode cX10_prays 16 = .ok (.ixor, 1) := dk_130 (dk_at dksX10_prays_0 16 rfl rfl)
theorem dX10_prays_17 : decode cX10_prays 17 = .ok (.ireturn, 1) := dk_172 (dk_at dksX10_prays_0 17 rfl rfl)
theorem q93 : (Jvm.Cond.initialized "WheelBrook$Silent") ∈ lw_all := lw_g (lw_at lw_m1 11 rfl) rfl
theorem q371 : (Jvm.Cond.fieldLink "WheelBrook$Silent" (28 : Nat) "WheelBrook$Silent" "number" "I") ∈ lw_all := lw_g (lw_at lw_m2 49 rfl) rfl
theorem q372 : (Jvm.Cond.sameField "WheelBrook$Silent" "WheelBrook$Wheel" "number" "I") ∈ lw_all := lw_g (lw_at lw_m2 50 rfl) rfl
theorem q406 : (Jvm.Cond.instantiable "WheelBrook$Silent" (2 : Nat)) ∈ lw_all := lw_g (lw_at lw_m2 84 rfl) rfl
theorem q408 : (Jvm.Cond.instanceMethod ({ cls := "WheelBrook$Silent", name := "<init>", desc := "(II)V" } : Jvm.MethodName)) ∈ lw_all := lw_g (lw_at lw_m2 86 rfl) rfl
theorem q409 : (Jvm.Cond.code ({ cls := "WheelBrook$Silent", name := "<init>", desc := "(II)V" } : Jvm.MethodName) prog_11_method_1_code (3 : Nat) (Option.none : Option Jvm.ClassFile.FieldType)) ∈ lw_all := lw_g (lw_at lw_m2 87 rfl) rfl
theorem q410 : (Jvm.Cond.methodLink "WheelBrook$Silent" (1 : Nat) ({ cls := "WheelBrook$Slow", name := "<init>", desc := "(II)V" } : Jvm.MethodName)) ∈ lw_all := lw_g (lw_at lw_m2 88 rfl) rfl
theorem q411 : (Jvm.Cond.laysFinal "WheelBrook$Silent" "WheelBrook$Wheel" "number" "I") ∈ lw_all := lw_g (lw_at lw_m2 89 rfl) rfl
theorem q412 : (Jvm.Cond.laysFinal "WheelBrook$Silent" "WheelBrook$Wheel" "m" "I") ∈ lw_all := lw_g (lw_at lw_m2 90 rfl) rfl
theorem q413 : (Jvm.Cond.superclass "WheelBrook$Silent" "WheelBrook$Slow") ∈ lw_all := lw_g (lw_at lw_m2 91 rfl) rfl
theorem q471 : (Jvm.Cond.selects "WheelBrook$Silent" ({ cls := "WheelBrook$Wheel", name := "kind", desc := "()I" } : Jvm.MethodName) ({ cls := "WheelBrook$Silent", name := "kind", desc := "()I" } : Jvm.MethodName)) ∈ lw_all := lw_g (lw_at lw_m2 149 rfl) rfl
theorem q472 : (Jvm.Cond.instanceMethod ({ cls := "WheelBrook$Silent", name := "kind", desc := "()I" } : Jvm.MethodName)) ∈ lw_all := lw_g (lw_at lw_m2 150 rfl) rfl
theorem q473 : (Jvm.Cond.code ({ cls := "WheelBrook$Silent", name := "kind", desc := "()I" } : Jvm.MethodName) prog_11_method_2_code (1 : Nat) (Option.some Jvm.ClassFile.FieldType.int)) ∈ lw_all := lw_g (lw_at lw_m2 151 rfl) rfl
theorem q474 : (Jvm.Cond.methodLink "WheelBrook$Silent" (7 : Nat) ({ cls := "WheelBrook$Slow", name := "kind", desc := "()I" } : Jvm.MethodName)) ∈ lw_all := lw_g (lw_at lw_m2 152 rfl) rfl
theorem q520 : (Jvm.Cond.castable "WheelBrook$Silent" "WheelBrook$Wants") ∈ lw_tbl := lw_at lw_m2 198 rfl
theorem q521 : (Jvm.Cond.selects "WheelBrook$Silent" ({ cls := "WheelBrook$Wants", name := "wants", desc := "(LWheelBrook$Sees;I)I" } : Jvm.MethodName) ({ cls := "WheelBrook$Slow", name := "wants", desc := "(LWheelBrook$Sees;I)I" } : Jvm.MethodName)) ∈ lw_all := lw_g (lw_at lw_m2 199 rfl) rfl
theorem q522 : (Jvm.Cond.unhidden "WheelBrook$Silent" "wants" "(LWheelBrook$Sees;I)I") ∈ lw_tbl := lw_at lw_m2 200 rfl
theorem q584 : (Jvm.Cond.selects "WheelBrook$Silent" ({ cls := "WheelBrook$Wants", name := "turnsBy", desc := "(LWheelBrook$Sees;I)I" } : Jvm.MethodName) ({ cls := "WheelBrook$Silent", name := "turnsBy", desc := "(LWheelBrook$Sees;I)I" } : Jvm.MethodName)) ∈ lw_all := lw_g (lw_at lw_m3 22 rfl) rfl
theorem q585 : (Jvm.Cond.unhidden "WheelBrook$Silent" "turnsBy" "(LWheelBrook$Sees;I)I") ∈ lw_tbl := lw_at lw_m3 23 rfl
theorem q586 : (Jvm.Cond.instanceMethod ({ cls := "WheelBrook$Silent", name := "turnsBy", desc := "(LWheelBrook$Sees;I)I" } : Jvm.MethodName)) ∈ lw_all := lw_g (lw_at lw_m3 24 rfl) rfl
theorem q587 : (Jvm.Cond.publicMethod ({ cls := "WheelBrook$Silent", name := "turnsBy", desc := "(LWheelBrook$Sees;I)I" } : Jvm.MethodName)) ∈ lw_tbl := lw_at lw_m3 25 rfl
theorem q588 : (Jvm.Cond.code ({ cls := "WheelBrook$Silent", name := "turnsBy", desc := "(LWheelBrook$Sees;I)I" } : Jvm.MethodName) prog_11_method_3_code (4 : Nat) (Option.some Jvm.ClassFile.FieldType.int)) ∈ lw_all := lw_g (lw_at lw_m3 26 rfl) rfl
theorem q589 : (Jvm.Cond.methodLink "WheelBrook$Silent" (11 : Nat) ({ cls := "WheelBrook$Slow", name := "turnsBy", desc := "(LWheelBrook$Sees;I)I" } : Jvm.MethodName)) ∈ lw_all := lw_g (lw_at lw_m3 27 rfl) rfl
theorem q635 : (Jvm.Cond.selects "WheelBrook$Silent" ({ cls := "WheelBrook$Wants", name := "shows", desc := "(LWheelBrook$Sees;I)I" } : Jvm.MethodName) ({ cls := "WheelBrook$Silent", name := "shows", desc := "(LWheelBrook$Sees;I)I" } : Jvm.MethodName)) ∈ lw_all := lw_g (lw_at lw_m3 73 rfl) rfl
theorem q636 : (Jvm.Cond.unhidden "WheelBrook$Silent" "shows" "(LWheelBrook$Sees;I)I") ∈ lw_tbl := lw_at lw_m3 74 rfl
theorem q637 : (Jvm.Cond.instanceMethod ({ cls := "WheelBrook$Silent", name := "shows", desc := "(LWheelBrook$Sees;I)I" } : Jvm.MethodName)) ∈ lw_all := lw_g (lw_at lw_m3 75 rfl) rfl
theorem q638 : (Jvm.Cond.publicMethod ({ cls := "WheelBrook$Silent", name := "shows", desc := "(LWheelBrook$Sees;I)I" } : Jvm.MethodName)) ∈ lw_tbl := lw_at lw_m3 76 rfl
theorem q639 : (Jvm.Cond.code ({ cls := "WheelBrook$Silent", name := "shows", desc := "(LWheelBrook$Sees;I)I" } : Jvm.MethodName) prog_11_method_4_code (3 : Nat) (Option.some Jvm.ClassFile.FieldType.int)) ∈ lw_all := lw_g (lw_at lw_m3 77 rfl) rfl
theorem q1099 : (Jvm.Cond.selects "WheelBrook$Silent" ({ cls := "WheelBrook$Wheel", name := "flows", desc := "(ILWheelBrook$Trace;)I" } : Jvm.MethodName) ({ cls := "WheelBrook$Silent", name := "flows", desc := "(ILWheelBrook$Trace;)I" } : Jvm.MethodName)) ∈ lw_all := lw_g (lw_at lw_m5 57 rfl) rfl
theorem q1100 : (Jvm.Cond.instanceMethod ({ cls := "WheelBrook$Silent", name := "flows", desc := "(ILWheelBrook$Trace;)I" } : Jvm.MethodName)) ∈ lw_all := lw_g (lw_at lw_m5 58 rfl) rfl
theorem q1101 : (Jvm.Cond.code ({ cls := "WheelBrook$Silent", name := "flows", desc := "(ILWheelBrook$Trace;)I" } : Jvm.MethodName) prog_11_method_5_code (3 : Nat) (Option.some Jvm.ClassFile.FieldType.int)) ∈ lw_all := lw_g (lw_at lw_m5 59 rfl) rfl
theorem q1102 : (Jvm.Cond.methodLink "WheelBrook$Silent" (15 : Nat) ({ cls := "WheelBrook$Trace", name := "ran", desc := "(I)V" } : Jvm.MethodName)) ∈ lw_all := lw_g (lw_at lw_m5 60 rfl) rfl
theorem q1106 : (Jvm.Cond.methodLink "WheelBrook$Silent" (21 : Nat) ({ cls := "WheelBrook$Slow", name := "flows", desc := "(ILWheelBrook$Trace;)I" } : Jvm.MethodName)) ∈ lw_all := lw_g (lw_at lw_m5 64 rfl) rfl
theorem q1141 : (Jvm.Cond.castable "WheelBrook$Silent" "WheelBrook$Flows") ∈ lw_tbl := lw_at lw_m5 99 rfl
theorem q1142 : (Jvm.Cond.selects "WheelBrook$Silent" ({ cls := "WheelBrook$Flows", name := "flows", desc := "(ILWheelBrook$Trace;)I" } : Jvm.MethodName) ({ cls := "WheelBrook$Silent", name := "flows", desc := "(ILWheelBrook$Trace;)I" } : Jvm.MethodName)) ∈ lw_all := lw_g (lw_at lw_m5 100 rfl) rfl
theorem q1143 : (Jvm.Cond.unhidden "WheelBrook$Silent" "flows" "(ILWheelBrook$Trace;)I") ∈ lw_tbl := lw_at lw_m5 101 rfl
theorem q1144 : (Jvm.Cond.publicMethod ({ cls := "WheelBrook$Silent", name := "flows", desc := "(ILWheelBrook$Trace;)I" } : Jvm.MethodName)) ∈ lw_tbl := lw_at lw_m5 102 rfl
theorem q1160 : (Jvm.Cond.unhidden "WheelBrook$Silent" "turned" "(ILWheelBrook$Trace;)I") ∈ lw_tbl := lw_at lw_m5 118 rfl
theorem q1178 : (Jvm.Cond.selects "WheelBrook$Silent" ({ cls := "WheelBrook$Wheel", name := "prays", desc := "(ILWheelBrook$Trace;)I" } : Jvm.MethodName) ({ cls := "WheelBrook$Silent", name := "prays", desc := "(ILWheelBrook$Trace;)I" } : Jvm.MethodName)) ∈ lw_all := lw_g (lw_at lw_m5 136 rfl) rfl
theorem q1179 : (Jvm.Cond.instanceMethod ({ cls := "WheelBrook$Silent", name := "prays", desc := "(ILWheelBrook$Trace;)I" } : Jvm.MethodName)) ∈ lw_all := lw_g (lw_at lw_m5 137 rfl) rfl
theorem q1180 : (Jvm.Cond.code ({ cls := "WheelBrook$Silent", name := "prays", desc := "(ILWheelBrook$Trace;)I" } : Jvm.MethodName) prog_11_method_6_code (3 : Nat) (Option.some Jvm.ClassFile.FieldType.int)) ∈ lw_all := lw_g (lw_at lw_m5 138 rfl) rfl
theorem q1181 : (Jvm.Cond.methodLink "WheelBrook$Silent" (25 : Nat) ({ cls := "WheelBrook$Slow", name := "prays", desc := "(ILWheelBrook$Trace;)I" } : Jvm.MethodName)) ∈ lw_all := lw_g (lw_at lw_m5 139 rfl) rfl
theorem q1194 : (Jvm.Cond.selects "WheelBrook$Silent" ({ cls := "WheelBrook$Wheel", name := "parts", desc := "(ILWheelBrook$Trace;)I" } : Jvm.MethodName) ({ cls := "WheelBrook$Slow", name := "parts", desc := "(ILWheelBrook$Trace;)I" } : Jvm.MethodName)) ∈ lw_all := lw_g (lw_at lw_m5 152 rfl) rfl
theorem q1778 : (Jvm.Cond.castable "WheelBrook$Silent" "WheelBrook$Wheel") ∈ lw_tbl := lw_at lw_m8 16 rfl
theorem q1781 : (Jvm.Cond.castable "WheelBrook$Silent" "WheelBrook$Slow") ∈ lw_tbl := lw_at lw_m8 19 rfl
theorem in_X10 : ∀ w ∈ wsX100, w ∈ lw_all := lw_in wsX100 [411, 412] (by decide +kernel) (by decide +kernel)

/-! WheelBrook$False -/
set_option maxRecDepth 100000
def RX11 : String := "WheelBrook$False"
def TX11 : u_T := fun k => match k with
  | 0 => ("WheelBrook$Wheel", "number", "I", true)
  | _ => ("WheelBrook$Wheel", "m", "I", true)
def tyX11 : Nat → FieldType := fun k => match k with
  | 0 => .int
  | _ => .int
abbrev wsX110 : List Cond := u_ws RX11 TX11 2
theorem nmX11 : ∀ a, a < 2 → ∀ b, b < 2 → a ≠ b → (TX11 a).2.1 ≠ (TX11 b).2.1 := by decide +kernel
theorem tyX11_ok : ∀ k, k < 2 → parseFieldDescriptor (TX11 k).2.2.1 = some (tyX11 k) := by decide +kernel
abbrev cX11_init : ByteArray := prog_4_method_1_code
def yX11_init : MethodName := ⟨RX11, "<init>", "(II)V"⟩
def dkwX11_init_0 : List UInt8 := [42, 27, 28, 183, 0, 1, 177]
abbrev dktX11_init_0 : List UInt8 := dkwX11_init_0 ++ []
theorem dksX11_init_0 : cX11_init.data.toList.drop 0 = dktX11_init_0 := by decide +kernel
theorem dX11_init_0 : decode cX11_init 0 = .ok (.aload_n 0, 1) := dk_42 (dk_at dksX11_init_0 0 rfl rfl)
theorem dX11_init_1 : decode cX11_init 1 = .ok (.iload_n 1, 1) := dk_27 (dk_at dksX11_init_0 1 rfl rfl)
theorem dX11_init_2 : decode cX11_init 2 = .ok (.iload_n 2, 1) := dk_28 (dk_at dksX11_init_0 2 rfl rfl)
theorem dX11_init_3 : decode cX11_init 3 = .ok (.invokespecial 1, 3) := dk_183 0 1 (dk_at dksX11_init_0 3 rfl rfl)
theorem dX11_init_6 : decode cX11_init 6 = .ok (.return_, 1) := dk_177 (dk_at dksX11_init_0 6 rfl rfl)
abbrev cX11_kind : ByteArray := prog_4_method_2_code
def yX11_kind : MethodName := ⟨RX11, "kind", "()I"⟩
def dkwX11_kind_0 : List UInt8 := [42, 183, 0, 7, 5, 96, 172]
abbrev dktX11_kind_0 : List UInt8 := dkwX11_kind_0 ++ []
theorem dksX11_kind_0 : cX11_kind.data.toList.drop 0 = dktX11_kind_0 := by decide +kernel
theorem dX11_kind_0 : decode cX11_kind 0 = .ok (.aload_n 0, 1) := dk_42 (dk_at dksX11_kind_0 0 rfl rfl)
theorem dX11_kind_1 : decode cX11_kind 1 = .ok (.invokespecial 7, 3) := dk_183 0 7 (dk_at dksX11_kind_0 1 rfl rfl)
theorem dX11_kind_4 : decode cX11_kind 4 = .ok (.iconst 2, 1) := dk_5 (dk_at dksX11_kind_0 4 rfl rfl)
theorem dX11_kind_5 : decode cX11_kind 5 = .ok (.iadd, 1) := dk_96 (dk_at dksX11_kind_0 5 rfl rfl)
theorem dX11_kind_6 : decode cX11_kind 6 = .ok (.ireturn, 1) := dk_172 (dk_at dksX11_kind_0 6 rfl rfl)
abbrev cX11_turnsBy : ByteArray := prog_4_method_3_code
def yX11_turnsBy : MethodName := ⟨RX11, "turnsBy", "(LWheelBrook$Sees;I)I"⟩
theorem dX11_turnsBy_0 : decode cX11_turnsBy 0 = .ok (.iconst 0, 1) := by decide +kernel
theorem dX11_turnsBy_1 : decode cX11_turnsBy 1 = .ok (.ireturn, 1) := by decide +kernel
abbrev cX11_shows : ByteArray := prog_4_method_4_code
def yX11_shows : MethodName := ⟨RX11, "shows", "(LWheelBrook$Sees;I)I"⟩
def dkwX11_shows_0 : List UInt8 := [42, 43, 28, 183, 0, 11, 172]
abbrev dktX11_shows_0 : List UInt8 := dkwX11_shows_0 ++ []
theorem dksX11_shows_0 : cX11_shows.data.toList.drop 0 = dktX11_shows_0 := by decide +kernel
theorem dX11_shows_0 : decode cX11_shows 0 = .ok (.aload_n 0, 1) := dk_42 (dk_at dksX11_shows_0 0 rfl rfl)
theorem dX11_shows_1 : decode cX11_shows 1 = .ok (.aload_n 1, 1) := dk_43 (dk_at dksX11_shows_0 1 rfl rfl)
theorem dX11_shows_2 : decode cX11_shows 2 = .ok (.iload_n 2, 1) := dk_28 (dk_at dksX11_shows_0 2 rfl rfl)
theorem dX11_shows_3 : decode cX11_shows 3 = .ok (.invokespecial 11, 3) := dk_183 0 11 (dk_at dksX11_shows_0 3 rfl rfl)
theorem dX11_shows_6 : decode cX11_shows 6 = .ok (.ireturn, 1) := dk_172 (dk_at dksX11_shows_0 6 rfl rfl)
abbrev cX11_turned : ByteArray := prog_4_method_5_code
def yX11_turned : MethodName := ⟨RX11, "turned", "(ILWheelBrook$Trace;)I"⟩
def dkwX11_turned_0 : List UInt8 := [44, 16, 60, 182, 0, 15, 42, 27, 4, 96, 44, 183, 0, 21, 172]
abbrev dktX11_turned_0 : List UInt8 := dkwX11_turned_0 ++ []
theorem dksX11_turned_0 : cX11_turned.data.toList.drop 0 = dktX11_turned_0 := by decide +kernel
theorem dX11_turned_0 : decode cX11_turned 0 = .ok (.aload_n 2, 1) := dk_44 (dk_at dksX11_turned_0 0 rfl rfl)
theorem dX11_turned_1 : decode cX11_turned 1 = .ok (.bipush 60, 2) := dk_16 60 (dk_at dksX11_turned_0 1 rfl rfl)
theorem dX11_turned_3 : decode cX11_turned 3 = .ok (.invokevirtual 15, 3) := dk_182 0 15 (dk_at dksX11_turned_0 3 rfl rfl)
theorem dX11_turned_6 : decode cX11_turned 6 = .ok (.aload_n 0, 1) := dk_42 (dk_at dksX11_turned_0 6 rfl rfl)
theorem dX11_turned_7 : decode cX11_turned 7 = .ok (.iload_n 1, 1) := dk_27 (dk_at dksX11_turned_0 7 rfl rfl)
theorem dX11_turned_8 : decode cX11_turned 8 = .ok (.iconst 1, 1) := dk_4 (dk_at dksX11_turned_0 8 rfl rfl)
theorem dX11_turned_9 : decode cX11_turned 9 = .ok (.iadd, 1) := dk_96 (dk_at dksX11_turned_0 9 rfl rfl)
theorem dX11_turned_10 : decode cX11_turned 10 = .ok (.aload_n 2, 1) := dk_44 (dk_at dksX11_turned_0 10 rfl rfl)
theorem dX11_turned_11 : decode cX11_turned 11 = .ok (.invokespecial 21, 3) := dk_183 0 21 (dk_at dksX11_turned_0 11 rfl rfl)
theorem dX11_turned_14 : decode cX11_turned 14 = .ok (.ireturn, 1) := dk_172 (dk_at dksX11_turned_0 14 rfl rfl)
theorem q94 : (Jvm.Cond.initialized "WheelBrook$False") ∈ lw_all := lw_g (lw_at lw_m1 12 rfl) rfl
theorem q415 : (Jvm.Cond.instantiable "WheelBrook$False" (2 : Nat)) ∈ lw_all := lw_g (lw_at lw_m2 93 rfl) rfl
theorem q417 : (Jvm.Cond.instanceMethod ({ cls := "WheelBrook$False", name := "<init>", desc := "(II)V" } : Jvm.MethodName)) ∈ lw_all := lw_g (lw_at lw_m2 95 rfl) rfl
theorem q418 : (Jvm.Cond.code ({ cls := "WheelBrook$False", name := "<init>", desc := "(II)V" } : Jvm.MethodName) prog_4_method_1_code (3 : Nat) (Option.none : Option Jvm.ClassFile.FieldType)) ∈ lw_all := lw_g (lw_at lw_m2 96 rfl) rfl
theorem q419 : (Jvm.Cond.methodLink "WheelBrook$False" (1 : Nat) ({ cls := "WheelBrook$Double", name := "<init>", desc := "(II)V" } : Jvm.MethodName)) ∈ lw_all := lw_g (lw_at lw_m2 97 rfl) rfl
theorem q420 : (Jvm.Cond.laysFinal "WheelBrook$False" "WheelBrook$Wheel" "number" "I") ∈ lw_all := lw_g (lw_at lw_m2 98 rfl) rfl
theorem q421 : (Jvm.Cond.laysFinal "WheelBrook$False" "WheelBrook$Wheel" "m" "I") ∈ lw_all := lw_g (lw_at lw_m2 99 rfl) rfl
theorem q422 : (Jvm.Cond.superclass "WheelBrook$False" "WheelBrook$Double") ∈ lw_all := lw_g (lw_at lw_m2 100 rfl) rfl
theorem q463 : (Jvm.Cond.selects "WheelBrook$False" ({ cls := "WheelBrook$Wheel", name := "kind", desc := "()I" } : Jvm.MethodName) ({ cls := "WheelBrook$False", name := "kind", desc := "()I" } : Jvm.MethodName)) ∈ lw_all := lw_g (lw_at lw_m2 141 rfl) rfl
theorem q464 : (Jvm.Cond.instanceMethod ({ cls := "WheelBrook$False", name := "kind", desc := "()I" } : Jvm.MethodName)) ∈ lw_all := lw_g (lw_at lw_m2 142 rfl) rfl
theorem q465 : (Jvm.Cond.code ({ cls := "WheelBrook$False", name := "kind", desc := "()I" } : Jvm.MethodName) prog_4_method_2_code (1 : Nat) (Option.some Jvm.ClassFile.FieldType.int)) ∈ lw_all := lw_g (lw_at lw_m2 143 rfl) rfl
theorem q466 : (Jvm.Cond.methodLink "WheelBrook$False" (7 : Nat) ({ cls := "WheelBrook$Double", name := "kind", desc := "()I" } : Jvm.MethodName)) ∈ lw_all := lw_g (lw_at lw_m2 144 rfl) rfl
theorem q511 : (Jvm.Cond.castable "WheelBrook$False" "WheelBrook$Wants") ∈ lw_tbl := lw_at lw_m2 189 rfl
theorem q512 : (Jvm.Cond.selects "WheelBrook$False" ({ cls := "WheelBrook$Wants", name := "wants", desc := "(LWheelBrook$Sees;I)I" } : Jvm.MethodName) ({ cls := "WheelBrook$Double", name := "wants", desc := "(LWheelBrook$Sees;I)I" } : Jvm.MethodName)) ∈ lw_all := lw_g (lw_at lw_m2 190 rfl) rfl
theorem q513 : (Jvm.Cond.unhidden "WheelBrook$False" "wants" "(LWheelBrook$Sees;I)I") ∈ lw_tbl := lw_at lw_m2 191 rfl
theorem q577 : (Jvm.Cond.selects "WheelBrook$False" ({ cls := "WheelBrook$Wants", name := "turnsBy", desc := "(LWheelBrook$Sees;I)I" } : Jvm.MethodName) ({ cls := "WheelBrook$False", name := "turnsBy", desc := "(LWheelBrook$Sees;I)I" } : Jvm.MethodName)) ∈ lw_all := lw_g (lw_at lw_m3 15 rfl) rfl
theorem q578 : (Jvm.Cond.unhidden "WheelBrook$False" "turnsBy" "(LWheelBrook$Sees;I)I") ∈ lw_tbl := lw_at lw_m3 16 rfl
theorem q579 : (Jvm.Cond.instanceMethod ({ cls := "WheelBrook$False", name := "turnsBy", desc := "(LWheelBrook$Sees;I)I" } : Jvm.MethodName)) ∈ lw_all := lw_g (lw_at lw_m3 17 rfl) rfl
theorem q580 : (Jvm.Cond.publicMethod ({ cls := "WheelBrook$False", name := "turnsBy", desc := "(LWheelBrook$Sees;I)I" } : Jvm.MethodName)) ∈ lw_tbl := lw_at lw_m3 18 rfl
theorem q581 : (Jvm.Cond.code ({ cls := "WheelBrook$False", name := "turnsBy", desc := "(LWheelBrook$Sees;I)I" } : Jvm.MethodName) prog_4_method_3_code (3 : Nat) (Option.some Jvm.ClassFile.FieldType.int)) ∈ lw_all := lw_g (lw_at lw_m3 19 rfl) rfl
theorem q624 : (Jvm.Cond.selects "WheelBrook$False" ({ cls := "WheelBrook$Wants", name := "shows", desc := "(LWheelBrook$Sees;I)I" } : Jvm.MethodName) ({ cls := "WheelBrook$False", name := "shows", desc := "(LWheelBrook$Sees;I)I" } : Jvm.MethodName)) ∈ lw_all := lw_g (lw_at lw_m3 62 rfl) rfl
theorem q625 : (Jvm.Cond.unhidden "WheelBrook$False" "shows" "(LWheelBrook$Sees;I)I") ∈ lw_tbl := lw_at lw_m3 63 rfl
theorem q626 : (Jvm.Cond.instanceMethod ({ cls := "WheelBrook$False", name := "shows", desc := "(LWheelBrook$Sees;I)I" } : Jvm.MethodName)) ∈ lw_all := lw_g (lw_at lw_m3 64 rfl) rfl
theorem q627 : (Jvm.Cond.publicMethod ({ cls := "WheelBrook$False", name := "shows", desc := "(LWheelBrook$Sees;I)I" } : Jvm.MethodName)) ∈ lw_tbl := lw_at lw_m3 65 rfl
theorem q628 : (Jvm.Cond.code ({ cls := "WheelBrook$False", name := "shows", desc := "(LWheelBrook$Sees;I)I" } : Jvm.MethodName) prog_4_method_4_code (3 : Nat) (Option.some Jvm.ClassFile.FieldType.int)) ∈ lw_all := lw_g (lw_at lw_m3 66 rfl) rfl
theorem q629 : (Jvm.Cond.methodLink "WheelBrook$False" (11 : Nat) ({ cls := "WheelBrook$Double", name := "turnsBy", desc := "(LWheelBrook$Sees;I)I" } : Jvm.MethodName)) ∈ lw_all := lw_g (lw_at lw_m3 67 rfl) rfl
theorem q1097 : (Jvm.Cond.selects "WheelBrook$False" ({ cls := "WheelBrook$Wheel", name := "flows", desc := "(ILWheelBrook$Trace;)I" } : Jvm.MethodName) ({ cls := "WheelBrook$Wheel", name := "flows", desc := "(ILWheelBrook$Trace;)I" } : Jvm.MethodName)) ∈ lw_all := lw_g (lw_at lw_m5 55 rfl) rfl
theorem q1120 : (Jvm.Cond.selects "WheelBrook$False" ({ cls := "WheelBrook$Flows", name := "turned", desc := "(ILWheelBrook$Trace;)I" } : Jvm.MethodName) ({ cls := "WheelBrook$False", name := "turned", desc := "(ILWheelBrook$Trace;)I" } : Jvm.MethodName)) ∈ lw_all := lw_g (lw_at lw_m5 78 rfl) rfl
theorem q1121 : (Jvm.Cond.instanceMethod ({ cls := "WheelBrook$False", name := "turned", desc := "(ILWheelBrook$Trace;)I" } : Jvm.MethodName)) ∈ lw_all := lw_g (lw_at lw_m5 79 rfl) rfl
theorem q1122 : (Jvm.Cond.code ({ cls := "WheelBrook$False", name := "turned", desc := "(ILWheelBrook$Trace;)I" } : Jvm.MethodName) prog_4_method_5_code (3 : Nat) (Option.some Jvm.ClassFile.FieldType.int)) ∈ lw_all := lw_g (lw_at lw_m5 80 rfl) rfl
theorem q1123 : (Jvm.Cond.methodLink "WheelBrook$False" (15 : Nat) ({ cls := "WheelBrook$Trace", name := "ran", desc := "(I)V" } : Jvm.MethodName)) ∈ lw_all := lw_g (lw_at lw_m5 81 rfl) rfl
theorem q1135 : (Jvm.Cond.castable "WheelBrook$False" "WheelBrook$Flows") ∈ lw_tbl := lw_at lw_m5 93 rfl
theorem q1136 : (Jvm.Cond.selects "WheelBrook$False" ({ cls := "WheelBrook$Flows", name := "flows", desc := "(ILWheelBrook$Trace;)I" } : Jvm.MethodName) ({ cls := "WheelBrook$Wheel", name := "flows", desc := "(ILWheelBrook$Trace;)I" } : Jvm.MethodName)) ∈ lw_all := lw_g (lw_at lw_m5 94 rfl) rfl
theorem q1137 : (Jvm.Cond.unhidden "WheelBrook$False" "flows" "(ILWheelBrook$Trace;)I") ∈ lw_tbl := lw_at lw_m5 95 rfl
theorem q1176 : (Jvm.Cond.selects "WheelBrook$False" ({ cls := "WheelBrook$Wheel", name := "prays", desc := "(ILWheelBrook$Trace;)I" } : Jvm.MethodName) ({ cls := "WheelBrook$Double", name := "prays", desc := "(ILWheelBrook$Trace;)I" } : Jvm.MethodName)) ∈ lw_all := lw_g (lw_at lw_m5 134 rfl) rfl
theorem q1192 : (Jvm.Cond.selects "WheelBrook$False" ({ cls := "WheelBrook$Wheel", name := "parts", desc := "(ILWheelBrook$Trace;)I" } : Jvm.MethodName) ({ cls := "WheelBrook$Wheel", name := "parts", desc := "(ILWheelBrook$Trace;)I" } : Jvm.MethodName)) ∈ lw_all := lw_g (lw_at lw_m5 150 rfl) rfl
theorem q1776 : (Jvm.Cond.castable "WheelBrook$False" "WheelBrook$Wheel") ∈ lw_tbl := lw_at lw_m8 14 rfl
theorem q1782 : (Jvm.Cond.castable "WheelBrook$False" "WheelBrook$Double") ∈ lw_tbl := lw_at lw_m8 20 rfl
theorem in_X11 : ∀ w ∈ wsX110, w ∈ lw_all := lw_in wsX110 [420, 421] (by decide +kernel) (by decide +kernel)

/-! WheelBrook$Told -/
set_option maxRecDepth 100000
def RX12 : String := "WheelBrook$Told"
def TX12 : u_T := fun k => match k with
  | 0 => ("WheelBrook$Wheel", "number", "I", true)
  | _ => ("WheelBrook$Wheel", "m", "I", true)
def tyX12 : Nat → FieldType := fun k => match k with
  | 0 => .int
  | _ => .int
abbrev wsX120 : List Cond := u_ws RX12 TX12 2
theorem nmX12 : ∀ a, a < 2 → ∀ b, b < 2 → a ≠ b → (TX12 a).2.1 ≠ (TX12 b).2.1 := by decide +kernel
theorem tyX12_ok : ∀ k, k < 2 → parseFieldDescriptor (TX12 k).2.2.1 = some (tyX12 k) := by decide +kernel
abbrev cX12_init : ByteArray := prog_15_method_1_code
def yX12_init : MethodName := ⟨RX12, "<init>", "(II)V"⟩
def dkwX12_init_0 : List UInt8 := [42, 27, 28, 183, 0, 3, 177]
abbrev dktX12_init_0 : List UInt8 := dkwX12_init_0 ++ []
theorem dksX12_init_0 : cX12_init.data.toList.drop 0 = dktX12_init_0 := by decide +kernel
theorem dX12_init_0 : decode cX12_init 0 = .ok (.aload_n 0, 1) := dk_42 (dk_at dksX12_init_0 0 rfl rfl)
theorem dX12_init_1 : decode cX12_init 1 = .ok (.iload_n 1, 1) := dk_27 (dk_at dksX12_init_0 1 rfl rfl)
theorem dX12_init_2 : decode cX12_init 2 = .ok (.iload_n 2, 1) := dk_28 (dk_at dksX12_init_0 2 rfl rfl)
theorem dX12_init_3 : decode cX12_init 3 = .ok (.invokespecial 3, 3) := dk_183 0 3 (dk_at dksX12_init_0 3 rfl rfl)
theorem dX12_init_6 : decode cX12_init 6 = .ok (.return_, 1) := dk_177 (dk_at dksX12_init_0 6 rfl rfl)
abbrev cX12_kind : ByteArray := prog_15_method_2_code
def yX12_kind : MethodName := ⟨RX12, "kind", "()I"⟩
def dkwX12_kind_0 : List UInt8 := [42, 183, 0, 9, 16, 6, 96, 172]
abbrev dktX12_kind_0 : List UInt8 := dkwX12_kind_0 ++ []
theorem dksX12_kind_0 : cX12_kind.data.toList.drop 0 = dktX12_kind_0 := by decide +kernel
theorem dX12_kind_0 : decode cX12_kind 0 = .ok (.aload_n 0, 1) := dk_42 (dk_at dksX12_kind_0 0 rfl rfl)
theorem dX12_kind_1 : decode cX12_kind 1 = .ok (.invokespecial 9, 3) := dk_183 0 9 (dk_at dksX12_kind_0 1 rfl rfl)
theorem dX12_kind_4 : decode cX12_kind 4 = .ok (.bipush 6, 2) := dk_16 6 (dk_at dksX12_kind_0 4 rfl rfl)
theorem dX12_kind_6 : decode cX12_kind 6 = .ok (.iadd, 1) := dk_96 (dk_at dksX12_kind_0 6 rfl rfl)
theorem dX12_kind_7 : decode cX12_kind 7 = .ok (.ireturn, 1) := dk_172 (dk_at dksX12_kind_0 7 rfl rfl)
abbrev cX12_wants : ByteArray := prog_15_method_3_code
def yX12_wants : MethodName := ⟨RX12, "wants", "(LWheelBrook$Sees;I)I"⟩
def dkwX12_wants_0 : List UInt8 := [43, 42, 180, 0, 13, 28, 185, 0, 19, 3, 0, 172]
abbrev dktX12_wants_0 : List UInt8 := dkwX12_wants_0 ++ []
theorem dksX12_wants_0 : cX12_wants.data.toList.drop 0 = dktX12_wants_0 := by decide +kernel
theorem dX12_wants_0 : decode cX12_wants 0 = .ok (.aload_n 1, 1) := dk_43 (dk_at dksX12_wants_0 0 rfl rfl)
theorem dX12_wants_1 : decode cX12_wants 1 = .ok (.aload_n 0, 1) := dk_42 (dk_at dksX12_wants_0 1 rfl rfl)
theorem dX12_wants_2 : decode cX12_wants 2 = .ok (.getfield 13, 3) := dk_180 0 13 (dk_at dksX12_wants_0 2 rfl rfl)
theorem dX12_wants_5 : decode cX12_wants 5 = .ok (.iload_n 2, 1) := dk_28 (dk_at dksX12_wants_0 5 rfl rfl)
theorem dX12_wants_6 : decode cX12_wants 6 = .ok (.invokeinterface 19 3, 5) := by decide +kernel
theorem dX12_wants_11 : decode cX12_wants 11 = .ok (.ireturn, 1) := dk_172 (dk_at dksX12_wants_0 11 rfl rfl)
abbrev cX12_turnsBy : ByteArray := prog_15_method_4_code
def yX12_turnsBy : MethodName := ⟨RX12, "turnsBy", "(LWheelBrook$Sees;I)I"⟩
def dkwX12_turnsBy_0 : List UInt8 := [43, 42, 180, 0, 13, 28, 185, 0, 25, 3, 0, 172]
abbrev dktX12_turnsBy_0 : List UInt8 := dkwX12_turnsBy_0 ++ []
theorem dksX12_turnsBy_0 : cX12_turnsBy.data.toList.drop 0 = dktX12_turnsBy_0 := by decide +kernel
theorem dX12_turnsBy_0 : decode cX12_turnsBy 0 = .ok (.aload_n 1, 1) := dk_43 (dk_at dksX12_turnsBy_0 0 rfl rfl)
theorem dX12_turnsBy_1 : decode cX12_turnsBy 1 = .ok (.aload_n 0, 1) := dk_42 (dk_at dksX12_turnsBy_0 1 rfl rfl)
theorem dX12_turnsBy_2 : decode cX12_turnsBy 2 = .ok (.getfield 13, 3) := dk_180 0 13 (dk_at dksX12_turnsBy_0 2 rfl rfl)
theorem dX12_turnsBy_5 : decode cX12_turnsBy 5 = .ok (.iload_n 2, 1) := dk_28 (dk_at dksX12_turnsBy_0 5 rfl rfl)
theorem dX12_turnsBy_6 : decode cX12_turnsBy 6 = .ok (.invokeinterface 25 3, 5) := by decide +kernel
theorem dX12_turnsBy_11 : decode cX12_turnsBy 11 = .ok (.ireturn, 1) := dk_172 (dk_at dksX12_turnsBy_0 11 rfl rfl)
abbrev cX12_flows : ByteArray := prog_15_method_5_code
def yX12_flows : MethodName := ⟨RX12, "flows", "(ILWheelBrook$Trace;)I"⟩
def dkwX12_flows_0 : List UInt8 := [44, 16, 70, 182, 0, 28, 5, 172]
abbrev dktX12_flows_0 : List UInt8 := dkwX12_flows_0 ++ []
theorem dksX12_flows_0 : cX12_flows.data.toList.drop 0 = dktX12_flows_0 := by decide +kernel
theorem dX12_flows_0 : decode cX12_flows 0 = .ok (.aload_n 2, 1) := dk_44 (dk_at dksX12_flows_0 0 rfl rfl)
theorem dX12_flows_1 : decode cX12_flows 1 = .ok (.bipush 70, 2) := dk_16 70 (dk_at dksX12_flows_0 1 rfl rfl)
theorem dX12_flows_3 : decode cX12_flows 3 = .ok (.invokevirtual 28, 3) := dk_182 0 28 (dk_at dksX12_flows_0 3 rfl rfl)
theorem dX12_flows_6 : decode cX12_flows 6 = .ok (.iconst 2, 1) := dk_5 (dk_at dksX12_flows_0 6 rfl rfl)
theorem dX12_flows_7 : decode cX12_flows 7 = .ok (.ireturn, 1) := dk_172 (dk_at dksX12_flows_0 7 rfl rfl)
abbrev cX12_turned : ByteArray := prog_15_method_6_code
def yX12_turned : MethodName := ⟨RX12, "turned", "(ILWheelBrook$Trace;)I"⟩
def dkwX12_turned_0 : List UInt8 := [44, 16, 71, 182, 0, 28, 42, 27, 44, 183, 0, 34, 42, 180, 0, 38, 96, 172]
abbrev dktX12_turned_0 : List UInt8 := dkwX12_turned_0 ++ []
theorem dksX12_turned_0 : cX12_turned.data.toList.drop 0 = dktX12_turned_0 := by decide +kernel
theorem dX12_turned_0 : decode cX12_turned 0 = .ok (.aload_n 2, 1) := dk_44 (dk_at dksX12_turned_0 0 rfl rfl)
theorem dX12_turned_1 : decode cX12_turned 1 = .ok (.bipush 71, 2) := dk_16 71 (dk_at dksX12_turned_0 1 rfl rfl)
theorem dX12_turned_3 : decode cX12_turned 3 = .ok (.invokevirtual 28, 3) := dk_182 0 28 (dk_at dksX12_turned_0 3 rfl rfl)
theorem dX12_turned_6 : decode cX12_turned 6 = .ok (.aload_n 0, 1) := dk_42 (dk_at dksX12_turned_0 6 rfl rfl)
theorem dX12_turned_7 : decode cX12_turned 7 = .ok (.iload_n 1, 1) := dk_27 (dk_at dksX12_turned_0 7 rfl rfl)
theorem dX12_turned_8 : decode cX12_turned 8 = .ok (.aload_n 2, 1) := dk_44 (dk_at dksX12_turned_0 8 rfl rfl)
theorem dX12_turned_9 : decode cX12_turned 9 = .ok (.invokespecial 34, 3) := dk_183 0 34 (dk_at dksX12_turned_0 9 rfl rfl)
theorem dX12_turned_12 : decode cX12_turned 12 = .ok (.aload_n 0, 1) := dk_42 (dk_at dksX12_turned_0 12 rfl rfl)
theorem dX12_turned_13 : decode cX12_turned 13 = .ok (.getfield 38, 3) := dk_180 0 38 (dk_at dksX12_turned_0 13 rfl rfl)
theorem dX12_turned_16 : decode cX12_turned 16 = .ok (.iadd, 1) := dk_96 (dk_at dksX12_turned_0 16 rfl rfl)
theorem dX12_turned_17 : decode cX12_turned 17 = .ok (.ireturn, 1) := dk_172 (dk_at dksX12_turned_0 17 rfl rfl)
theorem q95 : (Jvm.Cond.initialized "WheelBrook$Told") ∈ lw_all := lw_g (lw_at lw_m1 13 rfl) rfl
theorem q369 : (Jvm.Cond.fieldLink "WheelBrook$Told" (13 : Nat) "WheelBrook$Told" "number" "I") ∈ lw_all := lw_g (lw_at lw_m2 47 rfl) rfl
theorem q370 : (Jvm.Cond.sameField "WheelBrook$Told" "WheelBrook$Wheel" "number" "I") ∈ lw_all := lw_g (lw_at lw_m2 48 rfl) rfl
theorem q379 : (Jvm.Cond.fieldLink "WheelBrook$Told" (38 : Nat) "WheelBrook$Told" "m" "I") ∈ lw_all := lw_g (lw_at lw_m2 57 rfl) rfl
theorem q380 : (Jvm.Cond.sameField "WheelBrook$Told" "WheelBrook$Wheel" "m" "I") ∈ lw_all := lw_g (lw_at lw_m2 58 rfl) rfl
theorem q424 : (Jvm.Cond.instantiable "WheelBrook$Told" (2 : Nat)) ∈ lw_all := lw_g (lw_at lw_m2 102 rfl) rfl
theorem q426 : (Jvm.Cond.instanceMethod ({ cls := "WheelBrook$Told", name := "<init>", desc := "(II)V" } : Jvm.MethodName)) ∈ lw_all := lw_g (lw_at lw_m2 104 rfl) rfl
theorem q427 : (Jvm.Cond.code ({ cls := "WheelBrook$Told", name := "<init>", desc := "(II)V" } : Jvm.MethodName) prog_15_method_1_code (3 : Nat) (Option.none : Option Jvm.ClassFile.FieldType)) ∈ lw_all := lw_g (lw_at lw_m2 105 rfl) rfl
theorem q428 : (Jvm.Cond.methodLink "WheelBrook$Told" (3 : Nat) ({ cls := "WheelBrook$Wheel", name := "<init>", desc := "(II)V" } : Jvm.MethodName)) ∈ lw_all := lw_g (lw_at lw_m2 106 rfl) rfl
theorem q429 : (Jvm.Cond.laysFinal "WheelBrook$Told" "WheelBrook$Wheel" "number" "I") ∈ lw_all := lw_g (lw_at lw_m2 107 rfl) rfl
theorem q430 : (Jvm.Cond.laysFinal "WheelBrook$Told" "WheelBrook$Wheel" "m" "I") ∈ lw_all := lw_g (lw_at lw_m2 108 rfl) rfl
theorem q431 : (Jvm.Cond.superclass "WheelBrook$Told" "WheelBrook$Wheel") ∈ lw_all := lw_g (lw_at lw_m2 109 rfl) rfl
theorem q479 : (Jvm.Cond.selects "WheelBrook$Told" ({ cls := "WheelBrook$Wheel", name := "kind", desc := "()I" } : Jvm.MethodName) ({ cls := "WheelBrook$Told", name := "kind", desc := "()I" } : Jvm.MethodName)) ∈ lw_all := lw_g (lw_at lw_m2 157 rfl) rfl
theorem q480 : (Jvm.Cond.instanceMethod ({ cls := "WheelBrook$Told", name := "kind", desc := "()I" } : Jvm.MethodName)) ∈ lw_all := lw_g (lw_at lw_m2 158 rfl) rfl
theorem q481 : (Jvm.Cond.code ({ cls := "WheelBrook$Told", name := "kind", desc := "()I" } : Jvm.MethodName) prog_15_method_2_code (1 : Nat) (Option.some Jvm.ClassFile.FieldType.int)) ∈ lw_all := lw_g (lw_at lw_m2 159 rfl) rfl
theorem q482 : (Jvm.Cond.methodLink "WheelBrook$Told" (9 : Nat) ({ cls := "WheelBrook$Wheel", name := "kind", desc := "()I" } : Jvm.MethodName)) ∈ lw_all := lw_g (lw_at lw_m2 160 rfl) rfl
theorem q529 : (Jvm.Cond.castable "WheelBrook$Told" "WheelBrook$Wants") ∈ lw_tbl := lw_at lw_m2 207 rfl
theorem q530 : (Jvm.Cond.selects "WheelBrook$Told" ({ cls := "WheelBrook$Wants", name := "wants", desc := "(LWheelBrook$Sees;I)I" } : Jvm.MethodName) ({ cls := "WheelBrook$Told", name := "wants", desc := "(LWheelBrook$Sees;I)I" } : Jvm.MethodName)) ∈ lw_all := lw_g (lw_at lw_m2 208 rfl) rfl
theorem q531 : (Jvm.Cond.unhidden "WheelBrook$Told" "wants" "(LWheelBrook$Sees;I)I") ∈ lw_tbl := lw_at lw_m2 209 rfl
theorem q532 : (Jvm.Cond.instanceMethod ({ cls := "WheelBrook$Told", name := "wants", desc := "(LWheelBrook$Sees;I)I" } : Jvm.MethodName)) ∈ lw_all := lw_g (lw_at lw_m2 210 rfl) rfl
theorem q533 : (Jvm.Cond.publicMethod ({ cls := "WheelBrook$Told", name := "wants", desc := "(LWheelBrook$Sees;I)I" } : Jvm.MethodName)) ∈ lw_tbl := lw_at lw_m2 211 rfl
theorem q534 : (Jvm.Cond.code ({ cls := "WheelBrook$Told", name := "wants", desc := "(LWheelBrook$Sees;I)I" } : Jvm.MethodName) prog_15_method_3_code (3 : Nat) (Option.some Jvm.ClassFile.FieldType.int)) ∈ lw_all := lw_g (lw_at lw_m2 212 rfl) rfl
theorem q535 : (Jvm.Cond.interfaceEntry "WheelBrook$Told" (19 : Nat)) ∈ lw_tbl := lw_at lw_m2 213 rfl
theorem q536 : (Jvm.Cond.methodLink "WheelBrook$Told" (19 : Nat) ({ cls := "WheelBrook$Sees", name := "takes", desc := "(II)I" } : Jvm.MethodName)) ∈ lw_all := lw_g (lw_at lw_m2 214 rfl) rfl
theorem q595 : (Jvm.Cond.selects "WheelBrook$Told" ({ cls := "WheelBrook$Wants", name := "turnsBy", desc := "(LWheelBrook$Sees;I)I" } : Jvm.MethodName) ({ cls := "WheelBrook$Told", name := "turnsBy", desc := "(LWheelBrook$Sees;I)I" } : Jvm.MethodName)) ∈ lw_all := lw_g (lw_at lw_m3 33 rfl) rfl
theorem q596 : (Jvm.Cond.unhidden "WheelBrook$Told" "turnsBy" "(LWheelBrook$Sees;I)I") ∈ lw_tbl := lw_at lw_m3 34 rfl
theorem q597 : (Jvm.Cond.instanceMethod ({ cls := "WheelBrook$Told", name := "turnsBy", desc := "(LWheelBrook$Sees;I)I" } : Jvm.MethodName)) ∈ lw_all := lw_g (lw_at lw_m3 35 rfl) rfl
theorem q598 : (Jvm.Cond.publicMethod ({ cls := "WheelBrook$Told", name := "turnsBy", desc := "(LWheelBrook$Sees;I)I" } : Jvm.MethodName)) ∈ lw_tbl := lw_at lw_m3 36 rfl
theorem q599 : (Jvm.Cond.code ({ cls := "WheelBrook$Told", name := "turnsBy", desc := "(LWheelBrook$Sees;I)I" } : Jvm.MethodName) prog_15_method_4_code (3 : Nat) (Option.some Jvm.ClassFile.FieldType.int)) ∈ lw_all := lw_g (lw_at lw_m3 37 rfl) rfl
theorem q600 : (Jvm.Cond.interfaceEntry "WheelBrook$Told" (25 : Nat)) ∈ lw_tbl := lw_at lw_m3 38 rfl
theorem q601 : (Jvm.Cond.methodLink "WheelBrook$Told" (25 : Nat) ({ cls := "WheelBrook$Sees", name := "turns", desc := "(II)I" } : Jvm.MethodName)) ∈ lw_all := lw_g (lw_at lw_m3 39 rfl) rfl
theorem q641 : (Jvm.Cond.unhidden "WheelBrook$Told" "shows" "(LWheelBrook$Sees;I)I") ∈ lw_tbl := lw_at lw_m3 79 rfl
theorem q1112 : (Jvm.Cond.selects "WheelBrook$Told" ({ cls := "WheelBrook$Wheel", name := "flows", desc := "(ILWheelBrook$Trace;)I" } : Jvm.MethodName) ({ cls := "WheelBrook$Told", name := "flows", desc := "(ILWheelBrook$Trace;)I" } : Jvm.MethodName)) ∈ lw_all := lw_g (lw_at lw_m5 70 rfl) rfl
theorem q1113 : (Jvm.Cond.instanceMethod ({ cls := "WheelBrook$Told", name := "flows", desc := "(ILWheelBrook$Trace;)I" } : Jvm.MethodName)) ∈ lw_all := lw_g (lw_at lw_m5 71 rfl) rfl
theorem q1114 : (Jvm.Cond.code ({ cls := "WheelBrook$Told", name := "flows", desc := "(ILWheelBrook$Trace;)I" } : Jvm.MethodName) prog_15_method_5_code (3 : Nat) (Option.some Jvm.ClassFile.FieldType.int)) ∈ lw_all := lw_g (lw_at lw_m5 72 rfl) rfl
theorem q1115 : (Jvm.Cond.methodLink "WheelBrook$Told" (28 : Nat) ({ cls := "WheelBrook$Trace", name := "ran", desc := "(I)V" } : Jvm.MethodName)) ∈ lw_all := lw_g (lw_at lw_m5 73 rfl) rfl
theorem q1149 : (Jvm.Cond.castable "WheelBrook$Told" "WheelBrook$Flows") ∈ lw_tbl := lw_at lw_m5 107 rfl
theorem q1150 : (Jvm.Cond.selects "WheelBrook$Told" ({ cls := "WheelBrook$Flows", name := "flows", desc := "(ILWheelBrook$Trace;)I" } : Jvm.MethodName) ({ cls := "WheelBrook$Told", name := "flows", desc := "(ILWheelBrook$Trace;)I" } : Jvm.MethodName)) ∈ lw_all := lw_g (lw_at lw_m5 108 rfl) rfl
theorem q1151 : (Jvm.Cond.unhidden "WheelBrook$Told" "flows" "(ILWheelBrook$Trace;)I") ∈ lw_tbl := lw_at lw_m5 109 rfl
theorem q1152 : (Jvm.Cond.publicMethod ({ cls := "WheelBrook$Told", name := "flows", desc := "(ILWheelBrook$Trace;)I" } : Jvm.MethodName)) ∈ lw_tbl := lw_at lw_m5 110 rfl
theorem q1162 : (Jvm.Cond.selects "WheelBrook$Told" ({ cls := "WheelBrook$Flows", name := "turned", desc := "(ILWheelBrook$Trace;)I" } : Jvm.MethodName) ({ cls := "WheelBrook$Told", name := "turned", desc := "(ILWheelBrook$Trace;)I" } : Jvm.MethodName)) ∈ lw_all := lw_g (lw_at lw_m5 120 rfl) rfl
theorem q1163 : (Jvm.Cond.instanceMethod ({ cls := "WheelBrook$Told", name := "turned", desc := "(ILWheelBrook$Trace;)I" } : Jvm.MethodName)) ∈ lw_all := lw_g (lw_at lw_m5 121 rfl) rfl
theorem q1164 : (Jvm.Cond.code ({ cls := "WheelBrook$Told", name := "turned", desc := "(ILWheelBrook$Trace;)I" } : Jvm.MethodName) prog_15_method_6_code (3 : Nat) (Option.some Jvm.ClassFile.FieldType.int)) ∈ lw_all := lw_g (lw_at lw_m5 122 rfl) rfl
theorem q1185 : (Jvm.Cond.selects "WheelBrook$Told" ({ cls := "WheelBrook$Wheel", name := "prays", desc := "(ILWheelBrook$Trace;)I" } : Jvm.MethodName) ({ cls := "WheelBrook$Wheel", name := "prays", desc := "(ILWheelBrook$Trace;)I" } : Jvm.MethodName)) ∈ lw_all := lw_g (lw_at lw_m5 143 rfl) rfl
theorem q1199 : (Jvm.Cond.selects "WheelBrook$Told" ({ cls := "WheelBrook$Wheel", name := "parts", desc := "(ILWheelBrook$Trace;)I" } : Jvm.MethodName) ({ cls := "WheelBrook$Wheel", name := "parts", desc := "(ILWheelBrook$Trace;)I" } : Jvm.MethodName)) ∈ lw_all := lw_g (lw_at lw_m5 157 rfl) rfl
theorem q1780 : (Jvm.Cond.castable "WheelBrook$Told" "WheelBrook$Wheel") ∈ lw_tbl := lw_at lw_m8 18 rfl
theorem in_X12 : ∀ w ∈ wsX120, w ∈ lw_all := lw_in wsX120 [429, 430] (by decide +kernel) (by decide +kernel)

/-! WheelBrook$Reader -/
set_option maxRecDepth 100000
def RX13 : String := "WheelBrook$Reader"
def TX13 : u_T := fun k => match k with
  | 0 => ("WheelBrook$Reader", "tape", "[B", true)
  | 1 => ("WheelBrook$Reader", "size", "I", true)
  | 2 => ("WheelBrook$Reader", "names", "Ljava/lang/String;", true)
  | 3 => ("WheelBrook$Reader", "text", "LWheelBrook$Text;", true)
  | 4 => ("WheelBrook$Reader", "at", "I", false)
  | _ => ("WheelBrook$Reader", "open", "I", false)
def tyX13 : Nat → FieldType := fun k => match k with
  | 0 => .array .byte
  | 1 => .int
  | 2 => .object "java/lang/String"
  | 3 => .object "WheelBrook$Text"
  | 4 => .int
  | _ => .int
abbrev wsX130 : List Cond := u_ws RX13 TX13 6
theorem nmX13 : ∀ a, a < 6 → ∀ b, b < 6 → a ≠ b → (TX13 a).2.1 ≠ (TX13 b).2.1 := by decide +kernel
theorem tyX13_ok : ∀ k, k < 6 → parseFieldDescriptor (TX13 k).2.2.1 = some (tyX13 k) := by decide +kernel
abbrev cX13_init : ByteArray := prog_9_method_1_code
def yX13_init : MethodName := ⟨RX13, "<init>", "([BILjava/lang/String;)V"⟩
def dkwX13_init_1 : List UInt8 := [181, 0, 22, 42, 45, 181, 0, 26, 177]
abbrev dktX13_init_1 : List UInt8 := dkwX13_init_1 ++ []
def dkwX13_init_0 : List UInt8 := [42, 183, 0, 3, 42, 187, 0, 9, 89, 183, 0, 11, 181, 0, 12, 42, 43, 181, 0, 18, 42, 28]
abbrev dktX13_init_0 : List UInt8 := dkwX13_init_0 ++ dktX13_init_1
theorem dksX13_init_0 : cX13_init.data.toList.drop 0 = dktX13_init_0 := by decide +kernel
theorem dksX13_init_1 : cX13_init.data.toList.drop 22 = dktX13_init_1 := dk_seg dksX13_init_0 22 rfl rfl
theorem dX13_init_0 : decode cX13_init 0 = .ok (.aload_n 0, 1) := dk_42 (dk_at dksX13_init_0 0 rfl rfl)
theorem dX13_init_1 : decode cX13_init 1 = .ok (.invokespecial 3, 3) := dk_183 0 3 (dk_at dksX13_init_0 1 rfl rfl)
theorem dX13_init_4 : decode cX13_init 4 = .ok (.aload_n 0, 1) := dk_42 (dk_at dksX13_init_0 4 rfl rfl)
theorem dX13_init_5 : decode cX13_init 5 = .ok (.new 9, 3) := dk_187 0 9 (dk_at dksX13_init_0 5 rfl rfl)
theorem dX13_init_8 : decode cX13_init 8 = .ok (.dup, 1) := dk_89 (dk_at dksX13_init_0 8 rfl rfl)
theorem dX13_init_9 : decode cX13_init 9 = .ok (.invokespecial 11, 3) := dk_183 0 11 (dk_at dksX13_init_0 9 rfl rfl)
theorem dX13_init_12 : decode cX13_init 12 = .ok (.putfield 12, 3) := dk_181 0 12 (dk_at dksX13_init_0 12 rfl rfl)
theorem dX13_init_15 : decode cX13_init 15 = .ok (.aload_n 0, 1) := dk_42 (dk_at dksX13_init_0 15 rfl rfl)
theorem dX13_init_16 : decode cX13_init 16 = .ok (.aload_n 1, 1) := dk_43 (dk_at dksX13_init_0 16 rfl rfl)
theorem dX13_init_17 : decode cX13_init 17 = .ok (.putfield 18, 3) := dk_181 0 18 (dk_at dksX13_init_0 17 rfl rfl)
theorem dX13_init_20 : decode cX13_init 20 = .ok (.aload_n 0, 1) := dk_42 (dk_at dksX13_init_0 20 rfl rfl)
theorem dX13_init_21 : decode cX13_init 21 = .ok (.iload_n 2, 1) := dk_28 (dk_at dksX13_init_0 21 rfl rfl)
theorem dX13_init_22 : decode cX13_init 22 = .ok (.putfield 22, 3) := dk_181 0 22 (dk_at dksX13_init_1 0 rfl rfl)
theorem dX13_init_25 : decode cX13_init 25 = .ok (.aload_n 0, 1) := dk_42 (dk_at dksX13_init_1 3 rfl rfl)
theorem dX13_init_26 : decode cX13_init 26 = .ok (.aload_n 3, 1) := dk_45 (dk_at dksX13_init_1 4 rfl rfl)
theorem dX13_init_27 : decode cX13_init 27 = .ok (.putfield 26, 3) := dk_181 0 26 (dk_at dksX13_init_1 5 rfl rfl)
theorem dX13_init_30 : decode cX13_init 30 = .ok (.return_, 1) := dk_177 (dk_at dksX13_init_1 8 rfl rfl)
abbrev cX13_read : ByteArray := prog_9_method_6_code
def yX13_read : MethodName := ⟨RX13, "read", "()LWheelBrook$Text;"⟩
def dkwX13_read_1 : List UInt8 := [176]
abbrev dktX13_read_1 : List UInt8 := dkwX13_read_1 ++ []
def dkwX13_read_0 : List UInt8 := [42, 182, 0, 48, 42, 180, 0, 30, 42, 180, 0, 22, 162, 0, 8, 42, 182, 0, 51, 191, 42, 180, 0, 12]
abbrev dktX13_read_0 : List UInt8 := dkwX13_read_0 ++ dktX13_read_1
theorem dksX13_read_0 : cX13_read.data.toList.drop 0 = dktX13_read_0 := by decide +kernel
theorem dksX13_read_1 : cX13_read.data.toList.drop 24 = dktX13_read_1 := dk_seg dksX13_read_0 24 rfl rfl
theorem dX13_read_0 : decode cX13_read 0 = .ok (.aload_n 0, 1) := dk_42 (dk_at dksX13_read_0 0 rfl rfl)
theorem dX13_read_1 : decode cX13_read 1 = .ok (.invokevirtual 48, 3) := dk_182 0 48 (dk_at dksX13_read_0 1 rfl rfl)
theorem dX13_read_4 : decode cX13_read 4 = .ok (.aload_n 0, 1) := dk_42 (dk_at dksX13_read_0 4 rfl rfl)
theorem dX13_read_5 : decode cX13_read 5 = .ok (.getfield 30, 3) := dk_180 0 30 (dk_at dksX13_read_0 5 rfl rfl)
theorem dX13_read_8 : decode cX13_read 8 = .ok (.aload_n 0, 1) := dk_42 (dk_at dksX13_read_0 8 rfl rfl)
theorem dX13_read_9 : decode cX13_read 9 = .ok (.getfield 22, 3) := dk_180 0 22 (dk_at dksX13_read_0 9 rfl rfl)
theorem dX13_read_12 : decode cX13_read 12 = .ok (.if_icmp .ge 8, 3) := dk_162 0 8 (dk_at dksX13_read_0 12 rfl rfl)
theorem dX13_read_15 : decode cX13_read 15 = .ok (.aload_n 0, 1) := dk_42 (dk_at dksX13_read_0 15 rfl rfl)
theorem dX13_read_16 : decode cX13_read 16 = .ok (.invokevirtual 51, 3) := dk_182 0 51 (dk_at dksX13_read_0 16 rfl rfl)
theorem dX13_read_19 : decode cX13_read 19 = .ok (.athrow, 1) := dk_191 (dk_at dksX13_read_0 19 rfl rfl)
theorem dX13_read_20 : decode cX13_read 20 = .ok (.aload_n 0, 1) := dk_42 (dk_at dksX13_read_0 20 rfl rfl)
theorem dX13_read_21 : decode cX13_read 21 = .ok (.getfield 12, 3) := dk_180 0 12 (dk_at dksX13_read_0 21 rfl rfl)
theorem dX13_read_24 : decode cX13_read 24 = .ok (.areturn, 1) := dk_176 (dk_at dksX13_read_1 0 rfl rfl)
abbrev cX13_either : ByteArray := prog_9_method_7_code
def yX13_either : MethodName := ⟨RX13, "either", "()V"⟩
def dkwX13_either_1 : List UInt8 := [182, 0, 62, 167, 255, 233, 177]
abbrev dktX13_either_1 : List UInt8 := dkwX13_either_1 ++ []
def dkwX13_either_0 : List UInt8 := [42, 182, 0, 55, 42, 16, 124, 182, 0, 58, 153, 0, 20, 42, 182, 0, 55, 42, 180, 0, 12, 16, 124, 3]
abbrev dktX13_either_0 : List UInt8 := dkwX13_either_0 ++ dktX13_either_1
theorem dksX13_either_0 : cX13_either.data.toList.drop 0 = dktX13_either_0 := by decide +kernel
theorem dksX13_either_1 : cX13_either.data.toList.drop 24 = dktX13_either_1 := dk_seg dksX13_either_0 24 rfl rfl
theorem dX13_either_0 : decode cX13_either 0 = .ok (.aload_n 0, 1) := dk_42 (dk_at dksX13_either_0 0 rfl rfl)
theorem dX13_either_1 : decode cX13_either 1 = .ok (.invokevirtual 55, 3) := dk_182 0 55 (dk_at dksX13_either_0 1 rfl rfl)
theorem dX13_either_4 : decode cX13_either 4 = .ok (.aload_n 0, 1) := dk_42 (dk_at dksX13_either_0 4 rfl rfl)
theorem dX13_either_5 : decode cX13_either 5 = .ok (.bipush 124, 2) := dk_16 124 (dk_at dksX13_either_0 5 rfl rfl)
theorem dX13_either_7 : decode cX13_either 7 = .ok (.invokevirtual 58, 3) := dk_182 0 58 (dk_at dksX13_either_0 7 rfl rfl)
theorem dX13_either_10 : decode cX13_either 10 = .ok (.ifCond .eq 20, 3) := dk_153 0 20 (dk_at dksX13_either_0 10 rfl rfl)
theorem dX13_either_13 : decode cX13_either 13 = .ok (.aload_n 0, 1) := dk_42 (dk_at dksX13_either_0 13 rfl rfl)
theorem dX13_either_14 : decode cX13_either 14 = .ok (.invokevirtual 55, 3) := dk_182 0 55 (dk_at dksX13_either_0 14 rfl rfl)
theorem dX13_either_17 : decode cX13_either 17 = .ok (.aload_n 0, 1) := dk_42 (dk_at dksX13_either_0 17 rfl rfl)
theorem dX13_either_18 : decode cX13_either 18 = .ok (.getfield 12, 3) := dk_180 0 12 (dk_at dksX13_either_0 18 rfl rfl)
theorem dX13_either_21 : decode cX13_either 21 = .ok (.bipush 124, 2) := dk_16 124 (dk_at dksX13_either_0 21 rfl rfl)
theorem dX13_either_23 : decode cX13_either 23 = .ok (.iconst 0, 1) := dk_3 (dk_at dksX13_either_0 23 rfl rfl)
theorem dX13_either_24 : decode cX13_either 24 = .ok (.invokevirtual 62, 3) := dk_182 0 62 (dk_at dksX13_either_1 0 rfl rfl)
theorem dX13_either_27 : decode cX13_either 27 = .ok (.goto (-23), 3) := dk_167 255 233 (dk_at dksX13_either_1 3 rfl rfl)
theorem dX13_either_30 : decode cX13_either 30 = .ok (.return_, 1) := dk_177 (dk_at dksX13_either_1 6 rfl rfl)
abbrev cX13_both : ByteArray := prog_9_method_8_code
def yX13_both : MethodName := ⟨RX13, "both", "()V"⟩
def dkwX13_both_1 : List UInt8 := [182, 0, 62, 167, 255, 233, 177]
abbrev dktX13_both_1 : List UInt8 := dkwX13_both_1 ++ []
def dkwX13_both_0 : List UInt8 := [42, 182, 0, 66, 42, 16, 38, 182, 0, 58, 153, 0, 20, 42, 182, 0, 66, 42, 180, 0, 12, 16, 38, 3]
abbrev dktX13_both_0 : List UInt8 := dkwX13_both_0 ++ dktX13_both_1
theorem dksX13_both_0 : cX13_both.data.toList.drop 0 = dktX13_both_0 := by decide +kernel
theorem dksX13_both_1 : cX13_both.data.toList.drop 24 = dktX13_both_1 := dk_seg dksX13_both_0 24 rfl rfl
theorem dX13_both_0 : decode cX13_both 0 = .ok (.aload_n 0, 1) := dk_42 (dk_at dksX13_both_0 0 rfl rfl)
theorem dX13_both_1 : decode cX13_both 1 = .ok (.invokevirtual 66, 3) := dk_182 0 66 (dk_at dksX13_both_0 1 rfl rfl)
theorem dX13_both_4 : decode cX13_both 4 = .ok (.aload_n 0, 1) := dk_42 (dk_at dksX13_both_0 4 rfl rfl)
theorem dX13_both_5 : decode cX13_both 5 = .ok (.bipush 38, 2) := dk_16 38 (dk_at dksX13_both_0 5 rfl rfl)
theorem dX13_both_7 : decode cX13_both 7 = .ok (.invokevirtual 58, 3) := dk_182 0 58 (dk_at dksX13_both_0 7 rfl rfl)
theorem dX13_both_10 : decode cX13_both 10 = .ok (.ifCond .eq 20, 3) := dk_153 0 20 (dk_at dksX13_both_0 10 rfl rfl)
theorem dX13_both_13 : decode cX13_both 13 = .ok (.aload_n 0, 1) := dk_42 (dk_at dksX13_both_0 13 rfl rfl)
theorem dX13_both_14 : decode cX13_both 14 = .ok (.invokevirtual 66, 3) := dk_182 0 66 (dk_at dksX13_both_0 14 rfl rfl)
theorem dX13_both_17 : decode cX13_both 17 = .ok (.aload_n 0, 1) := dk_42 (dk_at dksX13_both_0 17 rfl rfl)
theorem dX13_both_18 : decode cX13_both 18 = .ok (.getfield 12, 3) := dk_180 0 12 (dk_at dksX13_both_0 18 rfl rfl)
theorem dX13_both_21 : decode cX13_both 21 = .ok (.bipush 38, 2) := dk_16 38 (dk_at dksX13_both_0 21 rfl rfl)
theorem dX13_both_23 : decode cX13_both 23 = .ok (.iconst 0, 1) := dk_3 (dk_at dksX13_both_0 23 rfl rfl)
theorem dX13_both_24 : decode cX13_both 24 = .ok (.invokevirtual 62, 3) := dk_182 0 62 (dk_at dksX13_both_1 0 rfl rfl)
theorem dX13_both_27 : decode cX13_both 27 = .ok (.goto (-23), 3) := dk_167 255 233 (dk_at dksX13_both_1 3 rfl rfl)
theorem dX13_both_30 : decode cX13_both 30 = .ok (.return_, 1) := dk_177 (dk_at dksX13_both_1 6 rfl rfl)
abbrev cX13_compared : ByteArray := prog_9_method_9_code
def yX13_compared : MethodName := ⟨RX13, "compared", "()V"⟩
def dkwX13_compared_1 : List UInt8 := [4, 96, 181, 0, 30, 42, 182, 0, 69, 42, 180, 0, 12, 27, 3, 182, 0, 62, 177]
abbrev dktX13_compared_1 : List UInt8 := dkwX13_compared_1 ++ []
def dkwX13_compared_0 : List UInt8 := [42, 182, 0, 69, 42, 18, 72, 182, 0, 74, 154, 0, 4, 177, 42, 182, 0, 33, 60, 42, 89, 180, 0, 30]
abbrev dktX13_compared_0 : List UInt8 := dkwX13_compared_0 ++ dktX13_compared_1
theorem dksX13_compared_0 : cX13_compared.data.toList.drop 0 = dktX13_compared_0 := by decide +kernel
theorem dksX13_compared_1 : cX13_compared.data.toList.drop 24 = dktX13_compared_1 := dk_seg dksX13_compared_0 24 rfl rfl
theorem dX13_compared_0 : decode cX13_compared 0 = .ok (.aload_n 0, 1) := dk_42 (dk_at dksX13_compared_0 0 rfl rfl)
theorem dX13_compared_1 : decode cX13_compared 1 = .ok (.invokevirtual 69, 3) := dk_182 0 69 (dk_at dksX13_compared_0 1 rfl rfl)
theorem dX13_compared_4 : decode cX13_compared 4 = .ok (.aload_n 0, 1) := dk_42 (dk_at dksX13_compared_0 4 rfl rfl)
theorem dX13_compared_5 : decode cX13_compared 5 = .ok (.ldc 72, 2) := dk_18 72 (dk_at dksX13_compared_0 5 rfl rfl)
theorem dX13_compared_7 : decode cX13_compared 7 = .ok (.invokevirtual 74, 3) := dk_182 0 74 (dk_at dksX13_compared_0 7 rfl rfl)
theorem dX13_compared_10 : decode cX13_compared 10 = .ok (.ifCond .ne 4, 3) := dk_154 0 4 (dk_at dksX13_compared_0 10 rfl rfl)
theorem dX13_compared_13 : decode cX13_compared 13 = .ok (.return_, 1) := dk_177 (dk_at dksX13_compared_0 13 rfl rfl)
theorem dX13_compared_14 : decode cX13_compared 14 = .ok (.aload_n 0, 1) := dk_42 (dk_at dksX13_compared_0 14 rfl rfl)
theorem dX13_compared_15 : decode cX13_compared 15 = .ok (.invokevirtual 33, 3) := dk_182 0 33 (dk_at dksX13_compared_0 15 rfl rfl)
theorem dX13_compared_18 : decode cX13_compared 18 = .ok (.istore_n 1, 1) := dk_60 (dk_at dksX13_compared_0 18 rfl rfl)
theorem dX13_compared_19 : decode cX13_compared 19 = .ok (.aload_n 0, 1) := dk_42 (dk_at dksX13_compared_0 19 rfl rfl)
theorem dX13_compared_20 : decode cX13_compared 20 = .ok (.dup, 1) := dk_89 (dk_at dksX13_compared_0 20 rfl rfl)
theorem dX13_compared_21 : decode cX13_compared 21 = .ok (.getfield 30, 3) := dk_180 0 30 (dk_at dksX13_compared_0 21 rfl rfl)
theorem dX13_compared_24 : decode cX13_compared 24 = .ok (.iconst 1, 1) := dk_4 (dk_at dksX13_compared_1 0 rfl rfl)
theorem dX13_compared_25 : decode cX13_compared 25 = .ok (.iadd, 1) := dk_96 (dk_at dksX13_compared_1 1 rfl rfl)
theorem dX13_compared_26 : decode cX13_compared 26 = .ok (.putfield 30, 3) := dk_181 0 30 (dk_at dksX13_compared_1 2 rfl rfl)
theorem dX13_compared_29 : decode cX13_compared 29 = .ok (.aload_n 0, 1) := dk_42 (dk_at dksX13_compared_1 5 rfl rfl)
theorem dX13_compared_30 : decode cX13_compared 30 = .ok (.invokevirtual 69, 3) := dk_182 0 69 (dk_at dksX13_compared_1 6 rfl rfl)
theorem dX13_compared_33 : decode cX13_compared 33 = .ok (.aload_n 0, 1) := dk_42 (dk_at dksX13_compared_1 9 rfl rfl)
theorem dX13_compared_34 : decode cX13_compared 34 = .ok (.getfield 12, 3) := dk_180 0 12 (dk_at dksX13_compared_1 10 rfl rfl)
theorem dX13_compared_37 : decode cX13_compared 37 = .ok (.iload_n 1, 1) := dk_27 (dk_at dksX13_compared_1 13 rfl rfl)
theorem dX13_compared_38 : decode cX13_compared 38 = .ok (.iconst 0, 1) := dk_3 (dk_at dksX13_compared_1 14 rfl rfl)
theorem dX13_compared_39 : decode cX13_compared 39 = .ok (.invokevirtual 62, 3) := dk_182 0 62 (dk_at dksX13_compared_1 15 rfl rfl)
theorem dX13_compared_42 : decode cX13_compared 42 = .ok (.return_, 1) := dk_177 (dk_at dksX13_compared_1 18 rfl rfl)
abbrev cX13_sum : ByteArray := prog_9_method_10_code
def yX13_sum : MethodName := ⟨RX13, "sum", "()V"⟩
def dkwX13_sum_1 : List UInt8 := [96, 181, 0, 30, 42, 182, 0, 78, 42, 180, 0, 12, 27, 3, 182, 0, 62, 167, 255, 219, 177]
abbrev dktX13_sum_1 : List UInt8 := dkwX13_sum_1 ++ []
def dkwX13_sum_0 : List UInt8 := [42, 182, 0, 78, 42, 18, 81, 182, 0, 74, 153, 0, 34, 42, 182, 0, 33, 60, 42, 89, 180, 0, 30, 4]
abbrev dktX13_sum_0 : List UInt8 := dkwX13_sum_0 ++ dktX13_sum_1
theorem dksX13_sum_0 : cX13_sum.data.toList.drop 0 = dktX13_sum_0 := by decide +kernel
theorem dksX13_sum_1 : cX13_sum.data.toList.drop 24 = dktX13_sum_1 := dk_seg dksX13_sum_0 24 rfl rfl
theorem dX13_sum_0 : decode cX13_sum 0 = .ok (.aload_n 0, 1) := dk_42 (dk_at dksX13_sum_0 0 rfl rfl)
theorem dX13_sum_1 : decode cX13_sum 1 = .ok (.invokevirtual 78, 3) := dk_182 0 78 (dk_at dksX13_sum_0 1 rfl rfl)
theorem dX13_sum_4 : decode cX13_sum 4 = .ok (.aload_n 0, 1) := dk_42 (dk_at dksX13_sum_0 4 rfl rfl)
theorem dX13_sum_5 : decode cX13_sum 5 = .ok (.ldc 81, 2) := dk_18 81 (dk_at dksX13_sum_0 5 rfl rfl)
theorem dX13_sum_7 : decode cX13_sum 7 = .ok (.invokevirtual 74, 3) := dk_182 0 74 (dk_at dksX13_sum_0 7 rfl rfl)
theorem dX13_sum_10 : decode cX13_sum 10 = .ok (.ifCond .eq 34, 3) := dk_153 0 34 (dk_at dksX13_sum_0 10 rfl rfl)
theorem dX13_sum_13 : decode cX13_sum 13 = .ok (.aload_n 0, 1) := dk_42 (dk_at dksX13_sum_0 13 rfl rfl)
theorem dX13_sum_14 : decode cX13_sum 14 = .ok (.invokevirtual 33, 3) := dk_182 0 33 (dk_at dksX13_sum_0 14 rfl rfl)
theorem dX13_sum_17 : decode cX13_sum 17 = .ok (.istore_n 1, 1) := dk_60 (dk_at dksX13_sum_0 17 rfl rfl)
theorem dX13_sum_18 : decode cX13_sum 18 = .ok (.aload_n 0, 1) := dk_42 (dk_at dksX13_sum_0 18 rfl rfl)
theorem dX13_sum_19 : decode cX13_sum 19 = .ok (.dup, 1) := dk_89 (dk_at dksX13_sum_0 19 rfl rfl)
theorem dX13_sum_20 : decode cX13_sum 20 = .ok (.getfield 30, 3) := dk_180 0 30 (dk_at dksX13_sum_0 20 rfl rfl)
theorem dX13_sum_23 : decode cX13_sum 23 = .ok (.iconst 1, 1) := dk_4 (dk_at dksX13_sum_0 23 rfl rfl)
theorem dX13_sum_24 : decode cX13_sum 24 = .ok (.iadd, 1) := dk_96 (dk_at dksX13_sum_1 0 rfl rfl)
theorem dX13_sum_25 : decode cX13_sum 25 = .ok (.putfield 30, 3) := dk_181 0 30 (dk_at dksX13_sum_1 1 rfl rfl)
theorem dX13_sum_28 : decode cX13_sum 28 = .ok (.aload_n 0, 1) := dk_42 (dk_at dksX13_sum_1 4 rfl rfl)
theorem dX13_sum_29 : decode cX13_sum 29 = .ok (.invokevirtual 78, 3) := dk_182 0 78 (dk_at dksX13_sum_1 5 rfl rfl)
theorem dX13_sum_32 : decode cX13_sum 32 = .ok (.aload_n 0, 1) := dk_42 (dk_at dksX13_sum_1 8 rfl rfl)
theorem dX13_sum_33 : decode cX13_sum 33 = .ok (.getfield 12, 3) := dk_180 0 12 (dk_at dksX13_sum_1 9 rfl rfl)
theorem dX13_sum_36 : decode cX13_sum 36 = .ok (.iload_n 1, 1) := dk_27 (dk_at dksX13_sum_1 12 rfl rfl)
theorem dX13_sum_37 : decode cX13_sum 37 = .ok (.iconst 0, 1) := dk_3 (dk_at dksX13_sum_1 13 rfl rfl)
theorem dX13_sum_38 : decode cX13_sum 38 = .ok (.invokevirtual 62, 3) := dk_182 0 62 (dk_at dksX13_sum_1 14 rfl rfl)
theorem dX13_sum_41 : decode cX13_sum 41 = .ok (.goto (-37), 3) := dk_167 255 219 (dk_at dksX13_sum_1 17 rfl rfl)
theorem dX13_sum_44 : decode cX13_sum 44 = .ok (.return_, 1) := dk_177 (dk_at dksX13_sum_1 20 rfl rfl)
abbrev cX13_product : ByteArray := prog_9_method_11_code
def yX13_product : MethodName := ⟨RX13, "product", "()V"⟩
def dkwX13_product_1 : List UInt8 := [96, 181, 0, 30, 42, 182, 0, 83, 42, 180, 0, 12, 27, 3, 182, 0, 62, 167, 255, 219, 177]
abbrev dktX13_product_1 : List UInt8 := dkwX13_product_1 ++ []
def dkwX13_product_0 : List UInt8 := [42, 182, 0, 83, 42, 18, 86, 182, 0, 74, 153, 0, 34, 42, 182, 0, 33, 60, 42, 89, 180, 0, 30, 4]
abbrev dktX13_product_0 : List UInt8 := dkwX13_product_0 ++ dktX13_product_1
theorem dksX13_product_0 : cX13_product.data.toList.drop 0 = dktX13_product_0 := by decide +kernel
theorem dksX13_product_1 : cX13_product.data.toList.drop 24 = dktX13_product_1 := dk_seg dksX13_product_0 24 rfl rfl
theorem dX13_product_0 : decode cX13_product 0 = .ok (.aload_n 0, 1) := dk_42 (dk_at dksX13_product_0 0 rfl rfl)
theorem dX13_product_1 : decode cX13_product 1 = .ok (.invokevirtual 83, 3) := dk_182 0 83 (dk_at dksX13_product_0 1 rfl rfl)
theorem dX13_product_4 : decode cX13_product 4 = .ok (.aload_n 0, 1) := dk_42 (dk_at dksX13_product_0 4 rfl rfl)
theorem dX13_product_5 : decode cX13_product 5 = .ok (.ldc 86, 2) := dk_18 86 (dk_at dksX13_product_0 5 rfl rfl)
theorem dX13_product_7 : decode cX13_product 7 = .ok (.invokevirtual 74, 3) := dk_182 0 74 (dk_at dksX13_product_0 7 rfl rfl)
theorem dX13_product_10 : decode cX13_product 10 = .ok (.ifCond .eq 34, 3) := dk_153 0 34 (dk_at dksX13_product_0 10 rfl rfl)
theorem dX13_product_13 : decode cX13_product 13 = .ok (.aload_n 0, 1) := dk_42 (dk_at dksX13_product_0 13 rfl rfl)
theorem dX13_product_14 : decode cX13_product 14 = .ok (.invokevirtual 33, 3) := dk_182 0 33 (dk_at dksX13_product_0 14 rfl rfl)
theorem dX13_product_17 : decode cX13_product 17 = .ok (.istore_n 1, 1) := dk_60 (dk_at dksX13_product_0 17 rfl rfl)
theorem dX13_product_18 : decode cX13_product 18 = .ok (.aload_n 0, 1) := dk_42 (dk_at dksX13_product_0 18 rfl rfl)
theorem dX13_product_19 : decode cX13_product 19 = .ok (.dup, 1) := dk_89 (dk_at dksX13_product_0 19 rfl rfl)
theorem dX13_product_20 : decode cX13_product 20 = .ok (.getfield 30, 3) := dk_180 0 30 (dk_at dksX13_product_0 20 rfl rfl)
theorem dX13_product_23 : decode cX13_product 23 = .ok (.iconst 1, 1) := dk_4 (dk_at dksX13_product_0 23 rfl rfl)
theorem dX13_product_24 : decode cX13_product 24 = .ok (.iadd, 1) := dk_96 (dk_at dksX13_product_1 0 rfl rfl)
theorem dX13_product_25 : decode cX13_product 25 = .ok (.putfield 30, 3) := dk_181 0 30 (dk_at dksX13_product_1 1 rfl rfl)
theorem dX13_product_28 : decode cX13_product 28 = .ok (.aload_n 0, 1) := dk_42 (dk_at dksX13_product_1 4 rfl rfl)
theorem dX13_product_29 : decode cX13_product 29 = .ok (.invokevirtual 83, 3) := dk_182 0 83 (dk_at dksX13_product_1 5 rfl rfl)
theorem dX13_product_32 : decode cX13_product 32 = .ok (.aload_n 0, 1) := dk_42 (dk_at dksX13_product_1 8 rfl rfl)
theorem dX13_product_33 : decode cX13_product 33 = .ok (.getfield 12, 3) := dk_180 0 12 (dk_at dksX13_product_1 9 rfl rfl)
theorem dX13_product_36 : decode cX13_product 36 = .ok (.iload_n 1, 1) := dk_27 (dk_at dksX13_product_1 12 rfl rfl)
theorem dX13_product_37 : decode cX13_product 37 = .ok (.iconst 0, 1) := dk_3 (dk_at dksX13_product_1 13 rfl rfl)
theorem dX13_product_38 : decode cX13_product 38 = .ok (.invokevirtual 62, 3) := dk_182 0 62 (dk_at dksX13_product_1 14 rfl rfl)
theorem dX13_product_41 : decode cX13_product 41 = .ok (.goto (-37), 3) := dk_167 255 219 (dk_at dksX13_product_1 17 rfl rfl)
theorem dX13_product_44 : decode cX13_product 44 = .ok (.return_, 1) := dk_177 (dk_at dksX13_product_1 20 rfl rfl)
abbrev cX13_unit : ByteArray := prog_9_method_13_code
def yX13_unit : MethodName := ⟨RX13, "unit", "()V"⟩
def dkwX13_unit_5 : List UInt8 := [180, 0, 30, 4, 96, 181, 0, 30, 167, 0, 15, 42, 180, 0, 12, 4, 42, 182, 0, 94, 182, 0, 62, 177]
abbrev dktX13_unit_5 : List UInt8 := dkwX13_unit_5 ++ []
def dkwX13_unit_4 : List UInt8 := [153, 0, 35, 42, 180, 0, 12, 5, 42, 180, 0, 26, 42, 182, 0, 33, 182, 0, 37, 182, 0, 62, 42, 89]
abbrev dktX13_unit_4 : List UInt8 := dkwX13_unit_4 ++ dktX13_unit_5
def dkwX13_unit_3 : List UInt8 := [191, 42, 89, 180, 0, 88, 4, 100, 181, 0, 88, 167, 0, 58, 42, 42, 180, 0, 26, 182, 0, 74]
abbrev dktX13_unit_3 : List UInt8 := dkwX13_unit_3 ++ dktX13_unit_4
def dkwX13_unit_2 : List UInt8 := [160, 0, 38, 42, 182, 0, 91, 42, 182, 0, 48, 42, 16, 41, 182, 0, 58, 154, 0, 8, 42, 182, 0, 51]
abbrev dktX13_unit_2 : List UInt8 := dkwX13_unit_2 ++ dktX13_unit_3
def dkwX13_unit_1 : List UInt8 := [182, 0, 62, 42, 89, 180, 0, 88, 4, 100, 181, 0, 88, 167, 0, 102, 42, 182, 0, 33, 16, 40]
abbrev dktX13_unit_1 : List UInt8 := dkwX13_unit_1 ++ dktX13_unit_2
def dkwX13_unit_0 : List UInt8 := [42, 182, 0, 33, 16, 33, 160, 0, 33, 42, 182, 0, 91, 42, 182, 0, 83, 42, 180, 0, 12, 6, 3]
abbrev dktX13_unit_0 : List UInt8 := dkwX13_unit_0 ++ dktX13_unit_1
theorem dksX13_unit_0 : cX13_unit.data.toList.drop 0 = dktX13_unit_0 := by decide +kernel
theorem dksX13_unit_1 : cX13_unit.data.toList.drop 23 = dktX13_unit_1 := dk_seg dksX13_unit_0 23 rfl rfl
theorem dksX13_unit_2 : cX13_unit.data.toList.drop 45 = dktX13_unit_2 := dk_seg dksX13_unit_1 22 rfl rfl
theorem dksX13_unit_3 : cX13_unit.data.toList.drop 69 = dktX13_unit_3 := dk_seg dksX13_unit_2 24 rfl rfl
theorem dksX13_unit_4 : cX13_unit.data.toList.drop 91 = dktX13_unit_4 := dk_seg dksX13_unit_3 22 rfl rfl
theorem dksX13_unit_5 : cX13_unit.data.toList.drop 115 = dktX13_unit_5 := dk_seg dksX13_unit_4 24 rfl rfl
theorem dX13_unit_0 : decode cX13_unit 0 = .ok (.aload_n 0, 1) := dk_42 (dk_at dksX13_unit_0 0 rfl rfl)
theorem dX13_unit_1 : decode cX13_unit 1 = .ok (.invokevirtual 33, 3) := dk_182 0 33 (dk_at dksX13_unit_0 1 rfl rfl)
theorem dX13_unit_4 : decode cX13_unit 4 = .ok (.bipush 33, 2) := dk_16 33 (dk_at dksX13_unit_0 4 rfl rfl)
theorem dX13_unit_6 : decode cX13_unit 6 = .ok (.if_icmp .ne 33, 3) := dk_160 0 33 (dk_at dksX13_unit_0 6 rfl rfl)
theorem dX13_unit_9 : decode cX13_unit 9 = .ok (.aload_n 0, 1) := dk_42 (dk_at dksX13_unit_0 9 rfl rfl)
theorem dX13_unit_10 : decode cX13_unit 10 = .ok (.invokevirtual 91, 3) := dk_182 0 91 (dk_at dksX13_unit_0 10 rfl rfl)
theorem dX13_unit_13 : decode cX13_unit 13 = .ok (.aload_n 0, 1) := dk_42 (dk_at dksX13_unit_0 13 rfl rfl)
theorem dX13_unit_14 : decode cX13_unit 14 = .ok (.invokevirtual 83, 3) := dk_182 0 83 (dk_at dksX13_unit_0 14 rfl rfl)
theorem dX13_unit_17 : decode cX13_unit 17 = .ok (.aload_n 0, 1) := dk_42 (dk_at dksX13_unit_0 17 rfl rfl)
theorem dX13_unit_18 : decode cX13_unit 18 = .ok (.getfield 12, 3) := dk_180 0 12 (dk_at dksX13_unit_0 18 rfl rfl)
theorem dX13_unit_21 : decode cX13_unit 21 = .ok (.iconst 3, 1) := dk_6 (dk_at dksX13_unit_0 21 rfl rfl)
theorem dX13_unit_22 : decode cX13_unit 22 = .ok (.iconst 0, 1) := dk_3 (dk_at dksX13_unit_0 22 rfl rfl)
theorem dX13_unit_23 : decode cX13_unit 23 = .ok (.invokevirtual 62, 3) := dk_182 0 62 (dk_at dksX13_unit_1 0 rfl rfl)
theorem dX13_unit_26 : decode cX13_unit 26 = .ok (.aload_n 0, 1) := dk_42 (dk_at dksX13_unit_1 3 rfl rfl)
theorem dX13_unit_27 : decode cX13_unit 27 = .ok (.dup, 1) := dk_89 (dk_at dksX13_unit_1 4 rfl rfl)
theorem dX13_unit_28 : decode cX13_unit 28 = .ok (.getfield 88, 3) := dk_180 0 88 (dk_at dksX13_unit_1 5 rfl rfl)
theorem dX13_unit_31 : decode cX13_unit 31 = .ok (.iconst 1, 1) := dk_4 (dk_at dksX13_unit_1 8 rfl rfl)
theorem dX13_unit_32 : decode cX13_unit 32 = .ok (.isub, 1) := dk_100 (dk_at dksX13_unit_1 9 rfl rfl)
theorem dX13_unit_33 : decode cX13_unit 33 = .ok (.putfield 88, 3) := dk_181 0 88 (dk_at dksX13_unit_1 10 rfl rfl)
theorem dX13_unit_36 : decode cX13_unit 36 = .ok (.goto 102, 3) := dk_167 0 102 (dk_at dksX13_unit_1 13 rfl rfl)
theorem dX13_unit_39 : decode cX13_unit 39 = .ok (.aload_n 0, 1) := dk_42 (dk_at dksX13_unit_1 16 rfl rfl)
theorem dX13_unit_40 : decode cX13_unit 40 = .ok (.invokevirtual 33, 3) := dk_182 0 33 (dk_at dksX13_unit_1 17 rfl rfl)
theorem dX13_unit_43 : decode cX13_unit 43 = .ok (.bipush 40, 2) := dk_16 40 (dk_at dksX13_unit_1 20 rfl rfl)
theorem dX13_unit_45 : decode cX13_unit 45 = .ok (.if_icmp .ne 38, 3) := dk_160 0 38 (dk_at dksX13_unit_2 0 rfl rfl)
theorem dX13_unit_48 : decode cX13_unit 48 = .ok (.aload_n 0, 1) := dk_42 (dk_at dksX13_unit_2 3 rfl rfl)
theorem dX13_unit_49 : decode cX13_unit 49 = .ok (.invokevirtual 91, 3) := dk_182 0 91 (dk_at dksX13_unit_2 4 rfl rfl)
theorem dX13_unit_52 : decode cX13_unit 52 = .ok (.aload_n 0, 1) := dk_42 (dk_at dksX13_unit_2 7 rfl rfl)
theorem dX13_unit_53 : decode cX13_unit 53 = .ok (.invokevirtual 48, 3) := dk_182 0 48 (dk_at dksX13_unit_2 8 rfl rfl)
theorem dX13_unit_56 : decode cX13_unit 56 = .ok (.aload_n 0, 1) := dk_42 (dk_at dksX13_unit_2 11 rfl rfl)
theorem dX13_unit_57 : decode cX13_unit 57 = .ok (.bipush 41, 2) := dk_16 41 (dk_at dksX13_unit_2 12 rfl rfl)
theorem dX13_unit_59 : decode cX13_unit 59 = .ok (.invokevirtual 58, 3) := dk_182 0 58 (dk_at dksX13_unit_2 14 rfl rfl)
theorem dX13_unit_62 : decode cX13_unit 62 = .ok (.ifCond .ne 8, 3) := dk_154 0 8 (dk_at dksX13_unit_2 17 rfl rfl)
theorem dX13_unit_65 : decode cX13_unit 65 = .ok (.aload_n 0, 1) := dk_42 (dk_at dksX13_unit_2 20 rfl rfl)
theorem dX13_unit_66 : decode cX13_unit 66 = .ok (.invokevirtual 51, 3) := dk_182 0 51 (dk_at dksX13_unit_2 21 rfl rfl)
theorem dX13_unit_69 : decode cX13_unit 69 = .ok (.athrow, 1) := dk_191 (dk_at dksX13_unit_3 0 rfl rfl)
theorem dX13_unit_70 : decode cX13_unit 70 = .ok (.aload_n 0, 1) := dk_42 (dk_at dksX13_unit_3 1 rfl rfl)
theorem dX13_unit_71 : decode cX13_unit 71 = .ok (.dup, 1) := dk_89 (dk_at dksX13_unit_3 2 rfl rfl)
theorem dX13_unit_72 : decode cX13_unit 72 = .ok (.getfield 88, 3) := dk_180 0 88 (dk_at dksX13_unit_3 3 rfl rfl)
theorem dX13_unit_75 : decode cX13_unit 75 = .ok (.iconst 1, 1) := dk_4 (dk_at dksX13_unit_3 6 rfl rfl)
theorem dX13_unit_76 : decode cX13_unit 76 = .ok (.isub, 1) := dk_100 (dk_at dksX13_unit_3 7 rfl rfl)
theorem dX13_unit_77 : decode cX13_unit 77 = .ok (.putfield 88, 3) := dk_181 0 88 (dk_at dksX13_unit_3 8 rfl rfl)
theorem dX13_unit_80 : decode cX13_unit 80 = .ok (.goto 58, 3) := dk_167 0 58 (dk_at dksX13_unit_3 11 rfl rfl)
theorem dX13_unit_83 : decode cX13_unit 83 = .ok (.aload_n 0, 1) := dk_42 (dk_at dksX13_unit_3 14 rfl rfl)
theorem dX13_unit_84 : decode cX13_unit 84 = .ok (.aload_n 0, 1) := dk_42 (dk_at dksX13_unit_3 15 rfl rfl)
theorem dX13_unit_85 : decode cX13_unit 85 = .ok (.getfield 26, 3) := dk_180 0 26 (dk_at dksX13_unit_3 16 rfl rfl)
theorem dX13_unit_88 : decode cX13_unit 88 = .ok (.invokevirtual 74, 3) := dk_182 0 74 (dk_at dksX13_unit_3 19 rfl rfl)
theorem dX13_unit_91 : decode cX13_unit 91 = .ok (.ifCond .eq 35, 3) := dk_153 0 35 (dk_at dksX13_unit_4 0 rfl rfl)
theorem dX13_unit_94 : decode cX13_unit 94 = .ok (.aload_n 0, 1) := dk_42 (dk_at dksX13_unit_4 3 rfl rfl)
theorem dX13_unit_95 : decode cX13_unit 95 = .ok (.getfield 12, 3) := dk_180 0 12 (dk_at dksX13_unit_4 4 rfl rfl)
theorem dX13_unit_98 : decode cX13_unit 98 = .ok (.iconst 2, 1) := dk_5 (dk_at dksX13_unit_4 7 rfl rfl)
theorem dX13_unit_99 : decode cX13_unit 99 = .ok (.aload_n 0, 1) := dk_42 (dk_at dksX13_unit_4 8 rfl rfl)
theorem dX13_unit_100 : decode cX13_unit 100 = .ok (.getfield 26, 3) := dk_180 0 26 (dk_at dksX13_unit_4 9 rfl rfl)
theorem dX13_unit_103 : decode cX13_unit 103 = .ok (.aload_n 0, 1) := dk_42 (dk_at dksX13_unit_4 12 rfl rfl)
theorem dX13_unit_104 : decode cX13_unit 104 = .ok (.invokevirtual 33, 3) := dk_182 0 33 (dk_at dksX13_unit_4 13 rfl rfl)
theorem dX13_unit_107 : decode cX13_unit 107 = .ok (.invokevirtual 37, 3) := dk_182 0 37 (dk_at dksX13_unit_4 16 rfl rfl)
theorem dX13_unit_110 : decode cX13_unit 110 = .ok (.invokevirtual 62, 3) := dk_182 0 62 (dk_at dksX13_unit_4 19 rfl rfl)
theorem dX13_unit_113 : decode cX13_unit 113 = .ok (.aload_n 0, 1) := dk_42 (dk_at dksX13_unit_4 22 rfl rfl)
theorem dX13_unit_114 : decode cX13_unit 114 = .ok (.dup, 1) := dk_89 (dk_at dksX13_unit_4 23 rfl rfl)
theorem dX13_unit_115 : decode cX13_unit 115 = .ok (.getfield 30, 3) := dk_180 0 30 (dk_at dksX13_unit_5 0 rfl rfl)
theorem dX13_unit_118 : decode cX13_unit 118 = .ok (.iconst 1, 1) := dk_4 (dk_at dksX13_unit_5 3 rfl rfl)
theorem dX13_unit_119 : decode cX13_unit 119 = .ok (.iadd, 1) := dk_96 (dk_at dksX13_unit_5 4 rfl rfl)
theorem dX13_unit_120 : decode cX13_unit 120 = .ok (.putfield 30, 3) := dk_181 0 30 (dk_at dksX13_unit_5 5 rfl rfl)
theorem dX13_unit_123 : decode cX13_unit 123 = .ok (.goto 15, 3) := dk_167 0 15 (dk_at dksX13_unit_5 8 rfl rfl)
theorem dX13_unit_126 : decode cX13_unit 126 = .ok (.aload_n 0, 1) := dk_42 (dk_at dksX13_unit_5 11 rfl rfl)
theorem dX13_unit_127 : decode cX13_unit 127 = .ok (.getfield 12, 3) := dk_180 0 12 (dk_at dksX13_unit_5 12 rfl rfl)
theorem dX13_unit_130 : decode cX13_unit 130 = .ok (.iconst 1, 1) := dk_4 (dk_at dksX13_unit_5 15 rfl rfl)
theorem dX13_unit_131 : decode cX13_unit 131 = .ok (.aload_n 0, 1) := dk_42 (dk_at dksX13_unit_5 16 rfl rfl)
theorem dX13_unit_132 : decode cX13_unit 132 = .ok (.invokevirtual 94, 3) := dk_182 0 94 (dk_at dksX13_unit_5 17 rfl rfl)
theorem dX13_unit_135 : decode cX13_unit 135 = .ok (.invokevirtual 62, 3) := dk_182 0 62 (dk_at dksX13_unit_5 20 rfl rfl)
theorem dX13_unit_138 : decode cX13_unit 138 = .ok (.return_, 1) := dk_177 (dk_at dksX13_unit_5 23 rfl rfl)
abbrev cX13_here : ByteArray := prog_9_method_2_code
def yX13_here : MethodName := ⟨RX13, "here", "()I"⟩
def dkwX13_here_1 : List UInt8 := [172]
abbrev dktX13_here_1 : List UInt8 := dkwX13_here_1 ++ []
def dkwX13_here_0 : List UInt8 := [42, 180, 0, 30, 42, 180, 0, 22, 162, 0, 15, 42, 180, 0, 18, 42, 180, 0, 30, 51, 167, 0, 4, 2]
abbrev dktX13_here_0 : List UInt8 := dkwX13_here_0 ++ dktX13_here_1
theorem dksX13_here_0 : cX13_here.data.toList.drop 0 = dktX13_here_0 := by decide +kernel
theorem dksX13_here_1 : cX13_here.data.toList.drop 24 = dktX13_here_1 := dk_seg dksX13_here_0 24 rfl rfl
theorem dX13_here_0 : decode cX13_here 0 = .ok (.aload_n 0, 1) := dk_42 (dk_at dksX13_here_0 0 rfl rfl)
theorem dX13_here_1 : decode cX13_here 1 = .ok (.getfield 30, 3) := dk_180 0 30 (dk_at dksX13_here_0 1 rfl rfl)
theorem dX13_here_4 : decode cX13_here 4 = .ok (.aload_n 0, 1) := dk_42 (dk_at dksX13_here_0 4 rfl rfl)
theorem dX13_here_5 : decode cX13_here 5 = .ok (.getfield 22, 3) := dk_180 0 22 (dk_at dksX13_here_0 5 rfl rfl)
theorem dX13_here_8 : decode cX13_here 8 = .ok (.if_icmp .ge 15, 3) := dk_162 0 15 (dk_at dksX13_here_0 8 rfl rfl)
theorem dX13_here_11 : decode cX13_here 11 = .ok (.aload_n 0, 1) := dk_42 (dk_at dksX13_here_0 11 rfl rfl)
theorem dX13_here_12 : decode cX13_here 12 = .ok (.getfield 18, 3) := dk_180 0 18 (dk_at dksX13_here_0 12 rfl rfl)
theorem dX13_here_15 : decode cX13_here 15 = .ok (.aload_n 0, 1) := dk_42 (dk_at dksX13_here_0 15 rfl rfl)
theorem dX13_here_16 : decode cX13_here 16 = .ok (.getfield 30, 3) := dk_180 0 30 (dk_at dksX13_here_0 16 rfl rfl)
theorem dX13_here_19 : decode cX13_here 19 = .ok (.baload, 1) := dk_51 (dk_at dksX13_here_0 19 rfl rfl)
theorem dX13_here_20 : decode cX13_here 20 = .ok (.goto 4, 3) := dk_167 0 4 (dk_at dksX13_here_0 20 rfl rfl)
theorem dX13_here_23 : decode cX13_here 23 = .ok (.iconst (-1), 1) := dk_2 (dk_at dksX13_here_0 23 rfl rfl)
theorem dX13_here_24 : decode cX13_here 24 = .ok (.ireturn, 1) := dk_172 (dk_at dksX13_here_1 0 rfl rfl)
abbrev cX13_opens : ByteArray := prog_9_method_12_code
def yX13_opens : MethodName := ⟨RX13, "opens", "()V"⟩
def dkwX13_opens_1 : List UInt8 := [89, 180, 0, 30, 4, 96, 181, 0, 30, 177]
abbrev dktX13_opens_1 : List UInt8 := dkwX13_opens_1 ++ []
def dkwX13_opens_0 : List UInt8 := [42, 180, 0, 88, 8, 160, 0, 8, 42, 182, 0, 51, 191, 42, 89, 180, 0, 88, 4, 96, 181, 0, 88, 42]
abbrev dktX13_opens_0 : List UInt8 := dkwX13_opens_0 ++ dktX13_opens_1
theorem dksX13_opens_0 : cX13_opens.data.toList.drop 0 = dktX13_opens_0 := by decide +kernel
theorem dksX13_opens_1 : cX13_opens.data.toList.drop 24 = dktX13_opens_1 := dk_seg dksX13_opens_0 24 rfl rfl
theorem dX13_opens_0 : decode cX13_opens 0 = .ok (.aload_n 0, 1) := dk_42 (dk_at dksX13_opens_0 0 rfl rfl)
theorem dX13_opens_1 : decode cX13_opens 1 = .ok (.getfield 88, 3) := dk_180 0 88 (dk_at dksX13_opens_0 1 rfl rfl)
theorem dX13_opens_4 : decode cX13_opens 4 = .ok (.iconst 5, 1) := dk_8 (dk_at dksX13_opens_0 4 rfl rfl)
theorem dX13_opens_5 : decode cX13_opens 5 = .ok (.if_icmp .ne 8, 3) := dk_160 0 8 (dk_at dksX13_opens_0 5 rfl rfl)
theorem dX13_opens_8 : decode cX13_opens 8 = .ok (.aload_n 0, 1) := dk_42 (dk_at dksX13_opens_0 8 rfl rfl)
theorem dX13_opens_9 : decode cX13_opens 9 = .ok (.invokevirtual 51, 3) := dk_182 0 51 (dk_at dksX13_opens_0 9 rfl rfl)
theorem dX13_opens_12 : decode cX13_opens 12 = .ok (.athrow, 1) := dk_191 (dk_at dksX13_opens_0 12 rfl rfl)
theorem dX13_opens_13 : decode cX13_opens 13 = .ok (.aload_n 0, 1) := dk_42 (dk_at dksX13_opens_0 13 rfl rfl)
theorem dX13_opens_14 : decode cX13_opens 14 = .ok (.dup, 1) := dk_89 (dk_at dksX13_opens_0 14 rfl rfl)
theorem dX13_opens_15 : decode cX13_opens 15 = .ok (.getfield 88, 3) := dk_180 0 88 (dk_at dksX13_opens_0 15 rfl rfl)
theorem dX13_opens_18 : decode cX13_opens 18 = .ok (.iconst 1, 1) := dk_4 (dk_at dksX13_opens_0 18 rfl rfl)
theorem dX13_opens_19 : decode cX13_opens 19 = .ok (.iadd, 1) := dk_96 (dk_at dksX13_opens_0 19 rfl rfl)
theorem dX13_opens_20 : decode cX13_opens 20 = .ok (.putfield 88, 3) := dk_181 0 88 (dk_at dksX13_opens_0 20 rfl rfl)
theorem dX13_opens_23 : decode cX13_opens 23 = .ok (.aload_n 0, 1) := dk_42 (dk_at dksX13_opens_0 23 rfl rfl)
theorem dX13_opens_24 : decode cX13_opens 24 = .ok (.dup, 1) := dk_89 (dk_at dksX13_opens_1 0 rfl rfl)
theorem dX13_opens_25 : decode cX13_opens 25 = .ok (.getfield 30, 3) := dk_180 0 30 (dk_at dksX13_opens_1 1 rfl rfl)
theorem dX13_opens_28 : decode cX13_opens 28 = .ok (.iconst 1, 1) := dk_4 (dk_at dksX13_opens_1 4 rfl rfl)
theorem dX13_opens_29 : decode cX13_opens 29 = .ok (.iadd, 1) := dk_96 (dk_at dksX13_opens_1 5 rfl rfl)
theorem dX13_opens_30 : decode cX13_opens 30 = .ok (.putfield 30, 3) := dk_181 0 30 (dk_at dksX13_opens_1 6 rfl rfl)
theorem dX13_opens_33 : decode cX13_opens 33 = .ok (.return_, 1) := dk_177 (dk_at dksX13_opens_1 9 rfl rfl)
abbrev cX13_wrong : ByteArray := prog_9_method_5_code
def yX13_wrong : MethodName := ⟨RX13, "wrong", "()LWheelBrook$Fault;"⟩
def dkwX13_wrong_0 : List UInt8 := [187, 0, 43, 89, 42, 180, 0, 30, 183, 0, 45, 176]
abbrev dktX13_wrong_0 : List UInt8 := dkwX13_wrong_0 ++ []
theorem dksX13_wrong_0 : cX13_wrong.data.toList.drop 0 = dktX13_wrong_0 := by decide +kernel
theorem dX13_wrong_0 : decode cX13_wrong 0 = .ok (.new 43, 3) := dk_187 0 43 (dk_at dksX13_wrong_0 0 rfl rfl)
theorem dX13_wrong_3 : decode cX13_wrong 3 = .ok (.dup, 1) := dk_89 (dk_at dksX13_wrong_0 3 rfl rfl)
theorem dX13_wrong_4 : decode cX13_wrong 4 = .ok (.aload_n 0, 1) := dk_42 (dk_at dksX13_wrong_0 4 rfl rfl)
theorem dX13_wrong_5 : decode cX13_wrong 5 = .ok (.getfield 30, 3) := dk_180 0 30 (dk_at dksX13_wrong_0 5 rfl rfl)
theorem dX13_wrong_8 : decode cX13_wrong 8 = .ok (.invokespecial 45, 3) := dk_183 0 45 (dk_at dksX13_wrong_0 8 rfl rfl)
theorem dX13_wrong_11 : decode cX13_wrong 11 = .ok (.areturn, 1) := dk_176 (dk_at dksX13_wrong_0 11 rfl rfl)
abbrev cX13_takes : ByteArray := prog_9_method_3_code
def yX13_takes : MethodName := ⟨RX13, "takes", "(I)Z"⟩
def dkwX13_takes_1 : List UInt8 := [167, 0, 4, 3, 96, 181, 0, 30, 28, 172]
abbrev dktX13_takes_1 : List UInt8 := dkwX13_takes_1 ++ []
def dkwX13_takes_0 : List UInt8 := [42, 182, 0, 33, 27, 160, 0, 7, 4, 167, 0, 4, 3, 61, 42, 89, 180, 0, 30, 28, 153, 0, 7, 4]
abbrev dktX13_takes_0 : List UInt8 := dkwX13_takes_0 ++ dktX13_takes_1
theorem dksX13_takes_0 : cX13_takes.data.toList.drop 0 = dktX13_takes_0 := by decide +kernel
theorem dksX13_takes_1 : cX13_takes.data.toList.drop 24 = dktX13_takes_1 := dk_seg dksX13_takes_0 24 rfl rfl
theorem dX13_takes_0 : decode cX13_takes 0 = .ok (.aload_n 0, 1) := dk_42 (dk_at dksX13_takes_0 0 rfl rfl)
theorem dX13_takes_1 : decode cX13_takes 1 = .ok (.invokevirtual 33, 3) := dk_182 0 33 (dk_at dksX13_takes_0 1 rfl rfl)
theorem dX13_takes_4 : decode cX13_takes 4 = .ok (.iload_n 1, 1) := dk_27 (dk_at dksX13_takes_0 4 rfl rfl)
theorem dX13_takes_5 : decode cX13_takes 5 = .ok (.if_icmp .ne 7, 3) := dk_160 0 7 (dk_at dksX13_takes_0 5 rfl rfl)
theorem dX13_takes_8 : decode cX13_takes 8 = .ok (.iconst 1, 1) := dk_4 (dk_at dksX13_takes_0 8 rfl rfl)
theorem dX13_takes_9 : decode cX13_takes 9 = .ok (.goto 4, 3) := dk_167 0 4 (dk_at dksX13_takes_0 9 rfl rfl)
theorem dX13_takes_12 : decode cX13_takes 12 = .ok (.iconst 0, 1) := dk_3 (dk_at dksX13_takes_0 12 rfl rfl)
theorem dX13_takes_13 : decode cX13_takes 13 = .ok (.istore_n 2, 1) := dk_61 (dk_at dksX13_takes_0 13 rfl rfl)
theorem dX13_takes_14 : decode cX13_takes 14 = .ok (.aload_n 0, 1) := dk_42 (dk_at dksX13_takes_0 14 rfl rfl)
theorem dX13_takes_15 : decode cX13_takes 15 = .ok (.dup, 1) := dk_89 (dk_at dksX13_takes_0 15 rfl rfl)
theorem dX13_takes_16 : decode cX13_takes 16 = .ok (.getfield 30, 3) := dk_180 0 30 (dk_at dksX13_takes_0 16 rfl rfl)
theorem dX13_takes_19 : decode cX13_takes 19 = .ok (.iload_n 2, 1) := dk_28 (dk_at dksX13_takes_0 19 rfl rfl)
theorem dX13_takes_20 : decode cX13_takes 20 = .ok (.ifCond .eq 7, 3) := dk_153 0 7 (dk_at dksX13_takes_0 20 rfl rfl)
theorem dX13_takes_23 : decode cX13_takes 23 = .ok (.iconst 1, 1) := dk_4 (dk_at dksX13_takes_0 23 rfl rfl)
theorem dX13_takes_24 : decode cX13_takes 24 = .ok (.goto 4, 3) := dk_167 0 4 (dk_at dksX13_takes_1 0 rfl rfl)
theorem dX13_takes_27 : decode cX13_takes 27 = .ok (.iconst 0, 1) := dk_3 (dk_at dksX13_takes_1 3 rfl rfl)
theorem dX13_takes_28 : decode cX13_takes 28 = .ok (.iadd, 1) := dk_96 (dk_at dksX13_takes_1 4 rfl rfl)
theorem dX13_takes_29 : decode cX13_takes 29 = .ok (.putfield 30, 3) := dk_181 0 30 (dk_at dksX13_takes_1 5 rfl rfl)
theorem dX13_takes_32 : decode cX13_takes 32 = .ok (.iload_n 2, 1) := dk_28 (dk_at dksX13_takes_1 8 rfl rfl)
theorem dX13_takes_33 : decode cX13_takes 33 = .ok (.ireturn, 1) := dk_172 (dk_at dksX13_takes_1 9 rfl rfl)
abbrev cX13_isOneOf : ByteArray := prog_9_method_4_code
def yX13_isOneOf : MethodName := ⟨RX13, "isOneOf", "(Ljava/lang/String;)Z"⟩
def dkwX13_isOneOf_0 : List UInt8 := [42, 182, 0, 33, 155, 0, 18, 43, 42, 182, 0, 33, 182, 0, 37, 155, 0, 7, 4, 167, 0, 4, 3, 172]
abbrev dktX13_isOneOf_0 : List UInt8 := dkwX13_isOneOf_0 ++ []
theorem dksX13_isOneOf_0 : cX13_isOneOf.data.toList.drop 0 = dktX13_isOneOf_0 := by decide +kernel
theorem dX13_isOneOf_0 : decode cX13_isOneOf 0 = .ok (.aload_n 0, 1) := dk_42 (dk_at dksX13_isOneOf_0 0 rfl rfl)
theorem dX13_isOneOf_1 : decode cX13_isOneOf 1 = .ok (.invokevirtual 33, 3) := dk_182 0 33 (dk_at dksX13_isOneOf_0 1 rfl rfl)
theorem dX13_isOneOf_4 : decode cX13_isOneOf 4 = .ok (.ifCond .lt 18, 3) := dk_155 0 18 (dk_at dksX13_isOneOf_0 4 rfl rfl)
theorem dX13_isOneOf_7 : decode cX13_isOneOf 7 = .ok (.aload_n 1, 1) := dk_43 (dk_at dksX13_isOneOf_0 7 rfl rfl)
theorem dX13_isOneOf_8 : decode cX13_isOneOf 8 = .ok (.aload_n 0, 1) := dk_42 (dk_at dksX13_isOneOf_0 8 rfl rfl)
theorem dX13_isOneOf_9 : decode cX13_isOneOf 9 = .ok (.invokevirtual 33, 3) := dk_182 0 33 (dk_at dksX13_isOneOf_0 9 rfl rfl)
theorem dX13_isOneOf_12 : decode cX13_isOneOf 12 = .ok (.invokevirtual 37, 3) := dk_182 0 37 (dk_at dksX13_isOneOf_0 12 rfl rfl)
theorem dX13_isOneOf_15 : decode cX13_isOneOf 15 = .ok (.ifCond .lt 7, 3) := dk_155 0 7 (dk_at dksX13_isOneOf_0 15 rfl rfl)
theorem dX13_isOneOf_18 : decode cX13_isOneOf 18 = .ok (.iconst 1, 1) := dk_4 (dk_at dksX13_isOneOf_0 18 rfl rfl)
theorem dX13_isOneOf_19 : decode cX13_isOneOf 19 = .ok (.goto 4, 3) := dk_167 0 4 (dk_at dksX13_isOneOf_0 19 rfl rfl)
theorem dX13_isOneOf_22 : decode cX13_isOneOf 22 = .ok (.iconst 0, 1) := dk_3 (dk_at dksX13_isOneOf_0 22 rfl rfl)
theorem dX13_isOneOf_23 : decode cX13_isOneOf 23 = .ok (.ireturn, 1) := dk_172 (dk_at dksX13_isOneOf_0 23 rfl rfl)
abbrev cX13_number : ByteArray := prog_9_method_14_code
def yX13_number : MethodName := ⟨RX13, "number", "()I"⟩
def dkwX13_number_2 : List UInt8 := [132, 2, 1, 167, 255, 211, 28, 154, 0, 8, 42, 182, 0, 51, 191, 27, 172]
abbrev dktX13_number_2 : List UInt8 := dkwX13_number_2 ++ []
def dkwX13_number_1 : List UInt8 := [16, 10, 27, 104, 42, 182, 0, 33, 96, 16, 48, 100, 60, 42, 89, 180, 0, 30, 4, 96, 181, 0, 30]
abbrev dktX13_number_1 : List UInt8 := dkwX13_number_1 ++ dktX13_number_2
def dkwX13_number_0 : List UInt8 := [3, 60, 3, 61, 28, 7, 162, 0, 46, 42, 182, 0, 33, 16, 48, 16, 57, 184, 0, 97, 153, 0, 32]
abbrev dktX13_number_0 : List UInt8 := dkwX13_number_0 ++ dktX13_number_1
theorem dksX13_number_0 : cX13_number.data.toList.drop 0 = dktX13_number_0 := by decide +kernel
theorem dksX13_number_1 : cX13_number.data.toList.drop 23 = dktX13_number_1 := dk_seg dksX13_number_0 23 rfl rfl
theorem dksX13_number_2 : cX13_number.data.toList.drop 46 = dktX13_number_2 := dk_seg dksX13_number_1 23 rfl rfl
theorem dX13_number_0 : decode cX13_number 0 = .ok (.iconst 0, 1) := dk_3 (dk_at dksX13_number_0 0 rfl rfl)
theorem dX13_number_1 : decode cX13_number 1 = .ok (.istore_n 1, 1) := dk_60 (dk_at dksX13_number_0 1 rfl rfl)
theorem dX13_number_2 : decode cX13_number 2 = .ok (.iconst 0, 1) := dk_3 (dk_at dksX13_number_0 2 rfl rfl)
theorem dX13_number_3 : decode cX13_number 3 = .ok (.istore_n 2, 1) := dk_61 (dk_at dksX13_number_0 3 rfl rfl)
theorem dX13_number_4 : decode cX13_number 4 = .ok (.iload_n 2, 1) := dk_28 (dk_at dksX13_number_0 4 rfl rfl)
theorem dX13_number_5 : decode cX13_number 5 = .ok (.iconst 4, 1) := dk_7 (dk_at dksX13_number_0 5 rfl rfl)
theorem dX13_number_6 : decode cX13_number 6 = .ok (.if_icmp .ge 46, 3) := dk_162 0 46 (dk_at dksX13_number_0 6 rfl rfl)
theorem dX13_number_9 : decode cX13_number 9 = .ok (.aload_n 0, 1) := dk_42 (dk_at dksX13_number_0 9 rfl rfl)
theorem dX13_number_10 : decode cX13_number 10 = .ok (.invokevirtual 33, 3) := dk_182 0 33 (dk_at dksX13_number_0 10 rfl rfl)
theorem dX13_number_13 : decode cX13_number 13 = .ok (.bipush 48, 2) := dk_16 48 (dk_at dksX13_number_0 13 rfl rfl)
theorem dX13_number_15 : decode cX13_number 15 = .ok (.bipush 57, 2) := dk_16 57 (dk_at dksX13_number_0 15 rfl rfl)
theorem dX13_number_17 : decode cX13_number 17 = .ok (.invokestatic 97, 3) := dk_184 0 97 (dk_at dksX13_number_0 17 rfl rfl)
theorem dX13_number_20 : decode cX13_number 20 = .ok (.ifCond .eq 32, 3) := dk_153 0 32 (dk_at dksX13_number_0 20 rfl rfl)
theorem dX13_number_23 : decode cX13_number 23 = .ok (.bipush 10, 2) := dk_16 10 (dk_at dksX13_number_1 0 rfl rfl)
theorem dX13_number_25 : decode cX13_number 25 = .ok (.iload_n 1, 1) := dk_27 (dk_at dksX13_number_1 2 rfl rfl)
theorem dX13_number_26 : decode cX13_number 26 = .ok (.imul, 1) := dk_104 (dk_at dksX13_number_1 3 rfl rfl)
theorem dX13_number_27 : decode cX13_number 27 = .ok (.aload_n 0, 1) := dk_42 (dk_at dksX13_number_1 4 rfl rfl)
theorem dX13_number_28 : decode cX13_number 28 = .ok (.invokevirtual 33, 3) := dk_182 0 33 (dk_at dksX13_number_1 5 rfl rfl)
theorem dX13_number_31 : decode cX13_number 31 = .ok (.iadd, 1) := dk_96 (dk_at dksX13_number_1 8 rfl rfl)
theorem dX13_number_32 : decode cX13_number 32 = .ok (.bipush 48, 2) := dk_16 48 (dk_at dksX13_number_1 9 rfl rfl)
theorem dX13_number_34 : decode cX13_number 34 = .ok (.isub, 1) := dk_100 (dk_at dksX13_number_1 11 rfl rfl)
theorem dX13_number_35 : decode cX13_number 35 = .ok (.istore_n 1, 1) := dk_60 (dk_at dksX13_number_1 12 rfl rfl)
theorem dX13_number_36 : decode cX13_number 36 = .ok (.aload_n 0, 1) := dk_42 (dk_at dksX13_number_1 13 rfl rfl)
theorem dX13_number_37 : decode cX13_number 37 = .ok (.dup, 1) := dk_89 (dk_at dksX13_number_1 14 rfl rfl)
theorem dX13_number_38 : decode cX13_number 38 = .ok (.getfield 30, 3) := dk_180 0 30 (dk_at dksX13_number_1 15 rfl rfl)
theorem dX13_number_41 : decode cX13_number 41 = .ok (.iconst 1, 1) := dk_4 (dk_at dksX13_number_1 18 rfl rfl)
theorem dX13_number_42 : decode cX13_number 42 = .ok (.iadd, 1) := dk_96 (dk_at dksX13_number_1 19 rfl rfl)
theorem dX13_number_43 : decode cX13_number 43 = .ok (.putfield 30, 3) := dk_181 0 30 (dk_at dksX13_number_1 20 rfl rfl)
theorem dX13_number_46 : decode cX13_number 46 = .ok (.iinc 2 1, 3) := dk_132 2 1 (dk_at dksX13_number_2 0 rfl rfl)
theorem dX13_number_49 : decode cX13_number 49 = .ok (.goto (-45), 3) := dk_167 255 211 (dk_at dksX13_number_2 3 rfl rfl)
theorem dX13_number_52 : decode cX13_number 52 = .ok (.iload_n 2, 1) := dk_28 (dk_at dksX13_number_2 6 rfl rfl)
theorem dX13_number_53 : decode cX13_number 53 = .ok (.ifCond .ne 8, 3) := dk_154 0 8 (dk_at dksX13_number_2 7 rfl rfl)
theorem dX13_number_56 : decode cX13_number 56 = .ok (.aload_n 0, 1) := dk_42 (dk_at dksX13_number_2 10 rfl rfl)
theorem dX13_number_57 : decode cX13_number 57 = .ok (.invokevirtual 51, 3) := dk_182 0 51 (dk_at dksX13_number_2 11 rfl rfl)
theorem dX13_number_60 : decode cX13_number 60 = .ok (.athrow, 1) := dk_191 (dk_at dksX13_number_2 14 rfl rfl)
theorem dX13_number_61 : decode cX13_number 61 = .ok (.iload_n 1, 1) := dk_27 (dk_at dksX13_number_2 15 rfl rfl)
theorem dX13_number_62 : decode cX13_number 62 = .ok (.ireturn, 1) := dk_172 (dk_at dksX13_number_2 16 rfl rfl)
theorem q97 : (Jvm.Cond.initialized "WheelBrook$Reader") ∈ lw_all := lw_g (lw_at lw_m1 15 rfl) rfl
theorem q676 : (Jvm.Cond.instantiable "WheelBrook$Reader" (6 : Nat)) ∈ lw_all := lw_g (lw_at lw_m3 114 rfl) rfl
theorem q683 : (Jvm.Cond.instanceMethod ({ cls := "WheelBrook$Reader", name := "<init>", desc := "([BILjava/lang/String;)V" } : Jvm.MethodName)) ∈ lw_all := lw_g (lw_at lw_m3 121 rfl) rfl
theorem q684 : (Jvm.Cond.code ({ cls := "WheelBrook$Reader", name := "<init>", desc := "([BILjava/lang/String;)V" } : Jvm.MethodName) prog_9_method_1_code (4 : Nat) (Option.none : Option Jvm.ClassFile.FieldType)) ∈ lw_all := lw_g (lw_at lw_m3 122 rfl) rfl
theorem q685 : (Jvm.Cond.methodLink "WheelBrook$Reader" (3 : Nat) ({ cls := "java/lang/Object", name := "<init>", desc := "()V" } : Jvm.MethodName)) ∈ lw_all := lw_g (lw_at lw_m3 123 rfl) rfl
theorem q686 : (Jvm.Cond.classLink "WheelBrook$Reader" (9 : Nat) "WheelBrook$Text") ∈ lw_all := lw_g (lw_at lw_m3 124 rfl) rfl
theorem q688 : (Jvm.Cond.methodLinkNest "WheelBrook$Reader" (11 : Nat) ({ cls := "WheelBrook$Text", name := "<init>", desc := "()V" } : Jvm.MethodName) "WheelBrook") ∈ lw_tbl := lw_at lw_m3 126 rfl
theorem q706 : (Jvm.Cond.fieldLink "WheelBrook$Reader" (18 : Nat) "WheelBrook$Reader" "tape" "[B") ∈ lw_all := lw_g (lw_at lw_m3 144 rfl) rfl
theorem q707 : (Jvm.Cond.fieldLink "WheelBrook$Reader" (22 : Nat) "WheelBrook$Reader" "size" "I") ∈ lw_all := lw_g (lw_at lw_m3 145 rfl) rfl
theorem q708 : (Jvm.Cond.fieldLink "WheelBrook$Reader" (26 : Nat) "WheelBrook$Reader" "names" "Ljava/lang/String;") ∈ lw_all := lw_g (lw_at lw_m3 146 rfl) rfl
theorem q709 : (Jvm.Cond.fieldLink "WheelBrook$Reader" (12 : Nat) "WheelBrook$Reader" "text" "LWheelBrook$Text;") ∈ lw_all := lw_g (lw_at lw_m3 147 rfl) rfl
theorem q710 : (Jvm.Cond.fieldLink "WheelBrook$Reader" (30 : Nat) "WheelBrook$Reader" "at" "I") ∈ lw_all := lw_g (lw_at lw_m3 148 rfl) rfl
theorem q711 : (Jvm.Cond.fieldLink "WheelBrook$Reader" (88 : Nat) "WheelBrook$Reader" "open" "I") ∈ lw_all := lw_g (lw_at lw_m3 149 rfl) rfl
theorem q712 : (Jvm.Cond.laysFinal "WheelBrook$Reader" "WheelBrook$Reader" "tape" "[B") ∈ lw_all := lw_g (lw_at lw_m3 150 rfl) rfl
theorem q713 : (Jvm.Cond.soleField "WheelBrook$Reader" "tape") ∈ lw_all := lw_g (lw_at lw_m3 151 rfl) rfl
theorem q714 : (Jvm.Cond.laysFinal "WheelBrook$Reader" "WheelBrook$Reader" "size" "I") ∈ lw_all := lw_g (lw_at lw_m3 152 rfl) rfl
theorem q715 : (Jvm.Cond.soleField "WheelBrook$Reader" "size") ∈ lw_all := lw_g (lw_at lw_m3 153 rfl) rfl
theorem q716 : (Jvm.Cond.laysFinal "WheelBrook$Reader" "WheelBrook$Reader" "names" "Ljava/lang/String;") ∈ lw_all := lw_g (lw_at lw_m3 154 rfl) rfl
theorem q717 : (Jvm.Cond.soleField "WheelBrook$Reader" "names") ∈ lw_all := lw_g (lw_at lw_m3 155 rfl) rfl
theorem q718 : (Jvm.Cond.laysFinal "WheelBrook$Reader" "WheelBrook$Reader" "text" "LWheelBrook$Text;") ∈ lw_all := lw_g (lw_at lw_m3 156 rfl) rfl
theorem q719 : (Jvm.Cond.soleField "WheelBrook$Reader" "text") ∈ lw_all := lw_g (lw_at lw_m3 157 rfl) rfl
theorem q720 : (Jvm.Cond.lays "WheelBrook$Reader" "WheelBrook$Reader" "at" "I") ∈ lw_all := lw_g (lw_at lw_m3 158 rfl) rfl
theorem q721 : (Jvm.Cond.soleField "WheelBrook$Reader" "at") ∈ lw_all := lw_g (lw_at lw_m3 159 rfl) rfl
theorem q722 : (Jvm.Cond.lays "WheelBrook$Reader" "WheelBrook$Reader" "open" "I") ∈ lw_all := lw_g (lw_at lw_m3 160 rfl) rfl
theorem q723 : (Jvm.Cond.soleField "WheelBrook$Reader" "open") ∈ lw_all := lw_g (lw_at lw_m3 161 rfl) rfl
theorem q724 : (Jvm.Cond.superclass "WheelBrook$Reader" "java/lang/Object") ∈ lw_all := lw_g (lw_at lw_m3 162 rfl) rfl
theorem q726 : (Jvm.Cond.instanceMethod ({ cls := "WheelBrook$Reader", name := "read", desc := "()LWheelBrook$Text;" } : Jvm.MethodName)) ∈ lw_all := lw_g (lw_at lw_m3 164 rfl) rfl
theorem q727 : (Jvm.Cond.selects "WheelBrook$Reader" ({ cls := "WheelBrook$Reader", name := "read", desc := "()LWheelBrook$Text;" } : Jvm.MethodName) ({ cls := "WheelBrook$Reader", name := "read", desc := "()LWheelBrook$Text;" } : Jvm.MethodName)) ∈ lw_all := lw_g (lw_at lw_m3 165 rfl) rfl
theorem q728 : (Jvm.Cond.code ({ cls := "WheelBrook$Reader", name := "read", desc := "()LWheelBrook$Text;" } : Jvm.MethodName) prog_9_method_6_code (1 : Nat) (Option.some (Jvm.ClassFile.FieldType.object "WheelBrook$Text"))) ∈ lw_all := lw_g (lw_at lw_m3 166 rfl) rfl
theorem q729 : (Jvm.Cond.methodLink "WheelBrook$Reader" (48 : Nat) ({ cls := "WheelBrook$Reader", name := "either", desc := "()V" } : Jvm.MethodName)) ∈ lw_all := lw_g (lw_at lw_m3 167 rfl) rfl
theorem q730 : (Jvm.Cond.privateMethod ({ cls := "WheelBrook$Reader", name := "either", desc := "()V" } : Jvm.MethodName)) ∈ lw_tbl := lw_at lw_m3 168 rfl
theorem q731 : (Jvm.Cond.instanceMethod ({ cls := "WheelBrook$Reader", name := "either", desc := "()V" } : Jvm.MethodName)) ∈ lw_all := lw_g (lw_at lw_m3 169 rfl) rfl
theorem q732 : (Jvm.Cond.code ({ cls := "WheelBrook$Reader", name := "either", desc := "()V" } : Jvm.MethodName) prog_9_method_7_code (1 : Nat) (Option.none : Option Jvm.ClassFile.FieldType)) ∈ lw_all := lw_g (lw_at lw_m3 170 rfl) rfl
theorem q733 : (Jvm.Cond.methodLink "WheelBrook$Reader" (55 : Nat) ({ cls := "WheelBrook$Reader", name := "both", desc := "()V" } : Jvm.MethodName)) ∈ lw_all := lw_g (lw_at lw_m3 171 rfl) rfl
theorem q734 : (Jvm.Cond.privateMethod ({ cls := "WheelBrook$Reader", name := "both", desc := "()V" } : Jvm.MethodName)) ∈ lw_tbl := lw_at lw_m3 172 rfl
theorem q735 : (Jvm.Cond.instanceMethod ({ cls := "WheelBrook$Reader", name := "both", desc := "()V" } : Jvm.MethodName)) ∈ lw_all := lw_g (lw_at lw_m3 173 rfl) rfl
theorem q736 : (Jvm.Cond.code ({ cls := "WheelBrook$Reader", name := "both", desc := "()V" } : Jvm.MethodName) prog_9_method_8_code (1 : Nat) (Option.none : Option Jvm.ClassFile.FieldType)) ∈ lw_all := lw_g (lw_at lw_m3 174 rfl) rfl
theorem q737 : (Jvm.Cond.methodLink "WheelBrook$Reader" (66 : Nat) ({ cls := "WheelBrook$Reader", name := "compared", desc := "()V" } : Jvm.MethodName)) ∈ lw_all := lw_g (lw_at lw_m3 175 rfl) rfl
theorem q738 : (Jvm.Cond.privateMethod ({ cls := "WheelBrook$Reader", name := "compared", desc := "()V" } : Jvm.MethodName)) ∈ lw_tbl := lw_at lw_m3 176 rfl
theorem q739 : (Jvm.Cond.instanceMethod ({ cls := "WheelBrook$Reader", name := "compared", desc := "()V" } : Jvm.MethodName)) ∈ lw_all := lw_g (lw_at lw_m3 177 rfl) rfl
theorem q740 : (Jvm.Cond.code ({ cls := "WheelBrook$Reader", name := "compared", desc := "()V" } : Jvm.MethodName) prog_9_method_9_code (2 : Nat) (Option.none : Option Jvm.ClassFile.FieldType)) ∈ lw_all := lw_g (lw_at lw_m3 178 rfl) rfl
theorem q741 : (Jvm.Cond.methodLink "WheelBrook$Reader" (69 : Nat) ({ cls := "WheelBrook$Reader", name := "sum", desc := "()V" } : Jvm.MethodName)) ∈ lw_all := lw_g (lw_at lw_m3 179 rfl) rfl
theorem q742 : (Jvm.Cond.privateMethod ({ cls := "WheelBrook$Reader", name := "sum", desc := "()V" } : Jvm.MethodName)) ∈ lw_tbl := lw_at lw_m3 180 rfl
theorem q743 : (Jvm.Cond.instanceMethod ({ cls := "WheelBrook$Reader", name := "sum", desc := "()V" } : Jvm.MethodName)) ∈ lw_all := lw_g (lw_at lw_m3 181 rfl) rfl
theorem q744 : (Jvm.Cond.code ({ cls := "WheelBrook$Reader", name := "sum", desc := "()V" } : Jvm.MethodName) prog_9_method_10_code (2 : Nat) (Option.none : Option Jvm.ClassFile.FieldType)) ∈ lw_all := lw_g (lw_at lw_m3 182 rfl) rfl
theorem q745 : (Jvm.Cond.methodLink "WheelBrook$Reader" (78 : Nat) ({ cls := "WheelBrook$Reader", name := "product", desc := "()V" } : Jvm.MethodName)) ∈ lw_all := lw_g (lw_at lw_m3 183 rfl) rfl
theorem q746 : (Jvm.Cond.privateMethod ({ cls := "WheelBrook$Reader", name := "product", desc := "()V" } : Jvm.MethodName)) ∈ lw_tbl := lw_at lw_m3 184 rfl
theorem q747 : (Jvm.Cond.instanceMethod ({ cls := "WheelBrook$Reader", name := "product", desc := "()V" } : Jvm.MethodName)) ∈ lw_all := lw_g (lw_at lw_m3 185 rfl) rfl
theorem q748 : (Jvm.Cond.code ({ cls := "WheelBrook$Reader", name := "product", desc := "()V" } : Jvm.MethodName) prog_9_method_11_code (2 : Nat) (Option.none : Option Jvm.ClassFile.FieldType)) ∈ lw_all := lw_g (lw_at lw_m3 186 rfl) rfl
theorem q749 : (Jvm.Cond.methodLink "WheelBrook$Reader" (83 : Nat) ({ cls := "WheelBrook$Reader", name := "unit", desc := "()V" } : Jvm.MethodName)) ∈ lw_all := lw_g (lw_at lw_m3 187 rfl) rfl
theorem q750 : (Jvm.Cond.privateMethod ({ cls := "WheelBrook$Reader", name := "unit", desc := "()V" } : Jvm.MethodName)) ∈ lw_tbl := lw_at lw_m3 188 rfl
theorem q751 : (Jvm.Cond.instanceMethod ({ cls := "WheelBrook$Reader", name := "unit", desc := "()V" } : Jvm.MethodName)) ∈ lw_all := lw_g (lw_at lw_m3 189 rfl) rfl
theorem q752 : (Jvm.Cond.code ({ cls := "WheelBrook$Reader", name := "unit", desc := "()V" } : Jvm.MethodName) prog_9_method_13_code (1 : Nat) (Option.none : Option Jvm.ClassFile.FieldType)) ∈ lw_all := lw_g (lw_at lw_m3 190 rfl) rfl
theorem q753 : (Jvm.Cond.methodLink "WheelBrook$Reader" (33 : Nat) ({ cls := "WheelBrook$Reader", name := "here", desc := "()I" } : Jvm.MethodName)) ∈ lw_all := lw_g (lw_at lw_m3 191 rfl) rfl
theorem q754 : (Jvm.Cond.privateMethod ({ cls := "WheelBrook$Reader", name := "here", desc := "()I" } : Jvm.MethodName)) ∈ lw_tbl := lw_at lw_m3 192 rfl
theorem q755 : (Jvm.Cond.instanceMethod ({ cls := "WheelBrook$Reader", name := "here", desc := "()I" } : Jvm.MethodName)) ∈ lw_all := lw_g (lw_at lw_m3 193 rfl) rfl
theorem q756 : (Jvm.Cond.code ({ cls := "WheelBrook$Reader", name := "here", desc := "()I" } : Jvm.MethodName) prog_9_method_2_code (1 : Nat) (Option.some Jvm.ClassFile.FieldType.int)) ∈ lw_all := lw_g (lw_at lw_m3 194 rfl) rfl
theorem q757 : (Jvm.Cond.methodLink "WheelBrook$Reader" (91 : Nat) ({ cls := "WheelBrook$Reader", name := "opens", desc := "()V" } : Jvm.MethodName)) ∈ lw_all := lw_g (lw_at lw_m3 195 rfl) rfl
theorem q758 : (Jvm.Cond.privateMethod ({ cls := "WheelBrook$Reader", name := "opens", desc := "()V" } : Jvm.MethodName)) ∈ lw_tbl := lw_at lw_m3 196 rfl
theorem q759 : (Jvm.Cond.instanceMethod ({ cls := "WheelBrook$Reader", name := "opens", desc := "()V" } : Jvm.MethodName)) ∈ lw_all := lw_g (lw_at lw_m3 197 rfl) rfl
theorem q760 : (Jvm.Cond.code ({ cls := "WheelBrook$Reader", name := "opens", desc := "()V" } : Jvm.MethodName) prog_9_method_12_code (1 : Nat) (Option.none : Option Jvm.ClassFile.FieldType)) ∈ lw_all := lw_g (lw_at lw_m3 198 rfl) rfl
theorem q761 : (Jvm.Cond.methodLink "WheelBrook$Reader" (51 : Nat) ({ cls := "WheelBrook$Reader", name := "wrong", desc := "()LWheelBrook$Fault;" } : Jvm.MethodName)) ∈ lw_all := lw_g (lw_at lw_m3 199 rfl) rfl
theorem q762 : (Jvm.Cond.privateMethod ({ cls := "WheelBrook$Reader", name := "wrong", desc := "()LWheelBrook$Fault;" } : Jvm.MethodName)) ∈ lw_tbl := lw_at lw_m3 200 rfl
theorem q763 : (Jvm.Cond.instanceMethod ({ cls := "WheelBrook$Reader", name := "wrong", desc := "()LWheelBrook$Fault;" } : Jvm.MethodName)) ∈ lw_all := lw_g (lw_at lw_m3 201 rfl) rfl
theorem q764 : (Jvm.Cond.code ({ cls := "WheelBrook$Reader", name := "wrong", desc := "()LWheelBrook$Fault;" } : Jvm.MethodName) prog_9_method_5_code (1 : Nat) (Option.some (Jvm.ClassFile.FieldType.object "WheelBrook$Fault"))) ∈ lw_all := lw_g (lw_at lw_m3 202 rfl) rfl
theorem q765 : (Jvm.Cond.classLink "WheelBrook$Reader" (43 : Nat) "WheelBrook$Fault") ∈ lw_all := lw_g (lw_at lw_m3 203 rfl) rfl
theorem q805 : (Jvm.Cond.methodLink "WheelBrook$Reader" (45 : Nat) ({ cls := "WheelBrook$Fault", name := "<init>", desc := "(I)V" } : Jvm.MethodName)) ∈ lw_all := lw_g (lw_at lw_m4 3 rfl) rfl
theorem q831 : (Jvm.Cond.methodLink "WheelBrook$Reader" (62 : Nat) ({ cls := "WheelBrook$Text", name := "add", desc := "(II)V" } : Jvm.MethodName)) ∈ lw_all := lw_g (lw_at lw_m4 29 rfl) rfl
theorem q835 : (Jvm.Cond.methodLink "WheelBrook$Reader" (58 : Nat) ({ cls := "WheelBrook$Reader", name := "takes", desc := "(I)Z" } : Jvm.MethodName)) ∈ lw_all := lw_g (lw_at lw_m4 33 rfl) rfl
theorem q836 : (Jvm.Cond.privateMethod ({ cls := "WheelBrook$Reader", name := "takes", desc := "(I)Z" } : Jvm.MethodName)) ∈ lw_tbl := lw_at lw_m4 34 rfl
theorem q837 : (Jvm.Cond.instanceMethod ({ cls := "WheelBrook$Reader", name := "takes", desc := "(I)Z" } : Jvm.MethodName)) ∈ lw_all := lw_g (lw_at lw_m4 35 rfl) rfl
theorem q838 : (Jvm.Cond.code ({ cls := "WheelBrook$Reader", name := "takes", desc := "(I)Z" } : Jvm.MethodName) prog_9_method_3_code (3 : Nat) (Option.some Jvm.ClassFile.FieldType.boolean)) ∈ lw_all := lw_g (lw_at lw_m4 36 rfl) rfl
theorem q839 : (Jvm.Cond.methodLink "WheelBrook$Reader" (74 : Nat) ({ cls := "WheelBrook$Reader", name := "isOneOf", desc := "(Ljava/lang/String;)Z" } : Jvm.MethodName)) ∈ lw_all := lw_g (lw_at lw_m4 37 rfl) rfl
theorem q840 : (Jvm.Cond.privateMethod ({ cls := "WheelBrook$Reader", name := "isOneOf", desc := "(Ljava/lang/String;)Z" } : Jvm.MethodName)) ∈ lw_tbl := lw_at lw_m4 38 rfl
theorem q841 : (Jvm.Cond.instanceMethod ({ cls := "WheelBrook$Reader", name := "isOneOf", desc := "(Ljava/lang/String;)Z" } : Jvm.MethodName)) ∈ lw_all := lw_g (lw_at lw_m4 39 rfl) rfl
theorem q842 : (Jvm.Cond.code ({ cls := "WheelBrook$Reader", name := "isOneOf", desc := "(Ljava/lang/String;)Z" } : Jvm.MethodName) prog_9_method_4_code (2 : Nat) (Option.some Jvm.ClassFile.FieldType.boolean)) ∈ lw_all := lw_g (lw_at lw_m4 40 rfl) rfl
theorem q843 : (Jvm.Cond.methodLink "WheelBrook$Reader" (37 : Nat) ({ cls := "java/lang/String", name := "indexOf", desc := "(I)I" } : Jvm.MethodName)) ∈ lw_all := lw_g (lw_at lw_m4 41 rfl) rfl
theorem q925 : (Jvm.Cond.methodLink "WheelBrook$Reader" (94 : Nat) ({ cls := "WheelBrook$Reader", name := "number", desc := "()I" } : Jvm.MethodName)) ∈ lw_all := lw_g (lw_at lw_m4 123 rfl) rfl
theorem q926 : (Jvm.Cond.privateMethod ({ cls := "WheelBrook$Reader", name := "number", desc := "()I" } : Jvm.MethodName)) ∈ lw_tbl := lw_at lw_m4 124 rfl
theorem q927 : (Jvm.Cond.instanceMethod ({ cls := "WheelBrook$Reader", name := "number", desc := "()I" } : Jvm.MethodName)) ∈ lw_all := lw_g (lw_at lw_m4 125 rfl) rfl
theorem q928 : (Jvm.Cond.code ({ cls := "WheelBrook$Reader", name := "number", desc := "()I" } : Jvm.MethodName) prog_9_method_14_code (3 : Nat) (Option.some Jvm.ClassFile.FieldType.int)) ∈ lw_all := lw_g (lw_at lw_m4 126 rfl) rfl
theorem q929 : (Jvm.Cond.methodLinkNest "WheelBrook$Reader" (97 : Nat) ({ cls := "WheelBrook", name := "isIn", desc := "(III)Z" } : Jvm.MethodName) "WheelBrook") ∈ lw_tbl := lw_at lw_m4 127 rfl
theorem q930 : (Jvm.Cond.stringRef "WheelBrook$Reader" (86 : Nat) "*/%") ∈ lw_tbl := lw_at lw_m4 128 rfl
theorem q931 : (Jvm.Cond.stringRef "WheelBrook$Reader" (81 : Nat) "+-") ∈ lw_tbl := lw_at lw_m4 129 rfl
theorem q932 : (Jvm.Cond.stringRef "WheelBrook$Reader" (72 : Nat) "<=>") ∈ lw_tbl := lw_at lw_m4 130 rfl
theorem in_X13 : ∀ w ∈ wsX130, w ∈ lw_all := lw_in wsX130 [712, 714, 716, 718, 720, 722] (by decide +kernel) (by decide +kernel)

/-! WheelBrook$Text -/
set_option maxRecDepth 100000
def RX14 : String := "WheelBrook$Text"
def TX14 : u_T := fun k => match k with
  | 0 => ("WheelBrook$Text", "step", "[B", true)
  | 1 => ("WheelBrook$Text", "value", "[S", true)
  | _ => ("WheelBrook$Text", "many", "I", false)
def tyX14 : Nat → FieldType := fun k => match k with
  | 0 => .array .byte
  | 1 => .array .short
  | _ => .int
abbrev wsX140 : List Cond := u_ws RX14 TX14 3
theorem nmX14 : ∀ a, a < 3 → ∀ b, b < 3 → a ≠ b → (TX14 a).2.1 ≠ (TX14 b).2.1 := by decide +kernel
theorem tyX14_ok : ∀ k, k < 3 → parseFieldDescriptor (TX14 k).2.2.1 = some (tyX14 k) := by decide +kernel
abbrev cX14_init : ByteArray := prog_14_method_1_code
def yX14_init : MethodName := ⟨RX14, "<init>", "()V"⟩
def dkwX14_init_0 : List UInt8 := [42, 183, 0, 3, 42, 16, 60, 188, 8, 181, 0, 9, 42, 16, 60, 188, 9, 181, 0, 15, 177]
abbrev dktX14_init_0 : List UInt8 := dkwX14_init_0 ++ []
theorem dksX14_init_0 : cX14_init.data.toList.drop 0 = dktX14_init_0 := by decide +kernel
theorem dX14_init_0 : decode cX14_init 0 = .ok (.aload_n 0, 1) := dk_42 (dk_at dksX14_init_0 0 rfl rfl)
theorem dX14_init_1 : decode cX14_init 1 = .ok (.invokespecial 3, 3) := dk_183 0 3 (dk_at dksX14_init_0 1 rfl rfl)
theorem dX14_init_4 : decode cX14_init 4 = .ok (.aload_n 0, 1) := dk_42 (dk_at dksX14_init_0 4 rfl rfl)
theorem dX14_init_5 : decode cX14_init 5 = .ok (.bipush 60, 2) := dk_16 60 (dk_at dksX14_init_0 5 rfl rfl)
theorem dX14_init_7 : decode cX14_init 7 = .ok (.newarray .byte, 2) := dk_188_8 (dk_at dksX14_init_0 7 rfl rfl)
theorem dX14_init_9 : decode cX14_init 9 = .ok (.putfield 9, 3) := dk_181 0 9 (dk_at dksX14_init_0 9 rfl rfl)
theorem dX14_init_12 : decode cX14_init 12 = .ok (.aload_n 0, 1) := dk_42 (dk_at dksX14_init_0 12 rfl rfl)
theorem dX14_init_13 : decode cX14_init 13 = .ok (.bipush 60, 2) := dk_16 60 (dk_at dksX14_init_0 13 rfl rfl)
theorem dX14_init_15 : decode cX14_init 15 = .ok (.newarray .short, 2) := dk_188_9 (dk_at dksX14_init_0 15 rfl rfl)
theorem dX14_init_17 : decode cX14_init 17 = .ok (.putfield 15, 3) := dk_181 0 15 (dk_at dksX14_init_0 17 rfl rfl)
theorem dX14_init_20 : decode cX14_init 20 = .ok (.return_, 1) := dk_177 (dk_at dksX14_init_0 20 rfl rfl)
abbrev cX14_add : ByteArray := prog_14_method_2_code
def yX14_add : MethodName := ⟨RX14, "add", "(II)V"⟩
def dkwX14_add_1 : List UInt8 := [180, 0, 19, 4, 96, 181, 0, 19, 177]
abbrev dktX14_add_1 : List UInt8 := dkwX14_add_1 ++ []
def dkwX14_add_0 : List UInt8 := [42, 180, 0, 9, 42, 180, 0, 19, 27, 145, 84, 42, 180, 0, 15, 42, 180, 0, 19, 28, 147, 86, 42, 89]
abbrev dktX14_add_0 : List UInt8 := dkwX14_add_0 ++ dktX14_add_1
theorem dksX14_add_0 : cX14_add.data.toList.drop 0 = dktX14_add_0 := by decide +kernel
theorem dksX14_add_1 : cX14_add.data.toList.drop 24 = dktX14_add_1 := dk_seg dksX14_add_0 24 rfl rfl
theorem dX14_add_0 : decode cX14_add 0 = .ok (.aload_n 0, 1) := dk_42 (dk_at dksX14_add_0 0 rfl rfl)
theorem dX14_add_1 : decode cX14_add 1 = .ok (.getfield 9, 3) := dk_180 0 9 (dk_at dksX14_add_0 1 rfl rfl)
theorem dX14_add_4 : decode cX14_add 4 = .ok (.aload_n 0, 1) := dk_42 (dk_at dksX14_add_0 4 rfl rfl)
theorem dX14_add_5 : decode cX14_add 5 = .ok (.getfield 19, 3) := dk_180 0 19 (dk_at dksX14_add_0 5 rfl rfl)
theorem dX14_add_8 : decode cX14_add 8 = .ok (.iload_n 1, 1) := dk_27 (dk_at dksX14_add_0 8 rfl rfl)
theorem dX14_add_9 : decode cX14_add 9 = .ok (.i2b, 1) := dk_145 (dk_at dksX14_add_0 9 rfl rfl)
theorem dX14_add_10 : decode cX14_add 10 = .ok (.bastore, 1) := dk_84 (dk_at dksX14_add_0 10 rfl rfl)
theorem dX14_add_11 : decode cX14_add 11 = .ok (.aload_n 0, 1) := dk_42 (dk_at dksX14_add_0 11 rfl rfl)
theorem dX14_add_12 : decode cX14_add 12 = .ok (.getfield 15, 3) := dk_180 0 15 (dk_at dksX14_add_0 12 rfl rfl)
theorem dX14_add_15 : decode cX14_add 15 = .ok (.aload_n 0, 1) := dk_42 (dk_at dksX14_add_0 15 rfl rfl)
theorem dX14_add_16 : decode cX14_add 16 = .ok (.getfield 19, 3) := dk_180 0 19 (dk_at dksX14_add_0 16 rfl rfl)
theorem dX14_add_19 : decode cX14_add 19 = .ok (.iload_n 2, 1) := dk_28 (dk_at dksX14_add_0 19 rfl rfl)
theorem dX14_add_20 : decode cX14_add 20 = .ok (.i2s, 1) := dk_147 (dk_at dksX14_add_0 20 rfl rfl)
theorem dX14_add_21 : decode cX14_add 21 = .ok (.sastore, 1) := dk_86 (dk_at dksX14_add_0 21 rfl rfl)
theorem dX14_add_22 : decode cX14_add 22 = .ok (.aload_n 0, 1) := dk_42 (dk_at dksX14_add_0 22 rfl rfl)
theorem dX14_add_23 : decode cX14_add 23 = .ok (.dup, 1) := dk_89 (dk_at dksX14_add_0 23 rfl rfl)
theorem dX14_add_24 : decode cX14_add 24 = .ok (.getfield 19, 3) := dk_180 0 19 (dk_at dksX14_add_1 0 rfl rfl)
theorem dX14_add_27 : decode cX14_add 27 = .ok (.iconst 1, 1) := dk_4 (dk_at dksX14_add_1 3 rfl rfl)
theorem dX14_add_28 : decode cX14_add 28 = .ok (.iadd, 1) := dk_96 (dk_at dksX14_add_1 4 rfl rfl)
theorem dX14_add_29 : decode cX14_add 29 = .ok (.putfield 19, 3) := dk_181 0 19 (dk_at dksX14_add_1 5 rfl rfl)
theorem dX14_add_32 : decode cX14_add 32 = .ok (.return_, 1) := dk_177 (dk_at dksX14_add_1 8 rfl rfl)
theorem q98 : (Jvm.Cond.initialized "WheelBrook$Text") ∈ lw_all := lw_g (lw_at lw_m1 16 rfl) rfl
theorem q687 : (Jvm.Cond.instantiable "WheelBrook$Text" (3 : Nat)) ∈ lw_all := lw_g (lw_at lw_m3 125 rfl) rfl
theorem q689 : (Jvm.Cond.instanceMethod ({ cls := "WheelBrook$Text", name := "<init>", desc := "()V" } : Jvm.MethodName)) ∈ lw_all := lw_g (lw_at lw_m3 127 rfl) rfl
theorem q690 : (Jvm.Cond.code ({ cls := "WheelBrook$Text", name := "<init>", desc := "()V" } : Jvm.MethodName) prog_14_method_1_code (1 : Nat) (Option.none : Option Jvm.ClassFile.FieldType)) ∈ lw_all := lw_g (lw_at lw_m3 128 rfl) rfl
theorem q691 : (Jvm.Cond.methodLink "WheelBrook$Text" (3 : Nat) ({ cls := "java/lang/Object", name := "<init>", desc := "()V" } : Jvm.MethodName)) ∈ lw_all := lw_g (lw_at lw_m3 129 rfl) rfl
theorem q692 : (Jvm.Cond.fieldLink "WheelBrook$Text" (9 : Nat) "WheelBrook$Text" "step" "[B") ∈ lw_all := lw_g (lw_at lw_m3 130 rfl) rfl
theorem q694 : (Jvm.Cond.fieldLink "WheelBrook$Text" (15 : Nat) "WheelBrook$Text" "value" "[S") ∈ lw_all := lw_g (lw_at lw_m3 132 rfl) rfl
theorem q696 : (Jvm.Cond.fieldLink "WheelBrook$Text" (19 : Nat) "WheelBrook$Text" "many" "I") ∈ lw_all := lw_g (lw_at lw_m3 134 rfl) rfl
theorem q698 : (Jvm.Cond.laysFinal "WheelBrook$Text" "WheelBrook$Text" "step" "[B") ∈ lw_all := lw_g (lw_at lw_m3 136 rfl) rfl
theorem q699 : (Jvm.Cond.soleField "WheelBrook$Text" "step") ∈ lw_all := lw_g (lw_at lw_m3 137 rfl) rfl
theorem q700 : (Jvm.Cond.laysFinal "WheelBrook$Text" "WheelBrook$Text" "value" "[S") ∈ lw_all := lw_g (lw_at lw_m3 138 rfl) rfl
theorem q701 : (Jvm.Cond.soleField "WheelBrook$Text" "value") ∈ lw_all := lw_g (lw_at lw_m3 139 rfl) rfl
theorem q702 : (Jvm.Cond.lays "WheelBrook$Text" "WheelBrook$Text" "many" "I") ∈ lw_all := lw_g (lw_at lw_m3 140 rfl) rfl
theorem q703 : (Jvm.Cond.soleField "WheelBrook$Text" "many") ∈ lw_all := lw_g (lw_at lw_m3 141 rfl) rfl
theorem q704 : (Jvm.Cond.superclass "WheelBrook$Text" "java/lang/Object") ∈ lw_all := lw_g (lw_at lw_m3 142 rfl) rfl
theorem q832 : (Jvm.Cond.instanceMethod ({ cls := "WheelBrook$Text", name := "add", desc := "(II)V" } : Jvm.MethodName)) ∈ lw_all := lw_g (lw_at lw_m4 30 rfl) rfl
theorem q833 : (Jvm.Cond.selects "WheelBrook$Text" ({ cls := "WheelBrook$Text", name := "add", desc := "(II)V" } : Jvm.MethodName) ({ cls := "WheelBrook$Text", name := "add", desc := "(II)V" } : Jvm.MethodName)) ∈ lw_all := lw_g (lw_at lw_m4 31 rfl) rfl
theorem q834 : (Jvm.Cond.code ({ cls := "WheelBrook$Text", name := "add", desc := "(II)V" } : Jvm.MethodName) prog_14_method_2_code (3 : Nat) (Option.none : Option Jvm.ClassFile.FieldType)) ∈ lw_all := lw_g (lw_at lw_m4 32 rfl) rfl
theorem in_X14 : ∀ w ∈ wsX140, w ∈ lw_all := lw_in wsX140 [698, 700, 702] (by decide +kernel) (by decide +kernel)

/-! WheelBrook$Fault -/
set_option maxRecDepth 100000
def RX15 : String := "WheelBrook$Fault"
def TX15 : u_T := fun k => match k with
  | 0 => ("java/lang/Throwable", "cause", "Ljava/lang/Throwable;", false)
  | 1 => ("java/lang/Throwable", "stackTrace", "[Ljava/lang/StackTraceElement;", false)
  | 2 => ("java/lang/Throwable", "suppressedExceptions", "Ljava/util/List;", false)
  | 3 => ("java/lang/Throwable", "detailMessage", "Ljava/lang/String;", false)
  | 4 => ("java/lang/Throwable", "backtrace", "Ljava/lang/Object;", false)
  | 5 => ("java/lang/Throwable", "depth", "I", false)
  | _ => ("WheelBrook$Fault", "place", "I", true)
def tyX15 : Nat → FieldType := fun k => match k with
  | 0 => .object "java/lang/Throwable"
  | 1 => .array (.object "java/lang/StackTraceElement")
  | 2 => .object "java/util/List"
  | 3 => .object "java/lang/String"
  | 4 => .object "java/lang/Object"
  | 5 => .int
  | _ => .int
abbrev wsX150 : List Cond := u_ws RX15 TX15 7
theorem nmX15 : ∀ a, a < 7 → ∀ b, b < 7 → a ≠ b → (TX15 a).2.1 ≠ (TX15 b).2.1 := by decide +kernel
theorem tyX15_ok : ∀ k, k < 7 → parseFieldDescriptor (TX15 k).2.2.1 = some (tyX15 k) := by decide +kernel
abbrev cX15_init : ByteArray := prog_5_method_1_code
def yX15_init : MethodName := ⟨RX15, "<init>", "(I)V"⟩
def dkwX15_init_0 : List UInt8 := [42, 1, 1, 3, 3, 183, 0, 1, 42, 27, 181, 0, 7, 177]
abbrev dktX15_init_0 : List UInt8 := dkwX15_init_0 ++ []
theorem dksX15_init_0 : cX15_init.data.toList.drop 0 = dktX15_init_0 := by decide +kernel
theorem dX15_init_0 : decode cX15_init 0 = .ok (.aload_n 0, 1) := dk_42 (dk_at dksX15_init_0 0 rfl rfl)
theorem dX15_init_1 : decode cX15_init 1 = .ok (.aconst_null, 1) := dk_1 (dk_at dksX15_init_0 1 rfl rfl)
theorem dX15_init_2 : decode cX15_init 2 = .ok (.aconst_null, 1) := dk_1 (dk_at dksX15_init_0 2 rfl rfl)
theorem dX15_init_3 : decode cX15_init 3 = .ok (.iconst 0, 1) := dk_3 (dk_at dksX15_init_0 3 rfl rfl)
theorem dX15_init_4 : decode cX15_init 4 = .ok (.iconst 0, 1) := dk_3 (dk_at dksX15_init_0 4 rfl rfl)
theorem dX15_init_5 : decode cX15_init 5 = .ok (.invokespecial 1, 3) := dk_183 0 1 (dk_at dksX15_init_0 5 rfl rfl)
theorem dX15_init_8 : decode cX15_init 8 = .ok (.aload_n 0, 1) := dk_42 (dk_at dksX15_init_0 8 rfl rfl)
theorem dX15_init_9 : decode cX15_init 9 = .ok (.iload_n 1, 1) := dk_27 (dk_at dksX15_init_0 9 rfl rfl)
theorem dX15_init_10 : decode cX15_init 10 = .ok (.putfield 7, 3) := dk_181 0 7 (dk_at dksX15_init_0 10 rfl rfl)
theorem dX15_init_13 : decode cX15_init 13 = .ok (.return_, 1) := dk_177 (dk_at dksX15_init_0 13 rfl rfl)
theorem q101 : (Jvm.Cond.initialized "WheelBrook$Fault") ∈ lw_all := lw_g (lw_at lw_m1 19 rfl) rfl
theorem q766 : (Jvm.Cond.instantiable "WheelBrook$Fault" (7 : Nat)) ∈ lw_all := lw_g (lw_at lw_m3 204 rfl) rfl
theorem q767 : (Jvm.Cond.castable "WheelBrook$Fault" "WheelBrook$Fault") ∈ lw_tbl := lw_at lw_m3 205 rfl
theorem q772 : (Jvm.Cond.selects "WheelBrook$Fault" ({ cls := "java/lang/Throwable", name := "fillInStackTrace", desc := "(I)Ljava/lang/Throwable;" } : Jvm.MethodName) ({ cls := "java/lang/Throwable", name := "fillInStackTrace", desc := "(I)Ljava/lang/Throwable;" } : Jvm.MethodName)) ∈ lw_all := lw_g (lw_at lw_m3 210 rfl) rfl
theorem q773 : (Jvm.Cond.selects "WheelBrook$Fault" ({ cls := "java/lang/Throwable", name := "fillInStackTrace", desc := "()Ljava/lang/Throwable;" } : Jvm.MethodName) ({ cls := "java/lang/Throwable", name := "fillInStackTrace", desc := "()Ljava/lang/Throwable;" } : Jvm.MethodName)) ∈ lw_all := lw_g (lw_at lw_m3 211 rfl) rfl
theorem q774 : (Jvm.Cond.lays "WheelBrook$Fault" "java/lang/Throwable" "cause" "Ljava/lang/Throwable;") ∈ lw_all := lw_g (lw_at lw_m3 212 rfl) rfl
theorem q776 : (Jvm.Cond.lays "WheelBrook$Fault" "java/lang/Throwable" "stackTrace" "[Ljava/lang/StackTraceElement;") ∈ lw_all := lw_g (lw_at lw_m3 214 rfl) rfl
theorem q778 : (Jvm.Cond.lays "WheelBrook$Fault" "java/lang/Throwable" "suppressedExceptions" "Ljava/util/List;") ∈ lw_all := lw_g (lw_at lw_m3 216 rfl) rfl
theorem q780 : (Jvm.Cond.lays "WheelBrook$Fault" "java/lang/Throwable" "detailMessage" "Ljava/lang/String;") ∈ lw_all := lw_g (lw_at lw_m3 218 rfl) rfl
theorem q782 : (Jvm.Cond.lays "WheelBrook$Fault" "java/lang/Throwable" "backtrace" "Ljava/lang/Object;") ∈ lw_all := lw_g (lw_at lw_m3 220 rfl) rfl
theorem q806 : (Jvm.Cond.instanceMethod ({ cls := "WheelBrook$Fault", name := "<init>", desc := "(I)V" } : Jvm.MethodName)) ∈ lw_all := lw_g (lw_at lw_m4 4 rfl) rfl
theorem q807 : (Jvm.Cond.code ({ cls := "WheelBrook$Fault", name := "<init>", desc := "(I)V" } : Jvm.MethodName) prog_5_method_1_code (2 : Nat) (Option.none : Option Jvm.ClassFile.FieldType)) ∈ lw_all := lw_g (lw_at lw_m4 5 rfl) rfl
theorem q808 : (Jvm.Cond.methodLink "WheelBrook$Fault" (1 : Nat) ({ cls := "java/lang/Exception", name := "<init>", desc := "(Ljava/lang/String;Ljava/lang/Throwable;ZZ)V" } : Jvm.MethodName)) ∈ lw_all := lw_g (lw_at lw_m4 6 rfl) rfl
theorem q814 : (Jvm.Cond.fieldLink "WheelBrook$Fault" (7 : Nat) "WheelBrook$Fault" "place" "I") ∈ lw_all := lw_g (lw_at lw_m4 12 rfl) rfl
theorem q821 : (Jvm.Cond.laysFinal "WheelBrook$Fault" "WheelBrook$Fault" "place" "I") ∈ lw_all := lw_g (lw_at lw_m4 19 rfl) rfl
theorem q822 : (Jvm.Cond.soleField "WheelBrook$Fault" "place") ∈ lw_all := lw_g (lw_at lw_m4 20 rfl) rfl
theorem q827 : (Jvm.Cond.lays "WheelBrook$Fault" "java/lang/Throwable" "depth" "I") ∈ lw_all := lw_g (lw_at lw_m4 25 rfl) rfl
theorem q830 : (Jvm.Cond.superclass "WheelBrook$Fault" "java/lang/Exception") ∈ lw_all := lw_g (lw_at lw_m4 28 rfl) rfl
theorem in_X15 : ∀ w ∈ wsX150, w ∈ lw_all := lw_in wsX150 [774, 776, 778, 780, 782, 827, 821] (by decide +kernel) (by decide +kernel)

/-! WheelBrook$Wants -/
set_option maxRecDepth 100000
def RX16 : String := "WheelBrook$Wants"
abbrev cX16_wants : ByteArray := prog_17_method_1_code
def yX16_wants : MethodName := ⟨RX16, "wants", "(LWheelBrook$Sees;I)I"⟩
def dkwX16_wants_0 : List UInt8 := [28, 6, 108, 172]
abbrev dktX16_wants_0 : List UInt8 := dkwX16_wants_0 ++ []
theorem dksX16_wants_0 : cX16_wants.data.toList.drop 0 = dktX16_wants_0 := by decide +kernel
theorem dX16_wants_0 : decode cX16_wants 0 = .ok (.iload_n 2, 1) := dk_28 (dk_at dksX16_wants_0 0 rfl rfl)
theorem dX16_wants_1 : decode cX16_wants 1 = .ok (.iconst 3, 1) := dk_6 (dk_at dksX16_wants_0 1 rfl rfl)
theorem dX16_wants_2 : decode cX16_wants 2 = .ok (.idiv, 1) := dk_108 (dk_at dksX16_wants_0 2 rfl rfl)
theorem dX16_wants_3 : decode cX16_wants 3 = .ok (.ireturn, 1) := dk_172 (dk_at dksX16_wants_0 3 rfl rfl)
abbrev cX16_turnsBy : ByteArray := prog_17_method_2_code
def yX16_turnsBy : MethodName := ⟨RX16, "turnsBy", "(LWheelBrook$Sees;I)I"⟩
theorem dX16_turnsBy_0 : decode cX16_turnsBy 0 = .ok (.iload_n 2, 1) := by decide +kernel
theorem dX16_turnsBy_1 : decode cX16_turnsBy 1 = .ok (.ireturn, 1) := by decide +kernel
abbrev cX16_shows : ByteArray := prog_17_method_3_code
def yX16_shows : MethodName := ⟨RX16, "shows", "(LWheelBrook$Sees;I)I"⟩
def dkwX16_shows_0 : List UInt8 := [42, 43, 28, 185, 0, 1, 3, 0, 172]
abbrev dktX16_shows_0 : List UInt8 := dkwX16_shows_0 ++ []
theorem dksX16_shows_0 : cX16_shows.data.toList.drop 0 = dktX16_shows_0 := by decide +kernel
theorem dX16_shows_0 : decode cX16_shows 0 = .ok (.aload_n 0, 1) := dk_42 (dk_at dksX16_shows_0 0 rfl rfl)
theorem dX16_shows_1 : decode cX16_shows 1 = .ok (.aload_n 1, 1) := dk_43 (dk_at dksX16_shows_0 1 rfl rfl)
theorem dX16_shows_2 : decode cX16_shows 2 = .ok (.iload_n 2, 1) := dk_28 (dk_at dksX16_shows_0 2 rfl rfl)
theorem dX16_shows_3 : decode cX16_shows 3 = .ok (.invokeinterface 1 3, 5) := by decide +kernel
theorem dX16_shows_8 : decode cX16_shows 8 = .ok (.ireturn, 1) := dk_172 (dk_at dksX16_shows_0 8 rfl rfl)
theorem q501 : (Jvm.Cond.interfaceMethod "WheelBrook$Wants" "WheelBrook$Wants" "wants" "(LWheelBrook$Sees;I)I") ∈ lw_tbl := lw_at lw_m2 179 rfl
theorem q502 : (Jvm.Cond.declares ({ cls := "WheelBrook$Wants", name := "wants", desc := "(LWheelBrook$Sees;I)I" } : Jvm.MethodName)) ∈ lw_tbl := lw_at lw_m2 180 rfl
theorem q509 : (Jvm.Cond.instanceMethod ({ cls := "WheelBrook$Wants", name := "wants", desc := "(LWheelBrook$Sees;I)I" } : Jvm.MethodName)) ∈ lw_all := lw_g (lw_at lw_m2 187 rfl) rfl
theorem q510 : (Jvm.Cond.code ({ cls := "WheelBrook$Wants", name := "wants", desc := "(LWheelBrook$Sees;I)I" } : Jvm.MethodName) prog_17_method_1_code (3 : Nat) (Option.some Jvm.ClassFile.FieldType.int)) ∈ lw_all := lw_g (lw_at lw_m2 188 rfl) rfl
theorem q555 : (Jvm.Cond.publicMethod ({ cls := "WheelBrook$Wants", name := "wants", desc := "(LWheelBrook$Sees;I)I" } : Jvm.MethodName)) ∈ lw_tbl := lw_at lw_m2 233 rfl
theorem q568 : (Jvm.Cond.interfaceMethod "WheelBrook$Wants" "WheelBrook$Wants" "turnsBy" "(LWheelBrook$Sees;I)I") ∈ lw_tbl := lw_at lw_m3 6 rfl
theorem q569 : (Jvm.Cond.declares ({ cls := "WheelBrook$Wants", name := "turnsBy", desc := "(LWheelBrook$Sees;I)I" } : Jvm.MethodName)) ∈ lw_tbl := lw_at lw_m3 7 rfl
theorem q575 : (Jvm.Cond.instanceMethod ({ cls := "WheelBrook$Wants", name := "turnsBy", desc := "(LWheelBrook$Sees;I)I" } : Jvm.MethodName)) ∈ lw_all := lw_g (lw_at lw_m3 13 rfl) rfl
theorem q576 : (Jvm.Cond.code ({ cls := "WheelBrook$Wants", name := "turnsBy", desc := "(LWheelBrook$Sees;I)I" } : Jvm.MethodName) prog_17_method_2_code (3 : Nat) (Option.some Jvm.ClassFile.FieldType.int)) ∈ lw_all := lw_g (lw_at lw_m3 14 rfl) rfl
theorem q583 : (Jvm.Cond.publicMethod ({ cls := "WheelBrook$Wants", name := "turnsBy", desc := "(LWheelBrook$Sees;I)I" } : Jvm.MethodName)) ∈ lw_tbl := lw_at lw_m3 21 rfl
theorem q616 : (Jvm.Cond.interfaceMethod "WheelBrook$Wants" "WheelBrook$Wants" "shows" "(LWheelBrook$Sees;I)I") ∈ lw_tbl := lw_at lw_m3 54 rfl
theorem q617 : (Jvm.Cond.declares ({ cls := "WheelBrook$Wants", name := "shows", desc := "(LWheelBrook$Sees;I)I" } : Jvm.MethodName)) ∈ lw_tbl := lw_at lw_m3 55 rfl
theorem q619 : (Jvm.Cond.instanceMethod ({ cls := "WheelBrook$Wants", name := "shows", desc := "(LWheelBrook$Sees;I)I" } : Jvm.MethodName)) ∈ lw_all := lw_g (lw_at lw_m3 57 rfl) rfl
theorem q620 : (Jvm.Cond.publicMethod ({ cls := "WheelBrook$Wants", name := "shows", desc := "(LWheelBrook$Sees;I)I" } : Jvm.MethodName)) ∈ lw_tbl := lw_at lw_m3 58 rfl
theorem q621 : (Jvm.Cond.code ({ cls := "WheelBrook$Wants", name := "shows", desc := "(LWheelBrook$Sees;I)I" } : Jvm.MethodName) prog_17_method_3_code (3 : Nat) (Option.some Jvm.ClassFile.FieldType.int)) ∈ lw_all := lw_g (lw_at lw_m3 59 rfl) rfl
theorem q622 : (Jvm.Cond.interfaceEntry "WheelBrook$Wants" (1 : Nat)) ∈ lw_tbl := lw_at lw_m3 60 rfl
theorem q623 : (Jvm.Cond.methodLink "WheelBrook$Wants" (1 : Nat) ({ cls := "WheelBrook$Wants", name := "turnsBy", desc := "(LWheelBrook$Sees;I)I" } : Jvm.MethodName)) ∈ lw_all := lw_g (lw_at lw_m3 61 rfl) rfl

/-! WheelBrook$Flows -/
set_option maxRecDepth 100000
def RX17 : String := "WheelBrook$Flows"
abbrev cX17_turned : ByteArray := prog_6_method_2_code
def yX17_turned : MethodName := ⟨RX17, "turned", "(ILWheelBrook$Trace;)I"⟩
def dkwX17_turned_0 : List UInt8 := [44, 16, 11, 182, 0, 1, 42, 27, 44, 185, 0, 7, 3, 0, 5, 104, 172]
abbrev dktX17_turned_0 : List UInt8 := dkwX17_turned_0 ++ []
theorem dksX17_turned_0 : cX17_turned.data.toList.drop 0 = dktX17_turned_0 := by decide +kernel
theorem dX17_turned_0 : decode cX17_turned 0 = .ok (.aload_n 2, 1) := dk_44 (dk_at dksX17_turned_0 0 rfl rfl)
theorem dX17_turned_1 : decode cX17_turned 1 = .ok (.bipush 11, 2) := dk_16 11 (dk_at dksX17_turned_0 1 rfl rfl)
theorem dX17_turned_3 : decode cX17_turned 3 = .ok (.invokevirtual 1, 3) := dk_182 0 1 (dk_at dksX17_turned_0 3 rfl rfl)
theorem dX17_turned_6 : decode cX17_turned 6 = .ok (.aload_n 0, 1) := dk_42 (dk_at dksX17_turned_0 6 rfl rfl)
theorem dX17_turned_7 : decode cX17_turned 7 = .ok (.iload_n 1, 1) := dk_27 (dk_at dksX17_turned_0 7 rfl rfl)
theorem dX17_turned_8 : decode cX17_turned 8 = .ok (.aload_n 2, 1) := dk_44 (dk_at dksX17_turned_0 8 rfl rfl)
theorem dX17_turned_9 : decode cX17_turned 9 = .ok (.invokeinterface 7 3, 5) := by decide +kernel
theorem dX17_turned_14 : decode cX17_turned 14 = .ok (.iconst 2, 1) := dk_5 (dk_at dksX17_turned_0 14 rfl rfl)
theorem dX17_turned_15 : decode cX17_turned 15 = .ok (.imul, 1) := dk_104 (dk_at dksX17_turned_0 15 rfl rfl)
theorem dX17_turned_16 : decode cX17_turned 16 = .ok (.ireturn, 1) := dk_172 (dk_at dksX17_turned_0 16 rfl rfl)
theorem q1118 : (Jvm.Cond.declares ({ cls := "WheelBrook$Flows", name := "turned", desc := "(ILWheelBrook$Trace;)I" } : Jvm.MethodName)) ∈ lw_tbl := lw_at lw_m5 76 rfl
theorem q1124 : (Jvm.Cond.instanceMethod ({ cls := "WheelBrook$Flows", name := "turned", desc := "(ILWheelBrook$Trace;)I" } : Jvm.MethodName)) ∈ lw_all := lw_g (lw_at lw_m5 82 rfl) rfl
theorem q1125 : (Jvm.Cond.code ({ cls := "WheelBrook$Flows", name := "turned", desc := "(ILWheelBrook$Trace;)I" } : Jvm.MethodName) prog_6_method_2_code (3 : Nat) (Option.some Jvm.ClassFile.FieldType.int)) ∈ lw_all := lw_g (lw_at lw_m5 83 rfl) rfl
theorem q1126 : (Jvm.Cond.methodLink "WheelBrook$Flows" (1 : Nat) ({ cls := "WheelBrook$Trace", name := "ran", desc := "(I)V" } : Jvm.MethodName)) ∈ lw_all := lw_g (lw_at lw_m5 84 rfl) rfl
theorem q1127 : (Jvm.Cond.interfaceEntry "WheelBrook$Flows" (7 : Nat)) ∈ lw_tbl := lw_at lw_m5 85 rfl
theorem q1128 : (Jvm.Cond.methodLink "WheelBrook$Flows" (7 : Nat) ({ cls := "WheelBrook$Flows", name := "flows", desc := "(ILWheelBrook$Trace;)I" } : Jvm.MethodName)) ∈ lw_all := lw_g (lw_at lw_m5 86 rfl) rfl
theorem q1129 : (Jvm.Cond.interfaceMethod "WheelBrook$Flows" "WheelBrook$Flows" "flows" "(ILWheelBrook$Trace;)I") ∈ lw_tbl := lw_at lw_m5 87 rfl
theorem q1130 : (Jvm.Cond.declares ({ cls := "WheelBrook$Flows", name := "flows", desc := "(ILWheelBrook$Trace;)I" } : Jvm.MethodName)) ∈ lw_tbl := lw_at lw_m5 88 rfl
theorem q1166 : (Jvm.Cond.publicMethod ({ cls := "WheelBrook$Flows", name := "turned", desc := "(ILWheelBrook$Trace;)I" } : Jvm.MethodName)) ∈ lw_tbl := lw_at lw_m5 124 rfl
