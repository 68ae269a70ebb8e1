/-! the law's own entry -/
set_option maxRecDepth 100000
abbrev cL_law : ByteArray := code
def dkwL_law_55 : List UInt8 := [167, 250, 120, 4, 172]
abbrev dktL_law_55 : List UInt8 := dkwL_law_55 ++ []
def dkwL_law_54 : List UInt8 := [29, 4, 96, 46, 182, 0, 173, 44, 42, 29, 4, 96, 46, 182, 0, 176, 159, 0, 5, 3, 172, 132, 3, 6]
abbrev dktL_law_54 : List UInt8 := dkwL_law_54 ++ dktL_law_55
def dkwL_law_53 : List UInt8 := [42, 29, 4, 96, 46, 182, 0, 169, 44, 42, 29, 4, 96, 46, 182, 0, 172, 159, 0, 28, 3, 172, 43, 42]
abbrev dktL_law_53 : List UInt8 := dkwL_law_53 ++ dktL_law_54
def dkwL_law_52 : List UInt8 := [43, 42, 29, 4, 96, 46, 182, 0, 165, 44, 42, 29, 4, 96, 46, 182, 0, 168, 159, 0, 51, 3, 172, 43]
abbrev dktL_law_52 : List UInt8 := dkwL_law_52 ++ dktL_law_53
def dkwL_law_51 : List UInt8 := [172, 43, 42, 29, 4, 96, 46, 182, 0, 161, 44, 42, 29, 4, 96, 46, 182, 0, 164, 159, 0, 74, 3, 172]
abbrev dktL_law_51 : List UInt8 := dkwL_law_51 ++ dktL_law_52
def dkwL_law_50 : List UInt8 := [182, 0, 153, 44, 182, 0, 156, 159, 0, 110, 3, 172, 43, 182, 0, 157, 44, 182, 0, 160, 159, 0, 97, 3]
abbrev dktL_law_50 : List UInt8 := dkwL_law_50 ++ dktL_law_51
def dkwL_law_49 : List UInt8 := [29, 4, 96, 46, 182, 0, 149, 44, 42, 29, 4, 96, 46, 182, 0, 152, 159, 0, 123, 3, 172, 43]
abbrev dktL_law_49 : List UInt8 := dkwL_law_49 ++ dktL_law_50
def dkwL_law_48 : List UInt8 := [42, 29, 4, 96, 46, 182, 0, 145, 44, 42, 29, 4, 96, 46, 182, 0, 148, 159, 0, 146, 3, 172, 43, 42]
abbrev dktL_law_48 : List UInt8 := dkwL_law_48 ++ dktL_law_49
def dkwL_law_47 : List UInt8 := [42, 29, 6, 96, 46, 42, 29, 7, 96, 46, 42, 29, 8, 96, 46, 182, 0, 144, 159, 0, 169, 3, 172, 43]
abbrev dktL_law_47 : List UInt8 := dkwL_law_47 ++ dktL_law_48
def dkwL_law_46 : List UInt8 := [42, 29, 7, 96, 46, 42, 29, 8, 96, 46, 182, 0, 140, 44, 42, 29, 4, 96, 46, 42, 29, 5, 96, 46]
abbrev dktL_law_46 : List UInt8 := dkwL_law_46 ++ dktL_law_47
def dkwL_law_45 : List UInt8 := [182, 0, 139, 159, 0, 232, 3, 172, 43, 42, 29, 4, 96, 46, 42, 29, 5, 96, 46, 42, 29, 6, 96, 46]
abbrev dktL_law_45 : List UInt8 := dkwL_law_45 ++ dktL_law_46
def dkwL_law_44 : List UInt8 := [29, 6, 96, 46, 182, 0, 136, 44, 42, 29, 4, 96, 46, 42, 29, 5, 96, 46, 42, 29, 6, 96, 46]
abbrev dktL_law_44 : List UInt8 := dkwL_law_44 ++ dktL_law_45
def dkwL_law_43 : List UInt8 := [29, 6, 96, 46, 182, 0, 135, 159, 1, 19, 3, 172, 43, 42, 29, 4, 96, 46, 42, 29, 5, 96, 46, 42]
abbrev dktL_law_43 : List UInt8 := dkwL_law_43 ++ dktL_law_44
def dkwL_law_42 : List UInt8 := [29, 5, 96, 46, 42, 29, 6, 96, 46, 182, 0, 132, 44, 42, 29, 4, 96, 46, 42, 29, 5, 96, 46, 42]
abbrev dktL_law_42 : List UInt8 := dkwL_law_42 ++ dktL_law_43
def dkwL_law_41 : List UInt8 := [182, 0, 128, 44, 42, 29, 4, 96, 46, 182, 0, 131, 159, 1, 62, 3, 172, 43, 42, 29, 4, 96, 46, 42]
abbrev dktL_law_41 : List UInt8 := dkwL_law_41 ++ dktL_law_42
def dkwL_law_40 : List UInt8 := [5, 96, 46, 42, 29, 6, 96, 46, 182, 0, 127, 159, 1, 85, 3, 172, 43, 42, 29, 4, 96, 46]
abbrev dktL_law_40 : List UInt8 := dkwL_law_40 ++ dktL_law_41
def dkwL_law_39 : List UInt8 := [4, 96, 46, 42, 29, 5, 96, 46, 42, 29, 6, 96, 46, 182, 0, 124, 44, 42, 29, 4, 96, 46, 42, 29]
abbrev dktL_law_39 : List UInt8 := dkwL_law_39 ++ dktL_law_40
def dkwL_law_38 : List UInt8 := [182, 0, 118, 159, 1, 141, 3, 172, 43, 182, 0, 119, 44, 182, 0, 123, 159, 1, 128, 3, 172, 43, 42, 29]
abbrev dktL_law_38 : List UInt8 := dkwL_law_38 ++ dktL_law_39
def dkwL_law_37 : List UInt8 := [29, 4, 96, 46, 42, 29, 5, 96, 46, 182, 0, 115, 44, 42, 29, 4, 96, 46, 42, 29, 5, 96, 46]
abbrev dktL_law_37 : List UInt8 := dkwL_law_37 ++ dktL_law_38
def dkwL_law_36 : List UInt8 := [182, 0, 111, 44, 42, 29, 4, 96, 46, 42, 29, 5, 96, 46, 182, 0, 114, 159, 1, 174, 3, 172, 43, 42]
abbrev dktL_law_36 : List UInt8 := dkwL_law_36 ++ dktL_law_37
def dkwL_law_35 : List UInt8 := [42, 29, 6, 96, 46, 182, 0, 110, 159, 1, 207, 3, 172, 43, 42, 29, 4, 96, 46, 42, 29, 5, 96, 46]
abbrev dktL_law_35 : List UInt8 := dkwL_law_35 ++ dktL_law_36
def dkwL_law_34 : List UInt8 := [42, 29, 5, 96, 46, 42, 29, 6, 96, 46, 182, 0, 107, 44, 42, 29, 4, 96, 46, 42, 29, 5, 96, 46]
abbrev dktL_law_34 : List UInt8 := dkwL_law_34 ++ dktL_law_35
def dkwL_law_33 : List UInt8 := [42, 29, 4, 96, 46, 42, 29, 5, 96, 46, 182, 0, 106, 159, 1, 250, 3, 172, 43, 42, 29, 4, 96, 46]
abbrev dktL_law_33 : List UInt8 := dkwL_law_33 ++ dktL_law_34
def dkwL_law_32 : List UInt8 := [46, 182, 0, 102, 159, 2, 27, 3, 172, 43, 42, 29, 4, 96, 46, 42, 29, 5, 96, 46, 182, 0, 103, 44]
abbrev dktL_law_32 : List UInt8 := dkwL_law_32 ++ dktL_law_33
def dkwL_law_31 : List UInt8 := [43, 42, 29, 4, 96, 46, 42, 29, 5, 96, 46, 182, 0, 99, 44, 42, 29, 4, 96, 46, 42, 29, 5, 96]
abbrev dktL_law_31 : List UInt8 := dkwL_law_31 ++ dktL_law_32
def dkwL_law_30 : List UInt8 := [44, 42, 29, 4, 96, 46, 42, 29, 5, 96, 46, 42, 29, 6, 96, 46, 182, 0, 98, 159, 2, 60, 3, 172]
abbrev dktL_law_30 : List UInt8 := dkwL_law_30 ++ dktL_law_31
def dkwL_law_29 : List UInt8 := [159, 2, 103, 3, 172, 43, 42, 29, 4, 96, 46, 42, 29, 5, 96, 46, 42, 29, 6, 96, 46, 182, 0, 95]
abbrev dktL_law_29 : List UInt8 := dkwL_law_29 ++ dktL_law_30
def dkwL_law_28 : List UInt8 := [46, 182, 0, 91, 44, 42, 29, 4, 96, 46, 42, 29, 5, 96, 46, 42, 29, 6, 96, 46, 182, 0, 94]
abbrev dktL_law_28 : List UInt8 := dkwL_law_28 ++ dktL_law_29
def dkwL_law_27 : List UInt8 := [46, 182, 0, 90, 159, 2, 146, 3, 172, 43, 42, 29, 4, 96, 46, 42, 29, 5, 96, 46, 42, 29, 6, 96]
abbrev dktL_law_27 : List UInt8 := dkwL_law_27 ++ dktL_law_28
def dkwL_law_26 : List UInt8 := [43, 42, 29, 4, 96, 46, 42, 29, 5, 96, 46, 182, 0, 87, 44, 42, 29, 4, 96, 46, 42, 29, 5, 96]
abbrev dktL_law_26 : List UInt8 := dkwL_law_26 ++ dktL_law_27
def dkwL_law_25 : List UInt8 := [44, 42, 29, 4, 96, 46, 42, 29, 5, 96, 46, 42, 29, 6, 96, 46, 182, 0, 86, 159, 2, 179, 3, 172]
abbrev dktL_law_25 : List UInt8 := dkwL_law_25 ++ dktL_law_26
def dkwL_law_24 : List UInt8 := [159, 2, 222, 3, 172, 43, 42, 29, 4, 96, 46, 42, 29, 5, 96, 46, 42, 29, 6, 96, 46, 182, 0, 83]
abbrev dktL_law_24 : List UInt8 := dkwL_law_24 ++ dktL_law_25
def dkwL_law_23 : List UInt8 := [159, 2, 245, 3, 172, 43, 42, 29, 4, 96, 46, 182, 0, 79, 44, 42, 29, 4, 96, 46, 182, 0, 82]
abbrev dktL_law_23 : List UInt8 := dkwL_law_23 ++ dktL_law_24
def dkwL_law_22 : List UInt8 := [159, 3, 12, 3, 172, 43, 42, 29, 4, 96, 46, 182, 0, 75, 44, 42, 29, 4, 96, 46, 182, 0, 78]
abbrev dktL_law_22 : List UInt8 := dkwL_law_22 ++ dktL_law_23
def dkwL_law_21 : List UInt8 := [159, 3, 35, 3, 172, 43, 42, 29, 4, 96, 46, 182, 0, 71, 44, 42, 29, 4, 96, 46, 182, 0, 74]
abbrev dktL_law_21 : List UInt8 := dkwL_law_21 ++ dktL_law_22
def dkwL_law_20 : List UInt8 := [159, 3, 58, 3, 172, 43, 42, 29, 4, 96, 46, 182, 0, 67, 44, 42, 29, 4, 96, 46, 182, 0, 70]
abbrev dktL_law_20 : List UInt8 := dkwL_law_20 ++ dktL_law_21
def dkwL_law_19 : List UInt8 := [159, 3, 81, 3, 172, 43, 42, 29, 4, 96, 46, 182, 0, 63, 44, 42, 29, 4, 96, 46, 182, 0, 66]
abbrev dktL_law_19 : List UInt8 := dkwL_law_19 ++ dktL_law_20
def dkwL_law_18 : List UInt8 := [16, 32, 121, 42, 29, 5, 96, 46, 133, 20, 0, 56, 127, 129, 42, 29, 6, 96, 46, 182, 0, 62]
abbrev dktL_law_18 : List UInt8 := dkwL_law_18 ++ dktL_law_19
def dkwL_law_17 : List UInt8 := [96, 46, 133, 20, 0, 56, 127, 129, 42, 29, 6, 96, 46, 182, 0, 58, 44, 42, 29, 4, 96, 46, 133]
abbrev dktL_law_17 : List UInt8 := dkwL_law_17 ++ dktL_law_18
def dkwL_law_16 : List UInt8 := [4, 96, 46, 182, 0, 55, 159, 3, 144, 3, 172, 43, 42, 29, 4, 96, 46, 133, 16, 32, 121, 42, 29, 5]
abbrev dktL_law_16 : List UInt8 := dkwL_law_16 ++ dktL_law_17
def dkwL_law_15 : List UInt8 := [29, 6, 96, 46, 182, 0, 51, 159, 3, 167, 3, 172, 43, 42, 29, 4, 96, 46, 182, 0, 52, 44, 42, 29]
abbrev dktL_law_15 : List UInt8 := dkwL_law_15 ++ dktL_law_16
def dkwL_law_14 : List UInt8 := [29, 5, 96, 46, 42, 29, 6, 96, 46, 182, 0, 47, 44, 42, 29, 4, 96, 46, 42, 29, 5, 96, 46, 42]
abbrev dktL_law_14 : List UInt8 := dkwL_law_14 ++ dktL_law_15
def dkwL_law_13 : List UInt8 := [29, 4, 96, 46, 42, 29, 5, 96, 46, 182, 0, 46, 159, 3, 210, 3, 172, 43, 42, 29, 4, 96, 46, 42]
abbrev dktL_law_13 : List UInt8 := dkwL_law_13 ++ dktL_law_14
def dkwL_law_12 : List UInt8 := [182, 0, 42, 159, 3, 243, 3, 172, 43, 42, 29, 4, 96, 46, 42, 29, 5, 96, 46, 182, 0, 43, 44, 42]
abbrev dktL_law_12 : List UInt8 := dkwL_law_12 ++ dktL_law_13
def dkwL_law_11 : List UInt8 := [29, 4, 96, 46, 42, 29, 5, 96, 46, 182, 0, 39, 44, 42, 29, 4, 96, 46, 42, 29, 5, 96, 46]
abbrev dktL_law_11 : List UInt8 := dkwL_law_11 ++ dktL_law_12
def dkwL_law_10 : List UInt8 := [182, 0, 35, 44, 42, 29, 4, 96, 46, 42, 29, 5, 96, 46, 182, 0, 38, 159, 4, 20, 3, 172, 43, 42]
abbrev dktL_law_10 : List UInt8 := dkwL_law_10 ++ dktL_law_11
def dkwL_law_9 : List UInt8 := [5, 96, 46, 182, 0, 34, 159, 4, 53, 3, 172, 43, 42, 29, 4, 96, 46, 42, 29, 5, 96, 46]
abbrev dktL_law_9 : List UInt8 := dkwL_law_9 ++ dktL_law_10
def dkwL_law_8 : List UInt8 := [3, 172, 43, 42, 29, 4, 96, 46, 42, 29, 5, 96, 46, 182, 0, 31, 44, 42, 29, 4, 96, 46, 42, 29]
abbrev dktL_law_8 : List UInt8 := dkwL_law_8 ++ dktL_law_9
def dkwL_law_7 : List UInt8 := [29, 5, 96, 46, 182, 0, 27, 44, 42, 29, 4, 96, 46, 42, 29, 5, 96, 46, 182, 0, 30, 159, 4, 86]
abbrev dktL_law_7 : List UInt8 := dkwL_law_7 ++ dktL_law_8
def dkwL_law_6 : List UInt8 := [182, 0, 22, 44, 42, 29, 4, 96, 46, 182, 0, 26, 159, 4, 119, 3, 172, 43, 42, 29, 4, 96, 46, 42]
abbrev dktL_law_6 : List UInt8 := dkwL_law_6 ++ dktL_law_7
def dkwL_law_5 : List UInt8 := [42, 29, 4, 96, 46, 42, 29, 5, 96, 46, 182, 0, 21, 159, 4, 142, 3, 172, 43, 42, 29, 4, 96, 46]
abbrev dktL_law_5 : List UInt8 := dkwL_law_5 ++ dktL_law_6
def dkwL_law_4 : List UInt8 := [46, 182, 0, 17, 159, 4, 175, 3, 172, 43, 42, 29, 4, 96, 46, 42, 29, 5, 96, 46, 182, 0, 18, 44]
abbrev dktL_law_4 : List UInt8 := dkwL_law_4 ++ dktL_law_5
def dkwL_law_3 : List UInt8 := [43, 42, 29, 4, 96, 46, 42, 29, 5, 96, 46, 182, 0, 13, 44, 42, 29, 4, 96, 46, 42, 29, 5, 96]
abbrev dktL_law_3 : List UInt8 := dkwL_law_3 ++ dktL_law_4
def dkwL_law_2 : List UInt8 := [170, 0, 0, 0, 0, 5, 118, 0, 0, 0, 0, 0, 0, 0, 38, 0, 0, 0, 171, 0, 0, 0, 204, 0, 0, 0, 237, 0, 0, 1, 4, 0, 0, 1, 37, 0, 0, 1, 70, 0, 0, 1, 103, 0, 0, 1, 136, 0, 0, 1, 169, 0, 0, 1, 212, 0, 0, 1, 235, 0, 0, 2, 42, 0, 0, 2, 65, 0, 0, 2, 88, 0, 0, 2, 111, 0, 0, 2, 134, 0, 0, 2, 157, 0, 0, 2, 200, 0, 0, 2, 233, 0, 0, 3, 20, 0, 0, 3, 63, 0, 0, 3, 96, 0, 0, 3, 129, 0, 0, 3, 172, 0, 0, 3, 205, 0, 0, 3, 238, 0, 0, 3, 251, 0, 0, 4, 38, 0, 0, 4, 61, 0, 0, 4, 104, 0, 0, 4, 147, 0, 0, 4, 210, 0, 0, 4, 233, 0, 0, 5, 0, 0, 0, 5, 13, 0, 0, 5, 26, 0, 0, 5, 49, 0, 0, 5, 72, 0, 0, 5, 95]
abbrev dktL_law_2 : List UInt8 := dkwL_law_2 ++ dktL_law_3
def dkwL_law_1 : List UInt8 := [163, 5, 133, 42, 29, 46, 16, 63, 126]
abbrev dktL_law_1 : List UInt8 := dkwL_law_1 ++ dktL_law_2
def dkwL_law_0 : List UInt8 := [187, 0, 7, 89, 183, 0, 9, 76, 187, 0, 10, 89, 183, 0, 12, 77, 3, 62, 29, 42, 190, 16, 6, 100]
abbrev dktL_law_0 : List UInt8 := dkwL_law_0 ++ dktL_law_1
theorem dksL_law_0 : cL_law.data.toList.drop 0 = dktL_law_0 := by decide +kernel
theorem dksL_law_1 : cL_law.data.toList.drop 24 = dktL_law_1 := dk_seg dksL_law_0 24 rfl rfl
theorem dksL_law_2 : cL_law.data.toList.drop 33 = dktL_law_2 := dk_seg dksL_law_1 9 rfl rfl
theorem dksL_law_3 : cL_law.data.toList.drop 204 = dktL_law_3 := dk_seg dksL_law_2 171 rfl rfl
theorem dksL_law_4 : cL_law.data.toList.drop 228 = dktL_law_4 := dk_seg dksL_law_3 24 rfl rfl
theorem dksL_law_5 : cL_law.data.toList.drop 252 = dktL_law_5 := dk_seg dksL_law_4 24 rfl rfl
theorem dksL_law_6 : cL_law.data.toList.drop 276 = dktL_law_6 := dk_seg dksL_law_5 24 rfl rfl
theorem dksL_law_7 : cL_law.data.toList.drop 300 = dktL_law_7 := dk_seg dksL_law_6 24 rfl rfl
theorem dksL_law_8 : cL_law.data.toList.drop 324 = dktL_law_8 := dk_seg dksL_law_7 24 rfl rfl
theorem dksL_law_9 : cL_law.data.toList.drop 348 = dktL_law_9 := dk_seg dksL_law_8 24 rfl rfl
theorem dksL_law_10 : cL_law.data.toList.drop 370 = dktL_law_10 := dk_seg dksL_law_9 22 rfl rfl
theorem dksL_law_11 : cL_law.data.toList.drop 394 = dktL_law_11 := dk_seg dksL_law_10 24 rfl rfl
theorem dksL_law_12 : cL_law.data.toList.drop 417 = dktL_law_12 := dk_seg dksL_law_11 23 rfl rfl
theorem dksL_law_13 : cL_law.data.toList.drop 441 = dktL_law_13 := dk_seg dksL_law_12 24 rfl rfl
theorem dksL_law_14 : cL_law.data.toList.drop 465 = dktL_law_14 := dk_seg dksL_law_13 24 rfl rfl
theorem dksL_law_15 : cL_law.data.toList.drop 489 = dktL_law_15 := dk_seg dksL_law_14 24 rfl rfl
theorem dksL_law_16 : cL_law.data.toList.drop 513 = dktL_law_16 := dk_seg dksL_law_15 24 rfl rfl
theorem dksL_law_17 : cL_law.data.toList.drop 537 = dktL_law_17 := dk_seg dksL_law_16 24 rfl rfl
theorem dksL_law_18 : cL_law.data.toList.drop 560 = dktL_law_18 := dk_seg dksL_law_17 23 rfl rfl
theorem dksL_law_19 : cL_law.data.toList.drop 582 = dktL_law_19 := dk_seg dksL_law_18 22 rfl rfl
theorem dksL_law_20 : cL_law.data.toList.drop 605 = dktL_law_20 := dk_seg dksL_law_19 23 rfl rfl
theorem dksL_law_21 : cL_law.data.toList.drop 628 = dktL_law_21 := dk_seg dksL_law_20 23 rfl rfl
theorem dksL_law_22 : cL_law.data.toList.drop 651 = dktL_law_22 := dk_seg dksL_law_21 23 rfl rfl
theorem dksL_law_23 : cL_law.data.toList.drop 674 = dktL_law_23 := dk_seg dksL_law_22 23 rfl rfl
theorem dksL_law_24 : cL_law.data.toList.drop 697 = dktL_law_24 := dk_seg dksL_law_23 23 rfl rfl
theorem dksL_law_25 : cL_law.data.toList.drop 721 = dktL_law_25 := dk_seg dksL_law_24 24 rfl rfl
theorem dksL_law_26 : cL_law.data.toList.drop 745 = dktL_law_26 := dk_seg dksL_law_25 24 rfl rfl
theorem dksL_law_27 : cL_law.data.toList.drop 769 = dktL_law_27 := dk_seg dksL_law_26 24 rfl rfl
theorem dksL_law_28 : cL_law.data.toList.drop 793 = dktL_law_28 := dk_seg dksL_law_27 24 rfl rfl
theorem dksL_law_29 : cL_law.data.toList.drop 816 = dktL_law_29 := dk_seg dksL_law_28 23 rfl rfl
theorem dksL_law_30 : cL_law.data.toList.drop 840 = dktL_law_30 := dk_seg dksL_law_29 24 rfl rfl
theorem dksL_law_31 : cL_law.data.toList.drop 864 = dktL_law_31 := dk_seg dksL_law_30 24 rfl rfl
theorem dksL_law_32 : cL_law.data.toList.drop 888 = dktL_law_32 := dk_seg dksL_law_31 24 rfl rfl
theorem dksL_law_33 : cL_law.data.toList.drop 912 = dktL_law_33 := dk_seg dksL_law_32 24 rfl rfl
theorem dksL_law_34 : cL_law.data.toList.drop 936 = dktL_law_34 := dk_seg dksL_law_33 24 rfl rfl
theorem dksL_law_35 : cL_law.data.toList.drop 960 = dktL_law_35 := dk_seg dksL_law_34 24 rfl rfl
theorem dksL_law_36 : cL_law.data.toList.drop 984 = dktL_law_36 := dk_seg dksL_law_35 24 rfl rfl
theorem dksL_law_37 : cL_law.data.toList.drop 1008 = dktL_law_37 := dk_seg dksL_law_36 24 rfl rfl
theorem dksL_law_38 : cL_law.data.toList.drop 1031 = dktL_law_38 := dk_seg dksL_law_37 23 rfl rfl
theorem dksL_law_39 : cL_law.data.toList.drop 1055 = dktL_law_39 := dk_seg dksL_law_38 24 rfl rfl
theorem dksL_law_40 : cL_law.data.toList.drop 1079 = dktL_law_40 := dk_seg dksL_law_39 24 rfl rfl
theorem dksL_law_41 : cL_law.data.toList.drop 1101 = dktL_law_41 := dk_seg dksL_law_40 22 rfl rfl
theorem dksL_law_42 : cL_law.data.toList.drop 1125 = dktL_law_42 := dk_seg dksL_law_41 24 rfl rfl
theorem dksL_law_43 : cL_law.data.toList.drop 1149 = dktL_law_43 := dk_seg dksL_law_42 24 rfl rfl
theorem dksL_law_44 : cL_law.data.toList.drop 1173 = dktL_law_44 := dk_seg dksL_law_43 24 rfl rfl
theorem dksL_law_45 : cL_law.data.toList.drop 1196 = dktL_law_45 := dk_seg dksL_law_44 23 rfl rfl
theorem dksL_law_46 : cL_law.data.toList.drop 1220 = dktL_law_46 := dk_seg dksL_law_45 24 rfl rfl
theorem dksL_law_47 : cL_law.data.toList.drop 1244 = dktL_law_47 := dk_seg dksL_law_46 24 rfl rfl
theorem dksL_law_48 : cL_law.data.toList.drop 1268 = dktL_law_48 := dk_seg dksL_law_47 24 rfl rfl
theorem dksL_law_49 : cL_law.data.toList.drop 1292 = dktL_law_49 := dk_seg dksL_law_48 24 rfl rfl
theorem dksL_law_50 : cL_law.data.toList.drop 1314 = dktL_law_50 := dk_seg dksL_law_49 22 rfl rfl
theorem dksL_law_51 : cL_law.data.toList.drop 1338 = dktL_law_51 := dk_seg dksL_law_50 24 rfl rfl
theorem dksL_law_52 : cL_law.data.toList.drop 1362 = dktL_law_52 := dk_seg dksL_law_51 24 rfl rfl
theorem dksL_law_53 : cL_law.data.toList.drop 1386 = dktL_law_53 := dk_seg dksL_law_52 24 rfl rfl
theorem dksL_law_54 : cL_law.data.toList.drop 1410 = dktL_law_54 := dk_seg dksL_law_53 24 rfl rfl
theorem dksL_law_55 : cL_law.data.toList.drop 1434 = dktL_law_55 := dk_seg dksL_law_54 24 rfl rfl
theorem dL_law_0 : decode cL_law 0 = .ok (.new 7, 3) := dk_187 0 7 (dk_at dksL_law_0 0 rfl rfl)
theorem dL_law_3 : decode cL_law 3 = .ok (.dup, 1) := dk_89 (dk_at dksL_law_0 3 rfl rfl)
theorem dL_law_4 : decode cL_law 4 = .ok (.invokespecial 9, 3) := dk_183 0 9 (dk_at dksL_law_0 4 rfl rfl)
theorem dL_law_7 : decode cL_law 7 = .ok (.astore_n 1, 1) := dk_76 (dk_at dksL_law_0 7 rfl rfl)
theorem dL_law_8 : decode cL_law 8 = .ok (.new 10, 3) := dk_187 0 10 (dk_at dksL_law_0 8 rfl rfl)
theorem dL_law_11 : decode cL_law 11 = .ok (.dup, 1) := dk_89 (dk_at dksL_law_0 11 rfl rfl)
theorem dL_law_12 : decode cL_law 12 = .ok (.invokespecial 12, 3) := dk_183 0 12 (dk_at dksL_law_0 12 rfl rfl)
theorem dL_law_15 : decode cL_law 15 = .ok (.astore_n 2, 1) := dk_77 (dk_at dksL_law_0 15 rfl rfl)
theorem dL_law_16 : decode cL_law 16 = .ok (.iconst 0, 1) := dk_3 (dk_at dksL_law_0 16 rfl rfl)
theorem dL_law_17 : decode cL_law 17 = .ok (.istore_n 3, 1) := dk_62 (dk_at dksL_law_0 17 rfl rfl)
theorem dL_law_18 : decode cL_law 18 = .ok (.iload_n 3, 1) := dk_29 (dk_at dksL_law_0 18 rfl rfl)
theorem dL_law_19 : decode cL_law 19 = .ok (.aload_n 0, 1) := dk_42 (dk_at dksL_law_0 19 rfl rfl)
theorem dL_law_20 : decode cL_law 20 = .ok (.arraylength, 1) := dk_190 (dk_at dksL_law_0 20 rfl rfl)
theorem dL_law_21 : decode cL_law 21 = .ok (.bipush 6, 2) := dk_16 6 (dk_at dksL_law_0 21 rfl rfl)
theorem dL_law_23 : decode cL_law 23 = .ok (.isub, 1) := dk_100 (dk_at dksL_law_0 23 rfl rfl)
theorem dL_law_24 : decode cL_law 24 = .ok (.if_icmp .gt 1413, 3) := dk_163 5 133 (dk_at dksL_law_1 0 rfl rfl)
theorem dL_law_27 : decode cL_law 27 = .ok (.aload_n 0, 1) := dk_42 (dk_at dksL_law_1 3 rfl rfl)
theorem dL_law_28 : decode cL_law 28 = .ok (.iload_n 3, 1) := dk_29 (dk_at dksL_law_1 4 rfl rfl)
theorem dL_law_29 : decode cL_law 29 = .ok (.iaload, 1) := dk_46 (dk_at dksL_law_1 5 rfl rfl)
theorem dL_law_30 : decode cL_law 30 = .ok (.bipush 63, 2) := dk_16 63 (dk_at dksL_law_1 6 rfl rfl)
theorem dL_law_32 : decode cL_law 32 = .ok (.iand, 1) := dk_126 (dk_at dksL_law_1 8 rfl rfl)
theorem dL_law_33 : decode cL_law 33 = .ok (.tableswitch 1398 0 38 #[171, 204, 237, 260, 293, 326, 359, 392, 425, 468, 491, 554, 577, 600, 623, 646, 669, 712, 745, 788, 831, 864, 897, 940, 973, 1006, 1019, 1062, 1085, 1128, 1171, 1234, 1257, 1280, 1293, 1306, 1329, 1352, 1375], 171) := by decide +kernel
theorem dL_law_204 : decode cL_law 204 = .ok (.aload_n 1, 1) := dk_43 (dk_at dksL_law_3 0 rfl rfl)
theorem dL_law_205 : decode cL_law 205 = .ok (.aload_n 0, 1) := dk_42 (dk_at dksL_law_3 1 rfl rfl)
theorem dL_law_206 : decode cL_law 206 = .ok (.iload_n 3, 1) := dk_29 (dk_at dksL_law_3 2 rfl rfl)
theorem dL_law_207 : decode cL_law 207 = .ok (.iconst 1, 1) := dk_4 (dk_at dksL_law_3 3 rfl rfl)
theorem dL_law_208 : decode cL_law 208 = .ok (.iadd, 1) := dk_96 (dk_at dksL_law_3 4 rfl rfl)
theorem dL_law_209 : decode cL_law 209 = .ok (.iaload, 1) := dk_46 (dk_at dksL_law_3 5 rfl rfl)
theorem dL_law_210 : decode cL_law 210 = .ok (.aload_n 0, 1) := dk_42 (dk_at dksL_law_3 6 rfl rfl)
theorem dL_law_211 : decode cL_law 211 = .ok (.iload_n 3, 1) := dk_29 (dk_at dksL_law_3 7 rfl rfl)
theorem dL_law_212 : decode cL_law 212 = .ok (.iconst 2, 1) := dk_5 (dk_at dksL_law_3 8 rfl rfl)
theorem dL_law_213 : decode cL_law 213 = .ok (.iadd, 1) := dk_96 (dk_at dksL_law_3 9 rfl rfl)
theorem dL_law_214 : decode cL_law 214 = .ok (.iaload, 1) := dk_46 (dk_at dksL_law_3 10 rfl rfl)
theorem dL_law_215 : decode cL_law 215 = .ok (.invokevirtual 13, 3) := dk_182 0 13 (dk_at dksL_law_3 11 rfl rfl)
theorem dL_law_218 : decode cL_law 218 = .ok (.aload_n 2, 1) := dk_44 (dk_at dksL_law_3 14 rfl rfl)
theorem dL_law_219 : decode cL_law 219 = .ok (.aload_n 0, 1) := dk_42 (dk_at dksL_law_3 15 rfl rfl)
theorem dL_law_220 : decode cL_law 220 = .ok (.iload_n 3, 1) := dk_29 (dk_at dksL_law_3 16 rfl rfl)
theorem dL_law_221 : decode cL_law 221 = .ok (.iconst 1, 1) := dk_4 (dk_at dksL_law_3 17 rfl rfl)
theorem dL_law_222 : decode cL_law 222 = .ok (.iadd, 1) := dk_96 (dk_at dksL_law_3 18 rfl rfl)
theorem dL_law_223 : decode cL_law 223 = .ok (.iaload, 1) := dk_46 (dk_at dksL_law_3 19 rfl rfl)
theorem dL_law_224 : decode cL_law 224 = .ok (.aload_n 0, 1) := dk_42 (dk_at dksL_law_3 20 rfl rfl)
theorem dL_law_225 : decode cL_law 225 = .ok (.iload_n 3, 1) := dk_29 (dk_at dksL_law_3 21 rfl rfl)
theorem dL_law_226 : decode cL_law 226 = .ok (.iconst 2, 1) := dk_5 (dk_at dksL_law_3 22 rfl rfl)
theorem dL_law_227 : decode cL_law 227 = .ok (.iadd, 1) := dk_96 (dk_at dksL_law_3 23 rfl rfl)
theorem dL_law_228 : decode cL_law 228 = .ok (.iaload, 1) := dk_46 (dk_at dksL_law_4 0 rfl rfl)
theorem dL_law_229 : decode cL_law 229 = .ok (.invokevirtual 17, 3) := dk_182 0 17 (dk_at dksL_law_4 1 rfl rfl)
theorem dL_law_232 : decode cL_law 232 = .ok (.if_icmp .eq 1199, 3) := dk_159 4 175 (dk_at dksL_law_4 4 rfl rfl)
theorem dL_law_235 : decode cL_law 235 = .ok (.iconst 0, 1) := dk_3 (dk_at dksL_law_4 7 rfl rfl)
theorem dL_law_236 : decode cL_law 236 = .ok (.ireturn, 1) := dk_172 (dk_at dksL_law_4 8 rfl rfl)
theorem dL_law_237 : decode cL_law 237 = .ok (.aload_n 1, 1) := dk_43 (dk_at dksL_law_4 9 rfl rfl)
theorem dL_law_238 : decode cL_law 238 = .ok (.aload_n 0, 1) := dk_42 (dk_at dksL_law_4 10 rfl rfl)
theorem dL_law_239 : decode cL_law 239 = .ok (.iload_n 3, 1) := dk_29 (dk_at dksL_law_4 11 rfl rfl)
theorem dL_law_240 : decode cL_law 240 = .ok (.iconst 1, 1) := dk_4 (dk_at dksL_law_4 12 rfl rfl)
theorem dL_law_241 : decode cL_law 241 = .ok (.iadd, 1) := dk_96 (dk_at dksL_law_4 13 rfl rfl)
theorem dL_law_242 : decode cL_law 242 = .ok (.iaload, 1) := dk_46 (dk_at dksL_law_4 14 rfl rfl)
theorem dL_law_243 : decode cL_law 243 = .ok (.aload_n 0, 1) := dk_42 (dk_at dksL_law_4 15 rfl rfl)
theorem dL_law_244 : decode cL_law 244 = .ok (.iload_n 3, 1) := dk_29 (dk_at dksL_law_4 16 rfl rfl)
theorem dL_law_245 : decode cL_law 245 = .ok (.iconst 2, 1) := dk_5 (dk_at dksL_law_4 17 rfl rfl)
theorem dL_law_246 : decode cL_law 246 = .ok (.iadd, 1) := dk_96 (dk_at dksL_law_4 18 rfl rfl)
theorem dL_law_247 : decode cL_law 247 = .ok (.iaload, 1) := dk_46 (dk_at dksL_law_4 19 rfl rfl)
theorem dL_law_248 : decode cL_law 248 = .ok (.invokevirtual 18, 3) := dk_182 0 18 (dk_at dksL_law_4 20 rfl rfl)
theorem dL_law_251 : decode cL_law 251 = .ok (.aload_n 2, 1) := dk_44 (dk_at dksL_law_4 23 rfl rfl)
theorem dL_law_252 : decode cL_law 252 = .ok (.aload_n 0, 1) := dk_42 (dk_at dksL_law_5 0 rfl rfl)
theorem dL_law_253 : decode cL_law 253 = .ok (.iload_n 3, 1) := dk_29 (dk_at dksL_law_5 1 rfl rfl)
theorem dL_law_254 : decode cL_law 254 = .ok (.iconst 1, 1) := dk_4 (dk_at dksL_law_5 2 rfl rfl)
theorem dL_law_255 : decode cL_law 255 = .ok (.iadd, 1) := dk_96 (dk_at dksL_law_5 3 rfl rfl)
theorem dL_law_256 : decode cL_law 256 = .ok (.iaload, 1) := dk_46 (dk_at dksL_law_5 4 rfl rfl)
theorem dL_law_257 : decode cL_law 257 = .ok (.aload_n 0, 1) := dk_42 (dk_at dksL_law_5 5 rfl rfl)
theorem dL_law_258 : decode cL_law 258 = .ok (.iload_n 3, 1) := dk_29 (dk_at dksL_law_5 6 rfl rfl)
theorem dL_law_259 : decode cL_law 259 = .ok (.iconst 2, 1) := dk_5 (dk_at dksL_law_5 7 rfl rfl)
theorem dL_law_260 : decode cL_law 260 = .ok (.iadd, 1) := dk_96 (dk_at dksL_law_5 8 rfl rfl)
theorem dL_law_261 : decode cL_law 261 = .ok (.iaload, 1) := dk_46 (dk_at dksL_law_5 9 rfl rfl)
theorem dL_law_262 : decode cL_law 262 = .ok (.invokevirtual 21, 3) := dk_182 0 21 (dk_at dksL_law_5 10 rfl rfl)
theorem dL_law_265 : decode cL_law 265 = .ok (.if_icmp .eq 1166, 3) := dk_159 4 142 (dk_at dksL_law_5 13 rfl rfl)
theorem dL_law_268 : decode cL_law 268 = .ok (.iconst 0, 1) := dk_3 (dk_at dksL_law_5 16 rfl rfl)
theorem dL_law_269 : decode cL_law 269 = .ok (.ireturn, 1) := dk_172 (dk_at dksL_law_5 17 rfl rfl)
theorem dL_law_270 : decode cL_law 270 = .ok (.aload_n 1, 1) := dk_43 (dk_at dksL_law_5 18 rfl rfl)
theorem dL_law_271 : decode cL_law 271 = .ok (.aload_n 0, 1) := dk_42 (dk_at dksL_law_5 19 rfl rfl)
theorem dL_law_272 : decode cL_law 272 = .ok (.iload_n 3, 1) := dk_29 (dk_at dksL_law_5 20 rfl rfl)
theorem dL_law_273 : decode cL_law 273 = .ok (.iconst 1, 1) := dk_4 (dk_at dksL_law_5 21 rfl rfl)
theorem dL_law_274 : decode cL_law 274 = .ok (.iadd, 1) := dk_96 (dk_at dksL_law_5 22 rfl rfl)
theorem dL_law_275 : decode cL_law 275 = .ok (.iaload, 1) := dk_46 (dk_at dksL_law_5 23 rfl rfl)
theorem dL_law_276 : decode cL_law 276 = .ok (.invokevirtual 22, 3) := dk_182 0 22 (dk_at dksL_law_6 0 rfl rfl)
theorem dL_law_279 : decode cL_law 279 = .ok (.aload_n 2, 1) := dk_44 (dk_at dksL_law_6 3 rfl rfl)
theorem dL_law_280 : decode cL_law 280 = .ok (.aload_n 0, 1) := dk_42 (dk_at dksL_law_6 4 rfl rfl)
theorem dL_law_281 : decode cL_law 281 = .ok (.iload_n 3, 1) := dk_29 (dk_at dksL_law_6 5 rfl rfl)
theorem dL_law_282 : decode cL_law 282 = .ok (.iconst 1, 1) := dk_4 (dk_at dksL_law_6 6 rfl rfl)
theorem dL_law_283 : decode cL_law 283 = .ok (.iadd, 1) := dk_96 (dk_at dksL_law_6 7 rfl rfl)
theorem dL_law_284 : decode cL_law 284 = .ok (.iaload, 1) := dk_46 (dk_at dksL_law_6 8 rfl rfl)
theorem dL_law_285 : decode cL_law 285 = .ok (.invokevirtual 26, 3) := dk_182 0 26 (dk_at dksL_law_6 9 rfl rfl)
theorem dL_law_288 : decode cL_law 288 = .ok (.if_icmp .eq 1143, 3) := dk_159 4 119 (dk_at dksL_law_6 12 rfl rfl)
theorem dL_law_291 : decode cL_law 291 = .ok (.iconst 0, 1) := dk_3 (dk_at dksL_law_6 15 rfl rfl)
theorem dL_law_292 : decode cL_law 292 = .ok (.ireturn, 1) := dk_172 (dk_at dksL_law_6 16 rfl rfl)
theorem dL_law_293 : decode cL_law 293 = .ok (.aload_n 1, 1) := dk_43 (dk_at dksL_law_6 17 rfl rfl)
theorem dL_law_294 : decode cL_law 294 = .ok (.aload_n 0, 1) := dk_42 (dk_at dksL_law_6 18 rfl rfl)
theorem dL_law_295 : decode cL_law 295 = .ok (.iload_n 3, 1) := dk_29 (dk_at dksL_law_6 19 rfl rfl)
theorem dL_law_296 : decode cL_law 296 = .ok (.iconst 1, 1) := dk_4 (dk_at dksL_law_6 20 rfl rfl)
theorem dL_law_297 : decode cL_law 297 = .ok (.iadd, 1) := dk_96 (dk_at dksL_law_6 21 rfl rfl)
theorem dL_law_298 : decode cL_law 298 = .ok (.iaload, 1) := dk_46 (dk_at dksL_law_6 22 rfl rfl)
theorem dL_law_299 : decode cL_law 299 = .ok (.aload_n 0, 1) := dk_42 (dk_at dksL_law_6 23 rfl rfl)
theorem dL_law_300 : decode cL_law 300 = .ok (.iload_n 3, 1) := dk_29 (dk_at dksL_law_7 0 rfl rfl)
theorem dL_law_301 : decode cL_law 301 = .ok (.iconst 2, 1) := dk_5 (dk_at dksL_law_7 1 rfl rfl)
theorem dL_law_302 : decode cL_law 302 = .ok (.iadd, 1) := dk_96 (dk_at dksL_law_7 2 rfl rfl)
theorem dL_law_303 : decode cL_law 303 = .ok (.iaload, 1) := dk_46 (dk_at dksL_law_7 3 rfl rfl)
theorem dL_law_304 : decode cL_law 304 = .ok (.invokevirtual 27, 3) := dk_182 0 27 (dk_at dksL_law_7 4 rfl rfl)
theorem dL_law_307 : decode cL_law 307 = .ok (.aload_n 2, 1) := dk_44 (dk_at dksL_law_7 7 rfl rfl)
theorem dL_law_308 : decode cL_law 308 = .ok (.aload_n 0, 1) := dk_42 (dk_at dksL_law_7 8 rfl rfl)
theorem dL_law_309 : decode cL_law 309 = .ok (.iload_n 3, 1) := dk_29 (dk_at dksL_law_7 9 rfl rfl)
theorem dL_law_310 : decode cL_law 310 = .ok (.iconst 1, 1) := dk_4 (dk_at dksL_law_7 10 rfl rfl)
theorem dL_law_311 : decode cL_law 311 = .ok (.iadd, 1) := dk_96 (dk_at dksL_law_7 11 rfl rfl)
theorem dL_law_312 : decode cL_law 312 = .ok (.iaload, 1) := dk_46 (dk_at dksL_law_7 12 rfl rfl)
theorem dL_law_313 : decode cL_law 313 = .ok (.aload_n 0, 1) := dk_42 (dk_at dksL_law_7 13 rfl rfl)
theorem dL_law_314 : decode cL_law 314 = .ok (.iload_n 3, 1) := dk_29 (dk_at dksL_law_7 14 rfl rfl)
theorem dL_law_315 : decode cL_law 315 = .ok (.iconst 2, 1) := dk_5 (dk_at dksL_law_7 15 rfl rfl)
theorem dL_law_316 : decode cL_law 316 = .ok (.iadd, 1) := dk_96 (dk_at dksL_law_7 16 rfl rfl)
theorem dL_law_317 : decode cL_law 317 = .ok (.iaload, 1) := dk_46 (dk_at dksL_law_7 17 rfl rfl)
theorem dL_law_318 : decode cL_law 318 = .ok (.invokevirtual 30, 3) := dk_182 0 30 (dk_at dksL_law_7 18 rfl rfl)
theorem dL_law_321 : decode cL_law 321 = .ok (.if_icmp .eq 1110, 3) := dk_159 4 86 (dk_at dksL_law_7 21 rfl rfl)
theorem dL_law_324 : decode cL_law 324 = .ok (.iconst 0, 1) := dk_3 (dk_at dksL_law_8 0 rfl rfl)
theorem dL_law_325 : decode cL_law 325 = .ok (.ireturn, 1) := dk_172 (dk_at dksL_law_8 1 rfl rfl)
theorem dL_law_326 : decode cL_law 326 = .ok (.aload_n 1, 1) := dk_43 (dk_at dksL_law_8 2 rfl rfl)
theorem dL_law_327 : decode cL_law 327 = .ok (.aload_n 0, 1) := dk_42 (dk_at dksL_law_8 3 rfl rfl)
theorem dL_law_328 : decode cL_law 328 = .ok (.iload_n 3, 1) := dk_29 (dk_at dksL_law_8 4 rfl rfl)
theorem dL_law_329 : decode cL_law 329 = .ok (.iconst 1, 1) := dk_4 (dk_at dksL_law_8 5 rfl rfl)
theorem dL_law_330 : decode cL_law 330 = .ok (.iadd, 1) := dk_96 (dk_at dksL_law_8 6 rfl rfl)
theorem dL_law_331 : decode cL_law 331 = .ok (.iaload, 1) := dk_46 (dk_at dksL_law_8 7 rfl rfl)
theorem dL_law_332 : decode cL_law 332 = .ok (.aload_n 0, 1) := dk_42 (dk_at dksL_law_8 8 rfl rfl)
theorem dL_law_333 : decode cL_law 333 = .ok (.iload_n 3, 1) := dk_29 (dk_at dksL_law_8 9 rfl rfl)
theorem dL_law_334 : decode cL_law 334 = .ok (.iconst 2, 1) := dk_5 (dk_at dksL_law_8 10 rfl rfl)
theorem dL_law_335 : decode cL_law 335 = .ok (.iadd, 1) := dk_96 (dk_at dksL_law_8 11 rfl rfl)
theorem dL_law_336 : decode cL_law 336 = .ok (.iaload, 1) := dk_46 (dk_at dksL_law_8 12 rfl rfl)
theorem dL_law_337 : decode cL_law 337 = .ok (.invokevirtual 31, 3) := dk_182 0 31 (dk_at dksL_law_8 13 rfl rfl)
theorem dL_law_340 : decode cL_law 340 = .ok (.aload_n 2, 1) := dk_44 (dk_at dksL_law_8 16 rfl rfl)
theorem dL_law_341 : decode cL_law 341 = .ok (.aload_n 0, 1) := dk_42 (dk_at dksL_law_8 17 rfl rfl)
theorem dL_law_342 : decode cL_law 342 = .ok (.iload_n 3, 1) := dk_29 (dk_at dksL_law_8 18 rfl rfl)
theorem dL_law_343 : decode cL_law 343 = .ok (.iconst 1, 1) := dk_4 (dk_at dksL_law_8 19 rfl rfl)
theorem dL_law_344 : decode cL_law 344 = .ok (.iadd, 1) := dk_96 (dk_at dksL_law_8 20 rfl rfl)
theorem dL_law_345 : decode cL_law 345 = .ok (.iaload, 1) := dk_46 (dk_at dksL_law_8 21 rfl rfl)
theorem dL_law_346 : decode cL_law 346 = .ok (.aload_n 0, 1) := dk_42 (dk_at dksL_law_8 22 rfl rfl)
theorem dL_law_347 : decode cL_law 347 = .ok (.iload_n 3, 1) := dk_29 (dk_at dksL_law_8 23 rfl rfl)
theorem dL_law_348 : decode cL_law 348 = .ok (.iconst 2, 1) := dk_5 (dk_at dksL_law_9 0 rfl rfl)
theorem dL_law_349 : decode cL_law 349 = .ok (.iadd, 1) := dk_96 (dk_at dksL_law_9 1 rfl rfl)
theorem dL_law_350 : decode cL_law 350 = .ok (.iaload, 1) := dk_46 (dk_at dksL_law_9 2 rfl rfl)
theorem dL_law_351 : decode cL_law 351 = .ok (.invokevirtual 34, 3) := dk_182 0 34 (dk_at dksL_law_9 3 rfl rfl)
theorem dL_law_354 : decode cL_law 354 = .ok (.if_icmp .eq 1077, 3) := dk_159 4 53 (dk_at dksL_law_9 6 rfl rfl)
theorem dL_law_357 : decode cL_law 357 = .ok (.iconst 0, 1) := dk_3 (dk_at dksL_law_9 9 rfl rfl)
theorem dL_law_358 : decode cL_law 358 = .ok (.ireturn, 1) := dk_172 (dk_at dksL_law_9 10 rfl rfl)
theorem dL_law_359 : decode cL_law 359 = .ok (.aload_n 1, 1) := dk_43 (dk_at dksL_law_9 11 rfl rfl)
theorem dL_law_360 : decode cL_law 360 = .ok (.aload_n 0, 1) := dk_42 (dk_at dksL_law_9 12 rfl rfl)
theorem dL_law_361 : decode cL_law 361 = .ok (.iload_n 3, 1) := dk_29 (dk_at dksL_law_9 13 rfl rfl)
theorem dL_law_362 : decode cL_law 362 = .ok (.iconst 1, 1) := dk_4 (dk_at dksL_law_9 14 rfl rfl)
theorem dL_law_363 : decode cL_law 363 = .ok (.iadd, 1) := dk_96 (dk_at dksL_law_9 15 rfl rfl)
theorem dL_law_364 : decode cL_law 364 = .ok (.iaload, 1) := dk_46 (dk_at dksL_law_9 16 rfl rfl)
theorem dL_law_365 : decode cL_law 365 = .ok (.aload_n 0, 1) := dk_42 (dk_at dksL_law_9 17 rfl rfl)
theorem dL_law_366 : decode cL_law 366 = .ok (.iload_n 3, 1) := dk_29 (dk_at dksL_law_9 18 rfl rfl)
theorem dL_law_367 : decode cL_law 367 = .ok (.iconst 2, 1) := dk_5 (dk_at dksL_law_9 19 rfl rfl)
theorem dL_law_368 : decode cL_law 368 = .ok (.iadd, 1) := dk_96 (dk_at dksL_law_9 20 rfl rfl)
theorem dL_law_369 : decode cL_law 369 = .ok (.iaload, 1) := dk_46 (dk_at dksL_law_9 21 rfl rfl)
theorem dL_law_370 : decode cL_law 370 = .ok (.invokevirtual 35, 3) := dk_182 0 35 (dk_at dksL_law_10 0 rfl rfl)
theorem dL_law_373 : decode cL_law 373 = .ok (.aload_n 2, 1) := dk_44 (dk_at dksL_law_10 3 rfl rfl)
theorem dL_law_374 : decode cL_law 374 = .ok (.aload_n 0, 1) := dk_42 (dk_at dksL_law_10 4 rfl rfl)
theorem dL_law_375 : decode cL_law 375 = .ok (.iload_n 3, 1) := dk_29 (dk_at dksL_law_10 5 rfl rfl)
theorem dL_law_376 : decode cL_law 376 = .ok (.iconst 1, 1) := dk_4 (dk_at dksL_law_10 6 rfl rfl)
theorem dL_law_377 : decode cL_law 377 = .ok (.iadd, 1) := dk_96 (dk_at dksL_law_10 7 rfl rfl)
theorem dL_law_378 : decode cL_law 378 = .ok (.iaload, 1) := dk_46 (dk_at dksL_law_10 8 rfl rfl)
theorem dL_law_379 : decode cL_law 379 = .ok (.aload_n 0, 1) := dk_42 (dk_at dksL_law_10 9 rfl rfl)
theorem dL_law_380 : decode cL_law 380 = .ok (.iload_n 3, 1) := dk_29 (dk_at dksL_law_10 10 rfl rfl)
theorem dL_law_381 : decode cL_law 381 = .ok (.iconst 2, 1) := dk_5 (dk_at dksL_law_10 11 rfl rfl)
theorem dL_law_382 : decode cL_law 382 = .ok (.iadd, 1) := dk_96 (dk_at dksL_law_10 12 rfl rfl)
theorem dL_law_383 : decode cL_law 383 = .ok (.iaload, 1) := dk_46 (dk_at dksL_law_10 13 rfl rfl)
theorem dL_law_384 : decode cL_law 384 = .ok (.invokevirtual 38, 3) := dk_182 0 38 (dk_at dksL_law_10 14 rfl rfl)
theorem dL_law_387 : decode cL_law 387 = .ok (.if_icmp .eq 1044, 3) := dk_159 4 20 (dk_at dksL_law_10 17 rfl rfl)
theorem dL_law_390 : decode cL_law 390 = .ok (.iconst 0, 1) := dk_3 (dk_at dksL_law_10 20 rfl rfl)
theorem dL_law_391 : decode cL_law 391 = .ok (.ireturn, 1) := dk_172 (dk_at dksL_law_10 21 rfl rfl)
theorem dL_law_392 : decode cL_law 392 = .ok (.aload_n 1, 1) := dk_43 (dk_at dksL_law_10 22 rfl rfl)
theorem dL_law_393 : decode cL_law 393 = .ok (.aload_n 0, 1) := dk_42 (dk_at dksL_law_10 23 rfl rfl)
theorem dL_law_394 : decode cL_law 394 = .ok (.iload_n 3, 1) := dk_29 (dk_at dksL_law_11 0 rfl rfl)
theorem dL_law_395 : decode cL_law 395 = .ok (.iconst 1, 1) := dk_4 (dk_at dksL_law_11 1 rfl rfl)
theorem dL_law_396 : decode cL_law 396 = .ok (.iadd, 1) := dk_96 (dk_at dksL_law_11 2 rfl rfl)
theorem dL_law_397 : decode cL_law 397 = .ok (.iaload, 1) := dk_46 (dk_at dksL_law_11 3 rfl rfl)
theorem dL_law_398 : decode cL_law 398 = .ok (.aload_n 0, 1) := dk_42 (dk_at dksL_law_11 4 rfl rfl)
theorem dL_law_399 : decode cL_law 399 = .ok (.iload_n 3, 1) := dk_29 (dk_at dksL_law_11 5 rfl rfl)
theorem dL_law_400 : decode cL_law 400 = .ok (.iconst 2, 1) := dk_5 (dk_at dksL_law_11 6 rfl rfl)
theorem dL_law_401 : decode cL_law 401 = .ok (.iadd, 1) := dk_96 (dk_at dksL_law_11 7 rfl rfl)
theorem dL_law_402 : decode cL_law 402 = .ok (.iaload, 1) := dk_46 (dk_at dksL_law_11 8 rfl rfl)
theorem dL_law_403 : decode cL_law 403 = .ok (.invokevirtual 39, 3) := dk_182 0 39 (dk_at dksL_law_11 9 rfl rfl)
theorem dL_law_406 : decode cL_law 406 = .ok (.aload_n 2, 1) := dk_44 (dk_at dksL_law_11 12 rfl rfl)
theorem dL_law_407 : decode cL_law 407 = .ok (.aload_n 0, 1) := dk_42 (dk_at dksL_law_11 13 rfl rfl)
theorem dL_law_408 : decode cL_law 408 = .ok (.iload_n 3, 1) := dk_29 (dk_at dksL_law_11 14 rfl rfl)
theorem dL_law_409 : decode cL_law 409 = .ok (.iconst 1, 1) := dk_4 (dk_at dksL_law_11 15 rfl rfl)
theorem dL_law_410 : decode cL_law 410 = .ok (.iadd, 1) := dk_96 (dk_at dksL_law_11 16 rfl rfl)
theorem dL_law_411 : decode cL_law 411 = .ok (.iaload, 1) := dk_46 (dk_at dksL_law_11 17 rfl rfl)
theorem dL_law_412 : decode cL_law 412 = .ok (.aload_n 0, 1) := dk_42 (dk_at dksL_law_11 18 rfl rfl)
theorem dL_law_413 : decode cL_law 413 = .ok (.iload_n 3, 1) := dk_29 (dk_at dksL_law_11 19 rfl rfl)
theorem dL_law_414 : decode cL_law 414 = .ok (.iconst 2, 1) := dk_5 (dk_at dksL_law_11 20 rfl rfl)
theorem dL_law_415 : decode cL_law 415 = .ok (.iadd, 1) := dk_96 (dk_at dksL_law_11 21 rfl rfl)
theorem dL_law_416 : decode cL_law 416 = .ok (.iaload, 1) := dk_46 (dk_at dksL_law_11 22 rfl rfl)
theorem dL_law_417 : decode cL_law 417 = .ok (.invokevirtual 42, 3) := dk_182 0 42 (dk_at dksL_law_12 0 rfl rfl)
theorem dL_law_420 : decode cL_law 420 = .ok (.if_icmp .eq 1011, 3) := dk_159 3 243 (dk_at dksL_law_12 3 rfl rfl)
theorem dL_law_423 : decode cL_law 423 = .ok (.iconst 0, 1) := dk_3 (dk_at dksL_law_12 6 rfl rfl)
theorem dL_law_424 : decode cL_law 424 = .ok (.ireturn, 1) := dk_172 (dk_at dksL_law_12 7 rfl rfl)
theorem dL_law_425 : decode cL_law 425 = .ok (.aload_n 1, 1) := dk_43 (dk_at dksL_law_12 8 rfl rfl)
theorem dL_law_426 : decode cL_law 426 = .ok (.aload_n 0, 1) := dk_42 (dk_at dksL_law_12 9 rfl rfl)
theorem dL_law_427 : decode cL_law 427 = .ok (.iload_n 3, 1) := dk_29 (dk_at dksL_law_12 10 rfl rfl)
theorem dL_law_428 : decode cL_law 428 = .ok (.iconst 1, 1) := dk_4 (dk_at dksL_law_12 11 rfl rfl)
theorem dL_law_429 : decode cL_law 429 = .ok (.iadd, 1) := dk_96 (dk_at dksL_law_12 12 rfl rfl)
theorem dL_law_430 : decode cL_law 430 = .ok (.iaload, 1) := dk_46 (dk_at dksL_law_12 13 rfl rfl)
theorem dL_law_431 : decode cL_law 431 = .ok (.aload_n 0, 1) := dk_42 (dk_at dksL_law_12 14 rfl rfl)
theorem dL_law_432 : decode cL_law 432 = .ok (.iload_n 3, 1) := dk_29 (dk_at dksL_law_12 15 rfl rfl)
theorem dL_law_433 : decode cL_law 433 = .ok (.iconst 2, 1) := dk_5 (dk_at dksL_law_12 16 rfl rfl)
theorem dL_law_434 : decode cL_law 434 = .ok (.iadd, 1) := dk_96 (dk_at dksL_law_12 17 rfl rfl)
theorem dL_law_435 : decode cL_law 435 = .ok (.iaload, 1) := dk_46 (dk_at dksL_law_12 18 rfl rfl)
theorem dL_law_436 : decode cL_law 436 = .ok (.invokevirtual 43, 3) := dk_182 0 43 (dk_at dksL_law_12 19 rfl rfl)
theorem dL_law_439 : decode cL_law 439 = .ok (.aload_n 2, 1) := dk_44 (dk_at dksL_law_12 22 rfl rfl)
theorem dL_law_440 : decode cL_law 440 = .ok (.aload_n 0, 1) := dk_42 (dk_at dksL_law_12 23 rfl rfl)
theorem dL_law_441 : decode cL_law 441 = .ok (.iload_n 3, 1) := dk_29 (dk_at dksL_law_13 0 rfl rfl)
theorem dL_law_442 : decode cL_law 442 = .ok (.iconst 1, 1) := dk_4 (dk_at dksL_law_13 1 rfl rfl)
theorem dL_law_443 : decode cL_law 443 = .ok (.iadd, 1) := dk_96 (dk_at dksL_law_13 2 rfl rfl)
theorem dL_law_444 : decode cL_law 444 = .ok (.iaload, 1) := dk_46 (dk_at dksL_law_13 3 rfl rfl)
theorem dL_law_445 : decode cL_law 445 = .ok (.aload_n 0, 1) := dk_42 (dk_at dksL_law_13 4 rfl rfl)
theorem dL_law_446 : decode cL_law 446 = .ok (.iload_n 3, 1) := dk_29 (dk_at dksL_law_13 5 rfl rfl)
theorem dL_law_447 : decode cL_law 447 = .ok (.iconst 2, 1) := dk_5 (dk_at dksL_law_13 6 rfl rfl)
theorem dL_law_448 : decode cL_law 448 = .ok (.iadd, 1) := dk_96 (dk_at dksL_law_13 7 rfl rfl)
theorem dL_law_449 : decode cL_law 449 = .ok (.iaload, 1) := dk_46 (dk_at dksL_law_13 8 rfl rfl)
theorem dL_law_450 : decode cL_law 450 = .ok (.invokevirtual 46, 3) := dk_182 0 46 (dk_at dksL_law_13 9 rfl rfl)
theorem dL_law_453 : decode cL_law 453 = .ok (.if_icmp .eq 978, 3) := dk_159 3 210 (dk_at dksL_law_13 12 rfl rfl)
theorem dL_law_456 : decode cL_law 456 = .ok (.iconst 0, 1) := dk_3 (dk_at dksL_law_13 15 rfl rfl)
theorem dL_law_457 : decode cL_law 457 = .ok (.ireturn, 1) := dk_172 (dk_at dksL_law_13 16 rfl rfl)
theorem dL_law_458 : decode cL_law 458 = .ok (.aload_n 1, 1) := dk_43 (dk_at dksL_law_13 17 rfl rfl)
theorem dL_law_459 : decode cL_law 459 = .ok (.aload_n 0, 1) := dk_42 (dk_at dksL_law_13 18 rfl rfl)
theorem dL_law_460 : decode cL_law 460 = .ok (.iload_n 3, 1) := dk_29 (dk_at dksL_law_13 19 rfl rfl)
theorem dL_law_461 : decode cL_law 461 = .ok (.iconst 1, 1) := dk_4 (dk_at dksL_law_13 20 rfl rfl)
theorem dL_law_462 : decode cL_law 462 = .ok (.iadd, 1) := dk_96 (dk_at dksL_law_13 21 rfl rfl)
theorem dL_law_463 : decode cL_law 463 = .ok (.iaload, 1) := dk_46 (dk_at dksL_law_13 22 rfl rfl)
theorem dL_law_464 : decode cL_law 464 = .ok (.aload_n 0, 1) := dk_42 (dk_at dksL_law_13 23 rfl rfl)
theorem dL_law_465 : decode cL_law 465 = .ok (.iload_n 3, 1) := dk_29 (dk_at dksL_law_14 0 rfl rfl)
theorem dL_law_466 : decode cL_law 466 = .ok (.iconst 2, 1) := dk_5 (dk_at dksL_law_14 1 rfl rfl)
theorem dL_law_467 : decode cL_law 467 = .ok (.iadd, 1) := dk_96 (dk_at dksL_law_14 2 rfl rfl)
theorem dL_law_468 : decode cL_law 468 = .ok (.iaload, 1) := dk_46 (dk_at dksL_law_14 3 rfl rfl)
theorem dL_law_469 : decode cL_law 469 = .ok (.aload_n 0, 1) := dk_42 (dk_at dksL_law_14 4 rfl rfl)
theorem dL_law_470 : decode cL_law 470 = .ok (.iload_n 3, 1) := dk_29 (dk_at dksL_law_14 5 rfl rfl)
theorem dL_law_471 : decode cL_law 471 = .ok (.iconst 3, 1) := dk_6 (dk_at dksL_law_14 6 rfl rfl)
theorem dL_law_472 : decode cL_law 472 = .ok (.iadd, 1) := dk_96 (dk_at dksL_law_14 7 rfl rfl)
theorem dL_law_473 : decode cL_law 473 = .ok (.iaload, 1) := dk_46 (dk_at dksL_law_14 8 rfl rfl)
theorem dL_law_474 : decode cL_law 474 = .ok (.invokevirtual 47, 3) := dk_182 0 47 (dk_at dksL_law_14 9 rfl rfl)
theorem dL_law_477 : decode cL_law 477 = .ok (.aload_n 2, 1) := dk_44 (dk_at dksL_law_14 12 rfl rfl)
theorem dL_law_478 : decode cL_law 478 = .ok (.aload_n 0, 1) := dk_42 (dk_at dksL_law_14 13 rfl rfl)
theorem dL_law_479 : decode cL_law 479 = .ok (.iload_n 3, 1) := dk_29 (dk_at dksL_law_14 14 rfl rfl)
theorem dL_law_480 : decode cL_law 480 = .ok (.iconst 1, 1) := dk_4 (dk_at dksL_law_14 15 rfl rfl)
theorem dL_law_481 : decode cL_law 481 = .ok (.iadd, 1) := dk_96 (dk_at dksL_law_14 16 rfl rfl)
theorem dL_law_482 : decode cL_law 482 = .ok (.iaload, 1) := dk_46 (dk_at dksL_law_14 17 rfl rfl)
theorem dL_law_483 : decode cL_law 483 = .ok (.aload_n 0, 1) := dk_42 (dk_at dksL_law_14 18 rfl rfl)
theorem dL_law_484 : decode cL_law 484 = .ok (.iload_n 3, 1) := dk_29 (dk_at dksL_law_14 19 rfl rfl)
theorem dL_law_485 : decode cL_law 485 = .ok (.iconst 2, 1) := dk_5 (dk_at dksL_law_14 20 rfl rfl)
theorem dL_law_486 : decode cL_law 486 = .ok (.iadd, 1) := dk_96 (dk_at dksL_law_14 21 rfl rfl)
theorem dL_law_487 : decode cL_law 487 = .ok (.iaload, 1) := dk_46 (dk_at dksL_law_14 22 rfl rfl)
theorem dL_law_488 : decode cL_law 488 = .ok (.aload_n 0, 1) := dk_42 (dk_at dksL_law_14 23 rfl rfl)
theorem dL_law_489 : decode cL_law 489 = .ok (.iload_n 3, 1) := dk_29 (dk_at dksL_law_15 0 rfl rfl)
theorem dL_law_490 : decode cL_law 490 = .ok (.iconst 3, 1) := dk_6 (dk_at dksL_law_15 1 rfl rfl)
theorem dL_law_491 : decode cL_law 491 = .ok (.iadd, 1) := dk_96 (dk_at dksL_law_15 2 rfl rfl)
theorem dL_law_492 : decode cL_law 492 = .ok (.iaload, 1) := dk_46 (dk_at dksL_law_15 3 rfl rfl)
theorem dL_law_493 : decode cL_law 493 = .ok (.invokevirtual 51, 3) := dk_182 0 51 (dk_at dksL_law_15 4 rfl rfl)
theorem dL_law_496 : decode cL_law 496 = .ok (.if_icmp .eq 935, 3) := dk_159 3 167 (dk_at dksL_law_15 7 rfl rfl)
theorem dL_law_499 : decode cL_law 499 = .ok (.iconst 0, 1) := dk_3 (dk_at dksL_law_15 10 rfl rfl)
theorem dL_law_500 : decode cL_law 500 = .ok (.ireturn, 1) := dk_172 (dk_at dksL_law_15 11 rfl rfl)
theorem dL_law_501 : decode cL_law 501 = .ok (.aload_n 1, 1) := dk_43 (dk_at dksL_law_15 12 rfl rfl)
theorem dL_law_502 : decode cL_law 502 = .ok (.aload_n 0, 1) := dk_42 (dk_at dksL_law_15 13 rfl rfl)
theorem dL_law_503 : decode cL_law 503 = .ok (.iload_n 3, 1) := dk_29 (dk_at dksL_law_15 14 rfl rfl)
theorem dL_law_504 : decode cL_law 504 = .ok (.iconst 1, 1) := dk_4 (dk_at dksL_law_15 15 rfl rfl)
theorem dL_law_505 : decode cL_law 505 = .ok (.iadd, 1) := dk_96 (dk_at dksL_law_15 16 rfl rfl)
theorem dL_law_506 : decode cL_law 506 = .ok (.iaload, 1) := dk_46 (dk_at dksL_law_15 17 rfl rfl)
theorem dL_law_507 : decode cL_law 507 = .ok (.invokevirtual 52, 3) := dk_182 0 52 (dk_at dksL_law_15 18 rfl rfl)
theorem dL_law_510 : decode cL_law 510 = .ok (.aload_n 2, 1) := dk_44 (dk_at dksL_law_15 21 rfl rfl)
theorem dL_law_511 : decode cL_law 511 = .ok (.aload_n 0, 1) := dk_42 (dk_at dksL_law_15 22 rfl rfl)
theorem dL_law_512 : decode cL_law 512 = .ok (.iload_n 3, 1) := dk_29 (dk_at dksL_law_15 23 rfl rfl)
theorem dL_law_513 : decode cL_law 513 = .ok (.iconst 1, 1) := dk_4 (dk_at dksL_law_16 0 rfl rfl)
theorem dL_law_514 : decode cL_law 514 = .ok (.iadd, 1) := dk_96 (dk_at dksL_law_16 1 rfl rfl)
theorem dL_law_515 : decode cL_law 515 = .ok (.iaload, 1) := dk_46 (dk_at dksL_law_16 2 rfl rfl)
theorem dL_law_516 : decode cL_law 516 = .ok (.invokevirtual 55, 3) := dk_182 0 55 (dk_at dksL_law_16 3 rfl rfl)
theorem dL_law_519 : decode cL_law 519 = .ok (.if_icmp .eq 912, 3) := dk_159 3 144 (dk_at dksL_law_16 6 rfl rfl)
theorem dL_law_522 : decode cL_law 522 = .ok (.iconst 0, 1) := dk_3 (dk_at dksL_law_16 9 rfl rfl)
theorem dL_law_523 : decode cL_law 523 = .ok (.ireturn, 1) := dk_172 (dk_at dksL_law_16 10 rfl rfl)
theorem dL_law_524 : decode cL_law 524 = .ok (.aload_n 1, 1) := dk_43 (dk_at dksL_law_16 11 rfl rfl)
theorem dL_law_525 : decode cL_law 525 = .ok (.aload_n 0, 1) := dk_42 (dk_at dksL_law_16 12 rfl rfl)
theorem dL_law_526 : decode cL_law 526 = .ok (.iload_n 3, 1) := dk_29 (dk_at dksL_law_16 13 rfl rfl)
theorem dL_law_527 : decode cL_law 527 = .ok (.iconst 1, 1) := dk_4 (dk_at dksL_law_16 14 rfl rfl)
theorem dL_law_528 : decode cL_law 528 = .ok (.iadd, 1) := dk_96 (dk_at dksL_law_16 15 rfl rfl)
theorem dL_law_529 : decode cL_law 529 = .ok (.iaload, 1) := dk_46 (dk_at dksL_law_16 16 rfl rfl)
theorem dL_law_530 : decode cL_law 530 = .ok (.i2l, 1) := dk_133 (dk_at dksL_law_16 17 rfl rfl)
theorem dL_law_531 : decode cL_law 531 = .ok (.bipush 32, 2) := dk_16 32 (dk_at dksL_law_16 18 rfl rfl)
theorem dL_law_533 : decode cL_law 533 = .ok (.lshl, 1) := dk_121 (dk_at dksL_law_16 20 rfl rfl)
theorem dL_law_534 : decode cL_law 534 = .ok (.aload_n 0, 1) := dk_42 (dk_at dksL_law_16 21 rfl rfl)
theorem dL_law_535 : decode cL_law 535 = .ok (.iload_n 3, 1) := dk_29 (dk_at dksL_law_16 22 rfl rfl)
theorem dL_law_536 : decode cL_law 536 = .ok (.iconst 2, 1) := dk_5 (dk_at dksL_law_16 23 rfl rfl)
theorem dL_law_537 : decode cL_law 537 = .ok (.iadd, 1) := dk_96 (dk_at dksL_law_17 0 rfl rfl)
theorem dL_law_538 : decode cL_law 538 = .ok (.iaload, 1) := dk_46 (dk_at dksL_law_17 1 rfl rfl)
theorem dL_law_539 : decode cL_law 539 = .ok (.i2l, 1) := dk_133 (dk_at dksL_law_17 2 rfl rfl)
theorem dL_law_540 : decode cL_law 540 = .ok (.ldc2_w 56, 3) := dk_20 0 56 (dk_at dksL_law_17 3 rfl rfl)
theorem dL_law_543 : decode cL_law 543 = .ok (.land, 1) := dk_127 (dk_at dksL_law_17 6 rfl rfl)
theorem dL_law_544 : decode cL_law 544 = .ok (.lor, 1) := dk_129 (dk_at dksL_law_17 7 rfl rfl)
theorem dL_law_545 : decode cL_law 545 = .ok (.aload_n 0, 1) := dk_42 (dk_at dksL_law_17 8 rfl rfl)
theorem dL_law_546 : decode cL_law 546 = .ok (.iload_n 3, 1) := dk_29 (dk_at dksL_law_17 9 rfl rfl)
theorem dL_law_547 : decode cL_law 547 = .ok (.iconst 3, 1) := dk_6 (dk_at dksL_law_17 10 rfl rfl)
theorem dL_law_548 : decode cL_law 548 = .ok (.iadd, 1) := dk_96 (dk_at dksL_law_17 11 rfl rfl)
theorem dL_law_549 : decode cL_law 549 = .ok (.iaload, 1) := dk_46 (dk_at dksL_law_17 12 rfl rfl)
theorem dL_law_550 : decode cL_law 550 = .ok (.invokevirtual 58, 3) := dk_182 0 58 (dk_at dksL_law_17 13 rfl rfl)
theorem dL_law_553 : decode cL_law 553 = .ok (.aload_n 2, 1) := dk_44 (dk_at dksL_law_17 16 rfl rfl)
theorem dL_law_554 : decode cL_law 554 = .ok (.aload_n 0, 1) := dk_42 (dk_at dksL_law_17 17 rfl rfl)
theorem dL_law_555 : decode cL_law 555 = .ok (.iload_n 3, 1) := dk_29 (dk_at dksL_law_17 18 rfl rfl)
theorem dL_law_556 : decode cL_law 556 = .ok (.iconst 1, 1) := dk_4 (dk_at dksL_law_17 19 rfl rfl)
theorem dL_law_557 : decode cL_law 557 = .ok (.iadd, 1) := dk_96 (dk_at dksL_law_17 20 rfl rfl)
theorem dL_law_558 : decode cL_law 558 = .ok (.iaload, 1) := dk_46 (dk_at dksL_law_17 21 rfl rfl)
theorem dL_law_559 : decode cL_law 559 = .ok (.i2l, 1) := dk_133 (dk_at dksL_law_17 22 rfl rfl)
theorem dL_law_560 : decode cL_law 560 = .ok (.bipush 32, 2) := dk_16 32 (dk_at dksL_law_18 0 rfl rfl)
theorem dL_law_562 : decode cL_law 562 = .ok (.lshl, 1) := dk_121 (dk_at dksL_law_18 2 rfl rfl)
theorem dL_law_563 : decode cL_law 563 = .ok (.aload_n 0, 1) := dk_42 (dk_at dksL_law_18 3 rfl rfl)
theorem dL_law_564 : decode cL_law 564 = .ok (.iload_n 3, 1) := dk_29 (dk_at dksL_law_18 4 rfl rfl)
theorem dL_law_565 : decode cL_law 565 = .ok (.iconst 2, 1) := dk_5 (dk_at dksL_law_18 5 rfl rfl)
theorem dL_law_566 : decode cL_law 566 = .ok (.iadd, 1) := dk_96 (dk_at dksL_law_18 6 rfl rfl)
theorem dL_law_567 : decode cL_law 567 = .ok (.iaload, 1) := dk_46 (dk_at dksL_law_18 7 rfl rfl)
theorem dL_law_568 : decode cL_law 568 = .ok (.i2l, 1) := dk_133 (dk_at dksL_law_18 8 rfl rfl)
theorem dL_law_569 : decode cL_law 569 = .ok (.ldc2_w 56, 3) := dk_20 0 56 (dk_at dksL_law_18 9 rfl rfl)
theorem dL_law_572 : decode cL_law 572 = .ok (.land, 1) := dk_127 (dk_at dksL_law_18 12 rfl rfl)
theorem dL_law_573 : decode cL_law 573 = .ok (.lor, 1) := dk_129 (dk_at dksL_law_18 13 rfl rfl)
theorem dL_law_574 : decode cL_law 574 = .ok (.aload_n 0, 1) := dk_42 (dk_at dksL_law_18 14 rfl rfl)
theorem dL_law_575 : decode cL_law 575 = .ok (.iload_n 3, 1) := dk_29 (dk_at dksL_law_18 15 rfl rfl)
theorem dL_law_576 : decode cL_law 576 = .ok (.iconst 3, 1) := dk_6 (dk_at dksL_law_18 16 rfl rfl)
theorem dL_law_577 : decode cL_law 577 = .ok (.iadd, 1) := dk_96 (dk_at dksL_law_18 17 rfl rfl)
theorem dL_law_578 : decode cL_law 578 = .ok (.iaload, 1) := dk_46 (dk_at dksL_law_18 18 rfl rfl)
theorem dL_law_579 : decode cL_law 579 = .ok (.invokevirtual 62, 3) := dk_182 0 62 (dk_at dksL_law_18 19 rfl rfl)
theorem dL_law_582 : decode cL_law 582 = .ok (.if_icmp .eq 849, 3) := dk_159 3 81 (dk_at dksL_law_19 0 rfl rfl)
theorem dL_law_585 : decode cL_law 585 = .ok (.iconst 0, 1) := dk_3 (dk_at dksL_law_19 3 rfl rfl)
theorem dL_law_586 : decode cL_law 586 = .ok (.ireturn, 1) := dk_172 (dk_at dksL_law_19 4 rfl rfl)
theorem dL_law_587 : decode cL_law 587 = .ok (.aload_n 1, 1) := dk_43 (dk_at dksL_law_19 5 rfl rfl)
theorem dL_law_588 : decode cL_law 588 = .ok (.aload_n 0, 1) := dk_42 (dk_at dksL_law_19 6 rfl rfl)
theorem dL_law_589 : decode cL_law 589 = .ok (.iload_n 3, 1) := dk_29 (dk_at dksL_law_19 7 rfl rfl)
theorem dL_law_590 : decode cL_law 590 = .ok (.iconst 1, 1) := dk_4 (dk_at dksL_law_19 8 rfl rfl)
theorem dL_law_591 : decode cL_law 591 = .ok (.iadd, 1) := dk_96 (dk_at dksL_law_19 9 rfl rfl)
theorem dL_law_592 : decode cL_law 592 = .ok (.iaload, 1) := dk_46 (dk_at dksL_law_19 10 rfl rfl)
theorem dL_law_593 : decode cL_law 593 = .ok (.invokevirtual 63, 3) := dk_182 0 63 (dk_at dksL_law_19 11 rfl rfl)
theorem dL_law_596 : decode cL_law 596 = .ok (.aload_n 2, 1) := dk_44 (dk_at dksL_law_19 14 rfl rfl)
theorem dL_law_597 : decode cL_law 597 = .ok (.aload_n 0, 1) := dk_42 (dk_at dksL_law_19 15 rfl rfl)
theorem dL_law_598 : decode cL_law 598 = .ok (.iload_n 3, 1) := dk_29 (dk_at dksL_law_19 16 rfl rfl)
theorem dL_law_599 : decode cL_law 599 = .ok (.iconst 1, 1) := dk_4 (dk_at dksL_law_19 17 rfl rfl)
theorem dL_law_600 : decode cL_law 600 = .ok (.iadd, 1) := dk_96 (dk_at dksL_law_19 18 rfl rfl)
theorem dL_law_601 : decode cL_law 601 = .ok (.iaload, 1) := dk_46 (dk_at dksL_law_19 19 rfl rfl)
theorem dL_law_602 : decode cL_law 602 = .ok (.invokevirtual 66, 3) := dk_182 0 66 (dk_at dksL_law_19 20 rfl rfl)
theorem dL_law_605 : decode cL_law 605 = .ok (.if_icmp .eq 826, 3) := dk_159 3 58 (dk_at dksL_law_20 0 rfl rfl)
theorem dL_law_608 : decode cL_law 608 = .ok (.iconst 0, 1) := dk_3 (dk_at dksL_law_20 3 rfl rfl)
theorem dL_law_609 : decode cL_law 609 = .ok (.ireturn, 1) := dk_172 (dk_at dksL_law_20 4 rfl rfl)
theorem dL_law_610 : decode cL_law 610 = .ok (.aload_n 1, 1) := dk_43 (dk_at dksL_law_20 5 rfl rfl)
theorem dL_law_611 : decode cL_law 611 = .ok (.aload_n 0, 1) := dk_42 (dk_at dksL_law_20 6 rfl rfl)
theorem dL_law_612 : decode cL_law 612 = .ok (.iload_n 3, 1) := dk_29 (dk_at dksL_law_20 7 rfl rfl)
theorem dL_law_613 : decode cL_law 613 = .ok (.iconst 1, 1) := dk_4 (dk_at dksL_law_20 8 rfl rfl)
theorem dL_law_614 : decode cL_law 614 = .ok (.iadd, 1) := dk_96 (dk_at dksL_law_20 9 rfl rfl)
theorem dL_law_615 : decode cL_law 615 = .ok (.iaload, 1) := dk_46 (dk_at dksL_law_20 10 rfl rfl)
theorem dL_law_616 : decode cL_law 616 = .ok (.invokevirtual 67, 3) := dk_182 0 67 (dk_at dksL_law_20 11 rfl rfl)
theorem dL_law_619 : decode cL_law 619 = .ok (.aload_n 2, 1) := dk_44 (dk_at dksL_law_20 14 rfl rfl)
theorem dL_law_620 : decode cL_law 620 = .ok (.aload_n 0, 1) := dk_42 (dk_at dksL_law_20 15 rfl rfl)
theorem dL_law_621 : decode cL_law 621 = .ok (.iload_n 3, 1) := dk_29 (dk_at dksL_law_20 16 rfl rfl)
theorem dL_law_622 : decode cL_law 622 = .ok (.iconst 1, 1) := dk_4 (dk_at dksL_law_20 17 rfl rfl)
theorem dL_law_623 : decode cL_law 623 = .ok (.iadd, 1) := dk_96 (dk_at dksL_law_20 18 rfl rfl)
theorem dL_law_624 : decode cL_law 624 = .ok (.iaload, 1) := dk_46 (dk_at dksL_law_20 19 rfl rfl)
theorem dL_law_625 : decode cL_law 625 = .ok (.invokevirtual 70, 3) := dk_182 0 70 (dk_at dksL_law_20 20 rfl rfl)
theorem dL_law_628 : decode cL_law 628 = .ok (.if_icmp .eq 803, 3) := dk_159 3 35 (dk_at dksL_law_21 0 rfl rfl)
theorem dL_law_631 : decode cL_law 631 = .ok (.iconst 0, 1) := dk_3 (dk_at dksL_law_21 3 rfl rfl)
theorem dL_law_632 : decode cL_law 632 = .ok (.ireturn, 1) := dk_172 (dk_at dksL_law_21 4 rfl rfl)
theorem dL_law_633 : decode cL_law 633 = .ok (.aload_n 1, 1) := dk_43 (dk_at dksL_law_21 5 rfl rfl)
theorem dL_law_634 : decode cL_law 634 = .ok (.aload_n 0, 1) := dk_42 (dk_at dksL_law_21 6 rfl rfl)
theorem dL_law_635 : decode cL_law 635 = .ok (.iload_n 3, 1) := dk_29 (dk_at dksL_law_21 7 rfl rfl)
theorem dL_law_636 : decode cL_law 636 = .ok (.iconst 1, 1) := dk_4 (dk_at dksL_law_21 8 rfl rfl)
theorem dL_law_637 : decode cL_law 637 = .ok (.iadd, 1) := dk_96 (dk_at dksL_law_21 9 rfl rfl)
theorem dL_law_638 : decode cL_law 638 = .ok (.iaload, 1) := dk_46 (dk_at dksL_law_21 10 rfl rfl)
theorem dL_law_639 : decode cL_law 639 = .ok (.invokevirtual 71, 3) := dk_182 0 71 (dk_at dksL_law_21 11 rfl rfl)
theorem dL_law_642 : decode cL_law 642 = .ok (.aload_n 2, 1) := dk_44 (dk_at dksL_law_21 14 rfl rfl)
theorem dL_law_643 : decode cL_law 643 = .ok (.aload_n 0, 1) := dk_42 (dk_at dksL_law_21 15 rfl rfl)
theorem dL_law_644 : decode cL_law 644 = .ok (.iload_n 3, 1) := dk_29 (dk_at dksL_law_21 16 rfl rfl)
theorem dL_law_645 : decode cL_law 645 = .ok (.iconst 1, 1) := dk_4 (dk_at dksL_law_21 17 rfl rfl)
theorem dL_law_646 : decode cL_law 646 = .ok (.iadd, 1) := dk_96 (dk_at dksL_law_21 18 rfl rfl)
theorem dL_law_647 : decode cL_law 647 = .ok (.iaload, 1) := dk_46 (dk_at dksL_law_21 19 rfl rfl)
theorem dL_law_648 : decode cL_law 648 = .ok (.invokevirtual 74, 3) := dk_182 0 74 (dk_at dksL_law_21 20 rfl rfl)
theorem dL_law_651 : decode cL_law 651 = .ok (.if_icmp .eq 780, 3) := dk_159 3 12 (dk_at dksL_law_22 0 rfl rfl)
theorem dL_law_654 : decode cL_law 654 = .ok (.iconst 0, 1) := dk_3 (dk_at dksL_law_22 3 rfl rfl)
theorem dL_law_655 : decode cL_law 655 = .ok (.ireturn, 1) := dk_172 (dk_at dksL_law_22 4 rfl rfl)
theorem dL_law_656 : decode cL_law 656 = .ok (.aload_n 1, 1) := dk_43 (dk_at dksL_law_22 5 rfl rfl)
theorem dL_law_657 : decode cL_law 657 = .ok (.aload_n 0, 1) := dk_42 (dk_at dksL_law_22 6 rfl rfl)
theorem dL_law_658 : decode cL_law 658 = .ok (.iload_n 3, 1) := dk_29 (dk_at dksL_law_22 7 rfl rfl)
theorem dL_law_659 : decode cL_law 659 = .ok (.iconst 1, 1) := dk_4 (dk_at dksL_law_22 8 rfl rfl)
theorem dL_law_660 : decode cL_law 660 = .ok (.iadd, 1) := dk_96 (dk_at dksL_law_22 9 rfl rfl)
theorem dL_law_661 : decode cL_law 661 = .ok (.iaload, 1) := dk_46 (dk_at dksL_law_22 10 rfl rfl)
theorem dL_law_662 : decode cL_law 662 = .ok (.invokevirtual 75, 3) := dk_182 0 75 (dk_at dksL_law_22 11 rfl rfl)
theorem dL_law_665 : decode cL_law 665 = .ok (.aload_n 2, 1) := dk_44 (dk_at dksL_law_22 14 rfl rfl)
theorem dL_law_666 : decode cL_law 666 = .ok (.aload_n 0, 1) := dk_42 (dk_at dksL_law_22 15 rfl rfl)
theorem dL_law_667 : decode cL_law 667 = .ok (.iload_n 3, 1) := dk_29 (dk_at dksL_law_22 16 rfl rfl)
theorem dL_law_668 : decode cL_law 668 = .ok (.iconst 1, 1) := dk_4 (dk_at dksL_law_22 17 rfl rfl)
theorem dL_law_669 : decode cL_law 669 = .ok (.iadd, 1) := dk_96 (dk_at dksL_law_22 18 rfl rfl)
theorem dL_law_670 : decode cL_law 670 = .ok (.iaload, 1) := dk_46 (dk_at dksL_law_22 19 rfl rfl)
theorem dL_law_671 : decode cL_law 671 = .ok (.invokevirtual 78, 3) := dk_182 0 78 (dk_at dksL_law_22 20 rfl rfl)
theorem dL_law_674 : decode cL_law 674 = .ok (.if_icmp .eq 757, 3) := dk_159 2 245 (dk_at dksL_law_23 0 rfl rfl)
theorem dL_law_677 : decode cL_law 677 = .ok (.iconst 0, 1) := dk_3 (dk_at dksL_law_23 3 rfl rfl)
theorem dL_law_678 : decode cL_law 678 = .ok (.ireturn, 1) := dk_172 (dk_at dksL_law_23 4 rfl rfl)
theorem dL_law_679 : decode cL_law 679 = .ok (.aload_n 1, 1) := dk_43 (dk_at dksL_law_23 5 rfl rfl)
theorem dL_law_680 : decode cL_law 680 = .ok (.aload_n 0, 1) := dk_42 (dk_at dksL_law_23 6 rfl rfl)
theorem dL_law_681 : decode cL_law 681 = .ok (.iload_n 3, 1) := dk_29 (dk_at dksL_law_23 7 rfl rfl)
theorem dL_law_682 : decode cL_law 682 = .ok (.iconst 1, 1) := dk_4 (dk_at dksL_law_23 8 rfl rfl)
theorem dL_law_683 : decode cL_law 683 = .ok (.iadd, 1) := dk_96 (dk_at dksL_law_23 9 rfl rfl)
theorem dL_law_684 : decode cL_law 684 = .ok (.iaload, 1) := dk_46 (dk_at dksL_law_23 10 rfl rfl)
theorem dL_law_685 : decode cL_law 685 = .ok (.invokevirtual 79, 3) := dk_182 0 79 (dk_at dksL_law_23 11 rfl rfl)
theorem dL_law_688 : decode cL_law 688 = .ok (.aload_n 2, 1) := dk_44 (dk_at dksL_law_23 14 rfl rfl)
theorem dL_law_689 : decode cL_law 689 = .ok (.aload_n 0, 1) := dk_42 (dk_at dksL_law_23 15 rfl rfl)
theorem dL_law_690 : decode cL_law 690 = .ok (.iload_n 3, 1) := dk_29 (dk_at dksL_law_23 16 rfl rfl)
theorem dL_law_691 : decode cL_law 691 = .ok (.iconst 1, 1) := dk_4 (dk_at dksL_law_23 17 rfl rfl)
theorem dL_law_692 : decode cL_law 692 = .ok (.iadd, 1) := dk_96 (dk_at dksL_law_23 18 rfl rfl)
theorem dL_law_693 : decode cL_law 693 = .ok (.iaload, 1) := dk_46 (dk_at dksL_law_23 19 rfl rfl)
theorem dL_law_694 : decode cL_law 694 = .ok (.invokevirtual 82, 3) := dk_182 0 82 (dk_at dksL_law_23 20 rfl rfl)
theorem dL_law_697 : decode cL_law 697 = .ok (.if_icmp .eq 734, 3) := dk_159 2 222 (dk_at dksL_law_24 0 rfl rfl)
theorem dL_law_700 : decode cL_law 700 = .ok (.iconst 0, 1) := dk_3 (dk_at dksL_law_24 3 rfl rfl)
theorem dL_law_701 : decode cL_law 701 = .ok (.ireturn, 1) := dk_172 (dk_at dksL_law_24 4 rfl rfl)
theorem dL_law_702 : decode cL_law 702 = .ok (.aload_n 1, 1) := dk_43 (dk_at dksL_law_24 5 rfl rfl)
theorem dL_law_703 : decode cL_law 703 = .ok (.aload_n 0, 1) := dk_42 (dk_at dksL_law_24 6 rfl rfl)
theorem dL_law_704 : decode cL_law 704 = .ok (.iload_n 3, 1) := dk_29 (dk_at dksL_law_24 7 rfl rfl)
theorem dL_law_705 : decode cL_law 705 = .ok (.iconst 1, 1) := dk_4 (dk_at dksL_law_24 8 rfl rfl)
theorem dL_law_706 : decode cL_law 706 = .ok (.iadd, 1) := dk_96 (dk_at dksL_law_24 9 rfl rfl)
theorem dL_law_707 : decode cL_law 707 = .ok (.iaload, 1) := dk_46 (dk_at dksL_law_24 10 rfl rfl)
theorem dL_law_708 : decode cL_law 708 = .ok (.aload_n 0, 1) := dk_42 (dk_at dksL_law_24 11 rfl rfl)
theorem dL_law_709 : decode cL_law 709 = .ok (.iload_n 3, 1) := dk_29 (dk_at dksL_law_24 12 rfl rfl)
theorem dL_law_710 : decode cL_law 710 = .ok (.iconst 2, 1) := dk_5 (dk_at dksL_law_24 13 rfl rfl)
theorem dL_law_711 : decode cL_law 711 = .ok (.iadd, 1) := dk_96 (dk_at dksL_law_24 14 rfl rfl)
theorem dL_law_712 : decode cL_law 712 = .ok (.iaload, 1) := dk_46 (dk_at dksL_law_24 15 rfl rfl)
theorem dL_law_713 : decode cL_law 713 = .ok (.aload_n 0, 1) := dk_42 (dk_at dksL_law_24 16 rfl rfl)
theorem dL_law_714 : decode cL_law 714 = .ok (.iload_n 3, 1) := dk_29 (dk_at dksL_law_24 17 rfl rfl)
theorem dL_law_715 : decode cL_law 715 = .ok (.iconst 3, 1) := dk_6 (dk_at dksL_law_24 18 rfl rfl)
theorem dL_law_716 : decode cL_law 716 = .ok (.iadd, 1) := dk_96 (dk_at dksL_law_24 19 rfl rfl)
theorem dL_law_717 : decode cL_law 717 = .ok (.iaload, 1) := dk_46 (dk_at dksL_law_24 20 rfl rfl)
theorem dL_law_718 : decode cL_law 718 = .ok (.invokevirtual 83, 3) := dk_182 0 83 (dk_at dksL_law_24 21 rfl rfl)
theorem dL_law_721 : decode cL_law 721 = .ok (.aload_n 2, 1) := dk_44 (dk_at dksL_law_25 0 rfl rfl)
theorem dL_law_722 : decode cL_law 722 = .ok (.aload_n 0, 1) := dk_42 (dk_at dksL_law_25 1 rfl rfl)
theorem dL_law_723 : decode cL_law 723 = .ok (.iload_n 3, 1) := dk_29 (dk_at dksL_law_25 2 rfl rfl)
theorem dL_law_724 : decode cL_law 724 = .ok (.iconst 1, 1) := dk_4 (dk_at dksL_law_25 3 rfl rfl)
theorem dL_law_725 : decode cL_law 725 = .ok (.iadd, 1) := dk_96 (dk_at dksL_law_25 4 rfl rfl)
theorem dL_law_726 : decode cL_law 726 = .ok (.iaload, 1) := dk_46 (dk_at dksL_law_25 5 rfl rfl)
theorem dL_law_727 : decode cL_law 727 = .ok (.aload_n 0, 1) := dk_42 (dk_at dksL_law_25 6 rfl rfl)
theorem dL_law_728 : decode cL_law 728 = .ok (.iload_n 3, 1) := dk_29 (dk_at dksL_law_25 7 rfl rfl)
theorem dL_law_729 : decode cL_law 729 = .ok (.iconst 2, 1) := dk_5 (dk_at dksL_law_25 8 rfl rfl)
theorem dL_law_730 : decode cL_law 730 = .ok (.iadd, 1) := dk_96 (dk_at dksL_law_25 9 rfl rfl)
theorem dL_law_731 : decode cL_law 731 = .ok (.iaload, 1) := dk_46 (dk_at dksL_law_25 10 rfl rfl)
theorem dL_law_732 : decode cL_law 732 = .ok (.aload_n 0, 1) := dk_42 (dk_at dksL_law_25 11 rfl rfl)
theorem dL_law_733 : decode cL_law 733 = .ok (.iload_n 3, 1) := dk_29 (dk_at dksL_law_25 12 rfl rfl)
theorem dL_law_734 : decode cL_law 734 = .ok (.iconst 3, 1) := dk_6 (dk_at dksL_law_25 13 rfl rfl)
theorem dL_law_735 : decode cL_law 735 = .ok (.iadd, 1) := dk_96 (dk_at dksL_law_25 14 rfl rfl)
theorem dL_law_736 : decode cL_law 736 = .ok (.iaload, 1) := dk_46 (dk_at dksL_law_25 15 rfl rfl)
theorem dL_law_737 : decode cL_law 737 = .ok (.invokevirtual 86, 3) := dk_182 0 86 (dk_at dksL_law_25 16 rfl rfl)
theorem dL_law_740 : decode cL_law 740 = .ok (.if_icmp .eq 691, 3) := dk_159 2 179 (dk_at dksL_law_25 19 rfl rfl)
theorem dL_law_743 : decode cL_law 743 = .ok (.iconst 0, 1) := dk_3 (dk_at dksL_law_25 22 rfl rfl)
theorem dL_law_744 : decode cL_law 744 = .ok (.ireturn, 1) := dk_172 (dk_at dksL_law_25 23 rfl rfl)
theorem dL_law_745 : decode cL_law 745 = .ok (.aload_n 1, 1) := dk_43 (dk_at dksL_law_26 0 rfl rfl)
theorem dL_law_746 : decode cL_law 746 = .ok (.aload_n 0, 1) := dk_42 (dk_at dksL_law_26 1 rfl rfl)
theorem dL_law_747 : decode cL_law 747 = .ok (.iload_n 3, 1) := dk_29 (dk_at dksL_law_26 2 rfl rfl)
theorem dL_law_748 : decode cL_law 748 = .ok (.iconst 1, 1) := dk_4 (dk_at dksL_law_26 3 rfl rfl)
theorem dL_law_749 : decode cL_law 749 = .ok (.iadd, 1) := dk_96 (dk_at dksL_law_26 4 rfl rfl)
theorem dL_law_750 : decode cL_law 750 = .ok (.iaload, 1) := dk_46 (dk_at dksL_law_26 5 rfl rfl)
theorem dL_law_751 : decode cL_law 751 = .ok (.aload_n 0, 1) := dk_42 (dk_at dksL_law_26 6 rfl rfl)
theorem dL_law_752 : decode cL_law 752 = .ok (.iload_n 3, 1) := dk_29 (dk_at dksL_law_26 7 rfl rfl)
theorem dL_law_753 : decode cL_law 753 = .ok (.iconst 2, 1) := dk_5 (dk_at dksL_law_26 8 rfl rfl)
theorem dL_law_754 : decode cL_law 754 = .ok (.iadd, 1) := dk_96 (dk_at dksL_law_26 9 rfl rfl)
theorem dL_law_755 : decode cL_law 755 = .ok (.iaload, 1) := dk_46 (dk_at dksL_law_26 10 rfl rfl)
theorem dL_law_756 : decode cL_law 756 = .ok (.invokevirtual 87, 3) := dk_182 0 87 (dk_at dksL_law_26 11 rfl rfl)
theorem dL_law_759 : decode cL_law 759 = .ok (.aload_n 2, 1) := dk_44 (dk_at dksL_law_26 14 rfl rfl)
theorem dL_law_760 : decode cL_law 760 = .ok (.aload_n 0, 1) := dk_42 (dk_at dksL_law_26 15 rfl rfl)
theorem dL_law_761 : decode cL_law 761 = .ok (.iload_n 3, 1) := dk_29 (dk_at dksL_law_26 16 rfl rfl)
theorem dL_law_762 : decode cL_law 762 = .ok (.iconst 1, 1) := dk_4 (dk_at dksL_law_26 17 rfl rfl)
theorem dL_law_763 : decode cL_law 763 = .ok (.iadd, 1) := dk_96 (dk_at dksL_law_26 18 rfl rfl)
theorem dL_law_764 : decode cL_law 764 = .ok (.iaload, 1) := dk_46 (dk_at dksL_law_26 19 rfl rfl)
theorem dL_law_765 : decode cL_law 765 = .ok (.aload_n 0, 1) := dk_42 (dk_at dksL_law_26 20 rfl rfl)
theorem dL_law_766 : decode cL_law 766 = .ok (.iload_n 3, 1) := dk_29 (dk_at dksL_law_26 21 rfl rfl)
theorem dL_law_767 : decode cL_law 767 = .ok (.iconst 2, 1) := dk_5 (dk_at dksL_law_26 22 rfl rfl)
theorem dL_law_768 : decode cL_law 768 = .ok (.iadd, 1) := dk_96 (dk_at dksL_law_26 23 rfl rfl)
theorem dL_law_769 : decode cL_law 769 = .ok (.iaload, 1) := dk_46 (dk_at dksL_law_27 0 rfl rfl)
theorem dL_law_770 : decode cL_law 770 = .ok (.invokevirtual 90, 3) := dk_182 0 90 (dk_at dksL_law_27 1 rfl rfl)
theorem dL_law_773 : decode cL_law 773 = .ok (.if_icmp .eq 658, 3) := dk_159 2 146 (dk_at dksL_law_27 4 rfl rfl)
theorem dL_law_776 : decode cL_law 776 = .ok (.iconst 0, 1) := dk_3 (dk_at dksL_law_27 7 rfl rfl)
theorem dL_law_777 : decode cL_law 777 = .ok (.ireturn, 1) := dk_172 (dk_at dksL_law_27 8 rfl rfl)
theorem dL_law_778 : decode cL_law 778 = .ok (.aload_n 1, 1) := dk_43 (dk_at dksL_law_27 9 rfl rfl)
theorem dL_law_779 : decode cL_law 779 = .ok (.aload_n 0, 1) := dk_42 (dk_at dksL_law_27 10 rfl rfl)
theorem dL_law_780 : decode cL_law 780 = .ok (.iload_n 3, 1) := dk_29 (dk_at dksL_law_27 11 rfl rfl)
theorem dL_law_781 : decode cL_law 781 = .ok (.iconst 1, 1) := dk_4 (dk_at dksL_law_27 12 rfl rfl)
theorem dL_law_782 : decode cL_law 782 = .ok (.iadd, 1) := dk_96 (dk_at dksL_law_27 13 rfl rfl)
theorem dL_law_783 : decode cL_law 783 = .ok (.iaload, 1) := dk_46 (dk_at dksL_law_27 14 rfl rfl)
theorem dL_law_784 : decode cL_law 784 = .ok (.aload_n 0, 1) := dk_42 (dk_at dksL_law_27 15 rfl rfl)
theorem dL_law_785 : decode cL_law 785 = .ok (.iload_n 3, 1) := dk_29 (dk_at dksL_law_27 16 rfl rfl)
theorem dL_law_786 : decode cL_law 786 = .ok (.iconst 2, 1) := dk_5 (dk_at dksL_law_27 17 rfl rfl)
theorem dL_law_787 : decode cL_law 787 = .ok (.iadd, 1) := dk_96 (dk_at dksL_law_27 18 rfl rfl)
theorem dL_law_788 : decode cL_law 788 = .ok (.iaload, 1) := dk_46 (dk_at dksL_law_27 19 rfl rfl)
theorem dL_law_789 : decode cL_law 789 = .ok (.aload_n 0, 1) := dk_42 (dk_at dksL_law_27 20 rfl rfl)
theorem dL_law_790 : decode cL_law 790 = .ok (.iload_n 3, 1) := dk_29 (dk_at dksL_law_27 21 rfl rfl)
theorem dL_law_791 : decode cL_law 791 = .ok (.iconst 3, 1) := dk_6 (dk_at dksL_law_27 22 rfl rfl)
theorem dL_law_792 : decode cL_law 792 = .ok (.iadd, 1) := dk_96 (dk_at dksL_law_27 23 rfl rfl)
theorem dL_law_793 : decode cL_law 793 = .ok (.iaload, 1) := dk_46 (dk_at dksL_law_28 0 rfl rfl)
theorem dL_law_794 : decode cL_law 794 = .ok (.invokevirtual 91, 3) := dk_182 0 91 (dk_at dksL_law_28 1 rfl rfl)
theorem dL_law_797 : decode cL_law 797 = .ok (.aload_n 2, 1) := dk_44 (dk_at dksL_law_28 4 rfl rfl)
theorem dL_law_798 : decode cL_law 798 = .ok (.aload_n 0, 1) := dk_42 (dk_at dksL_law_28 5 rfl rfl)
theorem dL_law_799 : decode cL_law 799 = .ok (.iload_n 3, 1) := dk_29 (dk_at dksL_law_28 6 rfl rfl)
theorem dL_law_800 : decode cL_law 800 = .ok (.iconst 1, 1) := dk_4 (dk_at dksL_law_28 7 rfl rfl)
theorem dL_law_801 : decode cL_law 801 = .ok (.iadd, 1) := dk_96 (dk_at dksL_law_28 8 rfl rfl)
theorem dL_law_802 : decode cL_law 802 = .ok (.iaload, 1) := dk_46 (dk_at dksL_law_28 9 rfl rfl)
theorem dL_law_803 : decode cL_law 803 = .ok (.aload_n 0, 1) := dk_42 (dk_at dksL_law_28 10 rfl rfl)
theorem dL_law_804 : decode cL_law 804 = .ok (.iload_n 3, 1) := dk_29 (dk_at dksL_law_28 11 rfl rfl)
theorem dL_law_805 : decode cL_law 805 = .ok (.iconst 2, 1) := dk_5 (dk_at dksL_law_28 12 rfl rfl)
theorem dL_law_806 : decode cL_law 806 = .ok (.iadd, 1) := dk_96 (dk_at dksL_law_28 13 rfl rfl)
theorem dL_law_807 : decode cL_law 807 = .ok (.iaload, 1) := dk_46 (dk_at dksL_law_28 14 rfl rfl)
theorem dL_law_808 : decode cL_law 808 = .ok (.aload_n 0, 1) := dk_42 (dk_at dksL_law_28 15 rfl rfl)
theorem dL_law_809 : decode cL_law 809 = .ok (.iload_n 3, 1) := dk_29 (dk_at dksL_law_28 16 rfl rfl)
theorem dL_law_810 : decode cL_law 810 = .ok (.iconst 3, 1) := dk_6 (dk_at dksL_law_28 17 rfl rfl)
theorem dL_law_811 : decode cL_law 811 = .ok (.iadd, 1) := dk_96 (dk_at dksL_law_28 18 rfl rfl)
theorem dL_law_812 : decode cL_law 812 = .ok (.iaload, 1) := dk_46 (dk_at dksL_law_28 19 rfl rfl)
theorem dL_law_813 : decode cL_law 813 = .ok (.invokevirtual 94, 3) := dk_182 0 94 (dk_at dksL_law_28 20 rfl rfl)
theorem dL_law_816 : decode cL_law 816 = .ok (.if_icmp .eq 615, 3) := dk_159 2 103 (dk_at dksL_law_29 0 rfl rfl)
theorem dL_law_819 : decode cL_law 819 = .ok (.iconst 0, 1) := dk_3 (dk_at dksL_law_29 3 rfl rfl)
theorem dL_law_820 : decode cL_law 820 = .ok (.ireturn, 1) := dk_172 (dk_at dksL_law_29 4 rfl rfl)
theorem dL_law_821 : decode cL_law 821 = .ok (.aload_n 1, 1) := dk_43 (dk_at dksL_law_29 5 rfl rfl)
theorem dL_law_822 : decode cL_law 822 = .ok (.aload_n 0, 1) := dk_42 (dk_at dksL_law_29 6 rfl rfl)
theorem dL_law_823 : decode cL_law 823 = .ok (.iload_n 3, 1) := dk_29 (dk_at dksL_law_29 7 rfl rfl)
theorem dL_law_824 : decode cL_law 824 = .ok (.iconst 1, 1) := dk_4 (dk_at dksL_law_29 8 rfl rfl)
theorem dL_law_825 : decode cL_law 825 = .ok (.iadd, 1) := dk_96 (dk_at dksL_law_29 9 rfl rfl)
theorem dL_law_826 : decode cL_law 826 = .ok (.iaload, 1) := dk_46 (dk_at dksL_law_29 10 rfl rfl)
theorem dL_law_827 : decode cL_law 827 = .ok (.aload_n 0, 1) := dk_42 (dk_at dksL_law_29 11 rfl rfl)
theorem dL_law_828 : decode cL_law 828 = .ok (.iload_n 3, 1) := dk_29 (dk_at dksL_law_29 12 rfl rfl)
theorem dL_law_829 : decode cL_law 829 = .ok (.iconst 2, 1) := dk_5 (dk_at dksL_law_29 13 rfl rfl)
theorem dL_law_830 : decode cL_law 830 = .ok (.iadd, 1) := dk_96 (dk_at dksL_law_29 14 rfl rfl)
theorem dL_law_831 : decode cL_law 831 = .ok (.iaload, 1) := dk_46 (dk_at dksL_law_29 15 rfl rfl)
theorem dL_law_832 : decode cL_law 832 = .ok (.aload_n 0, 1) := dk_42 (dk_at dksL_law_29 16 rfl rfl)
theorem dL_law_833 : decode cL_law 833 = .ok (.iload_n 3, 1) := dk_29 (dk_at dksL_law_29 17 rfl rfl)
theorem dL_law_834 : decode cL_law 834 = .ok (.iconst 3, 1) := dk_6 (dk_at dksL_law_29 18 rfl rfl)
theorem dL_law_835 : decode cL_law 835 = .ok (.iadd, 1) := dk_96 (dk_at dksL_law_29 19 rfl rfl)
theorem dL_law_836 : decode cL_law 836 = .ok (.iaload, 1) := dk_46 (dk_at dksL_law_29 20 rfl rfl)
theorem dL_law_837 : decode cL_law 837 = .ok (.invokevirtual 95, 3) := dk_182 0 95 (dk_at dksL_law_29 21 rfl rfl)
theorem dL_law_840 : decode cL_law 840 = .ok (.aload_n 2, 1) := dk_44 (dk_at dksL_law_30 0 rfl rfl)
theorem dL_law_841 : decode cL_law 841 = .ok (.aload_n 0, 1) := dk_42 (dk_at dksL_law_30 1 rfl rfl)
theorem dL_law_842 : decode cL_law 842 = .ok (.iload_n 3, 1) := dk_29 (dk_at dksL_law_30 2 rfl rfl)
theorem dL_law_843 : decode cL_law 843 = .ok (.iconst 1, 1) := dk_4 (dk_at dksL_law_30 3 rfl rfl)
theorem dL_law_844 : decode cL_law 844 = .ok (.iadd, 1) := dk_96 (dk_at dksL_law_30 4 rfl rfl)
theorem dL_law_845 : decode cL_law 845 = .ok (.iaload, 1) := dk_46 (dk_at dksL_law_30 5 rfl rfl)
theorem dL_law_846 : decode cL_law 846 = .ok (.aload_n 0, 1) := dk_42 (dk_at dksL_law_30 6 rfl rfl)
theorem dL_law_847 : decode cL_law 847 = .ok (.iload_n 3, 1) := dk_29 (dk_at dksL_law_30 7 rfl rfl)
theorem dL_law_848 : decode cL_law 848 = .ok (.iconst 2, 1) := dk_5 (dk_at dksL_law_30 8 rfl rfl)
theorem dL_law_849 : decode cL_law 849 = .ok (.iadd, 1) := dk_96 (dk_at dksL_law_30 9 rfl rfl)
theorem dL_law_850 : decode cL_law 850 = .ok (.iaload, 1) := dk_46 (dk_at dksL_law_30 10 rfl rfl)
theorem dL_law_851 : decode cL_law 851 = .ok (.aload_n 0, 1) := dk_42 (dk_at dksL_law_30 11 rfl rfl)
theorem dL_law_852 : decode cL_law 852 = .ok (.iload_n 3, 1) := dk_29 (dk_at dksL_law_30 12 rfl rfl)
theorem dL_law_853 : decode cL_law 853 = .ok (.iconst 3, 1) := dk_6 (dk_at dksL_law_30 13 rfl rfl)
theorem dL_law_854 : decode cL_law 854 = .ok (.iadd, 1) := dk_96 (dk_at dksL_law_30 14 rfl rfl)
theorem dL_law_855 : decode cL_law 855 = .ok (.iaload, 1) := dk_46 (dk_at dksL_law_30 15 rfl rfl)
theorem dL_law_856 : decode cL_law 856 = .ok (.invokevirtual 98, 3) := dk_182 0 98 (dk_at dksL_law_30 16 rfl rfl)
theorem dL_law_859 : decode cL_law 859 = .ok (.if_icmp .eq 572, 3) := dk_159 2 60 (dk_at dksL_law_30 19 rfl rfl)
theorem dL_law_862 : decode cL_law 862 = .ok (.iconst 0, 1) := dk_3 (dk_at dksL_law_30 22 rfl rfl)
theorem dL_law_863 : decode cL_law 863 = .ok (.ireturn, 1) := dk_172 (dk_at dksL_law_30 23 rfl rfl)
theorem dL_law_864 : decode cL_law 864 = .ok (.aload_n 1, 1) := dk_43 (dk_at dksL_law_31 0 rfl rfl)
theorem dL_law_865 : decode cL_law 865 = .ok (.aload_n 0, 1) := dk_42 (dk_at dksL_law_31 1 rfl rfl)
theorem dL_law_866 : decode cL_law 866 = .ok (.iload_n 3, 1) := dk_29 (dk_at dksL_law_31 2 rfl rfl)
theorem dL_law_867 : decode cL_law 867 = .ok (.iconst 1, 1) := dk_4 (dk_at dksL_law_31 3 rfl rfl)
theorem dL_law_868 : decode cL_law 868 = .ok (.iadd, 1) := dk_96 (dk_at dksL_law_31 4 rfl rfl)
theorem dL_law_869 : decode cL_law 869 = .ok (.iaload, 1) := dk_46 (dk_at dksL_law_31 5 rfl rfl)
theorem dL_law_870 : decode cL_law 870 = .ok (.aload_n 0, 1) := dk_42 (dk_at dksL_law_31 6 rfl rfl)
theorem dL_law_871 : decode cL_law 871 = .ok (.iload_n 3, 1) := dk_29 (dk_at dksL_law_31 7 rfl rfl)
theorem dL_law_872 : decode cL_law 872 = .ok (.iconst 2, 1) := dk_5 (dk_at dksL_law_31 8 rfl rfl)
theorem dL_law_873 : decode cL_law 873 = .ok (.iadd, 1) := dk_96 (dk_at dksL_law_31 9 rfl rfl)
theorem dL_law_874 : decode cL_law 874 = .ok (.iaload, 1) := dk_46 (dk_at dksL_law_31 10 rfl rfl)
theorem dL_law_875 : decode cL_law 875 = .ok (.invokevirtual 99, 3) := dk_182 0 99 (dk_at dksL_law_31 11 rfl rfl)
theorem dL_law_878 : decode cL_law 878 = .ok (.aload_n 2, 1) := dk_44 (dk_at dksL_law_31 14 rfl rfl)
theorem dL_law_879 : decode cL_law 879 = .ok (.aload_n 0, 1) := dk_42 (dk_at dksL_law_31 15 rfl rfl)
theorem dL_law_880 : decode cL_law 880 = .ok (.iload_n 3, 1) := dk_29 (dk_at dksL_law_31 16 rfl rfl)
theorem dL_law_881 : decode cL_law 881 = .ok (.iconst 1, 1) := dk_4 (dk_at dksL_law_31 17 rfl rfl)
theorem dL_law_882 : decode cL_law 882 = .ok (.iadd, 1) := dk_96 (dk_at dksL_law_31 18 rfl rfl)
theorem dL_law_883 : decode cL_law 883 = .ok (.iaload, 1) := dk_46 (dk_at dksL_law_31 19 rfl rfl)
theorem dL_law_884 : decode cL_law 884 = .ok (.aload_n 0, 1) := dk_42 (dk_at dksL_law_31 20 rfl rfl)
theorem dL_law_885 : decode cL_law 885 = .ok (.iload_n 3, 1) := dk_29 (dk_at dksL_law_31 21 rfl rfl)
theorem dL_law_886 : decode cL_law 886 = .ok (.iconst 2, 1) := dk_5 (dk_at dksL_law_31 22 rfl rfl)
theorem dL_law_887 : decode cL_law 887 = .ok (.iadd, 1) := dk_96 (dk_at dksL_law_31 23 rfl rfl)
theorem dL_law_888 : decode cL_law 888 = .ok (.iaload, 1) := dk_46 (dk_at dksL_law_32 0 rfl rfl)
theorem dL_law_889 : decode cL_law 889 = .ok (.invokevirtual 102, 3) := dk_182 0 102 (dk_at dksL_law_32 1 rfl rfl)
theorem dL_law_892 : decode cL_law 892 = .ok (.if_icmp .eq 539, 3) := dk_159 2 27 (dk_at dksL_law_32 4 rfl rfl)
theorem dL_law_895 : decode cL_law 895 = .ok (.iconst 0, 1) := dk_3 (dk_at dksL_law_32 7 rfl rfl)
theorem dL_law_896 : decode cL_law 896 = .ok (.ireturn, 1) := dk_172 (dk_at dksL_law_32 8 rfl rfl)
theorem dL_law_897 : decode cL_law 897 = .ok (.aload_n 1, 1) := dk_43 (dk_at dksL_law_32 9 rfl rfl)
theorem dL_law_898 : decode cL_law 898 = .ok (.aload_n 0, 1) := dk_42 (dk_at dksL_law_32 10 rfl rfl)
theorem dL_law_899 : decode cL_law 899 = .ok (.iload_n 3, 1) := dk_29 (dk_at dksL_law_32 11 rfl rfl)
theorem dL_law_900 : decode cL_law 900 = .ok (.iconst 1, 1) := dk_4 (dk_at dksL_law_32 12 rfl rfl)
theorem dL_law_901 : decode cL_law 901 = .ok (.iadd, 1) := dk_96 (dk_at dksL_law_32 13 rfl rfl)
theorem dL_law_902 : decode cL_law 902 = .ok (.iaload, 1) := dk_46 (dk_at dksL_law_32 14 rfl rfl)
theorem dL_law_903 : decode cL_law 903 = .ok (.aload_n 0, 1) := dk_42 (dk_at dksL_law_32 15 rfl rfl)
theorem dL_law_904 : decode cL_law 904 = .ok (.iload_n 3, 1) := dk_29 (dk_at dksL_law_32 16 rfl rfl)
theorem dL_law_905 : decode cL_law 905 = .ok (.iconst 2, 1) := dk_5 (dk_at dksL_law_32 17 rfl rfl)
theorem dL_law_906 : decode cL_law 906 = .ok (.iadd, 1) := dk_96 (dk_at dksL_law_32 18 rfl rfl)
theorem dL_law_907 : decode cL_law 907 = .ok (.iaload, 1) := dk_46 (dk_at dksL_law_32 19 rfl rfl)
theorem dL_law_908 : decode cL_law 908 = .ok (.invokevirtual 103, 3) := dk_182 0 103 (dk_at dksL_law_32 20 rfl rfl)
theorem dL_law_911 : decode cL_law 911 = .ok (.aload_n 2, 1) := dk_44 (dk_at dksL_law_32 23 rfl rfl)
theorem dL_law_912 : decode cL_law 912 = .ok (.aload_n 0, 1) := dk_42 (dk_at dksL_law_33 0 rfl rfl)
theorem dL_law_913 : decode cL_law 913 = .ok (.iload_n 3, 1) := dk_29 (dk_at dksL_law_33 1 rfl rfl)
theorem dL_law_914 : decode cL_law 914 = .ok (.iconst 1, 1) := dk_4 (dk_at dksL_law_33 2 rfl rfl)
theorem dL_law_915 : decode cL_law 915 = .ok (.iadd, 1) := dk_96 (dk_at dksL_law_33 3 rfl rfl)
theorem dL_law_916 : decode cL_law 916 = .ok (.iaload, 1) := dk_46 (dk_at dksL_law_33 4 rfl rfl)
theorem dL_law_917 : decode cL_law 917 = .ok (.aload_n 0, 1) := dk_42 (dk_at dksL_law_33 5 rfl rfl)
theorem dL_law_918 : decode cL_law 918 = .ok (.iload_n 3, 1) := dk_29 (dk_at dksL_law_33 6 rfl rfl)
theorem dL_law_919 : decode cL_law 919 = .ok (.iconst 2, 1) := dk_5 (dk_at dksL_law_33 7 rfl rfl)
theorem dL_law_920 : decode cL_law 920 = .ok (.iadd, 1) := dk_96 (dk_at dksL_law_33 8 rfl rfl)
theorem dL_law_921 : decode cL_law 921 = .ok (.iaload, 1) := dk_46 (dk_at dksL_law_33 9 rfl rfl)
theorem dL_law_922 : decode cL_law 922 = .ok (.invokevirtual 106, 3) := dk_182 0 106 (dk_at dksL_law_33 10 rfl rfl)
theorem dL_law_925 : decode cL_law 925 = .ok (.if_icmp .eq 506, 3) := dk_159 1 250 (dk_at dksL_law_33 13 rfl rfl)
theorem dL_law_928 : decode cL_law 928 = .ok (.iconst 0, 1) := dk_3 (dk_at dksL_law_33 16 rfl rfl)
theorem dL_law_929 : decode cL_law 929 = .ok (.ireturn, 1) := dk_172 (dk_at dksL_law_33 17 rfl rfl)
theorem dL_law_930 : decode cL_law 930 = .ok (.aload_n 1, 1) := dk_43 (dk_at dksL_law_33 18 rfl rfl)
theorem dL_law_931 : decode cL_law 931 = .ok (.aload_n 0, 1) := dk_42 (dk_at dksL_law_33 19 rfl rfl)
theorem dL_law_932 : decode cL_law 932 = .ok (.iload_n 3, 1) := dk_29 (dk_at dksL_law_33 20 rfl rfl)
theorem dL_law_933 : decode cL_law 933 = .ok (.iconst 1, 1) := dk_4 (dk_at dksL_law_33 21 rfl rfl)
theorem dL_law_934 : decode cL_law 934 = .ok (.iadd, 1) := dk_96 (dk_at dksL_law_33 22 rfl rfl)
theorem dL_law_935 : decode cL_law 935 = .ok (.iaload, 1) := dk_46 (dk_at dksL_law_33 23 rfl rfl)
theorem dL_law_936 : decode cL_law 936 = .ok (.aload_n 0, 1) := dk_42 (dk_at dksL_law_34 0 rfl rfl)
theorem dL_law_937 : decode cL_law 937 = .ok (.iload_n 3, 1) := dk_29 (dk_at dksL_law_34 1 rfl rfl)
theorem dL_law_938 : decode cL_law 938 = .ok (.iconst 2, 1) := dk_5 (dk_at dksL_law_34 2 rfl rfl)
theorem dL_law_939 : decode cL_law 939 = .ok (.iadd, 1) := dk_96 (dk_at dksL_law_34 3 rfl rfl)
theorem dL_law_940 : decode cL_law 940 = .ok (.iaload, 1) := dk_46 (dk_at dksL_law_34 4 rfl rfl)
theorem dL_law_941 : decode cL_law 941 = .ok (.aload_n 0, 1) := dk_42 (dk_at dksL_law_34 5 rfl rfl)
theorem dL_law_942 : decode cL_law 942 = .ok (.iload_n 3, 1) := dk_29 (dk_at dksL_law_34 6 rfl rfl)
theorem dL_law_943 : decode cL_law 943 = .ok (.iconst 3, 1) := dk_6 (dk_at dksL_law_34 7 rfl rfl)
theorem dL_law_944 : decode cL_law 944 = .ok (.iadd, 1) := dk_96 (dk_at dksL_law_34 8 rfl rfl)
theorem dL_law_945 : decode cL_law 945 = .ok (.iaload, 1) := dk_46 (dk_at dksL_law_34 9 rfl rfl)
theorem dL_law_946 : decode cL_law 946 = .ok (.invokevirtual 107, 3) := dk_182 0 107 (dk_at dksL_law_34 10 rfl rfl)
theorem dL_law_949 : decode cL_law 949 = .ok (.aload_n 2, 1) := dk_44 (dk_at dksL_law_34 13 rfl rfl)
theorem dL_law_950 : decode cL_law 950 = .ok (.aload_n 0, 1) := dk_42 (dk_at dksL_law_34 14 rfl rfl)
theorem dL_law_951 : decode cL_law 951 = .ok (.iload_n 3, 1) := dk_29 (dk_at dksL_law_34 15 rfl rfl)
theorem dL_law_952 : decode cL_law 952 = .ok (.iconst 1, 1) := dk_4 (dk_at dksL_law_34 16 rfl rfl)
theorem dL_law_953 : decode cL_law 953 = .ok (.iadd, 1) := dk_96 (dk_at dksL_law_34 17 rfl rfl)
theorem dL_law_954 : decode cL_law 954 = .ok (.iaload, 1) := dk_46 (dk_at dksL_law_34 18 rfl rfl)
theorem dL_law_955 : decode cL_law 955 = .ok (.aload_n 0, 1) := dk_42 (dk_at dksL_law_34 19 rfl rfl)
theorem dL_law_956 : decode cL_law 956 = .ok (.iload_n 3, 1) := dk_29 (dk_at dksL_law_34 20 rfl rfl)
theorem dL_law_957 : decode cL_law 957 = .ok (.iconst 2, 1) := dk_5 (dk_at dksL_law_34 21 rfl rfl)
theorem dL_law_958 : decode cL_law 958 = .ok (.iadd, 1) := dk_96 (dk_at dksL_law_34 22 rfl rfl)
theorem dL_law_959 : decode cL_law 959 = .ok (.iaload, 1) := dk_46 (dk_at dksL_law_34 23 rfl rfl)
theorem dL_law_960 : decode cL_law 960 = .ok (.aload_n 0, 1) := dk_42 (dk_at dksL_law_35 0 rfl rfl)
theorem dL_law_961 : decode cL_law 961 = .ok (.iload_n 3, 1) := dk_29 (dk_at dksL_law_35 1 rfl rfl)
theorem dL_law_962 : decode cL_law 962 = .ok (.iconst 3, 1) := dk_6 (dk_at dksL_law_35 2 rfl rfl)
theorem dL_law_963 : decode cL_law 963 = .ok (.iadd, 1) := dk_96 (dk_at dksL_law_35 3 rfl rfl)
theorem dL_law_964 : decode cL_law 964 = .ok (.iaload, 1) := dk_46 (dk_at dksL_law_35 4 rfl rfl)
theorem dL_law_965 : decode cL_law 965 = .ok (.invokevirtual 110, 3) := dk_182 0 110 (dk_at dksL_law_35 5 rfl rfl)
theorem dL_law_968 : decode cL_law 968 = .ok (.if_icmp .eq 463, 3) := dk_159 1 207 (dk_at dksL_law_35 8 rfl rfl)
theorem dL_law_971 : decode cL_law 971 = .ok (.iconst 0, 1) := dk_3 (dk_at dksL_law_35 11 rfl rfl)
theorem dL_law_972 : decode cL_law 972 = .ok (.ireturn, 1) := dk_172 (dk_at dksL_law_35 12 rfl rfl)
theorem dL_law_973 : decode cL_law 973 = .ok (.aload_n 1, 1) := dk_43 (dk_at dksL_law_35 13 rfl rfl)
theorem dL_law_974 : decode cL_law 974 = .ok (.aload_n 0, 1) := dk_42 (dk_at dksL_law_35 14 rfl rfl)
theorem dL_law_975 : decode cL_law 975 = .ok (.iload_n 3, 1) := dk_29 (dk_at dksL_law_35 15 rfl rfl)
theorem dL_law_976 : decode cL_law 976 = .ok (.iconst 1, 1) := dk_4 (dk_at dksL_law_35 16 rfl rfl)
theorem dL_law_977 : decode cL_law 977 = .ok (.iadd, 1) := dk_96 (dk_at dksL_law_35 17 rfl rfl)
theorem dL_law_978 : decode cL_law 978 = .ok (.iaload, 1) := dk_46 (dk_at dksL_law_35 18 rfl rfl)
theorem dL_law_979 : decode cL_law 979 = .ok (.aload_n 0, 1) := dk_42 (dk_at dksL_law_35 19 rfl rfl)
theorem dL_law_980 : decode cL_law 980 = .ok (.iload_n 3, 1) := dk_29 (dk_at dksL_law_35 20 rfl rfl)
theorem dL_law_981 : decode cL_law 981 = .ok (.iconst 2, 1) := dk_5 (dk_at dksL_law_35 21 rfl rfl)
theorem dL_law_982 : decode cL_law 982 = .ok (.iadd, 1) := dk_96 (dk_at dksL_law_35 22 rfl rfl)
theorem dL_law_983 : decode cL_law 983 = .ok (.iaload, 1) := dk_46 (dk_at dksL_law_35 23 rfl rfl)
theorem dL_law_984 : decode cL_law 984 = .ok (.invokevirtual 111, 3) := dk_182 0 111 (dk_at dksL_law_36 0 rfl rfl)
theorem dL_law_987 : decode cL_law 987 = .ok (.aload_n 2, 1) := dk_44 (dk_at dksL_law_36 3 rfl rfl)
theorem dL_law_988 : decode cL_law 988 = .ok (.aload_n 0, 1) := dk_42 (dk_at dksL_law_36 4 rfl rfl)
theorem dL_law_989 : decode cL_law 989 = .ok (.iload_n 3, 1) := dk_29 (dk_at dksL_law_36 5 rfl rfl)
theorem dL_law_990 : decode cL_law 990 = .ok (.iconst 1, 1) := dk_4 (dk_at dksL_law_36 6 rfl rfl)
theorem dL_law_991 : decode cL_law 991 = .ok (.iadd, 1) := dk_96 (dk_at dksL_law_36 7 rfl rfl)
theorem dL_law_992 : decode cL_law 992 = .ok (.iaload, 1) := dk_46 (dk_at dksL_law_36 8 rfl rfl)
theorem dL_law_993 : decode cL_law 993 = .ok (.aload_n 0, 1) := dk_42 (dk_at dksL_law_36 9 rfl rfl)
theorem dL_law_994 : decode cL_law 994 = .ok (.iload_n 3, 1) := dk_29 (dk_at dksL_law_36 10 rfl rfl)
theorem dL_law_995 : decode cL_law 995 = .ok (.iconst 2, 1) := dk_5 (dk_at dksL_law_36 11 rfl rfl)
theorem dL_law_996 : decode cL_law 996 = .ok (.iadd, 1) := dk_96 (dk_at dksL_law_36 12 rfl rfl)
theorem dL_law_997 : decode cL_law 997 = .ok (.iaload, 1) := dk_46 (dk_at dksL_law_36 13 rfl rfl)
theorem dL_law_998 : decode cL_law 998 = .ok (.invokevirtual 114, 3) := dk_182 0 114 (dk_at dksL_law_36 14 rfl rfl)
theorem dL_law_1001 : decode cL_law 1001 = .ok (.if_icmp .eq 430, 3) := dk_159 1 174 (dk_at dksL_law_36 17 rfl rfl)
theorem dL_law_1004 : decode cL_law 1004 = .ok (.iconst 0, 1) := dk_3 (dk_at dksL_law_36 20 rfl rfl)
theorem dL_law_1005 : decode cL_law 1005 = .ok (.ireturn, 1) := dk_172 (dk_at dksL_law_36 21 rfl rfl)
theorem dL_law_1006 : decode cL_law 1006 = .ok (.aload_n 1, 1) := dk_43 (dk_at dksL_law_36 22 rfl rfl)
theorem dL_law_1007 : decode cL_law 1007 = .ok (.aload_n 0, 1) := dk_42 (dk_at dksL_law_36 23 rfl rfl)
theorem dL_law_1008 : decode cL_law 1008 = .ok (.iload_n 3, 1) := dk_29 (dk_at dksL_law_37 0 rfl rfl)
theorem dL_law_1009 : decode cL_law 1009 = .ok (.iconst 1, 1) := dk_4 (dk_at dksL_law_37 1 rfl rfl)
theorem dL_law_1010 : decode cL_law 1010 = .ok (.iadd, 1) := dk_96 (dk_at dksL_law_37 2 rfl rfl)
theorem dL_law_1011 : decode cL_law 1011 = .ok (.iaload, 1) := dk_46 (dk_at dksL_law_37 3 rfl rfl)
theorem dL_law_1012 : decode cL_law 1012 = .ok (.aload_n 0, 1) := dk_42 (dk_at dksL_law_37 4 rfl rfl)
theorem dL_law_1013 : decode cL_law 1013 = .ok (.iload_n 3, 1) := dk_29 (dk_at dksL_law_37 5 rfl rfl)
theorem dL_law_1014 : decode cL_law 1014 = .ok (.iconst 2, 1) := dk_5 (dk_at dksL_law_37 6 rfl rfl)
theorem dL_law_1015 : decode cL_law 1015 = .ok (.iadd, 1) := dk_96 (dk_at dksL_law_37 7 rfl rfl)
theorem dL_law_1016 : decode cL_law 1016 = .ok (.iaload, 1) := dk_46 (dk_at dksL_law_37 8 rfl rfl)
theorem dL_law_1017 : decode cL_law 1017 = .ok (.invokevirtual 115, 3) := dk_182 0 115 (dk_at dksL_law_37 9 rfl rfl)
theorem dL_law_1020 : decode cL_law 1020 = .ok (.aload_n 2, 1) := dk_44 (dk_at dksL_law_37 12 rfl rfl)
theorem dL_law_1021 : decode cL_law 1021 = .ok (.aload_n 0, 1) := dk_42 (dk_at dksL_law_37 13 rfl rfl)
theorem dL_law_1022 : decode cL_law 1022 = .ok (.iload_n 3, 1) := dk_29 (dk_at dksL_law_37 14 rfl rfl)
theorem dL_law_1023 : decode cL_law 1023 = .ok (.iconst 1, 1) := dk_4 (dk_at dksL_law_37 15 rfl rfl)
theorem dL_law_1024 : decode cL_law 1024 = .ok (.iadd, 1) := dk_96 (dk_at dksL_law_37 16 rfl rfl)
theorem dL_law_1025 : decode cL_law 1025 = .ok (.iaload, 1) := dk_46 (dk_at dksL_law_37 17 rfl rfl)
theorem dL_law_1026 : decode cL_law 1026 = .ok (.aload_n 0, 1) := dk_42 (dk_at dksL_law_37 18 rfl rfl)
theorem dL_law_1027 : decode cL_law 1027 = .ok (.iload_n 3, 1) := dk_29 (dk_at dksL_law_37 19 rfl rfl)
theorem dL_law_1028 : decode cL_law 1028 = .ok (.iconst 2, 1) := dk_5 (dk_at dksL_law_37 20 rfl rfl)
theorem dL_law_1029 : decode cL_law 1029 = .ok (.iadd, 1) := dk_96 (dk_at dksL_law_37 21 rfl rfl)
theorem dL_law_1030 : decode cL_law 1030 = .ok (.iaload, 1) := dk_46 (dk_at dksL_law_37 22 rfl rfl)
theorem dL_law_1031 : decode cL_law 1031 = .ok (.invokevirtual 118, 3) := dk_182 0 118 (dk_at dksL_law_38 0 rfl rfl)
theorem dL_law_1034 : decode cL_law 1034 = .ok (.if_icmp .eq 397, 3) := dk_159 1 141 (dk_at dksL_law_38 3 rfl rfl)
theorem dL_law_1037 : decode cL_law 1037 = .ok (.iconst 0, 1) := dk_3 (dk_at dksL_law_38 6 rfl rfl)
theorem dL_law_1038 : decode cL_law 1038 = .ok (.ireturn, 1) := dk_172 (dk_at dksL_law_38 7 rfl rfl)
theorem dL_law_1039 : decode cL_law 1039 = .ok (.aload_n 1, 1) := dk_43 (dk_at dksL_law_38 8 rfl rfl)
theorem dL_law_1040 : decode cL_law 1040 = .ok (.invokevirtual 119, 3) := dk_182 0 119 (dk_at dksL_law_38 9 rfl rfl)
theorem dL_law_1043 : decode cL_law 1043 = .ok (.aload_n 2, 1) := dk_44 (dk_at dksL_law_38 12 rfl rfl)
theorem dL_law_1044 : decode cL_law 1044 = .ok (.invokevirtual 123, 3) := dk_182 0 123 (dk_at dksL_law_38 13 rfl rfl)
theorem dL_law_1047 : decode cL_law 1047 = .ok (.if_icmp .eq 384, 3) := dk_159 1 128 (dk_at dksL_law_38 16 rfl rfl)
theorem dL_law_1050 : decode cL_law 1050 = .ok (.iconst 0, 1) := dk_3 (dk_at dksL_law_38 19 rfl rfl)
theorem dL_law_1051 : decode cL_law 1051 = .ok (.ireturn, 1) := dk_172 (dk_at dksL_law_38 20 rfl rfl)
theorem dL_law_1052 : decode cL_law 1052 = .ok (.aload_n 1, 1) := dk_43 (dk_at dksL_law_38 21 rfl rfl)
theorem dL_law_1053 : decode cL_law 1053 = .ok (.aload_n 0, 1) := dk_42 (dk_at dksL_law_38 22 rfl rfl)
theorem dL_law_1054 : decode cL_law 1054 = .ok (.iload_n 3, 1) := dk_29 (dk_at dksL_law_38 23 rfl rfl)
theorem dL_law_1055 : decode cL_law 1055 = .ok (.iconst 1, 1) := dk_4 (dk_at dksL_law_39 0 rfl rfl)
theorem dL_law_1056 : decode cL_law 1056 = .ok (.iadd, 1) := dk_96 (dk_at dksL_law_39 1 rfl rfl)
theorem dL_law_1057 : decode cL_law 1057 = .ok (.iaload, 1) := dk_46 (dk_at dksL_law_39 2 rfl rfl)
theorem dL_law_1058 : decode cL_law 1058 = .ok (.aload_n 0, 1) := dk_42 (dk_at dksL_law_39 3 rfl rfl)
theorem dL_law_1059 : decode cL_law 1059 = .ok (.iload_n 3, 1) := dk_29 (dk_at dksL_law_39 4 rfl rfl)
theorem dL_law_1060 : decode cL_law 1060 = .ok (.iconst 2, 1) := dk_5 (dk_at dksL_law_39 5 rfl rfl)
theorem dL_law_1061 : decode cL_law 1061 = .ok (.iadd, 1) := dk_96 (dk_at dksL_law_39 6 rfl rfl)
theorem dL_law_1062 : decode cL_law 1062 = .ok (.iaload, 1) := dk_46 (dk_at dksL_law_39 7 rfl rfl)
theorem dL_law_1063 : decode cL_law 1063 = .ok (.aload_n 0, 1) := dk_42 (dk_at dksL_law_39 8 rfl rfl)
theorem dL_law_1064 : decode cL_law 1064 = .ok (.iload_n 3, 1) := dk_29 (dk_at dksL_law_39 9 rfl rfl)
theorem dL_law_1065 : decode cL_law 1065 = .ok (.iconst 3, 1) := dk_6 (dk_at dksL_law_39 10 rfl rfl)
theorem dL_law_1066 : decode cL_law 1066 = .ok (.iadd, 1) := dk_96 (dk_at dksL_law_39 11 rfl rfl)
theorem dL_law_1067 : decode cL_law 1067 = .ok (.iaload, 1) := dk_46 (dk_at dksL_law_39 12 rfl rfl)
theorem dL_law_1068 : decode cL_law 1068 = .ok (.invokevirtual 124, 3) := dk_182 0 124 (dk_at dksL_law_39 13 rfl rfl)
theorem dL_law_1071 : decode cL_law 1071 = .ok (.aload_n 2, 1) := dk_44 (dk_at dksL_law_39 16 rfl rfl)
theorem dL_law_1072 : decode cL_law 1072 = .ok (.aload_n 0, 1) := dk_42 (dk_at dksL_law_39 17 rfl rfl)
theorem dL_law_1073 : decode cL_law 1073 = .ok (.iload_n 3, 1) := dk_29 (dk_at dksL_law_39 18 rfl rfl)
theorem dL_law_1074 : decode cL_law 1074 = .ok (.iconst 1, 1) := dk_4 (dk_at dksL_law_39 19 rfl rfl)
theorem dL_law_1075 : decode cL_law 1075 = .ok (.iadd, 1) := dk_96 (dk_at dksL_law_39 20 rfl rfl)
theorem dL_law_1076 : decode cL_law 1076 = .ok (.iaload, 1) := dk_46 (dk_at dksL_law_39 21 rfl rfl)
theorem dL_law_1077 : decode cL_law 1077 = .ok (.aload_n 0, 1) := dk_42 (dk_at dksL_law_39 22 rfl rfl)
theorem dL_law_1078 : decode cL_law 1078 = .ok (.iload_n 3, 1) := dk_29 (dk_at dksL_law_39 23 rfl rfl)
theorem dL_law_1079 : decode cL_law 1079 = .ok (.iconst 2, 1) := dk_5 (dk_at dksL_law_40 0 rfl rfl)
theorem dL_law_1080 : decode cL_law 1080 = .ok (.iadd, 1) := dk_96 (dk_at dksL_law_40 1 rfl rfl)
theorem dL_law_1081 : decode cL_law 1081 = .ok (.iaload, 1) := dk_46 (dk_at dksL_law_40 2 rfl rfl)
theorem dL_law_1082 : decode cL_law 1082 = .ok (.aload_n 0, 1) := dk_42 (dk_at dksL_law_40 3 rfl rfl)
theorem dL_law_1083 : decode cL_law 1083 = .ok (.iload_n 3, 1) := dk_29 (dk_at dksL_law_40 4 rfl rfl)
theorem dL_law_1084 : decode cL_law 1084 = .ok (.iconst 3, 1) := dk_6 (dk_at dksL_law_40 5 rfl rfl)
theorem dL_law_1085 : decode cL_law 1085 = .ok (.iadd, 1) := dk_96 (dk_at dksL_law_40 6 rfl rfl)
theorem dL_law_1086 : decode cL_law 1086 = .ok (.iaload, 1) := dk_46 (dk_at dksL_law_40 7 rfl rfl)
theorem dL_law_1087 : decode cL_law 1087 = .ok (.invokevirtual 127, 3) := dk_182 0 127 (dk_at dksL_law_40 8 rfl rfl)
theorem dL_law_1090 : decode cL_law 1090 = .ok (.if_icmp .eq 341, 3) := dk_159 1 85 (dk_at dksL_law_40 11 rfl rfl)
theorem dL_law_1093 : decode cL_law 1093 = .ok (.iconst 0, 1) := dk_3 (dk_at dksL_law_40 14 rfl rfl)
theorem dL_law_1094 : decode cL_law 1094 = .ok (.ireturn, 1) := dk_172 (dk_at dksL_law_40 15 rfl rfl)
theorem dL_law_1095 : decode cL_law 1095 = .ok (.aload_n 1, 1) := dk_43 (dk_at dksL_law_40 16 rfl rfl)
theorem dL_law_1096 : decode cL_law 1096 = .ok (.aload_n 0, 1) := dk_42 (dk_at dksL_law_40 17 rfl rfl)
theorem dL_law_1097 : decode cL_law 1097 = .ok (.iload_n 3, 1) := dk_29 (dk_at dksL_law_40 18 rfl rfl)
theorem dL_law_1098 : decode cL_law 1098 = .ok (.iconst 1, 1) := dk_4 (dk_at dksL_law_40 19 rfl rfl)
theorem dL_law_1099 : decode cL_law 1099 = .ok (.iadd, 1) := dk_96 (dk_at dksL_law_40 20 rfl rfl)
theorem dL_law_1100 : decode cL_law 1100 = .ok (.iaload, 1) := dk_46 (dk_at dksL_law_40 21 rfl rfl)
theorem dL_law_1101 : decode cL_law 1101 = .ok (.invokevirtual 128, 3) := dk_182 0 128 (dk_at dksL_law_41 0 rfl rfl)
theorem dL_law_1104 : decode cL_law 1104 = .ok (.aload_n 2, 1) := dk_44 (dk_at dksL_law_41 3 rfl rfl)
theorem dL_law_1105 : decode cL_law 1105 = .ok (.aload_n 0, 1) := dk_42 (dk_at dksL_law_41 4 rfl rfl)
theorem dL_law_1106 : decode cL_law 1106 = .ok (.iload_n 3, 1) := dk_29 (dk_at dksL_law_41 5 rfl rfl)
theorem dL_law_1107 : decode cL_law 1107 = .ok (.iconst 1, 1) := dk_4 (dk_at dksL_law_41 6 rfl rfl)
theorem dL_law_1108 : decode cL_law 1108 = .ok (.iadd, 1) := dk_96 (dk_at dksL_law_41 7 rfl rfl)
theorem dL_law_1109 : decode cL_law 1109 = .ok (.iaload, 1) := dk_46 (dk_at dksL_law_41 8 rfl rfl)
theorem dL_law_1110 : decode cL_law 1110 = .ok (.invokevirtual 131, 3) := dk_182 0 131 (dk_at dksL_law_41 9 rfl rfl)
theorem dL_law_1113 : decode cL_law 1113 = .ok (.if_icmp .eq 318, 3) := dk_159 1 62 (dk_at dksL_law_41 12 rfl rfl)
theorem dL_law_1116 : decode cL_law 1116 = .ok (.iconst 0, 1) := dk_3 (dk_at dksL_law_41 15 rfl rfl)
theorem dL_law_1117 : decode cL_law 1117 = .ok (.ireturn, 1) := dk_172 (dk_at dksL_law_41 16 rfl rfl)
theorem dL_law_1118 : decode cL_law 1118 = .ok (.aload_n 1, 1) := dk_43 (dk_at dksL_law_41 17 rfl rfl)
theorem dL_law_1119 : decode cL_law 1119 = .ok (.aload_n 0, 1) := dk_42 (dk_at dksL_law_41 18 rfl rfl)
theorem dL_law_1120 : decode cL_law 1120 = .ok (.iload_n 3, 1) := dk_29 (dk_at dksL_law_41 19 rfl rfl)
theorem dL_law_1121 : decode cL_law 1121 = .ok (.iconst 1, 1) := dk_4 (dk_at dksL_law_41 20 rfl rfl)
theorem dL_law_1122 : decode cL_law 1122 = .ok (.iadd, 1) := dk_96 (dk_at dksL_law_41 21 rfl rfl)
theorem dL_law_1123 : decode cL_law 1123 = .ok (.iaload, 1) := dk_46 (dk_at dksL_law_41 22 rfl rfl)
theorem dL_law_1124 : decode cL_law 1124 = .ok (.aload_n 0, 1) := dk_42 (dk_at dksL_law_41 23 rfl rfl)
theorem dL_law_1125 : decode cL_law 1125 = .ok (.iload_n 3, 1) := dk_29 (dk_at dksL_law_42 0 rfl rfl)
theorem dL_law_1126 : decode cL_law 1126 = .ok (.iconst 2, 1) := dk_5 (dk_at dksL_law_42 1 rfl rfl)
theorem dL_law_1127 : decode cL_law 1127 = .ok (.iadd, 1) := dk_96 (dk_at dksL_law_42 2 rfl rfl)
theorem dL_law_1128 : decode cL_law 1128 = .ok (.iaload, 1) := dk_46 (dk_at dksL_law_42 3 rfl rfl)
theorem dL_law_1129 : decode cL_law 1129 = .ok (.aload_n 0, 1) := dk_42 (dk_at dksL_law_42 4 rfl rfl)
theorem dL_law_1130 : decode cL_law 1130 = .ok (.iload_n 3, 1) := dk_29 (dk_at dksL_law_42 5 rfl rfl)
theorem dL_law_1131 : decode cL_law 1131 = .ok (.iconst 3, 1) := dk_6 (dk_at dksL_law_42 6 rfl rfl)
theorem dL_law_1132 : decode cL_law 1132 = .ok (.iadd, 1) := dk_96 (dk_at dksL_law_42 7 rfl rfl)
theorem dL_law_1133 : decode cL_law 1133 = .ok (.iaload, 1) := dk_46 (dk_at dksL_law_42 8 rfl rfl)
theorem dL_law_1134 : decode cL_law 1134 = .ok (.invokevirtual 132, 3) := dk_182 0 132 (dk_at dksL_law_42 9 rfl rfl)
theorem dL_law_1137 : decode cL_law 1137 = .ok (.aload_n 2, 1) := dk_44 (dk_at dksL_law_42 12 rfl rfl)
theorem dL_law_1138 : decode cL_law 1138 = .ok (.aload_n 0, 1) := dk_42 (dk_at dksL_law_42 13 rfl rfl)
theorem dL_law_1139 : decode cL_law 1139 = .ok (.iload_n 3, 1) := dk_29 (dk_at dksL_law_42 14 rfl rfl)
theorem dL_law_1140 : decode cL_law 1140 = .ok (.iconst 1, 1) := dk_4 (dk_at dksL_law_42 15 rfl rfl)
theorem dL_law_1141 : decode cL_law 1141 = .ok (.iadd, 1) := dk_96 (dk_at dksL_law_42 16 rfl rfl)
theorem dL_law_1142 : decode cL_law 1142 = .ok (.iaload, 1) := dk_46 (dk_at dksL_law_42 17 rfl rfl)
theorem dL_law_1143 : decode cL_law 1143 = .ok (.aload_n 0, 1) := dk_42 (dk_at dksL_law_42 18 rfl rfl)
theorem dL_law_1144 : decode cL_law 1144 = .ok (.iload_n 3, 1) := dk_29 (dk_at dksL_law_42 19 rfl rfl)
theorem dL_law_1145 : decode cL_law 1145 = .ok (.iconst 2, 1) := dk_5 (dk_at dksL_law_42 20 rfl rfl)
theorem dL_law_1146 : decode cL_law 1146 = .ok (.iadd, 1) := dk_96 (dk_at dksL_law_42 21 rfl rfl)
theorem dL_law_1147 : decode cL_law 1147 = .ok (.iaload, 1) := dk_46 (dk_at dksL_law_42 22 rfl rfl)
theorem dL_law_1148 : decode cL_law 1148 = .ok (.aload_n 0, 1) := dk_42 (dk_at dksL_law_42 23 rfl rfl)
theorem dL_law_1149 : decode cL_law 1149 = .ok (.iload_n 3, 1) := dk_29 (dk_at dksL_law_43 0 rfl rfl)
theorem dL_law_1150 : decode cL_law 1150 = .ok (.iconst 3, 1) := dk_6 (dk_at dksL_law_43 1 rfl rfl)
theorem dL_law_1151 : decode cL_law 1151 = .ok (.iadd, 1) := dk_96 (dk_at dksL_law_43 2 rfl rfl)
theorem dL_law_1152 : decode cL_law 1152 = .ok (.iaload, 1) := dk_46 (dk_at dksL_law_43 3 rfl rfl)
theorem dL_law_1153 : decode cL_law 1153 = .ok (.invokevirtual 135, 3) := dk_182 0 135 (dk_at dksL_law_43 4 rfl rfl)
theorem dL_law_1156 : decode cL_law 1156 = .ok (.if_icmp .eq 275, 3) := dk_159 1 19 (dk_at dksL_law_43 7 rfl rfl)
theorem dL_law_1159 : decode cL_law 1159 = .ok (.iconst 0, 1) := dk_3 (dk_at dksL_law_43 10 rfl rfl)
theorem dL_law_1160 : decode cL_law 1160 = .ok (.ireturn, 1) := dk_172 (dk_at dksL_law_43 11 rfl rfl)
theorem dL_law_1161 : decode cL_law 1161 = .ok (.aload_n 1, 1) := dk_43 (dk_at dksL_law_43 12 rfl rfl)
theorem dL_law_1162 : decode cL_law 1162 = .ok (.aload_n 0, 1) := dk_42 (dk_at dksL_law_43 13 rfl rfl)
theorem dL_law_1163 : decode cL_law 1163 = .ok (.iload_n 3, 1) := dk_29 (dk_at dksL_law_43 14 rfl rfl)
theorem dL_law_1164 : decode cL_law 1164 = .ok (.iconst 1, 1) := dk_4 (dk_at dksL_law_43 15 rfl rfl)
theorem dL_law_1165 : decode cL_law 1165 = .ok (.iadd, 1) := dk_96 (dk_at dksL_law_43 16 rfl rfl)
theorem dL_law_1166 : decode cL_law 1166 = .ok (.iaload, 1) := dk_46 (dk_at dksL_law_43 17 rfl rfl)
theorem dL_law_1167 : decode cL_law 1167 = .ok (.aload_n 0, 1) := dk_42 (dk_at dksL_law_43 18 rfl rfl)
theorem dL_law_1168 : decode cL_law 1168 = .ok (.iload_n 3, 1) := dk_29 (dk_at dksL_law_43 19 rfl rfl)
theorem dL_law_1169 : decode cL_law 1169 = .ok (.iconst 2, 1) := dk_5 (dk_at dksL_law_43 20 rfl rfl)
theorem dL_law_1170 : decode cL_law 1170 = .ok (.iadd, 1) := dk_96 (dk_at dksL_law_43 21 rfl rfl)
theorem dL_law_1171 : decode cL_law 1171 = .ok (.iaload, 1) := dk_46 (dk_at dksL_law_43 22 rfl rfl)
theorem dL_law_1172 : decode cL_law 1172 = .ok (.aload_n 0, 1) := dk_42 (dk_at dksL_law_43 23 rfl rfl)
theorem dL_law_1173 : decode cL_law 1173 = .ok (.iload_n 3, 1) := dk_29 (dk_at dksL_law_44 0 rfl rfl)
theorem dL_law_1174 : decode cL_law 1174 = .ok (.iconst 3, 1) := dk_6 (dk_at dksL_law_44 1 rfl rfl)
theorem dL_law_1175 : decode cL_law 1175 = .ok (.iadd, 1) := dk_96 (dk_at dksL_law_44 2 rfl rfl)
theorem dL_law_1176 : decode cL_law 1176 = .ok (.iaload, 1) := dk_46 (dk_at dksL_law_44 3 rfl rfl)
theorem dL_law_1177 : decode cL_law 1177 = .ok (.invokevirtual 136, 3) := dk_182 0 136 (dk_at dksL_law_44 4 rfl rfl)
theorem dL_law_1180 : decode cL_law 1180 = .ok (.aload_n 2, 1) := dk_44 (dk_at dksL_law_44 7 rfl rfl)
theorem dL_law_1181 : decode cL_law 1181 = .ok (.aload_n 0, 1) := dk_42 (dk_at dksL_law_44 8 rfl rfl)
theorem dL_law_1182 : decode cL_law 1182 = .ok (.iload_n 3, 1) := dk_29 (dk_at dksL_law_44 9 rfl rfl)
theorem dL_law_1183 : decode cL_law 1183 = .ok (.iconst 1, 1) := dk_4 (dk_at dksL_law_44 10 rfl rfl)
theorem dL_law_1184 : decode cL_law 1184 = .ok (.iadd, 1) := dk_96 (dk_at dksL_law_44 11 rfl rfl)
theorem dL_law_1185 : decode cL_law 1185 = .ok (.iaload, 1) := dk_46 (dk_at dksL_law_44 12 rfl rfl)
theorem dL_law_1186 : decode cL_law 1186 = .ok (.aload_n 0, 1) := dk_42 (dk_at dksL_law_44 13 rfl rfl)
theorem dL_law_1187 : decode cL_law 1187 = .ok (.iload_n 3, 1) := dk_29 (dk_at dksL_law_44 14 rfl rfl)
theorem dL_law_1188 : decode cL_law 1188 = .ok (.iconst 2, 1) := dk_5 (dk_at dksL_law_44 15 rfl rfl)
theorem dL_law_1189 : decode cL_law 1189 = .ok (.iadd, 1) := dk_96 (dk_at dksL_law_44 16 rfl rfl)
theorem dL_law_1190 : decode cL_law 1190 = .ok (.iaload, 1) := dk_46 (dk_at dksL_law_44 17 rfl rfl)
theorem dL_law_1191 : decode cL_law 1191 = .ok (.aload_n 0, 1) := dk_42 (dk_at dksL_law_44 18 rfl rfl)
theorem dL_law_1192 : decode cL_law 1192 = .ok (.iload_n 3, 1) := dk_29 (dk_at dksL_law_44 19 rfl rfl)
theorem dL_law_1193 : decode cL_law 1193 = .ok (.iconst 3, 1) := dk_6 (dk_at dksL_law_44 20 rfl rfl)
theorem dL_law_1194 : decode cL_law 1194 = .ok (.iadd, 1) := dk_96 (dk_at dksL_law_44 21 rfl rfl)
theorem dL_law_1195 : decode cL_law 1195 = .ok (.iaload, 1) := dk_46 (dk_at dksL_law_44 22 rfl rfl)
theorem dL_law_1196 : decode cL_law 1196 = .ok (.invokevirtual 139, 3) := dk_182 0 139 (dk_at dksL_law_45 0 rfl rfl)
theorem dL_law_1199 : decode cL_law 1199 = .ok (.if_icmp .eq 232, 3) := dk_159 0 232 (dk_at dksL_law_45 3 rfl rfl)
theorem dL_law_1202 : decode cL_law 1202 = .ok (.iconst 0, 1) := dk_3 (dk_at dksL_law_45 6 rfl rfl)
theorem dL_law_1203 : decode cL_law 1203 = .ok (.ireturn, 1) := dk_172 (dk_at dksL_law_45 7 rfl rfl)
theorem dL_law_1204 : decode cL_law 1204 = .ok (.aload_n 1, 1) := dk_43 (dk_at dksL_law_45 8 rfl rfl)
theorem dL_law_1205 : decode cL_law 1205 = .ok (.aload_n 0, 1) := dk_42 (dk_at dksL_law_45 9 rfl rfl)
theorem dL_law_1206 : decode cL_law 1206 = .ok (.iload_n 3, 1) := dk_29 (dk_at dksL_law_45 10 rfl rfl)
theorem dL_law_1207 : decode cL_law 1207 = .ok (.iconst 1, 1) := dk_4 (dk_at dksL_law_45 11 rfl rfl)
theorem dL_law_1208 : decode cL_law 1208 = .ok (.iadd, 1) := dk_96 (dk_at dksL_law_45 12 rfl rfl)
theorem dL_law_1209 : decode cL_law 1209 = .ok (.iaload, 1) := dk_46 (dk_at dksL_law_45 13 rfl rfl)
theorem dL_law_1210 : decode cL_law 1210 = .ok (.aload_n 0, 1) := dk_42 (dk_at dksL_law_45 14 rfl rfl)
theorem dL_law_1211 : decode cL_law 1211 = .ok (.iload_n 3, 1) := dk_29 (dk_at dksL_law_45 15 rfl rfl)
theorem dL_law_1212 : decode cL_law 1212 = .ok (.iconst 2, 1) := dk_5 (dk_at dksL_law_45 16 rfl rfl)
theorem dL_law_1213 : decode cL_law 1213 = .ok (.iadd, 1) := dk_96 (dk_at dksL_law_45 17 rfl rfl)
theorem dL_law_1214 : decode cL_law 1214 = .ok (.iaload, 1) := dk_46 (dk_at dksL_law_45 18 rfl rfl)
theorem dL_law_1215 : decode cL_law 1215 = .ok (.aload_n 0, 1) := dk_42 (dk_at dksL_law_45 19 rfl rfl)
theorem dL_law_1216 : decode cL_law 1216 = .ok (.iload_n 3, 1) := dk_29 (dk_at dksL_law_45 20 rfl rfl)
theorem dL_law_1217 : decode cL_law 1217 = .ok (.iconst 3, 1) := dk_6 (dk_at dksL_law_45 21 rfl rfl)
theorem dL_law_1218 : decode cL_law 1218 = .ok (.iadd, 1) := dk_96 (dk_at dksL_law_45 22 rfl rfl)
theorem dL_law_1219 : decode cL_law 1219 = .ok (.iaload, 1) := dk_46 (dk_at dksL_law_45 23 rfl rfl)
theorem dL_law_1220 : decode cL_law 1220 = .ok (.aload_n 0, 1) := dk_42 (dk_at dksL_law_46 0 rfl rfl)
theorem dL_law_1221 : decode cL_law 1221 = .ok (.iload_n 3, 1) := dk_29 (dk_at dksL_law_46 1 rfl rfl)
theorem dL_law_1222 : decode cL_law 1222 = .ok (.iconst 4, 1) := dk_7 (dk_at dksL_law_46 2 rfl rfl)
theorem dL_law_1223 : decode cL_law 1223 = .ok (.iadd, 1) := dk_96 (dk_at dksL_law_46 3 rfl rfl)
theorem dL_law_1224 : decode cL_law 1224 = .ok (.iaload, 1) := dk_46 (dk_at dksL_law_46 4 rfl rfl)
theorem dL_law_1225 : decode cL_law 1225 = .ok (.aload_n 0, 1) := dk_42 (dk_at dksL_law_46 5 rfl rfl)
theorem dL_law_1226 : decode cL_law 1226 = .ok (.iload_n 3, 1) := dk_29 (dk_at dksL_law_46 6 rfl rfl)
theorem dL_law_1227 : decode cL_law 1227 = .ok (.iconst 5, 1) := dk_8 (dk_at dksL_law_46 7 rfl rfl)
theorem dL_law_1228 : decode cL_law 1228 = .ok (.iadd, 1) := dk_96 (dk_at dksL_law_46 8 rfl rfl)
theorem dL_law_1229 : decode cL_law 1229 = .ok (.iaload, 1) := dk_46 (dk_at dksL_law_46 9 rfl rfl)
theorem dL_law_1230 : decode cL_law 1230 = .ok (.invokevirtual 140, 3) := dk_182 0 140 (dk_at dksL_law_46 10 rfl rfl)
theorem dL_law_1233 : decode cL_law 1233 = .ok (.aload_n 2, 1) := dk_44 (dk_at dksL_law_46 13 rfl rfl)
theorem dL_law_1234 : decode cL_law 1234 = .ok (.aload_n 0, 1) := dk_42 (dk_at dksL_law_46 14 rfl rfl)
theorem dL_law_1235 : decode cL_law 1235 = .ok (.iload_n 3, 1) := dk_29 (dk_at dksL_law_46 15 rfl rfl)
theorem dL_law_1236 : decode cL_law 1236 = .ok (.iconst 1, 1) := dk_4 (dk_at dksL_law_46 16 rfl rfl)
theorem dL_law_1237 : decode cL_law 1237 = .ok (.iadd, 1) := dk_96 (dk_at dksL_law_46 17 rfl rfl)
theorem dL_law_1238 : decode cL_law 1238 = .ok (.iaload, 1) := dk_46 (dk_at dksL_law_46 18 rfl rfl)
theorem dL_law_1239 : decode cL_law 1239 = .ok (.aload_n 0, 1) := dk_42 (dk_at dksL_law_46 19 rfl rfl)
theorem dL_law_1240 : decode cL_law 1240 = .ok (.iload_n 3, 1) := dk_29 (dk_at dksL_law_46 20 rfl rfl)
theorem dL_law_1241 : decode cL_law 1241 = .ok (.iconst 2, 1) := dk_5 (dk_at dksL_law_46 21 rfl rfl)
theorem dL_law_1242 : decode cL_law 1242 = .ok (.iadd, 1) := dk_96 (dk_at dksL_law_46 22 rfl rfl)
theorem dL_law_1243 : decode cL_law 1243 = .ok (.iaload, 1) := dk_46 (dk_at dksL_law_46 23 rfl rfl)
theorem dL_law_1244 : decode cL_law 1244 = .ok (.aload_n 0, 1) := dk_42 (dk_at dksL_law_47 0 rfl rfl)
theorem dL_law_1245 : decode cL_law 1245 = .ok (.iload_n 3, 1) := dk_29 (dk_at dksL_law_47 1 rfl rfl)
theorem dL_law_1246 : decode cL_law 1246 = .ok (.iconst 3, 1) := dk_6 (dk_at dksL_law_47 2 rfl rfl)
theorem dL_law_1247 : decode cL_law 1247 = .ok (.iadd, 1) := dk_96 (dk_at dksL_law_47 3 rfl rfl)
theorem dL_law_1248 : decode cL_law 1248 = .ok (.iaload, 1) := dk_46 (dk_at dksL_law_47 4 rfl rfl)
theorem dL_law_1249 : decode cL_law 1249 = .ok (.aload_n 0, 1) := dk_42 (dk_at dksL_law_47 5 rfl rfl)
theorem dL_law_1250 : decode cL_law 1250 = .ok (.iload_n 3, 1) := dk_29 (dk_at dksL_law_47 6 rfl rfl)
theorem dL_law_1251 : decode cL_law 1251 = .ok (.iconst 4, 1) := dk_7 (dk_at dksL_law_47 7 rfl rfl)
theorem dL_law_1252 : decode cL_law 1252 = .ok (.iadd, 1) := dk_96 (dk_at dksL_law_47 8 rfl rfl)
theorem dL_law_1253 : decode cL_law 1253 = .ok (.iaload, 1) := dk_46 (dk_at dksL_law_47 9 rfl rfl)
theorem dL_law_1254 : decode cL_law 1254 = .ok (.aload_n 0, 1) := dk_42 (dk_at dksL_law_47 10 rfl rfl)
theorem dL_law_1255 : decode cL_law 1255 = .ok (.iload_n 3, 1) := dk_29 (dk_at dksL_law_47 11 rfl rfl)
theorem dL_law_1256 : decode cL_law 1256 = .ok (.iconst 5, 1) := dk_8 (dk_at dksL_law_47 12 rfl rfl)
theorem dL_law_1257 : decode cL_law 1257 = .ok (.iadd, 1) := dk_96 (dk_at dksL_law_47 13 rfl rfl)
theorem dL_law_1258 : decode cL_law 1258 = .ok (.iaload, 1) := dk_46 (dk_at dksL_law_47 14 rfl rfl)
theorem dL_law_1259 : decode cL_law 1259 = .ok (.invokevirtual 144, 3) := dk_182 0 144 (dk_at dksL_law_47 15 rfl rfl)
theorem dL_law_1262 : decode cL_law 1262 = .ok (.if_icmp .eq 169, 3) := dk_159 0 169 (dk_at dksL_law_47 18 rfl rfl)
theorem dL_law_1265 : decode cL_law 1265 = .ok (.iconst 0, 1) := dk_3 (dk_at dksL_law_47 21 rfl rfl)
theorem dL_law_1266 : decode cL_law 1266 = .ok (.ireturn, 1) := dk_172 (dk_at dksL_law_47 22 rfl rfl)
theorem dL_law_1267 : decode cL_law 1267 = .ok (.aload_n 1, 1) := dk_43 (dk_at dksL_law_47 23 rfl rfl)
theorem dL_law_1268 : decode cL_law 1268 = .ok (.aload_n 0, 1) := dk_42 (dk_at dksL_law_48 0 rfl rfl)
theorem dL_law_1269 : decode cL_law 1269 = .ok (.iload_n 3, 1) := dk_29 (dk_at dksL_law_48 1 rfl rfl)
theorem dL_law_1270 : decode cL_law 1270 = .ok (.iconst 1, 1) := dk_4 (dk_at dksL_law_48 2 rfl rfl)
theorem dL_law_1271 : decode cL_law 1271 = .ok (.iadd, 1) := dk_96 (dk_at dksL_law_48 3 rfl rfl)
theorem dL_law_1272 : decode cL_law 1272 = .ok (.iaload, 1) := dk_46 (dk_at dksL_law_48 4 rfl rfl)
theorem dL_law_1273 : decode cL_law 1273 = .ok (.invokevirtual 145, 3) := dk_182 0 145 (dk_at dksL_law_48 5 rfl rfl)
theorem dL_law_1276 : decode cL_law 1276 = .ok (.aload_n 2, 1) := dk_44 (dk_at dksL_law_48 8 rfl rfl)
theorem dL_law_1277 : decode cL_law 1277 = .ok (.aload_n 0, 1) := dk_42 (dk_at dksL_law_48 9 rfl rfl)
theorem dL_law_1278 : decode cL_law 1278 = .ok (.iload_n 3, 1) := dk_29 (dk_at dksL_law_48 10 rfl rfl)
theorem dL_law_1279 : decode cL_law 1279 = .ok (.iconst 1, 1) := dk_4 (dk_at dksL_law_48 11 rfl rfl)
theorem dL_law_1280 : decode cL_law 1280 = .ok (.iadd, 1) := dk_96 (dk_at dksL_law_48 12 rfl rfl)
theorem dL_law_1281 : decode cL_law 1281 = .ok (.iaload, 1) := dk_46 (dk_at dksL_law_48 13 rfl rfl)
theorem dL_law_1282 : decode cL_law 1282 = .ok (.invokevirtual 148, 3) := dk_182 0 148 (dk_at dksL_law_48 14 rfl rfl)
theorem dL_law_1285 : decode cL_law 1285 = .ok (.if_icmp .eq 146, 3) := dk_159 0 146 (dk_at dksL_law_48 17 rfl rfl)
theorem dL_law_1288 : decode cL_law 1288 = .ok (.iconst 0, 1) := dk_3 (dk_at dksL_law_48 20 rfl rfl)
theorem dL_law_1289 : decode cL_law 1289 = .ok (.ireturn, 1) := dk_172 (dk_at dksL_law_48 21 rfl rfl)
theorem dL_law_1290 : decode cL_law 1290 = .ok (.aload_n 1, 1) := dk_43 (dk_at dksL_law_48 22 rfl rfl)
theorem dL_law_1291 : decode cL_law 1291 = .ok (.aload_n 0, 1) := dk_42 (dk_at dksL_law_48 23 rfl rfl)
theorem dL_law_1292 : decode cL_law 1292 = .ok (.iload_n 3, 1) := dk_29 (dk_at dksL_law_49 0 rfl rfl)
theorem dL_law_1293 : decode cL_law 1293 = .ok (.iconst 1, 1) := dk_4 (dk_at dksL_law_49 1 rfl rfl)
theorem dL_law_1294 : decode cL_law 1294 = .ok (.iadd, 1) := dk_96 (dk_at dksL_law_49 2 rfl rfl)
theorem dL_law_1295 : decode cL_law 1295 = .ok (.iaload, 1) := dk_46 (dk_at dksL_law_49 3 rfl rfl)
theorem dL_law_1296 : decode cL_law 1296 = .ok (.invokevirtual 149, 3) := dk_182 0 149 (dk_at dksL_law_49 4 rfl rfl)
theorem dL_law_1299 : decode cL_law 1299 = .ok (.aload_n 2, 1) := dk_44 (dk_at dksL_law_49 7 rfl rfl)
theorem dL_law_1300 : decode cL_law 1300 = .ok (.aload_n 0, 1) := dk_42 (dk_at dksL_law_49 8 rfl rfl)
theorem dL_law_1301 : decode cL_law 1301 = .ok (.iload_n 3, 1) := dk_29 (dk_at dksL_law_49 9 rfl rfl)
theorem dL_law_1302 : decode cL_law 1302 = .ok (.iconst 1, 1) := dk_4 (dk_at dksL_law_49 10 rfl rfl)
theorem dL_law_1303 : decode cL_law 1303 = .ok (.iadd, 1) := dk_96 (dk_at dksL_law_49 11 rfl rfl)
theorem dL_law_1304 : decode cL_law 1304 = .ok (.iaload, 1) := dk_46 (dk_at dksL_law_49 12 rfl rfl)
theorem dL_law_1305 : decode cL_law 1305 = .ok (.invokevirtual 152, 3) := dk_182 0 152 (dk_at dksL_law_49 13 rfl rfl)
theorem dL_law_1308 : decode cL_law 1308 = .ok (.if_icmp .eq 123, 3) := dk_159 0 123 (dk_at dksL_law_49 16 rfl rfl)
theorem dL_law_1311 : decode cL_law 1311 = .ok (.iconst 0, 1) := dk_3 (dk_at dksL_law_49 19 rfl rfl)
theorem dL_law_1312 : decode cL_law 1312 = .ok (.ireturn, 1) := dk_172 (dk_at dksL_law_49 20 rfl rfl)
theorem dL_law_1313 : decode cL_law 1313 = .ok (.aload_n 1, 1) := dk_43 (dk_at dksL_law_49 21 rfl rfl)
theorem dL_law_1314 : decode cL_law 1314 = .ok (.invokevirtual 153, 3) := dk_182 0 153 (dk_at dksL_law_50 0 rfl rfl)
theorem dL_law_1317 : decode cL_law 1317 = .ok (.aload_n 2, 1) := dk_44 (dk_at dksL_law_50 3 rfl rfl)
theorem dL_law_1318 : decode cL_law 1318 = .ok (.invokevirtual 156, 3) := dk_182 0 156 (dk_at dksL_law_50 4 rfl rfl)
theorem dL_law_1321 : decode cL_law 1321 = .ok (.if_icmp .eq 110, 3) := dk_159 0 110 (dk_at dksL_law_50 7 rfl rfl)
theorem dL_law_1324 : decode cL_law 1324 = .ok (.iconst 0, 1) := dk_3 (dk_at dksL_law_50 10 rfl rfl)
theorem dL_law_1325 : decode cL_law 1325 = .ok (.ireturn, 1) := dk_172 (dk_at dksL_law_50 11 rfl rfl)
theorem dL_law_1326 : decode cL_law 1326 = .ok (.aload_n 1, 1) := dk_43 (dk_at dksL_law_50 12 rfl rfl)
theorem dL_law_1327 : decode cL_law 1327 = .ok (.invokevirtual 157, 3) := dk_182 0 157 (dk_at dksL_law_50 13 rfl rfl)
theorem dL_law_1330 : decode cL_law 1330 = .ok (.aload_n 2, 1) := dk_44 (dk_at dksL_law_50 16 rfl rfl)
theorem dL_law_1331 : decode cL_law 1331 = .ok (.invokevirtual 160, 3) := dk_182 0 160 (dk_at dksL_law_50 17 rfl rfl)
theorem dL_law_1334 : decode cL_law 1334 = .ok (.if_icmp .eq 97, 3) := dk_159 0 97 (dk_at dksL_law_50 20 rfl rfl)
theorem dL_law_1337 : decode cL_law 1337 = .ok (.iconst 0, 1) := dk_3 (dk_at dksL_law_50 23 rfl rfl)
theorem dL_law_1338 : decode cL_law 1338 = .ok (.ireturn, 1) := dk_172 (dk_at dksL_law_51 0 rfl rfl)
theorem dL_law_1339 : decode cL_law 1339 = .ok (.aload_n 1, 1) := dk_43 (dk_at dksL_law_51 1 rfl rfl)
theorem dL_law_1340 : decode cL_law 1340 = .ok (.aload_n 0, 1) := dk_42 (dk_at dksL_law_51 2 rfl rfl)
theorem dL_law_1341 : decode cL_law 1341 = .ok (.iload_n 3, 1) := dk_29 (dk_at dksL_law_51 3 rfl rfl)
theorem dL_law_1342 : decode cL_law 1342 = .ok (.iconst 1, 1) := dk_4 (dk_at dksL_law_51 4 rfl rfl)
theorem dL_law_1343 : decode cL_law 1343 = .ok (.iadd, 1) := dk_96 (dk_at dksL_law_51 5 rfl rfl)
theorem dL_law_1344 : decode cL_law 1344 = .ok (.iaload, 1) := dk_46 (dk_at dksL_law_51 6 rfl rfl)
theorem dL_law_1345 : decode cL_law 1345 = .ok (.invokevirtual 161, 3) := dk_182 0 161 (dk_at dksL_law_51 7 rfl rfl)
theorem dL_law_1348 : decode cL_law 1348 = .ok (.aload_n 2, 1) := dk_44 (dk_at dksL_law_51 10 rfl rfl)
theorem dL_law_1349 : decode cL_law 1349 = .ok (.aload_n 0, 1) := dk_42 (dk_at dksL_law_51 11 rfl rfl)
theorem dL_law_1350 : decode cL_law 1350 = .ok (.iload_n 3, 1) := dk_29 (dk_at dksL_law_51 12 rfl rfl)
theorem dL_law_1351 : decode cL_law 1351 = .ok (.iconst 1, 1) := dk_4 (dk_at dksL_law_51 13 rfl rfl)
theorem dL_law_1352 : decode cL_law 1352 = .ok (.iadd, 1) := dk_96 (dk_at dksL_law_51 14 rfl rfl)
theorem dL_law_1353 : decode cL_law 1353 = .ok (.iaload, 1) := dk_46 (dk_at dksL_law_51 15 rfl rfl)
theorem dL_law_1354 : decode cL_law 1354 = .ok (.invokevirtual 164, 3) := dk_182 0 164 (dk_at dksL_law_51 16 rfl rfl)
theorem dL_law_1357 : decode cL_law 1357 = .ok (.if_icmp .eq 74, 3) := dk_159 0 74 (dk_at dksL_law_51 19 rfl rfl)
theorem dL_law_1360 : decode cL_law 1360 = .ok (.iconst 0, 1) := dk_3 (dk_at dksL_law_51 22 rfl rfl)
theorem dL_law_1361 : decode cL_law 1361 = .ok (.ireturn, 1) := dk_172 (dk_at dksL_law_51 23 rfl rfl)
theorem dL_law_1362 : decode cL_law 1362 = .ok (.aload_n 1, 1) := dk_43 (dk_at dksL_law_52 0 rfl rfl)
theorem dL_law_1363 : decode cL_law 1363 = .ok (.aload_n 0, 1) := dk_42 (dk_at dksL_law_52 1 rfl rfl)
theorem dL_law_1364 : decode cL_law 1364 = .ok (.iload_n 3, 1) := dk_29 (dk_at dksL_law_52 2 rfl rfl)
theorem dL_law_1365 : decode cL_law 1365 = .ok (.iconst 1, 1) := dk_4 (dk_at dksL_law_52 3 rfl rfl)
theorem dL_law_1366 : decode cL_law 1366 = .ok (.iadd, 1) := dk_96 (dk_at dksL_law_52 4 rfl rfl)
theorem dL_law_1367 : decode cL_law 1367 = .ok (.iaload, 1) := dk_46 (dk_at dksL_law_52 5 rfl rfl)
theorem dL_law_1368 : decode cL_law 1368 = .ok (.invokevirtual 165, 3) := dk_182 0 165 (dk_at dksL_law_52 6 rfl rfl)
theorem dL_law_1371 : decode cL_law 1371 = .ok (.aload_n 2, 1) := dk_44 (dk_at dksL_law_52 9 rfl rfl)
theorem dL_law_1372 : decode cL_law 1372 = .ok (.aload_n 0, 1) := dk_42 (dk_at dksL_law_52 10 rfl rfl)
theorem dL_law_1373 : decode cL_law 1373 = .ok (.iload_n 3, 1) := dk_29 (dk_at dksL_law_52 11 rfl rfl)
theorem dL_law_1374 : decode cL_law 1374 = .ok (.iconst 1, 1) := dk_4 (dk_at dksL_law_52 12 rfl rfl)
theorem dL_law_1375 : decode cL_law 1375 = .ok (.iadd, 1) := dk_96 (dk_at dksL_law_52 13 rfl rfl)
theorem dL_law_1376 : decode cL_law 1376 = .ok (.iaload, 1) := dk_46 (dk_at dksL_law_52 14 rfl rfl)
theorem dL_law_1377 : decode cL_law 1377 = .ok (.invokevirtual 168, 3) := dk_182 0 168 (dk_at dksL_law_52 15 rfl rfl)
theorem dL_law_1380 : decode cL_law 1380 = .ok (.if_icmp .eq 51, 3) := dk_159 0 51 (dk_at dksL_law_52 18 rfl rfl)
theorem dL_law_1383 : decode cL_law 1383 = .ok (.iconst 0, 1) := dk_3 (dk_at dksL_law_52 21 rfl rfl)
theorem dL_law_1384 : decode cL_law 1384 = .ok (.ireturn, 1) := dk_172 (dk_at dksL_law_52 22 rfl rfl)
theorem dL_law_1385 : decode cL_law 1385 = .ok (.aload_n 1, 1) := dk_43 (dk_at dksL_law_52 23 rfl rfl)
theorem dL_law_1386 : decode cL_law 1386 = .ok (.aload_n 0, 1) := dk_42 (dk_at dksL_law_53 0 rfl rfl)
theorem dL_law_1387 : decode cL_law 1387 = .ok (.iload_n 3, 1) := dk_29 (dk_at dksL_law_53 1 rfl rfl)
theorem dL_law_1388 : decode cL_law 1388 = .ok (.iconst 1, 1) := dk_4 (dk_at dksL_law_53 2 rfl rfl)
theorem dL_law_1389 : decode cL_law 1389 = .ok (.iadd, 1) := dk_96 (dk_at dksL_law_53 3 rfl rfl)
theorem dL_law_1390 : decode cL_law 1390 = .ok (.iaload, 1) := dk_46 (dk_at dksL_law_53 4 rfl rfl)
theorem dL_law_1391 : decode cL_law 1391 = .ok (.invokevirtual 169, 3) := dk_182 0 169 (dk_at dksL_law_53 5 rfl rfl)
theorem dL_law_1394 : decode cL_law 1394 = .ok (.aload_n 2, 1) := dk_44 (dk_at dksL_law_53 8 rfl rfl)
theorem dL_law_1395 : decode cL_law 1395 = .ok (.aload_n 0, 1) := dk_42 (dk_at dksL_law_53 9 rfl rfl)
theorem dL_law_1396 : decode cL_law 1396 = .ok (.iload_n 3, 1) := dk_29 (dk_at dksL_law_53 10 rfl rfl)
theorem dL_law_1397 : decode cL_law 1397 = .ok (.iconst 1, 1) := dk_4 (dk_at dksL_law_53 11 rfl rfl)
theorem dL_law_1398 : decode cL_law 1398 = .ok (.iadd, 1) := dk_96 (dk_at dksL_law_53 12 rfl rfl)
theorem dL_law_1399 : decode cL_law 1399 = .ok (.iaload, 1) := dk_46 (dk_at dksL_law_53 13 rfl rfl)
theorem dL_law_1400 : decode cL_law 1400 = .ok (.invokevirtual 172, 3) := dk_182 0 172 (dk_at dksL_law_53 14 rfl rfl)
theorem dL_law_1403 : decode cL_law 1403 = .ok (.if_icmp .eq 28, 3) := dk_159 0 28 (dk_at dksL_law_53 17 rfl rfl)
theorem dL_law_1406 : decode cL_law 1406 = .ok (.iconst 0, 1) := dk_3 (dk_at dksL_law_53 20 rfl rfl)
theorem dL_law_1407 : decode cL_law 1407 = .ok (.ireturn, 1) := dk_172 (dk_at dksL_law_53 21 rfl rfl)
theorem dL_law_1408 : decode cL_law 1408 = .ok (.aload_n 1, 1) := dk_43 (dk_at dksL_law_53 22 rfl rfl)
theorem dL_law_1409 : decode cL_law 1409 = .ok (.aload_n 0, 1) := dk_42 (dk_at dksL_law_53 23 rfl rfl)
theorem dL_law_1410 : decode cL_law 1410 = .ok (.iload_n 3, 1) := dk_29 (dk_at dksL_law_54 0 rfl rfl)
theorem dL_law_1411 : decode cL_law 1411 = .ok (.iconst 1, 1) := dk_4 (dk_at dksL_law_54 1 rfl rfl)
theorem dL_law_1412 : decode cL_law 1412 = .ok (.iadd, 1) := dk_96 (dk_at dksL_law_54 2 rfl rfl)
theorem dL_law_1413 : decode cL_law 1413 = .ok (.iaload, 1) := dk_46 (dk_at dksL_law_54 3 rfl rfl)
theorem dL_law_1414 : decode cL_law 1414 = .ok (.invokevirtual 173, 3) := dk_182 0 173 (dk_at dksL_law_54 4 rfl rfl)
theorem dL_law_1417 : decode cL_law 1417 = .ok (.aload_n 2, 1) := dk_44 (dk_at dksL_law_54 7 rfl rfl)
theorem dL_law_1418 : decode cL_law 1418 = .ok (.aload_n 0, 1) := dk_42 (dk_at dksL_law_54 8 rfl rfl)
theorem dL_law_1419 : decode cL_law 1419 = .ok (.iload_n 3, 1) := dk_29 (dk_at dksL_law_54 9 rfl rfl)
theorem dL_law_1420 : decode cL_law 1420 = .ok (.iconst 1, 1) := dk_4 (dk_at dksL_law_54 10 rfl rfl)
theorem dL_law_1421 : decode cL_law 1421 = .ok (.iadd, 1) := dk_96 (dk_at dksL_law_54 11 rfl rfl)
theorem dL_law_1422 : decode cL_law 1422 = .ok (.iaload, 1) := dk_46 (dk_at dksL_law_54 12 rfl rfl)
theorem dL_law_1423 : decode cL_law 1423 = .ok (.invokevirtual 176, 3) := dk_182 0 176 (dk_at dksL_law_54 13 rfl rfl)
theorem dL_law_1426 : decode cL_law 1426 = .ok (.if_icmp .eq 5, 3) := dk_159 0 5 (dk_at dksL_law_54 16 rfl rfl)
theorem dL_law_1429 : decode cL_law 1429 = .ok (.iconst 0, 1) := dk_3 (dk_at dksL_law_54 19 rfl rfl)
theorem dL_law_1430 : decode cL_law 1430 = .ok (.ireturn, 1) := dk_172 (dk_at dksL_law_54 20 rfl rfl)
theorem dL_law_1431 : decode cL_law 1431 = .ok (.iinc 3 6, 3) := dk_132 3 6 (dk_at dksL_law_54 21 rfl rfl)
theorem dL_law_1434 : decode cL_law 1434 = .ok (.goto (-1416), 3) := dk_167 250 120 (dk_at dksL_law_55 0 rfl rfl)
theorem dL_law_1437 : decode cL_law 1437 = .ok (.iconst 1, 1) := dk_4 (dk_at dksL_law_55 3 rfl rfl)
theorem dL_law_1438 : decode cL_law 1438 = .ok (.ireturn, 1) := dk_172 (dk_at dksL_law_55 4 rfl rfl)

theorem q82 : (Jvm.Cond.initialized "WheelBrookLaw") ∈ lw_all := lw_g (lw_at lw_m1 0 rfl) rfl
set_option maxRecDepth 100000
theorem q112 : (Jvm.Cond.classLink "WheelBrookLaw" (7 : Nat) "WheelBrook") ∈ lw_all := lw_g (lw_at lw_m1 30 rfl) rfl
theorem q114 : (Jvm.Cond.methodLink "WheelBrookLaw" (9 : Nat) ({ cls := "WheelBrook", name := "<init>", desc := "()V" } : Jvm.MethodName)) ∈ lw_all := lw_g (lw_at lw_m1 32 rfl) rfl
theorem q298 : (Jvm.Cond.methodLink "WheelBrookLaw" (13 : Nat) ({ cls := "WheelBrook", name := "force", desc := "(II)I" } : Jvm.MethodName)) ∈ lw_all := lw_g (lw_at lw_m1 216 rfl) rfl
theorem q310 : (Jvm.Cond.methodLink "WheelBrookLaw" (18 : Nat) ({ cls := "WheelBrook", name := "weed", desc := "(II)I" } : Jvm.MethodName)) ∈ lw_all := lw_g (lw_at lw_m1 228 rfl) rfl
theorem q317 : (Jvm.Cond.methodLink "WheelBrookLaw" (22 : Nat) ({ cls := "WheelBrook", name := "frost", desc := "(I)I" } : Jvm.MethodName)) ∈ lw_all := lw_g (lw_at lw_m1 235 rfl) rfl
theorem q321 : (Jvm.Cond.methodLink "WheelBrookLaw" (27 : Nat) ({ cls := "WheelBrook", name := "owe", desc := "(II)I" } : Jvm.MethodName)) ∈ lw_all := lw_g (lw_at lw_m1 239 rfl) rfl
theorem q329 : (Jvm.Cond.methodLink "WheelBrookLaw" (31 : Nat) ({ cls := "WheelBrook", name := "familyIs", desc := "(II)I" } : Jvm.MethodName)) ∈ lw_all := lw_g (lw_at lw_m2 7 rfl) rfl
theorem q345 : (Jvm.Cond.methodLink "WheelBrookLaw" (35 : Nat) ({ cls := "WheelBrook", name := "wheel", desc := "(II)I" } : Jvm.MethodName)) ∈ lw_all := lw_g (lw_at lw_m2 23 rfl) rfl
theorem q438 : (Jvm.Cond.methodLink "WheelBrookLaw" (39 : Nat) ({ cls := "WheelBrook", name := "wheelIs", desc := "(II)I" } : Jvm.MethodName)) ∈ lw_all := lw_g (lw_at lw_m2 116 rfl) rfl
theorem q643 : (Jvm.Cond.methodLink "WheelBrookLaw" (43 : Nat) ({ cls := "WheelBrook", name := "as", desc := "(II)I" } : Jvm.MethodName)) ∈ lw_all := lw_g (lw_at lw_m3 81 rfl) rfl
theorem q650 : (Jvm.Cond.methodLink "WheelBrookLaw" (47 : Nat) ({ cls := "WheelBrook", name := "set", desc := "(III)I" } : Jvm.MethodName)) ∈ lw_all := lw_g (lw_at lw_m3 88 rfl) rfl
theorem q659 : (Jvm.Cond.methodLink "WheelBrookLaw" (52 : Nat) ({ cls := "WheelBrook", name := "flows", desc := "(I)I" } : Jvm.MethodName)) ∈ lw_all := lw_g (lw_at lw_m3 97 rfl) rfl
theorem q663 : (Jvm.Cond.methodLink "WheelBrookLaw" (58 : Nat) ({ cls := "WheelBrook", name := "feed", desc := "(JI)I" } : Jvm.MethodName)) ∈ lw_all := lw_g (lw_at lw_m3 101 rfl) rfl
theorem q667 : (Jvm.Cond.methodLink "WheelBrookLaw" (63 : Nat) ({ cls := "WheelBrook", name := "text", desc := "(I)I" } : Jvm.MethodName)) ∈ lw_all := lw_g (lw_at lw_m3 105 rfl) rfl
theorem q933 : (Jvm.Cond.methodLink "WheelBrookLaw" (67 : Nat) ({ cls := "WheelBrook", name := "untell", desc := "(I)I" } : Jvm.MethodName)) ∈ lw_all := lw_g (lw_at lw_m4 131 rfl) rfl
theorem q937 : (Jvm.Cond.methodLink "WheelBrookLaw" (71 : Nat) ({ cls := "WheelBrook", name := "hours", desc := "(I)I" } : Jvm.MethodName)) ∈ lw_all := lw_g (lw_at lw_m4 135 rfl) rfl
theorem q959 : (Jvm.Cond.methodLink "WheelBrookLaw" (75 : Nat) ({ cls := "WheelBrook", name := "draws", desc := "(I)I" } : Jvm.MethodName)) ∈ lw_all := lw_g (lw_at lw_m4 157 rfl) rfl
theorem q972 : (Jvm.Cond.methodLink "WheelBrookLaw" (79 : Nat) ({ cls := "WheelBrook", name := "seed", desc := "(I)I" } : Jvm.MethodName)) ∈ lw_all := lw_g (lw_at lw_m4 170 rfl) rfl
theorem q976 : (Jvm.Cond.methodLink "WheelBrookLaw" (83 : Nat) ({ cls := "WheelBrook", name := "sell", desc := "(III)I" } : Jvm.MethodName)) ∈ lw_all := lw_g (lw_at lw_m4 174 rfl) rfl
theorem q980 : (Jvm.Cond.methodLink "WheelBrookLaw" (87 : Nat) ({ cls := "WheelBrook", name := "fair", desc := "(II)I" } : Jvm.MethodName)) ∈ lw_all := lw_g (lw_at lw_m4 178 rfl) rfl
theorem q984 : (Jvm.Cond.methodLink "WheelBrookLaw" (91 : Nat) ({ cls := "WheelBrook", name := "then", desc := "(III)I" } : Jvm.MethodName)) ∈ lw_all := lw_g (lw_at lw_m4 182 rfl) rfl
theorem q1006 : (Jvm.Cond.methodLink "WheelBrookLaw" (95 : Nat) ({ cls := "WheelBrook", name := "thenFamily", desc := "(III)I" } : Jvm.MethodName)) ∈ lw_all := lw_g (lw_at lw_m4 204 rfl) rfl
theorem q1010 : (Jvm.Cond.methodLink "WheelBrookLaw" (99 : Nat) ({ cls := "WheelBrook", name := "when", desc := "(II)I" } : Jvm.MethodName)) ∈ lw_all := lw_g (lw_at lw_m4 208 rfl) rfl
theorem q1014 : (Jvm.Cond.methodLink "WheelBrookLaw" (103 : Nat) ({ cls := "WheelBrook", name := "sluices", desc := "(II)I" } : Jvm.MethodName)) ∈ lw_all := lw_g (lw_at lw_m4 212 rfl) rfl
theorem q1027 : (Jvm.Cond.methodLink "WheelBrookLaw" (107 : Nat) ({ cls := "WheelBrook", name := "fewer", desc := "(III)I" } : Jvm.MethodName)) ∈ lw_all := lw_g (lw_at lw_m4 225 rfl) rfl
theorem q1039 : (Jvm.Cond.methodLink "WheelBrookLaw" (111 : Nat) ({ cls := "WheelBrook", name := "bestPlace", desc := "(II)I" } : Jvm.MethodName)) ∈ lw_all := lw_g (lw_at lw_m4 237 rfl) rfl
theorem q1047 : (Jvm.Cond.methodLink "WheelBrookLaw" (115 : Nat) ({ cls := "WheelBrook", name := "who", desc := "(II)I" } : Jvm.MethodName)) ∈ lw_all := lw_g (lw_at lw_m5 5 rfl) rfl
theorem q1055 : (Jvm.Cond.methodLink "WheelBrookLaw" (119 : Nat) ({ cls := "WheelBrook", name := "slipped", desc := "()I" } : Jvm.MethodName)) ∈ lw_all := lw_g (lw_at lw_m5 13 rfl) rfl
theorem q1059 : (Jvm.Cond.methodLink "WheelBrookLaw" (124 : Nat) ({ cls := "WheelBrook", name := "voice", desc := "(III)I" } : Jvm.MethodName)) ∈ lw_all := lw_g (lw_at lw_m5 17 rfl) rfl
theorem q1201 : (Jvm.Cond.methodLink "WheelBrookLaw" (128 : Nat) ({ cls := "WheelBrook", name := "body", desc := "(I)I" } : Jvm.MethodName)) ∈ lw_all := lw_g (lw_at lw_m5 159 rfl) rfl
theorem q1205 : (Jvm.Cond.methodLink "WheelBrookLaw" (132 : Nat) ({ cls := "WheelBrook", name := "sheet", desc := "(III)I" } : Jvm.MethodName)) ∈ lw_all := lw_g (lw_at lw_m5 163 rfl) rfl
theorem q1226 : (Jvm.Cond.methodLink "WheelBrookLaw" (136 : Nat) ({ cls := "WheelBrook", name := "put", desc := "(III)I" } : Jvm.MethodName)) ∈ lw_all := lw_g (lw_at lw_m5 184 rfl) rfl
theorem q1236 : (Jvm.Cond.methodLink "WheelBrookLaw" (140 : Nat) ({ cls := "WheelBrook", name := "move", desc := "(IIIII)I" } : Jvm.MethodName)) ∈ lw_all := lw_g (lw_at lw_m5 194 rfl) rfl
theorem q1255 : (Jvm.Cond.methodLink "WheelBrookLaw" (145 : Nat) ({ cls := "WheelBrook", name := "forces", desc := "(I)I" } : Jvm.MethodName)) ∈ lw_all := lw_g (lw_at lw_m5 213 rfl) rfl
theorem q1262 : (Jvm.Cond.methodLink "WheelBrookLaw" (149 : Nat) ({ cls := "WheelBrook", name := "judge", desc := "(I)I" } : Jvm.MethodName)) ∈ lw_all := lw_g (lw_at lw_m5 220 rfl) rfl
theorem q1266 : (Jvm.Cond.methodLink "WheelBrookLaw" (153 : Nat) ({ cls := "WheelBrook", name := "image", desc := "()I" } : Jvm.MethodName)) ∈ lw_all := lw_g (lw_at lw_m5 224 rfl) rfl
theorem q1270 : (Jvm.Cond.methodLink "WheelBrookLaw" (157 : Nat) ({ cls := "WheelBrook", name := "restore", desc := "()I" } : Jvm.MethodName)) ∈ lw_all := lw_g (lw_at lw_m5 228 rfl) rfl
theorem q1274 : (Jvm.Cond.methodLink "WheelBrookLaw" (161 : Nat) ({ cls := "WheelBrook", name := "tell", desc := "(I)I" } : Jvm.MethodName)) ∈ lw_all := lw_g (lw_at lw_m5 232 rfl) rfl
theorem q1278 : (Jvm.Cond.methodLink "WheelBrookLaw" (165 : Nat) ({ cls := "WheelBrook", name := "check", desc := "(I)I" } : Jvm.MethodName)) ∈ lw_all := lw_g (lw_at lw_m5 236 rfl) rfl
theorem q1282 : (Jvm.Cond.methodLink "WheelBrookLaw" (169 : Nat) ({ cls := "WheelBrook", name := "count", desc := "(I)I" } : Jvm.MethodName)) ∈ lw_all := lw_g (lw_at lw_m6 0 rfl) rfl
theorem q1286 : (Jvm.Cond.methodLink "WheelBrookLaw" (173 : Nat) ({ cls := "WheelBrook", name := "told", desc := "(I)I" } : Jvm.MethodName)) ∈ lw_all := lw_g (lw_at lw_m6 4 rfl) rfl
theorem q1290 : (Jvm.Cond.classLink "WheelBrookLaw" (10 : Nat) "WheelBrookModel") ∈ lw_all := lw_g (lw_at lw_m6 8 rfl) rfl
theorem q1292 : (Jvm.Cond.methodLink "WheelBrookLaw" (12 : Nat) ({ cls := "WheelBrookModel", name := "<init>", desc := "()V" } : Jvm.MethodName)) ∈ lw_all := lw_g (lw_at lw_m6 10 rfl) rfl
theorem q1378 : (Jvm.Cond.methodLink "WheelBrookLaw" (17 : Nat) ({ cls := "WheelBrookModel", name := "force", desc := "(II)I" } : Jvm.MethodName)) ∈ lw_all := lw_g (lw_at lw_m6 96 rfl) rfl
theorem q1394 : (Jvm.Cond.methodLink "WheelBrookLaw" (21 : Nat) ({ cls := "WheelBrookModel", name := "weed", desc := "(II)I" } : Jvm.MethodName)) ∈ lw_all := lw_g (lw_at lw_m6 112 rfl) rfl
theorem q1401 : (Jvm.Cond.methodLink "WheelBrookLaw" (26 : Nat) ({ cls := "WheelBrookModel", name := "frost", desc := "(I)I" } : Jvm.MethodName)) ∈ lw_all := lw_g (lw_at lw_m6 119 rfl) rfl
theorem q1405 : (Jvm.Cond.methodLink "WheelBrookLaw" (30 : Nat) ({ cls := "WheelBrookModel", name := "owe", desc := "(II)I" } : Jvm.MethodName)) ∈ lw_all := lw_g (lw_at lw_m6 123 rfl) rfl
theorem q1413 : (Jvm.Cond.methodLink "WheelBrookLaw" (34 : Nat) ({ cls := "WheelBrookModel", name := "familyIs", desc := "(II)I" } : Jvm.MethodName)) ∈ lw_all := lw_g (lw_at lw_m6 131 rfl) rfl
theorem q1437 : (Jvm.Cond.methodLink "WheelBrookLaw" (38 : Nat) ({ cls := "WheelBrookModel", name := "wheel", desc := "(II)I" } : Jvm.MethodName)) ∈ lw_all := lw_g (lw_at lw_m6 155 rfl) rfl
theorem q1449 : (Jvm.Cond.methodLink "WheelBrookLaw" (42 : Nat) ({ cls := "WheelBrookModel", name := "wheelIs", desc := "(II)I" } : Jvm.MethodName)) ∈ lw_all := lw_g (lw_at lw_m6 167 rfl) rfl
theorem q1507 : (Jvm.Cond.methodLink "WheelBrookLaw" (46 : Nat) ({ cls := "WheelBrookModel", name := "as", desc := "(II)I" } : Jvm.MethodName)) ∈ lw_all := lw_g (lw_at lw_m6 225 rfl) rfl
theorem q1514 : (Jvm.Cond.methodLink "WheelBrookLaw" (51 : Nat) ({ cls := "WheelBrookModel", name := "set", desc := "(III)I" } : Jvm.MethodName)) ∈ lw_all := lw_g (lw_at lw_m6 232 rfl) rfl
theorem q1522 : (Jvm.Cond.methodLink "WheelBrookLaw" (62 : Nat) ({ cls := "WheelBrookModel", name := "feed", desc := "(JI)I" } : Jvm.MethodName)) ∈ lw_all := lw_g (lw_at lw_m7 0 rfl) rfl
theorem q1527 : (Jvm.Cond.methodLink "WheelBrookLaw" (66 : Nat) ({ cls := "WheelBrookModel", name := "text", desc := "(I)I" } : Jvm.MethodName)) ∈ lw_all := lw_g (lw_at lw_m7 5 rfl) rfl
theorem q1571 : (Jvm.Cond.methodLink "WheelBrookLaw" (70 : Nat) ({ cls := "WheelBrookModel", name := "untell", desc := "(I)I" } : Jvm.MethodName)) ∈ lw_all := lw_g (lw_at lw_m7 49 rfl) rfl
theorem q1575 : (Jvm.Cond.methodLink "WheelBrookLaw" (55 : Nat) ({ cls := "WheelBrookModel", name := "flows", desc := "(I)I" } : Jvm.MethodName)) ∈ lw_all := lw_g (lw_at lw_m7 53 rfl) rfl
theorem q1579 : (Jvm.Cond.methodLink "WheelBrookLaw" (74 : Nat) ({ cls := "WheelBrookModel", name := "hours", desc := "(I)I" } : Jvm.MethodName)) ∈ lw_all := lw_g (lw_at lw_m7 57 rfl) rfl
theorem q1603 : (Jvm.Cond.methodLink "WheelBrookLaw" (78 : Nat) ({ cls := "WheelBrookModel", name := "draws", desc := "(I)I" } : Jvm.MethodName)) ∈ lw_all := lw_g (lw_at lw_m7 81 rfl) rfl
theorem q1612 : (Jvm.Cond.methodLink "WheelBrookLaw" (82 : Nat) ({ cls := "WheelBrookModel", name := "seed", desc := "(I)I" } : Jvm.MethodName)) ∈ lw_all := lw_g (lw_at lw_m7 90 rfl) rfl
theorem q1616 : (Jvm.Cond.methodLink "WheelBrookLaw" (86 : Nat) ({ cls := "WheelBrookModel", name := "sell", desc := "(III)I" } : Jvm.MethodName)) ∈ lw_all := lw_g (lw_at lw_m7 94 rfl) rfl
theorem q1620 : (Jvm.Cond.methodLink "WheelBrookLaw" (90 : Nat) ({ cls := "WheelBrookModel", name := "fair", desc := "(II)I" } : Jvm.MethodName)) ∈ lw_all := lw_g (lw_at lw_m7 98 rfl) rfl
theorem q1624 : (Jvm.Cond.methodLink "WheelBrookLaw" (94 : Nat) ({ cls := "WheelBrookModel", name := "then", desc := "(III)I" } : Jvm.MethodName)) ∈ lw_all := lw_g (lw_at lw_m7 102 rfl) rfl
theorem q1634 : (Jvm.Cond.methodLink "WheelBrookLaw" (98 : Nat) ({ cls := "WheelBrookModel", name := "thenFamily", desc := "(III)I" } : Jvm.MethodName)) ∈ lw_all := lw_g (lw_at lw_m7 112 rfl) rfl
theorem q1638 : (Jvm.Cond.methodLink "WheelBrookLaw" (102 : Nat) ({ cls := "WheelBrookModel", name := "when", desc := "(II)I" } : Jvm.MethodName)) ∈ lw_all := lw_g (lw_at lw_m7 116 rfl) rfl
theorem q1642 : (Jvm.Cond.methodLink "WheelBrookLaw" (106 : Nat) ({ cls := "WheelBrookModel", name := "sluices", desc := "(II)I" } : Jvm.MethodName)) ∈ lw_all := lw_g (lw_at lw_m7 120 rfl) rfl
theorem q1654 : (Jvm.Cond.methodLink "WheelBrookLaw" (110 : Nat) ({ cls := "WheelBrookModel", name := "fewer", desc := "(III)I" } : Jvm.MethodName)) ∈ lw_all := lw_g (lw_at lw_m7 132 rfl) rfl
theorem q1666 : (Jvm.Cond.methodLink "WheelBrookLaw" (114 : Nat) ({ cls := "WheelBrookModel", name := "bestPlace", desc := "(II)I" } : Jvm.MethodName)) ∈ lw_all := lw_g (lw_at lw_m7 144 rfl) rfl
theorem q1670 : (Jvm.Cond.methodLink "WheelBrookLaw" (118 : Nat) ({ cls := "WheelBrookModel", name := "who", desc := "(II)I" } : Jvm.MethodName)) ∈ lw_all := lw_g (lw_at lw_m7 148 rfl) rfl
theorem q1674 : (Jvm.Cond.methodLink "WheelBrookLaw" (123 : Nat) ({ cls := "WheelBrookModel", name := "slipped", desc := "()I" } : Jvm.MethodName)) ∈ lw_all := lw_g (lw_at lw_m7 152 rfl) rfl
theorem q1678 : (Jvm.Cond.methodLink "WheelBrookLaw" (127 : Nat) ({ cls := "WheelBrookModel", name := "voice", desc := "(III)I" } : Jvm.MethodName)) ∈ lw_all := lw_g (lw_at lw_m7 156 rfl) rfl
theorem q1713 : (Jvm.Cond.methodLink "WheelBrookLaw" (131 : Nat) ({ cls := "WheelBrookModel", name := "body", desc := "(I)I" } : Jvm.MethodName)) ∈ lw_all := lw_g (lw_at lw_m7 191 rfl) rfl
theorem q1717 : (Jvm.Cond.methodLink "WheelBrookLaw" (135 : Nat) ({ cls := "WheelBrookModel", name := "sheet", desc := "(III)I" } : Jvm.MethodName)) ∈ lw_all := lw_g (lw_at lw_m7 195 rfl) rfl
theorem q1724 : (Jvm.Cond.methodLink "WheelBrookLaw" (139 : Nat) ({ cls := "WheelBrookModel", name := "put", desc := "(III)I" } : Jvm.MethodName)) ∈ lw_all := lw_g (lw_at lw_m7 202 rfl) rfl
theorem q1728 : (Jvm.Cond.methodLink "WheelBrookLaw" (144 : Nat) ({ cls := "WheelBrookModel", name := "move", desc := "(IIIII)I" } : Jvm.MethodName)) ∈ lw_all := lw_g (lw_at lw_m7 206 rfl) rfl
theorem q1732 : (Jvm.Cond.methodLink "WheelBrookLaw" (148 : Nat) ({ cls := "WheelBrookModel", name := "forces", desc := "(I)I" } : Jvm.MethodName)) ∈ lw_all := lw_g (lw_at lw_m7 210 rfl) rfl
theorem q1740 : (Jvm.Cond.methodLink "WheelBrookLaw" (152 : Nat) ({ cls := "WheelBrookModel", name := "judge", desc := "(I)I" } : Jvm.MethodName)) ∈ lw_all := lw_g (lw_at lw_m7 218 rfl) rfl
theorem q1744 : (Jvm.Cond.methodLink "WheelBrookLaw" (156 : Nat) ({ cls := "WheelBrookModel", name := "image", desc := "()I" } : Jvm.MethodName)) ∈ lw_all := lw_g (lw_at lw_m7 222 rfl) rfl
theorem q1748 : (Jvm.Cond.methodLink "WheelBrookLaw" (160 : Nat) ({ cls := "WheelBrookModel", name := "restore", desc := "()I" } : Jvm.MethodName)) ∈ lw_all := lw_g (lw_at lw_m7 226 rfl) rfl
theorem q1752 : (Jvm.Cond.methodLink "WheelBrookLaw" (164 : Nat) ({ cls := "WheelBrookModel", name := "tell", desc := "(I)I" } : Jvm.MethodName)) ∈ lw_all := lw_g (lw_at lw_m7 230 rfl) rfl
theorem q1756 : (Jvm.Cond.methodLink "WheelBrookLaw" (168 : Nat) ({ cls := "WheelBrookModel", name := "check", desc := "(I)I" } : Jvm.MethodName)) ∈ lw_all := lw_g (lw_at lw_m7 234 rfl) rfl
theorem q1760 : (Jvm.Cond.methodLink "WheelBrookLaw" (172 : Nat) ({ cls := "WheelBrookModel", name := "count", desc := "(I)I" } : Jvm.MethodName)) ∈ lw_all := lw_g (lw_at lw_m7 238 rfl) rfl
theorem q1764 : (Jvm.Cond.methodLink "WheelBrookLaw" (176 : Nat) ({ cls := "WheelBrookModel", name := "told", desc := "(I)I" } : Jvm.MethodName)) ∈ lw_all := lw_g (lw_at lw_m8 2 rfl) rfl
theorem q1768 : (Jvm.Cond.constantLong "WheelBrookLaw" (56 : Nat) (4294967295 : Int64)) ∈ lw_all := lw_g (lw_at lw_m8 6 rfl) rfl

theorem q537 : (Jvm.Cond.interfaceMethod "WheelBrook$Sees" "WheelBrook$Sees" "takes" "(II)I") ∈ lw_tbl := lw_at lw_m2 215 rfl
set_option maxRecDepth 100000
theorem q538 : (Jvm.Cond.declares ({ cls := "WheelBrook$Sees", name := "takes", desc := "(II)I" } : Jvm.MethodName)) ∈ lw_tbl := lw_at lw_m2 216 rfl
theorem q602 : (Jvm.Cond.interfaceMethod "WheelBrook$Sees" "WheelBrook$Sees" "turns" "(II)I") ∈ lw_tbl := lw_at lw_m3 40 rfl
theorem q603 : (Jvm.Cond.declares ({ cls := "WheelBrook$Sees", name := "turns", desc := "(II)I" } : Jvm.MethodName)) ∈ lw_tbl := lw_at lw_m3 41 rfl

theorem q107 : (Jvm.Cond.initialized "java/lang/System") ∈ lw_all := lw_g (lw_at lw_m1 25 rfl) rfl
set_option maxRecDepth 100000
theorem q1000 : (Jvm.Cond.static ({ cls := "java/lang/System", name := "arraycopy", desc := "(Ljava/lang/Object;ILjava/lang/Object;II)V" } : Jvm.MethodName)) ∈ lw_all := lw_g (lw_at lw_m4 198 rfl) rfl
theorem q1001 : (Jvm.Cond.native ({ cls := "java/lang/System", name := "arraycopy", desc := "(Ljava/lang/Object;ILjava/lang/Object;II)V" } : Jvm.MethodName)) ∈ lw_all := lw_g (lw_at lw_m4 199 rfl) rfl

theorem q127 : (Jvm.Cond.arrayOver (Jvm.ClassFile.FieldType.object "WheelBrook$Slot")) ∈ lw_tbl := lw_at lw_m1 45 rfl
set_option maxRecDepth 100000
theorem q129 : (Jvm.Cond.arrayOver (Jvm.ClassFile.FieldType.object "WheelBrook$Text")) ∈ lw_tbl := lw_at lw_m1 47 rfl
theorem q140 : (Jvm.Cond.arrayClass Jvm.ClassFile.FieldType.int) ∈ lw_all := lw_g (lw_at lw_m1 58 rfl) rfl
theorem q141 : (Jvm.Cond.arrayClass Jvm.ClassFile.FieldType.byte) ∈ lw_all := lw_g (lw_at lw_m1 59 rfl) rfl
theorem q705 : (Jvm.Cond.arrayClass Jvm.ClassFile.FieldType.short) ∈ lw_all := lw_g (lw_at lw_m3 143 rfl) rfl
