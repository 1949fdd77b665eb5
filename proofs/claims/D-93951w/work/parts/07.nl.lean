/-! the law's own entry -/
set_option maxRecDepth 100000
abbrev cL_law : ByteArray := code
def dkwL_law_59 : List UInt8 := [42, 29, 4, 96, 46, 182, 0, 201, 159, 0, 5, 3, 172, 132, 3, 6, 167, 249, 247, 4, 172]
abbrev dktL_law_59 : List UInt8 := dkwL_law_59 ++ []
def dkwL_law_58 : List UInt8 := [172, 43, 182, 0, 194, 44, 182, 0, 197, 159, 0, 28, 3, 172, 43, 42, 29, 4, 96, 46, 182, 0, 198, 44]
abbrev dktL_law_58 : List UInt8 := dkwL_law_58 ++ dktL_law_59
def dkwL_law_57 : List UInt8 := [29, 4, 96, 46, 182, 0, 189, 159, 0, 54, 3, 172, 43, 182, 0, 190, 44, 182, 0, 193, 159, 0, 41, 3]
abbrev dktL_law_57 : List UInt8 := dkwL_law_57 ++ dktL_law_58
def dkwL_law_56 : List UInt8 := [43, 182, 0, 182, 44, 182, 0, 185, 159, 0, 77, 3, 172, 43, 42, 29, 4, 96, 46, 182, 0, 186, 44, 42]
abbrev dktL_law_56 : List UInt8 := dkwL_law_56 ++ dktL_law_57
def dkwL_law_55 : List UInt8 := [172, 43, 42, 29, 4, 96, 46, 182, 0, 178, 44, 42, 29, 4, 96, 46, 182, 0, 181, 159, 0, 90, 3, 172]
abbrev dktL_law_55 : List UInt8 := dkwL_law_55 ++ dktL_law_56
def dkwL_law_54 : List UInt8 := [29, 6, 96, 46, 182, 0, 173, 159, 0, 126, 3, 172, 43, 182, 0, 174, 44, 182, 0, 177, 159, 0, 113, 3]
abbrev dktL_law_54 : List UInt8 := dkwL_law_54 ++ dktL_law_55
def dkwL_law_53 : List UInt8 := [29, 5, 96, 46, 42, 29, 6, 96, 46, 182, 0, 170, 44, 42, 29, 4, 96, 46, 42, 29, 5, 96, 46, 42]
abbrev dktL_law_53 : List UInt8 := dkwL_law_53 ++ dktL_law_54
def dkwL_law_52 : List UInt8 := [182, 0, 166, 44, 42, 29, 4, 96, 46, 182, 0, 169, 159, 0, 169, 3, 172, 43, 42, 29, 4, 96, 46, 42]
abbrev dktL_law_52 : List UInt8 := dkwL_law_52 ++ dktL_law_53
def dkwL_law_51 : List UInt8 := [182, 0, 162, 44, 42, 29, 4, 96, 46, 182, 0, 165, 159, 0, 192, 3, 172, 43, 42, 29, 4, 96, 46]
abbrev dktL_law_51 : List UInt8 := dkwL_law_51 ++ dktL_law_52
def dkwL_law_50 : List UInt8 := [6, 96, 46, 42, 29, 7, 96, 46, 182, 0, 161, 159, 0, 215, 3, 172, 43, 42, 29, 4, 96, 46]
abbrev dktL_law_50 : List UInt8 := dkwL_law_50 ++ dktL_law_51
def dkwL_law_49 : List UInt8 := [6, 96, 46, 42, 29, 7, 96, 46, 182, 0, 157, 44, 42, 29, 4, 96, 46, 42, 29, 5, 96, 46, 42, 29]
abbrev dktL_law_49 : List UInt8 := dkwL_law_49 ++ dktL_law_50
def dkwL_law_48 : List UInt8 := [5, 96, 46, 182, 0, 156, 159, 1, 12, 3, 172, 43, 42, 29, 4, 96, 46, 42, 29, 5, 96, 46, 42, 29]
abbrev dktL_law_48 : List UInt8 := dkwL_law_48 ++ dktL_law_49
def dkwL_law_47 : List UInt8 := [3, 172, 43, 42, 29, 4, 96, 46, 42, 29, 5, 96, 46, 182, 0, 153, 44, 42, 29, 4, 96, 46, 42, 29]
abbrev dktL_law_47 : List UInt8 := dkwL_law_47 ++ dktL_law_48
def dkwL_law_46 : List UInt8 := [29, 5, 96, 46, 182, 0, 149, 44, 42, 29, 4, 96, 46, 42, 29, 5, 96, 46, 182, 0, 152, 159, 1, 45]
abbrev dktL_law_46 : List UInt8 := dkwL_law_46 ++ dktL_law_47
def dkwL_law_45 : List UInt8 := [182, 0, 145, 44, 42, 29, 4, 96, 46, 182, 0, 148, 159, 1, 78, 3, 172, 43, 42, 29, 4, 96, 46, 42]
abbrev dktL_law_45 : List UInt8 := dkwL_law_45 ++ dktL_law_46
def dkwL_law_44 : List UInt8 := [29, 4, 96, 46, 42, 29, 5, 96, 46, 182, 0, 144, 159, 1, 101, 3, 172, 43, 42, 29, 4, 96, 46]
abbrev dktL_law_44 : List UInt8 := dkwL_law_44 ++ dktL_law_45
def dkwL_law_43 : List UInt8 := [182, 0, 140, 159, 1, 134, 3, 172, 43, 42, 29, 4, 96, 46, 42, 29, 5, 96, 46, 182, 0, 141, 44, 42]
abbrev dktL_law_43 : List UInt8 := dkwL_law_43 ++ dktL_law_44
def dkwL_law_42 : List UInt8 := [182, 0, 136, 159, 1, 157, 3, 172, 43, 42, 29, 4, 96, 46, 182, 0, 137, 44, 42, 29, 4, 96, 46]
abbrev dktL_law_42 : List UInt8 := dkwL_law_42 ++ dktL_law_43
def dkwL_law_41 : List UInt8 := [29, 4, 96, 46, 42, 29, 5, 96, 46, 182, 0, 133, 44, 42, 29, 4, 96, 46, 42, 29, 5, 96, 46]
abbrev dktL_law_41 : List UInt8 := dkwL_law_41 ++ dktL_law_42
def dkwL_law_40 : List UInt8 := [182, 0, 129, 44, 42, 29, 4, 96, 46, 42, 29, 5, 96, 46, 182, 0, 132, 159, 1, 190, 3, 172, 43, 42]
abbrev dktL_law_40 : List UInt8 := dkwL_law_40 ++ dktL_law_41
def dkwL_law_39 : List UInt8 := [42, 29, 4, 96, 46, 182, 0, 128, 159, 1, 223, 3, 172, 43, 42, 29, 4, 96, 46, 42, 29, 5, 96, 46]
abbrev dktL_law_39 : List UInt8 := dkwL_law_39 ++ dktL_law_40
def dkwL_law_38 : List UInt8 := [42, 29, 4, 96, 46, 182, 0, 124, 148, 153, 1, 246, 3, 172, 43, 42, 29, 4, 96, 46, 182, 0, 125, 44]
abbrev dktL_law_38 : List UInt8 := dkwL_law_38 ++ dktL_law_39
def dkwL_law_37 : List UInt8 := [46, 42, 29, 5, 96, 46, 182, 0, 119, 159, 2, 14, 3, 172, 43, 42, 29, 4, 96, 46, 182, 0, 120, 44]
abbrev dktL_law_37 : List UInt8 := dkwL_law_37 ++ dktL_law_38
def dkwL_law_36 : List UInt8 := [159, 2, 47, 3, 172, 43, 42, 29, 4, 96, 46, 42, 29, 5, 96, 46, 182, 0, 116, 44, 42, 29, 4, 96]
abbrev dktL_law_36 : List UInt8 := dkwL_law_36 ++ dktL_law_37
def dkwL_law_35 : List UInt8 := [159, 2, 70, 3, 172, 43, 42, 29, 4, 96, 46, 182, 0, 112, 44, 42, 29, 4, 96, 46, 182, 0, 115]
abbrev dktL_law_35 : List UInt8 := dkwL_law_35 ++ dktL_law_36
def dkwL_law_34 : List UInt8 := [159, 2, 93, 3, 172, 43, 42, 29, 4, 96, 46, 182, 0, 108, 44, 42, 29, 4, 96, 46, 182, 0, 111]
abbrev dktL_law_34 : List UInt8 := dkwL_law_34 ++ dktL_law_35
def dkwL_law_33 : List UInt8 := [46, 42, 29, 5, 96, 46, 182, 0, 103, 159, 2, 106, 3, 172, 43, 182, 0, 104, 44, 182, 0, 107]
abbrev dktL_law_33 : List UInt8 := dkwL_law_33 ++ dktL_law_34
def dkwL_law_32 : List UInt8 := [159, 2, 139, 3, 172, 43, 42, 29, 4, 96, 46, 42, 29, 5, 96, 46, 182, 0, 100, 44, 42, 29, 4, 96]
abbrev dktL_law_32 : List UInt8 := dkwL_law_32 ++ dktL_law_33
def dkwL_law_31 : List UInt8 := [182, 0, 96, 44, 42, 29, 4, 96, 46, 42, 29, 5, 96, 46, 42, 29, 6, 96, 46, 182, 0, 99]
abbrev dktL_law_31 : List UInt8 := dkwL_law_31 ++ dktL_law_32
def dkwL_law_30 : List UInt8 := [182, 0, 95, 159, 2, 182, 3, 172, 43, 42, 29, 4, 96, 46, 42, 29, 5, 96, 46, 42, 29, 6, 96, 46]
abbrev dktL_law_30 : List UInt8 := dkwL_law_30 ++ dktL_law_31
def dkwL_law_29 : List UInt8 := [182, 0, 91, 159, 2, 205, 3, 172, 43, 42, 29, 4, 96, 46, 182, 0, 92, 44, 42, 29, 4, 96, 46]
abbrev dktL_law_29 : List UInt8 := dkwL_law_29 ++ dktL_law_30
def dkwL_law_28 : List UInt8 := [29, 4, 96, 46, 42, 29, 5, 96, 46, 182, 0, 88, 44, 42, 29, 4, 96, 46, 42, 29, 5, 96, 46]
abbrev dktL_law_28 : List UInt8 := dkwL_law_28 ++ dktL_law_29
def dkwL_law_27 : List UInt8 := [182, 0, 84, 44, 42, 29, 4, 96, 46, 42, 29, 5, 96, 46, 182, 0, 87, 159, 2, 238, 3, 172, 43, 42]
abbrev dktL_law_27 : List UInt8 := dkwL_law_27 ++ dktL_law_28
def dkwL_law_26 : List UInt8 := [182, 0, 80, 44, 182, 0, 83, 159, 3, 15, 3, 172, 43, 42, 29, 4, 96, 46, 42, 29, 5, 96, 46]
abbrev dktL_law_26 : List UInt8 := dkwL_law_26 ++ dktL_law_27
def dkwL_law_25 : List UInt8 := [46, 182, 0, 74, 159, 3, 41, 3, 172, 43, 182, 0, 75, 44, 182, 0, 79, 159, 3, 28, 3, 172, 43]
abbrev dktL_law_25 : List UInt8 := dkwL_law_25 ++ dktL_law_26
def dkwL_law_24 : List UInt8 := [96, 46, 182, 0, 70, 159, 3, 64, 3, 172, 43, 42, 29, 4, 96, 46, 182, 0, 71, 44, 42, 29, 4, 96]
abbrev dktL_law_24 : List UInt8 := dkwL_law_24 ++ dktL_law_25
def dkwL_law_23 : List UInt8 := [172, 43, 42, 29, 4, 96, 46, 42, 29, 5, 96, 46, 182, 0, 67, 44, 42, 29, 4, 96, 46, 42, 29, 5]
abbrev dktL_law_23 : List UInt8 := dkwL_law_23 ++ dktL_law_24
def dkwL_law_22 : List UInt8 := [29, 5, 96, 46, 42, 29, 6, 96, 46, 153, 0, 7, 4, 167, 0, 4, 3, 182, 0, 66, 159, 3, 97, 3]
abbrev dktL_law_22 : List UInt8 := dkwL_law_22 ++ dktL_law_23
def dkwL_law_21 : List UInt8 := [46, 42, 29, 6, 96, 46, 153, 0, 7, 4, 167, 0, 4, 3, 182, 0, 62, 44, 42, 29, 4, 96, 46, 42]
abbrev dktL_law_21 : List UInt8 := dkwL_law_21 ++ dktL_law_22
def dkwL_law_20 : List UInt8 := [46, 42, 29, 5, 96, 46, 182, 0, 61, 159, 3, 156, 3, 172, 43, 42, 29, 4, 96, 46, 42, 29, 5, 96]
abbrev dktL_law_20 : List UInt8 := dkwL_law_20 ++ dktL_law_21
def dkwL_law_19 : List UInt8 := [159, 3, 189, 3, 172, 43, 42, 29, 4, 96, 46, 42, 29, 5, 96, 46, 182, 0, 58, 44, 42, 29, 4, 96]
abbrev dktL_law_19 : List UInt8 := dkwL_law_19 ++ dktL_law_20
def dkwL_law_18 : List UInt8 := [42, 29, 5, 96, 46, 182, 0, 54, 44, 42, 29, 4, 96, 46, 42, 29, 5, 96, 46, 182, 0, 57]
abbrev dktL_law_18 : List UInt8 := dkwL_law_18 ++ dktL_law_19
def dkwL_law_17 : List UInt8 := [96, 46, 153, 0, 7, 4, 167, 0, 4, 3, 182, 0, 53, 159, 3, 222, 3, 172, 43, 42, 29, 4, 96, 46]
abbrev dktL_law_17 : List UInt8 := dkwL_law_17 ++ dktL_law_18
def dkwL_law_16 : List UInt8 := [29, 5, 96, 46, 153, 0, 7, 4, 167, 0, 4, 3, 182, 0, 49, 44, 42, 29, 4, 96, 46, 42, 29, 5]
abbrev dktL_law_16 : List UInt8 := dkwL_law_16 ++ dktL_law_17
def dkwL_law_15 : List UInt8 := [29, 4, 96, 46, 42, 29, 5, 96, 46, 182, 0, 48, 159, 4, 15, 3, 172, 43, 42, 29, 4, 96, 46, 42]
abbrev dktL_law_15 : List UInt8 := dkwL_law_15 ++ dktL_law_16
def dkwL_law_14 : List UInt8 := [182, 0, 44, 159, 4, 48, 3, 172, 43, 42, 29, 4, 96, 46, 42, 29, 5, 96, 46, 182, 0, 45, 44, 42]
abbrev dktL_law_14 : List UInt8 := dkwL_law_14 ++ dktL_law_15
def dkwL_law_13 : List UInt8 := [29, 4, 96, 46, 42, 29, 5, 96, 46, 182, 0, 40, 44, 42, 29, 4, 96, 46, 42, 29, 5, 96, 46]
abbrev dktL_law_13 : List UInt8 := dkwL_law_13 ++ dktL_law_14
def dkwL_law_12 : List UInt8 := [42, 29, 4, 96, 46, 182, 0, 35, 44, 42, 29, 4, 96, 46, 182, 0, 39, 159, 4, 81, 3, 172, 43, 42]
abbrev dktL_law_12 : List UInt8 := dkwL_law_12 ++ dktL_law_13
def dkwL_law_11 : List UInt8 := [182, 0, 30, 44, 42, 29, 4, 96, 46, 42, 29, 5, 96, 46, 182, 0, 34, 148, 153, 4, 104, 3, 172, 43]
abbrev dktL_law_11 : List UInt8 := dkwL_law_11 ++ dktL_law_12
def dkwL_law_10 : List UInt8 := [42, 29, 8, 96, 46, 182, 0, 29, 159, 4, 138, 3, 172, 43, 42, 29, 4, 96, 46, 42, 29, 5, 96, 46]
abbrev dktL_law_10 : List UInt8 := dkwL_law_10 ++ dktL_law_11
def dkwL_law_9 : List UInt8 := [182, 0, 25, 44, 42, 29, 4, 96, 46, 42, 29, 5, 96, 46, 42, 29, 6, 96, 46, 42, 29, 7, 96, 46]
abbrev dktL_law_9 : List UInt8 := dkwL_law_9 ++ dktL_law_10
def dkwL_law_8 : List UInt8 := [96, 46, 42, 29, 5, 96, 46, 42, 29, 6, 96, 46, 42, 29, 7, 96, 46, 42, 29, 8, 96, 46]
abbrev dktL_law_8 : List UInt8 := dkwL_law_8 ++ dktL_law_9
def dkwL_law_7 : List UInt8 := [121, 42, 29, 7, 96, 46, 133, 20, 0, 18, 127, 129, 182, 0, 24, 159, 4, 201, 3, 172, 43, 42, 29, 4]
abbrev dktL_law_7 : List UInt8 := dkwL_law_7 ++ dktL_law_8
def dkwL_law_6 : List UInt8 := [127, 129, 182, 0, 20, 44, 42, 29, 4, 96, 46, 42, 29, 5, 96, 46, 42, 29, 6, 96, 46, 133, 16, 32]
abbrev dktL_law_6 : List UInt8 := dkwL_law_6 ++ dktL_law_7
def dkwL_law_5 : List UInt8 := [46, 42, 29, 5, 96, 46, 42, 29, 6, 96, 46, 133, 16, 32, 121, 42, 29, 7, 96, 46, 133, 20, 0, 18]
abbrev dktL_law_5 : List UInt8 := dkwL_law_5 ++ dktL_law_6
def dkwL_law_4 : List UInt8 := [46, 42, 29, 5, 96, 46, 42, 29, 6, 96, 46, 182, 0, 17, 159, 5, 18, 3, 172, 43, 42, 29, 4, 96]
abbrev dktL_law_4 : List UInt8 := dkwL_law_4 ++ dktL_law_5
def dkwL_law_3 : List UInt8 := [43, 42, 29, 4, 96, 46, 42, 29, 5, 96, 46, 42, 29, 6, 96, 46, 182, 0, 13, 44, 42, 29, 4, 96]
abbrev dktL_law_3 : List UInt8 := dkwL_law_3 ++ dktL_law_4
def dkwL_law_2 : List UInt8 := [170, 0, 0, 0, 0, 5, 247, 0, 0, 0, 0, 0, 0, 0, 43, 0, 0, 0, 191, 0, 0, 0, 234, 0, 0, 1, 51, 0, 0, 1, 114, 0, 0, 1, 148, 0, 0, 1, 171, 0, 0, 1, 204, 0, 0, 1, 237, 0, 0, 2, 30, 0, 0, 2, 63, 0, 0, 2, 96, 0, 0, 2, 155, 0, 0, 2, 188, 0, 0, 2, 211, 0, 0, 2, 224, 0, 0, 2, 237, 0, 0, 3, 14, 0, 0, 3, 47, 0, 0, 3, 70, 0, 0, 3, 113, 0, 0, 3, 146, 0, 0, 3, 159, 0, 0, 3, 182, 0, 0, 3, 205, 0, 0, 3, 238, 0, 0, 4, 6, 0, 0, 4, 29, 0, 0, 4, 62, 0, 0, 4, 95, 0, 0, 4, 118, 0, 0, 4, 151, 0, 0, 4, 174, 0, 0, 4, 207, 0, 0, 4, 240, 0, 0, 5, 37, 0, 0, 5, 60, 0, 0, 5, 83, 0, 0, 5, 126, 0, 0, 5, 139, 0, 0, 5, 162, 0, 0, 5, 175, 0, 0, 5, 198, 0, 0, 5, 211, 0, 0, 5, 224]
abbrev dktL_law_2 : List UInt8 := dkwL_law_2 ++ dktL_law_3
def dkwL_law_1 : List UInt8 := [163, 6, 6, 42, 29, 46, 16, 63, 126]
abbrev dktL_law_1 : List UInt8 := dkwL_law_1 ++ dktL_law_2
def dkwL_law_0 : List UInt8 := [187, 0, 7, 89, 183, 0, 9, 76, 187, 0, 10, 89, 183, 0, 12, 77, 3, 62, 29, 42, 190, 16, 6, 100]
abbrev dktL_law_0 : List UInt8 := dkwL_law_0 ++ dktL_law_1
theorem dksL_law_0 : cL_law.data.toList.drop 0 = dktL_law_0 := by decide +kernel
theorem dksL_law_1 : cL_law.data.toList.drop 24 = dktL_law_1 := dk_seg dksL_law_0 24 rfl rfl
theorem dksL_law_2 : cL_law.data.toList.drop 33 = dktL_law_2 := dk_seg dksL_law_1 9 rfl rfl
theorem dksL_law_3 : cL_law.data.toList.drop 224 = dktL_law_3 := dk_seg dksL_law_2 191 rfl rfl
theorem dksL_law_4 : cL_law.data.toList.drop 248 = dktL_law_4 := dk_seg dksL_law_3 24 rfl rfl
theorem dksL_law_5 : cL_law.data.toList.drop 272 = dktL_law_5 := dk_seg dksL_law_4 24 rfl rfl
theorem dksL_law_6 : cL_law.data.toList.drop 296 = dktL_law_6 := dk_seg dksL_law_5 24 rfl rfl
theorem dksL_law_7 : cL_law.data.toList.drop 320 = dktL_law_7 := dk_seg dksL_law_6 24 rfl rfl
theorem dksL_law_8 : cL_law.data.toList.drop 344 = dktL_law_8 := dk_seg dksL_law_7 24 rfl rfl
theorem dksL_law_9 : cL_law.data.toList.drop 366 = dktL_law_9 := dk_seg dksL_law_8 22 rfl rfl
theorem dksL_law_10 : cL_law.data.toList.drop 390 = dktL_law_10 := dk_seg dksL_law_9 24 rfl rfl
theorem dksL_law_11 : cL_law.data.toList.drop 414 = dktL_law_11 := dk_seg dksL_law_10 24 rfl rfl
theorem dksL_law_12 : cL_law.data.toList.drop 438 = dktL_law_12 := dk_seg dksL_law_11 24 rfl rfl
theorem dksL_law_13 : cL_law.data.toList.drop 462 = dktL_law_13 := dk_seg dksL_law_12 24 rfl rfl
theorem dksL_law_14 : cL_law.data.toList.drop 485 = dktL_law_14 := dk_seg dksL_law_13 23 rfl rfl
theorem dksL_law_15 : cL_law.data.toList.drop 509 = dktL_law_15 := dk_seg dksL_law_14 24 rfl rfl
theorem dksL_law_16 : cL_law.data.toList.drop 533 = dktL_law_16 := dk_seg dksL_law_15 24 rfl rfl
theorem dksL_law_17 : cL_law.data.toList.drop 557 = dktL_law_17 := dk_seg dksL_law_16 24 rfl rfl
theorem dksL_law_18 : cL_law.data.toList.drop 581 = dktL_law_18 := dk_seg dksL_law_17 24 rfl rfl
theorem dksL_law_19 : cL_law.data.toList.drop 603 = dktL_law_19 := dk_seg dksL_law_18 22 rfl rfl
theorem dksL_law_20 : cL_law.data.toList.drop 627 = dktL_law_20 := dk_seg dksL_law_19 24 rfl rfl
theorem dksL_law_21 : cL_law.data.toList.drop 651 = dktL_law_21 := dk_seg dksL_law_20 24 rfl rfl
theorem dksL_law_22 : cL_law.data.toList.drop 675 = dktL_law_22 := dk_seg dksL_law_21 24 rfl rfl
theorem dksL_law_23 : cL_law.data.toList.drop 699 = dktL_law_23 := dk_seg dksL_law_22 24 rfl rfl
theorem dksL_law_24 : cL_law.data.toList.drop 723 = dktL_law_24 := dk_seg dksL_law_23 24 rfl rfl
theorem dksL_law_25 : cL_law.data.toList.drop 747 = dktL_law_25 := dk_seg dksL_law_24 24 rfl rfl
theorem dksL_law_26 : cL_law.data.toList.drop 770 = dktL_law_26 := dk_seg dksL_law_25 23 rfl rfl
theorem dksL_law_27 : cL_law.data.toList.drop 793 = dktL_law_27 := dk_seg dksL_law_26 23 rfl rfl
theorem dksL_law_28 : cL_law.data.toList.drop 817 = dktL_law_28 := dk_seg dksL_law_27 24 rfl rfl
theorem dksL_law_29 : cL_law.data.toList.drop 840 = dktL_law_29 := dk_seg dksL_law_28 23 rfl rfl
theorem dksL_law_30 : cL_law.data.toList.drop 863 = dktL_law_30 := dk_seg dksL_law_29 23 rfl rfl
theorem dksL_law_31 : cL_law.data.toList.drop 887 = dktL_law_31 := dk_seg dksL_law_30 24 rfl rfl
theorem dksL_law_32 : cL_law.data.toList.drop 909 = dktL_law_32 := dk_seg dksL_law_31 22 rfl rfl
theorem dksL_law_33 : cL_law.data.toList.drop 933 = dktL_law_33 := dk_seg dksL_law_32 24 rfl rfl
theorem dksL_law_34 : cL_law.data.toList.drop 955 = dktL_law_34 := dk_seg dksL_law_33 22 rfl rfl
theorem dksL_law_35 : cL_law.data.toList.drop 978 = dktL_law_35 := dk_seg dksL_law_34 23 rfl rfl
theorem dksL_law_36 : cL_law.data.toList.drop 1001 = dktL_law_36 := dk_seg dksL_law_35 23 rfl rfl
theorem dksL_law_37 : cL_law.data.toList.drop 1025 = dktL_law_37 := dk_seg dksL_law_36 24 rfl rfl
theorem dksL_law_38 : cL_law.data.toList.drop 1049 = dktL_law_38 := dk_seg dksL_law_37 24 rfl rfl
theorem dksL_law_39 : cL_law.data.toList.drop 1073 = dktL_law_39 := dk_seg dksL_law_38 24 rfl rfl
theorem dksL_law_40 : cL_law.data.toList.drop 1097 = dktL_law_40 := dk_seg dksL_law_39 24 rfl rfl
theorem dksL_law_41 : cL_law.data.toList.drop 1121 = dktL_law_41 := dk_seg dksL_law_40 24 rfl rfl
theorem dksL_law_42 : cL_law.data.toList.drop 1144 = dktL_law_42 := dk_seg dksL_law_41 23 rfl rfl
theorem dksL_law_43 : cL_law.data.toList.drop 1167 = dktL_law_43 := dk_seg dksL_law_42 23 rfl rfl
theorem dksL_law_44 : cL_law.data.toList.drop 1191 = dktL_law_44 := dk_seg dksL_law_43 24 rfl rfl
theorem dksL_law_45 : cL_law.data.toList.drop 1214 = dktL_law_45 := dk_seg dksL_law_44 23 rfl rfl
theorem dksL_law_46 : cL_law.data.toList.drop 1238 = dktL_law_46 := dk_seg dksL_law_45 24 rfl rfl
theorem dksL_law_47 : cL_law.data.toList.drop 1262 = dktL_law_47 := dk_seg dksL_law_46 24 rfl rfl
theorem dksL_law_48 : cL_law.data.toList.drop 1286 = dktL_law_48 := dk_seg dksL_law_47 24 rfl rfl
theorem dksL_law_49 : cL_law.data.toList.drop 1310 = dktL_law_49 := dk_seg dksL_law_48 24 rfl rfl
theorem dksL_law_50 : cL_law.data.toList.drop 1334 = dktL_law_50 := dk_seg dksL_law_49 24 rfl rfl
theorem dksL_law_51 : cL_law.data.toList.drop 1356 = dktL_law_51 := dk_seg dksL_law_50 22 rfl rfl
theorem dksL_law_52 : cL_law.data.toList.drop 1379 = dktL_law_52 := dk_seg dksL_law_51 23 rfl rfl
theorem dksL_law_53 : cL_law.data.toList.drop 1403 = dktL_law_53 := dk_seg dksL_law_52 24 rfl rfl
theorem dksL_law_54 : cL_law.data.toList.drop 1427 = dktL_law_54 := dk_seg dksL_law_53 24 rfl rfl
theorem dksL_law_55 : cL_law.data.toList.drop 1451 = dktL_law_55 := dk_seg dksL_law_54 24 rfl rfl
theorem dksL_law_56 : cL_law.data.toList.drop 1475 = dktL_law_56 := dk_seg dksL_law_55 24 rfl rfl
theorem dksL_law_57 : cL_law.data.toList.drop 1499 = dktL_law_57 := dk_seg dksL_law_56 24 rfl rfl
theorem dksL_law_58 : cL_law.data.toList.drop 1523 = dktL_law_58 := dk_seg dksL_law_57 24 rfl rfl
theorem dksL_law_59 : cL_law.data.toList.drop 1547 = dktL_law_59 := dk_seg dksL_law_58 24 rfl rfl
theorem dL_law_0 : decode cL_law 0 = .ok (.new 7, 3) := dk_187 0 7 (dk_at dksL_law_0 0 rfl rfl)
theorem dL_law_3 : decode cL_law 3 = .ok (.dup, 1) := dk_89 (dk_at dksL_law_0 3 rfl rfl)
theorem dL_law_4 : decode cL_law 4 = .ok (.invokespecial 9, 3) := dk_183 0 9 (dk_at dksL_law_0 4 rfl rfl)
theorem dL_law_7 : decode cL_law 7 = .ok (.astore_n 1, 1) := dk_76 (dk_at dksL_law_0 7 rfl rfl)
theorem dL_law_8 : decode cL_law 8 = .ok (.new 10, 3) := dk_187 0 10 (dk_at dksL_law_0 8 rfl rfl)
theorem dL_law_11 : decode cL_law 11 = .ok (.dup, 1) := dk_89 (dk_at dksL_law_0 11 rfl rfl)
theorem dL_law_12 : decode cL_law 12 = .ok (.invokespecial 12, 3) := dk_183 0 12 (dk_at dksL_law_0 12 rfl rfl)
theorem dL_law_15 : decode cL_law 15 = .ok (.astore_n 2, 1) := dk_77 (dk_at dksL_law_0 15 rfl rfl)
theorem dL_law_16 : decode cL_law 16 = .ok (.iconst 0, 1) := dk_3 (dk_at dksL_law_0 16 rfl rfl)
theorem dL_law_17 : decode cL_law 17 = .ok (.istore_n 3, 1) := dk_62 (dk_at dksL_law_0 17 rfl rfl)
theorem dL_law_18 : decode cL_law 18 = .ok (.iload_n 3, 1) := dk_29 (dk_at dksL_law_0 18 rfl rfl)
theorem dL_law_19 : decode cL_law 19 = .ok (.aload_n 0, 1) := dk_42 (dk_at dksL_law_0 19 rfl rfl)
theorem dL_law_20 : decode cL_law 20 = .ok (.arraylength, 1) := dk_190 (dk_at dksL_law_0 20 rfl rfl)
theorem dL_law_21 : decode cL_law 21 = .ok (.bipush 6, 2) := dk_16 6 (dk_at dksL_law_0 21 rfl rfl)
theorem dL_law_23 : decode cL_law 23 = .ok (.isub, 1) := dk_100 (dk_at dksL_law_0 23 rfl rfl)
theorem dL_law_24 : decode cL_law 24 = .ok (.if_icmp .gt 1542, 3) := dk_163 6 6 (dk_at dksL_law_1 0 rfl rfl)
theorem dL_law_27 : decode cL_law 27 = .ok (.aload_n 0, 1) := dk_42 (dk_at dksL_law_1 3 rfl rfl)
theorem dL_law_28 : decode cL_law 28 = .ok (.iload_n 3, 1) := dk_29 (dk_at dksL_law_1 4 rfl rfl)
theorem dL_law_29 : decode cL_law 29 = .ok (.iaload, 1) := dk_46 (dk_at dksL_law_1 5 rfl rfl)
theorem dL_law_30 : decode cL_law 30 = .ok (.bipush 63, 2) := dk_16 63 (dk_at dksL_law_1 6 rfl rfl)
theorem dL_law_32 : decode cL_law 32 = .ok (.iand, 1) := dk_126 (dk_at dksL_law_1 8 rfl rfl)
theorem dL_law_33 : decode cL_law 33 = .ok (.tableswitch 1527 0 43 #[191, 234, 307, 370, 404, 427, 460, 493, 542, 575, 608, 667, 700, 723, 736, 749, 782, 815, 838, 881, 914, 927, 950, 973, 1006, 1030, 1053, 1086, 1119, 1142, 1175, 1198, 1231, 1264, 1317, 1340, 1363, 1406, 1419, 1442, 1455, 1478, 1491, 1504], 191) := by decide +kernel
theorem dL_law_224 : decode cL_law 224 = .ok (.aload_n 1, 1) := dk_43 (dk_at dksL_law_3 0 rfl rfl)
theorem dL_law_225 : decode cL_law 225 = .ok (.aload_n 0, 1) := dk_42 (dk_at dksL_law_3 1 rfl rfl)
theorem dL_law_226 : decode cL_law 226 = .ok (.iload_n 3, 1) := dk_29 (dk_at dksL_law_3 2 rfl rfl)
theorem dL_law_227 : decode cL_law 227 = .ok (.iconst 1, 1) := dk_4 (dk_at dksL_law_3 3 rfl rfl)
theorem dL_law_228 : decode cL_law 228 = .ok (.iadd, 1) := dk_96 (dk_at dksL_law_3 4 rfl rfl)
theorem dL_law_229 : decode cL_law 229 = .ok (.iaload, 1) := dk_46 (dk_at dksL_law_3 5 rfl rfl)
theorem dL_law_230 : decode cL_law 230 = .ok (.aload_n 0, 1) := dk_42 (dk_at dksL_law_3 6 rfl rfl)
theorem dL_law_231 : decode cL_law 231 = .ok (.iload_n 3, 1) := dk_29 (dk_at dksL_law_3 7 rfl rfl)
theorem dL_law_232 : decode cL_law 232 = .ok (.iconst 2, 1) := dk_5 (dk_at dksL_law_3 8 rfl rfl)
theorem dL_law_233 : decode cL_law 233 = .ok (.iadd, 1) := dk_96 (dk_at dksL_law_3 9 rfl rfl)
theorem dL_law_234 : decode cL_law 234 = .ok (.iaload, 1) := dk_46 (dk_at dksL_law_3 10 rfl rfl)
theorem dL_law_235 : decode cL_law 235 = .ok (.aload_n 0, 1) := dk_42 (dk_at dksL_law_3 11 rfl rfl)
theorem dL_law_236 : decode cL_law 236 = .ok (.iload_n 3, 1) := dk_29 (dk_at dksL_law_3 12 rfl rfl)
theorem dL_law_237 : decode cL_law 237 = .ok (.iconst 3, 1) := dk_6 (dk_at dksL_law_3 13 rfl rfl)
theorem dL_law_238 : decode cL_law 238 = .ok (.iadd, 1) := dk_96 (dk_at dksL_law_3 14 rfl rfl)
theorem dL_law_239 : decode cL_law 239 = .ok (.iaload, 1) := dk_46 (dk_at dksL_law_3 15 rfl rfl)
theorem dL_law_240 : decode cL_law 240 = .ok (.invokevirtual 13, 3) := dk_182 0 13 (dk_at dksL_law_3 16 rfl rfl)
theorem dL_law_243 : decode cL_law 243 = .ok (.aload_n 2, 1) := dk_44 (dk_at dksL_law_3 19 rfl rfl)
theorem dL_law_244 : decode cL_law 244 = .ok (.aload_n 0, 1) := dk_42 (dk_at dksL_law_3 20 rfl rfl)
theorem dL_law_245 : decode cL_law 245 = .ok (.iload_n 3, 1) := dk_29 (dk_at dksL_law_3 21 rfl rfl)
theorem dL_law_246 : decode cL_law 246 = .ok (.iconst 1, 1) := dk_4 (dk_at dksL_law_3 22 rfl rfl)
theorem dL_law_247 : decode cL_law 247 = .ok (.iadd, 1) := dk_96 (dk_at dksL_law_3 23 rfl rfl)
theorem dL_law_248 : decode cL_law 248 = .ok (.iaload, 1) := dk_46 (dk_at dksL_law_4 0 rfl rfl)
theorem dL_law_249 : decode cL_law 249 = .ok (.aload_n 0, 1) := dk_42 (dk_at dksL_law_4 1 rfl rfl)
theorem dL_law_250 : decode cL_law 250 = .ok (.iload_n 3, 1) := dk_29 (dk_at dksL_law_4 2 rfl rfl)
theorem dL_law_251 : decode cL_law 251 = .ok (.iconst 2, 1) := dk_5 (dk_at dksL_law_4 3 rfl rfl)
theorem dL_law_252 : decode cL_law 252 = .ok (.iadd, 1) := dk_96 (dk_at dksL_law_4 4 rfl rfl)
theorem dL_law_253 : decode cL_law 253 = .ok (.iaload, 1) := dk_46 (dk_at dksL_law_4 5 rfl rfl)
theorem dL_law_254 : decode cL_law 254 = .ok (.aload_n 0, 1) := dk_42 (dk_at dksL_law_4 6 rfl rfl)
theorem dL_law_255 : decode cL_law 255 = .ok (.iload_n 3, 1) := dk_29 (dk_at dksL_law_4 7 rfl rfl)
theorem dL_law_256 : decode cL_law 256 = .ok (.iconst 3, 1) := dk_6 (dk_at dksL_law_4 8 rfl rfl)
theorem dL_law_257 : decode cL_law 257 = .ok (.iadd, 1) := dk_96 (dk_at dksL_law_4 9 rfl rfl)
theorem dL_law_258 : decode cL_law 258 = .ok (.iaload, 1) := dk_46 (dk_at dksL_law_4 10 rfl rfl)
theorem dL_law_259 : decode cL_law 259 = .ok (.invokevirtual 17, 3) := dk_182 0 17 (dk_at dksL_law_4 11 rfl rfl)
theorem dL_law_262 : decode cL_law 262 = .ok (.if_icmp .eq 1298, 3) := dk_159 5 18 (dk_at dksL_law_4 14 rfl rfl)
theorem dL_law_265 : decode cL_law 265 = .ok (.iconst 0, 1) := dk_3 (dk_at dksL_law_4 17 rfl rfl)
theorem dL_law_266 : decode cL_law 266 = .ok (.ireturn, 1) := dk_172 (dk_at dksL_law_4 18 rfl rfl)
theorem dL_law_267 : decode cL_law 267 = .ok (.aload_n 1, 1) := dk_43 (dk_at dksL_law_4 19 rfl rfl)
theorem dL_law_268 : decode cL_law 268 = .ok (.aload_n 0, 1) := dk_42 (dk_at dksL_law_4 20 rfl rfl)
theorem dL_law_269 : decode cL_law 269 = .ok (.iload_n 3, 1) := dk_29 (dk_at dksL_law_4 21 rfl rfl)
theorem dL_law_270 : decode cL_law 270 = .ok (.iconst 1, 1) := dk_4 (dk_at dksL_law_4 22 rfl rfl)
theorem dL_law_271 : decode cL_law 271 = .ok (.iadd, 1) := dk_96 (dk_at dksL_law_4 23 rfl rfl)
theorem dL_law_272 : decode cL_law 272 = .ok (.iaload, 1) := dk_46 (dk_at dksL_law_5 0 rfl rfl)
theorem dL_law_273 : decode cL_law 273 = .ok (.aload_n 0, 1) := dk_42 (dk_at dksL_law_5 1 rfl rfl)
theorem dL_law_274 : decode cL_law 274 = .ok (.iload_n 3, 1) := dk_29 (dk_at dksL_law_5 2 rfl rfl)
theorem dL_law_275 : decode cL_law 275 = .ok (.iconst 2, 1) := dk_5 (dk_at dksL_law_5 3 rfl rfl)
theorem dL_law_276 : decode cL_law 276 = .ok (.iadd, 1) := dk_96 (dk_at dksL_law_5 4 rfl rfl)
theorem dL_law_277 : decode cL_law 277 = .ok (.iaload, 1) := dk_46 (dk_at dksL_law_5 5 rfl rfl)
theorem dL_law_278 : decode cL_law 278 = .ok (.aload_n 0, 1) := dk_42 (dk_at dksL_law_5 6 rfl rfl)
theorem dL_law_279 : decode cL_law 279 = .ok (.iload_n 3, 1) := dk_29 (dk_at dksL_law_5 7 rfl rfl)
theorem dL_law_280 : decode cL_law 280 = .ok (.iconst 3, 1) := dk_6 (dk_at dksL_law_5 8 rfl rfl)
theorem dL_law_281 : decode cL_law 281 = .ok (.iadd, 1) := dk_96 (dk_at dksL_law_5 9 rfl rfl)
theorem dL_law_282 : decode cL_law 282 = .ok (.iaload, 1) := dk_46 (dk_at dksL_law_5 10 rfl rfl)
theorem dL_law_283 : decode cL_law 283 = .ok (.i2l, 1) := dk_133 (dk_at dksL_law_5 11 rfl rfl)
theorem dL_law_284 : decode cL_law 284 = .ok (.bipush 32, 2) := dk_16 32 (dk_at dksL_law_5 12 rfl rfl)
theorem dL_law_286 : decode cL_law 286 = .ok (.lshl, 1) := dk_121 (dk_at dksL_law_5 14 rfl rfl)
theorem dL_law_287 : decode cL_law 287 = .ok (.aload_n 0, 1) := dk_42 (dk_at dksL_law_5 15 rfl rfl)
theorem dL_law_288 : decode cL_law 288 = .ok (.iload_n 3, 1) := dk_29 (dk_at dksL_law_5 16 rfl rfl)
theorem dL_law_289 : decode cL_law 289 = .ok (.iconst 4, 1) := dk_7 (dk_at dksL_law_5 17 rfl rfl)
theorem dL_law_290 : decode cL_law 290 = .ok (.iadd, 1) := dk_96 (dk_at dksL_law_5 18 rfl rfl)
theorem dL_law_291 : decode cL_law 291 = .ok (.iaload, 1) := dk_46 (dk_at dksL_law_5 19 rfl rfl)
theorem dL_law_292 : decode cL_law 292 = .ok (.i2l, 1) := dk_133 (dk_at dksL_law_5 20 rfl rfl)
theorem dL_law_293 : decode cL_law 293 = .ok (.ldc2_w 18, 3) := dk_20 0 18 (dk_at dksL_law_5 21 rfl rfl)
theorem dL_law_296 : decode cL_law 296 = .ok (.land, 1) := dk_127 (dk_at dksL_law_6 0 rfl rfl)
theorem dL_law_297 : decode cL_law 297 = .ok (.lor, 1) := dk_129 (dk_at dksL_law_6 1 rfl rfl)
theorem dL_law_298 : decode cL_law 298 = .ok (.invokevirtual 20, 3) := dk_182 0 20 (dk_at dksL_law_6 2 rfl rfl)
theorem dL_law_301 : decode cL_law 301 = .ok (.aload_n 2, 1) := dk_44 (dk_at dksL_law_6 5 rfl rfl)
theorem dL_law_302 : decode cL_law 302 = .ok (.aload_n 0, 1) := dk_42 (dk_at dksL_law_6 6 rfl rfl)
theorem dL_law_303 : decode cL_law 303 = .ok (.iload_n 3, 1) := dk_29 (dk_at dksL_law_6 7 rfl rfl)
theorem dL_law_304 : decode cL_law 304 = .ok (.iconst 1, 1) := dk_4 (dk_at dksL_law_6 8 rfl rfl)
theorem dL_law_305 : decode cL_law 305 = .ok (.iadd, 1) := dk_96 (dk_at dksL_law_6 9 rfl rfl)
theorem dL_law_306 : decode cL_law 306 = .ok (.iaload, 1) := dk_46 (dk_at dksL_law_6 10 rfl rfl)
theorem dL_law_307 : decode cL_law 307 = .ok (.aload_n 0, 1) := dk_42 (dk_at dksL_law_6 11 rfl rfl)
theorem dL_law_308 : decode cL_law 308 = .ok (.iload_n 3, 1) := dk_29 (dk_at dksL_law_6 12 rfl rfl)
theorem dL_law_309 : decode cL_law 309 = .ok (.iconst 2, 1) := dk_5 (dk_at dksL_law_6 13 rfl rfl)
theorem dL_law_310 : decode cL_law 310 = .ok (.iadd, 1) := dk_96 (dk_at dksL_law_6 14 rfl rfl)
theorem dL_law_311 : decode cL_law 311 = .ok (.iaload, 1) := dk_46 (dk_at dksL_law_6 15 rfl rfl)
theorem dL_law_312 : decode cL_law 312 = .ok (.aload_n 0, 1) := dk_42 (dk_at dksL_law_6 16 rfl rfl)
theorem dL_law_313 : decode cL_law 313 = .ok (.iload_n 3, 1) := dk_29 (dk_at dksL_law_6 17 rfl rfl)
theorem dL_law_314 : decode cL_law 314 = .ok (.iconst 3, 1) := dk_6 (dk_at dksL_law_6 18 rfl rfl)
theorem dL_law_315 : decode cL_law 315 = .ok (.iadd, 1) := dk_96 (dk_at dksL_law_6 19 rfl rfl)
theorem dL_law_316 : decode cL_law 316 = .ok (.iaload, 1) := dk_46 (dk_at dksL_law_6 20 rfl rfl)
theorem dL_law_317 : decode cL_law 317 = .ok (.i2l, 1) := dk_133 (dk_at dksL_law_6 21 rfl rfl)
theorem dL_law_318 : decode cL_law 318 = .ok (.bipush 32, 2) := dk_16 32 (dk_at dksL_law_6 22 rfl rfl)
theorem dL_law_320 : decode cL_law 320 = .ok (.lshl, 1) := dk_121 (dk_at dksL_law_7 0 rfl rfl)
theorem dL_law_321 : decode cL_law 321 = .ok (.aload_n 0, 1) := dk_42 (dk_at dksL_law_7 1 rfl rfl)
theorem dL_law_322 : decode cL_law 322 = .ok (.iload_n 3, 1) := dk_29 (dk_at dksL_law_7 2 rfl rfl)
theorem dL_law_323 : decode cL_law 323 = .ok (.iconst 4, 1) := dk_7 (dk_at dksL_law_7 3 rfl rfl)
theorem dL_law_324 : decode cL_law 324 = .ok (.iadd, 1) := dk_96 (dk_at dksL_law_7 4 rfl rfl)
theorem dL_law_325 : decode cL_law 325 = .ok (.iaload, 1) := dk_46 (dk_at dksL_law_7 5 rfl rfl)
theorem dL_law_326 : decode cL_law 326 = .ok (.i2l, 1) := dk_133 (dk_at dksL_law_7 6 rfl rfl)
theorem dL_law_327 : decode cL_law 327 = .ok (.ldc2_w 18, 3) := dk_20 0 18 (dk_at dksL_law_7 7 rfl rfl)
theorem dL_law_330 : decode cL_law 330 = .ok (.land, 1) := dk_127 (dk_at dksL_law_7 10 rfl rfl)
theorem dL_law_331 : decode cL_law 331 = .ok (.lor, 1) := dk_129 (dk_at dksL_law_7 11 rfl rfl)
theorem dL_law_332 : decode cL_law 332 = .ok (.invokevirtual 24, 3) := dk_182 0 24 (dk_at dksL_law_7 12 rfl rfl)
theorem dL_law_335 : decode cL_law 335 = .ok (.if_icmp .eq 1225, 3) := dk_159 4 201 (dk_at dksL_law_7 15 rfl rfl)
theorem dL_law_338 : decode cL_law 338 = .ok (.iconst 0, 1) := dk_3 (dk_at dksL_law_7 18 rfl rfl)
theorem dL_law_339 : decode cL_law 339 = .ok (.ireturn, 1) := dk_172 (dk_at dksL_law_7 19 rfl rfl)
theorem dL_law_340 : decode cL_law 340 = .ok (.aload_n 1, 1) := dk_43 (dk_at dksL_law_7 20 rfl rfl)
theorem dL_law_341 : decode cL_law 341 = .ok (.aload_n 0, 1) := dk_42 (dk_at dksL_law_7 21 rfl rfl)
theorem dL_law_342 : decode cL_law 342 = .ok (.iload_n 3, 1) := dk_29 (dk_at dksL_law_7 22 rfl rfl)
theorem dL_law_343 : decode cL_law 343 = .ok (.iconst 1, 1) := dk_4 (dk_at dksL_law_7 23 rfl rfl)
theorem dL_law_344 : decode cL_law 344 = .ok (.iadd, 1) := dk_96 (dk_at dksL_law_8 0 rfl rfl)
theorem dL_law_345 : decode cL_law 345 = .ok (.iaload, 1) := dk_46 (dk_at dksL_law_8 1 rfl rfl)
theorem dL_law_346 : decode cL_law 346 = .ok (.aload_n 0, 1) := dk_42 (dk_at dksL_law_8 2 rfl rfl)
theorem dL_law_347 : decode cL_law 347 = .ok (.iload_n 3, 1) := dk_29 (dk_at dksL_law_8 3 rfl rfl)
theorem dL_law_348 : decode cL_law 348 = .ok (.iconst 2, 1) := dk_5 (dk_at dksL_law_8 4 rfl rfl)
theorem dL_law_349 : decode cL_law 349 = .ok (.iadd, 1) := dk_96 (dk_at dksL_law_8 5 rfl rfl)
theorem dL_law_350 : decode cL_law 350 = .ok (.iaload, 1) := dk_46 (dk_at dksL_law_8 6 rfl rfl)
theorem dL_law_351 : decode cL_law 351 = .ok (.aload_n 0, 1) := dk_42 (dk_at dksL_law_8 7 rfl rfl)
theorem dL_law_352 : decode cL_law 352 = .ok (.iload_n 3, 1) := dk_29 (dk_at dksL_law_8 8 rfl rfl)
theorem dL_law_353 : decode cL_law 353 = .ok (.iconst 3, 1) := dk_6 (dk_at dksL_law_8 9 rfl rfl)
theorem dL_law_354 : decode cL_law 354 = .ok (.iadd, 1) := dk_96 (dk_at dksL_law_8 10 rfl rfl)
theorem dL_law_355 : decode cL_law 355 = .ok (.iaload, 1) := dk_46 (dk_at dksL_law_8 11 rfl rfl)
theorem dL_law_356 : decode cL_law 356 = .ok (.aload_n 0, 1) := dk_42 (dk_at dksL_law_8 12 rfl rfl)
theorem dL_law_357 : decode cL_law 357 = .ok (.iload_n 3, 1) := dk_29 (dk_at dksL_law_8 13 rfl rfl)
theorem dL_law_358 : decode cL_law 358 = .ok (.iconst 4, 1) := dk_7 (dk_at dksL_law_8 14 rfl rfl)
theorem dL_law_359 : decode cL_law 359 = .ok (.iadd, 1) := dk_96 (dk_at dksL_law_8 15 rfl rfl)
theorem dL_law_360 : decode cL_law 360 = .ok (.iaload, 1) := dk_46 (dk_at dksL_law_8 16 rfl rfl)
theorem dL_law_361 : decode cL_law 361 = .ok (.aload_n 0, 1) := dk_42 (dk_at dksL_law_8 17 rfl rfl)
theorem dL_law_362 : decode cL_law 362 = .ok (.iload_n 3, 1) := dk_29 (dk_at dksL_law_8 18 rfl rfl)
theorem dL_law_363 : decode cL_law 363 = .ok (.iconst 5, 1) := dk_8 (dk_at dksL_law_8 19 rfl rfl)
theorem dL_law_364 : decode cL_law 364 = .ok (.iadd, 1) := dk_96 (dk_at dksL_law_8 20 rfl rfl)
theorem dL_law_365 : decode cL_law 365 = .ok (.iaload, 1) := dk_46 (dk_at dksL_law_8 21 rfl rfl)
theorem dL_law_366 : decode cL_law 366 = .ok (.invokevirtual 25, 3) := dk_182 0 25 (dk_at dksL_law_9 0 rfl rfl)
theorem dL_law_369 : decode cL_law 369 = .ok (.aload_n 2, 1) := dk_44 (dk_at dksL_law_9 3 rfl rfl)
theorem dL_law_370 : decode cL_law 370 = .ok (.aload_n 0, 1) := dk_42 (dk_at dksL_law_9 4 rfl rfl)
theorem dL_law_371 : decode cL_law 371 = .ok (.iload_n 3, 1) := dk_29 (dk_at dksL_law_9 5 rfl rfl)
theorem dL_law_372 : decode cL_law 372 = .ok (.iconst 1, 1) := dk_4 (dk_at dksL_law_9 6 rfl rfl)
theorem dL_law_373 : decode cL_law 373 = .ok (.iadd, 1) := dk_96 (dk_at dksL_law_9 7 rfl rfl)
theorem dL_law_374 : decode cL_law 374 = .ok (.iaload, 1) := dk_46 (dk_at dksL_law_9 8 rfl rfl)
theorem dL_law_375 : decode cL_law 375 = .ok (.aload_n 0, 1) := dk_42 (dk_at dksL_law_9 9 rfl rfl)
theorem dL_law_376 : decode cL_law 376 = .ok (.iload_n 3, 1) := dk_29 (dk_at dksL_law_9 10 rfl rfl)
theorem dL_law_377 : decode cL_law 377 = .ok (.iconst 2, 1) := dk_5 (dk_at dksL_law_9 11 rfl rfl)
theorem dL_law_378 : decode cL_law 378 = .ok (.iadd, 1) := dk_96 (dk_at dksL_law_9 12 rfl rfl)
theorem dL_law_379 : decode cL_law 379 = .ok (.iaload, 1) := dk_46 (dk_at dksL_law_9 13 rfl rfl)
theorem dL_law_380 : decode cL_law 380 = .ok (.aload_n 0, 1) := dk_42 (dk_at dksL_law_9 14 rfl rfl)
theorem dL_law_381 : decode cL_law 381 = .ok (.iload_n 3, 1) := dk_29 (dk_at dksL_law_9 15 rfl rfl)
theorem dL_law_382 : decode cL_law 382 = .ok (.iconst 3, 1) := dk_6 (dk_at dksL_law_9 16 rfl rfl)
theorem dL_law_383 : decode cL_law 383 = .ok (.iadd, 1) := dk_96 (dk_at dksL_law_9 17 rfl rfl)
theorem dL_law_384 : decode cL_law 384 = .ok (.iaload, 1) := dk_46 (dk_at dksL_law_9 18 rfl rfl)
theorem dL_law_385 : decode cL_law 385 = .ok (.aload_n 0, 1) := dk_42 (dk_at dksL_law_9 19 rfl rfl)
theorem dL_law_386 : decode cL_law 386 = .ok (.iload_n 3, 1) := dk_29 (dk_at dksL_law_9 20 rfl rfl)
theorem dL_law_387 : decode cL_law 387 = .ok (.iconst 4, 1) := dk_7 (dk_at dksL_law_9 21 rfl rfl)
theorem dL_law_388 : decode cL_law 388 = .ok (.iadd, 1) := dk_96 (dk_at dksL_law_9 22 rfl rfl)
theorem dL_law_389 : decode cL_law 389 = .ok (.iaload, 1) := dk_46 (dk_at dksL_law_9 23 rfl rfl)
theorem dL_law_390 : decode cL_law 390 = .ok (.aload_n 0, 1) := dk_42 (dk_at dksL_law_10 0 rfl rfl)
theorem dL_law_391 : decode cL_law 391 = .ok (.iload_n 3, 1) := dk_29 (dk_at dksL_law_10 1 rfl rfl)
theorem dL_law_392 : decode cL_law 392 = .ok (.iconst 5, 1) := dk_8 (dk_at dksL_law_10 2 rfl rfl)
theorem dL_law_393 : decode cL_law 393 = .ok (.iadd, 1) := dk_96 (dk_at dksL_law_10 3 rfl rfl)
theorem dL_law_394 : decode cL_law 394 = .ok (.iaload, 1) := dk_46 (dk_at dksL_law_10 4 rfl rfl)
theorem dL_law_395 : decode cL_law 395 = .ok (.invokevirtual 29, 3) := dk_182 0 29 (dk_at dksL_law_10 5 rfl rfl)
theorem dL_law_398 : decode cL_law 398 = .ok (.if_icmp .eq 1162, 3) := dk_159 4 138 (dk_at dksL_law_10 8 rfl rfl)
theorem dL_law_401 : decode cL_law 401 = .ok (.iconst 0, 1) := dk_3 (dk_at dksL_law_10 11 rfl rfl)
theorem dL_law_402 : decode cL_law 402 = .ok (.ireturn, 1) := dk_172 (dk_at dksL_law_10 12 rfl rfl)
theorem dL_law_403 : decode cL_law 403 = .ok (.aload_n 1, 1) := dk_43 (dk_at dksL_law_10 13 rfl rfl)
theorem dL_law_404 : decode cL_law 404 = .ok (.aload_n 0, 1) := dk_42 (dk_at dksL_law_10 14 rfl rfl)
theorem dL_law_405 : decode cL_law 405 = .ok (.iload_n 3, 1) := dk_29 (dk_at dksL_law_10 15 rfl rfl)
theorem dL_law_406 : decode cL_law 406 = .ok (.iconst 1, 1) := dk_4 (dk_at dksL_law_10 16 rfl rfl)
theorem dL_law_407 : decode cL_law 407 = .ok (.iadd, 1) := dk_96 (dk_at dksL_law_10 17 rfl rfl)
theorem dL_law_408 : decode cL_law 408 = .ok (.iaload, 1) := dk_46 (dk_at dksL_law_10 18 rfl rfl)
theorem dL_law_409 : decode cL_law 409 = .ok (.aload_n 0, 1) := dk_42 (dk_at dksL_law_10 19 rfl rfl)
theorem dL_law_410 : decode cL_law 410 = .ok (.iload_n 3, 1) := dk_29 (dk_at dksL_law_10 20 rfl rfl)
theorem dL_law_411 : decode cL_law 411 = .ok (.iconst 2, 1) := dk_5 (dk_at dksL_law_10 21 rfl rfl)
theorem dL_law_412 : decode cL_law 412 = .ok (.iadd, 1) := dk_96 (dk_at dksL_law_10 22 rfl rfl)
theorem dL_law_413 : decode cL_law 413 = .ok (.iaload, 1) := dk_46 (dk_at dksL_law_10 23 rfl rfl)
theorem dL_law_414 : decode cL_law 414 = .ok (.invokevirtual 30, 3) := dk_182 0 30 (dk_at dksL_law_11 0 rfl rfl)
theorem dL_law_417 : decode cL_law 417 = .ok (.aload_n 2, 1) := dk_44 (dk_at dksL_law_11 3 rfl rfl)
theorem dL_law_418 : decode cL_law 418 = .ok (.aload_n 0, 1) := dk_42 (dk_at dksL_law_11 4 rfl rfl)
theorem dL_law_419 : decode cL_law 419 = .ok (.iload_n 3, 1) := dk_29 (dk_at dksL_law_11 5 rfl rfl)
theorem dL_law_420 : decode cL_law 420 = .ok (.iconst 1, 1) := dk_4 (dk_at dksL_law_11 6 rfl rfl)
theorem dL_law_421 : decode cL_law 421 = .ok (.iadd, 1) := dk_96 (dk_at dksL_law_11 7 rfl rfl)
theorem dL_law_422 : decode cL_law 422 = .ok (.iaload, 1) := dk_46 (dk_at dksL_law_11 8 rfl rfl)
theorem dL_law_423 : decode cL_law 423 = .ok (.aload_n 0, 1) := dk_42 (dk_at dksL_law_11 9 rfl rfl)
theorem dL_law_424 : decode cL_law 424 = .ok (.iload_n 3, 1) := dk_29 (dk_at dksL_law_11 10 rfl rfl)
theorem dL_law_425 : decode cL_law 425 = .ok (.iconst 2, 1) := dk_5 (dk_at dksL_law_11 11 rfl rfl)
theorem dL_law_426 : decode cL_law 426 = .ok (.iadd, 1) := dk_96 (dk_at dksL_law_11 12 rfl rfl)
theorem dL_law_427 : decode cL_law 427 = .ok (.iaload, 1) := dk_46 (dk_at dksL_law_11 13 rfl rfl)
theorem dL_law_428 : decode cL_law 428 = .ok (.invokevirtual 34, 3) := dk_182 0 34 (dk_at dksL_law_11 14 rfl rfl)
theorem dL_law_431 : decode cL_law 431 = .ok (.lcmp, 1) := dk_148 (dk_at dksL_law_11 17 rfl rfl)
theorem dL_law_432 : decode cL_law 432 = .ok (.ifCond .eq 1128, 3) := dk_153 4 104 (dk_at dksL_law_11 18 rfl rfl)
theorem dL_law_435 : decode cL_law 435 = .ok (.iconst 0, 1) := dk_3 (dk_at dksL_law_11 21 rfl rfl)
theorem dL_law_436 : decode cL_law 436 = .ok (.ireturn, 1) := dk_172 (dk_at dksL_law_11 22 rfl rfl)
theorem dL_law_437 : decode cL_law 437 = .ok (.aload_n 1, 1) := dk_43 (dk_at dksL_law_11 23 rfl rfl)
theorem dL_law_438 : decode cL_law 438 = .ok (.aload_n 0, 1) := dk_42 (dk_at dksL_law_12 0 rfl rfl)
theorem dL_law_439 : decode cL_law 439 = .ok (.iload_n 3, 1) := dk_29 (dk_at dksL_law_12 1 rfl rfl)
theorem dL_law_440 : decode cL_law 440 = .ok (.iconst 1, 1) := dk_4 (dk_at dksL_law_12 2 rfl rfl)
theorem dL_law_441 : decode cL_law 441 = .ok (.iadd, 1) := dk_96 (dk_at dksL_law_12 3 rfl rfl)
theorem dL_law_442 : decode cL_law 442 = .ok (.iaload, 1) := dk_46 (dk_at dksL_law_12 4 rfl rfl)
theorem dL_law_443 : decode cL_law 443 = .ok (.invokevirtual 35, 3) := dk_182 0 35 (dk_at dksL_law_12 5 rfl rfl)
theorem dL_law_446 : decode cL_law 446 = .ok (.aload_n 2, 1) := dk_44 (dk_at dksL_law_12 8 rfl rfl)
theorem dL_law_447 : decode cL_law 447 = .ok (.aload_n 0, 1) := dk_42 (dk_at dksL_law_12 9 rfl rfl)
theorem dL_law_448 : decode cL_law 448 = .ok (.iload_n 3, 1) := dk_29 (dk_at dksL_law_12 10 rfl rfl)
theorem dL_law_449 : decode cL_law 449 = .ok (.iconst 1, 1) := dk_4 (dk_at dksL_law_12 11 rfl rfl)
theorem dL_law_450 : decode cL_law 450 = .ok (.iadd, 1) := dk_96 (dk_at dksL_law_12 12 rfl rfl)
theorem dL_law_451 : decode cL_law 451 = .ok (.iaload, 1) := dk_46 (dk_at dksL_law_12 13 rfl rfl)
theorem dL_law_452 : decode cL_law 452 = .ok (.invokevirtual 39, 3) := dk_182 0 39 (dk_at dksL_law_12 14 rfl rfl)
theorem dL_law_455 : decode cL_law 455 = .ok (.if_icmp .eq 1105, 3) := dk_159 4 81 (dk_at dksL_law_12 17 rfl rfl)
theorem dL_law_458 : decode cL_law 458 = .ok (.iconst 0, 1) := dk_3 (dk_at dksL_law_12 20 rfl rfl)
theorem dL_law_459 : decode cL_law 459 = .ok (.ireturn, 1) := dk_172 (dk_at dksL_law_12 21 rfl rfl)
theorem dL_law_460 : decode cL_law 460 = .ok (.aload_n 1, 1) := dk_43 (dk_at dksL_law_12 22 rfl rfl)
theorem dL_law_461 : decode cL_law 461 = .ok (.aload_n 0, 1) := dk_42 (dk_at dksL_law_12 23 rfl rfl)
theorem dL_law_462 : decode cL_law 462 = .ok (.iload_n 3, 1) := dk_29 (dk_at dksL_law_13 0 rfl rfl)
theorem dL_law_463 : decode cL_law 463 = .ok (.iconst 1, 1) := dk_4 (dk_at dksL_law_13 1 rfl rfl)
theorem dL_law_464 : decode cL_law 464 = .ok (.iadd, 1) := dk_96 (dk_at dksL_law_13 2 rfl rfl)
theorem dL_law_465 : decode cL_law 465 = .ok (.iaload, 1) := dk_46 (dk_at dksL_law_13 3 rfl rfl)
theorem dL_law_466 : decode cL_law 466 = .ok (.aload_n 0, 1) := dk_42 (dk_at dksL_law_13 4 rfl rfl)
theorem dL_law_467 : decode cL_law 467 = .ok (.iload_n 3, 1) := dk_29 (dk_at dksL_law_13 5 rfl rfl)
theorem dL_law_468 : decode cL_law 468 = .ok (.iconst 2, 1) := dk_5 (dk_at dksL_law_13 6 rfl rfl)
theorem dL_law_469 : decode cL_law 469 = .ok (.iadd, 1) := dk_96 (dk_at dksL_law_13 7 rfl rfl)
theorem dL_law_470 : decode cL_law 470 = .ok (.iaload, 1) := dk_46 (dk_at dksL_law_13 8 rfl rfl)
theorem dL_law_471 : decode cL_law 471 = .ok (.invokevirtual 40, 3) := dk_182 0 40 (dk_at dksL_law_13 9 rfl rfl)
theorem dL_law_474 : decode cL_law 474 = .ok (.aload_n 2, 1) := dk_44 (dk_at dksL_law_13 12 rfl rfl)
theorem dL_law_475 : decode cL_law 475 = .ok (.aload_n 0, 1) := dk_42 (dk_at dksL_law_13 13 rfl rfl)
theorem dL_law_476 : decode cL_law 476 = .ok (.iload_n 3, 1) := dk_29 (dk_at dksL_law_13 14 rfl rfl)
theorem dL_law_477 : decode cL_law 477 = .ok (.iconst 1, 1) := dk_4 (dk_at dksL_law_13 15 rfl rfl)
theorem dL_law_478 : decode cL_law 478 = .ok (.iadd, 1) := dk_96 (dk_at dksL_law_13 16 rfl rfl)
theorem dL_law_479 : decode cL_law 479 = .ok (.iaload, 1) := dk_46 (dk_at dksL_law_13 17 rfl rfl)
theorem dL_law_480 : decode cL_law 480 = .ok (.aload_n 0, 1) := dk_42 (dk_at dksL_law_13 18 rfl rfl)
theorem dL_law_481 : decode cL_law 481 = .ok (.iload_n 3, 1) := dk_29 (dk_at dksL_law_13 19 rfl rfl)
theorem dL_law_482 : decode cL_law 482 = .ok (.iconst 2, 1) := dk_5 (dk_at dksL_law_13 20 rfl rfl)
theorem dL_law_483 : decode cL_law 483 = .ok (.iadd, 1) := dk_96 (dk_at dksL_law_13 21 rfl rfl)
theorem dL_law_484 : decode cL_law 484 = .ok (.iaload, 1) := dk_46 (dk_at dksL_law_13 22 rfl rfl)
theorem dL_law_485 : decode cL_law 485 = .ok (.invokevirtual 44, 3) := dk_182 0 44 (dk_at dksL_law_14 0 rfl rfl)
theorem dL_law_488 : decode cL_law 488 = .ok (.if_icmp .eq 1072, 3) := dk_159 4 48 (dk_at dksL_law_14 3 rfl rfl)
theorem dL_law_491 : decode cL_law 491 = .ok (.iconst 0, 1) := dk_3 (dk_at dksL_law_14 6 rfl rfl)
theorem dL_law_492 : decode cL_law 492 = .ok (.ireturn, 1) := dk_172 (dk_at dksL_law_14 7 rfl rfl)
theorem dL_law_493 : decode cL_law 493 = .ok (.aload_n 1, 1) := dk_43 (dk_at dksL_law_14 8 rfl rfl)
theorem dL_law_494 : decode cL_law 494 = .ok (.aload_n 0, 1) := dk_42 (dk_at dksL_law_14 9 rfl rfl)
theorem dL_law_495 : decode cL_law 495 = .ok (.iload_n 3, 1) := dk_29 (dk_at dksL_law_14 10 rfl rfl)
theorem dL_law_496 : decode cL_law 496 = .ok (.iconst 1, 1) := dk_4 (dk_at dksL_law_14 11 rfl rfl)
theorem dL_law_497 : decode cL_law 497 = .ok (.iadd, 1) := dk_96 (dk_at dksL_law_14 12 rfl rfl)
theorem dL_law_498 : decode cL_law 498 = .ok (.iaload, 1) := dk_46 (dk_at dksL_law_14 13 rfl rfl)
theorem dL_law_499 : decode cL_law 499 = .ok (.aload_n 0, 1) := dk_42 (dk_at dksL_law_14 14 rfl rfl)
theorem dL_law_500 : decode cL_law 500 = .ok (.iload_n 3, 1) := dk_29 (dk_at dksL_law_14 15 rfl rfl)
theorem dL_law_501 : decode cL_law 501 = .ok (.iconst 2, 1) := dk_5 (dk_at dksL_law_14 16 rfl rfl)
theorem dL_law_502 : decode cL_law 502 = .ok (.iadd, 1) := dk_96 (dk_at dksL_law_14 17 rfl rfl)
theorem dL_law_503 : decode cL_law 503 = .ok (.iaload, 1) := dk_46 (dk_at dksL_law_14 18 rfl rfl)
theorem dL_law_504 : decode cL_law 504 = .ok (.invokevirtual 45, 3) := dk_182 0 45 (dk_at dksL_law_14 19 rfl rfl)
theorem dL_law_507 : decode cL_law 507 = .ok (.aload_n 2, 1) := dk_44 (dk_at dksL_law_14 22 rfl rfl)
theorem dL_law_508 : decode cL_law 508 = .ok (.aload_n 0, 1) := dk_42 (dk_at dksL_law_14 23 rfl rfl)
theorem dL_law_509 : decode cL_law 509 = .ok (.iload_n 3, 1) := dk_29 (dk_at dksL_law_15 0 rfl rfl)
theorem dL_law_510 : decode cL_law 510 = .ok (.iconst 1, 1) := dk_4 (dk_at dksL_law_15 1 rfl rfl)
theorem dL_law_511 : decode cL_law 511 = .ok (.iadd, 1) := dk_96 (dk_at dksL_law_15 2 rfl rfl)
theorem dL_law_512 : decode cL_law 512 = .ok (.iaload, 1) := dk_46 (dk_at dksL_law_15 3 rfl rfl)
theorem dL_law_513 : decode cL_law 513 = .ok (.aload_n 0, 1) := dk_42 (dk_at dksL_law_15 4 rfl rfl)
theorem dL_law_514 : decode cL_law 514 = .ok (.iload_n 3, 1) := dk_29 (dk_at dksL_law_15 5 rfl rfl)
theorem dL_law_515 : decode cL_law 515 = .ok (.iconst 2, 1) := dk_5 (dk_at dksL_law_15 6 rfl rfl)
theorem dL_law_516 : decode cL_law 516 = .ok (.iadd, 1) := dk_96 (dk_at dksL_law_15 7 rfl rfl)
theorem dL_law_517 : decode cL_law 517 = .ok (.iaload, 1) := dk_46 (dk_at dksL_law_15 8 rfl rfl)
theorem dL_law_518 : decode cL_law 518 = .ok (.invokevirtual 48, 3) := dk_182 0 48 (dk_at dksL_law_15 9 rfl rfl)
theorem dL_law_521 : decode cL_law 521 = .ok (.if_icmp .eq 1039, 3) := dk_159 4 15 (dk_at dksL_law_15 12 rfl rfl)
theorem dL_law_524 : decode cL_law 524 = .ok (.iconst 0, 1) := dk_3 (dk_at dksL_law_15 15 rfl rfl)
theorem dL_law_525 : decode cL_law 525 = .ok (.ireturn, 1) := dk_172 (dk_at dksL_law_15 16 rfl rfl)
theorem dL_law_526 : decode cL_law 526 = .ok (.aload_n 1, 1) := dk_43 (dk_at dksL_law_15 17 rfl rfl)
theorem dL_law_527 : decode cL_law 527 = .ok (.aload_n 0, 1) := dk_42 (dk_at dksL_law_15 18 rfl rfl)
theorem dL_law_528 : decode cL_law 528 = .ok (.iload_n 3, 1) := dk_29 (dk_at dksL_law_15 19 rfl rfl)
theorem dL_law_529 : decode cL_law 529 = .ok (.iconst 1, 1) := dk_4 (dk_at dksL_law_15 20 rfl rfl)
theorem dL_law_530 : decode cL_law 530 = .ok (.iadd, 1) := dk_96 (dk_at dksL_law_15 21 rfl rfl)
theorem dL_law_531 : decode cL_law 531 = .ok (.iaload, 1) := dk_46 (dk_at dksL_law_15 22 rfl rfl)
theorem dL_law_532 : decode cL_law 532 = .ok (.aload_n 0, 1) := dk_42 (dk_at dksL_law_15 23 rfl rfl)
theorem dL_law_533 : decode cL_law 533 = .ok (.iload_n 3, 1) := dk_29 (dk_at dksL_law_16 0 rfl rfl)
theorem dL_law_534 : decode cL_law 534 = .ok (.iconst 2, 1) := dk_5 (dk_at dksL_law_16 1 rfl rfl)
theorem dL_law_535 : decode cL_law 535 = .ok (.iadd, 1) := dk_96 (dk_at dksL_law_16 2 rfl rfl)
theorem dL_law_536 : decode cL_law 536 = .ok (.iaload, 1) := dk_46 (dk_at dksL_law_16 3 rfl rfl)
theorem dL_law_537 : decode cL_law 537 = .ok (.ifCond .eq 7, 3) := dk_153 0 7 (dk_at dksL_law_16 4 rfl rfl)
theorem dL_law_540 : decode cL_law 540 = .ok (.iconst 1, 1) := dk_4 (dk_at dksL_law_16 7 rfl rfl)
theorem dL_law_541 : decode cL_law 541 = .ok (.goto 4, 3) := dk_167 0 4 (dk_at dksL_law_16 8 rfl rfl)
theorem dL_law_544 : decode cL_law 544 = .ok (.iconst 0, 1) := dk_3 (dk_at dksL_law_16 11 rfl rfl)
theorem dL_law_545 : decode cL_law 545 = .ok (.invokevirtual 49, 3) := dk_182 0 49 (dk_at dksL_law_16 12 rfl rfl)
theorem dL_law_548 : decode cL_law 548 = .ok (.aload_n 2, 1) := dk_44 (dk_at dksL_law_16 15 rfl rfl)
theorem dL_law_549 : decode cL_law 549 = .ok (.aload_n 0, 1) := dk_42 (dk_at dksL_law_16 16 rfl rfl)
theorem dL_law_550 : decode cL_law 550 = .ok (.iload_n 3, 1) := dk_29 (dk_at dksL_law_16 17 rfl rfl)
theorem dL_law_551 : decode cL_law 551 = .ok (.iconst 1, 1) := dk_4 (dk_at dksL_law_16 18 rfl rfl)
theorem dL_law_552 : decode cL_law 552 = .ok (.iadd, 1) := dk_96 (dk_at dksL_law_16 19 rfl rfl)
theorem dL_law_553 : decode cL_law 553 = .ok (.iaload, 1) := dk_46 (dk_at dksL_law_16 20 rfl rfl)
theorem dL_law_554 : decode cL_law 554 = .ok (.aload_n 0, 1) := dk_42 (dk_at dksL_law_16 21 rfl rfl)
theorem dL_law_555 : decode cL_law 555 = .ok (.iload_n 3, 1) := dk_29 (dk_at dksL_law_16 22 rfl rfl)
theorem dL_law_556 : decode cL_law 556 = .ok (.iconst 2, 1) := dk_5 (dk_at dksL_law_16 23 rfl rfl)
theorem dL_law_557 : decode cL_law 557 = .ok (.iadd, 1) := dk_96 (dk_at dksL_law_17 0 rfl rfl)
theorem dL_law_558 : decode cL_law 558 = .ok (.iaload, 1) := dk_46 (dk_at dksL_law_17 1 rfl rfl)
theorem dL_law_559 : decode cL_law 559 = .ok (.ifCond .eq 7, 3) := dk_153 0 7 (dk_at dksL_law_17 2 rfl rfl)
theorem dL_law_562 : decode cL_law 562 = .ok (.iconst 1, 1) := dk_4 (dk_at dksL_law_17 5 rfl rfl)
theorem dL_law_563 : decode cL_law 563 = .ok (.goto 4, 3) := dk_167 0 4 (dk_at dksL_law_17 6 rfl rfl)
theorem dL_law_566 : decode cL_law 566 = .ok (.iconst 0, 1) := dk_3 (dk_at dksL_law_17 9 rfl rfl)
theorem dL_law_567 : decode cL_law 567 = .ok (.invokevirtual 53, 3) := dk_182 0 53 (dk_at dksL_law_17 10 rfl rfl)
theorem dL_law_570 : decode cL_law 570 = .ok (.if_icmp .eq 990, 3) := dk_159 3 222 (dk_at dksL_law_17 13 rfl rfl)
theorem dL_law_573 : decode cL_law 573 = .ok (.iconst 0, 1) := dk_3 (dk_at dksL_law_17 16 rfl rfl)
theorem dL_law_574 : decode cL_law 574 = .ok (.ireturn, 1) := dk_172 (dk_at dksL_law_17 17 rfl rfl)
theorem dL_law_575 : decode cL_law 575 = .ok (.aload_n 1, 1) := dk_43 (dk_at dksL_law_17 18 rfl rfl)
theorem dL_law_576 : decode cL_law 576 = .ok (.aload_n 0, 1) := dk_42 (dk_at dksL_law_17 19 rfl rfl)
theorem dL_law_577 : decode cL_law 577 = .ok (.iload_n 3, 1) := dk_29 (dk_at dksL_law_17 20 rfl rfl)
theorem dL_law_578 : decode cL_law 578 = .ok (.iconst 1, 1) := dk_4 (dk_at dksL_law_17 21 rfl rfl)
theorem dL_law_579 : decode cL_law 579 = .ok (.iadd, 1) := dk_96 (dk_at dksL_law_17 22 rfl rfl)
theorem dL_law_580 : decode cL_law 580 = .ok (.iaload, 1) := dk_46 (dk_at dksL_law_17 23 rfl rfl)
theorem dL_law_581 : decode cL_law 581 = .ok (.aload_n 0, 1) := dk_42 (dk_at dksL_law_18 0 rfl rfl)
theorem dL_law_582 : decode cL_law 582 = .ok (.iload_n 3, 1) := dk_29 (dk_at dksL_law_18 1 rfl rfl)
theorem dL_law_583 : decode cL_law 583 = .ok (.iconst 2, 1) := dk_5 (dk_at dksL_law_18 2 rfl rfl)
theorem dL_law_584 : decode cL_law 584 = .ok (.iadd, 1) := dk_96 (dk_at dksL_law_18 3 rfl rfl)
theorem dL_law_585 : decode cL_law 585 = .ok (.iaload, 1) := dk_46 (dk_at dksL_law_18 4 rfl rfl)
theorem dL_law_586 : decode cL_law 586 = .ok (.invokevirtual 54, 3) := dk_182 0 54 (dk_at dksL_law_18 5 rfl rfl)
theorem dL_law_589 : decode cL_law 589 = .ok (.aload_n 2, 1) := dk_44 (dk_at dksL_law_18 8 rfl rfl)
theorem dL_law_590 : decode cL_law 590 = .ok (.aload_n 0, 1) := dk_42 (dk_at dksL_law_18 9 rfl rfl)
theorem dL_law_591 : decode cL_law 591 = .ok (.iload_n 3, 1) := dk_29 (dk_at dksL_law_18 10 rfl rfl)
theorem dL_law_592 : decode cL_law 592 = .ok (.iconst 1, 1) := dk_4 (dk_at dksL_law_18 11 rfl rfl)
theorem dL_law_593 : decode cL_law 593 = .ok (.iadd, 1) := dk_96 (dk_at dksL_law_18 12 rfl rfl)
theorem dL_law_594 : decode cL_law 594 = .ok (.iaload, 1) := dk_46 (dk_at dksL_law_18 13 rfl rfl)
theorem dL_law_595 : decode cL_law 595 = .ok (.aload_n 0, 1) := dk_42 (dk_at dksL_law_18 14 rfl rfl)
theorem dL_law_596 : decode cL_law 596 = .ok (.iload_n 3, 1) := dk_29 (dk_at dksL_law_18 15 rfl rfl)
theorem dL_law_597 : decode cL_law 597 = .ok (.iconst 2, 1) := dk_5 (dk_at dksL_law_18 16 rfl rfl)
theorem dL_law_598 : decode cL_law 598 = .ok (.iadd, 1) := dk_96 (dk_at dksL_law_18 17 rfl rfl)
theorem dL_law_599 : decode cL_law 599 = .ok (.iaload, 1) := dk_46 (dk_at dksL_law_18 18 rfl rfl)
theorem dL_law_600 : decode cL_law 600 = .ok (.invokevirtual 57, 3) := dk_182 0 57 (dk_at dksL_law_18 19 rfl rfl)
theorem dL_law_603 : decode cL_law 603 = .ok (.if_icmp .eq 957, 3) := dk_159 3 189 (dk_at dksL_law_19 0 rfl rfl)
theorem dL_law_606 : decode cL_law 606 = .ok (.iconst 0, 1) := dk_3 (dk_at dksL_law_19 3 rfl rfl)
theorem dL_law_607 : decode cL_law 607 = .ok (.ireturn, 1) := dk_172 (dk_at dksL_law_19 4 rfl rfl)
theorem dL_law_608 : decode cL_law 608 = .ok (.aload_n 1, 1) := dk_43 (dk_at dksL_law_19 5 rfl rfl)
theorem dL_law_609 : decode cL_law 609 = .ok (.aload_n 0, 1) := dk_42 (dk_at dksL_law_19 6 rfl rfl)
theorem dL_law_610 : decode cL_law 610 = .ok (.iload_n 3, 1) := dk_29 (dk_at dksL_law_19 7 rfl rfl)
theorem dL_law_611 : decode cL_law 611 = .ok (.iconst 1, 1) := dk_4 (dk_at dksL_law_19 8 rfl rfl)
theorem dL_law_612 : decode cL_law 612 = .ok (.iadd, 1) := dk_96 (dk_at dksL_law_19 9 rfl rfl)
theorem dL_law_613 : decode cL_law 613 = .ok (.iaload, 1) := dk_46 (dk_at dksL_law_19 10 rfl rfl)
theorem dL_law_614 : decode cL_law 614 = .ok (.aload_n 0, 1) := dk_42 (dk_at dksL_law_19 11 rfl rfl)
theorem dL_law_615 : decode cL_law 615 = .ok (.iload_n 3, 1) := dk_29 (dk_at dksL_law_19 12 rfl rfl)
theorem dL_law_616 : decode cL_law 616 = .ok (.iconst 2, 1) := dk_5 (dk_at dksL_law_19 13 rfl rfl)
theorem dL_law_617 : decode cL_law 617 = .ok (.iadd, 1) := dk_96 (dk_at dksL_law_19 14 rfl rfl)
theorem dL_law_618 : decode cL_law 618 = .ok (.iaload, 1) := dk_46 (dk_at dksL_law_19 15 rfl rfl)
theorem dL_law_619 : decode cL_law 619 = .ok (.invokevirtual 58, 3) := dk_182 0 58 (dk_at dksL_law_19 16 rfl rfl)
theorem dL_law_622 : decode cL_law 622 = .ok (.aload_n 2, 1) := dk_44 (dk_at dksL_law_19 19 rfl rfl)
theorem dL_law_623 : decode cL_law 623 = .ok (.aload_n 0, 1) := dk_42 (dk_at dksL_law_19 20 rfl rfl)
theorem dL_law_624 : decode cL_law 624 = .ok (.iload_n 3, 1) := dk_29 (dk_at dksL_law_19 21 rfl rfl)
theorem dL_law_625 : decode cL_law 625 = .ok (.iconst 1, 1) := dk_4 (dk_at dksL_law_19 22 rfl rfl)
theorem dL_law_626 : decode cL_law 626 = .ok (.iadd, 1) := dk_96 (dk_at dksL_law_19 23 rfl rfl)
theorem dL_law_627 : decode cL_law 627 = .ok (.iaload, 1) := dk_46 (dk_at dksL_law_20 0 rfl rfl)
theorem dL_law_628 : decode cL_law 628 = .ok (.aload_n 0, 1) := dk_42 (dk_at dksL_law_20 1 rfl rfl)
theorem dL_law_629 : decode cL_law 629 = .ok (.iload_n 3, 1) := dk_29 (dk_at dksL_law_20 2 rfl rfl)
theorem dL_law_630 : decode cL_law 630 = .ok (.iconst 2, 1) := dk_5 (dk_at dksL_law_20 3 rfl rfl)
theorem dL_law_631 : decode cL_law 631 = .ok (.iadd, 1) := dk_96 (dk_at dksL_law_20 4 rfl rfl)
theorem dL_law_632 : decode cL_law 632 = .ok (.iaload, 1) := dk_46 (dk_at dksL_law_20 5 rfl rfl)
theorem dL_law_633 : decode cL_law 633 = .ok (.invokevirtual 61, 3) := dk_182 0 61 (dk_at dksL_law_20 6 rfl rfl)
theorem dL_law_636 : decode cL_law 636 = .ok (.if_icmp .eq 924, 3) := dk_159 3 156 (dk_at dksL_law_20 9 rfl rfl)
theorem dL_law_639 : decode cL_law 639 = .ok (.iconst 0, 1) := dk_3 (dk_at dksL_law_20 12 rfl rfl)
theorem dL_law_640 : decode cL_law 640 = .ok (.ireturn, 1) := dk_172 (dk_at dksL_law_20 13 rfl rfl)
theorem dL_law_641 : decode cL_law 641 = .ok (.aload_n 1, 1) := dk_43 (dk_at dksL_law_20 14 rfl rfl)
theorem dL_law_642 : decode cL_law 642 = .ok (.aload_n 0, 1) := dk_42 (dk_at dksL_law_20 15 rfl rfl)
theorem dL_law_643 : decode cL_law 643 = .ok (.iload_n 3, 1) := dk_29 (dk_at dksL_law_20 16 rfl rfl)
theorem dL_law_644 : decode cL_law 644 = .ok (.iconst 1, 1) := dk_4 (dk_at dksL_law_20 17 rfl rfl)
theorem dL_law_645 : decode cL_law 645 = .ok (.iadd, 1) := dk_96 (dk_at dksL_law_20 18 rfl rfl)
theorem dL_law_646 : decode cL_law 646 = .ok (.iaload, 1) := dk_46 (dk_at dksL_law_20 19 rfl rfl)
theorem dL_law_647 : decode cL_law 647 = .ok (.aload_n 0, 1) := dk_42 (dk_at dksL_law_20 20 rfl rfl)
theorem dL_law_648 : decode cL_law 648 = .ok (.iload_n 3, 1) := dk_29 (dk_at dksL_law_20 21 rfl rfl)
theorem dL_law_649 : decode cL_law 649 = .ok (.iconst 2, 1) := dk_5 (dk_at dksL_law_20 22 rfl rfl)
theorem dL_law_650 : decode cL_law 650 = .ok (.iadd, 1) := dk_96 (dk_at dksL_law_20 23 rfl rfl)
theorem dL_law_651 : decode cL_law 651 = .ok (.iaload, 1) := dk_46 (dk_at dksL_law_21 0 rfl rfl)
theorem dL_law_652 : decode cL_law 652 = .ok (.aload_n 0, 1) := dk_42 (dk_at dksL_law_21 1 rfl rfl)
theorem dL_law_653 : decode cL_law 653 = .ok (.iload_n 3, 1) := dk_29 (dk_at dksL_law_21 2 rfl rfl)
theorem dL_law_654 : decode cL_law 654 = .ok (.iconst 3, 1) := dk_6 (dk_at dksL_law_21 3 rfl rfl)
theorem dL_law_655 : decode cL_law 655 = .ok (.iadd, 1) := dk_96 (dk_at dksL_law_21 4 rfl rfl)
theorem dL_law_656 : decode cL_law 656 = .ok (.iaload, 1) := dk_46 (dk_at dksL_law_21 5 rfl rfl)
theorem dL_law_657 : decode cL_law 657 = .ok (.ifCond .eq 7, 3) := dk_153 0 7 (dk_at dksL_law_21 6 rfl rfl)
theorem dL_law_660 : decode cL_law 660 = .ok (.iconst 1, 1) := dk_4 (dk_at dksL_law_21 9 rfl rfl)
theorem dL_law_661 : decode cL_law 661 = .ok (.goto 4, 3) := dk_167 0 4 (dk_at dksL_law_21 10 rfl rfl)
theorem dL_law_664 : decode cL_law 664 = .ok (.iconst 0, 1) := dk_3 (dk_at dksL_law_21 13 rfl rfl)
theorem dL_law_665 : decode cL_law 665 = .ok (.invokevirtual 62, 3) := dk_182 0 62 (dk_at dksL_law_21 14 rfl rfl)
theorem dL_law_668 : decode cL_law 668 = .ok (.aload_n 2, 1) := dk_44 (dk_at dksL_law_21 17 rfl rfl)
theorem dL_law_669 : decode cL_law 669 = .ok (.aload_n 0, 1) := dk_42 (dk_at dksL_law_21 18 rfl rfl)
theorem dL_law_670 : decode cL_law 670 = .ok (.iload_n 3, 1) := dk_29 (dk_at dksL_law_21 19 rfl rfl)
theorem dL_law_671 : decode cL_law 671 = .ok (.iconst 1, 1) := dk_4 (dk_at dksL_law_21 20 rfl rfl)
theorem dL_law_672 : decode cL_law 672 = .ok (.iadd, 1) := dk_96 (dk_at dksL_law_21 21 rfl rfl)
theorem dL_law_673 : decode cL_law 673 = .ok (.iaload, 1) := dk_46 (dk_at dksL_law_21 22 rfl rfl)
theorem dL_law_674 : decode cL_law 674 = .ok (.aload_n 0, 1) := dk_42 (dk_at dksL_law_21 23 rfl rfl)
theorem dL_law_675 : decode cL_law 675 = .ok (.iload_n 3, 1) := dk_29 (dk_at dksL_law_22 0 rfl rfl)
theorem dL_law_676 : decode cL_law 676 = .ok (.iconst 2, 1) := dk_5 (dk_at dksL_law_22 1 rfl rfl)
theorem dL_law_677 : decode cL_law 677 = .ok (.iadd, 1) := dk_96 (dk_at dksL_law_22 2 rfl rfl)
theorem dL_law_678 : decode cL_law 678 = .ok (.iaload, 1) := dk_46 (dk_at dksL_law_22 3 rfl rfl)
theorem dL_law_679 : decode cL_law 679 = .ok (.aload_n 0, 1) := dk_42 (dk_at dksL_law_22 4 rfl rfl)
theorem dL_law_680 : decode cL_law 680 = .ok (.iload_n 3, 1) := dk_29 (dk_at dksL_law_22 5 rfl rfl)
theorem dL_law_681 : decode cL_law 681 = .ok (.iconst 3, 1) := dk_6 (dk_at dksL_law_22 6 rfl rfl)
theorem dL_law_682 : decode cL_law 682 = .ok (.iadd, 1) := dk_96 (dk_at dksL_law_22 7 rfl rfl)
theorem dL_law_683 : decode cL_law 683 = .ok (.iaload, 1) := dk_46 (dk_at dksL_law_22 8 rfl rfl)
theorem dL_law_684 : decode cL_law 684 = .ok (.ifCond .eq 7, 3) := dk_153 0 7 (dk_at dksL_law_22 9 rfl rfl)
theorem dL_law_687 : decode cL_law 687 = .ok (.iconst 1, 1) := dk_4 (dk_at dksL_law_22 12 rfl rfl)
theorem dL_law_688 : decode cL_law 688 = .ok (.goto 4, 3) := dk_167 0 4 (dk_at dksL_law_22 13 rfl rfl)
theorem dL_law_691 : decode cL_law 691 = .ok (.iconst 0, 1) := dk_3 (dk_at dksL_law_22 16 rfl rfl)
theorem dL_law_692 : decode cL_law 692 = .ok (.invokevirtual 66, 3) := dk_182 0 66 (dk_at dksL_law_22 17 rfl rfl)
theorem dL_law_695 : decode cL_law 695 = .ok (.if_icmp .eq 865, 3) := dk_159 3 97 (dk_at dksL_law_22 20 rfl rfl)
theorem dL_law_698 : decode cL_law 698 = .ok (.iconst 0, 1) := dk_3 (dk_at dksL_law_22 23 rfl rfl)
theorem dL_law_699 : decode cL_law 699 = .ok (.ireturn, 1) := dk_172 (dk_at dksL_law_23 0 rfl rfl)
theorem dL_law_700 : decode cL_law 700 = .ok (.aload_n 1, 1) := dk_43 (dk_at dksL_law_23 1 rfl rfl)
theorem dL_law_701 : decode cL_law 701 = .ok (.aload_n 0, 1) := dk_42 (dk_at dksL_law_23 2 rfl rfl)
theorem dL_law_702 : decode cL_law 702 = .ok (.iload_n 3, 1) := dk_29 (dk_at dksL_law_23 3 rfl rfl)
theorem dL_law_703 : decode cL_law 703 = .ok (.iconst 1, 1) := dk_4 (dk_at dksL_law_23 4 rfl rfl)
theorem dL_law_704 : decode cL_law 704 = .ok (.iadd, 1) := dk_96 (dk_at dksL_law_23 5 rfl rfl)
theorem dL_law_705 : decode cL_law 705 = .ok (.iaload, 1) := dk_46 (dk_at dksL_law_23 6 rfl rfl)
theorem dL_law_706 : decode cL_law 706 = .ok (.aload_n 0, 1) := dk_42 (dk_at dksL_law_23 7 rfl rfl)
theorem dL_law_707 : decode cL_law 707 = .ok (.iload_n 3, 1) := dk_29 (dk_at dksL_law_23 8 rfl rfl)
theorem dL_law_708 : decode cL_law 708 = .ok (.iconst 2, 1) := dk_5 (dk_at dksL_law_23 9 rfl rfl)
theorem dL_law_709 : decode cL_law 709 = .ok (.iadd, 1) := dk_96 (dk_at dksL_law_23 10 rfl rfl)
theorem dL_law_710 : decode cL_law 710 = .ok (.iaload, 1) := dk_46 (dk_at dksL_law_23 11 rfl rfl)
theorem dL_law_711 : decode cL_law 711 = .ok (.invokevirtual 67, 3) := dk_182 0 67 (dk_at dksL_law_23 12 rfl rfl)
theorem dL_law_714 : decode cL_law 714 = .ok (.aload_n 2, 1) := dk_44 (dk_at dksL_law_23 15 rfl rfl)
theorem dL_law_715 : decode cL_law 715 = .ok (.aload_n 0, 1) := dk_42 (dk_at dksL_law_23 16 rfl rfl)
theorem dL_law_716 : decode cL_law 716 = .ok (.iload_n 3, 1) := dk_29 (dk_at dksL_law_23 17 rfl rfl)
theorem dL_law_717 : decode cL_law 717 = .ok (.iconst 1, 1) := dk_4 (dk_at dksL_law_23 18 rfl rfl)
theorem dL_law_718 : decode cL_law 718 = .ok (.iadd, 1) := dk_96 (dk_at dksL_law_23 19 rfl rfl)
theorem dL_law_719 : decode cL_law 719 = .ok (.iaload, 1) := dk_46 (dk_at dksL_law_23 20 rfl rfl)
theorem dL_law_720 : decode cL_law 720 = .ok (.aload_n 0, 1) := dk_42 (dk_at dksL_law_23 21 rfl rfl)
theorem dL_law_721 : decode cL_law 721 = .ok (.iload_n 3, 1) := dk_29 (dk_at dksL_law_23 22 rfl rfl)
theorem dL_law_722 : decode cL_law 722 = .ok (.iconst 2, 1) := dk_5 (dk_at dksL_law_23 23 rfl rfl)
theorem dL_law_723 : decode cL_law 723 = .ok (.iadd, 1) := dk_96 (dk_at dksL_law_24 0 rfl rfl)
theorem dL_law_724 : decode cL_law 724 = .ok (.iaload, 1) := dk_46 (dk_at dksL_law_24 1 rfl rfl)
theorem dL_law_725 : decode cL_law 725 = .ok (.invokevirtual 70, 3) := dk_182 0 70 (dk_at dksL_law_24 2 rfl rfl)
theorem dL_law_728 : decode cL_law 728 = .ok (.if_icmp .eq 832, 3) := dk_159 3 64 (dk_at dksL_law_24 5 rfl rfl)
theorem dL_law_731 : decode cL_law 731 = .ok (.iconst 0, 1) := dk_3 (dk_at dksL_law_24 8 rfl rfl)
theorem dL_law_732 : decode cL_law 732 = .ok (.ireturn, 1) := dk_172 (dk_at dksL_law_24 9 rfl rfl)
theorem dL_law_733 : decode cL_law 733 = .ok (.aload_n 1, 1) := dk_43 (dk_at dksL_law_24 10 rfl rfl)
theorem dL_law_734 : decode cL_law 734 = .ok (.aload_n 0, 1) := dk_42 (dk_at dksL_law_24 11 rfl rfl)
theorem dL_law_735 : decode cL_law 735 = .ok (.iload_n 3, 1) := dk_29 (dk_at dksL_law_24 12 rfl rfl)
theorem dL_law_736 : decode cL_law 736 = .ok (.iconst 1, 1) := dk_4 (dk_at dksL_law_24 13 rfl rfl)
theorem dL_law_737 : decode cL_law 737 = .ok (.iadd, 1) := dk_96 (dk_at dksL_law_24 14 rfl rfl)
theorem dL_law_738 : decode cL_law 738 = .ok (.iaload, 1) := dk_46 (dk_at dksL_law_24 15 rfl rfl)
theorem dL_law_739 : decode cL_law 739 = .ok (.invokevirtual 71, 3) := dk_182 0 71 (dk_at dksL_law_24 16 rfl rfl)
theorem dL_law_742 : decode cL_law 742 = .ok (.aload_n 2, 1) := dk_44 (dk_at dksL_law_24 19 rfl rfl)
theorem dL_law_743 : decode cL_law 743 = .ok (.aload_n 0, 1) := dk_42 (dk_at dksL_law_24 20 rfl rfl)
theorem dL_law_744 : decode cL_law 744 = .ok (.iload_n 3, 1) := dk_29 (dk_at dksL_law_24 21 rfl rfl)
theorem dL_law_745 : decode cL_law 745 = .ok (.iconst 1, 1) := dk_4 (dk_at dksL_law_24 22 rfl rfl)
theorem dL_law_746 : decode cL_law 746 = .ok (.iadd, 1) := dk_96 (dk_at dksL_law_24 23 rfl rfl)
theorem dL_law_747 : decode cL_law 747 = .ok (.iaload, 1) := dk_46 (dk_at dksL_law_25 0 rfl rfl)
theorem dL_law_748 : decode cL_law 748 = .ok (.invokevirtual 74, 3) := dk_182 0 74 (dk_at dksL_law_25 1 rfl rfl)
theorem dL_law_751 : decode cL_law 751 = .ok (.if_icmp .eq 809, 3) := dk_159 3 41 (dk_at dksL_law_25 4 rfl rfl)
theorem dL_law_754 : decode cL_law 754 = .ok (.iconst 0, 1) := dk_3 (dk_at dksL_law_25 7 rfl rfl)
theorem dL_law_755 : decode cL_law 755 = .ok (.ireturn, 1) := dk_172 (dk_at dksL_law_25 8 rfl rfl)
theorem dL_law_756 : decode cL_law 756 = .ok (.aload_n 1, 1) := dk_43 (dk_at dksL_law_25 9 rfl rfl)
theorem dL_law_757 : decode cL_law 757 = .ok (.invokevirtual 75, 3) := dk_182 0 75 (dk_at dksL_law_25 10 rfl rfl)
theorem dL_law_760 : decode cL_law 760 = .ok (.aload_n 2, 1) := dk_44 (dk_at dksL_law_25 13 rfl rfl)
theorem dL_law_761 : decode cL_law 761 = .ok (.invokevirtual 79, 3) := dk_182 0 79 (dk_at dksL_law_25 14 rfl rfl)
theorem dL_law_764 : decode cL_law 764 = .ok (.if_icmp .eq 796, 3) := dk_159 3 28 (dk_at dksL_law_25 17 rfl rfl)
theorem dL_law_767 : decode cL_law 767 = .ok (.iconst 0, 1) := dk_3 (dk_at dksL_law_25 20 rfl rfl)
theorem dL_law_768 : decode cL_law 768 = .ok (.ireturn, 1) := dk_172 (dk_at dksL_law_25 21 rfl rfl)
theorem dL_law_769 : decode cL_law 769 = .ok (.aload_n 1, 1) := dk_43 (dk_at dksL_law_25 22 rfl rfl)
theorem dL_law_770 : decode cL_law 770 = .ok (.invokevirtual 80, 3) := dk_182 0 80 (dk_at dksL_law_26 0 rfl rfl)
theorem dL_law_773 : decode cL_law 773 = .ok (.aload_n 2, 1) := dk_44 (dk_at dksL_law_26 3 rfl rfl)
theorem dL_law_774 : decode cL_law 774 = .ok (.invokevirtual 83, 3) := dk_182 0 83 (dk_at dksL_law_26 4 rfl rfl)
theorem dL_law_777 : decode cL_law 777 = .ok (.if_icmp .eq 783, 3) := dk_159 3 15 (dk_at dksL_law_26 7 rfl rfl)
theorem dL_law_780 : decode cL_law 780 = .ok (.iconst 0, 1) := dk_3 (dk_at dksL_law_26 10 rfl rfl)
theorem dL_law_781 : decode cL_law 781 = .ok (.ireturn, 1) := dk_172 (dk_at dksL_law_26 11 rfl rfl)
theorem dL_law_782 : decode cL_law 782 = .ok (.aload_n 1, 1) := dk_43 (dk_at dksL_law_26 12 rfl rfl)
theorem dL_law_783 : decode cL_law 783 = .ok (.aload_n 0, 1) := dk_42 (dk_at dksL_law_26 13 rfl rfl)
theorem dL_law_784 : decode cL_law 784 = .ok (.iload_n 3, 1) := dk_29 (dk_at dksL_law_26 14 rfl rfl)
theorem dL_law_785 : decode cL_law 785 = .ok (.iconst 1, 1) := dk_4 (dk_at dksL_law_26 15 rfl rfl)
theorem dL_law_786 : decode cL_law 786 = .ok (.iadd, 1) := dk_96 (dk_at dksL_law_26 16 rfl rfl)
theorem dL_law_787 : decode cL_law 787 = .ok (.iaload, 1) := dk_46 (dk_at dksL_law_26 17 rfl rfl)
theorem dL_law_788 : decode cL_law 788 = .ok (.aload_n 0, 1) := dk_42 (dk_at dksL_law_26 18 rfl rfl)
theorem dL_law_789 : decode cL_law 789 = .ok (.iload_n 3, 1) := dk_29 (dk_at dksL_law_26 19 rfl rfl)
theorem dL_law_790 : decode cL_law 790 = .ok (.iconst 2, 1) := dk_5 (dk_at dksL_law_26 20 rfl rfl)
theorem dL_law_791 : decode cL_law 791 = .ok (.iadd, 1) := dk_96 (dk_at dksL_law_26 21 rfl rfl)
theorem dL_law_792 : decode cL_law 792 = .ok (.iaload, 1) := dk_46 (dk_at dksL_law_26 22 rfl rfl)
theorem dL_law_793 : decode cL_law 793 = .ok (.invokevirtual 84, 3) := dk_182 0 84 (dk_at dksL_law_27 0 rfl rfl)
theorem dL_law_796 : decode cL_law 796 = .ok (.aload_n 2, 1) := dk_44 (dk_at dksL_law_27 3 rfl rfl)
theorem dL_law_797 : decode cL_law 797 = .ok (.aload_n 0, 1) := dk_42 (dk_at dksL_law_27 4 rfl rfl)
theorem dL_law_798 : decode cL_law 798 = .ok (.iload_n 3, 1) := dk_29 (dk_at dksL_law_27 5 rfl rfl)
theorem dL_law_799 : decode cL_law 799 = .ok (.iconst 1, 1) := dk_4 (dk_at dksL_law_27 6 rfl rfl)
theorem dL_law_800 : decode cL_law 800 = .ok (.iadd, 1) := dk_96 (dk_at dksL_law_27 7 rfl rfl)
theorem dL_law_801 : decode cL_law 801 = .ok (.iaload, 1) := dk_46 (dk_at dksL_law_27 8 rfl rfl)
theorem dL_law_802 : decode cL_law 802 = .ok (.aload_n 0, 1) := dk_42 (dk_at dksL_law_27 9 rfl rfl)
theorem dL_law_803 : decode cL_law 803 = .ok (.iload_n 3, 1) := dk_29 (dk_at dksL_law_27 10 rfl rfl)
theorem dL_law_804 : decode cL_law 804 = .ok (.iconst 2, 1) := dk_5 (dk_at dksL_law_27 11 rfl rfl)
theorem dL_law_805 : decode cL_law 805 = .ok (.iadd, 1) := dk_96 (dk_at dksL_law_27 12 rfl rfl)
theorem dL_law_806 : decode cL_law 806 = .ok (.iaload, 1) := dk_46 (dk_at dksL_law_27 13 rfl rfl)
theorem dL_law_807 : decode cL_law 807 = .ok (.invokevirtual 87, 3) := dk_182 0 87 (dk_at dksL_law_27 14 rfl rfl)
theorem dL_law_810 : decode cL_law 810 = .ok (.if_icmp .eq 750, 3) := dk_159 2 238 (dk_at dksL_law_27 17 rfl rfl)
theorem dL_law_813 : decode cL_law 813 = .ok (.iconst 0, 1) := dk_3 (dk_at dksL_law_27 20 rfl rfl)
theorem dL_law_814 : decode cL_law 814 = .ok (.ireturn, 1) := dk_172 (dk_at dksL_law_27 21 rfl rfl)
theorem dL_law_815 : decode cL_law 815 = .ok (.aload_n 1, 1) := dk_43 (dk_at dksL_law_27 22 rfl rfl)
theorem dL_law_816 : decode cL_law 816 = .ok (.aload_n 0, 1) := dk_42 (dk_at dksL_law_27 23 rfl rfl)
theorem dL_law_817 : decode cL_law 817 = .ok (.iload_n 3, 1) := dk_29 (dk_at dksL_law_28 0 rfl rfl)
theorem dL_law_818 : decode cL_law 818 = .ok (.iconst 1, 1) := dk_4 (dk_at dksL_law_28 1 rfl rfl)
theorem dL_law_819 : decode cL_law 819 = .ok (.iadd, 1) := dk_96 (dk_at dksL_law_28 2 rfl rfl)
theorem dL_law_820 : decode cL_law 820 = .ok (.iaload, 1) := dk_46 (dk_at dksL_law_28 3 rfl rfl)
theorem dL_law_821 : decode cL_law 821 = .ok (.aload_n 0, 1) := dk_42 (dk_at dksL_law_28 4 rfl rfl)
theorem dL_law_822 : decode cL_law 822 = .ok (.iload_n 3, 1) := dk_29 (dk_at dksL_law_28 5 rfl rfl)
theorem dL_law_823 : decode cL_law 823 = .ok (.iconst 2, 1) := dk_5 (dk_at dksL_law_28 6 rfl rfl)
theorem dL_law_824 : decode cL_law 824 = .ok (.iadd, 1) := dk_96 (dk_at dksL_law_28 7 rfl rfl)
theorem dL_law_825 : decode cL_law 825 = .ok (.iaload, 1) := dk_46 (dk_at dksL_law_28 8 rfl rfl)
theorem dL_law_826 : decode cL_law 826 = .ok (.invokevirtual 88, 3) := dk_182 0 88 (dk_at dksL_law_28 9 rfl rfl)
theorem dL_law_829 : decode cL_law 829 = .ok (.aload_n 2, 1) := dk_44 (dk_at dksL_law_28 12 rfl rfl)
theorem dL_law_830 : decode cL_law 830 = .ok (.aload_n 0, 1) := dk_42 (dk_at dksL_law_28 13 rfl rfl)
theorem dL_law_831 : decode cL_law 831 = .ok (.iload_n 3, 1) := dk_29 (dk_at dksL_law_28 14 rfl rfl)
theorem dL_law_832 : decode cL_law 832 = .ok (.iconst 1, 1) := dk_4 (dk_at dksL_law_28 15 rfl rfl)
theorem dL_law_833 : decode cL_law 833 = .ok (.iadd, 1) := dk_96 (dk_at dksL_law_28 16 rfl rfl)
theorem dL_law_834 : decode cL_law 834 = .ok (.iaload, 1) := dk_46 (dk_at dksL_law_28 17 rfl rfl)
theorem dL_law_835 : decode cL_law 835 = .ok (.aload_n 0, 1) := dk_42 (dk_at dksL_law_28 18 rfl rfl)
theorem dL_law_836 : decode cL_law 836 = .ok (.iload_n 3, 1) := dk_29 (dk_at dksL_law_28 19 rfl rfl)
theorem dL_law_837 : decode cL_law 837 = .ok (.iconst 2, 1) := dk_5 (dk_at dksL_law_28 20 rfl rfl)
theorem dL_law_838 : decode cL_law 838 = .ok (.iadd, 1) := dk_96 (dk_at dksL_law_28 21 rfl rfl)
theorem dL_law_839 : decode cL_law 839 = .ok (.iaload, 1) := dk_46 (dk_at dksL_law_28 22 rfl rfl)
theorem dL_law_840 : decode cL_law 840 = .ok (.invokevirtual 91, 3) := dk_182 0 91 (dk_at dksL_law_29 0 rfl rfl)
theorem dL_law_843 : decode cL_law 843 = .ok (.if_icmp .eq 717, 3) := dk_159 2 205 (dk_at dksL_law_29 3 rfl rfl)
theorem dL_law_846 : decode cL_law 846 = .ok (.iconst 0, 1) := dk_3 (dk_at dksL_law_29 6 rfl rfl)
theorem dL_law_847 : decode cL_law 847 = .ok (.ireturn, 1) := dk_172 (dk_at dksL_law_29 7 rfl rfl)
theorem dL_law_848 : decode cL_law 848 = .ok (.aload_n 1, 1) := dk_43 (dk_at dksL_law_29 8 rfl rfl)
theorem dL_law_849 : decode cL_law 849 = .ok (.aload_n 0, 1) := dk_42 (dk_at dksL_law_29 9 rfl rfl)
theorem dL_law_850 : decode cL_law 850 = .ok (.iload_n 3, 1) := dk_29 (dk_at dksL_law_29 10 rfl rfl)
theorem dL_law_851 : decode cL_law 851 = .ok (.iconst 1, 1) := dk_4 (dk_at dksL_law_29 11 rfl rfl)
theorem dL_law_852 : decode cL_law 852 = .ok (.iadd, 1) := dk_96 (dk_at dksL_law_29 12 rfl rfl)
theorem dL_law_853 : decode cL_law 853 = .ok (.iaload, 1) := dk_46 (dk_at dksL_law_29 13 rfl rfl)
theorem dL_law_854 : decode cL_law 854 = .ok (.invokevirtual 92, 3) := dk_182 0 92 (dk_at dksL_law_29 14 rfl rfl)
theorem dL_law_857 : decode cL_law 857 = .ok (.aload_n 2, 1) := dk_44 (dk_at dksL_law_29 17 rfl rfl)
theorem dL_law_858 : decode cL_law 858 = .ok (.aload_n 0, 1) := dk_42 (dk_at dksL_law_29 18 rfl rfl)
theorem dL_law_859 : decode cL_law 859 = .ok (.iload_n 3, 1) := dk_29 (dk_at dksL_law_29 19 rfl rfl)
theorem dL_law_860 : decode cL_law 860 = .ok (.iconst 1, 1) := dk_4 (dk_at dksL_law_29 20 rfl rfl)
theorem dL_law_861 : decode cL_law 861 = .ok (.iadd, 1) := dk_96 (dk_at dksL_law_29 21 rfl rfl)
theorem dL_law_862 : decode cL_law 862 = .ok (.iaload, 1) := dk_46 (dk_at dksL_law_29 22 rfl rfl)
theorem dL_law_863 : decode cL_law 863 = .ok (.invokevirtual 95, 3) := dk_182 0 95 (dk_at dksL_law_30 0 rfl rfl)
theorem dL_law_866 : decode cL_law 866 = .ok (.if_icmp .eq 694, 3) := dk_159 2 182 (dk_at dksL_law_30 3 rfl rfl)
theorem dL_law_869 : decode cL_law 869 = .ok (.iconst 0, 1) := dk_3 (dk_at dksL_law_30 6 rfl rfl)
theorem dL_law_870 : decode cL_law 870 = .ok (.ireturn, 1) := dk_172 (dk_at dksL_law_30 7 rfl rfl)
theorem dL_law_871 : decode cL_law 871 = .ok (.aload_n 1, 1) := dk_43 (dk_at dksL_law_30 8 rfl rfl)
theorem dL_law_872 : decode cL_law 872 = .ok (.aload_n 0, 1) := dk_42 (dk_at dksL_law_30 9 rfl rfl)
theorem dL_law_873 : decode cL_law 873 = .ok (.iload_n 3, 1) := dk_29 (dk_at dksL_law_30 10 rfl rfl)
theorem dL_law_874 : decode cL_law 874 = .ok (.iconst 1, 1) := dk_4 (dk_at dksL_law_30 11 rfl rfl)
theorem dL_law_875 : decode cL_law 875 = .ok (.iadd, 1) := dk_96 (dk_at dksL_law_30 12 rfl rfl)
theorem dL_law_876 : decode cL_law 876 = .ok (.iaload, 1) := dk_46 (dk_at dksL_law_30 13 rfl rfl)
theorem dL_law_877 : decode cL_law 877 = .ok (.aload_n 0, 1) := dk_42 (dk_at dksL_law_30 14 rfl rfl)
theorem dL_law_878 : decode cL_law 878 = .ok (.iload_n 3, 1) := dk_29 (dk_at dksL_law_30 15 rfl rfl)
theorem dL_law_879 : decode cL_law 879 = .ok (.iconst 2, 1) := dk_5 (dk_at dksL_law_30 16 rfl rfl)
theorem dL_law_880 : decode cL_law 880 = .ok (.iadd, 1) := dk_96 (dk_at dksL_law_30 17 rfl rfl)
theorem dL_law_881 : decode cL_law 881 = .ok (.iaload, 1) := dk_46 (dk_at dksL_law_30 18 rfl rfl)
theorem dL_law_882 : decode cL_law 882 = .ok (.aload_n 0, 1) := dk_42 (dk_at dksL_law_30 19 rfl rfl)
theorem dL_law_883 : decode cL_law 883 = .ok (.iload_n 3, 1) := dk_29 (dk_at dksL_law_30 20 rfl rfl)
theorem dL_law_884 : decode cL_law 884 = .ok (.iconst 3, 1) := dk_6 (dk_at dksL_law_30 21 rfl rfl)
theorem dL_law_885 : decode cL_law 885 = .ok (.iadd, 1) := dk_96 (dk_at dksL_law_30 22 rfl rfl)
theorem dL_law_886 : decode cL_law 886 = .ok (.iaload, 1) := dk_46 (dk_at dksL_law_30 23 rfl rfl)
theorem dL_law_887 : decode cL_law 887 = .ok (.invokevirtual 96, 3) := dk_182 0 96 (dk_at dksL_law_31 0 rfl rfl)
theorem dL_law_890 : decode cL_law 890 = .ok (.aload_n 2, 1) := dk_44 (dk_at dksL_law_31 3 rfl rfl)
theorem dL_law_891 : decode cL_law 891 = .ok (.aload_n 0, 1) := dk_42 (dk_at dksL_law_31 4 rfl rfl)
theorem dL_law_892 : decode cL_law 892 = .ok (.iload_n 3, 1) := dk_29 (dk_at dksL_law_31 5 rfl rfl)
theorem dL_law_893 : decode cL_law 893 = .ok (.iconst 1, 1) := dk_4 (dk_at dksL_law_31 6 rfl rfl)
theorem dL_law_894 : decode cL_law 894 = .ok (.iadd, 1) := dk_96 (dk_at dksL_law_31 7 rfl rfl)
theorem dL_law_895 : decode cL_law 895 = .ok (.iaload, 1) := dk_46 (dk_at dksL_law_31 8 rfl rfl)
theorem dL_law_896 : decode cL_law 896 = .ok (.aload_n 0, 1) := dk_42 (dk_at dksL_law_31 9 rfl rfl)
theorem dL_law_897 : decode cL_law 897 = .ok (.iload_n 3, 1) := dk_29 (dk_at dksL_law_31 10 rfl rfl)
theorem dL_law_898 : decode cL_law 898 = .ok (.iconst 2, 1) := dk_5 (dk_at dksL_law_31 11 rfl rfl)
theorem dL_law_899 : decode cL_law 899 = .ok (.iadd, 1) := dk_96 (dk_at dksL_law_31 12 rfl rfl)
theorem dL_law_900 : decode cL_law 900 = .ok (.iaload, 1) := dk_46 (dk_at dksL_law_31 13 rfl rfl)
theorem dL_law_901 : decode cL_law 901 = .ok (.aload_n 0, 1) := dk_42 (dk_at dksL_law_31 14 rfl rfl)
theorem dL_law_902 : decode cL_law 902 = .ok (.iload_n 3, 1) := dk_29 (dk_at dksL_law_31 15 rfl rfl)
theorem dL_law_903 : decode cL_law 903 = .ok (.iconst 3, 1) := dk_6 (dk_at dksL_law_31 16 rfl rfl)
theorem dL_law_904 : decode cL_law 904 = .ok (.iadd, 1) := dk_96 (dk_at dksL_law_31 17 rfl rfl)
theorem dL_law_905 : decode cL_law 905 = .ok (.iaload, 1) := dk_46 (dk_at dksL_law_31 18 rfl rfl)
theorem dL_law_906 : decode cL_law 906 = .ok (.invokevirtual 99, 3) := dk_182 0 99 (dk_at dksL_law_31 19 rfl rfl)
theorem dL_law_909 : decode cL_law 909 = .ok (.if_icmp .eq 651, 3) := dk_159 2 139 (dk_at dksL_law_32 0 rfl rfl)
theorem dL_law_912 : decode cL_law 912 = .ok (.iconst 0, 1) := dk_3 (dk_at dksL_law_32 3 rfl rfl)
theorem dL_law_913 : decode cL_law 913 = .ok (.ireturn, 1) := dk_172 (dk_at dksL_law_32 4 rfl rfl)
theorem dL_law_914 : decode cL_law 914 = .ok (.aload_n 1, 1) := dk_43 (dk_at dksL_law_32 5 rfl rfl)
theorem dL_law_915 : decode cL_law 915 = .ok (.aload_n 0, 1) := dk_42 (dk_at dksL_law_32 6 rfl rfl)
theorem dL_law_916 : decode cL_law 916 = .ok (.iload_n 3, 1) := dk_29 (dk_at dksL_law_32 7 rfl rfl)
theorem dL_law_917 : decode cL_law 917 = .ok (.iconst 1, 1) := dk_4 (dk_at dksL_law_32 8 rfl rfl)
theorem dL_law_918 : decode cL_law 918 = .ok (.iadd, 1) := dk_96 (dk_at dksL_law_32 9 rfl rfl)
theorem dL_law_919 : decode cL_law 919 = .ok (.iaload, 1) := dk_46 (dk_at dksL_law_32 10 rfl rfl)
theorem dL_law_920 : decode cL_law 920 = .ok (.aload_n 0, 1) := dk_42 (dk_at dksL_law_32 11 rfl rfl)
theorem dL_law_921 : decode cL_law 921 = .ok (.iload_n 3, 1) := dk_29 (dk_at dksL_law_32 12 rfl rfl)
theorem dL_law_922 : decode cL_law 922 = .ok (.iconst 2, 1) := dk_5 (dk_at dksL_law_32 13 rfl rfl)
theorem dL_law_923 : decode cL_law 923 = .ok (.iadd, 1) := dk_96 (dk_at dksL_law_32 14 rfl rfl)
theorem dL_law_924 : decode cL_law 924 = .ok (.iaload, 1) := dk_46 (dk_at dksL_law_32 15 rfl rfl)
theorem dL_law_925 : decode cL_law 925 = .ok (.invokevirtual 100, 3) := dk_182 0 100 (dk_at dksL_law_32 16 rfl rfl)
theorem dL_law_928 : decode cL_law 928 = .ok (.aload_n 2, 1) := dk_44 (dk_at dksL_law_32 19 rfl rfl)
theorem dL_law_929 : decode cL_law 929 = .ok (.aload_n 0, 1) := dk_42 (dk_at dksL_law_32 20 rfl rfl)
theorem dL_law_930 : decode cL_law 930 = .ok (.iload_n 3, 1) := dk_29 (dk_at dksL_law_32 21 rfl rfl)
theorem dL_law_931 : decode cL_law 931 = .ok (.iconst 1, 1) := dk_4 (dk_at dksL_law_32 22 rfl rfl)
theorem dL_law_932 : decode cL_law 932 = .ok (.iadd, 1) := dk_96 (dk_at dksL_law_32 23 rfl rfl)
theorem dL_law_933 : decode cL_law 933 = .ok (.iaload, 1) := dk_46 (dk_at dksL_law_33 0 rfl rfl)
theorem dL_law_934 : decode cL_law 934 = .ok (.aload_n 0, 1) := dk_42 (dk_at dksL_law_33 1 rfl rfl)
theorem dL_law_935 : decode cL_law 935 = .ok (.iload_n 3, 1) := dk_29 (dk_at dksL_law_33 2 rfl rfl)
theorem dL_law_936 : decode cL_law 936 = .ok (.iconst 2, 1) := dk_5 (dk_at dksL_law_33 3 rfl rfl)
theorem dL_law_937 : decode cL_law 937 = .ok (.iadd, 1) := dk_96 (dk_at dksL_law_33 4 rfl rfl)
theorem dL_law_938 : decode cL_law 938 = .ok (.iaload, 1) := dk_46 (dk_at dksL_law_33 5 rfl rfl)
theorem dL_law_939 : decode cL_law 939 = .ok (.invokevirtual 103, 3) := dk_182 0 103 (dk_at dksL_law_33 6 rfl rfl)
theorem dL_law_942 : decode cL_law 942 = .ok (.if_icmp .eq 618, 3) := dk_159 2 106 (dk_at dksL_law_33 9 rfl rfl)
theorem dL_law_945 : decode cL_law 945 = .ok (.iconst 0, 1) := dk_3 (dk_at dksL_law_33 12 rfl rfl)
theorem dL_law_946 : decode cL_law 946 = .ok (.ireturn, 1) := dk_172 (dk_at dksL_law_33 13 rfl rfl)
theorem dL_law_947 : decode cL_law 947 = .ok (.aload_n 1, 1) := dk_43 (dk_at dksL_law_33 14 rfl rfl)
theorem dL_law_948 : decode cL_law 948 = .ok (.invokevirtual 104, 3) := dk_182 0 104 (dk_at dksL_law_33 15 rfl rfl)
theorem dL_law_951 : decode cL_law 951 = .ok (.aload_n 2, 1) := dk_44 (dk_at dksL_law_33 18 rfl rfl)
theorem dL_law_952 : decode cL_law 952 = .ok (.invokevirtual 107, 3) := dk_182 0 107 (dk_at dksL_law_33 19 rfl rfl)
theorem dL_law_955 : decode cL_law 955 = .ok (.if_icmp .eq 605, 3) := dk_159 2 93 (dk_at dksL_law_34 0 rfl rfl)
theorem dL_law_958 : decode cL_law 958 = .ok (.iconst 0, 1) := dk_3 (dk_at dksL_law_34 3 rfl rfl)
theorem dL_law_959 : decode cL_law 959 = .ok (.ireturn, 1) := dk_172 (dk_at dksL_law_34 4 rfl rfl)
theorem dL_law_960 : decode cL_law 960 = .ok (.aload_n 1, 1) := dk_43 (dk_at dksL_law_34 5 rfl rfl)
theorem dL_law_961 : decode cL_law 961 = .ok (.aload_n 0, 1) := dk_42 (dk_at dksL_law_34 6 rfl rfl)
theorem dL_law_962 : decode cL_law 962 = .ok (.iload_n 3, 1) := dk_29 (dk_at dksL_law_34 7 rfl rfl)
theorem dL_law_963 : decode cL_law 963 = .ok (.iconst 1, 1) := dk_4 (dk_at dksL_law_34 8 rfl rfl)
theorem dL_law_964 : decode cL_law 964 = .ok (.iadd, 1) := dk_96 (dk_at dksL_law_34 9 rfl rfl)
theorem dL_law_965 : decode cL_law 965 = .ok (.iaload, 1) := dk_46 (dk_at dksL_law_34 10 rfl rfl)
theorem dL_law_966 : decode cL_law 966 = .ok (.invokevirtual 108, 3) := dk_182 0 108 (dk_at dksL_law_34 11 rfl rfl)
theorem dL_law_969 : decode cL_law 969 = .ok (.aload_n 2, 1) := dk_44 (dk_at dksL_law_34 14 rfl rfl)
theorem dL_law_970 : decode cL_law 970 = .ok (.aload_n 0, 1) := dk_42 (dk_at dksL_law_34 15 rfl rfl)
theorem dL_law_971 : decode cL_law 971 = .ok (.iload_n 3, 1) := dk_29 (dk_at dksL_law_34 16 rfl rfl)
theorem dL_law_972 : decode cL_law 972 = .ok (.iconst 1, 1) := dk_4 (dk_at dksL_law_34 17 rfl rfl)
theorem dL_law_973 : decode cL_law 973 = .ok (.iadd, 1) := dk_96 (dk_at dksL_law_34 18 rfl rfl)
theorem dL_law_974 : decode cL_law 974 = .ok (.iaload, 1) := dk_46 (dk_at dksL_law_34 19 rfl rfl)
theorem dL_law_975 : decode cL_law 975 = .ok (.invokevirtual 111, 3) := dk_182 0 111 (dk_at dksL_law_34 20 rfl rfl)
theorem dL_law_978 : decode cL_law 978 = .ok (.if_icmp .eq 582, 3) := dk_159 2 70 (dk_at dksL_law_35 0 rfl rfl)
theorem dL_law_981 : decode cL_law 981 = .ok (.iconst 0, 1) := dk_3 (dk_at dksL_law_35 3 rfl rfl)
theorem dL_law_982 : decode cL_law 982 = .ok (.ireturn, 1) := dk_172 (dk_at dksL_law_35 4 rfl rfl)
theorem dL_law_983 : decode cL_law 983 = .ok (.aload_n 1, 1) := dk_43 (dk_at dksL_law_35 5 rfl rfl)
theorem dL_law_984 : decode cL_law 984 = .ok (.aload_n 0, 1) := dk_42 (dk_at dksL_law_35 6 rfl rfl)
theorem dL_law_985 : decode cL_law 985 = .ok (.iload_n 3, 1) := dk_29 (dk_at dksL_law_35 7 rfl rfl)
theorem dL_law_986 : decode cL_law 986 = .ok (.iconst 1, 1) := dk_4 (dk_at dksL_law_35 8 rfl rfl)
theorem dL_law_987 : decode cL_law 987 = .ok (.iadd, 1) := dk_96 (dk_at dksL_law_35 9 rfl rfl)
theorem dL_law_988 : decode cL_law 988 = .ok (.iaload, 1) := dk_46 (dk_at dksL_law_35 10 rfl rfl)
theorem dL_law_989 : decode cL_law 989 = .ok (.invokevirtual 112, 3) := dk_182 0 112 (dk_at dksL_law_35 11 rfl rfl)
theorem dL_law_992 : decode cL_law 992 = .ok (.aload_n 2, 1) := dk_44 (dk_at dksL_law_35 14 rfl rfl)
theorem dL_law_993 : decode cL_law 993 = .ok (.aload_n 0, 1) := dk_42 (dk_at dksL_law_35 15 rfl rfl)
theorem dL_law_994 : decode cL_law 994 = .ok (.iload_n 3, 1) := dk_29 (dk_at dksL_law_35 16 rfl rfl)
theorem dL_law_995 : decode cL_law 995 = .ok (.iconst 1, 1) := dk_4 (dk_at dksL_law_35 17 rfl rfl)
theorem dL_law_996 : decode cL_law 996 = .ok (.iadd, 1) := dk_96 (dk_at dksL_law_35 18 rfl rfl)
theorem dL_law_997 : decode cL_law 997 = .ok (.iaload, 1) := dk_46 (dk_at dksL_law_35 19 rfl rfl)
theorem dL_law_998 : decode cL_law 998 = .ok (.invokevirtual 115, 3) := dk_182 0 115 (dk_at dksL_law_35 20 rfl rfl)
theorem dL_law_1001 : decode cL_law 1001 = .ok (.if_icmp .eq 559, 3) := dk_159 2 47 (dk_at dksL_law_36 0 rfl rfl)
theorem dL_law_1004 : decode cL_law 1004 = .ok (.iconst 0, 1) := dk_3 (dk_at dksL_law_36 3 rfl rfl)
theorem dL_law_1005 : decode cL_law 1005 = .ok (.ireturn, 1) := dk_172 (dk_at dksL_law_36 4 rfl rfl)
theorem dL_law_1006 : decode cL_law 1006 = .ok (.aload_n 1, 1) := dk_43 (dk_at dksL_law_36 5 rfl rfl)
theorem dL_law_1007 : decode cL_law 1007 = .ok (.aload_n 0, 1) := dk_42 (dk_at dksL_law_36 6 rfl rfl)
theorem dL_law_1008 : decode cL_law 1008 = .ok (.iload_n 3, 1) := dk_29 (dk_at dksL_law_36 7 rfl rfl)
theorem dL_law_1009 : decode cL_law 1009 = .ok (.iconst 1, 1) := dk_4 (dk_at dksL_law_36 8 rfl rfl)
theorem dL_law_1010 : decode cL_law 1010 = .ok (.iadd, 1) := dk_96 (dk_at dksL_law_36 9 rfl rfl)
theorem dL_law_1011 : decode cL_law 1011 = .ok (.iaload, 1) := dk_46 (dk_at dksL_law_36 10 rfl rfl)
theorem dL_law_1012 : decode cL_law 1012 = .ok (.aload_n 0, 1) := dk_42 (dk_at dksL_law_36 11 rfl rfl)
theorem dL_law_1013 : decode cL_law 1013 = .ok (.iload_n 3, 1) := dk_29 (dk_at dksL_law_36 12 rfl rfl)
theorem dL_law_1014 : decode cL_law 1014 = .ok (.iconst 2, 1) := dk_5 (dk_at dksL_law_36 13 rfl rfl)
theorem dL_law_1015 : decode cL_law 1015 = .ok (.iadd, 1) := dk_96 (dk_at dksL_law_36 14 rfl rfl)
theorem dL_law_1016 : decode cL_law 1016 = .ok (.iaload, 1) := dk_46 (dk_at dksL_law_36 15 rfl rfl)
theorem dL_law_1017 : decode cL_law 1017 = .ok (.invokevirtual 116, 3) := dk_182 0 116 (dk_at dksL_law_36 16 rfl rfl)
theorem dL_law_1020 : decode cL_law 1020 = .ok (.aload_n 2, 1) := dk_44 (dk_at dksL_law_36 19 rfl rfl)
theorem dL_law_1021 : decode cL_law 1021 = .ok (.aload_n 0, 1) := dk_42 (dk_at dksL_law_36 20 rfl rfl)
theorem dL_law_1022 : decode cL_law 1022 = .ok (.iload_n 3, 1) := dk_29 (dk_at dksL_law_36 21 rfl rfl)
theorem dL_law_1023 : decode cL_law 1023 = .ok (.iconst 1, 1) := dk_4 (dk_at dksL_law_36 22 rfl rfl)
theorem dL_law_1024 : decode cL_law 1024 = .ok (.iadd, 1) := dk_96 (dk_at dksL_law_36 23 rfl rfl)
theorem dL_law_1025 : decode cL_law 1025 = .ok (.iaload, 1) := dk_46 (dk_at dksL_law_37 0 rfl rfl)
theorem dL_law_1026 : decode cL_law 1026 = .ok (.aload_n 0, 1) := dk_42 (dk_at dksL_law_37 1 rfl rfl)
theorem dL_law_1027 : decode cL_law 1027 = .ok (.iload_n 3, 1) := dk_29 (dk_at dksL_law_37 2 rfl rfl)
theorem dL_law_1028 : decode cL_law 1028 = .ok (.iconst 2, 1) := dk_5 (dk_at dksL_law_37 3 rfl rfl)
theorem dL_law_1029 : decode cL_law 1029 = .ok (.iadd, 1) := dk_96 (dk_at dksL_law_37 4 rfl rfl)
theorem dL_law_1030 : decode cL_law 1030 = .ok (.iaload, 1) := dk_46 (dk_at dksL_law_37 5 rfl rfl)
theorem dL_law_1031 : decode cL_law 1031 = .ok (.invokevirtual 119, 3) := dk_182 0 119 (dk_at dksL_law_37 6 rfl rfl)
theorem dL_law_1034 : decode cL_law 1034 = .ok (.if_icmp .eq 526, 3) := dk_159 2 14 (dk_at dksL_law_37 9 rfl rfl)
theorem dL_law_1037 : decode cL_law 1037 = .ok (.iconst 0, 1) := dk_3 (dk_at dksL_law_37 12 rfl rfl)
theorem dL_law_1038 : decode cL_law 1038 = .ok (.ireturn, 1) := dk_172 (dk_at dksL_law_37 13 rfl rfl)
theorem dL_law_1039 : decode cL_law 1039 = .ok (.aload_n 1, 1) := dk_43 (dk_at dksL_law_37 14 rfl rfl)
theorem dL_law_1040 : decode cL_law 1040 = .ok (.aload_n 0, 1) := dk_42 (dk_at dksL_law_37 15 rfl rfl)
theorem dL_law_1041 : decode cL_law 1041 = .ok (.iload_n 3, 1) := dk_29 (dk_at dksL_law_37 16 rfl rfl)
theorem dL_law_1042 : decode cL_law 1042 = .ok (.iconst 1, 1) := dk_4 (dk_at dksL_law_37 17 rfl rfl)
theorem dL_law_1043 : decode cL_law 1043 = .ok (.iadd, 1) := dk_96 (dk_at dksL_law_37 18 rfl rfl)
theorem dL_law_1044 : decode cL_law 1044 = .ok (.iaload, 1) := dk_46 (dk_at dksL_law_37 19 rfl rfl)
theorem dL_law_1045 : decode cL_law 1045 = .ok (.invokevirtual 120, 3) := dk_182 0 120 (dk_at dksL_law_37 20 rfl rfl)
theorem dL_law_1048 : decode cL_law 1048 = .ok (.aload_n 2, 1) := dk_44 (dk_at dksL_law_37 23 rfl rfl)
theorem dL_law_1049 : decode cL_law 1049 = .ok (.aload_n 0, 1) := dk_42 (dk_at dksL_law_38 0 rfl rfl)
theorem dL_law_1050 : decode cL_law 1050 = .ok (.iload_n 3, 1) := dk_29 (dk_at dksL_law_38 1 rfl rfl)
theorem dL_law_1051 : decode cL_law 1051 = .ok (.iconst 1, 1) := dk_4 (dk_at dksL_law_38 2 rfl rfl)
theorem dL_law_1052 : decode cL_law 1052 = .ok (.iadd, 1) := dk_96 (dk_at dksL_law_38 3 rfl rfl)
theorem dL_law_1053 : decode cL_law 1053 = .ok (.iaload, 1) := dk_46 (dk_at dksL_law_38 4 rfl rfl)
theorem dL_law_1054 : decode cL_law 1054 = .ok (.invokevirtual 124, 3) := dk_182 0 124 (dk_at dksL_law_38 5 rfl rfl)
theorem dL_law_1057 : decode cL_law 1057 = .ok (.lcmp, 1) := dk_148 (dk_at dksL_law_38 8 rfl rfl)
theorem dL_law_1058 : decode cL_law 1058 = .ok (.ifCond .eq 502, 3) := dk_153 1 246 (dk_at dksL_law_38 9 rfl rfl)
theorem dL_law_1061 : decode cL_law 1061 = .ok (.iconst 0, 1) := dk_3 (dk_at dksL_law_38 12 rfl rfl)
theorem dL_law_1062 : decode cL_law 1062 = .ok (.ireturn, 1) := dk_172 (dk_at dksL_law_38 13 rfl rfl)
theorem dL_law_1063 : decode cL_law 1063 = .ok (.aload_n 1, 1) := dk_43 (dk_at dksL_law_38 14 rfl rfl)
theorem dL_law_1064 : decode cL_law 1064 = .ok (.aload_n 0, 1) := dk_42 (dk_at dksL_law_38 15 rfl rfl)
theorem dL_law_1065 : decode cL_law 1065 = .ok (.iload_n 3, 1) := dk_29 (dk_at dksL_law_38 16 rfl rfl)
theorem dL_law_1066 : decode cL_law 1066 = .ok (.iconst 1, 1) := dk_4 (dk_at dksL_law_38 17 rfl rfl)
theorem dL_law_1067 : decode cL_law 1067 = .ok (.iadd, 1) := dk_96 (dk_at dksL_law_38 18 rfl rfl)
theorem dL_law_1068 : decode cL_law 1068 = .ok (.iaload, 1) := dk_46 (dk_at dksL_law_38 19 rfl rfl)
theorem dL_law_1069 : decode cL_law 1069 = .ok (.invokevirtual 125, 3) := dk_182 0 125 (dk_at dksL_law_38 20 rfl rfl)
theorem dL_law_1072 : decode cL_law 1072 = .ok (.aload_n 2, 1) := dk_44 (dk_at dksL_law_38 23 rfl rfl)
theorem dL_law_1073 : decode cL_law 1073 = .ok (.aload_n 0, 1) := dk_42 (dk_at dksL_law_39 0 rfl rfl)
theorem dL_law_1074 : decode cL_law 1074 = .ok (.iload_n 3, 1) := dk_29 (dk_at dksL_law_39 1 rfl rfl)
theorem dL_law_1075 : decode cL_law 1075 = .ok (.iconst 1, 1) := dk_4 (dk_at dksL_law_39 2 rfl rfl)
theorem dL_law_1076 : decode cL_law 1076 = .ok (.iadd, 1) := dk_96 (dk_at dksL_law_39 3 rfl rfl)
theorem dL_law_1077 : decode cL_law 1077 = .ok (.iaload, 1) := dk_46 (dk_at dksL_law_39 4 rfl rfl)
theorem dL_law_1078 : decode cL_law 1078 = .ok (.invokevirtual 128, 3) := dk_182 0 128 (dk_at dksL_law_39 5 rfl rfl)
theorem dL_law_1081 : decode cL_law 1081 = .ok (.if_icmp .eq 479, 3) := dk_159 1 223 (dk_at dksL_law_39 8 rfl rfl)
theorem dL_law_1084 : decode cL_law 1084 = .ok (.iconst 0, 1) := dk_3 (dk_at dksL_law_39 11 rfl rfl)
theorem dL_law_1085 : decode cL_law 1085 = .ok (.ireturn, 1) := dk_172 (dk_at dksL_law_39 12 rfl rfl)
theorem dL_law_1086 : decode cL_law 1086 = .ok (.aload_n 1, 1) := dk_43 (dk_at dksL_law_39 13 rfl rfl)
theorem dL_law_1087 : decode cL_law 1087 = .ok (.aload_n 0, 1) := dk_42 (dk_at dksL_law_39 14 rfl rfl)
theorem dL_law_1088 : decode cL_law 1088 = .ok (.iload_n 3, 1) := dk_29 (dk_at dksL_law_39 15 rfl rfl)
theorem dL_law_1089 : decode cL_law 1089 = .ok (.iconst 1, 1) := dk_4 (dk_at dksL_law_39 16 rfl rfl)
theorem dL_law_1090 : decode cL_law 1090 = .ok (.iadd, 1) := dk_96 (dk_at dksL_law_39 17 rfl rfl)
theorem dL_law_1091 : decode cL_law 1091 = .ok (.iaload, 1) := dk_46 (dk_at dksL_law_39 18 rfl rfl)
theorem dL_law_1092 : decode cL_law 1092 = .ok (.aload_n 0, 1) := dk_42 (dk_at dksL_law_39 19 rfl rfl)
theorem dL_law_1093 : decode cL_law 1093 = .ok (.iload_n 3, 1) := dk_29 (dk_at dksL_law_39 20 rfl rfl)
theorem dL_law_1094 : decode cL_law 1094 = .ok (.iconst 2, 1) := dk_5 (dk_at dksL_law_39 21 rfl rfl)
theorem dL_law_1095 : decode cL_law 1095 = .ok (.iadd, 1) := dk_96 (dk_at dksL_law_39 22 rfl rfl)
theorem dL_law_1096 : decode cL_law 1096 = .ok (.iaload, 1) := dk_46 (dk_at dksL_law_39 23 rfl rfl)
theorem dL_law_1097 : decode cL_law 1097 = .ok (.invokevirtual 129, 3) := dk_182 0 129 (dk_at dksL_law_40 0 rfl rfl)
theorem dL_law_1100 : decode cL_law 1100 = .ok (.aload_n 2, 1) := dk_44 (dk_at dksL_law_40 3 rfl rfl)
theorem dL_law_1101 : decode cL_law 1101 = .ok (.aload_n 0, 1) := dk_42 (dk_at dksL_law_40 4 rfl rfl)
theorem dL_law_1102 : decode cL_law 1102 = .ok (.iload_n 3, 1) := dk_29 (dk_at dksL_law_40 5 rfl rfl)
theorem dL_law_1103 : decode cL_law 1103 = .ok (.iconst 1, 1) := dk_4 (dk_at dksL_law_40 6 rfl rfl)
theorem dL_law_1104 : decode cL_law 1104 = .ok (.iadd, 1) := dk_96 (dk_at dksL_law_40 7 rfl rfl)
theorem dL_law_1105 : decode cL_law 1105 = .ok (.iaload, 1) := dk_46 (dk_at dksL_law_40 8 rfl rfl)
theorem dL_law_1106 : decode cL_law 1106 = .ok (.aload_n 0, 1) := dk_42 (dk_at dksL_law_40 9 rfl rfl)
theorem dL_law_1107 : decode cL_law 1107 = .ok (.iload_n 3, 1) := dk_29 (dk_at dksL_law_40 10 rfl rfl)
theorem dL_law_1108 : decode cL_law 1108 = .ok (.iconst 2, 1) := dk_5 (dk_at dksL_law_40 11 rfl rfl)
theorem dL_law_1109 : decode cL_law 1109 = .ok (.iadd, 1) := dk_96 (dk_at dksL_law_40 12 rfl rfl)
theorem dL_law_1110 : decode cL_law 1110 = .ok (.iaload, 1) := dk_46 (dk_at dksL_law_40 13 rfl rfl)
theorem dL_law_1111 : decode cL_law 1111 = .ok (.invokevirtual 132, 3) := dk_182 0 132 (dk_at dksL_law_40 14 rfl rfl)
theorem dL_law_1114 : decode cL_law 1114 = .ok (.if_icmp .eq 446, 3) := dk_159 1 190 (dk_at dksL_law_40 17 rfl rfl)
theorem dL_law_1117 : decode cL_law 1117 = .ok (.iconst 0, 1) := dk_3 (dk_at dksL_law_40 20 rfl rfl)
theorem dL_law_1118 : decode cL_law 1118 = .ok (.ireturn, 1) := dk_172 (dk_at dksL_law_40 21 rfl rfl)
theorem dL_law_1119 : decode cL_law 1119 = .ok (.aload_n 1, 1) := dk_43 (dk_at dksL_law_40 22 rfl rfl)
theorem dL_law_1120 : decode cL_law 1120 = .ok (.aload_n 0, 1) := dk_42 (dk_at dksL_law_40 23 rfl rfl)
theorem dL_law_1121 : decode cL_law 1121 = .ok (.iload_n 3, 1) := dk_29 (dk_at dksL_law_41 0 rfl rfl)
theorem dL_law_1122 : decode cL_law 1122 = .ok (.iconst 1, 1) := dk_4 (dk_at dksL_law_41 1 rfl rfl)
theorem dL_law_1123 : decode cL_law 1123 = .ok (.iadd, 1) := dk_96 (dk_at dksL_law_41 2 rfl rfl)
theorem dL_law_1124 : decode cL_law 1124 = .ok (.iaload, 1) := dk_46 (dk_at dksL_law_41 3 rfl rfl)
theorem dL_law_1125 : decode cL_law 1125 = .ok (.aload_n 0, 1) := dk_42 (dk_at dksL_law_41 4 rfl rfl)
theorem dL_law_1126 : decode cL_law 1126 = .ok (.iload_n 3, 1) := dk_29 (dk_at dksL_law_41 5 rfl rfl)
theorem dL_law_1127 : decode cL_law 1127 = .ok (.iconst 2, 1) := dk_5 (dk_at dksL_law_41 6 rfl rfl)
theorem dL_law_1128 : decode cL_law 1128 = .ok (.iadd, 1) := dk_96 (dk_at dksL_law_41 7 rfl rfl)
theorem dL_law_1129 : decode cL_law 1129 = .ok (.iaload, 1) := dk_46 (dk_at dksL_law_41 8 rfl rfl)
theorem dL_law_1130 : decode cL_law 1130 = .ok (.invokevirtual 133, 3) := dk_182 0 133 (dk_at dksL_law_41 9 rfl rfl)
theorem dL_law_1133 : decode cL_law 1133 = .ok (.aload_n 2, 1) := dk_44 (dk_at dksL_law_41 12 rfl rfl)
theorem dL_law_1134 : decode cL_law 1134 = .ok (.aload_n 0, 1) := dk_42 (dk_at dksL_law_41 13 rfl rfl)
theorem dL_law_1135 : decode cL_law 1135 = .ok (.iload_n 3, 1) := dk_29 (dk_at dksL_law_41 14 rfl rfl)
theorem dL_law_1136 : decode cL_law 1136 = .ok (.iconst 1, 1) := dk_4 (dk_at dksL_law_41 15 rfl rfl)
theorem dL_law_1137 : decode cL_law 1137 = .ok (.iadd, 1) := dk_96 (dk_at dksL_law_41 16 rfl rfl)
theorem dL_law_1138 : decode cL_law 1138 = .ok (.iaload, 1) := dk_46 (dk_at dksL_law_41 17 rfl rfl)
theorem dL_law_1139 : decode cL_law 1139 = .ok (.aload_n 0, 1) := dk_42 (dk_at dksL_law_41 18 rfl rfl)
theorem dL_law_1140 : decode cL_law 1140 = .ok (.iload_n 3, 1) := dk_29 (dk_at dksL_law_41 19 rfl rfl)
theorem dL_law_1141 : decode cL_law 1141 = .ok (.iconst 2, 1) := dk_5 (dk_at dksL_law_41 20 rfl rfl)
theorem dL_law_1142 : decode cL_law 1142 = .ok (.iadd, 1) := dk_96 (dk_at dksL_law_41 21 rfl rfl)
theorem dL_law_1143 : decode cL_law 1143 = .ok (.iaload, 1) := dk_46 (dk_at dksL_law_41 22 rfl rfl)
theorem dL_law_1144 : decode cL_law 1144 = .ok (.invokevirtual 136, 3) := dk_182 0 136 (dk_at dksL_law_42 0 rfl rfl)
theorem dL_law_1147 : decode cL_law 1147 = .ok (.if_icmp .eq 413, 3) := dk_159 1 157 (dk_at dksL_law_42 3 rfl rfl)
theorem dL_law_1150 : decode cL_law 1150 = .ok (.iconst 0, 1) := dk_3 (dk_at dksL_law_42 6 rfl rfl)
theorem dL_law_1151 : decode cL_law 1151 = .ok (.ireturn, 1) := dk_172 (dk_at dksL_law_42 7 rfl rfl)
theorem dL_law_1152 : decode cL_law 1152 = .ok (.aload_n 1, 1) := dk_43 (dk_at dksL_law_42 8 rfl rfl)
theorem dL_law_1153 : decode cL_law 1153 = .ok (.aload_n 0, 1) := dk_42 (dk_at dksL_law_42 9 rfl rfl)
theorem dL_law_1154 : decode cL_law 1154 = .ok (.iload_n 3, 1) := dk_29 (dk_at dksL_law_42 10 rfl rfl)
theorem dL_law_1155 : decode cL_law 1155 = .ok (.iconst 1, 1) := dk_4 (dk_at dksL_law_42 11 rfl rfl)
theorem dL_law_1156 : decode cL_law 1156 = .ok (.iadd, 1) := dk_96 (dk_at dksL_law_42 12 rfl rfl)
theorem dL_law_1157 : decode cL_law 1157 = .ok (.iaload, 1) := dk_46 (dk_at dksL_law_42 13 rfl rfl)
theorem dL_law_1158 : decode cL_law 1158 = .ok (.invokevirtual 137, 3) := dk_182 0 137 (dk_at dksL_law_42 14 rfl rfl)
theorem dL_law_1161 : decode cL_law 1161 = .ok (.aload_n 2, 1) := dk_44 (dk_at dksL_law_42 17 rfl rfl)
theorem dL_law_1162 : decode cL_law 1162 = .ok (.aload_n 0, 1) := dk_42 (dk_at dksL_law_42 18 rfl rfl)
theorem dL_law_1163 : decode cL_law 1163 = .ok (.iload_n 3, 1) := dk_29 (dk_at dksL_law_42 19 rfl rfl)
theorem dL_law_1164 : decode cL_law 1164 = .ok (.iconst 1, 1) := dk_4 (dk_at dksL_law_42 20 rfl rfl)
theorem dL_law_1165 : decode cL_law 1165 = .ok (.iadd, 1) := dk_96 (dk_at dksL_law_42 21 rfl rfl)
theorem dL_law_1166 : decode cL_law 1166 = .ok (.iaload, 1) := dk_46 (dk_at dksL_law_42 22 rfl rfl)
theorem dL_law_1167 : decode cL_law 1167 = .ok (.invokevirtual 140, 3) := dk_182 0 140 (dk_at dksL_law_43 0 rfl rfl)
theorem dL_law_1170 : decode cL_law 1170 = .ok (.if_icmp .eq 390, 3) := dk_159 1 134 (dk_at dksL_law_43 3 rfl rfl)
theorem dL_law_1173 : decode cL_law 1173 = .ok (.iconst 0, 1) := dk_3 (dk_at dksL_law_43 6 rfl rfl)
theorem dL_law_1174 : decode cL_law 1174 = .ok (.ireturn, 1) := dk_172 (dk_at dksL_law_43 7 rfl rfl)
theorem dL_law_1175 : decode cL_law 1175 = .ok (.aload_n 1, 1) := dk_43 (dk_at dksL_law_43 8 rfl rfl)
theorem dL_law_1176 : decode cL_law 1176 = .ok (.aload_n 0, 1) := dk_42 (dk_at dksL_law_43 9 rfl rfl)
theorem dL_law_1177 : decode cL_law 1177 = .ok (.iload_n 3, 1) := dk_29 (dk_at dksL_law_43 10 rfl rfl)
theorem dL_law_1178 : decode cL_law 1178 = .ok (.iconst 1, 1) := dk_4 (dk_at dksL_law_43 11 rfl rfl)
theorem dL_law_1179 : decode cL_law 1179 = .ok (.iadd, 1) := dk_96 (dk_at dksL_law_43 12 rfl rfl)
theorem dL_law_1180 : decode cL_law 1180 = .ok (.iaload, 1) := dk_46 (dk_at dksL_law_43 13 rfl rfl)
theorem dL_law_1181 : decode cL_law 1181 = .ok (.aload_n 0, 1) := dk_42 (dk_at dksL_law_43 14 rfl rfl)
theorem dL_law_1182 : decode cL_law 1182 = .ok (.iload_n 3, 1) := dk_29 (dk_at dksL_law_43 15 rfl rfl)
theorem dL_law_1183 : decode cL_law 1183 = .ok (.iconst 2, 1) := dk_5 (dk_at dksL_law_43 16 rfl rfl)
theorem dL_law_1184 : decode cL_law 1184 = .ok (.iadd, 1) := dk_96 (dk_at dksL_law_43 17 rfl rfl)
theorem dL_law_1185 : decode cL_law 1185 = .ok (.iaload, 1) := dk_46 (dk_at dksL_law_43 18 rfl rfl)
theorem dL_law_1186 : decode cL_law 1186 = .ok (.invokevirtual 141, 3) := dk_182 0 141 (dk_at dksL_law_43 19 rfl rfl)
theorem dL_law_1189 : decode cL_law 1189 = .ok (.aload_n 2, 1) := dk_44 (dk_at dksL_law_43 22 rfl rfl)
theorem dL_law_1190 : decode cL_law 1190 = .ok (.aload_n 0, 1) := dk_42 (dk_at dksL_law_43 23 rfl rfl)
theorem dL_law_1191 : decode cL_law 1191 = .ok (.iload_n 3, 1) := dk_29 (dk_at dksL_law_44 0 rfl rfl)
theorem dL_law_1192 : decode cL_law 1192 = .ok (.iconst 1, 1) := dk_4 (dk_at dksL_law_44 1 rfl rfl)
theorem dL_law_1193 : decode cL_law 1193 = .ok (.iadd, 1) := dk_96 (dk_at dksL_law_44 2 rfl rfl)
theorem dL_law_1194 : decode cL_law 1194 = .ok (.iaload, 1) := dk_46 (dk_at dksL_law_44 3 rfl rfl)
theorem dL_law_1195 : decode cL_law 1195 = .ok (.aload_n 0, 1) := dk_42 (dk_at dksL_law_44 4 rfl rfl)
theorem dL_law_1196 : decode cL_law 1196 = .ok (.iload_n 3, 1) := dk_29 (dk_at dksL_law_44 5 rfl rfl)
theorem dL_law_1197 : decode cL_law 1197 = .ok (.iconst 2, 1) := dk_5 (dk_at dksL_law_44 6 rfl rfl)
theorem dL_law_1198 : decode cL_law 1198 = .ok (.iadd, 1) := dk_96 (dk_at dksL_law_44 7 rfl rfl)
theorem dL_law_1199 : decode cL_law 1199 = .ok (.iaload, 1) := dk_46 (dk_at dksL_law_44 8 rfl rfl)
theorem dL_law_1200 : decode cL_law 1200 = .ok (.invokevirtual 144, 3) := dk_182 0 144 (dk_at dksL_law_44 9 rfl rfl)
theorem dL_law_1203 : decode cL_law 1203 = .ok (.if_icmp .eq 357, 3) := dk_159 1 101 (dk_at dksL_law_44 12 rfl rfl)
theorem dL_law_1206 : decode cL_law 1206 = .ok (.iconst 0, 1) := dk_3 (dk_at dksL_law_44 15 rfl rfl)
theorem dL_law_1207 : decode cL_law 1207 = .ok (.ireturn, 1) := dk_172 (dk_at dksL_law_44 16 rfl rfl)
theorem dL_law_1208 : decode cL_law 1208 = .ok (.aload_n 1, 1) := dk_43 (dk_at dksL_law_44 17 rfl rfl)
theorem dL_law_1209 : decode cL_law 1209 = .ok (.aload_n 0, 1) := dk_42 (dk_at dksL_law_44 18 rfl rfl)
theorem dL_law_1210 : decode cL_law 1210 = .ok (.iload_n 3, 1) := dk_29 (dk_at dksL_law_44 19 rfl rfl)
theorem dL_law_1211 : decode cL_law 1211 = .ok (.iconst 1, 1) := dk_4 (dk_at dksL_law_44 20 rfl rfl)
theorem dL_law_1212 : decode cL_law 1212 = .ok (.iadd, 1) := dk_96 (dk_at dksL_law_44 21 rfl rfl)
theorem dL_law_1213 : decode cL_law 1213 = .ok (.iaload, 1) := dk_46 (dk_at dksL_law_44 22 rfl rfl)
theorem dL_law_1214 : decode cL_law 1214 = .ok (.invokevirtual 145, 3) := dk_182 0 145 (dk_at dksL_law_45 0 rfl rfl)
theorem dL_law_1217 : decode cL_law 1217 = .ok (.aload_n 2, 1) := dk_44 (dk_at dksL_law_45 3 rfl rfl)
theorem dL_law_1218 : decode cL_law 1218 = .ok (.aload_n 0, 1) := dk_42 (dk_at dksL_law_45 4 rfl rfl)
theorem dL_law_1219 : decode cL_law 1219 = .ok (.iload_n 3, 1) := dk_29 (dk_at dksL_law_45 5 rfl rfl)
theorem dL_law_1220 : decode cL_law 1220 = .ok (.iconst 1, 1) := dk_4 (dk_at dksL_law_45 6 rfl rfl)
theorem dL_law_1221 : decode cL_law 1221 = .ok (.iadd, 1) := dk_96 (dk_at dksL_law_45 7 rfl rfl)
theorem dL_law_1222 : decode cL_law 1222 = .ok (.iaload, 1) := dk_46 (dk_at dksL_law_45 8 rfl rfl)
theorem dL_law_1223 : decode cL_law 1223 = .ok (.invokevirtual 148, 3) := dk_182 0 148 (dk_at dksL_law_45 9 rfl rfl)
theorem dL_law_1226 : decode cL_law 1226 = .ok (.if_icmp .eq 334, 3) := dk_159 1 78 (dk_at dksL_law_45 12 rfl rfl)
theorem dL_law_1229 : decode cL_law 1229 = .ok (.iconst 0, 1) := dk_3 (dk_at dksL_law_45 15 rfl rfl)
theorem dL_law_1230 : decode cL_law 1230 = .ok (.ireturn, 1) := dk_172 (dk_at dksL_law_45 16 rfl rfl)
theorem dL_law_1231 : decode cL_law 1231 = .ok (.aload_n 1, 1) := dk_43 (dk_at dksL_law_45 17 rfl rfl)
theorem dL_law_1232 : decode cL_law 1232 = .ok (.aload_n 0, 1) := dk_42 (dk_at dksL_law_45 18 rfl rfl)
theorem dL_law_1233 : decode cL_law 1233 = .ok (.iload_n 3, 1) := dk_29 (dk_at dksL_law_45 19 rfl rfl)
theorem dL_law_1234 : decode cL_law 1234 = .ok (.iconst 1, 1) := dk_4 (dk_at dksL_law_45 20 rfl rfl)
theorem dL_law_1235 : decode cL_law 1235 = .ok (.iadd, 1) := dk_96 (dk_at dksL_law_45 21 rfl rfl)
theorem dL_law_1236 : decode cL_law 1236 = .ok (.iaload, 1) := dk_46 (dk_at dksL_law_45 22 rfl rfl)
theorem dL_law_1237 : decode cL_law 1237 = .ok (.aload_n 0, 1) := dk_42 (dk_at dksL_law_45 23 rfl rfl)
theorem dL_law_1238 : decode cL_law 1238 = .ok (.iload_n 3, 1) := dk_29 (dk_at dksL_law_46 0 rfl rfl)
theorem dL_law_1239 : decode cL_law 1239 = .ok (.iconst 2, 1) := dk_5 (dk_at dksL_law_46 1 rfl rfl)
theorem dL_law_1240 : decode cL_law 1240 = .ok (.iadd, 1) := dk_96 (dk_at dksL_law_46 2 rfl rfl)
theorem dL_law_1241 : decode cL_law 1241 = .ok (.iaload, 1) := dk_46 (dk_at dksL_law_46 3 rfl rfl)
theorem dL_law_1242 : decode cL_law 1242 = .ok (.invokevirtual 149, 3) := dk_182 0 149 (dk_at dksL_law_46 4 rfl rfl)
theorem dL_law_1245 : decode cL_law 1245 = .ok (.aload_n 2, 1) := dk_44 (dk_at dksL_law_46 7 rfl rfl)
theorem dL_law_1246 : decode cL_law 1246 = .ok (.aload_n 0, 1) := dk_42 (dk_at dksL_law_46 8 rfl rfl)
theorem dL_law_1247 : decode cL_law 1247 = .ok (.iload_n 3, 1) := dk_29 (dk_at dksL_law_46 9 rfl rfl)
theorem dL_law_1248 : decode cL_law 1248 = .ok (.iconst 1, 1) := dk_4 (dk_at dksL_law_46 10 rfl rfl)
theorem dL_law_1249 : decode cL_law 1249 = .ok (.iadd, 1) := dk_96 (dk_at dksL_law_46 11 rfl rfl)
theorem dL_law_1250 : decode cL_law 1250 = .ok (.iaload, 1) := dk_46 (dk_at dksL_law_46 12 rfl rfl)
theorem dL_law_1251 : decode cL_law 1251 = .ok (.aload_n 0, 1) := dk_42 (dk_at dksL_law_46 13 rfl rfl)
theorem dL_law_1252 : decode cL_law 1252 = .ok (.iload_n 3, 1) := dk_29 (dk_at dksL_law_46 14 rfl rfl)
theorem dL_law_1253 : decode cL_law 1253 = .ok (.iconst 2, 1) := dk_5 (dk_at dksL_law_46 15 rfl rfl)
theorem dL_law_1254 : decode cL_law 1254 = .ok (.iadd, 1) := dk_96 (dk_at dksL_law_46 16 rfl rfl)
theorem dL_law_1255 : decode cL_law 1255 = .ok (.iaload, 1) := dk_46 (dk_at dksL_law_46 17 rfl rfl)
theorem dL_law_1256 : decode cL_law 1256 = .ok (.invokevirtual 152, 3) := dk_182 0 152 (dk_at dksL_law_46 18 rfl rfl)
theorem dL_law_1259 : decode cL_law 1259 = .ok (.if_icmp .eq 301, 3) := dk_159 1 45 (dk_at dksL_law_46 21 rfl rfl)
theorem dL_law_1262 : decode cL_law 1262 = .ok (.iconst 0, 1) := dk_3 (dk_at dksL_law_47 0 rfl rfl)
theorem dL_law_1263 : decode cL_law 1263 = .ok (.ireturn, 1) := dk_172 (dk_at dksL_law_47 1 rfl rfl)
theorem dL_law_1264 : decode cL_law 1264 = .ok (.aload_n 1, 1) := dk_43 (dk_at dksL_law_47 2 rfl rfl)
theorem dL_law_1265 : decode cL_law 1265 = .ok (.aload_n 0, 1) := dk_42 (dk_at dksL_law_47 3 rfl rfl)
theorem dL_law_1266 : decode cL_law 1266 = .ok (.iload_n 3, 1) := dk_29 (dk_at dksL_law_47 4 rfl rfl)
theorem dL_law_1267 : decode cL_law 1267 = .ok (.iconst 1, 1) := dk_4 (dk_at dksL_law_47 5 rfl rfl)
theorem dL_law_1268 : decode cL_law 1268 = .ok (.iadd, 1) := dk_96 (dk_at dksL_law_47 6 rfl rfl)
theorem dL_law_1269 : decode cL_law 1269 = .ok (.iaload, 1) := dk_46 (dk_at dksL_law_47 7 rfl rfl)
theorem dL_law_1270 : decode cL_law 1270 = .ok (.aload_n 0, 1) := dk_42 (dk_at dksL_law_47 8 rfl rfl)
theorem dL_law_1271 : decode cL_law 1271 = .ok (.iload_n 3, 1) := dk_29 (dk_at dksL_law_47 9 rfl rfl)
theorem dL_law_1272 : decode cL_law 1272 = .ok (.iconst 2, 1) := dk_5 (dk_at dksL_law_47 10 rfl rfl)
theorem dL_law_1273 : decode cL_law 1273 = .ok (.iadd, 1) := dk_96 (dk_at dksL_law_47 11 rfl rfl)
theorem dL_law_1274 : decode cL_law 1274 = .ok (.iaload, 1) := dk_46 (dk_at dksL_law_47 12 rfl rfl)
theorem dL_law_1275 : decode cL_law 1275 = .ok (.invokevirtual 153, 3) := dk_182 0 153 (dk_at dksL_law_47 13 rfl rfl)
theorem dL_law_1278 : decode cL_law 1278 = .ok (.aload_n 2, 1) := dk_44 (dk_at dksL_law_47 16 rfl rfl)
theorem dL_law_1279 : decode cL_law 1279 = .ok (.aload_n 0, 1) := dk_42 (dk_at dksL_law_47 17 rfl rfl)
theorem dL_law_1280 : decode cL_law 1280 = .ok (.iload_n 3, 1) := dk_29 (dk_at dksL_law_47 18 rfl rfl)
theorem dL_law_1281 : decode cL_law 1281 = .ok (.iconst 1, 1) := dk_4 (dk_at dksL_law_47 19 rfl rfl)
theorem dL_law_1282 : decode cL_law 1282 = .ok (.iadd, 1) := dk_96 (dk_at dksL_law_47 20 rfl rfl)
theorem dL_law_1283 : decode cL_law 1283 = .ok (.iaload, 1) := dk_46 (dk_at dksL_law_47 21 rfl rfl)
theorem dL_law_1284 : decode cL_law 1284 = .ok (.aload_n 0, 1) := dk_42 (dk_at dksL_law_47 22 rfl rfl)
theorem dL_law_1285 : decode cL_law 1285 = .ok (.iload_n 3, 1) := dk_29 (dk_at dksL_law_47 23 rfl rfl)
theorem dL_law_1286 : decode cL_law 1286 = .ok (.iconst 2, 1) := dk_5 (dk_at dksL_law_48 0 rfl rfl)
theorem dL_law_1287 : decode cL_law 1287 = .ok (.iadd, 1) := dk_96 (dk_at dksL_law_48 1 rfl rfl)
theorem dL_law_1288 : decode cL_law 1288 = .ok (.iaload, 1) := dk_46 (dk_at dksL_law_48 2 rfl rfl)
theorem dL_law_1289 : decode cL_law 1289 = .ok (.invokevirtual 156, 3) := dk_182 0 156 (dk_at dksL_law_48 3 rfl rfl)
theorem dL_law_1292 : decode cL_law 1292 = .ok (.if_icmp .eq 268, 3) := dk_159 1 12 (dk_at dksL_law_48 6 rfl rfl)
theorem dL_law_1295 : decode cL_law 1295 = .ok (.iconst 0, 1) := dk_3 (dk_at dksL_law_48 9 rfl rfl)
theorem dL_law_1296 : decode cL_law 1296 = .ok (.ireturn, 1) := dk_172 (dk_at dksL_law_48 10 rfl rfl)
theorem dL_law_1297 : decode cL_law 1297 = .ok (.aload_n 1, 1) := dk_43 (dk_at dksL_law_48 11 rfl rfl)
theorem dL_law_1298 : decode cL_law 1298 = .ok (.aload_n 0, 1) := dk_42 (dk_at dksL_law_48 12 rfl rfl)
theorem dL_law_1299 : decode cL_law 1299 = .ok (.iload_n 3, 1) := dk_29 (dk_at dksL_law_48 13 rfl rfl)
theorem dL_law_1300 : decode cL_law 1300 = .ok (.iconst 1, 1) := dk_4 (dk_at dksL_law_48 14 rfl rfl)
theorem dL_law_1301 : decode cL_law 1301 = .ok (.iadd, 1) := dk_96 (dk_at dksL_law_48 15 rfl rfl)
theorem dL_law_1302 : decode cL_law 1302 = .ok (.iaload, 1) := dk_46 (dk_at dksL_law_48 16 rfl rfl)
theorem dL_law_1303 : decode cL_law 1303 = .ok (.aload_n 0, 1) := dk_42 (dk_at dksL_law_48 17 rfl rfl)
theorem dL_law_1304 : decode cL_law 1304 = .ok (.iload_n 3, 1) := dk_29 (dk_at dksL_law_48 18 rfl rfl)
theorem dL_law_1305 : decode cL_law 1305 = .ok (.iconst 2, 1) := dk_5 (dk_at dksL_law_48 19 rfl rfl)
theorem dL_law_1306 : decode cL_law 1306 = .ok (.iadd, 1) := dk_96 (dk_at dksL_law_48 20 rfl rfl)
theorem dL_law_1307 : decode cL_law 1307 = .ok (.iaload, 1) := dk_46 (dk_at dksL_law_48 21 rfl rfl)
theorem dL_law_1308 : decode cL_law 1308 = .ok (.aload_n 0, 1) := dk_42 (dk_at dksL_law_48 22 rfl rfl)
theorem dL_law_1309 : decode cL_law 1309 = .ok (.iload_n 3, 1) := dk_29 (dk_at dksL_law_48 23 rfl rfl)
theorem dL_law_1310 : decode cL_law 1310 = .ok (.iconst 3, 1) := dk_6 (dk_at dksL_law_49 0 rfl rfl)
theorem dL_law_1311 : decode cL_law 1311 = .ok (.iadd, 1) := dk_96 (dk_at dksL_law_49 1 rfl rfl)
theorem dL_law_1312 : decode cL_law 1312 = .ok (.iaload, 1) := dk_46 (dk_at dksL_law_49 2 rfl rfl)
theorem dL_law_1313 : decode cL_law 1313 = .ok (.aload_n 0, 1) := dk_42 (dk_at dksL_law_49 3 rfl rfl)
theorem dL_law_1314 : decode cL_law 1314 = .ok (.iload_n 3, 1) := dk_29 (dk_at dksL_law_49 4 rfl rfl)
theorem dL_law_1315 : decode cL_law 1315 = .ok (.iconst 4, 1) := dk_7 (dk_at dksL_law_49 5 rfl rfl)
theorem dL_law_1316 : decode cL_law 1316 = .ok (.iadd, 1) := dk_96 (dk_at dksL_law_49 6 rfl rfl)
theorem dL_law_1317 : decode cL_law 1317 = .ok (.iaload, 1) := dk_46 (dk_at dksL_law_49 7 rfl rfl)
theorem dL_law_1318 : decode cL_law 1318 = .ok (.invokevirtual 157, 3) := dk_182 0 157 (dk_at dksL_law_49 8 rfl rfl)
theorem dL_law_1321 : decode cL_law 1321 = .ok (.aload_n 2, 1) := dk_44 (dk_at dksL_law_49 11 rfl rfl)
theorem dL_law_1322 : decode cL_law 1322 = .ok (.aload_n 0, 1) := dk_42 (dk_at dksL_law_49 12 rfl rfl)
theorem dL_law_1323 : decode cL_law 1323 = .ok (.iload_n 3, 1) := dk_29 (dk_at dksL_law_49 13 rfl rfl)
theorem dL_law_1324 : decode cL_law 1324 = .ok (.iconst 1, 1) := dk_4 (dk_at dksL_law_49 14 rfl rfl)
theorem dL_law_1325 : decode cL_law 1325 = .ok (.iadd, 1) := dk_96 (dk_at dksL_law_49 15 rfl rfl)
theorem dL_law_1326 : decode cL_law 1326 = .ok (.iaload, 1) := dk_46 (dk_at dksL_law_49 16 rfl rfl)
theorem dL_law_1327 : decode cL_law 1327 = .ok (.aload_n 0, 1) := dk_42 (dk_at dksL_law_49 17 rfl rfl)
theorem dL_law_1328 : decode cL_law 1328 = .ok (.iload_n 3, 1) := dk_29 (dk_at dksL_law_49 18 rfl rfl)
theorem dL_law_1329 : decode cL_law 1329 = .ok (.iconst 2, 1) := dk_5 (dk_at dksL_law_49 19 rfl rfl)
theorem dL_law_1330 : decode cL_law 1330 = .ok (.iadd, 1) := dk_96 (dk_at dksL_law_49 20 rfl rfl)
theorem dL_law_1331 : decode cL_law 1331 = .ok (.iaload, 1) := dk_46 (dk_at dksL_law_49 21 rfl rfl)
theorem dL_law_1332 : decode cL_law 1332 = .ok (.aload_n 0, 1) := dk_42 (dk_at dksL_law_49 22 rfl rfl)
theorem dL_law_1333 : decode cL_law 1333 = .ok (.iload_n 3, 1) := dk_29 (dk_at dksL_law_49 23 rfl rfl)
theorem dL_law_1334 : decode cL_law 1334 = .ok (.iconst 3, 1) := dk_6 (dk_at dksL_law_50 0 rfl rfl)
theorem dL_law_1335 : decode cL_law 1335 = .ok (.iadd, 1) := dk_96 (dk_at dksL_law_50 1 rfl rfl)
theorem dL_law_1336 : decode cL_law 1336 = .ok (.iaload, 1) := dk_46 (dk_at dksL_law_50 2 rfl rfl)
theorem dL_law_1337 : decode cL_law 1337 = .ok (.aload_n 0, 1) := dk_42 (dk_at dksL_law_50 3 rfl rfl)
theorem dL_law_1338 : decode cL_law 1338 = .ok (.iload_n 3, 1) := dk_29 (dk_at dksL_law_50 4 rfl rfl)
theorem dL_law_1339 : decode cL_law 1339 = .ok (.iconst 4, 1) := dk_7 (dk_at dksL_law_50 5 rfl rfl)
theorem dL_law_1340 : decode cL_law 1340 = .ok (.iadd, 1) := dk_96 (dk_at dksL_law_50 6 rfl rfl)
theorem dL_law_1341 : decode cL_law 1341 = .ok (.iaload, 1) := dk_46 (dk_at dksL_law_50 7 rfl rfl)
theorem dL_law_1342 : decode cL_law 1342 = .ok (.invokevirtual 161, 3) := dk_182 0 161 (dk_at dksL_law_50 8 rfl rfl)
theorem dL_law_1345 : decode cL_law 1345 = .ok (.if_icmp .eq 215, 3) := dk_159 0 215 (dk_at dksL_law_50 11 rfl rfl)
theorem dL_law_1348 : decode cL_law 1348 = .ok (.iconst 0, 1) := dk_3 (dk_at dksL_law_50 14 rfl rfl)
theorem dL_law_1349 : decode cL_law 1349 = .ok (.ireturn, 1) := dk_172 (dk_at dksL_law_50 15 rfl rfl)
theorem dL_law_1350 : decode cL_law 1350 = .ok (.aload_n 1, 1) := dk_43 (dk_at dksL_law_50 16 rfl rfl)
theorem dL_law_1351 : decode cL_law 1351 = .ok (.aload_n 0, 1) := dk_42 (dk_at dksL_law_50 17 rfl rfl)
theorem dL_law_1352 : decode cL_law 1352 = .ok (.iload_n 3, 1) := dk_29 (dk_at dksL_law_50 18 rfl rfl)
theorem dL_law_1353 : decode cL_law 1353 = .ok (.iconst 1, 1) := dk_4 (dk_at dksL_law_50 19 rfl rfl)
theorem dL_law_1354 : decode cL_law 1354 = .ok (.iadd, 1) := dk_96 (dk_at dksL_law_50 20 rfl rfl)
theorem dL_law_1355 : decode cL_law 1355 = .ok (.iaload, 1) := dk_46 (dk_at dksL_law_50 21 rfl rfl)
theorem dL_law_1356 : decode cL_law 1356 = .ok (.invokevirtual 162, 3) := dk_182 0 162 (dk_at dksL_law_51 0 rfl rfl)
theorem dL_law_1359 : decode cL_law 1359 = .ok (.aload_n 2, 1) := dk_44 (dk_at dksL_law_51 3 rfl rfl)
theorem dL_law_1360 : decode cL_law 1360 = .ok (.aload_n 0, 1) := dk_42 (dk_at dksL_law_51 4 rfl rfl)
theorem dL_law_1361 : decode cL_law 1361 = .ok (.iload_n 3, 1) := dk_29 (dk_at dksL_law_51 5 rfl rfl)
theorem dL_law_1362 : decode cL_law 1362 = .ok (.iconst 1, 1) := dk_4 (dk_at dksL_law_51 6 rfl rfl)
theorem dL_law_1363 : decode cL_law 1363 = .ok (.iadd, 1) := dk_96 (dk_at dksL_law_51 7 rfl rfl)
theorem dL_law_1364 : decode cL_law 1364 = .ok (.iaload, 1) := dk_46 (dk_at dksL_law_51 8 rfl rfl)
theorem dL_law_1365 : decode cL_law 1365 = .ok (.invokevirtual 165, 3) := dk_182 0 165 (dk_at dksL_law_51 9 rfl rfl)
theorem dL_law_1368 : decode cL_law 1368 = .ok (.if_icmp .eq 192, 3) := dk_159 0 192 (dk_at dksL_law_51 12 rfl rfl)
theorem dL_law_1371 : decode cL_law 1371 = .ok (.iconst 0, 1) := dk_3 (dk_at dksL_law_51 15 rfl rfl)
theorem dL_law_1372 : decode cL_law 1372 = .ok (.ireturn, 1) := dk_172 (dk_at dksL_law_51 16 rfl rfl)
theorem dL_law_1373 : decode cL_law 1373 = .ok (.aload_n 1, 1) := dk_43 (dk_at dksL_law_51 17 rfl rfl)
theorem dL_law_1374 : decode cL_law 1374 = .ok (.aload_n 0, 1) := dk_42 (dk_at dksL_law_51 18 rfl rfl)
theorem dL_law_1375 : decode cL_law 1375 = .ok (.iload_n 3, 1) := dk_29 (dk_at dksL_law_51 19 rfl rfl)
theorem dL_law_1376 : decode cL_law 1376 = .ok (.iconst 1, 1) := dk_4 (dk_at dksL_law_51 20 rfl rfl)
theorem dL_law_1377 : decode cL_law 1377 = .ok (.iadd, 1) := dk_96 (dk_at dksL_law_51 21 rfl rfl)
theorem dL_law_1378 : decode cL_law 1378 = .ok (.iaload, 1) := dk_46 (dk_at dksL_law_51 22 rfl rfl)
theorem dL_law_1379 : decode cL_law 1379 = .ok (.invokevirtual 166, 3) := dk_182 0 166 (dk_at dksL_law_52 0 rfl rfl)
theorem dL_law_1382 : decode cL_law 1382 = .ok (.aload_n 2, 1) := dk_44 (dk_at dksL_law_52 3 rfl rfl)
theorem dL_law_1383 : decode cL_law 1383 = .ok (.aload_n 0, 1) := dk_42 (dk_at dksL_law_52 4 rfl rfl)
theorem dL_law_1384 : decode cL_law 1384 = .ok (.iload_n 3, 1) := dk_29 (dk_at dksL_law_52 5 rfl rfl)
theorem dL_law_1385 : decode cL_law 1385 = .ok (.iconst 1, 1) := dk_4 (dk_at dksL_law_52 6 rfl rfl)
theorem dL_law_1386 : decode cL_law 1386 = .ok (.iadd, 1) := dk_96 (dk_at dksL_law_52 7 rfl rfl)
theorem dL_law_1387 : decode cL_law 1387 = .ok (.iaload, 1) := dk_46 (dk_at dksL_law_52 8 rfl rfl)
theorem dL_law_1388 : decode cL_law 1388 = .ok (.invokevirtual 169, 3) := dk_182 0 169 (dk_at dksL_law_52 9 rfl rfl)
theorem dL_law_1391 : decode cL_law 1391 = .ok (.if_icmp .eq 169, 3) := dk_159 0 169 (dk_at dksL_law_52 12 rfl rfl)
theorem dL_law_1394 : decode cL_law 1394 = .ok (.iconst 0, 1) := dk_3 (dk_at dksL_law_52 15 rfl rfl)
theorem dL_law_1395 : decode cL_law 1395 = .ok (.ireturn, 1) := dk_172 (dk_at dksL_law_52 16 rfl rfl)
theorem dL_law_1396 : decode cL_law 1396 = .ok (.aload_n 1, 1) := dk_43 (dk_at dksL_law_52 17 rfl rfl)
theorem dL_law_1397 : decode cL_law 1397 = .ok (.aload_n 0, 1) := dk_42 (dk_at dksL_law_52 18 rfl rfl)
theorem dL_law_1398 : decode cL_law 1398 = .ok (.iload_n 3, 1) := dk_29 (dk_at dksL_law_52 19 rfl rfl)
theorem dL_law_1399 : decode cL_law 1399 = .ok (.iconst 1, 1) := dk_4 (dk_at dksL_law_52 20 rfl rfl)
theorem dL_law_1400 : decode cL_law 1400 = .ok (.iadd, 1) := dk_96 (dk_at dksL_law_52 21 rfl rfl)
theorem dL_law_1401 : decode cL_law 1401 = .ok (.iaload, 1) := dk_46 (dk_at dksL_law_52 22 rfl rfl)
theorem dL_law_1402 : decode cL_law 1402 = .ok (.aload_n 0, 1) := dk_42 (dk_at dksL_law_52 23 rfl rfl)
theorem dL_law_1403 : decode cL_law 1403 = .ok (.iload_n 3, 1) := dk_29 (dk_at dksL_law_53 0 rfl rfl)
theorem dL_law_1404 : decode cL_law 1404 = .ok (.iconst 2, 1) := dk_5 (dk_at dksL_law_53 1 rfl rfl)
theorem dL_law_1405 : decode cL_law 1405 = .ok (.iadd, 1) := dk_96 (dk_at dksL_law_53 2 rfl rfl)
theorem dL_law_1406 : decode cL_law 1406 = .ok (.iaload, 1) := dk_46 (dk_at dksL_law_53 3 rfl rfl)
theorem dL_law_1407 : decode cL_law 1407 = .ok (.aload_n 0, 1) := dk_42 (dk_at dksL_law_53 4 rfl rfl)
theorem dL_law_1408 : decode cL_law 1408 = .ok (.iload_n 3, 1) := dk_29 (dk_at dksL_law_53 5 rfl rfl)
theorem dL_law_1409 : decode cL_law 1409 = .ok (.iconst 3, 1) := dk_6 (dk_at dksL_law_53 6 rfl rfl)
theorem dL_law_1410 : decode cL_law 1410 = .ok (.iadd, 1) := dk_96 (dk_at dksL_law_53 7 rfl rfl)
theorem dL_law_1411 : decode cL_law 1411 = .ok (.iaload, 1) := dk_46 (dk_at dksL_law_53 8 rfl rfl)
theorem dL_law_1412 : decode cL_law 1412 = .ok (.invokevirtual 170, 3) := dk_182 0 170 (dk_at dksL_law_53 9 rfl rfl)
theorem dL_law_1415 : decode cL_law 1415 = .ok (.aload_n 2, 1) := dk_44 (dk_at dksL_law_53 12 rfl rfl)
theorem dL_law_1416 : decode cL_law 1416 = .ok (.aload_n 0, 1) := dk_42 (dk_at dksL_law_53 13 rfl rfl)
theorem dL_law_1417 : decode cL_law 1417 = .ok (.iload_n 3, 1) := dk_29 (dk_at dksL_law_53 14 rfl rfl)
theorem dL_law_1418 : decode cL_law 1418 = .ok (.iconst 1, 1) := dk_4 (dk_at dksL_law_53 15 rfl rfl)
theorem dL_law_1419 : decode cL_law 1419 = .ok (.iadd, 1) := dk_96 (dk_at dksL_law_53 16 rfl rfl)
theorem dL_law_1420 : decode cL_law 1420 = .ok (.iaload, 1) := dk_46 (dk_at dksL_law_53 17 rfl rfl)
theorem dL_law_1421 : decode cL_law 1421 = .ok (.aload_n 0, 1) := dk_42 (dk_at dksL_law_53 18 rfl rfl)
theorem dL_law_1422 : decode cL_law 1422 = .ok (.iload_n 3, 1) := dk_29 (dk_at dksL_law_53 19 rfl rfl)
theorem dL_law_1423 : decode cL_law 1423 = .ok (.iconst 2, 1) := dk_5 (dk_at dksL_law_53 20 rfl rfl)
theorem dL_law_1424 : decode cL_law 1424 = .ok (.iadd, 1) := dk_96 (dk_at dksL_law_53 21 rfl rfl)
theorem dL_law_1425 : decode cL_law 1425 = .ok (.iaload, 1) := dk_46 (dk_at dksL_law_53 22 rfl rfl)
theorem dL_law_1426 : decode cL_law 1426 = .ok (.aload_n 0, 1) := dk_42 (dk_at dksL_law_53 23 rfl rfl)
theorem dL_law_1427 : decode cL_law 1427 = .ok (.iload_n 3, 1) := dk_29 (dk_at dksL_law_54 0 rfl rfl)
theorem dL_law_1428 : decode cL_law 1428 = .ok (.iconst 3, 1) := dk_6 (dk_at dksL_law_54 1 rfl rfl)
theorem dL_law_1429 : decode cL_law 1429 = .ok (.iadd, 1) := dk_96 (dk_at dksL_law_54 2 rfl rfl)
theorem dL_law_1430 : decode cL_law 1430 = .ok (.iaload, 1) := dk_46 (dk_at dksL_law_54 3 rfl rfl)
theorem dL_law_1431 : decode cL_law 1431 = .ok (.invokevirtual 173, 3) := dk_182 0 173 (dk_at dksL_law_54 4 rfl rfl)
theorem dL_law_1434 : decode cL_law 1434 = .ok (.if_icmp .eq 126, 3) := dk_159 0 126 (dk_at dksL_law_54 7 rfl rfl)
theorem dL_law_1437 : decode cL_law 1437 = .ok (.iconst 0, 1) := dk_3 (dk_at dksL_law_54 10 rfl rfl)
theorem dL_law_1438 : decode cL_law 1438 = .ok (.ireturn, 1) := dk_172 (dk_at dksL_law_54 11 rfl rfl)
theorem dL_law_1439 : decode cL_law 1439 = .ok (.aload_n 1, 1) := dk_43 (dk_at dksL_law_54 12 rfl rfl)
theorem dL_law_1440 : decode cL_law 1440 = .ok (.invokevirtual 174, 3) := dk_182 0 174 (dk_at dksL_law_54 13 rfl rfl)
theorem dL_law_1443 : decode cL_law 1443 = .ok (.aload_n 2, 1) := dk_44 (dk_at dksL_law_54 16 rfl rfl)
theorem dL_law_1444 : decode cL_law 1444 = .ok (.invokevirtual 177, 3) := dk_182 0 177 (dk_at dksL_law_54 17 rfl rfl)
theorem dL_law_1447 : decode cL_law 1447 = .ok (.if_icmp .eq 113, 3) := dk_159 0 113 (dk_at dksL_law_54 20 rfl rfl)
theorem dL_law_1450 : decode cL_law 1450 = .ok (.iconst 0, 1) := dk_3 (dk_at dksL_law_54 23 rfl rfl)
theorem dL_law_1451 : decode cL_law 1451 = .ok (.ireturn, 1) := dk_172 (dk_at dksL_law_55 0 rfl rfl)
theorem dL_law_1452 : decode cL_law 1452 = .ok (.aload_n 1, 1) := dk_43 (dk_at dksL_law_55 1 rfl rfl)
theorem dL_law_1453 : decode cL_law 1453 = .ok (.aload_n 0, 1) := dk_42 (dk_at dksL_law_55 2 rfl rfl)
theorem dL_law_1454 : decode cL_law 1454 = .ok (.iload_n 3, 1) := dk_29 (dk_at dksL_law_55 3 rfl rfl)
theorem dL_law_1455 : decode cL_law 1455 = .ok (.iconst 1, 1) := dk_4 (dk_at dksL_law_55 4 rfl rfl)
theorem dL_law_1456 : decode cL_law 1456 = .ok (.iadd, 1) := dk_96 (dk_at dksL_law_55 5 rfl rfl)
theorem dL_law_1457 : decode cL_law 1457 = .ok (.iaload, 1) := dk_46 (dk_at dksL_law_55 6 rfl rfl)
theorem dL_law_1458 : decode cL_law 1458 = .ok (.invokevirtual 178, 3) := dk_182 0 178 (dk_at dksL_law_55 7 rfl rfl)
theorem dL_law_1461 : decode cL_law 1461 = .ok (.aload_n 2, 1) := dk_44 (dk_at dksL_law_55 10 rfl rfl)
theorem dL_law_1462 : decode cL_law 1462 = .ok (.aload_n 0, 1) := dk_42 (dk_at dksL_law_55 11 rfl rfl)
theorem dL_law_1463 : decode cL_law 1463 = .ok (.iload_n 3, 1) := dk_29 (dk_at dksL_law_55 12 rfl rfl)
theorem dL_law_1464 : decode cL_law 1464 = .ok (.iconst 1, 1) := dk_4 (dk_at dksL_law_55 13 rfl rfl)
theorem dL_law_1465 : decode cL_law 1465 = .ok (.iadd, 1) := dk_96 (dk_at dksL_law_55 14 rfl rfl)
theorem dL_law_1466 : decode cL_law 1466 = .ok (.iaload, 1) := dk_46 (dk_at dksL_law_55 15 rfl rfl)
theorem dL_law_1467 : decode cL_law 1467 = .ok (.invokevirtual 181, 3) := dk_182 0 181 (dk_at dksL_law_55 16 rfl rfl)
theorem dL_law_1470 : decode cL_law 1470 = .ok (.if_icmp .eq 90, 3) := dk_159 0 90 (dk_at dksL_law_55 19 rfl rfl)
theorem dL_law_1473 : decode cL_law 1473 = .ok (.iconst 0, 1) := dk_3 (dk_at dksL_law_55 22 rfl rfl)
theorem dL_law_1474 : decode cL_law 1474 = .ok (.ireturn, 1) := dk_172 (dk_at dksL_law_55 23 rfl rfl)
theorem dL_law_1475 : decode cL_law 1475 = .ok (.aload_n 1, 1) := dk_43 (dk_at dksL_law_56 0 rfl rfl)
theorem dL_law_1476 : decode cL_law 1476 = .ok (.invokevirtual 182, 3) := dk_182 0 182 (dk_at dksL_law_56 1 rfl rfl)
theorem dL_law_1479 : decode cL_law 1479 = .ok (.aload_n 2, 1) := dk_44 (dk_at dksL_law_56 4 rfl rfl)
theorem dL_law_1480 : decode cL_law 1480 = .ok (.invokevirtual 185, 3) := dk_182 0 185 (dk_at dksL_law_56 5 rfl rfl)
theorem dL_law_1483 : decode cL_law 1483 = .ok (.if_icmp .eq 77, 3) := dk_159 0 77 (dk_at dksL_law_56 8 rfl rfl)
theorem dL_law_1486 : decode cL_law 1486 = .ok (.iconst 0, 1) := dk_3 (dk_at dksL_law_56 11 rfl rfl)
theorem dL_law_1487 : decode cL_law 1487 = .ok (.ireturn, 1) := dk_172 (dk_at dksL_law_56 12 rfl rfl)
theorem dL_law_1488 : decode cL_law 1488 = .ok (.aload_n 1, 1) := dk_43 (dk_at dksL_law_56 13 rfl rfl)
theorem dL_law_1489 : decode cL_law 1489 = .ok (.aload_n 0, 1) := dk_42 (dk_at dksL_law_56 14 rfl rfl)
theorem dL_law_1490 : decode cL_law 1490 = .ok (.iload_n 3, 1) := dk_29 (dk_at dksL_law_56 15 rfl rfl)
theorem dL_law_1491 : decode cL_law 1491 = .ok (.iconst 1, 1) := dk_4 (dk_at dksL_law_56 16 rfl rfl)
theorem dL_law_1492 : decode cL_law 1492 = .ok (.iadd, 1) := dk_96 (dk_at dksL_law_56 17 rfl rfl)
theorem dL_law_1493 : decode cL_law 1493 = .ok (.iaload, 1) := dk_46 (dk_at dksL_law_56 18 rfl rfl)
theorem dL_law_1494 : decode cL_law 1494 = .ok (.invokevirtual 186, 3) := dk_182 0 186 (dk_at dksL_law_56 19 rfl rfl)
theorem dL_law_1497 : decode cL_law 1497 = .ok (.aload_n 2, 1) := dk_44 (dk_at dksL_law_56 22 rfl rfl)
theorem dL_law_1498 : decode cL_law 1498 = .ok (.aload_n 0, 1) := dk_42 (dk_at dksL_law_56 23 rfl rfl)
theorem dL_law_1499 : decode cL_law 1499 = .ok (.iload_n 3, 1) := dk_29 (dk_at dksL_law_57 0 rfl rfl)
theorem dL_law_1500 : decode cL_law 1500 = .ok (.iconst 1, 1) := dk_4 (dk_at dksL_law_57 1 rfl rfl)
theorem dL_law_1501 : decode cL_law 1501 = .ok (.iadd, 1) := dk_96 (dk_at dksL_law_57 2 rfl rfl)
theorem dL_law_1502 : decode cL_law 1502 = .ok (.iaload, 1) := dk_46 (dk_at dksL_law_57 3 rfl rfl)
theorem dL_law_1503 : decode cL_law 1503 = .ok (.invokevirtual 189, 3) := dk_182 0 189 (dk_at dksL_law_57 4 rfl rfl)
theorem dL_law_1506 : decode cL_law 1506 = .ok (.if_icmp .eq 54, 3) := dk_159 0 54 (dk_at dksL_law_57 7 rfl rfl)
theorem dL_law_1509 : decode cL_law 1509 = .ok (.iconst 0, 1) := dk_3 (dk_at dksL_law_57 10 rfl rfl)
theorem dL_law_1510 : decode cL_law 1510 = .ok (.ireturn, 1) := dk_172 (dk_at dksL_law_57 11 rfl rfl)
theorem dL_law_1511 : decode cL_law 1511 = .ok (.aload_n 1, 1) := dk_43 (dk_at dksL_law_57 12 rfl rfl)
theorem dL_law_1512 : decode cL_law 1512 = .ok (.invokevirtual 190, 3) := dk_182 0 190 (dk_at dksL_law_57 13 rfl rfl)
theorem dL_law_1515 : decode cL_law 1515 = .ok (.aload_n 2, 1) := dk_44 (dk_at dksL_law_57 16 rfl rfl)
theorem dL_law_1516 : decode cL_law 1516 = .ok (.invokevirtual 193, 3) := dk_182 0 193 (dk_at dksL_law_57 17 rfl rfl)
theorem dL_law_1519 : decode cL_law 1519 = .ok (.if_icmp .eq 41, 3) := dk_159 0 41 (dk_at dksL_law_57 20 rfl rfl)
theorem dL_law_1522 : decode cL_law 1522 = .ok (.iconst 0, 1) := dk_3 (dk_at dksL_law_57 23 rfl rfl)
theorem dL_law_1523 : decode cL_law 1523 = .ok (.ireturn, 1) := dk_172 (dk_at dksL_law_58 0 rfl rfl)
theorem dL_law_1524 : decode cL_law 1524 = .ok (.aload_n 1, 1) := dk_43 (dk_at dksL_law_58 1 rfl rfl)
theorem dL_law_1525 : decode cL_law 1525 = .ok (.invokevirtual 194, 3) := dk_182 0 194 (dk_at dksL_law_58 2 rfl rfl)
theorem dL_law_1528 : decode cL_law 1528 = .ok (.aload_n 2, 1) := dk_44 (dk_at dksL_law_58 5 rfl rfl)
theorem dL_law_1529 : decode cL_law 1529 = .ok (.invokevirtual 197, 3) := dk_182 0 197 (dk_at dksL_law_58 6 rfl rfl)
theorem dL_law_1532 : decode cL_law 1532 = .ok (.if_icmp .eq 28, 3) := dk_159 0 28 (dk_at dksL_law_58 9 rfl rfl)
theorem dL_law_1535 : decode cL_law 1535 = .ok (.iconst 0, 1) := dk_3 (dk_at dksL_law_58 12 rfl rfl)
theorem dL_law_1536 : decode cL_law 1536 = .ok (.ireturn, 1) := dk_172 (dk_at dksL_law_58 13 rfl rfl)
theorem dL_law_1537 : decode cL_law 1537 = .ok (.aload_n 1, 1) := dk_43 (dk_at dksL_law_58 14 rfl rfl)
theorem dL_law_1538 : decode cL_law 1538 = .ok (.aload_n 0, 1) := dk_42 (dk_at dksL_law_58 15 rfl rfl)
theorem dL_law_1539 : decode cL_law 1539 = .ok (.iload_n 3, 1) := dk_29 (dk_at dksL_law_58 16 rfl rfl)
theorem dL_law_1540 : decode cL_law 1540 = .ok (.iconst 1, 1) := dk_4 (dk_at dksL_law_58 17 rfl rfl)
theorem dL_law_1541 : decode cL_law 1541 = .ok (.iadd, 1) := dk_96 (dk_at dksL_law_58 18 rfl rfl)
theorem dL_law_1542 : decode cL_law 1542 = .ok (.iaload, 1) := dk_46 (dk_at dksL_law_58 19 rfl rfl)
theorem dL_law_1543 : decode cL_law 1543 = .ok (.invokevirtual 198, 3) := dk_182 0 198 (dk_at dksL_law_58 20 rfl rfl)
theorem dL_law_1546 : decode cL_law 1546 = .ok (.aload_n 2, 1) := dk_44 (dk_at dksL_law_58 23 rfl rfl)
theorem dL_law_1547 : decode cL_law 1547 = .ok (.aload_n 0, 1) := dk_42 (dk_at dksL_law_59 0 rfl rfl)
theorem dL_law_1548 : decode cL_law 1548 = .ok (.iload_n 3, 1) := dk_29 (dk_at dksL_law_59 1 rfl rfl)
theorem dL_law_1549 : decode cL_law 1549 = .ok (.iconst 1, 1) := dk_4 (dk_at dksL_law_59 2 rfl rfl)
theorem dL_law_1550 : decode cL_law 1550 = .ok (.iadd, 1) := dk_96 (dk_at dksL_law_59 3 rfl rfl)
theorem dL_law_1551 : decode cL_law 1551 = .ok (.iaload, 1) := dk_46 (dk_at dksL_law_59 4 rfl rfl)
theorem dL_law_1552 : decode cL_law 1552 = .ok (.invokevirtual 201, 3) := dk_182 0 201 (dk_at dksL_law_59 5 rfl rfl)
theorem dL_law_1555 : decode cL_law 1555 = .ok (.if_icmp .eq 5, 3) := dk_159 0 5 (dk_at dksL_law_59 8 rfl rfl)
theorem dL_law_1558 : decode cL_law 1558 = .ok (.iconst 0, 1) := dk_3 (dk_at dksL_law_59 11 rfl rfl)
theorem dL_law_1559 : decode cL_law 1559 = .ok (.ireturn, 1) := dk_172 (dk_at dksL_law_59 12 rfl rfl)
theorem dL_law_1560 : decode cL_law 1560 = .ok (.iinc 3 6, 3) := dk_132 3 6 (dk_at dksL_law_59 13 rfl rfl)
theorem dL_law_1563 : decode cL_law 1563 = .ok (.goto (-1545), 3) := dk_167 249 247 (dk_at dksL_law_59 16 rfl rfl)
theorem dL_law_1566 : decode cL_law 1566 = .ok (.iconst 1, 1) := dk_4 (dk_at dksL_law_59 19 rfl rfl)
theorem dL_law_1567 : decode cL_law 1567 = .ok (.ireturn, 1) := dk_172 (dk_at dksL_law_59 20 rfl rfl)
theorem q73 : (Jvm.Cond.initialized "StairOnSticksLaw") ∈ lw_all := lw_g (lw_at lw_m1 0 rfl) rfl
set_option maxRecDepth 100000
theorem q110 : (Jvm.Cond.classLink "StairOnSticksLaw" (7 : Nat) "StairOnSticks") ∈ lw_all := lw_g (lw_at lw_m1 37 rfl) rfl
theorem q112 : (Jvm.Cond.methodLink "StairOnSticksLaw" (9 : Nat) ({ cls := "StairOnSticks", name := "<init>", desc := "()V" } : Jvm.MethodName)) ∈ lw_all := lw_g (lw_at lw_m1 39 rfl) rfl
theorem q248 : (Jvm.Cond.methodLink "StairOnSticksLaw" (13 : Nat) ({ cls := "StairOnSticks", name := "row", desc := "(III)I" } : Jvm.MethodName)) ∈ lw_all := lw_g (lw_at lw_m1 175 rfl) rfl
theorem q356 : (Jvm.Cond.methodLink "StairOnSticksLaw" (20 : Nat) ({ cls := "StairOnSticks", name := "set", desc := "(IIJ)I" } : Jvm.MethodName)) ∈ lw_all := lw_g (lw_at lw_m2 43 rfl) rfl
theorem q422 : (Jvm.Cond.methodLink "StairOnSticksLaw" (25 : Nat) ({ cls := "StairOnSticks", name := "copy", desc := "(IIIII)I" } : Jvm.MethodName)) ∈ lw_all := lw_g (lw_at lw_m2 109 rfl) rfl
theorem q469 : (Jvm.Cond.methodLink "StairOnSticksLaw" (30 : Nat) ({ cls := "StairOnSticks", name := "element", desc := "(II)J" } : Jvm.MethodName)) ∈ lw_all := lw_g (lw_at lw_m2 156 rfl) rfl
theorem q476 : (Jvm.Cond.methodLink "StairOnSticksLaw" (35 : Nat) ({ cls := "StairOnSticks", name := "holds", desc := "(I)I" } : Jvm.MethodName)) ∈ lw_all := lw_g (lw_at lw_m2 163 rfl) rfl
theorem q480 : (Jvm.Cond.methodLink "StairOnSticksLaw" (40 : Nat) ({ cls := "StairOnSticks", name := "show", desc := "(II)I" } : Jvm.MethodName)) ∈ lw_all := lw_g (lw_at lw_m2 167 rfl) rfl
theorem q488 : (Jvm.Cond.methodLink "StairOnSticksLaw" (45 : Nat) ({ cls := "StairOnSticks", name := "says", desc := "(II)I" } : Jvm.MethodName)) ∈ lw_all := lw_g (lw_at lw_m2 175 rfl) rfl
theorem q624 : (Jvm.Cond.methodLink "StairOnSticksLaw" (49 : Nat) ({ cls := "StairOnSticks", name := "step", desc := "(IZ)I" } : Jvm.MethodName)) ∈ lw_all := lw_g (lw_at lw_m3 71 rfl) rfl
theorem q665 : (Jvm.Cond.methodLink "StairOnSticksLaw" (54 : Nat) ({ cls := "StairOnSticks", name := "way", desc := "(II)I" } : Jvm.MethodName)) ∈ lw_all := lw_g (lw_at lw_m3 112 rfl) rfl
theorem q729 : (Jvm.Cond.methodLink "StairOnSticksLaw" (58 : Nat) ({ cls := "StairOnSticks", name := "ask", desc := "(II)I" } : Jvm.MethodName)) ∈ lw_all := lw_g (lw_at lw_m3 176 rfl) rfl
theorem q738 : (Jvm.Cond.methodLink "StairOnSticksLaw" (62 : Nat) ({ cls := "StairOnSticks", name := "put", desc := "(IIZ)I" } : Jvm.MethodName)) ∈ lw_all := lw_g (lw_at lw_m3 185 rfl) rfl
theorem q754 : (Jvm.Cond.methodLink "StairOnSticksLaw" (67 : Nat) ({ cls := "StairOnSticks", name := "rise", desc := "(II)I" } : Jvm.MethodName)) ∈ lw_all := lw_g (lw_at lw_m3 201 rfl) rfl
theorem q758 : (Jvm.Cond.methodLink "StairOnSticksLaw" (71 : Nat) ({ cls := "StairOnSticks", name := "feed", desc := "(I)I" } : Jvm.MethodName)) ∈ lw_all := lw_g (lw_at lw_m3 205 rfl) rfl
theorem q762 : (Jvm.Cond.methodLink "StairOnSticksLaw" (75 : Nat) ({ cls := "StairOnSticks", name := "wipe", desc := "()I" } : Jvm.MethodName)) ∈ lw_all := lw_g (lw_at lw_m3 209 rfl) rfl
theorem q766 : (Jvm.Cond.methodLink "StairOnSticksLaw" (80 : Nat) ({ cls := "StairOnSticks", name := "stair", desc := "()I" } : Jvm.MethodName)) ∈ lw_all := lw_g (lw_at lw_m3 213 rfl) rfl
theorem q1129 : (Jvm.Cond.methodLink "StairOnSticksLaw" (84 : Nat) ({ cls := "StairOnSticks", name := "stepOf", desc := "(II)I" } : Jvm.MethodName)) ∈ lw_all := lw_g (lw_at lw_m5 96 rfl) rfl
theorem q1133 : (Jvm.Cond.methodLink "StairOnSticksLaw" (88 : Nat) ({ cls := "StairOnSticks", name := "wayOf", desc := "(II)I" } : Jvm.MethodName)) ∈ lw_all := lw_g (lw_at lw_m5 100 rfl) rfl
theorem q1157 : (Jvm.Cond.methodLink "StairOnSticksLaw" (92 : Nat) ({ cls := "StairOnSticks", name := "asked", desc := "(I)I" } : Jvm.MethodName)) ∈ lw_all := lw_g (lw_at lw_m5 124 rfl) rfl
theorem q1161 : (Jvm.Cond.methodLink "StairOnSticksLaw" (96 : Nat) ({ cls := "StairOnSticks", name := "move", desc := "(III)I" } : Jvm.MethodName)) ∈ lw_all := lw_g (lw_at lw_m5 128 rfl) rfl
theorem q1165 : (Jvm.Cond.methodLink "StairOnSticksLaw" (100 : Nat) ({ cls := "StairOnSticks", name := "may", desc := "(II)I" } : Jvm.MethodName)) ∈ lw_all := lw_g (lw_at lw_m5 132 rfl) rfl
theorem q1236 : (Jvm.Cond.methodLink "StairOnSticksLaw" (104 : Nat) ({ cls := "StairOnSticks", name := "hardest", desc := "()I" } : Jvm.MethodName)) ∈ lw_all := lw_g (lw_at lw_m5 203 rfl) rfl
theorem q1240 : (Jvm.Cond.methodLink "StairOnSticksLaw" (108 : Nat) ({ cls := "StairOnSticks", name := "lightest", desc := "(I)I" } : Jvm.MethodName)) ∈ lw_all := lw_g (lw_at lw_m5 207 rfl) rfl
theorem q1245 : (Jvm.Cond.methodLink "StairOnSticksLaw" (112 : Nat) ({ cls := "StairOnSticks", name := "judge", desc := "(I)I" } : Jvm.MethodName)) ∈ lw_all := lw_g (lw_at lw_m5 212 rfl) rfl
theorem q1271 : (Jvm.Cond.methodLink "StairOnSticksLaw" (116 : Nat) ({ cls := "StairOnSticks", name := "told", desc := "(II)I" } : Jvm.MethodName)) ∈ lw_all := lw_g (lw_at lw_m5 238 rfl) rfl
theorem q1284 : (Jvm.Cond.methodLink "StairOnSticksLaw" (120 : Nat) ({ cls := "StairOnSticks", name := "odds", desc := "(I)J" } : Jvm.MethodName)) ∈ lw_all := lw_g (lw_at lw_m6 11 rfl) rfl
theorem q1289 : (Jvm.Cond.methodLink "StairOnSticksLaw" (125 : Nat) ({ cls := "StairOnSticks", name := "safest", desc := "(I)I" } : Jvm.MethodName)) ∈ lw_all := lw_g (lw_at lw_m6 16 rfl) rfl
theorem q1337 : (Jvm.Cond.methodLink "StairOnSticksLaw" (129 : Nat) ({ cls := "StairOnSticks", name := "from", desc := "(II)I" } : Jvm.MethodName)) ∈ lw_all := lw_g (lw_at lw_m6 64 rfl) rfl
theorem q1346 : (Jvm.Cond.methodLink "StairOnSticksLaw" (133 : Nat) ({ cls := "StairOnSticks", name := "easiest", desc := "(II)I" } : Jvm.MethodName)) ∈ lw_all := lw_g (lw_at lw_m6 73 rfl) rfl
theorem q1350 : (Jvm.Cond.methodLink "StairOnSticksLaw" (137 : Nat) ({ cls := "StairOnSticks", name := "needs", desc := "(I)I" } : Jvm.MethodName)) ∈ lw_all := lw_g (lw_at lw_m6 77 rfl) rfl
theorem q1360 : (Jvm.Cond.methodLink "StairOnSticksLaw" (141 : Nat) ({ cls := "StairOnSticks", name := "helps", desc := "(II)I" } : Jvm.MethodName)) ∈ lw_all := lw_g (lw_at lw_m6 87 rfl) rfl
theorem q1381 : (Jvm.Cond.methodLink "StairOnSticksLaw" (145 : Nat) ({ cls := "StairOnSticks", name := "where", desc := "(I)I" } : Jvm.MethodName)) ∈ lw_all := lw_g (lw_at lw_m6 108 rfl) rfl
theorem q1389 : (Jvm.Cond.methodLink "StairOnSticksLaw" (149 : Nat) ({ cls := "StairOnSticks", name := "works", desc := "(II)I" } : Jvm.MethodName)) ∈ lw_all := lw_g (lw_at lw_m6 116 rfl) rfl
theorem q1412 : (Jvm.Cond.methodLink "StairOnSticksLaw" (153 : Nat) ({ cls := "StairOnSticks", name := "done", desc := "(II)I" } : Jvm.MethodName)) ∈ lw_all := lw_g (lw_at lw_m6 139 rfl) rfl
theorem q1421 : (Jvm.Cond.methodLink "StairOnSticksLaw" (157 : Nat) ({ cls := "StairOnSticks", name := "goings", desc := "(IIII)I" } : Jvm.MethodName)) ∈ lw_all := lw_g (lw_at lw_m6 148 rfl) rfl
theorem q1429 : (Jvm.Cond.methodLink "StairOnSticksLaw" (162 : Nat) ({ cls := "StairOnSticks", name := "week", desc := "(I)I" } : Jvm.MethodName)) ∈ lw_all := lw_g (lw_at lw_m6 156 rfl) rfl
theorem q1443 : (Jvm.Cond.methodLink "StairOnSticksLaw" (166 : Nat) ({ cls := "StairOnSticks", name := "weeks", desc := "(I)I" } : Jvm.MethodName)) ∈ lw_all := lw_g (lw_at lw_m6 170 rfl) rfl
theorem q1451 : (Jvm.Cond.methodLink "StairOnSticksLaw" (170 : Nat) ({ cls := "StairOnSticks", name := "when", desc := "(III)I" } : Jvm.MethodName)) ∈ lw_all := lw_g (lw_at lw_m6 178 rfl) rfl
theorem q1455 : (Jvm.Cond.methodLink "StairOnSticksLaw" (174 : Nat) ({ cls := "StairOnSticks", name := "soonest", desc := "()I" } : Jvm.MethodName)) ∈ lw_all := lw_g (lw_at lw_m6 182 rfl) rfl
theorem q1459 : (Jvm.Cond.methodLink "StairOnSticksLaw" (178 : Nat) ({ cls := "StairOnSticks", name := "climbs", desc := "(I)I" } : Jvm.MethodName)) ∈ lw_all := lw_g (lw_at lw_m6 186 rfl) rfl
theorem q1473 : (Jvm.Cond.methodLink "StairOnSticksLaw" (182 : Nat) ({ cls := "StairOnSticks", name := "goes", desc := "()I" } : Jvm.MethodName)) ∈ lw_all := lw_g (lw_at lw_m6 200 rfl) rfl
theorem q1477 : (Jvm.Cond.methodLink "StairOnSticksLaw" (186 : Nat) ({ cls := "StairOnSticks", name := "seed", desc := "(I)I" } : Jvm.MethodName)) ∈ lw_all := lw_g (lw_at lw_m6 204 rfl) rfl
theorem q1481 : (Jvm.Cond.methodLink "StairOnSticksLaw" (190 : Nat) ({ cls := "StairOnSticks", name := "image", desc := "()I" } : Jvm.MethodName)) ∈ lw_all := lw_g (lw_at lw_m6 208 rfl) rfl
theorem q1485 : (Jvm.Cond.methodLink "StairOnSticksLaw" (194 : Nat) ({ cls := "StairOnSticks", name := "back", desc := "()I" } : Jvm.MethodName)) ∈ lw_all := lw_g (lw_at lw_m6 212 rfl) rfl
theorem q1489 : (Jvm.Cond.methodLink "StairOnSticksLaw" (198 : Nat) ({ cls := "StairOnSticks", name := "status", desc := "(I)I" } : Jvm.MethodName)) ∈ lw_all := lw_g (lw_at lw_m6 216 rfl) rfl
theorem q1501 : (Jvm.Cond.classLink "StairOnSticksLaw" (10 : Nat) "StairOnSticksModel") ∈ lw_all := lw_g (lw_at lw_m6 228 rfl) rfl
theorem q1503 : (Jvm.Cond.methodLink "StairOnSticksLaw" (12 : Nat) ({ cls := "StairOnSticksModel", name := "<init>", desc := "()V" } : Jvm.MethodName)) ∈ lw_all := lw_g (lw_at lw_m6 230 rfl) rfl
theorem q1619 : (Jvm.Cond.methodLink "StairOnSticksLaw" (17 : Nat) ({ cls := "StairOnSticksModel", name := "row", desc := "(III)I" } : Jvm.MethodName)) ∈ lw_all := lw_g (lw_at lw_m7 106 rfl) rfl
theorem q1633 : (Jvm.Cond.methodLink "StairOnSticksLaw" (24 : Nat) ({ cls := "StairOnSticksModel", name := "set", desc := "(IIJ)I" } : Jvm.MethodName)) ∈ lw_all := lw_g (lw_at lw_m7 120 rfl) rfl
theorem q1644 : (Jvm.Cond.methodLink "StairOnSticksLaw" (29 : Nat) ({ cls := "StairOnSticksModel", name := "copy", desc := "(IIIII)I" } : Jvm.MethodName)) ∈ lw_all := lw_g (lw_at lw_m7 131 rfl) rfl
theorem q1648 : (Jvm.Cond.methodLink "StairOnSticksLaw" (34 : Nat) ({ cls := "StairOnSticksModel", name := "element", desc := "(II)J" } : Jvm.MethodName)) ∈ lw_all := lw_g (lw_at lw_m7 135 rfl) rfl
theorem q1652 : (Jvm.Cond.methodLink "StairOnSticksLaw" (39 : Nat) ({ cls := "StairOnSticksModel", name := "holds", desc := "(I)I" } : Jvm.MethodName)) ∈ lw_all := lw_g (lw_at lw_m7 139 rfl) rfl
theorem q1656 : (Jvm.Cond.methodLink "StairOnSticksLaw" (44 : Nat) ({ cls := "StairOnSticksModel", name := "show", desc := "(II)I" } : Jvm.MethodName)) ∈ lw_all := lw_g (lw_at lw_m7 143 rfl) rfl
theorem q1664 : (Jvm.Cond.methodLink "StairOnSticksLaw" (48 : Nat) ({ cls := "StairOnSticksModel", name := "says", desc := "(II)I" } : Jvm.MethodName)) ∈ lw_all := lw_g (lw_at lw_m7 151 rfl) rfl
theorem q1688 : (Jvm.Cond.methodLink "StairOnSticksLaw" (53 : Nat) ({ cls := "StairOnSticksModel", name := "step", desc := "(IZ)I" } : Jvm.MethodName)) ∈ lw_all := lw_g (lw_at lw_m7 175 rfl) rfl
theorem q1693 : (Jvm.Cond.methodLink "StairOnSticksLaw" (57 : Nat) ({ cls := "StairOnSticksModel", name := "way", desc := "(II)I" } : Jvm.MethodName)) ∈ lw_all := lw_g (lw_at lw_m7 180 rfl) rfl
theorem q1698 : (Jvm.Cond.methodLink "StairOnSticksLaw" (61 : Nat) ({ cls := "StairOnSticksModel", name := "ask", desc := "(II)I" } : Jvm.MethodName)) ∈ lw_all := lw_g (lw_at lw_m7 185 rfl) rfl
theorem q1711 : (Jvm.Cond.methodLink "StairOnSticksLaw" (66 : Nat) ({ cls := "StairOnSticksModel", name := "put", desc := "(IIZ)I" } : Jvm.MethodName)) ∈ lw_all := lw_g (lw_at lw_m7 198 rfl) rfl
theorem q1720 : (Jvm.Cond.methodLink "StairOnSticksLaw" (70 : Nat) ({ cls := "StairOnSticksModel", name := "rise", desc := "(II)I" } : Jvm.MethodName)) ∈ lw_all := lw_g (lw_at lw_m7 207 rfl) rfl
theorem q1724 : (Jvm.Cond.methodLink "StairOnSticksLaw" (74 : Nat) ({ cls := "StairOnSticksModel", name := "feed", desc := "(I)I" } : Jvm.MethodName)) ∈ lw_all := lw_g (lw_at lw_m7 211 rfl) rfl
theorem q1729 : (Jvm.Cond.methodLink "StairOnSticksLaw" (79 : Nat) ({ cls := "StairOnSticksModel", name := "wipe", desc := "()I" } : Jvm.MethodName)) ∈ lw_all := lw_g (lw_at lw_m7 216 rfl) rfl
theorem q1733 : (Jvm.Cond.methodLink "StairOnSticksLaw" (83 : Nat) ({ cls := "StairOnSticksModel", name := "stair", desc := "()I" } : Jvm.MethodName)) ∈ lw_all := lw_g (lw_at lw_m7 220 rfl) rfl
theorem q1825 : (Jvm.Cond.methodLink "StairOnSticksLaw" (87 : Nat) ({ cls := "StairOnSticksModel", name := "stepOf", desc := "(II)I" } : Jvm.MethodName)) ∈ lw_all := lw_g (lw_at lw_m8 72 rfl) rfl
theorem q1830 : (Jvm.Cond.methodLink "StairOnSticksLaw" (91 : Nat) ({ cls := "StairOnSticksModel", name := "wayOf", desc := "(II)I" } : Jvm.MethodName)) ∈ lw_all := lw_g (lw_at lw_m8 77 rfl) rfl
theorem q1834 : (Jvm.Cond.methodLink "StairOnSticksLaw" (95 : Nat) ({ cls := "StairOnSticksModel", name := "asked", desc := "(I)I" } : Jvm.MethodName)) ∈ lw_all := lw_g (lw_at lw_m8 81 rfl) rfl
theorem q1838 : (Jvm.Cond.methodLink "StairOnSticksLaw" (99 : Nat) ({ cls := "StairOnSticksModel", name := "move", desc := "(III)I" } : Jvm.MethodName)) ∈ lw_all := lw_g (lw_at lw_m8 85 rfl) rfl
theorem q1846 : (Jvm.Cond.methodLink "StairOnSticksLaw" (103 : Nat) ({ cls := "StairOnSticksModel", name := "may", desc := "(II)I" } : Jvm.MethodName)) ∈ lw_all := lw_g (lw_at lw_m8 93 rfl) rfl
theorem q1855 : (Jvm.Cond.methodLink "StairOnSticksLaw" (107 : Nat) ({ cls := "StairOnSticksModel", name := "hardest", desc := "()I" } : Jvm.MethodName)) ∈ lw_all := lw_g (lw_at lw_m8 102 rfl) rfl
theorem q1859 : (Jvm.Cond.methodLink "StairOnSticksLaw" (111 : Nat) ({ cls := "StairOnSticksModel", name := "lightest", desc := "(I)I" } : Jvm.MethodName)) ∈ lw_all := lw_g (lw_at lw_m8 106 rfl) rfl
theorem q1863 : (Jvm.Cond.methodLink "StairOnSticksLaw" (115 : Nat) ({ cls := "StairOnSticksModel", name := "judge", desc := "(I)I" } : Jvm.MethodName)) ∈ lw_all := lw_g (lw_at lw_m8 110 rfl) rfl
theorem q1879 : (Jvm.Cond.methodLink "StairOnSticksLaw" (119 : Nat) ({ cls := "StairOnSticksModel", name := "told", desc := "(II)I" } : Jvm.MethodName)) ∈ lw_all := lw_g (lw_at lw_m8 126 rfl) rfl
theorem q1883 : (Jvm.Cond.methodLink "StairOnSticksLaw" (124 : Nat) ({ cls := "StairOnSticksModel", name := "odds", desc := "(I)J" } : Jvm.MethodName)) ∈ lw_all := lw_g (lw_at lw_m8 130 rfl) rfl
theorem q1887 : (Jvm.Cond.methodLink "StairOnSticksLaw" (128 : Nat) ({ cls := "StairOnSticksModel", name := "safest", desc := "(I)I" } : Jvm.MethodName)) ∈ lw_all := lw_g (lw_at lw_m8 134 rfl) rfl
theorem q1914 : (Jvm.Cond.methodLink "StairOnSticksLaw" (132 : Nat) ({ cls := "StairOnSticksModel", name := "from", desc := "(II)I" } : Jvm.MethodName)) ∈ lw_all := lw_g (lw_at lw_m8 161 rfl) rfl
theorem q1918 : (Jvm.Cond.methodLink "StairOnSticksLaw" (136 : Nat) ({ cls := "StairOnSticksModel", name := "easiest", desc := "(II)I" } : Jvm.MethodName)) ∈ lw_all := lw_g (lw_at lw_m8 165 rfl) rfl
theorem q1923 : (Jvm.Cond.methodLink "StairOnSticksLaw" (140 : Nat) ({ cls := "StairOnSticksModel", name := "needs", desc := "(I)I" } : Jvm.MethodName)) ∈ lw_all := lw_g (lw_at lw_m8 170 rfl) rfl
theorem q1927 : (Jvm.Cond.methodLink "StairOnSticksLaw" (144 : Nat) ({ cls := "StairOnSticksModel", name := "helps", desc := "(II)I" } : Jvm.MethodName)) ∈ lw_all := lw_g (lw_at lw_m8 174 rfl) rfl
theorem q1939 : (Jvm.Cond.methodLink "StairOnSticksLaw" (148 : Nat) ({ cls := "StairOnSticksModel", name := "where", desc := "(I)I" } : Jvm.MethodName)) ∈ lw_all := lw_g (lw_at lw_m8 186 rfl) rfl
theorem q1947 : (Jvm.Cond.methodLink "StairOnSticksLaw" (152 : Nat) ({ cls := "StairOnSticksModel", name := "works", desc := "(II)I" } : Jvm.MethodName)) ∈ lw_all := lw_g (lw_at lw_m8 194 rfl) rfl
theorem q1956 : (Jvm.Cond.methodLink "StairOnSticksLaw" (156 : Nat) ({ cls := "StairOnSticksModel", name := "done", desc := "(II)I" } : Jvm.MethodName)) ∈ lw_all := lw_g (lw_at lw_m8 203 rfl) rfl
theorem q1960 : (Jvm.Cond.methodLink "StairOnSticksLaw" (161 : Nat) ({ cls := "StairOnSticksModel", name := "goings", desc := "(IIII)I" } : Jvm.MethodName)) ∈ lw_all := lw_g (lw_at lw_m8 207 rfl) rfl
theorem q1966 : (Jvm.Cond.methodLink "StairOnSticksLaw" (165 : Nat) ({ cls := "StairOnSticksModel", name := "week", desc := "(I)I" } : Jvm.MethodName)) ∈ lw_all := lw_g (lw_at lw_m8 213 rfl) rfl
theorem q1974 : (Jvm.Cond.methodLink "StairOnSticksLaw" (169 : Nat) ({ cls := "StairOnSticksModel", name := "weeks", desc := "(I)I" } : Jvm.MethodName)) ∈ lw_all := lw_g (lw_at lw_m8 221 rfl) rfl
theorem q1982 : (Jvm.Cond.methodLink "StairOnSticksLaw" (173 : Nat) ({ cls := "StairOnSticksModel", name := "when", desc := "(III)I" } : Jvm.MethodName)) ∈ lw_all := lw_g (lw_at lw_m8 229 rfl) rfl
theorem q1986 : (Jvm.Cond.methodLink "StairOnSticksLaw" (177 : Nat) ({ cls := "StairOnSticksModel", name := "soonest", desc := "()I" } : Jvm.MethodName)) ∈ lw_all := lw_g (lw_at lw_m8 233 rfl) rfl
theorem q1990 : (Jvm.Cond.methodLink "StairOnSticksLaw" (181 : Nat) ({ cls := "StairOnSticksModel", name := "climbs", desc := "(I)I" } : Jvm.MethodName)) ∈ lw_all := lw_g (lw_at lw_m8 237 rfl) rfl
theorem q2007 : (Jvm.Cond.methodLink "StairOnSticksLaw" (185 : Nat) ({ cls := "StairOnSticksModel", name := "goes", desc := "()I" } : Jvm.MethodName)) ∈ lw_all := lw_g (lw_at lw_m9 14 rfl) rfl
theorem q2011 : (Jvm.Cond.methodLink "StairOnSticksLaw" (189 : Nat) ({ cls := "StairOnSticksModel", name := "seed", desc := "(I)I" } : Jvm.MethodName)) ∈ lw_all := lw_g (lw_at lw_m9 18 rfl) rfl
theorem q2015 : (Jvm.Cond.methodLink "StairOnSticksLaw" (193 : Nat) ({ cls := "StairOnSticksModel", name := "image", desc := "()I" } : Jvm.MethodName)) ∈ lw_all := lw_g (lw_at lw_m9 22 rfl) rfl
theorem q2019 : (Jvm.Cond.methodLink "StairOnSticksLaw" (197 : Nat) ({ cls := "StairOnSticksModel", name := "back", desc := "()I" } : Jvm.MethodName)) ∈ lw_all := lw_g (lw_at lw_m9 26 rfl) rfl
theorem q2023 : (Jvm.Cond.methodLink "StairOnSticksLaw" (201 : Nat) ({ cls := "StairOnSticksModel", name := "status", desc := "(I)I" } : Jvm.MethodName)) ∈ lw_all := lw_g (lw_at lw_m9 30 rfl) rfl
theorem q2028 : (Jvm.Cond.constantLong "StairOnSticksLaw" (18 : Nat) (4294967295 : Int64)) ∈ lw_all := lw_g (lw_at lw_m9 35 rfl) rfl
theorem q889 : (Jvm.Cond.sameMethod "[B" "java/lang/Object" "clone" "()Ljava/lang/Object;") ∈ lw_all := lw_g (lw_at lw_m4 96 rfl) rfl
set_option maxRecDepth 100000
theorem q892 : (Jvm.Cond.selects "[B" ({ cls := "[B", name := "clone", desc := "()Ljava/lang/Object;" } : Jvm.MethodName) ({ cls := "java/lang/Object", name := "clone", desc := "()Ljava/lang/Object;" } : Jvm.MethodName)) ∈ lw_all := lw_g (lw_at lw_m4 99 rfl) rfl
theorem q893 : (Jvm.Cond.castable "[B" "java/lang/Cloneable") ∈ lw_tbl := lw_at lw_m4 100 rfl
theorem q90 : (Jvm.Cond.initialized "java/lang/System") ∈ lw_all := lw_g (lw_at lw_m1 17 rfl) rfl
set_option maxRecDepth 100000
theorem q467 : (Jvm.Cond.static ({ cls := "java/lang/System", name := "arraycopy", desc := "(Ljava/lang/Object;ILjava/lang/Object;II)V" } : Jvm.MethodName)) ∈ lw_all := lw_g (lw_at lw_m2 154 rfl) rfl
theorem q468 : (Jvm.Cond.native ({ cls := "java/lang/System", name := "arraycopy", desc := "(Ljava/lang/Object;ILjava/lang/Object;II)V" } : Jvm.MethodName)) ∈ lw_all := lw_g (lw_at lw_m2 155 rfl) rfl
theorem q1064 : (Jvm.Cond.interfaceMethod "jdk/internal/access/JavaLangAccess" "jdk/internal/access/JavaLangAccess" "getUTF16Char" "([BI)C") ∈ lw_tbl := lw_at lw_m5 31 rfl
set_option maxRecDepth 100000
theorem q1065 : (Jvm.Cond.declares ({ cls := "jdk/internal/access/JavaLangAccess", name := "getUTF16Char", desc := "([BI)C" } : Jvm.MethodName)) ∈ lw_tbl := lw_at lw_m5 32 rfl
theorem q125 : (Jvm.Cond.arrayOver (Jvm.ClassFile.FieldType.object "StairOnSticks$Step")) ∈ lw_tbl := lw_at lw_m1 52 rfl
set_option maxRecDepth 100000
theorem q127 : (Jvm.Cond.arrayOver (Jvm.ClassFile.FieldType.object "StairOnSticks$Move")) ∈ lw_tbl := lw_at lw_m1 54 rfl
theorem q141 : (Jvm.Cond.arrayClass Jvm.ClassFile.FieldType.int) ∈ lw_all := lw_g (lw_at lw_m1 68 rfl) rfl
theorem q195 : (Jvm.Cond.arrayOver (Jvm.ClassFile.FieldType.array Jvm.ClassFile.FieldType.int)) ∈ lw_tbl := lw_at lw_m1 122 rfl
theorem q216 : (Jvm.Cond.arrayOver (Jvm.ClassFile.FieldType.object "StairOnSticks$Sheet")) ∈ lw_tbl := lw_at lw_m1 143 rfl
theorem q335 : (Jvm.Cond.arrayClass Jvm.ClassFile.FieldType.byte) ∈ lw_all := lw_g (lw_at lw_m2 22 rfl) rfl
theorem q353 : (Jvm.Cond.arrayClass Jvm.ClassFile.FieldType.short) ∈ lw_all := lw_g (lw_at lw_m2 40 rfl) rfl
theorem q354 : (Jvm.Cond.arrayClass Jvm.ClassFile.FieldType.long) ∈ lw_all := lw_g (lw_at lw_m2 41 rfl) rfl
theorem q355 : (Jvm.Cond.arrayClass Jvm.ClassFile.FieldType.boolean) ∈ lw_all := lw_g (lw_at lw_m2 42 rfl) rfl
theorem q1508 : (Jvm.Cond.arrayOver (Jvm.ClassFile.FieldType.array Jvm.ClassFile.FieldType.long)) ∈ lw_tbl := lw_at lw_m6 235 rfl
theorem q2050 : (Jvm.Cond.arrayClass Jvm.ClassFile.FieldType.char) ∈ lw_all := lw_g (lw_at lw_m9 57 rfl) rfl
