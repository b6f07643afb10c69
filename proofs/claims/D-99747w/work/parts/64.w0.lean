set_option maxRecDepth 100000
def dkwL_law_58 : List UInt8 := [4, 172]
abbrev dktL_law_58 : List UInt8 := dkwL_law_58 ++ []
def dkwL_law_57 : List UInt8 := [182, 0, 203, 44, 42, 21, 4, 4, 96, 46, 182, 0, 206, 159, 0, 5, 3, 172, 132, 4, 7, 167, 250, 44]
abbrev dktL_law_57 : List UInt8 := dkwL_law_57 ++ dktL_law_58
def dkwL_law_56 : List UInt8 := [153, 0, 7, 4, 167, 0, 4, 3, 182, 0, 202, 159, 0, 30, 3, 172, 43, 42, 21, 4, 4, 96, 46]
abbrev dktL_law_56 : List UInt8 := dkwL_law_56 ++ dktL_law_57
def dkwL_law_55 : List UInt8 := [153, 0, 7, 4, 167, 0, 4, 3, 182, 0, 198, 44, 42, 21, 4, 4, 96, 46, 42, 21, 4, 5, 96, 46]
abbrev dktL_law_55 : List UInt8 := dkwL_law_55 ++ dktL_law_56
def dkwL_law_54 : List UInt8 := [46, 182, 0, 197, 159, 0, 83, 3, 172, 43, 42, 21, 4, 4, 96, 46, 42, 21, 4, 5, 96, 46]
abbrev dktL_law_54 : List UInt8 := dkwL_law_54 ++ dktL_law_55
def dkwL_law_53 : List UInt8 := [6, 96, 46, 182, 0, 194, 44, 42, 21, 4, 4, 96, 46, 42, 21, 4, 5, 96, 46, 42, 21, 4, 6, 96]
abbrev dktL_law_53 : List UInt8 := dkwL_law_53 ++ dktL_law_54
def dkwL_law_52 : List UInt8 := [153, 0, 5, 3, 172, 167, 0, 130, 43, 42, 21, 4, 4, 96, 46, 42, 21, 4, 5, 96, 46, 42, 21, 4]
abbrev dktL_law_52 : List UInt8 := dkwL_law_52 ++ dktL_law_53
def dkwL_law_51 : List UInt8 := [182, 0, 191, 21, 5, 159, 0, 5, 3, 172, 21, 5, 154, 0, 15, 45, 3, 47, 21, 6, 133, 148]
abbrev dktL_law_51 : List UInt8 := dkwL_law_51 ++ dktL_law_52
def dkwL_law_50 : List UInt8 := [42, 21, 4, 5, 96, 46, 42, 21, 4, 6, 96, 46, 42, 21, 4, 7, 96, 46, 182, 0, 190, 54, 6, 44]
abbrev dktL_law_50 : List UInt8 := dkwL_law_50 ++ dktL_law_51
def dkwL_law_49 : List UInt8 := [21, 4, 6, 96, 46, 42, 21, 4, 7, 96, 46, 45, 184, 0, 185, 54, 5, 44, 42, 21, 4, 4, 96, 46]
abbrev dktL_law_49 : List UInt8 := dkwL_law_49 ++ dktL_law_50
def dkwL_law_48 : List UInt8 := [46, 182, 0, 184, 159, 0, 224, 3, 172, 43, 42, 21, 4, 4, 96, 46, 42, 21, 4, 5, 96, 46, 42]
abbrev dktL_law_48 : List UInt8 := dkwL_law_48 ++ dktL_law_49
def dkwL_law_47 : List UInt8 := [6, 96, 46, 182, 0, 180, 44, 42, 21, 4, 4, 96, 46, 42, 21, 4, 5, 96, 46, 42, 21, 4, 6, 96]
abbrev dktL_law_47 : List UInt8 := dkwL_law_47 ++ dktL_law_48
def dkwL_law_46 : List UInt8 := [182, 0, 179, 159, 1, 17, 3, 172, 43, 42, 21, 4, 4, 96, 46, 42, 21, 4, 5, 96, 46, 42, 21, 4]
abbrev dktL_law_46 : List UInt8 := dkwL_law_46 ++ dktL_law_47
def dkwL_law_45 : List UInt8 := [46, 182, 0, 172, 44, 42, 21, 4, 4, 96, 46, 182, 0, 175, 159, 1, 30, 3, 172, 43, 182, 0, 176, 44]
abbrev dktL_law_45 : List UInt8 := dkwL_law_45 ++ dktL_law_46
def dkwL_law_44 : List UInt8 := [159, 1, 68, 3, 172, 43, 182, 0, 168, 44, 182, 0, 171, 159, 1, 55, 3, 172, 43, 42, 21, 4, 4, 96]
abbrev dktL_law_44 : List UInt8 := dkwL_law_44 ++ dktL_law_45
def dkwL_law_43 : List UInt8 := [172, 43, 182, 0, 160, 44, 182, 0, 163, 159, 1, 81, 3, 172, 43, 182, 0, 164, 44, 182, 0, 167]
abbrev dktL_law_43 : List UInt8 := dkwL_law_43 ++ dktL_law_44
def dkwL_law_42 : List UInt8 := [182, 0, 152, 44, 182, 0, 155, 159, 1, 107, 3, 172, 43, 182, 0, 156, 44, 182, 0, 159, 159, 1, 94, 3]
abbrev dktL_law_42 : List UInt8 := dkwL_law_42 ++ dktL_law_43
def dkwL_law_41 : List UInt8 := [182, 0, 147, 159, 1, 133, 3, 172, 43, 182, 0, 148, 44, 182, 0, 151, 159, 1, 120, 3, 172, 43]
abbrev dktL_law_41 : List UInt8 := dkwL_law_41 ++ dktL_law_42
def dkwL_law_40 : List UInt8 := [21, 4, 4, 96, 46, 42, 21, 4, 5, 96, 46, 182, 0, 143, 159, 1, 146, 3, 172, 43, 182, 0, 144, 44]
abbrev dktL_law_40 : List UInt8 := dkwL_law_40 ++ dktL_law_41
def dkwL_law_39 : List UInt8 := [159, 1, 183, 3, 172, 43, 42, 21, 4, 4, 96, 46, 42, 21, 4, 5, 96, 46, 182, 0, 139, 44, 42]
abbrev dktL_law_39 : List UInt8 := dkwL_law_39 ++ dktL_law_40
def dkwL_law_38 : List UInt8 := [172, 43, 182, 0, 131, 44, 182, 0, 134, 159, 1, 196, 3, 172, 43, 182, 0, 135, 44, 182, 0, 138]
abbrev dktL_law_38 : List UInt8 := dkwL_law_38 ++ dktL_law_39
def dkwL_law_37 : List UInt8 := [5, 96, 46, 42, 21, 4, 6, 96, 46, 153, 0, 7, 4, 167, 0, 4, 3, 182, 0, 130, 159, 1, 209, 3]
abbrev dktL_law_37 : List UInt8 := dkwL_law_37 ++ dktL_law_38
def dkwL_law_36 : List UInt8 := [6, 96, 46, 153, 0, 7, 4, 167, 0, 4, 3, 182, 0, 126, 44, 42, 21, 4, 4, 96, 46, 42, 21, 4]
abbrev dktL_law_36 : List UInt8 := dkwL_law_36 ++ dktL_law_37
def dkwL_law_35 : List UInt8 := [182, 0, 125, 159, 2, 18, 3, 172, 43, 42, 21, 4, 4, 96, 46, 42, 21, 4, 5, 96, 46, 42, 21, 4]
abbrev dktL_law_35 : List UInt8 := dkwL_law_35 ++ dktL_law_36
def dkwL_law_34 : List UInt8 := [96, 46, 42, 21, 4, 5, 96, 46, 182, 0, 122, 44, 42, 21, 4, 4, 96, 46, 42, 21, 4, 5, 96, 46]
abbrev dktL_law_34 : List UInt8 := dkwL_law_34 ++ dktL_law_35
def dkwL_law_33 : List UInt8 := [21, 4, 4, 96, 46, 42, 21, 4, 5, 96, 46, 182, 0, 121, 159, 2, 55, 3, 172, 43, 42, 21, 4, 4]
abbrev dktL_law_33 : List UInt8 := dkwL_law_33 ++ dktL_law_34
def dkwL_law_32 : List UInt8 := [159, 2, 92, 3, 172, 43, 42, 21, 4, 4, 96, 46, 42, 21, 4, 5, 96, 46, 182, 0, 118, 44, 42]
abbrev dktL_law_32 : List UInt8 := dkwL_law_32 ++ dktL_law_33
def dkwL_law_31 : List UInt8 := [5, 96, 46, 182, 0, 114, 44, 42, 21, 4, 4, 96, 46, 42, 21, 4, 5, 96, 46, 182, 0, 117]
abbrev dktL_law_31 : List UInt8 := dkwL_law_31 ++ dktL_law_32
def dkwL_law_30 : List UInt8 := [42, 21, 4, 5, 96, 46, 182, 0, 113, 159, 2, 129, 3, 172, 43, 42, 21, 4, 4, 96, 46, 42, 21, 4]
abbrev dktL_law_30 : List UInt8 := dkwL_law_30 ++ dktL_law_31
def dkwL_law_29 : List UInt8 := [172, 43, 42, 21, 4, 4, 96, 46, 42, 21, 4, 5, 96, 46, 182, 0, 110, 44, 42, 21, 4, 4, 96, 46]
abbrev dktL_law_29 : List UInt8 := dkwL_law_29 ++ dktL_law_30
def dkwL_law_28 : List UInt8 := [46, 182, 0, 106, 44, 42, 21, 4, 4, 96, 46, 42, 21, 4, 5, 96, 46, 182, 0, 109, 159, 2, 166, 3]
abbrev dktL_law_28 : List UInt8 := dkwL_law_28 ++ dktL_law_29
def dkwL_law_27 : List UInt8 := [182, 0, 102, 44, 182, 0, 105, 159, 2, 203, 3, 172, 43, 42, 21, 4, 4, 96, 46, 42, 21, 4, 5, 96]
abbrev dktL_law_27 : List UInt8 := dkwL_law_27 ++ dktL_law_28
def dkwL_law_26 : List UInt8 := [46, 182, 0, 97, 159, 2, 229, 3, 172, 43, 182, 0, 98, 44, 182, 0, 101, 159, 2, 216, 3, 172, 43]
abbrev dktL_law_26 : List UInt8 := dkwL_law_26 ++ dktL_law_27
def dkwL_law_25 : List UInt8 := [182, 0, 93, 159, 2, 254, 3, 172, 43, 42, 21, 4, 4, 96, 46, 182, 0, 94, 44, 42, 21, 4, 4, 96]
abbrev dktL_law_25 : List UInt8 := dkwL_law_25 ++ dktL_law_26
def dkwL_law_24 : List UInt8 := [159, 3, 23, 3, 172, 43, 42, 21, 4, 4, 96, 46, 182, 0, 90, 44, 42, 21, 4, 4, 96, 46]
abbrev dktL_law_24 : List UInt8 := dkwL_law_24 ++ dktL_law_25
def dkwL_law_23 : List UInt8 := [5, 96, 46, 182, 0, 86, 44, 42, 21, 4, 4, 96, 46, 42, 21, 4, 5, 96, 46, 182, 0, 89]
abbrev dktL_law_23 : List UInt8 := dkwL_law_23 ++ dktL_law_24
def dkwL_law_22 : List UInt8 := [42, 21, 4, 4, 96, 46, 182, 0, 85, 159, 3, 60, 3, 172, 43, 42, 21, 4, 4, 96, 46, 42, 21, 4]
abbrev dktL_law_22 : List UInt8 := dkwL_law_22 ++ dktL_law_23
def dkwL_law_21 : List UInt8 := [21, 4, 4, 96, 46, 182, 0, 81, 159, 3, 85, 3, 172, 43, 42, 21, 4, 4, 96, 46, 182, 0, 82, 44]
abbrev dktL_law_21 : List UInt8 := dkwL_law_21 ++ dktL_law_22
def dkwL_law_20 : List UInt8 := [182, 0, 74, 44, 182, 0, 77, 159, 3, 110, 3, 172, 43, 42, 21, 4, 4, 96, 46, 182, 0, 78, 44, 42]
abbrev dktL_law_20 : List UInt8 := dkwL_law_20 ++ dktL_law_21
def dkwL_law_19 : List UInt8 := [21, 4, 4, 96, 46, 182, 0, 70, 44, 42, 21, 4, 4, 96, 46, 182, 0, 73, 159, 3, 123, 3, 172, 43]
abbrev dktL_law_19 : List UInt8 := dkwL_law_19 ++ dktL_law_20
def dkwL_law_18 : List UInt8 := [182, 0, 64, 159, 3, 161, 3, 172, 43, 182, 0, 65, 44, 182, 0, 69, 159, 3, 148, 3, 172, 43, 42]
abbrev dktL_law_18 : List UInt8 := dkwL_law_18 ++ dktL_law_19
def dkwL_law_17 : List UInt8 := [159, 3, 186, 3, 172, 43, 42, 21, 4, 4, 96, 46, 182, 0, 61, 44, 42, 21, 4, 4, 96, 46]
abbrev dktL_law_17 : List UInt8 := dkwL_law_17 ++ dktL_law_18
def dkwL_law_16 : List UInt8 := [3, 172, 43, 42, 21, 4, 4, 96, 46, 182, 0, 57, 44, 42, 21, 4, 4, 96, 46, 182, 0, 60]
abbrev dktL_law_16 : List UInt8 := dkwL_law_16 ++ dktL_law_17
def dkwL_law_15 : List UInt8 := [172, 43, 42, 21, 4, 4, 96, 46, 182, 0, 53, 44, 42, 21, 4, 4, 96, 46, 182, 0, 56, 159, 3, 211]
abbrev dktL_law_15 : List UInt8 := dkwL_law_15 ++ dktL_law_16
def dkwL_law_14 : List UInt8 := [46, 182, 0, 49, 44, 42, 21, 4, 4, 96, 46, 42, 21, 4, 5, 96, 46, 182, 0, 52, 159, 3, 236, 3]
abbrev dktL_law_14 : List UInt8 := dkwL_law_14 ++ dktL_law_15
def dkwL_law_13 : List UInt8 := [182, 0, 45, 44, 182, 0, 48, 159, 4, 17, 3, 172, 43, 42, 21, 4, 4, 96, 46, 42, 21, 4, 5, 96]
abbrev dktL_law_13 : List UInt8 := dkwL_law_13 ++ dktL_law_14
def dkwL_law_12 : List UInt8 := [21, 4, 4, 96, 46, 182, 0, 40, 44, 42, 21, 4, 4, 96, 46, 182, 0, 44, 159, 4, 30, 3, 172, 43]
abbrev dktL_law_12 : List UInt8 := dkwL_law_12 ++ dktL_law_13
def dkwL_law_11 : List UInt8 := [44, 42, 21, 4, 4, 96, 46, 42, 21, 4, 5, 96, 46, 182, 0, 39, 159, 4, 55, 3, 172, 43, 42]
abbrev dktL_law_11 : List UInt8 := dkwL_law_11 ++ dktL_law_12
def dkwL_law_10 : List UInt8 := [182, 0, 34, 159, 4, 92, 3, 172, 43, 42, 21, 4, 4, 96, 46, 42, 21, 4, 5, 96, 46, 182, 0, 35]
abbrev dktL_law_10 : List UInt8 := dkwL_law_10 ++ dktL_law_11
def dkwL_law_9 : List UInt8 := [159, 4, 118, 3, 172, 43, 182, 0, 26, 44, 182, 0, 30, 159, 4, 105, 3, 172, 43, 182, 0, 31, 44]
abbrev dktL_law_9 : List UInt8 := dkwL_law_9 ++ dktL_law_10
def dkwL_law_8 : List UInt8 := [8, 96, 46, 133, 16, 32, 121, 42, 21, 4, 16, 6, 96, 46, 133, 20, 0, 19, 127, 129, 182, 0, 25]
abbrev dktL_law_8 : List UInt8 := dkwL_law_8 ++ dktL_law_9
def dkwL_law_7 : List UInt8 := [21, 4, 6, 96, 46, 133, 16, 32, 121, 42, 21, 4, 7, 96, 46, 133, 20, 0, 19, 127, 129, 42, 21, 4]
abbrev dktL_law_7 : List UInt8 := dkwL_law_7 ++ dktL_law_8
def dkwL_law_6 : List UInt8 := [42, 21, 4, 4, 96, 46, 133, 16, 32, 121, 42, 21, 4, 5, 96, 46, 133, 20, 0, 19, 127, 129, 42]
abbrev dktL_law_6 : List UInt8 := dkwL_law_6 ++ dktL_law_7
def dkwL_law_5 : List UInt8 := [8, 96, 46, 133, 16, 32, 121, 42, 21, 4, 16, 6, 96, 46, 133, 20, 0, 19, 127, 129, 182, 0, 21, 44]
abbrev dktL_law_5 : List UInt8 := dkwL_law_5 ++ dktL_law_6
def dkwL_law_4 : List UInt8 := [21, 4, 6, 96, 46, 133, 16, 32, 121, 42, 21, 4, 7, 96, 46, 133, 20, 0, 19, 127, 129, 42, 21, 4]
abbrev dktL_law_4 : List UInt8 := dkwL_law_4 ++ dktL_law_5
def dkwL_law_3 : List UInt8 := [43, 42, 21, 4, 4, 96, 46, 133, 16, 32, 121, 42, 21, 4, 5, 96, 46, 133, 20, 0, 19, 127, 129, 42]
abbrev dktL_law_3 : List UInt8 := dkwL_law_3 ++ dktL_law_4
def dkwL_law_2 : List UInt8 := [170, 0, 0, 0, 0, 0, 5, 192, 0, 0, 0, 0, 0, 0, 0, 42, 0, 0, 0, 188, 0, 0, 1, 79, 0, 0, 1, 92, 0, 0, 1, 105, 0, 0, 1, 142, 0, 0, 1, 167, 0, 0, 1, 180, 0, 0, 1, 217, 0, 0, 1, 242, 0, 0, 2, 11, 0, 0, 2, 36, 0, 0, 2, 49, 0, 0, 2, 74, 0, 0, 2, 87, 0, 0, 2, 112, 0, 0, 2, 137, 0, 0, 2, 174, 0, 0, 2, 199, 0, 0, 2, 224, 0, 0, 2, 237, 0, 0, 2, 250, 0, 0, 3, 31, 0, 0, 3, 68, 0, 0, 3, 105, 0, 0, 3, 142, 0, 0, 3, 179, 0, 0, 3, 244, 0, 0, 4, 1, 0, 0, 4, 14, 0, 0, 4, 51, 0, 0, 4, 64, 0, 0, 4, 77, 0, 0, 4, 90, 0, 0, 4, 103, 0, 0, 4, 116, 0, 0, 4, 129, 0, 0, 4, 142, 0, 0, 4, 167, 0, 0, 4, 180, 0, 0, 4, 229, 0, 0, 5, 65, 0, 0, 5, 114, 0, 0, 5, 167]
abbrev dktL_law_2 : List UInt8 := dkwL_law_2 ++ dktL_law_3
def dkwL_law_1 : List UInt8 := [21, 4, 42, 190, 16, 7, 100, 163, 5, 208, 42, 21, 4, 46, 16, 63, 126]
abbrev dktL_law_1 : List UInt8 := dkwL_law_1 ++ dktL_law_2
def dkwL_law_0 : List UInt8 := [187, 0, 8, 89, 183, 0, 15, 76, 187, 0, 16, 89, 183, 0, 18, 77, 4, 188, 11, 78, 3, 54, 4]
abbrev dktL_law_0 : List UInt8 := dkwL_law_0 ++ dktL_law_1
theorem dksL_law_0 : bcL_law.data.toList.drop 0 = dktL_law_0 := by decide +kernel
theorem dksL_law_1 : bcL_law.data.toList.drop 23 = dktL_law_1 := dk_seg dksL_law_0 23 rfl rfl
theorem dksL_law_2 : bcL_law.data.toList.drop 40 = dktL_law_2 := dk_seg dksL_law_1 17 rfl rfl
theorem dksL_law_3 : bcL_law.data.toList.drop 228 = dktL_law_3 := dk_seg dksL_law_2 188 rfl rfl
theorem dksL_law_4 : bcL_law.data.toList.drop 252 = dktL_law_4 := dk_seg dksL_law_3 24 rfl rfl
theorem dksL_law_5 : bcL_law.data.toList.drop 276 = dktL_law_5 := dk_seg dksL_law_4 24 rfl rfl
theorem dksL_law_6 : bcL_law.data.toList.drop 300 = dktL_law_6 := dk_seg dksL_law_5 24 rfl rfl
theorem dksL_law_7 : bcL_law.data.toList.drop 323 = dktL_law_7 := dk_seg dksL_law_6 23 rfl rfl
theorem dksL_law_8 : bcL_law.data.toList.drop 347 = dktL_law_8 := dk_seg dksL_law_7 24 rfl rfl
theorem dksL_law_9 : bcL_law.data.toList.drop 370 = dktL_law_9 := dk_seg dksL_law_8 23 rfl rfl
theorem dksL_law_10 : bcL_law.data.toList.drop 393 = dktL_law_10 := dk_seg dksL_law_9 23 rfl rfl
theorem dksL_law_11 : bcL_law.data.toList.drop 417 = dktL_law_11 := dk_seg dksL_law_10 24 rfl rfl
theorem dksL_law_12 : bcL_law.data.toList.drop 440 = dktL_law_12 := dk_seg dksL_law_11 23 rfl rfl
theorem dksL_law_13 : bcL_law.data.toList.drop 464 = dktL_law_13 := dk_seg dksL_law_12 24 rfl rfl
theorem dksL_law_14 : bcL_law.data.toList.drop 488 = dktL_law_14 := dk_seg dksL_law_13 24 rfl rfl
theorem dksL_law_15 : bcL_law.data.toList.drop 512 = dktL_law_15 := dk_seg dksL_law_14 24 rfl rfl
theorem dksL_law_16 : bcL_law.data.toList.drop 536 = dktL_law_16 := dk_seg dksL_law_15 24 rfl rfl
theorem dksL_law_17 : bcL_law.data.toList.drop 558 = dktL_law_17 := dk_seg dksL_law_16 22 rfl rfl
theorem dksL_law_18 : bcL_law.data.toList.drop 580 = dktL_law_18 := dk_seg dksL_law_17 22 rfl rfl
theorem dksL_law_19 : bcL_law.data.toList.drop 603 = dktL_law_19 := dk_seg dksL_law_18 23 rfl rfl
theorem dksL_law_20 : bcL_law.data.toList.drop 627 = dktL_law_20 := dk_seg dksL_law_19 24 rfl rfl
theorem dksL_law_21 : bcL_law.data.toList.drop 651 = dktL_law_21 := dk_seg dksL_law_20 24 rfl rfl
theorem dksL_law_22 : bcL_law.data.toList.drop 675 = dktL_law_22 := dk_seg dksL_law_21 24 rfl rfl
theorem dksL_law_23 : bcL_law.data.toList.drop 699 = dktL_law_23 := dk_seg dksL_law_22 24 rfl rfl
theorem dksL_law_24 : bcL_law.data.toList.drop 721 = dktL_law_24 := dk_seg dksL_law_23 22 rfl rfl
theorem dksL_law_25 : bcL_law.data.toList.drop 743 = dktL_law_25 := dk_seg dksL_law_24 22 rfl rfl
theorem dksL_law_26 : bcL_law.data.toList.drop 767 = dktL_law_26 := dk_seg dksL_law_25 24 rfl rfl
theorem dksL_law_27 : bcL_law.data.toList.drop 790 = dktL_law_27 := dk_seg dksL_law_26 23 rfl rfl
theorem dksL_law_28 : bcL_law.data.toList.drop 814 = dktL_law_28 := dk_seg dksL_law_27 24 rfl rfl
theorem dksL_law_29 : bcL_law.data.toList.drop 838 = dktL_law_29 := dk_seg dksL_law_28 24 rfl rfl
theorem dksL_law_30 : bcL_law.data.toList.drop 862 = dktL_law_30 := dk_seg dksL_law_29 24 rfl rfl
theorem dksL_law_31 : bcL_law.data.toList.drop 886 = dktL_law_31 := dk_seg dksL_law_30 24 rfl rfl
theorem dksL_law_32 : bcL_law.data.toList.drop 908 = dktL_law_32 := dk_seg dksL_law_31 22 rfl rfl
theorem dksL_law_33 : bcL_law.data.toList.drop 931 = dktL_law_33 := dk_seg dksL_law_32 23 rfl rfl
theorem dksL_law_34 : bcL_law.data.toList.drop 955 = dktL_law_34 := dk_seg dksL_law_33 24 rfl rfl
theorem dksL_law_35 : bcL_law.data.toList.drop 979 = dktL_law_35 := dk_seg dksL_law_34 24 rfl rfl
theorem dksL_law_36 : bcL_law.data.toList.drop 1003 = dktL_law_36 := dk_seg dksL_law_35 24 rfl rfl
theorem dksL_law_37 : bcL_law.data.toList.drop 1027 = dktL_law_37 := dk_seg dksL_law_36 24 rfl rfl
theorem dksL_law_38 : bcL_law.data.toList.drop 1051 = dktL_law_38 := dk_seg dksL_law_37 24 rfl rfl
theorem dksL_law_39 : bcL_law.data.toList.drop 1073 = dktL_law_39 := dk_seg dksL_law_38 22 rfl rfl
theorem dksL_law_40 : bcL_law.data.toList.drop 1096 = dktL_law_40 := dk_seg dksL_law_39 23 rfl rfl
theorem dksL_law_41 : bcL_law.data.toList.drop 1120 = dktL_law_41 := dk_seg dksL_law_40 24 rfl rfl
theorem dksL_law_42 : bcL_law.data.toList.drop 1142 = dktL_law_42 := dk_seg dksL_law_41 22 rfl rfl
theorem dksL_law_43 : bcL_law.data.toList.drop 1166 = dktL_law_43 := dk_seg dksL_law_42 24 rfl rfl
theorem dksL_law_44 : bcL_law.data.toList.drop 1188 = dktL_law_44 := dk_seg dksL_law_43 22 rfl rfl
theorem dksL_law_45 : bcL_law.data.toList.drop 1212 = dktL_law_45 := dk_seg dksL_law_44 24 rfl rfl
theorem dksL_law_46 : bcL_law.data.toList.drop 1236 = dktL_law_46 := dk_seg dksL_law_45 24 rfl rfl
theorem dksL_law_47 : bcL_law.data.toList.drop 1260 = dktL_law_47 := dk_seg dksL_law_46 24 rfl rfl
theorem dksL_law_48 : bcL_law.data.toList.drop 1284 = dktL_law_48 := dk_seg dksL_law_47 24 rfl rfl
theorem dksL_law_49 : bcL_law.data.toList.drop 1307 = dktL_law_49 := dk_seg dksL_law_48 23 rfl rfl
theorem dksL_law_50 : bcL_law.data.toList.drop 1331 = dktL_law_50 := dk_seg dksL_law_49 24 rfl rfl
theorem dksL_law_51 : bcL_law.data.toList.drop 1355 = dktL_law_51 := dk_seg dksL_law_50 24 rfl rfl
theorem dksL_law_52 : bcL_law.data.toList.drop 1377 = dktL_law_52 := dk_seg dksL_law_51 22 rfl rfl
theorem dksL_law_53 : bcL_law.data.toList.drop 1401 = dktL_law_53 := dk_seg dksL_law_52 24 rfl rfl
theorem dksL_law_54 : bcL_law.data.toList.drop 1425 = dktL_law_54 := dk_seg dksL_law_53 24 rfl rfl
theorem dksL_law_55 : bcL_law.data.toList.drop 1447 = dktL_law_55 := dk_seg dksL_law_54 22 rfl rfl
theorem dksL_law_56 : bcL_law.data.toList.drop 1471 = dktL_law_56 := dk_seg dksL_law_55 24 rfl rfl
theorem dksL_law_57 : bcL_law.data.toList.drop 1494 = dktL_law_57 := dk_seg dksL_law_56 23 rfl rfl
theorem dksL_law_58 : bcL_law.data.toList.drop 1518 = dktL_law_58 := dk_seg dksL_law_57 24 rfl rfl
theorem dL_law_0 : decode bcL_law 0 = .ok (.new 8, 3) := dk_187 0 8 (dk_at dksL_law_0 0 rfl rfl)
theorem dL_law_3 : decode bcL_law 3 = .ok (.dup, 1) := dk_89 (dk_at dksL_law_0 3 rfl rfl)
theorem dL_law_4 : decode bcL_law 4 = .ok (.invokespecial 15, 3) := dk_183 0 15 (dk_at dksL_law_0 4 rfl rfl)
theorem dL_law_7 : decode bcL_law 7 = .ok (.astore_n 1, 1) := dk_76 (dk_at dksL_law_0 7 rfl rfl)
theorem dL_law_8 : decode bcL_law 8 = .ok (.new 16, 3) := dk_187 0 16 (dk_at dksL_law_0 8 rfl rfl)
theorem dL_law_11 : decode bcL_law 11 = .ok (.dup, 1) := dk_89 (dk_at dksL_law_0 11 rfl rfl)
theorem dL_law_12 : decode bcL_law 12 = .ok (.invokespecial 18, 3) := dk_183 0 18 (dk_at dksL_law_0 12 rfl rfl)
theorem dL_law_15 : decode bcL_law 15 = .ok (.astore_n 2, 1) := dk_77 (dk_at dksL_law_0 15 rfl rfl)
theorem dL_law_16 : decode bcL_law 16 = .ok (.iconst 1, 1) := dk_4 (dk_at dksL_law_0 16 rfl rfl)
theorem dL_law_17 : decode bcL_law 17 = .ok (.newarray .long, 2) := dk_188_11 (dk_at dksL_law_0 17 rfl rfl)
theorem dL_law_19 : decode bcL_law 19 = .ok (.astore_n 3, 1) := dk_78 (dk_at dksL_law_0 19 rfl rfl)
theorem dL_law_20 : decode bcL_law 20 = .ok (.iconst 0, 1) := dk_3 (dk_at dksL_law_0 20 rfl rfl)
theorem dL_law_21 : decode bcL_law 21 = .ok (.istore 4, 2) := dk_54 4 (dk_at dksL_law_0 21 rfl rfl)
theorem dL_law_23 : decode bcL_law 23 = .ok (.iload 4, 2) := dk_21 4 (dk_at dksL_law_1 0 rfl rfl)
theorem dL_law_25 : decode bcL_law 25 = .ok (.aload_n 0, 1) := dk_42 (dk_at dksL_law_1 2 rfl rfl)
theorem dL_law_26 : decode bcL_law 26 = .ok (.arraylength, 1) := dk_190 (dk_at dksL_law_1 3 rfl rfl)
theorem dL_law_27 : decode bcL_law 27 = .ok (.bipush 7, 2) := dk_16 7 (dk_at dksL_law_1 4 rfl rfl)
theorem dL_law_29 : decode bcL_law 29 = .ok (.isub, 1) := dk_100 (dk_at dksL_law_1 6 rfl rfl)
theorem dL_law_30 : decode bcL_law 30 = .ok (.if_icmp .gt 1488, 3) := dk_163 5 208 (dk_at dksL_law_1 7 rfl rfl)
theorem dL_law_33 : decode bcL_law 33 = .ok (.aload_n 0, 1) := dk_42 (dk_at dksL_law_1 10 rfl rfl)
theorem dL_law_34 : decode bcL_law 34 = .ok (.iload 4, 2) := dk_21 4 (dk_at dksL_law_1 11 rfl rfl)
theorem dL_law_36 : decode bcL_law 36 = .ok (.iaload, 1) := dk_46 (dk_at dksL_law_1 13 rfl rfl)
theorem dL_law_37 : decode bcL_law 37 = .ok (.bipush 63, 2) := dk_16 63 (dk_at dksL_law_1 14 rfl rfl)
theorem dL_law_39 : decode bcL_law 39 = .ok (.iand, 1) := dk_126 (dk_at dksL_law_1 16 rfl rfl)
theorem dL_law_40 : decode bcL_law 40 = .ok (.tableswitch 1472 0 42 #[188, 335, 348, 361, 398, 423, 436, 473, 498, 523, 548, 561, 586, 599, 624, 649, 686, 711, 736, 749, 762, 799, 836, 873, 910, 947, 1012, 1025, 1038, 1075, 1088, 1101, 1114, 1127, 1140, 1153, 1166, 1191, 1204, 1253, 1345, 1394, 1447], 188) := by decide +kernel
theorem dL_law_228 : decode bcL_law 228 = .ok (.aload_n 1, 1) := dk_43 (dk_at dksL_law_3 0 rfl rfl)
theorem dL_law_229 : decode bcL_law 229 = .ok (.aload_n 0, 1) := dk_42 (dk_at dksL_law_3 1 rfl rfl)
theorem dL_law_230 : decode bcL_law 230 = .ok (.iload 4, 2) := dk_21 4 (dk_at dksL_law_3 2 rfl rfl)
theorem dL_law_232 : decode bcL_law 232 = .ok (.iconst 1, 1) := dk_4 (dk_at dksL_law_3 4 rfl rfl)
theorem dL_law_233 : decode bcL_law 233 = .ok (.iadd, 1) := dk_96 (dk_at dksL_law_3 5 rfl rfl)
theorem dL_law_234 : decode bcL_law 234 = .ok (.iaload, 1) := dk_46 (dk_at dksL_law_3 6 rfl rfl)
theorem dL_law_235 : decode bcL_law 235 = .ok (.i2l, 1) := dk_133 (dk_at dksL_law_3 7 rfl rfl)
theorem dL_law_236 : decode bcL_law 236 = .ok (.bipush 32, 2) := dk_16 32 (dk_at dksL_law_3 8 rfl rfl)
theorem dL_law_238 : decode bcL_law 238 = .ok (.lshl, 1) := dk_121 (dk_at dksL_law_3 10 rfl rfl)
theorem dL_law_239 : decode bcL_law 239 = .ok (.aload_n 0, 1) := dk_42 (dk_at dksL_law_3 11 rfl rfl)
theorem dL_law_240 : decode bcL_law 240 = .ok (.iload 4, 2) := dk_21 4 (dk_at dksL_law_3 12 rfl rfl)
theorem dL_law_242 : decode bcL_law 242 = .ok (.iconst 2, 1) := dk_5 (dk_at dksL_law_3 14 rfl rfl)
theorem dL_law_243 : decode bcL_law 243 = .ok (.iadd, 1) := dk_96 (dk_at dksL_law_3 15 rfl rfl)
theorem dL_law_244 : decode bcL_law 244 = .ok (.iaload, 1) := dk_46 (dk_at dksL_law_3 16 rfl rfl)
theorem dL_law_245 : decode bcL_law 245 = .ok (.i2l, 1) := dk_133 (dk_at dksL_law_3 17 rfl rfl)
theorem dL_law_246 : decode bcL_law 246 = .ok (.ldc2_w 19, 3) := dk_20 0 19 (dk_at dksL_law_3 18 rfl rfl)
theorem dL_law_249 : decode bcL_law 249 = .ok (.land, 1) := dk_127 (dk_at dksL_law_3 21 rfl rfl)
theorem dL_law_250 : decode bcL_law 250 = .ok (.lor, 1) := dk_129 (dk_at dksL_law_3 22 rfl rfl)
theorem dL_law_251 : decode bcL_law 251 = .ok (.aload_n 0, 1) := dk_42 (dk_at dksL_law_3 23 rfl rfl)
theorem dL_law_252 : decode bcL_law 252 = .ok (.iload 4, 2) := dk_21 4 (dk_at dksL_law_4 0 rfl rfl)
theorem dL_law_254 : decode bcL_law 254 = .ok (.iconst 3, 1) := dk_6 (dk_at dksL_law_4 2 rfl rfl)
theorem dL_law_255 : decode bcL_law 255 = .ok (.iadd, 1) := dk_96 (dk_at dksL_law_4 3 rfl rfl)
theorem dL_law_256 : decode bcL_law 256 = .ok (.iaload, 1) := dk_46 (dk_at dksL_law_4 4 rfl rfl)
theorem dL_law_257 : decode bcL_law 257 = .ok (.i2l, 1) := dk_133 (dk_at dksL_law_4 5 rfl rfl)
theorem dL_law_258 : decode bcL_law 258 = .ok (.bipush 32, 2) := dk_16 32 (dk_at dksL_law_4 6 rfl rfl)
theorem dL_law_260 : decode bcL_law 260 = .ok (.lshl, 1) := dk_121 (dk_at dksL_law_4 8 rfl rfl)
theorem dL_law_261 : decode bcL_law 261 = .ok (.aload_n 0, 1) := dk_42 (dk_at dksL_law_4 9 rfl rfl)
theorem dL_law_262 : decode bcL_law 262 = .ok (.iload 4, 2) := dk_21 4 (dk_at dksL_law_4 10 rfl rfl)
theorem dL_law_264 : decode bcL_law 264 = .ok (.iconst 4, 1) := dk_7 (dk_at dksL_law_4 12 rfl rfl)
theorem dL_law_265 : decode bcL_law 265 = .ok (.iadd, 1) := dk_96 (dk_at dksL_law_4 13 rfl rfl)
theorem dL_law_266 : decode bcL_law 266 = .ok (.iaload, 1) := dk_46 (dk_at dksL_law_4 14 rfl rfl)
theorem dL_law_267 : decode bcL_law 267 = .ok (.i2l, 1) := dk_133 (dk_at dksL_law_4 15 rfl rfl)
theorem dL_law_268 : decode bcL_law 268 = .ok (.ldc2_w 19, 3) := dk_20 0 19 (dk_at dksL_law_4 16 rfl rfl)
theorem dL_law_271 : decode bcL_law 271 = .ok (.land, 1) := dk_127 (dk_at dksL_law_4 19 rfl rfl)
theorem dL_law_272 : decode bcL_law 272 = .ok (.lor, 1) := dk_129 (dk_at dksL_law_4 20 rfl rfl)
theorem dL_law_273 : decode bcL_law 273 = .ok (.aload_n 0, 1) := dk_42 (dk_at dksL_law_4 21 rfl rfl)
theorem dL_law_274 : decode bcL_law 274 = .ok (.iload 4, 2) := dk_21 4 (dk_at dksL_law_4 22 rfl rfl)
theorem dL_law_276 : decode bcL_law 276 = .ok (.iconst 5, 1) := dk_8 (dk_at dksL_law_5 0 rfl rfl)
theorem dL_law_277 : decode bcL_law 277 = .ok (.iadd, 1) := dk_96 (dk_at dksL_law_5 1 rfl rfl)
theorem dL_law_278 : decode bcL_law 278 = .ok (.iaload, 1) := dk_46 (dk_at dksL_law_5 2 rfl rfl)
theorem dL_law_279 : decode bcL_law 279 = .ok (.i2l, 1) := dk_133 (dk_at dksL_law_5 3 rfl rfl)
theorem dL_law_280 : decode bcL_law 280 = .ok (.bipush 32, 2) := dk_16 32 (dk_at dksL_law_5 4 rfl rfl)
theorem dL_law_282 : decode bcL_law 282 = .ok (.lshl, 1) := dk_121 (dk_at dksL_law_5 6 rfl rfl)
theorem dL_law_283 : decode bcL_law 283 = .ok (.aload_n 0, 1) := dk_42 (dk_at dksL_law_5 7 rfl rfl)
theorem dL_law_284 : decode bcL_law 284 = .ok (.iload 4, 2) := dk_21 4 (dk_at dksL_law_5 8 rfl rfl)
theorem dL_law_286 : decode bcL_law 286 = .ok (.bipush 6, 2) := dk_16 6 (dk_at dksL_law_5 10 rfl rfl)
theorem dL_law_288 : decode bcL_law 288 = .ok (.iadd, 1) := dk_96 (dk_at dksL_law_5 12 rfl rfl)
theorem dL_law_289 : decode bcL_law 289 = .ok (.iaload, 1) := dk_46 (dk_at dksL_law_5 13 rfl rfl)
theorem dL_law_290 : decode bcL_law 290 = .ok (.i2l, 1) := dk_133 (dk_at dksL_law_5 14 rfl rfl)
theorem dL_law_291 : decode bcL_law 291 = .ok (.ldc2_w 19, 3) := dk_20 0 19 (dk_at dksL_law_5 15 rfl rfl)
theorem dL_law_294 : decode bcL_law 294 = .ok (.land, 1) := dk_127 (dk_at dksL_law_5 18 rfl rfl)
theorem dL_law_295 : decode bcL_law 295 = .ok (.lor, 1) := dk_129 (dk_at dksL_law_5 19 rfl rfl)
theorem dL_law_296 : decode bcL_law 296 = .ok (.invokevirtual 21, 3) := dk_182 0 21 (dk_at dksL_law_5 20 rfl rfl)
theorem dL_law_299 : decode bcL_law 299 = .ok (.aload_n 2, 1) := dk_44 (dk_at dksL_law_5 23 rfl rfl)
theorem dL_law_300 : decode bcL_law 300 = .ok (.aload_n 0, 1) := dk_42 (dk_at dksL_law_6 0 rfl rfl)
theorem dL_law_301 : decode bcL_law 301 = .ok (.iload 4, 2) := dk_21 4 (dk_at dksL_law_6 1 rfl rfl)
theorem dL_law_303 : decode bcL_law 303 = .ok (.iconst 1, 1) := dk_4 (dk_at dksL_law_6 3 rfl rfl)
theorem dL_law_304 : decode bcL_law 304 = .ok (.iadd, 1) := dk_96 (dk_at dksL_law_6 4 rfl rfl)
theorem dL_law_305 : decode bcL_law 305 = .ok (.iaload, 1) := dk_46 (dk_at dksL_law_6 5 rfl rfl)
theorem dL_law_306 : decode bcL_law 306 = .ok (.i2l, 1) := dk_133 (dk_at dksL_law_6 6 rfl rfl)
theorem dL_law_307 : decode bcL_law 307 = .ok (.bipush 32, 2) := dk_16 32 (dk_at dksL_law_6 7 rfl rfl)
theorem dL_law_309 : decode bcL_law 309 = .ok (.lshl, 1) := dk_121 (dk_at dksL_law_6 9 rfl rfl)
theorem dL_law_310 : decode bcL_law 310 = .ok (.aload_n 0, 1) := dk_42 (dk_at dksL_law_6 10 rfl rfl)
theorem dL_law_311 : decode bcL_law 311 = .ok (.iload 4, 2) := dk_21 4 (dk_at dksL_law_6 11 rfl rfl)
theorem dL_law_313 : decode bcL_law 313 = .ok (.iconst 2, 1) := dk_5 (dk_at dksL_law_6 13 rfl rfl)
theorem dL_law_314 : decode bcL_law 314 = .ok (.iadd, 1) := dk_96 (dk_at dksL_law_6 14 rfl rfl)
theorem dL_law_315 : decode bcL_law 315 = .ok (.iaload, 1) := dk_46 (dk_at dksL_law_6 15 rfl rfl)
theorem dL_law_316 : decode bcL_law 316 = .ok (.i2l, 1) := dk_133 (dk_at dksL_law_6 16 rfl rfl)
theorem dL_law_317 : decode bcL_law 317 = .ok (.ldc2_w 19, 3) := dk_20 0 19 (dk_at dksL_law_6 17 rfl rfl)
theorem dL_law_320 : decode bcL_law 320 = .ok (.land, 1) := dk_127 (dk_at dksL_law_6 20 rfl rfl)
theorem dL_law_321 : decode bcL_law 321 = .ok (.lor, 1) := dk_129 (dk_at dksL_law_6 21 rfl rfl)
theorem dL_law_322 : decode bcL_law 322 = .ok (.aload_n 0, 1) := dk_42 (dk_at dksL_law_6 22 rfl rfl)
theorem dL_law_323 : decode bcL_law 323 = .ok (.iload 4, 2) := dk_21 4 (dk_at dksL_law_7 0 rfl rfl)
theorem dL_law_325 : decode bcL_law 325 = .ok (.iconst 3, 1) := dk_6 (dk_at dksL_law_7 2 rfl rfl)
theorem dL_law_326 : decode bcL_law 326 = .ok (.iadd, 1) := dk_96 (dk_at dksL_law_7 3 rfl rfl)
theorem dL_law_327 : decode bcL_law 327 = .ok (.iaload, 1) := dk_46 (dk_at dksL_law_7 4 rfl rfl)
theorem dL_law_328 : decode bcL_law 328 = .ok (.i2l, 1) := dk_133 (dk_at dksL_law_7 5 rfl rfl)
theorem dL_law_329 : decode bcL_law 329 = .ok (.bipush 32, 2) := dk_16 32 (dk_at dksL_law_7 6 rfl rfl)
theorem dL_law_331 : decode bcL_law 331 = .ok (.lshl, 1) := dk_121 (dk_at dksL_law_7 8 rfl rfl)
theorem dL_law_332 : decode bcL_law 332 = .ok (.aload_n 0, 1) := dk_42 (dk_at dksL_law_7 9 rfl rfl)
theorem dL_law_333 : decode bcL_law 333 = .ok (.iload 4, 2) := dk_21 4 (dk_at dksL_law_7 10 rfl rfl)
theorem dL_law_335 : decode bcL_law 335 = .ok (.iconst 4, 1) := dk_7 (dk_at dksL_law_7 12 rfl rfl)
theorem dL_law_336 : decode bcL_law 336 = .ok (.iadd, 1) := dk_96 (dk_at dksL_law_7 13 rfl rfl)
theorem dL_law_337 : decode bcL_law 337 = .ok (.iaload, 1) := dk_46 (dk_at dksL_law_7 14 rfl rfl)
theorem dL_law_338 : decode bcL_law 338 = .ok (.i2l, 1) := dk_133 (dk_at dksL_law_7 15 rfl rfl)
theorem dL_law_339 : decode bcL_law 339 = .ok (.ldc2_w 19, 3) := dk_20 0 19 (dk_at dksL_law_7 16 rfl rfl)
theorem dL_law_342 : decode bcL_law 342 = .ok (.land, 1) := dk_127 (dk_at dksL_law_7 19 rfl rfl)
theorem dL_law_343 : decode bcL_law 343 = .ok (.lor, 1) := dk_129 (dk_at dksL_law_7 20 rfl rfl)
theorem dL_law_344 : decode bcL_law 344 = .ok (.aload_n 0, 1) := dk_42 (dk_at dksL_law_7 21 rfl rfl)
theorem dL_law_345 : decode bcL_law 345 = .ok (.iload 4, 2) := dk_21 4 (dk_at dksL_law_7 22 rfl rfl)
theorem dL_law_347 : decode bcL_law 347 = .ok (.iconst 5, 1) := dk_8 (dk_at dksL_law_8 0 rfl rfl)
theorem dL_law_348 : decode bcL_law 348 = .ok (.iadd, 1) := dk_96 (dk_at dksL_law_8 1 rfl rfl)
theorem dL_law_349 : decode bcL_law 349 = .ok (.iaload, 1) := dk_46 (dk_at dksL_law_8 2 rfl rfl)
theorem dL_law_350 : decode bcL_law 350 = .ok (.i2l, 1) := dk_133 (dk_at dksL_law_8 3 rfl rfl)
theorem dL_law_351 : decode bcL_law 351 = .ok (.bipush 32, 2) := dk_16 32 (dk_at dksL_law_8 4 rfl rfl)
theorem dL_law_353 : decode bcL_law 353 = .ok (.lshl, 1) := dk_121 (dk_at dksL_law_8 6 rfl rfl)
theorem dL_law_354 : decode bcL_law 354 = .ok (.aload_n 0, 1) := dk_42 (dk_at dksL_law_8 7 rfl rfl)
theorem dL_law_355 : decode bcL_law 355 = .ok (.iload 4, 2) := dk_21 4 (dk_at dksL_law_8 8 rfl rfl)
theorem dL_law_357 : decode bcL_law 357 = .ok (.bipush 6, 2) := dk_16 6 (dk_at dksL_law_8 10 rfl rfl)
theorem dL_law_359 : decode bcL_law 359 = .ok (.iadd, 1) := dk_96 (dk_at dksL_law_8 12 rfl rfl)
theorem dL_law_360 : decode bcL_law 360 = .ok (.iaload, 1) := dk_46 (dk_at dksL_law_8 13 rfl rfl)
theorem dL_law_361 : decode bcL_law 361 = .ok (.i2l, 1) := dk_133 (dk_at dksL_law_8 14 rfl rfl)
theorem dL_law_362 : decode bcL_law 362 = .ok (.ldc2_w 19, 3) := dk_20 0 19 (dk_at dksL_law_8 15 rfl rfl)
theorem dL_law_365 : decode bcL_law 365 = .ok (.land, 1) := dk_127 (dk_at dksL_law_8 18 rfl rfl)
theorem dL_law_366 : decode bcL_law 366 = .ok (.lor, 1) := dk_129 (dk_at dksL_law_8 19 rfl rfl)
theorem dL_law_367 : decode bcL_law 367 = .ok (.invokevirtual 25, 3) := dk_182 0 25 (dk_at dksL_law_8 20 rfl rfl)
theorem dL_law_370 : decode bcL_law 370 = .ok (.if_icmp .eq 1142, 3) := dk_159 4 118 (dk_at dksL_law_9 0 rfl rfl)
theorem dL_law_373 : decode bcL_law 373 = .ok (.iconst 0, 1) := dk_3 (dk_at dksL_law_9 3 rfl rfl)
theorem dL_law_374 : decode bcL_law 374 = .ok (.ireturn, 1) := dk_172 (dk_at dksL_law_9 4 rfl rfl)
theorem dL_law_375 : decode bcL_law 375 = .ok (.aload_n 1, 1) := dk_43 (dk_at dksL_law_9 5 rfl rfl)
theorem dL_law_376 : decode bcL_law 376 = .ok (.invokevirtual 26, 3) := dk_182 0 26 (dk_at dksL_law_9 6 rfl rfl)
theorem dL_law_379 : decode bcL_law 379 = .ok (.aload_n 2, 1) := dk_44 (dk_at dksL_law_9 9 rfl rfl)
theorem dL_law_380 : decode bcL_law 380 = .ok (.invokevirtual 30, 3) := dk_182 0 30 (dk_at dksL_law_9 10 rfl rfl)
theorem dL_law_383 : decode bcL_law 383 = .ok (.if_icmp .eq 1129, 3) := dk_159 4 105 (dk_at dksL_law_9 13 rfl rfl)
theorem dL_law_386 : decode bcL_law 386 = .ok (.iconst 0, 1) := dk_3 (dk_at dksL_law_9 16 rfl rfl)
theorem dL_law_387 : decode bcL_law 387 = .ok (.ireturn, 1) := dk_172 (dk_at dksL_law_9 17 rfl rfl)
theorem dL_law_388 : decode bcL_law 388 = .ok (.aload_n 1, 1) := dk_43 (dk_at dksL_law_9 18 rfl rfl)
theorem dL_law_389 : decode bcL_law 389 = .ok (.invokevirtual 31, 3) := dk_182 0 31 (dk_at dksL_law_9 19 rfl rfl)
theorem dL_law_392 : decode bcL_law 392 = .ok (.aload_n 2, 1) := dk_44 (dk_at dksL_law_9 22 rfl rfl)
theorem dL_law_393 : decode bcL_law 393 = .ok (.invokevirtual 34, 3) := dk_182 0 34 (dk_at dksL_law_10 0 rfl rfl)
theorem dL_law_396 : decode bcL_law 396 = .ok (.if_icmp .eq 1116, 3) := dk_159 4 92 (dk_at dksL_law_10 3 rfl rfl)
theorem dL_law_399 : decode bcL_law 399 = .ok (.iconst 0, 1) := dk_3 (dk_at dksL_law_10 6 rfl rfl)
theorem dL_law_400 : decode bcL_law 400 = .ok (.ireturn, 1) := dk_172 (dk_at dksL_law_10 7 rfl rfl)
theorem dL_law_401 : decode bcL_law 401 = .ok (.aload_n 1, 1) := dk_43 (dk_at dksL_law_10 8 rfl rfl)
theorem dL_law_402 : decode bcL_law 402 = .ok (.aload_n 0, 1) := dk_42 (dk_at dksL_law_10 9 rfl rfl)
theorem dL_law_403 : decode bcL_law 403 = .ok (.iload 4, 2) := dk_21 4 (dk_at dksL_law_10 10 rfl rfl)
theorem dL_law_405 : decode bcL_law 405 = .ok (.iconst 1, 1) := dk_4 (dk_at dksL_law_10 12 rfl rfl)
theorem dL_law_406 : decode bcL_law 406 = .ok (.iadd, 1) := dk_96 (dk_at dksL_law_10 13 rfl rfl)
theorem dL_law_407 : decode bcL_law 407 = .ok (.iaload, 1) := dk_46 (dk_at dksL_law_10 14 rfl rfl)
theorem dL_law_408 : decode bcL_law 408 = .ok (.aload_n 0, 1) := dk_42 (dk_at dksL_law_10 15 rfl rfl)
theorem dL_law_409 : decode bcL_law 409 = .ok (.iload 4, 2) := dk_21 4 (dk_at dksL_law_10 16 rfl rfl)
theorem dL_law_411 : decode bcL_law 411 = .ok (.iconst 2, 1) := dk_5 (dk_at dksL_law_10 18 rfl rfl)
theorem dL_law_412 : decode bcL_law 412 = .ok (.iadd, 1) := dk_96 (dk_at dksL_law_10 19 rfl rfl)
theorem dL_law_413 : decode bcL_law 413 = .ok (.iaload, 1) := dk_46 (dk_at dksL_law_10 20 rfl rfl)
theorem dL_law_414 : decode bcL_law 414 = .ok (.invokevirtual 35, 3) := dk_182 0 35 (dk_at dksL_law_10 21 rfl rfl)
theorem dL_law_417 : decode bcL_law 417 = .ok (.aload_n 2, 1) := dk_44 (dk_at dksL_law_11 0 rfl rfl)
theorem dL_law_418 : decode bcL_law 418 = .ok (.aload_n 0, 1) := dk_42 (dk_at dksL_law_11 1 rfl rfl)
theorem dL_law_419 : decode bcL_law 419 = .ok (.iload 4, 2) := dk_21 4 (dk_at dksL_law_11 2 rfl rfl)
theorem dL_law_421 : decode bcL_law 421 = .ok (.iconst 1, 1) := dk_4 (dk_at dksL_law_11 4 rfl rfl)
theorem dL_law_422 : decode bcL_law 422 = .ok (.iadd, 1) := dk_96 (dk_at dksL_law_11 5 rfl rfl)
theorem dL_law_423 : decode bcL_law 423 = .ok (.iaload, 1) := dk_46 (dk_at dksL_law_11 6 rfl rfl)
theorem dL_law_424 : decode bcL_law 424 = .ok (.aload_n 0, 1) := dk_42 (dk_at dksL_law_11 7 rfl rfl)
theorem dL_law_425 : decode bcL_law 425 = .ok (.iload 4, 2) := dk_21 4 (dk_at dksL_law_11 8 rfl rfl)
theorem dL_law_427 : decode bcL_law 427 = .ok (.iconst 2, 1) := dk_5 (dk_at dksL_law_11 10 rfl rfl)
theorem dL_law_428 : decode bcL_law 428 = .ok (.iadd, 1) := dk_96 (dk_at dksL_law_11 11 rfl rfl)
theorem dL_law_429 : decode bcL_law 429 = .ok (.iaload, 1) := dk_46 (dk_at dksL_law_11 12 rfl rfl)
theorem dL_law_430 : decode bcL_law 430 = .ok (.invokevirtual 39, 3) := dk_182 0 39 (dk_at dksL_law_11 13 rfl rfl)
theorem dL_law_433 : decode bcL_law 433 = .ok (.if_icmp .eq 1079, 3) := dk_159 4 55 (dk_at dksL_law_11 16 rfl rfl)
theorem dL_law_436 : decode bcL_law 436 = .ok (.iconst 0, 1) := dk_3 (dk_at dksL_law_11 19 rfl rfl)
theorem dL_law_437 : decode bcL_law 437 = .ok (.ireturn, 1) := dk_172 (dk_at dksL_law_11 20 rfl rfl)
theorem dL_law_438 : decode bcL_law 438 = .ok (.aload_n 1, 1) := dk_43 (dk_at dksL_law_11 21 rfl rfl)
theorem dL_law_439 : decode bcL_law 439 = .ok (.aload_n 0, 1) := dk_42 (dk_at dksL_law_11 22 rfl rfl)
theorem dL_law_440 : decode bcL_law 440 = .ok (.iload 4, 2) := dk_21 4 (dk_at dksL_law_12 0 rfl rfl)
theorem dL_law_442 : decode bcL_law 442 = .ok (.iconst 1, 1) := dk_4 (dk_at dksL_law_12 2 rfl rfl)
theorem dL_law_443 : decode bcL_law 443 = .ok (.iadd, 1) := dk_96 (dk_at dksL_law_12 3 rfl rfl)
theorem dL_law_444 : decode bcL_law 444 = .ok (.iaload, 1) := dk_46 (dk_at dksL_law_12 4 rfl rfl)
theorem dL_law_445 : decode bcL_law 445 = .ok (.invokevirtual 40, 3) := dk_182 0 40 (dk_at dksL_law_12 5 rfl rfl)
theorem dL_law_448 : decode bcL_law 448 = .ok (.aload_n 2, 1) := dk_44 (dk_at dksL_law_12 8 rfl rfl)
theorem dL_law_449 : decode bcL_law 449 = .ok (.aload_n 0, 1) := dk_42 (dk_at dksL_law_12 9 rfl rfl)
theorem dL_law_450 : decode bcL_law 450 = .ok (.iload 4, 2) := dk_21 4 (dk_at dksL_law_12 10 rfl rfl)
theorem dL_law_452 : decode bcL_law 452 = .ok (.iconst 1, 1) := dk_4 (dk_at dksL_law_12 12 rfl rfl)
theorem dL_law_453 : decode bcL_law 453 = .ok (.iadd, 1) := dk_96 (dk_at dksL_law_12 13 rfl rfl)
theorem dL_law_454 : decode bcL_law 454 = .ok (.iaload, 1) := dk_46 (dk_at dksL_law_12 14 rfl rfl)
theorem dL_law_455 : decode bcL_law 455 = .ok (.invokevirtual 44, 3) := dk_182 0 44 (dk_at dksL_law_12 15 rfl rfl)
theorem dL_law_458 : decode bcL_law 458 = .ok (.if_icmp .eq 1054, 3) := dk_159 4 30 (dk_at dksL_law_12 18 rfl rfl)
theorem dL_law_461 : decode bcL_law 461 = .ok (.iconst 0, 1) := dk_3 (dk_at dksL_law_12 21 rfl rfl)
theorem dL_law_462 : decode bcL_law 462 = .ok (.ireturn, 1) := dk_172 (dk_at dksL_law_12 22 rfl rfl)
theorem dL_law_463 : decode bcL_law 463 = .ok (.aload_n 1, 1) := dk_43 (dk_at dksL_law_12 23 rfl rfl)
theorem dL_law_464 : decode bcL_law 464 = .ok (.invokevirtual 45, 3) := dk_182 0 45 (dk_at dksL_law_13 0 rfl rfl)
theorem dL_law_467 : decode bcL_law 467 = .ok (.aload_n 2, 1) := dk_44 (dk_at dksL_law_13 3 rfl rfl)
theorem dL_law_468 : decode bcL_law 468 = .ok (.invokevirtual 48, 3) := dk_182 0 48 (dk_at dksL_law_13 4 rfl rfl)
theorem dL_law_471 : decode bcL_law 471 = .ok (.if_icmp .eq 1041, 3) := dk_159 4 17 (dk_at dksL_law_13 7 rfl rfl)
theorem dL_law_474 : decode bcL_law 474 = .ok (.iconst 0, 1) := dk_3 (dk_at dksL_law_13 10 rfl rfl)
theorem dL_law_475 : decode bcL_law 475 = .ok (.ireturn, 1) := dk_172 (dk_at dksL_law_13 11 rfl rfl)
theorem dL_law_476 : decode bcL_law 476 = .ok (.aload_n 1, 1) := dk_43 (dk_at dksL_law_13 12 rfl rfl)
theorem dL_law_477 : decode bcL_law 477 = .ok (.aload_n 0, 1) := dk_42 (dk_at dksL_law_13 13 rfl rfl)
theorem dL_law_478 : decode bcL_law 478 = .ok (.iload 4, 2) := dk_21 4 (dk_at dksL_law_13 14 rfl rfl)
theorem dL_law_480 : decode bcL_law 480 = .ok (.iconst 1, 1) := dk_4 (dk_at dksL_law_13 16 rfl rfl)
theorem dL_law_481 : decode bcL_law 481 = .ok (.iadd, 1) := dk_96 (dk_at dksL_law_13 17 rfl rfl)
theorem dL_law_482 : decode bcL_law 482 = .ok (.iaload, 1) := dk_46 (dk_at dksL_law_13 18 rfl rfl)
theorem dL_law_483 : decode bcL_law 483 = .ok (.aload_n 0, 1) := dk_42 (dk_at dksL_law_13 19 rfl rfl)
theorem dL_law_484 : decode bcL_law 484 = .ok (.iload 4, 2) := dk_21 4 (dk_at dksL_law_13 20 rfl rfl)
theorem dL_law_486 : decode bcL_law 486 = .ok (.iconst 2, 1) := dk_5 (dk_at dksL_law_13 22 rfl rfl)
theorem dL_law_487 : decode bcL_law 487 = .ok (.iadd, 1) := dk_96 (dk_at dksL_law_13 23 rfl rfl)
theorem dL_law_488 : decode bcL_law 488 = .ok (.iaload, 1) := dk_46 (dk_at dksL_law_14 0 rfl rfl)
theorem dL_law_489 : decode bcL_law 489 = .ok (.invokevirtual 49, 3) := dk_182 0 49 (dk_at dksL_law_14 1 rfl rfl)
theorem dL_law_492 : decode bcL_law 492 = .ok (.aload_n 2, 1) := dk_44 (dk_at dksL_law_14 4 rfl rfl)
theorem dL_law_493 : decode bcL_law 493 = .ok (.aload_n 0, 1) := dk_42 (dk_at dksL_law_14 5 rfl rfl)
theorem dL_law_494 : decode bcL_law 494 = .ok (.iload 4, 2) := dk_21 4 (dk_at dksL_law_14 6 rfl rfl)
theorem dL_law_496 : decode bcL_law 496 = .ok (.iconst 1, 1) := dk_4 (dk_at dksL_law_14 8 rfl rfl)
theorem dL_law_497 : decode bcL_law 497 = .ok (.iadd, 1) := dk_96 (dk_at dksL_law_14 9 rfl rfl)
theorem dL_law_498 : decode bcL_law 498 = .ok (.iaload, 1) := dk_46 (dk_at dksL_law_14 10 rfl rfl)
theorem dL_law_499 : decode bcL_law 499 = .ok (.aload_n 0, 1) := dk_42 (dk_at dksL_law_14 11 rfl rfl)
theorem dL_law_500 : decode bcL_law 500 = .ok (.iload 4, 2) := dk_21 4 (dk_at dksL_law_14 12 rfl rfl)
theorem dL_law_502 : decode bcL_law 502 = .ok (.iconst 2, 1) := dk_5 (dk_at dksL_law_14 14 rfl rfl)
theorem dL_law_503 : decode bcL_law 503 = .ok (.iadd, 1) := dk_96 (dk_at dksL_law_14 15 rfl rfl)
theorem dL_law_504 : decode bcL_law 504 = .ok (.iaload, 1) := dk_46 (dk_at dksL_law_14 16 rfl rfl)
theorem dL_law_505 : decode bcL_law 505 = .ok (.invokevirtual 52, 3) := dk_182 0 52 (dk_at dksL_law_14 17 rfl rfl)
theorem dL_law_508 : decode bcL_law 508 = .ok (.if_icmp .eq 1004, 3) := dk_159 3 236 (dk_at dksL_law_14 20 rfl rfl)
theorem dL_law_511 : decode bcL_law 511 = .ok (.iconst 0, 1) := dk_3 (dk_at dksL_law_14 23 rfl rfl)
theorem dL_law_512 : decode bcL_law 512 = .ok (.ireturn, 1) := dk_172 (dk_at dksL_law_15 0 rfl rfl)
theorem dL_law_513 : decode bcL_law 513 = .ok (.aload_n 1, 1) := dk_43 (dk_at dksL_law_15 1 rfl rfl)
theorem dL_law_514 : decode bcL_law 514 = .ok (.aload_n 0, 1) := dk_42 (dk_at dksL_law_15 2 rfl rfl)
theorem dL_law_515 : decode bcL_law 515 = .ok (.iload 4, 2) := dk_21 4 (dk_at dksL_law_15 3 rfl rfl)
theorem dL_law_517 : decode bcL_law 517 = .ok (.iconst 1, 1) := dk_4 (dk_at dksL_law_15 5 rfl rfl)
theorem dL_law_518 : decode bcL_law 518 = .ok (.iadd, 1) := dk_96 (dk_at dksL_law_15 6 rfl rfl)
theorem dL_law_519 : decode bcL_law 519 = .ok (.iaload, 1) := dk_46 (dk_at dksL_law_15 7 rfl rfl)
theorem dL_law_520 : decode bcL_law 520 = .ok (.invokevirtual 53, 3) := dk_182 0 53 (dk_at dksL_law_15 8 rfl rfl)
theorem dL_law_523 : decode bcL_law 523 = .ok (.aload_n 2, 1) := dk_44 (dk_at dksL_law_15 11 rfl rfl)
theorem dL_law_524 : decode bcL_law 524 = .ok (.aload_n 0, 1) := dk_42 (dk_at dksL_law_15 12 rfl rfl)
theorem dL_law_525 : decode bcL_law 525 = .ok (.iload 4, 2) := dk_21 4 (dk_at dksL_law_15 13 rfl rfl)
theorem dL_law_527 : decode bcL_law 527 = .ok (.iconst 1, 1) := dk_4 (dk_at dksL_law_15 15 rfl rfl)
theorem dL_law_528 : decode bcL_law 528 = .ok (.iadd, 1) := dk_96 (dk_at dksL_law_15 16 rfl rfl)
theorem dL_law_529 : decode bcL_law 529 = .ok (.iaload, 1) := dk_46 (dk_at dksL_law_15 17 rfl rfl)
theorem dL_law_530 : decode bcL_law 530 = .ok (.invokevirtual 56, 3) := dk_182 0 56 (dk_at dksL_law_15 18 rfl rfl)
theorem dL_law_533 : decode bcL_law 533 = .ok (.if_icmp .eq 979, 3) := dk_159 3 211 (dk_at dksL_law_15 21 rfl rfl)
theorem dL_law_536 : decode bcL_law 536 = .ok (.iconst 0, 1) := dk_3 (dk_at dksL_law_16 0 rfl rfl)
theorem dL_law_537 : decode bcL_law 537 = .ok (.ireturn, 1) := dk_172 (dk_at dksL_law_16 1 rfl rfl)
theorem dL_law_538 : decode bcL_law 538 = .ok (.aload_n 1, 1) := dk_43 (dk_at dksL_law_16 2 rfl rfl)
theorem dL_law_539 : decode bcL_law 539 = .ok (.aload_n 0, 1) := dk_42 (dk_at dksL_law_16 3 rfl rfl)
theorem dL_law_540 : decode bcL_law 540 = .ok (.iload 4, 2) := dk_21 4 (dk_at dksL_law_16 4 rfl rfl)
theorem dL_law_542 : decode bcL_law 542 = .ok (.iconst 1, 1) := dk_4 (dk_at dksL_law_16 6 rfl rfl)
theorem dL_law_543 : decode bcL_law 543 = .ok (.iadd, 1) := dk_96 (dk_at dksL_law_16 7 rfl rfl)
theorem dL_law_544 : decode bcL_law 544 = .ok (.iaload, 1) := dk_46 (dk_at dksL_law_16 8 rfl rfl)
theorem dL_law_545 : decode bcL_law 545 = .ok (.invokevirtual 57, 3) := dk_182 0 57 (dk_at dksL_law_16 9 rfl rfl)
theorem dL_law_548 : decode bcL_law 548 = .ok (.aload_n 2, 1) := dk_44 (dk_at dksL_law_16 12 rfl rfl)
theorem dL_law_549 : decode bcL_law 549 = .ok (.aload_n 0, 1) := dk_42 (dk_at dksL_law_16 13 rfl rfl)
theorem dL_law_550 : decode bcL_law 550 = .ok (.iload 4, 2) := dk_21 4 (dk_at dksL_law_16 14 rfl rfl)
theorem dL_law_552 : decode bcL_law 552 = .ok (.iconst 1, 1) := dk_4 (dk_at dksL_law_16 16 rfl rfl)
theorem dL_law_553 : decode bcL_law 553 = .ok (.iadd, 1) := dk_96 (dk_at dksL_law_16 17 rfl rfl)
theorem dL_law_554 : decode bcL_law 554 = .ok (.iaload, 1) := dk_46 (dk_at dksL_law_16 18 rfl rfl)
theorem dL_law_555 : decode bcL_law 555 = .ok (.invokevirtual 60, 3) := dk_182 0 60 (dk_at dksL_law_16 19 rfl rfl)
theorem dL_law_558 : decode bcL_law 558 = .ok (.if_icmp .eq 954, 3) := dk_159 3 186 (dk_at dksL_law_17 0 rfl rfl)
theorem dL_law_561 : decode bcL_law 561 = .ok (.iconst 0, 1) := dk_3 (dk_at dksL_law_17 3 rfl rfl)
theorem dL_law_562 : decode bcL_law 562 = .ok (.ireturn, 1) := dk_172 (dk_at dksL_law_17 4 rfl rfl)
theorem dL_law_563 : decode bcL_law 563 = .ok (.aload_n 1, 1) := dk_43 (dk_at dksL_law_17 5 rfl rfl)
theorem dL_law_564 : decode bcL_law 564 = .ok (.aload_n 0, 1) := dk_42 (dk_at dksL_law_17 6 rfl rfl)
theorem dL_law_565 : decode bcL_law 565 = .ok (.iload 4, 2) := dk_21 4 (dk_at dksL_law_17 7 rfl rfl)
theorem dL_law_567 : decode bcL_law 567 = .ok (.iconst 1, 1) := dk_4 (dk_at dksL_law_17 9 rfl rfl)
theorem dL_law_568 : decode bcL_law 568 = .ok (.iadd, 1) := dk_96 (dk_at dksL_law_17 10 rfl rfl)
theorem dL_law_569 : decode bcL_law 569 = .ok (.iaload, 1) := dk_46 (dk_at dksL_law_17 11 rfl rfl)
theorem dL_law_570 : decode bcL_law 570 = .ok (.invokevirtual 61, 3) := dk_182 0 61 (dk_at dksL_law_17 12 rfl rfl)
theorem dL_law_573 : decode bcL_law 573 = .ok (.aload_n 2, 1) := dk_44 (dk_at dksL_law_17 15 rfl rfl)
theorem dL_law_574 : decode bcL_law 574 = .ok (.aload_n 0, 1) := dk_42 (dk_at dksL_law_17 16 rfl rfl)
theorem dL_law_575 : decode bcL_law 575 = .ok (.iload 4, 2) := dk_21 4 (dk_at dksL_law_17 17 rfl rfl)
theorem dL_law_577 : decode bcL_law 577 = .ok (.iconst 1, 1) := dk_4 (dk_at dksL_law_17 19 rfl rfl)
theorem dL_law_578 : decode bcL_law 578 = .ok (.iadd, 1) := dk_96 (dk_at dksL_law_17 20 rfl rfl)
theorem dL_law_579 : decode bcL_law 579 = .ok (.iaload, 1) := dk_46 (dk_at dksL_law_17 21 rfl rfl)
theorem dL_law_580 : decode bcL_law 580 = .ok (.invokevirtual 64, 3) := dk_182 0 64 (dk_at dksL_law_18 0 rfl rfl)
theorem dL_law_583 : decode bcL_law 583 = .ok (.if_icmp .eq 929, 3) := dk_159 3 161 (dk_at dksL_law_18 3 rfl rfl)
theorem dL_law_586 : decode bcL_law 586 = .ok (.iconst 0, 1) := dk_3 (dk_at dksL_law_18 6 rfl rfl)
theorem dL_law_587 : decode bcL_law 587 = .ok (.ireturn, 1) := dk_172 (dk_at dksL_law_18 7 rfl rfl)
theorem dL_law_588 : decode bcL_law 588 = .ok (.aload_n 1, 1) := dk_43 (dk_at dksL_law_18 8 rfl rfl)
theorem dL_law_589 : decode bcL_law 589 = .ok (.invokevirtual 65, 3) := dk_182 0 65 (dk_at dksL_law_18 9 rfl rfl)
theorem dL_law_592 : decode bcL_law 592 = .ok (.aload_n 2, 1) := dk_44 (dk_at dksL_law_18 12 rfl rfl)
theorem dL_law_593 : decode bcL_law 593 = .ok (.invokevirtual 69, 3) := dk_182 0 69 (dk_at dksL_law_18 13 rfl rfl)
theorem dL_law_596 : decode bcL_law 596 = .ok (.if_icmp .eq 916, 3) := dk_159 3 148 (dk_at dksL_law_18 16 rfl rfl)
theorem dL_law_599 : decode bcL_law 599 = .ok (.iconst 0, 1) := dk_3 (dk_at dksL_law_18 19 rfl rfl)
theorem dL_law_600 : decode bcL_law 600 = .ok (.ireturn, 1) := dk_172 (dk_at dksL_law_18 20 rfl rfl)
theorem dL_law_601 : decode bcL_law 601 = .ok (.aload_n 1, 1) := dk_43 (dk_at dksL_law_18 21 rfl rfl)
theorem dL_law_602 : decode bcL_law 602 = .ok (.aload_n 0, 1) := dk_42 (dk_at dksL_law_18 22 rfl rfl)
theorem dL_law_603 : decode bcL_law 603 = .ok (.iload 4, 2) := dk_21 4 (dk_at dksL_law_19 0 rfl rfl)
theorem dL_law_605 : decode bcL_law 605 = .ok (.iconst 1, 1) := dk_4 (dk_at dksL_law_19 2 rfl rfl)
theorem dL_law_606 : decode bcL_law 606 = .ok (.iadd, 1) := dk_96 (dk_at dksL_law_19 3 rfl rfl)
theorem dL_law_607 : decode bcL_law 607 = .ok (.iaload, 1) := dk_46 (dk_at dksL_law_19 4 rfl rfl)
theorem dL_law_608 : decode bcL_law 608 = .ok (.invokevirtual 70, 3) := dk_182 0 70 (dk_at dksL_law_19 5 rfl rfl)
theorem dL_law_611 : decode bcL_law 611 = .ok (.aload_n 2, 1) := dk_44 (dk_at dksL_law_19 8 rfl rfl)
theorem dL_law_612 : decode bcL_law 612 = .ok (.aload_n 0, 1) := dk_42 (dk_at dksL_law_19 9 rfl rfl)
theorem dL_law_613 : decode bcL_law 613 = .ok (.iload 4, 2) := dk_21 4 (dk_at dksL_law_19 10 rfl rfl)
theorem dL_law_615 : decode bcL_law 615 = .ok (.iconst 1, 1) := dk_4 (dk_at dksL_law_19 12 rfl rfl)
theorem dL_law_616 : decode bcL_law 616 = .ok (.iadd, 1) := dk_96 (dk_at dksL_law_19 13 rfl rfl)
theorem dL_law_617 : decode bcL_law 617 = .ok (.iaload, 1) := dk_46 (dk_at dksL_law_19 14 rfl rfl)
theorem dL_law_618 : decode bcL_law 618 = .ok (.invokevirtual 73, 3) := dk_182 0 73 (dk_at dksL_law_19 15 rfl rfl)
theorem dL_law_621 : decode bcL_law 621 = .ok (.if_icmp .eq 891, 3) := dk_159 3 123 (dk_at dksL_law_19 18 rfl rfl)
theorem dL_law_624 : decode bcL_law 624 = .ok (.iconst 0, 1) := dk_3 (dk_at dksL_law_19 21 rfl rfl)
theorem dL_law_625 : decode bcL_law 625 = .ok (.ireturn, 1) := dk_172 (dk_at dksL_law_19 22 rfl rfl)
theorem dL_law_626 : decode bcL_law 626 = .ok (.aload_n 1, 1) := dk_43 (dk_at dksL_law_19 23 rfl rfl)
theorem dL_law_627 : decode bcL_law 627 = .ok (.invokevirtual 74, 3) := dk_182 0 74 (dk_at dksL_law_20 0 rfl rfl)
theorem dL_law_630 : decode bcL_law 630 = .ok (.aload_n 2, 1) := dk_44 (dk_at dksL_law_20 3 rfl rfl)
theorem dL_law_631 : decode bcL_law 631 = .ok (.invokevirtual 77, 3) := dk_182 0 77 (dk_at dksL_law_20 4 rfl rfl)
theorem dL_law_634 : decode bcL_law 634 = .ok (.if_icmp .eq 878, 3) := dk_159 3 110 (dk_at dksL_law_20 7 rfl rfl)
theorem dL_law_637 : decode bcL_law 637 = .ok (.iconst 0, 1) := dk_3 (dk_at dksL_law_20 10 rfl rfl)
theorem dL_law_638 : decode bcL_law 638 = .ok (.ireturn, 1) := dk_172 (dk_at dksL_law_20 11 rfl rfl)
theorem dL_law_639 : decode bcL_law 639 = .ok (.aload_n 1, 1) := dk_43 (dk_at dksL_law_20 12 rfl rfl)
theorem dL_law_640 : decode bcL_law 640 = .ok (.aload_n 0, 1) := dk_42 (dk_at dksL_law_20 13 rfl rfl)
theorem dL_law_641 : decode bcL_law 641 = .ok (.iload 4, 2) := dk_21 4 (dk_at dksL_law_20 14 rfl rfl)
theorem dL_law_643 : decode bcL_law 643 = .ok (.iconst 1, 1) := dk_4 (dk_at dksL_law_20 16 rfl rfl)
theorem dL_law_644 : decode bcL_law 644 = .ok (.iadd, 1) := dk_96 (dk_at dksL_law_20 17 rfl rfl)
theorem dL_law_645 : decode bcL_law 645 = .ok (.iaload, 1) := dk_46 (dk_at dksL_law_20 18 rfl rfl)
theorem dL_law_646 : decode bcL_law 646 = .ok (.invokevirtual 78, 3) := dk_182 0 78 (dk_at dksL_law_20 19 rfl rfl)
theorem dL_law_649 : decode bcL_law 649 = .ok (.aload_n 2, 1) := dk_44 (dk_at dksL_law_20 22 rfl rfl)
theorem dL_law_650 : decode bcL_law 650 = .ok (.aload_n 0, 1) := dk_42 (dk_at dksL_law_20 23 rfl rfl)
theorem dL_law_651 : decode bcL_law 651 = .ok (.iload 4, 2) := dk_21 4 (dk_at dksL_law_21 0 rfl rfl)
theorem dL_law_653 : decode bcL_law 653 = .ok (.iconst 1, 1) := dk_4 (dk_at dksL_law_21 2 rfl rfl)
theorem dL_law_654 : decode bcL_law 654 = .ok (.iadd, 1) := dk_96 (dk_at dksL_law_21 3 rfl rfl)
theorem dL_law_655 : decode bcL_law 655 = .ok (.iaload, 1) := dk_46 (dk_at dksL_law_21 4 rfl rfl)
theorem dL_law_656 : decode bcL_law 656 = .ok (.invokevirtual 81, 3) := dk_182 0 81 (dk_at dksL_law_21 5 rfl rfl)
theorem dL_law_659 : decode bcL_law 659 = .ok (.if_icmp .eq 853, 3) := dk_159 3 85 (dk_at dksL_law_21 8 rfl rfl)
theorem dL_law_662 : decode bcL_law 662 = .ok (.iconst 0, 1) := dk_3 (dk_at dksL_law_21 11 rfl rfl)
theorem dL_law_663 : decode bcL_law 663 = .ok (.ireturn, 1) := dk_172 (dk_at dksL_law_21 12 rfl rfl)
theorem dL_law_664 : decode bcL_law 664 = .ok (.aload_n 1, 1) := dk_43 (dk_at dksL_law_21 13 rfl rfl)
theorem dL_law_665 : decode bcL_law 665 = .ok (.aload_n 0, 1) := dk_42 (dk_at dksL_law_21 14 rfl rfl)
theorem dL_law_666 : decode bcL_law 666 = .ok (.iload 4, 2) := dk_21 4 (dk_at dksL_law_21 15 rfl rfl)
theorem dL_law_668 : decode bcL_law 668 = .ok (.iconst 1, 1) := dk_4 (dk_at dksL_law_21 17 rfl rfl)
theorem dL_law_669 : decode bcL_law 669 = .ok (.iadd, 1) := dk_96 (dk_at dksL_law_21 18 rfl rfl)
theorem dL_law_670 : decode bcL_law 670 = .ok (.iaload, 1) := dk_46 (dk_at dksL_law_21 19 rfl rfl)
theorem dL_law_671 : decode bcL_law 671 = .ok (.invokevirtual 82, 3) := dk_182 0 82 (dk_at dksL_law_21 20 rfl rfl)
theorem dL_law_674 : decode bcL_law 674 = .ok (.aload_n 2, 1) := dk_44 (dk_at dksL_law_21 23 rfl rfl)
theorem dL_law_675 : decode bcL_law 675 = .ok (.aload_n 0, 1) := dk_42 (dk_at dksL_law_22 0 rfl rfl)
theorem dL_law_676 : decode bcL_law 676 = .ok (.iload 4, 2) := dk_21 4 (dk_at dksL_law_22 1 rfl rfl)
theorem dL_law_678 : decode bcL_law 678 = .ok (.iconst 1, 1) := dk_4 (dk_at dksL_law_22 3 rfl rfl)
theorem dL_law_679 : decode bcL_law 679 = .ok (.iadd, 1) := dk_96 (dk_at dksL_law_22 4 rfl rfl)
theorem dL_law_680 : decode bcL_law 680 = .ok (.iaload, 1) := dk_46 (dk_at dksL_law_22 5 rfl rfl)
theorem dL_law_681 : decode bcL_law 681 = .ok (.invokevirtual 85, 3) := dk_182 0 85 (dk_at dksL_law_22 6 rfl rfl)
theorem dL_law_684 : decode bcL_law 684 = .ok (.if_icmp .eq 828, 3) := dk_159 3 60 (dk_at dksL_law_22 9 rfl rfl)
theorem dL_law_687 : decode bcL_law 687 = .ok (.iconst 0, 1) := dk_3 (dk_at dksL_law_22 12 rfl rfl)
theorem dL_law_688 : decode bcL_law 688 = .ok (.ireturn, 1) := dk_172 (dk_at dksL_law_22 13 rfl rfl)
theorem dL_law_689 : decode bcL_law 689 = .ok (.aload_n 1, 1) := dk_43 (dk_at dksL_law_22 14 rfl rfl)
theorem dL_law_690 : decode bcL_law 690 = .ok (.aload_n 0, 1) := dk_42 (dk_at dksL_law_22 15 rfl rfl)
theorem dL_law_691 : decode bcL_law 691 = .ok (.iload 4, 2) := dk_21 4 (dk_at dksL_law_22 16 rfl rfl)
theorem dL_law_693 : decode bcL_law 693 = .ok (.iconst 1, 1) := dk_4 (dk_at dksL_law_22 18 rfl rfl)
theorem dL_law_694 : decode bcL_law 694 = .ok (.iadd, 1) := dk_96 (dk_at dksL_law_22 19 rfl rfl)
theorem dL_law_695 : decode bcL_law 695 = .ok (.iaload, 1) := dk_46 (dk_at dksL_law_22 20 rfl rfl)
theorem dL_law_696 : decode bcL_law 696 = .ok (.aload_n 0, 1) := dk_42 (dk_at dksL_law_22 21 rfl rfl)
theorem dL_law_697 : decode bcL_law 697 = .ok (.iload 4, 2) := dk_21 4 (dk_at dksL_law_22 22 rfl rfl)
theorem dL_law_699 : decode bcL_law 699 = .ok (.iconst 2, 1) := dk_5 (dk_at dksL_law_23 0 rfl rfl)
theorem dL_law_700 : decode bcL_law 700 = .ok (.iadd, 1) := dk_96 (dk_at dksL_law_23 1 rfl rfl)
theorem dL_law_701 : decode bcL_law 701 = .ok (.iaload, 1) := dk_46 (dk_at dksL_law_23 2 rfl rfl)
theorem dL_law_702 : decode bcL_law 702 = .ok (.invokevirtual 86, 3) := dk_182 0 86 (dk_at dksL_law_23 3 rfl rfl)
theorem dL_law_705 : decode bcL_law 705 = .ok (.aload_n 2, 1) := dk_44 (dk_at dksL_law_23 6 rfl rfl)
theorem dL_law_706 : decode bcL_law 706 = .ok (.aload_n 0, 1) := dk_42 (dk_at dksL_law_23 7 rfl rfl)
theorem dL_law_707 : decode bcL_law 707 = .ok (.iload 4, 2) := dk_21 4 (dk_at dksL_law_23 8 rfl rfl)
theorem dL_law_709 : decode bcL_law 709 = .ok (.iconst 1, 1) := dk_4 (dk_at dksL_law_23 10 rfl rfl)
theorem dL_law_710 : decode bcL_law 710 = .ok (.iadd, 1) := dk_96 (dk_at dksL_law_23 11 rfl rfl)
theorem dL_law_711 : decode bcL_law 711 = .ok (.iaload, 1) := dk_46 (dk_at dksL_law_23 12 rfl rfl)
theorem dL_law_712 : decode bcL_law 712 = .ok (.aload_n 0, 1) := dk_42 (dk_at dksL_law_23 13 rfl rfl)
theorem dL_law_713 : decode bcL_law 713 = .ok (.iload 4, 2) := dk_21 4 (dk_at dksL_law_23 14 rfl rfl)
theorem dL_law_715 : decode bcL_law 715 = .ok (.iconst 2, 1) := dk_5 (dk_at dksL_law_23 16 rfl rfl)
theorem dL_law_716 : decode bcL_law 716 = .ok (.iadd, 1) := dk_96 (dk_at dksL_law_23 17 rfl rfl)
theorem dL_law_717 : decode bcL_law 717 = .ok (.iaload, 1) := dk_46 (dk_at dksL_law_23 18 rfl rfl)
theorem dL_law_718 : decode bcL_law 718 = .ok (.invokevirtual 89, 3) := dk_182 0 89 (dk_at dksL_law_23 19 rfl rfl)
theorem dL_law_721 : decode bcL_law 721 = .ok (.if_icmp .eq 791, 3) := dk_159 3 23 (dk_at dksL_law_24 0 rfl rfl)
theorem dL_law_724 : decode bcL_law 724 = .ok (.iconst 0, 1) := dk_3 (dk_at dksL_law_24 3 rfl rfl)
theorem dL_law_725 : decode bcL_law 725 = .ok (.ireturn, 1) := dk_172 (dk_at dksL_law_24 4 rfl rfl)
theorem dL_law_726 : decode bcL_law 726 = .ok (.aload_n 1, 1) := dk_43 (dk_at dksL_law_24 5 rfl rfl)
theorem dL_law_727 : decode bcL_law 727 = .ok (.aload_n 0, 1) := dk_42 (dk_at dksL_law_24 6 rfl rfl)
theorem dL_law_728 : decode bcL_law 728 = .ok (.iload 4, 2) := dk_21 4 (dk_at dksL_law_24 7 rfl rfl)
theorem dL_law_730 : decode bcL_law 730 = .ok (.iconst 1, 1) := dk_4 (dk_at dksL_law_24 9 rfl rfl)
theorem dL_law_731 : decode bcL_law 731 = .ok (.iadd, 1) := dk_96 (dk_at dksL_law_24 10 rfl rfl)
theorem dL_law_732 : decode bcL_law 732 = .ok (.iaload, 1) := dk_46 (dk_at dksL_law_24 11 rfl rfl)
theorem dL_law_733 : decode bcL_law 733 = .ok (.invokevirtual 90, 3) := dk_182 0 90 (dk_at dksL_law_24 12 rfl rfl)
theorem dL_law_736 : decode bcL_law 736 = .ok (.aload_n 2, 1) := dk_44 (dk_at dksL_law_24 15 rfl rfl)
theorem dL_law_737 : decode bcL_law 737 = .ok (.aload_n 0, 1) := dk_42 (dk_at dksL_law_24 16 rfl rfl)
theorem dL_law_738 : decode bcL_law 738 = .ok (.iload 4, 2) := dk_21 4 (dk_at dksL_law_24 17 rfl rfl)
theorem dL_law_740 : decode bcL_law 740 = .ok (.iconst 1, 1) := dk_4 (dk_at dksL_law_24 19 rfl rfl)
theorem dL_law_741 : decode bcL_law 741 = .ok (.iadd, 1) := dk_96 (dk_at dksL_law_24 20 rfl rfl)
theorem dL_law_742 : decode bcL_law 742 = .ok (.iaload, 1) := dk_46 (dk_at dksL_law_24 21 rfl rfl)
theorem dL_law_743 : decode bcL_law 743 = .ok (.invokevirtual 93, 3) := dk_182 0 93 (dk_at dksL_law_25 0 rfl rfl)
theorem dL_law_746 : decode bcL_law 746 = .ok (.if_icmp .eq 766, 3) := dk_159 2 254 (dk_at dksL_law_25 3 rfl rfl)
theorem dL_law_749 : decode bcL_law 749 = .ok (.iconst 0, 1) := dk_3 (dk_at dksL_law_25 6 rfl rfl)
theorem dL_law_750 : decode bcL_law 750 = .ok (.ireturn, 1) := dk_172 (dk_at dksL_law_25 7 rfl rfl)
theorem dL_law_751 : decode bcL_law 751 = .ok (.aload_n 1, 1) := dk_43 (dk_at dksL_law_25 8 rfl rfl)
theorem dL_law_752 : decode bcL_law 752 = .ok (.aload_n 0, 1) := dk_42 (dk_at dksL_law_25 9 rfl rfl)
theorem dL_law_753 : decode bcL_law 753 = .ok (.iload 4, 2) := dk_21 4 (dk_at dksL_law_25 10 rfl rfl)
theorem dL_law_755 : decode bcL_law 755 = .ok (.iconst 1, 1) := dk_4 (dk_at dksL_law_25 12 rfl rfl)
theorem dL_law_756 : decode bcL_law 756 = .ok (.iadd, 1) := dk_96 (dk_at dksL_law_25 13 rfl rfl)
theorem dL_law_757 : decode bcL_law 757 = .ok (.iaload, 1) := dk_46 (dk_at dksL_law_25 14 rfl rfl)
theorem dL_law_758 : decode bcL_law 758 = .ok (.invokevirtual 94, 3) := dk_182 0 94 (dk_at dksL_law_25 15 rfl rfl)
theorem dL_law_761 : decode bcL_law 761 = .ok (.aload_n 2, 1) := dk_44 (dk_at dksL_law_25 18 rfl rfl)
theorem dL_law_762 : decode bcL_law 762 = .ok (.aload_n 0, 1) := dk_42 (dk_at dksL_law_25 19 rfl rfl)
theorem dL_law_763 : decode bcL_law 763 = .ok (.iload 4, 2) := dk_21 4 (dk_at dksL_law_25 20 rfl rfl)
theorem dL_law_765 : decode bcL_law 765 = .ok (.iconst 1, 1) := dk_4 (dk_at dksL_law_25 22 rfl rfl)
theorem dL_law_766 : decode bcL_law 766 = .ok (.iadd, 1) := dk_96 (dk_at dksL_law_25 23 rfl rfl)
theorem dL_law_767 : decode bcL_law 767 = .ok (.iaload, 1) := dk_46 (dk_at dksL_law_26 0 rfl rfl)
theorem dL_law_768 : decode bcL_law 768 = .ok (.invokevirtual 97, 3) := dk_182 0 97 (dk_at dksL_law_26 1 rfl rfl)
theorem dL_law_771 : decode bcL_law 771 = .ok (.if_icmp .eq 741, 3) := dk_159 2 229 (dk_at dksL_law_26 4 rfl rfl)
theorem dL_law_774 : decode bcL_law 774 = .ok (.iconst 0, 1) := dk_3 (dk_at dksL_law_26 7 rfl rfl)
theorem dL_law_775 : decode bcL_law 775 = .ok (.ireturn, 1) := dk_172 (dk_at dksL_law_26 8 rfl rfl)
theorem dL_law_776 : decode bcL_law 776 = .ok (.aload_n 1, 1) := dk_43 (dk_at dksL_law_26 9 rfl rfl)
theorem dL_law_777 : decode bcL_law 777 = .ok (.invokevirtual 98, 3) := dk_182 0 98 (dk_at dksL_law_26 10 rfl rfl)
theorem dL_law_780 : decode bcL_law 780 = .ok (.aload_n 2, 1) := dk_44 (dk_at dksL_law_26 13 rfl rfl)
theorem dL_law_781 : decode bcL_law 781 = .ok (.invokevirtual 101, 3) := dk_182 0 101 (dk_at dksL_law_26 14 rfl rfl)
theorem dL_law_784 : decode bcL_law 784 = .ok (.if_icmp .eq 728, 3) := dk_159 2 216 (dk_at dksL_law_26 17 rfl rfl)
theorem dL_law_787 : decode bcL_law 787 = .ok (.iconst 0, 1) := dk_3 (dk_at dksL_law_26 20 rfl rfl)
theorem dL_law_788 : decode bcL_law 788 = .ok (.ireturn, 1) := dk_172 (dk_at dksL_law_26 21 rfl rfl)
theorem dL_law_789 : decode bcL_law 789 = .ok (.aload_n 1, 1) := dk_43 (dk_at dksL_law_26 22 rfl rfl)
theorem dL_law_790 : decode bcL_law 790 = .ok (.invokevirtual 102, 3) := dk_182 0 102 (dk_at dksL_law_27 0 rfl rfl)
theorem dL_law_793 : decode bcL_law 793 = .ok (.aload_n 2, 1) := dk_44 (dk_at dksL_law_27 3 rfl rfl)
theorem dL_law_794 : decode bcL_law 794 = .ok (.invokevirtual 105, 3) := dk_182 0 105 (dk_at dksL_law_27 4 rfl rfl)
theorem dL_law_797 : decode bcL_law 797 = .ok (.if_icmp .eq 715, 3) := dk_159 2 203 (dk_at dksL_law_27 7 rfl rfl)
theorem dL_law_800 : decode bcL_law 800 = .ok (.iconst 0, 1) := dk_3 (dk_at dksL_law_27 10 rfl rfl)
theorem dL_law_801 : decode bcL_law 801 = .ok (.ireturn, 1) := dk_172 (dk_at dksL_law_27 11 rfl rfl)
theorem dL_law_802 : decode bcL_law 802 = .ok (.aload_n 1, 1) := dk_43 (dk_at dksL_law_27 12 rfl rfl)
theorem dL_law_803 : decode bcL_law 803 = .ok (.aload_n 0, 1) := dk_42 (dk_at dksL_law_27 13 rfl rfl)
theorem dL_law_804 : decode bcL_law 804 = .ok (.iload 4, 2) := dk_21 4 (dk_at dksL_law_27 14 rfl rfl)
theorem dL_law_806 : decode bcL_law 806 = .ok (.iconst 1, 1) := dk_4 (dk_at dksL_law_27 16 rfl rfl)
theorem dL_law_807 : decode bcL_law 807 = .ok (.iadd, 1) := dk_96 (dk_at dksL_law_27 17 rfl rfl)
theorem dL_law_808 : decode bcL_law 808 = .ok (.iaload, 1) := dk_46 (dk_at dksL_law_27 18 rfl rfl)
theorem dL_law_809 : decode bcL_law 809 = .ok (.aload_n 0, 1) := dk_42 (dk_at dksL_law_27 19 rfl rfl)
theorem dL_law_810 : decode bcL_law 810 = .ok (.iload 4, 2) := dk_21 4 (dk_at dksL_law_27 20 rfl rfl)
theorem dL_law_812 : decode bcL_law 812 = .ok (.iconst 2, 1) := dk_5 (dk_at dksL_law_27 22 rfl rfl)
theorem dL_law_813 : decode bcL_law 813 = .ok (.iadd, 1) := dk_96 (dk_at dksL_law_27 23 rfl rfl)
theorem dL_law_814 : decode bcL_law 814 = .ok (.iaload, 1) := dk_46 (dk_at dksL_law_28 0 rfl rfl)
theorem dL_law_815 : decode bcL_law 815 = .ok (.invokevirtual 106, 3) := dk_182 0 106 (dk_at dksL_law_28 1 rfl rfl)
theorem dL_law_818 : decode bcL_law 818 = .ok (.aload_n 2, 1) := dk_44 (dk_at dksL_law_28 4 rfl rfl)
theorem dL_law_819 : decode bcL_law 819 = .ok (.aload_n 0, 1) := dk_42 (dk_at dksL_law_28 5 rfl rfl)
theorem dL_law_820 : decode bcL_law 820 = .ok (.iload 4, 2) := dk_21 4 (dk_at dksL_law_28 6 rfl rfl)
theorem dL_law_822 : decode bcL_law 822 = .ok (.iconst 1, 1) := dk_4 (dk_at dksL_law_28 8 rfl rfl)
theorem dL_law_823 : decode bcL_law 823 = .ok (.iadd, 1) := dk_96 (dk_at dksL_law_28 9 rfl rfl)
theorem dL_law_824 : decode bcL_law 824 = .ok (.iaload, 1) := dk_46 (dk_at dksL_law_28 10 rfl rfl)
theorem dL_law_825 : decode bcL_law 825 = .ok (.aload_n 0, 1) := dk_42 (dk_at dksL_law_28 11 rfl rfl)
theorem dL_law_826 : decode bcL_law 826 = .ok (.iload 4, 2) := dk_21 4 (dk_at dksL_law_28 12 rfl rfl)
theorem dL_law_828 : decode bcL_law 828 = .ok (.iconst 2, 1) := dk_5 (dk_at dksL_law_28 14 rfl rfl)
theorem dL_law_829 : decode bcL_law 829 = .ok (.iadd, 1) := dk_96 (dk_at dksL_law_28 15 rfl rfl)
theorem dL_law_830 : decode bcL_law 830 = .ok (.iaload, 1) := dk_46 (dk_at dksL_law_28 16 rfl rfl)
theorem dL_law_831 : decode bcL_law 831 = .ok (.invokevirtual 109, 3) := dk_182 0 109 (dk_at dksL_law_28 17 rfl rfl)
theorem dL_law_834 : decode bcL_law 834 = .ok (.if_icmp .eq 678, 3) := dk_159 2 166 (dk_at dksL_law_28 20 rfl rfl)
theorem dL_law_837 : decode bcL_law 837 = .ok (.iconst 0, 1) := dk_3 (dk_at dksL_law_28 23 rfl rfl)
theorem dL_law_838 : decode bcL_law 838 = .ok (.ireturn, 1) := dk_172 (dk_at dksL_law_29 0 rfl rfl)
theorem dL_law_839 : decode bcL_law 839 = .ok (.aload_n 1, 1) := dk_43 (dk_at dksL_law_29 1 rfl rfl)
theorem dL_law_840 : decode bcL_law 840 = .ok (.aload_n 0, 1) := dk_42 (dk_at dksL_law_29 2 rfl rfl)
theorem dL_law_841 : decode bcL_law 841 = .ok (.iload 4, 2) := dk_21 4 (dk_at dksL_law_29 3 rfl rfl)
theorem dL_law_843 : decode bcL_law 843 = .ok (.iconst 1, 1) := dk_4 (dk_at dksL_law_29 5 rfl rfl)
theorem dL_law_844 : decode bcL_law 844 = .ok (.iadd, 1) := dk_96 (dk_at dksL_law_29 6 rfl rfl)
theorem dL_law_845 : decode bcL_law 845 = .ok (.iaload, 1) := dk_46 (dk_at dksL_law_29 7 rfl rfl)
theorem dL_law_846 : decode bcL_law 846 = .ok (.aload_n 0, 1) := dk_42 (dk_at dksL_law_29 8 rfl rfl)
theorem dL_law_847 : decode bcL_law 847 = .ok (.iload 4, 2) := dk_21 4 (dk_at dksL_law_29 9 rfl rfl)
theorem dL_law_849 : decode bcL_law 849 = .ok (.iconst 2, 1) := dk_5 (dk_at dksL_law_29 11 rfl rfl)
theorem dL_law_850 : decode bcL_law 850 = .ok (.iadd, 1) := dk_96 (dk_at dksL_law_29 12 rfl rfl)
theorem dL_law_851 : decode bcL_law 851 = .ok (.iaload, 1) := dk_46 (dk_at dksL_law_29 13 rfl rfl)
theorem dL_law_852 : decode bcL_law 852 = .ok (.invokevirtual 110, 3) := dk_182 0 110 (dk_at dksL_law_29 14 rfl rfl)
theorem dL_law_855 : decode bcL_law 855 = .ok (.aload_n 2, 1) := dk_44 (dk_at dksL_law_29 17 rfl rfl)
theorem dL_law_856 : decode bcL_law 856 = .ok (.aload_n 0, 1) := dk_42 (dk_at dksL_law_29 18 rfl rfl)
theorem dL_law_857 : decode bcL_law 857 = .ok (.iload 4, 2) := dk_21 4 (dk_at dksL_law_29 19 rfl rfl)
theorem dL_law_859 : decode bcL_law 859 = .ok (.iconst 1, 1) := dk_4 (dk_at dksL_law_29 21 rfl rfl)
theorem dL_law_860 : decode bcL_law 860 = .ok (.iadd, 1) := dk_96 (dk_at dksL_law_29 22 rfl rfl)
theorem dL_law_861 : decode bcL_law 861 = .ok (.iaload, 1) := dk_46 (dk_at dksL_law_29 23 rfl rfl)
theorem dL_law_862 : decode bcL_law 862 = .ok (.aload_n 0, 1) := dk_42 (dk_at dksL_law_30 0 rfl rfl)
theorem dL_law_863 : decode bcL_law 863 = .ok (.iload 4, 2) := dk_21 4 (dk_at dksL_law_30 1 rfl rfl)
theorem dL_law_865 : decode bcL_law 865 = .ok (.iconst 2, 1) := dk_5 (dk_at dksL_law_30 3 rfl rfl)
theorem dL_law_866 : decode bcL_law 866 = .ok (.iadd, 1) := dk_96 (dk_at dksL_law_30 4 rfl rfl)
theorem dL_law_867 : decode bcL_law 867 = .ok (.iaload, 1) := dk_46 (dk_at dksL_law_30 5 rfl rfl)
theorem dL_law_868 : decode bcL_law 868 = .ok (.invokevirtual 113, 3) := dk_182 0 113 (dk_at dksL_law_30 6 rfl rfl)
theorem dL_law_871 : decode bcL_law 871 = .ok (.if_icmp .eq 641, 3) := dk_159 2 129 (dk_at dksL_law_30 9 rfl rfl)
theorem dL_law_874 : decode bcL_law 874 = .ok (.iconst 0, 1) := dk_3 (dk_at dksL_law_30 12 rfl rfl)
theorem dL_law_875 : decode bcL_law 875 = .ok (.ireturn, 1) := dk_172 (dk_at dksL_law_30 13 rfl rfl)
theorem dL_law_876 : decode bcL_law 876 = .ok (.aload_n 1, 1) := dk_43 (dk_at dksL_law_30 14 rfl rfl)
theorem dL_law_877 : decode bcL_law 877 = .ok (.aload_n 0, 1) := dk_42 (dk_at dksL_law_30 15 rfl rfl)
theorem dL_law_878 : decode bcL_law 878 = .ok (.iload 4, 2) := dk_21 4 (dk_at dksL_law_30 16 rfl rfl)
theorem dL_law_880 : decode bcL_law 880 = .ok (.iconst 1, 1) := dk_4 (dk_at dksL_law_30 18 rfl rfl)
theorem dL_law_881 : decode bcL_law 881 = .ok (.iadd, 1) := dk_96 (dk_at dksL_law_30 19 rfl rfl)
theorem dL_law_882 : decode bcL_law 882 = .ok (.iaload, 1) := dk_46 (dk_at dksL_law_30 20 rfl rfl)
theorem dL_law_883 : decode bcL_law 883 = .ok (.aload_n 0, 1) := dk_42 (dk_at dksL_law_30 21 rfl rfl)
theorem dL_law_884 : decode bcL_law 884 = .ok (.iload 4, 2) := dk_21 4 (dk_at dksL_law_30 22 rfl rfl)
theorem dL_law_886 : decode bcL_law 886 = .ok (.iconst 2, 1) := dk_5 (dk_at dksL_law_31 0 rfl rfl)
theorem dL_law_887 : decode bcL_law 887 = .ok (.iadd, 1) := dk_96 (dk_at dksL_law_31 1 rfl rfl)
theorem dL_law_888 : decode bcL_law 888 = .ok (.iaload, 1) := dk_46 (dk_at dksL_law_31 2 rfl rfl)
theorem dL_law_889 : decode bcL_law 889 = .ok (.invokevirtual 114, 3) := dk_182 0 114 (dk_at dksL_law_31 3 rfl rfl)
theorem dL_law_892 : decode bcL_law 892 = .ok (.aload_n 2, 1) := dk_44 (dk_at dksL_law_31 6 rfl rfl)
theorem dL_law_893 : decode bcL_law 893 = .ok (.aload_n 0, 1) := dk_42 (dk_at dksL_law_31 7 rfl rfl)
theorem dL_law_894 : decode bcL_law 894 = .ok (.iload 4, 2) := dk_21 4 (dk_at dksL_law_31 8 rfl rfl)
theorem dL_law_896 : decode bcL_law 896 = .ok (.iconst 1, 1) := dk_4 (dk_at dksL_law_31 10 rfl rfl)
theorem dL_law_897 : decode bcL_law 897 = .ok (.iadd, 1) := dk_96 (dk_at dksL_law_31 11 rfl rfl)
theorem dL_law_898 : decode bcL_law 898 = .ok (.iaload, 1) := dk_46 (dk_at dksL_law_31 12 rfl rfl)
theorem dL_law_899 : decode bcL_law 899 = .ok (.aload_n 0, 1) := dk_42 (dk_at dksL_law_31 13 rfl rfl)
theorem dL_law_900 : decode bcL_law 900 = .ok (.iload 4, 2) := dk_21 4 (dk_at dksL_law_31 14 rfl rfl)
theorem dL_law_902 : decode bcL_law 902 = .ok (.iconst 2, 1) := dk_5 (dk_at dksL_law_31 16 rfl rfl)
theorem dL_law_903 : decode bcL_law 903 = .ok (.iadd, 1) := dk_96 (dk_at dksL_law_31 17 rfl rfl)
theorem dL_law_904 : decode bcL_law 904 = .ok (.iaload, 1) := dk_46 (dk_at dksL_law_31 18 rfl rfl)
theorem dL_law_905 : decode bcL_law 905 = .ok (.invokevirtual 117, 3) := dk_182 0 117 (dk_at dksL_law_31 19 rfl rfl)
theorem dL_law_908 : decode bcL_law 908 = .ok (.if_icmp .eq 604, 3) := dk_159 2 92 (dk_at dksL_law_32 0 rfl rfl)
theorem dL_law_911 : decode bcL_law 911 = .ok (.iconst 0, 1) := dk_3 (dk_at dksL_law_32 3 rfl rfl)
theorem dL_law_912 : decode bcL_law 912 = .ok (.ireturn, 1) := dk_172 (dk_at dksL_law_32 4 rfl rfl)
theorem dL_law_913 : decode bcL_law 913 = .ok (.aload_n 1, 1) := dk_43 (dk_at dksL_law_32 5 rfl rfl)
theorem dL_law_914 : decode bcL_law 914 = .ok (.aload_n 0, 1) := dk_42 (dk_at dksL_law_32 6 rfl rfl)
theorem dL_law_915 : decode bcL_law 915 = .ok (.iload 4, 2) := dk_21 4 (dk_at dksL_law_32 7 rfl rfl)
theorem dL_law_917 : decode bcL_law 917 = .ok (.iconst 1, 1) := dk_4 (dk_at dksL_law_32 9 rfl rfl)
theorem dL_law_918 : decode bcL_law 918 = .ok (.iadd, 1) := dk_96 (dk_at dksL_law_32 10 rfl rfl)
theorem dL_law_919 : decode bcL_law 919 = .ok (.iaload, 1) := dk_46 (dk_at dksL_law_32 11 rfl rfl)
theorem dL_law_920 : decode bcL_law 920 = .ok (.aload_n 0, 1) := dk_42 (dk_at dksL_law_32 12 rfl rfl)
theorem dL_law_921 : decode bcL_law 921 = .ok (.iload 4, 2) := dk_21 4 (dk_at dksL_law_32 13 rfl rfl)
theorem dL_law_923 : decode bcL_law 923 = .ok (.iconst 2, 1) := dk_5 (dk_at dksL_law_32 15 rfl rfl)
theorem dL_law_924 : decode bcL_law 924 = .ok (.iadd, 1) := dk_96 (dk_at dksL_law_32 16 rfl rfl)
theorem dL_law_925 : decode bcL_law 925 = .ok (.iaload, 1) := dk_46 (dk_at dksL_law_32 17 rfl rfl)
theorem dL_law_926 : decode bcL_law 926 = .ok (.invokevirtual 118, 3) := dk_182 0 118 (dk_at dksL_law_32 18 rfl rfl)
theorem dL_law_929 : decode bcL_law 929 = .ok (.aload_n 2, 1) := dk_44 (dk_at dksL_law_32 21 rfl rfl)
theorem dL_law_930 : decode bcL_law 930 = .ok (.aload_n 0, 1) := dk_42 (dk_at dksL_law_32 22 rfl rfl)
theorem dL_law_931 : decode bcL_law 931 = .ok (.iload 4, 2) := dk_21 4 (dk_at dksL_law_33 0 rfl rfl)
theorem dL_law_933 : decode bcL_law 933 = .ok (.iconst 1, 1) := dk_4 (dk_at dksL_law_33 2 rfl rfl)
theorem dL_law_934 : decode bcL_law 934 = .ok (.iadd, 1) := dk_96 (dk_at dksL_law_33 3 rfl rfl)
theorem dL_law_935 : decode bcL_law 935 = .ok (.iaload, 1) := dk_46 (dk_at dksL_law_33 4 rfl rfl)
theorem dL_law_936 : decode bcL_law 936 = .ok (.aload_n 0, 1) := dk_42 (dk_at dksL_law_33 5 rfl rfl)
theorem dL_law_937 : decode bcL_law 937 = .ok (.iload 4, 2) := dk_21 4 (dk_at dksL_law_33 6 rfl rfl)
theorem dL_law_939 : decode bcL_law 939 = .ok (.iconst 2, 1) := dk_5 (dk_at dksL_law_33 8 rfl rfl)
theorem dL_law_940 : decode bcL_law 940 = .ok (.iadd, 1) := dk_96 (dk_at dksL_law_33 9 rfl rfl)
theorem dL_law_941 : decode bcL_law 941 = .ok (.iaload, 1) := dk_46 (dk_at dksL_law_33 10 rfl rfl)
theorem dL_law_942 : decode bcL_law 942 = .ok (.invokevirtual 121, 3) := dk_182 0 121 (dk_at dksL_law_33 11 rfl rfl)
theorem dL_law_945 : decode bcL_law 945 = .ok (.if_icmp .eq 567, 3) := dk_159 2 55 (dk_at dksL_law_33 14 rfl rfl)
theorem dL_law_948 : decode bcL_law 948 = .ok (.iconst 0, 1) := dk_3 (dk_at dksL_law_33 17 rfl rfl)
theorem dL_law_949 : decode bcL_law 949 = .ok (.ireturn, 1) := dk_172 (dk_at dksL_law_33 18 rfl rfl)
theorem dL_law_950 : decode bcL_law 950 = .ok (.aload_n 1, 1) := dk_43 (dk_at dksL_law_33 19 rfl rfl)
theorem dL_law_951 : decode bcL_law 951 = .ok (.aload_n 0, 1) := dk_42 (dk_at dksL_law_33 20 rfl rfl)
theorem dL_law_952 : decode bcL_law 952 = .ok (.iload 4, 2) := dk_21 4 (dk_at dksL_law_33 21 rfl rfl)
theorem dL_law_954 : decode bcL_law 954 = .ok (.iconst 1, 1) := dk_4 (dk_at dksL_law_33 23 rfl rfl)
theorem dL_law_955 : decode bcL_law 955 = .ok (.iadd, 1) := dk_96 (dk_at dksL_law_34 0 rfl rfl)
theorem dL_law_956 : decode bcL_law 956 = .ok (.iaload, 1) := dk_46 (dk_at dksL_law_34 1 rfl rfl)
theorem dL_law_957 : decode bcL_law 957 = .ok (.aload_n 0, 1) := dk_42 (dk_at dksL_law_34 2 rfl rfl)
theorem dL_law_958 : decode bcL_law 958 = .ok (.iload 4, 2) := dk_21 4 (dk_at dksL_law_34 3 rfl rfl)
theorem dL_law_960 : decode bcL_law 960 = .ok (.iconst 2, 1) := dk_5 (dk_at dksL_law_34 5 rfl rfl)
theorem dL_law_961 : decode bcL_law 961 = .ok (.iadd, 1) := dk_96 (dk_at dksL_law_34 6 rfl rfl)
theorem dL_law_962 : decode bcL_law 962 = .ok (.iaload, 1) := dk_46 (dk_at dksL_law_34 7 rfl rfl)
theorem dL_law_963 : decode bcL_law 963 = .ok (.invokevirtual 122, 3) := dk_182 0 122 (dk_at dksL_law_34 8 rfl rfl)
theorem dL_law_966 : decode bcL_law 966 = .ok (.aload_n 2, 1) := dk_44 (dk_at dksL_law_34 11 rfl rfl)
theorem dL_law_967 : decode bcL_law 967 = .ok (.aload_n 0, 1) := dk_42 (dk_at dksL_law_34 12 rfl rfl)
theorem dL_law_968 : decode bcL_law 968 = .ok (.iload 4, 2) := dk_21 4 (dk_at dksL_law_34 13 rfl rfl)
theorem dL_law_970 : decode bcL_law 970 = .ok (.iconst 1, 1) := dk_4 (dk_at dksL_law_34 15 rfl rfl)
theorem dL_law_971 : decode bcL_law 971 = .ok (.iadd, 1) := dk_96 (dk_at dksL_law_34 16 rfl rfl)
theorem dL_law_972 : decode bcL_law 972 = .ok (.iaload, 1) := dk_46 (dk_at dksL_law_34 17 rfl rfl)
theorem dL_law_973 : decode bcL_law 973 = .ok (.aload_n 0, 1) := dk_42 (dk_at dksL_law_34 18 rfl rfl)
theorem dL_law_974 : decode bcL_law 974 = .ok (.iload 4, 2) := dk_21 4 (dk_at dksL_law_34 19 rfl rfl)
theorem dL_law_976 : decode bcL_law 976 = .ok (.iconst 2, 1) := dk_5 (dk_at dksL_law_34 21 rfl rfl)
theorem dL_law_977 : decode bcL_law 977 = .ok (.iadd, 1) := dk_96 (dk_at dksL_law_34 22 rfl rfl)
theorem dL_law_978 : decode bcL_law 978 = .ok (.iaload, 1) := dk_46 (dk_at dksL_law_34 23 rfl rfl)
theorem dL_law_979 : decode bcL_law 979 = .ok (.invokevirtual 125, 3) := dk_182 0 125 (dk_at dksL_law_35 0 rfl rfl)
theorem dL_law_982 : decode bcL_law 982 = .ok (.if_icmp .eq 530, 3) := dk_159 2 18 (dk_at dksL_law_35 3 rfl rfl)
theorem dL_law_985 : decode bcL_law 985 = .ok (.iconst 0, 1) := dk_3 (dk_at dksL_law_35 6 rfl rfl)
theorem dL_law_986 : decode bcL_law 986 = .ok (.ireturn, 1) := dk_172 (dk_at dksL_law_35 7 rfl rfl)
theorem dL_law_987 : decode bcL_law 987 = .ok (.aload_n 1, 1) := dk_43 (dk_at dksL_law_35 8 rfl rfl)
theorem dL_law_988 : decode bcL_law 988 = .ok (.aload_n 0, 1) := dk_42 (dk_at dksL_law_35 9 rfl rfl)
theorem dL_law_989 : decode bcL_law 989 = .ok (.iload 4, 2) := dk_21 4 (dk_at dksL_law_35 10 rfl rfl)
theorem dL_law_991 : decode bcL_law 991 = .ok (.iconst 1, 1) := dk_4 (dk_at dksL_law_35 12 rfl rfl)
theorem dL_law_992 : decode bcL_law 992 = .ok (.iadd, 1) := dk_96 (dk_at dksL_law_35 13 rfl rfl)
theorem dL_law_993 : decode bcL_law 993 = .ok (.iaload, 1) := dk_46 (dk_at dksL_law_35 14 rfl rfl)
theorem dL_law_994 : decode bcL_law 994 = .ok (.aload_n 0, 1) := dk_42 (dk_at dksL_law_35 15 rfl rfl)
theorem dL_law_995 : decode bcL_law 995 = .ok (.iload 4, 2) := dk_21 4 (dk_at dksL_law_35 16 rfl rfl)
theorem dL_law_997 : decode bcL_law 997 = .ok (.iconst 2, 1) := dk_5 (dk_at dksL_law_35 18 rfl rfl)
theorem dL_law_998 : decode bcL_law 998 = .ok (.iadd, 1) := dk_96 (dk_at dksL_law_35 19 rfl rfl)
theorem dL_law_999 : decode bcL_law 999 = .ok (.iaload, 1) := dk_46 (dk_at dksL_law_35 20 rfl rfl)
theorem dL_law_1000 : decode bcL_law 1000 = .ok (.aload_n 0, 1) := dk_42 (dk_at dksL_law_35 21 rfl rfl)
theorem dL_law_1001 : decode bcL_law 1001 = .ok (.iload 4, 2) := dk_21 4 (dk_at dksL_law_35 22 rfl rfl)
theorem dL_law_1003 : decode bcL_law 1003 = .ok (.iconst 3, 1) := dk_6 (dk_at dksL_law_36 0 rfl rfl)
theorem dL_law_1004 : decode bcL_law 1004 = .ok (.iadd, 1) := dk_96 (dk_at dksL_law_36 1 rfl rfl)
theorem dL_law_1005 : decode bcL_law 1005 = .ok (.iaload, 1) := dk_46 (dk_at dksL_law_36 2 rfl rfl)
theorem dL_law_1006 : decode bcL_law 1006 = .ok (.ifCond .eq 7, 3) := dk_153 0 7 (dk_at dksL_law_36 3 rfl rfl)
theorem dL_law_1009 : decode bcL_law 1009 = .ok (.iconst 1, 1) := dk_4 (dk_at dksL_law_36 6 rfl rfl)
theorem dL_law_1010 : decode bcL_law 1010 = .ok (.goto 4, 3) := dk_167 0 4 (dk_at dksL_law_36 7 rfl rfl)
theorem dL_law_1013 : decode bcL_law 1013 = .ok (.iconst 0, 1) := dk_3 (dk_at dksL_law_36 10 rfl rfl)
theorem dL_law_1014 : decode bcL_law 1014 = .ok (.invokevirtual 126, 3) := dk_182 0 126 (dk_at dksL_law_36 11 rfl rfl)
theorem dL_law_1017 : decode bcL_law 1017 = .ok (.aload_n 2, 1) := dk_44 (dk_at dksL_law_36 14 rfl rfl)
theorem dL_law_1018 : decode bcL_law 1018 = .ok (.aload_n 0, 1) := dk_42 (dk_at dksL_law_36 15 rfl rfl)
theorem dL_law_1019 : decode bcL_law 1019 = .ok (.iload 4, 2) := dk_21 4 (dk_at dksL_law_36 16 rfl rfl)
theorem dL_law_1021 : decode bcL_law 1021 = .ok (.iconst 1, 1) := dk_4 (dk_at dksL_law_36 18 rfl rfl)
theorem dL_law_1022 : decode bcL_law 1022 = .ok (.iadd, 1) := dk_96 (dk_at dksL_law_36 19 rfl rfl)
theorem dL_law_1023 : decode bcL_law 1023 = .ok (.iaload, 1) := dk_46 (dk_at dksL_law_36 20 rfl rfl)
theorem dL_law_1024 : decode bcL_law 1024 = .ok (.aload_n 0, 1) := dk_42 (dk_at dksL_law_36 21 rfl rfl)
theorem dL_law_1025 : decode bcL_law 1025 = .ok (.iload 4, 2) := dk_21 4 (dk_at dksL_law_36 22 rfl rfl)
theorem dL_law_1027 : decode bcL_law 1027 = .ok (.iconst 2, 1) := dk_5 (dk_at dksL_law_37 0 rfl rfl)
theorem dL_law_1028 : decode bcL_law 1028 = .ok (.iadd, 1) := dk_96 (dk_at dksL_law_37 1 rfl rfl)
theorem dL_law_1029 : decode bcL_law 1029 = .ok (.iaload, 1) := dk_46 (dk_at dksL_law_37 2 rfl rfl)
theorem dL_law_1030 : decode bcL_law 1030 = .ok (.aload_n 0, 1) := dk_42 (dk_at dksL_law_37 3 rfl rfl)
theorem dL_law_1031 : decode bcL_law 1031 = .ok (.iload 4, 2) := dk_21 4 (dk_at dksL_law_37 4 rfl rfl)
theorem dL_law_1033 : decode bcL_law 1033 = .ok (.iconst 3, 1) := dk_6 (dk_at dksL_law_37 6 rfl rfl)
theorem dL_law_1034 : decode bcL_law 1034 = .ok (.iadd, 1) := dk_96 (dk_at dksL_law_37 7 rfl rfl)
theorem dL_law_1035 : decode bcL_law 1035 = .ok (.iaload, 1) := dk_46 (dk_at dksL_law_37 8 rfl rfl)
theorem dL_law_1036 : decode bcL_law 1036 = .ok (.ifCond .eq 7, 3) := dk_153 0 7 (dk_at dksL_law_37 9 rfl rfl)
theorem dL_law_1039 : decode bcL_law 1039 = .ok (.iconst 1, 1) := dk_4 (dk_at dksL_law_37 12 rfl rfl)
theorem dL_law_1040 : decode bcL_law 1040 = .ok (.goto 4, 3) := dk_167 0 4 (dk_at dksL_law_37 13 rfl rfl)
theorem dL_law_1043 : decode bcL_law 1043 = .ok (.iconst 0, 1) := dk_3 (dk_at dksL_law_37 16 rfl rfl)
theorem dL_law_1044 : decode bcL_law 1044 = .ok (.invokevirtual 130, 3) := dk_182 0 130 (dk_at dksL_law_37 17 rfl rfl)
theorem dL_law_1047 : decode bcL_law 1047 = .ok (.if_icmp .eq 465, 3) := dk_159 1 209 (dk_at dksL_law_37 20 rfl rfl)
theorem dL_law_1050 : decode bcL_law 1050 = .ok (.iconst 0, 1) := dk_3 (dk_at dksL_law_37 23 rfl rfl)
theorem dL_law_1051 : decode bcL_law 1051 = .ok (.ireturn, 1) := dk_172 (dk_at dksL_law_38 0 rfl rfl)
theorem dL_law_1052 : decode bcL_law 1052 = .ok (.aload_n 1, 1) := dk_43 (dk_at dksL_law_38 1 rfl rfl)
theorem dL_law_1053 : decode bcL_law 1053 = .ok (.invokevirtual 131, 3) := dk_182 0 131 (dk_at dksL_law_38 2 rfl rfl)
theorem dL_law_1056 : decode bcL_law 1056 = .ok (.aload_n 2, 1) := dk_44 (dk_at dksL_law_38 5 rfl rfl)
theorem dL_law_1057 : decode bcL_law 1057 = .ok (.invokevirtual 134, 3) := dk_182 0 134 (dk_at dksL_law_38 6 rfl rfl)
theorem dL_law_1060 : decode bcL_law 1060 = .ok (.if_icmp .eq 452, 3) := dk_159 1 196 (dk_at dksL_law_38 9 rfl rfl)
theorem dL_law_1063 : decode bcL_law 1063 = .ok (.iconst 0, 1) := dk_3 (dk_at dksL_law_38 12 rfl rfl)
theorem dL_law_1064 : decode bcL_law 1064 = .ok (.ireturn, 1) := dk_172 (dk_at dksL_law_38 13 rfl rfl)
theorem dL_law_1065 : decode bcL_law 1065 = .ok (.aload_n 1, 1) := dk_43 (dk_at dksL_law_38 14 rfl rfl)
theorem dL_law_1066 : decode bcL_law 1066 = .ok (.invokevirtual 135, 3) := dk_182 0 135 (dk_at dksL_law_38 15 rfl rfl)
theorem dL_law_1069 : decode bcL_law 1069 = .ok (.aload_n 2, 1) := dk_44 (dk_at dksL_law_38 18 rfl rfl)
theorem dL_law_1070 : decode bcL_law 1070 = .ok (.invokevirtual 138, 3) := dk_182 0 138 (dk_at dksL_law_38 19 rfl rfl)
theorem dL_law_1073 : decode bcL_law 1073 = .ok (.if_icmp .eq 439, 3) := dk_159 1 183 (dk_at dksL_law_39 0 rfl rfl)
theorem dL_law_1076 : decode bcL_law 1076 = .ok (.iconst 0, 1) := dk_3 (dk_at dksL_law_39 3 rfl rfl)
theorem dL_law_1077 : decode bcL_law 1077 = .ok (.ireturn, 1) := dk_172 (dk_at dksL_law_39 4 rfl rfl)
theorem dL_law_1078 : decode bcL_law 1078 = .ok (.aload_n 1, 1) := dk_43 (dk_at dksL_law_39 5 rfl rfl)
theorem dL_law_1079 : decode bcL_law 1079 = .ok (.aload_n 0, 1) := dk_42 (dk_at dksL_law_39 6 rfl rfl)
theorem dL_law_1080 : decode bcL_law 1080 = .ok (.iload 4, 2) := dk_21 4 (dk_at dksL_law_39 7 rfl rfl)
theorem dL_law_1082 : decode bcL_law 1082 = .ok (.iconst 1, 1) := dk_4 (dk_at dksL_law_39 9 rfl rfl)
theorem dL_law_1083 : decode bcL_law 1083 = .ok (.iadd, 1) := dk_96 (dk_at dksL_law_39 10 rfl rfl)
theorem dL_law_1084 : decode bcL_law 1084 = .ok (.iaload, 1) := dk_46 (dk_at dksL_law_39 11 rfl rfl)
theorem dL_law_1085 : decode bcL_law 1085 = .ok (.aload_n 0, 1) := dk_42 (dk_at dksL_law_39 12 rfl rfl)
theorem dL_law_1086 : decode bcL_law 1086 = .ok (.iload 4, 2) := dk_21 4 (dk_at dksL_law_39 13 rfl rfl)
theorem dL_law_1088 : decode bcL_law 1088 = .ok (.iconst 2, 1) := dk_5 (dk_at dksL_law_39 15 rfl rfl)
theorem dL_law_1089 : decode bcL_law 1089 = .ok (.iadd, 1) := dk_96 (dk_at dksL_law_39 16 rfl rfl)
theorem dL_law_1090 : decode bcL_law 1090 = .ok (.iaload, 1) := dk_46 (dk_at dksL_law_39 17 rfl rfl)
theorem dL_law_1091 : decode bcL_law 1091 = .ok (.invokevirtual 139, 3) := dk_182 0 139 (dk_at dksL_law_39 18 rfl rfl)
theorem dL_law_1094 : decode bcL_law 1094 = .ok (.aload_n 2, 1) := dk_44 (dk_at dksL_law_39 21 rfl rfl)
theorem dL_law_1095 : decode bcL_law 1095 = .ok (.aload_n 0, 1) := dk_42 (dk_at dksL_law_39 22 rfl rfl)
theorem dL_law_1096 : decode bcL_law 1096 = .ok (.iload 4, 2) := dk_21 4 (dk_at dksL_law_40 0 rfl rfl)
theorem dL_law_1098 : decode bcL_law 1098 = .ok (.iconst 1, 1) := dk_4 (dk_at dksL_law_40 2 rfl rfl)
theorem dL_law_1099 : decode bcL_law 1099 = .ok (.iadd, 1) := dk_96 (dk_at dksL_law_40 3 rfl rfl)
theorem dL_law_1100 : decode bcL_law 1100 = .ok (.iaload, 1) := dk_46 (dk_at dksL_law_40 4 rfl rfl)
theorem dL_law_1101 : decode bcL_law 1101 = .ok (.aload_n 0, 1) := dk_42 (dk_at dksL_law_40 5 rfl rfl)
theorem dL_law_1102 : decode bcL_law 1102 = .ok (.iload 4, 2) := dk_21 4 (dk_at dksL_law_40 6 rfl rfl)
theorem dL_law_1104 : decode bcL_law 1104 = .ok (.iconst 2, 1) := dk_5 (dk_at dksL_law_40 8 rfl rfl)
theorem dL_law_1105 : decode bcL_law 1105 = .ok (.iadd, 1) := dk_96 (dk_at dksL_law_40 9 rfl rfl)
theorem dL_law_1106 : decode bcL_law 1106 = .ok (.iaload, 1) := dk_46 (dk_at dksL_law_40 10 rfl rfl)
theorem dL_law_1107 : decode bcL_law 1107 = .ok (.invokevirtual 143, 3) := dk_182 0 143 (dk_at dksL_law_40 11 rfl rfl)
theorem dL_law_1110 : decode bcL_law 1110 = .ok (.if_icmp .eq 402, 3) := dk_159 1 146 (dk_at dksL_law_40 14 rfl rfl)
theorem dL_law_1113 : decode bcL_law 1113 = .ok (.iconst 0, 1) := dk_3 (dk_at dksL_law_40 17 rfl rfl)
theorem dL_law_1114 : decode bcL_law 1114 = .ok (.ireturn, 1) := dk_172 (dk_at dksL_law_40 18 rfl rfl)
theorem dL_law_1115 : decode bcL_law 1115 = .ok (.aload_n 1, 1) := dk_43 (dk_at dksL_law_40 19 rfl rfl)
theorem dL_law_1116 : decode bcL_law 1116 = .ok (.invokevirtual 144, 3) := dk_182 0 144 (dk_at dksL_law_40 20 rfl rfl)
theorem dL_law_1119 : decode bcL_law 1119 = .ok (.aload_n 2, 1) := dk_44 (dk_at dksL_law_40 23 rfl rfl)
theorem dL_law_1120 : decode bcL_law 1120 = .ok (.invokevirtual 147, 3) := dk_182 0 147 (dk_at dksL_law_41 0 rfl rfl)
theorem dL_law_1123 : decode bcL_law 1123 = .ok (.if_icmp .eq 389, 3) := dk_159 1 133 (dk_at dksL_law_41 3 rfl rfl)
theorem dL_law_1126 : decode bcL_law 1126 = .ok (.iconst 0, 1) := dk_3 (dk_at dksL_law_41 6 rfl rfl)
theorem dL_law_1127 : decode bcL_law 1127 = .ok (.ireturn, 1) := dk_172 (dk_at dksL_law_41 7 rfl rfl)
theorem dL_law_1128 : decode bcL_law 1128 = .ok (.aload_n 1, 1) := dk_43 (dk_at dksL_law_41 8 rfl rfl)
theorem dL_law_1129 : decode bcL_law 1129 = .ok (.invokevirtual 148, 3) := dk_182 0 148 (dk_at dksL_law_41 9 rfl rfl)
theorem dL_law_1132 : decode bcL_law 1132 = .ok (.aload_n 2, 1) := dk_44 (dk_at dksL_law_41 12 rfl rfl)
theorem dL_law_1133 : decode bcL_law 1133 = .ok (.invokevirtual 151, 3) := dk_182 0 151 (dk_at dksL_law_41 13 rfl rfl)
theorem dL_law_1136 : decode bcL_law 1136 = .ok (.if_icmp .eq 376, 3) := dk_159 1 120 (dk_at dksL_law_41 16 rfl rfl)
theorem dL_law_1139 : decode bcL_law 1139 = .ok (.iconst 0, 1) := dk_3 (dk_at dksL_law_41 19 rfl rfl)
theorem dL_law_1140 : decode bcL_law 1140 = .ok (.ireturn, 1) := dk_172 (dk_at dksL_law_41 20 rfl rfl)
theorem dL_law_1141 : decode bcL_law 1141 = .ok (.aload_n 1, 1) := dk_43 (dk_at dksL_law_41 21 rfl rfl)
theorem dL_law_1142 : decode bcL_law 1142 = .ok (.invokevirtual 152, 3) := dk_182 0 152 (dk_at dksL_law_42 0 rfl rfl)
theorem dL_law_1145 : decode bcL_law 1145 = .ok (.aload_n 2, 1) := dk_44 (dk_at dksL_law_42 3 rfl rfl)
theorem dL_law_1146 : decode bcL_law 1146 = .ok (.invokevirtual 155, 3) := dk_182 0 155 (dk_at dksL_law_42 4 rfl rfl)
theorem dL_law_1149 : decode bcL_law 1149 = .ok (.if_icmp .eq 363, 3) := dk_159 1 107 (dk_at dksL_law_42 7 rfl rfl)
theorem dL_law_1152 : decode bcL_law 1152 = .ok (.iconst 0, 1) := dk_3 (dk_at dksL_law_42 10 rfl rfl)
theorem dL_law_1153 : decode bcL_law 1153 = .ok (.ireturn, 1) := dk_172 (dk_at dksL_law_42 11 rfl rfl)
theorem dL_law_1154 : decode bcL_law 1154 = .ok (.aload_n 1, 1) := dk_43 (dk_at dksL_law_42 12 rfl rfl)
theorem dL_law_1155 : decode bcL_law 1155 = .ok (.invokevirtual 156, 3) := dk_182 0 156 (dk_at dksL_law_42 13 rfl rfl)
theorem dL_law_1158 : decode bcL_law 1158 = .ok (.aload_n 2, 1) := dk_44 (dk_at dksL_law_42 16 rfl rfl)
theorem dL_law_1159 : decode bcL_law 1159 = .ok (.invokevirtual 159, 3) := dk_182 0 159 (dk_at dksL_law_42 17 rfl rfl)
theorem dL_law_1162 : decode bcL_law 1162 = .ok (.if_icmp .eq 350, 3) := dk_159 1 94 (dk_at dksL_law_42 20 rfl rfl)
theorem dL_law_1165 : decode bcL_law 1165 = .ok (.iconst 0, 1) := dk_3 (dk_at dksL_law_42 23 rfl rfl)
theorem dL_law_1166 : decode bcL_law 1166 = .ok (.ireturn, 1) := dk_172 (dk_at dksL_law_43 0 rfl rfl)
theorem dL_law_1167 : decode bcL_law 1167 = .ok (.aload_n 1, 1) := dk_43 (dk_at dksL_law_43 1 rfl rfl)
theorem dL_law_1168 : decode bcL_law 1168 = .ok (.invokevirtual 160, 3) := dk_182 0 160 (dk_at dksL_law_43 2 rfl rfl)
theorem dL_law_1171 : decode bcL_law 1171 = .ok (.aload_n 2, 1) := dk_44 (dk_at dksL_law_43 5 rfl rfl)
theorem dL_law_1172 : decode bcL_law 1172 = .ok (.invokevirtual 163, 3) := dk_182 0 163 (dk_at dksL_law_43 6 rfl rfl)
theorem dL_law_1175 : decode bcL_law 1175 = .ok (.if_icmp .eq 337, 3) := dk_159 1 81 (dk_at dksL_law_43 9 rfl rfl)
theorem dL_law_1178 : decode bcL_law 1178 = .ok (.iconst 0, 1) := dk_3 (dk_at dksL_law_43 12 rfl rfl)
theorem dL_law_1179 : decode bcL_law 1179 = .ok (.ireturn, 1) := dk_172 (dk_at dksL_law_43 13 rfl rfl)
theorem dL_law_1180 : decode bcL_law 1180 = .ok (.aload_n 1, 1) := dk_43 (dk_at dksL_law_43 14 rfl rfl)
theorem dL_law_1181 : decode bcL_law 1181 = .ok (.invokevirtual 164, 3) := dk_182 0 164 (dk_at dksL_law_43 15 rfl rfl)
theorem dL_law_1184 : decode bcL_law 1184 = .ok (.aload_n 2, 1) := dk_44 (dk_at dksL_law_43 18 rfl rfl)
theorem dL_law_1185 : decode bcL_law 1185 = .ok (.invokevirtual 167, 3) := dk_182 0 167 (dk_at dksL_law_43 19 rfl rfl)
theorem dL_law_1188 : decode bcL_law 1188 = .ok (.if_icmp .eq 324, 3) := dk_159 1 68 (dk_at dksL_law_44 0 rfl rfl)
theorem dL_law_1191 : decode bcL_law 1191 = .ok (.iconst 0, 1) := dk_3 (dk_at dksL_law_44 3 rfl rfl)
theorem dL_law_1192 : decode bcL_law 1192 = .ok (.ireturn, 1) := dk_172 (dk_at dksL_law_44 4 rfl rfl)
theorem dL_law_1193 : decode bcL_law 1193 = .ok (.aload_n 1, 1) := dk_43 (dk_at dksL_law_44 5 rfl rfl)
theorem dL_law_1194 : decode bcL_law 1194 = .ok (.invokevirtual 168, 3) := dk_182 0 168 (dk_at dksL_law_44 6 rfl rfl)
theorem dL_law_1197 : decode bcL_law 1197 = .ok (.aload_n 2, 1) := dk_44 (dk_at dksL_law_44 9 rfl rfl)
theorem dL_law_1198 : decode bcL_law 1198 = .ok (.invokevirtual 171, 3) := dk_182 0 171 (dk_at dksL_law_44 10 rfl rfl)
theorem dL_law_1201 : decode bcL_law 1201 = .ok (.if_icmp .eq 311, 3) := dk_159 1 55 (dk_at dksL_law_44 13 rfl rfl)
theorem dL_law_1204 : decode bcL_law 1204 = .ok (.iconst 0, 1) := dk_3 (dk_at dksL_law_44 16 rfl rfl)
theorem dL_law_1205 : decode bcL_law 1205 = .ok (.ireturn, 1) := dk_172 (dk_at dksL_law_44 17 rfl rfl)
theorem dL_law_1206 : decode bcL_law 1206 = .ok (.aload_n 1, 1) := dk_43 (dk_at dksL_law_44 18 rfl rfl)
theorem dL_law_1207 : decode bcL_law 1207 = .ok (.aload_n 0, 1) := dk_42 (dk_at dksL_law_44 19 rfl rfl)
theorem dL_law_1208 : decode bcL_law 1208 = .ok (.iload 4, 2) := dk_21 4 (dk_at dksL_law_44 20 rfl rfl)
theorem dL_law_1210 : decode bcL_law 1210 = .ok (.iconst 1, 1) := dk_4 (dk_at dksL_law_44 22 rfl rfl)
theorem dL_law_1211 : decode bcL_law 1211 = .ok (.iadd, 1) := dk_96 (dk_at dksL_law_44 23 rfl rfl)
theorem dL_law_1212 : decode bcL_law 1212 = .ok (.iaload, 1) := dk_46 (dk_at dksL_law_45 0 rfl rfl)
theorem dL_law_1213 : decode bcL_law 1213 = .ok (.invokevirtual 172, 3) := dk_182 0 172 (dk_at dksL_law_45 1 rfl rfl)
theorem dL_law_1216 : decode bcL_law 1216 = .ok (.aload_n 2, 1) := dk_44 (dk_at dksL_law_45 4 rfl rfl)
theorem dL_law_1217 : decode bcL_law 1217 = .ok (.aload_n 0, 1) := dk_42 (dk_at dksL_law_45 5 rfl rfl)
theorem dL_law_1218 : decode bcL_law 1218 = .ok (.iload 4, 2) := dk_21 4 (dk_at dksL_law_45 6 rfl rfl)
theorem dL_law_1220 : decode bcL_law 1220 = .ok (.iconst 1, 1) := dk_4 (dk_at dksL_law_45 8 rfl rfl)
theorem dL_law_1221 : decode bcL_law 1221 = .ok (.iadd, 1) := dk_96 (dk_at dksL_law_45 9 rfl rfl)
theorem dL_law_1222 : decode bcL_law 1222 = .ok (.iaload, 1) := dk_46 (dk_at dksL_law_45 10 rfl rfl)
theorem dL_law_1223 : decode bcL_law 1223 = .ok (.invokevirtual 175, 3) := dk_182 0 175 (dk_at dksL_law_45 11 rfl rfl)
theorem dL_law_1226 : decode bcL_law 1226 = .ok (.if_icmp .eq 286, 3) := dk_159 1 30 (dk_at dksL_law_45 14 rfl rfl)
theorem dL_law_1229 : decode bcL_law 1229 = .ok (.iconst 0, 1) := dk_3 (dk_at dksL_law_45 17 rfl rfl)
theorem dL_law_1230 : decode bcL_law 1230 = .ok (.ireturn, 1) := dk_172 (dk_at dksL_law_45 18 rfl rfl)
theorem dL_law_1231 : decode bcL_law 1231 = .ok (.aload_n 1, 1) := dk_43 (dk_at dksL_law_45 19 rfl rfl)
theorem dL_law_1232 : decode bcL_law 1232 = .ok (.invokevirtual 176, 3) := dk_182 0 176 (dk_at dksL_law_45 20 rfl rfl)
theorem dL_law_1235 : decode bcL_law 1235 = .ok (.aload_n 2, 1) := dk_44 (dk_at dksL_law_45 23 rfl rfl)
theorem dL_law_1236 : decode bcL_law 1236 = .ok (.invokevirtual 179, 3) := dk_182 0 179 (dk_at dksL_law_46 0 rfl rfl)
theorem dL_law_1239 : decode bcL_law 1239 = .ok (.if_icmp .eq 273, 3) := dk_159 1 17 (dk_at dksL_law_46 3 rfl rfl)
theorem dL_law_1242 : decode bcL_law 1242 = .ok (.iconst 0, 1) := dk_3 (dk_at dksL_law_46 6 rfl rfl)
theorem dL_law_1243 : decode bcL_law 1243 = .ok (.ireturn, 1) := dk_172 (dk_at dksL_law_46 7 rfl rfl)
theorem dL_law_1244 : decode bcL_law 1244 = .ok (.aload_n 1, 1) := dk_43 (dk_at dksL_law_46 8 rfl rfl)
theorem dL_law_1245 : decode bcL_law 1245 = .ok (.aload_n 0, 1) := dk_42 (dk_at dksL_law_46 9 rfl rfl)
theorem dL_law_1246 : decode bcL_law 1246 = .ok (.iload 4, 2) := dk_21 4 (dk_at dksL_law_46 10 rfl rfl)
theorem dL_law_1248 : decode bcL_law 1248 = .ok (.iconst 1, 1) := dk_4 (dk_at dksL_law_46 12 rfl rfl)
theorem dL_law_1249 : decode bcL_law 1249 = .ok (.iadd, 1) := dk_96 (dk_at dksL_law_46 13 rfl rfl)
theorem dL_law_1250 : decode bcL_law 1250 = .ok (.iaload, 1) := dk_46 (dk_at dksL_law_46 14 rfl rfl)
theorem dL_law_1251 : decode bcL_law 1251 = .ok (.aload_n 0, 1) := dk_42 (dk_at dksL_law_46 15 rfl rfl)
theorem dL_law_1252 : decode bcL_law 1252 = .ok (.iload 4, 2) := dk_21 4 (dk_at dksL_law_46 16 rfl rfl)
theorem dL_law_1254 : decode bcL_law 1254 = .ok (.iconst 2, 1) := dk_5 (dk_at dksL_law_46 18 rfl rfl)
theorem dL_law_1255 : decode bcL_law 1255 = .ok (.iadd, 1) := dk_96 (dk_at dksL_law_46 19 rfl rfl)
theorem dL_law_1256 : decode bcL_law 1256 = .ok (.iaload, 1) := dk_46 (dk_at dksL_law_46 20 rfl rfl)
theorem dL_law_1257 : decode bcL_law 1257 = .ok (.aload_n 0, 1) := dk_42 (dk_at dksL_law_46 21 rfl rfl)
theorem dL_law_1258 : decode bcL_law 1258 = .ok (.iload 4, 2) := dk_21 4 (dk_at dksL_law_46 22 rfl rfl)
theorem dL_law_1260 : decode bcL_law 1260 = .ok (.iconst 3, 1) := dk_6 (dk_at dksL_law_47 0 rfl rfl)
theorem dL_law_1261 : decode bcL_law 1261 = .ok (.iadd, 1) := dk_96 (dk_at dksL_law_47 1 rfl rfl)
theorem dL_law_1262 : decode bcL_law 1262 = .ok (.iaload, 1) := dk_46 (dk_at dksL_law_47 2 rfl rfl)
theorem dL_law_1263 : decode bcL_law 1263 = .ok (.invokevirtual 180, 3) := dk_182 0 180 (dk_at dksL_law_47 3 rfl rfl)
theorem dL_law_1266 : decode bcL_law 1266 = .ok (.aload_n 2, 1) := dk_44 (dk_at dksL_law_47 6 rfl rfl)
theorem dL_law_1267 : decode bcL_law 1267 = .ok (.aload_n 0, 1) := dk_42 (dk_at dksL_law_47 7 rfl rfl)
theorem dL_law_1268 : decode bcL_law 1268 = .ok (.iload 4, 2) := dk_21 4 (dk_at dksL_law_47 8 rfl rfl)
theorem dL_law_1270 : decode bcL_law 1270 = .ok (.iconst 1, 1) := dk_4 (dk_at dksL_law_47 10 rfl rfl)
theorem dL_law_1271 : decode bcL_law 1271 = .ok (.iadd, 1) := dk_96 (dk_at dksL_law_47 11 rfl rfl)
theorem dL_law_1272 : decode bcL_law 1272 = .ok (.iaload, 1) := dk_46 (dk_at dksL_law_47 12 rfl rfl)
theorem dL_law_1273 : decode bcL_law 1273 = .ok (.aload_n 0, 1) := dk_42 (dk_at dksL_law_47 13 rfl rfl)
theorem dL_law_1274 : decode bcL_law 1274 = .ok (.iload 4, 2) := dk_21 4 (dk_at dksL_law_47 14 rfl rfl)
theorem dL_law_1276 : decode bcL_law 1276 = .ok (.iconst 2, 1) := dk_5 (dk_at dksL_law_47 16 rfl rfl)
theorem dL_law_1277 : decode bcL_law 1277 = .ok (.iadd, 1) := dk_96 (dk_at dksL_law_47 17 rfl rfl)
theorem dL_law_1278 : decode bcL_law 1278 = .ok (.iaload, 1) := dk_46 (dk_at dksL_law_47 18 rfl rfl)
theorem dL_law_1279 : decode bcL_law 1279 = .ok (.aload_n 0, 1) := dk_42 (dk_at dksL_law_47 19 rfl rfl)
theorem dL_law_1280 : decode bcL_law 1280 = .ok (.iload 4, 2) := dk_21 4 (dk_at dksL_law_47 20 rfl rfl)
theorem dL_law_1282 : decode bcL_law 1282 = .ok (.iconst 3, 1) := dk_6 (dk_at dksL_law_47 22 rfl rfl)
theorem dL_law_1283 : decode bcL_law 1283 = .ok (.iadd, 1) := dk_96 (dk_at dksL_law_47 23 rfl rfl)
theorem dL_law_1284 : decode bcL_law 1284 = .ok (.iaload, 1) := dk_46 (dk_at dksL_law_48 0 rfl rfl)
theorem dL_law_1285 : decode bcL_law 1285 = .ok (.invokevirtual 184, 3) := dk_182 0 184 (dk_at dksL_law_48 1 rfl rfl)
theorem dL_law_1288 : decode bcL_law 1288 = .ok (.if_icmp .eq 224, 3) := dk_159 0 224 (dk_at dksL_law_48 4 rfl rfl)
theorem dL_law_1291 : decode bcL_law 1291 = .ok (.iconst 0, 1) := dk_3 (dk_at dksL_law_48 7 rfl rfl)
theorem dL_law_1292 : decode bcL_law 1292 = .ok (.ireturn, 1) := dk_172 (dk_at dksL_law_48 8 rfl rfl)
theorem dL_law_1293 : decode bcL_law 1293 = .ok (.aload_n 1, 1) := dk_43 (dk_at dksL_law_48 9 rfl rfl)
theorem dL_law_1294 : decode bcL_law 1294 = .ok (.aload_n 0, 1) := dk_42 (dk_at dksL_law_48 10 rfl rfl)
theorem dL_law_1295 : decode bcL_law 1295 = .ok (.iload 4, 2) := dk_21 4 (dk_at dksL_law_48 11 rfl rfl)
theorem dL_law_1297 : decode bcL_law 1297 = .ok (.iconst 1, 1) := dk_4 (dk_at dksL_law_48 13 rfl rfl)
theorem dL_law_1298 : decode bcL_law 1298 = .ok (.iadd, 1) := dk_96 (dk_at dksL_law_48 14 rfl rfl)
theorem dL_law_1299 : decode bcL_law 1299 = .ok (.iaload, 1) := dk_46 (dk_at dksL_law_48 15 rfl rfl)
theorem dL_law_1300 : decode bcL_law 1300 = .ok (.aload_n 0, 1) := dk_42 (dk_at dksL_law_48 16 rfl rfl)
theorem dL_law_1301 : decode bcL_law 1301 = .ok (.iload 4, 2) := dk_21 4 (dk_at dksL_law_48 17 rfl rfl)
theorem dL_law_1303 : decode bcL_law 1303 = .ok (.iconst 2, 1) := dk_5 (dk_at dksL_law_48 19 rfl rfl)
theorem dL_law_1304 : decode bcL_law 1304 = .ok (.iadd, 1) := dk_96 (dk_at dksL_law_48 20 rfl rfl)
theorem dL_law_1305 : decode bcL_law 1305 = .ok (.iaload, 1) := dk_46 (dk_at dksL_law_48 21 rfl rfl)
theorem dL_law_1306 : decode bcL_law 1306 = .ok (.aload_n 0, 1) := dk_42 (dk_at dksL_law_48 22 rfl rfl)
theorem dL_law_1307 : decode bcL_law 1307 = .ok (.iload 4, 2) := dk_21 4 (dk_at dksL_law_49 0 rfl rfl)
theorem dL_law_1309 : decode bcL_law 1309 = .ok (.iconst 3, 1) := dk_6 (dk_at dksL_law_49 2 rfl rfl)
theorem dL_law_1310 : decode bcL_law 1310 = .ok (.iadd, 1) := dk_96 (dk_at dksL_law_49 3 rfl rfl)
theorem dL_law_1311 : decode bcL_law 1311 = .ok (.iaload, 1) := dk_46 (dk_at dksL_law_49 4 rfl rfl)
theorem dL_law_1312 : decode bcL_law 1312 = .ok (.aload_n 0, 1) := dk_42 (dk_at dksL_law_49 5 rfl rfl)
theorem dL_law_1313 : decode bcL_law 1313 = .ok (.iload 4, 2) := dk_21 4 (dk_at dksL_law_49 6 rfl rfl)
theorem dL_law_1315 : decode bcL_law 1315 = .ok (.iconst 4, 1) := dk_7 (dk_at dksL_law_49 8 rfl rfl)
theorem dL_law_1316 : decode bcL_law 1316 = .ok (.iadd, 1) := dk_96 (dk_at dksL_law_49 9 rfl rfl)
theorem dL_law_1317 : decode bcL_law 1317 = .ok (.iaload, 1) := dk_46 (dk_at dksL_law_49 10 rfl rfl)
theorem dL_law_1318 : decode bcL_law 1318 = .ok (.aload_n 3, 1) := dk_45 (dk_at dksL_law_49 11 rfl rfl)
theorem dL_law_1319 : decode bcL_law 1319 = .ok (.invokestatic 185, 3) := dk_184 0 185 (dk_at dksL_law_49 12 rfl rfl)
theorem dL_law_1322 : decode bcL_law 1322 = .ok (.istore 5, 2) := dk_54 5 (dk_at dksL_law_49 15 rfl rfl)
theorem dL_law_1324 : decode bcL_law 1324 = .ok (.aload_n 2, 1) := dk_44 (dk_at dksL_law_49 17 rfl rfl)
theorem dL_law_1325 : decode bcL_law 1325 = .ok (.aload_n 0, 1) := dk_42 (dk_at dksL_law_49 18 rfl rfl)
theorem dL_law_1326 : decode bcL_law 1326 = .ok (.iload 4, 2) := dk_21 4 (dk_at dksL_law_49 19 rfl rfl)
theorem dL_law_1328 : decode bcL_law 1328 = .ok (.iconst 1, 1) := dk_4 (dk_at dksL_law_49 21 rfl rfl)
theorem dL_law_1329 : decode bcL_law 1329 = .ok (.iadd, 1) := dk_96 (dk_at dksL_law_49 22 rfl rfl)
theorem dL_law_1330 : decode bcL_law 1330 = .ok (.iaload, 1) := dk_46 (dk_at dksL_law_49 23 rfl rfl)
theorem dL_law_1331 : decode bcL_law 1331 = .ok (.aload_n 0, 1) := dk_42 (dk_at dksL_law_50 0 rfl rfl)
theorem dL_law_1332 : decode bcL_law 1332 = .ok (.iload 4, 2) := dk_21 4 (dk_at dksL_law_50 1 rfl rfl)
theorem dL_law_1334 : decode bcL_law 1334 = .ok (.iconst 2, 1) := dk_5 (dk_at dksL_law_50 3 rfl rfl)
theorem dL_law_1335 : decode bcL_law 1335 = .ok (.iadd, 1) := dk_96 (dk_at dksL_law_50 4 rfl rfl)
theorem dL_law_1336 : decode bcL_law 1336 = .ok (.iaload, 1) := dk_46 (dk_at dksL_law_50 5 rfl rfl)
theorem dL_law_1337 : decode bcL_law 1337 = .ok (.aload_n 0, 1) := dk_42 (dk_at dksL_law_50 6 rfl rfl)
theorem dL_law_1338 : decode bcL_law 1338 = .ok (.iload 4, 2) := dk_21 4 (dk_at dksL_law_50 7 rfl rfl)
theorem dL_law_1340 : decode bcL_law 1340 = .ok (.iconst 3, 1) := dk_6 (dk_at dksL_law_50 9 rfl rfl)
theorem dL_law_1341 : decode bcL_law 1341 = .ok (.iadd, 1) := dk_96 (dk_at dksL_law_50 10 rfl rfl)
theorem dL_law_1342 : decode bcL_law 1342 = .ok (.iaload, 1) := dk_46 (dk_at dksL_law_50 11 rfl rfl)
theorem dL_law_1343 : decode bcL_law 1343 = .ok (.aload_n 0, 1) := dk_42 (dk_at dksL_law_50 12 rfl rfl)
theorem dL_law_1344 : decode bcL_law 1344 = .ok (.iload 4, 2) := dk_21 4 (dk_at dksL_law_50 13 rfl rfl)
theorem dL_law_1346 : decode bcL_law 1346 = .ok (.iconst 4, 1) := dk_7 (dk_at dksL_law_50 15 rfl rfl)
theorem dL_law_1347 : decode bcL_law 1347 = .ok (.iadd, 1) := dk_96 (dk_at dksL_law_50 16 rfl rfl)
theorem dL_law_1348 : decode bcL_law 1348 = .ok (.iaload, 1) := dk_46 (dk_at dksL_law_50 17 rfl rfl)
theorem dL_law_1349 : decode bcL_law 1349 = .ok (.invokevirtual 190, 3) := dk_182 0 190 (dk_at dksL_law_50 18 rfl rfl)
theorem dL_law_1352 : decode bcL_law 1352 = .ok (.istore 6, 2) := dk_54 6 (dk_at dksL_law_50 21 rfl rfl)
theorem dL_law_1354 : decode bcL_law 1354 = .ok (.aload_n 2, 1) := dk_44 (dk_at dksL_law_50 23 rfl rfl)
theorem dL_law_1355 : decode bcL_law 1355 = .ok (.invokevirtual 191, 3) := dk_182 0 191 (dk_at dksL_law_51 0 rfl rfl)
theorem dL_law_1358 : decode bcL_law 1358 = .ok (.iload 5, 2) := dk_21 5 (dk_at dksL_law_51 3 rfl rfl)
theorem dL_law_1360 : decode bcL_law 1360 = .ok (.if_icmp .eq 5, 3) := dk_159 0 5 (dk_at dksL_law_51 5 rfl rfl)
theorem dL_law_1363 : decode bcL_law 1363 = .ok (.iconst 0, 1) := dk_3 (dk_at dksL_law_51 8 rfl rfl)
theorem dL_law_1364 : decode bcL_law 1364 = .ok (.ireturn, 1) := dk_172 (dk_at dksL_law_51 9 rfl rfl)
theorem dL_law_1365 : decode bcL_law 1365 = .ok (.iload 5, 2) := dk_21 5 (dk_at dksL_law_51 10 rfl rfl)
theorem dL_law_1367 : decode bcL_law 1367 = .ok (.ifCond .ne 15, 3) := dk_154 0 15 (dk_at dksL_law_51 12 rfl rfl)
theorem dL_law_1370 : decode bcL_law 1370 = .ok (.aload_n 3, 1) := dk_45 (dk_at dksL_law_51 15 rfl rfl)
theorem dL_law_1371 : decode bcL_law 1371 = .ok (.iconst 0, 1) := dk_3 (dk_at dksL_law_51 16 rfl rfl)
theorem dL_law_1372 : decode bcL_law 1372 = .ok (.laload, 1) := dk_47 (dk_at dksL_law_51 17 rfl rfl)
theorem dL_law_1373 : decode bcL_law 1373 = .ok (.iload 6, 2) := dk_21 6 (dk_at dksL_law_51 18 rfl rfl)
theorem dL_law_1375 : decode bcL_law 1375 = .ok (.i2l, 1) := dk_133 (dk_at dksL_law_51 20 rfl rfl)
theorem dL_law_1376 : decode bcL_law 1376 = .ok (.lcmp, 1) := dk_148 (dk_at dksL_law_51 21 rfl rfl)
theorem dL_law_1377 : decode bcL_law 1377 = .ok (.ifCond .eq 5, 3) := dk_153 0 5 (dk_at dksL_law_52 0 rfl rfl)
theorem dL_law_1380 : decode bcL_law 1380 = .ok (.iconst 0, 1) := dk_3 (dk_at dksL_law_52 3 rfl rfl)
theorem dL_law_1381 : decode bcL_law 1381 = .ok (.ireturn, 1) := dk_172 (dk_at dksL_law_52 4 rfl rfl)
theorem dL_law_1382 : decode bcL_law 1382 = .ok (.goto 130, 3) := dk_167 0 130 (dk_at dksL_law_52 5 rfl rfl)
theorem dL_law_1385 : decode bcL_law 1385 = .ok (.aload_n 1, 1) := dk_43 (dk_at dksL_law_52 8 rfl rfl)
theorem dL_law_1386 : decode bcL_law 1386 = .ok (.aload_n 0, 1) := dk_42 (dk_at dksL_law_52 9 rfl rfl)
theorem dL_law_1387 : decode bcL_law 1387 = .ok (.iload 4, 2) := dk_21 4 (dk_at dksL_law_52 10 rfl rfl)
theorem dL_law_1389 : decode bcL_law 1389 = .ok (.iconst 1, 1) := dk_4 (dk_at dksL_law_52 12 rfl rfl)
theorem dL_law_1390 : decode bcL_law 1390 = .ok (.iadd, 1) := dk_96 (dk_at dksL_law_52 13 rfl rfl)
theorem dL_law_1391 : decode bcL_law 1391 = .ok (.iaload, 1) := dk_46 (dk_at dksL_law_52 14 rfl rfl)
theorem dL_law_1392 : decode bcL_law 1392 = .ok (.aload_n 0, 1) := dk_42 (dk_at dksL_law_52 15 rfl rfl)
theorem dL_law_1393 : decode bcL_law 1393 = .ok (.iload 4, 2) := dk_21 4 (dk_at dksL_law_52 16 rfl rfl)
theorem dL_law_1395 : decode bcL_law 1395 = .ok (.iconst 2, 1) := dk_5 (dk_at dksL_law_52 18 rfl rfl)
theorem dL_law_1396 : decode bcL_law 1396 = .ok (.iadd, 1) := dk_96 (dk_at dksL_law_52 19 rfl rfl)
theorem dL_law_1397 : decode bcL_law 1397 = .ok (.iaload, 1) := dk_46 (dk_at dksL_law_52 20 rfl rfl)
theorem dL_law_1398 : decode bcL_law 1398 = .ok (.aload_n 0, 1) := dk_42 (dk_at dksL_law_52 21 rfl rfl)
theorem dL_law_1399 : decode bcL_law 1399 = .ok (.iload 4, 2) := dk_21 4 (dk_at dksL_law_52 22 rfl rfl)
theorem dL_law_1401 : decode bcL_law 1401 = .ok (.iconst 3, 1) := dk_6 (dk_at dksL_law_53 0 rfl rfl)
theorem dL_law_1402 : decode bcL_law 1402 = .ok (.iadd, 1) := dk_96 (dk_at dksL_law_53 1 rfl rfl)
theorem dL_law_1403 : decode bcL_law 1403 = .ok (.iaload, 1) := dk_46 (dk_at dksL_law_53 2 rfl rfl)
theorem dL_law_1404 : decode bcL_law 1404 = .ok (.invokevirtual 194, 3) := dk_182 0 194 (dk_at dksL_law_53 3 rfl rfl)
theorem dL_law_1407 : decode bcL_law 1407 = .ok (.aload_n 2, 1) := dk_44 (dk_at dksL_law_53 6 rfl rfl)
theorem dL_law_1408 : decode bcL_law 1408 = .ok (.aload_n 0, 1) := dk_42 (dk_at dksL_law_53 7 rfl rfl)
theorem dL_law_1409 : decode bcL_law 1409 = .ok (.iload 4, 2) := dk_21 4 (dk_at dksL_law_53 8 rfl rfl)
theorem dL_law_1411 : decode bcL_law 1411 = .ok (.iconst 1, 1) := dk_4 (dk_at dksL_law_53 10 rfl rfl)
theorem dL_law_1412 : decode bcL_law 1412 = .ok (.iadd, 1) := dk_96 (dk_at dksL_law_53 11 rfl rfl)
theorem dL_law_1413 : decode bcL_law 1413 = .ok (.iaload, 1) := dk_46 (dk_at dksL_law_53 12 rfl rfl)
theorem dL_law_1414 : decode bcL_law 1414 = .ok (.aload_n 0, 1) := dk_42 (dk_at dksL_law_53 13 rfl rfl)
theorem dL_law_1415 : decode bcL_law 1415 = .ok (.iload 4, 2) := dk_21 4 (dk_at dksL_law_53 14 rfl rfl)
theorem dL_law_1417 : decode bcL_law 1417 = .ok (.iconst 2, 1) := dk_5 (dk_at dksL_law_53 16 rfl rfl)
theorem dL_law_1418 : decode bcL_law 1418 = .ok (.iadd, 1) := dk_96 (dk_at dksL_law_53 17 rfl rfl)
theorem dL_law_1419 : decode bcL_law 1419 = .ok (.iaload, 1) := dk_46 (dk_at dksL_law_53 18 rfl rfl)
theorem dL_law_1420 : decode bcL_law 1420 = .ok (.aload_n 0, 1) := dk_42 (dk_at dksL_law_53 19 rfl rfl)
theorem dL_law_1421 : decode bcL_law 1421 = .ok (.iload 4, 2) := dk_21 4 (dk_at dksL_law_53 20 rfl rfl)
theorem dL_law_1423 : decode bcL_law 1423 = .ok (.iconst 3, 1) := dk_6 (dk_at dksL_law_53 22 rfl rfl)
theorem dL_law_1424 : decode bcL_law 1424 = .ok (.iadd, 1) := dk_96 (dk_at dksL_law_53 23 rfl rfl)
theorem dL_law_1425 : decode bcL_law 1425 = .ok (.iaload, 1) := dk_46 (dk_at dksL_law_54 0 rfl rfl)
theorem dL_law_1426 : decode bcL_law 1426 = .ok (.invokevirtual 197, 3) := dk_182 0 197 (dk_at dksL_law_54 1 rfl rfl)
theorem dL_law_1429 : decode bcL_law 1429 = .ok (.if_icmp .eq 83, 3) := dk_159 0 83 (dk_at dksL_law_54 4 rfl rfl)
theorem dL_law_1432 : decode bcL_law 1432 = .ok (.iconst 0, 1) := dk_3 (dk_at dksL_law_54 7 rfl rfl)
theorem dL_law_1433 : decode bcL_law 1433 = .ok (.ireturn, 1) := dk_172 (dk_at dksL_law_54 8 rfl rfl)
theorem dL_law_1434 : decode bcL_law 1434 = .ok (.aload_n 1, 1) := dk_43 (dk_at dksL_law_54 9 rfl rfl)
theorem dL_law_1435 : decode bcL_law 1435 = .ok (.aload_n 0, 1) := dk_42 (dk_at dksL_law_54 10 rfl rfl)
theorem dL_law_1436 : decode bcL_law 1436 = .ok (.iload 4, 2) := dk_21 4 (dk_at dksL_law_54 11 rfl rfl)
theorem dL_law_1438 : decode bcL_law 1438 = .ok (.iconst 1, 1) := dk_4 (dk_at dksL_law_54 13 rfl rfl)
theorem dL_law_1439 : decode bcL_law 1439 = .ok (.iadd, 1) := dk_96 (dk_at dksL_law_54 14 rfl rfl)
theorem dL_law_1440 : decode bcL_law 1440 = .ok (.iaload, 1) := dk_46 (dk_at dksL_law_54 15 rfl rfl)
theorem dL_law_1441 : decode bcL_law 1441 = .ok (.aload_n 0, 1) := dk_42 (dk_at dksL_law_54 16 rfl rfl)
theorem dL_law_1442 : decode bcL_law 1442 = .ok (.iload 4, 2) := dk_21 4 (dk_at dksL_law_54 17 rfl rfl)
theorem dL_law_1444 : decode bcL_law 1444 = .ok (.iconst 2, 1) := dk_5 (dk_at dksL_law_54 19 rfl rfl)
theorem dL_law_1445 : decode bcL_law 1445 = .ok (.iadd, 1) := dk_96 (dk_at dksL_law_54 20 rfl rfl)
theorem dL_law_1446 : decode bcL_law 1446 = .ok (.iaload, 1) := dk_46 (dk_at dksL_law_54 21 rfl rfl)
theorem dL_law_1447 : decode bcL_law 1447 = .ok (.ifCond .eq 7, 3) := dk_153 0 7 (dk_at dksL_law_55 0 rfl rfl)
theorem dL_law_1450 : decode bcL_law 1450 = .ok (.iconst 1, 1) := dk_4 (dk_at dksL_law_55 3 rfl rfl)
theorem dL_law_1451 : decode bcL_law 1451 = .ok (.goto 4, 3) := dk_167 0 4 (dk_at dksL_law_55 4 rfl rfl)
theorem dL_law_1454 : decode bcL_law 1454 = .ok (.iconst 0, 1) := dk_3 (dk_at dksL_law_55 7 rfl rfl)
theorem dL_law_1455 : decode bcL_law 1455 = .ok (.invokevirtual 198, 3) := dk_182 0 198 (dk_at dksL_law_55 8 rfl rfl)
theorem dL_law_1458 : decode bcL_law 1458 = .ok (.aload_n 2, 1) := dk_44 (dk_at dksL_law_55 11 rfl rfl)
theorem dL_law_1459 : decode bcL_law 1459 = .ok (.aload_n 0, 1) := dk_42 (dk_at dksL_law_55 12 rfl rfl)
theorem dL_law_1460 : decode bcL_law 1460 = .ok (.iload 4, 2) := dk_21 4 (dk_at dksL_law_55 13 rfl rfl)
theorem dL_law_1462 : decode bcL_law 1462 = .ok (.iconst 1, 1) := dk_4 (dk_at dksL_law_55 15 rfl rfl)
theorem dL_law_1463 : decode bcL_law 1463 = .ok (.iadd, 1) := dk_96 (dk_at dksL_law_55 16 rfl rfl)
theorem dL_law_1464 : decode bcL_law 1464 = .ok (.iaload, 1) := dk_46 (dk_at dksL_law_55 17 rfl rfl)
theorem dL_law_1465 : decode bcL_law 1465 = .ok (.aload_n 0, 1) := dk_42 (dk_at dksL_law_55 18 rfl rfl)
theorem dL_law_1466 : decode bcL_law 1466 = .ok (.iload 4, 2) := dk_21 4 (dk_at dksL_law_55 19 rfl rfl)
theorem dL_law_1468 : decode bcL_law 1468 = .ok (.iconst 2, 1) := dk_5 (dk_at dksL_law_55 21 rfl rfl)
theorem dL_law_1469 : decode bcL_law 1469 = .ok (.iadd, 1) := dk_96 (dk_at dksL_law_55 22 rfl rfl)
theorem dL_law_1470 : decode bcL_law 1470 = .ok (.iaload, 1) := dk_46 (dk_at dksL_law_55 23 rfl rfl)
theorem dL_law_1471 : decode bcL_law 1471 = .ok (.ifCond .eq 7, 3) := dk_153 0 7 (dk_at dksL_law_56 0 rfl rfl)
theorem dL_law_1474 : decode bcL_law 1474 = .ok (.iconst 1, 1) := dk_4 (dk_at dksL_law_56 3 rfl rfl)
theorem dL_law_1475 : decode bcL_law 1475 = .ok (.goto 4, 3) := dk_167 0 4 (dk_at dksL_law_56 4 rfl rfl)
theorem dL_law_1478 : decode bcL_law 1478 = .ok (.iconst 0, 1) := dk_3 (dk_at dksL_law_56 7 rfl rfl)
theorem dL_law_1479 : decode bcL_law 1479 = .ok (.invokevirtual 202, 3) := dk_182 0 202 (dk_at dksL_law_56 8 rfl rfl)
theorem dL_law_1482 : decode bcL_law 1482 = .ok (.if_icmp .eq 30, 3) := dk_159 0 30 (dk_at dksL_law_56 11 rfl rfl)
theorem dL_law_1485 : decode bcL_law 1485 = .ok (.iconst 0, 1) := dk_3 (dk_at dksL_law_56 14 rfl rfl)
theorem dL_law_1486 : decode bcL_law 1486 = .ok (.ireturn, 1) := dk_172 (dk_at dksL_law_56 15 rfl rfl)
theorem dL_law_1487 : decode bcL_law 1487 = .ok (.aload_n 1, 1) := dk_43 (dk_at dksL_law_56 16 rfl rfl)
theorem dL_law_1488 : decode bcL_law 1488 = .ok (.aload_n 0, 1) := dk_42 (dk_at dksL_law_56 17 rfl rfl)
theorem dL_law_1489 : decode bcL_law 1489 = .ok (.iload 4, 2) := dk_21 4 (dk_at dksL_law_56 18 rfl rfl)
theorem dL_law_1491 : decode bcL_law 1491 = .ok (.iconst 1, 1) := dk_4 (dk_at dksL_law_56 20 rfl rfl)
theorem dL_law_1492 : decode bcL_law 1492 = .ok (.iadd, 1) := dk_96 (dk_at dksL_law_56 21 rfl rfl)
theorem dL_law_1493 : decode bcL_law 1493 = .ok (.iaload, 1) := dk_46 (dk_at dksL_law_56 22 rfl rfl)
theorem dL_law_1494 : decode bcL_law 1494 = .ok (.invokevirtual 203, 3) := dk_182 0 203 (dk_at dksL_law_57 0 rfl rfl)
theorem dL_law_1497 : decode bcL_law 1497 = .ok (.aload_n 2, 1) := dk_44 (dk_at dksL_law_57 3 rfl rfl)
theorem dL_law_1498 : decode bcL_law 1498 = .ok (.aload_n 0, 1) := dk_42 (dk_at dksL_law_57 4 rfl rfl)
theorem dL_law_1499 : decode bcL_law 1499 = .ok (.iload 4, 2) := dk_21 4 (dk_at dksL_law_57 5 rfl rfl)
theorem dL_law_1501 : decode bcL_law 1501 = .ok (.iconst 1, 1) := dk_4 (dk_at dksL_law_57 7 rfl rfl)
theorem dL_law_1502 : decode bcL_law 1502 = .ok (.iadd, 1) := dk_96 (dk_at dksL_law_57 8 rfl rfl)
theorem dL_law_1503 : decode bcL_law 1503 = .ok (.iaload, 1) := dk_46 (dk_at dksL_law_57 9 rfl rfl)
theorem dL_law_1504 : decode bcL_law 1504 = .ok (.invokevirtual 206, 3) := dk_182 0 206 (dk_at dksL_law_57 10 rfl rfl)
theorem dL_law_1507 : decode bcL_law 1507 = .ok (.if_icmp .eq 5, 3) := dk_159 0 5 (dk_at dksL_law_57 13 rfl rfl)
theorem dL_law_1510 : decode bcL_law 1510 = .ok (.iconst 0, 1) := dk_3 (dk_at dksL_law_57 16 rfl rfl)
theorem dL_law_1511 : decode bcL_law 1511 = .ok (.ireturn, 1) := dk_172 (dk_at dksL_law_57 17 rfl rfl)
theorem dL_law_1512 : decode bcL_law 1512 = .ok (.iinc 4 7, 3) := dk_132 4 7 (dk_at dksL_law_57 18 rfl rfl)
theorem dL_law_1515 : decode bcL_law 1515 = .ok (.goto (-1492), 3) := dk_167 250 44 (dk_at dksL_law_57 21 rfl rfl)
theorem dL_law_1518 : decode bcL_law 1518 = .ok (.iconst 1, 1) := dk_4 (dk_at dksL_law_58 0 rfl rfl)
theorem dL_law_1519 : decode bcL_law 1519 = .ok (.ireturn, 1) := dk_172 (dk_at dksL_law_58 1 rfl rfl)
abbrev SL_law (pc : Nat) (i : xI) : Prop := Snd "SwollenHouseLaw" "law" bcL_law 7 (Option.some Jvm.ClassFile.FieldType.boolean) [] pc i
theorem oL_law_0 : SL_law 0 (i_new 0 22 zX1 3) := snd_new dL_law_0 rfl in_X1 tyX1 tyX1_ok (by decide) q171 q172 q127
theorem oL_law_3 : SL_law 3 (i_dup 4) := snd_dup dL_law_3
theorem oL_law_4 : SL_law 4 (i_ci [0] 87 0 7) := snd_ci rfl infX1_init (by decide) (xcls_ok _ (by decide)) (xIm_I dL_law_4 rfl q173 q174 q127 q175 pdX1_init)
theorem oL_law_7 : SL_law 7 (i_astore 1 8) := snd_astore_n dL_law_7 rfl (by decide)
theorem oL_law_8 : SL_law 8 (i_new 4 32 zX5 11) := snd_new dL_law_8 rfl in_X5 tyX5 tyX5_ok (by decide) q1646 q1644 q136
theorem oL_law_11 : SL_law 11 (i_dup 12) := snd_dup dL_law_11
theorem oL_law_12 : SL_law 12 (i_ci [4] 246 0 15) := snd_ci rfl infX5_init (by decide) (xcls_ok _ (by decide)) (xIm_I dL_law_12 rfl q1647 q1648 q136 q1649 pdX5_init)
theorem oL_law_15 : SL_law 15 (i_astore 2 16) := snd_astore_n dL_law_15 rfl (by decide)
theorem oL_law_16 : SL_law 16 (i_const (.int (nI 1)) 17) := snd_iconst dL_law_16 (by decide)
theorem oL_law_17 : SL_law 17 (i_newa 3 (.inr (.inl (fun _ => 0))) 19) := snd_na3 dL_law_17
theorem oL_law_19 : SL_law 19 (i_astore 3 20) := snd_astore_n dL_law_19 rfl (by decide)
theorem oL_law_20 : SL_law 20 (i_const (.int (nI 0)) 21) := snd_iconst dL_law_20 (by decide)
theorem oL_law_21 : SL_law 21 (i_istore 4 23) := snd_istore dL_law_21 (by decide)
theorem oL_law_23 : SL_law 23 (i_iload 4 25) := snd_iload dL_law_23
theorem oL_law_25 : SL_law 25 (i_aload 0 26) := snd_aload_n dL_law_25 rfl
theorem oL_law_26 : SL_law 26 (i_len 27) := snd_len dL_law_26
theorem oL_law_27 : SL_law 27 (i_const (.int (nI 7)) 29) := snd_bipush dL_law_27 (by decide)
theorem oL_law_29 : SL_law 29 (i_ii (fun x y => x - y) 30) := snd_isub dL_law_29
theorem oL_law_30 : SL_law 30 (i_if2 (fun x y => y < x) 1518 33) := snd_icmp_gt dL_law_30 (by decide)
theorem oL_law_33 : SL_law 33 (i_aload 0 34) := snd_aload_n dL_law_33 rfl
theorem oL_law_34 : SL_law 34 (i_iload 4 36) := snd_iload dL_law_34
theorem oL_law_36 : SL_law 36 (i_ai 0 37) := snd_ai0 dL_law_36
theorem oL_law_37 : SL_law 37 (i_const (.int (nI 63)) 39) := snd_bipush dL_law_37 (by decide)
theorem oL_law_39 : SL_law 39 (i_ii (fun x y => x &&& y) 40) := snd_iand dL_law_39
theorem oL_law_40 : SL_law 40 (i_tsw 0 [228, 375, 388, 401, 438, 463, 476, 513, 538, 563, 588, 601, 626, 639, 664, 689, 726, 751, 776, 789, 802, 839, 876, 913, 950, 987, 1052, 1065, 1078, 1115, 1128, 1141, 1154, 1167, 1180, 1193, 1206, 1231, 1244, 1293, 1385, 1434, 1487] 1512) := snd_tsw dL_law_40 (by decide) (by decide) (by decide)
theorem oL_law_228 : SL_law 228 (i_aload 1 229) := snd_aload_n dL_law_228 rfl
theorem oL_law_229 : SL_law 229 (i_aload 0 230) := snd_aload_n dL_law_229 rfl
theorem oL_law_230 : SL_law 230 (i_iload 4 232) := snd_iload dL_law_230
theorem oL_law_232 : SL_law 232 (i_const (.int (nI 1)) 233) := snd_iconst dL_law_232 (by decide)
theorem oL_law_233 : SL_law 233 (i_ii (fun x y => x + y) 234) := snd_iadd dL_law_233
theorem oL_law_234 : SL_law 234 (i_ai 0 235) := snd_ai0 dL_law_234
theorem oL_law_235 : SL_law 235 (i_i2l 236) := snd_i2l dL_law_235
theorem oL_law_236 : SL_law 236 (i_const (.int (nI 32)) 238) := snd_bipush dL_law_236 (by decide)
theorem oL_law_238 : SL_law 238 (i_li (fun x y => x <<< (y.toInt64 &&& 63)) 239) := snd_lshl dL_law_238
theorem oL_law_239 : SL_law 239 (i_aload 0 240) := snd_aload_n dL_law_239 rfl
theorem oL_law_240 : SL_law 240 (i_iload 4 242) := snd_iload dL_law_240
theorem oL_law_242 : SL_law 242 (i_const (.int (nI 2)) 243) := snd_iconst dL_law_242 (by decide)
theorem oL_law_243 : SL_law 243 (i_ii (fun x y => x + y) 244) := snd_iadd dL_law_243
theorem oL_law_244 : SL_law 244 (i_ai 0 245) := snd_ai0 dL_law_244
theorem oL_law_245 : SL_law 245 (i_i2l 246) := snd_i2l dL_law_245
theorem oL_law_246 : SL_law 246 (i_const (.long (lN 4294967295)) 249) := snd_ldc2 dL_law_246 q2248
theorem oL_law_249 : SL_law 249 (i_ll (fun x y => x &&& y) 250) := snd_land dL_law_249
theorem oL_law_250 : SL_law 250 (i_ll (fun x y => x ||| y) 251) := snd_lor dL_law_250
theorem oL_law_251 : SL_law 251 (i_aload 0 252) := snd_aload_n dL_law_251 rfl
theorem oL_law_252 : SL_law 252 (i_iload 4 254) := snd_iload dL_law_252
theorem oL_law_254 : SL_law 254 (i_const (.int (nI 3)) 255) := snd_iconst dL_law_254 (by decide)
theorem oL_law_255 : SL_law 255 (i_ii (fun x y => x + y) 256) := snd_iadd dL_law_255
theorem oL_law_256 : SL_law 256 (i_ai 0 257) := snd_ai0 dL_law_256
theorem oL_law_257 : SL_law 257 (i_i2l 258) := snd_i2l dL_law_257
theorem oL_law_258 : SL_law 258 (i_const (.int (nI 32)) 260) := snd_bipush dL_law_258 (by decide)
theorem oL_law_260 : SL_law 260 (i_li (fun x y => x <<< (y.toInt64 &&& 63)) 261) := snd_lshl dL_law_260
theorem oL_law_261 : SL_law 261 (i_aload 0 262) := snd_aload_n dL_law_261 rfl
theorem oL_law_262 : SL_law 262 (i_iload 4 264) := snd_iload dL_law_262
theorem oL_law_264 : SL_law 264 (i_const (.int (nI 4)) 265) := snd_iconst dL_law_264 (by decide)
theorem oL_law_265 : SL_law 265 (i_ii (fun x y => x + y) 266) := snd_iadd dL_law_265
theorem oL_law_266 : SL_law 266 (i_ai 0 267) := snd_ai0 dL_law_266
theorem oL_law_267 : SL_law 267 (i_i2l 268) := snd_i2l dL_law_267
theorem oL_law_268 : SL_law 268 (i_const (.long (lN 4294967295)) 271) := snd_ldc2 dL_law_268 q2248
theorem oL_law_271 : SL_law 271 (i_ll (fun x y => x &&& y) 272) := snd_land dL_law_271
theorem oL_law_272 : SL_law 272 (i_ll (fun x y => x ||| y) 273) := snd_lor dL_law_272
theorem oL_law_273 : SL_law 273 (i_aload 0 274) := snd_aload_n dL_law_273 rfl
theorem oL_law_274 : SL_law 274 (i_iload 4 276) := snd_iload dL_law_274
theorem oL_law_276 : SL_law 276 (i_const (.int (nI 5)) 277) := snd_iconst dL_law_276 (by decide)
theorem oL_law_277 : SL_law 277 (i_ii (fun x y => x + y) 278) := snd_iadd dL_law_277
theorem oL_law_278 : SL_law 278 (i_ai 0 279) := snd_ai0 dL_law_278
theorem oL_law_279 : SL_law 279 (i_i2l 280) := snd_i2l dL_law_279
theorem oL_law_280 : SL_law 280 (i_const (.int (nI 32)) 282) := snd_bipush dL_law_280 (by decide)
theorem oL_law_282 : SL_law 282 (i_li (fun x y => x <<< (y.toInt64 &&& 63)) 283) := snd_lshl dL_law_282
theorem oL_law_283 : SL_law 283 (i_aload 0 284) := snd_aload_n dL_law_283 rfl
theorem oL_law_284 : SL_law 284 (i_iload 4 286) := snd_iload dL_law_284
theorem oL_law_286 : SL_law 286 (i_const (.int (nI 6)) 288) := snd_bipush dL_law_286 (by decide)
theorem oL_law_288 : SL_law 288 (i_ii (fun x y => x + y) 289) := snd_iadd dL_law_288
theorem oL_law_289 : SL_law 289 (i_ai 0 290) := snd_ai0 dL_law_289
theorem oL_law_290 : SL_law 290 (i_i2l 291) := snd_i2l dL_law_290
theorem oL_law_291 : SL_law 291 (i_const (.long (lN 4294967295)) 294) := snd_ldc2 dL_law_291 q2248
theorem oL_law_294 : SL_law 294 (i_ll (fun x y => x &&& y) 295) := snd_land dL_law_294
theorem oL_law_295 : SL_law 295 (i_ll (fun x y => x ||| y) 296) := snd_lor dL_law_295
theorem oL_law_296 : SL_law 296 (i_cv 0 89 3 299) := snd_cv rfl infX1_feed (by decide) rfl (xVm_V dL_law_296 rfl q414 q415 q416 q127 q417 pdX1_feed)
theorem oL_law_299 : SL_law 299 (i_aload 2 300) := snd_aload_n dL_law_299 rfl
theorem oL_law_300 : SL_law 300 (i_aload 0 301) := snd_aload_n dL_law_300 rfl
theorem oL_law_301 : SL_law 301 (i_iload 4 303) := snd_iload dL_law_301
theorem oL_law_303 : SL_law 303 (i_const (.int (nI 1)) 304) := snd_iconst dL_law_303 (by decide)
theorem oL_law_304 : SL_law 304 (i_ii (fun x y => x + y) 305) := snd_iadd dL_law_304
theorem oL_law_305 : SL_law 305 (i_ai 0 306) := snd_ai0 dL_law_305
theorem oL_law_306 : SL_law 306 (i_i2l 307) := snd_i2l dL_law_306
theorem oL_law_307 : SL_law 307 (i_const (.int (nI 32)) 309) := snd_bipush dL_law_307 (by decide)
theorem oL_law_309 : SL_law 309 (i_li (fun x y => x <<< (y.toInt64 &&& 63)) 310) := snd_lshl dL_law_309
theorem oL_law_310 : SL_law 310 (i_aload 0 311) := snd_aload_n dL_law_310 rfl
theorem oL_law_311 : SL_law 311 (i_iload 4 313) := snd_iload dL_law_311
theorem oL_law_313 : SL_law 313 (i_const (.int (nI 2)) 314) := snd_iconst dL_law_313 (by decide)
theorem oL_law_314 : SL_law 314 (i_ii (fun x y => x + y) 315) := snd_iadd dL_law_314
theorem oL_law_315 : SL_law 315 (i_ai 0 316) := snd_ai0 dL_law_315
theorem oL_law_316 : SL_law 316 (i_i2l 317) := snd_i2l dL_law_316
theorem oL_law_317 : SL_law 317 (i_const (.long (lN 4294967295)) 320) := snd_ldc2 dL_law_317 q2248
theorem oL_law_320 : SL_law 320 (i_ll (fun x y => x &&& y) 321) := snd_land dL_law_320
theorem oL_law_321 : SL_law 321 (i_ll (fun x y => x ||| y) 322) := snd_lor dL_law_321
theorem oL_law_322 : SL_law 322 (i_aload 0 323) := snd_aload_n dL_law_322 rfl
theorem oL_law_323 : SL_law 323 (i_iload 4 325) := snd_iload dL_law_323
theorem oL_law_325 : SL_law 325 (i_const (.int (nI 3)) 326) := snd_iconst dL_law_325 (by decide)
theorem oL_law_326 : SL_law 326 (i_ii (fun x y => x + y) 327) := snd_iadd dL_law_326
theorem oL_law_327 : SL_law 327 (i_ai 0 328) := snd_ai0 dL_law_327
theorem oL_law_328 : SL_law 328 (i_i2l 329) := snd_i2l dL_law_328
theorem oL_law_329 : SL_law 329 (i_const (.int (nI 32)) 331) := snd_bipush dL_law_329 (by decide)
theorem oL_law_331 : SL_law 331 (i_li (fun x y => x <<< (y.toInt64 &&& 63)) 332) := snd_lshl dL_law_331
theorem oL_law_332 : SL_law 332 (i_aload 0 333) := snd_aload_n dL_law_332 rfl
theorem oL_law_333 : SL_law 333 (i_iload 4 335) := snd_iload dL_law_333
theorem oL_law_335 : SL_law 335 (i_const (.int (nI 4)) 336) := snd_iconst dL_law_335 (by decide)
theorem oL_law_336 : SL_law 336 (i_ii (fun x y => x + y) 337) := snd_iadd dL_law_336
theorem oL_law_337 : SL_law 337 (i_ai 0 338) := snd_ai0 dL_law_337
theorem oL_law_338 : SL_law 338 (i_i2l 339) := snd_i2l dL_law_338
theorem oL_law_339 : SL_law 339 (i_const (.long (lN 4294967295)) 342) := snd_ldc2 dL_law_339 q2248
theorem oL_law_342 : SL_law 342 (i_ll (fun x y => x &&& y) 343) := snd_land dL_law_342
theorem oL_law_343 : SL_law 343 (i_ll (fun x y => x ||| y) 344) := snd_lor dL_law_343
theorem oL_law_344 : SL_law 344 (i_aload 0 345) := snd_aload_n dL_law_344 rfl
theorem oL_law_345 : SL_law 345 (i_iload 4 347) := snd_iload dL_law_345
theorem oL_law_347 : SL_law 347 (i_const (.int (nI 5)) 348) := snd_iconst dL_law_347 (by decide)
theorem oL_law_348 : SL_law 348 (i_ii (fun x y => x + y) 349) := snd_iadd dL_law_348
theorem oL_law_349 : SL_law 349 (i_ai 0 350) := snd_ai0 dL_law_349
theorem oL_law_350 : SL_law 350 (i_i2l 351) := snd_i2l dL_law_350
theorem oL_law_351 : SL_law 351 (i_const (.int (nI 32)) 353) := snd_bipush dL_law_351 (by decide)
theorem oL_law_353 : SL_law 353 (i_li (fun x y => x <<< (y.toInt64 &&& 63)) 354) := snd_lshl dL_law_353
theorem oL_law_354 : SL_law 354 (i_aload 0 355) := snd_aload_n dL_law_354 rfl
theorem oL_law_355 : SL_law 355 (i_iload 4 357) := snd_iload dL_law_355
theorem oL_law_357 : SL_law 357 (i_const (.int (nI 6)) 359) := snd_bipush dL_law_357 (by decide)
theorem oL_law_359 : SL_law 359 (i_ii (fun x y => x + y) 360) := snd_iadd dL_law_359
theorem oL_law_360 : SL_law 360 (i_ai 0 361) := snd_ai0 dL_law_360
theorem oL_law_361 : SL_law 361 (i_i2l 362) := snd_i2l dL_law_361
theorem oL_law_362 : SL_law 362 (i_const (.long (lN 4294967295)) 365) := snd_ldc2 dL_law_362 q2248
theorem oL_law_365 : SL_law 365 (i_ll (fun x y => x &&& y) 366) := snd_land dL_law_365
theorem oL_law_366 : SL_law 366 (i_ll (fun x y => x ||| y) 367) := snd_lor dL_law_366
theorem oL_law_367 : SL_law 367 (i_cv 4 244 3 370) := snd_cv rfl infX5_feed (by decide) rfl (xVm_V dL_law_367 rfl q1637 q1638 q1639 q136 q1640 pdX5_feed)
theorem oL_law_370 : SL_law 370 (i_if2 (fun x y => x = y) 1512 373) := snd_icmp_eq dL_law_370 (by decide)
theorem oL_law_373 : SL_law 373 (i_const (.int (nI 0)) 374) := snd_iconst dL_law_373 (by decide)
theorem oL_law_374 : SL_law 374 (i_zret) := snd_zret dL_law_374 rfl
theorem oL_law_375 : SL_law 375 (i_aload 1 376) := snd_aload_n dL_law_375 rfl
theorem oL_law_376 : SL_law 376 (i_cv 0 90 0 379) := snd_cv rfl infX1_house (by decide) rfl (xVm_VW dL_law_376 rfl q418 q419 q420 q127 q421 pdX1_house)
theorem oL_law_379 : SL_law 379 (i_aload 2 380) := snd_aload_n dL_law_379 rfl
theorem oL_law_380 : SL_law 380 (i_cv 4 253 0 383) := snd_cv rfl infX5_house (by decide) rfl (xVm_V dL_law_380 rfl q1796 q1797 q1798 q136 q1799 pdX5_house)
theorem oL_law_383 : SL_law 383 (i_if2 (fun x y => x = y) 1512 386) := snd_icmp_eq dL_law_383 (by decide)
theorem oL_law_386 : SL_law 386 (i_const (.int (nI 0)) 387) := snd_iconst dL_law_386 (by decide)
theorem oL_law_387 : SL_law 387 (i_zret) := snd_zret dL_law_387 rfl
theorem oL_law_388 : SL_law 388 (i_aload 1 389) := snd_aload_n dL_law_388 rfl
theorem oL_law_389 : SL_law 389 (i_cv 0 93 0 392) := snd_cv rfl infX1_days (by decide) rfl (xVm_VW dL_law_389 rfl q1064 q1065 q1066 q127 q1067 pdX1_days)
theorem oL_law_392 : SL_law 392 (i_aload 2 393) := snd_aload_n dL_law_392 rfl
theorem oL_law_393 : SL_law 393 (i_cv 4 285 0 396) := snd_cv rfl infX5_days (by decide) rfl (xVm_V dL_law_393 rfl q1922 q1923 q1924 q136 q1925 pdX5_days)
theorem oL_law_396 : SL_law 396 (i_if2 (fun x y => x = y) 1512 399) := snd_icmp_eq dL_law_396 (by decide)
theorem oL_law_399 : SL_law 399 (i_const (.int (nI 0)) 400) := snd_iconst dL_law_399 (by decide)
theorem oL_law_400 : SL_law 400 (i_zret) := snd_zret dL_law_400 rfl
theorem oL_law_401 : SL_law 401 (i_aload 1 402) := snd_aload_n dL_law_401 rfl
theorem oL_law_402 : SL_law 402 (i_aload 0 403) := snd_aload_n dL_law_402 rfl
theorem oL_law_403 : SL_law 403 (i_iload 4 405) := snd_iload dL_law_403
theorem oL_law_405 : SL_law 405 (i_const (.int (nI 1)) 406) := snd_iconst dL_law_405 (by decide)
theorem oL_law_406 : SL_law 406 (i_ii (fun x y => x + y) 407) := snd_iadd dL_law_406
theorem oL_law_407 : SL_law 407 (i_ai 0 408) := snd_ai0 dL_law_407
theorem oL_law_408 : SL_law 408 (i_aload 0 409) := snd_aload_n dL_law_408 rfl
theorem oL_law_409 : SL_law 409 (i_iload 4 411) := snd_iload dL_law_409
theorem oL_law_411 : SL_law 411 (i_const (.int (nI 2)) 412) := snd_iconst dL_law_411 (by decide)
theorem oL_law_412 : SL_law 412 (i_ii (fun x y => x + y) 413) := snd_iadd dL_law_412
theorem oL_law_413 : SL_law 413 (i_ai 0 414) := snd_ai0 dL_law_413
theorem oL_law_414 : SL_law 414 (i_cv 0 94 2 417) := snd_cv rfl infX1_door (by decide) rfl (xVm_V dL_law_414 rfl q1132 q1133 q1134 q127 q1135 pdX1_door)
theorem oL_law_417 : SL_law 417 (i_aload 2 418) := snd_aload_n dL_law_417 rfl
theorem oL_law_418 : SL_law 418 (i_aload 0 419) := snd_aload_n dL_law_418 rfl
theorem oL_law_419 : SL_law 419 (i_iload 4 421) := snd_iload dL_law_419
theorem oL_law_421 : SL_law 421 (i_const (.int (nI 1)) 422) := snd_iconst dL_law_421 (by decide)
theorem oL_law_422 : SL_law 422 (i_ii (fun x y => x + y) 423) := snd_iadd dL_law_422
theorem oL_law_423 : SL_law 423 (i_ai 0 424) := snd_ai0 dL_law_423
theorem oL_law_424 : SL_law 424 (i_aload 0 425) := snd_aload_n dL_law_424 rfl
theorem oL_law_425 : SL_law 425 (i_iload 4 427) := snd_iload dL_law_425
theorem oL_law_427 : SL_law 427 (i_const (.int (nI 2)) 428) := snd_iconst dL_law_427 (by decide)
theorem oL_law_428 : SL_law 428 (i_ii (fun x y => x + y) 429) := snd_iadd dL_law_428
theorem oL_law_429 : SL_law 429 (i_ai 0 430) := snd_ai0 dL_law_429
theorem oL_law_430 : SL_law 430 (i_cv 4 286 2 433) := snd_cv rfl infX5_door (by decide) rfl (xVm_V dL_law_430 rfl q1926 q1927 q1928 q136 q1929 pdX5_door)
theorem oL_law_433 : SL_law 433 (i_if2 (fun x y => x = y) 1512 436) := snd_icmp_eq dL_law_433 (by decide)
theorem oL_law_436 : SL_law 436 (i_const (.int (nI 0)) 437) := snd_iconst dL_law_436 (by decide)
theorem oL_law_437 : SL_law 437 (i_zret) := snd_zret dL_law_437 rfl
theorem oL_law_438 : SL_law 438 (i_aload 1 439) := snd_aload_n dL_law_438 rfl
theorem oL_law_439 : SL_law 439 (i_aload 0 440) := snd_aload_n dL_law_439 rfl
theorem oL_law_440 : SL_law 440 (i_iload 4 442) := snd_iload dL_law_440
theorem oL_law_442 : SL_law 442 (i_const (.int (nI 1)) 443) := snd_iconst dL_law_442 (by decide)
theorem oL_law_443 : SL_law 443 (i_ii (fun x y => x + y) 444) := snd_iadd dL_law_443
theorem oL_law_444 : SL_law 444 (i_ai 0 445) := snd_ai0 dL_law_444
theorem oL_law_445 : SL_law 445 (i_cv 0 99 1 448) := snd_cv rfl infX1_person (by decide) rfl (xVm_V dL_law_445 rfl q1174 q1175 q1176 q127 q1177 pdX1_person)
theorem oL_law_448 : SL_law 448 (i_aload 2 449) := snd_aload_n dL_law_448 rfl
theorem oL_law_449 : SL_law 449 (i_aload 0 450) := snd_aload_n dL_law_449 rfl
theorem oL_law_450 : SL_law 450 (i_iload 4 452) := snd_iload dL_law_450
theorem oL_law_452 : SL_law 452 (i_const (.int (nI 1)) 453) := snd_iconst dL_law_452 (by decide)
theorem oL_law_453 : SL_law 453 (i_ii (fun x y => x + y) 454) := snd_iadd dL_law_453
theorem oL_law_454 : SL_law 454 (i_ai 0 455) := snd_ai0 dL_law_454
theorem oL_law_455 : SL_law 455 (i_cv 4 291 1 458) := snd_cv rfl infX5_person (by decide) rfl (xVm_V dL_law_455 rfl q1946 q1947 q1948 q136 q1949 pdX5_person)
theorem oL_law_458 : SL_law 458 (i_if2 (fun x y => x = y) 1512 461) := snd_icmp_eq dL_law_458 (by decide)
theorem oL_law_461 : SL_law 461 (i_const (.int (nI 0)) 462) := snd_iconst dL_law_461 (by decide)
theorem oL_law_462 : SL_law 462 (i_zret) := snd_zret dL_law_462 rfl
theorem oL_law_463 : SL_law 463 (i_aload 1 464) := snd_aload_n dL_law_463 rfl
theorem oL_law_464 : SL_law 464 (i_cv 0 102 0 467) := snd_cv rfl infX1_day (by decide) rfl (xVm_V dL_law_464 rfl q1186 q1187 q1188 q127 q1189 pdX1_day)
theorem oL_law_467 : SL_law 467 (i_aload 2 468) := snd_aload_n dL_law_467 rfl
theorem oL_law_468 : SL_law 468 (i_cv 4 293 0 471) := snd_cv rfl infX5_day (by decide) rfl (xVm_V dL_law_468 rfl q1954 q1955 q1956 q136 q1957 pdX5_day)
theorem oL_law_471 : SL_law 471 (i_if2 (fun x y => x = y) 1512 474) := snd_icmp_eq dL_law_471 (by decide)
theorem oL_law_474 : SL_law 474 (i_const (.int (nI 0)) 475) := snd_iconst dL_law_474 (by decide)
theorem oL_law_475 : SL_law 475 (i_zret) := snd_zret dL_law_475 rfl
theorem oL_law_476 : SL_law 476 (i_aload 1 477) := snd_aload_n dL_law_476 rfl
theorem oL_law_477 : SL_law 477 (i_aload 0 478) := snd_aload_n dL_law_477 rfl
theorem oL_law_478 : SL_law 478 (i_iload 4 480) := snd_iload dL_law_478
theorem oL_law_480 : SL_law 480 (i_const (.int (nI 1)) 481) := snd_iconst dL_law_480 (by decide)
theorem oL_law_481 : SL_law 481 (i_ii (fun x y => x + y) 482) := snd_iadd dL_law_481
theorem oL_law_482 : SL_law 482 (i_ai 0 483) := snd_ai0 dL_law_482
theorem oL_law_483 : SL_law 483 (i_aload 0 484) := snd_aload_n dL_law_483 rfl
theorem oL_law_484 : SL_law 484 (i_iload 4 486) := snd_iload dL_law_484
theorem oL_law_486 : SL_law 486 (i_const (.int (nI 2)) 487) := snd_iconst dL_law_486 (by decide)
theorem oL_law_487 : SL_law 487 (i_ii (fun x y => x + y) 488) := snd_iadd dL_law_487
theorem oL_law_488 : SL_law 488 (i_ai 0 489) := snd_ai0 dL_law_488
theorem oL_law_489 : SL_law 489 (i_cv 0 109 2 492) := snd_cv rfl infX1_walk (by decide) rfl (xVm_V dL_law_489 rfl q1285 q1286 q1287 q127 q1288 pdX1_walk)
theorem oL_law_492 : SL_law 492 (i_aload 2 493) := snd_aload_n dL_law_492 rfl
theorem oL_law_493 : SL_law 493 (i_aload 0 494) := snd_aload_n dL_law_493 rfl
theorem oL_law_494 : SL_law 494 (i_iload 4 496) := snd_iload dL_law_494
theorem oL_law_496 : SL_law 496 (i_const (.int (nI 1)) 497) := snd_iconst dL_law_496 (by decide)
theorem oL_law_497 : SL_law 497 (i_ii (fun x y => x + y) 498) := snd_iadd dL_law_497
theorem oL_law_498 : SL_law 498 (i_ai 0 499) := snd_ai0 dL_law_498
theorem oL_law_499 : SL_law 499 (i_aload 0 500) := snd_aload_n dL_law_499 rfl
theorem oL_law_500 : SL_law 500 (i_iload 4 502) := snd_iload dL_law_500
theorem oL_law_502 : SL_law 502 (i_const (.int (nI 2)) 503) := snd_iconst dL_law_502 (by decide)
theorem oL_law_503 : SL_law 503 (i_ii (fun x y => x + y) 504) := snd_iadd dL_law_503
theorem oL_law_504 : SL_law 504 (i_ai 0 505) := snd_ai0 dL_law_504
theorem oL_law_505 : SL_law 505 (i_cv 4 303 2 508) := snd_cv rfl infX5_walk (by decide) rfl (xVm_V dL_law_505 rfl q1993 q1994 q1995 q136 q1996 pdX5_walk)
theorem oL_law_508 : SL_law 508 (i_if2 (fun x y => x = y) 1512 511) := snd_icmp_eq dL_law_508 (by decide)
theorem oL_law_511 : SL_law 511 (i_const (.int (nI 0)) 512) := snd_iconst dL_law_511 (by decide)
theorem oL_law_512 : SL_law 512 (i_zret) := snd_zret dL_law_512 rfl
theorem oL_law_513 : SL_law 513 (i_aload 1 514) := snd_aload_n dL_law_513 rfl
theorem oL_law_514 : SL_law 514 (i_aload 0 515) := snd_aload_n dL_law_514 rfl
theorem oL_law_515 : SL_law 515 (i_iload 4 517) := snd_iload dL_law_515
theorem oL_law_517 : SL_law 517 (i_const (.int (nI 1)) 518) := snd_iconst dL_law_517 (by decide)
theorem oL_law_518 : SL_law 518 (i_ii (fun x y => x + y) 519) := snd_iadd dL_law_518
theorem oL_law_519 : SL_law 519 (i_ai 0 520) := snd_ai0 dL_law_519
theorem oL_law_520 : SL_law 520 (i_cv 0 111 1 523) := snd_cv rfl infX1_plane (by decide) rfl (xVm_V dL_law_520 rfl q1298 q1299 q1300 q127 q1301 pdX1_plane)
theorem oL_law_523 : SL_law 523 (i_aload 2 524) := snd_aload_n dL_law_523 rfl
theorem oL_law_524 : SL_law 524 (i_aload 0 525) := snd_aload_n dL_law_524 rfl
theorem oL_law_525 : SL_law 525 (i_iload 4 527) := snd_iload dL_law_525
theorem oL_law_527 : SL_law 527 (i_const (.int (nI 1)) 528) := snd_iconst dL_law_527 (by decide)
theorem oL_law_528 : SL_law 528 (i_ii (fun x y => x + y) 529) := snd_iadd dL_law_528
theorem oL_law_529 : SL_law 529 (i_ai 0 530) := snd_ai0 dL_law_529
theorem oL_law_530 : SL_law 530 (i_cv 4 307 1 533) := snd_cv rfl infX5_plane (by decide) rfl (xVm_V dL_law_530 rfl q2009 q2010 q2011 q136 q2012 pdX5_plane)
theorem oL_law_533 : SL_law 533 (i_if2 (fun x y => x = y) 1512 536) := snd_icmp_eq dL_law_533 (by decide)
theorem oL_law_536 : SL_law 536 (i_const (.int (nI 0)) 537) := snd_iconst dL_law_536 (by decide)
theorem oL_law_537 : SL_law 537 (i_zret) := snd_zret dL_law_537 rfl
theorem oL_law_538 : SL_law 538 (i_aload 1 539) := snd_aload_n dL_law_538 rfl
theorem oL_law_539 : SL_law 539 (i_aload 0 540) := snd_aload_n dL_law_539 rfl
theorem oL_law_540 : SL_law 540 (i_iload 4 542) := snd_iload dL_law_540
theorem oL_law_542 : SL_law 542 (i_const (.int (nI 1)) 543) := snd_iconst dL_law_542 (by decide)
theorem oL_law_543 : SL_law 543 (i_ii (fun x y => x + y) 544) := snd_iadd dL_law_543
theorem oL_law_544 : SL_law 544 (i_ai 0 545) := snd_ai0 dL_law_544
theorem oL_law_545 : SL_law 545 (i_cv 0 112 1 548) := snd_cv rfl infX1_wedge (by decide) rfl (xVm_V dL_law_545 rfl q1306 q1307 q1308 q127 q1309 pdX1_wedge)
theorem oL_law_548 : SL_law 548 (i_aload 2 549) := snd_aload_n dL_law_548 rfl
theorem oL_law_549 : SL_law 549 (i_aload 0 550) := snd_aload_n dL_law_549 rfl
theorem oL_law_550 : SL_law 550 (i_iload 4 552) := snd_iload dL_law_550
theorem oL_law_552 : SL_law 552 (i_const (.int (nI 1)) 553) := snd_iconst dL_law_552 (by decide)
theorem oL_law_553 : SL_law 553 (i_ii (fun x y => x + y) 554) := snd_iadd dL_law_553
theorem oL_law_554 : SL_law 554 (i_ai 0 555) := snd_ai0 dL_law_554
theorem oL_law_555 : SL_law 555 (i_cv 4 308 1 558) := snd_cv rfl infX5_wedge (by decide) rfl (xVm_V dL_law_555 rfl q2013 q2014 q2015 q136 q2016 pdX5_wedge)
theorem oL_law_558 : SL_law 558 (i_if2 (fun x y => x = y) 1512 561) := snd_icmp_eq dL_law_558 (by decide)
theorem oL_law_561 : SL_law 561 (i_const (.int (nI 0)) 562) := snd_iconst dL_law_561 (by decide)
theorem oL_law_562 : SL_law 562 (i_zret) := snd_zret dL_law_562 rfl
theorem oL_law_563 : SL_law 563 (i_aload 1 564) := snd_aload_n dL_law_563 rfl
theorem oL_law_564 : SL_law 564 (i_aload 0 565) := snd_aload_n dL_law_564 rfl
theorem oL_law_565 : SL_law 565 (i_iload 4 567) := snd_iload dL_law_565
theorem oL_law_567 : SL_law 567 (i_const (.int (nI 1)) 568) := snd_iconst dL_law_567 (by decide)
theorem oL_law_568 : SL_law 568 (i_ii (fun x y => x + y) 569) := snd_iadd dL_law_568
theorem oL_law_569 : SL_law 569 (i_ai 0 570) := snd_ai0 dL_law_569
theorem oL_law_570 : SL_law 570 (i_cv 0 113 1 573) := snd_cv rfl infX1_force (by decide) rfl (xVm_V dL_law_570 rfl q1315 q1316 q1317 q127 q1318 pdX1_force)
theorem oL_law_573 : SL_law 573 (i_aload 2 574) := snd_aload_n dL_law_573 rfl
theorem oL_law_574 : SL_law 574 (i_aload 0 575) := snd_aload_n dL_law_574 rfl
theorem oL_law_575 : SL_law 575 (i_iload 4 577) := snd_iload dL_law_575
theorem oL_law_577 : SL_law 577 (i_const (.int (nI 1)) 578) := snd_iconst dL_law_577 (by decide)
theorem oL_law_578 : SL_law 578 (i_ii (fun x y => x + y) 579) := snd_iadd dL_law_578
theorem oL_law_579 : SL_law 579 (i_ai 0 580) := snd_ai0 dL_law_579
theorem oL_law_580 : SL_law 580 (i_cv 4 310 1 583) := snd_cv rfl infX5_force (by decide) rfl (xVm_V dL_law_580 rfl q2021 q2022 q2023 q136 q2024 pdX5_force)
theorem oL_law_583 : SL_law 583 (i_if2 (fun x y => x = y) 1512 586) := snd_icmp_eq dL_law_583 (by decide)
theorem oL_law_586 : SL_law 586 (i_const (.int (nI 0)) 587) := snd_iconst dL_law_586 (by decide)
theorem oL_law_587 : SL_law 587 (i_zret) := snd_zret dL_law_587 rfl
theorem oL_law_588 : SL_law 588 (i_aload 1 589) := snd_aload_n dL_law_588 rfl
theorem oL_law_589 : SL_law 589 (i_cv 0 114 0 592) := snd_cv rfl infX1_undo (by decide) rfl (xVm_V dL_law_589 rfl q1323 q1324 q1325 q127 q1326 pdX1_undo)
theorem oL_law_592 : SL_law 592 (i_aload 2 593) := snd_aload_n dL_law_592 rfl
theorem oL_law_593 : SL_law 593 (i_cv 4 312 0 596) := snd_cv rfl infX5_undo (by decide) rfl (xVm_V dL_law_593 rfl q2029 q2030 q2031 q136 q2032 pdX5_undo)
theorem oL_law_596 : SL_law 596 (i_if2 (fun x y => x = y) 1512 599) := snd_icmp_eq dL_law_596 (by decide)
theorem oL_law_599 : SL_law 599 (i_const (.int (nI 0)) 600) := snd_iconst dL_law_599 (by decide)
theorem oL_law_600 : SL_law 600 (i_zret) := snd_zret dL_law_600 rfl
theorem oL_law_601 : SL_law 601 (i_aload 1 602) := snd_aload_n dL_law_601 rfl
theorem oL_law_602 : SL_law 602 (i_aload 0 603) := snd_aload_n dL_law_602 rfl
theorem oL_law_603 : SL_law 603 (i_iload 4 605) := snd_iload dL_law_603
theorem oL_law_605 : SL_law 605 (i_const (.int (nI 1)) 606) := snd_iconst dL_law_605 (by decide)
theorem oL_law_606 : SL_law 606 (i_ii (fun x y => x + y) 607) := snd_iadd dL_law_606
theorem oL_law_607 : SL_law 607 (i_ai 0 608) := snd_ai0 dL_law_607
theorem oL_law_608 : SL_law 608 (i_cv 0 115 1 611) := snd_cv rfl infX1_judged (by decide) rfl (xVm_V dL_law_608 rfl q1327 q1328 q1329 q127 q1330 pdX1_judged)
theorem oL_law_611 : SL_law 611 (i_aload 2 612) := snd_aload_n dL_law_611 rfl
theorem oL_law_612 : SL_law 612 (i_aload 0 613) := snd_aload_n dL_law_612 rfl
theorem oL_law_613 : SL_law 613 (i_iload 4 615) := snd_iload dL_law_613
theorem oL_law_615 : SL_law 615 (i_const (.int (nI 1)) 616) := snd_iconst dL_law_615 (by decide)
theorem oL_law_616 : SL_law 616 (i_ii (fun x y => x + y) 617) := snd_iadd dL_law_616
theorem oL_law_617 : SL_law 617 (i_ai 0 618) := snd_ai0 dL_law_617
theorem oL_law_618 : SL_law 618 (i_cv 4 313 1 621) := snd_cv rfl infX5_judged (by decide) rfl (xVm_V dL_law_618 rfl q2033 q2034 q2035 q136 q2036 pdX5_judged)
theorem oL_law_621 : SL_law 621 (i_if2 (fun x y => x = y) 1512 624) := snd_icmp_eq dL_law_621 (by decide)
theorem oL_law_624 : SL_law 624 (i_const (.int (nI 0)) 625) := snd_iconst dL_law_624 (by decide)
theorem oL_law_625 : SL_law 625 (i_zret) := snd_zret dL_law_625 rfl
theorem oL_law_626 : SL_law 626 (i_aload 1 627) := snd_aload_n dL_law_626 rfl
theorem oL_law_627 : SL_law 627 (i_cv 0 117 0 630) := snd_cv rfl infX1_shut_2 (by decide) rfl (xVm_V dL_law_627 rfl q1369 q1370 q1371 q127 q1372 pdX1_shut_2)
theorem oL_law_630 : SL_law 630 (i_aload 2 631) := snd_aload_n dL_law_630 rfl
theorem oL_law_631 : SL_law 631 (i_cv 4 317 0 634) := snd_cv rfl infX5_shut (by decide) rfl (xVm_V dL_law_631 rfl q2048 q2049 q2050 q136 q2051 pdX5_shut)
theorem oL_law_634 : SL_law 634 (i_if2 (fun x y => x = y) 1512 637) := snd_icmp_eq dL_law_634 (by decide)
theorem oL_law_637 : SL_law 637 (i_const (.int (nI 0)) 638) := snd_iconst dL_law_637 (by decide)
theorem oL_law_638 : SL_law 638 (i_zret) := snd_zret dL_law_638 rfl
theorem oL_law_639 : SL_law 639 (i_aload 1 640) := snd_aload_n dL_law_639 rfl
theorem oL_law_640 : SL_law 640 (i_aload 0 641) := snd_aload_n dL_law_640 rfl
theorem oL_law_641 : SL_law 641 (i_iload 4 643) := snd_iload dL_law_641
theorem oL_law_643 : SL_law 643 (i_const (.int (nI 1)) 644) := snd_iconst dL_law_643 (by decide)
theorem oL_law_644 : SL_law 644 (i_ii (fun x y => x + y) 645) := snd_iadd dL_law_644
theorem oL_law_645 : SL_law 645 (i_ai 0 646) := snd_ai0 dL_law_645
theorem oL_law_646 : SL_law 646 (i_cv 0 118 1 649) := snd_cv rfl infX1_range (by decide) rfl (xVm_V dL_law_646 rfl q1373 q1374 q1375 q127 q1376 pdX1_range)
theorem oL_law_649 : SL_law 649 (i_aload 2 650) := snd_aload_n dL_law_649 rfl
theorem oL_law_650 : SL_law 650 (i_aload 0 651) := snd_aload_n dL_law_650 rfl
theorem oL_law_651 : SL_law 651 (i_iload 4 653) := snd_iload dL_law_651
theorem oL_law_653 : SL_law 653 (i_const (.int (nI 1)) 654) := snd_iconst dL_law_653 (by decide)
theorem oL_law_654 : SL_law 654 (i_ii (fun x y => x + y) 655) := snd_iadd dL_law_654
theorem oL_law_655 : SL_law 655 (i_ai 0 656) := snd_ai0 dL_law_655
theorem oL_law_656 : SL_law 656 (i_cv 4 318 1 659) := snd_cv rfl infX5_range (by decide) rfl (xVm_V dL_law_656 rfl q2052 q2053 q2054 q136 q2055 pdX5_range)
theorem oL_law_659 : SL_law 659 (i_if2 (fun x y => x = y) 1512 662) := snd_icmp_eq dL_law_659 (by decide)
theorem oL_law_662 : SL_law 662 (i_const (.int (nI 0)) 663) := snd_iconst dL_law_662 (by decide)
theorem oL_law_663 : SL_law 663 (i_zret) := snd_zret dL_law_663 rfl
theorem oL_law_664 : SL_law 664 (i_aload 1 665) := snd_aload_n dL_law_664 rfl
theorem oL_law_665 : SL_law 665 (i_aload 0 666) := snd_aload_n dL_law_665 rfl
theorem oL_law_666 : SL_law 666 (i_iload 4 668) := snd_iload dL_law_666
theorem oL_law_668 : SL_law 668 (i_const (.int (nI 1)) 669) := snd_iconst dL_law_668 (by decide)
theorem oL_law_669 : SL_law 669 (i_ii (fun x y => x + y) 670) := snd_iadd dL_law_669
theorem oL_law_670 : SL_law 670 (i_ai 0 671) := snd_ai0 dL_law_670
theorem oL_law_671 : SL_law 671 (i_cv 0 124 1 674) := snd_cv rfl infX1_company (by decide) rfl (xVm_V dL_law_671 rfl q1398 q1399 q1400 q127 q1401 pdX1_company)
theorem oL_law_674 : SL_law 674 (i_aload 2 675) := snd_aload_n dL_law_674 rfl
theorem oL_law_675 : SL_law 675 (i_aload 0 676) := snd_aload_n dL_law_675 rfl
theorem oL_law_676 : SL_law 676 (i_iload 4 678) := snd_iload dL_law_676
theorem oL_law_678 : SL_law 678 (i_const (.int (nI 1)) 679) := snd_iconst dL_law_678 (by decide)
theorem oL_law_679 : SL_law 679 (i_ii (fun x y => x + y) 680) := snd_iadd dL_law_679
theorem oL_law_680 : SL_law 680 (i_ai 0 681) := snd_ai0 dL_law_680
theorem oL_law_681 : SL_law 681 (i_cv 4 324 1 684) := snd_cv rfl infX5_company (by decide) rfl (xVm_V dL_law_681 rfl q2076 q2077 q2078 q136 q2079 pdX5_company)
theorem oL_law_684 : SL_law 684 (i_if2 (fun x y => x = y) 1512 687) := snd_icmp_eq dL_law_684 (by decide)
theorem oL_law_687 : SL_law 687 (i_const (.int (nI 0)) 688) := snd_iconst dL_law_687 (by decide)
theorem oL_law_688 : SL_law 688 (i_zret) := snd_zret dL_law_688 rfl
theorem oL_law_689 : SL_law 689 (i_aload 1 690) := snd_aload_n dL_law_689 rfl
theorem oL_law_690 : SL_law 690 (i_aload 0 691) := snd_aload_n dL_law_690 rfl
theorem oL_law_691 : SL_law 691 (i_iload 4 693) := snd_iload dL_law_691
theorem oL_law_693 : SL_law 693 (i_const (.int (nI 1)) 694) := snd_iconst dL_law_693 (by decide)
theorem oL_law_694 : SL_law 694 (i_ii (fun x y => x + y) 695) := snd_iadd dL_law_694
theorem oL_law_695 : SL_law 695 (i_ai 0 696) := snd_ai0 dL_law_695
theorem oL_law_696 : SL_law 696 (i_aload 0 697) := snd_aload_n dL_law_696 rfl
theorem oL_law_697 : SL_law 697 (i_iload 4 699) := snd_iload dL_law_697
theorem oL_law_699 : SL_law 699 (i_const (.int (nI 2)) 700) := snd_iconst dL_law_699 (by decide)
theorem oL_law_700 : SL_law 700 (i_ii (fun x y => x + y) 701) := snd_iadd dL_law_700
theorem oL_law_701 : SL_law 701 (i_ai 0 702) := snd_ai0 dL_law_701
theorem oL_law_702 : SL_law 702 (i_cv 0 130 2 705) := snd_cv rfl infX1_later (by decide) rfl (xVm_V dL_law_702 rfl q1422 q1423 q1424 q127 q1425 pdX1_later)
theorem oL_law_705 : SL_law 705 (i_aload 2 706) := snd_aload_n dL_law_705 rfl
theorem oL_law_706 : SL_law 706 (i_aload 0 707) := snd_aload_n dL_law_706 rfl
theorem oL_law_707 : SL_law 707 (i_iload 4 709) := snd_iload dL_law_707
theorem oL_law_709 : SL_law 709 (i_const (.int (nI 1)) 710) := snd_iconst dL_law_709 (by decide)
theorem oL_law_710 : SL_law 710 (i_ii (fun x y => x + y) 711) := snd_iadd dL_law_710
theorem oL_law_711 : SL_law 711 (i_ai 0 712) := snd_ai0 dL_law_711
theorem oL_law_712 : SL_law 712 (i_aload 0 713) := snd_aload_n dL_law_712 rfl
theorem oL_law_713 : SL_law 713 (i_iload 4 715) := snd_iload dL_law_713
theorem oL_law_715 : SL_law 715 (i_const (.int (nI 2)) 716) := snd_iconst dL_law_715 (by decide)
theorem oL_law_716 : SL_law 716 (i_ii (fun x y => x + y) 717) := snd_iadd dL_law_716
theorem oL_law_717 : SL_law 717 (i_ai 0 718) := snd_ai0 dL_law_717
theorem oL_law_718 : SL_law 718 (i_cv 4 336 2 721) := snd_cv rfl infX5_later (by decide) rfl (xVm_V dL_law_718 rfl q2124 q2125 q2126 q136 q2127 pdX5_later)
theorem oL_law_721 : SL_law 721 (i_if2 (fun x y => x = y) 1512 724) := snd_icmp_eq dL_law_721 (by decide)
theorem oL_law_724 : SL_law 724 (i_const (.int (nI 0)) 725) := snd_iconst dL_law_724 (by decide)
theorem oL_law_725 : SL_law 725 (i_zret) := snd_zret dL_law_725 rfl
theorem oL_law_726 : SL_law 726 (i_aload 1 727) := snd_aload_n dL_law_726 rfl
theorem oL_law_727 : SL_law 727 (i_aload 0 728) := snd_aload_n dL_law_727 rfl
theorem oL_law_728 : SL_law 728 (i_iload 4 730) := snd_iload dL_law_728
theorem oL_law_730 : SL_law 730 (i_const (.int (nI 1)) 731) := snd_iconst dL_law_730 (by decide)
theorem oL_law_731 : SL_law 731 (i_ii (fun x y => x + y) 732) := snd_iadd dL_law_731
theorem oL_law_732 : SL_law 732 (i_ai 0 733) := snd_ai0 dL_law_732
theorem oL_law_733 : SL_law 733 (i_cv 0 132 1 736) := snd_cv rfl infX1_closes (by decide) rfl (xVm_V dL_law_733 rfl q1430 q1431 q1432 q127 q1433 pdX1_closes)
theorem oL_law_736 : SL_law 736 (i_aload 2 737) := snd_aload_n dL_law_736 rfl
theorem oL_law_737 : SL_law 737 (i_aload 0 738) := snd_aload_n dL_law_737 rfl
theorem oL_law_738 : SL_law 738 (i_iload 4 740) := snd_iload dL_law_738
theorem oL_law_740 : SL_law 740 (i_const (.int (nI 1)) 741) := snd_iconst dL_law_740 (by decide)
theorem oL_law_741 : SL_law 741 (i_ii (fun x y => x + y) 742) := snd_iadd dL_law_741
theorem oL_law_742 : SL_law 742 (i_ai 0 743) := snd_ai0 dL_law_742
theorem oL_law_743 : SL_law 743 (i_cv 4 338 1 746) := snd_cv rfl infX5_closes (by decide) rfl (xVm_V dL_law_743 rfl q2132 q2133 q2134 q136 q2135 pdX5_closes)
theorem oL_law_746 : SL_law 746 (i_if2 (fun x y => x = y) 1512 749) := snd_icmp_eq dL_law_746 (by decide)
theorem oL_law_749 : SL_law 749 (i_const (.int (nI 0)) 750) := snd_iconst dL_law_749 (by decide)
theorem oL_law_750 : SL_law 750 (i_zret) := snd_zret dL_law_750 rfl
theorem oL_law_751 : SL_law 751 (i_aload 1 752) := snd_aload_n dL_law_751 rfl
theorem oL_law_752 : SL_law 752 (i_aload 0 753) := snd_aload_n dL_law_752 rfl
theorem oL_law_753 : SL_law 753 (i_iload 4 755) := snd_iload dL_law_753
theorem oL_law_755 : SL_law 755 (i_const (.int (nI 1)) 756) := snd_iconst dL_law_755 (by decide)
theorem oL_law_756 : SL_law 756 (i_ii (fun x y => x + y) 757) := snd_iadd dL_law_756
theorem oL_law_757 : SL_law 757 (i_ai 0 758) := snd_ai0 dL_law_757
theorem oL_law_758 : SL_law 758 (i_cv 0 134 1 761) := snd_cv rfl infX1_gives (by decide) rfl (xVm_V dL_law_758 rfl q1438 q1439 q1440 q127 q1441 pdX1_gives)
theorem oL_law_761 : SL_law 761 (i_aload 2 762) := snd_aload_n dL_law_761 rfl
theorem oL_law_762 : SL_law 762 (i_aload 0 763) := snd_aload_n dL_law_762 rfl
theorem oL_law_763 : SL_law 763 (i_iload 4 765) := snd_iload dL_law_763
theorem oL_law_765 : SL_law 765 (i_const (.int (nI 1)) 766) := snd_iconst dL_law_765 (by decide)
theorem oL_law_766 : SL_law 766 (i_ii (fun x y => x + y) 767) := snd_iadd dL_law_766
theorem oL_law_767 : SL_law 767 (i_ai 0 768) := snd_ai0 dL_law_767
theorem oL_law_768 : SL_law 768 (i_cv 4 340 1 771) := snd_cv rfl infX5_gives (by decide) rfl (xVm_V dL_law_768 rfl q2140 q2141 q2142 q136 q2143 pdX5_gives)
theorem oL_law_771 : SL_law 771 (i_if2 (fun x y => x = y) 1512 774) := snd_icmp_eq dL_law_771 (by decide)
theorem oL_law_774 : SL_law 774 (i_const (.int (nI 0)) 775) := snd_iconst dL_law_774 (by decide)
theorem oL_law_775 : SL_law 775 (i_zret) := snd_zret dL_law_775 rfl
theorem oL_law_776 : SL_law 776 (i_aload 1 777) := snd_aload_n dL_law_776 rfl
theorem oL_law_777 : SL_law 777 (i_cv 0 135 0 780) := snd_cv rfl infX1_calm (by decide) rfl (xVm_V dL_law_777 rfl q1442 q1443 q1444 q127 q1445 pdX1_calm)
theorem oL_law_780 : SL_law 780 (i_aload 2 781) := snd_aload_n dL_law_780 rfl
theorem oL_law_781 : SL_law 781 (i_cv 4 341 0 784) := snd_cv rfl infX5_calm (by decide) rfl (xVm_V dL_law_781 rfl q2144 q2145 q2146 q136 q2147 pdX5_calm)
theorem oL_law_784 : SL_law 784 (i_if2 (fun x y => x = y) 1512 787) := snd_icmp_eq dL_law_784 (by decide)
theorem oL_law_787 : SL_law 787 (i_const (.int (nI 0)) 788) := snd_iconst dL_law_787 (by decide)
theorem oL_law_788 : SL_law 788 (i_zret) := snd_zret dL_law_788 rfl
theorem oL_law_789 : SL_law 789 (i_aload 1 790) := snd_aload_n dL_law_789 rfl
theorem oL_law_790 : SL_law 790 (i_cv 0 136 0 793) := snd_cv rfl infX1_hard (by decide) rfl (xVm_V dL_law_790 rfl q1446 q1447 q1448 q127 q1449 pdX1_hard)
theorem oL_law_793 : SL_law 793 (i_aload 2 794) := snd_aload_n dL_law_793 rfl
theorem oL_law_794 : SL_law 794 (i_cv 4 342 0 797) := snd_cv rfl infX5_hard (by decide) rfl (xVm_V dL_law_794 rfl q2148 q2149 q2150 q136 q2151 pdX5_hard)
theorem oL_law_797 : SL_law 797 (i_if2 (fun x y => x = y) 1512 800) := snd_icmp_eq dL_law_797 (by decide)
theorem oL_law_800 : SL_law 800 (i_const (.int (nI 0)) 801) := snd_iconst dL_law_800 (by decide)
theorem oL_law_801 : SL_law 801 (i_zret) := snd_zret dL_law_801 rfl
theorem oL_law_802 : SL_law 802 (i_aload 1 803) := snd_aload_n dL_law_802 rfl
theorem oL_law_803 : SL_law 803 (i_aload 0 804) := snd_aload_n dL_law_803 rfl
theorem oL_law_804 : SL_law 804 (i_iload 4 806) := snd_iload dL_law_804
theorem oL_law_806 : SL_law 806 (i_const (.int (nI 1)) 807) := snd_iconst dL_law_806 (by decide)
theorem oL_law_807 : SL_law 807 (i_ii (fun x y => x + y) 808) := snd_iadd dL_law_807
theorem oL_law_808 : SL_law 808 (i_ai 0 809) := snd_ai0 dL_law_808
theorem oL_law_809 : SL_law 809 (i_aload 0 810) := snd_aload_n dL_law_809 rfl
theorem oL_law_810 : SL_law 810 (i_iload 4 812) := snd_iload dL_law_810
theorem oL_law_812 : SL_law 812 (i_const (.int (nI 2)) 813) := snd_iconst dL_law_812 (by decide)
theorem oL_law_813 : SL_law 813 (i_ii (fun x y => x + y) 814) := snd_iadd dL_law_813
theorem oL_law_814 : SL_law 814 (i_ai 0 815) := snd_ai0 dL_law_814
theorem oL_law_815 : SL_law 815 (i_cv 0 137 2 818) := snd_cv rfl infX1_arrives (by decide) rfl (xVm_V dL_law_815 rfl q1450 q1451 q1452 q127 q1453 pdX1_arrives)
theorem oL_law_818 : SL_law 818 (i_aload 2 819) := snd_aload_n dL_law_818 rfl
theorem oL_law_819 : SL_law 819 (i_aload 0 820) := snd_aload_n dL_law_819 rfl
theorem oL_law_820 : SL_law 820 (i_iload 4 822) := snd_iload dL_law_820
theorem oL_law_822 : SL_law 822 (i_const (.int (nI 1)) 823) := snd_iconst dL_law_822 (by decide)
theorem oL_law_823 : SL_law 823 (i_ii (fun x y => x + y) 824) := snd_iadd dL_law_823
theorem oL_law_824 : SL_law 824 (i_ai 0 825) := snd_ai0 dL_law_824
theorem oL_law_825 : SL_law 825 (i_aload 0 826) := snd_aload_n dL_law_825 rfl
theorem oL_law_826 : SL_law 826 (i_iload 4 828) := snd_iload dL_law_826
theorem oL_law_828 : SL_law 828 (i_const (.int (nI 2)) 829) := snd_iconst dL_law_828 (by decide)
theorem oL_law_829 : SL_law 829 (i_ii (fun x y => x + y) 830) := snd_iadd dL_law_829
theorem oL_law_830 : SL_law 830 (i_ai 0 831) := snd_ai0 dL_law_830
theorem oL_law_831 : SL_law 831 (i_cv 4 343 2 834) := snd_cv rfl infX5_arrives (by decide) rfl (xVm_V dL_law_831 rfl q2152 q2153 q2154 q136 q2155 pdX5_arrives)
theorem oL_law_834 : SL_law 834 (i_if2 (fun x y => x = y) 1512 837) := snd_icmp_eq dL_law_834 (by decide)
theorem oL_law_837 : SL_law 837 (i_const (.int (nI 0)) 838) := snd_iconst dL_law_837 (by decide)
theorem oL_law_838 : SL_law 838 (i_zret) := snd_zret dL_law_838 rfl
theorem oL_law_839 : SL_law 839 (i_aload 1 840) := snd_aload_n dL_law_839 rfl
theorem oL_law_840 : SL_law 840 (i_aload 0 841) := snd_aload_n dL_law_840 rfl
theorem oL_law_841 : SL_law 841 (i_iload 4 843) := snd_iload dL_law_841
theorem oL_law_843 : SL_law 843 (i_const (.int (nI 1)) 844) := snd_iconst dL_law_843 (by decide)
theorem oL_law_844 : SL_law 844 (i_ii (fun x y => x + y) 845) := snd_iadd dL_law_844
theorem oL_law_845 : SL_law 845 (i_ai 0 846) := snd_ai0 dL_law_845
theorem oL_law_846 : SL_law 846 (i_aload 0 847) := snd_aload_n dL_law_846 rfl
theorem oL_law_847 : SL_law 847 (i_iload 4 849) := snd_iload dL_law_847
theorem oL_law_849 : SL_law 849 (i_const (.int (nI 2)) 850) := snd_iconst dL_law_849 (by decide)
theorem oL_law_850 : SL_law 850 (i_ii (fun x y => x + y) 851) := snd_iadd dL_law_850
theorem oL_law_851 : SL_law 851 (i_ai 0 852) := snd_ai0 dL_law_851
theorem oL_law_852 : SL_law 852 (i_cv 0 139 2 855) := snd_cv rfl infX1_from (by decide) rfl (xVm_V dL_law_852 rfl q1458 q1459 q1460 q127 q1461 pdX1_from)
theorem oL_law_855 : SL_law 855 (i_aload 2 856) := snd_aload_n dL_law_855 rfl
theorem oL_law_856 : SL_law 856 (i_aload 0 857) := snd_aload_n dL_law_856 rfl
theorem oL_law_857 : SL_law 857 (i_iload 4 859) := snd_iload dL_law_857
theorem oL_law_859 : SL_law 859 (i_const (.int (nI 1)) 860) := snd_iconst dL_law_859 (by decide)
theorem oL_law_860 : SL_law 860 (i_ii (fun x y => x + y) 861) := snd_iadd dL_law_860
theorem oL_law_861 : SL_law 861 (i_ai 0 862) := snd_ai0 dL_law_861
theorem oL_law_862 : SL_law 862 (i_aload 0 863) := snd_aload_n dL_law_862 rfl
theorem oL_law_863 : SL_law 863 (i_iload 4 865) := snd_iload dL_law_863
theorem oL_law_865 : SL_law 865 (i_const (.int (nI 2)) 866) := snd_iconst dL_law_865 (by decide)
theorem oL_law_866 : SL_law 866 (i_ii (fun x y => x + y) 867) := snd_iadd dL_law_866
theorem oL_law_867 : SL_law 867 (i_ai 0 868) := snd_ai0 dL_law_867
theorem oL_law_868 : SL_law 868 (i_cv 4 346 2 871) := snd_cv rfl infX5_from (by decide) rfl (xVm_V dL_law_868 rfl q2164 q2165 q2166 q136 q2167 pdX5_from)
theorem oL_law_871 : SL_law 871 (i_if2 (fun x y => x = y) 1512 874) := snd_icmp_eq dL_law_871 (by decide)
theorem oL_law_874 : SL_law 874 (i_const (.int (nI 0)) 875) := snd_iconst dL_law_874 (by decide)
theorem oL_law_875 : SL_law 875 (i_zret) := snd_zret dL_law_875 rfl
theorem oL_law_876 : SL_law 876 (i_aload 1 877) := snd_aload_n dL_law_876 rfl
theorem oL_law_877 : SL_law 877 (i_aload 0 878) := snd_aload_n dL_law_877 rfl
theorem oL_law_878 : SL_law 878 (i_iload 4 880) := snd_iload dL_law_878
theorem oL_law_880 : SL_law 880 (i_const (.int (nI 1)) 881) := snd_iconst dL_law_880 (by decide)
theorem oL_law_881 : SL_law 881 (i_ii (fun x y => x + y) 882) := snd_iadd dL_law_881
theorem oL_law_882 : SL_law 882 (i_ai 0 883) := snd_ai0 dL_law_882
theorem oL_law_883 : SL_law 883 (i_aload 0 884) := snd_aload_n dL_law_883 rfl
theorem oL_law_884 : SL_law 884 (i_iload 4 886) := snd_iload dL_law_884
theorem oL_law_886 : SL_law 886 (i_const (.int (nI 2)) 887) := snd_iconst dL_law_886 (by decide)
theorem oL_law_887 : SL_law 887 (i_ii (fun x y => x + y) 888) := snd_iadd dL_law_887
theorem oL_law_888 : SL_law 888 (i_ai 0 889) := snd_ai0 dL_law_888
theorem oL_law_889 : SL_law 889 (i_cv 0 140 2 892) := snd_cv rfl infX1_both (by decide) rfl (xVm_V dL_law_889 rfl q1462 q1463 q1464 q127 q1465 pdX1_both)
theorem oL_law_892 : SL_law 892 (i_aload 2 893) := snd_aload_n dL_law_892 rfl
theorem oL_law_893 : SL_law 893 (i_aload 0 894) := snd_aload_n dL_law_893 rfl
theorem oL_law_894 : SL_law 894 (i_iload 4 896) := snd_iload dL_law_894
theorem oL_law_896 : SL_law 896 (i_const (.int (nI 1)) 897) := snd_iconst dL_law_896 (by decide)
theorem oL_law_897 : SL_law 897 (i_ii (fun x y => x + y) 898) := snd_iadd dL_law_897
theorem oL_law_898 : SL_law 898 (i_ai 0 899) := snd_ai0 dL_law_898
theorem oL_law_899 : SL_law 899 (i_aload 0 900) := snd_aload_n dL_law_899 rfl
theorem oL_law_900 : SL_law 900 (i_iload 4 902) := snd_iload dL_law_900
theorem oL_law_902 : SL_law 902 (i_const (.int (nI 2)) 903) := snd_iconst dL_law_902 (by decide)
theorem oL_law_903 : SL_law 903 (i_ii (fun x y => x + y) 904) := snd_iadd dL_law_903
theorem oL_law_904 : SL_law 904 (i_ai 0 905) := snd_ai0 dL_law_904
theorem oL_law_905 : SL_law 905 (i_cv 4 347 2 908) := snd_cv rfl infX5_both_2 (by decide) rfl (xVm_V dL_law_905 rfl q2168 q2169 q2170 q136 q2171 pdX5_both_2)
theorem oL_law_908 : SL_law 908 (i_if2 (fun x y => x = y) 1512 911) := snd_icmp_eq dL_law_908 (by decide)
theorem oL_law_911 : SL_law 911 (i_const (.int (nI 0)) 912) := snd_iconst dL_law_911 (by decide)
theorem oL_law_912 : SL_law 912 (i_zret) := snd_zret dL_law_912 rfl
theorem oL_law_913 : SL_law 913 (i_aload 1 914) := snd_aload_n dL_law_913 rfl
theorem oL_law_914 : SL_law 914 (i_aload 0 915) := snd_aload_n dL_law_914 rfl
theorem oL_law_915 : SL_law 915 (i_iload 4 917) := snd_iload dL_law_915
theorem oL_law_917 : SL_law 917 (i_const (.int (nI 1)) 918) := snd_iconst dL_law_917 (by decide)
theorem oL_law_918 : SL_law 918 (i_ii (fun x y => x + y) 919) := snd_iadd dL_law_918
theorem oL_law_919 : SL_law 919 (i_ai 0 920) := snd_ai0 dL_law_919
theorem oL_law_920 : SL_law 920 (i_aload 0 921) := snd_aload_n dL_law_920 rfl
theorem oL_law_921 : SL_law 921 (i_iload 4 923) := snd_iload dL_law_921
theorem oL_law_923 : SL_law 923 (i_const (.int (nI 2)) 924) := snd_iconst dL_law_923 (by decide)
theorem oL_law_924 : SL_law 924 (i_ii (fun x y => x + y) 925) := snd_iadd dL_law_924
theorem oL_law_925 : SL_law 925 (i_ai 0 926) := snd_ai0 dL_law_925
theorem oL_law_926 : SL_law 926 (i_cv 0 141 2 929) := snd_cv rfl infX1_cut (by decide) rfl (xVm_V dL_law_926 rfl q1466 q1467 q1468 q127 q1469 pdX1_cut)
theorem oL_law_929 : SL_law 929 (i_aload 2 930) := snd_aload_n dL_law_929 rfl
theorem oL_law_930 : SL_law 930 (i_aload 0 931) := snd_aload_n dL_law_930 rfl
theorem oL_law_931 : SL_law 931 (i_iload 4 933) := snd_iload dL_law_931
theorem oL_law_933 : SL_law 933 (i_const (.int (nI 1)) 934) := snd_iconst dL_law_933 (by decide)
theorem oL_law_934 : SL_law 934 (i_ii (fun x y => x + y) 935) := snd_iadd dL_law_934
theorem oL_law_935 : SL_law 935 (i_ai 0 936) := snd_ai0 dL_law_935
theorem oL_law_936 : SL_law 936 (i_aload 0 937) := snd_aload_n dL_law_936 rfl
theorem oL_law_937 : SL_law 937 (i_iload 4 939) := snd_iload dL_law_937
theorem oL_law_939 : SL_law 939 (i_const (.int (nI 2)) 940) := snd_iconst dL_law_939 (by decide)
theorem oL_law_940 : SL_law 940 (i_ii (fun x y => x + y) 941) := snd_iadd dL_law_940
theorem oL_law_941 : SL_law 941 (i_ai 0 942) := snd_ai0 dL_law_941
theorem oL_law_942 : SL_law 942 (i_cv 4 333 2 945) := snd_cv rfl infX5_cut (by decide) rfl (xVm_V dL_law_942 rfl q2112 q2113 q2114 q136 q2115 pdX5_cut)
theorem oL_law_945 : SL_law 945 (i_if2 (fun x y => x = y) 1512 948) := snd_icmp_eq dL_law_945 (by decide)
theorem oL_law_948 : SL_law 948 (i_const (.int (nI 0)) 949) := snd_iconst dL_law_948 (by decide)
theorem oL_law_949 : SL_law 949 (i_zret) := snd_zret dL_law_949 rfl
theorem oL_law_950 : SL_law 950 (i_aload 1 951) := snd_aload_n dL_law_950 rfl
theorem oL_law_951 : SL_law 951 (i_aload 0 952) := snd_aload_n dL_law_951 rfl
theorem oL_law_952 : SL_law 952 (i_iload 4 954) := snd_iload dL_law_952
theorem oL_law_954 : SL_law 954 (i_const (.int (nI 1)) 955) := snd_iconst dL_law_954 (by decide)
theorem oL_law_955 : SL_law 955 (i_ii (fun x y => x + y) 956) := snd_iadd dL_law_955
theorem oL_law_956 : SL_law 956 (i_ai 0 957) := snd_ai0 dL_law_956
theorem oL_law_957 : SL_law 957 (i_aload 0 958) := snd_aload_n dL_law_957 rfl
theorem oL_law_958 : SL_law 958 (i_iload 4 960) := snd_iload dL_law_958
theorem oL_law_960 : SL_law 960 (i_const (.int (nI 2)) 961) := snd_iconst dL_law_960 (by decide)
theorem oL_law_961 : SL_law 961 (i_ii (fun x y => x + y) 962) := snd_iadd dL_law_961
theorem oL_law_962 : SL_law 962 (i_ai 0 963) := snd_ai0 dL_law_962
theorem oL_law_963 : SL_law 963 (i_cv 0 142 2 966) := snd_cv rfl infX1_planed (by decide) rfl (xVm_V dL_law_963 rfl q1470 q1471 q1472 q127 q1473 pdX1_planed)
theorem oL_law_966 : SL_law 966 (i_aload 2 967) := snd_aload_n dL_law_966 rfl
theorem oL_law_967 : SL_law 967 (i_aload 0 968) := snd_aload_n dL_law_967 rfl
theorem oL_law_968 : SL_law 968 (i_iload 4 970) := snd_iload dL_law_968
theorem oL_law_970 : SL_law 970 (i_const (.int (nI 1)) 971) := snd_iconst dL_law_970 (by decide)
theorem oL_law_971 : SL_law 971 (i_ii (fun x y => x + y) 972) := snd_iadd dL_law_971
theorem oL_law_972 : SL_law 972 (i_ai 0 973) := snd_ai0 dL_law_972
theorem oL_law_973 : SL_law 973 (i_aload 0 974) := snd_aload_n dL_law_973 rfl
theorem oL_law_974 : SL_law 974 (i_iload 4 976) := snd_iload dL_law_974
theorem oL_law_976 : SL_law 976 (i_const (.int (nI 2)) 977) := snd_iconst dL_law_976 (by decide)
theorem oL_law_977 : SL_law 977 (i_ii (fun x y => x + y) 978) := snd_iadd dL_law_977
theorem oL_law_978 : SL_law 978 (i_ai 0 979) := snd_ai0 dL_law_978
theorem oL_law_979 : SL_law 979 (i_cv 4 348 2 982) := snd_cv rfl infX5_planed (by decide) rfl (xVm_V dL_law_979 rfl q2172 q2173 q2174 q136 q2175 pdX5_planed)
theorem oL_law_982 : SL_law 982 (i_if2 (fun x y => x = y) 1512 985) := snd_icmp_eq dL_law_982 (by decide)
theorem oL_law_985 : SL_law 985 (i_const (.int (nI 0)) 986) := snd_iconst dL_law_985 (by decide)
theorem oL_law_986 : SL_law 986 (i_zret) := snd_zret dL_law_986 rfl
theorem oL_law_987 : SL_law 987 (i_aload 1 988) := snd_aload_n dL_law_987 rfl
theorem oL_law_988 : SL_law 988 (i_aload 0 989) := snd_aload_n dL_law_988 rfl
theorem oL_law_989 : SL_law 989 (i_iload 4 991) := snd_iload dL_law_989
theorem oL_law_991 : SL_law 991 (i_const (.int (nI 1)) 992) := snd_iconst dL_law_991 (by decide)
theorem oL_law_992 : SL_law 992 (i_ii (fun x y => x + y) 993) := snd_iadd dL_law_992
theorem oL_law_993 : SL_law 993 (i_ai 0 994) := snd_ai0 dL_law_993
theorem oL_law_994 : SL_law 994 (i_aload 0 995) := snd_aload_n dL_law_994 rfl
theorem oL_law_995 : SL_law 995 (i_iload 4 997) := snd_iload dL_law_995
theorem oL_law_997 : SL_law 997 (i_const (.int (nI 2)) 998) := snd_iconst dL_law_997 (by decide)
theorem oL_law_998 : SL_law 998 (i_ii (fun x y => x + y) 999) := snd_iadd dL_law_998
theorem oL_law_999 : SL_law 999 (i_ai 0 1000) := snd_ai0 dL_law_999
theorem oL_law_1000 : SL_law 1000 (i_aload 0 1001) := snd_aload_n dL_law_1000 rfl
theorem oL_law_1001 : SL_law 1001 (i_iload 4 1003) := snd_iload dL_law_1001
theorem oL_law_1003 : SL_law 1003 (i_const (.int (nI 3)) 1004) := snd_iconst dL_law_1003 (by decide)
theorem oL_law_1004 : SL_law 1004 (i_ii (fun x y => x + y) 1005) := snd_iadd dL_law_1004
theorem oL_law_1005 : SL_law 1005 (i_ai 0 1006) := snd_ai0 dL_law_1005
theorem oL_law_1006 : SL_law 1006 (i_if1 (fun x => x = 0) 1013 1009) := snd_if_eq dL_law_1006 (by decide)
theorem oL_law_1009 : SL_law 1009 (i_const (.int (nI 1)) 1010) := snd_iconst dL_law_1009 (by decide)
theorem oL_law_1010 : SL_law 1010 (i_goto 1014) := snd_goto dL_law_1010 (by decide)
theorem oL_law_1013 : SL_law 1013 (i_const (.int (nI 0)) 1014) := snd_iconst dL_law_1013 (by decide)
theorem oL_law_1014 : SL_law 1014 (i_cv 0 145 3 1017) := snd_cv rfl infX1_feel (by decide) rfl (xVm_V dL_law_1014 rfl q1482 q1483 q1484 q127 q1485 pdX1_feel)
theorem oL_law_1017 : SL_law 1017 (i_aload 2 1018) := snd_aload_n dL_law_1017 rfl
theorem oL_law_1018 : SL_law 1018 (i_aload 0 1019) := snd_aload_n dL_law_1018 rfl
theorem oL_law_1019 : SL_law 1019 (i_iload 4 1021) := snd_iload dL_law_1019
theorem oL_law_1021 : SL_law 1021 (i_const (.int (nI 1)) 1022) := snd_iconst dL_law_1021 (by decide)
theorem oL_law_1022 : SL_law 1022 (i_ii (fun x y => x + y) 1023) := snd_iadd dL_law_1022
theorem oL_law_1023 : SL_law 1023 (i_ai 0 1024) := snd_ai0 dL_law_1023
theorem oL_law_1024 : SL_law 1024 (i_aload 0 1025) := snd_aload_n dL_law_1024 rfl
theorem oL_law_1025 : SL_law 1025 (i_iload 4 1027) := snd_iload dL_law_1025
theorem oL_law_1027 : SL_law 1027 (i_const (.int (nI 2)) 1028) := snd_iconst dL_law_1027 (by decide)
theorem oL_law_1028 : SL_law 1028 (i_ii (fun x y => x + y) 1029) := snd_iadd dL_law_1028
theorem oL_law_1029 : SL_law 1029 (i_ai 0 1030) := snd_ai0 dL_law_1029
theorem oL_law_1030 : SL_law 1030 (i_aload 0 1031) := snd_aload_n dL_law_1030 rfl
theorem oL_law_1031 : SL_law 1031 (i_iload 4 1033) := snd_iload dL_law_1031
theorem oL_law_1033 : SL_law 1033 (i_const (.int (nI 3)) 1034) := snd_iconst dL_law_1033 (by decide)
theorem oL_law_1034 : SL_law 1034 (i_ii (fun x y => x + y) 1035) := snd_iadd dL_law_1034
theorem oL_law_1035 : SL_law 1035 (i_ai 0 1036) := snd_ai0 dL_law_1035
theorem oL_law_1036 : SL_law 1036 (i_if1 (fun x => x = 0) 1043 1039) := snd_if_eq dL_law_1036 (by decide)
theorem oL_law_1039 : SL_law 1039 (i_const (.int (nI 1)) 1040) := snd_iconst dL_law_1039 (by decide)
theorem oL_law_1040 : SL_law 1040 (i_goto 1044) := snd_goto dL_law_1040 (by decide)
theorem oL_law_1043 : SL_law 1043 (i_const (.int (nI 0)) 1044) := snd_iconst dL_law_1043 (by decide)
theorem oL_law_1044 : SL_law 1044 (i_cv 4 351 3 1047) := snd_cv rfl infX5_feel (by decide) rfl (xVm_V dL_law_1044 rfl q2184 q2185 q2186 q136 q2187 pdX5_feel)
theorem oL_law_1047 : SL_law 1047 (i_if2 (fun x y => x = y) 1512 1050) := snd_icmp_eq dL_law_1047 (by decide)
theorem oL_law_1050 : SL_law 1050 (i_const (.int (nI 0)) 1051) := snd_iconst dL_law_1050 (by decide)
theorem oL_law_1051 : SL_law 1051 (i_zret) := snd_zret dL_law_1051 rfl
theorem oL_law_1052 : SL_law 1052 (i_aload 1 1053) := snd_aload_n dL_law_1052 rfl
theorem oL_law_1053 : SL_law 1053 (i_cv 0 146 0 1056) := snd_cv rfl infX1_wets (by decide) rfl (xVm_V dL_law_1053 rfl q1486 q1487 q1488 q127 q1489 pdX1_wets)
theorem oL_law_1056 : SL_law 1056 (i_aload 2 1057) := snd_aload_n dL_law_1056 rfl
theorem oL_law_1057 : SL_law 1057 (i_cv 4 352 0 1060) := snd_cv rfl infX5_wets (by decide) rfl (xVm_V dL_law_1057 rfl q2188 q2189 q2190 q136 q2191 pdX5_wets)
theorem oL_law_1060 : SL_law 1060 (i_if2 (fun x y => x = y) 1512 1063) := snd_icmp_eq dL_law_1060 (by decide)
theorem oL_law_1063 : SL_law 1063 (i_const (.int (nI 0)) 1064) := snd_iconst dL_law_1063 (by decide)
theorem oL_law_1064 : SL_law 1064 (i_zret) := snd_zret dL_law_1064 rfl
theorem oL_law_1065 : SL_law 1065 (i_aload 1 1066) := snd_aload_n dL_law_1065 rfl
theorem oL_law_1066 : SL_law 1066 (i_cv 0 148 0 1069) := snd_cv rfl infX1_tries (by decide) rfl (xVm_V dL_law_1066 rfl q1494 q1495 q1496 q127 q1497 pdX1_tries)
theorem oL_law_1069 : SL_law 1069 (i_aload 2 1070) := snd_aload_n dL_law_1069 rfl
theorem oL_law_1070 : SL_law 1070 (i_cv 4 354 0 1073) := snd_cv rfl infX5_tries (by decide) rfl (xVm_V dL_law_1070 rfl q2196 q2197 q2198 q136 q2199 pdX5_tries)
theorem oL_law_1073 : SL_law 1073 (i_if2 (fun x y => x = y) 1512 1076) := snd_icmp_eq dL_law_1073 (by decide)
theorem oL_law_1076 : SL_law 1076 (i_const (.int (nI 0)) 1077) := snd_iconst dL_law_1076 (by decide)
theorem oL_law_1077 : SL_law 1077 (i_zret) := snd_zret dL_law_1077 rfl
theorem oL_law_1078 : SL_law 1078 (i_aload 1 1079) := snd_aload_n dL_law_1078 rfl
theorem oL_law_1079 : SL_law 1079 (i_aload 0 1080) := snd_aload_n dL_law_1079 rfl
theorem oL_law_1080 : SL_law 1080 (i_iload 4 1082) := snd_iload dL_law_1080
theorem oL_law_1082 : SL_law 1082 (i_const (.int (nI 1)) 1083) := snd_iconst dL_law_1082 (by decide)
theorem oL_law_1083 : SL_law 1083 (i_ii (fun x y => x + y) 1084) := snd_iadd dL_law_1083
theorem oL_law_1084 : SL_law 1084 (i_ai 0 1085) := snd_ai0 dL_law_1084
theorem oL_law_1085 : SL_law 1085 (i_aload 0 1086) := snd_aload_n dL_law_1085 rfl
theorem oL_law_1086 : SL_law 1086 (i_iload 4 1088) := snd_iload dL_law_1086
theorem oL_law_1088 : SL_law 1088 (i_const (.int (nI 2)) 1089) := snd_iconst dL_law_1088 (by decide)
theorem oL_law_1089 : SL_law 1089 (i_ii (fun x y => x + y) 1090) := snd_iadd dL_law_1089
theorem oL_law_1090 : SL_law 1090 (i_ai 0 1091) := snd_ai0 dL_law_1090
theorem oL_law_1091 : SL_law 1091 (i_cv 0 149 2 1094) := snd_cv rfl infX1_say (by decide) rfl (xVm_V dL_law_1091 rfl q1498 q1499 q1500 q127 q1501 pdX1_say)
theorem oL_law_1094 : SL_law 1094 (i_aload 2 1095) := snd_aload_n dL_law_1094 rfl
theorem oL_law_1095 : SL_law 1095 (i_aload 0 1096) := snd_aload_n dL_law_1095 rfl
theorem oL_law_1096 : SL_law 1096 (i_iload 4 1098) := snd_iload dL_law_1096
theorem oL_law_1098 : SL_law 1098 (i_const (.int (nI 1)) 1099) := snd_iconst dL_law_1098 (by decide)
theorem oL_law_1099 : SL_law 1099 (i_ii (fun x y => x + y) 1100) := snd_iadd dL_law_1099
theorem oL_law_1100 : SL_law 1100 (i_ai 0 1101) := snd_ai0 dL_law_1100
theorem oL_law_1101 : SL_law 1101 (i_aload 0 1102) := snd_aload_n dL_law_1101 rfl
theorem oL_law_1102 : SL_law 1102 (i_iload 4 1104) := snd_iload dL_law_1102
theorem oL_law_1104 : SL_law 1104 (i_const (.int (nI 2)) 1105) := snd_iconst dL_law_1104 (by decide)
theorem oL_law_1105 : SL_law 1105 (i_ii (fun x y => x + y) 1106) := snd_iadd dL_law_1105
theorem oL_law_1106 : SL_law 1106 (i_ai 0 1107) := snd_ai0 dL_law_1106
theorem oL_law_1107 : SL_law 1107 (i_cv 4 355 2 1110) := snd_cv rfl infX5_say (by decide) rfl (xVm_V dL_law_1107 rfl q2200 q2201 q2202 q136 q2203 pdX5_say)
theorem oL_law_1110 : SL_law 1110 (i_if2 (fun x y => x = y) 1512 1113) := snd_icmp_eq dL_law_1110 (by decide)
theorem oL_law_1113 : SL_law 1113 (i_const (.int (nI 0)) 1114) := snd_iconst dL_law_1113 (by decide)
theorem oL_law_1114 : SL_law 1114 (i_zret) := snd_zret dL_law_1114 rfl
theorem oL_law_1115 : SL_law 1115 (i_aload 1 1116) := snd_aload_n dL_law_1115 rfl
theorem oL_law_1116 : SL_law 1116 (i_cv 0 150 0 1119) := snd_cv rfl infX1_who (by decide) rfl (xVm_V dL_law_1116 rfl q1502 q1503 q1504 q127 q1505 pdX1_who)
theorem oL_law_1119 : SL_law 1119 (i_aload 2 1120) := snd_aload_n dL_law_1119 rfl
theorem oL_law_1120 : SL_law 1120 (i_cv 4 356 0 1123) := snd_cv rfl infX5_who (by decide) rfl (xVm_V dL_law_1120 rfl q2204 q2205 q2206 q136 q2207 pdX5_who)
theorem oL_law_1123 : SL_law 1123 (i_if2 (fun x y => x = y) 1512 1126) := snd_icmp_eq dL_law_1123 (by decide)
theorem oL_law_1126 : SL_law 1126 (i_const (.int (nI 0)) 1127) := snd_iconst dL_law_1126 (by decide)
theorem oL_law_1127 : SL_law 1127 (i_zret) := snd_zret dL_law_1127 rfl
theorem oL_law_1128 : SL_law 1128 (i_aload 1 1129) := snd_aload_n dL_law_1128 rfl
theorem oL_law_1129 : SL_law 1129 (i_cv 0 151 0 1132) := snd_cv rfl infX1_rattles (by decide) rfl (xVm_V dL_law_1129 rfl q1506 q1507 q1508 q127 q1509 pdX1_rattles)
theorem oL_law_1132 : SL_law 1132 (i_aload 2 1133) := snd_aload_n dL_law_1132 rfl
theorem oL_law_1133 : SL_law 1133 (i_cv 4 334 0 1136) := snd_cv rfl infX5_rattles (by decide) rfl (xVm_V dL_law_1133 rfl q2116 q2117 q2118 q136 q2119 pdX5_rattles)
theorem oL_law_1136 : SL_law 1136 (i_if2 (fun x y => x = y) 1512 1139) := snd_icmp_eq dL_law_1136 (by decide)
theorem oL_law_1139 : SL_law 1139 (i_const (.int (nI 0)) 1140) := snd_iconst dL_law_1139 (by decide)
theorem oL_law_1140 : SL_law 1140 (i_zret) := snd_zret dL_law_1140 rfl
theorem oL_law_1141 : SL_law 1141 (i_aload 1 1142) := snd_aload_n dL_law_1141 rfl
theorem oL_law_1142 : SL_law 1142 (i_cv 0 126 0 1145) := snd_cv rfl infX1_parts (by decide) rfl (xVm_V dL_law_1142 rfl q1406 q1407 q1408 q127 q1409 pdX1_parts)
theorem oL_law_1145 : SL_law 1145 (i_aload 2 1146) := snd_aload_n dL_law_1145 rfl
theorem oL_law_1146 : SL_law 1146 (i_cv 4 328 0 1149) := snd_cv rfl infX5_parts (by decide) rfl (xVm_V dL_law_1146 rfl q2092 q2093 q2094 q136 q2095 pdX5_parts)
theorem oL_law_1149 : SL_law 1149 (i_if2 (fun x y => x = y) 1512 1152) := snd_icmp_eq dL_law_1149 (by decide)
theorem oL_law_1152 : SL_law 1152 (i_const (.int (nI 0)) 1153) := snd_iconst dL_law_1152 (by decide)
theorem oL_law_1153 : SL_law 1153 (i_zret) := snd_zret dL_law_1153 rfl
theorem oL_law_1154 : SL_law 1154 (i_aload 1 1155) := snd_aload_n dL_law_1154 rfl
theorem oL_law_1155 : SL_law 1155 (i_cv 0 128 0 1158) := snd_cv rfl infX1_bride (by decide) rfl (xVm_V dL_law_1155 rfl q1414 q1415 q1416 q127 q1417 pdX1_bride)
theorem oL_law_1158 : SL_law 1158 (i_aload 2 1159) := snd_aload_n dL_law_1158 rfl
theorem oL_law_1159 : SL_law 1159 (i_cv 4 327 0 1162) := snd_cv rfl infX5_bride (by decide) rfl (xVm_V dL_law_1159 rfl q2088 q2089 q2090 q136 q2091 pdX5_bride)
theorem oL_law_1162 : SL_law 1162 (i_if2 (fun x y => x = y) 1512 1165) := snd_icmp_eq dL_law_1162 (by decide)
theorem oL_law_1165 : SL_law 1165 (i_const (.int (nI 0)) 1166) := snd_iconst dL_law_1165 (by decide)
theorem oL_law_1166 : SL_law 1166 (i_zret) := snd_zret dL_law_1166 rfl
theorem oL_law_1167 : SL_law 1167 (i_aload 1 1168) := snd_aload_n dL_law_1167 rfl
theorem oL_law_1168 : SL_law 1168 (i_cv 0 152 0 1171) := snd_cv rfl infX1_worst (by decide) rfl (xVm_V dL_law_1168 rfl q1510 q1511 q1512 q127 q1513 pdX1_worst)
theorem oL_law_1171 : SL_law 1171 (i_aload 2 1172) := snd_aload_n dL_law_1171 rfl
theorem oL_law_1172 : SL_law 1172 (i_cv 4 335 0 1175) := snd_cv rfl infX5_worst (by decide) rfl (xVm_V dL_law_1172 rfl q2120 q2121 q2122 q136 q2123 pdX5_worst)
theorem oL_law_1175 : SL_law 1175 (i_if2 (fun x y => x = y) 1512 1178) := snd_icmp_eq dL_law_1175 (by decide)
theorem oL_law_1178 : SL_law 1178 (i_const (.int (nI 0)) 1179) := snd_iconst dL_law_1178 (by decide)
theorem oL_law_1179 : SL_law 1179 (i_zret) := snd_zret dL_law_1179 rfl
theorem oL_law_1180 : SL_law 1180 (i_aload 1 1181) := snd_aload_n dL_law_1180 rfl
theorem oL_law_1181 : SL_law 1181 (i_cv 0 153 0 1184) := snd_cv rfl infX1_spared (by decide) rfl (xVm_V dL_law_1181 rfl q1514 q1515 q1516 q127 q1517 pdX1_spared)
theorem oL_law_1184 : SL_law 1184 (i_aload 2 1185) := snd_aload_n dL_law_1184 rfl
theorem oL_law_1185 : SL_law 1185 (i_cv 4 330 0 1188) := snd_cv rfl infX5_spared (by decide) rfl (xVm_V dL_law_1185 rfl q2100 q2101 q2102 q136 q2103 pdX5_spared)
theorem oL_law_1188 : SL_law 1188 (i_if2 (fun x y => x = y) 1512 1191) := snd_icmp_eq dL_law_1188 (by decide)
theorem oL_law_1191 : SL_law 1191 (i_const (.int (nI 0)) 1192) := snd_iconst dL_law_1191 (by decide)
theorem oL_law_1192 : SL_law 1192 (i_zret) := snd_zret dL_law_1192 rfl
theorem oL_law_1193 : SL_law 1193 (i_aload 1 1194) := snd_aload_n dL_law_1193 rfl
theorem oL_law_1194 : SL_law 1194 (i_cv 0 154 0 1197) := snd_cv rfl infX1_opened (by decide) rfl (xVm_V dL_law_1194 rfl q1518 q1519 q1520 q127 q1521 pdX1_opened)
theorem oL_law_1197 : SL_law 1197 (i_aload 2 1198) := snd_aload_n dL_law_1197 rfl
theorem oL_law_1198 : SL_law 1198 (i_cv 4 331 0 1201) := snd_cv rfl infX5_opened (by decide) rfl (xVm_V dL_law_1198 rfl q2104 q2105 q2106 q136 q2107 pdX5_opened)
theorem oL_law_1201 : SL_law 1201 (i_if2 (fun x y => x = y) 1512 1204) := snd_icmp_eq dL_law_1201 (by decide)
theorem oL_law_1204 : SL_law 1204 (i_const (.int (nI 0)) 1205) := snd_iconst dL_law_1204 (by decide)
theorem oL_law_1205 : SL_law 1205 (i_zret) := snd_zret dL_law_1205 rfl
theorem oL_law_1206 : SL_law 1206 (i_aload 1 1207) := snd_aload_n dL_law_1206 rfl
theorem oL_law_1207 : SL_law 1207 (i_aload 0 1208) := snd_aload_n dL_law_1207 rfl
theorem oL_law_1208 : SL_law 1208 (i_iload 4 1210) := snd_iload dL_law_1208
theorem oL_law_1210 : SL_law 1210 (i_const (.int (nI 1)) 1211) := snd_iconst dL_law_1210 (by decide)
theorem oL_law_1211 : SL_law 1211 (i_ii (fun x y => x + y) 1212) := snd_iadd dL_law_1211
theorem oL_law_1212 : SL_law 1212 (i_ai 0 1213) := snd_ai0 dL_law_1212
theorem oL_law_1213 : SL_law 1213 (i_cv 0 129 1 1216) := snd_cv rfl infX1_deep (by decide) rfl (xVm_V dL_law_1213 rfl q1418 q1419 q1420 q127 q1421 pdX1_deep)
theorem oL_law_1216 : SL_law 1216 (i_aload 2 1217) := snd_aload_n dL_law_1216 rfl
theorem oL_law_1217 : SL_law 1217 (i_aload 0 1218) := snd_aload_n dL_law_1217 rfl
theorem oL_law_1218 : SL_law 1218 (i_iload 4 1220) := snd_iload dL_law_1218
theorem oL_law_1220 : SL_law 1220 (i_const (.int (nI 1)) 1221) := snd_iconst dL_law_1220 (by decide)
theorem oL_law_1221 : SL_law 1221 (i_ii (fun x y => x + y) 1222) := snd_iadd dL_law_1221
theorem oL_law_1222 : SL_law 1222 (i_ai 0 1223) := snd_ai0 dL_law_1222
theorem oL_law_1223 : SL_law 1223 (i_cv 4 329 1 1226) := snd_cv rfl infX5_deep (by decide) rfl (xVm_V dL_law_1223 rfl q2096 q2097 q2098 q136 q2099 pdX5_deep)
theorem oL_law_1226 : SL_law 1226 (i_if2 (fun x y => x = y) 1512 1229) := snd_icmp_eq dL_law_1226 (by decide)
theorem oL_law_1229 : SL_law 1229 (i_const (.int (nI 0)) 1230) := snd_iconst dL_law_1229 (by decide)
theorem oL_law_1230 : SL_law 1230 (i_zret) := snd_zret dL_law_1230 rfl
theorem oL_law_1231 : SL_law 1231 (i_aload 1 1232) := snd_aload_n dL_law_1231 rfl
theorem oL_law_1232 : SL_law 1232 (i_cv 0 127 0 1235) := snd_cv rfl infX1_alone (by decide) rfl (xVm_V dL_law_1232 rfl q1410 q1411 q1412 q127 q1413 pdX1_alone)
theorem oL_law_1235 : SL_law 1235 (i_aload 2 1236) := snd_aload_n dL_law_1235 rfl
theorem oL_law_1236 : SL_law 1236 (i_cv 4 326 0 1239) := snd_cv rfl infX5_alone (by decide) rfl (xVm_V dL_law_1236 rfl q2084 q2085 q2086 q136 q2087 pdX5_alone)
theorem oL_law_1239 : SL_law 1239 (i_if2 (fun x y => x = y) 1512 1242) := snd_icmp_eq dL_law_1239 (by decide)
theorem oL_law_1242 : SL_law 1242 (i_const (.int (nI 0)) 1243) := snd_iconst dL_law_1242 (by decide)
theorem oL_law_1243 : SL_law 1243 (i_zret) := snd_zret dL_law_1243 rfl
theorem oL_law_1244 : SL_law 1244 (i_aload 1 1245) := snd_aload_n dL_law_1244 rfl
theorem oL_law_1245 : SL_law 1245 (i_aload 0 1246) := snd_aload_n dL_law_1245 rfl
theorem oL_law_1246 : SL_law 1246 (i_iload 4 1248) := snd_iload dL_law_1246
theorem oL_law_1248 : SL_law 1248 (i_const (.int (nI 1)) 1249) := snd_iconst dL_law_1248 (by decide)
theorem oL_law_1249 : SL_law 1249 (i_ii (fun x y => x + y) 1250) := snd_iadd dL_law_1249
theorem oL_law_1250 : SL_law 1250 (i_ai 0 1251) := snd_ai0 dL_law_1250
theorem oL_law_1251 : SL_law 1251 (i_aload 0 1252) := snd_aload_n dL_law_1251 rfl
theorem oL_law_1252 : SL_law 1252 (i_iload 4 1254) := snd_iload dL_law_1252
theorem oL_law_1254 : SL_law 1254 (i_const (.int (nI 2)) 1255) := snd_iconst dL_law_1254 (by decide)
theorem oL_law_1255 : SL_law 1255 (i_ii (fun x y => x + y) 1256) := snd_iadd dL_law_1255
theorem oL_law_1256 : SL_law 1256 (i_ai 0 1257) := snd_ai0 dL_law_1256
theorem oL_law_1257 : SL_law 1257 (i_aload 0 1258) := snd_aload_n dL_law_1257 rfl
theorem oL_law_1258 : SL_law 1258 (i_iload 4 1260) := snd_iload dL_law_1258
theorem oL_law_1260 : SL_law 1260 (i_const (.int (nI 3)) 1261) := snd_iconst dL_law_1260 (by decide)
theorem oL_law_1261 : SL_law 1261 (i_ii (fun x y => x + y) 1262) := snd_iadd dL_law_1261
theorem oL_law_1262 : SL_law 1262 (i_ai 0 1263) := snd_ai0 dL_law_1262
theorem oL_law_1263 : SL_law 1263 (i_cv 0 156 3 1266) := snd_cv rfl infX1_chance (by decide) rfl (xVm_V dL_law_1263 rfl q1526 q1527 q1528 q127 q1529 pdX1_chance)
theorem oL_law_1266 : SL_law 1266 (i_aload 2 1267) := snd_aload_n dL_law_1266 rfl
theorem oL_law_1267 : SL_law 1267 (i_aload 0 1268) := snd_aload_n dL_law_1267 rfl
theorem oL_law_1268 : SL_law 1268 (i_iload 4 1270) := snd_iload dL_law_1268
theorem oL_law_1270 : SL_law 1270 (i_const (.int (nI 1)) 1271) := snd_iconst dL_law_1270 (by decide)
theorem oL_law_1271 : SL_law 1271 (i_ii (fun x y => x + y) 1272) := snd_iadd dL_law_1271
theorem oL_law_1272 : SL_law 1272 (i_ai 0 1273) := snd_ai0 dL_law_1272
theorem oL_law_1273 : SL_law 1273 (i_aload 0 1274) := snd_aload_n dL_law_1273 rfl
theorem oL_law_1274 : SL_law 1274 (i_iload 4 1276) := snd_iload dL_law_1274
theorem oL_law_1276 : SL_law 1276 (i_const (.int (nI 2)) 1277) := snd_iconst dL_law_1276 (by decide)
theorem oL_law_1277 : SL_law 1277 (i_ii (fun x y => x + y) 1278) := snd_iadd dL_law_1277
theorem oL_law_1278 : SL_law 1278 (i_ai 0 1279) := snd_ai0 dL_law_1278
theorem oL_law_1279 : SL_law 1279 (i_aload 0 1280) := snd_aload_n dL_law_1279 rfl
theorem oL_law_1280 : SL_law 1280 (i_iload 4 1282) := snd_iload dL_law_1280
theorem oL_law_1282 : SL_law 1282 (i_const (.int (nI 3)) 1283) := snd_iconst dL_law_1282 (by decide)
theorem oL_law_1283 : SL_law 1283 (i_ii (fun x y => x + y) 1284) := snd_iadd dL_law_1283
theorem oL_law_1284 : SL_law 1284 (i_ai 0 1285) := snd_ai0 dL_law_1284
theorem oL_law_1285 : SL_law 1285 (i_cv 4 357 3 1288) := snd_cv rfl infX5_chance (by decide) rfl (xVm_V dL_law_1285 rfl q2208 q2209 q2210 q136 q2211 pdX5_chance)
theorem oL_law_1288 : SL_law 1288 (i_if2 (fun x y => x = y) 1512 1291) := snd_icmp_eq dL_law_1288 (by decide)
theorem oL_law_1291 : SL_law 1291 (i_const (.int (nI 0)) 1292) := snd_iconst dL_law_1291 (by decide)
theorem oL_law_1292 : SL_law 1292 (i_zret) := snd_zret dL_law_1292 rfl
theorem oL_law_1293 : SL_law 1293 (i_aload 1 1294) := snd_aload_n dL_law_1293 rfl
theorem oL_law_1294 : SL_law 1294 (i_aload 0 1295) := snd_aload_n dL_law_1294 rfl
theorem oL_law_1295 : SL_law 1295 (i_iload 4 1297) := snd_iload dL_law_1295
theorem oL_law_1297 : SL_law 1297 (i_const (.int (nI 1)) 1298) := snd_iconst dL_law_1297 (by decide)
theorem oL_law_1298 : SL_law 1298 (i_ii (fun x y => x + y) 1299) := snd_iadd dL_law_1298
theorem oL_law_1299 : SL_law 1299 (i_ai 0 1300) := snd_ai0 dL_law_1299
theorem oL_law_1300 : SL_law 1300 (i_aload 0 1301) := snd_aload_n dL_law_1300 rfl
theorem oL_law_1301 : SL_law 1301 (i_iload 4 1303) := snd_iload dL_law_1301
theorem oL_law_1303 : SL_law 1303 (i_const (.int (nI 2)) 1304) := snd_iconst dL_law_1303 (by decide)
theorem oL_law_1304 : SL_law 1304 (i_ii (fun x y => x + y) 1305) := snd_iadd dL_law_1304
theorem oL_law_1305 : SL_law 1305 (i_ai 0 1306) := snd_ai0 dL_law_1305
theorem oL_law_1306 : SL_law 1306 (i_aload 0 1307) := snd_aload_n dL_law_1306 rfl
theorem oL_law_1307 : SL_law 1307 (i_iload 4 1309) := snd_iload dL_law_1307
theorem oL_law_1309 : SL_law 1309 (i_const (.int (nI 3)) 1310) := snd_iconst dL_law_1309 (by decide)
theorem oL_law_1310 : SL_law 1310 (i_ii (fun x y => x + y) 1311) := snd_iadd dL_law_1310
theorem oL_law_1311 : SL_law 1311 (i_ai 0 1312) := snd_ai0 dL_law_1311
theorem oL_law_1312 : SL_law 1312 (i_aload 0 1313) := snd_aload_n dL_law_1312 rfl
theorem oL_law_1313 : SL_law 1313 (i_iload 4 1315) := snd_iload dL_law_1313
theorem oL_law_1315 : SL_law 1315 (i_const (.int (nI 4)) 1316) := snd_iconst dL_law_1315 (by decide)
theorem oL_law_1316 : SL_law 1316 (i_ii (fun x y => x + y) 1317) := snd_iadd dL_law_1316
theorem oL_law_1317 : SL_law 1317 (i_ai 0 1318) := snd_ai0 dL_law_1317
theorem oL_law_1318 : SL_law 1318 (i_aload 3 1319) := snd_aload_n dL_law_1318 rfl
theorem oL_law_1319 : SL_law 1319 (i_cs 86 6 1322) := snd_cs rfl infX0_rests (by decide) (xSm_SW dL_law_1319 q1598 q1599 q126 q1600 pdX0_rests)
theorem oL_law_1322 : SL_law 1322 (i_istore 5 1324) := snd_istore dL_law_1322 (by decide)
theorem oL_law_1324 : SL_law 1324 (i_aload 2 1325) := snd_aload_n dL_law_1324 rfl
theorem oL_law_1325 : SL_law 1325 (i_aload 0 1326) := snd_aload_n dL_law_1325 rfl
theorem oL_law_1326 : SL_law 1326 (i_iload 4 1328) := snd_iload dL_law_1326
theorem oL_law_1328 : SL_law 1328 (i_const (.int (nI 1)) 1329) := snd_iconst dL_law_1328 (by decide)
theorem oL_law_1329 : SL_law 1329 (i_ii (fun x y => x + y) 1330) := snd_iadd dL_law_1329
theorem oL_law_1330 : SL_law 1330 (i_ai 0 1331) := snd_ai0 dL_law_1330
theorem oL_law_1331 : SL_law 1331 (i_aload 0 1332) := snd_aload_n dL_law_1331 rfl
theorem oL_law_1332 : SL_law 1332 (i_iload 4 1334) := snd_iload dL_law_1332
theorem oL_law_1334 : SL_law 1334 (i_const (.int (nI 2)) 1335) := snd_iconst dL_law_1334 (by decide)
theorem oL_law_1335 : SL_law 1335 (i_ii (fun x y => x + y) 1336) := snd_iadd dL_law_1335
theorem oL_law_1336 : SL_law 1336 (i_ai 0 1337) := snd_ai0 dL_law_1336
theorem oL_law_1337 : SL_law 1337 (i_aload 0 1338) := snd_aload_n dL_law_1337 rfl
theorem oL_law_1338 : SL_law 1338 (i_iload 4 1340) := snd_iload dL_law_1338
theorem oL_law_1340 : SL_law 1340 (i_const (.int (nI 3)) 1341) := snd_iconst dL_law_1340 (by decide)
theorem oL_law_1341 : SL_law 1341 (i_ii (fun x y => x + y) 1342) := snd_iadd dL_law_1341
theorem oL_law_1342 : SL_law 1342 (i_ai 0 1343) := snd_ai0 dL_law_1342
theorem oL_law_1343 : SL_law 1343 (i_aload 0 1344) := snd_aload_n dL_law_1343 rfl
theorem oL_law_1344 : SL_law 1344 (i_iload 4 1346) := snd_iload dL_law_1344
theorem oL_law_1346 : SL_law 1346 (i_const (.int (nI 4)) 1347) := snd_iconst dL_law_1346 (by decide)
theorem oL_law_1347 : SL_law 1347 (i_ii (fun x y => x + y) 1348) := snd_iadd dL_law_1347
theorem oL_law_1348 : SL_law 1348 (i_ai 0 1349) := snd_ai0 dL_law_1348
theorem oL_law_1349 : SL_law 1349 (i_cv 4 358 4 1352) := snd_cv rfl infX5_rests (by decide) rfl (xVm_V dL_law_1349 rfl q2213 q2214 q2215 q136 q2216 pdX5_rests)
theorem oL_law_1352 : SL_law 1352 (i_istore 6 1354) := snd_istore dL_law_1352 (by decide)
theorem oL_law_1354 : SL_law 1354 (i_aload 2 1355) := snd_aload_n dL_law_1354 rfl
theorem oL_law_1355 : SL_law 1355 (i_cv 4 243 0 1358) := snd_cv rfl infX5_thrown (by decide) rfl (xVm_V dL_law_1355 rfl q1633 q1634 q1635 q136 q1636 pdX5_thrown)
theorem oL_law_1358 : SL_law 1358 (i_iload 5 1360) := snd_iload dL_law_1358
theorem oL_law_1360 : SL_law 1360 (i_if2 (fun x y => x = y) 1365 1363) := snd_icmp_eq dL_law_1360 (by decide)
theorem oL_law_1363 : SL_law 1363 (i_const (.int (nI 0)) 1364) := snd_iconst dL_law_1363 (by decide)
theorem oL_law_1364 : SL_law 1364 (i_zret) := snd_zret dL_law_1364 rfl
theorem oL_law_1365 : SL_law 1365 (i_iload 5 1367) := snd_iload dL_law_1365
theorem oL_law_1367 : SL_law 1367 (i_if1 (fun x => ¬ x = 0) 1382 1370) := snd_if_ne dL_law_1367 (by decide)
theorem oL_law_1370 : SL_law 1370 (i_aload 3 1371) := snd_aload_n dL_law_1370 rfl
theorem oL_law_1371 : SL_law 1371 (i_const (.int (nI 0)) 1372) := snd_iconst dL_law_1371 (by decide)
theorem oL_law_1372 : SL_law 1372 (i_al 3 1373) := snd_al3 dL_law_1372
theorem oL_law_1373 : SL_law 1373 (i_iload 6 1375) := snd_iload dL_law_1373
theorem oL_law_1375 : SL_law 1375 (i_i2l 1376) := snd_i2l dL_law_1375
theorem oL_law_1376 : SL_law 1376 (i_lcmp 1377) := snd_lcmp dL_law_1376
theorem oL_law_1377 : SL_law 1377 (i_if1 (fun x => x = 0) 1382 1380) := snd_if_eq dL_law_1377 (by decide)
theorem oL_law_1380 : SL_law 1380 (i_const (.int (nI 0)) 1381) := snd_iconst dL_law_1380 (by decide)
theorem oL_law_1381 : SL_law 1381 (i_zret) := snd_zret dL_law_1381 rfl
theorem oL_law_1382 : SL_law 1382 (i_goto 1512) := snd_goto dL_law_1382 (by decide)
theorem oL_law_1385 : SL_law 1385 (i_aload 1 1386) := snd_aload_n dL_law_1385 rfl
theorem oL_law_1386 : SL_law 1386 (i_aload 0 1387) := snd_aload_n dL_law_1386 rfl
theorem oL_law_1387 : SL_law 1387 (i_iload 4 1389) := snd_iload dL_law_1387
theorem oL_law_1389 : SL_law 1389 (i_const (.int (nI 1)) 1390) := snd_iconst dL_law_1389 (by decide)
theorem oL_law_1390 : SL_law 1390 (i_ii (fun x y => x + y) 1391) := snd_iadd dL_law_1390
theorem oL_law_1391 : SL_law 1391 (i_ai 0 1392) := snd_ai0 dL_law_1391
theorem oL_law_1392 : SL_law 1392 (i_aload 0 1393) := snd_aload_n dL_law_1392 rfl
theorem oL_law_1393 : SL_law 1393 (i_iload 4 1395) := snd_iload dL_law_1393
theorem oL_law_1395 : SL_law 1395 (i_const (.int (nI 2)) 1396) := snd_iconst dL_law_1395 (by decide)
theorem oL_law_1396 : SL_law 1396 (i_ii (fun x y => x + y) 1397) := snd_iadd dL_law_1396
theorem oL_law_1397 : SL_law 1397 (i_ai 0 1398) := snd_ai0 dL_law_1397
theorem oL_law_1398 : SL_law 1398 (i_aload 0 1399) := snd_aload_n dL_law_1398 rfl
theorem oL_law_1399 : SL_law 1399 (i_iload 4 1401) := snd_iload dL_law_1399
theorem oL_law_1401 : SL_law 1401 (i_const (.int (nI 3)) 1402) := snd_iconst dL_law_1401 (by decide)
theorem oL_law_1402 : SL_law 1402 (i_ii (fun x y => x + y) 1403) := snd_iadd dL_law_1402
theorem oL_law_1403 : SL_law 1403 (i_ai 0 1404) := snd_ai0 dL_law_1403
theorem oL_law_1404 : SL_law 1404 (i_cv 0 157 3 1407) := snd_cv rfl infX1_years (by decide) rfl (xVm_V dL_law_1404 rfl q1532 q1533 q1534 q127 q1535 pdX1_years)
theorem oL_law_1407 : SL_law 1407 (i_aload 2 1408) := snd_aload_n dL_law_1407 rfl
theorem oL_law_1408 : SL_law 1408 (i_aload 0 1409) := snd_aload_n dL_law_1408 rfl
theorem oL_law_1409 : SL_law 1409 (i_iload 4 1411) := snd_iload dL_law_1409
theorem oL_law_1411 : SL_law 1411 (i_const (.int (nI 1)) 1412) := snd_iconst dL_law_1411 (by decide)
theorem oL_law_1412 : SL_law 1412 (i_ii (fun x y => x + y) 1413) := snd_iadd dL_law_1412
theorem oL_law_1413 : SL_law 1413 (i_ai 0 1414) := snd_ai0 dL_law_1413
theorem oL_law_1414 : SL_law 1414 (i_aload 0 1415) := snd_aload_n dL_law_1414 rfl
theorem oL_law_1415 : SL_law 1415 (i_iload 4 1417) := snd_iload dL_law_1415
theorem oL_law_1417 : SL_law 1417 (i_const (.int (nI 2)) 1418) := snd_iconst dL_law_1417 (by decide)
theorem oL_law_1418 : SL_law 1418 (i_ii (fun x y => x + y) 1419) := snd_iadd dL_law_1418
theorem oL_law_1419 : SL_law 1419 (i_ai 0 1420) := snd_ai0 dL_law_1419
theorem oL_law_1420 : SL_law 1420 (i_aload 0 1421) := snd_aload_n dL_law_1420 rfl
theorem oL_law_1421 : SL_law 1421 (i_iload 4 1423) := snd_iload dL_law_1421
theorem oL_law_1423 : SL_law 1423 (i_const (.int (nI 3)) 1424) := snd_iconst dL_law_1423 (by decide)
theorem oL_law_1424 : SL_law 1424 (i_ii (fun x y => x + y) 1425) := snd_iadd dL_law_1424
theorem oL_law_1425 : SL_law 1425 (i_ai 0 1426) := snd_ai0 dL_law_1425
theorem oL_law_1426 : SL_law 1426 (i_cv 4 360 3 1429) := snd_cv rfl infX5_years (by decide) rfl (xVm_V dL_law_1426 rfl q2220 q2221 q2222 q136 q2223 pdX5_years)
theorem oL_law_1429 : SL_law 1429 (i_if2 (fun x y => x = y) 1512 1432) := snd_icmp_eq dL_law_1429 (by decide)
theorem oL_law_1432 : SL_law 1432 (i_const (.int (nI 0)) 1433) := snd_iconst dL_law_1432 (by decide)
theorem oL_law_1433 : SL_law 1433 (i_zret) := snd_zret dL_law_1433 rfl
theorem oL_law_1434 : SL_law 1434 (i_aload 1 1435) := snd_aload_n dL_law_1434 rfl
theorem oL_law_1435 : SL_law 1435 (i_aload 0 1436) := snd_aload_n dL_law_1435 rfl
theorem oL_law_1436 : SL_law 1436 (i_iload 4 1438) := snd_iload dL_law_1436
theorem oL_law_1438 : SL_law 1438 (i_const (.int (nI 1)) 1439) := snd_iconst dL_law_1438 (by decide)
theorem oL_law_1439 : SL_law 1439 (i_ii (fun x y => x + y) 1440) := snd_iadd dL_law_1439
theorem oL_law_1440 : SL_law 1440 (i_ai 0 1441) := snd_ai0 dL_law_1440
theorem oL_law_1441 : SL_law 1441 (i_aload 0 1442) := snd_aload_n dL_law_1441 rfl
theorem oL_law_1442 : SL_law 1442 (i_iload 4 1444) := snd_iload dL_law_1442
theorem oL_law_1444 : SL_law 1444 (i_const (.int (nI 2)) 1445) := snd_iconst dL_law_1444 (by decide)
theorem oL_law_1445 : SL_law 1445 (i_ii (fun x y => x + y) 1446) := snd_iadd dL_law_1445
theorem oL_law_1446 : SL_law 1446 (i_ai 0 1447) := snd_ai0 dL_law_1446
theorem oL_law_1447 : SL_law 1447 (i_if1 (fun x => x = 0) 1454 1450) := snd_if_eq dL_law_1447 (by decide)
theorem oL_law_1450 : SL_law 1450 (i_const (.int (nI 1)) 1451) := snd_iconst dL_law_1450 (by decide)
theorem oL_law_1451 : SL_law 1451 (i_goto 1455) := snd_goto dL_law_1451 (by decide)
theorem oL_law_1454 : SL_law 1454 (i_const (.int (nI 0)) 1455) := snd_iconst dL_law_1454 (by decide)
theorem oL_law_1455 : SL_law 1455 (i_cv 0 161 2 1458) := snd_cv rfl infX1_mark (by decide) rfl (xVm_V dL_law_1455 rfl q1551 q1552 q1553 q127 q1554 pdX1_mark)
theorem oL_law_1458 : SL_law 1458 (i_aload 2 1459) := snd_aload_n dL_law_1458 rfl
theorem oL_law_1459 : SL_law 1459 (i_aload 0 1460) := snd_aload_n dL_law_1459 rfl
theorem oL_law_1460 : SL_law 1460 (i_iload 4 1462) := snd_iload dL_law_1460
theorem oL_law_1462 : SL_law 1462 (i_const (.int (nI 1)) 1463) := snd_iconst dL_law_1462 (by decide)
theorem oL_law_1463 : SL_law 1463 (i_ii (fun x y => x + y) 1464) := snd_iadd dL_law_1463
theorem oL_law_1464 : SL_law 1464 (i_ai 0 1465) := snd_ai0 dL_law_1464
theorem oL_law_1465 : SL_law 1465 (i_aload 0 1466) := snd_aload_n dL_law_1465 rfl
theorem oL_law_1466 : SL_law 1466 (i_iload 4 1468) := snd_iload dL_law_1466
theorem oL_law_1468 : SL_law 1468 (i_const (.int (nI 2)) 1469) := snd_iconst dL_law_1468 (by decide)
theorem oL_law_1469 : SL_law 1469 (i_ii (fun x y => x + y) 1470) := snd_iadd dL_law_1469
theorem oL_law_1470 : SL_law 1470 (i_ai 0 1471) := snd_ai0 dL_law_1470
theorem oL_law_1471 : SL_law 1471 (i_if1 (fun x => x = 0) 1478 1474) := snd_if_eq dL_law_1471 (by decide)
theorem oL_law_1474 : SL_law 1474 (i_const (.int (nI 1)) 1475) := snd_iconst dL_law_1474 (by decide)
theorem oL_law_1475 : SL_law 1475 (i_goto 1479) := snd_goto dL_law_1475 (by decide)
theorem oL_law_1478 : SL_law 1478 (i_const (.int (nI 0)) 1479) := snd_iconst dL_law_1478 (by decide)
theorem oL_law_1479 : SL_law 1479 (i_cv 4 364 2 1482) := snd_cv rfl infX5_mark (by decide) rfl (xVm_V dL_law_1479 rfl q2240 q2241 q2242 q136 q2243 pdX5_mark)
theorem oL_law_1482 : SL_law 1482 (i_if2 (fun x y => x = y) 1512 1485) := snd_icmp_eq dL_law_1482 (by decide)
theorem oL_law_1485 : SL_law 1485 (i_const (.int (nI 0)) 1486) := snd_iconst dL_law_1485 (by decide)
theorem oL_law_1486 : SL_law 1486 (i_zret) := snd_zret dL_law_1486 rfl
theorem oL_law_1487 : SL_law 1487 (i_aload 1 1488) := snd_aload_n dL_law_1487 rfl
theorem oL_law_1488 : SL_law 1488 (i_aload 0 1489) := snd_aload_n dL_law_1488 rfl
theorem oL_law_1489 : SL_law 1489 (i_iload 4 1491) := snd_iload dL_law_1489
theorem oL_law_1491 : SL_law 1491 (i_const (.int (nI 1)) 1492) := snd_iconst dL_law_1491 (by decide)
theorem oL_law_1492 : SL_law 1492 (i_ii (fun x y => x + y) 1493) := snd_iadd dL_law_1492
theorem oL_law_1493 : SL_law 1493 (i_ai 0 1494) := snd_ai0 dL_law_1493
theorem oL_law_1494 : SL_law 1494 (i_cv 0 162 1 1497) := snd_cv rfl infX1_count (by decide) rfl (xVm_V dL_law_1494 rfl q1594 q1595 q1596 q127 q1597 pdX1_count)
theorem oL_law_1497 : SL_law 1497 (i_aload 2 1498) := snd_aload_n dL_law_1497 rfl
theorem oL_law_1498 : SL_law 1498 (i_aload 0 1499) := snd_aload_n dL_law_1498 rfl
theorem oL_law_1499 : SL_law 1499 (i_iload 4 1501) := snd_iload dL_law_1499
theorem oL_law_1501 : SL_law 1501 (i_const (.int (nI 1)) 1502) := snd_iconst dL_law_1501 (by decide)
theorem oL_law_1502 : SL_law 1502 (i_ii (fun x y => x + y) 1503) := snd_iadd dL_law_1502
theorem oL_law_1503 : SL_law 1503 (i_ai 0 1504) := snd_ai0 dL_law_1503
theorem oL_law_1504 : SL_law 1504 (i_cv 4 365 1 1507) := snd_cv rfl infX5_count (by decide) rfl (xVm_V dL_law_1504 rfl q2244 q2245 q2246 q136 q2247 pdX5_count)
theorem oL_law_1507 : SL_law 1507 (i_if2 (fun x y => x = y) 1512 1510) := snd_icmp_eq dL_law_1507 (by decide)
theorem oL_law_1510 : SL_law 1510 (i_const (.int (nI 0)) 1511) := snd_iconst dL_law_1510 (by decide)
theorem oL_law_1511 : SL_law 1511 (i_zret) := snd_zret dL_law_1511 rfl
theorem oL_law_1512 : SL_law 1512 (i_iinc 4 (nI 7) 1515) := snd_iinc dL_law_1512 (by decide) (by decide)
theorem oL_law_1515 : SL_law 1515 (i_goto 23) := snd_goto dL_law_1515 (by decide)
theorem oL_law_1518 : SL_law 1518 (i_const (.int (nI 1)) 1519) := snd_iconst dL_law_1518 (by decide)
theorem oL_law_1519 : SL_law 1519 (i_zret) := snd_zret dL_law_1519 rfl
theorem okL_law : ∀ q ∈ cL_law, SL_law q.1 q.2 := List.forall_mem_cons.mpr ⟨oL_law_0, List.forall_mem_cons.mpr ⟨oL_law_3, List.forall_mem_cons.mpr ⟨oL_law_4, List.forall_mem_cons.mpr ⟨oL_law_7, List.forall_mem_cons.mpr ⟨oL_law_8, List.forall_mem_cons.mpr ⟨oL_law_11, List.forall_mem_cons.mpr ⟨oL_law_12, List.forall_mem_cons.mpr ⟨oL_law_15, List.forall_mem_cons.mpr ⟨oL_law_16, List.forall_mem_cons.mpr ⟨oL_law_17, List.forall_mem_cons.mpr ⟨oL_law_19, List.forall_mem_cons.mpr ⟨oL_law_20, List.forall_mem_cons.mpr ⟨oL_law_21, List.forall_mem_cons.mpr ⟨oL_law_23, List.forall_mem_cons.mpr ⟨oL_law_25, List.forall_mem_cons.mpr ⟨oL_law_26, List.forall_mem_cons.mpr ⟨oL_law_27, List.forall_mem_cons.mpr ⟨oL_law_29, List.forall_mem_cons.mpr ⟨oL_law_30, List.forall_mem_cons.mpr ⟨oL_law_33, List.forall_mem_cons.mpr ⟨oL_law_34, List.forall_mem_cons.mpr ⟨oL_law_36, List.forall_mem_cons.mpr ⟨oL_law_37, List.forall_mem_cons.mpr ⟨oL_law_39, List.forall_mem_cons.mpr ⟨oL_law_40, List.forall_mem_cons.mpr ⟨oL_law_228, List.forall_mem_cons.mpr ⟨oL_law_229, List.forall_mem_cons.mpr ⟨oL_law_230, List.forall_mem_cons.mpr ⟨oL_law_232, List.forall_mem_cons.mpr ⟨oL_law_233, List.forall_mem_cons.mpr ⟨oL_law_234, List.forall_mem_cons.mpr ⟨oL_law_235, List.forall_mem_cons.mpr ⟨oL_law_236, List.forall_mem_cons.mpr ⟨oL_law_238, List.forall_mem_cons.mpr ⟨oL_law_239, List.forall_mem_cons.mpr ⟨oL_law_240, List.forall_mem_cons.mpr ⟨oL_law_242, List.forall_mem_cons.mpr ⟨oL_law_243, List.forall_mem_cons.mpr ⟨oL_law_244, List.forall_mem_cons.mpr ⟨oL_law_245, List.forall_mem_cons.mpr ⟨oL_law_246, List.forall_mem_cons.mpr ⟨oL_law_249, List.forall_mem_cons.mpr ⟨oL_law_250, List.forall_mem_cons.mpr ⟨oL_law_251, List.forall_mem_cons.mpr ⟨oL_law_252, List.forall_mem_cons.mpr ⟨oL_law_254, List.forall_mem_cons.mpr ⟨oL_law_255, List.forall_mem_cons.mpr ⟨oL_law_256, List.forall_mem_cons.mpr ⟨oL_law_257, List.forall_mem_cons.mpr ⟨oL_law_258, List.forall_mem_cons.mpr ⟨oL_law_260, List.forall_mem_cons.mpr ⟨oL_law_261, List.forall_mem_cons.mpr ⟨oL_law_262, List.forall_mem_cons.mpr ⟨oL_law_264, List.forall_mem_cons.mpr ⟨oL_law_265, List.forall_mem_cons.mpr ⟨oL_law_266, List.forall_mem_cons.mpr ⟨oL_law_267, List.forall_mem_cons.mpr ⟨oL_law_268, List.forall_mem_cons.mpr ⟨oL_law_271, List.forall_mem_cons.mpr ⟨oL_law_272, List.forall_mem_cons.mpr ⟨oL_law_273, List.forall_mem_cons.mpr ⟨oL_law_274, List.forall_mem_cons.mpr ⟨oL_law_276, List.forall_mem_cons.mpr ⟨oL_law_277, List.forall_mem_cons.mpr ⟨oL_law_278, List.forall_mem_cons.mpr ⟨oL_law_279, List.forall_mem_cons.mpr ⟨oL_law_280, List.forall_mem_cons.mpr ⟨oL_law_282, List.forall_mem_cons.mpr ⟨oL_law_283, List.forall_mem_cons.mpr ⟨oL_law_284, List.forall_mem_cons.mpr ⟨oL_law_286, List.forall_mem_cons.mpr ⟨oL_law_288, List.forall_mem_cons.mpr ⟨oL_law_289, List.forall_mem_cons.mpr ⟨oL_law_290, List.forall_mem_cons.mpr ⟨oL_law_291, List.forall_mem_cons.mpr ⟨oL_law_294, List.forall_mem_cons.mpr ⟨oL_law_295, List.forall_mem_cons.mpr ⟨oL_law_296, List.forall_mem_cons.mpr ⟨oL_law_299, List.forall_mem_cons.mpr ⟨oL_law_300, List.forall_mem_cons.mpr ⟨oL_law_301, List.forall_mem_cons.mpr ⟨oL_law_303, List.forall_mem_cons.mpr ⟨oL_law_304, List.forall_mem_cons.mpr ⟨oL_law_305, List.forall_mem_cons.mpr ⟨oL_law_306, List.forall_mem_cons.mpr ⟨oL_law_307, List.forall_mem_cons.mpr ⟨oL_law_309, List.forall_mem_cons.mpr ⟨oL_law_310, List.forall_mem_cons.mpr ⟨oL_law_311, List.forall_mem_cons.mpr ⟨oL_law_313, List.forall_mem_cons.mpr ⟨oL_law_314, List.forall_mem_cons.mpr ⟨oL_law_315, List.forall_mem_cons.mpr ⟨oL_law_316, List.forall_mem_cons.mpr ⟨oL_law_317, List.forall_mem_cons.mpr ⟨oL_law_320, List.forall_mem_cons.mpr ⟨oL_law_321, List.forall_mem_cons.mpr ⟨oL_law_322, List.forall_mem_cons.mpr ⟨oL_law_323, List.forall_mem_cons.mpr ⟨oL_law_325, List.forall_mem_cons.mpr ⟨oL_law_326, List.forall_mem_cons.mpr ⟨oL_law_327, List.forall_mem_cons.mpr ⟨oL_law_328, List.forall_mem_cons.mpr ⟨oL_law_329, List.forall_mem_cons.mpr ⟨oL_law_331, List.forall_mem_cons.mpr ⟨oL_law_332, List.forall_mem_cons.mpr ⟨oL_law_333, List.forall_mem_cons.mpr ⟨oL_law_335, List.forall_mem_cons.mpr ⟨oL_law_336, List.forall_mem_cons.mpr ⟨oL_law_337, List.forall_mem_cons.mpr ⟨oL_law_338, List.forall_mem_cons.mpr ⟨oL_law_339, List.forall_mem_cons.mpr ⟨oL_law_342, List.forall_mem_cons.mpr ⟨oL_law_343, List.forall_mem_cons.mpr ⟨oL_law_344, List.forall_mem_cons.mpr ⟨oL_law_345, List.forall_mem_cons.mpr ⟨oL_law_347, List.forall_mem_cons.mpr ⟨oL_law_348, List.forall_mem_cons.mpr ⟨oL_law_349, List.forall_mem_cons.mpr ⟨oL_law_350, List.forall_mem_cons.mpr ⟨oL_law_351, List.forall_mem_cons.mpr ⟨oL_law_353, List.forall_mem_cons.mpr ⟨oL_law_354, List.forall_mem_cons.mpr ⟨oL_law_355, List.forall_mem_cons.mpr ⟨oL_law_357, List.forall_mem_cons.mpr ⟨oL_law_359, List.forall_mem_cons.mpr ⟨oL_law_360, List.forall_mem_cons.mpr ⟨oL_law_361, List.forall_mem_cons.mpr ⟨oL_law_362, List.forall_mem_cons.mpr ⟨oL_law_365, List.forall_mem_cons.mpr ⟨oL_law_366, List.forall_mem_cons.mpr ⟨oL_law_367, List.forall_mem_cons.mpr ⟨oL_law_370, List.forall_mem_cons.mpr ⟨oL_law_373, List.forall_mem_cons.mpr ⟨oL_law_374, List.forall_mem_cons.mpr ⟨oL_law_375, List.forall_mem_cons.mpr ⟨oL_law_376, List.forall_mem_cons.mpr ⟨oL_law_379, List.forall_mem_cons.mpr ⟨oL_law_380, List.forall_mem_cons.mpr ⟨oL_law_383, List.forall_mem_cons.mpr ⟨oL_law_386, List.forall_mem_cons.mpr ⟨oL_law_387, List.forall_mem_cons.mpr ⟨oL_law_388, List.forall_mem_cons.mpr ⟨oL_law_389, List.forall_mem_cons.mpr ⟨oL_law_392, List.forall_mem_cons.mpr ⟨oL_law_393, List.forall_mem_cons.mpr ⟨oL_law_396, List.forall_mem_cons.mpr ⟨oL_law_399, List.forall_mem_cons.mpr ⟨oL_law_400, List.forall_mem_cons.mpr ⟨oL_law_401, List.forall_mem_cons.mpr ⟨oL_law_402, List.forall_mem_cons.mpr ⟨oL_law_403, List.forall_mem_cons.mpr ⟨oL_law_405, List.forall_mem_cons.mpr ⟨oL_law_406, List.forall_mem_cons.mpr ⟨oL_law_407, List.forall_mem_cons.mpr ⟨oL_law_408, List.forall_mem_cons.mpr ⟨oL_law_409, List.forall_mem_cons.mpr ⟨oL_law_411, List.forall_mem_cons.mpr ⟨oL_law_412, List.forall_mem_cons.mpr ⟨oL_law_413, List.forall_mem_cons.mpr ⟨oL_law_414, List.forall_mem_cons.mpr ⟨oL_law_417, List.forall_mem_cons.mpr ⟨oL_law_418, List.forall_mem_cons.mpr ⟨oL_law_419, List.forall_mem_cons.mpr ⟨oL_law_421, List.forall_mem_cons.mpr ⟨oL_law_422, List.forall_mem_cons.mpr ⟨oL_law_423, List.forall_mem_cons.mpr ⟨oL_law_424, List.forall_mem_cons.mpr ⟨oL_law_425, List.forall_mem_cons.mpr ⟨oL_law_427, List.forall_mem_cons.mpr ⟨oL_law_428, List.forall_mem_cons.mpr ⟨oL_law_429, List.forall_mem_cons.mpr ⟨oL_law_430, List.forall_mem_cons.mpr ⟨oL_law_433, List.forall_mem_cons.mpr ⟨oL_law_436, List.forall_mem_cons.mpr ⟨oL_law_437, List.forall_mem_cons.mpr ⟨oL_law_438, List.forall_mem_cons.mpr ⟨oL_law_439, List.forall_mem_cons.mpr ⟨oL_law_440, List.forall_mem_cons.mpr ⟨oL_law_442, List.forall_mem_cons.mpr ⟨oL_law_443, List.forall_mem_cons.mpr ⟨oL_law_444, List.forall_mem_cons.mpr ⟨oL_law_445, List.forall_mem_cons.mpr ⟨oL_law_448, List.forall_mem_cons.mpr ⟨oL_law_449, List.forall_mem_cons.mpr ⟨oL_law_450, List.forall_mem_cons.mpr ⟨oL_law_452, List.forall_mem_cons.mpr ⟨oL_law_453, List.forall_mem_cons.mpr ⟨oL_law_454, List.forall_mem_cons.mpr ⟨oL_law_455, List.forall_mem_cons.mpr ⟨oL_law_458, List.forall_mem_cons.mpr ⟨oL_law_461, List.forall_mem_cons.mpr ⟨oL_law_462, List.forall_mem_cons.mpr ⟨oL_law_463, List.forall_mem_cons.mpr ⟨oL_law_464, List.forall_mem_cons.mpr ⟨oL_law_467, List.forall_mem_cons.mpr ⟨oL_law_468, List.forall_mem_cons.mpr ⟨oL_law_471, List.forall_mem_cons.mpr ⟨oL_law_474, List.forall_mem_cons.mpr ⟨oL_law_475, List.forall_mem_cons.mpr ⟨oL_law_476, List.forall_mem_cons.mpr ⟨oL_law_477, List.forall_mem_cons.mpr ⟨oL_law_478, List.forall_mem_cons.mpr ⟨oL_law_480, List.forall_mem_cons.mpr ⟨oL_law_481, List.forall_mem_cons.mpr ⟨oL_law_482, List.forall_mem_cons.mpr ⟨oL_law_483, List.forall_mem_cons.mpr ⟨oL_law_484, List.forall_mem_cons.mpr ⟨oL_law_486, List.forall_mem_cons.mpr ⟨oL_law_487, List.forall_mem_cons.mpr ⟨oL_law_488, List.forall_mem_cons.mpr ⟨oL_law_489, List.forall_mem_cons.mpr ⟨oL_law_492, List.forall_mem_cons.mpr ⟨oL_law_493, List.forall_mem_cons.mpr ⟨oL_law_494, List.forall_mem_cons.mpr ⟨oL_law_496, List.forall_mem_cons.mpr ⟨oL_law_497, List.forall_mem_cons.mpr ⟨oL_law_498, List.forall_mem_cons.mpr ⟨oL_law_499, List.forall_mem_cons.mpr ⟨oL_law_500, List.forall_mem_cons.mpr ⟨oL_law_502, List.forall_mem_cons.mpr ⟨oL_law_503, List.forall_mem_cons.mpr ⟨oL_law_504, List.forall_mem_cons.mpr ⟨oL_law_505, List.forall_mem_cons.mpr ⟨oL_law_508, List.forall_mem_cons.mpr ⟨oL_law_511, List.forall_mem_cons.mpr ⟨oL_law_512, List.forall_mem_cons.mpr ⟨oL_law_513, List.forall_mem_cons.mpr ⟨oL_law_514, List.forall_mem_cons.mpr ⟨oL_law_515, List.forall_mem_cons.mpr ⟨oL_law_517, List.forall_mem_cons.mpr ⟨oL_law_518, List.forall_mem_cons.mpr ⟨oL_law_519, List.forall_mem_cons.mpr ⟨oL_law_520, List.forall_mem_cons.mpr ⟨oL_law_523, List.forall_mem_cons.mpr ⟨oL_law_524, List.forall_mem_cons.mpr ⟨oL_law_525, List.forall_mem_cons.mpr ⟨oL_law_527, List.forall_mem_cons.mpr ⟨oL_law_528, List.forall_mem_cons.mpr ⟨oL_law_529, List.forall_mem_cons.mpr ⟨oL_law_530, List.forall_mem_cons.mpr ⟨oL_law_533, List.forall_mem_cons.mpr ⟨oL_law_536, List.forall_mem_cons.mpr ⟨oL_law_537, List.forall_mem_cons.mpr ⟨oL_law_538, List.forall_mem_cons.mpr ⟨oL_law_539, List.forall_mem_cons.mpr ⟨oL_law_540, List.forall_mem_cons.mpr ⟨oL_law_542, List.forall_mem_cons.mpr ⟨oL_law_543, List.forall_mem_cons.mpr ⟨oL_law_544, List.forall_mem_cons.mpr ⟨oL_law_545, List.forall_mem_cons.mpr ⟨oL_law_548, List.forall_mem_cons.mpr ⟨oL_law_549, List.forall_mem_cons.mpr ⟨oL_law_550, List.forall_mem_cons.mpr ⟨oL_law_552, List.forall_mem_cons.mpr ⟨oL_law_553, List.forall_mem_cons.mpr ⟨oL_law_554, List.forall_mem_cons.mpr ⟨oL_law_555, List.forall_mem_cons.mpr ⟨oL_law_558, List.forall_mem_cons.mpr ⟨oL_law_561, List.forall_mem_cons.mpr ⟨oL_law_562, List.forall_mem_cons.mpr ⟨oL_law_563, List.forall_mem_cons.mpr ⟨oL_law_564, List.forall_mem_cons.mpr ⟨oL_law_565, List.forall_mem_cons.mpr ⟨oL_law_567, List.forall_mem_cons.mpr ⟨oL_law_568, List.forall_mem_cons.mpr ⟨oL_law_569, List.forall_mem_cons.mpr ⟨oL_law_570, List.forall_mem_cons.mpr ⟨oL_law_573, List.forall_mem_cons.mpr ⟨oL_law_574, List.forall_mem_cons.mpr ⟨oL_law_575, List.forall_mem_cons.mpr ⟨oL_law_577, List.forall_mem_cons.mpr ⟨oL_law_578, List.forall_mem_cons.mpr ⟨oL_law_579, List.forall_mem_cons.mpr ⟨oL_law_580, List.forall_mem_cons.mpr ⟨oL_law_583, List.forall_mem_cons.mpr ⟨oL_law_586, List.forall_mem_cons.mpr ⟨oL_law_587, List.forall_mem_cons.mpr ⟨oL_law_588, List.forall_mem_cons.mpr ⟨oL_law_589, List.forall_mem_cons.mpr ⟨oL_law_592, List.forall_mem_cons.mpr ⟨oL_law_593, List.forall_mem_cons.mpr ⟨oL_law_596, List.forall_mem_cons.mpr ⟨oL_law_599, List.forall_mem_cons.mpr ⟨oL_law_600, List.forall_mem_cons.mpr ⟨oL_law_601, List.forall_mem_cons.mpr ⟨oL_law_602, List.forall_mem_cons.mpr ⟨oL_law_603, List.forall_mem_cons.mpr ⟨oL_law_605, List.forall_mem_cons.mpr ⟨oL_law_606, List.forall_mem_cons.mpr ⟨oL_law_607, List.forall_mem_cons.mpr ⟨oL_law_608, List.forall_mem_cons.mpr ⟨oL_law_611, List.forall_mem_cons.mpr ⟨oL_law_612, List.forall_mem_cons.mpr ⟨oL_law_613, List.forall_mem_cons.mpr ⟨oL_law_615, List.forall_mem_cons.mpr ⟨oL_law_616, List.forall_mem_cons.mpr ⟨oL_law_617, List.forall_mem_cons.mpr ⟨oL_law_618, List.forall_mem_cons.mpr ⟨oL_law_621, List.forall_mem_cons.mpr ⟨oL_law_624, List.forall_mem_cons.mpr ⟨oL_law_625, List.forall_mem_cons.mpr ⟨oL_law_626, List.forall_mem_cons.mpr ⟨oL_law_627, List.forall_mem_cons.mpr ⟨oL_law_630, List.forall_mem_cons.mpr ⟨oL_law_631, List.forall_mem_cons.mpr ⟨oL_law_634, List.forall_mem_cons.mpr ⟨oL_law_637, List.forall_mem_cons.mpr ⟨oL_law_638, List.forall_mem_cons.mpr ⟨oL_law_639, List.forall_mem_cons.mpr ⟨oL_law_640, List.forall_mem_cons.mpr ⟨oL_law_641, List.forall_mem_cons.mpr ⟨oL_law_643, List.forall_mem_cons.mpr ⟨oL_law_644, List.forall_mem_cons.mpr ⟨oL_law_645, List.forall_mem_cons.mpr ⟨oL_law_646, List.forall_mem_cons.mpr ⟨oL_law_649, List.forall_mem_cons.mpr ⟨oL_law_650, List.forall_mem_cons.mpr ⟨oL_law_651, List.forall_mem_cons.mpr ⟨oL_law_653, List.forall_mem_cons.mpr ⟨oL_law_654, List.forall_mem_cons.mpr ⟨oL_law_655, List.forall_mem_cons.mpr ⟨oL_law_656, List.forall_mem_cons.mpr ⟨oL_law_659, List.forall_mem_cons.mpr ⟨oL_law_662, List.forall_mem_cons.mpr ⟨oL_law_663, List.forall_mem_cons.mpr ⟨oL_law_664, List.forall_mem_cons.mpr ⟨oL_law_665, List.forall_mem_cons.mpr ⟨oL_law_666, List.forall_mem_cons.mpr ⟨oL_law_668, List.forall_mem_cons.mpr ⟨oL_law_669, List.forall_mem_cons.mpr ⟨oL_law_670, List.forall_mem_cons.mpr ⟨oL_law_671, List.forall_mem_cons.mpr ⟨oL_law_674, List.forall_mem_cons.mpr ⟨oL_law_675, List.forall_mem_cons.mpr ⟨oL_law_676, List.forall_mem_cons.mpr ⟨oL_law_678, List.forall_mem_cons.mpr ⟨oL_law_679, List.forall_mem_cons.mpr ⟨oL_law_680, List.forall_mem_cons.mpr ⟨oL_law_681, List.forall_mem_cons.mpr ⟨oL_law_684, List.forall_mem_cons.mpr ⟨oL_law_687, List.forall_mem_cons.mpr ⟨oL_law_688, List.forall_mem_cons.mpr ⟨oL_law_689, List.forall_mem_cons.mpr ⟨oL_law_690, List.forall_mem_cons.mpr ⟨oL_law_691, List.forall_mem_cons.mpr ⟨oL_law_693, List.forall_mem_cons.mpr ⟨oL_law_694, List.forall_mem_cons.mpr ⟨oL_law_695, List.forall_mem_cons.mpr ⟨oL_law_696, List.forall_mem_cons.mpr ⟨oL_law_697, List.forall_mem_cons.mpr ⟨oL_law_699, List.forall_mem_cons.mpr ⟨oL_law_700, List.forall_mem_cons.mpr ⟨oL_law_701, List.forall_mem_cons.mpr ⟨oL_law_702, List.forall_mem_cons.mpr ⟨oL_law_705, List.forall_mem_cons.mpr ⟨oL_law_706, List.forall_mem_cons.mpr ⟨oL_law_707, List.forall_mem_cons.mpr ⟨oL_law_709, List.forall_mem_cons.mpr ⟨oL_law_710, List.forall_mem_cons.mpr ⟨oL_law_711, List.forall_mem_cons.mpr ⟨oL_law_712, List.forall_mem_cons.mpr ⟨oL_law_713, List.forall_mem_cons.mpr ⟨oL_law_715, List.forall_mem_cons.mpr ⟨oL_law_716, List.forall_mem_cons.mpr ⟨oL_law_717, List.forall_mem_cons.mpr ⟨oL_law_718, List.forall_mem_cons.mpr ⟨oL_law_721, List.forall_mem_cons.mpr ⟨oL_law_724, List.forall_mem_cons.mpr ⟨oL_law_725, List.forall_mem_cons.mpr ⟨oL_law_726, List.forall_mem_cons.mpr ⟨oL_law_727, List.forall_mem_cons.mpr ⟨oL_law_728, List.forall_mem_cons.mpr ⟨oL_law_730, List.forall_mem_cons.mpr ⟨oL_law_731, List.forall_mem_cons.mpr ⟨oL_law_732, List.forall_mem_cons.mpr ⟨oL_law_733, List.forall_mem_cons.mpr ⟨oL_law_736, List.forall_mem_cons.mpr ⟨oL_law_737, List.forall_mem_cons.mpr ⟨oL_law_738, List.forall_mem_cons.mpr ⟨oL_law_740, List.forall_mem_cons.mpr ⟨oL_law_741, List.forall_mem_cons.mpr ⟨oL_law_742, List.forall_mem_cons.mpr ⟨oL_law_743, List.forall_mem_cons.mpr ⟨oL_law_746, List.forall_mem_cons.mpr ⟨oL_law_749, List.forall_mem_cons.mpr ⟨oL_law_750, List.forall_mem_cons.mpr ⟨oL_law_751, List.forall_mem_cons.mpr ⟨oL_law_752, List.forall_mem_cons.mpr ⟨oL_law_753, List.forall_mem_cons.mpr ⟨oL_law_755, List.forall_mem_cons.mpr ⟨oL_law_756, List.forall_mem_cons.mpr ⟨oL_law_757, List.forall_mem_cons.mpr ⟨oL_law_758, List.forall_mem_cons.mpr ⟨oL_law_761, List.forall_mem_cons.mpr ⟨oL_law_762, List.forall_mem_cons.mpr ⟨oL_law_763, List.forall_mem_cons.mpr ⟨oL_law_765, List.forall_mem_cons.mpr ⟨oL_law_766, List.forall_mem_cons.mpr ⟨oL_law_767, List.forall_mem_cons.mpr ⟨oL_law_768, List.forall_mem_cons.mpr ⟨oL_law_771, List.forall_mem_cons.mpr ⟨oL_law_774, List.forall_mem_cons.mpr ⟨oL_law_775, List.forall_mem_cons.mpr ⟨oL_law_776, List.forall_mem_cons.mpr ⟨oL_law_777, List.forall_mem_cons.mpr ⟨oL_law_780, List.forall_mem_cons.mpr ⟨oL_law_781, List.forall_mem_cons.mpr ⟨oL_law_784, List.forall_mem_cons.mpr ⟨oL_law_787, List.forall_mem_cons.mpr ⟨oL_law_788, List.forall_mem_cons.mpr ⟨oL_law_789, List.forall_mem_cons.mpr ⟨oL_law_790, List.forall_mem_cons.mpr ⟨oL_law_793, List.forall_mem_cons.mpr ⟨oL_law_794, List.forall_mem_cons.mpr ⟨oL_law_797, List.forall_mem_cons.mpr ⟨oL_law_800, List.forall_mem_cons.mpr ⟨oL_law_801, List.forall_mem_cons.mpr ⟨oL_law_802, List.forall_mem_cons.mpr ⟨oL_law_803, List.forall_mem_cons.mpr ⟨oL_law_804, List.forall_mem_cons.mpr ⟨oL_law_806, List.forall_mem_cons.mpr ⟨oL_law_807, List.forall_mem_cons.mpr ⟨oL_law_808, List.forall_mem_cons.mpr ⟨oL_law_809, List.forall_mem_cons.mpr ⟨oL_law_810, List.forall_mem_cons.mpr ⟨oL_law_812, List.forall_mem_cons.mpr ⟨oL_law_813, List.forall_mem_cons.mpr ⟨oL_law_814, List.forall_mem_cons.mpr ⟨oL_law_815, List.forall_mem_cons.mpr ⟨oL_law_818, List.forall_mem_cons.mpr ⟨oL_law_819, List.forall_mem_cons.mpr ⟨oL_law_820, List.forall_mem_cons.mpr ⟨oL_law_822, List.forall_mem_cons.mpr ⟨oL_law_823, List.forall_mem_cons.mpr ⟨oL_law_824, List.forall_mem_cons.mpr ⟨oL_law_825, List.forall_mem_cons.mpr ⟨oL_law_826, List.forall_mem_cons.mpr ⟨oL_law_828, List.forall_mem_cons.mpr ⟨oL_law_829, List.forall_mem_cons.mpr ⟨oL_law_830, List.forall_mem_cons.mpr ⟨oL_law_831, List.forall_mem_cons.mpr ⟨oL_law_834, List.forall_mem_cons.mpr ⟨oL_law_837, List.forall_mem_cons.mpr ⟨oL_law_838, List.forall_mem_cons.mpr ⟨oL_law_839, List.forall_mem_cons.mpr ⟨oL_law_840, List.forall_mem_cons.mpr ⟨oL_law_841, List.forall_mem_cons.mpr ⟨oL_law_843, List.forall_mem_cons.mpr ⟨oL_law_844, List.forall_mem_cons.mpr ⟨oL_law_845, List.forall_mem_cons.mpr ⟨oL_law_846, List.forall_mem_cons.mpr ⟨oL_law_847, List.forall_mem_cons.mpr ⟨oL_law_849, List.forall_mem_cons.mpr ⟨oL_law_850, List.forall_mem_cons.mpr ⟨oL_law_851, List.forall_mem_cons.mpr ⟨oL_law_852, List.forall_mem_cons.mpr ⟨oL_law_855, List.forall_mem_cons.mpr ⟨oL_law_856, List.forall_mem_cons.mpr ⟨oL_law_857, List.forall_mem_cons.mpr ⟨oL_law_859, List.forall_mem_cons.mpr ⟨oL_law_860, List.forall_mem_cons.mpr ⟨oL_law_861, List.forall_mem_cons.mpr ⟨oL_law_862, List.forall_mem_cons.mpr ⟨oL_law_863, List.forall_mem_cons.mpr ⟨oL_law_865, List.forall_mem_cons.mpr ⟨oL_law_866, List.forall_mem_cons.mpr ⟨oL_law_867, List.forall_mem_cons.mpr ⟨oL_law_868, List.forall_mem_cons.mpr ⟨oL_law_871, List.forall_mem_cons.mpr ⟨oL_law_874, List.forall_mem_cons.mpr ⟨oL_law_875, List.forall_mem_cons.mpr ⟨oL_law_876, List.forall_mem_cons.mpr ⟨oL_law_877, List.forall_mem_cons.mpr ⟨oL_law_878, List.forall_mem_cons.mpr ⟨oL_law_880, List.forall_mem_cons.mpr ⟨oL_law_881, List.forall_mem_cons.mpr ⟨oL_law_882, List.forall_mem_cons.mpr ⟨oL_law_883, List.forall_mem_cons.mpr ⟨oL_law_884, List.forall_mem_cons.mpr ⟨oL_law_886, List.forall_mem_cons.mpr ⟨oL_law_887, List.forall_mem_cons.mpr ⟨oL_law_888, List.forall_mem_cons.mpr ⟨oL_law_889, List.forall_mem_cons.mpr ⟨oL_law_892, List.forall_mem_cons.mpr ⟨oL_law_893, List.forall_mem_cons.mpr ⟨oL_law_894, List.forall_mem_cons.mpr ⟨oL_law_896, List.forall_mem_cons.mpr ⟨oL_law_897, List.forall_mem_cons.mpr ⟨oL_law_898, List.forall_mem_cons.mpr ⟨oL_law_899, List.forall_mem_cons.mpr ⟨oL_law_900, List.forall_mem_cons.mpr ⟨oL_law_902, List.forall_mem_cons.mpr ⟨oL_law_903, List.forall_mem_cons.mpr ⟨oL_law_904, List.forall_mem_cons.mpr ⟨oL_law_905, List.forall_mem_cons.mpr ⟨oL_law_908, List.forall_mem_cons.mpr ⟨oL_law_911, List.forall_mem_cons.mpr ⟨oL_law_912, List.forall_mem_cons.mpr ⟨oL_law_913, List.forall_mem_cons.mpr ⟨oL_law_914, List.forall_mem_cons.mpr ⟨oL_law_915, List.forall_mem_cons.mpr ⟨oL_law_917, List.forall_mem_cons.mpr ⟨oL_law_918, List.forall_mem_cons.mpr ⟨oL_law_919, List.forall_mem_cons.mpr ⟨oL_law_920, List.forall_mem_cons.mpr ⟨oL_law_921, List.forall_mem_cons.mpr ⟨oL_law_923, List.forall_mem_cons.mpr ⟨oL_law_924, List.forall_mem_cons.mpr ⟨oL_law_925, List.forall_mem_cons.mpr ⟨oL_law_926, List.forall_mem_cons.mpr ⟨oL_law_929, List.forall_mem_cons.mpr ⟨oL_law_930, List.forall_mem_cons.mpr ⟨oL_law_931, List.forall_mem_cons.mpr ⟨oL_law_933, List.forall_mem_cons.mpr ⟨oL_law_934, List.forall_mem_cons.mpr ⟨oL_law_935, List.forall_mem_cons.mpr ⟨oL_law_936, List.forall_mem_cons.mpr ⟨oL_law_937, List.forall_mem_cons.mpr ⟨oL_law_939, List.forall_mem_cons.mpr ⟨oL_law_940, List.forall_mem_cons.mpr ⟨oL_law_941, List.forall_mem_cons.mpr ⟨oL_law_942, List.forall_mem_cons.mpr ⟨oL_law_945, List.forall_mem_cons.mpr ⟨oL_law_948, List.forall_mem_cons.mpr ⟨oL_law_949, List.forall_mem_cons.mpr ⟨oL_law_950, List.forall_mem_cons.mpr ⟨oL_law_951, List.forall_mem_cons.mpr ⟨oL_law_952, List.forall_mem_cons.mpr ⟨oL_law_954, List.forall_mem_cons.mpr ⟨oL_law_955, List.forall_mem_cons.mpr ⟨oL_law_956, List.forall_mem_cons.mpr ⟨oL_law_957, List.forall_mem_cons.mpr ⟨oL_law_958, List.forall_mem_cons.mpr ⟨oL_law_960, List.forall_mem_cons.mpr ⟨oL_law_961, List.forall_mem_cons.mpr ⟨oL_law_962, List.forall_mem_cons.mpr ⟨oL_law_963, List.forall_mem_cons.mpr ⟨oL_law_966, List.forall_mem_cons.mpr ⟨oL_law_967, List.forall_mem_cons.mpr ⟨oL_law_968, List.forall_mem_cons.mpr ⟨oL_law_970, List.forall_mem_cons.mpr ⟨oL_law_971, List.forall_mem_cons.mpr ⟨oL_law_972, List.forall_mem_cons.mpr ⟨oL_law_973, List.forall_mem_cons.mpr ⟨oL_law_974, List.forall_mem_cons.mpr ⟨oL_law_976, List.forall_mem_cons.mpr ⟨oL_law_977, List.forall_mem_cons.mpr ⟨oL_law_978, List.forall_mem_cons.mpr ⟨oL_law_979, List.forall_mem_cons.mpr ⟨oL_law_982, List.forall_mem_cons.mpr ⟨oL_law_985, List.forall_mem_cons.mpr ⟨oL_law_986, List.forall_mem_cons.mpr ⟨oL_law_987, List.forall_mem_cons.mpr ⟨oL_law_988, List.forall_mem_cons.mpr ⟨oL_law_989, List.forall_mem_cons.mpr ⟨oL_law_991, List.forall_mem_cons.mpr ⟨oL_law_992, List.forall_mem_cons.mpr ⟨oL_law_993, List.forall_mem_cons.mpr ⟨oL_law_994, List.forall_mem_cons.mpr ⟨oL_law_995, List.forall_mem_cons.mpr ⟨oL_law_997, List.forall_mem_cons.mpr ⟨oL_law_998, List.forall_mem_cons.mpr ⟨oL_law_999, List.forall_mem_cons.mpr ⟨oL_law_1000, List.forall_mem_cons.mpr ⟨oL_law_1001, List.forall_mem_cons.mpr ⟨oL_law_1003, List.forall_mem_cons.mpr ⟨oL_law_1004, List.forall_mem_cons.mpr ⟨oL_law_1005, List.forall_mem_cons.mpr ⟨oL_law_1006, List.forall_mem_cons.mpr ⟨oL_law_1009, List.forall_mem_cons.mpr ⟨oL_law_1010, List.forall_mem_cons.mpr ⟨oL_law_1013, List.forall_mem_cons.mpr ⟨oL_law_1014, List.forall_mem_cons.mpr ⟨oL_law_1017, List.forall_mem_cons.mpr ⟨oL_law_1018, List.forall_mem_cons.mpr ⟨oL_law_1019, List.forall_mem_cons.mpr ⟨oL_law_1021, List.forall_mem_cons.mpr ⟨oL_law_1022, List.forall_mem_cons.mpr ⟨oL_law_1023, List.forall_mem_cons.mpr ⟨oL_law_1024, List.forall_mem_cons.mpr ⟨oL_law_1025, List.forall_mem_cons.mpr ⟨oL_law_1027, List.forall_mem_cons.mpr ⟨oL_law_1028, List.forall_mem_cons.mpr ⟨oL_law_1029, List.forall_mem_cons.mpr ⟨oL_law_1030, List.forall_mem_cons.mpr ⟨oL_law_1031, List.forall_mem_cons.mpr ⟨oL_law_1033, List.forall_mem_cons.mpr ⟨oL_law_1034, List.forall_mem_cons.mpr ⟨oL_law_1035, List.forall_mem_cons.mpr ⟨oL_law_1036, List.forall_mem_cons.mpr ⟨oL_law_1039, List.forall_mem_cons.mpr ⟨oL_law_1040, List.forall_mem_cons.mpr ⟨oL_law_1043, List.forall_mem_cons.mpr ⟨oL_law_1044, List.forall_mem_cons.mpr ⟨oL_law_1047, List.forall_mem_cons.mpr ⟨oL_law_1050, List.forall_mem_cons.mpr ⟨oL_law_1051, List.forall_mem_cons.mpr ⟨oL_law_1052, List.forall_mem_cons.mpr ⟨oL_law_1053, List.forall_mem_cons.mpr ⟨oL_law_1056, List.forall_mem_cons.mpr ⟨oL_law_1057, List.forall_mem_cons.mpr ⟨oL_law_1060, List.forall_mem_cons.mpr ⟨oL_law_1063, List.forall_mem_cons.mpr ⟨oL_law_1064, List.forall_mem_cons.mpr ⟨oL_law_1065, List.forall_mem_cons.mpr ⟨oL_law_1066, List.forall_mem_cons.mpr ⟨oL_law_1069, List.forall_mem_cons.mpr ⟨oL_law_1070, List.forall_mem_cons.mpr ⟨oL_law_1073, List.forall_mem_cons.mpr ⟨oL_law_1076, List.forall_mem_cons.mpr ⟨oL_law_1077, List.forall_mem_cons.mpr ⟨oL_law_1078, List.forall_mem_cons.mpr ⟨oL_law_1079, List.forall_mem_cons.mpr ⟨oL_law_1080, List.forall_mem_cons.mpr ⟨oL_law_1082, List.forall_mem_cons.mpr ⟨oL_law_1083, List.forall_mem_cons.mpr ⟨oL_law_1084, List.forall_mem_cons.mpr ⟨oL_law_1085, List.forall_mem_cons.mpr ⟨oL_law_1086, List.forall_mem_cons.mpr ⟨oL_law_1088, List.forall_mem_cons.mpr ⟨oL_law_1089, List.forall_mem_cons.mpr ⟨oL_law_1090, List.forall_mem_cons.mpr ⟨oL_law_1091, List.forall_mem_cons.mpr ⟨oL_law_1094, List.forall_mem_cons.mpr ⟨oL_law_1095, List.forall_mem_cons.mpr ⟨oL_law_1096, List.forall_mem_cons.mpr ⟨oL_law_1098, List.forall_mem_cons.mpr ⟨oL_law_1099, List.forall_mem_cons.mpr ⟨oL_law_1100, List.forall_mem_cons.mpr ⟨oL_law_1101, List.forall_mem_cons.mpr ⟨oL_law_1102, List.forall_mem_cons.mpr ⟨oL_law_1104, List.forall_mem_cons.mpr ⟨oL_law_1105, List.forall_mem_cons.mpr ⟨oL_law_1106, List.forall_mem_cons.mpr ⟨oL_law_1107, List.forall_mem_cons.mpr ⟨oL_law_1110, List.forall_mem_cons.mpr ⟨oL_law_1113, List.forall_mem_cons.mpr ⟨oL_law_1114, List.forall_mem_cons.mpr ⟨oL_law_1115, List.forall_mem_cons.mpr ⟨oL_law_1116, List.forall_mem_cons.mpr ⟨oL_law_1119, List.forall_mem_cons.mpr ⟨oL_law_1120, List.forall_mem_cons.mpr ⟨oL_law_1123, List.forall_mem_cons.mpr ⟨oL_law_1126, List.forall_mem_cons.mpr ⟨oL_law_1127, List.forall_mem_cons.mpr ⟨oL_law_1128, List.forall_mem_cons.mpr ⟨oL_law_1129, List.forall_mem_cons.mpr ⟨oL_law_1132, List.forall_mem_cons.mpr ⟨oL_law_1133, List.forall_mem_cons.mpr ⟨oL_law_1136, List.forall_mem_cons.mpr ⟨oL_law_1139, List.forall_mem_cons.mpr ⟨oL_law_1140, List.forall_mem_cons.mpr ⟨oL_law_1141, List.forall_mem_cons.mpr ⟨oL_law_1142, List.forall_mem_cons.mpr ⟨oL_law_1145, List.forall_mem_cons.mpr ⟨oL_law_1146, List.forall_mem_cons.mpr ⟨oL_law_1149, List.forall_mem_cons.mpr ⟨oL_law_1152, List.forall_mem_cons.mpr ⟨oL_law_1153, List.forall_mem_cons.mpr ⟨oL_law_1154, List.forall_mem_cons.mpr ⟨oL_law_1155, List.forall_mem_cons.mpr ⟨oL_law_1158, List.forall_mem_cons.mpr ⟨oL_law_1159, List.forall_mem_cons.mpr ⟨oL_law_1162, List.forall_mem_cons.mpr ⟨oL_law_1165, List.forall_mem_cons.mpr ⟨oL_law_1166, List.forall_mem_cons.mpr ⟨oL_law_1167, List.forall_mem_cons.mpr ⟨oL_law_1168, List.forall_mem_cons.mpr ⟨oL_law_1171, List.forall_mem_cons.mpr ⟨oL_law_1172, List.forall_mem_cons.mpr ⟨oL_law_1175, List.forall_mem_cons.mpr ⟨oL_law_1178, List.forall_mem_cons.mpr ⟨oL_law_1179, List.forall_mem_cons.mpr ⟨oL_law_1180, List.forall_mem_cons.mpr ⟨oL_law_1181, List.forall_mem_cons.mpr ⟨oL_law_1184, List.forall_mem_cons.mpr ⟨oL_law_1185, List.forall_mem_cons.mpr ⟨oL_law_1188, List.forall_mem_cons.mpr ⟨oL_law_1191, List.forall_mem_cons.mpr ⟨oL_law_1192, List.forall_mem_cons.mpr ⟨oL_law_1193, List.forall_mem_cons.mpr ⟨oL_law_1194, List.forall_mem_cons.mpr ⟨oL_law_1197, List.forall_mem_cons.mpr ⟨oL_law_1198, List.forall_mem_cons.mpr ⟨oL_law_1201, List.forall_mem_cons.mpr ⟨oL_law_1204, List.forall_mem_cons.mpr ⟨oL_law_1205, List.forall_mem_cons.mpr ⟨oL_law_1206, List.forall_mem_cons.mpr ⟨oL_law_1207, List.forall_mem_cons.mpr ⟨oL_law_1208, List.forall_mem_cons.mpr ⟨oL_law_1210, List.forall_mem_cons.mpr ⟨oL_law_1211, List.forall_mem_cons.mpr ⟨oL_law_1212, List.forall_mem_cons.mpr ⟨oL_law_1213, List.forall_mem_cons.mpr ⟨oL_law_1216, List.forall_mem_cons.mpr ⟨oL_law_1217, List.forall_mem_cons.mpr ⟨oL_law_1218, List.forall_mem_cons.mpr ⟨oL_law_1220, List.forall_mem_cons.mpr ⟨oL_law_1221, List.forall_mem_cons.mpr ⟨oL_law_1222, List.forall_mem_cons.mpr ⟨oL_law_1223, List.forall_mem_cons.mpr ⟨oL_law_1226, List.forall_mem_cons.mpr ⟨oL_law_1229, List.forall_mem_cons.mpr ⟨oL_law_1230, List.forall_mem_cons.mpr ⟨oL_law_1231, List.forall_mem_cons.mpr ⟨oL_law_1232, List.forall_mem_cons.mpr ⟨oL_law_1235, List.forall_mem_cons.mpr ⟨oL_law_1236, List.forall_mem_cons.mpr ⟨oL_law_1239, List.forall_mem_cons.mpr ⟨oL_law_1242, List.forall_mem_cons.mpr ⟨oL_law_1243, List.forall_mem_cons.mpr ⟨oL_law_1244, List.forall_mem_cons.mpr ⟨oL_law_1245, List.forall_mem_cons.mpr ⟨oL_law_1246, List.forall_mem_cons.mpr ⟨oL_law_1248, List.forall_mem_cons.mpr ⟨oL_law_1249, List.forall_mem_cons.mpr ⟨oL_law_1250, List.forall_mem_cons.mpr ⟨oL_law_1251, List.forall_mem_cons.mpr ⟨oL_law_1252, List.forall_mem_cons.mpr ⟨oL_law_1254, List.forall_mem_cons.mpr ⟨oL_law_1255, List.forall_mem_cons.mpr ⟨oL_law_1256, List.forall_mem_cons.mpr ⟨oL_law_1257, List.forall_mem_cons.mpr ⟨oL_law_1258, List.forall_mem_cons.mpr ⟨oL_law_1260, List.forall_mem_cons.mpr ⟨oL_law_1261, List.forall_mem_cons.mpr ⟨oL_law_1262, List.forall_mem_cons.mpr ⟨oL_law_1263, List.forall_mem_cons.mpr ⟨oL_law_1266, List.forall_mem_cons.mpr ⟨oL_law_1267, List.forall_mem_cons.mpr ⟨oL_law_1268, List.forall_mem_cons.mpr ⟨oL_law_1270, List.forall_mem_cons.mpr ⟨oL_law_1271, List.forall_mem_cons.mpr ⟨oL_law_1272, List.forall_mem_cons.mpr ⟨oL_law_1273, List.forall_mem_cons.mpr ⟨oL_law_1274, List.forall_mem_cons.mpr ⟨oL_law_1276, List.forall_mem_cons.mpr ⟨oL_law_1277, List.forall_mem_cons.mpr ⟨oL_law_1278, List.forall_mem_cons.mpr ⟨oL_law_1279, List.forall_mem_cons.mpr ⟨oL_law_1280, List.forall_mem_cons.mpr ⟨oL_law_1282, List.forall_mem_cons.mpr ⟨oL_law_1283, List.forall_mem_cons.mpr ⟨oL_law_1284, List.forall_mem_cons.mpr ⟨oL_law_1285, List.forall_mem_cons.mpr ⟨oL_law_1288, List.forall_mem_cons.mpr ⟨oL_law_1291, List.forall_mem_cons.mpr ⟨oL_law_1292, List.forall_mem_cons.mpr ⟨oL_law_1293, List.forall_mem_cons.mpr ⟨oL_law_1294, List.forall_mem_cons.mpr ⟨oL_law_1295, List.forall_mem_cons.mpr ⟨oL_law_1297, List.forall_mem_cons.mpr ⟨oL_law_1298, List.forall_mem_cons.mpr ⟨oL_law_1299, List.forall_mem_cons.mpr ⟨oL_law_1300, List.forall_mem_cons.mpr ⟨oL_law_1301, List.forall_mem_cons.mpr ⟨oL_law_1303, List.forall_mem_cons.mpr ⟨oL_law_1304, List.forall_mem_cons.mpr ⟨oL_law_1305, List.forall_mem_cons.mpr ⟨oL_law_1306, List.forall_mem_cons.mpr ⟨oL_law_1307, List.forall_mem_cons.mpr ⟨oL_law_1309, List.forall_mem_cons.mpr ⟨oL_law_1310, List.forall_mem_cons.mpr ⟨oL_law_1311, List.forall_mem_cons.mpr ⟨oL_law_1312, List.forall_mem_cons.mpr ⟨oL_law_1313, List.forall_mem_cons.mpr ⟨oL_law_1315, List.forall_mem_cons.mpr ⟨oL_law_1316, List.forall_mem_cons.mpr ⟨oL_law_1317, List.forall_mem_cons.mpr ⟨oL_law_1318, List.forall_mem_cons.mpr ⟨oL_law_1319, List.forall_mem_cons.mpr ⟨oL_law_1322, List.forall_mem_cons.mpr ⟨oL_law_1324, List.forall_mem_cons.mpr ⟨oL_law_1325, List.forall_mem_cons.mpr ⟨oL_law_1326, List.forall_mem_cons.mpr ⟨oL_law_1328, List.forall_mem_cons.mpr ⟨oL_law_1329, List.forall_mem_cons.mpr ⟨oL_law_1330, List.forall_mem_cons.mpr ⟨oL_law_1331, List.forall_mem_cons.mpr ⟨oL_law_1332, List.forall_mem_cons.mpr ⟨oL_law_1334, List.forall_mem_cons.mpr ⟨oL_law_1335, List.forall_mem_cons.mpr ⟨oL_law_1336, List.forall_mem_cons.mpr ⟨oL_law_1337, List.forall_mem_cons.mpr ⟨oL_law_1338, List.forall_mem_cons.mpr ⟨oL_law_1340, List.forall_mem_cons.mpr ⟨oL_law_1341, List.forall_mem_cons.mpr ⟨oL_law_1342, List.forall_mem_cons.mpr ⟨oL_law_1343, List.forall_mem_cons.mpr ⟨oL_law_1344, List.forall_mem_cons.mpr ⟨oL_law_1346, List.forall_mem_cons.mpr ⟨oL_law_1347, List.forall_mem_cons.mpr ⟨oL_law_1348, List.forall_mem_cons.mpr ⟨oL_law_1349, List.forall_mem_cons.mpr ⟨oL_law_1352, List.forall_mem_cons.mpr ⟨oL_law_1354, List.forall_mem_cons.mpr ⟨oL_law_1355, List.forall_mem_cons.mpr ⟨oL_law_1358, List.forall_mem_cons.mpr ⟨oL_law_1360, List.forall_mem_cons.mpr ⟨oL_law_1363, List.forall_mem_cons.mpr ⟨oL_law_1364, List.forall_mem_cons.mpr ⟨oL_law_1365, List.forall_mem_cons.mpr ⟨oL_law_1367, List.forall_mem_cons.mpr ⟨oL_law_1370, List.forall_mem_cons.mpr ⟨oL_law_1371, List.forall_mem_cons.mpr ⟨oL_law_1372, List.forall_mem_cons.mpr ⟨oL_law_1373, List.forall_mem_cons.mpr ⟨oL_law_1375, List.forall_mem_cons.mpr ⟨oL_law_1376, List.forall_mem_cons.mpr ⟨oL_law_1377, List.forall_mem_cons.mpr ⟨oL_law_1380, List.forall_mem_cons.mpr ⟨oL_law_1381, List.forall_mem_cons.mpr ⟨oL_law_1382, List.forall_mem_cons.mpr ⟨oL_law_1385, List.forall_mem_cons.mpr ⟨oL_law_1386, List.forall_mem_cons.mpr ⟨oL_law_1387, List.forall_mem_cons.mpr ⟨oL_law_1389, List.forall_mem_cons.mpr ⟨oL_law_1390, List.forall_mem_cons.mpr ⟨oL_law_1391, List.forall_mem_cons.mpr ⟨oL_law_1392, List.forall_mem_cons.mpr ⟨oL_law_1393, List.forall_mem_cons.mpr ⟨oL_law_1395, List.forall_mem_cons.mpr ⟨oL_law_1396, List.forall_mem_cons.mpr ⟨oL_law_1397, List.forall_mem_cons.mpr ⟨oL_law_1398, List.forall_mem_cons.mpr ⟨oL_law_1399, List.forall_mem_cons.mpr ⟨oL_law_1401, List.forall_mem_cons.mpr ⟨oL_law_1402, List.forall_mem_cons.mpr ⟨oL_law_1403, List.forall_mem_cons.mpr ⟨oL_law_1404, List.forall_mem_cons.mpr ⟨oL_law_1407, List.forall_mem_cons.mpr ⟨oL_law_1408, List.forall_mem_cons.mpr ⟨oL_law_1409, List.forall_mem_cons.mpr ⟨oL_law_1411, List.forall_mem_cons.mpr ⟨oL_law_1412, List.forall_mem_cons.mpr ⟨oL_law_1413, List.forall_mem_cons.mpr ⟨oL_law_1414, List.forall_mem_cons.mpr ⟨oL_law_1415, List.forall_mem_cons.mpr ⟨oL_law_1417, List.forall_mem_cons.mpr ⟨oL_law_1418, List.forall_mem_cons.mpr ⟨oL_law_1419, List.forall_mem_cons.mpr ⟨oL_law_1420, List.forall_mem_cons.mpr ⟨oL_law_1421, List.forall_mem_cons.mpr ⟨oL_law_1423, List.forall_mem_cons.mpr ⟨oL_law_1424, List.forall_mem_cons.mpr ⟨oL_law_1425, List.forall_mem_cons.mpr ⟨oL_law_1426, List.forall_mem_cons.mpr ⟨oL_law_1429, List.forall_mem_cons.mpr ⟨oL_law_1432, List.forall_mem_cons.mpr ⟨oL_law_1433, List.forall_mem_cons.mpr ⟨oL_law_1434, List.forall_mem_cons.mpr ⟨oL_law_1435, List.forall_mem_cons.mpr ⟨oL_law_1436, List.forall_mem_cons.mpr ⟨oL_law_1438, List.forall_mem_cons.mpr ⟨oL_law_1439, List.forall_mem_cons.mpr ⟨oL_law_1440, List.forall_mem_cons.mpr ⟨oL_law_1441, List.forall_mem_cons.mpr ⟨oL_law_1442, List.forall_mem_cons.mpr ⟨oL_law_1444, List.forall_mem_cons.mpr ⟨oL_law_1445, List.forall_mem_cons.mpr ⟨oL_law_1446, List.forall_mem_cons.mpr ⟨oL_law_1447, List.forall_mem_cons.mpr ⟨oL_law_1450, List.forall_mem_cons.mpr ⟨oL_law_1451, List.forall_mem_cons.mpr ⟨oL_law_1454, List.forall_mem_cons.mpr ⟨oL_law_1455, List.forall_mem_cons.mpr ⟨oL_law_1458, List.forall_mem_cons.mpr ⟨oL_law_1459, List.forall_mem_cons.mpr ⟨oL_law_1460, List.forall_mem_cons.mpr ⟨oL_law_1462, List.forall_mem_cons.mpr ⟨oL_law_1463, List.forall_mem_cons.mpr ⟨oL_law_1464, List.forall_mem_cons.mpr ⟨oL_law_1465, List.forall_mem_cons.mpr ⟨oL_law_1466, List.forall_mem_cons.mpr ⟨oL_law_1468, List.forall_mem_cons.mpr ⟨oL_law_1469, List.forall_mem_cons.mpr ⟨oL_law_1470, List.forall_mem_cons.mpr ⟨oL_law_1471, List.forall_mem_cons.mpr ⟨oL_law_1474, List.forall_mem_cons.mpr ⟨oL_law_1475, List.forall_mem_cons.mpr ⟨oL_law_1478, List.forall_mem_cons.mpr ⟨oL_law_1479, List.forall_mem_cons.mpr ⟨oL_law_1482, List.forall_mem_cons.mpr ⟨oL_law_1485, List.forall_mem_cons.mpr ⟨oL_law_1486, List.forall_mem_cons.mpr ⟨oL_law_1487, List.forall_mem_cons.mpr ⟨oL_law_1488, List.forall_mem_cons.mpr ⟨oL_law_1489, List.forall_mem_cons.mpr ⟨oL_law_1491, List.forall_mem_cons.mpr ⟨oL_law_1492, List.forall_mem_cons.mpr ⟨oL_law_1493, List.forall_mem_cons.mpr ⟨oL_law_1494, List.forall_mem_cons.mpr ⟨oL_law_1497, List.forall_mem_cons.mpr ⟨oL_law_1498, List.forall_mem_cons.mpr ⟨oL_law_1499, List.forall_mem_cons.mpr ⟨oL_law_1501, List.forall_mem_cons.mpr ⟨oL_law_1502, List.forall_mem_cons.mpr ⟨oL_law_1503, List.forall_mem_cons.mpr ⟨oL_law_1504, List.forall_mem_cons.mpr ⟨oL_law_1507, List.forall_mem_cons.mpr ⟨oL_law_1510, List.forall_mem_cons.mpr ⟨oL_law_1511, List.forall_mem_cons.mpr ⟨oL_law_1512, List.forall_mem_cons.mpr ⟨oL_law_1515, List.forall_mem_cons.mpr ⟨oL_law_1518, List.forall_mem_cons.mpr ⟨oL_law_1519, fun _ h => absurd h List.not_mem_nil⟩⟩⟩⟩⟩⟩⟩⟩⟩⟩⟩⟩⟩⟩⟩⟩⟩⟩⟩⟩⟩⟩⟩⟩⟩⟩⟩⟩⟩⟩⟩⟩⟩⟩⟩⟩⟩⟩⟩⟩⟩⟩⟩⟩⟩⟩⟩⟩⟩⟩⟩⟩⟩⟩⟩⟩⟩⟩⟩⟩⟩⟩⟩⟩⟩⟩⟩⟩⟩⟩⟩⟩⟩⟩⟩⟩⟩⟩⟩⟩⟩⟩⟩⟩⟩⟩⟩⟩⟩⟩⟩⟩⟩⟩⟩⟩⟩⟩⟩⟩⟩⟩⟩⟩⟩⟩⟩⟩⟩⟩⟩⟩⟩⟩⟩⟩⟩⟩⟩⟩⟩⟩⟩⟩⟩⟩⟩⟩⟩⟩⟩⟩⟩⟩⟩⟩⟩⟩⟩⟩⟩⟩⟩⟩⟩⟩⟩⟩⟩⟩⟩⟩⟩⟩⟩⟩⟩⟩⟩⟩⟩⟩⟩⟩⟩⟩⟩⟩⟩⟩⟩⟩⟩⟩⟩⟩⟩⟩⟩⟩⟩⟩⟩⟩⟩⟩⟩⟩⟩⟩⟩⟩⟩⟩⟩⟩⟩⟩⟩⟩⟩⟩⟩⟩⟩⟩⟩⟩⟩⟩⟩⟩⟩⟩⟩⟩⟩⟩⟩⟩⟩⟩⟩⟩⟩⟩⟩⟩⟩⟩⟩⟩⟩⟩⟩⟩⟩⟩⟩⟩⟩⟩⟩⟩⟩⟩⟩⟩⟩⟩⟩⟩⟩⟩⟩⟩⟩⟩⟩⟩⟩⟩⟩⟩⟩⟩⟩⟩⟩⟩⟩⟩⟩⟩⟩⟩⟩⟩⟩⟩⟩⟩⟩⟩⟩⟩⟩⟩⟩⟩⟩⟩⟩⟩⟩⟩⟩⟩⟩⟩⟩⟩⟩⟩⟩⟩⟩⟩⟩⟩⟩⟩⟩⟩⟩⟩⟩⟩⟩⟩⟩⟩⟩⟩⟩⟩⟩⟩⟩⟩⟩⟩⟩⟩⟩⟩⟩⟩⟩⟩⟩⟩⟩⟩⟩⟩⟩⟩⟩⟩⟩⟩⟩⟩⟩⟩⟩⟩⟩⟩⟩⟩⟩⟩⟩⟩⟩⟩⟩⟩⟩⟩⟩⟩⟩⟩⟩⟩⟩⟩⟩⟩⟩⟩⟩⟩⟩⟩⟩⟩⟩⟩⟩⟩⟩⟩⟩⟩⟩⟩⟩⟩⟩⟩⟩⟩⟩⟩⟩⟩⟩⟩⟩⟩⟩⟩⟩⟩⟩⟩⟩⟩⟩⟩⟩⟩⟩⟩⟩⟩⟩⟩⟩⟩⟩⟩⟩⟩⟩⟩⟩⟩⟩⟩⟩⟩⟩⟩⟩⟩⟩⟩⟩⟩⟩⟩⟩⟩⟩⟩⟩⟩⟩⟩⟩⟩⟩⟩⟩⟩⟩⟩⟩⟩⟩⟩⟩⟩⟩⟩⟩⟩⟩⟩⟩⟩⟩⟩⟩⟩⟩⟩⟩⟩⟩⟩⟩⟩⟩⟩⟩⟩⟩⟩⟩⟩⟩⟩⟩⟩⟩⟩⟩⟩⟩⟩⟩⟩⟩⟩⟩⟩⟩⟩⟩⟩⟩⟩⟩⟩⟩⟩⟩⟩⟩⟩⟩⟩⟩⟩⟩⟩⟩⟩⟩⟩⟩⟩⟩⟩⟩⟩⟩⟩⟩⟩⟩⟩⟩⟩⟩⟩⟩⟩⟩⟩⟩⟩⟩⟩⟩⟩⟩⟩⟩⟩⟩⟩⟩⟩⟩⟩⟩⟩⟩⟩⟩⟩⟩⟩⟩⟩⟩⟩⟩⟩⟩⟩⟩⟩⟩⟩⟩⟩⟩⟩⟩⟩⟩⟩⟩⟩⟩⟩⟩⟩⟩⟩⟩⟩⟩⟩⟩⟩⟩⟩⟩⟩⟩⟩⟩⟩⟩⟩⟩⟩⟩⟩⟩⟩⟩⟩⟩⟩⟩⟩⟩⟩⟩⟩⟩⟩⟩⟩⟩⟩⟩⟩⟩⟩⟩⟩⟩⟩⟩⟩⟩⟩⟩⟩⟩⟩⟩⟩⟩⟩⟩⟩⟩⟩⟩⟩⟩⟩⟩⟩⟩⟩⟩⟩⟩⟩⟩⟩⟩⟩⟩⟩⟩⟩⟩⟩⟩⟩⟩⟩⟩⟩⟩⟩⟩⟩⟩⟩⟩⟩⟩⟩⟩⟩⟩⟩⟩⟩⟩⟩⟩⟩⟩⟩⟩⟩⟩⟩⟩⟩⟩⟩⟩⟩⟩⟩⟩⟩⟩⟩⟩⟩⟩⟩⟩⟩⟩⟩⟩⟩⟩⟩⟩⟩⟩⟩⟩⟩⟩⟩⟩⟩⟩⟩⟩⟩⟩⟩⟩⟩⟩⟩⟩⟩⟩⟩⟩⟩⟩⟩⟩⟩⟩⟩⟩⟩⟩⟩⟩⟩⟩⟩⟩⟩⟩⟩⟩⟩⟩⟩⟩⟩⟩⟩⟩⟩⟩⟩⟩⟩⟩⟩⟩⟩⟩⟩⟩⟩⟩⟩⟩⟩⟩⟩⟩⟩⟩⟩⟩⟩⟩⟩⟩⟩⟩⟩⟩⟩⟩⟩⟩⟩⟩⟩⟩⟩⟩⟩⟩⟩⟩⟩⟩⟩⟩⟩⟩⟩⟩⟩⟩⟩⟩⟩⟩⟩⟩⟩⟩⟩⟩⟩⟩⟩⟩⟩⟩⟩⟩⟩⟩⟩⟩⟩⟩⟩⟩⟩⟩⟩⟩⟩⟩⟩⟩⟩⟩⟩⟩⟩
