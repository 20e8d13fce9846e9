set_option maxRecDepth 100000
def dkwL_law_58 : List UInt8 := [44, 182, 0, 210, 159, 0, 5, 3, 172, 132, 3, 6, 167, 249, 253, 4, 172]
abbrev dktL_law_58 : List UInt8 := dkwL_law_58 ++ []
def dkwL_law_57 : List UInt8 := [4, 96, 46, 182, 0, 203, 44, 42, 29, 4, 96, 46, 182, 0, 206, 159, 0, 18, 3, 172, 43, 182, 0, 207]
abbrev dktL_law_57 : List UInt8 := dkwL_law_57 ++ dktL_law_58
def dkwL_law_56 : List UInt8 := [29, 4, 96, 46, 182, 0, 199, 44, 42, 29, 4, 96, 46, 182, 0, 202, 159, 0, 41, 3, 172, 43, 42, 29]
abbrev dktL_law_56 : List UInt8 := dkwL_law_56 ++ dktL_law_57
def dkwL_law_55 : List UInt8 := [42, 29, 4, 96, 46, 182, 0, 195, 44, 42, 29, 4, 96, 46, 182, 0, 198, 159, 0, 64, 3, 172, 43, 42]
abbrev dktL_law_55 : List UInt8 := dkwL_law_55 ++ dktL_law_56
def dkwL_law_54 : List UInt8 := [46, 182, 0, 191, 44, 42, 29, 4, 96, 46, 42, 29, 5, 96, 46, 182, 0, 194, 159, 0, 87, 3, 172, 43]
abbrev dktL_law_54 : List UInt8 := dkwL_law_54 ++ dktL_law_55
def dkwL_law_53 : List UInt8 := [46, 42, 29, 5, 96, 46, 182, 0, 190, 159, 0, 120, 3, 172, 43, 42, 29, 4, 96, 46, 42, 29, 5, 96]
abbrev dktL_law_53 : List UInt8 := dkwL_law_53 ++ dktL_law_54
def dkwL_law_52 : List UInt8 := [159, 0, 153, 3, 172, 43, 42, 29, 4, 96, 46, 42, 29, 5, 96, 46, 182, 0, 187, 44, 42, 29, 4, 96]
abbrev dktL_law_52 : List UInt8 := dkwL_law_52 ++ dktL_law_53
def dkwL_law_51 : List UInt8 := [44, 42, 29, 4, 96, 46, 182, 0, 182, 159, 0, 166, 3, 172, 43, 182, 0, 183, 44, 182, 0, 186]
abbrev dktL_law_51 : List UInt8 := dkwL_law_51 ++ dktL_law_52
def dkwL_law_50 : List UInt8 := [3, 172, 43, 182, 0, 175, 44, 182, 0, 178, 159, 0, 189, 3, 172, 43, 42, 29, 4, 96, 46, 182, 0, 179]
abbrev dktL_law_50 : List UInt8 := dkwL_law_50 ++ dktL_law_51
def dkwL_law_49 : List UInt8 := [4, 96, 46, 42, 29, 5, 96, 46, 42, 29, 6, 96, 46, 42, 29, 7, 96, 46, 182, 0, 174, 159, 0, 202]
abbrev dktL_law_49 : List UInt8 := dkwL_law_49 ++ dktL_law_50
def dkwL_law_48 : List UInt8 := [4, 96, 46, 42, 29, 5, 96, 46, 42, 29, 6, 96, 46, 42, 29, 7, 96, 46, 182, 0, 171, 44, 42, 29]
abbrev dktL_law_48 : List UInt8 := dkwL_law_48 ++ dktL_law_49
def dkwL_law_47 : List UInt8 := [182, 0, 166, 159, 1, 12, 3, 172, 43, 182, 0, 167, 44, 182, 0, 170, 159, 0, 255, 3, 172, 43, 42, 29]
abbrev dktL_law_47 : List UInt8 := dkwL_law_47 ++ dktL_law_48
def dkwL_law_46 : List UInt8 := [182, 0, 162, 159, 1, 35, 3, 172, 43, 42, 29, 4, 96, 46, 182, 0, 163, 44, 42, 29, 4, 96, 46]
abbrev dktL_law_46 : List UInt8 := dkwL_law_46 ++ dktL_law_47
def dkwL_law_45 : List UInt8 := [182, 0, 158, 159, 1, 58, 3, 172, 43, 42, 29, 4, 96, 46, 182, 0, 159, 44, 42, 29, 4, 96, 46]
abbrev dktL_law_45 : List UInt8 := dkwL_law_45 ++ dktL_law_46
def dkwL_law_44 : List UInt8 := [182, 0, 154, 159, 1, 81, 3, 172, 43, 42, 29, 4, 96, 46, 182, 0, 155, 44, 42, 29, 4, 96, 46]
abbrev dktL_law_44 : List UInt8 := dkwL_law_44 ++ dktL_law_45
def dkwL_law_43 : List UInt8 := [46, 182, 0, 150, 159, 1, 104, 3, 172, 43, 42, 29, 4, 96, 46, 182, 0, 151, 44, 42, 29, 4, 96, 46]
abbrev dktL_law_43 : List UInt8 := dkwL_law_43 ++ dktL_law_44
def dkwL_law_42 : List UInt8 := [96, 46, 182, 0, 146, 159, 1, 127, 3, 172, 43, 42, 29, 4, 96, 46, 182, 0, 147, 44, 42, 29, 4, 96]
abbrev dktL_law_42 : List UInt8 := dkwL_law_42 ++ dktL_law_43
def dkwL_law_41 : List UInt8 := [96, 46, 42, 29, 6, 96, 46, 182, 0, 143, 44, 42, 29, 4, 96, 46, 42, 29, 5, 96, 46, 42, 29, 6]
abbrev dktL_law_41 : List UInt8 := dkwL_law_41 ++ dktL_law_42
def dkwL_law_40 : List UInt8 := [96, 46, 42, 29, 7, 96, 46, 182, 0, 142, 159, 1, 170, 3, 172, 43, 42, 29, 4, 96, 46, 42, 29, 5]
abbrev dktL_law_40 : List UInt8 := dkwL_law_40 ++ dktL_law_41
def dkwL_law_39 : List UInt8 := [96, 46, 42, 29, 7, 96, 46, 182, 0, 139, 44, 42, 29, 4, 96, 46, 42, 29, 5, 96, 46, 42, 29, 6]
abbrev dktL_law_39 : List UInt8 := dkwL_law_39 ++ dktL_law_40
def dkwL_law_38 : List UInt8 := [96, 46, 182, 0, 138, 159, 1, 223, 3, 172, 43, 42, 29, 4, 96, 46, 42, 29, 5, 96, 46, 42, 29, 6]
abbrev dktL_law_38 : List UInt8 := dkwL_law_38 ++ dktL_law_39
def dkwL_law_37 : List UInt8 := [4, 96, 46, 182, 0, 134, 159, 1, 246, 3, 172, 43, 42, 29, 4, 96, 46, 182, 0, 135, 44, 42, 29, 4]
abbrev dktL_law_37 : List UInt8 := dkwL_law_37 ++ dktL_law_38
def dkwL_law_36 : List UInt8 := [182, 0, 127, 44, 182, 0, 130, 159, 2, 13, 3, 172, 43, 42, 29, 4, 96, 46, 182, 0, 131, 44, 42, 29]
abbrev dktL_law_36 : List UInt8 := dkwL_law_36 ++ dktL_law_37
def dkwL_law_35 : List UInt8 := [5, 96, 46, 42, 29, 6, 96, 46, 42, 29, 7, 96, 46, 182, 0, 126, 159, 2, 26, 3, 172, 43]
abbrev dktL_law_35 : List UInt8 := dkwL_law_35 ++ dktL_law_36
def dkwL_law_34 : List UInt8 := [5, 96, 46, 42, 29, 6, 96, 46, 42, 29, 7, 96, 46, 182, 0, 122, 44, 42, 29, 4, 96, 46, 42, 29]
abbrev dktL_law_34 : List UInt8 := dkwL_law_34 ++ dktL_law_35
def dkwL_law_33 : List UInt8 := [5, 96, 46, 42, 29, 6, 96, 46, 182, 0, 121, 159, 2, 79, 3, 172, 43, 42, 29, 4, 96, 46, 42, 29]
abbrev dktL_law_33 : List UInt8 := dkwL_law_33 ++ dktL_law_34
def dkwL_law_32 : List UInt8 := [4, 96, 46, 42, 29, 5, 96, 46, 42, 29, 6, 96, 46, 182, 0, 118, 44, 42, 29, 4, 96, 46, 42, 29]
abbrev dktL_law_32 : List UInt8 := dkwL_law_32 ++ dktL_law_33
def dkwL_law_31 : List UInt8 := [182, 0, 113, 159, 2, 135, 3, 172, 43, 182, 0, 114, 44, 182, 0, 117, 159, 2, 122, 3, 172, 43, 42, 29]
abbrev dktL_law_31 : List UInt8 := dkwL_law_31 ++ dktL_law_32
def dkwL_law_30 : List UInt8 := [159, 2, 161, 3, 172, 43, 182, 0, 106, 44, 182, 0, 109, 159, 2, 148, 3, 172, 43, 182, 0, 110, 44]
abbrev dktL_law_30 : List UInt8 := dkwL_law_30 ++ dktL_law_31
def dkwL_law_29 : List UInt8 := [42, 29, 5, 96, 46, 182, 0, 102, 44, 42, 29, 4, 96, 46, 42, 29, 5, 96, 46, 182, 0, 105]
abbrev dktL_law_29 : List UInt8 := dkwL_law_29 ++ dktL_law_30
def dkwL_law_28 : List UInt8 := [46, 182, 0, 98, 44, 42, 29, 4, 96, 46, 182, 0, 101, 159, 2, 194, 3, 172, 43, 42, 29, 4, 96, 46]
abbrev dktL_law_28 : List UInt8 := dkwL_law_28 ++ dktL_law_29
def dkwL_law_27 : List UInt8 := [46, 42, 29, 5, 96, 46, 42, 29, 6, 96, 46, 182, 0, 97, 159, 2, 217, 3, 172, 43, 42, 29, 4, 96]
abbrev dktL_law_27 : List UInt8 := dkwL_law_27 ++ dktL_law_28
def dkwL_law_26 : List UInt8 := [43, 42, 29, 4, 96, 46, 42, 29, 5, 96, 46, 42, 29, 6, 96, 46, 182, 0, 94, 44, 42, 29, 4, 96]
abbrev dktL_law_26 : List UInt8 := dkwL_law_26 ++ dktL_law_27
def dkwL_law_25 : List UInt8 := [44, 42, 29, 4, 96, 46, 42, 29, 5, 96, 46, 42, 29, 6, 96, 46, 182, 0, 93, 159, 3, 4, 3, 172]
abbrev dktL_law_25 : List UInt8 := dkwL_law_25 ++ dktL_law_26
def dkwL_law_24 : List UInt8 := [159, 3, 47, 3, 172, 43, 42, 29, 4, 96, 46, 42, 29, 5, 96, 46, 42, 29, 6, 96, 46, 182, 0, 90]
abbrev dktL_law_24 : List UInt8 := dkwL_law_24 ++ dktL_law_25
def dkwL_law_23 : List UInt8 := [159, 3, 70, 3, 172, 43, 42, 29, 4, 96, 46, 182, 0, 86, 44, 42, 29, 4, 96, 46, 182, 0, 89]
abbrev dktL_law_23 : List UInt8 := dkwL_law_23 ++ dktL_law_24
def dkwL_law_22 : List UInt8 := [96, 46, 42, 29, 5, 96, 46, 182, 0, 82, 44, 42, 29, 4, 96, 46, 42, 29, 5, 96, 46, 182, 0, 85]
abbrev dktL_law_22 : List UInt8 := dkwL_law_22 ++ dktL_law_23
def dkwL_law_21 : List UInt8 := [4, 96, 46, 182, 0, 78, 44, 42, 29, 4, 96, 46, 182, 0, 81, 159, 3, 103, 3, 172, 43, 42, 29, 4]
abbrev dktL_law_21 : List UInt8 := dkwL_law_21 ++ dktL_law_22
def dkwL_law_20 : List UInt8 := [182, 0, 73, 159, 3, 139, 3, 172, 43, 182, 0, 74, 44, 182, 0, 77, 159, 3, 126, 3, 172, 43, 42, 29]
abbrev dktL_law_20 : List UInt8 := dkwL_law_20 ++ dktL_law_21
def dkwL_law_19 : List UInt8 := [159, 3, 165, 3, 172, 43, 182, 0, 66, 44, 182, 0, 69, 159, 3, 152, 3, 172, 43, 182, 0, 70, 44]
abbrev dktL_law_19 : List UInt8 := dkwL_law_19 ++ dktL_law_20
def dkwL_law_18 : List UInt8 := [3, 172, 43, 182, 0, 58, 44, 182, 0, 61, 159, 3, 178, 3, 172, 43, 182, 0, 62, 44, 182, 0, 65]
abbrev dktL_law_18 : List UInt8 := dkwL_law_18 ++ dktL_law_19
def dkwL_law_17 : List UInt8 := [42, 29, 4, 96, 46, 182, 0, 52, 159, 3, 204, 3, 172, 43, 182, 0, 53, 44, 182, 0, 57, 159, 3, 191]
abbrev dktL_law_17 : List UInt8 := dkwL_law_17 ++ dktL_law_18
def dkwL_law_16 : List UInt8 := [46, 42, 29, 8, 96, 46, 182, 0, 47, 159, 3, 227, 3, 172, 43, 42, 29, 4, 96, 46, 182, 0, 48, 44]
abbrev dktL_law_16 : List UInt8 := dkwL_law_16 ++ dktL_law_17
def dkwL_law_15 : List UInt8 := [46, 182, 0, 43, 44, 42, 29, 4, 96, 46, 42, 29, 5, 96, 46, 42, 29, 6, 96, 46, 42, 29, 7, 96]
abbrev dktL_law_15 : List UInt8 := dkwL_law_15 ++ dktL_law_16
def dkwL_law_14 : List UInt8 := [42, 29, 4, 96, 46, 42, 29, 5, 96, 46, 42, 29, 6, 96, 46, 42, 29, 7, 96, 46, 42, 29, 8, 96]
abbrev dktL_law_14 : List UInt8 := dkwL_law_14 ++ dktL_law_15
def dkwL_law_13 : List UInt8 := [46, 182, 0, 39, 44, 42, 29, 4, 96, 46, 42, 29, 5, 96, 46, 182, 0, 42, 159, 4, 34, 3, 172, 43]
abbrev dktL_law_13 : List UInt8 := dkwL_law_13 ++ dktL_law_14
def dkwL_law_12 : List UInt8 := [46, 42, 29, 5, 96, 46, 182, 0, 38, 159, 4, 67, 3, 172, 43, 42, 29, 4, 96, 46, 42, 29, 5, 96]
abbrev dktL_law_12 : List UInt8 := dkwL_law_12 ++ dktL_law_13
def dkwL_law_11 : List UInt8 := [159, 4, 100, 3, 172, 43, 42, 29, 4, 96, 46, 42, 29, 5, 96, 46, 182, 0, 35, 44, 42, 29, 4, 96]
abbrev dktL_law_11 : List UInt8 := dkwL_law_11 ++ dktL_law_12
def dkwL_law_10 : List UInt8 := [42, 29, 5, 96, 46, 182, 0, 31, 44, 42, 29, 4, 96, 46, 42, 29, 5, 96, 46, 182, 0, 34]
abbrev dktL_law_10 : List UInt8 := dkwL_law_10 ++ dktL_law_11
def dkwL_law_9 : List UInt8 := [42, 29, 5, 96, 46, 42, 29, 6, 96, 46, 182, 0, 30, 159, 4, 133, 3, 172, 43, 42, 29, 4, 96, 46]
abbrev dktL_law_9 : List UInt8 := dkwL_law_9 ++ dktL_law_10
def dkwL_law_8 : List UInt8 := [42, 29, 4, 96, 46, 42, 29, 5, 96, 46, 42, 29, 6, 96, 46, 182, 0, 27, 44, 42, 29, 4, 96, 46]
abbrev dktL_law_8 : List UInt8 := dkwL_law_8 ++ dktL_law_9
def dkwL_law_7 : List UInt8 := [46, 182, 0, 22, 44, 42, 29, 4, 96, 46, 42, 29, 5, 96, 46, 182, 0, 26, 159, 4, 176, 3, 172, 43]
abbrev dktL_law_7 : List UInt8 := dkwL_law_7 ++ dktL_law_8
def dkwL_law_6 : List UInt8 := [46, 42, 29, 6, 96, 46, 182, 0, 21, 159, 4, 209, 3, 172, 43, 42, 29, 4, 96, 46, 42, 29, 5, 96]
abbrev dktL_law_6 : List UInt8 := dkwL_law_6 ++ dktL_law_7
def dkwL_law_5 : List UInt8 := [46, 42, 29, 5, 96, 46, 42, 29, 6, 96, 46, 182, 0, 18, 44, 42, 29, 4, 96, 46, 42, 29, 5, 96]
abbrev dktL_law_5 : List UInt8 := dkwL_law_5 ++ dktL_law_6
def dkwL_law_4 : List UInt8 := [46, 42, 29, 5, 96, 46, 42, 29, 6, 96, 46, 182, 0, 17, 159, 4, 252, 3, 172, 43, 42, 29, 4, 96]
abbrev dktL_law_4 : List UInt8 := dkwL_law_4 ++ dktL_law_5
def dkwL_law_3 : List UInt8 := [43, 42, 29, 4, 96, 46, 42, 29, 5, 96, 46, 42, 29, 6, 96, 46, 182, 0, 13, 44, 42, 29, 4, 96]
abbrev dktL_law_3 : List UInt8 := dkwL_law_3 ++ dktL_law_4
def dkwL_law_2 : List UInt8 := [170, 0, 0, 0, 0, 5, 241, 0, 0, 0, 0, 0, 0, 0, 47, 0, 0, 0, 207, 0, 0, 0, 250, 0, 0, 1, 37, 0, 0, 1, 70, 0, 0, 1, 113, 0, 0, 1, 146, 0, 0, 1, 179, 0, 0, 1, 212, 0, 0, 2, 19, 0, 0, 2, 42, 0, 0, 2, 55, 0, 0, 2, 68, 0, 0, 2, 81, 0, 0, 2, 94, 0, 0, 2, 107, 0, 0, 2, 120, 0, 0, 2, 143, 0, 0, 2, 176, 0, 0, 2, 199, 0, 0, 2, 242, 0, 0, 3, 29, 0, 0, 3, 52, 0, 0, 3, 85, 0, 0, 3, 98, 0, 0, 3, 111, 0, 0, 3, 124, 0, 0, 3, 167, 0, 0, 3, 220, 0, 0, 3, 233, 0, 0, 4, 0, 0, 0, 4, 23, 0, 0, 4, 76, 0, 0, 4, 119, 0, 0, 4, 142, 0, 0, 4, 165, 0, 0, 4, 188, 0, 0, 4, 211, 0, 0, 4, 234, 0, 0, 4, 247, 0, 0, 5, 44, 0, 0, 5, 57, 0, 0, 5, 80, 0, 0, 5, 93, 0, 0, 5, 126, 0, 0, 5, 159, 0, 0, 5, 182, 0, 0, 5, 205, 0, 0, 5, 228]
abbrev dktL_law_2 : List UInt8 := dkwL_law_2 ++ dktL_law_3
def dkwL_law_1 : List UInt8 := [163, 6, 0, 42, 29, 46, 16, 63, 126]
abbrev dktL_law_1 : List UInt8 := dkwL_law_1 ++ dktL_law_2
def dkwL_law_0 : List UInt8 := [187, 0, 7, 89, 183, 0, 9, 76, 187, 0, 10, 89, 183, 0, 12, 77, 3, 62, 29, 42, 190, 16, 6, 100]
abbrev dktL_law_0 : List UInt8 := dkwL_law_0 ++ dktL_law_1
theorem dksL_law_0 : cL_law.data.toList.drop 0 = dktL_law_0 := by decide +kernel
theorem dksL_law_1 : cL_law.data.toList.drop 24 = dktL_law_1 := dk_seg dksL_law_0 24 rfl rfl
theorem dksL_law_2 : cL_law.data.toList.drop 33 = dktL_law_2 := dk_seg dksL_law_1 9 rfl rfl
theorem dksL_law_3 : cL_law.data.toList.drop 240 = dktL_law_3 := dk_seg dksL_law_2 207 rfl rfl
theorem dksL_law_4 : cL_law.data.toList.drop 264 = dktL_law_4 := dk_seg dksL_law_3 24 rfl rfl
theorem dksL_law_5 : cL_law.data.toList.drop 288 = dktL_law_5 := dk_seg dksL_law_4 24 rfl rfl
theorem dksL_law_6 : cL_law.data.toList.drop 312 = dktL_law_6 := dk_seg dksL_law_5 24 rfl rfl
theorem dksL_law_7 : cL_law.data.toList.drop 336 = dktL_law_7 := dk_seg dksL_law_6 24 rfl rfl
theorem dksL_law_8 : cL_law.data.toList.drop 360 = dktL_law_8 := dk_seg dksL_law_7 24 rfl rfl
theorem dksL_law_9 : cL_law.data.toList.drop 384 = dktL_law_9 := dk_seg dksL_law_8 24 rfl rfl
theorem dksL_law_10 : cL_law.data.toList.drop 408 = dktL_law_10 := dk_seg dksL_law_9 24 rfl rfl
theorem dksL_law_11 : cL_law.data.toList.drop 430 = dktL_law_11 := dk_seg dksL_law_10 22 rfl rfl
theorem dksL_law_12 : cL_law.data.toList.drop 454 = dktL_law_12 := dk_seg dksL_law_11 24 rfl rfl
theorem dksL_law_13 : cL_law.data.toList.drop 478 = dktL_law_13 := dk_seg dksL_law_12 24 rfl rfl
theorem dksL_law_14 : cL_law.data.toList.drop 502 = dktL_law_14 := dk_seg dksL_law_13 24 rfl rfl
theorem dksL_law_15 : cL_law.data.toList.drop 526 = dktL_law_15 := dk_seg dksL_law_14 24 rfl rfl
theorem dksL_law_16 : cL_law.data.toList.drop 550 = dktL_law_16 := dk_seg dksL_law_15 24 rfl rfl
theorem dksL_law_17 : cL_law.data.toList.drop 574 = dktL_law_17 := dk_seg dksL_law_16 24 rfl rfl
theorem dksL_law_18 : cL_law.data.toList.drop 598 = dktL_law_18 := dk_seg dksL_law_17 24 rfl rfl
theorem dksL_law_19 : cL_law.data.toList.drop 621 = dktL_law_19 := dk_seg dksL_law_18 23 rfl rfl
theorem dksL_law_20 : cL_law.data.toList.drop 644 = dktL_law_20 := dk_seg dksL_law_19 23 rfl rfl
theorem dksL_law_21 : cL_law.data.toList.drop 668 = dktL_law_21 := dk_seg dksL_law_20 24 rfl rfl
theorem dksL_law_22 : cL_law.data.toList.drop 692 = dktL_law_22 := dk_seg dksL_law_21 24 rfl rfl
theorem dksL_law_23 : cL_law.data.toList.drop 716 = dktL_law_23 := dk_seg dksL_law_22 24 rfl rfl
theorem dksL_law_24 : cL_law.data.toList.drop 739 = dktL_law_24 := dk_seg dksL_law_23 23 rfl rfl
theorem dksL_law_25 : cL_law.data.toList.drop 763 = dktL_law_25 := dk_seg dksL_law_24 24 rfl rfl
theorem dksL_law_26 : cL_law.data.toList.drop 787 = dktL_law_26 := dk_seg dksL_law_25 24 rfl rfl
theorem dksL_law_27 : cL_law.data.toList.drop 811 = dktL_law_27 := dk_seg dksL_law_26 24 rfl rfl
theorem dksL_law_28 : cL_law.data.toList.drop 835 = dktL_law_28 := dk_seg dksL_law_27 24 rfl rfl
theorem dksL_law_29 : cL_law.data.toList.drop 859 = dktL_law_29 := dk_seg dksL_law_28 24 rfl rfl
theorem dksL_law_30 : cL_law.data.toList.drop 881 = dktL_law_30 := dk_seg dksL_law_29 22 rfl rfl
theorem dksL_law_31 : cL_law.data.toList.drop 904 = dktL_law_31 := dk_seg dksL_law_30 23 rfl rfl
theorem dksL_law_32 : cL_law.data.toList.drop 928 = dktL_law_32 := dk_seg dksL_law_31 24 rfl rfl
theorem dksL_law_33 : cL_law.data.toList.drop 952 = dktL_law_33 := dk_seg dksL_law_32 24 rfl rfl
theorem dksL_law_34 : cL_law.data.toList.drop 976 = dktL_law_34 := dk_seg dksL_law_33 24 rfl rfl
theorem dksL_law_35 : cL_law.data.toList.drop 1000 = dktL_law_35 := dk_seg dksL_law_34 24 rfl rfl
theorem dksL_law_36 : cL_law.data.toList.drop 1022 = dktL_law_36 := dk_seg dksL_law_35 22 rfl rfl
theorem dksL_law_37 : cL_law.data.toList.drop 1046 = dktL_law_37 := dk_seg dksL_law_36 24 rfl rfl
theorem dksL_law_38 : cL_law.data.toList.drop 1070 = dktL_law_38 := dk_seg dksL_law_37 24 rfl rfl
theorem dksL_law_39 : cL_law.data.toList.drop 1094 = dktL_law_39 := dk_seg dksL_law_38 24 rfl rfl
theorem dksL_law_40 : cL_law.data.toList.drop 1118 = dktL_law_40 := dk_seg dksL_law_39 24 rfl rfl
theorem dksL_law_41 : cL_law.data.toList.drop 1142 = dktL_law_41 := dk_seg dksL_law_40 24 rfl rfl
theorem dksL_law_42 : cL_law.data.toList.drop 1166 = dktL_law_42 := dk_seg dksL_law_41 24 rfl rfl
theorem dksL_law_43 : cL_law.data.toList.drop 1190 = dktL_law_43 := dk_seg dksL_law_42 24 rfl rfl
theorem dksL_law_44 : cL_law.data.toList.drop 1214 = dktL_law_44 := dk_seg dksL_law_43 24 rfl rfl
theorem dksL_law_45 : cL_law.data.toList.drop 1237 = dktL_law_45 := dk_seg dksL_law_44 23 rfl rfl
theorem dksL_law_46 : cL_law.data.toList.drop 1260 = dktL_law_46 := dk_seg dksL_law_45 23 rfl rfl
theorem dksL_law_47 : cL_law.data.toList.drop 1283 = dktL_law_47 := dk_seg dksL_law_46 23 rfl rfl
theorem dksL_law_48 : cL_law.data.toList.drop 1307 = dktL_law_48 := dk_seg dksL_law_47 24 rfl rfl
theorem dksL_law_49 : cL_law.data.toList.drop 1331 = dktL_law_49 := dk_seg dksL_law_48 24 rfl rfl
theorem dksL_law_50 : cL_law.data.toList.drop 1355 = dktL_law_50 := dk_seg dksL_law_49 24 rfl rfl
theorem dksL_law_51 : cL_law.data.toList.drop 1379 = dktL_law_51 := dk_seg dksL_law_50 24 rfl rfl
theorem dksL_law_52 : cL_law.data.toList.drop 1401 = dktL_law_52 := dk_seg dksL_law_51 22 rfl rfl
theorem dksL_law_53 : cL_law.data.toList.drop 1425 = dktL_law_53 := dk_seg dksL_law_52 24 rfl rfl
theorem dksL_law_54 : cL_law.data.toList.drop 1449 = dktL_law_54 := dk_seg dksL_law_53 24 rfl rfl
theorem dksL_law_55 : cL_law.data.toList.drop 1473 = dktL_law_55 := dk_seg dksL_law_54 24 rfl rfl
theorem dksL_law_56 : cL_law.data.toList.drop 1497 = dktL_law_56 := dk_seg dksL_law_55 24 rfl rfl
theorem dksL_law_57 : cL_law.data.toList.drop 1521 = dktL_law_57 := dk_seg dksL_law_56 24 rfl rfl
theorem dksL_law_58 : cL_law.data.toList.drop 1545 = dktL_law_58 := dk_seg dksL_law_57 24 rfl rfl
theorem dL_law_0 : decode cL_law 0 = .ok (.new 7, 3) := dk_187 0 7 (dk_at dksL_law_0 0 rfl rfl)
theorem dL_law_3 : decode cL_law 3 = .ok (.dup, 1) := dk_89 (dk_at dksL_law_0 3 rfl rfl)
theorem dL_law_4 : decode cL_law 4 = .ok (.invokespecial 9, 3) := dk_183 0 9 (dk_at dksL_law_0 4 rfl rfl)
theorem dL_law_7 : decode cL_law 7 = .ok (.astore_n 1, 1) := dk_76 (dk_at dksL_law_0 7 rfl rfl)
theorem dL_law_8 : decode cL_law 8 = .ok (.new 10, 3) := dk_187 0 10 (dk_at dksL_law_0 8 rfl rfl)
theorem dL_law_11 : decode cL_law 11 = .ok (.dup, 1) := dk_89 (dk_at dksL_law_0 11 rfl rfl)
theorem dL_law_12 : decode cL_law 12 = .ok (.invokespecial 12, 3) := dk_183 0 12 (dk_at dksL_law_0 12 rfl rfl)
theorem dL_law_15 : decode cL_law 15 = .ok (.astore_n 2, 1) := dk_77 (dk_at dksL_law_0 15 rfl rfl)
theorem dL_law_16 : decode cL_law 16 = .ok (.iconst 0, 1) := dk_3 (dk_at dksL_law_0 16 rfl rfl)
theorem dL_law_17 : decode cL_law 17 = .ok (.istore_n 3, 1) := dk_62 (dk_at dksL_law_0 17 rfl rfl)
theorem dL_law_18 : decode cL_law 18 = .ok (.iload_n 3, 1) := dk_29 (dk_at dksL_law_0 18 rfl rfl)
theorem dL_law_19 : decode cL_law 19 = .ok (.aload_n 0, 1) := dk_42 (dk_at dksL_law_0 19 rfl rfl)
theorem dL_law_20 : decode cL_law 20 = .ok (.arraylength, 1) := dk_190 (dk_at dksL_law_0 20 rfl rfl)
theorem dL_law_21 : decode cL_law 21 = .ok (.bipush 6, 2) := dk_16 6 (dk_at dksL_law_0 21 rfl rfl)
theorem dL_law_23 : decode cL_law 23 = .ok (.isub, 1) := dk_100 (dk_at dksL_law_0 23 rfl rfl)
theorem dL_law_24 : decode cL_law 24 = .ok (.if_icmp .gt 1536, 3) := dk_163 6 0 (dk_at dksL_law_1 0 rfl rfl)
theorem dL_law_27 : decode cL_law 27 = .ok (.aload_n 0, 1) := dk_42 (dk_at dksL_law_1 3 rfl rfl)
theorem dL_law_28 : decode cL_law 28 = .ok (.iload_n 3, 1) := dk_29 (dk_at dksL_law_1 4 rfl rfl)
theorem dL_law_29 : decode cL_law 29 = .ok (.iaload, 1) := dk_46 (dk_at dksL_law_1 5 rfl rfl)
theorem dL_law_30 : decode cL_law 30 = .ok (.bipush 63, 2) := dk_16 63 (dk_at dksL_law_1 6 rfl rfl)
theorem dL_law_32 : decode cL_law 32 = .ok (.iand, 1) := dk_126 (dk_at dksL_law_1 8 rfl rfl)
theorem dL_law_33 : decode cL_law 33 = .ok (.tableswitch 1521 0 47 #[207, 250, 293, 326, 369, 402, 435, 468, 531, 554, 567, 580, 593, 606, 619, 632, 655, 688, 711, 754, 797, 820, 853, 866, 879, 892, 935, 988, 1001, 1024, 1047, 1100, 1143, 1166, 1189, 1212, 1235, 1258, 1271, 1324, 1337, 1360, 1373, 1406, 1439, 1462, 1485, 1508], 207) := by decide +kernel
theorem dL_law_240 : decode cL_law 240 = .ok (.aload_n 1, 1) := dk_43 (dk_at dksL_law_3 0 rfl rfl)
theorem dL_law_241 : decode cL_law 241 = .ok (.aload_n 0, 1) := dk_42 (dk_at dksL_law_3 1 rfl rfl)
theorem dL_law_242 : decode cL_law 242 = .ok (.iload_n 3, 1) := dk_29 (dk_at dksL_law_3 2 rfl rfl)
theorem dL_law_243 : decode cL_law 243 = .ok (.iconst 1, 1) := dk_4 (dk_at dksL_law_3 3 rfl rfl)
theorem dL_law_244 : decode cL_law 244 = .ok (.iadd, 1) := dk_96 (dk_at dksL_law_3 4 rfl rfl)
theorem dL_law_245 : decode cL_law 245 = .ok (.iaload, 1) := dk_46 (dk_at dksL_law_3 5 rfl rfl)
theorem dL_law_246 : decode cL_law 246 = .ok (.aload_n 0, 1) := dk_42 (dk_at dksL_law_3 6 rfl rfl)
theorem dL_law_247 : decode cL_law 247 = .ok (.iload_n 3, 1) := dk_29 (dk_at dksL_law_3 7 rfl rfl)
theorem dL_law_248 : decode cL_law 248 = .ok (.iconst 2, 1) := dk_5 (dk_at dksL_law_3 8 rfl rfl)
theorem dL_law_249 : decode cL_law 249 = .ok (.iadd, 1) := dk_96 (dk_at dksL_law_3 9 rfl rfl)
theorem dL_law_250 : decode cL_law 250 = .ok (.iaload, 1) := dk_46 (dk_at dksL_law_3 10 rfl rfl)
theorem dL_law_251 : decode cL_law 251 = .ok (.aload_n 0, 1) := dk_42 (dk_at dksL_law_3 11 rfl rfl)
theorem dL_law_252 : decode cL_law 252 = .ok (.iload_n 3, 1) := dk_29 (dk_at dksL_law_3 12 rfl rfl)
theorem dL_law_253 : decode cL_law 253 = .ok (.iconst 3, 1) := dk_6 (dk_at dksL_law_3 13 rfl rfl)
theorem dL_law_254 : decode cL_law 254 = .ok (.iadd, 1) := dk_96 (dk_at dksL_law_3 14 rfl rfl)
theorem dL_law_255 : decode cL_law 255 = .ok (.iaload, 1) := dk_46 (dk_at dksL_law_3 15 rfl rfl)
theorem dL_law_256 : decode cL_law 256 = .ok (.invokevirtual 13, 3) := dk_182 0 13 (dk_at dksL_law_3 16 rfl rfl)
theorem dL_law_259 : decode cL_law 259 = .ok (.aload_n 2, 1) := dk_44 (dk_at dksL_law_3 19 rfl rfl)
theorem dL_law_260 : decode cL_law 260 = .ok (.aload_n 0, 1) := dk_42 (dk_at dksL_law_3 20 rfl rfl)
theorem dL_law_261 : decode cL_law 261 = .ok (.iload_n 3, 1) := dk_29 (dk_at dksL_law_3 21 rfl rfl)
theorem dL_law_262 : decode cL_law 262 = .ok (.iconst 1, 1) := dk_4 (dk_at dksL_law_3 22 rfl rfl)
theorem dL_law_263 : decode cL_law 263 = .ok (.iadd, 1) := dk_96 (dk_at dksL_law_3 23 rfl rfl)
theorem dL_law_264 : decode cL_law 264 = .ok (.iaload, 1) := dk_46 (dk_at dksL_law_4 0 rfl rfl)
theorem dL_law_265 : decode cL_law 265 = .ok (.aload_n 0, 1) := dk_42 (dk_at dksL_law_4 1 rfl rfl)
theorem dL_law_266 : decode cL_law 266 = .ok (.iload_n 3, 1) := dk_29 (dk_at dksL_law_4 2 rfl rfl)
theorem dL_law_267 : decode cL_law 267 = .ok (.iconst 2, 1) := dk_5 (dk_at dksL_law_4 3 rfl rfl)
theorem dL_law_268 : decode cL_law 268 = .ok (.iadd, 1) := dk_96 (dk_at dksL_law_4 4 rfl rfl)
theorem dL_law_269 : decode cL_law 269 = .ok (.iaload, 1) := dk_46 (dk_at dksL_law_4 5 rfl rfl)
theorem dL_law_270 : decode cL_law 270 = .ok (.aload_n 0, 1) := dk_42 (dk_at dksL_law_4 6 rfl rfl)
theorem dL_law_271 : decode cL_law 271 = .ok (.iload_n 3, 1) := dk_29 (dk_at dksL_law_4 7 rfl rfl)
theorem dL_law_272 : decode cL_law 272 = .ok (.iconst 3, 1) := dk_6 (dk_at dksL_law_4 8 rfl rfl)
theorem dL_law_273 : decode cL_law 273 = .ok (.iadd, 1) := dk_96 (dk_at dksL_law_4 9 rfl rfl)
theorem dL_law_274 : decode cL_law 274 = .ok (.iaload, 1) := dk_46 (dk_at dksL_law_4 10 rfl rfl)
theorem dL_law_275 : decode cL_law 275 = .ok (.invokevirtual 17, 3) := dk_182 0 17 (dk_at dksL_law_4 11 rfl rfl)
theorem dL_law_278 : decode cL_law 278 = .ok (.if_icmp .eq 1276, 3) := dk_159 4 252 (dk_at dksL_law_4 14 rfl rfl)
theorem dL_law_281 : decode cL_law 281 = .ok (.iconst 0, 1) := dk_3 (dk_at dksL_law_4 17 rfl rfl)
theorem dL_law_282 : decode cL_law 282 = .ok (.ireturn, 1) := dk_172 (dk_at dksL_law_4 18 rfl rfl)
theorem dL_law_283 : decode cL_law 283 = .ok (.aload_n 1, 1) := dk_43 (dk_at dksL_law_4 19 rfl rfl)
theorem dL_law_284 : decode cL_law 284 = .ok (.aload_n 0, 1) := dk_42 (dk_at dksL_law_4 20 rfl rfl)
theorem dL_law_285 : decode cL_law 285 = .ok (.iload_n 3, 1) := dk_29 (dk_at dksL_law_4 21 rfl rfl)
theorem dL_law_286 : decode cL_law 286 = .ok (.iconst 1, 1) := dk_4 (dk_at dksL_law_4 22 rfl rfl)
theorem dL_law_287 : decode cL_law 287 = .ok (.iadd, 1) := dk_96 (dk_at dksL_law_4 23 rfl rfl)
theorem dL_law_288 : decode cL_law 288 = .ok (.iaload, 1) := dk_46 (dk_at dksL_law_5 0 rfl rfl)
theorem dL_law_289 : decode cL_law 289 = .ok (.aload_n 0, 1) := dk_42 (dk_at dksL_law_5 1 rfl rfl)
theorem dL_law_290 : decode cL_law 290 = .ok (.iload_n 3, 1) := dk_29 (dk_at dksL_law_5 2 rfl rfl)
theorem dL_law_291 : decode cL_law 291 = .ok (.iconst 2, 1) := dk_5 (dk_at dksL_law_5 3 rfl rfl)
theorem dL_law_292 : decode cL_law 292 = .ok (.iadd, 1) := dk_96 (dk_at dksL_law_5 4 rfl rfl)
theorem dL_law_293 : decode cL_law 293 = .ok (.iaload, 1) := dk_46 (dk_at dksL_law_5 5 rfl rfl)
theorem dL_law_294 : decode cL_law 294 = .ok (.aload_n 0, 1) := dk_42 (dk_at dksL_law_5 6 rfl rfl)
theorem dL_law_295 : decode cL_law 295 = .ok (.iload_n 3, 1) := dk_29 (dk_at dksL_law_5 7 rfl rfl)
theorem dL_law_296 : decode cL_law 296 = .ok (.iconst 3, 1) := dk_6 (dk_at dksL_law_5 8 rfl rfl)
theorem dL_law_297 : decode cL_law 297 = .ok (.iadd, 1) := dk_96 (dk_at dksL_law_5 9 rfl rfl)
theorem dL_law_298 : decode cL_law 298 = .ok (.iaload, 1) := dk_46 (dk_at dksL_law_5 10 rfl rfl)
theorem dL_law_299 : decode cL_law 299 = .ok (.invokevirtual 18, 3) := dk_182 0 18 (dk_at dksL_law_5 11 rfl rfl)
theorem dL_law_302 : decode cL_law 302 = .ok (.aload_n 2, 1) := dk_44 (dk_at dksL_law_5 14 rfl rfl)
theorem dL_law_303 : decode cL_law 303 = .ok (.aload_n 0, 1) := dk_42 (dk_at dksL_law_5 15 rfl rfl)
theorem dL_law_304 : decode cL_law 304 = .ok (.iload_n 3, 1) := dk_29 (dk_at dksL_law_5 16 rfl rfl)
theorem dL_law_305 : decode cL_law 305 = .ok (.iconst 1, 1) := dk_4 (dk_at dksL_law_5 17 rfl rfl)
theorem dL_law_306 : decode cL_law 306 = .ok (.iadd, 1) := dk_96 (dk_at dksL_law_5 18 rfl rfl)
theorem dL_law_307 : decode cL_law 307 = .ok (.iaload, 1) := dk_46 (dk_at dksL_law_5 19 rfl rfl)
theorem dL_law_308 : decode cL_law 308 = .ok (.aload_n 0, 1) := dk_42 (dk_at dksL_law_5 20 rfl rfl)
theorem dL_law_309 : decode cL_law 309 = .ok (.iload_n 3, 1) := dk_29 (dk_at dksL_law_5 21 rfl rfl)
theorem dL_law_310 : decode cL_law 310 = .ok (.iconst 2, 1) := dk_5 (dk_at dksL_law_5 22 rfl rfl)
theorem dL_law_311 : decode cL_law 311 = .ok (.iadd, 1) := dk_96 (dk_at dksL_law_5 23 rfl rfl)
theorem dL_law_312 : decode cL_law 312 = .ok (.iaload, 1) := dk_46 (dk_at dksL_law_6 0 rfl rfl)
theorem dL_law_313 : decode cL_law 313 = .ok (.aload_n 0, 1) := dk_42 (dk_at dksL_law_6 1 rfl rfl)
theorem dL_law_314 : decode cL_law 314 = .ok (.iload_n 3, 1) := dk_29 (dk_at dksL_law_6 2 rfl rfl)
theorem dL_law_315 : decode cL_law 315 = .ok (.iconst 3, 1) := dk_6 (dk_at dksL_law_6 3 rfl rfl)
theorem dL_law_316 : decode cL_law 316 = .ok (.iadd, 1) := dk_96 (dk_at dksL_law_6 4 rfl rfl)
theorem dL_law_317 : decode cL_law 317 = .ok (.iaload, 1) := dk_46 (dk_at dksL_law_6 5 rfl rfl)
theorem dL_law_318 : decode cL_law 318 = .ok (.invokevirtual 21, 3) := dk_182 0 21 (dk_at dksL_law_6 6 rfl rfl)
theorem dL_law_321 : decode cL_law 321 = .ok (.if_icmp .eq 1233, 3) := dk_159 4 209 (dk_at dksL_law_6 9 rfl rfl)
theorem dL_law_324 : decode cL_law 324 = .ok (.iconst 0, 1) := dk_3 (dk_at dksL_law_6 12 rfl rfl)
theorem dL_law_325 : decode cL_law 325 = .ok (.ireturn, 1) := dk_172 (dk_at dksL_law_6 13 rfl rfl)
theorem dL_law_326 : decode cL_law 326 = .ok (.aload_n 1, 1) := dk_43 (dk_at dksL_law_6 14 rfl rfl)
theorem dL_law_327 : decode cL_law 327 = .ok (.aload_n 0, 1) := dk_42 (dk_at dksL_law_6 15 rfl rfl)
theorem dL_law_328 : decode cL_law 328 = .ok (.iload_n 3, 1) := dk_29 (dk_at dksL_law_6 16 rfl rfl)
theorem dL_law_329 : decode cL_law 329 = .ok (.iconst 1, 1) := dk_4 (dk_at dksL_law_6 17 rfl rfl)
theorem dL_law_330 : decode cL_law 330 = .ok (.iadd, 1) := dk_96 (dk_at dksL_law_6 18 rfl rfl)
theorem dL_law_331 : decode cL_law 331 = .ok (.iaload, 1) := dk_46 (dk_at dksL_law_6 19 rfl rfl)
theorem dL_law_332 : decode cL_law 332 = .ok (.aload_n 0, 1) := dk_42 (dk_at dksL_law_6 20 rfl rfl)
theorem dL_law_333 : decode cL_law 333 = .ok (.iload_n 3, 1) := dk_29 (dk_at dksL_law_6 21 rfl rfl)
theorem dL_law_334 : decode cL_law 334 = .ok (.iconst 2, 1) := dk_5 (dk_at dksL_law_6 22 rfl rfl)
theorem dL_law_335 : decode cL_law 335 = .ok (.iadd, 1) := dk_96 (dk_at dksL_law_6 23 rfl rfl)
theorem dL_law_336 : decode cL_law 336 = .ok (.iaload, 1) := dk_46 (dk_at dksL_law_7 0 rfl rfl)
theorem dL_law_337 : decode cL_law 337 = .ok (.invokevirtual 22, 3) := dk_182 0 22 (dk_at dksL_law_7 1 rfl rfl)
theorem dL_law_340 : decode cL_law 340 = .ok (.aload_n 2, 1) := dk_44 (dk_at dksL_law_7 4 rfl rfl)
theorem dL_law_341 : decode cL_law 341 = .ok (.aload_n 0, 1) := dk_42 (dk_at dksL_law_7 5 rfl rfl)
theorem dL_law_342 : decode cL_law 342 = .ok (.iload_n 3, 1) := dk_29 (dk_at dksL_law_7 6 rfl rfl)
theorem dL_law_343 : decode cL_law 343 = .ok (.iconst 1, 1) := dk_4 (dk_at dksL_law_7 7 rfl rfl)
theorem dL_law_344 : decode cL_law 344 = .ok (.iadd, 1) := dk_96 (dk_at dksL_law_7 8 rfl rfl)
theorem dL_law_345 : decode cL_law 345 = .ok (.iaload, 1) := dk_46 (dk_at dksL_law_7 9 rfl rfl)
theorem dL_law_346 : decode cL_law 346 = .ok (.aload_n 0, 1) := dk_42 (dk_at dksL_law_7 10 rfl rfl)
theorem dL_law_347 : decode cL_law 347 = .ok (.iload_n 3, 1) := dk_29 (dk_at dksL_law_7 11 rfl rfl)
theorem dL_law_348 : decode cL_law 348 = .ok (.iconst 2, 1) := dk_5 (dk_at dksL_law_7 12 rfl rfl)
theorem dL_law_349 : decode cL_law 349 = .ok (.iadd, 1) := dk_96 (dk_at dksL_law_7 13 rfl rfl)
theorem dL_law_350 : decode cL_law 350 = .ok (.iaload, 1) := dk_46 (dk_at dksL_law_7 14 rfl rfl)
theorem dL_law_351 : decode cL_law 351 = .ok (.invokevirtual 26, 3) := dk_182 0 26 (dk_at dksL_law_7 15 rfl rfl)
theorem dL_law_354 : decode cL_law 354 = .ok (.if_icmp .eq 1200, 3) := dk_159 4 176 (dk_at dksL_law_7 18 rfl rfl)
theorem dL_law_357 : decode cL_law 357 = .ok (.iconst 0, 1) := dk_3 (dk_at dksL_law_7 21 rfl rfl)
theorem dL_law_358 : decode cL_law 358 = .ok (.ireturn, 1) := dk_172 (dk_at dksL_law_7 22 rfl rfl)
theorem dL_law_359 : decode cL_law 359 = .ok (.aload_n 1, 1) := dk_43 (dk_at dksL_law_7 23 rfl rfl)
theorem dL_law_360 : decode cL_law 360 = .ok (.aload_n 0, 1) := dk_42 (dk_at dksL_law_8 0 rfl rfl)
theorem dL_law_361 : decode cL_law 361 = .ok (.iload_n 3, 1) := dk_29 (dk_at dksL_law_8 1 rfl rfl)
theorem dL_law_362 : decode cL_law 362 = .ok (.iconst 1, 1) := dk_4 (dk_at dksL_law_8 2 rfl rfl)
theorem dL_law_363 : decode cL_law 363 = .ok (.iadd, 1) := dk_96 (dk_at dksL_law_8 3 rfl rfl)
theorem dL_law_364 : decode cL_law 364 = .ok (.iaload, 1) := dk_46 (dk_at dksL_law_8 4 rfl rfl)
theorem dL_law_365 : decode cL_law 365 = .ok (.aload_n 0, 1) := dk_42 (dk_at dksL_law_8 5 rfl rfl)
theorem dL_law_366 : decode cL_law 366 = .ok (.iload_n 3, 1) := dk_29 (dk_at dksL_law_8 6 rfl rfl)
theorem dL_law_367 : decode cL_law 367 = .ok (.iconst 2, 1) := dk_5 (dk_at dksL_law_8 7 rfl rfl)
theorem dL_law_368 : decode cL_law 368 = .ok (.iadd, 1) := dk_96 (dk_at dksL_law_8 8 rfl rfl)
theorem dL_law_369 : decode cL_law 369 = .ok (.iaload, 1) := dk_46 (dk_at dksL_law_8 9 rfl rfl)
theorem dL_law_370 : decode cL_law 370 = .ok (.aload_n 0, 1) := dk_42 (dk_at dksL_law_8 10 rfl rfl)
theorem dL_law_371 : decode cL_law 371 = .ok (.iload_n 3, 1) := dk_29 (dk_at dksL_law_8 11 rfl rfl)
theorem dL_law_372 : decode cL_law 372 = .ok (.iconst 3, 1) := dk_6 (dk_at dksL_law_8 12 rfl rfl)
theorem dL_law_373 : decode cL_law 373 = .ok (.iadd, 1) := dk_96 (dk_at dksL_law_8 13 rfl rfl)
theorem dL_law_374 : decode cL_law 374 = .ok (.iaload, 1) := dk_46 (dk_at dksL_law_8 14 rfl rfl)
theorem dL_law_375 : decode cL_law 375 = .ok (.invokevirtual 27, 3) := dk_182 0 27 (dk_at dksL_law_8 15 rfl rfl)
theorem dL_law_378 : decode cL_law 378 = .ok (.aload_n 2, 1) := dk_44 (dk_at dksL_law_8 18 rfl rfl)
theorem dL_law_379 : decode cL_law 379 = .ok (.aload_n 0, 1) := dk_42 (dk_at dksL_law_8 19 rfl rfl)
theorem dL_law_380 : decode cL_law 380 = .ok (.iload_n 3, 1) := dk_29 (dk_at dksL_law_8 20 rfl rfl)
theorem dL_law_381 : decode cL_law 381 = .ok (.iconst 1, 1) := dk_4 (dk_at dksL_law_8 21 rfl rfl)
theorem dL_law_382 : decode cL_law 382 = .ok (.iadd, 1) := dk_96 (dk_at dksL_law_8 22 rfl rfl)
theorem dL_law_383 : decode cL_law 383 = .ok (.iaload, 1) := dk_46 (dk_at dksL_law_8 23 rfl rfl)
theorem dL_law_384 : decode cL_law 384 = .ok (.aload_n 0, 1) := dk_42 (dk_at dksL_law_9 0 rfl rfl)
theorem dL_law_385 : decode cL_law 385 = .ok (.iload_n 3, 1) := dk_29 (dk_at dksL_law_9 1 rfl rfl)
theorem dL_law_386 : decode cL_law 386 = .ok (.iconst 2, 1) := dk_5 (dk_at dksL_law_9 2 rfl rfl)
theorem dL_law_387 : decode cL_law 387 = .ok (.iadd, 1) := dk_96 (dk_at dksL_law_9 3 rfl rfl)
theorem dL_law_388 : decode cL_law 388 = .ok (.iaload, 1) := dk_46 (dk_at dksL_law_9 4 rfl rfl)
theorem dL_law_389 : decode cL_law 389 = .ok (.aload_n 0, 1) := dk_42 (dk_at dksL_law_9 5 rfl rfl)
theorem dL_law_390 : decode cL_law 390 = .ok (.iload_n 3, 1) := dk_29 (dk_at dksL_law_9 6 rfl rfl)
theorem dL_law_391 : decode cL_law 391 = .ok (.iconst 3, 1) := dk_6 (dk_at dksL_law_9 7 rfl rfl)
theorem dL_law_392 : decode cL_law 392 = .ok (.iadd, 1) := dk_96 (dk_at dksL_law_9 8 rfl rfl)
theorem dL_law_393 : decode cL_law 393 = .ok (.iaload, 1) := dk_46 (dk_at dksL_law_9 9 rfl rfl)
theorem dL_law_394 : decode cL_law 394 = .ok (.invokevirtual 30, 3) := dk_182 0 30 (dk_at dksL_law_9 10 rfl rfl)
theorem dL_law_397 : decode cL_law 397 = .ok (.if_icmp .eq 1157, 3) := dk_159 4 133 (dk_at dksL_law_9 13 rfl rfl)
theorem dL_law_400 : decode cL_law 400 = .ok (.iconst 0, 1) := dk_3 (dk_at dksL_law_9 16 rfl rfl)
theorem dL_law_401 : decode cL_law 401 = .ok (.ireturn, 1) := dk_172 (dk_at dksL_law_9 17 rfl rfl)
theorem dL_law_402 : decode cL_law 402 = .ok (.aload_n 1, 1) := dk_43 (dk_at dksL_law_9 18 rfl rfl)
theorem dL_law_403 : decode cL_law 403 = .ok (.aload_n 0, 1) := dk_42 (dk_at dksL_law_9 19 rfl rfl)
theorem dL_law_404 : decode cL_law 404 = .ok (.iload_n 3, 1) := dk_29 (dk_at dksL_law_9 20 rfl rfl)
theorem dL_law_405 : decode cL_law 405 = .ok (.iconst 1, 1) := dk_4 (dk_at dksL_law_9 21 rfl rfl)
theorem dL_law_406 : decode cL_law 406 = .ok (.iadd, 1) := dk_96 (dk_at dksL_law_9 22 rfl rfl)
theorem dL_law_407 : decode cL_law 407 = .ok (.iaload, 1) := dk_46 (dk_at dksL_law_9 23 rfl rfl)
theorem dL_law_408 : decode cL_law 408 = .ok (.aload_n 0, 1) := dk_42 (dk_at dksL_law_10 0 rfl rfl)
theorem dL_law_409 : decode cL_law 409 = .ok (.iload_n 3, 1) := dk_29 (dk_at dksL_law_10 1 rfl rfl)
theorem dL_law_410 : decode cL_law 410 = .ok (.iconst 2, 1) := dk_5 (dk_at dksL_law_10 2 rfl rfl)
theorem dL_law_411 : decode cL_law 411 = .ok (.iadd, 1) := dk_96 (dk_at dksL_law_10 3 rfl rfl)
theorem dL_law_412 : decode cL_law 412 = .ok (.iaload, 1) := dk_46 (dk_at dksL_law_10 4 rfl rfl)
theorem dL_law_413 : decode cL_law 413 = .ok (.invokevirtual 31, 3) := dk_182 0 31 (dk_at dksL_law_10 5 rfl rfl)
theorem dL_law_416 : decode cL_law 416 = .ok (.aload_n 2, 1) := dk_44 (dk_at dksL_law_10 8 rfl rfl)
theorem dL_law_417 : decode cL_law 417 = .ok (.aload_n 0, 1) := dk_42 (dk_at dksL_law_10 9 rfl rfl)
theorem dL_law_418 : decode cL_law 418 = .ok (.iload_n 3, 1) := dk_29 (dk_at dksL_law_10 10 rfl rfl)
theorem dL_law_419 : decode cL_law 419 = .ok (.iconst 1, 1) := dk_4 (dk_at dksL_law_10 11 rfl rfl)
theorem dL_law_420 : decode cL_law 420 = .ok (.iadd, 1) := dk_96 (dk_at dksL_law_10 12 rfl rfl)
theorem dL_law_421 : decode cL_law 421 = .ok (.iaload, 1) := dk_46 (dk_at dksL_law_10 13 rfl rfl)
theorem dL_law_422 : decode cL_law 422 = .ok (.aload_n 0, 1) := dk_42 (dk_at dksL_law_10 14 rfl rfl)
theorem dL_law_423 : decode cL_law 423 = .ok (.iload_n 3, 1) := dk_29 (dk_at dksL_law_10 15 rfl rfl)
theorem dL_law_424 : decode cL_law 424 = .ok (.iconst 2, 1) := dk_5 (dk_at dksL_law_10 16 rfl rfl)
theorem dL_law_425 : decode cL_law 425 = .ok (.iadd, 1) := dk_96 (dk_at dksL_law_10 17 rfl rfl)
theorem dL_law_426 : decode cL_law 426 = .ok (.iaload, 1) := dk_46 (dk_at dksL_law_10 18 rfl rfl)
theorem dL_law_427 : decode cL_law 427 = .ok (.invokevirtual 34, 3) := dk_182 0 34 (dk_at dksL_law_10 19 rfl rfl)
theorem dL_law_430 : decode cL_law 430 = .ok (.if_icmp .eq 1124, 3) := dk_159 4 100 (dk_at dksL_law_11 0 rfl rfl)
theorem dL_law_433 : decode cL_law 433 = .ok (.iconst 0, 1) := dk_3 (dk_at dksL_law_11 3 rfl rfl)
theorem dL_law_434 : decode cL_law 434 = .ok (.ireturn, 1) := dk_172 (dk_at dksL_law_11 4 rfl rfl)
theorem dL_law_435 : decode cL_law 435 = .ok (.aload_n 1, 1) := dk_43 (dk_at dksL_law_11 5 rfl rfl)
theorem dL_law_436 : decode cL_law 436 = .ok (.aload_n 0, 1) := dk_42 (dk_at dksL_law_11 6 rfl rfl)
theorem dL_law_437 : decode cL_law 437 = .ok (.iload_n 3, 1) := dk_29 (dk_at dksL_law_11 7 rfl rfl)
theorem dL_law_438 : decode cL_law 438 = .ok (.iconst 1, 1) := dk_4 (dk_at dksL_law_11 8 rfl rfl)
theorem dL_law_439 : decode cL_law 439 = .ok (.iadd, 1) := dk_96 (dk_at dksL_law_11 9 rfl rfl)
theorem dL_law_440 : decode cL_law 440 = .ok (.iaload, 1) := dk_46 (dk_at dksL_law_11 10 rfl rfl)
theorem dL_law_441 : decode cL_law 441 = .ok (.aload_n 0, 1) := dk_42 (dk_at dksL_law_11 11 rfl rfl)
theorem dL_law_442 : decode cL_law 442 = .ok (.iload_n 3, 1) := dk_29 (dk_at dksL_law_11 12 rfl rfl)
theorem dL_law_443 : decode cL_law 443 = .ok (.iconst 2, 1) := dk_5 (dk_at dksL_law_11 13 rfl rfl)
theorem dL_law_444 : decode cL_law 444 = .ok (.iadd, 1) := dk_96 (dk_at dksL_law_11 14 rfl rfl)
theorem dL_law_445 : decode cL_law 445 = .ok (.iaload, 1) := dk_46 (dk_at dksL_law_11 15 rfl rfl)
theorem dL_law_446 : decode cL_law 446 = .ok (.invokevirtual 35, 3) := dk_182 0 35 (dk_at dksL_law_11 16 rfl rfl)
theorem dL_law_449 : decode cL_law 449 = .ok (.aload_n 2, 1) := dk_44 (dk_at dksL_law_11 19 rfl rfl)
theorem dL_law_450 : decode cL_law 450 = .ok (.aload_n 0, 1) := dk_42 (dk_at dksL_law_11 20 rfl rfl)
theorem dL_law_451 : decode cL_law 451 = .ok (.iload_n 3, 1) := dk_29 (dk_at dksL_law_11 21 rfl rfl)
theorem dL_law_452 : decode cL_law 452 = .ok (.iconst 1, 1) := dk_4 (dk_at dksL_law_11 22 rfl rfl)
theorem dL_law_453 : decode cL_law 453 = .ok (.iadd, 1) := dk_96 (dk_at dksL_law_11 23 rfl rfl)
theorem dL_law_454 : decode cL_law 454 = .ok (.iaload, 1) := dk_46 (dk_at dksL_law_12 0 rfl rfl)
theorem dL_law_455 : decode cL_law 455 = .ok (.aload_n 0, 1) := dk_42 (dk_at dksL_law_12 1 rfl rfl)
theorem dL_law_456 : decode cL_law 456 = .ok (.iload_n 3, 1) := dk_29 (dk_at dksL_law_12 2 rfl rfl)
theorem dL_law_457 : decode cL_law 457 = .ok (.iconst 2, 1) := dk_5 (dk_at dksL_law_12 3 rfl rfl)
theorem dL_law_458 : decode cL_law 458 = .ok (.iadd, 1) := dk_96 (dk_at dksL_law_12 4 rfl rfl)
theorem dL_law_459 : decode cL_law 459 = .ok (.iaload, 1) := dk_46 (dk_at dksL_law_12 5 rfl rfl)
theorem dL_law_460 : decode cL_law 460 = .ok (.invokevirtual 38, 3) := dk_182 0 38 (dk_at dksL_law_12 6 rfl rfl)
theorem dL_law_463 : decode cL_law 463 = .ok (.if_icmp .eq 1091, 3) := dk_159 4 67 (dk_at dksL_law_12 9 rfl rfl)
theorem dL_law_466 : decode cL_law 466 = .ok (.iconst 0, 1) := dk_3 (dk_at dksL_law_12 12 rfl rfl)
theorem dL_law_467 : decode cL_law 467 = .ok (.ireturn, 1) := dk_172 (dk_at dksL_law_12 13 rfl rfl)
theorem dL_law_468 : decode cL_law 468 = .ok (.aload_n 1, 1) := dk_43 (dk_at dksL_law_12 14 rfl rfl)
theorem dL_law_469 : decode cL_law 469 = .ok (.aload_n 0, 1) := dk_42 (dk_at dksL_law_12 15 rfl rfl)
theorem dL_law_470 : decode cL_law 470 = .ok (.iload_n 3, 1) := dk_29 (dk_at dksL_law_12 16 rfl rfl)
theorem dL_law_471 : decode cL_law 471 = .ok (.iconst 1, 1) := dk_4 (dk_at dksL_law_12 17 rfl rfl)
theorem dL_law_472 : decode cL_law 472 = .ok (.iadd, 1) := dk_96 (dk_at dksL_law_12 18 rfl rfl)
theorem dL_law_473 : decode cL_law 473 = .ok (.iaload, 1) := dk_46 (dk_at dksL_law_12 19 rfl rfl)
theorem dL_law_474 : decode cL_law 474 = .ok (.aload_n 0, 1) := dk_42 (dk_at dksL_law_12 20 rfl rfl)
theorem dL_law_475 : decode cL_law 475 = .ok (.iload_n 3, 1) := dk_29 (dk_at dksL_law_12 21 rfl rfl)
theorem dL_law_476 : decode cL_law 476 = .ok (.iconst 2, 1) := dk_5 (dk_at dksL_law_12 22 rfl rfl)
theorem dL_law_477 : decode cL_law 477 = .ok (.iadd, 1) := dk_96 (dk_at dksL_law_12 23 rfl rfl)
theorem dL_law_478 : decode cL_law 478 = .ok (.iaload, 1) := dk_46 (dk_at dksL_law_13 0 rfl rfl)
theorem dL_law_479 : decode cL_law 479 = .ok (.invokevirtual 39, 3) := dk_182 0 39 (dk_at dksL_law_13 1 rfl rfl)
theorem dL_law_482 : decode cL_law 482 = .ok (.aload_n 2, 1) := dk_44 (dk_at dksL_law_13 4 rfl rfl)
theorem dL_law_483 : decode cL_law 483 = .ok (.aload_n 0, 1) := dk_42 (dk_at dksL_law_13 5 rfl rfl)
theorem dL_law_484 : decode cL_law 484 = .ok (.iload_n 3, 1) := dk_29 (dk_at dksL_law_13 6 rfl rfl)
theorem dL_law_485 : decode cL_law 485 = .ok (.iconst 1, 1) := dk_4 (dk_at dksL_law_13 7 rfl rfl)
theorem dL_law_486 : decode cL_law 486 = .ok (.iadd, 1) := dk_96 (dk_at dksL_law_13 8 rfl rfl)
theorem dL_law_487 : decode cL_law 487 = .ok (.iaload, 1) := dk_46 (dk_at dksL_law_13 9 rfl rfl)
theorem dL_law_488 : decode cL_law 488 = .ok (.aload_n 0, 1) := dk_42 (dk_at dksL_law_13 10 rfl rfl)
theorem dL_law_489 : decode cL_law 489 = .ok (.iload_n 3, 1) := dk_29 (dk_at dksL_law_13 11 rfl rfl)
theorem dL_law_490 : decode cL_law 490 = .ok (.iconst 2, 1) := dk_5 (dk_at dksL_law_13 12 rfl rfl)
theorem dL_law_491 : decode cL_law 491 = .ok (.iadd, 1) := dk_96 (dk_at dksL_law_13 13 rfl rfl)
theorem dL_law_492 : decode cL_law 492 = .ok (.iaload, 1) := dk_46 (dk_at dksL_law_13 14 rfl rfl)
theorem dL_law_493 : decode cL_law 493 = .ok (.invokevirtual 42, 3) := dk_182 0 42 (dk_at dksL_law_13 15 rfl rfl)
theorem dL_law_496 : decode cL_law 496 = .ok (.if_icmp .eq 1058, 3) := dk_159 4 34 (dk_at dksL_law_13 18 rfl rfl)
theorem dL_law_499 : decode cL_law 499 = .ok (.iconst 0, 1) := dk_3 (dk_at dksL_law_13 21 rfl rfl)
theorem dL_law_500 : decode cL_law 500 = .ok (.ireturn, 1) := dk_172 (dk_at dksL_law_13 22 rfl rfl)
theorem dL_law_501 : decode cL_law 501 = .ok (.aload_n 1, 1) := dk_43 (dk_at dksL_law_13 23 rfl rfl)
theorem dL_law_502 : decode cL_law 502 = .ok (.aload_n 0, 1) := dk_42 (dk_at dksL_law_14 0 rfl rfl)
theorem dL_law_503 : decode cL_law 503 = .ok (.iload_n 3, 1) := dk_29 (dk_at dksL_law_14 1 rfl rfl)
theorem dL_law_504 : decode cL_law 504 = .ok (.iconst 1, 1) := dk_4 (dk_at dksL_law_14 2 rfl rfl)
theorem dL_law_505 : decode cL_law 505 = .ok (.iadd, 1) := dk_96 (dk_at dksL_law_14 3 rfl rfl)
theorem dL_law_506 : decode cL_law 506 = .ok (.iaload, 1) := dk_46 (dk_at dksL_law_14 4 rfl rfl)
theorem dL_law_507 : decode cL_law 507 = .ok (.aload_n 0, 1) := dk_42 (dk_at dksL_law_14 5 rfl rfl)
theorem dL_law_508 : decode cL_law 508 = .ok (.iload_n 3, 1) := dk_29 (dk_at dksL_law_14 6 rfl rfl)
theorem dL_law_509 : decode cL_law 509 = .ok (.iconst 2, 1) := dk_5 (dk_at dksL_law_14 7 rfl rfl)
theorem dL_law_510 : decode cL_law 510 = .ok (.iadd, 1) := dk_96 (dk_at dksL_law_14 8 rfl rfl)
theorem dL_law_511 : decode cL_law 511 = .ok (.iaload, 1) := dk_46 (dk_at dksL_law_14 9 rfl rfl)
theorem dL_law_512 : decode cL_law 512 = .ok (.aload_n 0, 1) := dk_42 (dk_at dksL_law_14 10 rfl rfl)
theorem dL_law_513 : decode cL_law 513 = .ok (.iload_n 3, 1) := dk_29 (dk_at dksL_law_14 11 rfl rfl)
theorem dL_law_514 : decode cL_law 514 = .ok (.iconst 3, 1) := dk_6 (dk_at dksL_law_14 12 rfl rfl)
theorem dL_law_515 : decode cL_law 515 = .ok (.iadd, 1) := dk_96 (dk_at dksL_law_14 13 rfl rfl)
theorem dL_law_516 : decode cL_law 516 = .ok (.iaload, 1) := dk_46 (dk_at dksL_law_14 14 rfl rfl)
theorem dL_law_517 : decode cL_law 517 = .ok (.aload_n 0, 1) := dk_42 (dk_at dksL_law_14 15 rfl rfl)
theorem dL_law_518 : decode cL_law 518 = .ok (.iload_n 3, 1) := dk_29 (dk_at dksL_law_14 16 rfl rfl)
theorem dL_law_519 : decode cL_law 519 = .ok (.iconst 4, 1) := dk_7 (dk_at dksL_law_14 17 rfl rfl)
theorem dL_law_520 : decode cL_law 520 = .ok (.iadd, 1) := dk_96 (dk_at dksL_law_14 18 rfl rfl)
theorem dL_law_521 : decode cL_law 521 = .ok (.iaload, 1) := dk_46 (dk_at dksL_law_14 19 rfl rfl)
theorem dL_law_522 : decode cL_law 522 = .ok (.aload_n 0, 1) := dk_42 (dk_at dksL_law_14 20 rfl rfl)
theorem dL_law_523 : decode cL_law 523 = .ok (.iload_n 3, 1) := dk_29 (dk_at dksL_law_14 21 rfl rfl)
theorem dL_law_524 : decode cL_law 524 = .ok (.iconst 5, 1) := dk_8 (dk_at dksL_law_14 22 rfl rfl)
theorem dL_law_525 : decode cL_law 525 = .ok (.iadd, 1) := dk_96 (dk_at dksL_law_14 23 rfl rfl)
theorem dL_law_526 : decode cL_law 526 = .ok (.iaload, 1) := dk_46 (dk_at dksL_law_15 0 rfl rfl)
theorem dL_law_527 : decode cL_law 527 = .ok (.invokevirtual 43, 3) := dk_182 0 43 (dk_at dksL_law_15 1 rfl rfl)
theorem dL_law_530 : decode cL_law 530 = .ok (.aload_n 2, 1) := dk_44 (dk_at dksL_law_15 4 rfl rfl)
theorem dL_law_531 : decode cL_law 531 = .ok (.aload_n 0, 1) := dk_42 (dk_at dksL_law_15 5 rfl rfl)
theorem dL_law_532 : decode cL_law 532 = .ok (.iload_n 3, 1) := dk_29 (dk_at dksL_law_15 6 rfl rfl)
theorem dL_law_533 : decode cL_law 533 = .ok (.iconst 1, 1) := dk_4 (dk_at dksL_law_15 7 rfl rfl)
theorem dL_law_534 : decode cL_law 534 = .ok (.iadd, 1) := dk_96 (dk_at dksL_law_15 8 rfl rfl)
theorem dL_law_535 : decode cL_law 535 = .ok (.iaload, 1) := dk_46 (dk_at dksL_law_15 9 rfl rfl)
theorem dL_law_536 : decode cL_law 536 = .ok (.aload_n 0, 1) := dk_42 (dk_at dksL_law_15 10 rfl rfl)
theorem dL_law_537 : decode cL_law 537 = .ok (.iload_n 3, 1) := dk_29 (dk_at dksL_law_15 11 rfl rfl)
theorem dL_law_538 : decode cL_law 538 = .ok (.iconst 2, 1) := dk_5 (dk_at dksL_law_15 12 rfl rfl)
theorem dL_law_539 : decode cL_law 539 = .ok (.iadd, 1) := dk_96 (dk_at dksL_law_15 13 rfl rfl)
theorem dL_law_540 : decode cL_law 540 = .ok (.iaload, 1) := dk_46 (dk_at dksL_law_15 14 rfl rfl)
theorem dL_law_541 : decode cL_law 541 = .ok (.aload_n 0, 1) := dk_42 (dk_at dksL_law_15 15 rfl rfl)
theorem dL_law_542 : decode cL_law 542 = .ok (.iload_n 3, 1) := dk_29 (dk_at dksL_law_15 16 rfl rfl)
theorem dL_law_543 : decode cL_law 543 = .ok (.iconst 3, 1) := dk_6 (dk_at dksL_law_15 17 rfl rfl)
theorem dL_law_544 : decode cL_law 544 = .ok (.iadd, 1) := dk_96 (dk_at dksL_law_15 18 rfl rfl)
theorem dL_law_545 : decode cL_law 545 = .ok (.iaload, 1) := dk_46 (dk_at dksL_law_15 19 rfl rfl)
theorem dL_law_546 : decode cL_law 546 = .ok (.aload_n 0, 1) := dk_42 (dk_at dksL_law_15 20 rfl rfl)
theorem dL_law_547 : decode cL_law 547 = .ok (.iload_n 3, 1) := dk_29 (dk_at dksL_law_15 21 rfl rfl)
theorem dL_law_548 : decode cL_law 548 = .ok (.iconst 4, 1) := dk_7 (dk_at dksL_law_15 22 rfl rfl)
theorem dL_law_549 : decode cL_law 549 = .ok (.iadd, 1) := dk_96 (dk_at dksL_law_15 23 rfl rfl)
theorem dL_law_550 : decode cL_law 550 = .ok (.iaload, 1) := dk_46 (dk_at dksL_law_16 0 rfl rfl)
theorem dL_law_551 : decode cL_law 551 = .ok (.aload_n 0, 1) := dk_42 (dk_at dksL_law_16 1 rfl rfl)
theorem dL_law_552 : decode cL_law 552 = .ok (.iload_n 3, 1) := dk_29 (dk_at dksL_law_16 2 rfl rfl)
theorem dL_law_553 : decode cL_law 553 = .ok (.iconst 5, 1) := dk_8 (dk_at dksL_law_16 3 rfl rfl)
theorem dL_law_554 : decode cL_law 554 = .ok (.iadd, 1) := dk_96 (dk_at dksL_law_16 4 rfl rfl)
theorem dL_law_555 : decode cL_law 555 = .ok (.iaload, 1) := dk_46 (dk_at dksL_law_16 5 rfl rfl)
theorem dL_law_556 : decode cL_law 556 = .ok (.invokevirtual 47, 3) := dk_182 0 47 (dk_at dksL_law_16 6 rfl rfl)
theorem dL_law_559 : decode cL_law 559 = .ok (.if_icmp .eq 995, 3) := dk_159 3 227 (dk_at dksL_law_16 9 rfl rfl)
theorem dL_law_562 : decode cL_law 562 = .ok (.iconst 0, 1) := dk_3 (dk_at dksL_law_16 12 rfl rfl)
theorem dL_law_563 : decode cL_law 563 = .ok (.ireturn, 1) := dk_172 (dk_at dksL_law_16 13 rfl rfl)
theorem dL_law_564 : decode cL_law 564 = .ok (.aload_n 1, 1) := dk_43 (dk_at dksL_law_16 14 rfl rfl)
theorem dL_law_565 : decode cL_law 565 = .ok (.aload_n 0, 1) := dk_42 (dk_at dksL_law_16 15 rfl rfl)
theorem dL_law_566 : decode cL_law 566 = .ok (.iload_n 3, 1) := dk_29 (dk_at dksL_law_16 16 rfl rfl)
theorem dL_law_567 : decode cL_law 567 = .ok (.iconst 1, 1) := dk_4 (dk_at dksL_law_16 17 rfl rfl)
theorem dL_law_568 : decode cL_law 568 = .ok (.iadd, 1) := dk_96 (dk_at dksL_law_16 18 rfl rfl)
theorem dL_law_569 : decode cL_law 569 = .ok (.iaload, 1) := dk_46 (dk_at dksL_law_16 19 rfl rfl)
theorem dL_law_570 : decode cL_law 570 = .ok (.invokevirtual 48, 3) := dk_182 0 48 (dk_at dksL_law_16 20 rfl rfl)
theorem dL_law_573 : decode cL_law 573 = .ok (.aload_n 2, 1) := dk_44 (dk_at dksL_law_16 23 rfl rfl)
theorem dL_law_574 : decode cL_law 574 = .ok (.aload_n 0, 1) := dk_42 (dk_at dksL_law_17 0 rfl rfl)
theorem dL_law_575 : decode cL_law 575 = .ok (.iload_n 3, 1) := dk_29 (dk_at dksL_law_17 1 rfl rfl)
theorem dL_law_576 : decode cL_law 576 = .ok (.iconst 1, 1) := dk_4 (dk_at dksL_law_17 2 rfl rfl)
theorem dL_law_577 : decode cL_law 577 = .ok (.iadd, 1) := dk_96 (dk_at dksL_law_17 3 rfl rfl)
theorem dL_law_578 : decode cL_law 578 = .ok (.iaload, 1) := dk_46 (dk_at dksL_law_17 4 rfl rfl)
theorem dL_law_579 : decode cL_law 579 = .ok (.invokevirtual 52, 3) := dk_182 0 52 (dk_at dksL_law_17 5 rfl rfl)
theorem dL_law_582 : decode cL_law 582 = .ok (.if_icmp .eq 972, 3) := dk_159 3 204 (dk_at dksL_law_17 8 rfl rfl)
theorem dL_law_585 : decode cL_law 585 = .ok (.iconst 0, 1) := dk_3 (dk_at dksL_law_17 11 rfl rfl)
theorem dL_law_586 : decode cL_law 586 = .ok (.ireturn, 1) := dk_172 (dk_at dksL_law_17 12 rfl rfl)
theorem dL_law_587 : decode cL_law 587 = .ok (.aload_n 1, 1) := dk_43 (dk_at dksL_law_17 13 rfl rfl)
theorem dL_law_588 : decode cL_law 588 = .ok (.invokevirtual 53, 3) := dk_182 0 53 (dk_at dksL_law_17 14 rfl rfl)
theorem dL_law_591 : decode cL_law 591 = .ok (.aload_n 2, 1) := dk_44 (dk_at dksL_law_17 17 rfl rfl)
theorem dL_law_592 : decode cL_law 592 = .ok (.invokevirtual 57, 3) := dk_182 0 57 (dk_at dksL_law_17 18 rfl rfl)
theorem dL_law_595 : decode cL_law 595 = .ok (.if_icmp .eq 959, 3) := dk_159 3 191 (dk_at dksL_law_17 21 rfl rfl)
theorem dL_law_598 : decode cL_law 598 = .ok (.iconst 0, 1) := dk_3 (dk_at dksL_law_18 0 rfl rfl)
theorem dL_law_599 : decode cL_law 599 = .ok (.ireturn, 1) := dk_172 (dk_at dksL_law_18 1 rfl rfl)
theorem dL_law_600 : decode cL_law 600 = .ok (.aload_n 1, 1) := dk_43 (dk_at dksL_law_18 2 rfl rfl)
theorem dL_law_601 : decode cL_law 601 = .ok (.invokevirtual 58, 3) := dk_182 0 58 (dk_at dksL_law_18 3 rfl rfl)
theorem dL_law_604 : decode cL_law 604 = .ok (.aload_n 2, 1) := dk_44 (dk_at dksL_law_18 6 rfl rfl)
theorem dL_law_605 : decode cL_law 605 = .ok (.invokevirtual 61, 3) := dk_182 0 61 (dk_at dksL_law_18 7 rfl rfl)
theorem dL_law_608 : decode cL_law 608 = .ok (.if_icmp .eq 946, 3) := dk_159 3 178 (dk_at dksL_law_18 10 rfl rfl)
theorem dL_law_611 : decode cL_law 611 = .ok (.iconst 0, 1) := dk_3 (dk_at dksL_law_18 13 rfl rfl)
theorem dL_law_612 : decode cL_law 612 = .ok (.ireturn, 1) := dk_172 (dk_at dksL_law_18 14 rfl rfl)
theorem dL_law_613 : decode cL_law 613 = .ok (.aload_n 1, 1) := dk_43 (dk_at dksL_law_18 15 rfl rfl)
theorem dL_law_614 : decode cL_law 614 = .ok (.invokevirtual 62, 3) := dk_182 0 62 (dk_at dksL_law_18 16 rfl rfl)
theorem dL_law_617 : decode cL_law 617 = .ok (.aload_n 2, 1) := dk_44 (dk_at dksL_law_18 19 rfl rfl)
theorem dL_law_618 : decode cL_law 618 = .ok (.invokevirtual 65, 3) := dk_182 0 65 (dk_at dksL_law_18 20 rfl rfl)
theorem dL_law_621 : decode cL_law 621 = .ok (.if_icmp .eq 933, 3) := dk_159 3 165 (dk_at dksL_law_19 0 rfl rfl)
theorem dL_law_624 : decode cL_law 624 = .ok (.iconst 0, 1) := dk_3 (dk_at dksL_law_19 3 rfl rfl)
theorem dL_law_625 : decode cL_law 625 = .ok (.ireturn, 1) := dk_172 (dk_at dksL_law_19 4 rfl rfl)
theorem dL_law_626 : decode cL_law 626 = .ok (.aload_n 1, 1) := dk_43 (dk_at dksL_law_19 5 rfl rfl)
theorem dL_law_627 : decode cL_law 627 = .ok (.invokevirtual 66, 3) := dk_182 0 66 (dk_at dksL_law_19 6 rfl rfl)
theorem dL_law_630 : decode cL_law 630 = .ok (.aload_n 2, 1) := dk_44 (dk_at dksL_law_19 9 rfl rfl)
theorem dL_law_631 : decode cL_law 631 = .ok (.invokevirtual 69, 3) := dk_182 0 69 (dk_at dksL_law_19 10 rfl rfl)
theorem dL_law_634 : decode cL_law 634 = .ok (.if_icmp .eq 920, 3) := dk_159 3 152 (dk_at dksL_law_19 13 rfl rfl)
theorem dL_law_637 : decode cL_law 637 = .ok (.iconst 0, 1) := dk_3 (dk_at dksL_law_19 16 rfl rfl)
theorem dL_law_638 : decode cL_law 638 = .ok (.ireturn, 1) := dk_172 (dk_at dksL_law_19 17 rfl rfl)
theorem dL_law_639 : decode cL_law 639 = .ok (.aload_n 1, 1) := dk_43 (dk_at dksL_law_19 18 rfl rfl)
theorem dL_law_640 : decode cL_law 640 = .ok (.invokevirtual 70, 3) := dk_182 0 70 (dk_at dksL_law_19 19 rfl rfl)
theorem dL_law_643 : decode cL_law 643 = .ok (.aload_n 2, 1) := dk_44 (dk_at dksL_law_19 22 rfl rfl)
theorem dL_law_644 : decode cL_law 644 = .ok (.invokevirtual 73, 3) := dk_182 0 73 (dk_at dksL_law_20 0 rfl rfl)
theorem dL_law_647 : decode cL_law 647 = .ok (.if_icmp .eq 907, 3) := dk_159 3 139 (dk_at dksL_law_20 3 rfl rfl)
theorem dL_law_650 : decode cL_law 650 = .ok (.iconst 0, 1) := dk_3 (dk_at dksL_law_20 6 rfl rfl)
theorem dL_law_651 : decode cL_law 651 = .ok (.ireturn, 1) := dk_172 (dk_at dksL_law_20 7 rfl rfl)
theorem dL_law_652 : decode cL_law 652 = .ok (.aload_n 1, 1) := dk_43 (dk_at dksL_law_20 8 rfl rfl)
theorem dL_law_653 : decode cL_law 653 = .ok (.invokevirtual 74, 3) := dk_182 0 74 (dk_at dksL_law_20 9 rfl rfl)
theorem dL_law_656 : decode cL_law 656 = .ok (.aload_n 2, 1) := dk_44 (dk_at dksL_law_20 12 rfl rfl)
theorem dL_law_657 : decode cL_law 657 = .ok (.invokevirtual 77, 3) := dk_182 0 77 (dk_at dksL_law_20 13 rfl rfl)
theorem dL_law_660 : decode cL_law 660 = .ok (.if_icmp .eq 894, 3) := dk_159 3 126 (dk_at dksL_law_20 16 rfl rfl)
theorem dL_law_663 : decode cL_law 663 = .ok (.iconst 0, 1) := dk_3 (dk_at dksL_law_20 19 rfl rfl)
theorem dL_law_664 : decode cL_law 664 = .ok (.ireturn, 1) := dk_172 (dk_at dksL_law_20 20 rfl rfl)
theorem dL_law_665 : decode cL_law 665 = .ok (.aload_n 1, 1) := dk_43 (dk_at dksL_law_20 21 rfl rfl)
theorem dL_law_666 : decode cL_law 666 = .ok (.aload_n 0, 1) := dk_42 (dk_at dksL_law_20 22 rfl rfl)
theorem dL_law_667 : decode cL_law 667 = .ok (.iload_n 3, 1) := dk_29 (dk_at dksL_law_20 23 rfl rfl)
theorem dL_law_668 : decode cL_law 668 = .ok (.iconst 1, 1) := dk_4 (dk_at dksL_law_21 0 rfl rfl)
theorem dL_law_669 : decode cL_law 669 = .ok (.iadd, 1) := dk_96 (dk_at dksL_law_21 1 rfl rfl)
theorem dL_law_670 : decode cL_law 670 = .ok (.iaload, 1) := dk_46 (dk_at dksL_law_21 2 rfl rfl)
theorem dL_law_671 : decode cL_law 671 = .ok (.invokevirtual 78, 3) := dk_182 0 78 (dk_at dksL_law_21 3 rfl rfl)
theorem dL_law_674 : decode cL_law 674 = .ok (.aload_n 2, 1) := dk_44 (dk_at dksL_law_21 6 rfl rfl)
theorem dL_law_675 : decode cL_law 675 = .ok (.aload_n 0, 1) := dk_42 (dk_at dksL_law_21 7 rfl rfl)
theorem dL_law_676 : decode cL_law 676 = .ok (.iload_n 3, 1) := dk_29 (dk_at dksL_law_21 8 rfl rfl)
theorem dL_law_677 : decode cL_law 677 = .ok (.iconst 1, 1) := dk_4 (dk_at dksL_law_21 9 rfl rfl)
theorem dL_law_678 : decode cL_law 678 = .ok (.iadd, 1) := dk_96 (dk_at dksL_law_21 10 rfl rfl)
theorem dL_law_679 : decode cL_law 679 = .ok (.iaload, 1) := dk_46 (dk_at dksL_law_21 11 rfl rfl)
theorem dL_law_680 : decode cL_law 680 = .ok (.invokevirtual 81, 3) := dk_182 0 81 (dk_at dksL_law_21 12 rfl rfl)
theorem dL_law_683 : decode cL_law 683 = .ok (.if_icmp .eq 871, 3) := dk_159 3 103 (dk_at dksL_law_21 15 rfl rfl)
theorem dL_law_686 : decode cL_law 686 = .ok (.iconst 0, 1) := dk_3 (dk_at dksL_law_21 18 rfl rfl)
theorem dL_law_687 : decode cL_law 687 = .ok (.ireturn, 1) := dk_172 (dk_at dksL_law_21 19 rfl rfl)
theorem dL_law_688 : decode cL_law 688 = .ok (.aload_n 1, 1) := dk_43 (dk_at dksL_law_21 20 rfl rfl)
theorem dL_law_689 : decode cL_law 689 = .ok (.aload_n 0, 1) := dk_42 (dk_at dksL_law_21 21 rfl rfl)
theorem dL_law_690 : decode cL_law 690 = .ok (.iload_n 3, 1) := dk_29 (dk_at dksL_law_21 22 rfl rfl)
theorem dL_law_691 : decode cL_law 691 = .ok (.iconst 1, 1) := dk_4 (dk_at dksL_law_21 23 rfl rfl)
theorem dL_law_692 : decode cL_law 692 = .ok (.iadd, 1) := dk_96 (dk_at dksL_law_22 0 rfl rfl)
theorem dL_law_693 : decode cL_law 693 = .ok (.iaload, 1) := dk_46 (dk_at dksL_law_22 1 rfl rfl)
theorem dL_law_694 : decode cL_law 694 = .ok (.aload_n 0, 1) := dk_42 (dk_at dksL_law_22 2 rfl rfl)
theorem dL_law_695 : decode cL_law 695 = .ok (.iload_n 3, 1) := dk_29 (dk_at dksL_law_22 3 rfl rfl)
theorem dL_law_696 : decode cL_law 696 = .ok (.iconst 2, 1) := dk_5 (dk_at dksL_law_22 4 rfl rfl)
theorem dL_law_697 : decode cL_law 697 = .ok (.iadd, 1) := dk_96 (dk_at dksL_law_22 5 rfl rfl)
theorem dL_law_698 : decode cL_law 698 = .ok (.iaload, 1) := dk_46 (dk_at dksL_law_22 6 rfl rfl)
theorem dL_law_699 : decode cL_law 699 = .ok (.invokevirtual 82, 3) := dk_182 0 82 (dk_at dksL_law_22 7 rfl rfl)
theorem dL_law_702 : decode cL_law 702 = .ok (.aload_n 2, 1) := dk_44 (dk_at dksL_law_22 10 rfl rfl)
theorem dL_law_703 : decode cL_law 703 = .ok (.aload_n 0, 1) := dk_42 (dk_at dksL_law_22 11 rfl rfl)
theorem dL_law_704 : decode cL_law 704 = .ok (.iload_n 3, 1) := dk_29 (dk_at dksL_law_22 12 rfl rfl)
theorem dL_law_705 : decode cL_law 705 = .ok (.iconst 1, 1) := dk_4 (dk_at dksL_law_22 13 rfl rfl)
theorem dL_law_706 : decode cL_law 706 = .ok (.iadd, 1) := dk_96 (dk_at dksL_law_22 14 rfl rfl)
theorem dL_law_707 : decode cL_law 707 = .ok (.iaload, 1) := dk_46 (dk_at dksL_law_22 15 rfl rfl)
theorem dL_law_708 : decode cL_law 708 = .ok (.aload_n 0, 1) := dk_42 (dk_at dksL_law_22 16 rfl rfl)
theorem dL_law_709 : decode cL_law 709 = .ok (.iload_n 3, 1) := dk_29 (dk_at dksL_law_22 17 rfl rfl)
theorem dL_law_710 : decode cL_law 710 = .ok (.iconst 2, 1) := dk_5 (dk_at dksL_law_22 18 rfl rfl)
theorem dL_law_711 : decode cL_law 711 = .ok (.iadd, 1) := dk_96 (dk_at dksL_law_22 19 rfl rfl)
theorem dL_law_712 : decode cL_law 712 = .ok (.iaload, 1) := dk_46 (dk_at dksL_law_22 20 rfl rfl)
theorem dL_law_713 : decode cL_law 713 = .ok (.invokevirtual 85, 3) := dk_182 0 85 (dk_at dksL_law_22 21 rfl rfl)
theorem dL_law_716 : decode cL_law 716 = .ok (.if_icmp .eq 838, 3) := dk_159 3 70 (dk_at dksL_law_23 0 rfl rfl)
theorem dL_law_719 : decode cL_law 719 = .ok (.iconst 0, 1) := dk_3 (dk_at dksL_law_23 3 rfl rfl)
theorem dL_law_720 : decode cL_law 720 = .ok (.ireturn, 1) := dk_172 (dk_at dksL_law_23 4 rfl rfl)
theorem dL_law_721 : decode cL_law 721 = .ok (.aload_n 1, 1) := dk_43 (dk_at dksL_law_23 5 rfl rfl)
theorem dL_law_722 : decode cL_law 722 = .ok (.aload_n 0, 1) := dk_42 (dk_at dksL_law_23 6 rfl rfl)
theorem dL_law_723 : decode cL_law 723 = .ok (.iload_n 3, 1) := dk_29 (dk_at dksL_law_23 7 rfl rfl)
theorem dL_law_724 : decode cL_law 724 = .ok (.iconst 1, 1) := dk_4 (dk_at dksL_law_23 8 rfl rfl)
theorem dL_law_725 : decode cL_law 725 = .ok (.iadd, 1) := dk_96 (dk_at dksL_law_23 9 rfl rfl)
theorem dL_law_726 : decode cL_law 726 = .ok (.iaload, 1) := dk_46 (dk_at dksL_law_23 10 rfl rfl)
theorem dL_law_727 : decode cL_law 727 = .ok (.invokevirtual 86, 3) := dk_182 0 86 (dk_at dksL_law_23 11 rfl rfl)
theorem dL_law_730 : decode cL_law 730 = .ok (.aload_n 2, 1) := dk_44 (dk_at dksL_law_23 14 rfl rfl)
theorem dL_law_731 : decode cL_law 731 = .ok (.aload_n 0, 1) := dk_42 (dk_at dksL_law_23 15 rfl rfl)
theorem dL_law_732 : decode cL_law 732 = .ok (.iload_n 3, 1) := dk_29 (dk_at dksL_law_23 16 rfl rfl)
theorem dL_law_733 : decode cL_law 733 = .ok (.iconst 1, 1) := dk_4 (dk_at dksL_law_23 17 rfl rfl)
theorem dL_law_734 : decode cL_law 734 = .ok (.iadd, 1) := dk_96 (dk_at dksL_law_23 18 rfl rfl)
theorem dL_law_735 : decode cL_law 735 = .ok (.iaload, 1) := dk_46 (dk_at dksL_law_23 19 rfl rfl)
theorem dL_law_736 : decode cL_law 736 = .ok (.invokevirtual 89, 3) := dk_182 0 89 (dk_at dksL_law_23 20 rfl rfl)
theorem dL_law_739 : decode cL_law 739 = .ok (.if_icmp .eq 815, 3) := dk_159 3 47 (dk_at dksL_law_24 0 rfl rfl)
theorem dL_law_742 : decode cL_law 742 = .ok (.iconst 0, 1) := dk_3 (dk_at dksL_law_24 3 rfl rfl)
theorem dL_law_743 : decode cL_law 743 = .ok (.ireturn, 1) := dk_172 (dk_at dksL_law_24 4 rfl rfl)
theorem dL_law_744 : decode cL_law 744 = .ok (.aload_n 1, 1) := dk_43 (dk_at dksL_law_24 5 rfl rfl)
theorem dL_law_745 : decode cL_law 745 = .ok (.aload_n 0, 1) := dk_42 (dk_at dksL_law_24 6 rfl rfl)
theorem dL_law_746 : decode cL_law 746 = .ok (.iload_n 3, 1) := dk_29 (dk_at dksL_law_24 7 rfl rfl)
theorem dL_law_747 : decode cL_law 747 = .ok (.iconst 1, 1) := dk_4 (dk_at dksL_law_24 8 rfl rfl)
theorem dL_law_748 : decode cL_law 748 = .ok (.iadd, 1) := dk_96 (dk_at dksL_law_24 9 rfl rfl)
theorem dL_law_749 : decode cL_law 749 = .ok (.iaload, 1) := dk_46 (dk_at dksL_law_24 10 rfl rfl)
theorem dL_law_750 : decode cL_law 750 = .ok (.aload_n 0, 1) := dk_42 (dk_at dksL_law_24 11 rfl rfl)
theorem dL_law_751 : decode cL_law 751 = .ok (.iload_n 3, 1) := dk_29 (dk_at dksL_law_24 12 rfl rfl)
theorem dL_law_752 : decode cL_law 752 = .ok (.iconst 2, 1) := dk_5 (dk_at dksL_law_24 13 rfl rfl)
theorem dL_law_753 : decode cL_law 753 = .ok (.iadd, 1) := dk_96 (dk_at dksL_law_24 14 rfl rfl)
theorem dL_law_754 : decode cL_law 754 = .ok (.iaload, 1) := dk_46 (dk_at dksL_law_24 15 rfl rfl)
theorem dL_law_755 : decode cL_law 755 = .ok (.aload_n 0, 1) := dk_42 (dk_at dksL_law_24 16 rfl rfl)
theorem dL_law_756 : decode cL_law 756 = .ok (.iload_n 3, 1) := dk_29 (dk_at dksL_law_24 17 rfl rfl)
theorem dL_law_757 : decode cL_law 757 = .ok (.iconst 3, 1) := dk_6 (dk_at dksL_law_24 18 rfl rfl)
theorem dL_law_758 : decode cL_law 758 = .ok (.iadd, 1) := dk_96 (dk_at dksL_law_24 19 rfl rfl)
theorem dL_law_759 : decode cL_law 759 = .ok (.iaload, 1) := dk_46 (dk_at dksL_law_24 20 rfl rfl)
theorem dL_law_760 : decode cL_law 760 = .ok (.invokevirtual 90, 3) := dk_182 0 90 (dk_at dksL_law_24 21 rfl rfl)
theorem dL_law_763 : decode cL_law 763 = .ok (.aload_n 2, 1) := dk_44 (dk_at dksL_law_25 0 rfl rfl)
theorem dL_law_764 : decode cL_law 764 = .ok (.aload_n 0, 1) := dk_42 (dk_at dksL_law_25 1 rfl rfl)
theorem dL_law_765 : decode cL_law 765 = .ok (.iload_n 3, 1) := dk_29 (dk_at dksL_law_25 2 rfl rfl)
theorem dL_law_766 : decode cL_law 766 = .ok (.iconst 1, 1) := dk_4 (dk_at dksL_law_25 3 rfl rfl)
theorem dL_law_767 : decode cL_law 767 = .ok (.iadd, 1) := dk_96 (dk_at dksL_law_25 4 rfl rfl)
theorem dL_law_768 : decode cL_law 768 = .ok (.iaload, 1) := dk_46 (dk_at dksL_law_25 5 rfl rfl)
theorem dL_law_769 : decode cL_law 769 = .ok (.aload_n 0, 1) := dk_42 (dk_at dksL_law_25 6 rfl rfl)
theorem dL_law_770 : decode cL_law 770 = .ok (.iload_n 3, 1) := dk_29 (dk_at dksL_law_25 7 rfl rfl)
theorem dL_law_771 : decode cL_law 771 = .ok (.iconst 2, 1) := dk_5 (dk_at dksL_law_25 8 rfl rfl)
theorem dL_law_772 : decode cL_law 772 = .ok (.iadd, 1) := dk_96 (dk_at dksL_law_25 9 rfl rfl)
theorem dL_law_773 : decode cL_law 773 = .ok (.iaload, 1) := dk_46 (dk_at dksL_law_25 10 rfl rfl)
theorem dL_law_774 : decode cL_law 774 = .ok (.aload_n 0, 1) := dk_42 (dk_at dksL_law_25 11 rfl rfl)
theorem dL_law_775 : decode cL_law 775 = .ok (.iload_n 3, 1) := dk_29 (dk_at dksL_law_25 12 rfl rfl)
theorem dL_law_776 : decode cL_law 776 = .ok (.iconst 3, 1) := dk_6 (dk_at dksL_law_25 13 rfl rfl)
theorem dL_law_777 : decode cL_law 777 = .ok (.iadd, 1) := dk_96 (dk_at dksL_law_25 14 rfl rfl)
theorem dL_law_778 : decode cL_law 778 = .ok (.iaload, 1) := dk_46 (dk_at dksL_law_25 15 rfl rfl)
theorem dL_law_779 : decode cL_law 779 = .ok (.invokevirtual 93, 3) := dk_182 0 93 (dk_at dksL_law_25 16 rfl rfl)
theorem dL_law_782 : decode cL_law 782 = .ok (.if_icmp .eq 772, 3) := dk_159 3 4 (dk_at dksL_law_25 19 rfl rfl)
theorem dL_law_785 : decode cL_law 785 = .ok (.iconst 0, 1) := dk_3 (dk_at dksL_law_25 22 rfl rfl)
theorem dL_law_786 : decode cL_law 786 = .ok (.ireturn, 1) := dk_172 (dk_at dksL_law_25 23 rfl rfl)
theorem dL_law_787 : decode cL_law 787 = .ok (.aload_n 1, 1) := dk_43 (dk_at dksL_law_26 0 rfl rfl)
theorem dL_law_788 : decode cL_law 788 = .ok (.aload_n 0, 1) := dk_42 (dk_at dksL_law_26 1 rfl rfl)
theorem dL_law_789 : decode cL_law 789 = .ok (.iload_n 3, 1) := dk_29 (dk_at dksL_law_26 2 rfl rfl)
theorem dL_law_790 : decode cL_law 790 = .ok (.iconst 1, 1) := dk_4 (dk_at dksL_law_26 3 rfl rfl)
theorem dL_law_791 : decode cL_law 791 = .ok (.iadd, 1) := dk_96 (dk_at dksL_law_26 4 rfl rfl)
theorem dL_law_792 : decode cL_law 792 = .ok (.iaload, 1) := dk_46 (dk_at dksL_law_26 5 rfl rfl)
theorem dL_law_793 : decode cL_law 793 = .ok (.aload_n 0, 1) := dk_42 (dk_at dksL_law_26 6 rfl rfl)
theorem dL_law_794 : decode cL_law 794 = .ok (.iload_n 3, 1) := dk_29 (dk_at dksL_law_26 7 rfl rfl)
theorem dL_law_795 : decode cL_law 795 = .ok (.iconst 2, 1) := dk_5 (dk_at dksL_law_26 8 rfl rfl)
theorem dL_law_796 : decode cL_law 796 = .ok (.iadd, 1) := dk_96 (dk_at dksL_law_26 9 rfl rfl)
theorem dL_law_797 : decode cL_law 797 = .ok (.iaload, 1) := dk_46 (dk_at dksL_law_26 10 rfl rfl)
theorem dL_law_798 : decode cL_law 798 = .ok (.aload_n 0, 1) := dk_42 (dk_at dksL_law_26 11 rfl rfl)
theorem dL_law_799 : decode cL_law 799 = .ok (.iload_n 3, 1) := dk_29 (dk_at dksL_law_26 12 rfl rfl)
theorem dL_law_800 : decode cL_law 800 = .ok (.iconst 3, 1) := dk_6 (dk_at dksL_law_26 13 rfl rfl)
theorem dL_law_801 : decode cL_law 801 = .ok (.iadd, 1) := dk_96 (dk_at dksL_law_26 14 rfl rfl)
theorem dL_law_802 : decode cL_law 802 = .ok (.iaload, 1) := dk_46 (dk_at dksL_law_26 15 rfl rfl)
theorem dL_law_803 : decode cL_law 803 = .ok (.invokevirtual 94, 3) := dk_182 0 94 (dk_at dksL_law_26 16 rfl rfl)
theorem dL_law_806 : decode cL_law 806 = .ok (.aload_n 2, 1) := dk_44 (dk_at dksL_law_26 19 rfl rfl)
theorem dL_law_807 : decode cL_law 807 = .ok (.aload_n 0, 1) := dk_42 (dk_at dksL_law_26 20 rfl rfl)
theorem dL_law_808 : decode cL_law 808 = .ok (.iload_n 3, 1) := dk_29 (dk_at dksL_law_26 21 rfl rfl)
theorem dL_law_809 : decode cL_law 809 = .ok (.iconst 1, 1) := dk_4 (dk_at dksL_law_26 22 rfl rfl)
theorem dL_law_810 : decode cL_law 810 = .ok (.iadd, 1) := dk_96 (dk_at dksL_law_26 23 rfl rfl)
theorem dL_law_811 : decode cL_law 811 = .ok (.iaload, 1) := dk_46 (dk_at dksL_law_27 0 rfl rfl)
theorem dL_law_812 : decode cL_law 812 = .ok (.aload_n 0, 1) := dk_42 (dk_at dksL_law_27 1 rfl rfl)
theorem dL_law_813 : decode cL_law 813 = .ok (.iload_n 3, 1) := dk_29 (dk_at dksL_law_27 2 rfl rfl)
theorem dL_law_814 : decode cL_law 814 = .ok (.iconst 2, 1) := dk_5 (dk_at dksL_law_27 3 rfl rfl)
theorem dL_law_815 : decode cL_law 815 = .ok (.iadd, 1) := dk_96 (dk_at dksL_law_27 4 rfl rfl)
theorem dL_law_816 : decode cL_law 816 = .ok (.iaload, 1) := dk_46 (dk_at dksL_law_27 5 rfl rfl)
theorem dL_law_817 : decode cL_law 817 = .ok (.aload_n 0, 1) := dk_42 (dk_at dksL_law_27 6 rfl rfl)
theorem dL_law_818 : decode cL_law 818 = .ok (.iload_n 3, 1) := dk_29 (dk_at dksL_law_27 7 rfl rfl)
theorem dL_law_819 : decode cL_law 819 = .ok (.iconst 3, 1) := dk_6 (dk_at dksL_law_27 8 rfl rfl)
theorem dL_law_820 : decode cL_law 820 = .ok (.iadd, 1) := dk_96 (dk_at dksL_law_27 9 rfl rfl)
theorem dL_law_821 : decode cL_law 821 = .ok (.iaload, 1) := dk_46 (dk_at dksL_law_27 10 rfl rfl)
theorem dL_law_822 : decode cL_law 822 = .ok (.invokevirtual 97, 3) := dk_182 0 97 (dk_at dksL_law_27 11 rfl rfl)
theorem dL_law_825 : decode cL_law 825 = .ok (.if_icmp .eq 729, 3) := dk_159 2 217 (dk_at dksL_law_27 14 rfl rfl)
theorem dL_law_828 : decode cL_law 828 = .ok (.iconst 0, 1) := dk_3 (dk_at dksL_law_27 17 rfl rfl)
theorem dL_law_829 : decode cL_law 829 = .ok (.ireturn, 1) := dk_172 (dk_at dksL_law_27 18 rfl rfl)
theorem dL_law_830 : decode cL_law 830 = .ok (.aload_n 1, 1) := dk_43 (dk_at dksL_law_27 19 rfl rfl)
theorem dL_law_831 : decode cL_law 831 = .ok (.aload_n 0, 1) := dk_42 (dk_at dksL_law_27 20 rfl rfl)
theorem dL_law_832 : decode cL_law 832 = .ok (.iload_n 3, 1) := dk_29 (dk_at dksL_law_27 21 rfl rfl)
theorem dL_law_833 : decode cL_law 833 = .ok (.iconst 1, 1) := dk_4 (dk_at dksL_law_27 22 rfl rfl)
theorem dL_law_834 : decode cL_law 834 = .ok (.iadd, 1) := dk_96 (dk_at dksL_law_27 23 rfl rfl)
theorem dL_law_835 : decode cL_law 835 = .ok (.iaload, 1) := dk_46 (dk_at dksL_law_28 0 rfl rfl)
theorem dL_law_836 : decode cL_law 836 = .ok (.invokevirtual 98, 3) := dk_182 0 98 (dk_at dksL_law_28 1 rfl rfl)
theorem dL_law_839 : decode cL_law 839 = .ok (.aload_n 2, 1) := dk_44 (dk_at dksL_law_28 4 rfl rfl)
theorem dL_law_840 : decode cL_law 840 = .ok (.aload_n 0, 1) := dk_42 (dk_at dksL_law_28 5 rfl rfl)
theorem dL_law_841 : decode cL_law 841 = .ok (.iload_n 3, 1) := dk_29 (dk_at dksL_law_28 6 rfl rfl)
theorem dL_law_842 : decode cL_law 842 = .ok (.iconst 1, 1) := dk_4 (dk_at dksL_law_28 7 rfl rfl)
theorem dL_law_843 : decode cL_law 843 = .ok (.iadd, 1) := dk_96 (dk_at dksL_law_28 8 rfl rfl)
theorem dL_law_844 : decode cL_law 844 = .ok (.iaload, 1) := dk_46 (dk_at dksL_law_28 9 rfl rfl)
theorem dL_law_845 : decode cL_law 845 = .ok (.invokevirtual 101, 3) := dk_182 0 101 (dk_at dksL_law_28 10 rfl rfl)
theorem dL_law_848 : decode cL_law 848 = .ok (.if_icmp .eq 706, 3) := dk_159 2 194 (dk_at dksL_law_28 13 rfl rfl)
theorem dL_law_851 : decode cL_law 851 = .ok (.iconst 0, 1) := dk_3 (dk_at dksL_law_28 16 rfl rfl)
theorem dL_law_852 : decode cL_law 852 = .ok (.ireturn, 1) := dk_172 (dk_at dksL_law_28 17 rfl rfl)
theorem dL_law_853 : decode cL_law 853 = .ok (.aload_n 1, 1) := dk_43 (dk_at dksL_law_28 18 rfl rfl)
theorem dL_law_854 : decode cL_law 854 = .ok (.aload_n 0, 1) := dk_42 (dk_at dksL_law_28 19 rfl rfl)
theorem dL_law_855 : decode cL_law 855 = .ok (.iload_n 3, 1) := dk_29 (dk_at dksL_law_28 20 rfl rfl)
theorem dL_law_856 : decode cL_law 856 = .ok (.iconst 1, 1) := dk_4 (dk_at dksL_law_28 21 rfl rfl)
theorem dL_law_857 : decode cL_law 857 = .ok (.iadd, 1) := dk_96 (dk_at dksL_law_28 22 rfl rfl)
theorem dL_law_858 : decode cL_law 858 = .ok (.iaload, 1) := dk_46 (dk_at dksL_law_28 23 rfl rfl)
theorem dL_law_859 : decode cL_law 859 = .ok (.aload_n 0, 1) := dk_42 (dk_at dksL_law_29 0 rfl rfl)
theorem dL_law_860 : decode cL_law 860 = .ok (.iload_n 3, 1) := dk_29 (dk_at dksL_law_29 1 rfl rfl)
theorem dL_law_861 : decode cL_law 861 = .ok (.iconst 2, 1) := dk_5 (dk_at dksL_law_29 2 rfl rfl)
theorem dL_law_862 : decode cL_law 862 = .ok (.iadd, 1) := dk_96 (dk_at dksL_law_29 3 rfl rfl)
theorem dL_law_863 : decode cL_law 863 = .ok (.iaload, 1) := dk_46 (dk_at dksL_law_29 4 rfl rfl)
theorem dL_law_864 : decode cL_law 864 = .ok (.invokevirtual 102, 3) := dk_182 0 102 (dk_at dksL_law_29 5 rfl rfl)
theorem dL_law_867 : decode cL_law 867 = .ok (.aload_n 2, 1) := dk_44 (dk_at dksL_law_29 8 rfl rfl)
theorem dL_law_868 : decode cL_law 868 = .ok (.aload_n 0, 1) := dk_42 (dk_at dksL_law_29 9 rfl rfl)
theorem dL_law_869 : decode cL_law 869 = .ok (.iload_n 3, 1) := dk_29 (dk_at dksL_law_29 10 rfl rfl)
theorem dL_law_870 : decode cL_law 870 = .ok (.iconst 1, 1) := dk_4 (dk_at dksL_law_29 11 rfl rfl)
theorem dL_law_871 : decode cL_law 871 = .ok (.iadd, 1) := dk_96 (dk_at dksL_law_29 12 rfl rfl)
theorem dL_law_872 : decode cL_law 872 = .ok (.iaload, 1) := dk_46 (dk_at dksL_law_29 13 rfl rfl)
theorem dL_law_873 : decode cL_law 873 = .ok (.aload_n 0, 1) := dk_42 (dk_at dksL_law_29 14 rfl rfl)
theorem dL_law_874 : decode cL_law 874 = .ok (.iload_n 3, 1) := dk_29 (dk_at dksL_law_29 15 rfl rfl)
theorem dL_law_875 : decode cL_law 875 = .ok (.iconst 2, 1) := dk_5 (dk_at dksL_law_29 16 rfl rfl)
theorem dL_law_876 : decode cL_law 876 = .ok (.iadd, 1) := dk_96 (dk_at dksL_law_29 17 rfl rfl)
theorem dL_law_877 : decode cL_law 877 = .ok (.iaload, 1) := dk_46 (dk_at dksL_law_29 18 rfl rfl)
theorem dL_law_878 : decode cL_law 878 = .ok (.invokevirtual 105, 3) := dk_182 0 105 (dk_at dksL_law_29 19 rfl rfl)
theorem dL_law_881 : decode cL_law 881 = .ok (.if_icmp .eq 673, 3) := dk_159 2 161 (dk_at dksL_law_30 0 rfl rfl)
theorem dL_law_884 : decode cL_law 884 = .ok (.iconst 0, 1) := dk_3 (dk_at dksL_law_30 3 rfl rfl)
theorem dL_law_885 : decode cL_law 885 = .ok (.ireturn, 1) := dk_172 (dk_at dksL_law_30 4 rfl rfl)
theorem dL_law_886 : decode cL_law 886 = .ok (.aload_n 1, 1) := dk_43 (dk_at dksL_law_30 5 rfl rfl)
theorem dL_law_887 : decode cL_law 887 = .ok (.invokevirtual 106, 3) := dk_182 0 106 (dk_at dksL_law_30 6 rfl rfl)
theorem dL_law_890 : decode cL_law 890 = .ok (.aload_n 2, 1) := dk_44 (dk_at dksL_law_30 9 rfl rfl)
theorem dL_law_891 : decode cL_law 891 = .ok (.invokevirtual 109, 3) := dk_182 0 109 (dk_at dksL_law_30 10 rfl rfl)
theorem dL_law_894 : decode cL_law 894 = .ok (.if_icmp .eq 660, 3) := dk_159 2 148 (dk_at dksL_law_30 13 rfl rfl)
theorem dL_law_897 : decode cL_law 897 = .ok (.iconst 0, 1) := dk_3 (dk_at dksL_law_30 16 rfl rfl)
theorem dL_law_898 : decode cL_law 898 = .ok (.ireturn, 1) := dk_172 (dk_at dksL_law_30 17 rfl rfl)
theorem dL_law_899 : decode cL_law 899 = .ok (.aload_n 1, 1) := dk_43 (dk_at dksL_law_30 18 rfl rfl)
theorem dL_law_900 : decode cL_law 900 = .ok (.invokevirtual 110, 3) := dk_182 0 110 (dk_at dksL_law_30 19 rfl rfl)
theorem dL_law_903 : decode cL_law 903 = .ok (.aload_n 2, 1) := dk_44 (dk_at dksL_law_30 22 rfl rfl)
theorem dL_law_904 : decode cL_law 904 = .ok (.invokevirtual 113, 3) := dk_182 0 113 (dk_at dksL_law_31 0 rfl rfl)
theorem dL_law_907 : decode cL_law 907 = .ok (.if_icmp .eq 647, 3) := dk_159 2 135 (dk_at dksL_law_31 3 rfl rfl)
theorem dL_law_910 : decode cL_law 910 = .ok (.iconst 0, 1) := dk_3 (dk_at dksL_law_31 6 rfl rfl)
theorem dL_law_911 : decode cL_law 911 = .ok (.ireturn, 1) := dk_172 (dk_at dksL_law_31 7 rfl rfl)
theorem dL_law_912 : decode cL_law 912 = .ok (.aload_n 1, 1) := dk_43 (dk_at dksL_law_31 8 rfl rfl)
theorem dL_law_913 : decode cL_law 913 = .ok (.invokevirtual 114, 3) := dk_182 0 114 (dk_at dksL_law_31 9 rfl rfl)
theorem dL_law_916 : decode cL_law 916 = .ok (.aload_n 2, 1) := dk_44 (dk_at dksL_law_31 12 rfl rfl)
theorem dL_law_917 : decode cL_law 917 = .ok (.invokevirtual 117, 3) := dk_182 0 117 (dk_at dksL_law_31 13 rfl rfl)
theorem dL_law_920 : decode cL_law 920 = .ok (.if_icmp .eq 634, 3) := dk_159 2 122 (dk_at dksL_law_31 16 rfl rfl)
theorem dL_law_923 : decode cL_law 923 = .ok (.iconst 0, 1) := dk_3 (dk_at dksL_law_31 19 rfl rfl)
theorem dL_law_924 : decode cL_law 924 = .ok (.ireturn, 1) := dk_172 (dk_at dksL_law_31 20 rfl rfl)
theorem dL_law_925 : decode cL_law 925 = .ok (.aload_n 1, 1) := dk_43 (dk_at dksL_law_31 21 rfl rfl)
theorem dL_law_926 : decode cL_law 926 = .ok (.aload_n 0, 1) := dk_42 (dk_at dksL_law_31 22 rfl rfl)
theorem dL_law_927 : decode cL_law 927 = .ok (.iload_n 3, 1) := dk_29 (dk_at dksL_law_31 23 rfl rfl)
theorem dL_law_928 : decode cL_law 928 = .ok (.iconst 1, 1) := dk_4 (dk_at dksL_law_32 0 rfl rfl)
theorem dL_law_929 : decode cL_law 929 = .ok (.iadd, 1) := dk_96 (dk_at dksL_law_32 1 rfl rfl)
theorem dL_law_930 : decode cL_law 930 = .ok (.iaload, 1) := dk_46 (dk_at dksL_law_32 2 rfl rfl)
theorem dL_law_931 : decode cL_law 931 = .ok (.aload_n 0, 1) := dk_42 (dk_at dksL_law_32 3 rfl rfl)
theorem dL_law_932 : decode cL_law 932 = .ok (.iload_n 3, 1) := dk_29 (dk_at dksL_law_32 4 rfl rfl)
theorem dL_law_933 : decode cL_law 933 = .ok (.iconst 2, 1) := dk_5 (dk_at dksL_law_32 5 rfl rfl)
theorem dL_law_934 : decode cL_law 934 = .ok (.iadd, 1) := dk_96 (dk_at dksL_law_32 6 rfl rfl)
theorem dL_law_935 : decode cL_law 935 = .ok (.iaload, 1) := dk_46 (dk_at dksL_law_32 7 rfl rfl)
theorem dL_law_936 : decode cL_law 936 = .ok (.aload_n 0, 1) := dk_42 (dk_at dksL_law_32 8 rfl rfl)
theorem dL_law_937 : decode cL_law 937 = .ok (.iload_n 3, 1) := dk_29 (dk_at dksL_law_32 9 rfl rfl)
theorem dL_law_938 : decode cL_law 938 = .ok (.iconst 3, 1) := dk_6 (dk_at dksL_law_32 10 rfl rfl)
theorem dL_law_939 : decode cL_law 939 = .ok (.iadd, 1) := dk_96 (dk_at dksL_law_32 11 rfl rfl)
theorem dL_law_940 : decode cL_law 940 = .ok (.iaload, 1) := dk_46 (dk_at dksL_law_32 12 rfl rfl)
theorem dL_law_941 : decode cL_law 941 = .ok (.invokevirtual 118, 3) := dk_182 0 118 (dk_at dksL_law_32 13 rfl rfl)
theorem dL_law_944 : decode cL_law 944 = .ok (.aload_n 2, 1) := dk_44 (dk_at dksL_law_32 16 rfl rfl)
theorem dL_law_945 : decode cL_law 945 = .ok (.aload_n 0, 1) := dk_42 (dk_at dksL_law_32 17 rfl rfl)
theorem dL_law_946 : decode cL_law 946 = .ok (.iload_n 3, 1) := dk_29 (dk_at dksL_law_32 18 rfl rfl)
theorem dL_law_947 : decode cL_law 947 = .ok (.iconst 1, 1) := dk_4 (dk_at dksL_law_32 19 rfl rfl)
theorem dL_law_948 : decode cL_law 948 = .ok (.iadd, 1) := dk_96 (dk_at dksL_law_32 20 rfl rfl)
theorem dL_law_949 : decode cL_law 949 = .ok (.iaload, 1) := dk_46 (dk_at dksL_law_32 21 rfl rfl)
theorem dL_law_950 : decode cL_law 950 = .ok (.aload_n 0, 1) := dk_42 (dk_at dksL_law_32 22 rfl rfl)
theorem dL_law_951 : decode cL_law 951 = .ok (.iload_n 3, 1) := dk_29 (dk_at dksL_law_32 23 rfl rfl)
theorem dL_law_952 : decode cL_law 952 = .ok (.iconst 2, 1) := dk_5 (dk_at dksL_law_33 0 rfl rfl)
theorem dL_law_953 : decode cL_law 953 = .ok (.iadd, 1) := dk_96 (dk_at dksL_law_33 1 rfl rfl)
theorem dL_law_954 : decode cL_law 954 = .ok (.iaload, 1) := dk_46 (dk_at dksL_law_33 2 rfl rfl)
theorem dL_law_955 : decode cL_law 955 = .ok (.aload_n 0, 1) := dk_42 (dk_at dksL_law_33 3 rfl rfl)
theorem dL_law_956 : decode cL_law 956 = .ok (.iload_n 3, 1) := dk_29 (dk_at dksL_law_33 4 rfl rfl)
theorem dL_law_957 : decode cL_law 957 = .ok (.iconst 3, 1) := dk_6 (dk_at dksL_law_33 5 rfl rfl)
theorem dL_law_958 : decode cL_law 958 = .ok (.iadd, 1) := dk_96 (dk_at dksL_law_33 6 rfl rfl)
theorem dL_law_959 : decode cL_law 959 = .ok (.iaload, 1) := dk_46 (dk_at dksL_law_33 7 rfl rfl)
theorem dL_law_960 : decode cL_law 960 = .ok (.invokevirtual 121, 3) := dk_182 0 121 (dk_at dksL_law_33 8 rfl rfl)
theorem dL_law_963 : decode cL_law 963 = .ok (.if_icmp .eq 591, 3) := dk_159 2 79 (dk_at dksL_law_33 11 rfl rfl)
theorem dL_law_966 : decode cL_law 966 = .ok (.iconst 0, 1) := dk_3 (dk_at dksL_law_33 14 rfl rfl)
theorem dL_law_967 : decode cL_law 967 = .ok (.ireturn, 1) := dk_172 (dk_at dksL_law_33 15 rfl rfl)
theorem dL_law_968 : decode cL_law 968 = .ok (.aload_n 1, 1) := dk_43 (dk_at dksL_law_33 16 rfl rfl)
theorem dL_law_969 : decode cL_law 969 = .ok (.aload_n 0, 1) := dk_42 (dk_at dksL_law_33 17 rfl rfl)
theorem dL_law_970 : decode cL_law 970 = .ok (.iload_n 3, 1) := dk_29 (dk_at dksL_law_33 18 rfl rfl)
theorem dL_law_971 : decode cL_law 971 = .ok (.iconst 1, 1) := dk_4 (dk_at dksL_law_33 19 rfl rfl)
theorem dL_law_972 : decode cL_law 972 = .ok (.iadd, 1) := dk_96 (dk_at dksL_law_33 20 rfl rfl)
theorem dL_law_973 : decode cL_law 973 = .ok (.iaload, 1) := dk_46 (dk_at dksL_law_33 21 rfl rfl)
theorem dL_law_974 : decode cL_law 974 = .ok (.aload_n 0, 1) := dk_42 (dk_at dksL_law_33 22 rfl rfl)
theorem dL_law_975 : decode cL_law 975 = .ok (.iload_n 3, 1) := dk_29 (dk_at dksL_law_33 23 rfl rfl)
theorem dL_law_976 : decode cL_law 976 = .ok (.iconst 2, 1) := dk_5 (dk_at dksL_law_34 0 rfl rfl)
theorem dL_law_977 : decode cL_law 977 = .ok (.iadd, 1) := dk_96 (dk_at dksL_law_34 1 rfl rfl)
theorem dL_law_978 : decode cL_law 978 = .ok (.iaload, 1) := dk_46 (dk_at dksL_law_34 2 rfl rfl)
theorem dL_law_979 : decode cL_law 979 = .ok (.aload_n 0, 1) := dk_42 (dk_at dksL_law_34 3 rfl rfl)
theorem dL_law_980 : decode cL_law 980 = .ok (.iload_n 3, 1) := dk_29 (dk_at dksL_law_34 4 rfl rfl)
theorem dL_law_981 : decode cL_law 981 = .ok (.iconst 3, 1) := dk_6 (dk_at dksL_law_34 5 rfl rfl)
theorem dL_law_982 : decode cL_law 982 = .ok (.iadd, 1) := dk_96 (dk_at dksL_law_34 6 rfl rfl)
theorem dL_law_983 : decode cL_law 983 = .ok (.iaload, 1) := dk_46 (dk_at dksL_law_34 7 rfl rfl)
theorem dL_law_984 : decode cL_law 984 = .ok (.aload_n 0, 1) := dk_42 (dk_at dksL_law_34 8 rfl rfl)
theorem dL_law_985 : decode cL_law 985 = .ok (.iload_n 3, 1) := dk_29 (dk_at dksL_law_34 9 rfl rfl)
theorem dL_law_986 : decode cL_law 986 = .ok (.iconst 4, 1) := dk_7 (dk_at dksL_law_34 10 rfl rfl)
theorem dL_law_987 : decode cL_law 987 = .ok (.iadd, 1) := dk_96 (dk_at dksL_law_34 11 rfl rfl)
theorem dL_law_988 : decode cL_law 988 = .ok (.iaload, 1) := dk_46 (dk_at dksL_law_34 12 rfl rfl)
theorem dL_law_989 : decode cL_law 989 = .ok (.invokevirtual 122, 3) := dk_182 0 122 (dk_at dksL_law_34 13 rfl rfl)
theorem dL_law_992 : decode cL_law 992 = .ok (.aload_n 2, 1) := dk_44 (dk_at dksL_law_34 16 rfl rfl)
theorem dL_law_993 : decode cL_law 993 = .ok (.aload_n 0, 1) := dk_42 (dk_at dksL_law_34 17 rfl rfl)
theorem dL_law_994 : decode cL_law 994 = .ok (.iload_n 3, 1) := dk_29 (dk_at dksL_law_34 18 rfl rfl)
theorem dL_law_995 : decode cL_law 995 = .ok (.iconst 1, 1) := dk_4 (dk_at dksL_law_34 19 rfl rfl)
theorem dL_law_996 : decode cL_law 996 = .ok (.iadd, 1) := dk_96 (dk_at dksL_law_34 20 rfl rfl)
theorem dL_law_997 : decode cL_law 997 = .ok (.iaload, 1) := dk_46 (dk_at dksL_law_34 21 rfl rfl)
theorem dL_law_998 : decode cL_law 998 = .ok (.aload_n 0, 1) := dk_42 (dk_at dksL_law_34 22 rfl rfl)
theorem dL_law_999 : decode cL_law 999 = .ok (.iload_n 3, 1) := dk_29 (dk_at dksL_law_34 23 rfl rfl)
theorem dL_law_1000 : decode cL_law 1000 = .ok (.iconst 2, 1) := dk_5 (dk_at dksL_law_35 0 rfl rfl)
theorem dL_law_1001 : decode cL_law 1001 = .ok (.iadd, 1) := dk_96 (dk_at dksL_law_35 1 rfl rfl)
theorem dL_law_1002 : decode cL_law 1002 = .ok (.iaload, 1) := dk_46 (dk_at dksL_law_35 2 rfl rfl)
theorem dL_law_1003 : decode cL_law 1003 = .ok (.aload_n 0, 1) := dk_42 (dk_at dksL_law_35 3 rfl rfl)
theorem dL_law_1004 : decode cL_law 1004 = .ok (.iload_n 3, 1) := dk_29 (dk_at dksL_law_35 4 rfl rfl)
theorem dL_law_1005 : decode cL_law 1005 = .ok (.iconst 3, 1) := dk_6 (dk_at dksL_law_35 5 rfl rfl)
theorem dL_law_1006 : decode cL_law 1006 = .ok (.iadd, 1) := dk_96 (dk_at dksL_law_35 6 rfl rfl)
theorem dL_law_1007 : decode cL_law 1007 = .ok (.iaload, 1) := dk_46 (dk_at dksL_law_35 7 rfl rfl)
theorem dL_law_1008 : decode cL_law 1008 = .ok (.aload_n 0, 1) := dk_42 (dk_at dksL_law_35 8 rfl rfl)
theorem dL_law_1009 : decode cL_law 1009 = .ok (.iload_n 3, 1) := dk_29 (dk_at dksL_law_35 9 rfl rfl)
theorem dL_law_1010 : decode cL_law 1010 = .ok (.iconst 4, 1) := dk_7 (dk_at dksL_law_35 10 rfl rfl)
theorem dL_law_1011 : decode cL_law 1011 = .ok (.iadd, 1) := dk_96 (dk_at dksL_law_35 11 rfl rfl)
theorem dL_law_1012 : decode cL_law 1012 = .ok (.iaload, 1) := dk_46 (dk_at dksL_law_35 12 rfl rfl)
theorem dL_law_1013 : decode cL_law 1013 = .ok (.invokevirtual 126, 3) := dk_182 0 126 (dk_at dksL_law_35 13 rfl rfl)
theorem dL_law_1016 : decode cL_law 1016 = .ok (.if_icmp .eq 538, 3) := dk_159 2 26 (dk_at dksL_law_35 16 rfl rfl)
theorem dL_law_1019 : decode cL_law 1019 = .ok (.iconst 0, 1) := dk_3 (dk_at dksL_law_35 19 rfl rfl)
theorem dL_law_1020 : decode cL_law 1020 = .ok (.ireturn, 1) := dk_172 (dk_at dksL_law_35 20 rfl rfl)
theorem dL_law_1021 : decode cL_law 1021 = .ok (.aload_n 1, 1) := dk_43 (dk_at dksL_law_35 21 rfl rfl)
theorem dL_law_1022 : decode cL_law 1022 = .ok (.invokevirtual 127, 3) := dk_182 0 127 (dk_at dksL_law_36 0 rfl rfl)
theorem dL_law_1025 : decode cL_law 1025 = .ok (.aload_n 2, 1) := dk_44 (dk_at dksL_law_36 3 rfl rfl)
theorem dL_law_1026 : decode cL_law 1026 = .ok (.invokevirtual 130, 3) := dk_182 0 130 (dk_at dksL_law_36 4 rfl rfl)
theorem dL_law_1029 : decode cL_law 1029 = .ok (.if_icmp .eq 525, 3) := dk_159 2 13 (dk_at dksL_law_36 7 rfl rfl)
theorem dL_law_1032 : decode cL_law 1032 = .ok (.iconst 0, 1) := dk_3 (dk_at dksL_law_36 10 rfl rfl)
theorem dL_law_1033 : decode cL_law 1033 = .ok (.ireturn, 1) := dk_172 (dk_at dksL_law_36 11 rfl rfl)
theorem dL_law_1034 : decode cL_law 1034 = .ok (.aload_n 1, 1) := dk_43 (dk_at dksL_law_36 12 rfl rfl)
theorem dL_law_1035 : decode cL_law 1035 = .ok (.aload_n 0, 1) := dk_42 (dk_at dksL_law_36 13 rfl rfl)
theorem dL_law_1036 : decode cL_law 1036 = .ok (.iload_n 3, 1) := dk_29 (dk_at dksL_law_36 14 rfl rfl)
theorem dL_law_1037 : decode cL_law 1037 = .ok (.iconst 1, 1) := dk_4 (dk_at dksL_law_36 15 rfl rfl)
theorem dL_law_1038 : decode cL_law 1038 = .ok (.iadd, 1) := dk_96 (dk_at dksL_law_36 16 rfl rfl)
theorem dL_law_1039 : decode cL_law 1039 = .ok (.iaload, 1) := dk_46 (dk_at dksL_law_36 17 rfl rfl)
theorem dL_law_1040 : decode cL_law 1040 = .ok (.invokevirtual 131, 3) := dk_182 0 131 (dk_at dksL_law_36 18 rfl rfl)
theorem dL_law_1043 : decode cL_law 1043 = .ok (.aload_n 2, 1) := dk_44 (dk_at dksL_law_36 21 rfl rfl)
theorem dL_law_1044 : decode cL_law 1044 = .ok (.aload_n 0, 1) := dk_42 (dk_at dksL_law_36 22 rfl rfl)
theorem dL_law_1045 : decode cL_law 1045 = .ok (.iload_n 3, 1) := dk_29 (dk_at dksL_law_36 23 rfl rfl)
theorem dL_law_1046 : decode cL_law 1046 = .ok (.iconst 1, 1) := dk_4 (dk_at dksL_law_37 0 rfl rfl)
theorem dL_law_1047 : decode cL_law 1047 = .ok (.iadd, 1) := dk_96 (dk_at dksL_law_37 1 rfl rfl)
theorem dL_law_1048 : decode cL_law 1048 = .ok (.iaload, 1) := dk_46 (dk_at dksL_law_37 2 rfl rfl)
theorem dL_law_1049 : decode cL_law 1049 = .ok (.invokevirtual 134, 3) := dk_182 0 134 (dk_at dksL_law_37 3 rfl rfl)
theorem dL_law_1052 : decode cL_law 1052 = .ok (.if_icmp .eq 502, 3) := dk_159 1 246 (dk_at dksL_law_37 6 rfl rfl)
theorem dL_law_1055 : decode cL_law 1055 = .ok (.iconst 0, 1) := dk_3 (dk_at dksL_law_37 9 rfl rfl)
theorem dL_law_1056 : decode cL_law 1056 = .ok (.ireturn, 1) := dk_172 (dk_at dksL_law_37 10 rfl rfl)
theorem dL_law_1057 : decode cL_law 1057 = .ok (.aload_n 1, 1) := dk_43 (dk_at dksL_law_37 11 rfl rfl)
theorem dL_law_1058 : decode cL_law 1058 = .ok (.aload_n 0, 1) := dk_42 (dk_at dksL_law_37 12 rfl rfl)
theorem dL_law_1059 : decode cL_law 1059 = .ok (.iload_n 3, 1) := dk_29 (dk_at dksL_law_37 13 rfl rfl)
theorem dL_law_1060 : decode cL_law 1060 = .ok (.iconst 1, 1) := dk_4 (dk_at dksL_law_37 14 rfl rfl)
theorem dL_law_1061 : decode cL_law 1061 = .ok (.iadd, 1) := dk_96 (dk_at dksL_law_37 15 rfl rfl)
theorem dL_law_1062 : decode cL_law 1062 = .ok (.iaload, 1) := dk_46 (dk_at dksL_law_37 16 rfl rfl)
theorem dL_law_1063 : decode cL_law 1063 = .ok (.invokevirtual 135, 3) := dk_182 0 135 (dk_at dksL_law_37 17 rfl rfl)
theorem dL_law_1066 : decode cL_law 1066 = .ok (.aload_n 2, 1) := dk_44 (dk_at dksL_law_37 20 rfl rfl)
theorem dL_law_1067 : decode cL_law 1067 = .ok (.aload_n 0, 1) := dk_42 (dk_at dksL_law_37 21 rfl rfl)
theorem dL_law_1068 : decode cL_law 1068 = .ok (.iload_n 3, 1) := dk_29 (dk_at dksL_law_37 22 rfl rfl)
theorem dL_law_1069 : decode cL_law 1069 = .ok (.iconst 1, 1) := dk_4 (dk_at dksL_law_37 23 rfl rfl)
theorem dL_law_1070 : decode cL_law 1070 = .ok (.iadd, 1) := dk_96 (dk_at dksL_law_38 0 rfl rfl)
theorem dL_law_1071 : decode cL_law 1071 = .ok (.iaload, 1) := dk_46 (dk_at dksL_law_38 1 rfl rfl)
theorem dL_law_1072 : decode cL_law 1072 = .ok (.invokevirtual 138, 3) := dk_182 0 138 (dk_at dksL_law_38 2 rfl rfl)
theorem dL_law_1075 : decode cL_law 1075 = .ok (.if_icmp .eq 479, 3) := dk_159 1 223 (dk_at dksL_law_38 5 rfl rfl)
theorem dL_law_1078 : decode cL_law 1078 = .ok (.iconst 0, 1) := dk_3 (dk_at dksL_law_38 8 rfl rfl)
theorem dL_law_1079 : decode cL_law 1079 = .ok (.ireturn, 1) := dk_172 (dk_at dksL_law_38 9 rfl rfl)
theorem dL_law_1080 : decode cL_law 1080 = .ok (.aload_n 1, 1) := dk_43 (dk_at dksL_law_38 10 rfl rfl)
theorem dL_law_1081 : decode cL_law 1081 = .ok (.aload_n 0, 1) := dk_42 (dk_at dksL_law_38 11 rfl rfl)
theorem dL_law_1082 : decode cL_law 1082 = .ok (.iload_n 3, 1) := dk_29 (dk_at dksL_law_38 12 rfl rfl)
theorem dL_law_1083 : decode cL_law 1083 = .ok (.iconst 1, 1) := dk_4 (dk_at dksL_law_38 13 rfl rfl)
theorem dL_law_1084 : decode cL_law 1084 = .ok (.iadd, 1) := dk_96 (dk_at dksL_law_38 14 rfl rfl)
theorem dL_law_1085 : decode cL_law 1085 = .ok (.iaload, 1) := dk_46 (dk_at dksL_law_38 15 rfl rfl)
theorem dL_law_1086 : decode cL_law 1086 = .ok (.aload_n 0, 1) := dk_42 (dk_at dksL_law_38 16 rfl rfl)
theorem dL_law_1087 : decode cL_law 1087 = .ok (.iload_n 3, 1) := dk_29 (dk_at dksL_law_38 17 rfl rfl)
theorem dL_law_1088 : decode cL_law 1088 = .ok (.iconst 2, 1) := dk_5 (dk_at dksL_law_38 18 rfl rfl)
theorem dL_law_1089 : decode cL_law 1089 = .ok (.iadd, 1) := dk_96 (dk_at dksL_law_38 19 rfl rfl)
theorem dL_law_1090 : decode cL_law 1090 = .ok (.iaload, 1) := dk_46 (dk_at dksL_law_38 20 rfl rfl)
theorem dL_law_1091 : decode cL_law 1091 = .ok (.aload_n 0, 1) := dk_42 (dk_at dksL_law_38 21 rfl rfl)
theorem dL_law_1092 : decode cL_law 1092 = .ok (.iload_n 3, 1) := dk_29 (dk_at dksL_law_38 22 rfl rfl)
theorem dL_law_1093 : decode cL_law 1093 = .ok (.iconst 3, 1) := dk_6 (dk_at dksL_law_38 23 rfl rfl)
theorem dL_law_1094 : decode cL_law 1094 = .ok (.iadd, 1) := dk_96 (dk_at dksL_law_39 0 rfl rfl)
theorem dL_law_1095 : decode cL_law 1095 = .ok (.iaload, 1) := dk_46 (dk_at dksL_law_39 1 rfl rfl)
theorem dL_law_1096 : decode cL_law 1096 = .ok (.aload_n 0, 1) := dk_42 (dk_at dksL_law_39 2 rfl rfl)
theorem dL_law_1097 : decode cL_law 1097 = .ok (.iload_n 3, 1) := dk_29 (dk_at dksL_law_39 3 rfl rfl)
theorem dL_law_1098 : decode cL_law 1098 = .ok (.iconst 4, 1) := dk_7 (dk_at dksL_law_39 4 rfl rfl)
theorem dL_law_1099 : decode cL_law 1099 = .ok (.iadd, 1) := dk_96 (dk_at dksL_law_39 5 rfl rfl)
theorem dL_law_1100 : decode cL_law 1100 = .ok (.iaload, 1) := dk_46 (dk_at dksL_law_39 6 rfl rfl)
theorem dL_law_1101 : decode cL_law 1101 = .ok (.invokevirtual 139, 3) := dk_182 0 139 (dk_at dksL_law_39 7 rfl rfl)
theorem dL_law_1104 : decode cL_law 1104 = .ok (.aload_n 2, 1) := dk_44 (dk_at dksL_law_39 10 rfl rfl)
theorem dL_law_1105 : decode cL_law 1105 = .ok (.aload_n 0, 1) := dk_42 (dk_at dksL_law_39 11 rfl rfl)
theorem dL_law_1106 : decode cL_law 1106 = .ok (.iload_n 3, 1) := dk_29 (dk_at dksL_law_39 12 rfl rfl)
theorem dL_law_1107 : decode cL_law 1107 = .ok (.iconst 1, 1) := dk_4 (dk_at dksL_law_39 13 rfl rfl)
theorem dL_law_1108 : decode cL_law 1108 = .ok (.iadd, 1) := dk_96 (dk_at dksL_law_39 14 rfl rfl)
theorem dL_law_1109 : decode cL_law 1109 = .ok (.iaload, 1) := dk_46 (dk_at dksL_law_39 15 rfl rfl)
theorem dL_law_1110 : decode cL_law 1110 = .ok (.aload_n 0, 1) := dk_42 (dk_at dksL_law_39 16 rfl rfl)
theorem dL_law_1111 : decode cL_law 1111 = .ok (.iload_n 3, 1) := dk_29 (dk_at dksL_law_39 17 rfl rfl)
theorem dL_law_1112 : decode cL_law 1112 = .ok (.iconst 2, 1) := dk_5 (dk_at dksL_law_39 18 rfl rfl)
theorem dL_law_1113 : decode cL_law 1113 = .ok (.iadd, 1) := dk_96 (dk_at dksL_law_39 19 rfl rfl)
theorem dL_law_1114 : decode cL_law 1114 = .ok (.iaload, 1) := dk_46 (dk_at dksL_law_39 20 rfl rfl)
theorem dL_law_1115 : decode cL_law 1115 = .ok (.aload_n 0, 1) := dk_42 (dk_at dksL_law_39 21 rfl rfl)
theorem dL_law_1116 : decode cL_law 1116 = .ok (.iload_n 3, 1) := dk_29 (dk_at dksL_law_39 22 rfl rfl)
theorem dL_law_1117 : decode cL_law 1117 = .ok (.iconst 3, 1) := dk_6 (dk_at dksL_law_39 23 rfl rfl)
theorem dL_law_1118 : decode cL_law 1118 = .ok (.iadd, 1) := dk_96 (dk_at dksL_law_40 0 rfl rfl)
theorem dL_law_1119 : decode cL_law 1119 = .ok (.iaload, 1) := dk_46 (dk_at dksL_law_40 1 rfl rfl)
theorem dL_law_1120 : decode cL_law 1120 = .ok (.aload_n 0, 1) := dk_42 (dk_at dksL_law_40 2 rfl rfl)
theorem dL_law_1121 : decode cL_law 1121 = .ok (.iload_n 3, 1) := dk_29 (dk_at dksL_law_40 3 rfl rfl)
theorem dL_law_1122 : decode cL_law 1122 = .ok (.iconst 4, 1) := dk_7 (dk_at dksL_law_40 4 rfl rfl)
theorem dL_law_1123 : decode cL_law 1123 = .ok (.iadd, 1) := dk_96 (dk_at dksL_law_40 5 rfl rfl)
theorem dL_law_1124 : decode cL_law 1124 = .ok (.iaload, 1) := dk_46 (dk_at dksL_law_40 6 rfl rfl)
theorem dL_law_1125 : decode cL_law 1125 = .ok (.invokevirtual 142, 3) := dk_182 0 142 (dk_at dksL_law_40 7 rfl rfl)
theorem dL_law_1128 : decode cL_law 1128 = .ok (.if_icmp .eq 426, 3) := dk_159 1 170 (dk_at dksL_law_40 10 rfl rfl)
theorem dL_law_1131 : decode cL_law 1131 = .ok (.iconst 0, 1) := dk_3 (dk_at dksL_law_40 13 rfl rfl)
theorem dL_law_1132 : decode cL_law 1132 = .ok (.ireturn, 1) := dk_172 (dk_at dksL_law_40 14 rfl rfl)
theorem dL_law_1133 : decode cL_law 1133 = .ok (.aload_n 1, 1) := dk_43 (dk_at dksL_law_40 15 rfl rfl)
theorem dL_law_1134 : decode cL_law 1134 = .ok (.aload_n 0, 1) := dk_42 (dk_at dksL_law_40 16 rfl rfl)
theorem dL_law_1135 : decode cL_law 1135 = .ok (.iload_n 3, 1) := dk_29 (dk_at dksL_law_40 17 rfl rfl)
theorem dL_law_1136 : decode cL_law 1136 = .ok (.iconst 1, 1) := dk_4 (dk_at dksL_law_40 18 rfl rfl)
theorem dL_law_1137 : decode cL_law 1137 = .ok (.iadd, 1) := dk_96 (dk_at dksL_law_40 19 rfl rfl)
theorem dL_law_1138 : decode cL_law 1138 = .ok (.iaload, 1) := dk_46 (dk_at dksL_law_40 20 rfl rfl)
theorem dL_law_1139 : decode cL_law 1139 = .ok (.aload_n 0, 1) := dk_42 (dk_at dksL_law_40 21 rfl rfl)
theorem dL_law_1140 : decode cL_law 1140 = .ok (.iload_n 3, 1) := dk_29 (dk_at dksL_law_40 22 rfl rfl)
theorem dL_law_1141 : decode cL_law 1141 = .ok (.iconst 2, 1) := dk_5 (dk_at dksL_law_40 23 rfl rfl)
theorem dL_law_1142 : decode cL_law 1142 = .ok (.iadd, 1) := dk_96 (dk_at dksL_law_41 0 rfl rfl)
theorem dL_law_1143 : decode cL_law 1143 = .ok (.iaload, 1) := dk_46 (dk_at dksL_law_41 1 rfl rfl)
theorem dL_law_1144 : decode cL_law 1144 = .ok (.aload_n 0, 1) := dk_42 (dk_at dksL_law_41 2 rfl rfl)
theorem dL_law_1145 : decode cL_law 1145 = .ok (.iload_n 3, 1) := dk_29 (dk_at dksL_law_41 3 rfl rfl)
theorem dL_law_1146 : decode cL_law 1146 = .ok (.iconst 3, 1) := dk_6 (dk_at dksL_law_41 4 rfl rfl)
theorem dL_law_1147 : decode cL_law 1147 = .ok (.iadd, 1) := dk_96 (dk_at dksL_law_41 5 rfl rfl)
theorem dL_law_1148 : decode cL_law 1148 = .ok (.iaload, 1) := dk_46 (dk_at dksL_law_41 6 rfl rfl)
theorem dL_law_1149 : decode cL_law 1149 = .ok (.invokevirtual 143, 3) := dk_182 0 143 (dk_at dksL_law_41 7 rfl rfl)
theorem dL_law_1152 : decode cL_law 1152 = .ok (.aload_n 2, 1) := dk_44 (dk_at dksL_law_41 10 rfl rfl)
theorem dL_law_1153 : decode cL_law 1153 = .ok (.aload_n 0, 1) := dk_42 (dk_at dksL_law_41 11 rfl rfl)
theorem dL_law_1154 : decode cL_law 1154 = .ok (.iload_n 3, 1) := dk_29 (dk_at dksL_law_41 12 rfl rfl)
theorem dL_law_1155 : decode cL_law 1155 = .ok (.iconst 1, 1) := dk_4 (dk_at dksL_law_41 13 rfl rfl)
theorem dL_law_1156 : decode cL_law 1156 = .ok (.iadd, 1) := dk_96 (dk_at dksL_law_41 14 rfl rfl)
theorem dL_law_1157 : decode cL_law 1157 = .ok (.iaload, 1) := dk_46 (dk_at dksL_law_41 15 rfl rfl)
theorem dL_law_1158 : decode cL_law 1158 = .ok (.aload_n 0, 1) := dk_42 (dk_at dksL_law_41 16 rfl rfl)
theorem dL_law_1159 : decode cL_law 1159 = .ok (.iload_n 3, 1) := dk_29 (dk_at dksL_law_41 17 rfl rfl)
theorem dL_law_1160 : decode cL_law 1160 = .ok (.iconst 2, 1) := dk_5 (dk_at dksL_law_41 18 rfl rfl)
theorem dL_law_1161 : decode cL_law 1161 = .ok (.iadd, 1) := dk_96 (dk_at dksL_law_41 19 rfl rfl)
theorem dL_law_1162 : decode cL_law 1162 = .ok (.iaload, 1) := dk_46 (dk_at dksL_law_41 20 rfl rfl)
theorem dL_law_1163 : decode cL_law 1163 = .ok (.aload_n 0, 1) := dk_42 (dk_at dksL_law_41 21 rfl rfl)
theorem dL_law_1164 : decode cL_law 1164 = .ok (.iload_n 3, 1) := dk_29 (dk_at dksL_law_41 22 rfl rfl)
theorem dL_law_1165 : decode cL_law 1165 = .ok (.iconst 3, 1) := dk_6 (dk_at dksL_law_41 23 rfl rfl)
theorem dL_law_1166 : decode cL_law 1166 = .ok (.iadd, 1) := dk_96 (dk_at dksL_law_42 0 rfl rfl)
theorem dL_law_1167 : decode cL_law 1167 = .ok (.iaload, 1) := dk_46 (dk_at dksL_law_42 1 rfl rfl)
theorem dL_law_1168 : decode cL_law 1168 = .ok (.invokevirtual 146, 3) := dk_182 0 146 (dk_at dksL_law_42 2 rfl rfl)
theorem dL_law_1171 : decode cL_law 1171 = .ok (.if_icmp .eq 383, 3) := dk_159 1 127 (dk_at dksL_law_42 5 rfl rfl)
theorem dL_law_1174 : decode cL_law 1174 = .ok (.iconst 0, 1) := dk_3 (dk_at dksL_law_42 8 rfl rfl)
theorem dL_law_1175 : decode cL_law 1175 = .ok (.ireturn, 1) := dk_172 (dk_at dksL_law_42 9 rfl rfl)
theorem dL_law_1176 : decode cL_law 1176 = .ok (.aload_n 1, 1) := dk_43 (dk_at dksL_law_42 10 rfl rfl)
theorem dL_law_1177 : decode cL_law 1177 = .ok (.aload_n 0, 1) := dk_42 (dk_at dksL_law_42 11 rfl rfl)
theorem dL_law_1178 : decode cL_law 1178 = .ok (.iload_n 3, 1) := dk_29 (dk_at dksL_law_42 12 rfl rfl)
theorem dL_law_1179 : decode cL_law 1179 = .ok (.iconst 1, 1) := dk_4 (dk_at dksL_law_42 13 rfl rfl)
theorem dL_law_1180 : decode cL_law 1180 = .ok (.iadd, 1) := dk_96 (dk_at dksL_law_42 14 rfl rfl)
theorem dL_law_1181 : decode cL_law 1181 = .ok (.iaload, 1) := dk_46 (dk_at dksL_law_42 15 rfl rfl)
theorem dL_law_1182 : decode cL_law 1182 = .ok (.invokevirtual 147, 3) := dk_182 0 147 (dk_at dksL_law_42 16 rfl rfl)
theorem dL_law_1185 : decode cL_law 1185 = .ok (.aload_n 2, 1) := dk_44 (dk_at dksL_law_42 19 rfl rfl)
theorem dL_law_1186 : decode cL_law 1186 = .ok (.aload_n 0, 1) := dk_42 (dk_at dksL_law_42 20 rfl rfl)
theorem dL_law_1187 : decode cL_law 1187 = .ok (.iload_n 3, 1) := dk_29 (dk_at dksL_law_42 21 rfl rfl)
theorem dL_law_1188 : decode cL_law 1188 = .ok (.iconst 1, 1) := dk_4 (dk_at dksL_law_42 22 rfl rfl)
theorem dL_law_1189 : decode cL_law 1189 = .ok (.iadd, 1) := dk_96 (dk_at dksL_law_42 23 rfl rfl)
theorem dL_law_1190 : decode cL_law 1190 = .ok (.iaload, 1) := dk_46 (dk_at dksL_law_43 0 rfl rfl)
theorem dL_law_1191 : decode cL_law 1191 = .ok (.invokevirtual 150, 3) := dk_182 0 150 (dk_at dksL_law_43 1 rfl rfl)
theorem dL_law_1194 : decode cL_law 1194 = .ok (.if_icmp .eq 360, 3) := dk_159 1 104 (dk_at dksL_law_43 4 rfl rfl)
theorem dL_law_1197 : decode cL_law 1197 = .ok (.iconst 0, 1) := dk_3 (dk_at dksL_law_43 7 rfl rfl)
theorem dL_law_1198 : decode cL_law 1198 = .ok (.ireturn, 1) := dk_172 (dk_at dksL_law_43 8 rfl rfl)
theorem dL_law_1199 : decode cL_law 1199 = .ok (.aload_n 1, 1) := dk_43 (dk_at dksL_law_43 9 rfl rfl)
theorem dL_law_1200 : decode cL_law 1200 = .ok (.aload_n 0, 1) := dk_42 (dk_at dksL_law_43 10 rfl rfl)
theorem dL_law_1201 : decode cL_law 1201 = .ok (.iload_n 3, 1) := dk_29 (dk_at dksL_law_43 11 rfl rfl)
theorem dL_law_1202 : decode cL_law 1202 = .ok (.iconst 1, 1) := dk_4 (dk_at dksL_law_43 12 rfl rfl)
theorem dL_law_1203 : decode cL_law 1203 = .ok (.iadd, 1) := dk_96 (dk_at dksL_law_43 13 rfl rfl)
theorem dL_law_1204 : decode cL_law 1204 = .ok (.iaload, 1) := dk_46 (dk_at dksL_law_43 14 rfl rfl)
theorem dL_law_1205 : decode cL_law 1205 = .ok (.invokevirtual 151, 3) := dk_182 0 151 (dk_at dksL_law_43 15 rfl rfl)
theorem dL_law_1208 : decode cL_law 1208 = .ok (.aload_n 2, 1) := dk_44 (dk_at dksL_law_43 18 rfl rfl)
theorem dL_law_1209 : decode cL_law 1209 = .ok (.aload_n 0, 1) := dk_42 (dk_at dksL_law_43 19 rfl rfl)
theorem dL_law_1210 : decode cL_law 1210 = .ok (.iload_n 3, 1) := dk_29 (dk_at dksL_law_43 20 rfl rfl)
theorem dL_law_1211 : decode cL_law 1211 = .ok (.iconst 1, 1) := dk_4 (dk_at dksL_law_43 21 rfl rfl)
theorem dL_law_1212 : decode cL_law 1212 = .ok (.iadd, 1) := dk_96 (dk_at dksL_law_43 22 rfl rfl)
theorem dL_law_1213 : decode cL_law 1213 = .ok (.iaload, 1) := dk_46 (dk_at dksL_law_43 23 rfl rfl)
theorem dL_law_1214 : decode cL_law 1214 = .ok (.invokevirtual 154, 3) := dk_182 0 154 (dk_at dksL_law_44 0 rfl rfl)
theorem dL_law_1217 : decode cL_law 1217 = .ok (.if_icmp .eq 337, 3) := dk_159 1 81 (dk_at dksL_law_44 3 rfl rfl)
theorem dL_law_1220 : decode cL_law 1220 = .ok (.iconst 0, 1) := dk_3 (dk_at dksL_law_44 6 rfl rfl)
theorem dL_law_1221 : decode cL_law 1221 = .ok (.ireturn, 1) := dk_172 (dk_at dksL_law_44 7 rfl rfl)
theorem dL_law_1222 : decode cL_law 1222 = .ok (.aload_n 1, 1) := dk_43 (dk_at dksL_law_44 8 rfl rfl)
theorem dL_law_1223 : decode cL_law 1223 = .ok (.aload_n 0, 1) := dk_42 (dk_at dksL_law_44 9 rfl rfl)
theorem dL_law_1224 : decode cL_law 1224 = .ok (.iload_n 3, 1) := dk_29 (dk_at dksL_law_44 10 rfl rfl)
theorem dL_law_1225 : decode cL_law 1225 = .ok (.iconst 1, 1) := dk_4 (dk_at dksL_law_44 11 rfl rfl)
theorem dL_law_1226 : decode cL_law 1226 = .ok (.iadd, 1) := dk_96 (dk_at dksL_law_44 12 rfl rfl)
theorem dL_law_1227 : decode cL_law 1227 = .ok (.iaload, 1) := dk_46 (dk_at dksL_law_44 13 rfl rfl)
theorem dL_law_1228 : decode cL_law 1228 = .ok (.invokevirtual 155, 3) := dk_182 0 155 (dk_at dksL_law_44 14 rfl rfl)
theorem dL_law_1231 : decode cL_law 1231 = .ok (.aload_n 2, 1) := dk_44 (dk_at dksL_law_44 17 rfl rfl)
theorem dL_law_1232 : decode cL_law 1232 = .ok (.aload_n 0, 1) := dk_42 (dk_at dksL_law_44 18 rfl rfl)
theorem dL_law_1233 : decode cL_law 1233 = .ok (.iload_n 3, 1) := dk_29 (dk_at dksL_law_44 19 rfl rfl)
theorem dL_law_1234 : decode cL_law 1234 = .ok (.iconst 1, 1) := dk_4 (dk_at dksL_law_44 20 rfl rfl)
theorem dL_law_1235 : decode cL_law 1235 = .ok (.iadd, 1) := dk_96 (dk_at dksL_law_44 21 rfl rfl)
theorem dL_law_1236 : decode cL_law 1236 = .ok (.iaload, 1) := dk_46 (dk_at dksL_law_44 22 rfl rfl)
theorem dL_law_1237 : decode cL_law 1237 = .ok (.invokevirtual 158, 3) := dk_182 0 158 (dk_at dksL_law_45 0 rfl rfl)
theorem dL_law_1240 : decode cL_law 1240 = .ok (.if_icmp .eq 314, 3) := dk_159 1 58 (dk_at dksL_law_45 3 rfl rfl)
theorem dL_law_1243 : decode cL_law 1243 = .ok (.iconst 0, 1) := dk_3 (dk_at dksL_law_45 6 rfl rfl)
theorem dL_law_1244 : decode cL_law 1244 = .ok (.ireturn, 1) := dk_172 (dk_at dksL_law_45 7 rfl rfl)
theorem dL_law_1245 : decode cL_law 1245 = .ok (.aload_n 1, 1) := dk_43 (dk_at dksL_law_45 8 rfl rfl)
theorem dL_law_1246 : decode cL_law 1246 = .ok (.aload_n 0, 1) := dk_42 (dk_at dksL_law_45 9 rfl rfl)
theorem dL_law_1247 : decode cL_law 1247 = .ok (.iload_n 3, 1) := dk_29 (dk_at dksL_law_45 10 rfl rfl)
theorem dL_law_1248 : decode cL_law 1248 = .ok (.iconst 1, 1) := dk_4 (dk_at dksL_law_45 11 rfl rfl)
theorem dL_law_1249 : decode cL_law 1249 = .ok (.iadd, 1) := dk_96 (dk_at dksL_law_45 12 rfl rfl)
theorem dL_law_1250 : decode cL_law 1250 = .ok (.iaload, 1) := dk_46 (dk_at dksL_law_45 13 rfl rfl)
theorem dL_law_1251 : decode cL_law 1251 = .ok (.invokevirtual 159, 3) := dk_182 0 159 (dk_at dksL_law_45 14 rfl rfl)
theorem dL_law_1254 : decode cL_law 1254 = .ok (.aload_n 2, 1) := dk_44 (dk_at dksL_law_45 17 rfl rfl)
theorem dL_law_1255 : decode cL_law 1255 = .ok (.aload_n 0, 1) := dk_42 (dk_at dksL_law_45 18 rfl rfl)
theorem dL_law_1256 : decode cL_law 1256 = .ok (.iload_n 3, 1) := dk_29 (dk_at dksL_law_45 19 rfl rfl)
theorem dL_law_1257 : decode cL_law 1257 = .ok (.iconst 1, 1) := dk_4 (dk_at dksL_law_45 20 rfl rfl)
theorem dL_law_1258 : decode cL_law 1258 = .ok (.iadd, 1) := dk_96 (dk_at dksL_law_45 21 rfl rfl)
theorem dL_law_1259 : decode cL_law 1259 = .ok (.iaload, 1) := dk_46 (dk_at dksL_law_45 22 rfl rfl)
theorem dL_law_1260 : decode cL_law 1260 = .ok (.invokevirtual 162, 3) := dk_182 0 162 (dk_at dksL_law_46 0 rfl rfl)
theorem dL_law_1263 : decode cL_law 1263 = .ok (.if_icmp .eq 291, 3) := dk_159 1 35 (dk_at dksL_law_46 3 rfl rfl)
theorem dL_law_1266 : decode cL_law 1266 = .ok (.iconst 0, 1) := dk_3 (dk_at dksL_law_46 6 rfl rfl)
theorem dL_law_1267 : decode cL_law 1267 = .ok (.ireturn, 1) := dk_172 (dk_at dksL_law_46 7 rfl rfl)
theorem dL_law_1268 : decode cL_law 1268 = .ok (.aload_n 1, 1) := dk_43 (dk_at dksL_law_46 8 rfl rfl)
theorem dL_law_1269 : decode cL_law 1269 = .ok (.aload_n 0, 1) := dk_42 (dk_at dksL_law_46 9 rfl rfl)
theorem dL_law_1270 : decode cL_law 1270 = .ok (.iload_n 3, 1) := dk_29 (dk_at dksL_law_46 10 rfl rfl)
theorem dL_law_1271 : decode cL_law 1271 = .ok (.iconst 1, 1) := dk_4 (dk_at dksL_law_46 11 rfl rfl)
theorem dL_law_1272 : decode cL_law 1272 = .ok (.iadd, 1) := dk_96 (dk_at dksL_law_46 12 rfl rfl)
theorem dL_law_1273 : decode cL_law 1273 = .ok (.iaload, 1) := dk_46 (dk_at dksL_law_46 13 rfl rfl)
theorem dL_law_1274 : decode cL_law 1274 = .ok (.invokevirtual 163, 3) := dk_182 0 163 (dk_at dksL_law_46 14 rfl rfl)
theorem dL_law_1277 : decode cL_law 1277 = .ok (.aload_n 2, 1) := dk_44 (dk_at dksL_law_46 17 rfl rfl)
theorem dL_law_1278 : decode cL_law 1278 = .ok (.aload_n 0, 1) := dk_42 (dk_at dksL_law_46 18 rfl rfl)
theorem dL_law_1279 : decode cL_law 1279 = .ok (.iload_n 3, 1) := dk_29 (dk_at dksL_law_46 19 rfl rfl)
theorem dL_law_1280 : decode cL_law 1280 = .ok (.iconst 1, 1) := dk_4 (dk_at dksL_law_46 20 rfl rfl)
theorem dL_law_1281 : decode cL_law 1281 = .ok (.iadd, 1) := dk_96 (dk_at dksL_law_46 21 rfl rfl)
theorem dL_law_1282 : decode cL_law 1282 = .ok (.iaload, 1) := dk_46 (dk_at dksL_law_46 22 rfl rfl)
theorem dL_law_1283 : decode cL_law 1283 = .ok (.invokevirtual 166, 3) := dk_182 0 166 (dk_at dksL_law_47 0 rfl rfl)
theorem dL_law_1286 : decode cL_law 1286 = .ok (.if_icmp .eq 268, 3) := dk_159 1 12 (dk_at dksL_law_47 3 rfl rfl)
theorem dL_law_1289 : decode cL_law 1289 = .ok (.iconst 0, 1) := dk_3 (dk_at dksL_law_47 6 rfl rfl)
theorem dL_law_1290 : decode cL_law 1290 = .ok (.ireturn, 1) := dk_172 (dk_at dksL_law_47 7 rfl rfl)
theorem dL_law_1291 : decode cL_law 1291 = .ok (.aload_n 1, 1) := dk_43 (dk_at dksL_law_47 8 rfl rfl)
theorem dL_law_1292 : decode cL_law 1292 = .ok (.invokevirtual 167, 3) := dk_182 0 167 (dk_at dksL_law_47 9 rfl rfl)
theorem dL_law_1295 : decode cL_law 1295 = .ok (.aload_n 2, 1) := dk_44 (dk_at dksL_law_47 12 rfl rfl)
theorem dL_law_1296 : decode cL_law 1296 = .ok (.invokevirtual 170, 3) := dk_182 0 170 (dk_at dksL_law_47 13 rfl rfl)
theorem dL_law_1299 : decode cL_law 1299 = .ok (.if_icmp .eq 255, 3) := dk_159 0 255 (dk_at dksL_law_47 16 rfl rfl)
theorem dL_law_1302 : decode cL_law 1302 = .ok (.iconst 0, 1) := dk_3 (dk_at dksL_law_47 19 rfl rfl)
theorem dL_law_1303 : decode cL_law 1303 = .ok (.ireturn, 1) := dk_172 (dk_at dksL_law_47 20 rfl rfl)
theorem dL_law_1304 : decode cL_law 1304 = .ok (.aload_n 1, 1) := dk_43 (dk_at dksL_law_47 21 rfl rfl)
theorem dL_law_1305 : decode cL_law 1305 = .ok (.aload_n 0, 1) := dk_42 (dk_at dksL_law_47 22 rfl rfl)
theorem dL_law_1306 : decode cL_law 1306 = .ok (.iload_n 3, 1) := dk_29 (dk_at dksL_law_47 23 rfl rfl)
theorem dL_law_1307 : decode cL_law 1307 = .ok (.iconst 1, 1) := dk_4 (dk_at dksL_law_48 0 rfl rfl)
theorem dL_law_1308 : decode cL_law 1308 = .ok (.iadd, 1) := dk_96 (dk_at dksL_law_48 1 rfl rfl)
theorem dL_law_1309 : decode cL_law 1309 = .ok (.iaload, 1) := dk_46 (dk_at dksL_law_48 2 rfl rfl)
theorem dL_law_1310 : decode cL_law 1310 = .ok (.aload_n 0, 1) := dk_42 (dk_at dksL_law_48 3 rfl rfl)
theorem dL_law_1311 : decode cL_law 1311 = .ok (.iload_n 3, 1) := dk_29 (dk_at dksL_law_48 4 rfl rfl)
theorem dL_law_1312 : decode cL_law 1312 = .ok (.iconst 2, 1) := dk_5 (dk_at dksL_law_48 5 rfl rfl)
theorem dL_law_1313 : decode cL_law 1313 = .ok (.iadd, 1) := dk_96 (dk_at dksL_law_48 6 rfl rfl)
theorem dL_law_1314 : decode cL_law 1314 = .ok (.iaload, 1) := dk_46 (dk_at dksL_law_48 7 rfl rfl)
theorem dL_law_1315 : decode cL_law 1315 = .ok (.aload_n 0, 1) := dk_42 (dk_at dksL_law_48 8 rfl rfl)
theorem dL_law_1316 : decode cL_law 1316 = .ok (.iload_n 3, 1) := dk_29 (dk_at dksL_law_48 9 rfl rfl)
theorem dL_law_1317 : decode cL_law 1317 = .ok (.iconst 3, 1) := dk_6 (dk_at dksL_law_48 10 rfl rfl)
theorem dL_law_1318 : decode cL_law 1318 = .ok (.iadd, 1) := dk_96 (dk_at dksL_law_48 11 rfl rfl)
theorem dL_law_1319 : decode cL_law 1319 = .ok (.iaload, 1) := dk_46 (dk_at dksL_law_48 12 rfl rfl)
theorem dL_law_1320 : decode cL_law 1320 = .ok (.aload_n 0, 1) := dk_42 (dk_at dksL_law_48 13 rfl rfl)
theorem dL_law_1321 : decode cL_law 1321 = .ok (.iload_n 3, 1) := dk_29 (dk_at dksL_law_48 14 rfl rfl)
theorem dL_law_1322 : decode cL_law 1322 = .ok (.iconst 4, 1) := dk_7 (dk_at dksL_law_48 15 rfl rfl)
theorem dL_law_1323 : decode cL_law 1323 = .ok (.iadd, 1) := dk_96 (dk_at dksL_law_48 16 rfl rfl)
theorem dL_law_1324 : decode cL_law 1324 = .ok (.iaload, 1) := dk_46 (dk_at dksL_law_48 17 rfl rfl)
theorem dL_law_1325 : decode cL_law 1325 = .ok (.invokevirtual 171, 3) := dk_182 0 171 (dk_at dksL_law_48 18 rfl rfl)
theorem dL_law_1328 : decode cL_law 1328 = .ok (.aload_n 2, 1) := dk_44 (dk_at dksL_law_48 21 rfl rfl)
theorem dL_law_1329 : decode cL_law 1329 = .ok (.aload_n 0, 1) := dk_42 (dk_at dksL_law_48 22 rfl rfl)
theorem dL_law_1330 : decode cL_law 1330 = .ok (.iload_n 3, 1) := dk_29 (dk_at dksL_law_48 23 rfl rfl)
theorem dL_law_1331 : decode cL_law 1331 = .ok (.iconst 1, 1) := dk_4 (dk_at dksL_law_49 0 rfl rfl)
theorem dL_law_1332 : decode cL_law 1332 = .ok (.iadd, 1) := dk_96 (dk_at dksL_law_49 1 rfl rfl)
theorem dL_law_1333 : decode cL_law 1333 = .ok (.iaload, 1) := dk_46 (dk_at dksL_law_49 2 rfl rfl)
theorem dL_law_1334 : decode cL_law 1334 = .ok (.aload_n 0, 1) := dk_42 (dk_at dksL_law_49 3 rfl rfl)
theorem dL_law_1335 : decode cL_law 1335 = .ok (.iload_n 3, 1) := dk_29 (dk_at dksL_law_49 4 rfl rfl)
theorem dL_law_1336 : decode cL_law 1336 = .ok (.iconst 2, 1) := dk_5 (dk_at dksL_law_49 5 rfl rfl)
theorem dL_law_1337 : decode cL_law 1337 = .ok (.iadd, 1) := dk_96 (dk_at dksL_law_49 6 rfl rfl)
theorem dL_law_1338 : decode cL_law 1338 = .ok (.iaload, 1) := dk_46 (dk_at dksL_law_49 7 rfl rfl)
theorem dL_law_1339 : decode cL_law 1339 = .ok (.aload_n 0, 1) := dk_42 (dk_at dksL_law_49 8 rfl rfl)
theorem dL_law_1340 : decode cL_law 1340 = .ok (.iload_n 3, 1) := dk_29 (dk_at dksL_law_49 9 rfl rfl)
theorem dL_law_1341 : decode cL_law 1341 = .ok (.iconst 3, 1) := dk_6 (dk_at dksL_law_49 10 rfl rfl)
theorem dL_law_1342 : decode cL_law 1342 = .ok (.iadd, 1) := dk_96 (dk_at dksL_law_49 11 rfl rfl)
theorem dL_law_1343 : decode cL_law 1343 = .ok (.iaload, 1) := dk_46 (dk_at dksL_law_49 12 rfl rfl)
theorem dL_law_1344 : decode cL_law 1344 = .ok (.aload_n 0, 1) := dk_42 (dk_at dksL_law_49 13 rfl rfl)
theorem dL_law_1345 : decode cL_law 1345 = .ok (.iload_n 3, 1) := dk_29 (dk_at dksL_law_49 14 rfl rfl)
theorem dL_law_1346 : decode cL_law 1346 = .ok (.iconst 4, 1) := dk_7 (dk_at dksL_law_49 15 rfl rfl)
theorem dL_law_1347 : decode cL_law 1347 = .ok (.iadd, 1) := dk_96 (dk_at dksL_law_49 16 rfl rfl)
theorem dL_law_1348 : decode cL_law 1348 = .ok (.iaload, 1) := dk_46 (dk_at dksL_law_49 17 rfl rfl)
theorem dL_law_1349 : decode cL_law 1349 = .ok (.invokevirtual 174, 3) := dk_182 0 174 (dk_at dksL_law_49 18 rfl rfl)
theorem dL_law_1352 : decode cL_law 1352 = .ok (.if_icmp .eq 202, 3) := dk_159 0 202 (dk_at dksL_law_49 21 rfl rfl)
theorem dL_law_1355 : decode cL_law 1355 = .ok (.iconst 0, 1) := dk_3 (dk_at dksL_law_50 0 rfl rfl)
theorem dL_law_1356 : decode cL_law 1356 = .ok (.ireturn, 1) := dk_172 (dk_at dksL_law_50 1 rfl rfl)
theorem dL_law_1357 : decode cL_law 1357 = .ok (.aload_n 1, 1) := dk_43 (dk_at dksL_law_50 2 rfl rfl)
theorem dL_law_1358 : decode cL_law 1358 = .ok (.invokevirtual 175, 3) := dk_182 0 175 (dk_at dksL_law_50 3 rfl rfl)
theorem dL_law_1361 : decode cL_law 1361 = .ok (.aload_n 2, 1) := dk_44 (dk_at dksL_law_50 6 rfl rfl)
theorem dL_law_1362 : decode cL_law 1362 = .ok (.invokevirtual 178, 3) := dk_182 0 178 (dk_at dksL_law_50 7 rfl rfl)
theorem dL_law_1365 : decode cL_law 1365 = .ok (.if_icmp .eq 189, 3) := dk_159 0 189 (dk_at dksL_law_50 10 rfl rfl)
theorem dL_law_1368 : decode cL_law 1368 = .ok (.iconst 0, 1) := dk_3 (dk_at dksL_law_50 13 rfl rfl)
theorem dL_law_1369 : decode cL_law 1369 = .ok (.ireturn, 1) := dk_172 (dk_at dksL_law_50 14 rfl rfl)
theorem dL_law_1370 : decode cL_law 1370 = .ok (.aload_n 1, 1) := dk_43 (dk_at dksL_law_50 15 rfl rfl)
theorem dL_law_1371 : decode cL_law 1371 = .ok (.aload_n 0, 1) := dk_42 (dk_at dksL_law_50 16 rfl rfl)
theorem dL_law_1372 : decode cL_law 1372 = .ok (.iload_n 3, 1) := dk_29 (dk_at dksL_law_50 17 rfl rfl)
theorem dL_law_1373 : decode cL_law 1373 = .ok (.iconst 1, 1) := dk_4 (dk_at dksL_law_50 18 rfl rfl)
theorem dL_law_1374 : decode cL_law 1374 = .ok (.iadd, 1) := dk_96 (dk_at dksL_law_50 19 rfl rfl)
theorem dL_law_1375 : decode cL_law 1375 = .ok (.iaload, 1) := dk_46 (dk_at dksL_law_50 20 rfl rfl)
theorem dL_law_1376 : decode cL_law 1376 = .ok (.invokevirtual 179, 3) := dk_182 0 179 (dk_at dksL_law_50 21 rfl rfl)
theorem dL_law_1379 : decode cL_law 1379 = .ok (.aload_n 2, 1) := dk_44 (dk_at dksL_law_51 0 rfl rfl)
theorem dL_law_1380 : decode cL_law 1380 = .ok (.aload_n 0, 1) := dk_42 (dk_at dksL_law_51 1 rfl rfl)
theorem dL_law_1381 : decode cL_law 1381 = .ok (.iload_n 3, 1) := dk_29 (dk_at dksL_law_51 2 rfl rfl)
theorem dL_law_1382 : decode cL_law 1382 = .ok (.iconst 1, 1) := dk_4 (dk_at dksL_law_51 3 rfl rfl)
theorem dL_law_1383 : decode cL_law 1383 = .ok (.iadd, 1) := dk_96 (dk_at dksL_law_51 4 rfl rfl)
theorem dL_law_1384 : decode cL_law 1384 = .ok (.iaload, 1) := dk_46 (dk_at dksL_law_51 5 rfl rfl)
theorem dL_law_1385 : decode cL_law 1385 = .ok (.invokevirtual 182, 3) := dk_182 0 182 (dk_at dksL_law_51 6 rfl rfl)
theorem dL_law_1388 : decode cL_law 1388 = .ok (.if_icmp .eq 166, 3) := dk_159 0 166 (dk_at dksL_law_51 9 rfl rfl)
theorem dL_law_1391 : decode cL_law 1391 = .ok (.iconst 0, 1) := dk_3 (dk_at dksL_law_51 12 rfl rfl)
theorem dL_law_1392 : decode cL_law 1392 = .ok (.ireturn, 1) := dk_172 (dk_at dksL_law_51 13 rfl rfl)
theorem dL_law_1393 : decode cL_law 1393 = .ok (.aload_n 1, 1) := dk_43 (dk_at dksL_law_51 14 rfl rfl)
theorem dL_law_1394 : decode cL_law 1394 = .ok (.invokevirtual 183, 3) := dk_182 0 183 (dk_at dksL_law_51 15 rfl rfl)
theorem dL_law_1397 : decode cL_law 1397 = .ok (.aload_n 2, 1) := dk_44 (dk_at dksL_law_51 18 rfl rfl)
theorem dL_law_1398 : decode cL_law 1398 = .ok (.invokevirtual 186, 3) := dk_182 0 186 (dk_at dksL_law_51 19 rfl rfl)
theorem dL_law_1401 : decode cL_law 1401 = .ok (.if_icmp .eq 153, 3) := dk_159 0 153 (dk_at dksL_law_52 0 rfl rfl)
theorem dL_law_1404 : decode cL_law 1404 = .ok (.iconst 0, 1) := dk_3 (dk_at dksL_law_52 3 rfl rfl)
theorem dL_law_1405 : decode cL_law 1405 = .ok (.ireturn, 1) := dk_172 (dk_at dksL_law_52 4 rfl rfl)
theorem dL_law_1406 : decode cL_law 1406 = .ok (.aload_n 1, 1) := dk_43 (dk_at dksL_law_52 5 rfl rfl)
theorem dL_law_1407 : decode cL_law 1407 = .ok (.aload_n 0, 1) := dk_42 (dk_at dksL_law_52 6 rfl rfl)
theorem dL_law_1408 : decode cL_law 1408 = .ok (.iload_n 3, 1) := dk_29 (dk_at dksL_law_52 7 rfl rfl)
theorem dL_law_1409 : decode cL_law 1409 = .ok (.iconst 1, 1) := dk_4 (dk_at dksL_law_52 8 rfl rfl)
theorem dL_law_1410 : decode cL_law 1410 = .ok (.iadd, 1) := dk_96 (dk_at dksL_law_52 9 rfl rfl)
theorem dL_law_1411 : decode cL_law 1411 = .ok (.iaload, 1) := dk_46 (dk_at dksL_law_52 10 rfl rfl)
theorem dL_law_1412 : decode cL_law 1412 = .ok (.aload_n 0, 1) := dk_42 (dk_at dksL_law_52 11 rfl rfl)
theorem dL_law_1413 : decode cL_law 1413 = .ok (.iload_n 3, 1) := dk_29 (dk_at dksL_law_52 12 rfl rfl)
theorem dL_law_1414 : decode cL_law 1414 = .ok (.iconst 2, 1) := dk_5 (dk_at dksL_law_52 13 rfl rfl)
theorem dL_law_1415 : decode cL_law 1415 = .ok (.iadd, 1) := dk_96 (dk_at dksL_law_52 14 rfl rfl)
theorem dL_law_1416 : decode cL_law 1416 = .ok (.iaload, 1) := dk_46 (dk_at dksL_law_52 15 rfl rfl)
theorem dL_law_1417 : decode cL_law 1417 = .ok (.invokevirtual 187, 3) := dk_182 0 187 (dk_at dksL_law_52 16 rfl rfl)
theorem dL_law_1420 : decode cL_law 1420 = .ok (.aload_n 2, 1) := dk_44 (dk_at dksL_law_52 19 rfl rfl)
theorem dL_law_1421 : decode cL_law 1421 = .ok (.aload_n 0, 1) := dk_42 (dk_at dksL_law_52 20 rfl rfl)
theorem dL_law_1422 : decode cL_law 1422 = .ok (.iload_n 3, 1) := dk_29 (dk_at dksL_law_52 21 rfl rfl)
theorem dL_law_1423 : decode cL_law 1423 = .ok (.iconst 1, 1) := dk_4 (dk_at dksL_law_52 22 rfl rfl)
theorem dL_law_1424 : decode cL_law 1424 = .ok (.iadd, 1) := dk_96 (dk_at dksL_law_52 23 rfl rfl)
theorem dL_law_1425 : decode cL_law 1425 = .ok (.iaload, 1) := dk_46 (dk_at dksL_law_53 0 rfl rfl)
theorem dL_law_1426 : decode cL_law 1426 = .ok (.aload_n 0, 1) := dk_42 (dk_at dksL_law_53 1 rfl rfl)
theorem dL_law_1427 : decode cL_law 1427 = .ok (.iload_n 3, 1) := dk_29 (dk_at dksL_law_53 2 rfl rfl)
theorem dL_law_1428 : decode cL_law 1428 = .ok (.iconst 2, 1) := dk_5 (dk_at dksL_law_53 3 rfl rfl)
theorem dL_law_1429 : decode cL_law 1429 = .ok (.iadd, 1) := dk_96 (dk_at dksL_law_53 4 rfl rfl)
theorem dL_law_1430 : decode cL_law 1430 = .ok (.iaload, 1) := dk_46 (dk_at dksL_law_53 5 rfl rfl)
theorem dL_law_1431 : decode cL_law 1431 = .ok (.invokevirtual 190, 3) := dk_182 0 190 (dk_at dksL_law_53 6 rfl rfl)
theorem dL_law_1434 : decode cL_law 1434 = .ok (.if_icmp .eq 120, 3) := dk_159 0 120 (dk_at dksL_law_53 9 rfl rfl)
theorem dL_law_1437 : decode cL_law 1437 = .ok (.iconst 0, 1) := dk_3 (dk_at dksL_law_53 12 rfl rfl)
theorem dL_law_1438 : decode cL_law 1438 = .ok (.ireturn, 1) := dk_172 (dk_at dksL_law_53 13 rfl rfl)
theorem dL_law_1439 : decode cL_law 1439 = .ok (.aload_n 1, 1) := dk_43 (dk_at dksL_law_53 14 rfl rfl)
theorem dL_law_1440 : decode cL_law 1440 = .ok (.aload_n 0, 1) := dk_42 (dk_at dksL_law_53 15 rfl rfl)
theorem dL_law_1441 : decode cL_law 1441 = .ok (.iload_n 3, 1) := dk_29 (dk_at dksL_law_53 16 rfl rfl)
theorem dL_law_1442 : decode cL_law 1442 = .ok (.iconst 1, 1) := dk_4 (dk_at dksL_law_53 17 rfl rfl)
theorem dL_law_1443 : decode cL_law 1443 = .ok (.iadd, 1) := dk_96 (dk_at dksL_law_53 18 rfl rfl)
theorem dL_law_1444 : decode cL_law 1444 = .ok (.iaload, 1) := dk_46 (dk_at dksL_law_53 19 rfl rfl)
theorem dL_law_1445 : decode cL_law 1445 = .ok (.aload_n 0, 1) := dk_42 (dk_at dksL_law_53 20 rfl rfl)
theorem dL_law_1446 : decode cL_law 1446 = .ok (.iload_n 3, 1) := dk_29 (dk_at dksL_law_53 21 rfl rfl)
theorem dL_law_1447 : decode cL_law 1447 = .ok (.iconst 2, 1) := dk_5 (dk_at dksL_law_53 22 rfl rfl)
theorem dL_law_1448 : decode cL_law 1448 = .ok (.iadd, 1) := dk_96 (dk_at dksL_law_53 23 rfl rfl)
theorem dL_law_1449 : decode cL_law 1449 = .ok (.iaload, 1) := dk_46 (dk_at dksL_law_54 0 rfl rfl)
theorem dL_law_1450 : decode cL_law 1450 = .ok (.invokevirtual 191, 3) := dk_182 0 191 (dk_at dksL_law_54 1 rfl rfl)
theorem dL_law_1453 : decode cL_law 1453 = .ok (.aload_n 2, 1) := dk_44 (dk_at dksL_law_54 4 rfl rfl)
theorem dL_law_1454 : decode cL_law 1454 = .ok (.aload_n 0, 1) := dk_42 (dk_at dksL_law_54 5 rfl rfl)
theorem dL_law_1455 : decode cL_law 1455 = .ok (.iload_n 3, 1) := dk_29 (dk_at dksL_law_54 6 rfl rfl)
theorem dL_law_1456 : decode cL_law 1456 = .ok (.iconst 1, 1) := dk_4 (dk_at dksL_law_54 7 rfl rfl)
theorem dL_law_1457 : decode cL_law 1457 = .ok (.iadd, 1) := dk_96 (dk_at dksL_law_54 8 rfl rfl)
theorem dL_law_1458 : decode cL_law 1458 = .ok (.iaload, 1) := dk_46 (dk_at dksL_law_54 9 rfl rfl)
theorem dL_law_1459 : decode cL_law 1459 = .ok (.aload_n 0, 1) := dk_42 (dk_at dksL_law_54 10 rfl rfl)
theorem dL_law_1460 : decode cL_law 1460 = .ok (.iload_n 3, 1) := dk_29 (dk_at dksL_law_54 11 rfl rfl)
theorem dL_law_1461 : decode cL_law 1461 = .ok (.iconst 2, 1) := dk_5 (dk_at dksL_law_54 12 rfl rfl)
theorem dL_law_1462 : decode cL_law 1462 = .ok (.iadd, 1) := dk_96 (dk_at dksL_law_54 13 rfl rfl)
theorem dL_law_1463 : decode cL_law 1463 = .ok (.iaload, 1) := dk_46 (dk_at dksL_law_54 14 rfl rfl)
theorem dL_law_1464 : decode cL_law 1464 = .ok (.invokevirtual 194, 3) := dk_182 0 194 (dk_at dksL_law_54 15 rfl rfl)
theorem dL_law_1467 : decode cL_law 1467 = .ok (.if_icmp .eq 87, 3) := dk_159 0 87 (dk_at dksL_law_54 18 rfl rfl)
theorem dL_law_1470 : decode cL_law 1470 = .ok (.iconst 0, 1) := dk_3 (dk_at dksL_law_54 21 rfl rfl)
theorem dL_law_1471 : decode cL_law 1471 = .ok (.ireturn, 1) := dk_172 (dk_at dksL_law_54 22 rfl rfl)
theorem dL_law_1472 : decode cL_law 1472 = .ok (.aload_n 1, 1) := dk_43 (dk_at dksL_law_54 23 rfl rfl)
theorem dL_law_1473 : decode cL_law 1473 = .ok (.aload_n 0, 1) := dk_42 (dk_at dksL_law_55 0 rfl rfl)
theorem dL_law_1474 : decode cL_law 1474 = .ok (.iload_n 3, 1) := dk_29 (dk_at dksL_law_55 1 rfl rfl)
theorem dL_law_1475 : decode cL_law 1475 = .ok (.iconst 1, 1) := dk_4 (dk_at dksL_law_55 2 rfl rfl)
theorem dL_law_1476 : decode cL_law 1476 = .ok (.iadd, 1) := dk_96 (dk_at dksL_law_55 3 rfl rfl)
theorem dL_law_1477 : decode cL_law 1477 = .ok (.iaload, 1) := dk_46 (dk_at dksL_law_55 4 rfl rfl)
theorem dL_law_1478 : decode cL_law 1478 = .ok (.invokevirtual 195, 3) := dk_182 0 195 (dk_at dksL_law_55 5 rfl rfl)
theorem dL_law_1481 : decode cL_law 1481 = .ok (.aload_n 2, 1) := dk_44 (dk_at dksL_law_55 8 rfl rfl)
theorem dL_law_1482 : decode cL_law 1482 = .ok (.aload_n 0, 1) := dk_42 (dk_at dksL_law_55 9 rfl rfl)
theorem dL_law_1483 : decode cL_law 1483 = .ok (.iload_n 3, 1) := dk_29 (dk_at dksL_law_55 10 rfl rfl)
theorem dL_law_1484 : decode cL_law 1484 = .ok (.iconst 1, 1) := dk_4 (dk_at dksL_law_55 11 rfl rfl)
theorem dL_law_1485 : decode cL_law 1485 = .ok (.iadd, 1) := dk_96 (dk_at dksL_law_55 12 rfl rfl)
theorem dL_law_1486 : decode cL_law 1486 = .ok (.iaload, 1) := dk_46 (dk_at dksL_law_55 13 rfl rfl)
theorem dL_law_1487 : decode cL_law 1487 = .ok (.invokevirtual 198, 3) := dk_182 0 198 (dk_at dksL_law_55 14 rfl rfl)
theorem dL_law_1490 : decode cL_law 1490 = .ok (.if_icmp .eq 64, 3) := dk_159 0 64 (dk_at dksL_law_55 17 rfl rfl)
theorem dL_law_1493 : decode cL_law 1493 = .ok (.iconst 0, 1) := dk_3 (dk_at dksL_law_55 20 rfl rfl)
theorem dL_law_1494 : decode cL_law 1494 = .ok (.ireturn, 1) := dk_172 (dk_at dksL_law_55 21 rfl rfl)
theorem dL_law_1495 : decode cL_law 1495 = .ok (.aload_n 1, 1) := dk_43 (dk_at dksL_law_55 22 rfl rfl)
theorem dL_law_1496 : decode cL_law 1496 = .ok (.aload_n 0, 1) := dk_42 (dk_at dksL_law_55 23 rfl rfl)
theorem dL_law_1497 : decode cL_law 1497 = .ok (.iload_n 3, 1) := dk_29 (dk_at dksL_law_56 0 rfl rfl)
theorem dL_law_1498 : decode cL_law 1498 = .ok (.iconst 1, 1) := dk_4 (dk_at dksL_law_56 1 rfl rfl)
theorem dL_law_1499 : decode cL_law 1499 = .ok (.iadd, 1) := dk_96 (dk_at dksL_law_56 2 rfl rfl)
theorem dL_law_1500 : decode cL_law 1500 = .ok (.iaload, 1) := dk_46 (dk_at dksL_law_56 3 rfl rfl)
theorem dL_law_1501 : decode cL_law 1501 = .ok (.invokevirtual 199, 3) := dk_182 0 199 (dk_at dksL_law_56 4 rfl rfl)
theorem dL_law_1504 : decode cL_law 1504 = .ok (.aload_n 2, 1) := dk_44 (dk_at dksL_law_56 7 rfl rfl)
theorem dL_law_1505 : decode cL_law 1505 = .ok (.aload_n 0, 1) := dk_42 (dk_at dksL_law_56 8 rfl rfl)
theorem dL_law_1506 : decode cL_law 1506 = .ok (.iload_n 3, 1) := dk_29 (dk_at dksL_law_56 9 rfl rfl)
theorem dL_law_1507 : decode cL_law 1507 = .ok (.iconst 1, 1) := dk_4 (dk_at dksL_law_56 10 rfl rfl)
theorem dL_law_1508 : decode cL_law 1508 = .ok (.iadd, 1) := dk_96 (dk_at dksL_law_56 11 rfl rfl)
theorem dL_law_1509 : decode cL_law 1509 = .ok (.iaload, 1) := dk_46 (dk_at dksL_law_56 12 rfl rfl)
theorem dL_law_1510 : decode cL_law 1510 = .ok (.invokevirtual 202, 3) := dk_182 0 202 (dk_at dksL_law_56 13 rfl rfl)
theorem dL_law_1513 : decode cL_law 1513 = .ok (.if_icmp .eq 41, 3) := dk_159 0 41 (dk_at dksL_law_56 16 rfl rfl)
theorem dL_law_1516 : decode cL_law 1516 = .ok (.iconst 0, 1) := dk_3 (dk_at dksL_law_56 19 rfl rfl)
theorem dL_law_1517 : decode cL_law 1517 = .ok (.ireturn, 1) := dk_172 (dk_at dksL_law_56 20 rfl rfl)
theorem dL_law_1518 : decode cL_law 1518 = .ok (.aload_n 1, 1) := dk_43 (dk_at dksL_law_56 21 rfl rfl)
theorem dL_law_1519 : decode cL_law 1519 = .ok (.aload_n 0, 1) := dk_42 (dk_at dksL_law_56 22 rfl rfl)
theorem dL_law_1520 : decode cL_law 1520 = .ok (.iload_n 3, 1) := dk_29 (dk_at dksL_law_56 23 rfl rfl)
theorem dL_law_1521 : decode cL_law 1521 = .ok (.iconst 1, 1) := dk_4 (dk_at dksL_law_57 0 rfl rfl)
theorem dL_law_1522 : decode cL_law 1522 = .ok (.iadd, 1) := dk_96 (dk_at dksL_law_57 1 rfl rfl)
theorem dL_law_1523 : decode cL_law 1523 = .ok (.iaload, 1) := dk_46 (dk_at dksL_law_57 2 rfl rfl)
theorem dL_law_1524 : decode cL_law 1524 = .ok (.invokevirtual 203, 3) := dk_182 0 203 (dk_at dksL_law_57 3 rfl rfl)
theorem dL_law_1527 : decode cL_law 1527 = .ok (.aload_n 2, 1) := dk_44 (dk_at dksL_law_57 6 rfl rfl)
theorem dL_law_1528 : decode cL_law 1528 = .ok (.aload_n 0, 1) := dk_42 (dk_at dksL_law_57 7 rfl rfl)
theorem dL_law_1529 : decode cL_law 1529 = .ok (.iload_n 3, 1) := dk_29 (dk_at dksL_law_57 8 rfl rfl)
theorem dL_law_1530 : decode cL_law 1530 = .ok (.iconst 1, 1) := dk_4 (dk_at dksL_law_57 9 rfl rfl)
theorem dL_law_1531 : decode cL_law 1531 = .ok (.iadd, 1) := dk_96 (dk_at dksL_law_57 10 rfl rfl)
theorem dL_law_1532 : decode cL_law 1532 = .ok (.iaload, 1) := dk_46 (dk_at dksL_law_57 11 rfl rfl)
theorem dL_law_1533 : decode cL_law 1533 = .ok (.invokevirtual 206, 3) := dk_182 0 206 (dk_at dksL_law_57 12 rfl rfl)
theorem dL_law_1536 : decode cL_law 1536 = .ok (.if_icmp .eq 18, 3) := dk_159 0 18 (dk_at dksL_law_57 15 rfl rfl)
theorem dL_law_1539 : decode cL_law 1539 = .ok (.iconst 0, 1) := dk_3 (dk_at dksL_law_57 18 rfl rfl)
theorem dL_law_1540 : decode cL_law 1540 = .ok (.ireturn, 1) := dk_172 (dk_at dksL_law_57 19 rfl rfl)
theorem dL_law_1541 : decode cL_law 1541 = .ok (.aload_n 1, 1) := dk_43 (dk_at dksL_law_57 20 rfl rfl)
theorem dL_law_1542 : decode cL_law 1542 = .ok (.invokevirtual 207, 3) := dk_182 0 207 (dk_at dksL_law_57 21 rfl rfl)
theorem dL_law_1545 : decode cL_law 1545 = .ok (.aload_n 2, 1) := dk_44 (dk_at dksL_law_58 0 rfl rfl)
theorem dL_law_1546 : decode cL_law 1546 = .ok (.invokevirtual 210, 3) := dk_182 0 210 (dk_at dksL_law_58 1 rfl rfl)
theorem dL_law_1549 : decode cL_law 1549 = .ok (.if_icmp .eq 5, 3) := dk_159 0 5 (dk_at dksL_law_58 4 rfl rfl)
theorem dL_law_1552 : decode cL_law 1552 = .ok (.iconst 0, 1) := dk_3 (dk_at dksL_law_58 7 rfl rfl)
theorem dL_law_1553 : decode cL_law 1553 = .ok (.ireturn, 1) := dk_172 (dk_at dksL_law_58 8 rfl rfl)
theorem dL_law_1554 : decode cL_law 1554 = .ok (.iinc 3 6, 3) := dk_132 3 6 (dk_at dksL_law_58 9 rfl rfl)
theorem dL_law_1557 : decode cL_law 1557 = .ok (.goto (-1539), 3) := dk_167 249 253 (dk_at dksL_law_58 12 rfl rfl)
theorem dL_law_1560 : decode cL_law 1560 = .ok (.iconst 1, 1) := dk_4 (dk_at dksL_law_58 15 rfl rfl)
theorem dL_law_1561 : decode cL_law 1561 = .ok (.ireturn, 1) := dk_172 (dk_at dksL_law_58 16 rfl rfl)
noncomputable def f_L_law_1554 (E : ax_E) (x0 : Option Nat) (x1 : Option Nat) (x2 : Option Nat) (x3 : Int) (h : ax_H) : Option ((Int × ax_H) ⊕ (Int × ax_H)) :=
  some (.inl ((x3 + 6), h))
noncomputable def lb_L_law_18 (E : ax_E) (x0 : Option Nat) (x1 : Option Nat) (x2 : Option Nat) (x3 : Int) (h : ax_H) : Option ((Int × ax_H) ⊕ (Int × ax_H)) :=
  (ax_len E h x0 100).bind fun v1 =>
  if i2 (v1 - 6) < i2 x3 then
    (some (1, h)).map Sum.inr
  else
    (ax_ld E h x0 100 x3).bind fun v2 =>
    if i2 (ax_and v2 63) = 0 then
      (ax_ld E h x0 100 (x3 + 1)).bind fun v3 =>
      (ax_ld E h x0 100 (x3 + 2)).bind fun v4 =>
      (ax_ld E h x0 100 (x3 + 3)).bind fun v5 =>
      (ax_ce E h x1 0).bind fun _ => (f_X0_person E x1 v3 v4 v5 h).bind fun q6 =>
      (ax_ld E q6.2 x0 100 (x3 + 1)).bind fun v7 =>
      (ax_ld E q6.2 x0 100 (x3 + 2)).bind fun v8 =>
      (ax_ld E q6.2 x0 100 (x3 + 3)).bind fun v9 =>
      (ax_ce E q6.2 x2 5).bind fun _ => (f_X5_person E x2 v7 v8 v9 q6.2).bind fun q10 =>
      if i2 q6.1 = i2 q10.1 then
        f_L_law_1554 E x0 x1 x2 x3 q10.2
      else
        (some (0, q10.2)).map Sum.inr
    else if i2 (ax_and v2 63) = 1 then
      (ax_ld E h x0 100 (x3 + 1)).bind fun v11 =>
      (ax_ld E h x0 100 (x3 + 2)).bind fun v12 =>
      (ax_ld E h x0 100 (x3 + 3)).bind fun v13 =>
      (ax_ce E h x1 0).bind fun _ => (f_X0_put E x1 v11 v12 v13 h).bind fun q14 =>
      (ax_ld E q14.2 x0 100 (x3 + 1)).bind fun v15 =>
      (ax_ld E q14.2 x0 100 (x3 + 2)).bind fun v16 =>
      (ax_ld E q14.2 x0 100 (x3 + 3)).bind fun v17 =>
      (ax_ce E q14.2 x2 5).bind fun _ => (f_X5_put E x2 v15 v16 v17 q14.2).bind fun q18 =>
      if i2 q14.1 = i2 q18.1 then
        f_L_law_1554 E x0 x1 x2 x3 q18.2
      else
        (some (0, q18.2)).map Sum.inr
    else if i2 (ax_and v2 63) = 2 then
      (ax_ld E h x0 100 (x3 + 1)).bind fun v19 =>
      (ax_ld E h x0 100 (x3 + 2)).bind fun v20 =>
      (ax_ce E h x1 0).bind fun _ => (f_X0_of E x1 v19 v20 h).bind fun q21 =>
      (ax_ld E q21.2 x0 100 (x3 + 1)).bind fun v22 =>
      (ax_ld E q21.2 x0 100 (x3 + 2)).bind fun v23 =>
      (ax_ce E q21.2 x2 5).bind fun _ => (f_X5_of E x2 v22 v23 q21.2).bind fun q24 =>
      if i2 q21.1 = i2 q24.1 then
        f_L_law_1554 E x0 x1 x2 x3 q24.2
      else
        (some (0, q24.2)).map Sum.inr
    else if i2 (ax_and v2 63) = 3 then
      (ax_ld E h x0 100 (x3 + 1)).bind fun v25 =>
      (ax_ld E h x0 100 (x3 + 2)).bind fun v26 =>
      (ax_ld E h x0 100 (x3 + 3)).bind fun v27 =>
      (ax_ce E h x1 0).bind fun _ => (f_X0_debt E x1 v25 v26 v27 h).bind fun q28 =>
      (ax_ld E q28.2 x0 100 (x3 + 1)).bind fun v29 =>
      (ax_ld E q28.2 x0 100 (x3 + 2)).bind fun v30 =>
      (ax_ld E q28.2 x0 100 (x3 + 3)).bind fun v31 =>
      (ax_ce E q28.2 x2 5).bind fun _ => (f_X5_debt E x2 v29 v30 v31 q28.2).bind fun q32 =>
      if i2 q28.1 = i2 q32.1 then
        f_L_law_1554 E x0 x1 x2 x3 q32.2
      else
        (some (0, q32.2)).map Sum.inr
    else if i2 (ax_and v2 63) = 4 then
      (ax_ld E h x0 100 (x3 + 1)).bind fun v33 =>
      (ax_ld E h x0 100 (x3 + 2)).bind fun v34 =>
      (ax_ce E h x1 0).bind fun _ => (f_X0_at E x1 v33 v34 h).bind fun q35 =>
      (ax_ld E q35.2 x0 100 (x3 + 1)).bind fun v36 =>
      (ax_ld E q35.2 x0 100 (x3 + 2)).bind fun v37 =>
      (ax_ce E q35.2 x2 5).bind fun _ => (f_X5_at E x2 v36 v37 q35.2).bind fun q38 =>
      if i2 q35.1 = i2 q38.1 then
        f_L_law_1554 E x0 x1 x2 x3 q38.2
      else
        (some (0, q38.2)).map Sum.inr
    else if i2 (ax_and v2 63) = 5 then
      (ax_ld E h x0 100 (x3 + 1)).bind fun v39 =>
      (ax_ld E h x0 100 (x3 + 2)).bind fun v40 =>
      (ax_ce E h x1 0).bind fun _ => (f_X0_owes E x1 v39 v40 h).bind fun q41 =>
      (ax_ld E q41.2 x0 100 (x3 + 1)).bind fun v42 =>
      (ax_ld E q41.2 x0 100 (x3 + 2)).bind fun v43 =>
      (ax_ce E q41.2 x2 5).bind fun _ => (f_X5_owes E x2 v42 v43 q41.2).bind fun q44 =>
      if i2 q41.1 = i2 q44.1 then
        f_L_law_1554 E x0 x1 x2 x3 q44.2
      else
        (some (0, q44.2)).map Sum.inr
    else if i2 (ax_and v2 63) = 6 then
      (ax_ld E h x0 100 (x3 + 1)).bind fun v45 =>
      (ax_ld E h x0 100 (x3 + 2)).bind fun v46 =>
      (ax_ce E h x1 0).bind fun _ => (f_X0_terms E x1 v45 v46 h).bind fun q47 =>
      (ax_ld E q47.2 x0 100 (x3 + 1)).bind fun v48 =>
      (ax_ld E q47.2 x0 100 (x3 + 2)).bind fun v49 =>
      (ax_ce E q47.2 x2 5).bind fun _ => (f_X5_terms E x2 v48 v49 q47.2).bind fun q50 =>
      if i2 q47.1 = i2 q50.1 then
        f_L_law_1554 E x0 x1 x2 x3 q50.2
      else
        (some (0, q50.2)).map Sum.inr
    else if i2 (ax_and v2 63) = 7 then
      (ax_ld E h x0 100 (x3 + 1)).bind fun v51 =>
      (ax_ld E h x0 100 (x3 + 2)).bind fun v52 =>
      (ax_ld E h x0 100 (x3 + 3)).bind fun v53 =>
      (ax_ld E h x0 100 (x3 + 4)).bind fun v54 =>
      (ax_ld E h x0 100 (x3 + 5)).bind fun v55 =>
      (ax_ce E h x1 0).bind fun _ => (f_X0_feed E x1 v51 v52 v53 v54 v55 h).bind fun q56 =>
      (ax_ld E q56.2 x0 100 (x3 + 1)).bind fun v57 =>
      (ax_ld E q56.2 x0 100 (x3 + 2)).bind fun v58 =>
      (ax_ld E q56.2 x0 100 (x3 + 3)).bind fun v59 =>
      (ax_ld E q56.2 x0 100 (x3 + 4)).bind fun v60 =>
      (ax_ld E q56.2 x0 100 (x3 + 5)).bind fun v61 =>
      (ax_ce E q56.2 x2 5).bind fun _ => (f_X5_feed E x2 v57 v58 v59 v60 v61 q56.2).bind fun q62 =>
      if i2 q56.1 = i2 q62.1 then
        f_L_law_1554 E x0 x1 x2 x3 q62.2
      else
        (some (0, q62.2)).map Sum.inr
    else if i2 (ax_and v2 63) = 8 then
      (ax_ld E h x0 100 (x3 + 1)).bind fun v63 =>
      (ax_ce E h x1 0).bind fun _ => (f_X0_end E x1 v63 h).bind fun q64 =>
      (ax_ld E q64.2 x0 100 (x3 + 1)).bind fun v65 =>
      (ax_ce E q64.2 x2 5).bind fun _ => (f_X5_end E x2 v65 q64.2).bind fun q66 =>
      if i2 q64.1 = i2 q66.1 then
        f_L_law_1554 E x0 x1 x2 x3 q66.2
      else
        (some (0, q66.2)).map Sum.inr
    else if i2 (ax_and v2 63) = 9 then
      (ax_ce E h x1 0).bind fun _ => (f_X0_row E x1 h).bind fun q67 =>
      (ax_ce E q67.2 x2 5).bind fun _ => (f_X5_row E x2 q67.2).bind fun q68 =>
      if i2 q67.1 = i2 q68.1 then
        f_L_law_1554 E x0 x1 x2 x3 q68.2
      else
        (some (0, q68.2)).map Sum.inr
    else if i2 (ax_and v2 63) = 10 then
      (ax_ce E h x1 0).bind fun _ => (f_X0_blots E x1 h).bind fun q69 =>
      (ax_ce E q69.2 x2 5).bind fun _ => (f_X5_blots E x2 q69.2).bind fun q70 =>
      if i2 q69.1 = i2 q70.1 then
        f_L_law_1554 E x0 x1 x2 x3 q70.2
      else
        (some (0, q70.2)).map Sum.inr
    else if i2 (ax_and v2 63) = 11 then
      (ax_ce E h x1 0).bind fun _ => (f_X0_law E x1 h).bind fun q71 =>
      (ax_ce E q71.2 x2 5).bind fun _ => (f_X5_law E x2 q71.2).bind fun q72 =>
      if i2 q71.1 = i2 q72.1 then
        f_L_law_1554 E x0 x1 x2 x3 q72.2
      else
        (some (0, q72.2)).map Sum.inr
    else if i2 (ax_and v2 63) = 12 then
      (ax_ce E h x1 0).bind fun _ => (f_X0_orders E x1 h).bind fun q73 =>
      (ax_ce E q73.2 x2 5).bind fun _ => (f_X5_orders E x2 q73.2).bind fun q74 =>
      if i2 q73.1 = i2 q74.1 then
        f_L_law_1554 E x0 x1 x2 x3 q74.2
      else
        (some (0, q74.2)).map Sum.inr
    else if i2 (ax_and v2 63) = 13 then
      (ax_ce E h x1 0).bind fun _ => (f_X0_fault E x1 h).bind fun q75 =>
      (ax_ce E q75.2 x2 5).bind fun _ => (f_X5_fault E x2 q75.2).bind fun q76 =>
      if i2 q75.1 = i2 q76.1 then
        f_L_law_1554 E x0 x1 x2 x3 q76.2
      else
        (some (0, q76.2)).map Sum.inr
    else if i2 (ax_and v2 63) = 14 then
      (ax_ce E h x1 0).bind fun _ => (f_X0_stopped E x1 h).bind fun q77 =>
      (ax_ce E q77.2 x2 5).bind fun _ => (f_X5_stopped E x2 q77.2).bind fun q78 =>
      if i2 q77.1 = i2 q78.1 then
        f_L_law_1554 E x0 x1 x2 x3 q78.2
      else
        (some (0, q78.2)).map Sum.inr
    else if i2 (ax_and v2 63) = 15 then
      (ax_ld E h x0 100 (x3 + 1)).bind fun v79 =>
      (ax_ce E h x1 0).bind fun _ => (f_X0_force E x1 v79 h).bind fun q80 =>
      (ax_ld E q80.2 x0 100 (x3 + 1)).bind fun v81 =>
      (ax_ce E q80.2 x2 5).bind fun _ => (f_X5_force E x2 v81 q80.2).bind fun q82 =>
      if i2 q80.1 = i2 q82.1 then
        f_L_law_1554 E x0 x1 x2 x3 q82.2
      else
        (some (0, q82.2)).map Sum.inr
    else if i2 (ax_and v2 63) = 16 then
      (ax_ld E h x0 100 (x3 + 1)).bind fun v83 =>
      (ax_ld E h x0 100 (x3 + 2)).bind fun v84 =>
      (ax_ce E h x1 0).bind fun _ => (f_X0_deep E x1 v83 v84 h).bind fun q85 =>
      (ax_ld E q85.2 x0 100 (x3 + 1)).bind fun v86 =>
      (ax_ld E q85.2 x0 100 (x3 + 2)).bind fun v87 =>
      (ax_ce E q85.2 x2 5).bind fun _ => (f_X5_deep E x2 v86 v87 q85.2).bind fun q88 =>
      if i2 q85.1 = i2 q88.1 then
        f_L_law_1554 E x0 x1 x2 x3 q88.2
      else
        (some (0, q88.2)).map Sum.inr
    else if i2 (ax_and v2 63) = 17 then
      (ax_ld E h x0 100 (x3 + 1)).bind fun v89 =>
      (ax_ce E h x1 0).bind fun _ => (f_X0_doors E x1 v89 h).bind fun q90 =>
      (ax_ld E q90.2 x0 100 (x3 + 1)).bind fun v91 =>
      (ax_ce E q90.2 x2 5).bind fun _ => (f_X5_doors E x2 v91 q90.2).bind fun q92 =>
      if i2 q90.1 = i2 q92.1 then
        f_L_law_1554 E x0 x1 x2 x3 q92.2
      else
        (some (0, q92.2)).map Sum.inr
    else if i2 (ax_and v2 63) = 18 then
      (ax_ld E h x0 100 (x3 + 1)).bind fun v93 =>
      (ax_ld E h x0 100 (x3 + 2)).bind fun v94 =>
      (ax_ld E h x0 100 (x3 + 3)).bind fun v95 =>
      (ax_ce E h x1 0).bind fun _ => (f_X0_lend E x1 v93 v94 v95 h).bind fun q96 =>
      (ax_ld E q96.2 x0 100 (x3 + 1)).bind fun v97 =>
      (ax_ld E q96.2 x0 100 (x3 + 2)).bind fun v98 =>
      (ax_ld E q96.2 x0 100 (x3 + 3)).bind fun v99 =>
      (ax_ce E q96.2 x2 5).bind fun _ => (f_X5_lend E x2 v97 v98 v99 q96.2).bind fun q100 =>
      if i2 q96.1 = i2 q100.1 then
        f_L_law_1554 E x0 x1 x2 x3 q100.2
      else
        (some (0, q100.2)).map Sum.inr
    else if i2 (ax_and v2 63) = 19 then
      (ax_ld E h x0 100 (x3 + 1)).bind fun v101 =>
      (ax_ld E h x0 100 (x3 + 2)).bind fun v102 =>
      (ax_ld E h x0 100 (x3 + 3)).bind fun v103 =>
      (ax_ce E h x1 0).bind fun _ => (f_X0_repay E x1 v101 v102 v103 h).bind fun q104 =>
      (ax_ld E q104.2 x0 100 (x3 + 1)).bind fun v105 =>
      (ax_ld E q104.2 x0 100 (x3 + 2)).bind fun v106 =>
      (ax_ld E q104.2 x0 100 (x3 + 3)).bind fun v107 =>
      (ax_ce E q104.2 x2 5).bind fun _ => (f_X5_repay E x2 v105 v106 v107 q104.2).bind fun q108 =>
      if i2 q104.1 = i2 q108.1 then
        f_L_law_1554 E x0 x1 x2 x3 q108.2
      else
        (some (0, q108.2)).map Sum.inr
    else if i2 (ax_and v2 63) = 20 then
      (ax_ld E h x0 100 (x3 + 1)).bind fun v109 =>
      (ax_ce E h x1 0).bind fun _ => (f_X0_forgive E x1 v109 h).bind fun q110 =>
      (ax_ld E q110.2 x0 100 (x3 + 1)).bind fun v111 =>
      (ax_ce E q110.2 x2 5).bind fun _ => (f_X5_forgive E x2 v111 q110.2).bind fun q112 =>
      if i2 q110.1 = i2 q112.1 then
        f_L_law_1554 E x0 x1 x2 x3 q112.2
      else
        (some (0, q112.2)).map Sum.inr
    else if i2 (ax_and v2 63) = 21 then
      (ax_ld E h x0 100 (x3 + 1)).bind fun v113 =>
      (ax_ld E h x0 100 (x3 + 2)).bind fun v114 =>
      (ax_ce E h x1 0).bind fun _ => (f_X0_sell E x1 v113 v114 h).bind fun q115 =>
      (ax_ld E q115.2 x0 100 (x3 + 1)).bind fun v116 =>
      (ax_ld E q115.2 x0 100 (x3 + 2)).bind fun v117 =>
      (ax_ce E q115.2 x2 5).bind fun _ => (f_X5_sell E x2 v116 v117 q115.2).bind fun q118 =>
      if i2 q115.1 = i2 q118.1 then
        f_L_law_1554 E x0 x1 x2 x3 q118.2
      else
        (some (0, q118.2)).map Sum.inr
    else if i2 (ax_and v2 63) = 22 then
      (ax_ce E h x1 0).bind fun _ => (f_X0_await E x1 h).bind fun q119 =>
      (ax_ce E q119.2 x2 5).bind fun _ => (f_X5_await E x2 q119.2).bind fun q120 =>
      if i2 q119.1 = i2 q120.1 then
        f_L_law_1554 E x0 x1 x2 x3 q120.2
      else
        (some (0, q120.2)).map Sum.inr
    else if i2 (ax_and v2 63) = 23 then
      (ax_ce E h x1 0).bind fun _ => (f_X0_clear E x1 h).bind fun q121 =>
      (ax_ce E q121.2 x2 5).bind fun _ => (f_X5_clear E x2 q121.2).bind fun q122 =>
      if i2 q121.1 = i2 q122.1 then
        f_L_law_1554 E x0 x1 x2 x3 q122.2
      else
        (some (0, q122.2)).map Sum.inr
    else if i2 (ax_and v2 63) = 24 then
      (ax_ce E h x1 0).bind fun _ => (f_X0_undo E x1 h).bind fun q123 =>
      (ax_ce E q123.2 x2 5).bind fun _ => (f_X5_undo E x2 q123.2).bind fun q124 =>
      if i2 q123.1 = i2 q124.1 then
        f_L_law_1554 E x0 x1 x2 x3 q124.2
      else
        (some (0, q124.2)).map Sum.inr
    else if i2 (ax_and v2 63) = 25 then
      (ax_ld E h x0 100 (x3 + 1)).bind fun v125 =>
      (ax_ld E h x0 100 (x3 + 2)).bind fun v126 =>
      (ax_ld E h x0 100 (x3 + 3)).bind fun v127 =>
      (ax_ce E h x1 0).bind fun _ => (f_X0_need E x1 v125 v126 v127 h).bind fun q128 =>
      (ax_ld E q128.2 x0 100 (x3 + 1)).bind fun v129 =>
      (ax_ld E q128.2 x0 100 (x3 + 2)).bind fun v130 =>
      (ax_ld E q128.2 x0 100 (x3 + 3)).bind fun v131 =>
      (ax_ce E q128.2 x2 5).bind fun _ => (f_X5_need E x2 v129 v130 v131 q128.2).bind fun q132 =>
      if i2 q128.1 = i2 q132.1 then
        f_L_law_1554 E x0 x1 x2 x3 q132.2
      else
        (some (0, q132.2)).map Sum.inr
    else if i2 (ax_and v2 63) = 26 then
      (ax_ld E h x0 100 (x3 + 1)).bind fun v133 =>
      (ax_ld E h x0 100 (x3 + 2)).bind fun v134 =>
      (ax_ld E h x0 100 (x3 + 3)).bind fun v135 =>
      (ax_ld E h x0 100 (x3 + 4)).bind fun v136 =>
      (ax_ce E h x1 0).bind fun _ => (f_X0_visit E x1 v133 v134 v135 v136 h).bind fun q137 =>
      (ax_ld E q137.2 x0 100 (x3 + 1)).bind fun v138 =>
      (ax_ld E q137.2 x0 100 (x3 + 2)).bind fun v139 =>
      (ax_ld E q137.2 x0 100 (x3 + 3)).bind fun v140 =>
      (ax_ld E q137.2 x0 100 (x3 + 4)).bind fun v141 =>
      (ax_ce E q137.2 x2 5).bind fun _ => (f_X5_visit E x2 v138 v139 v140 v141 q137.2).bind fun q142 =>
      if i2 q137.1 = i2 q142.1 then
        f_L_law_1554 E x0 x1 x2 x3 q142.2
      else
        (some (0, q142.2)).map Sum.inr
    else if i2 (ax_and v2 63) = 27 then
      (ax_ce E h x1 0).bind fun _ => (f_X0_cancel E x1 h).bind fun q143 =>
      (ax_ce E q143.2 x2 5).bind fun _ => (f_X5_cancel E x2 q143.2).bind fun q144 =>
      if i2 q143.1 = i2 q144.1 then
        f_L_law_1554 E x0 x1 x2 x3 q144.2
      else
        (some (0, q144.2)).map Sum.inr
    else if i2 (ax_and v2 63) = 28 then
      (ax_ld E h x0 100 (x3 + 1)).bind fun v145 =>
      (ax_ce E h x1 0).bind fun _ => (f_X0_lendings E x1 v145 h).bind fun q146 =>
      (ax_ld E q146.2 x0 100 (x3 + 1)).bind fun v147 =>
      (ax_ce E q146.2 x2 5).bind fun _ => (f_X5_lendings E x2 v147 q146.2).bind fun q148 =>
      if i2 q146.1 = i2 q148.1 then
        f_L_law_1554 E x0 x1 x2 x3 q148.2
      else
        (some (0, q148.2)).map Sum.inr
    else if i2 (ax_and v2 63) = 29 then
      (ax_ld E h x0 100 (x3 + 1)).bind fun v149 =>
      (ax_ce E h x1 0).bind fun _ => (f_X0_plan E x1 v149 h).bind fun q150 =>
      (ax_ld E q150.2 x0 100 (x3 + 1)).bind fun v151 =>
      (ax_ce E q150.2 x2 5).bind fun _ => (f_X5_plan E x2 v151 q150.2).bind fun q152 =>
      if i2 q150.1 = i2 q152.1 then
        f_L_law_1554 E x0 x1 x2 x3 q152.2
      else
        (some (0, q152.2)).map Sum.inr
    else if i2 (ax_and v2 63) = 30 then
      (ax_ld E h x0 100 (x3 + 1)).bind fun v153 =>
      (ax_ld E h x0 100 (x3 + 2)).bind fun v154 =>
      (ax_ld E h x0 100 (x3 + 3)).bind fun v155 =>
      (ax_ld E h x0 100 (x3 + 4)).bind fun v156 =>
      (ax_ce E h x1 0).bind fun _ => (f_X0_thief E x1 v153 v154 v155 v156 h).bind fun q157 =>
      (ax_ld E q157.2 x0 100 (x3 + 1)).bind fun v158 =>
      (ax_ld E q157.2 x0 100 (x3 + 2)).bind fun v159 =>
      (ax_ld E q157.2 x0 100 (x3 + 3)).bind fun v160 =>
      (ax_ld E q157.2 x0 100 (x3 + 4)).bind fun v161 =>
      (ax_ce E q157.2 x2 5).bind fun _ => (f_X5_thief E x2 v158 v159 v160 v161 q157.2).bind fun q162 =>
      if i2 q157.1 = i2 q162.1 then
        f_L_law_1554 E x0 x1 x2 x3 q162.2
      else
        (some (0, q162.2)).map Sum.inr
    else if i2 (ax_and v2 63) = 31 then
      (ax_ld E h x0 100 (x3 + 1)).bind fun v163 =>
      (ax_ld E h x0 100 (x3 + 2)).bind fun v164 =>
      (ax_ld E h x0 100 (x3 + 3)).bind fun v165 =>
      (ax_ce E h x1 0).bind fun _ => (f_X0_shut E x1 v163 v164 v165 h).bind fun q166 =>
      (ax_ld E q166.2 x0 100 (x3 + 1)).bind fun v167 =>
      (ax_ld E q166.2 x0 100 (x3 + 2)).bind fun v168 =>
      (ax_ld E q166.2 x0 100 (x3 + 3)).bind fun v169 =>
      (ax_ce E q166.2 x2 5).bind fun _ => (f_X5_shut E x2 v167 v168 v169 q166.2).bind fun q170 =>
      if i2 q166.1 = i2 q170.1 then
        f_L_law_1554 E x0 x1 x2 x3 q170.2
      else
        (some (0, q170.2)).map Sum.inr
    else if i2 (ax_and v2 63) = 32 then
      (ax_ld E h x0 100 (x3 + 1)).bind fun v171 =>
      (ax_ce E h x1 0).bind fun _ => (f_X0_ban E x1 v171 h).bind fun q172 =>
      (ax_ld E q172.2 x0 100 (x3 + 1)).bind fun v173 =>
      (ax_ce E q172.2 x2 5).bind fun _ => (f_X5_ban E x2 v173 q172.2).bind fun q174 =>
      if i2 q172.1 = i2 q174.1 then
        f_L_law_1554 E x0 x1 x2 x3 q174.2
      else
        (some (0, q174.2)).map Sum.inr
    else if i2 (ax_and v2 63) = 33 then
      (ax_ld E h x0 100 (x3 + 1)).bind fun v175 =>
      (ax_ce E h x1 0).bind fun _ => (f_X0_party E x1 v175 h).bind fun q176 =>
      (ax_ld E q176.2 x0 100 (x3 + 1)).bind fun v177 =>
      (ax_ce E q176.2 x2 5).bind fun _ => (f_X5_party E x2 v177 q176.2).bind fun q178 =>
      if i2 q176.1 = i2 q178.1 then
        f_L_law_1554 E x0 x1 x2 x3 q178.2
      else
        (some (0, q178.2)).map Sum.inr
    else if i2 (ax_and v2 63) = 34 then
      (ax_ld E h x0 100 (x3 + 1)).bind fun v179 =>
      (ax_ce E h x1 0).bind fun _ => (f_X0_ring E x1 v179 h).bind fun q180 =>
      (ax_ld E q180.2 x0 100 (x3 + 1)).bind fun v181 =>
      (ax_ce E q180.2 x2 5).bind fun _ => (f_X5_ring E x2 v181 q180.2).bind fun q182 =>
      if i2 q180.1 = i2 q182.1 then
        f_L_law_1554 E x0 x1 x2 x3 q182.2
      else
        (some (0, q182.2)).map Sum.inr
    else if i2 (ax_and v2 63) = 35 then
      (ax_ld E h x0 100 (x3 + 1)).bind fun v183 =>
      (ax_ce E h x1 0).bind fun _ => (f_X0_cleared E x1 v183 h).bind fun q184 =>
      (ax_ld E q184.2 x0 100 (x3 + 1)).bind fun v185 =>
      (ax_ce E q184.2 x2 5).bind fun _ => (f_X5_cleared E x2 v185 q184.2).bind fun q186 =>
      if i2 q184.1 = i2 q186.1 then
        f_L_law_1554 E x0 x1 x2 x3 q186.2
      else
        (some (0, q186.2)).map Sum.inr
    else if i2 (ax_and v2 63) = 36 then
      (ax_ld E h x0 100 (x3 + 1)).bind fun v187 =>
      (ax_ce E h x1 0).bind fun _ => (f_X0_balance E x1 v187 h).bind fun q188 =>
      (ax_ld E q188.2 x0 100 (x3 + 1)).bind fun v189 =>
      (ax_ce E q188.2 x2 5).bind fun _ => (f_X5_balance E x2 v189 q188.2).bind fun q190 =>
      if i2 q188.1 = i2 q190.1 then
        f_L_law_1554 E x0 x1 x2 x3 q190.2
      else
        (some (0, q190.2)).map Sum.inr
    else if i2 (ax_and v2 63) = 37 then
      (ax_ce E h x1 0).bind fun _ => (f_X0_payments E x1 h).bind fun q191 =>
      (ax_ce E q191.2 x2 5).bind fun _ => (f_X5_payments E x2 q191.2).bind fun q192 =>
      if i2 q191.1 = i2 q192.1 then
        f_L_law_1554 E x0 x1 x2 x3 q192.2
      else
        (some (0, q192.2)).map Sum.inr
    else if i2 (ax_and v2 63) = 38 then
      (ax_ld E h x0 100 (x3 + 1)).bind fun v193 =>
      (ax_ld E h x0 100 (x3 + 2)).bind fun v194 =>
      (ax_ld E h x0 100 (x3 + 3)).bind fun v195 =>
      (ax_ld E h x0 100 (x3 + 4)).bind fun v196 =>
      (ax_ce E h x1 0).bind fun _ => (f_X0_scuff E x1 v193 v194 v195 v196 h).bind fun q197 =>
      (ax_ld E q197.2 x0 100 (x3 + 1)).bind fun v198 =>
      (ax_ld E q197.2 x0 100 (x3 + 2)).bind fun v199 =>
      (ax_ld E q197.2 x0 100 (x3 + 3)).bind fun v200 =>
      (ax_ld E q197.2 x0 100 (x3 + 4)).bind fun v201 =>
      (ax_ce E q197.2 x2 5).bind fun _ => (f_X5_scuff E x2 v198 v199 v200 v201 q197.2).bind fun q202 =>
      if i2 q197.1 = i2 q202.1 then
        f_L_law_1554 E x0 x1 x2 x3 q202.2
      else
        (some (0, q202.2)).map Sum.inr
    else if i2 (ax_and v2 63) = 39 then
      (ax_ce E h x1 0).bind fun _ => (f_X0_sweep E x1 h).bind fun q203 =>
      (ax_ce E q203.2 x2 5).bind fun _ => (f_X5_sweep E x2 q203.2).bind fun q204 =>
      if i2 q203.1 = i2 q204.1 then
        f_L_law_1554 E x0 x1 x2 x3 q204.2
      else
        (some (0, q204.2)).map Sum.inr
    else if i2 (ax_and v2 63) = 40 then
      (ax_ld E h x0 100 (x3 + 1)).bind fun v205 =>
      (ax_ce E h x1 0).bind fun _ => (f_X0_secret E x1 v205 h).bind fun q206 =>
      (ax_ld E q206.2 x0 100 (x3 + 1)).bind fun v207 =>
      (ax_ce E q206.2 x2 5).bind fun _ => (f_X5_secret E x2 v207 q206.2).bind fun q208 =>
      if i2 q206.1 = i2 q208.1 then
        f_L_law_1554 E x0 x1 x2 x3 q208.2
      else
        (some (0, q208.2)).map Sum.inr
    else if i2 (ax_and v2 63) = 41 then
      (ax_ce E h x1 0).bind fun _ => (f_X0_denied E x1 h).bind fun q209 =>
      (ax_ce E q209.2 x2 5).bind fun _ => (f_X5_denied E x2 q209.2).bind fun q210 =>
      if i2 q209.1 = i2 q210.1 then
        f_L_law_1554 E x0 x1 x2 x3 q210.2
      else
        (some (0, q210.2)).map Sum.inr
    else if i2 (ax_and v2 63) = 42 then
      (ax_ld E h x0 100 (x3 + 1)).bind fun v211 =>
      (ax_ld E h x0 100 (x3 + 2)).bind fun v212 =>
      (ax_ce E h x1 0).bind fun _ => (f_X0_month E x1 v211 v212 h).bind fun q213 =>
      (ax_ld E q213.2 x0 100 (x3 + 1)).bind fun v214 =>
      (ax_ld E q213.2 x0 100 (x3 + 2)).bind fun v215 =>
      (ax_ce E q213.2 x2 5).bind fun _ => (f_X5_month E x2 v214 v215 q213.2).bind fun q216 =>
      if i2 q213.1 = i2 q216.1 then
        f_L_law_1554 E x0 x1 x2 x3 q216.2
      else
        (some (0, q216.2)).map Sum.inr
    else if i2 (ax_and v2 63) = 43 then
      (ax_ld E h x0 100 (x3 + 1)).bind fun v217 =>
      (ax_ld E h x0 100 (x3 + 2)).bind fun v218 =>
      (ax_ce E h x1 0).bind fun _ => (f_X0_drawn E x1 v217 v218 h).bind fun q219 =>
      (ax_ld E q219.2 x0 100 (x3 + 1)).bind fun v220 =>
      (ax_ld E q219.2 x0 100 (x3 + 2)).bind fun v221 =>
      (ax_ce E q219.2 x2 5).bind fun _ => (f_X5_drawn E x2 v220 v221 q219.2).bind fun q222 =>
      if i2 q219.1 = i2 q222.1 then
        f_L_law_1554 E x0 x1 x2 x3 q222.2
      else
        (some (0, q222.2)).map Sum.inr
    else if i2 (ax_and v2 63) = 44 then
      (ax_ld E h x0 100 (x3 + 1)).bind fun v223 =>
      (ax_ce E h x1 0).bind fun _ => (f_X0_image E x1 v223 h).bind fun q224 =>
      (ax_ld E q224.2 x0 100 (x3 + 1)).bind fun v225 =>
      (ax_ce E q224.2 x2 5).bind fun _ => (f_X5_image E x2 v225 q224.2).bind fun q226 =>
      if i2 q224.1 = i2 q226.1 then
        f_L_law_1554 E x0 x1 x2 x3 q226.2
      else
        (some (0, q226.2)).map Sum.inr
    else if i2 (ax_and v2 63) = 45 then
      (ax_ld E h x0 100 (x3 + 1)).bind fun v227 =>
      (ax_ce E h x1 0).bind fun _ => (f_X0_back E x1 v227 h).bind fun q228 =>
      (ax_ld E q228.2 x0 100 (x3 + 1)).bind fun v229 =>
      (ax_ce E q228.2 x2 5).bind fun _ => (f_X5_back E x2 v229 q228.2).bind fun q230 =>
      if i2 q228.1 = i2 q230.1 then
        f_L_law_1554 E x0 x1 x2 x3 q230.2
      else
        (some (0, q230.2)).map Sum.inr
    else if i2 (ax_and v2 63) = 46 then
      (ax_ld E h x0 100 (x3 + 1)).bind fun v231 =>
      (ax_ce E h x1 0).bind fun _ => (f_X0_count E x1 v231 h).bind fun q232 =>
      (ax_ld E q232.2 x0 100 (x3 + 1)).bind fun v233 =>
      (ax_ce E q232.2 x2 5).bind fun _ => (f_X5_count E x2 v233 q232.2).bind fun q234 =>
      if i2 q232.1 = i2 q234.1 then
        f_L_law_1554 E x0 x1 x2 x3 q234.2
      else
        (some (0, q234.2)).map Sum.inr
    else if i2 (ax_and v2 63) = 47 then
      (ax_ce E h x1 0).bind fun _ => (f_X0_status E x1 h).bind fun q235 =>
      (ax_ce E q235.2 x2 5).bind fun _ => (f_X5_status E x2 q235.2).bind fun q236 =>
      if i2 q235.1 = i2 q236.1 then
        f_L_law_1554 E x0 x1 x2 x3 q236.2
      else
        (some (0, q236.2)).map Sum.inr
    else 
      f_L_law_1554 E x0 x1 x2 x3 h
noncomputable def f_L_law_18 (E : ax_E) (x0 : Option Nat) (x1 : Option Nat) (x2 : Option Nat) (x3 : Int) (h : ax_H) : Option (Int × ax_H) :=
  ax_iter (fun s : Int × ax_H => lb_L_law_18 E x0 x1 x2 s.1 s.2) (x3, h)
noncomputable def f_L_law (E : ax_E) (x0 : Option Nat) (h : ax_H) : Option (Int × ax_H) :=
  (ax_nw E h 0 0 18).bind fun q1 =>
  (some q1.1).bind fun _ => (f_X0_init E (some q1.1) q1.2).bind fun h2 =>
  (ax_nw E h2 5 0 61).bind fun q3 =>
  (some q3.1).bind fun _ => (f_X5_init E (some q3.1) q3.2).bind fun h4 =>
  f_L_law_18 E x0 (some q1.1) (some q3.1) 0 h4
def pi_L_law_18 (G : ax_G) (X : ax_X) (Q : State → Prop) (x0 : Option Nat) (x1 : Option Nat) (x2 : Option Nat) : Int × ax_H → Prop := fun s => ∀ ls : Array Slot, ax_hl ls 4 [(0, .inr (.inr x0)), (1, .inr (.inr x1)), (2, .inr (.inr x2)), (3, .inl s.1)] → ax_W G X Q s.2 18 ls []
set_option maxHeartbeats 4000000 in
theorem w_L_law_1554 {l : Launch} {G : ax_G} {X : ax_X} {Q : State → Prop} {h0 h : ax_H} {ls : Array Slot} (hSF : ax_SF G) (B : ax_BL l G X cL_law 4 R_law 8192 104096) (Z : ax_Z X h0 ((some .boolean))) (hn : X.2.2.2.2.2.2.2.2.1.name = x.name) (hlt : l.stackTraces = false) (hT : ax_Lw G X) (x0 : Option Nat) (x1 : Option Nat) (x2 : Option Nat) (x3 : Int) {w : (Int × ax_H) ⊕ (Int × ax_H)} (hl : ax_hl ls 4 [(0, .inr (.inr x0)), (1, .inr (.inr x1)), (2, .inr (.inr x2)), (3, .inl x3)]) (e : f_L_law_1554 G.2.2 x0 x1 x2 x3 h = some w) (hp : (ax_PL (pi_L_law_18 G X Q x0 x1 x2) (fun w : Int × ax_H => (w.1 = 1 ∧ Q = lw_Z X.2.2.2.2.2.2.2.1 X.2.2.2.2.2.2.1 X.2.2.2.2.1))) w) : ax_W G X Q h 1554 ls [] := by
  unfold f_L_law_1554 at e
  refine ax_iinc (L' := [(3, .inl (x3 + 6)), (0, .inr (.inr x0)), (1, .inr (.inr x1)), (2, .inr (.inr x2))]) B dL_law_1554 hl 3 rfl (by decide) rfl (fun ls hl => ?_)
  refine ax_goto (tgt := 18) B dL_law_1557 (by decide) ?_
  cases e
  exact hp _ (hl.sub [1, 2, 3, 0] rfl)
set_option maxHeartbeats 4000000 in
theorem wb_L_law_18 {l : Launch} {G : ax_G} {X : ax_X} {Q : State → Prop} {h0 h : ax_H} {ls : Array Slot} (hSF : ax_SF G) (B : ax_BL l G X cL_law 4 R_law 8192 104096) (Z : ax_Z X h0 ((some .boolean))) (hn : X.2.2.2.2.2.2.2.2.1.name = x.name) (hlt : l.stackTraces = false) (hT : ax_Lw G X) (x0 : Option Nat) (x1 : Option Nat) (x2 : Option Nat) (x3 : Int) {w : (Int × ax_H) ⊕ (Int × ax_H)} (hl : ax_hl ls 4 [(0, .inr (.inr x0)), (1, .inr (.inr x1)), (2, .inr (.inr x2)), (3, .inl x3)]) (e : lb_L_law_18 G.2.2 x0 x1 x2 x3 h = some w) (hp : (ax_PL (pi_L_law_18 G X Q x0 x1 x2) (fun w : Int × ax_H => (w.1 = 1 ∧ Q = lw_Z X.2.2.2.2.2.2.2.1 X.2.2.2.2.2.2.1 X.2.2.2.2.1))) w) : ax_W G X Q h 18 ls [] := by
  unfold lb_L_law_18 at e
  refine ax_iload_n B dL_law_18 rfl hl 3 rfl ?_
  refine ax_aload_n B dL_law_19 rfl hl 0 rfl ?_
  refine ax_alen B kd100 dL_law_20 e (fun v1 e => ?_)
  refine ax_bipush B dL_law_21 (by decide) ?_
  refine ax_isub' B dL_law_23 ?_
  refine ax_icmp_gt (tgt := 1560) B dL_law_24 (by decide) e (fun e => ?_) (fun e => ?_)
  · obtain ⟨w, e9_1, rfl⟩ := Option.map_eq_some_iff.mp e
    have e := e9_1
    refine ax_iconst B dL_law_1560 ?_
    cases e
    have hp : _ ∧ Q = _ := hp
    obtain ⟨-, rfl⟩ := hp
    exact ax_lawret B hT dL_law_1561
  · refine ax_aload_n B dL_law_27 rfl hl 0 rfl ?_
    refine ax_iload_n B dL_law_28 rfl hl 3 rfl ?_
    refine ax_iald B kd100 dL_law_29 e (fun v2 e => ?_)
    refine ax_bipush B dL_law_30 (by decide) ?_
    refine ax_iand' B dL_law_32 ?_
    rcases ax_ite e with ⟨hk0, e⟩ | ⟨hk0, e⟩
    · refine ax_tswIn (tgt := 240) (off := 207) B dL_law_33 (by omega) (by omega) (by rw [hk0]; rfl) (by decide) ?_
      refine ax_aload_n B dL_law_240 rfl hl 1 rfl ?_
      refine ax_aload_n B dL_law_241 rfl hl 0 rfl ?_
      refine ax_iload_n B dL_law_242 rfl hl 3 rfl ?_
      refine ax_iconst B dL_law_243 ?_
      refine ax_iadd' B dL_law_244 ?_
      refine ax_iald B kd100 dL_law_245 e (fun v3 e => ?_)
      refine ax_aload_n B dL_law_246 rfl hl 0 rfl ?_
      refine ax_iload_n B dL_law_247 rfl hl 3 rfl ?_
      refine ax_iconst B dL_law_248 ?_
      refine ax_iadd' B dL_law_249 ?_
      refine ax_iald B kd100 dL_law_250 e (fun v4 e => ?_)
      refine ax_aload_n B dL_law_251 rfl hl 0 rfl ?_
      refine ax_iload_n B dL_law_252 rfl hl 3 rfl ?_
      refine ax_iconst B dL_law_253 ?_
      refine ax_iadd' B dL_law_254 ?_
      refine ax_iald B kd100 dL_law_255 e (fun v5 e => ?_)
      refine ax_ivI (y := yX0_person) (n := 3) (As := [.int (Int32.ofInt v3), .int (Int32.ofInt v4), .int (Int32.ofInt v5)]) B kd0 (lw_V q423 q424 q425 q125 q426) (by decide +kernel) ⟨Nat.le_of_ble_eq_true rfl, Nat.le_of_ble_eq_true rfl⟩ (fun w1 e1 => mt_X0_person l G hSF x1 v3 v4 v5 _ w1 e1) rfl hl.size (by decide) dL_law_256 e (fun q6 e => ?_)
      refine ax_aload_n B dL_law_259 rfl hl 2 rfl ?_
      refine ax_aload_n B dL_law_260 rfl hl 0 rfl ?_
      refine ax_iload_n B dL_law_261 rfl hl 3 rfl ?_
      refine ax_iconst B dL_law_262 ?_
      refine ax_iadd' B dL_law_263 ?_
      refine ax_iald B kd100 dL_law_264 e (fun v7 e => ?_)
      refine ax_aload_n B dL_law_265 rfl hl 0 rfl ?_
      refine ax_iload_n B dL_law_266 rfl hl 3 rfl ?_
      refine ax_iconst B dL_law_267 ?_
      refine ax_iadd' B dL_law_268 ?_
      refine ax_iald B kd100 dL_law_269 e (fun v8 e => ?_)
      refine ax_aload_n B dL_law_270 rfl hl 0 rfl ?_
      refine ax_iload_n B dL_law_271 rfl hl 3 rfl ?_
      refine ax_iconst B dL_law_272 ?_
      refine ax_iadd' B dL_law_273 ?_
      refine ax_iald B kd100 dL_law_274 e (fun v9 e => ?_)
      refine ax_ivI (y := yX5_person) (n := 3) (As := [.int (Int32.ofInt v7), .int (Int32.ofInt v8), .int (Int32.ofInt v9)]) B kd5 (lw_V q2170 q2171 q2172 q133 q2173) (by decide +kernel) ⟨Nat.le_of_ble_eq_true rfl, Nat.le_of_ble_eq_true rfl⟩ (fun w1 e1 => mt_X5_person l G hSF x2 v7 v8 v9 _ w1 e1) rfl hl.size (by simp only [List.map_cons, List.map_nil, List.sum_cons, List.sum_nil, va_rf_cat, ax_catI, ax_catL]; decide) dL_law_275 e (fun q10 e => ?_)
      refine ax_icmp_eq (tgt := 1554) B dL_law_278 (by decide) e (fun e => ?_) (fun e => ?_)
      · exact w_L_law_1554 hSF B Z hn hlt hT x0 x1 x2 x3 (hl.sub [0, 1, 2, 3] rfl) e hp
      · obtain ⟨w, e9_2, rfl⟩ := Option.map_eq_some_iff.mp e
        have e := e9_2
        refine ax_iconst B dL_law_281 ?_
        cases e
        have hp : _ ∧ Q = _ := hp
        exact absurd (show (0 : Int) = 1 from hp.1) (by decide)
    rcases ax_ite e with ⟨hk1, e⟩ | ⟨hk1, e⟩
    · refine ax_tswIn (tgt := 283) (off := 250) B dL_law_33 (by omega) (by omega) (by rw [hk1]; rfl) (by decide) ?_
      refine ax_aload_n B dL_law_283 rfl hl 1 rfl ?_
      refine ax_aload_n B dL_law_284 rfl hl 0 rfl ?_
      refine ax_iload_n B dL_law_285 rfl hl 3 rfl ?_
      refine ax_iconst B dL_law_286 ?_
      refine ax_iadd' B dL_law_287 ?_
      refine ax_iald B kd100 dL_law_288 e (fun v11 e => ?_)
      refine ax_aload_n B dL_law_289 rfl hl 0 rfl ?_
      refine ax_iload_n B dL_law_290 rfl hl 3 rfl ?_
      refine ax_iconst B dL_law_291 ?_
      refine ax_iadd' B dL_law_292 ?_
      refine ax_iald B kd100 dL_law_293 e (fun v12 e => ?_)
      refine ax_aload_n B dL_law_294 rfl hl 0 rfl ?_
      refine ax_iload_n B dL_law_295 rfl hl 3 rfl ?_
      refine ax_iconst B dL_law_296 ?_
      refine ax_iadd' B dL_law_297 ?_
      refine ax_iald B kd100 dL_law_298 e (fun v13 e => ?_)
      refine ax_ivI (y := yX0_put) (n := 3) (As := [.int (Int32.ofInt v11), .int (Int32.ofInt v12), .int (Int32.ofInt v13)]) B kd0 (lw_V q455 q456 q457 q125 q458) (by decide +kernel) ⟨Nat.le_of_ble_eq_true rfl, Nat.le_of_ble_eq_true rfl⟩ (fun w1 e1 => mt_X0_put l G hSF x1 v11 v12 v13 _ w1 e1) rfl hl.size (by decide) dL_law_299 e (fun q14 e => ?_)
      refine ax_aload_n B dL_law_302 rfl hl 2 rfl ?_
      refine ax_aload_n B dL_law_303 rfl hl 0 rfl ?_
      refine ax_iload_n B dL_law_304 rfl hl 3 rfl ?_
      refine ax_iconst B dL_law_305 ?_
      refine ax_iadd' B dL_law_306 ?_
      refine ax_iald B kd100 dL_law_307 e (fun v15 e => ?_)
      refine ax_aload_n B dL_law_308 rfl hl 0 rfl ?_
      refine ax_iload_n B dL_law_309 rfl hl 3 rfl ?_
      refine ax_iconst B dL_law_310 ?_
      refine ax_iadd' B dL_law_311 ?_
      refine ax_iald B kd100 dL_law_312 e (fun v16 e => ?_)
      refine ax_aload_n B dL_law_313 rfl hl 0 rfl ?_
      refine ax_iload_n B dL_law_314 rfl hl 3 rfl ?_
      refine ax_iconst B dL_law_315 ?_
      refine ax_iadd' B dL_law_316 ?_
      refine ax_iald B kd100 dL_law_317 e (fun v17 e => ?_)
      refine ax_ivI (y := yX5_put) (n := 3) (As := [.int (Int32.ofInt v15), .int (Int32.ofInt v16), .int (Int32.ofInt v17)]) B kd5 (lw_V q2187 q2188 q2189 q133 q2190) (by decide +kernel) ⟨Nat.le_of_ble_eq_true rfl, Nat.le_of_ble_eq_true rfl⟩ (fun w1 e1 => mt_X5_put l G hSF x2 v15 v16 v17 _ w1 e1) rfl hl.size (by simp only [List.map_cons, List.map_nil, List.sum_cons, List.sum_nil, va_rf_cat, ax_catI, ax_catL]; decide) dL_law_318 e (fun q18 e => ?_)
      refine ax_icmp_eq (tgt := 1554) B dL_law_321 (by decide) e (fun e => ?_) (fun e => ?_)
      · exact w_L_law_1554 hSF B Z hn hlt hT x0 x1 x2 x3 (hl.sub [0, 1, 2, 3] rfl) e hp
      · obtain ⟨w, e9_3, rfl⟩ := Option.map_eq_some_iff.mp e
        have e := e9_3
        refine ax_iconst B dL_law_324 ?_
        cases e
        have hp : _ ∧ Q = _ := hp
        exact absurd (show (0 : Int) = 1 from hp.1) (by decide)
    rcases ax_ite e with ⟨hk2, e⟩ | ⟨hk2, e⟩
    · refine ax_tswIn (tgt := 326) (off := 293) B dL_law_33 (by omega) (by omega) (by rw [hk2]; rfl) (by decide) ?_
      refine ax_aload_n B dL_law_326 rfl hl 1 rfl ?_
      refine ax_aload_n B dL_law_327 rfl hl 0 rfl ?_
      refine ax_iload_n B dL_law_328 rfl hl 3 rfl ?_
      refine ax_iconst B dL_law_329 ?_
      refine ax_iadd' B dL_law_330 ?_
      refine ax_iald B kd100 dL_law_331 e (fun v19 e => ?_)
      refine ax_aload_n B dL_law_332 rfl hl 0 rfl ?_
      refine ax_iload_n B dL_law_333 rfl hl 3 rfl ?_
      refine ax_iconst B dL_law_334 ?_
      refine ax_iadd' B dL_law_335 ?_
      refine ax_iald B kd100 dL_law_336 e (fun v20 e => ?_)
      refine ax_ivI (y := yX0_of) (n := 2) (As := [.int (Int32.ofInt v19), .int (Int32.ofInt v20)]) B kd0 (lw_V q471 q472 q473 q125 q474) (by decide +kernel) ⟨Nat.le_of_ble_eq_true rfl, Nat.le_of_ble_eq_true rfl⟩ (fun w1 e1 => mt_X0_of l G hSF x1 v19 v20 _ w1 e1) rfl hl.size (by decide) dL_law_337 e (fun q21 e => ?_)
      refine ax_aload_n B dL_law_340 rfl hl 2 rfl ?_
      refine ax_aload_n B dL_law_341 rfl hl 0 rfl ?_
      refine ax_iload_n B dL_law_342 rfl hl 3 rfl ?_
      refine ax_iconst B dL_law_343 ?_
      refine ax_iadd' B dL_law_344 ?_
      refine ax_iald B kd100 dL_law_345 e (fun v22 e => ?_)
      refine ax_aload_n B dL_law_346 rfl hl 0 rfl ?_
      refine ax_iload_n B dL_law_347 rfl hl 3 rfl ?_
      refine ax_iconst B dL_law_348 ?_
      refine ax_iadd' B dL_law_349 ?_
      refine ax_iald B kd100 dL_law_350 e (fun v23 e => ?_)
      refine ax_ivI (y := yX5_of) (n := 2) (As := [.int (Int32.ofInt v22), .int (Int32.ofInt v23)]) B kd5 (lw_V q2195 q2196 q2197 q133 q2198) (by decide +kernel) ⟨Nat.le_of_ble_eq_true rfl, Nat.le_of_ble_eq_true rfl⟩ (fun w1 e1 => mt_X5_of l G hSF x2 v22 v23 _ w1 e1) rfl hl.size (by simp only [List.map_cons, List.map_nil, List.sum_cons, List.sum_nil, va_rf_cat, ax_catI, ax_catL]; decide) dL_law_351 e (fun q24 e => ?_)
      refine ax_icmp_eq (tgt := 1554) B dL_law_354 (by decide) e (fun e => ?_) (fun e => ?_)
      · exact w_L_law_1554 hSF B Z hn hlt hT x0 x1 x2 x3 (hl.sub [0, 1, 2, 3] rfl) e hp
      · obtain ⟨w, e9_4, rfl⟩ := Option.map_eq_some_iff.mp e
        have e := e9_4
        refine ax_iconst B dL_law_357 ?_
        cases e
        have hp : _ ∧ Q = _ := hp
        exact absurd (show (0 : Int) = 1 from hp.1) (by decide)
    rcases ax_ite e with ⟨hk3, e⟩ | ⟨hk3, e⟩
    · refine ax_tswIn (tgt := 359) (off := 326) B dL_law_33 (by omega) (by omega) (by rw [hk3]; rfl) (by decide) ?_
      refine ax_aload_n B dL_law_359 rfl hl 1 rfl ?_
      refine ax_aload_n B dL_law_360 rfl hl 0 rfl ?_
      refine ax_iload_n B dL_law_361 rfl hl 3 rfl ?_
      refine ax_iconst B dL_law_362 ?_
      refine ax_iadd' B dL_law_363 ?_
      refine ax_iald B kd100 dL_law_364 e (fun v25 e => ?_)
      refine ax_aload_n B dL_law_365 rfl hl 0 rfl ?_
      refine ax_iload_n B dL_law_366 rfl hl 3 rfl ?_
      refine ax_iconst B dL_law_367 ?_
      refine ax_iadd' B dL_law_368 ?_
      refine ax_iald B kd100 dL_law_369 e (fun v26 e => ?_)
      refine ax_aload_n B dL_law_370 rfl hl 0 rfl ?_
      refine ax_iload_n B dL_law_371 rfl hl 3 rfl ?_
      refine ax_iconst B dL_law_372 ?_
      refine ax_iadd' B dL_law_373 ?_
      refine ax_iald B kd100 dL_law_374 e (fun v27 e => ?_)
      refine ax_ivI (y := yX0_debt) (n := 3) (As := [.int (Int32.ofInt v25), .int (Int32.ofInt v26), .int (Int32.ofInt v27)]) B kd0 (lw_V q476 q477 q478 q125 q479) (by decide +kernel) ⟨Nat.le_of_ble_eq_true rfl, Nat.le_of_ble_eq_true rfl⟩ (fun w1 e1 => mt_X0_debt l G hSF x1 v25 v26 v27 _ w1 e1) rfl hl.size (by decide) dL_law_375 e (fun q28 e => ?_)
      refine ax_aload_n B dL_law_378 rfl hl 2 rfl ?_
      refine ax_aload_n B dL_law_379 rfl hl 0 rfl ?_
      refine ax_iload_n B dL_law_380 rfl hl 3 rfl ?_
      refine ax_iconst B dL_law_381 ?_
      refine ax_iadd' B dL_law_382 ?_
      refine ax_iald B kd100 dL_law_383 e (fun v29 e => ?_)
      refine ax_aload_n B dL_law_384 rfl hl 0 rfl ?_
      refine ax_iload_n B dL_law_385 rfl hl 3 rfl ?_
      refine ax_iconst B dL_law_386 ?_
      refine ax_iadd' B dL_law_387 ?_
      refine ax_iald B kd100 dL_law_388 e (fun v30 e => ?_)
      refine ax_aload_n B dL_law_389 rfl hl 0 rfl ?_
      refine ax_iload_n B dL_law_390 rfl hl 3 rfl ?_
      refine ax_iconst B dL_law_391 ?_
      refine ax_iadd' B dL_law_392 ?_
      refine ax_iald B kd100 dL_law_393 e (fun v31 e => ?_)
      refine ax_ivI (y := yX5_debt) (n := 3) (As := [.int (Int32.ofInt v29), .int (Int32.ofInt v30), .int (Int32.ofInt v31)]) B kd5 (lw_V q2199 q2200 q2201 q133 q2202) (by decide +kernel) ⟨Nat.le_of_ble_eq_true rfl, Nat.le_of_ble_eq_true rfl⟩ (fun w1 e1 => mt_X5_debt l G hSF x2 v29 v30 v31 _ w1 e1) rfl hl.size (by simp only [List.map_cons, List.map_nil, List.sum_cons, List.sum_nil, va_rf_cat, ax_catI, ax_catL]; decide) dL_law_394 e (fun q32 e => ?_)
      refine ax_icmp_eq (tgt := 1554) B dL_law_397 (by decide) e (fun e => ?_) (fun e => ?_)
      · exact w_L_law_1554 hSF B Z hn hlt hT x0 x1 x2 x3 (hl.sub [0, 1, 2, 3] rfl) e hp
      · obtain ⟨w, e9_5, rfl⟩ := Option.map_eq_some_iff.mp e
        have e := e9_5
        refine ax_iconst B dL_law_400 ?_
        cases e
        have hp : _ ∧ Q = _ := hp
        exact absurd (show (0 : Int) = 1 from hp.1) (by decide)
    rcases ax_ite e with ⟨hk4, e⟩ | ⟨hk4, e⟩
    · refine ax_tswIn (tgt := 402) (off := 369) B dL_law_33 (by omega) (by omega) (by rw [hk4]; rfl) (by decide) ?_
      refine ax_aload_n B dL_law_402 rfl hl 1 rfl ?_
      refine ax_aload_n B dL_law_403 rfl hl 0 rfl ?_
      refine ax_iload_n B dL_law_404 rfl hl 3 rfl ?_
      refine ax_iconst B dL_law_405 ?_
      refine ax_iadd' B dL_law_406 ?_
      refine ax_iald B kd100 dL_law_407 e (fun v33 e => ?_)
      refine ax_aload_n B dL_law_408 rfl hl 0 rfl ?_
      refine ax_iload_n B dL_law_409 rfl hl 3 rfl ?_
      refine ax_iconst B dL_law_410 ?_
      refine ax_iadd' B dL_law_411 ?_
      refine ax_iald B kd100 dL_law_412 e (fun v34 e => ?_)
      refine ax_ivI (y := yX0_at) (n := 2) (As := [.int (Int32.ofInt v33), .int (Int32.ofInt v34)]) B kd0 (lw_V q491 q492 q493 q125 q494) (by decide +kernel) ⟨Nat.le_of_ble_eq_true rfl, Nat.le_of_ble_eq_true rfl⟩ (fun w1 e1 => mt_X0_at l G hSF x1 v33 v34 _ w1 e1) rfl hl.size (by decide) dL_law_413 e (fun q35 e => ?_)
      refine ax_aload_n B dL_law_416 rfl hl 2 rfl ?_
      refine ax_aload_n B dL_law_417 rfl hl 0 rfl ?_
      refine ax_iload_n B dL_law_418 rfl hl 3 rfl ?_
      refine ax_iconst B dL_law_419 ?_
      refine ax_iadd' B dL_law_420 ?_
      refine ax_iald B kd100 dL_law_421 e (fun v36 e => ?_)
      refine ax_aload_n B dL_law_422 rfl hl 0 rfl ?_
      refine ax_iload_n B dL_law_423 rfl hl 3 rfl ?_
      refine ax_iconst B dL_law_424 ?_
      refine ax_iadd' B dL_law_425 ?_
      refine ax_iald B kd100 dL_law_426 e (fun v37 e => ?_)
      refine ax_ivI (y := yX5_at) (n := 2) (As := [.int (Int32.ofInt v36), .int (Int32.ofInt v37)]) B kd5 (lw_V q2218 q2219 q2220 q133 q2221) (by decide +kernel) ⟨Nat.le_of_ble_eq_true rfl, Nat.le_of_ble_eq_true rfl⟩ (fun w1 e1 => mt_X5_at l G hSF x2 v36 v37 _ w1 e1) rfl hl.size (by simp only [List.map_cons, List.map_nil, List.sum_cons, List.sum_nil, va_rf_cat, ax_catI, ax_catL]; decide) dL_law_427 e (fun q38 e => ?_)
      refine ax_icmp_eq (tgt := 1554) B dL_law_430 (by decide) e (fun e => ?_) (fun e => ?_)
      · exact w_L_law_1554 hSF B Z hn hlt hT x0 x1 x2 x3 (hl.sub [0, 1, 2, 3] rfl) e hp
      · obtain ⟨w, e9_6, rfl⟩ := Option.map_eq_some_iff.mp e
        have e := e9_6
        refine ax_iconst B dL_law_433 ?_
        cases e
        have hp : _ ∧ Q = _ := hp
        exact absurd (show (0 : Int) = 1 from hp.1) (by decide)
    rcases ax_ite e with ⟨hk5, e⟩ | ⟨hk5, e⟩
    · refine ax_tswIn (tgt := 435) (off := 402) B dL_law_33 (by omega) (by omega) (by rw [hk5]; rfl) (by decide) ?_
      refine ax_aload_n B dL_law_435 rfl hl 1 rfl ?_
      refine ax_aload_n B dL_law_436 rfl hl 0 rfl ?_
      refine ax_iload_n B dL_law_437 rfl hl 3 rfl ?_
      refine ax_iconst B dL_law_438 ?_
      refine ax_iadd' B dL_law_439 ?_
      refine ax_iald B kd100 dL_law_440 e (fun v39 e => ?_)
      refine ax_aload_n B dL_law_441 rfl hl 0 rfl ?_
      refine ax_iload_n B dL_law_442 rfl hl 3 rfl ?_
      refine ax_iconst B dL_law_443 ?_
      refine ax_iadd' B dL_law_444 ?_
      refine ax_iald B kd100 dL_law_445 e (fun v40 e => ?_)
      refine ax_ivI (y := yX0_owes) (n := 2) (As := [.int (Int32.ofInt v39), .int (Int32.ofInt v40)]) B kd0 (lw_V q605 q606 q607 q125 q608) (by decide +kernel) ⟨Nat.le_of_ble_eq_true rfl, Nat.le_of_ble_eq_true rfl⟩ (fun w1 e1 => mt_X0_owes l G hSF x1 v39 v40 _ w1 e1) rfl hl.size (by decide) dL_law_446 e (fun q41 e => ?_)
      refine ax_aload_n B dL_law_449 rfl hl 2 rfl ?_
      refine ax_aload_n B dL_law_450 rfl hl 0 rfl ?_
      refine ax_iload_n B dL_law_451 rfl hl 3 rfl ?_
      refine ax_iconst B dL_law_452 ?_
      refine ax_iadd' B dL_law_453 ?_
      refine ax_iald B kd100 dL_law_454 e (fun v42 e => ?_)
      refine ax_aload_n B dL_law_455 rfl hl 0 rfl ?_
      refine ax_iload_n B dL_law_456 rfl hl 3 rfl ?_
      refine ax_iconst B dL_law_457 ?_
      refine ax_iadd' B dL_law_458 ?_
      refine ax_iald B kd100 dL_law_459 e (fun v43 e => ?_)
      refine ax_ivI (y := yX5_owes) (n := 2) (As := [.int (Int32.ofInt v42), .int (Int32.ofInt v43)]) B kd5 (lw_V q2300 q2301 q2302 q133 q2303) (by decide +kernel) ⟨Nat.le_of_ble_eq_true rfl, Nat.le_of_ble_eq_true rfl⟩ (fun w1 e1 => mt_X5_owes l G hSF x2 v42 v43 _ w1 e1) rfl hl.size (by simp only [List.map_cons, List.map_nil, List.sum_cons, List.sum_nil, va_rf_cat, ax_catI, ax_catL]; decide) dL_law_460 e (fun q44 e => ?_)
      refine ax_icmp_eq (tgt := 1554) B dL_law_463 (by decide) e (fun e => ?_) (fun e => ?_)
      · exact w_L_law_1554 hSF B Z hn hlt hT x0 x1 x2 x3 (hl.sub [0, 1, 2, 3] rfl) e hp
      · obtain ⟨w, e9_7, rfl⟩ := Option.map_eq_some_iff.mp e
        have e := e9_7
        refine ax_iconst B dL_law_466 ?_
        cases e
        have hp : _ ∧ Q = _ := hp
        exact absurd (show (0 : Int) = 1 from hp.1) (by decide)
    rcases ax_ite e with ⟨hk6, e⟩ | ⟨hk6, e⟩
    · refine ax_tswIn (tgt := 468) (off := 435) B dL_law_33 (by omega) (by omega) (by rw [hk6]; rfl) (by decide) ?_
      refine ax_aload_n B dL_law_468 rfl hl 1 rfl ?_
      refine ax_aload_n B dL_law_469 rfl hl 0 rfl ?_
      refine ax_iload_n B dL_law_470 rfl hl 3 rfl ?_
      refine ax_iconst B dL_law_471 ?_
      refine ax_iadd' B dL_law_472 ?_
      refine ax_iald B kd100 dL_law_473 e (fun v45 e => ?_)
      refine ax_aload_n B dL_law_474 rfl hl 0 rfl ?_
      refine ax_iload_n B dL_law_475 rfl hl 3 rfl ?_
      refine ax_iconst B dL_law_476 ?_
      refine ax_iadd' B dL_law_477 ?_
      refine ax_iald B kd100 dL_law_478 e (fun v46 e => ?_)
      refine ax_ivI (y := yX0_terms) (n := 2) (As := [.int (Int32.ofInt v45), .int (Int32.ofInt v46)]) B kd0 (lw_V q610 q611 q612 q125 q613) (by decide +kernel) ⟨Nat.le_of_ble_eq_true rfl, Nat.le_of_ble_eq_true rfl⟩ (fun w1 e1 => mt_X0_terms l G hSF x1 v45 v46 _ w1 e1) rfl hl.size (by decide) dL_law_479 e (fun q47 e => ?_)
      refine ax_aload_n B dL_law_482 rfl hl 2 rfl ?_
      refine ax_aload_n B dL_law_483 rfl hl 0 rfl ?_
      refine ax_iload_n B dL_law_484 rfl hl 3 rfl ?_
      refine ax_iconst B dL_law_485 ?_
      refine ax_iadd' B dL_law_486 ?_
      refine ax_iald B kd100 dL_law_487 e (fun v48 e => ?_)
      refine ax_aload_n B dL_law_488 rfl hl 0 rfl ?_
      refine ax_iload_n B dL_law_489 rfl hl 3 rfl ?_
      refine ax_iconst B dL_law_490 ?_
      refine ax_iadd' B dL_law_491 ?_
      refine ax_iald B kd100 dL_law_492 e (fun v49 e => ?_)
      refine ax_ivI (y := yX5_terms) (n := 2) (As := [.int (Int32.ofInt v48), .int (Int32.ofInt v49)]) B kd5 (lw_V q2304 q2305 q2306 q133 q2307) (by decide +kernel) ⟨Nat.le_of_ble_eq_true rfl, Nat.le_of_ble_eq_true rfl⟩ (fun w1 e1 => mt_X5_terms l G hSF x2 v48 v49 _ w1 e1) rfl hl.size (by simp only [List.map_cons, List.map_nil, List.sum_cons, List.sum_nil, va_rf_cat, ax_catI, ax_catL]; decide) dL_law_493 e (fun q50 e => ?_)
      refine ax_icmp_eq (tgt := 1554) B dL_law_496 (by decide) e (fun e => ?_) (fun e => ?_)
      · exact w_L_law_1554 hSF B Z hn hlt hT x0 x1 x2 x3 (hl.sub [0, 1, 2, 3] rfl) e hp
      · obtain ⟨w, e9_8, rfl⟩ := Option.map_eq_some_iff.mp e
        have e := e9_8
        refine ax_iconst B dL_law_499 ?_
        cases e
        have hp : _ ∧ Q = _ := hp
        exact absurd (show (0 : Int) = 1 from hp.1) (by decide)
    rcases ax_ite e with ⟨hk7, e⟩ | ⟨hk7, e⟩
    · refine ax_tswIn (tgt := 501) (off := 468) B dL_law_33 (by omega) (by omega) (by rw [hk7]; rfl) (by decide) ?_
      refine ax_aload_n B dL_law_501 rfl hl 1 rfl ?_
      refine ax_aload_n B dL_law_502 rfl hl 0 rfl ?_
      refine ax_iload_n B dL_law_503 rfl hl 3 rfl ?_
      refine ax_iconst B dL_law_504 ?_
      refine ax_iadd' B dL_law_505 ?_
      refine ax_iald B kd100 dL_law_506 e (fun v51 e => ?_)
      refine ax_aload_n B dL_law_507 rfl hl 0 rfl ?_
      refine ax_iload_n B dL_law_508 rfl hl 3 rfl ?_
      refine ax_iconst B dL_law_509 ?_
      refine ax_iadd' B dL_law_510 ?_
      refine ax_iald B kd100 dL_law_511 e (fun v52 e => ?_)
      refine ax_aload_n B dL_law_512 rfl hl 0 rfl ?_
      refine ax_iload_n B dL_law_513 rfl hl 3 rfl ?_
      refine ax_iconst B dL_law_514 ?_
      refine ax_iadd' B dL_law_515 ?_
      refine ax_iald B kd100 dL_law_516 e (fun v53 e => ?_)
      refine ax_aload_n B dL_law_517 rfl hl 0 rfl ?_
      refine ax_iload_n B dL_law_518 rfl hl 3 rfl ?_
      refine ax_iconst B dL_law_519 ?_
      refine ax_iadd' B dL_law_520 ?_
      refine ax_iald B kd100 dL_law_521 e (fun v54 e => ?_)
      refine ax_aload_n B dL_law_522 rfl hl 0 rfl ?_
      refine ax_iload_n B dL_law_523 rfl hl 3 rfl ?_
      refine ax_iconst B dL_law_524 ?_
      refine ax_iadd' B dL_law_525 ?_
      refine ax_iald B kd100 dL_law_526 e (fun v55 e => ?_)
      refine ax_ivI (y := yX0_feed) (n := 5) (As := [.int (Int32.ofInt v51), .int (Int32.ofInt v52), .int (Int32.ofInt v53), .int (Int32.ofInt v54), .int (Int32.ofInt v55)]) B kd0 (lw_V q408 q409 q410 q125 q411) (by decide +kernel) ⟨Nat.le_of_ble_eq_true rfl, Nat.le_of_ble_eq_true rfl⟩ (fun w1 e1 => mt_X0_feed l G hSF x1 v51 v52 v53 v54 v55 _ w1 e1) rfl hl.size (by decide) dL_law_527 e (fun q56 e => ?_)
      refine ax_aload_n B dL_law_530 rfl hl 2 rfl ?_
      refine ax_aload_n B dL_law_531 rfl hl 0 rfl ?_
      refine ax_iload_n B dL_law_532 rfl hl 3 rfl ?_
      refine ax_iconst B dL_law_533 ?_
      refine ax_iadd' B dL_law_534 ?_
      refine ax_iald B kd100 dL_law_535 e (fun v57 e => ?_)
      refine ax_aload_n B dL_law_536 rfl hl 0 rfl ?_
      refine ax_iload_n B dL_law_537 rfl hl 3 rfl ?_
      refine ax_iconst B dL_law_538 ?_
      refine ax_iadd' B dL_law_539 ?_
      refine ax_iald B kd100 dL_law_540 e (fun v58 e => ?_)
      refine ax_aload_n B dL_law_541 rfl hl 0 rfl ?_
      refine ax_iload_n B dL_law_542 rfl hl 3 rfl ?_
      refine ax_iconst B dL_law_543 ?_
      refine ax_iadd' B dL_law_544 ?_
      refine ax_iald B kd100 dL_law_545 e (fun v59 e => ?_)
      refine ax_aload_n B dL_law_546 rfl hl 0 rfl ?_
      refine ax_iload_n B dL_law_547 rfl hl 3 rfl ?_
      refine ax_iconst B dL_law_548 ?_
      refine ax_iadd' B dL_law_549 ?_
      refine ax_iald B kd100 dL_law_550 e (fun v60 e => ?_)
      refine ax_aload_n B dL_law_551 rfl hl 0 rfl ?_
      refine ax_iload_n B dL_law_552 rfl hl 3 rfl ?_
      refine ax_iconst B dL_law_553 ?_
      refine ax_iadd' B dL_law_554 ?_
      refine ax_iald B kd100 dL_law_555 e (fun v61 e => ?_)
      refine ax_ivI (y := yX5_feed) (n := 5) (As := [.int (Int32.ofInt v57), .int (Int32.ofInt v58), .int (Int32.ofInt v59), .int (Int32.ofInt v60), .int (Int32.ofInt v61)]) B kd5 (lw_V q2316 q2317 q2318 q133 q2319) (by decide +kernel) ⟨Nat.le_of_ble_eq_true rfl, Nat.le_of_ble_eq_true rfl⟩ (fun w1 e1 => mt_X5_feed l G hSF x2 v57 v58 v59 v60 v61 _ w1 e1) rfl hl.size (by simp only [List.map_cons, List.map_nil, List.sum_cons, List.sum_nil, va_rf_cat, ax_catI, ax_catL]; decide) dL_law_556 e (fun q62 e => ?_)
      refine ax_icmp_eq (tgt := 1554) B dL_law_559 (by decide) e (fun e => ?_) (fun e => ?_)
      · exact w_L_law_1554 hSF B Z hn hlt hT x0 x1 x2 x3 (hl.sub [0, 1, 2, 3] rfl) e hp
      · obtain ⟨w, e9_9, rfl⟩ := Option.map_eq_some_iff.mp e
        have e := e9_9
        refine ax_iconst B dL_law_562 ?_
        cases e
        have hp : _ ∧ Q = _ := hp
        exact absurd (show (0 : Int) = 1 from hp.1) (by decide)
    rcases ax_ite e with ⟨hk8, e⟩ | ⟨hk8, e⟩
    · refine ax_tswIn (tgt := 564) (off := 531) B dL_law_33 (by omega) (by omega) (by rw [hk8]; rfl) (by decide) ?_
      refine ax_aload_n B dL_law_564 rfl hl 1 rfl ?_
      refine ax_aload_n B dL_law_565 rfl hl 0 rfl ?_
      refine ax_iload_n B dL_law_566 rfl hl 3 rfl ?_
      refine ax_iconst B dL_law_567 ?_
      refine ax_iadd' B dL_law_568 ?_
      refine ax_iald B kd100 dL_law_569 e (fun v63 e => ?_)
      refine ax_ivI (y := yX0_end) (n := 1) (As := [.int (Int32.ofInt v63)]) B kd0 (lw_V q416 q417 q418 q125 q419) (by decide +kernel) ⟨Nat.le_of_ble_eq_true rfl, Nat.le_of_ble_eq_true rfl⟩ (fun w1 e1 => mt_X0_end l G hSF x1 v63 _ w1 e1) rfl hl.size (by decide) dL_law_570 e (fun q64 e => ?_)
      refine ax_aload_n B dL_law_573 rfl hl 2 rfl ?_
      refine ax_aload_n B dL_law_574 rfl hl 0 rfl ?_
      refine ax_iload_n B dL_law_575 rfl hl 3 rfl ?_
      refine ax_iconst B dL_law_576 ?_
      refine ax_iadd' B dL_law_577 ?_
      refine ax_iald B kd100 dL_law_578 e (fun v65 e => ?_)
      refine ax_ivI (y := yX5_end) (n := 1) (As := [.int (Int32.ofInt v65)]) B kd5 (lw_V q2320 q2321 q2322 q133 q2323) (by decide +kernel) ⟨Nat.le_of_ble_eq_true rfl, Nat.le_of_ble_eq_true rfl⟩ (fun w1 e1 => mt_X5_end l G hSF x2 v65 _ w1 e1) rfl hl.size (by simp only [List.map_cons, List.map_nil, List.sum_cons, List.sum_nil, va_rf_cat, ax_catI, ax_catL]; decide) dL_law_579 e (fun q66 e => ?_)
      refine ax_icmp_eq (tgt := 1554) B dL_law_582 (by decide) e (fun e => ?_) (fun e => ?_)
      · exact w_L_law_1554 hSF B Z hn hlt hT x0 x1 x2 x3 (hl.sub [0, 1, 2, 3] rfl) e hp
      · obtain ⟨w, e9_10, rfl⟩ := Option.map_eq_some_iff.mp e
        have e := e9_10
        refine ax_iconst B dL_law_585 ?_
        cases e
        have hp : _ ∧ Q = _ := hp
        exact absurd (show (0 : Int) = 1 from hp.1) (by decide)
    rcases ax_ite e with ⟨hk9, e⟩ | ⟨hk9, e⟩
    · refine ax_tswIn (tgt := 587) (off := 554) B dL_law_33 (by omega) (by omega) (by rw [hk9]; rfl) (by decide) ?_
      refine ax_aload_n B dL_law_587 rfl hl 1 rfl ?_
      refine ax_ivWI (y := yX0_row) (n := 0) (As := []) B kd0 (lw_VW q616 q617 q618 q125 q619) (by decide +kernel) ⟨Nat.le_of_ble_eq_true rfl, Nat.le_of_ble_eq_true rfl⟩ (fun w1 e1 => mt_X0_row l G hSF hlt x1 _ w1 e1) rfl hl.size (by decide) dL_law_588 e (fun q67 e => ?_)
      refine ax_aload_n B dL_law_591 rfl hl 2 rfl ?_
      refine ax_ivI (y := yX5_row) (n := 0) (As := []) B kd5 (lw_V q2308 q2309 q2310 q133 q2311) (by decide +kernel) ⟨Nat.le_of_ble_eq_true rfl, Nat.le_of_ble_eq_true rfl⟩ (fun w1 e1 => mt_X5_row l G hSF x2 _ w1 e1) rfl hl.size (by simp only [List.map_cons, List.map_nil, List.sum_cons, List.sum_nil, va_rf_cat, ax_catI, ax_catL]; decide) dL_law_592 e (fun q68 e => ?_)
      refine ax_icmp_eq (tgt := 1554) B dL_law_595 (by decide) e (fun e => ?_) (fun e => ?_)
      · exact w_L_law_1554 hSF B Z hn hlt hT x0 x1 x2 x3 (hl.sub [0, 1, 2, 3] rfl) e hp
      · obtain ⟨w, e9_11, rfl⟩ := Option.map_eq_some_iff.mp e
        have e := e9_11
        refine ax_iconst B dL_law_598 ?_
        cases e
        have hp : _ ∧ Q = _ := hp
        exact absurd (show (0 : Int) = 1 from hp.1) (by decide)
    rcases ax_ite e with ⟨hk10, e⟩ | ⟨hk10, e⟩
    · refine ax_tswIn (tgt := 600) (off := 567) B dL_law_33 (by omega) (by omega) (by rw [hk10]; rfl) (by decide) ?_
      refine ax_aload_n B dL_law_600 rfl hl 1 rfl ?_
      refine ax_ivI (y := yX0_blots) (n := 0) (As := []) B kd0 (lw_V q700 q701 q702 q125 q703) (by decide +kernel) ⟨Nat.le_of_ble_eq_true rfl, Nat.le_of_ble_eq_true rfl⟩ (fun w1 e1 => mt_X0_blots l G hSF x1 _ w1 e1) rfl hl.size (by decide) dL_law_601 e (fun q69 e => ?_)
      refine ax_aload_n B dL_law_604 rfl hl 2 rfl ?_
      refine ax_ivI (y := yX5_blots) (n := 0) (As := []) B kd5 (lw_V q2312 q2313 q2314 q133 q2315) (by decide +kernel) ⟨Nat.le_of_ble_eq_true rfl, Nat.le_of_ble_eq_true rfl⟩ (fun w1 e1 => mt_X5_blots l G hSF x2 _ w1 e1) rfl hl.size (by simp only [List.map_cons, List.map_nil, List.sum_cons, List.sum_nil, va_rf_cat, ax_catI, ax_catL]; decide) dL_law_605 e (fun q70 e => ?_)
      refine ax_icmp_eq (tgt := 1554) B dL_law_608 (by decide) e (fun e => ?_) (fun e => ?_)
      · exact w_L_law_1554 hSF B Z hn hlt hT x0 x1 x2 x3 (hl.sub [0, 1, 2, 3] rfl) e hp
      · obtain ⟨w, e9_12, rfl⟩ := Option.map_eq_some_iff.mp e
        have e := e9_12
        refine ax_iconst B dL_law_611 ?_
        cases e
        have hp : _ ∧ Q = _ := hp
        exact absurd (show (0 : Int) = 1 from hp.1) (by decide)
    rcases ax_ite e with ⟨hk11, e⟩ | ⟨hk11, e⟩
    · refine ax_tswIn (tgt := 613) (off := 580) B dL_law_33 (by omega) (by omega) (by rw [hk11]; rfl) (by decide) ?_
      refine ax_aload_n B dL_law_613 rfl hl 1 rfl ?_
      refine ax_ivWI (y := yX0_law) (n := 0) (As := []) B kd0 (lw_VW q704 q705 q706 q125 q707) (by decide +kernel) ⟨Nat.le_of_ble_eq_true rfl, Nat.le_of_ble_eq_true rfl⟩ (fun w1 e1 => mt_X0_law l G hSF x1 _ w1 e1) rfl hl.size (by decide) dL_law_614 e (fun q71 e => ?_)
      refine ax_aload_n B dL_law_617 rfl hl 2 rfl ?_
      refine ax_ivI (y := yX5_law) (n := 0) (As := []) B kd5 (lw_V q2324 q2325 q2326 q133 q2327) (by decide +kernel) ⟨Nat.le_of_ble_eq_true rfl, Nat.le_of_ble_eq_true rfl⟩ (fun w1 e1 => mt_X5_law l G hSF x2 _ w1 e1) rfl hl.size (by simp only [List.map_cons, List.map_nil, List.sum_cons, List.sum_nil, va_rf_cat, ax_catI, ax_catL]; decide) dL_law_618 e (fun q72 e => ?_)
      refine ax_icmp_eq (tgt := 1554) B dL_law_621 (by decide) e (fun e => ?_) (fun e => ?_)
      · exact w_L_law_1554 hSF B Z hn hlt hT x0 x1 x2 x3 (hl.sub [0, 1, 2, 3] rfl) e hp
      · obtain ⟨w, e9_13, rfl⟩ := Option.map_eq_some_iff.mp e
        have e := e9_13
        refine ax_iconst B dL_law_624 ?_
        cases e
        have hp : _ ∧ Q = _ := hp
        exact absurd (show (0 : Int) = 1 from hp.1) (by decide)
    rcases ax_ite e with ⟨hk12, e⟩ | ⟨hk12, e⟩
    · refine ax_tswIn (tgt := 626) (off := 593) B dL_law_33 (by omega) (by omega) (by rw [hk12]; rfl) (by decide) ?_
      refine ax_aload_n B dL_law_626 rfl hl 1 rfl ?_
      refine ax_ivWI (y := yX0_orders) (n := 0) (As := []) B kd0 (lw_VW q1776 q1777 q1778 q125 q1779) (by decide +kernel) ⟨Nat.le_of_ble_eq_true rfl, Nat.le_of_ble_eq_true rfl⟩ (fun w1 e1 => mt_X0_orders l G hSF x1 _ w1 e1) rfl hl.size (by decide) dL_law_627 e (fun q73 e => ?_)
      refine ax_aload_n B dL_law_630 rfl hl 2 rfl ?_
      refine ax_ivI (y := yX5_orders) (n := 0) (As := []) B kd5 (lw_V q2678 q2679 q2680 q133 q2681) (by decide +kernel) ⟨Nat.le_of_ble_eq_true rfl, Nat.le_of_ble_eq_true rfl⟩ (fun w1 e1 => mt_X5_orders l G hSF x2 _ w1 e1) rfl hl.size (by simp only [List.map_cons, List.map_nil, List.sum_cons, List.sum_nil, va_rf_cat, ax_catI, ax_catL]; decide) dL_law_631 e (fun q74 e => ?_)
      refine ax_icmp_eq (tgt := 1554) B dL_law_634 (by decide) e (fun e => ?_) (fun e => ?_)
      · exact w_L_law_1554 hSF B Z hn hlt hT x0 x1 x2 x3 (hl.sub [0, 1, 2, 3] rfl) e hp
      · obtain ⟨w, e9_14, rfl⟩ := Option.map_eq_some_iff.mp e
        have e := e9_14
        refine ax_iconst B dL_law_637 ?_
        cases e
        have hp : _ ∧ Q = _ := hp
        exact absurd (show (0 : Int) = 1 from hp.1) (by decide)
    rcases ax_ite e with ⟨hk13, e⟩ | ⟨hk13, e⟩
    · refine ax_tswIn (tgt := 639) (off := 606) B dL_law_33 (by omega) (by omega) (by rw [hk13]; rfl) (by decide) ?_
      refine ax_aload_n B dL_law_639 rfl hl 1 rfl ?_
      refine ax_ivI (y := yX0_fault) (n := 0) (As := []) B kd0 (lw_V q1318 q1319 q1320 q125 q1321) (by decide +kernel) ⟨Nat.le_of_ble_eq_true rfl, Nat.le_of_ble_eq_true rfl⟩ (fun w1 e1 => mt_X0_fault l G hSF x1 _ w1 e1) rfl hl.size (by decide) dL_law_640 e (fun q75 e => ?_)
      refine ax_aload_n B dL_law_643 rfl hl 2 rfl ?_
      refine ax_ivI (y := yX5_fault) (n := 0) (As := []) B kd5 (lw_V q2415 q2416 q2417 q133 q2418) (by decide +kernel) ⟨Nat.le_of_ble_eq_true rfl, Nat.le_of_ble_eq_true rfl⟩ (fun w1 e1 => mt_X5_fault l G hSF x2 _ w1 e1) rfl hl.size (by simp only [List.map_cons, List.map_nil, List.sum_cons, List.sum_nil, va_rf_cat, ax_catI, ax_catL]; decide) dL_law_644 e (fun q76 e => ?_)
      refine ax_icmp_eq (tgt := 1554) B dL_law_647 (by decide) e (fun e => ?_) (fun e => ?_)
      · exact w_L_law_1554 hSF B Z hn hlt hT x0 x1 x2 x3 (hl.sub [0, 1, 2, 3] rfl) e hp
      · obtain ⟨w, e9_15, rfl⟩ := Option.map_eq_some_iff.mp e
        have e := e9_15
        refine ax_iconst B dL_law_650 ?_
        cases e
        have hp : _ ∧ Q = _ := hp
        exact absurd (show (0 : Int) = 1 from hp.1) (by decide)
    rcases ax_ite e with ⟨hk14, e⟩ | ⟨hk14, e⟩
    · refine ax_tswIn (tgt := 652) (off := 619) B dL_law_33 (by omega) (by omega) (by rw [hk14]; rfl) (by decide) ?_
      refine ax_aload_n B dL_law_652 rfl hl 1 rfl ?_
      refine ax_ivI (y := yX0_stopped) (n := 0) (As := []) B kd0 (lw_V q1899 q1900 q1901 q125 q1902) (by decide +kernel) ⟨Nat.le_of_ble_eq_true rfl, Nat.le_of_ble_eq_true rfl⟩ (fun w1 e1 => mt_X0_stopped l G hSF x1 _ w1 e1) rfl hl.size (by decide) dL_law_653 e (fun q77 e => ?_)
      refine ax_aload_n B dL_law_656 rfl hl 2 rfl ?_
      refine ax_ivI (y := yX5_stopped) (n := 0) (As := []) B kd5 (lw_V q2674 q2675 q2676 q133 q2677) (by decide +kernel) ⟨Nat.le_of_ble_eq_true rfl, Nat.le_of_ble_eq_true rfl⟩ (fun w1 e1 => mt_X5_stopped l G hSF x2 _ w1 e1) rfl hl.size (by simp only [List.map_cons, List.map_nil, List.sum_cons, List.sum_nil, va_rf_cat, ax_catI, ax_catL]; decide) dL_law_657 e (fun q78 e => ?_)
      refine ax_icmp_eq (tgt := 1554) B dL_law_660 (by decide) e (fun e => ?_) (fun e => ?_)
      · exact w_L_law_1554 hSF B Z hn hlt hT x0 x1 x2 x3 (hl.sub [0, 1, 2, 3] rfl) e hp
      · obtain ⟨w, e9_16, rfl⟩ := Option.map_eq_some_iff.mp e
        have e := e9_16
        refine ax_iconst B dL_law_663 ?_
        cases e
        have hp : _ ∧ Q = _ := hp
        exact absurd (show (0 : Int) = 1 from hp.1) (by decide)
    rcases ax_ite e with ⟨hk15, e⟩ | ⟨hk15, e⟩
    · refine ax_tswIn (tgt := 665) (off := 632) B dL_law_33 (by omega) (by omega) (by rw [hk15]; rfl) (by decide) ?_
      refine ax_aload_n B dL_law_665 rfl hl 1 rfl ?_
      refine ax_aload_n B dL_law_666 rfl hl 0 rfl ?_
      refine ax_iload_n B dL_law_667 rfl hl 3 rfl ?_
      refine ax_iconst B dL_law_668 ?_
      refine ax_iadd' B dL_law_669 ?_
      refine ax_iald B kd100 dL_law_670 e (fun v79 e => ?_)
      refine ax_ivI (y := yX0_force) (n := 1) (As := [.int (Int32.ofInt v79)]) B kd0 (lw_V q1322 q1323 q1324 q125 q1325) (by decide +kernel) ⟨Nat.le_of_ble_eq_true rfl, Nat.le_of_ble_eq_true rfl⟩ (fun w1 e1 => mt_X0_force l G hSF x1 v79 _ w1 e1) rfl hl.size (by decide) dL_law_671 e (fun q80 e => ?_)
      refine ax_aload_n B dL_law_674 rfl hl 2 rfl ?_
      refine ax_aload_n B dL_law_675 rfl hl 0 rfl ?_
      refine ax_iload_n B dL_law_676 rfl hl 3 rfl ?_
      refine ax_iconst B dL_law_677 ?_
      refine ax_iadd' B dL_law_678 ?_
      refine ax_iald B kd100 dL_law_679 e (fun v81 e => ?_)
      refine ax_ivI (y := yX5_force) (n := 1) (As := [.int (Int32.ofInt v81)]) B kd5 (lw_V q2419 q2420 q2421 q133 q2422) (by decide +kernel) ⟨Nat.le_of_ble_eq_true rfl, Nat.le_of_ble_eq_true rfl⟩ (fun w1 e1 => mt_X5_force l G hSF x2 v81 _ w1 e1) rfl hl.size (by simp only [List.map_cons, List.map_nil, List.sum_cons, List.sum_nil, va_rf_cat, ax_catI, ax_catL]; decide) dL_law_680 e (fun q82 e => ?_)
      refine ax_icmp_eq (tgt := 1554) B dL_law_683 (by decide) e (fun e => ?_) (fun e => ?_)
      · exact w_L_law_1554 hSF B Z hn hlt hT x0 x1 x2 x3 (hl.sub [0, 1, 2, 3] rfl) e hp
      · obtain ⟨w, e9_17, rfl⟩ := Option.map_eq_some_iff.mp e
        have e := e9_17
        refine ax_iconst B dL_law_686 ?_
        cases e
        have hp : _ ∧ Q = _ := hp
        exact absurd (show (0 : Int) = 1 from hp.1) (by decide)
    rcases ax_ite e with ⟨hk16, e⟩ | ⟨hk16, e⟩
    · refine ax_tswIn (tgt := 688) (off := 655) B dL_law_33 (by omega) (by omega) (by rw [hk16]; rfl) (by decide) ?_
      refine ax_aload_n B dL_law_688 rfl hl 1 rfl ?_
      refine ax_aload_n B dL_law_689 rfl hl 0 rfl ?_
      refine ax_iload_n B dL_law_690 rfl hl 3 rfl ?_
      refine ax_iconst B dL_law_691 ?_
      refine ax_iadd' B dL_law_692 ?_
      refine ax_iald B kd100 dL_law_693 e (fun v83 e => ?_)
      refine ax_aload_n B dL_law_694 rfl hl 0 rfl ?_
      refine ax_iload_n B dL_law_695 rfl hl 3 rfl ?_
      refine ax_iconst B dL_law_696 ?_
      refine ax_iadd' B dL_law_697 ?_
      refine ax_iald B kd100 dL_law_698 e (fun v84 e => ?_)
      refine ax_ivI (y := yX0_deep) (n := 2) (As := [.int (Int32.ofInt v83), .int (Int32.ofInt v84)]) B kd0 (lw_V q1326 q1327 q1328 q125 q1329) (by decide +kernel) ⟨Nat.le_of_ble_eq_true rfl, Nat.le_of_ble_eq_true rfl⟩ (fun w1 e1 => mt_X0_deep l G hSF x1 v83 v84 _ w1 e1) rfl hl.size (by decide) dL_law_699 e (fun q85 e => ?_)
      refine ax_aload_n B dL_law_702 rfl hl 2 rfl ?_
      refine ax_aload_n B dL_law_703 rfl hl 0 rfl ?_
      refine ax_iload_n B dL_law_704 rfl hl 3 rfl ?_
      refine ax_iconst B dL_law_705 ?_
      refine ax_iadd' B dL_law_706 ?_
      refine ax_iald B kd100 dL_law_707 e (fun v86 e => ?_)
      refine ax_aload_n B dL_law_708 rfl hl 0 rfl ?_
      refine ax_iload_n B dL_law_709 rfl hl 3 rfl ?_
      refine ax_iconst B dL_law_710 ?_
      refine ax_iadd' B dL_law_711 ?_
      refine ax_iald B kd100 dL_law_712 e (fun v87 e => ?_)
      refine ax_ivI (y := yX5_deep) (n := 2) (As := [.int (Int32.ofInt v86), .int (Int32.ofInt v87)]) B kd5 (lw_V q2423 q2424 q2425 q133 q2426) (by decide +kernel) ⟨Nat.le_of_ble_eq_true rfl, Nat.le_of_ble_eq_true rfl⟩ (fun w1 e1 => mt_X5_deep l G hSF x2 v86 v87 _ w1 e1) rfl hl.size (by simp only [List.map_cons, List.map_nil, List.sum_cons, List.sum_nil, va_rf_cat, ax_catI, ax_catL]; decide) dL_law_713 e (fun q88 e => ?_)
      refine ax_icmp_eq (tgt := 1554) B dL_law_716 (by decide) e (fun e => ?_) (fun e => ?_)
      · exact w_L_law_1554 hSF B Z hn hlt hT x0 x1 x2 x3 (hl.sub [0, 1, 2, 3] rfl) e hp
      · obtain ⟨w, e9_18, rfl⟩ := Option.map_eq_some_iff.mp e
        have e := e9_18
        refine ax_iconst B dL_law_719 ?_
        cases e
        have hp : _ ∧ Q = _ := hp
        exact absurd (show (0 : Int) = 1 from hp.1) (by decide)
    rcases ax_ite e with ⟨hk17, e⟩ | ⟨hk17, e⟩
    · refine ax_tswIn (tgt := 721) (off := 688) B dL_law_33 (by omega) (by omega) (by rw [hk17]; rfl) (by decide) ?_
      refine ax_aload_n B dL_law_721 rfl hl 1 rfl ?_
      refine ax_aload_n B dL_law_722 rfl hl 0 rfl ?_
      refine ax_iload_n B dL_law_723 rfl hl 3 rfl ?_
      refine ax_iconst B dL_law_724 ?_
      refine ax_iadd' B dL_law_725 ?_
      refine ax_iald B kd100 dL_law_726 e (fun v89 e => ?_)
      refine ax_ivI (y := yX0_doors) (n := 1) (As := [.int (Int32.ofInt v89)]) B kd0 (lw_V q1342 q1343 q1344 q125 q1345) (by decide +kernel) ⟨Nat.le_of_ble_eq_true rfl, Nat.le_of_ble_eq_true rfl⟩ (fun w1 e1 => mt_X0_doors l G hSF x1 v89 _ w1 e1) rfl hl.size (by decide) dL_law_727 e (fun q90 e => ?_)
      refine ax_aload_n B dL_law_730 rfl hl 2 rfl ?_
      refine ax_aload_n B dL_law_731 rfl hl 0 rfl ?_
      refine ax_iload_n B dL_law_732 rfl hl 3 rfl ?_
      refine ax_iconst B dL_law_733 ?_
      refine ax_iadd' B dL_law_734 ?_
      refine ax_iald B kd100 dL_law_735 e (fun v91 e => ?_)
      refine ax_ivI (y := yX5_doors) (n := 1) (As := [.int (Int32.ofInt v91)]) B kd5 (lw_V q2442 q2443 q2444 q133 q2445) (by decide +kernel) ⟨Nat.le_of_ble_eq_true rfl, Nat.le_of_ble_eq_true rfl⟩ (fun w1 e1 => mt_X5_doors l G hSF x2 v91 _ w1 e1) rfl hl.size (by simp only [List.map_cons, List.map_nil, List.sum_cons, List.sum_nil, va_rf_cat, ax_catI, ax_catL]; decide) dL_law_736 e (fun q92 e => ?_)
      refine ax_icmp_eq (tgt := 1554) B dL_law_739 (by decide) e (fun e => ?_) (fun e => ?_)
      · exact w_L_law_1554 hSF B Z hn hlt hT x0 x1 x2 x3 (hl.sub [0, 1, 2, 3] rfl) e hp
      · obtain ⟨w, e9_19, rfl⟩ := Option.map_eq_some_iff.mp e
        have e := e9_19
        refine ax_iconst B dL_law_742 ?_
        cases e
        have hp : _ ∧ Q = _ := hp
        exact absurd (show (0 : Int) = 1 from hp.1) (by decide)
    rcases ax_ite e with ⟨hk18, e⟩ | ⟨hk18, e⟩
    · refine ax_tswIn (tgt := 744) (off := 711) B dL_law_33 (by omega) (by omega) (by rw [hk18]; rfl) (by decide) ?_
      refine ax_aload_n B dL_law_744 rfl hl 1 rfl ?_
      refine ax_aload_n B dL_law_745 rfl hl 0 rfl ?_
      refine ax_iload_n B dL_law_746 rfl hl 3 rfl ?_
      refine ax_iconst B dL_law_747 ?_
      refine ax_iadd' B dL_law_748 ?_
      refine ax_iald B kd100 dL_law_749 e (fun v93 e => ?_)
      refine ax_aload_n B dL_law_750 rfl hl 0 rfl ?_
      refine ax_iload_n B dL_law_751 rfl hl 3 rfl ?_
      refine ax_iconst B dL_law_752 ?_
      refine ax_iadd' B dL_law_753 ?_
      refine ax_iald B kd100 dL_law_754 e (fun v94 e => ?_)
      refine ax_aload_n B dL_law_755 rfl hl 0 rfl ?_
      refine ax_iload_n B dL_law_756 rfl hl 3 rfl ?_
      refine ax_iconst B dL_law_757 ?_
      refine ax_iadd' B dL_law_758 ?_
      refine ax_iald B kd100 dL_law_759 e (fun v95 e => ?_)
      refine ax_ivI (y := yX0_lend) (n := 3) (As := [.int (Int32.ofInt v93), .int (Int32.ofInt v94), .int (Int32.ofInt v95)]) B kd0 (lw_V q1350 q1351 q1352 q125 q1353) (by decide +kernel) ⟨Nat.le_of_ble_eq_true rfl, Nat.le_of_ble_eq_true rfl⟩ (fun w1 e1 => mt_X0_lend l G hSF x1 v93 v94 v95 _ w1 e1) rfl hl.size (by decide) dL_law_760 e (fun q96 e => ?_)
      refine ax_aload_n B dL_law_763 rfl hl 2 rfl ?_
      refine ax_aload_n B dL_law_764 rfl hl 0 rfl ?_
      refine ax_iload_n B dL_law_765 rfl hl 3 rfl ?_
      refine ax_iconst B dL_law_766 ?_
      refine ax_iadd' B dL_law_767 ?_
      refine ax_iald B kd100 dL_law_768 e (fun v97 e => ?_)
      refine ax_aload_n B dL_law_769 rfl hl 0 rfl ?_
      refine ax_iload_n B dL_law_770 rfl hl 3 rfl ?_
      refine ax_iconst B dL_law_771 ?_
      refine ax_iadd' B dL_law_772 ?_
      refine ax_iald B kd100 dL_law_773 e (fun v98 e => ?_)
      refine ax_aload_n B dL_law_774 rfl hl 0 rfl ?_
      refine ax_iload_n B dL_law_775 rfl hl 3 rfl ?_
      refine ax_iconst B dL_law_776 ?_
      refine ax_iadd' B dL_law_777 ?_
      refine ax_iald B kd100 dL_law_778 e (fun v99 e => ?_)
      refine ax_ivI (y := yX5_lend) (n := 3) (As := [.int (Int32.ofInt v97), .int (Int32.ofInt v98), .int (Int32.ofInt v99)]) B kd5 (lw_V q2454 q2455 q2456 q133 q2457) (by decide +kernel) ⟨Nat.le_of_ble_eq_true rfl, Nat.le_of_ble_eq_true rfl⟩ (fun w1 e1 => mt_X5_lend l G hSF x2 v97 v98 v99 _ w1 e1) rfl hl.size (by simp only [List.map_cons, List.map_nil, List.sum_cons, List.sum_nil, va_rf_cat, ax_catI, ax_catL]; decide) dL_law_779 e (fun q100 e => ?_)
      refine ax_icmp_eq (tgt := 1554) B dL_law_782 (by decide) e (fun e => ?_) (fun e => ?_)
      · exact w_L_law_1554 hSF B Z hn hlt hT x0 x1 x2 x3 (hl.sub [0, 1, 2, 3] rfl) e hp
      · obtain ⟨w, e9_20, rfl⟩ := Option.map_eq_some_iff.mp e
        have e := e9_20
        refine ax_iconst B dL_law_785 ?_
        cases e
        have hp : _ ∧ Q = _ := hp
        exact absurd (show (0 : Int) = 1 from hp.1) (by decide)
    rcases ax_ite e with ⟨hk19, e⟩ | ⟨hk19, e⟩
    · refine ax_tswIn (tgt := 787) (off := 754) B dL_law_33 (by omega) (by omega) (by rw [hk19]; rfl) (by decide) ?_
      refine ax_aload_n B dL_law_787 rfl hl 1 rfl ?_
      refine ax_aload_n B dL_law_788 rfl hl 0 rfl ?_
      refine ax_iload_n B dL_law_789 rfl hl 3 rfl ?_
      refine ax_iconst B dL_law_790 ?_
      refine ax_iadd' B dL_law_791 ?_
      refine ax_iald B kd100 dL_law_792 e (fun v101 e => ?_)
      refine ax_aload_n B dL_law_793 rfl hl 0 rfl ?_
      refine ax_iload_n B dL_law_794 rfl hl 3 rfl ?_
      refine ax_iconst B dL_law_795 ?_
      refine ax_iadd' B dL_law_796 ?_
      refine ax_iald B kd100 dL_law_797 e (fun v102 e => ?_)
      refine ax_aload_n B dL_law_798 rfl hl 0 rfl ?_
      refine ax_iload_n B dL_law_799 rfl hl 3 rfl ?_
      refine ax_iconst B dL_law_800 ?_
      refine ax_iadd' B dL_law_801 ?_
      refine ax_iald B kd100 dL_law_802 e (fun v103 e => ?_)
      refine ax_ivI (y := yX0_repay) (n := 3) (As := [.int (Int32.ofInt v101), .int (Int32.ofInt v102), .int (Int32.ofInt v103)]) B kd0 (lw_V q1406 q1407 q1408 q125 q1409) (by decide +kernel) ⟨Nat.le_of_ble_eq_true rfl, Nat.le_of_ble_eq_true rfl⟩ (fun w1 e1 => mt_X0_repay l G hSF x1 v101 v102 v103 _ w1 e1) rfl hl.size (by decide) dL_law_803 e (fun q104 e => ?_)
      refine ax_aload_n B dL_law_806 rfl hl 2 rfl ?_
      refine ax_aload_n B dL_law_807 rfl hl 0 rfl ?_
      refine ax_iload_n B dL_law_808 rfl hl 3 rfl ?_
      refine ax_iconst B dL_law_809 ?_
      refine ax_iadd' B dL_law_810 ?_
      refine ax_iald B kd100 dL_law_811 e (fun v105 e => ?_)
      refine ax_aload_n B dL_law_812 rfl hl 0 rfl ?_
      refine ax_iload_n B dL_law_813 rfl hl 3 rfl ?_
      refine ax_iconst B dL_law_814 ?_
      refine ax_iadd' B dL_law_815 ?_
      refine ax_iald B kd100 dL_law_816 e (fun v106 e => ?_)
      refine ax_aload_n B dL_law_817 rfl hl 0 rfl ?_
      refine ax_iload_n B dL_law_818 rfl hl 3 rfl ?_
      refine ax_iconst B dL_law_819 ?_
      refine ax_iadd' B dL_law_820 ?_
      refine ax_iald B kd100 dL_law_821 e (fun v107 e => ?_)
      refine ax_ivI (y := yX5_repay) (n := 3) (As := [.int (Int32.ofInt v105), .int (Int32.ofInt v106), .int (Int32.ofInt v107)]) B kd5 (lw_V q2478 q2479 q2480 q133 q2481) (by decide +kernel) ⟨Nat.le_of_ble_eq_true rfl, Nat.le_of_ble_eq_true rfl⟩ (fun w1 e1 => mt_X5_repay l G hSF x2 v105 v106 v107 _ w1 e1) rfl hl.size (by simp only [List.map_cons, List.map_nil, List.sum_cons, List.sum_nil, va_rf_cat, ax_catI, ax_catL]; decide) dL_law_822 e (fun q108 e => ?_)
      refine ax_icmp_eq (tgt := 1554) B dL_law_825 (by decide) e (fun e => ?_) (fun e => ?_)
      · exact w_L_law_1554 hSF B Z hn hlt hT x0 x1 x2 x3 (hl.sub [0, 1, 2, 3] rfl) e hp
      · obtain ⟨w, e9_21, rfl⟩ := Option.map_eq_some_iff.mp e
        have e := e9_21
        refine ax_iconst B dL_law_828 ?_
        cases e
        have hp : _ ∧ Q = _ := hp
        exact absurd (show (0 : Int) = 1 from hp.1) (by decide)
    rcases ax_ite e with ⟨hk20, e⟩ | ⟨hk20, e⟩
    · refine ax_tswIn (tgt := 830) (off := 797) B dL_law_33 (by omega) (by omega) (by rw [hk20]; rfl) (by decide) ?_
      refine ax_aload_n B dL_law_830 rfl hl 1 rfl ?_
      refine ax_aload_n B dL_law_831 rfl hl 0 rfl ?_
      refine ax_iload_n B dL_law_832 rfl hl 3 rfl ?_
      refine ax_iconst B dL_law_833 ?_
      refine ax_iadd' B dL_law_834 ?_
      refine ax_iald B kd100 dL_law_835 e (fun v109 e => ?_)
      refine ax_ivI (y := yX0_forgive) (n := 1) (As := [.int (Int32.ofInt v109)]) B kd0 (lw_V q1429 q1430 q1431 q125 q1432) (by decide +kernel) ⟨Nat.le_of_ble_eq_true rfl, Nat.le_of_ble_eq_true rfl⟩ (fun w1 e1 => mt_X0_forgive l G hSF x1 v109 _ w1 e1) rfl hl.size (by decide) dL_law_836 e (fun q110 e => ?_)
      refine ax_aload_n B dL_law_839 rfl hl 2 rfl ?_
      refine ax_aload_n B dL_law_840 rfl hl 0 rfl ?_
      refine ax_iload_n B dL_law_841 rfl hl 3 rfl ?_
      refine ax_iconst B dL_law_842 ?_
      refine ax_iadd' B dL_law_843 ?_
      refine ax_iald B kd100 dL_law_844 e (fun v111 e => ?_)
      refine ax_ivI (y := yX5_forgive) (n := 1) (As := [.int (Int32.ofInt v111)]) B kd5 (lw_V q2514 q2515 q2516 q133 q2517) (by decide +kernel) ⟨Nat.le_of_ble_eq_true rfl, Nat.le_of_ble_eq_true rfl⟩ (fun w1 e1 => mt_X5_forgive l G hSF x2 v111 _ w1 e1) rfl hl.size (by simp only [List.map_cons, List.map_nil, List.sum_cons, List.sum_nil, va_rf_cat, ax_catI, ax_catL]; decide) dL_law_845 e (fun q112 e => ?_)
      refine ax_icmp_eq (tgt := 1554) B dL_law_848 (by decide) e (fun e => ?_) (fun e => ?_)
      · exact w_L_law_1554 hSF B Z hn hlt hT x0 x1 x2 x3 (hl.sub [0, 1, 2, 3] rfl) e hp
      · obtain ⟨w, e9_22, rfl⟩ := Option.map_eq_some_iff.mp e
        have e := e9_22
        refine ax_iconst B dL_law_851 ?_
        cases e
        have hp : _ ∧ Q = _ := hp
        exact absurd (show (0 : Int) = 1 from hp.1) (by decide)
    rcases ax_ite e with ⟨hk21, e⟩ | ⟨hk21, e⟩
    · refine ax_tswIn (tgt := 853) (off := 820) B dL_law_33 (by omega) (by omega) (by rw [hk21]; rfl) (by decide) ?_
      refine ax_aload_n B dL_law_853 rfl hl 1 rfl ?_
      refine ax_aload_n B dL_law_854 rfl hl 0 rfl ?_
      refine ax_iload_n B dL_law_855 rfl hl 3 rfl ?_
      refine ax_iconst B dL_law_856 ?_
      refine ax_iadd' B dL_law_857 ?_
      refine ax_iald B kd100 dL_law_858 e (fun v113 e => ?_)
      refine ax_aload_n B dL_law_859 rfl hl 0 rfl ?_
      refine ax_iload_n B dL_law_860 rfl hl 3 rfl ?_
      refine ax_iconst B dL_law_861 ?_
      refine ax_iadd' B dL_law_862 ?_
      refine ax_iald B kd100 dL_law_863 e (fun v114 e => ?_)
      refine ax_ivI (y := yX0_sell) (n := 2) (As := [.int (Int32.ofInt v113), .int (Int32.ofInt v114)]) B kd0 (lw_V q1434 q1435 q1436 q125 q1437) (by decide +kernel) ⟨Nat.le_of_ble_eq_true rfl, Nat.le_of_ble_eq_true rfl⟩ (fun w1 e1 => mt_X0_sell l G hSF x1 v113 v114 _ w1 e1) rfl hl.size (by decide) dL_law_864 e (fun q115 e => ?_)
      refine ax_aload_n B dL_law_867 rfl hl 2 rfl ?_
      refine ax_aload_n B dL_law_868 rfl hl 0 rfl ?_
      refine ax_iload_n B dL_law_869 rfl hl 3 rfl ?_
      refine ax_iconst B dL_law_870 ?_
      refine ax_iadd' B dL_law_871 ?_
      refine ax_iald B kd100 dL_law_872 e (fun v116 e => ?_)
      refine ax_aload_n B dL_law_873 rfl hl 0 rfl ?_
      refine ax_iload_n B dL_law_874 rfl hl 3 rfl ?_
      refine ax_iconst B dL_law_875 ?_
      refine ax_iadd' B dL_law_876 ?_
      refine ax_iald B kd100 dL_law_877 e (fun v117 e => ?_)
      refine ax_ivI (y := yX5_sell) (n := 2) (As := [.int (Int32.ofInt v116), .int (Int32.ofInt v117)]) B kd5 (lw_V q2518 q2519 q2520 q133 q2521) (by decide +kernel) ⟨Nat.le_of_ble_eq_true rfl, Nat.le_of_ble_eq_true rfl⟩ (fun w1 e1 => mt_X5_sell l G hSF x2 v116 v117 _ w1 e1) rfl hl.size (by simp only [List.map_cons, List.map_nil, List.sum_cons, List.sum_nil, va_rf_cat, ax_catI, ax_catL]; decide) dL_law_878 e (fun q118 e => ?_)
      refine ax_icmp_eq (tgt := 1554) B dL_law_881 (by decide) e (fun e => ?_) (fun e => ?_)
      · exact w_L_law_1554 hSF B Z hn hlt hT x0 x1 x2 x3 (hl.sub [0, 1, 2, 3] rfl) e hp
      · obtain ⟨w, e9_23, rfl⟩ := Option.map_eq_some_iff.mp e
        have e := e9_23
        refine ax_iconst B dL_law_884 ?_
        cases e
        have hp : _ ∧ Q = _ := hp
        exact absurd (show (0 : Int) = 1 from hp.1) (by decide)
    rcases ax_ite e with ⟨hk22, e⟩ | ⟨hk22, e⟩
    · refine ax_tswIn (tgt := 886) (off := 853) B dL_law_33 (by omega) (by omega) (by rw [hk22]; rfl) (by decide) ?_
      refine ax_aload_n B dL_law_886 rfl hl 1 rfl ?_
      refine ax_ivI (y := yX0_await) (n := 0) (As := []) B kd0 (lw_V q1438 q1439 q1440 q125 q1441) (by decide +kernel) ⟨Nat.le_of_ble_eq_true rfl, Nat.le_of_ble_eq_true rfl⟩ (fun w1 e1 => mt_X0_await l G hSF x1 _ w1 e1) rfl hl.size (by decide) dL_law_887 e (fun q119 e => ?_)
      refine ax_aload_n B dL_law_890 rfl hl 2 rfl ?_
      refine ax_ivI (y := yX5_await) (n := 0) (As := []) B kd5 (lw_V q2502 q2503 q2504 q133 q2505) (by decide +kernel) ⟨Nat.le_of_ble_eq_true rfl, Nat.le_of_ble_eq_true rfl⟩ (fun w1 e1 => mt_X5_await l G hSF x2 _ w1 e1) rfl hl.size (by simp only [List.map_cons, List.map_nil, List.sum_cons, List.sum_nil, va_rf_cat, ax_catI, ax_catL]; decide) dL_law_891 e (fun q120 e => ?_)
      refine ax_icmp_eq (tgt := 1554) B dL_law_894 (by decide) e (fun e => ?_) (fun e => ?_)
      · exact w_L_law_1554 hSF B Z hn hlt hT x0 x1 x2 x3 (hl.sub [0, 1, 2, 3] rfl) e hp
      · obtain ⟨w, e9_24, rfl⟩ := Option.map_eq_some_iff.mp e
        have e := e9_24
        refine ax_iconst B dL_law_897 ?_
        cases e
        have hp : _ ∧ Q = _ := hp
        exact absurd (show (0 : Int) = 1 from hp.1) (by decide)
    rcases ax_ite e with ⟨hk23, e⟩ | ⟨hk23, e⟩
    · refine ax_tswIn (tgt := 899) (off := 866) B dL_law_33 (by omega) (by omega) (by rw [hk23]; rfl) (by decide) ?_
      refine ax_aload_n B dL_law_899 rfl hl 1 rfl ?_
      refine ax_ivI (y := yX0_clear) (n := 0) (As := []) B kd0 (lw_V q1693 q1694 q1695 q125 q1696) (by decide +kernel) ⟨Nat.le_of_ble_eq_true rfl, Nat.le_of_ble_eq_true rfl⟩ (fun w1 e1 => mt_X0_clear l G hSF x1 _ w1 e1) rfl hl.size (by decide) dL_law_900 e (fun q121 e => ?_)
      refine ax_aload_n B dL_law_903 rfl hl 2 rfl ?_
      refine ax_ivI (y := yX5_clear) (n := 0) (As := []) B kd5 (lw_V q2625 q2626 q2627 q133 q2628) (by decide +kernel) ⟨Nat.le_of_ble_eq_true rfl, Nat.le_of_ble_eq_true rfl⟩ (fun w1 e1 => mt_X5_clear l G hSF x2 _ w1 e1) rfl hl.size (by simp only [List.map_cons, List.map_nil, List.sum_cons, List.sum_nil, va_rf_cat, ax_catI, ax_catL]; decide) dL_law_904 e (fun q122 e => ?_)
      refine ax_icmp_eq (tgt := 1554) B dL_law_907 (by decide) e (fun e => ?_) (fun e => ?_)
      · exact w_L_law_1554 hSF B Z hn hlt hT x0 x1 x2 x3 (hl.sub [0, 1, 2, 3] rfl) e hp
      · obtain ⟨w, e9_25, rfl⟩ := Option.map_eq_some_iff.mp e
        have e := e9_25
        refine ax_iconst B dL_law_910 ?_
        cases e
        have hp : _ ∧ Q = _ := hp
        exact absurd (show (0 : Int) = 1 from hp.1) (by decide)
    rcases ax_ite e with ⟨hk24, e⟩ | ⟨hk24, e⟩
    · refine ax_tswIn (tgt := 912) (off := 879) B dL_law_33 (by omega) (by omega) (by rw [hk24]; rfl) (by decide) ?_
      refine ax_aload_n B dL_law_912 rfl hl 1 rfl ?_
      refine ax_ivI (y := yX0_undo) (n := 0) (As := []) B kd0 (lw_V q1450 q1451 q1452 q125 q1453) (by decide +kernel) ⟨Nat.le_of_ble_eq_true rfl, Nat.le_of_ble_eq_true rfl⟩ (fun w1 e1 => mt_X0_undo l G hSF x1 _ w1 e1) rfl hl.size (by decide) dL_law_913 e (fun q123 e => ?_)
      refine ax_aload_n B dL_law_916 rfl hl 2 rfl ?_
      refine ax_ivI (y := yX5_undo) (n := 0) (As := []) B kd5 (lw_V q2450 q2451 q2452 q133 q2453) (by decide +kernel) ⟨Nat.le_of_ble_eq_true rfl, Nat.le_of_ble_eq_true rfl⟩ (fun w1 e1 => mt_X5_undo l G hSF x2 _ w1 e1) rfl hl.size (by simp only [List.map_cons, List.map_nil, List.sum_cons, List.sum_nil, va_rf_cat, ax_catI, ax_catL]; decide) dL_law_917 e (fun q124 e => ?_)
      refine ax_icmp_eq (tgt := 1554) B dL_law_920 (by decide) e (fun e => ?_) (fun e => ?_)
      · exact w_L_law_1554 hSF B Z hn hlt hT x0 x1 x2 x3 (hl.sub [0, 1, 2, 3] rfl) e hp
      · obtain ⟨w, e9_26, rfl⟩ := Option.map_eq_some_iff.mp e
        have e := e9_26
        refine ax_iconst B dL_law_923 ?_
        cases e
        have hp : _ ∧ Q = _ := hp
        exact absurd (show (0 : Int) = 1 from hp.1) (by decide)
    rcases ax_ite e with ⟨hk25, e⟩ | ⟨hk25, e⟩
    · refine ax_tswIn (tgt := 925) (off := 892) B dL_law_33 (by omega) (by omega) (by rw [hk25]; rfl) (by decide) ?_
      refine ax_aload_n B dL_law_925 rfl hl 1 rfl ?_
      refine ax_aload_n B dL_law_926 rfl hl 0 rfl ?_
      refine ax_iload_n B dL_law_927 rfl hl 3 rfl ?_
      refine ax_iconst B dL_law_928 ?_
      refine ax_iadd' B dL_law_929 ?_
      refine ax_iald B kd100 dL_law_930 e (fun v125 e => ?_)
      refine ax_aload_n B dL_law_931 rfl hl 0 rfl ?_
      refine ax_iload_n B dL_law_932 rfl hl 3 rfl ?_
      refine ax_iconst B dL_law_933 ?_
      refine ax_iadd' B dL_law_934 ?_
      refine ax_iald B kd100 dL_law_935 e (fun v126 e => ?_)
      refine ax_aload_n B dL_law_936 rfl hl 0 rfl ?_
      refine ax_iload_n B dL_law_937 rfl hl 3 rfl ?_
      refine ax_iconst B dL_law_938 ?_
      refine ax_iadd' B dL_law_939 ?_
      refine ax_iald B kd100 dL_law_940 e (fun v127 e => ?_)
      refine ax_ivI (y := yX0_need) (n := 3) (As := [.int (Int32.ofInt v125), .int (Int32.ofInt v126), .int (Int32.ofInt v127)]) B kd0 (lw_V q1458 q1459 q1460 q125 q1461) (by decide +kernel) ⟨Nat.le_of_ble_eq_true rfl, Nat.le_of_ble_eq_true rfl⟩ (fun w1 e1 => mt_X0_need l G hSF x1 v125 v126 v127 _ w1 e1) rfl hl.size (by decide) dL_law_941 e (fun q128 e => ?_)
      refine ax_aload_n B dL_law_944 rfl hl 2 rfl ?_
      refine ax_aload_n B dL_law_945 rfl hl 0 rfl ?_
      refine ax_iload_n B dL_law_946 rfl hl 3 rfl ?_
      refine ax_iconst B dL_law_947 ?_
      refine ax_iadd' B dL_law_948 ?_
      refine ax_iald B kd100 dL_law_949 e (fun v129 e => ?_)
      refine ax_aload_n B dL_law_950 rfl hl 0 rfl ?_
      refine ax_iload_n B dL_law_951 rfl hl 3 rfl ?_
      refine ax_iconst B dL_law_952 ?_
      refine ax_iadd' B dL_law_953 ?_
      refine ax_iald B kd100 dL_law_954 e (fun v130 e => ?_)
      refine ax_aload_n B dL_law_955 rfl hl 0 rfl ?_
      refine ax_iload_n B dL_law_956 rfl hl 3 rfl ?_
      refine ax_iconst B dL_law_957 ?_
      refine ax_iadd' B dL_law_958 ?_
      refine ax_iald B kd100 dL_law_959 e (fun v131 e => ?_)
      refine ax_ivI (y := yX5_need) (n := 3) (As := [.int (Int32.ofInt v129), .int (Int32.ofInt v130), .int (Int32.ofInt v131)]) B kd5 (lw_V q2522 q2523 q2524 q133 q2525) (by decide +kernel) ⟨Nat.le_of_ble_eq_true rfl, Nat.le_of_ble_eq_true rfl⟩ (fun w1 e1 => mt_X5_need l G hSF x2 v129 v130 v131 _ w1 e1) rfl hl.size (by simp only [List.map_cons, List.map_nil, List.sum_cons, List.sum_nil, va_rf_cat, ax_catI, ax_catL]; decide) dL_law_960 e (fun q132 e => ?_)
      refine ax_icmp_eq (tgt := 1554) B dL_law_963 (by decide) e (fun e => ?_) (fun e => ?_)
      · exact w_L_law_1554 hSF B Z hn hlt hT x0 x1 x2 x3 (hl.sub [0, 1, 2, 3] rfl) e hp
      · obtain ⟨w, e9_27, rfl⟩ := Option.map_eq_some_iff.mp e
        have e := e9_27
        refine ax_iconst B dL_law_966 ?_
        cases e
        have hp : _ ∧ Q = _ := hp
        exact absurd (show (0 : Int) = 1 from hp.1) (by decide)
    rcases ax_ite e with ⟨hk26, e⟩ | ⟨hk26, e⟩
    · refine ax_tswIn (tgt := 968) (off := 935) B dL_law_33 (by omega) (by omega) (by rw [hk26]; rfl) (by decide) ?_
      refine ax_aload_n B dL_law_968 rfl hl 1 rfl ?_
      refine ax_aload_n B dL_law_969 rfl hl 0 rfl ?_
      refine ax_iload_n B dL_law_970 rfl hl 3 rfl ?_
      refine ax_iconst B dL_law_971 ?_
      refine ax_iadd' B dL_law_972 ?_
      refine ax_iald B kd100 dL_law_973 e (fun v133 e => ?_)
      refine ax_aload_n B dL_law_974 rfl hl 0 rfl ?_
      refine ax_iload_n B dL_law_975 rfl hl 3 rfl ?_
      refine ax_iconst B dL_law_976 ?_
      refine ax_iadd' B dL_law_977 ?_
      refine ax_iald B kd100 dL_law_978 e (fun v134 e => ?_)
      refine ax_aload_n B dL_law_979 rfl hl 0 rfl ?_
      refine ax_iload_n B dL_law_980 rfl hl 3 rfl ?_
      refine ax_iconst B dL_law_981 ?_
      refine ax_iadd' B dL_law_982 ?_
      refine ax_iald B kd100 dL_law_983 e (fun v135 e => ?_)
      refine ax_aload_n B dL_law_984 rfl hl 0 rfl ?_
      refine ax_iload_n B dL_law_985 rfl hl 3 rfl ?_
      refine ax_iconst B dL_law_986 ?_
      refine ax_iadd' B dL_law_987 ?_
      refine ax_iald B kd100 dL_law_988 e (fun v136 e => ?_)
      refine ax_ivI (y := yX0_visit) (n := 4) (As := [.int (Int32.ofInt v133), .int (Int32.ofInt v134), .int (Int32.ofInt v135), .int (Int32.ofInt v136)]) B kd0 (lw_V q1466 q1467 q1468 q125 q1469) (by decide +kernel) ⟨Nat.le_of_ble_eq_true rfl, Nat.le_of_ble_eq_true rfl⟩ (fun w1 e1 => mt_X0_visit l G hSF x1 v133 v134 v135 v136 _ w1 e1) rfl hl.size (by decide) dL_law_989 e (fun q137 e => ?_)
      refine ax_aload_n B dL_law_992 rfl hl 2 rfl ?_
      refine ax_aload_n B dL_law_993 rfl hl 0 rfl ?_
      refine ax_iload_n B dL_law_994 rfl hl 3 rfl ?_
      refine ax_iconst B dL_law_995 ?_
      refine ax_iadd' B dL_law_996 ?_
      refine ax_iald B kd100 dL_law_997 e (fun v138 e => ?_)
      refine ax_aload_n B dL_law_998 rfl hl 0 rfl ?_
      refine ax_iload_n B dL_law_999 rfl hl 3 rfl ?_
      refine ax_iconst B dL_law_1000 ?_
      refine ax_iadd' B dL_law_1001 ?_
      refine ax_iald B kd100 dL_law_1002 e (fun v139 e => ?_)
      refine ax_aload_n B dL_law_1003 rfl hl 0 rfl ?_
      refine ax_iload_n B dL_law_1004 rfl hl 3 rfl ?_
      refine ax_iconst B dL_law_1005 ?_
      refine ax_iadd' B dL_law_1006 ?_
      refine ax_iald B kd100 dL_law_1007 e (fun v140 e => ?_)
      refine ax_aload_n B dL_law_1008 rfl hl 0 rfl ?_
      refine ax_iload_n B dL_law_1009 rfl hl 3 rfl ?_
      refine ax_iconst B dL_law_1010 ?_
      refine ax_iadd' B dL_law_1011 ?_
      refine ax_iald B kd100 dL_law_1012 e (fun v141 e => ?_)
      refine ax_ivI (y := yX5_visit) (n := 4) (As := [.int (Int32.ofInt v138), .int (Int32.ofInt v139), .int (Int32.ofInt v140), .int (Int32.ofInt v141)]) B kd5 (lw_V q2530 q2531 q2532 q133 q2533) (by decide +kernel) ⟨Nat.le_of_ble_eq_true rfl, Nat.le_of_ble_eq_true rfl⟩ (fun w1 e1 => mt_X5_visit l G hSF x2 v138 v139 v140 v141 _ w1 e1) rfl hl.size (by simp only [List.map_cons, List.map_nil, List.sum_cons, List.sum_nil, va_rf_cat, ax_catI, ax_catL]; decide) dL_law_1013 e (fun q142 e => ?_)
      refine ax_icmp_eq (tgt := 1554) B dL_law_1016 (by decide) e (fun e => ?_) (fun e => ?_)
      · exact w_L_law_1554 hSF B Z hn hlt hT x0 x1 x2 x3 (hl.sub [0, 1, 2, 3] rfl) e hp
      · obtain ⟨w, e9_28, rfl⟩ := Option.map_eq_some_iff.mp e
        have e := e9_28
        refine ax_iconst B dL_law_1019 ?_
        cases e
        have hp : _ ∧ Q = _ := hp
        exact absurd (show (0 : Int) = 1 from hp.1) (by decide)
    rcases ax_ite e with ⟨hk27, e⟩ | ⟨hk27, e⟩
    · refine ax_tswIn (tgt := 1021) (off := 988) B dL_law_33 (by omega) (by omega) (by rw [hk27]; rfl) (by decide) ?_
      refine ax_aload_n B dL_law_1021 rfl hl 1 rfl ?_
      refine ax_ivI (y := yX0_cancel) (n := 0) (As := []) B kd0 (lw_V q1498 q1499 q1500 q125 q1501) (by decide +kernel) ⟨Nat.le_of_ble_eq_true rfl, Nat.le_of_ble_eq_true rfl⟩ (fun w1 e1 => mt_X0_cancel l G hSF x1 _ w1 e1) rfl hl.size (by decide) dL_law_1022 e (fun q143 e => ?_)
      refine ax_aload_n B dL_law_1025 rfl hl 2 rfl ?_
      refine ax_ivI (y := yX5_cancel) (n := 0) (As := []) B kd5 (lw_V q2538 q2539 q2540 q133 q2541) (by decide +kernel) ⟨Nat.le_of_ble_eq_true rfl, Nat.le_of_ble_eq_true rfl⟩ (fun w1 e1 => mt_X5_cancel l G hSF x2 _ w1 e1) rfl hl.size (by simp only [List.map_cons, List.map_nil, List.sum_cons, List.sum_nil, va_rf_cat, ax_catI, ax_catL]; decide) dL_law_1026 e (fun q144 e => ?_)
      refine ax_icmp_eq (tgt := 1554) B dL_law_1029 (by decide) e (fun e => ?_) (fun e => ?_)
      · exact w_L_law_1554 hSF B Z hn hlt hT x0 x1 x2 x3 (hl.sub [0, 1, 2, 3] rfl) e hp
      · obtain ⟨w, e9_29, rfl⟩ := Option.map_eq_some_iff.mp e
        have e := e9_29
        refine ax_iconst B dL_law_1032 ?_
        cases e
        have hp : _ ∧ Q = _ := hp
        exact absurd (show (0 : Int) = 1 from hp.1) (by decide)
    rcases ax_ite e with ⟨hk28, e⟩ | ⟨hk28, e⟩
    · refine ax_tswIn (tgt := 1034) (off := 1001) B dL_law_33 (by omega) (by omega) (by rw [hk28]; rfl) (by decide) ?_
      refine ax_aload_n B dL_law_1034 rfl hl 1 rfl ?_
      refine ax_aload_n B dL_law_1035 rfl hl 0 rfl ?_
      refine ax_iload_n B dL_law_1036 rfl hl 3 rfl ?_
      refine ax_iconst B dL_law_1037 ?_
      refine ax_iadd' B dL_law_1038 ?_
      refine ax_iald B kd100 dL_law_1039 e (fun v145 e => ?_)
      refine ax_ivI (y := yX0_lendings) (n := 1) (As := [.int (Int32.ofInt v145)]) B kd0 (lw_V q1502 q1503 q1504 q125 q1505) (by decide +kernel) ⟨Nat.le_of_ble_eq_true rfl, Nat.le_of_ble_eq_true rfl⟩ (fun w1 e1 => mt_X0_lendings l G hSF x1 v145 _ w1 e1) rfl hl.size (by decide) dL_law_1040 e (fun q146 e => ?_)
      refine ax_aload_n B dL_law_1043 rfl hl 2 rfl ?_
      refine ax_aload_n B dL_law_1044 rfl hl 0 rfl ?_
      refine ax_iload_n B dL_law_1045 rfl hl 3 rfl ?_
      refine ax_iconst B dL_law_1046 ?_
      refine ax_iadd' B dL_law_1047 ?_
      refine ax_iald B kd100 dL_law_1048 e (fun v147 e => ?_)
      refine ax_ivI (y := yX5_lendings) (n := 1) (As := [.int (Int32.ofInt v147)]) B kd5 (lw_V q2546 q2547 q2548 q133 q2549) (by decide +kernel) ⟨Nat.le_of_ble_eq_true rfl, Nat.le_of_ble_eq_true rfl⟩ (fun w1 e1 => mt_X5_lendings l G hSF x2 v147 _ w1 e1) rfl hl.size (by simp only [List.map_cons, List.map_nil, List.sum_cons, List.sum_nil, va_rf_cat, ax_catI, ax_catL]; decide) dL_law_1049 e (fun q148 e => ?_)
      refine ax_icmp_eq (tgt := 1554) B dL_law_1052 (by decide) e (fun e => ?_) (fun e => ?_)
      · exact w_L_law_1554 hSF B Z hn hlt hT x0 x1 x2 x3 (hl.sub [0, 1, 2, 3] rfl) e hp
      · obtain ⟨w, e9_30, rfl⟩ := Option.map_eq_some_iff.mp e
        have e := e9_30
        refine ax_iconst B dL_law_1055 ?_
        cases e
        have hp : _ ∧ Q = _ := hp
        exact absurd (show (0 : Int) = 1 from hp.1) (by decide)
    rcases ax_ite e with ⟨hk29, e⟩ | ⟨hk29, e⟩
    · refine ax_tswIn (tgt := 1057) (off := 1024) B dL_law_33 (by omega) (by omega) (by rw [hk29]; rfl) (by decide) ?_
      refine ax_aload_n B dL_law_1057 rfl hl 1 rfl ?_
      refine ax_aload_n B dL_law_1058 rfl hl 0 rfl ?_
      refine ax_iload_n B dL_law_1059 rfl hl 3 rfl ?_
      refine ax_iconst B dL_law_1060 ?_
      refine ax_iadd' B dL_law_1061 ?_
      refine ax_iald B kd100 dL_law_1062 e (fun v149 e => ?_)
      refine ax_ivI (y := yX0_plan) (n := 1) (As := [.int (Int32.ofInt v149)]) B kd0 (lw_V q1594 q1595 q1596 q125 q1597) (by decide +kernel) ⟨Nat.le_of_ble_eq_true rfl, Nat.le_of_ble_eq_true rfl⟩ (fun w1 e1 => mt_X0_plan l G hSF x1 v149 _ w1 e1) rfl hl.size (by decide) dL_law_1063 e (fun q150 e => ?_)
      refine ax_aload_n B dL_law_1066 rfl hl 2 rfl ?_
      refine ax_aload_n B dL_law_1067 rfl hl 0 rfl ?_
      refine ax_iload_n B dL_law_1068 rfl hl 3 rfl ?_
      refine ax_iconst B dL_law_1069 ?_
      refine ax_iadd' B dL_law_1070 ?_
      refine ax_iald B kd100 dL_law_1071 e (fun v151 e => ?_)
      refine ax_ivI (y := yX5_plan) (n := 1) (As := [.int (Int32.ofInt v151)]) B kd5 (lw_V q2569 q2570 q2571 q133 q2572) (by decide +kernel) ⟨Nat.le_of_ble_eq_true rfl, Nat.le_of_ble_eq_true rfl⟩ (fun w1 e1 => mt_X5_plan l G hSF x2 v151 _ w1 e1) rfl hl.size (by simp only [List.map_cons, List.map_nil, List.sum_cons, List.sum_nil, va_rf_cat, ax_catI, ax_catL]; decide) dL_law_1072 e (fun q152 e => ?_)
      refine ax_icmp_eq (tgt := 1554) B dL_law_1075 (by decide) e (fun e => ?_) (fun e => ?_)
      · exact w_L_law_1554 hSF B Z hn hlt hT x0 x1 x2 x3 (hl.sub [0, 1, 2, 3] rfl) e hp
      · obtain ⟨w, e9_31, rfl⟩ := Option.map_eq_some_iff.mp e
        have e := e9_31
        refine ax_iconst B dL_law_1078 ?_
        cases e
        have hp : _ ∧ Q = _ := hp
        exact absurd (show (0 : Int) = 1 from hp.1) (by decide)
    rcases ax_ite e with ⟨hk30, e⟩ | ⟨hk30, e⟩
    · refine ax_tswIn (tgt := 1080) (off := 1047) B dL_law_33 (by omega) (by omega) (by rw [hk30]; rfl) (by decide) ?_
      refine ax_aload_n B dL_law_1080 rfl hl 1 rfl ?_
      refine ax_aload_n B dL_law_1081 rfl hl 0 rfl ?_
      refine ax_iload_n B dL_law_1082 rfl hl 3 rfl ?_
      refine ax_iconst B dL_law_1083 ?_
      refine ax_iadd' B dL_law_1084 ?_
      refine ax_iald B kd100 dL_law_1085 e (fun v153 e => ?_)
      refine ax_aload_n B dL_law_1086 rfl hl 0 rfl ?_
      refine ax_iload_n B dL_law_1087 rfl hl 3 rfl ?_
      refine ax_iconst B dL_law_1088 ?_
      refine ax_iadd' B dL_law_1089 ?_
      refine ax_iald B kd100 dL_law_1090 e (fun v154 e => ?_)
      refine ax_aload_n B dL_law_1091 rfl hl 0 rfl ?_
      refine ax_iload_n B dL_law_1092 rfl hl 3 rfl ?_
      refine ax_iconst B dL_law_1093 ?_
      refine ax_iadd' B dL_law_1094 ?_
      refine ax_iald B kd100 dL_law_1095 e (fun v155 e => ?_)
      refine ax_aload_n B dL_law_1096 rfl hl 0 rfl ?_
      refine ax_iload_n B dL_law_1097 rfl hl 3 rfl ?_
      refine ax_iconst B dL_law_1098 ?_
      refine ax_iadd' B dL_law_1099 ?_
      refine ax_iald B kd100 dL_law_1100 e (fun v156 e => ?_)
      refine ax_ivI (y := yX0_thief) (n := 4) (As := [.int (Int32.ofInt v153), .int (Int32.ofInt v154), .int (Int32.ofInt v155), .int (Int32.ofInt v156)]) B kd0 (lw_V q1617 q1618 q1619 q125 q1620) (by decide +kernel) ⟨Nat.le_of_ble_eq_true rfl, Nat.le_of_ble_eq_true rfl⟩ (fun w1 e1 => mt_X0_thief l G hSF x1 v153 v154 v155 v156 _ w1 e1) rfl hl.size (by decide) dL_law_1101 e (fun q157 e => ?_)
      refine ax_aload_n B dL_law_1104 rfl hl 2 rfl ?_
      refine ax_aload_n B dL_law_1105 rfl hl 0 rfl ?_
      refine ax_iload_n B dL_law_1106 rfl hl 3 rfl ?_
      refine ax_iconst B dL_law_1107 ?_
      refine ax_iadd' B dL_law_1108 ?_
      refine ax_iald B kd100 dL_law_1109 e (fun v158 e => ?_)
      refine ax_aload_n B dL_law_1110 rfl hl 0 rfl ?_
      refine ax_iload_n B dL_law_1111 rfl hl 3 rfl ?_
      refine ax_iconst B dL_law_1112 ?_
      refine ax_iadd' B dL_law_1113 ?_
      refine ax_iald B kd100 dL_law_1114 e (fun v159 e => ?_)
      refine ax_aload_n B dL_law_1115 rfl hl 0 rfl ?_
      refine ax_iload_n B dL_law_1116 rfl hl 3 rfl ?_
      refine ax_iconst B dL_law_1117 ?_
      refine ax_iadd' B dL_law_1118 ?_
      refine ax_iald B kd100 dL_law_1119 e (fun v160 e => ?_)
      refine ax_aload_n B dL_law_1120 rfl hl 0 rfl ?_
      refine ax_iload_n B dL_law_1121 rfl hl 3 rfl ?_
      refine ax_iconst B dL_law_1122 ?_
      refine ax_iadd' B dL_law_1123 ?_
      refine ax_iald B kd100 dL_law_1124 e (fun v161 e => ?_)
      refine ax_ivI (y := yX5_thief) (n := 4) (As := [.int (Int32.ofInt v158), .int (Int32.ofInt v159), .int (Int32.ofInt v160), .int (Int32.ofInt v161)]) B kd5 (lw_V q2585 q2586 q2587 q133 q2588) (by decide +kernel) ⟨Nat.le_of_ble_eq_true rfl, Nat.le_of_ble_eq_true rfl⟩ (fun w1 e1 => mt_X5_thief l G hSF x2 v158 v159 v160 v161 _ w1 e1) rfl hl.size (by simp only [List.map_cons, List.map_nil, List.sum_cons, List.sum_nil, va_rf_cat, ax_catI, ax_catL]; decide) dL_law_1125 e (fun q162 e => ?_)
      refine ax_icmp_eq (tgt := 1554) B dL_law_1128 (by decide) e (fun e => ?_) (fun e => ?_)
      · exact w_L_law_1554 hSF B Z hn hlt hT x0 x1 x2 x3 (hl.sub [0, 1, 2, 3] rfl) e hp
      · obtain ⟨w, e9_32, rfl⟩ := Option.map_eq_some_iff.mp e
        have e := e9_32
        refine ax_iconst B dL_law_1131 ?_
        cases e
        have hp : _ ∧ Q = _ := hp
        exact absurd (show (0 : Int) = 1 from hp.1) (by decide)
    rcases ax_ite e with ⟨hk31, e⟩ | ⟨hk31, e⟩
    · refine ax_tswIn (tgt := 1133) (off := 1100) B dL_law_33 (by omega) (by omega) (by rw [hk31]; rfl) (by decide) ?_
      refine ax_aload_n B dL_law_1133 rfl hl 1 rfl ?_
      refine ax_aload_n B dL_law_1134 rfl hl 0 rfl ?_
      refine ax_iload_n B dL_law_1135 rfl hl 3 rfl ?_
      refine ax_iconst B dL_law_1136 ?_
      refine ax_iadd' B dL_law_1137 ?_
      refine ax_iald B kd100 dL_law_1138 e (fun v163 e => ?_)
      refine ax_aload_n B dL_law_1139 rfl hl 0 rfl ?_
      refine ax_iload_n B dL_law_1140 rfl hl 3 rfl ?_
      refine ax_iconst B dL_law_1141 ?_
      refine ax_iadd' B dL_law_1142 ?_
      refine ax_iald B kd100 dL_law_1143 e (fun v164 e => ?_)
      refine ax_aload_n B dL_law_1144 rfl hl 0 rfl ?_
      refine ax_iload_n B dL_law_1145 rfl hl 3 rfl ?_
      refine ax_iconst B dL_law_1146 ?_
      refine ax_iadd' B dL_law_1147 ?_
      refine ax_iald B kd100 dL_law_1148 e (fun v165 e => ?_)
      refine ax_ivI (y := yX0_shut) (n := 3) (As := [.int (Int32.ofInt v163), .int (Int32.ofInt v164), .int (Int32.ofInt v165)]) B kd0 (lw_V q1629 q1630 q1631 q125 q1632) (by decide +kernel) ⟨Nat.le_of_ble_eq_true rfl, Nat.le_of_ble_eq_true rfl⟩ (fun w1 e1 => mt_X0_shut l G hSF x1 v163 v164 v165 _ w1 e1) rfl hl.size (by decide) dL_law_1149 e (fun q166 e => ?_)
      refine ax_aload_n B dL_law_1152 rfl hl 2 rfl ?_
      refine ax_aload_n B dL_law_1153 rfl hl 0 rfl ?_
      refine ax_iload_n B dL_law_1154 rfl hl 3 rfl ?_
      refine ax_iconst B dL_law_1155 ?_
      refine ax_iadd' B dL_law_1156 ?_
      refine ax_iald B kd100 dL_law_1157 e (fun v167 e => ?_)
      refine ax_aload_n B dL_law_1158 rfl hl 0 rfl ?_
      refine ax_iload_n B dL_law_1159 rfl hl 3 rfl ?_
      refine ax_iconst B dL_law_1160 ?_
      refine ax_iadd' B dL_law_1161 ?_
      refine ax_iald B kd100 dL_law_1162 e (fun v168 e => ?_)
      refine ax_aload_n B dL_law_1163 rfl hl 0 rfl ?_
      refine ax_iload_n B dL_law_1164 rfl hl 3 rfl ?_
      refine ax_iconst B dL_law_1165 ?_
      refine ax_iadd' B dL_law_1166 ?_
      refine ax_iald B kd100 dL_law_1167 e (fun v169 e => ?_)
      refine ax_ivI (y := yX5_shut) (n := 3) (As := [.int (Int32.ofInt v167), .int (Int32.ofInt v168), .int (Int32.ofInt v169)]) B kd5 (lw_V q2596 q2597 q2598 q133 q2599) (by decide +kernel) ⟨Nat.le_of_ble_eq_true rfl, Nat.le_of_ble_eq_true rfl⟩ (fun w1 e1 => mt_X5_shut l G hSF x2 v167 v168 v169 _ w1 e1) rfl hl.size (by simp only [List.map_cons, List.map_nil, List.sum_cons, List.sum_nil, va_rf_cat, ax_catI, ax_catL]; decide) dL_law_1168 e (fun q170 e => ?_)
      refine ax_icmp_eq (tgt := 1554) B dL_law_1171 (by decide) e (fun e => ?_) (fun e => ?_)
      · exact w_L_law_1554 hSF B Z hn hlt hT x0 x1 x2 x3 (hl.sub [0, 1, 2, 3] rfl) e hp
      · obtain ⟨w, e9_33, rfl⟩ := Option.map_eq_some_iff.mp e
        have e := e9_33
        refine ax_iconst B dL_law_1174 ?_
        cases e
        have hp : _ ∧ Q = _ := hp
        exact absurd (show (0 : Int) = 1 from hp.1) (by decide)
    rcases ax_ite e with ⟨hk32, e⟩ | ⟨hk32, e⟩
    · refine ax_tswIn (tgt := 1176) (off := 1143) B dL_law_33 (by omega) (by omega) (by rw [hk32]; rfl) (by decide) ?_
      refine ax_aload_n B dL_law_1176 rfl hl 1 rfl ?_
      refine ax_aload_n B dL_law_1177 rfl hl 0 rfl ?_
      refine ax_iload_n B dL_law_1178 rfl hl 3 rfl ?_
      refine ax_iconst B dL_law_1179 ?_
      refine ax_iadd' B dL_law_1180 ?_
      refine ax_iald B kd100 dL_law_1181 e (fun v171 e => ?_)
      refine ax_ivI (y := yX0_ban) (n := 1) (As := [.int (Int32.ofInt v171)]) B kd0 (lw_V q1637 q1638 q1639 q125 q1640) (by decide +kernel) ⟨Nat.le_of_ble_eq_true rfl, Nat.le_of_ble_eq_true rfl⟩ (fun w1 e1 => mt_X0_ban l G hSF x1 v171 _ w1 e1) rfl hl.size (by decide) dL_law_1182 e (fun q172 e => ?_)
      refine ax_aload_n B dL_law_1185 rfl hl 2 rfl ?_
      refine ax_aload_n B dL_law_1186 rfl hl 0 rfl ?_
      refine ax_iload_n B dL_law_1187 rfl hl 3 rfl ?_
      refine ax_iconst B dL_law_1188 ?_
      refine ax_iadd' B dL_law_1189 ?_
      refine ax_iald B kd100 dL_law_1190 e (fun v173 e => ?_)
      refine ax_ivI (y := yX5_ban) (n := 1) (As := [.int (Int32.ofInt v173)]) B kd5 (lw_V q2604 q2605 q2606 q133 q2607) (by decide +kernel) ⟨Nat.le_of_ble_eq_true rfl, Nat.le_of_ble_eq_true rfl⟩ (fun w1 e1 => mt_X5_ban l G hSF x2 v173 _ w1 e1) rfl hl.size (by simp only [List.map_cons, List.map_nil, List.sum_cons, List.sum_nil, va_rf_cat, ax_catI, ax_catL]; decide) dL_law_1191 e (fun q174 e => ?_)
      refine ax_icmp_eq (tgt := 1554) B dL_law_1194 (by decide) e (fun e => ?_) (fun e => ?_)
      · exact w_L_law_1554 hSF B Z hn hlt hT x0 x1 x2 x3 (hl.sub [0, 1, 2, 3] rfl) e hp
      · obtain ⟨w, e9_34, rfl⟩ := Option.map_eq_some_iff.mp e
        have e := e9_34
        refine ax_iconst B dL_law_1197 ?_
        cases e
        have hp : _ ∧ Q = _ := hp
        exact absurd (show (0 : Int) = 1 from hp.1) (by decide)
    rcases ax_ite e with ⟨hk33, e⟩ | ⟨hk33, e⟩
    · refine ax_tswIn (tgt := 1199) (off := 1166) B dL_law_33 (by omega) (by omega) (by rw [hk33]; rfl) (by decide) ?_
      refine ax_aload_n B dL_law_1199 rfl hl 1 rfl ?_
      refine ax_aload_n B dL_law_1200 rfl hl 0 rfl ?_
      refine ax_iload_n B dL_law_1201 rfl hl 3 rfl ?_
      refine ax_iconst B dL_law_1202 ?_
      refine ax_iadd' B dL_law_1203 ?_
      refine ax_iald B kd100 dL_law_1204 e (fun v175 e => ?_)
      refine ax_ivI (y := yX0_party) (n := 1) (As := [.int (Int32.ofInt v175)]) B kd0 (lw_V q1641 q1642 q1643 q125 q1644) (by decide +kernel) ⟨Nat.le_of_ble_eq_true rfl, Nat.le_of_ble_eq_true rfl⟩ (fun w1 e1 => mt_X0_party l G hSF x1 v175 _ w1 e1) rfl hl.size (by decide) dL_law_1205 e (fun q176 e => ?_)
      refine ax_aload_n B dL_law_1208 rfl hl 2 rfl ?_
      refine ax_aload_n B dL_law_1209 rfl hl 0 rfl ?_
      refine ax_iload_n B dL_law_1210 rfl hl 3 rfl ?_
      refine ax_iconst B dL_law_1211 ?_
      refine ax_iadd' B dL_law_1212 ?_
      refine ax_iald B kd100 dL_law_1213 e (fun v177 e => ?_)
      refine ax_ivI (y := yX5_party) (n := 1) (As := [.int (Int32.ofInt v177)]) B kd5 (lw_V q2608 q2609 q2610 q133 q2611) (by decide +kernel) ⟨Nat.le_of_ble_eq_true rfl, Nat.le_of_ble_eq_true rfl⟩ (fun w1 e1 => mt_X5_party l G hSF x2 v177 _ w1 e1) rfl hl.size (by simp only [List.map_cons, List.map_nil, List.sum_cons, List.sum_nil, va_rf_cat, ax_catI, ax_catL]; decide) dL_law_1214 e (fun q178 e => ?_)
      refine ax_icmp_eq (tgt := 1554) B dL_law_1217 (by decide) e (fun e => ?_) (fun e => ?_)
      · exact w_L_law_1554 hSF B Z hn hlt hT x0 x1 x2 x3 (hl.sub [0, 1, 2, 3] rfl) e hp
      · obtain ⟨w, e9_35, rfl⟩ := Option.map_eq_some_iff.mp e
        have e := e9_35
        refine ax_iconst B dL_law_1220 ?_
        cases e
        have hp : _ ∧ Q = _ := hp
        exact absurd (show (0 : Int) = 1 from hp.1) (by decide)
    rcases ax_ite e with ⟨hk34, e⟩ | ⟨hk34, e⟩
    · refine ax_tswIn (tgt := 1222) (off := 1189) B dL_law_33 (by omega) (by omega) (by rw [hk34]; rfl) (by decide) ?_
      refine ax_aload_n B dL_law_1222 rfl hl 1 rfl ?_
      refine ax_aload_n B dL_law_1223 rfl hl 0 rfl ?_
      refine ax_iload_n B dL_law_1224 rfl hl 3 rfl ?_
      refine ax_iconst B dL_law_1225 ?_
      refine ax_iadd' B dL_law_1226 ?_
      refine ax_iald B kd100 dL_law_1227 e (fun v179 e => ?_)
      refine ax_ivI (y := yX0_ring) (n := 1) (As := [.int (Int32.ofInt v179)]) B kd0 (lw_V q1649 q1650 q1651 q125 q1652) (by decide +kernel) ⟨Nat.le_of_ble_eq_true rfl, Nat.le_of_ble_eq_true rfl⟩ (fun w1 e1 => mt_X0_ring l G hSF x1 v179 _ w1 e1) rfl hl.size (by decide) dL_law_1228 e (fun q180 e => ?_)
      refine ax_aload_n B dL_law_1231 rfl hl 2 rfl ?_
      refine ax_aload_n B dL_law_1232 rfl hl 0 rfl ?_
      refine ax_iload_n B dL_law_1233 rfl hl 3 rfl ?_
      refine ax_iconst B dL_law_1234 ?_
      refine ax_iadd' B dL_law_1235 ?_
      refine ax_iald B kd100 dL_law_1236 e (fun v181 e => ?_)
      refine ax_ivI (y := yX5_ring) (n := 1) (As := [.int (Int32.ofInt v181)]) B kd5 (lw_V q2613 q2614 q2615 q133 q2616) (by decide +kernel) ⟨Nat.le_of_ble_eq_true rfl, Nat.le_of_ble_eq_true rfl⟩ (fun w1 e1 => mt_X5_ring l G hSF x2 v181 _ w1 e1) rfl hl.size (by simp only [List.map_cons, List.map_nil, List.sum_cons, List.sum_nil, va_rf_cat, ax_catI, ax_catL]; decide) dL_law_1237 e (fun q182 e => ?_)
      refine ax_icmp_eq (tgt := 1554) B dL_law_1240 (by decide) e (fun e => ?_) (fun e => ?_)
      · exact w_L_law_1554 hSF B Z hn hlt hT x0 x1 x2 x3 (hl.sub [0, 1, 2, 3] rfl) e hp
      · obtain ⟨w, e9_36, rfl⟩ := Option.map_eq_some_iff.mp e
        have e := e9_36
        refine ax_iconst B dL_law_1243 ?_
        cases e
        have hp : _ ∧ Q = _ := hp
        exact absurd (show (0 : Int) = 1 from hp.1) (by decide)
    rcases ax_ite e with ⟨hk35, e⟩ | ⟨hk35, e⟩
    · refine ax_tswIn (tgt := 1245) (off := 1212) B dL_law_33 (by omega) (by omega) (by rw [hk35]; rfl) (by decide) ?_
      refine ax_aload_n B dL_law_1245 rfl hl 1 rfl ?_
      refine ax_aload_n B dL_law_1246 rfl hl 0 rfl ?_
      refine ax_iload_n B dL_law_1247 rfl hl 3 rfl ?_
      refine ax_iconst B dL_law_1248 ?_
      refine ax_iadd' B dL_law_1249 ?_
      refine ax_iald B kd100 dL_law_1250 e (fun v183 e => ?_)
      refine ax_ivI (y := yX0_cleared) (n := 1) (As := [.int (Int32.ofInt v183)]) B kd0 (lw_V q1712 q1713 q1714 q125 q1715) (by decide +kernel) ⟨Nat.le_of_ble_eq_true rfl, Nat.le_of_ble_eq_true rfl⟩ (fun w1 e1 => mt_X0_cleared l G hSF x1 v183 _ w1 e1) rfl hl.size (by decide) dL_law_1251 e (fun q184 e => ?_)
      refine ax_aload_n B dL_law_1254 rfl hl 2 rfl ?_
      refine ax_aload_n B dL_law_1255 rfl hl 0 rfl ?_
      refine ax_iload_n B dL_law_1256 rfl hl 3 rfl ?_
      refine ax_iconst B dL_law_1257 ?_
      refine ax_iadd' B dL_law_1258 ?_
      refine ax_iald B kd100 dL_law_1259 e (fun v185 e => ?_)
      refine ax_ivI (y := yX5_cleared) (n := 1) (As := [.int (Int32.ofInt v185)]) B kd5 (lw_V q2637 q2638 q2639 q133 q2640) (by decide +kernel) ⟨Nat.le_of_ble_eq_true rfl, Nat.le_of_ble_eq_true rfl⟩ (fun w1 e1 => mt_X5_cleared l G hSF x2 v185 _ w1 e1) rfl hl.size (by simp only [List.map_cons, List.map_nil, List.sum_cons, List.sum_nil, va_rf_cat, ax_catI, ax_catL]; decide) dL_law_1260 e (fun q186 e => ?_)
      refine ax_icmp_eq (tgt := 1554) B dL_law_1263 (by decide) e (fun e => ?_) (fun e => ?_)
      · exact w_L_law_1554 hSF B Z hn hlt hT x0 x1 x2 x3 (hl.sub [0, 1, 2, 3] rfl) e hp
      · obtain ⟨w, e9_37, rfl⟩ := Option.map_eq_some_iff.mp e
        have e := e9_37
        refine ax_iconst B dL_law_1266 ?_
        cases e
        have hp : _ ∧ Q = _ := hp
        exact absurd (show (0 : Int) = 1 from hp.1) (by decide)
    rcases ax_ite e with ⟨hk36, e⟩ | ⟨hk36, e⟩
    · refine ax_tswIn (tgt := 1268) (off := 1235) B dL_law_33 (by omega) (by omega) (by rw [hk36]; rfl) (by decide) ?_
      refine ax_aload_n B dL_law_1268 rfl hl 1 rfl ?_
      refine ax_aload_n B dL_law_1269 rfl hl 0 rfl ?_
      refine ax_iload_n B dL_law_1270 rfl hl 3 rfl ?_
      refine ax_iconst B dL_law_1271 ?_
      refine ax_iadd' B dL_law_1272 ?_
      refine ax_iald B kd100 dL_law_1273 e (fun v187 e => ?_)
      refine ax_ivI (y := yX0_balance) (n := 1) (As := [.int (Int32.ofInt v187)]) B kd0 (lw_V q1716 q1717 q1718 q125 q1719) (by decide +kernel) ⟨Nat.le_of_ble_eq_true rfl, Nat.le_of_ble_eq_true rfl⟩ (fun w1 e1 => mt_X0_balance l G hSF x1 v187 _ w1 e1) rfl hl.size (by decide) dL_law_1274 e (fun q188 e => ?_)
      refine ax_aload_n B dL_law_1277 rfl hl 2 rfl ?_
      refine ax_aload_n B dL_law_1278 rfl hl 0 rfl ?_
      refine ax_iload_n B dL_law_1279 rfl hl 3 rfl ?_
      refine ax_iconst B dL_law_1280 ?_
      refine ax_iadd' B dL_law_1281 ?_
      refine ax_iald B kd100 dL_law_1282 e (fun v189 e => ?_)
      refine ax_ivI (y := yX5_balance) (n := 1) (As := [.int (Int32.ofInt v189)]) B kd5 (lw_V q2641 q2642 q2643 q133 q2644) (by decide +kernel) ⟨Nat.le_of_ble_eq_true rfl, Nat.le_of_ble_eq_true rfl⟩ (fun w1 e1 => mt_X5_balance l G hSF x2 v189 _ w1 e1) rfl hl.size (by simp only [List.map_cons, List.map_nil, List.sum_cons, List.sum_nil, va_rf_cat, ax_catI, ax_catL]; decide) dL_law_1283 e (fun q190 e => ?_)
      refine ax_icmp_eq (tgt := 1554) B dL_law_1286 (by decide) e (fun e => ?_) (fun e => ?_)
      · exact w_L_law_1554 hSF B Z hn hlt hT x0 x1 x2 x3 (hl.sub [0, 1, 2, 3] rfl) e hp
      · obtain ⟨w, e9_38, rfl⟩ := Option.map_eq_some_iff.mp e
        have e := e9_38
        refine ax_iconst B dL_law_1289 ?_
        cases e
        have hp : _ ∧ Q = _ := hp
        exact absurd (show (0 : Int) = 1 from hp.1) (by decide)
    rcases ax_ite e with ⟨hk37, e⟩ | ⟨hk37, e⟩
    · refine ax_tswIn (tgt := 1291) (off := 1258) B dL_law_33 (by omega) (by omega) (by rw [hk37]; rfl) (by decide) ?_
      refine ax_aload_n B dL_law_1291 rfl hl 1 rfl ?_
      refine ax_ivI (y := yX0_payments) (n := 0) (As := []) B kd0 (lw_V q1725 q1726 q1727 q125 q1728) (by decide +kernel) ⟨Nat.le_of_ble_eq_true rfl, Nat.le_of_ble_eq_true rfl⟩ (fun w1 e1 => mt_X0_payments l G hSF x1 _ w1 e1) rfl hl.size (by decide) dL_law_1292 e (fun q191 e => ?_)
      refine ax_aload_n B dL_law_1295 rfl hl 2 rfl ?_
      refine ax_ivI (y := yX5_payments) (n := 0) (As := []) B kd5 (lw_V q2650 q2651 q2652 q133 q2653) (by decide +kernel) ⟨Nat.le_of_ble_eq_true rfl, Nat.le_of_ble_eq_true rfl⟩ (fun w1 e1 => mt_X5_payments l G hSF x2 _ w1 e1) rfl hl.size (by simp only [List.map_cons, List.map_nil, List.sum_cons, List.sum_nil, va_rf_cat, ax_catI, ax_catL]; decide) dL_law_1296 e (fun q192 e => ?_)
      refine ax_icmp_eq (tgt := 1554) B dL_law_1299 (by decide) e (fun e => ?_) (fun e => ?_)
      · exact w_L_law_1554 hSF B Z hn hlt hT x0 x1 x2 x3 (hl.sub [0, 1, 2, 3] rfl) e hp
      · obtain ⟨w, e9_39, rfl⟩ := Option.map_eq_some_iff.mp e
        have e := e9_39
        refine ax_iconst B dL_law_1302 ?_
        cases e
        have hp : _ ∧ Q = _ := hp
        exact absurd (show (0 : Int) = 1 from hp.1) (by decide)
    rcases ax_ite e with ⟨hk38, e⟩ | ⟨hk38, e⟩
    · refine ax_tswIn (tgt := 1304) (off := 1271) B dL_law_33 (by omega) (by omega) (by rw [hk38]; rfl) (by decide) ?_
      refine ax_aload_n B dL_law_1304 rfl hl 1 rfl ?_
      refine ax_aload_n B dL_law_1305 rfl hl 0 rfl ?_
      refine ax_iload_n B dL_law_1306 rfl hl 3 rfl ?_
      refine ax_iconst B dL_law_1307 ?_
      refine ax_iadd' B dL_law_1308 ?_
      refine ax_iald B kd100 dL_law_1309 e (fun v193 e => ?_)
      refine ax_aload_n B dL_law_1310 rfl hl 0 rfl ?_
      refine ax_iload_n B dL_law_1311 rfl hl 3 rfl ?_
      refine ax_iconst B dL_law_1312 ?_
      refine ax_iadd' B dL_law_1313 ?_
      refine ax_iald B kd100 dL_law_1314 e (fun v194 e => ?_)
      refine ax_aload_n B dL_law_1315 rfl hl 0 rfl ?_
      refine ax_iload_n B dL_law_1316 rfl hl 3 rfl ?_
      refine ax_iconst B dL_law_1317 ?_
      refine ax_iadd' B dL_law_1318 ?_
      refine ax_iald B kd100 dL_law_1319 e (fun v195 e => ?_)
      refine ax_aload_n B dL_law_1320 rfl hl 0 rfl ?_
      refine ax_iload_n B dL_law_1321 rfl hl 3 rfl ?_
      refine ax_iconst B dL_law_1322 ?_
      refine ax_iadd' B dL_law_1323 ?_
      refine ax_iald B kd100 dL_law_1324 e (fun v196 e => ?_)
      refine ax_ivI (y := yX0_scuff) (n := 4) (As := [.int (Int32.ofInt v193), .int (Int32.ofInt v194), .int (Int32.ofInt v195), .int (Int32.ofInt v196)]) B kd0 (lw_V q1733 q1734 q1735 q125 q1736) (by decide +kernel) ⟨Nat.le_of_ble_eq_true rfl, Nat.le_of_ble_eq_true rfl⟩ (fun w1 e1 => mt_X0_scuff l G hSF x1 v193 v194 v195 v196 _ w1 e1) rfl hl.size (by decide) dL_law_1325 e (fun q197 e => ?_)
      refine ax_aload_n B dL_law_1328 rfl hl 2 rfl ?_
      refine ax_aload_n B dL_law_1329 rfl hl 0 rfl ?_
      refine ax_iload_n B dL_law_1330 rfl hl 3 rfl ?_
      refine ax_iconst B dL_law_1331 ?_
      refine ax_iadd' B dL_law_1332 ?_
      refine ax_iald B kd100 dL_law_1333 e (fun v198 e => ?_)
      refine ax_aload_n B dL_law_1334 rfl hl 0 rfl ?_
      refine ax_iload_n B dL_law_1335 rfl hl 3 rfl ?_
      refine ax_iconst B dL_law_1336 ?_
      refine ax_iadd' B dL_law_1337 ?_
      refine ax_iald B kd100 dL_law_1338 e (fun v199 e => ?_)
      refine ax_aload_n B dL_law_1339 rfl hl 0 rfl ?_
      refine ax_iload_n B dL_law_1340 rfl hl 3 rfl ?_
      refine ax_iconst B dL_law_1341 ?_
      refine ax_iadd' B dL_law_1342 ?_
      refine ax_iald B kd100 dL_law_1343 e (fun v200 e => ?_)
      refine ax_aload_n B dL_law_1344 rfl hl 0 rfl ?_
      refine ax_iload_n B dL_law_1345 rfl hl 3 rfl ?_
      refine ax_iconst B dL_law_1346 ?_
      refine ax_iadd' B dL_law_1347 ?_
      refine ax_iald B kd100 dL_law_1348 e (fun v201 e => ?_)
      refine ax_ivI (y := yX5_scuff) (n := 4) (As := [.int (Int32.ofInt v198), .int (Int32.ofInt v199), .int (Int32.ofInt v200), .int (Int32.ofInt v201)]) B kd5 (lw_V q2654 q2655 q2656 q133 q2657) (by decide +kernel) ⟨Nat.le_of_ble_eq_true rfl, Nat.le_of_ble_eq_true rfl⟩ (fun w1 e1 => mt_X5_scuff l G hSF x2 v198 v199 v200 v201 _ w1 e1) rfl hl.size (by simp only [List.map_cons, List.map_nil, List.sum_cons, List.sum_nil, va_rf_cat, ax_catI, ax_catL]; decide) dL_law_1349 e (fun q202 e => ?_)
      refine ax_icmp_eq (tgt := 1554) B dL_law_1352 (by decide) e (fun e => ?_) (fun e => ?_)
      · exact w_L_law_1554 hSF B Z hn hlt hT x0 x1 x2 x3 (hl.sub [0, 1, 2, 3] rfl) e hp
      · obtain ⟨w, e9_40, rfl⟩ := Option.map_eq_some_iff.mp e
        have e := e9_40
        refine ax_iconst B dL_law_1355 ?_
        cases e
        have hp : _ ∧ Q = _ := hp
        exact absurd (show (0 : Int) = 1 from hp.1) (by decide)
    rcases ax_ite e with ⟨hk39, e⟩ | ⟨hk39, e⟩
    · refine ax_tswIn (tgt := 1357) (off := 1324) B dL_law_33 (by omega) (by omega) (by rw [hk39]; rfl) (by decide) ?_
      refine ax_aload_n B dL_law_1357 rfl hl 1 rfl ?_
      refine ax_ivI (y := yX0_sweep) (n := 0) (As := []) B kd0 (lw_V q1760 q1761 q1762 q125 q1763) (by decide +kernel) ⟨Nat.le_of_ble_eq_true rfl, Nat.le_of_ble_eq_true rfl⟩ (fun w1 e1 => mt_X0_sweep l G hSF x1 _ w1 e1) rfl hl.size (by decide) dL_law_1358 e (fun q203 e => ?_)
      refine ax_aload_n B dL_law_1361 rfl hl 2 rfl ?_
      refine ax_ivI (y := yX5_sweep) (n := 0) (As := []) B kd5 (lw_V q2658 q2659 q2660 q133 q2661) (by decide +kernel) ⟨Nat.le_of_ble_eq_true rfl, Nat.le_of_ble_eq_true rfl⟩ (fun w1 e1 => mt_X5_sweep l G hSF x2 _ w1 e1) rfl hl.size (by simp only [List.map_cons, List.map_nil, List.sum_cons, List.sum_nil, va_rf_cat, ax_catI, ax_catL]; decide) dL_law_1362 e (fun q204 e => ?_)
      refine ax_icmp_eq (tgt := 1554) B dL_law_1365 (by decide) e (fun e => ?_) (fun e => ?_)
      · exact w_L_law_1554 hSF B Z hn hlt hT x0 x1 x2 x3 (hl.sub [0, 1, 2, 3] rfl) e hp
      · obtain ⟨w, e9_41, rfl⟩ := Option.map_eq_some_iff.mp e
        have e := e9_41
        refine ax_iconst B dL_law_1368 ?_
        cases e
        have hp : _ ∧ Q = _ := hp
        exact absurd (show (0 : Int) = 1 from hp.1) (by decide)
    rcases ax_ite e with ⟨hk40, e⟩ | ⟨hk40, e⟩
    · refine ax_tswIn (tgt := 1370) (off := 1337) B dL_law_33 (by omega) (by omega) (by rw [hk40]; rfl) (by decide) ?_
      refine ax_aload_n B dL_law_1370 rfl hl 1 rfl ?_
      refine ax_aload_n B dL_law_1371 rfl hl 0 rfl ?_
      refine ax_iload_n B dL_law_1372 rfl hl 3 rfl ?_
      refine ax_iconst B dL_law_1373 ?_
      refine ax_iadd' B dL_law_1374 ?_
      refine ax_iald B kd100 dL_law_1375 e (fun v205 e => ?_)
      refine ax_ivI (y := yX0_secret) (n := 1) (As := [.int (Int32.ofInt v205)]) B kd0 (lw_V q1764 q1765 q1766 q125 q1767) (by decide +kernel) ⟨Nat.le_of_ble_eq_true rfl, Nat.le_of_ble_eq_true rfl⟩ (fun w1 e1 => mt_X0_secret l G hSF x1 v205 _ w1 e1) rfl hl.size (by decide) dL_law_1376 e (fun q206 e => ?_)
      refine ax_aload_n B dL_law_1379 rfl hl 2 rfl ?_
      refine ax_aload_n B dL_law_1380 rfl hl 0 rfl ?_
      refine ax_iload_n B dL_law_1381 rfl hl 3 rfl ?_
      refine ax_iconst B dL_law_1382 ?_
      refine ax_iadd' B dL_law_1383 ?_
      refine ax_iald B kd100 dL_law_1384 e (fun v207 e => ?_)
      refine ax_ivI (y := yX5_secret) (n := 1) (As := [.int (Int32.ofInt v207)]) B kd5 (lw_V q2662 q2663 q2664 q133 q2665) (by decide +kernel) ⟨Nat.le_of_ble_eq_true rfl, Nat.le_of_ble_eq_true rfl⟩ (fun w1 e1 => mt_X5_secret l G hSF x2 v207 _ w1 e1) rfl hl.size (by simp only [List.map_cons, List.map_nil, List.sum_cons, List.sum_nil, va_rf_cat, ax_catI, ax_catL]; decide) dL_law_1385 e (fun q208 e => ?_)
      refine ax_icmp_eq (tgt := 1554) B dL_law_1388 (by decide) e (fun e => ?_) (fun e => ?_)
      · exact w_L_law_1554 hSF B Z hn hlt hT x0 x1 x2 x3 (hl.sub [0, 1, 2, 3] rfl) e hp
      · obtain ⟨w, e9_42, rfl⟩ := Option.map_eq_some_iff.mp e
        have e := e9_42
        refine ax_iconst B dL_law_1391 ?_
        cases e
        have hp : _ ∧ Q = _ := hp
        exact absurd (show (0 : Int) = 1 from hp.1) (by decide)
    rcases ax_ite e with ⟨hk41, e⟩ | ⟨hk41, e⟩
    · refine ax_tswIn (tgt := 1393) (off := 1360) B dL_law_33 (by omega) (by omega) (by rw [hk41]; rfl) (by decide) ?_
      refine ax_aload_n B dL_law_1393 rfl hl 1 rfl ?_
      refine ax_ivI (y := yX0_denied) (n := 0) (As := []) B kd0 (lw_V q1772 q1773 q1774 q125 q1775) (by decide +kernel) ⟨Nat.le_of_ble_eq_true rfl, Nat.le_of_ble_eq_true rfl⟩ (fun w1 e1 => mt_X0_denied l G hSF x1 _ w1 e1) rfl hl.size (by decide) dL_law_1394 e (fun q209 e => ?_)
      refine ax_aload_n B dL_law_1397 rfl hl 2 rfl ?_
      refine ax_ivI (y := yX5_denied) (n := 0) (As := []) B kd5 (lw_V q2670 q2671 q2672 q133 q2673) (by decide +kernel) ⟨Nat.le_of_ble_eq_true rfl, Nat.le_of_ble_eq_true rfl⟩ (fun w1 e1 => mt_X5_denied l G hSF x2 _ w1 e1) rfl hl.size (by simp only [List.map_cons, List.map_nil, List.sum_cons, List.sum_nil, va_rf_cat, ax_catI, ax_catL]; decide) dL_law_1398 e (fun q210 e => ?_)
      refine ax_icmp_eq (tgt := 1554) B dL_law_1401 (by decide) e (fun e => ?_) (fun e => ?_)
      · exact w_L_law_1554 hSF B Z hn hlt hT x0 x1 x2 x3 (hl.sub [0, 1, 2, 3] rfl) e hp
      · obtain ⟨w, e9_43, rfl⟩ := Option.map_eq_some_iff.mp e
        have e := e9_43
        refine ax_iconst B dL_law_1404 ?_
        cases e
        have hp : _ ∧ Q = _ := hp
        exact absurd (show (0 : Int) = 1 from hp.1) (by decide)
    rcases ax_ite e with ⟨hk42, e⟩ | ⟨hk42, e⟩
    · refine ax_tswIn (tgt := 1406) (off := 1373) B dL_law_33 (by omega) (by omega) (by rw [hk42]; rfl) (by decide) ?_
      refine ax_aload_n B dL_law_1406 rfl hl 1 rfl ?_
      refine ax_aload_n B dL_law_1407 rfl hl 0 rfl ?_
      refine ax_iload_n B dL_law_1408 rfl hl 3 rfl ?_
      refine ax_iconst B dL_law_1409 ?_
      refine ax_iadd' B dL_law_1410 ?_
      refine ax_iald B kd100 dL_law_1411 e (fun v211 e => ?_)
      refine ax_aload_n B dL_law_1412 rfl hl 0 rfl ?_
      refine ax_iload_n B dL_law_1413 rfl hl 3 rfl ?_
      refine ax_iconst B dL_law_1414 ?_
      refine ax_iadd' B dL_law_1415 ?_
      refine ax_iald B kd100 dL_law_1416 e (fun v212 e => ?_)
      refine ax_ivI (y := yX0_month) (n := 2) (As := [.int (Int32.ofInt v211), .int (Int32.ofInt v212)]) B kd0 (lw_V q1903 q1904 q1905 q125 q1906) (by decide +kernel) ⟨Nat.le_of_ble_eq_true rfl, Nat.le_of_ble_eq_true rfl⟩ (fun w1 e1 => mt_X0_month l G hSF x1 v211 v212 _ w1 e1) rfl hl.size (by decide) dL_law_1417 e (fun q213 e => ?_)
      refine ax_aload_n B dL_law_1420 rfl hl 2 rfl ?_
      refine ax_aload_n B dL_law_1421 rfl hl 0 rfl ?_
      refine ax_iload_n B dL_law_1422 rfl hl 3 rfl ?_
      refine ax_iconst B dL_law_1423 ?_
      refine ax_iadd' B dL_law_1424 ?_
      refine ax_iald B kd100 dL_law_1425 e (fun v214 e => ?_)
      refine ax_aload_n B dL_law_1426 rfl hl 0 rfl ?_
      refine ax_iload_n B dL_law_1427 rfl hl 3 rfl ?_
      refine ax_iconst B dL_law_1428 ?_
      refine ax_iadd' B dL_law_1429 ?_
      refine ax_iald B kd100 dL_law_1430 e (fun v215 e => ?_)
      refine ax_ivI (y := yX5_month) (n := 2) (As := [.int (Int32.ofInt v214), .int (Int32.ofInt v215)]) B kd5 (lw_V q2694 q2695 q2696 q133 q2697) (by decide +kernel) ⟨Nat.le_of_ble_eq_true rfl, Nat.le_of_ble_eq_true rfl⟩ (fun w1 e1 => mt_X5_month l G hSF x2 v214 v215 _ w1 e1) rfl hl.size (by simp only [List.map_cons, List.map_nil, List.sum_cons, List.sum_nil, va_rf_cat, ax_catI, ax_catL]; decide) dL_law_1431 e (fun q216 e => ?_)
      refine ax_icmp_eq (tgt := 1554) B dL_law_1434 (by decide) e (fun e => ?_) (fun e => ?_)
      · exact w_L_law_1554 hSF B Z hn hlt hT x0 x1 x2 x3 (hl.sub [0, 1, 2, 3] rfl) e hp
      · obtain ⟨w, e9_44, rfl⟩ := Option.map_eq_some_iff.mp e
        have e := e9_44
        refine ax_iconst B dL_law_1437 ?_
        cases e
        have hp : _ ∧ Q = _ := hp
        exact absurd (show (0 : Int) = 1 from hp.1) (by decide)
    rcases ax_ite e with ⟨hk43, e⟩ | ⟨hk43, e⟩
    · refine ax_tswIn (tgt := 1439) (off := 1406) B dL_law_33 (by omega) (by omega) (by rw [hk43]; rfl) (by decide) ?_
      refine ax_aload_n B dL_law_1439 rfl hl 1 rfl ?_
      refine ax_aload_n B dL_law_1440 rfl hl 0 rfl ?_
      refine ax_iload_n B dL_law_1441 rfl hl 3 rfl ?_
      refine ax_iconst B dL_law_1442 ?_
      refine ax_iadd' B dL_law_1443 ?_
      refine ax_iald B kd100 dL_law_1444 e (fun v217 e => ?_)
      refine ax_aload_n B dL_law_1445 rfl hl 0 rfl ?_
      refine ax_iload_n B dL_law_1446 rfl hl 3 rfl ?_
      refine ax_iconst B dL_law_1447 ?_
      refine ax_iadd' B dL_law_1448 ?_
      refine ax_iald B kd100 dL_law_1449 e (fun v218 e => ?_)
      refine ax_ivI (y := yX0_drawn) (n := 2) (As := [.int (Int32.ofInt v217), .int (Int32.ofInt v218)]) B kd0 (lw_V q1927 q1928 q1929 q125 q1930) (by decide +kernel) ⟨Nat.le_of_ble_eq_true rfl, Nat.le_of_ble_eq_true rfl⟩ (fun w1 e1 => mt_X0_drawn l G hSF x1 v217 v218 _ w1 e1) rfl hl.size (by decide) dL_law_1450 e (fun q219 e => ?_)
      refine ax_aload_n B dL_law_1453 rfl hl 2 rfl ?_
      refine ax_aload_n B dL_law_1454 rfl hl 0 rfl ?_
      refine ax_iload_n B dL_law_1455 rfl hl 3 rfl ?_
      refine ax_iconst B dL_law_1456 ?_
      refine ax_iadd' B dL_law_1457 ?_
      refine ax_iald B kd100 dL_law_1458 e (fun v220 e => ?_)
      refine ax_aload_n B dL_law_1459 rfl hl 0 rfl ?_
      refine ax_iload_n B dL_law_1460 rfl hl 3 rfl ?_
      refine ax_iconst B dL_law_1461 ?_
      refine ax_iadd' B dL_law_1462 ?_
      refine ax_iald B kd100 dL_law_1463 e (fun v221 e => ?_)
      refine ax_ivI (y := yX5_drawn) (n := 2) (As := [.int (Int32.ofInt v220), .int (Int32.ofInt v221)]) B kd5 (lw_V q2705 q2706 q2707 q133 q2708) (by decide +kernel) ⟨Nat.le_of_ble_eq_true rfl, Nat.le_of_ble_eq_true rfl⟩ (fun w1 e1 => mt_X5_drawn l G hSF x2 v220 v221 _ w1 e1) rfl hl.size (by simp only [List.map_cons, List.map_nil, List.sum_cons, List.sum_nil, va_rf_cat, ax_catI, ax_catL]; decide) dL_law_1464 e (fun q222 e => ?_)
      refine ax_icmp_eq (tgt := 1554) B dL_law_1467 (by decide) e (fun e => ?_) (fun e => ?_)
      · exact w_L_law_1554 hSF B Z hn hlt hT x0 x1 x2 x3 (hl.sub [0, 1, 2, 3] rfl) e hp
      · obtain ⟨w, e9_45, rfl⟩ := Option.map_eq_some_iff.mp e
        have e := e9_45
        refine ax_iconst B dL_law_1470 ?_
        cases e
        have hp : _ ∧ Q = _ := hp
        exact absurd (show (0 : Int) = 1 from hp.1) (by decide)
    rcases ax_ite e with ⟨hk44, e⟩ | ⟨hk44, e⟩
    · refine ax_tswIn (tgt := 1472) (off := 1439) B dL_law_33 (by omega) (by omega) (by rw [hk44]; rfl) (by decide) ?_
      refine ax_aload_n B dL_law_1472 rfl hl 1 rfl ?_
      refine ax_aload_n B dL_law_1473 rfl hl 0 rfl ?_
      refine ax_iload_n B dL_law_1474 rfl hl 3 rfl ?_
      refine ax_iconst B dL_law_1475 ?_
      refine ax_iadd' B dL_law_1476 ?_
      refine ax_iald B kd100 dL_law_1477 e (fun v223 e => ?_)
      refine ax_ivI (y := yX0_image) (n := 1) (As := [.int (Int32.ofInt v223)]) B kd0 (lw_V q1931 q1932 q1933 q125 q1934) (by decide +kernel) ⟨Nat.le_of_ble_eq_true rfl, Nat.le_of_ble_eq_true rfl⟩ (fun w1 e1 => mt_X0_image l G hSF x1 v223 _ w1 e1) rfl hl.size (by decide) dL_law_1478 e (fun q224 e => ?_)
      refine ax_aload_n B dL_law_1481 rfl hl 2 rfl ?_
      refine ax_aload_n B dL_law_1482 rfl hl 0 rfl ?_
      refine ax_iload_n B dL_law_1483 rfl hl 3 rfl ?_
      refine ax_iconst B dL_law_1484 ?_
      refine ax_iadd' B dL_law_1485 ?_
      refine ax_iald B kd100 dL_law_1486 e (fun v225 e => ?_)
      refine ax_ivI (y := yX5_image) (n := 1) (As := [.int (Int32.ofInt v225)]) B kd5 (lw_V q2147 q2148 q2149 q133 q2150) (by decide +kernel) ⟨Nat.le_of_ble_eq_true rfl, Nat.le_of_ble_eq_true rfl⟩ (fun w1 e1 => mt_X5_image l G hSF x2 v225 _ w1 e1) rfl hl.size (by simp only [List.map_cons, List.map_nil, List.sum_cons, List.sum_nil, va_rf_cat, ax_catI, ax_catL]; decide) dL_law_1487 e (fun q226 e => ?_)
      refine ax_icmp_eq (tgt := 1554) B dL_law_1490 (by decide) e (fun e => ?_) (fun e => ?_)
      · exact w_L_law_1554 hSF B Z hn hlt hT x0 x1 x2 x3 (hl.sub [0, 1, 2, 3] rfl) e hp
      · obtain ⟨w, e9_46, rfl⟩ := Option.map_eq_some_iff.mp e
        have e := e9_46
        refine ax_iconst B dL_law_1493 ?_
        cases e
        have hp : _ ∧ Q = _ := hp
        exact absurd (show (0 : Int) = 1 from hp.1) (by decide)
    rcases ax_ite e with ⟨hk45, e⟩ | ⟨hk45, e⟩
    · refine ax_tswIn (tgt := 1495) (off := 1462) B dL_law_33 (by omega) (by omega) (by rw [hk45]; rfl) (by decide) ?_
      refine ax_aload_n B dL_law_1495 rfl hl 1 rfl ?_
      refine ax_aload_n B dL_law_1496 rfl hl 0 rfl ?_
      refine ax_iload_n B dL_law_1497 rfl hl 3 rfl ?_
      refine ax_iconst B dL_law_1498 ?_
      refine ax_iadd' B dL_law_1499 ?_
      refine ax_iald B kd100 dL_law_1500 e (fun v227 e => ?_)
      refine ax_ivI (y := yX0_back) (n := 1) (As := [.int (Int32.ofInt v227)]) B kd0 (lw_V q1944 q1945 q1946 q125 q1947) (by decide +kernel) ⟨Nat.le_of_ble_eq_true rfl, Nat.le_of_ble_eq_true rfl⟩ (fun w1 e1 => mt_X0_back l G hSF x1 v227 _ w1 e1) rfl hl.size (by decide) dL_law_1501 e (fun q228 e => ?_)
      refine ax_aload_n B dL_law_1504 rfl hl 2 rfl ?_
      refine ax_aload_n B dL_law_1505 rfl hl 0 rfl ?_
      refine ax_iload_n B dL_law_1506 rfl hl 3 rfl ?_
      refine ax_iconst B dL_law_1507 ?_
      refine ax_iadd' B dL_law_1508 ?_
      refine ax_iald B kd100 dL_law_1509 e (fun v229 e => ?_)
      refine ax_ivI (y := yX5_back) (n := 1) (As := [.int (Int32.ofInt v229)]) B kd5 (lw_V q2162 q2163 q2164 q133 q2165) (by decide +kernel) ⟨Nat.le_of_ble_eq_true rfl, Nat.le_of_ble_eq_true rfl⟩ (fun w1 e1 => mt_X5_back l G hSF x2 v229 _ w1 e1) rfl hl.size (by simp only [List.map_cons, List.map_nil, List.sum_cons, List.sum_nil, va_rf_cat, ax_catI, ax_catL]; decide) dL_law_1510 e (fun q230 e => ?_)
      refine ax_icmp_eq (tgt := 1554) B dL_law_1513 (by decide) e (fun e => ?_) (fun e => ?_)
      · exact w_L_law_1554 hSF B Z hn hlt hT x0 x1 x2 x3 (hl.sub [0, 1, 2, 3] rfl) e hp
      · obtain ⟨w, e9_47, rfl⟩ := Option.map_eq_some_iff.mp e
        have e := e9_47
        refine ax_iconst B dL_law_1516 ?_
        cases e
        have hp : _ ∧ Q = _ := hp
        exact absurd (show (0 : Int) = 1 from hp.1) (by decide)
    rcases ax_ite e with ⟨hk46, e⟩ | ⟨hk46, e⟩
    · refine ax_tswIn (tgt := 1518) (off := 1485) B dL_law_33 (by omega) (by omega) (by rw [hk46]; rfl) (by decide) ?_
      refine ax_aload_n B dL_law_1518 rfl hl 1 rfl ?_
      refine ax_aload_n B dL_law_1519 rfl hl 0 rfl ?_
      refine ax_iload_n B dL_law_1520 rfl hl 3 rfl ?_
      refine ax_iconst B dL_law_1521 ?_
      refine ax_iadd' B dL_law_1522 ?_
      refine ax_iald B kd100 dL_law_1523 e (fun v231 e => ?_)
      refine ax_ivI (y := yX0_count) (n := 1) (As := [.int (Int32.ofInt v231)]) B kd0 (lw_V q1948 q1949 q1950 q125 q1951) (by decide +kernel) ⟨Nat.le_of_ble_eq_true rfl, Nat.le_of_ble_eq_true rfl⟩ (fun w1 e1 => mt_X0_count l G hSF x1 v231 _ w1 e1) rfl hl.size (by decide) dL_law_1524 e (fun q232 e => ?_)
      refine ax_aload_n B dL_law_1527 rfl hl 2 rfl ?_
      refine ax_aload_n B dL_law_1528 rfl hl 0 rfl ?_
      refine ax_iload_n B dL_law_1529 rfl hl 3 rfl ?_
      refine ax_iconst B dL_law_1530 ?_
      refine ax_iadd' B dL_law_1531 ?_
      refine ax_iald B kd100 dL_law_1532 e (fun v233 e => ?_)
      refine ax_ivI (y := yX5_count) (n := 1) (As := [.int (Int32.ofInt v233)]) B kd5 (lw_V q2709 q2710 q2711 q133 q2712) (by decide +kernel) ⟨Nat.le_of_ble_eq_true rfl, Nat.le_of_ble_eq_true rfl⟩ (fun w1 e1 => mt_X5_count l G hSF x2 v233 _ w1 e1) rfl hl.size (by simp only [List.map_cons, List.map_nil, List.sum_cons, List.sum_nil, va_rf_cat, ax_catI, ax_catL]; decide) dL_law_1533 e (fun q234 e => ?_)
      refine ax_icmp_eq (tgt := 1554) B dL_law_1536 (by decide) e (fun e => ?_) (fun e => ?_)
      · exact w_L_law_1554 hSF B Z hn hlt hT x0 x1 x2 x3 (hl.sub [0, 1, 2, 3] rfl) e hp
      · obtain ⟨w, e9_48, rfl⟩ := Option.map_eq_some_iff.mp e
        have e := e9_48
        refine ax_iconst B dL_law_1539 ?_
        cases e
        have hp : _ ∧ Q = _ := hp
        exact absurd (show (0 : Int) = 1 from hp.1) (by decide)
    rcases ax_ite e with ⟨hk47, e⟩ | ⟨hk47, e⟩
    · refine ax_tswIn (tgt := 1541) (off := 1508) B dL_law_33 (by omega) (by omega) (by rw [hk47]; rfl) (by decide) ?_
      refine ax_aload_n B dL_law_1541 rfl hl 1 rfl ?_
      refine ax_ivI (y := yX0_status) (n := 0) (As := []) B kd0 (lw_V q1952 q1953 q1954 q125 q1955) (by decide +kernel) ⟨Nat.le_of_ble_eq_true rfl, Nat.le_of_ble_eq_true rfl⟩ (fun w1 e1 => mt_X0_status l G hSF x1 _ w1 e1) rfl hl.size (by decide) dL_law_1542 e (fun q235 e => ?_)
      refine ax_aload_n B dL_law_1545 rfl hl 2 rfl ?_
      refine ax_ivI (y := yX5_status) (n := 0) (As := []) B kd5 (lw_V q2713 q2714 q2715 q133 q2716) (by decide +kernel) ⟨Nat.le_of_ble_eq_true rfl, Nat.le_of_ble_eq_true rfl⟩ (fun w1 e1 => mt_X5_status l G hSF x2 _ w1 e1) rfl hl.size (by simp only [List.map_cons, List.map_nil, List.sum_cons, List.sum_nil, va_rf_cat, ax_catI, ax_catL]; decide) dL_law_1546 e (fun q236 e => ?_)
      refine ax_icmp_eq (tgt := 1554) B dL_law_1549 (by decide) e (fun e => ?_) (fun e => ?_)
      · exact w_L_law_1554 hSF B Z hn hlt hT x0 x1 x2 x3 (hl.sub [0, 1, 2, 3] rfl) e hp
      · obtain ⟨w, e9_49, rfl⟩ := Option.map_eq_some_iff.mp e
        have e := e9_49
        refine ax_iconst B dL_law_1552 ?_
        cases e
        have hp : _ ∧ Q = _ := hp
        exact absurd (show (0 : Int) = 1 from hp.1) (by decide)
    refine ax_tswOut (tgt := 1554) B dL_law_33 (by omega) (by decide) ?_
    exact w_L_law_1554 hSF B Z hn hlt hT x0 x1 x2 x3 (hl.sub [0, 1, 2, 3] rfl) e hp
theorem w_L_law_18 {l : Launch} {G : ax_G} {X : ax_X} {Q : State → Prop} {h0 h : ax_H} {ls : Array Slot} (hSF : ax_SF G) (B : ax_BL l G X cL_law 4 R_law 8192 104096) (Z : ax_Z X h0 ((some .boolean))) (hn : X.2.2.2.2.2.2.2.2.1.name = x.name) (hlt : l.stackTraces = false) (hT : ax_Lw G X) (x0 : Option Nat) (x1 : Option Nat) (x2 : Option Nat) (x3 : Int) {w : Int × ax_H} (hl : ax_hl ls 4 [(0, .inr (.inr x0)), (1, .inr (.inr x1)), (2, .inr (.inr x2)), (3, .inl x3)]) (e : f_L_law_18 G.2.2 x0 x1 x2 x3 h = some w) (hp : (fun w : Int × ax_H => (w.1 = 1 ∧ Q = lw_Z X.2.2.2.2.2.2.2.1 X.2.2.2.2.2.2.1 X.2.2.2.2.1)) w) : ax_W G X Q h 18 ls [] :=
  ax_iter_W (Pin := pi_L_law_18 G X Q x0 x1 x2) (Pout := (fun w : Int × ax_H => (w.1 = 1 ∧ Q = lw_Z X.2.2.2.2.2.2.2.1 X.2.2.2.2.2.2.1 X.2.2.2.2.1))) (fun s w e hp ls hl => wb_L_law_18 hSF B Z hn hlt hT x0 x1 x2 s.1 hl e hp) _ _ e hp ls hl
set_option maxHeartbeats 4000000 in
theorem we_L_law {l : Launch} {G : ax_G} {X : ax_X} {Q : State → Prop} {h0 h : ax_H} {ls : Array Slot} (hSF : ax_SF G) (B : ax_BL l G X cL_law 4 R_law 8192 104096) (Z : ax_Z X h0 ((some .boolean))) (hn : X.2.2.2.2.2.2.2.2.1.name = x.name) (hlt : l.stackTraces = false) (hT : ax_Lw G X) (x0 : Option Nat) {w : Int × ax_H} (hl : ax_hl ls 4 [(0, .inr (.inr x0))]) (e : f_L_law G.2.2 x0 h = some w) (hp : (fun w : Int × ax_H => (w.1 = 1 ∧ Q = lw_Z X.2.2.2.2.2.2.2.1 X.2.2.2.2.2.2.1 X.2.2.2.2.1)) w) : ax_W G X Q h 0 ls [] := by
  unfold f_L_law at e
  refine ax_new B kd0 in_X0 tyX0_ok (fun k hk => ax_dv _ (dfX0 k hk)) q177 q178 q125 dL_law_0 e (fun q1 e => ?_)
  refine ax_dup B dL_law_3 (va_rf_cat _) ?_
  refine ax_iiR (y := yX0_init) (n := 0) (As := []) B q179 q180 q125 q181 rfl (by decide +kernel) ⟨Nat.le_of_ble_eq_true rfl, Nat.le_of_ble_eq_true rfl⟩ (fun w1 e1 => mt_X0_init l G hSF (some q1.1) _ w1 e1) rfl hl.size (by simp only [List.map_cons, List.map_nil, List.sum_cons, List.sum_nil, va_rf_cat, ax_catI, ax_catL]; decide) dL_law_4 e (fun h2 e => ?_)
  refine ax_astore_n (L' := [(1, .inr (.inr (some q1.1))), (0, .inr (.inr x0))]) B dL_law_7 rfl hl (by decide) rfl (fun ls hl => ?_)
  refine ax_new B kd5 in_X5 tyX5_ok (fun k hk => ax_dv _ (dfX5 k hk)) q1956 q1957 q133 dL_law_8 e (fun q3 e => ?_)
  refine ax_dup B dL_law_11 (va_rf_cat _) ?_
  refine ax_iiR (y := yX5_init) (n := 0) (As := []) B q1958 q1959 q133 q1960 rfl (by decide +kernel) ⟨Nat.le_of_ble_eq_true rfl, Nat.le_of_ble_eq_true rfl⟩ (fun w1 e1 => mt_X5_init l G hSF (some q3.1) _ w1 e1) rfl hl.size (by simp only [List.map_cons, List.map_nil, List.sum_cons, List.sum_nil, va_rf_cat, ax_catI, ax_catL]; decide) dL_law_12 e (fun h4 e => ?_)
  refine ax_astore_n (L' := [(2, .inr (.inr (some q3.1))), (1, .inr (.inr (some q1.1))), (0, .inr (.inr x0))]) B dL_law_15 rfl hl (by decide) rfl (fun ls hl => ?_)
  refine ax_iconst B dL_law_16 ?_
  refine ax_istore_n (L' := [(3, .inl 0), (2, .inr (.inr (some q3.1))), (1, .inr (.inr (some q1.1))), (0, .inr (.inr x0))]) B dL_law_17 rfl hl (by decide) rfl (fun ls hl => ?_)
  exact w_L_law_18 hSF B Z hn hlt hT x0 (some q1.1) (some q3.1) 0 (hl.sub [3, 2, 1, 0] rfl) e hp
