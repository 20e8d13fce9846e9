set_option maxRecDepth 100000
def dkwX5_init_49 : List UInt8 := [42, 180, 0, 24, 17, 0, 156, 2, 79, 177]
abbrev dktX5_init_49 : List UInt8 := dkwX5_init_49 ++ []
def dkwX5_init_48 : List UInt8 := [42, 16, 7, 188, 10, 181, 0, 114, 42, 16, 7, 188, 10, 181, 0, 117, 42, 16, 7, 188, 10, 181, 0, 120]
abbrev dktX5_init_48 : List UInt8 := dkwX5_init_48 ++ dktX5_init_49
def dkwX5_init_47 : List UInt8 := [181, 0, 101, 42, 17, 1, 0, 188, 10, 181, 0, 104, 42, 2, 181, 0, 107, 42, 6, 188, 11, 181, 0, 110]
abbrev dktX5_init_47 : List UInt8 := dkwX5_init_47 ++ dktX5_init_48
def dkwX5_init_46 : List UInt8 := [181, 0, 92, 42, 16, 7, 188, 10, 181, 0, 95, 42, 16, 7, 188, 10, 181, 0, 98, 42, 16, 49, 188, 10]
abbrev dktX5_init_46 : List UInt8 := dkwX5_init_46 ++ dktX5_init_47
def dkwX5_init_45 : List UInt8 := [181, 0, 83, 42, 16, 8, 188, 10, 181, 0, 86, 42, 16, 8, 188, 10, 181, 0, 89, 42, 16, 16, 188, 10]
abbrev dktX5_init_45 : List UInt8 := dkwX5_init_45 ++ dktX5_init_46
def dkwX5_init_44 : List UInt8 := [42, 16, 8, 188, 10, 181, 0, 77, 42, 16, 8, 188, 10, 181, 0, 80, 42, 17, 1, 0, 188, 10]
abbrev dktX5_init_44 : List UInt8 := dkwX5_init_44 ++ dktX5_init_45
def dkwX5_init_43 : List UInt8 := [17, 4, 160, 188, 10, 181, 0, 68, 42, 16, 8, 188, 10, 181, 0, 71, 42, 16, 8, 188, 10, 181, 0, 74]
abbrev dktX5_init_43 : List UInt8 := dkwX5_init_43 ++ dktX5_init_44
def dkwX5_init_42 : List UInt8 := [188, 10, 181, 0, 59, 42, 7, 188, 10, 181, 0, 62, 42, 17, 4, 160, 188, 10, 181, 0, 65, 42]
abbrev dktX5_init_42 : List UInt8 := dkwX5_init_42 ++ dktX5_init_43
def dkwX5_init_41 : List UInt8 := [181, 0, 50, 42, 17, 1, 145, 188, 10, 181, 0, 53, 42, 17, 1, 145, 188, 10, 181, 0, 56, 42, 16, 10]
abbrev dktX5_init_41 : List UInt8 := dkwX5_init_41 ++ dktX5_init_42
def dkwX5_init_40 : List UInt8 := [188, 8, 181, 0, 41, 42, 8, 188, 10, 181, 0, 44, 42, 2, 181, 0, 47, 42, 17, 1, 145, 188, 10]
abbrev dktX5_init_40 : List UInt8 := dkwX5_init_40 ++ dktX5_init_41
def dkwX5_init_39 : List UInt8 := [16, 101, 84, 89, 17, 0, 145, 16, 115, 84, 89, 17, 0, 146, 16, 32, 84, 181, 0, 37, 42, 17, 1, 144]
abbrev dktX5_init_39 : List UInt8 := dkwX5_init_39 ++ dktX5_init_40
def dkwX5_init_38 : List UInt8 := [17, 0, 141, 16, 116, 84, 89, 17, 0, 142, 16, 105, 84, 89, 17, 0, 143, 16, 109, 84, 89, 17, 0, 144]
abbrev dktX5_init_38 : List UInt8 := dkwX5_init_38 ++ dktX5_init_39
def dkwX5_init_37 : List UInt8 := [89, 17, 0, 138, 16, 111, 84, 89, 17, 0, 139, 16, 102, 84, 89, 17, 0, 140, 16, 32, 84, 89]
abbrev dktX5_init_37 : List UInt8 := dkwX5_init_37 ++ dktX5_init_38
def dkwX5_init_36 : List UInt8 := [16, 32, 84, 89, 17, 0, 135, 16, 116, 84, 89, 17, 0, 136, 16, 111, 84, 89, 17, 0, 137, 16, 32, 84]
abbrev dktX5_init_36 : List UInt8 := dkwX5_init_36 ++ dktX5_init_37
def dkwX5_init_35 : List UInt8 := [17, 0, 131, 16, 97, 84, 89, 17, 0, 132, 16, 105, 84, 89, 17, 0, 133, 16, 116, 84, 89, 17, 0, 134]
abbrev dktX5_init_35 : List UInt8 := dkwX5_init_35 ++ dktX5_init_36
def dkwX5_init_34 : List UInt8 := [84, 89, 17, 0, 128, 16, 121, 84, 89, 17, 0, 129, 16, 32, 84, 89, 17, 0, 130, 16, 119, 84, 89]
abbrev dktX5_init_34 : List UInt8 := dkwX5_init_34 ++ dktX5_init_35
def dkwX5_init_33 : List UInt8 := [84, 89, 16, 124, 16, 114, 84, 89, 16, 125, 16, 101, 84, 89, 16, 126, 16, 112, 84, 89, 16, 127, 16, 97]
abbrev dktX5_init_33 : List UInt8 := dkwX5_init_33 ++ dktX5_init_34
def dkwX5_init_32 : List UInt8 := [84, 89, 16, 120, 16, 101, 84, 89, 16, 121, 16, 110, 84, 89, 16, 122, 16, 100, 84, 89, 16, 123, 16, 32]
abbrev dktX5_init_32 : List UInt8 := dkwX5_init_32 ++ dktX5_init_33
def dkwX5_init_31 : List UInt8 := [84, 89, 16, 116, 16, 101, 84, 89, 16, 117, 16, 100, 84, 89, 16, 118, 16, 32, 84, 89, 16, 119, 16, 108]
abbrev dktX5_init_31 : List UInt8 := dkwX5_init_31 ++ dktX5_init_32
def dkwX5_init_30 : List UInt8 := [84, 89, 16, 112, 16, 101, 84, 89, 16, 113, 16, 32, 84, 89, 16, 114, 16, 111, 84, 89, 16, 115, 16, 119]
abbrev dktX5_init_30 : List UInt8 := dkwX5_init_30 ++ dktX5_init_31
def dkwX5_init_29 : List UInt8 := [84, 89, 16, 108, 16, 112, 84, 89, 16, 109, 16, 117, 84, 89, 16, 110, 16, 114, 84, 89, 16, 111, 16, 115]
abbrev dktX5_init_29 : List UInt8 := dkwX5_init_29 ++ dktX5_init_30
def dkwX5_init_28 : List UInt8 := [84, 89, 16, 104, 16, 97, 84, 89, 16, 105, 16, 115, 84, 89, 16, 106, 16, 116, 84, 89, 16, 107, 16, 32]
abbrev dktX5_init_28 : List UInt8 := dkwX5_init_28 ++ dktX5_init_29
def dkwX5_init_27 : List UInt8 := [84, 89, 16, 100, 16, 110, 84, 89, 16, 101, 16, 101, 84, 89, 16, 102, 16, 32, 84, 89, 16, 103, 16, 108]
abbrev dktX5_init_27 : List UInt8 := dkwX5_init_27 ++ dktX5_init_28
def dkwX5_init_26 : List UInt8 := [84, 89, 16, 96, 16, 115, 84, 89, 16, 97, 16, 32, 84, 89, 16, 98, 16, 100, 84, 89, 16, 99, 16, 111]
abbrev dktX5_init_26 : List UInt8 := dkwX5_init_26 ++ dktX5_init_27
def dkwX5_init_25 : List UInt8 := [84, 89, 16, 92, 16, 100, 84, 89, 16, 93, 16, 101, 84, 89, 16, 94, 16, 98, 84, 89, 16, 95, 16, 116]
abbrev dktX5_init_25 : List UInt8 := dkwX5_init_25 ++ dktX5_init_26
def dkwX5_init_24 : List UInt8 := [84, 89, 16, 88, 16, 111, 84, 89, 16, 89, 16, 111, 84, 89, 16, 90, 16, 100, 84, 89, 16, 91, 16, 32]
abbrev dktX5_init_24 : List UInt8 := dkwX5_init_24 ++ dktX5_init_25
def dkwX5_init_23 : List UInt8 := [84, 89, 16, 84, 16, 97, 84, 89, 16, 85, 16, 121, 84, 89, 16, 86, 16, 32, 84, 89, 16, 87, 16, 109]
abbrev dktX5_init_23 : List UInt8 := dkwX5_init_23 ++ dktX5_init_24
def dkwX5_init_22 : List UInt8 := [84, 89, 16, 80, 16, 103, 84, 89, 16, 81, 16, 101, 84, 89, 16, 82, 16, 32, 84, 89, 16, 83, 16, 100]
abbrev dktX5_init_22 : List UInt8 := dkwX5_init_22 ++ dktX5_init_23
def dkwX5_init_21 : List UInt8 := [84, 89, 16, 76, 16, 110, 84, 89, 16, 77, 16, 116, 84, 89, 16, 78, 16, 32, 84, 89, 16, 79, 16, 97]
abbrev dktX5_init_21 : List UInt8 := dkwX5_init_21 ++ dktX5_init_22
def dkwX5_init_20 : List UInt8 := [84, 89, 16, 72, 16, 97, 84, 89, 16, 73, 16, 109, 84, 89, 16, 74, 16, 111, 84, 89, 16, 75, 16, 117]
abbrev dktX5_init_20 : List UInt8 := dkwX5_init_20 ++ dktX5_init_21
def dkwX5_init_19 : List UInt8 := [84, 89, 16, 68, 16, 97, 84, 89, 16, 69, 16, 114, 84, 89, 16, 70, 16, 121, 84, 89, 16, 71, 16, 32]
abbrev dktX5_init_19 : List UInt8 := dkwX5_init_19 ++ dktX5_init_20
def dkwX5_init_18 : List UInt8 := [84, 89, 16, 64, 16, 109, 84, 89, 16, 65, 16, 115, 84, 89, 16, 66, 16, 32, 84, 89, 16, 67, 16, 119]
abbrev dktX5_init_18 : List UInt8 := dkwX5_init_18 ++ dktX5_init_19
def dkwX5_init_17 : List UInt8 := [84, 89, 16, 60, 16, 32, 84, 89, 16, 61, 16, 114, 84, 89, 16, 62, 16, 111, 84, 89, 16, 63, 16, 111]
abbrev dktX5_init_17 : List UInt8 := dkwX5_init_17 ++ dktX5_init_18
def dkwX5_init_16 : List UInt8 := [84, 89, 16, 56, 16, 98, 84, 89, 16, 57, 16, 97, 84, 89, 16, 58, 16, 99, 84, 89, 16, 59, 16, 107]
abbrev dktX5_init_16 : List UInt8 := dkwX5_init_16 ++ dktX5_init_17
def dkwX5_init_15 : List UInt8 := [84, 89, 16, 52, 16, 119, 84, 89, 16, 53, 16, 101, 84, 89, 16, 54, 16, 115, 84, 89, 16, 55, 16, 32]
abbrev dktX5_init_15 : List UInt8 := dkwX5_init_15 ++ dktX5_init_16
def dkwX5_init_14 : List UInt8 := [84, 89, 16, 48, 16, 111, 84, 89, 16, 49, 16, 114, 84, 89, 16, 50, 16, 32, 84, 89, 16, 51, 16, 111]
abbrev dktX5_init_14 : List UInt8 := dkwX5_init_14 ++ dktX5_init_15
def dkwX5_init_13 : List UInt8 := [84, 89, 16, 44, 16, 105, 84, 89, 16, 45, 16, 115, 84, 89, 16, 46, 16, 105, 84, 89, 16, 47, 16, 116]
abbrev dktX5_init_13 : List UInt8 := dkwX5_init_13 ++ dktX5_init_14
def dkwX5_init_12 : List UInt8 := [84, 89, 16, 40, 16, 101, 84, 89, 16, 41, 16, 114, 84, 89, 16, 42, 16, 32, 84, 89, 16, 43, 16, 118]
abbrev dktX5_init_12 : List UInt8 := dkwX5_init_12 ++ dktX5_init_13
def dkwX5_init_11 : List UInt8 := [84, 89, 16, 36, 16, 32, 84, 89, 16, 37, 16, 111, 84, 89, 16, 38, 16, 119, 84, 89, 16, 39, 16, 110]
abbrev dktX5_init_11 : List UInt8 := dkwX5_init_11 ++ dktX5_init_12
def dkwX5_init_10 : List UInt8 := [84, 89, 16, 32, 16, 32, 84, 89, 16, 33, 16, 110, 84, 89, 16, 34, 16, 111, 84, 89, 16, 35, 16, 116]
abbrev dktX5_init_10 : List UInt8 := dkwX5_init_10 ++ dktX5_init_11
def dkwX5_init_9 : List UInt8 := [84, 89, 16, 28, 16, 32, 84, 89, 16, 29, 16, 97, 84, 89, 16, 30, 16, 110, 84, 89, 16, 31, 16, 100]
abbrev dktX5_init_9 : List UInt8 := dkwX5_init_9 ++ dktX5_init_10
def dkwX5_init_8 : List UInt8 := [84, 89, 16, 24, 16, 102, 84, 89, 16, 25, 16, 32, 84, 89, 16, 26, 16, 111, 84, 89, 16, 27, 16, 114]
abbrev dktX5_init_8 : List UInt8 := dkwX5_init_8 ++ dktX5_init_9
def dkwX5_init_7 : List UInt8 := [84, 89, 16, 20, 16, 114, 84, 89, 16, 21, 16, 115, 84, 89, 16, 22, 16, 32, 84, 89, 16, 23, 16, 105]
abbrev dktX5_init_7 : List UInt8 := dkwX5_init_7 ++ dktX5_init_8
def dkwX5_init_6 : List UInt8 := [84, 89, 16, 16, 16, 115, 84, 89, 16, 17, 16, 32, 84, 89, 16, 18, 16, 98, 84, 89, 16, 19, 16, 97]
abbrev dktX5_init_6 : List UInt8 := dkwX5_init_6 ++ dktX5_init_7
def dkwX5_init_5 : List UInt8 := [84, 89, 16, 12, 16, 115, 84, 89, 16, 13, 16, 101, 84, 89, 16, 14, 16, 108, 84, 89, 16, 15, 16, 108]
abbrev dktX5_init_5 : List UInt8 := dkwX5_init_5 ++ dktX5_init_6
def dkwX5_init_4 : List UInt8 := [84, 89, 16, 8, 16, 111, 84, 89, 16, 9, 16, 119, 84, 89, 16, 10, 16, 115, 84, 89, 16, 11, 16, 32]
abbrev dktX5_init_4 : List UInt8 := dkwX5_init_4 ++ dktX5_init_5
def dkwX5_init_3 : List UInt8 := [16, 116, 84, 89, 7, 16, 104, 84, 89, 8, 16, 32, 84, 89, 16, 6, 16, 103, 84, 89, 16, 7, 16, 114]
abbrev dktX5_init_3 : List UInt8 := dkwX5_init_3 ++ dktX5_init_4
def dkwX5_init_2 : List UInt8 := [42, 17, 0, 147, 188, 8, 89, 3, 16, 100, 84, 89, 4, 16, 101, 84, 89, 5, 16, 112, 84, 89, 6]
abbrev dktX5_init_2 : List UInt8 := dkwX5_init_2 ++ dktX5_init_3
def dkwX5_init_1 : List UInt8 := [17, 45, 8, 188, 10, 181, 0, 27, 42, 5, 188, 4, 181, 0, 30, 42, 17, 3, 35, 188, 10, 181, 0, 34]
abbrev dktX5_init_1 : List UInt8 := dkwX5_init_1 ++ dktX5_init_2
def dkwX5_init_0 : List UInt8 := [42, 183, 0, 18, 42, 16, 7, 188, 10, 181, 0, 7, 42, 17, 22, 132, 188, 10, 181, 0, 24, 42]
abbrev dktX5_init_0 : List UInt8 := dkwX5_init_0 ++ dktX5_init_1
theorem dksX5_init_0 : cX5_init.data.toList.drop 0 = dktX5_init_0 := by decide +kernel
theorem dksX5_init_1 : cX5_init.data.toList.drop 22 = dktX5_init_1 := dk_seg dksX5_init_0 22 rfl rfl
theorem dksX5_init_2 : cX5_init.data.toList.drop 46 = dktX5_init_2 := dk_seg dksX5_init_1 24 rfl rfl
theorem dksX5_init_3 : cX5_init.data.toList.drop 69 = dktX5_init_3 := dk_seg dksX5_init_2 23 rfl rfl
theorem dksX5_init_4 : cX5_init.data.toList.drop 93 = dktX5_init_4 := dk_seg dksX5_init_3 24 rfl rfl
theorem dksX5_init_5 : cX5_init.data.toList.drop 117 = dktX5_init_5 := dk_seg dksX5_init_4 24 rfl rfl
theorem dksX5_init_6 : cX5_init.data.toList.drop 141 = dktX5_init_6 := dk_seg dksX5_init_5 24 rfl rfl
theorem dksX5_init_7 : cX5_init.data.toList.drop 165 = dktX5_init_7 := dk_seg dksX5_init_6 24 rfl rfl
theorem dksX5_init_8 : cX5_init.data.toList.drop 189 = dktX5_init_8 := dk_seg dksX5_init_7 24 rfl rfl
theorem dksX5_init_9 : cX5_init.data.toList.drop 213 = dktX5_init_9 := dk_seg dksX5_init_8 24 rfl rfl
theorem dksX5_init_10 : cX5_init.data.toList.drop 237 = dktX5_init_10 := dk_seg dksX5_init_9 24 rfl rfl
theorem dksX5_init_11 : cX5_init.data.toList.drop 261 = dktX5_init_11 := dk_seg dksX5_init_10 24 rfl rfl
theorem dksX5_init_12 : cX5_init.data.toList.drop 285 = dktX5_init_12 := dk_seg dksX5_init_11 24 rfl rfl
theorem dksX5_init_13 : cX5_init.data.toList.drop 309 = dktX5_init_13 := dk_seg dksX5_init_12 24 rfl rfl
theorem dksX5_init_14 : cX5_init.data.toList.drop 333 = dktX5_init_14 := dk_seg dksX5_init_13 24 rfl rfl
theorem dksX5_init_15 : cX5_init.data.toList.drop 357 = dktX5_init_15 := dk_seg dksX5_init_14 24 rfl rfl
theorem dksX5_init_16 : cX5_init.data.toList.drop 381 = dktX5_init_16 := dk_seg dksX5_init_15 24 rfl rfl
theorem dksX5_init_17 : cX5_init.data.toList.drop 405 = dktX5_init_17 := dk_seg dksX5_init_16 24 rfl rfl
theorem dksX5_init_18 : cX5_init.data.toList.drop 429 = dktX5_init_18 := dk_seg dksX5_init_17 24 rfl rfl
theorem dksX5_init_19 : cX5_init.data.toList.drop 453 = dktX5_init_19 := dk_seg dksX5_init_18 24 rfl rfl
theorem dksX5_init_20 : cX5_init.data.toList.drop 477 = dktX5_init_20 := dk_seg dksX5_init_19 24 rfl rfl
theorem dksX5_init_21 : cX5_init.data.toList.drop 501 = dktX5_init_21 := dk_seg dksX5_init_20 24 rfl rfl
theorem dksX5_init_22 : cX5_init.data.toList.drop 525 = dktX5_init_22 := dk_seg dksX5_init_21 24 rfl rfl
theorem dksX5_init_23 : cX5_init.data.toList.drop 549 = dktX5_init_23 := dk_seg dksX5_init_22 24 rfl rfl
theorem dksX5_init_24 : cX5_init.data.toList.drop 573 = dktX5_init_24 := dk_seg dksX5_init_23 24 rfl rfl
theorem dksX5_init_25 : cX5_init.data.toList.drop 597 = dktX5_init_25 := dk_seg dksX5_init_24 24 rfl rfl
theorem dksX5_init_26 : cX5_init.data.toList.drop 621 = dktX5_init_26 := dk_seg dksX5_init_25 24 rfl rfl
theorem dksX5_init_27 : cX5_init.data.toList.drop 645 = dktX5_init_27 := dk_seg dksX5_init_26 24 rfl rfl
theorem dksX5_init_28 : cX5_init.data.toList.drop 669 = dktX5_init_28 := dk_seg dksX5_init_27 24 rfl rfl
theorem dksX5_init_29 : cX5_init.data.toList.drop 693 = dktX5_init_29 := dk_seg dksX5_init_28 24 rfl rfl
theorem dksX5_init_30 : cX5_init.data.toList.drop 717 = dktX5_init_30 := dk_seg dksX5_init_29 24 rfl rfl
theorem dksX5_init_31 : cX5_init.data.toList.drop 741 = dktX5_init_31 := dk_seg dksX5_init_30 24 rfl rfl
theorem dksX5_init_32 : cX5_init.data.toList.drop 765 = dktX5_init_32 := dk_seg dksX5_init_31 24 rfl rfl
theorem dksX5_init_33 : cX5_init.data.toList.drop 789 = dktX5_init_33 := dk_seg dksX5_init_32 24 rfl rfl
theorem dksX5_init_34 : cX5_init.data.toList.drop 813 = dktX5_init_34 := dk_seg dksX5_init_33 24 rfl rfl
theorem dksX5_init_35 : cX5_init.data.toList.drop 836 = dktX5_init_35 := dk_seg dksX5_init_34 23 rfl rfl
theorem dksX5_init_36 : cX5_init.data.toList.drop 860 = dktX5_init_36 := dk_seg dksX5_init_35 24 rfl rfl
theorem dksX5_init_37 : cX5_init.data.toList.drop 884 = dktX5_init_37 := dk_seg dksX5_init_36 24 rfl rfl
theorem dksX5_init_38 : cX5_init.data.toList.drop 906 = dktX5_init_38 := dk_seg dksX5_init_37 22 rfl rfl
theorem dksX5_init_39 : cX5_init.data.toList.drop 930 = dktX5_init_39 := dk_seg dksX5_init_38 24 rfl rfl
theorem dksX5_init_40 : cX5_init.data.toList.drop 954 = dktX5_init_40 := dk_seg dksX5_init_39 24 rfl rfl
theorem dksX5_init_41 : cX5_init.data.toList.drop 977 = dktX5_init_41 := dk_seg dksX5_init_40 23 rfl rfl
theorem dksX5_init_42 : cX5_init.data.toList.drop 1001 = dktX5_init_42 := dk_seg dksX5_init_41 24 rfl rfl
theorem dksX5_init_43 : cX5_init.data.toList.drop 1023 = dktX5_init_43 := dk_seg dksX5_init_42 22 rfl rfl
theorem dksX5_init_44 : cX5_init.data.toList.drop 1047 = dktX5_init_44 := dk_seg dksX5_init_43 24 rfl rfl
theorem dksX5_init_45 : cX5_init.data.toList.drop 1069 = dktX5_init_45 := dk_seg dksX5_init_44 22 rfl rfl
theorem dksX5_init_46 : cX5_init.data.toList.drop 1093 = dktX5_init_46 := dk_seg dksX5_init_45 24 rfl rfl
theorem dksX5_init_47 : cX5_init.data.toList.drop 1117 = dktX5_init_47 := dk_seg dksX5_init_46 24 rfl rfl
theorem dksX5_init_48 : cX5_init.data.toList.drop 1141 = dktX5_init_48 := dk_seg dksX5_init_47 24 rfl rfl
theorem dksX5_init_49 : cX5_init.data.toList.drop 1165 = dktX5_init_49 := dk_seg dksX5_init_48 24 rfl rfl
theorem dX5_init_0 : decode cX5_init 0 = .ok (.aload_n 0, 1) := dk_42 (dk_at dksX5_init_0 0 rfl rfl)
theorem dX5_init_1 : decode cX5_init 1 = .ok (.invokespecial 18, 3) := dk_183 0 18 (dk_at dksX5_init_0 1 rfl rfl)
theorem dX5_init_4 : decode cX5_init 4 = .ok (.aload_n 0, 1) := dk_42 (dk_at dksX5_init_0 4 rfl rfl)
theorem dX5_init_5 : decode cX5_init 5 = .ok (.bipush 7, 2) := dk_16 7 (dk_at dksX5_init_0 5 rfl rfl)
theorem dX5_init_7 : decode cX5_init 7 = .ok (.newarray .int, 2) := dk_188_10 (dk_at dksX5_init_0 7 rfl rfl)
theorem dX5_init_9 : decode cX5_init 9 = .ok (.putfield 7, 3) := dk_181 0 7 (dk_at dksX5_init_0 9 rfl rfl)
theorem dX5_init_12 : decode cX5_init 12 = .ok (.aload_n 0, 1) := dk_42 (dk_at dksX5_init_0 12 rfl rfl)
theorem dX5_init_13 : decode cX5_init 13 = .ok (.sipush 5764, 3) := dk_17 22 132 (dk_at dksX5_init_0 13 rfl rfl)
theorem dX5_init_16 : decode cX5_init 16 = .ok (.newarray .int, 2) := dk_188_10 (dk_at dksX5_init_0 16 rfl rfl)
theorem dX5_init_18 : decode cX5_init 18 = .ok (.putfield 24, 3) := dk_181 0 24 (dk_at dksX5_init_0 18 rfl rfl)
theorem dX5_init_21 : decode cX5_init 21 = .ok (.aload_n 0, 1) := dk_42 (dk_at dksX5_init_0 21 rfl rfl)
theorem dX5_init_22 : decode cX5_init 22 = .ok (.sipush 11528, 3) := dk_17 45 8 (dk_at dksX5_init_1 0 rfl rfl)
theorem dX5_init_25 : decode cX5_init 25 = .ok (.newarray .int, 2) := dk_188_10 (dk_at dksX5_init_1 3 rfl rfl)
theorem dX5_init_27 : decode cX5_init 27 = .ok (.putfield 27, 3) := dk_181 0 27 (dk_at dksX5_init_1 5 rfl rfl)
theorem dX5_init_30 : decode cX5_init 30 = .ok (.aload_n 0, 1) := dk_42 (dk_at dksX5_init_1 8 rfl rfl)
theorem dX5_init_31 : decode cX5_init 31 = .ok (.iconst 2, 1) := dk_5 (dk_at dksX5_init_1 9 rfl rfl)
theorem dX5_init_32 : decode cX5_init 32 = .ok (.newarray .boolean, 2) := dk_188_4 (dk_at dksX5_init_1 10 rfl rfl)
theorem dX5_init_34 : decode cX5_init 34 = .ok (.putfield 30, 3) := dk_181 0 30 (dk_at dksX5_init_1 12 rfl rfl)
theorem dX5_init_37 : decode cX5_init 37 = .ok (.aload_n 0, 1) := dk_42 (dk_at dksX5_init_1 15 rfl rfl)
theorem dX5_init_38 : decode cX5_init 38 = .ok (.sipush 803, 3) := dk_17 3 35 (dk_at dksX5_init_1 16 rfl rfl)
theorem dX5_init_41 : decode cX5_init 41 = .ok (.newarray .int, 2) := dk_188_10 (dk_at dksX5_init_1 19 rfl rfl)
theorem dX5_init_43 : decode cX5_init 43 = .ok (.putfield 34, 3) := dk_181 0 34 (dk_at dksX5_init_1 21 rfl rfl)
theorem dX5_init_46 : decode cX5_init 46 = .ok (.aload_n 0, 1) := dk_42 (dk_at dksX5_init_2 0 rfl rfl)
theorem dX5_init_47 : decode cX5_init 47 = .ok (.sipush 147, 3) := dk_17 0 147 (dk_at dksX5_init_2 1 rfl rfl)
theorem dX5_init_50 : decode cX5_init 50 = .ok (.newarray .byte, 2) := dk_188_8 (dk_at dksX5_init_2 4 rfl rfl)
theorem dX5_init_52 : decode cX5_init 52 = .ok (.dup, 1) := dk_89 (dk_at dksX5_init_2 6 rfl rfl)
theorem dX5_init_53 : decode cX5_init 53 = .ok (.iconst 0, 1) := dk_3 (dk_at dksX5_init_2 7 rfl rfl)
theorem dX5_init_54 : decode cX5_init 54 = .ok (.bipush 100, 2) := dk_16 100 (dk_at dksX5_init_2 8 rfl rfl)
theorem dX5_init_56 : decode cX5_init 56 = .ok (.bastore, 1) := dk_84 (dk_at dksX5_init_2 10 rfl rfl)
theorem dX5_init_57 : decode cX5_init 57 = .ok (.dup, 1) := dk_89 (dk_at dksX5_init_2 11 rfl rfl)
theorem dX5_init_58 : decode cX5_init 58 = .ok (.iconst 1, 1) := dk_4 (dk_at dksX5_init_2 12 rfl rfl)
theorem dX5_init_59 : decode cX5_init 59 = .ok (.bipush 101, 2) := dk_16 101 (dk_at dksX5_init_2 13 rfl rfl)
theorem dX5_init_61 : decode cX5_init 61 = .ok (.bastore, 1) := dk_84 (dk_at dksX5_init_2 15 rfl rfl)
theorem dX5_init_62 : decode cX5_init 62 = .ok (.dup, 1) := dk_89 (dk_at dksX5_init_2 16 rfl rfl)
theorem dX5_init_63 : decode cX5_init 63 = .ok (.iconst 2, 1) := dk_5 (dk_at dksX5_init_2 17 rfl rfl)
theorem dX5_init_64 : decode cX5_init 64 = .ok (.bipush 112, 2) := dk_16 112 (dk_at dksX5_init_2 18 rfl rfl)
theorem dX5_init_66 : decode cX5_init 66 = .ok (.bastore, 1) := dk_84 (dk_at dksX5_init_2 20 rfl rfl)
theorem dX5_init_67 : decode cX5_init 67 = .ok (.dup, 1) := dk_89 (dk_at dksX5_init_2 21 rfl rfl)
theorem dX5_init_68 : decode cX5_init 68 = .ok (.iconst 3, 1) := dk_6 (dk_at dksX5_init_2 22 rfl rfl)
theorem dX5_init_69 : decode cX5_init 69 = .ok (.bipush 116, 2) := dk_16 116 (dk_at dksX5_init_3 0 rfl rfl)
theorem dX5_init_71 : decode cX5_init 71 = .ok (.bastore, 1) := dk_84 (dk_at dksX5_init_3 2 rfl rfl)
theorem dX5_init_72 : decode cX5_init 72 = .ok (.dup, 1) := dk_89 (dk_at dksX5_init_3 3 rfl rfl)
theorem dX5_init_73 : decode cX5_init 73 = .ok (.iconst 4, 1) := dk_7 (dk_at dksX5_init_3 4 rfl rfl)
theorem dX5_init_74 : decode cX5_init 74 = .ok (.bipush 104, 2) := dk_16 104 (dk_at dksX5_init_3 5 rfl rfl)
theorem dX5_init_76 : decode cX5_init 76 = .ok (.bastore, 1) := dk_84 (dk_at dksX5_init_3 7 rfl rfl)
theorem dX5_init_77 : decode cX5_init 77 = .ok (.dup, 1) := dk_89 (dk_at dksX5_init_3 8 rfl rfl)
theorem dX5_init_78 : decode cX5_init 78 = .ok (.iconst 5, 1) := dk_8 (dk_at dksX5_init_3 9 rfl rfl)
theorem dX5_init_79 : decode cX5_init 79 = .ok (.bipush 32, 2) := dk_16 32 (dk_at dksX5_init_3 10 rfl rfl)
theorem dX5_init_81 : decode cX5_init 81 = .ok (.bastore, 1) := dk_84 (dk_at dksX5_init_3 12 rfl rfl)
theorem dX5_init_82 : decode cX5_init 82 = .ok (.dup, 1) := dk_89 (dk_at dksX5_init_3 13 rfl rfl)
theorem dX5_init_83 : decode cX5_init 83 = .ok (.bipush 6, 2) := dk_16 6 (dk_at dksX5_init_3 14 rfl rfl)
theorem dX5_init_85 : decode cX5_init 85 = .ok (.bipush 103, 2) := dk_16 103 (dk_at dksX5_init_3 16 rfl rfl)
theorem dX5_init_87 : decode cX5_init 87 = .ok (.bastore, 1) := dk_84 (dk_at dksX5_init_3 18 rfl rfl)
theorem dX5_init_88 : decode cX5_init 88 = .ok (.dup, 1) := dk_89 (dk_at dksX5_init_3 19 rfl rfl)
theorem dX5_init_89 : decode cX5_init 89 = .ok (.bipush 7, 2) := dk_16 7 (dk_at dksX5_init_3 20 rfl rfl)
theorem dX5_init_91 : decode cX5_init 91 = .ok (.bipush 114, 2) := dk_16 114 (dk_at dksX5_init_3 22 rfl rfl)
theorem dX5_init_93 : decode cX5_init 93 = .ok (.bastore, 1) := dk_84 (dk_at dksX5_init_4 0 rfl rfl)
theorem dX5_init_94 : decode cX5_init 94 = .ok (.dup, 1) := dk_89 (dk_at dksX5_init_4 1 rfl rfl)
theorem dX5_init_95 : decode cX5_init 95 = .ok (.bipush 8, 2) := dk_16 8 (dk_at dksX5_init_4 2 rfl rfl)
theorem dX5_init_97 : decode cX5_init 97 = .ok (.bipush 111, 2) := dk_16 111 (dk_at dksX5_init_4 4 rfl rfl)
theorem dX5_init_99 : decode cX5_init 99 = .ok (.bastore, 1) := dk_84 (dk_at dksX5_init_4 6 rfl rfl)
theorem dX5_init_100 : decode cX5_init 100 = .ok (.dup, 1) := dk_89 (dk_at dksX5_init_4 7 rfl rfl)
theorem dX5_init_101 : decode cX5_init 101 = .ok (.bipush 9, 2) := dk_16 9 (dk_at dksX5_init_4 8 rfl rfl)
theorem dX5_init_103 : decode cX5_init 103 = .ok (.bipush 119, 2) := dk_16 119 (dk_at dksX5_init_4 10 rfl rfl)
theorem dX5_init_105 : decode cX5_init 105 = .ok (.bastore, 1) := dk_84 (dk_at dksX5_init_4 12 rfl rfl)
theorem dX5_init_106 : decode cX5_init 106 = .ok (.dup, 1) := dk_89 (dk_at dksX5_init_4 13 rfl rfl)
theorem dX5_init_107 : decode cX5_init 107 = .ok (.bipush 10, 2) := dk_16 10 (dk_at dksX5_init_4 14 rfl rfl)
theorem dX5_init_109 : decode cX5_init 109 = .ok (.bipush 115, 2) := dk_16 115 (dk_at dksX5_init_4 16 rfl rfl)
theorem dX5_init_111 : decode cX5_init 111 = .ok (.bastore, 1) := dk_84 (dk_at dksX5_init_4 18 rfl rfl)
theorem dX5_init_112 : decode cX5_init 112 = .ok (.dup, 1) := dk_89 (dk_at dksX5_init_4 19 rfl rfl)
theorem dX5_init_113 : decode cX5_init 113 = .ok (.bipush 11, 2) := dk_16 11 (dk_at dksX5_init_4 20 rfl rfl)
theorem dX5_init_115 : decode cX5_init 115 = .ok (.bipush 32, 2) := dk_16 32 (dk_at dksX5_init_4 22 rfl rfl)
theorem dX5_init_117 : decode cX5_init 117 = .ok (.bastore, 1) := dk_84 (dk_at dksX5_init_5 0 rfl rfl)
theorem dX5_init_118 : decode cX5_init 118 = .ok (.dup, 1) := dk_89 (dk_at dksX5_init_5 1 rfl rfl)
theorem dX5_init_119 : decode cX5_init 119 = .ok (.bipush 12, 2) := dk_16 12 (dk_at dksX5_init_5 2 rfl rfl)
theorem dX5_init_121 : decode cX5_init 121 = .ok (.bipush 115, 2) := dk_16 115 (dk_at dksX5_init_5 4 rfl rfl)
theorem dX5_init_123 : decode cX5_init 123 = .ok (.bastore, 1) := dk_84 (dk_at dksX5_init_5 6 rfl rfl)
theorem dX5_init_124 : decode cX5_init 124 = .ok (.dup, 1) := dk_89 (dk_at dksX5_init_5 7 rfl rfl)
theorem dX5_init_125 : decode cX5_init 125 = .ok (.bipush 13, 2) := dk_16 13 (dk_at dksX5_init_5 8 rfl rfl)
theorem dX5_init_127 : decode cX5_init 127 = .ok (.bipush 101, 2) := dk_16 101 (dk_at dksX5_init_5 10 rfl rfl)
theorem dX5_init_129 : decode cX5_init 129 = .ok (.bastore, 1) := dk_84 (dk_at dksX5_init_5 12 rfl rfl)
theorem dX5_init_130 : decode cX5_init 130 = .ok (.dup, 1) := dk_89 (dk_at dksX5_init_5 13 rfl rfl)
theorem dX5_init_131 : decode cX5_init 131 = .ok (.bipush 14, 2) := dk_16 14 (dk_at dksX5_init_5 14 rfl rfl)
theorem dX5_init_133 : decode cX5_init 133 = .ok (.bipush 108, 2) := dk_16 108 (dk_at dksX5_init_5 16 rfl rfl)
theorem dX5_init_135 : decode cX5_init 135 = .ok (.bastore, 1) := dk_84 (dk_at dksX5_init_5 18 rfl rfl)
theorem dX5_init_136 : decode cX5_init 136 = .ok (.dup, 1) := dk_89 (dk_at dksX5_init_5 19 rfl rfl)
theorem dX5_init_137 : decode cX5_init 137 = .ok (.bipush 15, 2) := dk_16 15 (dk_at dksX5_init_5 20 rfl rfl)
theorem dX5_init_139 : decode cX5_init 139 = .ok (.bipush 108, 2) := dk_16 108 (dk_at dksX5_init_5 22 rfl rfl)
theorem dX5_init_141 : decode cX5_init 141 = .ok (.bastore, 1) := dk_84 (dk_at dksX5_init_6 0 rfl rfl)
theorem dX5_init_142 : decode cX5_init 142 = .ok (.dup, 1) := dk_89 (dk_at dksX5_init_6 1 rfl rfl)
theorem dX5_init_143 : decode cX5_init 143 = .ok (.bipush 16, 2) := dk_16 16 (dk_at dksX5_init_6 2 rfl rfl)
theorem dX5_init_145 : decode cX5_init 145 = .ok (.bipush 115, 2) := dk_16 115 (dk_at dksX5_init_6 4 rfl rfl)
theorem dX5_init_147 : decode cX5_init 147 = .ok (.bastore, 1) := dk_84 (dk_at dksX5_init_6 6 rfl rfl)
theorem dX5_init_148 : decode cX5_init 148 = .ok (.dup, 1) := dk_89 (dk_at dksX5_init_6 7 rfl rfl)
theorem dX5_init_149 : decode cX5_init 149 = .ok (.bipush 17, 2) := dk_16 17 (dk_at dksX5_init_6 8 rfl rfl)
theorem dX5_init_151 : decode cX5_init 151 = .ok (.bipush 32, 2) := dk_16 32 (dk_at dksX5_init_6 10 rfl rfl)
theorem dX5_init_153 : decode cX5_init 153 = .ok (.bastore, 1) := dk_84 (dk_at dksX5_init_6 12 rfl rfl)
theorem dX5_init_154 : decode cX5_init 154 = .ok (.dup, 1) := dk_89 (dk_at dksX5_init_6 13 rfl rfl)
theorem dX5_init_155 : decode cX5_init 155 = .ok (.bipush 18, 2) := dk_16 18 (dk_at dksX5_init_6 14 rfl rfl)
theorem dX5_init_157 : decode cX5_init 157 = .ok (.bipush 98, 2) := dk_16 98 (dk_at dksX5_init_6 16 rfl rfl)
theorem dX5_init_159 : decode cX5_init 159 = .ok (.bastore, 1) := dk_84 (dk_at dksX5_init_6 18 rfl rfl)
theorem dX5_init_160 : decode cX5_init 160 = .ok (.dup, 1) := dk_89 (dk_at dksX5_init_6 19 rfl rfl)
theorem dX5_init_161 : decode cX5_init 161 = .ok (.bipush 19, 2) := dk_16 19 (dk_at dksX5_init_6 20 rfl rfl)
theorem dX5_init_163 : decode cX5_init 163 = .ok (.bipush 97, 2) := dk_16 97 (dk_at dksX5_init_6 22 rfl rfl)
theorem dX5_init_165 : decode cX5_init 165 = .ok (.bastore, 1) := dk_84 (dk_at dksX5_init_7 0 rfl rfl)
theorem dX5_init_166 : decode cX5_init 166 = .ok (.dup, 1) := dk_89 (dk_at dksX5_init_7 1 rfl rfl)
theorem dX5_init_167 : decode cX5_init 167 = .ok (.bipush 20, 2) := dk_16 20 (dk_at dksX5_init_7 2 rfl rfl)
theorem dX5_init_169 : decode cX5_init 169 = .ok (.bipush 114, 2) := dk_16 114 (dk_at dksX5_init_7 4 rfl rfl)
theorem dX5_init_171 : decode cX5_init 171 = .ok (.bastore, 1) := dk_84 (dk_at dksX5_init_7 6 rfl rfl)
theorem dX5_init_172 : decode cX5_init 172 = .ok (.dup, 1) := dk_89 (dk_at dksX5_init_7 7 rfl rfl)
theorem dX5_init_173 : decode cX5_init 173 = .ok (.bipush 21, 2) := dk_16 21 (dk_at dksX5_init_7 8 rfl rfl)
theorem dX5_init_175 : decode cX5_init 175 = .ok (.bipush 115, 2) := dk_16 115 (dk_at dksX5_init_7 10 rfl rfl)
theorem dX5_init_177 : decode cX5_init 177 = .ok (.bastore, 1) := dk_84 (dk_at dksX5_init_7 12 rfl rfl)
theorem dX5_init_178 : decode cX5_init 178 = .ok (.dup, 1) := dk_89 (dk_at dksX5_init_7 13 rfl rfl)
theorem dX5_init_179 : decode cX5_init 179 = .ok (.bipush 22, 2) := dk_16 22 (dk_at dksX5_init_7 14 rfl rfl)
theorem dX5_init_181 : decode cX5_init 181 = .ok (.bipush 32, 2) := dk_16 32 (dk_at dksX5_init_7 16 rfl rfl)
theorem dX5_init_183 : decode cX5_init 183 = .ok (.bastore, 1) := dk_84 (dk_at dksX5_init_7 18 rfl rfl)
theorem dX5_init_184 : decode cX5_init 184 = .ok (.dup, 1) := dk_89 (dk_at dksX5_init_7 19 rfl rfl)
theorem dX5_init_185 : decode cX5_init 185 = .ok (.bipush 23, 2) := dk_16 23 (dk_at dksX5_init_7 20 rfl rfl)
theorem dX5_init_187 : decode cX5_init 187 = .ok (.bipush 105, 2) := dk_16 105 (dk_at dksX5_init_7 22 rfl rfl)
theorem dX5_init_189 : decode cX5_init 189 = .ok (.bastore, 1) := dk_84 (dk_at dksX5_init_8 0 rfl rfl)
theorem dX5_init_190 : decode cX5_init 190 = .ok (.dup, 1) := dk_89 (dk_at dksX5_init_8 1 rfl rfl)
theorem dX5_init_191 : decode cX5_init 191 = .ok (.bipush 24, 2) := dk_16 24 (dk_at dksX5_init_8 2 rfl rfl)
theorem dX5_init_193 : decode cX5_init 193 = .ok (.bipush 102, 2) := dk_16 102 (dk_at dksX5_init_8 4 rfl rfl)
theorem dX5_init_195 : decode cX5_init 195 = .ok (.bastore, 1) := dk_84 (dk_at dksX5_init_8 6 rfl rfl)
theorem dX5_init_196 : decode cX5_init 196 = .ok (.dup, 1) := dk_89 (dk_at dksX5_init_8 7 rfl rfl)
theorem dX5_init_197 : decode cX5_init 197 = .ok (.bipush 25, 2) := dk_16 25 (dk_at dksX5_init_8 8 rfl rfl)
theorem dX5_init_199 : decode cX5_init 199 = .ok (.bipush 32, 2) := dk_16 32 (dk_at dksX5_init_8 10 rfl rfl)
theorem dX5_init_201 : decode cX5_init 201 = .ok (.bastore, 1) := dk_84 (dk_at dksX5_init_8 12 rfl rfl)
theorem dX5_init_202 : decode cX5_init 202 = .ok (.dup, 1) := dk_89 (dk_at dksX5_init_8 13 rfl rfl)
theorem dX5_init_203 : decode cX5_init 203 = .ok (.bipush 26, 2) := dk_16 26 (dk_at dksX5_init_8 14 rfl rfl)
theorem dX5_init_205 : decode cX5_init 205 = .ok (.bipush 111, 2) := dk_16 111 (dk_at dksX5_init_8 16 rfl rfl)
theorem dX5_init_207 : decode cX5_init 207 = .ok (.bastore, 1) := dk_84 (dk_at dksX5_init_8 18 rfl rfl)
theorem dX5_init_208 : decode cX5_init 208 = .ok (.dup, 1) := dk_89 (dk_at dksX5_init_8 19 rfl rfl)
theorem dX5_init_209 : decode cX5_init 209 = .ok (.bipush 27, 2) := dk_16 27 (dk_at dksX5_init_8 20 rfl rfl)
theorem dX5_init_211 : decode cX5_init 211 = .ok (.bipush 114, 2) := dk_16 114 (dk_at dksX5_init_8 22 rfl rfl)
theorem dX5_init_213 : decode cX5_init 213 = .ok (.bastore, 1) := dk_84 (dk_at dksX5_init_9 0 rfl rfl)
theorem dX5_init_214 : decode cX5_init 214 = .ok (.dup, 1) := dk_89 (dk_at dksX5_init_9 1 rfl rfl)
theorem dX5_init_215 : decode cX5_init 215 = .ok (.bipush 28, 2) := dk_16 28 (dk_at dksX5_init_9 2 rfl rfl)
theorem dX5_init_217 : decode cX5_init 217 = .ok (.bipush 32, 2) := dk_16 32 (dk_at dksX5_init_9 4 rfl rfl)
theorem dX5_init_219 : decode cX5_init 219 = .ok (.bastore, 1) := dk_84 (dk_at dksX5_init_9 6 rfl rfl)
theorem dX5_init_220 : decode cX5_init 220 = .ok (.dup, 1) := dk_89 (dk_at dksX5_init_9 7 rfl rfl)
theorem dX5_init_221 : decode cX5_init 221 = .ok (.bipush 29, 2) := dk_16 29 (dk_at dksX5_init_9 8 rfl rfl)
theorem dX5_init_223 : decode cX5_init 223 = .ok (.bipush 97, 2) := dk_16 97 (dk_at dksX5_init_9 10 rfl rfl)
theorem dX5_init_225 : decode cX5_init 225 = .ok (.bastore, 1) := dk_84 (dk_at dksX5_init_9 12 rfl rfl)
theorem dX5_init_226 : decode cX5_init 226 = .ok (.dup, 1) := dk_89 (dk_at dksX5_init_9 13 rfl rfl)
theorem dX5_init_227 : decode cX5_init 227 = .ok (.bipush 30, 2) := dk_16 30 (dk_at dksX5_init_9 14 rfl rfl)
theorem dX5_init_229 : decode cX5_init 229 = .ok (.bipush 110, 2) := dk_16 110 (dk_at dksX5_init_9 16 rfl rfl)
theorem dX5_init_231 : decode cX5_init 231 = .ok (.bastore, 1) := dk_84 (dk_at dksX5_init_9 18 rfl rfl)
theorem dX5_init_232 : decode cX5_init 232 = .ok (.dup, 1) := dk_89 (dk_at dksX5_init_9 19 rfl rfl)
theorem dX5_init_233 : decode cX5_init 233 = .ok (.bipush 31, 2) := dk_16 31 (dk_at dksX5_init_9 20 rfl rfl)
theorem dX5_init_235 : decode cX5_init 235 = .ok (.bipush 100, 2) := dk_16 100 (dk_at dksX5_init_9 22 rfl rfl)
theorem dX5_init_237 : decode cX5_init 237 = .ok (.bastore, 1) := dk_84 (dk_at dksX5_init_10 0 rfl rfl)
theorem dX5_init_238 : decode cX5_init 238 = .ok (.dup, 1) := dk_89 (dk_at dksX5_init_10 1 rfl rfl)
theorem dX5_init_239 : decode cX5_init 239 = .ok (.bipush 32, 2) := dk_16 32 (dk_at dksX5_init_10 2 rfl rfl)
theorem dX5_init_241 : decode cX5_init 241 = .ok (.bipush 32, 2) := dk_16 32 (dk_at dksX5_init_10 4 rfl rfl)
theorem dX5_init_243 : decode cX5_init 243 = .ok (.bastore, 1) := dk_84 (dk_at dksX5_init_10 6 rfl rfl)
theorem dX5_init_244 : decode cX5_init 244 = .ok (.dup, 1) := dk_89 (dk_at dksX5_init_10 7 rfl rfl)
theorem dX5_init_245 : decode cX5_init 245 = .ok (.bipush 33, 2) := dk_16 33 (dk_at dksX5_init_10 8 rfl rfl)
theorem dX5_init_247 : decode cX5_init 247 = .ok (.bipush 110, 2) := dk_16 110 (dk_at dksX5_init_10 10 rfl rfl)
theorem dX5_init_249 : decode cX5_init 249 = .ok (.bastore, 1) := dk_84 (dk_at dksX5_init_10 12 rfl rfl)
theorem dX5_init_250 : decode cX5_init 250 = .ok (.dup, 1) := dk_89 (dk_at dksX5_init_10 13 rfl rfl)
theorem dX5_init_251 : decode cX5_init 251 = .ok (.bipush 34, 2) := dk_16 34 (dk_at dksX5_init_10 14 rfl rfl)
theorem dX5_init_253 : decode cX5_init 253 = .ok (.bipush 111, 2) := dk_16 111 (dk_at dksX5_init_10 16 rfl rfl)
theorem dX5_init_255 : decode cX5_init 255 = .ok (.bastore, 1) := dk_84 (dk_at dksX5_init_10 18 rfl rfl)
theorem dX5_init_256 : decode cX5_init 256 = .ok (.dup, 1) := dk_89 (dk_at dksX5_init_10 19 rfl rfl)
theorem dX5_init_257 : decode cX5_init 257 = .ok (.bipush 35, 2) := dk_16 35 (dk_at dksX5_init_10 20 rfl rfl)
theorem dX5_init_259 : decode cX5_init 259 = .ok (.bipush 116, 2) := dk_16 116 (dk_at dksX5_init_10 22 rfl rfl)
theorem dX5_init_261 : decode cX5_init 261 = .ok (.bastore, 1) := dk_84 (dk_at dksX5_init_11 0 rfl rfl)
theorem dX5_init_262 : decode cX5_init 262 = .ok (.dup, 1) := dk_89 (dk_at dksX5_init_11 1 rfl rfl)
theorem dX5_init_263 : decode cX5_init 263 = .ok (.bipush 36, 2) := dk_16 36 (dk_at dksX5_init_11 2 rfl rfl)
theorem dX5_init_265 : decode cX5_init 265 = .ok (.bipush 32, 2) := dk_16 32 (dk_at dksX5_init_11 4 rfl rfl)
theorem dX5_init_267 : decode cX5_init 267 = .ok (.bastore, 1) := dk_84 (dk_at dksX5_init_11 6 rfl rfl)
theorem dX5_init_268 : decode cX5_init 268 = .ok (.dup, 1) := dk_89 (dk_at dksX5_init_11 7 rfl rfl)
theorem dX5_init_269 : decode cX5_init 269 = .ok (.bipush 37, 2) := dk_16 37 (dk_at dksX5_init_11 8 rfl rfl)
theorem dX5_init_271 : decode cX5_init 271 = .ok (.bipush 111, 2) := dk_16 111 (dk_at dksX5_init_11 10 rfl rfl)
theorem dX5_init_273 : decode cX5_init 273 = .ok (.bastore, 1) := dk_84 (dk_at dksX5_init_11 12 rfl rfl)
theorem dX5_init_274 : decode cX5_init 274 = .ok (.dup, 1) := dk_89 (dk_at dksX5_init_11 13 rfl rfl)
theorem dX5_init_275 : decode cX5_init 275 = .ok (.bipush 38, 2) := dk_16 38 (dk_at dksX5_init_11 14 rfl rfl)
theorem dX5_init_277 : decode cX5_init 277 = .ok (.bipush 119, 2) := dk_16 119 (dk_at dksX5_init_11 16 rfl rfl)
theorem dX5_init_279 : decode cX5_init 279 = .ok (.bastore, 1) := dk_84 (dk_at dksX5_init_11 18 rfl rfl)
theorem dX5_init_280 : decode cX5_init 280 = .ok (.dup, 1) := dk_89 (dk_at dksX5_init_11 19 rfl rfl)
theorem dX5_init_281 : decode cX5_init 281 = .ok (.bipush 39, 2) := dk_16 39 (dk_at dksX5_init_11 20 rfl rfl)
theorem dX5_init_283 : decode cX5_init 283 = .ok (.bipush 110, 2) := dk_16 110 (dk_at dksX5_init_11 22 rfl rfl)
theorem dX5_init_285 : decode cX5_init 285 = .ok (.bastore, 1) := dk_84 (dk_at dksX5_init_12 0 rfl rfl)
theorem dX5_init_286 : decode cX5_init 286 = .ok (.dup, 1) := dk_89 (dk_at dksX5_init_12 1 rfl rfl)
theorem dX5_init_287 : decode cX5_init 287 = .ok (.bipush 40, 2) := dk_16 40 (dk_at dksX5_init_12 2 rfl rfl)
theorem dX5_init_289 : decode cX5_init 289 = .ok (.bipush 101, 2) := dk_16 101 (dk_at dksX5_init_12 4 rfl rfl)
theorem dX5_init_291 : decode cX5_init 291 = .ok (.bastore, 1) := dk_84 (dk_at dksX5_init_12 6 rfl rfl)
theorem dX5_init_292 : decode cX5_init 292 = .ok (.dup, 1) := dk_89 (dk_at dksX5_init_12 7 rfl rfl)
theorem dX5_init_293 : decode cX5_init 293 = .ok (.bipush 41, 2) := dk_16 41 (dk_at dksX5_init_12 8 rfl rfl)
theorem dX5_init_295 : decode cX5_init 295 = .ok (.bipush 114, 2) := dk_16 114 (dk_at dksX5_init_12 10 rfl rfl)
theorem dX5_init_297 : decode cX5_init 297 = .ok (.bastore, 1) := dk_84 (dk_at dksX5_init_12 12 rfl rfl)
theorem dX5_init_298 : decode cX5_init 298 = .ok (.dup, 1) := dk_89 (dk_at dksX5_init_12 13 rfl rfl)
theorem dX5_init_299 : decode cX5_init 299 = .ok (.bipush 42, 2) := dk_16 42 (dk_at dksX5_init_12 14 rfl rfl)
theorem dX5_init_301 : decode cX5_init 301 = .ok (.bipush 32, 2) := dk_16 32 (dk_at dksX5_init_12 16 rfl rfl)
theorem dX5_init_303 : decode cX5_init 303 = .ok (.bastore, 1) := dk_84 (dk_at dksX5_init_12 18 rfl rfl)
theorem dX5_init_304 : decode cX5_init 304 = .ok (.dup, 1) := dk_89 (dk_at dksX5_init_12 19 rfl rfl)
theorem dX5_init_305 : decode cX5_init 305 = .ok (.bipush 43, 2) := dk_16 43 (dk_at dksX5_init_12 20 rfl rfl)
theorem dX5_init_307 : decode cX5_init 307 = .ok (.bipush 118, 2) := dk_16 118 (dk_at dksX5_init_12 22 rfl rfl)
theorem dX5_init_309 : decode cX5_init 309 = .ok (.bastore, 1) := dk_84 (dk_at dksX5_init_13 0 rfl rfl)
theorem dX5_init_310 : decode cX5_init 310 = .ok (.dup, 1) := dk_89 (dk_at dksX5_init_13 1 rfl rfl)
theorem dX5_init_311 : decode cX5_init 311 = .ok (.bipush 44, 2) := dk_16 44 (dk_at dksX5_init_13 2 rfl rfl)
theorem dX5_init_313 : decode cX5_init 313 = .ok (.bipush 105, 2) := dk_16 105 (dk_at dksX5_init_13 4 rfl rfl)
theorem dX5_init_315 : decode cX5_init 315 = .ok (.bastore, 1) := dk_84 (dk_at dksX5_init_13 6 rfl rfl)
theorem dX5_init_316 : decode cX5_init 316 = .ok (.dup, 1) := dk_89 (dk_at dksX5_init_13 7 rfl rfl)
theorem dX5_init_317 : decode cX5_init 317 = .ok (.bipush 45, 2) := dk_16 45 (dk_at dksX5_init_13 8 rfl rfl)
theorem dX5_init_319 : decode cX5_init 319 = .ok (.bipush 115, 2) := dk_16 115 (dk_at dksX5_init_13 10 rfl rfl)
theorem dX5_init_321 : decode cX5_init 321 = .ok (.bastore, 1) := dk_84 (dk_at dksX5_init_13 12 rfl rfl)
theorem dX5_init_322 : decode cX5_init 322 = .ok (.dup, 1) := dk_89 (dk_at dksX5_init_13 13 rfl rfl)
theorem dX5_init_323 : decode cX5_init 323 = .ok (.bipush 46, 2) := dk_16 46 (dk_at dksX5_init_13 14 rfl rfl)
theorem dX5_init_325 : decode cX5_init 325 = .ok (.bipush 105, 2) := dk_16 105 (dk_at dksX5_init_13 16 rfl rfl)
theorem dX5_init_327 : decode cX5_init 327 = .ok (.bastore, 1) := dk_84 (dk_at dksX5_init_13 18 rfl rfl)
theorem dX5_init_328 : decode cX5_init 328 = .ok (.dup, 1) := dk_89 (dk_at dksX5_init_13 19 rfl rfl)
theorem dX5_init_329 : decode cX5_init 329 = .ok (.bipush 47, 2) := dk_16 47 (dk_at dksX5_init_13 20 rfl rfl)
theorem dX5_init_331 : decode cX5_init 331 = .ok (.bipush 116, 2) := dk_16 116 (dk_at dksX5_init_13 22 rfl rfl)
theorem dX5_init_333 : decode cX5_init 333 = .ok (.bastore, 1) := dk_84 (dk_at dksX5_init_14 0 rfl rfl)
theorem dX5_init_334 : decode cX5_init 334 = .ok (.dup, 1) := dk_89 (dk_at dksX5_init_14 1 rfl rfl)
theorem dX5_init_335 : decode cX5_init 335 = .ok (.bipush 48, 2) := dk_16 48 (dk_at dksX5_init_14 2 rfl rfl)
theorem dX5_init_337 : decode cX5_init 337 = .ok (.bipush 111, 2) := dk_16 111 (dk_at dksX5_init_14 4 rfl rfl)
theorem dX5_init_339 : decode cX5_init 339 = .ok (.bastore, 1) := dk_84 (dk_at dksX5_init_14 6 rfl rfl)
theorem dX5_init_340 : decode cX5_init 340 = .ok (.dup, 1) := dk_89 (dk_at dksX5_init_14 7 rfl rfl)
theorem dX5_init_341 : decode cX5_init 341 = .ok (.bipush 49, 2) := dk_16 49 (dk_at dksX5_init_14 8 rfl rfl)
theorem dX5_init_343 : decode cX5_init 343 = .ok (.bipush 114, 2) := dk_16 114 (dk_at dksX5_init_14 10 rfl rfl)
theorem dX5_init_345 : decode cX5_init 345 = .ok (.bastore, 1) := dk_84 (dk_at dksX5_init_14 12 rfl rfl)
theorem dX5_init_346 : decode cX5_init 346 = .ok (.dup, 1) := dk_89 (dk_at dksX5_init_14 13 rfl rfl)
theorem dX5_init_347 : decode cX5_init 347 = .ok (.bipush 50, 2) := dk_16 50 (dk_at dksX5_init_14 14 rfl rfl)
theorem dX5_init_349 : decode cX5_init 349 = .ok (.bipush 32, 2) := dk_16 32 (dk_at dksX5_init_14 16 rfl rfl)
theorem dX5_init_351 : decode cX5_init 351 = .ok (.bastore, 1) := dk_84 (dk_at dksX5_init_14 18 rfl rfl)
theorem dX5_init_352 : decode cX5_init 352 = .ok (.dup, 1) := dk_89 (dk_at dksX5_init_14 19 rfl rfl)
theorem dX5_init_353 : decode cX5_init 353 = .ok (.bipush 51, 2) := dk_16 51 (dk_at dksX5_init_14 20 rfl rfl)
theorem dX5_init_355 : decode cX5_init 355 = .ok (.bipush 111, 2) := dk_16 111 (dk_at dksX5_init_14 22 rfl rfl)
theorem dX5_init_357 : decode cX5_init 357 = .ok (.bastore, 1) := dk_84 (dk_at dksX5_init_15 0 rfl rfl)
theorem dX5_init_358 : decode cX5_init 358 = .ok (.dup, 1) := dk_89 (dk_at dksX5_init_15 1 rfl rfl)
theorem dX5_init_359 : decode cX5_init 359 = .ok (.bipush 52, 2) := dk_16 52 (dk_at dksX5_init_15 2 rfl rfl)
theorem dX5_init_361 : decode cX5_init 361 = .ok (.bipush 119, 2) := dk_16 119 (dk_at dksX5_init_15 4 rfl rfl)
theorem dX5_init_363 : decode cX5_init 363 = .ok (.bastore, 1) := dk_84 (dk_at dksX5_init_15 6 rfl rfl)
theorem dX5_init_364 : decode cX5_init 364 = .ok (.dup, 1) := dk_89 (dk_at dksX5_init_15 7 rfl rfl)
theorem dX5_init_365 : decode cX5_init 365 = .ok (.bipush 53, 2) := dk_16 53 (dk_at dksX5_init_15 8 rfl rfl)
theorem dX5_init_367 : decode cX5_init 367 = .ok (.bipush 101, 2) := dk_16 101 (dk_at dksX5_init_15 10 rfl rfl)
theorem dX5_init_369 : decode cX5_init 369 = .ok (.bastore, 1) := dk_84 (dk_at dksX5_init_15 12 rfl rfl)
theorem dX5_init_370 : decode cX5_init 370 = .ok (.dup, 1) := dk_89 (dk_at dksX5_init_15 13 rfl rfl)
theorem dX5_init_371 : decode cX5_init 371 = .ok (.bipush 54, 2) := dk_16 54 (dk_at dksX5_init_15 14 rfl rfl)
theorem dX5_init_373 : decode cX5_init 373 = .ok (.bipush 115, 2) := dk_16 115 (dk_at dksX5_init_15 16 rfl rfl)
theorem dX5_init_375 : decode cX5_init 375 = .ok (.bastore, 1) := dk_84 (dk_at dksX5_init_15 18 rfl rfl)
theorem dX5_init_376 : decode cX5_init 376 = .ok (.dup, 1) := dk_89 (dk_at dksX5_init_15 19 rfl rfl)
theorem dX5_init_377 : decode cX5_init 377 = .ok (.bipush 55, 2) := dk_16 55 (dk_at dksX5_init_15 20 rfl rfl)
theorem dX5_init_379 : decode cX5_init 379 = .ok (.bipush 32, 2) := dk_16 32 (dk_at dksX5_init_15 22 rfl rfl)
theorem dX5_init_381 : decode cX5_init 381 = .ok (.bastore, 1) := dk_84 (dk_at dksX5_init_16 0 rfl rfl)
theorem dX5_init_382 : decode cX5_init 382 = .ok (.dup, 1) := dk_89 (dk_at dksX5_init_16 1 rfl rfl)
theorem dX5_init_383 : decode cX5_init 383 = .ok (.bipush 56, 2) := dk_16 56 (dk_at dksX5_init_16 2 rfl rfl)
theorem dX5_init_385 : decode cX5_init 385 = .ok (.bipush 98, 2) := dk_16 98 (dk_at dksX5_init_16 4 rfl rfl)
theorem dX5_init_387 : decode cX5_init 387 = .ok (.bastore, 1) := dk_84 (dk_at dksX5_init_16 6 rfl rfl)
theorem dX5_init_388 : decode cX5_init 388 = .ok (.dup, 1) := dk_89 (dk_at dksX5_init_16 7 rfl rfl)
theorem dX5_init_389 : decode cX5_init 389 = .ok (.bipush 57, 2) := dk_16 57 (dk_at dksX5_init_16 8 rfl rfl)
theorem dX5_init_391 : decode cX5_init 391 = .ok (.bipush 97, 2) := dk_16 97 (dk_at dksX5_init_16 10 rfl rfl)
theorem dX5_init_393 : decode cX5_init 393 = .ok (.bastore, 1) := dk_84 (dk_at dksX5_init_16 12 rfl rfl)
theorem dX5_init_394 : decode cX5_init 394 = .ok (.dup, 1) := dk_89 (dk_at dksX5_init_16 13 rfl rfl)
theorem dX5_init_395 : decode cX5_init 395 = .ok (.bipush 58, 2) := dk_16 58 (dk_at dksX5_init_16 14 rfl rfl)
theorem dX5_init_397 : decode cX5_init 397 = .ok (.bipush 99, 2) := dk_16 99 (dk_at dksX5_init_16 16 rfl rfl)
theorem dX5_init_399 : decode cX5_init 399 = .ok (.bastore, 1) := dk_84 (dk_at dksX5_init_16 18 rfl rfl)
theorem dX5_init_400 : decode cX5_init 400 = .ok (.dup, 1) := dk_89 (dk_at dksX5_init_16 19 rfl rfl)
theorem dX5_init_401 : decode cX5_init 401 = .ok (.bipush 59, 2) := dk_16 59 (dk_at dksX5_init_16 20 rfl rfl)
theorem dX5_init_403 : decode cX5_init 403 = .ok (.bipush 107, 2) := dk_16 107 (dk_at dksX5_init_16 22 rfl rfl)
theorem dX5_init_405 : decode cX5_init 405 = .ok (.bastore, 1) := dk_84 (dk_at dksX5_init_17 0 rfl rfl)
theorem dX5_init_406 : decode cX5_init 406 = .ok (.dup, 1) := dk_89 (dk_at dksX5_init_17 1 rfl rfl)
theorem dX5_init_407 : decode cX5_init 407 = .ok (.bipush 60, 2) := dk_16 60 (dk_at dksX5_init_17 2 rfl rfl)
theorem dX5_init_409 : decode cX5_init 409 = .ok (.bipush 32, 2) := dk_16 32 (dk_at dksX5_init_17 4 rfl rfl)
theorem dX5_init_411 : decode cX5_init 411 = .ok (.bastore, 1) := dk_84 (dk_at dksX5_init_17 6 rfl rfl)
theorem dX5_init_412 : decode cX5_init 412 = .ok (.dup, 1) := dk_89 (dk_at dksX5_init_17 7 rfl rfl)
theorem dX5_init_413 : decode cX5_init 413 = .ok (.bipush 61, 2) := dk_16 61 (dk_at dksX5_init_17 8 rfl rfl)
theorem dX5_init_415 : decode cX5_init 415 = .ok (.bipush 114, 2) := dk_16 114 (dk_at dksX5_init_17 10 rfl rfl)
theorem dX5_init_417 : decode cX5_init 417 = .ok (.bastore, 1) := dk_84 (dk_at dksX5_init_17 12 rfl rfl)
theorem dX5_init_418 : decode cX5_init 418 = .ok (.dup, 1) := dk_89 (dk_at dksX5_init_17 13 rfl rfl)
theorem dX5_init_419 : decode cX5_init 419 = .ok (.bipush 62, 2) := dk_16 62 (dk_at dksX5_init_17 14 rfl rfl)
theorem dX5_init_421 : decode cX5_init 421 = .ok (.bipush 111, 2) := dk_16 111 (dk_at dksX5_init_17 16 rfl rfl)
theorem dX5_init_423 : decode cX5_init 423 = .ok (.bastore, 1) := dk_84 (dk_at dksX5_init_17 18 rfl rfl)
theorem dX5_init_424 : decode cX5_init 424 = .ok (.dup, 1) := dk_89 (dk_at dksX5_init_17 19 rfl rfl)
theorem dX5_init_425 : decode cX5_init 425 = .ok (.bipush 63, 2) := dk_16 63 (dk_at dksX5_init_17 20 rfl rfl)
theorem dX5_init_427 : decode cX5_init 427 = .ok (.bipush 111, 2) := dk_16 111 (dk_at dksX5_init_17 22 rfl rfl)
theorem dX5_init_429 : decode cX5_init 429 = .ok (.bastore, 1) := dk_84 (dk_at dksX5_init_18 0 rfl rfl)
theorem dX5_init_430 : decode cX5_init 430 = .ok (.dup, 1) := dk_89 (dk_at dksX5_init_18 1 rfl rfl)
theorem dX5_init_431 : decode cX5_init 431 = .ok (.bipush 64, 2) := dk_16 64 (dk_at dksX5_init_18 2 rfl rfl)
theorem dX5_init_433 : decode cX5_init 433 = .ok (.bipush 109, 2) := dk_16 109 (dk_at dksX5_init_18 4 rfl rfl)
theorem dX5_init_435 : decode cX5_init 435 = .ok (.bastore, 1) := dk_84 (dk_at dksX5_init_18 6 rfl rfl)
theorem dX5_init_436 : decode cX5_init 436 = .ok (.dup, 1) := dk_89 (dk_at dksX5_init_18 7 rfl rfl)
theorem dX5_init_437 : decode cX5_init 437 = .ok (.bipush 65, 2) := dk_16 65 (dk_at dksX5_init_18 8 rfl rfl)
theorem dX5_init_439 : decode cX5_init 439 = .ok (.bipush 115, 2) := dk_16 115 (dk_at dksX5_init_18 10 rfl rfl)
theorem dX5_init_441 : decode cX5_init 441 = .ok (.bastore, 1) := dk_84 (dk_at dksX5_init_18 12 rfl rfl)
theorem dX5_init_442 : decode cX5_init 442 = .ok (.dup, 1) := dk_89 (dk_at dksX5_init_18 13 rfl rfl)
theorem dX5_init_443 : decode cX5_init 443 = .ok (.bipush 66, 2) := dk_16 66 (dk_at dksX5_init_18 14 rfl rfl)
theorem dX5_init_445 : decode cX5_init 445 = .ok (.bipush 32, 2) := dk_16 32 (dk_at dksX5_init_18 16 rfl rfl)
theorem dX5_init_447 : decode cX5_init 447 = .ok (.bastore, 1) := dk_84 (dk_at dksX5_init_18 18 rfl rfl)
theorem dX5_init_448 : decode cX5_init 448 = .ok (.dup, 1) := dk_89 (dk_at dksX5_init_18 19 rfl rfl)
theorem dX5_init_449 : decode cX5_init 449 = .ok (.bipush 67, 2) := dk_16 67 (dk_at dksX5_init_18 20 rfl rfl)
theorem dX5_init_451 : decode cX5_init 451 = .ok (.bipush 119, 2) := dk_16 119 (dk_at dksX5_init_18 22 rfl rfl)
theorem dX5_init_453 : decode cX5_init 453 = .ok (.bastore, 1) := dk_84 (dk_at dksX5_init_19 0 rfl rfl)
theorem dX5_init_454 : decode cX5_init 454 = .ok (.dup, 1) := dk_89 (dk_at dksX5_init_19 1 rfl rfl)
theorem dX5_init_455 : decode cX5_init 455 = .ok (.bipush 68, 2) := dk_16 68 (dk_at dksX5_init_19 2 rfl rfl)
theorem dX5_init_457 : decode cX5_init 457 = .ok (.bipush 97, 2) := dk_16 97 (dk_at dksX5_init_19 4 rfl rfl)
theorem dX5_init_459 : decode cX5_init 459 = .ok (.bastore, 1) := dk_84 (dk_at dksX5_init_19 6 rfl rfl)
theorem dX5_init_460 : decode cX5_init 460 = .ok (.dup, 1) := dk_89 (dk_at dksX5_init_19 7 rfl rfl)
theorem dX5_init_461 : decode cX5_init 461 = .ok (.bipush 69, 2) := dk_16 69 (dk_at dksX5_init_19 8 rfl rfl)
theorem dX5_init_463 : decode cX5_init 463 = .ok (.bipush 114, 2) := dk_16 114 (dk_at dksX5_init_19 10 rfl rfl)
theorem dX5_init_465 : decode cX5_init 465 = .ok (.bastore, 1) := dk_84 (dk_at dksX5_init_19 12 rfl rfl)
theorem dX5_init_466 : decode cX5_init 466 = .ok (.dup, 1) := dk_89 (dk_at dksX5_init_19 13 rfl rfl)
theorem dX5_init_467 : decode cX5_init 467 = .ok (.bipush 70, 2) := dk_16 70 (dk_at dksX5_init_19 14 rfl rfl)
theorem dX5_init_469 : decode cX5_init 469 = .ok (.bipush 121, 2) := dk_16 121 (dk_at dksX5_init_19 16 rfl rfl)
theorem dX5_init_471 : decode cX5_init 471 = .ok (.bastore, 1) := dk_84 (dk_at dksX5_init_19 18 rfl rfl)
theorem dX5_init_472 : decode cX5_init 472 = .ok (.dup, 1) := dk_89 (dk_at dksX5_init_19 19 rfl rfl)
theorem dX5_init_473 : decode cX5_init 473 = .ok (.bipush 71, 2) := dk_16 71 (dk_at dksX5_init_19 20 rfl rfl)
theorem dX5_init_475 : decode cX5_init 475 = .ok (.bipush 32, 2) := dk_16 32 (dk_at dksX5_init_19 22 rfl rfl)
theorem dX5_init_477 : decode cX5_init 477 = .ok (.bastore, 1) := dk_84 (dk_at dksX5_init_20 0 rfl rfl)
theorem dX5_init_478 : decode cX5_init 478 = .ok (.dup, 1) := dk_89 (dk_at dksX5_init_20 1 rfl rfl)
theorem dX5_init_479 : decode cX5_init 479 = .ok (.bipush 72, 2) := dk_16 72 (dk_at dksX5_init_20 2 rfl rfl)
theorem dX5_init_481 : decode cX5_init 481 = .ok (.bipush 97, 2) := dk_16 97 (dk_at dksX5_init_20 4 rfl rfl)
theorem dX5_init_483 : decode cX5_init 483 = .ok (.bastore, 1) := dk_84 (dk_at dksX5_init_20 6 rfl rfl)
theorem dX5_init_484 : decode cX5_init 484 = .ok (.dup, 1) := dk_89 (dk_at dksX5_init_20 7 rfl rfl)
theorem dX5_init_485 : decode cX5_init 485 = .ok (.bipush 73, 2) := dk_16 73 (dk_at dksX5_init_20 8 rfl rfl)
theorem dX5_init_487 : decode cX5_init 487 = .ok (.bipush 109, 2) := dk_16 109 (dk_at dksX5_init_20 10 rfl rfl)
theorem dX5_init_489 : decode cX5_init 489 = .ok (.bastore, 1) := dk_84 (dk_at dksX5_init_20 12 rfl rfl)
theorem dX5_init_490 : decode cX5_init 490 = .ok (.dup, 1) := dk_89 (dk_at dksX5_init_20 13 rfl rfl)
theorem dX5_init_491 : decode cX5_init 491 = .ok (.bipush 74, 2) := dk_16 74 (dk_at dksX5_init_20 14 rfl rfl)
theorem dX5_init_493 : decode cX5_init 493 = .ok (.bipush 111, 2) := dk_16 111 (dk_at dksX5_init_20 16 rfl rfl)
theorem dX5_init_495 : decode cX5_init 495 = .ok (.bastore, 1) := dk_84 (dk_at dksX5_init_20 18 rfl rfl)
theorem dX5_init_496 : decode cX5_init 496 = .ok (.dup, 1) := dk_89 (dk_at dksX5_init_20 19 rfl rfl)
theorem dX5_init_497 : decode cX5_init 497 = .ok (.bipush 75, 2) := dk_16 75 (dk_at dksX5_init_20 20 rfl rfl)
theorem dX5_init_499 : decode cX5_init 499 = .ok (.bipush 117, 2) := dk_16 117 (dk_at dksX5_init_20 22 rfl rfl)
theorem dX5_init_501 : decode cX5_init 501 = .ok (.bastore, 1) := dk_84 (dk_at dksX5_init_21 0 rfl rfl)
theorem dX5_init_502 : decode cX5_init 502 = .ok (.dup, 1) := dk_89 (dk_at dksX5_init_21 1 rfl rfl)
theorem dX5_init_503 : decode cX5_init 503 = .ok (.bipush 76, 2) := dk_16 76 (dk_at dksX5_init_21 2 rfl rfl)
theorem dX5_init_505 : decode cX5_init 505 = .ok (.bipush 110, 2) := dk_16 110 (dk_at dksX5_init_21 4 rfl rfl)
theorem dX5_init_507 : decode cX5_init 507 = .ok (.bastore, 1) := dk_84 (dk_at dksX5_init_21 6 rfl rfl)
theorem dX5_init_508 : decode cX5_init 508 = .ok (.dup, 1) := dk_89 (dk_at dksX5_init_21 7 rfl rfl)
theorem dX5_init_509 : decode cX5_init 509 = .ok (.bipush 77, 2) := dk_16 77 (dk_at dksX5_init_21 8 rfl rfl)
theorem dX5_init_511 : decode cX5_init 511 = .ok (.bipush 116, 2) := dk_16 116 (dk_at dksX5_init_21 10 rfl rfl)
theorem dX5_init_513 : decode cX5_init 513 = .ok (.bastore, 1) := dk_84 (dk_at dksX5_init_21 12 rfl rfl)
theorem dX5_init_514 : decode cX5_init 514 = .ok (.dup, 1) := dk_89 (dk_at dksX5_init_21 13 rfl rfl)
theorem dX5_init_515 : decode cX5_init 515 = .ok (.bipush 78, 2) := dk_16 78 (dk_at dksX5_init_21 14 rfl rfl)
theorem dX5_init_517 : decode cX5_init 517 = .ok (.bipush 32, 2) := dk_16 32 (dk_at dksX5_init_21 16 rfl rfl)
theorem dX5_init_519 : decode cX5_init 519 = .ok (.bastore, 1) := dk_84 (dk_at dksX5_init_21 18 rfl rfl)
theorem dX5_init_520 : decode cX5_init 520 = .ok (.dup, 1) := dk_89 (dk_at dksX5_init_21 19 rfl rfl)
theorem dX5_init_521 : decode cX5_init 521 = .ok (.bipush 79, 2) := dk_16 79 (dk_at dksX5_init_21 20 rfl rfl)
theorem dX5_init_523 : decode cX5_init 523 = .ok (.bipush 97, 2) := dk_16 97 (dk_at dksX5_init_21 22 rfl rfl)
theorem dX5_init_525 : decode cX5_init 525 = .ok (.bastore, 1) := dk_84 (dk_at dksX5_init_22 0 rfl rfl)
theorem dX5_init_526 : decode cX5_init 526 = .ok (.dup, 1) := dk_89 (dk_at dksX5_init_22 1 rfl rfl)
theorem dX5_init_527 : decode cX5_init 527 = .ok (.bipush 80, 2) := dk_16 80 (dk_at dksX5_init_22 2 rfl rfl)
theorem dX5_init_529 : decode cX5_init 529 = .ok (.bipush 103, 2) := dk_16 103 (dk_at dksX5_init_22 4 rfl rfl)
theorem dX5_init_531 : decode cX5_init 531 = .ok (.bastore, 1) := dk_84 (dk_at dksX5_init_22 6 rfl rfl)
theorem dX5_init_532 : decode cX5_init 532 = .ok (.dup, 1) := dk_89 (dk_at dksX5_init_22 7 rfl rfl)
theorem dX5_init_533 : decode cX5_init 533 = .ok (.bipush 81, 2) := dk_16 81 (dk_at dksX5_init_22 8 rfl rfl)
theorem dX5_init_535 : decode cX5_init 535 = .ok (.bipush 101, 2) := dk_16 101 (dk_at dksX5_init_22 10 rfl rfl)
theorem dX5_init_537 : decode cX5_init 537 = .ok (.bastore, 1) := dk_84 (dk_at dksX5_init_22 12 rfl rfl)
theorem dX5_init_538 : decode cX5_init 538 = .ok (.dup, 1) := dk_89 (dk_at dksX5_init_22 13 rfl rfl)
theorem dX5_init_539 : decode cX5_init 539 = .ok (.bipush 82, 2) := dk_16 82 (dk_at dksX5_init_22 14 rfl rfl)
theorem dX5_init_541 : decode cX5_init 541 = .ok (.bipush 32, 2) := dk_16 32 (dk_at dksX5_init_22 16 rfl rfl)
theorem dX5_init_543 : decode cX5_init 543 = .ok (.bastore, 1) := dk_84 (dk_at dksX5_init_22 18 rfl rfl)
theorem dX5_init_544 : decode cX5_init 544 = .ok (.dup, 1) := dk_89 (dk_at dksX5_init_22 19 rfl rfl)
theorem dX5_init_545 : decode cX5_init 545 = .ok (.bipush 83, 2) := dk_16 83 (dk_at dksX5_init_22 20 rfl rfl)
theorem dX5_init_547 : decode cX5_init 547 = .ok (.bipush 100, 2) := dk_16 100 (dk_at dksX5_init_22 22 rfl rfl)
theorem dX5_init_549 : decode cX5_init 549 = .ok (.bastore, 1) := dk_84 (dk_at dksX5_init_23 0 rfl rfl)
theorem dX5_init_550 : decode cX5_init 550 = .ok (.dup, 1) := dk_89 (dk_at dksX5_init_23 1 rfl rfl)
theorem dX5_init_551 : decode cX5_init 551 = .ok (.bipush 84, 2) := dk_16 84 (dk_at dksX5_init_23 2 rfl rfl)
theorem dX5_init_553 : decode cX5_init 553 = .ok (.bipush 97, 2) := dk_16 97 (dk_at dksX5_init_23 4 rfl rfl)
theorem dX5_init_555 : decode cX5_init 555 = .ok (.bastore, 1) := dk_84 (dk_at dksX5_init_23 6 rfl rfl)
theorem dX5_init_556 : decode cX5_init 556 = .ok (.dup, 1) := dk_89 (dk_at dksX5_init_23 7 rfl rfl)
theorem dX5_init_557 : decode cX5_init 557 = .ok (.bipush 85, 2) := dk_16 85 (dk_at dksX5_init_23 8 rfl rfl)
theorem dX5_init_559 : decode cX5_init 559 = .ok (.bipush 121, 2) := dk_16 121 (dk_at dksX5_init_23 10 rfl rfl)
theorem dX5_init_561 : decode cX5_init 561 = .ok (.bastore, 1) := dk_84 (dk_at dksX5_init_23 12 rfl rfl)
theorem dX5_init_562 : decode cX5_init 562 = .ok (.dup, 1) := dk_89 (dk_at dksX5_init_23 13 rfl rfl)
theorem dX5_init_563 : decode cX5_init 563 = .ok (.bipush 86, 2) := dk_16 86 (dk_at dksX5_init_23 14 rfl rfl)
theorem dX5_init_565 : decode cX5_init 565 = .ok (.bipush 32, 2) := dk_16 32 (dk_at dksX5_init_23 16 rfl rfl)
theorem dX5_init_567 : decode cX5_init 567 = .ok (.bastore, 1) := dk_84 (dk_at dksX5_init_23 18 rfl rfl)
theorem dX5_init_568 : decode cX5_init 568 = .ok (.dup, 1) := dk_89 (dk_at dksX5_init_23 19 rfl rfl)
theorem dX5_init_569 : decode cX5_init 569 = .ok (.bipush 87, 2) := dk_16 87 (dk_at dksX5_init_23 20 rfl rfl)
theorem dX5_init_571 : decode cX5_init 571 = .ok (.bipush 109, 2) := dk_16 109 (dk_at dksX5_init_23 22 rfl rfl)
theorem dX5_init_573 : decode cX5_init 573 = .ok (.bastore, 1) := dk_84 (dk_at dksX5_init_24 0 rfl rfl)
theorem dX5_init_574 : decode cX5_init 574 = .ok (.dup, 1) := dk_89 (dk_at dksX5_init_24 1 rfl rfl)
theorem dX5_init_575 : decode cX5_init 575 = .ok (.bipush 88, 2) := dk_16 88 (dk_at dksX5_init_24 2 rfl rfl)
theorem dX5_init_577 : decode cX5_init 577 = .ok (.bipush 111, 2) := dk_16 111 (dk_at dksX5_init_24 4 rfl rfl)
theorem dX5_init_579 : decode cX5_init 579 = .ok (.bastore, 1) := dk_84 (dk_at dksX5_init_24 6 rfl rfl)
theorem dX5_init_580 : decode cX5_init 580 = .ok (.dup, 1) := dk_89 (dk_at dksX5_init_24 7 rfl rfl)
theorem dX5_init_581 : decode cX5_init 581 = .ok (.bipush 89, 2) := dk_16 89 (dk_at dksX5_init_24 8 rfl rfl)
theorem dX5_init_583 : decode cX5_init 583 = .ok (.bipush 111, 2) := dk_16 111 (dk_at dksX5_init_24 10 rfl rfl)
theorem dX5_init_585 : decode cX5_init 585 = .ok (.bastore, 1) := dk_84 (dk_at dksX5_init_24 12 rfl rfl)
theorem dX5_init_586 : decode cX5_init 586 = .ok (.dup, 1) := dk_89 (dk_at dksX5_init_24 13 rfl rfl)
theorem dX5_init_587 : decode cX5_init 587 = .ok (.bipush 90, 2) := dk_16 90 (dk_at dksX5_init_24 14 rfl rfl)
theorem dX5_init_589 : decode cX5_init 589 = .ok (.bipush 100, 2) := dk_16 100 (dk_at dksX5_init_24 16 rfl rfl)
theorem dX5_init_591 : decode cX5_init 591 = .ok (.bastore, 1) := dk_84 (dk_at dksX5_init_24 18 rfl rfl)
theorem dX5_init_592 : decode cX5_init 592 = .ok (.dup, 1) := dk_89 (dk_at dksX5_init_24 19 rfl rfl)
theorem dX5_init_593 : decode cX5_init 593 = .ok (.bipush 91, 2) := dk_16 91 (dk_at dksX5_init_24 20 rfl rfl)
theorem dX5_init_595 : decode cX5_init 595 = .ok (.bipush 32, 2) := dk_16 32 (dk_at dksX5_init_24 22 rfl rfl)
theorem dX5_init_597 : decode cX5_init 597 = .ok (.bastore, 1) := dk_84 (dk_at dksX5_init_25 0 rfl rfl)
theorem dX5_init_598 : decode cX5_init 598 = .ok (.dup, 1) := dk_89 (dk_at dksX5_init_25 1 rfl rfl)
theorem dX5_init_599 : decode cX5_init 599 = .ok (.bipush 92, 2) := dk_16 92 (dk_at dksX5_init_25 2 rfl rfl)
theorem dX5_init_601 : decode cX5_init 601 = .ok (.bipush 100, 2) := dk_16 100 (dk_at dksX5_init_25 4 rfl rfl)
theorem dX5_init_603 : decode cX5_init 603 = .ok (.bastore, 1) := dk_84 (dk_at dksX5_init_25 6 rfl rfl)
theorem dX5_init_604 : decode cX5_init 604 = .ok (.dup, 1) := dk_89 (dk_at dksX5_init_25 7 rfl rfl)
theorem dX5_init_605 : decode cX5_init 605 = .ok (.bipush 93, 2) := dk_16 93 (dk_at dksX5_init_25 8 rfl rfl)
theorem dX5_init_607 : decode cX5_init 607 = .ok (.bipush 101, 2) := dk_16 101 (dk_at dksX5_init_25 10 rfl rfl)
theorem dX5_init_609 : decode cX5_init 609 = .ok (.bastore, 1) := dk_84 (dk_at dksX5_init_25 12 rfl rfl)
theorem dX5_init_610 : decode cX5_init 610 = .ok (.dup, 1) := dk_89 (dk_at dksX5_init_25 13 rfl rfl)
theorem dX5_init_611 : decode cX5_init 611 = .ok (.bipush 94, 2) := dk_16 94 (dk_at dksX5_init_25 14 rfl rfl)
theorem dX5_init_613 : decode cX5_init 613 = .ok (.bipush 98, 2) := dk_16 98 (dk_at dksX5_init_25 16 rfl rfl)
theorem dX5_init_615 : decode cX5_init 615 = .ok (.bastore, 1) := dk_84 (dk_at dksX5_init_25 18 rfl rfl)
theorem dX5_init_616 : decode cX5_init 616 = .ok (.dup, 1) := dk_89 (dk_at dksX5_init_25 19 rfl rfl)
theorem dX5_init_617 : decode cX5_init 617 = .ok (.bipush 95, 2) := dk_16 95 (dk_at dksX5_init_25 20 rfl rfl)
theorem dX5_init_619 : decode cX5_init 619 = .ok (.bipush 116, 2) := dk_16 116 (dk_at dksX5_init_25 22 rfl rfl)
theorem dX5_init_621 : decode cX5_init 621 = .ok (.bastore, 1) := dk_84 (dk_at dksX5_init_26 0 rfl rfl)
theorem dX5_init_622 : decode cX5_init 622 = .ok (.dup, 1) := dk_89 (dk_at dksX5_init_26 1 rfl rfl)
theorem dX5_init_623 : decode cX5_init 623 = .ok (.bipush 96, 2) := dk_16 96 (dk_at dksX5_init_26 2 rfl rfl)
theorem dX5_init_625 : decode cX5_init 625 = .ok (.bipush 115, 2) := dk_16 115 (dk_at dksX5_init_26 4 rfl rfl)
theorem dX5_init_627 : decode cX5_init 627 = .ok (.bastore, 1) := dk_84 (dk_at dksX5_init_26 6 rfl rfl)
theorem dX5_init_628 : decode cX5_init 628 = .ok (.dup, 1) := dk_89 (dk_at dksX5_init_26 7 rfl rfl)
theorem dX5_init_629 : decode cX5_init 629 = .ok (.bipush 97, 2) := dk_16 97 (dk_at dksX5_init_26 8 rfl rfl)
theorem dX5_init_631 : decode cX5_init 631 = .ok (.bipush 32, 2) := dk_16 32 (dk_at dksX5_init_26 10 rfl rfl)
theorem dX5_init_633 : decode cX5_init 633 = .ok (.bastore, 1) := dk_84 (dk_at dksX5_init_26 12 rfl rfl)
theorem dX5_init_634 : decode cX5_init 634 = .ok (.dup, 1) := dk_89 (dk_at dksX5_init_26 13 rfl rfl)
theorem dX5_init_635 : decode cX5_init 635 = .ok (.bipush 98, 2) := dk_16 98 (dk_at dksX5_init_26 14 rfl rfl)
theorem dX5_init_637 : decode cX5_init 637 = .ok (.bipush 100, 2) := dk_16 100 (dk_at dksX5_init_26 16 rfl rfl)
theorem dX5_init_639 : decode cX5_init 639 = .ok (.bastore, 1) := dk_84 (dk_at dksX5_init_26 18 rfl rfl)
theorem dX5_init_640 : decode cX5_init 640 = .ok (.dup, 1) := dk_89 (dk_at dksX5_init_26 19 rfl rfl)
theorem dX5_init_641 : decode cX5_init 641 = .ok (.bipush 99, 2) := dk_16 99 (dk_at dksX5_init_26 20 rfl rfl)
theorem dX5_init_643 : decode cX5_init 643 = .ok (.bipush 111, 2) := dk_16 111 (dk_at dksX5_init_26 22 rfl rfl)
theorem dX5_init_645 : decode cX5_init 645 = .ok (.bastore, 1) := dk_84 (dk_at dksX5_init_27 0 rfl rfl)
theorem dX5_init_646 : decode cX5_init 646 = .ok (.dup, 1) := dk_89 (dk_at dksX5_init_27 1 rfl rfl)
theorem dX5_init_647 : decode cX5_init 647 = .ok (.bipush 100, 2) := dk_16 100 (dk_at dksX5_init_27 2 rfl rfl)
theorem dX5_init_649 : decode cX5_init 649 = .ok (.bipush 110, 2) := dk_16 110 (dk_at dksX5_init_27 4 rfl rfl)
theorem dX5_init_651 : decode cX5_init 651 = .ok (.bastore, 1) := dk_84 (dk_at dksX5_init_27 6 rfl rfl)
theorem dX5_init_652 : decode cX5_init 652 = .ok (.dup, 1) := dk_89 (dk_at dksX5_init_27 7 rfl rfl)
theorem dX5_init_653 : decode cX5_init 653 = .ok (.bipush 101, 2) := dk_16 101 (dk_at dksX5_init_27 8 rfl rfl)
theorem dX5_init_655 : decode cX5_init 655 = .ok (.bipush 101, 2) := dk_16 101 (dk_at dksX5_init_27 10 rfl rfl)
theorem dX5_init_657 : decode cX5_init 657 = .ok (.bastore, 1) := dk_84 (dk_at dksX5_init_27 12 rfl rfl)
theorem dX5_init_658 : decode cX5_init 658 = .ok (.dup, 1) := dk_89 (dk_at dksX5_init_27 13 rfl rfl)
theorem dX5_init_659 : decode cX5_init 659 = .ok (.bipush 102, 2) := dk_16 102 (dk_at dksX5_init_27 14 rfl rfl)
theorem dX5_init_661 : decode cX5_init 661 = .ok (.bipush 32, 2) := dk_16 32 (dk_at dksX5_init_27 16 rfl rfl)
theorem dX5_init_663 : decode cX5_init 663 = .ok (.bastore, 1) := dk_84 (dk_at dksX5_init_27 18 rfl rfl)
theorem dX5_init_664 : decode cX5_init 664 = .ok (.dup, 1) := dk_89 (dk_at dksX5_init_27 19 rfl rfl)
theorem dX5_init_665 : decode cX5_init 665 = .ok (.bipush 103, 2) := dk_16 103 (dk_at dksX5_init_27 20 rfl rfl)
theorem dX5_init_667 : decode cX5_init 667 = .ok (.bipush 108, 2) := dk_16 108 (dk_at dksX5_init_27 22 rfl rfl)
theorem dX5_init_669 : decode cX5_init 669 = .ok (.bastore, 1) := dk_84 (dk_at dksX5_init_28 0 rfl rfl)
theorem dX5_init_670 : decode cX5_init 670 = .ok (.dup, 1) := dk_89 (dk_at dksX5_init_28 1 rfl rfl)
theorem dX5_init_671 : decode cX5_init 671 = .ok (.bipush 104, 2) := dk_16 104 (dk_at dksX5_init_28 2 rfl rfl)
theorem dX5_init_673 : decode cX5_init 673 = .ok (.bipush 97, 2) := dk_16 97 (dk_at dksX5_init_28 4 rfl rfl)
theorem dX5_init_675 : decode cX5_init 675 = .ok (.bastore, 1) := dk_84 (dk_at dksX5_init_28 6 rfl rfl)
theorem dX5_init_676 : decode cX5_init 676 = .ok (.dup, 1) := dk_89 (dk_at dksX5_init_28 7 rfl rfl)
theorem dX5_init_677 : decode cX5_init 677 = .ok (.bipush 105, 2) := dk_16 105 (dk_at dksX5_init_28 8 rfl rfl)
theorem dX5_init_679 : decode cX5_init 679 = .ok (.bipush 115, 2) := dk_16 115 (dk_at dksX5_init_28 10 rfl rfl)
theorem dX5_init_681 : decode cX5_init 681 = .ok (.bastore, 1) := dk_84 (dk_at dksX5_init_28 12 rfl rfl)
theorem dX5_init_682 : decode cX5_init 682 = .ok (.dup, 1) := dk_89 (dk_at dksX5_init_28 13 rfl rfl)
theorem dX5_init_683 : decode cX5_init 683 = .ok (.bipush 106, 2) := dk_16 106 (dk_at dksX5_init_28 14 rfl rfl)
theorem dX5_init_685 : decode cX5_init 685 = .ok (.bipush 116, 2) := dk_16 116 (dk_at dksX5_init_28 16 rfl rfl)
theorem dX5_init_687 : decode cX5_init 687 = .ok (.bastore, 1) := dk_84 (dk_at dksX5_init_28 18 rfl rfl)
theorem dX5_init_688 : decode cX5_init 688 = .ok (.dup, 1) := dk_89 (dk_at dksX5_init_28 19 rfl rfl)
theorem dX5_init_689 : decode cX5_init 689 = .ok (.bipush 107, 2) := dk_16 107 (dk_at dksX5_init_28 20 rfl rfl)
theorem dX5_init_691 : decode cX5_init 691 = .ok (.bipush 32, 2) := dk_16 32 (dk_at dksX5_init_28 22 rfl rfl)
theorem dX5_init_693 : decode cX5_init 693 = .ok (.bastore, 1) := dk_84 (dk_at dksX5_init_29 0 rfl rfl)
theorem dX5_init_694 : decode cX5_init 694 = .ok (.dup, 1) := dk_89 (dk_at dksX5_init_29 1 rfl rfl)
theorem dX5_init_695 : decode cX5_init 695 = .ok (.bipush 108, 2) := dk_16 108 (dk_at dksX5_init_29 2 rfl rfl)
theorem dX5_init_697 : decode cX5_init 697 = .ok (.bipush 112, 2) := dk_16 112 (dk_at dksX5_init_29 4 rfl rfl)
theorem dX5_init_699 : decode cX5_init 699 = .ok (.bastore, 1) := dk_84 (dk_at dksX5_init_29 6 rfl rfl)
theorem dX5_init_700 : decode cX5_init 700 = .ok (.dup, 1) := dk_89 (dk_at dksX5_init_29 7 rfl rfl)
theorem dX5_init_701 : decode cX5_init 701 = .ok (.bipush 109, 2) := dk_16 109 (dk_at dksX5_init_29 8 rfl rfl)
theorem dX5_init_703 : decode cX5_init 703 = .ok (.bipush 117, 2) := dk_16 117 (dk_at dksX5_init_29 10 rfl rfl)
theorem dX5_init_705 : decode cX5_init 705 = .ok (.bastore, 1) := dk_84 (dk_at dksX5_init_29 12 rfl rfl)
theorem dX5_init_706 : decode cX5_init 706 = .ok (.dup, 1) := dk_89 (dk_at dksX5_init_29 13 rfl rfl)
theorem dX5_init_707 : decode cX5_init 707 = .ok (.bipush 110, 2) := dk_16 110 (dk_at dksX5_init_29 14 rfl rfl)
theorem dX5_init_709 : decode cX5_init 709 = .ok (.bipush 114, 2) := dk_16 114 (dk_at dksX5_init_29 16 rfl rfl)
theorem dX5_init_711 : decode cX5_init 711 = .ok (.bastore, 1) := dk_84 (dk_at dksX5_init_29 18 rfl rfl)
theorem dX5_init_712 : decode cX5_init 712 = .ok (.dup, 1) := dk_89 (dk_at dksX5_init_29 19 rfl rfl)
theorem dX5_init_713 : decode cX5_init 713 = .ok (.bipush 111, 2) := dk_16 111 (dk_at dksX5_init_29 20 rfl rfl)
theorem dX5_init_715 : decode cX5_init 715 = .ok (.bipush 115, 2) := dk_16 115 (dk_at dksX5_init_29 22 rfl rfl)
theorem dX5_init_717 : decode cX5_init 717 = .ok (.bastore, 1) := dk_84 (dk_at dksX5_init_30 0 rfl rfl)
theorem dX5_init_718 : decode cX5_init 718 = .ok (.dup, 1) := dk_89 (dk_at dksX5_init_30 1 rfl rfl)
theorem dX5_init_719 : decode cX5_init 719 = .ok (.bipush 112, 2) := dk_16 112 (dk_at dksX5_init_30 2 rfl rfl)
theorem dX5_init_721 : decode cX5_init 721 = .ok (.bipush 101, 2) := dk_16 101 (dk_at dksX5_init_30 4 rfl rfl)
theorem dX5_init_723 : decode cX5_init 723 = .ok (.bastore, 1) := dk_84 (dk_at dksX5_init_30 6 rfl rfl)
theorem dX5_init_724 : decode cX5_init 724 = .ok (.dup, 1) := dk_89 (dk_at dksX5_init_30 7 rfl rfl)
theorem dX5_init_725 : decode cX5_init 725 = .ok (.bipush 113, 2) := dk_16 113 (dk_at dksX5_init_30 8 rfl rfl)
theorem dX5_init_727 : decode cX5_init 727 = .ok (.bipush 32, 2) := dk_16 32 (dk_at dksX5_init_30 10 rfl rfl)
theorem dX5_init_729 : decode cX5_init 729 = .ok (.bastore, 1) := dk_84 (dk_at dksX5_init_30 12 rfl rfl)
theorem dX5_init_730 : decode cX5_init 730 = .ok (.dup, 1) := dk_89 (dk_at dksX5_init_30 13 rfl rfl)
theorem dX5_init_731 : decode cX5_init 731 = .ok (.bipush 114, 2) := dk_16 114 (dk_at dksX5_init_30 14 rfl rfl)
theorem dX5_init_733 : decode cX5_init 733 = .ok (.bipush 111, 2) := dk_16 111 (dk_at dksX5_init_30 16 rfl rfl)
theorem dX5_init_735 : decode cX5_init 735 = .ok (.bastore, 1) := dk_84 (dk_at dksX5_init_30 18 rfl rfl)
theorem dX5_init_736 : decode cX5_init 736 = .ok (.dup, 1) := dk_89 (dk_at dksX5_init_30 19 rfl rfl)
theorem dX5_init_737 : decode cX5_init 737 = .ok (.bipush 115, 2) := dk_16 115 (dk_at dksX5_init_30 20 rfl rfl)
theorem dX5_init_739 : decode cX5_init 739 = .ok (.bipush 119, 2) := dk_16 119 (dk_at dksX5_init_30 22 rfl rfl)
theorem dX5_init_741 : decode cX5_init 741 = .ok (.bastore, 1) := dk_84 (dk_at dksX5_init_31 0 rfl rfl)
theorem dX5_init_742 : decode cX5_init 742 = .ok (.dup, 1) := dk_89 (dk_at dksX5_init_31 1 rfl rfl)
theorem dX5_init_743 : decode cX5_init 743 = .ok (.bipush 116, 2) := dk_16 116 (dk_at dksX5_init_31 2 rfl rfl)
theorem dX5_init_745 : decode cX5_init 745 = .ok (.bipush 101, 2) := dk_16 101 (dk_at dksX5_init_31 4 rfl rfl)
theorem dX5_init_747 : decode cX5_init 747 = .ok (.bastore, 1) := dk_84 (dk_at dksX5_init_31 6 rfl rfl)
theorem dX5_init_748 : decode cX5_init 748 = .ok (.dup, 1) := dk_89 (dk_at dksX5_init_31 7 rfl rfl)
theorem dX5_init_749 : decode cX5_init 749 = .ok (.bipush 117, 2) := dk_16 117 (dk_at dksX5_init_31 8 rfl rfl)
theorem dX5_init_751 : decode cX5_init 751 = .ok (.bipush 100, 2) := dk_16 100 (dk_at dksX5_init_31 10 rfl rfl)
theorem dX5_init_753 : decode cX5_init 753 = .ok (.bastore, 1) := dk_84 (dk_at dksX5_init_31 12 rfl rfl)
theorem dX5_init_754 : decode cX5_init 754 = .ok (.dup, 1) := dk_89 (dk_at dksX5_init_31 13 rfl rfl)
theorem dX5_init_755 : decode cX5_init 755 = .ok (.bipush 118, 2) := dk_16 118 (dk_at dksX5_init_31 14 rfl rfl)
theorem dX5_init_757 : decode cX5_init 757 = .ok (.bipush 32, 2) := dk_16 32 (dk_at dksX5_init_31 16 rfl rfl)
theorem dX5_init_759 : decode cX5_init 759 = .ok (.bastore, 1) := dk_84 (dk_at dksX5_init_31 18 rfl rfl)
theorem dX5_init_760 : decode cX5_init 760 = .ok (.dup, 1) := dk_89 (dk_at dksX5_init_31 19 rfl rfl)
theorem dX5_init_761 : decode cX5_init 761 = .ok (.bipush 119, 2) := dk_16 119 (dk_at dksX5_init_31 20 rfl rfl)
theorem dX5_init_763 : decode cX5_init 763 = .ok (.bipush 108, 2) := dk_16 108 (dk_at dksX5_init_31 22 rfl rfl)
theorem dX5_init_765 : decode cX5_init 765 = .ok (.bastore, 1) := dk_84 (dk_at dksX5_init_32 0 rfl rfl)
theorem dX5_init_766 : decode cX5_init 766 = .ok (.dup, 1) := dk_89 (dk_at dksX5_init_32 1 rfl rfl)
theorem dX5_init_767 : decode cX5_init 767 = .ok (.bipush 120, 2) := dk_16 120 (dk_at dksX5_init_32 2 rfl rfl)
theorem dX5_init_769 : decode cX5_init 769 = .ok (.bipush 101, 2) := dk_16 101 (dk_at dksX5_init_32 4 rfl rfl)
theorem dX5_init_771 : decode cX5_init 771 = .ok (.bastore, 1) := dk_84 (dk_at dksX5_init_32 6 rfl rfl)
theorem dX5_init_772 : decode cX5_init 772 = .ok (.dup, 1) := dk_89 (dk_at dksX5_init_32 7 rfl rfl)
theorem dX5_init_773 : decode cX5_init 773 = .ok (.bipush 121, 2) := dk_16 121 (dk_at dksX5_init_32 8 rfl rfl)
theorem dX5_init_775 : decode cX5_init 775 = .ok (.bipush 110, 2) := dk_16 110 (dk_at dksX5_init_32 10 rfl rfl)
theorem dX5_init_777 : decode cX5_init 777 = .ok (.bastore, 1) := dk_84 (dk_at dksX5_init_32 12 rfl rfl)
theorem dX5_init_778 : decode cX5_init 778 = .ok (.dup, 1) := dk_89 (dk_at dksX5_init_32 13 rfl rfl)
theorem dX5_init_779 : decode cX5_init 779 = .ok (.bipush 122, 2) := dk_16 122 (dk_at dksX5_init_32 14 rfl rfl)
theorem dX5_init_781 : decode cX5_init 781 = .ok (.bipush 100, 2) := dk_16 100 (dk_at dksX5_init_32 16 rfl rfl)
theorem dX5_init_783 : decode cX5_init 783 = .ok (.bastore, 1) := dk_84 (dk_at dksX5_init_32 18 rfl rfl)
theorem dX5_init_784 : decode cX5_init 784 = .ok (.dup, 1) := dk_89 (dk_at dksX5_init_32 19 rfl rfl)
theorem dX5_init_785 : decode cX5_init 785 = .ok (.bipush 123, 2) := dk_16 123 (dk_at dksX5_init_32 20 rfl rfl)
theorem dX5_init_787 : decode cX5_init 787 = .ok (.bipush 32, 2) := dk_16 32 (dk_at dksX5_init_32 22 rfl rfl)
theorem dX5_init_789 : decode cX5_init 789 = .ok (.bastore, 1) := dk_84 (dk_at dksX5_init_33 0 rfl rfl)
theorem dX5_init_790 : decode cX5_init 790 = .ok (.dup, 1) := dk_89 (dk_at dksX5_init_33 1 rfl rfl)
theorem dX5_init_791 : decode cX5_init 791 = .ok (.bipush 124, 2) := dk_16 124 (dk_at dksX5_init_33 2 rfl rfl)
theorem dX5_init_793 : decode cX5_init 793 = .ok (.bipush 114, 2) := dk_16 114 (dk_at dksX5_init_33 4 rfl rfl)
theorem dX5_init_795 : decode cX5_init 795 = .ok (.bastore, 1) := dk_84 (dk_at dksX5_init_33 6 rfl rfl)
theorem dX5_init_796 : decode cX5_init 796 = .ok (.dup, 1) := dk_89 (dk_at dksX5_init_33 7 rfl rfl)
theorem dX5_init_797 : decode cX5_init 797 = .ok (.bipush 125, 2) := dk_16 125 (dk_at dksX5_init_33 8 rfl rfl)
theorem dX5_init_799 : decode cX5_init 799 = .ok (.bipush 101, 2) := dk_16 101 (dk_at dksX5_init_33 10 rfl rfl)
theorem dX5_init_801 : decode cX5_init 801 = .ok (.bastore, 1) := dk_84 (dk_at dksX5_init_33 12 rfl rfl)
theorem dX5_init_802 : decode cX5_init 802 = .ok (.dup, 1) := dk_89 (dk_at dksX5_init_33 13 rfl rfl)
theorem dX5_init_803 : decode cX5_init 803 = .ok (.bipush 126, 2) := dk_16 126 (dk_at dksX5_init_33 14 rfl rfl)
theorem dX5_init_805 : decode cX5_init 805 = .ok (.bipush 112, 2) := dk_16 112 (dk_at dksX5_init_33 16 rfl rfl)
theorem dX5_init_807 : decode cX5_init 807 = .ok (.bastore, 1) := dk_84 (dk_at dksX5_init_33 18 rfl rfl)
theorem dX5_init_808 : decode cX5_init 808 = .ok (.dup, 1) := dk_89 (dk_at dksX5_init_33 19 rfl rfl)
theorem dX5_init_809 : decode cX5_init 809 = .ok (.bipush 127, 2) := dk_16 127 (dk_at dksX5_init_33 20 rfl rfl)
theorem dX5_init_811 : decode cX5_init 811 = .ok (.bipush 97, 2) := dk_16 97 (dk_at dksX5_init_33 22 rfl rfl)
theorem dX5_init_813 : decode cX5_init 813 = .ok (.bastore, 1) := dk_84 (dk_at dksX5_init_34 0 rfl rfl)
theorem dX5_init_814 : decode cX5_init 814 = .ok (.dup, 1) := dk_89 (dk_at dksX5_init_34 1 rfl rfl)
theorem dX5_init_815 : decode cX5_init 815 = .ok (.sipush 128, 3) := dk_17 0 128 (dk_at dksX5_init_34 2 rfl rfl)
theorem dX5_init_818 : decode cX5_init 818 = .ok (.bipush 121, 2) := dk_16 121 (dk_at dksX5_init_34 5 rfl rfl)
theorem dX5_init_820 : decode cX5_init 820 = .ok (.bastore, 1) := dk_84 (dk_at dksX5_init_34 7 rfl rfl)
theorem dX5_init_821 : decode cX5_init 821 = .ok (.dup, 1) := dk_89 (dk_at dksX5_init_34 8 rfl rfl)
theorem dX5_init_822 : decode cX5_init 822 = .ok (.sipush 129, 3) := dk_17 0 129 (dk_at dksX5_init_34 9 rfl rfl)
theorem dX5_init_825 : decode cX5_init 825 = .ok (.bipush 32, 2) := dk_16 32 (dk_at dksX5_init_34 12 rfl rfl)
theorem dX5_init_827 : decode cX5_init 827 = .ok (.bastore, 1) := dk_84 (dk_at dksX5_init_34 14 rfl rfl)
theorem dX5_init_828 : decode cX5_init 828 = .ok (.dup, 1) := dk_89 (dk_at dksX5_init_34 15 rfl rfl)
theorem dX5_init_829 : decode cX5_init 829 = .ok (.sipush 130, 3) := dk_17 0 130 (dk_at dksX5_init_34 16 rfl rfl)
theorem dX5_init_832 : decode cX5_init 832 = .ok (.bipush 119, 2) := dk_16 119 (dk_at dksX5_init_34 19 rfl rfl)
theorem dX5_init_834 : decode cX5_init 834 = .ok (.bastore, 1) := dk_84 (dk_at dksX5_init_34 21 rfl rfl)
theorem dX5_init_835 : decode cX5_init 835 = .ok (.dup, 1) := dk_89 (dk_at dksX5_init_34 22 rfl rfl)
theorem dX5_init_836 : decode cX5_init 836 = .ok (.sipush 131, 3) := dk_17 0 131 (dk_at dksX5_init_35 0 rfl rfl)
theorem dX5_init_839 : decode cX5_init 839 = .ok (.bipush 97, 2) := dk_16 97 (dk_at dksX5_init_35 3 rfl rfl)
theorem dX5_init_841 : decode cX5_init 841 = .ok (.bastore, 1) := dk_84 (dk_at dksX5_init_35 5 rfl rfl)
theorem dX5_init_842 : decode cX5_init 842 = .ok (.dup, 1) := dk_89 (dk_at dksX5_init_35 6 rfl rfl)
theorem dX5_init_843 : decode cX5_init 843 = .ok (.sipush 132, 3) := dk_17 0 132 (dk_at dksX5_init_35 7 rfl rfl)
theorem dX5_init_846 : decode cX5_init 846 = .ok (.bipush 105, 2) := dk_16 105 (dk_at dksX5_init_35 10 rfl rfl)
theorem dX5_init_848 : decode cX5_init 848 = .ok (.bastore, 1) := dk_84 (dk_at dksX5_init_35 12 rfl rfl)
theorem dX5_init_849 : decode cX5_init 849 = .ok (.dup, 1) := dk_89 (dk_at dksX5_init_35 13 rfl rfl)
theorem dX5_init_850 : decode cX5_init 850 = .ok (.sipush 133, 3) := dk_17 0 133 (dk_at dksX5_init_35 14 rfl rfl)
theorem dX5_init_853 : decode cX5_init 853 = .ok (.bipush 116, 2) := dk_16 116 (dk_at dksX5_init_35 17 rfl rfl)
theorem dX5_init_855 : decode cX5_init 855 = .ok (.bastore, 1) := dk_84 (dk_at dksX5_init_35 19 rfl rfl)
theorem dX5_init_856 : decode cX5_init 856 = .ok (.dup, 1) := dk_89 (dk_at dksX5_init_35 20 rfl rfl)
theorem dX5_init_857 : decode cX5_init 857 = .ok (.sipush 134, 3) := dk_17 0 134 (dk_at dksX5_init_35 21 rfl rfl)
theorem dX5_init_860 : decode cX5_init 860 = .ok (.bipush 32, 2) := dk_16 32 (dk_at dksX5_init_36 0 rfl rfl)
theorem dX5_init_862 : decode cX5_init 862 = .ok (.bastore, 1) := dk_84 (dk_at dksX5_init_36 2 rfl rfl)
theorem dX5_init_863 : decode cX5_init 863 = .ok (.dup, 1) := dk_89 (dk_at dksX5_init_36 3 rfl rfl)
theorem dX5_init_864 : decode cX5_init 864 = .ok (.sipush 135, 3) := dk_17 0 135 (dk_at dksX5_init_36 4 rfl rfl)
theorem dX5_init_867 : decode cX5_init 867 = .ok (.bipush 116, 2) := dk_16 116 (dk_at dksX5_init_36 7 rfl rfl)
theorem dX5_init_869 : decode cX5_init 869 = .ok (.bastore, 1) := dk_84 (dk_at dksX5_init_36 9 rfl rfl)
theorem dX5_init_870 : decode cX5_init 870 = .ok (.dup, 1) := dk_89 (dk_at dksX5_init_36 10 rfl rfl)
theorem dX5_init_871 : decode cX5_init 871 = .ok (.sipush 136, 3) := dk_17 0 136 (dk_at dksX5_init_36 11 rfl rfl)
theorem dX5_init_874 : decode cX5_init 874 = .ok (.bipush 111, 2) := dk_16 111 (dk_at dksX5_init_36 14 rfl rfl)
theorem dX5_init_876 : decode cX5_init 876 = .ok (.bastore, 1) := dk_84 (dk_at dksX5_init_36 16 rfl rfl)
theorem dX5_init_877 : decode cX5_init 877 = .ok (.dup, 1) := dk_89 (dk_at dksX5_init_36 17 rfl rfl)
theorem dX5_init_878 : decode cX5_init 878 = .ok (.sipush 137, 3) := dk_17 0 137 (dk_at dksX5_init_36 18 rfl rfl)
theorem dX5_init_881 : decode cX5_init 881 = .ok (.bipush 32, 2) := dk_16 32 (dk_at dksX5_init_36 21 rfl rfl)
theorem dX5_init_883 : decode cX5_init 883 = .ok (.bastore, 1) := dk_84 (dk_at dksX5_init_36 23 rfl rfl)
theorem dX5_init_884 : decode cX5_init 884 = .ok (.dup, 1) := dk_89 (dk_at dksX5_init_37 0 rfl rfl)
theorem dX5_init_885 : decode cX5_init 885 = .ok (.sipush 138, 3) := dk_17 0 138 (dk_at dksX5_init_37 1 rfl rfl)
theorem dX5_init_888 : decode cX5_init 888 = .ok (.bipush 111, 2) := dk_16 111 (dk_at dksX5_init_37 4 rfl rfl)
theorem dX5_init_890 : decode cX5_init 890 = .ok (.bastore, 1) := dk_84 (dk_at dksX5_init_37 6 rfl rfl)
theorem dX5_init_891 : decode cX5_init 891 = .ok (.dup, 1) := dk_89 (dk_at dksX5_init_37 7 rfl rfl)
theorem dX5_init_892 : decode cX5_init 892 = .ok (.sipush 139, 3) := dk_17 0 139 (dk_at dksX5_init_37 8 rfl rfl)
theorem dX5_init_895 : decode cX5_init 895 = .ok (.bipush 102, 2) := dk_16 102 (dk_at dksX5_init_37 11 rfl rfl)
theorem dX5_init_897 : decode cX5_init 897 = .ok (.bastore, 1) := dk_84 (dk_at dksX5_init_37 13 rfl rfl)
theorem dX5_init_898 : decode cX5_init 898 = .ok (.dup, 1) := dk_89 (dk_at dksX5_init_37 14 rfl rfl)
theorem dX5_init_899 : decode cX5_init 899 = .ok (.sipush 140, 3) := dk_17 0 140 (dk_at dksX5_init_37 15 rfl rfl)
theorem dX5_init_902 : decode cX5_init 902 = .ok (.bipush 32, 2) := dk_16 32 (dk_at dksX5_init_37 18 rfl rfl)
theorem dX5_init_904 : decode cX5_init 904 = .ok (.bastore, 1) := dk_84 (dk_at dksX5_init_37 20 rfl rfl)
theorem dX5_init_905 : decode cX5_init 905 = .ok (.dup, 1) := dk_89 (dk_at dksX5_init_37 21 rfl rfl)
theorem dX5_init_906 : decode cX5_init 906 = .ok (.sipush 141, 3) := dk_17 0 141 (dk_at dksX5_init_38 0 rfl rfl)
theorem dX5_init_909 : decode cX5_init 909 = .ok (.bipush 116, 2) := dk_16 116 (dk_at dksX5_init_38 3 rfl rfl)
theorem dX5_init_911 : decode cX5_init 911 = .ok (.bastore, 1) := dk_84 (dk_at dksX5_init_38 5 rfl rfl)
theorem dX5_init_912 : decode cX5_init 912 = .ok (.dup, 1) := dk_89 (dk_at dksX5_init_38 6 rfl rfl)
theorem dX5_init_913 : decode cX5_init 913 = .ok (.sipush 142, 3) := dk_17 0 142 (dk_at dksX5_init_38 7 rfl rfl)
theorem dX5_init_916 : decode cX5_init 916 = .ok (.bipush 105, 2) := dk_16 105 (dk_at dksX5_init_38 10 rfl rfl)
theorem dX5_init_918 : decode cX5_init 918 = .ok (.bastore, 1) := dk_84 (dk_at dksX5_init_38 12 rfl rfl)
theorem dX5_init_919 : decode cX5_init 919 = .ok (.dup, 1) := dk_89 (dk_at dksX5_init_38 13 rfl rfl)
theorem dX5_init_920 : decode cX5_init 920 = .ok (.sipush 143, 3) := dk_17 0 143 (dk_at dksX5_init_38 14 rfl rfl)
theorem dX5_init_923 : decode cX5_init 923 = .ok (.bipush 109, 2) := dk_16 109 (dk_at dksX5_init_38 17 rfl rfl)
theorem dX5_init_925 : decode cX5_init 925 = .ok (.bastore, 1) := dk_84 (dk_at dksX5_init_38 19 rfl rfl)
theorem dX5_init_926 : decode cX5_init 926 = .ok (.dup, 1) := dk_89 (dk_at dksX5_init_38 20 rfl rfl)
theorem dX5_init_927 : decode cX5_init 927 = .ok (.sipush 144, 3) := dk_17 0 144 (dk_at dksX5_init_38 21 rfl rfl)
theorem dX5_init_930 : decode cX5_init 930 = .ok (.bipush 101, 2) := dk_16 101 (dk_at dksX5_init_39 0 rfl rfl)
theorem dX5_init_932 : decode cX5_init 932 = .ok (.bastore, 1) := dk_84 (dk_at dksX5_init_39 2 rfl rfl)
theorem dX5_init_933 : decode cX5_init 933 = .ok (.dup, 1) := dk_89 (dk_at dksX5_init_39 3 rfl rfl)
theorem dX5_init_934 : decode cX5_init 934 = .ok (.sipush 145, 3) := dk_17 0 145 (dk_at dksX5_init_39 4 rfl rfl)
theorem dX5_init_937 : decode cX5_init 937 = .ok (.bipush 115, 2) := dk_16 115 (dk_at dksX5_init_39 7 rfl rfl)
theorem dX5_init_939 : decode cX5_init 939 = .ok (.bastore, 1) := dk_84 (dk_at dksX5_init_39 9 rfl rfl)
theorem dX5_init_940 : decode cX5_init 940 = .ok (.dup, 1) := dk_89 (dk_at dksX5_init_39 10 rfl rfl)
theorem dX5_init_941 : decode cX5_init 941 = .ok (.sipush 146, 3) := dk_17 0 146 (dk_at dksX5_init_39 11 rfl rfl)
theorem dX5_init_944 : decode cX5_init 944 = .ok (.bipush 32, 2) := dk_16 32 (dk_at dksX5_init_39 14 rfl rfl)
theorem dX5_init_946 : decode cX5_init 946 = .ok (.bastore, 1) := dk_84 (dk_at dksX5_init_39 16 rfl rfl)
theorem dX5_init_947 : decode cX5_init 947 = .ok (.putfield 37, 3) := dk_181 0 37 (dk_at dksX5_init_39 17 rfl rfl)
theorem dX5_init_950 : decode cX5_init 950 = .ok (.aload_n 0, 1) := dk_42 (dk_at dksX5_init_39 20 rfl rfl)
theorem dX5_init_951 : decode cX5_init 951 = .ok (.sipush 400, 3) := dk_17 1 144 (dk_at dksX5_init_39 21 rfl rfl)
theorem dX5_init_954 : decode cX5_init 954 = .ok (.newarray .byte, 2) := dk_188_8 (dk_at dksX5_init_40 0 rfl rfl)
theorem dX5_init_956 : decode cX5_init 956 = .ok (.putfield 41, 3) := dk_181 0 41 (dk_at dksX5_init_40 2 rfl rfl)
theorem dX5_init_959 : decode cX5_init 959 = .ok (.aload_n 0, 1) := dk_42 (dk_at dksX5_init_40 5 rfl rfl)
theorem dX5_init_960 : decode cX5_init 960 = .ok (.iconst 5, 1) := dk_8 (dk_at dksX5_init_40 6 rfl rfl)
theorem dX5_init_961 : decode cX5_init 961 = .ok (.newarray .int, 2) := dk_188_10 (dk_at dksX5_init_40 7 rfl rfl)
theorem dX5_init_963 : decode cX5_init 963 = .ok (.putfield 44, 3) := dk_181 0 44 (dk_at dksX5_init_40 9 rfl rfl)
theorem dX5_init_966 : decode cX5_init 966 = .ok (.aload_n 0, 1) := dk_42 (dk_at dksX5_init_40 12 rfl rfl)
theorem dX5_init_967 : decode cX5_init 967 = .ok (.iconst (-1), 1) := dk_2 (dk_at dksX5_init_40 13 rfl rfl)
theorem dX5_init_968 : decode cX5_init 968 = .ok (.putfield 47, 3) := dk_181 0 47 (dk_at dksX5_init_40 14 rfl rfl)
theorem dX5_init_971 : decode cX5_init 971 = .ok (.aload_n 0, 1) := dk_42 (dk_at dksX5_init_40 17 rfl rfl)
theorem dX5_init_972 : decode cX5_init 972 = .ok (.sipush 401, 3) := dk_17 1 145 (dk_at dksX5_init_40 18 rfl rfl)
theorem dX5_init_975 : decode cX5_init 975 = .ok (.newarray .int, 2) := dk_188_10 (dk_at dksX5_init_40 21 rfl rfl)
theorem dX5_init_977 : decode cX5_init 977 = .ok (.putfield 50, 3) := dk_181 0 50 (dk_at dksX5_init_41 0 rfl rfl)
theorem dX5_init_980 : decode cX5_init 980 = .ok (.aload_n 0, 1) := dk_42 (dk_at dksX5_init_41 3 rfl rfl)
theorem dX5_init_981 : decode cX5_init 981 = .ok (.sipush 401, 3) := dk_17 1 145 (dk_at dksX5_init_41 4 rfl rfl)
theorem dX5_init_984 : decode cX5_init 984 = .ok (.newarray .int, 2) := dk_188_10 (dk_at dksX5_init_41 7 rfl rfl)
theorem dX5_init_986 : decode cX5_init 986 = .ok (.putfield 53, 3) := dk_181 0 53 (dk_at dksX5_init_41 9 rfl rfl)
theorem dX5_init_989 : decode cX5_init 989 = .ok (.aload_n 0, 1) := dk_42 (dk_at dksX5_init_41 12 rfl rfl)
theorem dX5_init_990 : decode cX5_init 990 = .ok (.sipush 401, 3) := dk_17 1 145 (dk_at dksX5_init_41 13 rfl rfl)
theorem dX5_init_993 : decode cX5_init 993 = .ok (.newarray .int, 2) := dk_188_10 (dk_at dksX5_init_41 16 rfl rfl)
theorem dX5_init_995 : decode cX5_init 995 = .ok (.putfield 56, 3) := dk_181 0 56 (dk_at dksX5_init_41 18 rfl rfl)
theorem dX5_init_998 : decode cX5_init 998 = .ok (.aload_n 0, 1) := dk_42 (dk_at dksX5_init_41 21 rfl rfl)
theorem dX5_init_999 : decode cX5_init 999 = .ok (.bipush 10, 2) := dk_16 10 (dk_at dksX5_init_41 22 rfl rfl)
theorem dX5_init_1001 : decode cX5_init 1001 = .ok (.newarray .int, 2) := dk_188_10 (dk_at dksX5_init_42 0 rfl rfl)
theorem dX5_init_1003 : decode cX5_init 1003 = .ok (.putfield 59, 3) := dk_181 0 59 (dk_at dksX5_init_42 2 rfl rfl)
theorem dX5_init_1006 : decode cX5_init 1006 = .ok (.aload_n 0, 1) := dk_42 (dk_at dksX5_init_42 5 rfl rfl)
theorem dX5_init_1007 : decode cX5_init 1007 = .ok (.iconst 4, 1) := dk_7 (dk_at dksX5_init_42 6 rfl rfl)
theorem dX5_init_1008 : decode cX5_init 1008 = .ok (.newarray .int, 2) := dk_188_10 (dk_at dksX5_init_42 7 rfl rfl)
theorem dX5_init_1010 : decode cX5_init 1010 = .ok (.putfield 62, 3) := dk_181 0 62 (dk_at dksX5_init_42 9 rfl rfl)
theorem dX5_init_1013 : decode cX5_init 1013 = .ok (.aload_n 0, 1) := dk_42 (dk_at dksX5_init_42 12 rfl rfl)
theorem dX5_init_1014 : decode cX5_init 1014 = .ok (.sipush 1184, 3) := dk_17 4 160 (dk_at dksX5_init_42 13 rfl rfl)
theorem dX5_init_1017 : decode cX5_init 1017 = .ok (.newarray .int, 2) := dk_188_10 (dk_at dksX5_init_42 16 rfl rfl)
theorem dX5_init_1019 : decode cX5_init 1019 = .ok (.putfield 65, 3) := dk_181 0 65 (dk_at dksX5_init_42 18 rfl rfl)
theorem dX5_init_1022 : decode cX5_init 1022 = .ok (.aload_n 0, 1) := dk_42 (dk_at dksX5_init_42 21 rfl rfl)
theorem dX5_init_1023 : decode cX5_init 1023 = .ok (.sipush 1184, 3) := dk_17 4 160 (dk_at dksX5_init_43 0 rfl rfl)
theorem dX5_init_1026 : decode cX5_init 1026 = .ok (.newarray .int, 2) := dk_188_10 (dk_at dksX5_init_43 3 rfl rfl)
theorem dX5_init_1028 : decode cX5_init 1028 = .ok (.putfield 68, 3) := dk_181 0 68 (dk_at dksX5_init_43 5 rfl rfl)
theorem dX5_init_1031 : decode cX5_init 1031 = .ok (.aload_n 0, 1) := dk_42 (dk_at dksX5_init_43 8 rfl rfl)
theorem dX5_init_1032 : decode cX5_init 1032 = .ok (.bipush 8, 2) := dk_16 8 (dk_at dksX5_init_43 9 rfl rfl)
theorem dX5_init_1034 : decode cX5_init 1034 = .ok (.newarray .int, 2) := dk_188_10 (dk_at dksX5_init_43 11 rfl rfl)
theorem dX5_init_1036 : decode cX5_init 1036 = .ok (.putfield 71, 3) := dk_181 0 71 (dk_at dksX5_init_43 13 rfl rfl)
theorem dX5_init_1039 : decode cX5_init 1039 = .ok (.aload_n 0, 1) := dk_42 (dk_at dksX5_init_43 16 rfl rfl)
theorem dX5_init_1040 : decode cX5_init 1040 = .ok (.bipush 8, 2) := dk_16 8 (dk_at dksX5_init_43 17 rfl rfl)
theorem dX5_init_1042 : decode cX5_init 1042 = .ok (.newarray .int, 2) := dk_188_10 (dk_at dksX5_init_43 19 rfl rfl)
theorem dX5_init_1044 : decode cX5_init 1044 = .ok (.putfield 74, 3) := dk_181 0 74 (dk_at dksX5_init_43 21 rfl rfl)
theorem dX5_init_1047 : decode cX5_init 1047 = .ok (.aload_n 0, 1) := dk_42 (dk_at dksX5_init_44 0 rfl rfl)
theorem dX5_init_1048 : decode cX5_init 1048 = .ok (.bipush 8, 2) := dk_16 8 (dk_at dksX5_init_44 1 rfl rfl)
theorem dX5_init_1050 : decode cX5_init 1050 = .ok (.newarray .int, 2) := dk_188_10 (dk_at dksX5_init_44 3 rfl rfl)
theorem dX5_init_1052 : decode cX5_init 1052 = .ok (.putfield 77, 3) := dk_181 0 77 (dk_at dksX5_init_44 5 rfl rfl)
theorem dX5_init_1055 : decode cX5_init 1055 = .ok (.aload_n 0, 1) := dk_42 (dk_at dksX5_init_44 8 rfl rfl)
theorem dX5_init_1056 : decode cX5_init 1056 = .ok (.bipush 8, 2) := dk_16 8 (dk_at dksX5_init_44 9 rfl rfl)
theorem dX5_init_1058 : decode cX5_init 1058 = .ok (.newarray .int, 2) := dk_188_10 (dk_at dksX5_init_44 11 rfl rfl)
theorem dX5_init_1060 : decode cX5_init 1060 = .ok (.putfield 80, 3) := dk_181 0 80 (dk_at dksX5_init_44 13 rfl rfl)
theorem dX5_init_1063 : decode cX5_init 1063 = .ok (.aload_n 0, 1) := dk_42 (dk_at dksX5_init_44 16 rfl rfl)
theorem dX5_init_1064 : decode cX5_init 1064 = .ok (.sipush 256, 3) := dk_17 1 0 (dk_at dksX5_init_44 17 rfl rfl)
theorem dX5_init_1067 : decode cX5_init 1067 = .ok (.newarray .int, 2) := dk_188_10 (dk_at dksX5_init_44 20 rfl rfl)
theorem dX5_init_1069 : decode cX5_init 1069 = .ok (.putfield 83, 3) := dk_181 0 83 (dk_at dksX5_init_45 0 rfl rfl)
theorem dX5_init_1072 : decode cX5_init 1072 = .ok (.aload_n 0, 1) := dk_42 (dk_at dksX5_init_45 3 rfl rfl)
theorem dX5_init_1073 : decode cX5_init 1073 = .ok (.bipush 8, 2) := dk_16 8 (dk_at dksX5_init_45 4 rfl rfl)
theorem dX5_init_1075 : decode cX5_init 1075 = .ok (.newarray .int, 2) := dk_188_10 (dk_at dksX5_init_45 6 rfl rfl)
theorem dX5_init_1077 : decode cX5_init 1077 = .ok (.putfield 86, 3) := dk_181 0 86 (dk_at dksX5_init_45 8 rfl rfl)
theorem dX5_init_1080 : decode cX5_init 1080 = .ok (.aload_n 0, 1) := dk_42 (dk_at dksX5_init_45 11 rfl rfl)
theorem dX5_init_1081 : decode cX5_init 1081 = .ok (.bipush 8, 2) := dk_16 8 (dk_at dksX5_init_45 12 rfl rfl)
theorem dX5_init_1083 : decode cX5_init 1083 = .ok (.newarray .int, 2) := dk_188_10 (dk_at dksX5_init_45 14 rfl rfl)
theorem dX5_init_1085 : decode cX5_init 1085 = .ok (.putfield 89, 3) := dk_181 0 89 (dk_at dksX5_init_45 16 rfl rfl)
theorem dX5_init_1088 : decode cX5_init 1088 = .ok (.aload_n 0, 1) := dk_42 (dk_at dksX5_init_45 19 rfl rfl)
theorem dX5_init_1089 : decode cX5_init 1089 = .ok (.bipush 16, 2) := dk_16 16 (dk_at dksX5_init_45 20 rfl rfl)
theorem dX5_init_1091 : decode cX5_init 1091 = .ok (.newarray .int, 2) := dk_188_10 (dk_at dksX5_init_45 22 rfl rfl)
theorem dX5_init_1093 : decode cX5_init 1093 = .ok (.putfield 92, 3) := dk_181 0 92 (dk_at dksX5_init_46 0 rfl rfl)
theorem dX5_init_1096 : decode cX5_init 1096 = .ok (.aload_n 0, 1) := dk_42 (dk_at dksX5_init_46 3 rfl rfl)
theorem dX5_init_1097 : decode cX5_init 1097 = .ok (.bipush 7, 2) := dk_16 7 (dk_at dksX5_init_46 4 rfl rfl)
theorem dX5_init_1099 : decode cX5_init 1099 = .ok (.newarray .int, 2) := dk_188_10 (dk_at dksX5_init_46 6 rfl rfl)
theorem dX5_init_1101 : decode cX5_init 1101 = .ok (.putfield 95, 3) := dk_181 0 95 (dk_at dksX5_init_46 8 rfl rfl)
theorem dX5_init_1104 : decode cX5_init 1104 = .ok (.aload_n 0, 1) := dk_42 (dk_at dksX5_init_46 11 rfl rfl)
theorem dX5_init_1105 : decode cX5_init 1105 = .ok (.bipush 7, 2) := dk_16 7 (dk_at dksX5_init_46 12 rfl rfl)
theorem dX5_init_1107 : decode cX5_init 1107 = .ok (.newarray .int, 2) := dk_188_10 (dk_at dksX5_init_46 14 rfl rfl)
theorem dX5_init_1109 : decode cX5_init 1109 = .ok (.putfield 98, 3) := dk_181 0 98 (dk_at dksX5_init_46 16 rfl rfl)
theorem dX5_init_1112 : decode cX5_init 1112 = .ok (.aload_n 0, 1) := dk_42 (dk_at dksX5_init_46 19 rfl rfl)
theorem dX5_init_1113 : decode cX5_init 1113 = .ok (.bipush 49, 2) := dk_16 49 (dk_at dksX5_init_46 20 rfl rfl)
theorem dX5_init_1115 : decode cX5_init 1115 = .ok (.newarray .int, 2) := dk_188_10 (dk_at dksX5_init_46 22 rfl rfl)
theorem dX5_init_1117 : decode cX5_init 1117 = .ok (.putfield 101, 3) := dk_181 0 101 (dk_at dksX5_init_47 0 rfl rfl)
theorem dX5_init_1120 : decode cX5_init 1120 = .ok (.aload_n 0, 1) := dk_42 (dk_at dksX5_init_47 3 rfl rfl)
theorem dX5_init_1121 : decode cX5_init 1121 = .ok (.sipush 256, 3) := dk_17 1 0 (dk_at dksX5_init_47 4 rfl rfl)
theorem dX5_init_1124 : decode cX5_init 1124 = .ok (.newarray .int, 2) := dk_188_10 (dk_at dksX5_init_47 7 rfl rfl)
theorem dX5_init_1126 : decode cX5_init 1126 = .ok (.putfield 104, 3) := dk_181 0 104 (dk_at dksX5_init_47 9 rfl rfl)
theorem dX5_init_1129 : decode cX5_init 1129 = .ok (.aload_n 0, 1) := dk_42 (dk_at dksX5_init_47 12 rfl rfl)
theorem dX5_init_1130 : decode cX5_init 1130 = .ok (.iconst (-1), 1) := dk_2 (dk_at dksX5_init_47 13 rfl rfl)
theorem dX5_init_1131 : decode cX5_init 1131 = .ok (.putfield 107, 3) := dk_181 0 107 (dk_at dksX5_init_47 14 rfl rfl)
theorem dX5_init_1134 : decode cX5_init 1134 = .ok (.aload_n 0, 1) := dk_42 (dk_at dksX5_init_47 17 rfl rfl)
theorem dX5_init_1135 : decode cX5_init 1135 = .ok (.iconst 3, 1) := dk_6 (dk_at dksX5_init_47 18 rfl rfl)
theorem dX5_init_1136 : decode cX5_init 1136 = .ok (.newarray .long, 2) := dk_188_11 (dk_at dksX5_init_47 19 rfl rfl)
theorem dX5_init_1138 : decode cX5_init 1138 = .ok (.putfield 110, 3) := dk_181 0 110 (dk_at dksX5_init_47 21 rfl rfl)
theorem dX5_init_1141 : decode cX5_init 1141 = .ok (.aload_n 0, 1) := dk_42 (dk_at dksX5_init_48 0 rfl rfl)
theorem dX5_init_1142 : decode cX5_init 1142 = .ok (.bipush 7, 2) := dk_16 7 (dk_at dksX5_init_48 1 rfl rfl)
theorem dX5_init_1144 : decode cX5_init 1144 = .ok (.newarray .int, 2) := dk_188_10 (dk_at dksX5_init_48 3 rfl rfl)
theorem dX5_init_1146 : decode cX5_init 1146 = .ok (.putfield 114, 3) := dk_181 0 114 (dk_at dksX5_init_48 5 rfl rfl)
theorem dX5_init_1149 : decode cX5_init 1149 = .ok (.aload_n 0, 1) := dk_42 (dk_at dksX5_init_48 8 rfl rfl)
theorem dX5_init_1150 : decode cX5_init 1150 = .ok (.bipush 7, 2) := dk_16 7 (dk_at dksX5_init_48 9 rfl rfl)
theorem dX5_init_1152 : decode cX5_init 1152 = .ok (.newarray .int, 2) := dk_188_10 (dk_at dksX5_init_48 11 rfl rfl)
theorem dX5_init_1154 : decode cX5_init 1154 = .ok (.putfield 117, 3) := dk_181 0 117 (dk_at dksX5_init_48 13 rfl rfl)
theorem dX5_init_1157 : decode cX5_init 1157 = .ok (.aload_n 0, 1) := dk_42 (dk_at dksX5_init_48 16 rfl rfl)
theorem dX5_init_1158 : decode cX5_init 1158 = .ok (.bipush 7, 2) := dk_16 7 (dk_at dksX5_init_48 17 rfl rfl)
theorem dX5_init_1160 : decode cX5_init 1160 = .ok (.newarray .int, 2) := dk_188_10 (dk_at dksX5_init_48 19 rfl rfl)
theorem dX5_init_1162 : decode cX5_init 1162 = .ok (.putfield 120, 3) := dk_181 0 120 (dk_at dksX5_init_48 21 rfl rfl)
theorem dX5_init_1165 : decode cX5_init 1165 = .ok (.aload_n 0, 1) := dk_42 (dk_at dksX5_init_49 0 rfl rfl)
theorem dX5_init_1166 : decode cX5_init 1166 = .ok (.getfield 24, 3) := dk_180 0 24 (dk_at dksX5_init_49 1 rfl rfl)
theorem dX5_init_1169 : decode cX5_init 1169 = .ok (.sipush 156, 3) := dk_17 0 156 (dk_at dksX5_init_49 4 rfl rfl)
theorem dX5_init_1172 : decode cX5_init 1172 = .ok (.iconst (-1), 1) := dk_2 (dk_at dksX5_init_49 7 rfl rfl)
theorem dX5_init_1173 : decode cX5_init 1173 = .ok (.iastore, 1) := dk_79 (dk_at dksX5_init_49 8 rfl rfl)
theorem dX5_init_1174 : decode cX5_init 1174 = .ok (.return_, 1) := dk_177 (dk_at dksX5_init_49 9 rfl rfl)
theorem ff_X5_7_5 : ax_FF RX5 7 5 1 (tyX5 1) 1 false := ⟨RX5, TX5, 61, tyX5, "DebtDoorsModel", kd5, in_X5, tyX5_ok, apX5, by decide, rfl, ⟨fun h => absurd h (by decide), fun _ => rfl⟩, q1963, Or.inl rfl, fun _ => rfl⟩
theorem ff_X5_24_5 : ax_FF RX5 24 5 2 (tyX5 2) 1 false := ⟨RX5, TX5, 61, tyX5, "DebtDoorsModel", kd5, in_X5, tyX5_ok, apX5, by decide, rfl, ⟨fun h => absurd h (by decide), fun _ => rfl⟩, q1964, Or.inl rfl, fun _ => rfl⟩
theorem ff_X5_27_5 : ax_FF RX5 27 5 3 (tyX5 3) 1 false := ⟨RX5, TX5, 61, tyX5, "DebtDoorsModel", kd5, in_X5, tyX5_ok, apX5, by decide, rfl, ⟨fun h => absurd h (by decide), fun _ => rfl⟩, q1965, Or.inl rfl, fun _ => rfl⟩
theorem ff_X5_30_5 : ax_FF RX5 30 5 4 (tyX5 4) 1 false := ⟨RX5, TX5, 61, tyX5, "DebtDoorsModel", kd5, in_X5, tyX5_ok, apX5, by decide, rfl, ⟨fun h => absurd h (by decide), fun _ => rfl⟩, q1966, Or.inl rfl, fun _ => rfl⟩
theorem ff_X5_34_5 : ax_FF RX5 34 5 5 (tyX5 5) 1 false := ⟨RX5, TX5, 61, tyX5, "DebtDoorsModel", kd5, in_X5, tyX5_ok, apX5, by decide, rfl, ⟨fun h => absurd h (by decide), fun _ => rfl⟩, q1967, Or.inl rfl, fun _ => rfl⟩
theorem ff_X5_37_5 : ax_FF RX5 37 5 7 (tyX5 7) 1 false := ⟨RX5, TX5, 61, tyX5, "DebtDoorsModel", kd5, in_X5, tyX5_ok, apX5, by decide, rfl, ⟨fun h => absurd h (by decide), fun _ => rfl⟩, q1969, Or.inl rfl, fun _ => rfl⟩
theorem ff_X5_41_5 : ax_FF RX5 41 5 9 (tyX5 9) 1 false := ⟨RX5, TX5, 61, tyX5, "DebtDoorsModel", kd5, in_X5, tyX5_ok, apX5, by decide, rfl, ⟨fun h => absurd h (by decide), fun _ => rfl⟩, q1971, Or.inl rfl, fun _ => rfl⟩
theorem ff_X5_44_5 : ax_FF RX5 44 5 10 (tyX5 10) 1 false := ⟨RX5, TX5, 61, tyX5, "DebtDoorsModel", kd5, in_X5, tyX5_ok, apX5, by decide, rfl, ⟨fun h => absurd h (by decide), fun _ => rfl⟩, q1972, Or.inl rfl, fun _ => rfl⟩
theorem ff_X5_47_5 : ax_FF RX5 47 5 12 (tyX5 12) 0 false := ⟨RX5, TX5, 61, tyX5, "DebtDoorsModel", kd5, in_X5, tyX5_ok, apX5, by decide, rfl, ⟨fun _ => rfl, fun h => absurd h (by decide)⟩, q1974, Or.inl rfl, fun h => absurd h (by decide)⟩
theorem ff_X5_50_5 : ax_FF RX5 50 5 13 (tyX5 13) 1 false := ⟨RX5, TX5, 61, tyX5, "DebtDoorsModel", kd5, in_X5, tyX5_ok, apX5, by decide, rfl, ⟨fun h => absurd h (by decide), fun _ => rfl⟩, q1975, Or.inl rfl, fun _ => rfl⟩
theorem ff_X5_53_5 : ax_FF RX5 53 5 14 (tyX5 14) 1 false := ⟨RX5, TX5, 61, tyX5, "DebtDoorsModel", kd5, in_X5, tyX5_ok, apX5, by decide, rfl, ⟨fun h => absurd h (by decide), fun _ => rfl⟩, q1976, Or.inl rfl, fun _ => rfl⟩
theorem ff_X5_56_5 : ax_FF RX5 56 5 15 (tyX5 15) 1 false := ⟨RX5, TX5, 61, tyX5, "DebtDoorsModel", kd5, in_X5, tyX5_ok, apX5, by decide, rfl, ⟨fun h => absurd h (by decide), fun _ => rfl⟩, q1977, Or.inl rfl, fun _ => rfl⟩
theorem ff_X5_59_5 : ax_FF RX5 59 5 24 (tyX5 24) 1 false := ⟨RX5, TX5, 61, tyX5, "DebtDoorsModel", kd5, in_X5, tyX5_ok, apX5, by decide, rfl, ⟨fun h => absurd h (by decide), fun _ => rfl⟩, q1986, Or.inl rfl, fun _ => rfl⟩
theorem ff_X5_62_5 : ax_FF RX5 62 5 25 (tyX5 25) 1 false := ⟨RX5, TX5, 61, tyX5, "DebtDoorsModel", kd5, in_X5, tyX5_ok, apX5, by decide, rfl, ⟨fun h => absurd h (by decide), fun _ => rfl⟩, q1987, Or.inl rfl, fun _ => rfl⟩
theorem ff_X5_65_5 : ax_FF RX5 65 5 26 (tyX5 26) 1 false := ⟨RX5, TX5, 61, tyX5, "DebtDoorsModel", kd5, in_X5, tyX5_ok, apX5, by decide, rfl, ⟨fun h => absurd h (by decide), fun _ => rfl⟩, q1988, Or.inl rfl, fun _ => rfl⟩
theorem ff_X5_68_5 : ax_FF RX5 68 5 27 (tyX5 27) 1 false := ⟨RX5, TX5, 61, tyX5, "DebtDoorsModel", kd5, in_X5, tyX5_ok, apX5, by decide, rfl, ⟨fun h => absurd h (by decide), fun _ => rfl⟩, q1989, Or.inl rfl, fun _ => rfl⟩
theorem ff_X5_71_5 : ax_FF RX5 71 5 29 (tyX5 29) 1 false := ⟨RX5, TX5, 61, tyX5, "DebtDoorsModel", kd5, in_X5, tyX5_ok, apX5, by decide, rfl, ⟨fun h => absurd h (by decide), fun _ => rfl⟩, q1991, Or.inl rfl, fun _ => rfl⟩
theorem ff_X5_74_5 : ax_FF RX5 74 5 30 (tyX5 30) 1 false := ⟨RX5, TX5, 61, tyX5, "DebtDoorsModel", kd5, in_X5, tyX5_ok, apX5, by decide, rfl, ⟨fun h => absurd h (by decide), fun _ => rfl⟩, q1992, Or.inl rfl, fun _ => rfl⟩
theorem ff_X5_77_5 : ax_FF RX5 77 5 31 (tyX5 31) 1 false := ⟨RX5, TX5, 61, tyX5, "DebtDoorsModel", kd5, in_X5, tyX5_ok, apX5, by decide, rfl, ⟨fun h => absurd h (by decide), fun _ => rfl⟩, q1993, Or.inl rfl, fun _ => rfl⟩
theorem ff_X5_80_5 : ax_FF RX5 80 5 32 (tyX5 32) 1 false := ⟨RX5, TX5, 61, tyX5, "DebtDoorsModel", kd5, in_X5, tyX5_ok, apX5, by decide, rfl, ⟨fun h => absurd h (by decide), fun _ => rfl⟩, q1994, Or.inl rfl, fun _ => rfl⟩
theorem ff_X5_83_5 : ax_FF RX5 83 5 33 (tyX5 33) 1 false := ⟨RX5, TX5, 61, tyX5, "DebtDoorsModel", kd5, in_X5, tyX5_ok, apX5, by decide, rfl, ⟨fun h => absurd h (by decide), fun _ => rfl⟩, q1995, Or.inl rfl, fun _ => rfl⟩
theorem ff_X5_86_5 : ax_FF RX5 86 5 35 (tyX5 35) 1 false := ⟨RX5, TX5, 61, tyX5, "DebtDoorsModel", kd5, in_X5, tyX5_ok, apX5, by decide, rfl, ⟨fun h => absurd h (by decide), fun _ => rfl⟩, q1997, Or.inl rfl, fun _ => rfl⟩
theorem ff_X5_89_5 : ax_FF RX5 89 5 36 (tyX5 36) 1 false := ⟨RX5, TX5, 61, tyX5, "DebtDoorsModel", kd5, in_X5, tyX5_ok, apX5, by decide, rfl, ⟨fun h => absurd h (by decide), fun _ => rfl⟩, q1998, Or.inl rfl, fun _ => rfl⟩
theorem ff_X5_92_5 : ax_FF RX5 92 5 40 (tyX5 40) 1 false := ⟨RX5, TX5, 61, tyX5, "DebtDoorsModel", kd5, in_X5, tyX5_ok, apX5, by decide, rfl, ⟨fun h => absurd h (by decide), fun _ => rfl⟩, q2002, Or.inl rfl, fun _ => rfl⟩
theorem ff_X5_95_5 : ax_FF RX5 95 5 41 (tyX5 41) 1 false := ⟨RX5, TX5, 61, tyX5, "DebtDoorsModel", kd5, in_X5, tyX5_ok, apX5, by decide, rfl, ⟨fun h => absurd h (by decide), fun _ => rfl⟩, q2003, Or.inl rfl, fun _ => rfl⟩
theorem ff_X5_98_5 : ax_FF RX5 98 5 42 (tyX5 42) 1 false := ⟨RX5, TX5, 61, tyX5, "DebtDoorsModel", kd5, in_X5, tyX5_ok, apX5, by decide, rfl, ⟨fun h => absurd h (by decide), fun _ => rfl⟩, q2004, Or.inl rfl, fun _ => rfl⟩
theorem ff_X5_101_5 : ax_FF RX5 101 5 45 (tyX5 45) 1 false := ⟨RX5, TX5, 61, tyX5, "DebtDoorsModel", kd5, in_X5, tyX5_ok, apX5, by decide, rfl, ⟨fun h => absurd h (by decide), fun _ => rfl⟩, q2007, Or.inl rfl, fun _ => rfl⟩
theorem ff_X5_104_5 : ax_FF RX5 104 5 46 (tyX5 46) 1 false := ⟨RX5, TX5, 61, tyX5, "DebtDoorsModel", kd5, in_X5, tyX5_ok, apX5, by decide, rfl, ⟨fun h => absurd h (by decide), fun _ => rfl⟩, q2008, Or.inl rfl, fun _ => rfl⟩
theorem ff_X5_107_5 : ax_FF RX5 107 5 47 (tyX5 47) 0 false := ⟨RX5, TX5, 61, tyX5, "DebtDoorsModel", kd5, in_X5, tyX5_ok, apX5, by decide, rfl, ⟨fun _ => rfl, fun h => absurd h (by decide)⟩, q2009, Or.inl rfl, fun h => absurd h (by decide)⟩
theorem ff_X5_110_5 : ax_FF RX5 110 5 55 (tyX5 55) 1 false := ⟨RX5, TX5, 61, tyX5, "DebtDoorsModel", kd5, in_X5, tyX5_ok, apX5, by decide, rfl, ⟨fun h => absurd h (by decide), fun _ => rfl⟩, q2017, Or.inl rfl, fun _ => rfl⟩
theorem ff_X5_114_5 : ax_FF RX5 114 5 56 (tyX5 56) 1 false := ⟨RX5, TX5, 61, tyX5, "DebtDoorsModel", kd5, in_X5, tyX5_ok, apX5, by decide, rfl, ⟨fun h => absurd h (by decide), fun _ => rfl⟩, q2018, Or.inl rfl, fun _ => rfl⟩
theorem ff_X5_117_5 : ax_FF RX5 117 5 57 (tyX5 57) 1 false := ⟨RX5, TX5, 61, tyX5, "DebtDoorsModel", kd5, in_X5, tyX5_ok, apX5, by decide, rfl, ⟨fun h => absurd h (by decide), fun _ => rfl⟩, q2019, Or.inl rfl, fun _ => rfl⟩
theorem ff_X5_120_5 : ax_FF RX5 120 5 58 (tyX5 58) 1 false := ⟨RX5, TX5, 61, tyX5, "DebtDoorsModel", kd5, in_X5, tyX5_ok, apX5, by decide, rfl, ⟨fun h => absurd h (by decide), fun _ => rfl⟩, q2020, Or.inl rfl, fun _ => rfl⟩
noncomputable def f_X5_init (E : ax_E) (x0 : Option Nat) (h : ax_H) : Option (ax_H) :=
  x0.bind fun _ =>
  (ax_na E h 100 7).bind fun q1 =>
  (ax_pR q1.2 x0 5 1 (some q1.1)).bind fun h2 =>
  (ax_na E h2 100 5764).bind fun q3 =>
  (ax_pR q3.2 x0 5 2 (some q3.1)).bind fun h4 =>
  (ax_na E h4 100 11528).bind fun q5 =>
  (ax_pR q5.2 x0 5 3 (some q5.1)).bind fun h6 =>
  (ax_na E h6 102 2).bind fun q7 =>
  (ax_pR q7.2 x0 5 4 (some q7.1)).bind fun h8 =>
  (ax_na E h8 100 803).bind fun q9 =>
  (ax_pR q9.2 x0 5 5 (some q9.1)).bind fun h10 =>
  (ax_na E h10 101 147).bind fun q11 =>
  (ax_sto q11.2 (some q11.1) 101 0 (b2 100)).bind fun h12 =>
  (ax_sto h12 (some q11.1) 101 1 (b2 101)).bind fun h13 =>
  (ax_sto h13 (some q11.1) 101 2 (b2 112)).bind fun h14 =>
  (ax_sto h14 (some q11.1) 101 3 (b2 116)).bind fun h15 =>
  (ax_sto h15 (some q11.1) 101 4 (b2 104)).bind fun h16 =>
  (ax_sto h16 (some q11.1) 101 5 (b2 32)).bind fun h17 =>
  (ax_sto h17 (some q11.1) 101 6 (b2 103)).bind fun h18 =>
  (ax_sto h18 (some q11.1) 101 7 (b2 114)).bind fun h19 =>
  (ax_sto h19 (some q11.1) 101 8 (b2 111)).bind fun h20 =>
  (ax_sto h20 (some q11.1) 101 9 (b2 119)).bind fun h21 =>
  (ax_sto h21 (some q11.1) 101 10 (b2 115)).bind fun h22 =>
  (ax_sto h22 (some q11.1) 101 11 (b2 32)).bind fun h23 =>
  (ax_sto h23 (some q11.1) 101 12 (b2 115)).bind fun h24 =>
  (ax_sto h24 (some q11.1) 101 13 (b2 101)).bind fun h25 =>
  (ax_sto h25 (some q11.1) 101 14 (b2 108)).bind fun h26 =>
  (ax_sto h26 (some q11.1) 101 15 (b2 108)).bind fun h27 =>
  (ax_sto h27 (some q11.1) 101 16 (b2 115)).bind fun h28 =>
  (ax_sto h28 (some q11.1) 101 17 (b2 32)).bind fun h29 =>
  (ax_sto h29 (some q11.1) 101 18 (b2 98)).bind fun h30 =>
  (ax_sto h30 (some q11.1) 101 19 (b2 97)).bind fun h31 =>
  (ax_sto h31 (some q11.1) 101 20 (b2 114)).bind fun h32 =>
  (ax_sto h32 (some q11.1) 101 21 (b2 115)).bind fun h33 =>
  (ax_sto h33 (some q11.1) 101 22 (b2 32)).bind fun h34 =>
  (ax_sto h34 (some q11.1) 101 23 (b2 105)).bind fun h35 =>
  (ax_sto h35 (some q11.1) 101 24 (b2 102)).bind fun h36 =>
  (ax_sto h36 (some q11.1) 101 25 (b2 32)).bind fun h37 =>
  (ax_sto h37 (some q11.1) 101 26 (b2 111)).bind fun h38 =>
  (ax_sto h38 (some q11.1) 101 27 (b2 114)).bind fun h39 =>
  (ax_sto h39 (some q11.1) 101 28 (b2 32)).bind fun h40 =>
  (ax_sto h40 (some q11.1) 101 29 (b2 97)).bind fun h41 =>
  (ax_sto h41 (some q11.1) 101 30 (b2 110)).bind fun h42 =>
  (ax_sto h42 (some q11.1) 101 31 (b2 100)).bind fun h43 =>
  (ax_sto h43 (some q11.1) 101 32 (b2 32)).bind fun h44 =>
  (ax_sto h44 (some q11.1) 101 33 (b2 110)).bind fun h45 =>
  (ax_sto h45 (some q11.1) 101 34 (b2 111)).bind fun h46 =>
  (ax_sto h46 (some q11.1) 101 35 (b2 116)).bind fun h47 =>
  (ax_sto h47 (some q11.1) 101 36 (b2 32)).bind fun h48 =>
  (ax_sto h48 (some q11.1) 101 37 (b2 111)).bind fun h49 =>
  (ax_sto h49 (some q11.1) 101 38 (b2 119)).bind fun h50 =>
  (ax_sto h50 (some q11.1) 101 39 (b2 110)).bind fun h51 =>
  (ax_sto h51 (some q11.1) 101 40 (b2 101)).bind fun h52 =>
  (ax_sto h52 (some q11.1) 101 41 (b2 114)).bind fun h53 =>
  (ax_sto h53 (some q11.1) 101 42 (b2 32)).bind fun h54 =>
  (ax_sto h54 (some q11.1) 101 43 (b2 118)).bind fun h55 =>
  (ax_sto h55 (some q11.1) 101 44 (b2 105)).bind fun h56 =>
  (ax_sto h56 (some q11.1) 101 45 (b2 115)).bind fun h57 =>
  (ax_sto h57 (some q11.1) 101 46 (b2 105)).bind fun h58 =>
  (ax_sto h58 (some q11.1) 101 47 (b2 116)).bind fun h59 =>
  (ax_sto h59 (some q11.1) 101 48 (b2 111)).bind fun h60 =>
  (ax_sto h60 (some q11.1) 101 49 (b2 114)).bind fun h61 =>
  (ax_sto h61 (some q11.1) 101 50 (b2 32)).bind fun h62 =>
  (ax_sto h62 (some q11.1) 101 51 (b2 111)).bind fun h63 =>
  (ax_sto h63 (some q11.1) 101 52 (b2 119)).bind fun h64 =>
  (ax_sto h64 (some q11.1) 101 53 (b2 101)).bind fun h65 =>
  (ax_sto h65 (some q11.1) 101 54 (b2 115)).bind fun h66 =>
  (ax_sto h66 (some q11.1) 101 55 (b2 32)).bind fun h67 =>
  (ax_sto h67 (some q11.1) 101 56 (b2 98)).bind fun h68 =>
  (ax_sto h68 (some q11.1) 101 57 (b2 97)).bind fun h69 =>
  (ax_sto h69 (some q11.1) 101 58 (b2 99)).bind fun h70 =>
  (ax_sto h70 (some q11.1) 101 59 (b2 107)).bind fun h71 =>
  (ax_sto h71 (some q11.1) 101 60 (b2 32)).bind fun h72 =>
  (ax_sto h72 (some q11.1) 101 61 (b2 114)).bind fun h73 =>
  (ax_sto h73 (some q11.1) 101 62 (b2 111)).bind fun h74 =>
  (ax_sto h74 (some q11.1) 101 63 (b2 111)).bind fun h75 =>
  (ax_sto h75 (some q11.1) 101 64 (b2 109)).bind fun h76 =>
  (ax_sto h76 (some q11.1) 101 65 (b2 115)).bind fun h77 =>
  (ax_sto h77 (some q11.1) 101 66 (b2 32)).bind fun h78 =>
  (ax_sto h78 (some q11.1) 101 67 (b2 119)).bind fun h79 =>
  (ax_sto h79 (some q11.1) 101 68 (b2 97)).bind fun h80 =>
  (ax_sto h80 (some q11.1) 101 69 (b2 114)).bind fun h81 =>
  (ax_sto h81 (some q11.1) 101 70 (b2 121)).bind fun h82 =>
  (ax_sto h82 (some q11.1) 101 71 (b2 32)).bind fun h83 =>
  (ax_sto h83 (some q11.1) 101 72 (b2 97)).bind fun h84 =>
  (ax_sto h84 (some q11.1) 101 73 (b2 109)).bind fun h85 =>
  (ax_sto h85 (some q11.1) 101 74 (b2 111)).bind fun h86 =>
  (ax_sto h86 (some q11.1) 101 75 (b2 117)).bind fun h87 =>
  (ax_sto h87 (some q11.1) 101 76 (b2 110)).bind fun h88 =>
  (ax_sto h88 (some q11.1) 101 77 (b2 116)).bind fun h89 =>
  (ax_sto h89 (some q11.1) 101 78 (b2 32)).bind fun h90 =>
  (ax_sto h90 (some q11.1) 101 79 (b2 97)).bind fun h91 =>
  (ax_sto h91 (some q11.1) 101 80 (b2 103)).bind fun h92 =>
  (ax_sto h92 (some q11.1) 101 81 (b2 101)).bind fun h93 =>
  (ax_sto h93 (some q11.1) 101 82 (b2 32)).bind fun h94 =>
  (ax_sto h94 (some q11.1) 101 83 (b2 100)).bind fun h95 =>
  (ax_sto h95 (some q11.1) 101 84 (b2 97)).bind fun h96 =>
  (ax_sto h96 (some q11.1) 101 85 (b2 121)).bind fun h97 =>
  (ax_sto h97 (some q11.1) 101 86 (b2 32)).bind fun h98 =>
  (ax_sto h98 (some q11.1) 101 87 (b2 109)).bind fun h99 =>
  (ax_sto h99 (some q11.1) 101 88 (b2 111)).bind fun h100 =>
  (ax_sto h100 (some q11.1) 101 89 (b2 111)).bind fun h101 =>
  (ax_sto h101 (some q11.1) 101 90 (b2 100)).bind fun h102 =>
  (ax_sto h102 (some q11.1) 101 91 (b2 32)).bind fun h103 =>
  (ax_sto h103 (some q11.1) 101 92 (b2 100)).bind fun h104 =>
  (ax_sto h104 (some q11.1) 101 93 (b2 101)).bind fun h105 =>
  (ax_sto h105 (some q11.1) 101 94 (b2 98)).bind fun h106 =>
  (ax_sto h106 (some q11.1) 101 95 (b2 116)).bind fun h107 =>
  (ax_sto h107 (some q11.1) 101 96 (b2 115)).bind fun h108 =>
  (ax_sto h108 (some q11.1) 101 97 (b2 32)).bind fun h109 =>
  (ax_sto h109 (some q11.1) 101 98 (b2 100)).bind fun h110 =>
  (ax_sto h110 (some q11.1) 101 99 (b2 111)).bind fun h111 =>
  (ax_sto h111 (some q11.1) 101 100 (b2 110)).bind fun h112 =>
  (ax_sto h112 (some q11.1) 101 101 (b2 101)).bind fun h113 =>
  (ax_sto h113 (some q11.1) 101 102 (b2 32)).bind fun h114 =>
  (ax_sto h114 (some q11.1) 101 103 (b2 108)).bind fun h115 =>
  (ax_sto h115 (some q11.1) 101 104 (b2 97)).bind fun h116 =>
  (ax_sto h116 (some q11.1) 101 105 (b2 115)).bind fun h117 =>
  (ax_sto h117 (some q11.1) 101 106 (b2 116)).bind fun h118 =>
  (ax_sto h118 (some q11.1) 101 107 (b2 32)).bind fun h119 =>
  (ax_sto h119 (some q11.1) 101 108 (b2 112)).bind fun h120 =>
  (ax_sto h120 (some q11.1) 101 109 (b2 117)).bind fun h121 =>
  (ax_sto h121 (some q11.1) 101 110 (b2 114)).bind fun h122 =>
  (ax_sto h122 (some q11.1) 101 111 (b2 115)).bind fun h123 =>
  (ax_sto h123 (some q11.1) 101 112 (b2 101)).bind fun h124 =>
  (ax_sto h124 (some q11.1) 101 113 (b2 32)).bind fun h125 =>
  (ax_sto h125 (some q11.1) 101 114 (b2 111)).bind fun h126 =>
  (ax_sto h126 (some q11.1) 101 115 (b2 119)).bind fun h127 =>
  (ax_sto h127 (some q11.1) 101 116 (b2 101)).bind fun h128 =>
  (ax_sto h128 (some q11.1) 101 117 (b2 100)).bind fun h129 =>
  (ax_sto h129 (some q11.1) 101 118 (b2 32)).bind fun h130 =>
  (ax_sto h130 (some q11.1) 101 119 (b2 108)).bind fun h131 =>
  (ax_sto h131 (some q11.1) 101 120 (b2 101)).bind fun h132 =>
  (ax_sto h132 (some q11.1) 101 121 (b2 110)).bind fun h133 =>
  (ax_sto h133 (some q11.1) 101 122 (b2 100)).bind fun h134 =>
  (ax_sto h134 (some q11.1) 101 123 (b2 32)).bind fun h135 =>
  (ax_sto h135 (some q11.1) 101 124 (b2 114)).bind fun h136 =>
  (ax_sto h136 (some q11.1) 101 125 (b2 101)).bind fun h137 =>
  (ax_sto h137 (some q11.1) 101 126 (b2 112)).bind fun h138 =>
  (ax_sto h138 (some q11.1) 101 127 (b2 97)).bind fun h139 =>
  (ax_sto h139 (some q11.1) 101 128 (b2 121)).bind fun h140 =>
  (ax_sto h140 (some q11.1) 101 129 (b2 32)).bind fun h141 =>
  (ax_sto h141 (some q11.1) 101 130 (b2 119)).bind fun h142 =>
  (ax_sto h142 (some q11.1) 101 131 (b2 97)).bind fun h143 =>
  (ax_sto h143 (some q11.1) 101 132 (b2 105)).bind fun h144 =>
  (ax_sto h144 (some q11.1) 101 133 (b2 116)).bind fun h145 =>
  (ax_sto h145 (some q11.1) 101 134 (b2 32)).bind fun h146 =>
  (ax_sto h146 (some q11.1) 101 135 (b2 116)).bind fun h147 =>
  (ax_sto h147 (some q11.1) 101 136 (b2 111)).bind fun h148 =>
  (ax_sto h148 (some q11.1) 101 137 (b2 32)).bind fun h149 =>
  (ax_sto h149 (some q11.1) 101 138 (b2 111)).bind fun h150 =>
  (ax_sto h150 (some q11.1) 101 139 (b2 102)).bind fun h151 =>
  (ax_sto h151 (some q11.1) 101 140 (b2 32)).bind fun h152 =>
  (ax_sto h152 (some q11.1) 101 141 (b2 116)).bind fun h153 =>
  (ax_sto h153 (some q11.1) 101 142 (b2 105)).bind fun h154 =>
  (ax_sto h154 (some q11.1) 101 143 (b2 109)).bind fun h155 =>
  (ax_sto h155 (some q11.1) 101 144 (b2 101)).bind fun h156 =>
  (ax_sto h156 (some q11.1) 101 145 (b2 115)).bind fun h157 =>
  (ax_sto h157 (some q11.1) 101 146 (b2 32)).bind fun h158 =>
  (ax_pR h158 x0 5 7 (some q11.1)).bind fun h159 =>
  (ax_na E h159 101 400).bind fun q160 =>
  (ax_pR q160.2 x0 5 9 (some q160.1)).bind fun h161 =>
  (ax_na E h161 100 5).bind fun q162 =>
  (ax_pR q162.2 x0 5 10 (some q162.1)).bind fun h163 =>
  (ax_pI h163 x0 5 12 (-1)).bind fun h164 =>
  (ax_na E h164 100 401).bind fun q165 =>
  (ax_pR q165.2 x0 5 13 (some q165.1)).bind fun h166 =>
  (ax_na E h166 100 401).bind fun q167 =>
  (ax_pR q167.2 x0 5 14 (some q167.1)).bind fun h168 =>
  (ax_na E h168 100 401).bind fun q169 =>
  (ax_pR q169.2 x0 5 15 (some q169.1)).bind fun h170 =>
  (ax_na E h170 100 10).bind fun q171 =>
  (ax_pR q171.2 x0 5 24 (some q171.1)).bind fun h172 =>
  (ax_na E h172 100 4).bind fun q173 =>
  (ax_pR q173.2 x0 5 25 (some q173.1)).bind fun h174 =>
  (ax_na E h174 100 1184).bind fun q175 =>
  (ax_pR q175.2 x0 5 26 (some q175.1)).bind fun h176 =>
  (ax_na E h176 100 1184).bind fun q177 =>
  (ax_pR q177.2 x0 5 27 (some q177.1)).bind fun h178 =>
  (ax_na E h178 100 8).bind fun q179 =>
  (ax_pR q179.2 x0 5 29 (some q179.1)).bind fun h180 =>
  (ax_na E h180 100 8).bind fun q181 =>
  (ax_pR q181.2 x0 5 30 (some q181.1)).bind fun h182 =>
  (ax_na E h182 100 8).bind fun q183 =>
  (ax_pR q183.2 x0 5 31 (some q183.1)).bind fun h184 =>
  (ax_na E h184 100 8).bind fun q185 =>
  (ax_pR q185.2 x0 5 32 (some q185.1)).bind fun h186 =>
  (ax_na E h186 100 256).bind fun q187 =>
  (ax_pR q187.2 x0 5 33 (some q187.1)).bind fun h188 =>
  (ax_na E h188 100 8).bind fun q189 =>
  (ax_pR q189.2 x0 5 35 (some q189.1)).bind fun h190 =>
  (ax_na E h190 100 8).bind fun q191 =>
  (ax_pR q191.2 x0 5 36 (some q191.1)).bind fun h192 =>
  (ax_na E h192 100 16).bind fun q193 =>
  (ax_pR q193.2 x0 5 40 (some q193.1)).bind fun h194 =>
  (ax_na E h194 100 7).bind fun q195 =>
  (ax_pR q195.2 x0 5 41 (some q195.1)).bind fun h196 =>
  (ax_na E h196 100 7).bind fun q197 =>
  (ax_pR q197.2 x0 5 42 (some q197.1)).bind fun h198 =>
  (ax_na E h198 100 49).bind fun q199 =>
  (ax_pR q199.2 x0 5 45 (some q199.1)).bind fun h200 =>
  (ax_na E h200 100 256).bind fun q201 =>
  (ax_pR q201.2 x0 5 46 (some q201.1)).bind fun h202 =>
  (ax_pI h202 x0 5 47 (-1)).bind fun h203 =>
  (ax_na E h203 103 3).bind fun q204 =>
  (ax_pR q204.2 x0 5 55 (some q204.1)).bind fun h205 =>
  (ax_na E h205 100 7).bind fun q206 =>
  (ax_pR q206.2 x0 5 56 (some q206.1)).bind fun h207 =>
  (ax_na E h207 100 7).bind fun q208 =>
  (ax_pR q208.2 x0 5 57 (some q208.1)).bind fun h209 =>
  (ax_na E h209 100 7).bind fun q210 =>
  (ax_pR q210.2 x0 5 58 (some q210.1)).bind fun h211 =>
  (ax_gR E h211 x0 5 2).bind fun v212 =>
  (ax_sto h211 v212 100 156 (-1)).bind fun h213 =>
  some h213
set_option maxHeartbeats 4000000 in
theorem we_X5_init {l : Launch} {G : ax_G} {X : ax_X} {Q : State → Prop} {h0 h : ax_H} {ls : Array Slot} (hSF : ax_SF G) (B : ax_BL l G X cX5_init 1 RX5 1 40) (Z : ax_Z X h0 none) (hn : X.2.2.2.2.2.2.2.2.1.name = yX5_init.name) (x0 : Option Nat) {w : ax_H} (hl : ax_hl ls 1 [(0, .inr (.inr x0))]) (e : f_X5_init G.2.2 x0 h = some w) (hp : (fun w : ax_H => Q = ax_Q G X h0 w none) w) : ax_W G X Q h 0 ls [] := by
  unfold f_X5_init at e
  refine ax_aload_n B dX5_init_0 rfl hl 0 rfl ?_
  refine ax_oiR B q1961 q183 q184 hl.size (by decide) (by decide) dX5_init_1 e (fun e => ?_)
  refine ax_aload_n B dX5_init_4 rfl hl 0 rfl ?_
  refine ax_bipush B dX5_init_5 (by decide) ?_
  refine ax_newa (atype := .int) B kd100 q259 rfl (by decide) dX5_init_7 e (fun q1 e => ?_)
  refine ax_putR B ff_X5_7_5 (Or.inr ⟨rfl, rfl, hn⟩) rfl dX5_init_9 e (fun h2 e => ?_)
  refine ax_aload_n B dX5_init_12 rfl hl 0 rfl ?_
  refine ax_sipush B dX5_init_13 (by decide) ?_
  refine ax_newa (atype := .int) B kd100 q259 rfl (by decide) dX5_init_16 e (fun q3 e => ?_)
  refine ax_putR B ff_X5_24_5 (Or.inr ⟨rfl, rfl, hn⟩) rfl dX5_init_18 e (fun h4 e => ?_)
  refine ax_aload_n B dX5_init_21 rfl hl 0 rfl ?_
  refine ax_sipush B dX5_init_22 (by decide) ?_
  refine ax_newa (atype := .int) B kd100 q259 rfl (by decide) dX5_init_25 e (fun q5 e => ?_)
  refine ax_putR B ff_X5_27_5 (Or.inr ⟨rfl, rfl, hn⟩) rfl dX5_init_27 e (fun h6 e => ?_)
  refine ax_aload_n B dX5_init_30 rfl hl 0 rfl ?_
  refine ax_iconst B dX5_init_31 ?_
  refine ax_newa (atype := .boolean) B kd102 q2146 rfl (by decide) dX5_init_32 e (fun q7 e => ?_)
  refine ax_putR B ff_X5_30_5 (Or.inr ⟨rfl, rfl, hn⟩) rfl dX5_init_34 e (fun h8 e => ?_)
  refine ax_aload_n B dX5_init_37 rfl hl 0 rfl ?_
  refine ax_sipush B dX5_init_38 (by decide) ?_
  refine ax_newa (atype := .int) B kd100 q259 rfl (by decide) dX5_init_41 e (fun q9 e => ?_)
  refine ax_putR B ff_X5_34_5 (Or.inr ⟨rfl, rfl, hn⟩) rfl dX5_init_43 e (fun h10 e => ?_)
  refine ax_aload_n B dX5_init_46 rfl hl 0 rfl ?_
  refine ax_sipush B dX5_init_47 (by decide) ?_
  refine ax_newa (atype := .byte) B kd101 q407 rfl (by decide) dX5_init_50 e (fun q11 e => ?_)
  refine ax_dup B dX5_init_52 (va_rf_cat _) ?_
  refine ax_iconst B dX5_init_53 ?_
  refine ax_bipush B dX5_init_54 (by decide) ?_
  refine ax_bast B kd101 dX5_init_56 e (fun h12 e => ?_)
  refine ax_dup B dX5_init_57 (va_rf_cat _) ?_
  refine ax_iconst B dX5_init_58 ?_
  refine ax_bipush B dX5_init_59 (by decide) ?_
  refine ax_bast B kd101 dX5_init_61 e (fun h13 e => ?_)
  refine ax_dup B dX5_init_62 (va_rf_cat _) ?_
  refine ax_iconst B dX5_init_63 ?_
  refine ax_bipush B dX5_init_64 (by decide) ?_
  refine ax_bast B kd101 dX5_init_66 e (fun h14 e => ?_)
  refine ax_dup B dX5_init_67 (va_rf_cat _) ?_
  refine ax_iconst B dX5_init_68 ?_
  refine ax_bipush B dX5_init_69 (by decide) ?_
  refine ax_bast B kd101 dX5_init_71 e (fun h15 e => ?_)
  refine ax_dup B dX5_init_72 (va_rf_cat _) ?_
  refine ax_iconst B dX5_init_73 ?_
  refine ax_bipush B dX5_init_74 (by decide) ?_
  refine ax_bast B kd101 dX5_init_76 e (fun h16 e => ?_)
  refine ax_dup B dX5_init_77 (va_rf_cat _) ?_
  refine ax_iconst B dX5_init_78 ?_
  refine ax_bipush B dX5_init_79 (by decide) ?_
  refine ax_bast B kd101 dX5_init_81 e (fun h17 e => ?_)
  refine ax_dup B dX5_init_82 (va_rf_cat _) ?_
  refine ax_bipush B dX5_init_83 (by decide) ?_
  refine ax_bipush B dX5_init_85 (by decide) ?_
  refine ax_bast B kd101 dX5_init_87 e (fun h18 e => ?_)
  refine ax_dup B dX5_init_88 (va_rf_cat _) ?_
  refine ax_bipush B dX5_init_89 (by decide) ?_
  refine ax_bipush B dX5_init_91 (by decide) ?_
  refine ax_bast B kd101 dX5_init_93 e (fun h19 e => ?_)
  refine ax_dup B dX5_init_94 (va_rf_cat _) ?_
  refine ax_bipush B dX5_init_95 (by decide) ?_
  refine ax_bipush B dX5_init_97 (by decide) ?_
  refine ax_bast B kd101 dX5_init_99 e (fun h20 e => ?_)
  refine ax_dup B dX5_init_100 (va_rf_cat _) ?_
  refine ax_bipush B dX5_init_101 (by decide) ?_
  refine ax_bipush B dX5_init_103 (by decide) ?_
  refine ax_bast B kd101 dX5_init_105 e (fun h21 e => ?_)
  refine ax_dup B dX5_init_106 (va_rf_cat _) ?_
  refine ax_bipush B dX5_init_107 (by decide) ?_
  refine ax_bipush B dX5_init_109 (by decide) ?_
  refine ax_bast B kd101 dX5_init_111 e (fun h22 e => ?_)
  refine ax_dup B dX5_init_112 (va_rf_cat _) ?_
  refine ax_bipush B dX5_init_113 (by decide) ?_
  refine ax_bipush B dX5_init_115 (by decide) ?_
  refine ax_bast B kd101 dX5_init_117 e (fun h23 e => ?_)
  refine ax_dup B dX5_init_118 (va_rf_cat _) ?_
  refine ax_bipush B dX5_init_119 (by decide) ?_
  refine ax_bipush B dX5_init_121 (by decide) ?_
  refine ax_bast B kd101 dX5_init_123 e (fun h24 e => ?_)
  refine ax_dup B dX5_init_124 (va_rf_cat _) ?_
  refine ax_bipush B dX5_init_125 (by decide) ?_
  refine ax_bipush B dX5_init_127 (by decide) ?_
  refine ax_bast B kd101 dX5_init_129 e (fun h25 e => ?_)
  refine ax_dup B dX5_init_130 (va_rf_cat _) ?_
  refine ax_bipush B dX5_init_131 (by decide) ?_
  refine ax_bipush B dX5_init_133 (by decide) ?_
  refine ax_bast B kd101 dX5_init_135 e (fun h26 e => ?_)
  refine ax_dup B dX5_init_136 (va_rf_cat _) ?_
  refine ax_bipush B dX5_init_137 (by decide) ?_
  refine ax_bipush B dX5_init_139 (by decide) ?_
  refine ax_bast B kd101 dX5_init_141 e (fun h27 e => ?_)
  refine ax_dup B dX5_init_142 (va_rf_cat _) ?_
  refine ax_bipush B dX5_init_143 (by decide) ?_
  refine ax_bipush B dX5_init_145 (by decide) ?_
  refine ax_bast B kd101 dX5_init_147 e (fun h28 e => ?_)
  refine ax_dup B dX5_init_148 (va_rf_cat _) ?_
  refine ax_bipush B dX5_init_149 (by decide) ?_
  refine ax_bipush B dX5_init_151 (by decide) ?_
  refine ax_bast B kd101 dX5_init_153 e (fun h29 e => ?_)
  refine ax_dup B dX5_init_154 (va_rf_cat _) ?_
  refine ax_bipush B dX5_init_155 (by decide) ?_
  refine ax_bipush B dX5_init_157 (by decide) ?_
  refine ax_bast B kd101 dX5_init_159 e (fun h30 e => ?_)
  refine ax_dup B dX5_init_160 (va_rf_cat _) ?_
  refine ax_bipush B dX5_init_161 (by decide) ?_
  refine ax_bipush B dX5_init_163 (by decide) ?_
  refine ax_bast B kd101 dX5_init_165 e (fun h31 e => ?_)
  refine ax_dup B dX5_init_166 (va_rf_cat _) ?_
  refine ax_bipush B dX5_init_167 (by decide) ?_
  refine ax_bipush B dX5_init_169 (by decide) ?_
  refine ax_bast B kd101 dX5_init_171 e (fun h32 e => ?_)
  refine ax_dup B dX5_init_172 (va_rf_cat _) ?_
  refine ax_bipush B dX5_init_173 (by decide) ?_
  refine ax_bipush B dX5_init_175 (by decide) ?_
  refine ax_bast B kd101 dX5_init_177 e (fun h33 e => ?_)
  refine ax_dup B dX5_init_178 (va_rf_cat _) ?_
  refine ax_bipush B dX5_init_179 (by decide) ?_
  refine ax_bipush B dX5_init_181 (by decide) ?_
  refine ax_bast B kd101 dX5_init_183 e (fun h34 e => ?_)
  refine ax_dup B dX5_init_184 (va_rf_cat _) ?_
  refine ax_bipush B dX5_init_185 (by decide) ?_
  refine ax_bipush B dX5_init_187 (by decide) ?_
  refine ax_bast B kd101 dX5_init_189 e (fun h35 e => ?_)
  refine ax_dup B dX5_init_190 (va_rf_cat _) ?_
  refine ax_bipush B dX5_init_191 (by decide) ?_
  refine ax_bipush B dX5_init_193 (by decide) ?_
  refine ax_bast B kd101 dX5_init_195 e (fun h36 e => ?_)
  refine ax_dup B dX5_init_196 (va_rf_cat _) ?_
  refine ax_bipush B dX5_init_197 (by decide) ?_
  refine ax_bipush B dX5_init_199 (by decide) ?_
  refine ax_bast B kd101 dX5_init_201 e (fun h37 e => ?_)
  refine ax_dup B dX5_init_202 (va_rf_cat _) ?_
  refine ax_bipush B dX5_init_203 (by decide) ?_
  refine ax_bipush B dX5_init_205 (by decide) ?_
  refine ax_bast B kd101 dX5_init_207 e (fun h38 e => ?_)
  refine ax_dup B dX5_init_208 (va_rf_cat _) ?_
  refine ax_bipush B dX5_init_209 (by decide) ?_
  refine ax_bipush B dX5_init_211 (by decide) ?_
  refine ax_bast B kd101 dX5_init_213 e (fun h39 e => ?_)
  refine ax_dup B dX5_init_214 (va_rf_cat _) ?_
  refine ax_bipush B dX5_init_215 (by decide) ?_
  refine ax_bipush B dX5_init_217 (by decide) ?_
  refine ax_bast B kd101 dX5_init_219 e (fun h40 e => ?_)
  refine ax_dup B dX5_init_220 (va_rf_cat _) ?_
  refine ax_bipush B dX5_init_221 (by decide) ?_
  refine ax_bipush B dX5_init_223 (by decide) ?_
  refine ax_bast B kd101 dX5_init_225 e (fun h41 e => ?_)
  refine ax_dup B dX5_init_226 (va_rf_cat _) ?_
  refine ax_bipush B dX5_init_227 (by decide) ?_
  refine ax_bipush B dX5_init_229 (by decide) ?_
  refine ax_bast B kd101 dX5_init_231 e (fun h42 e => ?_)
  refine ax_dup B dX5_init_232 (va_rf_cat _) ?_
  refine ax_bipush B dX5_init_233 (by decide) ?_
  refine ax_bipush B dX5_init_235 (by decide) ?_
  refine ax_bast B kd101 dX5_init_237 e (fun h43 e => ?_)
  refine ax_dup B dX5_init_238 (va_rf_cat _) ?_
  refine ax_bipush B dX5_init_239 (by decide) ?_
  refine ax_bipush B dX5_init_241 (by decide) ?_
  refine ax_bast B kd101 dX5_init_243 e (fun h44 e => ?_)
  refine ax_dup B dX5_init_244 (va_rf_cat _) ?_
  refine ax_bipush B dX5_init_245 (by decide) ?_
  refine ax_bipush B dX5_init_247 (by decide) ?_
  refine ax_bast B kd101 dX5_init_249 e (fun h45 e => ?_)
  refine ax_dup B dX5_init_250 (va_rf_cat _) ?_
  refine ax_bipush B dX5_init_251 (by decide) ?_
  refine ax_bipush B dX5_init_253 (by decide) ?_
  refine ax_bast B kd101 dX5_init_255 e (fun h46 e => ?_)
  refine ax_dup B dX5_init_256 (va_rf_cat _) ?_
  refine ax_bipush B dX5_init_257 (by decide) ?_
  refine ax_bipush B dX5_init_259 (by decide) ?_
  refine ax_bast B kd101 dX5_init_261 e (fun h47 e => ?_)
  refine ax_dup B dX5_init_262 (va_rf_cat _) ?_
  refine ax_bipush B dX5_init_263 (by decide) ?_
  refine ax_bipush B dX5_init_265 (by decide) ?_
  refine ax_bast B kd101 dX5_init_267 e (fun h48 e => ?_)
  refine ax_dup B dX5_init_268 (va_rf_cat _) ?_
  refine ax_bipush B dX5_init_269 (by decide) ?_
  refine ax_bipush B dX5_init_271 (by decide) ?_
  refine ax_bast B kd101 dX5_init_273 e (fun h49 e => ?_)
  refine ax_dup B dX5_init_274 (va_rf_cat _) ?_
  refine ax_bipush B dX5_init_275 (by decide) ?_
  refine ax_bipush B dX5_init_277 (by decide) ?_
  refine ax_bast B kd101 dX5_init_279 e (fun h50 e => ?_)
  refine ax_dup B dX5_init_280 (va_rf_cat _) ?_
  refine ax_bipush B dX5_init_281 (by decide) ?_
  refine ax_bipush B dX5_init_283 (by decide) ?_
  refine ax_bast B kd101 dX5_init_285 e (fun h51 e => ?_)
  refine ax_dup B dX5_init_286 (va_rf_cat _) ?_
  refine ax_bipush B dX5_init_287 (by decide) ?_
  refine ax_bipush B dX5_init_289 (by decide) ?_
  refine ax_bast B kd101 dX5_init_291 e (fun h52 e => ?_)
  refine ax_dup B dX5_init_292 (va_rf_cat _) ?_
  refine ax_bipush B dX5_init_293 (by decide) ?_
  refine ax_bipush B dX5_init_295 (by decide) ?_
  refine ax_bast B kd101 dX5_init_297 e (fun h53 e => ?_)
  refine ax_dup B dX5_init_298 (va_rf_cat _) ?_
  refine ax_bipush B dX5_init_299 (by decide) ?_
  refine ax_bipush B dX5_init_301 (by decide) ?_
  refine ax_bast B kd101 dX5_init_303 e (fun h54 e => ?_)
  refine ax_dup B dX5_init_304 (va_rf_cat _) ?_
  refine ax_bipush B dX5_init_305 (by decide) ?_
  refine ax_bipush B dX5_init_307 (by decide) ?_
  refine ax_bast B kd101 dX5_init_309 e (fun h55 e => ?_)
  refine ax_dup B dX5_init_310 (va_rf_cat _) ?_
  refine ax_bipush B dX5_init_311 (by decide) ?_
  refine ax_bipush B dX5_init_313 (by decide) ?_
  refine ax_bast B kd101 dX5_init_315 e (fun h56 e => ?_)
  refine ax_dup B dX5_init_316 (va_rf_cat _) ?_
  refine ax_bipush B dX5_init_317 (by decide) ?_
  refine ax_bipush B dX5_init_319 (by decide) ?_
  refine ax_bast B kd101 dX5_init_321 e (fun h57 e => ?_)
  refine ax_dup B dX5_init_322 (va_rf_cat _) ?_
  refine ax_bipush B dX5_init_323 (by decide) ?_
  refine ax_bipush B dX5_init_325 (by decide) ?_
  refine ax_bast B kd101 dX5_init_327 e (fun h58 e => ?_)
  refine ax_dup B dX5_init_328 (va_rf_cat _) ?_
  refine ax_bipush B dX5_init_329 (by decide) ?_
  refine ax_bipush B dX5_init_331 (by decide) ?_
  refine ax_bast B kd101 dX5_init_333 e (fun h59 e => ?_)
  refine ax_dup B dX5_init_334 (va_rf_cat _) ?_
  refine ax_bipush B dX5_init_335 (by decide) ?_
  refine ax_bipush B dX5_init_337 (by decide) ?_
  refine ax_bast B kd101 dX5_init_339 e (fun h60 e => ?_)
  refine ax_dup B dX5_init_340 (va_rf_cat _) ?_
  refine ax_bipush B dX5_init_341 (by decide) ?_
  refine ax_bipush B dX5_init_343 (by decide) ?_
  refine ax_bast B kd101 dX5_init_345 e (fun h61 e => ?_)
  refine ax_dup B dX5_init_346 (va_rf_cat _) ?_
  refine ax_bipush B dX5_init_347 (by decide) ?_
  refine ax_bipush B dX5_init_349 (by decide) ?_
  refine ax_bast B kd101 dX5_init_351 e (fun h62 e => ?_)
  refine ax_dup B dX5_init_352 (va_rf_cat _) ?_
  refine ax_bipush B dX5_init_353 (by decide) ?_
  refine ax_bipush B dX5_init_355 (by decide) ?_
  refine ax_bast B kd101 dX5_init_357 e (fun h63 e => ?_)
  refine ax_dup B dX5_init_358 (va_rf_cat _) ?_
  refine ax_bipush B dX5_init_359 (by decide) ?_
  refine ax_bipush B dX5_init_361 (by decide) ?_
  refine ax_bast B kd101 dX5_init_363 e (fun h64 e => ?_)
  refine ax_dup B dX5_init_364 (va_rf_cat _) ?_
  refine ax_bipush B dX5_init_365 (by decide) ?_
  refine ax_bipush B dX5_init_367 (by decide) ?_
  refine ax_bast B kd101 dX5_init_369 e (fun h65 e => ?_)
  refine ax_dup B dX5_init_370 (va_rf_cat _) ?_
  refine ax_bipush B dX5_init_371 (by decide) ?_
  refine ax_bipush B dX5_init_373 (by decide) ?_
  refine ax_bast B kd101 dX5_init_375 e (fun h66 e => ?_)
  refine ax_dup B dX5_init_376 (va_rf_cat _) ?_
  refine ax_bipush B dX5_init_377 (by decide) ?_
  refine ax_bipush B dX5_init_379 (by decide) ?_
  refine ax_bast B kd101 dX5_init_381 e (fun h67 e => ?_)
  refine ax_dup B dX5_init_382 (va_rf_cat _) ?_
  refine ax_bipush B dX5_init_383 (by decide) ?_
  refine ax_bipush B dX5_init_385 (by decide) ?_
  refine ax_bast B kd101 dX5_init_387 e (fun h68 e => ?_)
  refine ax_dup B dX5_init_388 (va_rf_cat _) ?_
  refine ax_bipush B dX5_init_389 (by decide) ?_
  refine ax_bipush B dX5_init_391 (by decide) ?_
  refine ax_bast B kd101 dX5_init_393 e (fun h69 e => ?_)
  refine ax_dup B dX5_init_394 (va_rf_cat _) ?_
  refine ax_bipush B dX5_init_395 (by decide) ?_
  refine ax_bipush B dX5_init_397 (by decide) ?_
  refine ax_bast B kd101 dX5_init_399 e (fun h70 e => ?_)
  refine ax_dup B dX5_init_400 (va_rf_cat _) ?_
  refine ax_bipush B dX5_init_401 (by decide) ?_
  refine ax_bipush B dX5_init_403 (by decide) ?_
  refine ax_bast B kd101 dX5_init_405 e (fun h71 e => ?_)
  refine ax_dup B dX5_init_406 (va_rf_cat _) ?_
  refine ax_bipush B dX5_init_407 (by decide) ?_
  refine ax_bipush B dX5_init_409 (by decide) ?_
  refine ax_bast B kd101 dX5_init_411 e (fun h72 e => ?_)
  refine ax_dup B dX5_init_412 (va_rf_cat _) ?_
  refine ax_bipush B dX5_init_413 (by decide) ?_
  refine ax_bipush B dX5_init_415 (by decide) ?_
  refine ax_bast B kd101 dX5_init_417 e (fun h73 e => ?_)
  refine ax_dup B dX5_init_418 (va_rf_cat _) ?_
  refine ax_bipush B dX5_init_419 (by decide) ?_
  refine ax_bipush B dX5_init_421 (by decide) ?_
  refine ax_bast B kd101 dX5_init_423 e (fun h74 e => ?_)
  refine ax_dup B dX5_init_424 (va_rf_cat _) ?_
  refine ax_bipush B dX5_init_425 (by decide) ?_
  refine ax_bipush B dX5_init_427 (by decide) ?_
  refine ax_bast B kd101 dX5_init_429 e (fun h75 e => ?_)
  refine ax_dup B dX5_init_430 (va_rf_cat _) ?_
  refine ax_bipush B dX5_init_431 (by decide) ?_
  refine ax_bipush B dX5_init_433 (by decide) ?_
  refine ax_bast B kd101 dX5_init_435 e (fun h76 e => ?_)
  refine ax_dup B dX5_init_436 (va_rf_cat _) ?_
  refine ax_bipush B dX5_init_437 (by decide) ?_
  refine ax_bipush B dX5_init_439 (by decide) ?_
  refine ax_bast B kd101 dX5_init_441 e (fun h77 e => ?_)
  refine ax_dup B dX5_init_442 (va_rf_cat _) ?_
  refine ax_bipush B dX5_init_443 (by decide) ?_
  refine ax_bipush B dX5_init_445 (by decide) ?_
  refine ax_bast B kd101 dX5_init_447 e (fun h78 e => ?_)
  refine ax_dup B dX5_init_448 (va_rf_cat _) ?_
  refine ax_bipush B dX5_init_449 (by decide) ?_
  refine ax_bipush B dX5_init_451 (by decide) ?_
  refine ax_bast B kd101 dX5_init_453 e (fun h79 e => ?_)
  refine ax_dup B dX5_init_454 (va_rf_cat _) ?_
  refine ax_bipush B dX5_init_455 (by decide) ?_
  refine ax_bipush B dX5_init_457 (by decide) ?_
  refine ax_bast B kd101 dX5_init_459 e (fun h80 e => ?_)
  refine ax_dup B dX5_init_460 (va_rf_cat _) ?_
  refine ax_bipush B dX5_init_461 (by decide) ?_
  refine ax_bipush B dX5_init_463 (by decide) ?_
  refine ax_bast B kd101 dX5_init_465 e (fun h81 e => ?_)
  refine ax_dup B dX5_init_466 (va_rf_cat _) ?_
  refine ax_bipush B dX5_init_467 (by decide) ?_
  refine ax_bipush B dX5_init_469 (by decide) ?_
  refine ax_bast B kd101 dX5_init_471 e (fun h82 e => ?_)
  refine ax_dup B dX5_init_472 (va_rf_cat _) ?_
  refine ax_bipush B dX5_init_473 (by decide) ?_
  refine ax_bipush B dX5_init_475 (by decide) ?_
  refine ax_bast B kd101 dX5_init_477 e (fun h83 e => ?_)
  refine ax_dup B dX5_init_478 (va_rf_cat _) ?_
  refine ax_bipush B dX5_init_479 (by decide) ?_
  refine ax_bipush B dX5_init_481 (by decide) ?_
  refine ax_bast B kd101 dX5_init_483 e (fun h84 e => ?_)
  refine ax_dup B dX5_init_484 (va_rf_cat _) ?_
  refine ax_bipush B dX5_init_485 (by decide) ?_
  refine ax_bipush B dX5_init_487 (by decide) ?_
  refine ax_bast B kd101 dX5_init_489 e (fun h85 e => ?_)
  refine ax_dup B dX5_init_490 (va_rf_cat _) ?_
  refine ax_bipush B dX5_init_491 (by decide) ?_
  refine ax_bipush B dX5_init_493 (by decide) ?_
  refine ax_bast B kd101 dX5_init_495 e (fun h86 e => ?_)
  refine ax_dup B dX5_init_496 (va_rf_cat _) ?_
  refine ax_bipush B dX5_init_497 (by decide) ?_
  refine ax_bipush B dX5_init_499 (by decide) ?_
  refine ax_bast B kd101 dX5_init_501 e (fun h87 e => ?_)
  refine ax_dup B dX5_init_502 (va_rf_cat _) ?_
  refine ax_bipush B dX5_init_503 (by decide) ?_
  refine ax_bipush B dX5_init_505 (by decide) ?_
  refine ax_bast B kd101 dX5_init_507 e (fun h88 e => ?_)
  refine ax_dup B dX5_init_508 (va_rf_cat _) ?_
  refine ax_bipush B dX5_init_509 (by decide) ?_
  refine ax_bipush B dX5_init_511 (by decide) ?_
  refine ax_bast B kd101 dX5_init_513 e (fun h89 e => ?_)
  refine ax_dup B dX5_init_514 (va_rf_cat _) ?_
  refine ax_bipush B dX5_init_515 (by decide) ?_
  refine ax_bipush B dX5_init_517 (by decide) ?_
  refine ax_bast B kd101 dX5_init_519 e (fun h90 e => ?_)
  refine ax_dup B dX5_init_520 (va_rf_cat _) ?_
  refine ax_bipush B dX5_init_521 (by decide) ?_
  refine ax_bipush B dX5_init_523 (by decide) ?_
  refine ax_bast B kd101 dX5_init_525 e (fun h91 e => ?_)
  refine ax_dup B dX5_init_526 (va_rf_cat _) ?_
  refine ax_bipush B dX5_init_527 (by decide) ?_
  refine ax_bipush B dX5_init_529 (by decide) ?_
  refine ax_bast B kd101 dX5_init_531 e (fun h92 e => ?_)
  refine ax_dup B dX5_init_532 (va_rf_cat _) ?_
  refine ax_bipush B dX5_init_533 (by decide) ?_
  refine ax_bipush B dX5_init_535 (by decide) ?_
  refine ax_bast B kd101 dX5_init_537 e (fun h93 e => ?_)
  refine ax_dup B dX5_init_538 (va_rf_cat _) ?_
  refine ax_bipush B dX5_init_539 (by decide) ?_
  refine ax_bipush B dX5_init_541 (by decide) ?_
  refine ax_bast B kd101 dX5_init_543 e (fun h94 e => ?_)
  refine ax_dup B dX5_init_544 (va_rf_cat _) ?_
  refine ax_bipush B dX5_init_545 (by decide) ?_
  refine ax_bipush B dX5_init_547 (by decide) ?_
  refine ax_bast B kd101 dX5_init_549 e (fun h95 e => ?_)
  refine ax_dup B dX5_init_550 (va_rf_cat _) ?_
  refine ax_bipush B dX5_init_551 (by decide) ?_
  refine ax_bipush B dX5_init_553 (by decide) ?_
  refine ax_bast B kd101 dX5_init_555 e (fun h96 e => ?_)
  refine ax_dup B dX5_init_556 (va_rf_cat _) ?_
  refine ax_bipush B dX5_init_557 (by decide) ?_
  refine ax_bipush B dX5_init_559 (by decide) ?_
  refine ax_bast B kd101 dX5_init_561 e (fun h97 e => ?_)
  refine ax_dup B dX5_init_562 (va_rf_cat _) ?_
  refine ax_bipush B dX5_init_563 (by decide) ?_
  refine ax_bipush B dX5_init_565 (by decide) ?_
  refine ax_bast B kd101 dX5_init_567 e (fun h98 e => ?_)
  refine ax_dup B dX5_init_568 (va_rf_cat _) ?_
  refine ax_bipush B dX5_init_569 (by decide) ?_
  refine ax_bipush B dX5_init_571 (by decide) ?_
  refine ax_bast B kd101 dX5_init_573 e (fun h99 e => ?_)
  refine ax_dup B dX5_init_574 (va_rf_cat _) ?_
  refine ax_bipush B dX5_init_575 (by decide) ?_
  refine ax_bipush B dX5_init_577 (by decide) ?_
  refine ax_bast B kd101 dX5_init_579 e (fun h100 e => ?_)
  refine ax_dup B dX5_init_580 (va_rf_cat _) ?_
  refine ax_bipush B dX5_init_581 (by decide) ?_
  refine ax_bipush B dX5_init_583 (by decide) ?_
  refine ax_bast B kd101 dX5_init_585 e (fun h101 e => ?_)
  refine ax_dup B dX5_init_586 (va_rf_cat _) ?_
  refine ax_bipush B dX5_init_587 (by decide) ?_
  refine ax_bipush B dX5_init_589 (by decide) ?_
  refine ax_bast B kd101 dX5_init_591 e (fun h102 e => ?_)
  refine ax_dup B dX5_init_592 (va_rf_cat _) ?_
  refine ax_bipush B dX5_init_593 (by decide) ?_
  refine ax_bipush B dX5_init_595 (by decide) ?_
  refine ax_bast B kd101 dX5_init_597 e (fun h103 e => ?_)
  refine ax_dup B dX5_init_598 (va_rf_cat _) ?_
  refine ax_bipush B dX5_init_599 (by decide) ?_
  refine ax_bipush B dX5_init_601 (by decide) ?_
  refine ax_bast B kd101 dX5_init_603 e (fun h104 e => ?_)
  refine ax_dup B dX5_init_604 (va_rf_cat _) ?_
  refine ax_bipush B dX5_init_605 (by decide) ?_
  refine ax_bipush B dX5_init_607 (by decide) ?_
  refine ax_bast B kd101 dX5_init_609 e (fun h105 e => ?_)
  refine ax_dup B dX5_init_610 (va_rf_cat _) ?_
  refine ax_bipush B dX5_init_611 (by decide) ?_
  refine ax_bipush B dX5_init_613 (by decide) ?_
  refine ax_bast B kd101 dX5_init_615 e (fun h106 e => ?_)
  refine ax_dup B dX5_init_616 (va_rf_cat _) ?_
  refine ax_bipush B dX5_init_617 (by decide) ?_
  refine ax_bipush B dX5_init_619 (by decide) ?_
  refine ax_bast B kd101 dX5_init_621 e (fun h107 e => ?_)
  refine ax_dup B dX5_init_622 (va_rf_cat _) ?_
  refine ax_bipush B dX5_init_623 (by decide) ?_
  refine ax_bipush B dX5_init_625 (by decide) ?_
  refine ax_bast B kd101 dX5_init_627 e (fun h108 e => ?_)
  refine ax_dup B dX5_init_628 (va_rf_cat _) ?_
  refine ax_bipush B dX5_init_629 (by decide) ?_
  refine ax_bipush B dX5_init_631 (by decide) ?_
  refine ax_bast B kd101 dX5_init_633 e (fun h109 e => ?_)
  refine ax_dup B dX5_init_634 (va_rf_cat _) ?_
  refine ax_bipush B dX5_init_635 (by decide) ?_
  refine ax_bipush B dX5_init_637 (by decide) ?_
  refine ax_bast B kd101 dX5_init_639 e (fun h110 e => ?_)
  refine ax_dup B dX5_init_640 (va_rf_cat _) ?_
  refine ax_bipush B dX5_init_641 (by decide) ?_
  refine ax_bipush B dX5_init_643 (by decide) ?_
  refine ax_bast B kd101 dX5_init_645 e (fun h111 e => ?_)
  refine ax_dup B dX5_init_646 (va_rf_cat _) ?_
  refine ax_bipush B dX5_init_647 (by decide) ?_
  refine ax_bipush B dX5_init_649 (by decide) ?_
  refine ax_bast B kd101 dX5_init_651 e (fun h112 e => ?_)
  refine ax_dup B dX5_init_652 (va_rf_cat _) ?_
  refine ax_bipush B dX5_init_653 (by decide) ?_
  refine ax_bipush B dX5_init_655 (by decide) ?_
  refine ax_bast B kd101 dX5_init_657 e (fun h113 e => ?_)
  refine ax_dup B dX5_init_658 (va_rf_cat _) ?_
  refine ax_bipush B dX5_init_659 (by decide) ?_
  refine ax_bipush B dX5_init_661 (by decide) ?_
  refine ax_bast B kd101 dX5_init_663 e (fun h114 e => ?_)
  refine ax_dup B dX5_init_664 (va_rf_cat _) ?_
  refine ax_bipush B dX5_init_665 (by decide) ?_
  refine ax_bipush B dX5_init_667 (by decide) ?_
  refine ax_bast B kd101 dX5_init_669 e (fun h115 e => ?_)
  refine ax_dup B dX5_init_670 (va_rf_cat _) ?_
  refine ax_bipush B dX5_init_671 (by decide) ?_
  refine ax_bipush B dX5_init_673 (by decide) ?_
  refine ax_bast B kd101 dX5_init_675 e (fun h116 e => ?_)
  refine ax_dup B dX5_init_676 (va_rf_cat _) ?_
  refine ax_bipush B dX5_init_677 (by decide) ?_
  refine ax_bipush B dX5_init_679 (by decide) ?_
  refine ax_bast B kd101 dX5_init_681 e (fun h117 e => ?_)
  refine ax_dup B dX5_init_682 (va_rf_cat _) ?_
  refine ax_bipush B dX5_init_683 (by decide) ?_
  refine ax_bipush B dX5_init_685 (by decide) ?_
  refine ax_bast B kd101 dX5_init_687 e (fun h118 e => ?_)
  refine ax_dup B dX5_init_688 (va_rf_cat _) ?_
  refine ax_bipush B dX5_init_689 (by decide) ?_
  refine ax_bipush B dX5_init_691 (by decide) ?_
  refine ax_bast B kd101 dX5_init_693 e (fun h119 e => ?_)
  refine ax_dup B dX5_init_694 (va_rf_cat _) ?_
  refine ax_bipush B dX5_init_695 (by decide) ?_
  refine ax_bipush B dX5_init_697 (by decide) ?_
  refine ax_bast B kd101 dX5_init_699 e (fun h120 e => ?_)
  refine ax_dup B dX5_init_700 (va_rf_cat _) ?_
  refine ax_bipush B dX5_init_701 (by decide) ?_
  refine ax_bipush B dX5_init_703 (by decide) ?_
  refine ax_bast B kd101 dX5_init_705 e (fun h121 e => ?_)
  refine ax_dup B dX5_init_706 (va_rf_cat _) ?_
  refine ax_bipush B dX5_init_707 (by decide) ?_
  refine ax_bipush B dX5_init_709 (by decide) ?_
  refine ax_bast B kd101 dX5_init_711 e (fun h122 e => ?_)
  refine ax_dup B dX5_init_712 (va_rf_cat _) ?_
  refine ax_bipush B dX5_init_713 (by decide) ?_
  refine ax_bipush B dX5_init_715 (by decide) ?_
  refine ax_bast B kd101 dX5_init_717 e (fun h123 e => ?_)
  refine ax_dup B dX5_init_718 (va_rf_cat _) ?_
  refine ax_bipush B dX5_init_719 (by decide) ?_
  refine ax_bipush B dX5_init_721 (by decide) ?_
  refine ax_bast B kd101 dX5_init_723 e (fun h124 e => ?_)
  refine ax_dup B dX5_init_724 (va_rf_cat _) ?_
  refine ax_bipush B dX5_init_725 (by decide) ?_
  refine ax_bipush B dX5_init_727 (by decide) ?_
  refine ax_bast B kd101 dX5_init_729 e (fun h125 e => ?_)
  refine ax_dup B dX5_init_730 (va_rf_cat _) ?_
  refine ax_bipush B dX5_init_731 (by decide) ?_
  refine ax_bipush B dX5_init_733 (by decide) ?_
  refine ax_bast B kd101 dX5_init_735 e (fun h126 e => ?_)
  refine ax_dup B dX5_init_736 (va_rf_cat _) ?_
  refine ax_bipush B dX5_init_737 (by decide) ?_
  refine ax_bipush B dX5_init_739 (by decide) ?_
  refine ax_bast B kd101 dX5_init_741 e (fun h127 e => ?_)
  refine ax_dup B dX5_init_742 (va_rf_cat _) ?_
  refine ax_bipush B dX5_init_743 (by decide) ?_
  refine ax_bipush B dX5_init_745 (by decide) ?_
  refine ax_bast B kd101 dX5_init_747 e (fun h128 e => ?_)
  refine ax_dup B dX5_init_748 (va_rf_cat _) ?_
  refine ax_bipush B dX5_init_749 (by decide) ?_
  refine ax_bipush B dX5_init_751 (by decide) ?_
  refine ax_bast B kd101 dX5_init_753 e (fun h129 e => ?_)
  refine ax_dup B dX5_init_754 (va_rf_cat _) ?_
  refine ax_bipush B dX5_init_755 (by decide) ?_
  refine ax_bipush B dX5_init_757 (by decide) ?_
  refine ax_bast B kd101 dX5_init_759 e (fun h130 e => ?_)
  refine ax_dup B dX5_init_760 (va_rf_cat _) ?_
  refine ax_bipush B dX5_init_761 (by decide) ?_
  refine ax_bipush B dX5_init_763 (by decide) ?_
  refine ax_bast B kd101 dX5_init_765 e (fun h131 e => ?_)
  refine ax_dup B dX5_init_766 (va_rf_cat _) ?_
  refine ax_bipush B dX5_init_767 (by decide) ?_
  refine ax_bipush B dX5_init_769 (by decide) ?_
  refine ax_bast B kd101 dX5_init_771 e (fun h132 e => ?_)
  refine ax_dup B dX5_init_772 (va_rf_cat _) ?_
  refine ax_bipush B dX5_init_773 (by decide) ?_
  refine ax_bipush B dX5_init_775 (by decide) ?_
  refine ax_bast B kd101 dX5_init_777 e (fun h133 e => ?_)
  refine ax_dup B dX5_init_778 (va_rf_cat _) ?_
  refine ax_bipush B dX5_init_779 (by decide) ?_
  refine ax_bipush B dX5_init_781 (by decide) ?_
  refine ax_bast B kd101 dX5_init_783 e (fun h134 e => ?_)
  refine ax_dup B dX5_init_784 (va_rf_cat _) ?_
  refine ax_bipush B dX5_init_785 (by decide) ?_
  refine ax_bipush B dX5_init_787 (by decide) ?_
  refine ax_bast B kd101 dX5_init_789 e (fun h135 e => ?_)
  refine ax_dup B dX5_init_790 (va_rf_cat _) ?_
  refine ax_bipush B dX5_init_791 (by decide) ?_
  refine ax_bipush B dX5_init_793 (by decide) ?_
  refine ax_bast B kd101 dX5_init_795 e (fun h136 e => ?_)
  refine ax_dup B dX5_init_796 (va_rf_cat _) ?_
  refine ax_bipush B dX5_init_797 (by decide) ?_
  refine ax_bipush B dX5_init_799 (by decide) ?_
  refine ax_bast B kd101 dX5_init_801 e (fun h137 e => ?_)
  refine ax_dup B dX5_init_802 (va_rf_cat _) ?_
  refine ax_bipush B dX5_init_803 (by decide) ?_
  refine ax_bipush B dX5_init_805 (by decide) ?_
  refine ax_bast B kd101 dX5_init_807 e (fun h138 e => ?_)
  refine ax_dup B dX5_init_808 (va_rf_cat _) ?_
  refine ax_bipush B dX5_init_809 (by decide) ?_
  refine ax_bipush B dX5_init_811 (by decide) ?_
  refine ax_bast B kd101 dX5_init_813 e (fun h139 e => ?_)
  refine ax_dup B dX5_init_814 (va_rf_cat _) ?_
  refine ax_sipush B dX5_init_815 (by decide) ?_
  refine ax_bipush B dX5_init_818 (by decide) ?_
  refine ax_bast B kd101 dX5_init_820 e (fun h140 e => ?_)
  refine ax_dup B dX5_init_821 (va_rf_cat _) ?_
  refine ax_sipush B dX5_init_822 (by decide) ?_
  refine ax_bipush B dX5_init_825 (by decide) ?_
  refine ax_bast B kd101 dX5_init_827 e (fun h141 e => ?_)
  refine ax_dup B dX5_init_828 (va_rf_cat _) ?_
  refine ax_sipush B dX5_init_829 (by decide) ?_
  refine ax_bipush B dX5_init_832 (by decide) ?_
  refine ax_bast B kd101 dX5_init_834 e (fun h142 e => ?_)
  refine ax_dup B dX5_init_835 (va_rf_cat _) ?_
  refine ax_sipush B dX5_init_836 (by decide) ?_
  refine ax_bipush B dX5_init_839 (by decide) ?_
  refine ax_bast B kd101 dX5_init_841 e (fun h143 e => ?_)
  refine ax_dup B dX5_init_842 (va_rf_cat _) ?_
  refine ax_sipush B dX5_init_843 (by decide) ?_
  refine ax_bipush B dX5_init_846 (by decide) ?_
  refine ax_bast B kd101 dX5_init_848 e (fun h144 e => ?_)
  refine ax_dup B dX5_init_849 (va_rf_cat _) ?_
  refine ax_sipush B dX5_init_850 (by decide) ?_
  refine ax_bipush B dX5_init_853 (by decide) ?_
  refine ax_bast B kd101 dX5_init_855 e (fun h145 e => ?_)
  refine ax_dup B dX5_init_856 (va_rf_cat _) ?_
  refine ax_sipush B dX5_init_857 (by decide) ?_
  refine ax_bipush B dX5_init_860 (by decide) ?_
  refine ax_bast B kd101 dX5_init_862 e (fun h146 e => ?_)
  refine ax_dup B dX5_init_863 (va_rf_cat _) ?_
  refine ax_sipush B dX5_init_864 (by decide) ?_
  refine ax_bipush B dX5_init_867 (by decide) ?_
  refine ax_bast B kd101 dX5_init_869 e (fun h147 e => ?_)
  refine ax_dup B dX5_init_870 (va_rf_cat _) ?_
  refine ax_sipush B dX5_init_871 (by decide) ?_
  refine ax_bipush B dX5_init_874 (by decide) ?_
  refine ax_bast B kd101 dX5_init_876 e (fun h148 e => ?_)
  refine ax_dup B dX5_init_877 (va_rf_cat _) ?_
  refine ax_sipush B dX5_init_878 (by decide) ?_
  refine ax_bipush B dX5_init_881 (by decide) ?_
  refine ax_bast B kd101 dX5_init_883 e (fun h149 e => ?_)
  refine ax_dup B dX5_init_884 (va_rf_cat _) ?_
  refine ax_sipush B dX5_init_885 (by decide) ?_
  refine ax_bipush B dX5_init_888 (by decide) ?_
  refine ax_bast B kd101 dX5_init_890 e (fun h150 e => ?_)
  refine ax_dup B dX5_init_891 (va_rf_cat _) ?_
  refine ax_sipush B dX5_init_892 (by decide) ?_
  refine ax_bipush B dX5_init_895 (by decide) ?_
  refine ax_bast B kd101 dX5_init_897 e (fun h151 e => ?_)
  refine ax_dup B dX5_init_898 (va_rf_cat _) ?_
  refine ax_sipush B dX5_init_899 (by decide) ?_
  refine ax_bipush B dX5_init_902 (by decide) ?_
  refine ax_bast B kd101 dX5_init_904 e (fun h152 e => ?_)
  refine ax_dup B dX5_init_905 (va_rf_cat _) ?_
  refine ax_sipush B dX5_init_906 (by decide) ?_
  refine ax_bipush B dX5_init_909 (by decide) ?_
  refine ax_bast B kd101 dX5_init_911 e (fun h153 e => ?_)
  refine ax_dup B dX5_init_912 (va_rf_cat _) ?_
  refine ax_sipush B dX5_init_913 (by decide) ?_
  refine ax_bipush B dX5_init_916 (by decide) ?_
  refine ax_bast B kd101 dX5_init_918 e (fun h154 e => ?_)
  refine ax_dup B dX5_init_919 (va_rf_cat _) ?_
  refine ax_sipush B dX5_init_920 (by decide) ?_
  refine ax_bipush B dX5_init_923 (by decide) ?_
  refine ax_bast B kd101 dX5_init_925 e (fun h155 e => ?_)
  refine ax_dup B dX5_init_926 (va_rf_cat _) ?_
  refine ax_sipush B dX5_init_927 (by decide) ?_
  refine ax_bipush B dX5_init_930 (by decide) ?_
  refine ax_bast B kd101 dX5_init_932 e (fun h156 e => ?_)
  refine ax_dup B dX5_init_933 (va_rf_cat _) ?_
  refine ax_sipush B dX5_init_934 (by decide) ?_
  refine ax_bipush B dX5_init_937 (by decide) ?_
  refine ax_bast B kd101 dX5_init_939 e (fun h157 e => ?_)
  refine ax_dup B dX5_init_940 (va_rf_cat _) ?_
  refine ax_sipush B dX5_init_941 (by decide) ?_
  refine ax_bipush B dX5_init_944 (by decide) ?_
  refine ax_bast B kd101 dX5_init_946 e (fun h158 e => ?_)
  refine ax_putR B ff_X5_37_5 (Or.inr ⟨rfl, rfl, hn⟩) rfl dX5_init_947 e (fun h159 e => ?_)
  refine ax_aload_n B dX5_init_950 rfl hl 0 rfl ?_
  refine ax_sipush B dX5_init_951 (by decide) ?_
  refine ax_newa (atype := .byte) B kd101 q407 rfl (by decide) dX5_init_954 e (fun q160 e => ?_)
  refine ax_putR B ff_X5_41_5 (Or.inr ⟨rfl, rfl, hn⟩) rfl dX5_init_956 e (fun h161 e => ?_)
  refine ax_aload_n B dX5_init_959 rfl hl 0 rfl ?_
  refine ax_iconst B dX5_init_960 ?_
  refine ax_newa (atype := .int) B kd100 q259 rfl (by decide) dX5_init_961 e (fun q162 e => ?_)
  refine ax_putR B ff_X5_44_5 (Or.inr ⟨rfl, rfl, hn⟩) rfl dX5_init_963 e (fun h163 e => ?_)
  refine ax_aload_n B dX5_init_966 rfl hl 0 rfl ?_
  refine ax_iconst B dX5_init_967 ?_
  refine ax_putI B ff_X5_47_5 (Or.inl rfl) rfl dX5_init_968 e (fun h164 e => ?_)
  refine ax_aload_n B dX5_init_971 rfl hl 0 rfl ?_
  refine ax_sipush B dX5_init_972 (by decide) ?_
  refine ax_newa (atype := .int) B kd100 q259 rfl (by decide) dX5_init_975 e (fun q165 e => ?_)
  refine ax_putR B ff_X5_50_5 (Or.inr ⟨rfl, rfl, hn⟩) rfl dX5_init_977 e (fun h166 e => ?_)
  refine ax_aload_n B dX5_init_980 rfl hl 0 rfl ?_
  refine ax_sipush B dX5_init_981 (by decide) ?_
  refine ax_newa (atype := .int) B kd100 q259 rfl (by decide) dX5_init_984 e (fun q167 e => ?_)
  refine ax_putR B ff_X5_53_5 (Or.inr ⟨rfl, rfl, hn⟩) rfl dX5_init_986 e (fun h168 e => ?_)
  refine ax_aload_n B dX5_init_989 rfl hl 0 rfl ?_
  refine ax_sipush B dX5_init_990 (by decide) ?_
  refine ax_newa (atype := .int) B kd100 q259 rfl (by decide) dX5_init_993 e (fun q169 e => ?_)
  refine ax_putR B ff_X5_56_5 (Or.inr ⟨rfl, rfl, hn⟩) rfl dX5_init_995 e (fun h170 e => ?_)
  refine ax_aload_n B dX5_init_998 rfl hl 0 rfl ?_
  refine ax_bipush B dX5_init_999 (by decide) ?_
  refine ax_newa (atype := .int) B kd100 q259 rfl (by decide) dX5_init_1001 e (fun q171 e => ?_)
  refine ax_putR B ff_X5_59_5 (Or.inr ⟨rfl, rfl, hn⟩) rfl dX5_init_1003 e (fun h172 e => ?_)
  refine ax_aload_n B dX5_init_1006 rfl hl 0 rfl ?_
  refine ax_iconst B dX5_init_1007 ?_
  refine ax_newa (atype := .int) B kd100 q259 rfl (by decide) dX5_init_1008 e (fun q173 e => ?_)
  refine ax_putR B ff_X5_62_5 (Or.inr ⟨rfl, rfl, hn⟩) rfl dX5_init_1010 e (fun h174 e => ?_)
  refine ax_aload_n B dX5_init_1013 rfl hl 0 rfl ?_
  refine ax_sipush B dX5_init_1014 (by decide) ?_
  refine ax_newa (atype := .int) B kd100 q259 rfl (by decide) dX5_init_1017 e (fun q175 e => ?_)
  refine ax_putR B ff_X5_65_5 (Or.inr ⟨rfl, rfl, hn⟩) rfl dX5_init_1019 e (fun h176 e => ?_)
  refine ax_aload_n B dX5_init_1022 rfl hl 0 rfl ?_
  refine ax_sipush B dX5_init_1023 (by decide) ?_
  refine ax_newa (atype := .int) B kd100 q259 rfl (by decide) dX5_init_1026 e (fun q177 e => ?_)
  refine ax_putR B ff_X5_68_5 (Or.inr ⟨rfl, rfl, hn⟩) rfl dX5_init_1028 e (fun h178 e => ?_)
  refine ax_aload_n B dX5_init_1031 rfl hl 0 rfl ?_
  refine ax_bipush B dX5_init_1032 (by decide) ?_
  refine ax_newa (atype := .int) B kd100 q259 rfl (by decide) dX5_init_1034 e (fun q179 e => ?_)
  refine ax_putR B ff_X5_71_5 (Or.inr ⟨rfl, rfl, hn⟩) rfl dX5_init_1036 e (fun h180 e => ?_)
  refine ax_aload_n B dX5_init_1039 rfl hl 0 rfl ?_
  refine ax_bipush B dX5_init_1040 (by decide) ?_
  refine ax_newa (atype := .int) B kd100 q259 rfl (by decide) dX5_init_1042 e (fun q181 e => ?_)
  refine ax_putR B ff_X5_74_5 (Or.inr ⟨rfl, rfl, hn⟩) rfl dX5_init_1044 e (fun h182 e => ?_)
  refine ax_aload_n B dX5_init_1047 rfl hl 0 rfl ?_
  refine ax_bipush B dX5_init_1048 (by decide) ?_
  refine ax_newa (atype := .int) B kd100 q259 rfl (by decide) dX5_init_1050 e (fun q183 e => ?_)
  refine ax_putR B ff_X5_77_5 (Or.inr ⟨rfl, rfl, hn⟩) rfl dX5_init_1052 e (fun h184 e => ?_)
  refine ax_aload_n B dX5_init_1055 rfl hl 0 rfl ?_
  refine ax_bipush B dX5_init_1056 (by decide) ?_
  refine ax_newa (atype := .int) B kd100 q259 rfl (by decide) dX5_init_1058 e (fun q185 e => ?_)
  refine ax_putR B ff_X5_80_5 (Or.inr ⟨rfl, rfl, hn⟩) rfl dX5_init_1060 e (fun h186 e => ?_)
  refine ax_aload_n B dX5_init_1063 rfl hl 0 rfl ?_
  refine ax_sipush B dX5_init_1064 (by decide) ?_
  refine ax_newa (atype := .int) B kd100 q259 rfl (by decide) dX5_init_1067 e (fun q187 e => ?_)
  refine ax_putR B ff_X5_83_5 (Or.inr ⟨rfl, rfl, hn⟩) rfl dX5_init_1069 e (fun h188 e => ?_)
  refine ax_aload_n B dX5_init_1072 rfl hl 0 rfl ?_
  refine ax_bipush B dX5_init_1073 (by decide) ?_
  refine ax_newa (atype := .int) B kd100 q259 rfl (by decide) dX5_init_1075 e (fun q189 e => ?_)
  refine ax_putR B ff_X5_86_5 (Or.inr ⟨rfl, rfl, hn⟩) rfl dX5_init_1077 e (fun h190 e => ?_)
  refine ax_aload_n B dX5_init_1080 rfl hl 0 rfl ?_
  refine ax_bipush B dX5_init_1081 (by decide) ?_
  refine ax_newa (atype := .int) B kd100 q259 rfl (by decide) dX5_init_1083 e (fun q191 e => ?_)
  refine ax_putR B ff_X5_89_5 (Or.inr ⟨rfl, rfl, hn⟩) rfl dX5_init_1085 e (fun h192 e => ?_)
  refine ax_aload_n B dX5_init_1088 rfl hl 0 rfl ?_
  refine ax_bipush B dX5_init_1089 (by decide) ?_
  refine ax_newa (atype := .int) B kd100 q259 rfl (by decide) dX5_init_1091 e (fun q193 e => ?_)
  refine ax_putR B ff_X5_92_5 (Or.inr ⟨rfl, rfl, hn⟩) rfl dX5_init_1093 e (fun h194 e => ?_)
  refine ax_aload_n B dX5_init_1096 rfl hl 0 rfl ?_
  refine ax_bipush B dX5_init_1097 (by decide) ?_
  refine ax_newa (atype := .int) B kd100 q259 rfl (by decide) dX5_init_1099 e (fun q195 e => ?_)
  refine ax_putR B ff_X5_95_5 (Or.inr ⟨rfl, rfl, hn⟩) rfl dX5_init_1101 e (fun h196 e => ?_)
  refine ax_aload_n B dX5_init_1104 rfl hl 0 rfl ?_
  refine ax_bipush B dX5_init_1105 (by decide) ?_
  refine ax_newa (atype := .int) B kd100 q259 rfl (by decide) dX5_init_1107 e (fun q197 e => ?_)
  refine ax_putR B ff_X5_98_5 (Or.inr ⟨rfl, rfl, hn⟩) rfl dX5_init_1109 e (fun h198 e => ?_)
  refine ax_aload_n B dX5_init_1112 rfl hl 0 rfl ?_
  refine ax_bipush B dX5_init_1113 (by decide) ?_
  refine ax_newa (atype := .int) B kd100 q259 rfl (by decide) dX5_init_1115 e (fun q199 e => ?_)
  refine ax_putR B ff_X5_101_5 (Or.inr ⟨rfl, rfl, hn⟩) rfl dX5_init_1117 e (fun h200 e => ?_)
  refine ax_aload_n B dX5_init_1120 rfl hl 0 rfl ?_
  refine ax_sipush B dX5_init_1121 (by decide) ?_
  refine ax_newa (atype := .int) B kd100 q259 rfl (by decide) dX5_init_1124 e (fun q201 e => ?_)
  refine ax_putR B ff_X5_104_5 (Or.inr ⟨rfl, rfl, hn⟩) rfl dX5_init_1126 e (fun h202 e => ?_)
  refine ax_aload_n B dX5_init_1129 rfl hl 0 rfl ?_
  refine ax_iconst B dX5_init_1130 ?_
  refine ax_putI B ff_X5_107_5 (Or.inl rfl) rfl dX5_init_1131 e (fun h203 e => ?_)
  refine ax_aload_n B dX5_init_1134 rfl hl 0 rfl ?_
  refine ax_iconst B dX5_init_1135 ?_
  refine ax_newa (atype := .long) B kd103 q325 rfl (by decide) dX5_init_1136 e (fun q204 e => ?_)
  refine ax_putR B ff_X5_110_5 (Or.inr ⟨rfl, rfl, hn⟩) rfl dX5_init_1138 e (fun h205 e => ?_)
  refine ax_aload_n B dX5_init_1141 rfl hl 0 rfl ?_
  refine ax_bipush B dX5_init_1142 (by decide) ?_
  refine ax_newa (atype := .int) B kd100 q259 rfl (by decide) dX5_init_1144 e (fun q206 e => ?_)
  refine ax_putR B ff_X5_114_5 (Or.inr ⟨rfl, rfl, hn⟩) rfl dX5_init_1146 e (fun h207 e => ?_)
  refine ax_aload_n B dX5_init_1149 rfl hl 0 rfl ?_
  refine ax_bipush B dX5_init_1150 (by decide) ?_
  refine ax_newa (atype := .int) B kd100 q259 rfl (by decide) dX5_init_1152 e (fun q208 e => ?_)
  refine ax_putR B ff_X5_117_5 (Or.inr ⟨rfl, rfl, hn⟩) rfl dX5_init_1154 e (fun h209 e => ?_)
  refine ax_aload_n B dX5_init_1157 rfl hl 0 rfl ?_
  refine ax_bipush B dX5_init_1158 (by decide) ?_
  refine ax_newa (atype := .int) B kd100 q259 rfl (by decide) dX5_init_1160 e (fun q210 e => ?_)
  refine ax_putR B ff_X5_120_5 (Or.inr ⟨rfl, rfl, hn⟩) rfl dX5_init_1162 e (fun h211 e => ?_)
  refine ax_aload_n B dX5_init_1165 rfl hl 0 rfl ?_
  refine ax_getR B ff_X5_24_5 (fun _ _ => rfl) dX5_init_1166 e (fun v212 e => ?_)
  refine ax_sipush B dX5_init_1169 (by decide) ?_
  refine ax_iconst B dX5_init_1172 ?_
  refine ax_iast B kd100 dX5_init_1173 e (fun h213 e => ?_)
  have e8 := e
  have hp : Q = _ := hp
  subst hp
  exact ax_return B Z dX5_init_1174 e8
theorem mt_X5_init (l : Launch) (G : ax_G) (hSF : ax_SF G) (x0 : Option Nat) (h : ax_H) (w : ax_H) (e : f_X5_init G.2.2 x0 h = some w) : ax_Met l G yX5_init cX5_init 1 none 1 40 [va_rf x0] h w none :=
  ax_enter [.inr (.inr x0)] (y := yX5_init) hSF (plainFor_of_name (by decide +kernel)) (Nat.le_of_ble_eq_true rfl) (fun X ls B Z hn hl => we_X5_init hSF B Z hn x0 hl e rfl)
def dkwX5_lies_0 : List UInt8 := [26, 27, 161, 0, 12, 26, 28, 163, 0, 7, 4, 167, 0, 4, 3, 172]
abbrev dktX5_lies_0 : List UInt8 := dkwX5_lies_0 ++ []
theorem dksX5_lies_0 : cX5_lies.data.toList.drop 0 = dktX5_lies_0 := by decide +kernel
theorem dX5_lies_0 : decode cX5_lies 0 = .ok (.iload_n 0, 1) := dk_26 (dk_at dksX5_lies_0 0 rfl rfl)
theorem dX5_lies_1 : decode cX5_lies 1 = .ok (.iload_n 1, 1) := dk_27 (dk_at dksX5_lies_0 1 rfl rfl)
theorem dX5_lies_2 : decode cX5_lies 2 = .ok (.if_icmp .lt 12, 3) := dk_161 0 12 (dk_at dksX5_lies_0 2 rfl rfl)
theorem dX5_lies_5 : decode cX5_lies 5 = .ok (.iload_n 0, 1) := dk_26 (dk_at dksX5_lies_0 5 rfl rfl)
theorem dX5_lies_6 : decode cX5_lies 6 = .ok (.iload_n 2, 1) := dk_28 (dk_at dksX5_lies_0 6 rfl rfl)
theorem dX5_lies_7 : decode cX5_lies 7 = .ok (.if_icmp .gt 7, 3) := dk_163 0 7 (dk_at dksX5_lies_0 7 rfl rfl)
theorem dX5_lies_10 : decode cX5_lies 10 = .ok (.iconst 1, 1) := dk_4 (dk_at dksX5_lies_0 10 rfl rfl)
theorem dX5_lies_11 : decode cX5_lies 11 = .ok (.goto 4, 3) := dk_167 0 4 (dk_at dksX5_lies_0 11 rfl rfl)
theorem dX5_lies_14 : decode cX5_lies 14 = .ok (.iconst 0, 1) := dk_3 (dk_at dksX5_lies_0 14 rfl rfl)
theorem dX5_lies_15 : decode cX5_lies 15 = .ok (.ireturn, 1) := dk_172 (dk_at dksX5_lies_0 15 rfl rfl)
noncomputable def f_X5_lies_14 (E : ax_E) (h : ax_H) : Option (Int × ax_H) :=
  some (0, h)
noncomputable def f_X5_lies (E : ax_E) (x0 : Int) (x1 : Int) (x2 : Int) (h : ax_H) : Option (Int × ax_H) :=
  if i2 x0 < i2 x1 then
    f_X5_lies_14 E h
  else
    if i2 x2 < i2 x0 then
      f_X5_lies_14 E h
    else
      some (1, h)
set_option maxHeartbeats 4000000 in
theorem w_X5_lies_14 {l : Launch} {G : ax_G} {X : ax_X} {Q : State → Prop} {h0 h : ax_H} {ls : Array Slot} (hSF : ax_SF G) (B : ax_BL l G X cX5_lies 3 RX5 1 40) (Z : ax_Z X h0 ((some FieldType.boolean))) (hn : X.2.2.2.2.2.2.2.2.1.name = yX5_lies.name) {w : Int × ax_H} (hl : ax_hl ls 3 []) (e : f_X5_lies_14 G.2.2 h = some w) (hp : (fun w : Int × ax_H => Q = ax_Q G X h0 w.2 (some (.int (Int32.ofInt w.1)))) w) : ax_W G X Q h 14 ls [] := by
  unfold f_X5_lies_14 at e
  refine ax_iconst B dX5_lies_14 ?_
  have e8 := e
  have hp : Q = _ := hp
  subst hp
  exact ax_zreturnL (by decide) B Z dX5_lies_15 e8
set_option maxHeartbeats 4000000 in
theorem we_X5_lies {l : Launch} {G : ax_G} {X : ax_X} {Q : State → Prop} {h0 h : ax_H} {ls : Array Slot} (hSF : ax_SF G) (B : ax_BL l G X cX5_lies 3 RX5 1 40) (Z : ax_Z X h0 ((some FieldType.boolean))) (hn : X.2.2.2.2.2.2.2.2.1.name = yX5_lies.name) (x0 : Int) (x1 : Int) (x2 : Int) {w : Int × ax_H} (hl : ax_hl ls 3 [(0, .inl x0), (1, .inl x1), (2, .inl x2)]) (e : f_X5_lies G.2.2 x0 x1 x2 h = some w) (hp : (fun w : Int × ax_H => Q = ax_Q G X h0 w.2 (some (.int (Int32.ofInt w.1)))) w) : ax_W G X Q h 0 ls [] := by
  unfold f_X5_lies at e
  refine ax_iload_n B dX5_lies_0 rfl hl 0 rfl ?_
  refine ax_iload_n B dX5_lies_1 rfl hl 1 rfl ?_
  refine ax_icmp_lt (tgt := 14) B dX5_lies_2 (by decide) e (fun e => ?_) (fun e => ?_)
  · exact w_X5_lies_14 hSF B Z hn (hl.sub [] rfl) e hp
  · refine ax_iload_n B dX5_lies_5 rfl hl 0 rfl ?_
    refine ax_iload_n B dX5_lies_6 rfl hl 2 rfl ?_
    refine ax_icmp_gt (tgt := 14) B dX5_lies_7 (by decide) e (fun e => ?_) (fun e => ?_)
    · exact w_X5_lies_14 hSF B Z hn (hl.sub [] rfl) e hp
    · refine ax_iconst B dX5_lies_10 ?_
      refine ax_goto (tgt := 15) B dX5_lies_11 (by decide) ?_
      have e8 := e
      have hp : Q = _ := hp
      subst hp
      exact ax_zreturnL (by decide) B Z dX5_lies_15 e8
theorem mt_X5_lies (l : Launch) (G : ax_G) (hSF : ax_SF G) (x0 : Int) (x1 : Int) (x2 : Int) (h : ax_H) (w : Int × ax_H) (e : f_X5_lies G.2.2 x0 x1 x2 h = some w) : ax_Met l G yX5_lies cX5_lies 3 ((some FieldType.boolean)) 1 40 [.int (Int32.ofInt x0), .int (Int32.ofInt x1), .int (Int32.ofInt x2)] h w.2 (some (.int (Int32.ofInt w.1))) :=
  ax_enter [.inl x0, .inl x1, .inl x2] (y := yX5_lies) hSF (plainFor_of_name (by decide +kernel)) (Nat.le_of_ble_eq_true rfl) (fun X ls B Z hn hl => we_X5_lies hSF B Z hn x0 x1 x2 hl e rfl)
def dkwX5_refuses_0 : List UInt8 := [42, 27, 181, 0, 3, 42, 180, 0, 7, 27, 116, 92, 46, 4, 96, 79, 27, 172]
abbrev dktX5_refuses_0 : List UInt8 := dkwX5_refuses_0 ++ []
theorem dksX5_refuses_0 : cX5_refuses.data.toList.drop 0 = dktX5_refuses_0 := by decide +kernel
theorem dX5_refuses_0 : decode cX5_refuses 0 = .ok (.aload_n 0, 1) := dk_42 (dk_at dksX5_refuses_0 0 rfl rfl)
theorem dX5_refuses_1 : decode cX5_refuses 1 = .ok (.iload_n 1, 1) := dk_27 (dk_at dksX5_refuses_0 1 rfl rfl)
theorem dX5_refuses_2 : decode cX5_refuses 2 = .ok (.putfield 3, 3) := dk_181 0 3 (dk_at dksX5_refuses_0 2 rfl rfl)
theorem dX5_refuses_5 : decode cX5_refuses 5 = .ok (.aload_n 0, 1) := dk_42 (dk_at dksX5_refuses_0 5 rfl rfl)
theorem dX5_refuses_6 : decode cX5_refuses 6 = .ok (.getfield 7, 3) := dk_180 0 7 (dk_at dksX5_refuses_0 6 rfl rfl)
theorem dX5_refuses_9 : decode cX5_refuses 9 = .ok (.iload_n 1, 1) := dk_27 (dk_at dksX5_refuses_0 9 rfl rfl)
theorem dX5_refuses_10 : decode cX5_refuses 10 = .ok (.ineg, 1) := dk_116 (dk_at dksX5_refuses_0 10 rfl rfl)
theorem dX5_refuses_11 : decode cX5_refuses 11 = .ok (.dup2, 1) := dk_92 (dk_at dksX5_refuses_0 11 rfl rfl)
theorem dX5_refuses_12 : decode cX5_refuses 12 = .ok (.iaload, 1) := dk_46 (dk_at dksX5_refuses_0 12 rfl rfl)
theorem dX5_refuses_13 : decode cX5_refuses 13 = .ok (.iconst 1, 1) := dk_4 (dk_at dksX5_refuses_0 13 rfl rfl)
theorem dX5_refuses_14 : decode cX5_refuses 14 = .ok (.iadd, 1) := dk_96 (dk_at dksX5_refuses_0 14 rfl rfl)
theorem dX5_refuses_15 : decode cX5_refuses 15 = .ok (.iastore, 1) := dk_79 (dk_at dksX5_refuses_0 15 rfl rfl)
theorem dX5_refuses_16 : decode cX5_refuses 16 = .ok (.iload_n 1, 1) := dk_27 (dk_at dksX5_refuses_0 16 rfl rfl)
theorem dX5_refuses_17 : decode cX5_refuses 17 = .ok (.ireturn, 1) := dk_172 (dk_at dksX5_refuses_0 17 rfl rfl)
theorem ff_X5_3_5 : ax_FF RX5 3 5 0 (tyX5 0) 0 false := ⟨RX5, TX5, 61, tyX5, "DebtDoorsModel", kd5, in_X5, tyX5_ok, apX5, by decide, rfl, ⟨fun _ => rfl, fun h => absurd h (by decide)⟩, q1962, Or.inl rfl, fun h => absurd h (by decide)⟩
noncomputable def f_X5_refuses (E : ax_E) (x0 : Option Nat) (x1 : Int) (h : ax_H) : Option (Int × ax_H) :=
  (ax_pI h x0 5 0 x1).bind fun h1 =>
  (ax_gR E h1 x0 5 1).bind fun v2 =>
  (ax_ld E h1 v2 100 (-x1)).bind fun v3 =>
  (ax_sto h1 v2 100 (-x1) (v3 + 1)).bind fun h4 =>
  some (x1, h4)
set_option maxHeartbeats 4000000 in
theorem we_X5_refuses {l : Launch} {G : ax_G} {X : ax_X} {Q : State → Prop} {h0 h : ax_H} {ls : Array Slot} (hSF : ax_SF G) (B : ax_BL l G X cX5_refuses 2 RX5 1 40) (Z : ax_Z X h0 ((some FieldType.int))) (hn : X.2.2.2.2.2.2.2.2.1.name = yX5_refuses.name) (x0 : Option Nat) (x1 : Int) {w : Int × ax_H} (hl : ax_hl ls 2 [(0, .inr (.inr x0)), (1, .inl x1)]) (e : f_X5_refuses G.2.2 x0 x1 h = some w) (hp : (fun w : Int × ax_H => Q = ax_Q G X h0 w.2 (some (.int (Int32.ofInt w.1)))) w) : ax_W G X Q h 0 ls [] := by
  unfold f_X5_refuses at e
  refine ax_aload_n B dX5_refuses_0 rfl hl 0 rfl ?_
  refine ax_iload_n B dX5_refuses_1 rfl hl 1 rfl ?_
  refine ax_putI B ff_X5_3_5 (Or.inl rfl) rfl dX5_refuses_2 e (fun h1 e => ?_)
  refine ax_aload_n B dX5_refuses_5 rfl hl 0 rfl ?_
  refine ax_getR B ff_X5_7_5 (fun _ _ => rfl) dX5_refuses_6 e (fun v2 e => ?_)
  refine ax_iload_n B dX5_refuses_9 rfl hl 1 rfl ?_
  refine ax_ineg' B dX5_refuses_10 ?_
  refine ax_dup2 B dX5_refuses_11 (rfl) (va_rf_cat _) ?_
  refine ax_iald B kd100 dX5_refuses_12 e (fun v3 e => ?_)
  refine ax_iconst B dX5_refuses_13 ?_
  refine ax_iadd' B dX5_refuses_14 ?_
  refine ax_iast B kd100 dX5_refuses_15 e (fun h4 e => ?_)
  refine ax_iload_n B dX5_refuses_16 rfl hl 1 rfl ?_
  have e8 := e
  have hp : Q = _ := hp
  subst hp
  exact ax_ireturn B Z dX5_refuses_17 e8
theorem mt_X5_refuses (l : Launch) (G : ax_G) (hSF : ax_SF G) (x0 : Option Nat) (x1 : Int) (h : ax_H) (w : Int × ax_H) (e : f_X5_refuses G.2.2 x0 x1 h = some w) : ax_Met l G yX5_refuses cX5_refuses 2 ((some FieldType.int)) 1 40 [va_rf x0, .int (Int32.ofInt x1)] h w.2 (some (.int (Int32.ofInt w.1))) :=
  ax_enter [.inr (.inr x0), .inl x1] (y := yX5_refuses) hSF (plainFor_of_name (by decide +kernel)) (Nat.le_of_ble_eq_true rfl) (fun X ls B Z hn hl => we_X5_refuses hSF B Z hn x0 x1 hl e rfl)
def dkwX5_good_0 : List UInt8 := [42, 3, 181, 0, 3, 27, 172]
abbrev dktX5_good_0 : List UInt8 := dkwX5_good_0 ++ []
theorem dksX5_good_0 : cX5_good.data.toList.drop 0 = dktX5_good_0 := by decide +kernel
theorem dX5_good_0 : decode cX5_good 0 = .ok (.aload_n 0, 1) := dk_42 (dk_at dksX5_good_0 0 rfl rfl)
theorem dX5_good_1 : decode cX5_good 1 = .ok (.iconst 0, 1) := dk_3 (dk_at dksX5_good_0 1 rfl rfl)
theorem dX5_good_2 : decode cX5_good 2 = .ok (.putfield 3, 3) := dk_181 0 3 (dk_at dksX5_good_0 2 rfl rfl)
theorem dX5_good_5 : decode cX5_good 5 = .ok (.iload_n 1, 1) := dk_27 (dk_at dksX5_good_0 5 rfl rfl)
theorem dX5_good_6 : decode cX5_good 6 = .ok (.ireturn, 1) := dk_172 (dk_at dksX5_good_0 6 rfl rfl)
noncomputable def f_X5_good (E : ax_E) (x0 : Option Nat) (x1 : Int) (h : ax_H) : Option (Int × ax_H) :=
  (ax_pI h x0 5 0 0).bind fun h1 =>
  some (x1, h1)
set_option maxHeartbeats 4000000 in
theorem we_X5_good {l : Launch} {G : ax_G} {X : ax_X} {Q : State → Prop} {h0 h : ax_H} {ls : Array Slot} (hSF : ax_SF G) (B : ax_BL l G X cX5_good 2 RX5 1 40) (Z : ax_Z X h0 ((some FieldType.int))) (hn : X.2.2.2.2.2.2.2.2.1.name = yX5_good.name) (x0 : Option Nat) (x1 : Int) {w : Int × ax_H} (hl : ax_hl ls 2 [(0, .inr (.inr x0)), (1, .inl x1)]) (e : f_X5_good G.2.2 x0 x1 h = some w) (hp : (fun w : Int × ax_H => Q = ax_Q G X h0 w.2 (some (.int (Int32.ofInt w.1)))) w) : ax_W G X Q h 0 ls [] := by
  unfold f_X5_good at e
  refine ax_aload_n B dX5_good_0 rfl hl 0 rfl ?_
  refine ax_iconst B dX5_good_1 ?_
  refine ax_putI B ff_X5_3_5 (Or.inl rfl) rfl dX5_good_2 e (fun h1 e => ?_)
  refine ax_iload_n B dX5_good_5 rfl hl 1 rfl ?_
  have e8 := e
  have hp : Q = _ := hp
  subst hp
  exact ax_ireturn B Z dX5_good_6 e8
theorem mt_X5_good (l : Launch) (G : ax_G) (hSF : ax_SF G) (x0 : Option Nat) (x1 : Int) (h : ax_H) (w : Int × ax_H) (e : f_X5_good G.2.2 x0 x1 h = some w) : ax_Met l G yX5_good cX5_good 2 ((some FieldType.int)) 1 40 [va_rf x0, .int (Int32.ofInt x1)] h w.2 (some (.int (Int32.ofInt w.1))) :=
  ax_enter [.inr (.inr x0), .inl x1] (y := yX5_good) hSF (plainFor_of_name (by decide +kernel)) (Nat.le_of_ble_eq_true rfl) (fun X ls B Z hn hl => we_X5_good hSF B Z hn x0 x1 hl e rfl)
def dkwX5_image_2 : List UInt8 := [42, 180, 0, 30, 27, 4, 84, 42, 3, 182, 0, 14, 172]
abbrev dktX5_image_2 : List UInt8 := dkwX5_image_2 ++ []
def dkwX5_image_1 : List UInt8 := [42, 180, 0, 27, 17, 22, 132, 27, 104, 28, 96, 42, 180, 0, 24, 28, 46, 79, 132, 2, 1, 167, 255, 228]
abbrev dktX5_image_1 : List UInt8 := dkwX5_image_1 ++ dktX5_image_2
def dkwX5_image_0 : List UInt8 := [27, 3, 4, 184, 0, 123, 154, 0, 9, 42, 2, 182, 0, 127, 172, 3, 61, 28, 17, 22, 132, 162, 0, 27]
abbrev dktX5_image_0 : List UInt8 := dkwX5_image_0 ++ dktX5_image_1
theorem dksX5_image_0 : cX5_image.data.toList.drop 0 = dktX5_image_0 := by decide +kernel
theorem dksX5_image_1 : cX5_image.data.toList.drop 24 = dktX5_image_1 := dk_seg dksX5_image_0 24 rfl rfl
theorem dksX5_image_2 : cX5_image.data.toList.drop 48 = dktX5_image_2 := dk_seg dksX5_image_1 24 rfl rfl
theorem dX5_image_0 : decode cX5_image 0 = .ok (.iload_n 1, 1) := dk_27 (dk_at dksX5_image_0 0 rfl rfl)
theorem dX5_image_1 : decode cX5_image 1 = .ok (.iconst 0, 1) := dk_3 (dk_at dksX5_image_0 1 rfl rfl)
theorem dX5_image_2 : decode cX5_image 2 = .ok (.iconst 1, 1) := dk_4 (dk_at dksX5_image_0 2 rfl rfl)
theorem dX5_image_3 : decode cX5_image 3 = .ok (.invokestatic 123, 3) := dk_184 0 123 (dk_at dksX5_image_0 3 rfl rfl)
theorem dX5_image_6 : decode cX5_image 6 = .ok (.ifCond .ne 9, 3) := dk_154 0 9 (dk_at dksX5_image_0 6 rfl rfl)
theorem dX5_image_9 : decode cX5_image 9 = .ok (.aload_n 0, 1) := dk_42 (dk_at dksX5_image_0 9 rfl rfl)
theorem dX5_image_10 : decode cX5_image 10 = .ok (.iconst (-1), 1) := dk_2 (dk_at dksX5_image_0 10 rfl rfl)
theorem dX5_image_11 : decode cX5_image 11 = .ok (.invokevirtual 127, 3) := dk_182 0 127 (dk_at dksX5_image_0 11 rfl rfl)
theorem dX5_image_14 : decode cX5_image 14 = .ok (.ireturn, 1) := dk_172 (dk_at dksX5_image_0 14 rfl rfl)
theorem dX5_image_15 : decode cX5_image 15 = .ok (.iconst 0, 1) := dk_3 (dk_at dksX5_image_0 15 rfl rfl)
theorem dX5_image_16 : decode cX5_image 16 = .ok (.istore_n 2, 1) := dk_61 (dk_at dksX5_image_0 16 rfl rfl)
theorem dX5_image_17 : decode cX5_image 17 = .ok (.iload_n 2, 1) := dk_28 (dk_at dksX5_image_0 17 rfl rfl)
theorem dX5_image_18 : decode cX5_image 18 = .ok (.sipush 5764, 3) := dk_17 22 132 (dk_at dksX5_image_0 18 rfl rfl)
theorem dX5_image_21 : decode cX5_image 21 = .ok (.if_icmp .ge 27, 3) := dk_162 0 27 (dk_at dksX5_image_0 21 rfl rfl)
theorem dX5_image_24 : decode cX5_image 24 = .ok (.aload_n 0, 1) := dk_42 (dk_at dksX5_image_1 0 rfl rfl)
theorem dX5_image_25 : decode cX5_image 25 = .ok (.getfield 27, 3) := dk_180 0 27 (dk_at dksX5_image_1 1 rfl rfl)
theorem dX5_image_28 : decode cX5_image 28 = .ok (.sipush 5764, 3) := dk_17 22 132 (dk_at dksX5_image_1 4 rfl rfl)
theorem dX5_image_31 : decode cX5_image 31 = .ok (.iload_n 1, 1) := dk_27 (dk_at dksX5_image_1 7 rfl rfl)
theorem dX5_image_32 : decode cX5_image 32 = .ok (.imul, 1) := dk_104 (dk_at dksX5_image_1 8 rfl rfl)
theorem dX5_image_33 : decode cX5_image 33 = .ok (.iload_n 2, 1) := dk_28 (dk_at dksX5_image_1 9 rfl rfl)
theorem dX5_image_34 : decode cX5_image 34 = .ok (.iadd, 1) := dk_96 (dk_at dksX5_image_1 10 rfl rfl)
theorem dX5_image_35 : decode cX5_image 35 = .ok (.aload_n 0, 1) := dk_42 (dk_at dksX5_image_1 11 rfl rfl)
theorem dX5_image_36 : decode cX5_image 36 = .ok (.getfield 24, 3) := dk_180 0 24 (dk_at dksX5_image_1 12 rfl rfl)
theorem dX5_image_39 : decode cX5_image 39 = .ok (.iload_n 2, 1) := dk_28 (dk_at dksX5_image_1 15 rfl rfl)
theorem dX5_image_40 : decode cX5_image 40 = .ok (.iaload, 1) := dk_46 (dk_at dksX5_image_1 16 rfl rfl)
theorem dX5_image_41 : decode cX5_image 41 = .ok (.iastore, 1) := dk_79 (dk_at dksX5_image_1 17 rfl rfl)
theorem dX5_image_42 : decode cX5_image 42 = .ok (.iinc 2 1, 3) := dk_132 2 1 (dk_at dksX5_image_1 18 rfl rfl)
theorem dX5_image_45 : decode cX5_image 45 = .ok (.goto (-28), 3) := dk_167 255 228 (dk_at dksX5_image_1 21 rfl rfl)
theorem dX5_image_48 : decode cX5_image 48 = .ok (.aload_n 0, 1) := dk_42 (dk_at dksX5_image_2 0 rfl rfl)
theorem dX5_image_49 : decode cX5_image 49 = .ok (.getfield 30, 3) := dk_180 0 30 (dk_at dksX5_image_2 1 rfl rfl)
theorem dX5_image_52 : decode cX5_image 52 = .ok (.iload_n 1, 1) := dk_27 (dk_at dksX5_image_2 4 rfl rfl)
theorem dX5_image_53 : decode cX5_image 53 = .ok (.iconst 1, 1) := dk_4 (dk_at dksX5_image_2 5 rfl rfl)
theorem dX5_image_54 : decode cX5_image 54 = .ok (.bastore, 1) := dk_84 (dk_at dksX5_image_2 6 rfl rfl)
theorem dX5_image_55 : decode cX5_image 55 = .ok (.aload_n 0, 1) := dk_42 (dk_at dksX5_image_2 7 rfl rfl)
theorem dX5_image_56 : decode cX5_image 56 = .ok (.iconst 0, 1) := dk_3 (dk_at dksX5_image_2 8 rfl rfl)
theorem dX5_image_57 : decode cX5_image 57 = .ok (.invokevirtual 14, 3) := dk_182 0 14 (dk_at dksX5_image_2 9 rfl rfl)
theorem dX5_image_60 : decode cX5_image 60 = .ok (.ireturn, 1) := dk_172 (dk_at dksX5_image_2 12 rfl rfl)
noncomputable def lb_X5_image_17 (E : ax_E) (x0 : Option Nat) (x1 : Int) (x2 : Int) (h : ax_H) : Option ((Int × ax_H) ⊕ (Int × ax_H)) :=
  if i2 x2 < i2 5764 then
    (ax_gR E h x0 5 3).bind fun v1 =>
    (ax_gR E h x0 5 2).bind fun v2 =>
    (ax_ld E h v2 100 x2).bind fun v3 =>
    (ax_sto h v1 100 ((5764 * x1) + x2) v3).bind fun h4 =>
    some (.inl ((x2 + 1), h4))
  else
    ((ax_gR E h x0 5 4).bind fun v5 =>
    (ax_sto h v5 102 x1 (1 % 2)).bind fun h6 =>
    (ax_ce E h6 x0 5).bind fun _ => (f_X5_good E x0 0 h6).bind fun q7 =>
    some (q7.1, q7.2)).map Sum.inr
noncomputable def f_X5_image_17 (E : ax_E) (x0 : Option Nat) (x1 : Int) (x2 : Int) (h : ax_H) : Option (Int × ax_H) :=
  ax_iter (fun s : Int × ax_H => lb_X5_image_17 E x0 x1 s.1 s.2) (x2, h)
noncomputable def f_X5_image (E : ax_E) (x0 : Option Nat) (x1 : Int) (h : ax_H) : Option (Int × ax_H) :=
  (f_X5_lies E x1 0 1 h).bind fun q1 =>
  if i2 q1.1 = 0 then
    (ax_ce E q1.2 x0 5).bind fun _ => (f_X5_refuses E x0 (-1) q1.2).bind fun q2 =>
    some (q2.1, q2.2)
  else
    f_X5_image_17 E x0 x1 0 q1.2
def pi_X5_image_17 (G : ax_G) (X : ax_X) (Q : State → Prop) (x0 : Option Nat) (x1 : Int) : Int × ax_H → Prop := fun s => ∀ ls : Array Slot, ax_hl ls 3 [(0, .inr (.inr x0)), (1, .inl x1), (2, .inl s.1)] → ax_W G X Q s.2 17 ls []
set_option maxHeartbeats 4000000 in
theorem wb_X5_image_17 {l : Launch} {G : ax_G} {X : ax_X} {Q : State → Prop} {h0 h : ax_H} {ls : Array Slot} (hSF : ax_SF G) (B : ax_BL l G X cX5_image 3 RX5 2 62) (Z : ax_Z X h0 ((some FieldType.int))) (hn : X.2.2.2.2.2.2.2.2.1.name = yX5_image.name) (x0 : Option Nat) (x1 : Int) (x2 : Int) {w : (Int × ax_H) ⊕ (Int × ax_H)} (hl : ax_hl ls 3 [(0, .inr (.inr x0)), (1, .inl x1), (2, .inl x2)]) (e : lb_X5_image_17 G.2.2 x0 x1 x2 h = some w) (hp : (ax_PL (pi_X5_image_17 G X Q x0 x1) (fun w : Int × ax_H => Q = ax_Q G X h0 w.2 (some (.int (Int32.ofInt w.1))))) w) : ax_W G X Q h 17 ls [] := by
  unfold lb_X5_image_17 at e
  refine ax_iload_n B dX5_image_17 rfl hl 2 rfl ?_
  refine ax_sipush B dX5_image_18 (by decide) ?_
  refine ax_icmp_ge (tgt := 48) B dX5_image_21 (by decide) e (fun e => ?_) (fun e => ?_)
  · refine ax_aload_n B dX5_image_24 rfl hl 0 rfl ?_
    refine ax_getR B ff_X5_27_5 (fun _ _ => rfl) dX5_image_25 e (fun v1 e => ?_)
    refine ax_sipush B dX5_image_28 (by decide) ?_
    refine ax_iload_n B dX5_image_31 rfl hl 1 rfl ?_
    refine ax_imul' B dX5_image_32 ?_
    refine ax_iload_n B dX5_image_33 rfl hl 2 rfl ?_
    refine ax_iadd' B dX5_image_34 ?_
    refine ax_aload_n B dX5_image_35 rfl hl 0 rfl ?_
    refine ax_getR B ff_X5_24_5 (fun _ _ => rfl) dX5_image_36 e (fun v2 e => ?_)
    refine ax_iload_n B dX5_image_39 rfl hl 2 rfl ?_
    refine ax_iald B kd100 dX5_image_40 e (fun v3 e => ?_)
    refine ax_iast B kd100 dX5_image_41 e (fun h4 e => ?_)
    refine ax_iinc (L' := [(2, .inl (x2 + 1)), (0, .inr (.inr x0)), (1, .inl x1)]) B dX5_image_42 hl 2 rfl (by decide) rfl (fun ls hl => ?_)
    refine ax_goto (tgt := 17) B dX5_image_45 (by decide) ?_
    cases e
    exact hp _ (hl.sub [1, 2, 0] rfl)
  · obtain ⟨w, e9_1, rfl⟩ := Option.map_eq_some_iff.mp e
    have e := e9_1
    refine ax_aload_n B dX5_image_48 rfl hl 0 rfl ?_
    refine ax_getR B ff_X5_30_5 (fun _ _ => rfl) dX5_image_49 e (fun v5 e => ?_)
    refine ax_iload_n B dX5_image_52 rfl hl 1 rfl ?_
    refine ax_iconst B dX5_image_53 ?_
    refine ax_zast B kd102 dX5_image_54 e (fun h6 e => ?_)
    refine ax_aload_n B dX5_image_55 rfl hl 0 rfl ?_
    refine ax_iconst B dX5_image_56 ?_
    refine ax_ivI (y := yX5_good) (n := 1) (As := [.int (Int32.ofInt 0)]) B kd5 (lw_V q2158 q2160 qs42 q133 q2161) (by decide +kernel) ⟨Nat.le_of_ble_eq_true rfl, Nat.le_of_ble_eq_true rfl⟩ (fun w1 e1 => mt_X5_good l G hSF x0 0 _ w1 e1) rfl hl.size (by decide) dX5_image_57 e (fun q7 e => ?_)
    have e8 := e
    have hp : Q = _ := hp
    subst hp
    exact ax_ireturn B Z dX5_image_60 e8
theorem w_X5_image_17 {l : Launch} {G : ax_G} {X : ax_X} {Q : State → Prop} {h0 h : ax_H} {ls : Array Slot} (hSF : ax_SF G) (B : ax_BL l G X cX5_image 3 RX5 2 62) (Z : ax_Z X h0 ((some FieldType.int))) (hn : X.2.2.2.2.2.2.2.2.1.name = yX5_image.name) (x0 : Option Nat) (x1 : Int) (x2 : Int) {w : Int × ax_H} (hl : ax_hl ls 3 [(0, .inr (.inr x0)), (1, .inl x1), (2, .inl x2)]) (e : f_X5_image_17 G.2.2 x0 x1 x2 h = some w) (hp : (fun w : Int × ax_H => Q = ax_Q G X h0 w.2 (some (.int (Int32.ofInt w.1)))) w) : ax_W G X Q h 17 ls [] :=
  ax_iter_W (Pin := pi_X5_image_17 G X Q x0 x1) (Pout := (fun w : Int × ax_H => Q = ax_Q G X h0 w.2 (some (.int (Int32.ofInt w.1))))) (fun s w e hp ls hl => wb_X5_image_17 hSF B Z hn x0 x1 s.1 hl e hp) _ _ e hp ls hl
set_option maxHeartbeats 4000000 in
theorem we_X5_image {l : Launch} {G : ax_G} {X : ax_X} {Q : State → Prop} {h0 h : ax_H} {ls : Array Slot} (hSF : ax_SF G) (B : ax_BL l G X cX5_image 3 RX5 2 62) (Z : ax_Z X h0 ((some FieldType.int))) (hn : X.2.2.2.2.2.2.2.2.1.name = yX5_image.name) (x0 : Option Nat) (x1 : Int) {w : Int × ax_H} (hl : ax_hl ls 3 [(0, .inr (.inr x0)), (1, .inl x1)]) (e : f_X5_image G.2.2 x0 x1 h = some w) (hp : (fun w : Int × ax_H => Q = ax_Q G X h0 w.2 (some (.int (Int32.ofInt w.1)))) w) : ax_W G X Q h 0 ls [] := by
  unfold f_X5_image at e
  refine ax_iload_n B dX5_image_0 rfl hl 1 rfl ?_
  refine ax_iconst B dX5_image_1 ?_
  refine ax_iconst B dX5_image_2 ?_
  refine ax_isI (y := yX5_lies) (n := 3) (As := [.int (Int32.ofInt x1), .int (Int32.ofInt 0), .int (Int32.ofInt 1)]) B (lw_S q2151 q2152 q133 q2153) (by decide +kernel) ⟨Nat.le_of_ble_eq_true rfl, Nat.le_of_ble_eq_true rfl⟩ (fun w1 e1 => mt_X5_lies l G hSF x1 0 1 _ w1 e1) rfl hl.size (by decide) dX5_image_3 e (fun q1 e => ?_)
  refine ax_if_ne (tgt := 15) B dX5_image_6 (by decide) e (fun e => ?_) (fun e => ?_)
  · refine ax_aload_n B dX5_image_9 rfl hl 0 rfl ?_
    refine ax_iconst B dX5_image_10 ?_
    refine ax_ivI (y := yX5_refuses) (n := 1) (As := [.int (Int32.ofInt (-1))]) B kd5 (lw_V q2154 q2156 qs41 q133 q2157) (by decide +kernel) ⟨Nat.le_of_ble_eq_true rfl, Nat.le_of_ble_eq_true rfl⟩ (fun w1 e1 => mt_X5_refuses l G hSF x0 (-1) _ w1 e1) rfl hl.size (by decide) dX5_image_11 e (fun q2 e => ?_)
    have e8 := e
    have hp : Q = _ := hp
    subst hp
    exact ax_ireturn B Z dX5_image_14 e8
  · refine ax_iconst B dX5_image_15 ?_
    refine ax_istore_n (L' := [(2, .inl 0), (0, .inr (.inr x0)), (1, .inl x1)]) B dX5_image_16 rfl hl (by decide) rfl (fun ls hl => ?_)
    exact w_X5_image_17 hSF B Z hn x0 x1 0 (hl.sub [1, 2, 0] rfl) e hp
theorem mt_X5_image (l : Launch) (G : ax_G) (hSF : ax_SF G) (x0 : Option Nat) (x1 : Int) (h : ax_H) (w : Int × ax_H) (e : f_X5_image G.2.2 x0 x1 h = some w) : ax_Met l G yX5_image cX5_image 3 ((some FieldType.int)) 2 62 [va_rf x0, .int (Int32.ofInt x1)] h w.2 (some (.int (Int32.ofInt w.1))) :=
  ax_enter [.inr (.inr x0), .inl x1] (y := yX5_image) hSF (plainFor_of_name (by decide +kernel)) (Nat.le_of_ble_eq_true rfl) (fun X ls B Z hn hl => we_X5_image hSF B Z hn x0 x1 hl e rfl)
def dkwX5_settled_0 : List UInt8 := [42, 3, 181, 0, 11, 42, 27, 182, 0, 14, 172]
abbrev dktX5_settled_0 : List UInt8 := dkwX5_settled_0 ++ []
theorem dksX5_settled_0 : cX5_settled.data.toList.drop 0 = dktX5_settled_0 := by decide +kernel
theorem dX5_settled_0 : decode cX5_settled 0 = .ok (.aload_n 0, 1) := dk_42 (dk_at dksX5_settled_0 0 rfl rfl)
theorem dX5_settled_1 : decode cX5_settled 1 = .ok (.iconst 0, 1) := dk_3 (dk_at dksX5_settled_0 1 rfl rfl)
theorem dX5_settled_2 : decode cX5_settled 2 = .ok (.putfield 11, 3) := dk_181 0 11 (dk_at dksX5_settled_0 2 rfl rfl)
theorem dX5_settled_5 : decode cX5_settled 5 = .ok (.aload_n 0, 1) := dk_42 (dk_at dksX5_settled_0 5 rfl rfl)
theorem dX5_settled_6 : decode cX5_settled 6 = .ok (.iload_n 1, 1) := dk_27 (dk_at dksX5_settled_0 6 rfl rfl)
theorem dX5_settled_7 : decode cX5_settled 7 = .ok (.invokevirtual 14, 3) := dk_182 0 14 (dk_at dksX5_settled_0 7 rfl rfl)
theorem dX5_settled_10 : decode cX5_settled 10 = .ok (.ireturn, 1) := dk_172 (dk_at dksX5_settled_0 10 rfl rfl)
theorem ff_X5_11_5 : ax_FF RX5 11 5 28 (tyX5 28) 0 false := ⟨RX5, TX5, 61, tyX5, "DebtDoorsModel", kd5, in_X5, tyX5_ok, apX5, by decide, rfl, ⟨fun _ => rfl, fun h => absurd h (by decide)⟩, q1990, Or.inl rfl, fun h => absurd h (by decide)⟩
noncomputable def f_X5_settled (E : ax_E) (x0 : Option Nat) (x1 : Int) (h : ax_H) : Option (Int × ax_H) :=
  (ax_pI h x0 5 28 0).bind fun h1 =>
  (ax_ce E h1 x0 5).bind fun _ => (f_X5_good E x0 x1 h1).bind fun q2 =>
  some (q2.1, q2.2)
set_option maxHeartbeats 4000000 in
theorem we_X5_settled {l : Launch} {G : ax_G} {X : ax_X} {Q : State → Prop} {h0 h : ax_H} {ls : Array Slot} (hSF : ax_SF G) (B : ax_BL l G X cX5_settled 2 RX5 2 61) (Z : ax_Z X h0 ((some FieldType.int))) (hn : X.2.2.2.2.2.2.2.2.1.name = yX5_settled.name) (x0 : Option Nat) (x1 : Int) {w : Int × ax_H} (hl : ax_hl ls 2 [(0, .inr (.inr x0)), (1, .inl x1)]) (e : f_X5_settled G.2.2 x0 x1 h = some w) (hp : (fun w : Int × ax_H => Q = ax_Q G X h0 w.2 (some (.int (Int32.ofInt w.1)))) w) : ax_W G X Q h 0 ls [] := by
  unfold f_X5_settled at e
  refine ax_aload_n B dX5_settled_0 rfl hl 0 rfl ?_
  refine ax_iconst B dX5_settled_1 ?_
  refine ax_putI B ff_X5_11_5 (Or.inl rfl) rfl dX5_settled_2 e (fun h1 e => ?_)
  refine ax_aload_n B dX5_settled_5 rfl hl 0 rfl ?_
  refine ax_iload_n B dX5_settled_6 rfl hl 1 rfl ?_
  refine ax_ivI (y := yX5_good) (n := 1) (As := [.int (Int32.ofInt x1)]) B kd5 (lw_V q2158 q2160 qs42 q133 q2161) (by decide +kernel) ⟨Nat.le_of_ble_eq_true rfl, Nat.le_of_ble_eq_true rfl⟩ (fun w1 e1 => mt_X5_good l G hSF x0 x1 _ w1 e1) rfl hl.size (by decide) dX5_settled_7 e (fun q2 e => ?_)
  have e8 := e
  have hp : Q = _ := hp
  subst hp
  exact ax_ireturn B Z dX5_settled_10 e8
theorem mt_X5_settled (l : Launch) (G : ax_G) (hSF : ax_SF G) (x0 : Option Nat) (x1 : Int) (h : ax_H) (w : Int × ax_H) (e : f_X5_settled G.2.2 x0 x1 h = some w) : ax_Met l G yX5_settled cX5_settled 2 ((some FieldType.int)) 2 61 [va_rf x0, .int (Int32.ofInt x1)] h w.2 (some (.int (Int32.ofInt w.1))) :=
  ax_enter [.inr (.inr x0), .inl x1] (y := yX5_settled) hSF (plainFor_of_name (by decide +kernel)) (Nat.le_of_ble_eq_true rfl) (fun X ls B Z hn hl => we_X5_settled hSF B Z hn x0 x1 hl e rfl)
def dkwX5_back_2 : List UInt8 := [180, 0, 27, 17, 22, 132, 27, 104, 28, 96, 46, 79, 132, 2, 1, 167, 255, 228, 42, 3, 182, 0, 130, 172]
abbrev dktX5_back_2 : List UInt8 := dkwX5_back_2 ++ []
def dkwX5_back_1 : List UInt8 := [42, 16, 254, 182, 0, 127, 172, 3, 61, 28, 17, 22, 132, 162, 0, 27, 42, 180, 0, 24, 28, 42]
abbrev dktX5_back_1 : List UInt8 := dkwX5_back_1 ++ dktX5_back_2
def dkwX5_back_0 : List UInt8 := [27, 3, 4, 184, 0, 123, 154, 0, 9, 42, 2, 182, 0, 127, 172, 42, 180, 0, 30, 27, 51, 154, 0, 10]
abbrev dktX5_back_0 : List UInt8 := dkwX5_back_0 ++ dktX5_back_1
theorem dksX5_back_0 : cX5_back.data.toList.drop 0 = dktX5_back_0 := by decide +kernel
theorem dksX5_back_1 : cX5_back.data.toList.drop 24 = dktX5_back_1 := dk_seg dksX5_back_0 24 rfl rfl
theorem dksX5_back_2 : cX5_back.data.toList.drop 46 = dktX5_back_2 := dk_seg dksX5_back_1 22 rfl rfl
theorem dX5_back_0 : decode cX5_back 0 = .ok (.iload_n 1, 1) := dk_27 (dk_at dksX5_back_0 0 rfl rfl)
theorem dX5_back_1 : decode cX5_back 1 = .ok (.iconst 0, 1) := dk_3 (dk_at dksX5_back_0 1 rfl rfl)
theorem dX5_back_2 : decode cX5_back 2 = .ok (.iconst 1, 1) := dk_4 (dk_at dksX5_back_0 2 rfl rfl)
theorem dX5_back_3 : decode cX5_back 3 = .ok (.invokestatic 123, 3) := dk_184 0 123 (dk_at dksX5_back_0 3 rfl rfl)
theorem dX5_back_6 : decode cX5_back 6 = .ok (.ifCond .ne 9, 3) := dk_154 0 9 (dk_at dksX5_back_0 6 rfl rfl)
theorem dX5_back_9 : decode cX5_back 9 = .ok (.aload_n 0, 1) := dk_42 (dk_at dksX5_back_0 9 rfl rfl)
theorem dX5_back_10 : decode cX5_back 10 = .ok (.iconst (-1), 1) := dk_2 (dk_at dksX5_back_0 10 rfl rfl)
theorem dX5_back_11 : decode cX5_back 11 = .ok (.invokevirtual 127, 3) := dk_182 0 127 (dk_at dksX5_back_0 11 rfl rfl)
theorem dX5_back_14 : decode cX5_back 14 = .ok (.ireturn, 1) := dk_172 (dk_at dksX5_back_0 14 rfl rfl)
theorem dX5_back_15 : decode cX5_back 15 = .ok (.aload_n 0, 1) := dk_42 (dk_at dksX5_back_0 15 rfl rfl)
theorem dX5_back_16 : decode cX5_back 16 = .ok (.getfield 30, 3) := dk_180 0 30 (dk_at dksX5_back_0 16 rfl rfl)
theorem dX5_back_19 : decode cX5_back 19 = .ok (.iload_n 1, 1) := dk_27 (dk_at dksX5_back_0 19 rfl rfl)
theorem dX5_back_20 : decode cX5_back 20 = .ok (.baload, 1) := dk_51 (dk_at dksX5_back_0 20 rfl rfl)
theorem dX5_back_21 : decode cX5_back 21 = .ok (.ifCond .ne 10, 3) := dk_154 0 10 (dk_at dksX5_back_0 21 rfl rfl)
theorem dX5_back_24 : decode cX5_back 24 = .ok (.aload_n 0, 1) := dk_42 (dk_at dksX5_back_1 0 rfl rfl)
theorem dX5_back_25 : decode cX5_back 25 = .ok (.bipush (-2), 2) := dk_16 254 (dk_at dksX5_back_1 1 rfl rfl)
theorem dX5_back_27 : decode cX5_back 27 = .ok (.invokevirtual 127, 3) := dk_182 0 127 (dk_at dksX5_back_1 3 rfl rfl)
theorem dX5_back_30 : decode cX5_back 30 = .ok (.ireturn, 1) := dk_172 (dk_at dksX5_back_1 6 rfl rfl)
theorem dX5_back_31 : decode cX5_back 31 = .ok (.iconst 0, 1) := dk_3 (dk_at dksX5_back_1 7 rfl rfl)
theorem dX5_back_32 : decode cX5_back 32 = .ok (.istore_n 2, 1) := dk_61 (dk_at dksX5_back_1 8 rfl rfl)
theorem dX5_back_33 : decode cX5_back 33 = .ok (.iload_n 2, 1) := dk_28 (dk_at dksX5_back_1 9 rfl rfl)
theorem dX5_back_34 : decode cX5_back 34 = .ok (.sipush 5764, 3) := dk_17 22 132 (dk_at dksX5_back_1 10 rfl rfl)
theorem dX5_back_37 : decode cX5_back 37 = .ok (.if_icmp .ge 27, 3) := dk_162 0 27 (dk_at dksX5_back_1 13 rfl rfl)
theorem dX5_back_40 : decode cX5_back 40 = .ok (.aload_n 0, 1) := dk_42 (dk_at dksX5_back_1 16 rfl rfl)
theorem dX5_back_41 : decode cX5_back 41 = .ok (.getfield 24, 3) := dk_180 0 24 (dk_at dksX5_back_1 17 rfl rfl)
theorem dX5_back_44 : decode cX5_back 44 = .ok (.iload_n 2, 1) := dk_28 (dk_at dksX5_back_1 20 rfl rfl)
theorem dX5_back_45 : decode cX5_back 45 = .ok (.aload_n 0, 1) := dk_42 (dk_at dksX5_back_1 21 rfl rfl)
theorem dX5_back_46 : decode cX5_back 46 = .ok (.getfield 27, 3) := dk_180 0 27 (dk_at dksX5_back_2 0 rfl rfl)
theorem dX5_back_49 : decode cX5_back 49 = .ok (.sipush 5764, 3) := dk_17 22 132 (dk_at dksX5_back_2 3 rfl rfl)
theorem dX5_back_52 : decode cX5_back 52 = .ok (.iload_n 1, 1) := dk_27 (dk_at dksX5_back_2 6 rfl rfl)
theorem dX5_back_53 : decode cX5_back 53 = .ok (.imul, 1) := dk_104 (dk_at dksX5_back_2 7 rfl rfl)
theorem dX5_back_54 : decode cX5_back 54 = .ok (.iload_n 2, 1) := dk_28 (dk_at dksX5_back_2 8 rfl rfl)
theorem dX5_back_55 : decode cX5_back 55 = .ok (.iadd, 1) := dk_96 (dk_at dksX5_back_2 9 rfl rfl)
theorem dX5_back_56 : decode cX5_back 56 = .ok (.iaload, 1) := dk_46 (dk_at dksX5_back_2 10 rfl rfl)
theorem dX5_back_57 : decode cX5_back 57 = .ok (.iastore, 1) := dk_79 (dk_at dksX5_back_2 11 rfl rfl)
theorem dX5_back_58 : decode cX5_back 58 = .ok (.iinc 2 1, 3) := dk_132 2 1 (dk_at dksX5_back_2 12 rfl rfl)
theorem dX5_back_61 : decode cX5_back 61 = .ok (.goto (-28), 3) := dk_167 255 228 (dk_at dksX5_back_2 15 rfl rfl)
theorem dX5_back_64 : decode cX5_back 64 = .ok (.aload_n 0, 1) := dk_42 (dk_at dksX5_back_2 18 rfl rfl)
theorem dX5_back_65 : decode cX5_back 65 = .ok (.iconst 0, 1) := dk_3 (dk_at dksX5_back_2 19 rfl rfl)
theorem dX5_back_66 : decode cX5_back 66 = .ok (.invokevirtual 130, 3) := dk_182 0 130 (dk_at dksX5_back_2 20 rfl rfl)
theorem dX5_back_69 : decode cX5_back 69 = .ok (.ireturn, 1) := dk_172 (dk_at dksX5_back_2 23 rfl rfl)
noncomputable def lb_X5_back_33 (E : ax_E) (x0 : Option Nat) (x1 : Int) (x2 : Int) (h : ax_H) : Option ((Int × ax_H) ⊕ (Int × ax_H)) :=
  if i2 x2 < i2 5764 then
    (ax_gR E h x0 5 2).bind fun v1 =>
    (ax_gR E h x0 5 3).bind fun v2 =>
    (ax_ld E h v2 100 ((5764 * x1) + x2)).bind fun v3 =>
    (ax_sto h v1 100 x2 v3).bind fun h4 =>
    some (.inl ((x2 + 1), h4))
  else
    ((ax_ce E h x0 5).bind fun _ => (f_X5_settled E x0 0 h).bind fun q5 =>
    some (q5.1, q5.2)).map Sum.inr
noncomputable def f_X5_back_33 (E : ax_E) (x0 : Option Nat) (x1 : Int) (x2 : Int) (h : ax_H) : Option (Int × ax_H) :=
  ax_iter (fun s : Int × ax_H => lb_X5_back_33 E x0 x1 s.1 s.2) (x2, h)
noncomputable def f_X5_back (E : ax_E) (x0 : Option Nat) (x1 : Int) (h : ax_H) : Option (Int × ax_H) :=
  (f_X5_lies E x1 0 1 h).bind fun q1 =>
  if i2 q1.1 = 0 then
    (ax_ce E q1.2 x0 5).bind fun _ => (f_X5_refuses E x0 (-1) q1.2).bind fun q2 =>
    some (q2.1, q2.2)
  else
    (ax_gR E q1.2 x0 5 4).bind fun v3 =>
    (ax_ld E q1.2 v3 102 x1).bind fun v4 =>
    if i2 v4 = 0 then
      (ax_ce E q1.2 x0 5).bind fun _ => (f_X5_refuses E x0 (-2) q1.2).bind fun q5 =>
      some (q5.1, q5.2)
    else
      f_X5_back_33 E x0 x1 0 q1.2
def pi_X5_back_33 (G : ax_G) (X : ax_X) (Q : State → Prop) (x0 : Option Nat) (x1 : Int) : Int × ax_H → Prop := fun s => ∀ ls : Array Slot, ax_hl ls 3 [(0, .inr (.inr x0)), (1, .inl x1), (2, .inl s.1)] → ax_W G X Q s.2 33 ls []
set_option maxHeartbeats 4000000 in
theorem wb_X5_back_33 {l : Launch} {G : ax_G} {X : ax_X} {Q : State → Prop} {h0 h : ax_H} {ls : Array Slot} (hSF : ax_SF G) (B : ax_BL l G X cX5_back 3 RX5 3 82) (Z : ax_Z X h0 ((some FieldType.int))) (hn : X.2.2.2.2.2.2.2.2.1.name = yX5_back.name) (x0 : Option Nat) (x1 : Int) (x2 : Int) {w : (Int × ax_H) ⊕ (Int × ax_H)} (hl : ax_hl ls 3 [(0, .inr (.inr x0)), (1, .inl x1), (2, .inl x2)]) (e : lb_X5_back_33 G.2.2 x0 x1 x2 h = some w) (hp : (ax_PL (pi_X5_back_33 G X Q x0 x1) (fun w : Int × ax_H => Q = ax_Q G X h0 w.2 (some (.int (Int32.ofInt w.1))))) w) : ax_W G X Q h 33 ls [] := by
  unfold lb_X5_back_33 at e
  refine ax_iload_n B dX5_back_33 rfl hl 2 rfl ?_
  refine ax_sipush B dX5_back_34 (by decide) ?_
  refine ax_icmp_ge (tgt := 64) B dX5_back_37 (by decide) e (fun e => ?_) (fun e => ?_)
  · refine ax_aload_n B dX5_back_40 rfl hl 0 rfl ?_
    refine ax_getR B ff_X5_24_5 (fun _ _ => rfl) dX5_back_41 e (fun v1 e => ?_)
    refine ax_iload_n B dX5_back_44 rfl hl 2 rfl ?_
    refine ax_aload_n B dX5_back_45 rfl hl 0 rfl ?_
    refine ax_getR B ff_X5_27_5 (fun _ _ => rfl) dX5_back_46 e (fun v2 e => ?_)
    refine ax_sipush B dX5_back_49 (by decide) ?_
    refine ax_iload_n B dX5_back_52 rfl hl 1 rfl ?_
    refine ax_imul' B dX5_back_53 ?_
    refine ax_iload_n B dX5_back_54 rfl hl 2 rfl ?_
    refine ax_iadd' B dX5_back_55 ?_
    refine ax_iald B kd100 dX5_back_56 e (fun v3 e => ?_)
    refine ax_iast B kd100 dX5_back_57 e (fun h4 e => ?_)
    refine ax_iinc (L' := [(2, .inl (x2 + 1)), (0, .inr (.inr x0)), (1, .inl x1)]) B dX5_back_58 hl 2 rfl (by decide) rfl (fun ls hl => ?_)
    refine ax_goto (tgt := 33) B dX5_back_61 (by decide) ?_
    cases e
    exact hp _ (hl.sub [1, 2, 0] rfl)
  · obtain ⟨w, e9_1, rfl⟩ := Option.map_eq_some_iff.mp e
    have e := e9_1
    refine ax_aload_n B dX5_back_64 rfl hl 0 rfl ?_
    refine ax_iconst B dX5_back_65 ?_
    refine ax_ivI (y := yX5_settled) (n := 1) (As := [.int (Int32.ofInt 0)]) B kd5 (lw_V q2166 q2168 qs43 q133 q2169) (by decide +kernel) ⟨Nat.le_of_ble_eq_true rfl, Nat.le_of_ble_eq_true rfl⟩ (fun w1 e1 => mt_X5_settled l G hSF x0 0 _ w1 e1) rfl hl.size (by decide) dX5_back_66 e (fun q5 e => ?_)
    have e8 := e
    have hp : Q = _ := hp
    subst hp
    exact ax_ireturn B Z dX5_back_69 e8
theorem w_X5_back_33 {l : Launch} {G : ax_G} {X : ax_X} {Q : State → Prop} {h0 h : ax_H} {ls : Array Slot} (hSF : ax_SF G) (B : ax_BL l G X cX5_back 3 RX5 3 82) (Z : ax_Z X h0 ((some FieldType.int))) (hn : X.2.2.2.2.2.2.2.2.1.name = yX5_back.name) (x0 : Option Nat) (x1 : Int) (x2 : Int) {w : Int × ax_H} (hl : ax_hl ls 3 [(0, .inr (.inr x0)), (1, .inl x1), (2, .inl x2)]) (e : f_X5_back_33 G.2.2 x0 x1 x2 h = some w) (hp : (fun w : Int × ax_H => Q = ax_Q G X h0 w.2 (some (.int (Int32.ofInt w.1)))) w) : ax_W G X Q h 33 ls [] :=
  ax_iter_W (Pin := pi_X5_back_33 G X Q x0 x1) (Pout := (fun w : Int × ax_H => Q = ax_Q G X h0 w.2 (some (.int (Int32.ofInt w.1))))) (fun s w e hp ls hl => wb_X5_back_33 hSF B Z hn x0 x1 s.1 hl e hp) _ _ e hp ls hl
set_option maxHeartbeats 4000000 in
theorem we_X5_back {l : Launch} {G : ax_G} {X : ax_X} {Q : State → Prop} {h0 h : ax_H} {ls : Array Slot} (hSF : ax_SF G) (B : ax_BL l G X cX5_back 3 RX5 3 82) (Z : ax_Z X h0 ((some FieldType.int))) (hn : X.2.2.2.2.2.2.2.2.1.name = yX5_back.name) (x0 : Option Nat) (x1 : Int) {w : Int × ax_H} (hl : ax_hl ls 3 [(0, .inr (.inr x0)), (1, .inl x1)]) (e : f_X5_back G.2.2 x0 x1 h = some w) (hp : (fun w : Int × ax_H => Q = ax_Q G X h0 w.2 (some (.int (Int32.ofInt w.1)))) w) : ax_W G X Q h 0 ls [] := by
  unfold f_X5_back at e
  refine ax_iload_n B dX5_back_0 rfl hl 1 rfl ?_
  refine ax_iconst B dX5_back_1 ?_
  refine ax_iconst B dX5_back_2 ?_
  refine ax_isI (y := yX5_lies) (n := 3) (As := [.int (Int32.ofInt x1), .int (Int32.ofInt 0), .int (Int32.ofInt 1)]) B (lw_S q2151 q2152 q133 q2153) (by decide +kernel) ⟨Nat.le_of_ble_eq_true rfl, Nat.le_of_ble_eq_true rfl⟩ (fun w1 e1 => mt_X5_lies l G hSF x1 0 1 _ w1 e1) rfl hl.size (by decide) dX5_back_3 e (fun q1 e => ?_)
  refine ax_if_ne (tgt := 15) B dX5_back_6 (by decide) e (fun e => ?_) (fun e => ?_)
  · refine ax_aload_n B dX5_back_9 rfl hl 0 rfl ?_
    refine ax_iconst B dX5_back_10 ?_
    refine ax_ivI (y := yX5_refuses) (n := 1) (As := [.int (Int32.ofInt (-1))]) B kd5 (lw_V q2154 q2156 qs41 q133 q2157) (by decide +kernel) ⟨Nat.le_of_ble_eq_true rfl, Nat.le_of_ble_eq_true rfl⟩ (fun w1 e1 => mt_X5_refuses l G hSF x0 (-1) _ w1 e1) rfl hl.size (by decide) dX5_back_11 e (fun q2 e => ?_)
    have e8 := e
    have hp : Q = _ := hp
    subst hp
    exact ax_ireturn B Z dX5_back_14 e8
  · refine ax_aload_n B dX5_back_15 rfl hl 0 rfl ?_
    refine ax_getR B ff_X5_30_5 (fun _ _ => rfl) dX5_back_16 e (fun v3 e => ?_)
    refine ax_iload_n B dX5_back_19 rfl hl 1 rfl ?_
    refine ax_zald B kd102 dX5_back_20 e (fun v4 e => ?_)
    refine ax_if_ne (tgt := 31) B dX5_back_21 (by decide) e (fun e => ?_) (fun e => ?_)
    · refine ax_aload_n B dX5_back_24 rfl hl 0 rfl ?_
      refine ax_bipush B dX5_back_25 (by decide) ?_
      refine ax_ivI (y := yX5_refuses) (n := 1) (As := [.int (Int32.ofInt (-2))]) B kd5 (lw_V q2154 q2156 qs41 q133 q2157) (by decide +kernel) ⟨Nat.le_of_ble_eq_true rfl, Nat.le_of_ble_eq_true rfl⟩ (fun w1 e1 => mt_X5_refuses l G hSF x0 (-2) _ w1 e1) rfl hl.size (by decide) dX5_back_27 e (fun q5 e => ?_)
      have e8 := e
      have hp : Q = _ := hp
      subst hp
      exact ax_ireturn B Z dX5_back_30 e8
    · refine ax_iconst B dX5_back_31 ?_
      refine ax_istore_n (L' := [(2, .inl 0), (0, .inr (.inr x0)), (1, .inl x1)]) B dX5_back_32 rfl hl (by decide) rfl (fun ls hl => ?_)
      exact w_X5_back_33 hSF B Z hn x0 x1 0 (hl.sub [1, 2, 0] rfl) e hp
theorem mt_X5_back (l : Launch) (G : ax_G) (hSF : ax_SF G) (x0 : Option Nat) (x1 : Int) (h : ax_H) (w : Int × ax_H) (e : f_X5_back G.2.2 x0 x1 h = some w) : ax_Met l G yX5_back cX5_back 3 ((some FieldType.int)) 3 82 [va_rf x0, .int (Int32.ofInt x1)] h w.2 (some (.int (Int32.ofInt w.1))) :=
  ax_enter [.inr (.inr x0), .inl x1] (y := yX5_back) hSF (plainFor_of_name (by decide +kernel)) (Nat.le_of_ble_eq_true rfl) (fun X ls B Z hn hl => we_X5_back hSF B Z hn x0 x1 hl e rfl)
def dkwX5_isRoom_0 : List UInt8 := [26, 4, 6, 184, 0, 123, 172]
abbrev dktX5_isRoom_0 : List UInt8 := dkwX5_isRoom_0 ++ []
theorem dksX5_isRoom_0 : cX5_isRoom.data.toList.drop 0 = dktX5_isRoom_0 := by decide +kernel
theorem dX5_isRoom_0 : decode cX5_isRoom 0 = .ok (.iload_n 0, 1) := dk_26 (dk_at dksX5_isRoom_0 0 rfl rfl)
theorem dX5_isRoom_1 : decode cX5_isRoom 1 = .ok (.iconst 1, 1) := dk_4 (dk_at dksX5_isRoom_0 1 rfl rfl)
theorem dX5_isRoom_2 : decode cX5_isRoom 2 = .ok (.iconst 3, 1) := dk_6 (dk_at dksX5_isRoom_0 2 rfl rfl)
theorem dX5_isRoom_3 : decode cX5_isRoom 3 = .ok (.invokestatic 123, 3) := dk_184 0 123 (dk_at dksX5_isRoom_0 3 rfl rfl)
theorem dX5_isRoom_6 : decode cX5_isRoom 6 = .ok (.ireturn, 1) := dk_172 (dk_at dksX5_isRoom_0 6 rfl rfl)
noncomputable def f_X5_isRoom (E : ax_E) (x0 : Int) (h : ax_H) : Option (Int × ax_H) :=
  (f_X5_lies E x0 1 3 h).bind fun q1 =>
  if q1.1 = 0 ∨ q1.1 = 1 then some (q1.1, q1.2) else none
set_option maxHeartbeats 4000000 in
theorem we_X5_isRoom {l : Launch} {G : ax_G} {X : ax_X} {Q : State → Prop} {h0 h : ax_H} {ls : Array Slot} (hSF : ax_SF G) (B : ax_BL l G X cX5_isRoom 1 RX5 2 62) (Z : ax_Z X h0 ((some FieldType.boolean))) (hn : X.2.2.2.2.2.2.2.2.1.name = yX5_isRoom.name) (x0 : Int) {w : Int × ax_H} (hl : ax_hl ls 1 [(0, .inl x0)]) (e : f_X5_isRoom G.2.2 x0 h = some w) (hp : (fun w : Int × ax_H => Q = ax_Q G X h0 w.2 (some (.int (Int32.ofInt w.1)))) w) : ax_W G X Q h 0 ls [] := by
  unfold f_X5_isRoom at e
  refine ax_iload_n B dX5_isRoom_0 rfl hl 0 rfl ?_
  refine ax_iconst B dX5_isRoom_1 ?_
  refine ax_iconst B dX5_isRoom_2 ?_
  refine ax_isI (y := yX5_lies) (n := 3) (As := [.int (Int32.ofInt x0), .int (Int32.ofInt 1), .int (Int32.ofInt 3)]) B (lw_S q2151 q2152 q133 q2153) (by decide +kernel) ⟨Nat.le_of_ble_eq_true rfl, Nat.le_of_ble_eq_true rfl⟩ (fun w1 e1 => mt_X5_lies l G hSF x0 1 3 _ w1 e1) rfl hl.size (by decide) dX5_isRoom_3 e (fun q1 e => ?_)
  have e8 := e
  have hp : Q = _ := hp
  subst hp
  exact ax_zreturn B Z dX5_isRoom_6 e8
theorem mt_X5_isRoom (l : Launch) (G : ax_G) (hSF : ax_SF G) (x0 : Int) (h : ax_H) (w : Int × ax_H) (e : f_X5_isRoom G.2.2 x0 h = some w) : ax_Met l G yX5_isRoom cX5_isRoom 1 ((some FieldType.boolean)) 2 62 [.int (Int32.ofInt x0)] h w.2 (some (.int (Int32.ofInt w.1))) :=
  ax_enter [.inl x0] (y := yX5_isRoom) hSF (plainFor_of_name (by decide +kernel)) (Nat.le_of_ble_eq_true rfl) (fun X ls B Z hn hl => we_X5_isRoom hSF B Z hn x0 hl e rfl)
def dkwX5_isFact_1 : List UInt8 := [167, 0, 23, 26, 5, 160, 0, 17, 27, 3, 16, 99, 184, 0, 123, 153, 0, 7, 4, 167, 0, 4, 3, 172]
abbrev dktX5_isFact_1 : List UInt8 := dkwX5_isFact_1 ++ []
def dkwX5_isFact_0 : List UInt8 := [26, 154, 0, 14, 27, 3, 17, 39, 15, 184, 0, 123, 167, 0, 35, 26, 4, 160, 0, 10, 27, 184, 0, 140]
abbrev dktX5_isFact_0 : List UInt8 := dkwX5_isFact_0 ++ dktX5_isFact_1
theorem dksX5_isFact_0 : cX5_isFact.data.toList.drop 0 = dktX5_isFact_0 := by decide +kernel
theorem dksX5_isFact_1 : cX5_isFact.data.toList.drop 24 = dktX5_isFact_1 := dk_seg dksX5_isFact_0 24 rfl rfl
theorem dX5_isFact_0 : decode cX5_isFact 0 = .ok (.iload_n 0, 1) := dk_26 (dk_at dksX5_isFact_0 0 rfl rfl)
theorem dX5_isFact_1 : decode cX5_isFact 1 = .ok (.ifCond .ne 14, 3) := dk_154 0 14 (dk_at dksX5_isFact_0 1 rfl rfl)
theorem dX5_isFact_4 : decode cX5_isFact 4 = .ok (.iload_n 1, 1) := dk_27 (dk_at dksX5_isFact_0 4 rfl rfl)
theorem dX5_isFact_5 : decode cX5_isFact 5 = .ok (.iconst 0, 1) := dk_3 (dk_at dksX5_isFact_0 5 rfl rfl)
theorem dX5_isFact_6 : decode cX5_isFact 6 = .ok (.sipush 9999, 3) := dk_17 39 15 (dk_at dksX5_isFact_0 6 rfl rfl)
theorem dX5_isFact_9 : decode cX5_isFact 9 = .ok (.invokestatic 123, 3) := dk_184 0 123 (dk_at dksX5_isFact_0 9 rfl rfl)
theorem dX5_isFact_12 : decode cX5_isFact 12 = .ok (.goto 35, 3) := dk_167 0 35 (dk_at dksX5_isFact_0 12 rfl rfl)
theorem dX5_isFact_15 : decode cX5_isFact 15 = .ok (.iload_n 0, 1) := dk_26 (dk_at dksX5_isFact_0 15 rfl rfl)
theorem dX5_isFact_16 : decode cX5_isFact 16 = .ok (.iconst 1, 1) := dk_4 (dk_at dksX5_isFact_0 16 rfl rfl)
theorem dX5_isFact_17 : decode cX5_isFact 17 = .ok (.if_icmp .ne 10, 3) := dk_160 0 10 (dk_at dksX5_isFact_0 17 rfl rfl)
theorem dX5_isFact_20 : decode cX5_isFact 20 = .ok (.iload_n 1, 1) := dk_27 (dk_at dksX5_isFact_0 20 rfl rfl)
theorem dX5_isFact_21 : decode cX5_isFact 21 = .ok (.invokestatic 140, 3) := dk_184 0 140 (dk_at dksX5_isFact_0 21 rfl rfl)
theorem dX5_isFact_24 : decode cX5_isFact 24 = .ok (.goto 23, 3) := dk_167 0 23 (dk_at dksX5_isFact_1 0 rfl rfl)
theorem dX5_isFact_27 : decode cX5_isFact 27 = .ok (.iload_n 0, 1) := dk_26 (dk_at dksX5_isFact_1 3 rfl rfl)
theorem dX5_isFact_28 : decode cX5_isFact 28 = .ok (.iconst 2, 1) := dk_5 (dk_at dksX5_isFact_1 4 rfl rfl)
theorem dX5_isFact_29 : decode cX5_isFact 29 = .ok (.if_icmp .ne 17, 3) := dk_160 0 17 (dk_at dksX5_isFact_1 5 rfl rfl)
theorem dX5_isFact_32 : decode cX5_isFact 32 = .ok (.iload_n 1, 1) := dk_27 (dk_at dksX5_isFact_1 8 rfl rfl)
theorem dX5_isFact_33 : decode cX5_isFact 33 = .ok (.iconst 0, 1) := dk_3 (dk_at dksX5_isFact_1 9 rfl rfl)
theorem dX5_isFact_34 : decode cX5_isFact 34 = .ok (.bipush 99, 2) := dk_16 99 (dk_at dksX5_isFact_1 10 rfl rfl)
theorem dX5_isFact_36 : decode cX5_isFact 36 = .ok (.invokestatic 123, 3) := dk_184 0 123 (dk_at dksX5_isFact_1 12 rfl rfl)
theorem dX5_isFact_39 : decode cX5_isFact 39 = .ok (.ifCond .eq 7, 3) := dk_153 0 7 (dk_at dksX5_isFact_1 15 rfl rfl)
theorem dX5_isFact_42 : decode cX5_isFact 42 = .ok (.iconst 1, 1) := dk_4 (dk_at dksX5_isFact_1 18 rfl rfl)
theorem dX5_isFact_43 : decode cX5_isFact 43 = .ok (.goto 4, 3) := dk_167 0 4 (dk_at dksX5_isFact_1 19 rfl rfl)
theorem dX5_isFact_46 : decode cX5_isFact 46 = .ok (.iconst 0, 1) := dk_3 (dk_at dksX5_isFact_1 22 rfl rfl)
theorem dX5_isFact_47 : decode cX5_isFact 47 = .ok (.ireturn, 1) := dk_172 (dk_at dksX5_isFact_1 23 rfl rfl)
noncomputable def f_X5_isFact_46 (E : ax_E) (h : ax_H) : Option (Int × ax_H) :=
  some (0, h)
noncomputable def f_X5_isFact (E : ax_E) (x0 : Int) (x1 : Int) (h : ax_H) : Option (Int × ax_H) :=
  if i2 x0 = 0 then
    (f_X5_lies E x1 0 9999 h).bind fun q1 =>
    if q1.1 = 0 ∨ q1.1 = 1 then some (q1.1, q1.2) else none
  else
    if i2 x0 = i2 1 then
      (f_X5_isRoom E x1 h).bind fun q2 =>
      if q2.1 = 0 ∨ q2.1 = 1 then some (q2.1, q2.2) else none
    else
      if i2 x0 = i2 2 then
        (f_X5_lies E x1 0 99 h).bind fun q3 =>
        if i2 q3.1 = 0 then
          f_X5_isFact_46 E q3.2
        else
          some (1, q3.2)
      else
        f_X5_isFact_46 E h
set_option maxHeartbeats 4000000 in
theorem w_X5_isFact_46 {l : Launch} {G : ax_G} {X : ax_X} {Q : State → Prop} {h0 h : ax_H} {ls : Array Slot} (hSF : ax_SF G) (B : ax_BL l G X cX5_isFact 2 RX5 3 82) (Z : ax_Z X h0 ((some FieldType.boolean))) (hn : X.2.2.2.2.2.2.2.2.1.name = yX5_isFact.name) {w : Int × ax_H} (hl : ax_hl ls 2 []) (e : f_X5_isFact_46 G.2.2 h = some w) (hp : (fun w : Int × ax_H => Q = ax_Q G X h0 w.2 (some (.int (Int32.ofInt w.1)))) w) : ax_W G X Q h 46 ls [] := by
  unfold f_X5_isFact_46 at e
  refine ax_iconst B dX5_isFact_46 ?_
  have e8 := e
  have hp : Q = _ := hp
  subst hp
  exact ax_zreturnL (by decide) B Z dX5_isFact_47 e8
set_option maxHeartbeats 4000000 in
theorem we_X5_isFact {l : Launch} {G : ax_G} {X : ax_X} {Q : State → Prop} {h0 h : ax_H} {ls : Array Slot} (hSF : ax_SF G) (B : ax_BL l G X cX5_isFact 2 RX5 3 82) (Z : ax_Z X h0 ((some FieldType.boolean))) (hn : X.2.2.2.2.2.2.2.2.1.name = yX5_isFact.name) (x0 : Int) (x1 : Int) {w : Int × ax_H} (hl : ax_hl ls 2 [(0, .inl x0), (1, .inl x1)]) (e : f_X5_isFact G.2.2 x0 x1 h = some w) (hp : (fun w : Int × ax_H => Q = ax_Q G X h0 w.2 (some (.int (Int32.ofInt w.1)))) w) : ax_W G X Q h 0 ls [] := by
  unfold f_X5_isFact at e
  refine ax_iload_n B dX5_isFact_0 rfl hl 0 rfl ?_
  refine ax_if_ne (tgt := 15) B dX5_isFact_1 (by decide) e (fun e => ?_) (fun e => ?_)
  · refine ax_iload_n B dX5_isFact_4 rfl hl 1 rfl ?_
    refine ax_iconst B dX5_isFact_5 ?_
    refine ax_sipush B dX5_isFact_6 (by decide) ?_
    refine ax_isI (y := yX5_lies) (n := 3) (As := [.int (Int32.ofInt x1), .int (Int32.ofInt 0), .int (Int32.ofInt 9999)]) B (lw_S q2151 q2152 q133 q2153) (by decide +kernel) ⟨Nat.le_of_ble_eq_true rfl, Nat.le_of_ble_eq_true rfl⟩ (fun w1 e1 => mt_X5_lies l G hSF x1 0 9999 _ w1 e1) rfl hl.size (by decide) dX5_isFact_9 e (fun q1 e => ?_)
    refine ax_goto (tgt := 47) B dX5_isFact_12 (by decide) ?_
    have e8 := e
    have hp : Q = _ := hp
    subst hp
    exact ax_zreturn B Z dX5_isFact_47 e8
  · refine ax_iload_n B dX5_isFact_15 rfl hl 0 rfl ?_
    refine ax_iconst B dX5_isFact_16 ?_
    refine ax_icmp_ne (tgt := 27) B dX5_isFact_17 (by decide) e (fun e => ?_) (fun e => ?_)
    · refine ax_iload_n B dX5_isFact_20 rfl hl 1 rfl ?_
      refine ax_isI (y := yX5_isRoom) (n := 1) (As := [.int (Int32.ofInt x1)]) B (lw_S q2177 q2178 q133 q2179) (by decide +kernel) ⟨Nat.le_of_ble_eq_true rfl, Nat.le_of_ble_eq_true rfl⟩ (fun w1 e1 => mt_X5_isRoom l G hSF x1 _ w1 e1) rfl hl.size (by decide) dX5_isFact_21 e (fun q2 e => ?_)
      refine ax_goto (tgt := 47) B dX5_isFact_24 (by decide) ?_
      have e8 := e
      have hp : Q = _ := hp
      subst hp
      exact ax_zreturn B Z dX5_isFact_47 e8
    · refine ax_iload_n B dX5_isFact_27 rfl hl 0 rfl ?_
      refine ax_iconst B dX5_isFact_28 ?_
      refine ax_icmp_ne (tgt := 46) B dX5_isFact_29 (by decide) e (fun e => ?_) (fun e => ?_)
      · refine ax_iload_n B dX5_isFact_32 rfl hl 1 rfl ?_
        refine ax_iconst B dX5_isFact_33 ?_
        refine ax_bipush B dX5_isFact_34 (by decide) ?_
        refine ax_isI (y := yX5_lies) (n := 3) (As := [.int (Int32.ofInt x1), .int (Int32.ofInt 0), .int (Int32.ofInt 99)]) B (lw_S q2151 q2152 q133 q2153) (by decide +kernel) ⟨Nat.le_of_ble_eq_true rfl, Nat.le_of_ble_eq_true rfl⟩ (fun w1 e1 => mt_X5_lies l G hSF x1 0 99 _ w1 e1) rfl hl.size (by decide) dX5_isFact_36 e (fun q3 e => ?_)
        refine ax_if_eq (tgt := 46) B dX5_isFact_39 (by decide) e (fun e => ?_) (fun e => ?_)
        · exact w_X5_isFact_46 hSF B Z hn (hl.sub [] rfl) e hp
        · refine ax_iconst B dX5_isFact_42 ?_
          refine ax_goto (tgt := 47) B dX5_isFact_43 (by decide) ?_
          have e8 := e
          have hp : Q = _ := hp
          subst hp
          exact ax_zreturnL (by decide) B Z dX5_isFact_47 e8
      · exact w_X5_isFact_46 hSF B Z hn (hl.sub [] rfl) e hp
theorem mt_X5_isFact (l : Launch) (G : ax_G) (hSF : ax_SF G) (x0 : Int) (x1 : Int) (h : ax_H) (w : Int × ax_H) (e : f_X5_isFact G.2.2 x0 x1 h = some w) : ax_Met l G yX5_isFact cX5_isFact 2 ((some FieldType.boolean)) 3 82 [.int (Int32.ofInt x0), .int (Int32.ofInt x1)] h w.2 (some (.int (Int32.ofInt w.1))) :=
  ax_enter [.inl x0, .inl x1] (y := yX5_isFact) hSF (plainFor_of_name (by decide +kernel)) (Nat.le_of_ble_eq_true rfl) (fun X ls B Z hn hl => we_X5_isFact hSF B Z hn x0 x1 hl e rfl)
def dkwX5_people_0 : List UInt8 := [42, 180, 0, 24, 17, 0, 152, 46, 172]
abbrev dktX5_people_0 : List UInt8 := dkwX5_people_0 ++ []
theorem dksX5_people_0 : cX5_people.data.toList.drop 0 = dktX5_people_0 := by decide +kernel
theorem dX5_people_0 : decode cX5_people 0 = .ok (.aload_n 0, 1) := dk_42 (dk_at dksX5_people_0 0 rfl rfl)
theorem dX5_people_1 : decode cX5_people 1 = .ok (.getfield 24, 3) := dk_180 0 24 (dk_at dksX5_people_0 1 rfl rfl)
theorem dX5_people_4 : decode cX5_people 4 = .ok (.sipush 152, 3) := dk_17 0 152 (dk_at dksX5_people_0 4 rfl rfl)
theorem dX5_people_7 : decode cX5_people 7 = .ok (.iaload, 1) := dk_46 (dk_at dksX5_people_0 7 rfl rfl)
theorem dX5_people_8 : decode cX5_people 8 = .ok (.ireturn, 1) := dk_172 (dk_at dksX5_people_0 8 rfl rfl)
noncomputable def f_X5_people (E : ax_E) (x0 : Option Nat) (h : ax_H) : Option (Int × ax_H) :=
  (ax_gR E h x0 5 2).bind fun v1 =>
  (ax_ld E h v1 100 152).bind fun v2 =>
  some (v2, h)
set_option maxHeartbeats 4000000 in
theorem we_X5_people {l : Launch} {G : ax_G} {X : ax_X} {Q : State → Prop} {h0 h : ax_H} {ls : Array Slot} (hSF : ax_SF G) (B : ax_BL l G X cX5_people 1 RX5 1 40) (Z : ax_Z X h0 ((some FieldType.int))) (hn : X.2.2.2.2.2.2.2.2.1.name = yX5_people.name) (x0 : Option Nat) {w : Int × ax_H} (hl : ax_hl ls 1 [(0, .inr (.inr x0))]) (e : f_X5_people G.2.2 x0 h = some w) (hp : (fun w : Int × ax_H => Q = ax_Q G X h0 w.2 (some (.int (Int32.ofInt w.1)))) w) : ax_W G X Q h 0 ls [] := by
  unfold f_X5_people at e
  refine ax_aload_n B dX5_people_0 rfl hl 0 rfl ?_
  refine ax_getR B ff_X5_24_5 (fun _ _ => rfl) dX5_people_1 e (fun v1 e => ?_)
  refine ax_sipush B dX5_people_4 (by decide) ?_
  refine ax_iald B kd100 dX5_people_7 e (fun v2 e => ?_)
  have e8 := e
  have hp : Q = _ := hp
  subst hp
  exact ax_ireturn B Z dX5_people_8 e8
theorem mt_X5_people (l : Launch) (G : ax_G) (hSF : ax_SF G) (x0 : Option Nat) (h : ax_H) (w : Int × ax_H) (e : f_X5_people G.2.2 x0 h = some w) : ax_Met l G yX5_people cX5_people 1 ((some FieldType.int)) 1 40 [va_rf x0] h w.2 (some (.int (Int32.ofInt w.1))) :=
  ax_enter [.inr (.inr x0)] (y := yX5_people) hSF (plainFor_of_name (by decide +kernel)) (Nat.le_of_ble_eq_true rfl) (fun X ls B Z hn hl => we_X5_people hSF B Z hn x0 hl e rfl)
def dkwX5_placeOf_0 : List UInt8 := [27, 154, 0, 9, 3, 26, 96, 167, 0, 13, 16, 73, 5, 26, 104, 96, 27, 96, 4, 100, 172]
abbrev dktX5_placeOf_0 : List UInt8 := dkwX5_placeOf_0 ++ []
theorem dksX5_placeOf_0 : cX5_placeOf.data.toList.drop 0 = dktX5_placeOf_0 := by decide +kernel
theorem dX5_placeOf_0 : decode cX5_placeOf 0 = .ok (.iload_n 1, 1) := dk_27 (dk_at dksX5_placeOf_0 0 rfl rfl)
theorem dX5_placeOf_1 : decode cX5_placeOf 1 = .ok (.ifCond .ne 9, 3) := dk_154 0 9 (dk_at dksX5_placeOf_0 1 rfl rfl)
theorem dX5_placeOf_4 : decode cX5_placeOf 4 = .ok (.iconst 0, 1) := dk_3 (dk_at dksX5_placeOf_0 4 rfl rfl)
theorem dX5_placeOf_5 : decode cX5_placeOf 5 = .ok (.iload_n 0, 1) := dk_26 (dk_at dksX5_placeOf_0 5 rfl rfl)
theorem dX5_placeOf_6 : decode cX5_placeOf 6 = .ok (.iadd, 1) := dk_96 (dk_at dksX5_placeOf_0 6 rfl rfl)
theorem dX5_placeOf_7 : decode cX5_placeOf 7 = .ok (.goto 13, 3) := dk_167 0 13 (dk_at dksX5_placeOf_0 7 rfl rfl)
theorem dX5_placeOf_10 : decode cX5_placeOf 10 = .ok (.bipush 73, 2) := dk_16 73 (dk_at dksX5_placeOf_0 10 rfl rfl)
theorem dX5_placeOf_12 : decode cX5_placeOf 12 = .ok (.iconst 2, 1) := dk_5 (dk_at dksX5_placeOf_0 12 rfl rfl)
theorem dX5_placeOf_13 : decode cX5_placeOf 13 = .ok (.iload_n 0, 1) := dk_26 (dk_at dksX5_placeOf_0 13 rfl rfl)
theorem dX5_placeOf_14 : decode cX5_placeOf 14 = .ok (.imul, 1) := dk_104 (dk_at dksX5_placeOf_0 14 rfl rfl)
theorem dX5_placeOf_15 : decode cX5_placeOf 15 = .ok (.iadd, 1) := dk_96 (dk_at dksX5_placeOf_0 15 rfl rfl)
theorem dX5_placeOf_16 : decode cX5_placeOf 16 = .ok (.iload_n 1, 1) := dk_27 (dk_at dksX5_placeOf_0 16 rfl rfl)
theorem dX5_placeOf_17 : decode cX5_placeOf 17 = .ok (.iadd, 1) := dk_96 (dk_at dksX5_placeOf_0 17 rfl rfl)
theorem dX5_placeOf_18 : decode cX5_placeOf 18 = .ok (.iconst 1, 1) := dk_4 (dk_at dksX5_placeOf_0 18 rfl rfl)
theorem dX5_placeOf_19 : decode cX5_placeOf 19 = .ok (.isub, 1) := dk_100 (dk_at dksX5_placeOf_0 19 rfl rfl)
theorem dX5_placeOf_20 : decode cX5_placeOf 20 = .ok (.ireturn, 1) := dk_172 (dk_at dksX5_placeOf_0 20 rfl rfl)
noncomputable def f_X5_placeOf (E : ax_E) (x0 : Int) (x1 : Int) (h : ax_H) : Option (Int × ax_H) :=
  if i2 x1 = 0 then
    some ((0 + x0), h)
  else
    some ((((73 + (2 * x0)) + x1) - 1), h)
set_option maxHeartbeats 4000000 in
theorem we_X5_placeOf {l : Launch} {G : ax_G} {X : ax_X} {Q : State → Prop} {h0 h : ax_H} {ls : Array Slot} (hSF : ax_SF G) (B : ax_BL l G X cX5_placeOf 2 RX5 1 40) (Z : ax_Z X h0 ((some FieldType.int))) (hn : X.2.2.2.2.2.2.2.2.1.name = yX5_placeOf.name) (x0 : Int) (x1 : Int) {w : Int × ax_H} (hl : ax_hl ls 2 [(0, .inl x0), (1, .inl x1)]) (e : f_X5_placeOf G.2.2 x0 x1 h = some w) (hp : (fun w : Int × ax_H => Q = ax_Q G X h0 w.2 (some (.int (Int32.ofInt w.1)))) w) : ax_W G X Q h 0 ls [] := by
  unfold f_X5_placeOf at e
  refine ax_iload_n B dX5_placeOf_0 rfl hl 1 rfl ?_
  refine ax_if_ne (tgt := 10) B dX5_placeOf_1 (by decide) e (fun e => ?_) (fun e => ?_)
  · refine ax_iconst B dX5_placeOf_4 ?_
    refine ax_iload_n B dX5_placeOf_5 rfl hl 0 rfl ?_
    refine ax_iadd' B dX5_placeOf_6 ?_
    refine ax_goto (tgt := 20) B dX5_placeOf_7 (by decide) ?_
    have e8 := e
    have hp : Q = _ := hp
    subst hp
    exact ax_ireturn B Z dX5_placeOf_20 e8
  · refine ax_bipush B dX5_placeOf_10 (by decide) ?_
    refine ax_iconst B dX5_placeOf_12 ?_
    refine ax_iload_n B dX5_placeOf_13 rfl hl 0 rfl ?_
    refine ax_imul' B dX5_placeOf_14 ?_
    refine ax_iadd' B dX5_placeOf_15 ?_
    refine ax_iload_n B dX5_placeOf_16 rfl hl 1 rfl ?_
    refine ax_iadd' B dX5_placeOf_17 ?_
    refine ax_iconst B dX5_placeOf_18 ?_
    refine ax_isub' B dX5_placeOf_19 ?_
    have e8 := e
    have hp : Q = _ := hp
    subst hp
    exact ax_ireturn B Z dX5_placeOf_20 e8
theorem mt_X5_placeOf (l : Launch) (G : ax_G) (hSF : ax_SF G) (x0 : Int) (x1 : Int) (h : ax_H) (w : Int × ax_H) (e : f_X5_placeOf G.2.2 x0 x1 h = some w) : ax_Met l G yX5_placeOf cX5_placeOf 2 ((some FieldType.int)) 1 40 [.int (Int32.ofInt x0), .int (Int32.ofInt x1)] h w.2 (some (.int (Int32.ofInt w.1))) :=
  ax_enter [.inl x0, .inl x1] (y := yX5_placeOf) hSF (plainFor_of_name (by decide +kernel)) (Nat.le_of_ble_eq_true rfl) (fun X ls B Z hn hl => we_X5_placeOf hSF B Z hn x0 x1 hl e rfl)
def dkwX5_person_4 : List UInt8 := [92, 46, 4, 96, 79, 42, 21, 4, 182, 0, 130, 172]
abbrev dktX5_person_4 : List UInt8 := dkwX5_person_4 ++ []
def dkwX5_person_3 : List UInt8 := [184, 0, 148, 28, 79, 42, 180, 0, 24, 21, 4, 5, 184, 0, 148, 29, 79, 42, 180, 0, 24, 17, 0, 152]
abbrev dktX5_person_3 : List UInt8 := dkwX5_person_3 ++ dktX5_person_4
def dkwX5_person_2 : List UInt8 := [182, 0, 127, 172, 42, 180, 0, 24, 21, 4, 3, 184, 0, 148, 27, 79, 42, 180, 0, 24, 21, 4, 4]
abbrev dktX5_person_2 : List UInt8 := dkwX5_person_2 ++ dktX5_person_3
def dkwX5_person_1 : List UInt8 := [42, 2, 182, 0, 127, 172, 42, 182, 0, 133, 54, 4, 21, 4, 16, 7, 160, 0, 10, 42, 16, 251]
abbrev dktX5_person_1 : List UInt8 := dkwX5_person_1 ++ dktX5_person_2
def dkwX5_person_0 : List UInt8 := [3, 27, 184, 0, 144, 153, 0, 19, 4, 28, 184, 0, 144, 153, 0, 11, 5, 29, 184, 0, 144, 154, 0, 9]
abbrev dktX5_person_0 : List UInt8 := dkwX5_person_0 ++ dktX5_person_1
theorem dksX5_person_0 : cX5_person.data.toList.drop 0 = dktX5_person_0 := by decide +kernel
theorem dksX5_person_1 : cX5_person.data.toList.drop 24 = dktX5_person_1 := dk_seg dksX5_person_0 24 rfl rfl
theorem dksX5_person_2 : cX5_person.data.toList.drop 46 = dktX5_person_2 := dk_seg dksX5_person_1 22 rfl rfl
theorem dksX5_person_3 : cX5_person.data.toList.drop 69 = dktX5_person_3 := dk_seg dksX5_person_2 23 rfl rfl
theorem dksX5_person_4 : cX5_person.data.toList.drop 93 = dktX5_person_4 := dk_seg dksX5_person_3 24 rfl rfl
theorem dX5_person_0 : decode cX5_person 0 = .ok (.iconst 0, 1) := dk_3 (dk_at dksX5_person_0 0 rfl rfl)
theorem dX5_person_1 : decode cX5_person 1 = .ok (.iload_n 1, 1) := dk_27 (dk_at dksX5_person_0 1 rfl rfl)
theorem dX5_person_2 : decode cX5_person 2 = .ok (.invokestatic 144, 3) := dk_184 0 144 (dk_at dksX5_person_0 2 rfl rfl)
theorem dX5_person_5 : decode cX5_person 5 = .ok (.ifCond .eq 19, 3) := dk_153 0 19 (dk_at dksX5_person_0 5 rfl rfl)
theorem dX5_person_8 : decode cX5_person 8 = .ok (.iconst 1, 1) := dk_4 (dk_at dksX5_person_0 8 rfl rfl)
theorem dX5_person_9 : decode cX5_person 9 = .ok (.iload_n 2, 1) := dk_28 (dk_at dksX5_person_0 9 rfl rfl)
theorem dX5_person_10 : decode cX5_person 10 = .ok (.invokestatic 144, 3) := dk_184 0 144 (dk_at dksX5_person_0 10 rfl rfl)
theorem dX5_person_13 : decode cX5_person 13 = .ok (.ifCond .eq 11, 3) := dk_153 0 11 (dk_at dksX5_person_0 13 rfl rfl)
theorem dX5_person_16 : decode cX5_person 16 = .ok (.iconst 2, 1) := dk_5 (dk_at dksX5_person_0 16 rfl rfl)
theorem dX5_person_17 : decode cX5_person 17 = .ok (.iload_n 3, 1) := dk_29 (dk_at dksX5_person_0 17 rfl rfl)
theorem dX5_person_18 : decode cX5_person 18 = .ok (.invokestatic 144, 3) := dk_184 0 144 (dk_at dksX5_person_0 18 rfl rfl)
theorem dX5_person_21 : decode cX5_person 21 = .ok (.ifCond .ne 9, 3) := dk_154 0 9 (dk_at dksX5_person_0 21 rfl rfl)
theorem dX5_person_24 : decode cX5_person 24 = .ok (.aload_n 0, 1) := dk_42 (dk_at dksX5_person_1 0 rfl rfl)
theorem dX5_person_25 : decode cX5_person 25 = .ok (.iconst (-1), 1) := dk_2 (dk_at dksX5_person_1 1 rfl rfl)
theorem dX5_person_26 : decode cX5_person 26 = .ok (.invokevirtual 127, 3) := dk_182 0 127 (dk_at dksX5_person_1 2 rfl rfl)
theorem dX5_person_29 : decode cX5_person 29 = .ok (.ireturn, 1) := dk_172 (dk_at dksX5_person_1 5 rfl rfl)
theorem dX5_person_30 : decode cX5_person 30 = .ok (.aload_n 0, 1) := dk_42 (dk_at dksX5_person_1 6 rfl rfl)
theorem dX5_person_31 : decode cX5_person 31 = .ok (.invokevirtual 133, 3) := dk_182 0 133 (dk_at dksX5_person_1 7 rfl rfl)
theorem dX5_person_34 : decode cX5_person 34 = .ok (.istore 4, 2) := dk_54 4 (dk_at dksX5_person_1 10 rfl rfl)
theorem dX5_person_36 : decode cX5_person 36 = .ok (.iload 4, 2) := dk_21 4 (dk_at dksX5_person_1 12 rfl rfl)
theorem dX5_person_38 : decode cX5_person 38 = .ok (.bipush 7, 2) := dk_16 7 (dk_at dksX5_person_1 14 rfl rfl)
theorem dX5_person_40 : decode cX5_person 40 = .ok (.if_icmp .ne 10, 3) := dk_160 0 10 (dk_at dksX5_person_1 16 rfl rfl)
theorem dX5_person_43 : decode cX5_person 43 = .ok (.aload_n 0, 1) := dk_42 (dk_at dksX5_person_1 19 rfl rfl)
theorem dX5_person_44 : decode cX5_person 44 = .ok (.bipush (-5), 2) := dk_16 251 (dk_at dksX5_person_1 20 rfl rfl)
theorem dX5_person_46 : decode cX5_person 46 = .ok (.invokevirtual 127, 3) := dk_182 0 127 (dk_at dksX5_person_2 0 rfl rfl)
theorem dX5_person_49 : decode cX5_person 49 = .ok (.ireturn, 1) := dk_172 (dk_at dksX5_person_2 3 rfl rfl)
theorem dX5_person_50 : decode cX5_person 50 = .ok (.aload_n 0, 1) := dk_42 (dk_at dksX5_person_2 4 rfl rfl)
theorem dX5_person_51 : decode cX5_person 51 = .ok (.getfield 24, 3) := dk_180 0 24 (dk_at dksX5_person_2 5 rfl rfl)
theorem dX5_person_54 : decode cX5_person 54 = .ok (.iload 4, 2) := dk_21 4 (dk_at dksX5_person_2 8 rfl rfl)
theorem dX5_person_56 : decode cX5_person 56 = .ok (.iconst 0, 1) := dk_3 (dk_at dksX5_person_2 10 rfl rfl)
theorem dX5_person_57 : decode cX5_person 57 = .ok (.invokestatic 148, 3) := dk_184 0 148 (dk_at dksX5_person_2 11 rfl rfl)
theorem dX5_person_60 : decode cX5_person 60 = .ok (.iload_n 1, 1) := dk_27 (dk_at dksX5_person_2 14 rfl rfl)
theorem dX5_person_61 : decode cX5_person 61 = .ok (.iastore, 1) := dk_79 (dk_at dksX5_person_2 15 rfl rfl)
theorem dX5_person_62 : decode cX5_person 62 = .ok (.aload_n 0, 1) := dk_42 (dk_at dksX5_person_2 16 rfl rfl)
theorem dX5_person_63 : decode cX5_person 63 = .ok (.getfield 24, 3) := dk_180 0 24 (dk_at dksX5_person_2 17 rfl rfl)
theorem dX5_person_66 : decode cX5_person 66 = .ok (.iload 4, 2) := dk_21 4 (dk_at dksX5_person_2 20 rfl rfl)
theorem dX5_person_68 : decode cX5_person 68 = .ok (.iconst 1, 1) := dk_4 (dk_at dksX5_person_2 22 rfl rfl)
theorem dX5_person_69 : decode cX5_person 69 = .ok (.invokestatic 148, 3) := dk_184 0 148 (dk_at dksX5_person_3 0 rfl rfl)
theorem dX5_person_72 : decode cX5_person 72 = .ok (.iload_n 2, 1) := dk_28 (dk_at dksX5_person_3 3 rfl rfl)
theorem dX5_person_73 : decode cX5_person 73 = .ok (.iastore, 1) := dk_79 (dk_at dksX5_person_3 4 rfl rfl)
theorem dX5_person_74 : decode cX5_person 74 = .ok (.aload_n 0, 1) := dk_42 (dk_at dksX5_person_3 5 rfl rfl)
theorem dX5_person_75 : decode cX5_person 75 = .ok (.getfield 24, 3) := dk_180 0 24 (dk_at dksX5_person_3 6 rfl rfl)
theorem dX5_person_78 : decode cX5_person 78 = .ok (.iload 4, 2) := dk_21 4 (dk_at dksX5_person_3 9 rfl rfl)
theorem dX5_person_80 : decode cX5_person 80 = .ok (.iconst 2, 1) := dk_5 (dk_at dksX5_person_3 11 rfl rfl)
theorem dX5_person_81 : decode cX5_person 81 = .ok (.invokestatic 148, 3) := dk_184 0 148 (dk_at dksX5_person_3 12 rfl rfl)
theorem dX5_person_84 : decode cX5_person 84 = .ok (.iload_n 3, 1) := dk_29 (dk_at dksX5_person_3 15 rfl rfl)
theorem dX5_person_85 : decode cX5_person 85 = .ok (.iastore, 1) := dk_79 (dk_at dksX5_person_3 16 rfl rfl)
theorem dX5_person_86 : decode cX5_person 86 = .ok (.aload_n 0, 1) := dk_42 (dk_at dksX5_person_3 17 rfl rfl)
theorem dX5_person_87 : decode cX5_person 87 = .ok (.getfield 24, 3) := dk_180 0 24 (dk_at dksX5_person_3 18 rfl rfl)
theorem dX5_person_90 : decode cX5_person 90 = .ok (.sipush 152, 3) := dk_17 0 152 (dk_at dksX5_person_3 21 rfl rfl)
theorem dX5_person_93 : decode cX5_person 93 = .ok (.dup2, 1) := dk_92 (dk_at dksX5_person_4 0 rfl rfl)
theorem dX5_person_94 : decode cX5_person 94 = .ok (.iaload, 1) := dk_46 (dk_at dksX5_person_4 1 rfl rfl)
theorem dX5_person_95 : decode cX5_person 95 = .ok (.iconst 1, 1) := dk_4 (dk_at dksX5_person_4 2 rfl rfl)
theorem dX5_person_96 : decode cX5_person 96 = .ok (.iadd, 1) := dk_96 (dk_at dksX5_person_4 3 rfl rfl)
theorem dX5_person_97 : decode cX5_person 97 = .ok (.iastore, 1) := dk_79 (dk_at dksX5_person_4 4 rfl rfl)
theorem dX5_person_98 : decode cX5_person 98 = .ok (.aload_n 0, 1) := dk_42 (dk_at dksX5_person_4 5 rfl rfl)
theorem dX5_person_99 : decode cX5_person 99 = .ok (.iload 4, 2) := dk_21 4 (dk_at dksX5_person_4 6 rfl rfl)
theorem dX5_person_101 : decode cX5_person 101 = .ok (.invokevirtual 130, 3) := dk_182 0 130 (dk_at dksX5_person_4 8 rfl rfl)
theorem dX5_person_104 : decode cX5_person 104 = .ok (.ireturn, 1) := dk_172 (dk_at dksX5_person_4 11 rfl rfl)
noncomputable def f_X5_person_24 (E : ax_E) (x0 : Option Nat) (h : ax_H) : Option (Int × ax_H) :=
  (ax_ce E h x0 5).bind fun _ => (f_X5_refuses E x0 (-1) h).bind fun q1 =>
  some (q1.1, q1.2)
noncomputable def f_X5_person (E : ax_E) (x0 : Option Nat) (x1 : Int) (x2 : Int) (x3 : Int) (h : ax_H) : Option (Int × ax_H) :=
  (f_X5_isFact E 0 x1 h).bind fun q1 =>
  if i2 q1.1 = 0 then
    f_X5_person_24 E x0 q1.2
  else
    (f_X5_isFact E 1 x2 q1.2).bind fun q2 =>
    if i2 q2.1 = 0 then
      f_X5_person_24 E x0 q2.2
    else
      (f_X5_isFact E 2 x3 q2.2).bind fun q3 =>
      if i2 q3.1 = 0 then
        f_X5_person_24 E x0 q3.2
      else
        (ax_ce E q3.2 x0 5).bind fun _ => (f_X5_people E x0 q3.2).bind fun q4 =>
        if i2 q4.1 = i2 7 then
          (ax_ce E q4.2 x0 5).bind fun _ => (f_X5_refuses E x0 (-5) q4.2).bind fun q5 =>
          some (q5.1, q5.2)
        else
          (ax_gR E q4.2 x0 5 2).bind fun v6 =>
          (f_X5_placeOf E q4.1 0 q4.2).bind fun q7 =>
          (ax_sto q7.2 v6 100 q7.1 x1).bind fun h8 =>
          (ax_gR E h8 x0 5 2).bind fun v9 =>
          (f_X5_placeOf E q4.1 1 h8).bind fun q10 =>
          (ax_sto q10.2 v9 100 q10.1 x2).bind fun h11 =>
          (ax_gR E h11 x0 5 2).bind fun v12 =>
          (f_X5_placeOf E q4.1 2 h11).bind fun q13 =>
          (ax_sto q13.2 v12 100 q13.1 x3).bind fun h14 =>
          (ax_gR E h14 x0 5 2).bind fun v15 =>
          (ax_ld E h14 v15 100 152).bind fun v16 =>
          (ax_sto h14 v15 100 152 (v16 + 1)).bind fun h17 =>
          (ax_ce E h17 x0 5).bind fun _ => (f_X5_settled E x0 q4.1 h17).bind fun q18 =>
          some (q18.1, q18.2)
set_option maxHeartbeats 4000000 in
theorem w_X5_person_24 {l : Launch} {G : ax_G} {X : ax_X} {Q : State → Prop} {h0 h : ax_H} {ls : Array Slot} (hSF : ax_SF G) (B : ax_BL l G X cX5_person 5 RX5 4 103) (Z : ax_Z X h0 ((some FieldType.int))) (hn : X.2.2.2.2.2.2.2.2.1.name = yX5_person.name) (x0 : Option Nat) {w : Int × ax_H} (hl : ax_hl ls 5 [(0, .inr (.inr x0))]) (e : f_X5_person_24 G.2.2 x0 h = some w) (hp : (fun w : Int × ax_H => Q = ax_Q G X h0 w.2 (some (.int (Int32.ofInt w.1)))) w) : ax_W G X Q h 24 ls [] := by
  unfold f_X5_person_24 at e
  refine ax_aload_n B dX5_person_24 rfl hl 0 rfl ?_
  refine ax_iconst B dX5_person_25 ?_
  refine ax_ivI (y := yX5_refuses) (n := 1) (As := [.int (Int32.ofInt (-1))]) B kd5 (lw_V q2154 q2156 qs41 q133 q2157) (by decide +kernel) ⟨Nat.le_of_ble_eq_true rfl, Nat.le_of_ble_eq_true rfl⟩ (fun w1 e1 => mt_X5_refuses l G hSF x0 (-1) _ w1 e1) rfl hl.size (by decide) dX5_person_26 e (fun q1 e => ?_)
  have e8 := e
  have hp : Q = _ := hp
  subst hp
  exact ax_ireturn B Z dX5_person_29 e8
set_option maxHeartbeats 4000000 in
theorem we_X5_person {l : Launch} {G : ax_G} {X : ax_X} {Q : State → Prop} {h0 h : ax_H} {ls : Array Slot} (hSF : ax_SF G) (B : ax_BL l G X cX5_person 5 RX5 4 103) (Z : ax_Z X h0 ((some FieldType.int))) (hn : X.2.2.2.2.2.2.2.2.1.name = yX5_person.name) (x0 : Option Nat) (x1 : Int) (x2 : Int) (x3 : Int) {w : Int × ax_H} (hl : ax_hl ls 5 [(0, .inr (.inr x0)), (1, .inl x1), (2, .inl x2), (3, .inl x3)]) (e : f_X5_person G.2.2 x0 x1 x2 x3 h = some w) (hp : (fun w : Int × ax_H => Q = ax_Q G X h0 w.2 (some (.int (Int32.ofInt w.1)))) w) : ax_W G X Q h 0 ls [] := by
  unfold f_X5_person at e
  refine ax_iconst B dX5_person_0 ?_
  refine ax_iload_n B dX5_person_1 rfl hl 1 rfl ?_
  refine ax_isI (y := yX5_isFact) (n := 2) (As := [.int (Int32.ofInt 0), .int (Int32.ofInt x1)]) B (lw_S q2174 q2175 q133 q2176) (by decide +kernel) ⟨Nat.le_of_ble_eq_true rfl, Nat.le_of_ble_eq_true rfl⟩ (fun w1 e1 => mt_X5_isFact l G hSF 0 x1 _ w1 e1) rfl hl.size (by decide) dX5_person_2 e (fun q1 e => ?_)
  refine ax_if_eq (tgt := 24) B dX5_person_5 (by decide) e (fun e => ?_) (fun e => ?_)
  · exact w_X5_person_24 hSF B Z hn x0 (hl.sub [0] rfl) e hp
  · refine ax_iconst B dX5_person_8 ?_
    refine ax_iload_n B dX5_person_9 rfl hl 2 rfl ?_
    refine ax_isI (y := yX5_isFact) (n := 2) (As := [.int (Int32.ofInt 1), .int (Int32.ofInt x2)]) B (lw_S q2174 q2175 q133 q2176) (by decide +kernel) ⟨Nat.le_of_ble_eq_true rfl, Nat.le_of_ble_eq_true rfl⟩ (fun w1 e1 => mt_X5_isFact l G hSF 1 x2 _ w1 e1) rfl hl.size (by decide) dX5_person_10 e (fun q2 e => ?_)
    refine ax_if_eq (tgt := 24) B dX5_person_13 (by decide) e (fun e => ?_) (fun e => ?_)
    · exact w_X5_person_24 hSF B Z hn x0 (hl.sub [0] rfl) e hp
    · refine ax_iconst B dX5_person_16 ?_
      refine ax_iload_n B dX5_person_17 rfl hl 3 rfl ?_
      refine ax_isI (y := yX5_isFact) (n := 2) (As := [.int (Int32.ofInt 2), .int (Int32.ofInt x3)]) B (lw_S q2174 q2175 q133 q2176) (by decide +kernel) ⟨Nat.le_of_ble_eq_true rfl, Nat.le_of_ble_eq_true rfl⟩ (fun w1 e1 => mt_X5_isFact l G hSF 2 x3 _ w1 e1) rfl hl.size (by decide) dX5_person_18 e (fun q3 e => ?_)
      refine ax_if_ne (tgt := 30) B dX5_person_21 (by decide) e (fun e => ?_) (fun e => ?_)
      · exact w_X5_person_24 hSF B Z hn x0 (hl.sub [0] rfl) e hp
      · refine ax_aload_n B dX5_person_30 rfl hl 0 rfl ?_
        refine ax_ivI (y := yX5_people) (n := 0) (As := []) B kd5 (lw_V q2180 q2182 qs44 q133 q2183) (by decide +kernel) ⟨Nat.le_of_ble_eq_true rfl, Nat.le_of_ble_eq_true rfl⟩ (fun w1 e1 => mt_X5_people l G hSF x0 _ w1 e1) rfl hl.size (by decide) dX5_person_31 e (fun q4 e => ?_)
        refine ax_istore (L' := [(4, .inl q4.1), (0, .inr (.inr x0)), (1, .inl x1), (2, .inl x2), (3, .inl x3)]) B dX5_person_34 hl (by decide) rfl (fun ls hl => ?_)
        refine ax_iload B dX5_person_36 hl 0 rfl ?_
        refine ax_bipush B dX5_person_38 (by decide) ?_
        refine ax_icmp_ne (tgt := 50) B dX5_person_40 (by decide) e (fun e => ?_) (fun e => ?_)
        · refine ax_aload_n B dX5_person_43 rfl hl 1 rfl ?_
          refine ax_bipush B dX5_person_44 (by decide) ?_
          refine ax_ivI (y := yX5_refuses) (n := 1) (As := [.int (Int32.ofInt (-5))]) B kd5 (lw_V q2154 q2156 qs41 q133 q2157) (by decide +kernel) ⟨Nat.le_of_ble_eq_true rfl, Nat.le_of_ble_eq_true rfl⟩ (fun w1 e1 => mt_X5_refuses l G hSF x0 (-5) _ w1 e1) rfl hl.size (by decide) dX5_person_46 e (fun q5 e => ?_)
          have e8 := e
          have hp : Q = _ := hp
          subst hp
          exact ax_ireturn B Z dX5_person_49 e8
        · refine ax_aload_n B dX5_person_50 rfl hl 1 rfl ?_
          refine ax_getR B ff_X5_24_5 (fun _ _ => rfl) dX5_person_51 e (fun v6 e => ?_)
          refine ax_iload B dX5_person_54 hl 0 rfl ?_
          refine ax_iconst B dX5_person_56 ?_
          refine ax_isI (y := yX5_placeOf) (n := 2) (As := [.int (Int32.ofInt q4.1), .int (Int32.ofInt 0)]) B (lw_S q2184 q2185 q133 q2186) (by decide +kernel) ⟨Nat.le_of_ble_eq_true rfl, Nat.le_of_ble_eq_true rfl⟩ (fun w1 e1 => mt_X5_placeOf l G hSF q4.1 0 _ w1 e1) rfl hl.size (by simp only [List.map_cons, List.map_nil, List.sum_cons, List.sum_nil, va_rf_cat, ax_catI, ax_catL]; decide) dX5_person_57 e (fun q7 e => ?_)
          refine ax_iload_n B dX5_person_60 rfl hl 2 rfl ?_
          refine ax_iast B kd100 dX5_person_61 e (fun h8 e => ?_)
          refine ax_aload_n B dX5_person_62 rfl hl 1 rfl ?_
          refine ax_getR B ff_X5_24_5 (fun _ _ => rfl) dX5_person_63 e (fun v9 e => ?_)
          refine ax_iload B dX5_person_66 hl 0 rfl ?_
          refine ax_iconst B dX5_person_68 ?_
          refine ax_isI (y := yX5_placeOf) (n := 2) (As := [.int (Int32.ofInt q4.1), .int (Int32.ofInt 1)]) B (lw_S q2184 q2185 q133 q2186) (by decide +kernel) ⟨Nat.le_of_ble_eq_true rfl, Nat.le_of_ble_eq_true rfl⟩ (fun w1 e1 => mt_X5_placeOf l G hSF q4.1 1 _ w1 e1) rfl hl.size (by simp only [List.map_cons, List.map_nil, List.sum_cons, List.sum_nil, va_rf_cat, ax_catI, ax_catL]; decide) dX5_person_69 e (fun q10 e => ?_)
          refine ax_iload_n B dX5_person_72 rfl hl 3 rfl ?_
          refine ax_iast B kd100 dX5_person_73 e (fun h11 e => ?_)
          refine ax_aload_n B dX5_person_74 rfl hl 1 rfl ?_
          refine ax_getR B ff_X5_24_5 (fun _ _ => rfl) dX5_person_75 e (fun v12 e => ?_)
          refine ax_iload B dX5_person_78 hl 0 rfl ?_
          refine ax_iconst B dX5_person_80 ?_
          refine ax_isI (y := yX5_placeOf) (n := 2) (As := [.int (Int32.ofInt q4.1), .int (Int32.ofInt 2)]) B (lw_S q2184 q2185 q133 q2186) (by decide +kernel) ⟨Nat.le_of_ble_eq_true rfl, Nat.le_of_ble_eq_true rfl⟩ (fun w1 e1 => mt_X5_placeOf l G hSF q4.1 2 _ w1 e1) rfl hl.size (by simp only [List.map_cons, List.map_nil, List.sum_cons, List.sum_nil, va_rf_cat, ax_catI, ax_catL]; decide) dX5_person_81 e (fun q13 e => ?_)
          refine ax_iload_n B dX5_person_84 rfl hl 4 rfl ?_
          refine ax_iast B kd100 dX5_person_85 e (fun h14 e => ?_)
          refine ax_aload_n B dX5_person_86 rfl hl 1 rfl ?_
          refine ax_getR B ff_X5_24_5 (fun _ _ => rfl) dX5_person_87 e (fun v15 e => ?_)
          refine ax_sipush B dX5_person_90 (by decide) ?_
          refine ax_dup2 B dX5_person_93 (rfl) (va_rf_cat _) ?_
          refine ax_iald B kd100 dX5_person_94 e (fun v16 e => ?_)
          refine ax_iconst B dX5_person_95 ?_
          refine ax_iadd' B dX5_person_96 ?_
          refine ax_iast B kd100 dX5_person_97 e (fun h17 e => ?_)
          refine ax_aload_n B dX5_person_98 rfl hl 1 rfl ?_
          refine ax_iload B dX5_person_99 hl 0 rfl ?_
          refine ax_ivI (y := yX5_settled) (n := 1) (As := [.int (Int32.ofInt q4.1)]) B kd5 (lw_V q2166 q2168 qs43 q133 q2169) (by decide +kernel) ⟨Nat.le_of_ble_eq_true rfl, Nat.le_of_ble_eq_true rfl⟩ (fun w1 e1 => mt_X5_settled l G hSF x0 q4.1 _ w1 e1) rfl hl.size (by decide) dX5_person_101 e (fun q18 e => ?_)
          have e8 := e
          have hp : Q = _ := hp
          subst hp
          exact ax_ireturn B Z dX5_person_104 e8
theorem mt_X5_person (l : Launch) (G : ax_G) (hSF : ax_SF G) (x0 : Option Nat) (x1 : Int) (x2 : Int) (x3 : Int) (h : ax_H) (w : Int × ax_H) (e : f_X5_person G.2.2 x0 x1 x2 x3 h = some w) : ax_Met l G yX5_person cX5_person 5 ((some FieldType.int)) 4 103 [va_rf x0, .int (Int32.ofInt x1), .int (Int32.ofInt x2), .int (Int32.ofInt x3)] h w.2 (some (.int (Int32.ofInt w.1))) :=
  ax_enter [.inr (.inr x0), .inl x1, .inl x2, .inl x3] (y := yX5_person) hSF (plainFor_of_name (by decide +kernel)) (Nat.le_of_ble_eq_true rfl) (fun X ls B Z hn hl => we_X5_person hSF B Z hn x0 x1 x2 x3 hl e rfl)
def dkwX5_isPerson_0 : List UInt8 := [27, 3, 42, 182, 0, 133, 4, 100, 184, 0, 123, 172]
abbrev dktX5_isPerson_0 : List UInt8 := dkwX5_isPerson_0 ++ []
theorem dksX5_isPerson_0 : cX5_isPerson.data.toList.drop 0 = dktX5_isPerson_0 := by decide +kernel
theorem dX5_isPerson_0 : decode cX5_isPerson 0 = .ok (.iload_n 1, 1) := dk_27 (dk_at dksX5_isPerson_0 0 rfl rfl)
theorem dX5_isPerson_1 : decode cX5_isPerson 1 = .ok (.iconst 0, 1) := dk_3 (dk_at dksX5_isPerson_0 1 rfl rfl)
theorem dX5_isPerson_2 : decode cX5_isPerson 2 = .ok (.aload_n 0, 1) := dk_42 (dk_at dksX5_isPerson_0 2 rfl rfl)
theorem dX5_isPerson_3 : decode cX5_isPerson 3 = .ok (.invokevirtual 133, 3) := dk_182 0 133 (dk_at dksX5_isPerson_0 3 rfl rfl)
theorem dX5_isPerson_6 : decode cX5_isPerson 6 = .ok (.iconst 1, 1) := dk_4 (dk_at dksX5_isPerson_0 6 rfl rfl)
theorem dX5_isPerson_7 : decode cX5_isPerson 7 = .ok (.isub, 1) := dk_100 (dk_at dksX5_isPerson_0 7 rfl rfl)
theorem dX5_isPerson_8 : decode cX5_isPerson 8 = .ok (.invokestatic 123, 3) := dk_184 0 123 (dk_at dksX5_isPerson_0 8 rfl rfl)
theorem dX5_isPerson_11 : decode cX5_isPerson 11 = .ok (.ireturn, 1) := dk_172 (dk_at dksX5_isPerson_0 11 rfl rfl)
noncomputable def f_X5_isPerson (E : ax_E) (x0 : Option Nat) (x1 : Int) (h : ax_H) : Option (Int × ax_H) :=
  (ax_ce E h x0 5).bind fun _ => (f_X5_people E x0 h).bind fun q1 =>
  (f_X5_lies E x1 0 (q1.1 - 1) q1.2).bind fun q2 =>
  if q2.1 = 0 ∨ q2.1 = 1 then some (q2.1, q2.2) else none
set_option maxHeartbeats 4000000 in
theorem we_X5_isPerson {l : Launch} {G : ax_G} {X : ax_X} {Q : State → Prop} {h0 h : ax_H} {ls : Array Slot} (hSF : ax_SF G) (B : ax_BL l G X cX5_isPerson 2 RX5 2 62) (Z : ax_Z X h0 ((some FieldType.boolean))) (hn : X.2.2.2.2.2.2.2.2.1.name = yX5_isPerson.name) (x0 : Option Nat) (x1 : Int) {w : Int × ax_H} (hl : ax_hl ls 2 [(0, .inr (.inr x0)), (1, .inl x1)]) (e : f_X5_isPerson G.2.2 x0 x1 h = some w) (hp : (fun w : Int × ax_H => Q = ax_Q G X h0 w.2 (some (.int (Int32.ofInt w.1)))) w) : ax_W G X Q h 0 ls [] := by
  unfold f_X5_isPerson at e
  refine ax_iload_n B dX5_isPerson_0 rfl hl 1 rfl ?_
  refine ax_iconst B dX5_isPerson_1 ?_
  refine ax_aload_n B dX5_isPerson_2 rfl hl 0 rfl ?_
  refine ax_ivI (y := yX5_people) (n := 0) (As := []) B kd5 (lw_V q2180 q2182 qs44 q133 q2183) (by decide +kernel) ⟨Nat.le_of_ble_eq_true rfl, Nat.le_of_ble_eq_true rfl⟩ (fun w1 e1 => mt_X5_people l G hSF x0 _ w1 e1) rfl hl.size (by simp only [List.map_cons, List.map_nil, List.sum_cons, List.sum_nil, va_rf_cat, ax_catI, ax_catL]; decide) dX5_isPerson_3 e (fun q1 e => ?_)
  refine ax_iconst B dX5_isPerson_6 ?_
  refine ax_isub' B dX5_isPerson_7 ?_
  refine ax_isI (y := yX5_lies) (n := 3) (As := [.int (Int32.ofInt x1), .int (Int32.ofInt 0), .int (Int32.ofInt (q1.1 - 1))]) B (lw_S q2151 q2152 q133 q2153) (by decide +kernel) ⟨Nat.le_of_ble_eq_true rfl, Nat.le_of_ble_eq_true rfl⟩ (fun w1 e1 => mt_X5_lies l G hSF x1 0 (q1.1 - 1) _ w1 e1) rfl hl.size (by decide) dX5_isPerson_8 e (fun q2 e => ?_)
  have e8 := e
  have hp : Q = _ := hp
  subst hp
  exact ax_zreturn B Z dX5_isPerson_11 e8
theorem mt_X5_isPerson (l : Launch) (G : ax_G) (hSF : ax_SF G) (x0 : Option Nat) (x1 : Int) (h : ax_H) (w : Int × ax_H) (e : f_X5_isPerson G.2.2 x0 x1 h = some w) : ax_Met l G yX5_isPerson cX5_isPerson 2 ((some FieldType.boolean)) 2 62 [va_rf x0, .int (Int32.ofInt x1)] h w.2 (some (.int (Int32.ofInt w.1))) :=
  ax_enter [.inr (.inr x0), .inl x1] (y := yX5_isPerson) hSF (plainFor_of_name (by decide +kernel)) (Nat.le_of_ble_eq_true rfl) (fun X ls B Z hn hl => we_X5_isPerson hSF B Z hn x0 x1 hl e rfl)
def dkwX5_put_2 : List UInt8 := [184, 0, 148, 29, 79, 42, 21, 4, 182, 0, 130, 172]
abbrev dktX5_put_2 : List UInt8 := dkwX5_put_2 ++ []
def dkwX5_put_1 : List UInt8 := [16, 254, 182, 0, 127, 172, 42, 180, 0, 24, 27, 28, 184, 0, 148, 46, 54, 4, 42, 180, 0, 24, 27, 28]
abbrev dktX5_put_1 : List UInt8 := dkwX5_put_1 ++ dktX5_put_2
def dkwX5_put_0 : List UInt8 := [28, 29, 184, 0, 144, 154, 0, 9, 42, 2, 182, 0, 127, 172, 42, 27, 182, 0, 152, 154, 0, 10, 42]
abbrev dktX5_put_0 : List UInt8 := dkwX5_put_0 ++ dktX5_put_1
theorem dksX5_put_0 : cX5_put.data.toList.drop 0 = dktX5_put_0 := by decide +kernel
theorem dksX5_put_1 : cX5_put.data.toList.drop 23 = dktX5_put_1 := dk_seg dksX5_put_0 23 rfl rfl
theorem dksX5_put_2 : cX5_put.data.toList.drop 47 = dktX5_put_2 := dk_seg dksX5_put_1 24 rfl rfl
theorem dX5_put_0 : decode cX5_put 0 = .ok (.iload_n 2, 1) := dk_28 (dk_at dksX5_put_0 0 rfl rfl)
theorem dX5_put_1 : decode cX5_put 1 = .ok (.iload_n 3, 1) := dk_29 (dk_at dksX5_put_0 1 rfl rfl)
theorem dX5_put_2 : decode cX5_put 2 = .ok (.invokestatic 144, 3) := dk_184 0 144 (dk_at dksX5_put_0 2 rfl rfl)
theorem dX5_put_5 : decode cX5_put 5 = .ok (.ifCond .ne 9, 3) := dk_154 0 9 (dk_at dksX5_put_0 5 rfl rfl)
theorem dX5_put_8 : decode cX5_put 8 = .ok (.aload_n 0, 1) := dk_42 (dk_at dksX5_put_0 8 rfl rfl)
theorem dX5_put_9 : decode cX5_put 9 = .ok (.iconst (-1), 1) := dk_2 (dk_at dksX5_put_0 9 rfl rfl)
theorem dX5_put_10 : decode cX5_put 10 = .ok (.invokevirtual 127, 3) := dk_182 0 127 (dk_at dksX5_put_0 10 rfl rfl)
theorem dX5_put_13 : decode cX5_put 13 = .ok (.ireturn, 1) := dk_172 (dk_at dksX5_put_0 13 rfl rfl)
theorem dX5_put_14 : decode cX5_put 14 = .ok (.aload_n 0, 1) := dk_42 (dk_at dksX5_put_0 14 rfl rfl)
theorem dX5_put_15 : decode cX5_put 15 = .ok (.iload_n 1, 1) := dk_27 (dk_at dksX5_put_0 15 rfl rfl)
theorem dX5_put_16 : decode cX5_put 16 = .ok (.invokevirtual 152, 3) := dk_182 0 152 (dk_at dksX5_put_0 16 rfl rfl)
theorem dX5_put_19 : decode cX5_put 19 = .ok (.ifCond .ne 10, 3) := dk_154 0 10 (dk_at dksX5_put_0 19 rfl rfl)
theorem dX5_put_22 : decode cX5_put 22 = .ok (.aload_n 0, 1) := dk_42 (dk_at dksX5_put_0 22 rfl rfl)
theorem dX5_put_23 : decode cX5_put 23 = .ok (.bipush (-2), 2) := dk_16 254 (dk_at dksX5_put_1 0 rfl rfl)
theorem dX5_put_25 : decode cX5_put 25 = .ok (.invokevirtual 127, 3) := dk_182 0 127 (dk_at dksX5_put_1 2 rfl rfl)
theorem dX5_put_28 : decode cX5_put 28 = .ok (.ireturn, 1) := dk_172 (dk_at dksX5_put_1 5 rfl rfl)
theorem dX5_put_29 : decode cX5_put 29 = .ok (.aload_n 0, 1) := dk_42 (dk_at dksX5_put_1 6 rfl rfl)
theorem dX5_put_30 : decode cX5_put 30 = .ok (.getfield 24, 3) := dk_180 0 24 (dk_at dksX5_put_1 7 rfl rfl)
theorem dX5_put_33 : decode cX5_put 33 = .ok (.iload_n 1, 1) := dk_27 (dk_at dksX5_put_1 10 rfl rfl)
theorem dX5_put_34 : decode cX5_put 34 = .ok (.iload_n 2, 1) := dk_28 (dk_at dksX5_put_1 11 rfl rfl)
theorem dX5_put_35 : decode cX5_put 35 = .ok (.invokestatic 148, 3) := dk_184 0 148 (dk_at dksX5_put_1 12 rfl rfl)
theorem dX5_put_38 : decode cX5_put 38 = .ok (.iaload, 1) := dk_46 (dk_at dksX5_put_1 15 rfl rfl)
theorem dX5_put_39 : decode cX5_put 39 = .ok (.istore 4, 2) := dk_54 4 (dk_at dksX5_put_1 16 rfl rfl)
theorem dX5_put_41 : decode cX5_put 41 = .ok (.aload_n 0, 1) := dk_42 (dk_at dksX5_put_1 18 rfl rfl)
theorem dX5_put_42 : decode cX5_put 42 = .ok (.getfield 24, 3) := dk_180 0 24 (dk_at dksX5_put_1 19 rfl rfl)
theorem dX5_put_45 : decode cX5_put 45 = .ok (.iload_n 1, 1) := dk_27 (dk_at dksX5_put_1 22 rfl rfl)
theorem dX5_put_46 : decode cX5_put 46 = .ok (.iload_n 2, 1) := dk_28 (dk_at dksX5_put_1 23 rfl rfl)
theorem dX5_put_47 : decode cX5_put 47 = .ok (.invokestatic 148, 3) := dk_184 0 148 (dk_at dksX5_put_2 0 rfl rfl)
theorem dX5_put_50 : decode cX5_put 50 = .ok (.iload_n 3, 1) := dk_29 (dk_at dksX5_put_2 3 rfl rfl)
theorem dX5_put_51 : decode cX5_put 51 = .ok (.iastore, 1) := dk_79 (dk_at dksX5_put_2 4 rfl rfl)
theorem dX5_put_52 : decode cX5_put 52 = .ok (.aload_n 0, 1) := dk_42 (dk_at dksX5_put_2 5 rfl rfl)
theorem dX5_put_53 : decode cX5_put 53 = .ok (.iload 4, 2) := dk_21 4 (dk_at dksX5_put_2 6 rfl rfl)
theorem dX5_put_55 : decode cX5_put 55 = .ok (.invokevirtual 130, 3) := dk_182 0 130 (dk_at dksX5_put_2 8 rfl rfl)
theorem dX5_put_58 : decode cX5_put 58 = .ok (.ireturn, 1) := dk_172 (dk_at dksX5_put_2 11 rfl rfl)
noncomputable def f_X5_put (E : ax_E) (x0 : Option Nat) (x1 : Int) (x2 : Int) (x3 : Int) (h : ax_H) : Option (Int × ax_H) :=
  (f_X5_isFact E x2 x3 h).bind fun q1 =>
  if i2 q1.1 = 0 then
    (ax_ce E q1.2 x0 5).bind fun _ => (f_X5_refuses E x0 (-1) q1.2).bind fun q2 =>
    some (q2.1, q2.2)
  else
    (ax_ce E q1.2 x0 5).bind fun _ => (f_X5_isPerson E x0 x1 q1.2).bind fun q3 =>
    if i2 q3.1 = 0 then
      (ax_ce E q3.2 x0 5).bind fun _ => (f_X5_refuses E x0 (-2) q3.2).bind fun q4 =>
      some (q4.1, q4.2)
    else
      (ax_gR E q3.2 x0 5 2).bind fun v5 =>
      (f_X5_placeOf E x1 x2 q3.2).bind fun q6 =>
      (ax_ld E q6.2 v5 100 q6.1).bind fun v7 =>
      (ax_gR E q6.2 x0 5 2).bind fun v8 =>
      (f_X5_placeOf E x1 x2 q6.2).bind fun q9 =>
      (ax_sto q9.2 v8 100 q9.1 x3).bind fun h10 =>
      (ax_ce E h10 x0 5).bind fun _ => (f_X5_settled E x0 v7 h10).bind fun q11 =>
      some (q11.1, q11.2)
set_option maxHeartbeats 4000000 in
theorem we_X5_put {l : Launch} {G : ax_G} {X : ax_X} {Q : State → Prop} {h0 h : ax_H} {ls : Array Slot} (hSF : ax_SF G) (B : ax_BL l G X cX5_put 5 RX5 4 103) (Z : ax_Z X h0 ((some FieldType.int))) (hn : X.2.2.2.2.2.2.2.2.1.name = yX5_put.name) (x0 : Option Nat) (x1 : Int) (x2 : Int) (x3 : Int) {w : Int × ax_H} (hl : ax_hl ls 5 [(0, .inr (.inr x0)), (1, .inl x1), (2, .inl x2), (3, .inl x3)]) (e : f_X5_put G.2.2 x0 x1 x2 x3 h = some w) (hp : (fun w : Int × ax_H => Q = ax_Q G X h0 w.2 (some (.int (Int32.ofInt w.1)))) w) : ax_W G X Q h 0 ls [] := by
  unfold f_X5_put at e
  refine ax_iload_n B dX5_put_0 rfl hl 2 rfl ?_
  refine ax_iload_n B dX5_put_1 rfl hl 3 rfl ?_
  refine ax_isI (y := yX5_isFact) (n := 2) (As := [.int (Int32.ofInt x2), .int (Int32.ofInt x3)]) B (lw_S q2174 q2175 q133 q2176) (by decide +kernel) ⟨Nat.le_of_ble_eq_true rfl, Nat.le_of_ble_eq_true rfl⟩ (fun w1 e1 => mt_X5_isFact l G hSF x2 x3 _ w1 e1) rfl hl.size (by decide) dX5_put_2 e (fun q1 e => ?_)
  refine ax_if_ne (tgt := 14) B dX5_put_5 (by decide) e (fun e => ?_) (fun e => ?_)
  · refine ax_aload_n B dX5_put_8 rfl hl 0 rfl ?_
    refine ax_iconst B dX5_put_9 ?_
    refine ax_ivI (y := yX5_refuses) (n := 1) (As := [.int (Int32.ofInt (-1))]) B kd5 (lw_V q2154 q2156 qs41 q133 q2157) (by decide +kernel) ⟨Nat.le_of_ble_eq_true rfl, Nat.le_of_ble_eq_true rfl⟩ (fun w1 e1 => mt_X5_refuses l G hSF x0 (-1) _ w1 e1) rfl hl.size (by decide) dX5_put_10 e (fun q2 e => ?_)
    have e8 := e
    have hp : Q = _ := hp
    subst hp
    exact ax_ireturn B Z dX5_put_13 e8
  · refine ax_aload_n B dX5_put_14 rfl hl 0 rfl ?_
    refine ax_iload_n B dX5_put_15 rfl hl 1 rfl ?_
    refine ax_ivI (y := yX5_isPerson) (n := 1) (As := [.int (Int32.ofInt x1)]) B kd5 (lw_V q2191 q2193 qs45 q133 q2194) (by decide +kernel) ⟨Nat.le_of_ble_eq_true rfl, Nat.le_of_ble_eq_true rfl⟩ (fun w1 e1 => mt_X5_isPerson l G hSF x0 x1 _ w1 e1) rfl hl.size (by decide) dX5_put_16 e (fun q3 e => ?_)
    refine ax_if_ne (tgt := 29) B dX5_put_19 (by decide) e (fun e => ?_) (fun e => ?_)
    · refine ax_aload_n B dX5_put_22 rfl hl 0 rfl ?_
      refine ax_bipush B dX5_put_23 (by decide) ?_
      refine ax_ivI (y := yX5_refuses) (n := 1) (As := [.int (Int32.ofInt (-2))]) B kd5 (lw_V q2154 q2156 qs41 q133 q2157) (by decide +kernel) ⟨Nat.le_of_ble_eq_true rfl, Nat.le_of_ble_eq_true rfl⟩ (fun w1 e1 => mt_X5_refuses l G hSF x0 (-2) _ w1 e1) rfl hl.size (by decide) dX5_put_25 e (fun q4 e => ?_)
      have e8 := e
      have hp : Q = _ := hp
      subst hp
      exact ax_ireturn B Z dX5_put_28 e8
    · refine ax_aload_n B dX5_put_29 rfl hl 0 rfl ?_
      refine ax_getR B ff_X5_24_5 (fun _ _ => rfl) dX5_put_30 e (fun v5 e => ?_)
      refine ax_iload_n B dX5_put_33 rfl hl 1 rfl ?_
      refine ax_iload_n B dX5_put_34 rfl hl 2 rfl ?_
      refine ax_isI (y := yX5_placeOf) (n := 2) (As := [.int (Int32.ofInt x1), .int (Int32.ofInt x2)]) B (lw_S q2184 q2185 q133 q2186) (by decide +kernel) ⟨Nat.le_of_ble_eq_true rfl, Nat.le_of_ble_eq_true rfl⟩ (fun w1 e1 => mt_X5_placeOf l G hSF x1 x2 _ w1 e1) rfl hl.size (by simp only [List.map_cons, List.map_nil, List.sum_cons, List.sum_nil, va_rf_cat, ax_catI, ax_catL]; decide) dX5_put_35 e (fun q6 e => ?_)
      refine ax_iald B kd100 dX5_put_38 e (fun v7 e => ?_)
      refine ax_istore (L' := [(4, .inl v7), (0, .inr (.inr x0)), (1, .inl x1), (2, .inl x2), (3, .inl x3)]) B dX5_put_39 hl (by decide) rfl (fun ls hl => ?_)
      refine ax_aload_n B dX5_put_41 rfl hl 1 rfl ?_
      refine ax_getR B ff_X5_24_5 (fun _ _ => rfl) dX5_put_42 e (fun v8 e => ?_)
      refine ax_iload_n B dX5_put_45 rfl hl 2 rfl ?_
      refine ax_iload_n B dX5_put_46 rfl hl 3 rfl ?_
      refine ax_isI (y := yX5_placeOf) (n := 2) (As := [.int (Int32.ofInt x1), .int (Int32.ofInt x2)]) B (lw_S q2184 q2185 q133 q2186) (by decide +kernel) ⟨Nat.le_of_ble_eq_true rfl, Nat.le_of_ble_eq_true rfl⟩ (fun w1 e1 => mt_X5_placeOf l G hSF x1 x2 _ w1 e1) rfl hl.size (by simp only [List.map_cons, List.map_nil, List.sum_cons, List.sum_nil, va_rf_cat, ax_catI, ax_catL]; decide) dX5_put_47 e (fun q9 e => ?_)
      refine ax_iload_n B dX5_put_50 rfl hl 4 rfl ?_
      refine ax_iast B kd100 dX5_put_51 e (fun h10 e => ?_)
      refine ax_aload_n B dX5_put_52 rfl hl 1 rfl ?_
      refine ax_iload B dX5_put_53 hl 0 rfl ?_
      refine ax_ivI (y := yX5_settled) (n := 1) (As := [.int (Int32.ofInt v7)]) B kd5 (lw_V q2166 q2168 qs43 q133 q2169) (by decide +kernel) ⟨Nat.le_of_ble_eq_true rfl, Nat.le_of_ble_eq_true rfl⟩ (fun w1 e1 => mt_X5_settled l G hSF x0 v7 _ w1 e1) rfl hl.size (by decide) dX5_put_55 e (fun q11 e => ?_)
      have e8 := e
      have hp : Q = _ := hp
      subst hp
      exact ax_ireturn B Z dX5_put_58 e8
theorem mt_X5_put (l : Launch) (G : ax_G) (hSF : ax_SF G) (x0 : Option Nat) (x1 : Int) (x2 : Int) (x3 : Int) (h : ax_H) (w : Int × ax_H) (e : f_X5_put G.2.2 x0 x1 x2 x3 h = some w) : ax_Met l G yX5_put cX5_put 5 ((some FieldType.int)) 4 103 [va_rf x0, .int (Int32.ofInt x1), .int (Int32.ofInt x2), .int (Int32.ofInt x3)] h w.2 (some (.int (Int32.ofInt w.1))) :=
  ax_enter [.inr (.inr x0), .inl x1, .inl x2, .inl x3] (y := yX5_put) hSF (plainFor_of_name (by decide +kernel)) (Nat.le_of_ble_eq_true rfl) (fun X ls B Z hn hl => we_X5_put hSF B Z hn x0 x1 x2 x3 hl e rfl)
def dkwX5_of_1 : List UInt8 := [184, 0, 148, 46, 167, 0, 4, 2, 172]
abbrev dktX5_of_1 : List UInt8 := dkwX5_of_1 ++ []
def dkwX5_of_0 : List UInt8 := [42, 27, 182, 0, 152, 153, 0, 25, 28, 3, 5, 184, 0, 123, 153, 0, 16, 42, 180, 0, 24, 27, 28]
abbrev dktX5_of_0 : List UInt8 := dkwX5_of_0 ++ dktX5_of_1
theorem dksX5_of_0 : cX5_of.data.toList.drop 0 = dktX5_of_0 := by decide +kernel
theorem dksX5_of_1 : cX5_of.data.toList.drop 23 = dktX5_of_1 := dk_seg dksX5_of_0 23 rfl rfl
theorem dX5_of_0 : decode cX5_of 0 = .ok (.aload_n 0, 1) := dk_42 (dk_at dksX5_of_0 0 rfl rfl)
theorem dX5_of_1 : decode cX5_of 1 = .ok (.iload_n 1, 1) := dk_27 (dk_at dksX5_of_0 1 rfl rfl)
theorem dX5_of_2 : decode cX5_of 2 = .ok (.invokevirtual 152, 3) := dk_182 0 152 (dk_at dksX5_of_0 2 rfl rfl)
theorem dX5_of_5 : decode cX5_of 5 = .ok (.ifCond .eq 25, 3) := dk_153 0 25 (dk_at dksX5_of_0 5 rfl rfl)
theorem dX5_of_8 : decode cX5_of 8 = .ok (.iload_n 2, 1) := dk_28 (dk_at dksX5_of_0 8 rfl rfl)
theorem dX5_of_9 : decode cX5_of 9 = .ok (.iconst 0, 1) := dk_3 (dk_at dksX5_of_0 9 rfl rfl)
theorem dX5_of_10 : decode cX5_of 10 = .ok (.iconst 2, 1) := dk_5 (dk_at dksX5_of_0 10 rfl rfl)
theorem dX5_of_11 : decode cX5_of 11 = .ok (.invokestatic 123, 3) := dk_184 0 123 (dk_at dksX5_of_0 11 rfl rfl)
theorem dX5_of_14 : decode cX5_of 14 = .ok (.ifCond .eq 16, 3) := dk_153 0 16 (dk_at dksX5_of_0 14 rfl rfl)
theorem dX5_of_17 : decode cX5_of 17 = .ok (.aload_n 0, 1) := dk_42 (dk_at dksX5_of_0 17 rfl rfl)
theorem dX5_of_18 : decode cX5_of 18 = .ok (.getfield 24, 3) := dk_180 0 24 (dk_at dksX5_of_0 18 rfl rfl)
theorem dX5_of_21 : decode cX5_of 21 = .ok (.iload_n 1, 1) := dk_27 (dk_at dksX5_of_0 21 rfl rfl)
theorem dX5_of_22 : decode cX5_of 22 = .ok (.iload_n 2, 1) := dk_28 (dk_at dksX5_of_0 22 rfl rfl)
theorem dX5_of_23 : decode cX5_of 23 = .ok (.invokestatic 148, 3) := dk_184 0 148 (dk_at dksX5_of_1 0 rfl rfl)
theorem dX5_of_26 : decode cX5_of 26 = .ok (.iaload, 1) := dk_46 (dk_at dksX5_of_1 3 rfl rfl)
theorem dX5_of_27 : decode cX5_of 27 = .ok (.goto 4, 3) := dk_167 0 4 (dk_at dksX5_of_1 4 rfl rfl)
theorem dX5_of_30 : decode cX5_of 30 = .ok (.iconst (-1), 1) := dk_2 (dk_at dksX5_of_1 7 rfl rfl)
theorem dX5_of_31 : decode cX5_of 31 = .ok (.ireturn, 1) := dk_172 (dk_at dksX5_of_1 8 rfl rfl)
noncomputable def f_X5_of_30 (E : ax_E) (h : ax_H) : Option (Int × ax_H) :=
  some ((-1), h)
noncomputable def f_X5_of (E : ax_E) (x0 : Option Nat) (x1 : Int) (x2 : Int) (h : ax_H) : Option (Int × ax_H) :=
  (ax_ce E h x0 5).bind fun _ => (f_X5_isPerson E x0 x1 h).bind fun q1 =>
  if i2 q1.1 = 0 then
    f_X5_of_30 E q1.2
  else
    (f_X5_lies E x2 0 2 q1.2).bind fun q2 =>
    if i2 q2.1 = 0 then
      f_X5_of_30 E q2.2
    else
      (ax_gR E q2.2 x0 5 2).bind fun v3 =>
      (f_X5_placeOf E x1 x2 q2.2).bind fun q4 =>
      (ax_ld E q4.2 v3 100 q4.1).bind fun v5 =>
      some (v5, q4.2)
set_option maxHeartbeats 4000000 in
theorem w_X5_of_30 {l : Launch} {G : ax_G} {X : ax_X} {Q : State → Prop} {h0 h : ax_H} {ls : Array Slot} (hSF : ax_SF G) (B : ax_BL l G X cX5_of 3 RX5 3 83) (Z : ax_Z X h0 ((some FieldType.int))) (hn : X.2.2.2.2.2.2.2.2.1.name = yX5_of.name) {w : Int × ax_H} (hl : ax_hl ls 3 []) (e : f_X5_of_30 G.2.2 h = some w) (hp : (fun w : Int × ax_H => Q = ax_Q G X h0 w.2 (some (.int (Int32.ofInt w.1)))) w) : ax_W G X Q h 30 ls [] := by
  unfold f_X5_of_30 at e
  refine ax_iconst B dX5_of_30 ?_
  have e8 := e
  have hp : Q = _ := hp
  subst hp
  exact ax_ireturn B Z dX5_of_31 e8
set_option maxHeartbeats 4000000 in
theorem we_X5_of {l : Launch} {G : ax_G} {X : ax_X} {Q : State → Prop} {h0 h : ax_H} {ls : Array Slot} (hSF : ax_SF G) (B : ax_BL l G X cX5_of 3 RX5 3 83) (Z : ax_Z X h0 ((some FieldType.int))) (hn : X.2.2.2.2.2.2.2.2.1.name = yX5_of.name) (x0 : Option Nat) (x1 : Int) (x2 : Int) {w : Int × ax_H} (hl : ax_hl ls 3 [(0, .inr (.inr x0)), (1, .inl x1), (2, .inl x2)]) (e : f_X5_of G.2.2 x0 x1 x2 h = some w) (hp : (fun w : Int × ax_H => Q = ax_Q G X h0 w.2 (some (.int (Int32.ofInt w.1)))) w) : ax_W G X Q h 0 ls [] := by
  unfold f_X5_of at e
  refine ax_aload_n B dX5_of_0 rfl hl 0 rfl ?_
  refine ax_iload_n B dX5_of_1 rfl hl 1 rfl ?_
  refine ax_ivI (y := yX5_isPerson) (n := 1) (As := [.int (Int32.ofInt x1)]) B kd5 (lw_V q2191 q2193 qs45 q133 q2194) (by decide +kernel) ⟨Nat.le_of_ble_eq_true rfl, Nat.le_of_ble_eq_true rfl⟩ (fun w1 e1 => mt_X5_isPerson l G hSF x0 x1 _ w1 e1) rfl hl.size (by decide) dX5_of_2 e (fun q1 e => ?_)
  refine ax_if_eq (tgt := 30) B dX5_of_5 (by decide) e (fun e => ?_) (fun e => ?_)
  · exact w_X5_of_30 hSF B Z hn (hl.sub [] rfl) e hp
  · refine ax_iload_n B dX5_of_8 rfl hl 2 rfl ?_
    refine ax_iconst B dX5_of_9 ?_
    refine ax_iconst B dX5_of_10 ?_
    refine ax_isI (y := yX5_lies) (n := 3) (As := [.int (Int32.ofInt x2), .int (Int32.ofInt 0), .int (Int32.ofInt 2)]) B (lw_S q2151 q2152 q133 q2153) (by decide +kernel) ⟨Nat.le_of_ble_eq_true rfl, Nat.le_of_ble_eq_true rfl⟩ (fun w1 e1 => mt_X5_lies l G hSF x2 0 2 _ w1 e1) rfl hl.size (by decide) dX5_of_11 e (fun q2 e => ?_)
    refine ax_if_eq (tgt := 30) B dX5_of_14 (by decide) e (fun e => ?_) (fun e => ?_)
    · exact w_X5_of_30 hSF B Z hn (hl.sub [] rfl) e hp
    · refine ax_aload_n B dX5_of_17 rfl hl 0 rfl ?_
      refine ax_getR B ff_X5_24_5 (fun _ _ => rfl) dX5_of_18 e (fun v3 e => ?_)
      refine ax_iload_n B dX5_of_21 rfl hl 1 rfl ?_
      refine ax_iload_n B dX5_of_22 rfl hl 2 rfl ?_
      refine ax_isI (y := yX5_placeOf) (n := 2) (As := [.int (Int32.ofInt x1), .int (Int32.ofInt x2)]) B (lw_S q2184 q2185 q133 q2186) (by decide +kernel) ⟨Nat.le_of_ble_eq_true rfl, Nat.le_of_ble_eq_true rfl⟩ (fun w1 e1 => mt_X5_placeOf l G hSF x1 x2 _ w1 e1) rfl hl.size (by simp only [List.map_cons, List.map_nil, List.sum_cons, List.sum_nil, va_rf_cat, ax_catI, ax_catL]; decide) dX5_of_23 e (fun q4 e => ?_)
      refine ax_iald B kd100 dX5_of_26 e (fun v5 e => ?_)
      refine ax_goto (tgt := 31) B dX5_of_27 (by decide) ?_
      have e8 := e
      have hp : Q = _ := hp
      subst hp
      exact ax_ireturn B Z dX5_of_31 e8
theorem mt_X5_of (l : Launch) (G : ax_G) (hSF : ax_SF G) (x0 : Option Nat) (x1 : Int) (x2 : Int) (h : ax_H) (w : Int × ax_H) (e : f_X5_of G.2.2 x0 x1 x2 h = some w) : ax_Met l G yX5_of cX5_of 3 ((some FieldType.int)) 3 83 [va_rf x0, .int (Int32.ofInt x1), .int (Int32.ofInt x2)] h w.2 (some (.int (Int32.ofInt w.1))) :=
  ax_enter [.inr (.inr x0), .inl x1, .inl x2] (y := yX5_of) hSF (plainFor_of_name (by decide +kernel)) (Nat.le_of_ble_eq_true rfl) (fun X ls B Z hn hl => we_X5_of hSF B Z hn x0 x1 x2 hl e rfl)
def dkwX5_isAmount_0 : List UInt8 := [26, 4, 17, 39, 15, 184, 0, 123, 172]
abbrev dktX5_isAmount_0 : List UInt8 := dkwX5_isAmount_0 ++ []
theorem dksX5_isAmount_0 : cX5_isAmount.data.toList.drop 0 = dktX5_isAmount_0 := by decide +kernel
theorem dX5_isAmount_0 : decode cX5_isAmount 0 = .ok (.iload_n 0, 1) := dk_26 (dk_at dksX5_isAmount_0 0 rfl rfl)
theorem dX5_isAmount_1 : decode cX5_isAmount 1 = .ok (.iconst 1, 1) := dk_4 (dk_at dksX5_isAmount_0 1 rfl rfl)
theorem dX5_isAmount_2 : decode cX5_isAmount 2 = .ok (.sipush 9999, 3) := dk_17 39 15 (dk_at dksX5_isAmount_0 2 rfl rfl)
theorem dX5_isAmount_5 : decode cX5_isAmount 5 = .ok (.invokestatic 123, 3) := dk_184 0 123 (dk_at dksX5_isAmount_0 5 rfl rfl)
theorem dX5_isAmount_8 : decode cX5_isAmount 8 = .ok (.ireturn, 1) := dk_172 (dk_at dksX5_isAmount_0 8 rfl rfl)
noncomputable def f_X5_isAmount (E : ax_E) (x0 : Int) (h : ax_H) : Option (Int × ax_H) :=
  (f_X5_lies E x0 1 9999 h).bind fun q1 =>
  if q1.1 = 0 ∨ q1.1 = 1 then some (q1.1, q1.2) else none
set_option maxHeartbeats 4000000 in
theorem we_X5_isAmount {l : Launch} {G : ax_G} {X : ax_X} {Q : State → Prop} {h0 h : ax_H} {ls : Array Slot} (hSF : ax_SF G) (B : ax_BL l G X cX5_isAmount 1 RX5 2 62) (Z : ax_Z X h0 ((some FieldType.boolean))) (hn : X.2.2.2.2.2.2.2.2.1.name = yX5_isAmount.name) (x0 : Int) {w : Int × ax_H} (hl : ax_hl ls 1 [(0, .inl x0)]) (e : f_X5_isAmount G.2.2 x0 h = some w) (hp : (fun w : Int × ax_H => Q = ax_Q G X h0 w.2 (some (.int (Int32.ofInt w.1)))) w) : ax_W G X Q h 0 ls [] := by
  unfold f_X5_isAmount at e
  refine ax_iload_n B dX5_isAmount_0 rfl hl 0 rfl ?_
  refine ax_iconst B dX5_isAmount_1 ?_
  refine ax_sipush B dX5_isAmount_2 (by decide) ?_
  refine ax_isI (y := yX5_lies) (n := 3) (As := [.int (Int32.ofInt x0), .int (Int32.ofInt 1), .int (Int32.ofInt 9999)]) B (lw_S q2151 q2152 q133 q2153) (by decide +kernel) ⟨Nat.le_of_ble_eq_true rfl, Nat.le_of_ble_eq_true rfl⟩ (fun w1 e1 => mt_X5_lies l G hSF x0 1 9999 _ w1 e1) rfl hl.size (by decide) dX5_isAmount_5 e (fun q1 e => ?_)
  have e8 := e
  have hp : Q = _ := hp
  subst hp
  exact ax_zreturn B Z dX5_isAmount_8 e8
theorem mt_X5_isAmount (l : Launch) (G : ax_G) (hSF : ax_SF G) (x0 : Int) (h : ax_H) (w : Int × ax_H) (e : f_X5_isAmount G.2.2 x0 h = some w) : ax_Met l G yX5_isAmount cX5_isAmount 1 ((some FieldType.boolean)) 2 62 [.int (Int32.ofInt x0)] h w.2 (some (.int (Int32.ofInt w.1))) :=
  ax_enter [.inl x0] (y := yX5_isAmount) hSF (plainFor_of_name (by decide +kernel)) (Nat.le_of_ble_eq_true rfl) (fun X ls B Z hn hl => we_X5_isAmount hSF B Z hn x0 hl e rfl)
def dkwX5_debts_0 : List UInt8 := [42, 180, 0, 24, 16, 71, 46, 172]
abbrev dktX5_debts_0 : List UInt8 := dkwX5_debts_0 ++ []
theorem dksX5_debts_0 : cX5_debts.data.toList.drop 0 = dktX5_debts_0 := by decide +kernel
theorem dX5_debts_0 : decode cX5_debts 0 = .ok (.aload_n 0, 1) := dk_42 (dk_at dksX5_debts_0 0 rfl rfl)
theorem dX5_debts_1 : decode cX5_debts 1 = .ok (.getfield 24, 3) := dk_180 0 24 (dk_at dksX5_debts_0 1 rfl rfl)
theorem dX5_debts_4 : decode cX5_debts 4 = .ok (.bipush 71, 2) := dk_16 71 (dk_at dksX5_debts_0 4 rfl rfl)
theorem dX5_debts_6 : decode cX5_debts 6 = .ok (.iaload, 1) := dk_46 (dk_at dksX5_debts_0 6 rfl rfl)
theorem dX5_debts_7 : decode cX5_debts 7 = .ok (.ireturn, 1) := dk_172 (dk_at dksX5_debts_0 7 rfl rfl)
noncomputable def f_X5_debts (E : ax_E) (x0 : Option Nat) (h : ax_H) : Option (Int × ax_H) :=
  (ax_gR E h x0 5 2).bind fun v1 =>
  (ax_ld E h v1 100 71).bind fun v2 =>
  some (v2, h)
set_option maxHeartbeats 4000000 in
theorem we_X5_debts {l : Launch} {G : ax_G} {X : ax_X} {Q : State → Prop} {h0 h : ax_H} {ls : Array Slot} (hSF : ax_SF G) (B : ax_BL l G X cX5_debts 1 RX5 1 40) (Z : ax_Z X h0 ((some FieldType.int))) (hn : X.2.2.2.2.2.2.2.2.1.name = yX5_debts.name) (x0 : Option Nat) {w : Int × ax_H} (hl : ax_hl ls 1 [(0, .inr (.inr x0))]) (e : f_X5_debts G.2.2 x0 h = some w) (hp : (fun w : Int × ax_H => Q = ax_Q G X h0 w.2 (some (.int (Int32.ofInt w.1)))) w) : ax_W G X Q h 0 ls [] := by
  unfold f_X5_debts at e
  refine ax_aload_n B dX5_debts_0 rfl hl 0 rfl ?_
  refine ax_getR B ff_X5_24_5 (fun _ _ => rfl) dX5_debts_1 e (fun v1 e => ?_)
  refine ax_bipush B dX5_debts_4 (by decide) ?_
  refine ax_iald B kd100 dX5_debts_6 e (fun v2 e => ?_)
  have e8 := e
  have hp : Q = _ := hp
  subst hp
  exact ax_ireturn B Z dX5_debts_7 e8
theorem mt_X5_debts (l : Launch) (G : ax_G) (hSF : ax_SF G) (x0 : Option Nat) (h : ax_H) (w : Int × ax_H) (e : f_X5_debts G.2.2 x0 h = some w) : ax_Met l G yX5_debts cX5_debts 1 ((some FieldType.int)) 1 40 [va_rf x0] h w.2 (some (.int (Int32.ofInt w.1))) :=
  ax_enter [.inr (.inr x0)] (y := yX5_debts) hSF (plainFor_of_name (by decide +kernel)) (Nat.le_of_ble_eq_true rfl) (fun X ls B Z hn hl => we_X5_debts hSF B Z hn x0 hl e rfl)
def dkwX5_whyNot_2 : List UInt8 := [167, 0, 4, 3, 172]
abbrev dktX5_whyNot_2 : List UInt8 := dkwX5_whyNot_2 ++ []
def dkwX5_whyNot_1 : List UInt8 := [182, 0, 152, 154, 0, 8, 16, 254, 167, 0, 18, 42, 182, 0, 137, 16, 16, 160, 0, 8, 16, 251]
abbrev dktX5_whyNot_1 : List UInt8 := dkwX5_whyNot_1 ++ dktX5_whyNot_2
def dkwX5_whyNot_0 : List UInt8 := [27, 28, 159, 0, 10, 29, 184, 0, 155, 154, 0, 5, 2, 172, 42, 27, 182, 0, 152, 153, 0, 11, 42, 28]
abbrev dktX5_whyNot_0 : List UInt8 := dkwX5_whyNot_0 ++ dktX5_whyNot_1
theorem dksX5_whyNot_0 : cX5_whyNot.data.toList.drop 0 = dktX5_whyNot_0 := by decide +kernel
theorem dksX5_whyNot_1 : cX5_whyNot.data.toList.drop 24 = dktX5_whyNot_1 := dk_seg dksX5_whyNot_0 24 rfl rfl
theorem dksX5_whyNot_2 : cX5_whyNot.data.toList.drop 46 = dktX5_whyNot_2 := dk_seg dksX5_whyNot_1 22 rfl rfl
theorem dX5_whyNot_0 : decode cX5_whyNot 0 = .ok (.iload_n 1, 1) := dk_27 (dk_at dksX5_whyNot_0 0 rfl rfl)
theorem dX5_whyNot_1 : decode cX5_whyNot 1 = .ok (.iload_n 2, 1) := dk_28 (dk_at dksX5_whyNot_0 1 rfl rfl)
theorem dX5_whyNot_2 : decode cX5_whyNot 2 = .ok (.if_icmp .eq 10, 3) := dk_159 0 10 (dk_at dksX5_whyNot_0 2 rfl rfl)
theorem dX5_whyNot_5 : decode cX5_whyNot 5 = .ok (.iload_n 3, 1) := dk_29 (dk_at dksX5_whyNot_0 5 rfl rfl)
theorem dX5_whyNot_6 : decode cX5_whyNot 6 = .ok (.invokestatic 155, 3) := dk_184 0 155 (dk_at dksX5_whyNot_0 6 rfl rfl)
theorem dX5_whyNot_9 : decode cX5_whyNot 9 = .ok (.ifCond .ne 5, 3) := dk_154 0 5 (dk_at dksX5_whyNot_0 9 rfl rfl)
theorem dX5_whyNot_12 : decode cX5_whyNot 12 = .ok (.iconst (-1), 1) := dk_2 (dk_at dksX5_whyNot_0 12 rfl rfl)
theorem dX5_whyNot_13 : decode cX5_whyNot 13 = .ok (.ireturn, 1) := dk_172 (dk_at dksX5_whyNot_0 13 rfl rfl)
theorem dX5_whyNot_14 : decode cX5_whyNot 14 = .ok (.aload_n 0, 1) := dk_42 (dk_at dksX5_whyNot_0 14 rfl rfl)
theorem dX5_whyNot_15 : decode cX5_whyNot 15 = .ok (.iload_n 1, 1) := dk_27 (dk_at dksX5_whyNot_0 15 rfl rfl)
theorem dX5_whyNot_16 : decode cX5_whyNot 16 = .ok (.invokevirtual 152, 3) := dk_182 0 152 (dk_at dksX5_whyNot_0 16 rfl rfl)
theorem dX5_whyNot_19 : decode cX5_whyNot 19 = .ok (.ifCond .eq 11, 3) := dk_153 0 11 (dk_at dksX5_whyNot_0 19 rfl rfl)
theorem dX5_whyNot_22 : decode cX5_whyNot 22 = .ok (.aload_n 0, 1) := dk_42 (dk_at dksX5_whyNot_0 22 rfl rfl)
theorem dX5_whyNot_23 : decode cX5_whyNot 23 = .ok (.iload_n 2, 1) := dk_28 (dk_at dksX5_whyNot_0 23 rfl rfl)
theorem dX5_whyNot_24 : decode cX5_whyNot 24 = .ok (.invokevirtual 152, 3) := dk_182 0 152 (dk_at dksX5_whyNot_1 0 rfl rfl)
theorem dX5_whyNot_27 : decode cX5_whyNot 27 = .ok (.ifCond .ne 8, 3) := dk_154 0 8 (dk_at dksX5_whyNot_1 3 rfl rfl)
theorem dX5_whyNot_30 : decode cX5_whyNot 30 = .ok (.bipush (-2), 2) := dk_16 254 (dk_at dksX5_whyNot_1 6 rfl rfl)
theorem dX5_whyNot_32 : decode cX5_whyNot 32 = .ok (.goto 18, 3) := dk_167 0 18 (dk_at dksX5_whyNot_1 8 rfl rfl)
theorem dX5_whyNot_35 : decode cX5_whyNot 35 = .ok (.aload_n 0, 1) := dk_42 (dk_at dksX5_whyNot_1 11 rfl rfl)
theorem dX5_whyNot_36 : decode cX5_whyNot 36 = .ok (.invokevirtual 137, 3) := dk_182 0 137 (dk_at dksX5_whyNot_1 12 rfl rfl)
theorem dX5_whyNot_39 : decode cX5_whyNot 39 = .ok (.bipush 16, 2) := dk_16 16 (dk_at dksX5_whyNot_1 15 rfl rfl)
theorem dX5_whyNot_41 : decode cX5_whyNot 41 = .ok (.if_icmp .ne 8, 3) := dk_160 0 8 (dk_at dksX5_whyNot_1 17 rfl rfl)
theorem dX5_whyNot_44 : decode cX5_whyNot 44 = .ok (.bipush (-5), 2) := dk_16 251 (dk_at dksX5_whyNot_1 20 rfl rfl)
theorem dX5_whyNot_46 : decode cX5_whyNot 46 = .ok (.goto 4, 3) := dk_167 0 4 (dk_at dksX5_whyNot_2 0 rfl rfl)
theorem dX5_whyNot_49 : decode cX5_whyNot 49 = .ok (.iconst 0, 1) := dk_3 (dk_at dksX5_whyNot_2 3 rfl rfl)
theorem dX5_whyNot_50 : decode cX5_whyNot 50 = .ok (.ireturn, 1) := dk_172 (dk_at dksX5_whyNot_2 4 rfl rfl)
noncomputable def f_X5_whyNot_12 (E : ax_E) (h : ax_H) : Option (Int × ax_H) :=
  some ((-1), h)
noncomputable def f_X5_whyNot_30 (E : ax_E) (h : ax_H) : Option (Int × ax_H) :=
  some ((-2), h)
noncomputable def f_X5_whyNot (E : ax_E) (x0 : Option Nat) (x1 : Int) (x2 : Int) (x3 : Int) (h : ax_H) : Option (Int × ax_H) :=
  if i2 x1 = i2 x2 then
    f_X5_whyNot_12 E h
  else
    (f_X5_isAmount E x3 h).bind fun q1 =>
    if i2 q1.1 = 0 then
      f_X5_whyNot_12 E q1.2
    else
      (ax_ce E q1.2 x0 5).bind fun _ => (f_X5_isPerson E x0 x1 q1.2).bind fun q2 =>
      if i2 q2.1 = 0 then
        f_X5_whyNot_30 E q2.2
      else
        (ax_ce E q2.2 x0 5).bind fun _ => (f_X5_isPerson E x0 x2 q2.2).bind fun q3 =>
        if i2 q3.1 = 0 then
          f_X5_whyNot_30 E q3.2
        else
          (ax_ce E q3.2 x0 5).bind fun _ => (f_X5_debts E x0 q3.2).bind fun q4 =>
          if i2 q4.1 = i2 16 then
            some ((-5), q4.2)
          else
            some (0, q4.2)
set_option maxHeartbeats 4000000 in
theorem w_X5_whyNot_12 {l : Launch} {G : ax_G} {X : ax_X} {Q : State → Prop} {h0 h : ax_H} {ls : Array Slot} (hSF : ax_SF G) (B : ax_BL l G X cX5_whyNot 4 RX5 3 83) (Z : ax_Z X h0 ((some FieldType.int))) (hn : X.2.2.2.2.2.2.2.2.1.name = yX5_whyNot.name) {w : Int × ax_H} (hl : ax_hl ls 4 []) (e : f_X5_whyNot_12 G.2.2 h = some w) (hp : (fun w : Int × ax_H => Q = ax_Q G X h0 w.2 (some (.int (Int32.ofInt w.1)))) w) : ax_W G X Q h 12 ls [] := by
  unfold f_X5_whyNot_12 at e
  refine ax_iconst B dX5_whyNot_12 ?_
  have e8 := e
  have hp : Q = _ := hp
  subst hp
  exact ax_ireturn B Z dX5_whyNot_13 e8
set_option maxHeartbeats 4000000 in
theorem w_X5_whyNot_30 {l : Launch} {G : ax_G} {X : ax_X} {Q : State → Prop} {h0 h : ax_H} {ls : Array Slot} (hSF : ax_SF G) (B : ax_BL l G X cX5_whyNot 4 RX5 3 83) (Z : ax_Z X h0 ((some FieldType.int))) (hn : X.2.2.2.2.2.2.2.2.1.name = yX5_whyNot.name) {w : Int × ax_H} (hl : ax_hl ls 4 []) (e : f_X5_whyNot_30 G.2.2 h = some w) (hp : (fun w : Int × ax_H => Q = ax_Q G X h0 w.2 (some (.int (Int32.ofInt w.1)))) w) : ax_W G X Q h 30 ls [] := by
  unfold f_X5_whyNot_30 at e
  refine ax_bipush B dX5_whyNot_30 (by decide) ?_
  refine ax_goto (tgt := 50) B dX5_whyNot_32 (by decide) ?_
  have e8 := e
  have hp : Q = _ := hp
  subst hp
  exact ax_ireturn B Z dX5_whyNot_50 e8
set_option maxHeartbeats 4000000 in
theorem we_X5_whyNot {l : Launch} {G : ax_G} {X : ax_X} {Q : State → Prop} {h0 h : ax_H} {ls : Array Slot} (hSF : ax_SF G) (B : ax_BL l G X cX5_whyNot 4 RX5 3 83) (Z : ax_Z X h0 ((some FieldType.int))) (hn : X.2.2.2.2.2.2.2.2.1.name = yX5_whyNot.name) (x0 : Option Nat) (x1 : Int) (x2 : Int) (x3 : Int) {w : Int × ax_H} (hl : ax_hl ls 4 [(0, .inr (.inr x0)), (1, .inl x1), (2, .inl x2), (3, .inl x3)]) (e : f_X5_whyNot G.2.2 x0 x1 x2 x3 h = some w) (hp : (fun w : Int × ax_H => Q = ax_Q G X h0 w.2 (some (.int (Int32.ofInt w.1)))) w) : ax_W G X Q h 0 ls [] := by
  unfold f_X5_whyNot at e
  refine ax_iload_n B dX5_whyNot_0 rfl hl 1 rfl ?_
  refine ax_iload_n B dX5_whyNot_1 rfl hl 2 rfl ?_
  refine ax_icmp_eq (tgt := 12) B dX5_whyNot_2 (by decide) e (fun e => ?_) (fun e => ?_)
  · exact w_X5_whyNot_12 hSF B Z hn (hl.sub [] rfl) e hp
  · refine ax_iload_n B dX5_whyNot_5 rfl hl 3 rfl ?_
    refine ax_isI (y := yX5_isAmount) (n := 1) (As := [.int (Int32.ofInt x3)]) B (lw_S q2207 q2208 q133 q2209) (by decide +kernel) ⟨Nat.le_of_ble_eq_true rfl, Nat.le_of_ble_eq_true rfl⟩ (fun w1 e1 => mt_X5_isAmount l G hSF x3 _ w1 e1) rfl hl.size (by decide) dX5_whyNot_6 e (fun q1 e => ?_)
    refine ax_if_ne (tgt := 14) B dX5_whyNot_9 (by decide) e (fun e => ?_) (fun e => ?_)
    · exact w_X5_whyNot_12 hSF B Z hn (hl.sub [] rfl) e hp
    · refine ax_aload_n B dX5_whyNot_14 rfl hl 0 rfl ?_
      refine ax_iload_n B dX5_whyNot_15 rfl hl 1 rfl ?_
      refine ax_ivI (y := yX5_isPerson) (n := 1) (As := [.int (Int32.ofInt x1)]) B kd5 (lw_V q2191 q2193 qs45 q133 q2194) (by decide +kernel) ⟨Nat.le_of_ble_eq_true rfl, Nat.le_of_ble_eq_true rfl⟩ (fun w1 e1 => mt_X5_isPerson l G hSF x0 x1 _ w1 e1) rfl hl.size (by decide) dX5_whyNot_16 e (fun q2 e => ?_)
      refine ax_if_eq (tgt := 30) B dX5_whyNot_19 (by decide) e (fun e => ?_) (fun e => ?_)
      · exact w_X5_whyNot_30 hSF B Z hn (hl.sub [] rfl) e hp
      · refine ax_aload_n B dX5_whyNot_22 rfl hl 0 rfl ?_
        refine ax_iload_n B dX5_whyNot_23 rfl hl 2 rfl ?_
        refine ax_ivI (y := yX5_isPerson) (n := 1) (As := [.int (Int32.ofInt x2)]) B kd5 (lw_V q2191 q2193 qs45 q133 q2194) (by decide +kernel) ⟨Nat.le_of_ble_eq_true rfl, Nat.le_of_ble_eq_true rfl⟩ (fun w1 e1 => mt_X5_isPerson l G hSF x0 x2 _ w1 e1) rfl hl.size (by decide) dX5_whyNot_24 e (fun q3 e => ?_)
        refine ax_if_ne (tgt := 35) B dX5_whyNot_27 (by decide) e (fun e => ?_) (fun e => ?_)
        · exact w_X5_whyNot_30 hSF B Z hn (hl.sub [] rfl) e hp
        · refine ax_aload_n B dX5_whyNot_35 rfl hl 0 rfl ?_
          refine ax_ivI (y := yX5_debts) (n := 0) (As := []) B kd5 (lw_V q2210 q2212 qs47 q133 q2213) (by decide +kernel) ⟨Nat.le_of_ble_eq_true rfl, Nat.le_of_ble_eq_true rfl⟩ (fun w1 e1 => mt_X5_debts l G hSF x0 _ w1 e1) rfl hl.size (by decide) dX5_whyNot_36 e (fun q4 e => ?_)
          refine ax_bipush B dX5_whyNot_39 (by decide) ?_
          refine ax_icmp_ne (tgt := 49) B dX5_whyNot_41 (by decide) e (fun e => ?_) (fun e => ?_)
          · refine ax_bipush B dX5_whyNot_44 (by decide) ?_
            refine ax_goto (tgt := 50) B dX5_whyNot_46 (by decide) ?_
            have e8 := e
            have hp : Q = _ := hp
            subst hp
            exact ax_ireturn B Z dX5_whyNot_50 e8
          · refine ax_iconst B dX5_whyNot_49 ?_
            have e8 := e
            have hp : Q = _ := hp
            subst hp
            exact ax_ireturn B Z dX5_whyNot_50 e8
theorem mt_X5_whyNot (l : Launch) (G : ax_G) (hSF : ax_SF G) (x0 : Option Nat) (x1 : Int) (x2 : Int) (x3 : Int) (h : ax_H) (w : Int × ax_H) (e : f_X5_whyNot G.2.2 x0 x1 x2 x3 h = some w) : ax_Met l G yX5_whyNot cX5_whyNot 4 ((some FieldType.int)) 3 83 [va_rf x0, .int (Int32.ofInt x1), .int (Int32.ofInt x2), .int (Int32.ofInt x3)] h w.2 (some (.int (Int32.ofInt w.1))) :=
  ax_enter [.inr (.inr x0), .inl x1, .inl x2, .inl x3] (y := yX5_whyNot) hSF (plainFor_of_name (by decide +kernel)) (Nat.le_of_ble_eq_true rfl) (fun X ls B Z hn hl => we_X5_whyNot hSF B Z hn x0 x1 x2 x3 hl e rfl)
def dkwX5_adds_2 : List UInt8 := [42, 180, 0, 24, 16, 72, 46, 79, 42, 180, 0, 24, 16, 71, 92, 46, 4, 96, 79, 177]
abbrev dktX5_adds_2 : List UInt8 := dkwX5_adds_2 ++ []
def dkwX5_adds_1 : List UInt8 := [21, 4, 4, 96, 28, 79, 42, 180, 0, 24, 21, 4, 5, 96, 29, 79, 42, 180, 0, 24, 21, 4, 6, 96]
abbrev dktX5_adds_1 : List UInt8 := dkwX5_adds_1 ++ dktX5_adds_2
def dkwX5_adds_0 : List UInt8 := [16, 7, 7, 42, 182, 0, 137, 104, 96, 54, 4, 42, 180, 0, 24, 21, 4, 27, 79, 42, 180, 0, 24]
abbrev dktX5_adds_0 : List UInt8 := dkwX5_adds_0 ++ dktX5_adds_1
theorem dksX5_adds_0 : cX5_adds.data.toList.drop 0 = dktX5_adds_0 := by decide +kernel
theorem dksX5_adds_1 : cX5_adds.data.toList.drop 23 = dktX5_adds_1 := dk_seg dksX5_adds_0 23 rfl rfl
theorem dksX5_adds_2 : cX5_adds.data.toList.drop 47 = dktX5_adds_2 := dk_seg dksX5_adds_1 24 rfl rfl
theorem dX5_adds_0 : decode cX5_adds 0 = .ok (.bipush 7, 2) := dk_16 7 (dk_at dksX5_adds_0 0 rfl rfl)
theorem dX5_adds_2 : decode cX5_adds 2 = .ok (.iconst 4, 1) := dk_7 (dk_at dksX5_adds_0 2 rfl rfl)
theorem dX5_adds_3 : decode cX5_adds 3 = .ok (.aload_n 0, 1) := dk_42 (dk_at dksX5_adds_0 3 rfl rfl)
theorem dX5_adds_4 : decode cX5_adds 4 = .ok (.invokevirtual 137, 3) := dk_182 0 137 (dk_at dksX5_adds_0 4 rfl rfl)
theorem dX5_adds_7 : decode cX5_adds 7 = .ok (.imul, 1) := dk_104 (dk_at dksX5_adds_0 7 rfl rfl)
theorem dX5_adds_8 : decode cX5_adds 8 = .ok (.iadd, 1) := dk_96 (dk_at dksX5_adds_0 8 rfl rfl)
theorem dX5_adds_9 : decode cX5_adds 9 = .ok (.istore 4, 2) := dk_54 4 (dk_at dksX5_adds_0 9 rfl rfl)
theorem dX5_adds_11 : decode cX5_adds 11 = .ok (.aload_n 0, 1) := dk_42 (dk_at dksX5_adds_0 11 rfl rfl)
theorem dX5_adds_12 : decode cX5_adds 12 = .ok (.getfield 24, 3) := dk_180 0 24 (dk_at dksX5_adds_0 12 rfl rfl)
theorem dX5_adds_15 : decode cX5_adds 15 = .ok (.iload 4, 2) := dk_21 4 (dk_at dksX5_adds_0 15 rfl rfl)
theorem dX5_adds_17 : decode cX5_adds 17 = .ok (.iload_n 1, 1) := dk_27 (dk_at dksX5_adds_0 17 rfl rfl)
theorem dX5_adds_18 : decode cX5_adds 18 = .ok (.iastore, 1) := dk_79 (dk_at dksX5_adds_0 18 rfl rfl)
theorem dX5_adds_19 : decode cX5_adds 19 = .ok (.aload_n 0, 1) := dk_42 (dk_at dksX5_adds_0 19 rfl rfl)
theorem dX5_adds_20 : decode cX5_adds 20 = .ok (.getfield 24, 3) := dk_180 0 24 (dk_at dksX5_adds_0 20 rfl rfl)
theorem dX5_adds_23 : decode cX5_adds 23 = .ok (.iload 4, 2) := dk_21 4 (dk_at dksX5_adds_1 0 rfl rfl)
theorem dX5_adds_25 : decode cX5_adds 25 = .ok (.iconst 1, 1) := dk_4 (dk_at dksX5_adds_1 2 rfl rfl)
theorem dX5_adds_26 : decode cX5_adds 26 = .ok (.iadd, 1) := dk_96 (dk_at dksX5_adds_1 3 rfl rfl)
theorem dX5_adds_27 : decode cX5_adds 27 = .ok (.iload_n 2, 1) := dk_28 (dk_at dksX5_adds_1 4 rfl rfl)
theorem dX5_adds_28 : decode cX5_adds 28 = .ok (.iastore, 1) := dk_79 (dk_at dksX5_adds_1 5 rfl rfl)
theorem dX5_adds_29 : decode cX5_adds 29 = .ok (.aload_n 0, 1) := dk_42 (dk_at dksX5_adds_1 6 rfl rfl)
theorem dX5_adds_30 : decode cX5_adds 30 = .ok (.getfield 24, 3) := dk_180 0 24 (dk_at dksX5_adds_1 7 rfl rfl)
theorem dX5_adds_33 : decode cX5_adds 33 = .ok (.iload 4, 2) := dk_21 4 (dk_at dksX5_adds_1 10 rfl rfl)
theorem dX5_adds_35 : decode cX5_adds 35 = .ok (.iconst 2, 1) := dk_5 (dk_at dksX5_adds_1 12 rfl rfl)
theorem dX5_adds_36 : decode cX5_adds 36 = .ok (.iadd, 1) := dk_96 (dk_at dksX5_adds_1 13 rfl rfl)
theorem dX5_adds_37 : decode cX5_adds 37 = .ok (.iload_n 3, 1) := dk_29 (dk_at dksX5_adds_1 14 rfl rfl)
theorem dX5_adds_38 : decode cX5_adds 38 = .ok (.iastore, 1) := dk_79 (dk_at dksX5_adds_1 15 rfl rfl)
theorem dX5_adds_39 : decode cX5_adds 39 = .ok (.aload_n 0, 1) := dk_42 (dk_at dksX5_adds_1 16 rfl rfl)
theorem dX5_adds_40 : decode cX5_adds 40 = .ok (.getfield 24, 3) := dk_180 0 24 (dk_at dksX5_adds_1 17 rfl rfl)
theorem dX5_adds_43 : decode cX5_adds 43 = .ok (.iload 4, 2) := dk_21 4 (dk_at dksX5_adds_1 20 rfl rfl)
theorem dX5_adds_45 : decode cX5_adds 45 = .ok (.iconst 3, 1) := dk_6 (dk_at dksX5_adds_1 22 rfl rfl)
theorem dX5_adds_46 : decode cX5_adds 46 = .ok (.iadd, 1) := dk_96 (dk_at dksX5_adds_1 23 rfl rfl)
theorem dX5_adds_47 : decode cX5_adds 47 = .ok (.aload_n 0, 1) := dk_42 (dk_at dksX5_adds_2 0 rfl rfl)
theorem dX5_adds_48 : decode cX5_adds 48 = .ok (.getfield 24, 3) := dk_180 0 24 (dk_at dksX5_adds_2 1 rfl rfl)
theorem dX5_adds_51 : decode cX5_adds 51 = .ok (.bipush 72, 2) := dk_16 72 (dk_at dksX5_adds_2 4 rfl rfl)
theorem dX5_adds_53 : decode cX5_adds 53 = .ok (.iaload, 1) := dk_46 (dk_at dksX5_adds_2 6 rfl rfl)
theorem dX5_adds_54 : decode cX5_adds 54 = .ok (.iastore, 1) := dk_79 (dk_at dksX5_adds_2 7 rfl rfl)
theorem dX5_adds_55 : decode cX5_adds 55 = .ok (.aload_n 0, 1) := dk_42 (dk_at dksX5_adds_2 8 rfl rfl)
theorem dX5_adds_56 : decode cX5_adds 56 = .ok (.getfield 24, 3) := dk_180 0 24 (dk_at dksX5_adds_2 9 rfl rfl)
theorem dX5_adds_59 : decode cX5_adds 59 = .ok (.bipush 71, 2) := dk_16 71 (dk_at dksX5_adds_2 12 rfl rfl)
theorem dX5_adds_61 : decode cX5_adds 61 = .ok (.dup2, 1) := dk_92 (dk_at dksX5_adds_2 14 rfl rfl)
theorem dX5_adds_62 : decode cX5_adds 62 = .ok (.iaload, 1) := dk_46 (dk_at dksX5_adds_2 15 rfl rfl)
theorem dX5_adds_63 : decode cX5_adds 63 = .ok (.iconst 1, 1) := dk_4 (dk_at dksX5_adds_2 16 rfl rfl)
theorem dX5_adds_64 : decode cX5_adds 64 = .ok (.iadd, 1) := dk_96 (dk_at dksX5_adds_2 17 rfl rfl)
theorem dX5_adds_65 : decode cX5_adds 65 = .ok (.iastore, 1) := dk_79 (dk_at dksX5_adds_2 18 rfl rfl)
theorem dX5_adds_66 : decode cX5_adds 66 = .ok (.return_, 1) := dk_177 (dk_at dksX5_adds_2 19 rfl rfl)
noncomputable def f_X5_adds (E : ax_E) (x0 : Option Nat) (x1 : Int) (x2 : Int) (x3 : Int) (h : ax_H) : Option (ax_H) :=
  (ax_ce E h x0 5).bind fun _ => (f_X5_debts E x0 h).bind fun q1 =>
  (ax_gR E q1.2 x0 5 2).bind fun v2 =>
  (ax_sto q1.2 v2 100 (7 + (4 * q1.1)) x1).bind fun h3 =>
  (ax_gR E h3 x0 5 2).bind fun v4 =>
  (ax_sto h3 v4 100 ((7 + (4 * q1.1)) + 1) x2).bind fun h5 =>
  (ax_gR E h5 x0 5 2).bind fun v6 =>
  (ax_sto h5 v6 100 ((7 + (4 * q1.1)) + 2) x3).bind fun h7 =>
  (ax_gR E h7 x0 5 2).bind fun v8 =>
  (ax_gR E h7 x0 5 2).bind fun v9 =>
  (ax_ld E h7 v9 100 72).bind fun v10 =>
  (ax_sto h7 v8 100 ((7 + (4 * q1.1)) + 3) v10).bind fun h11 =>
  (ax_gR E h11 x0 5 2).bind fun v12 =>
  (ax_ld E h11 v12 100 71).bind fun v13 =>
  (ax_sto h11 v12 100 71 (v13 + 1)).bind fun h14 =>
  some h14
set_option maxHeartbeats 4000000 in
theorem we_X5_adds {l : Launch} {G : ax_G} {X : ax_X} {Q : State → Prop} {h0 h : ax_H} {ls : Array Slot} (hSF : ax_SF G) (B : ax_BL l G X cX5_adds 5 RX5 2 60) (Z : ax_Z X h0 none) (hn : X.2.2.2.2.2.2.2.2.1.name = yX5_adds.name) (x0 : Option Nat) (x1 : Int) (x2 : Int) (x3 : Int) {w : ax_H} (hl : ax_hl ls 5 [(0, .inr (.inr x0)), (1, .inl x1), (2, .inl x2), (3, .inl x3)]) (e : f_X5_adds G.2.2 x0 x1 x2 x3 h = some w) (hp : (fun w : ax_H => Q = ax_Q G X h0 w none) w) : ax_W G X Q h 0 ls [] := by
  unfold f_X5_adds at e
  refine ax_bipush B dX5_adds_0 (by decide) ?_
  refine ax_iconst B dX5_adds_2 ?_
  refine ax_aload_n B dX5_adds_3 rfl hl 0 rfl ?_
  refine ax_ivI (y := yX5_debts) (n := 0) (As := []) B kd5 (lw_V q2210 q2212 qs47 q133 q2213) (by decide +kernel) ⟨Nat.le_of_ble_eq_true rfl, Nat.le_of_ble_eq_true rfl⟩ (fun w1 e1 => mt_X5_debts l G hSF x0 _ w1 e1) rfl hl.size (by simp only [List.map_cons, List.map_nil, List.sum_cons, List.sum_nil, va_rf_cat, ax_catI, ax_catL]; decide) dX5_adds_4 e (fun q1 e => ?_)
  refine ax_imul' B dX5_adds_7 ?_
  refine ax_iadd' B dX5_adds_8 ?_
  refine ax_istore (L' := [(4, .inl (7 + (4 * q1.1))), (0, .inr (.inr x0)), (1, .inl x1), (2, .inl x2), (3, .inl x3)]) B dX5_adds_9 hl (by decide) rfl (fun ls hl => ?_)
  refine ax_aload_n B dX5_adds_11 rfl hl 1 rfl ?_
  refine ax_getR B ff_X5_24_5 (fun _ _ => rfl) dX5_adds_12 e (fun v2 e => ?_)
  refine ax_iload B dX5_adds_15 hl 0 rfl ?_
  refine ax_iload_n B dX5_adds_17 rfl hl 2 rfl ?_
  refine ax_iast B kd100 dX5_adds_18 e (fun h3 e => ?_)
  refine ax_aload_n B dX5_adds_19 rfl hl 1 rfl ?_
  refine ax_getR B ff_X5_24_5 (fun _ _ => rfl) dX5_adds_20 e (fun v4 e => ?_)
  refine ax_iload B dX5_adds_23 hl 0 rfl ?_
  refine ax_iconst B dX5_adds_25 ?_
  refine ax_iadd' B dX5_adds_26 ?_
  refine ax_iload_n B dX5_adds_27 rfl hl 3 rfl ?_
  refine ax_iast B kd100 dX5_adds_28 e (fun h5 e => ?_)
  refine ax_aload_n B dX5_adds_29 rfl hl 1 rfl ?_
  refine ax_getR B ff_X5_24_5 (fun _ _ => rfl) dX5_adds_30 e (fun v6 e => ?_)
  refine ax_iload B dX5_adds_33 hl 0 rfl ?_
  refine ax_iconst B dX5_adds_35 ?_
  refine ax_iadd' B dX5_adds_36 ?_
  refine ax_iload_n B dX5_adds_37 rfl hl 4 rfl ?_
  refine ax_iast B kd100 dX5_adds_38 e (fun h7 e => ?_)
  refine ax_aload_n B dX5_adds_39 rfl hl 1 rfl ?_
  refine ax_getR B ff_X5_24_5 (fun _ _ => rfl) dX5_adds_40 e (fun v8 e => ?_)
  refine ax_iload B dX5_adds_43 hl 0 rfl ?_
  refine ax_iconst B dX5_adds_45 ?_
  refine ax_iadd' B dX5_adds_46 ?_
  refine ax_aload_n B dX5_adds_47 rfl hl 1 rfl ?_
  refine ax_getR B ff_X5_24_5 (fun _ _ => rfl) dX5_adds_48 e (fun v9 e => ?_)
  refine ax_bipush B dX5_adds_51 (by decide) ?_
  refine ax_iald B kd100 dX5_adds_53 e (fun v10 e => ?_)
  refine ax_iast B kd100 dX5_adds_54 e (fun h11 e => ?_)
  refine ax_aload_n B dX5_adds_55 rfl hl 1 rfl ?_
  refine ax_getR B ff_X5_24_5 (fun _ _ => rfl) dX5_adds_56 e (fun v12 e => ?_)
  refine ax_bipush B dX5_adds_59 (by decide) ?_
  refine ax_dup2 B dX5_adds_61 (rfl) (va_rf_cat _) ?_
  refine ax_iald B kd100 dX5_adds_62 e (fun v13 e => ?_)
  refine ax_iconst B dX5_adds_63 ?_
  refine ax_iadd' B dX5_adds_64 ?_
  refine ax_iast B kd100 dX5_adds_65 e (fun h14 e => ?_)
  have e8 := e
  have hp : Q = _ := hp
  subst hp
  exact ax_return B Z dX5_adds_66 e8
theorem mt_X5_adds (l : Launch) (G : ax_G) (hSF : ax_SF G) (x0 : Option Nat) (x1 : Int) (x2 : Int) (x3 : Int) (h : ax_H) (w : ax_H) (e : f_X5_adds G.2.2 x0 x1 x2 x3 h = some w) : ax_Met l G yX5_adds cX5_adds 5 none 2 60 [va_rf x0, .int (Int32.ofInt x1), .int (Int32.ofInt x2), .int (Int32.ofInt x3)] h w none :=
  ax_enter [.inr (.inr x0), .inl x1, .inl x2, .inl x3] (y := yX5_adds) hSF (plainFor_of_name (by decide +kernel)) (Nat.le_of_ble_eq_true rfl) (fun X ls B Z hn hl => we_X5_adds hSF B Z hn x0 x1 x2 x3 hl e rfl)
def dkwX5_debt_1 : List UInt8 := [29, 182, 0, 162, 42, 42, 182, 0, 137, 4, 100, 182, 0, 130, 172]
abbrev dktX5_debt_1 : List UInt8 := dkwX5_debt_1 ++ []
def dkwX5_debt_0 : List UInt8 := [42, 27, 28, 29, 182, 0, 158, 54, 4, 21, 4, 156, 0, 10, 42, 21, 4, 182, 0, 127, 172, 42, 27, 28]
abbrev dktX5_debt_0 : List UInt8 := dkwX5_debt_0 ++ dktX5_debt_1
theorem dksX5_debt_0 : cX5_debt.data.toList.drop 0 = dktX5_debt_0 := by decide +kernel
theorem dksX5_debt_1 : cX5_debt.data.toList.drop 24 = dktX5_debt_1 := dk_seg dksX5_debt_0 24 rfl rfl
theorem dX5_debt_0 : decode cX5_debt 0 = .ok (.aload_n 0, 1) := dk_42 (dk_at dksX5_debt_0 0 rfl rfl)
theorem dX5_debt_1 : decode cX5_debt 1 = .ok (.iload_n 1, 1) := dk_27 (dk_at dksX5_debt_0 1 rfl rfl)
theorem dX5_debt_2 : decode cX5_debt 2 = .ok (.iload_n 2, 1) := dk_28 (dk_at dksX5_debt_0 2 rfl rfl)
theorem dX5_debt_3 : decode cX5_debt 3 = .ok (.iload_n 3, 1) := dk_29 (dk_at dksX5_debt_0 3 rfl rfl)
theorem dX5_debt_4 : decode cX5_debt 4 = .ok (.invokevirtual 158, 3) := dk_182 0 158 (dk_at dksX5_debt_0 4 rfl rfl)
theorem dX5_debt_7 : decode cX5_debt 7 = .ok (.istore 4, 2) := dk_54 4 (dk_at dksX5_debt_0 7 rfl rfl)
theorem dX5_debt_9 : decode cX5_debt 9 = .ok (.iload 4, 2) := dk_21 4 (dk_at dksX5_debt_0 9 rfl rfl)
theorem dX5_debt_11 : decode cX5_debt 11 = .ok (.ifCond .ge 10, 3) := dk_156 0 10 (dk_at dksX5_debt_0 11 rfl rfl)
theorem dX5_debt_14 : decode cX5_debt 14 = .ok (.aload_n 0, 1) := dk_42 (dk_at dksX5_debt_0 14 rfl rfl)
theorem dX5_debt_15 : decode cX5_debt 15 = .ok (.iload 4, 2) := dk_21 4 (dk_at dksX5_debt_0 15 rfl rfl)
theorem dX5_debt_17 : decode cX5_debt 17 = .ok (.invokevirtual 127, 3) := dk_182 0 127 (dk_at dksX5_debt_0 17 rfl rfl)
theorem dX5_debt_20 : decode cX5_debt 20 = .ok (.ireturn, 1) := dk_172 (dk_at dksX5_debt_0 20 rfl rfl)
theorem dX5_debt_21 : decode cX5_debt 21 = .ok (.aload_n 0, 1) := dk_42 (dk_at dksX5_debt_0 21 rfl rfl)
theorem dX5_debt_22 : decode cX5_debt 22 = .ok (.iload_n 1, 1) := dk_27 (dk_at dksX5_debt_0 22 rfl rfl)
theorem dX5_debt_23 : decode cX5_debt 23 = .ok (.iload_n 2, 1) := dk_28 (dk_at dksX5_debt_0 23 rfl rfl)
theorem dX5_debt_24 : decode cX5_debt 24 = .ok (.iload_n 3, 1) := dk_29 (dk_at dksX5_debt_1 0 rfl rfl)
theorem dX5_debt_25 : decode cX5_debt 25 = .ok (.invokevirtual 162, 3) := dk_182 0 162 (dk_at dksX5_debt_1 1 rfl rfl)
theorem dX5_debt_28 : decode cX5_debt 28 = .ok (.aload_n 0, 1) := dk_42 (dk_at dksX5_debt_1 4 rfl rfl)
theorem dX5_debt_29 : decode cX5_debt 29 = .ok (.aload_n 0, 1) := dk_42 (dk_at dksX5_debt_1 5 rfl rfl)
theorem dX5_debt_30 : decode cX5_debt 30 = .ok (.invokevirtual 137, 3) := dk_182 0 137 (dk_at dksX5_debt_1 6 rfl rfl)
theorem dX5_debt_33 : decode cX5_debt 33 = .ok (.iconst 1, 1) := dk_4 (dk_at dksX5_debt_1 9 rfl rfl)
theorem dX5_debt_34 : decode cX5_debt 34 = .ok (.isub, 1) := dk_100 (dk_at dksX5_debt_1 10 rfl rfl)
theorem dX5_debt_35 : decode cX5_debt 35 = .ok (.invokevirtual 130, 3) := dk_182 0 130 (dk_at dksX5_debt_1 11 rfl rfl)
theorem dX5_debt_38 : decode cX5_debt 38 = .ok (.ireturn, 1) := dk_172 (dk_at dksX5_debt_1 14 rfl rfl)
noncomputable def f_X5_debt (E : ax_E) (x0 : Option Nat) (x1 : Int) (x2 : Int) (x3 : Int) (h : ax_H) : Option (Int × ax_H) :=
  (ax_ce E h x0 5).bind fun _ => (f_X5_whyNot E x0 x1 x2 x3 h).bind fun q1 =>
  if i2 q1.1 < 0 then
    (ax_ce E q1.2 x0 5).bind fun _ => (f_X5_refuses E x0 q1.1 q1.2).bind fun q2 =>
    some (q2.1, q2.2)
  else
    (ax_ce E q1.2 x0 5).bind fun _ => (f_X5_adds E x0 x1 x2 x3 q1.2).bind fun h3 =>
    (ax_ce E h3 x0 5).bind fun _ => (f_X5_debts E x0 h3).bind fun q4 =>
    (ax_ce E q4.2 x0 5).bind fun _ => (f_X5_settled E x0 (q4.1 - 1) q4.2).bind fun q5 =>
    some (q5.1, q5.2)
set_option maxHeartbeats 4000000 in
theorem we_X5_debt {l : Launch} {G : ax_G} {X : ax_X} {Q : State → Prop} {h0 h : ax_H} {ls : Array Slot} (hSF : ax_SF G) (B : ax_BL l G X cX5_debt 5 RX5 4 106) (Z : ax_Z X h0 ((some FieldType.int))) (hn : X.2.2.2.2.2.2.2.2.1.name = yX5_debt.name) (x0 : Option Nat) (x1 : Int) (x2 : Int) (x3 : Int) {w : Int × ax_H} (hl : ax_hl ls 5 [(0, .inr (.inr x0)), (1, .inl x1), (2, .inl x2), (3, .inl x3)]) (e : f_X5_debt G.2.2 x0 x1 x2 x3 h = some w) (hp : (fun w : Int × ax_H => Q = ax_Q G X h0 w.2 (some (.int (Int32.ofInt w.1)))) w) : ax_W G X Q h 0 ls [] := by
  unfold f_X5_debt at e
  refine ax_aload_n B dX5_debt_0 rfl hl 0 rfl ?_
  refine ax_iload_n B dX5_debt_1 rfl hl 1 rfl ?_
  refine ax_iload_n B dX5_debt_2 rfl hl 2 rfl ?_
  refine ax_iload_n B dX5_debt_3 rfl hl 3 rfl ?_
  refine ax_ivI (y := yX5_whyNot) (n := 3) (As := [.int (Int32.ofInt x1), .int (Int32.ofInt x2), .int (Int32.ofInt x3)]) B kd5 (lw_V q2203 q2205 qs46 q133 q2206) (by decide +kernel) ⟨Nat.le_of_ble_eq_true rfl, Nat.le_of_ble_eq_true rfl⟩ (fun w1 e1 => mt_X5_whyNot l G hSF x0 x1 x2 x3 _ w1 e1) rfl hl.size (by decide) dX5_debt_4 e (fun q1 e => ?_)
  refine ax_istore (L' := [(4, .inl q1.1), (0, .inr (.inr x0)), (1, .inl x1), (2, .inl x2), (3, .inl x3)]) B dX5_debt_7 hl (by decide) rfl (fun ls hl => ?_)
  refine ax_iload B dX5_debt_9 hl 0 rfl ?_
  refine ax_if_ge (tgt := 21) B dX5_debt_11 (by decide) e (fun e => ?_) (fun e => ?_)
  · refine ax_aload_n B dX5_debt_14 rfl hl 1 rfl ?_
    refine ax_iload B dX5_debt_15 hl 0 rfl ?_
    refine ax_ivI (y := yX5_refuses) (n := 1) (As := [.int (Int32.ofInt q1.1)]) B kd5 (lw_V q2154 q2156 qs41 q133 q2157) (by decide +kernel) ⟨Nat.le_of_ble_eq_true rfl, Nat.le_of_ble_eq_true rfl⟩ (fun w1 e1 => mt_X5_refuses l G hSF x0 q1.1 _ w1 e1) rfl hl.size (by decide) dX5_debt_17 e (fun q2 e => ?_)
    have e8 := e
    have hp : Q = _ := hp
    subst hp
    exact ax_ireturn B Z dX5_debt_20 e8
  · refine ax_aload_n B dX5_debt_21 rfl hl 1 rfl ?_
    refine ax_iload_n B dX5_debt_22 rfl hl 2 rfl ?_
    refine ax_iload_n B dX5_debt_23 rfl hl 3 rfl ?_
    refine ax_iload_n B dX5_debt_24 rfl hl 4 rfl ?_
    refine ax_ivV (y := yX5_adds) (n := 3) (As := [.int (Int32.ofInt x1), .int (Int32.ofInt x2), .int (Int32.ofInt x3)]) B kd5 (lw_V q2214 q2216 qs48 q133 q2217) (by decide +kernel) ⟨Nat.le_of_ble_eq_true rfl, Nat.le_of_ble_eq_true rfl⟩ (fun w1 e1 => mt_X5_adds l G hSF x0 x1 x2 x3 _ w1 e1) rfl hl.size (by decide) dX5_debt_25 e (fun h3 e => ?_)
    refine ax_aload_n B dX5_debt_28 rfl hl 1 rfl ?_
    refine ax_aload_n B dX5_debt_29 rfl hl 1 rfl ?_
    refine ax_ivI (y := yX5_debts) (n := 0) (As := []) B kd5 (lw_V q2210 q2212 qs47 q133 q2213) (by decide +kernel) ⟨Nat.le_of_ble_eq_true rfl, Nat.le_of_ble_eq_true rfl⟩ (fun w1 e1 => mt_X5_debts l G hSF x0 _ w1 e1) rfl hl.size (by simp only [List.map_cons, List.map_nil, List.sum_cons, List.sum_nil, va_rf_cat, ax_catI, ax_catL]; decide) dX5_debt_30 e (fun q4 e => ?_)
    refine ax_iconst B dX5_debt_33 ?_
    refine ax_isub' B dX5_debt_34 ?_
    refine ax_ivI (y := yX5_settled) (n := 1) (As := [.int (Int32.ofInt (q4.1 - 1))]) B kd5 (lw_V q2166 q2168 qs43 q133 q2169) (by decide +kernel) ⟨Nat.le_of_ble_eq_true rfl, Nat.le_of_ble_eq_true rfl⟩ (fun w1 e1 => mt_X5_settled l G hSF x0 (q4.1 - 1) _ w1 e1) rfl hl.size (by decide) dX5_debt_35 e (fun q5 e => ?_)
    have e8 := e
    have hp : Q = _ := hp
    subst hp
    exact ax_ireturn B Z dX5_debt_38 e8
theorem mt_X5_debt (l : Launch) (G : ax_G) (hSF : ax_SF G) (x0 : Option Nat) (x1 : Int) (x2 : Int) (x3 : Int) (h : ax_H) (w : Int × ax_H) (e : f_X5_debt G.2.2 x0 x1 x2 x3 h = some w) : ax_Met l G yX5_debt cX5_debt 5 ((some FieldType.int)) 4 106 [va_rf x0, .int (Int32.ofInt x1), .int (Int32.ofInt x2), .int (Int32.ofInt x3)] h w.2 (some (.int (Int32.ofInt w.1))) :=
  ax_enter [.inr (.inr x0), .inl x1, .inl x2, .inl x3] (y := yX5_debt) hSF (plainFor_of_name (by decide +kernel)) (Nat.le_of_ble_eq_true rfl) (fun X ls B Z hn hl => we_X5_debt hSF B Z hn x0 x1 x2 x3 hl e rfl)
def dkwX5_isDebt_0 : List UInt8 := [27, 3, 42, 182, 0, 137, 4, 100, 184, 0, 123, 172]
abbrev dktX5_isDebt_0 : List UInt8 := dkwX5_isDebt_0 ++ []
theorem dksX5_isDebt_0 : cX5_isDebt.data.toList.drop 0 = dktX5_isDebt_0 := by decide +kernel
theorem dX5_isDebt_0 : decode cX5_isDebt 0 = .ok (.iload_n 1, 1) := dk_27 (dk_at dksX5_isDebt_0 0 rfl rfl)
theorem dX5_isDebt_1 : decode cX5_isDebt 1 = .ok (.iconst 0, 1) := dk_3 (dk_at dksX5_isDebt_0 1 rfl rfl)
theorem dX5_isDebt_2 : decode cX5_isDebt 2 = .ok (.aload_n 0, 1) := dk_42 (dk_at dksX5_isDebt_0 2 rfl rfl)
theorem dX5_isDebt_3 : decode cX5_isDebt 3 = .ok (.invokevirtual 137, 3) := dk_182 0 137 (dk_at dksX5_isDebt_0 3 rfl rfl)
theorem dX5_isDebt_6 : decode cX5_isDebt 6 = .ok (.iconst 1, 1) := dk_4 (dk_at dksX5_isDebt_0 6 rfl rfl)
theorem dX5_isDebt_7 : decode cX5_isDebt 7 = .ok (.isub, 1) := dk_100 (dk_at dksX5_isDebt_0 7 rfl rfl)
theorem dX5_isDebt_8 : decode cX5_isDebt 8 = .ok (.invokestatic 123, 3) := dk_184 0 123 (dk_at dksX5_isDebt_0 8 rfl rfl)
theorem dX5_isDebt_11 : decode cX5_isDebt 11 = .ok (.ireturn, 1) := dk_172 (dk_at dksX5_isDebt_0 11 rfl rfl)
noncomputable def f_X5_isDebt (E : ax_E) (x0 : Option Nat) (x1 : Int) (h : ax_H) : Option (Int × ax_H) :=
  (ax_ce E h x0 5).bind fun _ => (f_X5_debts E x0 h).bind fun q1 =>
  (f_X5_lies E x1 0 (q1.1 - 1) q1.2).bind fun q2 =>
  if q2.1 = 0 ∨ q2.1 = 1 then some (q2.1, q2.2) else none
set_option maxHeartbeats 4000000 in
theorem we_X5_isDebt {l : Launch} {G : ax_G} {X : ax_X} {Q : State → Prop} {h0 h : ax_H} {ls : Array Slot} (hSF : ax_SF G) (B : ax_BL l G X cX5_isDebt 2 RX5 2 62) (Z : ax_Z X h0 ((some FieldType.boolean))) (hn : X.2.2.2.2.2.2.2.2.1.name = yX5_isDebt.name) (x0 : Option Nat) (x1 : Int) {w : Int × ax_H} (hl : ax_hl ls 2 [(0, .inr (.inr x0)), (1, .inl x1)]) (e : f_X5_isDebt G.2.2 x0 x1 h = some w) (hp : (fun w : Int × ax_H => Q = ax_Q G X h0 w.2 (some (.int (Int32.ofInt w.1)))) w) : ax_W G X Q h 0 ls [] := by
  unfold f_X5_isDebt at e
  refine ax_iload_n B dX5_isDebt_0 rfl hl 1 rfl ?_
  refine ax_iconst B dX5_isDebt_1 ?_
  refine ax_aload_n B dX5_isDebt_2 rfl hl 0 rfl ?_
  refine ax_ivI (y := yX5_debts) (n := 0) (As := []) B kd5 (lw_V q2210 q2212 qs47 q133 q2213) (by decide +kernel) ⟨Nat.le_of_ble_eq_true rfl, Nat.le_of_ble_eq_true rfl⟩ (fun w1 e1 => mt_X5_debts l G hSF x0 _ w1 e1) rfl hl.size (by simp only [List.map_cons, List.map_nil, List.sum_cons, List.sum_nil, va_rf_cat, ax_catI, ax_catL]; decide) dX5_isDebt_3 e (fun q1 e => ?_)
  refine ax_iconst B dX5_isDebt_6 ?_
  refine ax_isub' B dX5_isDebt_7 ?_
  refine ax_isI (y := yX5_lies) (n := 3) (As := [.int (Int32.ofInt x1), .int (Int32.ofInt 0), .int (Int32.ofInt (q1.1 - 1))]) B (lw_S q2151 q2152 q133 q2153) (by decide +kernel) ⟨Nat.le_of_ble_eq_true rfl, Nat.le_of_ble_eq_true rfl⟩ (fun w1 e1 => mt_X5_lies l G hSF x1 0 (q1.1 - 1) _ w1 e1) rfl hl.size (by decide) dX5_isDebt_8 e (fun q2 e => ?_)
  have e8 := e
  have hp : Q = _ := hp
  subst hp
  exact ax_zreturn B Z dX5_isDebt_11 e8
theorem mt_X5_isDebt (l : Launch) (G : ax_G) (hSF : ax_SF G) (x0 : Option Nat) (x1 : Int) (h : ax_H) (w : Int × ax_H) (e : f_X5_isDebt G.2.2 x0 x1 h = some w) : ax_Met l G yX5_isDebt cX5_isDebt 2 ((some FieldType.boolean)) 2 62 [va_rf x0, .int (Int32.ofInt x1)] h w.2 (some (.int (Int32.ofInt w.1))) :=
  ax_enter [.inr (.inr x0), .inl x1] (y := yX5_isDebt) hSF (plainFor_of_name (by decide +kernel)) (Nat.le_of_ble_eq_true rfl) (fun X ls B Z hn hl => we_X5_isDebt hSF B Z hn x0 x1 hl e rfl)
def dkwX5_isOf_1 : List UInt8 := [96, 4, 96, 46, 29, 160, 0, 7, 4, 167, 0, 4, 3, 172]
abbrev dktX5_isOf_1 : List UInt8 := dkwX5_isOf_1 ++ []
def dkwX5_isOf_0 : List UInt8 := [42, 180, 0, 24, 16, 7, 7, 27, 104, 96, 46, 28, 160, 0, 24, 42, 180, 0, 24, 16, 7, 7, 27, 104]
abbrev dktX5_isOf_0 : List UInt8 := dkwX5_isOf_0 ++ dktX5_isOf_1
theorem dksX5_isOf_0 : cX5_isOf.data.toList.drop 0 = dktX5_isOf_0 := by decide +kernel
theorem dksX5_isOf_1 : cX5_isOf.data.toList.drop 24 = dktX5_isOf_1 := dk_seg dksX5_isOf_0 24 rfl rfl
theorem dX5_isOf_0 : decode cX5_isOf 0 = .ok (.aload_n 0, 1) := dk_42 (dk_at dksX5_isOf_0 0 rfl rfl)
theorem dX5_isOf_1 : decode cX5_isOf 1 = .ok (.getfield 24, 3) := dk_180 0 24 (dk_at dksX5_isOf_0 1 rfl rfl)
theorem dX5_isOf_4 : decode cX5_isOf 4 = .ok (.bipush 7, 2) := dk_16 7 (dk_at dksX5_isOf_0 4 rfl rfl)
theorem dX5_isOf_6 : decode cX5_isOf 6 = .ok (.iconst 4, 1) := dk_7 (dk_at dksX5_isOf_0 6 rfl rfl)
theorem dX5_isOf_7 : decode cX5_isOf 7 = .ok (.iload_n 1, 1) := dk_27 (dk_at dksX5_isOf_0 7 rfl rfl)
theorem dX5_isOf_8 : decode cX5_isOf 8 = .ok (.imul, 1) := dk_104 (dk_at dksX5_isOf_0 8 rfl rfl)
theorem dX5_isOf_9 : decode cX5_isOf 9 = .ok (.iadd, 1) := dk_96 (dk_at dksX5_isOf_0 9 rfl rfl)
theorem dX5_isOf_10 : decode cX5_isOf 10 = .ok (.iaload, 1) := dk_46 (dk_at dksX5_isOf_0 10 rfl rfl)
theorem dX5_isOf_11 : decode cX5_isOf 11 = .ok (.iload_n 2, 1) := dk_28 (dk_at dksX5_isOf_0 11 rfl rfl)
theorem dX5_isOf_12 : decode cX5_isOf 12 = .ok (.if_icmp .ne 24, 3) := dk_160 0 24 (dk_at dksX5_isOf_0 12 rfl rfl)
theorem dX5_isOf_15 : decode cX5_isOf 15 = .ok (.aload_n 0, 1) := dk_42 (dk_at dksX5_isOf_0 15 rfl rfl)
theorem dX5_isOf_16 : decode cX5_isOf 16 = .ok (.getfield 24, 3) := dk_180 0 24 (dk_at dksX5_isOf_0 16 rfl rfl)
theorem dX5_isOf_19 : decode cX5_isOf 19 = .ok (.bipush 7, 2) := dk_16 7 (dk_at dksX5_isOf_0 19 rfl rfl)
theorem dX5_isOf_21 : decode cX5_isOf 21 = .ok (.iconst 4, 1) := dk_7 (dk_at dksX5_isOf_0 21 rfl rfl)
theorem dX5_isOf_22 : decode cX5_isOf 22 = .ok (.iload_n 1, 1) := dk_27 (dk_at dksX5_isOf_0 22 rfl rfl)
theorem dX5_isOf_23 : decode cX5_isOf 23 = .ok (.imul, 1) := dk_104 (dk_at dksX5_isOf_0 23 rfl rfl)
theorem dX5_isOf_24 : decode cX5_isOf 24 = .ok (.iadd, 1) := dk_96 (dk_at dksX5_isOf_1 0 rfl rfl)
theorem dX5_isOf_25 : decode cX5_isOf 25 = .ok (.iconst 1, 1) := dk_4 (dk_at dksX5_isOf_1 1 rfl rfl)
theorem dX5_isOf_26 : decode cX5_isOf 26 = .ok (.iadd, 1) := dk_96 (dk_at dksX5_isOf_1 2 rfl rfl)
theorem dX5_isOf_27 : decode cX5_isOf 27 = .ok (.iaload, 1) := dk_46 (dk_at dksX5_isOf_1 3 rfl rfl)
theorem dX5_isOf_28 : decode cX5_isOf 28 = .ok (.iload_n 3, 1) := dk_29 (dk_at dksX5_isOf_1 4 rfl rfl)
theorem dX5_isOf_29 : decode cX5_isOf 29 = .ok (.if_icmp .ne 7, 3) := dk_160 0 7 (dk_at dksX5_isOf_1 5 rfl rfl)
theorem dX5_isOf_32 : decode cX5_isOf 32 = .ok (.iconst 1, 1) := dk_4 (dk_at dksX5_isOf_1 8 rfl rfl)
theorem dX5_isOf_33 : decode cX5_isOf 33 = .ok (.goto 4, 3) := dk_167 0 4 (dk_at dksX5_isOf_1 9 rfl rfl)
theorem dX5_isOf_36 : decode cX5_isOf 36 = .ok (.iconst 0, 1) := dk_3 (dk_at dksX5_isOf_1 12 rfl rfl)
theorem dX5_isOf_37 : decode cX5_isOf 37 = .ok (.ireturn, 1) := dk_172 (dk_at dksX5_isOf_1 13 rfl rfl)
noncomputable def f_X5_isOf_36 (E : ax_E) (h : ax_H) : Option (Int × ax_H) :=
  some (0, h)
noncomputable def f_X5_isOf (E : ax_E) (x0 : Option Nat) (x1 : Int) (x2 : Int) (x3 : Int) (h : ax_H) : Option (Int × ax_H) :=
  (ax_gR E h x0 5 2).bind fun v1 =>
  (ax_ld E h v1 100 (7 + (4 * x1))).bind fun v2 =>
  if i2 v2 = i2 x2 then
    (ax_gR E h x0 5 2).bind fun v3 =>
    (ax_ld E h v3 100 ((7 + (4 * x1)) + 1)).bind fun v4 =>
    if i2 v4 = i2 x3 then
      some (1, h)
    else
      f_X5_isOf_36 E h
  else
    f_X5_isOf_36 E h
set_option maxHeartbeats 4000000 in
theorem w_X5_isOf_36 {l : Launch} {G : ax_G} {X : ax_X} {Q : State → Prop} {h0 h : ax_H} {ls : Array Slot} (hSF : ax_SF G) (B : ax_BL l G X cX5_isOf 4 RX5 1 40) (Z : ax_Z X h0 ((some FieldType.boolean))) (hn : X.2.2.2.2.2.2.2.2.1.name = yX5_isOf.name) {w : Int × ax_H} (hl : ax_hl ls 4 []) (e : f_X5_isOf_36 G.2.2 h = some w) (hp : (fun w : Int × ax_H => Q = ax_Q G X h0 w.2 (some (.int (Int32.ofInt w.1)))) w) : ax_W G X Q h 36 ls [] := by
  unfold f_X5_isOf_36 at e
  refine ax_iconst B dX5_isOf_36 ?_
  have e8 := e
  have hp : Q = _ := hp
  subst hp
  exact ax_zreturnL (by decide) B Z dX5_isOf_37 e8
set_option maxHeartbeats 4000000 in
theorem we_X5_isOf {l : Launch} {G : ax_G} {X : ax_X} {Q : State → Prop} {h0 h : ax_H} {ls : Array Slot} (hSF : ax_SF G) (B : ax_BL l G X cX5_isOf 4 RX5 1 40) (Z : ax_Z X h0 ((some FieldType.boolean))) (hn : X.2.2.2.2.2.2.2.2.1.name = yX5_isOf.name) (x0 : Option Nat) (x1 : Int) (x2 : Int) (x3 : Int) {w : Int × ax_H} (hl : ax_hl ls 4 [(0, .inr (.inr x0)), (1, .inl x1), (2, .inl x2), (3, .inl x3)]) (e : f_X5_isOf G.2.2 x0 x1 x2 x3 h = some w) (hp : (fun w : Int × ax_H => Q = ax_Q G X h0 w.2 (some (.int (Int32.ofInt w.1)))) w) : ax_W G X Q h 0 ls [] := by
  unfold f_X5_isOf at e
  refine ax_aload_n B dX5_isOf_0 rfl hl 0 rfl ?_
  refine ax_getR B ff_X5_24_5 (fun _ _ => rfl) dX5_isOf_1 e (fun v1 e => ?_)
  refine ax_bipush B dX5_isOf_4 (by decide) ?_
  refine ax_iconst B dX5_isOf_6 ?_
  refine ax_iload_n B dX5_isOf_7 rfl hl 1 rfl ?_
  refine ax_imul' B dX5_isOf_8 ?_
  refine ax_iadd' B dX5_isOf_9 ?_
  refine ax_iald B kd100 dX5_isOf_10 e (fun v2 e => ?_)
  refine ax_iload_n B dX5_isOf_11 rfl hl 2 rfl ?_
  refine ax_icmp_ne (tgt := 36) B dX5_isOf_12 (by decide) e (fun e => ?_) (fun e => ?_)
  · refine ax_aload_n B dX5_isOf_15 rfl hl 0 rfl ?_
    refine ax_getR B ff_X5_24_5 (fun _ _ => rfl) dX5_isOf_16 e (fun v3 e => ?_)
    refine ax_bipush B dX5_isOf_19 (by decide) ?_
    refine ax_iconst B dX5_isOf_21 ?_
    refine ax_iload_n B dX5_isOf_22 rfl hl 1 rfl ?_
    refine ax_imul' B dX5_isOf_23 ?_
    refine ax_iadd' B dX5_isOf_24 ?_
    refine ax_iconst B dX5_isOf_25 ?_
    refine ax_iadd' B dX5_isOf_26 ?_
    refine ax_iald B kd100 dX5_isOf_27 e (fun v4 e => ?_)
    refine ax_iload_n B dX5_isOf_28 rfl hl 3 rfl ?_
    refine ax_icmp_ne (tgt := 36) B dX5_isOf_29 (by decide) e (fun e => ?_) (fun e => ?_)
    · refine ax_iconst B dX5_isOf_32 ?_
      refine ax_goto (tgt := 37) B dX5_isOf_33 (by decide) ?_
      have e8 := e
      have hp : Q = _ := hp
      subst hp
      exact ax_zreturnL (by decide) B Z dX5_isOf_37 e8
    · exact w_X5_isOf_36 hSF B Z hn (hl.sub [] rfl) e hp
  · exact w_X5_isOf_36 hSF B Z hn (hl.sub [] rfl) e hp
theorem mt_X5_isOf (l : Launch) (G : ax_G) (hSF : ax_SF G) (x0 : Option Nat) (x1 : Int) (x2 : Int) (x3 : Int) (h : ax_H) (w : Int × ax_H) (e : f_X5_isOf G.2.2 x0 x1 x2 x3 h = some w) : ax_Met l G yX5_isOf cX5_isOf 4 ((some FieldType.boolean)) 1 40 [va_rf x0, .int (Int32.ofInt x1), .int (Int32.ofInt x2), .int (Int32.ofInt x3)] h w.2 (some (.int (Int32.ofInt w.1))) :=
  ax_enter [.inr (.inr x0), .inl x1, .inl x2, .inl x3] (y := yX5_isOf) hSF (plainFor_of_name (by decide +kernel)) (Nat.le_of_ble_eq_true rfl) (fun X ls B Z hn hl => we_X5_isOf hSF B Z hn x0 x1 x2 x3 hl e rfl)
def dkwX5_owed_2 : List UInt8 := [132, 4, 1, 167, 255, 212, 29, 172]
abbrev dktX5_owed_2 : List UInt8 := dkwX5_owed_2 ++ []
def dkwX5_owed_1 : List UInt8 := [153, 0, 20, 42, 180, 0, 24, 16, 7, 7, 21, 4, 104, 96, 5, 96, 46, 167, 0, 4, 3, 96, 62]
abbrev dktX5_owed_1 : List UInt8 := dkwX5_owed_1 ++ dktX5_owed_2
def dkwX5_owed_0 : List UInt8 := [3, 62, 3, 54, 4, 21, 4, 42, 182, 0, 137, 162, 0, 41, 29, 42, 21, 4, 27, 28, 182, 0, 166]
abbrev dktX5_owed_0 : List UInt8 := dkwX5_owed_0 ++ dktX5_owed_1
theorem dksX5_owed_0 : cX5_owed.data.toList.drop 0 = dktX5_owed_0 := by decide +kernel
theorem dksX5_owed_1 : cX5_owed.data.toList.drop 23 = dktX5_owed_1 := dk_seg dksX5_owed_0 23 rfl rfl
theorem dksX5_owed_2 : cX5_owed.data.toList.drop 46 = dktX5_owed_2 := dk_seg dksX5_owed_1 23 rfl rfl
theorem dX5_owed_0 : decode cX5_owed 0 = .ok (.iconst 0, 1) := dk_3 (dk_at dksX5_owed_0 0 rfl rfl)
theorem dX5_owed_1 : decode cX5_owed 1 = .ok (.istore_n 3, 1) := dk_62 (dk_at dksX5_owed_0 1 rfl rfl)
theorem dX5_owed_2 : decode cX5_owed 2 = .ok (.iconst 0, 1) := dk_3 (dk_at dksX5_owed_0 2 rfl rfl)
theorem dX5_owed_3 : decode cX5_owed 3 = .ok (.istore 4, 2) := dk_54 4 (dk_at dksX5_owed_0 3 rfl rfl)
theorem dX5_owed_5 : decode cX5_owed 5 = .ok (.iload 4, 2) := dk_21 4 (dk_at dksX5_owed_0 5 rfl rfl)
theorem dX5_owed_7 : decode cX5_owed 7 = .ok (.aload_n 0, 1) := dk_42 (dk_at dksX5_owed_0 7 rfl rfl)
theorem dX5_owed_8 : decode cX5_owed 8 = .ok (.invokevirtual 137, 3) := dk_182 0 137 (dk_at dksX5_owed_0 8 rfl rfl)
theorem dX5_owed_11 : decode cX5_owed 11 = .ok (.if_icmp .ge 41, 3) := dk_162 0 41 (dk_at dksX5_owed_0 11 rfl rfl)
theorem dX5_owed_14 : decode cX5_owed 14 = .ok (.iload_n 3, 1) := dk_29 (dk_at dksX5_owed_0 14 rfl rfl)
theorem dX5_owed_15 : decode cX5_owed 15 = .ok (.aload_n 0, 1) := dk_42 (dk_at dksX5_owed_0 15 rfl rfl)
theorem dX5_owed_16 : decode cX5_owed 16 = .ok (.iload 4, 2) := dk_21 4 (dk_at dksX5_owed_0 16 rfl rfl)
theorem dX5_owed_18 : decode cX5_owed 18 = .ok (.iload_n 1, 1) := dk_27 (dk_at dksX5_owed_0 18 rfl rfl)
theorem dX5_owed_19 : decode cX5_owed 19 = .ok (.iload_n 2, 1) := dk_28 (dk_at dksX5_owed_0 19 rfl rfl)
theorem dX5_owed_20 : decode cX5_owed 20 = .ok (.invokevirtual 166, 3) := dk_182 0 166 (dk_at dksX5_owed_0 20 rfl rfl)
theorem dX5_owed_23 : decode cX5_owed 23 = .ok (.ifCond .eq 20, 3) := dk_153 0 20 (dk_at dksX5_owed_1 0 rfl rfl)
theorem dX5_owed_26 : decode cX5_owed 26 = .ok (.aload_n 0, 1) := dk_42 (dk_at dksX5_owed_1 3 rfl rfl)
theorem dX5_owed_27 : decode cX5_owed 27 = .ok (.getfield 24, 3) := dk_180 0 24 (dk_at dksX5_owed_1 4 rfl rfl)
theorem dX5_owed_30 : decode cX5_owed 30 = .ok (.bipush 7, 2) := dk_16 7 (dk_at dksX5_owed_1 7 rfl rfl)
theorem dX5_owed_32 : decode cX5_owed 32 = .ok (.iconst 4, 1) := dk_7 (dk_at dksX5_owed_1 9 rfl rfl)
theorem dX5_owed_33 : decode cX5_owed 33 = .ok (.iload 4, 2) := dk_21 4 (dk_at dksX5_owed_1 10 rfl rfl)
theorem dX5_owed_35 : decode cX5_owed 35 = .ok (.imul, 1) := dk_104 (dk_at dksX5_owed_1 12 rfl rfl)
theorem dX5_owed_36 : decode cX5_owed 36 = .ok (.iadd, 1) := dk_96 (dk_at dksX5_owed_1 13 rfl rfl)
theorem dX5_owed_37 : decode cX5_owed 37 = .ok (.iconst 2, 1) := dk_5 (dk_at dksX5_owed_1 14 rfl rfl)
theorem dX5_owed_38 : decode cX5_owed 38 = .ok (.iadd, 1) := dk_96 (dk_at dksX5_owed_1 15 rfl rfl)
theorem dX5_owed_39 : decode cX5_owed 39 = .ok (.iaload, 1) := dk_46 (dk_at dksX5_owed_1 16 rfl rfl)
theorem dX5_owed_40 : decode cX5_owed 40 = .ok (.goto 4, 3) := dk_167 0 4 (dk_at dksX5_owed_1 17 rfl rfl)
theorem dX5_owed_43 : decode cX5_owed 43 = .ok (.iconst 0, 1) := dk_3 (dk_at dksX5_owed_1 20 rfl rfl)
theorem dX5_owed_44 : decode cX5_owed 44 = .ok (.iadd, 1) := dk_96 (dk_at dksX5_owed_1 21 rfl rfl)
theorem dX5_owed_45 : decode cX5_owed 45 = .ok (.istore_n 3, 1) := dk_62 (dk_at dksX5_owed_1 22 rfl rfl)
theorem dX5_owed_46 : decode cX5_owed 46 = .ok (.iinc 4 1, 3) := dk_132 4 1 (dk_at dksX5_owed_2 0 rfl rfl)
theorem dX5_owed_49 : decode cX5_owed 49 = .ok (.goto (-44), 3) := dk_167 255 212 (dk_at dksX5_owed_2 3 rfl rfl)
theorem dX5_owed_52 : decode cX5_owed 52 = .ok (.iload_n 3, 1) := dk_29 (dk_at dksX5_owed_2 6 rfl rfl)
theorem dX5_owed_53 : decode cX5_owed 53 = .ok (.ireturn, 1) := dk_172 (dk_at dksX5_owed_2 7 rfl rfl)
noncomputable def f_X5_owed_44 (E : ax_E) (x0 : Option Nat) (x1 : Int) (x2 : Int) (x4 : Int) (s0 : Int) (s1 : Int) (h : ax_H) : Option ((Int × Int × ax_H) ⊕ (Int × ax_H)) :=
  some (.inl ((s0 + s1), (x4 + 1), h))
noncomputable def lb_X5_owed_5 (E : ax_E) (x0 : Option Nat) (x1 : Int) (x2 : Int) (x3 : Int) (x4 : Int) (h : ax_H) : Option ((Int × Int × ax_H) ⊕ (Int × ax_H)) :=
  (ax_ce E h x0 5).bind fun _ => (f_X5_debts E x0 h).bind fun q1 =>
  if i2 x4 < i2 q1.1 then
    (ax_ce E q1.2 x0 5).bind fun _ => (f_X5_isOf E x0 x4 x1 x2 q1.2).bind fun q2 =>
    if i2 q2.1 = 0 then
      f_X5_owed_44 E x0 x1 x2 x4 x3 0 q2.2
    else
      (ax_gR E q2.2 x0 5 2).bind fun v3 =>
      (ax_ld E q2.2 v3 100 ((7 + (4 * x4)) + 2)).bind fun v4 =>
      f_X5_owed_44 E x0 x1 x2 x4 x3 v4 q2.2
  else
    (some (x3, q1.2)).map Sum.inr
noncomputable def f_X5_owed_5 (E : ax_E) (x0 : Option Nat) (x1 : Int) (x2 : Int) (x3 : Int) (x4 : Int) (h : ax_H) : Option (Int × ax_H) :=
  ax_iter (fun s : Int × Int × ax_H => lb_X5_owed_5 E x0 x1 x2 s.1 s.2.1 s.2.2) (x3, x4, h)
noncomputable def f_X5_owed (E : ax_E) (x0 : Option Nat) (x1 : Int) (x2 : Int) (h : ax_H) : Option (Int × ax_H) :=
  f_X5_owed_5 E x0 x1 x2 0 0 h
def pi_X5_owed_5 (G : ax_G) (X : ax_X) (Q : State → Prop) (x0 : Option Nat) (x1 : Int) (x2 : Int) : Int × Int × ax_H → Prop := fun s => ∀ ls : Array Slot, ax_hl ls 5 [(0, .inr (.inr x0)), (1, .inl x1), (2, .inl x2), (3, .inl s.1), (4, .inl s.2.1)] → ax_W G X Q s.2.2 5 ls []
set_option maxHeartbeats 4000000 in
theorem w_X5_owed_44 {l : Launch} {G : ax_G} {X : ax_X} {Q : State → Prop} {h0 h : ax_H} {ls : Array Slot} (hSF : ax_SF G) (B : ax_BL l G X cX5_owed 5 RX5 2 63) (Z : ax_Z X h0 ((some FieldType.int))) (hn : X.2.2.2.2.2.2.2.2.1.name = yX5_owed.name) (x0 : Option Nat) (x1 : Int) (x2 : Int) (x4 : Int) (s0 : Int) (s1 : Int) {w : (Int × Int × ax_H) ⊕ (Int × ax_H)} (hl : ax_hl ls 5 [(0, .inr (.inr x0)), (1, .inl x1), (2, .inl x2), (4, .inl x4)]) (e : f_X5_owed_44 G.2.2 x0 x1 x2 x4 s0 s1 h = some w) (hp : (ax_PL (pi_X5_owed_5 G X Q x0 x1 x2) (fun w : Int × ax_H => Q = ax_Q G X h0 w.2 (some (.int (Int32.ofInt w.1))))) w) : ax_W G X Q h 44 ls [.int (Int32.ofInt s1), .int (Int32.ofInt s0)] := by
  unfold f_X5_owed_44 at e
  refine ax_iadd' B dX5_owed_44 ?_
  refine ax_istore_n (L' := [(3, .inl (s0 + s1)), (0, .inr (.inr x0)), (1, .inl x1), (2, .inl x2), (4, .inl x4)]) B dX5_owed_45 rfl hl (by decide) rfl (fun ls hl => ?_)
  refine ax_iinc (L' := [(4, .inl (x4 + 1)), (3, .inl (s0 + s1)), (0, .inr (.inr x0)), (1, .inl x1), (2, .inl x2)]) B dX5_owed_46 hl 4 rfl (by decide) rfl (fun ls hl => ?_)
  refine ax_goto (tgt := 5) B dX5_owed_49 (by decide) ?_
  cases e
  exact hp _ (hl.sub [2, 3, 4, 1, 0] rfl)
set_option maxHeartbeats 4000000 in
theorem wb_X5_owed_5 {l : Launch} {G : ax_G} {X : ax_X} {Q : State → Prop} {h0 h : ax_H} {ls : Array Slot} (hSF : ax_SF G) (B : ax_BL l G X cX5_owed 5 RX5 2 63) (Z : ax_Z X h0 ((some FieldType.int))) (hn : X.2.2.2.2.2.2.2.2.1.name = yX5_owed.name) (x0 : Option Nat) (x1 : Int) (x2 : Int) (x3 : Int) (x4 : Int) {w : (Int × Int × ax_H) ⊕ (Int × ax_H)} (hl : ax_hl ls 5 [(0, .inr (.inr x0)), (1, .inl x1), (2, .inl x2), (3, .inl x3), (4, .inl x4)]) (e : lb_X5_owed_5 G.2.2 x0 x1 x2 x3 x4 h = some w) (hp : (ax_PL (pi_X5_owed_5 G X Q x0 x1 x2) (fun w : Int × ax_H => Q = ax_Q G X h0 w.2 (some (.int (Int32.ofInt w.1))))) w) : ax_W G X Q h 5 ls [] := by
  unfold lb_X5_owed_5 at e
  refine ax_iload B dX5_owed_5 hl 4 rfl ?_
  refine ax_aload_n B dX5_owed_7 rfl hl 0 rfl ?_
  refine ax_ivI (y := yX5_debts) (n := 0) (As := []) B kd5 (lw_V q2210 q2212 qs47 q133 q2213) (by decide +kernel) ⟨Nat.le_of_ble_eq_true rfl, Nat.le_of_ble_eq_true rfl⟩ (fun w1 e1 => mt_X5_debts l G hSF x0 _ w1 e1) rfl hl.size (by simp only [List.map_cons, List.map_nil, List.sum_cons, List.sum_nil, va_rf_cat, ax_catI, ax_catL]; decide) dX5_owed_8 e (fun q1 e => ?_)
  refine ax_icmp_ge (tgt := 52) B dX5_owed_11 (by decide) e (fun e => ?_) (fun e => ?_)
  · refine ax_iload_n B dX5_owed_14 rfl hl 3 rfl ?_
    refine ax_aload_n B dX5_owed_15 rfl hl 0 rfl ?_
    refine ax_iload B dX5_owed_16 hl 4 rfl ?_
    refine ax_iload_n B dX5_owed_18 rfl hl 1 rfl ?_
    refine ax_iload_n B dX5_owed_19 rfl hl 2 rfl ?_
    refine ax_ivI (y := yX5_isOf) (n := 3) (As := [.int (Int32.ofInt x4), .int (Int32.ofInt x1), .int (Int32.ofInt x2)]) B kd5 (lw_V q2238 q2240 qs53 q133 q2241) (by decide +kernel) ⟨Nat.le_of_ble_eq_true rfl, Nat.le_of_ble_eq_true rfl⟩ (fun w1 e1 => mt_X5_isOf l G hSF x0 x4 x1 x2 _ w1 e1) rfl hl.size (by simp only [List.map_cons, List.map_nil, List.sum_cons, List.sum_nil, va_rf_cat, ax_catI, ax_catL]; decide) dX5_owed_20 e (fun q2 e => ?_)
    refine ax_if_eq (tgt := 43) B dX5_owed_23 (by decide) e (fun e => ?_) (fun e => ?_)
    · refine ax_iconst B dX5_owed_43 ?_
      exact w_X5_owed_44 hSF B Z hn x0 x1 x2 x4 x3 0 (hl.sub [0, 1, 2, 4] rfl) e hp
    · refine ax_aload_n B dX5_owed_26 rfl hl 0 rfl ?_
      refine ax_getR B ff_X5_24_5 (fun _ _ => rfl) dX5_owed_27 e (fun v3 e => ?_)
      refine ax_bipush B dX5_owed_30 (by decide) ?_
      refine ax_iconst B dX5_owed_32 ?_
      refine ax_iload B dX5_owed_33 hl 4 rfl ?_
      refine ax_imul' B dX5_owed_35 ?_
      refine ax_iadd' B dX5_owed_36 ?_
      refine ax_iconst B dX5_owed_37 ?_
      refine ax_iadd' B dX5_owed_38 ?_
      refine ax_iald B kd100 dX5_owed_39 e (fun v4 e => ?_)
      refine ax_goto (tgt := 44) B dX5_owed_40 (by decide) ?_
      exact w_X5_owed_44 hSF B Z hn x0 x1 x2 x4 x3 v4 (hl.sub [0, 1, 2, 4] rfl) e hp
  · obtain ⟨w, e9_1, rfl⟩ := Option.map_eq_some_iff.mp e
    have e := e9_1
    refine ax_iload_n B dX5_owed_52 rfl hl 3 rfl ?_
    have e8 := e
    have hp : Q = _ := hp
    subst hp
    exact ax_ireturn B Z dX5_owed_53 e8
theorem w_X5_owed_5 {l : Launch} {G : ax_G} {X : ax_X} {Q : State → Prop} {h0 h : ax_H} {ls : Array Slot} (hSF : ax_SF G) (B : ax_BL l G X cX5_owed 5 RX5 2 63) (Z : ax_Z X h0 ((some FieldType.int))) (hn : X.2.2.2.2.2.2.2.2.1.name = yX5_owed.name) (x0 : Option Nat) (x1 : Int) (x2 : Int) (x3 : Int) (x4 : Int) {w : Int × ax_H} (hl : ax_hl ls 5 [(0, .inr (.inr x0)), (1, .inl x1), (2, .inl x2), (3, .inl x3), (4, .inl x4)]) (e : f_X5_owed_5 G.2.2 x0 x1 x2 x3 x4 h = some w) (hp : (fun w : Int × ax_H => Q = ax_Q G X h0 w.2 (some (.int (Int32.ofInt w.1)))) w) : ax_W G X Q h 5 ls [] :=
  ax_iter_W (Pin := pi_X5_owed_5 G X Q x0 x1 x2) (Pout := (fun w : Int × ax_H => Q = ax_Q G X h0 w.2 (some (.int (Int32.ofInt w.1))))) (fun s w e hp ls hl => wb_X5_owed_5 hSF B Z hn x0 x1 x2 s.1 s.2.1 hl e hp) _ _ e hp ls hl
set_option maxHeartbeats 4000000 in
theorem we_X5_owed {l : Launch} {G : ax_G} {X : ax_X} {Q : State → Prop} {h0 h : ax_H} {ls : Array Slot} (hSF : ax_SF G) (B : ax_BL l G X cX5_owed 5 RX5 2 63) (Z : ax_Z X h0 ((some FieldType.int))) (hn : X.2.2.2.2.2.2.2.2.1.name = yX5_owed.name) (x0 : Option Nat) (x1 : Int) (x2 : Int) {w : Int × ax_H} (hl : ax_hl ls 5 [(0, .inr (.inr x0)), (1, .inl x1), (2, .inl x2)]) (e : f_X5_owed G.2.2 x0 x1 x2 h = some w) (hp : (fun w : Int × ax_H => Q = ax_Q G X h0 w.2 (some (.int (Int32.ofInt w.1)))) w) : ax_W G X Q h 0 ls [] := by
  unfold f_X5_owed at e
  refine ax_iconst B dX5_owed_0 ?_
  refine ax_istore_n (L' := [(3, .inl 0), (0, .inr (.inr x0)), (1, .inl x1), (2, .inl x2)]) B dX5_owed_1 rfl hl (by decide) rfl (fun ls hl => ?_)
  refine ax_iconst B dX5_owed_2 ?_
  refine ax_istore (L' := [(4, .inl 0), (3, .inl 0), (0, .inr (.inr x0)), (1, .inl x1), (2, .inl x2)]) B dX5_owed_3 hl (by decide) rfl (fun ls hl => ?_)
  exact w_X5_owed_5 hSF B Z hn x0 x1 x2 0 0 (hl.sub [2, 3, 4, 1, 0] rfl) e hp
theorem mt_X5_owed (l : Launch) (G : ax_G) (hSF : ax_SF G) (x0 : Option Nat) (x1 : Int) (x2 : Int) (h : ax_H) (w : Int × ax_H) (e : f_X5_owed G.2.2 x0 x1 x2 h = some w) : ax_Met l G yX5_owed cX5_owed 5 ((some FieldType.int)) 2 63 [va_rf x0, .int (Int32.ofInt x1), .int (Int32.ofInt x2)] h w.2 (some (.int (Int32.ofInt w.1))) :=
  ax_enter [.inr (.inr x0), .inl x1, .inl x2] (y := yX5_owed) hSF (plainFor_of_name (by decide +kernel)) (Nat.le_of_ble_eq_true rfl) (fun X ls B Z hn hl => we_X5_owed hSF B Z hn x0 x1 x2 hl e rfl)
def dkwX5_sets_4 : List UInt8 := [180, 0, 59, 16, 9, 42, 180, 0, 24, 17, 0, 151, 46, 79, 177]
abbrev dktX5_sets_4 : List UInt8 := dkwX5_sets_4 ++ []
def dkwX5_sets_3 : List UInt8 := [42, 180, 0, 59, 16, 7, 21, 6, 79, 42, 180, 0, 59, 16, 8, 42, 180, 0, 24, 16, 72, 46, 79, 42]
abbrev dktX5_sets_3 : List UInt8 := dkwX5_sets_3 ++ dktX5_sets_4
def dkwX5_sets_2 : List UInt8 := [180, 0, 59, 8, 42, 180, 0, 24, 27, 5, 184, 0, 148, 46, 79, 42, 180, 0, 59, 16, 6, 21, 5, 79]
abbrev dktX5_sets_2 : List UInt8 := dkwX5_sets_2 ++ dktX5_sets_3
def dkwX5_sets_1 : List UInt8 := [180, 0, 59, 6, 21, 4, 79, 42, 180, 0, 59, 7, 42, 180, 0, 24, 27, 4, 184, 0, 148, 46, 79, 42]
abbrev dktX5_sets_1 : List UInt8 := dkwX5_sets_1 ++ dktX5_sets_2
def dkwX5_sets_0 : List UInt8 := [42, 180, 0, 59, 3, 27, 79, 42, 180, 0, 59, 4, 28, 79, 42, 180, 0, 59, 5, 29, 79, 42]
abbrev dktX5_sets_0 : List UInt8 := dkwX5_sets_0 ++ dktX5_sets_1
theorem dksX5_sets_0 : cX5_sets.data.toList.drop 0 = dktX5_sets_0 := by decide +kernel
theorem dksX5_sets_1 : cX5_sets.data.toList.drop 22 = dktX5_sets_1 := dk_seg dksX5_sets_0 22 rfl rfl
theorem dksX5_sets_2 : cX5_sets.data.toList.drop 46 = dktX5_sets_2 := dk_seg dksX5_sets_1 24 rfl rfl
theorem dksX5_sets_3 : cX5_sets.data.toList.drop 70 = dktX5_sets_3 := dk_seg dksX5_sets_2 24 rfl rfl
theorem dksX5_sets_4 : cX5_sets.data.toList.drop 94 = dktX5_sets_4 := dk_seg dksX5_sets_3 24 rfl rfl
theorem dX5_sets_0 : decode cX5_sets 0 = .ok (.aload_n 0, 1) := dk_42 (dk_at dksX5_sets_0 0 rfl rfl)
theorem dX5_sets_1 : decode cX5_sets 1 = .ok (.getfield 59, 3) := dk_180 0 59 (dk_at dksX5_sets_0 1 rfl rfl)
theorem dX5_sets_4 : decode cX5_sets 4 = .ok (.iconst 0, 1) := dk_3 (dk_at dksX5_sets_0 4 rfl rfl)
theorem dX5_sets_5 : decode cX5_sets 5 = .ok (.iload_n 1, 1) := dk_27 (dk_at dksX5_sets_0 5 rfl rfl)
theorem dX5_sets_6 : decode cX5_sets 6 = .ok (.iastore, 1) := dk_79 (dk_at dksX5_sets_0 6 rfl rfl)
theorem dX5_sets_7 : decode cX5_sets 7 = .ok (.aload_n 0, 1) := dk_42 (dk_at dksX5_sets_0 7 rfl rfl)
theorem dX5_sets_8 : decode cX5_sets 8 = .ok (.getfield 59, 3) := dk_180 0 59 (dk_at dksX5_sets_0 8 rfl rfl)
theorem dX5_sets_11 : decode cX5_sets 11 = .ok (.iconst 1, 1) := dk_4 (dk_at dksX5_sets_0 11 rfl rfl)
theorem dX5_sets_12 : decode cX5_sets 12 = .ok (.iload_n 2, 1) := dk_28 (dk_at dksX5_sets_0 12 rfl rfl)
theorem dX5_sets_13 : decode cX5_sets 13 = .ok (.iastore, 1) := dk_79 (dk_at dksX5_sets_0 13 rfl rfl)
theorem dX5_sets_14 : decode cX5_sets 14 = .ok (.aload_n 0, 1) := dk_42 (dk_at dksX5_sets_0 14 rfl rfl)
theorem dX5_sets_15 : decode cX5_sets 15 = .ok (.getfield 59, 3) := dk_180 0 59 (dk_at dksX5_sets_0 15 rfl rfl)
theorem dX5_sets_18 : decode cX5_sets 18 = .ok (.iconst 2, 1) := dk_5 (dk_at dksX5_sets_0 18 rfl rfl)
theorem dX5_sets_19 : decode cX5_sets 19 = .ok (.iload_n 3, 1) := dk_29 (dk_at dksX5_sets_0 19 rfl rfl)
theorem dX5_sets_20 : decode cX5_sets 20 = .ok (.iastore, 1) := dk_79 (dk_at dksX5_sets_0 20 rfl rfl)
theorem dX5_sets_21 : decode cX5_sets 21 = .ok (.aload_n 0, 1) := dk_42 (dk_at dksX5_sets_0 21 rfl rfl)
theorem dX5_sets_22 : decode cX5_sets 22 = .ok (.getfield 59, 3) := dk_180 0 59 (dk_at dksX5_sets_1 0 rfl rfl)
theorem dX5_sets_25 : decode cX5_sets 25 = .ok (.iconst 3, 1) := dk_6 (dk_at dksX5_sets_1 3 rfl rfl)
theorem dX5_sets_26 : decode cX5_sets 26 = .ok (.iload 4, 2) := dk_21 4 (dk_at dksX5_sets_1 4 rfl rfl)
theorem dX5_sets_28 : decode cX5_sets 28 = .ok (.iastore, 1) := dk_79 (dk_at dksX5_sets_1 6 rfl rfl)
theorem dX5_sets_29 : decode cX5_sets 29 = .ok (.aload_n 0, 1) := dk_42 (dk_at dksX5_sets_1 7 rfl rfl)
theorem dX5_sets_30 : decode cX5_sets 30 = .ok (.getfield 59, 3) := dk_180 0 59 (dk_at dksX5_sets_1 8 rfl rfl)
theorem dX5_sets_33 : decode cX5_sets 33 = .ok (.iconst 4, 1) := dk_7 (dk_at dksX5_sets_1 11 rfl rfl)
theorem dX5_sets_34 : decode cX5_sets 34 = .ok (.aload_n 0, 1) := dk_42 (dk_at dksX5_sets_1 12 rfl rfl)
theorem dX5_sets_35 : decode cX5_sets 35 = .ok (.getfield 24, 3) := dk_180 0 24 (dk_at dksX5_sets_1 13 rfl rfl)
theorem dX5_sets_38 : decode cX5_sets 38 = .ok (.iload_n 1, 1) := dk_27 (dk_at dksX5_sets_1 16 rfl rfl)
theorem dX5_sets_39 : decode cX5_sets 39 = .ok (.iconst 1, 1) := dk_4 (dk_at dksX5_sets_1 17 rfl rfl)
theorem dX5_sets_40 : decode cX5_sets 40 = .ok (.invokestatic 148, 3) := dk_184 0 148 (dk_at dksX5_sets_1 18 rfl rfl)
theorem dX5_sets_43 : decode cX5_sets 43 = .ok (.iaload, 1) := dk_46 (dk_at dksX5_sets_1 21 rfl rfl)
theorem dX5_sets_44 : decode cX5_sets 44 = .ok (.iastore, 1) := dk_79 (dk_at dksX5_sets_1 22 rfl rfl)
theorem dX5_sets_45 : decode cX5_sets 45 = .ok (.aload_n 0, 1) := dk_42 (dk_at dksX5_sets_1 23 rfl rfl)
theorem dX5_sets_46 : decode cX5_sets 46 = .ok (.getfield 59, 3) := dk_180 0 59 (dk_at dksX5_sets_2 0 rfl rfl)
theorem dX5_sets_49 : decode cX5_sets 49 = .ok (.iconst 5, 1) := dk_8 (dk_at dksX5_sets_2 3 rfl rfl)
theorem dX5_sets_50 : decode cX5_sets 50 = .ok (.aload_n 0, 1) := dk_42 (dk_at dksX5_sets_2 4 rfl rfl)
theorem dX5_sets_51 : decode cX5_sets 51 = .ok (.getfield 24, 3) := dk_180 0 24 (dk_at dksX5_sets_2 5 rfl rfl)
theorem dX5_sets_54 : decode cX5_sets 54 = .ok (.iload_n 1, 1) := dk_27 (dk_at dksX5_sets_2 8 rfl rfl)
theorem dX5_sets_55 : decode cX5_sets 55 = .ok (.iconst 2, 1) := dk_5 (dk_at dksX5_sets_2 9 rfl rfl)
theorem dX5_sets_56 : decode cX5_sets 56 = .ok (.invokestatic 148, 3) := dk_184 0 148 (dk_at dksX5_sets_2 10 rfl rfl)
theorem dX5_sets_59 : decode cX5_sets 59 = .ok (.iaload, 1) := dk_46 (dk_at dksX5_sets_2 13 rfl rfl)
theorem dX5_sets_60 : decode cX5_sets 60 = .ok (.iastore, 1) := dk_79 (dk_at dksX5_sets_2 14 rfl rfl)
theorem dX5_sets_61 : decode cX5_sets 61 = .ok (.aload_n 0, 1) := dk_42 (dk_at dksX5_sets_2 15 rfl rfl)
theorem dX5_sets_62 : decode cX5_sets 62 = .ok (.getfield 59, 3) := dk_180 0 59 (dk_at dksX5_sets_2 16 rfl rfl)
theorem dX5_sets_65 : decode cX5_sets 65 = .ok (.bipush 6, 2) := dk_16 6 (dk_at dksX5_sets_2 19 rfl rfl)
theorem dX5_sets_67 : decode cX5_sets 67 = .ok (.iload 5, 2) := dk_21 5 (dk_at dksX5_sets_2 21 rfl rfl)
theorem dX5_sets_69 : decode cX5_sets 69 = .ok (.iastore, 1) := dk_79 (dk_at dksX5_sets_2 23 rfl rfl)
theorem dX5_sets_70 : decode cX5_sets 70 = .ok (.aload_n 0, 1) := dk_42 (dk_at dksX5_sets_3 0 rfl rfl)
theorem dX5_sets_71 : decode cX5_sets 71 = .ok (.getfield 59, 3) := dk_180 0 59 (dk_at dksX5_sets_3 1 rfl rfl)
theorem dX5_sets_74 : decode cX5_sets 74 = .ok (.bipush 7, 2) := dk_16 7 (dk_at dksX5_sets_3 4 rfl rfl)
theorem dX5_sets_76 : decode cX5_sets 76 = .ok (.iload 6, 2) := dk_21 6 (dk_at dksX5_sets_3 6 rfl rfl)
theorem dX5_sets_78 : decode cX5_sets 78 = .ok (.iastore, 1) := dk_79 (dk_at dksX5_sets_3 8 rfl rfl)
theorem dX5_sets_79 : decode cX5_sets 79 = .ok (.aload_n 0, 1) := dk_42 (dk_at dksX5_sets_3 9 rfl rfl)
theorem dX5_sets_80 : decode cX5_sets 80 = .ok (.getfield 59, 3) := dk_180 0 59 (dk_at dksX5_sets_3 10 rfl rfl)
theorem dX5_sets_83 : decode cX5_sets 83 = .ok (.bipush 8, 2) := dk_16 8 (dk_at dksX5_sets_3 13 rfl rfl)
theorem dX5_sets_85 : decode cX5_sets 85 = .ok (.aload_n 0, 1) := dk_42 (dk_at dksX5_sets_3 15 rfl rfl)
theorem dX5_sets_86 : decode cX5_sets 86 = .ok (.getfield 24, 3) := dk_180 0 24 (dk_at dksX5_sets_3 16 rfl rfl)
theorem dX5_sets_89 : decode cX5_sets 89 = .ok (.bipush 72, 2) := dk_16 72 (dk_at dksX5_sets_3 19 rfl rfl)
theorem dX5_sets_91 : decode cX5_sets 91 = .ok (.iaload, 1) := dk_46 (dk_at dksX5_sets_3 21 rfl rfl)
theorem dX5_sets_92 : decode cX5_sets 92 = .ok (.iastore, 1) := dk_79 (dk_at dksX5_sets_3 22 rfl rfl)
theorem dX5_sets_93 : decode cX5_sets 93 = .ok (.aload_n 0, 1) := dk_42 (dk_at dksX5_sets_3 23 rfl rfl)
theorem dX5_sets_94 : decode cX5_sets 94 = .ok (.getfield 59, 3) := dk_180 0 59 (dk_at dksX5_sets_4 0 rfl rfl)
theorem dX5_sets_97 : decode cX5_sets 97 = .ok (.bipush 9, 2) := dk_16 9 (dk_at dksX5_sets_4 3 rfl rfl)
theorem dX5_sets_99 : decode cX5_sets 99 = .ok (.aload_n 0, 1) := dk_42 (dk_at dksX5_sets_4 5 rfl rfl)
theorem dX5_sets_100 : decode cX5_sets 100 = .ok (.getfield 24, 3) := dk_180 0 24 (dk_at dksX5_sets_4 6 rfl rfl)
theorem dX5_sets_103 : decode cX5_sets 103 = .ok (.sipush 151, 3) := dk_17 0 151 (dk_at dksX5_sets_4 9 rfl rfl)
theorem dX5_sets_106 : decode cX5_sets 106 = .ok (.iaload, 1) := dk_46 (dk_at dksX5_sets_4 12 rfl rfl)
theorem dX5_sets_107 : decode cX5_sets 107 = .ok (.iastore, 1) := dk_79 (dk_at dksX5_sets_4 13 rfl rfl)
theorem dX5_sets_108 : decode cX5_sets 108 = .ok (.return_, 1) := dk_177 (dk_at dksX5_sets_4 14 rfl rfl)
noncomputable def f_X5_sets (E : ax_E) (x0 : Option Nat) (x1 : Int) (x2 : Int) (x3 : Int) (x4 : Int) (x5 : Int) (x6 : Int) (h : ax_H) : Option (ax_H) :=
  (ax_gR E h x0 5 24).bind fun v1 =>
  (ax_sto h v1 100 0 x1).bind fun h2 =>
  (ax_gR E h2 x0 5 24).bind fun v3 =>
  (ax_sto h2 v3 100 1 x2).bind fun h4 =>
  (ax_gR E h4 x0 5 24).bind fun v5 =>
  (ax_sto h4 v5 100 2 x3).bind fun h6 =>
  (ax_gR E h6 x0 5 24).bind fun v7 =>
  (ax_sto h6 v7 100 3 x4).bind fun h8 =>
  (ax_gR E h8 x0 5 24).bind fun v9 =>
  (ax_gR E h8 x0 5 2).bind fun v10 =>
  (f_X5_placeOf E x1 1 h8).bind fun q11 =>
  (ax_ld E q11.2 v10 100 q11.1).bind fun v12 =>
  (ax_sto q11.2 v9 100 4 v12).bind fun h13 =>
  (ax_gR E h13 x0 5 24).bind fun v14 =>
  (ax_gR E h13 x0 5 2).bind fun v15 =>
  (f_X5_placeOf E x1 2 h13).bind fun q16 =>
  (ax_ld E q16.2 v15 100 q16.1).bind fun v17 =>
  (ax_sto q16.2 v14 100 5 v17).bind fun h18 =>
  (ax_gR E h18 x0 5 24).bind fun v19 =>
  (ax_sto h18 v19 100 6 x5).bind fun h20 =>
  (ax_gR E h20 x0 5 24).bind fun v21 =>
  (ax_sto h20 v21 100 7 x6).bind fun h22 =>
  (ax_gR E h22 x0 5 24).bind fun v23 =>
  (ax_gR E h22 x0 5 2).bind fun v24 =>
  (ax_ld E h22 v24 100 72).bind fun v25 =>
  (ax_sto h22 v23 100 8 v25).bind fun h26 =>
  (ax_gR E h26 x0 5 24).bind fun v27 =>
  (ax_gR E h26 x0 5 2).bind fun v28 =>
  (ax_ld E h26 v28 100 151).bind fun v29 =>
  (ax_sto h26 v27 100 9 v29).bind fun h30 =>
  some h30
set_option maxHeartbeats 4000000 in
theorem we_X5_sets {l : Launch} {G : ax_G} {X : ax_X} {Q : State → Prop} {h0 h : ax_H} {ls : Array Slot} (hSF : ax_SF G) (B : ax_BL l G X cX5_sets 7 RX5 2 61) (Z : ax_Z X h0 none) (hn : X.2.2.2.2.2.2.2.2.1.name = yX5_sets.name) (x0 : Option Nat) (x1 : Int) (x2 : Int) (x3 : Int) (x4 : Int) (x5 : Int) (x6 : Int) {w : ax_H} (hl : ax_hl ls 7 [(0, .inr (.inr x0)), (1, .inl x1), (2, .inl x2), (3, .inl x3), (4, .inl x4), (5, .inl x5), (6, .inl x6)]) (e : f_X5_sets G.2.2 x0 x1 x2 x3 x4 x5 x6 h = some w) (hp : (fun w : ax_H => Q = ax_Q G X h0 w none) w) : ax_W G X Q h 0 ls [] := by
  unfold f_X5_sets at e
  refine ax_aload_n B dX5_sets_0 rfl hl 0 rfl ?_
  refine ax_getR B ff_X5_59_5 (fun _ _ => rfl) dX5_sets_1 e (fun v1 e => ?_)
  refine ax_iconst B dX5_sets_4 ?_
  refine ax_iload_n B dX5_sets_5 rfl hl 1 rfl ?_
  refine ax_iast B kd100 dX5_sets_6 e (fun h2 e => ?_)
  refine ax_aload_n B dX5_sets_7 rfl hl 0 rfl ?_
  refine ax_getR B ff_X5_59_5 (fun _ _ => rfl) dX5_sets_8 e (fun v3 e => ?_)
  refine ax_iconst B dX5_sets_11 ?_
  refine ax_iload_n B dX5_sets_12 rfl hl 2 rfl ?_
  refine ax_iast B kd100 dX5_sets_13 e (fun h4 e => ?_)
  refine ax_aload_n B dX5_sets_14 rfl hl 0 rfl ?_
  refine ax_getR B ff_X5_59_5 (fun _ _ => rfl) dX5_sets_15 e (fun v5 e => ?_)
  refine ax_iconst B dX5_sets_18 ?_
  refine ax_iload_n B dX5_sets_19 rfl hl 3 rfl ?_
  refine ax_iast B kd100 dX5_sets_20 e (fun h6 e => ?_)
  refine ax_aload_n B dX5_sets_21 rfl hl 0 rfl ?_
  refine ax_getR B ff_X5_59_5 (fun _ _ => rfl) dX5_sets_22 e (fun v7 e => ?_)
  refine ax_iconst B dX5_sets_25 ?_
  refine ax_iload B dX5_sets_26 hl 4 rfl ?_
  refine ax_iast B kd100 dX5_sets_28 e (fun h8 e => ?_)
  refine ax_aload_n B dX5_sets_29 rfl hl 0 rfl ?_
  refine ax_getR B ff_X5_59_5 (fun _ _ => rfl) dX5_sets_30 e (fun v9 e => ?_)
  refine ax_iconst B dX5_sets_33 ?_
  refine ax_aload_n B dX5_sets_34 rfl hl 0 rfl ?_
  refine ax_getR B ff_X5_24_5 (fun _ _ => rfl) dX5_sets_35 e (fun v10 e => ?_)
  refine ax_iload_n B dX5_sets_38 rfl hl 1 rfl ?_
  refine ax_iconst B dX5_sets_39 ?_
  refine ax_isI (y := yX5_placeOf) (n := 2) (As := [.int (Int32.ofInt x1), .int (Int32.ofInt 1)]) B (lw_S q2184 q2185 q133 q2186) (by decide +kernel) ⟨Nat.le_of_ble_eq_true rfl, Nat.le_of_ble_eq_true rfl⟩ (fun w1 e1 => mt_X5_placeOf l G hSF x1 1 _ w1 e1) rfl hl.size (by simp only [List.map_cons, List.map_nil, List.sum_cons, List.sum_nil, va_rf_cat, ax_catI, ax_catL]; decide) dX5_sets_40 e (fun q11 e => ?_)
  refine ax_iald B kd100 dX5_sets_43 e (fun v12 e => ?_)
  refine ax_iast B kd100 dX5_sets_44 e (fun h13 e => ?_)
  refine ax_aload_n B dX5_sets_45 rfl hl 0 rfl ?_
  refine ax_getR B ff_X5_59_5 (fun _ _ => rfl) dX5_sets_46 e (fun v14 e => ?_)
  refine ax_iconst B dX5_sets_49 ?_
  refine ax_aload_n B dX5_sets_50 rfl hl 0 rfl ?_
  refine ax_getR B ff_X5_24_5 (fun _ _ => rfl) dX5_sets_51 e (fun v15 e => ?_)
  refine ax_iload_n B dX5_sets_54 rfl hl 1 rfl ?_
  refine ax_iconst B dX5_sets_55 ?_
  refine ax_isI (y := yX5_placeOf) (n := 2) (As := [.int (Int32.ofInt x1), .int (Int32.ofInt 2)]) B (lw_S q2184 q2185 q133 q2186) (by decide +kernel) ⟨Nat.le_of_ble_eq_true rfl, Nat.le_of_ble_eq_true rfl⟩ (fun w1 e1 => mt_X5_placeOf l G hSF x1 2 _ w1 e1) rfl hl.size (by simp only [List.map_cons, List.map_nil, List.sum_cons, List.sum_nil, va_rf_cat, ax_catI, ax_catL]; decide) dX5_sets_56 e (fun q16 e => ?_)
  refine ax_iald B kd100 dX5_sets_59 e (fun v17 e => ?_)
  refine ax_iast B kd100 dX5_sets_60 e (fun h18 e => ?_)
  refine ax_aload_n B dX5_sets_61 rfl hl 0 rfl ?_
  refine ax_getR B ff_X5_59_5 (fun _ _ => rfl) dX5_sets_62 e (fun v19 e => ?_)
  refine ax_bipush B dX5_sets_65 (by decide) ?_
  refine ax_iload B dX5_sets_67 hl 5 rfl ?_
  refine ax_iast B kd100 dX5_sets_69 e (fun h20 e => ?_)
  refine ax_aload_n B dX5_sets_70 rfl hl 0 rfl ?_
  refine ax_getR B ff_X5_59_5 (fun _ _ => rfl) dX5_sets_71 e (fun v21 e => ?_)
  refine ax_bipush B dX5_sets_74 (by decide) ?_
  refine ax_iload B dX5_sets_76 hl 6 rfl ?_
  refine ax_iast B kd100 dX5_sets_78 e (fun h22 e => ?_)
  refine ax_aload_n B dX5_sets_79 rfl hl 0 rfl ?_
  refine ax_getR B ff_X5_59_5 (fun _ _ => rfl) dX5_sets_80 e (fun v23 e => ?_)
  refine ax_bipush B dX5_sets_83 (by decide) ?_
  refine ax_aload_n B dX5_sets_85 rfl hl 0 rfl ?_
  refine ax_getR B ff_X5_24_5 (fun _ _ => rfl) dX5_sets_86 e (fun v24 e => ?_)
  refine ax_bipush B dX5_sets_89 (by decide) ?_
  refine ax_iald B kd100 dX5_sets_91 e (fun v25 e => ?_)
  refine ax_iast B kd100 dX5_sets_92 e (fun h26 e => ?_)
  refine ax_aload_n B dX5_sets_93 rfl hl 0 rfl ?_
  refine ax_getR B ff_X5_59_5 (fun _ _ => rfl) dX5_sets_94 e (fun v27 e => ?_)
  refine ax_bipush B dX5_sets_97 (by decide) ?_
  refine ax_aload_n B dX5_sets_99 rfl hl 0 rfl ?_
  refine ax_getR B ff_X5_24_5 (fun _ _ => rfl) dX5_sets_100 e (fun v28 e => ?_)
  refine ax_sipush B dX5_sets_103 (by decide) ?_
  refine ax_iald B kd100 dX5_sets_106 e (fun v29 e => ?_)
  refine ax_iast B kd100 dX5_sets_107 e (fun h30 e => ?_)
  have e8 := e
  have hp : Q = _ := hp
  subst hp
  exact ax_return B Z dX5_sets_108 e8
theorem mt_X5_sets (l : Launch) (G : ax_G) (hSF : ax_SF G) (x0 : Option Nat) (x1 : Int) (x2 : Int) (x3 : Int) (x4 : Int) (x5 : Int) (x6 : Int) (h : ax_H) (w : ax_H) (e : f_X5_sets G.2.2 x0 x1 x2 x3 x4 x5 x6 h = some w) : ax_Met l G yX5_sets cX5_sets 7 none 2 61 [va_rf x0, .int (Int32.ofInt x1), .int (Int32.ofInt x2), .int (Int32.ofInt x3), .int (Int32.ofInt x4), .int (Int32.ofInt x5), .int (Int32.ofInt x6)] h w none :=
  ax_enter [.inr (.inr x0), .inl x1, .inl x2, .inl x3, .inl x4, .inl x5, .inl x6] (y := yX5_sets) hSF (plainFor_of_name (by decide +kernel)) (Nat.le_of_ble_eq_true rfl) (fun X ls B Z hn hl => we_X5_sets hSF B Z hn x0 x1 x2 x3 x4 x5 x6 hl e rfl)
def dkwX5_setsDebt_3 : List UInt8 := [46, 42, 180, 0, 24, 28, 6, 96, 46, 100, 182, 1, 72, 177]
abbrev dktX5_setsDebt_3 : List UInt8 := dkwX5_setsDebt_3 ++ []
def dkwX5_setsDebt_2 : List UInt8 := [46, 42, 180, 0, 24, 28, 46, 182, 0, 178, 42, 180, 0, 24, 28, 5, 96, 46, 42, 180, 0, 24, 16, 72]
abbrev dktX5_setsDebt_2 : List UInt8 := dkwX5_setsDebt_2 ++ dktX5_setsDebt_3
def dkwX5_setsDebt_1 : List UInt8 := [180, 0, 24, 28, 46, 42, 180, 0, 24, 28, 4, 96, 46, 182, 0, 178, 42, 42, 180, 0, 24, 28, 4, 96]
abbrev dktX5_setsDebt_1 : List UInt8 := dkwX5_setsDebt_1 ++ dktX5_setsDebt_2
def dkwX5_setsDebt_0 : List UInt8 := [16, 7, 7, 27, 104, 96, 61, 42, 42, 180, 0, 24, 28, 46, 42, 180, 0, 24, 28, 4, 96, 46, 42, 42]
abbrev dktX5_setsDebt_0 : List UInt8 := dkwX5_setsDebt_0 ++ dktX5_setsDebt_1
theorem dksX5_setsDebt_0 : cX5_setsDebt.data.toList.drop 0 = dktX5_setsDebt_0 := by decide +kernel
theorem dksX5_setsDebt_1 : cX5_setsDebt.data.toList.drop 24 = dktX5_setsDebt_1 := dk_seg dksX5_setsDebt_0 24 rfl rfl
theorem dksX5_setsDebt_2 : cX5_setsDebt.data.toList.drop 48 = dktX5_setsDebt_2 := dk_seg dksX5_setsDebt_1 24 rfl rfl
theorem dksX5_setsDebt_3 : cX5_setsDebt.data.toList.drop 72 = dktX5_setsDebt_3 := dk_seg dksX5_setsDebt_2 24 rfl rfl
theorem dX5_setsDebt_0 : decode cX5_setsDebt 0 = .ok (.bipush 7, 2) := dk_16 7 (dk_at dksX5_setsDebt_0 0 rfl rfl)
theorem dX5_setsDebt_2 : decode cX5_setsDebt 2 = .ok (.iconst 4, 1) := dk_7 (dk_at dksX5_setsDebt_0 2 rfl rfl)
theorem dX5_setsDebt_3 : decode cX5_setsDebt 3 = .ok (.iload_n 1, 1) := dk_27 (dk_at dksX5_setsDebt_0 3 rfl rfl)
theorem dX5_setsDebt_4 : decode cX5_setsDebt 4 = .ok (.imul, 1) := dk_104 (dk_at dksX5_setsDebt_0 4 rfl rfl)
theorem dX5_setsDebt_5 : decode cX5_setsDebt 5 = .ok (.iadd, 1) := dk_96 (dk_at dksX5_setsDebt_0 5 rfl rfl)
theorem dX5_setsDebt_6 : decode cX5_setsDebt 6 = .ok (.istore_n 2, 1) := dk_61 (dk_at dksX5_setsDebt_0 6 rfl rfl)
theorem dX5_setsDebt_7 : decode cX5_setsDebt 7 = .ok (.aload_n 0, 1) := dk_42 (dk_at dksX5_setsDebt_0 7 rfl rfl)
theorem dX5_setsDebt_8 : decode cX5_setsDebt 8 = .ok (.aload_n 0, 1) := dk_42 (dk_at dksX5_setsDebt_0 8 rfl rfl)
theorem dX5_setsDebt_9 : decode cX5_setsDebt 9 = .ok (.getfield 24, 3) := dk_180 0 24 (dk_at dksX5_setsDebt_0 9 rfl rfl)
theorem dX5_setsDebt_12 : decode cX5_setsDebt 12 = .ok (.iload_n 2, 1) := dk_28 (dk_at dksX5_setsDebt_0 12 rfl rfl)
theorem dX5_setsDebt_13 : decode cX5_setsDebt 13 = .ok (.iaload, 1) := dk_46 (dk_at dksX5_setsDebt_0 13 rfl rfl)
theorem dX5_setsDebt_14 : decode cX5_setsDebt 14 = .ok (.aload_n 0, 1) := dk_42 (dk_at dksX5_setsDebt_0 14 rfl rfl)
theorem dX5_setsDebt_15 : decode cX5_setsDebt 15 = .ok (.getfield 24, 3) := dk_180 0 24 (dk_at dksX5_setsDebt_0 15 rfl rfl)
theorem dX5_setsDebt_18 : decode cX5_setsDebt 18 = .ok (.iload_n 2, 1) := dk_28 (dk_at dksX5_setsDebt_0 18 rfl rfl)
theorem dX5_setsDebt_19 : decode cX5_setsDebt 19 = .ok (.iconst 1, 1) := dk_4 (dk_at dksX5_setsDebt_0 19 rfl rfl)
theorem dX5_setsDebt_20 : decode cX5_setsDebt 20 = .ok (.iadd, 1) := dk_96 (dk_at dksX5_setsDebt_0 20 rfl rfl)
theorem dX5_setsDebt_21 : decode cX5_setsDebt 21 = .ok (.iaload, 1) := dk_46 (dk_at dksX5_setsDebt_0 21 rfl rfl)
theorem dX5_setsDebt_22 : decode cX5_setsDebt 22 = .ok (.aload_n 0, 1) := dk_42 (dk_at dksX5_setsDebt_0 22 rfl rfl)
theorem dX5_setsDebt_23 : decode cX5_setsDebt 23 = .ok (.aload_n 0, 1) := dk_42 (dk_at dksX5_setsDebt_0 23 rfl rfl)
theorem dX5_setsDebt_24 : decode cX5_setsDebt 24 = .ok (.getfield 24, 3) := dk_180 0 24 (dk_at dksX5_setsDebt_1 0 rfl rfl)
theorem dX5_setsDebt_27 : decode cX5_setsDebt 27 = .ok (.iload_n 2, 1) := dk_28 (dk_at dksX5_setsDebt_1 3 rfl rfl)
theorem dX5_setsDebt_28 : decode cX5_setsDebt 28 = .ok (.iaload, 1) := dk_46 (dk_at dksX5_setsDebt_1 4 rfl rfl)
theorem dX5_setsDebt_29 : decode cX5_setsDebt 29 = .ok (.aload_n 0, 1) := dk_42 (dk_at dksX5_setsDebt_1 5 rfl rfl)
theorem dX5_setsDebt_30 : decode cX5_setsDebt 30 = .ok (.getfield 24, 3) := dk_180 0 24 (dk_at dksX5_setsDebt_1 6 rfl rfl)
theorem dX5_setsDebt_33 : decode cX5_setsDebt 33 = .ok (.iload_n 2, 1) := dk_28 (dk_at dksX5_setsDebt_1 9 rfl rfl)
theorem dX5_setsDebt_34 : decode cX5_setsDebt 34 = .ok (.iconst 1, 1) := dk_4 (dk_at dksX5_setsDebt_1 10 rfl rfl)
theorem dX5_setsDebt_35 : decode cX5_setsDebt 35 = .ok (.iadd, 1) := dk_96 (dk_at dksX5_setsDebt_1 11 rfl rfl)
theorem dX5_setsDebt_36 : decode cX5_setsDebt 36 = .ok (.iaload, 1) := dk_46 (dk_at dksX5_setsDebt_1 12 rfl rfl)
theorem dX5_setsDebt_37 : decode cX5_setsDebt 37 = .ok (.invokevirtual 178, 3) := dk_182 0 178 (dk_at dksX5_setsDebt_1 13 rfl rfl)
theorem dX5_setsDebt_40 : decode cX5_setsDebt 40 = .ok (.aload_n 0, 1) := dk_42 (dk_at dksX5_setsDebt_1 16 rfl rfl)
theorem dX5_setsDebt_41 : decode cX5_setsDebt 41 = .ok (.aload_n 0, 1) := dk_42 (dk_at dksX5_setsDebt_1 17 rfl rfl)
theorem dX5_setsDebt_42 : decode cX5_setsDebt 42 = .ok (.getfield 24, 3) := dk_180 0 24 (dk_at dksX5_setsDebt_1 18 rfl rfl)
theorem dX5_setsDebt_45 : decode cX5_setsDebt 45 = .ok (.iload_n 2, 1) := dk_28 (dk_at dksX5_setsDebt_1 21 rfl rfl)
theorem dX5_setsDebt_46 : decode cX5_setsDebt 46 = .ok (.iconst 1, 1) := dk_4 (dk_at dksX5_setsDebt_1 22 rfl rfl)
theorem dX5_setsDebt_47 : decode cX5_setsDebt 47 = .ok (.iadd, 1) := dk_96 (dk_at dksX5_setsDebt_1 23 rfl rfl)
theorem dX5_setsDebt_48 : decode cX5_setsDebt 48 = .ok (.iaload, 1) := dk_46 (dk_at dksX5_setsDebt_2 0 rfl rfl)
theorem dX5_setsDebt_49 : decode cX5_setsDebt 49 = .ok (.aload_n 0, 1) := dk_42 (dk_at dksX5_setsDebt_2 1 rfl rfl)
theorem dX5_setsDebt_50 : decode cX5_setsDebt 50 = .ok (.getfield 24, 3) := dk_180 0 24 (dk_at dksX5_setsDebt_2 2 rfl rfl)
theorem dX5_setsDebt_53 : decode cX5_setsDebt 53 = .ok (.iload_n 2, 1) := dk_28 (dk_at dksX5_setsDebt_2 5 rfl rfl)
theorem dX5_setsDebt_54 : decode cX5_setsDebt 54 = .ok (.iaload, 1) := dk_46 (dk_at dksX5_setsDebt_2 6 rfl rfl)
theorem dX5_setsDebt_55 : decode cX5_setsDebt 55 = .ok (.invokevirtual 178, 3) := dk_182 0 178 (dk_at dksX5_setsDebt_2 7 rfl rfl)
theorem dX5_setsDebt_58 : decode cX5_setsDebt 58 = .ok (.aload_n 0, 1) := dk_42 (dk_at dksX5_setsDebt_2 10 rfl rfl)
theorem dX5_setsDebt_59 : decode cX5_setsDebt 59 = .ok (.getfield 24, 3) := dk_180 0 24 (dk_at dksX5_setsDebt_2 11 rfl rfl)
theorem dX5_setsDebt_62 : decode cX5_setsDebt 62 = .ok (.iload_n 2, 1) := dk_28 (dk_at dksX5_setsDebt_2 14 rfl rfl)
theorem dX5_setsDebt_63 : decode cX5_setsDebt 63 = .ok (.iconst 2, 1) := dk_5 (dk_at dksX5_setsDebt_2 15 rfl rfl)
theorem dX5_setsDebt_64 : decode cX5_setsDebt 64 = .ok (.iadd, 1) := dk_96 (dk_at dksX5_setsDebt_2 16 rfl rfl)
theorem dX5_setsDebt_65 : decode cX5_setsDebt 65 = .ok (.iaload, 1) := dk_46 (dk_at dksX5_setsDebt_2 17 rfl rfl)
theorem dX5_setsDebt_66 : decode cX5_setsDebt 66 = .ok (.aload_n 0, 1) := dk_42 (dk_at dksX5_setsDebt_2 18 rfl rfl)
theorem dX5_setsDebt_67 : decode cX5_setsDebt 67 = .ok (.getfield 24, 3) := dk_180 0 24 (dk_at dksX5_setsDebt_2 19 rfl rfl)
theorem dX5_setsDebt_70 : decode cX5_setsDebt 70 = .ok (.bipush 72, 2) := dk_16 72 (dk_at dksX5_setsDebt_2 22 rfl rfl)
theorem dX5_setsDebt_72 : decode cX5_setsDebt 72 = .ok (.iaload, 1) := dk_46 (dk_at dksX5_setsDebt_3 0 rfl rfl)
theorem dX5_setsDebt_73 : decode cX5_setsDebt 73 = .ok (.aload_n 0, 1) := dk_42 (dk_at dksX5_setsDebt_3 1 rfl rfl)
theorem dX5_setsDebt_74 : decode cX5_setsDebt 74 = .ok (.getfield 24, 3) := dk_180 0 24 (dk_at dksX5_setsDebt_3 2 rfl rfl)
theorem dX5_setsDebt_77 : decode cX5_setsDebt 77 = .ok (.iload_n 2, 1) := dk_28 (dk_at dksX5_setsDebt_3 5 rfl rfl)
theorem dX5_setsDebt_78 : decode cX5_setsDebt 78 = .ok (.iconst 3, 1) := dk_6 (dk_at dksX5_setsDebt_3 6 rfl rfl)
theorem dX5_setsDebt_79 : decode cX5_setsDebt 79 = .ok (.iadd, 1) := dk_96 (dk_at dksX5_setsDebt_3 7 rfl rfl)
theorem dX5_setsDebt_80 : decode cX5_setsDebt 80 = .ok (.iaload, 1) := dk_46 (dk_at dksX5_setsDebt_3 8 rfl rfl)
theorem dX5_setsDebt_81 : decode cX5_setsDebt 81 = .ok (.isub, 1) := dk_100 (dk_at dksX5_setsDebt_3 9 rfl rfl)
theorem dX5_setsDebt_82 : decode cX5_setsDebt 82 = .ok (.invokevirtual 328, 3) := dk_182 1 72 (dk_at dksX5_setsDebt_3 10 rfl rfl)
theorem dX5_setsDebt_85 : decode cX5_setsDebt 85 = .ok (.return_, 1) := dk_177 (dk_at dksX5_setsDebt_3 13 rfl rfl)
noncomputable def f_X5_setsDebt (E : ax_E) (x0 : Option Nat) (x1 : Int) (h : ax_H) : Option (ax_H) :=
  (ax_gR E h x0 5 2).bind fun v1 =>
  (ax_ld E h v1 100 (7 + (4 * x1))).bind fun v2 =>
  (ax_gR E h x0 5 2).bind fun v3 =>
  (ax_ld E h v3 100 ((7 + (4 * x1)) + 1)).bind fun v4 =>
  (ax_gR E h x0 5 2).bind fun v5 =>
  (ax_ld E h v5 100 (7 + (4 * x1))).bind fun v6 =>
  (ax_gR E h x0 5 2).bind fun v7 =>
  (ax_ld E h v7 100 ((7 + (4 * x1)) + 1)).bind fun v8 =>
  (ax_ce E h x0 5).bind fun _ => (f_X5_owed E x0 v6 v8 h).bind fun q9 =>
  (ax_gR E q9.2 x0 5 2).bind fun v10 =>
  (ax_ld E q9.2 v10 100 ((7 + (4 * x1)) + 1)).bind fun v11 =>
  (ax_gR E q9.2 x0 5 2).bind fun v12 =>
  (ax_ld E q9.2 v12 100 (7 + (4 * x1))).bind fun v13 =>
  (ax_ce E q9.2 x0 5).bind fun _ => (f_X5_owed E x0 v11 v13 q9.2).bind fun q14 =>
  (ax_gR E q14.2 x0 5 2).bind fun v15 =>
  (ax_ld E q14.2 v15 100 ((7 + (4 * x1)) + 2)).bind fun v16 =>
  (ax_gR E q14.2 x0 5 2).bind fun v17 =>
  (ax_ld E q14.2 v17 100 72).bind fun v18 =>
  (ax_gR E q14.2 x0 5 2).bind fun v19 =>
  (ax_ld E q14.2 v19 100 ((7 + (4 * x1)) + 3)).bind fun v20 =>
  (ax_ce E q14.2 x0 5).bind fun _ => (f_X5_sets E x0 v2 v4 q9.1 q14.1 v16 (v18 - v20) q14.2).bind fun h21 =>
  some h21
set_option maxHeartbeats 4000000 in
theorem we_X5_setsDebt {l : Launch} {G : ax_G} {X : ax_X} {Q : State → Prop} {h0 h : ax_H} {ls : Array Slot} (hSF : ax_SF G) (B : ax_BL l G X cX5_setsDebt 3 RX5 3 87) (Z : ax_Z X h0 none) (hn : X.2.2.2.2.2.2.2.2.1.name = yX5_setsDebt.name) (x0 : Option Nat) (x1 : Int) {w : ax_H} (hl : ax_hl ls 3 [(0, .inr (.inr x0)), (1, .inl x1)]) (e : f_X5_setsDebt G.2.2 x0 x1 h = some w) (hp : (fun w : ax_H => Q = ax_Q G X h0 w none) w) : ax_W G X Q h 0 ls [] := by
  unfold f_X5_setsDebt at e
  refine ax_bipush B dX5_setsDebt_0 (by decide) ?_
  refine ax_iconst B dX5_setsDebt_2 ?_
  refine ax_iload_n B dX5_setsDebt_3 rfl hl 1 rfl ?_
  refine ax_imul' B dX5_setsDebt_4 ?_
  refine ax_iadd' B dX5_setsDebt_5 ?_
  refine ax_istore_n (L' := [(2, .inl (7 + (4 * x1))), (0, .inr (.inr x0)), (1, .inl x1)]) B dX5_setsDebt_6 rfl hl (by decide) rfl (fun ls hl => ?_)
  refine ax_aload_n B dX5_setsDebt_7 rfl hl 1 rfl ?_
  refine ax_aload_n B dX5_setsDebt_8 rfl hl 1 rfl ?_
  refine ax_getR B ff_X5_24_5 (fun _ _ => rfl) dX5_setsDebt_9 e (fun v1 e => ?_)
  refine ax_iload_n B dX5_setsDebt_12 rfl hl 0 rfl ?_
  refine ax_iald B kd100 dX5_setsDebt_13 e (fun v2 e => ?_)
  refine ax_aload_n B dX5_setsDebt_14 rfl hl 1 rfl ?_
  refine ax_getR B ff_X5_24_5 (fun _ _ => rfl) dX5_setsDebt_15 e (fun v3 e => ?_)
  refine ax_iload_n B dX5_setsDebt_18 rfl hl 0 rfl ?_
  refine ax_iconst B dX5_setsDebt_19 ?_
  refine ax_iadd' B dX5_setsDebt_20 ?_
  refine ax_iald B kd100 dX5_setsDebt_21 e (fun v4 e => ?_)
  refine ax_aload_n B dX5_setsDebt_22 rfl hl 1 rfl ?_
  refine ax_aload_n B dX5_setsDebt_23 rfl hl 1 rfl ?_
  refine ax_getR B ff_X5_24_5 (fun _ _ => rfl) dX5_setsDebt_24 e (fun v5 e => ?_)
  refine ax_iload_n B dX5_setsDebt_27 rfl hl 0 rfl ?_
  refine ax_iald B kd100 dX5_setsDebt_28 e (fun v6 e => ?_)
  refine ax_aload_n B dX5_setsDebt_29 rfl hl 1 rfl ?_
  refine ax_getR B ff_X5_24_5 (fun _ _ => rfl) dX5_setsDebt_30 e (fun v7 e => ?_)
  refine ax_iload_n B dX5_setsDebt_33 rfl hl 0 rfl ?_
  refine ax_iconst B dX5_setsDebt_34 ?_
  refine ax_iadd' B dX5_setsDebt_35 ?_
  refine ax_iald B kd100 dX5_setsDebt_36 e (fun v8 e => ?_)
  refine ax_ivI (y := yX5_owed) (n := 2) (As := [.int (Int32.ofInt v6), .int (Int32.ofInt v8)]) B kd5 (lw_V q2234 q2236 qs52 q133 q2237) (by decide +kernel) ⟨Nat.le_of_ble_eq_true rfl, Nat.le_of_ble_eq_true rfl⟩ (fun w1 e1 => mt_X5_owed l G hSF x0 v6 v8 _ w1 e1) rfl hl.size (by simp only [List.map_cons, List.map_nil, List.sum_cons, List.sum_nil, va_rf_cat, ax_catI, ax_catL]; decide) dX5_setsDebt_37 e (fun q9 e => ?_)
  refine ax_aload_n B dX5_setsDebt_40 rfl hl 1 rfl ?_
  refine ax_aload_n B dX5_setsDebt_41 rfl hl 1 rfl ?_
  refine ax_getR B ff_X5_24_5 (fun _ _ => rfl) dX5_setsDebt_42 e (fun v10 e => ?_)
  refine ax_iload_n B dX5_setsDebt_45 rfl hl 0 rfl ?_
  refine ax_iconst B dX5_setsDebt_46 ?_
  refine ax_iadd' B dX5_setsDebt_47 ?_
  refine ax_iald B kd100 dX5_setsDebt_48 e (fun v11 e => ?_)
  refine ax_aload_n B dX5_setsDebt_49 rfl hl 1 rfl ?_
  refine ax_getR B ff_X5_24_5 (fun _ _ => rfl) dX5_setsDebt_50 e (fun v12 e => ?_)
  refine ax_iload_n B dX5_setsDebt_53 rfl hl 0 rfl ?_
  refine ax_iald B kd100 dX5_setsDebt_54 e (fun v13 e => ?_)
  refine ax_ivI (y := yX5_owed) (n := 2) (As := [.int (Int32.ofInt v11), .int (Int32.ofInt v13)]) B kd5 (lw_V q2234 q2236 qs52 q133 q2237) (by decide +kernel) ⟨Nat.le_of_ble_eq_true rfl, Nat.le_of_ble_eq_true rfl⟩ (fun w1 e1 => mt_X5_owed l G hSF x0 v11 v13 _ w1 e1) rfl hl.size (by simp only [List.map_cons, List.map_nil, List.sum_cons, List.sum_nil, va_rf_cat, ax_catI, ax_catL]; decide) dX5_setsDebt_55 e (fun q14 e => ?_)
  refine ax_aload_n B dX5_setsDebt_58 rfl hl 1 rfl ?_
  refine ax_getR B ff_X5_24_5 (fun _ _ => rfl) dX5_setsDebt_59 e (fun v15 e => ?_)
  refine ax_iload_n B dX5_setsDebt_62 rfl hl 0 rfl ?_
  refine ax_iconst B dX5_setsDebt_63 ?_
  refine ax_iadd' B dX5_setsDebt_64 ?_
  refine ax_iald B kd100 dX5_setsDebt_65 e (fun v16 e => ?_)
  refine ax_aload_n B dX5_setsDebt_66 rfl hl 1 rfl ?_
  refine ax_getR B ff_X5_24_5 (fun _ _ => rfl) dX5_setsDebt_67 e (fun v17 e => ?_)
  refine ax_bipush B dX5_setsDebt_70 (by decide) ?_
  refine ax_iald B kd100 dX5_setsDebt_72 e (fun v18 e => ?_)
  refine ax_aload_n B dX5_setsDebt_73 rfl hl 1 rfl ?_
  refine ax_getR B ff_X5_24_5 (fun _ _ => rfl) dX5_setsDebt_74 e (fun v19 e => ?_)
  refine ax_iload_n B dX5_setsDebt_77 rfl hl 0 rfl ?_
  refine ax_iconst B dX5_setsDebt_78 ?_
  refine ax_iadd' B dX5_setsDebt_79 ?_
  refine ax_iald B kd100 dX5_setsDebt_80 e (fun v20 e => ?_)
  refine ax_isub' B dX5_setsDebt_81 ?_
  refine ax_ivV (y := yX5_sets) (n := 6) (As := [.int (Int32.ofInt v2), .int (Int32.ofInt v4), .int (Int32.ofInt q9.1), .int (Int32.ofInt q14.1), .int (Int32.ofInt v16), .int (Int32.ofInt (v18 - v20))]) B kd5 (lw_V q2242 q2244 qs54 q133 q2245) (by decide +kernel) ⟨Nat.le_of_ble_eq_true rfl, Nat.le_of_ble_eq_true rfl⟩ (fun w1 e1 => mt_X5_sets l G hSF x0 v2 v4 q9.1 q14.1 v16 (v18 - v20) _ w1 e1) rfl hl.size (by decide) dX5_setsDebt_82 e (fun h21 e => ?_)
  have e8 := e
  have hp : Q = _ := hp
  subst hp
  exact ax_return B Z dX5_setsDebt_85 e8
theorem mt_X5_setsDebt (l : Launch) (G : ax_G) (hSF : ax_SF G) (x0 : Option Nat) (x1 : Int) (h : ax_H) (w : ax_H) (e : f_X5_setsDebt G.2.2 x0 x1 h = some w) : ax_Met l G yX5_setsDebt cX5_setsDebt 3 none 3 87 [va_rf x0, .int (Int32.ofInt x1)] h w none :=
  ax_enter [.inr (.inr x0), .inl x1] (y := yX5_setsDebt) hSF (plainFor_of_name (by decide +kernel)) (Nat.le_of_ble_eq_true rfl) (fun X ls B Z hn hl => we_X5_setsDebt hSF B Z hn x0 x1 hl e rfl)
