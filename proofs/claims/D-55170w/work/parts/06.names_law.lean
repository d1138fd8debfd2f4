/-! the law's own entry -/
set_option maxRecDepth 100000
abbrev cL_law : ByteArray := code
def dkwL_law_43 : List UInt8 := [3, 172, 43, 182, 0, 160, 44, 182, 0, 163, 159, 0, 5, 3, 172, 132, 3, 4, 167, 251, 141, 4, 172]
abbrev dktL_law_43 : List UInt8 := dkwL_law_43 ++ []
def dkwL_law_42 : List UInt8 := [43, 182, 0, 152, 44, 182, 0, 155, 159, 0, 31, 3, 172, 43, 182, 0, 156, 44, 182, 0, 159, 159, 0, 18]
abbrev dktL_law_42 : List UInt8 := dkwL_law_42 ++ dktL_law_43
def dkwL_law_41 : List UInt8 := [153, 0, 21, 24, 4, 24, 4, 151, 153, 0, 11, 24, 6, 24, 6, 151, 154, 0, 5, 3, 172, 167, 0, 42]
abbrev dktL_law_41 : List UInt8 := dkwL_law_41 ++ dktL_law_42
def dkwL_law_40 : List UInt8 := [167, 0, 85, 43, 182, 0, 147, 141, 57, 4, 44, 182, 0, 151, 141, 57, 6, 24, 4, 24, 6, 151]
abbrev dktL_law_40 : List UInt8 := dkwL_law_40 ++ dktL_law_41
def dkwL_law_39 : List UInt8 := [24, 6, 151, 153, 0, 21, 24, 4, 24, 4, 151, 153, 0, 11, 24, 6, 24, 6, 151, 154, 0, 5, 3, 172]
abbrev dktL_law_39 : List UInt8 := dkwL_law_39 ++ dktL_law_40
def dkwL_law_38 : List UInt8 := [43, 42, 29, 4, 96, 46, 182, 0, 142, 57, 4, 44, 42, 29, 4, 96, 46, 182, 0, 146, 57, 6, 24, 4]
abbrev dktL_law_38 : List UInt8 := dkwL_law_38 ++ dktL_law_39
def dkwL_law_37 : List UInt8 := [4, 96, 46, 182, 0, 137, 159, 0, 151, 3, 172, 43, 182, 0, 138, 44, 182, 0, 141, 159, 0, 138, 3, 172]
abbrev dktL_law_37 : List UInt8 := dkwL_law_37 ++ dktL_law_38
def dkwL_law_36 : List UInt8 := [167, 0, 4, 3, 182, 0, 133, 159, 0, 174, 3, 172, 43, 42, 29, 4, 96, 46, 182, 0, 134, 44, 42, 29]
abbrev dktL_law_36 : List UInt8 := dkwL_law_36 ++ dktL_law_37
def dkwL_law_35 : List UInt8 := [96, 46, 153, 0, 7, 4, 167, 0, 4, 3, 182, 0, 129, 44, 42, 29, 4, 96, 46, 153, 0, 7, 4]
abbrev dktL_law_35 : List UInt8 := dkwL_law_35 ++ dktL_law_36
def dkwL_law_34 : List UInt8 := [4, 96, 46, 182, 0, 125, 44, 42, 29, 4, 96, 46, 182, 0, 128, 159, 0, 213, 3, 172, 43, 42, 29, 4]
abbrev dktL_law_34 : List UInt8 := dkwL_law_34 ++ dktL_law_35
def dkwL_law_33 : List UInt8 := [182, 0, 120, 159, 0, 249, 3, 172, 43, 182, 0, 121, 44, 182, 0, 124, 159, 0, 236, 3, 172, 43, 42, 29]
abbrev dktL_law_33 : List UInt8 := dkwL_law_33 ++ dktL_law_34
def dkwL_law_32 : List UInt8 := [182, 0, 116, 159, 1, 16, 3, 172, 43, 42, 29, 4, 96, 46, 182, 0, 117, 44, 42, 29, 4, 96, 46]
abbrev dktL_law_32 : List UInt8 := dkwL_law_32 ++ dktL_law_33
def dkwL_law_31 : List UInt8 := [182, 0, 108, 44, 42, 29, 4, 96, 46, 182, 0, 111, 159, 1, 29, 3, 172, 43, 182, 0, 112, 44]
abbrev dktL_law_31 : List UInt8 := dkwL_law_31 ++ dktL_law_32
def dkwL_law_30 : List UInt8 := [182, 0, 104, 44, 42, 29, 4, 96, 46, 182, 0, 107, 159, 1, 52, 3, 172, 43, 42, 29, 4, 96, 46]
abbrev dktL_law_30 : List UInt8 := dkwL_law_30 ++ dktL_law_31
def dkwL_law_29 : List UInt8 := [182, 0, 100, 44, 42, 29, 4, 96, 46, 182, 0, 103, 159, 1, 75, 3, 172, 43, 42, 29, 4, 96, 46]
abbrev dktL_law_29 : List UInt8 := dkwL_law_29 ++ dktL_law_30
def dkwL_law_28 : List UInt8 := [29, 4, 96, 46, 42, 29, 5, 96, 46, 182, 0, 99, 159, 1, 98, 3, 172, 43, 42, 29, 4, 96, 46]
abbrev dktL_law_28 : List UInt8 := dkwL_law_28 ++ dktL_law_29
def dkwL_law_27 : List UInt8 := [182, 0, 95, 159, 1, 131, 3, 172, 43, 42, 29, 4, 96, 46, 42, 29, 5, 96, 46, 182, 0, 96, 44, 42]
abbrev dktL_law_27 : List UInt8 := dkwL_law_27 ++ dktL_law_28
def dkwL_law_26 : List UInt8 := [182, 0, 91, 159, 1, 154, 3, 172, 43, 42, 29, 4, 96, 46, 182, 0, 92, 44, 42, 29, 4, 96, 46]
abbrev dktL_law_26 : List UInt8 := dkwL_law_26 ++ dktL_law_27
def dkwL_law_25 : List UInt8 := [182, 0, 87, 159, 1, 177, 3, 172, 43, 42, 29, 4, 96, 46, 182, 0, 88, 44, 42, 29, 4, 96, 46]
abbrev dktL_law_25 : List UInt8 := dkwL_law_25 ++ dktL_law_26
def dkwL_law_24 : List UInt8 := [46, 182, 0, 83, 159, 1, 200, 3, 172, 43, 42, 29, 4, 96, 46, 182, 0, 84, 44, 42, 29, 4, 96, 46]
abbrev dktL_law_24 : List UInt8 := dkwL_law_24 ++ dktL_law_25
def dkwL_law_23 : List UInt8 := [96, 46, 182, 0, 79, 159, 1, 223, 3, 172, 43, 42, 29, 4, 96, 46, 182, 0, 80, 44, 42, 29, 4, 96]
abbrev dktL_law_23 : List UInt8 := dkwL_law_23 ++ dktL_law_24
def dkwL_law_22 : List UInt8 := [5, 96, 46, 182, 0, 75, 159, 1, 246, 3, 172, 43, 42, 29, 4, 96, 46, 182, 0, 76, 44, 42, 29, 4]
abbrev dktL_law_22 : List UInt8 := dkwL_law_22 ++ dktL_law_23
def dkwL_law_21 : List UInt8 := [3, 172, 43, 42, 29, 4, 96, 46, 42, 29, 5, 96, 46, 182, 0, 72, 44, 42, 29, 4, 96, 46, 42, 29]
abbrev dktL_law_21 : List UInt8 := dkwL_law_21 ++ dktL_law_22
def dkwL_law_20 : List UInt8 := [29, 5, 96, 46, 182, 0, 68, 44, 42, 29, 4, 96, 46, 42, 29, 5, 96, 46, 182, 0, 71, 159, 2, 23]
abbrev dktL_law_20 : List UInt8 := dkwL_law_20 ++ dktL_law_21
def dkwL_law_19 : List UInt8 := [182, 0, 64, 44, 42, 29, 4, 96, 46, 182, 0, 67, 159, 2, 56, 3, 172, 43, 42, 29, 4, 96, 46, 42]
abbrev dktL_law_19 : List UInt8 := dkwL_law_19 ++ dktL_law_20
def dkwL_law_18 : List UInt8 := [42, 29, 4, 96, 46, 42, 29, 5, 96, 46, 182, 0, 63, 159, 2, 79, 3, 172, 43, 42, 29, 4, 96, 46]
abbrev dktL_law_18 : List UInt8 := dkwL_law_18 ++ dktL_law_19
def dkwL_law_17 : List UInt8 := [46, 182, 0, 59, 159, 2, 112, 3, 172, 43, 42, 29, 4, 96, 46, 42, 29, 5, 96, 46, 182, 0, 60, 44]
abbrev dktL_law_17 : List UInt8 := dkwL_law_17 ++ dktL_law_18
def dkwL_law_16 : List UInt8 := [43, 42, 29, 4, 96, 46, 42, 29, 5, 96, 46, 182, 0, 56, 44, 42, 29, 4, 96, 46, 42, 29, 5, 96]
abbrev dktL_law_16 : List UInt8 := dkwL_law_16 ++ dktL_law_17
def dkwL_law_15 : List UInt8 := [44, 42, 29, 4, 96, 46, 42, 29, 5, 96, 46, 42, 29, 6, 96, 46, 182, 0, 55, 159, 2, 145, 3, 172]
abbrev dktL_law_15 : List UInt8 := dkwL_law_15 ++ dktL_law_16
def dkwL_law_14 : List UInt8 := [159, 2, 188, 3, 172, 43, 42, 29, 4, 96, 46, 42, 29, 5, 96, 46, 42, 29, 6, 96, 46, 182, 0, 52]
abbrev dktL_law_14 : List UInt8 := dkwL_law_14 ++ dktL_law_15
def dkwL_law_13 : List UInt8 := [46, 182, 0, 47, 44, 42, 29, 4, 96, 46, 42, 29, 5, 96, 46, 42, 29, 6, 96, 46, 182, 0, 51]
abbrev dktL_law_13 : List UInt8 := dkwL_law_13 ++ dktL_law_14
def dkwL_law_12 : List UInt8 := [46, 182, 0, 46, 159, 2, 231, 3, 172, 43, 42, 29, 4, 96, 46, 42, 29, 5, 96, 46, 42, 29, 6, 96]
abbrev dktL_law_12 : List UInt8 := dkwL_law_12 ++ dktL_law_13
def dkwL_law_11 : List UInt8 := [96, 46, 182, 0, 42, 159, 2, 254, 3, 172, 43, 42, 29, 4, 96, 46, 182, 0, 43, 44, 42, 29, 4, 96]
abbrev dktL_law_11 : List UInt8 := dkwL_law_11 ++ dktL_law_12
def dkwL_law_10 : List UInt8 := [5, 96, 46, 182, 0, 38, 159, 3, 21, 3, 172, 43, 42, 29, 4, 96, 46, 182, 0, 39, 44, 42, 29, 4]
abbrev dktL_law_10 : List UInt8 := dkwL_law_10 ++ dktL_law_11
def dkwL_law_9 : List UInt8 := [3, 172, 43, 42, 29, 4, 96, 46, 42, 29, 5, 96, 46, 182, 0, 35, 44, 42, 29, 4, 96, 46, 42, 29]
abbrev dktL_law_9 : List UInt8 := dkwL_law_9 ++ dktL_law_10
def dkwL_law_8 : List UInt8 := [29, 5, 96, 46, 182, 0, 31, 44, 42, 29, 4, 96, 46, 42, 29, 5, 96, 46, 182, 0, 34, 159, 3, 54]
abbrev dktL_law_8 : List UInt8 := dkwL_law_8 ++ dktL_law_9
def dkwL_law_7 : List UInt8 := [182, 0, 27, 44, 42, 29, 4, 96, 46, 182, 0, 30, 159, 3, 87, 3, 172, 43, 42, 29, 4, 96, 46, 42]
abbrev dktL_law_7 : List UInt8 := dkwL_law_7 ++ dktL_law_8
def dkwL_law_6 : List UInt8 := [182, 0, 22, 44, 42, 29, 4, 96, 46, 182, 0, 26, 159, 3, 110, 3, 172, 43, 42, 29, 4, 96, 46]
abbrev dktL_law_6 : List UInt8 := dkwL_law_6 ++ dktL_law_7
def dkwL_law_5 : List UInt8 := [42, 29, 4, 96, 46, 42, 29, 5, 96, 46, 182, 0, 21, 159, 3, 133, 3, 172, 43, 42, 29, 4, 96, 46]
abbrev dktL_law_5 : List UInt8 := dkwL_law_5 ++ dktL_law_6
def dkwL_law_4 : List UInt8 := [46, 182, 0, 17, 159, 3, 166, 3, 172, 43, 42, 29, 4, 96, 46, 42, 29, 5, 96, 46, 182, 0, 18, 44]
abbrev dktL_law_4 : List UInt8 := dkwL_law_4 ++ dktL_law_5
def dkwL_law_3 : List UInt8 := [43, 42, 29, 4, 96, 46, 42, 29, 5, 96, 46, 182, 0, 13, 44, 42, 29, 4, 96, 46, 42, 29, 5, 96]
abbrev dktL_law_3 : List UInt8 := dkwL_law_3 ++ dktL_law_4
def dkwL_law_2 : List UInt8 := [170, 0, 0, 0, 0, 0, 4, 98, 0, 0, 0, 0, 0, 0, 0, 35, 0, 0, 0, 160, 0, 0, 0, 193, 0, 0, 0, 226, 0, 0, 0, 249, 0, 0, 1, 16, 0, 0, 1, 49, 0, 0, 1, 82, 0, 0, 1, 105, 0, 0, 1, 128, 0, 0, 1, 171, 0, 0, 1, 214, 0, 0, 1, 247, 0, 0, 2, 24, 0, 0, 2, 47, 0, 0, 2, 80, 0, 0, 2, 113, 0, 0, 2, 136, 0, 0, 2, 159, 0, 0, 2, 182, 0, 0, 2, 205, 0, 0, 2, 228, 0, 0, 3, 5, 0, 0, 3, 28, 0, 0, 3, 51, 0, 0, 3, 74, 0, 0, 3, 87, 0, 0, 3, 110, 0, 0, 3, 123, 0, 0, 3, 146, 0, 0, 3, 185, 0, 0, 3, 208, 0, 0, 3, 221, 0, 0, 4, 16, 0, 0, 4, 59, 0, 0, 4, 72, 0, 0, 4, 85]
abbrev dktL_law_2 : List UInt8 := dkwL_law_2 ++ dktL_law_3
def dkwL_law_1 : List UInt8 := [163, 4, 113, 42, 29, 46, 16, 63, 126]
abbrev dktL_law_1 : List UInt8 := dkwL_law_1 ++ dktL_law_2
def dkwL_law_0 : List UInt8 := [187, 0, 7, 89, 183, 0, 9, 76, 187, 0, 10, 89, 183, 0, 12, 77, 3, 62, 29, 42, 190, 7, 100]
abbrev dktL_law_0 : List UInt8 := dkwL_law_0 ++ dktL_law_1
theorem dksL_law_0 : cL_law.data.toList.drop 0 = dktL_law_0 := by decide +kernel
theorem dksL_law_1 : cL_law.data.toList.drop 23 = dktL_law_1 := dk_seg dksL_law_0 23 rfl rfl
theorem dksL_law_2 : cL_law.data.toList.drop 32 = dktL_law_2 := dk_seg dksL_law_1 9 rfl rfl
theorem dksL_law_3 : cL_law.data.toList.drop 192 = dktL_law_3 := dk_seg dksL_law_2 160 rfl rfl
theorem dksL_law_4 : cL_law.data.toList.drop 216 = dktL_law_4 := dk_seg dksL_law_3 24 rfl rfl
theorem dksL_law_5 : cL_law.data.toList.drop 240 = dktL_law_5 := dk_seg dksL_law_4 24 rfl rfl
theorem dksL_law_6 : cL_law.data.toList.drop 264 = dktL_law_6 := dk_seg dksL_law_5 24 rfl rfl
theorem dksL_law_7 : cL_law.data.toList.drop 287 = dktL_law_7 := dk_seg dksL_law_6 23 rfl rfl
theorem dksL_law_8 : cL_law.data.toList.drop 311 = dktL_law_8 := dk_seg dksL_law_7 24 rfl rfl
theorem dksL_law_9 : cL_law.data.toList.drop 335 = dktL_law_9 := dk_seg dksL_law_8 24 rfl rfl
theorem dksL_law_10 : cL_law.data.toList.drop 359 = dktL_law_10 := dk_seg dksL_law_9 24 rfl rfl
theorem dksL_law_11 : cL_law.data.toList.drop 383 = dktL_law_11 := dk_seg dksL_law_10 24 rfl rfl
theorem dksL_law_12 : cL_law.data.toList.drop 407 = dktL_law_12 := dk_seg dksL_law_11 24 rfl rfl
theorem dksL_law_13 : cL_law.data.toList.drop 431 = dktL_law_13 := dk_seg dksL_law_12 24 rfl rfl
theorem dksL_law_14 : cL_law.data.toList.drop 454 = dktL_law_14 := dk_seg dksL_law_13 23 rfl rfl
theorem dksL_law_15 : cL_law.data.toList.drop 478 = dktL_law_15 := dk_seg dksL_law_14 24 rfl rfl
theorem dksL_law_16 : cL_law.data.toList.drop 502 = dktL_law_16 := dk_seg dksL_law_15 24 rfl rfl
theorem dksL_law_17 : cL_law.data.toList.drop 526 = dktL_law_17 := dk_seg dksL_law_16 24 rfl rfl
theorem dksL_law_18 : cL_law.data.toList.drop 550 = dktL_law_18 := dk_seg dksL_law_17 24 rfl rfl
theorem dksL_law_19 : cL_law.data.toList.drop 574 = dktL_law_19 := dk_seg dksL_law_18 24 rfl rfl
theorem dksL_law_20 : cL_law.data.toList.drop 598 = dktL_law_20 := dk_seg dksL_law_19 24 rfl rfl
theorem dksL_law_21 : cL_law.data.toList.drop 622 = dktL_law_21 := dk_seg dksL_law_20 24 rfl rfl
theorem dksL_law_22 : cL_law.data.toList.drop 646 = dktL_law_22 := dk_seg dksL_law_21 24 rfl rfl
theorem dksL_law_23 : cL_law.data.toList.drop 670 = dktL_law_23 := dk_seg dksL_law_22 24 rfl rfl
theorem dksL_law_24 : cL_law.data.toList.drop 694 = dktL_law_24 := dk_seg dksL_law_23 24 rfl rfl
theorem dksL_law_25 : cL_law.data.toList.drop 718 = dktL_law_25 := dk_seg dksL_law_24 24 rfl rfl
theorem dksL_law_26 : cL_law.data.toList.drop 741 = dktL_law_26 := dk_seg dksL_law_25 23 rfl rfl
theorem dksL_law_27 : cL_law.data.toList.drop 764 = dktL_law_27 := dk_seg dksL_law_26 23 rfl rfl
theorem dksL_law_28 : cL_law.data.toList.drop 788 = dktL_law_28 := dk_seg dksL_law_27 24 rfl rfl
theorem dksL_law_29 : cL_law.data.toList.drop 811 = dktL_law_29 := dk_seg dksL_law_28 23 rfl rfl
theorem dksL_law_30 : cL_law.data.toList.drop 834 = dktL_law_30 := dk_seg dksL_law_29 23 rfl rfl
theorem dksL_law_31 : cL_law.data.toList.drop 857 = dktL_law_31 := dk_seg dksL_law_30 23 rfl rfl
theorem dksL_law_32 : cL_law.data.toList.drop 879 = dktL_law_32 := dk_seg dksL_law_31 22 rfl rfl
theorem dksL_law_33 : cL_law.data.toList.drop 902 = dktL_law_33 := dk_seg dksL_law_32 23 rfl rfl
theorem dksL_law_34 : cL_law.data.toList.drop 926 = dktL_law_34 := dk_seg dksL_law_33 24 rfl rfl
theorem dksL_law_35 : cL_law.data.toList.drop 950 = dktL_law_35 := dk_seg dksL_law_34 24 rfl rfl
theorem dksL_law_36 : cL_law.data.toList.drop 973 = dktL_law_36 := dk_seg dksL_law_35 23 rfl rfl
theorem dksL_law_37 : cL_law.data.toList.drop 997 = dktL_law_37 := dk_seg dksL_law_36 24 rfl rfl
theorem dksL_law_38 : cL_law.data.toList.drop 1021 = dktL_law_38 := dk_seg dksL_law_37 24 rfl rfl
theorem dksL_law_39 : cL_law.data.toList.drop 1045 = dktL_law_39 := dk_seg dksL_law_38 24 rfl rfl
theorem dksL_law_40 : cL_law.data.toList.drop 1069 = dktL_law_40 := dk_seg dksL_law_39 24 rfl rfl
theorem dksL_law_41 : cL_law.data.toList.drop 1091 = dktL_law_41 := dk_seg dksL_law_40 22 rfl rfl
theorem dksL_law_42 : cL_law.data.toList.drop 1115 = dktL_law_42 := dk_seg dksL_law_41 24 rfl rfl
theorem dksL_law_43 : cL_law.data.toList.drop 1139 = dktL_law_43 := dk_seg dksL_law_42 24 rfl rfl
theorem dL_law_0 : decode cL_law 0 = .ok (.new 7, 3) := dk_187 0 7 (dk_at dksL_law_0 0 rfl rfl)
theorem dL_law_3 : decode cL_law 3 = .ok (.dup, 1) := dk_89 (dk_at dksL_law_0 3 rfl rfl)
theorem dL_law_4 : decode cL_law 4 = .ok (.invokespecial 9, 3) := dk_183 0 9 (dk_at dksL_law_0 4 rfl rfl)
theorem dL_law_7 : decode cL_law 7 = .ok (.astore_n 1, 1) := dk_76 (dk_at dksL_law_0 7 rfl rfl)
theorem dL_law_8 : decode cL_law 8 = .ok (.new 10, 3) := dk_187 0 10 (dk_at dksL_law_0 8 rfl rfl)
theorem dL_law_11 : decode cL_law 11 = .ok (.dup, 1) := dk_89 (dk_at dksL_law_0 11 rfl rfl)
theorem dL_law_12 : decode cL_law 12 = .ok (.invokespecial 12, 3) := dk_183 0 12 (dk_at dksL_law_0 12 rfl rfl)
theorem dL_law_15 : decode cL_law 15 = .ok (.astore_n 2, 1) := dk_77 (dk_at dksL_law_0 15 rfl rfl)
theorem dL_law_16 : decode cL_law 16 = .ok (.iconst 0, 1) := dk_3 (dk_at dksL_law_0 16 rfl rfl)
theorem dL_law_17 : decode cL_law 17 = .ok (.istore_n 3, 1) := dk_62 (dk_at dksL_law_0 17 rfl rfl)
theorem dL_law_18 : decode cL_law 18 = .ok (.iload_n 3, 1) := dk_29 (dk_at dksL_law_0 18 rfl rfl)
theorem dL_law_19 : decode cL_law 19 = .ok (.aload_n 0, 1) := dk_42 (dk_at dksL_law_0 19 rfl rfl)
theorem dL_law_20 : decode cL_law 20 = .ok (.arraylength, 1) := dk_190 (dk_at dksL_law_0 20 rfl rfl)
theorem dL_law_21 : decode cL_law 21 = .ok (.iconst 4, 1) := dk_7 (dk_at dksL_law_0 21 rfl rfl)
theorem dL_law_22 : decode cL_law 22 = .ok (.isub, 1) := dk_100 (dk_at dksL_law_0 22 rfl rfl)
theorem dL_law_23 : decode cL_law 23 = .ok (.if_icmp .gt 1137, 3) := dk_163 4 113 (dk_at dksL_law_1 0 rfl rfl)
theorem dL_law_26 : decode cL_law 26 = .ok (.aload_n 0, 1) := dk_42 (dk_at dksL_law_1 3 rfl rfl)
theorem dL_law_27 : decode cL_law 27 = .ok (.iload_n 3, 1) := dk_29 (dk_at dksL_law_1 4 rfl rfl)
theorem dL_law_28 : decode cL_law 28 = .ok (.iaload, 1) := dk_46 (dk_at dksL_law_1 5 rfl rfl)
theorem dL_law_29 : decode cL_law 29 = .ok (.bipush 63, 2) := dk_16 63 (dk_at dksL_law_1 6 rfl rfl)
theorem dL_law_31 : decode cL_law 31 = .ok (.iand, 1) := dk_126 (dk_at dksL_law_1 8 rfl rfl)
theorem dL_law_32 : decode cL_law 32 = .ok (.tableswitch 1122 0 35 #[160, 193, 226, 249, 272, 305, 338, 361, 384, 427, 470, 503, 536, 559, 592, 625, 648, 671, 694, 717, 740, 773, 796, 819, 842, 855, 878, 891, 914, 953, 976, 989, 1040, 1083, 1096, 1109], 160) := by decide +kernel
theorem dL_law_192 : decode cL_law 192 = .ok (.aload_n 1, 1) := dk_43 (dk_at dksL_law_3 0 rfl rfl)
theorem dL_law_193 : decode cL_law 193 = .ok (.aload_n 0, 1) := dk_42 (dk_at dksL_law_3 1 rfl rfl)
theorem dL_law_194 : decode cL_law 194 = .ok (.iload_n 3, 1) := dk_29 (dk_at dksL_law_3 2 rfl rfl)
theorem dL_law_195 : decode cL_law 195 = .ok (.iconst 1, 1) := dk_4 (dk_at dksL_law_3 3 rfl rfl)
theorem dL_law_196 : decode cL_law 196 = .ok (.iadd, 1) := dk_96 (dk_at dksL_law_3 4 rfl rfl)
theorem dL_law_197 : decode cL_law 197 = .ok (.iaload, 1) := dk_46 (dk_at dksL_law_3 5 rfl rfl)
theorem dL_law_198 : decode cL_law 198 = .ok (.aload_n 0, 1) := dk_42 (dk_at dksL_law_3 6 rfl rfl)
theorem dL_law_199 : decode cL_law 199 = .ok (.iload_n 3, 1) := dk_29 (dk_at dksL_law_3 7 rfl rfl)
theorem dL_law_200 : decode cL_law 200 = .ok (.iconst 2, 1) := dk_5 (dk_at dksL_law_3 8 rfl rfl)
theorem dL_law_201 : decode cL_law 201 = .ok (.iadd, 1) := dk_96 (dk_at dksL_law_3 9 rfl rfl)
theorem dL_law_202 : decode cL_law 202 = .ok (.iaload, 1) := dk_46 (dk_at dksL_law_3 10 rfl rfl)
theorem dL_law_203 : decode cL_law 203 = .ok (.invokevirtual 13, 3) := dk_182 0 13 (dk_at dksL_law_3 11 rfl rfl)
theorem dL_law_206 : decode cL_law 206 = .ok (.aload_n 2, 1) := dk_44 (dk_at dksL_law_3 14 rfl rfl)
theorem dL_law_207 : decode cL_law 207 = .ok (.aload_n 0, 1) := dk_42 (dk_at dksL_law_3 15 rfl rfl)
theorem dL_law_208 : decode cL_law 208 = .ok (.iload_n 3, 1) := dk_29 (dk_at dksL_law_3 16 rfl rfl)
theorem dL_law_209 : decode cL_law 209 = .ok (.iconst 1, 1) := dk_4 (dk_at dksL_law_3 17 rfl rfl)
theorem dL_law_210 : decode cL_law 210 = .ok (.iadd, 1) := dk_96 (dk_at dksL_law_3 18 rfl rfl)
theorem dL_law_211 : decode cL_law 211 = .ok (.iaload, 1) := dk_46 (dk_at dksL_law_3 19 rfl rfl)
theorem dL_law_212 : decode cL_law 212 = .ok (.aload_n 0, 1) := dk_42 (dk_at dksL_law_3 20 rfl rfl)
theorem dL_law_213 : decode cL_law 213 = .ok (.iload_n 3, 1) := dk_29 (dk_at dksL_law_3 21 rfl rfl)
theorem dL_law_214 : decode cL_law 214 = .ok (.iconst 2, 1) := dk_5 (dk_at dksL_law_3 22 rfl rfl)
theorem dL_law_215 : decode cL_law 215 = .ok (.iadd, 1) := dk_96 (dk_at dksL_law_3 23 rfl rfl)
theorem dL_law_216 : decode cL_law 216 = .ok (.iaload, 1) := dk_46 (dk_at dksL_law_4 0 rfl rfl)
theorem dL_law_217 : decode cL_law 217 = .ok (.invokevirtual 17, 3) := dk_182 0 17 (dk_at dksL_law_4 1 rfl rfl)
theorem dL_law_220 : decode cL_law 220 = .ok (.if_icmp .eq 934, 3) := dk_159 3 166 (dk_at dksL_law_4 4 rfl rfl)
theorem dL_law_223 : decode cL_law 223 = .ok (.iconst 0, 1) := dk_3 (dk_at dksL_law_4 7 rfl rfl)
theorem dL_law_224 : decode cL_law 224 = .ok (.ireturn, 1) := dk_172 (dk_at dksL_law_4 8 rfl rfl)
theorem dL_law_225 : decode cL_law 225 = .ok (.aload_n 1, 1) := dk_43 (dk_at dksL_law_4 9 rfl rfl)
theorem dL_law_226 : decode cL_law 226 = .ok (.aload_n 0, 1) := dk_42 (dk_at dksL_law_4 10 rfl rfl)
theorem dL_law_227 : decode cL_law 227 = .ok (.iload_n 3, 1) := dk_29 (dk_at dksL_law_4 11 rfl rfl)
theorem dL_law_228 : decode cL_law 228 = .ok (.iconst 1, 1) := dk_4 (dk_at dksL_law_4 12 rfl rfl)
theorem dL_law_229 : decode cL_law 229 = .ok (.iadd, 1) := dk_96 (dk_at dksL_law_4 13 rfl rfl)
theorem dL_law_230 : decode cL_law 230 = .ok (.iaload, 1) := dk_46 (dk_at dksL_law_4 14 rfl rfl)
theorem dL_law_231 : decode cL_law 231 = .ok (.aload_n 0, 1) := dk_42 (dk_at dksL_law_4 15 rfl rfl)
theorem dL_law_232 : decode cL_law 232 = .ok (.iload_n 3, 1) := dk_29 (dk_at dksL_law_4 16 rfl rfl)
theorem dL_law_233 : decode cL_law 233 = .ok (.iconst 2, 1) := dk_5 (dk_at dksL_law_4 17 rfl rfl)
theorem dL_law_234 : decode cL_law 234 = .ok (.iadd, 1) := dk_96 (dk_at dksL_law_4 18 rfl rfl)
theorem dL_law_235 : decode cL_law 235 = .ok (.iaload, 1) := dk_46 (dk_at dksL_law_4 19 rfl rfl)
theorem dL_law_236 : decode cL_law 236 = .ok (.invokevirtual 18, 3) := dk_182 0 18 (dk_at dksL_law_4 20 rfl rfl)
theorem dL_law_239 : decode cL_law 239 = .ok (.aload_n 2, 1) := dk_44 (dk_at dksL_law_4 23 rfl rfl)
theorem dL_law_240 : decode cL_law 240 = .ok (.aload_n 0, 1) := dk_42 (dk_at dksL_law_5 0 rfl rfl)
theorem dL_law_241 : decode cL_law 241 = .ok (.iload_n 3, 1) := dk_29 (dk_at dksL_law_5 1 rfl rfl)
theorem dL_law_242 : decode cL_law 242 = .ok (.iconst 1, 1) := dk_4 (dk_at dksL_law_5 2 rfl rfl)
theorem dL_law_243 : decode cL_law 243 = .ok (.iadd, 1) := dk_96 (dk_at dksL_law_5 3 rfl rfl)
theorem dL_law_244 : decode cL_law 244 = .ok (.iaload, 1) := dk_46 (dk_at dksL_law_5 4 rfl rfl)
theorem dL_law_245 : decode cL_law 245 = .ok (.aload_n 0, 1) := dk_42 (dk_at dksL_law_5 5 rfl rfl)
theorem dL_law_246 : decode cL_law 246 = .ok (.iload_n 3, 1) := dk_29 (dk_at dksL_law_5 6 rfl rfl)
theorem dL_law_247 : decode cL_law 247 = .ok (.iconst 2, 1) := dk_5 (dk_at dksL_law_5 7 rfl rfl)
theorem dL_law_248 : decode cL_law 248 = .ok (.iadd, 1) := dk_96 (dk_at dksL_law_5 8 rfl rfl)
theorem dL_law_249 : decode cL_law 249 = .ok (.iaload, 1) := dk_46 (dk_at dksL_law_5 9 rfl rfl)
theorem dL_law_250 : decode cL_law 250 = .ok (.invokevirtual 21, 3) := dk_182 0 21 (dk_at dksL_law_5 10 rfl rfl)
theorem dL_law_253 : decode cL_law 253 = .ok (.if_icmp .eq 901, 3) := dk_159 3 133 (dk_at dksL_law_5 13 rfl rfl)
theorem dL_law_256 : decode cL_law 256 = .ok (.iconst 0, 1) := dk_3 (dk_at dksL_law_5 16 rfl rfl)
theorem dL_law_257 : decode cL_law 257 = .ok (.ireturn, 1) := dk_172 (dk_at dksL_law_5 17 rfl rfl)
theorem dL_law_258 : decode cL_law 258 = .ok (.aload_n 1, 1) := dk_43 (dk_at dksL_law_5 18 rfl rfl)
theorem dL_law_259 : decode cL_law 259 = .ok (.aload_n 0, 1) := dk_42 (dk_at dksL_law_5 19 rfl rfl)
theorem dL_law_260 : decode cL_law 260 = .ok (.iload_n 3, 1) := dk_29 (dk_at dksL_law_5 20 rfl rfl)
theorem dL_law_261 : decode cL_law 261 = .ok (.iconst 1, 1) := dk_4 (dk_at dksL_law_5 21 rfl rfl)
theorem dL_law_262 : decode cL_law 262 = .ok (.iadd, 1) := dk_96 (dk_at dksL_law_5 22 rfl rfl)
theorem dL_law_263 : decode cL_law 263 = .ok (.iaload, 1) := dk_46 (dk_at dksL_law_5 23 rfl rfl)
theorem dL_law_264 : decode cL_law 264 = .ok (.invokevirtual 22, 3) := dk_182 0 22 (dk_at dksL_law_6 0 rfl rfl)
theorem dL_law_267 : decode cL_law 267 = .ok (.aload_n 2, 1) := dk_44 (dk_at dksL_law_6 3 rfl rfl)
theorem dL_law_268 : decode cL_law 268 = .ok (.aload_n 0, 1) := dk_42 (dk_at dksL_law_6 4 rfl rfl)
theorem dL_law_269 : decode cL_law 269 = .ok (.iload_n 3, 1) := dk_29 (dk_at dksL_law_6 5 rfl rfl)
theorem dL_law_270 : decode cL_law 270 = .ok (.iconst 1, 1) := dk_4 (dk_at dksL_law_6 6 rfl rfl)
theorem dL_law_271 : decode cL_law 271 = .ok (.iadd, 1) := dk_96 (dk_at dksL_law_6 7 rfl rfl)
theorem dL_law_272 : decode cL_law 272 = .ok (.iaload, 1) := dk_46 (dk_at dksL_law_6 8 rfl rfl)
theorem dL_law_273 : decode cL_law 273 = .ok (.invokevirtual 26, 3) := dk_182 0 26 (dk_at dksL_law_6 9 rfl rfl)
theorem dL_law_276 : decode cL_law 276 = .ok (.if_icmp .eq 878, 3) := dk_159 3 110 (dk_at dksL_law_6 12 rfl rfl)
theorem dL_law_279 : decode cL_law 279 = .ok (.iconst 0, 1) := dk_3 (dk_at dksL_law_6 15 rfl rfl)
theorem dL_law_280 : decode cL_law 280 = .ok (.ireturn, 1) := dk_172 (dk_at dksL_law_6 16 rfl rfl)
theorem dL_law_281 : decode cL_law 281 = .ok (.aload_n 1, 1) := dk_43 (dk_at dksL_law_6 17 rfl rfl)
theorem dL_law_282 : decode cL_law 282 = .ok (.aload_n 0, 1) := dk_42 (dk_at dksL_law_6 18 rfl rfl)
theorem dL_law_283 : decode cL_law 283 = .ok (.iload_n 3, 1) := dk_29 (dk_at dksL_law_6 19 rfl rfl)
theorem dL_law_284 : decode cL_law 284 = .ok (.iconst 1, 1) := dk_4 (dk_at dksL_law_6 20 rfl rfl)
theorem dL_law_285 : decode cL_law 285 = .ok (.iadd, 1) := dk_96 (dk_at dksL_law_6 21 rfl rfl)
theorem dL_law_286 : decode cL_law 286 = .ok (.iaload, 1) := dk_46 (dk_at dksL_law_6 22 rfl rfl)
theorem dL_law_287 : decode cL_law 287 = .ok (.invokevirtual 27, 3) := dk_182 0 27 (dk_at dksL_law_7 0 rfl rfl)
theorem dL_law_290 : decode cL_law 290 = .ok (.aload_n 2, 1) := dk_44 (dk_at dksL_law_7 3 rfl rfl)
theorem dL_law_291 : decode cL_law 291 = .ok (.aload_n 0, 1) := dk_42 (dk_at dksL_law_7 4 rfl rfl)
theorem dL_law_292 : decode cL_law 292 = .ok (.iload_n 3, 1) := dk_29 (dk_at dksL_law_7 5 rfl rfl)
theorem dL_law_293 : decode cL_law 293 = .ok (.iconst 1, 1) := dk_4 (dk_at dksL_law_7 6 rfl rfl)
theorem dL_law_294 : decode cL_law 294 = .ok (.iadd, 1) := dk_96 (dk_at dksL_law_7 7 rfl rfl)
theorem dL_law_295 : decode cL_law 295 = .ok (.iaload, 1) := dk_46 (dk_at dksL_law_7 8 rfl rfl)
theorem dL_law_296 : decode cL_law 296 = .ok (.invokevirtual 30, 3) := dk_182 0 30 (dk_at dksL_law_7 9 rfl rfl)
theorem dL_law_299 : decode cL_law 299 = .ok (.if_icmp .eq 855, 3) := dk_159 3 87 (dk_at dksL_law_7 12 rfl rfl)
theorem dL_law_302 : decode cL_law 302 = .ok (.iconst 0, 1) := dk_3 (dk_at dksL_law_7 15 rfl rfl)
theorem dL_law_303 : decode cL_law 303 = .ok (.ireturn, 1) := dk_172 (dk_at dksL_law_7 16 rfl rfl)
theorem dL_law_304 : decode cL_law 304 = .ok (.aload_n 1, 1) := dk_43 (dk_at dksL_law_7 17 rfl rfl)
theorem dL_law_305 : decode cL_law 305 = .ok (.aload_n 0, 1) := dk_42 (dk_at dksL_law_7 18 rfl rfl)
theorem dL_law_306 : decode cL_law 306 = .ok (.iload_n 3, 1) := dk_29 (dk_at dksL_law_7 19 rfl rfl)
theorem dL_law_307 : decode cL_law 307 = .ok (.iconst 1, 1) := dk_4 (dk_at dksL_law_7 20 rfl rfl)
theorem dL_law_308 : decode cL_law 308 = .ok (.iadd, 1) := dk_96 (dk_at dksL_law_7 21 rfl rfl)
theorem dL_law_309 : decode cL_law 309 = .ok (.iaload, 1) := dk_46 (dk_at dksL_law_7 22 rfl rfl)
theorem dL_law_310 : decode cL_law 310 = .ok (.aload_n 0, 1) := dk_42 (dk_at dksL_law_7 23 rfl rfl)
theorem dL_law_311 : decode cL_law 311 = .ok (.iload_n 3, 1) := dk_29 (dk_at dksL_law_8 0 rfl rfl)
theorem dL_law_312 : decode cL_law 312 = .ok (.iconst 2, 1) := dk_5 (dk_at dksL_law_8 1 rfl rfl)
theorem dL_law_313 : decode cL_law 313 = .ok (.iadd, 1) := dk_96 (dk_at dksL_law_8 2 rfl rfl)
theorem dL_law_314 : decode cL_law 314 = .ok (.iaload, 1) := dk_46 (dk_at dksL_law_8 3 rfl rfl)
theorem dL_law_315 : decode cL_law 315 = .ok (.invokevirtual 31, 3) := dk_182 0 31 (dk_at dksL_law_8 4 rfl rfl)
theorem dL_law_318 : decode cL_law 318 = .ok (.aload_n 2, 1) := dk_44 (dk_at dksL_law_8 7 rfl rfl)
theorem dL_law_319 : decode cL_law 319 = .ok (.aload_n 0, 1) := dk_42 (dk_at dksL_law_8 8 rfl rfl)
theorem dL_law_320 : decode cL_law 320 = .ok (.iload_n 3, 1) := dk_29 (dk_at dksL_law_8 9 rfl rfl)
theorem dL_law_321 : decode cL_law 321 = .ok (.iconst 1, 1) := dk_4 (dk_at dksL_law_8 10 rfl rfl)
theorem dL_law_322 : decode cL_law 322 = .ok (.iadd, 1) := dk_96 (dk_at dksL_law_8 11 rfl rfl)
theorem dL_law_323 : decode cL_law 323 = .ok (.iaload, 1) := dk_46 (dk_at dksL_law_8 12 rfl rfl)
theorem dL_law_324 : decode cL_law 324 = .ok (.aload_n 0, 1) := dk_42 (dk_at dksL_law_8 13 rfl rfl)
theorem dL_law_325 : decode cL_law 325 = .ok (.iload_n 3, 1) := dk_29 (dk_at dksL_law_8 14 rfl rfl)
theorem dL_law_326 : decode cL_law 326 = .ok (.iconst 2, 1) := dk_5 (dk_at dksL_law_8 15 rfl rfl)
theorem dL_law_327 : decode cL_law 327 = .ok (.iadd, 1) := dk_96 (dk_at dksL_law_8 16 rfl rfl)
theorem dL_law_328 : decode cL_law 328 = .ok (.iaload, 1) := dk_46 (dk_at dksL_law_8 17 rfl rfl)
theorem dL_law_329 : decode cL_law 329 = .ok (.invokevirtual 34, 3) := dk_182 0 34 (dk_at dksL_law_8 18 rfl rfl)
theorem dL_law_332 : decode cL_law 332 = .ok (.if_icmp .eq 822, 3) := dk_159 3 54 (dk_at dksL_law_8 21 rfl rfl)
theorem dL_law_335 : decode cL_law 335 = .ok (.iconst 0, 1) := dk_3 (dk_at dksL_law_9 0 rfl rfl)
theorem dL_law_336 : decode cL_law 336 = .ok (.ireturn, 1) := dk_172 (dk_at dksL_law_9 1 rfl rfl)
theorem dL_law_337 : decode cL_law 337 = .ok (.aload_n 1, 1) := dk_43 (dk_at dksL_law_9 2 rfl rfl)
theorem dL_law_338 : decode cL_law 338 = .ok (.aload_n 0, 1) := dk_42 (dk_at dksL_law_9 3 rfl rfl)
theorem dL_law_339 : decode cL_law 339 = .ok (.iload_n 3, 1) := dk_29 (dk_at dksL_law_9 4 rfl rfl)
theorem dL_law_340 : decode cL_law 340 = .ok (.iconst 1, 1) := dk_4 (dk_at dksL_law_9 5 rfl rfl)
theorem dL_law_341 : decode cL_law 341 = .ok (.iadd, 1) := dk_96 (dk_at dksL_law_9 6 rfl rfl)
theorem dL_law_342 : decode cL_law 342 = .ok (.iaload, 1) := dk_46 (dk_at dksL_law_9 7 rfl rfl)
theorem dL_law_343 : decode cL_law 343 = .ok (.aload_n 0, 1) := dk_42 (dk_at dksL_law_9 8 rfl rfl)
theorem dL_law_344 : decode cL_law 344 = .ok (.iload_n 3, 1) := dk_29 (dk_at dksL_law_9 9 rfl rfl)
theorem dL_law_345 : decode cL_law 345 = .ok (.iconst 2, 1) := dk_5 (dk_at dksL_law_9 10 rfl rfl)
theorem dL_law_346 : decode cL_law 346 = .ok (.iadd, 1) := dk_96 (dk_at dksL_law_9 11 rfl rfl)
theorem dL_law_347 : decode cL_law 347 = .ok (.iaload, 1) := dk_46 (dk_at dksL_law_9 12 rfl rfl)
theorem dL_law_348 : decode cL_law 348 = .ok (.invokevirtual 35, 3) := dk_182 0 35 (dk_at dksL_law_9 13 rfl rfl)
theorem dL_law_351 : decode cL_law 351 = .ok (.aload_n 2, 1) := dk_44 (dk_at dksL_law_9 16 rfl rfl)
theorem dL_law_352 : decode cL_law 352 = .ok (.aload_n 0, 1) := dk_42 (dk_at dksL_law_9 17 rfl rfl)
theorem dL_law_353 : decode cL_law 353 = .ok (.iload_n 3, 1) := dk_29 (dk_at dksL_law_9 18 rfl rfl)
theorem dL_law_354 : decode cL_law 354 = .ok (.iconst 1, 1) := dk_4 (dk_at dksL_law_9 19 rfl rfl)
theorem dL_law_355 : decode cL_law 355 = .ok (.iadd, 1) := dk_96 (dk_at dksL_law_9 20 rfl rfl)
theorem dL_law_356 : decode cL_law 356 = .ok (.iaload, 1) := dk_46 (dk_at dksL_law_9 21 rfl rfl)
theorem dL_law_357 : decode cL_law 357 = .ok (.aload_n 0, 1) := dk_42 (dk_at dksL_law_9 22 rfl rfl)
theorem dL_law_358 : decode cL_law 358 = .ok (.iload_n 3, 1) := dk_29 (dk_at dksL_law_9 23 rfl rfl)
theorem dL_law_359 : decode cL_law 359 = .ok (.iconst 2, 1) := dk_5 (dk_at dksL_law_10 0 rfl rfl)
theorem dL_law_360 : decode cL_law 360 = .ok (.iadd, 1) := dk_96 (dk_at dksL_law_10 1 rfl rfl)
theorem dL_law_361 : decode cL_law 361 = .ok (.iaload, 1) := dk_46 (dk_at dksL_law_10 2 rfl rfl)
theorem dL_law_362 : decode cL_law 362 = .ok (.invokevirtual 38, 3) := dk_182 0 38 (dk_at dksL_law_10 3 rfl rfl)
theorem dL_law_365 : decode cL_law 365 = .ok (.if_icmp .eq 789, 3) := dk_159 3 21 (dk_at dksL_law_10 6 rfl rfl)
theorem dL_law_368 : decode cL_law 368 = .ok (.iconst 0, 1) := dk_3 (dk_at dksL_law_10 9 rfl rfl)
theorem dL_law_369 : decode cL_law 369 = .ok (.ireturn, 1) := dk_172 (dk_at dksL_law_10 10 rfl rfl)
theorem dL_law_370 : decode cL_law 370 = .ok (.aload_n 1, 1) := dk_43 (dk_at dksL_law_10 11 rfl rfl)
theorem dL_law_371 : decode cL_law 371 = .ok (.aload_n 0, 1) := dk_42 (dk_at dksL_law_10 12 rfl rfl)
theorem dL_law_372 : decode cL_law 372 = .ok (.iload_n 3, 1) := dk_29 (dk_at dksL_law_10 13 rfl rfl)
theorem dL_law_373 : decode cL_law 373 = .ok (.iconst 1, 1) := dk_4 (dk_at dksL_law_10 14 rfl rfl)
theorem dL_law_374 : decode cL_law 374 = .ok (.iadd, 1) := dk_96 (dk_at dksL_law_10 15 rfl rfl)
theorem dL_law_375 : decode cL_law 375 = .ok (.iaload, 1) := dk_46 (dk_at dksL_law_10 16 rfl rfl)
theorem dL_law_376 : decode cL_law 376 = .ok (.invokevirtual 39, 3) := dk_182 0 39 (dk_at dksL_law_10 17 rfl rfl)
theorem dL_law_379 : decode cL_law 379 = .ok (.aload_n 2, 1) := dk_44 (dk_at dksL_law_10 20 rfl rfl)
theorem dL_law_380 : decode cL_law 380 = .ok (.aload_n 0, 1) := dk_42 (dk_at dksL_law_10 21 rfl rfl)
theorem dL_law_381 : decode cL_law 381 = .ok (.iload_n 3, 1) := dk_29 (dk_at dksL_law_10 22 rfl rfl)
theorem dL_law_382 : decode cL_law 382 = .ok (.iconst 1, 1) := dk_4 (dk_at dksL_law_10 23 rfl rfl)
theorem dL_law_383 : decode cL_law 383 = .ok (.iadd, 1) := dk_96 (dk_at dksL_law_11 0 rfl rfl)
theorem dL_law_384 : decode cL_law 384 = .ok (.iaload, 1) := dk_46 (dk_at dksL_law_11 1 rfl rfl)
theorem dL_law_385 : decode cL_law 385 = .ok (.invokevirtual 42, 3) := dk_182 0 42 (dk_at dksL_law_11 2 rfl rfl)
theorem dL_law_388 : decode cL_law 388 = .ok (.if_icmp .eq 766, 3) := dk_159 2 254 (dk_at dksL_law_11 5 rfl rfl)
theorem dL_law_391 : decode cL_law 391 = .ok (.iconst 0, 1) := dk_3 (dk_at dksL_law_11 8 rfl rfl)
theorem dL_law_392 : decode cL_law 392 = .ok (.ireturn, 1) := dk_172 (dk_at dksL_law_11 9 rfl rfl)
theorem dL_law_393 : decode cL_law 393 = .ok (.aload_n 1, 1) := dk_43 (dk_at dksL_law_11 10 rfl rfl)
theorem dL_law_394 : decode cL_law 394 = .ok (.aload_n 0, 1) := dk_42 (dk_at dksL_law_11 11 rfl rfl)
theorem dL_law_395 : decode cL_law 395 = .ok (.iload_n 3, 1) := dk_29 (dk_at dksL_law_11 12 rfl rfl)
theorem dL_law_396 : decode cL_law 396 = .ok (.iconst 1, 1) := dk_4 (dk_at dksL_law_11 13 rfl rfl)
theorem dL_law_397 : decode cL_law 397 = .ok (.iadd, 1) := dk_96 (dk_at dksL_law_11 14 rfl rfl)
theorem dL_law_398 : decode cL_law 398 = .ok (.iaload, 1) := dk_46 (dk_at dksL_law_11 15 rfl rfl)
theorem dL_law_399 : decode cL_law 399 = .ok (.invokevirtual 43, 3) := dk_182 0 43 (dk_at dksL_law_11 16 rfl rfl)
theorem dL_law_402 : decode cL_law 402 = .ok (.aload_n 2, 1) := dk_44 (dk_at dksL_law_11 19 rfl rfl)
theorem dL_law_403 : decode cL_law 403 = .ok (.aload_n 0, 1) := dk_42 (dk_at dksL_law_11 20 rfl rfl)
theorem dL_law_404 : decode cL_law 404 = .ok (.iload_n 3, 1) := dk_29 (dk_at dksL_law_11 21 rfl rfl)
theorem dL_law_405 : decode cL_law 405 = .ok (.iconst 1, 1) := dk_4 (dk_at dksL_law_11 22 rfl rfl)
theorem dL_law_406 : decode cL_law 406 = .ok (.iadd, 1) := dk_96 (dk_at dksL_law_11 23 rfl rfl)
theorem dL_law_407 : decode cL_law 407 = .ok (.iaload, 1) := dk_46 (dk_at dksL_law_12 0 rfl rfl)
theorem dL_law_408 : decode cL_law 408 = .ok (.invokevirtual 46, 3) := dk_182 0 46 (dk_at dksL_law_12 1 rfl rfl)
theorem dL_law_411 : decode cL_law 411 = .ok (.if_icmp .eq 743, 3) := dk_159 2 231 (dk_at dksL_law_12 4 rfl rfl)
theorem dL_law_414 : decode cL_law 414 = .ok (.iconst 0, 1) := dk_3 (dk_at dksL_law_12 7 rfl rfl)
theorem dL_law_415 : decode cL_law 415 = .ok (.ireturn, 1) := dk_172 (dk_at dksL_law_12 8 rfl rfl)
theorem dL_law_416 : decode cL_law 416 = .ok (.aload_n 1, 1) := dk_43 (dk_at dksL_law_12 9 rfl rfl)
theorem dL_law_417 : decode cL_law 417 = .ok (.aload_n 0, 1) := dk_42 (dk_at dksL_law_12 10 rfl rfl)
theorem dL_law_418 : decode cL_law 418 = .ok (.iload_n 3, 1) := dk_29 (dk_at dksL_law_12 11 rfl rfl)
theorem dL_law_419 : decode cL_law 419 = .ok (.iconst 1, 1) := dk_4 (dk_at dksL_law_12 12 rfl rfl)
theorem dL_law_420 : decode cL_law 420 = .ok (.iadd, 1) := dk_96 (dk_at dksL_law_12 13 rfl rfl)
theorem dL_law_421 : decode cL_law 421 = .ok (.iaload, 1) := dk_46 (dk_at dksL_law_12 14 rfl rfl)
theorem dL_law_422 : decode cL_law 422 = .ok (.aload_n 0, 1) := dk_42 (dk_at dksL_law_12 15 rfl rfl)
theorem dL_law_423 : decode cL_law 423 = .ok (.iload_n 3, 1) := dk_29 (dk_at dksL_law_12 16 rfl rfl)
theorem dL_law_424 : decode cL_law 424 = .ok (.iconst 2, 1) := dk_5 (dk_at dksL_law_12 17 rfl rfl)
theorem dL_law_425 : decode cL_law 425 = .ok (.iadd, 1) := dk_96 (dk_at dksL_law_12 18 rfl rfl)
theorem dL_law_426 : decode cL_law 426 = .ok (.iaload, 1) := dk_46 (dk_at dksL_law_12 19 rfl rfl)
theorem dL_law_427 : decode cL_law 427 = .ok (.aload_n 0, 1) := dk_42 (dk_at dksL_law_12 20 rfl rfl)
theorem dL_law_428 : decode cL_law 428 = .ok (.iload_n 3, 1) := dk_29 (dk_at dksL_law_12 21 rfl rfl)
theorem dL_law_429 : decode cL_law 429 = .ok (.iconst 3, 1) := dk_6 (dk_at dksL_law_12 22 rfl rfl)
theorem dL_law_430 : decode cL_law 430 = .ok (.iadd, 1) := dk_96 (dk_at dksL_law_12 23 rfl rfl)
theorem dL_law_431 : decode cL_law 431 = .ok (.iaload, 1) := dk_46 (dk_at dksL_law_13 0 rfl rfl)
theorem dL_law_432 : decode cL_law 432 = .ok (.invokevirtual 47, 3) := dk_182 0 47 (dk_at dksL_law_13 1 rfl rfl)
theorem dL_law_435 : decode cL_law 435 = .ok (.aload_n 2, 1) := dk_44 (dk_at dksL_law_13 4 rfl rfl)
theorem dL_law_436 : decode cL_law 436 = .ok (.aload_n 0, 1) := dk_42 (dk_at dksL_law_13 5 rfl rfl)
theorem dL_law_437 : decode cL_law 437 = .ok (.iload_n 3, 1) := dk_29 (dk_at dksL_law_13 6 rfl rfl)
theorem dL_law_438 : decode cL_law 438 = .ok (.iconst 1, 1) := dk_4 (dk_at dksL_law_13 7 rfl rfl)
theorem dL_law_439 : decode cL_law 439 = .ok (.iadd, 1) := dk_96 (dk_at dksL_law_13 8 rfl rfl)
theorem dL_law_440 : decode cL_law 440 = .ok (.iaload, 1) := dk_46 (dk_at dksL_law_13 9 rfl rfl)
theorem dL_law_441 : decode cL_law 441 = .ok (.aload_n 0, 1) := dk_42 (dk_at dksL_law_13 10 rfl rfl)
theorem dL_law_442 : decode cL_law 442 = .ok (.iload_n 3, 1) := dk_29 (dk_at dksL_law_13 11 rfl rfl)
theorem dL_law_443 : decode cL_law 443 = .ok (.iconst 2, 1) := dk_5 (dk_at dksL_law_13 12 rfl rfl)
theorem dL_law_444 : decode cL_law 444 = .ok (.iadd, 1) := dk_96 (dk_at dksL_law_13 13 rfl rfl)
theorem dL_law_445 : decode cL_law 445 = .ok (.iaload, 1) := dk_46 (dk_at dksL_law_13 14 rfl rfl)
theorem dL_law_446 : decode cL_law 446 = .ok (.aload_n 0, 1) := dk_42 (dk_at dksL_law_13 15 rfl rfl)
theorem dL_law_447 : decode cL_law 447 = .ok (.iload_n 3, 1) := dk_29 (dk_at dksL_law_13 16 rfl rfl)
theorem dL_law_448 : decode cL_law 448 = .ok (.iconst 3, 1) := dk_6 (dk_at dksL_law_13 17 rfl rfl)
theorem dL_law_449 : decode cL_law 449 = .ok (.iadd, 1) := dk_96 (dk_at dksL_law_13 18 rfl rfl)
theorem dL_law_450 : decode cL_law 450 = .ok (.iaload, 1) := dk_46 (dk_at dksL_law_13 19 rfl rfl)
theorem dL_law_451 : decode cL_law 451 = .ok (.invokevirtual 51, 3) := dk_182 0 51 (dk_at dksL_law_13 20 rfl rfl)
theorem dL_law_454 : decode cL_law 454 = .ok (.if_icmp .eq 700, 3) := dk_159 2 188 (dk_at dksL_law_14 0 rfl rfl)
theorem dL_law_457 : decode cL_law 457 = .ok (.iconst 0, 1) := dk_3 (dk_at dksL_law_14 3 rfl rfl)
theorem dL_law_458 : decode cL_law 458 = .ok (.ireturn, 1) := dk_172 (dk_at dksL_law_14 4 rfl rfl)
theorem dL_law_459 : decode cL_law 459 = .ok (.aload_n 1, 1) := dk_43 (dk_at dksL_law_14 5 rfl rfl)
theorem dL_law_460 : decode cL_law 460 = .ok (.aload_n 0, 1) := dk_42 (dk_at dksL_law_14 6 rfl rfl)
theorem dL_law_461 : decode cL_law 461 = .ok (.iload_n 3, 1) := dk_29 (dk_at dksL_law_14 7 rfl rfl)
theorem dL_law_462 : decode cL_law 462 = .ok (.iconst 1, 1) := dk_4 (dk_at dksL_law_14 8 rfl rfl)
theorem dL_law_463 : decode cL_law 463 = .ok (.iadd, 1) := dk_96 (dk_at dksL_law_14 9 rfl rfl)
theorem dL_law_464 : decode cL_law 464 = .ok (.iaload, 1) := dk_46 (dk_at dksL_law_14 10 rfl rfl)
theorem dL_law_465 : decode cL_law 465 = .ok (.aload_n 0, 1) := dk_42 (dk_at dksL_law_14 11 rfl rfl)
theorem dL_law_466 : decode cL_law 466 = .ok (.iload_n 3, 1) := dk_29 (dk_at dksL_law_14 12 rfl rfl)
theorem dL_law_467 : decode cL_law 467 = .ok (.iconst 2, 1) := dk_5 (dk_at dksL_law_14 13 rfl rfl)
theorem dL_law_468 : decode cL_law 468 = .ok (.iadd, 1) := dk_96 (dk_at dksL_law_14 14 rfl rfl)
theorem dL_law_469 : decode cL_law 469 = .ok (.iaload, 1) := dk_46 (dk_at dksL_law_14 15 rfl rfl)
theorem dL_law_470 : decode cL_law 470 = .ok (.aload_n 0, 1) := dk_42 (dk_at dksL_law_14 16 rfl rfl)
theorem dL_law_471 : decode cL_law 471 = .ok (.iload_n 3, 1) := dk_29 (dk_at dksL_law_14 17 rfl rfl)
theorem dL_law_472 : decode cL_law 472 = .ok (.iconst 3, 1) := dk_6 (dk_at dksL_law_14 18 rfl rfl)
theorem dL_law_473 : decode cL_law 473 = .ok (.iadd, 1) := dk_96 (dk_at dksL_law_14 19 rfl rfl)
theorem dL_law_474 : decode cL_law 474 = .ok (.iaload, 1) := dk_46 (dk_at dksL_law_14 20 rfl rfl)
theorem dL_law_475 : decode cL_law 475 = .ok (.invokevirtual 52, 3) := dk_182 0 52 (dk_at dksL_law_14 21 rfl rfl)
theorem dL_law_478 : decode cL_law 478 = .ok (.aload_n 2, 1) := dk_44 (dk_at dksL_law_15 0 rfl rfl)
theorem dL_law_479 : decode cL_law 479 = .ok (.aload_n 0, 1) := dk_42 (dk_at dksL_law_15 1 rfl rfl)
theorem dL_law_480 : decode cL_law 480 = .ok (.iload_n 3, 1) := dk_29 (dk_at dksL_law_15 2 rfl rfl)
theorem dL_law_481 : decode cL_law 481 = .ok (.iconst 1, 1) := dk_4 (dk_at dksL_law_15 3 rfl rfl)
theorem dL_law_482 : decode cL_law 482 = .ok (.iadd, 1) := dk_96 (dk_at dksL_law_15 4 rfl rfl)
theorem dL_law_483 : decode cL_law 483 = .ok (.iaload, 1) := dk_46 (dk_at dksL_law_15 5 rfl rfl)
theorem dL_law_484 : decode cL_law 484 = .ok (.aload_n 0, 1) := dk_42 (dk_at dksL_law_15 6 rfl rfl)
theorem dL_law_485 : decode cL_law 485 = .ok (.iload_n 3, 1) := dk_29 (dk_at dksL_law_15 7 rfl rfl)
theorem dL_law_486 : decode cL_law 486 = .ok (.iconst 2, 1) := dk_5 (dk_at dksL_law_15 8 rfl rfl)
theorem dL_law_487 : decode cL_law 487 = .ok (.iadd, 1) := dk_96 (dk_at dksL_law_15 9 rfl rfl)
theorem dL_law_488 : decode cL_law 488 = .ok (.iaload, 1) := dk_46 (dk_at dksL_law_15 10 rfl rfl)
theorem dL_law_489 : decode cL_law 489 = .ok (.aload_n 0, 1) := dk_42 (dk_at dksL_law_15 11 rfl rfl)
theorem dL_law_490 : decode cL_law 490 = .ok (.iload_n 3, 1) := dk_29 (dk_at dksL_law_15 12 rfl rfl)
theorem dL_law_491 : decode cL_law 491 = .ok (.iconst 3, 1) := dk_6 (dk_at dksL_law_15 13 rfl rfl)
theorem dL_law_492 : decode cL_law 492 = .ok (.iadd, 1) := dk_96 (dk_at dksL_law_15 14 rfl rfl)
theorem dL_law_493 : decode cL_law 493 = .ok (.iaload, 1) := dk_46 (dk_at dksL_law_15 15 rfl rfl)
theorem dL_law_494 : decode cL_law 494 = .ok (.invokevirtual 55, 3) := dk_182 0 55 (dk_at dksL_law_15 16 rfl rfl)
theorem dL_law_497 : decode cL_law 497 = .ok (.if_icmp .eq 657, 3) := dk_159 2 145 (dk_at dksL_law_15 19 rfl rfl)
theorem dL_law_500 : decode cL_law 500 = .ok (.iconst 0, 1) := dk_3 (dk_at dksL_law_15 22 rfl rfl)
theorem dL_law_501 : decode cL_law 501 = .ok (.ireturn, 1) := dk_172 (dk_at dksL_law_15 23 rfl rfl)
theorem dL_law_502 : decode cL_law 502 = .ok (.aload_n 1, 1) := dk_43 (dk_at dksL_law_16 0 rfl rfl)
theorem dL_law_503 : decode cL_law 503 = .ok (.aload_n 0, 1) := dk_42 (dk_at dksL_law_16 1 rfl rfl)
theorem dL_law_504 : decode cL_law 504 = .ok (.iload_n 3, 1) := dk_29 (dk_at dksL_law_16 2 rfl rfl)
theorem dL_law_505 : decode cL_law 505 = .ok (.iconst 1, 1) := dk_4 (dk_at dksL_law_16 3 rfl rfl)
theorem dL_law_506 : decode cL_law 506 = .ok (.iadd, 1) := dk_96 (dk_at dksL_law_16 4 rfl rfl)
theorem dL_law_507 : decode cL_law 507 = .ok (.iaload, 1) := dk_46 (dk_at dksL_law_16 5 rfl rfl)
theorem dL_law_508 : decode cL_law 508 = .ok (.aload_n 0, 1) := dk_42 (dk_at dksL_law_16 6 rfl rfl)
theorem dL_law_509 : decode cL_law 509 = .ok (.iload_n 3, 1) := dk_29 (dk_at dksL_law_16 7 rfl rfl)
theorem dL_law_510 : decode cL_law 510 = .ok (.iconst 2, 1) := dk_5 (dk_at dksL_law_16 8 rfl rfl)
theorem dL_law_511 : decode cL_law 511 = .ok (.iadd, 1) := dk_96 (dk_at dksL_law_16 9 rfl rfl)
theorem dL_law_512 : decode cL_law 512 = .ok (.iaload, 1) := dk_46 (dk_at dksL_law_16 10 rfl rfl)
theorem dL_law_513 : decode cL_law 513 = .ok (.invokevirtual 56, 3) := dk_182 0 56 (dk_at dksL_law_16 11 rfl rfl)
theorem dL_law_516 : decode cL_law 516 = .ok (.aload_n 2, 1) := dk_44 (dk_at dksL_law_16 14 rfl rfl)
theorem dL_law_517 : decode cL_law 517 = .ok (.aload_n 0, 1) := dk_42 (dk_at dksL_law_16 15 rfl rfl)
theorem dL_law_518 : decode cL_law 518 = .ok (.iload_n 3, 1) := dk_29 (dk_at dksL_law_16 16 rfl rfl)
theorem dL_law_519 : decode cL_law 519 = .ok (.iconst 1, 1) := dk_4 (dk_at dksL_law_16 17 rfl rfl)
theorem dL_law_520 : decode cL_law 520 = .ok (.iadd, 1) := dk_96 (dk_at dksL_law_16 18 rfl rfl)
theorem dL_law_521 : decode cL_law 521 = .ok (.iaload, 1) := dk_46 (dk_at dksL_law_16 19 rfl rfl)
theorem dL_law_522 : decode cL_law 522 = .ok (.aload_n 0, 1) := dk_42 (dk_at dksL_law_16 20 rfl rfl)
theorem dL_law_523 : decode cL_law 523 = .ok (.iload_n 3, 1) := dk_29 (dk_at dksL_law_16 21 rfl rfl)
theorem dL_law_524 : decode cL_law 524 = .ok (.iconst 2, 1) := dk_5 (dk_at dksL_law_16 22 rfl rfl)
theorem dL_law_525 : decode cL_law 525 = .ok (.iadd, 1) := dk_96 (dk_at dksL_law_16 23 rfl rfl)
theorem dL_law_526 : decode cL_law 526 = .ok (.iaload, 1) := dk_46 (dk_at dksL_law_17 0 rfl rfl)
theorem dL_law_527 : decode cL_law 527 = .ok (.invokevirtual 59, 3) := dk_182 0 59 (dk_at dksL_law_17 1 rfl rfl)
theorem dL_law_530 : decode cL_law 530 = .ok (.if_icmp .eq 624, 3) := dk_159 2 112 (dk_at dksL_law_17 4 rfl rfl)
theorem dL_law_533 : decode cL_law 533 = .ok (.iconst 0, 1) := dk_3 (dk_at dksL_law_17 7 rfl rfl)
theorem dL_law_534 : decode cL_law 534 = .ok (.ireturn, 1) := dk_172 (dk_at dksL_law_17 8 rfl rfl)
theorem dL_law_535 : decode cL_law 535 = .ok (.aload_n 1, 1) := dk_43 (dk_at dksL_law_17 9 rfl rfl)
theorem dL_law_536 : decode cL_law 536 = .ok (.aload_n 0, 1) := dk_42 (dk_at dksL_law_17 10 rfl rfl)
theorem dL_law_537 : decode cL_law 537 = .ok (.iload_n 3, 1) := dk_29 (dk_at dksL_law_17 11 rfl rfl)
theorem dL_law_538 : decode cL_law 538 = .ok (.iconst 1, 1) := dk_4 (dk_at dksL_law_17 12 rfl rfl)
theorem dL_law_539 : decode cL_law 539 = .ok (.iadd, 1) := dk_96 (dk_at dksL_law_17 13 rfl rfl)
theorem dL_law_540 : decode cL_law 540 = .ok (.iaload, 1) := dk_46 (dk_at dksL_law_17 14 rfl rfl)
theorem dL_law_541 : decode cL_law 541 = .ok (.aload_n 0, 1) := dk_42 (dk_at dksL_law_17 15 rfl rfl)
theorem dL_law_542 : decode cL_law 542 = .ok (.iload_n 3, 1) := dk_29 (dk_at dksL_law_17 16 rfl rfl)
theorem dL_law_543 : decode cL_law 543 = .ok (.iconst 2, 1) := dk_5 (dk_at dksL_law_17 17 rfl rfl)
theorem dL_law_544 : decode cL_law 544 = .ok (.iadd, 1) := dk_96 (dk_at dksL_law_17 18 rfl rfl)
theorem dL_law_545 : decode cL_law 545 = .ok (.iaload, 1) := dk_46 (dk_at dksL_law_17 19 rfl rfl)
theorem dL_law_546 : decode cL_law 546 = .ok (.invokevirtual 60, 3) := dk_182 0 60 (dk_at dksL_law_17 20 rfl rfl)
theorem dL_law_549 : decode cL_law 549 = .ok (.aload_n 2, 1) := dk_44 (dk_at dksL_law_17 23 rfl rfl)
theorem dL_law_550 : decode cL_law 550 = .ok (.aload_n 0, 1) := dk_42 (dk_at dksL_law_18 0 rfl rfl)
theorem dL_law_551 : decode cL_law 551 = .ok (.iload_n 3, 1) := dk_29 (dk_at dksL_law_18 1 rfl rfl)
theorem dL_law_552 : decode cL_law 552 = .ok (.iconst 1, 1) := dk_4 (dk_at dksL_law_18 2 rfl rfl)
theorem dL_law_553 : decode cL_law 553 = .ok (.iadd, 1) := dk_96 (dk_at dksL_law_18 3 rfl rfl)
theorem dL_law_554 : decode cL_law 554 = .ok (.iaload, 1) := dk_46 (dk_at dksL_law_18 4 rfl rfl)
theorem dL_law_555 : decode cL_law 555 = .ok (.aload_n 0, 1) := dk_42 (dk_at dksL_law_18 5 rfl rfl)
theorem dL_law_556 : decode cL_law 556 = .ok (.iload_n 3, 1) := dk_29 (dk_at dksL_law_18 6 rfl rfl)
theorem dL_law_557 : decode cL_law 557 = .ok (.iconst 2, 1) := dk_5 (dk_at dksL_law_18 7 rfl rfl)
theorem dL_law_558 : decode cL_law 558 = .ok (.iadd, 1) := dk_96 (dk_at dksL_law_18 8 rfl rfl)
theorem dL_law_559 : decode cL_law 559 = .ok (.iaload, 1) := dk_46 (dk_at dksL_law_18 9 rfl rfl)
theorem dL_law_560 : decode cL_law 560 = .ok (.invokevirtual 63, 3) := dk_182 0 63 (dk_at dksL_law_18 10 rfl rfl)
theorem dL_law_563 : decode cL_law 563 = .ok (.if_icmp .eq 591, 3) := dk_159 2 79 (dk_at dksL_law_18 13 rfl rfl)
theorem dL_law_566 : decode cL_law 566 = .ok (.iconst 0, 1) := dk_3 (dk_at dksL_law_18 16 rfl rfl)
theorem dL_law_567 : decode cL_law 567 = .ok (.ireturn, 1) := dk_172 (dk_at dksL_law_18 17 rfl rfl)
theorem dL_law_568 : decode cL_law 568 = .ok (.aload_n 1, 1) := dk_43 (dk_at dksL_law_18 18 rfl rfl)
theorem dL_law_569 : decode cL_law 569 = .ok (.aload_n 0, 1) := dk_42 (dk_at dksL_law_18 19 rfl rfl)
theorem dL_law_570 : decode cL_law 570 = .ok (.iload_n 3, 1) := dk_29 (dk_at dksL_law_18 20 rfl rfl)
theorem dL_law_571 : decode cL_law 571 = .ok (.iconst 1, 1) := dk_4 (dk_at dksL_law_18 21 rfl rfl)
theorem dL_law_572 : decode cL_law 572 = .ok (.iadd, 1) := dk_96 (dk_at dksL_law_18 22 rfl rfl)
theorem dL_law_573 : decode cL_law 573 = .ok (.iaload, 1) := dk_46 (dk_at dksL_law_18 23 rfl rfl)
theorem dL_law_574 : decode cL_law 574 = .ok (.invokevirtual 64, 3) := dk_182 0 64 (dk_at dksL_law_19 0 rfl rfl)
theorem dL_law_577 : decode cL_law 577 = .ok (.aload_n 2, 1) := dk_44 (dk_at dksL_law_19 3 rfl rfl)
theorem dL_law_578 : decode cL_law 578 = .ok (.aload_n 0, 1) := dk_42 (dk_at dksL_law_19 4 rfl rfl)
theorem dL_law_579 : decode cL_law 579 = .ok (.iload_n 3, 1) := dk_29 (dk_at dksL_law_19 5 rfl rfl)
theorem dL_law_580 : decode cL_law 580 = .ok (.iconst 1, 1) := dk_4 (dk_at dksL_law_19 6 rfl rfl)
theorem dL_law_581 : decode cL_law 581 = .ok (.iadd, 1) := dk_96 (dk_at dksL_law_19 7 rfl rfl)
theorem dL_law_582 : decode cL_law 582 = .ok (.iaload, 1) := dk_46 (dk_at dksL_law_19 8 rfl rfl)
theorem dL_law_583 : decode cL_law 583 = .ok (.invokevirtual 67, 3) := dk_182 0 67 (dk_at dksL_law_19 9 rfl rfl)
theorem dL_law_586 : decode cL_law 586 = .ok (.if_icmp .eq 568, 3) := dk_159 2 56 (dk_at dksL_law_19 12 rfl rfl)
theorem dL_law_589 : decode cL_law 589 = .ok (.iconst 0, 1) := dk_3 (dk_at dksL_law_19 15 rfl rfl)
theorem dL_law_590 : decode cL_law 590 = .ok (.ireturn, 1) := dk_172 (dk_at dksL_law_19 16 rfl rfl)
theorem dL_law_591 : decode cL_law 591 = .ok (.aload_n 1, 1) := dk_43 (dk_at dksL_law_19 17 rfl rfl)
theorem dL_law_592 : decode cL_law 592 = .ok (.aload_n 0, 1) := dk_42 (dk_at dksL_law_19 18 rfl rfl)
theorem dL_law_593 : decode cL_law 593 = .ok (.iload_n 3, 1) := dk_29 (dk_at dksL_law_19 19 rfl rfl)
theorem dL_law_594 : decode cL_law 594 = .ok (.iconst 1, 1) := dk_4 (dk_at dksL_law_19 20 rfl rfl)
theorem dL_law_595 : decode cL_law 595 = .ok (.iadd, 1) := dk_96 (dk_at dksL_law_19 21 rfl rfl)
theorem dL_law_596 : decode cL_law 596 = .ok (.iaload, 1) := dk_46 (dk_at dksL_law_19 22 rfl rfl)
theorem dL_law_597 : decode cL_law 597 = .ok (.aload_n 0, 1) := dk_42 (dk_at dksL_law_19 23 rfl rfl)
theorem dL_law_598 : decode cL_law 598 = .ok (.iload_n 3, 1) := dk_29 (dk_at dksL_law_20 0 rfl rfl)
theorem dL_law_599 : decode cL_law 599 = .ok (.iconst 2, 1) := dk_5 (dk_at dksL_law_20 1 rfl rfl)
theorem dL_law_600 : decode cL_law 600 = .ok (.iadd, 1) := dk_96 (dk_at dksL_law_20 2 rfl rfl)
theorem dL_law_601 : decode cL_law 601 = .ok (.iaload, 1) := dk_46 (dk_at dksL_law_20 3 rfl rfl)
theorem dL_law_602 : decode cL_law 602 = .ok (.invokevirtual 68, 3) := dk_182 0 68 (dk_at dksL_law_20 4 rfl rfl)
theorem dL_law_605 : decode cL_law 605 = .ok (.aload_n 2, 1) := dk_44 (dk_at dksL_law_20 7 rfl rfl)
theorem dL_law_606 : decode cL_law 606 = .ok (.aload_n 0, 1) := dk_42 (dk_at dksL_law_20 8 rfl rfl)
theorem dL_law_607 : decode cL_law 607 = .ok (.iload_n 3, 1) := dk_29 (dk_at dksL_law_20 9 rfl rfl)
theorem dL_law_608 : decode cL_law 608 = .ok (.iconst 1, 1) := dk_4 (dk_at dksL_law_20 10 rfl rfl)
theorem dL_law_609 : decode cL_law 609 = .ok (.iadd, 1) := dk_96 (dk_at dksL_law_20 11 rfl rfl)
theorem dL_law_610 : decode cL_law 610 = .ok (.iaload, 1) := dk_46 (dk_at dksL_law_20 12 rfl rfl)
theorem dL_law_611 : decode cL_law 611 = .ok (.aload_n 0, 1) := dk_42 (dk_at dksL_law_20 13 rfl rfl)
theorem dL_law_612 : decode cL_law 612 = .ok (.iload_n 3, 1) := dk_29 (dk_at dksL_law_20 14 rfl rfl)
theorem dL_law_613 : decode cL_law 613 = .ok (.iconst 2, 1) := dk_5 (dk_at dksL_law_20 15 rfl rfl)
theorem dL_law_614 : decode cL_law 614 = .ok (.iadd, 1) := dk_96 (dk_at dksL_law_20 16 rfl rfl)
theorem dL_law_615 : decode cL_law 615 = .ok (.iaload, 1) := dk_46 (dk_at dksL_law_20 17 rfl rfl)
theorem dL_law_616 : decode cL_law 616 = .ok (.invokevirtual 71, 3) := dk_182 0 71 (dk_at dksL_law_20 18 rfl rfl)
theorem dL_law_619 : decode cL_law 619 = .ok (.if_icmp .eq 535, 3) := dk_159 2 23 (dk_at dksL_law_20 21 rfl rfl)
theorem dL_law_622 : decode cL_law 622 = .ok (.iconst 0, 1) := dk_3 (dk_at dksL_law_21 0 rfl rfl)
theorem dL_law_623 : decode cL_law 623 = .ok (.ireturn, 1) := dk_172 (dk_at dksL_law_21 1 rfl rfl)
theorem dL_law_624 : decode cL_law 624 = .ok (.aload_n 1, 1) := dk_43 (dk_at dksL_law_21 2 rfl rfl)
theorem dL_law_625 : decode cL_law 625 = .ok (.aload_n 0, 1) := dk_42 (dk_at dksL_law_21 3 rfl rfl)
theorem dL_law_626 : decode cL_law 626 = .ok (.iload_n 3, 1) := dk_29 (dk_at dksL_law_21 4 rfl rfl)
theorem dL_law_627 : decode cL_law 627 = .ok (.iconst 1, 1) := dk_4 (dk_at dksL_law_21 5 rfl rfl)
theorem dL_law_628 : decode cL_law 628 = .ok (.iadd, 1) := dk_96 (dk_at dksL_law_21 6 rfl rfl)
theorem dL_law_629 : decode cL_law 629 = .ok (.iaload, 1) := dk_46 (dk_at dksL_law_21 7 rfl rfl)
theorem dL_law_630 : decode cL_law 630 = .ok (.aload_n 0, 1) := dk_42 (dk_at dksL_law_21 8 rfl rfl)
theorem dL_law_631 : decode cL_law 631 = .ok (.iload_n 3, 1) := dk_29 (dk_at dksL_law_21 9 rfl rfl)
theorem dL_law_632 : decode cL_law 632 = .ok (.iconst 2, 1) := dk_5 (dk_at dksL_law_21 10 rfl rfl)
theorem dL_law_633 : decode cL_law 633 = .ok (.iadd, 1) := dk_96 (dk_at dksL_law_21 11 rfl rfl)
theorem dL_law_634 : decode cL_law 634 = .ok (.iaload, 1) := dk_46 (dk_at dksL_law_21 12 rfl rfl)
theorem dL_law_635 : decode cL_law 635 = .ok (.invokevirtual 72, 3) := dk_182 0 72 (dk_at dksL_law_21 13 rfl rfl)
theorem dL_law_638 : decode cL_law 638 = .ok (.aload_n 2, 1) := dk_44 (dk_at dksL_law_21 16 rfl rfl)
theorem dL_law_639 : decode cL_law 639 = .ok (.aload_n 0, 1) := dk_42 (dk_at dksL_law_21 17 rfl rfl)
theorem dL_law_640 : decode cL_law 640 = .ok (.iload_n 3, 1) := dk_29 (dk_at dksL_law_21 18 rfl rfl)
theorem dL_law_641 : decode cL_law 641 = .ok (.iconst 1, 1) := dk_4 (dk_at dksL_law_21 19 rfl rfl)
theorem dL_law_642 : decode cL_law 642 = .ok (.iadd, 1) := dk_96 (dk_at dksL_law_21 20 rfl rfl)
theorem dL_law_643 : decode cL_law 643 = .ok (.iaload, 1) := dk_46 (dk_at dksL_law_21 21 rfl rfl)
theorem dL_law_644 : decode cL_law 644 = .ok (.aload_n 0, 1) := dk_42 (dk_at dksL_law_21 22 rfl rfl)
theorem dL_law_645 : decode cL_law 645 = .ok (.iload_n 3, 1) := dk_29 (dk_at dksL_law_21 23 rfl rfl)
theorem dL_law_646 : decode cL_law 646 = .ok (.iconst 2, 1) := dk_5 (dk_at dksL_law_22 0 rfl rfl)
theorem dL_law_647 : decode cL_law 647 = .ok (.iadd, 1) := dk_96 (dk_at dksL_law_22 1 rfl rfl)
theorem dL_law_648 : decode cL_law 648 = .ok (.iaload, 1) := dk_46 (dk_at dksL_law_22 2 rfl rfl)
theorem dL_law_649 : decode cL_law 649 = .ok (.invokevirtual 75, 3) := dk_182 0 75 (dk_at dksL_law_22 3 rfl rfl)
theorem dL_law_652 : decode cL_law 652 = .ok (.if_icmp .eq 502, 3) := dk_159 1 246 (dk_at dksL_law_22 6 rfl rfl)
theorem dL_law_655 : decode cL_law 655 = .ok (.iconst 0, 1) := dk_3 (dk_at dksL_law_22 9 rfl rfl)
theorem dL_law_656 : decode cL_law 656 = .ok (.ireturn, 1) := dk_172 (dk_at dksL_law_22 10 rfl rfl)
theorem dL_law_657 : decode cL_law 657 = .ok (.aload_n 1, 1) := dk_43 (dk_at dksL_law_22 11 rfl rfl)
theorem dL_law_658 : decode cL_law 658 = .ok (.aload_n 0, 1) := dk_42 (dk_at dksL_law_22 12 rfl rfl)
theorem dL_law_659 : decode cL_law 659 = .ok (.iload_n 3, 1) := dk_29 (dk_at dksL_law_22 13 rfl rfl)
theorem dL_law_660 : decode cL_law 660 = .ok (.iconst 1, 1) := dk_4 (dk_at dksL_law_22 14 rfl rfl)
theorem dL_law_661 : decode cL_law 661 = .ok (.iadd, 1) := dk_96 (dk_at dksL_law_22 15 rfl rfl)
theorem dL_law_662 : decode cL_law 662 = .ok (.iaload, 1) := dk_46 (dk_at dksL_law_22 16 rfl rfl)
theorem dL_law_663 : decode cL_law 663 = .ok (.invokevirtual 76, 3) := dk_182 0 76 (dk_at dksL_law_22 17 rfl rfl)
theorem dL_law_666 : decode cL_law 666 = .ok (.aload_n 2, 1) := dk_44 (dk_at dksL_law_22 20 rfl rfl)
theorem dL_law_667 : decode cL_law 667 = .ok (.aload_n 0, 1) := dk_42 (dk_at dksL_law_22 21 rfl rfl)
theorem dL_law_668 : decode cL_law 668 = .ok (.iload_n 3, 1) := dk_29 (dk_at dksL_law_22 22 rfl rfl)
theorem dL_law_669 : decode cL_law 669 = .ok (.iconst 1, 1) := dk_4 (dk_at dksL_law_22 23 rfl rfl)
theorem dL_law_670 : decode cL_law 670 = .ok (.iadd, 1) := dk_96 (dk_at dksL_law_23 0 rfl rfl)
theorem dL_law_671 : decode cL_law 671 = .ok (.iaload, 1) := dk_46 (dk_at dksL_law_23 1 rfl rfl)
theorem dL_law_672 : decode cL_law 672 = .ok (.invokevirtual 79, 3) := dk_182 0 79 (dk_at dksL_law_23 2 rfl rfl)
theorem dL_law_675 : decode cL_law 675 = .ok (.if_icmp .eq 479, 3) := dk_159 1 223 (dk_at dksL_law_23 5 rfl rfl)
theorem dL_law_678 : decode cL_law 678 = .ok (.iconst 0, 1) := dk_3 (dk_at dksL_law_23 8 rfl rfl)
theorem dL_law_679 : decode cL_law 679 = .ok (.ireturn, 1) := dk_172 (dk_at dksL_law_23 9 rfl rfl)
theorem dL_law_680 : decode cL_law 680 = .ok (.aload_n 1, 1) := dk_43 (dk_at dksL_law_23 10 rfl rfl)
theorem dL_law_681 : decode cL_law 681 = .ok (.aload_n 0, 1) := dk_42 (dk_at dksL_law_23 11 rfl rfl)
theorem dL_law_682 : decode cL_law 682 = .ok (.iload_n 3, 1) := dk_29 (dk_at dksL_law_23 12 rfl rfl)
theorem dL_law_683 : decode cL_law 683 = .ok (.iconst 1, 1) := dk_4 (dk_at dksL_law_23 13 rfl rfl)
theorem dL_law_684 : decode cL_law 684 = .ok (.iadd, 1) := dk_96 (dk_at dksL_law_23 14 rfl rfl)
theorem dL_law_685 : decode cL_law 685 = .ok (.iaload, 1) := dk_46 (dk_at dksL_law_23 15 rfl rfl)
theorem dL_law_686 : decode cL_law 686 = .ok (.invokevirtual 80, 3) := dk_182 0 80 (dk_at dksL_law_23 16 rfl rfl)
theorem dL_law_689 : decode cL_law 689 = .ok (.aload_n 2, 1) := dk_44 (dk_at dksL_law_23 19 rfl rfl)
theorem dL_law_690 : decode cL_law 690 = .ok (.aload_n 0, 1) := dk_42 (dk_at dksL_law_23 20 rfl rfl)
theorem dL_law_691 : decode cL_law 691 = .ok (.iload_n 3, 1) := dk_29 (dk_at dksL_law_23 21 rfl rfl)
theorem dL_law_692 : decode cL_law 692 = .ok (.iconst 1, 1) := dk_4 (dk_at dksL_law_23 22 rfl rfl)
theorem dL_law_693 : decode cL_law 693 = .ok (.iadd, 1) := dk_96 (dk_at dksL_law_23 23 rfl rfl)
theorem dL_law_694 : decode cL_law 694 = .ok (.iaload, 1) := dk_46 (dk_at dksL_law_24 0 rfl rfl)
theorem dL_law_695 : decode cL_law 695 = .ok (.invokevirtual 83, 3) := dk_182 0 83 (dk_at dksL_law_24 1 rfl rfl)
theorem dL_law_698 : decode cL_law 698 = .ok (.if_icmp .eq 456, 3) := dk_159 1 200 (dk_at dksL_law_24 4 rfl rfl)
theorem dL_law_701 : decode cL_law 701 = .ok (.iconst 0, 1) := dk_3 (dk_at dksL_law_24 7 rfl rfl)
theorem dL_law_702 : decode cL_law 702 = .ok (.ireturn, 1) := dk_172 (dk_at dksL_law_24 8 rfl rfl)
theorem dL_law_703 : decode cL_law 703 = .ok (.aload_n 1, 1) := dk_43 (dk_at dksL_law_24 9 rfl rfl)
theorem dL_law_704 : decode cL_law 704 = .ok (.aload_n 0, 1) := dk_42 (dk_at dksL_law_24 10 rfl rfl)
theorem dL_law_705 : decode cL_law 705 = .ok (.iload_n 3, 1) := dk_29 (dk_at dksL_law_24 11 rfl rfl)
theorem dL_law_706 : decode cL_law 706 = .ok (.iconst 1, 1) := dk_4 (dk_at dksL_law_24 12 rfl rfl)
theorem dL_law_707 : decode cL_law 707 = .ok (.iadd, 1) := dk_96 (dk_at dksL_law_24 13 rfl rfl)
theorem dL_law_708 : decode cL_law 708 = .ok (.iaload, 1) := dk_46 (dk_at dksL_law_24 14 rfl rfl)
theorem dL_law_709 : decode cL_law 709 = .ok (.invokevirtual 84, 3) := dk_182 0 84 (dk_at dksL_law_24 15 rfl rfl)
theorem dL_law_712 : decode cL_law 712 = .ok (.aload_n 2, 1) := dk_44 (dk_at dksL_law_24 18 rfl rfl)
theorem dL_law_713 : decode cL_law 713 = .ok (.aload_n 0, 1) := dk_42 (dk_at dksL_law_24 19 rfl rfl)
theorem dL_law_714 : decode cL_law 714 = .ok (.iload_n 3, 1) := dk_29 (dk_at dksL_law_24 20 rfl rfl)
theorem dL_law_715 : decode cL_law 715 = .ok (.iconst 1, 1) := dk_4 (dk_at dksL_law_24 21 rfl rfl)
theorem dL_law_716 : decode cL_law 716 = .ok (.iadd, 1) := dk_96 (dk_at dksL_law_24 22 rfl rfl)
theorem dL_law_717 : decode cL_law 717 = .ok (.iaload, 1) := dk_46 (dk_at dksL_law_24 23 rfl rfl)
theorem dL_law_718 : decode cL_law 718 = .ok (.invokevirtual 87, 3) := dk_182 0 87 (dk_at dksL_law_25 0 rfl rfl)
theorem dL_law_721 : decode cL_law 721 = .ok (.if_icmp .eq 433, 3) := dk_159 1 177 (dk_at dksL_law_25 3 rfl rfl)
theorem dL_law_724 : decode cL_law 724 = .ok (.iconst 0, 1) := dk_3 (dk_at dksL_law_25 6 rfl rfl)
theorem dL_law_725 : decode cL_law 725 = .ok (.ireturn, 1) := dk_172 (dk_at dksL_law_25 7 rfl rfl)
theorem dL_law_726 : decode cL_law 726 = .ok (.aload_n 1, 1) := dk_43 (dk_at dksL_law_25 8 rfl rfl)
theorem dL_law_727 : decode cL_law 727 = .ok (.aload_n 0, 1) := dk_42 (dk_at dksL_law_25 9 rfl rfl)
theorem dL_law_728 : decode cL_law 728 = .ok (.iload_n 3, 1) := dk_29 (dk_at dksL_law_25 10 rfl rfl)
theorem dL_law_729 : decode cL_law 729 = .ok (.iconst 1, 1) := dk_4 (dk_at dksL_law_25 11 rfl rfl)
theorem dL_law_730 : decode cL_law 730 = .ok (.iadd, 1) := dk_96 (dk_at dksL_law_25 12 rfl rfl)
theorem dL_law_731 : decode cL_law 731 = .ok (.iaload, 1) := dk_46 (dk_at dksL_law_25 13 rfl rfl)
theorem dL_law_732 : decode cL_law 732 = .ok (.invokevirtual 88, 3) := dk_182 0 88 (dk_at dksL_law_25 14 rfl rfl)
theorem dL_law_735 : decode cL_law 735 = .ok (.aload_n 2, 1) := dk_44 (dk_at dksL_law_25 17 rfl rfl)
theorem dL_law_736 : decode cL_law 736 = .ok (.aload_n 0, 1) := dk_42 (dk_at dksL_law_25 18 rfl rfl)
theorem dL_law_737 : decode cL_law 737 = .ok (.iload_n 3, 1) := dk_29 (dk_at dksL_law_25 19 rfl rfl)
theorem dL_law_738 : decode cL_law 738 = .ok (.iconst 1, 1) := dk_4 (dk_at dksL_law_25 20 rfl rfl)
theorem dL_law_739 : decode cL_law 739 = .ok (.iadd, 1) := dk_96 (dk_at dksL_law_25 21 rfl rfl)
theorem dL_law_740 : decode cL_law 740 = .ok (.iaload, 1) := dk_46 (dk_at dksL_law_25 22 rfl rfl)
theorem dL_law_741 : decode cL_law 741 = .ok (.invokevirtual 91, 3) := dk_182 0 91 (dk_at dksL_law_26 0 rfl rfl)
theorem dL_law_744 : decode cL_law 744 = .ok (.if_icmp .eq 410, 3) := dk_159 1 154 (dk_at dksL_law_26 3 rfl rfl)
theorem dL_law_747 : decode cL_law 747 = .ok (.iconst 0, 1) := dk_3 (dk_at dksL_law_26 6 rfl rfl)
theorem dL_law_748 : decode cL_law 748 = .ok (.ireturn, 1) := dk_172 (dk_at dksL_law_26 7 rfl rfl)
theorem dL_law_749 : decode cL_law 749 = .ok (.aload_n 1, 1) := dk_43 (dk_at dksL_law_26 8 rfl rfl)
theorem dL_law_750 : decode cL_law 750 = .ok (.aload_n 0, 1) := dk_42 (dk_at dksL_law_26 9 rfl rfl)
theorem dL_law_751 : decode cL_law 751 = .ok (.iload_n 3, 1) := dk_29 (dk_at dksL_law_26 10 rfl rfl)
theorem dL_law_752 : decode cL_law 752 = .ok (.iconst 1, 1) := dk_4 (dk_at dksL_law_26 11 rfl rfl)
theorem dL_law_753 : decode cL_law 753 = .ok (.iadd, 1) := dk_96 (dk_at dksL_law_26 12 rfl rfl)
theorem dL_law_754 : decode cL_law 754 = .ok (.iaload, 1) := dk_46 (dk_at dksL_law_26 13 rfl rfl)
theorem dL_law_755 : decode cL_law 755 = .ok (.invokevirtual 92, 3) := dk_182 0 92 (dk_at dksL_law_26 14 rfl rfl)
theorem dL_law_758 : decode cL_law 758 = .ok (.aload_n 2, 1) := dk_44 (dk_at dksL_law_26 17 rfl rfl)
theorem dL_law_759 : decode cL_law 759 = .ok (.aload_n 0, 1) := dk_42 (dk_at dksL_law_26 18 rfl rfl)
theorem dL_law_760 : decode cL_law 760 = .ok (.iload_n 3, 1) := dk_29 (dk_at dksL_law_26 19 rfl rfl)
theorem dL_law_761 : decode cL_law 761 = .ok (.iconst 1, 1) := dk_4 (dk_at dksL_law_26 20 rfl rfl)
theorem dL_law_762 : decode cL_law 762 = .ok (.iadd, 1) := dk_96 (dk_at dksL_law_26 21 rfl rfl)
theorem dL_law_763 : decode cL_law 763 = .ok (.iaload, 1) := dk_46 (dk_at dksL_law_26 22 rfl rfl)
theorem dL_law_764 : decode cL_law 764 = .ok (.invokevirtual 95, 3) := dk_182 0 95 (dk_at dksL_law_27 0 rfl rfl)
theorem dL_law_767 : decode cL_law 767 = .ok (.if_icmp .eq 387, 3) := dk_159 1 131 (dk_at dksL_law_27 3 rfl rfl)
theorem dL_law_770 : decode cL_law 770 = .ok (.iconst 0, 1) := dk_3 (dk_at dksL_law_27 6 rfl rfl)
theorem dL_law_771 : decode cL_law 771 = .ok (.ireturn, 1) := dk_172 (dk_at dksL_law_27 7 rfl rfl)
theorem dL_law_772 : decode cL_law 772 = .ok (.aload_n 1, 1) := dk_43 (dk_at dksL_law_27 8 rfl rfl)
theorem dL_law_773 : decode cL_law 773 = .ok (.aload_n 0, 1) := dk_42 (dk_at dksL_law_27 9 rfl rfl)
theorem dL_law_774 : decode cL_law 774 = .ok (.iload_n 3, 1) := dk_29 (dk_at dksL_law_27 10 rfl rfl)
theorem dL_law_775 : decode cL_law 775 = .ok (.iconst 1, 1) := dk_4 (dk_at dksL_law_27 11 rfl rfl)
theorem dL_law_776 : decode cL_law 776 = .ok (.iadd, 1) := dk_96 (dk_at dksL_law_27 12 rfl rfl)
theorem dL_law_777 : decode cL_law 777 = .ok (.iaload, 1) := dk_46 (dk_at dksL_law_27 13 rfl rfl)
theorem dL_law_778 : decode cL_law 778 = .ok (.aload_n 0, 1) := dk_42 (dk_at dksL_law_27 14 rfl rfl)
theorem dL_law_779 : decode cL_law 779 = .ok (.iload_n 3, 1) := dk_29 (dk_at dksL_law_27 15 rfl rfl)
theorem dL_law_780 : decode cL_law 780 = .ok (.iconst 2, 1) := dk_5 (dk_at dksL_law_27 16 rfl rfl)
theorem dL_law_781 : decode cL_law 781 = .ok (.iadd, 1) := dk_96 (dk_at dksL_law_27 17 rfl rfl)
theorem dL_law_782 : decode cL_law 782 = .ok (.iaload, 1) := dk_46 (dk_at dksL_law_27 18 rfl rfl)
theorem dL_law_783 : decode cL_law 783 = .ok (.invokevirtual 96, 3) := dk_182 0 96 (dk_at dksL_law_27 19 rfl rfl)
theorem dL_law_786 : decode cL_law 786 = .ok (.aload_n 2, 1) := dk_44 (dk_at dksL_law_27 22 rfl rfl)
theorem dL_law_787 : decode cL_law 787 = .ok (.aload_n 0, 1) := dk_42 (dk_at dksL_law_27 23 rfl rfl)
theorem dL_law_788 : decode cL_law 788 = .ok (.iload_n 3, 1) := dk_29 (dk_at dksL_law_28 0 rfl rfl)
theorem dL_law_789 : decode cL_law 789 = .ok (.iconst 1, 1) := dk_4 (dk_at dksL_law_28 1 rfl rfl)
theorem dL_law_790 : decode cL_law 790 = .ok (.iadd, 1) := dk_96 (dk_at dksL_law_28 2 rfl rfl)
theorem dL_law_791 : decode cL_law 791 = .ok (.iaload, 1) := dk_46 (dk_at dksL_law_28 3 rfl rfl)
theorem dL_law_792 : decode cL_law 792 = .ok (.aload_n 0, 1) := dk_42 (dk_at dksL_law_28 4 rfl rfl)
theorem dL_law_793 : decode cL_law 793 = .ok (.iload_n 3, 1) := dk_29 (dk_at dksL_law_28 5 rfl rfl)
theorem dL_law_794 : decode cL_law 794 = .ok (.iconst 2, 1) := dk_5 (dk_at dksL_law_28 6 rfl rfl)
theorem dL_law_795 : decode cL_law 795 = .ok (.iadd, 1) := dk_96 (dk_at dksL_law_28 7 rfl rfl)
theorem dL_law_796 : decode cL_law 796 = .ok (.iaload, 1) := dk_46 (dk_at dksL_law_28 8 rfl rfl)
theorem dL_law_797 : decode cL_law 797 = .ok (.invokevirtual 99, 3) := dk_182 0 99 (dk_at dksL_law_28 9 rfl rfl)
theorem dL_law_800 : decode cL_law 800 = .ok (.if_icmp .eq 354, 3) := dk_159 1 98 (dk_at dksL_law_28 12 rfl rfl)
theorem dL_law_803 : decode cL_law 803 = .ok (.iconst 0, 1) := dk_3 (dk_at dksL_law_28 15 rfl rfl)
theorem dL_law_804 : decode cL_law 804 = .ok (.ireturn, 1) := dk_172 (dk_at dksL_law_28 16 rfl rfl)
theorem dL_law_805 : decode cL_law 805 = .ok (.aload_n 1, 1) := dk_43 (dk_at dksL_law_28 17 rfl rfl)
theorem dL_law_806 : decode cL_law 806 = .ok (.aload_n 0, 1) := dk_42 (dk_at dksL_law_28 18 rfl rfl)
theorem dL_law_807 : decode cL_law 807 = .ok (.iload_n 3, 1) := dk_29 (dk_at dksL_law_28 19 rfl rfl)
theorem dL_law_808 : decode cL_law 808 = .ok (.iconst 1, 1) := dk_4 (dk_at dksL_law_28 20 rfl rfl)
theorem dL_law_809 : decode cL_law 809 = .ok (.iadd, 1) := dk_96 (dk_at dksL_law_28 21 rfl rfl)
theorem dL_law_810 : decode cL_law 810 = .ok (.iaload, 1) := dk_46 (dk_at dksL_law_28 22 rfl rfl)
theorem dL_law_811 : decode cL_law 811 = .ok (.invokevirtual 100, 3) := dk_182 0 100 (dk_at dksL_law_29 0 rfl rfl)
theorem dL_law_814 : decode cL_law 814 = .ok (.aload_n 2, 1) := dk_44 (dk_at dksL_law_29 3 rfl rfl)
theorem dL_law_815 : decode cL_law 815 = .ok (.aload_n 0, 1) := dk_42 (dk_at dksL_law_29 4 rfl rfl)
theorem dL_law_816 : decode cL_law 816 = .ok (.iload_n 3, 1) := dk_29 (dk_at dksL_law_29 5 rfl rfl)
theorem dL_law_817 : decode cL_law 817 = .ok (.iconst 1, 1) := dk_4 (dk_at dksL_law_29 6 rfl rfl)
theorem dL_law_818 : decode cL_law 818 = .ok (.iadd, 1) := dk_96 (dk_at dksL_law_29 7 rfl rfl)
theorem dL_law_819 : decode cL_law 819 = .ok (.iaload, 1) := dk_46 (dk_at dksL_law_29 8 rfl rfl)
theorem dL_law_820 : decode cL_law 820 = .ok (.invokevirtual 103, 3) := dk_182 0 103 (dk_at dksL_law_29 9 rfl rfl)
theorem dL_law_823 : decode cL_law 823 = .ok (.if_icmp .eq 331, 3) := dk_159 1 75 (dk_at dksL_law_29 12 rfl rfl)
theorem dL_law_826 : decode cL_law 826 = .ok (.iconst 0, 1) := dk_3 (dk_at dksL_law_29 15 rfl rfl)
theorem dL_law_827 : decode cL_law 827 = .ok (.ireturn, 1) := dk_172 (dk_at dksL_law_29 16 rfl rfl)
theorem dL_law_828 : decode cL_law 828 = .ok (.aload_n 1, 1) := dk_43 (dk_at dksL_law_29 17 rfl rfl)
theorem dL_law_829 : decode cL_law 829 = .ok (.aload_n 0, 1) := dk_42 (dk_at dksL_law_29 18 rfl rfl)
theorem dL_law_830 : decode cL_law 830 = .ok (.iload_n 3, 1) := dk_29 (dk_at dksL_law_29 19 rfl rfl)
theorem dL_law_831 : decode cL_law 831 = .ok (.iconst 1, 1) := dk_4 (dk_at dksL_law_29 20 rfl rfl)
theorem dL_law_832 : decode cL_law 832 = .ok (.iadd, 1) := dk_96 (dk_at dksL_law_29 21 rfl rfl)
theorem dL_law_833 : decode cL_law 833 = .ok (.iaload, 1) := dk_46 (dk_at dksL_law_29 22 rfl rfl)
theorem dL_law_834 : decode cL_law 834 = .ok (.invokevirtual 104, 3) := dk_182 0 104 (dk_at dksL_law_30 0 rfl rfl)
theorem dL_law_837 : decode cL_law 837 = .ok (.aload_n 2, 1) := dk_44 (dk_at dksL_law_30 3 rfl rfl)
theorem dL_law_838 : decode cL_law 838 = .ok (.aload_n 0, 1) := dk_42 (dk_at dksL_law_30 4 rfl rfl)
theorem dL_law_839 : decode cL_law 839 = .ok (.iload_n 3, 1) := dk_29 (dk_at dksL_law_30 5 rfl rfl)
theorem dL_law_840 : decode cL_law 840 = .ok (.iconst 1, 1) := dk_4 (dk_at dksL_law_30 6 rfl rfl)
theorem dL_law_841 : decode cL_law 841 = .ok (.iadd, 1) := dk_96 (dk_at dksL_law_30 7 rfl rfl)
theorem dL_law_842 : decode cL_law 842 = .ok (.iaload, 1) := dk_46 (dk_at dksL_law_30 8 rfl rfl)
theorem dL_law_843 : decode cL_law 843 = .ok (.invokevirtual 107, 3) := dk_182 0 107 (dk_at dksL_law_30 9 rfl rfl)
theorem dL_law_846 : decode cL_law 846 = .ok (.if_icmp .eq 308, 3) := dk_159 1 52 (dk_at dksL_law_30 12 rfl rfl)
theorem dL_law_849 : decode cL_law 849 = .ok (.iconst 0, 1) := dk_3 (dk_at dksL_law_30 15 rfl rfl)
theorem dL_law_850 : decode cL_law 850 = .ok (.ireturn, 1) := dk_172 (dk_at dksL_law_30 16 rfl rfl)
theorem dL_law_851 : decode cL_law 851 = .ok (.aload_n 1, 1) := dk_43 (dk_at dksL_law_30 17 rfl rfl)
theorem dL_law_852 : decode cL_law 852 = .ok (.aload_n 0, 1) := dk_42 (dk_at dksL_law_30 18 rfl rfl)
theorem dL_law_853 : decode cL_law 853 = .ok (.iload_n 3, 1) := dk_29 (dk_at dksL_law_30 19 rfl rfl)
theorem dL_law_854 : decode cL_law 854 = .ok (.iconst 1, 1) := dk_4 (dk_at dksL_law_30 20 rfl rfl)
theorem dL_law_855 : decode cL_law 855 = .ok (.iadd, 1) := dk_96 (dk_at dksL_law_30 21 rfl rfl)
theorem dL_law_856 : decode cL_law 856 = .ok (.iaload, 1) := dk_46 (dk_at dksL_law_30 22 rfl rfl)
theorem dL_law_857 : decode cL_law 857 = .ok (.invokevirtual 108, 3) := dk_182 0 108 (dk_at dksL_law_31 0 rfl rfl)
theorem dL_law_860 : decode cL_law 860 = .ok (.aload_n 2, 1) := dk_44 (dk_at dksL_law_31 3 rfl rfl)
theorem dL_law_861 : decode cL_law 861 = .ok (.aload_n 0, 1) := dk_42 (dk_at dksL_law_31 4 rfl rfl)
theorem dL_law_862 : decode cL_law 862 = .ok (.iload_n 3, 1) := dk_29 (dk_at dksL_law_31 5 rfl rfl)
theorem dL_law_863 : decode cL_law 863 = .ok (.iconst 1, 1) := dk_4 (dk_at dksL_law_31 6 rfl rfl)
theorem dL_law_864 : decode cL_law 864 = .ok (.iadd, 1) := dk_96 (dk_at dksL_law_31 7 rfl rfl)
theorem dL_law_865 : decode cL_law 865 = .ok (.iaload, 1) := dk_46 (dk_at dksL_law_31 8 rfl rfl)
theorem dL_law_866 : decode cL_law 866 = .ok (.invokevirtual 111, 3) := dk_182 0 111 (dk_at dksL_law_31 9 rfl rfl)
theorem dL_law_869 : decode cL_law 869 = .ok (.if_icmp .eq 285, 3) := dk_159 1 29 (dk_at dksL_law_31 12 rfl rfl)
theorem dL_law_872 : decode cL_law 872 = .ok (.iconst 0, 1) := dk_3 (dk_at dksL_law_31 15 rfl rfl)
theorem dL_law_873 : decode cL_law 873 = .ok (.ireturn, 1) := dk_172 (dk_at dksL_law_31 16 rfl rfl)
theorem dL_law_874 : decode cL_law 874 = .ok (.aload_n 1, 1) := dk_43 (dk_at dksL_law_31 17 rfl rfl)
theorem dL_law_875 : decode cL_law 875 = .ok (.invokevirtual 112, 3) := dk_182 0 112 (dk_at dksL_law_31 18 rfl rfl)
theorem dL_law_878 : decode cL_law 878 = .ok (.aload_n 2, 1) := dk_44 (dk_at dksL_law_31 21 rfl rfl)
theorem dL_law_879 : decode cL_law 879 = .ok (.invokevirtual 116, 3) := dk_182 0 116 (dk_at dksL_law_32 0 rfl rfl)
theorem dL_law_882 : decode cL_law 882 = .ok (.if_icmp .eq 272, 3) := dk_159 1 16 (dk_at dksL_law_32 3 rfl rfl)
theorem dL_law_885 : decode cL_law 885 = .ok (.iconst 0, 1) := dk_3 (dk_at dksL_law_32 6 rfl rfl)
theorem dL_law_886 : decode cL_law 886 = .ok (.ireturn, 1) := dk_172 (dk_at dksL_law_32 7 rfl rfl)
theorem dL_law_887 : decode cL_law 887 = .ok (.aload_n 1, 1) := dk_43 (dk_at dksL_law_32 8 rfl rfl)
theorem dL_law_888 : decode cL_law 888 = .ok (.aload_n 0, 1) := dk_42 (dk_at dksL_law_32 9 rfl rfl)
theorem dL_law_889 : decode cL_law 889 = .ok (.iload_n 3, 1) := dk_29 (dk_at dksL_law_32 10 rfl rfl)
theorem dL_law_890 : decode cL_law 890 = .ok (.iconst 1, 1) := dk_4 (dk_at dksL_law_32 11 rfl rfl)
theorem dL_law_891 : decode cL_law 891 = .ok (.iadd, 1) := dk_96 (dk_at dksL_law_32 12 rfl rfl)
theorem dL_law_892 : decode cL_law 892 = .ok (.iaload, 1) := dk_46 (dk_at dksL_law_32 13 rfl rfl)
theorem dL_law_893 : decode cL_law 893 = .ok (.invokevirtual 117, 3) := dk_182 0 117 (dk_at dksL_law_32 14 rfl rfl)
theorem dL_law_896 : decode cL_law 896 = .ok (.aload_n 2, 1) := dk_44 (dk_at dksL_law_32 17 rfl rfl)
theorem dL_law_897 : decode cL_law 897 = .ok (.aload_n 0, 1) := dk_42 (dk_at dksL_law_32 18 rfl rfl)
theorem dL_law_898 : decode cL_law 898 = .ok (.iload_n 3, 1) := dk_29 (dk_at dksL_law_32 19 rfl rfl)
theorem dL_law_899 : decode cL_law 899 = .ok (.iconst 1, 1) := dk_4 (dk_at dksL_law_32 20 rfl rfl)
theorem dL_law_900 : decode cL_law 900 = .ok (.iadd, 1) := dk_96 (dk_at dksL_law_32 21 rfl rfl)
theorem dL_law_901 : decode cL_law 901 = .ok (.iaload, 1) := dk_46 (dk_at dksL_law_32 22 rfl rfl)
theorem dL_law_902 : decode cL_law 902 = .ok (.invokevirtual 120, 3) := dk_182 0 120 (dk_at dksL_law_33 0 rfl rfl)
theorem dL_law_905 : decode cL_law 905 = .ok (.if_icmp .eq 249, 3) := dk_159 0 249 (dk_at dksL_law_33 3 rfl rfl)
theorem dL_law_908 : decode cL_law 908 = .ok (.iconst 0, 1) := dk_3 (dk_at dksL_law_33 6 rfl rfl)
theorem dL_law_909 : decode cL_law 909 = .ok (.ireturn, 1) := dk_172 (dk_at dksL_law_33 7 rfl rfl)
theorem dL_law_910 : decode cL_law 910 = .ok (.aload_n 1, 1) := dk_43 (dk_at dksL_law_33 8 rfl rfl)
theorem dL_law_911 : decode cL_law 911 = .ok (.invokevirtual 121, 3) := dk_182 0 121 (dk_at dksL_law_33 9 rfl rfl)
theorem dL_law_914 : decode cL_law 914 = .ok (.aload_n 2, 1) := dk_44 (dk_at dksL_law_33 12 rfl rfl)
theorem dL_law_915 : decode cL_law 915 = .ok (.invokevirtual 124, 3) := dk_182 0 124 (dk_at dksL_law_33 13 rfl rfl)
theorem dL_law_918 : decode cL_law 918 = .ok (.if_icmp .eq 236, 3) := dk_159 0 236 (dk_at dksL_law_33 16 rfl rfl)
theorem dL_law_921 : decode cL_law 921 = .ok (.iconst 0, 1) := dk_3 (dk_at dksL_law_33 19 rfl rfl)
theorem dL_law_922 : decode cL_law 922 = .ok (.ireturn, 1) := dk_172 (dk_at dksL_law_33 20 rfl rfl)
theorem dL_law_923 : decode cL_law 923 = .ok (.aload_n 1, 1) := dk_43 (dk_at dksL_law_33 21 rfl rfl)
theorem dL_law_924 : decode cL_law 924 = .ok (.aload_n 0, 1) := dk_42 (dk_at dksL_law_33 22 rfl rfl)
theorem dL_law_925 : decode cL_law 925 = .ok (.iload_n 3, 1) := dk_29 (dk_at dksL_law_33 23 rfl rfl)
theorem dL_law_926 : decode cL_law 926 = .ok (.iconst 1, 1) := dk_4 (dk_at dksL_law_34 0 rfl rfl)
theorem dL_law_927 : decode cL_law 927 = .ok (.iadd, 1) := dk_96 (dk_at dksL_law_34 1 rfl rfl)
theorem dL_law_928 : decode cL_law 928 = .ok (.iaload, 1) := dk_46 (dk_at dksL_law_34 2 rfl rfl)
theorem dL_law_929 : decode cL_law 929 = .ok (.invokevirtual 125, 3) := dk_182 0 125 (dk_at dksL_law_34 3 rfl rfl)
theorem dL_law_932 : decode cL_law 932 = .ok (.aload_n 2, 1) := dk_44 (dk_at dksL_law_34 6 rfl rfl)
theorem dL_law_933 : decode cL_law 933 = .ok (.aload_n 0, 1) := dk_42 (dk_at dksL_law_34 7 rfl rfl)
theorem dL_law_934 : decode cL_law 934 = .ok (.iload_n 3, 1) := dk_29 (dk_at dksL_law_34 8 rfl rfl)
theorem dL_law_935 : decode cL_law 935 = .ok (.iconst 1, 1) := dk_4 (dk_at dksL_law_34 9 rfl rfl)
theorem dL_law_936 : decode cL_law 936 = .ok (.iadd, 1) := dk_96 (dk_at dksL_law_34 10 rfl rfl)
theorem dL_law_937 : decode cL_law 937 = .ok (.iaload, 1) := dk_46 (dk_at dksL_law_34 11 rfl rfl)
theorem dL_law_938 : decode cL_law 938 = .ok (.invokevirtual 128, 3) := dk_182 0 128 (dk_at dksL_law_34 12 rfl rfl)
theorem dL_law_941 : decode cL_law 941 = .ok (.if_icmp .eq 213, 3) := dk_159 0 213 (dk_at dksL_law_34 15 rfl rfl)
theorem dL_law_944 : decode cL_law 944 = .ok (.iconst 0, 1) := dk_3 (dk_at dksL_law_34 18 rfl rfl)
theorem dL_law_945 : decode cL_law 945 = .ok (.ireturn, 1) := dk_172 (dk_at dksL_law_34 19 rfl rfl)
theorem dL_law_946 : decode cL_law 946 = .ok (.aload_n 1, 1) := dk_43 (dk_at dksL_law_34 20 rfl rfl)
theorem dL_law_947 : decode cL_law 947 = .ok (.aload_n 0, 1) := dk_42 (dk_at dksL_law_34 21 rfl rfl)
theorem dL_law_948 : decode cL_law 948 = .ok (.iload_n 3, 1) := dk_29 (dk_at dksL_law_34 22 rfl rfl)
theorem dL_law_949 : decode cL_law 949 = .ok (.iconst 1, 1) := dk_4 (dk_at dksL_law_34 23 rfl rfl)
theorem dL_law_950 : decode cL_law 950 = .ok (.iadd, 1) := dk_96 (dk_at dksL_law_35 0 rfl rfl)
theorem dL_law_951 : decode cL_law 951 = .ok (.iaload, 1) := dk_46 (dk_at dksL_law_35 1 rfl rfl)
theorem dL_law_952 : decode cL_law 952 = .ok (.ifCond .eq 7, 3) := dk_153 0 7 (dk_at dksL_law_35 2 rfl rfl)
theorem dL_law_955 : decode cL_law 955 = .ok (.iconst 1, 1) := dk_4 (dk_at dksL_law_35 5 rfl rfl)
theorem dL_law_956 : decode cL_law 956 = .ok (.goto 4, 3) := dk_167 0 4 (dk_at dksL_law_35 6 rfl rfl)
theorem dL_law_959 : decode cL_law 959 = .ok (.iconst 0, 1) := dk_3 (dk_at dksL_law_35 9 rfl rfl)
theorem dL_law_960 : decode cL_law 960 = .ok (.invokevirtual 129, 3) := dk_182 0 129 (dk_at dksL_law_35 10 rfl rfl)
theorem dL_law_963 : decode cL_law 963 = .ok (.aload_n 2, 1) := dk_44 (dk_at dksL_law_35 13 rfl rfl)
theorem dL_law_964 : decode cL_law 964 = .ok (.aload_n 0, 1) := dk_42 (dk_at dksL_law_35 14 rfl rfl)
theorem dL_law_965 : decode cL_law 965 = .ok (.iload_n 3, 1) := dk_29 (dk_at dksL_law_35 15 rfl rfl)
theorem dL_law_966 : decode cL_law 966 = .ok (.iconst 1, 1) := dk_4 (dk_at dksL_law_35 16 rfl rfl)
theorem dL_law_967 : decode cL_law 967 = .ok (.iadd, 1) := dk_96 (dk_at dksL_law_35 17 rfl rfl)
theorem dL_law_968 : decode cL_law 968 = .ok (.iaload, 1) := dk_46 (dk_at dksL_law_35 18 rfl rfl)
theorem dL_law_969 : decode cL_law 969 = .ok (.ifCond .eq 7, 3) := dk_153 0 7 (dk_at dksL_law_35 19 rfl rfl)
theorem dL_law_972 : decode cL_law 972 = .ok (.iconst 1, 1) := dk_4 (dk_at dksL_law_35 22 rfl rfl)
theorem dL_law_973 : decode cL_law 973 = .ok (.goto 4, 3) := dk_167 0 4 (dk_at dksL_law_36 0 rfl rfl)
theorem dL_law_976 : decode cL_law 976 = .ok (.iconst 0, 1) := dk_3 (dk_at dksL_law_36 3 rfl rfl)
theorem dL_law_977 : decode cL_law 977 = .ok (.invokevirtual 133, 3) := dk_182 0 133 (dk_at dksL_law_36 4 rfl rfl)
theorem dL_law_980 : decode cL_law 980 = .ok (.if_icmp .eq 174, 3) := dk_159 0 174 (dk_at dksL_law_36 7 rfl rfl)
theorem dL_law_983 : decode cL_law 983 = .ok (.iconst 0, 1) := dk_3 (dk_at dksL_law_36 10 rfl rfl)
theorem dL_law_984 : decode cL_law 984 = .ok (.ireturn, 1) := dk_172 (dk_at dksL_law_36 11 rfl rfl)
theorem dL_law_985 : decode cL_law 985 = .ok (.aload_n 1, 1) := dk_43 (dk_at dksL_law_36 12 rfl rfl)
theorem dL_law_986 : decode cL_law 986 = .ok (.aload_n 0, 1) := dk_42 (dk_at dksL_law_36 13 rfl rfl)
theorem dL_law_987 : decode cL_law 987 = .ok (.iload_n 3, 1) := dk_29 (dk_at dksL_law_36 14 rfl rfl)
theorem dL_law_988 : decode cL_law 988 = .ok (.iconst 1, 1) := dk_4 (dk_at dksL_law_36 15 rfl rfl)
theorem dL_law_989 : decode cL_law 989 = .ok (.iadd, 1) := dk_96 (dk_at dksL_law_36 16 rfl rfl)
theorem dL_law_990 : decode cL_law 990 = .ok (.iaload, 1) := dk_46 (dk_at dksL_law_36 17 rfl rfl)
theorem dL_law_991 : decode cL_law 991 = .ok (.invokevirtual 134, 3) := dk_182 0 134 (dk_at dksL_law_36 18 rfl rfl)
theorem dL_law_994 : decode cL_law 994 = .ok (.aload_n 2, 1) := dk_44 (dk_at dksL_law_36 21 rfl rfl)
theorem dL_law_995 : decode cL_law 995 = .ok (.aload_n 0, 1) := dk_42 (dk_at dksL_law_36 22 rfl rfl)
theorem dL_law_996 : decode cL_law 996 = .ok (.iload_n 3, 1) := dk_29 (dk_at dksL_law_36 23 rfl rfl)
theorem dL_law_997 : decode cL_law 997 = .ok (.iconst 1, 1) := dk_4 (dk_at dksL_law_37 0 rfl rfl)
theorem dL_law_998 : decode cL_law 998 = .ok (.iadd, 1) := dk_96 (dk_at dksL_law_37 1 rfl rfl)
theorem dL_law_999 : decode cL_law 999 = .ok (.iaload, 1) := dk_46 (dk_at dksL_law_37 2 rfl rfl)
theorem dL_law_1000 : decode cL_law 1000 = .ok (.invokevirtual 137, 3) := dk_182 0 137 (dk_at dksL_law_37 3 rfl rfl)
theorem dL_law_1003 : decode cL_law 1003 = .ok (.if_icmp .eq 151, 3) := dk_159 0 151 (dk_at dksL_law_37 6 rfl rfl)
theorem dL_law_1006 : decode cL_law 1006 = .ok (.iconst 0, 1) := dk_3 (dk_at dksL_law_37 9 rfl rfl)
theorem dL_law_1007 : decode cL_law 1007 = .ok (.ireturn, 1) := dk_172 (dk_at dksL_law_37 10 rfl rfl)
theorem dL_law_1008 : decode cL_law 1008 = .ok (.aload_n 1, 1) := dk_43 (dk_at dksL_law_37 11 rfl rfl)
theorem dL_law_1009 : decode cL_law 1009 = .ok (.invokevirtual 138, 3) := dk_182 0 138 (dk_at dksL_law_37 12 rfl rfl)
theorem dL_law_1012 : decode cL_law 1012 = .ok (.aload_n 2, 1) := dk_44 (dk_at dksL_law_37 15 rfl rfl)
theorem dL_law_1013 : decode cL_law 1013 = .ok (.invokevirtual 141, 3) := dk_182 0 141 (dk_at dksL_law_37 16 rfl rfl)
theorem dL_law_1016 : decode cL_law 1016 = .ok (.if_icmp .eq 138, 3) := dk_159 0 138 (dk_at dksL_law_37 19 rfl rfl)
theorem dL_law_1019 : decode cL_law 1019 = .ok (.iconst 0, 1) := dk_3 (dk_at dksL_law_37 22 rfl rfl)
theorem dL_law_1020 : decode cL_law 1020 = .ok (.ireturn, 1) := dk_172 (dk_at dksL_law_37 23 rfl rfl)
theorem dL_law_1021 : decode cL_law 1021 = .ok (.aload_n 1, 1) := dk_43 (dk_at dksL_law_38 0 rfl rfl)
theorem dL_law_1022 : decode cL_law 1022 = .ok (.aload_n 0, 1) := dk_42 (dk_at dksL_law_38 1 rfl rfl)
theorem dL_law_1023 : decode cL_law 1023 = .ok (.iload_n 3, 1) := dk_29 (dk_at dksL_law_38 2 rfl rfl)
theorem dL_law_1024 : decode cL_law 1024 = .ok (.iconst 1, 1) := dk_4 (dk_at dksL_law_38 3 rfl rfl)
theorem dL_law_1025 : decode cL_law 1025 = .ok (.iadd, 1) := dk_96 (dk_at dksL_law_38 4 rfl rfl)
theorem dL_law_1026 : decode cL_law 1026 = .ok (.iaload, 1) := dk_46 (dk_at dksL_law_38 5 rfl rfl)
theorem dL_law_1027 : decode cL_law 1027 = .ok (.invokevirtual 142, 3) := dk_182 0 142 (dk_at dksL_law_38 6 rfl rfl)
theorem dL_law_1030 : decode cL_law 1030 = .ok (.dstore 4, 2) := dk_57 4 (dk_at dksL_law_38 9 rfl rfl)
theorem dL_law_1032 : decode cL_law 1032 = .ok (.aload_n 2, 1) := dk_44 (dk_at dksL_law_38 11 rfl rfl)
theorem dL_law_1033 : decode cL_law 1033 = .ok (.aload_n 0, 1) := dk_42 (dk_at dksL_law_38 12 rfl rfl)
theorem dL_law_1034 : decode cL_law 1034 = .ok (.iload_n 3, 1) := dk_29 (dk_at dksL_law_38 13 rfl rfl)
theorem dL_law_1035 : decode cL_law 1035 = .ok (.iconst 1, 1) := dk_4 (dk_at dksL_law_38 14 rfl rfl)
theorem dL_law_1036 : decode cL_law 1036 = .ok (.iadd, 1) := dk_96 (dk_at dksL_law_38 15 rfl rfl)
theorem dL_law_1037 : decode cL_law 1037 = .ok (.iaload, 1) := dk_46 (dk_at dksL_law_38 16 rfl rfl)
theorem dL_law_1038 : decode cL_law 1038 = .ok (.invokevirtual 146, 3) := dk_182 0 146 (dk_at dksL_law_38 17 rfl rfl)
theorem dL_law_1041 : decode cL_law 1041 = .ok (.dstore 6, 2) := dk_57 6 (dk_at dksL_law_38 20 rfl rfl)
theorem dL_law_1043 : decode cL_law 1043 = .ok (.dload 4, 2) := dk_24 4 (dk_at dksL_law_38 22 rfl rfl)
theorem dL_law_1045 : decode cL_law 1045 = .ok (.dload 6, 2) := dk_24 6 (dk_at dksL_law_39 0 rfl rfl)
theorem dL_law_1047 : decode cL_law 1047 = .ok (.dcmp .l, 1) := dk_151 (dk_at dksL_law_39 2 rfl rfl)
theorem dL_law_1048 : decode cL_law 1048 = .ok (.ifCond .eq 21, 3) := dk_153 0 21 (dk_at dksL_law_39 3 rfl rfl)
theorem dL_law_1051 : decode cL_law 1051 = .ok (.dload 4, 2) := dk_24 4 (dk_at dksL_law_39 6 rfl rfl)
theorem dL_law_1053 : decode cL_law 1053 = .ok (.dload 4, 2) := dk_24 4 (dk_at dksL_law_39 8 rfl rfl)
theorem dL_law_1055 : decode cL_law 1055 = .ok (.dcmp .l, 1) := dk_151 (dk_at dksL_law_39 10 rfl rfl)
theorem dL_law_1056 : decode cL_law 1056 = .ok (.ifCond .eq 11, 3) := dk_153 0 11 (dk_at dksL_law_39 11 rfl rfl)
theorem dL_law_1059 : decode cL_law 1059 = .ok (.dload 6, 2) := dk_24 6 (dk_at dksL_law_39 14 rfl rfl)
theorem dL_law_1061 : decode cL_law 1061 = .ok (.dload 6, 2) := dk_24 6 (dk_at dksL_law_39 16 rfl rfl)
theorem dL_law_1063 : decode cL_law 1063 = .ok (.dcmp .l, 1) := dk_151 (dk_at dksL_law_39 18 rfl rfl)
theorem dL_law_1064 : decode cL_law 1064 = .ok (.ifCond .ne 5, 3) := dk_154 0 5 (dk_at dksL_law_39 19 rfl rfl)
theorem dL_law_1067 : decode cL_law 1067 = .ok (.iconst 0, 1) := dk_3 (dk_at dksL_law_39 22 rfl rfl)
theorem dL_law_1068 : decode cL_law 1068 = .ok (.ireturn, 1) := dk_172 (dk_at dksL_law_39 23 rfl rfl)
theorem dL_law_1069 : decode cL_law 1069 = .ok (.goto 85, 3) := dk_167 0 85 (dk_at dksL_law_40 0 rfl rfl)
theorem dL_law_1072 : decode cL_law 1072 = .ok (.aload_n 1, 1) := dk_43 (dk_at dksL_law_40 3 rfl rfl)
theorem dL_law_1073 : decode cL_law 1073 = .ok (.invokevirtual 147, 3) := dk_182 0 147 (dk_at dksL_law_40 4 rfl rfl)
theorem dL_law_1076 : decode cL_law 1076 = .ok (.f2d, 1) := dk_141 (dk_at dksL_law_40 7 rfl rfl)
theorem dL_law_1077 : decode cL_law 1077 = .ok (.dstore 4, 2) := dk_57 4 (dk_at dksL_law_40 8 rfl rfl)
theorem dL_law_1079 : decode cL_law 1079 = .ok (.aload_n 2, 1) := dk_44 (dk_at dksL_law_40 10 rfl rfl)
theorem dL_law_1080 : decode cL_law 1080 = .ok (.invokevirtual 151, 3) := dk_182 0 151 (dk_at dksL_law_40 11 rfl rfl)
theorem dL_law_1083 : decode cL_law 1083 = .ok (.f2d, 1) := dk_141 (dk_at dksL_law_40 14 rfl rfl)
theorem dL_law_1084 : decode cL_law 1084 = .ok (.dstore 6, 2) := dk_57 6 (dk_at dksL_law_40 15 rfl rfl)
theorem dL_law_1086 : decode cL_law 1086 = .ok (.dload 4, 2) := dk_24 4 (dk_at dksL_law_40 17 rfl rfl)
theorem dL_law_1088 : decode cL_law 1088 = .ok (.dload 6, 2) := dk_24 6 (dk_at dksL_law_40 19 rfl rfl)
theorem dL_law_1090 : decode cL_law 1090 = .ok (.dcmp .l, 1) := dk_151 (dk_at dksL_law_40 21 rfl rfl)
theorem dL_law_1091 : decode cL_law 1091 = .ok (.ifCond .eq 21, 3) := dk_153 0 21 (dk_at dksL_law_41 0 rfl rfl)
theorem dL_law_1094 : decode cL_law 1094 = .ok (.dload 4, 2) := dk_24 4 (dk_at dksL_law_41 3 rfl rfl)
theorem dL_law_1096 : decode cL_law 1096 = .ok (.dload 4, 2) := dk_24 4 (dk_at dksL_law_41 5 rfl rfl)
theorem dL_law_1098 : decode cL_law 1098 = .ok (.dcmp .l, 1) := dk_151 (dk_at dksL_law_41 7 rfl rfl)
theorem dL_law_1099 : decode cL_law 1099 = .ok (.ifCond .eq 11, 3) := dk_153 0 11 (dk_at dksL_law_41 8 rfl rfl)
theorem dL_law_1102 : decode cL_law 1102 = .ok (.dload 6, 2) := dk_24 6 (dk_at dksL_law_41 11 rfl rfl)
theorem dL_law_1104 : decode cL_law 1104 = .ok (.dload 6, 2) := dk_24 6 (dk_at dksL_law_41 13 rfl rfl)
theorem dL_law_1106 : decode cL_law 1106 = .ok (.dcmp .l, 1) := dk_151 (dk_at dksL_law_41 15 rfl rfl)
theorem dL_law_1107 : decode cL_law 1107 = .ok (.ifCond .ne 5, 3) := dk_154 0 5 (dk_at dksL_law_41 16 rfl rfl)
theorem dL_law_1110 : decode cL_law 1110 = .ok (.iconst 0, 1) := dk_3 (dk_at dksL_law_41 19 rfl rfl)
theorem dL_law_1111 : decode cL_law 1111 = .ok (.ireturn, 1) := dk_172 (dk_at dksL_law_41 20 rfl rfl)
theorem dL_law_1112 : decode cL_law 1112 = .ok (.goto 42, 3) := dk_167 0 42 (dk_at dksL_law_41 21 rfl rfl)
theorem dL_law_1115 : decode cL_law 1115 = .ok (.aload_n 1, 1) := dk_43 (dk_at dksL_law_42 0 rfl rfl)
theorem dL_law_1116 : decode cL_law 1116 = .ok (.invokevirtual 152, 3) := dk_182 0 152 (dk_at dksL_law_42 1 rfl rfl)
theorem dL_law_1119 : decode cL_law 1119 = .ok (.aload_n 2, 1) := dk_44 (dk_at dksL_law_42 4 rfl rfl)
theorem dL_law_1120 : decode cL_law 1120 = .ok (.invokevirtual 155, 3) := dk_182 0 155 (dk_at dksL_law_42 5 rfl rfl)
theorem dL_law_1123 : decode cL_law 1123 = .ok (.if_icmp .eq 31, 3) := dk_159 0 31 (dk_at dksL_law_42 8 rfl rfl)
theorem dL_law_1126 : decode cL_law 1126 = .ok (.iconst 0, 1) := dk_3 (dk_at dksL_law_42 11 rfl rfl)
theorem dL_law_1127 : decode cL_law 1127 = .ok (.ireturn, 1) := dk_172 (dk_at dksL_law_42 12 rfl rfl)
theorem dL_law_1128 : decode cL_law 1128 = .ok (.aload_n 1, 1) := dk_43 (dk_at dksL_law_42 13 rfl rfl)
theorem dL_law_1129 : decode cL_law 1129 = .ok (.invokevirtual 156, 3) := dk_182 0 156 (dk_at dksL_law_42 14 rfl rfl)
theorem dL_law_1132 : decode cL_law 1132 = .ok (.aload_n 2, 1) := dk_44 (dk_at dksL_law_42 17 rfl rfl)
theorem dL_law_1133 : decode cL_law 1133 = .ok (.invokevirtual 159, 3) := dk_182 0 159 (dk_at dksL_law_42 18 rfl rfl)
theorem dL_law_1136 : decode cL_law 1136 = .ok (.if_icmp .eq 18, 3) := dk_159 0 18 (dk_at dksL_law_42 21 rfl rfl)
theorem dL_law_1139 : decode cL_law 1139 = .ok (.iconst 0, 1) := dk_3 (dk_at dksL_law_43 0 rfl rfl)
theorem dL_law_1140 : decode cL_law 1140 = .ok (.ireturn, 1) := dk_172 (dk_at dksL_law_43 1 rfl rfl)
theorem dL_law_1141 : decode cL_law 1141 = .ok (.aload_n 1, 1) := dk_43 (dk_at dksL_law_43 2 rfl rfl)
theorem dL_law_1142 : decode cL_law 1142 = .ok (.invokevirtual 160, 3) := dk_182 0 160 (dk_at dksL_law_43 3 rfl rfl)
theorem dL_law_1145 : decode cL_law 1145 = .ok (.aload_n 2, 1) := dk_44 (dk_at dksL_law_43 6 rfl rfl)
theorem dL_law_1146 : decode cL_law 1146 = .ok (.invokevirtual 163, 3) := dk_182 0 163 (dk_at dksL_law_43 7 rfl rfl)
theorem dL_law_1149 : decode cL_law 1149 = .ok (.if_icmp .eq 5, 3) := dk_159 0 5 (dk_at dksL_law_43 10 rfl rfl)
theorem dL_law_1152 : decode cL_law 1152 = .ok (.iconst 0, 1) := dk_3 (dk_at dksL_law_43 13 rfl rfl)
theorem dL_law_1153 : decode cL_law 1153 = .ok (.ireturn, 1) := dk_172 (dk_at dksL_law_43 14 rfl rfl)
theorem dL_law_1154 : decode cL_law 1154 = .ok (.iinc 3 4, 3) := dk_132 3 4 (dk_at dksL_law_43 15 rfl rfl)
theorem dL_law_1157 : decode cL_law 1157 = .ok (.goto (-1139), 3) := dk_167 251 141 (dk_at dksL_law_43 18 rfl rfl)
theorem dL_law_1160 : decode cL_law 1160 = .ok (.iconst 1, 1) := dk_4 (dk_at dksL_law_43 21 rfl rfl)
theorem dL_law_1161 : decode cL_law 1161 = .ok (.ireturn, 1) := dk_172 (dk_at dksL_law_43 22 rfl rfl)

/-! jdk/internal/util/ArraysSupport -/
set_option maxRecDepth 100000
def RJ3 : String := "jdk/internal/util/ArraysSupport"
abbrev cJ3_newLength : ByteArray := prog_57_method_27_code
def yJ3_newLength : MethodName := ⟨RJ3, "newLength", "(III)I"⟩
def dkwJ3_newLength_1 : List UInt8 := [184, 0, 201, 172]
abbrev dktJ3_newLength_1 : List UInt8 := dkwJ3_newLength_1 ++ []
def dkwJ3_newLength_0 : List UInt8 := [26, 27, 28, 184, 0, 194, 96, 62, 3, 29, 162, 0, 11, 29, 18, 200, 163, 0, 5, 29, 172, 26, 27]
abbrev dktJ3_newLength_0 : List UInt8 := dkwJ3_newLength_0 ++ dktJ3_newLength_1
theorem dksJ3_newLength_0 : cJ3_newLength.data.toList.drop 0 = dktJ3_newLength_0 := by decide +kernel
theorem dksJ3_newLength_1 : cJ3_newLength.data.toList.drop 23 = dktJ3_newLength_1 := dk_seg dksJ3_newLength_0 23 rfl rfl
theorem dJ3_newLength_0 : decode cJ3_newLength 0 = .ok (.iload_n 0, 1) := dk_26 (dk_at dksJ3_newLength_0 0 rfl rfl)
theorem dJ3_newLength_1 : decode cJ3_newLength 1 = .ok (.iload_n 1, 1) := dk_27 (dk_at dksJ3_newLength_0 1 rfl rfl)
theorem dJ3_newLength_2 : decode cJ3_newLength 2 = .ok (.iload_n 2, 1) := dk_28 (dk_at dksJ3_newLength_0 2 rfl rfl)
theorem dJ3_newLength_3 : decode cJ3_newLength 3 = .ok (.invokestatic 194, 3) := dk_184 0 194 (dk_at dksJ3_newLength_0 3 rfl rfl)
theorem dJ3_newLength_6 : decode cJ3_newLength 6 = .ok (.iadd, 1) := dk_96 (dk_at dksJ3_newLength_0 6 rfl rfl)
theorem dJ3_newLength_7 : decode cJ3_newLength 7 = .ok (.istore_n 3, 1) := dk_62 (dk_at dksJ3_newLength_0 7 rfl rfl)
theorem dJ3_newLength_8 : decode cJ3_newLength 8 = .ok (.iconst 0, 1) := dk_3 (dk_at dksJ3_newLength_0 8 rfl rfl)
theorem dJ3_newLength_9 : decode cJ3_newLength 9 = .ok (.iload_n 3, 1) := dk_29 (dk_at dksJ3_newLength_0 9 rfl rfl)
theorem dJ3_newLength_10 : decode cJ3_newLength 10 = .ok (.if_icmp .ge 11, 3) := dk_162 0 11 (dk_at dksJ3_newLength_0 10 rfl rfl)
theorem dJ3_newLength_13 : decode cJ3_newLength 13 = .ok (.iload_n 3, 1) := dk_29 (dk_at dksJ3_newLength_0 13 rfl rfl)
theorem dJ3_newLength_14 : decode cJ3_newLength 14 = .ok (.ldc 200, 2) := dk_18 200 (dk_at dksJ3_newLength_0 14 rfl rfl)
theorem dJ3_newLength_16 : decode cJ3_newLength 16 = .ok (.if_icmp .gt 5, 3) := dk_163 0 5 (dk_at dksJ3_newLength_0 16 rfl rfl)
theorem dJ3_newLength_19 : decode cJ3_newLength 19 = .ok (.iload_n 3, 1) := dk_29 (dk_at dksJ3_newLength_0 19 rfl rfl)
theorem dJ3_newLength_20 : decode cJ3_newLength 20 = .ok (.ireturn, 1) := dk_172 (dk_at dksJ3_newLength_0 20 rfl rfl)
theorem dJ3_newLength_21 : decode cJ3_newLength 21 = .ok (.iload_n 0, 1) := dk_26 (dk_at dksJ3_newLength_0 21 rfl rfl)
theorem dJ3_newLength_22 : decode cJ3_newLength 22 = .ok (.iload_n 1, 1) := dk_27 (dk_at dksJ3_newLength_0 22 rfl rfl)
theorem dJ3_newLength_23 : decode cJ3_newLength 23 = .ok (.invokestatic 201, 3) := dk_184 0 201 (dk_at dksJ3_newLength_1 0 rfl rfl)
theorem dJ3_newLength_26 : decode cJ3_newLength 26 = .ok (.ireturn, 1) := dk_172 (dk_at dksJ3_newLength_1 3 rfl rfl)
abbrev cJ3_hugeLength : ByteArray := prog_57_method_28_code
def yJ3_hugeLength : MethodName := ⟨RJ3, "hugeLength", "(II)I"⟩
def dkwJ3_hugeLength_2 : List UInt8 := [191, 28, 18, 200, 163, 0, 6, 18, 200, 172, 28, 172]
abbrev dktJ3_hugeLength_2 : List UInt8 := dkwJ3_hugeLength_2 ++ []
def dkwJ3_hugeLength_1 : List UInt8 := [26, 182, 0, 98, 18, 208, 182, 0, 94, 27, 182, 0, 98, 18, 210, 182, 0, 94, 182, 0, 101, 183, 0, 212]
abbrev dktJ3_hugeLength_1 : List UInt8 := dkwJ3_hugeLength_1 ++ dktJ3_hugeLength_2
def dkwJ3_hugeLength_0 : List UInt8 := [26, 27, 96, 61, 28, 156, 0, 44, 187, 0, 204, 89, 187, 0, 89, 89, 183, 0, 91, 18, 206, 182, 0, 94]
abbrev dktJ3_hugeLength_0 : List UInt8 := dkwJ3_hugeLength_0 ++ dktJ3_hugeLength_1
theorem dksJ3_hugeLength_0 : cJ3_hugeLength.data.toList.drop 0 = dktJ3_hugeLength_0 := by decide +kernel
theorem dksJ3_hugeLength_1 : cJ3_hugeLength.data.toList.drop 24 = dktJ3_hugeLength_1 := dk_seg dksJ3_hugeLength_0 24 rfl rfl
theorem dksJ3_hugeLength_2 : cJ3_hugeLength.data.toList.drop 48 = dktJ3_hugeLength_2 := dk_seg dksJ3_hugeLength_1 24 rfl rfl
theorem dJ3_hugeLength_0 : decode cJ3_hugeLength 0 = .ok (.iload_n 0, 1) := dk_26 (dk_at dksJ3_hugeLength_0 0 rfl rfl)
theorem dJ3_hugeLength_1 : decode cJ3_hugeLength 1 = .ok (.iload_n 1, 1) := dk_27 (dk_at dksJ3_hugeLength_0 1 rfl rfl)
theorem dJ3_hugeLength_2 : decode cJ3_hugeLength 2 = .ok (.iadd, 1) := dk_96 (dk_at dksJ3_hugeLength_0 2 rfl rfl)
theorem dJ3_hugeLength_3 : decode cJ3_hugeLength 3 = .ok (.istore_n 2, 1) := dk_61 (dk_at dksJ3_hugeLength_0 3 rfl rfl)
theorem dJ3_hugeLength_4 : decode cJ3_hugeLength 4 = .ok (.iload_n 2, 1) := dk_28 (dk_at dksJ3_hugeLength_0 4 rfl rfl)
theorem dJ3_hugeLength_5 : decode cJ3_hugeLength 5 = .ok (.ifCond .ge 44, 3) := dk_156 0 44 (dk_at dksJ3_hugeLength_0 5 rfl rfl)
theorem dJ3_hugeLength_8 : decode cJ3_hugeLength 8 = .ok (.new 204, 3) := dk_187 0 204 (dk_at dksJ3_hugeLength_0 8 rfl rfl)
theorem dJ3_hugeLength_11 : decode cJ3_hugeLength 11 = .ok (.dup, 1) := dk_89 (dk_at dksJ3_hugeLength_0 11 rfl rfl)
theorem dJ3_hugeLength_12 : decode cJ3_hugeLength 12 = .ok (.new 89, 3) := dk_187 0 89 (dk_at dksJ3_hugeLength_0 12 rfl rfl)
theorem dJ3_hugeLength_15 : decode cJ3_hugeLength 15 = .ok (.dup, 1) := dk_89 (dk_at dksJ3_hugeLength_0 15 rfl rfl)
theorem dJ3_hugeLength_16 : decode cJ3_hugeLength 16 = .ok (.invokespecial 91, 3) := dk_183 0 91 (dk_at dksJ3_hugeLength_0 16 rfl rfl)
theorem dJ3_hugeLength_19 : decode cJ3_hugeLength 19 = .ok (.ldc 206, 2) := dk_18 206 (dk_at dksJ3_hugeLength_0 19 rfl rfl)
theorem dJ3_hugeLength_21 : decode cJ3_hugeLength 21 = .ok (.invokevirtual 94, 3) := dk_182 0 94 (dk_at dksJ3_hugeLength_0 21 rfl rfl)
theorem dJ3_hugeLength_24 : decode cJ3_hugeLength 24 = .ok (.iload_n 0, 1) := dk_26 (dk_at dksJ3_hugeLength_1 0 rfl rfl)
theorem dJ3_hugeLength_25 : decode cJ3_hugeLength 25 = .ok (.invokevirtual 98, 3) := dk_182 0 98 (dk_at dksJ3_hugeLength_1 1 rfl rfl)
theorem dJ3_hugeLength_28 : decode cJ3_hugeLength 28 = .ok (.ldc 208, 2) := dk_18 208 (dk_at dksJ3_hugeLength_1 4 rfl rfl)
theorem dJ3_hugeLength_30 : decode cJ3_hugeLength 30 = .ok (.invokevirtual 94, 3) := dk_182 0 94 (dk_at dksJ3_hugeLength_1 6 rfl rfl)
theorem dJ3_hugeLength_33 : decode cJ3_hugeLength 33 = .ok (.iload_n 1, 1) := dk_27 (dk_at dksJ3_hugeLength_1 9 rfl rfl)
theorem dJ3_hugeLength_34 : decode cJ3_hugeLength 34 = .ok (.invokevirtual 98, 3) := dk_182 0 98 (dk_at dksJ3_hugeLength_1 10 rfl rfl)
theorem dJ3_hugeLength_37 : decode cJ3_hugeLength 37 = .ok (.ldc 210, 2) := dk_18 210 (dk_at dksJ3_hugeLength_1 13 rfl rfl)
theorem dJ3_hugeLength_39 : decode cJ3_hugeLength 39 = .ok (.invokevirtual 94, 3) := dk_182 0 94 (dk_at dksJ3_hugeLength_1 15 rfl rfl)
theorem dJ3_hugeLength_42 : decode cJ3_hugeLength 42 = .ok (.invokevirtual 101, 3) := dk_182 0 101 (dk_at dksJ3_hugeLength_1 18 rfl rfl)
theorem dJ3_hugeLength_45 : decode cJ3_hugeLength 45 = .ok (.invokespecial 212, 3) := dk_183 0 212 (dk_at dksJ3_hugeLength_1 21 rfl rfl)
theorem dJ3_hugeLength_48 : decode cJ3_hugeLength 48 = .ok (.athrow, 1) := dk_191 (dk_at dksJ3_hugeLength_2 0 rfl rfl)
theorem dJ3_hugeLength_49 : decode cJ3_hugeLength 49 = .ok (.iload_n 2, 1) := dk_28 (dk_at dksJ3_hugeLength_2 1 rfl rfl)
theorem dJ3_hugeLength_50 : decode cJ3_hugeLength 50 = .ok (.ldc 200, 2) := dk_18 200 (dk_at dksJ3_hugeLength_2 2 rfl rfl)
theorem dJ3_hugeLength_52 : decode cJ3_hugeLength 52 = .ok (.if_icmp .gt 6, 3) := dk_163 0 6 (dk_at dksJ3_hugeLength_2 4 rfl rfl)
theorem dJ3_hugeLength_55 : decode cJ3_hugeLength 55 = .ok (.ldc 200, 2) := dk_18 200 (dk_at dksJ3_hugeLength_2 7 rfl rfl)
theorem dJ3_hugeLength_57 : decode cJ3_hugeLength 57 = .ok (.ireturn, 1) := dk_172 (dk_at dksJ3_hugeLength_2 9 rfl rfl)
theorem dJ3_hugeLength_58 : decode cJ3_hugeLength 58 = .ok (.iload_n 2, 1) := dk_28 (dk_at dksJ3_hugeLength_2 10 rfl rfl)
theorem dJ3_hugeLength_59 : decode cJ3_hugeLength 59 = .ok (.ireturn, 1) := dk_172 (dk_at dksJ3_hugeLength_2 11 rfl rfl)
abbrev cJ3_mismatch : ByteArray := prog_57_method_14_code
def yJ3_mismatch : MethodName := ⟨RJ3, "mismatch", "([BI[BII)I"⟩
def dkwJ3_mismatch_4 : List UInt8 := [132, 5, 1, 167, 255, 228, 2, 172]
abbrev dktJ3_mismatch_4 : List UInt8 := dkwJ3_mismatch_4 ++ []
def dkwJ3_mismatch_3 : List UInt8 := [21, 4, 162, 0, 27, 42, 27, 21, 5, 96, 51, 44, 29, 21, 5, 96, 51, 159, 0, 6, 21, 5, 172]
abbrev dktJ3_mismatch_3 : List UInt8 := dkwJ3_mismatch_3 ++ dktJ3_mismatch_4
def dkwJ3_mismatch_2 : List UInt8 := [184, 0, 122, 54, 5, 21, 5, 155, 0, 6, 21, 5, 172, 21, 4, 21, 5, 2, 130, 100, 54, 5, 21, 5]
abbrev dktJ3_mismatch_2 : List UInt8 := dkwJ3_mismatch_2 ++ dktJ3_mismatch_3
def dkwJ3_mismatch_1 : List UInt8 := [27, 96, 54, 6, 178, 0, 126, 29, 96, 54, 7, 42, 21, 6, 133, 44, 21, 7, 133, 21, 4, 178, 0, 129]
abbrev dktJ3_mismatch_1 : List UInt8 := dkwJ3_mismatch_1 ++ dktJ3_mismatch_2
def dkwJ3_mismatch_0 : List UInt8 := [3, 54, 5, 21, 4, 16, 7, 164, 0, 63, 42, 27, 51, 44, 29, 51, 159, 0, 5, 3, 172, 178, 0, 126]
abbrev dktJ3_mismatch_0 : List UInt8 := dkwJ3_mismatch_0 ++ dktJ3_mismatch_1
theorem dksJ3_mismatch_0 : cJ3_mismatch.data.toList.drop 0 = dktJ3_mismatch_0 := by decide +kernel
theorem dksJ3_mismatch_1 : cJ3_mismatch.data.toList.drop 24 = dktJ3_mismatch_1 := dk_seg dksJ3_mismatch_0 24 rfl rfl
theorem dksJ3_mismatch_2 : cJ3_mismatch.data.toList.drop 48 = dktJ3_mismatch_2 := dk_seg dksJ3_mismatch_1 24 rfl rfl
theorem dksJ3_mismatch_3 : cJ3_mismatch.data.toList.drop 72 = dktJ3_mismatch_3 := dk_seg dksJ3_mismatch_2 24 rfl rfl
theorem dksJ3_mismatch_4 : cJ3_mismatch.data.toList.drop 95 = dktJ3_mismatch_4 := dk_seg dksJ3_mismatch_3 23 rfl rfl
theorem dJ3_mismatch_0 : decode cJ3_mismatch 0 = .ok (.iconst 0, 1) := dk_3 (dk_at dksJ3_mismatch_0 0 rfl rfl)
theorem dJ3_mismatch_1 : decode cJ3_mismatch 1 = .ok (.istore 5, 2) := dk_54 5 (dk_at dksJ3_mismatch_0 1 rfl rfl)
theorem dJ3_mismatch_3 : decode cJ3_mismatch 3 = .ok (.iload 4, 2) := dk_21 4 (dk_at dksJ3_mismatch_0 3 rfl rfl)
theorem dJ3_mismatch_5 : decode cJ3_mismatch 5 = .ok (.bipush 7, 2) := dk_16 7 (dk_at dksJ3_mismatch_0 5 rfl rfl)
theorem dJ3_mismatch_7 : decode cJ3_mismatch 7 = .ok (.if_icmp .le 63, 3) := dk_164 0 63 (dk_at dksJ3_mismatch_0 7 rfl rfl)
theorem dJ3_mismatch_10 : decode cJ3_mismatch 10 = .ok (.aload_n 0, 1) := dk_42 (dk_at dksJ3_mismatch_0 10 rfl rfl)
theorem dJ3_mismatch_11 : decode cJ3_mismatch 11 = .ok (.iload_n 1, 1) := dk_27 (dk_at dksJ3_mismatch_0 11 rfl rfl)
theorem dJ3_mismatch_12 : decode cJ3_mismatch 12 = .ok (.baload, 1) := dk_51 (dk_at dksJ3_mismatch_0 12 rfl rfl)
theorem dJ3_mismatch_13 : decode cJ3_mismatch 13 = .ok (.aload_n 2, 1) := dk_44 (dk_at dksJ3_mismatch_0 13 rfl rfl)
theorem dJ3_mismatch_14 : decode cJ3_mismatch 14 = .ok (.iload_n 3, 1) := dk_29 (dk_at dksJ3_mismatch_0 14 rfl rfl)
theorem dJ3_mismatch_15 : decode cJ3_mismatch 15 = .ok (.baload, 1) := dk_51 (dk_at dksJ3_mismatch_0 15 rfl rfl)
theorem dJ3_mismatch_16 : decode cJ3_mismatch 16 = .ok (.if_icmp .eq 5, 3) := dk_159 0 5 (dk_at dksJ3_mismatch_0 16 rfl rfl)
theorem dJ3_mismatch_19 : decode cJ3_mismatch 19 = .ok (.iconst 0, 1) := dk_3 (dk_at dksJ3_mismatch_0 19 rfl rfl)
theorem dJ3_mismatch_20 : decode cJ3_mismatch 20 = .ok (.ireturn, 1) := dk_172 (dk_at dksJ3_mismatch_0 20 rfl rfl)
theorem dJ3_mismatch_21 : decode cJ3_mismatch 21 = .ok (.getstatic 126, 3) := dk_178 0 126 (dk_at dksJ3_mismatch_0 21 rfl rfl)
theorem dJ3_mismatch_24 : decode cJ3_mismatch 24 = .ok (.iload_n 1, 1) := dk_27 (dk_at dksJ3_mismatch_1 0 rfl rfl)
theorem dJ3_mismatch_25 : decode cJ3_mismatch 25 = .ok (.iadd, 1) := dk_96 (dk_at dksJ3_mismatch_1 1 rfl rfl)
theorem dJ3_mismatch_26 : decode cJ3_mismatch 26 = .ok (.istore 6, 2) := dk_54 6 (dk_at dksJ3_mismatch_1 2 rfl rfl)
theorem dJ3_mismatch_28 : decode cJ3_mismatch 28 = .ok (.getstatic 126, 3) := dk_178 0 126 (dk_at dksJ3_mismatch_1 4 rfl rfl)
theorem dJ3_mismatch_31 : decode cJ3_mismatch 31 = .ok (.iload_n 3, 1) := dk_29 (dk_at dksJ3_mismatch_1 7 rfl rfl)
theorem dJ3_mismatch_32 : decode cJ3_mismatch 32 = .ok (.iadd, 1) := dk_96 (dk_at dksJ3_mismatch_1 8 rfl rfl)
theorem dJ3_mismatch_33 : decode cJ3_mismatch 33 = .ok (.istore 7, 2) := dk_54 7 (dk_at dksJ3_mismatch_1 9 rfl rfl)
theorem dJ3_mismatch_35 : decode cJ3_mismatch 35 = .ok (.aload_n 0, 1) := dk_42 (dk_at dksJ3_mismatch_1 11 rfl rfl)
theorem dJ3_mismatch_36 : decode cJ3_mismatch 36 = .ok (.iload 6, 2) := dk_21 6 (dk_at dksJ3_mismatch_1 12 rfl rfl)
theorem dJ3_mismatch_38 : decode cJ3_mismatch 38 = .ok (.i2l, 1) := dk_133 (dk_at dksJ3_mismatch_1 14 rfl rfl)
theorem dJ3_mismatch_39 : decode cJ3_mismatch 39 = .ok (.aload_n 2, 1) := dk_44 (dk_at dksJ3_mismatch_1 15 rfl rfl)
theorem dJ3_mismatch_40 : decode cJ3_mismatch 40 = .ok (.iload 7, 2) := dk_21 7 (dk_at dksJ3_mismatch_1 16 rfl rfl)
theorem dJ3_mismatch_42 : decode cJ3_mismatch 42 = .ok (.i2l, 1) := dk_133 (dk_at dksJ3_mismatch_1 18 rfl rfl)
theorem dJ3_mismatch_43 : decode cJ3_mismatch 43 = .ok (.iload 4, 2) := dk_21 4 (dk_at dksJ3_mismatch_1 19 rfl rfl)
theorem dJ3_mismatch_45 : decode cJ3_mismatch 45 = .ok (.getstatic 129, 3) := dk_178 0 129 (dk_at dksJ3_mismatch_1 21 rfl rfl)
theorem dJ3_mismatch_48 : decode cJ3_mismatch 48 = .ok (.invokestatic 122, 3) := dk_184 0 122 (dk_at dksJ3_mismatch_2 0 rfl rfl)
theorem dJ3_mismatch_51 : decode cJ3_mismatch 51 = .ok (.istore 5, 2) := dk_54 5 (dk_at dksJ3_mismatch_2 3 rfl rfl)
theorem dJ3_mismatch_53 : decode cJ3_mismatch 53 = .ok (.iload 5, 2) := dk_21 5 (dk_at dksJ3_mismatch_2 5 rfl rfl)
theorem dJ3_mismatch_55 : decode cJ3_mismatch 55 = .ok (.ifCond .lt 6, 3) := dk_155 0 6 (dk_at dksJ3_mismatch_2 7 rfl rfl)
theorem dJ3_mismatch_58 : decode cJ3_mismatch 58 = .ok (.iload 5, 2) := dk_21 5 (dk_at dksJ3_mismatch_2 10 rfl rfl)
theorem dJ3_mismatch_60 : decode cJ3_mismatch 60 = .ok (.ireturn, 1) := dk_172 (dk_at dksJ3_mismatch_2 12 rfl rfl)
theorem dJ3_mismatch_61 : decode cJ3_mismatch 61 = .ok (.iload 4, 2) := dk_21 4 (dk_at dksJ3_mismatch_2 13 rfl rfl)
theorem dJ3_mismatch_63 : decode cJ3_mismatch 63 = .ok (.iload 5, 2) := dk_21 5 (dk_at dksJ3_mismatch_2 15 rfl rfl)
theorem dJ3_mismatch_65 : decode cJ3_mismatch 65 = .ok (.iconst (-1), 1) := dk_2 (dk_at dksJ3_mismatch_2 17 rfl rfl)
theorem dJ3_mismatch_66 : decode cJ3_mismatch 66 = .ok (.ixor, 1) := dk_130 (dk_at dksJ3_mismatch_2 18 rfl rfl)
theorem dJ3_mismatch_67 : decode cJ3_mismatch 67 = .ok (.isub, 1) := dk_100 (dk_at dksJ3_mismatch_2 19 rfl rfl)
theorem dJ3_mismatch_68 : decode cJ3_mismatch 68 = .ok (.istore 5, 2) := dk_54 5 (dk_at dksJ3_mismatch_2 20 rfl rfl)
theorem dJ3_mismatch_70 : decode cJ3_mismatch 70 = .ok (.iload 5, 2) := dk_21 5 (dk_at dksJ3_mismatch_2 22 rfl rfl)
theorem dJ3_mismatch_72 : decode cJ3_mismatch 72 = .ok (.iload 4, 2) := dk_21 4 (dk_at dksJ3_mismatch_3 0 rfl rfl)
theorem dJ3_mismatch_74 : decode cJ3_mismatch 74 = .ok (.if_icmp .ge 27, 3) := dk_162 0 27 (dk_at dksJ3_mismatch_3 2 rfl rfl)
theorem dJ3_mismatch_77 : decode cJ3_mismatch 77 = .ok (.aload_n 0, 1) := dk_42 (dk_at dksJ3_mismatch_3 5 rfl rfl)
theorem dJ3_mismatch_78 : decode cJ3_mismatch 78 = .ok (.iload_n 1, 1) := dk_27 (dk_at dksJ3_mismatch_3 6 rfl rfl)
theorem dJ3_mismatch_79 : decode cJ3_mismatch 79 = .ok (.iload 5, 2) := dk_21 5 (dk_at dksJ3_mismatch_3 7 rfl rfl)
theorem dJ3_mismatch_81 : decode cJ3_mismatch 81 = .ok (.iadd, 1) := dk_96 (dk_at dksJ3_mismatch_3 9 rfl rfl)
theorem dJ3_mismatch_82 : decode cJ3_mismatch 82 = .ok (.baload, 1) := dk_51 (dk_at dksJ3_mismatch_3 10 rfl rfl)
theorem dJ3_mismatch_83 : decode cJ3_mismatch 83 = .ok (.aload_n 2, 1) := dk_44 (dk_at dksJ3_mismatch_3 11 rfl rfl)
theorem dJ3_mismatch_84 : decode cJ3_mismatch 84 = .ok (.iload_n 3, 1) := dk_29 (dk_at dksJ3_mismatch_3 12 rfl rfl)
theorem dJ3_mismatch_85 : decode cJ3_mismatch 85 = .ok (.iload 5, 2) := dk_21 5 (dk_at dksJ3_mismatch_3 13 rfl rfl)
theorem dJ3_mismatch_87 : decode cJ3_mismatch 87 = .ok (.iadd, 1) := dk_96 (dk_at dksJ3_mismatch_3 15 rfl rfl)
theorem dJ3_mismatch_88 : decode cJ3_mismatch 88 = .ok (.baload, 1) := dk_51 (dk_at dksJ3_mismatch_3 16 rfl rfl)
theorem dJ3_mismatch_89 : decode cJ3_mismatch 89 = .ok (.if_icmp .eq 6, 3) := dk_159 0 6 (dk_at dksJ3_mismatch_3 17 rfl rfl)
theorem dJ3_mismatch_92 : decode cJ3_mismatch 92 = .ok (.iload 5, 2) := dk_21 5 (dk_at dksJ3_mismatch_3 20 rfl rfl)
theorem dJ3_mismatch_94 : decode cJ3_mismatch 94 = .ok (.ireturn, 1) := dk_172 (dk_at dksJ3_mismatch_3 22 rfl rfl)
theorem dJ3_mismatch_95 : decode cJ3_mismatch 95 = .ok (.iinc 5 1, 3) := dk_132 5 1 (dk_at dksJ3_mismatch_4 0 rfl rfl)
theorem dJ3_mismatch_98 : decode cJ3_mismatch 98 = .ok (.goto (-28), 3) := dk_167 255 228 (dk_at dksJ3_mismatch_4 3 rfl rfl)
theorem dJ3_mismatch_101 : decode cJ3_mismatch 101 = .ok (.iconst (-1), 1) := dk_2 (dk_at dksJ3_mismatch_4 6 rfl rfl)
theorem dJ3_mismatch_102 : decode cJ3_mismatch 102 = .ok (.ireturn, 1) := dk_172 (dk_at dksJ3_mismatch_4 7 rfl rfl)
abbrev cJ3_vectorizedMismatch : ByteArray := prog_57_method_3_code
def yJ3_vectorizedMismatch : MethodName := ⟨RJ3, "vectorizedMismatch", "(Ljava/lang/Object;JLjava/lang/Object;JII)I"⟩
def dkwJ3_vectorizedMismatch_11 : List UInt8 := [54, 10, 21, 10, 2, 130, 172, 21, 10, 2, 130, 172]
abbrev dktJ3_vectorizedMismatch_11 : List UInt8 := dkwJ3_vectorizedMismatch_11 ++ []
def dkwJ3_vectorizedMismatch_10 : List UInt8 := [178, 0, 46, 21, 7, 96, 122, 54, 17, 21, 9, 21, 8, 120, 21, 17, 96, 172, 21, 10, 21, 11, 100]
abbrev dktJ3_vectorizedMismatch_10 : List UInt8 := dkwJ3_vectorizedMismatch_10 ++ dktJ3_vectorizedMismatch_11
def dkwJ3_vectorizedMismatch_9 : List UInt8 := [153, 0, 18, 21, 16, 184, 0, 58, 178, 0, 46, 21, 7, 96, 122, 167, 0, 15, 21, 16, 184, 0, 11]
abbrev dktJ3_vectorizedMismatch_9 : List UInt8 := dkwJ3_vectorizedMismatch_9 ++ dktJ3_vectorizedMismatch_10
def dkwJ3_vectorizedMismatch_8 : List UInt8 := [182, 0, 54, 54, 15, 21, 14, 21, 15, 159, 0, 54, 21, 14, 21, 15, 130, 54, 16, 178, 0, 36]
abbrev dktJ3_vectorizedMismatch_8 : List UInt8 := dkwJ3_vectorizedMismatch_8 ++ dktJ3_vectorizedMismatch_9
def dkwJ3_vectorizedMismatch_7 : List UInt8 := [55, 12, 178, 0, 26, 42, 31, 22, 12, 97, 182, 0, 54, 54, 14, 178, 0, 26, 45, 22, 4, 22, 12, 97]
abbrev dktJ3_vectorizedMismatch_7 : List UInt8 := dkwJ3_vectorizedMismatch_7 ++ dktJ3_vectorizedMismatch_8
def dkwJ3_vectorizedMismatch_6 : List UInt8 := [4, 178, 0, 51, 21, 7, 100, 120, 54, 11, 21, 10, 21, 11, 161, 0, 104, 21, 9, 133, 178, 0, 20, 121]
abbrev dktJ3_vectorizedMismatch_6 : List UInt8 := dkwJ3_vectorizedMismatch_6 ++ dktJ3_vectorizedMismatch_7
def dkwJ3_vectorizedMismatch_5 : List UInt8 := [132, 9, 1, 167, 255, 148, 21, 6, 21, 9, 21, 8, 120, 100, 54, 10, 21, 7, 178, 0, 51, 162, 0, 126]
abbrev dktJ3_vectorizedMismatch_5 : List UInt8 := dkwJ3_vectorizedMismatch_5 ++ dktJ3_vectorizedMismatch_6
def dkwJ3_vectorizedMismatch_4 : List UInt8 := [22, 16, 184, 0, 49, 178, 0, 46, 21, 7, 96, 122, 54, 18, 21, 9, 21, 8, 120, 21, 18, 96, 172]
abbrev dktJ3_vectorizedMismatch_4 : List UInt8 := dkwJ3_vectorizedMismatch_4 ++ dktJ3_vectorizedMismatch_5
def dkwJ3_vectorizedMismatch_3 : List UInt8 := [55, 16, 178, 0, 36, 153, 0, 18, 22, 16, 184, 0, 40, 178, 0, 46, 21, 7, 96, 122, 167, 0, 15]
abbrev dktJ3_vectorizedMismatch_3 : List UInt8 := dkwJ3_vectorizedMismatch_3 ++ dktJ3_vectorizedMismatch_4
def dkwJ3_vectorizedMismatch_2 : List UInt8 := [22, 4, 22, 10, 97, 182, 0, 30, 55, 14, 22, 12, 22, 14, 148, 153, 0, 54, 22, 12, 22, 14, 131]
abbrev dktJ3_vectorizedMismatch_2 : List UInt8 := dkwJ3_vectorizedMismatch_2 ++ dktJ3_vectorizedMismatch_3
def dkwJ3_vectorizedMismatch_1 : List UInt8 := [178, 0, 20, 121, 55, 10, 178, 0, 26, 42, 31, 22, 10, 97, 182, 0, 30, 55, 12, 178, 0, 26, 45]
abbrev dktJ3_vectorizedMismatch_1 : List UInt8 := dkwJ3_vectorizedMismatch_1 ++ dktJ3_vectorizedMismatch_2
def dkwJ3_vectorizedMismatch_0 : List UInt8 := [178, 0, 20, 21, 7, 100, 54, 8, 3, 54, 9, 21, 9, 21, 6, 21, 8, 122, 162, 0, 104, 21, 9, 133]
abbrev dktJ3_vectorizedMismatch_0 : List UInt8 := dkwJ3_vectorizedMismatch_0 ++ dktJ3_vectorizedMismatch_1
theorem dksJ3_vectorizedMismatch_0 : cJ3_vectorizedMismatch.data.toList.drop 0 = dktJ3_vectorizedMismatch_0 := by decide +kernel
theorem dksJ3_vectorizedMismatch_1 : cJ3_vectorizedMismatch.data.toList.drop 24 = dktJ3_vectorizedMismatch_1 := dk_seg dksJ3_vectorizedMismatch_0 24 rfl rfl
theorem dksJ3_vectorizedMismatch_2 : cJ3_vectorizedMismatch.data.toList.drop 47 = dktJ3_vectorizedMismatch_2 := dk_seg dksJ3_vectorizedMismatch_1 23 rfl rfl
theorem dksJ3_vectorizedMismatch_3 : cJ3_vectorizedMismatch.data.toList.drop 70 = dktJ3_vectorizedMismatch_3 := dk_seg dksJ3_vectorizedMismatch_2 23 rfl rfl
theorem dksJ3_vectorizedMismatch_4 : cJ3_vectorizedMismatch.data.toList.drop 93 = dktJ3_vectorizedMismatch_4 := dk_seg dksJ3_vectorizedMismatch_3 23 rfl rfl
theorem dksJ3_vectorizedMismatch_5 : cJ3_vectorizedMismatch.data.toList.drop 116 = dktJ3_vectorizedMismatch_5 := dk_seg dksJ3_vectorizedMismatch_4 23 rfl rfl
theorem dksJ3_vectorizedMismatch_6 : cJ3_vectorizedMismatch.data.toList.drop 140 = dktJ3_vectorizedMismatch_6 := dk_seg dksJ3_vectorizedMismatch_5 24 rfl rfl
theorem dksJ3_vectorizedMismatch_7 : cJ3_vectorizedMismatch.data.toList.drop 164 = dktJ3_vectorizedMismatch_7 := dk_seg dksJ3_vectorizedMismatch_6 24 rfl rfl
theorem dksJ3_vectorizedMismatch_8 : cJ3_vectorizedMismatch.data.toList.drop 188 = dktJ3_vectorizedMismatch_8 := dk_seg dksJ3_vectorizedMismatch_7 24 rfl rfl
theorem dksJ3_vectorizedMismatch_9 : cJ3_vectorizedMismatch.data.toList.drop 210 = dktJ3_vectorizedMismatch_9 := dk_seg dksJ3_vectorizedMismatch_8 22 rfl rfl
theorem dksJ3_vectorizedMismatch_10 : cJ3_vectorizedMismatch.data.toList.drop 233 = dktJ3_vectorizedMismatch_10 := dk_seg dksJ3_vectorizedMismatch_9 23 rfl rfl
theorem dksJ3_vectorizedMismatch_11 : cJ3_vectorizedMismatch.data.toList.drop 256 = dktJ3_vectorizedMismatch_11 := dk_seg dksJ3_vectorizedMismatch_10 23 rfl rfl
theorem dJ3_vectorizedMismatch_0 : decode cJ3_vectorizedMismatch 0 = .ok (.getstatic 20, 3) := dk_178 0 20 (dk_at dksJ3_vectorizedMismatch_0 0 rfl rfl)
theorem dJ3_vectorizedMismatch_3 : decode cJ3_vectorizedMismatch 3 = .ok (.iload 7, 2) := dk_21 7 (dk_at dksJ3_vectorizedMismatch_0 3 rfl rfl)
theorem dJ3_vectorizedMismatch_5 : decode cJ3_vectorizedMismatch 5 = .ok (.isub, 1) := dk_100 (dk_at dksJ3_vectorizedMismatch_0 5 rfl rfl)
theorem dJ3_vectorizedMismatch_6 : decode cJ3_vectorizedMismatch 6 = .ok (.istore 8, 2) := dk_54 8 (dk_at dksJ3_vectorizedMismatch_0 6 rfl rfl)
theorem dJ3_vectorizedMismatch_8 : decode cJ3_vectorizedMismatch 8 = .ok (.iconst 0, 1) := dk_3 (dk_at dksJ3_vectorizedMismatch_0 8 rfl rfl)
theorem dJ3_vectorizedMismatch_9 : decode cJ3_vectorizedMismatch 9 = .ok (.istore 9, 2) := dk_54 9 (dk_at dksJ3_vectorizedMismatch_0 9 rfl rfl)
theorem dJ3_vectorizedMismatch_11 : decode cJ3_vectorizedMismatch 11 = .ok (.iload 9, 2) := dk_21 9 (dk_at dksJ3_vectorizedMismatch_0 11 rfl rfl)
theorem dJ3_vectorizedMismatch_13 : decode cJ3_vectorizedMismatch 13 = .ok (.iload 6, 2) := dk_21 6 (dk_at dksJ3_vectorizedMismatch_0 13 rfl rfl)
theorem dJ3_vectorizedMismatch_15 : decode cJ3_vectorizedMismatch 15 = .ok (.iload 8, 2) := dk_21 8 (dk_at dksJ3_vectorizedMismatch_0 15 rfl rfl)
theorem dJ3_vectorizedMismatch_17 : decode cJ3_vectorizedMismatch 17 = .ok (.ishr, 1) := dk_122 (dk_at dksJ3_vectorizedMismatch_0 17 rfl rfl)
theorem dJ3_vectorizedMismatch_18 : decode cJ3_vectorizedMismatch 18 = .ok (.if_icmp .ge 104, 3) := dk_162 0 104 (dk_at dksJ3_vectorizedMismatch_0 18 rfl rfl)
theorem dJ3_vectorizedMismatch_21 : decode cJ3_vectorizedMismatch 21 = .ok (.iload 9, 2) := dk_21 9 (dk_at dksJ3_vectorizedMismatch_0 21 rfl rfl)
theorem dJ3_vectorizedMismatch_23 : decode cJ3_vectorizedMismatch 23 = .ok (.i2l, 1) := dk_133 (dk_at dksJ3_vectorizedMismatch_0 23 rfl rfl)
theorem dJ3_vectorizedMismatch_24 : decode cJ3_vectorizedMismatch 24 = .ok (.getstatic 20, 3) := dk_178 0 20 (dk_at dksJ3_vectorizedMismatch_1 0 rfl rfl)
theorem dJ3_vectorizedMismatch_27 : decode cJ3_vectorizedMismatch 27 = .ok (.lshl, 1) := dk_121 (dk_at dksJ3_vectorizedMismatch_1 3 rfl rfl)
theorem dJ3_vectorizedMismatch_28 : decode cJ3_vectorizedMismatch 28 = .ok (.lstore 10, 2) := dk_55 10 (dk_at dksJ3_vectorizedMismatch_1 4 rfl rfl)
theorem dJ3_vectorizedMismatch_30 : decode cJ3_vectorizedMismatch 30 = .ok (.getstatic 26, 3) := dk_178 0 26 (dk_at dksJ3_vectorizedMismatch_1 6 rfl rfl)
theorem dJ3_vectorizedMismatch_33 : decode cJ3_vectorizedMismatch 33 = .ok (.aload_n 0, 1) := dk_42 (dk_at dksJ3_vectorizedMismatch_1 9 rfl rfl)
theorem dJ3_vectorizedMismatch_34 : decode cJ3_vectorizedMismatch 34 = .ok (.lload_n 1, 1) := dk_31 (dk_at dksJ3_vectorizedMismatch_1 10 rfl rfl)
theorem dJ3_vectorizedMismatch_35 : decode cJ3_vectorizedMismatch 35 = .ok (.lload 10, 2) := dk_22 10 (dk_at dksJ3_vectorizedMismatch_1 11 rfl rfl)
theorem dJ3_vectorizedMismatch_37 : decode cJ3_vectorizedMismatch 37 = .ok (.ladd, 1) := dk_97 (dk_at dksJ3_vectorizedMismatch_1 13 rfl rfl)
theorem dJ3_vectorizedMismatch_38 : decode cJ3_vectorizedMismatch 38 = .ok (.invokevirtual 30, 3) := dk_182 0 30 (dk_at dksJ3_vectorizedMismatch_1 14 rfl rfl)
theorem dJ3_vectorizedMismatch_41 : decode cJ3_vectorizedMismatch 41 = .ok (.lstore 12, 2) := dk_55 12 (dk_at dksJ3_vectorizedMismatch_1 17 rfl rfl)
theorem dJ3_vectorizedMismatch_43 : decode cJ3_vectorizedMismatch 43 = .ok (.getstatic 26, 3) := dk_178 0 26 (dk_at dksJ3_vectorizedMismatch_1 19 rfl rfl)
theorem dJ3_vectorizedMismatch_46 : decode cJ3_vectorizedMismatch 46 = .ok (.aload_n 3, 1) := dk_45 (dk_at dksJ3_vectorizedMismatch_1 22 rfl rfl)
theorem dJ3_vectorizedMismatch_47 : decode cJ3_vectorizedMismatch 47 = .ok (.lload 4, 2) := dk_22 4 (dk_at dksJ3_vectorizedMismatch_2 0 rfl rfl)
theorem dJ3_vectorizedMismatch_49 : decode cJ3_vectorizedMismatch 49 = .ok (.lload 10, 2) := dk_22 10 (dk_at dksJ3_vectorizedMismatch_2 2 rfl rfl)
theorem dJ3_vectorizedMismatch_51 : decode cJ3_vectorizedMismatch 51 = .ok (.ladd, 1) := dk_97 (dk_at dksJ3_vectorizedMismatch_2 4 rfl rfl)
theorem dJ3_vectorizedMismatch_52 : decode cJ3_vectorizedMismatch 52 = .ok (.invokevirtual 30, 3) := dk_182 0 30 (dk_at dksJ3_vectorizedMismatch_2 5 rfl rfl)
theorem dJ3_vectorizedMismatch_55 : decode cJ3_vectorizedMismatch 55 = .ok (.lstore 14, 2) := dk_55 14 (dk_at dksJ3_vectorizedMismatch_2 8 rfl rfl)
theorem dJ3_vectorizedMismatch_57 : decode cJ3_vectorizedMismatch 57 = .ok (.lload 12, 2) := dk_22 12 (dk_at dksJ3_vectorizedMismatch_2 10 rfl rfl)
theorem dJ3_vectorizedMismatch_59 : decode cJ3_vectorizedMismatch 59 = .ok (.lload 14, 2) := dk_22 14 (dk_at dksJ3_vectorizedMismatch_2 12 rfl rfl)
theorem dJ3_vectorizedMismatch_61 : decode cJ3_vectorizedMismatch 61 = .ok (.lcmp, 1) := dk_148 (dk_at dksJ3_vectorizedMismatch_2 14 rfl rfl)
theorem dJ3_vectorizedMismatch_62 : decode cJ3_vectorizedMismatch 62 = .ok (.ifCond .eq 54, 3) := dk_153 0 54 (dk_at dksJ3_vectorizedMismatch_2 15 rfl rfl)
theorem dJ3_vectorizedMismatch_65 : decode cJ3_vectorizedMismatch 65 = .ok (.lload 12, 2) := dk_22 12 (dk_at dksJ3_vectorizedMismatch_2 18 rfl rfl)
theorem dJ3_vectorizedMismatch_67 : decode cJ3_vectorizedMismatch 67 = .ok (.lload 14, 2) := dk_22 14 (dk_at dksJ3_vectorizedMismatch_2 20 rfl rfl)
theorem dJ3_vectorizedMismatch_69 : decode cJ3_vectorizedMismatch 69 = .ok (.lxor, 1) := dk_131 (dk_at dksJ3_vectorizedMismatch_2 22 rfl rfl)
theorem dJ3_vectorizedMismatch_70 : decode cJ3_vectorizedMismatch 70 = .ok (.lstore 16, 2) := dk_55 16 (dk_at dksJ3_vectorizedMismatch_3 0 rfl rfl)
theorem dJ3_vectorizedMismatch_72 : decode cJ3_vectorizedMismatch 72 = .ok (.getstatic 36, 3) := dk_178 0 36 (dk_at dksJ3_vectorizedMismatch_3 2 rfl rfl)
theorem dJ3_vectorizedMismatch_75 : decode cJ3_vectorizedMismatch 75 = .ok (.ifCond .eq 18, 3) := dk_153 0 18 (dk_at dksJ3_vectorizedMismatch_3 5 rfl rfl)
theorem dJ3_vectorizedMismatch_78 : decode cJ3_vectorizedMismatch 78 = .ok (.lload 16, 2) := dk_22 16 (dk_at dksJ3_vectorizedMismatch_3 8 rfl rfl)
theorem dJ3_vectorizedMismatch_80 : decode cJ3_vectorizedMismatch 80 = .ok (.invokestatic 40, 3) := dk_184 0 40 (dk_at dksJ3_vectorizedMismatch_3 10 rfl rfl)
theorem dJ3_vectorizedMismatch_83 : decode cJ3_vectorizedMismatch 83 = .ok (.getstatic 46, 3) := dk_178 0 46 (dk_at dksJ3_vectorizedMismatch_3 13 rfl rfl)
theorem dJ3_vectorizedMismatch_86 : decode cJ3_vectorizedMismatch 86 = .ok (.iload 7, 2) := dk_21 7 (dk_at dksJ3_vectorizedMismatch_3 16 rfl rfl)
theorem dJ3_vectorizedMismatch_88 : decode cJ3_vectorizedMismatch 88 = .ok (.iadd, 1) := dk_96 (dk_at dksJ3_vectorizedMismatch_3 18 rfl rfl)
theorem dJ3_vectorizedMismatch_89 : decode cJ3_vectorizedMismatch 89 = .ok (.ishr, 1) := dk_122 (dk_at dksJ3_vectorizedMismatch_3 19 rfl rfl)
theorem dJ3_vectorizedMismatch_90 : decode cJ3_vectorizedMismatch 90 = .ok (.goto 15, 3) := dk_167 0 15 (dk_at dksJ3_vectorizedMismatch_3 20 rfl rfl)
theorem dJ3_vectorizedMismatch_93 : decode cJ3_vectorizedMismatch 93 = .ok (.lload 16, 2) := dk_22 16 (dk_at dksJ3_vectorizedMismatch_4 0 rfl rfl)
theorem dJ3_vectorizedMismatch_95 : decode cJ3_vectorizedMismatch 95 = .ok (.invokestatic 49, 3) := dk_184 0 49 (dk_at dksJ3_vectorizedMismatch_4 2 rfl rfl)
theorem dJ3_vectorizedMismatch_98 : decode cJ3_vectorizedMismatch 98 = .ok (.getstatic 46, 3) := dk_178 0 46 (dk_at dksJ3_vectorizedMismatch_4 5 rfl rfl)
theorem dJ3_vectorizedMismatch_101 : decode cJ3_vectorizedMismatch 101 = .ok (.iload 7, 2) := dk_21 7 (dk_at dksJ3_vectorizedMismatch_4 8 rfl rfl)
theorem dJ3_vectorizedMismatch_103 : decode cJ3_vectorizedMismatch 103 = .ok (.iadd, 1) := dk_96 (dk_at dksJ3_vectorizedMismatch_4 10 rfl rfl)
theorem dJ3_vectorizedMismatch_104 : decode cJ3_vectorizedMismatch 104 = .ok (.ishr, 1) := dk_122 (dk_at dksJ3_vectorizedMismatch_4 11 rfl rfl)
theorem dJ3_vectorizedMismatch_105 : decode cJ3_vectorizedMismatch 105 = .ok (.istore 18, 2) := dk_54 18 (dk_at dksJ3_vectorizedMismatch_4 12 rfl rfl)
theorem dJ3_vectorizedMismatch_107 : decode cJ3_vectorizedMismatch 107 = .ok (.iload 9, 2) := dk_21 9 (dk_at dksJ3_vectorizedMismatch_4 14 rfl rfl)
theorem dJ3_vectorizedMismatch_109 : decode cJ3_vectorizedMismatch 109 = .ok (.iload 8, 2) := dk_21 8 (dk_at dksJ3_vectorizedMismatch_4 16 rfl rfl)
theorem dJ3_vectorizedMismatch_111 : decode cJ3_vectorizedMismatch 111 = .ok (.ishl, 1) := dk_120 (dk_at dksJ3_vectorizedMismatch_4 18 rfl rfl)
theorem dJ3_vectorizedMismatch_112 : decode cJ3_vectorizedMismatch 112 = .ok (.iload 18, 2) := dk_21 18 (dk_at dksJ3_vectorizedMismatch_4 19 rfl rfl)
theorem dJ3_vectorizedMismatch_114 : decode cJ3_vectorizedMismatch 114 = .ok (.iadd, 1) := dk_96 (dk_at dksJ3_vectorizedMismatch_4 21 rfl rfl)
theorem dJ3_vectorizedMismatch_115 : decode cJ3_vectorizedMismatch 115 = .ok (.ireturn, 1) := dk_172 (dk_at dksJ3_vectorizedMismatch_4 22 rfl rfl)
theorem dJ3_vectorizedMismatch_116 : decode cJ3_vectorizedMismatch 116 = .ok (.iinc 9 1, 3) := dk_132 9 1 (dk_at dksJ3_vectorizedMismatch_5 0 rfl rfl)
theorem dJ3_vectorizedMismatch_119 : decode cJ3_vectorizedMismatch 119 = .ok (.goto (-108), 3) := dk_167 255 148 (dk_at dksJ3_vectorizedMismatch_5 3 rfl rfl)
theorem dJ3_vectorizedMismatch_122 : decode cJ3_vectorizedMismatch 122 = .ok (.iload 6, 2) := dk_21 6 (dk_at dksJ3_vectorizedMismatch_5 6 rfl rfl)
theorem dJ3_vectorizedMismatch_124 : decode cJ3_vectorizedMismatch 124 = .ok (.iload 9, 2) := dk_21 9 (dk_at dksJ3_vectorizedMismatch_5 8 rfl rfl)
theorem dJ3_vectorizedMismatch_126 : decode cJ3_vectorizedMismatch 126 = .ok (.iload 8, 2) := dk_21 8 (dk_at dksJ3_vectorizedMismatch_5 10 rfl rfl)
theorem dJ3_vectorizedMismatch_128 : decode cJ3_vectorizedMismatch 128 = .ok (.ishl, 1) := dk_120 (dk_at dksJ3_vectorizedMismatch_5 12 rfl rfl)
theorem dJ3_vectorizedMismatch_129 : decode cJ3_vectorizedMismatch 129 = .ok (.isub, 1) := dk_100 (dk_at dksJ3_vectorizedMismatch_5 13 rfl rfl)
theorem dJ3_vectorizedMismatch_130 : decode cJ3_vectorizedMismatch 130 = .ok (.istore 10, 2) := dk_54 10 (dk_at dksJ3_vectorizedMismatch_5 14 rfl rfl)
theorem dJ3_vectorizedMismatch_132 : decode cJ3_vectorizedMismatch 132 = .ok (.iload 7, 2) := dk_21 7 (dk_at dksJ3_vectorizedMismatch_5 16 rfl rfl)
theorem dJ3_vectorizedMismatch_134 : decode cJ3_vectorizedMismatch 134 = .ok (.getstatic 51, 3) := dk_178 0 51 (dk_at dksJ3_vectorizedMismatch_5 18 rfl rfl)
theorem dJ3_vectorizedMismatch_137 : decode cJ3_vectorizedMismatch 137 = .ok (.if_icmp .ge 126, 3) := dk_162 0 126 (dk_at dksJ3_vectorizedMismatch_5 21 rfl rfl)
theorem dJ3_vectorizedMismatch_140 : decode cJ3_vectorizedMismatch 140 = .ok (.iconst 1, 1) := dk_4 (dk_at dksJ3_vectorizedMismatch_6 0 rfl rfl)
theorem dJ3_vectorizedMismatch_141 : decode cJ3_vectorizedMismatch 141 = .ok (.getstatic 51, 3) := dk_178 0 51 (dk_at dksJ3_vectorizedMismatch_6 1 rfl rfl)
theorem dJ3_vectorizedMismatch_144 : decode cJ3_vectorizedMismatch 144 = .ok (.iload 7, 2) := dk_21 7 (dk_at dksJ3_vectorizedMismatch_6 4 rfl rfl)
theorem dJ3_vectorizedMismatch_146 : decode cJ3_vectorizedMismatch 146 = .ok (.isub, 1) := dk_100 (dk_at dksJ3_vectorizedMismatch_6 6 rfl rfl)
theorem dJ3_vectorizedMismatch_147 : decode cJ3_vectorizedMismatch 147 = .ok (.ishl, 1) := dk_120 (dk_at dksJ3_vectorizedMismatch_6 7 rfl rfl)
theorem dJ3_vectorizedMismatch_148 : decode cJ3_vectorizedMismatch 148 = .ok (.istore 11, 2) := dk_54 11 (dk_at dksJ3_vectorizedMismatch_6 8 rfl rfl)
theorem dJ3_vectorizedMismatch_150 : decode cJ3_vectorizedMismatch 150 = .ok (.iload 10, 2) := dk_21 10 (dk_at dksJ3_vectorizedMismatch_6 10 rfl rfl)
theorem dJ3_vectorizedMismatch_152 : decode cJ3_vectorizedMismatch 152 = .ok (.iload 11, 2) := dk_21 11 (dk_at dksJ3_vectorizedMismatch_6 12 rfl rfl)
theorem dJ3_vectorizedMismatch_154 : decode cJ3_vectorizedMismatch 154 = .ok (.if_icmp .lt 104, 3) := dk_161 0 104 (dk_at dksJ3_vectorizedMismatch_6 14 rfl rfl)
theorem dJ3_vectorizedMismatch_157 : decode cJ3_vectorizedMismatch 157 = .ok (.iload 9, 2) := dk_21 9 (dk_at dksJ3_vectorizedMismatch_6 17 rfl rfl)
theorem dJ3_vectorizedMismatch_159 : decode cJ3_vectorizedMismatch 159 = .ok (.i2l, 1) := dk_133 (dk_at dksJ3_vectorizedMismatch_6 19 rfl rfl)
theorem dJ3_vectorizedMismatch_160 : decode cJ3_vectorizedMismatch 160 = .ok (.getstatic 20, 3) := dk_178 0 20 (dk_at dksJ3_vectorizedMismatch_6 20 rfl rfl)
theorem dJ3_vectorizedMismatch_163 : decode cJ3_vectorizedMismatch 163 = .ok (.lshl, 1) := dk_121 (dk_at dksJ3_vectorizedMismatch_6 23 rfl rfl)
theorem dJ3_vectorizedMismatch_164 : decode cJ3_vectorizedMismatch 164 = .ok (.lstore 12, 2) := dk_55 12 (dk_at dksJ3_vectorizedMismatch_7 0 rfl rfl)
theorem dJ3_vectorizedMismatch_166 : decode cJ3_vectorizedMismatch 166 = .ok (.getstatic 26, 3) := dk_178 0 26 (dk_at dksJ3_vectorizedMismatch_7 2 rfl rfl)
theorem dJ3_vectorizedMismatch_169 : decode cJ3_vectorizedMismatch 169 = .ok (.aload_n 0, 1) := dk_42 (dk_at dksJ3_vectorizedMismatch_7 5 rfl rfl)
theorem dJ3_vectorizedMismatch_170 : decode cJ3_vectorizedMismatch 170 = .ok (.lload_n 1, 1) := dk_31 (dk_at dksJ3_vectorizedMismatch_7 6 rfl rfl)
theorem dJ3_vectorizedMismatch_171 : decode cJ3_vectorizedMismatch 171 = .ok (.lload 12, 2) := dk_22 12 (dk_at dksJ3_vectorizedMismatch_7 7 rfl rfl)
theorem dJ3_vectorizedMismatch_173 : decode cJ3_vectorizedMismatch 173 = .ok (.ladd, 1) := dk_97 (dk_at dksJ3_vectorizedMismatch_7 9 rfl rfl)
theorem dJ3_vectorizedMismatch_174 : decode cJ3_vectorizedMismatch 174 = .ok (.invokevirtual 54, 3) := dk_182 0 54 (dk_at dksJ3_vectorizedMismatch_7 10 rfl rfl)
theorem dJ3_vectorizedMismatch_177 : decode cJ3_vectorizedMismatch 177 = .ok (.istore 14, 2) := dk_54 14 (dk_at dksJ3_vectorizedMismatch_7 13 rfl rfl)
theorem dJ3_vectorizedMismatch_179 : decode cJ3_vectorizedMismatch 179 = .ok (.getstatic 26, 3) := dk_178 0 26 (dk_at dksJ3_vectorizedMismatch_7 15 rfl rfl)
theorem dJ3_vectorizedMismatch_182 : decode cJ3_vectorizedMismatch 182 = .ok (.aload_n 3, 1) := dk_45 (dk_at dksJ3_vectorizedMismatch_7 18 rfl rfl)
theorem dJ3_vectorizedMismatch_183 : decode cJ3_vectorizedMismatch 183 = .ok (.lload 4, 2) := dk_22 4 (dk_at dksJ3_vectorizedMismatch_7 19 rfl rfl)
theorem dJ3_vectorizedMismatch_185 : decode cJ3_vectorizedMismatch 185 = .ok (.lload 12, 2) := dk_22 12 (dk_at dksJ3_vectorizedMismatch_7 21 rfl rfl)
theorem dJ3_vectorizedMismatch_187 : decode cJ3_vectorizedMismatch 187 = .ok (.ladd, 1) := dk_97 (dk_at dksJ3_vectorizedMismatch_7 23 rfl rfl)
theorem dJ3_vectorizedMismatch_188 : decode cJ3_vectorizedMismatch 188 = .ok (.invokevirtual 54, 3) := dk_182 0 54 (dk_at dksJ3_vectorizedMismatch_8 0 rfl rfl)
theorem dJ3_vectorizedMismatch_191 : decode cJ3_vectorizedMismatch 191 = .ok (.istore 15, 2) := dk_54 15 (dk_at dksJ3_vectorizedMismatch_8 3 rfl rfl)
theorem dJ3_vectorizedMismatch_193 : decode cJ3_vectorizedMismatch 193 = .ok (.iload 14, 2) := dk_21 14 (dk_at dksJ3_vectorizedMismatch_8 5 rfl rfl)
theorem dJ3_vectorizedMismatch_195 : decode cJ3_vectorizedMismatch 195 = .ok (.iload 15, 2) := dk_21 15 (dk_at dksJ3_vectorizedMismatch_8 7 rfl rfl)
theorem dJ3_vectorizedMismatch_197 : decode cJ3_vectorizedMismatch 197 = .ok (.if_icmp .eq 54, 3) := dk_159 0 54 (dk_at dksJ3_vectorizedMismatch_8 9 rfl rfl)
theorem dJ3_vectorizedMismatch_200 : decode cJ3_vectorizedMismatch 200 = .ok (.iload 14, 2) := dk_21 14 (dk_at dksJ3_vectorizedMismatch_8 12 rfl rfl)
theorem dJ3_vectorizedMismatch_202 : decode cJ3_vectorizedMismatch 202 = .ok (.iload 15, 2) := dk_21 15 (dk_at dksJ3_vectorizedMismatch_8 14 rfl rfl)
theorem dJ3_vectorizedMismatch_204 : decode cJ3_vectorizedMismatch 204 = .ok (.ixor, 1) := dk_130 (dk_at dksJ3_vectorizedMismatch_8 16 rfl rfl)
theorem dJ3_vectorizedMismatch_205 : decode cJ3_vectorizedMismatch 205 = .ok (.istore 16, 2) := dk_54 16 (dk_at dksJ3_vectorizedMismatch_8 17 rfl rfl)
theorem dJ3_vectorizedMismatch_207 : decode cJ3_vectorizedMismatch 207 = .ok (.getstatic 36, 3) := dk_178 0 36 (dk_at dksJ3_vectorizedMismatch_8 19 rfl rfl)
theorem dJ3_vectorizedMismatch_210 : decode cJ3_vectorizedMismatch 210 = .ok (.ifCond .eq 18, 3) := dk_153 0 18 (dk_at dksJ3_vectorizedMismatch_9 0 rfl rfl)
theorem dJ3_vectorizedMismatch_213 : decode cJ3_vectorizedMismatch 213 = .ok (.iload 16, 2) := dk_21 16 (dk_at dksJ3_vectorizedMismatch_9 3 rfl rfl)
theorem dJ3_vectorizedMismatch_215 : decode cJ3_vectorizedMismatch 215 = .ok (.invokestatic 58, 3) := dk_184 0 58 (dk_at dksJ3_vectorizedMismatch_9 5 rfl rfl)
theorem dJ3_vectorizedMismatch_218 : decode cJ3_vectorizedMismatch 218 = .ok (.getstatic 46, 3) := dk_178 0 46 (dk_at dksJ3_vectorizedMismatch_9 8 rfl rfl)
theorem dJ3_vectorizedMismatch_221 : decode cJ3_vectorizedMismatch 221 = .ok (.iload 7, 2) := dk_21 7 (dk_at dksJ3_vectorizedMismatch_9 11 rfl rfl)
theorem dJ3_vectorizedMismatch_223 : decode cJ3_vectorizedMismatch 223 = .ok (.iadd, 1) := dk_96 (dk_at dksJ3_vectorizedMismatch_9 13 rfl rfl)
theorem dJ3_vectorizedMismatch_224 : decode cJ3_vectorizedMismatch 224 = .ok (.ishr, 1) := dk_122 (dk_at dksJ3_vectorizedMismatch_9 14 rfl rfl)
theorem dJ3_vectorizedMismatch_225 : decode cJ3_vectorizedMismatch 225 = .ok (.goto 15, 3) := dk_167 0 15 (dk_at dksJ3_vectorizedMismatch_9 15 rfl rfl)
theorem dJ3_vectorizedMismatch_228 : decode cJ3_vectorizedMismatch 228 = .ok (.iload 16, 2) := dk_21 16 (dk_at dksJ3_vectorizedMismatch_9 18 rfl rfl)
theorem dJ3_vectorizedMismatch_230 : decode cJ3_vectorizedMismatch 230 = .ok (.invokestatic 11, 3) := dk_184 0 11 (dk_at dksJ3_vectorizedMismatch_9 20 rfl rfl)
theorem dJ3_vectorizedMismatch_233 : decode cJ3_vectorizedMismatch 233 = .ok (.getstatic 46, 3) := dk_178 0 46 (dk_at dksJ3_vectorizedMismatch_10 0 rfl rfl)
theorem dJ3_vectorizedMismatch_236 : decode cJ3_vectorizedMismatch 236 = .ok (.iload 7, 2) := dk_21 7 (dk_at dksJ3_vectorizedMismatch_10 3 rfl rfl)
theorem dJ3_vectorizedMismatch_238 : decode cJ3_vectorizedMismatch 238 = .ok (.iadd, 1) := dk_96 (dk_at dksJ3_vectorizedMismatch_10 5 rfl rfl)
theorem dJ3_vectorizedMismatch_239 : decode cJ3_vectorizedMismatch 239 = .ok (.ishr, 1) := dk_122 (dk_at dksJ3_vectorizedMismatch_10 6 rfl rfl)
theorem dJ3_vectorizedMismatch_240 : decode cJ3_vectorizedMismatch 240 = .ok (.istore 17, 2) := dk_54 17 (dk_at dksJ3_vectorizedMismatch_10 7 rfl rfl)
theorem dJ3_vectorizedMismatch_242 : decode cJ3_vectorizedMismatch 242 = .ok (.iload 9, 2) := dk_21 9 (dk_at dksJ3_vectorizedMismatch_10 9 rfl rfl)
theorem dJ3_vectorizedMismatch_244 : decode cJ3_vectorizedMismatch 244 = .ok (.iload 8, 2) := dk_21 8 (dk_at dksJ3_vectorizedMismatch_10 11 rfl rfl)
theorem dJ3_vectorizedMismatch_246 : decode cJ3_vectorizedMismatch 246 = .ok (.ishl, 1) := dk_120 (dk_at dksJ3_vectorizedMismatch_10 13 rfl rfl)
theorem dJ3_vectorizedMismatch_247 : decode cJ3_vectorizedMismatch 247 = .ok (.iload 17, 2) := dk_21 17 (dk_at dksJ3_vectorizedMismatch_10 14 rfl rfl)
theorem dJ3_vectorizedMismatch_249 : decode cJ3_vectorizedMismatch 249 = .ok (.iadd, 1) := dk_96 (dk_at dksJ3_vectorizedMismatch_10 16 rfl rfl)
theorem dJ3_vectorizedMismatch_250 : decode cJ3_vectorizedMismatch 250 = .ok (.ireturn, 1) := dk_172 (dk_at dksJ3_vectorizedMismatch_10 17 rfl rfl)
theorem dJ3_vectorizedMismatch_251 : decode cJ3_vectorizedMismatch 251 = .ok (.iload 10, 2) := dk_21 10 (dk_at dksJ3_vectorizedMismatch_10 18 rfl rfl)
theorem dJ3_vectorizedMismatch_253 : decode cJ3_vectorizedMismatch 253 = .ok (.iload 11, 2) := dk_21 11 (dk_at dksJ3_vectorizedMismatch_10 20 rfl rfl)
theorem dJ3_vectorizedMismatch_255 : decode cJ3_vectorizedMismatch 255 = .ok (.isub, 1) := dk_100 (dk_at dksJ3_vectorizedMismatch_10 22 rfl rfl)
theorem dJ3_vectorizedMismatch_256 : decode cJ3_vectorizedMismatch 256 = .ok (.istore 10, 2) := dk_54 10 (dk_at dksJ3_vectorizedMismatch_11 0 rfl rfl)
theorem dJ3_vectorizedMismatch_258 : decode cJ3_vectorizedMismatch 258 = .ok (.iload 10, 2) := dk_21 10 (dk_at dksJ3_vectorizedMismatch_11 2 rfl rfl)
theorem dJ3_vectorizedMismatch_260 : decode cJ3_vectorizedMismatch 260 = .ok (.iconst (-1), 1) := dk_2 (dk_at dksJ3_vectorizedMismatch_11 4 rfl rfl)
theorem dJ3_vectorizedMismatch_261 : decode cJ3_vectorizedMismatch 261 = .ok (.ixor, 1) := dk_130 (dk_at dksJ3_vectorizedMismatch_11 5 rfl rfl)
theorem dJ3_vectorizedMismatch_262 : decode cJ3_vectorizedMismatch 262 = .ok (.ireturn, 1) := dk_172 (dk_at dksJ3_vectorizedMismatch_11 6 rfl rfl)
theorem dJ3_vectorizedMismatch_263 : decode cJ3_vectorizedMismatch 263 = .ok (.iload 10, 2) := dk_21 10 (dk_at dksJ3_vectorizedMismatch_11 7 rfl rfl)
theorem dJ3_vectorizedMismatch_265 : decode cJ3_vectorizedMismatch 265 = .ok (.iconst (-1), 1) := dk_2 (dk_at dksJ3_vectorizedMismatch_11 9 rfl rfl)
theorem dJ3_vectorizedMismatch_266 : decode cJ3_vectorizedMismatch 266 = .ok (.ixor, 1) := dk_130 (dk_at dksJ3_vectorizedMismatch_11 10 rfl rfl)
theorem dJ3_vectorizedMismatch_267 : decode cJ3_vectorizedMismatch 267 = .ok (.ireturn, 1) := dk_172 (dk_at dksJ3_vectorizedMismatch_11 11 rfl rfl)
abbrev cJ3_vectorizedHashCode : ByteArray := prog_57_method_4_code
def yJ3_vectorizedHashCode : MethodName := ⟨RJ3, "vectorizedHashCode", "(Ljava/lang/Object;IIII)I"⟩
def dkwJ3_vectorizedHashCode_6 : List UInt8 := [183, 0, 91, 18, 92, 182, 0, 94, 21, 4, 182, 0, 98, 182, 0, 101, 183, 0, 105, 191, 172]
abbrev dktJ3_vectorizedHashCode_6 : List UInt8 := dkwJ3_vectorizedHashCode_6 ++ []
def dkwJ3_vectorizedHashCode_5 : List UInt8 := [167, 0, 44, 29, 42, 192, 0, 82, 27, 28, 184, 0, 84, 167, 0, 31, 187, 0, 87, 89, 187, 0, 89, 89]
abbrev dktJ3_vectorizedHashCode_5 : List UInt8 := dkwJ3_vectorizedHashCode_5 ++ dktJ3_vectorizedHashCode_6
def dkwJ3_vectorizedHashCode_4 : List UInt8 := [29, 42, 192, 0, 60, 27, 28, 184, 0, 75, 167, 0, 57, 29, 42, 192, 0, 77, 27, 28, 184, 0, 79]
abbrev dktJ3_vectorizedHashCode_4 : List UInt8 := dkwJ3_vectorizedHashCode_4 ++ dktJ3_vectorizedHashCode_5
def dkwJ3_vectorizedHashCode_3 : List UInt8 := [192, 0, 60, 27, 28, 184, 0, 66, 167, 0, 83, 29, 42, 192, 0, 69, 27, 28, 184, 0, 71, 167, 0, 70]
abbrev dktJ3_vectorizedHashCode_3 : List UInt8 := dkwJ3_vectorizedHashCode_3 ++ dktJ3_vectorizedHashCode_4
def dkwJ3_vectorizedHashCode_2 : List UInt8 := [29, 42, 192, 0, 60, 27, 28, 184, 0, 62, 167, 0, 103, 42, 193, 0, 60, 153, 0, 16, 29, 42]
abbrev dktJ3_vectorizedHashCode_2 : List UInt8 := dkwJ3_vectorizedHashCode_2 ++ dktJ3_vectorizedHashCode_3
def dkwJ3_vectorizedHashCode_1 : List UInt8 := [170, 0, 0, 0, 0, 127, 0, 0, 0, 4, 0, 0, 0, 10, 0, 0, 0, 42, 0, 0, 0, 55, 0, 0, 0, 127, 0, 0, 0, 127, 0, 0, 0, 88, 0, 0, 0, 101, 0, 0, 0, 114]
abbrev dktJ3_vectorizedHashCode_1 : List UInt8 := dkwJ3_vectorizedHashCode_1 ++ dktJ3_vectorizedHashCode_2
def dkwJ3_vectorizedHashCode_0 : List UInt8 := [21, 4]
abbrev dktJ3_vectorizedHashCode_0 : List UInt8 := dkwJ3_vectorizedHashCode_0 ++ dktJ3_vectorizedHashCode_1
theorem dksJ3_vectorizedHashCode_0 : cJ3_vectorizedHashCode.data.toList.drop 0 = dktJ3_vectorizedHashCode_0 := by decide +kernel
theorem dksJ3_vectorizedHashCode_1 : cJ3_vectorizedHashCode.data.toList.drop 2 = dktJ3_vectorizedHashCode_1 := dk_seg dksJ3_vectorizedHashCode_0 2 rfl rfl
theorem dksJ3_vectorizedHashCode_2 : cJ3_vectorizedHashCode.data.toList.drop 44 = dktJ3_vectorizedHashCode_2 := dk_seg dksJ3_vectorizedHashCode_1 42 rfl rfl
theorem dksJ3_vectorizedHashCode_3 : cJ3_vectorizedHashCode.data.toList.drop 66 = dktJ3_vectorizedHashCode_3 := dk_seg dksJ3_vectorizedHashCode_2 22 rfl rfl
theorem dksJ3_vectorizedHashCode_4 : cJ3_vectorizedHashCode.data.toList.drop 90 = dktJ3_vectorizedHashCode_4 := dk_seg dksJ3_vectorizedHashCode_3 24 rfl rfl
theorem dksJ3_vectorizedHashCode_5 : cJ3_vectorizedHashCode.data.toList.drop 113 = dktJ3_vectorizedHashCode_5 := dk_seg dksJ3_vectorizedHashCode_4 23 rfl rfl
theorem dksJ3_vectorizedHashCode_6 : cJ3_vectorizedHashCode.data.toList.drop 137 = dktJ3_vectorizedHashCode_6 := dk_seg dksJ3_vectorizedHashCode_5 24 rfl rfl
theorem dJ3_vectorizedHashCode_0 : decode cJ3_vectorizedHashCode 0 = .ok (.iload 4, 2) := dk_21 4 (dk_at dksJ3_vectorizedHashCode_0 0 rfl rfl)
theorem dJ3_vectorizedHashCode_2 : decode cJ3_vectorizedHashCode 2 = .ok (.tableswitch 127 4 10 #[42, 55, 127, 127, 88, 101, 114], 42) := by decide +kernel
theorem dJ3_vectorizedHashCode_44 : decode cJ3_vectorizedHashCode 44 = .ok (.iload_n 3, 1) := dk_29 (dk_at dksJ3_vectorizedHashCode_2 0 rfl rfl)
theorem dJ3_vectorizedHashCode_45 : decode cJ3_vectorizedHashCode 45 = .ok (.aload_n 0, 1) := dk_42 (dk_at dksJ3_vectorizedHashCode_2 1 rfl rfl)
theorem dJ3_vectorizedHashCode_46 : decode cJ3_vectorizedHashCode 46 = .ok (.checkcast 60, 3) := dk_192 0 60 (dk_at dksJ3_vectorizedHashCode_2 2 rfl rfl)
theorem dJ3_vectorizedHashCode_49 : decode cJ3_vectorizedHashCode 49 = .ok (.iload_n 1, 1) := dk_27 (dk_at dksJ3_vectorizedHashCode_2 5 rfl rfl)
theorem dJ3_vectorizedHashCode_50 : decode cJ3_vectorizedHashCode 50 = .ok (.iload_n 2, 1) := dk_28 (dk_at dksJ3_vectorizedHashCode_2 6 rfl rfl)
theorem dJ3_vectorizedHashCode_51 : decode cJ3_vectorizedHashCode 51 = .ok (.invokestatic 62, 3) := dk_184 0 62 (dk_at dksJ3_vectorizedHashCode_2 7 rfl rfl)
theorem dJ3_vectorizedHashCode_54 : decode cJ3_vectorizedHashCode 54 = .ok (.goto 103, 3) := dk_167 0 103 (dk_at dksJ3_vectorizedHashCode_2 10 rfl rfl)
theorem dJ3_vectorizedHashCode_57 : decode cJ3_vectorizedHashCode 57 = .ok (.aload_n 0, 1) := dk_42 (dk_at dksJ3_vectorizedHashCode_2 13 rfl rfl)
theorem dJ3_vectorizedHashCode_58 : decode cJ3_vectorizedHashCode 58 = .ok (.instanceof 60, 3) := dk_193 0 60 (dk_at dksJ3_vectorizedHashCode_2 14 rfl rfl)
theorem dJ3_vectorizedHashCode_61 : decode cJ3_vectorizedHashCode 61 = .ok (.ifCond .eq 16, 3) := dk_153 0 16 (dk_at dksJ3_vectorizedHashCode_2 17 rfl rfl)
theorem dJ3_vectorizedHashCode_64 : decode cJ3_vectorizedHashCode 64 = .ok (.iload_n 3, 1) := dk_29 (dk_at dksJ3_vectorizedHashCode_2 20 rfl rfl)
theorem dJ3_vectorizedHashCode_65 : decode cJ3_vectorizedHashCode 65 = .ok (.aload_n 0, 1) := dk_42 (dk_at dksJ3_vectorizedHashCode_2 21 rfl rfl)
theorem dJ3_vectorizedHashCode_66 : decode cJ3_vectorizedHashCode 66 = .ok (.checkcast 60, 3) := dk_192 0 60 (dk_at dksJ3_vectorizedHashCode_3 0 rfl rfl)
theorem dJ3_vectorizedHashCode_69 : decode cJ3_vectorizedHashCode 69 = .ok (.iload_n 1, 1) := dk_27 (dk_at dksJ3_vectorizedHashCode_3 3 rfl rfl)
theorem dJ3_vectorizedHashCode_70 : decode cJ3_vectorizedHashCode 70 = .ok (.iload_n 2, 1) := dk_28 (dk_at dksJ3_vectorizedHashCode_3 4 rfl rfl)
theorem dJ3_vectorizedHashCode_71 : decode cJ3_vectorizedHashCode 71 = .ok (.invokestatic 66, 3) := dk_184 0 66 (dk_at dksJ3_vectorizedHashCode_3 5 rfl rfl)
theorem dJ3_vectorizedHashCode_74 : decode cJ3_vectorizedHashCode 74 = .ok (.goto 83, 3) := dk_167 0 83 (dk_at dksJ3_vectorizedHashCode_3 8 rfl rfl)
theorem dJ3_vectorizedHashCode_77 : decode cJ3_vectorizedHashCode 77 = .ok (.iload_n 3, 1) := dk_29 (dk_at dksJ3_vectorizedHashCode_3 11 rfl rfl)
theorem dJ3_vectorizedHashCode_78 : decode cJ3_vectorizedHashCode 78 = .ok (.aload_n 0, 1) := dk_42 (dk_at dksJ3_vectorizedHashCode_3 12 rfl rfl)
theorem dJ3_vectorizedHashCode_79 : decode cJ3_vectorizedHashCode 79 = .ok (.checkcast 69, 3) := dk_192 0 69 (dk_at dksJ3_vectorizedHashCode_3 13 rfl rfl)
theorem dJ3_vectorizedHashCode_82 : decode cJ3_vectorizedHashCode 82 = .ok (.iload_n 1, 1) := dk_27 (dk_at dksJ3_vectorizedHashCode_3 16 rfl rfl)
theorem dJ3_vectorizedHashCode_83 : decode cJ3_vectorizedHashCode 83 = .ok (.iload_n 2, 1) := dk_28 (dk_at dksJ3_vectorizedHashCode_3 17 rfl rfl)
theorem dJ3_vectorizedHashCode_84 : decode cJ3_vectorizedHashCode 84 = .ok (.invokestatic 71, 3) := dk_184 0 71 (dk_at dksJ3_vectorizedHashCode_3 18 rfl rfl)
theorem dJ3_vectorizedHashCode_87 : decode cJ3_vectorizedHashCode 87 = .ok (.goto 70, 3) := dk_167 0 70 (dk_at dksJ3_vectorizedHashCode_3 21 rfl rfl)
theorem dJ3_vectorizedHashCode_90 : decode cJ3_vectorizedHashCode 90 = .ok (.iload_n 3, 1) := dk_29 (dk_at dksJ3_vectorizedHashCode_4 0 rfl rfl)
theorem dJ3_vectorizedHashCode_91 : decode cJ3_vectorizedHashCode 91 = .ok (.aload_n 0, 1) := dk_42 (dk_at dksJ3_vectorizedHashCode_4 1 rfl rfl)
theorem dJ3_vectorizedHashCode_92 : decode cJ3_vectorizedHashCode 92 = .ok (.checkcast 60, 3) := dk_192 0 60 (dk_at dksJ3_vectorizedHashCode_4 2 rfl rfl)
theorem dJ3_vectorizedHashCode_95 : decode cJ3_vectorizedHashCode 95 = .ok (.iload_n 1, 1) := dk_27 (dk_at dksJ3_vectorizedHashCode_4 5 rfl rfl)
theorem dJ3_vectorizedHashCode_96 : decode cJ3_vectorizedHashCode 96 = .ok (.iload_n 2, 1) := dk_28 (dk_at dksJ3_vectorizedHashCode_4 6 rfl rfl)
theorem dJ3_vectorizedHashCode_97 : decode cJ3_vectorizedHashCode 97 = .ok (.invokestatic 75, 3) := dk_184 0 75 (dk_at dksJ3_vectorizedHashCode_4 7 rfl rfl)
theorem dJ3_vectorizedHashCode_100 : decode cJ3_vectorizedHashCode 100 = .ok (.goto 57, 3) := dk_167 0 57 (dk_at dksJ3_vectorizedHashCode_4 10 rfl rfl)
theorem dJ3_vectorizedHashCode_103 : decode cJ3_vectorizedHashCode 103 = .ok (.iload_n 3, 1) := dk_29 (dk_at dksJ3_vectorizedHashCode_4 13 rfl rfl)
theorem dJ3_vectorizedHashCode_104 : decode cJ3_vectorizedHashCode 104 = .ok (.aload_n 0, 1) := dk_42 (dk_at dksJ3_vectorizedHashCode_4 14 rfl rfl)
theorem dJ3_vectorizedHashCode_105 : decode cJ3_vectorizedHashCode 105 = .ok (.checkcast 77, 3) := dk_192 0 77 (dk_at dksJ3_vectorizedHashCode_4 15 rfl rfl)
theorem dJ3_vectorizedHashCode_108 : decode cJ3_vectorizedHashCode 108 = .ok (.iload_n 1, 1) := dk_27 (dk_at dksJ3_vectorizedHashCode_4 18 rfl rfl)
theorem dJ3_vectorizedHashCode_109 : decode cJ3_vectorizedHashCode 109 = .ok (.iload_n 2, 1) := dk_28 (dk_at dksJ3_vectorizedHashCode_4 19 rfl rfl)
theorem dJ3_vectorizedHashCode_110 : decode cJ3_vectorizedHashCode 110 = .ok (.invokestatic 79, 3) := dk_184 0 79 (dk_at dksJ3_vectorizedHashCode_4 20 rfl rfl)
theorem dJ3_vectorizedHashCode_113 : decode cJ3_vectorizedHashCode 113 = .ok (.goto 44, 3) := dk_167 0 44 (dk_at dksJ3_vectorizedHashCode_5 0 rfl rfl)
theorem dJ3_vectorizedHashCode_116 : decode cJ3_vectorizedHashCode 116 = .ok (.iload_n 3, 1) := dk_29 (dk_at dksJ3_vectorizedHashCode_5 3 rfl rfl)
theorem dJ3_vectorizedHashCode_117 : decode cJ3_vectorizedHashCode 117 = .ok (.aload_n 0, 1) := dk_42 (dk_at dksJ3_vectorizedHashCode_5 4 rfl rfl)
theorem dJ3_vectorizedHashCode_118 : decode cJ3_vectorizedHashCode 118 = .ok (.checkcast 82, 3) := dk_192 0 82 (dk_at dksJ3_vectorizedHashCode_5 5 rfl rfl)
theorem dJ3_vectorizedHashCode_121 : decode cJ3_vectorizedHashCode 121 = .ok (.iload_n 1, 1) := dk_27 (dk_at dksJ3_vectorizedHashCode_5 8 rfl rfl)
theorem dJ3_vectorizedHashCode_122 : decode cJ3_vectorizedHashCode 122 = .ok (.iload_n 2, 1) := dk_28 (dk_at dksJ3_vectorizedHashCode_5 9 rfl rfl)
theorem dJ3_vectorizedHashCode_123 : decode cJ3_vectorizedHashCode 123 = .ok (.invokestatic 84, 3) := dk_184 0 84 (dk_at dksJ3_vectorizedHashCode_5 10 rfl rfl)
theorem dJ3_vectorizedHashCode_126 : decode cJ3_vectorizedHashCode 126 = .ok (.goto 31, 3) := dk_167 0 31 (dk_at dksJ3_vectorizedHashCode_5 13 rfl rfl)
theorem dJ3_vectorizedHashCode_129 : decode cJ3_vectorizedHashCode 129 = .ok (.new 87, 3) := dk_187 0 87 (dk_at dksJ3_vectorizedHashCode_5 16 rfl rfl)
theorem dJ3_vectorizedHashCode_132 : decode cJ3_vectorizedHashCode 132 = .ok (.dup, 1) := dk_89 (dk_at dksJ3_vectorizedHashCode_5 19 rfl rfl)
theorem dJ3_vectorizedHashCode_133 : decode cJ3_vectorizedHashCode 133 = .ok (.new 89, 3) := dk_187 0 89 (dk_at dksJ3_vectorizedHashCode_5 20 rfl rfl)
theorem dJ3_vectorizedHashCode_136 : decode cJ3_vectorizedHashCode 136 = .ok (.dup, 1) := dk_89 (dk_at dksJ3_vectorizedHashCode_5 23 rfl rfl)
theorem dJ3_vectorizedHashCode_137 : decode cJ3_vectorizedHashCode 137 = .ok (.invokespecial 91, 3) := dk_183 0 91 (dk_at dksJ3_vectorizedHashCode_6 0 rfl rfl)
theorem dJ3_vectorizedHashCode_140 : decode cJ3_vectorizedHashCode 140 = .ok (.ldc 92, 2) := dk_18 92 (dk_at dksJ3_vectorizedHashCode_6 3 rfl rfl)
theorem dJ3_vectorizedHashCode_142 : decode cJ3_vectorizedHashCode 142 = .ok (.invokevirtual 94, 3) := dk_182 0 94 (dk_at dksJ3_vectorizedHashCode_6 5 rfl rfl)
theorem dJ3_vectorizedHashCode_145 : decode cJ3_vectorizedHashCode 145 = .ok (.iload 4, 2) := dk_21 4 (dk_at dksJ3_vectorizedHashCode_6 8 rfl rfl)
theorem dJ3_vectorizedHashCode_147 : decode cJ3_vectorizedHashCode 147 = .ok (.invokevirtual 98, 3) := dk_182 0 98 (dk_at dksJ3_vectorizedHashCode_6 10 rfl rfl)
theorem dJ3_vectorizedHashCode_150 : decode cJ3_vectorizedHashCode 150 = .ok (.invokevirtual 101, 3) := dk_182 0 101 (dk_at dksJ3_vectorizedHashCode_6 13 rfl rfl)
theorem dJ3_vectorizedHashCode_153 : decode cJ3_vectorizedHashCode 153 = .ok (.invokespecial 105, 3) := dk_183 0 105 (dk_at dksJ3_vectorizedHashCode_6 16 rfl rfl)
theorem dJ3_vectorizedHashCode_156 : decode cJ3_vectorizedHashCode 156 = .ok (.athrow, 1) := dk_191 (dk_at dksJ3_vectorizedHashCode_6 19 rfl rfl)
theorem dJ3_vectorizedHashCode_157 : decode cJ3_vectorizedHashCode 157 = .ok (.ireturn, 1) := dk_172 (dk_at dksJ3_vectorizedHashCode_6 20 rfl rfl)
abbrev cJ3_signedHashCode : ByteArray := prog_57_method_5_code
def yJ3_signedHashCode : MethodName := ⟨RJ3, "signedHashCode", "(I[BII)I"⟩
def dkwJ3_signedHashCode_1 : List UInt8 := [17, 0, 255, 126, 96, 59, 132, 5, 1, 167, 255, 232, 26, 172]
abbrev dktJ3_signedHashCode_1 : List UInt8 := dkwJ3_signedHashCode_1 ++ []
def dkwJ3_signedHashCode_0 : List UInt8 := [28, 29, 96, 54, 4, 28, 54, 5, 21, 5, 21, 4, 162, 0, 23, 16, 31, 26, 104, 43, 21, 5, 51]
abbrev dktJ3_signedHashCode_0 : List UInt8 := dkwJ3_signedHashCode_0 ++ dktJ3_signedHashCode_1
theorem dksJ3_signedHashCode_0 : cJ3_signedHashCode.data.toList.drop 0 = dktJ3_signedHashCode_0 := by decide +kernel
theorem dksJ3_signedHashCode_1 : cJ3_signedHashCode.data.toList.drop 23 = dktJ3_signedHashCode_1 := dk_seg dksJ3_signedHashCode_0 23 rfl rfl
theorem dJ3_signedHashCode_0 : decode cJ3_signedHashCode 0 = .ok (.iload_n 2, 1) := dk_28 (dk_at dksJ3_signedHashCode_0 0 rfl rfl)
theorem dJ3_signedHashCode_1 : decode cJ3_signedHashCode 1 = .ok (.iload_n 3, 1) := dk_29 (dk_at dksJ3_signedHashCode_0 1 rfl rfl)
theorem dJ3_signedHashCode_2 : decode cJ3_signedHashCode 2 = .ok (.iadd, 1) := dk_96 (dk_at dksJ3_signedHashCode_0 2 rfl rfl)
theorem dJ3_signedHashCode_3 : decode cJ3_signedHashCode 3 = .ok (.istore 4, 2) := dk_54 4 (dk_at dksJ3_signedHashCode_0 3 rfl rfl)
theorem dJ3_signedHashCode_5 : decode cJ3_signedHashCode 5 = .ok (.iload_n 2, 1) := dk_28 (dk_at dksJ3_signedHashCode_0 5 rfl rfl)
theorem dJ3_signedHashCode_6 : decode cJ3_signedHashCode 6 = .ok (.istore 5, 2) := dk_54 5 (dk_at dksJ3_signedHashCode_0 6 rfl rfl)
theorem dJ3_signedHashCode_8 : decode cJ3_signedHashCode 8 = .ok (.iload 5, 2) := dk_21 5 (dk_at dksJ3_signedHashCode_0 8 rfl rfl)
theorem dJ3_signedHashCode_10 : decode cJ3_signedHashCode 10 = .ok (.iload 4, 2) := dk_21 4 (dk_at dksJ3_signedHashCode_0 10 rfl rfl)
theorem dJ3_signedHashCode_12 : decode cJ3_signedHashCode 12 = .ok (.if_icmp .ge 23, 3) := dk_162 0 23 (dk_at dksJ3_signedHashCode_0 12 rfl rfl)
theorem dJ3_signedHashCode_15 : decode cJ3_signedHashCode 15 = .ok (.bipush 31, 2) := dk_16 31 (dk_at dksJ3_signedHashCode_0 15 rfl rfl)
theorem dJ3_signedHashCode_17 : decode cJ3_signedHashCode 17 = .ok (.iload_n 0, 1) := dk_26 (dk_at dksJ3_signedHashCode_0 17 rfl rfl)
theorem dJ3_signedHashCode_18 : decode cJ3_signedHashCode 18 = .ok (.imul, 1) := dk_104 (dk_at dksJ3_signedHashCode_0 18 rfl rfl)
theorem dJ3_signedHashCode_19 : decode cJ3_signedHashCode 19 = .ok (.aload_n 1, 1) := dk_43 (dk_at dksJ3_signedHashCode_0 19 rfl rfl)
theorem dJ3_signedHashCode_20 : decode cJ3_signedHashCode 20 = .ok (.iload 5, 2) := dk_21 5 (dk_at dksJ3_signedHashCode_0 20 rfl rfl)
theorem dJ3_signedHashCode_22 : decode cJ3_signedHashCode 22 = .ok (.baload, 1) := dk_51 (dk_at dksJ3_signedHashCode_0 22 rfl rfl)
theorem dJ3_signedHashCode_23 : decode cJ3_signedHashCode 23 = .ok (.sipush 255, 3) := dk_17 0 255 (dk_at dksJ3_signedHashCode_1 0 rfl rfl)
theorem dJ3_signedHashCode_26 : decode cJ3_signedHashCode 26 = .ok (.iand, 1) := dk_126 (dk_at dksJ3_signedHashCode_1 3 rfl rfl)
theorem dJ3_signedHashCode_27 : decode cJ3_signedHashCode 27 = .ok (.iadd, 1) := dk_96 (dk_at dksJ3_signedHashCode_1 4 rfl rfl)
theorem dJ3_signedHashCode_28 : decode cJ3_signedHashCode 28 = .ok (.istore_n 0, 1) := dk_59 (dk_at dksJ3_signedHashCode_1 5 rfl rfl)
theorem dJ3_signedHashCode_29 : decode cJ3_signedHashCode 29 = .ok (.iinc 5 1, 3) := dk_132 5 1 (dk_at dksJ3_signedHashCode_1 6 rfl rfl)
theorem dJ3_signedHashCode_32 : decode cJ3_signedHashCode 32 = .ok (.goto (-24), 3) := dk_167 255 232 (dk_at dksJ3_signedHashCode_1 9 rfl rfl)
theorem dJ3_signedHashCode_35 : decode cJ3_signedHashCode 35 = .ok (.iload_n 0, 1) := dk_26 (dk_at dksJ3_signedHashCode_1 12 rfl rfl)
theorem dJ3_signedHashCode_36 : decode cJ3_signedHashCode 36 = .ok (.ireturn, 1) := dk_172 (dk_at dksJ3_signedHashCode_1 13 rfl rfl)
abbrev cJ3_utf16hashCode : ByteArray := prog_57_method_10_code
def yJ3_utf16hashCode : MethodName := ⟨RJ3, "utf16hashCode", "(I[BII)I"⟩
def dkwJ3_utf16hashCode_1 : List UInt8 := [21, 5, 185, 0, 110, 3, 0, 96, 59, 132, 5, 1, 167, 255, 229, 26, 172]
abbrev dktJ3_utf16hashCode_1 : List UInt8 := dkwJ3_utf16hashCode_1 ++ []
def dkwJ3_utf16hashCode_0 : List UInt8 := [28, 29, 96, 54, 4, 28, 54, 5, 21, 5, 21, 4, 162, 0, 26, 16, 31, 26, 104, 178, 0, 106, 43]
abbrev dktJ3_utf16hashCode_0 : List UInt8 := dkwJ3_utf16hashCode_0 ++ dktJ3_utf16hashCode_1
theorem dksJ3_utf16hashCode_0 : cJ3_utf16hashCode.data.toList.drop 0 = dktJ3_utf16hashCode_0 := by decide +kernel
theorem dksJ3_utf16hashCode_1 : cJ3_utf16hashCode.data.toList.drop 23 = dktJ3_utf16hashCode_1 := dk_seg dksJ3_utf16hashCode_0 23 rfl rfl
theorem dJ3_utf16hashCode_0 : decode cJ3_utf16hashCode 0 = .ok (.iload_n 2, 1) := dk_28 (dk_at dksJ3_utf16hashCode_0 0 rfl rfl)
theorem dJ3_utf16hashCode_1 : decode cJ3_utf16hashCode 1 = .ok (.iload_n 3, 1) := dk_29 (dk_at dksJ3_utf16hashCode_0 1 rfl rfl)
theorem dJ3_utf16hashCode_2 : decode cJ3_utf16hashCode 2 = .ok (.iadd, 1) := dk_96 (dk_at dksJ3_utf16hashCode_0 2 rfl rfl)
theorem dJ3_utf16hashCode_3 : decode cJ3_utf16hashCode 3 = .ok (.istore 4, 2) := dk_54 4 (dk_at dksJ3_utf16hashCode_0 3 rfl rfl)
theorem dJ3_utf16hashCode_5 : decode cJ3_utf16hashCode 5 = .ok (.iload_n 2, 1) := dk_28 (dk_at dksJ3_utf16hashCode_0 5 rfl rfl)
theorem dJ3_utf16hashCode_6 : decode cJ3_utf16hashCode 6 = .ok (.istore 5, 2) := dk_54 5 (dk_at dksJ3_utf16hashCode_0 6 rfl rfl)
theorem dJ3_utf16hashCode_8 : decode cJ3_utf16hashCode 8 = .ok (.iload 5, 2) := dk_21 5 (dk_at dksJ3_utf16hashCode_0 8 rfl rfl)
theorem dJ3_utf16hashCode_10 : decode cJ3_utf16hashCode 10 = .ok (.iload 4, 2) := dk_21 4 (dk_at dksJ3_utf16hashCode_0 10 rfl rfl)
theorem dJ3_utf16hashCode_12 : decode cJ3_utf16hashCode 12 = .ok (.if_icmp .ge 26, 3) := dk_162 0 26 (dk_at dksJ3_utf16hashCode_0 12 rfl rfl)
theorem dJ3_utf16hashCode_15 : decode cJ3_utf16hashCode 15 = .ok (.bipush 31, 2) := dk_16 31 (dk_at dksJ3_utf16hashCode_0 15 rfl rfl)
theorem dJ3_utf16hashCode_17 : decode cJ3_utf16hashCode 17 = .ok (.iload_n 0, 1) := dk_26 (dk_at dksJ3_utf16hashCode_0 17 rfl rfl)
theorem dJ3_utf16hashCode_18 : decode cJ3_utf16hashCode 18 = .ok (.imul, 1) := dk_104 (dk_at dksJ3_utf16hashCode_0 18 rfl rfl)
theorem dJ3_utf16hashCode_19 : decode cJ3_utf16hashCode 19 = .ok (.getstatic 106, 3) := dk_178 0 106 (dk_at dksJ3_utf16hashCode_0 19 rfl rfl)
theorem dJ3_utf16hashCode_22 : decode cJ3_utf16hashCode 22 = .ok (.aload_n 1, 1) := dk_43 (dk_at dksJ3_utf16hashCode_0 22 rfl rfl)
theorem dJ3_utf16hashCode_23 : decode cJ3_utf16hashCode 23 = .ok (.iload 5, 2) := dk_21 5 (dk_at dksJ3_utf16hashCode_1 0 rfl rfl)
theorem dJ3_utf16hashCode_25 : decode cJ3_utf16hashCode 25 = .ok (.invokeinterface 110 3, 5) := by decide +kernel
theorem dJ3_utf16hashCode_30 : decode cJ3_utf16hashCode 30 = .ok (.iadd, 1) := dk_96 (dk_at dksJ3_utf16hashCode_1 7 rfl rfl)
theorem dJ3_utf16hashCode_31 : decode cJ3_utf16hashCode 31 = .ok (.istore_n 0, 1) := dk_59 (dk_at dksJ3_utf16hashCode_1 8 rfl rfl)
theorem dJ3_utf16hashCode_32 : decode cJ3_utf16hashCode 32 = .ok (.iinc 5 1, 3) := dk_132 5 1 (dk_at dksJ3_utf16hashCode_1 9 rfl rfl)
theorem dJ3_utf16hashCode_35 : decode cJ3_utf16hashCode 35 = .ok (.goto (-27), 3) := dk_167 255 229 (dk_at dksJ3_utf16hashCode_1 12 rfl rfl)
theorem dJ3_utf16hashCode_38 : decode cJ3_utf16hashCode 38 = .ok (.iload_n 0, 1) := dk_26 (dk_at dksJ3_utf16hashCode_1 15 rfl rfl)
theorem dJ3_utf16hashCode_39 : decode cJ3_utf16hashCode 39 = .ok (.ireturn, 1) := dk_172 (dk_at dksJ3_utf16hashCode_1 16 rfl rfl)
abbrev cJ3_hashCode : ByteArray := prog_57_method_7_code
def yJ3_hashCode : MethodName := ⟨RJ3, "hashCode", "(I[CII)I"⟩
def dkwJ3_hashCode_1 : List UInt8 := [59, 132, 5, 1, 167, 255, 236, 26, 172]
abbrev dktJ3_hashCode_1 : List UInt8 := dkwJ3_hashCode_1 ++ []
def dkwJ3_hashCode_0 : List UInt8 := [28, 29, 96, 54, 4, 28, 54, 5, 21, 5, 21, 4, 162, 0, 19, 16, 31, 26, 104, 43, 21, 5, 52, 96]
abbrev dktJ3_hashCode_0 : List UInt8 := dkwJ3_hashCode_0 ++ dktJ3_hashCode_1
theorem dksJ3_hashCode_0 : cJ3_hashCode.data.toList.drop 0 = dktJ3_hashCode_0 := by decide +kernel
theorem dksJ3_hashCode_1 : cJ3_hashCode.data.toList.drop 24 = dktJ3_hashCode_1 := dk_seg dksJ3_hashCode_0 24 rfl rfl
theorem dJ3_hashCode_0 : decode cJ3_hashCode 0 = .ok (.iload_n 2, 1) := dk_28 (dk_at dksJ3_hashCode_0 0 rfl rfl)
theorem dJ3_hashCode_1 : decode cJ3_hashCode 1 = .ok (.iload_n 3, 1) := dk_29 (dk_at dksJ3_hashCode_0 1 rfl rfl)
theorem dJ3_hashCode_2 : decode cJ3_hashCode 2 = .ok (.iadd, 1) := dk_96 (dk_at dksJ3_hashCode_0 2 rfl rfl)
theorem dJ3_hashCode_3 : decode cJ3_hashCode 3 = .ok (.istore 4, 2) := dk_54 4 (dk_at dksJ3_hashCode_0 3 rfl rfl)
theorem dJ3_hashCode_5 : decode cJ3_hashCode 5 = .ok (.iload_n 2, 1) := dk_28 (dk_at dksJ3_hashCode_0 5 rfl rfl)
theorem dJ3_hashCode_6 : decode cJ3_hashCode 6 = .ok (.istore 5, 2) := dk_54 5 (dk_at dksJ3_hashCode_0 6 rfl rfl)
theorem dJ3_hashCode_8 : decode cJ3_hashCode 8 = .ok (.iload 5, 2) := dk_21 5 (dk_at dksJ3_hashCode_0 8 rfl rfl)
theorem dJ3_hashCode_10 : decode cJ3_hashCode 10 = .ok (.iload 4, 2) := dk_21 4 (dk_at dksJ3_hashCode_0 10 rfl rfl)
theorem dJ3_hashCode_12 : decode cJ3_hashCode 12 = .ok (.if_icmp .ge 19, 3) := dk_162 0 19 (dk_at dksJ3_hashCode_0 12 rfl rfl)
theorem dJ3_hashCode_15 : decode cJ3_hashCode 15 = .ok (.bipush 31, 2) := dk_16 31 (dk_at dksJ3_hashCode_0 15 rfl rfl)
theorem dJ3_hashCode_17 : decode cJ3_hashCode 17 = .ok (.iload_n 0, 1) := dk_26 (dk_at dksJ3_hashCode_0 17 rfl rfl)
theorem dJ3_hashCode_18 : decode cJ3_hashCode 18 = .ok (.imul, 1) := dk_104 (dk_at dksJ3_hashCode_0 18 rfl rfl)
theorem dJ3_hashCode_19 : decode cJ3_hashCode 19 = .ok (.aload_n 1, 1) := dk_43 (dk_at dksJ3_hashCode_0 19 rfl rfl)
theorem dJ3_hashCode_20 : decode cJ3_hashCode 20 = .ok (.iload 5, 2) := dk_21 5 (dk_at dksJ3_hashCode_0 20 rfl rfl)
theorem dJ3_hashCode_22 : decode cJ3_hashCode 22 = .ok (.caload, 1) := dk_52 (dk_at dksJ3_hashCode_0 22 rfl rfl)
theorem dJ3_hashCode_23 : decode cJ3_hashCode 23 = .ok (.iadd, 1) := dk_96 (dk_at dksJ3_hashCode_0 23 rfl rfl)
theorem dJ3_hashCode_24 : decode cJ3_hashCode 24 = .ok (.istore_n 0, 1) := dk_59 (dk_at dksJ3_hashCode_1 0 rfl rfl)
theorem dJ3_hashCode_25 : decode cJ3_hashCode 25 = .ok (.iinc 5 1, 3) := dk_132 5 1 (dk_at dksJ3_hashCode_1 1 rfl rfl)
theorem dJ3_hashCode_28 : decode cJ3_hashCode 28 = .ok (.goto (-20), 3) := dk_167 255 236 (dk_at dksJ3_hashCode_1 4 rfl rfl)
theorem dJ3_hashCode_31 : decode cJ3_hashCode 31 = .ok (.iload_n 0, 1) := dk_26 (dk_at dksJ3_hashCode_1 7 rfl rfl)
theorem dJ3_hashCode_32 : decode cJ3_hashCode 32 = .ok (.ireturn, 1) := dk_172 (dk_at dksJ3_hashCode_1 8 rfl rfl)
abbrev cJ3_hashCode_2 : ByteArray := prog_57_method_6_code
def yJ3_hashCode_2 : MethodName := ⟨RJ3, "hashCode", "(I[BII)I"⟩
def dkwJ3_hashCode_2_1 : List UInt8 := [59, 132, 5, 1, 167, 255, 236, 26, 172]
abbrev dktJ3_hashCode_2_1 : List UInt8 := dkwJ3_hashCode_2_1 ++ []
def dkwJ3_hashCode_2_0 : List UInt8 := [28, 29, 96, 54, 4, 28, 54, 5, 21, 5, 21, 4, 162, 0, 19, 16, 31, 26, 104, 43, 21, 5, 51, 96]
abbrev dktJ3_hashCode_2_0 : List UInt8 := dkwJ3_hashCode_2_0 ++ dktJ3_hashCode_2_1
theorem dksJ3_hashCode_2_0 : cJ3_hashCode_2.data.toList.drop 0 = dktJ3_hashCode_2_0 := by decide +kernel
theorem dksJ3_hashCode_2_1 : cJ3_hashCode_2.data.toList.drop 24 = dktJ3_hashCode_2_1 := dk_seg dksJ3_hashCode_2_0 24 rfl rfl
theorem dJ3_hashCode_2_0 : decode cJ3_hashCode_2 0 = .ok (.iload_n 2, 1) := dk_28 (dk_at dksJ3_hashCode_2_0 0 rfl rfl)
theorem dJ3_hashCode_2_1 : decode cJ3_hashCode_2 1 = .ok (.iload_n 3, 1) := dk_29 (dk_at dksJ3_hashCode_2_0 1 rfl rfl)
theorem dJ3_hashCode_2_2 : decode cJ3_hashCode_2 2 = .ok (.iadd, 1) := dk_96 (dk_at dksJ3_hashCode_2_0 2 rfl rfl)
theorem dJ3_hashCode_2_3 : decode cJ3_hashCode_2 3 = .ok (.istore 4, 2) := dk_54 4 (dk_at dksJ3_hashCode_2_0 3 rfl rfl)
theorem dJ3_hashCode_2_5 : decode cJ3_hashCode_2 5 = .ok (.iload_n 2, 1) := dk_28 (dk_at dksJ3_hashCode_2_0 5 rfl rfl)
theorem dJ3_hashCode_2_6 : decode cJ3_hashCode_2 6 = .ok (.istore 5, 2) := dk_54 5 (dk_at dksJ3_hashCode_2_0 6 rfl rfl)
theorem dJ3_hashCode_2_8 : decode cJ3_hashCode_2 8 = .ok (.iload 5, 2) := dk_21 5 (dk_at dksJ3_hashCode_2_0 8 rfl rfl)
theorem dJ3_hashCode_2_10 : decode cJ3_hashCode_2 10 = .ok (.iload 4, 2) := dk_21 4 (dk_at dksJ3_hashCode_2_0 10 rfl rfl)
theorem dJ3_hashCode_2_12 : decode cJ3_hashCode_2 12 = .ok (.if_icmp .ge 19, 3) := dk_162 0 19 (dk_at dksJ3_hashCode_2_0 12 rfl rfl)
theorem dJ3_hashCode_2_15 : decode cJ3_hashCode_2 15 = .ok (.bipush 31, 2) := dk_16 31 (dk_at dksJ3_hashCode_2_0 15 rfl rfl)
theorem dJ3_hashCode_2_17 : decode cJ3_hashCode_2 17 = .ok (.iload_n 0, 1) := dk_26 (dk_at dksJ3_hashCode_2_0 17 rfl rfl)
theorem dJ3_hashCode_2_18 : decode cJ3_hashCode_2 18 = .ok (.imul, 1) := dk_104 (dk_at dksJ3_hashCode_2_0 18 rfl rfl)
theorem dJ3_hashCode_2_19 : decode cJ3_hashCode_2 19 = .ok (.aload_n 1, 1) := dk_43 (dk_at dksJ3_hashCode_2_0 19 rfl rfl)
theorem dJ3_hashCode_2_20 : decode cJ3_hashCode_2 20 = .ok (.iload 5, 2) := dk_21 5 (dk_at dksJ3_hashCode_2_0 20 rfl rfl)
theorem dJ3_hashCode_2_22 : decode cJ3_hashCode_2 22 = .ok (.baload, 1) := dk_51 (dk_at dksJ3_hashCode_2_0 22 rfl rfl)
theorem dJ3_hashCode_2_23 : decode cJ3_hashCode_2 23 = .ok (.iadd, 1) := dk_96 (dk_at dksJ3_hashCode_2_0 23 rfl rfl)
theorem dJ3_hashCode_2_24 : decode cJ3_hashCode_2 24 = .ok (.istore_n 0, 1) := dk_59 (dk_at dksJ3_hashCode_2_1 0 rfl rfl)
theorem dJ3_hashCode_2_25 : decode cJ3_hashCode_2 25 = .ok (.iinc 5 1, 3) := dk_132 5 1 (dk_at dksJ3_hashCode_2_1 1 rfl rfl)
theorem dJ3_hashCode_2_28 : decode cJ3_hashCode_2 28 = .ok (.goto (-20), 3) := dk_167 255 236 (dk_at dksJ3_hashCode_2_1 4 rfl rfl)
theorem dJ3_hashCode_2_31 : decode cJ3_hashCode_2 31 = .ok (.iload_n 0, 1) := dk_26 (dk_at dksJ3_hashCode_2_1 7 rfl rfl)
theorem dJ3_hashCode_2_32 : decode cJ3_hashCode_2 32 = .ok (.ireturn, 1) := dk_172 (dk_at dksJ3_hashCode_2_1 8 rfl rfl)
abbrev cJ3_hashCode_3 : ByteArray := prog_57_method_8_code
def yJ3_hashCode_3 : MethodName := ⟨RJ3, "hashCode", "(I[SII)I"⟩
def dkwJ3_hashCode_3_1 : List UInt8 := [59, 132, 5, 1, 167, 255, 236, 26, 172]
abbrev dktJ3_hashCode_3_1 : List UInt8 := dkwJ3_hashCode_3_1 ++ []
def dkwJ3_hashCode_3_0 : List UInt8 := [28, 29, 96, 54, 4, 28, 54, 5, 21, 5, 21, 4, 162, 0, 19, 16, 31, 26, 104, 43, 21, 5, 53, 96]
abbrev dktJ3_hashCode_3_0 : List UInt8 := dkwJ3_hashCode_3_0 ++ dktJ3_hashCode_3_1
theorem dksJ3_hashCode_3_0 : cJ3_hashCode_3.data.toList.drop 0 = dktJ3_hashCode_3_0 := by decide +kernel
theorem dksJ3_hashCode_3_1 : cJ3_hashCode_3.data.toList.drop 24 = dktJ3_hashCode_3_1 := dk_seg dksJ3_hashCode_3_0 24 rfl rfl
theorem dJ3_hashCode_3_0 : decode cJ3_hashCode_3 0 = .ok (.iload_n 2, 1) := dk_28 (dk_at dksJ3_hashCode_3_0 0 rfl rfl)
theorem dJ3_hashCode_3_1 : decode cJ3_hashCode_3 1 = .ok (.iload_n 3, 1) := dk_29 (dk_at dksJ3_hashCode_3_0 1 rfl rfl)
theorem dJ3_hashCode_3_2 : decode cJ3_hashCode_3 2 = .ok (.iadd, 1) := dk_96 (dk_at dksJ3_hashCode_3_0 2 rfl rfl)
theorem dJ3_hashCode_3_3 : decode cJ3_hashCode_3 3 = .ok (.istore 4, 2) := dk_54 4 (dk_at dksJ3_hashCode_3_0 3 rfl rfl)
theorem dJ3_hashCode_3_5 : decode cJ3_hashCode_3 5 = .ok (.iload_n 2, 1) := dk_28 (dk_at dksJ3_hashCode_3_0 5 rfl rfl)
theorem dJ3_hashCode_3_6 : decode cJ3_hashCode_3 6 = .ok (.istore 5, 2) := dk_54 5 (dk_at dksJ3_hashCode_3_0 6 rfl rfl)
theorem dJ3_hashCode_3_8 : decode cJ3_hashCode_3 8 = .ok (.iload 5, 2) := dk_21 5 (dk_at dksJ3_hashCode_3_0 8 rfl rfl)
theorem dJ3_hashCode_3_10 : decode cJ3_hashCode_3 10 = .ok (.iload 4, 2) := dk_21 4 (dk_at dksJ3_hashCode_3_0 10 rfl rfl)
theorem dJ3_hashCode_3_12 : decode cJ3_hashCode_3 12 = .ok (.if_icmp .ge 19, 3) := dk_162 0 19 (dk_at dksJ3_hashCode_3_0 12 rfl rfl)
theorem dJ3_hashCode_3_15 : decode cJ3_hashCode_3 15 = .ok (.bipush 31, 2) := dk_16 31 (dk_at dksJ3_hashCode_3_0 15 rfl rfl)
theorem dJ3_hashCode_3_17 : decode cJ3_hashCode_3 17 = .ok (.iload_n 0, 1) := dk_26 (dk_at dksJ3_hashCode_3_0 17 rfl rfl)
theorem dJ3_hashCode_3_18 : decode cJ3_hashCode_3 18 = .ok (.imul, 1) := dk_104 (dk_at dksJ3_hashCode_3_0 18 rfl rfl)
theorem dJ3_hashCode_3_19 : decode cJ3_hashCode_3 19 = .ok (.aload_n 1, 1) := dk_43 (dk_at dksJ3_hashCode_3_0 19 rfl rfl)
theorem dJ3_hashCode_3_20 : decode cJ3_hashCode_3 20 = .ok (.iload 5, 2) := dk_21 5 (dk_at dksJ3_hashCode_3_0 20 rfl rfl)
theorem dJ3_hashCode_3_22 : decode cJ3_hashCode_3 22 = .ok (.saload, 1) := dk_53 (dk_at dksJ3_hashCode_3_0 22 rfl rfl)
theorem dJ3_hashCode_3_23 : decode cJ3_hashCode_3 23 = .ok (.iadd, 1) := dk_96 (dk_at dksJ3_hashCode_3_0 23 rfl rfl)
theorem dJ3_hashCode_3_24 : decode cJ3_hashCode_3 24 = .ok (.istore_n 0, 1) := dk_59 (dk_at dksJ3_hashCode_3_1 0 rfl rfl)
theorem dJ3_hashCode_3_25 : decode cJ3_hashCode_3 25 = .ok (.iinc 5 1, 3) := dk_132 5 1 (dk_at dksJ3_hashCode_3_1 1 rfl rfl)
theorem dJ3_hashCode_3_28 : decode cJ3_hashCode_3 28 = .ok (.goto (-20), 3) := dk_167 255 236 (dk_at dksJ3_hashCode_3_1 4 rfl rfl)
theorem dJ3_hashCode_3_31 : decode cJ3_hashCode_3 31 = .ok (.iload_n 0, 1) := dk_26 (dk_at dksJ3_hashCode_3_1 7 rfl rfl)
theorem dJ3_hashCode_3_32 : decode cJ3_hashCode_3 32 = .ok (.ireturn, 1) := dk_172 (dk_at dksJ3_hashCode_3_1 8 rfl rfl)
abbrev cJ3_hashCode_4 : ByteArray := prog_57_method_9_code
def yJ3_hashCode_4 : MethodName := ⟨RJ3, "hashCode", "(I[III)I"⟩
def dkwJ3_hashCode_4_1 : List UInt8 := [59, 132, 5, 1, 167, 255, 236, 26, 172]
abbrev dktJ3_hashCode_4_1 : List UInt8 := dkwJ3_hashCode_4_1 ++ []
def dkwJ3_hashCode_4_0 : List UInt8 := [28, 29, 96, 54, 4, 28, 54, 5, 21, 5, 21, 4, 162, 0, 19, 16, 31, 26, 104, 43, 21, 5, 46, 96]
abbrev dktJ3_hashCode_4_0 : List UInt8 := dkwJ3_hashCode_4_0 ++ dktJ3_hashCode_4_1
theorem dksJ3_hashCode_4_0 : cJ3_hashCode_4.data.toList.drop 0 = dktJ3_hashCode_4_0 := by decide +kernel
theorem dksJ3_hashCode_4_1 : cJ3_hashCode_4.data.toList.drop 24 = dktJ3_hashCode_4_1 := dk_seg dksJ3_hashCode_4_0 24 rfl rfl
theorem dJ3_hashCode_4_0 : decode cJ3_hashCode_4 0 = .ok (.iload_n 2, 1) := dk_28 (dk_at dksJ3_hashCode_4_0 0 rfl rfl)
theorem dJ3_hashCode_4_1 : decode cJ3_hashCode_4 1 = .ok (.iload_n 3, 1) := dk_29 (dk_at dksJ3_hashCode_4_0 1 rfl rfl)
theorem dJ3_hashCode_4_2 : decode cJ3_hashCode_4 2 = .ok (.iadd, 1) := dk_96 (dk_at dksJ3_hashCode_4_0 2 rfl rfl)
theorem dJ3_hashCode_4_3 : decode cJ3_hashCode_4 3 = .ok (.istore 4, 2) := dk_54 4 (dk_at dksJ3_hashCode_4_0 3 rfl rfl)
theorem dJ3_hashCode_4_5 : decode cJ3_hashCode_4 5 = .ok (.iload_n 2, 1) := dk_28 (dk_at dksJ3_hashCode_4_0 5 rfl rfl)
theorem dJ3_hashCode_4_6 : decode cJ3_hashCode_4 6 = .ok (.istore 5, 2) := dk_54 5 (dk_at dksJ3_hashCode_4_0 6 rfl rfl)
theorem dJ3_hashCode_4_8 : decode cJ3_hashCode_4 8 = .ok (.iload 5, 2) := dk_21 5 (dk_at dksJ3_hashCode_4_0 8 rfl rfl)
theorem dJ3_hashCode_4_10 : decode cJ3_hashCode_4 10 = .ok (.iload 4, 2) := dk_21 4 (dk_at dksJ3_hashCode_4_0 10 rfl rfl)
theorem dJ3_hashCode_4_12 : decode cJ3_hashCode_4 12 = .ok (.if_icmp .ge 19, 3) := dk_162 0 19 (dk_at dksJ3_hashCode_4_0 12 rfl rfl)
theorem dJ3_hashCode_4_15 : decode cJ3_hashCode_4 15 = .ok (.bipush 31, 2) := dk_16 31 (dk_at dksJ3_hashCode_4_0 15 rfl rfl)
theorem dJ3_hashCode_4_17 : decode cJ3_hashCode_4 17 = .ok (.iload_n 0, 1) := dk_26 (dk_at dksJ3_hashCode_4_0 17 rfl rfl)
theorem dJ3_hashCode_4_18 : decode cJ3_hashCode_4 18 = .ok (.imul, 1) := dk_104 (dk_at dksJ3_hashCode_4_0 18 rfl rfl)
theorem dJ3_hashCode_4_19 : decode cJ3_hashCode_4 19 = .ok (.aload_n 1, 1) := dk_43 (dk_at dksJ3_hashCode_4_0 19 rfl rfl)
theorem dJ3_hashCode_4_20 : decode cJ3_hashCode_4 20 = .ok (.iload 5, 2) := dk_21 5 (dk_at dksJ3_hashCode_4_0 20 rfl rfl)
theorem dJ3_hashCode_4_22 : decode cJ3_hashCode_4 22 = .ok (.iaload, 1) := dk_46 (dk_at dksJ3_hashCode_4_0 22 rfl rfl)
theorem dJ3_hashCode_4_23 : decode cJ3_hashCode_4 23 = .ok (.iadd, 1) := dk_96 (dk_at dksJ3_hashCode_4_0 23 rfl rfl)
theorem dJ3_hashCode_4_24 : decode cJ3_hashCode_4 24 = .ok (.istore_n 0, 1) := dk_59 (dk_at dksJ3_hashCode_4_1 0 rfl rfl)
theorem dJ3_hashCode_4_25 : decode cJ3_hashCode_4 25 = .ok (.iinc 5 1, 3) := dk_132 5 1 (dk_at dksJ3_hashCode_4_1 1 rfl rfl)
theorem dJ3_hashCode_4_28 : decode cJ3_hashCode_4 28 = .ok (.goto (-20), 3) := dk_167 255 236 (dk_at dksJ3_hashCode_4_1 4 rfl rfl)
theorem dJ3_hashCode_4_31 : decode cJ3_hashCode_4 31 = .ok (.iload_n 0, 1) := dk_26 (dk_at dksJ3_hashCode_4_1 7 rfl rfl)
theorem dJ3_hashCode_4_32 : decode cJ3_hashCode_4 32 = .ok (.ireturn, 1) := dk_172 (dk_at dksJ3_hashCode_4_1 8 rfl rfl)
theorem q71 : (Jvm.Cond.initialized "jdk/internal/util/ArraysSupport") ∈ lw_all := lw_g (lw_at lw_m1 8 rfl) rfl
theorem q221 : (Jvm.Cond.static ({ cls := "jdk/internal/util/ArraysSupport", name := "newLength", desc := "(III)I" } : Jvm.MethodName)) ∈ lw_all := lw_g (lw_at lw_m1 158 rfl) rfl
theorem q222 : (Jvm.Cond.code ({ cls := "jdk/internal/util/ArraysSupport", name := "newLength", desc := "(III)I" } : Jvm.MethodName) prog_57_method_27_code (4 : Nat) (Option.some Jvm.ClassFile.FieldType.int)) ∈ lw_all := lw_g (lw_at lw_m1 159 rfl) rfl
theorem q223 : (Jvm.Cond.methodLink "jdk/internal/util/ArraysSupport" (194 : Nat) ({ cls := "java/lang/Math", name := "max", desc := "(II)I" } : Jvm.MethodName)) ∈ lw_all := lw_g (lw_at lw_m1 160 rfl) rfl
theorem q226 : (Jvm.Cond.constant "jdk/internal/util/ArraysSupport" (200 : Nat) (2147483639 : Int32)) ∈ lw_all := lw_g (lw_at lw_m1 163 rfl) rfl
theorem q227 : (Jvm.Cond.methodLink "jdk/internal/util/ArraysSupport" (201 : Nat) ({ cls := "jdk/internal/util/ArraysSupport", name := "hugeLength", desc := "(II)I" } : Jvm.MethodName)) ∈ lw_all := lw_g (lw_at lw_m1 164 rfl) rfl
theorem q228 : (Jvm.Cond.static ({ cls := "jdk/internal/util/ArraysSupport", name := "hugeLength", desc := "(II)I" } : Jvm.MethodName)) ∈ lw_all := lw_g (lw_at lw_m1 165 rfl) rfl
theorem q229 : (Jvm.Cond.code ({ cls := "jdk/internal/util/ArraysSupport", name := "hugeLength", desc := "(II)I" } : Jvm.MethodName) prog_57_method_28_code (3 : Nat) (Option.some Jvm.ClassFile.FieldType.int)) ∈ lw_all := lw_g (lw_at lw_m1 166 rfl) rfl
theorem q1400 : (Jvm.Cond.static ({ cls := "jdk/internal/util/ArraysSupport", name := "mismatch", desc := "([BI[BII)I" } : Jvm.MethodName)) ∈ lw_all := lw_g (lw_at lw_m6 137 rfl) rfl
theorem q1401 : (Jvm.Cond.code ({ cls := "jdk/internal/util/ArraysSupport", name := "mismatch", desc := "([BI[BII)I" } : Jvm.MethodName) prog_57_method_14_code (8 : Nat) (Option.some Jvm.ClassFile.FieldType.int)) ∈ lw_all := lw_g (lw_at lw_m6 138 rfl) rfl
theorem q1402 : (Jvm.Cond.fieldLink "jdk/internal/util/ArraysSupport" (126 : Nat) "jdk/internal/misc/Unsafe" "ARRAY_BYTE_BASE_OFFSET" "I") ∈ lw_all := lw_g (lw_at lw_m6 139 rfl) rfl
theorem q1404 : (Jvm.Cond.fieldLink "jdk/internal/util/ArraysSupport" (129 : Nat) "jdk/internal/util/ArraysSupport" "LOG2_ARRAY_BYTE_INDEX_SCALE" "I") ∈ lw_all := lw_g (lw_at lw_m6 141 rfl) rfl
theorem q1405 : (Jvm.Cond.laysStatic "jdk/internal/util/ArraysSupport" "LOG2_ARRAY_BYTE_INDEX_SCALE" "I") ∈ lw_tbl := lw_at lw_m6 142 rfl
theorem q1406 : (Jvm.Cond.methodLink "jdk/internal/util/ArraysSupport" (122 : Nat) ({ cls := "jdk/internal/util/ArraysSupport", name := "vectorizedMismatch", desc := "(Ljava/lang/Object;JLjava/lang/Object;JII)I" } : Jvm.MethodName)) ∈ lw_all := lw_g (lw_at lw_m6 143 rfl) rfl
theorem q1407 : (Jvm.Cond.static ({ cls := "jdk/internal/util/ArraysSupport", name := "vectorizedMismatch", desc := "(Ljava/lang/Object;JLjava/lang/Object;JII)I" } : Jvm.MethodName)) ∈ lw_all := lw_g (lw_at lw_m6 144 rfl) rfl
theorem q1408 : (Jvm.Cond.code ({ cls := "jdk/internal/util/ArraysSupport", name := "vectorizedMismatch", desc := "(Ljava/lang/Object;JLjava/lang/Object;JII)I" } : Jvm.MethodName) prog_57_method_3_code (19 : Nat) (Option.some Jvm.ClassFile.FieldType.int)) ∈ lw_all := lw_g (lw_at lw_m6 145 rfl) rfl
theorem q1409 : (Jvm.Cond.fieldLink "jdk/internal/util/ArraysSupport" (20 : Nat) "jdk/internal/util/ArraysSupport" "LOG2_ARRAY_LONG_INDEX_SCALE" "I") ∈ lw_all := lw_g (lw_at lw_m6 146 rfl) rfl
theorem q1410 : (Jvm.Cond.laysStatic "jdk/internal/util/ArraysSupport" "LOG2_ARRAY_LONG_INDEX_SCALE" "I") ∈ lw_tbl := lw_at lw_m6 147 rfl
theorem q1411 : (Jvm.Cond.fieldLink "jdk/internal/util/ArraysSupport" (26 : Nat) "jdk/internal/util/ArraysSupport" "U" "Ljdk/internal/misc/Unsafe;") ∈ lw_all := lw_g (lw_at lw_m6 148 rfl) rfl
theorem q1412 : (Jvm.Cond.laysStatic "jdk/internal/util/ArraysSupport" "U" "Ljdk/internal/misc/Unsafe;") ∈ lw_tbl := lw_at lw_m6 149 rfl
theorem q1413 : (Jvm.Cond.methodLink "jdk/internal/util/ArraysSupport" (30 : Nat) ({ cls := "jdk/internal/misc/Unsafe", name := "getLongUnaligned", desc := "(Ljava/lang/Object;J)J" } : Jvm.MethodName)) ∈ lw_all := lw_g (lw_at lw_m6 150 rfl) rfl
theorem q1465 : (Jvm.Cond.fieldLink "jdk/internal/util/ArraysSupport" (36 : Nat) "jdk/internal/util/ArraysSupport" "BIG_ENDIAN" "Z") ∈ lw_all := lw_g (lw_at lw_m6 202 rfl) rfl
theorem q1466 : (Jvm.Cond.laysStatic "jdk/internal/util/ArraysSupport" "BIG_ENDIAN" "Z") ∈ lw_tbl := lw_at lw_m6 203 rfl
theorem q1467 : (Jvm.Cond.methodLink "jdk/internal/util/ArraysSupport" (40 : Nat) ({ cls := "java/lang/Long", name := "numberOfLeadingZeros", desc := "(J)I" } : Jvm.MethodName)) ∈ lw_all := lw_g (lw_at lw_m6 204 rfl) rfl
theorem q1474 : (Jvm.Cond.fieldLink "jdk/internal/util/ArraysSupport" (46 : Nat) "jdk/internal/util/ArraysSupport" "LOG2_BYTE_BIT_SIZE" "I") ∈ lw_all := lw_g (lw_at lw_m6 211 rfl) rfl
theorem q1475 : (Jvm.Cond.laysStatic "jdk/internal/util/ArraysSupport" "LOG2_BYTE_BIT_SIZE" "I") ∈ lw_tbl := lw_at lw_m6 212 rfl
theorem q1476 : (Jvm.Cond.methodLink "jdk/internal/util/ArraysSupport" (49 : Nat) ({ cls := "java/lang/Long", name := "numberOfTrailingZeros", desc := "(J)I" } : Jvm.MethodName)) ∈ lw_all := lw_g (lw_at lw_m6 213 rfl) rfl
theorem q1482 : (Jvm.Cond.fieldLink "jdk/internal/util/ArraysSupport" (51 : Nat) "jdk/internal/util/ArraysSupport" "LOG2_ARRAY_INT_INDEX_SCALE" "I") ∈ lw_all := lw_g (lw_at lw_m6 219 rfl) rfl
theorem q1483 : (Jvm.Cond.laysStatic "jdk/internal/util/ArraysSupport" "LOG2_ARRAY_INT_INDEX_SCALE" "I") ∈ lw_tbl := lw_at lw_m6 220 rfl
theorem q1484 : (Jvm.Cond.methodLink "jdk/internal/util/ArraysSupport" (54 : Nat) ({ cls := "jdk/internal/misc/Unsafe", name := "getIntUnaligned", desc := "(Ljava/lang/Object;J)I" } : Jvm.MethodName)) ∈ lw_all := lw_g (lw_at lw_m6 221 rfl) rfl
theorem q1501 : (Jvm.Cond.methodLink "jdk/internal/util/ArraysSupport" (58 : Nat) ({ cls := "java/lang/Integer", name := "numberOfLeadingZeros", desc := "(I)I" } : Jvm.MethodName)) ∈ lw_all := lw_g (lw_at lw_m6 238 rfl) rfl
theorem q1502 : (Jvm.Cond.methodLink "jdk/internal/util/ArraysSupport" (11 : Nat) ({ cls := "java/lang/Integer", name := "numberOfTrailingZeros", desc := "(I)I" } : Jvm.MethodName)) ∈ lw_all := lw_g (lw_at lw_m6 239 rfl) rfl
theorem q1561 : (Jvm.Cond.static ({ cls := "jdk/internal/util/ArraysSupport", name := "vectorizedHashCode", desc := "(Ljava/lang/Object;IIII)I" } : Jvm.MethodName)) ∈ lw_all := lw_g (lw_at lw_m7 58 rfl) rfl
theorem q1562 : (Jvm.Cond.code ({ cls := "jdk/internal/util/ArraysSupport", name := "vectorizedHashCode", desc := "(Ljava/lang/Object;IIII)I" } : Jvm.MethodName) prog_57_method_4_code (5 : Nat) (Option.some Jvm.ClassFile.FieldType.int)) ∈ lw_all := lw_g (lw_at lw_m7 59 rfl) rfl
theorem q1563 : (Jvm.Cond.classLink "jdk/internal/util/ArraysSupport" (60 : Nat) "[B") ∈ lw_all := lw_g (lw_at lw_m7 60 rfl) rfl
theorem q1564 : (Jvm.Cond.methodLink "jdk/internal/util/ArraysSupport" (62 : Nat) ({ cls := "jdk/internal/util/ArraysSupport", name := "signedHashCode", desc := "(I[BII)I" } : Jvm.MethodName)) ∈ lw_all := lw_g (lw_at lw_m7 61 rfl) rfl
theorem q1565 : (Jvm.Cond.static ({ cls := "jdk/internal/util/ArraysSupport", name := "signedHashCode", desc := "(I[BII)I" } : Jvm.MethodName)) ∈ lw_all := lw_g (lw_at lw_m7 62 rfl) rfl
theorem q1566 : (Jvm.Cond.code ({ cls := "jdk/internal/util/ArraysSupport", name := "signedHashCode", desc := "(I[BII)I" } : Jvm.MethodName) prog_57_method_5_code (6 : Nat) (Option.some Jvm.ClassFile.FieldType.int)) ∈ lw_all := lw_g (lw_at lw_m7 63 rfl) rfl
theorem q1567 : (Jvm.Cond.methodLink "jdk/internal/util/ArraysSupport" (66 : Nat) ({ cls := "jdk/internal/util/ArraysSupport", name := "utf16hashCode", desc := "(I[BII)I" } : Jvm.MethodName)) ∈ lw_all := lw_g (lw_at lw_m7 64 rfl) rfl
theorem q1568 : (Jvm.Cond.static ({ cls := "jdk/internal/util/ArraysSupport", name := "utf16hashCode", desc := "(I[BII)I" } : Jvm.MethodName)) ∈ lw_all := lw_g (lw_at lw_m7 65 rfl) rfl
theorem q1569 : (Jvm.Cond.code ({ cls := "jdk/internal/util/ArraysSupport", name := "utf16hashCode", desc := "(I[BII)I" } : Jvm.MethodName) prog_57_method_10_code (6 : Nat) (Option.some Jvm.ClassFile.FieldType.int)) ∈ lw_all := lw_g (lw_at lw_m7 66 rfl) rfl
theorem q1570 : (Jvm.Cond.fieldLink "jdk/internal/util/ArraysSupport" (106 : Nat) "jdk/internal/util/ArraysSupport" "JLA" "Ljdk/internal/access/JavaLangAccess;") ∈ lw_all := lw_g (lw_at lw_m7 67 rfl) rfl
theorem q1571 : (Jvm.Cond.laysStatic "jdk/internal/util/ArraysSupport" "JLA" "Ljdk/internal/access/JavaLangAccess;") ∈ lw_tbl := lw_at lw_m7 68 rfl
theorem q1572 : (Jvm.Cond.interfaceEntry "jdk/internal/util/ArraysSupport" (110 : Nat)) ∈ lw_tbl := lw_at lw_m7 69 rfl
theorem q1573 : (Jvm.Cond.methodLink "jdk/internal/util/ArraysSupport" (110 : Nat) ({ cls := "jdk/internal/access/JavaLangAccess", name := "getUTF16Char", desc := "([BI)C" } : Jvm.MethodName)) ∈ lw_all := lw_g (lw_at lw_m7 70 rfl) rfl
theorem q1583 : (Jvm.Cond.classLink "jdk/internal/util/ArraysSupport" (69 : Nat) "[C") ∈ lw_all := lw_g (lw_at lw_m7 80 rfl) rfl
theorem q1584 : (Jvm.Cond.methodLink "jdk/internal/util/ArraysSupport" (71 : Nat) ({ cls := "jdk/internal/util/ArraysSupport", name := "hashCode", desc := "(I[CII)I" } : Jvm.MethodName)) ∈ lw_all := lw_g (lw_at lw_m7 81 rfl) rfl
theorem q1585 : (Jvm.Cond.static ({ cls := "jdk/internal/util/ArraysSupport", name := "hashCode", desc := "(I[CII)I" } : Jvm.MethodName)) ∈ lw_all := lw_g (lw_at lw_m7 82 rfl) rfl
theorem q1586 : (Jvm.Cond.code ({ cls := "jdk/internal/util/ArraysSupport", name := "hashCode", desc := "(I[CII)I" } : Jvm.MethodName) prog_57_method_7_code (6 : Nat) (Option.some Jvm.ClassFile.FieldType.int)) ∈ lw_all := lw_g (lw_at lw_m7 83 rfl) rfl
theorem q1587 : (Jvm.Cond.methodLink "jdk/internal/util/ArraysSupport" (75 : Nat) ({ cls := "jdk/internal/util/ArraysSupport", name := "hashCode", desc := "(I[BII)I" } : Jvm.MethodName)) ∈ lw_all := lw_g (lw_at lw_m7 84 rfl) rfl
theorem q1588 : (Jvm.Cond.static ({ cls := "jdk/internal/util/ArraysSupport", name := "hashCode", desc := "(I[BII)I" } : Jvm.MethodName)) ∈ lw_all := lw_g (lw_at lw_m7 85 rfl) rfl
theorem q1589 : (Jvm.Cond.code ({ cls := "jdk/internal/util/ArraysSupport", name := "hashCode", desc := "(I[BII)I" } : Jvm.MethodName) prog_57_method_6_code (6 : Nat) (Option.some Jvm.ClassFile.FieldType.int)) ∈ lw_all := lw_g (lw_at lw_m7 86 rfl) rfl
theorem q1590 : (Jvm.Cond.classLink "jdk/internal/util/ArraysSupport" (77 : Nat) "[S") ∈ lw_all := lw_g (lw_at lw_m7 87 rfl) rfl
theorem q1591 : (Jvm.Cond.methodLink "jdk/internal/util/ArraysSupport" (79 : Nat) ({ cls := "jdk/internal/util/ArraysSupport", name := "hashCode", desc := "(I[SII)I" } : Jvm.MethodName)) ∈ lw_all := lw_g (lw_at lw_m7 88 rfl) rfl
theorem q1592 : (Jvm.Cond.static ({ cls := "jdk/internal/util/ArraysSupport", name := "hashCode", desc := "(I[SII)I" } : Jvm.MethodName)) ∈ lw_all := lw_g (lw_at lw_m7 89 rfl) rfl
theorem q1593 : (Jvm.Cond.code ({ cls := "jdk/internal/util/ArraysSupport", name := "hashCode", desc := "(I[SII)I" } : Jvm.MethodName) prog_57_method_8_code (6 : Nat) (Option.some Jvm.ClassFile.FieldType.int)) ∈ lw_all := lw_g (lw_at lw_m7 90 rfl) rfl
theorem q1594 : (Jvm.Cond.classLink "jdk/internal/util/ArraysSupport" (82 : Nat) "[I") ∈ lw_all := lw_g (lw_at lw_m7 91 rfl) rfl
theorem q1595 : (Jvm.Cond.methodLink "jdk/internal/util/ArraysSupport" (84 : Nat) ({ cls := "jdk/internal/util/ArraysSupport", name := "hashCode", desc := "(I[III)I" } : Jvm.MethodName)) ∈ lw_all := lw_g (lw_at lw_m7 92 rfl) rfl
theorem q1596 : (Jvm.Cond.static ({ cls := "jdk/internal/util/ArraysSupport", name := "hashCode", desc := "(I[III)I" } : Jvm.MethodName)) ∈ lw_all := lw_g (lw_at lw_m7 93 rfl) rfl
theorem q1597 : (Jvm.Cond.code ({ cls := "jdk/internal/util/ArraysSupport", name := "hashCode", desc := "(I[III)I" } : Jvm.MethodName) prog_57_method_9_code (6 : Nat) (Option.some Jvm.ClassFile.FieldType.int)) ∈ lw_all := lw_g (lw_at lw_m7 94 rfl) rfl

/-! java/util/Arrays -/
set_option maxRecDepth 100000
def RJ5 : String := "java/util/Arrays"
abbrev cJ5_copyOf : ByteArray := prog_44_method_119_code
def yJ5_copyOf : MethodName := ⟨RJ5, "copyOf", "([Ljava/lang/Object;I)[Ljava/lang/Object;"⟩
def dkwJ5_copyOf_0 : List UInt8 := [42, 27, 42, 182, 0, 86, 184, 1, 44, 176]
abbrev dktJ5_copyOf_0 : List UInt8 := dkwJ5_copyOf_0 ++ []
theorem dksJ5_copyOf_0 : cJ5_copyOf.data.toList.drop 0 = dktJ5_copyOf_0 := by decide +kernel
theorem dJ5_copyOf_0 : decode cJ5_copyOf 0 = .ok (.aload_n 0, 1) := dk_42 (dk_at dksJ5_copyOf_0 0 rfl rfl)
theorem dJ5_copyOf_1 : decode cJ5_copyOf 1 = .ok (.iload_n 1, 1) := dk_27 (dk_at dksJ5_copyOf_0 1 rfl rfl)
theorem dJ5_copyOf_2 : decode cJ5_copyOf 2 = .ok (.aload_n 0, 1) := dk_42 (dk_at dksJ5_copyOf_0 2 rfl rfl)
theorem dJ5_copyOf_3 : decode cJ5_copyOf 3 = .ok (.invokevirtual 86, 3) := dk_182 0 86 (dk_at dksJ5_copyOf_0 3 rfl rfl)
theorem dJ5_copyOf_6 : decode cJ5_copyOf 6 = .ok (.invokestatic 300, 3) := dk_184 1 44 (dk_at dksJ5_copyOf_0 6 rfl rfl)
theorem dJ5_copyOf_9 : decode cJ5_copyOf 9 = .ok (.areturn, 1) := dk_176 (dk_at dksJ5_copyOf_0 9 rfl rfl)
abbrev cJ5_copyOf_2 : ByteArray := prog_44_method_120_code
def yJ5_copyOf_2 : MethodName := ⟨RJ5, "copyOf", "([Ljava/lang/Object;ILjava/lang/Class;)[Ljava/lang/Object;"⟩
def dkwJ5_copyOf_2_1 : List UInt8 := [78, 42, 3, 45, 3, 42, 190, 27, 184, 1, 48, 184, 0, 150, 45, 176]
abbrev dktJ5_copyOf_2_1 : List UInt8 := dkwJ5_copyOf_2_1 ++ []
def dkwJ5_copyOf_2_0 : List UInt8 := [44, 18, 110, 166, 0, 10, 27, 189, 0, 2, 167, 0, 14, 44, 182, 0, 90, 27, 184, 0, 95, 192, 0, 110]
abbrev dktJ5_copyOf_2_0 : List UInt8 := dkwJ5_copyOf_2_0 ++ dktJ5_copyOf_2_1
theorem dksJ5_copyOf_2_0 : cJ5_copyOf_2.data.toList.drop 0 = dktJ5_copyOf_2_0 := by decide +kernel
theorem dksJ5_copyOf_2_1 : cJ5_copyOf_2.data.toList.drop 24 = dktJ5_copyOf_2_1 := dk_seg dksJ5_copyOf_2_0 24 rfl rfl
theorem dJ5_copyOf_2_0 : decode cJ5_copyOf_2 0 = .ok (.aload_n 2, 1) := dk_44 (dk_at dksJ5_copyOf_2_0 0 rfl rfl)
theorem dJ5_copyOf_2_1 : decode cJ5_copyOf_2 1 = .ok (.ldc 110, 2) := dk_18 110 (dk_at dksJ5_copyOf_2_0 1 rfl rfl)
theorem dJ5_copyOf_2_3 : decode cJ5_copyOf_2 3 = .ok (.if_acmp .ne 10, 3) := dk_166 0 10 (dk_at dksJ5_copyOf_2_0 3 rfl rfl)
theorem dJ5_copyOf_2_6 : decode cJ5_copyOf_2 6 = .ok (.iload_n 1, 1) := dk_27 (dk_at dksJ5_copyOf_2_0 6 rfl rfl)
theorem dJ5_copyOf_2_7 : decode cJ5_copyOf_2 7 = .ok (.anewarray 2, 3) := dk_189 0 2 (dk_at dksJ5_copyOf_2_0 7 rfl rfl)
theorem dJ5_copyOf_2_10 : decode cJ5_copyOf_2 10 = .ok (.goto 14, 3) := dk_167 0 14 (dk_at dksJ5_copyOf_2_0 10 rfl rfl)
theorem dJ5_copyOf_2_13 : decode cJ5_copyOf_2 13 = .ok (.aload_n 2, 1) := dk_44 (dk_at dksJ5_copyOf_2_0 13 rfl rfl)
theorem dJ5_copyOf_2_14 : decode cJ5_copyOf_2 14 = .ok (.invokevirtual 90, 3) := dk_182 0 90 (dk_at dksJ5_copyOf_2_0 14 rfl rfl)
theorem dJ5_copyOf_2_17 : decode cJ5_copyOf_2 17 = .ok (.iload_n 1, 1) := dk_27 (dk_at dksJ5_copyOf_2_0 17 rfl rfl)
theorem dJ5_copyOf_2_18 : decode cJ5_copyOf_2 18 = .ok (.invokestatic 95, 3) := dk_184 0 95 (dk_at dksJ5_copyOf_2_0 18 rfl rfl)
theorem dJ5_copyOf_2_21 : decode cJ5_copyOf_2 21 = .ok (.checkcast 110, 3) := dk_192 0 110 (dk_at dksJ5_copyOf_2_0 21 rfl rfl)
theorem dJ5_copyOf_2_24 : decode cJ5_copyOf_2 24 = .ok (.astore_n 3, 1) := dk_78 (dk_at dksJ5_copyOf_2_1 0 rfl rfl)
theorem dJ5_copyOf_2_25 : decode cJ5_copyOf_2 25 = .ok (.aload_n 0, 1) := dk_42 (dk_at dksJ5_copyOf_2_1 1 rfl rfl)
theorem dJ5_copyOf_2_26 : decode cJ5_copyOf_2 26 = .ok (.iconst 0, 1) := dk_3 (dk_at dksJ5_copyOf_2_1 2 rfl rfl)
theorem dJ5_copyOf_2_27 : decode cJ5_copyOf_2 27 = .ok (.aload_n 3, 1) := dk_45 (dk_at dksJ5_copyOf_2_1 3 rfl rfl)
theorem dJ5_copyOf_2_28 : decode cJ5_copyOf_2 28 = .ok (.iconst 0, 1) := dk_3 (dk_at dksJ5_copyOf_2_1 4 rfl rfl)
theorem dJ5_copyOf_2_29 : decode cJ5_copyOf_2 29 = .ok (.aload_n 0, 1) := dk_42 (dk_at dksJ5_copyOf_2_1 5 rfl rfl)
theorem dJ5_copyOf_2_30 : decode cJ5_copyOf_2 30 = .ok (.arraylength, 1) := dk_190 (dk_at dksJ5_copyOf_2_1 6 rfl rfl)
theorem dJ5_copyOf_2_31 : decode cJ5_copyOf_2 31 = .ok (.iload_n 1, 1) := dk_27 (dk_at dksJ5_copyOf_2_1 7 rfl rfl)
theorem dJ5_copyOf_2_32 : decode cJ5_copyOf_2 32 = .ok (.invokestatic 304, 3) := dk_184 1 48 (dk_at dksJ5_copyOf_2_1 8 rfl rfl)
theorem dJ5_copyOf_2_35 : decode cJ5_copyOf_2 35 = .ok (.invokestatic 150, 3) := dk_184 0 150 (dk_at dksJ5_copyOf_2_1 11 rfl rfl)
theorem dJ5_copyOf_2_38 : decode cJ5_copyOf_2 38 = .ok (.aload_n 3, 1) := dk_45 (dk_at dksJ5_copyOf_2_1 14 rfl rfl)
theorem dJ5_copyOf_2_39 : decode cJ5_copyOf_2 39 = .ok (.areturn, 1) := dk_176 (dk_at dksJ5_copyOf_2_1 15 rfl rfl)
abbrev cJ5_copyOf_3 : ByteArray := prog_44_method_121_code
def yJ5_copyOf_3 : MethodName := ⟨RJ5, "copyOf", "([BI)[B"⟩
def dkwJ5_copyOf_3_1 : List UInt8 := [27, 184, 1, 48, 184, 0, 150, 44, 176]
abbrev dktJ5_copyOf_3_1 : List UInt8 := dkwJ5_copyOf_3_1 ++ []
def dkwJ5_copyOf_3_0 : List UInt8 := [27, 42, 190, 160, 0, 11, 42, 182, 1, 54, 192, 1, 55, 176, 27, 188, 8, 77, 42, 3, 44, 3, 42, 190]
abbrev dktJ5_copyOf_3_0 : List UInt8 := dkwJ5_copyOf_3_0 ++ dktJ5_copyOf_3_1
theorem dksJ5_copyOf_3_0 : cJ5_copyOf_3.data.toList.drop 0 = dktJ5_copyOf_3_0 := by decide +kernel
theorem dksJ5_copyOf_3_1 : cJ5_copyOf_3.data.toList.drop 24 = dktJ5_copyOf_3_1 := dk_seg dksJ5_copyOf_3_0 24 rfl rfl
theorem dJ5_copyOf_3_0 : decode cJ5_copyOf_3 0 = .ok (.iload_n 1, 1) := dk_27 (dk_at dksJ5_copyOf_3_0 0 rfl rfl)
theorem dJ5_copyOf_3_1 : decode cJ5_copyOf_3 1 = .ok (.aload_n 0, 1) := dk_42 (dk_at dksJ5_copyOf_3_0 1 rfl rfl)
theorem dJ5_copyOf_3_2 : decode cJ5_copyOf_3 2 = .ok (.arraylength, 1) := dk_190 (dk_at dksJ5_copyOf_3_0 2 rfl rfl)
theorem dJ5_copyOf_3_3 : decode cJ5_copyOf_3 3 = .ok (.if_icmp .ne 11, 3) := dk_160 0 11 (dk_at dksJ5_copyOf_3_0 3 rfl rfl)
theorem dJ5_copyOf_3_6 : decode cJ5_copyOf_3 6 = .ok (.aload_n 0, 1) := dk_42 (dk_at dksJ5_copyOf_3_0 6 rfl rfl)
theorem dJ5_copyOf_3_7 : decode cJ5_copyOf_3 7 = .ok (.invokevirtual 310, 3) := dk_182 1 54 (dk_at dksJ5_copyOf_3_0 7 rfl rfl)
theorem dJ5_copyOf_3_10 : decode cJ5_copyOf_3 10 = .ok (.checkcast 311, 3) := dk_192 1 55 (dk_at dksJ5_copyOf_3_0 10 rfl rfl)
theorem dJ5_copyOf_3_13 : decode cJ5_copyOf_3 13 = .ok (.areturn, 1) := dk_176 (dk_at dksJ5_copyOf_3_0 13 rfl rfl)
theorem dJ5_copyOf_3_14 : decode cJ5_copyOf_3 14 = .ok (.iload_n 1, 1) := dk_27 (dk_at dksJ5_copyOf_3_0 14 rfl rfl)
theorem dJ5_copyOf_3_15 : decode cJ5_copyOf_3 15 = .ok (.newarray .byte, 2) := dk_188_8 (dk_at dksJ5_copyOf_3_0 15 rfl rfl)
theorem dJ5_copyOf_3_17 : decode cJ5_copyOf_3 17 = .ok (.astore_n 2, 1) := dk_77 (dk_at dksJ5_copyOf_3_0 17 rfl rfl)
theorem dJ5_copyOf_3_18 : decode cJ5_copyOf_3 18 = .ok (.aload_n 0, 1) := dk_42 (dk_at dksJ5_copyOf_3_0 18 rfl rfl)
theorem dJ5_copyOf_3_19 : decode cJ5_copyOf_3 19 = .ok (.iconst 0, 1) := dk_3 (dk_at dksJ5_copyOf_3_0 19 rfl rfl)
theorem dJ5_copyOf_3_20 : decode cJ5_copyOf_3 20 = .ok (.aload_n 2, 1) := dk_44 (dk_at dksJ5_copyOf_3_0 20 rfl rfl)
theorem dJ5_copyOf_3_21 : decode cJ5_copyOf_3 21 = .ok (.iconst 0, 1) := dk_3 (dk_at dksJ5_copyOf_3_0 21 rfl rfl)
theorem dJ5_copyOf_3_22 : decode cJ5_copyOf_3 22 = .ok (.aload_n 0, 1) := dk_42 (dk_at dksJ5_copyOf_3_0 22 rfl rfl)
theorem dJ5_copyOf_3_23 : decode cJ5_copyOf_3 23 = .ok (.arraylength, 1) := dk_190 (dk_at dksJ5_copyOf_3_0 23 rfl rfl)
theorem dJ5_copyOf_3_24 : decode cJ5_copyOf_3 24 = .ok (.iload_n 1, 1) := dk_27 (dk_at dksJ5_copyOf_3_1 0 rfl rfl)
theorem dJ5_copyOf_3_25 : decode cJ5_copyOf_3 25 = .ok (.invokestatic 304, 3) := dk_184 1 48 (dk_at dksJ5_copyOf_3_1 1 rfl rfl)
theorem dJ5_copyOf_3_28 : decode cJ5_copyOf_3 28 = .ok (.invokestatic 150, 3) := dk_184 0 150 (dk_at dksJ5_copyOf_3_1 4 rfl rfl)
theorem dJ5_copyOf_3_31 : decode cJ5_copyOf_3 31 = .ok (.aload_n 2, 1) := dk_44 (dk_at dksJ5_copyOf_3_1 7 rfl rfl)
theorem dJ5_copyOf_3_32 : decode cJ5_copyOf_3 32 = .ok (.areturn, 1) := dk_176 (dk_at dksJ5_copyOf_3_1 8 rfl rfl)
abbrev cJ5_copyOfRange : ByteArray := prog_44_method_132_code
def yJ5_copyOfRange : MethodName := ⟨RJ5, "copyOfRange", "([BII)[B"⟩
def dkwJ5_copyOfRange_1 : List UInt8 := [176]
abbrev dktJ5_copyOfRange_1 : List UInt8 := dkwJ5_copyOfRange_1 ++ []
def dkwJ5_copyOfRange_0 : List UInt8 := [27, 154, 0, 9, 28, 42, 190, 159, 0, 10, 42, 27, 28, 184, 1, 83, 176, 42, 182, 1, 54, 192, 1, 55]
abbrev dktJ5_copyOfRange_0 : List UInt8 := dkwJ5_copyOfRange_0 ++ dktJ5_copyOfRange_1
theorem dksJ5_copyOfRange_0 : cJ5_copyOfRange.data.toList.drop 0 = dktJ5_copyOfRange_0 := by decide +kernel
theorem dksJ5_copyOfRange_1 : cJ5_copyOfRange.data.toList.drop 24 = dktJ5_copyOfRange_1 := dk_seg dksJ5_copyOfRange_0 24 rfl rfl
theorem dJ5_copyOfRange_0 : decode cJ5_copyOfRange 0 = .ok (.iload_n 1, 1) := dk_27 (dk_at dksJ5_copyOfRange_0 0 rfl rfl)
theorem dJ5_copyOfRange_1 : decode cJ5_copyOfRange 1 = .ok (.ifCond .ne 9, 3) := dk_154 0 9 (dk_at dksJ5_copyOfRange_0 1 rfl rfl)
theorem dJ5_copyOfRange_4 : decode cJ5_copyOfRange 4 = .ok (.iload_n 2, 1) := dk_28 (dk_at dksJ5_copyOfRange_0 4 rfl rfl)
theorem dJ5_copyOfRange_5 : decode cJ5_copyOfRange 5 = .ok (.aload_n 0, 1) := dk_42 (dk_at dksJ5_copyOfRange_0 5 rfl rfl)
theorem dJ5_copyOfRange_6 : decode cJ5_copyOfRange 6 = .ok (.arraylength, 1) := dk_190 (dk_at dksJ5_copyOfRange_0 6 rfl rfl)
theorem dJ5_copyOfRange_7 : decode cJ5_copyOfRange 7 = .ok (.if_icmp .eq 10, 3) := dk_159 0 10 (dk_at dksJ5_copyOfRange_0 7 rfl rfl)
theorem dJ5_copyOfRange_10 : decode cJ5_copyOfRange 10 = .ok (.aload_n 0, 1) := dk_42 (dk_at dksJ5_copyOfRange_0 10 rfl rfl)
theorem dJ5_copyOfRange_11 : decode cJ5_copyOfRange 11 = .ok (.iload_n 1, 1) := dk_27 (dk_at dksJ5_copyOfRange_0 11 rfl rfl)
theorem dJ5_copyOfRange_12 : decode cJ5_copyOfRange 12 = .ok (.iload_n 2, 1) := dk_28 (dk_at dksJ5_copyOfRange_0 12 rfl rfl)
theorem dJ5_copyOfRange_13 : decode cJ5_copyOfRange 13 = .ok (.invokestatic 339, 3) := dk_184 1 83 (dk_at dksJ5_copyOfRange_0 13 rfl rfl)
theorem dJ5_copyOfRange_16 : decode cJ5_copyOfRange 16 = .ok (.areturn, 1) := dk_176 (dk_at dksJ5_copyOfRange_0 16 rfl rfl)
theorem dJ5_copyOfRange_17 : decode cJ5_copyOfRange 17 = .ok (.aload_n 0, 1) := dk_42 (dk_at dksJ5_copyOfRange_0 17 rfl rfl)
theorem dJ5_copyOfRange_18 : decode cJ5_copyOfRange 18 = .ok (.invokevirtual 310, 3) := dk_182 1 54 (dk_at dksJ5_copyOfRange_0 18 rfl rfl)
theorem dJ5_copyOfRange_21 : decode cJ5_copyOfRange 21 = .ok (.checkcast 311, 3) := dk_192 1 55 (dk_at dksJ5_copyOfRange_0 21 rfl rfl)
theorem dJ5_copyOfRange_24 : decode cJ5_copyOfRange 24 = .ok (.areturn, 1) := dk_176 (dk_at dksJ5_copyOfRange_1 0 rfl rfl)
abbrev cJ5_copyOfRangeByte : ByteArray := prog_44_method_133_code
def yJ5_copyOfRangeByte : MethodName := ⟨RJ5, "copyOfRangeByte", "([BII)[B"⟩
def dkwJ5_copyOfRangeByte_1 : List UInt8 := [184, 1, 48, 184, 0, 150, 25, 4, 176]
abbrev dktJ5_copyOfRangeByte_1 : List UInt8 := dkwJ5_copyOfRangeByte_1 ++ []
def dkwJ5_copyOfRangeByte_0 : List UInt8 := [27, 28, 184, 1, 87, 28, 27, 100, 62, 29, 188, 8, 58, 4, 42, 27, 25, 4, 3, 42, 190, 27, 100, 29]
abbrev dktJ5_copyOfRangeByte_0 : List UInt8 := dkwJ5_copyOfRangeByte_0 ++ dktJ5_copyOfRangeByte_1
theorem dksJ5_copyOfRangeByte_0 : cJ5_copyOfRangeByte.data.toList.drop 0 = dktJ5_copyOfRangeByte_0 := by decide +kernel
theorem dksJ5_copyOfRangeByte_1 : cJ5_copyOfRangeByte.data.toList.drop 24 = dktJ5_copyOfRangeByte_1 := dk_seg dksJ5_copyOfRangeByte_0 24 rfl rfl
theorem dJ5_copyOfRangeByte_0 : decode cJ5_copyOfRangeByte 0 = .ok (.iload_n 1, 1) := dk_27 (dk_at dksJ5_copyOfRangeByte_0 0 rfl rfl)
theorem dJ5_copyOfRangeByte_1 : decode cJ5_copyOfRangeByte 1 = .ok (.iload_n 2, 1) := dk_28 (dk_at dksJ5_copyOfRangeByte_0 1 rfl rfl)
theorem dJ5_copyOfRangeByte_2 : decode cJ5_copyOfRangeByte 2 = .ok (.invokestatic 343, 3) := dk_184 1 87 (dk_at dksJ5_copyOfRangeByte_0 2 rfl rfl)
theorem dJ5_copyOfRangeByte_5 : decode cJ5_copyOfRangeByte 5 = .ok (.iload_n 2, 1) := dk_28 (dk_at dksJ5_copyOfRangeByte_0 5 rfl rfl)
theorem dJ5_copyOfRangeByte_6 : decode cJ5_copyOfRangeByte 6 = .ok (.iload_n 1, 1) := dk_27 (dk_at dksJ5_copyOfRangeByte_0 6 rfl rfl)
theorem dJ5_copyOfRangeByte_7 : decode cJ5_copyOfRangeByte 7 = .ok (.isub, 1) := dk_100 (dk_at dksJ5_copyOfRangeByte_0 7 rfl rfl)
theorem dJ5_copyOfRangeByte_8 : decode cJ5_copyOfRangeByte 8 = .ok (.istore_n 3, 1) := dk_62 (dk_at dksJ5_copyOfRangeByte_0 8 rfl rfl)
theorem dJ5_copyOfRangeByte_9 : decode cJ5_copyOfRangeByte 9 = .ok (.iload_n 3, 1) := dk_29 (dk_at dksJ5_copyOfRangeByte_0 9 rfl rfl)
theorem dJ5_copyOfRangeByte_10 : decode cJ5_copyOfRangeByte 10 = .ok (.newarray .byte, 2) := dk_188_8 (dk_at dksJ5_copyOfRangeByte_0 10 rfl rfl)
theorem dJ5_copyOfRangeByte_12 : decode cJ5_copyOfRangeByte 12 = .ok (.astore 4, 2) := dk_58 4 (dk_at dksJ5_copyOfRangeByte_0 12 rfl rfl)
theorem dJ5_copyOfRangeByte_14 : decode cJ5_copyOfRangeByte 14 = .ok (.aload_n 0, 1) := dk_42 (dk_at dksJ5_copyOfRangeByte_0 14 rfl rfl)
theorem dJ5_copyOfRangeByte_15 : decode cJ5_copyOfRangeByte 15 = .ok (.iload_n 1, 1) := dk_27 (dk_at dksJ5_copyOfRangeByte_0 15 rfl rfl)
theorem dJ5_copyOfRangeByte_16 : decode cJ5_copyOfRangeByte 16 = .ok (.aload 4, 2) := dk_25 4 (dk_at dksJ5_copyOfRangeByte_0 16 rfl rfl)
theorem dJ5_copyOfRangeByte_18 : decode cJ5_copyOfRangeByte 18 = .ok (.iconst 0, 1) := dk_3 (dk_at dksJ5_copyOfRangeByte_0 18 rfl rfl)
theorem dJ5_copyOfRangeByte_19 : decode cJ5_copyOfRangeByte 19 = .ok (.aload_n 0, 1) := dk_42 (dk_at dksJ5_copyOfRangeByte_0 19 rfl rfl)
theorem dJ5_copyOfRangeByte_20 : decode cJ5_copyOfRangeByte 20 = .ok (.arraylength, 1) := dk_190 (dk_at dksJ5_copyOfRangeByte_0 20 rfl rfl)
theorem dJ5_copyOfRangeByte_21 : decode cJ5_copyOfRangeByte 21 = .ok (.iload_n 1, 1) := dk_27 (dk_at dksJ5_copyOfRangeByte_0 21 rfl rfl)
theorem dJ5_copyOfRangeByte_22 : decode cJ5_copyOfRangeByte 22 = .ok (.isub, 1) := dk_100 (dk_at dksJ5_copyOfRangeByte_0 22 rfl rfl)
theorem dJ5_copyOfRangeByte_23 : decode cJ5_copyOfRangeByte 23 = .ok (.iload_n 3, 1) := dk_29 (dk_at dksJ5_copyOfRangeByte_0 23 rfl rfl)
theorem dJ5_copyOfRangeByte_24 : decode cJ5_copyOfRangeByte 24 = .ok (.invokestatic 304, 3) := dk_184 1 48 (dk_at dksJ5_copyOfRangeByte_1 0 rfl rfl)
theorem dJ5_copyOfRangeByte_27 : decode cJ5_copyOfRangeByte 27 = .ok (.invokestatic 150, 3) := dk_184 0 150 (dk_at dksJ5_copyOfRangeByte_1 3 rfl rfl)
theorem dJ5_copyOfRangeByte_30 : decode cJ5_copyOfRangeByte 30 = .ok (.aload 4, 2) := dk_25 4 (dk_at dksJ5_copyOfRangeByte_1 6 rfl rfl)
theorem dJ5_copyOfRangeByte_32 : decode cJ5_copyOfRangeByte 32 = .ok (.areturn, 1) := dk_176 (dk_at dksJ5_copyOfRangeByte_1 8 rfl rfl)
abbrev cJ5_checkLength : ByteArray := prog_44_method_131_code
def yJ5_checkLength : MethodName := ⟨RJ5, "checkLength", "(II)V"⟩
def dkwJ5_checkLength_1 : List UInt8 := [182, 0, 50, 27, 182, 0, 54, 182, 0, 61, 183, 0, 65, 191, 177]
abbrev dktJ5_checkLength_1 : List UInt8 := dkwJ5_checkLength_1 ++ []
def dkwJ5_checkLength_0 : List UInt8 := [27, 26, 162, 0, 35, 187, 0, 43, 89, 187, 0, 45, 89, 183, 0, 47, 26, 182, 0, 54, 19, 1, 81]
abbrev dktJ5_checkLength_0 : List UInt8 := dkwJ5_checkLength_0 ++ dktJ5_checkLength_1
theorem dksJ5_checkLength_0 : cJ5_checkLength.data.toList.drop 0 = dktJ5_checkLength_0 := by decide +kernel
theorem dksJ5_checkLength_1 : cJ5_checkLength.data.toList.drop 23 = dktJ5_checkLength_1 := dk_seg dksJ5_checkLength_0 23 rfl rfl
theorem dJ5_checkLength_0 : decode cJ5_checkLength 0 = .ok (.iload_n 1, 1) := dk_27 (dk_at dksJ5_checkLength_0 0 rfl rfl)
theorem dJ5_checkLength_1 : decode cJ5_checkLength 1 = .ok (.iload_n 0, 1) := dk_26 (dk_at dksJ5_checkLength_0 1 rfl rfl)
theorem dJ5_checkLength_2 : decode cJ5_checkLength 2 = .ok (.if_icmp .ge 35, 3) := dk_162 0 35 (dk_at dksJ5_checkLength_0 2 rfl rfl)
theorem dJ5_checkLength_5 : decode cJ5_checkLength 5 = .ok (.new 43, 3) := dk_187 0 43 (dk_at dksJ5_checkLength_0 5 rfl rfl)
theorem dJ5_checkLength_8 : decode cJ5_checkLength 8 = .ok (.dup, 1) := dk_89 (dk_at dksJ5_checkLength_0 8 rfl rfl)
theorem dJ5_checkLength_9 : decode cJ5_checkLength 9 = .ok (.new 45, 3) := dk_187 0 45 (dk_at dksJ5_checkLength_0 9 rfl rfl)
theorem dJ5_checkLength_12 : decode cJ5_checkLength 12 = .ok (.dup, 1) := dk_89 (dk_at dksJ5_checkLength_0 12 rfl rfl)
theorem dJ5_checkLength_13 : decode cJ5_checkLength 13 = .ok (.invokespecial 47, 3) := dk_183 0 47 (dk_at dksJ5_checkLength_0 13 rfl rfl)
theorem dJ5_checkLength_16 : decode cJ5_checkLength 16 = .ok (.iload_n 0, 1) := dk_26 (dk_at dksJ5_checkLength_0 16 rfl rfl)
theorem dJ5_checkLength_17 : decode cJ5_checkLength 17 = .ok (.invokevirtual 54, 3) := dk_182 0 54 (dk_at dksJ5_checkLength_0 17 rfl rfl)
theorem dJ5_checkLength_20 : decode cJ5_checkLength 20 = .ok (.ldc_w 337, 3) := dk_19 1 81 (dk_at dksJ5_checkLength_0 20 rfl rfl)
theorem dJ5_checkLength_23 : decode cJ5_checkLength 23 = .ok (.invokevirtual 50, 3) := dk_182 0 50 (dk_at dksJ5_checkLength_1 0 rfl rfl)
theorem dJ5_checkLength_26 : decode cJ5_checkLength 26 = .ok (.iload_n 1, 1) := dk_27 (dk_at dksJ5_checkLength_1 3 rfl rfl)
theorem dJ5_checkLength_27 : decode cJ5_checkLength 27 = .ok (.invokevirtual 54, 3) := dk_182 0 54 (dk_at dksJ5_checkLength_1 4 rfl rfl)
theorem dJ5_checkLength_30 : decode cJ5_checkLength 30 = .ok (.invokevirtual 61, 3) := dk_182 0 61 (dk_at dksJ5_checkLength_1 7 rfl rfl)
theorem dJ5_checkLength_33 : decode cJ5_checkLength 33 = .ok (.invokespecial 65, 3) := dk_183 0 65 (dk_at dksJ5_checkLength_1 10 rfl rfl)
theorem dJ5_checkLength_36 : decode cJ5_checkLength 36 = .ok (.athrow, 1) := dk_191 (dk_at dksJ5_checkLength_1 13 rfl rfl)
theorem dJ5_checkLength_37 : decode cJ5_checkLength 37 = .ok (.return_, 1) := dk_177 (dk_at dksJ5_checkLength_1 14 rfl rfl)
abbrev cJ5_fill : ByteArray := prog_44_method_110_code
def yJ5_fill : MethodName := ⟨RJ5, "fill", "([BIIB)V"⟩
def dkwJ5_fill_1 : List UInt8 := [167, 255, 242, 177]
abbrev dktJ5_fill_1 : List UInt8 := dkwJ5_fill_1 ++ []
def dkwJ5_fill_0 : List UInt8 := [42, 190, 27, 28, 184, 0, 13, 27, 54, 4, 21, 4, 28, 162, 0, 14, 42, 21, 4, 29, 84, 132, 4, 1]
abbrev dktJ5_fill_0 : List UInt8 := dkwJ5_fill_0 ++ dktJ5_fill_1
theorem dksJ5_fill_0 : cJ5_fill.data.toList.drop 0 = dktJ5_fill_0 := by decide +kernel
theorem dksJ5_fill_1 : cJ5_fill.data.toList.drop 24 = dktJ5_fill_1 := dk_seg dksJ5_fill_0 24 rfl rfl
theorem dJ5_fill_0 : decode cJ5_fill 0 = .ok (.aload_n 0, 1) := dk_42 (dk_at dksJ5_fill_0 0 rfl rfl)
theorem dJ5_fill_1 : decode cJ5_fill 1 = .ok (.arraylength, 1) := dk_190 (dk_at dksJ5_fill_0 1 rfl rfl)
theorem dJ5_fill_2 : decode cJ5_fill 2 = .ok (.iload_n 1, 1) := dk_27 (dk_at dksJ5_fill_0 2 rfl rfl)
theorem dJ5_fill_3 : decode cJ5_fill 3 = .ok (.iload_n 2, 1) := dk_28 (dk_at dksJ5_fill_0 3 rfl rfl)
theorem dJ5_fill_4 : decode cJ5_fill 4 = .ok (.invokestatic 13, 3) := dk_184 0 13 (dk_at dksJ5_fill_0 4 rfl rfl)
theorem dJ5_fill_7 : decode cJ5_fill 7 = .ok (.iload_n 1, 1) := dk_27 (dk_at dksJ5_fill_0 7 rfl rfl)
theorem dJ5_fill_8 : decode cJ5_fill 8 = .ok (.istore 4, 2) := dk_54 4 (dk_at dksJ5_fill_0 8 rfl rfl)
theorem dJ5_fill_10 : decode cJ5_fill 10 = .ok (.iload 4, 2) := dk_21 4 (dk_at dksJ5_fill_0 10 rfl rfl)
theorem dJ5_fill_12 : decode cJ5_fill 12 = .ok (.iload_n 2, 1) := dk_28 (dk_at dksJ5_fill_0 12 rfl rfl)
theorem dJ5_fill_13 : decode cJ5_fill 13 = .ok (.if_icmp .ge 14, 3) := dk_162 0 14 (dk_at dksJ5_fill_0 13 rfl rfl)
theorem dJ5_fill_16 : decode cJ5_fill 16 = .ok (.aload_n 0, 1) := dk_42 (dk_at dksJ5_fill_0 16 rfl rfl)
theorem dJ5_fill_17 : decode cJ5_fill 17 = .ok (.iload 4, 2) := dk_21 4 (dk_at dksJ5_fill_0 17 rfl rfl)
theorem dJ5_fill_19 : decode cJ5_fill 19 = .ok (.iload_n 3, 1) := dk_29 (dk_at dksJ5_fill_0 19 rfl rfl)
theorem dJ5_fill_20 : decode cJ5_fill 20 = .ok (.bastore, 1) := dk_84 (dk_at dksJ5_fill_0 20 rfl rfl)
theorem dJ5_fill_21 : decode cJ5_fill 21 = .ok (.iinc 4 1, 3) := dk_132 4 1 (dk_at dksJ5_fill_0 21 rfl rfl)
theorem dJ5_fill_24 : decode cJ5_fill 24 = .ok (.goto (-14), 3) := dk_167 255 242 (dk_at dksJ5_fill_1 0 rfl rfl)
theorem dJ5_fill_27 : decode cJ5_fill 27 = .ok (.return_, 1) := dk_177 (dk_at dksJ5_fill_1 3 rfl rfl)
abbrev cJ5_rangeCheck : ByteArray := prog_44_method_30_code
def yJ5_rangeCheck : MethodName := ⟨RJ5, "rangeCheck", "(III)V"⟩
def dkwJ5_rangeCheck_3 : List UInt8 := [183, 0, 70, 191, 177]
abbrev dktJ5_rangeCheck_3 : List UInt8 := dkwJ5_rangeCheck_3 ++ []
def dkwJ5_rangeCheck_2 : List UInt8 := [27, 156, 0, 12, 187, 0, 68, 89, 27, 183, 0, 70, 191, 28, 26, 164, 0, 12, 187, 0, 68, 89, 28]
abbrev dktJ5_rangeCheck_2 : List UInt8 := dkwJ5_rangeCheck_2 ++ dktJ5_rangeCheck_3
def dkwJ5_rangeCheck_1 : List UInt8 := [182, 0, 54, 18, 57, 182, 0, 50, 28, 182, 0, 54, 18, 59, 182, 0, 50, 182, 0, 61, 183, 0, 65, 191]
abbrev dktJ5_rangeCheck_1 : List UInt8 := dkwJ5_rangeCheck_1 ++ dktJ5_rangeCheck_2
def dkwJ5_rangeCheck_0 : List UInt8 := [27, 28, 164, 0, 44, 187, 0, 43, 89, 187, 0, 45, 89, 183, 0, 47, 18, 48, 182, 0, 50, 27]
abbrev dktJ5_rangeCheck_0 : List UInt8 := dkwJ5_rangeCheck_0 ++ dktJ5_rangeCheck_1
theorem dksJ5_rangeCheck_0 : cJ5_rangeCheck.data.toList.drop 0 = dktJ5_rangeCheck_0 := by decide +kernel
theorem dksJ5_rangeCheck_1 : cJ5_rangeCheck.data.toList.drop 22 = dktJ5_rangeCheck_1 := dk_seg dksJ5_rangeCheck_0 22 rfl rfl
theorem dksJ5_rangeCheck_2 : cJ5_rangeCheck.data.toList.drop 46 = dktJ5_rangeCheck_2 := dk_seg dksJ5_rangeCheck_1 24 rfl rfl
theorem dksJ5_rangeCheck_3 : cJ5_rangeCheck.data.toList.drop 69 = dktJ5_rangeCheck_3 := dk_seg dksJ5_rangeCheck_2 23 rfl rfl
theorem dJ5_rangeCheck_0 : decode cJ5_rangeCheck 0 = .ok (.iload_n 1, 1) := dk_27 (dk_at dksJ5_rangeCheck_0 0 rfl rfl)
theorem dJ5_rangeCheck_1 : decode cJ5_rangeCheck 1 = .ok (.iload_n 2, 1) := dk_28 (dk_at dksJ5_rangeCheck_0 1 rfl rfl)
theorem dJ5_rangeCheck_2 : decode cJ5_rangeCheck 2 = .ok (.if_icmp .le 44, 3) := dk_164 0 44 (dk_at dksJ5_rangeCheck_0 2 rfl rfl)
theorem dJ5_rangeCheck_5 : decode cJ5_rangeCheck 5 = .ok (.new 43, 3) := dk_187 0 43 (dk_at dksJ5_rangeCheck_0 5 rfl rfl)
theorem dJ5_rangeCheck_8 : decode cJ5_rangeCheck 8 = .ok (.dup, 1) := dk_89 (dk_at dksJ5_rangeCheck_0 8 rfl rfl)
theorem dJ5_rangeCheck_9 : decode cJ5_rangeCheck 9 = .ok (.new 45, 3) := dk_187 0 45 (dk_at dksJ5_rangeCheck_0 9 rfl rfl)
theorem dJ5_rangeCheck_12 : decode cJ5_rangeCheck 12 = .ok (.dup, 1) := dk_89 (dk_at dksJ5_rangeCheck_0 12 rfl rfl)
theorem dJ5_rangeCheck_13 : decode cJ5_rangeCheck 13 = .ok (.invokespecial 47, 3) := dk_183 0 47 (dk_at dksJ5_rangeCheck_0 13 rfl rfl)
theorem dJ5_rangeCheck_16 : decode cJ5_rangeCheck 16 = .ok (.ldc 48, 2) := dk_18 48 (dk_at dksJ5_rangeCheck_0 16 rfl rfl)
theorem dJ5_rangeCheck_18 : decode cJ5_rangeCheck 18 = .ok (.invokevirtual 50, 3) := dk_182 0 50 (dk_at dksJ5_rangeCheck_0 18 rfl rfl)
theorem dJ5_rangeCheck_21 : decode cJ5_rangeCheck 21 = .ok (.iload_n 1, 1) := dk_27 (dk_at dksJ5_rangeCheck_0 21 rfl rfl)
theorem dJ5_rangeCheck_22 : decode cJ5_rangeCheck 22 = .ok (.invokevirtual 54, 3) := dk_182 0 54 (dk_at dksJ5_rangeCheck_1 0 rfl rfl)
theorem dJ5_rangeCheck_25 : decode cJ5_rangeCheck 25 = .ok (.ldc 57, 2) := dk_18 57 (dk_at dksJ5_rangeCheck_1 3 rfl rfl)
theorem dJ5_rangeCheck_27 : decode cJ5_rangeCheck 27 = .ok (.invokevirtual 50, 3) := dk_182 0 50 (dk_at dksJ5_rangeCheck_1 5 rfl rfl)
theorem dJ5_rangeCheck_30 : decode cJ5_rangeCheck 30 = .ok (.iload_n 2, 1) := dk_28 (dk_at dksJ5_rangeCheck_1 8 rfl rfl)
theorem dJ5_rangeCheck_31 : decode cJ5_rangeCheck 31 = .ok (.invokevirtual 54, 3) := dk_182 0 54 (dk_at dksJ5_rangeCheck_1 9 rfl rfl)
theorem dJ5_rangeCheck_34 : decode cJ5_rangeCheck 34 = .ok (.ldc 59, 2) := dk_18 59 (dk_at dksJ5_rangeCheck_1 12 rfl rfl)
theorem dJ5_rangeCheck_36 : decode cJ5_rangeCheck 36 = .ok (.invokevirtual 50, 3) := dk_182 0 50 (dk_at dksJ5_rangeCheck_1 14 rfl rfl)
theorem dJ5_rangeCheck_39 : decode cJ5_rangeCheck 39 = .ok (.invokevirtual 61, 3) := dk_182 0 61 (dk_at dksJ5_rangeCheck_1 17 rfl rfl)
theorem dJ5_rangeCheck_42 : decode cJ5_rangeCheck 42 = .ok (.invokespecial 65, 3) := dk_183 0 65 (dk_at dksJ5_rangeCheck_1 20 rfl rfl)
theorem dJ5_rangeCheck_45 : decode cJ5_rangeCheck 45 = .ok (.athrow, 1) := dk_191 (dk_at dksJ5_rangeCheck_1 23 rfl rfl)
theorem dJ5_rangeCheck_46 : decode cJ5_rangeCheck 46 = .ok (.iload_n 1, 1) := dk_27 (dk_at dksJ5_rangeCheck_2 0 rfl rfl)
theorem dJ5_rangeCheck_47 : decode cJ5_rangeCheck 47 = .ok (.ifCond .ge 12, 3) := dk_156 0 12 (dk_at dksJ5_rangeCheck_2 1 rfl rfl)
theorem dJ5_rangeCheck_50 : decode cJ5_rangeCheck 50 = .ok (.new 68, 3) := dk_187 0 68 (dk_at dksJ5_rangeCheck_2 4 rfl rfl)
theorem dJ5_rangeCheck_53 : decode cJ5_rangeCheck 53 = .ok (.dup, 1) := dk_89 (dk_at dksJ5_rangeCheck_2 7 rfl rfl)
theorem dJ5_rangeCheck_54 : decode cJ5_rangeCheck 54 = .ok (.iload_n 1, 1) := dk_27 (dk_at dksJ5_rangeCheck_2 8 rfl rfl)
theorem dJ5_rangeCheck_55 : decode cJ5_rangeCheck 55 = .ok (.invokespecial 70, 3) := dk_183 0 70 (dk_at dksJ5_rangeCheck_2 9 rfl rfl)
theorem dJ5_rangeCheck_58 : decode cJ5_rangeCheck 58 = .ok (.athrow, 1) := dk_191 (dk_at dksJ5_rangeCheck_2 12 rfl rfl)
theorem dJ5_rangeCheck_59 : decode cJ5_rangeCheck 59 = .ok (.iload_n 2, 1) := dk_28 (dk_at dksJ5_rangeCheck_2 13 rfl rfl)
theorem dJ5_rangeCheck_60 : decode cJ5_rangeCheck 60 = .ok (.iload_n 0, 1) := dk_26 (dk_at dksJ5_rangeCheck_2 14 rfl rfl)
theorem dJ5_rangeCheck_61 : decode cJ5_rangeCheck 61 = .ok (.if_icmp .le 12, 3) := dk_164 0 12 (dk_at dksJ5_rangeCheck_2 15 rfl rfl)
theorem dJ5_rangeCheck_64 : decode cJ5_rangeCheck 64 = .ok (.new 68, 3) := dk_187 0 68 (dk_at dksJ5_rangeCheck_2 18 rfl rfl)
theorem dJ5_rangeCheck_67 : decode cJ5_rangeCheck 67 = .ok (.dup, 1) := dk_89 (dk_at dksJ5_rangeCheck_2 21 rfl rfl)
theorem dJ5_rangeCheck_68 : decode cJ5_rangeCheck 68 = .ok (.iload_n 2, 1) := dk_28 (dk_at dksJ5_rangeCheck_2 22 rfl rfl)
theorem dJ5_rangeCheck_69 : decode cJ5_rangeCheck 69 = .ok (.invokespecial 70, 3) := dk_183 0 70 (dk_at dksJ5_rangeCheck_3 0 rfl rfl)
theorem dJ5_rangeCheck_72 : decode cJ5_rangeCheck 72 = .ok (.athrow, 1) := dk_191 (dk_at dksJ5_rangeCheck_3 3 rfl rfl)
theorem dJ5_rangeCheck_73 : decode cJ5_rangeCheck 73 = .ok (.return_, 1) := dk_177 (dk_at dksJ5_rangeCheck_3 4 rfl rfl)
theorem q73 : (Jvm.Cond.initialized "java/util/Arrays") ∈ lw_all := lw_g (lw_at lw_m1 10 rfl) rfl
theorem q231 : (Jvm.Cond.static ({ cls := "java/util/Arrays", name := "copyOf", desc := "([Ljava/lang/Object;I)[Ljava/lang/Object;" } : Jvm.MethodName)) ∈ lw_all := lw_g (lw_at lw_m1 168 rfl) rfl
theorem q232 : (Jvm.Cond.code ({ cls := "java/util/Arrays", name := "copyOf", desc := "([Ljava/lang/Object;I)[Ljava/lang/Object;" } : Jvm.MethodName) prog_44_method_119_code (2 : Nat) (Option.some (Jvm.ClassFile.FieldType.array (Jvm.ClassFile.FieldType.object "java/lang/Object")))) ∈ lw_all := lw_g (lw_at lw_m1 169 rfl) rfl
theorem q233 : (Jvm.Cond.methodLink "java/util/Arrays" (86 : Nat) ({ cls := "java/lang/Object", name := "getClass", desc := "()Ljava/lang/Class;" } : Jvm.MethodName)) ∈ lw_all := lw_g (lw_at lw_m1 170 rfl) rfl
theorem q258 : (Jvm.Cond.methodLink "java/util/Arrays" (300 : Nat) ({ cls := "java/util/Arrays", name := "copyOf", desc := "([Ljava/lang/Object;ILjava/lang/Class;)[Ljava/lang/Object;" } : Jvm.MethodName)) ∈ lw_all := lw_g (lw_at lw_m1 195 rfl) rfl
theorem q259 : (Jvm.Cond.static ({ cls := "java/util/Arrays", name := "copyOf", desc := "([Ljava/lang/Object;ILjava/lang/Class;)[Ljava/lang/Object;" } : Jvm.MethodName)) ∈ lw_all := lw_g (lw_at lw_m1 196 rfl) rfl
theorem q260 : (Jvm.Cond.code ({ cls := "java/util/Arrays", name := "copyOf", desc := "([Ljava/lang/Object;ILjava/lang/Class;)[Ljava/lang/Object;" } : Jvm.MethodName) prog_44_method_120_code (4 : Nat) (Option.some (Jvm.ClassFile.FieldType.array (Jvm.ClassFile.FieldType.object "java/lang/Object")))) ∈ lw_all := lw_g (lw_at lw_m1 197 rfl) rfl
theorem q261 : (Jvm.Cond.classLink "java/util/Arrays" (110 : Nat) "[Ljava/lang/Object;") ∈ lw_all := lw_g (lw_at lw_m1 198 rfl) rfl
theorem q262 : (Jvm.Cond.classLink "java/util/Arrays" (2 : Nat) "java/lang/Object") ∈ lw_all := lw_g (lw_at lw_m1 199 rfl) rfl
theorem q263 : (Jvm.Cond.methodLink "java/util/Arrays" (304 : Nat) ({ cls := "java/lang/Math", name := "min", desc := "(II)I" } : Jvm.MethodName)) ∈ lw_all := lw_g (lw_at lw_m1 200 rfl) rfl
theorem q266 : (Jvm.Cond.methodLink "java/util/Arrays" (150 : Nat) ({ cls := "java/lang/System", name := "arraycopy", desc := "(Ljava/lang/Object;ILjava/lang/Object;II)V" } : Jvm.MethodName)) ∈ lw_all := lw_g (lw_at lw_m1 203 rfl) rfl
theorem q1112 : (Jvm.Cond.static ({ cls := "java/util/Arrays", name := "copyOf", desc := "([BI)[B" } : Jvm.MethodName)) ∈ lw_all := lw_g (lw_at lw_m5 89 rfl) rfl
theorem q1113 : (Jvm.Cond.code ({ cls := "java/util/Arrays", name := "copyOf", desc := "([BI)[B" } : Jvm.MethodName) prog_44_method_121_code (3 : Nat) (Option.some (Jvm.ClassFile.FieldType.array Jvm.ClassFile.FieldType.byte))) ∈ lw_all := lw_g (lw_at lw_m5 90 rfl) rfl
theorem q1114 : (Jvm.Cond.methodLink "java/util/Arrays" (310 : Nat) ({ cls := "[B", name := "clone", desc := "()Ljava/lang/Object;" } : Jvm.MethodName)) ∈ lw_all := lw_g (lw_at lw_m5 91 rfl) rfl
theorem q1120 : (Jvm.Cond.classLink "java/util/Arrays" (311 : Nat) "[B") ∈ lw_all := lw_g (lw_at lw_m5 97 rfl) rfl
theorem q1355 : (Jvm.Cond.static ({ cls := "java/util/Arrays", name := "copyOfRange", desc := "([BII)[B" } : Jvm.MethodName)) ∈ lw_all := lw_g (lw_at lw_m6 92 rfl) rfl
theorem q1356 : (Jvm.Cond.code ({ cls := "java/util/Arrays", name := "copyOfRange", desc := "([BII)[B" } : Jvm.MethodName) prog_44_method_132_code (3 : Nat) (Option.some (Jvm.ClassFile.FieldType.array Jvm.ClassFile.FieldType.byte))) ∈ lw_all := lw_g (lw_at lw_m6 93 rfl) rfl
theorem q1357 : (Jvm.Cond.methodLink "java/util/Arrays" (339 : Nat) ({ cls := "java/util/Arrays", name := "copyOfRangeByte", desc := "([BII)[B" } : Jvm.MethodName)) ∈ lw_all := lw_g (lw_at lw_m6 94 rfl) rfl
theorem q1358 : (Jvm.Cond.static ({ cls := "java/util/Arrays", name := "copyOfRangeByte", desc := "([BII)[B" } : Jvm.MethodName)) ∈ lw_all := lw_g (lw_at lw_m6 95 rfl) rfl
theorem q1359 : (Jvm.Cond.code ({ cls := "java/util/Arrays", name := "copyOfRangeByte", desc := "([BII)[B" } : Jvm.MethodName) prog_44_method_133_code (5 : Nat) (Option.some (Jvm.ClassFile.FieldType.array Jvm.ClassFile.FieldType.byte))) ∈ lw_all := lw_g (lw_at lw_m6 96 rfl) rfl
theorem q1360 : (Jvm.Cond.methodLink "java/util/Arrays" (343 : Nat) ({ cls := "java/util/Arrays", name := "checkLength", desc := "(II)V" } : Jvm.MethodName)) ∈ lw_all := lw_g (lw_at lw_m6 97 rfl) rfl
theorem q1361 : (Jvm.Cond.static ({ cls := "java/util/Arrays", name := "checkLength", desc := "(II)V" } : Jvm.MethodName)) ∈ lw_all := lw_g (lw_at lw_m6 98 rfl) rfl
theorem q1362 : (Jvm.Cond.code ({ cls := "java/util/Arrays", name := "checkLength", desc := "(II)V" } : Jvm.MethodName) prog_44_method_131_code (2 : Nat) (Option.none : Option Jvm.ClassFile.FieldType)) ∈ lw_all := lw_g (lw_at lw_m6 99 rfl) rfl
theorem q1658 : (Jvm.Cond.static ({ cls := "java/util/Arrays", name := "fill", desc := "([BIIB)V" } : Jvm.MethodName)) ∈ lw_all := lw_g (lw_at lw_m7 155 rfl) rfl
theorem q1659 : (Jvm.Cond.code ({ cls := "java/util/Arrays", name := "fill", desc := "([BIIB)V" } : Jvm.MethodName) prog_44_method_110_code (5 : Nat) (Option.none : Option Jvm.ClassFile.FieldType)) ∈ lw_all := lw_g (lw_at lw_m7 156 rfl) rfl
theorem q1660 : (Jvm.Cond.methodLink "java/util/Arrays" (13 : Nat) ({ cls := "java/util/Arrays", name := "rangeCheck", desc := "(III)V" } : Jvm.MethodName)) ∈ lw_all := lw_g (lw_at lw_m7 157 rfl) rfl
theorem q1661 : (Jvm.Cond.static ({ cls := "java/util/Arrays", name := "rangeCheck", desc := "(III)V" } : Jvm.MethodName)) ∈ lw_all := lw_g (lw_at lw_m7 158 rfl) rfl
theorem q1662 : (Jvm.Cond.code ({ cls := "java/util/Arrays", name := "rangeCheck", desc := "(III)V" } : Jvm.MethodName) prog_44_method_30_code (3 : Nat) (Option.none : Option Jvm.ClassFile.FieldType)) ∈ lw_all := lw_g (lw_at lw_m7 159 rfl) rfl

/-! java/lang/Long -/
set_option maxRecDepth 100000
def RJ19 : String := "java/lang/Long"
abbrev cJ19_numberOfLeadingZeros : ByteArray := prog_27_method_48_code
def yJ19_numberOfLeadingZeros : MethodName := ⟨RJ19, "numberOfLeadingZeros", "(J)I"⟩
def dkwJ19_numberOfLeadingZeros_1 : List UInt8 := [184, 1, 52, 172]
abbrev dktJ19_numberOfLeadingZeros_1 : List UInt8 := dkwJ19_numberOfLeadingZeros_1 ++ []
def dkwJ19_numberOfLeadingZeros_0 : List UInt8 := [30, 16, 32, 125, 136, 61, 28, 154, 0, 14, 16, 32, 30, 136, 184, 1, 52, 96, 167, 0, 7, 28]
abbrev dktJ19_numberOfLeadingZeros_0 : List UInt8 := dkwJ19_numberOfLeadingZeros_0 ++ dktJ19_numberOfLeadingZeros_1
theorem dksJ19_numberOfLeadingZeros_0 : cJ19_numberOfLeadingZeros.data.toList.drop 0 = dktJ19_numberOfLeadingZeros_0 := by decide +kernel
theorem dksJ19_numberOfLeadingZeros_1 : cJ19_numberOfLeadingZeros.data.toList.drop 22 = dktJ19_numberOfLeadingZeros_1 := dk_seg dksJ19_numberOfLeadingZeros_0 22 rfl rfl
theorem dJ19_numberOfLeadingZeros_0 : decode cJ19_numberOfLeadingZeros 0 = .ok (.lload_n 0, 1) := dk_30 (dk_at dksJ19_numberOfLeadingZeros_0 0 rfl rfl)
theorem dJ19_numberOfLeadingZeros_1 : decode cJ19_numberOfLeadingZeros 1 = .ok (.bipush 32, 2) := dk_16 32 (dk_at dksJ19_numberOfLeadingZeros_0 1 rfl rfl)
theorem dJ19_numberOfLeadingZeros_3 : decode cJ19_numberOfLeadingZeros 3 = .ok (.lushr, 1) := dk_125 (dk_at dksJ19_numberOfLeadingZeros_0 3 rfl rfl)
theorem dJ19_numberOfLeadingZeros_4 : decode cJ19_numberOfLeadingZeros 4 = .ok (.l2i, 1) := dk_136 (dk_at dksJ19_numberOfLeadingZeros_0 4 rfl rfl)
theorem dJ19_numberOfLeadingZeros_5 : decode cJ19_numberOfLeadingZeros 5 = .ok (.istore_n 2, 1) := dk_61 (dk_at dksJ19_numberOfLeadingZeros_0 5 rfl rfl)
theorem dJ19_numberOfLeadingZeros_6 : decode cJ19_numberOfLeadingZeros 6 = .ok (.iload_n 2, 1) := dk_28 (dk_at dksJ19_numberOfLeadingZeros_0 6 rfl rfl)
theorem dJ19_numberOfLeadingZeros_7 : decode cJ19_numberOfLeadingZeros 7 = .ok (.ifCond .ne 14, 3) := dk_154 0 14 (dk_at dksJ19_numberOfLeadingZeros_0 7 rfl rfl)
theorem dJ19_numberOfLeadingZeros_10 : decode cJ19_numberOfLeadingZeros 10 = .ok (.bipush 32, 2) := dk_16 32 (dk_at dksJ19_numberOfLeadingZeros_0 10 rfl rfl)
theorem dJ19_numberOfLeadingZeros_12 : decode cJ19_numberOfLeadingZeros 12 = .ok (.lload_n 0, 1) := dk_30 (dk_at dksJ19_numberOfLeadingZeros_0 12 rfl rfl)
theorem dJ19_numberOfLeadingZeros_13 : decode cJ19_numberOfLeadingZeros 13 = .ok (.l2i, 1) := dk_136 (dk_at dksJ19_numberOfLeadingZeros_0 13 rfl rfl)
theorem dJ19_numberOfLeadingZeros_14 : decode cJ19_numberOfLeadingZeros 14 = .ok (.invokestatic 308, 3) := dk_184 1 52 (dk_at dksJ19_numberOfLeadingZeros_0 14 rfl rfl)
theorem dJ19_numberOfLeadingZeros_17 : decode cJ19_numberOfLeadingZeros 17 = .ok (.iadd, 1) := dk_96 (dk_at dksJ19_numberOfLeadingZeros_0 17 rfl rfl)
theorem dJ19_numberOfLeadingZeros_18 : decode cJ19_numberOfLeadingZeros 18 = .ok (.goto 7, 3) := dk_167 0 7 (dk_at dksJ19_numberOfLeadingZeros_0 18 rfl rfl)
theorem dJ19_numberOfLeadingZeros_21 : decode cJ19_numberOfLeadingZeros 21 = .ok (.iload_n 2, 1) := dk_28 (dk_at dksJ19_numberOfLeadingZeros_0 21 rfl rfl)
theorem dJ19_numberOfLeadingZeros_22 : decode cJ19_numberOfLeadingZeros 22 = .ok (.invokestatic 308, 3) := dk_184 1 52 (dk_at dksJ19_numberOfLeadingZeros_1 0 rfl rfl)
theorem dJ19_numberOfLeadingZeros_25 : decode cJ19_numberOfLeadingZeros 25 = .ok (.ireturn, 1) := dk_172 (dk_at dksJ19_numberOfLeadingZeros_1 3 rfl rfl)
abbrev cJ19_numberOfTrailingZeros : ByteArray := prog_27_method_49_code
def yJ19_numberOfTrailingZeros : MethodName := ⟨RJ19, "numberOfTrailingZeros", "(J)I"⟩
def dkwJ19_numberOfTrailingZeros_1 : List UInt8 := [184, 1, 55, 172]
abbrev dktJ19_numberOfTrailingZeros_1 : List UInt8 := dkwJ19_numberOfTrailingZeros_1 ++ []
def dkwJ19_numberOfTrailingZeros_0 : List UInt8 := [30, 136, 61, 28, 154, 0, 17, 16, 32, 30, 16, 32, 125, 136, 184, 1, 55, 96, 167, 0, 7, 28]
abbrev dktJ19_numberOfTrailingZeros_0 : List UInt8 := dkwJ19_numberOfTrailingZeros_0 ++ dktJ19_numberOfTrailingZeros_1
theorem dksJ19_numberOfTrailingZeros_0 : cJ19_numberOfTrailingZeros.data.toList.drop 0 = dktJ19_numberOfTrailingZeros_0 := by decide +kernel
theorem dksJ19_numberOfTrailingZeros_1 : cJ19_numberOfTrailingZeros.data.toList.drop 22 = dktJ19_numberOfTrailingZeros_1 := dk_seg dksJ19_numberOfTrailingZeros_0 22 rfl rfl
theorem dJ19_numberOfTrailingZeros_0 : decode cJ19_numberOfTrailingZeros 0 = .ok (.lload_n 0, 1) := dk_30 (dk_at dksJ19_numberOfTrailingZeros_0 0 rfl rfl)
theorem dJ19_numberOfTrailingZeros_1 : decode cJ19_numberOfTrailingZeros 1 = .ok (.l2i, 1) := dk_136 (dk_at dksJ19_numberOfTrailingZeros_0 1 rfl rfl)
theorem dJ19_numberOfTrailingZeros_2 : decode cJ19_numberOfTrailingZeros 2 = .ok (.istore_n 2, 1) := dk_61 (dk_at dksJ19_numberOfTrailingZeros_0 2 rfl rfl)
theorem dJ19_numberOfTrailingZeros_3 : decode cJ19_numberOfTrailingZeros 3 = .ok (.iload_n 2, 1) := dk_28 (dk_at dksJ19_numberOfTrailingZeros_0 3 rfl rfl)
theorem dJ19_numberOfTrailingZeros_4 : decode cJ19_numberOfTrailingZeros 4 = .ok (.ifCond .ne 17, 3) := dk_154 0 17 (dk_at dksJ19_numberOfTrailingZeros_0 4 rfl rfl)
theorem dJ19_numberOfTrailingZeros_7 : decode cJ19_numberOfTrailingZeros 7 = .ok (.bipush 32, 2) := dk_16 32 (dk_at dksJ19_numberOfTrailingZeros_0 7 rfl rfl)
theorem dJ19_numberOfTrailingZeros_9 : decode cJ19_numberOfTrailingZeros 9 = .ok (.lload_n 0, 1) := dk_30 (dk_at dksJ19_numberOfTrailingZeros_0 9 rfl rfl)
theorem dJ19_numberOfTrailingZeros_10 : decode cJ19_numberOfTrailingZeros 10 = .ok (.bipush 32, 2) := dk_16 32 (dk_at dksJ19_numberOfTrailingZeros_0 10 rfl rfl)
theorem dJ19_numberOfTrailingZeros_12 : decode cJ19_numberOfTrailingZeros 12 = .ok (.lushr, 1) := dk_125 (dk_at dksJ19_numberOfTrailingZeros_0 12 rfl rfl)
theorem dJ19_numberOfTrailingZeros_13 : decode cJ19_numberOfTrailingZeros 13 = .ok (.l2i, 1) := dk_136 (dk_at dksJ19_numberOfTrailingZeros_0 13 rfl rfl)
theorem dJ19_numberOfTrailingZeros_14 : decode cJ19_numberOfTrailingZeros 14 = .ok (.invokestatic 311, 3) := dk_184 1 55 (dk_at dksJ19_numberOfTrailingZeros_0 14 rfl rfl)
theorem dJ19_numberOfTrailingZeros_17 : decode cJ19_numberOfTrailingZeros 17 = .ok (.iadd, 1) := dk_96 (dk_at dksJ19_numberOfTrailingZeros_0 17 rfl rfl)
theorem dJ19_numberOfTrailingZeros_18 : decode cJ19_numberOfTrailingZeros 18 = .ok (.goto 7, 3) := dk_167 0 7 (dk_at dksJ19_numberOfTrailingZeros_0 18 rfl rfl)
theorem dJ19_numberOfTrailingZeros_21 : decode cJ19_numberOfTrailingZeros 21 = .ok (.iload_n 2, 1) := dk_28 (dk_at dksJ19_numberOfTrailingZeros_0 21 rfl rfl)
theorem dJ19_numberOfTrailingZeros_22 : decode cJ19_numberOfTrailingZeros 22 = .ok (.invokestatic 311, 3) := dk_184 1 55 (dk_at dksJ19_numberOfTrailingZeros_1 0 rfl rfl)
theorem dJ19_numberOfTrailingZeros_25 : decode cJ19_numberOfTrailingZeros 25 = .ok (.ireturn, 1) := dk_172 (dk_at dksJ19_numberOfTrailingZeros_1 3 rfl rfl)
theorem q100 : (Jvm.Cond.initialized "java/lang/Long") ∈ lw_all := lw_g (lw_at lw_m1 37 rfl) rfl
theorem q1468 : (Jvm.Cond.static ({ cls := "java/lang/Long", name := "numberOfLeadingZeros", desc := "(J)I" } : Jvm.MethodName)) ∈ lw_all := lw_g (lw_at lw_m6 205 rfl) rfl
theorem q1469 : (Jvm.Cond.code ({ cls := "java/lang/Long", name := "numberOfLeadingZeros", desc := "(J)I" } : Jvm.MethodName) prog_27_method_48_code (3 : Nat) (Option.some Jvm.ClassFile.FieldType.int)) ∈ lw_all := lw_g (lw_at lw_m6 206 rfl) rfl
theorem q1470 : (Jvm.Cond.methodLink "java/lang/Long" (308 : Nat) ({ cls := "java/lang/Integer", name := "numberOfLeadingZeros", desc := "(I)I" } : Jvm.MethodName)) ∈ lw_all := lw_g (lw_at lw_m6 207 rfl) rfl
theorem q1477 : (Jvm.Cond.static ({ cls := "java/lang/Long", name := "numberOfTrailingZeros", desc := "(J)I" } : Jvm.MethodName)) ∈ lw_all := lw_g (lw_at lw_m6 214 rfl) rfl
theorem q1478 : (Jvm.Cond.code ({ cls := "java/lang/Long", name := "numberOfTrailingZeros", desc := "(J)I" } : Jvm.MethodName) prog_27_method_49_code (3 : Nat) (Option.some Jvm.ClassFile.FieldType.int)) ∈ lw_all := lw_g (lw_at lw_m6 215 rfl) rfl
theorem q1479 : (Jvm.Cond.methodLink "java/lang/Long" (311 : Nat) ({ cls := "java/lang/Integer", name := "numberOfTrailingZeros", desc := "(I)I" } : Jvm.MethodName)) ∈ lw_all := lw_g (lw_at lw_m6 216 rfl) rfl

