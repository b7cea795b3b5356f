set_option maxRecDepth 100000
/-! L_law -/
def dkwL_law_49 : List UInt8 := [153, 0, 5, 3, 172, 132, 3, 6, 167, 251, 7, 4, 172]
abbrev dktL_law_49 : List UInt8 := dkwL_law_49 ++ []
def dkwL_law_48 : List UInt8 := [42, 29, 4, 96, 46, 182, 0, 162, 159, 0, 19, 3, 172, 43, 182, 0, 163, 44, 182, 0, 167, 148]
abbrev dktL_law_48 : List UInt8 := dkwL_law_48 ++ dktL_law_49
def dkwL_law_47 : List UInt8 := [44, 42, 29, 4, 96, 46, 182, 0, 158, 159, 0, 42, 3, 172, 43, 42, 29, 4, 96, 46, 182, 0, 159, 44]
abbrev dktL_law_47 : List UInt8 := dkwL_law_47 ++ dktL_law_48
def dkwL_law_46 : List UInt8 := [96, 46, 42, 29, 8, 96, 46, 182, 0, 154, 159, 0, 65, 3, 172, 43, 42, 29, 4, 96, 46, 182, 0, 155]
abbrev dktL_law_46 : List UInt8 := dkwL_law_46 ++ dktL_law_47
def dkwL_law_45 : List UInt8 := [96, 46, 182, 0, 150, 44, 42, 29, 4, 96, 46, 42, 29, 5, 96, 46, 42, 29, 6, 96, 46, 42, 29, 7]
abbrev dktL_law_45 : List UInt8 := dkwL_law_45 ++ dktL_law_46
def dkwL_law_44 : List UInt8 := [43, 42, 29, 4, 96, 46, 42, 29, 5, 96, 46, 42, 29, 6, 96, 46, 42, 29, 7, 96, 46, 42, 29, 8]
abbrev dktL_law_44 : List UInt8 := dkwL_law_44 ++ dktL_law_45
def dkwL_law_43 : List UInt8 := [44, 42, 29, 4, 96, 46, 42, 29, 5, 96, 46, 42, 29, 6, 96, 46, 182, 0, 149, 159, 0, 128, 3, 172]
abbrev dktL_law_43 : List UInt8 := dkwL_law_43 ++ dktL_law_44
def dkwL_law_42 : List UInt8 := [159, 0, 171, 3, 172, 43, 42, 29, 4, 96, 46, 42, 29, 5, 96, 46, 42, 29, 6, 96, 46, 182, 0, 146]
abbrev dktL_law_42 : List UInt8 := dkwL_law_42 ++ dktL_law_43
def dkwL_law_41 : List UInt8 := [42, 29, 4, 96, 46, 42, 29, 5, 96, 46, 42, 29, 6, 96, 46, 42, 29, 7, 96, 46, 182, 0, 145]
abbrev dktL_law_41 : List UInt8 := dkwL_law_41 ++ dktL_law_42
def dkwL_law_40 : List UInt8 := [42, 29, 4, 96, 46, 42, 29, 5, 96, 46, 42, 29, 6, 96, 46, 42, 29, 7, 96, 46, 182, 0, 141, 44]
abbrev dktL_law_40 : List UInt8 := dkwL_law_40 ++ dktL_law_41
def dkwL_law_39 : List UInt8 := [43, 42, 29, 4, 96, 46, 182, 0, 137, 44, 42, 29, 4, 96, 46, 182, 0, 140, 159, 0, 224, 3, 172, 43]
abbrev dktL_law_39 : List UInt8 := dkwL_law_39 ++ dktL_law_40
def dkwL_law_38 : List UInt8 := [44, 42, 29, 4, 96, 46, 42, 29, 5, 96, 46, 42, 29, 6, 96, 46, 182, 0, 136, 159, 0, 247, 3, 172]
abbrev dktL_law_38 : List UInt8 := dkwL_law_38 ++ dktL_law_39
def dkwL_law_37 : List UInt8 := [159, 1, 34, 3, 172, 43, 42, 29, 4, 96, 46, 42, 29, 5, 96, 46, 42, 29, 6, 96, 46, 182, 0, 133]
abbrev dktL_law_37 : List UInt8 := dkwL_law_37 ++ dktL_law_38
def dkwL_law_36 : List UInt8 := [44, 42, 29, 4, 96, 46, 182, 0, 128, 159, 1, 47, 3, 172, 43, 182, 0, 129, 44, 182, 0, 132]
abbrev dktL_law_36 : List UInt8 := dkwL_law_36 ++ dktL_law_37
def dkwL_law_35 : List UInt8 := [3, 172, 43, 182, 0, 121, 44, 182, 0, 124, 159, 1, 70, 3, 172, 43, 42, 29, 4, 96, 46, 182, 0, 125]
abbrev dktL_law_35 : List UInt8 := dkwL_law_35 ++ dktL_law_36
def dkwL_law_34 : List UInt8 := [29, 5, 96, 46, 182, 0, 117, 44, 42, 29, 4, 96, 46, 42, 29, 5, 96, 46, 182, 0, 120, 159, 1, 83]
abbrev dktL_law_34 : List UInt8 := dkwL_law_34 ++ dktL_law_35
def dkwL_law_33 : List UInt8 := [29, 4, 96, 46, 42, 29, 5, 96, 46, 182, 0, 116, 159, 1, 116, 3, 172, 43, 42, 29, 4, 96, 46, 42]
abbrev dktL_law_33 : List UInt8 := dkwL_law_33 ++ dktL_law_34
def dkwL_law_32 : List UInt8 := [182, 0, 112, 159, 1, 149, 3, 172, 43, 42, 29, 4, 96, 46, 42, 29, 5, 96, 46, 182, 0, 113, 44, 42]
abbrev dktL_law_32 : List UInt8 := dkwL_law_32 ++ dktL_law_33
def dkwL_law_31 : List UInt8 := [42, 29, 4, 96, 46, 42, 29, 5, 96, 46, 182, 0, 109, 44, 42, 29, 4, 96, 46, 42, 29, 5, 96, 46]
abbrev dktL_law_31 : List UInt8 := dkwL_law_31 ++ dktL_law_32
def dkwL_law_30 : List UInt8 := [43, 42, 29, 4, 96, 46, 182, 0, 105, 44, 42, 29, 4, 96, 46, 182, 0, 108, 159, 1, 182, 3, 172, 43]
abbrev dktL_law_30 : List UInt8 := dkwL_law_30 ++ dktL_law_31
def dkwL_law_29 : List UInt8 := [5, 96, 46, 182, 0, 100, 159, 1, 218, 3, 172, 43, 182, 0, 101, 44, 182, 0, 104, 159, 1, 205, 3, 172]
abbrev dktL_law_29 : List UInt8 := dkwL_law_29 ++ dktL_law_30
def dkwL_law_28 : List UInt8 := [3, 172, 43, 42, 29, 4, 96, 46, 42, 29, 5, 96, 46, 182, 0, 97, 44, 42, 29, 4, 96, 46, 42, 29]
abbrev dktL_law_28 : List UInt8 := dkwL_law_28 ++ dktL_law_29
def dkwL_law_27 : List UInt8 := [29, 5, 96, 46, 182, 0, 93, 44, 42, 29, 4, 96, 46, 42, 29, 5, 96, 46, 182, 0, 96, 159, 1, 251]
abbrev dktL_law_27 : List UInt8 := dkwL_law_27 ++ dktL_law_28
def dkwL_law_26 : List UInt8 := [182, 0, 89, 44, 42, 29, 4, 96, 46, 182, 0, 92, 159, 2, 28, 3, 172, 43, 42, 29, 4, 96, 46, 42]
abbrev dktL_law_26 : List UInt8 := dkwL_law_26 ++ dktL_law_27
def dkwL_law_25 : List UInt8 := [182, 0, 85, 44, 42, 29, 4, 96, 46, 182, 0, 88, 159, 2, 51, 3, 172, 43, 42, 29, 4, 96, 46]
abbrev dktL_law_25 : List UInt8 := dkwL_law_25 ++ dktL_law_26
def dkwL_law_24 : List UInt8 := [29, 4, 96, 46, 42, 29, 5, 96, 46, 182, 0, 84, 159, 2, 74, 3, 172, 43, 42, 29, 4, 96, 46]
abbrev dktL_law_24 : List UInt8 := dkwL_law_24 ++ dktL_law_25
def dkwL_law_23 : List UInt8 := [182, 0, 80, 159, 2, 107, 3, 172, 43, 42, 29, 4, 96, 46, 42, 29, 5, 96, 46, 182, 0, 81, 44, 42]
abbrev dktL_law_23 : List UInt8 := dkwL_law_23 ++ dktL_law_24
def dkwL_law_22 : List UInt8 := [182, 0, 76, 159, 2, 130, 3, 172, 43, 42, 29, 4, 96, 46, 182, 0, 77, 44, 42, 29, 4, 96, 46]
abbrev dktL_law_22 : List UInt8 := dkwL_law_22 ++ dktL_law_23
def dkwL_law_21 : List UInt8 := [29, 6, 96, 46, 182, 0, 73, 44, 42, 29, 4, 96, 46, 42, 29, 5, 96, 46, 42, 29, 6, 96, 46]
abbrev dktL_law_21 : List UInt8 := dkwL_law_21 ++ dktL_law_22
def dkwL_law_20 : List UInt8 := [29, 6, 96, 46, 182, 0, 72, 159, 2, 173, 3, 172, 43, 42, 29, 4, 96, 46, 42, 29, 5, 96, 46, 42]
abbrev dktL_law_20 : List UInt8 := dkwL_law_20 ++ dktL_law_21
def dkwL_law_19 : List UInt8 := [29, 5, 96, 46, 42, 29, 6, 96, 46, 182, 0, 68, 44, 42, 29, 4, 96, 46, 42, 29, 5, 96, 46, 42]
abbrev dktL_law_19 : List UInt8 := dkwL_law_19 ++ dktL_law_20
def dkwL_law_18 : List UInt8 := [182, 0, 64, 44, 42, 29, 4, 96, 46, 182, 0, 67, 159, 2, 216, 3, 172, 43, 42, 29, 4, 96, 46, 42]
abbrev dktL_law_18 : List UInt8 := dkwL_law_18 ++ dktL_law_19
def dkwL_law_17 : List UInt8 := [29, 4, 96, 46, 42, 29, 5, 96, 46, 182, 0, 63, 159, 2, 239, 3, 172, 43, 42, 29, 4, 96, 46]
abbrev dktL_law_17 : List UInt8 := dkwL_law_17 ++ dktL_law_18
def dkwL_law_16 : List UInt8 := [182, 0, 59, 159, 3, 16, 3, 172, 43, 42, 29, 4, 96, 46, 42, 29, 5, 96, 46, 182, 0, 60, 44, 42]
abbrev dktL_law_16 : List UInt8 := dkwL_law_16 ++ dktL_law_17
def dkwL_law_15 : List UInt8 := [29, 4, 96, 46, 42, 29, 5, 96, 46, 182, 0, 56, 44, 42, 29, 4, 96, 46, 42, 29, 5, 96, 46]
abbrev dktL_law_15 : List UInt8 := dkwL_law_15 ++ dktL_law_16
def dkwL_law_14 : List UInt8 := [182, 0, 52, 44, 42, 29, 4, 96, 46, 42, 29, 5, 96, 46, 182, 0, 55, 159, 3, 49, 3, 172, 43, 42]
abbrev dktL_law_14 : List UInt8 := dkwL_law_14 ++ dktL_law_15
def dkwL_law_13 : List UInt8 := [182, 0, 47, 44, 182, 0, 51, 159, 3, 82, 3, 172, 43, 42, 29, 4, 96, 46, 42, 29, 5, 96, 46]
abbrev dktL_law_13 : List UInt8 := dkwL_law_13 ++ dktL_law_14
def dkwL_law_12 : List UInt8 := [29, 4, 96, 46, 182, 0, 43, 44, 42, 29, 4, 96, 46, 182, 0, 46, 159, 3, 95, 3, 172, 43]
abbrev dktL_law_12 : List UInt8 := dkwL_law_12 ++ dktL_law_13
def dkwL_law_11 : List UInt8 := [182, 0, 39, 44, 42, 29, 4, 96, 46, 42, 29, 5, 96, 46, 182, 0, 42, 159, 3, 118, 3, 172, 43, 42]
abbrev dktL_law_11 : List UInt8 := dkwL_law_11 ++ dktL_law_12
def dkwL_law_10 : List UInt8 := [5, 96, 46, 182, 0, 38, 159, 3, 151, 3, 172, 43, 42, 29, 4, 96, 46, 42, 29, 5, 96, 46]
abbrev dktL_law_10 : List UInt8 := dkwL_law_10 ++ dktL_law_11
def dkwL_law_9 : List UInt8 := [3, 172, 43, 42, 29, 4, 96, 46, 42, 29, 5, 96, 46, 182, 0, 35, 44, 42, 29, 4, 96, 46, 42, 29]
abbrev dktL_law_9 : List UInt8 := dkwL_law_9 ++ dktL_law_10
def dkwL_law_8 : List UInt8 := [29, 5, 96, 46, 182, 0, 31, 44, 42, 29, 4, 96, 46, 42, 29, 5, 96, 46, 182, 0, 34, 159, 3, 184]
abbrev dktL_law_8 : List UInt8 := dkwL_law_8 ++ dktL_law_9
def dkwL_law_7 : List UInt8 := [29, 4, 96, 46, 42, 29, 5, 96, 46, 182, 0, 30, 159, 3, 217, 3, 172, 43, 42, 29, 4, 96, 46, 42]
abbrev dktL_law_7 : List UInt8 := dkwL_law_7 ++ dktL_law_8
def dkwL_law_6 : List UInt8 := [182, 0, 26, 159, 3, 250, 3, 172, 43, 42, 29, 4, 96, 46, 42, 29, 5, 96, 46, 182, 0, 27, 44, 42]
abbrev dktL_law_6 : List UInt8 := dkwL_law_6 ++ dktL_law_7
def dkwL_law_5 : List UInt8 := [182, 0, 22, 159, 4, 17, 3, 172, 43, 42, 29, 4, 96, 46, 182, 0, 23, 44, 42, 29, 4, 96, 46]
abbrev dktL_law_5 : List UInt8 := dkwL_law_5 ++ dktL_law_6
def dkwL_law_4 : List UInt8 := [46, 182, 0, 17, 159, 4, 40, 3, 172, 43, 42, 29, 4, 96, 46, 182, 0, 18, 44, 42, 29, 4, 96, 46]
abbrev dktL_law_4 : List UInt8 := dkwL_law_4 ++ dktL_law_5
def dkwL_law_3 : List UInt8 := [43, 42, 29, 4, 96, 46, 42, 29, 5, 96, 46, 182, 0, 13, 44, 42, 29, 4, 96, 46, 42, 29, 5, 96]
abbrev dktL_law_3 : List UInt8 := dkwL_law_3 ++ dktL_law_4
def dkwL_law_2 : List UInt8 := [170, 0, 0, 0, 0, 4, 231, 0, 0, 0, 0, 0, 0, 0, 36, 0, 0, 0, 163, 0, 0, 0, 196, 0, 0, 0, 219, 0, 0, 0, 242, 0, 0, 1, 19, 0, 0, 1, 52, 0, 0, 1, 85, 0, 0, 1, 118, 0, 0, 1, 141, 0, 0, 1, 154, 0, 0, 1, 187, 0, 0, 1, 220, 0, 0, 1, 253, 0, 0, 2, 20, 0, 0, 2, 63, 0, 0, 2, 106, 0, 0, 2, 129, 0, 0, 2, 162, 0, 0, 2, 185, 0, 0, 2, 208, 0, 0, 2, 241, 0, 0, 3, 18, 0, 0, 3, 31, 0, 0, 3, 54, 0, 0, 3, 87, 0, 0, 3, 120, 0, 0, 3, 153, 0, 0, 3, 166, 0, 0, 3, 189, 0, 0, 3, 202, 0, 0, 3, 245, 0, 0, 4, 12, 0, 0, 4, 65, 0, 0, 4, 108, 0, 0, 4, 171, 0, 0, 4, 194, 0, 0, 4, 217]
abbrev dktL_law_2 : List UInt8 := dkwL_law_2 ++ dktL_law_3
def dkwL_law_1 : List UInt8 := [163, 4, 246, 42, 29, 46, 16, 63, 126]
abbrev dktL_law_1 : List UInt8 := dkwL_law_1 ++ dktL_law_2
def dkwL_law_0 : List UInt8 := [187, 0, 7, 89, 183, 0, 9, 76, 187, 0, 10, 89, 183, 0, 12, 77, 3, 62, 29, 42, 190, 16, 6, 100]
abbrev dktL_law_0 : List UInt8 := dkwL_law_0 ++ dktL_law_1
theorem dksL_law_0 : cL_law.data.toList.drop 0 = dktL_law_0 := by decide +kernel
theorem dksL_law_1 : cL_law.data.toList.drop 24 = dktL_law_1 := dk_seg dksL_law_0 24 rfl rfl
theorem dksL_law_2 : cL_law.data.toList.drop 33 = dktL_law_2 := dk_seg dksL_law_1 9 rfl rfl
theorem dksL_law_3 : cL_law.data.toList.drop 196 = dktL_law_3 := dk_seg dksL_law_2 163 rfl rfl
theorem dksL_law_4 : cL_law.data.toList.drop 220 = dktL_law_4 := dk_seg dksL_law_3 24 rfl rfl
theorem dksL_law_5 : cL_law.data.toList.drop 244 = dktL_law_5 := dk_seg dksL_law_4 24 rfl rfl
theorem dksL_law_6 : cL_law.data.toList.drop 267 = dktL_law_6 := dk_seg dksL_law_5 23 rfl rfl
theorem dksL_law_7 : cL_law.data.toList.drop 291 = dktL_law_7 := dk_seg dksL_law_6 24 rfl rfl
theorem dksL_law_8 : cL_law.data.toList.drop 315 = dktL_law_8 := dk_seg dksL_law_7 24 rfl rfl
theorem dksL_law_9 : cL_law.data.toList.drop 339 = dktL_law_9 := dk_seg dksL_law_8 24 rfl rfl
theorem dksL_law_10 : cL_law.data.toList.drop 363 = dktL_law_10 := dk_seg dksL_law_9 24 rfl rfl
theorem dksL_law_11 : cL_law.data.toList.drop 385 = dktL_law_11 := dk_seg dksL_law_10 22 rfl rfl
theorem dksL_law_12 : cL_law.data.toList.drop 409 = dktL_law_12 := dk_seg dksL_law_11 24 rfl rfl
theorem dksL_law_13 : cL_law.data.toList.drop 431 = dktL_law_13 := dk_seg dksL_law_12 22 rfl rfl
theorem dksL_law_14 : cL_law.data.toList.drop 454 = dktL_law_14 := dk_seg dksL_law_13 23 rfl rfl
theorem dksL_law_15 : cL_law.data.toList.drop 478 = dktL_law_15 := dk_seg dksL_law_14 24 rfl rfl
theorem dksL_law_16 : cL_law.data.toList.drop 501 = dktL_law_16 := dk_seg dksL_law_15 23 rfl rfl
theorem dksL_law_17 : cL_law.data.toList.drop 525 = dktL_law_17 := dk_seg dksL_law_16 24 rfl rfl
theorem dksL_law_18 : cL_law.data.toList.drop 548 = dktL_law_18 := dk_seg dksL_law_17 23 rfl rfl
theorem dksL_law_19 : cL_law.data.toList.drop 572 = dktL_law_19 := dk_seg dksL_law_18 24 rfl rfl
theorem dksL_law_20 : cL_law.data.toList.drop 596 = dktL_law_20 := dk_seg dksL_law_19 24 rfl rfl
theorem dksL_law_21 : cL_law.data.toList.drop 620 = dktL_law_21 := dk_seg dksL_law_20 24 rfl rfl
theorem dksL_law_22 : cL_law.data.toList.drop 643 = dktL_law_22 := dk_seg dksL_law_21 23 rfl rfl
theorem dksL_law_23 : cL_law.data.toList.drop 666 = dktL_law_23 := dk_seg dksL_law_22 23 rfl rfl
theorem dksL_law_24 : cL_law.data.toList.drop 690 = dktL_law_24 := dk_seg dksL_law_23 24 rfl rfl
theorem dksL_law_25 : cL_law.data.toList.drop 713 = dktL_law_25 := dk_seg dksL_law_24 23 rfl rfl
theorem dksL_law_26 : cL_law.data.toList.drop 736 = dktL_law_26 := dk_seg dksL_law_25 23 rfl rfl
theorem dksL_law_27 : cL_law.data.toList.drop 760 = dktL_law_27 := dk_seg dksL_law_26 24 rfl rfl
theorem dksL_law_28 : cL_law.data.toList.drop 784 = dktL_law_28 := dk_seg dksL_law_27 24 rfl rfl
theorem dksL_law_29 : cL_law.data.toList.drop 808 = dktL_law_29 := dk_seg dksL_law_28 24 rfl rfl
theorem dksL_law_30 : cL_law.data.toList.drop 832 = dktL_law_30 := dk_seg dksL_law_29 24 rfl rfl
theorem dksL_law_31 : cL_law.data.toList.drop 856 = dktL_law_31 := dk_seg dksL_law_30 24 rfl rfl
theorem dksL_law_32 : cL_law.data.toList.drop 880 = dktL_law_32 := dk_seg dksL_law_31 24 rfl rfl
theorem dksL_law_33 : cL_law.data.toList.drop 904 = dktL_law_33 := dk_seg dksL_law_32 24 rfl rfl
theorem dksL_law_34 : cL_law.data.toList.drop 928 = dktL_law_34 := dk_seg dksL_law_33 24 rfl rfl
theorem dksL_law_35 : cL_law.data.toList.drop 952 = dktL_law_35 := dk_seg dksL_law_34 24 rfl rfl
theorem dksL_law_36 : cL_law.data.toList.drop 976 = dktL_law_36 := dk_seg dksL_law_35 24 rfl rfl
theorem dksL_law_37 : cL_law.data.toList.drop 998 = dktL_law_37 := dk_seg dksL_law_36 22 rfl rfl
theorem dksL_law_38 : cL_law.data.toList.drop 1022 = dktL_law_38 := dk_seg dksL_law_37 24 rfl rfl
theorem dksL_law_39 : cL_law.data.toList.drop 1046 = dktL_law_39 := dk_seg dksL_law_38 24 rfl rfl
theorem dksL_law_40 : cL_law.data.toList.drop 1070 = dktL_law_40 := dk_seg dksL_law_39 24 rfl rfl
theorem dksL_law_41 : cL_law.data.toList.drop 1094 = dktL_law_41 := dk_seg dksL_law_40 24 rfl rfl
theorem dksL_law_42 : cL_law.data.toList.drop 1117 = dktL_law_42 := dk_seg dksL_law_41 23 rfl rfl
theorem dksL_law_43 : cL_law.data.toList.drop 1141 = dktL_law_43 := dk_seg dksL_law_42 24 rfl rfl
theorem dksL_law_44 : cL_law.data.toList.drop 1165 = dktL_law_44 := dk_seg dksL_law_43 24 rfl rfl
theorem dksL_law_45 : cL_law.data.toList.drop 1189 = dktL_law_45 := dk_seg dksL_law_44 24 rfl rfl
theorem dksL_law_46 : cL_law.data.toList.drop 1213 = dktL_law_46 := dk_seg dksL_law_45 24 rfl rfl
theorem dksL_law_47 : cL_law.data.toList.drop 1237 = dktL_law_47 := dk_seg dksL_law_46 24 rfl rfl
theorem dksL_law_48 : cL_law.data.toList.drop 1261 = dktL_law_48 := dk_seg dksL_law_47 24 rfl rfl
theorem dksL_law_49 : cL_law.data.toList.drop 1283 = dktL_law_49 := dk_seg dksL_law_48 22 rfl rfl
theorem dL_law_0 : decode cL_law 0 = .ok (.new 7, 3) := dk_187 0 7 (dk_at dksL_law_0 0 rfl rfl)
theorem iL_law_0 {d : Nat} {L S : List MV} {M : MH} {Q : Out → MH → Prop} (hcap : mhn M + 1 ≤ mNC) (hcas : mhs M + 21 ≤ mNS) (k : MW mL_law d 3 L (vp (mhn M) :: S) (wN M 0 21) Q) : MW mL_law d 0 L S M Q := mw_new (ci := 0) ⟨dL_law_0, rfl⟩ rfl q119 q120 q90 hcap hcas k
theorem dL_law_3 : decode cL_law 3 = .ok (.dup, 1) := dk_89 (dk_at dksL_law_0 3 rfl rfl)
theorem iL_law_3 {d : Nat} {L S : List MV} {M : MH} {Q : Out → MH → Prop} {v : MV} (k : MW mL_law d 4 L (v :: v :: S) M Q) (hv : mcat v = 1 := by rfl) : MW mL_law d 3 L (v :: S) M Q := mw_dup ⟨dL_law_3, rfl⟩ hv k
theorem dL_law_4 : decode cL_law 4 = .ok (.invokespecial 9, 3) := dk_183 0 9 (dk_at dksL_law_0 4 rfl rfl)
theorem iL_law_4 {d : Nat} {L S : List MV} {M : MH} {Q : Out → MH → Prop} {b : Nat} {P : MH → Prop} (hM : MCv mX0_init d [vp b] M P) (k : ∀ M', P M' → MW mL_law (d + 1) 7 L S M' Q) (h8 : Nat.ble (S.map mcat).sum 8 = true := by rfl) : MW mL_law (d + 1) 4 L (vp b :: S) M Q := mw_callv (as := [vp b]) (site_I (Y' := mX0_init) (n := 0) ⟨dL_law_4, rfl⟩ (Or.inl q121) q122 q123 rfl nX0_init hX0_init rfl) kX0_init (Nat.le_of_ble_eq_true h8) hM k
theorem dL_law_7 : decode cL_law 7 = .ok (.astore_n 1, 1) := dk_76 (dk_at dksL_law_0 7 rfl rfl)
theorem iL_law_7 {d : Nat} {r S : List MV} {M : MH} {Q : Out → MH → Prop} {w0 : MV} {o : Option Nat} {v : MV} (k : MW mL_law d 8 (w0 :: vr o :: r) S M Q) (hok : okSt (w0 :: v :: r) 1 = true := by rfl) : MW mL_law d 7 (w0 :: v :: r) (vr o :: S) M Q := mw_astore_n (i := 1) ⟨dL_law_7, rfl⟩ rfl (Nat.le_of_ble_eq_true rfl) hok k
theorem dL_law_8 : decode cL_law 8 = .ok (.new 10, 3) := dk_187 0 10 (dk_at dksL_law_0 8 rfl rfl)
theorem iL_law_8 {d : Nat} {L S : List MV} {M : MH} {Q : Out → MH → Prop} (hcap : mhn M + 1 ≤ mNC) (hcas : mhs M + 33 ≤ mNS) (k : MW mL_law d 11 L (vp (mhn M) :: S) (wN M 10 33) Q) : MW mL_law d 8 L S M Q := mw_new (ci := 10) ⟨dL_law_8, rfl⟩ rfl q1162 q1163 q100 hcap hcas k
theorem dL_law_11 : decode cL_law 11 = .ok (.dup, 1) := dk_89 (dk_at dksL_law_0 11 rfl rfl)
theorem iL_law_11 {d : Nat} {L S : List MV} {M : MH} {Q : Out → MH → Prop} {v : MV} (k : MW mL_law d 12 L (v :: v :: S) M Q) (hv : mcat v = 1 := by rfl) : MW mL_law d 11 L (v :: S) M Q := mw_dup ⟨dL_law_11, rfl⟩ hv k
theorem dL_law_12 : decode cL_law 12 = .ok (.invokespecial 12, 3) := dk_183 0 12 (dk_at dksL_law_0 12 rfl rfl)
theorem iL_law_12 {d : Nat} {L S : List MV} {M : MH} {Q : Out → MH → Prop} {b : Nat} {P : MH → Prop} (hM : MCv mX7_init d [vp b] M P) (k : ∀ M', P M' → MW mL_law (d + 1) 15 L S M' Q) (h8 : Nat.ble (S.map mcat).sum 8 = true := by rfl) : MW mL_law (d + 1) 12 L (vp b :: S) M Q := mw_callv (as := [vp b]) (site_I (Y' := mX7_init) (n := 0) ⟨dL_law_12, rfl⟩ (Or.inl q1164) q1165 q1166 rfl nX7_init hX7_init rfl) kX7_init (Nat.le_of_ble_eq_true h8) hM k
theorem dL_law_15 : decode cL_law 15 = .ok (.astore_n 2, 1) := dk_77 (dk_at dksL_law_0 15 rfl rfl)
theorem iL_law_15 {d : Nat} {r S : List MV} {M : MH} {Q : Out → MH → Prop} {w0 w1 : MV} {o : Option Nat} {v : MV} (k : MW mL_law d 16 (w0 :: w1 :: vr o :: r) S M Q) (hok : okSt (w0 :: w1 :: v :: r) 2 = true := by rfl) : MW mL_law d 15 (w0 :: w1 :: v :: r) (vr o :: S) M Q := mw_astore_n (i := 2) ⟨dL_law_15, rfl⟩ rfl (Nat.le_of_ble_eq_true rfl) hok k
theorem dL_law_16 : decode cL_law 16 = .ok (.iconst 0, 1) := dk_3 (dk_at dksL_law_0 16 rfl rfl)
theorem iL_law_16 {d : Nat} {L S : List MV} {M : MH} {Q : Out → MH → Prop}  (k : MW mL_law d 17 (L) (vi 0 :: S) M Q) : MW mL_law d 16 (L) S M Q := mw_iconst ⟨dL_law_16, rfl⟩ k
theorem dL_law_17 : decode cL_law 17 = .ok (.istore_n 3, 1) := dk_62 (dk_at dksL_law_0 17 rfl rfl)
theorem iL_law_17 {d : Nat} {r S : List MV} {M : MH} {Q : Out → MH → Prop} {w0 w1 w2 : MV} {z : Int} {v : MV} (k : MW mL_law d 18 (w0 :: w1 :: w2 :: vi z :: r) S M Q) (hok : okSt (w0 :: w1 :: w2 :: v :: r) 3 = true := by rfl) : MW mL_law d 17 (w0 :: w1 :: w2 :: v :: r) (vi z :: S) M Q := mw_istore_n (i := 3) ⟨dL_law_17, rfl⟩ rfl (Nat.le_of_ble_eq_true rfl) hok k
theorem dL_law_18 : decode cL_law 18 = .ok (.iload_n 3, 1) := dk_29 (dk_at dksL_law_0 18 rfl rfl)
theorem iL_law_18 {d : Nat} {r S : List MV} {M : MH} {Q : Out → MH → Prop} {w0 w1 w2 : MV} {z : Int} (k : MW mL_law d 19 (w0 :: w1 :: w2 :: vi z :: r) (vi z :: S) M Q) : MW mL_law d 18 (w0 :: w1 :: w2 :: vi z :: r) S M Q := mw_iload_n ⟨dL_law_18, rfl⟩ rfl k
theorem dL_law_19 : decode cL_law 19 = .ok (.aload_n 0, 1) := dk_42 (dk_at dksL_law_0 19 rfl rfl)
theorem iL_law_19 {d : Nat} {r S : List MV} {M : MH} {Q : Out → MH → Prop} {o : Option Nat} (k : MW mL_law d 20 (vr o :: r) (vr o :: S) M Q) : MW mL_law d 19 (vr o :: r) S M Q := mw_aload_n ⟨dL_law_19, rfl⟩ rfl k
theorem dL_law_20 : decode cL_law 20 = .ok (.arraylength, 1) := dk_190 (dk_at dksL_law_0 20 rfl rfl)
theorem iL_law_20 {d : Nat} {L S : List MV} {M : MH} {Q : Out → MH → Prop} {a n ak : Nat} (hs : msh M a = (100 + ak, n)) (k : MW mL_law d 21 L (vi n :: S) M Q) : MW mL_law d 20 L (vp a :: S) M Q := mw_alen ⟨dL_law_20, rfl⟩ hs k
theorem iL_law_20E {d : Nat} {L S : List MV} {M : MH} {Q : Out → MH → Prop} (k : MW mL_law d 21 L (vi 0 :: S) M Q) : MW mL_law d 20 L (vp 0 :: S) M Q := mw_alen0 ⟨dL_law_20, rfl⟩ k
theorem dL_law_21 : decode cL_law 21 = .ok (.bipush 6, 2) := dk_16 6 (dk_at dksL_law_0 21 rfl rfl)
theorem iL_law_21 {d : Nat} {L S : List MV} {M : MH} {Q : Out → MH → Prop}  (k : MW mL_law d 23 (L) (vi 6 :: S) M Q) : MW mL_law d 21 (L) S M Q := mw_bipush ⟨dL_law_21, rfl⟩ (by decide) k
theorem dL_law_23 : decode cL_law 23 = .ok (.isub, 1) := dk_100 (dk_at dksL_law_0 23 rfl rfl)
theorem iL_law_23 {d : Nat} {L S : List MV} {M : MH} {Q : Out → MH → Prop} {a b : Int} (k : MW mL_law d 24 (L) (vi (a - b) :: S) M Q) : MW mL_law d 23 (L) (vi b :: vi a :: S) M Q := mw_isub ⟨dL_law_23, rfl⟩ k
theorem dL_law_24 : decode cL_law 24 = .ok (.if_icmp .gt 1270, 3) := dk_163 4 246 (dk_at dksL_law_1 0 rfl rfl)
theorem iL_law_24 {d : Nat} {L S : List MV} {M : MH} {Q : Out → MH → Prop} {a b : Int} (ha : inR a) (hb : inR b) (kt : b < a → MW mL_law d 1294 L S M Q) (kf : ¬ b < a → MW mL_law d 27 L S M Q) : MW mL_law d 24 L (vi b :: vi a :: S) M Q := mw_icmp_gt ⟨dL_law_24, rfl⟩ rfl ha hb kt kf
theorem dL_law_27 : decode cL_law 27 = .ok (.aload_n 0, 1) := dk_42 (dk_at dksL_law_1 3 rfl rfl)
theorem iL_law_27 {d : Nat} {r S : List MV} {M : MH} {Q : Out → MH → Prop} {o : Option Nat} (k : MW mL_law d 28 (vr o :: r) (vr o :: S) M Q) : MW mL_law d 27 (vr o :: r) S M Q := mw_aload_n ⟨dL_law_27, rfl⟩ rfl k
theorem dL_law_28 : decode cL_law 28 = .ok (.iload_n 3, 1) := dk_29 (dk_at dksL_law_1 4 rfl rfl)
theorem iL_law_28 {d : Nat} {r S : List MV} {M : MH} {Q : Out → MH → Prop} {w0 w1 w2 : MV} {z : Int} (k : MW mL_law d 29 (w0 :: w1 :: w2 :: vi z :: r) (vi z :: S) M Q) : MW mL_law d 28 (w0 :: w1 :: w2 :: vi z :: r) S M Q := mw_iload_n ⟨dL_law_28, rfl⟩ rfl k
theorem dL_law_29 : decode cL_law 29 = .ok (.iaload, 1) := dk_46 (dk_at dksL_law_1 5 rfl rfl)
theorem iL_law_29 {d : Nat} {L S : List MV} {M : MH} {Q : Out → MH → Prop} {a n : Nat} {z : Int} (hs : msh M a = (100, n)) (hi : 0 ≤ z ∧ z < n) (k : MW mL_law d 30 L (vi (miv M a z.toNat) :: S) M Q) (hn : Nat.ble n 2147483647 = true := by rfl) : MW mL_law d 29 L (vi z :: vp a :: S) M Q := mw_iaload ⟨dL_law_29, rfl⟩ hs (Nat.le_of_ble_eq_true hn) hi k
theorem dL_law_30 : decode cL_law 30 = .ok (.bipush 63, 2) := dk_16 63 (dk_at dksL_law_1 6 rfl rfl)
theorem iL_law_30 {d : Nat} {L S : List MV} {M : MH} {Q : Out → MH → Prop}  (k : MW mL_law d 32 (L) (vi 63 :: S) M Q) : MW mL_law d 30 (L) S M Q := mw_bipush ⟨dL_law_30, rfl⟩ (by decide) k
theorem dL_law_32 : decode cL_law 32 = .ok (.iand, 1) := dk_126 (dk_at dksL_law_1 8 rfl rfl)
theorem iL_law_32 {d : Nat} {L S : List MV} {M : MH} {Q : Out → MH → Prop} {a b : Int} (k : MW mL_law d 33 (L) (vi (band a b) :: S) M Q) : MW mL_law d 32 (L) (vi b :: vi a :: S) M Q := mw_iand ⟨dL_law_32, rfl⟩ k
theorem dL_law_33 : decode cL_law 33 = .ok (.tableswitch 1255 0 36 #[163, 196, 219, 242, 275, 308, 341, 374, 397, 410, 443, 476, 509, 532, 575, 618, 641, 674, 697, 720, 753, 786, 799, 822, 855, 888, 921, 934, 957, 970, 1013, 1036, 1089, 1132, 1195, 1218, 1241], 163) := by decide +kernel
theorem iL_law_33_D {d : Nat} {L S : List MV} {M : MH} {Q : Out → MH → Prop} {a : Int} (ha : inR a) (hc : a < 0 ∨ 36 < a) (k : MW mL_law d 1288 L S M Q) : MW mL_law d 33 L (vi a :: S) M Q := mw_tableOut ⟨dL_law_33, rfl⟩ rfl ha hc k
theorem iL_law_33_0 {d : Nat} {L S : List MV} {M : MH} {Q : Out → MH → Prop} (k : MW mL_law d 196 L S M Q) : MW mL_law d 33 L (vi 0 :: S) M Q := mw_tableIn ⟨dL_law_33, rfl⟩ ⟨by decide, by decide⟩ ⟨by decide, by decide⟩ rfl rfl k
theorem iL_law_33_1 {d : Nat} {L S : List MV} {M : MH} {Q : Out → MH → Prop} (k : MW mL_law d 229 L S M Q) : MW mL_law d 33 L (vi 1 :: S) M Q := mw_tableIn ⟨dL_law_33, rfl⟩ ⟨by decide, by decide⟩ ⟨by decide, by decide⟩ rfl rfl k
theorem iL_law_33_2 {d : Nat} {L S : List MV} {M : MH} {Q : Out → MH → Prop} (k : MW mL_law d 252 L S M Q) : MW mL_law d 33 L (vi 2 :: S) M Q := mw_tableIn ⟨dL_law_33, rfl⟩ ⟨by decide, by decide⟩ ⟨by decide, by decide⟩ rfl rfl k
theorem iL_law_33_3 {d : Nat} {L S : List MV} {M : MH} {Q : Out → MH → Prop} (k : MW mL_law d 275 L S M Q) : MW mL_law d 33 L (vi 3 :: S) M Q := mw_tableIn ⟨dL_law_33, rfl⟩ ⟨by decide, by decide⟩ ⟨by decide, by decide⟩ rfl rfl k
theorem iL_law_33_4 {d : Nat} {L S : List MV} {M : MH} {Q : Out → MH → Prop} (k : MW mL_law d 308 L S M Q) : MW mL_law d 33 L (vi 4 :: S) M Q := mw_tableIn ⟨dL_law_33, rfl⟩ ⟨by decide, by decide⟩ ⟨by decide, by decide⟩ rfl rfl k
theorem iL_law_33_5 {d : Nat} {L S : List MV} {M : MH} {Q : Out → MH → Prop} (k : MW mL_law d 341 L S M Q) : MW mL_law d 33 L (vi 5 :: S) M Q := mw_tableIn ⟨dL_law_33, rfl⟩ ⟨by decide, by decide⟩ ⟨by decide, by decide⟩ rfl rfl k
theorem iL_law_33_6 {d : Nat} {L S : List MV} {M : MH} {Q : Out → MH → Prop} (k : MW mL_law d 374 L S M Q) : MW mL_law d 33 L (vi 6 :: S) M Q := mw_tableIn ⟨dL_law_33, rfl⟩ ⟨by decide, by decide⟩ ⟨by decide, by decide⟩ rfl rfl k
theorem iL_law_33_7 {d : Nat} {L S : List MV} {M : MH} {Q : Out → MH → Prop} (k : MW mL_law d 407 L S M Q) : MW mL_law d 33 L (vi 7 :: S) M Q := mw_tableIn ⟨dL_law_33, rfl⟩ ⟨by decide, by decide⟩ ⟨by decide, by decide⟩ rfl rfl k
theorem iL_law_33_8 {d : Nat} {L S : List MV} {M : MH} {Q : Out → MH → Prop} (k : MW mL_law d 430 L S M Q) : MW mL_law d 33 L (vi 8 :: S) M Q := mw_tableIn ⟨dL_law_33, rfl⟩ ⟨by decide, by decide⟩ ⟨by decide, by decide⟩ rfl rfl k
theorem iL_law_33_9 {d : Nat} {L S : List MV} {M : MH} {Q : Out → MH → Prop} (k : MW mL_law d 443 L S M Q) : MW mL_law d 33 L (vi 9 :: S) M Q := mw_tableIn ⟨dL_law_33, rfl⟩ ⟨by decide, by decide⟩ ⟨by decide, by decide⟩ rfl rfl k
theorem iL_law_33_10 {d : Nat} {L S : List MV} {M : MH} {Q : Out → MH → Prop} (k : MW mL_law d 476 L S M Q) : MW mL_law d 33 L (vi 10 :: S) M Q := mw_tableIn ⟨dL_law_33, rfl⟩ ⟨by decide, by decide⟩ ⟨by decide, by decide⟩ rfl rfl k
theorem iL_law_33_11 {d : Nat} {L S : List MV} {M : MH} {Q : Out → MH → Prop} (k : MW mL_law d 509 L S M Q) : MW mL_law d 33 L (vi 11 :: S) M Q := mw_tableIn ⟨dL_law_33, rfl⟩ ⟨by decide, by decide⟩ ⟨by decide, by decide⟩ rfl rfl k
theorem iL_law_33_12 {d : Nat} {L S : List MV} {M : MH} {Q : Out → MH → Prop} (k : MW mL_law d 542 L S M Q) : MW mL_law d 33 L (vi 12 :: S) M Q := mw_tableIn ⟨dL_law_33, rfl⟩ ⟨by decide, by decide⟩ ⟨by decide, by decide⟩ rfl rfl k
theorem iL_law_33_13 {d : Nat} {L S : List MV} {M : MH} {Q : Out → MH → Prop} (k : MW mL_law d 565 L S M Q) : MW mL_law d 33 L (vi 13 :: S) M Q := mw_tableIn ⟨dL_law_33, rfl⟩ ⟨by decide, by decide⟩ ⟨by decide, by decide⟩ rfl rfl k
theorem iL_law_33_14 {d : Nat} {L S : List MV} {M : MH} {Q : Out → MH → Prop} (k : MW mL_law d 608 L S M Q) : MW mL_law d 33 L (vi 14 :: S) M Q := mw_tableIn ⟨dL_law_33, rfl⟩ ⟨by decide, by decide⟩ ⟨by decide, by decide⟩ rfl rfl k
theorem iL_law_33_15 {d : Nat} {L S : List MV} {M : MH} {Q : Out → MH → Prop} (k : MW mL_law d 651 L S M Q) : MW mL_law d 33 L (vi 15 :: S) M Q := mw_tableIn ⟨dL_law_33, rfl⟩ ⟨by decide, by decide⟩ ⟨by decide, by decide⟩ rfl rfl k
theorem iL_law_33_16 {d : Nat} {L S : List MV} {M : MH} {Q : Out → MH → Prop} (k : MW mL_law d 674 L S M Q) : MW mL_law d 33 L (vi 16 :: S) M Q := mw_tableIn ⟨dL_law_33, rfl⟩ ⟨by decide, by decide⟩ ⟨by decide, by decide⟩ rfl rfl k
theorem iL_law_33_17 {d : Nat} {L S : List MV} {M : MH} {Q : Out → MH → Prop} (k : MW mL_law d 707 L S M Q) : MW mL_law d 33 L (vi 17 :: S) M Q := mw_tableIn ⟨dL_law_33, rfl⟩ ⟨by decide, by decide⟩ ⟨by decide, by decide⟩ rfl rfl k
theorem iL_law_33_18 {d : Nat} {L S : List MV} {M : MH} {Q : Out → MH → Prop} (k : MW mL_law d 730 L S M Q) : MW mL_law d 33 L (vi 18 :: S) M Q := mw_tableIn ⟨dL_law_33, rfl⟩ ⟨by decide, by decide⟩ ⟨by decide, by decide⟩ rfl rfl k
theorem iL_law_33_19 {d : Nat} {L S : List MV} {M : MH} {Q : Out → MH → Prop} (k : MW mL_law d 753 L S M Q) : MW mL_law d 33 L (vi 19 :: S) M Q := mw_tableIn ⟨dL_law_33, rfl⟩ ⟨by decide, by decide⟩ ⟨by decide, by decide⟩ rfl rfl k
theorem iL_law_33_20 {d : Nat} {L S : List MV} {M : MH} {Q : Out → MH → Prop} (k : MW mL_law d 786 L S M Q) : MW mL_law d 33 L (vi 20 :: S) M Q := mw_tableIn ⟨dL_law_33, rfl⟩ ⟨by decide, by decide⟩ ⟨by decide, by decide⟩ rfl rfl k
theorem iL_law_33_21 {d : Nat} {L S : List MV} {M : MH} {Q : Out → MH → Prop} (k : MW mL_law d 819 L S M Q) : MW mL_law d 33 L (vi 21 :: S) M Q := mw_tableIn ⟨dL_law_33, rfl⟩ ⟨by decide, by decide⟩ ⟨by decide, by decide⟩ rfl rfl k
theorem iL_law_33_22 {d : Nat} {L S : List MV} {M : MH} {Q : Out → MH → Prop} (k : MW mL_law d 832 L S M Q) : MW mL_law d 33 L (vi 22 :: S) M Q := mw_tableIn ⟨dL_law_33, rfl⟩ ⟨by decide, by decide⟩ ⟨by decide, by decide⟩ rfl rfl k
theorem iL_law_33_23 {d : Nat} {L S : List MV} {M : MH} {Q : Out → MH → Prop} (k : MW mL_law d 855 L S M Q) : MW mL_law d 33 L (vi 23 :: S) M Q := mw_tableIn ⟨dL_law_33, rfl⟩ ⟨by decide, by decide⟩ ⟨by decide, by decide⟩ rfl rfl k
theorem iL_law_33_24 {d : Nat} {L S : List MV} {M : MH} {Q : Out → MH → Prop} (k : MW mL_law d 888 L S M Q) : MW mL_law d 33 L (vi 24 :: S) M Q := mw_tableIn ⟨dL_law_33, rfl⟩ ⟨by decide, by decide⟩ ⟨by decide, by decide⟩ rfl rfl k
theorem iL_law_33_25 {d : Nat} {L S : List MV} {M : MH} {Q : Out → MH → Prop} (k : MW mL_law d 921 L S M Q) : MW mL_law d 33 L (vi 25 :: S) M Q := mw_tableIn ⟨dL_law_33, rfl⟩ ⟨by decide, by decide⟩ ⟨by decide, by decide⟩ rfl rfl k
theorem iL_law_33_26 {d : Nat} {L S : List MV} {M : MH} {Q : Out → MH → Prop} (k : MW mL_law d 954 L S M Q) : MW mL_law d 33 L (vi 26 :: S) M Q := mw_tableIn ⟨dL_law_33, rfl⟩ ⟨by decide, by decide⟩ ⟨by decide, by decide⟩ rfl rfl k
theorem iL_law_33_27 {d : Nat} {L S : List MV} {M : MH} {Q : Out → MH → Prop} (k : MW mL_law d 967 L S M Q) : MW mL_law d 33 L (vi 27 :: S) M Q := mw_tableIn ⟨dL_law_33, rfl⟩ ⟨by decide, by decide⟩ ⟨by decide, by decide⟩ rfl rfl k
theorem iL_law_33_28 {d : Nat} {L S : List MV} {M : MH} {Q : Out → MH → Prop} (k : MW mL_law d 990 L S M Q) : MW mL_law d 33 L (vi 28 :: S) M Q := mw_tableIn ⟨dL_law_33, rfl⟩ ⟨by decide, by decide⟩ ⟨by decide, by decide⟩ rfl rfl k
theorem iL_law_33_29 {d : Nat} {L S : List MV} {M : MH} {Q : Out → MH → Prop} (k : MW mL_law d 1003 L S M Q) : MW mL_law d 33 L (vi 29 :: S) M Q := mw_tableIn ⟨dL_law_33, rfl⟩ ⟨by decide, by decide⟩ ⟨by decide, by decide⟩ rfl rfl k
theorem iL_law_33_30 {d : Nat} {L S : List MV} {M : MH} {Q : Out → MH → Prop} (k : MW mL_law d 1046 L S M Q) : MW mL_law d 33 L (vi 30 :: S) M Q := mw_tableIn ⟨dL_law_33, rfl⟩ ⟨by decide, by decide⟩ ⟨by decide, by decide⟩ rfl rfl k
theorem iL_law_33_31 {d : Nat} {L S : List MV} {M : MH} {Q : Out → MH → Prop} (k : MW mL_law d 1069 L S M Q) : MW mL_law d 33 L (vi 31 :: S) M Q := mw_tableIn ⟨dL_law_33, rfl⟩ ⟨by decide, by decide⟩ ⟨by decide, by decide⟩ rfl rfl k
theorem iL_law_33_32 {d : Nat} {L S : List MV} {M : MH} {Q : Out → MH → Prop} (k : MW mL_law d 1122 L S M Q) : MW mL_law d 33 L (vi 32 :: S) M Q := mw_tableIn ⟨dL_law_33, rfl⟩ ⟨by decide, by decide⟩ ⟨by decide, by decide⟩ rfl rfl k
theorem iL_law_33_33 {d : Nat} {L S : List MV} {M : MH} {Q : Out → MH → Prop} (k : MW mL_law d 1165 L S M Q) : MW mL_law d 33 L (vi 33 :: S) M Q := mw_tableIn ⟨dL_law_33, rfl⟩ ⟨by decide, by decide⟩ ⟨by decide, by decide⟩ rfl rfl k
theorem iL_law_33_34 {d : Nat} {L S : List MV} {M : MH} {Q : Out → MH → Prop} (k : MW mL_law d 1228 L S M Q) : MW mL_law d 33 L (vi 34 :: S) M Q := mw_tableIn ⟨dL_law_33, rfl⟩ ⟨by decide, by decide⟩ ⟨by decide, by decide⟩ rfl rfl k
theorem iL_law_33_35 {d : Nat} {L S : List MV} {M : MH} {Q : Out → MH → Prop} (k : MW mL_law d 1251 L S M Q) : MW mL_law d 33 L (vi 35 :: S) M Q := mw_tableIn ⟨dL_law_33, rfl⟩ ⟨by decide, by decide⟩ ⟨by decide, by decide⟩ rfl rfl k
theorem iL_law_33_36 {d : Nat} {L S : List MV} {M : MH} {Q : Out → MH → Prop} (k : MW mL_law d 1274 L S M Q) : MW mL_law d 33 L (vi 36 :: S) M Q := mw_tableIn ⟨dL_law_33, rfl⟩ ⟨by decide, by decide⟩ ⟨by decide, by decide⟩ rfl rfl k
theorem dL_law_196 : decode cL_law 196 = .ok (.aload_n 1, 1) := dk_43 (dk_at dksL_law_3 0 rfl rfl)
theorem iL_law_196 {d : Nat} {r S : List MV} {M : MH} {Q : Out → MH → Prop} {w0 : MV} {o : Option Nat} (k : MW mL_law d 197 (w0 :: vr o :: r) (vr o :: S) M Q) : MW mL_law d 196 (w0 :: vr o :: r) S M Q := mw_aload_n ⟨dL_law_196, rfl⟩ rfl k
theorem dL_law_197 : decode cL_law 197 = .ok (.aload_n 0, 1) := dk_42 (dk_at dksL_law_3 1 rfl rfl)
theorem iL_law_197 {d : Nat} {r S : List MV} {M : MH} {Q : Out → MH → Prop} {o : Option Nat} (k : MW mL_law d 198 (vr o :: r) (vr o :: S) M Q) : MW mL_law d 197 (vr o :: r) S M Q := mw_aload_n ⟨dL_law_197, rfl⟩ rfl k
theorem dL_law_198 : decode cL_law 198 = .ok (.iload_n 3, 1) := dk_29 (dk_at dksL_law_3 2 rfl rfl)
theorem iL_law_198 {d : Nat} {r S : List MV} {M : MH} {Q : Out → MH → Prop} {w0 w1 w2 : MV} {z : Int} (k : MW mL_law d 199 (w0 :: w1 :: w2 :: vi z :: r) (vi z :: S) M Q) : MW mL_law d 198 (w0 :: w1 :: w2 :: vi z :: r) S M Q := mw_iload_n ⟨dL_law_198, rfl⟩ rfl k
theorem dL_law_199 : decode cL_law 199 = .ok (.iconst 1, 1) := dk_4 (dk_at dksL_law_3 3 rfl rfl)
theorem iL_law_199 {d : Nat} {L S : List MV} {M : MH} {Q : Out → MH → Prop}  (k : MW mL_law d 200 (L) (vi 1 :: S) M Q) : MW mL_law d 199 (L) S M Q := mw_iconst ⟨dL_law_199, rfl⟩ k
theorem dL_law_200 : decode cL_law 200 = .ok (.iadd, 1) := dk_96 (dk_at dksL_law_3 4 rfl rfl)
theorem iL_law_200 {d : Nat} {L S : List MV} {M : MH} {Q : Out → MH → Prop} {a b : Int} (k : MW mL_law d 201 (L) (vi (a + b) :: S) M Q) : MW mL_law d 200 (L) (vi b :: vi a :: S) M Q := mw_iadd ⟨dL_law_200, rfl⟩ k
theorem dL_law_201 : decode cL_law 201 = .ok (.iaload, 1) := dk_46 (dk_at dksL_law_3 5 rfl rfl)
theorem iL_law_201 {d : Nat} {L S : List MV} {M : MH} {Q : Out → MH → Prop} {a n : Nat} {z : Int} (hs : msh M a = (100, n)) (hi : 0 ≤ z ∧ z < n) (k : MW mL_law d 202 L (vi (miv M a z.toNat) :: S) M Q) (hn : Nat.ble n 2147483647 = true := by rfl) : MW mL_law d 201 L (vi z :: vp a :: S) M Q := mw_iaload ⟨dL_law_201, rfl⟩ hs (Nat.le_of_ble_eq_true hn) hi k
theorem dL_law_202 : decode cL_law 202 = .ok (.aload_n 0, 1) := dk_42 (dk_at dksL_law_3 6 rfl rfl)
theorem iL_law_202 {d : Nat} {r S : List MV} {M : MH} {Q : Out → MH → Prop} {o : Option Nat} (k : MW mL_law d 203 (vr o :: r) (vr o :: S) M Q) : MW mL_law d 202 (vr o :: r) S M Q := mw_aload_n ⟨dL_law_202, rfl⟩ rfl k
theorem dL_law_203 : decode cL_law 203 = .ok (.iload_n 3, 1) := dk_29 (dk_at dksL_law_3 7 rfl rfl)
theorem iL_law_203 {d : Nat} {r S : List MV} {M : MH} {Q : Out → MH → Prop} {w0 w1 w2 : MV} {z : Int} (k : MW mL_law d 204 (w0 :: w1 :: w2 :: vi z :: r) (vi z :: S) M Q) : MW mL_law d 203 (w0 :: w1 :: w2 :: vi z :: r) S M Q := mw_iload_n ⟨dL_law_203, rfl⟩ rfl k
theorem dL_law_204 : decode cL_law 204 = .ok (.iconst 2, 1) := dk_5 (dk_at dksL_law_3 8 rfl rfl)
theorem iL_law_204 {d : Nat} {L S : List MV} {M : MH} {Q : Out → MH → Prop}  (k : MW mL_law d 205 (L) (vi 2 :: S) M Q) : MW mL_law d 204 (L) S M Q := mw_iconst ⟨dL_law_204, rfl⟩ k
theorem dL_law_205 : decode cL_law 205 = .ok (.iadd, 1) := dk_96 (dk_at dksL_law_3 9 rfl rfl)
theorem iL_law_205 {d : Nat} {L S : List MV} {M : MH} {Q : Out → MH → Prop} {a b : Int} (k : MW mL_law d 206 (L) (vi (a + b) :: S) M Q) : MW mL_law d 205 (L) (vi b :: vi a :: S) M Q := mw_iadd ⟨dL_law_205, rfl⟩ k
theorem dL_law_206 : decode cL_law 206 = .ok (.iaload, 1) := dk_46 (dk_at dksL_law_3 10 rfl rfl)
theorem iL_law_206 {d : Nat} {L S : List MV} {M : MH} {Q : Out → MH → Prop} {a n : Nat} {z : Int} (hs : msh M a = (100, n)) (hi : 0 ≤ z ∧ z < n) (k : MW mL_law d 207 L (vi (miv M a z.toNat) :: S) M Q) (hn : Nat.ble n 2147483647 = true := by rfl) : MW mL_law d 206 L (vi z :: vp a :: S) M Q := mw_iaload ⟨dL_law_206, rfl⟩ hs (Nat.le_of_ble_eq_true hn) hi k
theorem dL_law_207 : decode cL_law 207 = .ok (.invokevirtual 13, 3) := dk_182 0 13 (dk_at dksL_law_3 11 rfl rfl)
theorem iL_law_207 {d : Nat} {L S : List MV} {M : MH} {Q : Out → MH → Prop} {v1 v2 : MV} {b : Nat} {P : Int → MH → Prop} (hs : (msh M b).1 = 0) (hM : MCi mX0_type d [vp b, v1, v2] M P) (k : ∀ z M', P z M' → MW mL_law (d + 1) 210 L (vi z :: S) M' Q) (h8 : Nat.ble (S.map mcat).sum 8 = true := by rfl) : MW mL_law (d + 1) 207 L (v2 :: v1 :: vp b :: S) M Q := mw_calli (as := [vp b, v1, v2]) (site_V (Y' := mX0_type) (n := 2) ⟨dL_law_207, rfl⟩ (Or.inl q331) q332 q333 wX0_type nX0_type hX0_type (cls_of (ci := 0) rfl hs) rfl) kX0_type (Nat.le_of_ble_eq_true h8) hM k
theorem dL_law_210 : decode cL_law 210 = .ok (.aload_n 2, 1) := dk_44 (dk_at dksL_law_3 14 rfl rfl)
theorem iL_law_210 {d : Nat} {r S : List MV} {M : MH} {Q : Out → MH → Prop} {w0 w1 : MV} {o : Option Nat} (k : MW mL_law d 211 (w0 :: w1 :: vr o :: r) (vr o :: S) M Q) : MW mL_law d 210 (w0 :: w1 :: vr o :: r) S M Q := mw_aload_n ⟨dL_law_210, rfl⟩ rfl k
theorem dL_law_211 : decode cL_law 211 = .ok (.aload_n 0, 1) := dk_42 (dk_at dksL_law_3 15 rfl rfl)
theorem iL_law_211 {d : Nat} {r S : List MV} {M : MH} {Q : Out → MH → Prop} {o : Option Nat} (k : MW mL_law d 212 (vr o :: r) (vr o :: S) M Q) : MW mL_law d 211 (vr o :: r) S M Q := mw_aload_n ⟨dL_law_211, rfl⟩ rfl k
theorem dL_law_212 : decode cL_law 212 = .ok (.iload_n 3, 1) := dk_29 (dk_at dksL_law_3 16 rfl rfl)
theorem iL_law_212 {d : Nat} {r S : List MV} {M : MH} {Q : Out → MH → Prop} {w0 w1 w2 : MV} {z : Int} (k : MW mL_law d 213 (w0 :: w1 :: w2 :: vi z :: r) (vi z :: S) M Q) : MW mL_law d 212 (w0 :: w1 :: w2 :: vi z :: r) S M Q := mw_iload_n ⟨dL_law_212, rfl⟩ rfl k
theorem dL_law_213 : decode cL_law 213 = .ok (.iconst 1, 1) := dk_4 (dk_at dksL_law_3 17 rfl rfl)
theorem iL_law_213 {d : Nat} {L S : List MV} {M : MH} {Q : Out → MH → Prop}  (k : MW mL_law d 214 (L) (vi 1 :: S) M Q) : MW mL_law d 213 (L) S M Q := mw_iconst ⟨dL_law_213, rfl⟩ k
theorem dL_law_214 : decode cL_law 214 = .ok (.iadd, 1) := dk_96 (dk_at dksL_law_3 18 rfl rfl)
theorem iL_law_214 {d : Nat} {L S : List MV} {M : MH} {Q : Out → MH → Prop} {a b : Int} (k : MW mL_law d 215 (L) (vi (a + b) :: S) M Q) : MW mL_law d 214 (L) (vi b :: vi a :: S) M Q := mw_iadd ⟨dL_law_214, rfl⟩ k
theorem dL_law_215 : decode cL_law 215 = .ok (.iaload, 1) := dk_46 (dk_at dksL_law_3 19 rfl rfl)
theorem iL_law_215 {d : Nat} {L S : List MV} {M : MH} {Q : Out → MH → Prop} {a n : Nat} {z : Int} (hs : msh M a = (100, n)) (hi : 0 ≤ z ∧ z < n) (k : MW mL_law d 216 L (vi (miv M a z.toNat) :: S) M Q) (hn : Nat.ble n 2147483647 = true := by rfl) : MW mL_law d 215 L (vi z :: vp a :: S) M Q := mw_iaload ⟨dL_law_215, rfl⟩ hs (Nat.le_of_ble_eq_true hn) hi k
theorem dL_law_216 : decode cL_law 216 = .ok (.aload_n 0, 1) := dk_42 (dk_at dksL_law_3 20 rfl rfl)
theorem iL_law_216 {d : Nat} {r S : List MV} {M : MH} {Q : Out → MH → Prop} {o : Option Nat} (k : MW mL_law d 217 (vr o :: r) (vr o :: S) M Q) : MW mL_law d 216 (vr o :: r) S M Q := mw_aload_n ⟨dL_law_216, rfl⟩ rfl k
theorem dL_law_217 : decode cL_law 217 = .ok (.iload_n 3, 1) := dk_29 (dk_at dksL_law_3 21 rfl rfl)
theorem iL_law_217 {d : Nat} {r S : List MV} {M : MH} {Q : Out → MH → Prop} {w0 w1 w2 : MV} {z : Int} (k : MW mL_law d 218 (w0 :: w1 :: w2 :: vi z :: r) (vi z :: S) M Q) : MW mL_law d 217 (w0 :: w1 :: w2 :: vi z :: r) S M Q := mw_iload_n ⟨dL_law_217, rfl⟩ rfl k
theorem dL_law_218 : decode cL_law 218 = .ok (.iconst 2, 1) := dk_5 (dk_at dksL_law_3 22 rfl rfl)
theorem iL_law_218 {d : Nat} {L S : List MV} {M : MH} {Q : Out → MH → Prop}  (k : MW mL_law d 219 (L) (vi 2 :: S) M Q) : MW mL_law d 218 (L) S M Q := mw_iconst ⟨dL_law_218, rfl⟩ k
theorem dL_law_219 : decode cL_law 219 = .ok (.iadd, 1) := dk_96 (dk_at dksL_law_3 23 rfl rfl)
theorem iL_law_219 {d : Nat} {L S : List MV} {M : MH} {Q : Out → MH → Prop} {a b : Int} (k : MW mL_law d 220 (L) (vi (a + b) :: S) M Q) : MW mL_law d 219 (L) (vi b :: vi a :: S) M Q := mw_iadd ⟨dL_law_219, rfl⟩ k
theorem dL_law_220 : decode cL_law 220 = .ok (.iaload, 1) := dk_46 (dk_at dksL_law_4 0 rfl rfl)
theorem iL_law_220 {d : Nat} {L S : List MV} {M : MH} {Q : Out → MH → Prop} {a n : Nat} {z : Int} (hs : msh M a = (100, n)) (hi : 0 ≤ z ∧ z < n) (k : MW mL_law d 221 L (vi (miv M a z.toNat) :: S) M Q) (hn : Nat.ble n 2147483647 = true := by rfl) : MW mL_law d 220 L (vi z :: vp a :: S) M Q := mw_iaload ⟨dL_law_220, rfl⟩ hs (Nat.le_of_ble_eq_true hn) hi k
theorem dL_law_221 : decode cL_law 221 = .ok (.invokevirtual 17, 3) := dk_182 0 17 (dk_at dksL_law_4 1 rfl rfl)
theorem iL_law_221 {d : Nat} {L S : List MV} {M : MH} {Q : Out → MH → Prop} {v1 v2 : MV} {b : Nat} {P : Int → MH → Prop} (hs : (msh M b).1 = 10) (hM : MCi mX7_type d [vp b, v1, v2] M P) (k : ∀ z M', P z M' → MW mL_law (d + 1) 224 L (vi z :: S) M' Q) (h8 : Nat.ble (S.map mcat).sum 8 = true := by rfl) : MW mL_law (d + 1) 221 L (v2 :: v1 :: vp b :: S) M Q := mw_calli (as := [vp b, v1, v2]) (site_V (Y' := mX7_type) (n := 2) ⟨dL_law_221, rfl⟩ (Or.inl q1269) q1270 q1271 wX7_type nX7_type hX7_type (cls_of (ci := 10) rfl hs) rfl) kX7_type (Nat.le_of_ble_eq_true h8) hM k
theorem dL_law_224 : decode cL_law 224 = .ok (.if_icmp .eq 1064, 3) := dk_159 4 40 (dk_at dksL_law_4 4 rfl rfl)
theorem iL_law_224 {d : Nat} {L S : List MV} {M : MH} {Q : Out → MH → Prop} {a b : Int} (ha : inR a) (hb : inR b) (kt : a = b → MW mL_law d 1288 L S M Q) (kf : ¬ a = b → MW mL_law d 227 L S M Q) : MW mL_law d 224 L (vi b :: vi a :: S) M Q := mw_icmp_eq ⟨dL_law_224, rfl⟩ rfl ha hb kt kf
theorem dL_law_227 : decode cL_law 227 = .ok (.iconst 0, 1) := dk_3 (dk_at dksL_law_4 7 rfl rfl)
theorem iL_law_227 {d : Nat} {L S : List MV} {M : MH} {Q : Out → MH → Prop}  (k : MW mL_law d 228 (L) (vi 0 :: S) M Q) : MW mL_law d 227 (L) S M Q := mw_iconst ⟨dL_law_227, rfl⟩ k
theorem dL_law_228 : decode cL_law 228 = .ok (.ireturn, 1) := dk_172 (dk_at dksL_law_4 8 rfl rfl)
theorem iL_law_228 {d : Nat} {L : List MV} {M : MH} {P : Int → MH → Prop} {z : Int} (hz : z = 0 ∨ z = 1) (hq : P z M) : MW mL_law d 228 L [vi z] M (Ri P) := mw_retz ⟨dL_law_228, rfl⟩ rfl hz hq
theorem dL_law_229 : decode cL_law 229 = .ok (.aload_n 1, 1) := dk_43 (dk_at dksL_law_4 9 rfl rfl)
theorem iL_law_229 {d : Nat} {r S : List MV} {M : MH} {Q : Out → MH → Prop} {w0 : MV} {o : Option Nat} (k : MW mL_law d 230 (w0 :: vr o :: r) (vr o :: S) M Q) : MW mL_law d 229 (w0 :: vr o :: r) S M Q := mw_aload_n ⟨dL_law_229, rfl⟩ rfl k
theorem dL_law_230 : decode cL_law 230 = .ok (.aload_n 0, 1) := dk_42 (dk_at dksL_law_4 10 rfl rfl)
theorem iL_law_230 {d : Nat} {r S : List MV} {M : MH} {Q : Out → MH → Prop} {o : Option Nat} (k : MW mL_law d 231 (vr o :: r) (vr o :: S) M Q) : MW mL_law d 230 (vr o :: r) S M Q := mw_aload_n ⟨dL_law_230, rfl⟩ rfl k
theorem dL_law_231 : decode cL_law 231 = .ok (.iload_n 3, 1) := dk_29 (dk_at dksL_law_4 11 rfl rfl)
theorem iL_law_231 {d : Nat} {r S : List MV} {M : MH} {Q : Out → MH → Prop} {w0 w1 w2 : MV} {z : Int} (k : MW mL_law d 232 (w0 :: w1 :: w2 :: vi z :: r) (vi z :: S) M Q) : MW mL_law d 231 (w0 :: w1 :: w2 :: vi z :: r) S M Q := mw_iload_n ⟨dL_law_231, rfl⟩ rfl k
theorem dL_law_232 : decode cL_law 232 = .ok (.iconst 1, 1) := dk_4 (dk_at dksL_law_4 12 rfl rfl)
theorem iL_law_232 {d : Nat} {L S : List MV} {M : MH} {Q : Out → MH → Prop}  (k : MW mL_law d 233 (L) (vi 1 :: S) M Q) : MW mL_law d 232 (L) S M Q := mw_iconst ⟨dL_law_232, rfl⟩ k
theorem dL_law_233 : decode cL_law 233 = .ok (.iadd, 1) := dk_96 (dk_at dksL_law_4 13 rfl rfl)
theorem iL_law_233 {d : Nat} {L S : List MV} {M : MH} {Q : Out → MH → Prop} {a b : Int} (k : MW mL_law d 234 (L) (vi (a + b) :: S) M Q) : MW mL_law d 233 (L) (vi b :: vi a :: S) M Q := mw_iadd ⟨dL_law_233, rfl⟩ k
theorem dL_law_234 : decode cL_law 234 = .ok (.iaload, 1) := dk_46 (dk_at dksL_law_4 14 rfl rfl)
theorem iL_law_234 {d : Nat} {L S : List MV} {M : MH} {Q : Out → MH → Prop} {a n : Nat} {z : Int} (hs : msh M a = (100, n)) (hi : 0 ≤ z ∧ z < n) (k : MW mL_law d 235 L (vi (miv M a z.toNat) :: S) M Q) (hn : Nat.ble n 2147483647 = true := by rfl) : MW mL_law d 234 L (vi z :: vp a :: S) M Q := mw_iaload ⟨dL_law_234, rfl⟩ hs (Nat.le_of_ble_eq_true hn) hi k
theorem dL_law_235 : decode cL_law 235 = .ok (.invokevirtual 18, 3) := dk_182 0 18 (dk_at dksL_law_4 15 rfl rfl)
theorem iL_law_235 {d : Nat} {L S : List MV} {M : MH} {Q : Out → MH → Prop} {v1 : MV} {b : Nat} {P : Int → MH → Prop} (hs : (msh M b).1 = 0) (hM : MCi mX0_wipe d [vp b, v1] M P) (k : ∀ z M', P z M' → MW mL_law (d + 1) 238 L (vi z :: S) M' Q) (h8 : Nat.ble (S.map mcat).sum 8 = true := by rfl) : MW mL_law (d + 1) 235 L (v1 :: vp b :: S) M Q := mw_calli (as := [vp b, v1]) (site_V (Y' := mX0_wipe) (n := 1) ⟨dL_law_235, rfl⟩ (Or.inl q351) q352 q353 wX0_wipe nX0_wipe hX0_wipe (cls_of (ci := 0) rfl hs) rfl) kX0_wipe (Nat.le_of_ble_eq_true h8) hM k
theorem dL_law_238 : decode cL_law 238 = .ok (.aload_n 2, 1) := dk_44 (dk_at dksL_law_4 18 rfl rfl)
theorem iL_law_238 {d : Nat} {r S : List MV} {M : MH} {Q : Out → MH → Prop} {w0 w1 : MV} {o : Option Nat} (k : MW mL_law d 239 (w0 :: w1 :: vr o :: r) (vr o :: S) M Q) : MW mL_law d 238 (w0 :: w1 :: vr o :: r) S M Q := mw_aload_n ⟨dL_law_238, rfl⟩ rfl k
theorem dL_law_239 : decode cL_law 239 = .ok (.aload_n 0, 1) := dk_42 (dk_at dksL_law_4 19 rfl rfl)
theorem iL_law_239 {d : Nat} {r S : List MV} {M : MH} {Q : Out → MH → Prop} {o : Option Nat} (k : MW mL_law d 240 (vr o :: r) (vr o :: S) M Q) : MW mL_law d 239 (vr o :: r) S M Q := mw_aload_n ⟨dL_law_239, rfl⟩ rfl k
theorem dL_law_240 : decode cL_law 240 = .ok (.iload_n 3, 1) := dk_29 (dk_at dksL_law_4 20 rfl rfl)
theorem iL_law_240 {d : Nat} {r S : List MV} {M : MH} {Q : Out → MH → Prop} {w0 w1 w2 : MV} {z : Int} (k : MW mL_law d 241 (w0 :: w1 :: w2 :: vi z :: r) (vi z :: S) M Q) : MW mL_law d 240 (w0 :: w1 :: w2 :: vi z :: r) S M Q := mw_iload_n ⟨dL_law_240, rfl⟩ rfl k
theorem dL_law_241 : decode cL_law 241 = .ok (.iconst 1, 1) := dk_4 (dk_at dksL_law_4 21 rfl rfl)
theorem iL_law_241 {d : Nat} {L S : List MV} {M : MH} {Q : Out → MH → Prop}  (k : MW mL_law d 242 (L) (vi 1 :: S) M Q) : MW mL_law d 241 (L) S M Q := mw_iconst ⟨dL_law_241, rfl⟩ k
theorem dL_law_242 : decode cL_law 242 = .ok (.iadd, 1) := dk_96 (dk_at dksL_law_4 22 rfl rfl)
theorem iL_law_242 {d : Nat} {L S : List MV} {M : MH} {Q : Out → MH → Prop} {a b : Int} (k : MW mL_law d 243 (L) (vi (a + b) :: S) M Q) : MW mL_law d 242 (L) (vi b :: vi a :: S) M Q := mw_iadd ⟨dL_law_242, rfl⟩ k
theorem dL_law_243 : decode cL_law 243 = .ok (.iaload, 1) := dk_46 (dk_at dksL_law_4 23 rfl rfl)
theorem iL_law_243 {d : Nat} {L S : List MV} {M : MH} {Q : Out → MH → Prop} {a n : Nat} {z : Int} (hs : msh M a = (100, n)) (hi : 0 ≤ z ∧ z < n) (k : MW mL_law d 244 L (vi (miv M a z.toNat) :: S) M Q) (hn : Nat.ble n 2147483647 = true := by rfl) : MW mL_law d 243 L (vi z :: vp a :: S) M Q := mw_iaload ⟨dL_law_243, rfl⟩ hs (Nat.le_of_ble_eq_true hn) hi k
theorem dL_law_244 : decode cL_law 244 = .ok (.invokevirtual 22, 3) := dk_182 0 22 (dk_at dksL_law_5 0 rfl rfl)
theorem iL_law_244 {d : Nat} {L S : List MV} {M : MH} {Q : Out → MH → Prop} {v1 : MV} {b : Nat} {P : Int → MH → Prop} (hs : (msh M b).1 = 10) (hM : MCi mX7_wipe d [vp b, v1] M P) (k : ∀ z M', P z M' → MW mL_law (d + 1) 247 L (vi z :: S) M' Q) (h8 : Nat.ble (S.map mcat).sum 8 = true := by rfl) : MW mL_law (d + 1) 244 L (v1 :: vp b :: S) M Q := mw_calli (as := [vp b, v1]) (site_V (Y' := mX7_wipe) (n := 1) ⟨dL_law_244, rfl⟩ (Or.inl q1276) q1277 q1278 wX7_wipe nX7_wipe hX7_wipe (cls_of (ci := 10) rfl hs) rfl) kX7_wipe (Nat.le_of_ble_eq_true h8) hM k
theorem dL_law_247 : decode cL_law 247 = .ok (.if_icmp .eq 1041, 3) := dk_159 4 17 (dk_at dksL_law_5 3 rfl rfl)
theorem iL_law_247 {d : Nat} {L S : List MV} {M : MH} {Q : Out → MH → Prop} {a b : Int} (ha : inR a) (hb : inR b) (kt : a = b → MW mL_law d 1288 L S M Q) (kf : ¬ a = b → MW mL_law d 250 L S M Q) : MW mL_law d 247 L (vi b :: vi a :: S) M Q := mw_icmp_eq ⟨dL_law_247, rfl⟩ rfl ha hb kt kf
theorem dL_law_250 : decode cL_law 250 = .ok (.iconst 0, 1) := dk_3 (dk_at dksL_law_5 6 rfl rfl)
theorem iL_law_250 {d : Nat} {L S : List MV} {M : MH} {Q : Out → MH → Prop}  (k : MW mL_law d 251 (L) (vi 0 :: S) M Q) : MW mL_law d 250 (L) S M Q := mw_iconst ⟨dL_law_250, rfl⟩ k
theorem dL_law_251 : decode cL_law 251 = .ok (.ireturn, 1) := dk_172 (dk_at dksL_law_5 7 rfl rfl)
theorem iL_law_251 {d : Nat} {L : List MV} {M : MH} {P : Int → MH → Prop} {z : Int} (hz : z = 0 ∨ z = 1) (hq : P z M) : MW mL_law d 251 L [vi z] M (Ri P) := mw_retz ⟨dL_law_251, rfl⟩ rfl hz hq
theorem dL_law_252 : decode cL_law 252 = .ok (.aload_n 1, 1) := dk_43 (dk_at dksL_law_5 8 rfl rfl)
theorem iL_law_252 {d : Nat} {r S : List MV} {M : MH} {Q : Out → MH → Prop} {w0 : MV} {o : Option Nat} (k : MW mL_law d 253 (w0 :: vr o :: r) (vr o :: S) M Q) : MW mL_law d 252 (w0 :: vr o :: r) S M Q := mw_aload_n ⟨dL_law_252, rfl⟩ rfl k
theorem dL_law_253 : decode cL_law 253 = .ok (.aload_n 0, 1) := dk_42 (dk_at dksL_law_5 9 rfl rfl)
theorem iL_law_253 {d : Nat} {r S : List MV} {M : MH} {Q : Out → MH → Prop} {o : Option Nat} (k : MW mL_law d 254 (vr o :: r) (vr o :: S) M Q) : MW mL_law d 253 (vr o :: r) S M Q := mw_aload_n ⟨dL_law_253, rfl⟩ rfl k
theorem dL_law_254 : decode cL_law 254 = .ok (.iload_n 3, 1) := dk_29 (dk_at dksL_law_5 10 rfl rfl)
theorem iL_law_254 {d : Nat} {r S : List MV} {M : MH} {Q : Out → MH → Prop} {w0 w1 w2 : MV} {z : Int} (k : MW mL_law d 255 (w0 :: w1 :: w2 :: vi z :: r) (vi z :: S) M Q) : MW mL_law d 254 (w0 :: w1 :: w2 :: vi z :: r) S M Q := mw_iload_n ⟨dL_law_254, rfl⟩ rfl k
theorem dL_law_255 : decode cL_law 255 = .ok (.iconst 1, 1) := dk_4 (dk_at dksL_law_5 11 rfl rfl)
theorem iL_law_255 {d : Nat} {L S : List MV} {M : MH} {Q : Out → MH → Prop}  (k : MW mL_law d 256 (L) (vi 1 :: S) M Q) : MW mL_law d 255 (L) S M Q := mw_iconst ⟨dL_law_255, rfl⟩ k
theorem dL_law_256 : decode cL_law 256 = .ok (.iadd, 1) := dk_96 (dk_at dksL_law_5 12 rfl rfl)
theorem iL_law_256 {d : Nat} {L S : List MV} {M : MH} {Q : Out → MH → Prop} {a b : Int} (k : MW mL_law d 257 (L) (vi (a + b) :: S) M Q) : MW mL_law d 256 (L) (vi b :: vi a :: S) M Q := mw_iadd ⟨dL_law_256, rfl⟩ k
theorem dL_law_257 : decode cL_law 257 = .ok (.iaload, 1) := dk_46 (dk_at dksL_law_5 13 rfl rfl)
theorem iL_law_257 {d : Nat} {L S : List MV} {M : MH} {Q : Out → MH → Prop} {a n : Nat} {z : Int} (hs : msh M a = (100, n)) (hi : 0 ≤ z ∧ z < n) (k : MW mL_law d 258 L (vi (miv M a z.toNat) :: S) M Q) (hn : Nat.ble n 2147483647 = true := by rfl) : MW mL_law d 257 L (vi z :: vp a :: S) M Q := mw_iaload ⟨dL_law_257, rfl⟩ hs (Nat.le_of_ble_eq_true hn) hi k
theorem dL_law_258 : decode cL_law 258 = .ok (.invokevirtual 23, 3) := dk_182 0 23 (dk_at dksL_law_5 14 rfl rfl)
theorem iL_law_258 {d : Nat} {L S : List MV} {M : MH} {Q : Out → MH → Prop} {v1 : MV} {b : Nat} {P : Int → MH → Prop} (hs : (msh M b).1 = 0) (hM : MCi mX0_fault d [vp b, v1] M P) (k : ∀ z M', P z M' → MW mL_law (d + 1) 261 L (vi z :: S) M' Q) (h8 : Nat.ble (S.map mcat).sum 8 = true := by rfl) : MW mL_law (d + 1) 258 L (v1 :: vp b :: S) M Q := mw_calli (as := [vp b, v1]) (site_V (Y' := mX0_fault) (n := 1) ⟨dL_law_258, rfl⟩ (Or.inl q364) q365 q366 wX0_fault nX0_fault hX0_fault (cls_of (ci := 0) rfl hs) rfl) kX0_fault (Nat.le_of_ble_eq_true h8) hM k
theorem dL_law_261 : decode cL_law 261 = .ok (.aload_n 2, 1) := dk_44 (dk_at dksL_law_5 17 rfl rfl)
theorem iL_law_261 {d : Nat} {r S : List MV} {M : MH} {Q : Out → MH → Prop} {w0 w1 : MV} {o : Option Nat} (k : MW mL_law d 262 (w0 :: w1 :: vr o :: r) (vr o :: S) M Q) : MW mL_law d 261 (w0 :: w1 :: vr o :: r) S M Q := mw_aload_n ⟨dL_law_261, rfl⟩ rfl k
theorem dL_law_262 : decode cL_law 262 = .ok (.aload_n 0, 1) := dk_42 (dk_at dksL_law_5 18 rfl rfl)
theorem iL_law_262 {d : Nat} {r S : List MV} {M : MH} {Q : Out → MH → Prop} {o : Option Nat} (k : MW mL_law d 263 (vr o :: r) (vr o :: S) M Q) : MW mL_law d 262 (vr o :: r) S M Q := mw_aload_n ⟨dL_law_262, rfl⟩ rfl k
theorem dL_law_263 : decode cL_law 263 = .ok (.iload_n 3, 1) := dk_29 (dk_at dksL_law_5 19 rfl rfl)
theorem iL_law_263 {d : Nat} {r S : List MV} {M : MH} {Q : Out → MH → Prop} {w0 w1 w2 : MV} {z : Int} (k : MW mL_law d 264 (w0 :: w1 :: w2 :: vi z :: r) (vi z :: S) M Q) : MW mL_law d 263 (w0 :: w1 :: w2 :: vi z :: r) S M Q := mw_iload_n ⟨dL_law_263, rfl⟩ rfl k
theorem dL_law_264 : decode cL_law 264 = .ok (.iconst 1, 1) := dk_4 (dk_at dksL_law_5 20 rfl rfl)
theorem iL_law_264 {d : Nat} {L S : List MV} {M : MH} {Q : Out → MH → Prop}  (k : MW mL_law d 265 (L) (vi 1 :: S) M Q) : MW mL_law d 264 (L) S M Q := mw_iconst ⟨dL_law_264, rfl⟩ k
theorem dL_law_265 : decode cL_law 265 = .ok (.iadd, 1) := dk_96 (dk_at dksL_law_5 21 rfl rfl)
theorem iL_law_265 {d : Nat} {L S : List MV} {M : MH} {Q : Out → MH → Prop} {a b : Int} (k : MW mL_law d 266 (L) (vi (a + b) :: S) M Q) : MW mL_law d 265 (L) (vi b :: vi a :: S) M Q := mw_iadd ⟨dL_law_265, rfl⟩ k
theorem dL_law_266 : decode cL_law 266 = .ok (.iaload, 1) := dk_46 (dk_at dksL_law_5 22 rfl rfl)
theorem iL_law_266 {d : Nat} {L S : List MV} {M : MH} {Q : Out → MH → Prop} {a n : Nat} {z : Int} (hs : msh M a = (100, n)) (hi : 0 ≤ z ∧ z < n) (k : MW mL_law d 267 L (vi (miv M a z.toNat) :: S) M Q) (hn : Nat.ble n 2147483647 = true := by rfl) : MW mL_law d 266 L (vi z :: vp a :: S) M Q := mw_iaload ⟨dL_law_266, rfl⟩ hs (Nat.le_of_ble_eq_true hn) hi k
theorem dL_law_267 : decode cL_law 267 = .ok (.invokevirtual 26, 3) := dk_182 0 26 (dk_at dksL_law_6 0 rfl rfl)
theorem iL_law_267 {d : Nat} {L S : List MV} {M : MH} {Q : Out → MH → Prop} {v1 : MV} {b : Nat} {P : Int → MH → Prop} (hs : (msh M b).1 = 10) (hM : MCi mX7_fault d [vp b, v1] M P) (k : ∀ z M', P z M' → MW mL_law (d + 1) 270 L (vi z :: S) M' Q) (h8 : Nat.ble (S.map mcat).sum 8 = true := by rfl) : MW mL_law (d + 1) 267 L (v1 :: vp b :: S) M Q := mw_calli (as := [vp b, v1]) (site_V (Y' := mX7_fault) (n := 1) ⟨dL_law_267, rfl⟩ (Or.inl q1280) q1281 q1282 wX7_fault nX7_fault hX7_fault (cls_of (ci := 10) rfl hs) rfl) kX7_fault (Nat.le_of_ble_eq_true h8) hM k
theorem dL_law_270 : decode cL_law 270 = .ok (.if_icmp .eq 1018, 3) := dk_159 3 250 (dk_at dksL_law_6 3 rfl rfl)
theorem iL_law_270 {d : Nat} {L S : List MV} {M : MH} {Q : Out → MH → Prop} {a b : Int} (ha : inR a) (hb : inR b) (kt : a = b → MW mL_law d 1288 L S M Q) (kf : ¬ a = b → MW mL_law d 273 L S M Q) : MW mL_law d 270 L (vi b :: vi a :: S) M Q := mw_icmp_eq ⟨dL_law_270, rfl⟩ rfl ha hb kt kf
theorem dL_law_273 : decode cL_law 273 = .ok (.iconst 0, 1) := dk_3 (dk_at dksL_law_6 6 rfl rfl)
theorem iL_law_273 {d : Nat} {L S : List MV} {M : MH} {Q : Out → MH → Prop}  (k : MW mL_law d 274 (L) (vi 0 :: S) M Q) : MW mL_law d 273 (L) S M Q := mw_iconst ⟨dL_law_273, rfl⟩ k
theorem dL_law_274 : decode cL_law 274 = .ok (.ireturn, 1) := dk_172 (dk_at dksL_law_6 7 rfl rfl)
theorem iL_law_274 {d : Nat} {L : List MV} {M : MH} {P : Int → MH → Prop} {z : Int} (hz : z = 0 ∨ z = 1) (hq : P z M) : MW mL_law d 274 L [vi z] M (Ri P) := mw_retz ⟨dL_law_274, rfl⟩ rfl hz hq
theorem dL_law_275 : decode cL_law 275 = .ok (.aload_n 1, 1) := dk_43 (dk_at dksL_law_6 8 rfl rfl)
theorem iL_law_275 {d : Nat} {r S : List MV} {M : MH} {Q : Out → MH → Prop} {w0 : MV} {o : Option Nat} (k : MW mL_law d 276 (w0 :: vr o :: r) (vr o :: S) M Q) : MW mL_law d 275 (w0 :: vr o :: r) S M Q := mw_aload_n ⟨dL_law_275, rfl⟩ rfl k
theorem dL_law_276 : decode cL_law 276 = .ok (.aload_n 0, 1) := dk_42 (dk_at dksL_law_6 9 rfl rfl)
theorem iL_law_276 {d : Nat} {r S : List MV} {M : MH} {Q : Out → MH → Prop} {o : Option Nat} (k : MW mL_law d 277 (vr o :: r) (vr o :: S) M Q) : MW mL_law d 276 (vr o :: r) S M Q := mw_aload_n ⟨dL_law_276, rfl⟩ rfl k
theorem dL_law_277 : decode cL_law 277 = .ok (.iload_n 3, 1) := dk_29 (dk_at dksL_law_6 10 rfl rfl)
theorem iL_law_277 {d : Nat} {r S : List MV} {M : MH} {Q : Out → MH → Prop} {w0 w1 w2 : MV} {z : Int} (k : MW mL_law d 278 (w0 :: w1 :: w2 :: vi z :: r) (vi z :: S) M Q) : MW mL_law d 277 (w0 :: w1 :: w2 :: vi z :: r) S M Q := mw_iload_n ⟨dL_law_277, rfl⟩ rfl k
theorem dL_law_278 : decode cL_law 278 = .ok (.iconst 1, 1) := dk_4 (dk_at dksL_law_6 11 rfl rfl)
theorem iL_law_278 {d : Nat} {L S : List MV} {M : MH} {Q : Out → MH → Prop}  (k : MW mL_law d 279 (L) (vi 1 :: S) M Q) : MW mL_law d 278 (L) S M Q := mw_iconst ⟨dL_law_278, rfl⟩ k
theorem dL_law_279 : decode cL_law 279 = .ok (.iadd, 1) := dk_96 (dk_at dksL_law_6 12 rfl rfl)
theorem iL_law_279 {d : Nat} {L S : List MV} {M : MH} {Q : Out → MH → Prop} {a b : Int} (k : MW mL_law d 280 (L) (vi (a + b) :: S) M Q) : MW mL_law d 279 (L) (vi b :: vi a :: S) M Q := mw_iadd ⟨dL_law_279, rfl⟩ k
theorem dL_law_280 : decode cL_law 280 = .ok (.iaload, 1) := dk_46 (dk_at dksL_law_6 13 rfl rfl)
theorem iL_law_280 {d : Nat} {L S : List MV} {M : MH} {Q : Out → MH → Prop} {a n : Nat} {z : Int} (hs : msh M a = (100, n)) (hi : 0 ≤ z ∧ z < n) (k : MW mL_law d 281 L (vi (miv M a z.toNat) :: S) M Q) (hn : Nat.ble n 2147483647 = true := by rfl) : MW mL_law d 280 L (vi z :: vp a :: S) M Q := mw_iaload ⟨dL_law_280, rfl⟩ hs (Nat.le_of_ble_eq_true hn) hi k
theorem dL_law_281 : decode cL_law 281 = .ok (.aload_n 0, 1) := dk_42 (dk_at dksL_law_6 14 rfl rfl)
theorem iL_law_281 {d : Nat} {r S : List MV} {M : MH} {Q : Out → MH → Prop} {o : Option Nat} (k : MW mL_law d 282 (vr o :: r) (vr o :: S) M Q) : MW mL_law d 281 (vr o :: r) S M Q := mw_aload_n ⟨dL_law_281, rfl⟩ rfl k
theorem dL_law_282 : decode cL_law 282 = .ok (.iload_n 3, 1) := dk_29 (dk_at dksL_law_6 15 rfl rfl)
theorem iL_law_282 {d : Nat} {r S : List MV} {M : MH} {Q : Out → MH → Prop} {w0 w1 w2 : MV} {z : Int} (k : MW mL_law d 283 (w0 :: w1 :: w2 :: vi z :: r) (vi z :: S) M Q) : MW mL_law d 282 (w0 :: w1 :: w2 :: vi z :: r) S M Q := mw_iload_n ⟨dL_law_282, rfl⟩ rfl k
theorem dL_law_283 : decode cL_law 283 = .ok (.iconst 2, 1) := dk_5 (dk_at dksL_law_6 16 rfl rfl)
theorem iL_law_283 {d : Nat} {L S : List MV} {M : MH} {Q : Out → MH → Prop}  (k : MW mL_law d 284 (L) (vi 2 :: S) M Q) : MW mL_law d 283 (L) S M Q := mw_iconst ⟨dL_law_283, rfl⟩ k
theorem dL_law_284 : decode cL_law 284 = .ok (.iadd, 1) := dk_96 (dk_at dksL_law_6 17 rfl rfl)
theorem iL_law_284 {d : Nat} {L S : List MV} {M : MH} {Q : Out → MH → Prop} {a b : Int} (k : MW mL_law d 285 (L) (vi (a + b) :: S) M Q) : MW mL_law d 284 (L) (vi b :: vi a :: S) M Q := mw_iadd ⟨dL_law_284, rfl⟩ k
theorem dL_law_285 : decode cL_law 285 = .ok (.iaload, 1) := dk_46 (dk_at dksL_law_6 18 rfl rfl)
theorem iL_law_285 {d : Nat} {L S : List MV} {M : MH} {Q : Out → MH → Prop} {a n : Nat} {z : Int} (hs : msh M a = (100, n)) (hi : 0 ≤ z ∧ z < n) (k : MW mL_law d 286 L (vi (miv M a z.toNat) :: S) M Q) (hn : Nat.ble n 2147483647 = true := by rfl) : MW mL_law d 285 L (vi z :: vp a :: S) M Q := mw_iaload ⟨dL_law_285, rfl⟩ hs (Nat.le_of_ble_eq_true hn) hi k
theorem dL_law_286 : decode cL_law 286 = .ok (.invokevirtual 27, 3) := dk_182 0 27 (dk_at dksL_law_6 19 rfl rfl)
theorem iL_law_286 {d : Nat} {L S : List MV} {M : MH} {Q : Out → MH → Prop} {v1 v2 : MV} {b : Nat} {P : Int → MH → Prop} (hs : (msh M b).1 = 0) (hM : MCi mX0_house d [vp b, v1, v2] M P) (k : ∀ z M', P z M' → MW mL_law (d + 1) 289 L (vi z :: S) M' Q) (h8 : Nat.ble (S.map mcat).sum 8 = true := by rfl) : MW mL_law (d + 1) 286 L (v2 :: v1 :: vp b :: S) M Q := mw_calli (as := [vp b, v1, v2]) (site_V (Y' := mX0_house) (n := 2) ⟨dL_law_286, rfl⟩ (Or.inl q623) q624 q625 wX0_house nX0_house hX0_house (cls_of (ci := 0) rfl hs) rfl) kX0_house (Nat.le_of_ble_eq_true h8) hM k
theorem dL_law_289 : decode cL_law 289 = .ok (.aload_n 2, 1) := dk_44 (dk_at dksL_law_6 22 rfl rfl)
theorem iL_law_289 {d : Nat} {r S : List MV} {M : MH} {Q : Out → MH → Prop} {w0 w1 : MV} {o : Option Nat} (k : MW mL_law d 290 (w0 :: w1 :: vr o :: r) (vr o :: S) M Q) : MW mL_law d 289 (w0 :: w1 :: vr o :: r) S M Q := mw_aload_n ⟨dL_law_289, rfl⟩ rfl k
theorem dL_law_290 : decode cL_law 290 = .ok (.aload_n 0, 1) := dk_42 (dk_at dksL_law_6 23 rfl rfl)
theorem iL_law_290 {d : Nat} {r S : List MV} {M : MH} {Q : Out → MH → Prop} {o : Option Nat} (k : MW mL_law d 291 (vr o :: r) (vr o :: S) M Q) : MW mL_law d 290 (vr o :: r) S M Q := mw_aload_n ⟨dL_law_290, rfl⟩ rfl k
theorem dL_law_291 : decode cL_law 291 = .ok (.iload_n 3, 1) := dk_29 (dk_at dksL_law_7 0 rfl rfl)
theorem iL_law_291 {d : Nat} {r S : List MV} {M : MH} {Q : Out → MH → Prop} {w0 w1 w2 : MV} {z : Int} (k : MW mL_law d 292 (w0 :: w1 :: w2 :: vi z :: r) (vi z :: S) M Q) : MW mL_law d 291 (w0 :: w1 :: w2 :: vi z :: r) S M Q := mw_iload_n ⟨dL_law_291, rfl⟩ rfl k
theorem dL_law_292 : decode cL_law 292 = .ok (.iconst 1, 1) := dk_4 (dk_at dksL_law_7 1 rfl rfl)
theorem iL_law_292 {d : Nat} {L S : List MV} {M : MH} {Q : Out → MH → Prop}  (k : MW mL_law d 293 (L) (vi 1 :: S) M Q) : MW mL_law d 292 (L) S M Q := mw_iconst ⟨dL_law_292, rfl⟩ k
theorem dL_law_293 : decode cL_law 293 = .ok (.iadd, 1) := dk_96 (dk_at dksL_law_7 2 rfl rfl)
theorem iL_law_293 {d : Nat} {L S : List MV} {M : MH} {Q : Out → MH → Prop} {a b : Int} (k : MW mL_law d 294 (L) (vi (a + b) :: S) M Q) : MW mL_law d 293 (L) (vi b :: vi a :: S) M Q := mw_iadd ⟨dL_law_293, rfl⟩ k
theorem dL_law_294 : decode cL_law 294 = .ok (.iaload, 1) := dk_46 (dk_at dksL_law_7 3 rfl rfl)
theorem iL_law_294 {d : Nat} {L S : List MV} {M : MH} {Q : Out → MH → Prop} {a n : Nat} {z : Int} (hs : msh M a = (100, n)) (hi : 0 ≤ z ∧ z < n) (k : MW mL_law d 295 L (vi (miv M a z.toNat) :: S) M Q) (hn : Nat.ble n 2147483647 = true := by rfl) : MW mL_law d 294 L (vi z :: vp a :: S) M Q := mw_iaload ⟨dL_law_294, rfl⟩ hs (Nat.le_of_ble_eq_true hn) hi k
theorem dL_law_295 : decode cL_law 295 = .ok (.aload_n 0, 1) := dk_42 (dk_at dksL_law_7 4 rfl rfl)
theorem iL_law_295 {d : Nat} {r S : List MV} {M : MH} {Q : Out → MH → Prop} {o : Option Nat} (k : MW mL_law d 296 (vr o :: r) (vr o :: S) M Q) : MW mL_law d 295 (vr o :: r) S M Q := mw_aload_n ⟨dL_law_295, rfl⟩ rfl k
theorem dL_law_296 : decode cL_law 296 = .ok (.iload_n 3, 1) := dk_29 (dk_at dksL_law_7 5 rfl rfl)
theorem iL_law_296 {d : Nat} {r S : List MV} {M : MH} {Q : Out → MH → Prop} {w0 w1 w2 : MV} {z : Int} (k : MW mL_law d 297 (w0 :: w1 :: w2 :: vi z :: r) (vi z :: S) M Q) : MW mL_law d 296 (w0 :: w1 :: w2 :: vi z :: r) S M Q := mw_iload_n ⟨dL_law_296, rfl⟩ rfl k
theorem dL_law_297 : decode cL_law 297 = .ok (.iconst 2, 1) := dk_5 (dk_at dksL_law_7 6 rfl rfl)
theorem iL_law_297 {d : Nat} {L S : List MV} {M : MH} {Q : Out → MH → Prop}  (k : MW mL_law d 298 (L) (vi 2 :: S) M Q) : MW mL_law d 297 (L) S M Q := mw_iconst ⟨dL_law_297, rfl⟩ k
theorem dL_law_298 : decode cL_law 298 = .ok (.iadd, 1) := dk_96 (dk_at dksL_law_7 7 rfl rfl)
theorem iL_law_298 {d : Nat} {L S : List MV} {M : MH} {Q : Out → MH → Prop} {a b : Int} (k : MW mL_law d 299 (L) (vi (a + b) :: S) M Q) : MW mL_law d 298 (L) (vi b :: vi a :: S) M Q := mw_iadd ⟨dL_law_298, rfl⟩ k
theorem dL_law_299 : decode cL_law 299 = .ok (.iaload, 1) := dk_46 (dk_at dksL_law_7 8 rfl rfl)
theorem iL_law_299 {d : Nat} {L S : List MV} {M : MH} {Q : Out → MH → Prop} {a n : Nat} {z : Int} (hs : msh M a = (100, n)) (hi : 0 ≤ z ∧ z < n) (k : MW mL_law d 300 L (vi (miv M a z.toNat) :: S) M Q) (hn : Nat.ble n 2147483647 = true := by rfl) : MW mL_law d 299 L (vi z :: vp a :: S) M Q := mw_iaload ⟨dL_law_299, rfl⟩ hs (Nat.le_of_ble_eq_true hn) hi k
theorem dL_law_300 : decode cL_law 300 = .ok (.invokevirtual 30, 3) := dk_182 0 30 (dk_at dksL_law_7 9 rfl rfl)
theorem iL_law_300 {d : Nat} {L S : List MV} {M : MH} {Q : Out → MH → Prop} {v1 v2 : MV} {b : Nat} {P : Int → MH → Prop} (hs : (msh M b).1 = 10) (hM : MCi mX7_house d [vp b, v1, v2] M P) (k : ∀ z M', P z M' → MW mL_law (d + 1) 303 L (vi z :: S) M' Q) (h8 : Nat.ble (S.map mcat).sum 8 = true := by rfl) : MW mL_law (d + 1) 300 L (v2 :: v1 :: vp b :: S) M Q := mw_calli (as := [vp b, v1, v2]) (site_V (Y' := mX7_house) (n := 2) ⟨dL_law_300, rfl⟩ (Or.inl q1300) q1301 q1302 wX7_house nX7_house hX7_house (cls_of (ci := 10) rfl hs) rfl) kX7_house (Nat.le_of_ble_eq_true h8) hM k
theorem dL_law_303 : decode cL_law 303 = .ok (.if_icmp .eq 985, 3) := dk_159 3 217 (dk_at dksL_law_7 12 rfl rfl)
theorem iL_law_303 {d : Nat} {L S : List MV} {M : MH} {Q : Out → MH → Prop} {a b : Int} (ha : inR a) (hb : inR b) (kt : a = b → MW mL_law d 1288 L S M Q) (kf : ¬ a = b → MW mL_law d 306 L S M Q) : MW mL_law d 303 L (vi b :: vi a :: S) M Q := mw_icmp_eq ⟨dL_law_303, rfl⟩ rfl ha hb kt kf
theorem dL_law_306 : decode cL_law 306 = .ok (.iconst 0, 1) := dk_3 (dk_at dksL_law_7 15 rfl rfl)
theorem iL_law_306 {d : Nat} {L S : List MV} {M : MH} {Q : Out → MH → Prop}  (k : MW mL_law d 307 (L) (vi 0 :: S) M Q) : MW mL_law d 306 (L) S M Q := mw_iconst ⟨dL_law_306, rfl⟩ k
theorem dL_law_307 : decode cL_law 307 = .ok (.ireturn, 1) := dk_172 (dk_at dksL_law_7 16 rfl rfl)
theorem iL_law_307 {d : Nat} {L : List MV} {M : MH} {P : Int → MH → Prop} {z : Int} (hz : z = 0 ∨ z = 1) (hq : P z M) : MW mL_law d 307 L [vi z] M (Ri P) := mw_retz ⟨dL_law_307, rfl⟩ rfl hz hq
theorem dL_law_308 : decode cL_law 308 = .ok (.aload_n 1, 1) := dk_43 (dk_at dksL_law_7 17 rfl rfl)
theorem iL_law_308 {d : Nat} {r S : List MV} {M : MH} {Q : Out → MH → Prop} {w0 : MV} {o : Option Nat} (k : MW mL_law d 309 (w0 :: vr o :: r) (vr o :: S) M Q) : MW mL_law d 308 (w0 :: vr o :: r) S M Q := mw_aload_n ⟨dL_law_308, rfl⟩ rfl k
theorem dL_law_309 : decode cL_law 309 = .ok (.aload_n 0, 1) := dk_42 (dk_at dksL_law_7 18 rfl rfl)
theorem iL_law_309 {d : Nat} {r S : List MV} {M : MH} {Q : Out → MH → Prop} {o : Option Nat} (k : MW mL_law d 310 (vr o :: r) (vr o :: S) M Q) : MW mL_law d 309 (vr o :: r) S M Q := mw_aload_n ⟨dL_law_309, rfl⟩ rfl k
theorem dL_law_310 : decode cL_law 310 = .ok (.iload_n 3, 1) := dk_29 (dk_at dksL_law_7 19 rfl rfl)
theorem iL_law_310 {d : Nat} {r S : List MV} {M : MH} {Q : Out → MH → Prop} {w0 w1 w2 : MV} {z : Int} (k : MW mL_law d 311 (w0 :: w1 :: w2 :: vi z :: r) (vi z :: S) M Q) : MW mL_law d 310 (w0 :: w1 :: w2 :: vi z :: r) S M Q := mw_iload_n ⟨dL_law_310, rfl⟩ rfl k
theorem dL_law_311 : decode cL_law 311 = .ok (.iconst 1, 1) := dk_4 (dk_at dksL_law_7 20 rfl rfl)
theorem iL_law_311 {d : Nat} {L S : List MV} {M : MH} {Q : Out → MH → Prop}  (k : MW mL_law d 312 (L) (vi 1 :: S) M Q) : MW mL_law d 311 (L) S M Q := mw_iconst ⟨dL_law_311, rfl⟩ k
theorem dL_law_312 : decode cL_law 312 = .ok (.iadd, 1) := dk_96 (dk_at dksL_law_7 21 rfl rfl)
theorem iL_law_312 {d : Nat} {L S : List MV} {M : MH} {Q : Out → MH → Prop} {a b : Int} (k : MW mL_law d 313 (L) (vi (a + b) :: S) M Q) : MW mL_law d 312 (L) (vi b :: vi a :: S) M Q := mw_iadd ⟨dL_law_312, rfl⟩ k
theorem dL_law_313 : decode cL_law 313 = .ok (.iaload, 1) := dk_46 (dk_at dksL_law_7 22 rfl rfl)
theorem iL_law_313 {d : Nat} {L S : List MV} {M : MH} {Q : Out → MH → Prop} {a n : Nat} {z : Int} (hs : msh M a = (100, n)) (hi : 0 ≤ z ∧ z < n) (k : MW mL_law d 314 L (vi (miv M a z.toNat) :: S) M Q) (hn : Nat.ble n 2147483647 = true := by rfl) : MW mL_law d 313 L (vi z :: vp a :: S) M Q := mw_iaload ⟨dL_law_313, rfl⟩ hs (Nat.le_of_ble_eq_true hn) hi k
theorem dL_law_314 : decode cL_law 314 = .ok (.aload_n 0, 1) := dk_42 (dk_at dksL_law_7 23 rfl rfl)
theorem iL_law_314 {d : Nat} {r S : List MV} {M : MH} {Q : Out → MH → Prop} {o : Option Nat} (k : MW mL_law d 315 (vr o :: r) (vr o :: S) M Q) : MW mL_law d 314 (vr o :: r) S M Q := mw_aload_n ⟨dL_law_314, rfl⟩ rfl k
theorem dL_law_315 : decode cL_law 315 = .ok (.iload_n 3, 1) := dk_29 (dk_at dksL_law_8 0 rfl rfl)
theorem iL_law_315 {d : Nat} {r S : List MV} {M : MH} {Q : Out → MH → Prop} {w0 w1 w2 : MV} {z : Int} (k : MW mL_law d 316 (w0 :: w1 :: w2 :: vi z :: r) (vi z :: S) M Q) : MW mL_law d 315 (w0 :: w1 :: w2 :: vi z :: r) S M Q := mw_iload_n ⟨dL_law_315, rfl⟩ rfl k
theorem dL_law_316 : decode cL_law 316 = .ok (.iconst 2, 1) := dk_5 (dk_at dksL_law_8 1 rfl rfl)
theorem iL_law_316 {d : Nat} {L S : List MV} {M : MH} {Q : Out → MH → Prop}  (k : MW mL_law d 317 (L) (vi 2 :: S) M Q) : MW mL_law d 316 (L) S M Q := mw_iconst ⟨dL_law_316, rfl⟩ k
theorem dL_law_317 : decode cL_law 317 = .ok (.iadd, 1) := dk_96 (dk_at dksL_law_8 2 rfl rfl)
theorem iL_law_317 {d : Nat} {L S : List MV} {M : MH} {Q : Out → MH → Prop} {a b : Int} (k : MW mL_law d 318 (L) (vi (a + b) :: S) M Q) : MW mL_law d 317 (L) (vi b :: vi a :: S) M Q := mw_iadd ⟨dL_law_317, rfl⟩ k
theorem dL_law_318 : decode cL_law 318 = .ok (.iaload, 1) := dk_46 (dk_at dksL_law_8 3 rfl rfl)
theorem iL_law_318 {d : Nat} {L S : List MV} {M : MH} {Q : Out → MH → Prop} {a n : Nat} {z : Int} (hs : msh M a = (100, n)) (hi : 0 ≤ z ∧ z < n) (k : MW mL_law d 319 L (vi (miv M a z.toNat) :: S) M Q) (hn : Nat.ble n 2147483647 = true := by rfl) : MW mL_law d 318 L (vi z :: vp a :: S) M Q := mw_iaload ⟨dL_law_318, rfl⟩ hs (Nat.le_of_ble_eq_true hn) hi k
theorem dL_law_319 : decode cL_law 319 = .ok (.invokevirtual 31, 3) := dk_182 0 31 (dk_at dksL_law_8 4 rfl rfl)
theorem iL_law_319 {d : Nat} {L S : List MV} {M : MH} {Q : Out → MH → Prop} {v1 v2 : MV} {b : Nat} {P : Int → MH → Prop} (hs : (msh M b).1 = 0) (hM : MCi mX0_person_2 d [vp b, v1, v2] M P) (k : ∀ z M', P z M' → MW mL_law (d + 1) 322 L (vi z :: S) M' Q) (h8 : Nat.ble (S.map mcat).sum 8 = true := by rfl) : MW mL_law (d + 1) 319 L (v2 :: v1 :: vp b :: S) M Q := mw_calli (as := [vp b, v1, v2]) (site_V (Y' := mX0_person_2) (n := 2) ⟨dL_law_319, rfl⟩ (Or.inl q695) q696 q697 wX0_person_2 nX0_person_2 hX0_person_2 (cls_of (ci := 0) rfl hs) rfl) kX0_person_2 (Nat.le_of_ble_eq_true h8) hM k
theorem dL_law_322 : decode cL_law 322 = .ok (.aload_n 2, 1) := dk_44 (dk_at dksL_law_8 7 rfl rfl)
theorem iL_law_322 {d : Nat} {r S : List MV} {M : MH} {Q : Out → MH → Prop} {w0 w1 : MV} {o : Option Nat} (k : MW mL_law d 323 (w0 :: w1 :: vr o :: r) (vr o :: S) M Q) : MW mL_law d 322 (w0 :: w1 :: vr o :: r) S M Q := mw_aload_n ⟨dL_law_322, rfl⟩ rfl k
theorem dL_law_323 : decode cL_law 323 = .ok (.aload_n 0, 1) := dk_42 (dk_at dksL_law_8 8 rfl rfl)
theorem iL_law_323 {d : Nat} {r S : List MV} {M : MH} {Q : Out → MH → Prop} {o : Option Nat} (k : MW mL_law d 324 (vr o :: r) (vr o :: S) M Q) : MW mL_law d 323 (vr o :: r) S M Q := mw_aload_n ⟨dL_law_323, rfl⟩ rfl k
theorem dL_law_324 : decode cL_law 324 = .ok (.iload_n 3, 1) := dk_29 (dk_at dksL_law_8 9 rfl rfl)
theorem iL_law_324 {d : Nat} {r S : List MV} {M : MH} {Q : Out → MH → Prop} {w0 w1 w2 : MV} {z : Int} (k : MW mL_law d 325 (w0 :: w1 :: w2 :: vi z :: r) (vi z :: S) M Q) : MW mL_law d 324 (w0 :: w1 :: w2 :: vi z :: r) S M Q := mw_iload_n ⟨dL_law_324, rfl⟩ rfl k
theorem dL_law_325 : decode cL_law 325 = .ok (.iconst 1, 1) := dk_4 (dk_at dksL_law_8 10 rfl rfl)
theorem iL_law_325 {d : Nat} {L S : List MV} {M : MH} {Q : Out → MH → Prop}  (k : MW mL_law d 326 (L) (vi 1 :: S) M Q) : MW mL_law d 325 (L) S M Q := mw_iconst ⟨dL_law_325, rfl⟩ k
theorem dL_law_326 : decode cL_law 326 = .ok (.iadd, 1) := dk_96 (dk_at dksL_law_8 11 rfl rfl)
theorem iL_law_326 {d : Nat} {L S : List MV} {M : MH} {Q : Out → MH → Prop} {a b : Int} (k : MW mL_law d 327 (L) (vi (a + b) :: S) M Q) : MW mL_law d 326 (L) (vi b :: vi a :: S) M Q := mw_iadd ⟨dL_law_326, rfl⟩ k
theorem dL_law_327 : decode cL_law 327 = .ok (.iaload, 1) := dk_46 (dk_at dksL_law_8 12 rfl rfl)
theorem iL_law_327 {d : Nat} {L S : List MV} {M : MH} {Q : Out → MH → Prop} {a n : Nat} {z : Int} (hs : msh M a = (100, n)) (hi : 0 ≤ z ∧ z < n) (k : MW mL_law d 328 L (vi (miv M a z.toNat) :: S) M Q) (hn : Nat.ble n 2147483647 = true := by rfl) : MW mL_law d 327 L (vi z :: vp a :: S) M Q := mw_iaload ⟨dL_law_327, rfl⟩ hs (Nat.le_of_ble_eq_true hn) hi k
theorem dL_law_328 : decode cL_law 328 = .ok (.aload_n 0, 1) := dk_42 (dk_at dksL_law_8 13 rfl rfl)
theorem iL_law_328 {d : Nat} {r S : List MV} {M : MH} {Q : Out → MH → Prop} {o : Option Nat} (k : MW mL_law d 329 (vr o :: r) (vr o :: S) M Q) : MW mL_law d 328 (vr o :: r) S M Q := mw_aload_n ⟨dL_law_328, rfl⟩ rfl k
theorem dL_law_329 : decode cL_law 329 = .ok (.iload_n 3, 1) := dk_29 (dk_at dksL_law_8 14 rfl rfl)
theorem iL_law_329 {d : Nat} {r S : List MV} {M : MH} {Q : Out → MH → Prop} {w0 w1 w2 : MV} {z : Int} (k : MW mL_law d 330 (w0 :: w1 :: w2 :: vi z :: r) (vi z :: S) M Q) : MW mL_law d 329 (w0 :: w1 :: w2 :: vi z :: r) S M Q := mw_iload_n ⟨dL_law_329, rfl⟩ rfl k
theorem dL_law_330 : decode cL_law 330 = .ok (.iconst 2, 1) := dk_5 (dk_at dksL_law_8 15 rfl rfl)
theorem iL_law_330 {d : Nat} {L S : List MV} {M : MH} {Q : Out → MH → Prop}  (k : MW mL_law d 331 (L) (vi 2 :: S) M Q) : MW mL_law d 330 (L) S M Q := mw_iconst ⟨dL_law_330, rfl⟩ k
theorem dL_law_331 : decode cL_law 331 = .ok (.iadd, 1) := dk_96 (dk_at dksL_law_8 16 rfl rfl)
theorem iL_law_331 {d : Nat} {L S : List MV} {M : MH} {Q : Out → MH → Prop} {a b : Int} (k : MW mL_law d 332 (L) (vi (a + b) :: S) M Q) : MW mL_law d 331 (L) (vi b :: vi a :: S) M Q := mw_iadd ⟨dL_law_331, rfl⟩ k
theorem dL_law_332 : decode cL_law 332 = .ok (.iaload, 1) := dk_46 (dk_at dksL_law_8 17 rfl rfl)
theorem iL_law_332 {d : Nat} {L S : List MV} {M : MH} {Q : Out → MH → Prop} {a n : Nat} {z : Int} (hs : msh M a = (100, n)) (hi : 0 ≤ z ∧ z < n) (k : MW mL_law d 333 L (vi (miv M a z.toNat) :: S) M Q) (hn : Nat.ble n 2147483647 = true := by rfl) : MW mL_law d 332 L (vi z :: vp a :: S) M Q := mw_iaload ⟨dL_law_332, rfl⟩ hs (Nat.le_of_ble_eq_true hn) hi k
theorem dL_law_333 : decode cL_law 333 = .ok (.invokevirtual 34, 3) := dk_182 0 34 (dk_at dksL_law_8 18 rfl rfl)
theorem iL_law_333 {d : Nat} {L S : List MV} {M : MH} {Q : Out → MH → Prop} {v1 v2 : MV} {b : Nat} {P : Int → MH → Prop} (hs : (msh M b).1 = 10) (hM : MCi mX7_person d [vp b, v1, v2] M P) (k : ∀ z M', P z M' → MW mL_law (d + 1) 336 L (vi z :: S) M' Q) (h8 : Nat.ble (S.map mcat).sum 8 = true := by rfl) : MW mL_law (d + 1) 333 L (v2 :: v1 :: vp b :: S) M Q := mw_calli (as := [vp b, v1, v2]) (site_V (Y' := mX7_person) (n := 2) ⟨dL_law_333, rfl⟩ (Or.inl q1316) q1317 q1318 wX7_person nX7_person hX7_person (cls_of (ci := 10) rfl hs) rfl) kX7_person (Nat.le_of_ble_eq_true h8) hM k
theorem dL_law_336 : decode cL_law 336 = .ok (.if_icmp .eq 952, 3) := dk_159 3 184 (dk_at dksL_law_8 21 rfl rfl)
theorem iL_law_336 {d : Nat} {L S : List MV} {M : MH} {Q : Out → MH → Prop} {a b : Int} (ha : inR a) (hb : inR b) (kt : a = b → MW mL_law d 1288 L S M Q) (kf : ¬ a = b → MW mL_law d 339 L S M Q) : MW mL_law d 336 L (vi b :: vi a :: S) M Q := mw_icmp_eq ⟨dL_law_336, rfl⟩ rfl ha hb kt kf
theorem dL_law_339 : decode cL_law 339 = .ok (.iconst 0, 1) := dk_3 (dk_at dksL_law_9 0 rfl rfl)
theorem iL_law_339 {d : Nat} {L S : List MV} {M : MH} {Q : Out → MH → Prop}  (k : MW mL_law d 340 (L) (vi 0 :: S) M Q) : MW mL_law d 339 (L) S M Q := mw_iconst ⟨dL_law_339, rfl⟩ k
theorem dL_law_340 : decode cL_law 340 = .ok (.ireturn, 1) := dk_172 (dk_at dksL_law_9 1 rfl rfl)
theorem iL_law_340 {d : Nat} {L : List MV} {M : MH} {P : Int → MH → Prop} {z : Int} (hz : z = 0 ∨ z = 1) (hq : P z M) : MW mL_law d 340 L [vi z] M (Ri P) := mw_retz ⟨dL_law_340, rfl⟩ rfl hz hq
theorem dL_law_341 : decode cL_law 341 = .ok (.aload_n 1, 1) := dk_43 (dk_at dksL_law_9 2 rfl rfl)
theorem iL_law_341 {d : Nat} {r S : List MV} {M : MH} {Q : Out → MH → Prop} {w0 : MV} {o : Option Nat} (k : MW mL_law d 342 (w0 :: vr o :: r) (vr o :: S) M Q) : MW mL_law d 341 (w0 :: vr o :: r) S M Q := mw_aload_n ⟨dL_law_341, rfl⟩ rfl k
theorem dL_law_342 : decode cL_law 342 = .ok (.aload_n 0, 1) := dk_42 (dk_at dksL_law_9 3 rfl rfl)
theorem iL_law_342 {d : Nat} {r S : List MV} {M : MH} {Q : Out → MH → Prop} {o : Option Nat} (k : MW mL_law d 343 (vr o :: r) (vr o :: S) M Q) : MW mL_law d 342 (vr o :: r) S M Q := mw_aload_n ⟨dL_law_342, rfl⟩ rfl k
theorem dL_law_343 : decode cL_law 343 = .ok (.iload_n 3, 1) := dk_29 (dk_at dksL_law_9 4 rfl rfl)
theorem iL_law_343 {d : Nat} {r S : List MV} {M : MH} {Q : Out → MH → Prop} {w0 w1 w2 : MV} {z : Int} (k : MW mL_law d 344 (w0 :: w1 :: w2 :: vi z :: r) (vi z :: S) M Q) : MW mL_law d 343 (w0 :: w1 :: w2 :: vi z :: r) S M Q := mw_iload_n ⟨dL_law_343, rfl⟩ rfl k
theorem dL_law_344 : decode cL_law 344 = .ok (.iconst 1, 1) := dk_4 (dk_at dksL_law_9 5 rfl rfl)
theorem iL_law_344 {d : Nat} {L S : List MV} {M : MH} {Q : Out → MH → Prop}  (k : MW mL_law d 345 (L) (vi 1 :: S) M Q) : MW mL_law d 344 (L) S M Q := mw_iconst ⟨dL_law_344, rfl⟩ k
theorem dL_law_345 : decode cL_law 345 = .ok (.iadd, 1) := dk_96 (dk_at dksL_law_9 6 rfl rfl)
theorem iL_law_345 {d : Nat} {L S : List MV} {M : MH} {Q : Out → MH → Prop} {a b : Int} (k : MW mL_law d 346 (L) (vi (a + b) :: S) M Q) : MW mL_law d 345 (L) (vi b :: vi a :: S) M Q := mw_iadd ⟨dL_law_345, rfl⟩ k
theorem dL_law_346 : decode cL_law 346 = .ok (.iaload, 1) := dk_46 (dk_at dksL_law_9 7 rfl rfl)
theorem iL_law_346 {d : Nat} {L S : List MV} {M : MH} {Q : Out → MH → Prop} {a n : Nat} {z : Int} (hs : msh M a = (100, n)) (hi : 0 ≤ z ∧ z < n) (k : MW mL_law d 347 L (vi (miv M a z.toNat) :: S) M Q) (hn : Nat.ble n 2147483647 = true := by rfl) : MW mL_law d 346 L (vi z :: vp a :: S) M Q := mw_iaload ⟨dL_law_346, rfl⟩ hs (Nat.le_of_ble_eq_true hn) hi k
theorem dL_law_347 : decode cL_law 347 = .ok (.aload_n 0, 1) := dk_42 (dk_at dksL_law_9 8 rfl rfl)
theorem iL_law_347 {d : Nat} {r S : List MV} {M : MH} {Q : Out → MH → Prop} {o : Option Nat} (k : MW mL_law d 348 (vr o :: r) (vr o :: S) M Q) : MW mL_law d 347 (vr o :: r) S M Q := mw_aload_n ⟨dL_law_347, rfl⟩ rfl k
theorem dL_law_348 : decode cL_law 348 = .ok (.iload_n 3, 1) := dk_29 (dk_at dksL_law_9 9 rfl rfl)
theorem iL_law_348 {d : Nat} {r S : List MV} {M : MH} {Q : Out → MH → Prop} {w0 w1 w2 : MV} {z : Int} (k : MW mL_law d 349 (w0 :: w1 :: w2 :: vi z :: r) (vi z :: S) M Q) : MW mL_law d 348 (w0 :: w1 :: w2 :: vi z :: r) S M Q := mw_iload_n ⟨dL_law_348, rfl⟩ rfl k
theorem dL_law_349 : decode cL_law 349 = .ok (.iconst 2, 1) := dk_5 (dk_at dksL_law_9 10 rfl rfl)
theorem iL_law_349 {d : Nat} {L S : List MV} {M : MH} {Q : Out → MH → Prop}  (k : MW mL_law d 350 (L) (vi 2 :: S) M Q) : MW mL_law d 349 (L) S M Q := mw_iconst ⟨dL_law_349, rfl⟩ k
theorem dL_law_350 : decode cL_law 350 = .ok (.iadd, 1) := dk_96 (dk_at dksL_law_9 11 rfl rfl)
theorem iL_law_350 {d : Nat} {L S : List MV} {M : MH} {Q : Out → MH → Prop} {a b : Int} (k : MW mL_law d 351 (L) (vi (a + b) :: S) M Q) : MW mL_law d 350 (L) (vi b :: vi a :: S) M Q := mw_iadd ⟨dL_law_350, rfl⟩ k
theorem dL_law_351 : decode cL_law 351 = .ok (.iaload, 1) := dk_46 (dk_at dksL_law_9 12 rfl rfl)
theorem iL_law_351 {d : Nat} {L S : List MV} {M : MH} {Q : Out → MH → Prop} {a n : Nat} {z : Int} (hs : msh M a = (100, n)) (hi : 0 ≤ z ∧ z < n) (k : MW mL_law d 352 L (vi (miv M a z.toNat) :: S) M Q) (hn : Nat.ble n 2147483647 = true := by rfl) : MW mL_law d 351 L (vi z :: vp a :: S) M Q := mw_iaload ⟨dL_law_351, rfl⟩ hs (Nat.le_of_ble_eq_true hn) hi k
theorem dL_law_352 : decode cL_law 352 = .ok (.invokevirtual 35, 3) := dk_182 0 35 (dk_at dksL_law_9 13 rfl rfl)
theorem iL_law_352 {d : Nat} {L S : List MV} {M : MH} {Q : Out → MH → Prop} {v1 v2 : MV} {b : Nat} {P : Int → MH → Prop} (hs : (msh M b).1 = 0) (hM : MCi mX0_law d [vp b, v1, v2] M P) (k : ∀ z M', P z M' → MW mL_law (d + 1) 355 L (vi z :: S) M' Q) (h8 : Nat.ble (S.map mcat).sum 8 = true := by rfl) : MW mL_law (d + 1) 352 L (v2 :: v1 :: vp b :: S) M Q := mw_calli (as := [vp b, v1, v2]) (site_V (Y' := mX0_law) (n := 2) ⟨dL_law_352, rfl⟩ (Or.inl q714) q715 q716 wX0_law nX0_law hX0_law (cls_of (ci := 0) rfl hs) rfl) kX0_law (Nat.le_of_ble_eq_true h8) hM k
theorem dL_law_355 : decode cL_law 355 = .ok (.aload_n 2, 1) := dk_44 (dk_at dksL_law_9 16 rfl rfl)
theorem iL_law_355 {d : Nat} {r S : List MV} {M : MH} {Q : Out → MH → Prop} {w0 w1 : MV} {o : Option Nat} (k : MW mL_law d 356 (w0 :: w1 :: vr o :: r) (vr o :: S) M Q) : MW mL_law d 355 (w0 :: w1 :: vr o :: r) S M Q := mw_aload_n ⟨dL_law_355, rfl⟩ rfl k
theorem dL_law_356 : decode cL_law 356 = .ok (.aload_n 0, 1) := dk_42 (dk_at dksL_law_9 17 rfl rfl)
theorem iL_law_356 {d : Nat} {r S : List MV} {M : MH} {Q : Out → MH → Prop} {o : Option Nat} (k : MW mL_law d 357 (vr o :: r) (vr o :: S) M Q) : MW mL_law d 356 (vr o :: r) S M Q := mw_aload_n ⟨dL_law_356, rfl⟩ rfl k
theorem dL_law_357 : decode cL_law 357 = .ok (.iload_n 3, 1) := dk_29 (dk_at dksL_law_9 18 rfl rfl)
theorem iL_law_357 {d : Nat} {r S : List MV} {M : MH} {Q : Out → MH → Prop} {w0 w1 w2 : MV} {z : Int} (k : MW mL_law d 358 (w0 :: w1 :: w2 :: vi z :: r) (vi z :: S) M Q) : MW mL_law d 357 (w0 :: w1 :: w2 :: vi z :: r) S M Q := mw_iload_n ⟨dL_law_357, rfl⟩ rfl k
theorem dL_law_358 : decode cL_law 358 = .ok (.iconst 1, 1) := dk_4 (dk_at dksL_law_9 19 rfl rfl)
theorem iL_law_358 {d : Nat} {L S : List MV} {M : MH} {Q : Out → MH → Prop}  (k : MW mL_law d 359 (L) (vi 1 :: S) M Q) : MW mL_law d 358 (L) S M Q := mw_iconst ⟨dL_law_358, rfl⟩ k
theorem dL_law_359 : decode cL_law 359 = .ok (.iadd, 1) := dk_96 (dk_at dksL_law_9 20 rfl rfl)
theorem iL_law_359 {d : Nat} {L S : List MV} {M : MH} {Q : Out → MH → Prop} {a b : Int} (k : MW mL_law d 360 (L) (vi (a + b) :: S) M Q) : MW mL_law d 359 (L) (vi b :: vi a :: S) M Q := mw_iadd ⟨dL_law_359, rfl⟩ k
theorem dL_law_360 : decode cL_law 360 = .ok (.iaload, 1) := dk_46 (dk_at dksL_law_9 21 rfl rfl)
theorem iL_law_360 {d : Nat} {L S : List MV} {M : MH} {Q : Out → MH → Prop} {a n : Nat} {z : Int} (hs : msh M a = (100, n)) (hi : 0 ≤ z ∧ z < n) (k : MW mL_law d 361 L (vi (miv M a z.toNat) :: S) M Q) (hn : Nat.ble n 2147483647 = true := by rfl) : MW mL_law d 360 L (vi z :: vp a :: S) M Q := mw_iaload ⟨dL_law_360, rfl⟩ hs (Nat.le_of_ble_eq_true hn) hi k
theorem dL_law_361 : decode cL_law 361 = .ok (.aload_n 0, 1) := dk_42 (dk_at dksL_law_9 22 rfl rfl)
theorem iL_law_361 {d : Nat} {r S : List MV} {M : MH} {Q : Out → MH → Prop} {o : Option Nat} (k : MW mL_law d 362 (vr o :: r) (vr o :: S) M Q) : MW mL_law d 361 (vr o :: r) S M Q := mw_aload_n ⟨dL_law_361, rfl⟩ rfl k
theorem dL_law_362 : decode cL_law 362 = .ok (.iload_n 3, 1) := dk_29 (dk_at dksL_law_9 23 rfl rfl)
theorem iL_law_362 {d : Nat} {r S : List MV} {M : MH} {Q : Out → MH → Prop} {w0 w1 w2 : MV} {z : Int} (k : MW mL_law d 363 (w0 :: w1 :: w2 :: vi z :: r) (vi z :: S) M Q) : MW mL_law d 362 (w0 :: w1 :: w2 :: vi z :: r) S M Q := mw_iload_n ⟨dL_law_362, rfl⟩ rfl k
theorem dL_law_363 : decode cL_law 363 = .ok (.iconst 2, 1) := dk_5 (dk_at dksL_law_10 0 rfl rfl)
theorem iL_law_363 {d : Nat} {L S : List MV} {M : MH} {Q : Out → MH → Prop}  (k : MW mL_law d 364 (L) (vi 2 :: S) M Q) : MW mL_law d 363 (L) S M Q := mw_iconst ⟨dL_law_363, rfl⟩ k
theorem dL_law_364 : decode cL_law 364 = .ok (.iadd, 1) := dk_96 (dk_at dksL_law_10 1 rfl rfl)
theorem iL_law_364 {d : Nat} {L S : List MV} {M : MH} {Q : Out → MH → Prop} {a b : Int} (k : MW mL_law d 365 (L) (vi (a + b) :: S) M Q) : MW mL_law d 364 (L) (vi b :: vi a :: S) M Q := mw_iadd ⟨dL_law_364, rfl⟩ k
theorem dL_law_365 : decode cL_law 365 = .ok (.iaload, 1) := dk_46 (dk_at dksL_law_10 2 rfl rfl)
theorem iL_law_365 {d : Nat} {L S : List MV} {M : MH} {Q : Out → MH → Prop} {a n : Nat} {z : Int} (hs : msh M a = (100, n)) (hi : 0 ≤ z ∧ z < n) (k : MW mL_law d 366 L (vi (miv M a z.toNat) :: S) M Q) (hn : Nat.ble n 2147483647 = true := by rfl) : MW mL_law d 365 L (vi z :: vp a :: S) M Q := mw_iaload ⟨dL_law_365, rfl⟩ hs (Nat.le_of_ble_eq_true hn) hi k
theorem dL_law_366 : decode cL_law 366 = .ok (.invokevirtual 38, 3) := dk_182 0 38 (dk_at dksL_law_10 3 rfl rfl)
theorem iL_law_366 {d : Nat} {L S : List MV} {M : MH} {Q : Out → MH → Prop} {v1 v2 : MV} {b : Nat} {P : Int → MH → Prop} (hs : (msh M b).1 = 10) (hM : MCi mX7_law d [vp b, v1, v2] M P) (k : ∀ z M', P z M' → MW mL_law (d + 1) 369 L (vi z :: S) M' Q) (h8 : Nat.ble (S.map mcat).sum 8 = true := by rfl) : MW mL_law (d + 1) 366 L (v2 :: v1 :: vp b :: S) M Q := mw_calli (as := [vp b, v1, v2]) (site_V (Y' := mX7_law) (n := 2) ⟨dL_law_366, rfl⟩ (Or.inl q1328) q1329 q1330 wX7_law nX7_law hX7_law (cls_of (ci := 10) rfl hs) rfl) kX7_law (Nat.le_of_ble_eq_true h8) hM k
theorem dL_law_369 : decode cL_law 369 = .ok (.if_icmp .eq 919, 3) := dk_159 3 151 (dk_at dksL_law_10 6 rfl rfl)
theorem iL_law_369 {d : Nat} {L S : List MV} {M : MH} {Q : Out → MH → Prop} {a b : Int} (ha : inR a) (hb : inR b) (kt : a = b → MW mL_law d 1288 L S M Q) (kf : ¬ a = b → MW mL_law d 372 L S M Q) : MW mL_law d 369 L (vi b :: vi a :: S) M Q := mw_icmp_eq ⟨dL_law_369, rfl⟩ rfl ha hb kt kf
theorem dL_law_372 : decode cL_law 372 = .ok (.iconst 0, 1) := dk_3 (dk_at dksL_law_10 9 rfl rfl)
theorem iL_law_372 {d : Nat} {L S : List MV} {M : MH} {Q : Out → MH → Prop}  (k : MW mL_law d 373 (L) (vi 0 :: S) M Q) : MW mL_law d 372 (L) S M Q := mw_iconst ⟨dL_law_372, rfl⟩ k
theorem dL_law_373 : decode cL_law 373 = .ok (.ireturn, 1) := dk_172 (dk_at dksL_law_10 10 rfl rfl)
theorem iL_law_373 {d : Nat} {L : List MV} {M : MH} {P : Int → MH → Prop} {z : Int} (hz : z = 0 ∨ z = 1) (hq : P z M) : MW mL_law d 373 L [vi z] M (Ri P) := mw_retz ⟨dL_law_373, rfl⟩ rfl hz hq
theorem dL_law_374 : decode cL_law 374 = .ok (.aload_n 1, 1) := dk_43 (dk_at dksL_law_10 11 rfl rfl)
theorem iL_law_374 {d : Nat} {r S : List MV} {M : MH} {Q : Out → MH → Prop} {w0 : MV} {o : Option Nat} (k : MW mL_law d 375 (w0 :: vr o :: r) (vr o :: S) M Q) : MW mL_law d 374 (w0 :: vr o :: r) S M Q := mw_aload_n ⟨dL_law_374, rfl⟩ rfl k
theorem dL_law_375 : decode cL_law 375 = .ok (.aload_n 0, 1) := dk_42 (dk_at dksL_law_10 12 rfl rfl)
theorem iL_law_375 {d : Nat} {r S : List MV} {M : MH} {Q : Out → MH → Prop} {o : Option Nat} (k : MW mL_law d 376 (vr o :: r) (vr o :: S) M Q) : MW mL_law d 375 (vr o :: r) S M Q := mw_aload_n ⟨dL_law_375, rfl⟩ rfl k
theorem dL_law_376 : decode cL_law 376 = .ok (.iload_n 3, 1) := dk_29 (dk_at dksL_law_10 13 rfl rfl)
theorem iL_law_376 {d : Nat} {r S : List MV} {M : MH} {Q : Out → MH → Prop} {w0 w1 w2 : MV} {z : Int} (k : MW mL_law d 377 (w0 :: w1 :: w2 :: vi z :: r) (vi z :: S) M Q) : MW mL_law d 376 (w0 :: w1 :: w2 :: vi z :: r) S M Q := mw_iload_n ⟨dL_law_376, rfl⟩ rfl k
theorem dL_law_377 : decode cL_law 377 = .ok (.iconst 1, 1) := dk_4 (dk_at dksL_law_10 14 rfl rfl)
theorem iL_law_377 {d : Nat} {L S : List MV} {M : MH} {Q : Out → MH → Prop}  (k : MW mL_law d 378 (L) (vi 1 :: S) M Q) : MW mL_law d 377 (L) S M Q := mw_iconst ⟨dL_law_377, rfl⟩ k
theorem dL_law_378 : decode cL_law 378 = .ok (.iadd, 1) := dk_96 (dk_at dksL_law_10 15 rfl rfl)
theorem iL_law_378 {d : Nat} {L S : List MV} {M : MH} {Q : Out → MH → Prop} {a b : Int} (k : MW mL_law d 379 (L) (vi (a + b) :: S) M Q) : MW mL_law d 378 (L) (vi b :: vi a :: S) M Q := mw_iadd ⟨dL_law_378, rfl⟩ k
theorem dL_law_379 : decode cL_law 379 = .ok (.iaload, 1) := dk_46 (dk_at dksL_law_10 16 rfl rfl)
theorem iL_law_379 {d : Nat} {L S : List MV} {M : MH} {Q : Out → MH → Prop} {a n : Nat} {z : Int} (hs : msh M a = (100, n)) (hi : 0 ≤ z ∧ z < n) (k : MW mL_law d 380 L (vi (miv M a z.toNat) :: S) M Q) (hn : Nat.ble n 2147483647 = true := by rfl) : MW mL_law d 379 L (vi z :: vp a :: S) M Q := mw_iaload ⟨dL_law_379, rfl⟩ hs (Nat.le_of_ble_eq_true hn) hi k
theorem dL_law_380 : decode cL_law 380 = .ok (.aload_n 0, 1) := dk_42 (dk_at dksL_law_10 17 rfl rfl)
theorem iL_law_380 {d : Nat} {r S : List MV} {M : MH} {Q : Out → MH → Prop} {o : Option Nat} (k : MW mL_law d 381 (vr o :: r) (vr o :: S) M Q) : MW mL_law d 380 (vr o :: r) S M Q := mw_aload_n ⟨dL_law_380, rfl⟩ rfl k
theorem dL_law_381 : decode cL_law 381 = .ok (.iload_n 3, 1) := dk_29 (dk_at dksL_law_10 18 rfl rfl)
theorem iL_law_381 {d : Nat} {r S : List MV} {M : MH} {Q : Out → MH → Prop} {w0 w1 w2 : MV} {z : Int} (k : MW mL_law d 382 (w0 :: w1 :: w2 :: vi z :: r) (vi z :: S) M Q) : MW mL_law d 381 (w0 :: w1 :: w2 :: vi z :: r) S M Q := mw_iload_n ⟨dL_law_381, rfl⟩ rfl k
theorem dL_law_382 : decode cL_law 382 = .ok (.iconst 2, 1) := dk_5 (dk_at dksL_law_10 19 rfl rfl)
theorem iL_law_382 {d : Nat} {L S : List MV} {M : MH} {Q : Out → MH → Prop}  (k : MW mL_law d 383 (L) (vi 2 :: S) M Q) : MW mL_law d 382 (L) S M Q := mw_iconst ⟨dL_law_382, rfl⟩ k
theorem dL_law_383 : decode cL_law 383 = .ok (.iadd, 1) := dk_96 (dk_at dksL_law_10 20 rfl rfl)
theorem iL_law_383 {d : Nat} {L S : List MV} {M : MH} {Q : Out → MH → Prop} {a b : Int} (k : MW mL_law d 384 (L) (vi (a + b) :: S) M Q) : MW mL_law d 383 (L) (vi b :: vi a :: S) M Q := mw_iadd ⟨dL_law_383, rfl⟩ k
theorem dL_law_384 : decode cL_law 384 = .ok (.iaload, 1) := dk_46 (dk_at dksL_law_10 21 rfl rfl)
theorem iL_law_384 {d : Nat} {L S : List MV} {M : MH} {Q : Out → MH → Prop} {a n : Nat} {z : Int} (hs : msh M a = (100, n)) (hi : 0 ≤ z ∧ z < n) (k : MW mL_law d 385 L (vi (miv M a z.toNat) :: S) M Q) (hn : Nat.ble n 2147483647 = true := by rfl) : MW mL_law d 384 L (vi z :: vp a :: S) M Q := mw_iaload ⟨dL_law_384, rfl⟩ hs (Nat.le_of_ble_eq_true hn) hi k
theorem dL_law_385 : decode cL_law 385 = .ok (.invokevirtual 39, 3) := dk_182 0 39 (dk_at dksL_law_11 0 rfl rfl)
theorem iL_law_385 {d : Nat} {L S : List MV} {M : MH} {Q : Out → MH → Prop} {v1 v2 : MV} {b : Nat} {P : Int → MH → Prop} (hs : (msh M b).1 = 0) (hM : MCi mX0_sale d [vp b, v1, v2] M P) (k : ∀ z M', P z M' → MW mL_law (d + 1) 388 L (vi z :: S) M' Q) (h8 : Nat.ble (S.map mcat).sum 8 = true := by rfl) : MW mL_law (d + 1) 385 L (v2 :: v1 :: vp b :: S) M Q := mw_calli (as := [vp b, v1, v2]) (site_V (Y' := mX0_sale) (n := 2) ⟨dL_law_385, rfl⟩ (Or.inl q718) q719 q720 wX0_sale nX0_sale hX0_sale (cls_of (ci := 0) rfl hs) rfl) kX0_sale (Nat.le_of_ble_eq_true h8) hM k
theorem dL_law_388 : decode cL_law 388 = .ok (.aload_n 2, 1) := dk_44 (dk_at dksL_law_11 3 rfl rfl)
theorem iL_law_388 {d : Nat} {r S : List MV} {M : MH} {Q : Out → MH → Prop} {w0 w1 : MV} {o : Option Nat} (k : MW mL_law d 389 (w0 :: w1 :: vr o :: r) (vr o :: S) M Q) : MW mL_law d 388 (w0 :: w1 :: vr o :: r) S M Q := mw_aload_n ⟨dL_law_388, rfl⟩ rfl k
theorem dL_law_389 : decode cL_law 389 = .ok (.aload_n 0, 1) := dk_42 (dk_at dksL_law_11 4 rfl rfl)
theorem iL_law_389 {d : Nat} {r S : List MV} {M : MH} {Q : Out → MH → Prop} {o : Option Nat} (k : MW mL_law d 390 (vr o :: r) (vr o :: S) M Q) : MW mL_law d 389 (vr o :: r) S M Q := mw_aload_n ⟨dL_law_389, rfl⟩ rfl k
theorem dL_law_390 : decode cL_law 390 = .ok (.iload_n 3, 1) := dk_29 (dk_at dksL_law_11 5 rfl rfl)
theorem iL_law_390 {d : Nat} {r S : List MV} {M : MH} {Q : Out → MH → Prop} {w0 w1 w2 : MV} {z : Int} (k : MW mL_law d 391 (w0 :: w1 :: w2 :: vi z :: r) (vi z :: S) M Q) : MW mL_law d 390 (w0 :: w1 :: w2 :: vi z :: r) S M Q := mw_iload_n ⟨dL_law_390, rfl⟩ rfl k
theorem dL_law_391 : decode cL_law 391 = .ok (.iconst 1, 1) := dk_4 (dk_at dksL_law_11 6 rfl rfl)
theorem iL_law_391 {d : Nat} {L S : List MV} {M : MH} {Q : Out → MH → Prop}  (k : MW mL_law d 392 (L) (vi 1 :: S) M Q) : MW mL_law d 391 (L) S M Q := mw_iconst ⟨dL_law_391, rfl⟩ k
theorem dL_law_392 : decode cL_law 392 = .ok (.iadd, 1) := dk_96 (dk_at dksL_law_11 7 rfl rfl)
theorem iL_law_392 {d : Nat} {L S : List MV} {M : MH} {Q : Out → MH → Prop} {a b : Int} (k : MW mL_law d 393 (L) (vi (a + b) :: S) M Q) : MW mL_law d 392 (L) (vi b :: vi a :: S) M Q := mw_iadd ⟨dL_law_392, rfl⟩ k
theorem dL_law_393 : decode cL_law 393 = .ok (.iaload, 1) := dk_46 (dk_at dksL_law_11 8 rfl rfl)
theorem iL_law_393 {d : Nat} {L S : List MV} {M : MH} {Q : Out → MH → Prop} {a n : Nat} {z : Int} (hs : msh M a = (100, n)) (hi : 0 ≤ z ∧ z < n) (k : MW mL_law d 394 L (vi (miv M a z.toNat) :: S) M Q) (hn : Nat.ble n 2147483647 = true := by rfl) : MW mL_law d 393 L (vi z :: vp a :: S) M Q := mw_iaload ⟨dL_law_393, rfl⟩ hs (Nat.le_of_ble_eq_true hn) hi k
theorem dL_law_394 : decode cL_law 394 = .ok (.aload_n 0, 1) := dk_42 (dk_at dksL_law_11 9 rfl rfl)
theorem iL_law_394 {d : Nat} {r S : List MV} {M : MH} {Q : Out → MH → Prop} {o : Option Nat} (k : MW mL_law d 395 (vr o :: r) (vr o :: S) M Q) : MW mL_law d 394 (vr o :: r) S M Q := mw_aload_n ⟨dL_law_394, rfl⟩ rfl k
theorem dL_law_395 : decode cL_law 395 = .ok (.iload_n 3, 1) := dk_29 (dk_at dksL_law_11 10 rfl rfl)
theorem iL_law_395 {d : Nat} {r S : List MV} {M : MH} {Q : Out → MH → Prop} {w0 w1 w2 : MV} {z : Int} (k : MW mL_law d 396 (w0 :: w1 :: w2 :: vi z :: r) (vi z :: S) M Q) : MW mL_law d 395 (w0 :: w1 :: w2 :: vi z :: r) S M Q := mw_iload_n ⟨dL_law_395, rfl⟩ rfl k
theorem dL_law_396 : decode cL_law 396 = .ok (.iconst 2, 1) := dk_5 (dk_at dksL_law_11 11 rfl rfl)
theorem iL_law_396 {d : Nat} {L S : List MV} {M : MH} {Q : Out → MH → Prop}  (k : MW mL_law d 397 (L) (vi 2 :: S) M Q) : MW mL_law d 396 (L) S M Q := mw_iconst ⟨dL_law_396, rfl⟩ k
theorem dL_law_397 : decode cL_law 397 = .ok (.iadd, 1) := dk_96 (dk_at dksL_law_11 12 rfl rfl)
theorem iL_law_397 {d : Nat} {L S : List MV} {M : MH} {Q : Out → MH → Prop} {a b : Int} (k : MW mL_law d 398 (L) (vi (a + b) :: S) M Q) : MW mL_law d 397 (L) (vi b :: vi a :: S) M Q := mw_iadd ⟨dL_law_397, rfl⟩ k
theorem dL_law_398 : decode cL_law 398 = .ok (.iaload, 1) := dk_46 (dk_at dksL_law_11 13 rfl rfl)
theorem iL_law_398 {d : Nat} {L S : List MV} {M : MH} {Q : Out → MH → Prop} {a n : Nat} {z : Int} (hs : msh M a = (100, n)) (hi : 0 ≤ z ∧ z < n) (k : MW mL_law d 399 L (vi (miv M a z.toNat) :: S) M Q) (hn : Nat.ble n 2147483647 = true := by rfl) : MW mL_law d 398 L (vi z :: vp a :: S) M Q := mw_iaload ⟨dL_law_398, rfl⟩ hs (Nat.le_of_ble_eq_true hn) hi k
theorem dL_law_399 : decode cL_law 399 = .ok (.invokevirtual 42, 3) := dk_182 0 42 (dk_at dksL_law_11 14 rfl rfl)
theorem iL_law_399 {d : Nat} {L S : List MV} {M : MH} {Q : Out → MH → Prop} {v1 v2 : MV} {b : Nat} {P : Int → MH → Prop} (hs : (msh M b).1 = 10) (hM : MCi mX7_sale d [vp b, v1, v2] M P) (k : ∀ z M', P z M' → MW mL_law (d + 1) 402 L (vi z :: S) M' Q) (h8 : Nat.ble (S.map mcat).sum 8 = true := by rfl) : MW mL_law (d + 1) 399 L (v2 :: v1 :: vp b :: S) M Q := mw_calli (as := [vp b, v1, v2]) (site_V (Y' := mX7_sale) (n := 2) ⟨dL_law_399, rfl⟩ (Or.inl q1332) q1333 q1334 wX7_sale nX7_sale hX7_sale (cls_of (ci := 10) rfl hs) rfl) kX7_sale (Nat.le_of_ble_eq_true h8) hM k
theorem dL_law_402 : decode cL_law 402 = .ok (.if_icmp .eq 886, 3) := dk_159 3 118 (dk_at dksL_law_11 17 rfl rfl)
theorem iL_law_402 {d : Nat} {L S : List MV} {M : MH} {Q : Out → MH → Prop} {a b : Int} (ha : inR a) (hb : inR b) (kt : a = b → MW mL_law d 1288 L S M Q) (kf : ¬ a = b → MW mL_law d 405 L S M Q) : MW mL_law d 402 L (vi b :: vi a :: S) M Q := mw_icmp_eq ⟨dL_law_402, rfl⟩ rfl ha hb kt kf
theorem dL_law_405 : decode cL_law 405 = .ok (.iconst 0, 1) := dk_3 (dk_at dksL_law_11 20 rfl rfl)
theorem iL_law_405 {d : Nat} {L S : List MV} {M : MH} {Q : Out → MH → Prop}  (k : MW mL_law d 406 (L) (vi 0 :: S) M Q) : MW mL_law d 405 (L) S M Q := mw_iconst ⟨dL_law_405, rfl⟩ k
theorem dL_law_406 : decode cL_law 406 = .ok (.ireturn, 1) := dk_172 (dk_at dksL_law_11 21 rfl rfl)
theorem iL_law_406 {d : Nat} {L : List MV} {M : MH} {P : Int → MH → Prop} {z : Int} (hz : z = 0 ∨ z = 1) (hq : P z M) : MW mL_law d 406 L [vi z] M (Ri P) := mw_retz ⟨dL_law_406, rfl⟩ rfl hz hq
theorem dL_law_407 : decode cL_law 407 = .ok (.aload_n 1, 1) := dk_43 (dk_at dksL_law_11 22 rfl rfl)
theorem iL_law_407 {d : Nat} {r S : List MV} {M : MH} {Q : Out → MH → Prop} {w0 : MV} {o : Option Nat} (k : MW mL_law d 408 (w0 :: vr o :: r) (vr o :: S) M Q) : MW mL_law d 407 (w0 :: vr o :: r) S M Q := mw_aload_n ⟨dL_law_407, rfl⟩ rfl k
theorem dL_law_408 : decode cL_law 408 = .ok (.aload_n 0, 1) := dk_42 (dk_at dksL_law_11 23 rfl rfl)
theorem iL_law_408 {d : Nat} {r S : List MV} {M : MH} {Q : Out → MH → Prop} {o : Option Nat} (k : MW mL_law d 409 (vr o :: r) (vr o :: S) M Q) : MW mL_law d 408 (vr o :: r) S M Q := mw_aload_n ⟨dL_law_408, rfl⟩ rfl k
theorem dL_law_409 : decode cL_law 409 = .ok (.iload_n 3, 1) := dk_29 (dk_at dksL_law_12 0 rfl rfl)
theorem iL_law_409 {d : Nat} {r S : List MV} {M : MH} {Q : Out → MH → Prop} {w0 w1 w2 : MV} {z : Int} (k : MW mL_law d 410 (w0 :: w1 :: w2 :: vi z :: r) (vi z :: S) M Q) : MW mL_law d 409 (w0 :: w1 :: w2 :: vi z :: r) S M Q := mw_iload_n ⟨dL_law_409, rfl⟩ rfl k
theorem dL_law_410 : decode cL_law 410 = .ok (.iconst 1, 1) := dk_4 (dk_at dksL_law_12 1 rfl rfl)
theorem iL_law_410 {d : Nat} {L S : List MV} {M : MH} {Q : Out → MH → Prop}  (k : MW mL_law d 411 (L) (vi 1 :: S) M Q) : MW mL_law d 410 (L) S M Q := mw_iconst ⟨dL_law_410, rfl⟩ k
theorem dL_law_411 : decode cL_law 411 = .ok (.iadd, 1) := dk_96 (dk_at dksL_law_12 2 rfl rfl)
theorem iL_law_411 {d : Nat} {L S : List MV} {M : MH} {Q : Out → MH → Prop} {a b : Int} (k : MW mL_law d 412 (L) (vi (a + b) :: S) M Q) : MW mL_law d 411 (L) (vi b :: vi a :: S) M Q := mw_iadd ⟨dL_law_411, rfl⟩ k
theorem dL_law_412 : decode cL_law 412 = .ok (.iaload, 1) := dk_46 (dk_at dksL_law_12 3 rfl rfl)
theorem iL_law_412 {d : Nat} {L S : List MV} {M : MH} {Q : Out → MH → Prop} {a n : Nat} {z : Int} (hs : msh M a = (100, n)) (hi : 0 ≤ z ∧ z < n) (k : MW mL_law d 413 L (vi (miv M a z.toNat) :: S) M Q) (hn : Nat.ble n 2147483647 = true := by rfl) : MW mL_law d 412 L (vi z :: vp a :: S) M Q := mw_iaload ⟨dL_law_412, rfl⟩ hs (Nat.le_of_ble_eq_true hn) hi k
theorem dL_law_413 : decode cL_law 413 = .ok (.invokevirtual 43, 3) := dk_182 0 43 (dk_at dksL_law_12 4 rfl rfl)
theorem iL_law_413 {d : Nat} {L S : List MV} {M : MH} {Q : Out → MH → Prop} {v1 : MV} {b : Nat} {P : Int → MH → Prop} (hs : (msh M b).1 = 0) (hM : MCi mX0_read d [vp b, v1] M P) (k : ∀ z M', P z M' → MW mL_law (d + 1) 416 L (vi z :: S) M' Q) (h8 : Nat.ble (S.map mcat).sum 8 = true := by rfl) : MW mL_law (d + 1) 413 L (v1 :: vp b :: S) M Q := mw_calli (as := [vp b, v1]) (site_V (Y' := mX0_read) (n := 1) ⟨dL_law_413, rfl⟩ (Or.inl q726) q727 q728 wX0_read nX0_read hX0_read (cls_of (ci := 0) rfl hs) rfl) kX0_read (Nat.le_of_ble_eq_true h8) hM k
theorem dL_law_416 : decode cL_law 416 = .ok (.aload_n 2, 1) := dk_44 (dk_at dksL_law_12 7 rfl rfl)
theorem iL_law_416 {d : Nat} {r S : List MV} {M : MH} {Q : Out → MH → Prop} {w0 w1 : MV} {o : Option Nat} (k : MW mL_law d 417 (w0 :: w1 :: vr o :: r) (vr o :: S) M Q) : MW mL_law d 416 (w0 :: w1 :: vr o :: r) S M Q := mw_aload_n ⟨dL_law_416, rfl⟩ rfl k
theorem dL_law_417 : decode cL_law 417 = .ok (.aload_n 0, 1) := dk_42 (dk_at dksL_law_12 8 rfl rfl)
theorem iL_law_417 {d : Nat} {r S : List MV} {M : MH} {Q : Out → MH → Prop} {o : Option Nat} (k : MW mL_law d 418 (vr o :: r) (vr o :: S) M Q) : MW mL_law d 417 (vr o :: r) S M Q := mw_aload_n ⟨dL_law_417, rfl⟩ rfl k
theorem dL_law_418 : decode cL_law 418 = .ok (.iload_n 3, 1) := dk_29 (dk_at dksL_law_12 9 rfl rfl)
theorem iL_law_418 {d : Nat} {r S : List MV} {M : MH} {Q : Out → MH → Prop} {w0 w1 w2 : MV} {z : Int} (k : MW mL_law d 419 (w0 :: w1 :: w2 :: vi z :: r) (vi z :: S) M Q) : MW mL_law d 418 (w0 :: w1 :: w2 :: vi z :: r) S M Q := mw_iload_n ⟨dL_law_418, rfl⟩ rfl k
theorem dL_law_419 : decode cL_law 419 = .ok (.iconst 1, 1) := dk_4 (dk_at dksL_law_12 10 rfl rfl)
theorem iL_law_419 {d : Nat} {L S : List MV} {M : MH} {Q : Out → MH → Prop}  (k : MW mL_law d 420 (L) (vi 1 :: S) M Q) : MW mL_law d 419 (L) S M Q := mw_iconst ⟨dL_law_419, rfl⟩ k
theorem dL_law_420 : decode cL_law 420 = .ok (.iadd, 1) := dk_96 (dk_at dksL_law_12 11 rfl rfl)
theorem iL_law_420 {d : Nat} {L S : List MV} {M : MH} {Q : Out → MH → Prop} {a b : Int} (k : MW mL_law d 421 (L) (vi (a + b) :: S) M Q) : MW mL_law d 420 (L) (vi b :: vi a :: S) M Q := mw_iadd ⟨dL_law_420, rfl⟩ k
theorem dL_law_421 : decode cL_law 421 = .ok (.iaload, 1) := dk_46 (dk_at dksL_law_12 12 rfl rfl)
theorem iL_law_421 {d : Nat} {L S : List MV} {M : MH} {Q : Out → MH → Prop} {a n : Nat} {z : Int} (hs : msh M a = (100, n)) (hi : 0 ≤ z ∧ z < n) (k : MW mL_law d 422 L (vi (miv M a z.toNat) :: S) M Q) (hn : Nat.ble n 2147483647 = true := by rfl) : MW mL_law d 421 L (vi z :: vp a :: S) M Q := mw_iaload ⟨dL_law_421, rfl⟩ hs (Nat.le_of_ble_eq_true hn) hi k
theorem dL_law_422 : decode cL_law 422 = .ok (.invokevirtual 46, 3) := dk_182 0 46 (dk_at dksL_law_12 13 rfl rfl)
theorem iL_law_422 {d : Nat} {L S : List MV} {M : MH} {Q : Out → MH → Prop} {v1 : MV} {b : Nat} {P : Int → MH → Prop} (hs : (msh M b).1 = 10) (hM : MCi mX7_read d [vp b, v1] M P) (k : ∀ z M', P z M' → MW mL_law (d + 1) 425 L (vi z :: S) M' Q) (h8 : Nat.ble (S.map mcat).sum 8 = true := by rfl) : MW mL_law (d + 1) 422 L (v1 :: vp b :: S) M Q := mw_calli (as := [vp b, v1]) (site_V (Y' := mX7_read) (n := 1) ⟨dL_law_422, rfl⟩ (Or.inl q1343) q1344 q1345 wX7_read nX7_read hX7_read (cls_of (ci := 10) rfl hs) rfl) kX7_read (Nat.le_of_ble_eq_true h8) hM k
theorem dL_law_425 : decode cL_law 425 = .ok (.if_icmp .eq 863, 3) := dk_159 3 95 (dk_at dksL_law_12 16 rfl rfl)
theorem iL_law_425 {d : Nat} {L S : List MV} {M : MH} {Q : Out → MH → Prop} {a b : Int} (ha : inR a) (hb : inR b) (kt : a = b → MW mL_law d 1288 L S M Q) (kf : ¬ a = b → MW mL_law d 428 L S M Q) : MW mL_law d 425 L (vi b :: vi a :: S) M Q := mw_icmp_eq ⟨dL_law_425, rfl⟩ rfl ha hb kt kf
theorem dL_law_428 : decode cL_law 428 = .ok (.iconst 0, 1) := dk_3 (dk_at dksL_law_12 19 rfl rfl)
theorem iL_law_428 {d : Nat} {L S : List MV} {M : MH} {Q : Out → MH → Prop}  (k : MW mL_law d 429 (L) (vi 0 :: S) M Q) : MW mL_law d 428 (L) S M Q := mw_iconst ⟨dL_law_428, rfl⟩ k
theorem dL_law_429 : decode cL_law 429 = .ok (.ireturn, 1) := dk_172 (dk_at dksL_law_12 20 rfl rfl)
theorem iL_law_429 {d : Nat} {L : List MV} {M : MH} {P : Int → MH → Prop} {z : Int} (hz : z = 0 ∨ z = 1) (hq : P z M) : MW mL_law d 429 L [vi z] M (Ri P) := mw_retz ⟨dL_law_429, rfl⟩ rfl hz hq
theorem dL_law_430 : decode cL_law 430 = .ok (.aload_n 1, 1) := dk_43 (dk_at dksL_law_12 21 rfl rfl)
theorem iL_law_430 {d : Nat} {r S : List MV} {M : MH} {Q : Out → MH → Prop} {w0 : MV} {o : Option Nat} (k : MW mL_law d 431 (w0 :: vr o :: r) (vr o :: S) M Q) : MW mL_law d 430 (w0 :: vr o :: r) S M Q := mw_aload_n ⟨dL_law_430, rfl⟩ rfl k
theorem dL_law_431 : decode cL_law 431 = .ok (.invokevirtual 47, 3) := dk_182 0 47 (dk_at dksL_law_13 0 rfl rfl)
theorem iL_law_431 {d : Nat} {L S : List MV} {M : MH} {Q : Out → MH → Prop} {b : Nat} {P : Int → MH → Prop} (hs : (msh M b).1 = 0) (hM : MCi mX0_undo d [vp b] M P) (k : ∀ z M', P z M' → MW mL_law (d + 1) 434 L (vi z :: S) M' Q) (h8 : Nat.ble (S.map mcat).sum 8 = true := by rfl) : MW mL_law (d + 1) 431 L (vp b :: S) M Q := mw_calli (as := [vp b]) (site_V (Y' := mX0_undo) (n := 0) ⟨dL_law_431, rfl⟩ (Or.inl q755) q756 q757 wX0_undo nX0_undo hX0_undo (cls_of (ci := 0) rfl hs) rfl) kX0_undo (Nat.le_of_ble_eq_true h8) hM k
theorem dL_law_434 : decode cL_law 434 = .ok (.aload_n 2, 1) := dk_44 (dk_at dksL_law_13 3 rfl rfl)
theorem iL_law_434 {d : Nat} {r S : List MV} {M : MH} {Q : Out → MH → Prop} {w0 w1 : MV} {o : Option Nat} (k : MW mL_law d 435 (w0 :: w1 :: vr o :: r) (vr o :: S) M Q) : MW mL_law d 434 (w0 :: w1 :: vr o :: r) S M Q := mw_aload_n ⟨dL_law_434, rfl⟩ rfl k
theorem dL_law_435 : decode cL_law 435 = .ok (.invokevirtual 51, 3) := dk_182 0 51 (dk_at dksL_law_13 4 rfl rfl)
theorem iL_law_435 {d : Nat} {L S : List MV} {M : MH} {Q : Out → MH → Prop} {b : Nat} {P : Int → MH → Prop} (hs : (msh M b).1 = 10) (hM : MCi mX7_undo d [vp b] M P) (k : ∀ z M', P z M' → MW mL_law (d + 1) 438 L (vi z :: S) M' Q) (h8 : Nat.ble (S.map mcat).sum 8 = true := by rfl) : MW mL_law (d + 1) 435 L (vp b :: S) M Q := mw_calli (as := [vp b]) (site_V (Y' := mX7_undo) (n := 0) ⟨dL_law_435, rfl⟩ (Or.inl q1354) q1355 q1356 wX7_undo nX7_undo hX7_undo (cls_of (ci := 10) rfl hs) rfl) kX7_undo (Nat.le_of_ble_eq_true h8) hM k
theorem dL_law_438 : decode cL_law 438 = .ok (.if_icmp .eq 850, 3) := dk_159 3 82 (dk_at dksL_law_13 7 rfl rfl)
theorem iL_law_438 {d : Nat} {L S : List MV} {M : MH} {Q : Out → MH → Prop} {a b : Int} (ha : inR a) (hb : inR b) (kt : a = b → MW mL_law d 1288 L S M Q) (kf : ¬ a = b → MW mL_law d 441 L S M Q) : MW mL_law d 438 L (vi b :: vi a :: S) M Q := mw_icmp_eq ⟨dL_law_438, rfl⟩ rfl ha hb kt kf
theorem dL_law_441 : decode cL_law 441 = .ok (.iconst 0, 1) := dk_3 (dk_at dksL_law_13 10 rfl rfl)
theorem iL_law_441 {d : Nat} {L S : List MV} {M : MH} {Q : Out → MH → Prop}  (k : MW mL_law d 442 (L) (vi 0 :: S) M Q) : MW mL_law d 441 (L) S M Q := mw_iconst ⟨dL_law_441, rfl⟩ k
theorem dL_law_442 : decode cL_law 442 = .ok (.ireturn, 1) := dk_172 (dk_at dksL_law_13 11 rfl rfl)
theorem iL_law_442 {d : Nat} {L : List MV} {M : MH} {P : Int → MH → Prop} {z : Int} (hz : z = 0 ∨ z = 1) (hq : P z M) : MW mL_law d 442 L [vi z] M (Ri P) := mw_retz ⟨dL_law_442, rfl⟩ rfl hz hq
theorem dL_law_443 : decode cL_law 443 = .ok (.aload_n 1, 1) := dk_43 (dk_at dksL_law_13 12 rfl rfl)
theorem iL_law_443 {d : Nat} {r S : List MV} {M : MH} {Q : Out → MH → Prop} {w0 : MV} {o : Option Nat} (k : MW mL_law d 444 (w0 :: vr o :: r) (vr o :: S) M Q) : MW mL_law d 443 (w0 :: vr o :: r) S M Q := mw_aload_n ⟨dL_law_443, rfl⟩ rfl k
theorem dL_law_444 : decode cL_law 444 = .ok (.aload_n 0, 1) := dk_42 (dk_at dksL_law_13 13 rfl rfl)
theorem iL_law_444 {d : Nat} {r S : List MV} {M : MH} {Q : Out → MH → Prop} {o : Option Nat} (k : MW mL_law d 445 (vr o :: r) (vr o :: S) M Q) : MW mL_law d 444 (vr o :: r) S M Q := mw_aload_n ⟨dL_law_444, rfl⟩ rfl k
theorem dL_law_445 : decode cL_law 445 = .ok (.iload_n 3, 1) := dk_29 (dk_at dksL_law_13 14 rfl rfl)
theorem iL_law_445 {d : Nat} {r S : List MV} {M : MH} {Q : Out → MH → Prop} {w0 w1 w2 : MV} {z : Int} (k : MW mL_law d 446 (w0 :: w1 :: w2 :: vi z :: r) (vi z :: S) M Q) : MW mL_law d 445 (w0 :: w1 :: w2 :: vi z :: r) S M Q := mw_iload_n ⟨dL_law_445, rfl⟩ rfl k
theorem dL_law_446 : decode cL_law 446 = .ok (.iconst 1, 1) := dk_4 (dk_at dksL_law_13 15 rfl rfl)
theorem iL_law_446 {d : Nat} {L S : List MV} {M : MH} {Q : Out → MH → Prop}  (k : MW mL_law d 447 (L) (vi 1 :: S) M Q) : MW mL_law d 446 (L) S M Q := mw_iconst ⟨dL_law_446, rfl⟩ k
theorem dL_law_447 : decode cL_law 447 = .ok (.iadd, 1) := dk_96 (dk_at dksL_law_13 16 rfl rfl)
theorem iL_law_447 {d : Nat} {L S : List MV} {M : MH} {Q : Out → MH → Prop} {a b : Int} (k : MW mL_law d 448 (L) (vi (a + b) :: S) M Q) : MW mL_law d 447 (L) (vi b :: vi a :: S) M Q := mw_iadd ⟨dL_law_447, rfl⟩ k
theorem dL_law_448 : decode cL_law 448 = .ok (.iaload, 1) := dk_46 (dk_at dksL_law_13 17 rfl rfl)
theorem iL_law_448 {d : Nat} {L S : List MV} {M : MH} {Q : Out → MH → Prop} {a n : Nat} {z : Int} (hs : msh M a = (100, n)) (hi : 0 ≤ z ∧ z < n) (k : MW mL_law d 449 L (vi (miv M a z.toNat) :: S) M Q) (hn : Nat.ble n 2147483647 = true := by rfl) : MW mL_law d 448 L (vi z :: vp a :: S) M Q := mw_iaload ⟨dL_law_448, rfl⟩ hs (Nat.le_of_ble_eq_true hn) hi k
theorem dL_law_449 : decode cL_law 449 = .ok (.aload_n 0, 1) := dk_42 (dk_at dksL_law_13 18 rfl rfl)
theorem iL_law_449 {d : Nat} {r S : List MV} {M : MH} {Q : Out → MH → Prop} {o : Option Nat} (k : MW mL_law d 450 (vr o :: r) (vr o :: S) M Q) : MW mL_law d 449 (vr o :: r) S M Q := mw_aload_n ⟨dL_law_449, rfl⟩ rfl k
theorem dL_law_450 : decode cL_law 450 = .ok (.iload_n 3, 1) := dk_29 (dk_at dksL_law_13 19 rfl rfl)
theorem iL_law_450 {d : Nat} {r S : List MV} {M : MH} {Q : Out → MH → Prop} {w0 w1 w2 : MV} {z : Int} (k : MW mL_law d 451 (w0 :: w1 :: w2 :: vi z :: r) (vi z :: S) M Q) : MW mL_law d 450 (w0 :: w1 :: w2 :: vi z :: r) S M Q := mw_iload_n ⟨dL_law_450, rfl⟩ rfl k
theorem dL_law_451 : decode cL_law 451 = .ok (.iconst 2, 1) := dk_5 (dk_at dksL_law_13 20 rfl rfl)
theorem iL_law_451 {d : Nat} {L S : List MV} {M : MH} {Q : Out → MH → Prop}  (k : MW mL_law d 452 (L) (vi 2 :: S) M Q) : MW mL_law d 451 (L) S M Q := mw_iconst ⟨dL_law_451, rfl⟩ k
theorem dL_law_452 : decode cL_law 452 = .ok (.iadd, 1) := dk_96 (dk_at dksL_law_13 21 rfl rfl)
theorem iL_law_452 {d : Nat} {L S : List MV} {M : MH} {Q : Out → MH → Prop} {a b : Int} (k : MW mL_law d 453 (L) (vi (a + b) :: S) M Q) : MW mL_law d 452 (L) (vi b :: vi a :: S) M Q := mw_iadd ⟨dL_law_452, rfl⟩ k
theorem dL_law_453 : decode cL_law 453 = .ok (.iaload, 1) := dk_46 (dk_at dksL_law_13 22 rfl rfl)
theorem iL_law_453 {d : Nat} {L S : List MV} {M : MH} {Q : Out → MH → Prop} {a n : Nat} {z : Int} (hs : msh M a = (100, n)) (hi : 0 ≤ z ∧ z < n) (k : MW mL_law d 454 L (vi (miv M a z.toNat) :: S) M Q) (hn : Nat.ble n 2147483647 = true := by rfl) : MW mL_law d 453 L (vi z :: vp a :: S) M Q := mw_iaload ⟨dL_law_453, rfl⟩ hs (Nat.le_of_ble_eq_true hn) hi k
theorem dL_law_454 : decode cL_law 454 = .ok (.invokevirtual 52, 3) := dk_182 0 52 (dk_at dksL_law_14 0 rfl rfl)
theorem iL_law_454 {d : Nat} {L S : List MV} {M : MH} {Q : Out → MH → Prop} {v1 v2 : MV} {b : Nat} {P : Int → MH → Prop} (hs : (msh M b).1 = 0) (hM : MCi mX0_whose d [vp b, v1, v2] M P) (k : ∀ z M', P z M' → MW mL_law (d + 1) 457 L (vi z :: S) M' Q) (h8 : Nat.ble (S.map mcat).sum 8 = true := by rfl) : MW mL_law (d + 1) 454 L (v2 :: v1 :: vp b :: S) M Q := mw_calli (as := [vp b, v1, v2]) (site_V (Y' := mX0_whose) (n := 2) ⟨dL_law_454, rfl⟩ (Or.inl q759) q760 q761 wX0_whose nX0_whose hX0_whose (cls_of (ci := 0) rfl hs) rfl) kX0_whose (Nat.le_of_ble_eq_true h8) hM k
theorem dL_law_457 : decode cL_law 457 = .ok (.aload_n 2, 1) := dk_44 (dk_at dksL_law_14 3 rfl rfl)
theorem iL_law_457 {d : Nat} {r S : List MV} {M : MH} {Q : Out → MH → Prop} {w0 w1 : MV} {o : Option Nat} (k : MW mL_law d 458 (w0 :: w1 :: vr o :: r) (vr o :: S) M Q) : MW mL_law d 457 (w0 :: w1 :: vr o :: r) S M Q := mw_aload_n ⟨dL_law_457, rfl⟩ rfl k
theorem dL_law_458 : decode cL_law 458 = .ok (.aload_n 0, 1) := dk_42 (dk_at dksL_law_14 4 rfl rfl)
theorem iL_law_458 {d : Nat} {r S : List MV} {M : MH} {Q : Out → MH → Prop} {o : Option Nat} (k : MW mL_law d 459 (vr o :: r) (vr o :: S) M Q) : MW mL_law d 458 (vr o :: r) S M Q := mw_aload_n ⟨dL_law_458, rfl⟩ rfl k
theorem dL_law_459 : decode cL_law 459 = .ok (.iload_n 3, 1) := dk_29 (dk_at dksL_law_14 5 rfl rfl)
theorem iL_law_459 {d : Nat} {r S : List MV} {M : MH} {Q : Out → MH → Prop} {w0 w1 w2 : MV} {z : Int} (k : MW mL_law d 460 (w0 :: w1 :: w2 :: vi z :: r) (vi z :: S) M Q) : MW mL_law d 459 (w0 :: w1 :: w2 :: vi z :: r) S M Q := mw_iload_n ⟨dL_law_459, rfl⟩ rfl k
theorem dL_law_460 : decode cL_law 460 = .ok (.iconst 1, 1) := dk_4 (dk_at dksL_law_14 6 rfl rfl)
theorem iL_law_460 {d : Nat} {L S : List MV} {M : MH} {Q : Out → MH → Prop}  (k : MW mL_law d 461 (L) (vi 1 :: S) M Q) : MW mL_law d 460 (L) S M Q := mw_iconst ⟨dL_law_460, rfl⟩ k
theorem dL_law_461 : decode cL_law 461 = .ok (.iadd, 1) := dk_96 (dk_at dksL_law_14 7 rfl rfl)
theorem iL_law_461 {d : Nat} {L S : List MV} {M : MH} {Q : Out → MH → Prop} {a b : Int} (k : MW mL_law d 462 (L) (vi (a + b) :: S) M Q) : MW mL_law d 461 (L) (vi b :: vi a :: S) M Q := mw_iadd ⟨dL_law_461, rfl⟩ k
theorem dL_law_462 : decode cL_law 462 = .ok (.iaload, 1) := dk_46 (dk_at dksL_law_14 8 rfl rfl)
theorem iL_law_462 {d : Nat} {L S : List MV} {M : MH} {Q : Out → MH → Prop} {a n : Nat} {z : Int} (hs : msh M a = (100, n)) (hi : 0 ≤ z ∧ z < n) (k : MW mL_law d 463 L (vi (miv M a z.toNat) :: S) M Q) (hn : Nat.ble n 2147483647 = true := by rfl) : MW mL_law d 462 L (vi z :: vp a :: S) M Q := mw_iaload ⟨dL_law_462, rfl⟩ hs (Nat.le_of_ble_eq_true hn) hi k
theorem dL_law_463 : decode cL_law 463 = .ok (.aload_n 0, 1) := dk_42 (dk_at dksL_law_14 9 rfl rfl)
theorem iL_law_463 {d : Nat} {r S : List MV} {M : MH} {Q : Out → MH → Prop} {o : Option Nat} (k : MW mL_law d 464 (vr o :: r) (vr o :: S) M Q) : MW mL_law d 463 (vr o :: r) S M Q := mw_aload_n ⟨dL_law_463, rfl⟩ rfl k
theorem dL_law_464 : decode cL_law 464 = .ok (.iload_n 3, 1) := dk_29 (dk_at dksL_law_14 10 rfl rfl)
theorem iL_law_464 {d : Nat} {r S : List MV} {M : MH} {Q : Out → MH → Prop} {w0 w1 w2 : MV} {z : Int} (k : MW mL_law d 465 (w0 :: w1 :: w2 :: vi z :: r) (vi z :: S) M Q) : MW mL_law d 464 (w0 :: w1 :: w2 :: vi z :: r) S M Q := mw_iload_n ⟨dL_law_464, rfl⟩ rfl k
theorem dL_law_465 : decode cL_law 465 = .ok (.iconst 2, 1) := dk_5 (dk_at dksL_law_14 11 rfl rfl)
theorem iL_law_465 {d : Nat} {L S : List MV} {M : MH} {Q : Out → MH → Prop}  (k : MW mL_law d 466 (L) (vi 2 :: S) M Q) : MW mL_law d 465 (L) S M Q := mw_iconst ⟨dL_law_465, rfl⟩ k
theorem dL_law_466 : decode cL_law 466 = .ok (.iadd, 1) := dk_96 (dk_at dksL_law_14 12 rfl rfl)
theorem iL_law_466 {d : Nat} {L S : List MV} {M : MH} {Q : Out → MH → Prop} {a b : Int} (k : MW mL_law d 467 (L) (vi (a + b) :: S) M Q) : MW mL_law d 466 (L) (vi b :: vi a :: S) M Q := mw_iadd ⟨dL_law_466, rfl⟩ k
theorem dL_law_467 : decode cL_law 467 = .ok (.iaload, 1) := dk_46 (dk_at dksL_law_14 13 rfl rfl)
theorem iL_law_467 {d : Nat} {L S : List MV} {M : MH} {Q : Out → MH → Prop} {a n : Nat} {z : Int} (hs : msh M a = (100, n)) (hi : 0 ≤ z ∧ z < n) (k : MW mL_law d 468 L (vi (miv M a z.toNat) :: S) M Q) (hn : Nat.ble n 2147483647 = true := by rfl) : MW mL_law d 467 L (vi z :: vp a :: S) M Q := mw_iaload ⟨dL_law_467, rfl⟩ hs (Nat.le_of_ble_eq_true hn) hi k
theorem dL_law_468 : decode cL_law 468 = .ok (.invokevirtual 55, 3) := dk_182 0 55 (dk_at dksL_law_14 14 rfl rfl)
theorem iL_law_468 {d : Nat} {L S : List MV} {M : MH} {Q : Out → MH → Prop} {v1 v2 : MV} {b : Nat} {P : Int → MH → Prop} (hs : (msh M b).1 = 10) (hM : MCi mX7_whose d [vp b, v1, v2] M P) (k : ∀ z M', P z M' → MW mL_law (d + 1) 471 L (vi z :: S) M' Q) (h8 : Nat.ble (S.map mcat).sum 8 = true := by rfl) : MW mL_law (d + 1) 468 L (v2 :: v1 :: vp b :: S) M Q := mw_calli (as := [vp b, v1, v2]) (site_V (Y' := mX7_whose) (n := 2) ⟨dL_law_468, rfl⟩ (Or.inl q1358) q1359 q1360 wX7_whose nX7_whose hX7_whose (cls_of (ci := 10) rfl hs) rfl) kX7_whose (Nat.le_of_ble_eq_true h8) hM k
theorem dL_law_471 : decode cL_law 471 = .ok (.if_icmp .eq 817, 3) := dk_159 3 49 (dk_at dksL_law_14 17 rfl rfl)
theorem iL_law_471 {d : Nat} {L S : List MV} {M : MH} {Q : Out → MH → Prop} {a b : Int} (ha : inR a) (hb : inR b) (kt : a = b → MW mL_law d 1288 L S M Q) (kf : ¬ a = b → MW mL_law d 474 L S M Q) : MW mL_law d 471 L (vi b :: vi a :: S) M Q := mw_icmp_eq ⟨dL_law_471, rfl⟩ rfl ha hb kt kf
theorem dL_law_474 : decode cL_law 474 = .ok (.iconst 0, 1) := dk_3 (dk_at dksL_law_14 20 rfl rfl)
theorem iL_law_474 {d : Nat} {L S : List MV} {M : MH} {Q : Out → MH → Prop}  (k : MW mL_law d 475 (L) (vi 0 :: S) M Q) : MW mL_law d 474 (L) S M Q := mw_iconst ⟨dL_law_474, rfl⟩ k
theorem dL_law_475 : decode cL_law 475 = .ok (.ireturn, 1) := dk_172 (dk_at dksL_law_14 21 rfl rfl)
theorem iL_law_475 {d : Nat} {L : List MV} {M : MH} {P : Int → MH → Prop} {z : Int} (hz : z = 0 ∨ z = 1) (hq : P z M) : MW mL_law d 475 L [vi z] M (Ri P) := mw_retz ⟨dL_law_475, rfl⟩ rfl hz hq
theorem dL_law_476 : decode cL_law 476 = .ok (.aload_n 1, 1) := dk_43 (dk_at dksL_law_14 22 rfl rfl)
theorem iL_law_476 {d : Nat} {r S : List MV} {M : MH} {Q : Out → MH → Prop} {w0 : MV} {o : Option Nat} (k : MW mL_law d 477 (w0 :: vr o :: r) (vr o :: S) M Q) : MW mL_law d 476 (w0 :: vr o :: r) S M Q := mw_aload_n ⟨dL_law_476, rfl⟩ rfl k
theorem dL_law_477 : decode cL_law 477 = .ok (.aload_n 0, 1) := dk_42 (dk_at dksL_law_14 23 rfl rfl)
theorem iL_law_477 {d : Nat} {r S : List MV} {M : MH} {Q : Out → MH → Prop} {o : Option Nat} (k : MW mL_law d 478 (vr o :: r) (vr o :: S) M Q) : MW mL_law d 477 (vr o :: r) S M Q := mw_aload_n ⟨dL_law_477, rfl⟩ rfl k
theorem dL_law_478 : decode cL_law 478 = .ok (.iload_n 3, 1) := dk_29 (dk_at dksL_law_15 0 rfl rfl)
theorem iL_law_478 {d : Nat} {r S : List MV} {M : MH} {Q : Out → MH → Prop} {w0 w1 w2 : MV} {z : Int} (k : MW mL_law d 479 (w0 :: w1 :: w2 :: vi z :: r) (vi z :: S) M Q) : MW mL_law d 478 (w0 :: w1 :: w2 :: vi z :: r) S M Q := mw_iload_n ⟨dL_law_478, rfl⟩ rfl k
theorem dL_law_479 : decode cL_law 479 = .ok (.iconst 1, 1) := dk_4 (dk_at dksL_law_15 1 rfl rfl)
theorem iL_law_479 {d : Nat} {L S : List MV} {M : MH} {Q : Out → MH → Prop}  (k : MW mL_law d 480 (L) (vi 1 :: S) M Q) : MW mL_law d 479 (L) S M Q := mw_iconst ⟨dL_law_479, rfl⟩ k
theorem dL_law_480 : decode cL_law 480 = .ok (.iadd, 1) := dk_96 (dk_at dksL_law_15 2 rfl rfl)
theorem iL_law_480 {d : Nat} {L S : List MV} {M : MH} {Q : Out → MH → Prop} {a b : Int} (k : MW mL_law d 481 (L) (vi (a + b) :: S) M Q) : MW mL_law d 480 (L) (vi b :: vi a :: S) M Q := mw_iadd ⟨dL_law_480, rfl⟩ k
theorem dL_law_481 : decode cL_law 481 = .ok (.iaload, 1) := dk_46 (dk_at dksL_law_15 3 rfl rfl)
theorem iL_law_481 {d : Nat} {L S : List MV} {M : MH} {Q : Out → MH → Prop} {a n : Nat} {z : Int} (hs : msh M a = (100, n)) (hi : 0 ≤ z ∧ z < n) (k : MW mL_law d 482 L (vi (miv M a z.toNat) :: S) M Q) (hn : Nat.ble n 2147483647 = true := by rfl) : MW mL_law d 481 L (vi z :: vp a :: S) M Q := mw_iaload ⟨dL_law_481, rfl⟩ hs (Nat.le_of_ble_eq_true hn) hi k
theorem dL_law_482 : decode cL_law 482 = .ok (.aload_n 0, 1) := dk_42 (dk_at dksL_law_15 4 rfl rfl)
theorem iL_law_482 {d : Nat} {r S : List MV} {M : MH} {Q : Out → MH → Prop} {o : Option Nat} (k : MW mL_law d 483 (vr o :: r) (vr o :: S) M Q) : MW mL_law d 482 (vr o :: r) S M Q := mw_aload_n ⟨dL_law_482, rfl⟩ rfl k
theorem dL_law_483 : decode cL_law 483 = .ok (.iload_n 3, 1) := dk_29 (dk_at dksL_law_15 5 rfl rfl)
theorem iL_law_483 {d : Nat} {r S : List MV} {M : MH} {Q : Out → MH → Prop} {w0 w1 w2 : MV} {z : Int} (k : MW mL_law d 484 (w0 :: w1 :: w2 :: vi z :: r) (vi z :: S) M Q) : MW mL_law d 483 (w0 :: w1 :: w2 :: vi z :: r) S M Q := mw_iload_n ⟨dL_law_483, rfl⟩ rfl k
theorem dL_law_484 : decode cL_law 484 = .ok (.iconst 2, 1) := dk_5 (dk_at dksL_law_15 6 rfl rfl)
theorem iL_law_484 {d : Nat} {L S : List MV} {M : MH} {Q : Out → MH → Prop}  (k : MW mL_law d 485 (L) (vi 2 :: S) M Q) : MW mL_law d 484 (L) S M Q := mw_iconst ⟨dL_law_484, rfl⟩ k
theorem dL_law_485 : decode cL_law 485 = .ok (.iadd, 1) := dk_96 (dk_at dksL_law_15 7 rfl rfl)
theorem iL_law_485 {d : Nat} {L S : List MV} {M : MH} {Q : Out → MH → Prop} {a b : Int} (k : MW mL_law d 486 (L) (vi (a + b) :: S) M Q) : MW mL_law d 485 (L) (vi b :: vi a :: S) M Q := mw_iadd ⟨dL_law_485, rfl⟩ k
theorem dL_law_486 : decode cL_law 486 = .ok (.iaload, 1) := dk_46 (dk_at dksL_law_15 8 rfl rfl)
theorem iL_law_486 {d : Nat} {L S : List MV} {M : MH} {Q : Out → MH → Prop} {a n : Nat} {z : Int} (hs : msh M a = (100, n)) (hi : 0 ≤ z ∧ z < n) (k : MW mL_law d 487 L (vi (miv M a z.toNat) :: S) M Q) (hn : Nat.ble n 2147483647 = true := by rfl) : MW mL_law d 486 L (vi z :: vp a :: S) M Q := mw_iaload ⟨dL_law_486, rfl⟩ hs (Nat.le_of_ble_eq_true hn) hi k
theorem dL_law_487 : decode cL_law 487 = .ok (.invokevirtual 56, 3) := dk_182 0 56 (dk_at dksL_law_15 9 rfl rfl)
theorem iL_law_487 {d : Nat} {L S : List MV} {M : MH} {Q : Out → MH → Prop} {v1 v2 : MV} {b : Nat} {P : Int → MH → Prop} (hs : (msh M b).1 = 0) (hM : MCi mX0_keeper d [vp b, v1, v2] M P) (k : ∀ z M', P z M' → MW mL_law (d + 1) 490 L (vi z :: S) M' Q) (h8 : Nat.ble (S.map mcat).sum 8 = true := by rfl) : MW mL_law (d + 1) 487 L (v2 :: v1 :: vp b :: S) M Q := mw_calli (as := [vp b, v1, v2]) (site_V (Y' := mX0_keeper) (n := 2) ⟨dL_law_487, rfl⟩ (Or.inl q815) q816 q817 wX0_keeper nX0_keeper hX0_keeper (cls_of (ci := 0) rfl hs) rfl) kX0_keeper (Nat.le_of_ble_eq_true h8) hM k
theorem dL_law_490 : decode cL_law 490 = .ok (.aload_n 2, 1) := dk_44 (dk_at dksL_law_15 12 rfl rfl)
theorem iL_law_490 {d : Nat} {r S : List MV} {M : MH} {Q : Out → MH → Prop} {w0 w1 : MV} {o : Option Nat} (k : MW mL_law d 491 (w0 :: w1 :: vr o :: r) (vr o :: S) M Q) : MW mL_law d 490 (w0 :: w1 :: vr o :: r) S M Q := mw_aload_n ⟨dL_law_490, rfl⟩ rfl k
theorem dL_law_491 : decode cL_law 491 = .ok (.aload_n 0, 1) := dk_42 (dk_at dksL_law_15 13 rfl rfl)
theorem iL_law_491 {d : Nat} {r S : List MV} {M : MH} {Q : Out → MH → Prop} {o : Option Nat} (k : MW mL_law d 492 (vr o :: r) (vr o :: S) M Q) : MW mL_law d 491 (vr o :: r) S M Q := mw_aload_n ⟨dL_law_491, rfl⟩ rfl k
theorem dL_law_492 : decode cL_law 492 = .ok (.iload_n 3, 1) := dk_29 (dk_at dksL_law_15 14 rfl rfl)
theorem iL_law_492 {d : Nat} {r S : List MV} {M : MH} {Q : Out → MH → Prop} {w0 w1 w2 : MV} {z : Int} (k : MW mL_law d 493 (w0 :: w1 :: w2 :: vi z :: r) (vi z :: S) M Q) : MW mL_law d 492 (w0 :: w1 :: w2 :: vi z :: r) S M Q := mw_iload_n ⟨dL_law_492, rfl⟩ rfl k
theorem dL_law_493 : decode cL_law 493 = .ok (.iconst 1, 1) := dk_4 (dk_at dksL_law_15 15 rfl rfl)
theorem iL_law_493 {d : Nat} {L S : List MV} {M : MH} {Q : Out → MH → Prop}  (k : MW mL_law d 494 (L) (vi 1 :: S) M Q) : MW mL_law d 493 (L) S M Q := mw_iconst ⟨dL_law_493, rfl⟩ k
theorem dL_law_494 : decode cL_law 494 = .ok (.iadd, 1) := dk_96 (dk_at dksL_law_15 16 rfl rfl)
theorem iL_law_494 {d : Nat} {L S : List MV} {M : MH} {Q : Out → MH → Prop} {a b : Int} (k : MW mL_law d 495 (L) (vi (a + b) :: S) M Q) : MW mL_law d 494 (L) (vi b :: vi a :: S) M Q := mw_iadd ⟨dL_law_494, rfl⟩ k
theorem dL_law_495 : decode cL_law 495 = .ok (.iaload, 1) := dk_46 (dk_at dksL_law_15 17 rfl rfl)
theorem iL_law_495 {d : Nat} {L S : List MV} {M : MH} {Q : Out → MH → Prop} {a n : Nat} {z : Int} (hs : msh M a = (100, n)) (hi : 0 ≤ z ∧ z < n) (k : MW mL_law d 496 L (vi (miv M a z.toNat) :: S) M Q) (hn : Nat.ble n 2147483647 = true := by rfl) : MW mL_law d 495 L (vi z :: vp a :: S) M Q := mw_iaload ⟨dL_law_495, rfl⟩ hs (Nat.le_of_ble_eq_true hn) hi k
theorem dL_law_496 : decode cL_law 496 = .ok (.aload_n 0, 1) := dk_42 (dk_at dksL_law_15 18 rfl rfl)
theorem iL_law_496 {d : Nat} {r S : List MV} {M : MH} {Q : Out → MH → Prop} {o : Option Nat} (k : MW mL_law d 497 (vr o :: r) (vr o :: S) M Q) : MW mL_law d 496 (vr o :: r) S M Q := mw_aload_n ⟨dL_law_496, rfl⟩ rfl k
theorem dL_law_497 : decode cL_law 497 = .ok (.iload_n 3, 1) := dk_29 (dk_at dksL_law_15 19 rfl rfl)
theorem iL_law_497 {d : Nat} {r S : List MV} {M : MH} {Q : Out → MH → Prop} {w0 w1 w2 : MV} {z : Int} (k : MW mL_law d 498 (w0 :: w1 :: w2 :: vi z :: r) (vi z :: S) M Q) : MW mL_law d 497 (w0 :: w1 :: w2 :: vi z :: r) S M Q := mw_iload_n ⟨dL_law_497, rfl⟩ rfl k
theorem dL_law_498 : decode cL_law 498 = .ok (.iconst 2, 1) := dk_5 (dk_at dksL_law_15 20 rfl rfl)
theorem iL_law_498 {d : Nat} {L S : List MV} {M : MH} {Q : Out → MH → Prop}  (k : MW mL_law d 499 (L) (vi 2 :: S) M Q) : MW mL_law d 498 (L) S M Q := mw_iconst ⟨dL_law_498, rfl⟩ k
theorem dL_law_499 : decode cL_law 499 = .ok (.iadd, 1) := dk_96 (dk_at dksL_law_15 21 rfl rfl)
theorem iL_law_499 {d : Nat} {L S : List MV} {M : MH} {Q : Out → MH → Prop} {a b : Int} (k : MW mL_law d 500 (L) (vi (a + b) :: S) M Q) : MW mL_law d 499 (L) (vi b :: vi a :: S) M Q := mw_iadd ⟨dL_law_499, rfl⟩ k
theorem dL_law_500 : decode cL_law 500 = .ok (.iaload, 1) := dk_46 (dk_at dksL_law_15 22 rfl rfl)
theorem iL_law_500 {d : Nat} {L S : List MV} {M : MH} {Q : Out → MH → Prop} {a n : Nat} {z : Int} (hs : msh M a = (100, n)) (hi : 0 ≤ z ∧ z < n) (k : MW mL_law d 501 L (vi (miv M a z.toNat) :: S) M Q) (hn : Nat.ble n 2147483647 = true := by rfl) : MW mL_law d 500 L (vi z :: vp a :: S) M Q := mw_iaload ⟨dL_law_500, rfl⟩ hs (Nat.le_of_ble_eq_true hn) hi k
theorem dL_law_501 : decode cL_law 501 = .ok (.invokevirtual 59, 3) := dk_182 0 59 (dk_at dksL_law_16 0 rfl rfl)
theorem iL_law_501 {d : Nat} {L S : List MV} {M : MH} {Q : Out → MH → Prop} {v1 v2 : MV} {b : Nat} {P : Int → MH → Prop} (hs : (msh M b).1 = 10) (hM : MCi mX7_keeper d [vp b, v1, v2] M P) (k : ∀ z M', P z M' → MW mL_law (d + 1) 504 L (vi z :: S) M' Q) (h8 : Nat.ble (S.map mcat).sum 8 = true := by rfl) : MW mL_law (d + 1) 501 L (v2 :: v1 :: vp b :: S) M Q := mw_calli (as := [vp b, v1, v2]) (site_V (Y' := mX7_keeper) (n := 2) ⟨dL_law_501, rfl⟩ (Or.inl q1381) q1382 q1383 wX7_keeper nX7_keeper hX7_keeper (cls_of (ci := 10) rfl hs) rfl) kX7_keeper (Nat.le_of_ble_eq_true h8) hM k
theorem dL_law_504 : decode cL_law 504 = .ok (.if_icmp .eq 784, 3) := dk_159 3 16 (dk_at dksL_law_16 3 rfl rfl)
theorem iL_law_504 {d : Nat} {L S : List MV} {M : MH} {Q : Out → MH → Prop} {a b : Int} (ha : inR a) (hb : inR b) (kt : a = b → MW mL_law d 1288 L S M Q) (kf : ¬ a = b → MW mL_law d 507 L S M Q) : MW mL_law d 504 L (vi b :: vi a :: S) M Q := mw_icmp_eq ⟨dL_law_504, rfl⟩ rfl ha hb kt kf
theorem dL_law_507 : decode cL_law 507 = .ok (.iconst 0, 1) := dk_3 (dk_at dksL_law_16 6 rfl rfl)
theorem iL_law_507 {d : Nat} {L S : List MV} {M : MH} {Q : Out → MH → Prop}  (k : MW mL_law d 508 (L) (vi 0 :: S) M Q) : MW mL_law d 507 (L) S M Q := mw_iconst ⟨dL_law_507, rfl⟩ k
theorem dL_law_508 : decode cL_law 508 = .ok (.ireturn, 1) := dk_172 (dk_at dksL_law_16 7 rfl rfl)
theorem iL_law_508 {d : Nat} {L : List MV} {M : MH} {P : Int → MH → Prop} {z : Int} (hz : z = 0 ∨ z = 1) (hq : P z M) : MW mL_law d 508 L [vi z] M (Ri P) := mw_retz ⟨dL_law_508, rfl⟩ rfl hz hq
theorem dL_law_509 : decode cL_law 509 = .ok (.aload_n 1, 1) := dk_43 (dk_at dksL_law_16 8 rfl rfl)
theorem iL_law_509 {d : Nat} {r S : List MV} {M : MH} {Q : Out → MH → Prop} {w0 : MV} {o : Option Nat} (k : MW mL_law d 510 (w0 :: vr o :: r) (vr o :: S) M Q) : MW mL_law d 509 (w0 :: vr o :: r) S M Q := mw_aload_n ⟨dL_law_509, rfl⟩ rfl k
theorem dL_law_510 : decode cL_law 510 = .ok (.aload_n 0, 1) := dk_42 (dk_at dksL_law_16 9 rfl rfl)
theorem iL_law_510 {d : Nat} {r S : List MV} {M : MH} {Q : Out → MH → Prop} {o : Option Nat} (k : MW mL_law d 511 (vr o :: r) (vr o :: S) M Q) : MW mL_law d 510 (vr o :: r) S M Q := mw_aload_n ⟨dL_law_510, rfl⟩ rfl k
theorem dL_law_511 : decode cL_law 511 = .ok (.iload_n 3, 1) := dk_29 (dk_at dksL_law_16 10 rfl rfl)
theorem iL_law_511 {d : Nat} {r S : List MV} {M : MH} {Q : Out → MH → Prop} {w0 w1 w2 : MV} {z : Int} (k : MW mL_law d 512 (w0 :: w1 :: w2 :: vi z :: r) (vi z :: S) M Q) : MW mL_law d 511 (w0 :: w1 :: w2 :: vi z :: r) S M Q := mw_iload_n ⟨dL_law_511, rfl⟩ rfl k
theorem dL_law_512 : decode cL_law 512 = .ok (.iconst 1, 1) := dk_4 (dk_at dksL_law_16 11 rfl rfl)
theorem iL_law_512 {d : Nat} {L S : List MV} {M : MH} {Q : Out → MH → Prop}  (k : MW mL_law d 513 (L) (vi 1 :: S) M Q) : MW mL_law d 512 (L) S M Q := mw_iconst ⟨dL_law_512, rfl⟩ k
theorem dL_law_513 : decode cL_law 513 = .ok (.iadd, 1) := dk_96 (dk_at dksL_law_16 12 rfl rfl)
theorem iL_law_513 {d : Nat} {L S : List MV} {M : MH} {Q : Out → MH → Prop} {a b : Int} (k : MW mL_law d 514 (L) (vi (a + b) :: S) M Q) : MW mL_law d 513 (L) (vi b :: vi a :: S) M Q := mw_iadd ⟨dL_law_513, rfl⟩ k
theorem dL_law_514 : decode cL_law 514 = .ok (.iaload, 1) := dk_46 (dk_at dksL_law_16 13 rfl rfl)
theorem iL_law_514 {d : Nat} {L S : List MV} {M : MH} {Q : Out → MH → Prop} {a n : Nat} {z : Int} (hs : msh M a = (100, n)) (hi : 0 ≤ z ∧ z < n) (k : MW mL_law d 515 L (vi (miv M a z.toNat) :: S) M Q) (hn : Nat.ble n 2147483647 = true := by rfl) : MW mL_law d 514 L (vi z :: vp a :: S) M Q := mw_iaload ⟨dL_law_514, rfl⟩ hs (Nat.le_of_ble_eq_true hn) hi k
theorem dL_law_515 : decode cL_law 515 = .ok (.aload_n 0, 1) := dk_42 (dk_at dksL_law_16 14 rfl rfl)
theorem iL_law_515 {d : Nat} {r S : List MV} {M : MH} {Q : Out → MH → Prop} {o : Option Nat} (k : MW mL_law d 516 (vr o :: r) (vr o :: S) M Q) : MW mL_law d 515 (vr o :: r) S M Q := mw_aload_n ⟨dL_law_515, rfl⟩ rfl k
theorem dL_law_516 : decode cL_law 516 = .ok (.iload_n 3, 1) := dk_29 (dk_at dksL_law_16 15 rfl rfl)
theorem iL_law_516 {d : Nat} {r S : List MV} {M : MH} {Q : Out → MH → Prop} {w0 w1 w2 : MV} {z : Int} (k : MW mL_law d 517 (w0 :: w1 :: w2 :: vi z :: r) (vi z :: S) M Q) : MW mL_law d 516 (w0 :: w1 :: w2 :: vi z :: r) S M Q := mw_iload_n ⟨dL_law_516, rfl⟩ rfl k
theorem dL_law_517 : decode cL_law 517 = .ok (.iconst 2, 1) := dk_5 (dk_at dksL_law_16 16 rfl rfl)
theorem iL_law_517 {d : Nat} {L S : List MV} {M : MH} {Q : Out → MH → Prop}  (k : MW mL_law d 518 (L) (vi 2 :: S) M Q) : MW mL_law d 517 (L) S M Q := mw_iconst ⟨dL_law_517, rfl⟩ k
theorem dL_law_518 : decode cL_law 518 = .ok (.iadd, 1) := dk_96 (dk_at dksL_law_16 17 rfl rfl)
theorem iL_law_518 {d : Nat} {L S : List MV} {M : MH} {Q : Out → MH → Prop} {a b : Int} (k : MW mL_law d 519 (L) (vi (a + b) :: S) M Q) : MW mL_law d 518 (L) (vi b :: vi a :: S) M Q := mw_iadd ⟨dL_law_518, rfl⟩ k
theorem dL_law_519 : decode cL_law 519 = .ok (.iaload, 1) := dk_46 (dk_at dksL_law_16 18 rfl rfl)
theorem iL_law_519 {d : Nat} {L S : List MV} {M : MH} {Q : Out → MH → Prop} {a n : Nat} {z : Int} (hs : msh M a = (100, n)) (hi : 0 ≤ z ∧ z < n) (k : MW mL_law d 520 L (vi (miv M a z.toNat) :: S) M Q) (hn : Nat.ble n 2147483647 = true := by rfl) : MW mL_law d 519 L (vi z :: vp a :: S) M Q := mw_iaload ⟨dL_law_519, rfl⟩ hs (Nat.le_of_ble_eq_true hn) hi k
theorem dL_law_520 : decode cL_law 520 = .ok (.invokevirtual 60, 3) := dk_182 0 60 (dk_at dksL_law_16 19 rfl rfl)
theorem iL_law_520 {d : Nat} {L S : List MV} {M : MH} {Q : Out → MH → Prop} {v1 v2 : MV} {b : Nat} {P : Int → MH → Prop} (hs : (msh M b).1 = 0) (hM : MCi mX0_sold d [vp b, v1, v2] M P) (k : ∀ z M', P z M' → MW mL_law (d + 1) 523 L (vi z :: S) M' Q) (h8 : Nat.ble (S.map mcat).sum 8 = true := by rfl) : MW mL_law (d + 1) 520 L (v2 :: v1 :: vp b :: S) M Q := mw_calli (as := [vp b, v1, v2]) (site_V (Y' := mX0_sold) (n := 2) ⟨dL_law_520, rfl⟩ (Or.inl q819) q820 q821 wX0_sold nX0_sold hX0_sold (cls_of (ci := 0) rfl hs) rfl) kX0_sold (Nat.le_of_ble_eq_true h8) hM k
theorem dL_law_523 : decode cL_law 523 = .ok (.aload_n 2, 1) := dk_44 (dk_at dksL_law_16 22 rfl rfl)
theorem iL_law_523 {d : Nat} {r S : List MV} {M : MH} {Q : Out → MH → Prop} {w0 w1 : MV} {o : Option Nat} (k : MW mL_law d 524 (w0 :: w1 :: vr o :: r) (vr o :: S) M Q) : MW mL_law d 523 (w0 :: w1 :: vr o :: r) S M Q := mw_aload_n ⟨dL_law_523, rfl⟩ rfl k
theorem dL_law_524 : decode cL_law 524 = .ok (.aload_n 0, 1) := dk_42 (dk_at dksL_law_16 23 rfl rfl)
theorem iL_law_524 {d : Nat} {r S : List MV} {M : MH} {Q : Out → MH → Prop} {o : Option Nat} (k : MW mL_law d 525 (vr o :: r) (vr o :: S) M Q) : MW mL_law d 524 (vr o :: r) S M Q := mw_aload_n ⟨dL_law_524, rfl⟩ rfl k
theorem dL_law_525 : decode cL_law 525 = .ok (.iload_n 3, 1) := dk_29 (dk_at dksL_law_17 0 rfl rfl)
theorem iL_law_525 {d : Nat} {r S : List MV} {M : MH} {Q : Out → MH → Prop} {w0 w1 w2 : MV} {z : Int} (k : MW mL_law d 526 (w0 :: w1 :: w2 :: vi z :: r) (vi z :: S) M Q) : MW mL_law d 525 (w0 :: w1 :: w2 :: vi z :: r) S M Q := mw_iload_n ⟨dL_law_525, rfl⟩ rfl k
theorem dL_law_526 : decode cL_law 526 = .ok (.iconst 1, 1) := dk_4 (dk_at dksL_law_17 1 rfl rfl)
theorem iL_law_526 {d : Nat} {L S : List MV} {M : MH} {Q : Out → MH → Prop}  (k : MW mL_law d 527 (L) (vi 1 :: S) M Q) : MW mL_law d 526 (L) S M Q := mw_iconst ⟨dL_law_526, rfl⟩ k
theorem dL_law_527 : decode cL_law 527 = .ok (.iadd, 1) := dk_96 (dk_at dksL_law_17 2 rfl rfl)
theorem iL_law_527 {d : Nat} {L S : List MV} {M : MH} {Q : Out → MH → Prop} {a b : Int} (k : MW mL_law d 528 (L) (vi (a + b) :: S) M Q) : MW mL_law d 527 (L) (vi b :: vi a :: S) M Q := mw_iadd ⟨dL_law_527, rfl⟩ k
theorem dL_law_528 : decode cL_law 528 = .ok (.iaload, 1) := dk_46 (dk_at dksL_law_17 3 rfl rfl)
theorem iL_law_528 {d : Nat} {L S : List MV} {M : MH} {Q : Out → MH → Prop} {a n : Nat} {z : Int} (hs : msh M a = (100, n)) (hi : 0 ≤ z ∧ z < n) (k : MW mL_law d 529 L (vi (miv M a z.toNat) :: S) M Q) (hn : Nat.ble n 2147483647 = true := by rfl) : MW mL_law d 528 L (vi z :: vp a :: S) M Q := mw_iaload ⟨dL_law_528, rfl⟩ hs (Nat.le_of_ble_eq_true hn) hi k
theorem dL_law_529 : decode cL_law 529 = .ok (.aload_n 0, 1) := dk_42 (dk_at dksL_law_17 4 rfl rfl)
theorem iL_law_529 {d : Nat} {r S : List MV} {M : MH} {Q : Out → MH → Prop} {o : Option Nat} (k : MW mL_law d 530 (vr o :: r) (vr o :: S) M Q) : MW mL_law d 529 (vr o :: r) S M Q := mw_aload_n ⟨dL_law_529, rfl⟩ rfl k
theorem dL_law_530 : decode cL_law 530 = .ok (.iload_n 3, 1) := dk_29 (dk_at dksL_law_17 5 rfl rfl)
theorem iL_law_530 {d : Nat} {r S : List MV} {M : MH} {Q : Out → MH → Prop} {w0 w1 w2 : MV} {z : Int} (k : MW mL_law d 531 (w0 :: w1 :: w2 :: vi z :: r) (vi z :: S) M Q) : MW mL_law d 530 (w0 :: w1 :: w2 :: vi z :: r) S M Q := mw_iload_n ⟨dL_law_530, rfl⟩ rfl k
theorem dL_law_531 : decode cL_law 531 = .ok (.iconst 2, 1) := dk_5 (dk_at dksL_law_17 6 rfl rfl)
theorem iL_law_531 {d : Nat} {L S : List MV} {M : MH} {Q : Out → MH → Prop}  (k : MW mL_law d 532 (L) (vi 2 :: S) M Q) : MW mL_law d 531 (L) S M Q := mw_iconst ⟨dL_law_531, rfl⟩ k
theorem dL_law_532 : decode cL_law 532 = .ok (.iadd, 1) := dk_96 (dk_at dksL_law_17 7 rfl rfl)
theorem iL_law_532 {d : Nat} {L S : List MV} {M : MH} {Q : Out → MH → Prop} {a b : Int} (k : MW mL_law d 533 (L) (vi (a + b) :: S) M Q) : MW mL_law d 532 (L) (vi b :: vi a :: S) M Q := mw_iadd ⟨dL_law_532, rfl⟩ k
theorem dL_law_533 : decode cL_law 533 = .ok (.iaload, 1) := dk_46 (dk_at dksL_law_17 8 rfl rfl)
theorem iL_law_533 {d : Nat} {L S : List MV} {M : MH} {Q : Out → MH → Prop} {a n : Nat} {z : Int} (hs : msh M a = (100, n)) (hi : 0 ≤ z ∧ z < n) (k : MW mL_law d 534 L (vi (miv M a z.toNat) :: S) M Q) (hn : Nat.ble n 2147483647 = true := by rfl) : MW mL_law d 533 L (vi z :: vp a :: S) M Q := mw_iaload ⟨dL_law_533, rfl⟩ hs (Nat.le_of_ble_eq_true hn) hi k
theorem dL_law_534 : decode cL_law 534 = .ok (.invokevirtual 63, 3) := dk_182 0 63 (dk_at dksL_law_17 9 rfl rfl)
theorem iL_law_534 {d : Nat} {L S : List MV} {M : MH} {Q : Out → MH → Prop} {v1 v2 : MV} {b : Nat} {P : Int → MH → Prop} (hs : (msh M b).1 = 10) (hM : MCi mX7_sold d [vp b, v1, v2] M P) (k : ∀ z M', P z M' → MW mL_law (d + 1) 537 L (vi z :: S) M' Q) (h8 : Nat.ble (S.map mcat).sum 8 = true := by rfl) : MW mL_law (d + 1) 534 L (v2 :: v1 :: vp b :: S) M Q := mw_calli (as := [vp b, v1, v2]) (site_V (Y' := mX7_sold) (n := 2) ⟨dL_law_534, rfl⟩ (Or.inl q1389) q1390 q1391 wX7_sold nX7_sold hX7_sold (cls_of (ci := 10) rfl hs) rfl) kX7_sold (Nat.le_of_ble_eq_true h8) hM k
theorem dL_law_537 : decode cL_law 537 = .ok (.if_icmp .eq 751, 3) := dk_159 2 239 (dk_at dksL_law_17 12 rfl rfl)
theorem iL_law_537 {d : Nat} {L S : List MV} {M : MH} {Q : Out → MH → Prop} {a b : Int} (ha : inR a) (hb : inR b) (kt : a = b → MW mL_law d 1288 L S M Q) (kf : ¬ a = b → MW mL_law d 540 L S M Q) : MW mL_law d 537 L (vi b :: vi a :: S) M Q := mw_icmp_eq ⟨dL_law_537, rfl⟩ rfl ha hb kt kf
theorem dL_law_540 : decode cL_law 540 = .ok (.iconst 0, 1) := dk_3 (dk_at dksL_law_17 15 rfl rfl)
theorem iL_law_540 {d : Nat} {L S : List MV} {M : MH} {Q : Out → MH → Prop}  (k : MW mL_law d 541 (L) (vi 0 :: S) M Q) : MW mL_law d 540 (L) S M Q := mw_iconst ⟨dL_law_540, rfl⟩ k
theorem dL_law_541 : decode cL_law 541 = .ok (.ireturn, 1) := dk_172 (dk_at dksL_law_17 16 rfl rfl)
theorem iL_law_541 {d : Nat} {L : List MV} {M : MH} {P : Int → MH → Prop} {z : Int} (hz : z = 0 ∨ z = 1) (hq : P z M) : MW mL_law d 541 L [vi z] M (Ri P) := mw_retz ⟨dL_law_541, rfl⟩ rfl hz hq
theorem dL_law_542 : decode cL_law 542 = .ok (.aload_n 1, 1) := dk_43 (dk_at dksL_law_17 17 rfl rfl)
theorem iL_law_542 {d : Nat} {r S : List MV} {M : MH} {Q : Out → MH → Prop} {w0 : MV} {o : Option Nat} (k : MW mL_law d 543 (w0 :: vr o :: r) (vr o :: S) M Q) : MW mL_law d 542 (w0 :: vr o :: r) S M Q := mw_aload_n ⟨dL_law_542, rfl⟩ rfl k
theorem dL_law_543 : decode cL_law 543 = .ok (.aload_n 0, 1) := dk_42 (dk_at dksL_law_17 18 rfl rfl)
theorem iL_law_543 {d : Nat} {r S : List MV} {M : MH} {Q : Out → MH → Prop} {o : Option Nat} (k : MW mL_law d 544 (vr o :: r) (vr o :: S) M Q) : MW mL_law d 543 (vr o :: r) S M Q := mw_aload_n ⟨dL_law_543, rfl⟩ rfl k
theorem dL_law_544 : decode cL_law 544 = .ok (.iload_n 3, 1) := dk_29 (dk_at dksL_law_17 19 rfl rfl)
theorem iL_law_544 {d : Nat} {r S : List MV} {M : MH} {Q : Out → MH → Prop} {w0 w1 w2 : MV} {z : Int} (k : MW mL_law d 545 (w0 :: w1 :: w2 :: vi z :: r) (vi z :: S) M Q) : MW mL_law d 544 (w0 :: w1 :: w2 :: vi z :: r) S M Q := mw_iload_n ⟨dL_law_544, rfl⟩ rfl k
theorem dL_law_545 : decode cL_law 545 = .ok (.iconst 1, 1) := dk_4 (dk_at dksL_law_17 20 rfl rfl)
theorem iL_law_545 {d : Nat} {L S : List MV} {M : MH} {Q : Out → MH → Prop}  (k : MW mL_law d 546 (L) (vi 1 :: S) M Q) : MW mL_law d 545 (L) S M Q := mw_iconst ⟨dL_law_545, rfl⟩ k
theorem dL_law_546 : decode cL_law 546 = .ok (.iadd, 1) := dk_96 (dk_at dksL_law_17 21 rfl rfl)
theorem iL_law_546 {d : Nat} {L S : List MV} {M : MH} {Q : Out → MH → Prop} {a b : Int} (k : MW mL_law d 547 (L) (vi (a + b) :: S) M Q) : MW mL_law d 546 (L) (vi b :: vi a :: S) M Q := mw_iadd ⟨dL_law_546, rfl⟩ k
theorem dL_law_547 : decode cL_law 547 = .ok (.iaload, 1) := dk_46 (dk_at dksL_law_17 22 rfl rfl)
theorem iL_law_547 {d : Nat} {L S : List MV} {M : MH} {Q : Out → MH → Prop} {a n : Nat} {z : Int} (hs : msh M a = (100, n)) (hi : 0 ≤ z ∧ z < n) (k : MW mL_law d 548 L (vi (miv M a z.toNat) :: S) M Q) (hn : Nat.ble n 2147483647 = true := by rfl) : MW mL_law d 547 L (vi z :: vp a :: S) M Q := mw_iaload ⟨dL_law_547, rfl⟩ hs (Nat.le_of_ble_eq_true hn) hi k
theorem dL_law_548 : decode cL_law 548 = .ok (.invokevirtual 64, 3) := dk_182 0 64 (dk_at dksL_law_18 0 rfl rfl)
theorem iL_law_548 {d : Nat} {L S : List MV} {M : MH} {Q : Out → MH → Prop} {v1 : MV} {b : Nat} {P : Int → MH → Prop} (hs : (msh M b).1 = 0) (hM : MCi mX0_length d [vp b, v1] M P) (k : ∀ z M', P z M' → MW mL_law (d + 1) 551 L (vi z :: S) M' Q) (h8 : Nat.ble (S.map mcat).sum 8 = true := by rfl) : MW mL_law (d + 1) 548 L (v1 :: vp b :: S) M Q := mw_calli (as := [vp b, v1]) (site_V (Y' := mX0_length) (n := 1) ⟨dL_law_548, rfl⟩ (Or.inl q823) q824 q825 wX0_length nX0_length hX0_length (cls_of (ci := 0) rfl hs) rfl) kX0_length (Nat.le_of_ble_eq_true h8) hM k
theorem dL_law_551 : decode cL_law 551 = .ok (.aload_n 2, 1) := dk_44 (dk_at dksL_law_18 3 rfl rfl)
theorem iL_law_551 {d : Nat} {r S : List MV} {M : MH} {Q : Out → MH → Prop} {w0 w1 : MV} {o : Option Nat} (k : MW mL_law d 552 (w0 :: w1 :: vr o :: r) (vr o :: S) M Q) : MW mL_law d 551 (w0 :: w1 :: vr o :: r) S M Q := mw_aload_n ⟨dL_law_551, rfl⟩ rfl k
theorem dL_law_552 : decode cL_law 552 = .ok (.aload_n 0, 1) := dk_42 (dk_at dksL_law_18 4 rfl rfl)
theorem iL_law_552 {d : Nat} {r S : List MV} {M : MH} {Q : Out → MH → Prop} {o : Option Nat} (k : MW mL_law d 553 (vr o :: r) (vr o :: S) M Q) : MW mL_law d 552 (vr o :: r) S M Q := mw_aload_n ⟨dL_law_552, rfl⟩ rfl k
theorem dL_law_553 : decode cL_law 553 = .ok (.iload_n 3, 1) := dk_29 (dk_at dksL_law_18 5 rfl rfl)
theorem iL_law_553 {d : Nat} {r S : List MV} {M : MH} {Q : Out → MH → Prop} {w0 w1 w2 : MV} {z : Int} (k : MW mL_law d 554 (w0 :: w1 :: w2 :: vi z :: r) (vi z :: S) M Q) : MW mL_law d 553 (w0 :: w1 :: w2 :: vi z :: r) S M Q := mw_iload_n ⟨dL_law_553, rfl⟩ rfl k
theorem dL_law_554 : decode cL_law 554 = .ok (.iconst 1, 1) := dk_4 (dk_at dksL_law_18 6 rfl rfl)
theorem iL_law_554 {d : Nat} {L S : List MV} {M : MH} {Q : Out → MH → Prop}  (k : MW mL_law d 555 (L) (vi 1 :: S) M Q) : MW mL_law d 554 (L) S M Q := mw_iconst ⟨dL_law_554, rfl⟩ k
theorem dL_law_555 : decode cL_law 555 = .ok (.iadd, 1) := dk_96 (dk_at dksL_law_18 7 rfl rfl)
theorem iL_law_555 {d : Nat} {L S : List MV} {M : MH} {Q : Out → MH → Prop} {a b : Int} (k : MW mL_law d 556 (L) (vi (a + b) :: S) M Q) : MW mL_law d 555 (L) (vi b :: vi a :: S) M Q := mw_iadd ⟨dL_law_555, rfl⟩ k
theorem dL_law_556 : decode cL_law 556 = .ok (.iaload, 1) := dk_46 (dk_at dksL_law_18 8 rfl rfl)
theorem iL_law_556 {d : Nat} {L S : List MV} {M : MH} {Q : Out → MH → Prop} {a n : Nat} {z : Int} (hs : msh M a = (100, n)) (hi : 0 ≤ z ∧ z < n) (k : MW mL_law d 557 L (vi (miv M a z.toNat) :: S) M Q) (hn : Nat.ble n 2147483647 = true := by rfl) : MW mL_law d 556 L (vi z :: vp a :: S) M Q := mw_iaload ⟨dL_law_556, rfl⟩ hs (Nat.le_of_ble_eq_true hn) hi k
theorem dL_law_557 : decode cL_law 557 = .ok (.invokevirtual 67, 3) := dk_182 0 67 (dk_at dksL_law_18 9 rfl rfl)
theorem iL_law_557 {d : Nat} {L S : List MV} {M : MH} {Q : Out → MH → Prop} {v1 : MV} {b : Nat} {P : Int → MH → Prop} (hs : (msh M b).1 = 10) (hM : MCi mX7_length d [vp b, v1] M P) (k : ∀ z M', P z M' → MW mL_law (d + 1) 560 L (vi z :: S) M' Q) (h8 : Nat.ble (S.map mcat).sum 8 = true := by rfl) : MW mL_law (d + 1) 557 L (v1 :: vp b :: S) M Q := mw_calli (as := [vp b, v1]) (site_V (Y' := mX7_length) (n := 1) ⟨dL_law_557, rfl⟩ (Or.inl q1397) q1398 q1399 wX7_length nX7_length hX7_length (cls_of (ci := 10) rfl hs) rfl) kX7_length (Nat.le_of_ble_eq_true h8) hM k
theorem dL_law_560 : decode cL_law 560 = .ok (.if_icmp .eq 728, 3) := dk_159 2 216 (dk_at dksL_law_18 12 rfl rfl)
theorem iL_law_560 {d : Nat} {L S : List MV} {M : MH} {Q : Out → MH → Prop} {a b : Int} (ha : inR a) (hb : inR b) (kt : a = b → MW mL_law d 1288 L S M Q) (kf : ¬ a = b → MW mL_law d 563 L S M Q) : MW mL_law d 560 L (vi b :: vi a :: S) M Q := mw_icmp_eq ⟨dL_law_560, rfl⟩ rfl ha hb kt kf
theorem dL_law_563 : decode cL_law 563 = .ok (.iconst 0, 1) := dk_3 (dk_at dksL_law_18 15 rfl rfl)
theorem iL_law_563 {d : Nat} {L S : List MV} {M : MH} {Q : Out → MH → Prop}  (k : MW mL_law d 564 (L) (vi 0 :: S) M Q) : MW mL_law d 563 (L) S M Q := mw_iconst ⟨dL_law_563, rfl⟩ k
theorem dL_law_564 : decode cL_law 564 = .ok (.ireturn, 1) := dk_172 (dk_at dksL_law_18 16 rfl rfl)
theorem iL_law_564 {d : Nat} {L : List MV} {M : MH} {P : Int → MH → Prop} {z : Int} (hz : z = 0 ∨ z = 1) (hq : P z M) : MW mL_law d 564 L [vi z] M (Ri P) := mw_retz ⟨dL_law_564, rfl⟩ rfl hz hq
theorem dL_law_565 : decode cL_law 565 = .ok (.aload_n 1, 1) := dk_43 (dk_at dksL_law_18 17 rfl rfl)
theorem iL_law_565 {d : Nat} {r S : List MV} {M : MH} {Q : Out → MH → Prop} {w0 : MV} {o : Option Nat} (k : MW mL_law d 566 (w0 :: vr o :: r) (vr o :: S) M Q) : MW mL_law d 565 (w0 :: vr o :: r) S M Q := mw_aload_n ⟨dL_law_565, rfl⟩ rfl k
theorem dL_law_566 : decode cL_law 566 = .ok (.aload_n 0, 1) := dk_42 (dk_at dksL_law_18 18 rfl rfl)
theorem iL_law_566 {d : Nat} {r S : List MV} {M : MH} {Q : Out → MH → Prop} {o : Option Nat} (k : MW mL_law d 567 (vr o :: r) (vr o :: S) M Q) : MW mL_law d 566 (vr o :: r) S M Q := mw_aload_n ⟨dL_law_566, rfl⟩ rfl k
theorem dL_law_567 : decode cL_law 567 = .ok (.iload_n 3, 1) := dk_29 (dk_at dksL_law_18 19 rfl rfl)
theorem iL_law_567 {d : Nat} {r S : List MV} {M : MH} {Q : Out → MH → Prop} {w0 w1 w2 : MV} {z : Int} (k : MW mL_law d 568 (w0 :: w1 :: w2 :: vi z :: r) (vi z :: S) M Q) : MW mL_law d 567 (w0 :: w1 :: w2 :: vi z :: r) S M Q := mw_iload_n ⟨dL_law_567, rfl⟩ rfl k
theorem dL_law_568 : decode cL_law 568 = .ok (.iconst 1, 1) := dk_4 (dk_at dksL_law_18 20 rfl rfl)
theorem iL_law_568 {d : Nat} {L S : List MV} {M : MH} {Q : Out → MH → Prop}  (k : MW mL_law d 569 (L) (vi 1 :: S) M Q) : MW mL_law d 568 (L) S M Q := mw_iconst ⟨dL_law_568, rfl⟩ k
theorem dL_law_569 : decode cL_law 569 = .ok (.iadd, 1) := dk_96 (dk_at dksL_law_18 21 rfl rfl)
theorem iL_law_569 {d : Nat} {L S : List MV} {M : MH} {Q : Out → MH → Prop} {a b : Int} (k : MW mL_law d 570 (L) (vi (a + b) :: S) M Q) : MW mL_law d 569 (L) (vi b :: vi a :: S) M Q := mw_iadd ⟨dL_law_569, rfl⟩ k
theorem dL_law_570 : decode cL_law 570 = .ok (.iaload, 1) := dk_46 (dk_at dksL_law_18 22 rfl rfl)
theorem iL_law_570 {d : Nat} {L S : List MV} {M : MH} {Q : Out → MH → Prop} {a n : Nat} {z : Int} (hs : msh M a = (100, n)) (hi : 0 ≤ z ∧ z < n) (k : MW mL_law d 571 L (vi (miv M a z.toNat) :: S) M Q) (hn : Nat.ble n 2147483647 = true := by rfl) : MW mL_law d 570 L (vi z :: vp a :: S) M Q := mw_iaload ⟨dL_law_570, rfl⟩ hs (Nat.le_of_ble_eq_true hn) hi k
theorem dL_law_571 : decode cL_law 571 = .ok (.aload_n 0, 1) := dk_42 (dk_at dksL_law_18 23 rfl rfl)
theorem iL_law_571 {d : Nat} {r S : List MV} {M : MH} {Q : Out → MH → Prop} {o : Option Nat} (k : MW mL_law d 572 (vr o :: r) (vr o :: S) M Q) : MW mL_law d 571 (vr o :: r) S M Q := mw_aload_n ⟨dL_law_571, rfl⟩ rfl k
theorem dL_law_572 : decode cL_law 572 = .ok (.iload_n 3, 1) := dk_29 (dk_at dksL_law_19 0 rfl rfl)
theorem iL_law_572 {d : Nat} {r S : List MV} {M : MH} {Q : Out → MH → Prop} {w0 w1 w2 : MV} {z : Int} (k : MW mL_law d 573 (w0 :: w1 :: w2 :: vi z :: r) (vi z :: S) M Q) : MW mL_law d 572 (w0 :: w1 :: w2 :: vi z :: r) S M Q := mw_iload_n ⟨dL_law_572, rfl⟩ rfl k
theorem dL_law_573 : decode cL_law 573 = .ok (.iconst 2, 1) := dk_5 (dk_at dksL_law_19 1 rfl rfl)
theorem iL_law_573 {d : Nat} {L S : List MV} {M : MH} {Q : Out → MH → Prop}  (k : MW mL_law d 574 (L) (vi 2 :: S) M Q) : MW mL_law d 573 (L) S M Q := mw_iconst ⟨dL_law_573, rfl⟩ k
theorem dL_law_574 : decode cL_law 574 = .ok (.iadd, 1) := dk_96 (dk_at dksL_law_19 2 rfl rfl)
theorem iL_law_574 {d : Nat} {L S : List MV} {M : MH} {Q : Out → MH → Prop} {a b : Int} (k : MW mL_law d 575 (L) (vi (a + b) :: S) M Q) : MW mL_law d 574 (L) (vi b :: vi a :: S) M Q := mw_iadd ⟨dL_law_574, rfl⟩ k
theorem dL_law_575 : decode cL_law 575 = .ok (.iaload, 1) := dk_46 (dk_at dksL_law_19 3 rfl rfl)
theorem iL_law_575 {d : Nat} {L S : List MV} {M : MH} {Q : Out → MH → Prop} {a n : Nat} {z : Int} (hs : msh M a = (100, n)) (hi : 0 ≤ z ∧ z < n) (k : MW mL_law d 576 L (vi (miv M a z.toNat) :: S) M Q) (hn : Nat.ble n 2147483647 = true := by rfl) : MW mL_law d 575 L (vi z :: vp a :: S) M Q := mw_iaload ⟨dL_law_575, rfl⟩ hs (Nat.le_of_ble_eq_true hn) hi k
theorem dL_law_576 : decode cL_law 576 = .ok (.aload_n 0, 1) := dk_42 (dk_at dksL_law_19 4 rfl rfl)
theorem iL_law_576 {d : Nat} {r S : List MV} {M : MH} {Q : Out → MH → Prop} {o : Option Nat} (k : MW mL_law d 577 (vr o :: r) (vr o :: S) M Q) : MW mL_law d 576 (vr o :: r) S M Q := mw_aload_n ⟨dL_law_576, rfl⟩ rfl k
theorem dL_law_577 : decode cL_law 577 = .ok (.iload_n 3, 1) := dk_29 (dk_at dksL_law_19 5 rfl rfl)
theorem iL_law_577 {d : Nat} {r S : List MV} {M : MH} {Q : Out → MH → Prop} {w0 w1 w2 : MV} {z : Int} (k : MW mL_law d 578 (w0 :: w1 :: w2 :: vi z :: r) (vi z :: S) M Q) : MW mL_law d 577 (w0 :: w1 :: w2 :: vi z :: r) S M Q := mw_iload_n ⟨dL_law_577, rfl⟩ rfl k
theorem dL_law_578 : decode cL_law 578 = .ok (.iconst 3, 1) := dk_6 (dk_at dksL_law_19 6 rfl rfl)
theorem iL_law_578 {d : Nat} {L S : List MV} {M : MH} {Q : Out → MH → Prop}  (k : MW mL_law d 579 (L) (vi 3 :: S) M Q) : MW mL_law d 578 (L) S M Q := mw_iconst ⟨dL_law_578, rfl⟩ k
theorem dL_law_579 : decode cL_law 579 = .ok (.iadd, 1) := dk_96 (dk_at dksL_law_19 7 rfl rfl)
theorem iL_law_579 {d : Nat} {L S : List MV} {M : MH} {Q : Out → MH → Prop} {a b : Int} (k : MW mL_law d 580 (L) (vi (a + b) :: S) M Q) : MW mL_law d 579 (L) (vi b :: vi a :: S) M Q := mw_iadd ⟨dL_law_579, rfl⟩ k
theorem dL_law_580 : decode cL_law 580 = .ok (.iaload, 1) := dk_46 (dk_at dksL_law_19 8 rfl rfl)
theorem iL_law_580 {d : Nat} {L S : List MV} {M : MH} {Q : Out → MH → Prop} {a n : Nat} {z : Int} (hs : msh M a = (100, n)) (hi : 0 ≤ z ∧ z < n) (k : MW mL_law d 581 L (vi (miv M a z.toNat) :: S) M Q) (hn : Nat.ble n 2147483647 = true := by rfl) : MW mL_law d 580 L (vi z :: vp a :: S) M Q := mw_iaload ⟨dL_law_580, rfl⟩ hs (Nat.le_of_ble_eq_true hn) hi k
theorem dL_law_581 : decode cL_law 581 = .ok (.invokevirtual 68, 3) := dk_182 0 68 (dk_at dksL_law_19 9 rfl rfl)
theorem iL_law_581 {d : Nat} {L S : List MV} {M : MH} {Q : Out → MH → Prop} {v1 v2 v3 : MV} {b : Nat} {P : Int → MH → Prop} (hs : (msh M b).1 = 0) (hM : MCi mX0_worth d [vp b, v1, v2, v3] M P) (k : ∀ z M', P z M' → MW mL_law (d + 1) 584 L (vi z :: S) M' Q) (h8 : Nat.ble (S.map mcat).sum 8 = true := by rfl) : MW mL_law (d + 1) 581 L (v3 :: v2 :: v1 :: vp b :: S) M Q := mw_calli (as := [vp b, v1, v2, v3]) (site_V (Y' := mX0_worth) (n := 3) ⟨dL_law_581, rfl⟩ (Or.inl q831) q832 q833 wX0_worth nX0_worth hX0_worth (cls_of (ci := 0) rfl hs) rfl) kX0_worth (Nat.le_of_ble_eq_true h8) hM k
theorem dL_law_584 : decode cL_law 584 = .ok (.aload_n 2, 1) := dk_44 (dk_at dksL_law_19 12 rfl rfl)
theorem iL_law_584 {d : Nat} {r S : List MV} {M : MH} {Q : Out → MH → Prop} {w0 w1 : MV} {o : Option Nat} (k : MW mL_law d 585 (w0 :: w1 :: vr o :: r) (vr o :: S) M Q) : MW mL_law d 584 (w0 :: w1 :: vr o :: r) S M Q := mw_aload_n ⟨dL_law_584, rfl⟩ rfl k
theorem dL_law_585 : decode cL_law 585 = .ok (.aload_n 0, 1) := dk_42 (dk_at dksL_law_19 13 rfl rfl)
theorem iL_law_585 {d : Nat} {r S : List MV} {M : MH} {Q : Out → MH → Prop} {o : Option Nat} (k : MW mL_law d 586 (vr o :: r) (vr o :: S) M Q) : MW mL_law d 585 (vr o :: r) S M Q := mw_aload_n ⟨dL_law_585, rfl⟩ rfl k
theorem dL_law_586 : decode cL_law 586 = .ok (.iload_n 3, 1) := dk_29 (dk_at dksL_law_19 14 rfl rfl)
theorem iL_law_586 {d : Nat} {r S : List MV} {M : MH} {Q : Out → MH → Prop} {w0 w1 w2 : MV} {z : Int} (k : MW mL_law d 587 (w0 :: w1 :: w2 :: vi z :: r) (vi z :: S) M Q) : MW mL_law d 586 (w0 :: w1 :: w2 :: vi z :: r) S M Q := mw_iload_n ⟨dL_law_586, rfl⟩ rfl k
theorem dL_law_587 : decode cL_law 587 = .ok (.iconst 1, 1) := dk_4 (dk_at dksL_law_19 15 rfl rfl)
theorem iL_law_587 {d : Nat} {L S : List MV} {M : MH} {Q : Out → MH → Prop}  (k : MW mL_law d 588 (L) (vi 1 :: S) M Q) : MW mL_law d 587 (L) S M Q := mw_iconst ⟨dL_law_587, rfl⟩ k
theorem dL_law_588 : decode cL_law 588 = .ok (.iadd, 1) := dk_96 (dk_at dksL_law_19 16 rfl rfl)
theorem iL_law_588 {d : Nat} {L S : List MV} {M : MH} {Q : Out → MH → Prop} {a b : Int} (k : MW mL_law d 589 (L) (vi (a + b) :: S) M Q) : MW mL_law d 588 (L) (vi b :: vi a :: S) M Q := mw_iadd ⟨dL_law_588, rfl⟩ k
theorem dL_law_589 : decode cL_law 589 = .ok (.iaload, 1) := dk_46 (dk_at dksL_law_19 17 rfl rfl)
theorem iL_law_589 {d : Nat} {L S : List MV} {M : MH} {Q : Out → MH → Prop} {a n : Nat} {z : Int} (hs : msh M a = (100, n)) (hi : 0 ≤ z ∧ z < n) (k : MW mL_law d 590 L (vi (miv M a z.toNat) :: S) M Q) (hn : Nat.ble n 2147483647 = true := by rfl) : MW mL_law d 589 L (vi z :: vp a :: S) M Q := mw_iaload ⟨dL_law_589, rfl⟩ hs (Nat.le_of_ble_eq_true hn) hi k
theorem dL_law_590 : decode cL_law 590 = .ok (.aload_n 0, 1) := dk_42 (dk_at dksL_law_19 18 rfl rfl)
theorem iL_law_590 {d : Nat} {r S : List MV} {M : MH} {Q : Out → MH → Prop} {o : Option Nat} (k : MW mL_law d 591 (vr o :: r) (vr o :: S) M Q) : MW mL_law d 590 (vr o :: r) S M Q := mw_aload_n ⟨dL_law_590, rfl⟩ rfl k
theorem dL_law_591 : decode cL_law 591 = .ok (.iload_n 3, 1) := dk_29 (dk_at dksL_law_19 19 rfl rfl)
theorem iL_law_591 {d : Nat} {r S : List MV} {M : MH} {Q : Out → MH → Prop} {w0 w1 w2 : MV} {z : Int} (k : MW mL_law d 592 (w0 :: w1 :: w2 :: vi z :: r) (vi z :: S) M Q) : MW mL_law d 591 (w0 :: w1 :: w2 :: vi z :: r) S M Q := mw_iload_n ⟨dL_law_591, rfl⟩ rfl k
theorem dL_law_592 : decode cL_law 592 = .ok (.iconst 2, 1) := dk_5 (dk_at dksL_law_19 20 rfl rfl)
theorem iL_law_592 {d : Nat} {L S : List MV} {M : MH} {Q : Out → MH → Prop}  (k : MW mL_law d 593 (L) (vi 2 :: S) M Q) : MW mL_law d 592 (L) S M Q := mw_iconst ⟨dL_law_592, rfl⟩ k
theorem dL_law_593 : decode cL_law 593 = .ok (.iadd, 1) := dk_96 (dk_at dksL_law_19 21 rfl rfl)
theorem iL_law_593 {d : Nat} {L S : List MV} {M : MH} {Q : Out → MH → Prop} {a b : Int} (k : MW mL_law d 594 (L) (vi (a + b) :: S) M Q) : MW mL_law d 593 (L) (vi b :: vi a :: S) M Q := mw_iadd ⟨dL_law_593, rfl⟩ k
theorem dL_law_594 : decode cL_law 594 = .ok (.iaload, 1) := dk_46 (dk_at dksL_law_19 22 rfl rfl)
theorem iL_law_594 {d : Nat} {L S : List MV} {M : MH} {Q : Out → MH → Prop} {a n : Nat} {z : Int} (hs : msh M a = (100, n)) (hi : 0 ≤ z ∧ z < n) (k : MW mL_law d 595 L (vi (miv M a z.toNat) :: S) M Q) (hn : Nat.ble n 2147483647 = true := by rfl) : MW mL_law d 594 L (vi z :: vp a :: S) M Q := mw_iaload ⟨dL_law_594, rfl⟩ hs (Nat.le_of_ble_eq_true hn) hi k
theorem dL_law_595 : decode cL_law 595 = .ok (.aload_n 0, 1) := dk_42 (dk_at dksL_law_19 23 rfl rfl)
theorem iL_law_595 {d : Nat} {r S : List MV} {M : MH} {Q : Out → MH → Prop} {o : Option Nat} (k : MW mL_law d 596 (vr o :: r) (vr o :: S) M Q) : MW mL_law d 595 (vr o :: r) S M Q := mw_aload_n ⟨dL_law_595, rfl⟩ rfl k
theorem dL_law_596 : decode cL_law 596 = .ok (.iload_n 3, 1) := dk_29 (dk_at dksL_law_20 0 rfl rfl)
theorem iL_law_596 {d : Nat} {r S : List MV} {M : MH} {Q : Out → MH → Prop} {w0 w1 w2 : MV} {z : Int} (k : MW mL_law d 597 (w0 :: w1 :: w2 :: vi z :: r) (vi z :: S) M Q) : MW mL_law d 596 (w0 :: w1 :: w2 :: vi z :: r) S M Q := mw_iload_n ⟨dL_law_596, rfl⟩ rfl k
theorem dL_law_597 : decode cL_law 597 = .ok (.iconst 3, 1) := dk_6 (dk_at dksL_law_20 1 rfl rfl)
theorem iL_law_597 {d : Nat} {L S : List MV} {M : MH} {Q : Out → MH → Prop}  (k : MW mL_law d 598 (L) (vi 3 :: S) M Q) : MW mL_law d 597 (L) S M Q := mw_iconst ⟨dL_law_597, rfl⟩ k
theorem dL_law_598 : decode cL_law 598 = .ok (.iadd, 1) := dk_96 (dk_at dksL_law_20 2 rfl rfl)
theorem iL_law_598 {d : Nat} {L S : List MV} {M : MH} {Q : Out → MH → Prop} {a b : Int} (k : MW mL_law d 599 (L) (vi (a + b) :: S) M Q) : MW mL_law d 598 (L) (vi b :: vi a :: S) M Q := mw_iadd ⟨dL_law_598, rfl⟩ k
theorem dL_law_599 : decode cL_law 599 = .ok (.iaload, 1) := dk_46 (dk_at dksL_law_20 3 rfl rfl)
theorem iL_law_599 {d : Nat} {L S : List MV} {M : MH} {Q : Out → MH → Prop} {a n : Nat} {z : Int} (hs : msh M a = (100, n)) (hi : 0 ≤ z ∧ z < n) (k : MW mL_law d 600 L (vi (miv M a z.toNat) :: S) M Q) (hn : Nat.ble n 2147483647 = true := by rfl) : MW mL_law d 599 L (vi z :: vp a :: S) M Q := mw_iaload ⟨dL_law_599, rfl⟩ hs (Nat.le_of_ble_eq_true hn) hi k
theorem dL_law_600 : decode cL_law 600 = .ok (.invokevirtual 72, 3) := dk_182 0 72 (dk_at dksL_law_20 4 rfl rfl)
theorem iL_law_600 {d : Nat} {L S : List MV} {M : MH} {Q : Out → MH → Prop} {v1 v2 v3 : MV} {b : Nat} {P : Int → MH → Prop} (hs : (msh M b).1 = 10) (hM : MCi mX7_worth d [vp b, v1, v2, v3] M P) (k : ∀ z M', P z M' → MW mL_law (d + 1) 603 L (vi z :: S) M' Q) (h8 : Nat.ble (S.map mcat).sum 8 = true := by rfl) : MW mL_law (d + 1) 600 L (v3 :: v2 :: v1 :: vp b :: S) M Q := mw_calli (as := [vp b, v1, v2, v3]) (site_V (Y' := mX7_worth) (n := 3) ⟨dL_law_600, rfl⟩ (Or.inl q1405) q1406 q1407 wX7_worth nX7_worth hX7_worth (cls_of (ci := 10) rfl hs) rfl) kX7_worth (Nat.le_of_ble_eq_true h8) hM k
theorem dL_law_603 : decode cL_law 603 = .ok (.if_icmp .eq 685, 3) := dk_159 2 173 (dk_at dksL_law_20 7 rfl rfl)
theorem iL_law_603 {d : Nat} {L S : List MV} {M : MH} {Q : Out → MH → Prop} {a b : Int} (ha : inR a) (hb : inR b) (kt : a = b → MW mL_law d 1288 L S M Q) (kf : ¬ a = b → MW mL_law d 606 L S M Q) : MW mL_law d 603 L (vi b :: vi a :: S) M Q := mw_icmp_eq ⟨dL_law_603, rfl⟩ rfl ha hb kt kf
theorem dL_law_606 : decode cL_law 606 = .ok (.iconst 0, 1) := dk_3 (dk_at dksL_law_20 10 rfl rfl)
theorem iL_law_606 {d : Nat} {L S : List MV} {M : MH} {Q : Out → MH → Prop}  (k : MW mL_law d 607 (L) (vi 0 :: S) M Q) : MW mL_law d 606 (L) S M Q := mw_iconst ⟨dL_law_606, rfl⟩ k
theorem dL_law_607 : decode cL_law 607 = .ok (.ireturn, 1) := dk_172 (dk_at dksL_law_20 11 rfl rfl)
theorem iL_law_607 {d : Nat} {L : List MV} {M : MH} {P : Int → MH → Prop} {z : Int} (hz : z = 0 ∨ z = 1) (hq : P z M) : MW mL_law d 607 L [vi z] M (Ri P) := mw_retz ⟨dL_law_607, rfl⟩ rfl hz hq
theorem dL_law_608 : decode cL_law 608 = .ok (.aload_n 1, 1) := dk_43 (dk_at dksL_law_20 12 rfl rfl)
theorem iL_law_608 {d : Nat} {r S : List MV} {M : MH} {Q : Out → MH → Prop} {w0 : MV} {o : Option Nat} (k : MW mL_law d 609 (w0 :: vr o :: r) (vr o :: S) M Q) : MW mL_law d 608 (w0 :: vr o :: r) S M Q := mw_aload_n ⟨dL_law_608, rfl⟩ rfl k
theorem dL_law_609 : decode cL_law 609 = .ok (.aload_n 0, 1) := dk_42 (dk_at dksL_law_20 13 rfl rfl)
theorem iL_law_609 {d : Nat} {r S : List MV} {M : MH} {Q : Out → MH → Prop} {o : Option Nat} (k : MW mL_law d 610 (vr o :: r) (vr o :: S) M Q) : MW mL_law d 609 (vr o :: r) S M Q := mw_aload_n ⟨dL_law_609, rfl⟩ rfl k
theorem dL_law_610 : decode cL_law 610 = .ok (.iload_n 3, 1) := dk_29 (dk_at dksL_law_20 14 rfl rfl)
theorem iL_law_610 {d : Nat} {r S : List MV} {M : MH} {Q : Out → MH → Prop} {w0 w1 w2 : MV} {z : Int} (k : MW mL_law d 611 (w0 :: w1 :: w2 :: vi z :: r) (vi z :: S) M Q) : MW mL_law d 610 (w0 :: w1 :: w2 :: vi z :: r) S M Q := mw_iload_n ⟨dL_law_610, rfl⟩ rfl k
theorem dL_law_611 : decode cL_law 611 = .ok (.iconst 1, 1) := dk_4 (dk_at dksL_law_20 15 rfl rfl)
theorem iL_law_611 {d : Nat} {L S : List MV} {M : MH} {Q : Out → MH → Prop}  (k : MW mL_law d 612 (L) (vi 1 :: S) M Q) : MW mL_law d 611 (L) S M Q := mw_iconst ⟨dL_law_611, rfl⟩ k
theorem dL_law_612 : decode cL_law 612 = .ok (.iadd, 1) := dk_96 (dk_at dksL_law_20 16 rfl rfl)
theorem iL_law_612 {d : Nat} {L S : List MV} {M : MH} {Q : Out → MH → Prop} {a b : Int} (k : MW mL_law d 613 (L) (vi (a + b) :: S) M Q) : MW mL_law d 612 (L) (vi b :: vi a :: S) M Q := mw_iadd ⟨dL_law_612, rfl⟩ k
theorem dL_law_613 : decode cL_law 613 = .ok (.iaload, 1) := dk_46 (dk_at dksL_law_20 17 rfl rfl)
theorem iL_law_613 {d : Nat} {L S : List MV} {M : MH} {Q : Out → MH → Prop} {a n : Nat} {z : Int} (hs : msh M a = (100, n)) (hi : 0 ≤ z ∧ z < n) (k : MW mL_law d 614 L (vi (miv M a z.toNat) :: S) M Q) (hn : Nat.ble n 2147483647 = true := by rfl) : MW mL_law d 613 L (vi z :: vp a :: S) M Q := mw_iaload ⟨dL_law_613, rfl⟩ hs (Nat.le_of_ble_eq_true hn) hi k
theorem dL_law_614 : decode cL_law 614 = .ok (.aload_n 0, 1) := dk_42 (dk_at dksL_law_20 18 rfl rfl)
theorem iL_law_614 {d : Nat} {r S : List MV} {M : MH} {Q : Out → MH → Prop} {o : Option Nat} (k : MW mL_law d 615 (vr o :: r) (vr o :: S) M Q) : MW mL_law d 614 (vr o :: r) S M Q := mw_aload_n ⟨dL_law_614, rfl⟩ rfl k
theorem dL_law_615 : decode cL_law 615 = .ok (.iload_n 3, 1) := dk_29 (dk_at dksL_law_20 19 rfl rfl)
theorem iL_law_615 {d : Nat} {r S : List MV} {M : MH} {Q : Out → MH → Prop} {w0 w1 w2 : MV} {z : Int} (k : MW mL_law d 616 (w0 :: w1 :: w2 :: vi z :: r) (vi z :: S) M Q) : MW mL_law d 615 (w0 :: w1 :: w2 :: vi z :: r) S M Q := mw_iload_n ⟨dL_law_615, rfl⟩ rfl k
theorem dL_law_616 : decode cL_law 616 = .ok (.iconst 2, 1) := dk_5 (dk_at dksL_law_20 20 rfl rfl)
theorem iL_law_616 {d : Nat} {L S : List MV} {M : MH} {Q : Out → MH → Prop}  (k : MW mL_law d 617 (L) (vi 2 :: S) M Q) : MW mL_law d 616 (L) S M Q := mw_iconst ⟨dL_law_616, rfl⟩ k
theorem dL_law_617 : decode cL_law 617 = .ok (.iadd, 1) := dk_96 (dk_at dksL_law_20 21 rfl rfl)
theorem iL_law_617 {d : Nat} {L S : List MV} {M : MH} {Q : Out → MH → Prop} {a b : Int} (k : MW mL_law d 618 (L) (vi (a + b) :: S) M Q) : MW mL_law d 617 (L) (vi b :: vi a :: S) M Q := mw_iadd ⟨dL_law_617, rfl⟩ k
theorem dL_law_618 : decode cL_law 618 = .ok (.iaload, 1) := dk_46 (dk_at dksL_law_20 22 rfl rfl)
theorem iL_law_618 {d : Nat} {L S : List MV} {M : MH} {Q : Out → MH → Prop} {a n : Nat} {z : Int} (hs : msh M a = (100, n)) (hi : 0 ≤ z ∧ z < n) (k : MW mL_law d 619 L (vi (miv M a z.toNat) :: S) M Q) (hn : Nat.ble n 2147483647 = true := by rfl) : MW mL_law d 618 L (vi z :: vp a :: S) M Q := mw_iaload ⟨dL_law_618, rfl⟩ hs (Nat.le_of_ble_eq_true hn) hi k
theorem dL_law_619 : decode cL_law 619 = .ok (.aload_n 0, 1) := dk_42 (dk_at dksL_law_20 23 rfl rfl)
theorem iL_law_619 {d : Nat} {r S : List MV} {M : MH} {Q : Out → MH → Prop} {o : Option Nat} (k : MW mL_law d 620 (vr o :: r) (vr o :: S) M Q) : MW mL_law d 619 (vr o :: r) S M Q := mw_aload_n ⟨dL_law_619, rfl⟩ rfl k
theorem dL_law_620 : decode cL_law 620 = .ok (.iload_n 3, 1) := dk_29 (dk_at dksL_law_21 0 rfl rfl)
theorem iL_law_620 {d : Nat} {r S : List MV} {M : MH} {Q : Out → MH → Prop} {w0 w1 w2 : MV} {z : Int} (k : MW mL_law d 621 (w0 :: w1 :: w2 :: vi z :: r) (vi z :: S) M Q) : MW mL_law d 620 (w0 :: w1 :: w2 :: vi z :: r) S M Q := mw_iload_n ⟨dL_law_620, rfl⟩ rfl k
theorem dL_law_621 : decode cL_law 621 = .ok (.iconst 3, 1) := dk_6 (dk_at dksL_law_21 1 rfl rfl)
theorem iL_law_621 {d : Nat} {L S : List MV} {M : MH} {Q : Out → MH → Prop}  (k : MW mL_law d 622 (L) (vi 3 :: S) M Q) : MW mL_law d 621 (L) S M Q := mw_iconst ⟨dL_law_621, rfl⟩ k
theorem dL_law_622 : decode cL_law 622 = .ok (.iadd, 1) := dk_96 (dk_at dksL_law_21 2 rfl rfl)
theorem iL_law_622 {d : Nat} {L S : List MV} {M : MH} {Q : Out → MH → Prop} {a b : Int} (k : MW mL_law d 623 (L) (vi (a + b) :: S) M Q) : MW mL_law d 622 (L) (vi b :: vi a :: S) M Q := mw_iadd ⟨dL_law_622, rfl⟩ k
theorem dL_law_623 : decode cL_law 623 = .ok (.iaload, 1) := dk_46 (dk_at dksL_law_21 3 rfl rfl)
theorem iL_law_623 {d : Nat} {L S : List MV} {M : MH} {Q : Out → MH → Prop} {a n : Nat} {z : Int} (hs : msh M a = (100, n)) (hi : 0 ≤ z ∧ z < n) (k : MW mL_law d 624 L (vi (miv M a z.toNat) :: S) M Q) (hn : Nat.ble n 2147483647 = true := by rfl) : MW mL_law d 623 L (vi z :: vp a :: S) M Q := mw_iaload ⟨dL_law_623, rfl⟩ hs (Nat.le_of_ble_eq_true hn) hi k
theorem dL_law_624 : decode cL_law 624 = .ok (.invokevirtual 73, 3) := dk_182 0 73 (dk_at dksL_law_21 4 rfl rfl)
theorem iL_law_624 {d : Nat} {L S : List MV} {M : MH} {Q : Out → MH → Prop} {v1 v2 v3 : MV} {b : Nat} {P : Int → MH → Prop} (hs : (msh M b).1 = 0) (hM : MCi mX0_like d [vp b, v1, v2, v3] M P) (k : ∀ z M', P z M' → MW mL_law (d + 1) 627 L (vi z :: S) M' Q) (h8 : Nat.ble (S.map mcat).sum 8 = true := by rfl) : MW mL_law (d + 1) 624 L (v3 :: v2 :: v1 :: vp b :: S) M Q := mw_calli (as := [vp b, v1, v2, v3]) (site_V (Y' := mX0_like) (n := 3) ⟨dL_law_624, rfl⟩ (Or.inl q845) q846 q847 wX0_like nX0_like hX0_like (cls_of (ci := 0) rfl hs) rfl) kX0_like (Nat.le_of_ble_eq_true h8) hM k
theorem dL_law_627 : decode cL_law 627 = .ok (.aload_n 2, 1) := dk_44 (dk_at dksL_law_21 7 rfl rfl)
theorem iL_law_627 {d : Nat} {r S : List MV} {M : MH} {Q : Out → MH → Prop} {w0 w1 : MV} {o : Option Nat} (k : MW mL_law d 628 (w0 :: w1 :: vr o :: r) (vr o :: S) M Q) : MW mL_law d 627 (w0 :: w1 :: vr o :: r) S M Q := mw_aload_n ⟨dL_law_627, rfl⟩ rfl k
theorem dL_law_628 : decode cL_law 628 = .ok (.aload_n 0, 1) := dk_42 (dk_at dksL_law_21 8 rfl rfl)
theorem iL_law_628 {d : Nat} {r S : List MV} {M : MH} {Q : Out → MH → Prop} {o : Option Nat} (k : MW mL_law d 629 (vr o :: r) (vr o :: S) M Q) : MW mL_law d 628 (vr o :: r) S M Q := mw_aload_n ⟨dL_law_628, rfl⟩ rfl k
theorem dL_law_629 : decode cL_law 629 = .ok (.iload_n 3, 1) := dk_29 (dk_at dksL_law_21 9 rfl rfl)
theorem iL_law_629 {d : Nat} {r S : List MV} {M : MH} {Q : Out → MH → Prop} {w0 w1 w2 : MV} {z : Int} (k : MW mL_law d 630 (w0 :: w1 :: w2 :: vi z :: r) (vi z :: S) M Q) : MW mL_law d 629 (w0 :: w1 :: w2 :: vi z :: r) S M Q := mw_iload_n ⟨dL_law_629, rfl⟩ rfl k
theorem dL_law_630 : decode cL_law 630 = .ok (.iconst 1, 1) := dk_4 (dk_at dksL_law_21 10 rfl rfl)
theorem iL_law_630 {d : Nat} {L S : List MV} {M : MH} {Q : Out → MH → Prop}  (k : MW mL_law d 631 (L) (vi 1 :: S) M Q) : MW mL_law d 630 (L) S M Q := mw_iconst ⟨dL_law_630, rfl⟩ k
theorem dL_law_631 : decode cL_law 631 = .ok (.iadd, 1) := dk_96 (dk_at dksL_law_21 11 rfl rfl)
theorem iL_law_631 {d : Nat} {L S : List MV} {M : MH} {Q : Out → MH → Prop} {a b : Int} (k : MW mL_law d 632 (L) (vi (a + b) :: S) M Q) : MW mL_law d 631 (L) (vi b :: vi a :: S) M Q := mw_iadd ⟨dL_law_631, rfl⟩ k
theorem dL_law_632 : decode cL_law 632 = .ok (.iaload, 1) := dk_46 (dk_at dksL_law_21 12 rfl rfl)
theorem iL_law_632 {d : Nat} {L S : List MV} {M : MH} {Q : Out → MH → Prop} {a n : Nat} {z : Int} (hs : msh M a = (100, n)) (hi : 0 ≤ z ∧ z < n) (k : MW mL_law d 633 L (vi (miv M a z.toNat) :: S) M Q) (hn : Nat.ble n 2147483647 = true := by rfl) : MW mL_law d 632 L (vi z :: vp a :: S) M Q := mw_iaload ⟨dL_law_632, rfl⟩ hs (Nat.le_of_ble_eq_true hn) hi k
theorem dL_law_633 : decode cL_law 633 = .ok (.aload_n 0, 1) := dk_42 (dk_at dksL_law_21 13 rfl rfl)
theorem iL_law_633 {d : Nat} {r S : List MV} {M : MH} {Q : Out → MH → Prop} {o : Option Nat} (k : MW mL_law d 634 (vr o :: r) (vr o :: S) M Q) : MW mL_law d 633 (vr o :: r) S M Q := mw_aload_n ⟨dL_law_633, rfl⟩ rfl k
theorem dL_law_634 : decode cL_law 634 = .ok (.iload_n 3, 1) := dk_29 (dk_at dksL_law_21 14 rfl rfl)
theorem iL_law_634 {d : Nat} {r S : List MV} {M : MH} {Q : Out → MH → Prop} {w0 w1 w2 : MV} {z : Int} (k : MW mL_law d 635 (w0 :: w1 :: w2 :: vi z :: r) (vi z :: S) M Q) : MW mL_law d 634 (w0 :: w1 :: w2 :: vi z :: r) S M Q := mw_iload_n ⟨dL_law_634, rfl⟩ rfl k
theorem dL_law_635 : decode cL_law 635 = .ok (.iconst 2, 1) := dk_5 (dk_at dksL_law_21 15 rfl rfl)
theorem iL_law_635 {d : Nat} {L S : List MV} {M : MH} {Q : Out → MH → Prop}  (k : MW mL_law d 636 (L) (vi 2 :: S) M Q) : MW mL_law d 635 (L) S M Q := mw_iconst ⟨dL_law_635, rfl⟩ k
theorem dL_law_636 : decode cL_law 636 = .ok (.iadd, 1) := dk_96 (dk_at dksL_law_21 16 rfl rfl)
theorem iL_law_636 {d : Nat} {L S : List MV} {M : MH} {Q : Out → MH → Prop} {a b : Int} (k : MW mL_law d 637 (L) (vi (a + b) :: S) M Q) : MW mL_law d 636 (L) (vi b :: vi a :: S) M Q := mw_iadd ⟨dL_law_636, rfl⟩ k
theorem dL_law_637 : decode cL_law 637 = .ok (.iaload, 1) := dk_46 (dk_at dksL_law_21 17 rfl rfl)
theorem iL_law_637 {d : Nat} {L S : List MV} {M : MH} {Q : Out → MH → Prop} {a n : Nat} {z : Int} (hs : msh M a = (100, n)) (hi : 0 ≤ z ∧ z < n) (k : MW mL_law d 638 L (vi (miv M a z.toNat) :: S) M Q) (hn : Nat.ble n 2147483647 = true := by rfl) : MW mL_law d 637 L (vi z :: vp a :: S) M Q := mw_iaload ⟨dL_law_637, rfl⟩ hs (Nat.le_of_ble_eq_true hn) hi k
theorem dL_law_638 : decode cL_law 638 = .ok (.aload_n 0, 1) := dk_42 (dk_at dksL_law_21 18 rfl rfl)
theorem iL_law_638 {d : Nat} {r S : List MV} {M : MH} {Q : Out → MH → Prop} {o : Option Nat} (k : MW mL_law d 639 (vr o :: r) (vr o :: S) M Q) : MW mL_law d 638 (vr o :: r) S M Q := mw_aload_n ⟨dL_law_638, rfl⟩ rfl k
theorem dL_law_639 : decode cL_law 639 = .ok (.iload_n 3, 1) := dk_29 (dk_at dksL_law_21 19 rfl rfl)
theorem iL_law_639 {d : Nat} {r S : List MV} {M : MH} {Q : Out → MH → Prop} {w0 w1 w2 : MV} {z : Int} (k : MW mL_law d 640 (w0 :: w1 :: w2 :: vi z :: r) (vi z :: S) M Q) : MW mL_law d 639 (w0 :: w1 :: w2 :: vi z :: r) S M Q := mw_iload_n ⟨dL_law_639, rfl⟩ rfl k
theorem dL_law_640 : decode cL_law 640 = .ok (.iconst 3, 1) := dk_6 (dk_at dksL_law_21 20 rfl rfl)
theorem iL_law_640 {d : Nat} {L S : List MV} {M : MH} {Q : Out → MH → Prop}  (k : MW mL_law d 641 (L) (vi 3 :: S) M Q) : MW mL_law d 640 (L) S M Q := mw_iconst ⟨dL_law_640, rfl⟩ k
theorem dL_law_641 : decode cL_law 641 = .ok (.iadd, 1) := dk_96 (dk_at dksL_law_21 21 rfl rfl)
theorem iL_law_641 {d : Nat} {L S : List MV} {M : MH} {Q : Out → MH → Prop} {a b : Int} (k : MW mL_law d 642 (L) (vi (a + b) :: S) M Q) : MW mL_law d 641 (L) (vi b :: vi a :: S) M Q := mw_iadd ⟨dL_law_641, rfl⟩ k
theorem dL_law_642 : decode cL_law 642 = .ok (.iaload, 1) := dk_46 (dk_at dksL_law_21 22 rfl rfl)
theorem iL_law_642 {d : Nat} {L S : List MV} {M : MH} {Q : Out → MH → Prop} {a n : Nat} {z : Int} (hs : msh M a = (100, n)) (hi : 0 ≤ z ∧ z < n) (k : MW mL_law d 643 L (vi (miv M a z.toNat) :: S) M Q) (hn : Nat.ble n 2147483647 = true := by rfl) : MW mL_law d 642 L (vi z :: vp a :: S) M Q := mw_iaload ⟨dL_law_642, rfl⟩ hs (Nat.le_of_ble_eq_true hn) hi k
theorem dL_law_643 : decode cL_law 643 = .ok (.invokevirtual 76, 3) := dk_182 0 76 (dk_at dksL_law_22 0 rfl rfl)
theorem iL_law_643 {d : Nat} {L S : List MV} {M : MH} {Q : Out → MH → Prop} {v1 v2 v3 : MV} {b : Nat} {P : Int → MH → Prop} (hs : (msh M b).1 = 10) (hM : MCi mX7_like d [vp b, v1, v2, v3] M P) (k : ∀ z M', P z M' → MW mL_law (d + 1) 646 L (vi z :: S) M' Q) (h8 : Nat.ble (S.map mcat).sum 8 = true := by rfl) : MW mL_law (d + 1) 643 L (v3 :: v2 :: v1 :: vp b :: S) M Q := mw_calli (as := [vp b, v1, v2, v3]) (site_V (Y' := mX7_like) (n := 3) ⟨dL_law_643, rfl⟩ (Or.inl q1410) q1411 q1412 wX7_like nX7_like hX7_like (cls_of (ci := 10) rfl hs) rfl) kX7_like (Nat.le_of_ble_eq_true h8) hM k
theorem dL_law_646 : decode cL_law 646 = .ok (.if_icmp .eq 642, 3) := dk_159 2 130 (dk_at dksL_law_22 3 rfl rfl)
theorem iL_law_646 {d : Nat} {L S : List MV} {M : MH} {Q : Out → MH → Prop} {a b : Int} (ha : inR a) (hb : inR b) (kt : a = b → MW mL_law d 1288 L S M Q) (kf : ¬ a = b → MW mL_law d 649 L S M Q) : MW mL_law d 646 L (vi b :: vi a :: S) M Q := mw_icmp_eq ⟨dL_law_646, rfl⟩ rfl ha hb kt kf
theorem dL_law_649 : decode cL_law 649 = .ok (.iconst 0, 1) := dk_3 (dk_at dksL_law_22 6 rfl rfl)
theorem iL_law_649 {d : Nat} {L S : List MV} {M : MH} {Q : Out → MH → Prop}  (k : MW mL_law d 650 (L) (vi 0 :: S) M Q) : MW mL_law d 649 (L) S M Q := mw_iconst ⟨dL_law_649, rfl⟩ k
theorem dL_law_650 : decode cL_law 650 = .ok (.ireturn, 1) := dk_172 (dk_at dksL_law_22 7 rfl rfl)
theorem iL_law_650 {d : Nat} {L : List MV} {M : MH} {P : Int → MH → Prop} {z : Int} (hz : z = 0 ∨ z = 1) (hq : P z M) : MW mL_law d 650 L [vi z] M (Ri P) := mw_retz ⟨dL_law_650, rfl⟩ rfl hz hq
theorem dL_law_651 : decode cL_law 651 = .ok (.aload_n 1, 1) := dk_43 (dk_at dksL_law_22 8 rfl rfl)
theorem iL_law_651 {d : Nat} {r S : List MV} {M : MH} {Q : Out → MH → Prop} {w0 : MV} {o : Option Nat} (k : MW mL_law d 652 (w0 :: vr o :: r) (vr o :: S) M Q) : MW mL_law d 651 (w0 :: vr o :: r) S M Q := mw_aload_n ⟨dL_law_651, rfl⟩ rfl k
theorem dL_law_652 : decode cL_law 652 = .ok (.aload_n 0, 1) := dk_42 (dk_at dksL_law_22 9 rfl rfl)
theorem iL_law_652 {d : Nat} {r S : List MV} {M : MH} {Q : Out → MH → Prop} {o : Option Nat} (k : MW mL_law d 653 (vr o :: r) (vr o :: S) M Q) : MW mL_law d 652 (vr o :: r) S M Q := mw_aload_n ⟨dL_law_652, rfl⟩ rfl k
theorem dL_law_653 : decode cL_law 653 = .ok (.iload_n 3, 1) := dk_29 (dk_at dksL_law_22 10 rfl rfl)
theorem iL_law_653 {d : Nat} {r S : List MV} {M : MH} {Q : Out → MH → Prop} {w0 w1 w2 : MV} {z : Int} (k : MW mL_law d 654 (w0 :: w1 :: w2 :: vi z :: r) (vi z :: S) M Q) : MW mL_law d 653 (w0 :: w1 :: w2 :: vi z :: r) S M Q := mw_iload_n ⟨dL_law_653, rfl⟩ rfl k
theorem dL_law_654 : decode cL_law 654 = .ok (.iconst 1, 1) := dk_4 (dk_at dksL_law_22 11 rfl rfl)
theorem iL_law_654 {d : Nat} {L S : List MV} {M : MH} {Q : Out → MH → Prop}  (k : MW mL_law d 655 (L) (vi 1 :: S) M Q) : MW mL_law d 654 (L) S M Q := mw_iconst ⟨dL_law_654, rfl⟩ k
theorem dL_law_655 : decode cL_law 655 = .ok (.iadd, 1) := dk_96 (dk_at dksL_law_22 12 rfl rfl)
theorem iL_law_655 {d : Nat} {L S : List MV} {M : MH} {Q : Out → MH → Prop} {a b : Int} (k : MW mL_law d 656 (L) (vi (a + b) :: S) M Q) : MW mL_law d 655 (L) (vi b :: vi a :: S) M Q := mw_iadd ⟨dL_law_655, rfl⟩ k
theorem dL_law_656 : decode cL_law 656 = .ok (.iaload, 1) := dk_46 (dk_at dksL_law_22 13 rfl rfl)
theorem iL_law_656 {d : Nat} {L S : List MV} {M : MH} {Q : Out → MH → Prop} {a n : Nat} {z : Int} (hs : msh M a = (100, n)) (hi : 0 ≤ z ∧ z < n) (k : MW mL_law d 657 L (vi (miv M a z.toNat) :: S) M Q) (hn : Nat.ble n 2147483647 = true := by rfl) : MW mL_law d 656 L (vi z :: vp a :: S) M Q := mw_iaload ⟨dL_law_656, rfl⟩ hs (Nat.le_of_ble_eq_true hn) hi k
theorem dL_law_657 : decode cL_law 657 = .ok (.invokevirtual 77, 3) := dk_182 0 77 (dk_at dksL_law_22 14 rfl rfl)
theorem iL_law_657 {d : Nat} {L S : List MV} {M : MH} {Q : Out → MH → Prop} {v1 : MV} {b : Nat} {P : Int → MH → Prop} (hs : (msh M b).1 = 0) (hM : MCi mX0_gain d [vp b, v1] M P) (k : ∀ z M', P z M' → MW mL_law (d + 1) 660 L (vi z :: S) M' Q) (h8 : Nat.ble (S.map mcat).sum 8 = true := by rfl) : MW mL_law (d + 1) 657 L (v1 :: vp b :: S) M Q := mw_calli (as := [vp b, v1]) (site_V (Y' := mX0_gain) (n := 1) ⟨dL_law_657, rfl⟩ (Or.inl q849) q850 q851 wX0_gain nX0_gain hX0_gain (cls_of (ci := 0) rfl hs) rfl) kX0_gain (Nat.le_of_ble_eq_true h8) hM k
theorem dL_law_660 : decode cL_law 660 = .ok (.aload_n 2, 1) := dk_44 (dk_at dksL_law_22 17 rfl rfl)
theorem iL_law_660 {d : Nat} {r S : List MV} {M : MH} {Q : Out → MH → Prop} {w0 w1 : MV} {o : Option Nat} (k : MW mL_law d 661 (w0 :: w1 :: vr o :: r) (vr o :: S) M Q) : MW mL_law d 660 (w0 :: w1 :: vr o :: r) S M Q := mw_aload_n ⟨dL_law_660, rfl⟩ rfl k
theorem dL_law_661 : decode cL_law 661 = .ok (.aload_n 0, 1) := dk_42 (dk_at dksL_law_22 18 rfl rfl)
theorem iL_law_661 {d : Nat} {r S : List MV} {M : MH} {Q : Out → MH → Prop} {o : Option Nat} (k : MW mL_law d 662 (vr o :: r) (vr o :: S) M Q) : MW mL_law d 661 (vr o :: r) S M Q := mw_aload_n ⟨dL_law_661, rfl⟩ rfl k
theorem dL_law_662 : decode cL_law 662 = .ok (.iload_n 3, 1) := dk_29 (dk_at dksL_law_22 19 rfl rfl)
theorem iL_law_662 {d : Nat} {r S : List MV} {M : MH} {Q : Out → MH → Prop} {w0 w1 w2 : MV} {z : Int} (k : MW mL_law d 663 (w0 :: w1 :: w2 :: vi z :: r) (vi z :: S) M Q) : MW mL_law d 662 (w0 :: w1 :: w2 :: vi z :: r) S M Q := mw_iload_n ⟨dL_law_662, rfl⟩ rfl k
theorem dL_law_663 : decode cL_law 663 = .ok (.iconst 1, 1) := dk_4 (dk_at dksL_law_22 20 rfl rfl)
theorem iL_law_663 {d : Nat} {L S : List MV} {M : MH} {Q : Out → MH → Prop}  (k : MW mL_law d 664 (L) (vi 1 :: S) M Q) : MW mL_law d 663 (L) S M Q := mw_iconst ⟨dL_law_663, rfl⟩ k
theorem dL_law_664 : decode cL_law 664 = .ok (.iadd, 1) := dk_96 (dk_at dksL_law_22 21 rfl rfl)
theorem iL_law_664 {d : Nat} {L S : List MV} {M : MH} {Q : Out → MH → Prop} {a b : Int} (k : MW mL_law d 665 (L) (vi (a + b) :: S) M Q) : MW mL_law d 664 (L) (vi b :: vi a :: S) M Q := mw_iadd ⟨dL_law_664, rfl⟩ k
theorem dL_law_665 : decode cL_law 665 = .ok (.iaload, 1) := dk_46 (dk_at dksL_law_22 22 rfl rfl)
theorem iL_law_665 {d : Nat} {L S : List MV} {M : MH} {Q : Out → MH → Prop} {a n : Nat} {z : Int} (hs : msh M a = (100, n)) (hi : 0 ≤ z ∧ z < n) (k : MW mL_law d 666 L (vi (miv M a z.toNat) :: S) M Q) (hn : Nat.ble n 2147483647 = true := by rfl) : MW mL_law d 665 L (vi z :: vp a :: S) M Q := mw_iaload ⟨dL_law_665, rfl⟩ hs (Nat.le_of_ble_eq_true hn) hi k
theorem dL_law_666 : decode cL_law 666 = .ok (.invokevirtual 80, 3) := dk_182 0 80 (dk_at dksL_law_23 0 rfl rfl)
theorem iL_law_666 {d : Nat} {L S : List MV} {M : MH} {Q : Out → MH → Prop} {v1 : MV} {b : Nat} {P : Int → MH → Prop} (hs : (msh M b).1 = 10) (hM : MCi mX7_gain d [vp b, v1] M P) (k : ∀ z M', P z M' → MW mL_law (d + 1) 669 L (vi z :: S) M' Q) (h8 : Nat.ble (S.map mcat).sum 8 = true := by rfl) : MW mL_law (d + 1) 666 L (v1 :: vp b :: S) M Q := mw_calli (as := [vp b, v1]) (site_V (Y' := mX7_gain) (n := 1) ⟨dL_law_666, rfl⟩ (Or.inl q1414) q1415 q1416 wX7_gain nX7_gain hX7_gain (cls_of (ci := 10) rfl hs) rfl) kX7_gain (Nat.le_of_ble_eq_true h8) hM k
theorem dL_law_669 : decode cL_law 669 = .ok (.if_icmp .eq 619, 3) := dk_159 2 107 (dk_at dksL_law_23 3 rfl rfl)
theorem iL_law_669 {d : Nat} {L S : List MV} {M : MH} {Q : Out → MH → Prop} {a b : Int} (ha : inR a) (hb : inR b) (kt : a = b → MW mL_law d 1288 L S M Q) (kf : ¬ a = b → MW mL_law d 672 L S M Q) : MW mL_law d 669 L (vi b :: vi a :: S) M Q := mw_icmp_eq ⟨dL_law_669, rfl⟩ rfl ha hb kt kf
theorem dL_law_672 : decode cL_law 672 = .ok (.iconst 0, 1) := dk_3 (dk_at dksL_law_23 6 rfl rfl)
theorem iL_law_672 {d : Nat} {L S : List MV} {M : MH} {Q : Out → MH → Prop}  (k : MW mL_law d 673 (L) (vi 0 :: S) M Q) : MW mL_law d 672 (L) S M Q := mw_iconst ⟨dL_law_672, rfl⟩ k
theorem dL_law_673 : decode cL_law 673 = .ok (.ireturn, 1) := dk_172 (dk_at dksL_law_23 7 rfl rfl)
theorem iL_law_673 {d : Nat} {L : List MV} {M : MH} {P : Int → MH → Prop} {z : Int} (hz : z = 0 ∨ z = 1) (hq : P z M) : MW mL_law d 673 L [vi z] M (Ri P) := mw_retz ⟨dL_law_673, rfl⟩ rfl hz hq
theorem dL_law_674 : decode cL_law 674 = .ok (.aload_n 1, 1) := dk_43 (dk_at dksL_law_23 8 rfl rfl)
theorem iL_law_674 {d : Nat} {r S : List MV} {M : MH} {Q : Out → MH → Prop} {w0 : MV} {o : Option Nat} (k : MW mL_law d 675 (w0 :: vr o :: r) (vr o :: S) M Q) : MW mL_law d 674 (w0 :: vr o :: r) S M Q := mw_aload_n ⟨dL_law_674, rfl⟩ rfl k
theorem dL_law_675 : decode cL_law 675 = .ok (.aload_n 0, 1) := dk_42 (dk_at dksL_law_23 9 rfl rfl)
theorem iL_law_675 {d : Nat} {r S : List MV} {M : MH} {Q : Out → MH → Prop} {o : Option Nat} (k : MW mL_law d 676 (vr o :: r) (vr o :: S) M Q) : MW mL_law d 675 (vr o :: r) S M Q := mw_aload_n ⟨dL_law_675, rfl⟩ rfl k
theorem dL_law_676 : decode cL_law 676 = .ok (.iload_n 3, 1) := dk_29 (dk_at dksL_law_23 10 rfl rfl)
theorem iL_law_676 {d : Nat} {r S : List MV} {M : MH} {Q : Out → MH → Prop} {w0 w1 w2 : MV} {z : Int} (k : MW mL_law d 677 (w0 :: w1 :: w2 :: vi z :: r) (vi z :: S) M Q) : MW mL_law d 676 (w0 :: w1 :: w2 :: vi z :: r) S M Q := mw_iload_n ⟨dL_law_676, rfl⟩ rfl k
theorem dL_law_677 : decode cL_law 677 = .ok (.iconst 1, 1) := dk_4 (dk_at dksL_law_23 11 rfl rfl)
theorem iL_law_677 {d : Nat} {L S : List MV} {M : MH} {Q : Out → MH → Prop}  (k : MW mL_law d 678 (L) (vi 1 :: S) M Q) : MW mL_law d 677 (L) S M Q := mw_iconst ⟨dL_law_677, rfl⟩ k
theorem dL_law_678 : decode cL_law 678 = .ok (.iadd, 1) := dk_96 (dk_at dksL_law_23 12 rfl rfl)
theorem iL_law_678 {d : Nat} {L S : List MV} {M : MH} {Q : Out → MH → Prop} {a b : Int} (k : MW mL_law d 679 (L) (vi (a + b) :: S) M Q) : MW mL_law d 678 (L) (vi b :: vi a :: S) M Q := mw_iadd ⟨dL_law_678, rfl⟩ k
theorem dL_law_679 : decode cL_law 679 = .ok (.iaload, 1) := dk_46 (dk_at dksL_law_23 13 rfl rfl)
theorem iL_law_679 {d : Nat} {L S : List MV} {M : MH} {Q : Out → MH → Prop} {a n : Nat} {z : Int} (hs : msh M a = (100, n)) (hi : 0 ≤ z ∧ z < n) (k : MW mL_law d 680 L (vi (miv M a z.toNat) :: S) M Q) (hn : Nat.ble n 2147483647 = true := by rfl) : MW mL_law d 679 L (vi z :: vp a :: S) M Q := mw_iaload ⟨dL_law_679, rfl⟩ hs (Nat.le_of_ble_eq_true hn) hi k
theorem dL_law_680 : decode cL_law 680 = .ok (.aload_n 0, 1) := dk_42 (dk_at dksL_law_23 14 rfl rfl)
theorem iL_law_680 {d : Nat} {r S : List MV} {M : MH} {Q : Out → MH → Prop} {o : Option Nat} (k : MW mL_law d 681 (vr o :: r) (vr o :: S) M Q) : MW mL_law d 680 (vr o :: r) S M Q := mw_aload_n ⟨dL_law_680, rfl⟩ rfl k
theorem dL_law_681 : decode cL_law 681 = .ok (.iload_n 3, 1) := dk_29 (dk_at dksL_law_23 15 rfl rfl)
theorem iL_law_681 {d : Nat} {r S : List MV} {M : MH} {Q : Out → MH → Prop} {w0 w1 w2 : MV} {z : Int} (k : MW mL_law d 682 (w0 :: w1 :: w2 :: vi z :: r) (vi z :: S) M Q) : MW mL_law d 681 (w0 :: w1 :: w2 :: vi z :: r) S M Q := mw_iload_n ⟨dL_law_681, rfl⟩ rfl k
theorem dL_law_682 : decode cL_law 682 = .ok (.iconst 2, 1) := dk_5 (dk_at dksL_law_23 16 rfl rfl)
theorem iL_law_682 {d : Nat} {L S : List MV} {M : MH} {Q : Out → MH → Prop}  (k : MW mL_law d 683 (L) (vi 2 :: S) M Q) : MW mL_law d 682 (L) S M Q := mw_iconst ⟨dL_law_682, rfl⟩ k
theorem dL_law_683 : decode cL_law 683 = .ok (.iadd, 1) := dk_96 (dk_at dksL_law_23 17 rfl rfl)
theorem iL_law_683 {d : Nat} {L S : List MV} {M : MH} {Q : Out → MH → Prop} {a b : Int} (k : MW mL_law d 684 (L) (vi (a + b) :: S) M Q) : MW mL_law d 683 (L) (vi b :: vi a :: S) M Q := mw_iadd ⟨dL_law_683, rfl⟩ k
theorem dL_law_684 : decode cL_law 684 = .ok (.iaload, 1) := dk_46 (dk_at dksL_law_23 18 rfl rfl)
theorem iL_law_684 {d : Nat} {L S : List MV} {M : MH} {Q : Out → MH → Prop} {a n : Nat} {z : Int} (hs : msh M a = (100, n)) (hi : 0 ≤ z ∧ z < n) (k : MW mL_law d 685 L (vi (miv M a z.toNat) :: S) M Q) (hn : Nat.ble n 2147483647 = true := by rfl) : MW mL_law d 684 L (vi z :: vp a :: S) M Q := mw_iaload ⟨dL_law_684, rfl⟩ hs (Nat.le_of_ble_eq_true hn) hi k
theorem dL_law_685 : decode cL_law 685 = .ok (.invokevirtual 81, 3) := dk_182 0 81 (dk_at dksL_law_23 19 rfl rfl)
theorem iL_law_685 {d : Nat} {L S : List MV} {M : MH} {Q : Out → MH → Prop} {v1 v2 : MV} {b : Nat} {P : Int → MH → Prop} (hs : (msh M b).1 = 0) (hM : MCi mX0_best d [vp b, v1, v2] M P) (k : ∀ z M', P z M' → MW mL_law (d + 1) 688 L (vi z :: S) M' Q) (h8 : Nat.ble (S.map mcat).sum 8 = true := by rfl) : MW mL_law (d + 1) 685 L (v2 :: v1 :: vp b :: S) M Q := mw_calli (as := [vp b, v1, v2]) (site_V (Y' := mX0_best) (n := 2) ⟨dL_law_685, rfl⟩ (Or.inl q861) q862 q863 wX0_best nX0_best hX0_best (cls_of (ci := 0) rfl hs) rfl) kX0_best (Nat.le_of_ble_eq_true h8) hM k
theorem dL_law_688 : decode cL_law 688 = .ok (.aload_n 2, 1) := dk_44 (dk_at dksL_law_23 22 rfl rfl)
theorem iL_law_688 {d : Nat} {r S : List MV} {M : MH} {Q : Out → MH → Prop} {w0 w1 : MV} {o : Option Nat} (k : MW mL_law d 689 (w0 :: w1 :: vr o :: r) (vr o :: S) M Q) : MW mL_law d 688 (w0 :: w1 :: vr o :: r) S M Q := mw_aload_n ⟨dL_law_688, rfl⟩ rfl k
theorem dL_law_689 : decode cL_law 689 = .ok (.aload_n 0, 1) := dk_42 (dk_at dksL_law_23 23 rfl rfl)
theorem iL_law_689 {d : Nat} {r S : List MV} {M : MH} {Q : Out → MH → Prop} {o : Option Nat} (k : MW mL_law d 690 (vr o :: r) (vr o :: S) M Q) : MW mL_law d 689 (vr o :: r) S M Q := mw_aload_n ⟨dL_law_689, rfl⟩ rfl k
theorem dL_law_690 : decode cL_law 690 = .ok (.iload_n 3, 1) := dk_29 (dk_at dksL_law_24 0 rfl rfl)
theorem iL_law_690 {d : Nat} {r S : List MV} {M : MH} {Q : Out → MH → Prop} {w0 w1 w2 : MV} {z : Int} (k : MW mL_law d 691 (w0 :: w1 :: w2 :: vi z :: r) (vi z :: S) M Q) : MW mL_law d 690 (w0 :: w1 :: w2 :: vi z :: r) S M Q := mw_iload_n ⟨dL_law_690, rfl⟩ rfl k
theorem dL_law_691 : decode cL_law 691 = .ok (.iconst 1, 1) := dk_4 (dk_at dksL_law_24 1 rfl rfl)
theorem iL_law_691 {d : Nat} {L S : List MV} {M : MH} {Q : Out → MH → Prop}  (k : MW mL_law d 692 (L) (vi 1 :: S) M Q) : MW mL_law d 691 (L) S M Q := mw_iconst ⟨dL_law_691, rfl⟩ k
theorem dL_law_692 : decode cL_law 692 = .ok (.iadd, 1) := dk_96 (dk_at dksL_law_24 2 rfl rfl)
theorem iL_law_692 {d : Nat} {L S : List MV} {M : MH} {Q : Out → MH → Prop} {a b : Int} (k : MW mL_law d 693 (L) (vi (a + b) :: S) M Q) : MW mL_law d 692 (L) (vi b :: vi a :: S) M Q := mw_iadd ⟨dL_law_692, rfl⟩ k
theorem dL_law_693 : decode cL_law 693 = .ok (.iaload, 1) := dk_46 (dk_at dksL_law_24 3 rfl rfl)
theorem iL_law_693 {d : Nat} {L S : List MV} {M : MH} {Q : Out → MH → Prop} {a n : Nat} {z : Int} (hs : msh M a = (100, n)) (hi : 0 ≤ z ∧ z < n) (k : MW mL_law d 694 L (vi (miv M a z.toNat) :: S) M Q) (hn : Nat.ble n 2147483647 = true := by rfl) : MW mL_law d 693 L (vi z :: vp a :: S) M Q := mw_iaload ⟨dL_law_693, rfl⟩ hs (Nat.le_of_ble_eq_true hn) hi k
theorem dL_law_694 : decode cL_law 694 = .ok (.aload_n 0, 1) := dk_42 (dk_at dksL_law_24 4 rfl rfl)
theorem iL_law_694 {d : Nat} {r S : List MV} {M : MH} {Q : Out → MH → Prop} {o : Option Nat} (k : MW mL_law d 695 (vr o :: r) (vr o :: S) M Q) : MW mL_law d 694 (vr o :: r) S M Q := mw_aload_n ⟨dL_law_694, rfl⟩ rfl k
theorem dL_law_695 : decode cL_law 695 = .ok (.iload_n 3, 1) := dk_29 (dk_at dksL_law_24 5 rfl rfl)
theorem iL_law_695 {d : Nat} {r S : List MV} {M : MH} {Q : Out → MH → Prop} {w0 w1 w2 : MV} {z : Int} (k : MW mL_law d 696 (w0 :: w1 :: w2 :: vi z :: r) (vi z :: S) M Q) : MW mL_law d 695 (w0 :: w1 :: w2 :: vi z :: r) S M Q := mw_iload_n ⟨dL_law_695, rfl⟩ rfl k
theorem dL_law_696 : decode cL_law 696 = .ok (.iconst 2, 1) := dk_5 (dk_at dksL_law_24 6 rfl rfl)
theorem iL_law_696 {d : Nat} {L S : List MV} {M : MH} {Q : Out → MH → Prop}  (k : MW mL_law d 697 (L) (vi 2 :: S) M Q) : MW mL_law d 696 (L) S M Q := mw_iconst ⟨dL_law_696, rfl⟩ k
theorem dL_law_697 : decode cL_law 697 = .ok (.iadd, 1) := dk_96 (dk_at dksL_law_24 7 rfl rfl)
theorem iL_law_697 {d : Nat} {L S : List MV} {M : MH} {Q : Out → MH → Prop} {a b : Int} (k : MW mL_law d 698 (L) (vi (a + b) :: S) M Q) : MW mL_law d 697 (L) (vi b :: vi a :: S) M Q := mw_iadd ⟨dL_law_697, rfl⟩ k
theorem dL_law_698 : decode cL_law 698 = .ok (.iaload, 1) := dk_46 (dk_at dksL_law_24 8 rfl rfl)
theorem iL_law_698 {d : Nat} {L S : List MV} {M : MH} {Q : Out → MH → Prop} {a n : Nat} {z : Int} (hs : msh M a = (100, n)) (hi : 0 ≤ z ∧ z < n) (k : MW mL_law d 699 L (vi (miv M a z.toNat) :: S) M Q) (hn : Nat.ble n 2147483647 = true := by rfl) : MW mL_law d 698 L (vi z :: vp a :: S) M Q := mw_iaload ⟨dL_law_698, rfl⟩ hs (Nat.le_of_ble_eq_true hn) hi k
theorem dL_law_699 : decode cL_law 699 = .ok (.invokevirtual 84, 3) := dk_182 0 84 (dk_at dksL_law_24 9 rfl rfl)
theorem iL_law_699 {d : Nat} {L S : List MV} {M : MH} {Q : Out → MH → Prop} {v1 v2 : MV} {b : Nat} {P : Int → MH → Prop} (hs : (msh M b).1 = 10) (hM : MCi mX7_best d [vp b, v1, v2] M P) (k : ∀ z M', P z M' → MW mL_law (d + 1) 702 L (vi z :: S) M' Q) (h8 : Nat.ble (S.map mcat).sum 8 = true := by rfl) : MW mL_law (d + 1) 699 L (v2 :: v1 :: vp b :: S) M Q := mw_calli (as := [vp b, v1, v2]) (site_V (Y' := mX7_best) (n := 2) ⟨dL_law_699, rfl⟩ (Or.inl q1426) q1427 q1428 wX7_best nX7_best hX7_best (cls_of (ci := 10) rfl hs) rfl) kX7_best (Nat.le_of_ble_eq_true h8) hM k
theorem dL_law_702 : decode cL_law 702 = .ok (.if_icmp .eq 586, 3) := dk_159 2 74 (dk_at dksL_law_24 12 rfl rfl)
theorem iL_law_702 {d : Nat} {L S : List MV} {M : MH} {Q : Out → MH → Prop} {a b : Int} (ha : inR a) (hb : inR b) (kt : a = b → MW mL_law d 1288 L S M Q) (kf : ¬ a = b → MW mL_law d 705 L S M Q) : MW mL_law d 702 L (vi b :: vi a :: S) M Q := mw_icmp_eq ⟨dL_law_702, rfl⟩ rfl ha hb kt kf
theorem dL_law_705 : decode cL_law 705 = .ok (.iconst 0, 1) := dk_3 (dk_at dksL_law_24 15 rfl rfl)
theorem iL_law_705 {d : Nat} {L S : List MV} {M : MH} {Q : Out → MH → Prop}  (k : MW mL_law d 706 (L) (vi 0 :: S) M Q) : MW mL_law d 705 (L) S M Q := mw_iconst ⟨dL_law_705, rfl⟩ k
theorem dL_law_706 : decode cL_law 706 = .ok (.ireturn, 1) := dk_172 (dk_at dksL_law_24 16 rfl rfl)
theorem iL_law_706 {d : Nat} {L : List MV} {M : MH} {P : Int → MH → Prop} {z : Int} (hz : z = 0 ∨ z = 1) (hq : P z M) : MW mL_law d 706 L [vi z] M (Ri P) := mw_retz ⟨dL_law_706, rfl⟩ rfl hz hq
theorem dL_law_707 : decode cL_law 707 = .ok (.aload_n 1, 1) := dk_43 (dk_at dksL_law_24 17 rfl rfl)
theorem iL_law_707 {d : Nat} {r S : List MV} {M : MH} {Q : Out → MH → Prop} {w0 : MV} {o : Option Nat} (k : MW mL_law d 708 (w0 :: vr o :: r) (vr o :: S) M Q) : MW mL_law d 707 (w0 :: vr o :: r) S M Q := mw_aload_n ⟨dL_law_707, rfl⟩ rfl k
theorem dL_law_708 : decode cL_law 708 = .ok (.aload_n 0, 1) := dk_42 (dk_at dksL_law_24 18 rfl rfl)
theorem iL_law_708 {d : Nat} {r S : List MV} {M : MH} {Q : Out → MH → Prop} {o : Option Nat} (k : MW mL_law d 709 (vr o :: r) (vr o :: S) M Q) : MW mL_law d 708 (vr o :: r) S M Q := mw_aload_n ⟨dL_law_708, rfl⟩ rfl k
theorem dL_law_709 : decode cL_law 709 = .ok (.iload_n 3, 1) := dk_29 (dk_at dksL_law_24 19 rfl rfl)
theorem iL_law_709 {d : Nat} {r S : List MV} {M : MH} {Q : Out → MH → Prop} {w0 w1 w2 : MV} {z : Int} (k : MW mL_law d 710 (w0 :: w1 :: w2 :: vi z :: r) (vi z :: S) M Q) : MW mL_law d 709 (w0 :: w1 :: w2 :: vi z :: r) S M Q := mw_iload_n ⟨dL_law_709, rfl⟩ rfl k
theorem dL_law_710 : decode cL_law 710 = .ok (.iconst 1, 1) := dk_4 (dk_at dksL_law_24 20 rfl rfl)
theorem iL_law_710 {d : Nat} {L S : List MV} {M : MH} {Q : Out → MH → Prop}  (k : MW mL_law d 711 (L) (vi 1 :: S) M Q) : MW mL_law d 710 (L) S M Q := mw_iconst ⟨dL_law_710, rfl⟩ k
theorem dL_law_711 : decode cL_law 711 = .ok (.iadd, 1) := dk_96 (dk_at dksL_law_24 21 rfl rfl)
theorem iL_law_711 {d : Nat} {L S : List MV} {M : MH} {Q : Out → MH → Prop} {a b : Int} (k : MW mL_law d 712 (L) (vi (a + b) :: S) M Q) : MW mL_law d 711 (L) (vi b :: vi a :: S) M Q := mw_iadd ⟨dL_law_711, rfl⟩ k
theorem dL_law_712 : decode cL_law 712 = .ok (.iaload, 1) := dk_46 (dk_at dksL_law_24 22 rfl rfl)
theorem iL_law_712 {d : Nat} {L S : List MV} {M : MH} {Q : Out → MH → Prop} {a n : Nat} {z : Int} (hs : msh M a = (100, n)) (hi : 0 ≤ z ∧ z < n) (k : MW mL_law d 713 L (vi (miv M a z.toNat) :: S) M Q) (hn : Nat.ble n 2147483647 = true := by rfl) : MW mL_law d 712 L (vi z :: vp a :: S) M Q := mw_iaload ⟨dL_law_712, rfl⟩ hs (Nat.le_of_ble_eq_true hn) hi k
theorem dL_law_713 : decode cL_law 713 = .ok (.invokevirtual 85, 3) := dk_182 0 85 (dk_at dksL_law_25 0 rfl rfl)
theorem iL_law_713 {d : Nat} {L S : List MV} {M : MH} {Q : Out → MH → Prop} {v1 : MV} {b : Nat} {P : Int → MH → Prop} (hs : (msh M b).1 = 0) (hM : MCi mX0_rest d [vp b, v1] M P) (k : ∀ z M', P z M' → MW mL_law (d + 1) 716 L (vi z :: S) M' Q) (h8 : Nat.ble (S.map mcat).sum 8 = true := by rfl) : MW mL_law (d + 1) 713 L (v1 :: vp b :: S) M Q := mw_calli (as := [vp b, v1]) (site_V (Y' := mX0_rest) (n := 1) ⟨dL_law_713, rfl⟩ (Or.inl q894) q895 q896 wX0_rest nX0_rest hX0_rest (cls_of (ci := 0) rfl hs) rfl) kX0_rest (Nat.le_of_ble_eq_true h8) hM k
theorem dL_law_716 : decode cL_law 716 = .ok (.aload_n 2, 1) := dk_44 (dk_at dksL_law_25 3 rfl rfl)
theorem iL_law_716 {d : Nat} {r S : List MV} {M : MH} {Q : Out → MH → Prop} {w0 w1 : MV} {o : Option Nat} (k : MW mL_law d 717 (w0 :: w1 :: vr o :: r) (vr o :: S) M Q) : MW mL_law d 716 (w0 :: w1 :: vr o :: r) S M Q := mw_aload_n ⟨dL_law_716, rfl⟩ rfl k
theorem dL_law_717 : decode cL_law 717 = .ok (.aload_n 0, 1) := dk_42 (dk_at dksL_law_25 4 rfl rfl)
theorem iL_law_717 {d : Nat} {r S : List MV} {M : MH} {Q : Out → MH → Prop} {o : Option Nat} (k : MW mL_law d 718 (vr o :: r) (vr o :: S) M Q) : MW mL_law d 717 (vr o :: r) S M Q := mw_aload_n ⟨dL_law_717, rfl⟩ rfl k
theorem dL_law_718 : decode cL_law 718 = .ok (.iload_n 3, 1) := dk_29 (dk_at dksL_law_25 5 rfl rfl)
theorem iL_law_718 {d : Nat} {r S : List MV} {M : MH} {Q : Out → MH → Prop} {w0 w1 w2 : MV} {z : Int} (k : MW mL_law d 719 (w0 :: w1 :: w2 :: vi z :: r) (vi z :: S) M Q) : MW mL_law d 718 (w0 :: w1 :: w2 :: vi z :: r) S M Q := mw_iload_n ⟨dL_law_718, rfl⟩ rfl k
theorem dL_law_719 : decode cL_law 719 = .ok (.iconst 1, 1) := dk_4 (dk_at dksL_law_25 6 rfl rfl)
theorem iL_law_719 {d : Nat} {L S : List MV} {M : MH} {Q : Out → MH → Prop}  (k : MW mL_law d 720 (L) (vi 1 :: S) M Q) : MW mL_law d 719 (L) S M Q := mw_iconst ⟨dL_law_719, rfl⟩ k
theorem dL_law_720 : decode cL_law 720 = .ok (.iadd, 1) := dk_96 (dk_at dksL_law_25 7 rfl rfl)
theorem iL_law_720 {d : Nat} {L S : List MV} {M : MH} {Q : Out → MH → Prop} {a b : Int} (k : MW mL_law d 721 (L) (vi (a + b) :: S) M Q) : MW mL_law d 720 (L) (vi b :: vi a :: S) M Q := mw_iadd ⟨dL_law_720, rfl⟩ k
theorem dL_law_721 : decode cL_law 721 = .ok (.iaload, 1) := dk_46 (dk_at dksL_law_25 8 rfl rfl)
theorem iL_law_721 {d : Nat} {L S : List MV} {M : MH} {Q : Out → MH → Prop} {a n : Nat} {z : Int} (hs : msh M a = (100, n)) (hi : 0 ≤ z ∧ z < n) (k : MW mL_law d 722 L (vi (miv M a z.toNat) :: S) M Q) (hn : Nat.ble n 2147483647 = true := by rfl) : MW mL_law d 721 L (vi z :: vp a :: S) M Q := mw_iaload ⟨dL_law_721, rfl⟩ hs (Nat.le_of_ble_eq_true hn) hi k
theorem dL_law_722 : decode cL_law 722 = .ok (.invokevirtual 88, 3) := dk_182 0 88 (dk_at dksL_law_25 9 rfl rfl)
theorem iL_law_722 {d : Nat} {L S : List MV} {M : MH} {Q : Out → MH → Prop} {v1 : MV} {b : Nat} {P : Int → MH → Prop} (hs : (msh M b).1 = 10) (hM : MCi mX7_rest d [vp b, v1] M P) (k : ∀ z M', P z M' → MW mL_law (d + 1) 725 L (vi z :: S) M' Q) (h8 : Nat.ble (S.map mcat).sum 8 = true := by rfl) : MW mL_law (d + 1) 722 L (v1 :: vp b :: S) M Q := mw_calli (as := [vp b, v1]) (site_V (Y' := mX7_rest) (n := 1) ⟨dL_law_722, rfl⟩ (Or.inl q1443) q1444 q1445 wX7_rest nX7_rest hX7_rest (cls_of (ci := 10) rfl hs) rfl) kX7_rest (Nat.le_of_ble_eq_true h8) hM k
theorem dL_law_725 : decode cL_law 725 = .ok (.if_icmp .eq 563, 3) := dk_159 2 51 (dk_at dksL_law_25 12 rfl rfl)
theorem iL_law_725 {d : Nat} {L S : List MV} {M : MH} {Q : Out → MH → Prop} {a b : Int} (ha : inR a) (hb : inR b) (kt : a = b → MW mL_law d 1288 L S M Q) (kf : ¬ a = b → MW mL_law d 728 L S M Q) : MW mL_law d 725 L (vi b :: vi a :: S) M Q := mw_icmp_eq ⟨dL_law_725, rfl⟩ rfl ha hb kt kf
theorem dL_law_728 : decode cL_law 728 = .ok (.iconst 0, 1) := dk_3 (dk_at dksL_law_25 15 rfl rfl)
theorem iL_law_728 {d : Nat} {L S : List MV} {M : MH} {Q : Out → MH → Prop}  (k : MW mL_law d 729 (L) (vi 0 :: S) M Q) : MW mL_law d 728 (L) S M Q := mw_iconst ⟨dL_law_728, rfl⟩ k
theorem dL_law_729 : decode cL_law 729 = .ok (.ireturn, 1) := dk_172 (dk_at dksL_law_25 16 rfl rfl)
theorem iL_law_729 {d : Nat} {L : List MV} {M : MH} {P : Int → MH → Prop} {z : Int} (hz : z = 0 ∨ z = 1) (hq : P z M) : MW mL_law d 729 L [vi z] M (Ri P) := mw_retz ⟨dL_law_729, rfl⟩ rfl hz hq
theorem dL_law_730 : decode cL_law 730 = .ok (.aload_n 1, 1) := dk_43 (dk_at dksL_law_25 17 rfl rfl)
theorem iL_law_730 {d : Nat} {r S : List MV} {M : MH} {Q : Out → MH → Prop} {w0 : MV} {o : Option Nat} (k : MW mL_law d 731 (w0 :: vr o :: r) (vr o :: S) M Q) : MW mL_law d 730 (w0 :: vr o :: r) S M Q := mw_aload_n ⟨dL_law_730, rfl⟩ rfl k
theorem dL_law_731 : decode cL_law 731 = .ok (.aload_n 0, 1) := dk_42 (dk_at dksL_law_25 18 rfl rfl)
theorem iL_law_731 {d : Nat} {r S : List MV} {M : MH} {Q : Out → MH → Prop} {o : Option Nat} (k : MW mL_law d 732 (vr o :: r) (vr o :: S) M Q) : MW mL_law d 731 (vr o :: r) S M Q := mw_aload_n ⟨dL_law_731, rfl⟩ rfl k
theorem dL_law_732 : decode cL_law 732 = .ok (.iload_n 3, 1) := dk_29 (dk_at dksL_law_25 19 rfl rfl)
theorem iL_law_732 {d : Nat} {r S : List MV} {M : MH} {Q : Out → MH → Prop} {w0 w1 w2 : MV} {z : Int} (k : MW mL_law d 733 (w0 :: w1 :: w2 :: vi z :: r) (vi z :: S) M Q) : MW mL_law d 732 (w0 :: w1 :: w2 :: vi z :: r) S M Q := mw_iload_n ⟨dL_law_732, rfl⟩ rfl k
theorem dL_law_733 : decode cL_law 733 = .ok (.iconst 1, 1) := dk_4 (dk_at dksL_law_25 20 rfl rfl)
theorem iL_law_733 {d : Nat} {L S : List MV} {M : MH} {Q : Out → MH → Prop}  (k : MW mL_law d 734 (L) (vi 1 :: S) M Q) : MW mL_law d 733 (L) S M Q := mw_iconst ⟨dL_law_733, rfl⟩ k
theorem dL_law_734 : decode cL_law 734 = .ok (.iadd, 1) := dk_96 (dk_at dksL_law_25 21 rfl rfl)
theorem iL_law_734 {d : Nat} {L S : List MV} {M : MH} {Q : Out → MH → Prop} {a b : Int} (k : MW mL_law d 735 (L) (vi (a + b) :: S) M Q) : MW mL_law d 734 (L) (vi b :: vi a :: S) M Q := mw_iadd ⟨dL_law_734, rfl⟩ k
theorem dL_law_735 : decode cL_law 735 = .ok (.iaload, 1) := dk_46 (dk_at dksL_law_25 22 rfl rfl)
theorem iL_law_735 {d : Nat} {L S : List MV} {M : MH} {Q : Out → MH → Prop} {a n : Nat} {z : Int} (hs : msh M a = (100, n)) (hi : 0 ≤ z ∧ z < n) (k : MW mL_law d 736 L (vi (miv M a z.toNat) :: S) M Q) (hn : Nat.ble n 2147483647 = true := by rfl) : MW mL_law d 735 L (vi z :: vp a :: S) M Q := mw_iaload ⟨dL_law_735, rfl⟩ hs (Nat.le_of_ble_eq_true hn) hi k
theorem dL_law_736 : decode cL_law 736 = .ok (.invokevirtual 89, 3) := dk_182 0 89 (dk_at dksL_law_26 0 rfl rfl)
theorem iL_law_736 {d : Nat} {L S : List MV} {M : MH} {Q : Out → MH → Prop} {v1 : MV} {b : Nat} {P : Int → MH → Prop} (hs : (msh M b).1 = 0) (hM : MCi mX0_out d [vp b, v1] M P) (k : ∀ z M', P z M' → MW mL_law (d + 1) 739 L (vi z :: S) M' Q) (h8 : Nat.ble (S.map mcat).sum 8 = true := by rfl) : MW mL_law (d + 1) 736 L (v1 :: vp b :: S) M Q := mw_calli (as := [vp b, v1]) (site_V (Y' := mX0_out) (n := 1) ⟨dL_law_736, rfl⟩ (Or.inl q919) q920 q921 wX0_out nX0_out hX0_out (cls_of (ci := 0) rfl hs) rfl) kX0_out (Nat.le_of_ble_eq_true h8) hM k
theorem dL_law_739 : decode cL_law 739 = .ok (.aload_n 2, 1) := dk_44 (dk_at dksL_law_26 3 rfl rfl)
theorem iL_law_739 {d : Nat} {r S : List MV} {M : MH} {Q : Out → MH → Prop} {w0 w1 : MV} {o : Option Nat} (k : MW mL_law d 740 (w0 :: w1 :: vr o :: r) (vr o :: S) M Q) : MW mL_law d 739 (w0 :: w1 :: vr o :: r) S M Q := mw_aload_n ⟨dL_law_739, rfl⟩ rfl k
theorem dL_law_740 : decode cL_law 740 = .ok (.aload_n 0, 1) := dk_42 (dk_at dksL_law_26 4 rfl rfl)
theorem iL_law_740 {d : Nat} {r S : List MV} {M : MH} {Q : Out → MH → Prop} {o : Option Nat} (k : MW mL_law d 741 (vr o :: r) (vr o :: S) M Q) : MW mL_law d 740 (vr o :: r) S M Q := mw_aload_n ⟨dL_law_740, rfl⟩ rfl k
theorem dL_law_741 : decode cL_law 741 = .ok (.iload_n 3, 1) := dk_29 (dk_at dksL_law_26 5 rfl rfl)
theorem iL_law_741 {d : Nat} {r S : List MV} {M : MH} {Q : Out → MH → Prop} {w0 w1 w2 : MV} {z : Int} (k : MW mL_law d 742 (w0 :: w1 :: w2 :: vi z :: r) (vi z :: S) M Q) : MW mL_law d 741 (w0 :: w1 :: w2 :: vi z :: r) S M Q := mw_iload_n ⟨dL_law_741, rfl⟩ rfl k
theorem dL_law_742 : decode cL_law 742 = .ok (.iconst 1, 1) := dk_4 (dk_at dksL_law_26 6 rfl rfl)
theorem iL_law_742 {d : Nat} {L S : List MV} {M : MH} {Q : Out → MH → Prop}  (k : MW mL_law d 743 (L) (vi 1 :: S) M Q) : MW mL_law d 742 (L) S M Q := mw_iconst ⟨dL_law_742, rfl⟩ k
theorem dL_law_743 : decode cL_law 743 = .ok (.iadd, 1) := dk_96 (dk_at dksL_law_26 7 rfl rfl)
theorem iL_law_743 {d : Nat} {L S : List MV} {M : MH} {Q : Out → MH → Prop} {a b : Int} (k : MW mL_law d 744 (L) (vi (a + b) :: S) M Q) : MW mL_law d 743 (L) (vi b :: vi a :: S) M Q := mw_iadd ⟨dL_law_743, rfl⟩ k
theorem dL_law_744 : decode cL_law 744 = .ok (.iaload, 1) := dk_46 (dk_at dksL_law_26 8 rfl rfl)
theorem iL_law_744 {d : Nat} {L S : List MV} {M : MH} {Q : Out → MH → Prop} {a n : Nat} {z : Int} (hs : msh M a = (100, n)) (hi : 0 ≤ z ∧ z < n) (k : MW mL_law d 745 L (vi (miv M a z.toNat) :: S) M Q) (hn : Nat.ble n 2147483647 = true := by rfl) : MW mL_law d 744 L (vi z :: vp a :: S) M Q := mw_iaload ⟨dL_law_744, rfl⟩ hs (Nat.le_of_ble_eq_true hn) hi k
theorem dL_law_745 : decode cL_law 745 = .ok (.invokevirtual 92, 3) := dk_182 0 92 (dk_at dksL_law_26 9 rfl rfl)
theorem iL_law_745 {d : Nat} {L S : List MV} {M : MH} {Q : Out → MH → Prop} {v1 : MV} {b : Nat} {P : Int → MH → Prop} (hs : (msh M b).1 = 10) (hM : MCi mX7_out d [vp b, v1] M P) (k : ∀ z M', P z M' → MW mL_law (d + 1) 748 L (vi z :: S) M' Q) (h8 : Nat.ble (S.map mcat).sum 8 = true := by rfl) : MW mL_law (d + 1) 745 L (v1 :: vp b :: S) M Q := mw_calli (as := [vp b, v1]) (site_V (Y' := mX7_out) (n := 1) ⟨dL_law_745, rfl⟩ (Or.inl q1456) q1457 q1458 wX7_out nX7_out hX7_out (cls_of (ci := 10) rfl hs) rfl) kX7_out (Nat.le_of_ble_eq_true h8) hM k
theorem dL_law_748 : decode cL_law 748 = .ok (.if_icmp .eq 540, 3) := dk_159 2 28 (dk_at dksL_law_26 12 rfl rfl)
theorem iL_law_748 {d : Nat} {L S : List MV} {M : MH} {Q : Out → MH → Prop} {a b : Int} (ha : inR a) (hb : inR b) (kt : a = b → MW mL_law d 1288 L S M Q) (kf : ¬ a = b → MW mL_law d 751 L S M Q) : MW mL_law d 748 L (vi b :: vi a :: S) M Q := mw_icmp_eq ⟨dL_law_748, rfl⟩ rfl ha hb kt kf
theorem dL_law_751 : decode cL_law 751 = .ok (.iconst 0, 1) := dk_3 (dk_at dksL_law_26 15 rfl rfl)
theorem iL_law_751 {d : Nat} {L S : List MV} {M : MH} {Q : Out → MH → Prop}  (k : MW mL_law d 752 (L) (vi 0 :: S) M Q) : MW mL_law d 751 (L) S M Q := mw_iconst ⟨dL_law_751, rfl⟩ k
theorem dL_law_752 : decode cL_law 752 = .ok (.ireturn, 1) := dk_172 (dk_at dksL_law_26 16 rfl rfl)
theorem iL_law_752 {d : Nat} {L : List MV} {M : MH} {P : Int → MH → Prop} {z : Int} (hz : z = 0 ∨ z = 1) (hq : P z M) : MW mL_law d 752 L [vi z] M (Ri P) := mw_retz ⟨dL_law_752, rfl⟩ rfl hz hq
theorem dL_law_753 : decode cL_law 753 = .ok (.aload_n 1, 1) := dk_43 (dk_at dksL_law_26 17 rfl rfl)
theorem iL_law_753 {d : Nat} {r S : List MV} {M : MH} {Q : Out → MH → Prop} {w0 : MV} {o : Option Nat} (k : MW mL_law d 754 (w0 :: vr o :: r) (vr o :: S) M Q) : MW mL_law d 753 (w0 :: vr o :: r) S M Q := mw_aload_n ⟨dL_law_753, rfl⟩ rfl k
theorem dL_law_754 : decode cL_law 754 = .ok (.aload_n 0, 1) := dk_42 (dk_at dksL_law_26 18 rfl rfl)
theorem iL_law_754 {d : Nat} {r S : List MV} {M : MH} {Q : Out → MH → Prop} {o : Option Nat} (k : MW mL_law d 755 (vr o :: r) (vr o :: S) M Q) : MW mL_law d 754 (vr o :: r) S M Q := mw_aload_n ⟨dL_law_754, rfl⟩ rfl k
theorem dL_law_755 : decode cL_law 755 = .ok (.iload_n 3, 1) := dk_29 (dk_at dksL_law_26 19 rfl rfl)
theorem iL_law_755 {d : Nat} {r S : List MV} {M : MH} {Q : Out → MH → Prop} {w0 w1 w2 : MV} {z : Int} (k : MW mL_law d 756 (w0 :: w1 :: w2 :: vi z :: r) (vi z :: S) M Q) : MW mL_law d 755 (w0 :: w1 :: w2 :: vi z :: r) S M Q := mw_iload_n ⟨dL_law_755, rfl⟩ rfl k
theorem dL_law_756 : decode cL_law 756 = .ok (.iconst 1, 1) := dk_4 (dk_at dksL_law_26 20 rfl rfl)
theorem iL_law_756 {d : Nat} {L S : List MV} {M : MH} {Q : Out → MH → Prop}  (k : MW mL_law d 757 (L) (vi 1 :: S) M Q) : MW mL_law d 756 (L) S M Q := mw_iconst ⟨dL_law_756, rfl⟩ k
theorem dL_law_757 : decode cL_law 757 = .ok (.iadd, 1) := dk_96 (dk_at dksL_law_26 21 rfl rfl)
theorem iL_law_757 {d : Nat} {L S : List MV} {M : MH} {Q : Out → MH → Prop} {a b : Int} (k : MW mL_law d 758 (L) (vi (a + b) :: S) M Q) : MW mL_law d 757 (L) (vi b :: vi a :: S) M Q := mw_iadd ⟨dL_law_757, rfl⟩ k
theorem dL_law_758 : decode cL_law 758 = .ok (.iaload, 1) := dk_46 (dk_at dksL_law_26 22 rfl rfl)
theorem iL_law_758 {d : Nat} {L S : List MV} {M : MH} {Q : Out → MH → Prop} {a n : Nat} {z : Int} (hs : msh M a = (100, n)) (hi : 0 ≤ z ∧ z < n) (k : MW mL_law d 759 L (vi (miv M a z.toNat) :: S) M Q) (hn : Nat.ble n 2147483647 = true := by rfl) : MW mL_law d 758 L (vi z :: vp a :: S) M Q := mw_iaload ⟨dL_law_758, rfl⟩ hs (Nat.le_of_ble_eq_true hn) hi k
theorem dL_law_759 : decode cL_law 759 = .ok (.aload_n 0, 1) := dk_42 (dk_at dksL_law_26 23 rfl rfl)
theorem iL_law_759 {d : Nat} {r S : List MV} {M : MH} {Q : Out → MH → Prop} {o : Option Nat} (k : MW mL_law d 760 (vr o :: r) (vr o :: S) M Q) : MW mL_law d 759 (vr o :: r) S M Q := mw_aload_n ⟨dL_law_759, rfl⟩ rfl k
theorem dL_law_760 : decode cL_law 760 = .ok (.iload_n 3, 1) := dk_29 (dk_at dksL_law_27 0 rfl rfl)
theorem iL_law_760 {d : Nat} {r S : List MV} {M : MH} {Q : Out → MH → Prop} {w0 w1 w2 : MV} {z : Int} (k : MW mL_law d 761 (w0 :: w1 :: w2 :: vi z :: r) (vi z :: S) M Q) : MW mL_law d 760 (w0 :: w1 :: w2 :: vi z :: r) S M Q := mw_iload_n ⟨dL_law_760, rfl⟩ rfl k
theorem dL_law_761 : decode cL_law 761 = .ok (.iconst 2, 1) := dk_5 (dk_at dksL_law_27 1 rfl rfl)
theorem iL_law_761 {d : Nat} {L S : List MV} {M : MH} {Q : Out → MH → Prop}  (k : MW mL_law d 762 (L) (vi 2 :: S) M Q) : MW mL_law d 761 (L) S M Q := mw_iconst ⟨dL_law_761, rfl⟩ k
theorem dL_law_762 : decode cL_law 762 = .ok (.iadd, 1) := dk_96 (dk_at dksL_law_27 2 rfl rfl)
theorem iL_law_762 {d : Nat} {L S : List MV} {M : MH} {Q : Out → MH → Prop} {a b : Int} (k : MW mL_law d 763 (L) (vi (a + b) :: S) M Q) : MW mL_law d 762 (L) (vi b :: vi a :: S) M Q := mw_iadd ⟨dL_law_762, rfl⟩ k
theorem dL_law_763 : decode cL_law 763 = .ok (.iaload, 1) := dk_46 (dk_at dksL_law_27 3 rfl rfl)
theorem iL_law_763 {d : Nat} {L S : List MV} {M : MH} {Q : Out → MH → Prop} {a n : Nat} {z : Int} (hs : msh M a = (100, n)) (hi : 0 ≤ z ∧ z < n) (k : MW mL_law d 764 L (vi (miv M a z.toNat) :: S) M Q) (hn : Nat.ble n 2147483647 = true := by rfl) : MW mL_law d 763 L (vi z :: vp a :: S) M Q := mw_iaload ⟨dL_law_763, rfl⟩ hs (Nat.le_of_ble_eq_true hn) hi k
theorem dL_law_764 : decode cL_law 764 = .ok (.invokevirtual 93, 3) := dk_182 0 93 (dk_at dksL_law_27 4 rfl rfl)
theorem iL_law_764 {d : Nat} {L S : List MV} {M : MH} {Q : Out → MH → Prop} {v1 v2 : MV} {b : Nat} {P : Int → MH → Prop} (hs : (msh M b).1 = 0) (hM : MCi mX0_value d [vp b, v1, v2] M P) (k : ∀ z M', P z M' → MW mL_law (d + 1) 767 L (vi z :: S) M' Q) (h8 : Nat.ble (S.map mcat).sum 8 = true := by rfl) : MW mL_law (d + 1) 764 L (v2 :: v1 :: vp b :: S) M Q := mw_calli (as := [vp b, v1, v2]) (site_V (Y' := mX0_value) (n := 2) ⟨dL_law_764, rfl⟩ (Or.inl q935) q936 q937 wX0_value nX0_value hX0_value (cls_of (ci := 0) rfl hs) rfl) kX0_value (Nat.le_of_ble_eq_true h8) hM k
theorem dL_law_767 : decode cL_law 767 = .ok (.aload_n 2, 1) := dk_44 (dk_at dksL_law_27 7 rfl rfl)
theorem iL_law_767 {d : Nat} {r S : List MV} {M : MH} {Q : Out → MH → Prop} {w0 w1 : MV} {o : Option Nat} (k : MW mL_law d 768 (w0 :: w1 :: vr o :: r) (vr o :: S) M Q) : MW mL_law d 767 (w0 :: w1 :: vr o :: r) S M Q := mw_aload_n ⟨dL_law_767, rfl⟩ rfl k
theorem dL_law_768 : decode cL_law 768 = .ok (.aload_n 0, 1) := dk_42 (dk_at dksL_law_27 8 rfl rfl)
theorem iL_law_768 {d : Nat} {r S : List MV} {M : MH} {Q : Out → MH → Prop} {o : Option Nat} (k : MW mL_law d 769 (vr o :: r) (vr o :: S) M Q) : MW mL_law d 768 (vr o :: r) S M Q := mw_aload_n ⟨dL_law_768, rfl⟩ rfl k
theorem dL_law_769 : decode cL_law 769 = .ok (.iload_n 3, 1) := dk_29 (dk_at dksL_law_27 9 rfl rfl)
theorem iL_law_769 {d : Nat} {r S : List MV} {M : MH} {Q : Out → MH → Prop} {w0 w1 w2 : MV} {z : Int} (k : MW mL_law d 770 (w0 :: w1 :: w2 :: vi z :: r) (vi z :: S) M Q) : MW mL_law d 769 (w0 :: w1 :: w2 :: vi z :: r) S M Q := mw_iload_n ⟨dL_law_769, rfl⟩ rfl k
theorem dL_law_770 : decode cL_law 770 = .ok (.iconst 1, 1) := dk_4 (dk_at dksL_law_27 10 rfl rfl)
theorem iL_law_770 {d : Nat} {L S : List MV} {M : MH} {Q : Out → MH → Prop}  (k : MW mL_law d 771 (L) (vi 1 :: S) M Q) : MW mL_law d 770 (L) S M Q := mw_iconst ⟨dL_law_770, rfl⟩ k
theorem dL_law_771 : decode cL_law 771 = .ok (.iadd, 1) := dk_96 (dk_at dksL_law_27 11 rfl rfl)
theorem iL_law_771 {d : Nat} {L S : List MV} {M : MH} {Q : Out → MH → Prop} {a b : Int} (k : MW mL_law d 772 (L) (vi (a + b) :: S) M Q) : MW mL_law d 771 (L) (vi b :: vi a :: S) M Q := mw_iadd ⟨dL_law_771, rfl⟩ k
theorem dL_law_772 : decode cL_law 772 = .ok (.iaload, 1) := dk_46 (dk_at dksL_law_27 12 rfl rfl)
theorem iL_law_772 {d : Nat} {L S : List MV} {M : MH} {Q : Out → MH → Prop} {a n : Nat} {z : Int} (hs : msh M a = (100, n)) (hi : 0 ≤ z ∧ z < n) (k : MW mL_law d 773 L (vi (miv M a z.toNat) :: S) M Q) (hn : Nat.ble n 2147483647 = true := by rfl) : MW mL_law d 772 L (vi z :: vp a :: S) M Q := mw_iaload ⟨dL_law_772, rfl⟩ hs (Nat.le_of_ble_eq_true hn) hi k
theorem dL_law_773 : decode cL_law 773 = .ok (.aload_n 0, 1) := dk_42 (dk_at dksL_law_27 13 rfl rfl)
theorem iL_law_773 {d : Nat} {r S : List MV} {M : MH} {Q : Out → MH → Prop} {o : Option Nat} (k : MW mL_law d 774 (vr o :: r) (vr o :: S) M Q) : MW mL_law d 773 (vr o :: r) S M Q := mw_aload_n ⟨dL_law_773, rfl⟩ rfl k
theorem dL_law_774 : decode cL_law 774 = .ok (.iload_n 3, 1) := dk_29 (dk_at dksL_law_27 14 rfl rfl)
theorem iL_law_774 {d : Nat} {r S : List MV} {M : MH} {Q : Out → MH → Prop} {w0 w1 w2 : MV} {z : Int} (k : MW mL_law d 775 (w0 :: w1 :: w2 :: vi z :: r) (vi z :: S) M Q) : MW mL_law d 774 (w0 :: w1 :: w2 :: vi z :: r) S M Q := mw_iload_n ⟨dL_law_774, rfl⟩ rfl k
theorem dL_law_775 : decode cL_law 775 = .ok (.iconst 2, 1) := dk_5 (dk_at dksL_law_27 15 rfl rfl)
theorem iL_law_775 {d : Nat} {L S : List MV} {M : MH} {Q : Out → MH → Prop}  (k : MW mL_law d 776 (L) (vi 2 :: S) M Q) : MW mL_law d 775 (L) S M Q := mw_iconst ⟨dL_law_775, rfl⟩ k
theorem dL_law_776 : decode cL_law 776 = .ok (.iadd, 1) := dk_96 (dk_at dksL_law_27 16 rfl rfl)
theorem iL_law_776 {d : Nat} {L S : List MV} {M : MH} {Q : Out → MH → Prop} {a b : Int} (k : MW mL_law d 777 (L) (vi (a + b) :: S) M Q) : MW mL_law d 776 (L) (vi b :: vi a :: S) M Q := mw_iadd ⟨dL_law_776, rfl⟩ k
theorem dL_law_777 : decode cL_law 777 = .ok (.iaload, 1) := dk_46 (dk_at dksL_law_27 17 rfl rfl)
theorem iL_law_777 {d : Nat} {L S : List MV} {M : MH} {Q : Out → MH → Prop} {a n : Nat} {z : Int} (hs : msh M a = (100, n)) (hi : 0 ≤ z ∧ z < n) (k : MW mL_law d 778 L (vi (miv M a z.toNat) :: S) M Q) (hn : Nat.ble n 2147483647 = true := by rfl) : MW mL_law d 777 L (vi z :: vp a :: S) M Q := mw_iaload ⟨dL_law_777, rfl⟩ hs (Nat.le_of_ble_eq_true hn) hi k
theorem dL_law_778 : decode cL_law 778 = .ok (.invokevirtual 96, 3) := dk_182 0 96 (dk_at dksL_law_27 18 rfl rfl)
theorem iL_law_778 {d : Nat} {L S : List MV} {M : MH} {Q : Out → MH → Prop} {v1 v2 : MV} {b : Nat} {P : Int → MH → Prop} (hs : (msh M b).1 = 10) (hM : MCi mX7_value d [vp b, v1, v2] M P) (k : ∀ z M', P z M' → MW mL_law (d + 1) 781 L (vi z :: S) M' Q) (h8 : Nat.ble (S.map mcat).sum 8 = true := by rfl) : MW mL_law (d + 1) 778 L (v2 :: v1 :: vp b :: S) M Q := mw_calli (as := [vp b, v1, v2]) (site_V (Y' := mX7_value) (n := 2) ⟨dL_law_778, rfl⟩ (Or.inl q1468) q1469 q1470 wX7_value nX7_value hX7_value (cls_of (ci := 10) rfl hs) rfl) kX7_value (Nat.le_of_ble_eq_true h8) hM k
theorem dL_law_781 : decode cL_law 781 = .ok (.if_icmp .eq 507, 3) := dk_159 1 251 (dk_at dksL_law_27 21 rfl rfl)
theorem iL_law_781 {d : Nat} {L S : List MV} {M : MH} {Q : Out → MH → Prop} {a b : Int} (ha : inR a) (hb : inR b) (kt : a = b → MW mL_law d 1288 L S M Q) (kf : ¬ a = b → MW mL_law d 784 L S M Q) : MW mL_law d 781 L (vi b :: vi a :: S) M Q := mw_icmp_eq ⟨dL_law_781, rfl⟩ rfl ha hb kt kf
theorem dL_law_784 : decode cL_law 784 = .ok (.iconst 0, 1) := dk_3 (dk_at dksL_law_28 0 rfl rfl)
theorem iL_law_784 {d : Nat} {L S : List MV} {M : MH} {Q : Out → MH → Prop}  (k : MW mL_law d 785 (L) (vi 0 :: S) M Q) : MW mL_law d 784 (L) S M Q := mw_iconst ⟨dL_law_784, rfl⟩ k
theorem dL_law_785 : decode cL_law 785 = .ok (.ireturn, 1) := dk_172 (dk_at dksL_law_28 1 rfl rfl)
theorem iL_law_785 {d : Nat} {L : List MV} {M : MH} {P : Int → MH → Prop} {z : Int} (hz : z = 0 ∨ z = 1) (hq : P z M) : MW mL_law d 785 L [vi z] M (Ri P) := mw_retz ⟨dL_law_785, rfl⟩ rfl hz hq
theorem dL_law_786 : decode cL_law 786 = .ok (.aload_n 1, 1) := dk_43 (dk_at dksL_law_28 2 rfl rfl)
theorem iL_law_786 {d : Nat} {r S : List MV} {M : MH} {Q : Out → MH → Prop} {w0 : MV} {o : Option Nat} (k : MW mL_law d 787 (w0 :: vr o :: r) (vr o :: S) M Q) : MW mL_law d 786 (w0 :: vr o :: r) S M Q := mw_aload_n ⟨dL_law_786, rfl⟩ rfl k
theorem dL_law_787 : decode cL_law 787 = .ok (.aload_n 0, 1) := dk_42 (dk_at dksL_law_28 3 rfl rfl)
theorem iL_law_787 {d : Nat} {r S : List MV} {M : MH} {Q : Out → MH → Prop} {o : Option Nat} (k : MW mL_law d 788 (vr o :: r) (vr o :: S) M Q) : MW mL_law d 787 (vr o :: r) S M Q := mw_aload_n ⟨dL_law_787, rfl⟩ rfl k
theorem dL_law_788 : decode cL_law 788 = .ok (.iload_n 3, 1) := dk_29 (dk_at dksL_law_28 4 rfl rfl)
theorem iL_law_788 {d : Nat} {r S : List MV} {M : MH} {Q : Out → MH → Prop} {w0 w1 w2 : MV} {z : Int} (k : MW mL_law d 789 (w0 :: w1 :: w2 :: vi z :: r) (vi z :: S) M Q) : MW mL_law d 788 (w0 :: w1 :: w2 :: vi z :: r) S M Q := mw_iload_n ⟨dL_law_788, rfl⟩ rfl k
theorem dL_law_789 : decode cL_law 789 = .ok (.iconst 1, 1) := dk_4 (dk_at dksL_law_28 5 rfl rfl)
theorem iL_law_789 {d : Nat} {L S : List MV} {M : MH} {Q : Out → MH → Prop}  (k : MW mL_law d 790 (L) (vi 1 :: S) M Q) : MW mL_law d 789 (L) S M Q := mw_iconst ⟨dL_law_789, rfl⟩ k
theorem dL_law_790 : decode cL_law 790 = .ok (.iadd, 1) := dk_96 (dk_at dksL_law_28 6 rfl rfl)
theorem iL_law_790 {d : Nat} {L S : List MV} {M : MH} {Q : Out → MH → Prop} {a b : Int} (k : MW mL_law d 791 (L) (vi (a + b) :: S) M Q) : MW mL_law d 790 (L) (vi b :: vi a :: S) M Q := mw_iadd ⟨dL_law_790, rfl⟩ k
theorem dL_law_791 : decode cL_law 791 = .ok (.iaload, 1) := dk_46 (dk_at dksL_law_28 7 rfl rfl)
theorem iL_law_791 {d : Nat} {L S : List MV} {M : MH} {Q : Out → MH → Prop} {a n : Nat} {z : Int} (hs : msh M a = (100, n)) (hi : 0 ≤ z ∧ z < n) (k : MW mL_law d 792 L (vi (miv M a z.toNat) :: S) M Q) (hn : Nat.ble n 2147483647 = true := by rfl) : MW mL_law d 791 L (vi z :: vp a :: S) M Q := mw_iaload ⟨dL_law_791, rfl⟩ hs (Nat.le_of_ble_eq_true hn) hi k
theorem dL_law_792 : decode cL_law 792 = .ok (.aload_n 0, 1) := dk_42 (dk_at dksL_law_28 8 rfl rfl)
theorem iL_law_792 {d : Nat} {r S : List MV} {M : MH} {Q : Out → MH → Prop} {o : Option Nat} (k : MW mL_law d 793 (vr o :: r) (vr o :: S) M Q) : MW mL_law d 792 (vr o :: r) S M Q := mw_aload_n ⟨dL_law_792, rfl⟩ rfl k
theorem dL_law_793 : decode cL_law 793 = .ok (.iload_n 3, 1) := dk_29 (dk_at dksL_law_28 9 rfl rfl)
theorem iL_law_793 {d : Nat} {r S : List MV} {M : MH} {Q : Out → MH → Prop} {w0 w1 w2 : MV} {z : Int} (k : MW mL_law d 794 (w0 :: w1 :: w2 :: vi z :: r) (vi z :: S) M Q) : MW mL_law d 793 (w0 :: w1 :: w2 :: vi z :: r) S M Q := mw_iload_n ⟨dL_law_793, rfl⟩ rfl k
theorem dL_law_794 : decode cL_law 794 = .ok (.iconst 2, 1) := dk_5 (dk_at dksL_law_28 10 rfl rfl)
theorem iL_law_794 {d : Nat} {L S : List MV} {M : MH} {Q : Out → MH → Prop}  (k : MW mL_law d 795 (L) (vi 2 :: S) M Q) : MW mL_law d 794 (L) S M Q := mw_iconst ⟨dL_law_794, rfl⟩ k
theorem dL_law_795 : decode cL_law 795 = .ok (.iadd, 1) := dk_96 (dk_at dksL_law_28 11 rfl rfl)
theorem iL_law_795 {d : Nat} {L S : List MV} {M : MH} {Q : Out → MH → Prop} {a b : Int} (k : MW mL_law d 796 (L) (vi (a + b) :: S) M Q) : MW mL_law d 795 (L) (vi b :: vi a :: S) M Q := mw_iadd ⟨dL_law_795, rfl⟩ k
theorem dL_law_796 : decode cL_law 796 = .ok (.iaload, 1) := dk_46 (dk_at dksL_law_28 12 rfl rfl)
theorem iL_law_796 {d : Nat} {L S : List MV} {M : MH} {Q : Out → MH → Prop} {a n : Nat} {z : Int} (hs : msh M a = (100, n)) (hi : 0 ≤ z ∧ z < n) (k : MW mL_law d 797 L (vi (miv M a z.toNat) :: S) M Q) (hn : Nat.ble n 2147483647 = true := by rfl) : MW mL_law d 796 L (vi z :: vp a :: S) M Q := mw_iaload ⟨dL_law_796, rfl⟩ hs (Nat.le_of_ble_eq_true hn) hi k
theorem dL_law_797 : decode cL_law 797 = .ok (.invokevirtual 97, 3) := dk_182 0 97 (dk_at dksL_law_28 13 rfl rfl)
theorem iL_law_797 {d : Nat} {L S : List MV} {M : MH} {Q : Out → MH → Prop} {v1 v2 : MV} {b : Nat} {P : Int → MH → Prop} (hs : (msh M b).1 = 0) (hM : MCi mX0_change d [vp b, v1, v2] M P) (k : ∀ z M', P z M' → MW mL_law (d + 1) 800 L (vi z :: S) M' Q) (h8 : Nat.ble (S.map mcat).sum 8 = true := by rfl) : MW mL_law (d + 1) 797 L (v2 :: v1 :: vp b :: S) M Q := mw_calli (as := [vp b, v1, v2]) (site_V (Y' := mX0_change) (n := 2) ⟨dL_law_797, rfl⟩ (Or.inl q943) q944 q945 wX0_change nX0_change hX0_change (cls_of (ci := 0) rfl hs) rfl) kX0_change (Nat.le_of_ble_eq_true h8) hM k
theorem dL_law_800 : decode cL_law 800 = .ok (.aload_n 2, 1) := dk_44 (dk_at dksL_law_28 16 rfl rfl)
theorem iL_law_800 {d : Nat} {r S : List MV} {M : MH} {Q : Out → MH → Prop} {w0 w1 : MV} {o : Option Nat} (k : MW mL_law d 801 (w0 :: w1 :: vr o :: r) (vr o :: S) M Q) : MW mL_law d 800 (w0 :: w1 :: vr o :: r) S M Q := mw_aload_n ⟨dL_law_800, rfl⟩ rfl k
theorem dL_law_801 : decode cL_law 801 = .ok (.aload_n 0, 1) := dk_42 (dk_at dksL_law_28 17 rfl rfl)
theorem iL_law_801 {d : Nat} {r S : List MV} {M : MH} {Q : Out → MH → Prop} {o : Option Nat} (k : MW mL_law d 802 (vr o :: r) (vr o :: S) M Q) : MW mL_law d 801 (vr o :: r) S M Q := mw_aload_n ⟨dL_law_801, rfl⟩ rfl k
theorem dL_law_802 : decode cL_law 802 = .ok (.iload_n 3, 1) := dk_29 (dk_at dksL_law_28 18 rfl rfl)
theorem iL_law_802 {d : Nat} {r S : List MV} {M : MH} {Q : Out → MH → Prop} {w0 w1 w2 : MV} {z : Int} (k : MW mL_law d 803 (w0 :: w1 :: w2 :: vi z :: r) (vi z :: S) M Q) : MW mL_law d 802 (w0 :: w1 :: w2 :: vi z :: r) S M Q := mw_iload_n ⟨dL_law_802, rfl⟩ rfl k
theorem dL_law_803 : decode cL_law 803 = .ok (.iconst 1, 1) := dk_4 (dk_at dksL_law_28 19 rfl rfl)
theorem iL_law_803 {d : Nat} {L S : List MV} {M : MH} {Q : Out → MH → Prop}  (k : MW mL_law d 804 (L) (vi 1 :: S) M Q) : MW mL_law d 803 (L) S M Q := mw_iconst ⟨dL_law_803, rfl⟩ k
theorem dL_law_804 : decode cL_law 804 = .ok (.iadd, 1) := dk_96 (dk_at dksL_law_28 20 rfl rfl)
theorem iL_law_804 {d : Nat} {L S : List MV} {M : MH} {Q : Out → MH → Prop} {a b : Int} (k : MW mL_law d 805 (L) (vi (a + b) :: S) M Q) : MW mL_law d 804 (L) (vi b :: vi a :: S) M Q := mw_iadd ⟨dL_law_804, rfl⟩ k
theorem dL_law_805 : decode cL_law 805 = .ok (.iaload, 1) := dk_46 (dk_at dksL_law_28 21 rfl rfl)
theorem iL_law_805 {d : Nat} {L S : List MV} {M : MH} {Q : Out → MH → Prop} {a n : Nat} {z : Int} (hs : msh M a = (100, n)) (hi : 0 ≤ z ∧ z < n) (k : MW mL_law d 806 L (vi (miv M a z.toNat) :: S) M Q) (hn : Nat.ble n 2147483647 = true := by rfl) : MW mL_law d 805 L (vi z :: vp a :: S) M Q := mw_iaload ⟨dL_law_805, rfl⟩ hs (Nat.le_of_ble_eq_true hn) hi k
theorem dL_law_806 : decode cL_law 806 = .ok (.aload_n 0, 1) := dk_42 (dk_at dksL_law_28 22 rfl rfl)
theorem iL_law_806 {d : Nat} {r S : List MV} {M : MH} {Q : Out → MH → Prop} {o : Option Nat} (k : MW mL_law d 807 (vr o :: r) (vr o :: S) M Q) : MW mL_law d 806 (vr o :: r) S M Q := mw_aload_n ⟨dL_law_806, rfl⟩ rfl k
theorem dL_law_807 : decode cL_law 807 = .ok (.iload_n 3, 1) := dk_29 (dk_at dksL_law_28 23 rfl rfl)
theorem iL_law_807 {d : Nat} {r S : List MV} {M : MH} {Q : Out → MH → Prop} {w0 w1 w2 : MV} {z : Int} (k : MW mL_law d 808 (w0 :: w1 :: w2 :: vi z :: r) (vi z :: S) M Q) : MW mL_law d 807 (w0 :: w1 :: w2 :: vi z :: r) S M Q := mw_iload_n ⟨dL_law_807, rfl⟩ rfl k
theorem dL_law_808 : decode cL_law 808 = .ok (.iconst 2, 1) := dk_5 (dk_at dksL_law_29 0 rfl rfl)
theorem iL_law_808 {d : Nat} {L S : List MV} {M : MH} {Q : Out → MH → Prop}  (k : MW mL_law d 809 (L) (vi 2 :: S) M Q) : MW mL_law d 808 (L) S M Q := mw_iconst ⟨dL_law_808, rfl⟩ k
theorem dL_law_809 : decode cL_law 809 = .ok (.iadd, 1) := dk_96 (dk_at dksL_law_29 1 rfl rfl)
theorem iL_law_809 {d : Nat} {L S : List MV} {M : MH} {Q : Out → MH → Prop} {a b : Int} (k : MW mL_law d 810 (L) (vi (a + b) :: S) M Q) : MW mL_law d 809 (L) (vi b :: vi a :: S) M Q := mw_iadd ⟨dL_law_809, rfl⟩ k
theorem dL_law_810 : decode cL_law 810 = .ok (.iaload, 1) := dk_46 (dk_at dksL_law_29 2 rfl rfl)
theorem iL_law_810 {d : Nat} {L S : List MV} {M : MH} {Q : Out → MH → Prop} {a n : Nat} {z : Int} (hs : msh M a = (100, n)) (hi : 0 ≤ z ∧ z < n) (k : MW mL_law d 811 L (vi (miv M a z.toNat) :: S) M Q) (hn : Nat.ble n 2147483647 = true := by rfl) : MW mL_law d 810 L (vi z :: vp a :: S) M Q := mw_iaload ⟨dL_law_810, rfl⟩ hs (Nat.le_of_ble_eq_true hn) hi k
theorem dL_law_811 : decode cL_law 811 = .ok (.invokevirtual 100, 3) := dk_182 0 100 (dk_at dksL_law_29 3 rfl rfl)
theorem iL_law_811 {d : Nat} {L S : List MV} {M : MH} {Q : Out → MH → Prop} {v1 v2 : MV} {b : Nat} {P : Int → MH → Prop} (hs : (msh M b).1 = 10) (hM : MCi mX7_change d [vp b, v1, v2] M P) (k : ∀ z M', P z M' → MW mL_law (d + 1) 814 L (vi z :: S) M' Q) (h8 : Nat.ble (S.map mcat).sum 8 = true := by rfl) : MW mL_law (d + 1) 811 L (v2 :: v1 :: vp b :: S) M Q := mw_calli (as := [vp b, v1, v2]) (site_V (Y' := mX7_change) (n := 2) ⟨dL_law_811, rfl⟩ (Or.inl q1476) q1477 q1478 wX7_change nX7_change hX7_change (cls_of (ci := 10) rfl hs) rfl) kX7_change (Nat.le_of_ble_eq_true h8) hM k
theorem dL_law_814 : decode cL_law 814 = .ok (.if_icmp .eq 474, 3) := dk_159 1 218 (dk_at dksL_law_29 6 rfl rfl)
theorem iL_law_814 {d : Nat} {L S : List MV} {M : MH} {Q : Out → MH → Prop} {a b : Int} (ha : inR a) (hb : inR b) (kt : a = b → MW mL_law d 1288 L S M Q) (kf : ¬ a = b → MW mL_law d 817 L S M Q) : MW mL_law d 814 L (vi b :: vi a :: S) M Q := mw_icmp_eq ⟨dL_law_814, rfl⟩ rfl ha hb kt kf
theorem dL_law_817 : decode cL_law 817 = .ok (.iconst 0, 1) := dk_3 (dk_at dksL_law_29 9 rfl rfl)
theorem iL_law_817 {d : Nat} {L S : List MV} {M : MH} {Q : Out → MH → Prop}  (k : MW mL_law d 818 (L) (vi 0 :: S) M Q) : MW mL_law d 817 (L) S M Q := mw_iconst ⟨dL_law_817, rfl⟩ k
theorem dL_law_818 : decode cL_law 818 = .ok (.ireturn, 1) := dk_172 (dk_at dksL_law_29 10 rfl rfl)
theorem iL_law_818 {d : Nat} {L : List MV} {M : MH} {P : Int → MH → Prop} {z : Int} (hz : z = 0 ∨ z = 1) (hq : P z M) : MW mL_law d 818 L [vi z] M (Ri P) := mw_retz ⟨dL_law_818, rfl⟩ rfl hz hq
theorem dL_law_819 : decode cL_law 819 = .ok (.aload_n 1, 1) := dk_43 (dk_at dksL_law_29 11 rfl rfl)
theorem iL_law_819 {d : Nat} {r S : List MV} {M : MH} {Q : Out → MH → Prop} {w0 : MV} {o : Option Nat} (k : MW mL_law d 820 (w0 :: vr o :: r) (vr o :: S) M Q) : MW mL_law d 819 (w0 :: vr o :: r) S M Q := mw_aload_n ⟨dL_law_819, rfl⟩ rfl k
theorem dL_law_820 : decode cL_law 820 = .ok (.invokevirtual 101, 3) := dk_182 0 101 (dk_at dksL_law_29 12 rfl rfl)
theorem iL_law_820 {d : Nat} {L S : List MV} {M : MH} {Q : Out → MH → Prop} {b : Nat} {P : Int → MH → Prop} (hs : (msh M b).1 = 0) (hM : MCi mX0_changes d [vp b] M P) (k : ∀ z M', P z M' → MW mL_law (d + 1) 823 L (vi z :: S) M' Q) (h8 : Nat.ble (S.map mcat).sum 8 = true := by rfl) : MW mL_law (d + 1) 820 L (vp b :: S) M Q := mw_calli (as := [vp b]) (site_V (Y' := mX0_changes) (n := 0) ⟨dL_law_820, rfl⟩ (Or.inl q951) q952 q953 wX0_changes nX0_changes hX0_changes (cls_of (ci := 0) rfl hs) rfl) kX0_changes (Nat.le_of_ble_eq_true h8) hM k
theorem dL_law_823 : decode cL_law 823 = .ok (.aload_n 2, 1) := dk_44 (dk_at dksL_law_29 15 rfl rfl)
theorem iL_law_823 {d : Nat} {r S : List MV} {M : MH} {Q : Out → MH → Prop} {w0 w1 : MV} {o : Option Nat} (k : MW mL_law d 824 (w0 :: w1 :: vr o :: r) (vr o :: S) M Q) : MW mL_law d 823 (w0 :: w1 :: vr o :: r) S M Q := mw_aload_n ⟨dL_law_823, rfl⟩ rfl k
theorem dL_law_824 : decode cL_law 824 = .ok (.invokevirtual 104, 3) := dk_182 0 104 (dk_at dksL_law_29 16 rfl rfl)
theorem iL_law_824 {d : Nat} {L S : List MV} {M : MH} {Q : Out → MH → Prop} {b : Nat} {P : Int → MH → Prop} (hs : (msh M b).1 = 10) (hM : MCi mX7_changes d [vp b] M P) (k : ∀ z M', P z M' → MW mL_law (d + 1) 827 L (vi z :: S) M' Q) (h8 : Nat.ble (S.map mcat).sum 8 = true := by rfl) : MW mL_law (d + 1) 824 L (vp b :: S) M Q := mw_calli (as := [vp b]) (site_V (Y' := mX7_changes) (n := 0) ⟨dL_law_824, rfl⟩ (Or.inl q1484) q1485 q1486 wX7_changes nX7_changes hX7_changes (cls_of (ci := 10) rfl hs) rfl) kX7_changes (Nat.le_of_ble_eq_true h8) hM k
theorem dL_law_827 : decode cL_law 827 = .ok (.if_icmp .eq 461, 3) := dk_159 1 205 (dk_at dksL_law_29 19 rfl rfl)
theorem iL_law_827 {d : Nat} {L S : List MV} {M : MH} {Q : Out → MH → Prop} {a b : Int} (ha : inR a) (hb : inR b) (kt : a = b → MW mL_law d 1288 L S M Q) (kf : ¬ a = b → MW mL_law d 830 L S M Q) : MW mL_law d 827 L (vi b :: vi a :: S) M Q := mw_icmp_eq ⟨dL_law_827, rfl⟩ rfl ha hb kt kf
theorem dL_law_830 : decode cL_law 830 = .ok (.iconst 0, 1) := dk_3 (dk_at dksL_law_29 22 rfl rfl)
theorem iL_law_830 {d : Nat} {L S : List MV} {M : MH} {Q : Out → MH → Prop}  (k : MW mL_law d 831 (L) (vi 0 :: S) M Q) : MW mL_law d 830 (L) S M Q := mw_iconst ⟨dL_law_830, rfl⟩ k
theorem dL_law_831 : decode cL_law 831 = .ok (.ireturn, 1) := dk_172 (dk_at dksL_law_29 23 rfl rfl)
theorem iL_law_831 {d : Nat} {L : List MV} {M : MH} {P : Int → MH → Prop} {z : Int} (hz : z = 0 ∨ z = 1) (hq : P z M) : MW mL_law d 831 L [vi z] M (Ri P) := mw_retz ⟨dL_law_831, rfl⟩ rfl hz hq
theorem dL_law_832 : decode cL_law 832 = .ok (.aload_n 1, 1) := dk_43 (dk_at dksL_law_30 0 rfl rfl)
theorem iL_law_832 {d : Nat} {r S : List MV} {M : MH} {Q : Out → MH → Prop} {w0 : MV} {o : Option Nat} (k : MW mL_law d 833 (w0 :: vr o :: r) (vr o :: S) M Q) : MW mL_law d 832 (w0 :: vr o :: r) S M Q := mw_aload_n ⟨dL_law_832, rfl⟩ rfl k
theorem dL_law_833 : decode cL_law 833 = .ok (.aload_n 0, 1) := dk_42 (dk_at dksL_law_30 1 rfl rfl)
theorem iL_law_833 {d : Nat} {r S : List MV} {M : MH} {Q : Out → MH → Prop} {o : Option Nat} (k : MW mL_law d 834 (vr o :: r) (vr o :: S) M Q) : MW mL_law d 833 (vr o :: r) S M Q := mw_aload_n ⟨dL_law_833, rfl⟩ rfl k
theorem dL_law_834 : decode cL_law 834 = .ok (.iload_n 3, 1) := dk_29 (dk_at dksL_law_30 2 rfl rfl)
theorem iL_law_834 {d : Nat} {r S : List MV} {M : MH} {Q : Out → MH → Prop} {w0 w1 w2 : MV} {z : Int} (k : MW mL_law d 835 (w0 :: w1 :: w2 :: vi z :: r) (vi z :: S) M Q) : MW mL_law d 834 (w0 :: w1 :: w2 :: vi z :: r) S M Q := mw_iload_n ⟨dL_law_834, rfl⟩ rfl k
theorem dL_law_835 : decode cL_law 835 = .ok (.iconst 1, 1) := dk_4 (dk_at dksL_law_30 3 rfl rfl)
theorem iL_law_835 {d : Nat} {L S : List MV} {M : MH} {Q : Out → MH → Prop}  (k : MW mL_law d 836 (L) (vi 1 :: S) M Q) : MW mL_law d 835 (L) S M Q := mw_iconst ⟨dL_law_835, rfl⟩ k
theorem dL_law_836 : decode cL_law 836 = .ok (.iadd, 1) := dk_96 (dk_at dksL_law_30 4 rfl rfl)
theorem iL_law_836 {d : Nat} {L S : List MV} {M : MH} {Q : Out → MH → Prop} {a b : Int} (k : MW mL_law d 837 (L) (vi (a + b) :: S) M Q) : MW mL_law d 836 (L) (vi b :: vi a :: S) M Q := mw_iadd ⟨dL_law_836, rfl⟩ k
theorem dL_law_837 : decode cL_law 837 = .ok (.iaload, 1) := dk_46 (dk_at dksL_law_30 5 rfl rfl)
theorem iL_law_837 {d : Nat} {L S : List MV} {M : MH} {Q : Out → MH → Prop} {a n : Nat} {z : Int} (hs : msh M a = (100, n)) (hi : 0 ≤ z ∧ z < n) (k : MW mL_law d 838 L (vi (miv M a z.toNat) :: S) M Q) (hn : Nat.ble n 2147483647 = true := by rfl) : MW mL_law d 837 L (vi z :: vp a :: S) M Q := mw_iaload ⟨dL_law_837, rfl⟩ hs (Nat.le_of_ble_eq_true hn) hi k
theorem dL_law_838 : decode cL_law 838 = .ok (.invokevirtual 105, 3) := dk_182 0 105 (dk_at dksL_law_30 6 rfl rfl)
theorem iL_law_838 {d : Nat} {L S : List MV} {M : MH} {Q : Out → MH → Prop} {v1 : MV} {b : Nat} {P : Int → MH → Prop} (hs : (msh M b).1 = 0) (hM : MCi mX0_should d [vp b, v1] M P) (k : ∀ z M', P z M' → MW mL_law (d + 1) 841 L (vi z :: S) M' Q) (h8 : Nat.ble (S.map mcat).sum 8 = true := by rfl) : MW mL_law (d + 1) 838 L (v1 :: vp b :: S) M Q := mw_calli (as := [vp b, v1]) (site_V (Y' := mX0_should) (n := 1) ⟨dL_law_838, rfl⟩ (Or.inl q959) q960 q961 wX0_should nX0_should hX0_should (cls_of (ci := 0) rfl hs) rfl) kX0_should (Nat.le_of_ble_eq_true h8) hM k
theorem dL_law_841 : decode cL_law 841 = .ok (.aload_n 2, 1) := dk_44 (dk_at dksL_law_30 9 rfl rfl)
theorem iL_law_841 {d : Nat} {r S : List MV} {M : MH} {Q : Out → MH → Prop} {w0 w1 : MV} {o : Option Nat} (k : MW mL_law d 842 (w0 :: w1 :: vr o :: r) (vr o :: S) M Q) : MW mL_law d 841 (w0 :: w1 :: vr o :: r) S M Q := mw_aload_n ⟨dL_law_841, rfl⟩ rfl k
theorem dL_law_842 : decode cL_law 842 = .ok (.aload_n 0, 1) := dk_42 (dk_at dksL_law_30 10 rfl rfl)
theorem iL_law_842 {d : Nat} {r S : List MV} {M : MH} {Q : Out → MH → Prop} {o : Option Nat} (k : MW mL_law d 843 (vr o :: r) (vr o :: S) M Q) : MW mL_law d 842 (vr o :: r) S M Q := mw_aload_n ⟨dL_law_842, rfl⟩ rfl k
theorem dL_law_843 : decode cL_law 843 = .ok (.iload_n 3, 1) := dk_29 (dk_at dksL_law_30 11 rfl rfl)
theorem iL_law_843 {d : Nat} {r S : List MV} {M : MH} {Q : Out → MH → Prop} {w0 w1 w2 : MV} {z : Int} (k : MW mL_law d 844 (w0 :: w1 :: w2 :: vi z :: r) (vi z :: S) M Q) : MW mL_law d 843 (w0 :: w1 :: w2 :: vi z :: r) S M Q := mw_iload_n ⟨dL_law_843, rfl⟩ rfl k
theorem dL_law_844 : decode cL_law 844 = .ok (.iconst 1, 1) := dk_4 (dk_at dksL_law_30 12 rfl rfl)
theorem iL_law_844 {d : Nat} {L S : List MV} {M : MH} {Q : Out → MH → Prop}  (k : MW mL_law d 845 (L) (vi 1 :: S) M Q) : MW mL_law d 844 (L) S M Q := mw_iconst ⟨dL_law_844, rfl⟩ k
theorem dL_law_845 : decode cL_law 845 = .ok (.iadd, 1) := dk_96 (dk_at dksL_law_30 13 rfl rfl)
theorem iL_law_845 {d : Nat} {L S : List MV} {M : MH} {Q : Out → MH → Prop} {a b : Int} (k : MW mL_law d 846 (L) (vi (a + b) :: S) M Q) : MW mL_law d 845 (L) (vi b :: vi a :: S) M Q := mw_iadd ⟨dL_law_845, rfl⟩ k
theorem dL_law_846 : decode cL_law 846 = .ok (.iaload, 1) := dk_46 (dk_at dksL_law_30 14 rfl rfl)
theorem iL_law_846 {d : Nat} {L S : List MV} {M : MH} {Q : Out → MH → Prop} {a n : Nat} {z : Int} (hs : msh M a = (100, n)) (hi : 0 ≤ z ∧ z < n) (k : MW mL_law d 847 L (vi (miv M a z.toNat) :: S) M Q) (hn : Nat.ble n 2147483647 = true := by rfl) : MW mL_law d 846 L (vi z :: vp a :: S) M Q := mw_iaload ⟨dL_law_846, rfl⟩ hs (Nat.le_of_ble_eq_true hn) hi k
theorem dL_law_847 : decode cL_law 847 = .ok (.invokevirtual 108, 3) := dk_182 0 108 (dk_at dksL_law_30 15 rfl rfl)
theorem iL_law_847 {d : Nat} {L S : List MV} {M : MH} {Q : Out → MH → Prop} {v1 : MV} {b : Nat} {P : Int → MH → Prop} (hs : (msh M b).1 = 10) (hM : MCi mX7_should d [vp b, v1] M P) (k : ∀ z M', P z M' → MW mL_law (d + 1) 850 L (vi z :: S) M' Q) (h8 : Nat.ble (S.map mcat).sum 8 = true := by rfl) : MW mL_law (d + 1) 847 L (v1 :: vp b :: S) M Q := mw_calli (as := [vp b, v1]) (site_V (Y' := mX7_should) (n := 1) ⟨dL_law_847, rfl⟩ (Or.inl q1492) q1493 q1494 wX7_should nX7_should hX7_should (cls_of (ci := 10) rfl hs) rfl) kX7_should (Nat.le_of_ble_eq_true h8) hM k
theorem dL_law_850 : decode cL_law 850 = .ok (.if_icmp .eq 438, 3) := dk_159 1 182 (dk_at dksL_law_30 18 rfl rfl)
theorem iL_law_850 {d : Nat} {L S : List MV} {M : MH} {Q : Out → MH → Prop} {a b : Int} (ha : inR a) (hb : inR b) (kt : a = b → MW mL_law d 1288 L S M Q) (kf : ¬ a = b → MW mL_law d 853 L S M Q) : MW mL_law d 850 L (vi b :: vi a :: S) M Q := mw_icmp_eq ⟨dL_law_850, rfl⟩ rfl ha hb kt kf
theorem dL_law_853 : decode cL_law 853 = .ok (.iconst 0, 1) := dk_3 (dk_at dksL_law_30 21 rfl rfl)
theorem iL_law_853 {d : Nat} {L S : List MV} {M : MH} {Q : Out → MH → Prop}  (k : MW mL_law d 854 (L) (vi 0 :: S) M Q) : MW mL_law d 853 (L) S M Q := mw_iconst ⟨dL_law_853, rfl⟩ k
theorem dL_law_854 : decode cL_law 854 = .ok (.ireturn, 1) := dk_172 (dk_at dksL_law_30 22 rfl rfl)
theorem iL_law_854 {d : Nat} {L : List MV} {M : MH} {P : Int → MH → Prop} {z : Int} (hz : z = 0 ∨ z = 1) (hq : P z M) : MW mL_law d 854 L [vi z] M (Ri P) := mw_retz ⟨dL_law_854, rfl⟩ rfl hz hq
theorem dL_law_855 : decode cL_law 855 = .ok (.aload_n 1, 1) := dk_43 (dk_at dksL_law_30 23 rfl rfl)
theorem iL_law_855 {d : Nat} {r S : List MV} {M : MH} {Q : Out → MH → Prop} {w0 : MV} {o : Option Nat} (k : MW mL_law d 856 (w0 :: vr o :: r) (vr o :: S) M Q) : MW mL_law d 855 (w0 :: vr o :: r) S M Q := mw_aload_n ⟨dL_law_855, rfl⟩ rfl k
theorem dL_law_856 : decode cL_law 856 = .ok (.aload_n 0, 1) := dk_42 (dk_at dksL_law_31 0 rfl rfl)
theorem iL_law_856 {d : Nat} {r S : List MV} {M : MH} {Q : Out → MH → Prop} {o : Option Nat} (k : MW mL_law d 857 (vr o :: r) (vr o :: S) M Q) : MW mL_law d 856 (vr o :: r) S M Q := mw_aload_n ⟨dL_law_856, rfl⟩ rfl k
theorem dL_law_857 : decode cL_law 857 = .ok (.iload_n 3, 1) := dk_29 (dk_at dksL_law_31 1 rfl rfl)
theorem iL_law_857 {d : Nat} {r S : List MV} {M : MH} {Q : Out → MH → Prop} {w0 w1 w2 : MV} {z : Int} (k : MW mL_law d 858 (w0 :: w1 :: w2 :: vi z :: r) (vi z :: S) M Q) : MW mL_law d 857 (w0 :: w1 :: w2 :: vi z :: r) S M Q := mw_iload_n ⟨dL_law_857, rfl⟩ rfl k
theorem dL_law_858 : decode cL_law 858 = .ok (.iconst 1, 1) := dk_4 (dk_at dksL_law_31 2 rfl rfl)
theorem iL_law_858 {d : Nat} {L S : List MV} {M : MH} {Q : Out → MH → Prop}  (k : MW mL_law d 859 (L) (vi 1 :: S) M Q) : MW mL_law d 858 (L) S M Q := mw_iconst ⟨dL_law_858, rfl⟩ k
theorem dL_law_859 : decode cL_law 859 = .ok (.iadd, 1) := dk_96 (dk_at dksL_law_31 3 rfl rfl)
theorem iL_law_859 {d : Nat} {L S : List MV} {M : MH} {Q : Out → MH → Prop} {a b : Int} (k : MW mL_law d 860 (L) (vi (a + b) :: S) M Q) : MW mL_law d 859 (L) (vi b :: vi a :: S) M Q := mw_iadd ⟨dL_law_859, rfl⟩ k
theorem dL_law_860 : decode cL_law 860 = .ok (.iaload, 1) := dk_46 (dk_at dksL_law_31 4 rfl rfl)
theorem iL_law_860 {d : Nat} {L S : List MV} {M : MH} {Q : Out → MH → Prop} {a n : Nat} {z : Int} (hs : msh M a = (100, n)) (hi : 0 ≤ z ∧ z < n) (k : MW mL_law d 861 L (vi (miv M a z.toNat) :: S) M Q) (hn : Nat.ble n 2147483647 = true := by rfl) : MW mL_law d 860 L (vi z :: vp a :: S) M Q := mw_iaload ⟨dL_law_860, rfl⟩ hs (Nat.le_of_ble_eq_true hn) hi k
theorem dL_law_861 : decode cL_law 861 = .ok (.aload_n 0, 1) := dk_42 (dk_at dksL_law_31 5 rfl rfl)
theorem iL_law_861 {d : Nat} {r S : List MV} {M : MH} {Q : Out → MH → Prop} {o : Option Nat} (k : MW mL_law d 862 (vr o :: r) (vr o :: S) M Q) : MW mL_law d 861 (vr o :: r) S M Q := mw_aload_n ⟨dL_law_861, rfl⟩ rfl k
theorem dL_law_862 : decode cL_law 862 = .ok (.iload_n 3, 1) := dk_29 (dk_at dksL_law_31 6 rfl rfl)
theorem iL_law_862 {d : Nat} {r S : List MV} {M : MH} {Q : Out → MH → Prop} {w0 w1 w2 : MV} {z : Int} (k : MW mL_law d 863 (w0 :: w1 :: w2 :: vi z :: r) (vi z :: S) M Q) : MW mL_law d 862 (w0 :: w1 :: w2 :: vi z :: r) S M Q := mw_iload_n ⟨dL_law_862, rfl⟩ rfl k
theorem dL_law_863 : decode cL_law 863 = .ok (.iconst 2, 1) := dk_5 (dk_at dksL_law_31 7 rfl rfl)
theorem iL_law_863 {d : Nat} {L S : List MV} {M : MH} {Q : Out → MH → Prop}  (k : MW mL_law d 864 (L) (vi 2 :: S) M Q) : MW mL_law d 863 (L) S M Q := mw_iconst ⟨dL_law_863, rfl⟩ k
theorem dL_law_864 : decode cL_law 864 = .ok (.iadd, 1) := dk_96 (dk_at dksL_law_31 8 rfl rfl)
theorem iL_law_864 {d : Nat} {L S : List MV} {M : MH} {Q : Out → MH → Prop} {a b : Int} (k : MW mL_law d 865 (L) (vi (a + b) :: S) M Q) : MW mL_law d 864 (L) (vi b :: vi a :: S) M Q := mw_iadd ⟨dL_law_864, rfl⟩ k
theorem dL_law_865 : decode cL_law 865 = .ok (.iaload, 1) := dk_46 (dk_at dksL_law_31 9 rfl rfl)
theorem iL_law_865 {d : Nat} {L S : List MV} {M : MH} {Q : Out → MH → Prop} {a n : Nat} {z : Int} (hs : msh M a = (100, n)) (hi : 0 ≤ z ∧ z < n) (k : MW mL_law d 866 L (vi (miv M a z.toNat) :: S) M Q) (hn : Nat.ble n 2147483647 = true := by rfl) : MW mL_law d 865 L (vi z :: vp a :: S) M Q := mw_iaload ⟨dL_law_865, rfl⟩ hs (Nat.le_of_ble_eq_true hn) hi k
theorem dL_law_866 : decode cL_law 866 = .ok (.invokevirtual 109, 3) := dk_182 0 109 (dk_at dksL_law_31 10 rfl rfl)
theorem iL_law_866 {d : Nat} {L S : List MV} {M : MH} {Q : Out → MH → Prop} {v1 v2 : MV} {b : Nat} {P : Int → MH → Prop} (hs : (msh M b).1 = 0) (hM : MCi mX0_come d [vp b, v1, v2] M P) (k : ∀ z M', P z M' → MW mL_law (d + 1) 869 L (vi z :: S) M' Q) (h8 : Nat.ble (S.map mcat).sum 8 = true := by rfl) : MW mL_law (d + 1) 866 L (v2 :: v1 :: vp b :: S) M Q := mw_calli (as := [vp b, v1, v2]) (site_V (Y' := mX0_come) (n := 2) ⟨dL_law_866, rfl⟩ (Or.inl q985) q986 q987 wX0_come nX0_come hX0_come (cls_of (ci := 0) rfl hs) rfl) kX0_come (Nat.le_of_ble_eq_true h8) hM k
theorem dL_law_869 : decode cL_law 869 = .ok (.aload_n 2, 1) := dk_44 (dk_at dksL_law_31 13 rfl rfl)
theorem iL_law_869 {d : Nat} {r S : List MV} {M : MH} {Q : Out → MH → Prop} {w0 w1 : MV} {o : Option Nat} (k : MW mL_law d 870 (w0 :: w1 :: vr o :: r) (vr o :: S) M Q) : MW mL_law d 869 (w0 :: w1 :: vr o :: r) S M Q := mw_aload_n ⟨dL_law_869, rfl⟩ rfl k
theorem dL_law_870 : decode cL_law 870 = .ok (.aload_n 0, 1) := dk_42 (dk_at dksL_law_31 14 rfl rfl)
theorem iL_law_870 {d : Nat} {r S : List MV} {M : MH} {Q : Out → MH → Prop} {o : Option Nat} (k : MW mL_law d 871 (vr o :: r) (vr o :: S) M Q) : MW mL_law d 870 (vr o :: r) S M Q := mw_aload_n ⟨dL_law_870, rfl⟩ rfl k
theorem dL_law_871 : decode cL_law 871 = .ok (.iload_n 3, 1) := dk_29 (dk_at dksL_law_31 15 rfl rfl)
theorem iL_law_871 {d : Nat} {r S : List MV} {M : MH} {Q : Out → MH → Prop} {w0 w1 w2 : MV} {z : Int} (k : MW mL_law d 872 (w0 :: w1 :: w2 :: vi z :: r) (vi z :: S) M Q) : MW mL_law d 871 (w0 :: w1 :: w2 :: vi z :: r) S M Q := mw_iload_n ⟨dL_law_871, rfl⟩ rfl k
theorem dL_law_872 : decode cL_law 872 = .ok (.iconst 1, 1) := dk_4 (dk_at dksL_law_31 16 rfl rfl)
theorem iL_law_872 {d : Nat} {L S : List MV} {M : MH} {Q : Out → MH → Prop}  (k : MW mL_law d 873 (L) (vi 1 :: S) M Q) : MW mL_law d 872 (L) S M Q := mw_iconst ⟨dL_law_872, rfl⟩ k
theorem dL_law_873 : decode cL_law 873 = .ok (.iadd, 1) := dk_96 (dk_at dksL_law_31 17 rfl rfl)
theorem iL_law_873 {d : Nat} {L S : List MV} {M : MH} {Q : Out → MH → Prop} {a b : Int} (k : MW mL_law d 874 (L) (vi (a + b) :: S) M Q) : MW mL_law d 873 (L) (vi b :: vi a :: S) M Q := mw_iadd ⟨dL_law_873, rfl⟩ k
theorem dL_law_874 : decode cL_law 874 = .ok (.iaload, 1) := dk_46 (dk_at dksL_law_31 18 rfl rfl)
theorem iL_law_874 {d : Nat} {L S : List MV} {M : MH} {Q : Out → MH → Prop} {a n : Nat} {z : Int} (hs : msh M a = (100, n)) (hi : 0 ≤ z ∧ z < n) (k : MW mL_law d 875 L (vi (miv M a z.toNat) :: S) M Q) (hn : Nat.ble n 2147483647 = true := by rfl) : MW mL_law d 874 L (vi z :: vp a :: S) M Q := mw_iaload ⟨dL_law_874, rfl⟩ hs (Nat.le_of_ble_eq_true hn) hi k
theorem dL_law_875 : decode cL_law 875 = .ok (.aload_n 0, 1) := dk_42 (dk_at dksL_law_31 19 rfl rfl)
theorem iL_law_875 {d : Nat} {r S : List MV} {M : MH} {Q : Out → MH → Prop} {o : Option Nat} (k : MW mL_law d 876 (vr o :: r) (vr o :: S) M Q) : MW mL_law d 875 (vr o :: r) S M Q := mw_aload_n ⟨dL_law_875, rfl⟩ rfl k
theorem dL_law_876 : decode cL_law 876 = .ok (.iload_n 3, 1) := dk_29 (dk_at dksL_law_31 20 rfl rfl)
theorem iL_law_876 {d : Nat} {r S : List MV} {M : MH} {Q : Out → MH → Prop} {w0 w1 w2 : MV} {z : Int} (k : MW mL_law d 877 (w0 :: w1 :: w2 :: vi z :: r) (vi z :: S) M Q) : MW mL_law d 876 (w0 :: w1 :: w2 :: vi z :: r) S M Q := mw_iload_n ⟨dL_law_876, rfl⟩ rfl k
theorem dL_law_877 : decode cL_law 877 = .ok (.iconst 2, 1) := dk_5 (dk_at dksL_law_31 21 rfl rfl)
theorem iL_law_877 {d : Nat} {L S : List MV} {M : MH} {Q : Out → MH → Prop}  (k : MW mL_law d 878 (L) (vi 2 :: S) M Q) : MW mL_law d 877 (L) S M Q := mw_iconst ⟨dL_law_877, rfl⟩ k
theorem dL_law_878 : decode cL_law 878 = .ok (.iadd, 1) := dk_96 (dk_at dksL_law_31 22 rfl rfl)
theorem iL_law_878 {d : Nat} {L S : List MV} {M : MH} {Q : Out → MH → Prop} {a b : Int} (k : MW mL_law d 879 (L) (vi (a + b) :: S) M Q) : MW mL_law d 878 (L) (vi b :: vi a :: S) M Q := mw_iadd ⟨dL_law_878, rfl⟩ k
theorem dL_law_879 : decode cL_law 879 = .ok (.iaload, 1) := dk_46 (dk_at dksL_law_31 23 rfl rfl)
theorem iL_law_879 {d : Nat} {L S : List MV} {M : MH} {Q : Out → MH → Prop} {a n : Nat} {z : Int} (hs : msh M a = (100, n)) (hi : 0 ≤ z ∧ z < n) (k : MW mL_law d 880 L (vi (miv M a z.toNat) :: S) M Q) (hn : Nat.ble n 2147483647 = true := by rfl) : MW mL_law d 879 L (vi z :: vp a :: S) M Q := mw_iaload ⟨dL_law_879, rfl⟩ hs (Nat.le_of_ble_eq_true hn) hi k
theorem dL_law_880 : decode cL_law 880 = .ok (.invokevirtual 112, 3) := dk_182 0 112 (dk_at dksL_law_32 0 rfl rfl)
theorem iL_law_880 {d : Nat} {L S : List MV} {M : MH} {Q : Out → MH → Prop} {v1 v2 : MV} {b : Nat} {P : Int → MH → Prop} (hs : (msh M b).1 = 10) (hM : MCi mX7_come d [vp b, v1, v2] M P) (k : ∀ z M', P z M' → MW mL_law (d + 1) 883 L (vi z :: S) M' Q) (h8 : Nat.ble (S.map mcat).sum 8 = true := by rfl) : MW mL_law (d + 1) 880 L (v2 :: v1 :: vp b :: S) M Q := mw_calli (as := [vp b, v1, v2]) (site_V (Y' := mX7_come) (n := 2) ⟨dL_law_880, rfl⟩ (Or.inl q1508) q1509 q1510 wX7_come nX7_come hX7_come (cls_of (ci := 10) rfl hs) rfl) kX7_come (Nat.le_of_ble_eq_true h8) hM k
theorem dL_law_883 : decode cL_law 883 = .ok (.if_icmp .eq 405, 3) := dk_159 1 149 (dk_at dksL_law_32 3 rfl rfl)
theorem iL_law_883 {d : Nat} {L S : List MV} {M : MH} {Q : Out → MH → Prop} {a b : Int} (ha : inR a) (hb : inR b) (kt : a = b → MW mL_law d 1288 L S M Q) (kf : ¬ a = b → MW mL_law d 886 L S M Q) : MW mL_law d 883 L (vi b :: vi a :: S) M Q := mw_icmp_eq ⟨dL_law_883, rfl⟩ rfl ha hb kt kf
theorem dL_law_886 : decode cL_law 886 = .ok (.iconst 0, 1) := dk_3 (dk_at dksL_law_32 6 rfl rfl)
theorem iL_law_886 {d : Nat} {L S : List MV} {M : MH} {Q : Out → MH → Prop}  (k : MW mL_law d 887 (L) (vi 0 :: S) M Q) : MW mL_law d 886 (L) S M Q := mw_iconst ⟨dL_law_886, rfl⟩ k
theorem dL_law_887 : decode cL_law 887 = .ok (.ireturn, 1) := dk_172 (dk_at dksL_law_32 7 rfl rfl)
theorem iL_law_887 {d : Nat} {L : List MV} {M : MH} {P : Int → MH → Prop} {z : Int} (hz : z = 0 ∨ z = 1) (hq : P z M) : MW mL_law d 887 L [vi z] M (Ri P) := mw_retz ⟨dL_law_887, rfl⟩ rfl hz hq
theorem dL_law_888 : decode cL_law 888 = .ok (.aload_n 1, 1) := dk_43 (dk_at dksL_law_32 8 rfl rfl)
theorem iL_law_888 {d : Nat} {r S : List MV} {M : MH} {Q : Out → MH → Prop} {w0 : MV} {o : Option Nat} (k : MW mL_law d 889 (w0 :: vr o :: r) (vr o :: S) M Q) : MW mL_law d 888 (w0 :: vr o :: r) S M Q := mw_aload_n ⟨dL_law_888, rfl⟩ rfl k
theorem dL_law_889 : decode cL_law 889 = .ok (.aload_n 0, 1) := dk_42 (dk_at dksL_law_32 9 rfl rfl)
theorem iL_law_889 {d : Nat} {r S : List MV} {M : MH} {Q : Out → MH → Prop} {o : Option Nat} (k : MW mL_law d 890 (vr o :: r) (vr o :: S) M Q) : MW mL_law d 889 (vr o :: r) S M Q := mw_aload_n ⟨dL_law_889, rfl⟩ rfl k
theorem dL_law_890 : decode cL_law 890 = .ok (.iload_n 3, 1) := dk_29 (dk_at dksL_law_32 10 rfl rfl)
theorem iL_law_890 {d : Nat} {r S : List MV} {M : MH} {Q : Out → MH → Prop} {w0 w1 w2 : MV} {z : Int} (k : MW mL_law d 891 (w0 :: w1 :: w2 :: vi z :: r) (vi z :: S) M Q) : MW mL_law d 890 (w0 :: w1 :: w2 :: vi z :: r) S M Q := mw_iload_n ⟨dL_law_890, rfl⟩ rfl k
theorem dL_law_891 : decode cL_law 891 = .ok (.iconst 1, 1) := dk_4 (dk_at dksL_law_32 11 rfl rfl)
theorem iL_law_891 {d : Nat} {L S : List MV} {M : MH} {Q : Out → MH → Prop}  (k : MW mL_law d 892 (L) (vi 1 :: S) M Q) : MW mL_law d 891 (L) S M Q := mw_iconst ⟨dL_law_891, rfl⟩ k
theorem dL_law_892 : decode cL_law 892 = .ok (.iadd, 1) := dk_96 (dk_at dksL_law_32 12 rfl rfl)
theorem iL_law_892 {d : Nat} {L S : List MV} {M : MH} {Q : Out → MH → Prop} {a b : Int} (k : MW mL_law d 893 (L) (vi (a + b) :: S) M Q) : MW mL_law d 892 (L) (vi b :: vi a :: S) M Q := mw_iadd ⟨dL_law_892, rfl⟩ k
theorem dL_law_893 : decode cL_law 893 = .ok (.iaload, 1) := dk_46 (dk_at dksL_law_32 13 rfl rfl)
theorem iL_law_893 {d : Nat} {L S : List MV} {M : MH} {Q : Out → MH → Prop} {a n : Nat} {z : Int} (hs : msh M a = (100, n)) (hi : 0 ≤ z ∧ z < n) (k : MW mL_law d 894 L (vi (miv M a z.toNat) :: S) M Q) (hn : Nat.ble n 2147483647 = true := by rfl) : MW mL_law d 893 L (vi z :: vp a :: S) M Q := mw_iaload ⟨dL_law_893, rfl⟩ hs (Nat.le_of_ble_eq_true hn) hi k
theorem dL_law_894 : decode cL_law 894 = .ok (.aload_n 0, 1) := dk_42 (dk_at dksL_law_32 14 rfl rfl)
theorem iL_law_894 {d : Nat} {r S : List MV} {M : MH} {Q : Out → MH → Prop} {o : Option Nat} (k : MW mL_law d 895 (vr o :: r) (vr o :: S) M Q) : MW mL_law d 894 (vr o :: r) S M Q := mw_aload_n ⟨dL_law_894, rfl⟩ rfl k
theorem dL_law_895 : decode cL_law 895 = .ok (.iload_n 3, 1) := dk_29 (dk_at dksL_law_32 15 rfl rfl)
theorem iL_law_895 {d : Nat} {r S : List MV} {M : MH} {Q : Out → MH → Prop} {w0 w1 w2 : MV} {z : Int} (k : MW mL_law d 896 (w0 :: w1 :: w2 :: vi z :: r) (vi z :: S) M Q) : MW mL_law d 895 (w0 :: w1 :: w2 :: vi z :: r) S M Q := mw_iload_n ⟨dL_law_895, rfl⟩ rfl k
theorem dL_law_896 : decode cL_law 896 = .ok (.iconst 2, 1) := dk_5 (dk_at dksL_law_32 16 rfl rfl)
theorem iL_law_896 {d : Nat} {L S : List MV} {M : MH} {Q : Out → MH → Prop}  (k : MW mL_law d 897 (L) (vi 2 :: S) M Q) : MW mL_law d 896 (L) S M Q := mw_iconst ⟨dL_law_896, rfl⟩ k
theorem dL_law_897 : decode cL_law 897 = .ok (.iadd, 1) := dk_96 (dk_at dksL_law_32 17 rfl rfl)
theorem iL_law_897 {d : Nat} {L S : List MV} {M : MH} {Q : Out → MH → Prop} {a b : Int} (k : MW mL_law d 898 (L) (vi (a + b) :: S) M Q) : MW mL_law d 897 (L) (vi b :: vi a :: S) M Q := mw_iadd ⟨dL_law_897, rfl⟩ k
theorem dL_law_898 : decode cL_law 898 = .ok (.iaload, 1) := dk_46 (dk_at dksL_law_32 18 rfl rfl)
theorem iL_law_898 {d : Nat} {L S : List MV} {M : MH} {Q : Out → MH → Prop} {a n : Nat} {z : Int} (hs : msh M a = (100, n)) (hi : 0 ≤ z ∧ z < n) (k : MW mL_law d 899 L (vi (miv M a z.toNat) :: S) M Q) (hn : Nat.ble n 2147483647 = true := by rfl) : MW mL_law d 898 L (vi z :: vp a :: S) M Q := mw_iaload ⟨dL_law_898, rfl⟩ hs (Nat.le_of_ble_eq_true hn) hi k
theorem dL_law_899 : decode cL_law 899 = .ok (.invokevirtual 113, 3) := dk_182 0 113 (dk_at dksL_law_32 19 rfl rfl)
theorem iL_law_899 {d : Nat} {L S : List MV} {M : MH} {Q : Out → MH → Prop} {v1 v2 : MV} {b : Nat} {P : Int → MH → Prop} (hs : (msh M b).1 = 0) (hM : MCi mX0_invite d [vp b, v1, v2] M P) (k : ∀ z M', P z M' → MW mL_law (d + 1) 902 L (vi z :: S) M' Q) (h8 : Nat.ble (S.map mcat).sum 8 = true := by rfl) : MW mL_law (d + 1) 899 L (v2 :: v1 :: vp b :: S) M Q := mw_calli (as := [vp b, v1, v2]) (site_V (Y' := mX0_invite) (n := 2) ⟨dL_law_899, rfl⟩ (Or.inl q994) q995 q996 wX0_invite nX0_invite hX0_invite (cls_of (ci := 0) rfl hs) rfl) kX0_invite (Nat.le_of_ble_eq_true h8) hM k
theorem dL_law_902 : decode cL_law 902 = .ok (.aload_n 2, 1) := dk_44 (dk_at dksL_law_32 22 rfl rfl)
theorem iL_law_902 {d : Nat} {r S : List MV} {M : MH} {Q : Out → MH → Prop} {w0 w1 : MV} {o : Option Nat} (k : MW mL_law d 903 (w0 :: w1 :: vr o :: r) (vr o :: S) M Q) : MW mL_law d 902 (w0 :: w1 :: vr o :: r) S M Q := mw_aload_n ⟨dL_law_902, rfl⟩ rfl k
theorem dL_law_903 : decode cL_law 903 = .ok (.aload_n 0, 1) := dk_42 (dk_at dksL_law_32 23 rfl rfl)
theorem iL_law_903 {d : Nat} {r S : List MV} {M : MH} {Q : Out → MH → Prop} {o : Option Nat} (k : MW mL_law d 904 (vr o :: r) (vr o :: S) M Q) : MW mL_law d 903 (vr o :: r) S M Q := mw_aload_n ⟨dL_law_903, rfl⟩ rfl k
theorem dL_law_904 : decode cL_law 904 = .ok (.iload_n 3, 1) := dk_29 (dk_at dksL_law_33 0 rfl rfl)
theorem iL_law_904 {d : Nat} {r S : List MV} {M : MH} {Q : Out → MH → Prop} {w0 w1 w2 : MV} {z : Int} (k : MW mL_law d 905 (w0 :: w1 :: w2 :: vi z :: r) (vi z :: S) M Q) : MW mL_law d 904 (w0 :: w1 :: w2 :: vi z :: r) S M Q := mw_iload_n ⟨dL_law_904, rfl⟩ rfl k
theorem dL_law_905 : decode cL_law 905 = .ok (.iconst 1, 1) := dk_4 (dk_at dksL_law_33 1 rfl rfl)
theorem iL_law_905 {d : Nat} {L S : List MV} {M : MH} {Q : Out → MH → Prop}  (k : MW mL_law d 906 (L) (vi 1 :: S) M Q) : MW mL_law d 905 (L) S M Q := mw_iconst ⟨dL_law_905, rfl⟩ k
theorem dL_law_906 : decode cL_law 906 = .ok (.iadd, 1) := dk_96 (dk_at dksL_law_33 2 rfl rfl)
theorem iL_law_906 {d : Nat} {L S : List MV} {M : MH} {Q : Out → MH → Prop} {a b : Int} (k : MW mL_law d 907 (L) (vi (a + b) :: S) M Q) : MW mL_law d 906 (L) (vi b :: vi a :: S) M Q := mw_iadd ⟨dL_law_906, rfl⟩ k
theorem dL_law_907 : decode cL_law 907 = .ok (.iaload, 1) := dk_46 (dk_at dksL_law_33 3 rfl rfl)
theorem iL_law_907 {d : Nat} {L S : List MV} {M : MH} {Q : Out → MH → Prop} {a n : Nat} {z : Int} (hs : msh M a = (100, n)) (hi : 0 ≤ z ∧ z < n) (k : MW mL_law d 908 L (vi (miv M a z.toNat) :: S) M Q) (hn : Nat.ble n 2147483647 = true := by rfl) : MW mL_law d 907 L (vi z :: vp a :: S) M Q := mw_iaload ⟨dL_law_907, rfl⟩ hs (Nat.le_of_ble_eq_true hn) hi k
theorem dL_law_908 : decode cL_law 908 = .ok (.aload_n 0, 1) := dk_42 (dk_at dksL_law_33 4 rfl rfl)
theorem iL_law_908 {d : Nat} {r S : List MV} {M : MH} {Q : Out → MH → Prop} {o : Option Nat} (k : MW mL_law d 909 (vr o :: r) (vr o :: S) M Q) : MW mL_law d 908 (vr o :: r) S M Q := mw_aload_n ⟨dL_law_908, rfl⟩ rfl k
theorem dL_law_909 : decode cL_law 909 = .ok (.iload_n 3, 1) := dk_29 (dk_at dksL_law_33 5 rfl rfl)
theorem iL_law_909 {d : Nat} {r S : List MV} {M : MH} {Q : Out → MH → Prop} {w0 w1 w2 : MV} {z : Int} (k : MW mL_law d 910 (w0 :: w1 :: w2 :: vi z :: r) (vi z :: S) M Q) : MW mL_law d 909 (w0 :: w1 :: w2 :: vi z :: r) S M Q := mw_iload_n ⟨dL_law_909, rfl⟩ rfl k
theorem dL_law_910 : decode cL_law 910 = .ok (.iconst 2, 1) := dk_5 (dk_at dksL_law_33 6 rfl rfl)
theorem iL_law_910 {d : Nat} {L S : List MV} {M : MH} {Q : Out → MH → Prop}  (k : MW mL_law d 911 (L) (vi 2 :: S) M Q) : MW mL_law d 910 (L) S M Q := mw_iconst ⟨dL_law_910, rfl⟩ k
theorem dL_law_911 : decode cL_law 911 = .ok (.iadd, 1) := dk_96 (dk_at dksL_law_33 7 rfl rfl)
theorem iL_law_911 {d : Nat} {L S : List MV} {M : MH} {Q : Out → MH → Prop} {a b : Int} (k : MW mL_law d 912 (L) (vi (a + b) :: S) M Q) : MW mL_law d 911 (L) (vi b :: vi a :: S) M Q := mw_iadd ⟨dL_law_911, rfl⟩ k
theorem dL_law_912 : decode cL_law 912 = .ok (.iaload, 1) := dk_46 (dk_at dksL_law_33 8 rfl rfl)
theorem iL_law_912 {d : Nat} {L S : List MV} {M : MH} {Q : Out → MH → Prop} {a n : Nat} {z : Int} (hs : msh M a = (100, n)) (hi : 0 ≤ z ∧ z < n) (k : MW mL_law d 913 L (vi (miv M a z.toNat) :: S) M Q) (hn : Nat.ble n 2147483647 = true := by rfl) : MW mL_law d 912 L (vi z :: vp a :: S) M Q := mw_iaload ⟨dL_law_912, rfl⟩ hs (Nat.le_of_ble_eq_true hn) hi k
theorem dL_law_913 : decode cL_law 913 = .ok (.invokevirtual 116, 3) := dk_182 0 116 (dk_at dksL_law_33 9 rfl rfl)
theorem iL_law_913 {d : Nat} {L S : List MV} {M : MH} {Q : Out → MH → Prop} {v1 v2 : MV} {b : Nat} {P : Int → MH → Prop} (hs : (msh M b).1 = 10) (hM : MCi mX7_invite d [vp b, v1, v2] M P) (k : ∀ z M', P z M' → MW mL_law (d + 1) 916 L (vi z :: S) M' Q) (h8 : Nat.ble (S.map mcat).sum 8 = true := by rfl) : MW mL_law (d + 1) 913 L (v2 :: v1 :: vp b :: S) M Q := mw_calli (as := [vp b, v1, v2]) (site_V (Y' := mX7_invite) (n := 2) ⟨dL_law_913, rfl⟩ (Or.inl q1516) q1517 q1518 wX7_invite nX7_invite hX7_invite (cls_of (ci := 10) rfl hs) rfl) kX7_invite (Nat.le_of_ble_eq_true h8) hM k
theorem dL_law_916 : decode cL_law 916 = .ok (.if_icmp .eq 372, 3) := dk_159 1 116 (dk_at dksL_law_33 12 rfl rfl)
theorem iL_law_916 {d : Nat} {L S : List MV} {M : MH} {Q : Out → MH → Prop} {a b : Int} (ha : inR a) (hb : inR b) (kt : a = b → MW mL_law d 1288 L S M Q) (kf : ¬ a = b → MW mL_law d 919 L S M Q) : MW mL_law d 916 L (vi b :: vi a :: S) M Q := mw_icmp_eq ⟨dL_law_916, rfl⟩ rfl ha hb kt kf
theorem dL_law_919 : decode cL_law 919 = .ok (.iconst 0, 1) := dk_3 (dk_at dksL_law_33 15 rfl rfl)
theorem iL_law_919 {d : Nat} {L S : List MV} {M : MH} {Q : Out → MH → Prop}  (k : MW mL_law d 920 (L) (vi 0 :: S) M Q) : MW mL_law d 919 (L) S M Q := mw_iconst ⟨dL_law_919, rfl⟩ k
theorem dL_law_920 : decode cL_law 920 = .ok (.ireturn, 1) := dk_172 (dk_at dksL_law_33 16 rfl rfl)
theorem iL_law_920 {d : Nat} {L : List MV} {M : MH} {P : Int → MH → Prop} {z : Int} (hz : z = 0 ∨ z = 1) (hq : P z M) : MW mL_law d 920 L [vi z] M (Ri P) := mw_retz ⟨dL_law_920, rfl⟩ rfl hz hq
theorem dL_law_921 : decode cL_law 921 = .ok (.aload_n 1, 1) := dk_43 (dk_at dksL_law_33 17 rfl rfl)
theorem iL_law_921 {d : Nat} {r S : List MV} {M : MH} {Q : Out → MH → Prop} {w0 : MV} {o : Option Nat} (k : MW mL_law d 922 (w0 :: vr o :: r) (vr o :: S) M Q) : MW mL_law d 921 (w0 :: vr o :: r) S M Q := mw_aload_n ⟨dL_law_921, rfl⟩ rfl k
theorem dL_law_922 : decode cL_law 922 = .ok (.aload_n 0, 1) := dk_42 (dk_at dksL_law_33 18 rfl rfl)
theorem iL_law_922 {d : Nat} {r S : List MV} {M : MH} {Q : Out → MH → Prop} {o : Option Nat} (k : MW mL_law d 923 (vr o :: r) (vr o :: S) M Q) : MW mL_law d 922 (vr o :: r) S M Q := mw_aload_n ⟨dL_law_922, rfl⟩ rfl k
theorem dL_law_923 : decode cL_law 923 = .ok (.iload_n 3, 1) := dk_29 (dk_at dksL_law_33 19 rfl rfl)
theorem iL_law_923 {d : Nat} {r S : List MV} {M : MH} {Q : Out → MH → Prop} {w0 w1 w2 : MV} {z : Int} (k : MW mL_law d 924 (w0 :: w1 :: w2 :: vi z :: r) (vi z :: S) M Q) : MW mL_law d 923 (w0 :: w1 :: w2 :: vi z :: r) S M Q := mw_iload_n ⟨dL_law_923, rfl⟩ rfl k
theorem dL_law_924 : decode cL_law 924 = .ok (.iconst 1, 1) := dk_4 (dk_at dksL_law_33 20 rfl rfl)
theorem iL_law_924 {d : Nat} {L S : List MV} {M : MH} {Q : Out → MH → Prop}  (k : MW mL_law d 925 (L) (vi 1 :: S) M Q) : MW mL_law d 924 (L) S M Q := mw_iconst ⟨dL_law_924, rfl⟩ k
theorem dL_law_925 : decode cL_law 925 = .ok (.iadd, 1) := dk_96 (dk_at dksL_law_33 21 rfl rfl)
theorem iL_law_925 {d : Nat} {L S : List MV} {M : MH} {Q : Out → MH → Prop} {a b : Int} (k : MW mL_law d 926 (L) (vi (a + b) :: S) M Q) : MW mL_law d 925 (L) (vi b :: vi a :: S) M Q := mw_iadd ⟨dL_law_925, rfl⟩ k
theorem dL_law_926 : decode cL_law 926 = .ok (.iaload, 1) := dk_46 (dk_at dksL_law_33 22 rfl rfl)
theorem iL_law_926 {d : Nat} {L S : List MV} {M : MH} {Q : Out → MH → Prop} {a n : Nat} {z : Int} (hs : msh M a = (100, n)) (hi : 0 ≤ z ∧ z < n) (k : MW mL_law d 927 L (vi (miv M a z.toNat) :: S) M Q) (hn : Nat.ble n 2147483647 = true := by rfl) : MW mL_law d 926 L (vi z :: vp a :: S) M Q := mw_iaload ⟨dL_law_926, rfl⟩ hs (Nat.le_of_ble_eq_true hn) hi k
theorem dL_law_927 : decode cL_law 927 = .ok (.aload_n 0, 1) := dk_42 (dk_at dksL_law_33 23 rfl rfl)
theorem iL_law_927 {d : Nat} {r S : List MV} {M : MH} {Q : Out → MH → Prop} {o : Option Nat} (k : MW mL_law d 928 (vr o :: r) (vr o :: S) M Q) : MW mL_law d 927 (vr o :: r) S M Q := mw_aload_n ⟨dL_law_927, rfl⟩ rfl k
theorem dL_law_928 : decode cL_law 928 = .ok (.iload_n 3, 1) := dk_29 (dk_at dksL_law_34 0 rfl rfl)
theorem iL_law_928 {d : Nat} {r S : List MV} {M : MH} {Q : Out → MH → Prop} {w0 w1 w2 : MV} {z : Int} (k : MW mL_law d 929 (w0 :: w1 :: w2 :: vi z :: r) (vi z :: S) M Q) : MW mL_law d 928 (w0 :: w1 :: w2 :: vi z :: r) S M Q := mw_iload_n ⟨dL_law_928, rfl⟩ rfl k
theorem dL_law_929 : decode cL_law 929 = .ok (.iconst 2, 1) := dk_5 (dk_at dksL_law_34 1 rfl rfl)
theorem iL_law_929 {d : Nat} {L S : List MV} {M : MH} {Q : Out → MH → Prop}  (k : MW mL_law d 930 (L) (vi 2 :: S) M Q) : MW mL_law d 929 (L) S M Q := mw_iconst ⟨dL_law_929, rfl⟩ k
theorem dL_law_930 : decode cL_law 930 = .ok (.iadd, 1) := dk_96 (dk_at dksL_law_34 2 rfl rfl)
theorem iL_law_930 {d : Nat} {L S : List MV} {M : MH} {Q : Out → MH → Prop} {a b : Int} (k : MW mL_law d 931 (L) (vi (a + b) :: S) M Q) : MW mL_law d 930 (L) (vi b :: vi a :: S) M Q := mw_iadd ⟨dL_law_930, rfl⟩ k
theorem dL_law_931 : decode cL_law 931 = .ok (.iaload, 1) := dk_46 (dk_at dksL_law_34 3 rfl rfl)
theorem iL_law_931 {d : Nat} {L S : List MV} {M : MH} {Q : Out → MH → Prop} {a n : Nat} {z : Int} (hs : msh M a = (100, n)) (hi : 0 ≤ z ∧ z < n) (k : MW mL_law d 932 L (vi (miv M a z.toNat) :: S) M Q) (hn : Nat.ble n 2147483647 = true := by rfl) : MW mL_law d 931 L (vi z :: vp a :: S) M Q := mw_iaload ⟨dL_law_931, rfl⟩ hs (Nat.le_of_ble_eq_true hn) hi k
theorem dL_law_932 : decode cL_law 932 = .ok (.invokevirtual 117, 3) := dk_182 0 117 (dk_at dksL_law_34 4 rfl rfl)
theorem iL_law_932 {d : Nat} {L S : List MV} {M : MH} {Q : Out → MH → Prop} {v1 v2 : MV} {b : Nat} {P : Int → MH → Prop} (hs : (msh M b).1 = 0) (hM : MCi mX0_fact d [vp b, v1, v2] M P) (k : ∀ z M', P z M' → MW mL_law (d + 1) 935 L (vi z :: S) M' Q) (h8 : Nat.ble (S.map mcat).sum 8 = true := by rfl) : MW mL_law (d + 1) 932 L (v2 :: v1 :: vp b :: S) M Q := mw_calli (as := [vp b, v1, v2]) (site_V (Y' := mX0_fact) (n := 2) ⟨dL_law_932, rfl⟩ (Or.inl q1003) q1004 q1005 wX0_fact nX0_fact hX0_fact (cls_of (ci := 0) rfl hs) rfl) kX0_fact (Nat.le_of_ble_eq_true h8) hM k
theorem dL_law_935 : decode cL_law 935 = .ok (.aload_n 2, 1) := dk_44 (dk_at dksL_law_34 7 rfl rfl)
theorem iL_law_935 {d : Nat} {r S : List MV} {M : MH} {Q : Out → MH → Prop} {w0 w1 : MV} {o : Option Nat} (k : MW mL_law d 936 (w0 :: w1 :: vr o :: r) (vr o :: S) M Q) : MW mL_law d 935 (w0 :: w1 :: vr o :: r) S M Q := mw_aload_n ⟨dL_law_935, rfl⟩ rfl k
theorem dL_law_936 : decode cL_law 936 = .ok (.aload_n 0, 1) := dk_42 (dk_at dksL_law_34 8 rfl rfl)
theorem iL_law_936 {d : Nat} {r S : List MV} {M : MH} {Q : Out → MH → Prop} {o : Option Nat} (k : MW mL_law d 937 (vr o :: r) (vr o :: S) M Q) : MW mL_law d 936 (vr o :: r) S M Q := mw_aload_n ⟨dL_law_936, rfl⟩ rfl k
theorem dL_law_937 : decode cL_law 937 = .ok (.iload_n 3, 1) := dk_29 (dk_at dksL_law_34 9 rfl rfl)
theorem iL_law_937 {d : Nat} {r S : List MV} {M : MH} {Q : Out → MH → Prop} {w0 w1 w2 : MV} {z : Int} (k : MW mL_law d 938 (w0 :: w1 :: w2 :: vi z :: r) (vi z :: S) M Q) : MW mL_law d 937 (w0 :: w1 :: w2 :: vi z :: r) S M Q := mw_iload_n ⟨dL_law_937, rfl⟩ rfl k
theorem dL_law_938 : decode cL_law 938 = .ok (.iconst 1, 1) := dk_4 (dk_at dksL_law_34 10 rfl rfl)
theorem iL_law_938 {d : Nat} {L S : List MV} {M : MH} {Q : Out → MH → Prop}  (k : MW mL_law d 939 (L) (vi 1 :: S) M Q) : MW mL_law d 938 (L) S M Q := mw_iconst ⟨dL_law_938, rfl⟩ k
theorem dL_law_939 : decode cL_law 939 = .ok (.iadd, 1) := dk_96 (dk_at dksL_law_34 11 rfl rfl)
theorem iL_law_939 {d : Nat} {L S : List MV} {M : MH} {Q : Out → MH → Prop} {a b : Int} (k : MW mL_law d 940 (L) (vi (a + b) :: S) M Q) : MW mL_law d 939 (L) (vi b :: vi a :: S) M Q := mw_iadd ⟨dL_law_939, rfl⟩ k
theorem dL_law_940 : decode cL_law 940 = .ok (.iaload, 1) := dk_46 (dk_at dksL_law_34 12 rfl rfl)
theorem iL_law_940 {d : Nat} {L S : List MV} {M : MH} {Q : Out → MH → Prop} {a n : Nat} {z : Int} (hs : msh M a = (100, n)) (hi : 0 ≤ z ∧ z < n) (k : MW mL_law d 941 L (vi (miv M a z.toNat) :: S) M Q) (hn : Nat.ble n 2147483647 = true := by rfl) : MW mL_law d 940 L (vi z :: vp a :: S) M Q := mw_iaload ⟨dL_law_940, rfl⟩ hs (Nat.le_of_ble_eq_true hn) hi k
theorem dL_law_941 : decode cL_law 941 = .ok (.aload_n 0, 1) := dk_42 (dk_at dksL_law_34 13 rfl rfl)
theorem iL_law_941 {d : Nat} {r S : List MV} {M : MH} {Q : Out → MH → Prop} {o : Option Nat} (k : MW mL_law d 942 (vr o :: r) (vr o :: S) M Q) : MW mL_law d 941 (vr o :: r) S M Q := mw_aload_n ⟨dL_law_941, rfl⟩ rfl k
theorem dL_law_942 : decode cL_law 942 = .ok (.iload_n 3, 1) := dk_29 (dk_at dksL_law_34 14 rfl rfl)
theorem iL_law_942 {d : Nat} {r S : List MV} {M : MH} {Q : Out → MH → Prop} {w0 w1 w2 : MV} {z : Int} (k : MW mL_law d 943 (w0 :: w1 :: w2 :: vi z :: r) (vi z :: S) M Q) : MW mL_law d 942 (w0 :: w1 :: w2 :: vi z :: r) S M Q := mw_iload_n ⟨dL_law_942, rfl⟩ rfl k
theorem dL_law_943 : decode cL_law 943 = .ok (.iconst 2, 1) := dk_5 (dk_at dksL_law_34 15 rfl rfl)
theorem iL_law_943 {d : Nat} {L S : List MV} {M : MH} {Q : Out → MH → Prop}  (k : MW mL_law d 944 (L) (vi 2 :: S) M Q) : MW mL_law d 943 (L) S M Q := mw_iconst ⟨dL_law_943, rfl⟩ k
theorem dL_law_944 : decode cL_law 944 = .ok (.iadd, 1) := dk_96 (dk_at dksL_law_34 16 rfl rfl)
theorem iL_law_944 {d : Nat} {L S : List MV} {M : MH} {Q : Out → MH → Prop} {a b : Int} (k : MW mL_law d 945 (L) (vi (a + b) :: S) M Q) : MW mL_law d 944 (L) (vi b :: vi a :: S) M Q := mw_iadd ⟨dL_law_944, rfl⟩ k
theorem dL_law_945 : decode cL_law 945 = .ok (.iaload, 1) := dk_46 (dk_at dksL_law_34 17 rfl rfl)
theorem iL_law_945 {d : Nat} {L S : List MV} {M : MH} {Q : Out → MH → Prop} {a n : Nat} {z : Int} (hs : msh M a = (100, n)) (hi : 0 ≤ z ∧ z < n) (k : MW mL_law d 946 L (vi (miv M a z.toNat) :: S) M Q) (hn : Nat.ble n 2147483647 = true := by rfl) : MW mL_law d 945 L (vi z :: vp a :: S) M Q := mw_iaload ⟨dL_law_945, rfl⟩ hs (Nat.le_of_ble_eq_true hn) hi k
theorem dL_law_946 : decode cL_law 946 = .ok (.invokevirtual 120, 3) := dk_182 0 120 (dk_at dksL_law_34 18 rfl rfl)
theorem iL_law_946 {d : Nat} {L S : List MV} {M : MH} {Q : Out → MH → Prop} {v1 v2 : MV} {b : Nat} {P : Int → MH → Prop} (hs : (msh M b).1 = 10) (hM : MCi mX7_fact d [vp b, v1, v2] M P) (k : ∀ z M', P z M' → MW mL_law (d + 1) 949 L (vi z :: S) M' Q) (h8 : Nat.ble (S.map mcat).sum 8 = true := by rfl) : MW mL_law (d + 1) 946 L (v2 :: v1 :: vp b :: S) M Q := mw_calli (as := [vp b, v1, v2]) (site_V (Y' := mX7_fact) (n := 2) ⟨dL_law_946, rfl⟩ (Or.inl q1527) q1528 q1529 wX7_fact nX7_fact hX7_fact (cls_of (ci := 10) rfl hs) rfl) kX7_fact (Nat.le_of_ble_eq_true h8) hM k
theorem dL_law_949 : decode cL_law 949 = .ok (.if_icmp .eq 339, 3) := dk_159 1 83 (dk_at dksL_law_34 21 rfl rfl)
theorem iL_law_949 {d : Nat} {L S : List MV} {M : MH} {Q : Out → MH → Prop} {a b : Int} (ha : inR a) (hb : inR b) (kt : a = b → MW mL_law d 1288 L S M Q) (kf : ¬ a = b → MW mL_law d 952 L S M Q) : MW mL_law d 949 L (vi b :: vi a :: S) M Q := mw_icmp_eq ⟨dL_law_949, rfl⟩ rfl ha hb kt kf
theorem dL_law_952 : decode cL_law 952 = .ok (.iconst 0, 1) := dk_3 (dk_at dksL_law_35 0 rfl rfl)
theorem iL_law_952 {d : Nat} {L S : List MV} {M : MH} {Q : Out → MH → Prop}  (k : MW mL_law d 953 (L) (vi 0 :: S) M Q) : MW mL_law d 952 (L) S M Q := mw_iconst ⟨dL_law_952, rfl⟩ k
theorem dL_law_953 : decode cL_law 953 = .ok (.ireturn, 1) := dk_172 (dk_at dksL_law_35 1 rfl rfl)
theorem iL_law_953 {d : Nat} {L : List MV} {M : MH} {P : Int → MH → Prop} {z : Int} (hz : z = 0 ∨ z = 1) (hq : P z M) : MW mL_law d 953 L [vi z] M (Ri P) := mw_retz ⟨dL_law_953, rfl⟩ rfl hz hq
theorem dL_law_954 : decode cL_law 954 = .ok (.aload_n 1, 1) := dk_43 (dk_at dksL_law_35 2 rfl rfl)
theorem iL_law_954 {d : Nat} {r S : List MV} {M : MH} {Q : Out → MH → Prop} {w0 : MV} {o : Option Nat} (k : MW mL_law d 955 (w0 :: vr o :: r) (vr o :: S) M Q) : MW mL_law d 954 (w0 :: vr o :: r) S M Q := mw_aload_n ⟨dL_law_954, rfl⟩ rfl k
theorem dL_law_955 : decode cL_law 955 = .ok (.invokevirtual 121, 3) := dk_182 0 121 (dk_at dksL_law_35 3 rfl rfl)
theorem iL_law_955 {d : Nat} {L S : List MV} {M : MH} {Q : Out → MH → Prop} {b : Nat} {P : Int → MH → Prop} (hs : (msh M b).1 = 0) (hM : MCi mX0_forget d [vp b] M P) (k : ∀ z M', P z M' → MW mL_law (d + 1) 958 L (vi z :: S) M' Q) (h8 : Nat.ble (S.map mcat).sum 8 = true := by rfl) : MW mL_law (d + 1) 955 L (vp b :: S) M Q := mw_calli (as := [vp b]) (site_V (Y' := mX0_forget) (n := 0) ⟨dL_law_955, rfl⟩ (Or.inl q1009) q1010 q1011 wX0_forget nX0_forget hX0_forget (cls_of (ci := 0) rfl hs) rfl) kX0_forget (Nat.le_of_ble_eq_true h8) hM k
theorem dL_law_958 : decode cL_law 958 = .ok (.aload_n 2, 1) := dk_44 (dk_at dksL_law_35 6 rfl rfl)
theorem iL_law_958 {d : Nat} {r S : List MV} {M : MH} {Q : Out → MH → Prop} {w0 w1 : MV} {o : Option Nat} (k : MW mL_law d 959 (w0 :: w1 :: vr o :: r) (vr o :: S) M Q) : MW mL_law d 958 (w0 :: w1 :: vr o :: r) S M Q := mw_aload_n ⟨dL_law_958, rfl⟩ rfl k
theorem dL_law_959 : decode cL_law 959 = .ok (.invokevirtual 124, 3) := dk_182 0 124 (dk_at dksL_law_35 7 rfl rfl)
theorem iL_law_959 {d : Nat} {L S : List MV} {M : MH} {Q : Out → MH → Prop} {b : Nat} {P : Int → MH → Prop} (hs : (msh M b).1 = 10) (hM : MCi mX7_forget d [vp b] M P) (k : ∀ z M', P z M' → MW mL_law (d + 1) 962 L (vi z :: S) M' Q) (h8 : Nat.ble (S.map mcat).sum 8 = true := by rfl) : MW mL_law (d + 1) 959 L (vp b :: S) M Q := mw_calli (as := [vp b]) (site_V (Y' := mX7_forget) (n := 0) ⟨dL_law_959, rfl⟩ (Or.inl q1531) q1532 q1533 wX7_forget nX7_forget hX7_forget (cls_of (ci := 10) rfl hs) rfl) kX7_forget (Nat.le_of_ble_eq_true h8) hM k
theorem dL_law_962 : decode cL_law 962 = .ok (.if_icmp .eq 326, 3) := dk_159 1 70 (dk_at dksL_law_35 10 rfl rfl)
theorem iL_law_962 {d : Nat} {L S : List MV} {M : MH} {Q : Out → MH → Prop} {a b : Int} (ha : inR a) (hb : inR b) (kt : a = b → MW mL_law d 1288 L S M Q) (kf : ¬ a = b → MW mL_law d 965 L S M Q) : MW mL_law d 962 L (vi b :: vi a :: S) M Q := mw_icmp_eq ⟨dL_law_962, rfl⟩ rfl ha hb kt kf
theorem dL_law_965 : decode cL_law 965 = .ok (.iconst 0, 1) := dk_3 (dk_at dksL_law_35 13 rfl rfl)
theorem iL_law_965 {d : Nat} {L S : List MV} {M : MH} {Q : Out → MH → Prop}  (k : MW mL_law d 966 (L) (vi 0 :: S) M Q) : MW mL_law d 965 (L) S M Q := mw_iconst ⟨dL_law_965, rfl⟩ k
theorem dL_law_966 : decode cL_law 966 = .ok (.ireturn, 1) := dk_172 (dk_at dksL_law_35 14 rfl rfl)
theorem iL_law_966 {d : Nat} {L : List MV} {M : MH} {P : Int → MH → Prop} {z : Int} (hz : z = 0 ∨ z = 1) (hq : P z M) : MW mL_law d 966 L [vi z] M (Ri P) := mw_retz ⟨dL_law_966, rfl⟩ rfl hz hq
theorem dL_law_967 : decode cL_law 967 = .ok (.aload_n 1, 1) := dk_43 (dk_at dksL_law_35 15 rfl rfl)
theorem iL_law_967 {d : Nat} {r S : List MV} {M : MH} {Q : Out → MH → Prop} {w0 : MV} {o : Option Nat} (k : MW mL_law d 968 (w0 :: vr o :: r) (vr o :: S) M Q) : MW mL_law d 967 (w0 :: vr o :: r) S M Q := mw_aload_n ⟨dL_law_967, rfl⟩ rfl k
theorem dL_law_968 : decode cL_law 968 = .ok (.aload_n 0, 1) := dk_42 (dk_at dksL_law_35 16 rfl rfl)
theorem iL_law_968 {d : Nat} {r S : List MV} {M : MH} {Q : Out → MH → Prop} {o : Option Nat} (k : MW mL_law d 969 (vr o :: r) (vr o :: S) M Q) : MW mL_law d 968 (vr o :: r) S M Q := mw_aload_n ⟨dL_law_968, rfl⟩ rfl k
theorem dL_law_969 : decode cL_law 969 = .ok (.iload_n 3, 1) := dk_29 (dk_at dksL_law_35 17 rfl rfl)
theorem iL_law_969 {d : Nat} {r S : List MV} {M : MH} {Q : Out → MH → Prop} {w0 w1 w2 : MV} {z : Int} (k : MW mL_law d 970 (w0 :: w1 :: w2 :: vi z :: r) (vi z :: S) M Q) : MW mL_law d 969 (w0 :: w1 :: w2 :: vi z :: r) S M Q := mw_iload_n ⟨dL_law_969, rfl⟩ rfl k
theorem dL_law_970 : decode cL_law 970 = .ok (.iconst 1, 1) := dk_4 (dk_at dksL_law_35 18 rfl rfl)
theorem iL_law_970 {d : Nat} {L S : List MV} {M : MH} {Q : Out → MH → Prop}  (k : MW mL_law d 971 (L) (vi 1 :: S) M Q) : MW mL_law d 970 (L) S M Q := mw_iconst ⟨dL_law_970, rfl⟩ k
theorem dL_law_971 : decode cL_law 971 = .ok (.iadd, 1) := dk_96 (dk_at dksL_law_35 19 rfl rfl)
theorem iL_law_971 {d : Nat} {L S : List MV} {M : MH} {Q : Out → MH → Prop} {a b : Int} (k : MW mL_law d 972 (L) (vi (a + b) :: S) M Q) : MW mL_law d 971 (L) (vi b :: vi a :: S) M Q := mw_iadd ⟨dL_law_971, rfl⟩ k
theorem dL_law_972 : decode cL_law 972 = .ok (.iaload, 1) := dk_46 (dk_at dksL_law_35 20 rfl rfl)
theorem iL_law_972 {d : Nat} {L S : List MV} {M : MH} {Q : Out → MH → Prop} {a n : Nat} {z : Int} (hs : msh M a = (100, n)) (hi : 0 ≤ z ∧ z < n) (k : MW mL_law d 973 L (vi (miv M a z.toNat) :: S) M Q) (hn : Nat.ble n 2147483647 = true := by rfl) : MW mL_law d 972 L (vi z :: vp a :: S) M Q := mw_iaload ⟨dL_law_972, rfl⟩ hs (Nat.le_of_ble_eq_true hn) hi k
theorem dL_law_973 : decode cL_law 973 = .ok (.invokevirtual 125, 3) := dk_182 0 125 (dk_at dksL_law_35 21 rfl rfl)
theorem iL_law_973 {d : Nat} {L S : List MV} {M : MH} {Q : Out → MH → Prop} {v1 : MV} {b : Nat} {P : Int → MH → Prop} (hs : (msh M b).1 = 0) (hM : MCi mX0_were d [vp b, v1] M P) (k : ∀ z M', P z M' → MW mL_law (d + 1) 976 L (vi z :: S) M' Q) (h8 : Nat.ble (S.map mcat).sum 8 = true := by rfl) : MW mL_law (d + 1) 973 L (v1 :: vp b :: S) M Q := mw_calli (as := [vp b, v1]) (site_V (Y' := mX0_were) (n := 1) ⟨dL_law_973, rfl⟩ (Or.inl q1014) q1015 q1016 wX0_were nX0_were hX0_were (cls_of (ci := 0) rfl hs) rfl) kX0_were (Nat.le_of_ble_eq_true h8) hM k
theorem dL_law_976 : decode cL_law 976 = .ok (.aload_n 2, 1) := dk_44 (dk_at dksL_law_36 0 rfl rfl)
theorem iL_law_976 {d : Nat} {r S : List MV} {M : MH} {Q : Out → MH → Prop} {w0 w1 : MV} {o : Option Nat} (k : MW mL_law d 977 (w0 :: w1 :: vr o :: r) (vr o :: S) M Q) : MW mL_law d 976 (w0 :: w1 :: vr o :: r) S M Q := mw_aload_n ⟨dL_law_976, rfl⟩ rfl k
theorem dL_law_977 : decode cL_law 977 = .ok (.aload_n 0, 1) := dk_42 (dk_at dksL_law_36 1 rfl rfl)
theorem iL_law_977 {d : Nat} {r S : List MV} {M : MH} {Q : Out → MH → Prop} {o : Option Nat} (k : MW mL_law d 978 (vr o :: r) (vr o :: S) M Q) : MW mL_law d 977 (vr o :: r) S M Q := mw_aload_n ⟨dL_law_977, rfl⟩ rfl k
theorem dL_law_978 : decode cL_law 978 = .ok (.iload_n 3, 1) := dk_29 (dk_at dksL_law_36 2 rfl rfl)
theorem iL_law_978 {d : Nat} {r S : List MV} {M : MH} {Q : Out → MH → Prop} {w0 w1 w2 : MV} {z : Int} (k : MW mL_law d 979 (w0 :: w1 :: w2 :: vi z :: r) (vi z :: S) M Q) : MW mL_law d 978 (w0 :: w1 :: w2 :: vi z :: r) S M Q := mw_iload_n ⟨dL_law_978, rfl⟩ rfl k
theorem dL_law_979 : decode cL_law 979 = .ok (.iconst 1, 1) := dk_4 (dk_at dksL_law_36 3 rfl rfl)
theorem iL_law_979 {d : Nat} {L S : List MV} {M : MH} {Q : Out → MH → Prop}  (k : MW mL_law d 980 (L) (vi 1 :: S) M Q) : MW mL_law d 979 (L) S M Q := mw_iconst ⟨dL_law_979, rfl⟩ k
theorem dL_law_980 : decode cL_law 980 = .ok (.iadd, 1) := dk_96 (dk_at dksL_law_36 4 rfl rfl)
theorem iL_law_980 {d : Nat} {L S : List MV} {M : MH} {Q : Out → MH → Prop} {a b : Int} (k : MW mL_law d 981 (L) (vi (a + b) :: S) M Q) : MW mL_law d 980 (L) (vi b :: vi a :: S) M Q := mw_iadd ⟨dL_law_980, rfl⟩ k
theorem dL_law_981 : decode cL_law 981 = .ok (.iaload, 1) := dk_46 (dk_at dksL_law_36 5 rfl rfl)
theorem iL_law_981 {d : Nat} {L S : List MV} {M : MH} {Q : Out → MH → Prop} {a n : Nat} {z : Int} (hs : msh M a = (100, n)) (hi : 0 ≤ z ∧ z < n) (k : MW mL_law d 982 L (vi (miv M a z.toNat) :: S) M Q) (hn : Nat.ble n 2147483647 = true := by rfl) : MW mL_law d 981 L (vi z :: vp a :: S) M Q := mw_iaload ⟨dL_law_981, rfl⟩ hs (Nat.le_of_ble_eq_true hn) hi k
theorem dL_law_982 : decode cL_law 982 = .ok (.invokevirtual 128, 3) := dk_182 0 128 (dk_at dksL_law_36 6 rfl rfl)
theorem iL_law_982 {d : Nat} {L S : List MV} {M : MH} {Q : Out → MH → Prop} {v1 : MV} {b : Nat} {P : Int → MH → Prop} (hs : (msh M b).1 = 10) (hM : MCi mX7_were d [vp b, v1] M P) (k : ∀ z M', P z M' → MW mL_law (d + 1) 985 L (vi z :: S) M' Q) (h8 : Nat.ble (S.map mcat).sum 8 = true := by rfl) : MW mL_law (d + 1) 982 L (v1 :: vp b :: S) M Q := mw_calli (as := [vp b, v1]) (site_V (Y' := mX7_were) (n := 1) ⟨dL_law_982, rfl⟩ (Or.inl q1535) q1536 q1537 wX7_were nX7_were hX7_were (cls_of (ci := 10) rfl hs) rfl) kX7_were (Nat.le_of_ble_eq_true h8) hM k
theorem dL_law_985 : decode cL_law 985 = .ok (.if_icmp .eq 303, 3) := dk_159 1 47 (dk_at dksL_law_36 9 rfl rfl)
theorem iL_law_985 {d : Nat} {L S : List MV} {M : MH} {Q : Out → MH → Prop} {a b : Int} (ha : inR a) (hb : inR b) (kt : a = b → MW mL_law d 1288 L S M Q) (kf : ¬ a = b → MW mL_law d 988 L S M Q) : MW mL_law d 985 L (vi b :: vi a :: S) M Q := mw_icmp_eq ⟨dL_law_985, rfl⟩ rfl ha hb kt kf
theorem dL_law_988 : decode cL_law 988 = .ok (.iconst 0, 1) := dk_3 (dk_at dksL_law_36 12 rfl rfl)
theorem iL_law_988 {d : Nat} {L S : List MV} {M : MH} {Q : Out → MH → Prop}  (k : MW mL_law d 989 (L) (vi 0 :: S) M Q) : MW mL_law d 988 (L) S M Q := mw_iconst ⟨dL_law_988, rfl⟩ k
theorem dL_law_989 : decode cL_law 989 = .ok (.ireturn, 1) := dk_172 (dk_at dksL_law_36 13 rfl rfl)
theorem iL_law_989 {d : Nat} {L : List MV} {M : MH} {P : Int → MH → Prop} {z : Int} (hz : z = 0 ∨ z = 1) (hq : P z M) : MW mL_law d 989 L [vi z] M (Ri P) := mw_retz ⟨dL_law_989, rfl⟩ rfl hz hq
theorem dL_law_990 : decode cL_law 990 = .ok (.aload_n 1, 1) := dk_43 (dk_at dksL_law_36 14 rfl rfl)
theorem iL_law_990 {d : Nat} {r S : List MV} {M : MH} {Q : Out → MH → Prop} {w0 : MV} {o : Option Nat} (k : MW mL_law d 991 (w0 :: vr o :: r) (vr o :: S) M Q) : MW mL_law d 990 (w0 :: vr o :: r) S M Q := mw_aload_n ⟨dL_law_990, rfl⟩ rfl k
theorem dL_law_991 : decode cL_law 991 = .ok (.invokevirtual 129, 3) := dk_182 0 129 (dk_at dksL_law_36 15 rfl rfl)
theorem iL_law_991 {d : Nat} {L S : List MV} {M : MH} {Q : Out → MH → Prop} {b : Nat} {P : Int → MH → Prop} (hs : (msh M b).1 = 0) (hM : MCi mX0_bed d [vp b] M P) (k : ∀ z M', P z M' → MW mL_law (d + 1) 994 L (vi z :: S) M' Q) (h8 : Nat.ble (S.map mcat).sum 8 = true := by rfl) : MW mL_law (d + 1) 991 L (vp b :: S) M Q := mw_calli (as := [vp b]) (site_V (Y' := mX0_bed) (n := 0) ⟨dL_law_991, rfl⟩ (Or.inl q1033) q1034 q1035 wX0_bed nX0_bed hX0_bed (cls_of (ci := 0) rfl hs) rfl) kX0_bed (Nat.le_of_ble_eq_true h8) hM k
theorem dL_law_994 : decode cL_law 994 = .ok (.aload_n 2, 1) := dk_44 (dk_at dksL_law_36 18 rfl rfl)
theorem iL_law_994 {d : Nat} {r S : List MV} {M : MH} {Q : Out → MH → Prop} {w0 w1 : MV} {o : Option Nat} (k : MW mL_law d 995 (w0 :: w1 :: vr o :: r) (vr o :: S) M Q) : MW mL_law d 994 (w0 :: w1 :: vr o :: r) S M Q := mw_aload_n ⟨dL_law_994, rfl⟩ rfl k
theorem dL_law_995 : decode cL_law 995 = .ok (.invokevirtual 132, 3) := dk_182 0 132 (dk_at dksL_law_36 19 rfl rfl)
theorem iL_law_995 {d : Nat} {L S : List MV} {M : MH} {Q : Out → MH → Prop} {b : Nat} {P : Int → MH → Prop} (hs : (msh M b).1 = 10) (hM : MCi mX7_bed d [vp b] M P) (k : ∀ z M', P z M' → MW mL_law (d + 1) 998 L (vi z :: S) M' Q) (h8 : Nat.ble (S.map mcat).sum 8 = true := by rfl) : MW mL_law (d + 1) 995 L (vp b :: S) M Q := mw_calli (as := [vp b]) (site_V (Y' := mX7_bed) (n := 0) ⟨dL_law_995, rfl⟩ (Or.inl q1543) q1544 q1545 wX7_bed nX7_bed hX7_bed (cls_of (ci := 10) rfl hs) rfl) kX7_bed (Nat.le_of_ble_eq_true h8) hM k
theorem dL_law_998 : decode cL_law 998 = .ok (.if_icmp .eq 290, 3) := dk_159 1 34 (dk_at dksL_law_37 0 rfl rfl)
theorem iL_law_998 {d : Nat} {L S : List MV} {M : MH} {Q : Out → MH → Prop} {a b : Int} (ha : inR a) (hb : inR b) (kt : a = b → MW mL_law d 1288 L S M Q) (kf : ¬ a = b → MW mL_law d 1001 L S M Q) : MW mL_law d 998 L (vi b :: vi a :: S) M Q := mw_icmp_eq ⟨dL_law_998, rfl⟩ rfl ha hb kt kf
theorem dL_law_1001 : decode cL_law 1001 = .ok (.iconst 0, 1) := dk_3 (dk_at dksL_law_37 3 rfl rfl)
theorem iL_law_1001 {d : Nat} {L S : List MV} {M : MH} {Q : Out → MH → Prop}  (k : MW mL_law d 1002 (L) (vi 0 :: S) M Q) : MW mL_law d 1001 (L) S M Q := mw_iconst ⟨dL_law_1001, rfl⟩ k
theorem dL_law_1002 : decode cL_law 1002 = .ok (.ireturn, 1) := dk_172 (dk_at dksL_law_37 4 rfl rfl)
theorem iL_law_1002 {d : Nat} {L : List MV} {M : MH} {P : Int → MH → Prop} {z : Int} (hz : z = 0 ∨ z = 1) (hq : P z M) : MW mL_law d 1002 L [vi z] M (Ri P) := mw_retz ⟨dL_law_1002, rfl⟩ rfl hz hq
theorem dL_law_1003 : decode cL_law 1003 = .ok (.aload_n 1, 1) := dk_43 (dk_at dksL_law_37 5 rfl rfl)
theorem iL_law_1003 {d : Nat} {r S : List MV} {M : MH} {Q : Out → MH → Prop} {w0 : MV} {o : Option Nat} (k : MW mL_law d 1004 (w0 :: vr o :: r) (vr o :: S) M Q) : MW mL_law d 1003 (w0 :: vr o :: r) S M Q := mw_aload_n ⟨dL_law_1003, rfl⟩ rfl k
theorem dL_law_1004 : decode cL_law 1004 = .ok (.aload_n 0, 1) := dk_42 (dk_at dksL_law_37 6 rfl rfl)
theorem iL_law_1004 {d : Nat} {r S : List MV} {M : MH} {Q : Out → MH → Prop} {o : Option Nat} (k : MW mL_law d 1005 (vr o :: r) (vr o :: S) M Q) : MW mL_law d 1004 (vr o :: r) S M Q := mw_aload_n ⟨dL_law_1004, rfl⟩ rfl k
theorem dL_law_1005 : decode cL_law 1005 = .ok (.iload_n 3, 1) := dk_29 (dk_at dksL_law_37 7 rfl rfl)
theorem iL_law_1005 {d : Nat} {r S : List MV} {M : MH} {Q : Out → MH → Prop} {w0 w1 w2 : MV} {z : Int} (k : MW mL_law d 1006 (w0 :: w1 :: w2 :: vi z :: r) (vi z :: S) M Q) : MW mL_law d 1005 (w0 :: w1 :: w2 :: vi z :: r) S M Q := mw_iload_n ⟨dL_law_1005, rfl⟩ rfl k
theorem dL_law_1006 : decode cL_law 1006 = .ok (.iconst 1, 1) := dk_4 (dk_at dksL_law_37 8 rfl rfl)
theorem iL_law_1006 {d : Nat} {L S : List MV} {M : MH} {Q : Out → MH → Prop}  (k : MW mL_law d 1007 (L) (vi 1 :: S) M Q) : MW mL_law d 1006 (L) S M Q := mw_iconst ⟨dL_law_1006, rfl⟩ k
theorem dL_law_1007 : decode cL_law 1007 = .ok (.iadd, 1) := dk_96 (dk_at dksL_law_37 9 rfl rfl)
theorem iL_law_1007 {d : Nat} {L S : List MV} {M : MH} {Q : Out → MH → Prop} {a b : Int} (k : MW mL_law d 1008 (L) (vi (a + b) :: S) M Q) : MW mL_law d 1007 (L) (vi b :: vi a :: S) M Q := mw_iadd ⟨dL_law_1007, rfl⟩ k
theorem dL_law_1008 : decode cL_law 1008 = .ok (.iaload, 1) := dk_46 (dk_at dksL_law_37 10 rfl rfl)
theorem iL_law_1008 {d : Nat} {L S : List MV} {M : MH} {Q : Out → MH → Prop} {a n : Nat} {z : Int} (hs : msh M a = (100, n)) (hi : 0 ≤ z ∧ z < n) (k : MW mL_law d 1009 L (vi (miv M a z.toNat) :: S) M Q) (hn : Nat.ble n 2147483647 = true := by rfl) : MW mL_law d 1008 L (vi z :: vp a :: S) M Q := mw_iaload ⟨dL_law_1008, rfl⟩ hs (Nat.le_of_ble_eq_true hn) hi k
theorem dL_law_1009 : decode cL_law 1009 = .ok (.aload_n 0, 1) := dk_42 (dk_at dksL_law_37 11 rfl rfl)
theorem iL_law_1009 {d : Nat} {r S : List MV} {M : MH} {Q : Out → MH → Prop} {o : Option Nat} (k : MW mL_law d 1010 (vr o :: r) (vr o :: S) M Q) : MW mL_law d 1009 (vr o :: r) S M Q := mw_aload_n ⟨dL_law_1009, rfl⟩ rfl k
theorem dL_law_1010 : decode cL_law 1010 = .ok (.iload_n 3, 1) := dk_29 (dk_at dksL_law_37 12 rfl rfl)
theorem iL_law_1010 {d : Nat} {r S : List MV} {M : MH} {Q : Out → MH → Prop} {w0 w1 w2 : MV} {z : Int} (k : MW mL_law d 1011 (w0 :: w1 :: w2 :: vi z :: r) (vi z :: S) M Q) : MW mL_law d 1010 (w0 :: w1 :: w2 :: vi z :: r) S M Q := mw_iload_n ⟨dL_law_1010, rfl⟩ rfl k
theorem dL_law_1011 : decode cL_law 1011 = .ok (.iconst 2, 1) := dk_5 (dk_at dksL_law_37 13 rfl rfl)
theorem iL_law_1011 {d : Nat} {L S : List MV} {M : MH} {Q : Out → MH → Prop}  (k : MW mL_law d 1012 (L) (vi 2 :: S) M Q) : MW mL_law d 1011 (L) S M Q := mw_iconst ⟨dL_law_1011, rfl⟩ k
theorem dL_law_1012 : decode cL_law 1012 = .ok (.iadd, 1) := dk_96 (dk_at dksL_law_37 14 rfl rfl)
theorem iL_law_1012 {d : Nat} {L S : List MV} {M : MH} {Q : Out → MH → Prop} {a b : Int} (k : MW mL_law d 1013 (L) (vi (a + b) :: S) M Q) : MW mL_law d 1012 (L) (vi b :: vi a :: S) M Q := mw_iadd ⟨dL_law_1012, rfl⟩ k
theorem dL_law_1013 : decode cL_law 1013 = .ok (.iaload, 1) := dk_46 (dk_at dksL_law_37 15 rfl rfl)
theorem iL_law_1013 {d : Nat} {L S : List MV} {M : MH} {Q : Out → MH → Prop} {a n : Nat} {z : Int} (hs : msh M a = (100, n)) (hi : 0 ≤ z ∧ z < n) (k : MW mL_law d 1014 L (vi (miv M a z.toNat) :: S) M Q) (hn : Nat.ble n 2147483647 = true := by rfl) : MW mL_law d 1013 L (vi z :: vp a :: S) M Q := mw_iaload ⟨dL_law_1013, rfl⟩ hs (Nat.le_of_ble_eq_true hn) hi k
theorem dL_law_1014 : decode cL_law 1014 = .ok (.aload_n 0, 1) := dk_42 (dk_at dksL_law_37 16 rfl rfl)
theorem iL_law_1014 {d : Nat} {r S : List MV} {M : MH} {Q : Out → MH → Prop} {o : Option Nat} (k : MW mL_law d 1015 (vr o :: r) (vr o :: S) M Q) : MW mL_law d 1014 (vr o :: r) S M Q := mw_aload_n ⟨dL_law_1014, rfl⟩ rfl k
theorem dL_law_1015 : decode cL_law 1015 = .ok (.iload_n 3, 1) := dk_29 (dk_at dksL_law_37 17 rfl rfl)
theorem iL_law_1015 {d : Nat} {r S : List MV} {M : MH} {Q : Out → MH → Prop} {w0 w1 w2 : MV} {z : Int} (k : MW mL_law d 1016 (w0 :: w1 :: w2 :: vi z :: r) (vi z :: S) M Q) : MW mL_law d 1015 (w0 :: w1 :: w2 :: vi z :: r) S M Q := mw_iload_n ⟨dL_law_1015, rfl⟩ rfl k
theorem dL_law_1016 : decode cL_law 1016 = .ok (.iconst 3, 1) := dk_6 (dk_at dksL_law_37 18 rfl rfl)
theorem iL_law_1016 {d : Nat} {L S : List MV} {M : MH} {Q : Out → MH → Prop}  (k : MW mL_law d 1017 (L) (vi 3 :: S) M Q) : MW mL_law d 1016 (L) S M Q := mw_iconst ⟨dL_law_1016, rfl⟩ k
theorem dL_law_1017 : decode cL_law 1017 = .ok (.iadd, 1) := dk_96 (dk_at dksL_law_37 19 rfl rfl)
theorem iL_law_1017 {d : Nat} {L S : List MV} {M : MH} {Q : Out → MH → Prop} {a b : Int} (k : MW mL_law d 1018 (L) (vi (a + b) :: S) M Q) : MW mL_law d 1017 (L) (vi b :: vi a :: S) M Q := mw_iadd ⟨dL_law_1017, rfl⟩ k
theorem dL_law_1018 : decode cL_law 1018 = .ok (.iaload, 1) := dk_46 (dk_at dksL_law_37 20 rfl rfl)
theorem iL_law_1018 {d : Nat} {L S : List MV} {M : MH} {Q : Out → MH → Prop} {a n : Nat} {z : Int} (hs : msh M a = (100, n)) (hi : 0 ≤ z ∧ z < n) (k : MW mL_law d 1019 L (vi (miv M a z.toNat) :: S) M Q) (hn : Nat.ble n 2147483647 = true := by rfl) : MW mL_law d 1018 L (vi z :: vp a :: S) M Q := mw_iaload ⟨dL_law_1018, rfl⟩ hs (Nat.le_of_ble_eq_true hn) hi k
theorem dL_law_1019 : decode cL_law 1019 = .ok (.invokevirtual 133, 3) := dk_182 0 133 (dk_at dksL_law_37 21 rfl rfl)
theorem iL_law_1019 {d : Nat} {L S : List MV} {M : MH} {Q : Out → MH → Prop} {v1 v2 v3 : MV} {b : Nat} {P : Int → MH → Prop} (hs : (msh M b).1 = 0) (hM : MCi mX0_sheet d [vp b, v1, v2, v3] M P) (k : ∀ z M', P z M' → MW mL_law (d + 1) 1022 L (vi z :: S) M' Q) (h8 : Nat.ble (S.map mcat).sum 8 = true := by rfl) : MW mL_law (d + 1) 1019 L (v3 :: v2 :: v1 :: vp b :: S) M Q := mw_calli (as := [vp b, v1, v2, v3]) (site_V (Y' := mX0_sheet) (n := 3) ⟨dL_law_1019, rfl⟩ (Or.inl q1041) q1042 q1043 wX0_sheet nX0_sheet hX0_sheet (cls_of (ci := 0) rfl hs) rfl) kX0_sheet (Nat.le_of_ble_eq_true h8) hM k
theorem dL_law_1022 : decode cL_law 1022 = .ok (.aload_n 2, 1) := dk_44 (dk_at dksL_law_38 0 rfl rfl)
theorem iL_law_1022 {d : Nat} {r S : List MV} {M : MH} {Q : Out → MH → Prop} {w0 w1 : MV} {o : Option Nat} (k : MW mL_law d 1023 (w0 :: w1 :: vr o :: r) (vr o :: S) M Q) : MW mL_law d 1022 (w0 :: w1 :: vr o :: r) S M Q := mw_aload_n ⟨dL_law_1022, rfl⟩ rfl k
theorem dL_law_1023 : decode cL_law 1023 = .ok (.aload_n 0, 1) := dk_42 (dk_at dksL_law_38 1 rfl rfl)
theorem iL_law_1023 {d : Nat} {r S : List MV} {M : MH} {Q : Out → MH → Prop} {o : Option Nat} (k : MW mL_law d 1024 (vr o :: r) (vr o :: S) M Q) : MW mL_law d 1023 (vr o :: r) S M Q := mw_aload_n ⟨dL_law_1023, rfl⟩ rfl k
theorem dL_law_1024 : decode cL_law 1024 = .ok (.iload_n 3, 1) := dk_29 (dk_at dksL_law_38 2 rfl rfl)
theorem iL_law_1024 {d : Nat} {r S : List MV} {M : MH} {Q : Out → MH → Prop} {w0 w1 w2 : MV} {z : Int} (k : MW mL_law d 1025 (w0 :: w1 :: w2 :: vi z :: r) (vi z :: S) M Q) : MW mL_law d 1024 (w0 :: w1 :: w2 :: vi z :: r) S M Q := mw_iload_n ⟨dL_law_1024, rfl⟩ rfl k
theorem dL_law_1025 : decode cL_law 1025 = .ok (.iconst 1, 1) := dk_4 (dk_at dksL_law_38 3 rfl rfl)
theorem iL_law_1025 {d : Nat} {L S : List MV} {M : MH} {Q : Out → MH → Prop}  (k : MW mL_law d 1026 (L) (vi 1 :: S) M Q) : MW mL_law d 1025 (L) S M Q := mw_iconst ⟨dL_law_1025, rfl⟩ k
theorem dL_law_1026 : decode cL_law 1026 = .ok (.iadd, 1) := dk_96 (dk_at dksL_law_38 4 rfl rfl)
theorem iL_law_1026 {d : Nat} {L S : List MV} {M : MH} {Q : Out → MH → Prop} {a b : Int} (k : MW mL_law d 1027 (L) (vi (a + b) :: S) M Q) : MW mL_law d 1026 (L) (vi b :: vi a :: S) M Q := mw_iadd ⟨dL_law_1026, rfl⟩ k
theorem dL_law_1027 : decode cL_law 1027 = .ok (.iaload, 1) := dk_46 (dk_at dksL_law_38 5 rfl rfl)
theorem iL_law_1027 {d : Nat} {L S : List MV} {M : MH} {Q : Out → MH → Prop} {a n : Nat} {z : Int} (hs : msh M a = (100, n)) (hi : 0 ≤ z ∧ z < n) (k : MW mL_law d 1028 L (vi (miv M a z.toNat) :: S) M Q) (hn : Nat.ble n 2147483647 = true := by rfl) : MW mL_law d 1027 L (vi z :: vp a :: S) M Q := mw_iaload ⟨dL_law_1027, rfl⟩ hs (Nat.le_of_ble_eq_true hn) hi k
theorem dL_law_1028 : decode cL_law 1028 = .ok (.aload_n 0, 1) := dk_42 (dk_at dksL_law_38 6 rfl rfl)
theorem iL_law_1028 {d : Nat} {r S : List MV} {M : MH} {Q : Out → MH → Prop} {o : Option Nat} (k : MW mL_law d 1029 (vr o :: r) (vr o :: S) M Q) : MW mL_law d 1028 (vr o :: r) S M Q := mw_aload_n ⟨dL_law_1028, rfl⟩ rfl k
theorem dL_law_1029 : decode cL_law 1029 = .ok (.iload_n 3, 1) := dk_29 (dk_at dksL_law_38 7 rfl rfl)
theorem iL_law_1029 {d : Nat} {r S : List MV} {M : MH} {Q : Out → MH → Prop} {w0 w1 w2 : MV} {z : Int} (k : MW mL_law d 1030 (w0 :: w1 :: w2 :: vi z :: r) (vi z :: S) M Q) : MW mL_law d 1029 (w0 :: w1 :: w2 :: vi z :: r) S M Q := mw_iload_n ⟨dL_law_1029, rfl⟩ rfl k
theorem dL_law_1030 : decode cL_law 1030 = .ok (.iconst 2, 1) := dk_5 (dk_at dksL_law_38 8 rfl rfl)
theorem iL_law_1030 {d : Nat} {L S : List MV} {M : MH} {Q : Out → MH → Prop}  (k : MW mL_law d 1031 (L) (vi 2 :: S) M Q) : MW mL_law d 1030 (L) S M Q := mw_iconst ⟨dL_law_1030, rfl⟩ k
theorem dL_law_1031 : decode cL_law 1031 = .ok (.iadd, 1) := dk_96 (dk_at dksL_law_38 9 rfl rfl)
theorem iL_law_1031 {d : Nat} {L S : List MV} {M : MH} {Q : Out → MH → Prop} {a b : Int} (k : MW mL_law d 1032 (L) (vi (a + b) :: S) M Q) : MW mL_law d 1031 (L) (vi b :: vi a :: S) M Q := mw_iadd ⟨dL_law_1031, rfl⟩ k
theorem dL_law_1032 : decode cL_law 1032 = .ok (.iaload, 1) := dk_46 (dk_at dksL_law_38 10 rfl rfl)
theorem iL_law_1032 {d : Nat} {L S : List MV} {M : MH} {Q : Out → MH → Prop} {a n : Nat} {z : Int} (hs : msh M a = (100, n)) (hi : 0 ≤ z ∧ z < n) (k : MW mL_law d 1033 L (vi (miv M a z.toNat) :: S) M Q) (hn : Nat.ble n 2147483647 = true := by rfl) : MW mL_law d 1032 L (vi z :: vp a :: S) M Q := mw_iaload ⟨dL_law_1032, rfl⟩ hs (Nat.le_of_ble_eq_true hn) hi k
theorem dL_law_1033 : decode cL_law 1033 = .ok (.aload_n 0, 1) := dk_42 (dk_at dksL_law_38 11 rfl rfl)
theorem iL_law_1033 {d : Nat} {r S : List MV} {M : MH} {Q : Out → MH → Prop} {o : Option Nat} (k : MW mL_law d 1034 (vr o :: r) (vr o :: S) M Q) : MW mL_law d 1033 (vr o :: r) S M Q := mw_aload_n ⟨dL_law_1033, rfl⟩ rfl k
theorem dL_law_1034 : decode cL_law 1034 = .ok (.iload_n 3, 1) := dk_29 (dk_at dksL_law_38 12 rfl rfl)
theorem iL_law_1034 {d : Nat} {r S : List MV} {M : MH} {Q : Out → MH → Prop} {w0 w1 w2 : MV} {z : Int} (k : MW mL_law d 1035 (w0 :: w1 :: w2 :: vi z :: r) (vi z :: S) M Q) : MW mL_law d 1034 (w0 :: w1 :: w2 :: vi z :: r) S M Q := mw_iload_n ⟨dL_law_1034, rfl⟩ rfl k
theorem dL_law_1035 : decode cL_law 1035 = .ok (.iconst 3, 1) := dk_6 (dk_at dksL_law_38 13 rfl rfl)
theorem iL_law_1035 {d : Nat} {L S : List MV} {M : MH} {Q : Out → MH → Prop}  (k : MW mL_law d 1036 (L) (vi 3 :: S) M Q) : MW mL_law d 1035 (L) S M Q := mw_iconst ⟨dL_law_1035, rfl⟩ k
theorem dL_law_1036 : decode cL_law 1036 = .ok (.iadd, 1) := dk_96 (dk_at dksL_law_38 14 rfl rfl)
theorem iL_law_1036 {d : Nat} {L S : List MV} {M : MH} {Q : Out → MH → Prop} {a b : Int} (k : MW mL_law d 1037 (L) (vi (a + b) :: S) M Q) : MW mL_law d 1036 (L) (vi b :: vi a :: S) M Q := mw_iadd ⟨dL_law_1036, rfl⟩ k
theorem dL_law_1037 : decode cL_law 1037 = .ok (.iaload, 1) := dk_46 (dk_at dksL_law_38 15 rfl rfl)
theorem iL_law_1037 {d : Nat} {L S : List MV} {M : MH} {Q : Out → MH → Prop} {a n : Nat} {z : Int} (hs : msh M a = (100, n)) (hi : 0 ≤ z ∧ z < n) (k : MW mL_law d 1038 L (vi (miv M a z.toNat) :: S) M Q) (hn : Nat.ble n 2147483647 = true := by rfl) : MW mL_law d 1037 L (vi z :: vp a :: S) M Q := mw_iaload ⟨dL_law_1037, rfl⟩ hs (Nat.le_of_ble_eq_true hn) hi k
theorem dL_law_1038 : decode cL_law 1038 = .ok (.invokevirtual 136, 3) := dk_182 0 136 (dk_at dksL_law_38 16 rfl rfl)
theorem iL_law_1038 {d : Nat} {L S : List MV} {M : MH} {Q : Out → MH → Prop} {v1 v2 v3 : MV} {b : Nat} {P : Int → MH → Prop} (hs : (msh M b).1 = 10) (hM : MCi mX7_sheet d [vp b, v1, v2, v3] M P) (k : ∀ z M', P z M' → MW mL_law (d + 1) 1041 L (vi z :: S) M' Q) (h8 : Nat.ble (S.map mcat).sum 8 = true := by rfl) : MW mL_law (d + 1) 1038 L (v3 :: v2 :: v1 :: vp b :: S) M Q := mw_calli (as := [vp b, v1, v2, v3]) (site_V (Y' := mX7_sheet) (n := 3) ⟨dL_law_1038, rfl⟩ (Or.inl q1547) q1548 q1549 wX7_sheet nX7_sheet hX7_sheet (cls_of (ci := 10) rfl hs) rfl) kX7_sheet (Nat.le_of_ble_eq_true h8) hM k
theorem dL_law_1041 : decode cL_law 1041 = .ok (.if_icmp .eq 247, 3) := dk_159 0 247 (dk_at dksL_law_38 19 rfl rfl)
theorem iL_law_1041 {d : Nat} {L S : List MV} {M : MH} {Q : Out → MH → Prop} {a b : Int} (ha : inR a) (hb : inR b) (kt : a = b → MW mL_law d 1288 L S M Q) (kf : ¬ a = b → MW mL_law d 1044 L S M Q) : MW mL_law d 1041 L (vi b :: vi a :: S) M Q := mw_icmp_eq ⟨dL_law_1041, rfl⟩ rfl ha hb kt kf
theorem dL_law_1044 : decode cL_law 1044 = .ok (.iconst 0, 1) := dk_3 (dk_at dksL_law_38 22 rfl rfl)
theorem iL_law_1044 {d : Nat} {L S : List MV} {M : MH} {Q : Out → MH → Prop}  (k : MW mL_law d 1045 (L) (vi 0 :: S) M Q) : MW mL_law d 1044 (L) S M Q := mw_iconst ⟨dL_law_1044, rfl⟩ k
theorem dL_law_1045 : decode cL_law 1045 = .ok (.ireturn, 1) := dk_172 (dk_at dksL_law_38 23 rfl rfl)
theorem iL_law_1045 {d : Nat} {L : List MV} {M : MH} {P : Int → MH → Prop} {z : Int} (hz : z = 0 ∨ z = 1) (hq : P z M) : MW mL_law d 1045 L [vi z] M (Ri P) := mw_retz ⟨dL_law_1045, rfl⟩ rfl hz hq
theorem dL_law_1046 : decode cL_law 1046 = .ok (.aload_n 1, 1) := dk_43 (dk_at dksL_law_39 0 rfl rfl)
theorem iL_law_1046 {d : Nat} {r S : List MV} {M : MH} {Q : Out → MH → Prop} {w0 : MV} {o : Option Nat} (k : MW mL_law d 1047 (w0 :: vr o :: r) (vr o :: S) M Q) : MW mL_law d 1046 (w0 :: vr o :: r) S M Q := mw_aload_n ⟨dL_law_1046, rfl⟩ rfl k
theorem dL_law_1047 : decode cL_law 1047 = .ok (.aload_n 0, 1) := dk_42 (dk_at dksL_law_39 1 rfl rfl)
theorem iL_law_1047 {d : Nat} {r S : List MV} {M : MH} {Q : Out → MH → Prop} {o : Option Nat} (k : MW mL_law d 1048 (vr o :: r) (vr o :: S) M Q) : MW mL_law d 1047 (vr o :: r) S M Q := mw_aload_n ⟨dL_law_1047, rfl⟩ rfl k
theorem dL_law_1048 : decode cL_law 1048 = .ok (.iload_n 3, 1) := dk_29 (dk_at dksL_law_39 2 rfl rfl)
theorem iL_law_1048 {d : Nat} {r S : List MV} {M : MH} {Q : Out → MH → Prop} {w0 w1 w2 : MV} {z : Int} (k : MW mL_law d 1049 (w0 :: w1 :: w2 :: vi z :: r) (vi z :: S) M Q) : MW mL_law d 1048 (w0 :: w1 :: w2 :: vi z :: r) S M Q := mw_iload_n ⟨dL_law_1048, rfl⟩ rfl k
theorem dL_law_1049 : decode cL_law 1049 = .ok (.iconst 1, 1) := dk_4 (dk_at dksL_law_39 3 rfl rfl)
theorem iL_law_1049 {d : Nat} {L S : List MV} {M : MH} {Q : Out → MH → Prop}  (k : MW mL_law d 1050 (L) (vi 1 :: S) M Q) : MW mL_law d 1049 (L) S M Q := mw_iconst ⟨dL_law_1049, rfl⟩ k
theorem dL_law_1050 : decode cL_law 1050 = .ok (.iadd, 1) := dk_96 (dk_at dksL_law_39 4 rfl rfl)
theorem iL_law_1050 {d : Nat} {L S : List MV} {M : MH} {Q : Out → MH → Prop} {a b : Int} (k : MW mL_law d 1051 (L) (vi (a + b) :: S) M Q) : MW mL_law d 1050 (L) (vi b :: vi a :: S) M Q := mw_iadd ⟨dL_law_1050, rfl⟩ k
theorem dL_law_1051 : decode cL_law 1051 = .ok (.iaload, 1) := dk_46 (dk_at dksL_law_39 5 rfl rfl)
theorem iL_law_1051 {d : Nat} {L S : List MV} {M : MH} {Q : Out → MH → Prop} {a n : Nat} {z : Int} (hs : msh M a = (100, n)) (hi : 0 ≤ z ∧ z < n) (k : MW mL_law d 1052 L (vi (miv M a z.toNat) :: S) M Q) (hn : Nat.ble n 2147483647 = true := by rfl) : MW mL_law d 1051 L (vi z :: vp a :: S) M Q := mw_iaload ⟨dL_law_1051, rfl⟩ hs (Nat.le_of_ble_eq_true hn) hi k
theorem dL_law_1052 : decode cL_law 1052 = .ok (.invokevirtual 137, 3) := dk_182 0 137 (dk_at dksL_law_39 6 rfl rfl)
theorem iL_law_1052 {d : Nat} {L S : List MV} {M : MH} {Q : Out → MH → Prop} {v1 : MV} {b : Nat} {P : Int → MH → Prop} (hs : (msh M b).1 = 0) (hM : MCi mX0_lose d [vp b, v1] M P) (k : ∀ z M', P z M' → MW mL_law (d + 1) 1055 L (vi z :: S) M' Q) (h8 : Nat.ble (S.map mcat).sum 8 = true := by rfl) : MW mL_law (d + 1) 1052 L (v1 :: vp b :: S) M Q := mw_calli (as := [vp b, v1]) (site_V (Y' := mX0_lose) (n := 1) ⟨dL_law_1052, rfl⟩ (Or.inl q1079) q1080 q1081 wX0_lose nX0_lose hX0_lose (cls_of (ci := 0) rfl hs) rfl) kX0_lose (Nat.le_of_ble_eq_true h8) hM k
theorem dL_law_1055 : decode cL_law 1055 = .ok (.aload_n 2, 1) := dk_44 (dk_at dksL_law_39 9 rfl rfl)
theorem iL_law_1055 {d : Nat} {r S : List MV} {M : MH} {Q : Out → MH → Prop} {w0 w1 : MV} {o : Option Nat} (k : MW mL_law d 1056 (w0 :: w1 :: vr o :: r) (vr o :: S) M Q) : MW mL_law d 1055 (w0 :: w1 :: vr o :: r) S M Q := mw_aload_n ⟨dL_law_1055, rfl⟩ rfl k
theorem dL_law_1056 : decode cL_law 1056 = .ok (.aload_n 0, 1) := dk_42 (dk_at dksL_law_39 10 rfl rfl)
theorem iL_law_1056 {d : Nat} {r S : List MV} {M : MH} {Q : Out → MH → Prop} {o : Option Nat} (k : MW mL_law d 1057 (vr o :: r) (vr o :: S) M Q) : MW mL_law d 1056 (vr o :: r) S M Q := mw_aload_n ⟨dL_law_1056, rfl⟩ rfl k
theorem dL_law_1057 : decode cL_law 1057 = .ok (.iload_n 3, 1) := dk_29 (dk_at dksL_law_39 11 rfl rfl)
theorem iL_law_1057 {d : Nat} {r S : List MV} {M : MH} {Q : Out → MH → Prop} {w0 w1 w2 : MV} {z : Int} (k : MW mL_law d 1058 (w0 :: w1 :: w2 :: vi z :: r) (vi z :: S) M Q) : MW mL_law d 1057 (w0 :: w1 :: w2 :: vi z :: r) S M Q := mw_iload_n ⟨dL_law_1057, rfl⟩ rfl k
theorem dL_law_1058 : decode cL_law 1058 = .ok (.iconst 1, 1) := dk_4 (dk_at dksL_law_39 12 rfl rfl)
theorem iL_law_1058 {d : Nat} {L S : List MV} {M : MH} {Q : Out → MH → Prop}  (k : MW mL_law d 1059 (L) (vi 1 :: S) M Q) : MW mL_law d 1058 (L) S M Q := mw_iconst ⟨dL_law_1058, rfl⟩ k
theorem dL_law_1059 : decode cL_law 1059 = .ok (.iadd, 1) := dk_96 (dk_at dksL_law_39 13 rfl rfl)
theorem iL_law_1059 {d : Nat} {L S : List MV} {M : MH} {Q : Out → MH → Prop} {a b : Int} (k : MW mL_law d 1060 (L) (vi (a + b) :: S) M Q) : MW mL_law d 1059 (L) (vi b :: vi a :: S) M Q := mw_iadd ⟨dL_law_1059, rfl⟩ k
theorem dL_law_1060 : decode cL_law 1060 = .ok (.iaload, 1) := dk_46 (dk_at dksL_law_39 14 rfl rfl)
theorem iL_law_1060 {d : Nat} {L S : List MV} {M : MH} {Q : Out → MH → Prop} {a n : Nat} {z : Int} (hs : msh M a = (100, n)) (hi : 0 ≤ z ∧ z < n) (k : MW mL_law d 1061 L (vi (miv M a z.toNat) :: S) M Q) (hn : Nat.ble n 2147483647 = true := by rfl) : MW mL_law d 1060 L (vi z :: vp a :: S) M Q := mw_iaload ⟨dL_law_1060, rfl⟩ hs (Nat.le_of_ble_eq_true hn) hi k
theorem dL_law_1061 : decode cL_law 1061 = .ok (.invokevirtual 140, 3) := dk_182 0 140 (dk_at dksL_law_39 15 rfl rfl)
theorem iL_law_1061 {d : Nat} {L S : List MV} {M : MH} {Q : Out → MH → Prop} {v1 : MV} {b : Nat} {P : Int → MH → Prop} (hs : (msh M b).1 = 10) (hM : MCi mX7_lose d [vp b, v1] M P) (k : ∀ z M', P z M' → MW mL_law (d + 1) 1064 L (vi z :: S) M' Q) (h8 : Nat.ble (S.map mcat).sum 8 = true := by rfl) : MW mL_law (d + 1) 1061 L (v1 :: vp b :: S) M Q := mw_calli (as := [vp b, v1]) (site_V (Y' := mX7_lose) (n := 1) ⟨dL_law_1061, rfl⟩ (Or.inl q1551) q1552 q1553 wX7_lose nX7_lose hX7_lose (cls_of (ci := 10) rfl hs) rfl) kX7_lose (Nat.le_of_ble_eq_true h8) hM k
theorem dL_law_1064 : decode cL_law 1064 = .ok (.if_icmp .eq 224, 3) := dk_159 0 224 (dk_at dksL_law_39 18 rfl rfl)
theorem iL_law_1064 {d : Nat} {L S : List MV} {M : MH} {Q : Out → MH → Prop} {a b : Int} (ha : inR a) (hb : inR b) (kt : a = b → MW mL_law d 1288 L S M Q) (kf : ¬ a = b → MW mL_law d 1067 L S M Q) : MW mL_law d 1064 L (vi b :: vi a :: S) M Q := mw_icmp_eq ⟨dL_law_1064, rfl⟩ rfl ha hb kt kf
theorem dL_law_1067 : decode cL_law 1067 = .ok (.iconst 0, 1) := dk_3 (dk_at dksL_law_39 21 rfl rfl)
theorem iL_law_1067 {d : Nat} {L S : List MV} {M : MH} {Q : Out → MH → Prop}  (k : MW mL_law d 1068 (L) (vi 0 :: S) M Q) : MW mL_law d 1067 (L) S M Q := mw_iconst ⟨dL_law_1067, rfl⟩ k
theorem dL_law_1068 : decode cL_law 1068 = .ok (.ireturn, 1) := dk_172 (dk_at dksL_law_39 22 rfl rfl)
theorem iL_law_1068 {d : Nat} {L : List MV} {M : MH} {P : Int → MH → Prop} {z : Int} (hz : z = 0 ∨ z = 1) (hq : P z M) : MW mL_law d 1068 L [vi z] M (Ri P) := mw_retz ⟨dL_law_1068, rfl⟩ rfl hz hq
theorem dL_law_1069 : decode cL_law 1069 = .ok (.aload_n 1, 1) := dk_43 (dk_at dksL_law_39 23 rfl rfl)
theorem iL_law_1069 {d : Nat} {r S : List MV} {M : MH} {Q : Out → MH → Prop} {w0 : MV} {o : Option Nat} (k : MW mL_law d 1070 (w0 :: vr o :: r) (vr o :: S) M Q) : MW mL_law d 1069 (w0 :: vr o :: r) S M Q := mw_aload_n ⟨dL_law_1069, rfl⟩ rfl k
theorem dL_law_1070 : decode cL_law 1070 = .ok (.aload_n 0, 1) := dk_42 (dk_at dksL_law_40 0 rfl rfl)
theorem iL_law_1070 {d : Nat} {r S : List MV} {M : MH} {Q : Out → MH → Prop} {o : Option Nat} (k : MW mL_law d 1071 (vr o :: r) (vr o :: S) M Q) : MW mL_law d 1070 (vr o :: r) S M Q := mw_aload_n ⟨dL_law_1070, rfl⟩ rfl k
theorem dL_law_1071 : decode cL_law 1071 = .ok (.iload_n 3, 1) := dk_29 (dk_at dksL_law_40 1 rfl rfl)
theorem iL_law_1071 {d : Nat} {r S : List MV} {M : MH} {Q : Out → MH → Prop} {w0 w1 w2 : MV} {z : Int} (k : MW mL_law d 1072 (w0 :: w1 :: w2 :: vi z :: r) (vi z :: S) M Q) : MW mL_law d 1071 (w0 :: w1 :: w2 :: vi z :: r) S M Q := mw_iload_n ⟨dL_law_1071, rfl⟩ rfl k
theorem dL_law_1072 : decode cL_law 1072 = .ok (.iconst 1, 1) := dk_4 (dk_at dksL_law_40 2 rfl rfl)
theorem iL_law_1072 {d : Nat} {L S : List MV} {M : MH} {Q : Out → MH → Prop}  (k : MW mL_law d 1073 (L) (vi 1 :: S) M Q) : MW mL_law d 1072 (L) S M Q := mw_iconst ⟨dL_law_1072, rfl⟩ k
theorem dL_law_1073 : decode cL_law 1073 = .ok (.iadd, 1) := dk_96 (dk_at dksL_law_40 3 rfl rfl)
theorem iL_law_1073 {d : Nat} {L S : List MV} {M : MH} {Q : Out → MH → Prop} {a b : Int} (k : MW mL_law d 1074 (L) (vi (a + b) :: S) M Q) : MW mL_law d 1073 (L) (vi b :: vi a :: S) M Q := mw_iadd ⟨dL_law_1073, rfl⟩ k
theorem dL_law_1074 : decode cL_law 1074 = .ok (.iaload, 1) := dk_46 (dk_at dksL_law_40 4 rfl rfl)
theorem iL_law_1074 {d : Nat} {L S : List MV} {M : MH} {Q : Out → MH → Prop} {a n : Nat} {z : Int} (hs : msh M a = (100, n)) (hi : 0 ≤ z ∧ z < n) (k : MW mL_law d 1075 L (vi (miv M a z.toNat) :: S) M Q) (hn : Nat.ble n 2147483647 = true := by rfl) : MW mL_law d 1074 L (vi z :: vp a :: S) M Q := mw_iaload ⟨dL_law_1074, rfl⟩ hs (Nat.le_of_ble_eq_true hn) hi k
theorem dL_law_1075 : decode cL_law 1075 = .ok (.aload_n 0, 1) := dk_42 (dk_at dksL_law_40 5 rfl rfl)
theorem iL_law_1075 {d : Nat} {r S : List MV} {M : MH} {Q : Out → MH → Prop} {o : Option Nat} (k : MW mL_law d 1076 (vr o :: r) (vr o :: S) M Q) : MW mL_law d 1075 (vr o :: r) S M Q := mw_aload_n ⟨dL_law_1075, rfl⟩ rfl k
theorem dL_law_1076 : decode cL_law 1076 = .ok (.iload_n 3, 1) := dk_29 (dk_at dksL_law_40 6 rfl rfl)
theorem iL_law_1076 {d : Nat} {r S : List MV} {M : MH} {Q : Out → MH → Prop} {w0 w1 w2 : MV} {z : Int} (k : MW mL_law d 1077 (w0 :: w1 :: w2 :: vi z :: r) (vi z :: S) M Q) : MW mL_law d 1076 (w0 :: w1 :: w2 :: vi z :: r) S M Q := mw_iload_n ⟨dL_law_1076, rfl⟩ rfl k
theorem dL_law_1077 : decode cL_law 1077 = .ok (.iconst 2, 1) := dk_5 (dk_at dksL_law_40 7 rfl rfl)
theorem iL_law_1077 {d : Nat} {L S : List MV} {M : MH} {Q : Out → MH → Prop}  (k : MW mL_law d 1078 (L) (vi 2 :: S) M Q) : MW mL_law d 1077 (L) S M Q := mw_iconst ⟨dL_law_1077, rfl⟩ k
theorem dL_law_1078 : decode cL_law 1078 = .ok (.iadd, 1) := dk_96 (dk_at dksL_law_40 8 rfl rfl)
theorem iL_law_1078 {d : Nat} {L S : List MV} {M : MH} {Q : Out → MH → Prop} {a b : Int} (k : MW mL_law d 1079 (L) (vi (a + b) :: S) M Q) : MW mL_law d 1078 (L) (vi b :: vi a :: S) M Q := mw_iadd ⟨dL_law_1078, rfl⟩ k
theorem dL_law_1079 : decode cL_law 1079 = .ok (.iaload, 1) := dk_46 (dk_at dksL_law_40 9 rfl rfl)
theorem iL_law_1079 {d : Nat} {L S : List MV} {M : MH} {Q : Out → MH → Prop} {a n : Nat} {z : Int} (hs : msh M a = (100, n)) (hi : 0 ≤ z ∧ z < n) (k : MW mL_law d 1080 L (vi (miv M a z.toNat) :: S) M Q) (hn : Nat.ble n 2147483647 = true := by rfl) : MW mL_law d 1079 L (vi z :: vp a :: S) M Q := mw_iaload ⟨dL_law_1079, rfl⟩ hs (Nat.le_of_ble_eq_true hn) hi k
theorem dL_law_1080 : decode cL_law 1080 = .ok (.aload_n 0, 1) := dk_42 (dk_at dksL_law_40 10 rfl rfl)
theorem iL_law_1080 {d : Nat} {r S : List MV} {M : MH} {Q : Out → MH → Prop} {o : Option Nat} (k : MW mL_law d 1081 (vr o :: r) (vr o :: S) M Q) : MW mL_law d 1080 (vr o :: r) S M Q := mw_aload_n ⟨dL_law_1080, rfl⟩ rfl k
theorem dL_law_1081 : decode cL_law 1081 = .ok (.iload_n 3, 1) := dk_29 (dk_at dksL_law_40 11 rfl rfl)
theorem iL_law_1081 {d : Nat} {r S : List MV} {M : MH} {Q : Out → MH → Prop} {w0 w1 w2 : MV} {z : Int} (k : MW mL_law d 1082 (w0 :: w1 :: w2 :: vi z :: r) (vi z :: S) M Q) : MW mL_law d 1081 (w0 :: w1 :: w2 :: vi z :: r) S M Q := mw_iload_n ⟨dL_law_1081, rfl⟩ rfl k
theorem dL_law_1082 : decode cL_law 1082 = .ok (.iconst 3, 1) := dk_6 (dk_at dksL_law_40 12 rfl rfl)
theorem iL_law_1082 {d : Nat} {L S : List MV} {M : MH} {Q : Out → MH → Prop}  (k : MW mL_law d 1083 (L) (vi 3 :: S) M Q) : MW mL_law d 1082 (L) S M Q := mw_iconst ⟨dL_law_1082, rfl⟩ k
theorem dL_law_1083 : decode cL_law 1083 = .ok (.iadd, 1) := dk_96 (dk_at dksL_law_40 13 rfl rfl)
theorem iL_law_1083 {d : Nat} {L S : List MV} {M : MH} {Q : Out → MH → Prop} {a b : Int} (k : MW mL_law d 1084 (L) (vi (a + b) :: S) M Q) : MW mL_law d 1083 (L) (vi b :: vi a :: S) M Q := mw_iadd ⟨dL_law_1083, rfl⟩ k
theorem dL_law_1084 : decode cL_law 1084 = .ok (.iaload, 1) := dk_46 (dk_at dksL_law_40 14 rfl rfl)
theorem iL_law_1084 {d : Nat} {L S : List MV} {M : MH} {Q : Out → MH → Prop} {a n : Nat} {z : Int} (hs : msh M a = (100, n)) (hi : 0 ≤ z ∧ z < n) (k : MW mL_law d 1085 L (vi (miv M a z.toNat) :: S) M Q) (hn : Nat.ble n 2147483647 = true := by rfl) : MW mL_law d 1084 L (vi z :: vp a :: S) M Q := mw_iaload ⟨dL_law_1084, rfl⟩ hs (Nat.le_of_ble_eq_true hn) hi k
theorem dL_law_1085 : decode cL_law 1085 = .ok (.aload_n 0, 1) := dk_42 (dk_at dksL_law_40 15 rfl rfl)
theorem iL_law_1085 {d : Nat} {r S : List MV} {M : MH} {Q : Out → MH → Prop} {o : Option Nat} (k : MW mL_law d 1086 (vr o :: r) (vr o :: S) M Q) : MW mL_law d 1085 (vr o :: r) S M Q := mw_aload_n ⟨dL_law_1085, rfl⟩ rfl k
theorem dL_law_1086 : decode cL_law 1086 = .ok (.iload_n 3, 1) := dk_29 (dk_at dksL_law_40 16 rfl rfl)
theorem iL_law_1086 {d : Nat} {r S : List MV} {M : MH} {Q : Out → MH → Prop} {w0 w1 w2 : MV} {z : Int} (k : MW mL_law d 1087 (w0 :: w1 :: w2 :: vi z :: r) (vi z :: S) M Q) : MW mL_law d 1086 (w0 :: w1 :: w2 :: vi z :: r) S M Q := mw_iload_n ⟨dL_law_1086, rfl⟩ rfl k
theorem dL_law_1087 : decode cL_law 1087 = .ok (.iconst 4, 1) := dk_7 (dk_at dksL_law_40 17 rfl rfl)
theorem iL_law_1087 {d : Nat} {L S : List MV} {M : MH} {Q : Out → MH → Prop}  (k : MW mL_law d 1088 (L) (vi 4 :: S) M Q) : MW mL_law d 1087 (L) S M Q := mw_iconst ⟨dL_law_1087, rfl⟩ k
theorem dL_law_1088 : decode cL_law 1088 = .ok (.iadd, 1) := dk_96 (dk_at dksL_law_40 18 rfl rfl)
theorem iL_law_1088 {d : Nat} {L S : List MV} {M : MH} {Q : Out → MH → Prop} {a b : Int} (k : MW mL_law d 1089 (L) (vi (a + b) :: S) M Q) : MW mL_law d 1088 (L) (vi b :: vi a :: S) M Q := mw_iadd ⟨dL_law_1088, rfl⟩ k
theorem dL_law_1089 : decode cL_law 1089 = .ok (.iaload, 1) := dk_46 (dk_at dksL_law_40 19 rfl rfl)
theorem iL_law_1089 {d : Nat} {L S : List MV} {M : MH} {Q : Out → MH → Prop} {a n : Nat} {z : Int} (hs : msh M a = (100, n)) (hi : 0 ≤ z ∧ z < n) (k : MW mL_law d 1090 L (vi (miv M a z.toNat) :: S) M Q) (hn : Nat.ble n 2147483647 = true := by rfl) : MW mL_law d 1089 L (vi z :: vp a :: S) M Q := mw_iaload ⟨dL_law_1089, rfl⟩ hs (Nat.le_of_ble_eq_true hn) hi k
theorem dL_law_1090 : decode cL_law 1090 = .ok (.invokevirtual 141, 3) := dk_182 0 141 (dk_at dksL_law_40 20 rfl rfl)
theorem iL_law_1090 {d : Nat} {L S : List MV} {M : MH} {Q : Out → MH → Prop} {v1 v2 v3 v4 : MV} {b : Nat} {P : Int → MH → Prop} (hs : (msh M b).1 = 0) (hM : MCi mX0_put d [vp b, v1, v2, v3, v4] M P) (k : ∀ z M', P z M' → MW mL_law (d + 1) 1093 L (vi z :: S) M' Q) (h8 : Nat.ble (S.map mcat).sum 8 = true := by rfl) : MW mL_law (d + 1) 1090 L (v4 :: v3 :: v2 :: v1 :: vp b :: S) M Q := mw_calli (as := [vp b, v1, v2, v3, v4]) (site_V (Y' := mX0_put) (n := 4) ⟨dL_law_1090, rfl⟩ (Or.inl q1083) q1084 q1085 wX0_put nX0_put hX0_put (cls_of (ci := 0) rfl hs) rfl) kX0_put (Nat.le_of_ble_eq_true h8) hM k
theorem dL_law_1093 : decode cL_law 1093 = .ok (.aload_n 2, 1) := dk_44 (dk_at dksL_law_40 23 rfl rfl)
theorem iL_law_1093 {d : Nat} {r S : List MV} {M : MH} {Q : Out → MH → Prop} {w0 w1 : MV} {o : Option Nat} (k : MW mL_law d 1094 (w0 :: w1 :: vr o :: r) (vr o :: S) M Q) : MW mL_law d 1093 (w0 :: w1 :: vr o :: r) S M Q := mw_aload_n ⟨dL_law_1093, rfl⟩ rfl k
theorem dL_law_1094 : decode cL_law 1094 = .ok (.aload_n 0, 1) := dk_42 (dk_at dksL_law_41 0 rfl rfl)
theorem iL_law_1094 {d : Nat} {r S : List MV} {M : MH} {Q : Out → MH → Prop} {o : Option Nat} (k : MW mL_law d 1095 (vr o :: r) (vr o :: S) M Q) : MW mL_law d 1094 (vr o :: r) S M Q := mw_aload_n ⟨dL_law_1094, rfl⟩ rfl k
theorem dL_law_1095 : decode cL_law 1095 = .ok (.iload_n 3, 1) := dk_29 (dk_at dksL_law_41 1 rfl rfl)
theorem iL_law_1095 {d : Nat} {r S : List MV} {M : MH} {Q : Out → MH → Prop} {w0 w1 w2 : MV} {z : Int} (k : MW mL_law d 1096 (w0 :: w1 :: w2 :: vi z :: r) (vi z :: S) M Q) : MW mL_law d 1095 (w0 :: w1 :: w2 :: vi z :: r) S M Q := mw_iload_n ⟨dL_law_1095, rfl⟩ rfl k
theorem dL_law_1096 : decode cL_law 1096 = .ok (.iconst 1, 1) := dk_4 (dk_at dksL_law_41 2 rfl rfl)
theorem iL_law_1096 {d : Nat} {L S : List MV} {M : MH} {Q : Out → MH → Prop}  (k : MW mL_law d 1097 (L) (vi 1 :: S) M Q) : MW mL_law d 1096 (L) S M Q := mw_iconst ⟨dL_law_1096, rfl⟩ k
theorem dL_law_1097 : decode cL_law 1097 = .ok (.iadd, 1) := dk_96 (dk_at dksL_law_41 3 rfl rfl)
theorem iL_law_1097 {d : Nat} {L S : List MV} {M : MH} {Q : Out → MH → Prop} {a b : Int} (k : MW mL_law d 1098 (L) (vi (a + b) :: S) M Q) : MW mL_law d 1097 (L) (vi b :: vi a :: S) M Q := mw_iadd ⟨dL_law_1097, rfl⟩ k
theorem dL_law_1098 : decode cL_law 1098 = .ok (.iaload, 1) := dk_46 (dk_at dksL_law_41 4 rfl rfl)
theorem iL_law_1098 {d : Nat} {L S : List MV} {M : MH} {Q : Out → MH → Prop} {a n : Nat} {z : Int} (hs : msh M a = (100, n)) (hi : 0 ≤ z ∧ z < n) (k : MW mL_law d 1099 L (vi (miv M a z.toNat) :: S) M Q) (hn : Nat.ble n 2147483647 = true := by rfl) : MW mL_law d 1098 L (vi z :: vp a :: S) M Q := mw_iaload ⟨dL_law_1098, rfl⟩ hs (Nat.le_of_ble_eq_true hn) hi k
theorem dL_law_1099 : decode cL_law 1099 = .ok (.aload_n 0, 1) := dk_42 (dk_at dksL_law_41 5 rfl rfl)
theorem iL_law_1099 {d : Nat} {r S : List MV} {M : MH} {Q : Out → MH → Prop} {o : Option Nat} (k : MW mL_law d 1100 (vr o :: r) (vr o :: S) M Q) : MW mL_law d 1099 (vr o :: r) S M Q := mw_aload_n ⟨dL_law_1099, rfl⟩ rfl k
theorem dL_law_1100 : decode cL_law 1100 = .ok (.iload_n 3, 1) := dk_29 (dk_at dksL_law_41 6 rfl rfl)
theorem iL_law_1100 {d : Nat} {r S : List MV} {M : MH} {Q : Out → MH → Prop} {w0 w1 w2 : MV} {z : Int} (k : MW mL_law d 1101 (w0 :: w1 :: w2 :: vi z :: r) (vi z :: S) M Q) : MW mL_law d 1100 (w0 :: w1 :: w2 :: vi z :: r) S M Q := mw_iload_n ⟨dL_law_1100, rfl⟩ rfl k
theorem dL_law_1101 : decode cL_law 1101 = .ok (.iconst 2, 1) := dk_5 (dk_at dksL_law_41 7 rfl rfl)
theorem iL_law_1101 {d : Nat} {L S : List MV} {M : MH} {Q : Out → MH → Prop}  (k : MW mL_law d 1102 (L) (vi 2 :: S) M Q) : MW mL_law d 1101 (L) S M Q := mw_iconst ⟨dL_law_1101, rfl⟩ k
theorem dL_law_1102 : decode cL_law 1102 = .ok (.iadd, 1) := dk_96 (dk_at dksL_law_41 8 rfl rfl)
theorem iL_law_1102 {d : Nat} {L S : List MV} {M : MH} {Q : Out → MH → Prop} {a b : Int} (k : MW mL_law d 1103 (L) (vi (a + b) :: S) M Q) : MW mL_law d 1102 (L) (vi b :: vi a :: S) M Q := mw_iadd ⟨dL_law_1102, rfl⟩ k
theorem dL_law_1103 : decode cL_law 1103 = .ok (.iaload, 1) := dk_46 (dk_at dksL_law_41 9 rfl rfl)
theorem iL_law_1103 {d : Nat} {L S : List MV} {M : MH} {Q : Out → MH → Prop} {a n : Nat} {z : Int} (hs : msh M a = (100, n)) (hi : 0 ≤ z ∧ z < n) (k : MW mL_law d 1104 L (vi (miv M a z.toNat) :: S) M Q) (hn : Nat.ble n 2147483647 = true := by rfl) : MW mL_law d 1103 L (vi z :: vp a :: S) M Q := mw_iaload ⟨dL_law_1103, rfl⟩ hs (Nat.le_of_ble_eq_true hn) hi k
theorem dL_law_1104 : decode cL_law 1104 = .ok (.aload_n 0, 1) := dk_42 (dk_at dksL_law_41 10 rfl rfl)
theorem iL_law_1104 {d : Nat} {r S : List MV} {M : MH} {Q : Out → MH → Prop} {o : Option Nat} (k : MW mL_law d 1105 (vr o :: r) (vr o :: S) M Q) : MW mL_law d 1104 (vr o :: r) S M Q := mw_aload_n ⟨dL_law_1104, rfl⟩ rfl k
theorem dL_law_1105 : decode cL_law 1105 = .ok (.iload_n 3, 1) := dk_29 (dk_at dksL_law_41 11 rfl rfl)
theorem iL_law_1105 {d : Nat} {r S : List MV} {M : MH} {Q : Out → MH → Prop} {w0 w1 w2 : MV} {z : Int} (k : MW mL_law d 1106 (w0 :: w1 :: w2 :: vi z :: r) (vi z :: S) M Q) : MW mL_law d 1105 (w0 :: w1 :: w2 :: vi z :: r) S M Q := mw_iload_n ⟨dL_law_1105, rfl⟩ rfl k
theorem dL_law_1106 : decode cL_law 1106 = .ok (.iconst 3, 1) := dk_6 (dk_at dksL_law_41 12 rfl rfl)
theorem iL_law_1106 {d : Nat} {L S : List MV} {M : MH} {Q : Out → MH → Prop}  (k : MW mL_law d 1107 (L) (vi 3 :: S) M Q) : MW mL_law d 1106 (L) S M Q := mw_iconst ⟨dL_law_1106, rfl⟩ k
theorem dL_law_1107 : decode cL_law 1107 = .ok (.iadd, 1) := dk_96 (dk_at dksL_law_41 13 rfl rfl)
theorem iL_law_1107 {d : Nat} {L S : List MV} {M : MH} {Q : Out → MH → Prop} {a b : Int} (k : MW mL_law d 1108 (L) (vi (a + b) :: S) M Q) : MW mL_law d 1107 (L) (vi b :: vi a :: S) M Q := mw_iadd ⟨dL_law_1107, rfl⟩ k
theorem dL_law_1108 : decode cL_law 1108 = .ok (.iaload, 1) := dk_46 (dk_at dksL_law_41 14 rfl rfl)
theorem iL_law_1108 {d : Nat} {L S : List MV} {M : MH} {Q : Out → MH → Prop} {a n : Nat} {z : Int} (hs : msh M a = (100, n)) (hi : 0 ≤ z ∧ z < n) (k : MW mL_law d 1109 L (vi (miv M a z.toNat) :: S) M Q) (hn : Nat.ble n 2147483647 = true := by rfl) : MW mL_law d 1108 L (vi z :: vp a :: S) M Q := mw_iaload ⟨dL_law_1108, rfl⟩ hs (Nat.le_of_ble_eq_true hn) hi k
theorem dL_law_1109 : decode cL_law 1109 = .ok (.aload_n 0, 1) := dk_42 (dk_at dksL_law_41 15 rfl rfl)
theorem iL_law_1109 {d : Nat} {r S : List MV} {M : MH} {Q : Out → MH → Prop} {o : Option Nat} (k : MW mL_law d 1110 (vr o :: r) (vr o :: S) M Q) : MW mL_law d 1109 (vr o :: r) S M Q := mw_aload_n ⟨dL_law_1109, rfl⟩ rfl k
theorem dL_law_1110 : decode cL_law 1110 = .ok (.iload_n 3, 1) := dk_29 (dk_at dksL_law_41 16 rfl rfl)
theorem iL_law_1110 {d : Nat} {r S : List MV} {M : MH} {Q : Out → MH → Prop} {w0 w1 w2 : MV} {z : Int} (k : MW mL_law d 1111 (w0 :: w1 :: w2 :: vi z :: r) (vi z :: S) M Q) : MW mL_law d 1110 (w0 :: w1 :: w2 :: vi z :: r) S M Q := mw_iload_n ⟨dL_law_1110, rfl⟩ rfl k
theorem dL_law_1111 : decode cL_law 1111 = .ok (.iconst 4, 1) := dk_7 (dk_at dksL_law_41 17 rfl rfl)
theorem iL_law_1111 {d : Nat} {L S : List MV} {M : MH} {Q : Out → MH → Prop}  (k : MW mL_law d 1112 (L) (vi 4 :: S) M Q) : MW mL_law d 1111 (L) S M Q := mw_iconst ⟨dL_law_1111, rfl⟩ k
theorem dL_law_1112 : decode cL_law 1112 = .ok (.iadd, 1) := dk_96 (dk_at dksL_law_41 18 rfl rfl)
theorem iL_law_1112 {d : Nat} {L S : List MV} {M : MH} {Q : Out → MH → Prop} {a b : Int} (k : MW mL_law d 1113 (L) (vi (a + b) :: S) M Q) : MW mL_law d 1112 (L) (vi b :: vi a :: S) M Q := mw_iadd ⟨dL_law_1112, rfl⟩ k
theorem dL_law_1113 : decode cL_law 1113 = .ok (.iaload, 1) := dk_46 (dk_at dksL_law_41 19 rfl rfl)
theorem iL_law_1113 {d : Nat} {L S : List MV} {M : MH} {Q : Out → MH → Prop} {a n : Nat} {z : Int} (hs : msh M a = (100, n)) (hi : 0 ≤ z ∧ z < n) (k : MW mL_law d 1114 L (vi (miv M a z.toNat) :: S) M Q) (hn : Nat.ble n 2147483647 = true := by rfl) : MW mL_law d 1113 L (vi z :: vp a :: S) M Q := mw_iaload ⟨dL_law_1113, rfl⟩ hs (Nat.le_of_ble_eq_true hn) hi k
theorem dL_law_1114 : decode cL_law 1114 = .ok (.invokevirtual 145, 3) := dk_182 0 145 (dk_at dksL_law_41 20 rfl rfl)
theorem iL_law_1114 {d : Nat} {L S : List MV} {M : MH} {Q : Out → MH → Prop} {v1 v2 v3 v4 : MV} {b : Nat} {P : Int → MH → Prop} (hs : (msh M b).1 = 10) (hM : MCi mX7_put d [vp b, v1, v2, v3, v4] M P) (k : ∀ z M', P z M' → MW mL_law (d + 1) 1117 L (vi z :: S) M' Q) (h8 : Nat.ble (S.map mcat).sum 8 = true := by rfl) : MW mL_law (d + 1) 1114 L (v4 :: v3 :: v2 :: v1 :: vp b :: S) M Q := mw_calli (as := [vp b, v1, v2, v3, v4]) (site_V (Y' := mX7_put) (n := 4) ⟨dL_law_1114, rfl⟩ (Or.inl q1555) q1556 q1557 wX7_put nX7_put hX7_put (cls_of (ci := 10) rfl hs) rfl) kX7_put (Nat.le_of_ble_eq_true h8) hM k
theorem dL_law_1117 : decode cL_law 1117 = .ok (.if_icmp .eq 171, 3) := dk_159 0 171 (dk_at dksL_law_42 0 rfl rfl)
theorem iL_law_1117 {d : Nat} {L S : List MV} {M : MH} {Q : Out → MH → Prop} {a b : Int} (ha : inR a) (hb : inR b) (kt : a = b → MW mL_law d 1288 L S M Q) (kf : ¬ a = b → MW mL_law d 1120 L S M Q) : MW mL_law d 1117 L (vi b :: vi a :: S) M Q := mw_icmp_eq ⟨dL_law_1117, rfl⟩ rfl ha hb kt kf
theorem dL_law_1120 : decode cL_law 1120 = .ok (.iconst 0, 1) := dk_3 (dk_at dksL_law_42 3 rfl rfl)
theorem iL_law_1120 {d : Nat} {L S : List MV} {M : MH} {Q : Out → MH → Prop}  (k : MW mL_law d 1121 (L) (vi 0 :: S) M Q) : MW mL_law d 1120 (L) S M Q := mw_iconst ⟨dL_law_1120, rfl⟩ k
theorem dL_law_1121 : decode cL_law 1121 = .ok (.ireturn, 1) := dk_172 (dk_at dksL_law_42 4 rfl rfl)
theorem iL_law_1121 {d : Nat} {L : List MV} {M : MH} {P : Int → MH → Prop} {z : Int} (hz : z = 0 ∨ z = 1) (hq : P z M) : MW mL_law d 1121 L [vi z] M (Ri P) := mw_retz ⟨dL_law_1121, rfl⟩ rfl hz hq
theorem dL_law_1122 : decode cL_law 1122 = .ok (.aload_n 1, 1) := dk_43 (dk_at dksL_law_42 5 rfl rfl)
theorem iL_law_1122 {d : Nat} {r S : List MV} {M : MH} {Q : Out → MH → Prop} {w0 : MV} {o : Option Nat} (k : MW mL_law d 1123 (w0 :: vr o :: r) (vr o :: S) M Q) : MW mL_law d 1122 (w0 :: vr o :: r) S M Q := mw_aload_n ⟨dL_law_1122, rfl⟩ rfl k
theorem dL_law_1123 : decode cL_law 1123 = .ok (.aload_n 0, 1) := dk_42 (dk_at dksL_law_42 6 rfl rfl)
theorem iL_law_1123 {d : Nat} {r S : List MV} {M : MH} {Q : Out → MH → Prop} {o : Option Nat} (k : MW mL_law d 1124 (vr o :: r) (vr o :: S) M Q) : MW mL_law d 1123 (vr o :: r) S M Q := mw_aload_n ⟨dL_law_1123, rfl⟩ rfl k
theorem dL_law_1124 : decode cL_law 1124 = .ok (.iload_n 3, 1) := dk_29 (dk_at dksL_law_42 7 rfl rfl)
theorem iL_law_1124 {d : Nat} {r S : List MV} {M : MH} {Q : Out → MH → Prop} {w0 w1 w2 : MV} {z : Int} (k : MW mL_law d 1125 (w0 :: w1 :: w2 :: vi z :: r) (vi z :: S) M Q) : MW mL_law d 1124 (w0 :: w1 :: w2 :: vi z :: r) S M Q := mw_iload_n ⟨dL_law_1124, rfl⟩ rfl k
theorem dL_law_1125 : decode cL_law 1125 = .ok (.iconst 1, 1) := dk_4 (dk_at dksL_law_42 8 rfl rfl)
theorem iL_law_1125 {d : Nat} {L S : List MV} {M : MH} {Q : Out → MH → Prop}  (k : MW mL_law d 1126 (L) (vi 1 :: S) M Q) : MW mL_law d 1125 (L) S M Q := mw_iconst ⟨dL_law_1125, rfl⟩ k
theorem dL_law_1126 : decode cL_law 1126 = .ok (.iadd, 1) := dk_96 (dk_at dksL_law_42 9 rfl rfl)
theorem iL_law_1126 {d : Nat} {L S : List MV} {M : MH} {Q : Out → MH → Prop} {a b : Int} (k : MW mL_law d 1127 (L) (vi (a + b) :: S) M Q) : MW mL_law d 1126 (L) (vi b :: vi a :: S) M Q := mw_iadd ⟨dL_law_1126, rfl⟩ k
theorem dL_law_1127 : decode cL_law 1127 = .ok (.iaload, 1) := dk_46 (dk_at dksL_law_42 10 rfl rfl)
theorem iL_law_1127 {d : Nat} {L S : List MV} {M : MH} {Q : Out → MH → Prop} {a n : Nat} {z : Int} (hs : msh M a = (100, n)) (hi : 0 ≤ z ∧ z < n) (k : MW mL_law d 1128 L (vi (miv M a z.toNat) :: S) M Q) (hn : Nat.ble n 2147483647 = true := by rfl) : MW mL_law d 1127 L (vi z :: vp a :: S) M Q := mw_iaload ⟨dL_law_1127, rfl⟩ hs (Nat.le_of_ble_eq_true hn) hi k
theorem dL_law_1128 : decode cL_law 1128 = .ok (.aload_n 0, 1) := dk_42 (dk_at dksL_law_42 11 rfl rfl)
theorem iL_law_1128 {d : Nat} {r S : List MV} {M : MH} {Q : Out → MH → Prop} {o : Option Nat} (k : MW mL_law d 1129 (vr o :: r) (vr o :: S) M Q) : MW mL_law d 1128 (vr o :: r) S M Q := mw_aload_n ⟨dL_law_1128, rfl⟩ rfl k
theorem dL_law_1129 : decode cL_law 1129 = .ok (.iload_n 3, 1) := dk_29 (dk_at dksL_law_42 12 rfl rfl)
theorem iL_law_1129 {d : Nat} {r S : List MV} {M : MH} {Q : Out → MH → Prop} {w0 w1 w2 : MV} {z : Int} (k : MW mL_law d 1130 (w0 :: w1 :: w2 :: vi z :: r) (vi z :: S) M Q) : MW mL_law d 1129 (w0 :: w1 :: w2 :: vi z :: r) S M Q := mw_iload_n ⟨dL_law_1129, rfl⟩ rfl k
theorem dL_law_1130 : decode cL_law 1130 = .ok (.iconst 2, 1) := dk_5 (dk_at dksL_law_42 13 rfl rfl)
theorem iL_law_1130 {d : Nat} {L S : List MV} {M : MH} {Q : Out → MH → Prop}  (k : MW mL_law d 1131 (L) (vi 2 :: S) M Q) : MW mL_law d 1130 (L) S M Q := mw_iconst ⟨dL_law_1130, rfl⟩ k
theorem dL_law_1131 : decode cL_law 1131 = .ok (.iadd, 1) := dk_96 (dk_at dksL_law_42 14 rfl rfl)
theorem iL_law_1131 {d : Nat} {L S : List MV} {M : MH} {Q : Out → MH → Prop} {a b : Int} (k : MW mL_law d 1132 (L) (vi (a + b) :: S) M Q) : MW mL_law d 1131 (L) (vi b :: vi a :: S) M Q := mw_iadd ⟨dL_law_1131, rfl⟩ k
theorem dL_law_1132 : decode cL_law 1132 = .ok (.iaload, 1) := dk_46 (dk_at dksL_law_42 15 rfl rfl)
theorem iL_law_1132 {d : Nat} {L S : List MV} {M : MH} {Q : Out → MH → Prop} {a n : Nat} {z : Int} (hs : msh M a = (100, n)) (hi : 0 ≤ z ∧ z < n) (k : MW mL_law d 1133 L (vi (miv M a z.toNat) :: S) M Q) (hn : Nat.ble n 2147483647 = true := by rfl) : MW mL_law d 1132 L (vi z :: vp a :: S) M Q := mw_iaload ⟨dL_law_1132, rfl⟩ hs (Nat.le_of_ble_eq_true hn) hi k
theorem dL_law_1133 : decode cL_law 1133 = .ok (.aload_n 0, 1) := dk_42 (dk_at dksL_law_42 16 rfl rfl)
theorem iL_law_1133 {d : Nat} {r S : List MV} {M : MH} {Q : Out → MH → Prop} {o : Option Nat} (k : MW mL_law d 1134 (vr o :: r) (vr o :: S) M Q) : MW mL_law d 1133 (vr o :: r) S M Q := mw_aload_n ⟨dL_law_1133, rfl⟩ rfl k
theorem dL_law_1134 : decode cL_law 1134 = .ok (.iload_n 3, 1) := dk_29 (dk_at dksL_law_42 17 rfl rfl)
theorem iL_law_1134 {d : Nat} {r S : List MV} {M : MH} {Q : Out → MH → Prop} {w0 w1 w2 : MV} {z : Int} (k : MW mL_law d 1135 (w0 :: w1 :: w2 :: vi z :: r) (vi z :: S) M Q) : MW mL_law d 1134 (w0 :: w1 :: w2 :: vi z :: r) S M Q := mw_iload_n ⟨dL_law_1134, rfl⟩ rfl k
theorem dL_law_1135 : decode cL_law 1135 = .ok (.iconst 3, 1) := dk_6 (dk_at dksL_law_42 18 rfl rfl)
theorem iL_law_1135 {d : Nat} {L S : List MV} {M : MH} {Q : Out → MH → Prop}  (k : MW mL_law d 1136 (L) (vi 3 :: S) M Q) : MW mL_law d 1135 (L) S M Q := mw_iconst ⟨dL_law_1135, rfl⟩ k
theorem dL_law_1136 : decode cL_law 1136 = .ok (.iadd, 1) := dk_96 (dk_at dksL_law_42 19 rfl rfl)
theorem iL_law_1136 {d : Nat} {L S : List MV} {M : MH} {Q : Out → MH → Prop} {a b : Int} (k : MW mL_law d 1137 (L) (vi (a + b) :: S) M Q) : MW mL_law d 1136 (L) (vi b :: vi a :: S) M Q := mw_iadd ⟨dL_law_1136, rfl⟩ k
theorem dL_law_1137 : decode cL_law 1137 = .ok (.iaload, 1) := dk_46 (dk_at dksL_law_42 20 rfl rfl)
theorem iL_law_1137 {d : Nat} {L S : List MV} {M : MH} {Q : Out → MH → Prop} {a n : Nat} {z : Int} (hs : msh M a = (100, n)) (hi : 0 ≤ z ∧ z < n) (k : MW mL_law d 1138 L (vi (miv M a z.toNat) :: S) M Q) (hn : Nat.ble n 2147483647 = true := by rfl) : MW mL_law d 1137 L (vi z :: vp a :: S) M Q := mw_iaload ⟨dL_law_1137, rfl⟩ hs (Nat.le_of_ble_eq_true hn) hi k
theorem dL_law_1138 : decode cL_law 1138 = .ok (.invokevirtual 146, 3) := dk_182 0 146 (dk_at dksL_law_42 21 rfl rfl)
theorem iL_law_1138 {d : Nat} {L S : List MV} {M : MH} {Q : Out → MH → Prop} {v1 v2 v3 : MV} {b : Nat} {P : Int → MH → Prop} (hs : (msh M b).1 = 0) (hM : MCi mX0_get d [vp b, v1, v2, v3] M P) (k : ∀ z M', P z M' → MW mL_law (d + 1) 1141 L (vi z :: S) M' Q) (h8 : Nat.ble (S.map mcat).sum 8 = true := by rfl) : MW mL_law (d + 1) 1138 L (v3 :: v2 :: v1 :: vp b :: S) M Q := mw_calli (as := [vp b, v1, v2, v3]) (site_V (Y' := mX0_get) (n := 3) ⟨dL_law_1138, rfl⟩ (Or.inl q1124) q1125 q1126 wX0_get nX0_get hX0_get (cls_of (ci := 0) rfl hs) rfl) kX0_get (Nat.le_of_ble_eq_true h8) hM k
theorem dL_law_1141 : decode cL_law 1141 = .ok (.aload_n 2, 1) := dk_44 (dk_at dksL_law_43 0 rfl rfl)
theorem iL_law_1141 {d : Nat} {r S : List MV} {M : MH} {Q : Out → MH → Prop} {w0 w1 : MV} {o : Option Nat} (k : MW mL_law d 1142 (w0 :: w1 :: vr o :: r) (vr o :: S) M Q) : MW mL_law d 1141 (w0 :: w1 :: vr o :: r) S M Q := mw_aload_n ⟨dL_law_1141, rfl⟩ rfl k
theorem dL_law_1142 : decode cL_law 1142 = .ok (.aload_n 0, 1) := dk_42 (dk_at dksL_law_43 1 rfl rfl)
theorem iL_law_1142 {d : Nat} {r S : List MV} {M : MH} {Q : Out → MH → Prop} {o : Option Nat} (k : MW mL_law d 1143 (vr o :: r) (vr o :: S) M Q) : MW mL_law d 1142 (vr o :: r) S M Q := mw_aload_n ⟨dL_law_1142, rfl⟩ rfl k
theorem dL_law_1143 : decode cL_law 1143 = .ok (.iload_n 3, 1) := dk_29 (dk_at dksL_law_43 2 rfl rfl)
theorem iL_law_1143 {d : Nat} {r S : List MV} {M : MH} {Q : Out → MH → Prop} {w0 w1 w2 : MV} {z : Int} (k : MW mL_law d 1144 (w0 :: w1 :: w2 :: vi z :: r) (vi z :: S) M Q) : MW mL_law d 1143 (w0 :: w1 :: w2 :: vi z :: r) S M Q := mw_iload_n ⟨dL_law_1143, rfl⟩ rfl k
theorem dL_law_1144 : decode cL_law 1144 = .ok (.iconst 1, 1) := dk_4 (dk_at dksL_law_43 3 rfl rfl)
theorem iL_law_1144 {d : Nat} {L S : List MV} {M : MH} {Q : Out → MH → Prop}  (k : MW mL_law d 1145 (L) (vi 1 :: S) M Q) : MW mL_law d 1144 (L) S M Q := mw_iconst ⟨dL_law_1144, rfl⟩ k
theorem dL_law_1145 : decode cL_law 1145 = .ok (.iadd, 1) := dk_96 (dk_at dksL_law_43 4 rfl rfl)
theorem iL_law_1145 {d : Nat} {L S : List MV} {M : MH} {Q : Out → MH → Prop} {a b : Int} (k : MW mL_law d 1146 (L) (vi (a + b) :: S) M Q) : MW mL_law d 1145 (L) (vi b :: vi a :: S) M Q := mw_iadd ⟨dL_law_1145, rfl⟩ k
theorem dL_law_1146 : decode cL_law 1146 = .ok (.iaload, 1) := dk_46 (dk_at dksL_law_43 5 rfl rfl)
theorem iL_law_1146 {d : Nat} {L S : List MV} {M : MH} {Q : Out → MH → Prop} {a n : Nat} {z : Int} (hs : msh M a = (100, n)) (hi : 0 ≤ z ∧ z < n) (k : MW mL_law d 1147 L (vi (miv M a z.toNat) :: S) M Q) (hn : Nat.ble n 2147483647 = true := by rfl) : MW mL_law d 1146 L (vi z :: vp a :: S) M Q := mw_iaload ⟨dL_law_1146, rfl⟩ hs (Nat.le_of_ble_eq_true hn) hi k
theorem dL_law_1147 : decode cL_law 1147 = .ok (.aload_n 0, 1) := dk_42 (dk_at dksL_law_43 6 rfl rfl)
theorem iL_law_1147 {d : Nat} {r S : List MV} {M : MH} {Q : Out → MH → Prop} {o : Option Nat} (k : MW mL_law d 1148 (vr o :: r) (vr o :: S) M Q) : MW mL_law d 1147 (vr o :: r) S M Q := mw_aload_n ⟨dL_law_1147, rfl⟩ rfl k
theorem dL_law_1148 : decode cL_law 1148 = .ok (.iload_n 3, 1) := dk_29 (dk_at dksL_law_43 7 rfl rfl)
theorem iL_law_1148 {d : Nat} {r S : List MV} {M : MH} {Q : Out → MH → Prop} {w0 w1 w2 : MV} {z : Int} (k : MW mL_law d 1149 (w0 :: w1 :: w2 :: vi z :: r) (vi z :: S) M Q) : MW mL_law d 1148 (w0 :: w1 :: w2 :: vi z :: r) S M Q := mw_iload_n ⟨dL_law_1148, rfl⟩ rfl k
theorem dL_law_1149 : decode cL_law 1149 = .ok (.iconst 2, 1) := dk_5 (dk_at dksL_law_43 8 rfl rfl)
theorem iL_law_1149 {d : Nat} {L S : List MV} {M : MH} {Q : Out → MH → Prop}  (k : MW mL_law d 1150 (L) (vi 2 :: S) M Q) : MW mL_law d 1149 (L) S M Q := mw_iconst ⟨dL_law_1149, rfl⟩ k
theorem dL_law_1150 : decode cL_law 1150 = .ok (.iadd, 1) := dk_96 (dk_at dksL_law_43 9 rfl rfl)
theorem iL_law_1150 {d : Nat} {L S : List MV} {M : MH} {Q : Out → MH → Prop} {a b : Int} (k : MW mL_law d 1151 (L) (vi (a + b) :: S) M Q) : MW mL_law d 1150 (L) (vi b :: vi a :: S) M Q := mw_iadd ⟨dL_law_1150, rfl⟩ k
theorem dL_law_1151 : decode cL_law 1151 = .ok (.iaload, 1) := dk_46 (dk_at dksL_law_43 10 rfl rfl)
theorem iL_law_1151 {d : Nat} {L S : List MV} {M : MH} {Q : Out → MH → Prop} {a n : Nat} {z : Int} (hs : msh M a = (100, n)) (hi : 0 ≤ z ∧ z < n) (k : MW mL_law d 1152 L (vi (miv M a z.toNat) :: S) M Q) (hn : Nat.ble n 2147483647 = true := by rfl) : MW mL_law d 1151 L (vi z :: vp a :: S) M Q := mw_iaload ⟨dL_law_1151, rfl⟩ hs (Nat.le_of_ble_eq_true hn) hi k
theorem dL_law_1152 : decode cL_law 1152 = .ok (.aload_n 0, 1) := dk_42 (dk_at dksL_law_43 11 rfl rfl)
theorem iL_law_1152 {d : Nat} {r S : List MV} {M : MH} {Q : Out → MH → Prop} {o : Option Nat} (k : MW mL_law d 1153 (vr o :: r) (vr o :: S) M Q) : MW mL_law d 1152 (vr o :: r) S M Q := mw_aload_n ⟨dL_law_1152, rfl⟩ rfl k
theorem dL_law_1153 : decode cL_law 1153 = .ok (.iload_n 3, 1) := dk_29 (dk_at dksL_law_43 12 rfl rfl)
theorem iL_law_1153 {d : Nat} {r S : List MV} {M : MH} {Q : Out → MH → Prop} {w0 w1 w2 : MV} {z : Int} (k : MW mL_law d 1154 (w0 :: w1 :: w2 :: vi z :: r) (vi z :: S) M Q) : MW mL_law d 1153 (w0 :: w1 :: w2 :: vi z :: r) S M Q := mw_iload_n ⟨dL_law_1153, rfl⟩ rfl k
theorem dL_law_1154 : decode cL_law 1154 = .ok (.iconst 3, 1) := dk_6 (dk_at dksL_law_43 13 rfl rfl)
theorem iL_law_1154 {d : Nat} {L S : List MV} {M : MH} {Q : Out → MH → Prop}  (k : MW mL_law d 1155 (L) (vi 3 :: S) M Q) : MW mL_law d 1154 (L) S M Q := mw_iconst ⟨dL_law_1154, rfl⟩ k
theorem dL_law_1155 : decode cL_law 1155 = .ok (.iadd, 1) := dk_96 (dk_at dksL_law_43 14 rfl rfl)
theorem iL_law_1155 {d : Nat} {L S : List MV} {M : MH} {Q : Out → MH → Prop} {a b : Int} (k : MW mL_law d 1156 (L) (vi (a + b) :: S) M Q) : MW mL_law d 1155 (L) (vi b :: vi a :: S) M Q := mw_iadd ⟨dL_law_1155, rfl⟩ k
theorem dL_law_1156 : decode cL_law 1156 = .ok (.iaload, 1) := dk_46 (dk_at dksL_law_43 15 rfl rfl)
theorem iL_law_1156 {d : Nat} {L S : List MV} {M : MH} {Q : Out → MH → Prop} {a n : Nat} {z : Int} (hs : msh M a = (100, n)) (hi : 0 ≤ z ∧ z < n) (k : MW mL_law d 1157 L (vi (miv M a z.toNat) :: S) M Q) (hn : Nat.ble n 2147483647 = true := by rfl) : MW mL_law d 1156 L (vi z :: vp a :: S) M Q := mw_iaload ⟨dL_law_1156, rfl⟩ hs (Nat.le_of_ble_eq_true hn) hi k
theorem dL_law_1157 : decode cL_law 1157 = .ok (.invokevirtual 149, 3) := dk_182 0 149 (dk_at dksL_law_43 16 rfl rfl)
theorem iL_law_1157 {d : Nat} {L S : List MV} {M : MH} {Q : Out → MH → Prop} {v1 v2 v3 : MV} {b : Nat} {P : Int → MH → Prop} (hs : (msh M b).1 = 10) (hM : MCi mX7_get d [vp b, v1, v2, v3] M P) (k : ∀ z M', P z M' → MW mL_law (d + 1) 1160 L (vi z :: S) M' Q) (h8 : Nat.ble (S.map mcat).sum 8 = true := by rfl) : MW mL_law (d + 1) 1157 L (v3 :: v2 :: v1 :: vp b :: S) M Q := mw_calli (as := [vp b, v1, v2, v3]) (site_V (Y' := mX7_get) (n := 3) ⟨dL_law_1157, rfl⟩ (Or.inl q1567) q1568 q1569 wX7_get nX7_get hX7_get (cls_of (ci := 10) rfl hs) rfl) kX7_get (Nat.le_of_ble_eq_true h8) hM k
theorem dL_law_1160 : decode cL_law 1160 = .ok (.if_icmp .eq 128, 3) := dk_159 0 128 (dk_at dksL_law_43 19 rfl rfl)
theorem iL_law_1160 {d : Nat} {L S : List MV} {M : MH} {Q : Out → MH → Prop} {a b : Int} (ha : inR a) (hb : inR b) (kt : a = b → MW mL_law d 1288 L S M Q) (kf : ¬ a = b → MW mL_law d 1163 L S M Q) : MW mL_law d 1160 L (vi b :: vi a :: S) M Q := mw_icmp_eq ⟨dL_law_1160, rfl⟩ rfl ha hb kt kf
theorem dL_law_1163 : decode cL_law 1163 = .ok (.iconst 0, 1) := dk_3 (dk_at dksL_law_43 22 rfl rfl)
theorem iL_law_1163 {d : Nat} {L S : List MV} {M : MH} {Q : Out → MH → Prop}  (k : MW mL_law d 1164 (L) (vi 0 :: S) M Q) : MW mL_law d 1163 (L) S M Q := mw_iconst ⟨dL_law_1163, rfl⟩ k
theorem dL_law_1164 : decode cL_law 1164 = .ok (.ireturn, 1) := dk_172 (dk_at dksL_law_43 23 rfl rfl)
theorem iL_law_1164 {d : Nat} {L : List MV} {M : MH} {P : Int → MH → Prop} {z : Int} (hz : z = 0 ∨ z = 1) (hq : P z M) : MW mL_law d 1164 L [vi z] M (Ri P) := mw_retz ⟨dL_law_1164, rfl⟩ rfl hz hq
theorem dL_law_1165 : decode cL_law 1165 = .ok (.aload_n 1, 1) := dk_43 (dk_at dksL_law_44 0 rfl rfl)
theorem iL_law_1165 {d : Nat} {r S : List MV} {M : MH} {Q : Out → MH → Prop} {w0 : MV} {o : Option Nat} (k : MW mL_law d 1166 (w0 :: vr o :: r) (vr o :: S) M Q) : MW mL_law d 1165 (w0 :: vr o :: r) S M Q := mw_aload_n ⟨dL_law_1165, rfl⟩ rfl k
theorem dL_law_1166 : decode cL_law 1166 = .ok (.aload_n 0, 1) := dk_42 (dk_at dksL_law_44 1 rfl rfl)
theorem iL_law_1166 {d : Nat} {r S : List MV} {M : MH} {Q : Out → MH → Prop} {o : Option Nat} (k : MW mL_law d 1167 (vr o :: r) (vr o :: S) M Q) : MW mL_law d 1166 (vr o :: r) S M Q := mw_aload_n ⟨dL_law_1166, rfl⟩ rfl k
theorem dL_law_1167 : decode cL_law 1167 = .ok (.iload_n 3, 1) := dk_29 (dk_at dksL_law_44 2 rfl rfl)
theorem iL_law_1167 {d : Nat} {r S : List MV} {M : MH} {Q : Out → MH → Prop} {w0 w1 w2 : MV} {z : Int} (k : MW mL_law d 1168 (w0 :: w1 :: w2 :: vi z :: r) (vi z :: S) M Q) : MW mL_law d 1167 (w0 :: w1 :: w2 :: vi z :: r) S M Q := mw_iload_n ⟨dL_law_1167, rfl⟩ rfl k
theorem dL_law_1168 : decode cL_law 1168 = .ok (.iconst 1, 1) := dk_4 (dk_at dksL_law_44 3 rfl rfl)
theorem iL_law_1168 {d : Nat} {L S : List MV} {M : MH} {Q : Out → MH → Prop}  (k : MW mL_law d 1169 (L) (vi 1 :: S) M Q) : MW mL_law d 1168 (L) S M Q := mw_iconst ⟨dL_law_1168, rfl⟩ k
theorem dL_law_1169 : decode cL_law 1169 = .ok (.iadd, 1) := dk_96 (dk_at dksL_law_44 4 rfl rfl)
theorem iL_law_1169 {d : Nat} {L S : List MV} {M : MH} {Q : Out → MH → Prop} {a b : Int} (k : MW mL_law d 1170 (L) (vi (a + b) :: S) M Q) : MW mL_law d 1169 (L) (vi b :: vi a :: S) M Q := mw_iadd ⟨dL_law_1169, rfl⟩ k
theorem dL_law_1170 : decode cL_law 1170 = .ok (.iaload, 1) := dk_46 (dk_at dksL_law_44 5 rfl rfl)
theorem iL_law_1170 {d : Nat} {L S : List MV} {M : MH} {Q : Out → MH → Prop} {a n : Nat} {z : Int} (hs : msh M a = (100, n)) (hi : 0 ≤ z ∧ z < n) (k : MW mL_law d 1171 L (vi (miv M a z.toNat) :: S) M Q) (hn : Nat.ble n 2147483647 = true := by rfl) : MW mL_law d 1170 L (vi z :: vp a :: S) M Q := mw_iaload ⟨dL_law_1170, rfl⟩ hs (Nat.le_of_ble_eq_true hn) hi k
theorem dL_law_1171 : decode cL_law 1171 = .ok (.aload_n 0, 1) := dk_42 (dk_at dksL_law_44 6 rfl rfl)
theorem iL_law_1171 {d : Nat} {r S : List MV} {M : MH} {Q : Out → MH → Prop} {o : Option Nat} (k : MW mL_law d 1172 (vr o :: r) (vr o :: S) M Q) : MW mL_law d 1171 (vr o :: r) S M Q := mw_aload_n ⟨dL_law_1171, rfl⟩ rfl k
theorem dL_law_1172 : decode cL_law 1172 = .ok (.iload_n 3, 1) := dk_29 (dk_at dksL_law_44 7 rfl rfl)
theorem iL_law_1172 {d : Nat} {r S : List MV} {M : MH} {Q : Out → MH → Prop} {w0 w1 w2 : MV} {z : Int} (k : MW mL_law d 1173 (w0 :: w1 :: w2 :: vi z :: r) (vi z :: S) M Q) : MW mL_law d 1172 (w0 :: w1 :: w2 :: vi z :: r) S M Q := mw_iload_n ⟨dL_law_1172, rfl⟩ rfl k
theorem dL_law_1173 : decode cL_law 1173 = .ok (.iconst 2, 1) := dk_5 (dk_at dksL_law_44 8 rfl rfl)
theorem iL_law_1173 {d : Nat} {L S : List MV} {M : MH} {Q : Out → MH → Prop}  (k : MW mL_law d 1174 (L) (vi 2 :: S) M Q) : MW mL_law d 1173 (L) S M Q := mw_iconst ⟨dL_law_1173, rfl⟩ k
theorem dL_law_1174 : decode cL_law 1174 = .ok (.iadd, 1) := dk_96 (dk_at dksL_law_44 9 rfl rfl)
theorem iL_law_1174 {d : Nat} {L S : List MV} {M : MH} {Q : Out → MH → Prop} {a b : Int} (k : MW mL_law d 1175 (L) (vi (a + b) :: S) M Q) : MW mL_law d 1174 (L) (vi b :: vi a :: S) M Q := mw_iadd ⟨dL_law_1174, rfl⟩ k
theorem dL_law_1175 : decode cL_law 1175 = .ok (.iaload, 1) := dk_46 (dk_at dksL_law_44 10 rfl rfl)
theorem iL_law_1175 {d : Nat} {L S : List MV} {M : MH} {Q : Out → MH → Prop} {a n : Nat} {z : Int} (hs : msh M a = (100, n)) (hi : 0 ≤ z ∧ z < n) (k : MW mL_law d 1176 L (vi (miv M a z.toNat) :: S) M Q) (hn : Nat.ble n 2147483647 = true := by rfl) : MW mL_law d 1175 L (vi z :: vp a :: S) M Q := mw_iaload ⟨dL_law_1175, rfl⟩ hs (Nat.le_of_ble_eq_true hn) hi k
theorem dL_law_1176 : decode cL_law 1176 = .ok (.aload_n 0, 1) := dk_42 (dk_at dksL_law_44 11 rfl rfl)
theorem iL_law_1176 {d : Nat} {r S : List MV} {M : MH} {Q : Out → MH → Prop} {o : Option Nat} (k : MW mL_law d 1177 (vr o :: r) (vr o :: S) M Q) : MW mL_law d 1176 (vr o :: r) S M Q := mw_aload_n ⟨dL_law_1176, rfl⟩ rfl k
theorem dL_law_1177 : decode cL_law 1177 = .ok (.iload_n 3, 1) := dk_29 (dk_at dksL_law_44 12 rfl rfl)
theorem iL_law_1177 {d : Nat} {r S : List MV} {M : MH} {Q : Out → MH → Prop} {w0 w1 w2 : MV} {z : Int} (k : MW mL_law d 1178 (w0 :: w1 :: w2 :: vi z :: r) (vi z :: S) M Q) : MW mL_law d 1177 (w0 :: w1 :: w2 :: vi z :: r) S M Q := mw_iload_n ⟨dL_law_1177, rfl⟩ rfl k
theorem dL_law_1178 : decode cL_law 1178 = .ok (.iconst 3, 1) := dk_6 (dk_at dksL_law_44 13 rfl rfl)
theorem iL_law_1178 {d : Nat} {L S : List MV} {M : MH} {Q : Out → MH → Prop}  (k : MW mL_law d 1179 (L) (vi 3 :: S) M Q) : MW mL_law d 1178 (L) S M Q := mw_iconst ⟨dL_law_1178, rfl⟩ k
theorem dL_law_1179 : decode cL_law 1179 = .ok (.iadd, 1) := dk_96 (dk_at dksL_law_44 14 rfl rfl)
theorem iL_law_1179 {d : Nat} {L S : List MV} {M : MH} {Q : Out → MH → Prop} {a b : Int} (k : MW mL_law d 1180 (L) (vi (a + b) :: S) M Q) : MW mL_law d 1179 (L) (vi b :: vi a :: S) M Q := mw_iadd ⟨dL_law_1179, rfl⟩ k
theorem dL_law_1180 : decode cL_law 1180 = .ok (.iaload, 1) := dk_46 (dk_at dksL_law_44 15 rfl rfl)
theorem iL_law_1180 {d : Nat} {L S : List MV} {M : MH} {Q : Out → MH → Prop} {a n : Nat} {z : Int} (hs : msh M a = (100, n)) (hi : 0 ≤ z ∧ z < n) (k : MW mL_law d 1181 L (vi (miv M a z.toNat) :: S) M Q) (hn : Nat.ble n 2147483647 = true := by rfl) : MW mL_law d 1180 L (vi z :: vp a :: S) M Q := mw_iaload ⟨dL_law_1180, rfl⟩ hs (Nat.le_of_ble_eq_true hn) hi k
theorem dL_law_1181 : decode cL_law 1181 = .ok (.aload_n 0, 1) := dk_42 (dk_at dksL_law_44 16 rfl rfl)
theorem iL_law_1181 {d : Nat} {r S : List MV} {M : MH} {Q : Out → MH → Prop} {o : Option Nat} (k : MW mL_law d 1182 (vr o :: r) (vr o :: S) M Q) : MW mL_law d 1181 (vr o :: r) S M Q := mw_aload_n ⟨dL_law_1181, rfl⟩ rfl k
theorem dL_law_1182 : decode cL_law 1182 = .ok (.iload_n 3, 1) := dk_29 (dk_at dksL_law_44 17 rfl rfl)
theorem iL_law_1182 {d : Nat} {r S : List MV} {M : MH} {Q : Out → MH → Prop} {w0 w1 w2 : MV} {z : Int} (k : MW mL_law d 1183 (w0 :: w1 :: w2 :: vi z :: r) (vi z :: S) M Q) : MW mL_law d 1182 (w0 :: w1 :: w2 :: vi z :: r) S M Q := mw_iload_n ⟨dL_law_1182, rfl⟩ rfl k
theorem dL_law_1183 : decode cL_law 1183 = .ok (.iconst 4, 1) := dk_7 (dk_at dksL_law_44 18 rfl rfl)
theorem iL_law_1183 {d : Nat} {L S : List MV} {M : MH} {Q : Out → MH → Prop}  (k : MW mL_law d 1184 (L) (vi 4 :: S) M Q) : MW mL_law d 1183 (L) S M Q := mw_iconst ⟨dL_law_1183, rfl⟩ k
theorem dL_law_1184 : decode cL_law 1184 = .ok (.iadd, 1) := dk_96 (dk_at dksL_law_44 19 rfl rfl)
theorem iL_law_1184 {d : Nat} {L S : List MV} {M : MH} {Q : Out → MH → Prop} {a b : Int} (k : MW mL_law d 1185 (L) (vi (a + b) :: S) M Q) : MW mL_law d 1184 (L) (vi b :: vi a :: S) M Q := mw_iadd ⟨dL_law_1184, rfl⟩ k
theorem dL_law_1185 : decode cL_law 1185 = .ok (.iaload, 1) := dk_46 (dk_at dksL_law_44 20 rfl rfl)
theorem iL_law_1185 {d : Nat} {L S : List MV} {M : MH} {Q : Out → MH → Prop} {a n : Nat} {z : Int} (hs : msh M a = (100, n)) (hi : 0 ≤ z ∧ z < n) (k : MW mL_law d 1186 L (vi (miv M a z.toNat) :: S) M Q) (hn : Nat.ble n 2147483647 = true := by rfl) : MW mL_law d 1185 L (vi z :: vp a :: S) M Q := mw_iaload ⟨dL_law_1185, rfl⟩ hs (Nat.le_of_ble_eq_true hn) hi k
theorem dL_law_1186 : decode cL_law 1186 = .ok (.aload_n 0, 1) := dk_42 (dk_at dksL_law_44 21 rfl rfl)
theorem iL_law_1186 {d : Nat} {r S : List MV} {M : MH} {Q : Out → MH → Prop} {o : Option Nat} (k : MW mL_law d 1187 (vr o :: r) (vr o :: S) M Q) : MW mL_law d 1186 (vr o :: r) S M Q := mw_aload_n ⟨dL_law_1186, rfl⟩ rfl k
theorem dL_law_1187 : decode cL_law 1187 = .ok (.iload_n 3, 1) := dk_29 (dk_at dksL_law_44 22 rfl rfl)
theorem iL_law_1187 {d : Nat} {r S : List MV} {M : MH} {Q : Out → MH → Prop} {w0 w1 w2 : MV} {z : Int} (k : MW mL_law d 1188 (w0 :: w1 :: w2 :: vi z :: r) (vi z :: S) M Q) : MW mL_law d 1187 (w0 :: w1 :: w2 :: vi z :: r) S M Q := mw_iload_n ⟨dL_law_1187, rfl⟩ rfl k
theorem dL_law_1188 : decode cL_law 1188 = .ok (.iconst 5, 1) := dk_8 (dk_at dksL_law_44 23 rfl rfl)
theorem iL_law_1188 {d : Nat} {L S : List MV} {M : MH} {Q : Out → MH → Prop}  (k : MW mL_law d 1189 (L) (vi 5 :: S) M Q) : MW mL_law d 1188 (L) S M Q := mw_iconst ⟨dL_law_1188, rfl⟩ k
theorem dL_law_1189 : decode cL_law 1189 = .ok (.iadd, 1) := dk_96 (dk_at dksL_law_45 0 rfl rfl)
theorem iL_law_1189 {d : Nat} {L S : List MV} {M : MH} {Q : Out → MH → Prop} {a b : Int} (k : MW mL_law d 1190 (L) (vi (a + b) :: S) M Q) : MW mL_law d 1189 (L) (vi b :: vi a :: S) M Q := mw_iadd ⟨dL_law_1189, rfl⟩ k
theorem dL_law_1190 : decode cL_law 1190 = .ok (.iaload, 1) := dk_46 (dk_at dksL_law_45 1 rfl rfl)
theorem iL_law_1190 {d : Nat} {L S : List MV} {M : MH} {Q : Out → MH → Prop} {a n : Nat} {z : Int} (hs : msh M a = (100, n)) (hi : 0 ≤ z ∧ z < n) (k : MW mL_law d 1191 L (vi (miv M a z.toNat) :: S) M Q) (hn : Nat.ble n 2147483647 = true := by rfl) : MW mL_law d 1190 L (vi z :: vp a :: S) M Q := mw_iaload ⟨dL_law_1190, rfl⟩ hs (Nat.le_of_ble_eq_true hn) hi k
theorem dL_law_1191 : decode cL_law 1191 = .ok (.invokevirtual 150, 3) := dk_182 0 150 (dk_at dksL_law_45 2 rfl rfl)
theorem iL_law_1191 {d : Nat} {L S : List MV} {M : MH} {Q : Out → MH → Prop} {v1 v2 v3 v4 v5 : MV} {b : Nat} {P : Int → MH → Prop} (hs : (msh M b).1 = 0) (hM : MCi mX0_copy d [vp b, v1, v2, v3, v4, v5] M P) (k : ∀ z M', P z M' → MW mL_law (d + 1) 1194 L (vi z :: S) M' Q) (h8 : Nat.ble (S.map mcat).sum 8 = true := by rfl) : MW mL_law (d + 1) 1191 L (v5 :: v4 :: v3 :: v2 :: v1 :: vp b :: S) M Q := mw_calli (as := [vp b, v1, v2, v3, v4, v5]) (site_V (Y' := mX0_copy) (n := 5) ⟨dL_law_1191, rfl⟩ (Or.inl q1133) q1134 q1135 wX0_copy nX0_copy hX0_copy (cls_of (ci := 0) rfl hs) rfl) kX0_copy (Nat.le_of_ble_eq_true h8) hM k
theorem dL_law_1194 : decode cL_law 1194 = .ok (.aload_n 2, 1) := dk_44 (dk_at dksL_law_45 5 rfl rfl)
theorem iL_law_1194 {d : Nat} {r S : List MV} {M : MH} {Q : Out → MH → Prop} {w0 w1 : MV} {o : Option Nat} (k : MW mL_law d 1195 (w0 :: w1 :: vr o :: r) (vr o :: S) M Q) : MW mL_law d 1194 (w0 :: w1 :: vr o :: r) S M Q := mw_aload_n ⟨dL_law_1194, rfl⟩ rfl k
theorem dL_law_1195 : decode cL_law 1195 = .ok (.aload_n 0, 1) := dk_42 (dk_at dksL_law_45 6 rfl rfl)
theorem iL_law_1195 {d : Nat} {r S : List MV} {M : MH} {Q : Out → MH → Prop} {o : Option Nat} (k : MW mL_law d 1196 (vr o :: r) (vr o :: S) M Q) : MW mL_law d 1195 (vr o :: r) S M Q := mw_aload_n ⟨dL_law_1195, rfl⟩ rfl k
theorem dL_law_1196 : decode cL_law 1196 = .ok (.iload_n 3, 1) := dk_29 (dk_at dksL_law_45 7 rfl rfl)
theorem iL_law_1196 {d : Nat} {r S : List MV} {M : MH} {Q : Out → MH → Prop} {w0 w1 w2 : MV} {z : Int} (k : MW mL_law d 1197 (w0 :: w1 :: w2 :: vi z :: r) (vi z :: S) M Q) : MW mL_law d 1196 (w0 :: w1 :: w2 :: vi z :: r) S M Q := mw_iload_n ⟨dL_law_1196, rfl⟩ rfl k
theorem dL_law_1197 : decode cL_law 1197 = .ok (.iconst 1, 1) := dk_4 (dk_at dksL_law_45 8 rfl rfl)
theorem iL_law_1197 {d : Nat} {L S : List MV} {M : MH} {Q : Out → MH → Prop}  (k : MW mL_law d 1198 (L) (vi 1 :: S) M Q) : MW mL_law d 1197 (L) S M Q := mw_iconst ⟨dL_law_1197, rfl⟩ k
theorem dL_law_1198 : decode cL_law 1198 = .ok (.iadd, 1) := dk_96 (dk_at dksL_law_45 9 rfl rfl)
theorem iL_law_1198 {d : Nat} {L S : List MV} {M : MH} {Q : Out → MH → Prop} {a b : Int} (k : MW mL_law d 1199 (L) (vi (a + b) :: S) M Q) : MW mL_law d 1198 (L) (vi b :: vi a :: S) M Q := mw_iadd ⟨dL_law_1198, rfl⟩ k
theorem dL_law_1199 : decode cL_law 1199 = .ok (.iaload, 1) := dk_46 (dk_at dksL_law_45 10 rfl rfl)
theorem iL_law_1199 {d : Nat} {L S : List MV} {M : MH} {Q : Out → MH → Prop} {a n : Nat} {z : Int} (hs : msh M a = (100, n)) (hi : 0 ≤ z ∧ z < n) (k : MW mL_law d 1200 L (vi (miv M a z.toNat) :: S) M Q) (hn : Nat.ble n 2147483647 = true := by rfl) : MW mL_law d 1199 L (vi z :: vp a :: S) M Q := mw_iaload ⟨dL_law_1199, rfl⟩ hs (Nat.le_of_ble_eq_true hn) hi k
theorem dL_law_1200 : decode cL_law 1200 = .ok (.aload_n 0, 1) := dk_42 (dk_at dksL_law_45 11 rfl rfl)
theorem iL_law_1200 {d : Nat} {r S : List MV} {M : MH} {Q : Out → MH → Prop} {o : Option Nat} (k : MW mL_law d 1201 (vr o :: r) (vr o :: S) M Q) : MW mL_law d 1200 (vr o :: r) S M Q := mw_aload_n ⟨dL_law_1200, rfl⟩ rfl k
theorem dL_law_1201 : decode cL_law 1201 = .ok (.iload_n 3, 1) := dk_29 (dk_at dksL_law_45 12 rfl rfl)
theorem iL_law_1201 {d : Nat} {r S : List MV} {M : MH} {Q : Out → MH → Prop} {w0 w1 w2 : MV} {z : Int} (k : MW mL_law d 1202 (w0 :: w1 :: w2 :: vi z :: r) (vi z :: S) M Q) : MW mL_law d 1201 (w0 :: w1 :: w2 :: vi z :: r) S M Q := mw_iload_n ⟨dL_law_1201, rfl⟩ rfl k
theorem dL_law_1202 : decode cL_law 1202 = .ok (.iconst 2, 1) := dk_5 (dk_at dksL_law_45 13 rfl rfl)
theorem iL_law_1202 {d : Nat} {L S : List MV} {M : MH} {Q : Out → MH → Prop}  (k : MW mL_law d 1203 (L) (vi 2 :: S) M Q) : MW mL_law d 1202 (L) S M Q := mw_iconst ⟨dL_law_1202, rfl⟩ k
theorem dL_law_1203 : decode cL_law 1203 = .ok (.iadd, 1) := dk_96 (dk_at dksL_law_45 14 rfl rfl)
theorem iL_law_1203 {d : Nat} {L S : List MV} {M : MH} {Q : Out → MH → Prop} {a b : Int} (k : MW mL_law d 1204 (L) (vi (a + b) :: S) M Q) : MW mL_law d 1203 (L) (vi b :: vi a :: S) M Q := mw_iadd ⟨dL_law_1203, rfl⟩ k
theorem dL_law_1204 : decode cL_law 1204 = .ok (.iaload, 1) := dk_46 (dk_at dksL_law_45 15 rfl rfl)
theorem iL_law_1204 {d : Nat} {L S : List MV} {M : MH} {Q : Out → MH → Prop} {a n : Nat} {z : Int} (hs : msh M a = (100, n)) (hi : 0 ≤ z ∧ z < n) (k : MW mL_law d 1205 L (vi (miv M a z.toNat) :: S) M Q) (hn : Nat.ble n 2147483647 = true := by rfl) : MW mL_law d 1204 L (vi z :: vp a :: S) M Q := mw_iaload ⟨dL_law_1204, rfl⟩ hs (Nat.le_of_ble_eq_true hn) hi k
theorem dL_law_1205 : decode cL_law 1205 = .ok (.aload_n 0, 1) := dk_42 (dk_at dksL_law_45 16 rfl rfl)
theorem iL_law_1205 {d : Nat} {r S : List MV} {M : MH} {Q : Out → MH → Prop} {o : Option Nat} (k : MW mL_law d 1206 (vr o :: r) (vr o :: S) M Q) : MW mL_law d 1205 (vr o :: r) S M Q := mw_aload_n ⟨dL_law_1205, rfl⟩ rfl k
theorem dL_law_1206 : decode cL_law 1206 = .ok (.iload_n 3, 1) := dk_29 (dk_at dksL_law_45 17 rfl rfl)
theorem iL_law_1206 {d : Nat} {r S : List MV} {M : MH} {Q : Out → MH → Prop} {w0 w1 w2 : MV} {z : Int} (k : MW mL_law d 1207 (w0 :: w1 :: w2 :: vi z :: r) (vi z :: S) M Q) : MW mL_law d 1206 (w0 :: w1 :: w2 :: vi z :: r) S M Q := mw_iload_n ⟨dL_law_1206, rfl⟩ rfl k
theorem dL_law_1207 : decode cL_law 1207 = .ok (.iconst 3, 1) := dk_6 (dk_at dksL_law_45 18 rfl rfl)
theorem iL_law_1207 {d : Nat} {L S : List MV} {M : MH} {Q : Out → MH → Prop}  (k : MW mL_law d 1208 (L) (vi 3 :: S) M Q) : MW mL_law d 1207 (L) S M Q := mw_iconst ⟨dL_law_1207, rfl⟩ k
theorem dL_law_1208 : decode cL_law 1208 = .ok (.iadd, 1) := dk_96 (dk_at dksL_law_45 19 rfl rfl)
theorem iL_law_1208 {d : Nat} {L S : List MV} {M : MH} {Q : Out → MH → Prop} {a b : Int} (k : MW mL_law d 1209 (L) (vi (a + b) :: S) M Q) : MW mL_law d 1208 (L) (vi b :: vi a :: S) M Q := mw_iadd ⟨dL_law_1208, rfl⟩ k
theorem dL_law_1209 : decode cL_law 1209 = .ok (.iaload, 1) := dk_46 (dk_at dksL_law_45 20 rfl rfl)
theorem iL_law_1209 {d : Nat} {L S : List MV} {M : MH} {Q : Out → MH → Prop} {a n : Nat} {z : Int} (hs : msh M a = (100, n)) (hi : 0 ≤ z ∧ z < n) (k : MW mL_law d 1210 L (vi (miv M a z.toNat) :: S) M Q) (hn : Nat.ble n 2147483647 = true := by rfl) : MW mL_law d 1209 L (vi z :: vp a :: S) M Q := mw_iaload ⟨dL_law_1209, rfl⟩ hs (Nat.le_of_ble_eq_true hn) hi k
theorem dL_law_1210 : decode cL_law 1210 = .ok (.aload_n 0, 1) := dk_42 (dk_at dksL_law_45 21 rfl rfl)
theorem iL_law_1210 {d : Nat} {r S : List MV} {M : MH} {Q : Out → MH → Prop} {o : Option Nat} (k : MW mL_law d 1211 (vr o :: r) (vr o :: S) M Q) : MW mL_law d 1210 (vr o :: r) S M Q := mw_aload_n ⟨dL_law_1210, rfl⟩ rfl k
theorem dL_law_1211 : decode cL_law 1211 = .ok (.iload_n 3, 1) := dk_29 (dk_at dksL_law_45 22 rfl rfl)
theorem iL_law_1211 {d : Nat} {r S : List MV} {M : MH} {Q : Out → MH → Prop} {w0 w1 w2 : MV} {z : Int} (k : MW mL_law d 1212 (w0 :: w1 :: w2 :: vi z :: r) (vi z :: S) M Q) : MW mL_law d 1211 (w0 :: w1 :: w2 :: vi z :: r) S M Q := mw_iload_n ⟨dL_law_1211, rfl⟩ rfl k
theorem dL_law_1212 : decode cL_law 1212 = .ok (.iconst 4, 1) := dk_7 (dk_at dksL_law_45 23 rfl rfl)
theorem iL_law_1212 {d : Nat} {L S : List MV} {M : MH} {Q : Out → MH → Prop}  (k : MW mL_law d 1213 (L) (vi 4 :: S) M Q) : MW mL_law d 1212 (L) S M Q := mw_iconst ⟨dL_law_1212, rfl⟩ k
theorem dL_law_1213 : decode cL_law 1213 = .ok (.iadd, 1) := dk_96 (dk_at dksL_law_46 0 rfl rfl)
theorem iL_law_1213 {d : Nat} {L S : List MV} {M : MH} {Q : Out → MH → Prop} {a b : Int} (k : MW mL_law d 1214 (L) (vi (a + b) :: S) M Q) : MW mL_law d 1213 (L) (vi b :: vi a :: S) M Q := mw_iadd ⟨dL_law_1213, rfl⟩ k
theorem dL_law_1214 : decode cL_law 1214 = .ok (.iaload, 1) := dk_46 (dk_at dksL_law_46 1 rfl rfl)
theorem iL_law_1214 {d : Nat} {L S : List MV} {M : MH} {Q : Out → MH → Prop} {a n : Nat} {z : Int} (hs : msh M a = (100, n)) (hi : 0 ≤ z ∧ z < n) (k : MW mL_law d 1215 L (vi (miv M a z.toNat) :: S) M Q) (hn : Nat.ble n 2147483647 = true := by rfl) : MW mL_law d 1214 L (vi z :: vp a :: S) M Q := mw_iaload ⟨dL_law_1214, rfl⟩ hs (Nat.le_of_ble_eq_true hn) hi k
theorem dL_law_1215 : decode cL_law 1215 = .ok (.aload_n 0, 1) := dk_42 (dk_at dksL_law_46 2 rfl rfl)
theorem iL_law_1215 {d : Nat} {r S : List MV} {M : MH} {Q : Out → MH → Prop} {o : Option Nat} (k : MW mL_law d 1216 (vr o :: r) (vr o :: S) M Q) : MW mL_law d 1215 (vr o :: r) S M Q := mw_aload_n ⟨dL_law_1215, rfl⟩ rfl k
theorem dL_law_1216 : decode cL_law 1216 = .ok (.iload_n 3, 1) := dk_29 (dk_at dksL_law_46 3 rfl rfl)
theorem iL_law_1216 {d : Nat} {r S : List MV} {M : MH} {Q : Out → MH → Prop} {w0 w1 w2 : MV} {z : Int} (k : MW mL_law d 1217 (w0 :: w1 :: w2 :: vi z :: r) (vi z :: S) M Q) : MW mL_law d 1216 (w0 :: w1 :: w2 :: vi z :: r) S M Q := mw_iload_n ⟨dL_law_1216, rfl⟩ rfl k
theorem dL_law_1217 : decode cL_law 1217 = .ok (.iconst 5, 1) := dk_8 (dk_at dksL_law_46 4 rfl rfl)
theorem iL_law_1217 {d : Nat} {L S : List MV} {M : MH} {Q : Out → MH → Prop}  (k : MW mL_law d 1218 (L) (vi 5 :: S) M Q) : MW mL_law d 1217 (L) S M Q := mw_iconst ⟨dL_law_1217, rfl⟩ k
theorem dL_law_1218 : decode cL_law 1218 = .ok (.iadd, 1) := dk_96 (dk_at dksL_law_46 5 rfl rfl)
theorem iL_law_1218 {d : Nat} {L S : List MV} {M : MH} {Q : Out → MH → Prop} {a b : Int} (k : MW mL_law d 1219 (L) (vi (a + b) :: S) M Q) : MW mL_law d 1218 (L) (vi b :: vi a :: S) M Q := mw_iadd ⟨dL_law_1218, rfl⟩ k
theorem dL_law_1219 : decode cL_law 1219 = .ok (.iaload, 1) := dk_46 (dk_at dksL_law_46 6 rfl rfl)
theorem iL_law_1219 {d : Nat} {L S : List MV} {M : MH} {Q : Out → MH → Prop} {a n : Nat} {z : Int} (hs : msh M a = (100, n)) (hi : 0 ≤ z ∧ z < n) (k : MW mL_law d 1220 L (vi (miv M a z.toNat) :: S) M Q) (hn : Nat.ble n 2147483647 = true := by rfl) : MW mL_law d 1219 L (vi z :: vp a :: S) M Q := mw_iaload ⟨dL_law_1219, rfl⟩ hs (Nat.le_of_ble_eq_true hn) hi k
theorem dL_law_1220 : decode cL_law 1220 = .ok (.invokevirtual 154, 3) := dk_182 0 154 (dk_at dksL_law_46 7 rfl rfl)
theorem iL_law_1220 {d : Nat} {L S : List MV} {M : MH} {Q : Out → MH → Prop} {v1 v2 v3 v4 v5 : MV} {b : Nat} {P : Int → MH → Prop} (hs : (msh M b).1 = 10) (hM : MCi mX7_copy d [vp b, v1, v2, v3, v4, v5] M P) (k : ∀ z M', P z M' → MW mL_law (d + 1) 1223 L (vi z :: S) M' Q) (h8 : Nat.ble (S.map mcat).sum 8 = true := by rfl) : MW mL_law (d + 1) 1220 L (v5 :: v4 :: v3 :: v2 :: v1 :: vp b :: S) M Q := mw_calli (as := [vp b, v1, v2, v3, v4, v5]) (site_V (Y' := mX7_copy) (n := 5) ⟨dL_law_1220, rfl⟩ (Or.inl q1572) q1573 q1574 wX7_copy nX7_copy hX7_copy (cls_of (ci := 10) rfl hs) rfl) kX7_copy (Nat.le_of_ble_eq_true h8) hM k
theorem dL_law_1223 : decode cL_law 1223 = .ok (.if_icmp .eq 65, 3) := dk_159 0 65 (dk_at dksL_law_46 10 rfl rfl)
theorem iL_law_1223 {d : Nat} {L S : List MV} {M : MH} {Q : Out → MH → Prop} {a b : Int} (ha : inR a) (hb : inR b) (kt : a = b → MW mL_law d 1288 L S M Q) (kf : ¬ a = b → MW mL_law d 1226 L S M Q) : MW mL_law d 1223 L (vi b :: vi a :: S) M Q := mw_icmp_eq ⟨dL_law_1223, rfl⟩ rfl ha hb kt kf
theorem dL_law_1226 : decode cL_law 1226 = .ok (.iconst 0, 1) := dk_3 (dk_at dksL_law_46 13 rfl rfl)
theorem iL_law_1226 {d : Nat} {L S : List MV} {M : MH} {Q : Out → MH → Prop}  (k : MW mL_law d 1227 (L) (vi 0 :: S) M Q) : MW mL_law d 1226 (L) S M Q := mw_iconst ⟨dL_law_1226, rfl⟩ k
theorem dL_law_1227 : decode cL_law 1227 = .ok (.ireturn, 1) := dk_172 (dk_at dksL_law_46 14 rfl rfl)
theorem iL_law_1227 {d : Nat} {L : List MV} {M : MH} {P : Int → MH → Prop} {z : Int} (hz : z = 0 ∨ z = 1) (hq : P z M) : MW mL_law d 1227 L [vi z] M (Ri P) := mw_retz ⟨dL_law_1227, rfl⟩ rfl hz hq
theorem dL_law_1228 : decode cL_law 1228 = .ok (.aload_n 1, 1) := dk_43 (dk_at dksL_law_46 15 rfl rfl)
theorem iL_law_1228 {d : Nat} {r S : List MV} {M : MH} {Q : Out → MH → Prop} {w0 : MV} {o : Option Nat} (k : MW mL_law d 1229 (w0 :: vr o :: r) (vr o :: S) M Q) : MW mL_law d 1228 (w0 :: vr o :: r) S M Q := mw_aload_n ⟨dL_law_1228, rfl⟩ rfl k
theorem dL_law_1229 : decode cL_law 1229 = .ok (.aload_n 0, 1) := dk_42 (dk_at dksL_law_46 16 rfl rfl)
theorem iL_law_1229 {d : Nat} {r S : List MV} {M : MH} {Q : Out → MH → Prop} {o : Option Nat} (k : MW mL_law d 1230 (vr o :: r) (vr o :: S) M Q) : MW mL_law d 1229 (vr o :: r) S M Q := mw_aload_n ⟨dL_law_1229, rfl⟩ rfl k
theorem dL_law_1230 : decode cL_law 1230 = .ok (.iload_n 3, 1) := dk_29 (dk_at dksL_law_46 17 rfl rfl)
theorem iL_law_1230 {d : Nat} {r S : List MV} {M : MH} {Q : Out → MH → Prop} {w0 w1 w2 : MV} {z : Int} (k : MW mL_law d 1231 (w0 :: w1 :: w2 :: vi z :: r) (vi z :: S) M Q) : MW mL_law d 1230 (w0 :: w1 :: w2 :: vi z :: r) S M Q := mw_iload_n ⟨dL_law_1230, rfl⟩ rfl k
theorem dL_law_1231 : decode cL_law 1231 = .ok (.iconst 1, 1) := dk_4 (dk_at dksL_law_46 18 rfl rfl)
theorem iL_law_1231 {d : Nat} {L S : List MV} {M : MH} {Q : Out → MH → Prop}  (k : MW mL_law d 1232 (L) (vi 1 :: S) M Q) : MW mL_law d 1231 (L) S M Q := mw_iconst ⟨dL_law_1231, rfl⟩ k
theorem dL_law_1232 : decode cL_law 1232 = .ok (.iadd, 1) := dk_96 (dk_at dksL_law_46 19 rfl rfl)
theorem iL_law_1232 {d : Nat} {L S : List MV} {M : MH} {Q : Out → MH → Prop} {a b : Int} (k : MW mL_law d 1233 (L) (vi (a + b) :: S) M Q) : MW mL_law d 1232 (L) (vi b :: vi a :: S) M Q := mw_iadd ⟨dL_law_1232, rfl⟩ k
theorem dL_law_1233 : decode cL_law 1233 = .ok (.iaload, 1) := dk_46 (dk_at dksL_law_46 20 rfl rfl)
theorem iL_law_1233 {d : Nat} {L S : List MV} {M : MH} {Q : Out → MH → Prop} {a n : Nat} {z : Int} (hs : msh M a = (100, n)) (hi : 0 ≤ z ∧ z < n) (k : MW mL_law d 1234 L (vi (miv M a z.toNat) :: S) M Q) (hn : Nat.ble n 2147483647 = true := by rfl) : MW mL_law d 1233 L (vi z :: vp a :: S) M Q := mw_iaload ⟨dL_law_1233, rfl⟩ hs (Nat.le_of_ble_eq_true hn) hi k
theorem dL_law_1234 : decode cL_law 1234 = .ok (.invokevirtual 155, 3) := dk_182 0 155 (dk_at dksL_law_46 21 rfl rfl)
theorem iL_law_1234 {d : Nat} {L S : List MV} {M : MH} {Q : Out → MH → Prop} {v1 : MV} {b : Nat} {P : Int → MH → Prop} (hs : (msh M b).1 = 0) (hM : MCi mX0_write d [vp b, v1] M P) (k : ∀ z M', P z M' → MW mL_law (d + 1) 1237 L (vi z :: S) M' Q) (h8 : Nat.ble (S.map mcat).sum 8 = true := by rfl) : MW mL_law (d + 1) 1234 L (v1 :: vp b :: S) M Q := mw_calli (as := [vp b, v1]) (site_V (Y' := mX0_write) (n := 1) ⟨dL_law_1234, rfl⟩ (Or.inl q1138) q1139 q1140 wX0_write nX0_write hX0_write (cls_of (ci := 0) rfl hs) rfl) kX0_write (Nat.le_of_ble_eq_true h8) hM k
theorem dL_law_1237 : decode cL_law 1237 = .ok (.aload_n 2, 1) := dk_44 (dk_at dksL_law_47 0 rfl rfl)
theorem iL_law_1237 {d : Nat} {r S : List MV} {M : MH} {Q : Out → MH → Prop} {w0 w1 : MV} {o : Option Nat} (k : MW mL_law d 1238 (w0 :: w1 :: vr o :: r) (vr o :: S) M Q) : MW mL_law d 1237 (w0 :: w1 :: vr o :: r) S M Q := mw_aload_n ⟨dL_law_1237, rfl⟩ rfl k
theorem dL_law_1238 : decode cL_law 1238 = .ok (.aload_n 0, 1) := dk_42 (dk_at dksL_law_47 1 rfl rfl)
theorem iL_law_1238 {d : Nat} {r S : List MV} {M : MH} {Q : Out → MH → Prop} {o : Option Nat} (k : MW mL_law d 1239 (vr o :: r) (vr o :: S) M Q) : MW mL_law d 1238 (vr o :: r) S M Q := mw_aload_n ⟨dL_law_1238, rfl⟩ rfl k
theorem dL_law_1239 : decode cL_law 1239 = .ok (.iload_n 3, 1) := dk_29 (dk_at dksL_law_47 2 rfl rfl)
theorem iL_law_1239 {d : Nat} {r S : List MV} {M : MH} {Q : Out → MH → Prop} {w0 w1 w2 : MV} {z : Int} (k : MW mL_law d 1240 (w0 :: w1 :: w2 :: vi z :: r) (vi z :: S) M Q) : MW mL_law d 1239 (w0 :: w1 :: w2 :: vi z :: r) S M Q := mw_iload_n ⟨dL_law_1239, rfl⟩ rfl k
theorem dL_law_1240 : decode cL_law 1240 = .ok (.iconst 1, 1) := dk_4 (dk_at dksL_law_47 3 rfl rfl)
theorem iL_law_1240 {d : Nat} {L S : List MV} {M : MH} {Q : Out → MH → Prop}  (k : MW mL_law d 1241 (L) (vi 1 :: S) M Q) : MW mL_law d 1240 (L) S M Q := mw_iconst ⟨dL_law_1240, rfl⟩ k
theorem dL_law_1241 : decode cL_law 1241 = .ok (.iadd, 1) := dk_96 (dk_at dksL_law_47 4 rfl rfl)
theorem iL_law_1241 {d : Nat} {L S : List MV} {M : MH} {Q : Out → MH → Prop} {a b : Int} (k : MW mL_law d 1242 (L) (vi (a + b) :: S) M Q) : MW mL_law d 1241 (L) (vi b :: vi a :: S) M Q := mw_iadd ⟨dL_law_1241, rfl⟩ k
theorem dL_law_1242 : decode cL_law 1242 = .ok (.iaload, 1) := dk_46 (dk_at dksL_law_47 5 rfl rfl)
theorem iL_law_1242 {d : Nat} {L S : List MV} {M : MH} {Q : Out → MH → Prop} {a n : Nat} {z : Int} (hs : msh M a = (100, n)) (hi : 0 ≤ z ∧ z < n) (k : MW mL_law d 1243 L (vi (miv M a z.toNat) :: S) M Q) (hn : Nat.ble n 2147483647 = true := by rfl) : MW mL_law d 1242 L (vi z :: vp a :: S) M Q := mw_iaload ⟨dL_law_1242, rfl⟩ hs (Nat.le_of_ble_eq_true hn) hi k
theorem dL_law_1243 : decode cL_law 1243 = .ok (.invokevirtual 158, 3) := dk_182 0 158 (dk_at dksL_law_47 6 rfl rfl)
theorem iL_law_1243 {d : Nat} {L S : List MV} {M : MH} {Q : Out → MH → Prop} {v1 : MV} {b : Nat} {P : Int → MH → Prop} (hs : (msh M b).1 = 10) (hM : MCi mX7_write d [vp b, v1] M P) (k : ∀ z M', P z M' → MW mL_law (d + 1) 1246 L (vi z :: S) M' Q) (h8 : Nat.ble (S.map mcat).sum 8 = true := by rfl) : MW mL_law (d + 1) 1243 L (v1 :: vp b :: S) M Q := mw_calli (as := [vp b, v1]) (site_V (Y' := mX7_write) (n := 1) ⟨dL_law_1243, rfl⟩ (Or.inl q1576) q1577 q1578 wX7_write nX7_write hX7_write (cls_of (ci := 10) rfl hs) rfl) kX7_write (Nat.le_of_ble_eq_true h8) hM k
theorem dL_law_1246 : decode cL_law 1246 = .ok (.if_icmp .eq 42, 3) := dk_159 0 42 (dk_at dksL_law_47 9 rfl rfl)
theorem iL_law_1246 {d : Nat} {L S : List MV} {M : MH} {Q : Out → MH → Prop} {a b : Int} (ha : inR a) (hb : inR b) (kt : a = b → MW mL_law d 1288 L S M Q) (kf : ¬ a = b → MW mL_law d 1249 L S M Q) : MW mL_law d 1246 L (vi b :: vi a :: S) M Q := mw_icmp_eq ⟨dL_law_1246, rfl⟩ rfl ha hb kt kf
theorem dL_law_1249 : decode cL_law 1249 = .ok (.iconst 0, 1) := dk_3 (dk_at dksL_law_47 12 rfl rfl)
theorem iL_law_1249 {d : Nat} {L S : List MV} {M : MH} {Q : Out → MH → Prop}  (k : MW mL_law d 1250 (L) (vi 0 :: S) M Q) : MW mL_law d 1249 (L) S M Q := mw_iconst ⟨dL_law_1249, rfl⟩ k
theorem dL_law_1250 : decode cL_law 1250 = .ok (.ireturn, 1) := dk_172 (dk_at dksL_law_47 13 rfl rfl)
theorem iL_law_1250 {d : Nat} {L : List MV} {M : MH} {P : Int → MH → Prop} {z : Int} (hz : z = 0 ∨ z = 1) (hq : P z M) : MW mL_law d 1250 L [vi z] M (Ri P) := mw_retz ⟨dL_law_1250, rfl⟩ rfl hz hq
theorem dL_law_1251 : decode cL_law 1251 = .ok (.aload_n 1, 1) := dk_43 (dk_at dksL_law_47 14 rfl rfl)
theorem iL_law_1251 {d : Nat} {r S : List MV} {M : MH} {Q : Out → MH → Prop} {w0 : MV} {o : Option Nat} (k : MW mL_law d 1252 (w0 :: vr o :: r) (vr o :: S) M Q) : MW mL_law d 1251 (w0 :: vr o :: r) S M Q := mw_aload_n ⟨dL_law_1251, rfl⟩ rfl k
theorem dL_law_1252 : decode cL_law 1252 = .ok (.aload_n 0, 1) := dk_42 (dk_at dksL_law_47 15 rfl rfl)
theorem iL_law_1252 {d : Nat} {r S : List MV} {M : MH} {Q : Out → MH → Prop} {o : Option Nat} (k : MW mL_law d 1253 (vr o :: r) (vr o :: S) M Q) : MW mL_law d 1252 (vr o :: r) S M Q := mw_aload_n ⟨dL_law_1252, rfl⟩ rfl k
theorem dL_law_1253 : decode cL_law 1253 = .ok (.iload_n 3, 1) := dk_29 (dk_at dksL_law_47 16 rfl rfl)
theorem iL_law_1253 {d : Nat} {r S : List MV} {M : MH} {Q : Out → MH → Prop} {w0 w1 w2 : MV} {z : Int} (k : MW mL_law d 1254 (w0 :: w1 :: w2 :: vi z :: r) (vi z :: S) M Q) : MW mL_law d 1253 (w0 :: w1 :: w2 :: vi z :: r) S M Q := mw_iload_n ⟨dL_law_1253, rfl⟩ rfl k
theorem dL_law_1254 : decode cL_law 1254 = .ok (.iconst 1, 1) := dk_4 (dk_at dksL_law_47 17 rfl rfl)
theorem iL_law_1254 {d : Nat} {L S : List MV} {M : MH} {Q : Out → MH → Prop}  (k : MW mL_law d 1255 (L) (vi 1 :: S) M Q) : MW mL_law d 1254 (L) S M Q := mw_iconst ⟨dL_law_1254, rfl⟩ k
theorem dL_law_1255 : decode cL_law 1255 = .ok (.iadd, 1) := dk_96 (dk_at dksL_law_47 18 rfl rfl)
theorem iL_law_1255 {d : Nat} {L S : List MV} {M : MH} {Q : Out → MH → Prop} {a b : Int} (k : MW mL_law d 1256 (L) (vi (a + b) :: S) M Q) : MW mL_law d 1255 (L) (vi b :: vi a :: S) M Q := mw_iadd ⟨dL_law_1255, rfl⟩ k
theorem dL_law_1256 : decode cL_law 1256 = .ok (.iaload, 1) := dk_46 (dk_at dksL_law_47 19 rfl rfl)
theorem iL_law_1256 {d : Nat} {L S : List MV} {M : MH} {Q : Out → MH → Prop} {a n : Nat} {z : Int} (hs : msh M a = (100, n)) (hi : 0 ≤ z ∧ z < n) (k : MW mL_law d 1257 L (vi (miv M a z.toNat) :: S) M Q) (hn : Nat.ble n 2147483647 = true := by rfl) : MW mL_law d 1256 L (vi z :: vp a :: S) M Q := mw_iaload ⟨dL_law_1256, rfl⟩ hs (Nat.le_of_ble_eq_true hn) hi k
theorem dL_law_1257 : decode cL_law 1257 = .ok (.invokevirtual 159, 3) := dk_182 0 159 (dk_at dksL_law_47 20 rfl rfl)
theorem iL_law_1257 {d : Nat} {L S : List MV} {M : MH} {Q : Out → MH → Prop} {v1 : MV} {b : Nat} {P : Int → MH → Prop} (hs : (msh M b).1 = 0) (hM : MCi mX0_count d [vp b, v1] M P) (k : ∀ z M', P z M' → MW mL_law (d + 1) 1260 L (vi z :: S) M' Q) (h8 : Nat.ble (S.map mcat).sum 8 = true := by rfl) : MW mL_law (d + 1) 1257 L (v1 :: vp b :: S) M Q := mw_calli (as := [vp b, v1]) (site_V (Y' := mX0_count) (n := 1) ⟨dL_law_1257, rfl⟩ (Or.inl q1142) q1143 q1144 wX0_count nX0_count hX0_count (cls_of (ci := 0) rfl hs) rfl) kX0_count (Nat.le_of_ble_eq_true h8) hM k
theorem dL_law_1260 : decode cL_law 1260 = .ok (.aload_n 2, 1) := dk_44 (dk_at dksL_law_47 23 rfl rfl)
theorem iL_law_1260 {d : Nat} {r S : List MV} {M : MH} {Q : Out → MH → Prop} {w0 w1 : MV} {o : Option Nat} (k : MW mL_law d 1261 (w0 :: w1 :: vr o :: r) (vr o :: S) M Q) : MW mL_law d 1260 (w0 :: w1 :: vr o :: r) S M Q := mw_aload_n ⟨dL_law_1260, rfl⟩ rfl k
theorem dL_law_1261 : decode cL_law 1261 = .ok (.aload_n 0, 1) := dk_42 (dk_at dksL_law_48 0 rfl rfl)
theorem iL_law_1261 {d : Nat} {r S : List MV} {M : MH} {Q : Out → MH → Prop} {o : Option Nat} (k : MW mL_law d 1262 (vr o :: r) (vr o :: S) M Q) : MW mL_law d 1261 (vr o :: r) S M Q := mw_aload_n ⟨dL_law_1261, rfl⟩ rfl k
theorem dL_law_1262 : decode cL_law 1262 = .ok (.iload_n 3, 1) := dk_29 (dk_at dksL_law_48 1 rfl rfl)
theorem iL_law_1262 {d : Nat} {r S : List MV} {M : MH} {Q : Out → MH → Prop} {w0 w1 w2 : MV} {z : Int} (k : MW mL_law d 1263 (w0 :: w1 :: w2 :: vi z :: r) (vi z :: S) M Q) : MW mL_law d 1262 (w0 :: w1 :: w2 :: vi z :: r) S M Q := mw_iload_n ⟨dL_law_1262, rfl⟩ rfl k
theorem dL_law_1263 : decode cL_law 1263 = .ok (.iconst 1, 1) := dk_4 (dk_at dksL_law_48 2 rfl rfl)
theorem iL_law_1263 {d : Nat} {L S : List MV} {M : MH} {Q : Out → MH → Prop}  (k : MW mL_law d 1264 (L) (vi 1 :: S) M Q) : MW mL_law d 1263 (L) S M Q := mw_iconst ⟨dL_law_1263, rfl⟩ k
theorem dL_law_1264 : decode cL_law 1264 = .ok (.iadd, 1) := dk_96 (dk_at dksL_law_48 3 rfl rfl)
theorem iL_law_1264 {d : Nat} {L S : List MV} {M : MH} {Q : Out → MH → Prop} {a b : Int} (k : MW mL_law d 1265 (L) (vi (a + b) :: S) M Q) : MW mL_law d 1264 (L) (vi b :: vi a :: S) M Q := mw_iadd ⟨dL_law_1264, rfl⟩ k
theorem dL_law_1265 : decode cL_law 1265 = .ok (.iaload, 1) := dk_46 (dk_at dksL_law_48 4 rfl rfl)
theorem iL_law_1265 {d : Nat} {L S : List MV} {M : MH} {Q : Out → MH → Prop} {a n : Nat} {z : Int} (hs : msh M a = (100, n)) (hi : 0 ≤ z ∧ z < n) (k : MW mL_law d 1266 L (vi (miv M a z.toNat) :: S) M Q) (hn : Nat.ble n 2147483647 = true := by rfl) : MW mL_law d 1265 L (vi z :: vp a :: S) M Q := mw_iaload ⟨dL_law_1265, rfl⟩ hs (Nat.le_of_ble_eq_true hn) hi k
theorem dL_law_1266 : decode cL_law 1266 = .ok (.invokevirtual 162, 3) := dk_182 0 162 (dk_at dksL_law_48 5 rfl rfl)
theorem iL_law_1266 {d : Nat} {L S : List MV} {M : MH} {Q : Out → MH → Prop} {v1 : MV} {b : Nat} {P : Int → MH → Prop} (hs : (msh M b).1 = 10) (hM : MCi mX7_count d [vp b, v1] M P) (k : ∀ z M', P z M' → MW mL_law (d + 1) 1269 L (vi z :: S) M' Q) (h8 : Nat.ble (S.map mcat).sum 8 = true := by rfl) : MW mL_law (d + 1) 1266 L (v1 :: vp b :: S) M Q := mw_calli (as := [vp b, v1]) (site_V (Y' := mX7_count) (n := 1) ⟨dL_law_1266, rfl⟩ (Or.inl q1580) q1581 q1582 wX7_count nX7_count hX7_count (cls_of (ci := 10) rfl hs) rfl) kX7_count (Nat.le_of_ble_eq_true h8) hM k
theorem dL_law_1269 : decode cL_law 1269 = .ok (.if_icmp .eq 19, 3) := dk_159 0 19 (dk_at dksL_law_48 8 rfl rfl)
theorem iL_law_1269 {d : Nat} {L S : List MV} {M : MH} {Q : Out → MH → Prop} {a b : Int} (ha : inR a) (hb : inR b) (kt : a = b → MW mL_law d 1288 L S M Q) (kf : ¬ a = b → MW mL_law d 1272 L S M Q) : MW mL_law d 1269 L (vi b :: vi a :: S) M Q := mw_icmp_eq ⟨dL_law_1269, rfl⟩ rfl ha hb kt kf
theorem dL_law_1272 : decode cL_law 1272 = .ok (.iconst 0, 1) := dk_3 (dk_at dksL_law_48 11 rfl rfl)
theorem iL_law_1272 {d : Nat} {L S : List MV} {M : MH} {Q : Out → MH → Prop}  (k : MW mL_law d 1273 (L) (vi 0 :: S) M Q) : MW mL_law d 1272 (L) S M Q := mw_iconst ⟨dL_law_1272, rfl⟩ k
theorem dL_law_1273 : decode cL_law 1273 = .ok (.ireturn, 1) := dk_172 (dk_at dksL_law_48 12 rfl rfl)
theorem iL_law_1273 {d : Nat} {L : List MV} {M : MH} {P : Int → MH → Prop} {z : Int} (hz : z = 0 ∨ z = 1) (hq : P z M) : MW mL_law d 1273 L [vi z] M (Ri P) := mw_retz ⟨dL_law_1273, rfl⟩ rfl hz hq
theorem dL_law_1274 : decode cL_law 1274 = .ok (.aload_n 1, 1) := dk_43 (dk_at dksL_law_48 13 rfl rfl)
theorem iL_law_1274 {d : Nat} {r S : List MV} {M : MH} {Q : Out → MH → Prop} {w0 : MV} {o : Option Nat} (k : MW mL_law d 1275 (w0 :: vr o :: r) (vr o :: S) M Q) : MW mL_law d 1274 (w0 :: vr o :: r) S M Q := mw_aload_n ⟨dL_law_1274, rfl⟩ rfl k
theorem dL_law_1275 : decode cL_law 1275 = .ok (.invokevirtual 163, 3) := dk_182 0 163 (dk_at dksL_law_48 14 rfl rfl)
theorem iL_law_1275 {d : Nat} {L S : List MV} {M : MH} {Q : Out → MH → Prop} {b : Nat} {P : Int → MH → Prop} (hs : (msh M b).1 = 0) (hM : MCl mX0_digest d [vp b] M P) (k : ∀ z M', P z M' → MW mL_law (d + 1) 1278 L (vl z :: S) M' Q) (h8 : Nat.ble (S.map mcat).sum 8 = true := by rfl) : MW mL_law (d + 1) 1275 L (vp b :: S) M Q := mw_calll (as := [vp b]) (site_V (Y' := mX0_digest) (n := 0) ⟨dL_law_1275, rfl⟩ (Or.inl q1155) q1156 q1157 wX0_digest nX0_digest hX0_digest (cls_of (ci := 0) rfl hs) rfl) kX0_digest (Nat.le_of_ble_eq_true h8) hM k
theorem dL_law_1278 : decode cL_law 1278 = .ok (.aload_n 2, 1) := dk_44 (dk_at dksL_law_48 17 rfl rfl)
theorem iL_law_1278 {d : Nat} {r S : List MV} {M : MH} {Q : Out → MH → Prop} {w0 w1 : MV} {o : Option Nat} (k : MW mL_law d 1279 (w0 :: w1 :: vr o :: r) (vr o :: S) M Q) : MW mL_law d 1278 (w0 :: w1 :: vr o :: r) S M Q := mw_aload_n ⟨dL_law_1278, rfl⟩ rfl k
theorem dL_law_1279 : decode cL_law 1279 = .ok (.invokevirtual 167, 3) := dk_182 0 167 (dk_at dksL_law_48 18 rfl rfl)
theorem iL_law_1279 {d : Nat} {L S : List MV} {M : MH} {Q : Out → MH → Prop} {b : Nat} {P : Int → MH → Prop} (hs : (msh M b).1 = 10) (hM : MCl mX7_digest d [vp b] M P) (k : ∀ z M', P z M' → MW mL_law (d + 1) 1282 L (vl z :: S) M' Q) (h8 : Nat.ble (S.map mcat).sum 8 = true := by rfl) : MW mL_law (d + 1) 1279 L (vp b :: S) M Q := mw_calll (as := [vp b]) (site_V (Y' := mX7_digest) (n := 0) ⟨dL_law_1279, rfl⟩ (Or.inl q1588) q1589 q1590 wX7_digest nX7_digest hX7_digest (cls_of (ci := 10) rfl hs) rfl) kX7_digest (Nat.le_of_ble_eq_true h8) hM k
theorem dL_law_1282 : decode cL_law 1282 = .ok (.lcmp, 1) := dk_148 (dk_at dksL_law_48 21 rfl rfl)
theorem iL_law_1282 {d : Nat} {L S : List MV} {M : MH} {Q : Out → MH → Prop} {a b : Int} (ha : inR a) (hb : inR b) (k : MW mL_law d 1283 (L) (vi (lcm a b) :: S) M Q) : MW mL_law d 1282 (L) (vl b :: vl a :: S) M Q := mw_lcmp ⟨dL_law_1282, rfl⟩ ha hb k
theorem dL_law_1283 : decode cL_law 1283 = .ok (.ifCond .eq 5, 3) := dk_153 0 5 (dk_at dksL_law_49 0 rfl rfl)
theorem iL_law_1283 {d : Nat} {L S : List MV} {M : MH} {Q : Out → MH → Prop} {a : Int} (ha : inR a) (kt : a = 0 → MW mL_law d 1288 L S M Q) (kf : ¬ a = 0 → MW mL_law d 1286 L S M Q) : MW mL_law d 1283 L (vi a :: S) M Q := mw_if_eq ⟨dL_law_1283, rfl⟩ rfl ha kt kf
theorem dL_law_1286 : decode cL_law 1286 = .ok (.iconst 0, 1) := dk_3 (dk_at dksL_law_49 3 rfl rfl)
theorem iL_law_1286 {d : Nat} {L S : List MV} {M : MH} {Q : Out → MH → Prop}  (k : MW mL_law d 1287 (L) (vi 0 :: S) M Q) : MW mL_law d 1286 (L) S M Q := mw_iconst ⟨dL_law_1286, rfl⟩ k
theorem dL_law_1287 : decode cL_law 1287 = .ok (.ireturn, 1) := dk_172 (dk_at dksL_law_49 4 rfl rfl)
theorem iL_law_1287 {d : Nat} {L : List MV} {M : MH} {P : Int → MH → Prop} {z : Int} (hz : z = 0 ∨ z = 1) (hq : P z M) : MW mL_law d 1287 L [vi z] M (Ri P) := mw_retz ⟨dL_law_1287, rfl⟩ rfl hz hq
theorem dL_law_1288 : decode cL_law 1288 = .ok (.iinc 3 6, 3) := dk_132 3 6 (dk_at dksL_law_49 5 rfl rfl)
theorem iL_law_1288 {d : Nat} {r S : List MV} {M : MH} {Q : Out → MH → Prop} {w0 w1 w2 : MV} {z : Int} (k : MW mL_law d 1291 (w0 :: w1 :: w2 :: vi (z + 6) :: r) S M Q) (hok : okSt (w0 :: w1 :: w2 :: vi z :: r) 3 = true := by rfl) : MW mL_law d 1288 (w0 :: w1 :: w2 :: vi z :: r) S M Q := mw_iinc (i := 3) ⟨dL_law_1288, rfl⟩ rfl (Nat.le_of_ble_eq_true rfl) hok k
theorem dL_law_1291 : decode cL_law 1291 = .ok (.goto (-1273), 3) := dk_167 251 7 (dk_at dksL_law_49 8 rfl rfl)
theorem iL_law_1291 {d : Nat} {L S : List MV} {M : MH} {Q : Out → MH → Prop}  (k : MW mL_law d 18 (L) S M Q) : MW mL_law d 1291 (L) S M Q := mw_goto ⟨dL_law_1291, rfl⟩ rfl k
theorem dL_law_1294 : decode cL_law 1294 = .ok (.iconst 1, 1) := dk_4 (dk_at dksL_law_49 11 rfl rfl)
theorem iL_law_1294 {d : Nat} {L S : List MV} {M : MH} {Q : Out → MH → Prop}  (k : MW mL_law d 1295 (L) (vi 1 :: S) M Q) : MW mL_law d 1294 (L) S M Q := mw_iconst ⟨dL_law_1294, rfl⟩ k
theorem dL_law_1295 : decode cL_law 1295 = .ok (.ireturn, 1) := dk_172 (dk_at dksL_law_49 12 rfl rfl)
theorem iL_law_1295 {d : Nat} {L : List MV} {M : MH} {P : Int → MH → Prop} {z : Int} (hz : z = 0 ∨ z = 1) (hq : P z M) : MW mL_law d 1295 L [vi z] M (Ri P) := mw_retz ⟨dL_law_1295, rfl⟩ rfl hz hq
