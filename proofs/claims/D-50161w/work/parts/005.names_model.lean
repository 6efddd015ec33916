/-! the law's own entry -/
set_option maxRecDepth 100000
abbrev cL_law : ByteArray := code
def dkwL_law_57 : List UInt8 := [44, 182, 0, 192, 159, 0, 5, 3, 172, 132, 3, 6, 167, 250, 48, 4, 172]
abbrev dktL_law_57 : List UInt8 := dkwL_law_57 ++ []
def dkwL_law_56 : List UInt8 := [4, 96, 46, 182, 0, 185, 44, 42, 29, 4, 96, 46, 182, 0, 188, 159, 0, 18, 3, 172, 43, 182, 0, 189]
abbrev dktL_law_56 : List UInt8 := dkwL_law_56 ++ dktL_law_57
def dkwL_law_55 : List UInt8 := [182, 0, 180, 159, 0, 54, 3, 172, 43, 182, 0, 181, 44, 182, 0, 184, 159, 0, 41, 3, 172, 43, 42, 29]
abbrev dktL_law_55 : List UInt8 := dkwL_law_55 ++ dktL_law_56
def dkwL_law_54 : List UInt8 := [44, 182, 0, 176, 159, 0, 77, 3, 172, 43, 42, 29, 4, 96, 46, 182, 0, 177, 44, 42, 29, 4, 96, 46]
abbrev dktL_law_54 : List UInt8 := dkwL_law_54 ++ dktL_law_55
def dkwL_law_53 : List UInt8 := [4, 96, 46, 182, 0, 169, 44, 42, 29, 4, 96, 46, 182, 0, 172, 159, 0, 90, 3, 172, 43, 182, 0, 173]
abbrev dktL_law_53 : List UInt8 := dkwL_law_53 ++ dktL_law_54
def dkwL_law_52 : List UInt8 := [154, 0, 5, 3, 172, 167, 0, 124, 43, 182, 0, 165, 44, 182, 0, 168, 159, 0, 113, 3, 172, 43, 42, 29]
abbrev dktL_law_52 : List UInt8 := dkwL_law_52 ++ dktL_law_53
def dkwL_law_51 : List UInt8 := [141, 57, 6, 24, 4, 24, 6, 151, 153, 0, 21, 24, 4, 24, 4, 151, 153, 0, 11, 24, 6, 24, 6, 151]
abbrev dktL_law_51 : List UInt8 := dkwL_law_51 ++ dktL_law_52
def dkwL_law_50 : List UInt8 := [167, 0, 177, 43, 42, 29, 4, 96, 46, 182, 0, 160, 141, 57, 4, 44, 42, 29, 4, 96, 46, 182, 0, 164]
abbrev dktL_law_50 : List UInt8 := dkwL_law_50 ++ dktL_law_51
def dkwL_law_49 : List UInt8 := [151, 153, 0, 21, 24, 4, 24, 4, 151, 153, 0, 11, 24, 6, 24, 6, 151, 154, 0, 5, 3, 172]
abbrev dktL_law_49 : List UInt8 := dkwL_law_49 ++ dktL_law_50
def dkwL_law_48 : List UInt8 := [154, 0, 5, 3, 172, 167, 0, 218, 43, 182, 0, 156, 57, 4, 44, 182, 0, 159, 57, 6, 24, 4, 24, 6]
abbrev dktL_law_48 : List UInt8 := dkwL_law_48 ++ dktL_law_49
def dkwL_law_47 : List UInt8 := [57, 6, 24, 4, 24, 6, 151, 153, 0, 21, 24, 4, 24, 4, 151, 153, 0, 11, 24, 6, 24, 6, 151]
abbrev dktL_law_47 : List UInt8 := dkwL_law_47 ++ dktL_law_48
def dkwL_law_46 : List UInt8 := [46, 42, 29, 5, 96, 46, 182, 0, 150, 159, 1, 5, 3, 172, 43, 182, 0, 151, 57, 4, 44, 182, 0, 155]
abbrev dktL_law_46 : List UInt8 := dkwL_law_46 ++ dktL_law_47
def dkwL_law_45 : List UInt8 := [159, 1, 38, 3, 172, 43, 42, 29, 4, 96, 46, 42, 29, 5, 96, 46, 182, 0, 147, 44, 42, 29, 4, 96]
abbrev dktL_law_45 : List UInt8 := dkwL_law_45 ++ dktL_law_46
def dkwL_law_44 : List UInt8 := [159, 1, 61, 3, 172, 43, 42, 29, 4, 96, 46, 182, 0, 143, 44, 42, 29, 4, 96, 46, 182, 0, 146]
abbrev dktL_law_44 : List UInt8 := dkwL_law_44 ++ dktL_law_45
def dkwL_law_43 : List UInt8 := [182, 0, 139, 44, 42, 29, 4, 96, 46, 42, 29, 5, 96, 46, 42, 29, 6, 96, 46, 182, 0, 142]
abbrev dktL_law_43 : List UInt8 := dkwL_law_43 ++ dktL_law_44
def dkwL_law_42 : List UInt8 := [182, 0, 138, 159, 1, 104, 3, 172, 43, 42, 29, 4, 96, 46, 42, 29, 5, 96, 46, 42, 29, 6, 96, 46]
abbrev dktL_law_42 : List UInt8 := dkwL_law_42 ++ dktL_law_43
def dkwL_law_41 : List UInt8 := [182, 0, 135, 44, 42, 29, 4, 96, 46, 42, 29, 5, 96, 46, 153, 0, 7, 4, 167, 0, 4, 3]
abbrev dktL_law_41 : List UInt8 := dkwL_law_41 ++ dktL_law_42
def dkwL_law_40 : List UInt8 := [159, 1, 153, 3, 172, 43, 42, 29, 4, 96, 46, 42, 29, 5, 96, 46, 153, 0, 7, 4, 167, 0, 4, 3]
abbrev dktL_law_40 : List UInt8 := dkwL_law_40 ++ dktL_law_41
def dkwL_law_39 : List UInt8 := [46, 42, 29, 5, 96, 46, 182, 0, 131, 44, 42, 29, 4, 96, 46, 42, 29, 5, 96, 46, 182, 0, 134]
abbrev dktL_law_39 : List UInt8 := dkwL_law_39 ++ dktL_law_40
def dkwL_law_38 : List UInt8 := [44, 42, 29, 4, 96, 46, 42, 29, 5, 96, 46, 182, 0, 130, 159, 1, 186, 3, 172, 43, 42, 29, 4, 96]
abbrev dktL_law_38 : List UInt8 := dkwL_law_38 ++ dktL_law_39
def dkwL_law_37 : List UInt8 := [96, 46, 182, 0, 126, 159, 1, 219, 3, 172, 43, 42, 29, 4, 96, 46, 42, 29, 5, 96, 46, 182, 0, 127]
abbrev dktL_law_37 : List UInt8 := dkwL_law_37 ++ dktL_law_38
def dkwL_law_36 : List UInt8 := [4, 96, 46, 182, 0, 122, 159, 1, 242, 3, 172, 43, 42, 29, 4, 96, 46, 182, 0, 123, 44, 42, 29, 4]
abbrev dktL_law_36 : List UInt8 := dkwL_law_36 ++ dktL_law_37
def dkwL_law_35 : List UInt8 := [167, 0, 4, 3, 182, 0, 118, 159, 2, 9, 3, 172, 43, 42, 29, 4, 96, 46, 182, 0, 119, 44, 42, 29]
abbrev dktL_law_35 : List UInt8 := dkwL_law_35 ++ dktL_law_36
def dkwL_law_34 : List UInt8 := [167, 0, 4, 3, 182, 0, 115, 44, 42, 29, 4, 96, 46, 42, 29, 5, 96, 46, 153, 0, 7, 4]
abbrev dktL_law_34 : List UInt8 := dkwL_law_34 ++ dktL_law_35
def dkwL_law_33 : List UInt8 := [182, 0, 114, 159, 2, 58, 3, 172, 43, 42, 29, 4, 96, 46, 42, 29, 5, 96, 46, 153, 0, 7, 4]
abbrev dktL_law_33 : List UInt8 := dkwL_law_33 ++ dktL_law_34
def dkwL_law_32 : List UInt8 := [182, 0, 110, 159, 2, 81, 3, 172, 43, 42, 29, 4, 96, 46, 182, 0, 111, 44, 42, 29, 4, 96, 46]
abbrev dktL_law_32 : List UInt8 := dkwL_law_32 ++ dktL_law_33
def dkwL_law_31 : List UInt8 := [4, 96, 46, 42, 29, 5, 96, 46, 182, 0, 107, 44, 42, 29, 4, 96, 46, 42, 29, 5, 96, 46]
abbrev dktL_law_31 : List UInt8 := dkwL_law_31 ++ dktL_law_32
def dkwL_law_30 : List UInt8 := [4, 96, 46, 42, 29, 5, 96, 46, 42, 29, 6, 96, 46, 182, 0, 106, 159, 2, 114, 3, 172, 43, 42, 29]
abbrev dktL_law_30 : List UInt8 := dkwL_law_30 ++ dktL_law_31
def dkwL_law_29 : List UInt8 := [3, 172, 43, 42, 29, 4, 96, 46, 42, 29, 5, 96, 46, 42, 29, 6, 96, 46, 182, 0, 103, 44, 42, 29]
abbrev dktL_law_29 : List UInt8 := dkwL_law_29 ++ dktL_law_30
def dkwL_law_28 : List UInt8 := [29, 5, 96, 46, 182, 0, 99, 44, 42, 29, 4, 96, 46, 42, 29, 5, 96, 46, 182, 0, 102, 159, 2, 157]
abbrev dktL_law_28 : List UInt8 := dkwL_law_28 ++ dktL_law_29
def dkwL_law_27 : List UInt8 := [29, 5, 96, 46, 42, 29, 6, 96, 46, 182, 0, 98, 159, 2, 190, 3, 172, 43, 42, 29, 4, 96, 46, 42]
abbrev dktL_law_27 : List UInt8 := dkwL_law_27 ++ dktL_law_28
def dkwL_law_26 : List UInt8 := [29, 4, 96, 46, 42, 29, 5, 96, 46, 42, 29, 6, 96, 46, 182, 0, 95, 44, 42, 29, 4, 96, 46, 42]
abbrev dktL_law_26 : List UInt8 := dkwL_law_26 ++ dktL_law_27
def dkwL_law_25 : List UInt8 := [182, 0, 91, 44, 42, 29, 4, 96, 46, 42, 29, 5, 96, 46, 182, 0, 94, 159, 2, 233, 3, 172, 43, 42]
abbrev dktL_law_25 : List UInt8 := dkwL_law_25 ++ dktL_law_26
def dkwL_law_24 : List UInt8 := [42, 29, 4, 96, 46, 182, 0, 90, 159, 3, 10, 3, 172, 43, 42, 29, 4, 96, 46, 42, 29, 5, 96, 46]
abbrev dktL_law_24 : List UInt8 := dkwL_law_24 ++ dktL_law_25
def dkwL_law_23 : List UInt8 := [46, 42, 29, 5, 96, 46, 182, 0, 86, 159, 3, 33, 3, 172, 43, 42, 29, 4, 96, 46, 182, 0, 87, 44]
abbrev dktL_law_23 : List UInt8 := dkwL_law_23 ++ dktL_law_24
def dkwL_law_22 : List UInt8 := [159, 3, 66, 3, 172, 43, 42, 29, 4, 96, 46, 42, 29, 5, 96, 46, 182, 0, 83, 44, 42, 29, 4, 96]
abbrev dktL_law_22 : List UInt8 := dkwL_law_22 ++ dktL_law_23
def dkwL_law_21 : List UInt8 := [96, 46, 42, 29, 5, 96, 46, 182, 0, 79, 44, 42, 29, 4, 96, 46, 42, 29, 5, 96, 46, 182, 0, 82]
abbrev dktL_law_21 : List UInt8 := dkwL_law_21 ++ dktL_law_22
def dkwL_law_20 : List UInt8 := [4, 96, 46, 182, 0, 75, 44, 42, 29, 4, 96, 46, 182, 0, 78, 159, 3, 99, 3, 172, 43, 42, 29, 4]
abbrev dktL_law_20 : List UInt8 := dkwL_law_20 ++ dktL_law_21
def dkwL_law_19 : List UInt8 := [182, 0, 70, 159, 3, 135, 3, 172, 43, 182, 0, 71, 44, 182, 0, 74, 159, 3, 122, 3, 172, 43, 42, 29]
abbrev dktL_law_19 : List UInt8 := dkwL_law_19 ++ dktL_law_20
def dkwL_law_18 : List UInt8 := [182, 0, 66, 159, 3, 158, 3, 172, 43, 42, 29, 4, 96, 46, 182, 0, 67, 44, 42, 29, 4, 96, 46]
abbrev dktL_law_18 : List UInt8 := dkwL_law_18 ++ dktL_law_19
def dkwL_law_17 : List UInt8 := [182, 0, 62, 159, 3, 181, 3, 172, 43, 42, 29, 4, 96, 46, 182, 0, 63, 44, 42, 29, 4, 96, 46]
abbrev dktL_law_17 : List UInt8 := dkwL_law_17 ++ dktL_law_18
def dkwL_law_16 : List UInt8 := [46, 182, 0, 58, 159, 3, 204, 3, 172, 43, 42, 29, 4, 96, 46, 182, 0, 59, 44, 42, 29, 4, 96, 46]
abbrev dktL_law_16 : List UInt8 := dkwL_law_16 ++ dktL_law_17
def dkwL_law_15 : List UInt8 := [46, 42, 29, 6, 96, 46, 182, 0, 54, 44, 42, 29, 4, 96, 46, 42, 29, 5, 96, 46, 42, 29, 6, 96]
abbrev dktL_law_15 : List UInt8 := dkwL_law_15 ++ dktL_law_16
def dkwL_law_14 : List UInt8 := [46, 42, 29, 5, 96, 46, 182, 0, 53, 159, 3, 247, 3, 172, 43, 42, 29, 4, 96, 46, 42, 29, 5, 96]
abbrev dktL_law_14 : List UInt8 := dkwL_law_14 ++ dktL_law_15
def dkwL_law_13 : List UInt8 := [159, 4, 24, 3, 172, 43, 42, 29, 4, 96, 46, 42, 29, 5, 96, 46, 182, 0, 50, 44, 42, 29, 4, 96]
abbrev dktL_law_13 : List UInt8 := dkwL_law_13 ++ dktL_law_14
def dkwL_law_12 : List UInt8 := [159, 4, 47, 3, 172, 43, 42, 29, 4, 96, 46, 182, 0, 46, 44, 42, 29, 4, 96, 46, 182, 0, 49]
abbrev dktL_law_12 : List UInt8 := dkwL_law_12 ++ dktL_law_13
def dkwL_law_11 : List UInt8 := [42, 29, 5, 96, 46, 182, 0, 41, 44, 42, 29, 4, 96, 46, 42, 29, 5, 96, 46, 182, 0, 45]
abbrev dktL_law_11 : List UInt8 := dkwL_law_11 ++ dktL_law_12
def dkwL_law_10 : List UInt8 := [96, 46, 153, 0, 7, 4, 167, 0, 4, 3, 182, 0, 40, 159, 4, 80, 3, 172, 43, 42, 29, 4, 96, 46]
abbrev dktL_law_10 : List UInt8 := dkwL_law_10 ++ dktL_law_11
def dkwL_law_9 : List UInt8 := [29, 5, 96, 46, 153, 0, 7, 4, 167, 0, 4, 3, 182, 0, 36, 44, 42, 29, 4, 96, 46, 42, 29, 5]
abbrev dktL_law_9 : List UInt8 := dkwL_law_9 ++ dktL_law_10
def dkwL_law_8 : List UInt8 := [182, 0, 32, 44, 42, 29, 4, 96, 46, 182, 0, 35, 159, 4, 129, 3, 172, 43, 42, 29, 4, 96, 46, 42]
abbrev dktL_law_8 : List UInt8 := dkwL_law_8 ++ dktL_law_9
def dkwL_law_7 : List UInt8 := [159, 4, 165, 3, 172, 43, 182, 0, 28, 44, 182, 0, 31, 159, 4, 152, 3, 172, 43, 42, 29, 4, 96, 46]
abbrev dktL_law_7 : List UInt8 := dkwL_law_7 ++ dktL_law_8
def dkwL_law_6 : List UInt8 := [44, 42, 29, 4, 96, 46, 182, 0, 22, 159, 4, 178, 3, 172, 43, 182, 0, 23, 44, 182, 0, 27]
abbrev dktL_law_6 : List UInt8 := dkwL_law_6 ++ dktL_law_7
def dkwL_law_5 : List UInt8 := [96, 46, 42, 29, 8, 96, 46, 182, 0, 17, 159, 4, 201, 3, 172, 43, 42, 29, 4, 96, 46, 182, 0, 18]
abbrev dktL_law_5 : List UInt8 := dkwL_law_5 ++ dktL_law_6
def dkwL_law_4 : List UInt8 := [96, 46, 182, 0, 13, 44, 42, 29, 4, 96, 46, 42, 29, 5, 96, 46, 42, 29, 6, 96, 46, 42, 29, 7]
abbrev dktL_law_4 : List UInt8 := dkwL_law_4 ++ dktL_law_5
def dkwL_law_3 : List UInt8 := [43, 42, 29, 4, 96, 46, 42, 29, 5, 96, 46, 42, 29, 6, 96, 46, 42, 29, 7, 96, 46, 42, 29, 8]
abbrev dktL_law_3 : List UInt8 := dkwL_law_3 ++ dktL_law_4
def dkwL_law_2 : List UInt8 := [170, 0, 0, 0, 0, 5, 190, 0, 0, 0, 0, 0, 0, 0, 42, 0, 0, 0, 187, 0, 0, 0, 250, 0, 0, 1, 17, 0, 0, 1, 30, 0, 0, 1, 43, 0, 0, 1, 66, 0, 0, 1, 115, 0, 0, 1, 148, 0, 0, 1, 171, 0, 0, 1, 204, 0, 0, 1, 247, 0, 0, 2, 14, 0, 0, 2, 37, 0, 0, 2, 60, 0, 0, 2, 73, 0, 0, 2, 96, 0, 0, 2, 129, 0, 0, 2, 162, 0, 0, 2, 185, 0, 0, 2, 218, 0, 0, 3, 5, 0, 0, 3, 38, 0, 0, 3, 81, 0, 0, 3, 114, 0, 0, 3, 137, 0, 0, 3, 186, 0, 0, 3, 209, 0, 0, 3, 232, 0, 0, 4, 9, 0, 0, 4, 42, 0, 0, 4, 91, 0, 0, 4, 134, 0, 0, 4, 157, 0, 0, 4, 190, 0, 0, 4, 231, 0, 0, 5, 16, 0, 0, 5, 69, 0, 0, 5, 82, 0, 0, 5, 105, 0, 0, 5, 118, 0, 0, 5, 141, 0, 0, 5, 154, 0, 0, 5, 177]
abbrev dktL_law_2 : List UInt8 := dkwL_law_2 ++ dktL_law_3
def dkwL_law_1 : List UInt8 := [163, 5, 205, 42, 29, 46, 16, 63, 126]
abbrev dktL_law_1 : List UInt8 := dkwL_law_1 ++ dktL_law_2
def dkwL_law_0 : List UInt8 := [187, 0, 7, 89, 183, 0, 9, 76, 187, 0, 10, 89, 183, 0, 12, 77, 3, 62, 29, 42, 190, 16, 6, 100]
abbrev dktL_law_0 : List UInt8 := dkwL_law_0 ++ dktL_law_1
theorem dksL_law_0 : cL_law.data.toList.drop 0 = dktL_law_0 := by decide +kernel
theorem dksL_law_1 : cL_law.data.toList.drop 24 = dktL_law_1 := dk_seg dksL_law_0 24 rfl rfl
theorem dksL_law_2 : cL_law.data.toList.drop 33 = dktL_law_2 := dk_seg dksL_law_1 9 rfl rfl
theorem dksL_law_3 : cL_law.data.toList.drop 220 = dktL_law_3 := dk_seg dksL_law_2 187 rfl rfl
theorem dksL_law_4 : cL_law.data.toList.drop 244 = dktL_law_4 := dk_seg dksL_law_3 24 rfl rfl
theorem dksL_law_5 : cL_law.data.toList.drop 268 = dktL_law_5 := dk_seg dksL_law_4 24 rfl rfl
theorem dksL_law_6 : cL_law.data.toList.drop 292 = dktL_law_6 := dk_seg dksL_law_5 24 rfl rfl
theorem dksL_law_7 : cL_law.data.toList.drop 314 = dktL_law_7 := dk_seg dksL_law_6 22 rfl rfl
theorem dksL_law_8 : cL_law.data.toList.drop 338 = dktL_law_8 := dk_seg dksL_law_7 24 rfl rfl
theorem dksL_law_9 : cL_law.data.toList.drop 362 = dktL_law_9 := dk_seg dksL_law_8 24 rfl rfl
theorem dksL_law_10 : cL_law.data.toList.drop 386 = dktL_law_10 := dk_seg dksL_law_9 24 rfl rfl
theorem dksL_law_11 : cL_law.data.toList.drop 410 = dktL_law_11 := dk_seg dksL_law_10 24 rfl rfl
theorem dksL_law_12 : cL_law.data.toList.drop 432 = dktL_law_12 := dk_seg dksL_law_11 22 rfl rfl
theorem dksL_law_13 : cL_law.data.toList.drop 455 = dktL_law_13 := dk_seg dksL_law_12 23 rfl rfl
theorem dksL_law_14 : cL_law.data.toList.drop 479 = dktL_law_14 := dk_seg dksL_law_13 24 rfl rfl
theorem dksL_law_15 : cL_law.data.toList.drop 503 = dktL_law_15 := dk_seg dksL_law_14 24 rfl rfl
theorem dksL_law_16 : cL_law.data.toList.drop 527 = dktL_law_16 := dk_seg dksL_law_15 24 rfl rfl
theorem dksL_law_17 : cL_law.data.toList.drop 551 = dktL_law_17 := dk_seg dksL_law_16 24 rfl rfl
theorem dksL_law_18 : cL_law.data.toList.drop 574 = dktL_law_18 := dk_seg dksL_law_17 23 rfl rfl
theorem dksL_law_19 : cL_law.data.toList.drop 597 = dktL_law_19 := dk_seg dksL_law_18 23 rfl rfl
theorem dksL_law_20 : cL_law.data.toList.drop 621 = dktL_law_20 := dk_seg dksL_law_19 24 rfl rfl
theorem dksL_law_21 : cL_law.data.toList.drop 645 = dktL_law_21 := dk_seg dksL_law_20 24 rfl rfl
theorem dksL_law_22 : cL_law.data.toList.drop 669 = dktL_law_22 := dk_seg dksL_law_21 24 rfl rfl
theorem dksL_law_23 : cL_law.data.toList.drop 693 = dktL_law_23 := dk_seg dksL_law_22 24 rfl rfl
theorem dksL_law_24 : cL_law.data.toList.drop 717 = dktL_law_24 := dk_seg dksL_law_23 24 rfl rfl
theorem dksL_law_25 : cL_law.data.toList.drop 741 = dktL_law_25 := dk_seg dksL_law_24 24 rfl rfl
theorem dksL_law_26 : cL_law.data.toList.drop 765 = dktL_law_26 := dk_seg dksL_law_25 24 rfl rfl
theorem dksL_law_27 : cL_law.data.toList.drop 789 = dktL_law_27 := dk_seg dksL_law_26 24 rfl rfl
theorem dksL_law_28 : cL_law.data.toList.drop 813 = dktL_law_28 := dk_seg dksL_law_27 24 rfl rfl
theorem dksL_law_29 : cL_law.data.toList.drop 837 = dktL_law_29 := dk_seg dksL_law_28 24 rfl rfl
theorem dksL_law_30 : cL_law.data.toList.drop 861 = dktL_law_30 := dk_seg dksL_law_29 24 rfl rfl
theorem dksL_law_31 : cL_law.data.toList.drop 885 = dktL_law_31 := dk_seg dksL_law_30 24 rfl rfl
theorem dksL_law_32 : cL_law.data.toList.drop 907 = dktL_law_32 := dk_seg dksL_law_31 22 rfl rfl
theorem dksL_law_33 : cL_law.data.toList.drop 930 = dktL_law_33 := dk_seg dksL_law_32 23 rfl rfl
theorem dksL_law_34 : cL_law.data.toList.drop 953 = dktL_law_34 := dk_seg dksL_law_33 23 rfl rfl
theorem dksL_law_35 : cL_law.data.toList.drop 975 = dktL_law_35 := dk_seg dksL_law_34 22 rfl rfl
theorem dksL_law_36 : cL_law.data.toList.drop 999 = dktL_law_36 := dk_seg dksL_law_35 24 rfl rfl
theorem dksL_law_37 : cL_law.data.toList.drop 1023 = dktL_law_37 := dk_seg dksL_law_36 24 rfl rfl
theorem dksL_law_38 : cL_law.data.toList.drop 1047 = dktL_law_38 := dk_seg dksL_law_37 24 rfl rfl
theorem dksL_law_39 : cL_law.data.toList.drop 1071 = dktL_law_39 := dk_seg dksL_law_38 24 rfl rfl
theorem dksL_law_40 : cL_law.data.toList.drop 1094 = dktL_law_40 := dk_seg dksL_law_39 23 rfl rfl
theorem dksL_law_41 : cL_law.data.toList.drop 1118 = dktL_law_41 := dk_seg dksL_law_40 24 rfl rfl
theorem dksL_law_42 : cL_law.data.toList.drop 1140 = dktL_law_42 := dk_seg dksL_law_41 22 rfl rfl
theorem dksL_law_43 : cL_law.data.toList.drop 1164 = dktL_law_43 := dk_seg dksL_law_42 24 rfl rfl
theorem dksL_law_44 : cL_law.data.toList.drop 1186 = dktL_law_44 := dk_seg dksL_law_43 22 rfl rfl
theorem dksL_law_45 : cL_law.data.toList.drop 1209 = dktL_law_45 := dk_seg dksL_law_44 23 rfl rfl
theorem dksL_law_46 : cL_law.data.toList.drop 1233 = dktL_law_46 := dk_seg dksL_law_45 24 rfl rfl
theorem dksL_law_47 : cL_law.data.toList.drop 1257 = dktL_law_47 := dk_seg dksL_law_46 24 rfl rfl
theorem dksL_law_48 : cL_law.data.toList.drop 1280 = dktL_law_48 := dk_seg dksL_law_47 23 rfl rfl
theorem dksL_law_49 : cL_law.data.toList.drop 1304 = dktL_law_49 := dk_seg dksL_law_48 24 rfl rfl
theorem dksL_law_50 : cL_law.data.toList.drop 1326 = dktL_law_50 := dk_seg dksL_law_49 22 rfl rfl
theorem dksL_law_51 : cL_law.data.toList.drop 1350 = dktL_law_51 := dk_seg dksL_law_50 24 rfl rfl
theorem dksL_law_52 : cL_law.data.toList.drop 1374 = dktL_law_52 := dk_seg dksL_law_51 24 rfl rfl
theorem dksL_law_53 : cL_law.data.toList.drop 1398 = dktL_law_53 := dk_seg dksL_law_52 24 rfl rfl
theorem dksL_law_54 : cL_law.data.toList.drop 1422 = dktL_law_54 := dk_seg dksL_law_53 24 rfl rfl
theorem dksL_law_55 : cL_law.data.toList.drop 1446 = dktL_law_55 := dk_seg dksL_law_54 24 rfl rfl
theorem dksL_law_56 : cL_law.data.toList.drop 1470 = dktL_law_56 := dk_seg dksL_law_55 24 rfl rfl
theorem dksL_law_57 : cL_law.data.toList.drop 1494 = dktL_law_57 := dk_seg dksL_law_56 24 rfl rfl
theorem dL_law_0 : decode cL_law 0 = .ok (.new 7, 3) := dk_187 0 7 (dk_at dksL_law_0 0 rfl rfl)
theorem dL_law_3 : decode cL_law 3 = .ok (.dup, 1) := dk_89 (dk_at dksL_law_0 3 rfl rfl)
theorem dL_law_4 : decode cL_law 4 = .ok (.invokespecial 9, 3) := dk_183 0 9 (dk_at dksL_law_0 4 rfl rfl)
theorem dL_law_7 : decode cL_law 7 = .ok (.astore_n 1, 1) := dk_76 (dk_at dksL_law_0 7 rfl rfl)
theorem dL_law_8 : decode cL_law 8 = .ok (.new 10, 3) := dk_187 0 10 (dk_at dksL_law_0 8 rfl rfl)
theorem dL_law_11 : decode cL_law 11 = .ok (.dup, 1) := dk_89 (dk_at dksL_law_0 11 rfl rfl)
theorem dL_law_12 : decode cL_law 12 = .ok (.invokespecial 12, 3) := dk_183 0 12 (dk_at dksL_law_0 12 rfl rfl)
theorem dL_law_15 : decode cL_law 15 = .ok (.astore_n 2, 1) := dk_77 (dk_at dksL_law_0 15 rfl rfl)
theorem dL_law_16 : decode cL_law 16 = .ok (.iconst 0, 1) := dk_3 (dk_at dksL_law_0 16 rfl rfl)
theorem dL_law_17 : decode cL_law 17 = .ok (.istore_n 3, 1) := dk_62 (dk_at dksL_law_0 17 rfl rfl)
theorem dL_law_18 : decode cL_law 18 = .ok (.iload_n 3, 1) := dk_29 (dk_at dksL_law_0 18 rfl rfl)
theorem dL_law_19 : decode cL_law 19 = .ok (.aload_n 0, 1) := dk_42 (dk_at dksL_law_0 19 rfl rfl)
theorem dL_law_20 : decode cL_law 20 = .ok (.arraylength, 1) := dk_190 (dk_at dksL_law_0 20 rfl rfl)
theorem dL_law_21 : decode cL_law 21 = .ok (.bipush 6, 2) := dk_16 6 (dk_at dksL_law_0 21 rfl rfl)
theorem dL_law_23 : decode cL_law 23 = .ok (.isub, 1) := dk_100 (dk_at dksL_law_0 23 rfl rfl)
theorem dL_law_24 : decode cL_law 24 = .ok (.if_icmp .gt 1485, 3) := dk_163 5 205 (dk_at dksL_law_1 0 rfl rfl)
theorem dL_law_27 : decode cL_law 27 = .ok (.aload_n 0, 1) := dk_42 (dk_at dksL_law_1 3 rfl rfl)
theorem dL_law_28 : decode cL_law 28 = .ok (.iload_n 3, 1) := dk_29 (dk_at dksL_law_1 4 rfl rfl)
theorem dL_law_29 : decode cL_law 29 = .ok (.iaload, 1) := dk_46 (dk_at dksL_law_1 5 rfl rfl)
theorem dL_law_30 : decode cL_law 30 = .ok (.bipush 63, 2) := dk_16 63 (dk_at dksL_law_1 6 rfl rfl)
theorem dL_law_32 : decode cL_law 32 = .ok (.iand, 1) := dk_126 (dk_at dksL_law_1 8 rfl rfl)
theorem dL_law_33 : decode cL_law 33 = .ok (.tableswitch 1470 0 42 #[187, 250, 273, 286, 299, 322, 371, 404, 427, 460, 503, 526, 549, 572, 585, 608, 641, 674, 697, 730, 773, 806, 849, 882, 905, 954, 977, 1000, 1033, 1066, 1115, 1158, 1181, 1214, 1255, 1296, 1349, 1362, 1385, 1398, 1421, 1434, 1457], 187) := by decide +kernel
theorem dL_law_220 : decode cL_law 220 = .ok (.aload_n 1, 1) := dk_43 (dk_at dksL_law_3 0 rfl rfl)
theorem dL_law_221 : decode cL_law 221 = .ok (.aload_n 0, 1) := dk_42 (dk_at dksL_law_3 1 rfl rfl)
theorem dL_law_222 : decode cL_law 222 = .ok (.iload_n 3, 1) := dk_29 (dk_at dksL_law_3 2 rfl rfl)
theorem dL_law_223 : decode cL_law 223 = .ok (.iconst 1, 1) := dk_4 (dk_at dksL_law_3 3 rfl rfl)
theorem dL_law_224 : decode cL_law 224 = .ok (.iadd, 1) := dk_96 (dk_at dksL_law_3 4 rfl rfl)
theorem dL_law_225 : decode cL_law 225 = .ok (.iaload, 1) := dk_46 (dk_at dksL_law_3 5 rfl rfl)
theorem dL_law_226 : decode cL_law 226 = .ok (.aload_n 0, 1) := dk_42 (dk_at dksL_law_3 6 rfl rfl)
theorem dL_law_227 : decode cL_law 227 = .ok (.iload_n 3, 1) := dk_29 (dk_at dksL_law_3 7 rfl rfl)
theorem dL_law_228 : decode cL_law 228 = .ok (.iconst 2, 1) := dk_5 (dk_at dksL_law_3 8 rfl rfl)
theorem dL_law_229 : decode cL_law 229 = .ok (.iadd, 1) := dk_96 (dk_at dksL_law_3 9 rfl rfl)
theorem dL_law_230 : decode cL_law 230 = .ok (.iaload, 1) := dk_46 (dk_at dksL_law_3 10 rfl rfl)
theorem dL_law_231 : decode cL_law 231 = .ok (.aload_n 0, 1) := dk_42 (dk_at dksL_law_3 11 rfl rfl)
theorem dL_law_232 : decode cL_law 232 = .ok (.iload_n 3, 1) := dk_29 (dk_at dksL_law_3 12 rfl rfl)
theorem dL_law_233 : decode cL_law 233 = .ok (.iconst 3, 1) := dk_6 (dk_at dksL_law_3 13 rfl rfl)
theorem dL_law_234 : decode cL_law 234 = .ok (.iadd, 1) := dk_96 (dk_at dksL_law_3 14 rfl rfl)
theorem dL_law_235 : decode cL_law 235 = .ok (.iaload, 1) := dk_46 (dk_at dksL_law_3 15 rfl rfl)
theorem dL_law_236 : decode cL_law 236 = .ok (.aload_n 0, 1) := dk_42 (dk_at dksL_law_3 16 rfl rfl)
theorem dL_law_237 : decode cL_law 237 = .ok (.iload_n 3, 1) := dk_29 (dk_at dksL_law_3 17 rfl rfl)
theorem dL_law_238 : decode cL_law 238 = .ok (.iconst 4, 1) := dk_7 (dk_at dksL_law_3 18 rfl rfl)
theorem dL_law_239 : decode cL_law 239 = .ok (.iadd, 1) := dk_96 (dk_at dksL_law_3 19 rfl rfl)
theorem dL_law_240 : decode cL_law 240 = .ok (.iaload, 1) := dk_46 (dk_at dksL_law_3 20 rfl rfl)
theorem dL_law_241 : decode cL_law 241 = .ok (.aload_n 0, 1) := dk_42 (dk_at dksL_law_3 21 rfl rfl)
theorem dL_law_242 : decode cL_law 242 = .ok (.iload_n 3, 1) := dk_29 (dk_at dksL_law_3 22 rfl rfl)
theorem dL_law_243 : decode cL_law 243 = .ok (.iconst 5, 1) := dk_8 (dk_at dksL_law_3 23 rfl rfl)
theorem dL_law_244 : decode cL_law 244 = .ok (.iadd, 1) := dk_96 (dk_at dksL_law_4 0 rfl rfl)
theorem dL_law_245 : decode cL_law 245 = .ok (.iaload, 1) := dk_46 (dk_at dksL_law_4 1 rfl rfl)
theorem dL_law_246 : decode cL_law 246 = .ok (.invokevirtual 13, 3) := dk_182 0 13 (dk_at dksL_law_4 2 rfl rfl)
theorem dL_law_249 : decode cL_law 249 = .ok (.aload_n 2, 1) := dk_44 (dk_at dksL_law_4 5 rfl rfl)
theorem dL_law_250 : decode cL_law 250 = .ok (.aload_n 0, 1) := dk_42 (dk_at dksL_law_4 6 rfl rfl)
theorem dL_law_251 : decode cL_law 251 = .ok (.iload_n 3, 1) := dk_29 (dk_at dksL_law_4 7 rfl rfl)
theorem dL_law_252 : decode cL_law 252 = .ok (.iconst 1, 1) := dk_4 (dk_at dksL_law_4 8 rfl rfl)
theorem dL_law_253 : decode cL_law 253 = .ok (.iadd, 1) := dk_96 (dk_at dksL_law_4 9 rfl rfl)
theorem dL_law_254 : decode cL_law 254 = .ok (.iaload, 1) := dk_46 (dk_at dksL_law_4 10 rfl rfl)
theorem dL_law_255 : decode cL_law 255 = .ok (.aload_n 0, 1) := dk_42 (dk_at dksL_law_4 11 rfl rfl)
theorem dL_law_256 : decode cL_law 256 = .ok (.iload_n 3, 1) := dk_29 (dk_at dksL_law_4 12 rfl rfl)
theorem dL_law_257 : decode cL_law 257 = .ok (.iconst 2, 1) := dk_5 (dk_at dksL_law_4 13 rfl rfl)
theorem dL_law_258 : decode cL_law 258 = .ok (.iadd, 1) := dk_96 (dk_at dksL_law_4 14 rfl rfl)
theorem dL_law_259 : decode cL_law 259 = .ok (.iaload, 1) := dk_46 (dk_at dksL_law_4 15 rfl rfl)
theorem dL_law_260 : decode cL_law 260 = .ok (.aload_n 0, 1) := dk_42 (dk_at dksL_law_4 16 rfl rfl)
theorem dL_law_261 : decode cL_law 261 = .ok (.iload_n 3, 1) := dk_29 (dk_at dksL_law_4 17 rfl rfl)
theorem dL_law_262 : decode cL_law 262 = .ok (.iconst 3, 1) := dk_6 (dk_at dksL_law_4 18 rfl rfl)
theorem dL_law_263 : decode cL_law 263 = .ok (.iadd, 1) := dk_96 (dk_at dksL_law_4 19 rfl rfl)
theorem dL_law_264 : decode cL_law 264 = .ok (.iaload, 1) := dk_46 (dk_at dksL_law_4 20 rfl rfl)
theorem dL_law_265 : decode cL_law 265 = .ok (.aload_n 0, 1) := dk_42 (dk_at dksL_law_4 21 rfl rfl)
theorem dL_law_266 : decode cL_law 266 = .ok (.iload_n 3, 1) := dk_29 (dk_at dksL_law_4 22 rfl rfl)
theorem dL_law_267 : decode cL_law 267 = .ok (.iconst 4, 1) := dk_7 (dk_at dksL_law_4 23 rfl rfl)
theorem dL_law_268 : decode cL_law 268 = .ok (.iadd, 1) := dk_96 (dk_at dksL_law_5 0 rfl rfl)
theorem dL_law_269 : decode cL_law 269 = .ok (.iaload, 1) := dk_46 (dk_at dksL_law_5 1 rfl rfl)
theorem dL_law_270 : decode cL_law 270 = .ok (.aload_n 0, 1) := dk_42 (dk_at dksL_law_5 2 rfl rfl)
theorem dL_law_271 : decode cL_law 271 = .ok (.iload_n 3, 1) := dk_29 (dk_at dksL_law_5 3 rfl rfl)
theorem dL_law_272 : decode cL_law 272 = .ok (.iconst 5, 1) := dk_8 (dk_at dksL_law_5 4 rfl rfl)
theorem dL_law_273 : decode cL_law 273 = .ok (.iadd, 1) := dk_96 (dk_at dksL_law_5 5 rfl rfl)
theorem dL_law_274 : decode cL_law 274 = .ok (.iaload, 1) := dk_46 (dk_at dksL_law_5 6 rfl rfl)
theorem dL_law_275 : decode cL_law 275 = .ok (.invokevirtual 17, 3) := dk_182 0 17 (dk_at dksL_law_5 7 rfl rfl)
theorem dL_law_278 : decode cL_law 278 = .ok (.if_icmp .eq 1225, 3) := dk_159 4 201 (dk_at dksL_law_5 10 rfl rfl)
theorem dL_law_281 : decode cL_law 281 = .ok (.iconst 0, 1) := dk_3 (dk_at dksL_law_5 13 rfl rfl)
theorem dL_law_282 : decode cL_law 282 = .ok (.ireturn, 1) := dk_172 (dk_at dksL_law_5 14 rfl rfl)
theorem dL_law_283 : decode cL_law 283 = .ok (.aload_n 1, 1) := dk_43 (dk_at dksL_law_5 15 rfl rfl)
theorem dL_law_284 : decode cL_law 284 = .ok (.aload_n 0, 1) := dk_42 (dk_at dksL_law_5 16 rfl rfl)
theorem dL_law_285 : decode cL_law 285 = .ok (.iload_n 3, 1) := dk_29 (dk_at dksL_law_5 17 rfl rfl)
theorem dL_law_286 : decode cL_law 286 = .ok (.iconst 1, 1) := dk_4 (dk_at dksL_law_5 18 rfl rfl)
theorem dL_law_287 : decode cL_law 287 = .ok (.iadd, 1) := dk_96 (dk_at dksL_law_5 19 rfl rfl)
theorem dL_law_288 : decode cL_law 288 = .ok (.iaload, 1) := dk_46 (dk_at dksL_law_5 20 rfl rfl)
theorem dL_law_289 : decode cL_law 289 = .ok (.invokevirtual 18, 3) := dk_182 0 18 (dk_at dksL_law_5 21 rfl rfl)
theorem dL_law_292 : decode cL_law 292 = .ok (.aload_n 2, 1) := dk_44 (dk_at dksL_law_6 0 rfl rfl)
theorem dL_law_293 : decode cL_law 293 = .ok (.aload_n 0, 1) := dk_42 (dk_at dksL_law_6 1 rfl rfl)
theorem dL_law_294 : decode cL_law 294 = .ok (.iload_n 3, 1) := dk_29 (dk_at dksL_law_6 2 rfl rfl)
theorem dL_law_295 : decode cL_law 295 = .ok (.iconst 1, 1) := dk_4 (dk_at dksL_law_6 3 rfl rfl)
theorem dL_law_296 : decode cL_law 296 = .ok (.iadd, 1) := dk_96 (dk_at dksL_law_6 4 rfl rfl)
theorem dL_law_297 : decode cL_law 297 = .ok (.iaload, 1) := dk_46 (dk_at dksL_law_6 5 rfl rfl)
theorem dL_law_298 : decode cL_law 298 = .ok (.invokevirtual 22, 3) := dk_182 0 22 (dk_at dksL_law_6 6 rfl rfl)
theorem dL_law_301 : decode cL_law 301 = .ok (.if_icmp .eq 1202, 3) := dk_159 4 178 (dk_at dksL_law_6 9 rfl rfl)
theorem dL_law_304 : decode cL_law 304 = .ok (.iconst 0, 1) := dk_3 (dk_at dksL_law_6 12 rfl rfl)
theorem dL_law_305 : decode cL_law 305 = .ok (.ireturn, 1) := dk_172 (dk_at dksL_law_6 13 rfl rfl)
theorem dL_law_306 : decode cL_law 306 = .ok (.aload_n 1, 1) := dk_43 (dk_at dksL_law_6 14 rfl rfl)
theorem dL_law_307 : decode cL_law 307 = .ok (.invokevirtual 23, 3) := dk_182 0 23 (dk_at dksL_law_6 15 rfl rfl)
theorem dL_law_310 : decode cL_law 310 = .ok (.aload_n 2, 1) := dk_44 (dk_at dksL_law_6 18 rfl rfl)
theorem dL_law_311 : decode cL_law 311 = .ok (.invokevirtual 27, 3) := dk_182 0 27 (dk_at dksL_law_6 19 rfl rfl)
theorem dL_law_314 : decode cL_law 314 = .ok (.if_icmp .eq 1189, 3) := dk_159 4 165 (dk_at dksL_law_7 0 rfl rfl)
theorem dL_law_317 : decode cL_law 317 = .ok (.iconst 0, 1) := dk_3 (dk_at dksL_law_7 3 rfl rfl)
theorem dL_law_318 : decode cL_law 318 = .ok (.ireturn, 1) := dk_172 (dk_at dksL_law_7 4 rfl rfl)
theorem dL_law_319 : decode cL_law 319 = .ok (.aload_n 1, 1) := dk_43 (dk_at dksL_law_7 5 rfl rfl)
theorem dL_law_320 : decode cL_law 320 = .ok (.invokevirtual 28, 3) := dk_182 0 28 (dk_at dksL_law_7 6 rfl rfl)
theorem dL_law_323 : decode cL_law 323 = .ok (.aload_n 2, 1) := dk_44 (dk_at dksL_law_7 9 rfl rfl)
theorem dL_law_324 : decode cL_law 324 = .ok (.invokevirtual 31, 3) := dk_182 0 31 (dk_at dksL_law_7 10 rfl rfl)
theorem dL_law_327 : decode cL_law 327 = .ok (.if_icmp .eq 1176, 3) := dk_159 4 152 (dk_at dksL_law_7 13 rfl rfl)
theorem dL_law_330 : decode cL_law 330 = .ok (.iconst 0, 1) := dk_3 (dk_at dksL_law_7 16 rfl rfl)
theorem dL_law_331 : decode cL_law 331 = .ok (.ireturn, 1) := dk_172 (dk_at dksL_law_7 17 rfl rfl)
theorem dL_law_332 : decode cL_law 332 = .ok (.aload_n 1, 1) := dk_43 (dk_at dksL_law_7 18 rfl rfl)
theorem dL_law_333 : decode cL_law 333 = .ok (.aload_n 0, 1) := dk_42 (dk_at dksL_law_7 19 rfl rfl)
theorem dL_law_334 : decode cL_law 334 = .ok (.iload_n 3, 1) := dk_29 (dk_at dksL_law_7 20 rfl rfl)
theorem dL_law_335 : decode cL_law 335 = .ok (.iconst 1, 1) := dk_4 (dk_at dksL_law_7 21 rfl rfl)
theorem dL_law_336 : decode cL_law 336 = .ok (.iadd, 1) := dk_96 (dk_at dksL_law_7 22 rfl rfl)
theorem dL_law_337 : decode cL_law 337 = .ok (.iaload, 1) := dk_46 (dk_at dksL_law_7 23 rfl rfl)
theorem dL_law_338 : decode cL_law 338 = .ok (.invokevirtual 32, 3) := dk_182 0 32 (dk_at dksL_law_8 0 rfl rfl)
theorem dL_law_341 : decode cL_law 341 = .ok (.aload_n 2, 1) := dk_44 (dk_at dksL_law_8 3 rfl rfl)
theorem dL_law_342 : decode cL_law 342 = .ok (.aload_n 0, 1) := dk_42 (dk_at dksL_law_8 4 rfl rfl)
theorem dL_law_343 : decode cL_law 343 = .ok (.iload_n 3, 1) := dk_29 (dk_at dksL_law_8 5 rfl rfl)
theorem dL_law_344 : decode cL_law 344 = .ok (.iconst 1, 1) := dk_4 (dk_at dksL_law_8 6 rfl rfl)
theorem dL_law_345 : decode cL_law 345 = .ok (.iadd, 1) := dk_96 (dk_at dksL_law_8 7 rfl rfl)
theorem dL_law_346 : decode cL_law 346 = .ok (.iaload, 1) := dk_46 (dk_at dksL_law_8 8 rfl rfl)
theorem dL_law_347 : decode cL_law 347 = .ok (.invokevirtual 35, 3) := dk_182 0 35 (dk_at dksL_law_8 9 rfl rfl)
theorem dL_law_350 : decode cL_law 350 = .ok (.if_icmp .eq 1153, 3) := dk_159 4 129 (dk_at dksL_law_8 12 rfl rfl)
theorem dL_law_353 : decode cL_law 353 = .ok (.iconst 0, 1) := dk_3 (dk_at dksL_law_8 15 rfl rfl)
theorem dL_law_354 : decode cL_law 354 = .ok (.ireturn, 1) := dk_172 (dk_at dksL_law_8 16 rfl rfl)
theorem dL_law_355 : decode cL_law 355 = .ok (.aload_n 1, 1) := dk_43 (dk_at dksL_law_8 17 rfl rfl)
theorem dL_law_356 : decode cL_law 356 = .ok (.aload_n 0, 1) := dk_42 (dk_at dksL_law_8 18 rfl rfl)
theorem dL_law_357 : decode cL_law 357 = .ok (.iload_n 3, 1) := dk_29 (dk_at dksL_law_8 19 rfl rfl)
theorem dL_law_358 : decode cL_law 358 = .ok (.iconst 1, 1) := dk_4 (dk_at dksL_law_8 20 rfl rfl)
theorem dL_law_359 : decode cL_law 359 = .ok (.iadd, 1) := dk_96 (dk_at dksL_law_8 21 rfl rfl)
theorem dL_law_360 : decode cL_law 360 = .ok (.iaload, 1) := dk_46 (dk_at dksL_law_8 22 rfl rfl)
theorem dL_law_361 : decode cL_law 361 = .ok (.aload_n 0, 1) := dk_42 (dk_at dksL_law_8 23 rfl rfl)
theorem dL_law_362 : decode cL_law 362 = .ok (.iload_n 3, 1) := dk_29 (dk_at dksL_law_9 0 rfl rfl)
theorem dL_law_363 : decode cL_law 363 = .ok (.iconst 2, 1) := dk_5 (dk_at dksL_law_9 1 rfl rfl)
theorem dL_law_364 : decode cL_law 364 = .ok (.iadd, 1) := dk_96 (dk_at dksL_law_9 2 rfl rfl)
theorem dL_law_365 : decode cL_law 365 = .ok (.iaload, 1) := dk_46 (dk_at dksL_law_9 3 rfl rfl)
theorem dL_law_366 : decode cL_law 366 = .ok (.ifCond .eq 7, 3) := dk_153 0 7 (dk_at dksL_law_9 4 rfl rfl)
theorem dL_law_369 : decode cL_law 369 = .ok (.iconst 1, 1) := dk_4 (dk_at dksL_law_9 7 rfl rfl)
theorem dL_law_370 : decode cL_law 370 = .ok (.goto 4, 3) := dk_167 0 4 (dk_at dksL_law_9 8 rfl rfl)
theorem dL_law_373 : decode cL_law 373 = .ok (.iconst 0, 1) := dk_3 (dk_at dksL_law_9 11 rfl rfl)
theorem dL_law_374 : decode cL_law 374 = .ok (.invokevirtual 36, 3) := dk_182 0 36 (dk_at dksL_law_9 12 rfl rfl)
theorem dL_law_377 : decode cL_law 377 = .ok (.aload_n 2, 1) := dk_44 (dk_at dksL_law_9 15 rfl rfl)
theorem dL_law_378 : decode cL_law 378 = .ok (.aload_n 0, 1) := dk_42 (dk_at dksL_law_9 16 rfl rfl)
theorem dL_law_379 : decode cL_law 379 = .ok (.iload_n 3, 1) := dk_29 (dk_at dksL_law_9 17 rfl rfl)
theorem dL_law_380 : decode cL_law 380 = .ok (.iconst 1, 1) := dk_4 (dk_at dksL_law_9 18 rfl rfl)
theorem dL_law_381 : decode cL_law 381 = .ok (.iadd, 1) := dk_96 (dk_at dksL_law_9 19 rfl rfl)
theorem dL_law_382 : decode cL_law 382 = .ok (.iaload, 1) := dk_46 (dk_at dksL_law_9 20 rfl rfl)
theorem dL_law_383 : decode cL_law 383 = .ok (.aload_n 0, 1) := dk_42 (dk_at dksL_law_9 21 rfl rfl)
theorem dL_law_384 : decode cL_law 384 = .ok (.iload_n 3, 1) := dk_29 (dk_at dksL_law_9 22 rfl rfl)
theorem dL_law_385 : decode cL_law 385 = .ok (.iconst 2, 1) := dk_5 (dk_at dksL_law_9 23 rfl rfl)
theorem dL_law_386 : decode cL_law 386 = .ok (.iadd, 1) := dk_96 (dk_at dksL_law_10 0 rfl rfl)
theorem dL_law_387 : decode cL_law 387 = .ok (.iaload, 1) := dk_46 (dk_at dksL_law_10 1 rfl rfl)
theorem dL_law_388 : decode cL_law 388 = .ok (.ifCond .eq 7, 3) := dk_153 0 7 (dk_at dksL_law_10 2 rfl rfl)
theorem dL_law_391 : decode cL_law 391 = .ok (.iconst 1, 1) := dk_4 (dk_at dksL_law_10 5 rfl rfl)
theorem dL_law_392 : decode cL_law 392 = .ok (.goto 4, 3) := dk_167 0 4 (dk_at dksL_law_10 6 rfl rfl)
theorem dL_law_395 : decode cL_law 395 = .ok (.iconst 0, 1) := dk_3 (dk_at dksL_law_10 9 rfl rfl)
theorem dL_law_396 : decode cL_law 396 = .ok (.invokevirtual 40, 3) := dk_182 0 40 (dk_at dksL_law_10 10 rfl rfl)
theorem dL_law_399 : decode cL_law 399 = .ok (.if_icmp .eq 1104, 3) := dk_159 4 80 (dk_at dksL_law_10 13 rfl rfl)
theorem dL_law_402 : decode cL_law 402 = .ok (.iconst 0, 1) := dk_3 (dk_at dksL_law_10 16 rfl rfl)
theorem dL_law_403 : decode cL_law 403 = .ok (.ireturn, 1) := dk_172 (dk_at dksL_law_10 17 rfl rfl)
theorem dL_law_404 : decode cL_law 404 = .ok (.aload_n 1, 1) := dk_43 (dk_at dksL_law_10 18 rfl rfl)
theorem dL_law_405 : decode cL_law 405 = .ok (.aload_n 0, 1) := dk_42 (dk_at dksL_law_10 19 rfl rfl)
theorem dL_law_406 : decode cL_law 406 = .ok (.iload_n 3, 1) := dk_29 (dk_at dksL_law_10 20 rfl rfl)
theorem dL_law_407 : decode cL_law 407 = .ok (.iconst 1, 1) := dk_4 (dk_at dksL_law_10 21 rfl rfl)
theorem dL_law_408 : decode cL_law 408 = .ok (.iadd, 1) := dk_96 (dk_at dksL_law_10 22 rfl rfl)
theorem dL_law_409 : decode cL_law 409 = .ok (.iaload, 1) := dk_46 (dk_at dksL_law_10 23 rfl rfl)
theorem dL_law_410 : decode cL_law 410 = .ok (.aload_n 0, 1) := dk_42 (dk_at dksL_law_11 0 rfl rfl)
theorem dL_law_411 : decode cL_law 411 = .ok (.iload_n 3, 1) := dk_29 (dk_at dksL_law_11 1 rfl rfl)
theorem dL_law_412 : decode cL_law 412 = .ok (.iconst 2, 1) := dk_5 (dk_at dksL_law_11 2 rfl rfl)
theorem dL_law_413 : decode cL_law 413 = .ok (.iadd, 1) := dk_96 (dk_at dksL_law_11 3 rfl rfl)
theorem dL_law_414 : decode cL_law 414 = .ok (.iaload, 1) := dk_46 (dk_at dksL_law_11 4 rfl rfl)
theorem dL_law_415 : decode cL_law 415 = .ok (.invokevirtual 41, 3) := dk_182 0 41 (dk_at dksL_law_11 5 rfl rfl)
theorem dL_law_418 : decode cL_law 418 = .ok (.aload_n 2, 1) := dk_44 (dk_at dksL_law_11 8 rfl rfl)
theorem dL_law_419 : decode cL_law 419 = .ok (.aload_n 0, 1) := dk_42 (dk_at dksL_law_11 9 rfl rfl)
theorem dL_law_420 : decode cL_law 420 = .ok (.iload_n 3, 1) := dk_29 (dk_at dksL_law_11 10 rfl rfl)
theorem dL_law_421 : decode cL_law 421 = .ok (.iconst 1, 1) := dk_4 (dk_at dksL_law_11 11 rfl rfl)
theorem dL_law_422 : decode cL_law 422 = .ok (.iadd, 1) := dk_96 (dk_at dksL_law_11 12 rfl rfl)
theorem dL_law_423 : decode cL_law 423 = .ok (.iaload, 1) := dk_46 (dk_at dksL_law_11 13 rfl rfl)
theorem dL_law_424 : decode cL_law 424 = .ok (.aload_n 0, 1) := dk_42 (dk_at dksL_law_11 14 rfl rfl)
theorem dL_law_425 : decode cL_law 425 = .ok (.iload_n 3, 1) := dk_29 (dk_at dksL_law_11 15 rfl rfl)
theorem dL_law_426 : decode cL_law 426 = .ok (.iconst 2, 1) := dk_5 (dk_at dksL_law_11 16 rfl rfl)
theorem dL_law_427 : decode cL_law 427 = .ok (.iadd, 1) := dk_96 (dk_at dksL_law_11 17 rfl rfl)
theorem dL_law_428 : decode cL_law 428 = .ok (.iaload, 1) := dk_46 (dk_at dksL_law_11 18 rfl rfl)
theorem dL_law_429 : decode cL_law 429 = .ok (.invokevirtual 45, 3) := dk_182 0 45 (dk_at dksL_law_11 19 rfl rfl)
theorem dL_law_432 : decode cL_law 432 = .ok (.if_icmp .eq 1071, 3) := dk_159 4 47 (dk_at dksL_law_12 0 rfl rfl)
theorem dL_law_435 : decode cL_law 435 = .ok (.iconst 0, 1) := dk_3 (dk_at dksL_law_12 3 rfl rfl)
theorem dL_law_436 : decode cL_law 436 = .ok (.ireturn, 1) := dk_172 (dk_at dksL_law_12 4 rfl rfl)
theorem dL_law_437 : decode cL_law 437 = .ok (.aload_n 1, 1) := dk_43 (dk_at dksL_law_12 5 rfl rfl)
theorem dL_law_438 : decode cL_law 438 = .ok (.aload_n 0, 1) := dk_42 (dk_at dksL_law_12 6 rfl rfl)
theorem dL_law_439 : decode cL_law 439 = .ok (.iload_n 3, 1) := dk_29 (dk_at dksL_law_12 7 rfl rfl)
theorem dL_law_440 : decode cL_law 440 = .ok (.iconst 1, 1) := dk_4 (dk_at dksL_law_12 8 rfl rfl)
theorem dL_law_441 : decode cL_law 441 = .ok (.iadd, 1) := dk_96 (dk_at dksL_law_12 9 rfl rfl)
theorem dL_law_442 : decode cL_law 442 = .ok (.iaload, 1) := dk_46 (dk_at dksL_law_12 10 rfl rfl)
theorem dL_law_443 : decode cL_law 443 = .ok (.invokevirtual 46, 3) := dk_182 0 46 (dk_at dksL_law_12 11 rfl rfl)
theorem dL_law_446 : decode cL_law 446 = .ok (.aload_n 2, 1) := dk_44 (dk_at dksL_law_12 14 rfl rfl)
theorem dL_law_447 : decode cL_law 447 = .ok (.aload_n 0, 1) := dk_42 (dk_at dksL_law_12 15 rfl rfl)
theorem dL_law_448 : decode cL_law 448 = .ok (.iload_n 3, 1) := dk_29 (dk_at dksL_law_12 16 rfl rfl)
theorem dL_law_449 : decode cL_law 449 = .ok (.iconst 1, 1) := dk_4 (dk_at dksL_law_12 17 rfl rfl)
theorem dL_law_450 : decode cL_law 450 = .ok (.iadd, 1) := dk_96 (dk_at dksL_law_12 18 rfl rfl)
theorem dL_law_451 : decode cL_law 451 = .ok (.iaload, 1) := dk_46 (dk_at dksL_law_12 19 rfl rfl)
theorem dL_law_452 : decode cL_law 452 = .ok (.invokevirtual 49, 3) := dk_182 0 49 (dk_at dksL_law_12 20 rfl rfl)
theorem dL_law_455 : decode cL_law 455 = .ok (.if_icmp .eq 1048, 3) := dk_159 4 24 (dk_at dksL_law_13 0 rfl rfl)
theorem dL_law_458 : decode cL_law 458 = .ok (.iconst 0, 1) := dk_3 (dk_at dksL_law_13 3 rfl rfl)
theorem dL_law_459 : decode cL_law 459 = .ok (.ireturn, 1) := dk_172 (dk_at dksL_law_13 4 rfl rfl)
theorem dL_law_460 : decode cL_law 460 = .ok (.aload_n 1, 1) := dk_43 (dk_at dksL_law_13 5 rfl rfl)
theorem dL_law_461 : decode cL_law 461 = .ok (.aload_n 0, 1) := dk_42 (dk_at dksL_law_13 6 rfl rfl)
theorem dL_law_462 : decode cL_law 462 = .ok (.iload_n 3, 1) := dk_29 (dk_at dksL_law_13 7 rfl rfl)
theorem dL_law_463 : decode cL_law 463 = .ok (.iconst 1, 1) := dk_4 (dk_at dksL_law_13 8 rfl rfl)
theorem dL_law_464 : decode cL_law 464 = .ok (.iadd, 1) := dk_96 (dk_at dksL_law_13 9 rfl rfl)
theorem dL_law_465 : decode cL_law 465 = .ok (.iaload, 1) := dk_46 (dk_at dksL_law_13 10 rfl rfl)
theorem dL_law_466 : decode cL_law 466 = .ok (.aload_n 0, 1) := dk_42 (dk_at dksL_law_13 11 rfl rfl)
theorem dL_law_467 : decode cL_law 467 = .ok (.iload_n 3, 1) := dk_29 (dk_at dksL_law_13 12 rfl rfl)
theorem dL_law_468 : decode cL_law 468 = .ok (.iconst 2, 1) := dk_5 (dk_at dksL_law_13 13 rfl rfl)
theorem dL_law_469 : decode cL_law 469 = .ok (.iadd, 1) := dk_96 (dk_at dksL_law_13 14 rfl rfl)
theorem dL_law_470 : decode cL_law 470 = .ok (.iaload, 1) := dk_46 (dk_at dksL_law_13 15 rfl rfl)
theorem dL_law_471 : decode cL_law 471 = .ok (.invokevirtual 50, 3) := dk_182 0 50 (dk_at dksL_law_13 16 rfl rfl)
theorem dL_law_474 : decode cL_law 474 = .ok (.aload_n 2, 1) := dk_44 (dk_at dksL_law_13 19 rfl rfl)
theorem dL_law_475 : decode cL_law 475 = .ok (.aload_n 0, 1) := dk_42 (dk_at dksL_law_13 20 rfl rfl)
theorem dL_law_476 : decode cL_law 476 = .ok (.iload_n 3, 1) := dk_29 (dk_at dksL_law_13 21 rfl rfl)
theorem dL_law_477 : decode cL_law 477 = .ok (.iconst 1, 1) := dk_4 (dk_at dksL_law_13 22 rfl rfl)
theorem dL_law_478 : decode cL_law 478 = .ok (.iadd, 1) := dk_96 (dk_at dksL_law_13 23 rfl rfl)
theorem dL_law_479 : decode cL_law 479 = .ok (.iaload, 1) := dk_46 (dk_at dksL_law_14 0 rfl rfl)
theorem dL_law_480 : decode cL_law 480 = .ok (.aload_n 0, 1) := dk_42 (dk_at dksL_law_14 1 rfl rfl)
theorem dL_law_481 : decode cL_law 481 = .ok (.iload_n 3, 1) := dk_29 (dk_at dksL_law_14 2 rfl rfl)
theorem dL_law_482 : decode cL_law 482 = .ok (.iconst 2, 1) := dk_5 (dk_at dksL_law_14 3 rfl rfl)
theorem dL_law_483 : decode cL_law 483 = .ok (.iadd, 1) := dk_96 (dk_at dksL_law_14 4 rfl rfl)
theorem dL_law_484 : decode cL_law 484 = .ok (.iaload, 1) := dk_46 (dk_at dksL_law_14 5 rfl rfl)
theorem dL_law_485 : decode cL_law 485 = .ok (.invokevirtual 53, 3) := dk_182 0 53 (dk_at dksL_law_14 6 rfl rfl)
theorem dL_law_488 : decode cL_law 488 = .ok (.if_icmp .eq 1015, 3) := dk_159 3 247 (dk_at dksL_law_14 9 rfl rfl)
theorem dL_law_491 : decode cL_law 491 = .ok (.iconst 0, 1) := dk_3 (dk_at dksL_law_14 12 rfl rfl)
theorem dL_law_492 : decode cL_law 492 = .ok (.ireturn, 1) := dk_172 (dk_at dksL_law_14 13 rfl rfl)
theorem dL_law_493 : decode cL_law 493 = .ok (.aload_n 1, 1) := dk_43 (dk_at dksL_law_14 14 rfl rfl)
theorem dL_law_494 : decode cL_law 494 = .ok (.aload_n 0, 1) := dk_42 (dk_at dksL_law_14 15 rfl rfl)
theorem dL_law_495 : decode cL_law 495 = .ok (.iload_n 3, 1) := dk_29 (dk_at dksL_law_14 16 rfl rfl)
theorem dL_law_496 : decode cL_law 496 = .ok (.iconst 1, 1) := dk_4 (dk_at dksL_law_14 17 rfl rfl)
theorem dL_law_497 : decode cL_law 497 = .ok (.iadd, 1) := dk_96 (dk_at dksL_law_14 18 rfl rfl)
theorem dL_law_498 : decode cL_law 498 = .ok (.iaload, 1) := dk_46 (dk_at dksL_law_14 19 rfl rfl)
theorem dL_law_499 : decode cL_law 499 = .ok (.aload_n 0, 1) := dk_42 (dk_at dksL_law_14 20 rfl rfl)
theorem dL_law_500 : decode cL_law 500 = .ok (.iload_n 3, 1) := dk_29 (dk_at dksL_law_14 21 rfl rfl)
theorem dL_law_501 : decode cL_law 501 = .ok (.iconst 2, 1) := dk_5 (dk_at dksL_law_14 22 rfl rfl)
theorem dL_law_502 : decode cL_law 502 = .ok (.iadd, 1) := dk_96 (dk_at dksL_law_14 23 rfl rfl)
theorem dL_law_503 : decode cL_law 503 = .ok (.iaload, 1) := dk_46 (dk_at dksL_law_15 0 rfl rfl)
theorem dL_law_504 : decode cL_law 504 = .ok (.aload_n 0, 1) := dk_42 (dk_at dksL_law_15 1 rfl rfl)
theorem dL_law_505 : decode cL_law 505 = .ok (.iload_n 3, 1) := dk_29 (dk_at dksL_law_15 2 rfl rfl)
theorem dL_law_506 : decode cL_law 506 = .ok (.iconst 3, 1) := dk_6 (dk_at dksL_law_15 3 rfl rfl)
theorem dL_law_507 : decode cL_law 507 = .ok (.iadd, 1) := dk_96 (dk_at dksL_law_15 4 rfl rfl)
theorem dL_law_508 : decode cL_law 508 = .ok (.iaload, 1) := dk_46 (dk_at dksL_law_15 5 rfl rfl)
theorem dL_law_509 : decode cL_law 509 = .ok (.invokevirtual 54, 3) := dk_182 0 54 (dk_at dksL_law_15 6 rfl rfl)
theorem dL_law_512 : decode cL_law 512 = .ok (.aload_n 2, 1) := dk_44 (dk_at dksL_law_15 9 rfl rfl)
theorem dL_law_513 : decode cL_law 513 = .ok (.aload_n 0, 1) := dk_42 (dk_at dksL_law_15 10 rfl rfl)
theorem dL_law_514 : decode cL_law 514 = .ok (.iload_n 3, 1) := dk_29 (dk_at dksL_law_15 11 rfl rfl)
theorem dL_law_515 : decode cL_law 515 = .ok (.iconst 1, 1) := dk_4 (dk_at dksL_law_15 12 rfl rfl)
theorem dL_law_516 : decode cL_law 516 = .ok (.iadd, 1) := dk_96 (dk_at dksL_law_15 13 rfl rfl)
theorem dL_law_517 : decode cL_law 517 = .ok (.iaload, 1) := dk_46 (dk_at dksL_law_15 14 rfl rfl)
theorem dL_law_518 : decode cL_law 518 = .ok (.aload_n 0, 1) := dk_42 (dk_at dksL_law_15 15 rfl rfl)
theorem dL_law_519 : decode cL_law 519 = .ok (.iload_n 3, 1) := dk_29 (dk_at dksL_law_15 16 rfl rfl)
theorem dL_law_520 : decode cL_law 520 = .ok (.iconst 2, 1) := dk_5 (dk_at dksL_law_15 17 rfl rfl)
theorem dL_law_521 : decode cL_law 521 = .ok (.iadd, 1) := dk_96 (dk_at dksL_law_15 18 rfl rfl)
theorem dL_law_522 : decode cL_law 522 = .ok (.iaload, 1) := dk_46 (dk_at dksL_law_15 19 rfl rfl)
theorem dL_law_523 : decode cL_law 523 = .ok (.aload_n 0, 1) := dk_42 (dk_at dksL_law_15 20 rfl rfl)
theorem dL_law_524 : decode cL_law 524 = .ok (.iload_n 3, 1) := dk_29 (dk_at dksL_law_15 21 rfl rfl)
theorem dL_law_525 : decode cL_law 525 = .ok (.iconst 3, 1) := dk_6 (dk_at dksL_law_15 22 rfl rfl)
theorem dL_law_526 : decode cL_law 526 = .ok (.iadd, 1) := dk_96 (dk_at dksL_law_15 23 rfl rfl)
theorem dL_law_527 : decode cL_law 527 = .ok (.iaload, 1) := dk_46 (dk_at dksL_law_16 0 rfl rfl)
theorem dL_law_528 : decode cL_law 528 = .ok (.invokevirtual 58, 3) := dk_182 0 58 (dk_at dksL_law_16 1 rfl rfl)
theorem dL_law_531 : decode cL_law 531 = .ok (.if_icmp .eq 972, 3) := dk_159 3 204 (dk_at dksL_law_16 4 rfl rfl)
theorem dL_law_534 : decode cL_law 534 = .ok (.iconst 0, 1) := dk_3 (dk_at dksL_law_16 7 rfl rfl)
theorem dL_law_535 : decode cL_law 535 = .ok (.ireturn, 1) := dk_172 (dk_at dksL_law_16 8 rfl rfl)
theorem dL_law_536 : decode cL_law 536 = .ok (.aload_n 1, 1) := dk_43 (dk_at dksL_law_16 9 rfl rfl)
theorem dL_law_537 : decode cL_law 537 = .ok (.aload_n 0, 1) := dk_42 (dk_at dksL_law_16 10 rfl rfl)
theorem dL_law_538 : decode cL_law 538 = .ok (.iload_n 3, 1) := dk_29 (dk_at dksL_law_16 11 rfl rfl)
theorem dL_law_539 : decode cL_law 539 = .ok (.iconst 1, 1) := dk_4 (dk_at dksL_law_16 12 rfl rfl)
theorem dL_law_540 : decode cL_law 540 = .ok (.iadd, 1) := dk_96 (dk_at dksL_law_16 13 rfl rfl)
theorem dL_law_541 : decode cL_law 541 = .ok (.iaload, 1) := dk_46 (dk_at dksL_law_16 14 rfl rfl)
theorem dL_law_542 : decode cL_law 542 = .ok (.invokevirtual 59, 3) := dk_182 0 59 (dk_at dksL_law_16 15 rfl rfl)
theorem dL_law_545 : decode cL_law 545 = .ok (.aload_n 2, 1) := dk_44 (dk_at dksL_law_16 18 rfl rfl)
theorem dL_law_546 : decode cL_law 546 = .ok (.aload_n 0, 1) := dk_42 (dk_at dksL_law_16 19 rfl rfl)
theorem dL_law_547 : decode cL_law 547 = .ok (.iload_n 3, 1) := dk_29 (dk_at dksL_law_16 20 rfl rfl)
theorem dL_law_548 : decode cL_law 548 = .ok (.iconst 1, 1) := dk_4 (dk_at dksL_law_16 21 rfl rfl)
theorem dL_law_549 : decode cL_law 549 = .ok (.iadd, 1) := dk_96 (dk_at dksL_law_16 22 rfl rfl)
theorem dL_law_550 : decode cL_law 550 = .ok (.iaload, 1) := dk_46 (dk_at dksL_law_16 23 rfl rfl)
theorem dL_law_551 : decode cL_law 551 = .ok (.invokevirtual 62, 3) := dk_182 0 62 (dk_at dksL_law_17 0 rfl rfl)
theorem dL_law_554 : decode cL_law 554 = .ok (.if_icmp .eq 949, 3) := dk_159 3 181 (dk_at dksL_law_17 3 rfl rfl)
theorem dL_law_557 : decode cL_law 557 = .ok (.iconst 0, 1) := dk_3 (dk_at dksL_law_17 6 rfl rfl)
theorem dL_law_558 : decode cL_law 558 = .ok (.ireturn, 1) := dk_172 (dk_at dksL_law_17 7 rfl rfl)
theorem dL_law_559 : decode cL_law 559 = .ok (.aload_n 1, 1) := dk_43 (dk_at dksL_law_17 8 rfl rfl)
theorem dL_law_560 : decode cL_law 560 = .ok (.aload_n 0, 1) := dk_42 (dk_at dksL_law_17 9 rfl rfl)
theorem dL_law_561 : decode cL_law 561 = .ok (.iload_n 3, 1) := dk_29 (dk_at dksL_law_17 10 rfl rfl)
theorem dL_law_562 : decode cL_law 562 = .ok (.iconst 1, 1) := dk_4 (dk_at dksL_law_17 11 rfl rfl)
theorem dL_law_563 : decode cL_law 563 = .ok (.iadd, 1) := dk_96 (dk_at dksL_law_17 12 rfl rfl)
theorem dL_law_564 : decode cL_law 564 = .ok (.iaload, 1) := dk_46 (dk_at dksL_law_17 13 rfl rfl)
theorem dL_law_565 : decode cL_law 565 = .ok (.invokevirtual 63, 3) := dk_182 0 63 (dk_at dksL_law_17 14 rfl rfl)
theorem dL_law_568 : decode cL_law 568 = .ok (.aload_n 2, 1) := dk_44 (dk_at dksL_law_17 17 rfl rfl)
theorem dL_law_569 : decode cL_law 569 = .ok (.aload_n 0, 1) := dk_42 (dk_at dksL_law_17 18 rfl rfl)
theorem dL_law_570 : decode cL_law 570 = .ok (.iload_n 3, 1) := dk_29 (dk_at dksL_law_17 19 rfl rfl)
theorem dL_law_571 : decode cL_law 571 = .ok (.iconst 1, 1) := dk_4 (dk_at dksL_law_17 20 rfl rfl)
theorem dL_law_572 : decode cL_law 572 = .ok (.iadd, 1) := dk_96 (dk_at dksL_law_17 21 rfl rfl)
theorem dL_law_573 : decode cL_law 573 = .ok (.iaload, 1) := dk_46 (dk_at dksL_law_17 22 rfl rfl)
theorem dL_law_574 : decode cL_law 574 = .ok (.invokevirtual 66, 3) := dk_182 0 66 (dk_at dksL_law_18 0 rfl rfl)
theorem dL_law_577 : decode cL_law 577 = .ok (.if_icmp .eq 926, 3) := dk_159 3 158 (dk_at dksL_law_18 3 rfl rfl)
theorem dL_law_580 : decode cL_law 580 = .ok (.iconst 0, 1) := dk_3 (dk_at dksL_law_18 6 rfl rfl)
theorem dL_law_581 : decode cL_law 581 = .ok (.ireturn, 1) := dk_172 (dk_at dksL_law_18 7 rfl rfl)
theorem dL_law_582 : decode cL_law 582 = .ok (.aload_n 1, 1) := dk_43 (dk_at dksL_law_18 8 rfl rfl)
theorem dL_law_583 : decode cL_law 583 = .ok (.aload_n 0, 1) := dk_42 (dk_at dksL_law_18 9 rfl rfl)
theorem dL_law_584 : decode cL_law 584 = .ok (.iload_n 3, 1) := dk_29 (dk_at dksL_law_18 10 rfl rfl)
theorem dL_law_585 : decode cL_law 585 = .ok (.iconst 1, 1) := dk_4 (dk_at dksL_law_18 11 rfl rfl)
theorem dL_law_586 : decode cL_law 586 = .ok (.iadd, 1) := dk_96 (dk_at dksL_law_18 12 rfl rfl)
theorem dL_law_587 : decode cL_law 587 = .ok (.iaload, 1) := dk_46 (dk_at dksL_law_18 13 rfl rfl)
theorem dL_law_588 : decode cL_law 588 = .ok (.invokevirtual 67, 3) := dk_182 0 67 (dk_at dksL_law_18 14 rfl rfl)
theorem dL_law_591 : decode cL_law 591 = .ok (.aload_n 2, 1) := dk_44 (dk_at dksL_law_18 17 rfl rfl)
theorem dL_law_592 : decode cL_law 592 = .ok (.aload_n 0, 1) := dk_42 (dk_at dksL_law_18 18 rfl rfl)
theorem dL_law_593 : decode cL_law 593 = .ok (.iload_n 3, 1) := dk_29 (dk_at dksL_law_18 19 rfl rfl)
theorem dL_law_594 : decode cL_law 594 = .ok (.iconst 1, 1) := dk_4 (dk_at dksL_law_18 20 rfl rfl)
theorem dL_law_595 : decode cL_law 595 = .ok (.iadd, 1) := dk_96 (dk_at dksL_law_18 21 rfl rfl)
theorem dL_law_596 : decode cL_law 596 = .ok (.iaload, 1) := dk_46 (dk_at dksL_law_18 22 rfl rfl)
theorem dL_law_597 : decode cL_law 597 = .ok (.invokevirtual 70, 3) := dk_182 0 70 (dk_at dksL_law_19 0 rfl rfl)
theorem dL_law_600 : decode cL_law 600 = .ok (.if_icmp .eq 903, 3) := dk_159 3 135 (dk_at dksL_law_19 3 rfl rfl)
theorem dL_law_603 : decode cL_law 603 = .ok (.iconst 0, 1) := dk_3 (dk_at dksL_law_19 6 rfl rfl)
theorem dL_law_604 : decode cL_law 604 = .ok (.ireturn, 1) := dk_172 (dk_at dksL_law_19 7 rfl rfl)
theorem dL_law_605 : decode cL_law 605 = .ok (.aload_n 1, 1) := dk_43 (dk_at dksL_law_19 8 rfl rfl)
theorem dL_law_606 : decode cL_law 606 = .ok (.invokevirtual 71, 3) := dk_182 0 71 (dk_at dksL_law_19 9 rfl rfl)
theorem dL_law_609 : decode cL_law 609 = .ok (.aload_n 2, 1) := dk_44 (dk_at dksL_law_19 12 rfl rfl)
theorem dL_law_610 : decode cL_law 610 = .ok (.invokevirtual 74, 3) := dk_182 0 74 (dk_at dksL_law_19 13 rfl rfl)
theorem dL_law_613 : decode cL_law 613 = .ok (.if_icmp .eq 890, 3) := dk_159 3 122 (dk_at dksL_law_19 16 rfl rfl)
theorem dL_law_616 : decode cL_law 616 = .ok (.iconst 0, 1) := dk_3 (dk_at dksL_law_19 19 rfl rfl)
theorem dL_law_617 : decode cL_law 617 = .ok (.ireturn, 1) := dk_172 (dk_at dksL_law_19 20 rfl rfl)
theorem dL_law_618 : decode cL_law 618 = .ok (.aload_n 1, 1) := dk_43 (dk_at dksL_law_19 21 rfl rfl)
theorem dL_law_619 : decode cL_law 619 = .ok (.aload_n 0, 1) := dk_42 (dk_at dksL_law_19 22 rfl rfl)
theorem dL_law_620 : decode cL_law 620 = .ok (.iload_n 3, 1) := dk_29 (dk_at dksL_law_19 23 rfl rfl)
theorem dL_law_621 : decode cL_law 621 = .ok (.iconst 1, 1) := dk_4 (dk_at dksL_law_20 0 rfl rfl)
theorem dL_law_622 : decode cL_law 622 = .ok (.iadd, 1) := dk_96 (dk_at dksL_law_20 1 rfl rfl)
theorem dL_law_623 : decode cL_law 623 = .ok (.iaload, 1) := dk_46 (dk_at dksL_law_20 2 rfl rfl)
theorem dL_law_624 : decode cL_law 624 = .ok (.invokevirtual 75, 3) := dk_182 0 75 (dk_at dksL_law_20 3 rfl rfl)
theorem dL_law_627 : decode cL_law 627 = .ok (.aload_n 2, 1) := dk_44 (dk_at dksL_law_20 6 rfl rfl)
theorem dL_law_628 : decode cL_law 628 = .ok (.aload_n 0, 1) := dk_42 (dk_at dksL_law_20 7 rfl rfl)
theorem dL_law_629 : decode cL_law 629 = .ok (.iload_n 3, 1) := dk_29 (dk_at dksL_law_20 8 rfl rfl)
theorem dL_law_630 : decode cL_law 630 = .ok (.iconst 1, 1) := dk_4 (dk_at dksL_law_20 9 rfl rfl)
theorem dL_law_631 : decode cL_law 631 = .ok (.iadd, 1) := dk_96 (dk_at dksL_law_20 10 rfl rfl)
theorem dL_law_632 : decode cL_law 632 = .ok (.iaload, 1) := dk_46 (dk_at dksL_law_20 11 rfl rfl)
theorem dL_law_633 : decode cL_law 633 = .ok (.invokevirtual 78, 3) := dk_182 0 78 (dk_at dksL_law_20 12 rfl rfl)
theorem dL_law_636 : decode cL_law 636 = .ok (.if_icmp .eq 867, 3) := dk_159 3 99 (dk_at dksL_law_20 15 rfl rfl)
theorem dL_law_639 : decode cL_law 639 = .ok (.iconst 0, 1) := dk_3 (dk_at dksL_law_20 18 rfl rfl)
theorem dL_law_640 : decode cL_law 640 = .ok (.ireturn, 1) := dk_172 (dk_at dksL_law_20 19 rfl rfl)
theorem dL_law_641 : decode cL_law 641 = .ok (.aload_n 1, 1) := dk_43 (dk_at dksL_law_20 20 rfl rfl)
theorem dL_law_642 : decode cL_law 642 = .ok (.aload_n 0, 1) := dk_42 (dk_at dksL_law_20 21 rfl rfl)
theorem dL_law_643 : decode cL_law 643 = .ok (.iload_n 3, 1) := dk_29 (dk_at dksL_law_20 22 rfl rfl)
theorem dL_law_644 : decode cL_law 644 = .ok (.iconst 1, 1) := dk_4 (dk_at dksL_law_20 23 rfl rfl)
theorem dL_law_645 : decode cL_law 645 = .ok (.iadd, 1) := dk_96 (dk_at dksL_law_21 0 rfl rfl)
theorem dL_law_646 : decode cL_law 646 = .ok (.iaload, 1) := dk_46 (dk_at dksL_law_21 1 rfl rfl)
theorem dL_law_647 : decode cL_law 647 = .ok (.aload_n 0, 1) := dk_42 (dk_at dksL_law_21 2 rfl rfl)
theorem dL_law_648 : decode cL_law 648 = .ok (.iload_n 3, 1) := dk_29 (dk_at dksL_law_21 3 rfl rfl)
theorem dL_law_649 : decode cL_law 649 = .ok (.iconst 2, 1) := dk_5 (dk_at dksL_law_21 4 rfl rfl)
theorem dL_law_650 : decode cL_law 650 = .ok (.iadd, 1) := dk_96 (dk_at dksL_law_21 5 rfl rfl)
theorem dL_law_651 : decode cL_law 651 = .ok (.iaload, 1) := dk_46 (dk_at dksL_law_21 6 rfl rfl)
theorem dL_law_652 : decode cL_law 652 = .ok (.invokevirtual 79, 3) := dk_182 0 79 (dk_at dksL_law_21 7 rfl rfl)
theorem dL_law_655 : decode cL_law 655 = .ok (.aload_n 2, 1) := dk_44 (dk_at dksL_law_21 10 rfl rfl)
theorem dL_law_656 : decode cL_law 656 = .ok (.aload_n 0, 1) := dk_42 (dk_at dksL_law_21 11 rfl rfl)
theorem dL_law_657 : decode cL_law 657 = .ok (.iload_n 3, 1) := dk_29 (dk_at dksL_law_21 12 rfl rfl)
theorem dL_law_658 : decode cL_law 658 = .ok (.iconst 1, 1) := dk_4 (dk_at dksL_law_21 13 rfl rfl)
theorem dL_law_659 : decode cL_law 659 = .ok (.iadd, 1) := dk_96 (dk_at dksL_law_21 14 rfl rfl)
theorem dL_law_660 : decode cL_law 660 = .ok (.iaload, 1) := dk_46 (dk_at dksL_law_21 15 rfl rfl)
theorem dL_law_661 : decode cL_law 661 = .ok (.aload_n 0, 1) := dk_42 (dk_at dksL_law_21 16 rfl rfl)
theorem dL_law_662 : decode cL_law 662 = .ok (.iload_n 3, 1) := dk_29 (dk_at dksL_law_21 17 rfl rfl)
theorem dL_law_663 : decode cL_law 663 = .ok (.iconst 2, 1) := dk_5 (dk_at dksL_law_21 18 rfl rfl)
theorem dL_law_664 : decode cL_law 664 = .ok (.iadd, 1) := dk_96 (dk_at dksL_law_21 19 rfl rfl)
theorem dL_law_665 : decode cL_law 665 = .ok (.iaload, 1) := dk_46 (dk_at dksL_law_21 20 rfl rfl)
theorem dL_law_666 : decode cL_law 666 = .ok (.invokevirtual 82, 3) := dk_182 0 82 (dk_at dksL_law_21 21 rfl rfl)
theorem dL_law_669 : decode cL_law 669 = .ok (.if_icmp .eq 834, 3) := dk_159 3 66 (dk_at dksL_law_22 0 rfl rfl)
theorem dL_law_672 : decode cL_law 672 = .ok (.iconst 0, 1) := dk_3 (dk_at dksL_law_22 3 rfl rfl)
theorem dL_law_673 : decode cL_law 673 = .ok (.ireturn, 1) := dk_172 (dk_at dksL_law_22 4 rfl rfl)
theorem dL_law_674 : decode cL_law 674 = .ok (.aload_n 1, 1) := dk_43 (dk_at dksL_law_22 5 rfl rfl)
theorem dL_law_675 : decode cL_law 675 = .ok (.aload_n 0, 1) := dk_42 (dk_at dksL_law_22 6 rfl rfl)
theorem dL_law_676 : decode cL_law 676 = .ok (.iload_n 3, 1) := dk_29 (dk_at dksL_law_22 7 rfl rfl)
theorem dL_law_677 : decode cL_law 677 = .ok (.iconst 1, 1) := dk_4 (dk_at dksL_law_22 8 rfl rfl)
theorem dL_law_678 : decode cL_law 678 = .ok (.iadd, 1) := dk_96 (dk_at dksL_law_22 9 rfl rfl)
theorem dL_law_679 : decode cL_law 679 = .ok (.iaload, 1) := dk_46 (dk_at dksL_law_22 10 rfl rfl)
theorem dL_law_680 : decode cL_law 680 = .ok (.aload_n 0, 1) := dk_42 (dk_at dksL_law_22 11 rfl rfl)
theorem dL_law_681 : decode cL_law 681 = .ok (.iload_n 3, 1) := dk_29 (dk_at dksL_law_22 12 rfl rfl)
theorem dL_law_682 : decode cL_law 682 = .ok (.iconst 2, 1) := dk_5 (dk_at dksL_law_22 13 rfl rfl)
theorem dL_law_683 : decode cL_law 683 = .ok (.iadd, 1) := dk_96 (dk_at dksL_law_22 14 rfl rfl)
theorem dL_law_684 : decode cL_law 684 = .ok (.iaload, 1) := dk_46 (dk_at dksL_law_22 15 rfl rfl)
theorem dL_law_685 : decode cL_law 685 = .ok (.invokevirtual 83, 3) := dk_182 0 83 (dk_at dksL_law_22 16 rfl rfl)
theorem dL_law_688 : decode cL_law 688 = .ok (.aload_n 2, 1) := dk_44 (dk_at dksL_law_22 19 rfl rfl)
theorem dL_law_689 : decode cL_law 689 = .ok (.aload_n 0, 1) := dk_42 (dk_at dksL_law_22 20 rfl rfl)
theorem dL_law_690 : decode cL_law 690 = .ok (.iload_n 3, 1) := dk_29 (dk_at dksL_law_22 21 rfl rfl)
theorem dL_law_691 : decode cL_law 691 = .ok (.iconst 1, 1) := dk_4 (dk_at dksL_law_22 22 rfl rfl)
theorem dL_law_692 : decode cL_law 692 = .ok (.iadd, 1) := dk_96 (dk_at dksL_law_22 23 rfl rfl)
theorem dL_law_693 : decode cL_law 693 = .ok (.iaload, 1) := dk_46 (dk_at dksL_law_23 0 rfl rfl)
theorem dL_law_694 : decode cL_law 694 = .ok (.aload_n 0, 1) := dk_42 (dk_at dksL_law_23 1 rfl rfl)
theorem dL_law_695 : decode cL_law 695 = .ok (.iload_n 3, 1) := dk_29 (dk_at dksL_law_23 2 rfl rfl)
theorem dL_law_696 : decode cL_law 696 = .ok (.iconst 2, 1) := dk_5 (dk_at dksL_law_23 3 rfl rfl)
theorem dL_law_697 : decode cL_law 697 = .ok (.iadd, 1) := dk_96 (dk_at dksL_law_23 4 rfl rfl)
theorem dL_law_698 : decode cL_law 698 = .ok (.iaload, 1) := dk_46 (dk_at dksL_law_23 5 rfl rfl)
theorem dL_law_699 : decode cL_law 699 = .ok (.invokevirtual 86, 3) := dk_182 0 86 (dk_at dksL_law_23 6 rfl rfl)
theorem dL_law_702 : decode cL_law 702 = .ok (.if_icmp .eq 801, 3) := dk_159 3 33 (dk_at dksL_law_23 9 rfl rfl)
theorem dL_law_705 : decode cL_law 705 = .ok (.iconst 0, 1) := dk_3 (dk_at dksL_law_23 12 rfl rfl)
theorem dL_law_706 : decode cL_law 706 = .ok (.ireturn, 1) := dk_172 (dk_at dksL_law_23 13 rfl rfl)
theorem dL_law_707 : decode cL_law 707 = .ok (.aload_n 1, 1) := dk_43 (dk_at dksL_law_23 14 rfl rfl)
theorem dL_law_708 : decode cL_law 708 = .ok (.aload_n 0, 1) := dk_42 (dk_at dksL_law_23 15 rfl rfl)
theorem dL_law_709 : decode cL_law 709 = .ok (.iload_n 3, 1) := dk_29 (dk_at dksL_law_23 16 rfl rfl)
theorem dL_law_710 : decode cL_law 710 = .ok (.iconst 1, 1) := dk_4 (dk_at dksL_law_23 17 rfl rfl)
theorem dL_law_711 : decode cL_law 711 = .ok (.iadd, 1) := dk_96 (dk_at dksL_law_23 18 rfl rfl)
theorem dL_law_712 : decode cL_law 712 = .ok (.iaload, 1) := dk_46 (dk_at dksL_law_23 19 rfl rfl)
theorem dL_law_713 : decode cL_law 713 = .ok (.invokevirtual 87, 3) := dk_182 0 87 (dk_at dksL_law_23 20 rfl rfl)
theorem dL_law_716 : decode cL_law 716 = .ok (.aload_n 2, 1) := dk_44 (dk_at dksL_law_23 23 rfl rfl)
theorem dL_law_717 : decode cL_law 717 = .ok (.aload_n 0, 1) := dk_42 (dk_at dksL_law_24 0 rfl rfl)
theorem dL_law_718 : decode cL_law 718 = .ok (.iload_n 3, 1) := dk_29 (dk_at dksL_law_24 1 rfl rfl)
theorem dL_law_719 : decode cL_law 719 = .ok (.iconst 1, 1) := dk_4 (dk_at dksL_law_24 2 rfl rfl)
theorem dL_law_720 : decode cL_law 720 = .ok (.iadd, 1) := dk_96 (dk_at dksL_law_24 3 rfl rfl)
theorem dL_law_721 : decode cL_law 721 = .ok (.iaload, 1) := dk_46 (dk_at dksL_law_24 4 rfl rfl)
theorem dL_law_722 : decode cL_law 722 = .ok (.invokevirtual 90, 3) := dk_182 0 90 (dk_at dksL_law_24 5 rfl rfl)
theorem dL_law_725 : decode cL_law 725 = .ok (.if_icmp .eq 778, 3) := dk_159 3 10 (dk_at dksL_law_24 8 rfl rfl)
theorem dL_law_728 : decode cL_law 728 = .ok (.iconst 0, 1) := dk_3 (dk_at dksL_law_24 11 rfl rfl)
theorem dL_law_729 : decode cL_law 729 = .ok (.ireturn, 1) := dk_172 (dk_at dksL_law_24 12 rfl rfl)
theorem dL_law_730 : decode cL_law 730 = .ok (.aload_n 1, 1) := dk_43 (dk_at dksL_law_24 13 rfl rfl)
theorem dL_law_731 : decode cL_law 731 = .ok (.aload_n 0, 1) := dk_42 (dk_at dksL_law_24 14 rfl rfl)
theorem dL_law_732 : decode cL_law 732 = .ok (.iload_n 3, 1) := dk_29 (dk_at dksL_law_24 15 rfl rfl)
theorem dL_law_733 : decode cL_law 733 = .ok (.iconst 1, 1) := dk_4 (dk_at dksL_law_24 16 rfl rfl)
theorem dL_law_734 : decode cL_law 734 = .ok (.iadd, 1) := dk_96 (dk_at dksL_law_24 17 rfl rfl)
theorem dL_law_735 : decode cL_law 735 = .ok (.iaload, 1) := dk_46 (dk_at dksL_law_24 18 rfl rfl)
theorem dL_law_736 : decode cL_law 736 = .ok (.aload_n 0, 1) := dk_42 (dk_at dksL_law_24 19 rfl rfl)
theorem dL_law_737 : decode cL_law 737 = .ok (.iload_n 3, 1) := dk_29 (dk_at dksL_law_24 20 rfl rfl)
theorem dL_law_738 : decode cL_law 738 = .ok (.iconst 2, 1) := dk_5 (dk_at dksL_law_24 21 rfl rfl)
theorem dL_law_739 : decode cL_law 739 = .ok (.iadd, 1) := dk_96 (dk_at dksL_law_24 22 rfl rfl)
theorem dL_law_740 : decode cL_law 740 = .ok (.iaload, 1) := dk_46 (dk_at dksL_law_24 23 rfl rfl)
theorem dL_law_741 : decode cL_law 741 = .ok (.invokevirtual 91, 3) := dk_182 0 91 (dk_at dksL_law_25 0 rfl rfl)
theorem dL_law_744 : decode cL_law 744 = .ok (.aload_n 2, 1) := dk_44 (dk_at dksL_law_25 3 rfl rfl)
theorem dL_law_745 : decode cL_law 745 = .ok (.aload_n 0, 1) := dk_42 (dk_at dksL_law_25 4 rfl rfl)
theorem dL_law_746 : decode cL_law 746 = .ok (.iload_n 3, 1) := dk_29 (dk_at dksL_law_25 5 rfl rfl)
theorem dL_law_747 : decode cL_law 747 = .ok (.iconst 1, 1) := dk_4 (dk_at dksL_law_25 6 rfl rfl)
theorem dL_law_748 : decode cL_law 748 = .ok (.iadd, 1) := dk_96 (dk_at dksL_law_25 7 rfl rfl)
theorem dL_law_749 : decode cL_law 749 = .ok (.iaload, 1) := dk_46 (dk_at dksL_law_25 8 rfl rfl)
theorem dL_law_750 : decode cL_law 750 = .ok (.aload_n 0, 1) := dk_42 (dk_at dksL_law_25 9 rfl rfl)
theorem dL_law_751 : decode cL_law 751 = .ok (.iload_n 3, 1) := dk_29 (dk_at dksL_law_25 10 rfl rfl)
theorem dL_law_752 : decode cL_law 752 = .ok (.iconst 2, 1) := dk_5 (dk_at dksL_law_25 11 rfl rfl)
theorem dL_law_753 : decode cL_law 753 = .ok (.iadd, 1) := dk_96 (dk_at dksL_law_25 12 rfl rfl)
theorem dL_law_754 : decode cL_law 754 = .ok (.iaload, 1) := dk_46 (dk_at dksL_law_25 13 rfl rfl)
theorem dL_law_755 : decode cL_law 755 = .ok (.invokevirtual 94, 3) := dk_182 0 94 (dk_at dksL_law_25 14 rfl rfl)
theorem dL_law_758 : decode cL_law 758 = .ok (.if_icmp .eq 745, 3) := dk_159 2 233 (dk_at dksL_law_25 17 rfl rfl)
theorem dL_law_761 : decode cL_law 761 = .ok (.iconst 0, 1) := dk_3 (dk_at dksL_law_25 20 rfl rfl)
theorem dL_law_762 : decode cL_law 762 = .ok (.ireturn, 1) := dk_172 (dk_at dksL_law_25 21 rfl rfl)
theorem dL_law_763 : decode cL_law 763 = .ok (.aload_n 1, 1) := dk_43 (dk_at dksL_law_25 22 rfl rfl)
theorem dL_law_764 : decode cL_law 764 = .ok (.aload_n 0, 1) := dk_42 (dk_at dksL_law_25 23 rfl rfl)
theorem dL_law_765 : decode cL_law 765 = .ok (.iload_n 3, 1) := dk_29 (dk_at dksL_law_26 0 rfl rfl)
theorem dL_law_766 : decode cL_law 766 = .ok (.iconst 1, 1) := dk_4 (dk_at dksL_law_26 1 rfl rfl)
theorem dL_law_767 : decode cL_law 767 = .ok (.iadd, 1) := dk_96 (dk_at dksL_law_26 2 rfl rfl)
theorem dL_law_768 : decode cL_law 768 = .ok (.iaload, 1) := dk_46 (dk_at dksL_law_26 3 rfl rfl)
theorem dL_law_769 : decode cL_law 769 = .ok (.aload_n 0, 1) := dk_42 (dk_at dksL_law_26 4 rfl rfl)
theorem dL_law_770 : decode cL_law 770 = .ok (.iload_n 3, 1) := dk_29 (dk_at dksL_law_26 5 rfl rfl)
theorem dL_law_771 : decode cL_law 771 = .ok (.iconst 2, 1) := dk_5 (dk_at dksL_law_26 6 rfl rfl)
theorem dL_law_772 : decode cL_law 772 = .ok (.iadd, 1) := dk_96 (dk_at dksL_law_26 7 rfl rfl)
theorem dL_law_773 : decode cL_law 773 = .ok (.iaload, 1) := dk_46 (dk_at dksL_law_26 8 rfl rfl)
theorem dL_law_774 : decode cL_law 774 = .ok (.aload_n 0, 1) := dk_42 (dk_at dksL_law_26 9 rfl rfl)
theorem dL_law_775 : decode cL_law 775 = .ok (.iload_n 3, 1) := dk_29 (dk_at dksL_law_26 10 rfl rfl)
theorem dL_law_776 : decode cL_law 776 = .ok (.iconst 3, 1) := dk_6 (dk_at dksL_law_26 11 rfl rfl)
theorem dL_law_777 : decode cL_law 777 = .ok (.iadd, 1) := dk_96 (dk_at dksL_law_26 12 rfl rfl)
theorem dL_law_778 : decode cL_law 778 = .ok (.iaload, 1) := dk_46 (dk_at dksL_law_26 13 rfl rfl)
theorem dL_law_779 : decode cL_law 779 = .ok (.invokevirtual 95, 3) := dk_182 0 95 (dk_at dksL_law_26 14 rfl rfl)
theorem dL_law_782 : decode cL_law 782 = .ok (.aload_n 2, 1) := dk_44 (dk_at dksL_law_26 17 rfl rfl)
theorem dL_law_783 : decode cL_law 783 = .ok (.aload_n 0, 1) := dk_42 (dk_at dksL_law_26 18 rfl rfl)
theorem dL_law_784 : decode cL_law 784 = .ok (.iload_n 3, 1) := dk_29 (dk_at dksL_law_26 19 rfl rfl)
theorem dL_law_785 : decode cL_law 785 = .ok (.iconst 1, 1) := dk_4 (dk_at dksL_law_26 20 rfl rfl)
theorem dL_law_786 : decode cL_law 786 = .ok (.iadd, 1) := dk_96 (dk_at dksL_law_26 21 rfl rfl)
theorem dL_law_787 : decode cL_law 787 = .ok (.iaload, 1) := dk_46 (dk_at dksL_law_26 22 rfl rfl)
theorem dL_law_788 : decode cL_law 788 = .ok (.aload_n 0, 1) := dk_42 (dk_at dksL_law_26 23 rfl rfl)
theorem dL_law_789 : decode cL_law 789 = .ok (.iload_n 3, 1) := dk_29 (dk_at dksL_law_27 0 rfl rfl)
theorem dL_law_790 : decode cL_law 790 = .ok (.iconst 2, 1) := dk_5 (dk_at dksL_law_27 1 rfl rfl)
theorem dL_law_791 : decode cL_law 791 = .ok (.iadd, 1) := dk_96 (dk_at dksL_law_27 2 rfl rfl)
theorem dL_law_792 : decode cL_law 792 = .ok (.iaload, 1) := dk_46 (dk_at dksL_law_27 3 rfl rfl)
theorem dL_law_793 : decode cL_law 793 = .ok (.aload_n 0, 1) := dk_42 (dk_at dksL_law_27 4 rfl rfl)
theorem dL_law_794 : decode cL_law 794 = .ok (.iload_n 3, 1) := dk_29 (dk_at dksL_law_27 5 rfl rfl)
theorem dL_law_795 : decode cL_law 795 = .ok (.iconst 3, 1) := dk_6 (dk_at dksL_law_27 6 rfl rfl)
theorem dL_law_796 : decode cL_law 796 = .ok (.iadd, 1) := dk_96 (dk_at dksL_law_27 7 rfl rfl)
theorem dL_law_797 : decode cL_law 797 = .ok (.iaload, 1) := dk_46 (dk_at dksL_law_27 8 rfl rfl)
theorem dL_law_798 : decode cL_law 798 = .ok (.invokevirtual 98, 3) := dk_182 0 98 (dk_at dksL_law_27 9 rfl rfl)
theorem dL_law_801 : decode cL_law 801 = .ok (.if_icmp .eq 702, 3) := dk_159 2 190 (dk_at dksL_law_27 12 rfl rfl)
theorem dL_law_804 : decode cL_law 804 = .ok (.iconst 0, 1) := dk_3 (dk_at dksL_law_27 15 rfl rfl)
theorem dL_law_805 : decode cL_law 805 = .ok (.ireturn, 1) := dk_172 (dk_at dksL_law_27 16 rfl rfl)
theorem dL_law_806 : decode cL_law 806 = .ok (.aload_n 1, 1) := dk_43 (dk_at dksL_law_27 17 rfl rfl)
theorem dL_law_807 : decode cL_law 807 = .ok (.aload_n 0, 1) := dk_42 (dk_at dksL_law_27 18 rfl rfl)
theorem dL_law_808 : decode cL_law 808 = .ok (.iload_n 3, 1) := dk_29 (dk_at dksL_law_27 19 rfl rfl)
theorem dL_law_809 : decode cL_law 809 = .ok (.iconst 1, 1) := dk_4 (dk_at dksL_law_27 20 rfl rfl)
theorem dL_law_810 : decode cL_law 810 = .ok (.iadd, 1) := dk_96 (dk_at dksL_law_27 21 rfl rfl)
theorem dL_law_811 : decode cL_law 811 = .ok (.iaload, 1) := dk_46 (dk_at dksL_law_27 22 rfl rfl)
theorem dL_law_812 : decode cL_law 812 = .ok (.aload_n 0, 1) := dk_42 (dk_at dksL_law_27 23 rfl rfl)
theorem dL_law_813 : decode cL_law 813 = .ok (.iload_n 3, 1) := dk_29 (dk_at dksL_law_28 0 rfl rfl)
theorem dL_law_814 : decode cL_law 814 = .ok (.iconst 2, 1) := dk_5 (dk_at dksL_law_28 1 rfl rfl)
theorem dL_law_815 : decode cL_law 815 = .ok (.iadd, 1) := dk_96 (dk_at dksL_law_28 2 rfl rfl)
theorem dL_law_816 : decode cL_law 816 = .ok (.iaload, 1) := dk_46 (dk_at dksL_law_28 3 rfl rfl)
theorem dL_law_817 : decode cL_law 817 = .ok (.invokevirtual 99, 3) := dk_182 0 99 (dk_at dksL_law_28 4 rfl rfl)
theorem dL_law_820 : decode cL_law 820 = .ok (.aload_n 2, 1) := dk_44 (dk_at dksL_law_28 7 rfl rfl)
theorem dL_law_821 : decode cL_law 821 = .ok (.aload_n 0, 1) := dk_42 (dk_at dksL_law_28 8 rfl rfl)
theorem dL_law_822 : decode cL_law 822 = .ok (.iload_n 3, 1) := dk_29 (dk_at dksL_law_28 9 rfl rfl)
theorem dL_law_823 : decode cL_law 823 = .ok (.iconst 1, 1) := dk_4 (dk_at dksL_law_28 10 rfl rfl)
theorem dL_law_824 : decode cL_law 824 = .ok (.iadd, 1) := dk_96 (dk_at dksL_law_28 11 rfl rfl)
theorem dL_law_825 : decode cL_law 825 = .ok (.iaload, 1) := dk_46 (dk_at dksL_law_28 12 rfl rfl)
theorem dL_law_826 : decode cL_law 826 = .ok (.aload_n 0, 1) := dk_42 (dk_at dksL_law_28 13 rfl rfl)
theorem dL_law_827 : decode cL_law 827 = .ok (.iload_n 3, 1) := dk_29 (dk_at dksL_law_28 14 rfl rfl)
theorem dL_law_828 : decode cL_law 828 = .ok (.iconst 2, 1) := dk_5 (dk_at dksL_law_28 15 rfl rfl)
theorem dL_law_829 : decode cL_law 829 = .ok (.iadd, 1) := dk_96 (dk_at dksL_law_28 16 rfl rfl)
theorem dL_law_830 : decode cL_law 830 = .ok (.iaload, 1) := dk_46 (dk_at dksL_law_28 17 rfl rfl)
theorem dL_law_831 : decode cL_law 831 = .ok (.invokevirtual 102, 3) := dk_182 0 102 (dk_at dksL_law_28 18 rfl rfl)
theorem dL_law_834 : decode cL_law 834 = .ok (.if_icmp .eq 669, 3) := dk_159 2 157 (dk_at dksL_law_28 21 rfl rfl)
theorem dL_law_837 : decode cL_law 837 = .ok (.iconst 0, 1) := dk_3 (dk_at dksL_law_29 0 rfl rfl)
theorem dL_law_838 : decode cL_law 838 = .ok (.ireturn, 1) := dk_172 (dk_at dksL_law_29 1 rfl rfl)
theorem dL_law_839 : decode cL_law 839 = .ok (.aload_n 1, 1) := dk_43 (dk_at dksL_law_29 2 rfl rfl)
theorem dL_law_840 : decode cL_law 840 = .ok (.aload_n 0, 1) := dk_42 (dk_at dksL_law_29 3 rfl rfl)
theorem dL_law_841 : decode cL_law 841 = .ok (.iload_n 3, 1) := dk_29 (dk_at dksL_law_29 4 rfl rfl)
theorem dL_law_842 : decode cL_law 842 = .ok (.iconst 1, 1) := dk_4 (dk_at dksL_law_29 5 rfl rfl)
theorem dL_law_843 : decode cL_law 843 = .ok (.iadd, 1) := dk_96 (dk_at dksL_law_29 6 rfl rfl)
theorem dL_law_844 : decode cL_law 844 = .ok (.iaload, 1) := dk_46 (dk_at dksL_law_29 7 rfl rfl)
theorem dL_law_845 : decode cL_law 845 = .ok (.aload_n 0, 1) := dk_42 (dk_at dksL_law_29 8 rfl rfl)
theorem dL_law_846 : decode cL_law 846 = .ok (.iload_n 3, 1) := dk_29 (dk_at dksL_law_29 9 rfl rfl)
theorem dL_law_847 : decode cL_law 847 = .ok (.iconst 2, 1) := dk_5 (dk_at dksL_law_29 10 rfl rfl)
theorem dL_law_848 : decode cL_law 848 = .ok (.iadd, 1) := dk_96 (dk_at dksL_law_29 11 rfl rfl)
theorem dL_law_849 : decode cL_law 849 = .ok (.iaload, 1) := dk_46 (dk_at dksL_law_29 12 rfl rfl)
theorem dL_law_850 : decode cL_law 850 = .ok (.aload_n 0, 1) := dk_42 (dk_at dksL_law_29 13 rfl rfl)
theorem dL_law_851 : decode cL_law 851 = .ok (.iload_n 3, 1) := dk_29 (dk_at dksL_law_29 14 rfl rfl)
theorem dL_law_852 : decode cL_law 852 = .ok (.iconst 3, 1) := dk_6 (dk_at dksL_law_29 15 rfl rfl)
theorem dL_law_853 : decode cL_law 853 = .ok (.iadd, 1) := dk_96 (dk_at dksL_law_29 16 rfl rfl)
theorem dL_law_854 : decode cL_law 854 = .ok (.iaload, 1) := dk_46 (dk_at dksL_law_29 17 rfl rfl)
theorem dL_law_855 : decode cL_law 855 = .ok (.invokevirtual 103, 3) := dk_182 0 103 (dk_at dksL_law_29 18 rfl rfl)
theorem dL_law_858 : decode cL_law 858 = .ok (.aload_n 2, 1) := dk_44 (dk_at dksL_law_29 21 rfl rfl)
theorem dL_law_859 : decode cL_law 859 = .ok (.aload_n 0, 1) := dk_42 (dk_at dksL_law_29 22 rfl rfl)
theorem dL_law_860 : decode cL_law 860 = .ok (.iload_n 3, 1) := dk_29 (dk_at dksL_law_29 23 rfl rfl)
theorem dL_law_861 : decode cL_law 861 = .ok (.iconst 1, 1) := dk_4 (dk_at dksL_law_30 0 rfl rfl)
theorem dL_law_862 : decode cL_law 862 = .ok (.iadd, 1) := dk_96 (dk_at dksL_law_30 1 rfl rfl)
theorem dL_law_863 : decode cL_law 863 = .ok (.iaload, 1) := dk_46 (dk_at dksL_law_30 2 rfl rfl)
theorem dL_law_864 : decode cL_law 864 = .ok (.aload_n 0, 1) := dk_42 (dk_at dksL_law_30 3 rfl rfl)
theorem dL_law_865 : decode cL_law 865 = .ok (.iload_n 3, 1) := dk_29 (dk_at dksL_law_30 4 rfl rfl)
theorem dL_law_866 : decode cL_law 866 = .ok (.iconst 2, 1) := dk_5 (dk_at dksL_law_30 5 rfl rfl)
theorem dL_law_867 : decode cL_law 867 = .ok (.iadd, 1) := dk_96 (dk_at dksL_law_30 6 rfl rfl)
theorem dL_law_868 : decode cL_law 868 = .ok (.iaload, 1) := dk_46 (dk_at dksL_law_30 7 rfl rfl)
theorem dL_law_869 : decode cL_law 869 = .ok (.aload_n 0, 1) := dk_42 (dk_at dksL_law_30 8 rfl rfl)
theorem dL_law_870 : decode cL_law 870 = .ok (.iload_n 3, 1) := dk_29 (dk_at dksL_law_30 9 rfl rfl)
theorem dL_law_871 : decode cL_law 871 = .ok (.iconst 3, 1) := dk_6 (dk_at dksL_law_30 10 rfl rfl)
theorem dL_law_872 : decode cL_law 872 = .ok (.iadd, 1) := dk_96 (dk_at dksL_law_30 11 rfl rfl)
theorem dL_law_873 : decode cL_law 873 = .ok (.iaload, 1) := dk_46 (dk_at dksL_law_30 12 rfl rfl)
theorem dL_law_874 : decode cL_law 874 = .ok (.invokevirtual 106, 3) := dk_182 0 106 (dk_at dksL_law_30 13 rfl rfl)
theorem dL_law_877 : decode cL_law 877 = .ok (.if_icmp .eq 626, 3) := dk_159 2 114 (dk_at dksL_law_30 16 rfl rfl)
theorem dL_law_880 : decode cL_law 880 = .ok (.iconst 0, 1) := dk_3 (dk_at dksL_law_30 19 rfl rfl)
theorem dL_law_881 : decode cL_law 881 = .ok (.ireturn, 1) := dk_172 (dk_at dksL_law_30 20 rfl rfl)
theorem dL_law_882 : decode cL_law 882 = .ok (.aload_n 1, 1) := dk_43 (dk_at dksL_law_30 21 rfl rfl)
theorem dL_law_883 : decode cL_law 883 = .ok (.aload_n 0, 1) := dk_42 (dk_at dksL_law_30 22 rfl rfl)
theorem dL_law_884 : decode cL_law 884 = .ok (.iload_n 3, 1) := dk_29 (dk_at dksL_law_30 23 rfl rfl)
theorem dL_law_885 : decode cL_law 885 = .ok (.iconst 1, 1) := dk_4 (dk_at dksL_law_31 0 rfl rfl)
theorem dL_law_886 : decode cL_law 886 = .ok (.iadd, 1) := dk_96 (dk_at dksL_law_31 1 rfl rfl)
theorem dL_law_887 : decode cL_law 887 = .ok (.iaload, 1) := dk_46 (dk_at dksL_law_31 2 rfl rfl)
theorem dL_law_888 : decode cL_law 888 = .ok (.aload_n 0, 1) := dk_42 (dk_at dksL_law_31 3 rfl rfl)
theorem dL_law_889 : decode cL_law 889 = .ok (.iload_n 3, 1) := dk_29 (dk_at dksL_law_31 4 rfl rfl)
theorem dL_law_890 : decode cL_law 890 = .ok (.iconst 2, 1) := dk_5 (dk_at dksL_law_31 5 rfl rfl)
theorem dL_law_891 : decode cL_law 891 = .ok (.iadd, 1) := dk_96 (dk_at dksL_law_31 6 rfl rfl)
theorem dL_law_892 : decode cL_law 892 = .ok (.iaload, 1) := dk_46 (dk_at dksL_law_31 7 rfl rfl)
theorem dL_law_893 : decode cL_law 893 = .ok (.invokevirtual 107, 3) := dk_182 0 107 (dk_at dksL_law_31 8 rfl rfl)
theorem dL_law_896 : decode cL_law 896 = .ok (.aload_n 2, 1) := dk_44 (dk_at dksL_law_31 11 rfl rfl)
theorem dL_law_897 : decode cL_law 897 = .ok (.aload_n 0, 1) := dk_42 (dk_at dksL_law_31 12 rfl rfl)
theorem dL_law_898 : decode cL_law 898 = .ok (.iload_n 3, 1) := dk_29 (dk_at dksL_law_31 13 rfl rfl)
theorem dL_law_899 : decode cL_law 899 = .ok (.iconst 1, 1) := dk_4 (dk_at dksL_law_31 14 rfl rfl)
theorem dL_law_900 : decode cL_law 900 = .ok (.iadd, 1) := dk_96 (dk_at dksL_law_31 15 rfl rfl)
theorem dL_law_901 : decode cL_law 901 = .ok (.iaload, 1) := dk_46 (dk_at dksL_law_31 16 rfl rfl)
theorem dL_law_902 : decode cL_law 902 = .ok (.aload_n 0, 1) := dk_42 (dk_at dksL_law_31 17 rfl rfl)
theorem dL_law_903 : decode cL_law 903 = .ok (.iload_n 3, 1) := dk_29 (dk_at dksL_law_31 18 rfl rfl)
theorem dL_law_904 : decode cL_law 904 = .ok (.iconst 2, 1) := dk_5 (dk_at dksL_law_31 19 rfl rfl)
theorem dL_law_905 : decode cL_law 905 = .ok (.iadd, 1) := dk_96 (dk_at dksL_law_31 20 rfl rfl)
theorem dL_law_906 : decode cL_law 906 = .ok (.iaload, 1) := dk_46 (dk_at dksL_law_31 21 rfl rfl)
theorem dL_law_907 : decode cL_law 907 = .ok (.invokevirtual 110, 3) := dk_182 0 110 (dk_at dksL_law_32 0 rfl rfl)
theorem dL_law_910 : decode cL_law 910 = .ok (.if_icmp .eq 593, 3) := dk_159 2 81 (dk_at dksL_law_32 3 rfl rfl)
theorem dL_law_913 : decode cL_law 913 = .ok (.iconst 0, 1) := dk_3 (dk_at dksL_law_32 6 rfl rfl)
theorem dL_law_914 : decode cL_law 914 = .ok (.ireturn, 1) := dk_172 (dk_at dksL_law_32 7 rfl rfl)
theorem dL_law_915 : decode cL_law 915 = .ok (.aload_n 1, 1) := dk_43 (dk_at dksL_law_32 8 rfl rfl)
theorem dL_law_916 : decode cL_law 916 = .ok (.aload_n 0, 1) := dk_42 (dk_at dksL_law_32 9 rfl rfl)
theorem dL_law_917 : decode cL_law 917 = .ok (.iload_n 3, 1) := dk_29 (dk_at dksL_law_32 10 rfl rfl)
theorem dL_law_918 : decode cL_law 918 = .ok (.iconst 1, 1) := dk_4 (dk_at dksL_law_32 11 rfl rfl)
theorem dL_law_919 : decode cL_law 919 = .ok (.iadd, 1) := dk_96 (dk_at dksL_law_32 12 rfl rfl)
theorem dL_law_920 : decode cL_law 920 = .ok (.iaload, 1) := dk_46 (dk_at dksL_law_32 13 rfl rfl)
theorem dL_law_921 : decode cL_law 921 = .ok (.invokevirtual 111, 3) := dk_182 0 111 (dk_at dksL_law_32 14 rfl rfl)
theorem dL_law_924 : decode cL_law 924 = .ok (.aload_n 2, 1) := dk_44 (dk_at dksL_law_32 17 rfl rfl)
theorem dL_law_925 : decode cL_law 925 = .ok (.aload_n 0, 1) := dk_42 (dk_at dksL_law_32 18 rfl rfl)
theorem dL_law_926 : decode cL_law 926 = .ok (.iload_n 3, 1) := dk_29 (dk_at dksL_law_32 19 rfl rfl)
theorem dL_law_927 : decode cL_law 927 = .ok (.iconst 1, 1) := dk_4 (dk_at dksL_law_32 20 rfl rfl)
theorem dL_law_928 : decode cL_law 928 = .ok (.iadd, 1) := dk_96 (dk_at dksL_law_32 21 rfl rfl)
theorem dL_law_929 : decode cL_law 929 = .ok (.iaload, 1) := dk_46 (dk_at dksL_law_32 22 rfl rfl)
theorem dL_law_930 : decode cL_law 930 = .ok (.invokevirtual 114, 3) := dk_182 0 114 (dk_at dksL_law_33 0 rfl rfl)
theorem dL_law_933 : decode cL_law 933 = .ok (.if_icmp .eq 570, 3) := dk_159 2 58 (dk_at dksL_law_33 3 rfl rfl)
theorem dL_law_936 : decode cL_law 936 = .ok (.iconst 0, 1) := dk_3 (dk_at dksL_law_33 6 rfl rfl)
theorem dL_law_937 : decode cL_law 937 = .ok (.ireturn, 1) := dk_172 (dk_at dksL_law_33 7 rfl rfl)
theorem dL_law_938 : decode cL_law 938 = .ok (.aload_n 1, 1) := dk_43 (dk_at dksL_law_33 8 rfl rfl)
theorem dL_law_939 : decode cL_law 939 = .ok (.aload_n 0, 1) := dk_42 (dk_at dksL_law_33 9 rfl rfl)
theorem dL_law_940 : decode cL_law 940 = .ok (.iload_n 3, 1) := dk_29 (dk_at dksL_law_33 10 rfl rfl)
theorem dL_law_941 : decode cL_law 941 = .ok (.iconst 1, 1) := dk_4 (dk_at dksL_law_33 11 rfl rfl)
theorem dL_law_942 : decode cL_law 942 = .ok (.iadd, 1) := dk_96 (dk_at dksL_law_33 12 rfl rfl)
theorem dL_law_943 : decode cL_law 943 = .ok (.iaload, 1) := dk_46 (dk_at dksL_law_33 13 rfl rfl)
theorem dL_law_944 : decode cL_law 944 = .ok (.aload_n 0, 1) := dk_42 (dk_at dksL_law_33 14 rfl rfl)
theorem dL_law_945 : decode cL_law 945 = .ok (.iload_n 3, 1) := dk_29 (dk_at dksL_law_33 15 rfl rfl)
theorem dL_law_946 : decode cL_law 946 = .ok (.iconst 2, 1) := dk_5 (dk_at dksL_law_33 16 rfl rfl)
theorem dL_law_947 : decode cL_law 947 = .ok (.iadd, 1) := dk_96 (dk_at dksL_law_33 17 rfl rfl)
theorem dL_law_948 : decode cL_law 948 = .ok (.iaload, 1) := dk_46 (dk_at dksL_law_33 18 rfl rfl)
theorem dL_law_949 : decode cL_law 949 = .ok (.ifCond .eq 7, 3) := dk_153 0 7 (dk_at dksL_law_33 19 rfl rfl)
theorem dL_law_952 : decode cL_law 952 = .ok (.iconst 1, 1) := dk_4 (dk_at dksL_law_33 22 rfl rfl)
theorem dL_law_953 : decode cL_law 953 = .ok (.goto 4, 3) := dk_167 0 4 (dk_at dksL_law_34 0 rfl rfl)
theorem dL_law_956 : decode cL_law 956 = .ok (.iconst 0, 1) := dk_3 (dk_at dksL_law_34 3 rfl rfl)
theorem dL_law_957 : decode cL_law 957 = .ok (.invokevirtual 115, 3) := dk_182 0 115 (dk_at dksL_law_34 4 rfl rfl)
theorem dL_law_960 : decode cL_law 960 = .ok (.aload_n 2, 1) := dk_44 (dk_at dksL_law_34 7 rfl rfl)
theorem dL_law_961 : decode cL_law 961 = .ok (.aload_n 0, 1) := dk_42 (dk_at dksL_law_34 8 rfl rfl)
theorem dL_law_962 : decode cL_law 962 = .ok (.iload_n 3, 1) := dk_29 (dk_at dksL_law_34 9 rfl rfl)
theorem dL_law_963 : decode cL_law 963 = .ok (.iconst 1, 1) := dk_4 (dk_at dksL_law_34 10 rfl rfl)
theorem dL_law_964 : decode cL_law 964 = .ok (.iadd, 1) := dk_96 (dk_at dksL_law_34 11 rfl rfl)
theorem dL_law_965 : decode cL_law 965 = .ok (.iaload, 1) := dk_46 (dk_at dksL_law_34 12 rfl rfl)
theorem dL_law_966 : decode cL_law 966 = .ok (.aload_n 0, 1) := dk_42 (dk_at dksL_law_34 13 rfl rfl)
theorem dL_law_967 : decode cL_law 967 = .ok (.iload_n 3, 1) := dk_29 (dk_at dksL_law_34 14 rfl rfl)
theorem dL_law_968 : decode cL_law 968 = .ok (.iconst 2, 1) := dk_5 (dk_at dksL_law_34 15 rfl rfl)
theorem dL_law_969 : decode cL_law 969 = .ok (.iadd, 1) := dk_96 (dk_at dksL_law_34 16 rfl rfl)
theorem dL_law_970 : decode cL_law 970 = .ok (.iaload, 1) := dk_46 (dk_at dksL_law_34 17 rfl rfl)
theorem dL_law_971 : decode cL_law 971 = .ok (.ifCond .eq 7, 3) := dk_153 0 7 (dk_at dksL_law_34 18 rfl rfl)
theorem dL_law_974 : decode cL_law 974 = .ok (.iconst 1, 1) := dk_4 (dk_at dksL_law_34 21 rfl rfl)
theorem dL_law_975 : decode cL_law 975 = .ok (.goto 4, 3) := dk_167 0 4 (dk_at dksL_law_35 0 rfl rfl)
theorem dL_law_978 : decode cL_law 978 = .ok (.iconst 0, 1) := dk_3 (dk_at dksL_law_35 3 rfl rfl)
theorem dL_law_979 : decode cL_law 979 = .ok (.invokevirtual 118, 3) := dk_182 0 118 (dk_at dksL_law_35 4 rfl rfl)
theorem dL_law_982 : decode cL_law 982 = .ok (.if_icmp .eq 521, 3) := dk_159 2 9 (dk_at dksL_law_35 7 rfl rfl)
theorem dL_law_985 : decode cL_law 985 = .ok (.iconst 0, 1) := dk_3 (dk_at dksL_law_35 10 rfl rfl)
theorem dL_law_986 : decode cL_law 986 = .ok (.ireturn, 1) := dk_172 (dk_at dksL_law_35 11 rfl rfl)
theorem dL_law_987 : decode cL_law 987 = .ok (.aload_n 1, 1) := dk_43 (dk_at dksL_law_35 12 rfl rfl)
theorem dL_law_988 : decode cL_law 988 = .ok (.aload_n 0, 1) := dk_42 (dk_at dksL_law_35 13 rfl rfl)
theorem dL_law_989 : decode cL_law 989 = .ok (.iload_n 3, 1) := dk_29 (dk_at dksL_law_35 14 rfl rfl)
theorem dL_law_990 : decode cL_law 990 = .ok (.iconst 1, 1) := dk_4 (dk_at dksL_law_35 15 rfl rfl)
theorem dL_law_991 : decode cL_law 991 = .ok (.iadd, 1) := dk_96 (dk_at dksL_law_35 16 rfl rfl)
theorem dL_law_992 : decode cL_law 992 = .ok (.iaload, 1) := dk_46 (dk_at dksL_law_35 17 rfl rfl)
theorem dL_law_993 : decode cL_law 993 = .ok (.invokevirtual 119, 3) := dk_182 0 119 (dk_at dksL_law_35 18 rfl rfl)
theorem dL_law_996 : decode cL_law 996 = .ok (.aload_n 2, 1) := dk_44 (dk_at dksL_law_35 21 rfl rfl)
theorem dL_law_997 : decode cL_law 997 = .ok (.aload_n 0, 1) := dk_42 (dk_at dksL_law_35 22 rfl rfl)
theorem dL_law_998 : decode cL_law 998 = .ok (.iload_n 3, 1) := dk_29 (dk_at dksL_law_35 23 rfl rfl)
theorem dL_law_999 : decode cL_law 999 = .ok (.iconst 1, 1) := dk_4 (dk_at dksL_law_36 0 rfl rfl)
theorem dL_law_1000 : decode cL_law 1000 = .ok (.iadd, 1) := dk_96 (dk_at dksL_law_36 1 rfl rfl)
theorem dL_law_1001 : decode cL_law 1001 = .ok (.iaload, 1) := dk_46 (dk_at dksL_law_36 2 rfl rfl)
theorem dL_law_1002 : decode cL_law 1002 = .ok (.invokevirtual 122, 3) := dk_182 0 122 (dk_at dksL_law_36 3 rfl rfl)
theorem dL_law_1005 : decode cL_law 1005 = .ok (.if_icmp .eq 498, 3) := dk_159 1 242 (dk_at dksL_law_36 6 rfl rfl)
theorem dL_law_1008 : decode cL_law 1008 = .ok (.iconst 0, 1) := dk_3 (dk_at dksL_law_36 9 rfl rfl)
theorem dL_law_1009 : decode cL_law 1009 = .ok (.ireturn, 1) := dk_172 (dk_at dksL_law_36 10 rfl rfl)
theorem dL_law_1010 : decode cL_law 1010 = .ok (.aload_n 1, 1) := dk_43 (dk_at dksL_law_36 11 rfl rfl)
theorem dL_law_1011 : decode cL_law 1011 = .ok (.aload_n 0, 1) := dk_42 (dk_at dksL_law_36 12 rfl rfl)
theorem dL_law_1012 : decode cL_law 1012 = .ok (.iload_n 3, 1) := dk_29 (dk_at dksL_law_36 13 rfl rfl)
theorem dL_law_1013 : decode cL_law 1013 = .ok (.iconst 1, 1) := dk_4 (dk_at dksL_law_36 14 rfl rfl)
theorem dL_law_1014 : decode cL_law 1014 = .ok (.iadd, 1) := dk_96 (dk_at dksL_law_36 15 rfl rfl)
theorem dL_law_1015 : decode cL_law 1015 = .ok (.iaload, 1) := dk_46 (dk_at dksL_law_36 16 rfl rfl)
theorem dL_law_1016 : decode cL_law 1016 = .ok (.invokevirtual 123, 3) := dk_182 0 123 (dk_at dksL_law_36 17 rfl rfl)
theorem dL_law_1019 : decode cL_law 1019 = .ok (.aload_n 2, 1) := dk_44 (dk_at dksL_law_36 20 rfl rfl)
theorem dL_law_1020 : decode cL_law 1020 = .ok (.aload_n 0, 1) := dk_42 (dk_at dksL_law_36 21 rfl rfl)
theorem dL_law_1021 : decode cL_law 1021 = .ok (.iload_n 3, 1) := dk_29 (dk_at dksL_law_36 22 rfl rfl)
theorem dL_law_1022 : decode cL_law 1022 = .ok (.iconst 1, 1) := dk_4 (dk_at dksL_law_36 23 rfl rfl)
theorem dL_law_1023 : decode cL_law 1023 = .ok (.iadd, 1) := dk_96 (dk_at dksL_law_37 0 rfl rfl)
theorem dL_law_1024 : decode cL_law 1024 = .ok (.iaload, 1) := dk_46 (dk_at dksL_law_37 1 rfl rfl)
theorem dL_law_1025 : decode cL_law 1025 = .ok (.invokevirtual 126, 3) := dk_182 0 126 (dk_at dksL_law_37 2 rfl rfl)
theorem dL_law_1028 : decode cL_law 1028 = .ok (.if_icmp .eq 475, 3) := dk_159 1 219 (dk_at dksL_law_37 5 rfl rfl)
theorem dL_law_1031 : decode cL_law 1031 = .ok (.iconst 0, 1) := dk_3 (dk_at dksL_law_37 8 rfl rfl)
theorem dL_law_1032 : decode cL_law 1032 = .ok (.ireturn, 1) := dk_172 (dk_at dksL_law_37 9 rfl rfl)
theorem dL_law_1033 : decode cL_law 1033 = .ok (.aload_n 1, 1) := dk_43 (dk_at dksL_law_37 10 rfl rfl)
theorem dL_law_1034 : decode cL_law 1034 = .ok (.aload_n 0, 1) := dk_42 (dk_at dksL_law_37 11 rfl rfl)
theorem dL_law_1035 : decode cL_law 1035 = .ok (.iload_n 3, 1) := dk_29 (dk_at dksL_law_37 12 rfl rfl)
theorem dL_law_1036 : decode cL_law 1036 = .ok (.iconst 1, 1) := dk_4 (dk_at dksL_law_37 13 rfl rfl)
theorem dL_law_1037 : decode cL_law 1037 = .ok (.iadd, 1) := dk_96 (dk_at dksL_law_37 14 rfl rfl)
theorem dL_law_1038 : decode cL_law 1038 = .ok (.iaload, 1) := dk_46 (dk_at dksL_law_37 15 rfl rfl)
theorem dL_law_1039 : decode cL_law 1039 = .ok (.aload_n 0, 1) := dk_42 (dk_at dksL_law_37 16 rfl rfl)
theorem dL_law_1040 : decode cL_law 1040 = .ok (.iload_n 3, 1) := dk_29 (dk_at dksL_law_37 17 rfl rfl)
theorem dL_law_1041 : decode cL_law 1041 = .ok (.iconst 2, 1) := dk_5 (dk_at dksL_law_37 18 rfl rfl)
theorem dL_law_1042 : decode cL_law 1042 = .ok (.iadd, 1) := dk_96 (dk_at dksL_law_37 19 rfl rfl)
theorem dL_law_1043 : decode cL_law 1043 = .ok (.iaload, 1) := dk_46 (dk_at dksL_law_37 20 rfl rfl)
theorem dL_law_1044 : decode cL_law 1044 = .ok (.invokevirtual 127, 3) := dk_182 0 127 (dk_at dksL_law_37 21 rfl rfl)
theorem dL_law_1047 : decode cL_law 1047 = .ok (.aload_n 2, 1) := dk_44 (dk_at dksL_law_38 0 rfl rfl)
theorem dL_law_1048 : decode cL_law 1048 = .ok (.aload_n 0, 1) := dk_42 (dk_at dksL_law_38 1 rfl rfl)
theorem dL_law_1049 : decode cL_law 1049 = .ok (.iload_n 3, 1) := dk_29 (dk_at dksL_law_38 2 rfl rfl)
theorem dL_law_1050 : decode cL_law 1050 = .ok (.iconst 1, 1) := dk_4 (dk_at dksL_law_38 3 rfl rfl)
theorem dL_law_1051 : decode cL_law 1051 = .ok (.iadd, 1) := dk_96 (dk_at dksL_law_38 4 rfl rfl)
theorem dL_law_1052 : decode cL_law 1052 = .ok (.iaload, 1) := dk_46 (dk_at dksL_law_38 5 rfl rfl)
theorem dL_law_1053 : decode cL_law 1053 = .ok (.aload_n 0, 1) := dk_42 (dk_at dksL_law_38 6 rfl rfl)
theorem dL_law_1054 : decode cL_law 1054 = .ok (.iload_n 3, 1) := dk_29 (dk_at dksL_law_38 7 rfl rfl)
theorem dL_law_1055 : decode cL_law 1055 = .ok (.iconst 2, 1) := dk_5 (dk_at dksL_law_38 8 rfl rfl)
theorem dL_law_1056 : decode cL_law 1056 = .ok (.iadd, 1) := dk_96 (dk_at dksL_law_38 9 rfl rfl)
theorem dL_law_1057 : decode cL_law 1057 = .ok (.iaload, 1) := dk_46 (dk_at dksL_law_38 10 rfl rfl)
theorem dL_law_1058 : decode cL_law 1058 = .ok (.invokevirtual 130, 3) := dk_182 0 130 (dk_at dksL_law_38 11 rfl rfl)
theorem dL_law_1061 : decode cL_law 1061 = .ok (.if_icmp .eq 442, 3) := dk_159 1 186 (dk_at dksL_law_38 14 rfl rfl)
theorem dL_law_1064 : decode cL_law 1064 = .ok (.iconst 0, 1) := dk_3 (dk_at dksL_law_38 17 rfl rfl)
theorem dL_law_1065 : decode cL_law 1065 = .ok (.ireturn, 1) := dk_172 (dk_at dksL_law_38 18 rfl rfl)
theorem dL_law_1066 : decode cL_law 1066 = .ok (.aload_n 1, 1) := dk_43 (dk_at dksL_law_38 19 rfl rfl)
theorem dL_law_1067 : decode cL_law 1067 = .ok (.aload_n 0, 1) := dk_42 (dk_at dksL_law_38 20 rfl rfl)
theorem dL_law_1068 : decode cL_law 1068 = .ok (.iload_n 3, 1) := dk_29 (dk_at dksL_law_38 21 rfl rfl)
theorem dL_law_1069 : decode cL_law 1069 = .ok (.iconst 1, 1) := dk_4 (dk_at dksL_law_38 22 rfl rfl)
theorem dL_law_1070 : decode cL_law 1070 = .ok (.iadd, 1) := dk_96 (dk_at dksL_law_38 23 rfl rfl)
theorem dL_law_1071 : decode cL_law 1071 = .ok (.iaload, 1) := dk_46 (dk_at dksL_law_39 0 rfl rfl)
theorem dL_law_1072 : decode cL_law 1072 = .ok (.aload_n 0, 1) := dk_42 (dk_at dksL_law_39 1 rfl rfl)
theorem dL_law_1073 : decode cL_law 1073 = .ok (.iload_n 3, 1) := dk_29 (dk_at dksL_law_39 2 rfl rfl)
theorem dL_law_1074 : decode cL_law 1074 = .ok (.iconst 2, 1) := dk_5 (dk_at dksL_law_39 3 rfl rfl)
theorem dL_law_1075 : decode cL_law 1075 = .ok (.iadd, 1) := dk_96 (dk_at dksL_law_39 4 rfl rfl)
theorem dL_law_1076 : decode cL_law 1076 = .ok (.iaload, 1) := dk_46 (dk_at dksL_law_39 5 rfl rfl)
theorem dL_law_1077 : decode cL_law 1077 = .ok (.invokevirtual 131, 3) := dk_182 0 131 (dk_at dksL_law_39 6 rfl rfl)
theorem dL_law_1080 : decode cL_law 1080 = .ok (.aload_n 2, 1) := dk_44 (dk_at dksL_law_39 9 rfl rfl)
theorem dL_law_1081 : decode cL_law 1081 = .ok (.aload_n 0, 1) := dk_42 (dk_at dksL_law_39 10 rfl rfl)
theorem dL_law_1082 : decode cL_law 1082 = .ok (.iload_n 3, 1) := dk_29 (dk_at dksL_law_39 11 rfl rfl)
theorem dL_law_1083 : decode cL_law 1083 = .ok (.iconst 1, 1) := dk_4 (dk_at dksL_law_39 12 rfl rfl)
theorem dL_law_1084 : decode cL_law 1084 = .ok (.iadd, 1) := dk_96 (dk_at dksL_law_39 13 rfl rfl)
theorem dL_law_1085 : decode cL_law 1085 = .ok (.iaload, 1) := dk_46 (dk_at dksL_law_39 14 rfl rfl)
theorem dL_law_1086 : decode cL_law 1086 = .ok (.aload_n 0, 1) := dk_42 (dk_at dksL_law_39 15 rfl rfl)
theorem dL_law_1087 : decode cL_law 1087 = .ok (.iload_n 3, 1) := dk_29 (dk_at dksL_law_39 16 rfl rfl)
theorem dL_law_1088 : decode cL_law 1088 = .ok (.iconst 2, 1) := dk_5 (dk_at dksL_law_39 17 rfl rfl)
theorem dL_law_1089 : decode cL_law 1089 = .ok (.iadd, 1) := dk_96 (dk_at dksL_law_39 18 rfl rfl)
theorem dL_law_1090 : decode cL_law 1090 = .ok (.iaload, 1) := dk_46 (dk_at dksL_law_39 19 rfl rfl)
theorem dL_law_1091 : decode cL_law 1091 = .ok (.invokevirtual 134, 3) := dk_182 0 134 (dk_at dksL_law_39 20 rfl rfl)
theorem dL_law_1094 : decode cL_law 1094 = .ok (.if_icmp .eq 409, 3) := dk_159 1 153 (dk_at dksL_law_40 0 rfl rfl)
theorem dL_law_1097 : decode cL_law 1097 = .ok (.iconst 0, 1) := dk_3 (dk_at dksL_law_40 3 rfl rfl)
theorem dL_law_1098 : decode cL_law 1098 = .ok (.ireturn, 1) := dk_172 (dk_at dksL_law_40 4 rfl rfl)
theorem dL_law_1099 : decode cL_law 1099 = .ok (.aload_n 1, 1) := dk_43 (dk_at dksL_law_40 5 rfl rfl)
theorem dL_law_1100 : decode cL_law 1100 = .ok (.aload_n 0, 1) := dk_42 (dk_at dksL_law_40 6 rfl rfl)
theorem dL_law_1101 : decode cL_law 1101 = .ok (.iload_n 3, 1) := dk_29 (dk_at dksL_law_40 7 rfl rfl)
theorem dL_law_1102 : decode cL_law 1102 = .ok (.iconst 1, 1) := dk_4 (dk_at dksL_law_40 8 rfl rfl)
theorem dL_law_1103 : decode cL_law 1103 = .ok (.iadd, 1) := dk_96 (dk_at dksL_law_40 9 rfl rfl)
theorem dL_law_1104 : decode cL_law 1104 = .ok (.iaload, 1) := dk_46 (dk_at dksL_law_40 10 rfl rfl)
theorem dL_law_1105 : decode cL_law 1105 = .ok (.aload_n 0, 1) := dk_42 (dk_at dksL_law_40 11 rfl rfl)
theorem dL_law_1106 : decode cL_law 1106 = .ok (.iload_n 3, 1) := dk_29 (dk_at dksL_law_40 12 rfl rfl)
theorem dL_law_1107 : decode cL_law 1107 = .ok (.iconst 2, 1) := dk_5 (dk_at dksL_law_40 13 rfl rfl)
theorem dL_law_1108 : decode cL_law 1108 = .ok (.iadd, 1) := dk_96 (dk_at dksL_law_40 14 rfl rfl)
theorem dL_law_1109 : decode cL_law 1109 = .ok (.iaload, 1) := dk_46 (dk_at dksL_law_40 15 rfl rfl)
theorem dL_law_1110 : decode cL_law 1110 = .ok (.ifCond .eq 7, 3) := dk_153 0 7 (dk_at dksL_law_40 16 rfl rfl)
theorem dL_law_1113 : decode cL_law 1113 = .ok (.iconst 1, 1) := dk_4 (dk_at dksL_law_40 19 rfl rfl)
theorem dL_law_1114 : decode cL_law 1114 = .ok (.goto 4, 3) := dk_167 0 4 (dk_at dksL_law_40 20 rfl rfl)
theorem dL_law_1117 : decode cL_law 1117 = .ok (.iconst 0, 1) := dk_3 (dk_at dksL_law_40 23 rfl rfl)
theorem dL_law_1118 : decode cL_law 1118 = .ok (.invokevirtual 135, 3) := dk_182 0 135 (dk_at dksL_law_41 0 rfl rfl)
theorem dL_law_1121 : decode cL_law 1121 = .ok (.aload_n 2, 1) := dk_44 (dk_at dksL_law_41 3 rfl rfl)
theorem dL_law_1122 : decode cL_law 1122 = .ok (.aload_n 0, 1) := dk_42 (dk_at dksL_law_41 4 rfl rfl)
theorem dL_law_1123 : decode cL_law 1123 = .ok (.iload_n 3, 1) := dk_29 (dk_at dksL_law_41 5 rfl rfl)
theorem dL_law_1124 : decode cL_law 1124 = .ok (.iconst 1, 1) := dk_4 (dk_at dksL_law_41 6 rfl rfl)
theorem dL_law_1125 : decode cL_law 1125 = .ok (.iadd, 1) := dk_96 (dk_at dksL_law_41 7 rfl rfl)
theorem dL_law_1126 : decode cL_law 1126 = .ok (.iaload, 1) := dk_46 (dk_at dksL_law_41 8 rfl rfl)
theorem dL_law_1127 : decode cL_law 1127 = .ok (.aload_n 0, 1) := dk_42 (dk_at dksL_law_41 9 rfl rfl)
theorem dL_law_1128 : decode cL_law 1128 = .ok (.iload_n 3, 1) := dk_29 (dk_at dksL_law_41 10 rfl rfl)
theorem dL_law_1129 : decode cL_law 1129 = .ok (.iconst 2, 1) := dk_5 (dk_at dksL_law_41 11 rfl rfl)
theorem dL_law_1130 : decode cL_law 1130 = .ok (.iadd, 1) := dk_96 (dk_at dksL_law_41 12 rfl rfl)
theorem dL_law_1131 : decode cL_law 1131 = .ok (.iaload, 1) := dk_46 (dk_at dksL_law_41 13 rfl rfl)
theorem dL_law_1132 : decode cL_law 1132 = .ok (.ifCond .eq 7, 3) := dk_153 0 7 (dk_at dksL_law_41 14 rfl rfl)
theorem dL_law_1135 : decode cL_law 1135 = .ok (.iconst 1, 1) := dk_4 (dk_at dksL_law_41 17 rfl rfl)
theorem dL_law_1136 : decode cL_law 1136 = .ok (.goto 4, 3) := dk_167 0 4 (dk_at dksL_law_41 18 rfl rfl)
theorem dL_law_1139 : decode cL_law 1139 = .ok (.iconst 0, 1) := dk_3 (dk_at dksL_law_41 21 rfl rfl)
theorem dL_law_1140 : decode cL_law 1140 = .ok (.invokevirtual 138, 3) := dk_182 0 138 (dk_at dksL_law_42 0 rfl rfl)
theorem dL_law_1143 : decode cL_law 1143 = .ok (.if_icmp .eq 360, 3) := dk_159 1 104 (dk_at dksL_law_42 3 rfl rfl)
theorem dL_law_1146 : decode cL_law 1146 = .ok (.iconst 0, 1) := dk_3 (dk_at dksL_law_42 6 rfl rfl)
theorem dL_law_1147 : decode cL_law 1147 = .ok (.ireturn, 1) := dk_172 (dk_at dksL_law_42 7 rfl rfl)
theorem dL_law_1148 : decode cL_law 1148 = .ok (.aload_n 1, 1) := dk_43 (dk_at dksL_law_42 8 rfl rfl)
theorem dL_law_1149 : decode cL_law 1149 = .ok (.aload_n 0, 1) := dk_42 (dk_at dksL_law_42 9 rfl rfl)
theorem dL_law_1150 : decode cL_law 1150 = .ok (.iload_n 3, 1) := dk_29 (dk_at dksL_law_42 10 rfl rfl)
theorem dL_law_1151 : decode cL_law 1151 = .ok (.iconst 1, 1) := dk_4 (dk_at dksL_law_42 11 rfl rfl)
theorem dL_law_1152 : decode cL_law 1152 = .ok (.iadd, 1) := dk_96 (dk_at dksL_law_42 12 rfl rfl)
theorem dL_law_1153 : decode cL_law 1153 = .ok (.iaload, 1) := dk_46 (dk_at dksL_law_42 13 rfl rfl)
theorem dL_law_1154 : decode cL_law 1154 = .ok (.aload_n 0, 1) := dk_42 (dk_at dksL_law_42 14 rfl rfl)
theorem dL_law_1155 : decode cL_law 1155 = .ok (.iload_n 3, 1) := dk_29 (dk_at dksL_law_42 15 rfl rfl)
theorem dL_law_1156 : decode cL_law 1156 = .ok (.iconst 2, 1) := dk_5 (dk_at dksL_law_42 16 rfl rfl)
theorem dL_law_1157 : decode cL_law 1157 = .ok (.iadd, 1) := dk_96 (dk_at dksL_law_42 17 rfl rfl)
theorem dL_law_1158 : decode cL_law 1158 = .ok (.iaload, 1) := dk_46 (dk_at dksL_law_42 18 rfl rfl)
theorem dL_law_1159 : decode cL_law 1159 = .ok (.aload_n 0, 1) := dk_42 (dk_at dksL_law_42 19 rfl rfl)
theorem dL_law_1160 : decode cL_law 1160 = .ok (.iload_n 3, 1) := dk_29 (dk_at dksL_law_42 20 rfl rfl)
theorem dL_law_1161 : decode cL_law 1161 = .ok (.iconst 3, 1) := dk_6 (dk_at dksL_law_42 21 rfl rfl)
theorem dL_law_1162 : decode cL_law 1162 = .ok (.iadd, 1) := dk_96 (dk_at dksL_law_42 22 rfl rfl)
theorem dL_law_1163 : decode cL_law 1163 = .ok (.iaload, 1) := dk_46 (dk_at dksL_law_42 23 rfl rfl)
theorem dL_law_1164 : decode cL_law 1164 = .ok (.invokevirtual 139, 3) := dk_182 0 139 (dk_at dksL_law_43 0 rfl rfl)
theorem dL_law_1167 : decode cL_law 1167 = .ok (.aload_n 2, 1) := dk_44 (dk_at dksL_law_43 3 rfl rfl)
theorem dL_law_1168 : decode cL_law 1168 = .ok (.aload_n 0, 1) := dk_42 (dk_at dksL_law_43 4 rfl rfl)
theorem dL_law_1169 : decode cL_law 1169 = .ok (.iload_n 3, 1) := dk_29 (dk_at dksL_law_43 5 rfl rfl)
theorem dL_law_1170 : decode cL_law 1170 = .ok (.iconst 1, 1) := dk_4 (dk_at dksL_law_43 6 rfl rfl)
theorem dL_law_1171 : decode cL_law 1171 = .ok (.iadd, 1) := dk_96 (dk_at dksL_law_43 7 rfl rfl)
theorem dL_law_1172 : decode cL_law 1172 = .ok (.iaload, 1) := dk_46 (dk_at dksL_law_43 8 rfl rfl)
theorem dL_law_1173 : decode cL_law 1173 = .ok (.aload_n 0, 1) := dk_42 (dk_at dksL_law_43 9 rfl rfl)
theorem dL_law_1174 : decode cL_law 1174 = .ok (.iload_n 3, 1) := dk_29 (dk_at dksL_law_43 10 rfl rfl)
theorem dL_law_1175 : decode cL_law 1175 = .ok (.iconst 2, 1) := dk_5 (dk_at dksL_law_43 11 rfl rfl)
theorem dL_law_1176 : decode cL_law 1176 = .ok (.iadd, 1) := dk_96 (dk_at dksL_law_43 12 rfl rfl)
theorem dL_law_1177 : decode cL_law 1177 = .ok (.iaload, 1) := dk_46 (dk_at dksL_law_43 13 rfl rfl)
theorem dL_law_1178 : decode cL_law 1178 = .ok (.aload_n 0, 1) := dk_42 (dk_at dksL_law_43 14 rfl rfl)
theorem dL_law_1179 : decode cL_law 1179 = .ok (.iload_n 3, 1) := dk_29 (dk_at dksL_law_43 15 rfl rfl)
theorem dL_law_1180 : decode cL_law 1180 = .ok (.iconst 3, 1) := dk_6 (dk_at dksL_law_43 16 rfl rfl)
theorem dL_law_1181 : decode cL_law 1181 = .ok (.iadd, 1) := dk_96 (dk_at dksL_law_43 17 rfl rfl)
theorem dL_law_1182 : decode cL_law 1182 = .ok (.iaload, 1) := dk_46 (dk_at dksL_law_43 18 rfl rfl)
theorem dL_law_1183 : decode cL_law 1183 = .ok (.invokevirtual 142, 3) := dk_182 0 142 (dk_at dksL_law_43 19 rfl rfl)
theorem dL_law_1186 : decode cL_law 1186 = .ok (.if_icmp .eq 317, 3) := dk_159 1 61 (dk_at dksL_law_44 0 rfl rfl)
theorem dL_law_1189 : decode cL_law 1189 = .ok (.iconst 0, 1) := dk_3 (dk_at dksL_law_44 3 rfl rfl)
theorem dL_law_1190 : decode cL_law 1190 = .ok (.ireturn, 1) := dk_172 (dk_at dksL_law_44 4 rfl rfl)
theorem dL_law_1191 : decode cL_law 1191 = .ok (.aload_n 1, 1) := dk_43 (dk_at dksL_law_44 5 rfl rfl)
theorem dL_law_1192 : decode cL_law 1192 = .ok (.aload_n 0, 1) := dk_42 (dk_at dksL_law_44 6 rfl rfl)
theorem dL_law_1193 : decode cL_law 1193 = .ok (.iload_n 3, 1) := dk_29 (dk_at dksL_law_44 7 rfl rfl)
theorem dL_law_1194 : decode cL_law 1194 = .ok (.iconst 1, 1) := dk_4 (dk_at dksL_law_44 8 rfl rfl)
theorem dL_law_1195 : decode cL_law 1195 = .ok (.iadd, 1) := dk_96 (dk_at dksL_law_44 9 rfl rfl)
theorem dL_law_1196 : decode cL_law 1196 = .ok (.iaload, 1) := dk_46 (dk_at dksL_law_44 10 rfl rfl)
theorem dL_law_1197 : decode cL_law 1197 = .ok (.invokevirtual 143, 3) := dk_182 0 143 (dk_at dksL_law_44 11 rfl rfl)
theorem dL_law_1200 : decode cL_law 1200 = .ok (.aload_n 2, 1) := dk_44 (dk_at dksL_law_44 14 rfl rfl)
theorem dL_law_1201 : decode cL_law 1201 = .ok (.aload_n 0, 1) := dk_42 (dk_at dksL_law_44 15 rfl rfl)
theorem dL_law_1202 : decode cL_law 1202 = .ok (.iload_n 3, 1) := dk_29 (dk_at dksL_law_44 16 rfl rfl)
theorem dL_law_1203 : decode cL_law 1203 = .ok (.iconst 1, 1) := dk_4 (dk_at dksL_law_44 17 rfl rfl)
theorem dL_law_1204 : decode cL_law 1204 = .ok (.iadd, 1) := dk_96 (dk_at dksL_law_44 18 rfl rfl)
theorem dL_law_1205 : decode cL_law 1205 = .ok (.iaload, 1) := dk_46 (dk_at dksL_law_44 19 rfl rfl)
theorem dL_law_1206 : decode cL_law 1206 = .ok (.invokevirtual 146, 3) := dk_182 0 146 (dk_at dksL_law_44 20 rfl rfl)
theorem dL_law_1209 : decode cL_law 1209 = .ok (.if_icmp .eq 294, 3) := dk_159 1 38 (dk_at dksL_law_45 0 rfl rfl)
theorem dL_law_1212 : decode cL_law 1212 = .ok (.iconst 0, 1) := dk_3 (dk_at dksL_law_45 3 rfl rfl)
theorem dL_law_1213 : decode cL_law 1213 = .ok (.ireturn, 1) := dk_172 (dk_at dksL_law_45 4 rfl rfl)
theorem dL_law_1214 : decode cL_law 1214 = .ok (.aload_n 1, 1) := dk_43 (dk_at dksL_law_45 5 rfl rfl)
theorem dL_law_1215 : decode cL_law 1215 = .ok (.aload_n 0, 1) := dk_42 (dk_at dksL_law_45 6 rfl rfl)
theorem dL_law_1216 : decode cL_law 1216 = .ok (.iload_n 3, 1) := dk_29 (dk_at dksL_law_45 7 rfl rfl)
theorem dL_law_1217 : decode cL_law 1217 = .ok (.iconst 1, 1) := dk_4 (dk_at dksL_law_45 8 rfl rfl)
theorem dL_law_1218 : decode cL_law 1218 = .ok (.iadd, 1) := dk_96 (dk_at dksL_law_45 9 rfl rfl)
theorem dL_law_1219 : decode cL_law 1219 = .ok (.iaload, 1) := dk_46 (dk_at dksL_law_45 10 rfl rfl)
theorem dL_law_1220 : decode cL_law 1220 = .ok (.aload_n 0, 1) := dk_42 (dk_at dksL_law_45 11 rfl rfl)
theorem dL_law_1221 : decode cL_law 1221 = .ok (.iload_n 3, 1) := dk_29 (dk_at dksL_law_45 12 rfl rfl)
theorem dL_law_1222 : decode cL_law 1222 = .ok (.iconst 2, 1) := dk_5 (dk_at dksL_law_45 13 rfl rfl)
theorem dL_law_1223 : decode cL_law 1223 = .ok (.iadd, 1) := dk_96 (dk_at dksL_law_45 14 rfl rfl)
theorem dL_law_1224 : decode cL_law 1224 = .ok (.iaload, 1) := dk_46 (dk_at dksL_law_45 15 rfl rfl)
theorem dL_law_1225 : decode cL_law 1225 = .ok (.invokevirtual 147, 3) := dk_182 0 147 (dk_at dksL_law_45 16 rfl rfl)
theorem dL_law_1228 : decode cL_law 1228 = .ok (.aload_n 2, 1) := dk_44 (dk_at dksL_law_45 19 rfl rfl)
theorem dL_law_1229 : decode cL_law 1229 = .ok (.aload_n 0, 1) := dk_42 (dk_at dksL_law_45 20 rfl rfl)
theorem dL_law_1230 : decode cL_law 1230 = .ok (.iload_n 3, 1) := dk_29 (dk_at dksL_law_45 21 rfl rfl)
theorem dL_law_1231 : decode cL_law 1231 = .ok (.iconst 1, 1) := dk_4 (dk_at dksL_law_45 22 rfl rfl)
theorem dL_law_1232 : decode cL_law 1232 = .ok (.iadd, 1) := dk_96 (dk_at dksL_law_45 23 rfl rfl)
theorem dL_law_1233 : decode cL_law 1233 = .ok (.iaload, 1) := dk_46 (dk_at dksL_law_46 0 rfl rfl)
theorem dL_law_1234 : decode cL_law 1234 = .ok (.aload_n 0, 1) := dk_42 (dk_at dksL_law_46 1 rfl rfl)
theorem dL_law_1235 : decode cL_law 1235 = .ok (.iload_n 3, 1) := dk_29 (dk_at dksL_law_46 2 rfl rfl)
theorem dL_law_1236 : decode cL_law 1236 = .ok (.iconst 2, 1) := dk_5 (dk_at dksL_law_46 3 rfl rfl)
theorem dL_law_1237 : decode cL_law 1237 = .ok (.iadd, 1) := dk_96 (dk_at dksL_law_46 4 rfl rfl)
theorem dL_law_1238 : decode cL_law 1238 = .ok (.iaload, 1) := dk_46 (dk_at dksL_law_46 5 rfl rfl)
theorem dL_law_1239 : decode cL_law 1239 = .ok (.invokevirtual 150, 3) := dk_182 0 150 (dk_at dksL_law_46 6 rfl rfl)
theorem dL_law_1242 : decode cL_law 1242 = .ok (.if_icmp .eq 261, 3) := dk_159 1 5 (dk_at dksL_law_46 9 rfl rfl)
theorem dL_law_1245 : decode cL_law 1245 = .ok (.iconst 0, 1) := dk_3 (dk_at dksL_law_46 12 rfl rfl)
theorem dL_law_1246 : decode cL_law 1246 = .ok (.ireturn, 1) := dk_172 (dk_at dksL_law_46 13 rfl rfl)
theorem dL_law_1247 : decode cL_law 1247 = .ok (.aload_n 1, 1) := dk_43 (dk_at dksL_law_46 14 rfl rfl)
theorem dL_law_1248 : decode cL_law 1248 = .ok (.invokevirtual 151, 3) := dk_182 0 151 (dk_at dksL_law_46 15 rfl rfl)
theorem dL_law_1251 : decode cL_law 1251 = .ok (.dstore 4, 2) := dk_57 4 (dk_at dksL_law_46 18 rfl rfl)
theorem dL_law_1253 : decode cL_law 1253 = .ok (.aload_n 2, 1) := dk_44 (dk_at dksL_law_46 20 rfl rfl)
theorem dL_law_1254 : decode cL_law 1254 = .ok (.invokevirtual 155, 3) := dk_182 0 155 (dk_at dksL_law_46 21 rfl rfl)
theorem dL_law_1257 : decode cL_law 1257 = .ok (.dstore 6, 2) := dk_57 6 (dk_at dksL_law_47 0 rfl rfl)
theorem dL_law_1259 : decode cL_law 1259 = .ok (.dload 4, 2) := dk_24 4 (dk_at dksL_law_47 2 rfl rfl)
theorem dL_law_1261 : decode cL_law 1261 = .ok (.dload 6, 2) := dk_24 6 (dk_at dksL_law_47 4 rfl rfl)
theorem dL_law_1263 : decode cL_law 1263 = .ok (.dcmp .l, 1) := dk_151 (dk_at dksL_law_47 6 rfl rfl)
theorem dL_law_1264 : decode cL_law 1264 = .ok (.ifCond .eq 21, 3) := dk_153 0 21 (dk_at dksL_law_47 7 rfl rfl)
theorem dL_law_1267 : decode cL_law 1267 = .ok (.dload 4, 2) := dk_24 4 (dk_at dksL_law_47 10 rfl rfl)
theorem dL_law_1269 : decode cL_law 1269 = .ok (.dload 4, 2) := dk_24 4 (dk_at dksL_law_47 12 rfl rfl)
theorem dL_law_1271 : decode cL_law 1271 = .ok (.dcmp .l, 1) := dk_151 (dk_at dksL_law_47 14 rfl rfl)
theorem dL_law_1272 : decode cL_law 1272 = .ok (.ifCond .eq 11, 3) := dk_153 0 11 (dk_at dksL_law_47 15 rfl rfl)
theorem dL_law_1275 : decode cL_law 1275 = .ok (.dload 6, 2) := dk_24 6 (dk_at dksL_law_47 18 rfl rfl)
theorem dL_law_1277 : decode cL_law 1277 = .ok (.dload 6, 2) := dk_24 6 (dk_at dksL_law_47 20 rfl rfl)
theorem dL_law_1279 : decode cL_law 1279 = .ok (.dcmp .l, 1) := dk_151 (dk_at dksL_law_47 22 rfl rfl)
theorem dL_law_1280 : decode cL_law 1280 = .ok (.ifCond .ne 5, 3) := dk_154 0 5 (dk_at dksL_law_48 0 rfl rfl)
theorem dL_law_1283 : decode cL_law 1283 = .ok (.iconst 0, 1) := dk_3 (dk_at dksL_law_48 3 rfl rfl)
theorem dL_law_1284 : decode cL_law 1284 = .ok (.ireturn, 1) := dk_172 (dk_at dksL_law_48 4 rfl rfl)
theorem dL_law_1285 : decode cL_law 1285 = .ok (.goto 218, 3) := dk_167 0 218 (dk_at dksL_law_48 5 rfl rfl)
theorem dL_law_1288 : decode cL_law 1288 = .ok (.aload_n 1, 1) := dk_43 (dk_at dksL_law_48 8 rfl rfl)
theorem dL_law_1289 : decode cL_law 1289 = .ok (.invokevirtual 156, 3) := dk_182 0 156 (dk_at dksL_law_48 9 rfl rfl)
theorem dL_law_1292 : decode cL_law 1292 = .ok (.dstore 4, 2) := dk_57 4 (dk_at dksL_law_48 12 rfl rfl)
theorem dL_law_1294 : decode cL_law 1294 = .ok (.aload_n 2, 1) := dk_44 (dk_at dksL_law_48 14 rfl rfl)
theorem dL_law_1295 : decode cL_law 1295 = .ok (.invokevirtual 159, 3) := dk_182 0 159 (dk_at dksL_law_48 15 rfl rfl)
theorem dL_law_1298 : decode cL_law 1298 = .ok (.dstore 6, 2) := dk_57 6 (dk_at dksL_law_48 18 rfl rfl)
theorem dL_law_1300 : decode cL_law 1300 = .ok (.dload 4, 2) := dk_24 4 (dk_at dksL_law_48 20 rfl rfl)
theorem dL_law_1302 : decode cL_law 1302 = .ok (.dload 6, 2) := dk_24 6 (dk_at dksL_law_48 22 rfl rfl)
theorem dL_law_1304 : decode cL_law 1304 = .ok (.dcmp .l, 1) := dk_151 (dk_at dksL_law_49 0 rfl rfl)
theorem dL_law_1305 : decode cL_law 1305 = .ok (.ifCond .eq 21, 3) := dk_153 0 21 (dk_at dksL_law_49 1 rfl rfl)
theorem dL_law_1308 : decode cL_law 1308 = .ok (.dload 4, 2) := dk_24 4 (dk_at dksL_law_49 4 rfl rfl)
theorem dL_law_1310 : decode cL_law 1310 = .ok (.dload 4, 2) := dk_24 4 (dk_at dksL_law_49 6 rfl rfl)
theorem dL_law_1312 : decode cL_law 1312 = .ok (.dcmp .l, 1) := dk_151 (dk_at dksL_law_49 8 rfl rfl)
theorem dL_law_1313 : decode cL_law 1313 = .ok (.ifCond .eq 11, 3) := dk_153 0 11 (dk_at dksL_law_49 9 rfl rfl)
theorem dL_law_1316 : decode cL_law 1316 = .ok (.dload 6, 2) := dk_24 6 (dk_at dksL_law_49 12 rfl rfl)
theorem dL_law_1318 : decode cL_law 1318 = .ok (.dload 6, 2) := dk_24 6 (dk_at dksL_law_49 14 rfl rfl)
theorem dL_law_1320 : decode cL_law 1320 = .ok (.dcmp .l, 1) := dk_151 (dk_at dksL_law_49 16 rfl rfl)
theorem dL_law_1321 : decode cL_law 1321 = .ok (.ifCond .ne 5, 3) := dk_154 0 5 (dk_at dksL_law_49 17 rfl rfl)
theorem dL_law_1324 : decode cL_law 1324 = .ok (.iconst 0, 1) := dk_3 (dk_at dksL_law_49 20 rfl rfl)
theorem dL_law_1325 : decode cL_law 1325 = .ok (.ireturn, 1) := dk_172 (dk_at dksL_law_49 21 rfl rfl)
theorem dL_law_1326 : decode cL_law 1326 = .ok (.goto 177, 3) := dk_167 0 177 (dk_at dksL_law_50 0 rfl rfl)
theorem dL_law_1329 : decode cL_law 1329 = .ok (.aload_n 1, 1) := dk_43 (dk_at dksL_law_50 3 rfl rfl)
theorem dL_law_1330 : decode cL_law 1330 = .ok (.aload_n 0, 1) := dk_42 (dk_at dksL_law_50 4 rfl rfl)
theorem dL_law_1331 : decode cL_law 1331 = .ok (.iload_n 3, 1) := dk_29 (dk_at dksL_law_50 5 rfl rfl)
theorem dL_law_1332 : decode cL_law 1332 = .ok (.iconst 1, 1) := dk_4 (dk_at dksL_law_50 6 rfl rfl)
theorem dL_law_1333 : decode cL_law 1333 = .ok (.iadd, 1) := dk_96 (dk_at dksL_law_50 7 rfl rfl)
theorem dL_law_1334 : decode cL_law 1334 = .ok (.iaload, 1) := dk_46 (dk_at dksL_law_50 8 rfl rfl)
theorem dL_law_1335 : decode cL_law 1335 = .ok (.invokevirtual 160, 3) := dk_182 0 160 (dk_at dksL_law_50 9 rfl rfl)
theorem dL_law_1338 : decode cL_law 1338 = .ok (.f2d, 1) := dk_141 (dk_at dksL_law_50 12 rfl rfl)
theorem dL_law_1339 : decode cL_law 1339 = .ok (.dstore 4, 2) := dk_57 4 (dk_at dksL_law_50 13 rfl rfl)
theorem dL_law_1341 : decode cL_law 1341 = .ok (.aload_n 2, 1) := dk_44 (dk_at dksL_law_50 15 rfl rfl)
theorem dL_law_1342 : decode cL_law 1342 = .ok (.aload_n 0, 1) := dk_42 (dk_at dksL_law_50 16 rfl rfl)
theorem dL_law_1343 : decode cL_law 1343 = .ok (.iload_n 3, 1) := dk_29 (dk_at dksL_law_50 17 rfl rfl)
theorem dL_law_1344 : decode cL_law 1344 = .ok (.iconst 1, 1) := dk_4 (dk_at dksL_law_50 18 rfl rfl)
theorem dL_law_1345 : decode cL_law 1345 = .ok (.iadd, 1) := dk_96 (dk_at dksL_law_50 19 rfl rfl)
theorem dL_law_1346 : decode cL_law 1346 = .ok (.iaload, 1) := dk_46 (dk_at dksL_law_50 20 rfl rfl)
theorem dL_law_1347 : decode cL_law 1347 = .ok (.invokevirtual 164, 3) := dk_182 0 164 (dk_at dksL_law_50 21 rfl rfl)
theorem dL_law_1350 : decode cL_law 1350 = .ok (.f2d, 1) := dk_141 (dk_at dksL_law_51 0 rfl rfl)
theorem dL_law_1351 : decode cL_law 1351 = .ok (.dstore 6, 2) := dk_57 6 (dk_at dksL_law_51 1 rfl rfl)
theorem dL_law_1353 : decode cL_law 1353 = .ok (.dload 4, 2) := dk_24 4 (dk_at dksL_law_51 3 rfl rfl)
theorem dL_law_1355 : decode cL_law 1355 = .ok (.dload 6, 2) := dk_24 6 (dk_at dksL_law_51 5 rfl rfl)
theorem dL_law_1357 : decode cL_law 1357 = .ok (.dcmp .l, 1) := dk_151 (dk_at dksL_law_51 7 rfl rfl)
theorem dL_law_1358 : decode cL_law 1358 = .ok (.ifCond .eq 21, 3) := dk_153 0 21 (dk_at dksL_law_51 8 rfl rfl)
theorem dL_law_1361 : decode cL_law 1361 = .ok (.dload 4, 2) := dk_24 4 (dk_at dksL_law_51 11 rfl rfl)
theorem dL_law_1363 : decode cL_law 1363 = .ok (.dload 4, 2) := dk_24 4 (dk_at dksL_law_51 13 rfl rfl)
theorem dL_law_1365 : decode cL_law 1365 = .ok (.dcmp .l, 1) := dk_151 (dk_at dksL_law_51 15 rfl rfl)
theorem dL_law_1366 : decode cL_law 1366 = .ok (.ifCond .eq 11, 3) := dk_153 0 11 (dk_at dksL_law_51 16 rfl rfl)
theorem dL_law_1369 : decode cL_law 1369 = .ok (.dload 6, 2) := dk_24 6 (dk_at dksL_law_51 19 rfl rfl)
theorem dL_law_1371 : decode cL_law 1371 = .ok (.dload 6, 2) := dk_24 6 (dk_at dksL_law_51 21 rfl rfl)
theorem dL_law_1373 : decode cL_law 1373 = .ok (.dcmp .l, 1) := dk_151 (dk_at dksL_law_51 23 rfl rfl)
theorem dL_law_1374 : decode cL_law 1374 = .ok (.ifCond .ne 5, 3) := dk_154 0 5 (dk_at dksL_law_52 0 rfl rfl)
theorem dL_law_1377 : decode cL_law 1377 = .ok (.iconst 0, 1) := dk_3 (dk_at dksL_law_52 3 rfl rfl)
theorem dL_law_1378 : decode cL_law 1378 = .ok (.ireturn, 1) := dk_172 (dk_at dksL_law_52 4 rfl rfl)
theorem dL_law_1379 : decode cL_law 1379 = .ok (.goto 124, 3) := dk_167 0 124 (dk_at dksL_law_52 5 rfl rfl)
theorem dL_law_1382 : decode cL_law 1382 = .ok (.aload_n 1, 1) := dk_43 (dk_at dksL_law_52 8 rfl rfl)
theorem dL_law_1383 : decode cL_law 1383 = .ok (.invokevirtual 165, 3) := dk_182 0 165 (dk_at dksL_law_52 9 rfl rfl)
theorem dL_law_1386 : decode cL_law 1386 = .ok (.aload_n 2, 1) := dk_44 (dk_at dksL_law_52 12 rfl rfl)
theorem dL_law_1387 : decode cL_law 1387 = .ok (.invokevirtual 168, 3) := dk_182 0 168 (dk_at dksL_law_52 13 rfl rfl)
theorem dL_law_1390 : decode cL_law 1390 = .ok (.if_icmp .eq 113, 3) := dk_159 0 113 (dk_at dksL_law_52 16 rfl rfl)
theorem dL_law_1393 : decode cL_law 1393 = .ok (.iconst 0, 1) := dk_3 (dk_at dksL_law_52 19 rfl rfl)
theorem dL_law_1394 : decode cL_law 1394 = .ok (.ireturn, 1) := dk_172 (dk_at dksL_law_52 20 rfl rfl)
theorem dL_law_1395 : decode cL_law 1395 = .ok (.aload_n 1, 1) := dk_43 (dk_at dksL_law_52 21 rfl rfl)
theorem dL_law_1396 : decode cL_law 1396 = .ok (.aload_n 0, 1) := dk_42 (dk_at dksL_law_52 22 rfl rfl)
theorem dL_law_1397 : decode cL_law 1397 = .ok (.iload_n 3, 1) := dk_29 (dk_at dksL_law_52 23 rfl rfl)
theorem dL_law_1398 : decode cL_law 1398 = .ok (.iconst 1, 1) := dk_4 (dk_at dksL_law_53 0 rfl rfl)
theorem dL_law_1399 : decode cL_law 1399 = .ok (.iadd, 1) := dk_96 (dk_at dksL_law_53 1 rfl rfl)
theorem dL_law_1400 : decode cL_law 1400 = .ok (.iaload, 1) := dk_46 (dk_at dksL_law_53 2 rfl rfl)
theorem dL_law_1401 : decode cL_law 1401 = .ok (.invokevirtual 169, 3) := dk_182 0 169 (dk_at dksL_law_53 3 rfl rfl)
theorem dL_law_1404 : decode cL_law 1404 = .ok (.aload_n 2, 1) := dk_44 (dk_at dksL_law_53 6 rfl rfl)
theorem dL_law_1405 : decode cL_law 1405 = .ok (.aload_n 0, 1) := dk_42 (dk_at dksL_law_53 7 rfl rfl)
theorem dL_law_1406 : decode cL_law 1406 = .ok (.iload_n 3, 1) := dk_29 (dk_at dksL_law_53 8 rfl rfl)
theorem dL_law_1407 : decode cL_law 1407 = .ok (.iconst 1, 1) := dk_4 (dk_at dksL_law_53 9 rfl rfl)
theorem dL_law_1408 : decode cL_law 1408 = .ok (.iadd, 1) := dk_96 (dk_at dksL_law_53 10 rfl rfl)
theorem dL_law_1409 : decode cL_law 1409 = .ok (.iaload, 1) := dk_46 (dk_at dksL_law_53 11 rfl rfl)
theorem dL_law_1410 : decode cL_law 1410 = .ok (.invokevirtual 172, 3) := dk_182 0 172 (dk_at dksL_law_53 12 rfl rfl)
theorem dL_law_1413 : decode cL_law 1413 = .ok (.if_icmp .eq 90, 3) := dk_159 0 90 (dk_at dksL_law_53 15 rfl rfl)
theorem dL_law_1416 : decode cL_law 1416 = .ok (.iconst 0, 1) := dk_3 (dk_at dksL_law_53 18 rfl rfl)
theorem dL_law_1417 : decode cL_law 1417 = .ok (.ireturn, 1) := dk_172 (dk_at dksL_law_53 19 rfl rfl)
theorem dL_law_1418 : decode cL_law 1418 = .ok (.aload_n 1, 1) := dk_43 (dk_at dksL_law_53 20 rfl rfl)
theorem dL_law_1419 : decode cL_law 1419 = .ok (.invokevirtual 173, 3) := dk_182 0 173 (dk_at dksL_law_53 21 rfl rfl)
theorem dL_law_1422 : decode cL_law 1422 = .ok (.aload_n 2, 1) := dk_44 (dk_at dksL_law_54 0 rfl rfl)
theorem dL_law_1423 : decode cL_law 1423 = .ok (.invokevirtual 176, 3) := dk_182 0 176 (dk_at dksL_law_54 1 rfl rfl)
theorem dL_law_1426 : decode cL_law 1426 = .ok (.if_icmp .eq 77, 3) := dk_159 0 77 (dk_at dksL_law_54 4 rfl rfl)
theorem dL_law_1429 : decode cL_law 1429 = .ok (.iconst 0, 1) := dk_3 (dk_at dksL_law_54 7 rfl rfl)
theorem dL_law_1430 : decode cL_law 1430 = .ok (.ireturn, 1) := dk_172 (dk_at dksL_law_54 8 rfl rfl)
theorem dL_law_1431 : decode cL_law 1431 = .ok (.aload_n 1, 1) := dk_43 (dk_at dksL_law_54 9 rfl rfl)
theorem dL_law_1432 : decode cL_law 1432 = .ok (.aload_n 0, 1) := dk_42 (dk_at dksL_law_54 10 rfl rfl)
theorem dL_law_1433 : decode cL_law 1433 = .ok (.iload_n 3, 1) := dk_29 (dk_at dksL_law_54 11 rfl rfl)
theorem dL_law_1434 : decode cL_law 1434 = .ok (.iconst 1, 1) := dk_4 (dk_at dksL_law_54 12 rfl rfl)
theorem dL_law_1435 : decode cL_law 1435 = .ok (.iadd, 1) := dk_96 (dk_at dksL_law_54 13 rfl rfl)
theorem dL_law_1436 : decode cL_law 1436 = .ok (.iaload, 1) := dk_46 (dk_at dksL_law_54 14 rfl rfl)
theorem dL_law_1437 : decode cL_law 1437 = .ok (.invokevirtual 177, 3) := dk_182 0 177 (dk_at dksL_law_54 15 rfl rfl)
theorem dL_law_1440 : decode cL_law 1440 = .ok (.aload_n 2, 1) := dk_44 (dk_at dksL_law_54 18 rfl rfl)
theorem dL_law_1441 : decode cL_law 1441 = .ok (.aload_n 0, 1) := dk_42 (dk_at dksL_law_54 19 rfl rfl)
theorem dL_law_1442 : decode cL_law 1442 = .ok (.iload_n 3, 1) := dk_29 (dk_at dksL_law_54 20 rfl rfl)
theorem dL_law_1443 : decode cL_law 1443 = .ok (.iconst 1, 1) := dk_4 (dk_at dksL_law_54 21 rfl rfl)
theorem dL_law_1444 : decode cL_law 1444 = .ok (.iadd, 1) := dk_96 (dk_at dksL_law_54 22 rfl rfl)
theorem dL_law_1445 : decode cL_law 1445 = .ok (.iaload, 1) := dk_46 (dk_at dksL_law_54 23 rfl rfl)
theorem dL_law_1446 : decode cL_law 1446 = .ok (.invokevirtual 180, 3) := dk_182 0 180 (dk_at dksL_law_55 0 rfl rfl)
theorem dL_law_1449 : decode cL_law 1449 = .ok (.if_icmp .eq 54, 3) := dk_159 0 54 (dk_at dksL_law_55 3 rfl rfl)
theorem dL_law_1452 : decode cL_law 1452 = .ok (.iconst 0, 1) := dk_3 (dk_at dksL_law_55 6 rfl rfl)
theorem dL_law_1453 : decode cL_law 1453 = .ok (.ireturn, 1) := dk_172 (dk_at dksL_law_55 7 rfl rfl)
theorem dL_law_1454 : decode cL_law 1454 = .ok (.aload_n 1, 1) := dk_43 (dk_at dksL_law_55 8 rfl rfl)
theorem dL_law_1455 : decode cL_law 1455 = .ok (.invokevirtual 181, 3) := dk_182 0 181 (dk_at dksL_law_55 9 rfl rfl)
theorem dL_law_1458 : decode cL_law 1458 = .ok (.aload_n 2, 1) := dk_44 (dk_at dksL_law_55 12 rfl rfl)
theorem dL_law_1459 : decode cL_law 1459 = .ok (.invokevirtual 184, 3) := dk_182 0 184 (dk_at dksL_law_55 13 rfl rfl)
theorem dL_law_1462 : decode cL_law 1462 = .ok (.if_icmp .eq 41, 3) := dk_159 0 41 (dk_at dksL_law_55 16 rfl rfl)
theorem dL_law_1465 : decode cL_law 1465 = .ok (.iconst 0, 1) := dk_3 (dk_at dksL_law_55 19 rfl rfl)
theorem dL_law_1466 : decode cL_law 1466 = .ok (.ireturn, 1) := dk_172 (dk_at dksL_law_55 20 rfl rfl)
theorem dL_law_1467 : decode cL_law 1467 = .ok (.aload_n 1, 1) := dk_43 (dk_at dksL_law_55 21 rfl rfl)
theorem dL_law_1468 : decode cL_law 1468 = .ok (.aload_n 0, 1) := dk_42 (dk_at dksL_law_55 22 rfl rfl)
theorem dL_law_1469 : decode cL_law 1469 = .ok (.iload_n 3, 1) := dk_29 (dk_at dksL_law_55 23 rfl rfl)
theorem dL_law_1470 : decode cL_law 1470 = .ok (.iconst 1, 1) := dk_4 (dk_at dksL_law_56 0 rfl rfl)
theorem dL_law_1471 : decode cL_law 1471 = .ok (.iadd, 1) := dk_96 (dk_at dksL_law_56 1 rfl rfl)
theorem dL_law_1472 : decode cL_law 1472 = .ok (.iaload, 1) := dk_46 (dk_at dksL_law_56 2 rfl rfl)
theorem dL_law_1473 : decode cL_law 1473 = .ok (.invokevirtual 185, 3) := dk_182 0 185 (dk_at dksL_law_56 3 rfl rfl)
theorem dL_law_1476 : decode cL_law 1476 = .ok (.aload_n 2, 1) := dk_44 (dk_at dksL_law_56 6 rfl rfl)
theorem dL_law_1477 : decode cL_law 1477 = .ok (.aload_n 0, 1) := dk_42 (dk_at dksL_law_56 7 rfl rfl)
theorem dL_law_1478 : decode cL_law 1478 = .ok (.iload_n 3, 1) := dk_29 (dk_at dksL_law_56 8 rfl rfl)
theorem dL_law_1479 : decode cL_law 1479 = .ok (.iconst 1, 1) := dk_4 (dk_at dksL_law_56 9 rfl rfl)
theorem dL_law_1480 : decode cL_law 1480 = .ok (.iadd, 1) := dk_96 (dk_at dksL_law_56 10 rfl rfl)
theorem dL_law_1481 : decode cL_law 1481 = .ok (.iaload, 1) := dk_46 (dk_at dksL_law_56 11 rfl rfl)
theorem dL_law_1482 : decode cL_law 1482 = .ok (.invokevirtual 188, 3) := dk_182 0 188 (dk_at dksL_law_56 12 rfl rfl)
theorem dL_law_1485 : decode cL_law 1485 = .ok (.if_icmp .eq 18, 3) := dk_159 0 18 (dk_at dksL_law_56 15 rfl rfl)
theorem dL_law_1488 : decode cL_law 1488 = .ok (.iconst 0, 1) := dk_3 (dk_at dksL_law_56 18 rfl rfl)
theorem dL_law_1489 : decode cL_law 1489 = .ok (.ireturn, 1) := dk_172 (dk_at dksL_law_56 19 rfl rfl)
theorem dL_law_1490 : decode cL_law 1490 = .ok (.aload_n 1, 1) := dk_43 (dk_at dksL_law_56 20 rfl rfl)
theorem dL_law_1491 : decode cL_law 1491 = .ok (.invokevirtual 189, 3) := dk_182 0 189 (dk_at dksL_law_56 21 rfl rfl)
theorem dL_law_1494 : decode cL_law 1494 = .ok (.aload_n 2, 1) := dk_44 (dk_at dksL_law_57 0 rfl rfl)
theorem dL_law_1495 : decode cL_law 1495 = .ok (.invokevirtual 192, 3) := dk_182 0 192 (dk_at dksL_law_57 1 rfl rfl)
theorem dL_law_1498 : decode cL_law 1498 = .ok (.if_icmp .eq 5, 3) := dk_159 0 5 (dk_at dksL_law_57 4 rfl rfl)
theorem dL_law_1501 : decode cL_law 1501 = .ok (.iconst 0, 1) := dk_3 (dk_at dksL_law_57 7 rfl rfl)
theorem dL_law_1502 : decode cL_law 1502 = .ok (.ireturn, 1) := dk_172 (dk_at dksL_law_57 8 rfl rfl)
theorem dL_law_1503 : decode cL_law 1503 = .ok (.iinc 3 6, 3) := dk_132 3 6 (dk_at dksL_law_57 9 rfl rfl)
theorem dL_law_1506 : decode cL_law 1506 = .ok (.goto (-1488), 3) := dk_167 250 48 (dk_at dksL_law_57 12 rfl rfl)
theorem dL_law_1509 : decode cL_law 1509 = .ok (.iconst 1, 1) := dk_4 (dk_at dksL_law_57 15 rfl rfl)
theorem dL_law_1510 : decode cL_law 1510 = .ok (.ireturn, 1) := dk_172 (dk_at dksL_law_57 16 rfl rfl)

/-! BusLineModel -/
set_option maxRecDepth 100000
def RX7 : String := "BusLineModel"
def TX7 : u_T := fun k => match k with
  | 0 => ("BusLineModel", "tape", "[B", true)
  | 1 => ("BusLineModel", "taped", "I", false)
  | 2 => ("BusLineModel", "errorAt", "I", false)
  | 3 => ("BusLineModel", "stops", "I", false)
  | 4 => ("BusLineModel", "buses", "I", false)
  | 5 => ("BusLineModel", "flows", "I", false)
  | 6 => ("BusLineModel", "open", "I", false)
  | 7 => ("BusLineModel", "on", "I", false)
  | 8 => ("BusLineModel", "down", "I", false)
  | 9 => ("BusLineModel", "firstMode", "I", false)
  | 10 => ("BusLineModel", "firstNumbers", "[I", true)
  | 11 => ("BusLineModel", "stopNames", "[I", true)
  | 12 => ("BusLineModel", "drives", "[I", true)
  | 13 => ("BusLineModel", "offs", "[I", true)
  | 14 => ("BusLineModel", "firstPoints", "[I", true)
  | 15 => ("BusLineModel", "seats", "[I", true)
  | 16 => ("BusLineModel", "starts", "[I", true)
  | 17 => ("BusLineModel", "flowFrom", "[I", true)
  | 18 => ("BusLineModel", "flowTo", "[I", true)
  | 19 => ("BusLineModel", "every", "[I", true)
  | 20 => ("BusLineModel", "first", "[I", true)
  | 21 => ("BusLineModel", "world", "[I", true)
  | 22 => ("BusLineModel", "sums", "[J", true)
  | 23 => ("BusLineModel", "aside", "[I", true)
  | 24 => ("BusLineModel", "asideSums", "[J", true)
  | 25 => ("BusLineModel", "undone", "[I", true)
  | 26 => ("BusLineModel", "undoneSums", "[J", true)
  | 27 => ("BusLineModel", "slots", "[I", true)
  | 28 => ("BusLineModel", "slotsSums", "[J", true)
  | 29 => ("BusLineModel", "isKept", "[Z", true)
  | 30 => ("BusLineModel", "undos", "I", false)
  | 31 => ("BusLineModel", "outNow", "I", false)
  | 32 => ("BusLineModel", "readAt", "I", false)
  | 33 => ("BusLineModel", "start", "I", false)
  | 34 => ("BusLineModel", "kind", "I", false)
  | 35 => ("BusLineModel", "word", "J", false)
  | 36 => ("BusLineModel", "value", "I", false)
  | 37 => ("BusLineModel", "letters", "I", false)
  | 38 => ("BusLineModel", "fine", "Z", false)
  | 39 => ("BusLineModel", "newStops", "I", false)
  | 40 => ("BusLineModel", "newBuses", "I", false)
  | 41 => ("BusLineModel", "newFlows", "I", false)
  | 42 => ("BusLineModel", "newNumbers", "[I", true)
  | 43 => ("BusLineModel", "newNames", "[I", true)
  | 44 => ("BusLineModel", "newDrives", "[I", true)
  | 45 => ("BusLineModel", "newOffs", "[I", true)
  | 46 => ("BusLineModel", "newPoints", "[I", true)
  | 47 => ("BusLineModel", "newSeats", "[I", true)
  | 48 => ("BusLineModel", "newStarts", "[I", true)
  | 49 => ("BusLineModel", "newFrom", "[I", true)
  | 50 => ("BusLineModel", "newTo", "[I", true)
  | 51 => ("BusLineModel", "newEvery", "[I", true)
  | 52 => ("BusLineModel", "newFirst", "[I", true)
  | 53 => ("BusLineModel", "outs", "I", false)
  | 54 => ("BusLineModel", "wantedAt", "I", false)
  | _ => ("BusLineModel", "foundByte", "I", false)
def tyX7 : Nat → FieldType := fun k => match k with
  | 0 => .array .byte
  | 1 => .int
  | 2 => .int
  | 3 => .int
  | 4 => .int
  | 5 => .int
  | 6 => .int
  | 7 => .int
  | 8 => .int
  | 9 => .int
  | 10 => .array .int
  | 11 => .array .int
  | 12 => .array .int
  | 13 => .array .int
  | 14 => .array .int
  | 15 => .array .int
  | 16 => .array .int
  | 17 => .array .int
  | 18 => .array .int
  | 19 => .array .int
  | 20 => .array .int
  | 21 => .array .int
  | 22 => .array .long
  | 23 => .array .int
  | 24 => .array .long
  | 25 => .array .int
  | 26 => .array .long
  | 27 => .array .int
  | 28 => .array .long
  | 29 => .array .boolean
  | 30 => .int
  | 31 => .int
  | 32 => .int
  | 33 => .int
  | 34 => .int
  | 35 => .long
  | 36 => .int
  | 37 => .int
  | 38 => .boolean
  | 39 => .int
  | 40 => .int
  | 41 => .int
  | 42 => .array .int
  | 43 => .array .int
  | 44 => .array .int
  | 45 => .array .int
  | 46 => .array .int
  | 47 => .array .int
  | 48 => .array .int
  | 49 => .array .int
  | 50 => .array .int
  | 51 => .array .int
  | 52 => .array .int
  | 53 => .int
  | 54 => .int
  | _ => .int
abbrev wsX70 : List Cond := u_ws RX7 TX7 56
set_option maxRecDepth 100000 in
theorem nmX7 : ∀ a, a < 56 → ∀ b, b < 56 → a ≠ b → (TX7 a).2.1 ≠ (TX7 b).2.1 := by decide +kernel
set_option maxRecDepth 100000 in
theorem tyX7_ok : ∀ k, k < 56 → parseFieldDescriptor (TX7 k).2.2.1 = some (tyX7 k) := by decide +kernel
abbrev cX7_init : ByteArray := prog_13_method_1_code
def yX7_init : MethodName := ⟨RX7, "<init>", "()V"⟩
def dkwX7_init_15 : List UInt8 := [17, 3, 132, 79, 42, 180, 0, 17, 6, 17, 0, 200, 79, 42, 182, 0, 130, 177]
abbrev dktX7_init_15 : List UInt8 := dkwX7_init_15 ++ []
def dkwX7_init_14 : List UInt8 := [42, 180, 0, 17, 3, 17, 1, 44, 79, 42, 180, 0, 17, 4, 16, 60, 79, 42, 180, 0, 17, 5]
abbrev dktX7_init_14 : List UInt8 := dkwX7_init_14 ++ dktX7_init_15
def dkwX7_init_13 : List UInt8 := [42, 180, 0, 33, 3, 16, 10, 79, 42, 16, 10, 181, 0, 121, 42, 5, 181, 0, 124, 42, 5, 181, 0, 127]
abbrev dktX7_init_13 : List UInt8 := dkwX7_init_13 ++ dktX7_init_14
def dkwX7_init_12 : List UInt8 := [18, 117, 79, 42, 180, 0, 24, 3, 16, 60, 79, 42, 180, 0, 24, 4, 16, 60, 79, 42, 4, 181, 0, 118]
abbrev dktX7_init_12 : List UInt8 := dkwX7_init_12 ++ dktX7_init_13
def dkwX7_init_11 : List UInt8 := [188, 10, 181, 0, 110, 42, 5, 181, 0, 113, 42, 180, 0, 21, 3, 18, 116, 79, 42, 180, 0, 21, 4]
abbrev dktX7_init_11 : List UInt8 := dkwX7_init_11 ++ dktX7_init_12
def dkwX7_init_10 : List UInt8 := [188, 10, 181, 0, 101, 42, 16, 16, 188, 10, 181, 0, 104, 42, 16, 16, 188, 10, 181, 0, 107, 42, 16, 16]
abbrev dktX7_init_10 : List UInt8 := dkwX7_init_10 ++ dktX7_init_11
def dkwX7_init_9 : List UInt8 := [188, 10, 181, 0, 92, 42, 16, 6, 188, 10, 181, 0, 95, 42, 16, 6, 188, 10, 181, 0, 98, 42, 16, 16]
abbrev dktX7_init_9 : List UInt8 := dkwX7_init_9 ++ dktX7_init_10
def dkwX7_init_8 : List UInt8 := [188, 10, 181, 0, 83, 42, 16, 10, 188, 10, 181, 0, 86, 42, 16, 10, 188, 10, 181, 0, 89, 42, 16, 10]
abbrev dktX7_init_8 : List UInt8 := dkwX7_init_8 ++ dktX7_init_9
def dkwX7_init_7 : List UInt8 := [188, 11, 181, 0, 73, 42, 5, 188, 4, 181, 0, 76, 42, 16, 8, 188, 10, 181, 0, 80, 42, 16, 10]
abbrev dktX7_init_7 : List UInt8 := dkwX7_init_7 ++ dktX7_init_8
def dkwX7_init_6 : List UInt8 := [188, 10, 181, 0, 64, 42, 16, 16, 188, 11, 181, 0, 67, 42, 17, 28, 60, 188, 10, 181, 0, 70, 42, 7]
abbrev dktX7_init_6 : List UInt8 := dkwX7_init_6 ++ dktX7_init_7
def dkwX7_init_5 : List UInt8 := [181, 0, 54, 42, 17, 14, 30, 188, 10, 181, 0, 58, 42, 5, 188, 11, 181, 0, 61, 42, 17, 112, 240]
abbrev dktX7_init_5 : List UInt8 := dkwX7_init_5 ++ dktX7_init_6
def dkwX7_init_4 : List UInt8 := [181, 0, 45, 42, 16, 16, 188, 10, 181, 0, 48, 42, 17, 14, 30, 188, 10, 181, 0, 51, 42, 5, 188, 11]
abbrev dktX7_init_4 : List UInt8 := dkwX7_init_4 ++ dktX7_init_5
def dkwX7_init_3 : List UInt8 := [181, 0, 36, 42, 16, 16, 188, 10, 181, 0, 39, 42, 16, 16, 188, 10, 181, 0, 42, 42, 16, 16, 188, 10]
abbrev dktX7_init_3 : List UInt8 := dkwX7_init_3 ++ dktX7_init_4
def dkwX7_init_2 : List UInt8 := [181, 0, 27, 42, 16, 10, 188, 10, 181, 0, 30, 42, 16, 6, 188, 10, 181, 0, 33, 42, 16, 6, 188, 10]
abbrev dktX7_init_2 : List UInt8 := dkwX7_init_2 ++ dktX7_init_3
def dkwX7_init_1 : List UInt8 := [181, 0, 17, 42, 16, 10, 188, 10, 181, 0, 21, 42, 16, 10, 188, 10, 181, 0, 24, 42, 16, 10, 188, 10]
abbrev dktX7_init_1 : List UInt8 := dkwX7_init_1 ++ dktX7_init_2
def dkwX7_init_0 : List UInt8 := [42, 183, 0, 1, 42, 17, 5, 120, 188, 8, 181, 0, 7, 42, 16, 254, 181, 0, 13, 42, 7, 188, 10]
abbrev dktX7_init_0 : List UInt8 := dkwX7_init_0 ++ dktX7_init_1
theorem dksX7_init_0 : cX7_init.data.toList.drop 0 = dktX7_init_0 := by decide +kernel
theorem dksX7_init_1 : cX7_init.data.toList.drop 23 = dktX7_init_1 := dk_seg dksX7_init_0 23 rfl rfl
theorem dksX7_init_2 : cX7_init.data.toList.drop 47 = dktX7_init_2 := dk_seg dksX7_init_1 24 rfl rfl
theorem dksX7_init_3 : cX7_init.data.toList.drop 71 = dktX7_init_3 := dk_seg dksX7_init_2 24 rfl rfl
theorem dksX7_init_4 : cX7_init.data.toList.drop 95 = dktX7_init_4 := dk_seg dksX7_init_3 24 rfl rfl
theorem dksX7_init_5 : cX7_init.data.toList.drop 119 = dktX7_init_5 := dk_seg dksX7_init_4 24 rfl rfl
theorem dksX7_init_6 : cX7_init.data.toList.drop 142 = dktX7_init_6 := dk_seg dksX7_init_5 23 rfl rfl
theorem dksX7_init_7 : cX7_init.data.toList.drop 166 = dktX7_init_7 := dk_seg dksX7_init_6 24 rfl rfl
theorem dksX7_init_8 : cX7_init.data.toList.drop 189 = dktX7_init_8 := dk_seg dksX7_init_7 23 rfl rfl
theorem dksX7_init_9 : cX7_init.data.toList.drop 213 = dktX7_init_9 := dk_seg dksX7_init_8 24 rfl rfl
theorem dksX7_init_10 : cX7_init.data.toList.drop 237 = dktX7_init_10 := dk_seg dksX7_init_9 24 rfl rfl
theorem dksX7_init_11 : cX7_init.data.toList.drop 261 = dktX7_init_11 := dk_seg dksX7_init_10 24 rfl rfl
theorem dksX7_init_12 : cX7_init.data.toList.drop 284 = dktX7_init_12 := dk_seg dksX7_init_11 23 rfl rfl
theorem dksX7_init_13 : cX7_init.data.toList.drop 308 = dktX7_init_13 := dk_seg dksX7_init_12 24 rfl rfl
theorem dksX7_init_14 : cX7_init.data.toList.drop 332 = dktX7_init_14 := dk_seg dksX7_init_13 24 rfl rfl
theorem dksX7_init_15 : cX7_init.data.toList.drop 354 = dktX7_init_15 := dk_seg dksX7_init_14 22 rfl rfl
theorem dX7_init_0 : decode cX7_init 0 = .ok (.aload_n 0, 1) := dk_42 (dk_at dksX7_init_0 0 rfl rfl)
theorem dX7_init_1 : decode cX7_init 1 = .ok (.invokespecial 1, 3) := dk_183 0 1 (dk_at dksX7_init_0 1 rfl rfl)
theorem dX7_init_4 : decode cX7_init 4 = .ok (.aload_n 0, 1) := dk_42 (dk_at dksX7_init_0 4 rfl rfl)
theorem dX7_init_5 : decode cX7_init 5 = .ok (.sipush 1400, 3) := dk_17 5 120 (dk_at dksX7_init_0 5 rfl rfl)
theorem dX7_init_8 : decode cX7_init 8 = .ok (.newarray .byte, 2) := dk_188_8 (dk_at dksX7_init_0 8 rfl rfl)
theorem dX7_init_10 : decode cX7_init 10 = .ok (.putfield 7, 3) := dk_181 0 7 (dk_at dksX7_init_0 10 rfl rfl)
theorem dX7_init_13 : decode cX7_init 13 = .ok (.aload_n 0, 1) := dk_42 (dk_at dksX7_init_0 13 rfl rfl)
theorem dX7_init_14 : decode cX7_init 14 = .ok (.bipush (-2), 2) := dk_16 254 (dk_at dksX7_init_0 14 rfl rfl)
theorem dX7_init_16 : decode cX7_init 16 = .ok (.putfield 13, 3) := dk_181 0 13 (dk_at dksX7_init_0 16 rfl rfl)
theorem dX7_init_19 : decode cX7_init 19 = .ok (.aload_n 0, 1) := dk_42 (dk_at dksX7_init_0 19 rfl rfl)
theorem dX7_init_20 : decode cX7_init 20 = .ok (.iconst 4, 1) := dk_7 (dk_at dksX7_init_0 20 rfl rfl)
theorem dX7_init_21 : decode cX7_init 21 = .ok (.newarray .int, 2) := dk_188_10 (dk_at dksX7_init_0 21 rfl rfl)
theorem dX7_init_23 : decode cX7_init 23 = .ok (.putfield 17, 3) := dk_181 0 17 (dk_at dksX7_init_1 0 rfl rfl)
theorem dX7_init_26 : decode cX7_init 26 = .ok (.aload_n 0, 1) := dk_42 (dk_at dksX7_init_1 3 rfl rfl)
theorem dX7_init_27 : decode cX7_init 27 = .ok (.bipush 10, 2) := dk_16 10 (dk_at dksX7_init_1 4 rfl rfl)
theorem dX7_init_29 : decode cX7_init 29 = .ok (.newarray .int, 2) := dk_188_10 (dk_at dksX7_init_1 6 rfl rfl)
theorem dX7_init_31 : decode cX7_init 31 = .ok (.putfield 21, 3) := dk_181 0 21 (dk_at dksX7_init_1 8 rfl rfl)
theorem dX7_init_34 : decode cX7_init 34 = .ok (.aload_n 0, 1) := dk_42 (dk_at dksX7_init_1 11 rfl rfl)
theorem dX7_init_35 : decode cX7_init 35 = .ok (.bipush 10, 2) := dk_16 10 (dk_at dksX7_init_1 12 rfl rfl)
theorem dX7_init_37 : decode cX7_init 37 = .ok (.newarray .int, 2) := dk_188_10 (dk_at dksX7_init_1 14 rfl rfl)
theorem dX7_init_39 : decode cX7_init 39 = .ok (.putfield 24, 3) := dk_181 0 24 (dk_at dksX7_init_1 16 rfl rfl)
theorem dX7_init_42 : decode cX7_init 42 = .ok (.aload_n 0, 1) := dk_42 (dk_at dksX7_init_1 19 rfl rfl)
theorem dX7_init_43 : decode cX7_init 43 = .ok (.bipush 10, 2) := dk_16 10 (dk_at dksX7_init_1 20 rfl rfl)
theorem dX7_init_45 : decode cX7_init 45 = .ok (.newarray .int, 2) := dk_188_10 (dk_at dksX7_init_1 22 rfl rfl)
theorem dX7_init_47 : decode cX7_init 47 = .ok (.putfield 27, 3) := dk_181 0 27 (dk_at dksX7_init_2 0 rfl rfl)
theorem dX7_init_50 : decode cX7_init 50 = .ok (.aload_n 0, 1) := dk_42 (dk_at dksX7_init_2 3 rfl rfl)
theorem dX7_init_51 : decode cX7_init 51 = .ok (.bipush 10, 2) := dk_16 10 (dk_at dksX7_init_2 4 rfl rfl)
theorem dX7_init_53 : decode cX7_init 53 = .ok (.newarray .int, 2) := dk_188_10 (dk_at dksX7_init_2 6 rfl rfl)
theorem dX7_init_55 : decode cX7_init 55 = .ok (.putfield 30, 3) := dk_181 0 30 (dk_at dksX7_init_2 8 rfl rfl)
theorem dX7_init_58 : decode cX7_init 58 = .ok (.aload_n 0, 1) := dk_42 (dk_at dksX7_init_2 11 rfl rfl)
theorem dX7_init_59 : decode cX7_init 59 = .ok (.bipush 6, 2) := dk_16 6 (dk_at dksX7_init_2 12 rfl rfl)
theorem dX7_init_61 : decode cX7_init 61 = .ok (.newarray .int, 2) := dk_188_10 (dk_at dksX7_init_2 14 rfl rfl)
theorem dX7_init_63 : decode cX7_init 63 = .ok (.putfield 33, 3) := dk_181 0 33 (dk_at dksX7_init_2 16 rfl rfl)
theorem dX7_init_66 : decode cX7_init 66 = .ok (.aload_n 0, 1) := dk_42 (dk_at dksX7_init_2 19 rfl rfl)
theorem dX7_init_67 : decode cX7_init 67 = .ok (.bipush 6, 2) := dk_16 6 (dk_at dksX7_init_2 20 rfl rfl)
theorem dX7_init_69 : decode cX7_init 69 = .ok (.newarray .int, 2) := dk_188_10 (dk_at dksX7_init_2 22 rfl rfl)
theorem dX7_init_71 : decode cX7_init 71 = .ok (.putfield 36, 3) := dk_181 0 36 (dk_at dksX7_init_3 0 rfl rfl)
theorem dX7_init_74 : decode cX7_init 74 = .ok (.aload_n 0, 1) := dk_42 (dk_at dksX7_init_3 3 rfl rfl)
theorem dX7_init_75 : decode cX7_init 75 = .ok (.bipush 16, 2) := dk_16 16 (dk_at dksX7_init_3 4 rfl rfl)
theorem dX7_init_77 : decode cX7_init 77 = .ok (.newarray .int, 2) := dk_188_10 (dk_at dksX7_init_3 6 rfl rfl)
theorem dX7_init_79 : decode cX7_init 79 = .ok (.putfield 39, 3) := dk_181 0 39 (dk_at dksX7_init_3 8 rfl rfl)
theorem dX7_init_82 : decode cX7_init 82 = .ok (.aload_n 0, 1) := dk_42 (dk_at dksX7_init_3 11 rfl rfl)
theorem dX7_init_83 : decode cX7_init 83 = .ok (.bipush 16, 2) := dk_16 16 (dk_at dksX7_init_3 12 rfl rfl)
theorem dX7_init_85 : decode cX7_init 85 = .ok (.newarray .int, 2) := dk_188_10 (dk_at dksX7_init_3 14 rfl rfl)
theorem dX7_init_87 : decode cX7_init 87 = .ok (.putfield 42, 3) := dk_181 0 42 (dk_at dksX7_init_3 16 rfl rfl)
theorem dX7_init_90 : decode cX7_init 90 = .ok (.aload_n 0, 1) := dk_42 (dk_at dksX7_init_3 19 rfl rfl)
theorem dX7_init_91 : decode cX7_init 91 = .ok (.bipush 16, 2) := dk_16 16 (dk_at dksX7_init_3 20 rfl rfl)
theorem dX7_init_93 : decode cX7_init 93 = .ok (.newarray .int, 2) := dk_188_10 (dk_at dksX7_init_3 22 rfl rfl)
theorem dX7_init_95 : decode cX7_init 95 = .ok (.putfield 45, 3) := dk_181 0 45 (dk_at dksX7_init_4 0 rfl rfl)
theorem dX7_init_98 : decode cX7_init 98 = .ok (.aload_n 0, 1) := dk_42 (dk_at dksX7_init_4 3 rfl rfl)
theorem dX7_init_99 : decode cX7_init 99 = .ok (.bipush 16, 2) := dk_16 16 (dk_at dksX7_init_4 4 rfl rfl)
theorem dX7_init_101 : decode cX7_init 101 = .ok (.newarray .int, 2) := dk_188_10 (dk_at dksX7_init_4 6 rfl rfl)
theorem dX7_init_103 : decode cX7_init 103 = .ok (.putfield 48, 3) := dk_181 0 48 (dk_at dksX7_init_4 8 rfl rfl)
theorem dX7_init_106 : decode cX7_init 106 = .ok (.aload_n 0, 1) := dk_42 (dk_at dksX7_init_4 11 rfl rfl)
theorem dX7_init_107 : decode cX7_init 107 = .ok (.sipush 3614, 3) := dk_17 14 30 (dk_at dksX7_init_4 12 rfl rfl)
theorem dX7_init_110 : decode cX7_init 110 = .ok (.newarray .int, 2) := dk_188_10 (dk_at dksX7_init_4 15 rfl rfl)
theorem dX7_init_112 : decode cX7_init 112 = .ok (.putfield 51, 3) := dk_181 0 51 (dk_at dksX7_init_4 17 rfl rfl)
theorem dX7_init_115 : decode cX7_init 115 = .ok (.aload_n 0, 1) := dk_42 (dk_at dksX7_init_4 20 rfl rfl)
theorem dX7_init_116 : decode cX7_init 116 = .ok (.iconst 2, 1) := dk_5 (dk_at dksX7_init_4 21 rfl rfl)
theorem dX7_init_117 : decode cX7_init 117 = .ok (.newarray .long, 2) := dk_188_11 (dk_at dksX7_init_4 22 rfl rfl)
theorem dX7_init_119 : decode cX7_init 119 = .ok (.putfield 54, 3) := dk_181 0 54 (dk_at dksX7_init_5 0 rfl rfl)
theorem dX7_init_122 : decode cX7_init 122 = .ok (.aload_n 0, 1) := dk_42 (dk_at dksX7_init_5 3 rfl rfl)
theorem dX7_init_123 : decode cX7_init 123 = .ok (.sipush 3614, 3) := dk_17 14 30 (dk_at dksX7_init_5 4 rfl rfl)
theorem dX7_init_126 : decode cX7_init 126 = .ok (.newarray .int, 2) := dk_188_10 (dk_at dksX7_init_5 7 rfl rfl)
theorem dX7_init_128 : decode cX7_init 128 = .ok (.putfield 58, 3) := dk_181 0 58 (dk_at dksX7_init_5 9 rfl rfl)
theorem dX7_init_131 : decode cX7_init 131 = .ok (.aload_n 0, 1) := dk_42 (dk_at dksX7_init_5 12 rfl rfl)
theorem dX7_init_132 : decode cX7_init 132 = .ok (.iconst 2, 1) := dk_5 (dk_at dksX7_init_5 13 rfl rfl)
theorem dX7_init_133 : decode cX7_init 133 = .ok (.newarray .long, 2) := dk_188_11 (dk_at dksX7_init_5 14 rfl rfl)
theorem dX7_init_135 : decode cX7_init 135 = .ok (.putfield 61, 3) := dk_181 0 61 (dk_at dksX7_init_5 16 rfl rfl)
theorem dX7_init_138 : decode cX7_init 138 = .ok (.aload_n 0, 1) := dk_42 (dk_at dksX7_init_5 19 rfl rfl)
theorem dX7_init_139 : decode cX7_init 139 = .ok (.sipush 28912, 3) := dk_17 112 240 (dk_at dksX7_init_5 20 rfl rfl)
theorem dX7_init_142 : decode cX7_init 142 = .ok (.newarray .int, 2) := dk_188_10 (dk_at dksX7_init_6 0 rfl rfl)
theorem dX7_init_144 : decode cX7_init 144 = .ok (.putfield 64, 3) := dk_181 0 64 (dk_at dksX7_init_6 2 rfl rfl)
theorem dX7_init_147 : decode cX7_init 147 = .ok (.aload_n 0, 1) := dk_42 (dk_at dksX7_init_6 5 rfl rfl)
theorem dX7_init_148 : decode cX7_init 148 = .ok (.bipush 16, 2) := dk_16 16 (dk_at dksX7_init_6 6 rfl rfl)
theorem dX7_init_150 : decode cX7_init 150 = .ok (.newarray .long, 2) := dk_188_11 (dk_at dksX7_init_6 8 rfl rfl)
theorem dX7_init_152 : decode cX7_init 152 = .ok (.putfield 67, 3) := dk_181 0 67 (dk_at dksX7_init_6 10 rfl rfl)
theorem dX7_init_155 : decode cX7_init 155 = .ok (.aload_n 0, 1) := dk_42 (dk_at dksX7_init_6 13 rfl rfl)
theorem dX7_init_156 : decode cX7_init 156 = .ok (.sipush 7228, 3) := dk_17 28 60 (dk_at dksX7_init_6 14 rfl rfl)
theorem dX7_init_159 : decode cX7_init 159 = .ok (.newarray .int, 2) := dk_188_10 (dk_at dksX7_init_6 17 rfl rfl)
theorem dX7_init_161 : decode cX7_init 161 = .ok (.putfield 70, 3) := dk_181 0 70 (dk_at dksX7_init_6 19 rfl rfl)
theorem dX7_init_164 : decode cX7_init 164 = .ok (.aload_n 0, 1) := dk_42 (dk_at dksX7_init_6 22 rfl rfl)
theorem dX7_init_165 : decode cX7_init 165 = .ok (.iconst 4, 1) := dk_7 (dk_at dksX7_init_6 23 rfl rfl)
theorem dX7_init_166 : decode cX7_init 166 = .ok (.newarray .long, 2) := dk_188_11 (dk_at dksX7_init_7 0 rfl rfl)
theorem dX7_init_168 : decode cX7_init 168 = .ok (.putfield 73, 3) := dk_181 0 73 (dk_at dksX7_init_7 2 rfl rfl)
theorem dX7_init_171 : decode cX7_init 171 = .ok (.aload_n 0, 1) := dk_42 (dk_at dksX7_init_7 5 rfl rfl)
theorem dX7_init_172 : decode cX7_init 172 = .ok (.iconst 2, 1) := dk_5 (dk_at dksX7_init_7 6 rfl rfl)
theorem dX7_init_173 : decode cX7_init 173 = .ok (.newarray .boolean, 2) := dk_188_4 (dk_at dksX7_init_7 7 rfl rfl)
theorem dX7_init_175 : decode cX7_init 175 = .ok (.putfield 76, 3) := dk_181 0 76 (dk_at dksX7_init_7 9 rfl rfl)
theorem dX7_init_178 : decode cX7_init 178 = .ok (.aload_n 0, 1) := dk_42 (dk_at dksX7_init_7 12 rfl rfl)
theorem dX7_init_179 : decode cX7_init 179 = .ok (.bipush 8, 2) := dk_16 8 (dk_at dksX7_init_7 13 rfl rfl)
theorem dX7_init_181 : decode cX7_init 181 = .ok (.newarray .int, 2) := dk_188_10 (dk_at dksX7_init_7 15 rfl rfl)
theorem dX7_init_183 : decode cX7_init 183 = .ok (.putfield 80, 3) := dk_181 0 80 (dk_at dksX7_init_7 17 rfl rfl)
theorem dX7_init_186 : decode cX7_init 186 = .ok (.aload_n 0, 1) := dk_42 (dk_at dksX7_init_7 20 rfl rfl)
theorem dX7_init_187 : decode cX7_init 187 = .ok (.bipush 10, 2) := dk_16 10 (dk_at dksX7_init_7 21 rfl rfl)
theorem dX7_init_189 : decode cX7_init 189 = .ok (.newarray .int, 2) := dk_188_10 (dk_at dksX7_init_8 0 rfl rfl)
theorem dX7_init_191 : decode cX7_init 191 = .ok (.putfield 83, 3) := dk_181 0 83 (dk_at dksX7_init_8 2 rfl rfl)
theorem dX7_init_194 : decode cX7_init 194 = .ok (.aload_n 0, 1) := dk_42 (dk_at dksX7_init_8 5 rfl rfl)
theorem dX7_init_195 : decode cX7_init 195 = .ok (.bipush 10, 2) := dk_16 10 (dk_at dksX7_init_8 6 rfl rfl)
theorem dX7_init_197 : decode cX7_init 197 = .ok (.newarray .int, 2) := dk_188_10 (dk_at dksX7_init_8 8 rfl rfl)
theorem dX7_init_199 : decode cX7_init 199 = .ok (.putfield 86, 3) := dk_181 0 86 (dk_at dksX7_init_8 10 rfl rfl)
theorem dX7_init_202 : decode cX7_init 202 = .ok (.aload_n 0, 1) := dk_42 (dk_at dksX7_init_8 13 rfl rfl)
theorem dX7_init_203 : decode cX7_init 203 = .ok (.bipush 10, 2) := dk_16 10 (dk_at dksX7_init_8 14 rfl rfl)
theorem dX7_init_205 : decode cX7_init 205 = .ok (.newarray .int, 2) := dk_188_10 (dk_at dksX7_init_8 16 rfl rfl)
theorem dX7_init_207 : decode cX7_init 207 = .ok (.putfield 89, 3) := dk_181 0 89 (dk_at dksX7_init_8 18 rfl rfl)
theorem dX7_init_210 : decode cX7_init 210 = .ok (.aload_n 0, 1) := dk_42 (dk_at dksX7_init_8 21 rfl rfl)
theorem dX7_init_211 : decode cX7_init 211 = .ok (.bipush 10, 2) := dk_16 10 (dk_at dksX7_init_8 22 rfl rfl)
theorem dX7_init_213 : decode cX7_init 213 = .ok (.newarray .int, 2) := dk_188_10 (dk_at dksX7_init_9 0 rfl rfl)
theorem dX7_init_215 : decode cX7_init 215 = .ok (.putfield 92, 3) := dk_181 0 92 (dk_at dksX7_init_9 2 rfl rfl)
theorem dX7_init_218 : decode cX7_init 218 = .ok (.aload_n 0, 1) := dk_42 (dk_at dksX7_init_9 5 rfl rfl)
theorem dX7_init_219 : decode cX7_init 219 = .ok (.bipush 6, 2) := dk_16 6 (dk_at dksX7_init_9 6 rfl rfl)
theorem dX7_init_221 : decode cX7_init 221 = .ok (.newarray .int, 2) := dk_188_10 (dk_at dksX7_init_9 8 rfl rfl)
theorem dX7_init_223 : decode cX7_init 223 = .ok (.putfield 95, 3) := dk_181 0 95 (dk_at dksX7_init_9 10 rfl rfl)
theorem dX7_init_226 : decode cX7_init 226 = .ok (.aload_n 0, 1) := dk_42 (dk_at dksX7_init_9 13 rfl rfl)
theorem dX7_init_227 : decode cX7_init 227 = .ok (.bipush 6, 2) := dk_16 6 (dk_at dksX7_init_9 14 rfl rfl)
theorem dX7_init_229 : decode cX7_init 229 = .ok (.newarray .int, 2) := dk_188_10 (dk_at dksX7_init_9 16 rfl rfl)
theorem dX7_init_231 : decode cX7_init 231 = .ok (.putfield 98, 3) := dk_181 0 98 (dk_at dksX7_init_9 18 rfl rfl)
theorem dX7_init_234 : decode cX7_init 234 = .ok (.aload_n 0, 1) := dk_42 (dk_at dksX7_init_9 21 rfl rfl)
theorem dX7_init_235 : decode cX7_init 235 = .ok (.bipush 16, 2) := dk_16 16 (dk_at dksX7_init_9 22 rfl rfl)
theorem dX7_init_237 : decode cX7_init 237 = .ok (.newarray .int, 2) := dk_188_10 (dk_at dksX7_init_10 0 rfl rfl)
theorem dX7_init_239 : decode cX7_init 239 = .ok (.putfield 101, 3) := dk_181 0 101 (dk_at dksX7_init_10 2 rfl rfl)
theorem dX7_init_242 : decode cX7_init 242 = .ok (.aload_n 0, 1) := dk_42 (dk_at dksX7_init_10 5 rfl rfl)
theorem dX7_init_243 : decode cX7_init 243 = .ok (.bipush 16, 2) := dk_16 16 (dk_at dksX7_init_10 6 rfl rfl)
theorem dX7_init_245 : decode cX7_init 245 = .ok (.newarray .int, 2) := dk_188_10 (dk_at dksX7_init_10 8 rfl rfl)
theorem dX7_init_247 : decode cX7_init 247 = .ok (.putfield 104, 3) := dk_181 0 104 (dk_at dksX7_init_10 10 rfl rfl)
theorem dX7_init_250 : decode cX7_init 250 = .ok (.aload_n 0, 1) := dk_42 (dk_at dksX7_init_10 13 rfl rfl)
theorem dX7_init_251 : decode cX7_init 251 = .ok (.bipush 16, 2) := dk_16 16 (dk_at dksX7_init_10 14 rfl rfl)
theorem dX7_init_253 : decode cX7_init 253 = .ok (.newarray .int, 2) := dk_188_10 (dk_at dksX7_init_10 16 rfl rfl)
theorem dX7_init_255 : decode cX7_init 255 = .ok (.putfield 107, 3) := dk_181 0 107 (dk_at dksX7_init_10 18 rfl rfl)
theorem dX7_init_258 : decode cX7_init 258 = .ok (.aload_n 0, 1) := dk_42 (dk_at dksX7_init_10 21 rfl rfl)
theorem dX7_init_259 : decode cX7_init 259 = .ok (.bipush 16, 2) := dk_16 16 (dk_at dksX7_init_10 22 rfl rfl)
theorem dX7_init_261 : decode cX7_init 261 = .ok (.newarray .int, 2) := dk_188_10 (dk_at dksX7_init_11 0 rfl rfl)
theorem dX7_init_263 : decode cX7_init 263 = .ok (.putfield 110, 3) := dk_181 0 110 (dk_at dksX7_init_11 2 rfl rfl)
theorem dX7_init_266 : decode cX7_init 266 = .ok (.aload_n 0, 1) := dk_42 (dk_at dksX7_init_11 5 rfl rfl)
theorem dX7_init_267 : decode cX7_init 267 = .ok (.iconst 2, 1) := dk_5 (dk_at dksX7_init_11 6 rfl rfl)
theorem dX7_init_268 : decode cX7_init 268 = .ok (.putfield 113, 3) := dk_181 0 113 (dk_at dksX7_init_11 7 rfl rfl)
theorem dX7_init_271 : decode cX7_init 271 = .ok (.aload_n 0, 1) := dk_42 (dk_at dksX7_init_11 10 rfl rfl)
theorem dX7_init_272 : decode cX7_init 272 = .ok (.getfield 21, 3) := dk_180 0 21 (dk_at dksX7_init_11 11 rfl rfl)
theorem dX7_init_275 : decode cX7_init 275 = .ok (.iconst 0, 1) := dk_3 (dk_at dksX7_init_11 14 rfl rfl)
theorem dX7_init_276 : decode cX7_init 276 = .ok (.ldc 116, 2) := dk_18 116 (dk_at dksX7_init_11 15 rfl rfl)
theorem dX7_init_278 : decode cX7_init 278 = .ok (.iastore, 1) := dk_79 (dk_at dksX7_init_11 17 rfl rfl)
theorem dX7_init_279 : decode cX7_init 279 = .ok (.aload_n 0, 1) := dk_42 (dk_at dksX7_init_11 18 rfl rfl)
theorem dX7_init_280 : decode cX7_init 280 = .ok (.getfield 21, 3) := dk_180 0 21 (dk_at dksX7_init_11 19 rfl rfl)
theorem dX7_init_283 : decode cX7_init 283 = .ok (.iconst 1, 1) := dk_4 (dk_at dksX7_init_11 22 rfl rfl)
theorem dX7_init_284 : decode cX7_init 284 = .ok (.ldc 117, 2) := dk_18 117 (dk_at dksX7_init_12 0 rfl rfl)
theorem dX7_init_286 : decode cX7_init 286 = .ok (.iastore, 1) := dk_79 (dk_at dksX7_init_12 2 rfl rfl)
theorem dX7_init_287 : decode cX7_init 287 = .ok (.aload_n 0, 1) := dk_42 (dk_at dksX7_init_12 3 rfl rfl)
theorem dX7_init_288 : decode cX7_init 288 = .ok (.getfield 24, 3) := dk_180 0 24 (dk_at dksX7_init_12 4 rfl rfl)
theorem dX7_init_291 : decode cX7_init 291 = .ok (.iconst 0, 1) := dk_3 (dk_at dksX7_init_12 7 rfl rfl)
theorem dX7_init_292 : decode cX7_init 292 = .ok (.bipush 60, 2) := dk_16 60 (dk_at dksX7_init_12 8 rfl rfl)
theorem dX7_init_294 : decode cX7_init 294 = .ok (.iastore, 1) := dk_79 (dk_at dksX7_init_12 10 rfl rfl)
theorem dX7_init_295 : decode cX7_init 295 = .ok (.aload_n 0, 1) := dk_42 (dk_at dksX7_init_12 11 rfl rfl)
theorem dX7_init_296 : decode cX7_init 296 = .ok (.getfield 24, 3) := dk_180 0 24 (dk_at dksX7_init_12 12 rfl rfl)
theorem dX7_init_299 : decode cX7_init 299 = .ok (.iconst 1, 1) := dk_4 (dk_at dksX7_init_12 15 rfl rfl)
theorem dX7_init_300 : decode cX7_init 300 = .ok (.bipush 60, 2) := dk_16 60 (dk_at dksX7_init_12 16 rfl rfl)
theorem dX7_init_302 : decode cX7_init 302 = .ok (.iastore, 1) := dk_79 (dk_at dksX7_init_12 18 rfl rfl)
theorem dX7_init_303 : decode cX7_init 303 = .ok (.aload_n 0, 1) := dk_42 (dk_at dksX7_init_12 19 rfl rfl)
theorem dX7_init_304 : decode cX7_init 304 = .ok (.iconst 1, 1) := dk_4 (dk_at dksX7_init_12 20 rfl rfl)
theorem dX7_init_305 : decode cX7_init 305 = .ok (.putfield 118, 3) := dk_181 0 118 (dk_at dksX7_init_12 21 rfl rfl)
theorem dX7_init_308 : decode cX7_init 308 = .ok (.aload_n 0, 1) := dk_42 (dk_at dksX7_init_13 0 rfl rfl)
theorem dX7_init_309 : decode cX7_init 309 = .ok (.getfield 33, 3) := dk_180 0 33 (dk_at dksX7_init_13 1 rfl rfl)
theorem dX7_init_312 : decode cX7_init 312 = .ok (.iconst 0, 1) := dk_3 (dk_at dksX7_init_13 4 rfl rfl)
theorem dX7_init_313 : decode cX7_init 313 = .ok (.bipush 10, 2) := dk_16 10 (dk_at dksX7_init_13 5 rfl rfl)
theorem dX7_init_315 : decode cX7_init 315 = .ok (.iastore, 1) := dk_79 (dk_at dksX7_init_13 7 rfl rfl)
theorem dX7_init_316 : decode cX7_init 316 = .ok (.aload_n 0, 1) := dk_42 (dk_at dksX7_init_13 8 rfl rfl)
theorem dX7_init_317 : decode cX7_init 317 = .ok (.bipush 10, 2) := dk_16 10 (dk_at dksX7_init_13 9 rfl rfl)
theorem dX7_init_319 : decode cX7_init 319 = .ok (.putfield 121, 3) := dk_181 0 121 (dk_at dksX7_init_13 11 rfl rfl)
theorem dX7_init_322 : decode cX7_init 322 = .ok (.aload_n 0, 1) := dk_42 (dk_at dksX7_init_13 14 rfl rfl)
theorem dX7_init_323 : decode cX7_init 323 = .ok (.iconst 2, 1) := dk_5 (dk_at dksX7_init_13 15 rfl rfl)
theorem dX7_init_324 : decode cX7_init 324 = .ok (.putfield 124, 3) := dk_181 0 124 (dk_at dksX7_init_13 16 rfl rfl)
theorem dX7_init_327 : decode cX7_init 327 = .ok (.aload_n 0, 1) := dk_42 (dk_at dksX7_init_13 19 rfl rfl)
theorem dX7_init_328 : decode cX7_init 328 = .ok (.iconst 2, 1) := dk_5 (dk_at dksX7_init_13 20 rfl rfl)
theorem dX7_init_329 : decode cX7_init 329 = .ok (.putfield 127, 3) := dk_181 0 127 (dk_at dksX7_init_13 21 rfl rfl)
theorem dX7_init_332 : decode cX7_init 332 = .ok (.aload_n 0, 1) := dk_42 (dk_at dksX7_init_14 0 rfl rfl)
theorem dX7_init_333 : decode cX7_init 333 = .ok (.getfield 17, 3) := dk_180 0 17 (dk_at dksX7_init_14 1 rfl rfl)
theorem dX7_init_336 : decode cX7_init 336 = .ok (.iconst 0, 1) := dk_3 (dk_at dksX7_init_14 4 rfl rfl)
theorem dX7_init_337 : decode cX7_init 337 = .ok (.sipush 300, 3) := dk_17 1 44 (dk_at dksX7_init_14 5 rfl rfl)
theorem dX7_init_340 : decode cX7_init 340 = .ok (.iastore, 1) := dk_79 (dk_at dksX7_init_14 8 rfl rfl)
theorem dX7_init_341 : decode cX7_init 341 = .ok (.aload_n 0, 1) := dk_42 (dk_at dksX7_init_14 9 rfl rfl)
theorem dX7_init_342 : decode cX7_init 342 = .ok (.getfield 17, 3) := dk_180 0 17 (dk_at dksX7_init_14 10 rfl rfl)
theorem dX7_init_345 : decode cX7_init 345 = .ok (.iconst 1, 1) := dk_4 (dk_at dksX7_init_14 13 rfl rfl)
theorem dX7_init_346 : decode cX7_init 346 = .ok (.bipush 60, 2) := dk_16 60 (dk_at dksX7_init_14 14 rfl rfl)
theorem dX7_init_348 : decode cX7_init 348 = .ok (.iastore, 1) := dk_79 (dk_at dksX7_init_14 16 rfl rfl)
theorem dX7_init_349 : decode cX7_init 349 = .ok (.aload_n 0, 1) := dk_42 (dk_at dksX7_init_14 17 rfl rfl)
theorem dX7_init_350 : decode cX7_init 350 = .ok (.getfield 17, 3) := dk_180 0 17 (dk_at dksX7_init_14 18 rfl rfl)
theorem dX7_init_353 : decode cX7_init 353 = .ok (.iconst 2, 1) := dk_5 (dk_at dksX7_init_14 21 rfl rfl)
theorem dX7_init_354 : decode cX7_init 354 = .ok (.sipush 900, 3) := dk_17 3 132 (dk_at dksX7_init_15 0 rfl rfl)
theorem dX7_init_357 : decode cX7_init 357 = .ok (.iastore, 1) := dk_79 (dk_at dksX7_init_15 3 rfl rfl)
theorem dX7_init_358 : decode cX7_init 358 = .ok (.aload_n 0, 1) := dk_42 (dk_at dksX7_init_15 4 rfl rfl)
theorem dX7_init_359 : decode cX7_init 359 = .ok (.getfield 17, 3) := dk_180 0 17 (dk_at dksX7_init_15 5 rfl rfl)
theorem dX7_init_362 : decode cX7_init 362 = .ok (.iconst 3, 1) := dk_6 (dk_at dksX7_init_15 8 rfl rfl)
theorem dX7_init_363 : decode cX7_init 363 = .ok (.sipush 200, 3) := dk_17 0 200 (dk_at dksX7_init_15 9 rfl rfl)
theorem dX7_init_366 : decode cX7_init 366 = .ok (.iastore, 1) := dk_79 (dk_at dksX7_init_15 12 rfl rfl)
theorem dX7_init_367 : decode cX7_init 367 = .ok (.aload_n 0, 1) := dk_42 (dk_at dksX7_init_15 13 rfl rfl)
theorem dX7_init_368 : decode cX7_init 368 = .ok (.invokevirtual 130, 3) := dk_182 0 130 (dk_at dksX7_init_15 14 rfl rfl)
theorem dX7_init_371 : decode cX7_init 371 = .ok (.return_, 1) := dk_177 (dk_at dksX7_init_15 17 rfl rfl)
abbrev cX7_clear : ByteArray := prog_13_method_3_code
def yX7_clear : MethodName := ⟨RX7, "clear", "()V"⟩
def dkwX7_clear_9 : List UInt8 := [181, 0, 143, 177]
abbrev dktX7_clear_9 : List UInt8 := dkwX7_clear_9 ++ []
def dkwX7_clear_8 : List UInt8 := [132, 1, 1, 167, 255, 215, 42, 180, 0, 76, 3, 3, 84, 42, 180, 0, 76, 4, 3, 84, 42, 3]
abbrev dktX7_clear_8 : List UInt8 := dkwX7_clear_8 ++ dktX7_clear_9
def dkwX7_clear_7 : List UInt8 := [46, 182, 0, 139, 42, 27, 16, 6, 16, 254, 182, 0, 139, 42, 27, 16, 10, 16, 254, 182, 0, 139]
abbrev dktX7_clear_7 : List UInt8 := dkwX7_clear_7 ++ dktX7_clear_8
def dkwX7_clear_6 : List UInt8 := [132, 1, 1, 167, 255, 230, 3, 60, 27, 42, 180, 0, 118, 162, 0, 39, 42, 27, 5, 42, 180, 0, 36, 27]
abbrev dktX7_clear_6 : List UInt8 := dkwX7_clear_6 ++ dktX7_clear_7
def dkwX7_clear_5 : List UInt8 := [60, 27, 42, 180, 0, 136, 162, 0, 24, 42, 180, 0, 51, 16, 63, 27, 96, 42, 180, 0, 48, 27, 46, 79]
abbrev dktX7_clear_5 : List UInt8 := dkwX7_clear_5 ++ dktX7_clear_6
def dkwX7_clear_4 : List UInt8 := [180, 0, 30, 27, 46, 79, 42, 180, 0, 51, 16, 33, 27, 96, 16, 254, 79, 132, 1, 1, 167, 255, 219, 3]
abbrev dktX7_clear_4 : List UInt8 := dkwX7_clear_4 ++ dktX7_clear_5
def dkwX7_clear_3 : List UInt8 := [167, 255, 234, 3, 60, 27, 42, 180, 0, 113, 162, 0, 35, 42, 180, 0, 51, 16, 13, 27, 96, 42]
abbrev dktX7_clear_3 : List UInt8 := dkwX7_clear_3 ++ dktX7_clear_4
def dkwX7_clear_2 : List UInt8 := [60, 27, 7, 162, 0, 23, 42, 180, 0, 51, 5, 27, 96, 42, 180, 0, 17, 27, 46, 79, 132, 1, 1]
abbrev dktX7_clear_2 : List UInt8 := dkwX7_clear_2 ++ dktX7_clear_3
def dkwX7_clear_1 : List UInt8 := [180, 0, 54, 3, 9, 80, 42, 180, 0, 54, 4, 9, 80, 42, 180, 0, 51, 4, 42, 180, 0, 133, 79, 3]
abbrev dktX7_clear_1 : List UInt8 := dkwX7_clear_1 ++ dktX7_clear_2
def dkwX7_clear_0 : List UInt8 := [3, 60, 27, 17, 14, 30, 162, 0, 16, 42, 180, 0, 51, 27, 3, 79, 132, 1, 1, 167, 255, 239, 42]
abbrev dktX7_clear_0 : List UInt8 := dkwX7_clear_0 ++ dktX7_clear_1
theorem dksX7_clear_0 : cX7_clear.data.toList.drop 0 = dktX7_clear_0 := by decide +kernel
theorem dksX7_clear_1 : cX7_clear.data.toList.drop 23 = dktX7_clear_1 := dk_seg dksX7_clear_0 23 rfl rfl
theorem dksX7_clear_2 : cX7_clear.data.toList.drop 47 = dktX7_clear_2 := dk_seg dksX7_clear_1 24 rfl rfl
theorem dksX7_clear_3 : cX7_clear.data.toList.drop 70 = dktX7_clear_3 := dk_seg dksX7_clear_2 23 rfl rfl
theorem dksX7_clear_4 : cX7_clear.data.toList.drop 92 = dktX7_clear_4 := dk_seg dksX7_clear_3 22 rfl rfl
theorem dksX7_clear_5 : cX7_clear.data.toList.drop 116 = dktX7_clear_5 := dk_seg dksX7_clear_4 24 rfl rfl
theorem dksX7_clear_6 : cX7_clear.data.toList.drop 140 = dktX7_clear_6 := dk_seg dksX7_clear_5 24 rfl rfl
theorem dksX7_clear_7 : cX7_clear.data.toList.drop 164 = dktX7_clear_7 := dk_seg dksX7_clear_6 24 rfl rfl
theorem dksX7_clear_8 : cX7_clear.data.toList.drop 186 = dktX7_clear_8 := dk_seg dksX7_clear_7 22 rfl rfl
theorem dksX7_clear_9 : cX7_clear.data.toList.drop 208 = dktX7_clear_9 := dk_seg dksX7_clear_8 22 rfl rfl
theorem dX7_clear_0 : decode cX7_clear 0 = .ok (.iconst 0, 1) := dk_3 (dk_at dksX7_clear_0 0 rfl rfl)
theorem dX7_clear_1 : decode cX7_clear 1 = .ok (.istore_n 1, 1) := dk_60 (dk_at dksX7_clear_0 1 rfl rfl)
theorem dX7_clear_2 : decode cX7_clear 2 = .ok (.iload_n 1, 1) := dk_27 (dk_at dksX7_clear_0 2 rfl rfl)
theorem dX7_clear_3 : decode cX7_clear 3 = .ok (.sipush 3614, 3) := dk_17 14 30 (dk_at dksX7_clear_0 3 rfl rfl)
theorem dX7_clear_6 : decode cX7_clear 6 = .ok (.if_icmp .ge 16, 3) := dk_162 0 16 (dk_at dksX7_clear_0 6 rfl rfl)
theorem dX7_clear_9 : decode cX7_clear 9 = .ok (.aload_n 0, 1) := dk_42 (dk_at dksX7_clear_0 9 rfl rfl)
theorem dX7_clear_10 : decode cX7_clear 10 = .ok (.getfield 51, 3) := dk_180 0 51 (dk_at dksX7_clear_0 10 rfl rfl)
theorem dX7_clear_13 : decode cX7_clear 13 = .ok (.iload_n 1, 1) := dk_27 (dk_at dksX7_clear_0 13 rfl rfl)
theorem dX7_clear_14 : decode cX7_clear 14 = .ok (.iconst 0, 1) := dk_3 (dk_at dksX7_clear_0 14 rfl rfl)
theorem dX7_clear_15 : decode cX7_clear 15 = .ok (.iastore, 1) := dk_79 (dk_at dksX7_clear_0 15 rfl rfl)
theorem dX7_clear_16 : decode cX7_clear 16 = .ok (.iinc 1 1, 3) := dk_132 1 1 (dk_at dksX7_clear_0 16 rfl rfl)
theorem dX7_clear_19 : decode cX7_clear 19 = .ok (.goto (-17), 3) := dk_167 255 239 (dk_at dksX7_clear_0 19 rfl rfl)
theorem dX7_clear_22 : decode cX7_clear 22 = .ok (.aload_n 0, 1) := dk_42 (dk_at dksX7_clear_0 22 rfl rfl)
theorem dX7_clear_23 : decode cX7_clear 23 = .ok (.getfield 54, 3) := dk_180 0 54 (dk_at dksX7_clear_1 0 rfl rfl)
theorem dX7_clear_26 : decode cX7_clear 26 = .ok (.iconst 0, 1) := dk_3 (dk_at dksX7_clear_1 3 rfl rfl)
theorem dX7_clear_27 : decode cX7_clear 27 = .ok (.lconst 0, 1) := dk_9 (dk_at dksX7_clear_1 4 rfl rfl)
theorem dX7_clear_28 : decode cX7_clear 28 = .ok (.lastore, 1) := dk_80 (dk_at dksX7_clear_1 5 rfl rfl)
theorem dX7_clear_29 : decode cX7_clear 29 = .ok (.aload_n 0, 1) := dk_42 (dk_at dksX7_clear_1 6 rfl rfl)
theorem dX7_clear_30 : decode cX7_clear 30 = .ok (.getfield 54, 3) := dk_180 0 54 (dk_at dksX7_clear_1 7 rfl rfl)
theorem dX7_clear_33 : decode cX7_clear 33 = .ok (.iconst 1, 1) := dk_4 (dk_at dksX7_clear_1 10 rfl rfl)
theorem dX7_clear_34 : decode cX7_clear 34 = .ok (.lconst 0, 1) := dk_9 (dk_at dksX7_clear_1 11 rfl rfl)
theorem dX7_clear_35 : decode cX7_clear 35 = .ok (.lastore, 1) := dk_80 (dk_at dksX7_clear_1 12 rfl rfl)
theorem dX7_clear_36 : decode cX7_clear 36 = .ok (.aload_n 0, 1) := dk_42 (dk_at dksX7_clear_1 13 rfl rfl)
theorem dX7_clear_37 : decode cX7_clear 37 = .ok (.getfield 51, 3) := dk_180 0 51 (dk_at dksX7_clear_1 14 rfl rfl)
theorem dX7_clear_40 : decode cX7_clear 40 = .ok (.iconst 1, 1) := dk_4 (dk_at dksX7_clear_1 17 rfl rfl)
theorem dX7_clear_41 : decode cX7_clear 41 = .ok (.aload_n 0, 1) := dk_42 (dk_at dksX7_clear_1 18 rfl rfl)
theorem dX7_clear_42 : decode cX7_clear 42 = .ok (.getfield 133, 3) := dk_180 0 133 (dk_at dksX7_clear_1 19 rfl rfl)
theorem dX7_clear_45 : decode cX7_clear 45 = .ok (.iastore, 1) := dk_79 (dk_at dksX7_clear_1 22 rfl rfl)
theorem dX7_clear_46 : decode cX7_clear 46 = .ok (.iconst 0, 1) := dk_3 (dk_at dksX7_clear_1 23 rfl rfl)
theorem dX7_clear_47 : decode cX7_clear 47 = .ok (.istore_n 1, 1) := dk_60 (dk_at dksX7_clear_2 0 rfl rfl)
theorem dX7_clear_48 : decode cX7_clear 48 = .ok (.iload_n 1, 1) := dk_27 (dk_at dksX7_clear_2 1 rfl rfl)
theorem dX7_clear_49 : decode cX7_clear 49 = .ok (.iconst 4, 1) := dk_7 (dk_at dksX7_clear_2 2 rfl rfl)
theorem dX7_clear_50 : decode cX7_clear 50 = .ok (.if_icmp .ge 23, 3) := dk_162 0 23 (dk_at dksX7_clear_2 3 rfl rfl)
theorem dX7_clear_53 : decode cX7_clear 53 = .ok (.aload_n 0, 1) := dk_42 (dk_at dksX7_clear_2 6 rfl rfl)
theorem dX7_clear_54 : decode cX7_clear 54 = .ok (.getfield 51, 3) := dk_180 0 51 (dk_at dksX7_clear_2 7 rfl rfl)
theorem dX7_clear_57 : decode cX7_clear 57 = .ok (.iconst 2, 1) := dk_5 (dk_at dksX7_clear_2 10 rfl rfl)
theorem dX7_clear_58 : decode cX7_clear 58 = .ok (.iload_n 1, 1) := dk_27 (dk_at dksX7_clear_2 11 rfl rfl)
theorem dX7_clear_59 : decode cX7_clear 59 = .ok (.iadd, 1) := dk_96 (dk_at dksX7_clear_2 12 rfl rfl)
theorem dX7_clear_60 : decode cX7_clear 60 = .ok (.aload_n 0, 1) := dk_42 (dk_at dksX7_clear_2 13 rfl rfl)
theorem dX7_clear_61 : decode cX7_clear 61 = .ok (.getfield 17, 3) := dk_180 0 17 (dk_at dksX7_clear_2 14 rfl rfl)
theorem dX7_clear_64 : decode cX7_clear 64 = .ok (.iload_n 1, 1) := dk_27 (dk_at dksX7_clear_2 17 rfl rfl)
theorem dX7_clear_65 : decode cX7_clear 65 = .ok (.iaload, 1) := dk_46 (dk_at dksX7_clear_2 18 rfl rfl)
theorem dX7_clear_66 : decode cX7_clear 66 = .ok (.iastore, 1) := dk_79 (dk_at dksX7_clear_2 19 rfl rfl)
theorem dX7_clear_67 : decode cX7_clear 67 = .ok (.iinc 1 1, 3) := dk_132 1 1 (dk_at dksX7_clear_2 20 rfl rfl)
theorem dX7_clear_70 : decode cX7_clear 70 = .ok (.goto (-22), 3) := dk_167 255 234 (dk_at dksX7_clear_3 0 rfl rfl)
theorem dX7_clear_73 : decode cX7_clear 73 = .ok (.iconst 0, 1) := dk_3 (dk_at dksX7_clear_3 3 rfl rfl)
theorem dX7_clear_74 : decode cX7_clear 74 = .ok (.istore_n 1, 1) := dk_60 (dk_at dksX7_clear_3 4 rfl rfl)
theorem dX7_clear_75 : decode cX7_clear 75 = .ok (.iload_n 1, 1) := dk_27 (dk_at dksX7_clear_3 5 rfl rfl)
theorem dX7_clear_76 : decode cX7_clear 76 = .ok (.aload_n 0, 1) := dk_42 (dk_at dksX7_clear_3 6 rfl rfl)
theorem dX7_clear_77 : decode cX7_clear 77 = .ok (.getfield 113, 3) := dk_180 0 113 (dk_at dksX7_clear_3 7 rfl rfl)
theorem dX7_clear_80 : decode cX7_clear 80 = .ok (.if_icmp .ge 35, 3) := dk_162 0 35 (dk_at dksX7_clear_3 10 rfl rfl)
theorem dX7_clear_83 : decode cX7_clear 83 = .ok (.aload_n 0, 1) := dk_42 (dk_at dksX7_clear_3 13 rfl rfl)
theorem dX7_clear_84 : decode cX7_clear 84 = .ok (.getfield 51, 3) := dk_180 0 51 (dk_at dksX7_clear_3 14 rfl rfl)
theorem dX7_clear_87 : decode cX7_clear 87 = .ok (.bipush 13, 2) := dk_16 13 (dk_at dksX7_clear_3 17 rfl rfl)
theorem dX7_clear_89 : decode cX7_clear 89 = .ok (.iload_n 1, 1) := dk_27 (dk_at dksX7_clear_3 19 rfl rfl)
theorem dX7_clear_90 : decode cX7_clear 90 = .ok (.iadd, 1) := dk_96 (dk_at dksX7_clear_3 20 rfl rfl)
theorem dX7_clear_91 : decode cX7_clear 91 = .ok (.aload_n 0, 1) := dk_42 (dk_at dksX7_clear_3 21 rfl rfl)
theorem dX7_clear_92 : decode cX7_clear 92 = .ok (.getfield 30, 3) := dk_180 0 30 (dk_at dksX7_clear_4 0 rfl rfl)
theorem dX7_clear_95 : decode cX7_clear 95 = .ok (.iload_n 1, 1) := dk_27 (dk_at dksX7_clear_4 3 rfl rfl)
theorem dX7_clear_96 : decode cX7_clear 96 = .ok (.iaload, 1) := dk_46 (dk_at dksX7_clear_4 4 rfl rfl)
theorem dX7_clear_97 : decode cX7_clear 97 = .ok (.iastore, 1) := dk_79 (dk_at dksX7_clear_4 5 rfl rfl)
theorem dX7_clear_98 : decode cX7_clear 98 = .ok (.aload_n 0, 1) := dk_42 (dk_at dksX7_clear_4 6 rfl rfl)
theorem dX7_clear_99 : decode cX7_clear 99 = .ok (.getfield 51, 3) := dk_180 0 51 (dk_at dksX7_clear_4 7 rfl rfl)
theorem dX7_clear_102 : decode cX7_clear 102 = .ok (.bipush 33, 2) := dk_16 33 (dk_at dksX7_clear_4 10 rfl rfl)
theorem dX7_clear_104 : decode cX7_clear 104 = .ok (.iload_n 1, 1) := dk_27 (dk_at dksX7_clear_4 12 rfl rfl)
theorem dX7_clear_105 : decode cX7_clear 105 = .ok (.iadd, 1) := dk_96 (dk_at dksX7_clear_4 13 rfl rfl)
theorem dX7_clear_106 : decode cX7_clear 106 = .ok (.bipush (-2), 2) := dk_16 254 (dk_at dksX7_clear_4 14 rfl rfl)
theorem dX7_clear_108 : decode cX7_clear 108 = .ok (.iastore, 1) := dk_79 (dk_at dksX7_clear_4 16 rfl rfl)
theorem dX7_clear_109 : decode cX7_clear 109 = .ok (.iinc 1 1, 3) := dk_132 1 1 (dk_at dksX7_clear_4 17 rfl rfl)
theorem dX7_clear_112 : decode cX7_clear 112 = .ok (.goto (-37), 3) := dk_167 255 219 (dk_at dksX7_clear_4 20 rfl rfl)
theorem dX7_clear_115 : decode cX7_clear 115 = .ok (.iconst 0, 1) := dk_3 (dk_at dksX7_clear_4 23 rfl rfl)
theorem dX7_clear_116 : decode cX7_clear 116 = .ok (.istore_n 1, 1) := dk_60 (dk_at dksX7_clear_5 0 rfl rfl)
theorem dX7_clear_117 : decode cX7_clear 117 = .ok (.iload_n 1, 1) := dk_27 (dk_at dksX7_clear_5 1 rfl rfl)
theorem dX7_clear_118 : decode cX7_clear 118 = .ok (.aload_n 0, 1) := dk_42 (dk_at dksX7_clear_5 2 rfl rfl)
theorem dX7_clear_119 : decode cX7_clear 119 = .ok (.getfield 136, 3) := dk_180 0 136 (dk_at dksX7_clear_5 3 rfl rfl)
theorem dX7_clear_122 : decode cX7_clear 122 = .ok (.if_icmp .ge 24, 3) := dk_162 0 24 (dk_at dksX7_clear_5 6 rfl rfl)
theorem dX7_clear_125 : decode cX7_clear 125 = .ok (.aload_n 0, 1) := dk_42 (dk_at dksX7_clear_5 9 rfl rfl)
theorem dX7_clear_126 : decode cX7_clear 126 = .ok (.getfield 51, 3) := dk_180 0 51 (dk_at dksX7_clear_5 10 rfl rfl)
theorem dX7_clear_129 : decode cX7_clear 129 = .ok (.bipush 63, 2) := dk_16 63 (dk_at dksX7_clear_5 13 rfl rfl)
theorem dX7_clear_131 : decode cX7_clear 131 = .ok (.iload_n 1, 1) := dk_27 (dk_at dksX7_clear_5 15 rfl rfl)
theorem dX7_clear_132 : decode cX7_clear 132 = .ok (.iadd, 1) := dk_96 (dk_at dksX7_clear_5 16 rfl rfl)
theorem dX7_clear_133 : decode cX7_clear 133 = .ok (.aload_n 0, 1) := dk_42 (dk_at dksX7_clear_5 17 rfl rfl)
theorem dX7_clear_134 : decode cX7_clear 134 = .ok (.getfield 48, 3) := dk_180 0 48 (dk_at dksX7_clear_5 18 rfl rfl)
theorem dX7_clear_137 : decode cX7_clear 137 = .ok (.iload_n 1, 1) := dk_27 (dk_at dksX7_clear_5 21 rfl rfl)
theorem dX7_clear_138 : decode cX7_clear 138 = .ok (.iaload, 1) := dk_46 (dk_at dksX7_clear_5 22 rfl rfl)
theorem dX7_clear_139 : decode cX7_clear 139 = .ok (.iastore, 1) := dk_79 (dk_at dksX7_clear_5 23 rfl rfl)
theorem dX7_clear_140 : decode cX7_clear 140 = .ok (.iinc 1 1, 3) := dk_132 1 1 (dk_at dksX7_clear_6 0 rfl rfl)
theorem dX7_clear_143 : decode cX7_clear 143 = .ok (.goto (-26), 3) := dk_167 255 230 (dk_at dksX7_clear_6 3 rfl rfl)
theorem dX7_clear_146 : decode cX7_clear 146 = .ok (.iconst 0, 1) := dk_3 (dk_at dksX7_clear_6 6 rfl rfl)
theorem dX7_clear_147 : decode cX7_clear 147 = .ok (.istore_n 1, 1) := dk_60 (dk_at dksX7_clear_6 7 rfl rfl)
theorem dX7_clear_148 : decode cX7_clear 148 = .ok (.iload_n 1, 1) := dk_27 (dk_at dksX7_clear_6 8 rfl rfl)
theorem dX7_clear_149 : decode cX7_clear 149 = .ok (.aload_n 0, 1) := dk_42 (dk_at dksX7_clear_6 9 rfl rfl)
theorem dX7_clear_150 : decode cX7_clear 150 = .ok (.getfield 118, 3) := dk_180 0 118 (dk_at dksX7_clear_6 10 rfl rfl)
theorem dX7_clear_153 : decode cX7_clear 153 = .ok (.if_icmp .ge 39, 3) := dk_162 0 39 (dk_at dksX7_clear_6 13 rfl rfl)
theorem dX7_clear_156 : decode cX7_clear 156 = .ok (.aload_n 0, 1) := dk_42 (dk_at dksX7_clear_6 16 rfl rfl)
theorem dX7_clear_157 : decode cX7_clear 157 = .ok (.iload_n 1, 1) := dk_27 (dk_at dksX7_clear_6 17 rfl rfl)
theorem dX7_clear_158 : decode cX7_clear 158 = .ok (.iconst 2, 1) := dk_5 (dk_at dksX7_clear_6 18 rfl rfl)
theorem dX7_clear_159 : decode cX7_clear 159 = .ok (.aload_n 0, 1) := dk_42 (dk_at dksX7_clear_6 19 rfl rfl)
theorem dX7_clear_160 : decode cX7_clear 160 = .ok (.getfield 36, 3) := dk_180 0 36 (dk_at dksX7_clear_6 20 rfl rfl)
theorem dX7_clear_163 : decode cX7_clear 163 = .ok (.iload_n 1, 1) := dk_27 (dk_at dksX7_clear_6 23 rfl rfl)
theorem dX7_clear_164 : decode cX7_clear 164 = .ok (.iaload, 1) := dk_46 (dk_at dksX7_clear_7 0 rfl rfl)
theorem dX7_clear_165 : decode cX7_clear 165 = .ok (.invokevirtual 139, 3) := dk_182 0 139 (dk_at dksX7_clear_7 1 rfl rfl)
theorem dX7_clear_168 : decode cX7_clear 168 = .ok (.aload_n 0, 1) := dk_42 (dk_at dksX7_clear_7 4 rfl rfl)
theorem dX7_clear_169 : decode cX7_clear 169 = .ok (.iload_n 1, 1) := dk_27 (dk_at dksX7_clear_7 5 rfl rfl)
theorem dX7_clear_170 : decode cX7_clear 170 = .ok (.bipush 6, 2) := dk_16 6 (dk_at dksX7_clear_7 6 rfl rfl)
theorem dX7_clear_172 : decode cX7_clear 172 = .ok (.bipush (-2), 2) := dk_16 254 (dk_at dksX7_clear_7 8 rfl rfl)
theorem dX7_clear_174 : decode cX7_clear 174 = .ok (.invokevirtual 139, 3) := dk_182 0 139 (dk_at dksX7_clear_7 10 rfl rfl)
theorem dX7_clear_177 : decode cX7_clear 177 = .ok (.aload_n 0, 1) := dk_42 (dk_at dksX7_clear_7 13 rfl rfl)
theorem dX7_clear_178 : decode cX7_clear 178 = .ok (.iload_n 1, 1) := dk_27 (dk_at dksX7_clear_7 14 rfl rfl)
theorem dX7_clear_179 : decode cX7_clear 179 = .ok (.bipush 10, 2) := dk_16 10 (dk_at dksX7_clear_7 15 rfl rfl)
theorem dX7_clear_181 : decode cX7_clear 181 = .ok (.bipush (-2), 2) := dk_16 254 (dk_at dksX7_clear_7 17 rfl rfl)
theorem dX7_clear_183 : decode cX7_clear 183 = .ok (.invokevirtual 139, 3) := dk_182 0 139 (dk_at dksX7_clear_7 19 rfl rfl)
theorem dX7_clear_186 : decode cX7_clear 186 = .ok (.iinc 1 1, 3) := dk_132 1 1 (dk_at dksX7_clear_8 0 rfl rfl)
theorem dX7_clear_189 : decode cX7_clear 189 = .ok (.goto (-41), 3) := dk_167 255 215 (dk_at dksX7_clear_8 3 rfl rfl)
theorem dX7_clear_192 : decode cX7_clear 192 = .ok (.aload_n 0, 1) := dk_42 (dk_at dksX7_clear_8 6 rfl rfl)
theorem dX7_clear_193 : decode cX7_clear 193 = .ok (.getfield 76, 3) := dk_180 0 76 (dk_at dksX7_clear_8 7 rfl rfl)
theorem dX7_clear_196 : decode cX7_clear 196 = .ok (.iconst 0, 1) := dk_3 (dk_at dksX7_clear_8 10 rfl rfl)
theorem dX7_clear_197 : decode cX7_clear 197 = .ok (.iconst 0, 1) := dk_3 (dk_at dksX7_clear_8 11 rfl rfl)
theorem dX7_clear_198 : decode cX7_clear 198 = .ok (.bastore, 1) := dk_84 (dk_at dksX7_clear_8 12 rfl rfl)
theorem dX7_clear_199 : decode cX7_clear 199 = .ok (.aload_n 0, 1) := dk_42 (dk_at dksX7_clear_8 13 rfl rfl)
theorem dX7_clear_200 : decode cX7_clear 200 = .ok (.getfield 76, 3) := dk_180 0 76 (dk_at dksX7_clear_8 14 rfl rfl)
theorem dX7_clear_203 : decode cX7_clear 203 = .ok (.iconst 1, 1) := dk_4 (dk_at dksX7_clear_8 17 rfl rfl)
theorem dX7_clear_204 : decode cX7_clear 204 = .ok (.iconst 0, 1) := dk_3 (dk_at dksX7_clear_8 18 rfl rfl)
theorem dX7_clear_205 : decode cX7_clear 205 = .ok (.bastore, 1) := dk_84 (dk_at dksX7_clear_8 19 rfl rfl)
theorem dX7_clear_206 : decode cX7_clear 206 = .ok (.aload_n 0, 1) := dk_42 (dk_at dksX7_clear_8 20 rfl rfl)
theorem dX7_clear_207 : decode cX7_clear 207 = .ok (.iconst 0, 1) := dk_3 (dk_at dksX7_clear_8 21 rfl rfl)
theorem dX7_clear_208 : decode cX7_clear 208 = .ok (.putfield 143, 3) := dk_181 0 143 (dk_at dksX7_clear_9 0 rfl rfl)
theorem dX7_clear_211 : decode cX7_clear 211 = .ok (.return_, 1) := dk_177 (dk_at dksX7_clear_9 3 rfl rfl)
abbrev cX7_sets : ByteArray := prog_13_method_5_code
def yX7_sets : MethodName := ⟨RX7, "sets", "(III)V"⟩
def dkwX7_sets_0 : List UInt8 := [42, 180, 0, 51, 17, 0, 164, 16, 13, 27, 104, 96, 28, 96, 29, 79, 177]
abbrev dktX7_sets_0 : List UInt8 := dkwX7_sets_0 ++ []
theorem dksX7_sets_0 : cX7_sets.data.toList.drop 0 = dktX7_sets_0 := by decide +kernel
theorem dX7_sets_0 : decode cX7_sets 0 = .ok (.aload_n 0, 1) := dk_42 (dk_at dksX7_sets_0 0 rfl rfl)
theorem dX7_sets_1 : decode cX7_sets 1 = .ok (.getfield 51, 3) := dk_180 0 51 (dk_at dksX7_sets_0 1 rfl rfl)
theorem dX7_sets_4 : decode cX7_sets 4 = .ok (.sipush 164, 3) := dk_17 0 164 (dk_at dksX7_sets_0 4 rfl rfl)
theorem dX7_sets_7 : decode cX7_sets 7 = .ok (.bipush 13, 2) := dk_16 13 (dk_at dksX7_sets_0 7 rfl rfl)
theorem dX7_sets_9 : decode cX7_sets 9 = .ok (.iload_n 1, 1) := dk_27 (dk_at dksX7_sets_0 9 rfl rfl)
theorem dX7_sets_10 : decode cX7_sets 10 = .ok (.imul, 1) := dk_104 (dk_at dksX7_sets_0 10 rfl rfl)
theorem dX7_sets_11 : decode cX7_sets 11 = .ok (.iadd, 1) := dk_96 (dk_at dksX7_sets_0 11 rfl rfl)
theorem dX7_sets_12 : decode cX7_sets 12 = .ok (.iload_n 2, 1) := dk_28 (dk_at dksX7_sets_0 12 rfl rfl)
theorem dX7_sets_13 : decode cX7_sets 13 = .ok (.iadd, 1) := dk_96 (dk_at dksX7_sets_0 13 rfl rfl)
theorem dX7_sets_14 : decode cX7_sets 14 = .ok (.iload_n 3, 1) := dk_29 (dk_at dksX7_sets_0 14 rfl rfl)
theorem dX7_sets_15 : decode cX7_sets 15 = .ok (.iastore, 1) := dk_79 (dk_at dksX7_sets_0 15 rfl rfl)
theorem dX7_sets_16 : decode cX7_sets 16 = .ok (.return_, 1) := dk_177 (dk_at dksX7_sets_0 16 rfl rfl)
abbrev cX7_append : ByteArray := prog_13_method_51_code
def yX7_append : MethodName := ⟨RX7, "append", "(IIIII)I"⟩
def dkwX7_append_2 : List UInt8 := [172]
abbrev dktX7_append_2 : List UInt8 := dkwX7_append_2 ++ []
def dkwX7_append_1 : List UInt8 := [182, 1, 104, 42, 29, 182, 1, 104, 42, 21, 4, 182, 1, 104, 42, 21, 5, 182, 1, 104, 42, 180, 0, 244]
abbrev dktX7_append_1 : List UInt8 := dkwX7_append_1 ++ dktX7_append_2
def dkwX7_append_0 : List UInt8 := [42, 180, 0, 244, 16, 20, 96, 17, 5, 120, 164, 0, 5, 2, 172, 42, 27, 182, 1, 104, 42, 28]
abbrev dktX7_append_0 : List UInt8 := dkwX7_append_0 ++ dktX7_append_1
theorem dksX7_append_0 : cX7_append.data.toList.drop 0 = dktX7_append_0 := by decide +kernel
theorem dksX7_append_1 : cX7_append.data.toList.drop 22 = dktX7_append_1 := dk_seg dksX7_append_0 22 rfl rfl
theorem dksX7_append_2 : cX7_append.data.toList.drop 46 = dktX7_append_2 := dk_seg dksX7_append_1 24 rfl rfl
theorem dX7_append_0 : decode cX7_append 0 = .ok (.aload_n 0, 1) := dk_42 (dk_at dksX7_append_0 0 rfl rfl)
theorem dX7_append_1 : decode cX7_append 1 = .ok (.getfield 244, 3) := dk_180 0 244 (dk_at dksX7_append_0 1 rfl rfl)
theorem dX7_append_4 : decode cX7_append 4 = .ok (.bipush 20, 2) := dk_16 20 (dk_at dksX7_append_0 4 rfl rfl)
theorem dX7_append_6 : decode cX7_append 6 = .ok (.iadd, 1) := dk_96 (dk_at dksX7_append_0 6 rfl rfl)
theorem dX7_append_7 : decode cX7_append 7 = .ok (.sipush 1400, 3) := dk_17 5 120 (dk_at dksX7_append_0 7 rfl rfl)
theorem dX7_append_10 : decode cX7_append 10 = .ok (.if_icmp .le 5, 3) := dk_164 0 5 (dk_at dksX7_append_0 10 rfl rfl)
theorem dX7_append_13 : decode cX7_append 13 = .ok (.iconst (-1), 1) := dk_2 (dk_at dksX7_append_0 13 rfl rfl)
theorem dX7_append_14 : decode cX7_append 14 = .ok (.ireturn, 1) := dk_172 (dk_at dksX7_append_0 14 rfl rfl)
theorem dX7_append_15 : decode cX7_append 15 = .ok (.aload_n 0, 1) := dk_42 (dk_at dksX7_append_0 15 rfl rfl)
theorem dX7_append_16 : decode cX7_append 16 = .ok (.iload_n 1, 1) := dk_27 (dk_at dksX7_append_0 16 rfl rfl)
theorem dX7_append_17 : decode cX7_append 17 = .ok (.invokevirtual 360, 3) := dk_182 1 104 (dk_at dksX7_append_0 17 rfl rfl)
theorem dX7_append_20 : decode cX7_append 20 = .ok (.aload_n 0, 1) := dk_42 (dk_at dksX7_append_0 20 rfl rfl)
theorem dX7_append_21 : decode cX7_append 21 = .ok (.iload_n 2, 1) := dk_28 (dk_at dksX7_append_0 21 rfl rfl)
theorem dX7_append_22 : decode cX7_append 22 = .ok (.invokevirtual 360, 3) := dk_182 1 104 (dk_at dksX7_append_1 0 rfl rfl)
theorem dX7_append_25 : decode cX7_append 25 = .ok (.aload_n 0, 1) := dk_42 (dk_at dksX7_append_1 3 rfl rfl)
theorem dX7_append_26 : decode cX7_append 26 = .ok (.iload_n 3, 1) := dk_29 (dk_at dksX7_append_1 4 rfl rfl)
theorem dX7_append_27 : decode cX7_append 27 = .ok (.invokevirtual 360, 3) := dk_182 1 104 (dk_at dksX7_append_1 5 rfl rfl)
theorem dX7_append_30 : decode cX7_append 30 = .ok (.aload_n 0, 1) := dk_42 (dk_at dksX7_append_1 8 rfl rfl)
theorem dX7_append_31 : decode cX7_append 31 = .ok (.iload 4, 2) := dk_21 4 (dk_at dksX7_append_1 9 rfl rfl)
theorem dX7_append_33 : decode cX7_append 33 = .ok (.invokevirtual 360, 3) := dk_182 1 104 (dk_at dksX7_append_1 11 rfl rfl)
theorem dX7_append_36 : decode cX7_append 36 = .ok (.aload_n 0, 1) := dk_42 (dk_at dksX7_append_1 14 rfl rfl)
theorem dX7_append_37 : decode cX7_append 37 = .ok (.iload 5, 2) := dk_21 5 (dk_at dksX7_append_1 15 rfl rfl)
theorem dX7_append_39 : decode cX7_append 39 = .ok (.invokevirtual 360, 3) := dk_182 1 104 (dk_at dksX7_append_1 17 rfl rfl)
theorem dX7_append_42 : decode cX7_append 42 = .ok (.aload_n 0, 1) := dk_42 (dk_at dksX7_append_1 20 rfl rfl)
theorem dX7_append_43 : decode cX7_append 43 = .ok (.getfield 244, 3) := dk_180 0 244 (dk_at dksX7_append_1 21 rfl rfl)
theorem dX7_append_46 : decode cX7_append 46 = .ok (.ireturn, 1) := dk_172 (dk_at dksX7_append_2 0 rfl rfl)
abbrev cX7_feeds : ByteArray := prog_13_method_52_code
def yX7_feeds : MethodName := ⟨RX7, "feeds", "(I)V"⟩
def dkwX7_feeds_1 : List UInt8 := [180, 0, 244, 4, 96, 181, 0, 244, 132, 2, 248, 167, 255, 226, 177]
abbrev dktX7_feeds_1 : List UInt8 := dkwX7_feeds_1 ++ []
def dkwX7_feeds_0 : List UInt8 := [16, 24, 61, 28, 155, 0, 32, 42, 180, 0, 7, 42, 180, 0, 244, 27, 28, 122, 145, 84, 42, 89]
abbrev dktX7_feeds_0 : List UInt8 := dkwX7_feeds_0 ++ dktX7_feeds_1
theorem dksX7_feeds_0 : cX7_feeds.data.toList.drop 0 = dktX7_feeds_0 := by decide +kernel
theorem dksX7_feeds_1 : cX7_feeds.data.toList.drop 22 = dktX7_feeds_1 := dk_seg dksX7_feeds_0 22 rfl rfl
theorem dX7_feeds_0 : decode cX7_feeds 0 = .ok (.bipush 24, 2) := dk_16 24 (dk_at dksX7_feeds_0 0 rfl rfl)
theorem dX7_feeds_2 : decode cX7_feeds 2 = .ok (.istore_n 2, 1) := dk_61 (dk_at dksX7_feeds_0 2 rfl rfl)
theorem dX7_feeds_3 : decode cX7_feeds 3 = .ok (.iload_n 2, 1) := dk_28 (dk_at dksX7_feeds_0 3 rfl rfl)
theorem dX7_feeds_4 : decode cX7_feeds 4 = .ok (.ifCond .lt 32, 3) := dk_155 0 32 (dk_at dksX7_feeds_0 4 rfl rfl)
theorem dX7_feeds_7 : decode cX7_feeds 7 = .ok (.aload_n 0, 1) := dk_42 (dk_at dksX7_feeds_0 7 rfl rfl)
theorem dX7_feeds_8 : decode cX7_feeds 8 = .ok (.getfield 7, 3) := dk_180 0 7 (dk_at dksX7_feeds_0 8 rfl rfl)
theorem dX7_feeds_11 : decode cX7_feeds 11 = .ok (.aload_n 0, 1) := dk_42 (dk_at dksX7_feeds_0 11 rfl rfl)
theorem dX7_feeds_12 : decode cX7_feeds 12 = .ok (.getfield 244, 3) := dk_180 0 244 (dk_at dksX7_feeds_0 12 rfl rfl)
theorem dX7_feeds_15 : decode cX7_feeds 15 = .ok (.iload_n 1, 1) := dk_27 (dk_at dksX7_feeds_0 15 rfl rfl)
theorem dX7_feeds_16 : decode cX7_feeds 16 = .ok (.iload_n 2, 1) := dk_28 (dk_at dksX7_feeds_0 16 rfl rfl)
theorem dX7_feeds_17 : decode cX7_feeds 17 = .ok (.ishr, 1) := dk_122 (dk_at dksX7_feeds_0 17 rfl rfl)
theorem dX7_feeds_18 : decode cX7_feeds 18 = .ok (.i2b, 1) := dk_145 (dk_at dksX7_feeds_0 18 rfl rfl)
theorem dX7_feeds_19 : decode cX7_feeds 19 = .ok (.bastore, 1) := dk_84 (dk_at dksX7_feeds_0 19 rfl rfl)
theorem dX7_feeds_20 : decode cX7_feeds 20 = .ok (.aload_n 0, 1) := dk_42 (dk_at dksX7_feeds_0 20 rfl rfl)
theorem dX7_feeds_21 : decode cX7_feeds 21 = .ok (.dup, 1) := dk_89 (dk_at dksX7_feeds_0 21 rfl rfl)
theorem dX7_feeds_22 : decode cX7_feeds 22 = .ok (.getfield 244, 3) := dk_180 0 244 (dk_at dksX7_feeds_1 0 rfl rfl)
theorem dX7_feeds_25 : decode cX7_feeds 25 = .ok (.iconst 1, 1) := dk_4 (dk_at dksX7_feeds_1 3 rfl rfl)
theorem dX7_feeds_26 : decode cX7_feeds 26 = .ok (.iadd, 1) := dk_96 (dk_at dksX7_feeds_1 4 rfl rfl)
theorem dX7_feeds_27 : decode cX7_feeds 27 = .ok (.putfield 244, 3) := dk_181 0 244 (dk_at dksX7_feeds_1 5 rfl rfl)
theorem dX7_feeds_30 : decode cX7_feeds 30 = .ok (.iinc 2 (-8), 3) := dk_132 2 248 (dk_at dksX7_feeds_1 8 rfl rfl)
theorem dX7_feeds_33 : decode cX7_feeds 33 = .ok (.goto (-30), 3) := dk_167 255 226 (dk_at dksX7_feeds_1 11 rfl rfl)
theorem dX7_feeds_36 : decode cX7_feeds 36 = .ok (.return_, 1) := dk_177 (dk_at dksX7_feeds_1 14 rfl rfl)
abbrev cX7_truncate : ByteArray := prog_13_method_53_code
def yX7_truncate : MethodName := ⟨RX7, "truncate", "(I)I"⟩
def dkwX7_truncate_1 : List UInt8 := [181, 0, 244, 42, 180, 0, 244, 172]
abbrev dktX7_truncate_1 : List UInt8 := dkwX7_truncate_1 ++ []
def dkwX7_truncate_0 : List UInt8 := [27, 133, 9, 42, 180, 0, 244, 133, 184, 0, 146, 154, 0, 5, 2, 172, 42, 89, 180, 0, 244, 27, 100]
abbrev dktX7_truncate_0 : List UInt8 := dkwX7_truncate_0 ++ dktX7_truncate_1
theorem dksX7_truncate_0 : cX7_truncate.data.toList.drop 0 = dktX7_truncate_0 := by decide +kernel
theorem dksX7_truncate_1 : cX7_truncate.data.toList.drop 23 = dktX7_truncate_1 := dk_seg dksX7_truncate_0 23 rfl rfl
theorem dX7_truncate_0 : decode cX7_truncate 0 = .ok (.iload_n 1, 1) := dk_27 (dk_at dksX7_truncate_0 0 rfl rfl)
theorem dX7_truncate_1 : decode cX7_truncate 1 = .ok (.i2l, 1) := dk_133 (dk_at dksX7_truncate_0 1 rfl rfl)
theorem dX7_truncate_2 : decode cX7_truncate 2 = .ok (.lconst 0, 1) := dk_9 (dk_at dksX7_truncate_0 2 rfl rfl)
theorem dX7_truncate_3 : decode cX7_truncate 3 = .ok (.aload_n 0, 1) := dk_42 (dk_at dksX7_truncate_0 3 rfl rfl)
theorem dX7_truncate_4 : decode cX7_truncate 4 = .ok (.getfield 244, 3) := dk_180 0 244 (dk_at dksX7_truncate_0 4 rfl rfl)
theorem dX7_truncate_7 : decode cX7_truncate 7 = .ok (.i2l, 1) := dk_133 (dk_at dksX7_truncate_0 7 rfl rfl)
theorem dX7_truncate_8 : decode cX7_truncate 8 = .ok (.invokestatic 146, 3) := dk_184 0 146 (dk_at dksX7_truncate_0 8 rfl rfl)
theorem dX7_truncate_11 : decode cX7_truncate 11 = .ok (.ifCond .ne 5, 3) := dk_154 0 5 (dk_at dksX7_truncate_0 11 rfl rfl)
theorem dX7_truncate_14 : decode cX7_truncate 14 = .ok (.iconst (-1), 1) := dk_2 (dk_at dksX7_truncate_0 14 rfl rfl)
theorem dX7_truncate_15 : decode cX7_truncate 15 = .ok (.ireturn, 1) := dk_172 (dk_at dksX7_truncate_0 15 rfl rfl)
theorem dX7_truncate_16 : decode cX7_truncate 16 = .ok (.aload_n 0, 1) := dk_42 (dk_at dksX7_truncate_0 16 rfl rfl)
theorem dX7_truncate_17 : decode cX7_truncate 17 = .ok (.dup, 1) := dk_89 (dk_at dksX7_truncate_0 17 rfl rfl)
theorem dX7_truncate_18 : decode cX7_truncate 18 = .ok (.getfield 244, 3) := dk_180 0 244 (dk_at dksX7_truncate_0 18 rfl rfl)
theorem dX7_truncate_21 : decode cX7_truncate 21 = .ok (.iload_n 1, 1) := dk_27 (dk_at dksX7_truncate_0 21 rfl rfl)
theorem dX7_truncate_22 : decode cX7_truncate 22 = .ok (.isub, 1) := dk_100 (dk_at dksX7_truncate_0 22 rfl rfl)
theorem dX7_truncate_23 : decode cX7_truncate 23 = .ok (.putfield 244, 3) := dk_181 0 244 (dk_at dksX7_truncate_1 0 rfl rfl)
theorem dX7_truncate_26 : decode cX7_truncate 26 = .ok (.aload_n 0, 1) := dk_42 (dk_at dksX7_truncate_1 3 rfl rfl)
theorem dX7_truncate_27 : decode cX7_truncate 27 = .ok (.getfield 244, 3) := dk_180 0 244 (dk_at dksX7_truncate_1 4 rfl rfl)
theorem dX7_truncate_30 : decode cX7_truncate 30 = .ok (.ireturn, 1) := dk_172 (dk_at dksX7_truncate_1 7 rfl rfl)
abbrev cX7_in : ByteArray := prog_13_method_2_code
def yX7_in : MethodName := ⟨RX7, "in", "(JJJ)Z"⟩
def dkwX7_in_0 : List UInt8 := [30, 32, 148, 155, 0, 14, 30, 22, 4, 148, 157, 0, 7, 4, 167, 0, 4, 3, 172]
abbrev dktX7_in_0 : List UInt8 := dkwX7_in_0 ++ []
theorem dksX7_in_0 : cX7_in.data.toList.drop 0 = dktX7_in_0 := by decide +kernel
theorem dX7_in_0 : decode cX7_in 0 = .ok (.lload_n 0, 1) := dk_30 (dk_at dksX7_in_0 0 rfl rfl)
theorem dX7_in_1 : decode cX7_in 1 = .ok (.lload_n 2, 1) := dk_32 (dk_at dksX7_in_0 1 rfl rfl)
theorem dX7_in_2 : decode cX7_in 2 = .ok (.lcmp, 1) := dk_148 (dk_at dksX7_in_0 2 rfl rfl)
theorem dX7_in_3 : decode cX7_in 3 = .ok (.ifCond .lt 14, 3) := dk_155 0 14 (dk_at dksX7_in_0 3 rfl rfl)
theorem dX7_in_6 : decode cX7_in 6 = .ok (.lload_n 0, 1) := dk_30 (dk_at dksX7_in_0 6 rfl rfl)
theorem dX7_in_7 : decode cX7_in 7 = .ok (.lload 4, 2) := dk_22 4 (dk_at dksX7_in_0 7 rfl rfl)
theorem dX7_in_9 : decode cX7_in 9 = .ok (.lcmp, 1) := dk_148 (dk_at dksX7_in_0 9 rfl rfl)
theorem dX7_in_10 : decode cX7_in 10 = .ok (.ifCond .gt 7, 3) := dk_157 0 7 (dk_at dksX7_in_0 10 rfl rfl)
theorem dX7_in_13 : decode cX7_in 13 = .ok (.iconst 1, 1) := dk_4 (dk_at dksX7_in_0 13 rfl rfl)
theorem dX7_in_14 : decode cX7_in 14 = .ok (.goto 4, 3) := dk_167 0 4 (dk_at dksX7_in_0 14 rfl rfl)
theorem dX7_in_17 : decode cX7_in 17 = .ok (.iconst 0, 1) := dk_3 (dk_at dksX7_in_0 17 rfl rfl)
theorem dX7_in_18 : decode cX7_in 18 = .ok (.ireturn, 1) := dk_172 (dk_at dksX7_in_0 18 rfl rfl)
abbrev cX7_load : ByteArray := prog_13_method_55_code
def yX7_load : MethodName := ⟨RX7, "load", "()I"⟩
def dkwX7_load_2 : List UInt8 := [2, 172, 42, 182, 1, 110, 42, 182, 0, 130, 42, 180, 0, 113, 172]
abbrev dktX7_load_2 : List UInt8 := dkwX7_load_2 ++ []
def dkwX7_load_1 : List UInt8 := [181, 1, 86, 42, 3, 181, 1, 89, 42, 182, 1, 107, 42, 3, 181, 0, 244, 42, 180, 1, 59, 154, 0, 5]
abbrev dktX7_load_1 : List UInt8 := dkwX7_load_1 ++ dktX7_load_2
def dkwX7_load_0 : List UInt8 := [42, 16, 254, 181, 0, 13, 42, 4, 181, 1, 59, 42, 3, 181, 0, 241, 42, 3, 181, 1, 76, 42, 3]
abbrev dktX7_load_0 : List UInt8 := dkwX7_load_0 ++ dktX7_load_1
theorem dksX7_load_0 : cX7_load.data.toList.drop 0 = dktX7_load_0 := by decide +kernel
theorem dksX7_load_1 : cX7_load.data.toList.drop 23 = dktX7_load_1 := dk_seg dksX7_load_0 23 rfl rfl
theorem dksX7_load_2 : cX7_load.data.toList.drop 47 = dktX7_load_2 := dk_seg dksX7_load_1 24 rfl rfl
theorem dX7_load_0 : decode cX7_load 0 = .ok (.aload_n 0, 1) := dk_42 (dk_at dksX7_load_0 0 rfl rfl)
theorem dX7_load_1 : decode cX7_load 1 = .ok (.bipush (-2), 2) := dk_16 254 (dk_at dksX7_load_0 1 rfl rfl)
theorem dX7_load_3 : decode cX7_load 3 = .ok (.putfield 13, 3) := dk_181 0 13 (dk_at dksX7_load_0 3 rfl rfl)
theorem dX7_load_6 : decode cX7_load 6 = .ok (.aload_n 0, 1) := dk_42 (dk_at dksX7_load_0 6 rfl rfl)
theorem dX7_load_7 : decode cX7_load 7 = .ok (.iconst 1, 1) := dk_4 (dk_at dksX7_load_0 7 rfl rfl)
theorem dX7_load_8 : decode cX7_load 8 = .ok (.putfield 315, 3) := dk_181 1 59 (dk_at dksX7_load_0 8 rfl rfl)
theorem dX7_load_11 : decode cX7_load 11 = .ok (.aload_n 0, 1) := dk_42 (dk_at dksX7_load_0 11 rfl rfl)
theorem dX7_load_12 : decode cX7_load 12 = .ok (.iconst 0, 1) := dk_3 (dk_at dksX7_load_0 12 rfl rfl)
theorem dX7_load_13 : decode cX7_load 13 = .ok (.putfield 241, 3) := dk_181 0 241 (dk_at dksX7_load_0 13 rfl rfl)
theorem dX7_load_16 : decode cX7_load 16 = .ok (.aload_n 0, 1) := dk_42 (dk_at dksX7_load_0 16 rfl rfl)
theorem dX7_load_17 : decode cX7_load 17 = .ok (.iconst 0, 1) := dk_3 (dk_at dksX7_load_0 17 rfl rfl)
theorem dX7_load_18 : decode cX7_load 18 = .ok (.putfield 332, 3) := dk_181 1 76 (dk_at dksX7_load_0 18 rfl rfl)
theorem dX7_load_21 : decode cX7_load 21 = .ok (.aload_n 0, 1) := dk_42 (dk_at dksX7_load_0 21 rfl rfl)
theorem dX7_load_22 : decode cX7_load 22 = .ok (.iconst 0, 1) := dk_3 (dk_at dksX7_load_0 22 rfl rfl)
theorem dX7_load_23 : decode cX7_load 23 = .ok (.putfield 342, 3) := dk_181 1 86 (dk_at dksX7_load_1 0 rfl rfl)
theorem dX7_load_26 : decode cX7_load 26 = .ok (.aload_n 0, 1) := dk_42 (dk_at dksX7_load_1 3 rfl rfl)
theorem dX7_load_27 : decode cX7_load 27 = .ok (.iconst 0, 1) := dk_3 (dk_at dksX7_load_1 4 rfl rfl)
theorem dX7_load_28 : decode cX7_load 28 = .ok (.putfield 345, 3) := dk_181 1 89 (dk_at dksX7_load_1 5 rfl rfl)
theorem dX7_load_31 : decode cX7_load 31 = .ok (.aload_n 0, 1) := dk_42 (dk_at dksX7_load_1 8 rfl rfl)
theorem dX7_load_32 : decode cX7_load 32 = .ok (.invokevirtual 363, 3) := dk_182 1 107 (dk_at dksX7_load_1 9 rfl rfl)
theorem dX7_load_35 : decode cX7_load 35 = .ok (.aload_n 0, 1) := dk_42 (dk_at dksX7_load_1 12 rfl rfl)
theorem dX7_load_36 : decode cX7_load 36 = .ok (.iconst 0, 1) := dk_3 (dk_at dksX7_load_1 13 rfl rfl)
theorem dX7_load_37 : decode cX7_load 37 = .ok (.putfield 244, 3) := dk_181 0 244 (dk_at dksX7_load_1 14 rfl rfl)
theorem dX7_load_40 : decode cX7_load 40 = .ok (.aload_n 0, 1) := dk_42 (dk_at dksX7_load_1 17 rfl rfl)
theorem dX7_load_41 : decode cX7_load 41 = .ok (.getfield 315, 3) := dk_180 1 59 (dk_at dksX7_load_1 18 rfl rfl)
theorem dX7_load_44 : decode cX7_load 44 = .ok (.ifCond .ne 5, 3) := dk_154 0 5 (dk_at dksX7_load_1 21 rfl rfl)
theorem dX7_load_47 : decode cX7_load 47 = .ok (.iconst (-1), 1) := dk_2 (dk_at dksX7_load_2 0 rfl rfl)
theorem dX7_load_48 : decode cX7_load 48 = .ok (.ireturn, 1) := dk_172 (dk_at dksX7_load_2 1 rfl rfl)
theorem dX7_load_49 : decode cX7_load 49 = .ok (.aload_n 0, 1) := dk_42 (dk_at dksX7_load_2 2 rfl rfl)
theorem dX7_load_50 : decode cX7_load 50 = .ok (.invokevirtual 366, 3) := dk_182 1 110 (dk_at dksX7_load_2 3 rfl rfl)
theorem dX7_load_53 : decode cX7_load 53 = .ok (.aload_n 0, 1) := dk_42 (dk_at dksX7_load_2 6 rfl rfl)
theorem dX7_load_54 : decode cX7_load 54 = .ok (.invokevirtual 130, 3) := dk_182 0 130 (dk_at dksX7_load_2 7 rfl rfl)
theorem dX7_load_57 : decode cX7_load 57 = .ok (.aload_n 0, 1) := dk_42 (dk_at dksX7_load_2 10 rfl rfl)
theorem dX7_load_58 : decode cX7_load 58 = .ok (.getfield 113, 3) := dk_180 0 113 (dk_at dksX7_load_2 11 rfl rfl)
theorem dX7_load_61 : decode cX7_load 61 = .ok (.ireturn, 1) := dk_172 (dk_at dksX7_load_2 14 rfl rfl)
abbrev cX7_readAll : ByteArray := prog_13_method_50_code
def yX7_readAll : MethodName := ⟨RX7, "readAll", "()V"⟩
def dkwX7_readAll_3 : List UInt8 := [182, 1, 101, 167, 255, 238, 177]
abbrev dktX7_readAll_3 : List UInt8 := dkwX7_readAll_3 ++ []
def dkwX7_readAll_2 : List UInt8 := [42, 182, 1, 98, 167, 255, 242, 42, 180, 1, 59, 153, 0, 17, 42, 180, 1, 47, 153, 0, 10, 42]
abbrev dktX7_readAll_2 : List UInt8 := dkwX7_readAll_2 ++ dktX7_readAll_3
def dkwX7_readAll_1 : List UInt8 := [153, 0, 10, 42, 182, 1, 95, 167, 255, 242, 42, 182, 1, 98, 42, 20, 1, 15, 182, 1, 70, 153, 0, 10]
abbrev dktX7_readAll_1 : List UInt8 := dkwX7_readAll_1 ++ dktX7_readAll_2
def dkwX7_readAll_0 : List UInt8 := [42, 182, 1, 63, 42, 182, 1, 92, 42, 182, 1, 95, 42, 182, 1, 95, 42, 20, 1, 7, 182, 1, 70]
abbrev dktX7_readAll_0 : List UInt8 := dkwX7_readAll_0 ++ dktX7_readAll_1
theorem dksX7_readAll_0 : cX7_readAll.data.toList.drop 0 = dktX7_readAll_0 := by decide +kernel
theorem dksX7_readAll_1 : cX7_readAll.data.toList.drop 23 = dktX7_readAll_1 := dk_seg dksX7_readAll_0 23 rfl rfl
theorem dksX7_readAll_2 : cX7_readAll.data.toList.drop 47 = dktX7_readAll_2 := dk_seg dksX7_readAll_1 24 rfl rfl
theorem dksX7_readAll_3 : cX7_readAll.data.toList.drop 69 = dktX7_readAll_3 := dk_seg dksX7_readAll_2 22 rfl rfl
theorem dX7_readAll_0 : decode cX7_readAll 0 = .ok (.aload_n 0, 1) := dk_42 (dk_at dksX7_readAll_0 0 rfl rfl)
theorem dX7_readAll_1 : decode cX7_readAll 1 = .ok (.invokevirtual 319, 3) := dk_182 1 63 (dk_at dksX7_readAll_0 1 rfl rfl)
theorem dX7_readAll_4 : decode cX7_readAll 4 = .ok (.aload_n 0, 1) := dk_42 (dk_at dksX7_readAll_0 4 rfl rfl)
theorem dX7_readAll_5 : decode cX7_readAll 5 = .ok (.invokevirtual 348, 3) := dk_182 1 92 (dk_at dksX7_readAll_0 5 rfl rfl)
theorem dX7_readAll_8 : decode cX7_readAll 8 = .ok (.aload_n 0, 1) := dk_42 (dk_at dksX7_readAll_0 8 rfl rfl)
theorem dX7_readAll_9 : decode cX7_readAll 9 = .ok (.invokevirtual 351, 3) := dk_182 1 95 (dk_at dksX7_readAll_0 9 rfl rfl)
theorem dX7_readAll_12 : decode cX7_readAll 12 = .ok (.aload_n 0, 1) := dk_42 (dk_at dksX7_readAll_0 12 rfl rfl)
theorem dX7_readAll_13 : decode cX7_readAll 13 = .ok (.invokevirtual 351, 3) := dk_182 1 95 (dk_at dksX7_readAll_0 13 rfl rfl)
theorem dX7_readAll_16 : decode cX7_readAll 16 = .ok (.aload_n 0, 1) := dk_42 (dk_at dksX7_readAll_0 16 rfl rfl)
theorem dX7_readAll_17 : decode cX7_readAll 17 = .ok (.ldc2_w 263, 3) := dk_20 1 7 (dk_at dksX7_readAll_0 17 rfl rfl)
theorem dX7_readAll_20 : decode cX7_readAll 20 = .ok (.invokevirtual 326, 3) := dk_182 1 70 (dk_at dksX7_readAll_0 20 rfl rfl)
theorem dX7_readAll_23 : decode cX7_readAll 23 = .ok (.ifCond .eq 10, 3) := dk_153 0 10 (dk_at dksX7_readAll_1 0 rfl rfl)
theorem dX7_readAll_26 : decode cX7_readAll 26 = .ok (.aload_n 0, 1) := dk_42 (dk_at dksX7_readAll_1 3 rfl rfl)
theorem dX7_readAll_27 : decode cX7_readAll 27 = .ok (.invokevirtual 351, 3) := dk_182 1 95 (dk_at dksX7_readAll_1 4 rfl rfl)
theorem dX7_readAll_30 : decode cX7_readAll 30 = .ok (.goto (-14), 3) := dk_167 255 242 (dk_at dksX7_readAll_1 7 rfl rfl)
theorem dX7_readAll_33 : decode cX7_readAll 33 = .ok (.aload_n 0, 1) := dk_42 (dk_at dksX7_readAll_1 10 rfl rfl)
theorem dX7_readAll_34 : decode cX7_readAll 34 = .ok (.invokevirtual 354, 3) := dk_182 1 98 (dk_at dksX7_readAll_1 11 rfl rfl)
theorem dX7_readAll_37 : decode cX7_readAll 37 = .ok (.aload_n 0, 1) := dk_42 (dk_at dksX7_readAll_1 14 rfl rfl)
theorem dX7_readAll_38 : decode cX7_readAll 38 = .ok (.ldc2_w 271, 3) := dk_20 1 15 (dk_at dksX7_readAll_1 15 rfl rfl)
theorem dX7_readAll_41 : decode cX7_readAll 41 = .ok (.invokevirtual 326, 3) := dk_182 1 70 (dk_at dksX7_readAll_1 18 rfl rfl)
theorem dX7_readAll_44 : decode cX7_readAll 44 = .ok (.ifCond .eq 10, 3) := dk_153 0 10 (dk_at dksX7_readAll_1 21 rfl rfl)
theorem dX7_readAll_47 : decode cX7_readAll 47 = .ok (.aload_n 0, 1) := dk_42 (dk_at dksX7_readAll_2 0 rfl rfl)
theorem dX7_readAll_48 : decode cX7_readAll 48 = .ok (.invokevirtual 354, 3) := dk_182 1 98 (dk_at dksX7_readAll_2 1 rfl rfl)
theorem dX7_readAll_51 : decode cX7_readAll 51 = .ok (.goto (-14), 3) := dk_167 255 242 (dk_at dksX7_readAll_2 4 rfl rfl)
theorem dX7_readAll_54 : decode cX7_readAll 54 = .ok (.aload_n 0, 1) := dk_42 (dk_at dksX7_readAll_2 7 rfl rfl)
theorem dX7_readAll_55 : decode cX7_readAll 55 = .ok (.getfield 315, 3) := dk_180 1 59 (dk_at dksX7_readAll_2 8 rfl rfl)
theorem dX7_readAll_58 : decode cX7_readAll 58 = .ok (.ifCond .eq 17, 3) := dk_153 0 17 (dk_at dksX7_readAll_2 11 rfl rfl)
theorem dX7_readAll_61 : decode cX7_readAll 61 = .ok (.aload_n 0, 1) := dk_42 (dk_at dksX7_readAll_2 14 rfl rfl)
theorem dX7_readAll_62 : decode cX7_readAll 62 = .ok (.getfield 303, 3) := dk_180 1 47 (dk_at dksX7_readAll_2 15 rfl rfl)
theorem dX7_readAll_65 : decode cX7_readAll 65 = .ok (.ifCond .eq 10, 3) := dk_153 0 10 (dk_at dksX7_readAll_2 18 rfl rfl)
theorem dX7_readAll_68 : decode cX7_readAll 68 = .ok (.aload_n 0, 1) := dk_42 (dk_at dksX7_readAll_2 21 rfl rfl)
theorem dX7_readAll_69 : decode cX7_readAll 69 = .ok (.invokevirtual 357, 3) := dk_182 1 101 (dk_at dksX7_readAll_3 0 rfl rfl)
theorem dX7_readAll_72 : decode cX7_readAll 72 = .ok (.goto (-18), 3) := dk_167 255 238 (dk_at dksX7_readAll_3 3 rfl rfl)
theorem dX7_readAll_75 : decode cX7_readAll 75 = .ok (.return_, 1) := dk_177 (dk_at dksX7_readAll_3 6 rfl rfl)
abbrev cX7_next : ByteArray := prog_13_method_40_code
def yX7_next : MethodName := ⟨RX7, "next", "()V"⟩
def dkwX7_next_6 : List UInt8 := [89, 180, 0, 241, 4, 96, 181, 0, 241, 177]
abbrev dktX7_next_6 : List UInt8 := dkwX7_next_6 ++ []
def dkwX7_next_5 : List UInt8 := [42, 42, 180, 0, 7, 42, 180, 0, 241, 51, 16, 59, 160, 0, 7, 7, 167, 0, 4, 8, 181, 1, 47, 42]
abbrev dktX7_next_5 : List UInt8 := dkwX7_next_5 ++ dktX7_next_6
def dkwX7_next_4 : List UInt8 := [182, 1, 53, 167, 0, 54, 42, 16, 48, 16, 57, 182, 1, 34, 153, 0, 10, 42, 182, 1, 56, 167, 0, 36]
abbrev dktX7_next_4 : List UInt8 := dkwX7_next_4 ++ dktX7_next_5
def dkwX7_next_3 : List UInt8 := [160, 0, 11, 42, 3, 181, 1, 47, 167, 0, 72, 42, 16, 97, 16, 122, 182, 1, 34, 153, 0, 10, 42]
abbrev dktX7_next_3 : List UInt8 := dkwX7_next_3 ++ dktX7_next_4
def dkwX7_next_2 : List UInt8 := [181, 0, 241, 167, 255, 207, 42, 42, 180, 0, 241, 181, 1, 38, 42, 180, 0, 241, 42, 180, 0, 244]
abbrev dktX7_next_2 : List UInt8 := dkwX7_next_2 ++ dktX7_next_3
def dkwX7_next_1 : List UInt8 := [159, 0, 17, 42, 180, 0, 7, 42, 180, 0, 241, 51, 16, 10, 160, 0, 16, 42, 89, 180, 0, 241, 4, 96]
abbrev dktX7_next_1 : List UInt8 := dkwX7_next_1 ++ dktX7_next_2
def dkwX7_next_0 : List UInt8 := [42, 180, 0, 241, 42, 180, 0, 244, 162, 0, 44, 42, 180, 0, 7, 42, 180, 0, 241, 51, 16, 32]
abbrev dktX7_next_0 : List UInt8 := dkwX7_next_0 ++ dktX7_next_1
theorem dksX7_next_0 : cX7_next.data.toList.drop 0 = dktX7_next_0 := by decide +kernel
theorem dksX7_next_1 : cX7_next.data.toList.drop 22 = dktX7_next_1 := dk_seg dksX7_next_0 22 rfl rfl
theorem dksX7_next_2 : cX7_next.data.toList.drop 46 = dktX7_next_2 := dk_seg dksX7_next_1 24 rfl rfl
theorem dksX7_next_3 : cX7_next.data.toList.drop 68 = dktX7_next_3 := dk_seg dksX7_next_2 22 rfl rfl
theorem dksX7_next_4 : cX7_next.data.toList.drop 91 = dktX7_next_4 := dk_seg dksX7_next_3 23 rfl rfl
theorem dksX7_next_5 : cX7_next.data.toList.drop 115 = dktX7_next_5 := dk_seg dksX7_next_4 24 rfl rfl
theorem dksX7_next_6 : cX7_next.data.toList.drop 139 = dktX7_next_6 := dk_seg dksX7_next_5 24 rfl rfl
theorem dX7_next_0 : decode cX7_next 0 = .ok (.aload_n 0, 1) := dk_42 (dk_at dksX7_next_0 0 rfl rfl)
theorem dX7_next_1 : decode cX7_next 1 = .ok (.getfield 241, 3) := dk_180 0 241 (dk_at dksX7_next_0 1 rfl rfl)
theorem dX7_next_4 : decode cX7_next 4 = .ok (.aload_n 0, 1) := dk_42 (dk_at dksX7_next_0 4 rfl rfl)
theorem dX7_next_5 : decode cX7_next 5 = .ok (.getfield 244, 3) := dk_180 0 244 (dk_at dksX7_next_0 5 rfl rfl)
theorem dX7_next_8 : decode cX7_next 8 = .ok (.if_icmp .ge 44, 3) := dk_162 0 44 (dk_at dksX7_next_0 8 rfl rfl)
theorem dX7_next_11 : decode cX7_next 11 = .ok (.aload_n 0, 1) := dk_42 (dk_at dksX7_next_0 11 rfl rfl)
theorem dX7_next_12 : decode cX7_next 12 = .ok (.getfield 7, 3) := dk_180 0 7 (dk_at dksX7_next_0 12 rfl rfl)
theorem dX7_next_15 : decode cX7_next 15 = .ok (.aload_n 0, 1) := dk_42 (dk_at dksX7_next_0 15 rfl rfl)
theorem dX7_next_16 : decode cX7_next 16 = .ok (.getfield 241, 3) := dk_180 0 241 (dk_at dksX7_next_0 16 rfl rfl)
theorem dX7_next_19 : decode cX7_next 19 = .ok (.baload, 1) := dk_51 (dk_at dksX7_next_0 19 rfl rfl)
theorem dX7_next_20 : decode cX7_next 20 = .ok (.bipush 32, 2) := dk_16 32 (dk_at dksX7_next_0 20 rfl rfl)
theorem dX7_next_22 : decode cX7_next 22 = .ok (.if_icmp .eq 17, 3) := dk_159 0 17 (dk_at dksX7_next_1 0 rfl rfl)
theorem dX7_next_25 : decode cX7_next 25 = .ok (.aload_n 0, 1) := dk_42 (dk_at dksX7_next_1 3 rfl rfl)
theorem dX7_next_26 : decode cX7_next 26 = .ok (.getfield 7, 3) := dk_180 0 7 (dk_at dksX7_next_1 4 rfl rfl)
theorem dX7_next_29 : decode cX7_next 29 = .ok (.aload_n 0, 1) := dk_42 (dk_at dksX7_next_1 7 rfl rfl)
theorem dX7_next_30 : decode cX7_next 30 = .ok (.getfield 241, 3) := dk_180 0 241 (dk_at dksX7_next_1 8 rfl rfl)
theorem dX7_next_33 : decode cX7_next 33 = .ok (.baload, 1) := dk_51 (dk_at dksX7_next_1 11 rfl rfl)
theorem dX7_next_34 : decode cX7_next 34 = .ok (.bipush 10, 2) := dk_16 10 (dk_at dksX7_next_1 12 rfl rfl)
theorem dX7_next_36 : decode cX7_next 36 = .ok (.if_icmp .ne 16, 3) := dk_160 0 16 (dk_at dksX7_next_1 14 rfl rfl)
theorem dX7_next_39 : decode cX7_next 39 = .ok (.aload_n 0, 1) := dk_42 (dk_at dksX7_next_1 17 rfl rfl)
theorem dX7_next_40 : decode cX7_next 40 = .ok (.dup, 1) := dk_89 (dk_at dksX7_next_1 18 rfl rfl)
theorem dX7_next_41 : decode cX7_next 41 = .ok (.getfield 241, 3) := dk_180 0 241 (dk_at dksX7_next_1 19 rfl rfl)
theorem dX7_next_44 : decode cX7_next 44 = .ok (.iconst 1, 1) := dk_4 (dk_at dksX7_next_1 22 rfl rfl)
theorem dX7_next_45 : decode cX7_next 45 = .ok (.iadd, 1) := dk_96 (dk_at dksX7_next_1 23 rfl rfl)
theorem dX7_next_46 : decode cX7_next 46 = .ok (.putfield 241, 3) := dk_181 0 241 (dk_at dksX7_next_2 0 rfl rfl)
theorem dX7_next_49 : decode cX7_next 49 = .ok (.goto (-49), 3) := dk_167 255 207 (dk_at dksX7_next_2 3 rfl rfl)
theorem dX7_next_52 : decode cX7_next 52 = .ok (.aload_n 0, 1) := dk_42 (dk_at dksX7_next_2 6 rfl rfl)
theorem dX7_next_53 : decode cX7_next 53 = .ok (.aload_n 0, 1) := dk_42 (dk_at dksX7_next_2 7 rfl rfl)
theorem dX7_next_54 : decode cX7_next 54 = .ok (.getfield 241, 3) := dk_180 0 241 (dk_at dksX7_next_2 8 rfl rfl)
theorem dX7_next_57 : decode cX7_next 57 = .ok (.putfield 294, 3) := dk_181 1 38 (dk_at dksX7_next_2 11 rfl rfl)
theorem dX7_next_60 : decode cX7_next 60 = .ok (.aload_n 0, 1) := dk_42 (dk_at dksX7_next_2 14 rfl rfl)
theorem dX7_next_61 : decode cX7_next 61 = .ok (.getfield 241, 3) := dk_180 0 241 (dk_at dksX7_next_2 15 rfl rfl)
theorem dX7_next_64 : decode cX7_next 64 = .ok (.aload_n 0, 1) := dk_42 (dk_at dksX7_next_2 18 rfl rfl)
theorem dX7_next_65 : decode cX7_next 65 = .ok (.getfield 244, 3) := dk_180 0 244 (dk_at dksX7_next_2 19 rfl rfl)
theorem dX7_next_68 : decode cX7_next 68 = .ok (.if_icmp .ne 11, 3) := dk_160 0 11 (dk_at dksX7_next_3 0 rfl rfl)
theorem dX7_next_71 : decode cX7_next 71 = .ok (.aload_n 0, 1) := dk_42 (dk_at dksX7_next_3 3 rfl rfl)
theorem dX7_next_72 : decode cX7_next 72 = .ok (.iconst 0, 1) := dk_3 (dk_at dksX7_next_3 4 rfl rfl)
theorem dX7_next_73 : decode cX7_next 73 = .ok (.putfield 303, 3) := dk_181 1 47 (dk_at dksX7_next_3 5 rfl rfl)
theorem dX7_next_76 : decode cX7_next 76 = .ok (.goto 72, 3) := dk_167 0 72 (dk_at dksX7_next_3 8 rfl rfl)
theorem dX7_next_79 : decode cX7_next 79 = .ok (.aload_n 0, 1) := dk_42 (dk_at dksX7_next_3 11 rfl rfl)
theorem dX7_next_80 : decode cX7_next 80 = .ok (.bipush 97, 2) := dk_16 97 (dk_at dksX7_next_3 12 rfl rfl)
theorem dX7_next_82 : decode cX7_next 82 = .ok (.bipush 122, 2) := dk_16 122 (dk_at dksX7_next_3 14 rfl rfl)
theorem dX7_next_84 : decode cX7_next 84 = .ok (.invokevirtual 290, 3) := dk_182 1 34 (dk_at dksX7_next_3 16 rfl rfl)
theorem dX7_next_87 : decode cX7_next 87 = .ok (.ifCond .eq 10, 3) := dk_153 0 10 (dk_at dksX7_next_3 19 rfl rfl)
theorem dX7_next_90 : decode cX7_next 90 = .ok (.aload_n 0, 1) := dk_42 (dk_at dksX7_next_3 22 rfl rfl)
theorem dX7_next_91 : decode cX7_next 91 = .ok (.invokevirtual 309, 3) := dk_182 1 53 (dk_at dksX7_next_4 0 rfl rfl)
theorem dX7_next_94 : decode cX7_next 94 = .ok (.goto 54, 3) := dk_167 0 54 (dk_at dksX7_next_4 3 rfl rfl)
theorem dX7_next_97 : decode cX7_next 97 = .ok (.aload_n 0, 1) := dk_42 (dk_at dksX7_next_4 6 rfl rfl)
theorem dX7_next_98 : decode cX7_next 98 = .ok (.bipush 48, 2) := dk_16 48 (dk_at dksX7_next_4 7 rfl rfl)
theorem dX7_next_100 : decode cX7_next 100 = .ok (.bipush 57, 2) := dk_16 57 (dk_at dksX7_next_4 9 rfl rfl)
theorem dX7_next_102 : decode cX7_next 102 = .ok (.invokevirtual 290, 3) := dk_182 1 34 (dk_at dksX7_next_4 11 rfl rfl)
theorem dX7_next_105 : decode cX7_next 105 = .ok (.ifCond .eq 10, 3) := dk_153 0 10 (dk_at dksX7_next_4 14 rfl rfl)
theorem dX7_next_108 : decode cX7_next 108 = .ok (.aload_n 0, 1) := dk_42 (dk_at dksX7_next_4 17 rfl rfl)
theorem dX7_next_109 : decode cX7_next 109 = .ok (.invokevirtual 312, 3) := dk_182 1 56 (dk_at dksX7_next_4 18 rfl rfl)
theorem dX7_next_112 : decode cX7_next 112 = .ok (.goto 36, 3) := dk_167 0 36 (dk_at dksX7_next_4 21 rfl rfl)
theorem dX7_next_115 : decode cX7_next 115 = .ok (.aload_n 0, 1) := dk_42 (dk_at dksX7_next_5 0 rfl rfl)
theorem dX7_next_116 : decode cX7_next 116 = .ok (.aload_n 0, 1) := dk_42 (dk_at dksX7_next_5 1 rfl rfl)
theorem dX7_next_117 : decode cX7_next 117 = .ok (.getfield 7, 3) := dk_180 0 7 (dk_at dksX7_next_5 2 rfl rfl)
theorem dX7_next_120 : decode cX7_next 120 = .ok (.aload_n 0, 1) := dk_42 (dk_at dksX7_next_5 5 rfl rfl)
theorem dX7_next_121 : decode cX7_next 121 = .ok (.getfield 241, 3) := dk_180 0 241 (dk_at dksX7_next_5 6 rfl rfl)
theorem dX7_next_124 : decode cX7_next 124 = .ok (.baload, 1) := dk_51 (dk_at dksX7_next_5 9 rfl rfl)
theorem dX7_next_125 : decode cX7_next 125 = .ok (.bipush 59, 2) := dk_16 59 (dk_at dksX7_next_5 10 rfl rfl)
theorem dX7_next_127 : decode cX7_next 127 = .ok (.if_icmp .ne 7, 3) := dk_160 0 7 (dk_at dksX7_next_5 12 rfl rfl)
theorem dX7_next_130 : decode cX7_next 130 = .ok (.iconst 4, 1) := dk_7 (dk_at dksX7_next_5 15 rfl rfl)
theorem dX7_next_131 : decode cX7_next 131 = .ok (.goto 4, 3) := dk_167 0 4 (dk_at dksX7_next_5 16 rfl rfl)
theorem dX7_next_134 : decode cX7_next 134 = .ok (.iconst 5, 1) := dk_8 (dk_at dksX7_next_5 19 rfl rfl)
theorem dX7_next_135 : decode cX7_next 135 = .ok (.putfield 303, 3) := dk_181 1 47 (dk_at dksX7_next_5 20 rfl rfl)
theorem dX7_next_138 : decode cX7_next 138 = .ok (.aload_n 0, 1) := dk_42 (dk_at dksX7_next_5 23 rfl rfl)
theorem dX7_next_139 : decode cX7_next 139 = .ok (.dup, 1) := dk_89 (dk_at dksX7_next_6 0 rfl rfl)
theorem dX7_next_140 : decode cX7_next 140 = .ok (.getfield 241, 3) := dk_180 0 241 (dk_at dksX7_next_6 1 rfl rfl)
theorem dX7_next_143 : decode cX7_next 143 = .ok (.iconst 1, 1) := dk_4 (dk_at dksX7_next_6 4 rfl rfl)
theorem dX7_next_144 : decode cX7_next 144 = .ok (.iadd, 1) := dk_96 (dk_at dksX7_next_6 5 rfl rfl)
theorem dX7_next_145 : decode cX7_next 145 = .ok (.putfield 241, 3) := dk_181 0 241 (dk_at dksX7_next_6 6 rfl rfl)
theorem dX7_next_148 : decode cX7_next 148 = .ok (.return_, 1) := dk_177 (dk_at dksX7_next_6 9 rfl rfl)
abbrev cX7_isByte : ByteArray := prog_13_method_36_code
def yX7_isByte : MethodName := ⟨RX7, "isByte", "(II)Z"⟩
def dkwX7_isByte_1 : List UInt8 := [42, 180, 0, 7, 42, 180, 0, 241, 51, 28, 163, 0, 7, 4, 167, 0, 4, 3, 172]
abbrev dktX7_isByte_1 : List UInt8 := dkwX7_isByte_1 ++ []
def dkwX7_isByte_0 : List UInt8 := [42, 180, 0, 241, 42, 180, 0, 244, 162, 0, 33, 42, 180, 0, 7, 42, 180, 0, 241, 51, 27, 161, 0, 20]
abbrev dktX7_isByte_0 : List UInt8 := dkwX7_isByte_0 ++ dktX7_isByte_1
theorem dksX7_isByte_0 : cX7_isByte.data.toList.drop 0 = dktX7_isByte_0 := by decide +kernel
theorem dksX7_isByte_1 : cX7_isByte.data.toList.drop 24 = dktX7_isByte_1 := dk_seg dksX7_isByte_0 24 rfl rfl
theorem dX7_isByte_0 : decode cX7_isByte 0 = .ok (.aload_n 0, 1) := dk_42 (dk_at dksX7_isByte_0 0 rfl rfl)
theorem dX7_isByte_1 : decode cX7_isByte 1 = .ok (.getfield 241, 3) := dk_180 0 241 (dk_at dksX7_isByte_0 1 rfl rfl)
theorem dX7_isByte_4 : decode cX7_isByte 4 = .ok (.aload_n 0, 1) := dk_42 (dk_at dksX7_isByte_0 4 rfl rfl)
theorem dX7_isByte_5 : decode cX7_isByte 5 = .ok (.getfield 244, 3) := dk_180 0 244 (dk_at dksX7_isByte_0 5 rfl rfl)
theorem dX7_isByte_8 : decode cX7_isByte 8 = .ok (.if_icmp .ge 33, 3) := dk_162 0 33 (dk_at dksX7_isByte_0 8 rfl rfl)
theorem dX7_isByte_11 : decode cX7_isByte 11 = .ok (.aload_n 0, 1) := dk_42 (dk_at dksX7_isByte_0 11 rfl rfl)
theorem dX7_isByte_12 : decode cX7_isByte 12 = .ok (.getfield 7, 3) := dk_180 0 7 (dk_at dksX7_isByte_0 12 rfl rfl)
theorem dX7_isByte_15 : decode cX7_isByte 15 = .ok (.aload_n 0, 1) := dk_42 (dk_at dksX7_isByte_0 15 rfl rfl)
theorem dX7_isByte_16 : decode cX7_isByte 16 = .ok (.getfield 241, 3) := dk_180 0 241 (dk_at dksX7_isByte_0 16 rfl rfl)
theorem dX7_isByte_19 : decode cX7_isByte 19 = .ok (.baload, 1) := dk_51 (dk_at dksX7_isByte_0 19 rfl rfl)
theorem dX7_isByte_20 : decode cX7_isByte 20 = .ok (.iload_n 1, 1) := dk_27 (dk_at dksX7_isByte_0 20 rfl rfl)
theorem dX7_isByte_21 : decode cX7_isByte 21 = .ok (.if_icmp .lt 20, 3) := dk_161 0 20 (dk_at dksX7_isByte_0 21 rfl rfl)
theorem dX7_isByte_24 : decode cX7_isByte 24 = .ok (.aload_n 0, 1) := dk_42 (dk_at dksX7_isByte_1 0 rfl rfl)
theorem dX7_isByte_25 : decode cX7_isByte 25 = .ok (.getfield 7, 3) := dk_180 0 7 (dk_at dksX7_isByte_1 1 rfl rfl)
theorem dX7_isByte_28 : decode cX7_isByte 28 = .ok (.aload_n 0, 1) := dk_42 (dk_at dksX7_isByte_1 4 rfl rfl)
theorem dX7_isByte_29 : decode cX7_isByte 29 = .ok (.getfield 241, 3) := dk_180 0 241 (dk_at dksX7_isByte_1 5 rfl rfl)
theorem dX7_isByte_32 : decode cX7_isByte 32 = .ok (.baload, 1) := dk_51 (dk_at dksX7_isByte_1 8 rfl rfl)
theorem dX7_isByte_33 : decode cX7_isByte 33 = .ok (.iload_n 2, 1) := dk_28 (dk_at dksX7_isByte_1 9 rfl rfl)
theorem dX7_isByte_34 : decode cX7_isByte 34 = .ok (.if_icmp .gt 7, 3) := dk_163 0 7 (dk_at dksX7_isByte_1 10 rfl rfl)
theorem dX7_isByte_37 : decode cX7_isByte 37 = .ok (.iconst 1, 1) := dk_4 (dk_at dksX7_isByte_1 13 rfl rfl)
theorem dX7_isByte_38 : decode cX7_isByte 38 = .ok (.goto 4, 3) := dk_167 0 4 (dk_at dksX7_isByte_1 14 rfl rfl)
theorem dX7_isByte_41 : decode cX7_isByte 41 = .ok (.iconst 0, 1) := dk_3 (dk_at dksX7_isByte_1 17 rfl rfl)
theorem dX7_isByte_42 : decode cX7_isByte 42 = .ok (.ireturn, 1) := dk_172 (dk_at dksX7_isByte_1 18 rfl rfl)
abbrev cX7_nextWord : ByteArray := prog_13_method_38_code
def yX7_nextWord : MethodName := ⟨RX7, "nextWord", "()V"⟩
def dkwX7_nextWord_6 : List UInt8 := [180, 0, 241, 42, 180, 1, 38, 100, 16, 7, 162, 0, 7, 4, 167, 0, 4, 8, 181, 1, 47, 177]
abbrev dktX7_nextWord_6 : List UInt8 := dkwX7_nextWord_6 ++ []
def dkwX7_nextWord_5 : List UInt8 := [180, 1, 38, 100, 16, 9, 162, 0, 17, 42, 180, 1, 27, 184, 1, 43, 153, 0, 7, 5, 167, 0, 22, 42]
abbrev dktX7_nextWord_5 : List UInt8 := dkwX7_nextWord_5 ++ dktX7_nextWord_6
def dkwX7_nextWord_4 : List UInt8 := [9, 181, 1, 27, 42, 89, 180, 0, 241, 4, 96, 181, 0, 241, 167, 255, 160, 42, 42, 180, 0, 241, 42]
abbrev dktX7_nextWord_4 : List UInt8 := dkwX7_nextWord_4 ++ dktX7_nextWord_5
def dkwX7_nextWord_3 : List UInt8 := [181, 1, 31, 42, 27, 16, 8, 162, 0, 17, 20, 1, 41, 42, 180, 1, 27, 105, 28, 133, 97, 167, 0, 4]
abbrev dktX7_nextWord_3 : List UInt8 := dkwX7_nextWord_3 ++ dktX7_nextWord_4
def dkwX7_nextWord_2 : List UInt8 := [180, 1, 31, 27, 16, 6, 162, 0, 14, 28, 16, 25, 8, 27, 104, 100, 120, 167, 0, 4, 3, 128]
abbrev dktX7_nextWord_2 : List UInt8 := dkwX7_nextWord_2 ++ dktX7_nextWord_3
def dkwX7_nextWord_1 : List UInt8 := [180, 0, 241, 42, 180, 1, 38, 100, 60, 42, 180, 0, 7, 42, 180, 0, 241, 51, 16, 96, 100, 61, 42, 89]
abbrev dktX7_nextWord_1 : List UInt8 := dkwX7_nextWord_1 ++ dktX7_nextWord_2
def dkwX7_nextWord_0 : List UInt8 := [42, 9, 181, 1, 27, 42, 3, 181, 1, 31, 42, 16, 97, 16, 122, 182, 1, 34, 153, 0, 91, 42]
abbrev dktX7_nextWord_0 : List UInt8 := dkwX7_nextWord_0 ++ dktX7_nextWord_1
theorem dksX7_nextWord_0 : cX7_nextWord.data.toList.drop 0 = dktX7_nextWord_0 := by decide +kernel
theorem dksX7_nextWord_1 : cX7_nextWord.data.toList.drop 22 = dktX7_nextWord_1 := dk_seg dksX7_nextWord_0 22 rfl rfl
theorem dksX7_nextWord_2 : cX7_nextWord.data.toList.drop 46 = dktX7_nextWord_2 := dk_seg dksX7_nextWord_1 24 rfl rfl
theorem dksX7_nextWord_3 : cX7_nextWord.data.toList.drop 68 = dktX7_nextWord_3 := dk_seg dksX7_nextWord_2 22 rfl rfl
theorem dksX7_nextWord_4 : cX7_nextWord.data.toList.drop 92 = dktX7_nextWord_4 := dk_seg dksX7_nextWord_3 24 rfl rfl
theorem dksX7_nextWord_5 : cX7_nextWord.data.toList.drop 115 = dktX7_nextWord_5 := dk_seg dksX7_nextWord_4 23 rfl rfl
theorem dksX7_nextWord_6 : cX7_nextWord.data.toList.drop 139 = dktX7_nextWord_6 := dk_seg dksX7_nextWord_5 24 rfl rfl
theorem dX7_nextWord_0 : decode cX7_nextWord 0 = .ok (.aload_n 0, 1) := dk_42 (dk_at dksX7_nextWord_0 0 rfl rfl)
theorem dX7_nextWord_1 : decode cX7_nextWord 1 = .ok (.lconst 0, 1) := dk_9 (dk_at dksX7_nextWord_0 1 rfl rfl)
theorem dX7_nextWord_2 : decode cX7_nextWord 2 = .ok (.putfield 283, 3) := dk_181 1 27 (dk_at dksX7_nextWord_0 2 rfl rfl)
theorem dX7_nextWord_5 : decode cX7_nextWord 5 = .ok (.aload_n 0, 1) := dk_42 (dk_at dksX7_nextWord_0 5 rfl rfl)
theorem dX7_nextWord_6 : decode cX7_nextWord 6 = .ok (.iconst 0, 1) := dk_3 (dk_at dksX7_nextWord_0 6 rfl rfl)
theorem dX7_nextWord_7 : decode cX7_nextWord 7 = .ok (.putfield 287, 3) := dk_181 1 31 (dk_at dksX7_nextWord_0 7 rfl rfl)
theorem dX7_nextWord_10 : decode cX7_nextWord 10 = .ok (.aload_n 0, 1) := dk_42 (dk_at dksX7_nextWord_0 10 rfl rfl)
theorem dX7_nextWord_11 : decode cX7_nextWord 11 = .ok (.bipush 97, 2) := dk_16 97 (dk_at dksX7_nextWord_0 11 rfl rfl)
theorem dX7_nextWord_13 : decode cX7_nextWord 13 = .ok (.bipush 122, 2) := dk_16 122 (dk_at dksX7_nextWord_0 13 rfl rfl)
theorem dX7_nextWord_15 : decode cX7_nextWord 15 = .ok (.invokevirtual 290, 3) := dk_182 1 34 (dk_at dksX7_nextWord_0 15 rfl rfl)
theorem dX7_nextWord_18 : decode cX7_nextWord 18 = .ok (.ifCond .eq 91, 3) := dk_153 0 91 (dk_at dksX7_nextWord_0 18 rfl rfl)
theorem dX7_nextWord_21 : decode cX7_nextWord 21 = .ok (.aload_n 0, 1) := dk_42 (dk_at dksX7_nextWord_0 21 rfl rfl)
theorem dX7_nextWord_22 : decode cX7_nextWord 22 = .ok (.getfield 241, 3) := dk_180 0 241 (dk_at dksX7_nextWord_1 0 rfl rfl)
theorem dX7_nextWord_25 : decode cX7_nextWord 25 = .ok (.aload_n 0, 1) := dk_42 (dk_at dksX7_nextWord_1 3 rfl rfl)
theorem dX7_nextWord_26 : decode cX7_nextWord 26 = .ok (.getfield 294, 3) := dk_180 1 38 (dk_at dksX7_nextWord_1 4 rfl rfl)
theorem dX7_nextWord_29 : decode cX7_nextWord 29 = .ok (.isub, 1) := dk_100 (dk_at dksX7_nextWord_1 7 rfl rfl)
theorem dX7_nextWord_30 : decode cX7_nextWord 30 = .ok (.istore_n 1, 1) := dk_60 (dk_at dksX7_nextWord_1 8 rfl rfl)
theorem dX7_nextWord_31 : decode cX7_nextWord 31 = .ok (.aload_n 0, 1) := dk_42 (dk_at dksX7_nextWord_1 9 rfl rfl)
theorem dX7_nextWord_32 : decode cX7_nextWord 32 = .ok (.getfield 7, 3) := dk_180 0 7 (dk_at dksX7_nextWord_1 10 rfl rfl)
theorem dX7_nextWord_35 : decode cX7_nextWord 35 = .ok (.aload_n 0, 1) := dk_42 (dk_at dksX7_nextWord_1 13 rfl rfl)
theorem dX7_nextWord_36 : decode cX7_nextWord 36 = .ok (.getfield 241, 3) := dk_180 0 241 (dk_at dksX7_nextWord_1 14 rfl rfl)
theorem dX7_nextWord_39 : decode cX7_nextWord 39 = .ok (.baload, 1) := dk_51 (dk_at dksX7_nextWord_1 17 rfl rfl)
theorem dX7_nextWord_40 : decode cX7_nextWord 40 = .ok (.bipush 96, 2) := dk_16 96 (dk_at dksX7_nextWord_1 18 rfl rfl)
theorem dX7_nextWord_42 : decode cX7_nextWord 42 = .ok (.isub, 1) := dk_100 (dk_at dksX7_nextWord_1 20 rfl rfl)
theorem dX7_nextWord_43 : decode cX7_nextWord 43 = .ok (.istore_n 2, 1) := dk_61 (dk_at dksX7_nextWord_1 21 rfl rfl)
theorem dX7_nextWord_44 : decode cX7_nextWord 44 = .ok (.aload_n 0, 1) := dk_42 (dk_at dksX7_nextWord_1 22 rfl rfl)
theorem dX7_nextWord_45 : decode cX7_nextWord 45 = .ok (.dup, 1) := dk_89 (dk_at dksX7_nextWord_1 23 rfl rfl)
theorem dX7_nextWord_46 : decode cX7_nextWord 46 = .ok (.getfield 287, 3) := dk_180 1 31 (dk_at dksX7_nextWord_2 0 rfl rfl)
theorem dX7_nextWord_49 : decode cX7_nextWord 49 = .ok (.iload_n 1, 1) := dk_27 (dk_at dksX7_nextWord_2 3 rfl rfl)
theorem dX7_nextWord_50 : decode cX7_nextWord 50 = .ok (.bipush 6, 2) := dk_16 6 (dk_at dksX7_nextWord_2 4 rfl rfl)
theorem dX7_nextWord_52 : decode cX7_nextWord 52 = .ok (.if_icmp .ge 14, 3) := dk_162 0 14 (dk_at dksX7_nextWord_2 6 rfl rfl)
theorem dX7_nextWord_55 : decode cX7_nextWord 55 = .ok (.iload_n 2, 1) := dk_28 (dk_at dksX7_nextWord_2 9 rfl rfl)
theorem dX7_nextWord_56 : decode cX7_nextWord 56 = .ok (.bipush 25, 2) := dk_16 25 (dk_at dksX7_nextWord_2 10 rfl rfl)
theorem dX7_nextWord_58 : decode cX7_nextWord 58 = .ok (.iconst 5, 1) := dk_8 (dk_at dksX7_nextWord_2 12 rfl rfl)
theorem dX7_nextWord_59 : decode cX7_nextWord 59 = .ok (.iload_n 1, 1) := dk_27 (dk_at dksX7_nextWord_2 13 rfl rfl)
theorem dX7_nextWord_60 : decode cX7_nextWord 60 = .ok (.imul, 1) := dk_104 (dk_at dksX7_nextWord_2 14 rfl rfl)
theorem dX7_nextWord_61 : decode cX7_nextWord 61 = .ok (.isub, 1) := dk_100 (dk_at dksX7_nextWord_2 15 rfl rfl)
theorem dX7_nextWord_62 : decode cX7_nextWord 62 = .ok (.ishl, 1) := dk_120 (dk_at dksX7_nextWord_2 16 rfl rfl)
theorem dX7_nextWord_63 : decode cX7_nextWord 63 = .ok (.goto 4, 3) := dk_167 0 4 (dk_at dksX7_nextWord_2 17 rfl rfl)
theorem dX7_nextWord_66 : decode cX7_nextWord 66 = .ok (.iconst 0, 1) := dk_3 (dk_at dksX7_nextWord_2 20 rfl rfl)
theorem dX7_nextWord_67 : decode cX7_nextWord 67 = .ok (.ior, 1) := dk_128 (dk_at dksX7_nextWord_2 21 rfl rfl)
theorem dX7_nextWord_68 : decode cX7_nextWord 68 = .ok (.putfield 287, 3) := dk_181 1 31 (dk_at dksX7_nextWord_3 0 rfl rfl)
theorem dX7_nextWord_71 : decode cX7_nextWord 71 = .ok (.aload_n 0, 1) := dk_42 (dk_at dksX7_nextWord_3 3 rfl rfl)
theorem dX7_nextWord_72 : decode cX7_nextWord 72 = .ok (.iload_n 1, 1) := dk_27 (dk_at dksX7_nextWord_3 4 rfl rfl)
theorem dX7_nextWord_73 : decode cX7_nextWord 73 = .ok (.bipush 8, 2) := dk_16 8 (dk_at dksX7_nextWord_3 5 rfl rfl)
theorem dX7_nextWord_75 : decode cX7_nextWord 75 = .ok (.if_icmp .ge 17, 3) := dk_162 0 17 (dk_at dksX7_nextWord_3 7 rfl rfl)
theorem dX7_nextWord_78 : decode cX7_nextWord 78 = .ok (.ldc2_w 297, 3) := dk_20 1 41 (dk_at dksX7_nextWord_3 10 rfl rfl)
theorem dX7_nextWord_81 : decode cX7_nextWord 81 = .ok (.aload_n 0, 1) := dk_42 (dk_at dksX7_nextWord_3 13 rfl rfl)
theorem dX7_nextWord_82 : decode cX7_nextWord 82 = .ok (.getfield 283, 3) := dk_180 1 27 (dk_at dksX7_nextWord_3 14 rfl rfl)
theorem dX7_nextWord_85 : decode cX7_nextWord 85 = .ok (.lmul, 1) := dk_105 (dk_at dksX7_nextWord_3 17 rfl rfl)
theorem dX7_nextWord_86 : decode cX7_nextWord 86 = .ok (.iload_n 2, 1) := dk_28 (dk_at dksX7_nextWord_3 18 rfl rfl)
theorem dX7_nextWord_87 : decode cX7_nextWord 87 = .ok (.i2l, 1) := dk_133 (dk_at dksX7_nextWord_3 19 rfl rfl)
theorem dX7_nextWord_88 : decode cX7_nextWord 88 = .ok (.ladd, 1) := dk_97 (dk_at dksX7_nextWord_3 20 rfl rfl)
theorem dX7_nextWord_89 : decode cX7_nextWord 89 = .ok (.goto 4, 3) := dk_167 0 4 (dk_at dksX7_nextWord_3 21 rfl rfl)
theorem dX7_nextWord_92 : decode cX7_nextWord 92 = .ok (.lconst 0, 1) := dk_9 (dk_at dksX7_nextWord_4 0 rfl rfl)
theorem dX7_nextWord_93 : decode cX7_nextWord 93 = .ok (.putfield 283, 3) := dk_181 1 27 (dk_at dksX7_nextWord_4 1 rfl rfl)
theorem dX7_nextWord_96 : decode cX7_nextWord 96 = .ok (.aload_n 0, 1) := dk_42 (dk_at dksX7_nextWord_4 4 rfl rfl)
theorem dX7_nextWord_97 : decode cX7_nextWord 97 = .ok (.dup, 1) := dk_89 (dk_at dksX7_nextWord_4 5 rfl rfl)
theorem dX7_nextWord_98 : decode cX7_nextWord 98 = .ok (.getfield 241, 3) := dk_180 0 241 (dk_at dksX7_nextWord_4 6 rfl rfl)
theorem dX7_nextWord_101 : decode cX7_nextWord 101 = .ok (.iconst 1, 1) := dk_4 (dk_at dksX7_nextWord_4 9 rfl rfl)
theorem dX7_nextWord_102 : decode cX7_nextWord 102 = .ok (.iadd, 1) := dk_96 (dk_at dksX7_nextWord_4 10 rfl rfl)
theorem dX7_nextWord_103 : decode cX7_nextWord 103 = .ok (.putfield 241, 3) := dk_181 0 241 (dk_at dksX7_nextWord_4 11 rfl rfl)
theorem dX7_nextWord_106 : decode cX7_nextWord 106 = .ok (.goto (-96), 3) := dk_167 255 160 (dk_at dksX7_nextWord_4 14 rfl rfl)
theorem dX7_nextWord_109 : decode cX7_nextWord 109 = .ok (.aload_n 0, 1) := dk_42 (dk_at dksX7_nextWord_4 17 rfl rfl)
theorem dX7_nextWord_110 : decode cX7_nextWord 110 = .ok (.aload_n 0, 1) := dk_42 (dk_at dksX7_nextWord_4 18 rfl rfl)
theorem dX7_nextWord_111 : decode cX7_nextWord 111 = .ok (.getfield 241, 3) := dk_180 0 241 (dk_at dksX7_nextWord_4 19 rfl rfl)
theorem dX7_nextWord_114 : decode cX7_nextWord 114 = .ok (.aload_n 0, 1) := dk_42 (dk_at dksX7_nextWord_4 22 rfl rfl)
theorem dX7_nextWord_115 : decode cX7_nextWord 115 = .ok (.getfield 294, 3) := dk_180 1 38 (dk_at dksX7_nextWord_5 0 rfl rfl)
theorem dX7_nextWord_118 : decode cX7_nextWord 118 = .ok (.isub, 1) := dk_100 (dk_at dksX7_nextWord_5 3 rfl rfl)
theorem dX7_nextWord_119 : decode cX7_nextWord 119 = .ok (.bipush 9, 2) := dk_16 9 (dk_at dksX7_nextWord_5 4 rfl rfl)
theorem dX7_nextWord_121 : decode cX7_nextWord 121 = .ok (.if_icmp .ge 17, 3) := dk_162 0 17 (dk_at dksX7_nextWord_5 6 rfl rfl)
theorem dX7_nextWord_124 : decode cX7_nextWord 124 = .ok (.aload_n 0, 1) := dk_42 (dk_at dksX7_nextWord_5 9 rfl rfl)
theorem dX7_nextWord_125 : decode cX7_nextWord 125 = .ok (.getfield 283, 3) := dk_180 1 27 (dk_at dksX7_nextWord_5 10 rfl rfl)
theorem dX7_nextWord_128 : decode cX7_nextWord 128 = .ok (.invokestatic 299, 3) := dk_184 1 43 (dk_at dksX7_nextWord_5 13 rfl rfl)
theorem dX7_nextWord_131 : decode cX7_nextWord 131 = .ok (.ifCond .eq 7, 3) := dk_153 0 7 (dk_at dksX7_nextWord_5 16 rfl rfl)
theorem dX7_nextWord_134 : decode cX7_nextWord 134 = .ok (.iconst 2, 1) := dk_5 (dk_at dksX7_nextWord_5 19 rfl rfl)
theorem dX7_nextWord_135 : decode cX7_nextWord 135 = .ok (.goto 22, 3) := dk_167 0 22 (dk_at dksX7_nextWord_5 20 rfl rfl)
theorem dX7_nextWord_138 : decode cX7_nextWord 138 = .ok (.aload_n 0, 1) := dk_42 (dk_at dksX7_nextWord_5 23 rfl rfl)
theorem dX7_nextWord_139 : decode cX7_nextWord 139 = .ok (.getfield 241, 3) := dk_180 0 241 (dk_at dksX7_nextWord_6 0 rfl rfl)
theorem dX7_nextWord_142 : decode cX7_nextWord 142 = .ok (.aload_n 0, 1) := dk_42 (dk_at dksX7_nextWord_6 3 rfl rfl)
theorem dX7_nextWord_143 : decode cX7_nextWord 143 = .ok (.getfield 294, 3) := dk_180 1 38 (dk_at dksX7_nextWord_6 4 rfl rfl)
theorem dX7_nextWord_146 : decode cX7_nextWord 146 = .ok (.isub, 1) := dk_100 (dk_at dksX7_nextWord_6 7 rfl rfl)
theorem dX7_nextWord_147 : decode cX7_nextWord 147 = .ok (.bipush 7, 2) := dk_16 7 (dk_at dksX7_nextWord_6 8 rfl rfl)
theorem dX7_nextWord_149 : decode cX7_nextWord 149 = .ok (.if_icmp .ge 7, 3) := dk_162 0 7 (dk_at dksX7_nextWord_6 10 rfl rfl)
theorem dX7_nextWord_152 : decode cX7_nextWord 152 = .ok (.iconst 1, 1) := dk_4 (dk_at dksX7_nextWord_6 13 rfl rfl)
theorem dX7_nextWord_153 : decode cX7_nextWord 153 = .ok (.goto 4, 3) := dk_167 0 4 (dk_at dksX7_nextWord_6 14 rfl rfl)
theorem dX7_nextWord_156 : decode cX7_nextWord 156 = .ok (.iconst 5, 1) := dk_8 (dk_at dksX7_nextWord_6 17 rfl rfl)
theorem dX7_nextWord_157 : decode cX7_nextWord 157 = .ok (.putfield 303, 3) := dk_181 1 47 (dk_at dksX7_nextWord_6 18 rfl rfl)
theorem dX7_nextWord_160 : decode cX7_nextWord 160 = .ok (.return_, 1) := dk_177 (dk_at dksX7_nextWord_6 21 rfl rfl)
abbrev cX7_isKey : ByteArray := prog_13_method_37_code
def yX7_isKey : MethodName := ⟨RX7, "isKey", "(J)Z"⟩
def dkwX7_isKey_6 : List UInt8 := [153, 0, 11, 30, 20, 1, 25, 148, 154, 0, 7, 4, 167, 0, 4, 3, 172]
abbrev dktX7_isKey_6 : List UInt8 := dkwX7_isKey_6 ++ []
def dkwX7_isKey_5 : List UInt8 := [153, 0, 35, 30, 20, 1, 19, 148, 153, 0, 27, 30, 20, 1, 21, 148, 153, 0, 19, 30, 20, 1, 23, 148]
abbrev dktX7_isKey_5 : List UInt8 := dkwX7_isKey_5 ++ dktX7_isKey_6
def dkwX7_isKey_4 : List UInt8 := [153, 0, 59, 30, 20, 1, 13, 148, 153, 0, 51, 30, 20, 1, 15, 148, 153, 0, 43, 30, 20, 1, 17, 148]
abbrev dktX7_isKey_4 : List UInt8 := dkwX7_isKey_4 ++ dktX7_isKey_5
def dkwX7_isKey_3 : List UInt8 := [4, 167, 0, 4, 3, 61, 28, 154, 0, 75, 30, 20, 1, 9, 148, 153, 0, 67, 30, 20, 1, 11, 148]
abbrev dktX7_isKey_3 : List UInt8 := dkwX7_isKey_3 ++ dktX7_isKey_4
def dkwX7_isKey_2 : List UInt8 := [30, 20, 1, 3, 148, 153, 0, 19, 30, 20, 1, 5, 148, 153, 0, 11, 30, 20, 1, 7, 148, 154, 0, 7]
abbrev dktX7_isKey_2 : List UInt8 := dkwX7_isKey_2 ++ dktX7_isKey_3
def dkwX7_isKey_1 : List UInt8 := [30, 20, 0, 253, 148, 153, 0, 43, 30, 20, 0, 255, 148, 153, 0, 35, 30, 20, 1, 1, 148, 153, 0, 27]
abbrev dktX7_isKey_1 : List UInt8 := dkwX7_isKey_1 ++ dktX7_isKey_2
def dkwX7_isKey_0 : List UInt8 := [30, 20, 0, 247, 148, 153, 0, 67, 30, 20, 0, 249, 148, 153, 0, 59, 30, 20, 0, 251, 148, 153, 0, 51]
abbrev dktX7_isKey_0 : List UInt8 := dkwX7_isKey_0 ++ dktX7_isKey_1
theorem dksX7_isKey_0 : cX7_isKey.data.toList.drop 0 = dktX7_isKey_0 := by decide +kernel
theorem dksX7_isKey_1 : cX7_isKey.data.toList.drop 24 = dktX7_isKey_1 := dk_seg dksX7_isKey_0 24 rfl rfl
theorem dksX7_isKey_2 : cX7_isKey.data.toList.drop 48 = dktX7_isKey_2 := dk_seg dksX7_isKey_1 24 rfl rfl
theorem dksX7_isKey_3 : cX7_isKey.data.toList.drop 72 = dktX7_isKey_3 := dk_seg dksX7_isKey_2 24 rfl rfl
theorem dksX7_isKey_4 : cX7_isKey.data.toList.drop 95 = dktX7_isKey_4 := dk_seg dksX7_isKey_3 23 rfl rfl
theorem dksX7_isKey_5 : cX7_isKey.data.toList.drop 119 = dktX7_isKey_5 := dk_seg dksX7_isKey_4 24 rfl rfl
theorem dksX7_isKey_6 : cX7_isKey.data.toList.drop 143 = dktX7_isKey_6 := dk_seg dksX7_isKey_5 24 rfl rfl
theorem dX7_isKey_0 : decode cX7_isKey 0 = .ok (.lload_n 0, 1) := dk_30 (dk_at dksX7_isKey_0 0 rfl rfl)
theorem dX7_isKey_1 : decode cX7_isKey 1 = .ok (.ldc2_w 247, 3) := dk_20 0 247 (dk_at dksX7_isKey_0 1 rfl rfl)
theorem dX7_isKey_4 : decode cX7_isKey 4 = .ok (.lcmp, 1) := dk_148 (dk_at dksX7_isKey_0 4 rfl rfl)
theorem dX7_isKey_5 : decode cX7_isKey 5 = .ok (.ifCond .eq 67, 3) := dk_153 0 67 (dk_at dksX7_isKey_0 5 rfl rfl)
theorem dX7_isKey_8 : decode cX7_isKey 8 = .ok (.lload_n 0, 1) := dk_30 (dk_at dksX7_isKey_0 8 rfl rfl)
theorem dX7_isKey_9 : decode cX7_isKey 9 = .ok (.ldc2_w 249, 3) := dk_20 0 249 (dk_at dksX7_isKey_0 9 rfl rfl)
theorem dX7_isKey_12 : decode cX7_isKey 12 = .ok (.lcmp, 1) := dk_148 (dk_at dksX7_isKey_0 12 rfl rfl)
theorem dX7_isKey_13 : decode cX7_isKey 13 = .ok (.ifCond .eq 59, 3) := dk_153 0 59 (dk_at dksX7_isKey_0 13 rfl rfl)
theorem dX7_isKey_16 : decode cX7_isKey 16 = .ok (.lload_n 0, 1) := dk_30 (dk_at dksX7_isKey_0 16 rfl rfl)
theorem dX7_isKey_17 : decode cX7_isKey 17 = .ok (.ldc2_w 251, 3) := dk_20 0 251 (dk_at dksX7_isKey_0 17 rfl rfl)
theorem dX7_isKey_20 : decode cX7_isKey 20 = .ok (.lcmp, 1) := dk_148 (dk_at dksX7_isKey_0 20 rfl rfl)
theorem dX7_isKey_21 : decode cX7_isKey 21 = .ok (.ifCond .eq 51, 3) := dk_153 0 51 (dk_at dksX7_isKey_0 21 rfl rfl)
theorem dX7_isKey_24 : decode cX7_isKey 24 = .ok (.lload_n 0, 1) := dk_30 (dk_at dksX7_isKey_1 0 rfl rfl)
theorem dX7_isKey_25 : decode cX7_isKey 25 = .ok (.ldc2_w 253, 3) := dk_20 0 253 (dk_at dksX7_isKey_1 1 rfl rfl)
theorem dX7_isKey_28 : decode cX7_isKey 28 = .ok (.lcmp, 1) := dk_148 (dk_at dksX7_isKey_1 4 rfl rfl)
theorem dX7_isKey_29 : decode cX7_isKey 29 = .ok (.ifCond .eq 43, 3) := dk_153 0 43 (dk_at dksX7_isKey_1 5 rfl rfl)
theorem dX7_isKey_32 : decode cX7_isKey 32 = .ok (.lload_n 0, 1) := dk_30 (dk_at dksX7_isKey_1 8 rfl rfl)
theorem dX7_isKey_33 : decode cX7_isKey 33 = .ok (.ldc2_w 255, 3) := dk_20 0 255 (dk_at dksX7_isKey_1 9 rfl rfl)
theorem dX7_isKey_36 : decode cX7_isKey 36 = .ok (.lcmp, 1) := dk_148 (dk_at dksX7_isKey_1 12 rfl rfl)
theorem dX7_isKey_37 : decode cX7_isKey 37 = .ok (.ifCond .eq 35, 3) := dk_153 0 35 (dk_at dksX7_isKey_1 13 rfl rfl)
theorem dX7_isKey_40 : decode cX7_isKey 40 = .ok (.lload_n 0, 1) := dk_30 (dk_at dksX7_isKey_1 16 rfl rfl)
theorem dX7_isKey_41 : decode cX7_isKey 41 = .ok (.ldc2_w 257, 3) := dk_20 1 1 (dk_at dksX7_isKey_1 17 rfl rfl)
theorem dX7_isKey_44 : decode cX7_isKey 44 = .ok (.lcmp, 1) := dk_148 (dk_at dksX7_isKey_1 20 rfl rfl)
theorem dX7_isKey_45 : decode cX7_isKey 45 = .ok (.ifCond .eq 27, 3) := dk_153 0 27 (dk_at dksX7_isKey_1 21 rfl rfl)
theorem dX7_isKey_48 : decode cX7_isKey 48 = .ok (.lload_n 0, 1) := dk_30 (dk_at dksX7_isKey_2 0 rfl rfl)
theorem dX7_isKey_49 : decode cX7_isKey 49 = .ok (.ldc2_w 259, 3) := dk_20 1 3 (dk_at dksX7_isKey_2 1 rfl rfl)
theorem dX7_isKey_52 : decode cX7_isKey 52 = .ok (.lcmp, 1) := dk_148 (dk_at dksX7_isKey_2 4 rfl rfl)
theorem dX7_isKey_53 : decode cX7_isKey 53 = .ok (.ifCond .eq 19, 3) := dk_153 0 19 (dk_at dksX7_isKey_2 5 rfl rfl)
theorem dX7_isKey_56 : decode cX7_isKey 56 = .ok (.lload_n 0, 1) := dk_30 (dk_at dksX7_isKey_2 8 rfl rfl)
theorem dX7_isKey_57 : decode cX7_isKey 57 = .ok (.ldc2_w 261, 3) := dk_20 1 5 (dk_at dksX7_isKey_2 9 rfl rfl)
theorem dX7_isKey_60 : decode cX7_isKey 60 = .ok (.lcmp, 1) := dk_148 (dk_at dksX7_isKey_2 12 rfl rfl)
theorem dX7_isKey_61 : decode cX7_isKey 61 = .ok (.ifCond .eq 11, 3) := dk_153 0 11 (dk_at dksX7_isKey_2 13 rfl rfl)
theorem dX7_isKey_64 : decode cX7_isKey 64 = .ok (.lload_n 0, 1) := dk_30 (dk_at dksX7_isKey_2 16 rfl rfl)
theorem dX7_isKey_65 : decode cX7_isKey 65 = .ok (.ldc2_w 263, 3) := dk_20 1 7 (dk_at dksX7_isKey_2 17 rfl rfl)
theorem dX7_isKey_68 : decode cX7_isKey 68 = .ok (.lcmp, 1) := dk_148 (dk_at dksX7_isKey_2 20 rfl rfl)
theorem dX7_isKey_69 : decode cX7_isKey 69 = .ok (.ifCond .ne 7, 3) := dk_154 0 7 (dk_at dksX7_isKey_2 21 rfl rfl)
theorem dX7_isKey_72 : decode cX7_isKey 72 = .ok (.iconst 1, 1) := dk_4 (dk_at dksX7_isKey_3 0 rfl rfl)
theorem dX7_isKey_73 : decode cX7_isKey 73 = .ok (.goto 4, 3) := dk_167 0 4 (dk_at dksX7_isKey_3 1 rfl rfl)
theorem dX7_isKey_76 : decode cX7_isKey 76 = .ok (.iconst 0, 1) := dk_3 (dk_at dksX7_isKey_3 4 rfl rfl)
theorem dX7_isKey_77 : decode cX7_isKey 77 = .ok (.istore_n 2, 1) := dk_61 (dk_at dksX7_isKey_3 5 rfl rfl)
theorem dX7_isKey_78 : decode cX7_isKey 78 = .ok (.iload_n 2, 1) := dk_28 (dk_at dksX7_isKey_3 6 rfl rfl)
theorem dX7_isKey_79 : decode cX7_isKey 79 = .ok (.ifCond .ne 75, 3) := dk_154 0 75 (dk_at dksX7_isKey_3 7 rfl rfl)
theorem dX7_isKey_82 : decode cX7_isKey 82 = .ok (.lload_n 0, 1) := dk_30 (dk_at dksX7_isKey_3 10 rfl rfl)
theorem dX7_isKey_83 : decode cX7_isKey 83 = .ok (.ldc2_w 265, 3) := dk_20 1 9 (dk_at dksX7_isKey_3 11 rfl rfl)
theorem dX7_isKey_86 : decode cX7_isKey 86 = .ok (.lcmp, 1) := dk_148 (dk_at dksX7_isKey_3 14 rfl rfl)
theorem dX7_isKey_87 : decode cX7_isKey 87 = .ok (.ifCond .eq 67, 3) := dk_153 0 67 (dk_at dksX7_isKey_3 15 rfl rfl)
theorem dX7_isKey_90 : decode cX7_isKey 90 = .ok (.lload_n 0, 1) := dk_30 (dk_at dksX7_isKey_3 18 rfl rfl)
theorem dX7_isKey_91 : decode cX7_isKey 91 = .ok (.ldc2_w 267, 3) := dk_20 1 11 (dk_at dksX7_isKey_3 19 rfl rfl)
theorem dX7_isKey_94 : decode cX7_isKey 94 = .ok (.lcmp, 1) := dk_148 (dk_at dksX7_isKey_3 22 rfl rfl)
theorem dX7_isKey_95 : decode cX7_isKey 95 = .ok (.ifCond .eq 59, 3) := dk_153 0 59 (dk_at dksX7_isKey_4 0 rfl rfl)
theorem dX7_isKey_98 : decode cX7_isKey 98 = .ok (.lload_n 0, 1) := dk_30 (dk_at dksX7_isKey_4 3 rfl rfl)
theorem dX7_isKey_99 : decode cX7_isKey 99 = .ok (.ldc2_w 269, 3) := dk_20 1 13 (dk_at dksX7_isKey_4 4 rfl rfl)
theorem dX7_isKey_102 : decode cX7_isKey 102 = .ok (.lcmp, 1) := dk_148 (dk_at dksX7_isKey_4 7 rfl rfl)
theorem dX7_isKey_103 : decode cX7_isKey 103 = .ok (.ifCond .eq 51, 3) := dk_153 0 51 (dk_at dksX7_isKey_4 8 rfl rfl)
theorem dX7_isKey_106 : decode cX7_isKey 106 = .ok (.lload_n 0, 1) := dk_30 (dk_at dksX7_isKey_4 11 rfl rfl)
theorem dX7_isKey_107 : decode cX7_isKey 107 = .ok (.ldc2_w 271, 3) := dk_20 1 15 (dk_at dksX7_isKey_4 12 rfl rfl)
theorem dX7_isKey_110 : decode cX7_isKey 110 = .ok (.lcmp, 1) := dk_148 (dk_at dksX7_isKey_4 15 rfl rfl)
theorem dX7_isKey_111 : decode cX7_isKey 111 = .ok (.ifCond .eq 43, 3) := dk_153 0 43 (dk_at dksX7_isKey_4 16 rfl rfl)
theorem dX7_isKey_114 : decode cX7_isKey 114 = .ok (.lload_n 0, 1) := dk_30 (dk_at dksX7_isKey_4 19 rfl rfl)
theorem dX7_isKey_115 : decode cX7_isKey 115 = .ok (.ldc2_w 273, 3) := dk_20 1 17 (dk_at dksX7_isKey_4 20 rfl rfl)
theorem dX7_isKey_118 : decode cX7_isKey 118 = .ok (.lcmp, 1) := dk_148 (dk_at dksX7_isKey_4 23 rfl rfl)
theorem dX7_isKey_119 : decode cX7_isKey 119 = .ok (.ifCond .eq 35, 3) := dk_153 0 35 (dk_at dksX7_isKey_5 0 rfl rfl)
theorem dX7_isKey_122 : decode cX7_isKey 122 = .ok (.lload_n 0, 1) := dk_30 (dk_at dksX7_isKey_5 3 rfl rfl)
theorem dX7_isKey_123 : decode cX7_isKey 123 = .ok (.ldc2_w 275, 3) := dk_20 1 19 (dk_at dksX7_isKey_5 4 rfl rfl)
theorem dX7_isKey_126 : decode cX7_isKey 126 = .ok (.lcmp, 1) := dk_148 (dk_at dksX7_isKey_5 7 rfl rfl)
theorem dX7_isKey_127 : decode cX7_isKey 127 = .ok (.ifCond .eq 27, 3) := dk_153 0 27 (dk_at dksX7_isKey_5 8 rfl rfl)
theorem dX7_isKey_130 : decode cX7_isKey 130 = .ok (.lload_n 0, 1) := dk_30 (dk_at dksX7_isKey_5 11 rfl rfl)
theorem dX7_isKey_131 : decode cX7_isKey 131 = .ok (.ldc2_w 277, 3) := dk_20 1 21 (dk_at dksX7_isKey_5 12 rfl rfl)
theorem dX7_isKey_134 : decode cX7_isKey 134 = .ok (.lcmp, 1) := dk_148 (dk_at dksX7_isKey_5 15 rfl rfl)
theorem dX7_isKey_135 : decode cX7_isKey 135 = .ok (.ifCond .eq 19, 3) := dk_153 0 19 (dk_at dksX7_isKey_5 16 rfl rfl)
theorem dX7_isKey_138 : decode cX7_isKey 138 = .ok (.lload_n 0, 1) := dk_30 (dk_at dksX7_isKey_5 19 rfl rfl)
theorem dX7_isKey_139 : decode cX7_isKey 139 = .ok (.ldc2_w 279, 3) := dk_20 1 23 (dk_at dksX7_isKey_5 20 rfl rfl)
theorem dX7_isKey_142 : decode cX7_isKey 142 = .ok (.lcmp, 1) := dk_148 (dk_at dksX7_isKey_5 23 rfl rfl)
theorem dX7_isKey_143 : decode cX7_isKey 143 = .ok (.ifCond .eq 11, 3) := dk_153 0 11 (dk_at dksX7_isKey_6 0 rfl rfl)
theorem dX7_isKey_146 : decode cX7_isKey 146 = .ok (.lload_n 0, 1) := dk_30 (dk_at dksX7_isKey_6 3 rfl rfl)
theorem dX7_isKey_147 : decode cX7_isKey 147 = .ok (.ldc2_w 281, 3) := dk_20 1 25 (dk_at dksX7_isKey_6 4 rfl rfl)
theorem dX7_isKey_150 : decode cX7_isKey 150 = .ok (.lcmp, 1) := dk_148 (dk_at dksX7_isKey_6 7 rfl rfl)
theorem dX7_isKey_151 : decode cX7_isKey 151 = .ok (.ifCond .ne 7, 3) := dk_154 0 7 (dk_at dksX7_isKey_6 8 rfl rfl)
theorem dX7_isKey_154 : decode cX7_isKey 154 = .ok (.iconst 1, 1) := dk_4 (dk_at dksX7_isKey_6 11 rfl rfl)
theorem dX7_isKey_155 : decode cX7_isKey 155 = .ok (.goto 4, 3) := dk_167 0 4 (dk_at dksX7_isKey_6 12 rfl rfl)
theorem dX7_isKey_158 : decode cX7_isKey 158 = .ok (.iconst 0, 1) := dk_3 (dk_at dksX7_isKey_6 15 rfl rfl)
theorem dX7_isKey_159 : decode cX7_isKey 159 = .ok (.ireturn, 1) := dk_172 (dk_at dksX7_isKey_6 16 rfl rfl)
abbrev cX7_nextInt : ByteArray := prog_13_method_39_code
def yX7_nextInt : MethodName := ⟨RX7, "nextInt", "()V"⟩
def dkwX7_nextInt_4 : List UInt8 := [181, 1, 47, 177]
abbrev dktX7_nextInt_4 : List UInt8 := dkwX7_nextInt_4 ++ []
def dkwX7_nextInt_3 : List UInt8 := [167, 255, 191, 42, 42, 180, 0, 241, 42, 180, 1, 38, 100, 8, 162, 0, 7, 6, 167, 0, 4, 8]
abbrev dktX7_nextInt_3 : List UInt8 := dkwX7_nextInt_3 ++ dktX7_nextInt_4
def dkwX7_nextInt_2 : List UInt8 := [96, 16, 48, 100, 167, 0, 7, 42, 180, 1, 50, 181, 1, 50, 42, 89, 180, 0, 241, 4, 96, 181, 0, 241]
abbrev dktX7_nextInt_2 : List UInt8 := dkwX7_nextInt_2 ++ dktX7_nextInt_3
def dkwX7_nextInt_1 : List UInt8 := [180, 1, 38, 100, 7, 162, 0, 26, 16, 10, 42, 180, 1, 50, 104, 42, 180, 0, 7, 42, 180, 0, 241, 51]
abbrev dktX7_nextInt_1 : List UInt8 := dkwX7_nextInt_1 ++ dktX7_nextInt_2
def dkwX7_nextInt_0 : List UInt8 := [42, 3, 181, 1, 50, 42, 16, 48, 16, 57, 182, 1, 34, 153, 0, 60, 42, 42, 180, 0, 241, 42]
abbrev dktX7_nextInt_0 : List UInt8 := dkwX7_nextInt_0 ++ dktX7_nextInt_1
theorem dksX7_nextInt_0 : cX7_nextInt.data.toList.drop 0 = dktX7_nextInt_0 := by decide +kernel
theorem dksX7_nextInt_1 : cX7_nextInt.data.toList.drop 22 = dktX7_nextInt_1 := dk_seg dksX7_nextInt_0 22 rfl rfl
theorem dksX7_nextInt_2 : cX7_nextInt.data.toList.drop 46 = dktX7_nextInt_2 := dk_seg dksX7_nextInt_1 24 rfl rfl
theorem dksX7_nextInt_3 : cX7_nextInt.data.toList.drop 70 = dktX7_nextInt_3 := dk_seg dksX7_nextInt_2 24 rfl rfl
theorem dksX7_nextInt_4 : cX7_nextInt.data.toList.drop 92 = dktX7_nextInt_4 := dk_seg dksX7_nextInt_3 22 rfl rfl
theorem dX7_nextInt_0 : decode cX7_nextInt 0 = .ok (.aload_n 0, 1) := dk_42 (dk_at dksX7_nextInt_0 0 rfl rfl)
theorem dX7_nextInt_1 : decode cX7_nextInt 1 = .ok (.iconst 0, 1) := dk_3 (dk_at dksX7_nextInt_0 1 rfl rfl)
theorem dX7_nextInt_2 : decode cX7_nextInt 2 = .ok (.putfield 306, 3) := dk_181 1 50 (dk_at dksX7_nextInt_0 2 rfl rfl)
theorem dX7_nextInt_5 : decode cX7_nextInt 5 = .ok (.aload_n 0, 1) := dk_42 (dk_at dksX7_nextInt_0 5 rfl rfl)
theorem dX7_nextInt_6 : decode cX7_nextInt 6 = .ok (.bipush 48, 2) := dk_16 48 (dk_at dksX7_nextInt_0 6 rfl rfl)
theorem dX7_nextInt_8 : decode cX7_nextInt 8 = .ok (.bipush 57, 2) := dk_16 57 (dk_at dksX7_nextInt_0 8 rfl rfl)
theorem dX7_nextInt_10 : decode cX7_nextInt 10 = .ok (.invokevirtual 290, 3) := dk_182 1 34 (dk_at dksX7_nextInt_0 10 rfl rfl)
theorem dX7_nextInt_13 : decode cX7_nextInt 13 = .ok (.ifCond .eq 60, 3) := dk_153 0 60 (dk_at dksX7_nextInt_0 13 rfl rfl)
theorem dX7_nextInt_16 : decode cX7_nextInt 16 = .ok (.aload_n 0, 1) := dk_42 (dk_at dksX7_nextInt_0 16 rfl rfl)
theorem dX7_nextInt_17 : decode cX7_nextInt 17 = .ok (.aload_n 0, 1) := dk_42 (dk_at dksX7_nextInt_0 17 rfl rfl)
theorem dX7_nextInt_18 : decode cX7_nextInt 18 = .ok (.getfield 241, 3) := dk_180 0 241 (dk_at dksX7_nextInt_0 18 rfl rfl)
theorem dX7_nextInt_21 : decode cX7_nextInt 21 = .ok (.aload_n 0, 1) := dk_42 (dk_at dksX7_nextInt_0 21 rfl rfl)
theorem dX7_nextInt_22 : decode cX7_nextInt 22 = .ok (.getfield 294, 3) := dk_180 1 38 (dk_at dksX7_nextInt_1 0 rfl rfl)
theorem dX7_nextInt_25 : decode cX7_nextInt 25 = .ok (.isub, 1) := dk_100 (dk_at dksX7_nextInt_1 3 rfl rfl)
theorem dX7_nextInt_26 : decode cX7_nextInt 26 = .ok (.iconst 4, 1) := dk_7 (dk_at dksX7_nextInt_1 4 rfl rfl)
theorem dX7_nextInt_27 : decode cX7_nextInt 27 = .ok (.if_icmp .ge 26, 3) := dk_162 0 26 (dk_at dksX7_nextInt_1 5 rfl rfl)
theorem dX7_nextInt_30 : decode cX7_nextInt 30 = .ok (.bipush 10, 2) := dk_16 10 (dk_at dksX7_nextInt_1 8 rfl rfl)
theorem dX7_nextInt_32 : decode cX7_nextInt 32 = .ok (.aload_n 0, 1) := dk_42 (dk_at dksX7_nextInt_1 10 rfl rfl)
theorem dX7_nextInt_33 : decode cX7_nextInt 33 = .ok (.getfield 306, 3) := dk_180 1 50 (dk_at dksX7_nextInt_1 11 rfl rfl)
theorem dX7_nextInt_36 : decode cX7_nextInt 36 = .ok (.imul, 1) := dk_104 (dk_at dksX7_nextInt_1 14 rfl rfl)
theorem dX7_nextInt_37 : decode cX7_nextInt 37 = .ok (.aload_n 0, 1) := dk_42 (dk_at dksX7_nextInt_1 15 rfl rfl)
theorem dX7_nextInt_38 : decode cX7_nextInt 38 = .ok (.getfield 7, 3) := dk_180 0 7 (dk_at dksX7_nextInt_1 16 rfl rfl)
theorem dX7_nextInt_41 : decode cX7_nextInt 41 = .ok (.aload_n 0, 1) := dk_42 (dk_at dksX7_nextInt_1 19 rfl rfl)
theorem dX7_nextInt_42 : decode cX7_nextInt 42 = .ok (.getfield 241, 3) := dk_180 0 241 (dk_at dksX7_nextInt_1 20 rfl rfl)
theorem dX7_nextInt_45 : decode cX7_nextInt 45 = .ok (.baload, 1) := dk_51 (dk_at dksX7_nextInt_1 23 rfl rfl)
theorem dX7_nextInt_46 : decode cX7_nextInt 46 = .ok (.iadd, 1) := dk_96 (dk_at dksX7_nextInt_2 0 rfl rfl)
theorem dX7_nextInt_47 : decode cX7_nextInt 47 = .ok (.bipush 48, 2) := dk_16 48 (dk_at dksX7_nextInt_2 1 rfl rfl)
theorem dX7_nextInt_49 : decode cX7_nextInt 49 = .ok (.isub, 1) := dk_100 (dk_at dksX7_nextInt_2 3 rfl rfl)
theorem dX7_nextInt_50 : decode cX7_nextInt 50 = .ok (.goto 7, 3) := dk_167 0 7 (dk_at dksX7_nextInt_2 4 rfl rfl)
theorem dX7_nextInt_53 : decode cX7_nextInt 53 = .ok (.aload_n 0, 1) := dk_42 (dk_at dksX7_nextInt_2 7 rfl rfl)
theorem dX7_nextInt_54 : decode cX7_nextInt 54 = .ok (.getfield 306, 3) := dk_180 1 50 (dk_at dksX7_nextInt_2 8 rfl rfl)
theorem dX7_nextInt_57 : decode cX7_nextInt 57 = .ok (.putfield 306, 3) := dk_181 1 50 (dk_at dksX7_nextInt_2 11 rfl rfl)
theorem dX7_nextInt_60 : decode cX7_nextInt 60 = .ok (.aload_n 0, 1) := dk_42 (dk_at dksX7_nextInt_2 14 rfl rfl)
theorem dX7_nextInt_61 : decode cX7_nextInt 61 = .ok (.dup, 1) := dk_89 (dk_at dksX7_nextInt_2 15 rfl rfl)
theorem dX7_nextInt_62 : decode cX7_nextInt 62 = .ok (.getfield 241, 3) := dk_180 0 241 (dk_at dksX7_nextInt_2 16 rfl rfl)
theorem dX7_nextInt_65 : decode cX7_nextInt 65 = .ok (.iconst 1, 1) := dk_4 (dk_at dksX7_nextInt_2 19 rfl rfl)
theorem dX7_nextInt_66 : decode cX7_nextInt 66 = .ok (.iadd, 1) := dk_96 (dk_at dksX7_nextInt_2 20 rfl rfl)
theorem dX7_nextInt_67 : decode cX7_nextInt 67 = .ok (.putfield 241, 3) := dk_181 0 241 (dk_at dksX7_nextInt_2 21 rfl rfl)
theorem dX7_nextInt_70 : decode cX7_nextInt 70 = .ok (.goto (-65), 3) := dk_167 255 191 (dk_at dksX7_nextInt_3 0 rfl rfl)
theorem dX7_nextInt_73 : decode cX7_nextInt 73 = .ok (.aload_n 0, 1) := dk_42 (dk_at dksX7_nextInt_3 3 rfl rfl)
theorem dX7_nextInt_74 : decode cX7_nextInt 74 = .ok (.aload_n 0, 1) := dk_42 (dk_at dksX7_nextInt_3 4 rfl rfl)
theorem dX7_nextInt_75 : decode cX7_nextInt 75 = .ok (.getfield 241, 3) := dk_180 0 241 (dk_at dksX7_nextInt_3 5 rfl rfl)
theorem dX7_nextInt_78 : decode cX7_nextInt 78 = .ok (.aload_n 0, 1) := dk_42 (dk_at dksX7_nextInt_3 8 rfl rfl)
theorem dX7_nextInt_79 : decode cX7_nextInt 79 = .ok (.getfield 294, 3) := dk_180 1 38 (dk_at dksX7_nextInt_3 9 rfl rfl)
theorem dX7_nextInt_82 : decode cX7_nextInt 82 = .ok (.isub, 1) := dk_100 (dk_at dksX7_nextInt_3 12 rfl rfl)
theorem dX7_nextInt_83 : decode cX7_nextInt 83 = .ok (.iconst 5, 1) := dk_8 (dk_at dksX7_nextInt_3 13 rfl rfl)
theorem dX7_nextInt_84 : decode cX7_nextInt 84 = .ok (.if_icmp .ge 7, 3) := dk_162 0 7 (dk_at dksX7_nextInt_3 14 rfl rfl)
theorem dX7_nextInt_87 : decode cX7_nextInt 87 = .ok (.iconst 3, 1) := dk_6 (dk_at dksX7_nextInt_3 17 rfl rfl)
theorem dX7_nextInt_88 : decode cX7_nextInt 88 = .ok (.goto 4, 3) := dk_167 0 4 (dk_at dksX7_nextInt_3 18 rfl rfl)
theorem dX7_nextInt_91 : decode cX7_nextInt 91 = .ok (.iconst 5, 1) := dk_8 (dk_at dksX7_nextInt_3 21 rfl rfl)
theorem dX7_nextInt_92 : decode cX7_nextInt 92 = .ok (.putfield 303, 3) := dk_181 1 47 (dk_at dksX7_nextInt_4 0 rfl rfl)
theorem dX7_nextInt_95 : decode cX7_nextInt 95 = .ok (.return_, 1) := dk_177 (dk_at dksX7_nextInt_4 3 rfl rfl)
abbrev cX7_readNumbers : ByteArray := prog_13_method_46_code
def yX7_readNumbers : MethodName := ⟨RX7, "readNumbers", "()V"⟩
def dkwX7_readNumbers_6 : List UInt8 := [42, 180, 1, 47, 7, 160, 0, 7, 4, 167, 0, 4, 3, 182, 1, 66, 177]
abbrev dktX7_readNumbers_6 : List UInt8 := dkwX7_readNumbers_6 ++ []
def dkwX7_readNumbers_5 : List UInt8 := [17, 39, 15, 182, 1, 79, 79, 42, 180, 0, 80, 16, 7, 42, 20, 1, 5, 3, 6, 182, 1, 79, 79, 42]
abbrev dktX7_readNumbers_5 : List UInt8 := dkwX7_readNumbers_5 ++ dktX7_readNumbers_6
def dkwX7_readNumbers_4 : List UInt8 := [20, 1, 1, 16, 60, 17, 39, 15, 182, 1, 79, 79, 42, 180, 0, 80, 16, 6, 42, 20, 1, 3, 16, 60]
abbrev dktX7_readNumbers_4 : List UInt8 := dkwX7_readNumbers_4 ++ dktX7_readNumbers_5
def dkwX7_readNumbers_3 : List UInt8 := [180, 0, 80, 7, 42, 20, 0, 255, 3, 17, 3, 132, 182, 1, 79, 79, 42, 180, 0, 80, 8, 42]
abbrev dktX7_readNumbers_3 : List UInt8 := dkwX7_readNumbers_3 ++ dktX7_readNumbers_4
def dkwX7_readNumbers_2 : List UInt8 := [182, 1, 79, 79, 42, 180, 0, 80, 6, 42, 20, 0, 253, 16, 30, 17, 14, 16, 182, 1, 79, 79, 42]
abbrev dktX7_readNumbers_2 : List UInt8 := dkwX7_readNumbers_2 ++ dktX7_readNumbers_3
def dkwX7_readNumbers_1 : List UInt8 := [20, 0, 249, 3, 16, 9, 182, 1, 79, 79, 42, 180, 0, 80, 5, 42, 20, 0, 251, 3, 16, 9]
abbrev dktX7_readNumbers_1 : List UInt8 := dkwX7_readNumbers_1 ++ dktX7_readNumbers_2
def dkwX7_readNumbers_0 : List UInt8 := [42, 180, 0, 80, 3, 42, 20, 0, 247, 3, 16, 60, 182, 1, 79, 79, 42, 180, 0, 80, 4, 42]
abbrev dktX7_readNumbers_0 : List UInt8 := dkwX7_readNumbers_0 ++ dktX7_readNumbers_1
theorem dksX7_readNumbers_0 : cX7_readNumbers.data.toList.drop 0 = dktX7_readNumbers_0 := by decide +kernel
theorem dksX7_readNumbers_1 : cX7_readNumbers.data.toList.drop 22 = dktX7_readNumbers_1 := dk_seg dksX7_readNumbers_0 22 rfl rfl
theorem dksX7_readNumbers_2 : cX7_readNumbers.data.toList.drop 44 = dktX7_readNumbers_2 := dk_seg dksX7_readNumbers_1 22 rfl rfl
theorem dksX7_readNumbers_3 : cX7_readNumbers.data.toList.drop 67 = dktX7_readNumbers_3 := dk_seg dksX7_readNumbers_2 23 rfl rfl
theorem dksX7_readNumbers_4 : cX7_readNumbers.data.toList.drop 89 = dktX7_readNumbers_4 := dk_seg dksX7_readNumbers_3 22 rfl rfl
theorem dksX7_readNumbers_5 : cX7_readNumbers.data.toList.drop 113 = dktX7_readNumbers_5 := dk_seg dksX7_readNumbers_4 24 rfl rfl
theorem dksX7_readNumbers_6 : cX7_readNumbers.data.toList.drop 137 = dktX7_readNumbers_6 := dk_seg dksX7_readNumbers_5 24 rfl rfl
theorem dX7_readNumbers_0 : decode cX7_readNumbers 0 = .ok (.aload_n 0, 1) := dk_42 (dk_at dksX7_readNumbers_0 0 rfl rfl)
theorem dX7_readNumbers_1 : decode cX7_readNumbers 1 = .ok (.getfield 80, 3) := dk_180 0 80 (dk_at dksX7_readNumbers_0 1 rfl rfl)
theorem dX7_readNumbers_4 : decode cX7_readNumbers 4 = .ok (.iconst 0, 1) := dk_3 (dk_at dksX7_readNumbers_0 4 rfl rfl)
theorem dX7_readNumbers_5 : decode cX7_readNumbers 5 = .ok (.aload_n 0, 1) := dk_42 (dk_at dksX7_readNumbers_0 5 rfl rfl)
theorem dX7_readNumbers_6 : decode cX7_readNumbers 6 = .ok (.ldc2_w 247, 3) := dk_20 0 247 (dk_at dksX7_readNumbers_0 6 rfl rfl)
theorem dX7_readNumbers_9 : decode cX7_readNumbers 9 = .ok (.iconst 0, 1) := dk_3 (dk_at dksX7_readNumbers_0 9 rfl rfl)
theorem dX7_readNumbers_10 : decode cX7_readNumbers 10 = .ok (.bipush 60, 2) := dk_16 60 (dk_at dksX7_readNumbers_0 10 rfl rfl)
theorem dX7_readNumbers_12 : decode cX7_readNumbers 12 = .ok (.invokevirtual 335, 3) := dk_182 1 79 (dk_at dksX7_readNumbers_0 12 rfl rfl)
theorem dX7_readNumbers_15 : decode cX7_readNumbers 15 = .ok (.iastore, 1) := dk_79 (dk_at dksX7_readNumbers_0 15 rfl rfl)
theorem dX7_readNumbers_16 : decode cX7_readNumbers 16 = .ok (.aload_n 0, 1) := dk_42 (dk_at dksX7_readNumbers_0 16 rfl rfl)
theorem dX7_readNumbers_17 : decode cX7_readNumbers 17 = .ok (.getfield 80, 3) := dk_180 0 80 (dk_at dksX7_readNumbers_0 17 rfl rfl)
theorem dX7_readNumbers_20 : decode cX7_readNumbers 20 = .ok (.iconst 1, 1) := dk_4 (dk_at dksX7_readNumbers_0 20 rfl rfl)
theorem dX7_readNumbers_21 : decode cX7_readNumbers 21 = .ok (.aload_n 0, 1) := dk_42 (dk_at dksX7_readNumbers_0 21 rfl rfl)
theorem dX7_readNumbers_22 : decode cX7_readNumbers 22 = .ok (.ldc2_w 249, 3) := dk_20 0 249 (dk_at dksX7_readNumbers_1 0 rfl rfl)
theorem dX7_readNumbers_25 : decode cX7_readNumbers 25 = .ok (.iconst 0, 1) := dk_3 (dk_at dksX7_readNumbers_1 3 rfl rfl)
theorem dX7_readNumbers_26 : decode cX7_readNumbers 26 = .ok (.bipush 9, 2) := dk_16 9 (dk_at dksX7_readNumbers_1 4 rfl rfl)
theorem dX7_readNumbers_28 : decode cX7_readNumbers 28 = .ok (.invokevirtual 335, 3) := dk_182 1 79 (dk_at dksX7_readNumbers_1 6 rfl rfl)
theorem dX7_readNumbers_31 : decode cX7_readNumbers 31 = .ok (.iastore, 1) := dk_79 (dk_at dksX7_readNumbers_1 9 rfl rfl)
theorem dX7_readNumbers_32 : decode cX7_readNumbers 32 = .ok (.aload_n 0, 1) := dk_42 (dk_at dksX7_readNumbers_1 10 rfl rfl)
theorem dX7_readNumbers_33 : decode cX7_readNumbers 33 = .ok (.getfield 80, 3) := dk_180 0 80 (dk_at dksX7_readNumbers_1 11 rfl rfl)
theorem dX7_readNumbers_36 : decode cX7_readNumbers 36 = .ok (.iconst 2, 1) := dk_5 (dk_at dksX7_readNumbers_1 14 rfl rfl)
theorem dX7_readNumbers_37 : decode cX7_readNumbers 37 = .ok (.aload_n 0, 1) := dk_42 (dk_at dksX7_readNumbers_1 15 rfl rfl)
theorem dX7_readNumbers_38 : decode cX7_readNumbers 38 = .ok (.ldc2_w 251, 3) := dk_20 0 251 (dk_at dksX7_readNumbers_1 16 rfl rfl)
theorem dX7_readNumbers_41 : decode cX7_readNumbers 41 = .ok (.iconst 0, 1) := dk_3 (dk_at dksX7_readNumbers_1 19 rfl rfl)
theorem dX7_readNumbers_42 : decode cX7_readNumbers 42 = .ok (.bipush 9, 2) := dk_16 9 (dk_at dksX7_readNumbers_1 20 rfl rfl)
theorem dX7_readNumbers_44 : decode cX7_readNumbers 44 = .ok (.invokevirtual 335, 3) := dk_182 1 79 (dk_at dksX7_readNumbers_2 0 rfl rfl)
theorem dX7_readNumbers_47 : decode cX7_readNumbers 47 = .ok (.iastore, 1) := dk_79 (dk_at dksX7_readNumbers_2 3 rfl rfl)
theorem dX7_readNumbers_48 : decode cX7_readNumbers 48 = .ok (.aload_n 0, 1) := dk_42 (dk_at dksX7_readNumbers_2 4 rfl rfl)
theorem dX7_readNumbers_49 : decode cX7_readNumbers 49 = .ok (.getfield 80, 3) := dk_180 0 80 (dk_at dksX7_readNumbers_2 5 rfl rfl)
theorem dX7_readNumbers_52 : decode cX7_readNumbers 52 = .ok (.iconst 3, 1) := dk_6 (dk_at dksX7_readNumbers_2 8 rfl rfl)
theorem dX7_readNumbers_53 : decode cX7_readNumbers 53 = .ok (.aload_n 0, 1) := dk_42 (dk_at dksX7_readNumbers_2 9 rfl rfl)
theorem dX7_readNumbers_54 : decode cX7_readNumbers 54 = .ok (.ldc2_w 253, 3) := dk_20 0 253 (dk_at dksX7_readNumbers_2 10 rfl rfl)
theorem dX7_readNumbers_57 : decode cX7_readNumbers 57 = .ok (.bipush 30, 2) := dk_16 30 (dk_at dksX7_readNumbers_2 13 rfl rfl)
theorem dX7_readNumbers_59 : decode cX7_readNumbers 59 = .ok (.sipush 3600, 3) := dk_17 14 16 (dk_at dksX7_readNumbers_2 15 rfl rfl)
theorem dX7_readNumbers_62 : decode cX7_readNumbers 62 = .ok (.invokevirtual 335, 3) := dk_182 1 79 (dk_at dksX7_readNumbers_2 18 rfl rfl)
theorem dX7_readNumbers_65 : decode cX7_readNumbers 65 = .ok (.iastore, 1) := dk_79 (dk_at dksX7_readNumbers_2 21 rfl rfl)
theorem dX7_readNumbers_66 : decode cX7_readNumbers 66 = .ok (.aload_n 0, 1) := dk_42 (dk_at dksX7_readNumbers_2 22 rfl rfl)
theorem dX7_readNumbers_67 : decode cX7_readNumbers 67 = .ok (.getfield 80, 3) := dk_180 0 80 (dk_at dksX7_readNumbers_3 0 rfl rfl)
theorem dX7_readNumbers_70 : decode cX7_readNumbers 70 = .ok (.iconst 4, 1) := dk_7 (dk_at dksX7_readNumbers_3 3 rfl rfl)
theorem dX7_readNumbers_71 : decode cX7_readNumbers 71 = .ok (.aload_n 0, 1) := dk_42 (dk_at dksX7_readNumbers_3 4 rfl rfl)
theorem dX7_readNumbers_72 : decode cX7_readNumbers 72 = .ok (.ldc2_w 255, 3) := dk_20 0 255 (dk_at dksX7_readNumbers_3 5 rfl rfl)
theorem dX7_readNumbers_75 : decode cX7_readNumbers 75 = .ok (.iconst 0, 1) := dk_3 (dk_at dksX7_readNumbers_3 8 rfl rfl)
theorem dX7_readNumbers_76 : decode cX7_readNumbers 76 = .ok (.sipush 900, 3) := dk_17 3 132 (dk_at dksX7_readNumbers_3 9 rfl rfl)
theorem dX7_readNumbers_79 : decode cX7_readNumbers 79 = .ok (.invokevirtual 335, 3) := dk_182 1 79 (dk_at dksX7_readNumbers_3 12 rfl rfl)
theorem dX7_readNumbers_82 : decode cX7_readNumbers 82 = .ok (.iastore, 1) := dk_79 (dk_at dksX7_readNumbers_3 15 rfl rfl)
theorem dX7_readNumbers_83 : decode cX7_readNumbers 83 = .ok (.aload_n 0, 1) := dk_42 (dk_at dksX7_readNumbers_3 16 rfl rfl)
theorem dX7_readNumbers_84 : decode cX7_readNumbers 84 = .ok (.getfield 80, 3) := dk_180 0 80 (dk_at dksX7_readNumbers_3 17 rfl rfl)
theorem dX7_readNumbers_87 : decode cX7_readNumbers 87 = .ok (.iconst 5, 1) := dk_8 (dk_at dksX7_readNumbers_3 20 rfl rfl)
theorem dX7_readNumbers_88 : decode cX7_readNumbers 88 = .ok (.aload_n 0, 1) := dk_42 (dk_at dksX7_readNumbers_3 21 rfl rfl)
theorem dX7_readNumbers_89 : decode cX7_readNumbers 89 = .ok (.ldc2_w 257, 3) := dk_20 1 1 (dk_at dksX7_readNumbers_4 0 rfl rfl)
theorem dX7_readNumbers_92 : decode cX7_readNumbers 92 = .ok (.bipush 60, 2) := dk_16 60 (dk_at dksX7_readNumbers_4 3 rfl rfl)
theorem dX7_readNumbers_94 : decode cX7_readNumbers 94 = .ok (.sipush 9999, 3) := dk_17 39 15 (dk_at dksX7_readNumbers_4 5 rfl rfl)
theorem dX7_readNumbers_97 : decode cX7_readNumbers 97 = .ok (.invokevirtual 335, 3) := dk_182 1 79 (dk_at dksX7_readNumbers_4 8 rfl rfl)
theorem dX7_readNumbers_100 : decode cX7_readNumbers 100 = .ok (.iastore, 1) := dk_79 (dk_at dksX7_readNumbers_4 11 rfl rfl)
theorem dX7_readNumbers_101 : decode cX7_readNumbers 101 = .ok (.aload_n 0, 1) := dk_42 (dk_at dksX7_readNumbers_4 12 rfl rfl)
theorem dX7_readNumbers_102 : decode cX7_readNumbers 102 = .ok (.getfield 80, 3) := dk_180 0 80 (dk_at dksX7_readNumbers_4 13 rfl rfl)
theorem dX7_readNumbers_105 : decode cX7_readNumbers 105 = .ok (.bipush 6, 2) := dk_16 6 (dk_at dksX7_readNumbers_4 16 rfl rfl)
theorem dX7_readNumbers_107 : decode cX7_readNumbers 107 = .ok (.aload_n 0, 1) := dk_42 (dk_at dksX7_readNumbers_4 18 rfl rfl)
theorem dX7_readNumbers_108 : decode cX7_readNumbers 108 = .ok (.ldc2_w 259, 3) := dk_20 1 3 (dk_at dksX7_readNumbers_4 19 rfl rfl)
theorem dX7_readNumbers_111 : decode cX7_readNumbers 111 = .ok (.bipush 60, 2) := dk_16 60 (dk_at dksX7_readNumbers_4 22 rfl rfl)
theorem dX7_readNumbers_113 : decode cX7_readNumbers 113 = .ok (.sipush 9999, 3) := dk_17 39 15 (dk_at dksX7_readNumbers_5 0 rfl rfl)
theorem dX7_readNumbers_116 : decode cX7_readNumbers 116 = .ok (.invokevirtual 335, 3) := dk_182 1 79 (dk_at dksX7_readNumbers_5 3 rfl rfl)
theorem dX7_readNumbers_119 : decode cX7_readNumbers 119 = .ok (.iastore, 1) := dk_79 (dk_at dksX7_readNumbers_5 6 rfl rfl)
theorem dX7_readNumbers_120 : decode cX7_readNumbers 120 = .ok (.aload_n 0, 1) := dk_42 (dk_at dksX7_readNumbers_5 7 rfl rfl)
theorem dX7_readNumbers_121 : decode cX7_readNumbers 121 = .ok (.getfield 80, 3) := dk_180 0 80 (dk_at dksX7_readNumbers_5 8 rfl rfl)
theorem dX7_readNumbers_124 : decode cX7_readNumbers 124 = .ok (.bipush 7, 2) := dk_16 7 (dk_at dksX7_readNumbers_5 11 rfl rfl)
theorem dX7_readNumbers_126 : decode cX7_readNumbers 126 = .ok (.aload_n 0, 1) := dk_42 (dk_at dksX7_readNumbers_5 13 rfl rfl)
theorem dX7_readNumbers_127 : decode cX7_readNumbers 127 = .ok (.ldc2_w 261, 3) := dk_20 1 5 (dk_at dksX7_readNumbers_5 14 rfl rfl)
theorem dX7_readNumbers_130 : decode cX7_readNumbers 130 = .ok (.iconst 0, 1) := dk_3 (dk_at dksX7_readNumbers_5 17 rfl rfl)
theorem dX7_readNumbers_131 : decode cX7_readNumbers 131 = .ok (.iconst 3, 1) := dk_6 (dk_at dksX7_readNumbers_5 18 rfl rfl)
theorem dX7_readNumbers_132 : decode cX7_readNumbers 132 = .ok (.invokevirtual 335, 3) := dk_182 1 79 (dk_at dksX7_readNumbers_5 19 rfl rfl)
theorem dX7_readNumbers_135 : decode cX7_readNumbers 135 = .ok (.iastore, 1) := dk_79 (dk_at dksX7_readNumbers_5 22 rfl rfl)
theorem dX7_readNumbers_136 : decode cX7_readNumbers 136 = .ok (.aload_n 0, 1) := dk_42 (dk_at dksX7_readNumbers_5 23 rfl rfl)
theorem dX7_readNumbers_137 : decode cX7_readNumbers 137 = .ok (.aload_n 0, 1) := dk_42 (dk_at dksX7_readNumbers_6 0 rfl rfl)
theorem dX7_readNumbers_138 : decode cX7_readNumbers 138 = .ok (.getfield 303, 3) := dk_180 1 47 (dk_at dksX7_readNumbers_6 1 rfl rfl)
theorem dX7_readNumbers_141 : decode cX7_readNumbers 141 = .ok (.iconst 4, 1) := dk_7 (dk_at dksX7_readNumbers_6 4 rfl rfl)
theorem dX7_readNumbers_142 : decode cX7_readNumbers 142 = .ok (.if_icmp .ne 7, 3) := dk_160 0 7 (dk_at dksX7_readNumbers_6 5 rfl rfl)
theorem dX7_readNumbers_145 : decode cX7_readNumbers 145 = .ok (.iconst 1, 1) := dk_4 (dk_at dksX7_readNumbers_6 8 rfl rfl)
theorem dX7_readNumbers_146 : decode cX7_readNumbers 146 = .ok (.goto 4, 3) := dk_167 0 4 (dk_at dksX7_readNumbers_6 9 rfl rfl)
theorem dX7_readNumbers_149 : decode cX7_readNumbers 149 = .ok (.iconst 0, 1) := dk_3 (dk_at dksX7_readNumbers_6 12 rfl rfl)
theorem dX7_readNumbers_150 : decode cX7_readNumbers 150 = .ok (.invokevirtual 322, 3) := dk_182 1 66 (dk_at dksX7_readNumbers_6 13 rfl rfl)
theorem dX7_readNumbers_153 : decode cX7_readNumbers 153 = .ok (.return_, 1) := dk_177 (dk_at dksX7_readNumbers_6 16 rfl rfl)
abbrev cX7_numberOf : ByteArray := prog_13_method_44_code
def yX7_numberOf : MethodName := ⟨RX7, "numberOf", "(JII)I"⟩
def dkwX7_numberOf_0 : List UInt8 := [42, 42, 31, 182, 1, 70, 182, 1, 66, 42, 29, 21, 4, 182, 1, 73, 172]
abbrev dktX7_numberOf_0 : List UInt8 := dkwX7_numberOf_0 ++ []
theorem dksX7_numberOf_0 : cX7_numberOf.data.toList.drop 0 = dktX7_numberOf_0 := by decide +kernel
theorem dX7_numberOf_0 : decode cX7_numberOf 0 = .ok (.aload_n 0, 1) := dk_42 (dk_at dksX7_numberOf_0 0 rfl rfl)
theorem dX7_numberOf_1 : decode cX7_numberOf 1 = .ok (.aload_n 0, 1) := dk_42 (dk_at dksX7_numberOf_0 1 rfl rfl)
theorem dX7_numberOf_2 : decode cX7_numberOf 2 = .ok (.lload_n 1, 1) := dk_31 (dk_at dksX7_numberOf_0 2 rfl rfl)
theorem dX7_numberOf_3 : decode cX7_numberOf 3 = .ok (.invokevirtual 326, 3) := dk_182 1 70 (dk_at dksX7_numberOf_0 3 rfl rfl)
theorem dX7_numberOf_6 : decode cX7_numberOf 6 = .ok (.invokevirtual 322, 3) := dk_182 1 66 (dk_at dksX7_numberOf_0 6 rfl rfl)
theorem dX7_numberOf_9 : decode cX7_numberOf 9 = .ok (.aload_n 0, 1) := dk_42 (dk_at dksX7_numberOf_0 9 rfl rfl)
theorem dX7_numberOf_10 : decode cX7_numberOf 10 = .ok (.iload_n 3, 1) := dk_29 (dk_at dksX7_numberOf_0 10 rfl rfl)
theorem dX7_numberOf_11 : decode cX7_numberOf 11 = .ok (.iload 4, 2) := dk_21 4 (dk_at dksX7_numberOf_0 11 rfl rfl)
theorem dX7_numberOf_13 : decode cX7_numberOf 13 = .ok (.invokevirtual 329, 3) := dk_182 1 73 (dk_at dksX7_numberOf_0 13 rfl rfl)
theorem dX7_numberOf_16 : decode cX7_numberOf 16 = .ok (.ireturn, 1) := dk_172 (dk_at dksX7_numberOf_0 16 rfl rfl)
abbrev cX7_isWord : ByteArray := prog_13_method_42_code
def yX7_isWord : MethodName := ⟨RX7, "isWord", "(J)Z"⟩
def dkwX7_isWord_1 : List UInt8 := [4, 167, 0, 4, 3, 172]
abbrev dktX7_isWord_1 : List UInt8 := dkwX7_isWord_1 ++ []
def dkwX7_isWord_0 : List UInt8 := [42, 180, 1, 59, 153, 0, 24, 42, 180, 1, 47, 5, 160, 0, 16, 42, 180, 1, 27, 31, 148, 154, 0, 7]
abbrev dktX7_isWord_0 : List UInt8 := dkwX7_isWord_0 ++ dktX7_isWord_1
theorem dksX7_isWord_0 : cX7_isWord.data.toList.drop 0 = dktX7_isWord_0 := by decide +kernel
theorem dksX7_isWord_1 : cX7_isWord.data.toList.drop 24 = dktX7_isWord_1 := dk_seg dksX7_isWord_0 24 rfl rfl
theorem dX7_isWord_0 : decode cX7_isWord 0 = .ok (.aload_n 0, 1) := dk_42 (dk_at dksX7_isWord_0 0 rfl rfl)
theorem dX7_isWord_1 : decode cX7_isWord 1 = .ok (.getfield 315, 3) := dk_180 1 59 (dk_at dksX7_isWord_0 1 rfl rfl)
theorem dX7_isWord_4 : decode cX7_isWord 4 = .ok (.ifCond .eq 24, 3) := dk_153 0 24 (dk_at dksX7_isWord_0 4 rfl rfl)
theorem dX7_isWord_7 : decode cX7_isWord 7 = .ok (.aload_n 0, 1) := dk_42 (dk_at dksX7_isWord_0 7 rfl rfl)
theorem dX7_isWord_8 : decode cX7_isWord 8 = .ok (.getfield 303, 3) := dk_180 1 47 (dk_at dksX7_isWord_0 8 rfl rfl)
theorem dX7_isWord_11 : decode cX7_isWord 11 = .ok (.iconst 2, 1) := dk_5 (dk_at dksX7_isWord_0 11 rfl rfl)
theorem dX7_isWord_12 : decode cX7_isWord 12 = .ok (.if_icmp .ne 16, 3) := dk_160 0 16 (dk_at dksX7_isWord_0 12 rfl rfl)
theorem dX7_isWord_15 : decode cX7_isWord 15 = .ok (.aload_n 0, 1) := dk_42 (dk_at dksX7_isWord_0 15 rfl rfl)
theorem dX7_isWord_16 : decode cX7_isWord 16 = .ok (.getfield 283, 3) := dk_180 1 27 (dk_at dksX7_isWord_0 16 rfl rfl)
theorem dX7_isWord_19 : decode cX7_isWord 19 = .ok (.lload_n 1, 1) := dk_31 (dk_at dksX7_isWord_0 19 rfl rfl)
theorem dX7_isWord_20 : decode cX7_isWord 20 = .ok (.lcmp, 1) := dk_148 (dk_at dksX7_isWord_0 20 rfl rfl)
theorem dX7_isWord_21 : decode cX7_isWord 21 = .ok (.ifCond .ne 7, 3) := dk_154 0 7 (dk_at dksX7_isWord_0 21 rfl rfl)
theorem dX7_isWord_24 : decode cX7_isWord 24 = .ok (.iconst 1, 1) := dk_4 (dk_at dksX7_isWord_1 0 rfl rfl)
theorem dX7_isWord_25 : decode cX7_isWord 25 = .ok (.goto 4, 3) := dk_167 0 4 (dk_at dksX7_isWord_1 1 rfl rfl)
theorem dX7_isWord_28 : decode cX7_isWord 28 = .ok (.iconst 0, 1) := dk_3 (dk_at dksX7_isWord_1 4 rfl rfl)
theorem dX7_isWord_29 : decode cX7_isWord 29 = .ok (.ireturn, 1) := dk_172 (dk_at dksX7_isWord_1 5 rfl rfl)
abbrev cX7_takes : ByteArray := prog_13_method_41_code
def yX7_takes : MethodName := ⟨RX7, "takes", "(Z)V"⟩
def dkwX7_takes_1 : List UInt8 := [42, 180, 1, 59, 153, 0, 7, 42, 182, 1, 63, 177]
abbrev dktX7_takes_1 : List UInt8 := dkwX7_takes_1 ++ []
def dkwX7_takes_0 : List UInt8 := [42, 180, 1, 59, 153, 0, 20, 27, 154, 0, 16, 42, 3, 181, 1, 59, 42, 42, 180, 1, 38, 181, 0, 13]
abbrev dktX7_takes_0 : List UInt8 := dkwX7_takes_0 ++ dktX7_takes_1
theorem dksX7_takes_0 : cX7_takes.data.toList.drop 0 = dktX7_takes_0 := by decide +kernel
theorem dksX7_takes_1 : cX7_takes.data.toList.drop 24 = dktX7_takes_1 := dk_seg dksX7_takes_0 24 rfl rfl
theorem dX7_takes_0 : decode cX7_takes 0 = .ok (.aload_n 0, 1) := dk_42 (dk_at dksX7_takes_0 0 rfl rfl)
theorem dX7_takes_1 : decode cX7_takes 1 = .ok (.getfield 315, 3) := dk_180 1 59 (dk_at dksX7_takes_0 1 rfl rfl)
theorem dX7_takes_4 : decode cX7_takes 4 = .ok (.ifCond .eq 20, 3) := dk_153 0 20 (dk_at dksX7_takes_0 4 rfl rfl)
theorem dX7_takes_7 : decode cX7_takes 7 = .ok (.iload_n 1, 1) := dk_27 (dk_at dksX7_takes_0 7 rfl rfl)
theorem dX7_takes_8 : decode cX7_takes 8 = .ok (.ifCond .ne 16, 3) := dk_154 0 16 (dk_at dksX7_takes_0 8 rfl rfl)
theorem dX7_takes_11 : decode cX7_takes 11 = .ok (.aload_n 0, 1) := dk_42 (dk_at dksX7_takes_0 11 rfl rfl)
theorem dX7_takes_12 : decode cX7_takes 12 = .ok (.iconst 0, 1) := dk_3 (dk_at dksX7_takes_0 12 rfl rfl)
theorem dX7_takes_13 : decode cX7_takes 13 = .ok (.putfield 315, 3) := dk_181 1 59 (dk_at dksX7_takes_0 13 rfl rfl)
theorem dX7_takes_16 : decode cX7_takes 16 = .ok (.aload_n 0, 1) := dk_42 (dk_at dksX7_takes_0 16 rfl rfl)
theorem dX7_takes_17 : decode cX7_takes 17 = .ok (.aload_n 0, 1) := dk_42 (dk_at dksX7_takes_0 17 rfl rfl)
theorem dX7_takes_18 : decode cX7_takes 18 = .ok (.getfield 294, 3) := dk_180 1 38 (dk_at dksX7_takes_0 18 rfl rfl)
theorem dX7_takes_21 : decode cX7_takes 21 = .ok (.putfield 13, 3) := dk_181 0 13 (dk_at dksX7_takes_0 21 rfl rfl)
theorem dX7_takes_24 : decode cX7_takes 24 = .ok (.aload_n 0, 1) := dk_42 (dk_at dksX7_takes_1 0 rfl rfl)
theorem dX7_takes_25 : decode cX7_takes 25 = .ok (.getfield 315, 3) := dk_180 1 59 (dk_at dksX7_takes_1 1 rfl rfl)
theorem dX7_takes_28 : decode cX7_takes 28 = .ok (.ifCond .eq 7, 3) := dk_153 0 7 (dk_at dksX7_takes_1 4 rfl rfl)
theorem dX7_takes_31 : decode cX7_takes 31 = .ok (.aload_n 0, 1) := dk_42 (dk_at dksX7_takes_1 7 rfl rfl)
theorem dX7_takes_32 : decode cX7_takes 32 = .ok (.invokevirtual 319, 3) := dk_182 1 63 (dk_at dksX7_takes_1 8 rfl rfl)
theorem dX7_takes_35 : decode cX7_takes 35 = .ok (.return_, 1) := dk_177 (dk_at dksX7_takes_1 11 rfl rfl)
abbrev cX7_number : ByteArray := prog_13_method_43_code
def yX7_number : MethodName := ⟨RX7, "number", "(II)I"⟩
def dkwX7_number_1 : List UInt8 := [153, 0, 7, 4, 167, 0, 4, 3, 182, 1, 66, 29, 172]
abbrev dktX7_number_1 : List UInt8 := dkwX7_number_1 ++ []
def dkwX7_number_0 : List UInt8 := [42, 180, 1, 50, 62, 42, 42, 180, 1, 47, 6, 160, 0, 19, 29, 133, 27, 133, 28, 133, 184, 0, 146]
abbrev dktX7_number_0 : List UInt8 := dkwX7_number_0 ++ dktX7_number_1
theorem dksX7_number_0 : cX7_number.data.toList.drop 0 = dktX7_number_0 := by decide +kernel
theorem dksX7_number_1 : cX7_number.data.toList.drop 23 = dktX7_number_1 := dk_seg dksX7_number_0 23 rfl rfl
theorem dX7_number_0 : decode cX7_number 0 = .ok (.aload_n 0, 1) := dk_42 (dk_at dksX7_number_0 0 rfl rfl)
theorem dX7_number_1 : decode cX7_number 1 = .ok (.getfield 306, 3) := dk_180 1 50 (dk_at dksX7_number_0 1 rfl rfl)
theorem dX7_number_4 : decode cX7_number 4 = .ok (.istore_n 3, 1) := dk_62 (dk_at dksX7_number_0 4 rfl rfl)
theorem dX7_number_5 : decode cX7_number 5 = .ok (.aload_n 0, 1) := dk_42 (dk_at dksX7_number_0 5 rfl rfl)
theorem dX7_number_6 : decode cX7_number 6 = .ok (.aload_n 0, 1) := dk_42 (dk_at dksX7_number_0 6 rfl rfl)
theorem dX7_number_7 : decode cX7_number 7 = .ok (.getfield 303, 3) := dk_180 1 47 (dk_at dksX7_number_0 7 rfl rfl)
theorem dX7_number_10 : decode cX7_number 10 = .ok (.iconst 3, 1) := dk_6 (dk_at dksX7_number_0 10 rfl rfl)
theorem dX7_number_11 : decode cX7_number 11 = .ok (.if_icmp .ne 19, 3) := dk_160 0 19 (dk_at dksX7_number_0 11 rfl rfl)
theorem dX7_number_14 : decode cX7_number 14 = .ok (.iload_n 3, 1) := dk_29 (dk_at dksX7_number_0 14 rfl rfl)
theorem dX7_number_15 : decode cX7_number 15 = .ok (.i2l, 1) := dk_133 (dk_at dksX7_number_0 15 rfl rfl)
theorem dX7_number_16 : decode cX7_number 16 = .ok (.iload_n 1, 1) := dk_27 (dk_at dksX7_number_0 16 rfl rfl)
theorem dX7_number_17 : decode cX7_number 17 = .ok (.i2l, 1) := dk_133 (dk_at dksX7_number_0 17 rfl rfl)
theorem dX7_number_18 : decode cX7_number 18 = .ok (.iload_n 2, 1) := dk_28 (dk_at dksX7_number_0 18 rfl rfl)
theorem dX7_number_19 : decode cX7_number 19 = .ok (.i2l, 1) := dk_133 (dk_at dksX7_number_0 19 rfl rfl)
theorem dX7_number_20 : decode cX7_number 20 = .ok (.invokestatic 146, 3) := dk_184 0 146 (dk_at dksX7_number_0 20 rfl rfl)
theorem dX7_number_23 : decode cX7_number 23 = .ok (.ifCond .eq 7, 3) := dk_153 0 7 (dk_at dksX7_number_1 0 rfl rfl)
theorem dX7_number_26 : decode cX7_number 26 = .ok (.iconst 1, 1) := dk_4 (dk_at dksX7_number_1 3 rfl rfl)
theorem dX7_number_27 : decode cX7_number 27 = .ok (.goto 4, 3) := dk_167 0 4 (dk_at dksX7_number_1 4 rfl rfl)
theorem dX7_number_30 : decode cX7_number 30 = .ok (.iconst 0, 1) := dk_3 (dk_at dksX7_number_1 7 rfl rfl)
theorem dX7_number_31 : decode cX7_number 31 = .ok (.invokevirtual 322, 3) := dk_182 1 66 (dk_at dksX7_number_1 8 rfl rfl)
theorem dX7_number_34 : decode cX7_number 34 = .ok (.iload_n 3, 1) := dk_29 (dk_at dksX7_number_1 11 rfl rfl)
theorem dX7_number_35 : decode cX7_number 35 = .ok (.ireturn, 1) := dk_172 (dk_at dksX7_number_1 12 rfl rfl)
abbrev cX7_readStop : ByteArray := prog_13_method_47_code
def yX7_readStop : MethodName := ⟨RX7, "readStop", "()V"⟩
def dkwX7_readStop_7 : List UInt8 := [79, 42, 89, 180, 1, 76, 4, 96, 181, 1, 76, 177]
abbrev dktX7_readStop_7 : List UInt8 := dkwX7_readStop_7 ++ []
def dkwX7_readStop_6 : List UInt8 := [79, 42, 180, 0, 89, 27, 21, 4, 79, 42, 180, 0, 92, 27, 21, 5, 153, 0, 7, 4, 167, 0, 4, 3]
abbrev dktX7_readStop_6 : List UInt8 := dkwX7_readStop_6 ++ dktX7_readStop_7
def dkwX7_readStop_5 : List UInt8 := [3, 182, 1, 66, 42, 180, 1, 59, 153, 0, 51, 42, 180, 0, 83, 27, 28, 79, 42, 180, 0, 86, 27, 29]
abbrev dktX7_readStop_5 : List UInt8 := dkwX7_readStop_5 ++ dktX7_readStop_6
def dkwX7_readStop_4 : List UInt8 := [54, 5, 21, 5, 153, 0, 7, 42, 182, 1, 63, 42, 42, 180, 1, 47, 7, 160, 0, 7, 4, 167, 0, 4]
abbrev dktX7_readStop_4 : List UInt8 := dkwX7_readStop_4 ++ dktX7_readStop_5
def dkwX7_readStop_3 : List UInt8 := [182, 1, 79, 62, 42, 20, 1, 11, 3, 17, 39, 15, 182, 1, 79, 54, 4, 42, 20, 1, 13, 182, 1, 70]
abbrev dktX7_readStop_3 : List UInt8 := dkwX7_readStop_3 ++ dktX7_readStop_4
def dkwX7_readStop_2 : List UInt8 := [182, 1, 83, 156, 0, 7, 4, 167, 0, 4, 3, 182, 1, 66, 42, 20, 1, 9, 16, 20, 17, 3, 132]
abbrev dktX7_readStop_2 : List UInt8 := dkwX7_readStop_2 ++ dktX7_readStop_3
def dkwX7_readStop_1 : List UInt8 := [167, 0, 4, 3, 182, 1, 66, 42, 180, 1, 31, 61, 42, 42, 180, 1, 47, 4, 160, 0, 14, 42]
abbrev dktX7_readStop_1 : List UInt8 := dkwX7_readStop_1 ++ dktX7_readStop_2
def dkwX7_readStop_0 : List UInt8 := [42, 180, 1, 76, 60, 42, 42, 20, 1, 7, 182, 1, 70, 153, 0, 13, 27, 16, 10, 162, 0, 7, 4]
abbrev dktX7_readStop_0 : List UInt8 := dkwX7_readStop_0 ++ dktX7_readStop_1
theorem dksX7_readStop_0 : cX7_readStop.data.toList.drop 0 = dktX7_readStop_0 := by decide +kernel
theorem dksX7_readStop_1 : cX7_readStop.data.toList.drop 23 = dktX7_readStop_1 := dk_seg dksX7_readStop_0 23 rfl rfl
theorem dksX7_readStop_2 : cX7_readStop.data.toList.drop 45 = dktX7_readStop_2 := dk_seg dksX7_readStop_1 22 rfl rfl
theorem dksX7_readStop_3 : cX7_readStop.data.toList.drop 68 = dktX7_readStop_3 := dk_seg dksX7_readStop_2 23 rfl rfl
theorem dksX7_readStop_4 : cX7_readStop.data.toList.drop 92 = dktX7_readStop_4 := dk_seg dksX7_readStop_3 24 rfl rfl
theorem dksX7_readStop_5 : cX7_readStop.data.toList.drop 116 = dktX7_readStop_5 := dk_seg dksX7_readStop_4 24 rfl rfl
theorem dksX7_readStop_6 : cX7_readStop.data.toList.drop 140 = dktX7_readStop_6 := dk_seg dksX7_readStop_5 24 rfl rfl
theorem dksX7_readStop_7 : cX7_readStop.data.toList.drop 164 = dktX7_readStop_7 := dk_seg dksX7_readStop_6 24 rfl rfl
theorem dX7_readStop_0 : decode cX7_readStop 0 = .ok (.aload_n 0, 1) := dk_42 (dk_at dksX7_readStop_0 0 rfl rfl)
theorem dX7_readStop_1 : decode cX7_readStop 1 = .ok (.getfield 332, 3) := dk_180 1 76 (dk_at dksX7_readStop_0 1 rfl rfl)
theorem dX7_readStop_4 : decode cX7_readStop 4 = .ok (.istore_n 1, 1) := dk_60 (dk_at dksX7_readStop_0 4 rfl rfl)
theorem dX7_readStop_5 : decode cX7_readStop 5 = .ok (.aload_n 0, 1) := dk_42 (dk_at dksX7_readStop_0 5 rfl rfl)
theorem dX7_readStop_6 : decode cX7_readStop 6 = .ok (.aload_n 0, 1) := dk_42 (dk_at dksX7_readStop_0 6 rfl rfl)
theorem dX7_readStop_7 : decode cX7_readStop 7 = .ok (.ldc2_w 263, 3) := dk_20 1 7 (dk_at dksX7_readStop_0 7 rfl rfl)
theorem dX7_readStop_10 : decode cX7_readStop 10 = .ok (.invokevirtual 326, 3) := dk_182 1 70 (dk_at dksX7_readStop_0 10 rfl rfl)
theorem dX7_readStop_13 : decode cX7_readStop 13 = .ok (.ifCond .eq 13, 3) := dk_153 0 13 (dk_at dksX7_readStop_0 13 rfl rfl)
theorem dX7_readStop_16 : decode cX7_readStop 16 = .ok (.iload_n 1, 1) := dk_27 (dk_at dksX7_readStop_0 16 rfl rfl)
theorem dX7_readStop_17 : decode cX7_readStop 17 = .ok (.bipush 10, 2) := dk_16 10 (dk_at dksX7_readStop_0 17 rfl rfl)
theorem dX7_readStop_19 : decode cX7_readStop 19 = .ok (.if_icmp .ge 7, 3) := dk_162 0 7 (dk_at dksX7_readStop_0 19 rfl rfl)
theorem dX7_readStop_22 : decode cX7_readStop 22 = .ok (.iconst 1, 1) := dk_4 (dk_at dksX7_readStop_0 22 rfl rfl)
theorem dX7_readStop_23 : decode cX7_readStop 23 = .ok (.goto 4, 3) := dk_167 0 4 (dk_at dksX7_readStop_1 0 rfl rfl)
theorem dX7_readStop_26 : decode cX7_readStop 26 = .ok (.iconst 0, 1) := dk_3 (dk_at dksX7_readStop_1 3 rfl rfl)
theorem dX7_readStop_27 : decode cX7_readStop 27 = .ok (.invokevirtual 322, 3) := dk_182 1 66 (dk_at dksX7_readStop_1 4 rfl rfl)
theorem dX7_readStop_30 : decode cX7_readStop 30 = .ok (.aload_n 0, 1) := dk_42 (dk_at dksX7_readStop_1 7 rfl rfl)
theorem dX7_readStop_31 : decode cX7_readStop 31 = .ok (.getfield 287, 3) := dk_180 1 31 (dk_at dksX7_readStop_1 8 rfl rfl)
theorem dX7_readStop_34 : decode cX7_readStop 34 = .ok (.istore_n 2, 1) := dk_61 (dk_at dksX7_readStop_1 11 rfl rfl)
theorem dX7_readStop_35 : decode cX7_readStop 35 = .ok (.aload_n 0, 1) := dk_42 (dk_at dksX7_readStop_1 12 rfl rfl)
theorem dX7_readStop_36 : decode cX7_readStop 36 = .ok (.aload_n 0, 1) := dk_42 (dk_at dksX7_readStop_1 13 rfl rfl)
theorem dX7_readStop_37 : decode cX7_readStop 37 = .ok (.getfield 303, 3) := dk_180 1 47 (dk_at dksX7_readStop_1 14 rfl rfl)
theorem dX7_readStop_40 : decode cX7_readStop 40 = .ok (.iconst 1, 1) := dk_4 (dk_at dksX7_readStop_1 17 rfl rfl)
theorem dX7_readStop_41 : decode cX7_readStop 41 = .ok (.if_icmp .ne 14, 3) := dk_160 0 14 (dk_at dksX7_readStop_1 18 rfl rfl)
theorem dX7_readStop_44 : decode cX7_readStop 44 = .ok (.aload_n 0, 1) := dk_42 (dk_at dksX7_readStop_1 21 rfl rfl)
theorem dX7_readStop_45 : decode cX7_readStop 45 = .ok (.invokevirtual 339, 3) := dk_182 1 83 (dk_at dksX7_readStop_2 0 rfl rfl)
theorem dX7_readStop_48 : decode cX7_readStop 48 = .ok (.ifCond .ge 7, 3) := dk_156 0 7 (dk_at dksX7_readStop_2 3 rfl rfl)
theorem dX7_readStop_51 : decode cX7_readStop 51 = .ok (.iconst 1, 1) := dk_4 (dk_at dksX7_readStop_2 6 rfl rfl)
theorem dX7_readStop_52 : decode cX7_readStop 52 = .ok (.goto 4, 3) := dk_167 0 4 (dk_at dksX7_readStop_2 7 rfl rfl)
theorem dX7_readStop_55 : decode cX7_readStop 55 = .ok (.iconst 0, 1) := dk_3 (dk_at dksX7_readStop_2 10 rfl rfl)
theorem dX7_readStop_56 : decode cX7_readStop 56 = .ok (.invokevirtual 322, 3) := dk_182 1 66 (dk_at dksX7_readStop_2 11 rfl rfl)
theorem dX7_readStop_59 : decode cX7_readStop 59 = .ok (.aload_n 0, 1) := dk_42 (dk_at dksX7_readStop_2 14 rfl rfl)
theorem dX7_readStop_60 : decode cX7_readStop 60 = .ok (.ldc2_w 265, 3) := dk_20 1 9 (dk_at dksX7_readStop_2 15 rfl rfl)
theorem dX7_readStop_63 : decode cX7_readStop 63 = .ok (.bipush 20, 2) := dk_16 20 (dk_at dksX7_readStop_2 18 rfl rfl)
theorem dX7_readStop_65 : decode cX7_readStop 65 = .ok (.sipush 900, 3) := dk_17 3 132 (dk_at dksX7_readStop_2 20 rfl rfl)
theorem dX7_readStop_68 : decode cX7_readStop 68 = .ok (.invokevirtual 335, 3) := dk_182 1 79 (dk_at dksX7_readStop_3 0 rfl rfl)
theorem dX7_readStop_71 : decode cX7_readStop 71 = .ok (.istore_n 3, 1) := dk_62 (dk_at dksX7_readStop_3 3 rfl rfl)
theorem dX7_readStop_72 : decode cX7_readStop 72 = .ok (.aload_n 0, 1) := dk_42 (dk_at dksX7_readStop_3 4 rfl rfl)
theorem dX7_readStop_73 : decode cX7_readStop 73 = .ok (.ldc2_w 267, 3) := dk_20 1 11 (dk_at dksX7_readStop_3 5 rfl rfl)
theorem dX7_readStop_76 : decode cX7_readStop 76 = .ok (.iconst 0, 1) := dk_3 (dk_at dksX7_readStop_3 8 rfl rfl)
theorem dX7_readStop_77 : decode cX7_readStop 77 = .ok (.sipush 9999, 3) := dk_17 39 15 (dk_at dksX7_readStop_3 9 rfl rfl)
theorem dX7_readStop_80 : decode cX7_readStop 80 = .ok (.invokevirtual 335, 3) := dk_182 1 79 (dk_at dksX7_readStop_3 12 rfl rfl)
theorem dX7_readStop_83 : decode cX7_readStop 83 = .ok (.istore 4, 2) := dk_54 4 (dk_at dksX7_readStop_3 15 rfl rfl)
theorem dX7_readStop_85 : decode cX7_readStop 85 = .ok (.aload_n 0, 1) := dk_42 (dk_at dksX7_readStop_3 17 rfl rfl)
theorem dX7_readStop_86 : decode cX7_readStop 86 = .ok (.ldc2_w 269, 3) := dk_20 1 13 (dk_at dksX7_readStop_3 18 rfl rfl)
theorem dX7_readStop_89 : decode cX7_readStop 89 = .ok (.invokevirtual 326, 3) := dk_182 1 70 (dk_at dksX7_readStop_3 21 rfl rfl)
theorem dX7_readStop_92 : decode cX7_readStop 92 = .ok (.istore 5, 2) := dk_54 5 (dk_at dksX7_readStop_4 0 rfl rfl)
theorem dX7_readStop_94 : decode cX7_readStop 94 = .ok (.iload 5, 2) := dk_21 5 (dk_at dksX7_readStop_4 2 rfl rfl)
theorem dX7_readStop_96 : decode cX7_readStop 96 = .ok (.ifCond .eq 7, 3) := dk_153 0 7 (dk_at dksX7_readStop_4 4 rfl rfl)
theorem dX7_readStop_99 : decode cX7_readStop 99 = .ok (.aload_n 0, 1) := dk_42 (dk_at dksX7_readStop_4 7 rfl rfl)
theorem dX7_readStop_100 : decode cX7_readStop 100 = .ok (.invokevirtual 319, 3) := dk_182 1 63 (dk_at dksX7_readStop_4 8 rfl rfl)
theorem dX7_readStop_103 : decode cX7_readStop 103 = .ok (.aload_n 0, 1) := dk_42 (dk_at dksX7_readStop_4 11 rfl rfl)
theorem dX7_readStop_104 : decode cX7_readStop 104 = .ok (.aload_n 0, 1) := dk_42 (dk_at dksX7_readStop_4 12 rfl rfl)
theorem dX7_readStop_105 : decode cX7_readStop 105 = .ok (.getfield 303, 3) := dk_180 1 47 (dk_at dksX7_readStop_4 13 rfl rfl)
theorem dX7_readStop_108 : decode cX7_readStop 108 = .ok (.iconst 4, 1) := dk_7 (dk_at dksX7_readStop_4 16 rfl rfl)
theorem dX7_readStop_109 : decode cX7_readStop 109 = .ok (.if_icmp .ne 7, 3) := dk_160 0 7 (dk_at dksX7_readStop_4 17 rfl rfl)
theorem dX7_readStop_112 : decode cX7_readStop 112 = .ok (.iconst 1, 1) := dk_4 (dk_at dksX7_readStop_4 20 rfl rfl)
theorem dX7_readStop_113 : decode cX7_readStop 113 = .ok (.goto 4, 3) := dk_167 0 4 (dk_at dksX7_readStop_4 21 rfl rfl)
theorem dX7_readStop_116 : decode cX7_readStop 116 = .ok (.iconst 0, 1) := dk_3 (dk_at dksX7_readStop_5 0 rfl rfl)
theorem dX7_readStop_117 : decode cX7_readStop 117 = .ok (.invokevirtual 322, 3) := dk_182 1 66 (dk_at dksX7_readStop_5 1 rfl rfl)
theorem dX7_readStop_120 : decode cX7_readStop 120 = .ok (.aload_n 0, 1) := dk_42 (dk_at dksX7_readStop_5 4 rfl rfl)
theorem dX7_readStop_121 : decode cX7_readStop 121 = .ok (.getfield 315, 3) := dk_180 1 59 (dk_at dksX7_readStop_5 5 rfl rfl)
theorem dX7_readStop_124 : decode cX7_readStop 124 = .ok (.ifCond .eq 51, 3) := dk_153 0 51 (dk_at dksX7_readStop_5 8 rfl rfl)
theorem dX7_readStop_127 : decode cX7_readStop 127 = .ok (.aload_n 0, 1) := dk_42 (dk_at dksX7_readStop_5 11 rfl rfl)
theorem dX7_readStop_128 : decode cX7_readStop 128 = .ok (.getfield 83, 3) := dk_180 0 83 (dk_at dksX7_readStop_5 12 rfl rfl)
theorem dX7_readStop_131 : decode cX7_readStop 131 = .ok (.iload_n 1, 1) := dk_27 (dk_at dksX7_readStop_5 15 rfl rfl)
theorem dX7_readStop_132 : decode cX7_readStop 132 = .ok (.iload_n 2, 1) := dk_28 (dk_at dksX7_readStop_5 16 rfl rfl)
theorem dX7_readStop_133 : decode cX7_readStop 133 = .ok (.iastore, 1) := dk_79 (dk_at dksX7_readStop_5 17 rfl rfl)
theorem dX7_readStop_134 : decode cX7_readStop 134 = .ok (.aload_n 0, 1) := dk_42 (dk_at dksX7_readStop_5 18 rfl rfl)
theorem dX7_readStop_135 : decode cX7_readStop 135 = .ok (.getfield 86, 3) := dk_180 0 86 (dk_at dksX7_readStop_5 19 rfl rfl)
theorem dX7_readStop_138 : decode cX7_readStop 138 = .ok (.iload_n 1, 1) := dk_27 (dk_at dksX7_readStop_5 22 rfl rfl)
theorem dX7_readStop_139 : decode cX7_readStop 139 = .ok (.iload_n 3, 1) := dk_29 (dk_at dksX7_readStop_5 23 rfl rfl)
theorem dX7_readStop_140 : decode cX7_readStop 140 = .ok (.iastore, 1) := dk_79 (dk_at dksX7_readStop_6 0 rfl rfl)
theorem dX7_readStop_141 : decode cX7_readStop 141 = .ok (.aload_n 0, 1) := dk_42 (dk_at dksX7_readStop_6 1 rfl rfl)
theorem dX7_readStop_142 : decode cX7_readStop 142 = .ok (.getfield 89, 3) := dk_180 0 89 (dk_at dksX7_readStop_6 2 rfl rfl)
theorem dX7_readStop_145 : decode cX7_readStop 145 = .ok (.iload_n 1, 1) := dk_27 (dk_at dksX7_readStop_6 5 rfl rfl)
theorem dX7_readStop_146 : decode cX7_readStop 146 = .ok (.iload 4, 2) := dk_21 4 (dk_at dksX7_readStop_6 6 rfl rfl)
theorem dX7_readStop_148 : decode cX7_readStop 148 = .ok (.iastore, 1) := dk_79 (dk_at dksX7_readStop_6 8 rfl rfl)
theorem dX7_readStop_149 : decode cX7_readStop 149 = .ok (.aload_n 0, 1) := dk_42 (dk_at dksX7_readStop_6 9 rfl rfl)
theorem dX7_readStop_150 : decode cX7_readStop 150 = .ok (.getfield 92, 3) := dk_180 0 92 (dk_at dksX7_readStop_6 10 rfl rfl)
theorem dX7_readStop_153 : decode cX7_readStop 153 = .ok (.iload_n 1, 1) := dk_27 (dk_at dksX7_readStop_6 13 rfl rfl)
theorem dX7_readStop_154 : decode cX7_readStop 154 = .ok (.iload 5, 2) := dk_21 5 (dk_at dksX7_readStop_6 14 rfl rfl)
theorem dX7_readStop_156 : decode cX7_readStop 156 = .ok (.ifCond .eq 7, 3) := dk_153 0 7 (dk_at dksX7_readStop_6 16 rfl rfl)
theorem dX7_readStop_159 : decode cX7_readStop 159 = .ok (.iconst 1, 1) := dk_4 (dk_at dksX7_readStop_6 19 rfl rfl)
theorem dX7_readStop_160 : decode cX7_readStop 160 = .ok (.goto 4, 3) := dk_167 0 4 (dk_at dksX7_readStop_6 20 rfl rfl)
theorem dX7_readStop_163 : decode cX7_readStop 163 = .ok (.iconst 0, 1) := dk_3 (dk_at dksX7_readStop_6 23 rfl rfl)
theorem dX7_readStop_164 : decode cX7_readStop 164 = .ok (.iastore, 1) := dk_79 (dk_at dksX7_readStop_7 0 rfl rfl)
theorem dX7_readStop_165 : decode cX7_readStop 165 = .ok (.aload_n 0, 1) := dk_42 (dk_at dksX7_readStop_7 1 rfl rfl)
theorem dX7_readStop_166 : decode cX7_readStop 166 = .ok (.dup, 1) := dk_89 (dk_at dksX7_readStop_7 2 rfl rfl)
theorem dX7_readStop_167 : decode cX7_readStop 167 = .ok (.getfield 332, 3) := dk_180 1 76 (dk_at dksX7_readStop_7 3 rfl rfl)
theorem dX7_readStop_170 : decode cX7_readStop 170 = .ok (.iconst 1, 1) := dk_4 (dk_at dksX7_readStop_7 6 rfl rfl)
theorem dX7_readStop_171 : decode cX7_readStop 171 = .ok (.iadd, 1) := dk_96 (dk_at dksX7_readStop_7 7 rfl rfl)
theorem dX7_readStop_172 : decode cX7_readStop 172 = .ok (.putfield 332, 3) := dk_181 1 76 (dk_at dksX7_readStop_7 8 rfl rfl)
theorem dX7_readStop_175 : decode cX7_readStop 175 = .ok (.return_, 1) := dk_177 (dk_at dksX7_readStop_7 11 rfl rfl)
abbrev cX7_stopNamed : ByteArray := prog_13_method_45_code
def yX7_stopNamed : MethodName := ⟨RX7, "stopNamed", "()I"⟩
def dkwX7_stopNamed_1 : List UInt8 := [172, 132, 1, 1, 167, 255, 230, 16, 254, 172]
abbrev dktX7_stopNamed_1 : List UInt8 := dkwX7_stopNamed_1 ++ []
def dkwX7_stopNamed_0 : List UInt8 := [3, 60, 27, 42, 180, 1, 76, 162, 0, 24, 42, 180, 0, 83, 27, 46, 42, 180, 1, 31, 160, 0, 5, 27]
abbrev dktX7_stopNamed_0 : List UInt8 := dkwX7_stopNamed_0 ++ dktX7_stopNamed_1
theorem dksX7_stopNamed_0 : cX7_stopNamed.data.toList.drop 0 = dktX7_stopNamed_0 := by decide +kernel
theorem dksX7_stopNamed_1 : cX7_stopNamed.data.toList.drop 24 = dktX7_stopNamed_1 := dk_seg dksX7_stopNamed_0 24 rfl rfl
theorem dX7_stopNamed_0 : decode cX7_stopNamed 0 = .ok (.iconst 0, 1) := dk_3 (dk_at dksX7_stopNamed_0 0 rfl rfl)
theorem dX7_stopNamed_1 : decode cX7_stopNamed 1 = .ok (.istore_n 1, 1) := dk_60 (dk_at dksX7_stopNamed_0 1 rfl rfl)
theorem dX7_stopNamed_2 : decode cX7_stopNamed 2 = .ok (.iload_n 1, 1) := dk_27 (dk_at dksX7_stopNamed_0 2 rfl rfl)
theorem dX7_stopNamed_3 : decode cX7_stopNamed 3 = .ok (.aload_n 0, 1) := dk_42 (dk_at dksX7_stopNamed_0 3 rfl rfl)
theorem dX7_stopNamed_4 : decode cX7_stopNamed 4 = .ok (.getfield 332, 3) := dk_180 1 76 (dk_at dksX7_stopNamed_0 4 rfl rfl)
theorem dX7_stopNamed_7 : decode cX7_stopNamed 7 = .ok (.if_icmp .ge 24, 3) := dk_162 0 24 (dk_at dksX7_stopNamed_0 7 rfl rfl)
theorem dX7_stopNamed_10 : decode cX7_stopNamed 10 = .ok (.aload_n 0, 1) := dk_42 (dk_at dksX7_stopNamed_0 10 rfl rfl)
theorem dX7_stopNamed_11 : decode cX7_stopNamed 11 = .ok (.getfield 83, 3) := dk_180 0 83 (dk_at dksX7_stopNamed_0 11 rfl rfl)
theorem dX7_stopNamed_14 : decode cX7_stopNamed 14 = .ok (.iload_n 1, 1) := dk_27 (dk_at dksX7_stopNamed_0 14 rfl rfl)
theorem dX7_stopNamed_15 : decode cX7_stopNamed 15 = .ok (.iaload, 1) := dk_46 (dk_at dksX7_stopNamed_0 15 rfl rfl)
theorem dX7_stopNamed_16 : decode cX7_stopNamed 16 = .ok (.aload_n 0, 1) := dk_42 (dk_at dksX7_stopNamed_0 16 rfl rfl)
theorem dX7_stopNamed_17 : decode cX7_stopNamed 17 = .ok (.getfield 287, 3) := dk_180 1 31 (dk_at dksX7_stopNamed_0 17 rfl rfl)
theorem dX7_stopNamed_20 : decode cX7_stopNamed 20 = .ok (.if_icmp .ne 5, 3) := dk_160 0 5 (dk_at dksX7_stopNamed_0 20 rfl rfl)
theorem dX7_stopNamed_23 : decode cX7_stopNamed 23 = .ok (.iload_n 1, 1) := dk_27 (dk_at dksX7_stopNamed_0 23 rfl rfl)
theorem dX7_stopNamed_24 : decode cX7_stopNamed 24 = .ok (.ireturn, 1) := dk_172 (dk_at dksX7_stopNamed_1 0 rfl rfl)
theorem dX7_stopNamed_25 : decode cX7_stopNamed 25 = .ok (.iinc 1 1, 3) := dk_132 1 1 (dk_at dksX7_stopNamed_1 1 rfl rfl)
theorem dX7_stopNamed_28 : decode cX7_stopNamed 28 = .ok (.goto (-26), 3) := dk_167 255 230 (dk_at dksX7_stopNamed_1 4 rfl rfl)
theorem dX7_stopNamed_31 : decode cX7_stopNamed 31 = .ok (.bipush (-2), 2) := dk_16 254 (dk_at dksX7_stopNamed_1 7 rfl rfl)
theorem dX7_stopNamed_33 : decode cX7_stopNamed 33 = .ok (.ireturn, 1) := dk_172 (dk_at dksX7_stopNamed_1 9 rfl rfl)
abbrev cX7_readBus : ByteArray := prog_13_method_48_code
def yX7_readBus : MethodName := ⟨RX7, "readBus", "()V"⟩
def dkwX7_readBus_4 : List UInt8 := [180, 1, 86, 4, 96, 181, 1, 86, 177]
abbrev dktX7_readBus_4 : List UInt8 := dkwX7_readBus_4 ++ []
def dkwX7_readBus_3 : List UInt8 := [180, 1, 59, 153, 0, 27, 42, 180, 0, 95, 27, 28, 79, 42, 180, 0, 98, 27, 29, 79, 42, 89]
abbrev dktX7_readBus_3 : List UInt8 := dkwX7_readBus_3 ++ dktX7_readBus_4
def dkwX7_readBus_2 : List UInt8 := [182, 1, 79, 62, 42, 42, 180, 1, 47, 7, 160, 0, 7, 4, 167, 0, 4, 3, 182, 1, 66, 42]
abbrev dktX7_readBus_2 : List UInt8 := dkwX7_readBus_2 ++ dktX7_readBus_3
def dkwX7_readBus_1 : List UInt8 := [167, 0, 4, 3, 182, 1, 66, 42, 4, 16, 99, 182, 1, 73, 61, 42, 20, 1, 17, 3, 17, 39, 15]
abbrev dktX7_readBus_1 : List UInt8 := dkwX7_readBus_1 ++ dktX7_readBus_2
def dkwX7_readBus_0 : List UInt8 := [42, 180, 1, 86, 60, 42, 42, 20, 1, 15, 182, 1, 70, 153, 0, 13, 27, 16, 6, 162, 0, 7, 4]
abbrev dktX7_readBus_0 : List UInt8 := dkwX7_readBus_0 ++ dktX7_readBus_1
theorem dksX7_readBus_0 : cX7_readBus.data.toList.drop 0 = dktX7_readBus_0 := by decide +kernel
theorem dksX7_readBus_1 : cX7_readBus.data.toList.drop 23 = dktX7_readBus_1 := dk_seg dksX7_readBus_0 23 rfl rfl
theorem dksX7_readBus_2 : cX7_readBus.data.toList.drop 46 = dktX7_readBus_2 := dk_seg dksX7_readBus_1 23 rfl rfl
theorem dksX7_readBus_3 : cX7_readBus.data.toList.drop 68 = dktX7_readBus_3 := dk_seg dksX7_readBus_2 22 rfl rfl
theorem dksX7_readBus_4 : cX7_readBus.data.toList.drop 90 = dktX7_readBus_4 := dk_seg dksX7_readBus_3 22 rfl rfl
theorem dX7_readBus_0 : decode cX7_readBus 0 = .ok (.aload_n 0, 1) := dk_42 (dk_at dksX7_readBus_0 0 rfl rfl)
theorem dX7_readBus_1 : decode cX7_readBus 1 = .ok (.getfield 342, 3) := dk_180 1 86 (dk_at dksX7_readBus_0 1 rfl rfl)
theorem dX7_readBus_4 : decode cX7_readBus 4 = .ok (.istore_n 1, 1) := dk_60 (dk_at dksX7_readBus_0 4 rfl rfl)
theorem dX7_readBus_5 : decode cX7_readBus 5 = .ok (.aload_n 0, 1) := dk_42 (dk_at dksX7_readBus_0 5 rfl rfl)
theorem dX7_readBus_6 : decode cX7_readBus 6 = .ok (.aload_n 0, 1) := dk_42 (dk_at dksX7_readBus_0 6 rfl rfl)
theorem dX7_readBus_7 : decode cX7_readBus 7 = .ok (.ldc2_w 271, 3) := dk_20 1 15 (dk_at dksX7_readBus_0 7 rfl rfl)
theorem dX7_readBus_10 : decode cX7_readBus 10 = .ok (.invokevirtual 326, 3) := dk_182 1 70 (dk_at dksX7_readBus_0 10 rfl rfl)
theorem dX7_readBus_13 : decode cX7_readBus 13 = .ok (.ifCond .eq 13, 3) := dk_153 0 13 (dk_at dksX7_readBus_0 13 rfl rfl)
theorem dX7_readBus_16 : decode cX7_readBus 16 = .ok (.iload_n 1, 1) := dk_27 (dk_at dksX7_readBus_0 16 rfl rfl)
theorem dX7_readBus_17 : decode cX7_readBus 17 = .ok (.bipush 6, 2) := dk_16 6 (dk_at dksX7_readBus_0 17 rfl rfl)
theorem dX7_readBus_19 : decode cX7_readBus 19 = .ok (.if_icmp .ge 7, 3) := dk_162 0 7 (dk_at dksX7_readBus_0 19 rfl rfl)
theorem dX7_readBus_22 : decode cX7_readBus 22 = .ok (.iconst 1, 1) := dk_4 (dk_at dksX7_readBus_0 22 rfl rfl)
theorem dX7_readBus_23 : decode cX7_readBus 23 = .ok (.goto 4, 3) := dk_167 0 4 (dk_at dksX7_readBus_1 0 rfl rfl)
theorem dX7_readBus_26 : decode cX7_readBus 26 = .ok (.iconst 0, 1) := dk_3 (dk_at dksX7_readBus_1 3 rfl rfl)
theorem dX7_readBus_27 : decode cX7_readBus 27 = .ok (.invokevirtual 322, 3) := dk_182 1 66 (dk_at dksX7_readBus_1 4 rfl rfl)
theorem dX7_readBus_30 : decode cX7_readBus 30 = .ok (.aload_n 0, 1) := dk_42 (dk_at dksX7_readBus_1 7 rfl rfl)
theorem dX7_readBus_31 : decode cX7_readBus 31 = .ok (.iconst 1, 1) := dk_4 (dk_at dksX7_readBus_1 8 rfl rfl)
theorem dX7_readBus_32 : decode cX7_readBus 32 = .ok (.bipush 99, 2) := dk_16 99 (dk_at dksX7_readBus_1 9 rfl rfl)
theorem dX7_readBus_34 : decode cX7_readBus 34 = .ok (.invokevirtual 329, 3) := dk_182 1 73 (dk_at dksX7_readBus_1 11 rfl rfl)
theorem dX7_readBus_37 : decode cX7_readBus 37 = .ok (.istore_n 2, 1) := dk_61 (dk_at dksX7_readBus_1 14 rfl rfl)
theorem dX7_readBus_38 : decode cX7_readBus 38 = .ok (.aload_n 0, 1) := dk_42 (dk_at dksX7_readBus_1 15 rfl rfl)
theorem dX7_readBus_39 : decode cX7_readBus 39 = .ok (.ldc2_w 273, 3) := dk_20 1 17 (dk_at dksX7_readBus_1 16 rfl rfl)
theorem dX7_readBus_42 : decode cX7_readBus 42 = .ok (.iconst 0, 1) := dk_3 (dk_at dksX7_readBus_1 19 rfl rfl)
theorem dX7_readBus_43 : decode cX7_readBus 43 = .ok (.sipush 9999, 3) := dk_17 39 15 (dk_at dksX7_readBus_1 20 rfl rfl)
theorem dX7_readBus_46 : decode cX7_readBus 46 = .ok (.invokevirtual 335, 3) := dk_182 1 79 (dk_at dksX7_readBus_2 0 rfl rfl)
theorem dX7_readBus_49 : decode cX7_readBus 49 = .ok (.istore_n 3, 1) := dk_62 (dk_at dksX7_readBus_2 3 rfl rfl)
theorem dX7_readBus_50 : decode cX7_readBus 50 = .ok (.aload_n 0, 1) := dk_42 (dk_at dksX7_readBus_2 4 rfl rfl)
theorem dX7_readBus_51 : decode cX7_readBus 51 = .ok (.aload_n 0, 1) := dk_42 (dk_at dksX7_readBus_2 5 rfl rfl)
theorem dX7_readBus_52 : decode cX7_readBus 52 = .ok (.getfield 303, 3) := dk_180 1 47 (dk_at dksX7_readBus_2 6 rfl rfl)
theorem dX7_readBus_55 : decode cX7_readBus 55 = .ok (.iconst 4, 1) := dk_7 (dk_at dksX7_readBus_2 9 rfl rfl)
theorem dX7_readBus_56 : decode cX7_readBus 56 = .ok (.if_icmp .ne 7, 3) := dk_160 0 7 (dk_at dksX7_readBus_2 10 rfl rfl)
theorem dX7_readBus_59 : decode cX7_readBus 59 = .ok (.iconst 1, 1) := dk_4 (dk_at dksX7_readBus_2 13 rfl rfl)
theorem dX7_readBus_60 : decode cX7_readBus 60 = .ok (.goto 4, 3) := dk_167 0 4 (dk_at dksX7_readBus_2 14 rfl rfl)
theorem dX7_readBus_63 : decode cX7_readBus 63 = .ok (.iconst 0, 1) := dk_3 (dk_at dksX7_readBus_2 17 rfl rfl)
theorem dX7_readBus_64 : decode cX7_readBus 64 = .ok (.invokevirtual 322, 3) := dk_182 1 66 (dk_at dksX7_readBus_2 18 rfl rfl)
theorem dX7_readBus_67 : decode cX7_readBus 67 = .ok (.aload_n 0, 1) := dk_42 (dk_at dksX7_readBus_2 21 rfl rfl)
theorem dX7_readBus_68 : decode cX7_readBus 68 = .ok (.getfield 315, 3) := dk_180 1 59 (dk_at dksX7_readBus_3 0 rfl rfl)
theorem dX7_readBus_71 : decode cX7_readBus 71 = .ok (.ifCond .eq 27, 3) := dk_153 0 27 (dk_at dksX7_readBus_3 3 rfl rfl)
theorem dX7_readBus_74 : decode cX7_readBus 74 = .ok (.aload_n 0, 1) := dk_42 (dk_at dksX7_readBus_3 6 rfl rfl)
theorem dX7_readBus_75 : decode cX7_readBus 75 = .ok (.getfield 95, 3) := dk_180 0 95 (dk_at dksX7_readBus_3 7 rfl rfl)
theorem dX7_readBus_78 : decode cX7_readBus 78 = .ok (.iload_n 1, 1) := dk_27 (dk_at dksX7_readBus_3 10 rfl rfl)
theorem dX7_readBus_79 : decode cX7_readBus 79 = .ok (.iload_n 2, 1) := dk_28 (dk_at dksX7_readBus_3 11 rfl rfl)
theorem dX7_readBus_80 : decode cX7_readBus 80 = .ok (.iastore, 1) := dk_79 (dk_at dksX7_readBus_3 12 rfl rfl)
theorem dX7_readBus_81 : decode cX7_readBus 81 = .ok (.aload_n 0, 1) := dk_42 (dk_at dksX7_readBus_3 13 rfl rfl)
theorem dX7_readBus_82 : decode cX7_readBus 82 = .ok (.getfield 98, 3) := dk_180 0 98 (dk_at dksX7_readBus_3 14 rfl rfl)
theorem dX7_readBus_85 : decode cX7_readBus 85 = .ok (.iload_n 1, 1) := dk_27 (dk_at dksX7_readBus_3 17 rfl rfl)
theorem dX7_readBus_86 : decode cX7_readBus 86 = .ok (.iload_n 3, 1) := dk_29 (dk_at dksX7_readBus_3 18 rfl rfl)
theorem dX7_readBus_87 : decode cX7_readBus 87 = .ok (.iastore, 1) := dk_79 (dk_at dksX7_readBus_3 19 rfl rfl)
theorem dX7_readBus_88 : decode cX7_readBus 88 = .ok (.aload_n 0, 1) := dk_42 (dk_at dksX7_readBus_3 20 rfl rfl)
theorem dX7_readBus_89 : decode cX7_readBus 89 = .ok (.dup, 1) := dk_89 (dk_at dksX7_readBus_3 21 rfl rfl)
theorem dX7_readBus_90 : decode cX7_readBus 90 = .ok (.getfield 342, 3) := dk_180 1 86 (dk_at dksX7_readBus_4 0 rfl rfl)
theorem dX7_readBus_93 : decode cX7_readBus 93 = .ok (.iconst 1, 1) := dk_4 (dk_at dksX7_readBus_4 3 rfl rfl)
theorem dX7_readBus_94 : decode cX7_readBus 94 = .ok (.iadd, 1) := dk_96 (dk_at dksX7_readBus_4 4 rfl rfl)
theorem dX7_readBus_95 : decode cX7_readBus 95 = .ok (.putfield 342, 3) := dk_181 1 86 (dk_at dksX7_readBus_4 5 rfl rfl)
theorem dX7_readBus_98 : decode cX7_readBus 98 = .ok (.return_, 1) := dk_177 (dk_at dksX7_readBus_4 8 rfl rfl)
abbrev cX7_readFlow : ByteArray := prog_13_method_49_code
def yX7_readFlow : MethodName := ⟨RX7, "readFlow", "()V"⟩
def dkwX7_readFlow_8 : List UInt8 := [180, 0, 110, 27, 21, 5, 79, 42, 89, 180, 1, 89, 4, 96, 181, 1, 89, 177]
abbrev dktX7_readFlow_8 : List UInt8 := dkwX7_readFlow_8 ++ []
def dkwX7_readFlow_7 : List UInt8 := [180, 0, 101, 27, 28, 79, 42, 180, 0, 104, 27, 29, 79, 42, 180, 0, 107, 27, 21, 4, 79, 42]
abbrev dktX7_readFlow_7 : List UInt8 := dkwX7_readFlow_7 ++ dktX7_readFlow_8
def dkwX7_readFlow_6 : List UInt8 := [180, 1, 47, 7, 160, 0, 7, 4, 167, 0, 4, 3, 182, 1, 66, 42, 180, 1, 59, 153, 0, 43, 42]
abbrev dktX7_readFlow_6 : List UInt8 := dkwX7_readFlow_6 ++ dktX7_readFlow_7
def dkwX7_readFlow_5 : List UInt8 := [17, 39, 15, 182, 1, 79, 54, 4, 42, 20, 1, 25, 3, 17, 39, 15, 182, 1, 79, 54, 5, 42, 42]
abbrev dktX7_readFlow_5 : List UInt8 := dkwX7_readFlow_5 ++ dktX7_readFlow_6
def dkwX7_readFlow_4 : List UInt8 := [155, 0, 12, 29, 28, 159, 0, 7, 4, 167, 0, 4, 3, 182, 1, 66, 42, 20, 1, 23, 16, 10]
abbrev dktX7_readFlow_4 : List UInt8 := dkwX7_readFlow_4 ++ dktX7_readFlow_5
def dkwX7_readFlow_3 : List UInt8 := [182, 1, 66, 42, 180, 1, 47, 4, 160, 0, 10, 42, 182, 1, 83, 167, 0, 5, 16, 254, 62, 42, 29]
abbrev dktX7_readFlow_3 : List UInt8 := dkwX7_readFlow_3 ++ dktX7_readFlow_4
def dkwX7_readFlow_2 : List UInt8 := [61, 42, 28, 155, 0, 7, 4, 167, 0, 4, 3, 182, 1, 66, 42, 42, 20, 1, 21, 182, 1, 70]
abbrev dktX7_readFlow_2 : List UInt8 := dkwX7_readFlow_2 ++ dktX7_readFlow_3
def dkwX7_readFlow_1 : List UInt8 := [167, 0, 4, 3, 182, 1, 66, 42, 180, 1, 47, 4, 160, 0, 10, 42, 182, 1, 83, 167, 0, 5, 16, 254]
abbrev dktX7_readFlow_1 : List UInt8 := dkwX7_readFlow_1 ++ dktX7_readFlow_2
def dkwX7_readFlow_0 : List UInt8 := [42, 180, 1, 89, 60, 42, 42, 20, 1, 19, 182, 1, 70, 153, 0, 13, 27, 16, 16, 162, 0, 7, 4]
abbrev dktX7_readFlow_0 : List UInt8 := dkwX7_readFlow_0 ++ dktX7_readFlow_1
theorem dksX7_readFlow_0 : cX7_readFlow.data.toList.drop 0 = dktX7_readFlow_0 := by decide +kernel
theorem dksX7_readFlow_1 : cX7_readFlow.data.toList.drop 23 = dktX7_readFlow_1 := dk_seg dksX7_readFlow_0 23 rfl rfl
theorem dksX7_readFlow_2 : cX7_readFlow.data.toList.drop 47 = dktX7_readFlow_2 := dk_seg dksX7_readFlow_1 24 rfl rfl
theorem dksX7_readFlow_3 : cX7_readFlow.data.toList.drop 69 = dktX7_readFlow_3 := dk_seg dksX7_readFlow_2 22 rfl rfl
theorem dksX7_readFlow_4 : cX7_readFlow.data.toList.drop 92 = dktX7_readFlow_4 := dk_seg dksX7_readFlow_3 23 rfl rfl
theorem dksX7_readFlow_5 : cX7_readFlow.data.toList.drop 114 = dktX7_readFlow_5 := dk_seg dksX7_readFlow_4 22 rfl rfl
theorem dksX7_readFlow_6 : cX7_readFlow.data.toList.drop 137 = dktX7_readFlow_6 := dk_seg dksX7_readFlow_5 23 rfl rfl
theorem dksX7_readFlow_7 : cX7_readFlow.data.toList.drop 160 = dktX7_readFlow_7 := dk_seg dksX7_readFlow_6 23 rfl rfl
theorem dksX7_readFlow_8 : cX7_readFlow.data.toList.drop 182 = dktX7_readFlow_8 := dk_seg dksX7_readFlow_7 22 rfl rfl
theorem dX7_readFlow_0 : decode cX7_readFlow 0 = .ok (.aload_n 0, 1) := dk_42 (dk_at dksX7_readFlow_0 0 rfl rfl)
theorem dX7_readFlow_1 : decode cX7_readFlow 1 = .ok (.getfield 345, 3) := dk_180 1 89 (dk_at dksX7_readFlow_0 1 rfl rfl)
theorem dX7_readFlow_4 : decode cX7_readFlow 4 = .ok (.istore_n 1, 1) := dk_60 (dk_at dksX7_readFlow_0 4 rfl rfl)
theorem dX7_readFlow_5 : decode cX7_readFlow 5 = .ok (.aload_n 0, 1) := dk_42 (dk_at dksX7_readFlow_0 5 rfl rfl)
theorem dX7_readFlow_6 : decode cX7_readFlow 6 = .ok (.aload_n 0, 1) := dk_42 (dk_at dksX7_readFlow_0 6 rfl rfl)
theorem dX7_readFlow_7 : decode cX7_readFlow 7 = .ok (.ldc2_w 275, 3) := dk_20 1 19 (dk_at dksX7_readFlow_0 7 rfl rfl)
theorem dX7_readFlow_10 : decode cX7_readFlow 10 = .ok (.invokevirtual 326, 3) := dk_182 1 70 (dk_at dksX7_readFlow_0 10 rfl rfl)
theorem dX7_readFlow_13 : decode cX7_readFlow 13 = .ok (.ifCond .eq 13, 3) := dk_153 0 13 (dk_at dksX7_readFlow_0 13 rfl rfl)
theorem dX7_readFlow_16 : decode cX7_readFlow 16 = .ok (.iload_n 1, 1) := dk_27 (dk_at dksX7_readFlow_0 16 rfl rfl)
theorem dX7_readFlow_17 : decode cX7_readFlow 17 = .ok (.bipush 16, 2) := dk_16 16 (dk_at dksX7_readFlow_0 17 rfl rfl)
theorem dX7_readFlow_19 : decode cX7_readFlow 19 = .ok (.if_icmp .ge 7, 3) := dk_162 0 7 (dk_at dksX7_readFlow_0 19 rfl rfl)
theorem dX7_readFlow_22 : decode cX7_readFlow 22 = .ok (.iconst 1, 1) := dk_4 (dk_at dksX7_readFlow_0 22 rfl rfl)
theorem dX7_readFlow_23 : decode cX7_readFlow 23 = .ok (.goto 4, 3) := dk_167 0 4 (dk_at dksX7_readFlow_1 0 rfl rfl)
theorem dX7_readFlow_26 : decode cX7_readFlow 26 = .ok (.iconst 0, 1) := dk_3 (dk_at dksX7_readFlow_1 3 rfl rfl)
theorem dX7_readFlow_27 : decode cX7_readFlow 27 = .ok (.invokevirtual 322, 3) := dk_182 1 66 (dk_at dksX7_readFlow_1 4 rfl rfl)
theorem dX7_readFlow_30 : decode cX7_readFlow 30 = .ok (.aload_n 0, 1) := dk_42 (dk_at dksX7_readFlow_1 7 rfl rfl)
theorem dX7_readFlow_31 : decode cX7_readFlow 31 = .ok (.getfield 303, 3) := dk_180 1 47 (dk_at dksX7_readFlow_1 8 rfl rfl)
theorem dX7_readFlow_34 : decode cX7_readFlow 34 = .ok (.iconst 1, 1) := dk_4 (dk_at dksX7_readFlow_1 11 rfl rfl)
theorem dX7_readFlow_35 : decode cX7_readFlow 35 = .ok (.if_icmp .ne 10, 3) := dk_160 0 10 (dk_at dksX7_readFlow_1 12 rfl rfl)
theorem dX7_readFlow_38 : decode cX7_readFlow 38 = .ok (.aload_n 0, 1) := dk_42 (dk_at dksX7_readFlow_1 15 rfl rfl)
theorem dX7_readFlow_39 : decode cX7_readFlow 39 = .ok (.invokevirtual 339, 3) := dk_182 1 83 (dk_at dksX7_readFlow_1 16 rfl rfl)
theorem dX7_readFlow_42 : decode cX7_readFlow 42 = .ok (.goto 5, 3) := dk_167 0 5 (dk_at dksX7_readFlow_1 19 rfl rfl)
theorem dX7_readFlow_45 : decode cX7_readFlow 45 = .ok (.bipush (-2), 2) := dk_16 254 (dk_at dksX7_readFlow_1 22 rfl rfl)
theorem dX7_readFlow_47 : decode cX7_readFlow 47 = .ok (.istore_n 2, 1) := dk_61 (dk_at dksX7_readFlow_2 0 rfl rfl)
theorem dX7_readFlow_48 : decode cX7_readFlow 48 = .ok (.aload_n 0, 1) := dk_42 (dk_at dksX7_readFlow_2 1 rfl rfl)
theorem dX7_readFlow_49 : decode cX7_readFlow 49 = .ok (.iload_n 2, 1) := dk_28 (dk_at dksX7_readFlow_2 2 rfl rfl)
theorem dX7_readFlow_50 : decode cX7_readFlow 50 = .ok (.ifCond .lt 7, 3) := dk_155 0 7 (dk_at dksX7_readFlow_2 3 rfl rfl)
theorem dX7_readFlow_53 : decode cX7_readFlow 53 = .ok (.iconst 1, 1) := dk_4 (dk_at dksX7_readFlow_2 6 rfl rfl)
theorem dX7_readFlow_54 : decode cX7_readFlow 54 = .ok (.goto 4, 3) := dk_167 0 4 (dk_at dksX7_readFlow_2 7 rfl rfl)
theorem dX7_readFlow_57 : decode cX7_readFlow 57 = .ok (.iconst 0, 1) := dk_3 (dk_at dksX7_readFlow_2 10 rfl rfl)
theorem dX7_readFlow_58 : decode cX7_readFlow 58 = .ok (.invokevirtual 322, 3) := dk_182 1 66 (dk_at dksX7_readFlow_2 11 rfl rfl)
theorem dX7_readFlow_61 : decode cX7_readFlow 61 = .ok (.aload_n 0, 1) := dk_42 (dk_at dksX7_readFlow_2 14 rfl rfl)
theorem dX7_readFlow_62 : decode cX7_readFlow 62 = .ok (.aload_n 0, 1) := dk_42 (dk_at dksX7_readFlow_2 15 rfl rfl)
theorem dX7_readFlow_63 : decode cX7_readFlow 63 = .ok (.ldc2_w 277, 3) := dk_20 1 21 (dk_at dksX7_readFlow_2 16 rfl rfl)
theorem dX7_readFlow_66 : decode cX7_readFlow 66 = .ok (.invokevirtual 326, 3) := dk_182 1 70 (dk_at dksX7_readFlow_2 19 rfl rfl)
theorem dX7_readFlow_69 : decode cX7_readFlow 69 = .ok (.invokevirtual 322, 3) := dk_182 1 66 (dk_at dksX7_readFlow_3 0 rfl rfl)
theorem dX7_readFlow_72 : decode cX7_readFlow 72 = .ok (.aload_n 0, 1) := dk_42 (dk_at dksX7_readFlow_3 3 rfl rfl)
theorem dX7_readFlow_73 : decode cX7_readFlow 73 = .ok (.getfield 303, 3) := dk_180 1 47 (dk_at dksX7_readFlow_3 4 rfl rfl)
theorem dX7_readFlow_76 : decode cX7_readFlow 76 = .ok (.iconst 1, 1) := dk_4 (dk_at dksX7_readFlow_3 7 rfl rfl)
theorem dX7_readFlow_77 : decode cX7_readFlow 77 = .ok (.if_icmp .ne 10, 3) := dk_160 0 10 (dk_at dksX7_readFlow_3 8 rfl rfl)
theorem dX7_readFlow_80 : decode cX7_readFlow 80 = .ok (.aload_n 0, 1) := dk_42 (dk_at dksX7_readFlow_3 11 rfl rfl)
theorem dX7_readFlow_81 : decode cX7_readFlow 81 = .ok (.invokevirtual 339, 3) := dk_182 1 83 (dk_at dksX7_readFlow_3 12 rfl rfl)
theorem dX7_readFlow_84 : decode cX7_readFlow 84 = .ok (.goto 5, 3) := dk_167 0 5 (dk_at dksX7_readFlow_3 15 rfl rfl)
theorem dX7_readFlow_87 : decode cX7_readFlow 87 = .ok (.bipush (-2), 2) := dk_16 254 (dk_at dksX7_readFlow_3 18 rfl rfl)
theorem dX7_readFlow_89 : decode cX7_readFlow 89 = .ok (.istore_n 3, 1) := dk_62 (dk_at dksX7_readFlow_3 20 rfl rfl)
theorem dX7_readFlow_90 : decode cX7_readFlow 90 = .ok (.aload_n 0, 1) := dk_42 (dk_at dksX7_readFlow_3 21 rfl rfl)
theorem dX7_readFlow_91 : decode cX7_readFlow 91 = .ok (.iload_n 3, 1) := dk_29 (dk_at dksX7_readFlow_3 22 rfl rfl)
theorem dX7_readFlow_92 : decode cX7_readFlow 92 = .ok (.ifCond .lt 12, 3) := dk_155 0 12 (dk_at dksX7_readFlow_4 0 rfl rfl)
theorem dX7_readFlow_95 : decode cX7_readFlow 95 = .ok (.iload_n 3, 1) := dk_29 (dk_at dksX7_readFlow_4 3 rfl rfl)
theorem dX7_readFlow_96 : decode cX7_readFlow 96 = .ok (.iload_n 2, 1) := dk_28 (dk_at dksX7_readFlow_4 4 rfl rfl)
theorem dX7_readFlow_97 : decode cX7_readFlow 97 = .ok (.if_icmp .eq 7, 3) := dk_159 0 7 (dk_at dksX7_readFlow_4 5 rfl rfl)
theorem dX7_readFlow_100 : decode cX7_readFlow 100 = .ok (.iconst 1, 1) := dk_4 (dk_at dksX7_readFlow_4 8 rfl rfl)
theorem dX7_readFlow_101 : decode cX7_readFlow 101 = .ok (.goto 4, 3) := dk_167 0 4 (dk_at dksX7_readFlow_4 9 rfl rfl)
theorem dX7_readFlow_104 : decode cX7_readFlow 104 = .ok (.iconst 0, 1) := dk_3 (dk_at dksX7_readFlow_4 12 rfl rfl)
theorem dX7_readFlow_105 : decode cX7_readFlow 105 = .ok (.invokevirtual 322, 3) := dk_182 1 66 (dk_at dksX7_readFlow_4 13 rfl rfl)
theorem dX7_readFlow_108 : decode cX7_readFlow 108 = .ok (.aload_n 0, 1) := dk_42 (dk_at dksX7_readFlow_4 16 rfl rfl)
theorem dX7_readFlow_109 : decode cX7_readFlow 109 = .ok (.ldc2_w 279, 3) := dk_20 1 23 (dk_at dksX7_readFlow_4 17 rfl rfl)
theorem dX7_readFlow_112 : decode cX7_readFlow 112 = .ok (.bipush 10, 2) := dk_16 10 (dk_at dksX7_readFlow_4 20 rfl rfl)
theorem dX7_readFlow_114 : decode cX7_readFlow 114 = .ok (.sipush 9999, 3) := dk_17 39 15 (dk_at dksX7_readFlow_5 0 rfl rfl)
theorem dX7_readFlow_117 : decode cX7_readFlow 117 = .ok (.invokevirtual 335, 3) := dk_182 1 79 (dk_at dksX7_readFlow_5 3 rfl rfl)
theorem dX7_readFlow_120 : decode cX7_readFlow 120 = .ok (.istore 4, 2) := dk_54 4 (dk_at dksX7_readFlow_5 6 rfl rfl)
theorem dX7_readFlow_122 : decode cX7_readFlow 122 = .ok (.aload_n 0, 1) := dk_42 (dk_at dksX7_readFlow_5 8 rfl rfl)
theorem dX7_readFlow_123 : decode cX7_readFlow 123 = .ok (.ldc2_w 281, 3) := dk_20 1 25 (dk_at dksX7_readFlow_5 9 rfl rfl)
theorem dX7_readFlow_126 : decode cX7_readFlow 126 = .ok (.iconst 0, 1) := dk_3 (dk_at dksX7_readFlow_5 12 rfl rfl)
theorem dX7_readFlow_127 : decode cX7_readFlow 127 = .ok (.sipush 9999, 3) := dk_17 39 15 (dk_at dksX7_readFlow_5 13 rfl rfl)
theorem dX7_readFlow_130 : decode cX7_readFlow 130 = .ok (.invokevirtual 335, 3) := dk_182 1 79 (dk_at dksX7_readFlow_5 16 rfl rfl)
theorem dX7_readFlow_133 : decode cX7_readFlow 133 = .ok (.istore 5, 2) := dk_54 5 (dk_at dksX7_readFlow_5 19 rfl rfl)
theorem dX7_readFlow_135 : decode cX7_readFlow 135 = .ok (.aload_n 0, 1) := dk_42 (dk_at dksX7_readFlow_5 21 rfl rfl)
theorem dX7_readFlow_136 : decode cX7_readFlow 136 = .ok (.aload_n 0, 1) := dk_42 (dk_at dksX7_readFlow_5 22 rfl rfl)
theorem dX7_readFlow_137 : decode cX7_readFlow 137 = .ok (.getfield 303, 3) := dk_180 1 47 (dk_at dksX7_readFlow_6 0 rfl rfl)
theorem dX7_readFlow_140 : decode cX7_readFlow 140 = .ok (.iconst 4, 1) := dk_7 (dk_at dksX7_readFlow_6 3 rfl rfl)
theorem dX7_readFlow_141 : decode cX7_readFlow 141 = .ok (.if_icmp .ne 7, 3) := dk_160 0 7 (dk_at dksX7_readFlow_6 4 rfl rfl)
theorem dX7_readFlow_144 : decode cX7_readFlow 144 = .ok (.iconst 1, 1) := dk_4 (dk_at dksX7_readFlow_6 7 rfl rfl)
theorem dX7_readFlow_145 : decode cX7_readFlow 145 = .ok (.goto 4, 3) := dk_167 0 4 (dk_at dksX7_readFlow_6 8 rfl rfl)
theorem dX7_readFlow_148 : decode cX7_readFlow 148 = .ok (.iconst 0, 1) := dk_3 (dk_at dksX7_readFlow_6 11 rfl rfl)
theorem dX7_readFlow_149 : decode cX7_readFlow 149 = .ok (.invokevirtual 322, 3) := dk_182 1 66 (dk_at dksX7_readFlow_6 12 rfl rfl)
theorem dX7_readFlow_152 : decode cX7_readFlow 152 = .ok (.aload_n 0, 1) := dk_42 (dk_at dksX7_readFlow_6 15 rfl rfl)
theorem dX7_readFlow_153 : decode cX7_readFlow 153 = .ok (.getfield 315, 3) := dk_180 1 59 (dk_at dksX7_readFlow_6 16 rfl rfl)
theorem dX7_readFlow_156 : decode cX7_readFlow 156 = .ok (.ifCond .eq 43, 3) := dk_153 0 43 (dk_at dksX7_readFlow_6 19 rfl rfl)
theorem dX7_readFlow_159 : decode cX7_readFlow 159 = .ok (.aload_n 0, 1) := dk_42 (dk_at dksX7_readFlow_6 22 rfl rfl)
theorem dX7_readFlow_160 : decode cX7_readFlow 160 = .ok (.getfield 101, 3) := dk_180 0 101 (dk_at dksX7_readFlow_7 0 rfl rfl)
theorem dX7_readFlow_163 : decode cX7_readFlow 163 = .ok (.iload_n 1, 1) := dk_27 (dk_at dksX7_readFlow_7 3 rfl rfl)
theorem dX7_readFlow_164 : decode cX7_readFlow 164 = .ok (.iload_n 2, 1) := dk_28 (dk_at dksX7_readFlow_7 4 rfl rfl)
theorem dX7_readFlow_165 : decode cX7_readFlow 165 = .ok (.iastore, 1) := dk_79 (dk_at dksX7_readFlow_7 5 rfl rfl)
theorem dX7_readFlow_166 : decode cX7_readFlow 166 = .ok (.aload_n 0, 1) := dk_42 (dk_at dksX7_readFlow_7 6 rfl rfl)
theorem dX7_readFlow_167 : decode cX7_readFlow 167 = .ok (.getfield 104, 3) := dk_180 0 104 (dk_at dksX7_readFlow_7 7 rfl rfl)
theorem dX7_readFlow_170 : decode cX7_readFlow 170 = .ok (.iload_n 1, 1) := dk_27 (dk_at dksX7_readFlow_7 10 rfl rfl)
theorem dX7_readFlow_171 : decode cX7_readFlow 171 = .ok (.iload_n 3, 1) := dk_29 (dk_at dksX7_readFlow_7 11 rfl rfl)
theorem dX7_readFlow_172 : decode cX7_readFlow 172 = .ok (.iastore, 1) := dk_79 (dk_at dksX7_readFlow_7 12 rfl rfl)
theorem dX7_readFlow_173 : decode cX7_readFlow 173 = .ok (.aload_n 0, 1) := dk_42 (dk_at dksX7_readFlow_7 13 rfl rfl)
theorem dX7_readFlow_174 : decode cX7_readFlow 174 = .ok (.getfield 107, 3) := dk_180 0 107 (dk_at dksX7_readFlow_7 14 rfl rfl)
theorem dX7_readFlow_177 : decode cX7_readFlow 177 = .ok (.iload_n 1, 1) := dk_27 (dk_at dksX7_readFlow_7 17 rfl rfl)
theorem dX7_readFlow_178 : decode cX7_readFlow 178 = .ok (.iload 4, 2) := dk_21 4 (dk_at dksX7_readFlow_7 18 rfl rfl)
theorem dX7_readFlow_180 : decode cX7_readFlow 180 = .ok (.iastore, 1) := dk_79 (dk_at dksX7_readFlow_7 20 rfl rfl)
theorem dX7_readFlow_181 : decode cX7_readFlow 181 = .ok (.aload_n 0, 1) := dk_42 (dk_at dksX7_readFlow_7 21 rfl rfl)
theorem dX7_readFlow_182 : decode cX7_readFlow 182 = .ok (.getfield 110, 3) := dk_180 0 110 (dk_at dksX7_readFlow_8 0 rfl rfl)
theorem dX7_readFlow_185 : decode cX7_readFlow 185 = .ok (.iload_n 1, 1) := dk_27 (dk_at dksX7_readFlow_8 3 rfl rfl)
theorem dX7_readFlow_186 : decode cX7_readFlow 186 = .ok (.iload 5, 2) := dk_21 5 (dk_at dksX7_readFlow_8 4 rfl rfl)
theorem dX7_readFlow_188 : decode cX7_readFlow 188 = .ok (.iastore, 1) := dk_79 (dk_at dksX7_readFlow_8 6 rfl rfl)
theorem dX7_readFlow_189 : decode cX7_readFlow 189 = .ok (.aload_n 0, 1) := dk_42 (dk_at dksX7_readFlow_8 7 rfl rfl)
theorem dX7_readFlow_190 : decode cX7_readFlow 190 = .ok (.dup, 1) := dk_89 (dk_at dksX7_readFlow_8 8 rfl rfl)
theorem dX7_readFlow_191 : decode cX7_readFlow 191 = .ok (.getfield 345, 3) := dk_180 1 89 (dk_at dksX7_readFlow_8 9 rfl rfl)
theorem dX7_readFlow_194 : decode cX7_readFlow 194 = .ok (.iconst 1, 1) := dk_4 (dk_at dksX7_readFlow_8 12 rfl rfl)
theorem dX7_readFlow_195 : decode cX7_readFlow 195 = .ok (.iadd, 1) := dk_96 (dk_at dksX7_readFlow_8 13 rfl rfl)
theorem dX7_readFlow_196 : decode cX7_readFlow 196 = .ok (.putfield 345, 3) := dk_181 1 89 (dk_at dksX7_readFlow_8 14 rfl rfl)
theorem dX7_readFlow_199 : decode cX7_readFlow 199 = .ok (.return_, 1) := dk_177 (dk_at dksX7_readFlow_8 17 rfl rfl)
abbrev cX7_becomes : ByteArray := prog_13_method_54_code
def yX7_becomes : MethodName := ⟨RX7, "becomes", "()V"⟩
def dkwX7_becomes_11 : List UInt8 := [177]
abbrev dktX7_becomes_11 : List UInt8 := dkwX7_becomes_11 ++ []
def dkwX7_becomes_10 : List UInt8 := [180, 0, 107, 27, 46, 79, 42, 180, 0, 48, 27, 42, 180, 0, 110, 27, 46, 79, 132, 1, 1, 167, 255, 197]
abbrev dktX7_becomes_10 : List UInt8 := dkwX7_becomes_10 ++ dktX7_becomes_11
def dkwX7_becomes_9 : List UInt8 := [180, 0, 101, 27, 46, 79, 42, 180, 0, 42, 27, 42, 180, 0, 104, 27, 46, 79, 42, 180, 0, 45, 27, 42]
abbrev dktX7_becomes_9 : List UInt8 := dkwX7_becomes_9 ++ dktX7_becomes_10
def dkwX7_becomes_8 : List UInt8 := [132, 1, 1, 167, 255, 221, 3, 60, 27, 42, 180, 0, 136, 162, 0, 57, 42, 180, 0, 39, 27, 42]
abbrev dktX7_becomes_8 : List UInt8 := dkwX7_becomes_8 ++ dktX7_becomes_9
def dkwX7_becomes_7 : List UInt8 := [42, 180, 0, 33, 27, 42, 180, 0, 95, 27, 46, 79, 42, 180, 0, 36, 27, 42, 180, 0, 98, 27, 46, 79]
abbrev dktX7_becomes_7 : List UInt8 := dkwX7_becomes_7 ++ dktX7_becomes_8
def dkwX7_becomes_6 : List UInt8 := [27, 42, 180, 0, 92, 27, 46, 79, 132, 1, 1, 167, 255, 197, 3, 60, 27, 42, 180, 0, 118, 162, 0, 33]
abbrev dktX7_becomes_6 : List UInt8 := dkwX7_becomes_6 ++ dktX7_becomes_7
def dkwX7_becomes_5 : List UInt8 := [27, 42, 180, 0, 86, 27, 46, 79, 42, 180, 0, 27, 27, 42, 180, 0, 89, 27, 46, 79, 42, 180, 0, 30]
abbrev dktX7_becomes_5 : List UInt8 := dkwX7_becomes_5 ++ dktX7_becomes_6
def dkwX7_becomes_4 : List UInt8 := [27, 42, 180, 0, 113, 162, 0, 57, 42, 180, 0, 21, 27, 42, 180, 0, 83, 27, 46, 79, 42, 180, 0, 24]
abbrev dktX7_becomes_4 : List UInt8 := dkwX7_becomes_4 ++ dktX7_becomes_5
def dkwX7_becomes_3 : List UInt8 := [6, 27, 96, 46, 79, 132, 1, 1, 167, 255, 234, 42, 42, 180, 0, 80, 16, 7, 46, 181, 0, 133, 3, 60]
abbrev dktX7_becomes_3 : List UInt8 := dkwX7_becomes_3 ++ dktX7_becomes_4
def dkwX7_becomes_2 : List UInt8 := [180, 0, 80, 5, 46, 181, 0, 127, 3, 60, 27, 7, 162, 0, 23, 42, 180, 0, 17, 27, 42, 180, 0, 80]
abbrev dktX7_becomes_2 : List UInt8 := dkwX7_becomes_2 ++ dktX7_becomes_3
def dkwX7_becomes_1 : List UInt8 := [42, 42, 180, 0, 80, 3, 46, 181, 0, 121, 42, 42, 180, 0, 80, 4, 46, 181, 0, 124, 42, 42]
abbrev dktX7_becomes_1 : List UInt8 := dkwX7_becomes_1 ++ dktX7_becomes_2
def dkwX7_becomes_0 : List UInt8 := [42, 42, 180, 1, 76, 181, 0, 113, 42, 42, 180, 1, 86, 181, 0, 118, 42, 42, 180, 1, 89, 181, 0, 136]
abbrev dktX7_becomes_0 : List UInt8 := dkwX7_becomes_0 ++ dktX7_becomes_1
theorem dksX7_becomes_0 : cX7_becomes.data.toList.drop 0 = dktX7_becomes_0 := by decide +kernel
theorem dksX7_becomes_1 : cX7_becomes.data.toList.drop 24 = dktX7_becomes_1 := dk_seg dksX7_becomes_0 24 rfl rfl
theorem dksX7_becomes_2 : cX7_becomes.data.toList.drop 46 = dktX7_becomes_2 := dk_seg dksX7_becomes_1 22 rfl rfl
theorem dksX7_becomes_3 : cX7_becomes.data.toList.drop 70 = dktX7_becomes_3 := dk_seg dksX7_becomes_2 24 rfl rfl
theorem dksX7_becomes_4 : cX7_becomes.data.toList.drop 94 = dktX7_becomes_4 := dk_seg dksX7_becomes_3 24 rfl rfl
theorem dksX7_becomes_5 : cX7_becomes.data.toList.drop 118 = dktX7_becomes_5 := dk_seg dksX7_becomes_4 24 rfl rfl
theorem dksX7_becomes_6 : cX7_becomes.data.toList.drop 142 = dktX7_becomes_6 := dk_seg dksX7_becomes_5 24 rfl rfl
theorem dksX7_becomes_7 : cX7_becomes.data.toList.drop 166 = dktX7_becomes_7 := dk_seg dksX7_becomes_6 24 rfl rfl
theorem dksX7_becomes_8 : cX7_becomes.data.toList.drop 190 = dktX7_becomes_8 := dk_seg dksX7_becomes_7 24 rfl rfl
theorem dksX7_becomes_9 : cX7_becomes.data.toList.drop 212 = dktX7_becomes_9 := dk_seg dksX7_becomes_8 22 rfl rfl
theorem dksX7_becomes_10 : cX7_becomes.data.toList.drop 236 = dktX7_becomes_10 := dk_seg dksX7_becomes_9 24 rfl rfl
theorem dksX7_becomes_11 : cX7_becomes.data.toList.drop 260 = dktX7_becomes_11 := dk_seg dksX7_becomes_10 24 rfl rfl
theorem dX7_becomes_0 : decode cX7_becomes 0 = .ok (.aload_n 0, 1) := dk_42 (dk_at dksX7_becomes_0 0 rfl rfl)
theorem dX7_becomes_1 : decode cX7_becomes 1 = .ok (.aload_n 0, 1) := dk_42 (dk_at dksX7_becomes_0 1 rfl rfl)
theorem dX7_becomes_2 : decode cX7_becomes 2 = .ok (.getfield 332, 3) := dk_180 1 76 (dk_at dksX7_becomes_0 2 rfl rfl)
theorem dX7_becomes_5 : decode cX7_becomes 5 = .ok (.putfield 113, 3) := dk_181 0 113 (dk_at dksX7_becomes_0 5 rfl rfl)
theorem dX7_becomes_8 : decode cX7_becomes 8 = .ok (.aload_n 0, 1) := dk_42 (dk_at dksX7_becomes_0 8 rfl rfl)
theorem dX7_becomes_9 : decode cX7_becomes 9 = .ok (.aload_n 0, 1) := dk_42 (dk_at dksX7_becomes_0 9 rfl rfl)
theorem dX7_becomes_10 : decode cX7_becomes 10 = .ok (.getfield 342, 3) := dk_180 1 86 (dk_at dksX7_becomes_0 10 rfl rfl)
theorem dX7_becomes_13 : decode cX7_becomes 13 = .ok (.putfield 118, 3) := dk_181 0 118 (dk_at dksX7_becomes_0 13 rfl rfl)
theorem dX7_becomes_16 : decode cX7_becomes 16 = .ok (.aload_n 0, 1) := dk_42 (dk_at dksX7_becomes_0 16 rfl rfl)
theorem dX7_becomes_17 : decode cX7_becomes 17 = .ok (.aload_n 0, 1) := dk_42 (dk_at dksX7_becomes_0 17 rfl rfl)
theorem dX7_becomes_18 : decode cX7_becomes 18 = .ok (.getfield 345, 3) := dk_180 1 89 (dk_at dksX7_becomes_0 18 rfl rfl)
theorem dX7_becomes_21 : decode cX7_becomes 21 = .ok (.putfield 136, 3) := dk_181 0 136 (dk_at dksX7_becomes_0 21 rfl rfl)
theorem dX7_becomes_24 : decode cX7_becomes 24 = .ok (.aload_n 0, 1) := dk_42 (dk_at dksX7_becomes_1 0 rfl rfl)
theorem dX7_becomes_25 : decode cX7_becomes 25 = .ok (.aload_n 0, 1) := dk_42 (dk_at dksX7_becomes_1 1 rfl rfl)
theorem dX7_becomes_26 : decode cX7_becomes 26 = .ok (.getfield 80, 3) := dk_180 0 80 (dk_at dksX7_becomes_1 2 rfl rfl)
theorem dX7_becomes_29 : decode cX7_becomes 29 = .ok (.iconst 0, 1) := dk_3 (dk_at dksX7_becomes_1 5 rfl rfl)
theorem dX7_becomes_30 : decode cX7_becomes 30 = .ok (.iaload, 1) := dk_46 (dk_at dksX7_becomes_1 6 rfl rfl)
theorem dX7_becomes_31 : decode cX7_becomes 31 = .ok (.putfield 121, 3) := dk_181 0 121 (dk_at dksX7_becomes_1 7 rfl rfl)
theorem dX7_becomes_34 : decode cX7_becomes 34 = .ok (.aload_n 0, 1) := dk_42 (dk_at dksX7_becomes_1 10 rfl rfl)
theorem dX7_becomes_35 : decode cX7_becomes 35 = .ok (.aload_n 0, 1) := dk_42 (dk_at dksX7_becomes_1 11 rfl rfl)
theorem dX7_becomes_36 : decode cX7_becomes 36 = .ok (.getfield 80, 3) := dk_180 0 80 (dk_at dksX7_becomes_1 12 rfl rfl)
theorem dX7_becomes_39 : decode cX7_becomes 39 = .ok (.iconst 1, 1) := dk_4 (dk_at dksX7_becomes_1 15 rfl rfl)
theorem dX7_becomes_40 : decode cX7_becomes 40 = .ok (.iaload, 1) := dk_46 (dk_at dksX7_becomes_1 16 rfl rfl)
theorem dX7_becomes_41 : decode cX7_becomes 41 = .ok (.putfield 124, 3) := dk_181 0 124 (dk_at dksX7_becomes_1 17 rfl rfl)
theorem dX7_becomes_44 : decode cX7_becomes 44 = .ok (.aload_n 0, 1) := dk_42 (dk_at dksX7_becomes_1 20 rfl rfl)
theorem dX7_becomes_45 : decode cX7_becomes 45 = .ok (.aload_n 0, 1) := dk_42 (dk_at dksX7_becomes_1 21 rfl rfl)
theorem dX7_becomes_46 : decode cX7_becomes 46 = .ok (.getfield 80, 3) := dk_180 0 80 (dk_at dksX7_becomes_2 0 rfl rfl)
theorem dX7_becomes_49 : decode cX7_becomes 49 = .ok (.iconst 2, 1) := dk_5 (dk_at dksX7_becomes_2 3 rfl rfl)
theorem dX7_becomes_50 : decode cX7_becomes 50 = .ok (.iaload, 1) := dk_46 (dk_at dksX7_becomes_2 4 rfl rfl)
theorem dX7_becomes_51 : decode cX7_becomes 51 = .ok (.putfield 127, 3) := dk_181 0 127 (dk_at dksX7_becomes_2 5 rfl rfl)
theorem dX7_becomes_54 : decode cX7_becomes 54 = .ok (.iconst 0, 1) := dk_3 (dk_at dksX7_becomes_2 8 rfl rfl)
theorem dX7_becomes_55 : decode cX7_becomes 55 = .ok (.istore_n 1, 1) := dk_60 (dk_at dksX7_becomes_2 9 rfl rfl)
theorem dX7_becomes_56 : decode cX7_becomes 56 = .ok (.iload_n 1, 1) := dk_27 (dk_at dksX7_becomes_2 10 rfl rfl)
theorem dX7_becomes_57 : decode cX7_becomes 57 = .ok (.iconst 4, 1) := dk_7 (dk_at dksX7_becomes_2 11 rfl rfl)
theorem dX7_becomes_58 : decode cX7_becomes 58 = .ok (.if_icmp .ge 23, 3) := dk_162 0 23 (dk_at dksX7_becomes_2 12 rfl rfl)
theorem dX7_becomes_61 : decode cX7_becomes 61 = .ok (.aload_n 0, 1) := dk_42 (dk_at dksX7_becomes_2 15 rfl rfl)
theorem dX7_becomes_62 : decode cX7_becomes 62 = .ok (.getfield 17, 3) := dk_180 0 17 (dk_at dksX7_becomes_2 16 rfl rfl)
theorem dX7_becomes_65 : decode cX7_becomes 65 = .ok (.iload_n 1, 1) := dk_27 (dk_at dksX7_becomes_2 19 rfl rfl)
theorem dX7_becomes_66 : decode cX7_becomes 66 = .ok (.aload_n 0, 1) := dk_42 (dk_at dksX7_becomes_2 20 rfl rfl)
theorem dX7_becomes_67 : decode cX7_becomes 67 = .ok (.getfield 80, 3) := dk_180 0 80 (dk_at dksX7_becomes_2 21 rfl rfl)
theorem dX7_becomes_70 : decode cX7_becomes 70 = .ok (.iconst 3, 1) := dk_6 (dk_at dksX7_becomes_3 0 rfl rfl)
theorem dX7_becomes_71 : decode cX7_becomes 71 = .ok (.iload_n 1, 1) := dk_27 (dk_at dksX7_becomes_3 1 rfl rfl)
theorem dX7_becomes_72 : decode cX7_becomes 72 = .ok (.iadd, 1) := dk_96 (dk_at dksX7_becomes_3 2 rfl rfl)
theorem dX7_becomes_73 : decode cX7_becomes 73 = .ok (.iaload, 1) := dk_46 (dk_at dksX7_becomes_3 3 rfl rfl)
theorem dX7_becomes_74 : decode cX7_becomes 74 = .ok (.iastore, 1) := dk_79 (dk_at dksX7_becomes_3 4 rfl rfl)
theorem dX7_becomes_75 : decode cX7_becomes 75 = .ok (.iinc 1 1, 3) := dk_132 1 1 (dk_at dksX7_becomes_3 5 rfl rfl)
theorem dX7_becomes_78 : decode cX7_becomes 78 = .ok (.goto (-22), 3) := dk_167 255 234 (dk_at dksX7_becomes_3 8 rfl rfl)
theorem dX7_becomes_81 : decode cX7_becomes 81 = .ok (.aload_n 0, 1) := dk_42 (dk_at dksX7_becomes_3 11 rfl rfl)
theorem dX7_becomes_82 : decode cX7_becomes 82 = .ok (.aload_n 0, 1) := dk_42 (dk_at dksX7_becomes_3 12 rfl rfl)
theorem dX7_becomes_83 : decode cX7_becomes 83 = .ok (.getfield 80, 3) := dk_180 0 80 (dk_at dksX7_becomes_3 13 rfl rfl)
theorem dX7_becomes_86 : decode cX7_becomes 86 = .ok (.bipush 7, 2) := dk_16 7 (dk_at dksX7_becomes_3 16 rfl rfl)
theorem dX7_becomes_88 : decode cX7_becomes 88 = .ok (.iaload, 1) := dk_46 (dk_at dksX7_becomes_3 18 rfl rfl)
theorem dX7_becomes_89 : decode cX7_becomes 89 = .ok (.putfield 133, 3) := dk_181 0 133 (dk_at dksX7_becomes_3 19 rfl rfl)
theorem dX7_becomes_92 : decode cX7_becomes 92 = .ok (.iconst 0, 1) := dk_3 (dk_at dksX7_becomes_3 22 rfl rfl)
theorem dX7_becomes_93 : decode cX7_becomes 93 = .ok (.istore_n 1, 1) := dk_60 (dk_at dksX7_becomes_3 23 rfl rfl)
theorem dX7_becomes_94 : decode cX7_becomes 94 = .ok (.iload_n 1, 1) := dk_27 (dk_at dksX7_becomes_4 0 rfl rfl)
theorem dX7_becomes_95 : decode cX7_becomes 95 = .ok (.aload_n 0, 1) := dk_42 (dk_at dksX7_becomes_4 1 rfl rfl)
theorem dX7_becomes_96 : decode cX7_becomes 96 = .ok (.getfield 113, 3) := dk_180 0 113 (dk_at dksX7_becomes_4 2 rfl rfl)
theorem dX7_becomes_99 : decode cX7_becomes 99 = .ok (.if_icmp .ge 57, 3) := dk_162 0 57 (dk_at dksX7_becomes_4 5 rfl rfl)
theorem dX7_becomes_102 : decode cX7_becomes 102 = .ok (.aload_n 0, 1) := dk_42 (dk_at dksX7_becomes_4 8 rfl rfl)
theorem dX7_becomes_103 : decode cX7_becomes 103 = .ok (.getfield 21, 3) := dk_180 0 21 (dk_at dksX7_becomes_4 9 rfl rfl)
theorem dX7_becomes_106 : decode cX7_becomes 106 = .ok (.iload_n 1, 1) := dk_27 (dk_at dksX7_becomes_4 12 rfl rfl)
theorem dX7_becomes_107 : decode cX7_becomes 107 = .ok (.aload_n 0, 1) := dk_42 (dk_at dksX7_becomes_4 13 rfl rfl)
theorem dX7_becomes_108 : decode cX7_becomes 108 = .ok (.getfield 83, 3) := dk_180 0 83 (dk_at dksX7_becomes_4 14 rfl rfl)
theorem dX7_becomes_111 : decode cX7_becomes 111 = .ok (.iload_n 1, 1) := dk_27 (dk_at dksX7_becomes_4 17 rfl rfl)
theorem dX7_becomes_112 : decode cX7_becomes 112 = .ok (.iaload, 1) := dk_46 (dk_at dksX7_becomes_4 18 rfl rfl)
theorem dX7_becomes_113 : decode cX7_becomes 113 = .ok (.iastore, 1) := dk_79 (dk_at dksX7_becomes_4 19 rfl rfl)
theorem dX7_becomes_114 : decode cX7_becomes 114 = .ok (.aload_n 0, 1) := dk_42 (dk_at dksX7_becomes_4 20 rfl rfl)
theorem dX7_becomes_115 : decode cX7_becomes 115 = .ok (.getfield 24, 3) := dk_180 0 24 (dk_at dksX7_becomes_4 21 rfl rfl)
theorem dX7_becomes_118 : decode cX7_becomes 118 = .ok (.iload_n 1, 1) := dk_27 (dk_at dksX7_becomes_5 0 rfl rfl)
theorem dX7_becomes_119 : decode cX7_becomes 119 = .ok (.aload_n 0, 1) := dk_42 (dk_at dksX7_becomes_5 1 rfl rfl)
theorem dX7_becomes_120 : decode cX7_becomes 120 = .ok (.getfield 86, 3) := dk_180 0 86 (dk_at dksX7_becomes_5 2 rfl rfl)
theorem dX7_becomes_123 : decode cX7_becomes 123 = .ok (.iload_n 1, 1) := dk_27 (dk_at dksX7_becomes_5 5 rfl rfl)
theorem dX7_becomes_124 : decode cX7_becomes 124 = .ok (.iaload, 1) := dk_46 (dk_at dksX7_becomes_5 6 rfl rfl)
theorem dX7_becomes_125 : decode cX7_becomes 125 = .ok (.iastore, 1) := dk_79 (dk_at dksX7_becomes_5 7 rfl rfl)
theorem dX7_becomes_126 : decode cX7_becomes 126 = .ok (.aload_n 0, 1) := dk_42 (dk_at dksX7_becomes_5 8 rfl rfl)
theorem dX7_becomes_127 : decode cX7_becomes 127 = .ok (.getfield 27, 3) := dk_180 0 27 (dk_at dksX7_becomes_5 9 rfl rfl)
theorem dX7_becomes_130 : decode cX7_becomes 130 = .ok (.iload_n 1, 1) := dk_27 (dk_at dksX7_becomes_5 12 rfl rfl)
theorem dX7_becomes_131 : decode cX7_becomes 131 = .ok (.aload_n 0, 1) := dk_42 (dk_at dksX7_becomes_5 13 rfl rfl)
theorem dX7_becomes_132 : decode cX7_becomes 132 = .ok (.getfield 89, 3) := dk_180 0 89 (dk_at dksX7_becomes_5 14 rfl rfl)
theorem dX7_becomes_135 : decode cX7_becomes 135 = .ok (.iload_n 1, 1) := dk_27 (dk_at dksX7_becomes_5 17 rfl rfl)
theorem dX7_becomes_136 : decode cX7_becomes 136 = .ok (.iaload, 1) := dk_46 (dk_at dksX7_becomes_5 18 rfl rfl)
theorem dX7_becomes_137 : decode cX7_becomes 137 = .ok (.iastore, 1) := dk_79 (dk_at dksX7_becomes_5 19 rfl rfl)
theorem dX7_becomes_138 : decode cX7_becomes 138 = .ok (.aload_n 0, 1) := dk_42 (dk_at dksX7_becomes_5 20 rfl rfl)
theorem dX7_becomes_139 : decode cX7_becomes 139 = .ok (.getfield 30, 3) := dk_180 0 30 (dk_at dksX7_becomes_5 21 rfl rfl)
theorem dX7_becomes_142 : decode cX7_becomes 142 = .ok (.iload_n 1, 1) := dk_27 (dk_at dksX7_becomes_6 0 rfl rfl)
theorem dX7_becomes_143 : decode cX7_becomes 143 = .ok (.aload_n 0, 1) := dk_42 (dk_at dksX7_becomes_6 1 rfl rfl)
theorem dX7_becomes_144 : decode cX7_becomes 144 = .ok (.getfield 92, 3) := dk_180 0 92 (dk_at dksX7_becomes_6 2 rfl rfl)
theorem dX7_becomes_147 : decode cX7_becomes 147 = .ok (.iload_n 1, 1) := dk_27 (dk_at dksX7_becomes_6 5 rfl rfl)
theorem dX7_becomes_148 : decode cX7_becomes 148 = .ok (.iaload, 1) := dk_46 (dk_at dksX7_becomes_6 6 rfl rfl)
theorem dX7_becomes_149 : decode cX7_becomes 149 = .ok (.iastore, 1) := dk_79 (dk_at dksX7_becomes_6 7 rfl rfl)
theorem dX7_becomes_150 : decode cX7_becomes 150 = .ok (.iinc 1 1, 3) := dk_132 1 1 (dk_at dksX7_becomes_6 8 rfl rfl)
theorem dX7_becomes_153 : decode cX7_becomes 153 = .ok (.goto (-59), 3) := dk_167 255 197 (dk_at dksX7_becomes_6 11 rfl rfl)
theorem dX7_becomes_156 : decode cX7_becomes 156 = .ok (.iconst 0, 1) := dk_3 (dk_at dksX7_becomes_6 14 rfl rfl)
theorem dX7_becomes_157 : decode cX7_becomes 157 = .ok (.istore_n 1, 1) := dk_60 (dk_at dksX7_becomes_6 15 rfl rfl)
theorem dX7_becomes_158 : decode cX7_becomes 158 = .ok (.iload_n 1, 1) := dk_27 (dk_at dksX7_becomes_6 16 rfl rfl)
theorem dX7_becomes_159 : decode cX7_becomes 159 = .ok (.aload_n 0, 1) := dk_42 (dk_at dksX7_becomes_6 17 rfl rfl)
theorem dX7_becomes_160 : decode cX7_becomes 160 = .ok (.getfield 118, 3) := dk_180 0 118 (dk_at dksX7_becomes_6 18 rfl rfl)
theorem dX7_becomes_163 : decode cX7_becomes 163 = .ok (.if_icmp .ge 33, 3) := dk_162 0 33 (dk_at dksX7_becomes_6 21 rfl rfl)
theorem dX7_becomes_166 : decode cX7_becomes 166 = .ok (.aload_n 0, 1) := dk_42 (dk_at dksX7_becomes_7 0 rfl rfl)
theorem dX7_becomes_167 : decode cX7_becomes 167 = .ok (.getfield 33, 3) := dk_180 0 33 (dk_at dksX7_becomes_7 1 rfl rfl)
theorem dX7_becomes_170 : decode cX7_becomes 170 = .ok (.iload_n 1, 1) := dk_27 (dk_at dksX7_becomes_7 4 rfl rfl)
theorem dX7_becomes_171 : decode cX7_becomes 171 = .ok (.aload_n 0, 1) := dk_42 (dk_at dksX7_becomes_7 5 rfl rfl)
theorem dX7_becomes_172 : decode cX7_becomes 172 = .ok (.getfield 95, 3) := dk_180 0 95 (dk_at dksX7_becomes_7 6 rfl rfl)
theorem dX7_becomes_175 : decode cX7_becomes 175 = .ok (.iload_n 1, 1) := dk_27 (dk_at dksX7_becomes_7 9 rfl rfl)
theorem dX7_becomes_176 : decode cX7_becomes 176 = .ok (.iaload, 1) := dk_46 (dk_at dksX7_becomes_7 10 rfl rfl)
theorem dX7_becomes_177 : decode cX7_becomes 177 = .ok (.iastore, 1) := dk_79 (dk_at dksX7_becomes_7 11 rfl rfl)
theorem dX7_becomes_178 : decode cX7_becomes 178 = .ok (.aload_n 0, 1) := dk_42 (dk_at dksX7_becomes_7 12 rfl rfl)
theorem dX7_becomes_179 : decode cX7_becomes 179 = .ok (.getfield 36, 3) := dk_180 0 36 (dk_at dksX7_becomes_7 13 rfl rfl)
theorem dX7_becomes_182 : decode cX7_becomes 182 = .ok (.iload_n 1, 1) := dk_27 (dk_at dksX7_becomes_7 16 rfl rfl)
theorem dX7_becomes_183 : decode cX7_becomes 183 = .ok (.aload_n 0, 1) := dk_42 (dk_at dksX7_becomes_7 17 rfl rfl)
theorem dX7_becomes_184 : decode cX7_becomes 184 = .ok (.getfield 98, 3) := dk_180 0 98 (dk_at dksX7_becomes_7 18 rfl rfl)
theorem dX7_becomes_187 : decode cX7_becomes 187 = .ok (.iload_n 1, 1) := dk_27 (dk_at dksX7_becomes_7 21 rfl rfl)
theorem dX7_becomes_188 : decode cX7_becomes 188 = .ok (.iaload, 1) := dk_46 (dk_at dksX7_becomes_7 22 rfl rfl)
theorem dX7_becomes_189 : decode cX7_becomes 189 = .ok (.iastore, 1) := dk_79 (dk_at dksX7_becomes_7 23 rfl rfl)
theorem dX7_becomes_190 : decode cX7_becomes 190 = .ok (.iinc 1 1, 3) := dk_132 1 1 (dk_at dksX7_becomes_8 0 rfl rfl)
theorem dX7_becomes_193 : decode cX7_becomes 193 = .ok (.goto (-35), 3) := dk_167 255 221 (dk_at dksX7_becomes_8 3 rfl rfl)
theorem dX7_becomes_196 : decode cX7_becomes 196 = .ok (.iconst 0, 1) := dk_3 (dk_at dksX7_becomes_8 6 rfl rfl)
theorem dX7_becomes_197 : decode cX7_becomes 197 = .ok (.istore_n 1, 1) := dk_60 (dk_at dksX7_becomes_8 7 rfl rfl)
theorem dX7_becomes_198 : decode cX7_becomes 198 = .ok (.iload_n 1, 1) := dk_27 (dk_at dksX7_becomes_8 8 rfl rfl)
theorem dX7_becomes_199 : decode cX7_becomes 199 = .ok (.aload_n 0, 1) := dk_42 (dk_at dksX7_becomes_8 9 rfl rfl)
theorem dX7_becomes_200 : decode cX7_becomes 200 = .ok (.getfield 136, 3) := dk_180 0 136 (dk_at dksX7_becomes_8 10 rfl rfl)
theorem dX7_becomes_203 : decode cX7_becomes 203 = .ok (.if_icmp .ge 57, 3) := dk_162 0 57 (dk_at dksX7_becomes_8 13 rfl rfl)
theorem dX7_becomes_206 : decode cX7_becomes 206 = .ok (.aload_n 0, 1) := dk_42 (dk_at dksX7_becomes_8 16 rfl rfl)
theorem dX7_becomes_207 : decode cX7_becomes 207 = .ok (.getfield 39, 3) := dk_180 0 39 (dk_at dksX7_becomes_8 17 rfl rfl)
theorem dX7_becomes_210 : decode cX7_becomes 210 = .ok (.iload_n 1, 1) := dk_27 (dk_at dksX7_becomes_8 20 rfl rfl)
theorem dX7_becomes_211 : decode cX7_becomes 211 = .ok (.aload_n 0, 1) := dk_42 (dk_at dksX7_becomes_8 21 rfl rfl)
theorem dX7_becomes_212 : decode cX7_becomes 212 = .ok (.getfield 101, 3) := dk_180 0 101 (dk_at dksX7_becomes_9 0 rfl rfl)
theorem dX7_becomes_215 : decode cX7_becomes 215 = .ok (.iload_n 1, 1) := dk_27 (dk_at dksX7_becomes_9 3 rfl rfl)
theorem dX7_becomes_216 : decode cX7_becomes 216 = .ok (.iaload, 1) := dk_46 (dk_at dksX7_becomes_9 4 rfl rfl)
theorem dX7_becomes_217 : decode cX7_becomes 217 = .ok (.iastore, 1) := dk_79 (dk_at dksX7_becomes_9 5 rfl rfl)
theorem dX7_becomes_218 : decode cX7_becomes 218 = .ok (.aload_n 0, 1) := dk_42 (dk_at dksX7_becomes_9 6 rfl rfl)
theorem dX7_becomes_219 : decode cX7_becomes 219 = .ok (.getfield 42, 3) := dk_180 0 42 (dk_at dksX7_becomes_9 7 rfl rfl)
theorem dX7_becomes_222 : decode cX7_becomes 222 = .ok (.iload_n 1, 1) := dk_27 (dk_at dksX7_becomes_9 10 rfl rfl)
theorem dX7_becomes_223 : decode cX7_becomes 223 = .ok (.aload_n 0, 1) := dk_42 (dk_at dksX7_becomes_9 11 rfl rfl)
theorem dX7_becomes_224 : decode cX7_becomes 224 = .ok (.getfield 104, 3) := dk_180 0 104 (dk_at dksX7_becomes_9 12 rfl rfl)
theorem dX7_becomes_227 : decode cX7_becomes 227 = .ok (.iload_n 1, 1) := dk_27 (dk_at dksX7_becomes_9 15 rfl rfl)
theorem dX7_becomes_228 : decode cX7_becomes 228 = .ok (.iaload, 1) := dk_46 (dk_at dksX7_becomes_9 16 rfl rfl)
theorem dX7_becomes_229 : decode cX7_becomes 229 = .ok (.iastore, 1) := dk_79 (dk_at dksX7_becomes_9 17 rfl rfl)
theorem dX7_becomes_230 : decode cX7_becomes 230 = .ok (.aload_n 0, 1) := dk_42 (dk_at dksX7_becomes_9 18 rfl rfl)
theorem dX7_becomes_231 : decode cX7_becomes 231 = .ok (.getfield 45, 3) := dk_180 0 45 (dk_at dksX7_becomes_9 19 rfl rfl)
theorem dX7_becomes_234 : decode cX7_becomes 234 = .ok (.iload_n 1, 1) := dk_27 (dk_at dksX7_becomes_9 22 rfl rfl)
theorem dX7_becomes_235 : decode cX7_becomes 235 = .ok (.aload_n 0, 1) := dk_42 (dk_at dksX7_becomes_9 23 rfl rfl)
theorem dX7_becomes_236 : decode cX7_becomes 236 = .ok (.getfield 107, 3) := dk_180 0 107 (dk_at dksX7_becomes_10 0 rfl rfl)
theorem dX7_becomes_239 : decode cX7_becomes 239 = .ok (.iload_n 1, 1) := dk_27 (dk_at dksX7_becomes_10 3 rfl rfl)
theorem dX7_becomes_240 : decode cX7_becomes 240 = .ok (.iaload, 1) := dk_46 (dk_at dksX7_becomes_10 4 rfl rfl)
theorem dX7_becomes_241 : decode cX7_becomes 241 = .ok (.iastore, 1) := dk_79 (dk_at dksX7_becomes_10 5 rfl rfl)
theorem dX7_becomes_242 : decode cX7_becomes 242 = .ok (.aload_n 0, 1) := dk_42 (dk_at dksX7_becomes_10 6 rfl rfl)
theorem dX7_becomes_243 : decode cX7_becomes 243 = .ok (.getfield 48, 3) := dk_180 0 48 (dk_at dksX7_becomes_10 7 rfl rfl)
theorem dX7_becomes_246 : decode cX7_becomes 246 = .ok (.iload_n 1, 1) := dk_27 (dk_at dksX7_becomes_10 10 rfl rfl)
theorem dX7_becomes_247 : decode cX7_becomes 247 = .ok (.aload_n 0, 1) := dk_42 (dk_at dksX7_becomes_10 11 rfl rfl)
theorem dX7_becomes_248 : decode cX7_becomes 248 = .ok (.getfield 110, 3) := dk_180 0 110 (dk_at dksX7_becomes_10 12 rfl rfl)
theorem dX7_becomes_251 : decode cX7_becomes 251 = .ok (.iload_n 1, 1) := dk_27 (dk_at dksX7_becomes_10 15 rfl rfl)
theorem dX7_becomes_252 : decode cX7_becomes 252 = .ok (.iaload, 1) := dk_46 (dk_at dksX7_becomes_10 16 rfl rfl)
theorem dX7_becomes_253 : decode cX7_becomes 253 = .ok (.iastore, 1) := dk_79 (dk_at dksX7_becomes_10 17 rfl rfl)
theorem dX7_becomes_254 : decode cX7_becomes 254 = .ok (.iinc 1 1, 3) := dk_132 1 1 (dk_at dksX7_becomes_10 18 rfl rfl)
theorem dX7_becomes_257 : decode cX7_becomes 257 = .ok (.goto (-59), 3) := dk_167 255 197 (dk_at dksX7_becomes_10 21 rfl rfl)
theorem dX7_becomes_260 : decode cX7_becomes 260 = .ok (.return_, 1) := dk_177 (dk_at dksX7_becomes_11 0 rfl rfl)
abbrev cX7_errorPosition : ByteArray := prog_13_method_56_code
def yX7_errorPosition : MethodName := ⟨RX7, "errorPosition", "()I"⟩
theorem dX7_errorPosition_0 : decode cX7_errorPosition 0 = .ok (.aload_n 0, 1) := by decide +kernel
theorem dX7_errorPosition_1 : decode cX7_errorPosition 1 = .ok (.getfield 13, 3) := by decide +kernel
theorem dX7_errorPosition_4 : decode cX7_errorPosition 4 = .ok (.ireturn, 1) := by decide +kernel
abbrev cX7_undo : ByteArray := prog_13_method_58_code
def yX7_undo : MethodName := ⟨RX7, "undo", "()I"⟩
def dkwX7_undo_4 : List UInt8 := [180, 0, 143, 172]
abbrev dktX7_undo_4 : List UInt8 := dkwX7_undo_4 ++ []
def dkwX7_undo_3 : List UInt8 := [47, 80, 42, 180, 0, 54, 4, 42, 180, 0, 67, 5, 42, 180, 0, 143, 104, 4, 96, 47, 80, 42]
abbrev dktX7_undo_3 : List UInt8 := dkwX7_undo_3 ++ dktX7_undo_4
def dkwX7_undo_2 : List UInt8 := [96, 46, 79, 132, 1, 1, 167, 255, 225, 42, 180, 0, 54, 3, 42, 180, 0, 67, 5, 42, 180, 0, 143, 104]
abbrev dktX7_undo_2 : List UInt8 := dkwX7_undo_2 ++ dktX7_undo_3
def dkwX7_undo_1 : List UInt8 := [17, 14, 30, 162, 0, 30, 42, 180, 0, 51, 27, 42, 180, 0, 64, 17, 14, 30, 42, 180, 0, 143, 104, 27]
abbrev dktX7_undo_1 : List UInt8 := dkwX7_undo_1 ++ dktX7_undo_2
def dkwX7_undo_0 : List UInt8 := [42, 180, 0, 143, 154, 0, 5, 2, 172, 42, 89, 180, 0, 143, 4, 100, 181, 0, 143, 3, 60, 27]
abbrev dktX7_undo_0 : List UInt8 := dkwX7_undo_0 ++ dktX7_undo_1
theorem dksX7_undo_0 : cX7_undo.data.toList.drop 0 = dktX7_undo_0 := by decide +kernel
theorem dksX7_undo_1 : cX7_undo.data.toList.drop 22 = dktX7_undo_1 := dk_seg dksX7_undo_0 22 rfl rfl
theorem dksX7_undo_2 : cX7_undo.data.toList.drop 46 = dktX7_undo_2 := dk_seg dksX7_undo_1 24 rfl rfl
theorem dksX7_undo_3 : cX7_undo.data.toList.drop 70 = dktX7_undo_3 := dk_seg dksX7_undo_2 24 rfl rfl
theorem dksX7_undo_4 : cX7_undo.data.toList.drop 92 = dktX7_undo_4 := dk_seg dksX7_undo_3 22 rfl rfl
theorem dX7_undo_0 : decode cX7_undo 0 = .ok (.aload_n 0, 1) := dk_42 (dk_at dksX7_undo_0 0 rfl rfl)
theorem dX7_undo_1 : decode cX7_undo 1 = .ok (.getfield 143, 3) := dk_180 0 143 (dk_at dksX7_undo_0 1 rfl rfl)
theorem dX7_undo_4 : decode cX7_undo 4 = .ok (.ifCond .ne 5, 3) := dk_154 0 5 (dk_at dksX7_undo_0 4 rfl rfl)
theorem dX7_undo_7 : decode cX7_undo 7 = .ok (.iconst (-1), 1) := dk_2 (dk_at dksX7_undo_0 7 rfl rfl)
theorem dX7_undo_8 : decode cX7_undo 8 = .ok (.ireturn, 1) := dk_172 (dk_at dksX7_undo_0 8 rfl rfl)
theorem dX7_undo_9 : decode cX7_undo 9 = .ok (.aload_n 0, 1) := dk_42 (dk_at dksX7_undo_0 9 rfl rfl)
theorem dX7_undo_10 : decode cX7_undo 10 = .ok (.dup, 1) := dk_89 (dk_at dksX7_undo_0 10 rfl rfl)
theorem dX7_undo_11 : decode cX7_undo 11 = .ok (.getfield 143, 3) := dk_180 0 143 (dk_at dksX7_undo_0 11 rfl rfl)
theorem dX7_undo_14 : decode cX7_undo 14 = .ok (.iconst 1, 1) := dk_4 (dk_at dksX7_undo_0 14 rfl rfl)
theorem dX7_undo_15 : decode cX7_undo 15 = .ok (.isub, 1) := dk_100 (dk_at dksX7_undo_0 15 rfl rfl)
theorem dX7_undo_16 : decode cX7_undo 16 = .ok (.putfield 143, 3) := dk_181 0 143 (dk_at dksX7_undo_0 16 rfl rfl)
theorem dX7_undo_19 : decode cX7_undo 19 = .ok (.iconst 0, 1) := dk_3 (dk_at dksX7_undo_0 19 rfl rfl)
theorem dX7_undo_20 : decode cX7_undo 20 = .ok (.istore_n 1, 1) := dk_60 (dk_at dksX7_undo_0 20 rfl rfl)
theorem dX7_undo_21 : decode cX7_undo 21 = .ok (.iload_n 1, 1) := dk_27 (dk_at dksX7_undo_0 21 rfl rfl)
theorem dX7_undo_22 : decode cX7_undo 22 = .ok (.sipush 3614, 3) := dk_17 14 30 (dk_at dksX7_undo_1 0 rfl rfl)
theorem dX7_undo_25 : decode cX7_undo 25 = .ok (.if_icmp .ge 30, 3) := dk_162 0 30 (dk_at dksX7_undo_1 3 rfl rfl)
theorem dX7_undo_28 : decode cX7_undo 28 = .ok (.aload_n 0, 1) := dk_42 (dk_at dksX7_undo_1 6 rfl rfl)
theorem dX7_undo_29 : decode cX7_undo 29 = .ok (.getfield 51, 3) := dk_180 0 51 (dk_at dksX7_undo_1 7 rfl rfl)
theorem dX7_undo_32 : decode cX7_undo 32 = .ok (.iload_n 1, 1) := dk_27 (dk_at dksX7_undo_1 10 rfl rfl)
theorem dX7_undo_33 : decode cX7_undo 33 = .ok (.aload_n 0, 1) := dk_42 (dk_at dksX7_undo_1 11 rfl rfl)
theorem dX7_undo_34 : decode cX7_undo 34 = .ok (.getfield 64, 3) := dk_180 0 64 (dk_at dksX7_undo_1 12 rfl rfl)
theorem dX7_undo_37 : decode cX7_undo 37 = .ok (.sipush 3614, 3) := dk_17 14 30 (dk_at dksX7_undo_1 15 rfl rfl)
theorem dX7_undo_40 : decode cX7_undo 40 = .ok (.aload_n 0, 1) := dk_42 (dk_at dksX7_undo_1 18 rfl rfl)
theorem dX7_undo_41 : decode cX7_undo 41 = .ok (.getfield 143, 3) := dk_180 0 143 (dk_at dksX7_undo_1 19 rfl rfl)
theorem dX7_undo_44 : decode cX7_undo 44 = .ok (.imul, 1) := dk_104 (dk_at dksX7_undo_1 22 rfl rfl)
theorem dX7_undo_45 : decode cX7_undo 45 = .ok (.iload_n 1, 1) := dk_27 (dk_at dksX7_undo_1 23 rfl rfl)
theorem dX7_undo_46 : decode cX7_undo 46 = .ok (.iadd, 1) := dk_96 (dk_at dksX7_undo_2 0 rfl rfl)
theorem dX7_undo_47 : decode cX7_undo 47 = .ok (.iaload, 1) := dk_46 (dk_at dksX7_undo_2 1 rfl rfl)
theorem dX7_undo_48 : decode cX7_undo 48 = .ok (.iastore, 1) := dk_79 (dk_at dksX7_undo_2 2 rfl rfl)
theorem dX7_undo_49 : decode cX7_undo 49 = .ok (.iinc 1 1, 3) := dk_132 1 1 (dk_at dksX7_undo_2 3 rfl rfl)
theorem dX7_undo_52 : decode cX7_undo 52 = .ok (.goto (-31), 3) := dk_167 255 225 (dk_at dksX7_undo_2 6 rfl rfl)
theorem dX7_undo_55 : decode cX7_undo 55 = .ok (.aload_n 0, 1) := dk_42 (dk_at dksX7_undo_2 9 rfl rfl)
theorem dX7_undo_56 : decode cX7_undo 56 = .ok (.getfield 54, 3) := dk_180 0 54 (dk_at dksX7_undo_2 10 rfl rfl)
theorem dX7_undo_59 : decode cX7_undo 59 = .ok (.iconst 0, 1) := dk_3 (dk_at dksX7_undo_2 13 rfl rfl)
theorem dX7_undo_60 : decode cX7_undo 60 = .ok (.aload_n 0, 1) := dk_42 (dk_at dksX7_undo_2 14 rfl rfl)
theorem dX7_undo_61 : decode cX7_undo 61 = .ok (.getfield 67, 3) := dk_180 0 67 (dk_at dksX7_undo_2 15 rfl rfl)
theorem dX7_undo_64 : decode cX7_undo 64 = .ok (.iconst 2, 1) := dk_5 (dk_at dksX7_undo_2 18 rfl rfl)
theorem dX7_undo_65 : decode cX7_undo 65 = .ok (.aload_n 0, 1) := dk_42 (dk_at dksX7_undo_2 19 rfl rfl)
theorem dX7_undo_66 : decode cX7_undo 66 = .ok (.getfield 143, 3) := dk_180 0 143 (dk_at dksX7_undo_2 20 rfl rfl)
theorem dX7_undo_69 : decode cX7_undo 69 = .ok (.imul, 1) := dk_104 (dk_at dksX7_undo_2 23 rfl rfl)
theorem dX7_undo_70 : decode cX7_undo 70 = .ok (.laload, 1) := dk_47 (dk_at dksX7_undo_3 0 rfl rfl)
theorem dX7_undo_71 : decode cX7_undo 71 = .ok (.lastore, 1) := dk_80 (dk_at dksX7_undo_3 1 rfl rfl)
theorem dX7_undo_72 : decode cX7_undo 72 = .ok (.aload_n 0, 1) := dk_42 (dk_at dksX7_undo_3 2 rfl rfl)
theorem dX7_undo_73 : decode cX7_undo 73 = .ok (.getfield 54, 3) := dk_180 0 54 (dk_at dksX7_undo_3 3 rfl rfl)
theorem dX7_undo_76 : decode cX7_undo 76 = .ok (.iconst 1, 1) := dk_4 (dk_at dksX7_undo_3 6 rfl rfl)
theorem dX7_undo_77 : decode cX7_undo 77 = .ok (.aload_n 0, 1) := dk_42 (dk_at dksX7_undo_3 7 rfl rfl)
theorem dX7_undo_78 : decode cX7_undo 78 = .ok (.getfield 67, 3) := dk_180 0 67 (dk_at dksX7_undo_3 8 rfl rfl)
theorem dX7_undo_81 : decode cX7_undo 81 = .ok (.iconst 2, 1) := dk_5 (dk_at dksX7_undo_3 11 rfl rfl)
theorem dX7_undo_82 : decode cX7_undo 82 = .ok (.aload_n 0, 1) := dk_42 (dk_at dksX7_undo_3 12 rfl rfl)
theorem dX7_undo_83 : decode cX7_undo 83 = .ok (.getfield 143, 3) := dk_180 0 143 (dk_at dksX7_undo_3 13 rfl rfl)
theorem dX7_undo_86 : decode cX7_undo 86 = .ok (.imul, 1) := dk_104 (dk_at dksX7_undo_3 16 rfl rfl)
theorem dX7_undo_87 : decode cX7_undo 87 = .ok (.iconst 1, 1) := dk_4 (dk_at dksX7_undo_3 17 rfl rfl)
theorem dX7_undo_88 : decode cX7_undo 88 = .ok (.iadd, 1) := dk_96 (dk_at dksX7_undo_3 18 rfl rfl)
theorem dX7_undo_89 : decode cX7_undo 89 = .ok (.laload, 1) := dk_47 (dk_at dksX7_undo_3 19 rfl rfl)
theorem dX7_undo_90 : decode cX7_undo 90 = .ok (.lastore, 1) := dk_80 (dk_at dksX7_undo_3 20 rfl rfl)
theorem dX7_undo_91 : decode cX7_undo 91 = .ok (.aload_n 0, 1) := dk_42 (dk_at dksX7_undo_3 21 rfl rfl)
theorem dX7_undo_92 : decode cX7_undo 92 = .ok (.getfield 143, 3) := dk_180 0 143 (dk_at dksX7_undo_4 0 rfl rfl)
theorem dX7_undo_95 : decode cX7_undo 95 = .ok (.ireturn, 1) := dk_172 (dk_at dksX7_undo_4 3 rfl rfl)
abbrev cX7_setMode : ByteArray := prog_13_method_61_code
def yX7_setMode : MethodName := ⟨RX7, "setMode", "(I)I"⟩
def dkwX7_setMode_1 : List UInt8 := [42, 182, 1, 118, 42, 180, 0, 51, 4, 27, 79, 28, 172]
abbrev dktX7_setMode_1 : List UInt8 := dkwX7_setMode_1 ++ []
def dkwX7_setMode_0 : List UInt8 := [27, 184, 1, 115, 154, 0, 5, 2, 172, 42, 180, 0, 51, 4, 46, 61, 28, 27, 160, 0, 6, 16, 254, 172]
abbrev dktX7_setMode_0 : List UInt8 := dkwX7_setMode_0 ++ dktX7_setMode_1
theorem dksX7_setMode_0 : cX7_setMode.data.toList.drop 0 = dktX7_setMode_0 := by decide +kernel
theorem dksX7_setMode_1 : cX7_setMode.data.toList.drop 24 = dktX7_setMode_1 := dk_seg dksX7_setMode_0 24 rfl rfl
theorem dX7_setMode_0 : decode cX7_setMode 0 = .ok (.iload_n 1, 1) := dk_27 (dk_at dksX7_setMode_0 0 rfl rfl)
theorem dX7_setMode_1 : decode cX7_setMode 1 = .ok (.invokestatic 371, 3) := dk_184 1 115 (dk_at dksX7_setMode_0 1 rfl rfl)
theorem dX7_setMode_4 : decode cX7_setMode 4 = .ok (.ifCond .ne 5, 3) := dk_154 0 5 (dk_at dksX7_setMode_0 4 rfl rfl)
theorem dX7_setMode_7 : decode cX7_setMode 7 = .ok (.iconst (-1), 1) := dk_2 (dk_at dksX7_setMode_0 7 rfl rfl)
theorem dX7_setMode_8 : decode cX7_setMode 8 = .ok (.ireturn, 1) := dk_172 (dk_at dksX7_setMode_0 8 rfl rfl)
theorem dX7_setMode_9 : decode cX7_setMode 9 = .ok (.aload_n 0, 1) := dk_42 (dk_at dksX7_setMode_0 9 rfl rfl)
theorem dX7_setMode_10 : decode cX7_setMode 10 = .ok (.getfield 51, 3) := dk_180 0 51 (dk_at dksX7_setMode_0 10 rfl rfl)
theorem dX7_setMode_13 : decode cX7_setMode 13 = .ok (.iconst 1, 1) := dk_4 (dk_at dksX7_setMode_0 13 rfl rfl)
theorem dX7_setMode_14 : decode cX7_setMode 14 = .ok (.iaload, 1) := dk_46 (dk_at dksX7_setMode_0 14 rfl rfl)
theorem dX7_setMode_15 : decode cX7_setMode 15 = .ok (.istore_n 2, 1) := dk_61 (dk_at dksX7_setMode_0 15 rfl rfl)
theorem dX7_setMode_16 : decode cX7_setMode 16 = .ok (.iload_n 2, 1) := dk_28 (dk_at dksX7_setMode_0 16 rfl rfl)
theorem dX7_setMode_17 : decode cX7_setMode 17 = .ok (.iload_n 1, 1) := dk_27 (dk_at dksX7_setMode_0 17 rfl rfl)
theorem dX7_setMode_18 : decode cX7_setMode 18 = .ok (.if_icmp .ne 6, 3) := dk_160 0 6 (dk_at dksX7_setMode_0 18 rfl rfl)
theorem dX7_setMode_21 : decode cX7_setMode 21 = .ok (.bipush (-2), 2) := dk_16 254 (dk_at dksX7_setMode_0 21 rfl rfl)
theorem dX7_setMode_23 : decode cX7_setMode 23 = .ok (.ireturn, 1) := dk_172 (dk_at dksX7_setMode_0 23 rfl rfl)
theorem dX7_setMode_24 : decode cX7_setMode 24 = .ok (.aload_n 0, 1) := dk_42 (dk_at dksX7_setMode_1 0 rfl rfl)
theorem dX7_setMode_25 : decode cX7_setMode 25 = .ok (.invokevirtual 374, 3) := dk_182 1 118 (dk_at dksX7_setMode_1 1 rfl rfl)
theorem dX7_setMode_28 : decode cX7_setMode 28 = .ok (.aload_n 0, 1) := dk_42 (dk_at dksX7_setMode_1 4 rfl rfl)
theorem dX7_setMode_29 : decode cX7_setMode 29 = .ok (.getfield 51, 3) := dk_180 0 51 (dk_at dksX7_setMode_1 5 rfl rfl)
theorem dX7_setMode_32 : decode cX7_setMode 32 = .ok (.iconst 1, 1) := dk_4 (dk_at dksX7_setMode_1 8 rfl rfl)
theorem dX7_setMode_33 : decode cX7_setMode 33 = .ok (.iload_n 1, 1) := dk_27 (dk_at dksX7_setMode_1 9 rfl rfl)
theorem dX7_setMode_34 : decode cX7_setMode 34 = .ok (.iastore, 1) := dk_79 (dk_at dksX7_setMode_1 10 rfl rfl)
theorem dX7_setMode_35 : decode cX7_setMode 35 = .ok (.iload_n 2, 1) := dk_28 (dk_at dksX7_setMode_1 11 rfl rfl)
theorem dX7_setMode_36 : decode cX7_setMode 36 = .ok (.ireturn, 1) := dk_172 (dk_at dksX7_setMode_1 12 rfl rfl)
abbrev cX7_isMode : ByteArray := prog_13_method_59_code
def yX7_isMode : MethodName := ⟨RX7, "isMode", "(I)Z"⟩
def dkwX7_isMode_0 : List UInt8 := [26, 133, 9, 20, 1, 113, 184, 0, 146, 172]
abbrev dktX7_isMode_0 : List UInt8 := dkwX7_isMode_0 ++ []
theorem dksX7_isMode_0 : cX7_isMode.data.toList.drop 0 = dktX7_isMode_0 := by decide +kernel
theorem dX7_isMode_0 : decode cX7_isMode 0 = .ok (.iload_n 0, 1) := dk_26 (dk_at dksX7_isMode_0 0 rfl rfl)
theorem dX7_isMode_1 : decode cX7_isMode 1 = .ok (.i2l, 1) := dk_133 (dk_at dksX7_isMode_0 1 rfl rfl)
theorem dX7_isMode_2 : decode cX7_isMode 2 = .ok (.lconst 0, 1) := dk_9 (dk_at dksX7_isMode_0 2 rfl rfl)
theorem dX7_isMode_3 : decode cX7_isMode 3 = .ok (.ldc2_w 369, 3) := dk_20 1 113 (dk_at dksX7_isMode_0 3 rfl rfl)
theorem dX7_isMode_6 : decode cX7_isMode 6 = .ok (.invokestatic 146, 3) := dk_184 0 146 (dk_at dksX7_isMode_0 6 rfl rfl)
theorem dX7_isMode_9 : decode cX7_isMode 9 = .ok (.ireturn, 1) := dk_172 (dk_at dksX7_isMode_0 9 rfl rfl)
abbrev cX7_keeps : ByteArray := prog_13_method_57_code
def yX7_keeps : MethodName := ⟨RX7, "keeps", "()V"⟩
def dkwX7_keeps_6 : List UInt8 := [180, 0, 143, 104, 4, 96, 42, 180, 0, 54, 4, 47, 80, 42, 89, 180, 0, 143, 4, 96, 181, 0, 143, 177]
abbrev dktX7_keeps_6 : List UInt8 := dkwX7_keeps_6 ++ []
def dkwX7_keeps_5 : List UInt8 := [180, 0, 67, 5, 42, 180, 0, 143, 104, 42, 180, 0, 54, 3, 47, 80, 42, 180, 0, 67, 5, 42]
abbrev dktX7_keeps_5 : List UInt8 := dkwX7_keeps_5 ++ dktX7_keeps_6
def dkwX7_keeps_4 : List UInt8 := [17, 14, 30, 42, 180, 0, 143, 104, 27, 96, 42, 180, 0, 51, 27, 46, 79, 132, 1, 1, 167, 255, 225, 42]
abbrev dktX7_keeps_4 : List UInt8 := dkwX7_keeps_4 ++ dktX7_keeps_5
def dkwX7_keeps_3 : List UInt8 := [89, 180, 0, 143, 4, 100, 181, 0, 143, 3, 60, 27, 17, 14, 30, 162, 0, 30, 42, 180, 0, 64]
abbrev dktX7_keeps_3 : List UInt8 := dkwX7_keeps_3 ++ dktX7_keeps_4
def dkwX7_keeps_2 : List UInt8 := [162, 0, 23, 42, 180, 0, 67, 27, 5, 100, 42, 180, 0, 67, 27, 47, 80, 132, 1, 1, 167, 255, 233, 42]
abbrev dktX7_keeps_2 : List UInt8 := dkwX7_keeps_2 ++ dktX7_keeps_3
def dkwX7_keeps_1 : List UInt8 := [27, 17, 14, 30, 100, 42, 180, 0, 64, 27, 46, 79, 132, 1, 1, 167, 255, 230, 5, 60, 27, 16, 16]
abbrev dktX7_keeps_1 : List UInt8 := dkwX7_keeps_1 ++ dktX7_keeps_2
def dkwX7_keeps_0 : List UInt8 := [42, 180, 0, 143, 16, 8, 160, 0, 74, 17, 14, 30, 60, 27, 17, 112, 240, 162, 0, 25, 42, 180, 0, 64]
abbrev dktX7_keeps_0 : List UInt8 := dkwX7_keeps_0 ++ dktX7_keeps_1
theorem dksX7_keeps_0 : cX7_keeps.data.toList.drop 0 = dktX7_keeps_0 := by decide +kernel
theorem dksX7_keeps_1 : cX7_keeps.data.toList.drop 24 = dktX7_keeps_1 := dk_seg dksX7_keeps_0 24 rfl rfl
theorem dksX7_keeps_2 : cX7_keeps.data.toList.drop 47 = dktX7_keeps_2 := dk_seg dksX7_keeps_1 23 rfl rfl
theorem dksX7_keeps_3 : cX7_keeps.data.toList.drop 71 = dktX7_keeps_3 := dk_seg dksX7_keeps_2 24 rfl rfl
theorem dksX7_keeps_4 : cX7_keeps.data.toList.drop 93 = dktX7_keeps_4 := dk_seg dksX7_keeps_3 22 rfl rfl
theorem dksX7_keeps_5 : cX7_keeps.data.toList.drop 117 = dktX7_keeps_5 := dk_seg dksX7_keeps_4 24 rfl rfl
theorem dksX7_keeps_6 : cX7_keeps.data.toList.drop 139 = dktX7_keeps_6 := dk_seg dksX7_keeps_5 22 rfl rfl
theorem dX7_keeps_0 : decode cX7_keeps 0 = .ok (.aload_n 0, 1) := dk_42 (dk_at dksX7_keeps_0 0 rfl rfl)
theorem dX7_keeps_1 : decode cX7_keeps 1 = .ok (.getfield 143, 3) := dk_180 0 143 (dk_at dksX7_keeps_0 1 rfl rfl)
theorem dX7_keeps_4 : decode cX7_keeps 4 = .ok (.bipush 8, 2) := dk_16 8 (dk_at dksX7_keeps_0 4 rfl rfl)
theorem dX7_keeps_6 : decode cX7_keeps 6 = .ok (.if_icmp .ne 74, 3) := dk_160 0 74 (dk_at dksX7_keeps_0 6 rfl rfl)
theorem dX7_keeps_9 : decode cX7_keeps 9 = .ok (.sipush 3614, 3) := dk_17 14 30 (dk_at dksX7_keeps_0 9 rfl rfl)
theorem dX7_keeps_12 : decode cX7_keeps 12 = .ok (.istore_n 1, 1) := dk_60 (dk_at dksX7_keeps_0 12 rfl rfl)
theorem dX7_keeps_13 : decode cX7_keeps 13 = .ok (.iload_n 1, 1) := dk_27 (dk_at dksX7_keeps_0 13 rfl rfl)
theorem dX7_keeps_14 : decode cX7_keeps 14 = .ok (.sipush 28912, 3) := dk_17 112 240 (dk_at dksX7_keeps_0 14 rfl rfl)
theorem dX7_keeps_17 : decode cX7_keeps 17 = .ok (.if_icmp .ge 25, 3) := dk_162 0 25 (dk_at dksX7_keeps_0 17 rfl rfl)
theorem dX7_keeps_20 : decode cX7_keeps 20 = .ok (.aload_n 0, 1) := dk_42 (dk_at dksX7_keeps_0 20 rfl rfl)
theorem dX7_keeps_21 : decode cX7_keeps 21 = .ok (.getfield 64, 3) := dk_180 0 64 (dk_at dksX7_keeps_0 21 rfl rfl)
theorem dX7_keeps_24 : decode cX7_keeps 24 = .ok (.iload_n 1, 1) := dk_27 (dk_at dksX7_keeps_1 0 rfl rfl)
theorem dX7_keeps_25 : decode cX7_keeps 25 = .ok (.sipush 3614, 3) := dk_17 14 30 (dk_at dksX7_keeps_1 1 rfl rfl)
theorem dX7_keeps_28 : decode cX7_keeps 28 = .ok (.isub, 1) := dk_100 (dk_at dksX7_keeps_1 4 rfl rfl)
theorem dX7_keeps_29 : decode cX7_keeps 29 = .ok (.aload_n 0, 1) := dk_42 (dk_at dksX7_keeps_1 5 rfl rfl)
theorem dX7_keeps_30 : decode cX7_keeps 30 = .ok (.getfield 64, 3) := dk_180 0 64 (dk_at dksX7_keeps_1 6 rfl rfl)
theorem dX7_keeps_33 : decode cX7_keeps 33 = .ok (.iload_n 1, 1) := dk_27 (dk_at dksX7_keeps_1 9 rfl rfl)
theorem dX7_keeps_34 : decode cX7_keeps 34 = .ok (.iaload, 1) := dk_46 (dk_at dksX7_keeps_1 10 rfl rfl)
theorem dX7_keeps_35 : decode cX7_keeps 35 = .ok (.iastore, 1) := dk_79 (dk_at dksX7_keeps_1 11 rfl rfl)
theorem dX7_keeps_36 : decode cX7_keeps 36 = .ok (.iinc 1 1, 3) := dk_132 1 1 (dk_at dksX7_keeps_1 12 rfl rfl)
theorem dX7_keeps_39 : decode cX7_keeps 39 = .ok (.goto (-26), 3) := dk_167 255 230 (dk_at dksX7_keeps_1 15 rfl rfl)
theorem dX7_keeps_42 : decode cX7_keeps 42 = .ok (.iconst 2, 1) := dk_5 (dk_at dksX7_keeps_1 18 rfl rfl)
theorem dX7_keeps_43 : decode cX7_keeps 43 = .ok (.istore_n 1, 1) := dk_60 (dk_at dksX7_keeps_1 19 rfl rfl)
theorem dX7_keeps_44 : decode cX7_keeps 44 = .ok (.iload_n 1, 1) := dk_27 (dk_at dksX7_keeps_1 20 rfl rfl)
theorem dX7_keeps_45 : decode cX7_keeps 45 = .ok (.bipush 16, 2) := dk_16 16 (dk_at dksX7_keeps_1 21 rfl rfl)
theorem dX7_keeps_47 : decode cX7_keeps 47 = .ok (.if_icmp .ge 23, 3) := dk_162 0 23 (dk_at dksX7_keeps_2 0 rfl rfl)
theorem dX7_keeps_50 : decode cX7_keeps 50 = .ok (.aload_n 0, 1) := dk_42 (dk_at dksX7_keeps_2 3 rfl rfl)
theorem dX7_keeps_51 : decode cX7_keeps 51 = .ok (.getfield 67, 3) := dk_180 0 67 (dk_at dksX7_keeps_2 4 rfl rfl)
theorem dX7_keeps_54 : decode cX7_keeps 54 = .ok (.iload_n 1, 1) := dk_27 (dk_at dksX7_keeps_2 7 rfl rfl)
theorem dX7_keeps_55 : decode cX7_keeps 55 = .ok (.iconst 2, 1) := dk_5 (dk_at dksX7_keeps_2 8 rfl rfl)
theorem dX7_keeps_56 : decode cX7_keeps 56 = .ok (.isub, 1) := dk_100 (dk_at dksX7_keeps_2 9 rfl rfl)
theorem dX7_keeps_57 : decode cX7_keeps 57 = .ok (.aload_n 0, 1) := dk_42 (dk_at dksX7_keeps_2 10 rfl rfl)
theorem dX7_keeps_58 : decode cX7_keeps 58 = .ok (.getfield 67, 3) := dk_180 0 67 (dk_at dksX7_keeps_2 11 rfl rfl)
theorem dX7_keeps_61 : decode cX7_keeps 61 = .ok (.iload_n 1, 1) := dk_27 (dk_at dksX7_keeps_2 14 rfl rfl)
theorem dX7_keeps_62 : decode cX7_keeps 62 = .ok (.laload, 1) := dk_47 (dk_at dksX7_keeps_2 15 rfl rfl)
theorem dX7_keeps_63 : decode cX7_keeps 63 = .ok (.lastore, 1) := dk_80 (dk_at dksX7_keeps_2 16 rfl rfl)
theorem dX7_keeps_64 : decode cX7_keeps 64 = .ok (.iinc 1 1, 3) := dk_132 1 1 (dk_at dksX7_keeps_2 17 rfl rfl)
theorem dX7_keeps_67 : decode cX7_keeps 67 = .ok (.goto (-23), 3) := dk_167 255 233 (dk_at dksX7_keeps_2 20 rfl rfl)
theorem dX7_keeps_70 : decode cX7_keeps 70 = .ok (.aload_n 0, 1) := dk_42 (dk_at dksX7_keeps_2 23 rfl rfl)
theorem dX7_keeps_71 : decode cX7_keeps 71 = .ok (.dup, 1) := dk_89 (dk_at dksX7_keeps_3 0 rfl rfl)
theorem dX7_keeps_72 : decode cX7_keeps 72 = .ok (.getfield 143, 3) := dk_180 0 143 (dk_at dksX7_keeps_3 1 rfl rfl)
theorem dX7_keeps_75 : decode cX7_keeps 75 = .ok (.iconst 1, 1) := dk_4 (dk_at dksX7_keeps_3 4 rfl rfl)
theorem dX7_keeps_76 : decode cX7_keeps 76 = .ok (.isub, 1) := dk_100 (dk_at dksX7_keeps_3 5 rfl rfl)
theorem dX7_keeps_77 : decode cX7_keeps 77 = .ok (.putfield 143, 3) := dk_181 0 143 (dk_at dksX7_keeps_3 6 rfl rfl)
theorem dX7_keeps_80 : decode cX7_keeps 80 = .ok (.iconst 0, 1) := dk_3 (dk_at dksX7_keeps_3 9 rfl rfl)
theorem dX7_keeps_81 : decode cX7_keeps 81 = .ok (.istore_n 1, 1) := dk_60 (dk_at dksX7_keeps_3 10 rfl rfl)
theorem dX7_keeps_82 : decode cX7_keeps 82 = .ok (.iload_n 1, 1) := dk_27 (dk_at dksX7_keeps_3 11 rfl rfl)
theorem dX7_keeps_83 : decode cX7_keeps 83 = .ok (.sipush 3614, 3) := dk_17 14 30 (dk_at dksX7_keeps_3 12 rfl rfl)
theorem dX7_keeps_86 : decode cX7_keeps 86 = .ok (.if_icmp .ge 30, 3) := dk_162 0 30 (dk_at dksX7_keeps_3 15 rfl rfl)
theorem dX7_keeps_89 : decode cX7_keeps 89 = .ok (.aload_n 0, 1) := dk_42 (dk_at dksX7_keeps_3 18 rfl rfl)
theorem dX7_keeps_90 : decode cX7_keeps 90 = .ok (.getfield 64, 3) := dk_180 0 64 (dk_at dksX7_keeps_3 19 rfl rfl)
theorem dX7_keeps_93 : decode cX7_keeps 93 = .ok (.sipush 3614, 3) := dk_17 14 30 (dk_at dksX7_keeps_4 0 rfl rfl)
theorem dX7_keeps_96 : decode cX7_keeps 96 = .ok (.aload_n 0, 1) := dk_42 (dk_at dksX7_keeps_4 3 rfl rfl)
theorem dX7_keeps_97 : decode cX7_keeps 97 = .ok (.getfield 143, 3) := dk_180 0 143 (dk_at dksX7_keeps_4 4 rfl rfl)
theorem dX7_keeps_100 : decode cX7_keeps 100 = .ok (.imul, 1) := dk_104 (dk_at dksX7_keeps_4 7 rfl rfl)
theorem dX7_keeps_101 : decode cX7_keeps 101 = .ok (.iload_n 1, 1) := dk_27 (dk_at dksX7_keeps_4 8 rfl rfl)
theorem dX7_keeps_102 : decode cX7_keeps 102 = .ok (.iadd, 1) := dk_96 (dk_at dksX7_keeps_4 9 rfl rfl)
theorem dX7_keeps_103 : decode cX7_keeps 103 = .ok (.aload_n 0, 1) := dk_42 (dk_at dksX7_keeps_4 10 rfl rfl)
theorem dX7_keeps_104 : decode cX7_keeps 104 = .ok (.getfield 51, 3) := dk_180 0 51 (dk_at dksX7_keeps_4 11 rfl rfl)
theorem dX7_keeps_107 : decode cX7_keeps 107 = .ok (.iload_n 1, 1) := dk_27 (dk_at dksX7_keeps_4 14 rfl rfl)
theorem dX7_keeps_108 : decode cX7_keeps 108 = .ok (.iaload, 1) := dk_46 (dk_at dksX7_keeps_4 15 rfl rfl)
theorem dX7_keeps_109 : decode cX7_keeps 109 = .ok (.iastore, 1) := dk_79 (dk_at dksX7_keeps_4 16 rfl rfl)
theorem dX7_keeps_110 : decode cX7_keeps 110 = .ok (.iinc 1 1, 3) := dk_132 1 1 (dk_at dksX7_keeps_4 17 rfl rfl)
theorem dX7_keeps_113 : decode cX7_keeps 113 = .ok (.goto (-31), 3) := dk_167 255 225 (dk_at dksX7_keeps_4 20 rfl rfl)
theorem dX7_keeps_116 : decode cX7_keeps 116 = .ok (.aload_n 0, 1) := dk_42 (dk_at dksX7_keeps_4 23 rfl rfl)
theorem dX7_keeps_117 : decode cX7_keeps 117 = .ok (.getfield 67, 3) := dk_180 0 67 (dk_at dksX7_keeps_5 0 rfl rfl)
theorem dX7_keeps_120 : decode cX7_keeps 120 = .ok (.iconst 2, 1) := dk_5 (dk_at dksX7_keeps_5 3 rfl rfl)
theorem dX7_keeps_121 : decode cX7_keeps 121 = .ok (.aload_n 0, 1) := dk_42 (dk_at dksX7_keeps_5 4 rfl rfl)
theorem dX7_keeps_122 : decode cX7_keeps 122 = .ok (.getfield 143, 3) := dk_180 0 143 (dk_at dksX7_keeps_5 5 rfl rfl)
theorem dX7_keeps_125 : decode cX7_keeps 125 = .ok (.imul, 1) := dk_104 (dk_at dksX7_keeps_5 8 rfl rfl)
theorem dX7_keeps_126 : decode cX7_keeps 126 = .ok (.aload_n 0, 1) := dk_42 (dk_at dksX7_keeps_5 9 rfl rfl)
theorem dX7_keeps_127 : decode cX7_keeps 127 = .ok (.getfield 54, 3) := dk_180 0 54 (dk_at dksX7_keeps_5 10 rfl rfl)
theorem dX7_keeps_130 : decode cX7_keeps 130 = .ok (.iconst 0, 1) := dk_3 (dk_at dksX7_keeps_5 13 rfl rfl)
theorem dX7_keeps_131 : decode cX7_keeps 131 = .ok (.laload, 1) := dk_47 (dk_at dksX7_keeps_5 14 rfl rfl)
theorem dX7_keeps_132 : decode cX7_keeps 132 = .ok (.lastore, 1) := dk_80 (dk_at dksX7_keeps_5 15 rfl rfl)
theorem dX7_keeps_133 : decode cX7_keeps 133 = .ok (.aload_n 0, 1) := dk_42 (dk_at dksX7_keeps_5 16 rfl rfl)
theorem dX7_keeps_134 : decode cX7_keeps 134 = .ok (.getfield 67, 3) := dk_180 0 67 (dk_at dksX7_keeps_5 17 rfl rfl)
theorem dX7_keeps_137 : decode cX7_keeps 137 = .ok (.iconst 2, 1) := dk_5 (dk_at dksX7_keeps_5 20 rfl rfl)
theorem dX7_keeps_138 : decode cX7_keeps 138 = .ok (.aload_n 0, 1) := dk_42 (dk_at dksX7_keeps_5 21 rfl rfl)
theorem dX7_keeps_139 : decode cX7_keeps 139 = .ok (.getfield 143, 3) := dk_180 0 143 (dk_at dksX7_keeps_6 0 rfl rfl)
theorem dX7_keeps_142 : decode cX7_keeps 142 = .ok (.imul, 1) := dk_104 (dk_at dksX7_keeps_6 3 rfl rfl)
theorem dX7_keeps_143 : decode cX7_keeps 143 = .ok (.iconst 1, 1) := dk_4 (dk_at dksX7_keeps_6 4 rfl rfl)
theorem dX7_keeps_144 : decode cX7_keeps 144 = .ok (.iadd, 1) := dk_96 (dk_at dksX7_keeps_6 5 rfl rfl)
theorem dX7_keeps_145 : decode cX7_keeps 145 = .ok (.aload_n 0, 1) := dk_42 (dk_at dksX7_keeps_6 6 rfl rfl)
theorem dX7_keeps_146 : decode cX7_keeps 146 = .ok (.getfield 54, 3) := dk_180 0 54 (dk_at dksX7_keeps_6 7 rfl rfl)
theorem dX7_keeps_149 : decode cX7_keeps 149 = .ok (.iconst 1, 1) := dk_4 (dk_at dksX7_keeps_6 10 rfl rfl)
theorem dX7_keeps_150 : decode cX7_keeps 150 = .ok (.laload, 1) := dk_47 (dk_at dksX7_keeps_6 11 rfl rfl)
theorem dX7_keeps_151 : decode cX7_keeps 151 = .ok (.lastore, 1) := dk_80 (dk_at dksX7_keeps_6 12 rfl rfl)
theorem dX7_keeps_152 : decode cX7_keeps 152 = .ok (.aload_n 0, 1) := dk_42 (dk_at dksX7_keeps_6 13 rfl rfl)
theorem dX7_keeps_153 : decode cX7_keeps 153 = .ok (.dup, 1) := dk_89 (dk_at dksX7_keeps_6 14 rfl rfl)
theorem dX7_keeps_154 : decode cX7_keeps 154 = .ok (.getfield 143, 3) := dk_180 0 143 (dk_at dksX7_keeps_6 15 rfl rfl)
theorem dX7_keeps_157 : decode cX7_keeps 157 = .ok (.iconst 1, 1) := dk_4 (dk_at dksX7_keeps_6 18 rfl rfl)
theorem dX7_keeps_158 : decode cX7_keeps 158 = .ok (.iadd, 1) := dk_96 (dk_at dksX7_keeps_6 19 rfl rfl)
theorem dX7_keeps_159 : decode cX7_keeps 159 = .ok (.putfield 143, 3) := dk_181 0 143 (dk_at dksX7_keeps_6 20 rfl rfl)
theorem dX7_keeps_162 : decode cX7_keeps 162 = .ok (.return_, 1) := dk_177 (dk_at dksX7_keeps_6 23 rfl rfl)
abbrev cX7_setPoint : ByteArray := prog_13_method_62_code
def yX7_setPoint : MethodName := ⟨RX7, "setPoint", "(IZ)I"⟩
def dkwX7_setPoint_2 : List UInt8 := [153, 0, 7, 4, 167, 0, 4, 3, 79, 42, 182, 1, 124, 172]
abbrev dktX7_setPoint_2 : List UInt8 := dkwX7_setPoint_2 ++ []
def dkwX7_setPoint_1 : List UInt8 := [167, 0, 4, 3, 28, 160, 0, 6, 16, 254, 172, 42, 182, 1, 118, 42, 180, 0, 51, 16, 13, 27, 96, 28]
abbrev dktX7_setPoint_1 : List UInt8 := dkwX7_setPoint_1 ++ dktX7_setPoint_2
def dkwX7_setPoint_0 : List UInt8 := [42, 27, 182, 1, 121, 154, 0, 5, 2, 172, 42, 180, 0, 51, 16, 13, 27, 96, 46, 4, 160, 0, 7, 4]
abbrev dktX7_setPoint_0 : List UInt8 := dkwX7_setPoint_0 ++ dktX7_setPoint_1
theorem dksX7_setPoint_0 : cX7_setPoint.data.toList.drop 0 = dktX7_setPoint_0 := by decide +kernel
theorem dksX7_setPoint_1 : cX7_setPoint.data.toList.drop 24 = dktX7_setPoint_1 := dk_seg dksX7_setPoint_0 24 rfl rfl
theorem dksX7_setPoint_2 : cX7_setPoint.data.toList.drop 48 = dktX7_setPoint_2 := dk_seg dksX7_setPoint_1 24 rfl rfl
theorem dX7_setPoint_0 : decode cX7_setPoint 0 = .ok (.aload_n 0, 1) := dk_42 (dk_at dksX7_setPoint_0 0 rfl rfl)
theorem dX7_setPoint_1 : decode cX7_setPoint 1 = .ok (.iload_n 1, 1) := dk_27 (dk_at dksX7_setPoint_0 1 rfl rfl)
theorem dX7_setPoint_2 : decode cX7_setPoint 2 = .ok (.invokevirtual 377, 3) := dk_182 1 121 (dk_at dksX7_setPoint_0 2 rfl rfl)
theorem dX7_setPoint_5 : decode cX7_setPoint 5 = .ok (.ifCond .ne 5, 3) := dk_154 0 5 (dk_at dksX7_setPoint_0 5 rfl rfl)
theorem dX7_setPoint_8 : decode cX7_setPoint 8 = .ok (.iconst (-1), 1) := dk_2 (dk_at dksX7_setPoint_0 8 rfl rfl)
theorem dX7_setPoint_9 : decode cX7_setPoint 9 = .ok (.ireturn, 1) := dk_172 (dk_at dksX7_setPoint_0 9 rfl rfl)
theorem dX7_setPoint_10 : decode cX7_setPoint 10 = .ok (.aload_n 0, 1) := dk_42 (dk_at dksX7_setPoint_0 10 rfl rfl)
theorem dX7_setPoint_11 : decode cX7_setPoint 11 = .ok (.getfield 51, 3) := dk_180 0 51 (dk_at dksX7_setPoint_0 11 rfl rfl)
theorem dX7_setPoint_14 : decode cX7_setPoint 14 = .ok (.bipush 13, 2) := dk_16 13 (dk_at dksX7_setPoint_0 14 rfl rfl)
theorem dX7_setPoint_16 : decode cX7_setPoint 16 = .ok (.iload_n 1, 1) := dk_27 (dk_at dksX7_setPoint_0 16 rfl rfl)
theorem dX7_setPoint_17 : decode cX7_setPoint 17 = .ok (.iadd, 1) := dk_96 (dk_at dksX7_setPoint_0 17 rfl rfl)
theorem dX7_setPoint_18 : decode cX7_setPoint 18 = .ok (.iaload, 1) := dk_46 (dk_at dksX7_setPoint_0 18 rfl rfl)
theorem dX7_setPoint_19 : decode cX7_setPoint 19 = .ok (.iconst 1, 1) := dk_4 (dk_at dksX7_setPoint_0 19 rfl rfl)
theorem dX7_setPoint_20 : decode cX7_setPoint 20 = .ok (.if_icmp .ne 7, 3) := dk_160 0 7 (dk_at dksX7_setPoint_0 20 rfl rfl)
theorem dX7_setPoint_23 : decode cX7_setPoint 23 = .ok (.iconst 1, 1) := dk_4 (dk_at dksX7_setPoint_0 23 rfl rfl)
theorem dX7_setPoint_24 : decode cX7_setPoint 24 = .ok (.goto 4, 3) := dk_167 0 4 (dk_at dksX7_setPoint_1 0 rfl rfl)
theorem dX7_setPoint_27 : decode cX7_setPoint 27 = .ok (.iconst 0, 1) := dk_3 (dk_at dksX7_setPoint_1 3 rfl rfl)
theorem dX7_setPoint_28 : decode cX7_setPoint 28 = .ok (.iload_n 2, 1) := dk_28 (dk_at dksX7_setPoint_1 4 rfl rfl)
theorem dX7_setPoint_29 : decode cX7_setPoint 29 = .ok (.if_icmp .ne 6, 3) := dk_160 0 6 (dk_at dksX7_setPoint_1 5 rfl rfl)
theorem dX7_setPoint_32 : decode cX7_setPoint 32 = .ok (.bipush (-2), 2) := dk_16 254 (dk_at dksX7_setPoint_1 8 rfl rfl)
theorem dX7_setPoint_34 : decode cX7_setPoint 34 = .ok (.ireturn, 1) := dk_172 (dk_at dksX7_setPoint_1 10 rfl rfl)
theorem dX7_setPoint_35 : decode cX7_setPoint 35 = .ok (.aload_n 0, 1) := dk_42 (dk_at dksX7_setPoint_1 11 rfl rfl)
theorem dX7_setPoint_36 : decode cX7_setPoint 36 = .ok (.invokevirtual 374, 3) := dk_182 1 118 (dk_at dksX7_setPoint_1 12 rfl rfl)
theorem dX7_setPoint_39 : decode cX7_setPoint 39 = .ok (.aload_n 0, 1) := dk_42 (dk_at dksX7_setPoint_1 15 rfl rfl)
theorem dX7_setPoint_40 : decode cX7_setPoint 40 = .ok (.getfield 51, 3) := dk_180 0 51 (dk_at dksX7_setPoint_1 16 rfl rfl)
theorem dX7_setPoint_43 : decode cX7_setPoint 43 = .ok (.bipush 13, 2) := dk_16 13 (dk_at dksX7_setPoint_1 19 rfl rfl)
theorem dX7_setPoint_45 : decode cX7_setPoint 45 = .ok (.iload_n 1, 1) := dk_27 (dk_at dksX7_setPoint_1 21 rfl rfl)
theorem dX7_setPoint_46 : decode cX7_setPoint 46 = .ok (.iadd, 1) := dk_96 (dk_at dksX7_setPoint_1 22 rfl rfl)
theorem dX7_setPoint_47 : decode cX7_setPoint 47 = .ok (.iload_n 2, 1) := dk_28 (dk_at dksX7_setPoint_1 23 rfl rfl)
theorem dX7_setPoint_48 : decode cX7_setPoint 48 = .ok (.ifCond .eq 7, 3) := dk_153 0 7 (dk_at dksX7_setPoint_2 0 rfl rfl)
theorem dX7_setPoint_51 : decode cX7_setPoint 51 = .ok (.iconst 1, 1) := dk_4 (dk_at dksX7_setPoint_2 3 rfl rfl)
theorem dX7_setPoint_52 : decode cX7_setPoint 52 = .ok (.goto 4, 3) := dk_167 0 4 (dk_at dksX7_setPoint_2 4 rfl rfl)
theorem dX7_setPoint_55 : decode cX7_setPoint 55 = .ok (.iconst 0, 1) := dk_3 (dk_at dksX7_setPoint_2 7 rfl rfl)
theorem dX7_setPoint_56 : decode cX7_setPoint 56 = .ok (.iastore, 1) := dk_79 (dk_at dksX7_setPoint_2 8 rfl rfl)
theorem dX7_setPoint_57 : decode cX7_setPoint 57 = .ok (.aload_n 0, 1) := dk_42 (dk_at dksX7_setPoint_2 9 rfl rfl)
theorem dX7_setPoint_58 : decode cX7_setPoint 58 = .ok (.invokevirtual 380, 3) := dk_182 1 124 (dk_at dksX7_setPoint_2 10 rfl rfl)
theorem dX7_setPoint_61 : decode cX7_setPoint 61 = .ok (.ireturn, 1) := dk_172 (dk_at dksX7_setPoint_2 13 rfl rfl)
abbrev cX7_isStop : ByteArray := prog_13_method_8_code
def yX7_isStop : MethodName := ⟨RX7, "isStop", "(I)Z"⟩
def dkwX7_isStop_0 : List UInt8 := [27, 133, 9, 42, 180, 0, 113, 4, 100, 133, 184, 0, 146, 172]
abbrev dktX7_isStop_0 : List UInt8 := dkwX7_isStop_0 ++ []
theorem dksX7_isStop_0 : cX7_isStop.data.toList.drop 0 = dktX7_isStop_0 := by decide +kernel
theorem dX7_isStop_0 : decode cX7_isStop 0 = .ok (.iload_n 1, 1) := dk_27 (dk_at dksX7_isStop_0 0 rfl rfl)
theorem dX7_isStop_1 : decode cX7_isStop 1 = .ok (.i2l, 1) := dk_133 (dk_at dksX7_isStop_0 1 rfl rfl)
theorem dX7_isStop_2 : decode cX7_isStop 2 = .ok (.lconst 0, 1) := dk_9 (dk_at dksX7_isStop_0 2 rfl rfl)
theorem dX7_isStop_3 : decode cX7_isStop 3 = .ok (.aload_n 0, 1) := dk_42 (dk_at dksX7_isStop_0 3 rfl rfl)
theorem dX7_isStop_4 : decode cX7_isStop 4 = .ok (.getfield 113, 3) := dk_180 0 113 (dk_at dksX7_isStop_0 4 rfl rfl)
theorem dX7_isStop_7 : decode cX7_isStop 7 = .ok (.iconst 1, 1) := dk_4 (dk_at dksX7_isStop_0 7 rfl rfl)
theorem dX7_isStop_8 : decode cX7_isStop 8 = .ok (.isub, 1) := dk_100 (dk_at dksX7_isStop_0 8 rfl rfl)
theorem dX7_isStop_9 : decode cX7_isStop 9 = .ok (.i2l, 1) := dk_133 (dk_at dksX7_isStop_0 9 rfl rfl)
theorem dX7_isStop_10 : decode cX7_isStop 10 = .ok (.invokestatic 146, 3) := dk_184 0 146 (dk_at dksX7_isStop_0 10 rfl rfl)
theorem dX7_isStop_13 : decode cX7_isStop 13 = .ok (.ireturn, 1) := dk_172 (dk_at dksX7_isStop_0 13 rfl rfl)
abbrev cX7_pointMany : ByteArray := prog_13_method_60_code
def yX7_pointMany : MethodName := ⟨RX7, "pointMany", "()I"⟩
def dkwX7_pointMany_1 : List UInt8 := [132, 2, 1, 167, 255, 233, 27, 172]
abbrev dktX7_pointMany_1 : List UInt8 := dkwX7_pointMany_1 ++ []
def dkwX7_pointMany_0 : List UInt8 := [3, 60, 3, 61, 28, 42, 180, 0, 113, 162, 0, 21, 27, 42, 180, 0, 51, 16, 13, 28, 96, 46, 96, 60]
abbrev dktX7_pointMany_0 : List UInt8 := dkwX7_pointMany_0 ++ dktX7_pointMany_1
theorem dksX7_pointMany_0 : cX7_pointMany.data.toList.drop 0 = dktX7_pointMany_0 := by decide +kernel
theorem dksX7_pointMany_1 : cX7_pointMany.data.toList.drop 24 = dktX7_pointMany_1 := dk_seg dksX7_pointMany_0 24 rfl rfl
theorem dX7_pointMany_0 : decode cX7_pointMany 0 = .ok (.iconst 0, 1) := dk_3 (dk_at dksX7_pointMany_0 0 rfl rfl)
theorem dX7_pointMany_1 : decode cX7_pointMany 1 = .ok (.istore_n 1, 1) := dk_60 (dk_at dksX7_pointMany_0 1 rfl rfl)
theorem dX7_pointMany_2 : decode cX7_pointMany 2 = .ok (.iconst 0, 1) := dk_3 (dk_at dksX7_pointMany_0 2 rfl rfl)
theorem dX7_pointMany_3 : decode cX7_pointMany 3 = .ok (.istore_n 2, 1) := dk_61 (dk_at dksX7_pointMany_0 3 rfl rfl)
theorem dX7_pointMany_4 : decode cX7_pointMany 4 = .ok (.iload_n 2, 1) := dk_28 (dk_at dksX7_pointMany_0 4 rfl rfl)
theorem dX7_pointMany_5 : decode cX7_pointMany 5 = .ok (.aload_n 0, 1) := dk_42 (dk_at dksX7_pointMany_0 5 rfl rfl)
theorem dX7_pointMany_6 : decode cX7_pointMany 6 = .ok (.getfield 113, 3) := dk_180 0 113 (dk_at dksX7_pointMany_0 6 rfl rfl)
theorem dX7_pointMany_9 : decode cX7_pointMany 9 = .ok (.if_icmp .ge 21, 3) := dk_162 0 21 (dk_at dksX7_pointMany_0 9 rfl rfl)
theorem dX7_pointMany_12 : decode cX7_pointMany 12 = .ok (.iload_n 1, 1) := dk_27 (dk_at dksX7_pointMany_0 12 rfl rfl)
theorem dX7_pointMany_13 : decode cX7_pointMany 13 = .ok (.aload_n 0, 1) := dk_42 (dk_at dksX7_pointMany_0 13 rfl rfl)
theorem dX7_pointMany_14 : decode cX7_pointMany 14 = .ok (.getfield 51, 3) := dk_180 0 51 (dk_at dksX7_pointMany_0 14 rfl rfl)
theorem dX7_pointMany_17 : decode cX7_pointMany 17 = .ok (.bipush 13, 2) := dk_16 13 (dk_at dksX7_pointMany_0 17 rfl rfl)
theorem dX7_pointMany_19 : decode cX7_pointMany 19 = .ok (.iload_n 2, 1) := dk_28 (dk_at dksX7_pointMany_0 19 rfl rfl)
theorem dX7_pointMany_20 : decode cX7_pointMany 20 = .ok (.iadd, 1) := dk_96 (dk_at dksX7_pointMany_0 20 rfl rfl)
theorem dX7_pointMany_21 : decode cX7_pointMany 21 = .ok (.iaload, 1) := dk_46 (dk_at dksX7_pointMany_0 21 rfl rfl)
theorem dX7_pointMany_22 : decode cX7_pointMany 22 = .ok (.iadd, 1) := dk_96 (dk_at dksX7_pointMany_0 22 rfl rfl)
theorem dX7_pointMany_23 : decode cX7_pointMany 23 = .ok (.istore_n 1, 1) := dk_60 (dk_at dksX7_pointMany_0 23 rfl rfl)
theorem dX7_pointMany_24 : decode cX7_pointMany 24 = .ok (.iinc 2 1, 3) := dk_132 2 1 (dk_at dksX7_pointMany_1 0 rfl rfl)
theorem dX7_pointMany_27 : decode cX7_pointMany 27 = .ok (.goto (-23), 3) := dk_167 255 233 (dk_at dksX7_pointMany_1 3 rfl rfl)
theorem dX7_pointMany_30 : decode cX7_pointMany 30 = .ok (.iload_n 1, 1) := dk_27 (dk_at dksX7_pointMany_1 6 rfl rfl)
theorem dX7_pointMany_31 : decode cX7_pointMany 31 = .ok (.ireturn, 1) := dk_172 (dk_at dksX7_pointMany_1 7 rfl rfl)
abbrev cX7_setNumber : ByteArray := prog_13_method_64_code
def yX7_setNumber : MethodName := ⟨RX7, "setNumber", "(II)I"⟩
def dkwX7_setNumber_1 : List UInt8 := [16, 254, 172, 42, 182, 1, 118, 42, 180, 0, 51, 5, 27, 96, 28, 79, 29, 172]
abbrev dktX7_setNumber_1 : List UInt8 := dkwX7_setNumber_1 ++ []
def dkwX7_setNumber_0 : List UInt8 := [27, 28, 184, 1, 137, 154, 0, 5, 2, 172, 42, 180, 0, 51, 5, 27, 96, 46, 62, 29, 28, 160, 0, 6]
abbrev dktX7_setNumber_0 : List UInt8 := dkwX7_setNumber_0 ++ dktX7_setNumber_1
theorem dksX7_setNumber_0 : cX7_setNumber.data.toList.drop 0 = dktX7_setNumber_0 := by decide +kernel
theorem dksX7_setNumber_1 : cX7_setNumber.data.toList.drop 24 = dktX7_setNumber_1 := dk_seg dksX7_setNumber_0 24 rfl rfl
theorem dX7_setNumber_0 : decode cX7_setNumber 0 = .ok (.iload_n 1, 1) := dk_27 (dk_at dksX7_setNumber_0 0 rfl rfl)
theorem dX7_setNumber_1 : decode cX7_setNumber 1 = .ok (.iload_n 2, 1) := dk_28 (dk_at dksX7_setNumber_0 1 rfl rfl)
theorem dX7_setNumber_2 : decode cX7_setNumber 2 = .ok (.invokestatic 393, 3) := dk_184 1 137 (dk_at dksX7_setNumber_0 2 rfl rfl)
theorem dX7_setNumber_5 : decode cX7_setNumber 5 = .ok (.ifCond .ne 5, 3) := dk_154 0 5 (dk_at dksX7_setNumber_0 5 rfl rfl)
theorem dX7_setNumber_8 : decode cX7_setNumber 8 = .ok (.iconst (-1), 1) := dk_2 (dk_at dksX7_setNumber_0 8 rfl rfl)
theorem dX7_setNumber_9 : decode cX7_setNumber 9 = .ok (.ireturn, 1) := dk_172 (dk_at dksX7_setNumber_0 9 rfl rfl)
theorem dX7_setNumber_10 : decode cX7_setNumber 10 = .ok (.aload_n 0, 1) := dk_42 (dk_at dksX7_setNumber_0 10 rfl rfl)
theorem dX7_setNumber_11 : decode cX7_setNumber 11 = .ok (.getfield 51, 3) := dk_180 0 51 (dk_at dksX7_setNumber_0 11 rfl rfl)
theorem dX7_setNumber_14 : decode cX7_setNumber 14 = .ok (.iconst 2, 1) := dk_5 (dk_at dksX7_setNumber_0 14 rfl rfl)
theorem dX7_setNumber_15 : decode cX7_setNumber 15 = .ok (.iload_n 1, 1) := dk_27 (dk_at dksX7_setNumber_0 15 rfl rfl)
theorem dX7_setNumber_16 : decode cX7_setNumber 16 = .ok (.iadd, 1) := dk_96 (dk_at dksX7_setNumber_0 16 rfl rfl)
theorem dX7_setNumber_17 : decode cX7_setNumber 17 = .ok (.iaload, 1) := dk_46 (dk_at dksX7_setNumber_0 17 rfl rfl)
theorem dX7_setNumber_18 : decode cX7_setNumber 18 = .ok (.istore_n 3, 1) := dk_62 (dk_at dksX7_setNumber_0 18 rfl rfl)
theorem dX7_setNumber_19 : decode cX7_setNumber 19 = .ok (.iload_n 3, 1) := dk_29 (dk_at dksX7_setNumber_0 19 rfl rfl)
theorem dX7_setNumber_20 : decode cX7_setNumber 20 = .ok (.iload_n 2, 1) := dk_28 (dk_at dksX7_setNumber_0 20 rfl rfl)
theorem dX7_setNumber_21 : decode cX7_setNumber 21 = .ok (.if_icmp .ne 6, 3) := dk_160 0 6 (dk_at dksX7_setNumber_0 21 rfl rfl)
theorem dX7_setNumber_24 : decode cX7_setNumber 24 = .ok (.bipush (-2), 2) := dk_16 254 (dk_at dksX7_setNumber_1 0 rfl rfl)
theorem dX7_setNumber_26 : decode cX7_setNumber 26 = .ok (.ireturn, 1) := dk_172 (dk_at dksX7_setNumber_1 2 rfl rfl)
theorem dX7_setNumber_27 : decode cX7_setNumber 27 = .ok (.aload_n 0, 1) := dk_42 (dk_at dksX7_setNumber_1 3 rfl rfl)
theorem dX7_setNumber_28 : decode cX7_setNumber 28 = .ok (.invokevirtual 374, 3) := dk_182 1 118 (dk_at dksX7_setNumber_1 4 rfl rfl)
theorem dX7_setNumber_31 : decode cX7_setNumber 31 = .ok (.aload_n 0, 1) := dk_42 (dk_at dksX7_setNumber_1 7 rfl rfl)
theorem dX7_setNumber_32 : decode cX7_setNumber 32 = .ok (.getfield 51, 3) := dk_180 0 51 (dk_at dksX7_setNumber_1 8 rfl rfl)
theorem dX7_setNumber_35 : decode cX7_setNumber 35 = .ok (.iconst 2, 1) := dk_5 (dk_at dksX7_setNumber_1 11 rfl rfl)
theorem dX7_setNumber_36 : decode cX7_setNumber 36 = .ok (.iload_n 1, 1) := dk_27 (dk_at dksX7_setNumber_1 12 rfl rfl)
theorem dX7_setNumber_37 : decode cX7_setNumber 37 = .ok (.iadd, 1) := dk_96 (dk_at dksX7_setNumber_1 13 rfl rfl)
theorem dX7_setNumber_38 : decode cX7_setNumber 38 = .ok (.iload_n 2, 1) := dk_28 (dk_at dksX7_setNumber_1 14 rfl rfl)
theorem dX7_setNumber_39 : decode cX7_setNumber 39 = .ok (.iastore, 1) := dk_79 (dk_at dksX7_setNumber_1 15 rfl rfl)
theorem dX7_setNumber_40 : decode cX7_setNumber 40 = .ok (.iload_n 3, 1) := dk_29 (dk_at dksX7_setNumber_1 16 rfl rfl)
theorem dX7_setNumber_41 : decode cX7_setNumber 41 = .ok (.ireturn, 1) := dk_172 (dk_at dksX7_setNumber_1 17 rfl rfl)
abbrev cX7_isNumber : ByteArray := prog_13_method_63_code
def yX7_isNumber : MethodName := ⟨RX7, "isNumber", "(II)Z"⟩
def dkwX7_isNumber_3 : List UInt8 := [20, 1, 133, 20, 1, 135, 184, 0, 146, 172, 3, 172]
abbrev dktX7_isNumber_3 : List UInt8 := dkwX7_isNumber_3 ++ []
def dkwX7_isNumber_2 : List UInt8 := [27, 133, 20, 1, 127, 20, 1, 129, 184, 0, 146, 172, 27, 133, 9, 20, 1, 131, 184, 0, 146, 172, 27, 133]
abbrev dktX7_isNumber_2 : List UInt8 := dkwX7_isNumber_2 ++ dktX7_isNumber_3
def dkwX7_isNumber_1 : List UInt8 := [170, 0, 0, 0, 0, 0, 65, 0, 0, 0, 0, 0, 0, 0, 3, 0, 0, 0, 31, 0, 0, 0, 43, 0, 0, 0, 53, 0, 0, 0, 53]
abbrev dktX7_isNumber_1 : List UInt8 := dkwX7_isNumber_1 ++ dktX7_isNumber_2
def dkwX7_isNumber_0 : List UInt8 := [26]
abbrev dktX7_isNumber_0 : List UInt8 := dkwX7_isNumber_0 ++ dktX7_isNumber_1
theorem dksX7_isNumber_0 : cX7_isNumber.data.toList.drop 0 = dktX7_isNumber_0 := by decide +kernel
theorem dksX7_isNumber_1 : cX7_isNumber.data.toList.drop 1 = dktX7_isNumber_1 := dk_seg dksX7_isNumber_0 1 rfl rfl
theorem dksX7_isNumber_2 : cX7_isNumber.data.toList.drop 32 = dktX7_isNumber_2 := dk_seg dksX7_isNumber_1 31 rfl rfl
theorem dksX7_isNumber_3 : cX7_isNumber.data.toList.drop 56 = dktX7_isNumber_3 := dk_seg dksX7_isNumber_2 24 rfl rfl
theorem dX7_isNumber_0 : decode cX7_isNumber 0 = .ok (.iload_n 0, 1) := dk_26 (dk_at dksX7_isNumber_0 0 rfl rfl)
theorem dX7_isNumber_1 : decode cX7_isNumber 1 = .ok (.tableswitch 65 0 3 #[31, 43, 53, 53], 31) := by decide +kernel
theorem dX7_isNumber_32 : decode cX7_isNumber 32 = .ok (.iload_n 1, 1) := dk_27 (dk_at dksX7_isNumber_2 0 rfl rfl)
theorem dX7_isNumber_33 : decode cX7_isNumber 33 = .ok (.i2l, 1) := dk_133 (dk_at dksX7_isNumber_2 1 rfl rfl)
theorem dX7_isNumber_34 : decode cX7_isNumber 34 = .ok (.ldc2_w 383, 3) := dk_20 1 127 (dk_at dksX7_isNumber_2 2 rfl rfl)
theorem dX7_isNumber_37 : decode cX7_isNumber 37 = .ok (.ldc2_w 385, 3) := dk_20 1 129 (dk_at dksX7_isNumber_2 5 rfl rfl)
theorem dX7_isNumber_40 : decode cX7_isNumber 40 = .ok (.invokestatic 146, 3) := dk_184 0 146 (dk_at dksX7_isNumber_2 8 rfl rfl)
theorem dX7_isNumber_43 : decode cX7_isNumber 43 = .ok (.ireturn, 1) := dk_172 (dk_at dksX7_isNumber_2 11 rfl rfl)
theorem dX7_isNumber_44 : decode cX7_isNumber 44 = .ok (.iload_n 1, 1) := dk_27 (dk_at dksX7_isNumber_2 12 rfl rfl)
theorem dX7_isNumber_45 : decode cX7_isNumber 45 = .ok (.i2l, 1) := dk_133 (dk_at dksX7_isNumber_2 13 rfl rfl)
theorem dX7_isNumber_46 : decode cX7_isNumber 46 = .ok (.lconst 0, 1) := dk_9 (dk_at dksX7_isNumber_2 14 rfl rfl)
theorem dX7_isNumber_47 : decode cX7_isNumber 47 = .ok (.ldc2_w 387, 3) := dk_20 1 131 (dk_at dksX7_isNumber_2 15 rfl rfl)
theorem dX7_isNumber_50 : decode cX7_isNumber 50 = .ok (.invokestatic 146, 3) := dk_184 0 146 (dk_at dksX7_isNumber_2 18 rfl rfl)
theorem dX7_isNumber_53 : decode cX7_isNumber 53 = .ok (.ireturn, 1) := dk_172 (dk_at dksX7_isNumber_2 21 rfl rfl)
theorem dX7_isNumber_54 : decode cX7_isNumber 54 = .ok (.iload_n 1, 1) := dk_27 (dk_at dksX7_isNumber_2 22 rfl rfl)
theorem dX7_isNumber_55 : decode cX7_isNumber 55 = .ok (.i2l, 1) := dk_133 (dk_at dksX7_isNumber_2 23 rfl rfl)
theorem dX7_isNumber_56 : decode cX7_isNumber 56 = .ok (.ldc2_w 389, 3) := dk_20 1 133 (dk_at dksX7_isNumber_3 0 rfl rfl)
theorem dX7_isNumber_59 : decode cX7_isNumber 59 = .ok (.ldc2_w 391, 3) := dk_20 1 135 (dk_at dksX7_isNumber_3 3 rfl rfl)
theorem dX7_isNumber_62 : decode cX7_isNumber 62 = .ok (.invokestatic 146, 3) := dk_184 0 146 (dk_at dksX7_isNumber_3 6 rfl rfl)
theorem dX7_isNumber_65 : decode cX7_isNumber 65 = .ok (.ireturn, 1) := dk_172 (dk_at dksX7_isNumber_3 9 rfl rfl)
theorem dX7_isNumber_66 : decode cX7_isNumber 66 = .ok (.iconst 0, 1) := dk_3 (dk_at dksX7_isNumber_3 10 rfl rfl)
theorem dX7_isNumber_67 : decode cX7_isNumber 67 = .ok (.ireturn, 1) := dk_172 (dk_at dksX7_isNumber_3 11 rfl rfl)
abbrev cX7_skip : ByteArray := prog_13_method_65_code
def yX7_skip : MethodName := ⟨RX7, "skip", "(I)I"⟩
def dkwX7_skip_2 : List UInt8 := [182, 1, 143, 158, 0, 6, 16, 253, 172, 42, 182, 1, 118, 42, 27, 16, 8, 4, 182, 0, 139, 28, 172]
abbrev dktX7_skip_2 : List UInt8 := dkwX7_skip_2 ++ []
def dkwX7_skip_1 : List UInt8 := [42, 27, 3, 182, 0, 171, 4, 159, 0, 6, 16, 252, 172, 42, 27, 4, 182, 0, 171, 61, 42, 27, 28]
abbrev dktX7_skip_1 : List UInt8 := dkwX7_skip_1 ++ dktX7_skip_2
def dkwX7_skip_0 : List UInt8 := [42, 27, 182, 1, 140, 154, 0, 5, 2, 172, 42, 27, 16, 8, 182, 0, 171, 4, 160, 0, 6, 16, 254, 172]
abbrev dktX7_skip_0 : List UInt8 := dkwX7_skip_0 ++ dktX7_skip_1
theorem dksX7_skip_0 : cX7_skip.data.toList.drop 0 = dktX7_skip_0 := by decide +kernel
theorem dksX7_skip_1 : cX7_skip.data.toList.drop 24 = dktX7_skip_1 := dk_seg dksX7_skip_0 24 rfl rfl
theorem dksX7_skip_2 : cX7_skip.data.toList.drop 47 = dktX7_skip_2 := dk_seg dksX7_skip_1 23 rfl rfl
theorem dX7_skip_0 : decode cX7_skip 0 = .ok (.aload_n 0, 1) := dk_42 (dk_at dksX7_skip_0 0 rfl rfl)
theorem dX7_skip_1 : decode cX7_skip 1 = .ok (.iload_n 1, 1) := dk_27 (dk_at dksX7_skip_0 1 rfl rfl)
theorem dX7_skip_2 : decode cX7_skip 2 = .ok (.invokevirtual 396, 3) := dk_182 1 140 (dk_at dksX7_skip_0 2 rfl rfl)
theorem dX7_skip_5 : decode cX7_skip 5 = .ok (.ifCond .ne 5, 3) := dk_154 0 5 (dk_at dksX7_skip_0 5 rfl rfl)
theorem dX7_skip_8 : decode cX7_skip 8 = .ok (.iconst (-1), 1) := dk_2 (dk_at dksX7_skip_0 8 rfl rfl)
theorem dX7_skip_9 : decode cX7_skip 9 = .ok (.ireturn, 1) := dk_172 (dk_at dksX7_skip_0 9 rfl rfl)
theorem dX7_skip_10 : decode cX7_skip 10 = .ok (.aload_n 0, 1) := dk_42 (dk_at dksX7_skip_0 10 rfl rfl)
theorem dX7_skip_11 : decode cX7_skip 11 = .ok (.iload_n 1, 1) := dk_27 (dk_at dksX7_skip_0 11 rfl rfl)
theorem dX7_skip_12 : decode cX7_skip 12 = .ok (.bipush 8, 2) := dk_16 8 (dk_at dksX7_skip_0 12 rfl rfl)
theorem dX7_skip_14 : decode cX7_skip 14 = .ok (.invokevirtual 171, 3) := dk_182 0 171 (dk_at dksX7_skip_0 14 rfl rfl)
theorem dX7_skip_17 : decode cX7_skip 17 = .ok (.iconst 1, 1) := dk_4 (dk_at dksX7_skip_0 17 rfl rfl)
theorem dX7_skip_18 : decode cX7_skip 18 = .ok (.if_icmp .ne 6, 3) := dk_160 0 6 (dk_at dksX7_skip_0 18 rfl rfl)
theorem dX7_skip_21 : decode cX7_skip 21 = .ok (.bipush (-2), 2) := dk_16 254 (dk_at dksX7_skip_0 21 rfl rfl)
theorem dX7_skip_23 : decode cX7_skip 23 = .ok (.ireturn, 1) := dk_172 (dk_at dksX7_skip_0 23 rfl rfl)
theorem dX7_skip_24 : decode cX7_skip 24 = .ok (.aload_n 0, 1) := dk_42 (dk_at dksX7_skip_1 0 rfl rfl)
theorem dX7_skip_25 : decode cX7_skip 25 = .ok (.iload_n 1, 1) := dk_27 (dk_at dksX7_skip_1 1 rfl rfl)
theorem dX7_skip_26 : decode cX7_skip 26 = .ok (.iconst 0, 1) := dk_3 (dk_at dksX7_skip_1 2 rfl rfl)
theorem dX7_skip_27 : decode cX7_skip 27 = .ok (.invokevirtual 171, 3) := dk_182 0 171 (dk_at dksX7_skip_1 3 rfl rfl)
theorem dX7_skip_30 : decode cX7_skip 30 = .ok (.iconst 1, 1) := dk_4 (dk_at dksX7_skip_1 6 rfl rfl)
theorem dX7_skip_31 : decode cX7_skip 31 = .ok (.if_icmp .eq 6, 3) := dk_159 0 6 (dk_at dksX7_skip_1 7 rfl rfl)
theorem dX7_skip_34 : decode cX7_skip 34 = .ok (.bipush (-4), 2) := dk_16 252 (dk_at dksX7_skip_1 10 rfl rfl)
theorem dX7_skip_36 : decode cX7_skip 36 = .ok (.ireturn, 1) := dk_172 (dk_at dksX7_skip_1 12 rfl rfl)
theorem dX7_skip_37 : decode cX7_skip 37 = .ok (.aload_n 0, 1) := dk_42 (dk_at dksX7_skip_1 13 rfl rfl)
theorem dX7_skip_38 : decode cX7_skip 38 = .ok (.iload_n 1, 1) := dk_27 (dk_at dksX7_skip_1 14 rfl rfl)
theorem dX7_skip_39 : decode cX7_skip 39 = .ok (.iconst 1, 1) := dk_4 (dk_at dksX7_skip_1 15 rfl rfl)
theorem dX7_skip_40 : decode cX7_skip 40 = .ok (.invokevirtual 171, 3) := dk_182 0 171 (dk_at dksX7_skip_1 16 rfl rfl)
theorem dX7_skip_43 : decode cX7_skip 43 = .ok (.istore_n 2, 1) := dk_61 (dk_at dksX7_skip_1 19 rfl rfl)
theorem dX7_skip_44 : decode cX7_skip 44 = .ok (.aload_n 0, 1) := dk_42 (dk_at dksX7_skip_1 20 rfl rfl)
theorem dX7_skip_45 : decode cX7_skip 45 = .ok (.iload_n 1, 1) := dk_27 (dk_at dksX7_skip_1 21 rfl rfl)
theorem dX7_skip_46 : decode cX7_skip 46 = .ok (.iload_n 2, 1) := dk_28 (dk_at dksX7_skip_1 22 rfl rfl)
theorem dX7_skip_47 : decode cX7_skip 47 = .ok (.invokevirtual 399, 3) := dk_182 1 143 (dk_at dksX7_skip_2 0 rfl rfl)
theorem dX7_skip_50 : decode cX7_skip 50 = .ok (.ifCond .le 6, 3) := dk_158 0 6 (dk_at dksX7_skip_2 3 rfl rfl)
theorem dX7_skip_53 : decode cX7_skip 53 = .ok (.bipush (-3), 2) := dk_16 253 (dk_at dksX7_skip_2 6 rfl rfl)
theorem dX7_skip_55 : decode cX7_skip 55 = .ok (.ireturn, 1) := dk_172 (dk_at dksX7_skip_2 8 rfl rfl)
theorem dX7_skip_56 : decode cX7_skip 56 = .ok (.aload_n 0, 1) := dk_42 (dk_at dksX7_skip_2 9 rfl rfl)
theorem dX7_skip_57 : decode cX7_skip 57 = .ok (.invokevirtual 374, 3) := dk_182 1 118 (dk_at dksX7_skip_2 10 rfl rfl)
theorem dX7_skip_60 : decode cX7_skip 60 = .ok (.aload_n 0, 1) := dk_42 (dk_at dksX7_skip_2 13 rfl rfl)
theorem dX7_skip_61 : decode cX7_skip 61 = .ok (.iload_n 1, 1) := dk_27 (dk_at dksX7_skip_2 14 rfl rfl)
theorem dX7_skip_62 : decode cX7_skip 62 = .ok (.bipush 8, 2) := dk_16 8 (dk_at dksX7_skip_2 15 rfl rfl)
theorem dX7_skip_64 : decode cX7_skip 64 = .ok (.iconst 1, 1) := dk_4 (dk_at dksX7_skip_2 17 rfl rfl)
theorem dX7_skip_65 : decode cX7_skip 65 = .ok (.invokevirtual 139, 3) := dk_182 0 139 (dk_at dksX7_skip_2 18 rfl rfl)
theorem dX7_skip_68 : decode cX7_skip 68 = .ok (.iload_n 2, 1) := dk_28 (dk_at dksX7_skip_2 21 rfl rfl)
theorem dX7_skip_69 : decode cX7_skip 69 = .ok (.ireturn, 1) := dk_172 (dk_at dksX7_skip_2 22 rfl rfl)
abbrev cX7_isBus : ByteArray := prog_13_method_9_code
def yX7_isBus : MethodName := ⟨RX7, "isBus", "(I)Z"⟩
def dkwX7_isBus_0 : List UInt8 := [27, 133, 9, 42, 180, 0, 118, 4, 100, 133, 184, 0, 146, 172]
abbrev dktX7_isBus_0 : List UInt8 := dkwX7_isBus_0 ++ []
theorem dksX7_isBus_0 : cX7_isBus.data.toList.drop 0 = dktX7_isBus_0 := by decide +kernel
theorem dX7_isBus_0 : decode cX7_isBus 0 = .ok (.iload_n 1, 1) := dk_27 (dk_at dksX7_isBus_0 0 rfl rfl)
theorem dX7_isBus_1 : decode cX7_isBus 1 = .ok (.i2l, 1) := dk_133 (dk_at dksX7_isBus_0 1 rfl rfl)
theorem dX7_isBus_2 : decode cX7_isBus 2 = .ok (.lconst 0, 1) := dk_9 (dk_at dksX7_isBus_0 2 rfl rfl)
theorem dX7_isBus_3 : decode cX7_isBus 3 = .ok (.aload_n 0, 1) := dk_42 (dk_at dksX7_isBus_0 3 rfl rfl)
theorem dX7_isBus_4 : decode cX7_isBus 4 = .ok (.getfield 118, 3) := dk_180 0 118 (dk_at dksX7_isBus_0 4 rfl rfl)
theorem dX7_isBus_7 : decode cX7_isBus 7 = .ok (.iconst 1, 1) := dk_4 (dk_at dksX7_isBus_0 7 rfl rfl)
theorem dX7_isBus_8 : decode cX7_isBus 8 = .ok (.isub, 1) := dk_100 (dk_at dksX7_isBus_0 8 rfl rfl)
theorem dX7_isBus_9 : decode cX7_isBus 9 = .ok (.i2l, 1) := dk_133 (dk_at dksX7_isBus_0 9 rfl rfl)
theorem dX7_isBus_10 : decode cX7_isBus 10 = .ok (.invokestatic 146, 3) := dk_184 0 146 (dk_at dksX7_isBus_0 10 rfl rfl)
theorem dX7_isBus_13 : decode cX7_isBus 13 = .ok (.ireturn, 1) := dk_172 (dk_at dksX7_isBus_0 13 rfl rfl)
abbrev cX7_of : ByteArray := prog_13_method_4_code
def yX7_of : MethodName := ⟨RX7, "of", "(II)I"⟩
def dkwX7_of_0 : List UInt8 := [42, 180, 0, 51, 17, 0, 164, 16, 13, 27, 104, 96, 28, 96, 46, 172]
abbrev dktX7_of_0 : List UInt8 := dkwX7_of_0 ++ []
theorem dksX7_of_0 : cX7_of.data.toList.drop 0 = dktX7_of_0 := by decide +kernel
theorem dX7_of_0 : decode cX7_of 0 = .ok (.aload_n 0, 1) := dk_42 (dk_at dksX7_of_0 0 rfl rfl)
theorem dX7_of_1 : decode cX7_of 1 = .ok (.getfield 51, 3) := dk_180 0 51 (dk_at dksX7_of_0 1 rfl rfl)
theorem dX7_of_4 : decode cX7_of 4 = .ok (.sipush 164, 3) := dk_17 0 164 (dk_at dksX7_of_0 4 rfl rfl)
theorem dX7_of_7 : decode cX7_of 7 = .ok (.bipush 13, 2) := dk_16 13 (dk_at dksX7_of_0 7 rfl rfl)
theorem dX7_of_9 : decode cX7_of 9 = .ok (.iload_n 1, 1) := dk_27 (dk_at dksX7_of_0 9 rfl rfl)
theorem dX7_of_10 : decode cX7_of 10 = .ok (.imul, 1) := dk_104 (dk_at dksX7_of_0 10 rfl rfl)
theorem dX7_of_11 : decode cX7_of 11 = .ok (.iadd, 1) := dk_96 (dk_at dksX7_of_0 11 rfl rfl)
theorem dX7_of_12 : decode cX7_of 12 = .ok (.iload_n 2, 1) := dk_28 (dk_at dksX7_of_0 12 rfl rfl)
theorem dX7_of_13 : decode cX7_of 13 = .ok (.iadd, 1) := dk_96 (dk_at dksX7_of_0 13 rfl rfl)
theorem dX7_of_14 : decode cX7_of 14 = .ok (.iaload, 1) := dk_46 (dk_at dksX7_of_0 14 rfl rfl)
theorem dX7_of_15 : decode cX7_of 15 = .ok (.ireturn, 1) := dk_172 (dk_at dksX7_of_0 15 rfl rfl)
abbrev cX7_aboardTo : ByteArray := prog_13_method_20_code
def yX7_aboardTo : MethodName := ⟨RX7, "aboardTo", "(II)I"⟩
def dkwX7_aboardTo_1 : List UInt8 := [184, 0, 174, 46, 28, 160, 0, 7, 4, 167, 0, 4, 3, 96, 62, 132, 4, 1, 167, 255, 219, 29, 172]
abbrev dktX7_aboardTo_1 : List UInt8 := dkwX7_aboardTo_1 ++ []
def dkwX7_aboardTo_0 : List UInt8 := [3, 62, 3, 54, 4, 21, 4, 42, 27, 7, 182, 0, 171, 162, 0, 32, 29, 42, 180, 0, 51, 27, 21, 4]
abbrev dktX7_aboardTo_0 : List UInt8 := dkwX7_aboardTo_0 ++ dktX7_aboardTo_1
theorem dksX7_aboardTo_0 : cX7_aboardTo.data.toList.drop 0 = dktX7_aboardTo_0 := by decide +kernel
theorem dksX7_aboardTo_1 : cX7_aboardTo.data.toList.drop 24 = dktX7_aboardTo_1 := dk_seg dksX7_aboardTo_0 24 rfl rfl
theorem dX7_aboardTo_0 : decode cX7_aboardTo 0 = .ok (.iconst 0, 1) := dk_3 (dk_at dksX7_aboardTo_0 0 rfl rfl)
theorem dX7_aboardTo_1 : decode cX7_aboardTo 1 = .ok (.istore_n 3, 1) := dk_62 (dk_at dksX7_aboardTo_0 1 rfl rfl)
theorem dX7_aboardTo_2 : decode cX7_aboardTo 2 = .ok (.iconst 0, 1) := dk_3 (dk_at dksX7_aboardTo_0 2 rfl rfl)
theorem dX7_aboardTo_3 : decode cX7_aboardTo 3 = .ok (.istore 4, 2) := dk_54 4 (dk_at dksX7_aboardTo_0 3 rfl rfl)
theorem dX7_aboardTo_5 : decode cX7_aboardTo 5 = .ok (.iload 4, 2) := dk_21 4 (dk_at dksX7_aboardTo_0 5 rfl rfl)
theorem dX7_aboardTo_7 : decode cX7_aboardTo 7 = .ok (.aload_n 0, 1) := dk_42 (dk_at dksX7_aboardTo_0 7 rfl rfl)
theorem dX7_aboardTo_8 : decode cX7_aboardTo 8 = .ok (.iload_n 1, 1) := dk_27 (dk_at dksX7_aboardTo_0 8 rfl rfl)
theorem dX7_aboardTo_9 : decode cX7_aboardTo 9 = .ok (.iconst 4, 1) := dk_7 (dk_at dksX7_aboardTo_0 9 rfl rfl)
theorem dX7_aboardTo_10 : decode cX7_aboardTo 10 = .ok (.invokevirtual 171, 3) := dk_182 0 171 (dk_at dksX7_aboardTo_0 10 rfl rfl)
theorem dX7_aboardTo_13 : decode cX7_aboardTo 13 = .ok (.if_icmp .ge 32, 3) := dk_162 0 32 (dk_at dksX7_aboardTo_0 13 rfl rfl)
theorem dX7_aboardTo_16 : decode cX7_aboardTo 16 = .ok (.iload_n 3, 1) := dk_29 (dk_at dksX7_aboardTo_0 16 rfl rfl)
theorem dX7_aboardTo_17 : decode cX7_aboardTo 17 = .ok (.aload_n 0, 1) := dk_42 (dk_at dksX7_aboardTo_0 17 rfl rfl)
theorem dX7_aboardTo_18 : decode cX7_aboardTo 18 = .ok (.getfield 51, 3) := dk_180 0 51 (dk_at dksX7_aboardTo_0 18 rfl rfl)
theorem dX7_aboardTo_21 : decode cX7_aboardTo 21 = .ok (.iload_n 1, 1) := dk_27 (dk_at dksX7_aboardTo_0 21 rfl rfl)
theorem dX7_aboardTo_22 : decode cX7_aboardTo 22 = .ok (.iload 4, 2) := dk_21 4 (dk_at dksX7_aboardTo_0 22 rfl rfl)
theorem dX7_aboardTo_24 : decode cX7_aboardTo 24 = .ok (.invokestatic 174, 3) := dk_184 0 174 (dk_at dksX7_aboardTo_1 0 rfl rfl)
theorem dX7_aboardTo_27 : decode cX7_aboardTo 27 = .ok (.iaload, 1) := dk_46 (dk_at dksX7_aboardTo_1 3 rfl rfl)
theorem dX7_aboardTo_28 : decode cX7_aboardTo 28 = .ok (.iload_n 2, 1) := dk_28 (dk_at dksX7_aboardTo_1 4 rfl rfl)
theorem dX7_aboardTo_29 : decode cX7_aboardTo 29 = .ok (.if_icmp .ne 7, 3) := dk_160 0 7 (dk_at dksX7_aboardTo_1 5 rfl rfl)
theorem dX7_aboardTo_32 : decode cX7_aboardTo 32 = .ok (.iconst 1, 1) := dk_4 (dk_at dksX7_aboardTo_1 8 rfl rfl)
theorem dX7_aboardTo_33 : decode cX7_aboardTo 33 = .ok (.goto 4, 3) := dk_167 0 4 (dk_at dksX7_aboardTo_1 9 rfl rfl)
theorem dX7_aboardTo_36 : decode cX7_aboardTo 36 = .ok (.iconst 0, 1) := dk_3 (dk_at dksX7_aboardTo_1 12 rfl rfl)
theorem dX7_aboardTo_37 : decode cX7_aboardTo 37 = .ok (.iadd, 1) := dk_96 (dk_at dksX7_aboardTo_1 13 rfl rfl)
theorem dX7_aboardTo_38 : decode cX7_aboardTo 38 = .ok (.istore_n 3, 1) := dk_62 (dk_at dksX7_aboardTo_1 14 rfl rfl)
theorem dX7_aboardTo_39 : decode cX7_aboardTo 39 = .ok (.iinc 4 1, 3) := dk_132 4 1 (dk_at dksX7_aboardTo_1 15 rfl rfl)
theorem dX7_aboardTo_42 : decode cX7_aboardTo 42 = .ok (.goto (-37), 3) := dk_167 255 219 (dk_at dksX7_aboardTo_1 18 rfl rfl)
theorem dX7_aboardTo_45 : decode cX7_aboardTo 45 = .ok (.iload_n 3, 1) := dk_29 (dk_at dksX7_aboardTo_1 21 rfl rfl)
theorem dX7_aboardTo_46 : decode cX7_aboardTo 46 = .ok (.ireturn, 1) := dk_172 (dk_at dksX7_aboardTo_1 22 rfl rfl)
abbrev cX7_seatAt : ByteArray := prog_13_method_17_code
def yX7_seatAt : MethodName := ⟨RX7, "seatAt", "(II)I"⟩
def dkwX7_seatAt_0 : List UInt8 := [17, 7, 40, 17, 1, 41, 26, 104, 96, 6, 27, 104, 96, 172]
abbrev dktX7_seatAt_0 : List UInt8 := dkwX7_seatAt_0 ++ []
theorem dksX7_seatAt_0 : cX7_seatAt.data.toList.drop 0 = dktX7_seatAt_0 := by decide +kernel
theorem dX7_seatAt_0 : decode cX7_seatAt 0 = .ok (.sipush 1832, 3) := dk_17 7 40 (dk_at dksX7_seatAt_0 0 rfl rfl)
theorem dX7_seatAt_3 : decode cX7_seatAt 3 = .ok (.sipush 297, 3) := dk_17 1 41 (dk_at dksX7_seatAt_0 3 rfl rfl)
theorem dX7_seatAt_6 : decode cX7_seatAt 6 = .ok (.iload_n 0, 1) := dk_26 (dk_at dksX7_seatAt_0 6 rfl rfl)
theorem dX7_seatAt_7 : decode cX7_seatAt 7 = .ok (.imul, 1) := dk_104 (dk_at dksX7_seatAt_0 7 rfl rfl)
theorem dX7_seatAt_8 : decode cX7_seatAt 8 = .ok (.iadd, 1) := dk_96 (dk_at dksX7_seatAt_0 8 rfl rfl)
theorem dX7_seatAt_9 : decode cX7_seatAt 9 = .ok (.iconst 3, 1) := dk_6 (dk_at dksX7_seatAt_0 9 rfl rfl)
theorem dX7_seatAt_10 : decode cX7_seatAt 10 = .ok (.iload_n 1, 1) := dk_27 (dk_at dksX7_seatAt_0 10 rfl rfl)
theorem dX7_seatAt_11 : decode cX7_seatAt 11 = .ok (.imul, 1) := dk_104 (dk_at dksX7_seatAt_0 11 rfl rfl)
theorem dX7_seatAt_12 : decode cX7_seatAt 12 = .ok (.iadd, 1) := dk_96 (dk_at dksX7_seatAt_0 12 rfl rfl)
theorem dX7_seatAt_13 : decode cX7_seatAt 13 = .ok (.ireturn, 1) := dk_172 (dk_at dksX7_seatAt_0 13 rfl rfl)
abbrev cX7_hold : ByteArray := prog_13_method_66_code
def yX7_hold : MethodName := ⟨RX7, "hold", "(II)I"⟩
def dkwX7_hold_2 : List UInt8 := [182, 0, 139, 42, 27, 5, 182, 0, 171, 172]
abbrev dktX7_hold_2 : List UInt8 := dkwX7_hold_2 ++ []
def dkwX7_hold_1 : List UInt8 := [182, 0, 181, 154, 0, 6, 16, 252, 172, 42, 182, 1, 118, 42, 27, 5, 42, 27, 5, 182, 0, 171, 28, 96]
abbrev dktX7_hold_1 : List UInt8 := dkwX7_hold_1 ++ dktX7_hold_2
def dkwX7_hold_0 : List UInt8 := [42, 27, 182, 1, 140, 153, 0, 15, 28, 133, 10, 20, 1, 131, 184, 0, 146, 154, 0, 5, 2, 172, 42, 27]
abbrev dktX7_hold_0 : List UInt8 := dkwX7_hold_0 ++ dktX7_hold_1
theorem dksX7_hold_0 : cX7_hold.data.toList.drop 0 = dktX7_hold_0 := by decide +kernel
theorem dksX7_hold_1 : cX7_hold.data.toList.drop 24 = dktX7_hold_1 := dk_seg dksX7_hold_0 24 rfl rfl
theorem dksX7_hold_2 : cX7_hold.data.toList.drop 48 = dktX7_hold_2 := dk_seg dksX7_hold_1 24 rfl rfl
theorem dX7_hold_0 : decode cX7_hold 0 = .ok (.aload_n 0, 1) := dk_42 (dk_at dksX7_hold_0 0 rfl rfl)
theorem dX7_hold_1 : decode cX7_hold 1 = .ok (.iload_n 1, 1) := dk_27 (dk_at dksX7_hold_0 1 rfl rfl)
theorem dX7_hold_2 : decode cX7_hold 2 = .ok (.invokevirtual 396, 3) := dk_182 1 140 (dk_at dksX7_hold_0 2 rfl rfl)
theorem dX7_hold_5 : decode cX7_hold 5 = .ok (.ifCond .eq 15, 3) := dk_153 0 15 (dk_at dksX7_hold_0 5 rfl rfl)
theorem dX7_hold_8 : decode cX7_hold 8 = .ok (.iload_n 2, 1) := dk_28 (dk_at dksX7_hold_0 8 rfl rfl)
theorem dX7_hold_9 : decode cX7_hold 9 = .ok (.i2l, 1) := dk_133 (dk_at dksX7_hold_0 9 rfl rfl)
theorem dX7_hold_10 : decode cX7_hold 10 = .ok (.lconst 1, 1) := dk_10 (dk_at dksX7_hold_0 10 rfl rfl)
theorem dX7_hold_11 : decode cX7_hold 11 = .ok (.ldc2_w 387, 3) := dk_20 1 131 (dk_at dksX7_hold_0 11 rfl rfl)
theorem dX7_hold_14 : decode cX7_hold 14 = .ok (.invokestatic 146, 3) := dk_184 0 146 (dk_at dksX7_hold_0 14 rfl rfl)
theorem dX7_hold_17 : decode cX7_hold 17 = .ok (.ifCond .ne 5, 3) := dk_154 0 5 (dk_at dksX7_hold_0 17 rfl rfl)
theorem dX7_hold_20 : decode cX7_hold 20 = .ok (.iconst (-1), 1) := dk_2 (dk_at dksX7_hold_0 20 rfl rfl)
theorem dX7_hold_21 : decode cX7_hold 21 = .ok (.ireturn, 1) := dk_172 (dk_at dksX7_hold_0 21 rfl rfl)
theorem dX7_hold_22 : decode cX7_hold 22 = .ok (.aload_n 0, 1) := dk_42 (dk_at dksX7_hold_0 22 rfl rfl)
theorem dX7_hold_23 : decode cX7_hold 23 = .ok (.iload_n 1, 1) := dk_27 (dk_at dksX7_hold_0 23 rfl rfl)
theorem dX7_hold_24 : decode cX7_hold 24 = .ok (.invokevirtual 181, 3) := dk_182 0 181 (dk_at dksX7_hold_1 0 rfl rfl)
theorem dX7_hold_27 : decode cX7_hold 27 = .ok (.ifCond .ne 6, 3) := dk_154 0 6 (dk_at dksX7_hold_1 3 rfl rfl)
theorem dX7_hold_30 : decode cX7_hold 30 = .ok (.bipush (-4), 2) := dk_16 252 (dk_at dksX7_hold_1 6 rfl rfl)
theorem dX7_hold_32 : decode cX7_hold 32 = .ok (.ireturn, 1) := dk_172 (dk_at dksX7_hold_1 8 rfl rfl)
theorem dX7_hold_33 : decode cX7_hold 33 = .ok (.aload_n 0, 1) := dk_42 (dk_at dksX7_hold_1 9 rfl rfl)
theorem dX7_hold_34 : decode cX7_hold 34 = .ok (.invokevirtual 374, 3) := dk_182 1 118 (dk_at dksX7_hold_1 10 rfl rfl)
theorem dX7_hold_37 : decode cX7_hold 37 = .ok (.aload_n 0, 1) := dk_42 (dk_at dksX7_hold_1 13 rfl rfl)
theorem dX7_hold_38 : decode cX7_hold 38 = .ok (.iload_n 1, 1) := dk_27 (dk_at dksX7_hold_1 14 rfl rfl)
theorem dX7_hold_39 : decode cX7_hold 39 = .ok (.iconst 2, 1) := dk_5 (dk_at dksX7_hold_1 15 rfl rfl)
theorem dX7_hold_40 : decode cX7_hold 40 = .ok (.aload_n 0, 1) := dk_42 (dk_at dksX7_hold_1 16 rfl rfl)
theorem dX7_hold_41 : decode cX7_hold 41 = .ok (.iload_n 1, 1) := dk_27 (dk_at dksX7_hold_1 17 rfl rfl)
theorem dX7_hold_42 : decode cX7_hold 42 = .ok (.iconst 2, 1) := dk_5 (dk_at dksX7_hold_1 18 rfl rfl)
theorem dX7_hold_43 : decode cX7_hold 43 = .ok (.invokevirtual 171, 3) := dk_182 0 171 (dk_at dksX7_hold_1 19 rfl rfl)
theorem dX7_hold_46 : decode cX7_hold 46 = .ok (.iload_n 2, 1) := dk_28 (dk_at dksX7_hold_1 22 rfl rfl)
theorem dX7_hold_47 : decode cX7_hold 47 = .ok (.iadd, 1) := dk_96 (dk_at dksX7_hold_1 23 rfl rfl)
theorem dX7_hold_48 : decode cX7_hold 48 = .ok (.invokevirtual 139, 3) := dk_182 0 139 (dk_at dksX7_hold_2 0 rfl rfl)
theorem dX7_hold_51 : decode cX7_hold 51 = .ok (.aload_n 0, 1) := dk_42 (dk_at dksX7_hold_2 3 rfl rfl)
theorem dX7_hold_52 : decode cX7_hold 52 = .ok (.iload_n 1, 1) := dk_27 (dk_at dksX7_hold_2 4 rfl rfl)
theorem dX7_hold_53 : decode cX7_hold 53 = .ok (.iconst 2, 1) := dk_5 (dk_at dksX7_hold_2 5 rfl rfl)
theorem dX7_hold_54 : decode cX7_hold 54 = .ok (.invokevirtual 171, 3) := dk_182 0 171 (dk_at dksX7_hold_2 6 rfl rfl)
theorem dX7_hold_57 : decode cX7_hold 57 = .ok (.ireturn, 1) := dk_172 (dk_at dksX7_hold_2 9 rfl rfl)
abbrev cX7_isAt : ByteArray := prog_13_method_23_code
def yX7_isAt : MethodName := ⟨RX7, "isAt", "(I)Z"⟩
def dkwX7_isAt_0 : List UInt8 := [42, 27, 3, 182, 0, 171, 5, 161, 0, 7, 4, 167, 0, 4, 3, 172]
abbrev dktX7_isAt_0 : List UInt8 := dkwX7_isAt_0 ++ []
theorem dksX7_isAt_0 : cX7_isAt.data.toList.drop 0 = dktX7_isAt_0 := by decide +kernel
theorem dX7_isAt_0 : decode cX7_isAt 0 = .ok (.aload_n 0, 1) := dk_42 (dk_at dksX7_isAt_0 0 rfl rfl)
theorem dX7_isAt_1 : decode cX7_isAt 1 = .ok (.iload_n 1, 1) := dk_27 (dk_at dksX7_isAt_0 1 rfl rfl)
theorem dX7_isAt_2 : decode cX7_isAt 2 = .ok (.iconst 0, 1) := dk_3 (dk_at dksX7_isAt_0 2 rfl rfl)
theorem dX7_isAt_3 : decode cX7_isAt 3 = .ok (.invokevirtual 171, 3) := dk_182 0 171 (dk_at dksX7_isAt_0 3 rfl rfl)
theorem dX7_isAt_6 : decode cX7_isAt 6 = .ok (.iconst 2, 1) := dk_5 (dk_at dksX7_isAt_0 6 rfl rfl)
theorem dX7_isAt_7 : decode cX7_isAt 7 = .ok (.if_icmp .lt 7, 3) := dk_161 0 7 (dk_at dksX7_isAt_0 7 rfl rfl)
theorem dX7_isAt_10 : decode cX7_isAt 10 = .ok (.iconst 1, 1) := dk_4 (dk_at dksX7_isAt_0 10 rfl rfl)
theorem dX7_isAt_11 : decode cX7_isAt 11 = .ok (.goto 4, 3) := dk_167 0 4 (dk_at dksX7_isAt_0 11 rfl rfl)
theorem dX7_isAt_14 : decode cX7_isAt 14 = .ok (.iconst 0, 1) := dk_3 (dk_at dksX7_isAt_0 14 rfl rfl)
theorem dX7_isAt_15 : decode cX7_isAt 15 = .ok (.ireturn, 1) := dk_172 (dk_at dksX7_isAt_0 15 rfl rfl)
abbrev cX7_group : ByteArray := prog_13_method_67_code
def yX7_group : MethodName := ⟨RX7, "group", "(III)I"⟩
def dkwX7_group_4 : List UInt8 := [21, 4, 172]
abbrev dktX7_group_4 : List UInt8 := dkwX7_group_4 ++ []
def dkwX7_group_3 : List UInt8 := [3, 46, 16, 16, 182, 0, 167, 153, 0, 7, 4, 167, 0, 4, 3, 96, 54, 4, 132, 5, 1, 167, 255, 220]
abbrev dktX7_group_3 : List UInt8 := dkwX7_group_3 ++ dktX7_group_4
def dkwX7_group_2 : List UInt8 := [182, 0, 195, 3, 54, 4, 3, 54, 5, 21, 5, 29, 162, 0, 36, 21, 4, 42, 27, 28, 42, 180, 0, 51]
abbrev dktX7_group_2 : List UInt8 := dkwX7_group_2 ++ dktX7_group_3
def dkwX7_group_1 : List UInt8 := [20, 1, 146, 184, 0, 146, 154, 0, 5, 2, 172, 42, 182, 1, 118, 42, 27, 42, 180, 0, 51, 3, 46]
abbrev dktX7_group_1 : List UInt8 := dkwX7_group_1 ++ dktX7_group_2
def dkwX7_group_0 : List UInt8 := [42, 27, 182, 1, 121, 153, 0, 28, 42, 28, 182, 1, 121, 153, 0, 20, 27, 28, 159, 0, 15, 29, 133, 10]
abbrev dktX7_group_0 : List UInt8 := dkwX7_group_0 ++ dktX7_group_1
theorem dksX7_group_0 : cX7_group.data.toList.drop 0 = dktX7_group_0 := by decide +kernel
theorem dksX7_group_1 : cX7_group.data.toList.drop 24 = dktX7_group_1 := dk_seg dksX7_group_0 24 rfl rfl
theorem dksX7_group_2 : cX7_group.data.toList.drop 47 = dktX7_group_2 := dk_seg dksX7_group_1 23 rfl rfl
theorem dksX7_group_3 : cX7_group.data.toList.drop 71 = dktX7_group_3 := dk_seg dksX7_group_2 24 rfl rfl
theorem dksX7_group_4 : cX7_group.data.toList.drop 95 = dktX7_group_4 := dk_seg dksX7_group_3 24 rfl rfl
theorem dX7_group_0 : decode cX7_group 0 = .ok (.aload_n 0, 1) := dk_42 (dk_at dksX7_group_0 0 rfl rfl)
theorem dX7_group_1 : decode cX7_group 1 = .ok (.iload_n 1, 1) := dk_27 (dk_at dksX7_group_0 1 rfl rfl)
theorem dX7_group_2 : decode cX7_group 2 = .ok (.invokevirtual 377, 3) := dk_182 1 121 (dk_at dksX7_group_0 2 rfl rfl)
theorem dX7_group_5 : decode cX7_group 5 = .ok (.ifCond .eq 28, 3) := dk_153 0 28 (dk_at dksX7_group_0 5 rfl rfl)
theorem dX7_group_8 : decode cX7_group 8 = .ok (.aload_n 0, 1) := dk_42 (dk_at dksX7_group_0 8 rfl rfl)
theorem dX7_group_9 : decode cX7_group 9 = .ok (.iload_n 2, 1) := dk_28 (dk_at dksX7_group_0 9 rfl rfl)
theorem dX7_group_10 : decode cX7_group 10 = .ok (.invokevirtual 377, 3) := dk_182 1 121 (dk_at dksX7_group_0 10 rfl rfl)
theorem dX7_group_13 : decode cX7_group 13 = .ok (.ifCond .eq 20, 3) := dk_153 0 20 (dk_at dksX7_group_0 13 rfl rfl)
theorem dX7_group_16 : decode cX7_group 16 = .ok (.iload_n 1, 1) := dk_27 (dk_at dksX7_group_0 16 rfl rfl)
theorem dX7_group_17 : decode cX7_group 17 = .ok (.iload_n 2, 1) := dk_28 (dk_at dksX7_group_0 17 rfl rfl)
theorem dX7_group_18 : decode cX7_group 18 = .ok (.if_icmp .eq 15, 3) := dk_159 0 15 (dk_at dksX7_group_0 18 rfl rfl)
theorem dX7_group_21 : decode cX7_group 21 = .ok (.iload_n 3, 1) := dk_29 (dk_at dksX7_group_0 21 rfl rfl)
theorem dX7_group_22 : decode cX7_group 22 = .ok (.i2l, 1) := dk_133 (dk_at dksX7_group_0 22 rfl rfl)
theorem dX7_group_23 : decode cX7_group 23 = .ok (.lconst 1, 1) := dk_10 (dk_at dksX7_group_0 23 rfl rfl)
theorem dX7_group_24 : decode cX7_group 24 = .ok (.ldc2_w 402, 3) := dk_20 1 146 (dk_at dksX7_group_1 0 rfl rfl)
theorem dX7_group_27 : decode cX7_group 27 = .ok (.invokestatic 146, 3) := dk_184 0 146 (dk_at dksX7_group_1 3 rfl rfl)
theorem dX7_group_30 : decode cX7_group 30 = .ok (.ifCond .ne 5, 3) := dk_154 0 5 (dk_at dksX7_group_1 6 rfl rfl)
theorem dX7_group_33 : decode cX7_group 33 = .ok (.iconst (-1), 1) := dk_2 (dk_at dksX7_group_1 9 rfl rfl)
theorem dX7_group_34 : decode cX7_group 34 = .ok (.ireturn, 1) := dk_172 (dk_at dksX7_group_1 10 rfl rfl)
theorem dX7_group_35 : decode cX7_group 35 = .ok (.aload_n 0, 1) := dk_42 (dk_at dksX7_group_1 11 rfl rfl)
theorem dX7_group_36 : decode cX7_group 36 = .ok (.invokevirtual 374, 3) := dk_182 1 118 (dk_at dksX7_group_1 12 rfl rfl)
theorem dX7_group_39 : decode cX7_group 39 = .ok (.aload_n 0, 1) := dk_42 (dk_at dksX7_group_1 15 rfl rfl)
theorem dX7_group_40 : decode cX7_group 40 = .ok (.iload_n 1, 1) := dk_27 (dk_at dksX7_group_1 16 rfl rfl)
theorem dX7_group_41 : decode cX7_group 41 = .ok (.aload_n 0, 1) := dk_42 (dk_at dksX7_group_1 17 rfl rfl)
theorem dX7_group_42 : decode cX7_group 42 = .ok (.getfield 51, 3) := dk_180 0 51 (dk_at dksX7_group_1 18 rfl rfl)
theorem dX7_group_45 : decode cX7_group 45 = .ok (.iconst 0, 1) := dk_3 (dk_at dksX7_group_1 21 rfl rfl)
theorem dX7_group_46 : decode cX7_group 46 = .ok (.iaload, 1) := dk_46 (dk_at dksX7_group_1 22 rfl rfl)
theorem dX7_group_47 : decode cX7_group 47 = .ok (.invokevirtual 195, 3) := dk_182 0 195 (dk_at dksX7_group_2 0 rfl rfl)
theorem dX7_group_50 : decode cX7_group 50 = .ok (.iconst 0, 1) := dk_3 (dk_at dksX7_group_2 3 rfl rfl)
theorem dX7_group_51 : decode cX7_group 51 = .ok (.istore 4, 2) := dk_54 4 (dk_at dksX7_group_2 4 rfl rfl)
theorem dX7_group_53 : decode cX7_group 53 = .ok (.iconst 0, 1) := dk_3 (dk_at dksX7_group_2 6 rfl rfl)
theorem dX7_group_54 : decode cX7_group 54 = .ok (.istore 5, 2) := dk_54 5 (dk_at dksX7_group_2 7 rfl rfl)
theorem dX7_group_56 : decode cX7_group 56 = .ok (.iload 5, 2) := dk_21 5 (dk_at dksX7_group_2 9 rfl rfl)
theorem dX7_group_58 : decode cX7_group 58 = .ok (.iload_n 3, 1) := dk_29 (dk_at dksX7_group_2 11 rfl rfl)
theorem dX7_group_59 : decode cX7_group 59 = .ok (.if_icmp .ge 36, 3) := dk_162 0 36 (dk_at dksX7_group_2 12 rfl rfl)
theorem dX7_group_62 : decode cX7_group 62 = .ok (.iload 4, 2) := dk_21 4 (dk_at dksX7_group_2 15 rfl rfl)
theorem dX7_group_64 : decode cX7_group 64 = .ok (.aload_n 0, 1) := dk_42 (dk_at dksX7_group_2 17 rfl rfl)
theorem dX7_group_65 : decode cX7_group 65 = .ok (.iload_n 1, 1) := dk_27 (dk_at dksX7_group_2 18 rfl rfl)
theorem dX7_group_66 : decode cX7_group 66 = .ok (.iload_n 2, 1) := dk_28 (dk_at dksX7_group_2 19 rfl rfl)
theorem dX7_group_67 : decode cX7_group 67 = .ok (.aload_n 0, 1) := dk_42 (dk_at dksX7_group_2 20 rfl rfl)
theorem dX7_group_68 : decode cX7_group 68 = .ok (.getfield 51, 3) := dk_180 0 51 (dk_at dksX7_group_2 21 rfl rfl)
theorem dX7_group_71 : decode cX7_group 71 = .ok (.iconst 0, 1) := dk_3 (dk_at dksX7_group_3 0 rfl rfl)
theorem dX7_group_72 : decode cX7_group 72 = .ok (.iaload, 1) := dk_46 (dk_at dksX7_group_3 1 rfl rfl)
theorem dX7_group_73 : decode cX7_group 73 = .ok (.bipush 16, 2) := dk_16 16 (dk_at dksX7_group_3 2 rfl rfl)
theorem dX7_group_75 : decode cX7_group 75 = .ok (.invokevirtual 167, 3) := dk_182 0 167 (dk_at dksX7_group_3 4 rfl rfl)
theorem dX7_group_78 : decode cX7_group 78 = .ok (.ifCond .eq 7, 3) := dk_153 0 7 (dk_at dksX7_group_3 7 rfl rfl)
theorem dX7_group_81 : decode cX7_group 81 = .ok (.iconst 1, 1) := dk_4 (dk_at dksX7_group_3 10 rfl rfl)
theorem dX7_group_82 : decode cX7_group 82 = .ok (.goto 4, 3) := dk_167 0 4 (dk_at dksX7_group_3 11 rfl rfl)
theorem dX7_group_85 : decode cX7_group 85 = .ok (.iconst 0, 1) := dk_3 (dk_at dksX7_group_3 14 rfl rfl)
theorem dX7_group_86 : decode cX7_group 86 = .ok (.iadd, 1) := dk_96 (dk_at dksX7_group_3 15 rfl rfl)
theorem dX7_group_87 : decode cX7_group 87 = .ok (.istore 4, 2) := dk_54 4 (dk_at dksX7_group_3 16 rfl rfl)
theorem dX7_group_89 : decode cX7_group 89 = .ok (.iinc 5 1, 3) := dk_132 5 1 (dk_at dksX7_group_3 18 rfl rfl)
theorem dX7_group_92 : decode cX7_group 92 = .ok (.goto (-36), 3) := dk_167 255 220 (dk_at dksX7_group_3 21 rfl rfl)
theorem dX7_group_95 : decode cX7_group 95 = .ok (.iload 4, 2) := dk_21 4 (dk_at dksX7_group_4 0 rfl rfl)
theorem dX7_group_97 : decode cX7_group 97 = .ok (.ireturn, 1) := dk_172 (dk_at dksX7_group_4 2 rfl rfl)
abbrev cX7_bringsUp : ByteArray := prog_13_method_16_code
def yX7_bringsUp : MethodName := ⟨RX7, "bringsUp", "(II)V"⟩
def dkwX7_bringsUp_2 : List UInt8 := [180, 0, 45, 29, 46, 96, 79, 42, 27, 28, 182, 0, 164, 62, 167, 255, 204, 42, 27, 28, 182, 0, 161, 177]
abbrev dktX7_bringsUp_2 : List UInt8 := dkwX7_bringsUp_2 ++ []
def dkwX7_bringsUp_1 : List UInt8 := [16, 63, 29, 96, 46, 29, 182, 0, 167, 54, 4, 42, 180, 0, 51, 16, 63, 29, 96, 92, 46, 42]
abbrev dktX7_bringsUp_1 : List UInt8 := dkwX7_bringsUp_1 ++ dktX7_bringsUp_2
def dkwX7_bringsUp_0 : List UInt8 := [42, 27, 28, 182, 0, 164, 62, 29, 155, 0, 54, 42, 27, 42, 180, 0, 42, 29, 46, 42, 180, 0, 51]
abbrev dktX7_bringsUp_0 : List UInt8 := dkwX7_bringsUp_0 ++ dktX7_bringsUp_1
theorem dksX7_bringsUp_0 : cX7_bringsUp.data.toList.drop 0 = dktX7_bringsUp_0 := by decide +kernel
theorem dksX7_bringsUp_1 : cX7_bringsUp.data.toList.drop 23 = dktX7_bringsUp_1 := dk_seg dksX7_bringsUp_0 23 rfl rfl
theorem dksX7_bringsUp_2 : cX7_bringsUp.data.toList.drop 45 = dktX7_bringsUp_2 := dk_seg dksX7_bringsUp_1 22 rfl rfl
theorem dX7_bringsUp_0 : decode cX7_bringsUp 0 = .ok (.aload_n 0, 1) := dk_42 (dk_at dksX7_bringsUp_0 0 rfl rfl)
theorem dX7_bringsUp_1 : decode cX7_bringsUp 1 = .ok (.iload_n 1, 1) := dk_27 (dk_at dksX7_bringsUp_0 1 rfl rfl)
theorem dX7_bringsUp_2 : decode cX7_bringsUp 2 = .ok (.iload_n 2, 1) := dk_28 (dk_at dksX7_bringsUp_0 2 rfl rfl)
theorem dX7_bringsUp_3 : decode cX7_bringsUp 3 = .ok (.invokevirtual 164, 3) := dk_182 0 164 (dk_at dksX7_bringsUp_0 3 rfl rfl)
theorem dX7_bringsUp_6 : decode cX7_bringsUp 6 = .ok (.istore_n 3, 1) := dk_62 (dk_at dksX7_bringsUp_0 6 rfl rfl)
theorem dX7_bringsUp_7 : decode cX7_bringsUp 7 = .ok (.iload_n 3, 1) := dk_29 (dk_at dksX7_bringsUp_0 7 rfl rfl)
theorem dX7_bringsUp_8 : decode cX7_bringsUp 8 = .ok (.ifCond .lt 54, 3) := dk_155 0 54 (dk_at dksX7_bringsUp_0 8 rfl rfl)
theorem dX7_bringsUp_11 : decode cX7_bringsUp 11 = .ok (.aload_n 0, 1) := dk_42 (dk_at dksX7_bringsUp_0 11 rfl rfl)
theorem dX7_bringsUp_12 : decode cX7_bringsUp 12 = .ok (.iload_n 1, 1) := dk_27 (dk_at dksX7_bringsUp_0 12 rfl rfl)
theorem dX7_bringsUp_13 : decode cX7_bringsUp 13 = .ok (.aload_n 0, 1) := dk_42 (dk_at dksX7_bringsUp_0 13 rfl rfl)
theorem dX7_bringsUp_14 : decode cX7_bringsUp 14 = .ok (.getfield 42, 3) := dk_180 0 42 (dk_at dksX7_bringsUp_0 14 rfl rfl)
theorem dX7_bringsUp_17 : decode cX7_bringsUp 17 = .ok (.iload_n 3, 1) := dk_29 (dk_at dksX7_bringsUp_0 17 rfl rfl)
theorem dX7_bringsUp_18 : decode cX7_bringsUp 18 = .ok (.iaload, 1) := dk_46 (dk_at dksX7_bringsUp_0 18 rfl rfl)
theorem dX7_bringsUp_19 : decode cX7_bringsUp 19 = .ok (.aload_n 0, 1) := dk_42 (dk_at dksX7_bringsUp_0 19 rfl rfl)
theorem dX7_bringsUp_20 : decode cX7_bringsUp 20 = .ok (.getfield 51, 3) := dk_180 0 51 (dk_at dksX7_bringsUp_0 20 rfl rfl)
theorem dX7_bringsUp_23 : decode cX7_bringsUp 23 = .ok (.bipush 63, 2) := dk_16 63 (dk_at dksX7_bringsUp_1 0 rfl rfl)
theorem dX7_bringsUp_25 : decode cX7_bringsUp 25 = .ok (.iload_n 3, 1) := dk_29 (dk_at dksX7_bringsUp_1 2 rfl rfl)
theorem dX7_bringsUp_26 : decode cX7_bringsUp 26 = .ok (.iadd, 1) := dk_96 (dk_at dksX7_bringsUp_1 3 rfl rfl)
theorem dX7_bringsUp_27 : decode cX7_bringsUp 27 = .ok (.iaload, 1) := dk_46 (dk_at dksX7_bringsUp_1 4 rfl rfl)
theorem dX7_bringsUp_28 : decode cX7_bringsUp 28 = .ok (.iload_n 3, 1) := dk_29 (dk_at dksX7_bringsUp_1 5 rfl rfl)
theorem dX7_bringsUp_29 : decode cX7_bringsUp 29 = .ok (.invokevirtual 167, 3) := dk_182 0 167 (dk_at dksX7_bringsUp_1 6 rfl rfl)
theorem dX7_bringsUp_32 : decode cX7_bringsUp 32 = .ok (.istore 4, 2) := dk_54 4 (dk_at dksX7_bringsUp_1 9 rfl rfl)
theorem dX7_bringsUp_34 : decode cX7_bringsUp 34 = .ok (.aload_n 0, 1) := dk_42 (dk_at dksX7_bringsUp_1 11 rfl rfl)
theorem dX7_bringsUp_35 : decode cX7_bringsUp 35 = .ok (.getfield 51, 3) := dk_180 0 51 (dk_at dksX7_bringsUp_1 12 rfl rfl)
theorem dX7_bringsUp_38 : decode cX7_bringsUp 38 = .ok (.bipush 63, 2) := dk_16 63 (dk_at dksX7_bringsUp_1 15 rfl rfl)
theorem dX7_bringsUp_40 : decode cX7_bringsUp 40 = .ok (.iload_n 3, 1) := dk_29 (dk_at dksX7_bringsUp_1 17 rfl rfl)
theorem dX7_bringsUp_41 : decode cX7_bringsUp 41 = .ok (.iadd, 1) := dk_96 (dk_at dksX7_bringsUp_1 18 rfl rfl)
theorem dX7_bringsUp_42 : decode cX7_bringsUp 42 = .ok (.dup2, 1) := dk_92 (dk_at dksX7_bringsUp_1 19 rfl rfl)
theorem dX7_bringsUp_43 : decode cX7_bringsUp 43 = .ok (.iaload, 1) := dk_46 (dk_at dksX7_bringsUp_1 20 rfl rfl)
theorem dX7_bringsUp_44 : decode cX7_bringsUp 44 = .ok (.aload_n 0, 1) := dk_42 (dk_at dksX7_bringsUp_1 21 rfl rfl)
theorem dX7_bringsUp_45 : decode cX7_bringsUp 45 = .ok (.getfield 45, 3) := dk_180 0 45 (dk_at dksX7_bringsUp_2 0 rfl rfl)
theorem dX7_bringsUp_48 : decode cX7_bringsUp 48 = .ok (.iload_n 3, 1) := dk_29 (dk_at dksX7_bringsUp_2 3 rfl rfl)
theorem dX7_bringsUp_49 : decode cX7_bringsUp 49 = .ok (.iaload, 1) := dk_46 (dk_at dksX7_bringsUp_2 4 rfl rfl)
theorem dX7_bringsUp_50 : decode cX7_bringsUp 50 = .ok (.iadd, 1) := dk_96 (dk_at dksX7_bringsUp_2 5 rfl rfl)
theorem dX7_bringsUp_51 : decode cX7_bringsUp 51 = .ok (.iastore, 1) := dk_79 (dk_at dksX7_bringsUp_2 6 rfl rfl)
theorem dX7_bringsUp_52 : decode cX7_bringsUp 52 = .ok (.aload_n 0, 1) := dk_42 (dk_at dksX7_bringsUp_2 7 rfl rfl)
theorem dX7_bringsUp_53 : decode cX7_bringsUp 53 = .ok (.iload_n 1, 1) := dk_27 (dk_at dksX7_bringsUp_2 8 rfl rfl)
theorem dX7_bringsUp_54 : decode cX7_bringsUp 54 = .ok (.iload_n 2, 1) := dk_28 (dk_at dksX7_bringsUp_2 9 rfl rfl)
theorem dX7_bringsUp_55 : decode cX7_bringsUp 55 = .ok (.invokevirtual 164, 3) := dk_182 0 164 (dk_at dksX7_bringsUp_2 10 rfl rfl)
theorem dX7_bringsUp_58 : decode cX7_bringsUp 58 = .ok (.istore_n 3, 1) := dk_62 (dk_at dksX7_bringsUp_2 13 rfl rfl)
theorem dX7_bringsUp_59 : decode cX7_bringsUp 59 = .ok (.goto (-52), 3) := dk_167 255 204 (dk_at dksX7_bringsUp_2 14 rfl rfl)
theorem dX7_bringsUp_62 : decode cX7_bringsUp 62 = .ok (.aload_n 0, 1) := dk_42 (dk_at dksX7_bringsUp_2 17 rfl rfl)
theorem dX7_bringsUp_63 : decode cX7_bringsUp 63 = .ok (.iload_n 1, 1) := dk_27 (dk_at dksX7_bringsUp_2 18 rfl rfl)
theorem dX7_bringsUp_64 : decode cX7_bringsUp 64 = .ok (.iload_n 2, 1) := dk_28 (dk_at dksX7_bringsUp_2 19 rfl rfl)
theorem dX7_bringsUp_65 : decode cX7_bringsUp 65 = .ok (.invokevirtual 161, 3) := dk_182 0 161 (dk_at dksX7_bringsUp_2 20 rfl rfl)
theorem dX7_bringsUp_68 : decode cX7_bringsUp 68 = .ok (.return_, 1) := dk_177 (dk_at dksX7_bringsUp_2 23 rfl rfl)
abbrev cX7_flowNext : ByteArray := prog_13_method_15_code
def yX7_flowNext : MethodName := ⟨RX7, "flowNext", "(II)I"⟩
def dkwX7_flowNext_3 : List UInt8 := [132, 4, 1, 167, 255, 190, 29, 172]
abbrev dktX7_flowNext_3 : List UInt8 := dkwX7_flowNext_3 ++ []
def dkwX7_flowNext_2 : List UInt8 := [180, 0, 51, 16, 63, 21, 4, 96, 46, 42, 180, 0, 51, 16, 63, 29, 96, 46, 162, 0, 6, 21, 4, 62]
abbrev dktX7_flowNext_2 : List UInt8 := dkwX7_flowNext_2 ++ dktX7_flowNext_3
def dkwX7_flowNext_1 : List UInt8 := [160, 0, 46, 42, 180, 0, 51, 16, 63, 21, 4, 96, 46, 28, 163, 0, 32, 29, 155, 0, 25, 42]
abbrev dktX7_flowNext_1 : List UInt8 := dkwX7_flowNext_1 ++ dktX7_flowNext_2
def dkwX7_flowNext_0 : List UInt8 := [16, 254, 62, 3, 54, 4, 21, 4, 42, 180, 0, 136, 162, 0, 63, 42, 180, 0, 39, 21, 4, 46, 27]
abbrev dktX7_flowNext_0 : List UInt8 := dkwX7_flowNext_0 ++ dktX7_flowNext_1
theorem dksX7_flowNext_0 : cX7_flowNext.data.toList.drop 0 = dktX7_flowNext_0 := by decide +kernel
theorem dksX7_flowNext_1 : cX7_flowNext.data.toList.drop 23 = dktX7_flowNext_1 := dk_seg dksX7_flowNext_0 23 rfl rfl
theorem dksX7_flowNext_2 : cX7_flowNext.data.toList.drop 45 = dktX7_flowNext_2 := dk_seg dksX7_flowNext_1 22 rfl rfl
theorem dksX7_flowNext_3 : cX7_flowNext.data.toList.drop 69 = dktX7_flowNext_3 := dk_seg dksX7_flowNext_2 24 rfl rfl
theorem dX7_flowNext_0 : decode cX7_flowNext 0 = .ok (.bipush (-2), 2) := dk_16 254 (dk_at dksX7_flowNext_0 0 rfl rfl)
theorem dX7_flowNext_2 : decode cX7_flowNext 2 = .ok (.istore_n 3, 1) := dk_62 (dk_at dksX7_flowNext_0 2 rfl rfl)
theorem dX7_flowNext_3 : decode cX7_flowNext 3 = .ok (.iconst 0, 1) := dk_3 (dk_at dksX7_flowNext_0 3 rfl rfl)
theorem dX7_flowNext_4 : decode cX7_flowNext 4 = .ok (.istore 4, 2) := dk_54 4 (dk_at dksX7_flowNext_0 4 rfl rfl)
theorem dX7_flowNext_6 : decode cX7_flowNext 6 = .ok (.iload 4, 2) := dk_21 4 (dk_at dksX7_flowNext_0 6 rfl rfl)
theorem dX7_flowNext_8 : decode cX7_flowNext 8 = .ok (.aload_n 0, 1) := dk_42 (dk_at dksX7_flowNext_0 8 rfl rfl)
theorem dX7_flowNext_9 : decode cX7_flowNext 9 = .ok (.getfield 136, 3) := dk_180 0 136 (dk_at dksX7_flowNext_0 9 rfl rfl)
theorem dX7_flowNext_12 : decode cX7_flowNext 12 = .ok (.if_icmp .ge 63, 3) := dk_162 0 63 (dk_at dksX7_flowNext_0 12 rfl rfl)
theorem dX7_flowNext_15 : decode cX7_flowNext 15 = .ok (.aload_n 0, 1) := dk_42 (dk_at dksX7_flowNext_0 15 rfl rfl)
theorem dX7_flowNext_16 : decode cX7_flowNext 16 = .ok (.getfield 39, 3) := dk_180 0 39 (dk_at dksX7_flowNext_0 16 rfl rfl)
theorem dX7_flowNext_19 : decode cX7_flowNext 19 = .ok (.iload 4, 2) := dk_21 4 (dk_at dksX7_flowNext_0 19 rfl rfl)
theorem dX7_flowNext_21 : decode cX7_flowNext 21 = .ok (.iaload, 1) := dk_46 (dk_at dksX7_flowNext_0 21 rfl rfl)
theorem dX7_flowNext_22 : decode cX7_flowNext 22 = .ok (.iload_n 1, 1) := dk_27 (dk_at dksX7_flowNext_0 22 rfl rfl)
theorem dX7_flowNext_23 : decode cX7_flowNext 23 = .ok (.if_icmp .ne 46, 3) := dk_160 0 46 (dk_at dksX7_flowNext_1 0 rfl rfl)
theorem dX7_flowNext_26 : decode cX7_flowNext 26 = .ok (.aload_n 0, 1) := dk_42 (dk_at dksX7_flowNext_1 3 rfl rfl)
theorem dX7_flowNext_27 : decode cX7_flowNext 27 = .ok (.getfield 51, 3) := dk_180 0 51 (dk_at dksX7_flowNext_1 4 rfl rfl)
theorem dX7_flowNext_30 : decode cX7_flowNext 30 = .ok (.bipush 63, 2) := dk_16 63 (dk_at dksX7_flowNext_1 7 rfl rfl)
theorem dX7_flowNext_32 : decode cX7_flowNext 32 = .ok (.iload 4, 2) := dk_21 4 (dk_at dksX7_flowNext_1 9 rfl rfl)
theorem dX7_flowNext_34 : decode cX7_flowNext 34 = .ok (.iadd, 1) := dk_96 (dk_at dksX7_flowNext_1 11 rfl rfl)
theorem dX7_flowNext_35 : decode cX7_flowNext 35 = .ok (.iaload, 1) := dk_46 (dk_at dksX7_flowNext_1 12 rfl rfl)
theorem dX7_flowNext_36 : decode cX7_flowNext 36 = .ok (.iload_n 2, 1) := dk_28 (dk_at dksX7_flowNext_1 13 rfl rfl)
theorem dX7_flowNext_37 : decode cX7_flowNext 37 = .ok (.if_icmp .gt 32, 3) := dk_163 0 32 (dk_at dksX7_flowNext_1 14 rfl rfl)
theorem dX7_flowNext_40 : decode cX7_flowNext 40 = .ok (.iload_n 3, 1) := dk_29 (dk_at dksX7_flowNext_1 17 rfl rfl)
theorem dX7_flowNext_41 : decode cX7_flowNext 41 = .ok (.ifCond .lt 25, 3) := dk_155 0 25 (dk_at dksX7_flowNext_1 18 rfl rfl)
theorem dX7_flowNext_44 : decode cX7_flowNext 44 = .ok (.aload_n 0, 1) := dk_42 (dk_at dksX7_flowNext_1 21 rfl rfl)
theorem dX7_flowNext_45 : decode cX7_flowNext 45 = .ok (.getfield 51, 3) := dk_180 0 51 (dk_at dksX7_flowNext_2 0 rfl rfl)
theorem dX7_flowNext_48 : decode cX7_flowNext 48 = .ok (.bipush 63, 2) := dk_16 63 (dk_at dksX7_flowNext_2 3 rfl rfl)
theorem dX7_flowNext_50 : decode cX7_flowNext 50 = .ok (.iload 4, 2) := dk_21 4 (dk_at dksX7_flowNext_2 5 rfl rfl)
theorem dX7_flowNext_52 : decode cX7_flowNext 52 = .ok (.iadd, 1) := dk_96 (dk_at dksX7_flowNext_2 7 rfl rfl)
theorem dX7_flowNext_53 : decode cX7_flowNext 53 = .ok (.iaload, 1) := dk_46 (dk_at dksX7_flowNext_2 8 rfl rfl)
theorem dX7_flowNext_54 : decode cX7_flowNext 54 = .ok (.aload_n 0, 1) := dk_42 (dk_at dksX7_flowNext_2 9 rfl rfl)
theorem dX7_flowNext_55 : decode cX7_flowNext 55 = .ok (.getfield 51, 3) := dk_180 0 51 (dk_at dksX7_flowNext_2 10 rfl rfl)
theorem dX7_flowNext_58 : decode cX7_flowNext 58 = .ok (.bipush 63, 2) := dk_16 63 (dk_at dksX7_flowNext_2 13 rfl rfl)
theorem dX7_flowNext_60 : decode cX7_flowNext 60 = .ok (.iload_n 3, 1) := dk_29 (dk_at dksX7_flowNext_2 15 rfl rfl)
theorem dX7_flowNext_61 : decode cX7_flowNext 61 = .ok (.iadd, 1) := dk_96 (dk_at dksX7_flowNext_2 16 rfl rfl)
theorem dX7_flowNext_62 : decode cX7_flowNext 62 = .ok (.iaload, 1) := dk_46 (dk_at dksX7_flowNext_2 17 rfl rfl)
theorem dX7_flowNext_63 : decode cX7_flowNext 63 = .ok (.if_icmp .ge 6, 3) := dk_162 0 6 (dk_at dksX7_flowNext_2 18 rfl rfl)
theorem dX7_flowNext_66 : decode cX7_flowNext 66 = .ok (.iload 4, 2) := dk_21 4 (dk_at dksX7_flowNext_2 21 rfl rfl)
theorem dX7_flowNext_68 : decode cX7_flowNext 68 = .ok (.istore_n 3, 1) := dk_62 (dk_at dksX7_flowNext_2 23 rfl rfl)
theorem dX7_flowNext_69 : decode cX7_flowNext 69 = .ok (.iinc 4 1, 3) := dk_132 4 1 (dk_at dksX7_flowNext_3 0 rfl rfl)
theorem dX7_flowNext_72 : decode cX7_flowNext 72 = .ok (.goto (-66), 3) := dk_167 255 190 (dk_at dksX7_flowNext_3 3 rfl rfl)
theorem dX7_flowNext_75 : decode cX7_flowNext 75 = .ok (.iload_n 3, 1) := dk_29 (dk_at dksX7_flowNext_3 6 rfl rfl)
theorem dX7_flowNext_76 : decode cX7_flowNext 76 = .ok (.ireturn, 1) := dk_172 (dk_at dksX7_flowNext_3 7 rfl rfl)
abbrev cX7_joins : ByteArray := prog_13_method_14_code
def yX7_joins : MethodName := ⟨RX7, "joins", "(IIII)Z"⟩
def dkwX7_joins_4 : List UInt8 := [172]
abbrev dktX7_joins_4 : List UInt8 := dkwX7_joins_4 ++ []
def dkwX7_joins_3 : List UInt8 := [180, 0, 51, 21, 5, 5, 96, 21, 4, 79, 42, 180, 0, 51, 16, 23, 27, 96, 92, 46, 4, 96, 79, 4]
abbrev dktX7_joins_3 : List UInt8 := dkwX7_joins_3 ++ dktX7_joins_4
def dkwX7_joins_2 : List UInt8 := [184, 0, 150, 54, 5, 42, 180, 0, 51, 21, 5, 28, 79, 42, 180, 0, 51, 21, 5, 4, 96, 29, 79, 42]
abbrev dktX7_joins_2 : List UInt8 := dkwX7_joins_2 ++ dktX7_joins_3
def dkwX7_joins_1 : List UInt8 := [160, 0, 12, 42, 21, 4, 4, 182, 0, 154, 3, 172, 27, 42, 180, 0, 51, 16, 23, 27, 96, 46]
abbrev dktX7_joins_1 : List UInt8 := dkwX7_joins_1 ++ dktX7_joins_2
def dkwX7_joins_0 : List UInt8 := [42, 27, 29, 182, 0, 161, 42, 21, 4, 3, 182, 0, 154, 42, 180, 0, 51, 16, 23, 27, 96, 46, 16, 40]
abbrev dktX7_joins_0 : List UInt8 := dkwX7_joins_0 ++ dktX7_joins_1
theorem dksX7_joins_0 : cX7_joins.data.toList.drop 0 = dktX7_joins_0 := by decide +kernel
theorem dksX7_joins_1 : cX7_joins.data.toList.drop 24 = dktX7_joins_1 := dk_seg dksX7_joins_0 24 rfl rfl
theorem dksX7_joins_2 : cX7_joins.data.toList.drop 46 = dktX7_joins_2 := dk_seg dksX7_joins_1 22 rfl rfl
theorem dksX7_joins_3 : cX7_joins.data.toList.drop 70 = dktX7_joins_3 := dk_seg dksX7_joins_2 24 rfl rfl
theorem dksX7_joins_4 : cX7_joins.data.toList.drop 94 = dktX7_joins_4 := dk_seg dksX7_joins_3 24 rfl rfl
theorem dX7_joins_0 : decode cX7_joins 0 = .ok (.aload_n 0, 1) := dk_42 (dk_at dksX7_joins_0 0 rfl rfl)
theorem dX7_joins_1 : decode cX7_joins 1 = .ok (.iload_n 1, 1) := dk_27 (dk_at dksX7_joins_0 1 rfl rfl)
theorem dX7_joins_2 : decode cX7_joins 2 = .ok (.iload_n 3, 1) := dk_29 (dk_at dksX7_joins_0 2 rfl rfl)
theorem dX7_joins_3 : decode cX7_joins 3 = .ok (.invokevirtual 161, 3) := dk_182 0 161 (dk_at dksX7_joins_0 3 rfl rfl)
theorem dX7_joins_6 : decode cX7_joins 6 = .ok (.aload_n 0, 1) := dk_42 (dk_at dksX7_joins_0 6 rfl rfl)
theorem dX7_joins_7 : decode cX7_joins 7 = .ok (.iload 4, 2) := dk_21 4 (dk_at dksX7_joins_0 7 rfl rfl)
theorem dX7_joins_9 : decode cX7_joins 9 = .ok (.iconst 0, 1) := dk_3 (dk_at dksX7_joins_0 9 rfl rfl)
theorem dX7_joins_10 : decode cX7_joins 10 = .ok (.invokevirtual 154, 3) := dk_182 0 154 (dk_at dksX7_joins_0 10 rfl rfl)
theorem dX7_joins_13 : decode cX7_joins 13 = .ok (.aload_n 0, 1) := dk_42 (dk_at dksX7_joins_0 13 rfl rfl)
theorem dX7_joins_14 : decode cX7_joins 14 = .ok (.getfield 51, 3) := dk_180 0 51 (dk_at dksX7_joins_0 14 rfl rfl)
theorem dX7_joins_17 : decode cX7_joins 17 = .ok (.bipush 23, 2) := dk_16 23 (dk_at dksX7_joins_0 17 rfl rfl)
theorem dX7_joins_19 : decode cX7_joins 19 = .ok (.iload_n 1, 1) := dk_27 (dk_at dksX7_joins_0 19 rfl rfl)
theorem dX7_joins_20 : decode cX7_joins 20 = .ok (.iadd, 1) := dk_96 (dk_at dksX7_joins_0 20 rfl rfl)
theorem dX7_joins_21 : decode cX7_joins 21 = .ok (.iaload, 1) := dk_46 (dk_at dksX7_joins_0 21 rfl rfl)
theorem dX7_joins_22 : decode cX7_joins 22 = .ok (.bipush 40, 2) := dk_16 40 (dk_at dksX7_joins_0 22 rfl rfl)
theorem dX7_joins_24 : decode cX7_joins 24 = .ok (.if_icmp .ne 12, 3) := dk_160 0 12 (dk_at dksX7_joins_1 0 rfl rfl)
theorem dX7_joins_27 : decode cX7_joins 27 = .ok (.aload_n 0, 1) := dk_42 (dk_at dksX7_joins_1 3 rfl rfl)
theorem dX7_joins_28 : decode cX7_joins 28 = .ok (.iload 4, 2) := dk_21 4 (dk_at dksX7_joins_1 4 rfl rfl)
theorem dX7_joins_30 : decode cX7_joins 30 = .ok (.iconst 1, 1) := dk_4 (dk_at dksX7_joins_1 6 rfl rfl)
theorem dX7_joins_31 : decode cX7_joins 31 = .ok (.invokevirtual 154, 3) := dk_182 0 154 (dk_at dksX7_joins_1 7 rfl rfl)
theorem dX7_joins_34 : decode cX7_joins 34 = .ok (.iconst 0, 1) := dk_3 (dk_at dksX7_joins_1 10 rfl rfl)
theorem dX7_joins_35 : decode cX7_joins 35 = .ok (.ireturn, 1) := dk_172 (dk_at dksX7_joins_1 11 rfl rfl)
theorem dX7_joins_36 : decode cX7_joins 36 = .ok (.iload_n 1, 1) := dk_27 (dk_at dksX7_joins_1 12 rfl rfl)
theorem dX7_joins_37 : decode cX7_joins 37 = .ok (.aload_n 0, 1) := dk_42 (dk_at dksX7_joins_1 13 rfl rfl)
theorem dX7_joins_38 : decode cX7_joins 38 = .ok (.getfield 51, 3) := dk_180 0 51 (dk_at dksX7_joins_1 14 rfl rfl)
theorem dX7_joins_41 : decode cX7_joins 41 = .ok (.bipush 23, 2) := dk_16 23 (dk_at dksX7_joins_1 17 rfl rfl)
theorem dX7_joins_43 : decode cX7_joins 43 = .ok (.iload_n 1, 1) := dk_27 (dk_at dksX7_joins_1 19 rfl rfl)
theorem dX7_joins_44 : decode cX7_joins 44 = .ok (.iadd, 1) := dk_96 (dk_at dksX7_joins_1 20 rfl rfl)
theorem dX7_joins_45 : decode cX7_joins 45 = .ok (.iaload, 1) := dk_46 (dk_at dksX7_joins_1 21 rfl rfl)
theorem dX7_joins_46 : decode cX7_joins 46 = .ok (.invokestatic 150, 3) := dk_184 0 150 (dk_at dksX7_joins_2 0 rfl rfl)
theorem dX7_joins_49 : decode cX7_joins 49 = .ok (.istore 5, 2) := dk_54 5 (dk_at dksX7_joins_2 3 rfl rfl)
theorem dX7_joins_51 : decode cX7_joins 51 = .ok (.aload_n 0, 1) := dk_42 (dk_at dksX7_joins_2 5 rfl rfl)
theorem dX7_joins_52 : decode cX7_joins 52 = .ok (.getfield 51, 3) := dk_180 0 51 (dk_at dksX7_joins_2 6 rfl rfl)
theorem dX7_joins_55 : decode cX7_joins 55 = .ok (.iload 5, 2) := dk_21 5 (dk_at dksX7_joins_2 9 rfl rfl)
theorem dX7_joins_57 : decode cX7_joins 57 = .ok (.iload_n 2, 1) := dk_28 (dk_at dksX7_joins_2 11 rfl rfl)
theorem dX7_joins_58 : decode cX7_joins 58 = .ok (.iastore, 1) := dk_79 (dk_at dksX7_joins_2 12 rfl rfl)
theorem dX7_joins_59 : decode cX7_joins 59 = .ok (.aload_n 0, 1) := dk_42 (dk_at dksX7_joins_2 13 rfl rfl)
theorem dX7_joins_60 : decode cX7_joins 60 = .ok (.getfield 51, 3) := dk_180 0 51 (dk_at dksX7_joins_2 14 rfl rfl)
theorem dX7_joins_63 : decode cX7_joins 63 = .ok (.iload 5, 2) := dk_21 5 (dk_at dksX7_joins_2 17 rfl rfl)
theorem dX7_joins_65 : decode cX7_joins 65 = .ok (.iconst 1, 1) := dk_4 (dk_at dksX7_joins_2 19 rfl rfl)
theorem dX7_joins_66 : decode cX7_joins 66 = .ok (.iadd, 1) := dk_96 (dk_at dksX7_joins_2 20 rfl rfl)
theorem dX7_joins_67 : decode cX7_joins 67 = .ok (.iload_n 3, 1) := dk_29 (dk_at dksX7_joins_2 21 rfl rfl)
theorem dX7_joins_68 : decode cX7_joins 68 = .ok (.iastore, 1) := dk_79 (dk_at dksX7_joins_2 22 rfl rfl)
theorem dX7_joins_69 : decode cX7_joins 69 = .ok (.aload_n 0, 1) := dk_42 (dk_at dksX7_joins_2 23 rfl rfl)
theorem dX7_joins_70 : decode cX7_joins 70 = .ok (.getfield 51, 3) := dk_180 0 51 (dk_at dksX7_joins_3 0 rfl rfl)
theorem dX7_joins_73 : decode cX7_joins 73 = .ok (.iload 5, 2) := dk_21 5 (dk_at dksX7_joins_3 3 rfl rfl)
theorem dX7_joins_75 : decode cX7_joins 75 = .ok (.iconst 2, 1) := dk_5 (dk_at dksX7_joins_3 5 rfl rfl)
theorem dX7_joins_76 : decode cX7_joins 76 = .ok (.iadd, 1) := dk_96 (dk_at dksX7_joins_3 6 rfl rfl)
theorem dX7_joins_77 : decode cX7_joins 77 = .ok (.iload 4, 2) := dk_21 4 (dk_at dksX7_joins_3 7 rfl rfl)
theorem dX7_joins_79 : decode cX7_joins 79 = .ok (.iastore, 1) := dk_79 (dk_at dksX7_joins_3 9 rfl rfl)
theorem dX7_joins_80 : decode cX7_joins 80 = .ok (.aload_n 0, 1) := dk_42 (dk_at dksX7_joins_3 10 rfl rfl)
theorem dX7_joins_81 : decode cX7_joins 81 = .ok (.getfield 51, 3) := dk_180 0 51 (dk_at dksX7_joins_3 11 rfl rfl)
theorem dX7_joins_84 : decode cX7_joins 84 = .ok (.bipush 23, 2) := dk_16 23 (dk_at dksX7_joins_3 14 rfl rfl)
theorem dX7_joins_86 : decode cX7_joins 86 = .ok (.iload_n 1, 1) := dk_27 (dk_at dksX7_joins_3 16 rfl rfl)
theorem dX7_joins_87 : decode cX7_joins 87 = .ok (.iadd, 1) := dk_96 (dk_at dksX7_joins_3 17 rfl rfl)
theorem dX7_joins_88 : decode cX7_joins 88 = .ok (.dup2, 1) := dk_92 (dk_at dksX7_joins_3 18 rfl rfl)
theorem dX7_joins_89 : decode cX7_joins 89 = .ok (.iaload, 1) := dk_46 (dk_at dksX7_joins_3 19 rfl rfl)
theorem dX7_joins_90 : decode cX7_joins 90 = .ok (.iconst 1, 1) := dk_4 (dk_at dksX7_joins_3 20 rfl rfl)
theorem dX7_joins_91 : decode cX7_joins 91 = .ok (.iadd, 1) := dk_96 (dk_at dksX7_joins_3 21 rfl rfl)
theorem dX7_joins_92 : decode cX7_joins 92 = .ok (.iastore, 1) := dk_79 (dk_at dksX7_joins_3 22 rfl rfl)
theorem dX7_joins_93 : decode cX7_joins 93 = .ok (.iconst 1, 1) := dk_4 (dk_at dksX7_joins_3 23 rfl rfl)
theorem dX7_joins_94 : decode cX7_joins 94 = .ok (.ireturn, 1) := dk_172 (dk_at dksX7_joins_4 0 rfl rfl)
abbrev cX7_giveUp : ByteArray := prog_13_method_13_code
def yX7_giveUp : MethodName := ⟨RX7, "giveUp", "(II)V"⟩
def dkwX7_giveUp_2 : List UInt8 := [184, 0, 150, 5, 96, 46, 5, 182, 0, 154, 132, 3, 1, 167, 255, 200, 42, 27, 29, 182, 0, 158, 177]
abbrev dktX7_giveUp_2 : List UInt8 := dkwX7_giveUp_2 ++ []
def dkwX7_giveUp_1 : List UInt8 := [184, 0, 150, 4, 96, 46, 100, 42, 180, 0, 51, 7, 46, 164, 0, 26, 42, 42, 180, 0, 51, 27, 29]
abbrev dktX7_giveUp_1 : List UInt8 := dkwX7_giveUp_1 ++ dktX7_giveUp_2
def dkwX7_giveUp_0 : List UInt8 := [3, 62, 29, 42, 180, 0, 51, 16, 23, 27, 96, 46, 162, 0, 49, 28, 42, 180, 0, 51, 27, 29]
abbrev dktX7_giveUp_0 : List UInt8 := dkwX7_giveUp_0 ++ dktX7_giveUp_1
theorem dksX7_giveUp_0 : cX7_giveUp.data.toList.drop 0 = dktX7_giveUp_0 := by decide +kernel
theorem dksX7_giveUp_1 : cX7_giveUp.data.toList.drop 22 = dktX7_giveUp_1 := dk_seg dksX7_giveUp_0 22 rfl rfl
theorem dksX7_giveUp_2 : cX7_giveUp.data.toList.drop 45 = dktX7_giveUp_2 := dk_seg dksX7_giveUp_1 23 rfl rfl
theorem dX7_giveUp_0 : decode cX7_giveUp 0 = .ok (.iconst 0, 1) := dk_3 (dk_at dksX7_giveUp_0 0 rfl rfl)
theorem dX7_giveUp_1 : decode cX7_giveUp 1 = .ok (.istore_n 3, 1) := dk_62 (dk_at dksX7_giveUp_0 1 rfl rfl)
theorem dX7_giveUp_2 : decode cX7_giveUp 2 = .ok (.iload_n 3, 1) := dk_29 (dk_at dksX7_giveUp_0 2 rfl rfl)
theorem dX7_giveUp_3 : decode cX7_giveUp 3 = .ok (.aload_n 0, 1) := dk_42 (dk_at dksX7_giveUp_0 3 rfl rfl)
theorem dX7_giveUp_4 : decode cX7_giveUp 4 = .ok (.getfield 51, 3) := dk_180 0 51 (dk_at dksX7_giveUp_0 4 rfl rfl)
theorem dX7_giveUp_7 : decode cX7_giveUp 7 = .ok (.bipush 23, 2) := dk_16 23 (dk_at dksX7_giveUp_0 7 rfl rfl)
theorem dX7_giveUp_9 : decode cX7_giveUp 9 = .ok (.iload_n 1, 1) := dk_27 (dk_at dksX7_giveUp_0 9 rfl rfl)
theorem dX7_giveUp_10 : decode cX7_giveUp 10 = .ok (.iadd, 1) := dk_96 (dk_at dksX7_giveUp_0 10 rfl rfl)
theorem dX7_giveUp_11 : decode cX7_giveUp 11 = .ok (.iaload, 1) := dk_46 (dk_at dksX7_giveUp_0 11 rfl rfl)
theorem dX7_giveUp_12 : decode cX7_giveUp 12 = .ok (.if_icmp .ge 49, 3) := dk_162 0 49 (dk_at dksX7_giveUp_0 12 rfl rfl)
theorem dX7_giveUp_15 : decode cX7_giveUp 15 = .ok (.iload_n 2, 1) := dk_28 (dk_at dksX7_giveUp_0 15 rfl rfl)
theorem dX7_giveUp_16 : decode cX7_giveUp 16 = .ok (.aload_n 0, 1) := dk_42 (dk_at dksX7_giveUp_0 16 rfl rfl)
theorem dX7_giveUp_17 : decode cX7_giveUp 17 = .ok (.getfield 51, 3) := dk_180 0 51 (dk_at dksX7_giveUp_0 17 rfl rfl)
theorem dX7_giveUp_20 : decode cX7_giveUp 20 = .ok (.iload_n 1, 1) := dk_27 (dk_at dksX7_giveUp_0 20 rfl rfl)
theorem dX7_giveUp_21 : decode cX7_giveUp 21 = .ok (.iload_n 3, 1) := dk_29 (dk_at dksX7_giveUp_0 21 rfl rfl)
theorem dX7_giveUp_22 : decode cX7_giveUp 22 = .ok (.invokestatic 150, 3) := dk_184 0 150 (dk_at dksX7_giveUp_1 0 rfl rfl)
theorem dX7_giveUp_25 : decode cX7_giveUp 25 = .ok (.iconst 1, 1) := dk_4 (dk_at dksX7_giveUp_1 3 rfl rfl)
theorem dX7_giveUp_26 : decode cX7_giveUp 26 = .ok (.iadd, 1) := dk_96 (dk_at dksX7_giveUp_1 4 rfl rfl)
theorem dX7_giveUp_27 : decode cX7_giveUp 27 = .ok (.iaload, 1) := dk_46 (dk_at dksX7_giveUp_1 5 rfl rfl)
theorem dX7_giveUp_28 : decode cX7_giveUp 28 = .ok (.isub, 1) := dk_100 (dk_at dksX7_giveUp_1 6 rfl rfl)
theorem dX7_giveUp_29 : decode cX7_giveUp 29 = .ok (.aload_n 0, 1) := dk_42 (dk_at dksX7_giveUp_1 7 rfl rfl)
theorem dX7_giveUp_30 : decode cX7_giveUp 30 = .ok (.getfield 51, 3) := dk_180 0 51 (dk_at dksX7_giveUp_1 8 rfl rfl)
theorem dX7_giveUp_33 : decode cX7_giveUp 33 = .ok (.iconst 4, 1) := dk_7 (dk_at dksX7_giveUp_1 11 rfl rfl)
theorem dX7_giveUp_34 : decode cX7_giveUp 34 = .ok (.iaload, 1) := dk_46 (dk_at dksX7_giveUp_1 12 rfl rfl)
theorem dX7_giveUp_35 : decode cX7_giveUp 35 = .ok (.if_icmp .le 26, 3) := dk_164 0 26 (dk_at dksX7_giveUp_1 13 rfl rfl)
theorem dX7_giveUp_38 : decode cX7_giveUp 38 = .ok (.aload_n 0, 1) := dk_42 (dk_at dksX7_giveUp_1 16 rfl rfl)
theorem dX7_giveUp_39 : decode cX7_giveUp 39 = .ok (.aload_n 0, 1) := dk_42 (dk_at dksX7_giveUp_1 17 rfl rfl)
theorem dX7_giveUp_40 : decode cX7_giveUp 40 = .ok (.getfield 51, 3) := dk_180 0 51 (dk_at dksX7_giveUp_1 18 rfl rfl)
theorem dX7_giveUp_43 : decode cX7_giveUp 43 = .ok (.iload_n 1, 1) := dk_27 (dk_at dksX7_giveUp_1 21 rfl rfl)
theorem dX7_giveUp_44 : decode cX7_giveUp 44 = .ok (.iload_n 3, 1) := dk_29 (dk_at dksX7_giveUp_1 22 rfl rfl)
theorem dX7_giveUp_45 : decode cX7_giveUp 45 = .ok (.invokestatic 150, 3) := dk_184 0 150 (dk_at dksX7_giveUp_2 0 rfl rfl)
theorem dX7_giveUp_48 : decode cX7_giveUp 48 = .ok (.iconst 2, 1) := dk_5 (dk_at dksX7_giveUp_2 3 rfl rfl)
theorem dX7_giveUp_49 : decode cX7_giveUp 49 = .ok (.iadd, 1) := dk_96 (dk_at dksX7_giveUp_2 4 rfl rfl)
theorem dX7_giveUp_50 : decode cX7_giveUp 50 = .ok (.iaload, 1) := dk_46 (dk_at dksX7_giveUp_2 5 rfl rfl)
theorem dX7_giveUp_51 : decode cX7_giveUp 51 = .ok (.iconst 2, 1) := dk_5 (dk_at dksX7_giveUp_2 6 rfl rfl)
theorem dX7_giveUp_52 : decode cX7_giveUp 52 = .ok (.invokevirtual 154, 3) := dk_182 0 154 (dk_at dksX7_giveUp_2 7 rfl rfl)
theorem dX7_giveUp_55 : decode cX7_giveUp 55 = .ok (.iinc 3 1, 3) := dk_132 3 1 (dk_at dksX7_giveUp_2 10 rfl rfl)
theorem dX7_giveUp_58 : decode cX7_giveUp 58 = .ok (.goto (-56), 3) := dk_167 255 200 (dk_at dksX7_giveUp_2 13 rfl rfl)
theorem dX7_giveUp_61 : decode cX7_giveUp 61 = .ok (.aload_n 0, 1) := dk_42 (dk_at dksX7_giveUp_2 16 rfl rfl)
theorem dX7_giveUp_62 : decode cX7_giveUp 62 = .ok (.iload_n 1, 1) := dk_27 (dk_at dksX7_giveUp_2 17 rfl rfl)
theorem dX7_giveUp_63 : decode cX7_giveUp 63 = .ok (.iload_n 3, 1) := dk_29 (dk_at dksX7_giveUp_2 18 rfl rfl)
theorem dX7_giveUp_64 : decode cX7_giveUp 64 = .ok (.invokevirtual 158, 3) := dk_182 0 158 (dk_at dksX7_giveUp_2 19 rfl rfl)
theorem dX7_giveUp_67 : decode cX7_giveUp 67 = .ok (.return_, 1) := dk_177 (dk_at dksX7_giveUp_2 22 rfl rfl)
abbrev cX7_riderAt : ByteArray := prog_13_method_11_code
def yX7_riderAt : MethodName := ⟨RX7, "riderAt", "(II)I"⟩
def dkwX7_riderAt_0 : List UInt8 := [17, 0, 242, 16, 120, 26, 104, 96, 6, 27, 104, 96, 172]
abbrev dktX7_riderAt_0 : List UInt8 := dkwX7_riderAt_0 ++ []
theorem dksX7_riderAt_0 : cX7_riderAt.data.toList.drop 0 = dktX7_riderAt_0 := by decide +kernel
theorem dX7_riderAt_0 : decode cX7_riderAt 0 = .ok (.sipush 242, 3) := dk_17 0 242 (dk_at dksX7_riderAt_0 0 rfl rfl)
theorem dX7_riderAt_3 : decode cX7_riderAt 3 = .ok (.bipush 120, 2) := dk_16 120 (dk_at dksX7_riderAt_0 3 rfl rfl)
theorem dX7_riderAt_5 : decode cX7_riderAt 5 = .ok (.iload_n 0, 1) := dk_26 (dk_at dksX7_riderAt_0 5 rfl rfl)
theorem dX7_riderAt_6 : decode cX7_riderAt 6 = .ok (.imul, 1) := dk_104 (dk_at dksX7_riderAt_0 6 rfl rfl)
theorem dX7_riderAt_7 : decode cX7_riderAt 7 = .ok (.iadd, 1) := dk_96 (dk_at dksX7_riderAt_0 7 rfl rfl)
theorem dX7_riderAt_8 : decode cX7_riderAt 8 = .ok (.iconst 3, 1) := dk_6 (dk_at dksX7_riderAt_0 8 rfl rfl)
theorem dX7_riderAt_9 : decode cX7_riderAt 9 = .ok (.iload_n 1, 1) := dk_27 (dk_at dksX7_riderAt_0 9 rfl rfl)
theorem dX7_riderAt_10 : decode cX7_riderAt 10 = .ok (.imul, 1) := dk_104 (dk_at dksX7_riderAt_0 10 rfl rfl)
theorem dX7_riderAt_11 : decode cX7_riderAt 11 = .ok (.iadd, 1) := dk_96 (dk_at dksX7_riderAt_0 11 rfl rfl)
theorem dX7_riderAt_12 : decode cX7_riderAt 12 = .ok (.ireturn, 1) := dk_172 (dk_at dksX7_riderAt_0 12 rfl rfl)
abbrev cX7_counts : ByteArray := prog_13_method_6_code
def yX7_counts : MethodName := ⟨RX7, "counts", "(II)V"⟩
def dkwX7_counts_0 : List UInt8 := [42, 180, 0, 51, 16, 79, 8, 27, 104, 96, 28, 96, 92, 46, 4, 96, 79, 177]
abbrev dktX7_counts_0 : List UInt8 := dkwX7_counts_0 ++ []
theorem dksX7_counts_0 : cX7_counts.data.toList.drop 0 = dktX7_counts_0 := by decide +kernel
theorem dX7_counts_0 : decode cX7_counts 0 = .ok (.aload_n 0, 1) := dk_42 (dk_at dksX7_counts_0 0 rfl rfl)
theorem dX7_counts_1 : decode cX7_counts 1 = .ok (.getfield 51, 3) := dk_180 0 51 (dk_at dksX7_counts_0 1 rfl rfl)
theorem dX7_counts_4 : decode cX7_counts 4 = .ok (.bipush 79, 2) := dk_16 79 (dk_at dksX7_counts_0 4 rfl rfl)
theorem dX7_counts_6 : decode cX7_counts 6 = .ok (.iconst 5, 1) := dk_8 (dk_at dksX7_counts_0 6 rfl rfl)
theorem dX7_counts_7 : decode cX7_counts 7 = .ok (.iload_n 1, 1) := dk_27 (dk_at dksX7_counts_0 7 rfl rfl)
theorem dX7_counts_8 : decode cX7_counts 8 = .ok (.imul, 1) := dk_104 (dk_at dksX7_counts_0 8 rfl rfl)
theorem dX7_counts_9 : decode cX7_counts 9 = .ok (.iadd, 1) := dk_96 (dk_at dksX7_counts_0 9 rfl rfl)
theorem dX7_counts_10 : decode cX7_counts 10 = .ok (.iload_n 2, 1) := dk_28 (dk_at dksX7_counts_0 10 rfl rfl)
theorem dX7_counts_11 : decode cX7_counts 11 = .ok (.iadd, 1) := dk_96 (dk_at dksX7_counts_0 11 rfl rfl)
theorem dX7_counts_12 : decode cX7_counts 12 = .ok (.dup2, 1) := dk_92 (dk_at dksX7_counts_0 12 rfl rfl)
theorem dX7_counts_13 : decode cX7_counts 13 = .ok (.iaload, 1) := dk_46 (dk_at dksX7_counts_0 13 rfl rfl)
theorem dX7_counts_14 : decode cX7_counts 14 = .ok (.iconst 1, 1) := dk_4 (dk_at dksX7_counts_0 14 rfl rfl)
theorem dX7_counts_15 : decode cX7_counts 15 = .ok (.iadd, 1) := dk_96 (dk_at dksX7_counts_0 15 rfl rfl)
theorem dX7_counts_16 : decode cX7_counts 16 = .ok (.iastore, 1) := dk_79 (dk_at dksX7_counts_0 16 rfl rfl)
theorem dX7_counts_17 : decode cX7_counts 17 = .ok (.return_, 1) := dk_177 (dk_at dksX7_counts_0 17 rfl rfl)
abbrev cX7_shifts : ByteArray := prog_13_method_12_code
def yX7_shifts : MethodName := ⟨RX7, "shifts", "(II)V"⟩
def dkwX7_shifts_2 : List UInt8 := [6, 28, 104, 96, 46, 79, 132, 3, 1, 167, 255, 220, 177]
abbrev dktX7_shifts_2 : List UInt8 := dkwX7_shifts_2 ++ []
def dkwX7_shifts_1 : List UInt8 := [180, 0, 51, 16, 23, 27, 96, 46, 184, 0, 150, 162, 0, 25, 42, 180, 0, 51, 29, 42, 180, 0, 51, 29]
abbrev dktX7_shifts_1 : List UInt8 := dkwX7_shifts_1 ++ dktX7_shifts_2
def dkwX7_shifts_0 : List UInt8 := [42, 180, 0, 51, 16, 23, 27, 96, 92, 46, 28, 100, 79, 27, 3, 184, 0, 150, 62, 29, 27, 42]
abbrev dktX7_shifts_0 : List UInt8 := dkwX7_shifts_0 ++ dktX7_shifts_1
theorem dksX7_shifts_0 : cX7_shifts.data.toList.drop 0 = dktX7_shifts_0 := by decide +kernel
theorem dksX7_shifts_1 : cX7_shifts.data.toList.drop 22 = dktX7_shifts_1 := dk_seg dksX7_shifts_0 22 rfl rfl
theorem dksX7_shifts_2 : cX7_shifts.data.toList.drop 46 = dktX7_shifts_2 := dk_seg dksX7_shifts_1 24 rfl rfl
theorem dX7_shifts_0 : decode cX7_shifts 0 = .ok (.aload_n 0, 1) := dk_42 (dk_at dksX7_shifts_0 0 rfl rfl)
theorem dX7_shifts_1 : decode cX7_shifts 1 = .ok (.getfield 51, 3) := dk_180 0 51 (dk_at dksX7_shifts_0 1 rfl rfl)
theorem dX7_shifts_4 : decode cX7_shifts 4 = .ok (.bipush 23, 2) := dk_16 23 (dk_at dksX7_shifts_0 4 rfl rfl)
theorem dX7_shifts_6 : decode cX7_shifts 6 = .ok (.iload_n 1, 1) := dk_27 (dk_at dksX7_shifts_0 6 rfl rfl)
theorem dX7_shifts_7 : decode cX7_shifts 7 = .ok (.iadd, 1) := dk_96 (dk_at dksX7_shifts_0 7 rfl rfl)
theorem dX7_shifts_8 : decode cX7_shifts 8 = .ok (.dup2, 1) := dk_92 (dk_at dksX7_shifts_0 8 rfl rfl)
theorem dX7_shifts_9 : decode cX7_shifts 9 = .ok (.iaload, 1) := dk_46 (dk_at dksX7_shifts_0 9 rfl rfl)
theorem dX7_shifts_10 : decode cX7_shifts 10 = .ok (.iload_n 2, 1) := dk_28 (dk_at dksX7_shifts_0 10 rfl rfl)
theorem dX7_shifts_11 : decode cX7_shifts 11 = .ok (.isub, 1) := dk_100 (dk_at dksX7_shifts_0 11 rfl rfl)
theorem dX7_shifts_12 : decode cX7_shifts 12 = .ok (.iastore, 1) := dk_79 (dk_at dksX7_shifts_0 12 rfl rfl)
theorem dX7_shifts_13 : decode cX7_shifts 13 = .ok (.iload_n 1, 1) := dk_27 (dk_at dksX7_shifts_0 13 rfl rfl)
theorem dX7_shifts_14 : decode cX7_shifts 14 = .ok (.iconst 0, 1) := dk_3 (dk_at dksX7_shifts_0 14 rfl rfl)
theorem dX7_shifts_15 : decode cX7_shifts 15 = .ok (.invokestatic 150, 3) := dk_184 0 150 (dk_at dksX7_shifts_0 15 rfl rfl)
theorem dX7_shifts_18 : decode cX7_shifts 18 = .ok (.istore_n 3, 1) := dk_62 (dk_at dksX7_shifts_0 18 rfl rfl)
theorem dX7_shifts_19 : decode cX7_shifts 19 = .ok (.iload_n 3, 1) := dk_29 (dk_at dksX7_shifts_0 19 rfl rfl)
theorem dX7_shifts_20 : decode cX7_shifts 20 = .ok (.iload_n 1, 1) := dk_27 (dk_at dksX7_shifts_0 20 rfl rfl)
theorem dX7_shifts_21 : decode cX7_shifts 21 = .ok (.aload_n 0, 1) := dk_42 (dk_at dksX7_shifts_0 21 rfl rfl)
theorem dX7_shifts_22 : decode cX7_shifts 22 = .ok (.getfield 51, 3) := dk_180 0 51 (dk_at dksX7_shifts_1 0 rfl rfl)
theorem dX7_shifts_25 : decode cX7_shifts 25 = .ok (.bipush 23, 2) := dk_16 23 (dk_at dksX7_shifts_1 3 rfl rfl)
theorem dX7_shifts_27 : decode cX7_shifts 27 = .ok (.iload_n 1, 1) := dk_27 (dk_at dksX7_shifts_1 5 rfl rfl)
theorem dX7_shifts_28 : decode cX7_shifts 28 = .ok (.iadd, 1) := dk_96 (dk_at dksX7_shifts_1 6 rfl rfl)
theorem dX7_shifts_29 : decode cX7_shifts 29 = .ok (.iaload, 1) := dk_46 (dk_at dksX7_shifts_1 7 rfl rfl)
theorem dX7_shifts_30 : decode cX7_shifts 30 = .ok (.invokestatic 150, 3) := dk_184 0 150 (dk_at dksX7_shifts_1 8 rfl rfl)
theorem dX7_shifts_33 : decode cX7_shifts 33 = .ok (.if_icmp .ge 25, 3) := dk_162 0 25 (dk_at dksX7_shifts_1 11 rfl rfl)
theorem dX7_shifts_36 : decode cX7_shifts 36 = .ok (.aload_n 0, 1) := dk_42 (dk_at dksX7_shifts_1 14 rfl rfl)
theorem dX7_shifts_37 : decode cX7_shifts 37 = .ok (.getfield 51, 3) := dk_180 0 51 (dk_at dksX7_shifts_1 15 rfl rfl)
theorem dX7_shifts_40 : decode cX7_shifts 40 = .ok (.iload_n 3, 1) := dk_29 (dk_at dksX7_shifts_1 18 rfl rfl)
theorem dX7_shifts_41 : decode cX7_shifts 41 = .ok (.aload_n 0, 1) := dk_42 (dk_at dksX7_shifts_1 19 rfl rfl)
theorem dX7_shifts_42 : decode cX7_shifts 42 = .ok (.getfield 51, 3) := dk_180 0 51 (dk_at dksX7_shifts_1 20 rfl rfl)
theorem dX7_shifts_45 : decode cX7_shifts 45 = .ok (.iload_n 3, 1) := dk_29 (dk_at dksX7_shifts_1 23 rfl rfl)
theorem dX7_shifts_46 : decode cX7_shifts 46 = .ok (.iconst 3, 1) := dk_6 (dk_at dksX7_shifts_2 0 rfl rfl)
theorem dX7_shifts_47 : decode cX7_shifts 47 = .ok (.iload_n 2, 1) := dk_28 (dk_at dksX7_shifts_2 1 rfl rfl)
theorem dX7_shifts_48 : decode cX7_shifts 48 = .ok (.imul, 1) := dk_104 (dk_at dksX7_shifts_2 2 rfl rfl)
theorem dX7_shifts_49 : decode cX7_shifts 49 = .ok (.iadd, 1) := dk_96 (dk_at dksX7_shifts_2 3 rfl rfl)
theorem dX7_shifts_50 : decode cX7_shifts 50 = .ok (.iaload, 1) := dk_46 (dk_at dksX7_shifts_2 4 rfl rfl)
theorem dX7_shifts_51 : decode cX7_shifts 51 = .ok (.iastore, 1) := dk_79 (dk_at dksX7_shifts_2 5 rfl rfl)
theorem dX7_shifts_52 : decode cX7_shifts 52 = .ok (.iinc 3 1, 3) := dk_132 3 1 (dk_at dksX7_shifts_2 6 rfl rfl)
theorem dX7_shifts_55 : decode cX7_shifts 55 = .ok (.goto (-36), 3) := dk_167 255 220 (dk_at dksX7_shifts_2 9 rfl rfl)
theorem dX7_shifts_58 : decode cX7_shifts 58 = .ok (.return_, 1) := dk_177 (dk_at dksX7_shifts_2 12 rfl rfl)
abbrev cX7_pass : ByteArray := prog_13_method_68_code
def yX7_pass : MethodName := ⟨RX7, "pass", "(I)I"⟩
def dkwX7_pass_1 : List UInt8 := [46, 27, 96, 182, 1, 148, 172]
abbrev dktX7_pass_1 : List UInt8 := dkwX7_pass_1 ++ []
def dkwX7_pass_0 : List UInt8 := [27, 133, 10, 20, 1, 129, 184, 0, 146, 154, 0, 5, 2, 172, 42, 182, 1, 118, 42, 42, 180, 0, 51, 3]
abbrev dktX7_pass_0 : List UInt8 := dkwX7_pass_0 ++ dktX7_pass_1
theorem dksX7_pass_0 : cX7_pass.data.toList.drop 0 = dktX7_pass_0 := by decide +kernel
theorem dksX7_pass_1 : cX7_pass.data.toList.drop 24 = dktX7_pass_1 := dk_seg dksX7_pass_0 24 rfl rfl
theorem dX7_pass_0 : decode cX7_pass 0 = .ok (.iload_n 1, 1) := dk_27 (dk_at dksX7_pass_0 0 rfl rfl)
theorem dX7_pass_1 : decode cX7_pass 1 = .ok (.i2l, 1) := dk_133 (dk_at dksX7_pass_0 1 rfl rfl)
theorem dX7_pass_2 : decode cX7_pass 2 = .ok (.lconst 1, 1) := dk_10 (dk_at dksX7_pass_0 2 rfl rfl)
theorem dX7_pass_3 : decode cX7_pass 3 = .ok (.ldc2_w 385, 3) := dk_20 1 129 (dk_at dksX7_pass_0 3 rfl rfl)
theorem dX7_pass_6 : decode cX7_pass 6 = .ok (.invokestatic 146, 3) := dk_184 0 146 (dk_at dksX7_pass_0 6 rfl rfl)
theorem dX7_pass_9 : decode cX7_pass 9 = .ok (.ifCond .ne 5, 3) := dk_154 0 5 (dk_at dksX7_pass_0 9 rfl rfl)
theorem dX7_pass_12 : decode cX7_pass 12 = .ok (.iconst (-1), 1) := dk_2 (dk_at dksX7_pass_0 12 rfl rfl)
theorem dX7_pass_13 : decode cX7_pass 13 = .ok (.ireturn, 1) := dk_172 (dk_at dksX7_pass_0 13 rfl rfl)
theorem dX7_pass_14 : decode cX7_pass 14 = .ok (.aload_n 0, 1) := dk_42 (dk_at dksX7_pass_0 14 rfl rfl)
theorem dX7_pass_15 : decode cX7_pass 15 = .ok (.invokevirtual 374, 3) := dk_182 1 118 (dk_at dksX7_pass_0 15 rfl rfl)
theorem dX7_pass_18 : decode cX7_pass 18 = .ok (.aload_n 0, 1) := dk_42 (dk_at dksX7_pass_0 18 rfl rfl)
theorem dX7_pass_19 : decode cX7_pass 19 = .ok (.aload_n 0, 1) := dk_42 (dk_at dksX7_pass_0 19 rfl rfl)
theorem dX7_pass_20 : decode cX7_pass 20 = .ok (.getfield 51, 3) := dk_180 0 51 (dk_at dksX7_pass_0 20 rfl rfl)
theorem dX7_pass_23 : decode cX7_pass 23 = .ok (.iconst 0, 1) := dk_3 (dk_at dksX7_pass_0 23 rfl rfl)
theorem dX7_pass_24 : decode cX7_pass 24 = .ok (.iaload, 1) := dk_46 (dk_at dksX7_pass_1 0 rfl rfl)
theorem dX7_pass_25 : decode cX7_pass 25 = .ok (.iload_n 1, 1) := dk_27 (dk_at dksX7_pass_1 1 rfl rfl)
theorem dX7_pass_26 : decode cX7_pass 26 = .ok (.iadd, 1) := dk_96 (dk_at dksX7_pass_1 2 rfl rfl)
theorem dX7_pass_27 : decode cX7_pass 27 = .ok (.invokevirtual 404, 3) := dk_182 1 148 (dk_at dksX7_pass_1 3 rfl rfl)
theorem dX7_pass_30 : decode cX7_pass 30 = .ok (.ireturn, 1) := dk_172 (dk_at dksX7_pass_1 6 rfl rfl)
abbrev cX7_passesTo : ByteArray := prog_13_method_35_code
def yX7_passesTo : MethodName := ⟨RX7, "passesTo", "(I)I"⟩
def dkwX7_passesTo_2 : List UInt8 := [182, 0, 195, 132, 3, 1, 167, 255, 239, 42, 180, 0, 51, 3, 27, 79, 42, 180, 0, 207, 172]
abbrev dktX7_passesTo_2 : List UInt8 := dkwX7_passesTo_2 ++ []
def dkwX7_passesTo_1 : List UInt8 := [182, 0, 237, 42, 182, 0, 233, 61, 167, 255, 236, 3, 62, 29, 42, 180, 0, 113, 162, 0, 15, 42, 29, 27]
abbrev dktX7_passesTo_1 : List UInt8 := dkwX7_passesTo_1 ++ dktX7_passesTo_2
def dkwX7_passesTo_0 : List UInt8 := [42, 3, 181, 0, 207, 42, 182, 0, 233, 61, 42, 28, 5, 182, 0, 171, 27, 163, 0, 16, 42, 28]
abbrev dktX7_passesTo_0 : List UInt8 := dkwX7_passesTo_0 ++ dktX7_passesTo_1
theorem dksX7_passesTo_0 : cX7_passesTo.data.toList.drop 0 = dktX7_passesTo_0 := by decide +kernel
theorem dksX7_passesTo_1 : cX7_passesTo.data.toList.drop 22 = dktX7_passesTo_1 := dk_seg dksX7_passesTo_0 22 rfl rfl
theorem dksX7_passesTo_2 : cX7_passesTo.data.toList.drop 46 = dktX7_passesTo_2 := dk_seg dksX7_passesTo_1 24 rfl rfl
theorem dX7_passesTo_0 : decode cX7_passesTo 0 = .ok (.aload_n 0, 1) := dk_42 (dk_at dksX7_passesTo_0 0 rfl rfl)
theorem dX7_passesTo_1 : decode cX7_passesTo 1 = .ok (.iconst 0, 1) := dk_3 (dk_at dksX7_passesTo_0 1 rfl rfl)
theorem dX7_passesTo_2 : decode cX7_passesTo 2 = .ok (.putfield 207, 3) := dk_181 0 207 (dk_at dksX7_passesTo_0 2 rfl rfl)
theorem dX7_passesTo_5 : decode cX7_passesTo 5 = .ok (.aload_n 0, 1) := dk_42 (dk_at dksX7_passesTo_0 5 rfl rfl)
theorem dX7_passesTo_6 : decode cX7_passesTo 6 = .ok (.invokevirtual 233, 3) := dk_182 0 233 (dk_at dksX7_passesTo_0 6 rfl rfl)
theorem dX7_passesTo_9 : decode cX7_passesTo 9 = .ok (.istore_n 2, 1) := dk_61 (dk_at dksX7_passesTo_0 9 rfl rfl)
theorem dX7_passesTo_10 : decode cX7_passesTo 10 = .ok (.aload_n 0, 1) := dk_42 (dk_at dksX7_passesTo_0 10 rfl rfl)
theorem dX7_passesTo_11 : decode cX7_passesTo 11 = .ok (.iload_n 2, 1) := dk_28 (dk_at dksX7_passesTo_0 11 rfl rfl)
theorem dX7_passesTo_12 : decode cX7_passesTo 12 = .ok (.iconst 2, 1) := dk_5 (dk_at dksX7_passesTo_0 12 rfl rfl)
theorem dX7_passesTo_13 : decode cX7_passesTo 13 = .ok (.invokevirtual 171, 3) := dk_182 0 171 (dk_at dksX7_passesTo_0 13 rfl rfl)
theorem dX7_passesTo_16 : decode cX7_passesTo 16 = .ok (.iload_n 1, 1) := dk_27 (dk_at dksX7_passesTo_0 16 rfl rfl)
theorem dX7_passesTo_17 : decode cX7_passesTo 17 = .ok (.if_icmp .gt 16, 3) := dk_163 0 16 (dk_at dksX7_passesTo_0 17 rfl rfl)
theorem dX7_passesTo_20 : decode cX7_passesTo 20 = .ok (.aload_n 0, 1) := dk_42 (dk_at dksX7_passesTo_0 20 rfl rfl)
theorem dX7_passesTo_21 : decode cX7_passesTo 21 = .ok (.iload_n 2, 1) := dk_28 (dk_at dksX7_passesTo_0 21 rfl rfl)
theorem dX7_passesTo_22 : decode cX7_passesTo 22 = .ok (.invokevirtual 237, 3) := dk_182 0 237 (dk_at dksX7_passesTo_1 0 rfl rfl)
theorem dX7_passesTo_25 : decode cX7_passesTo 25 = .ok (.aload_n 0, 1) := dk_42 (dk_at dksX7_passesTo_1 3 rfl rfl)
theorem dX7_passesTo_26 : decode cX7_passesTo 26 = .ok (.invokevirtual 233, 3) := dk_182 0 233 (dk_at dksX7_passesTo_1 4 rfl rfl)
theorem dX7_passesTo_29 : decode cX7_passesTo 29 = .ok (.istore_n 2, 1) := dk_61 (dk_at dksX7_passesTo_1 7 rfl rfl)
theorem dX7_passesTo_30 : decode cX7_passesTo 30 = .ok (.goto (-20), 3) := dk_167 255 236 (dk_at dksX7_passesTo_1 8 rfl rfl)
theorem dX7_passesTo_33 : decode cX7_passesTo 33 = .ok (.iconst 0, 1) := dk_3 (dk_at dksX7_passesTo_1 11 rfl rfl)
theorem dX7_passesTo_34 : decode cX7_passesTo 34 = .ok (.istore_n 3, 1) := dk_62 (dk_at dksX7_passesTo_1 12 rfl rfl)
theorem dX7_passesTo_35 : decode cX7_passesTo 35 = .ok (.iload_n 3, 1) := dk_29 (dk_at dksX7_passesTo_1 13 rfl rfl)
theorem dX7_passesTo_36 : decode cX7_passesTo 36 = .ok (.aload_n 0, 1) := dk_42 (dk_at dksX7_passesTo_1 14 rfl rfl)
theorem dX7_passesTo_37 : decode cX7_passesTo 37 = .ok (.getfield 113, 3) := dk_180 0 113 (dk_at dksX7_passesTo_1 15 rfl rfl)
theorem dX7_passesTo_40 : decode cX7_passesTo 40 = .ok (.if_icmp .ge 15, 3) := dk_162 0 15 (dk_at dksX7_passesTo_1 18 rfl rfl)
theorem dX7_passesTo_43 : decode cX7_passesTo 43 = .ok (.aload_n 0, 1) := dk_42 (dk_at dksX7_passesTo_1 21 rfl rfl)
theorem dX7_passesTo_44 : decode cX7_passesTo 44 = .ok (.iload_n 3, 1) := dk_29 (dk_at dksX7_passesTo_1 22 rfl rfl)
theorem dX7_passesTo_45 : decode cX7_passesTo 45 = .ok (.iload_n 1, 1) := dk_27 (dk_at dksX7_passesTo_1 23 rfl rfl)
theorem dX7_passesTo_46 : decode cX7_passesTo 46 = .ok (.invokevirtual 195, 3) := dk_182 0 195 (dk_at dksX7_passesTo_2 0 rfl rfl)
theorem dX7_passesTo_49 : decode cX7_passesTo 49 = .ok (.iinc 3 1, 3) := dk_132 3 1 (dk_at dksX7_passesTo_2 3 rfl rfl)
theorem dX7_passesTo_52 : decode cX7_passesTo 52 = .ok (.goto (-17), 3) := dk_167 255 239 (dk_at dksX7_passesTo_2 6 rfl rfl)
theorem dX7_passesTo_55 : decode cX7_passesTo 55 = .ok (.aload_n 0, 1) := dk_42 (dk_at dksX7_passesTo_2 9 rfl rfl)
theorem dX7_passesTo_56 : decode cX7_passesTo 56 = .ok (.getfield 51, 3) := dk_180 0 51 (dk_at dksX7_passesTo_2 10 rfl rfl)
theorem dX7_passesTo_59 : decode cX7_passesTo 59 = .ok (.iconst 0, 1) := dk_3 (dk_at dksX7_passesTo_2 13 rfl rfl)
theorem dX7_passesTo_60 : decode cX7_passesTo 60 = .ok (.iload_n 1, 1) := dk_27 (dk_at dksX7_passesTo_2 14 rfl rfl)
theorem dX7_passesTo_61 : decode cX7_passesTo 61 = .ok (.iastore, 1) := dk_79 (dk_at dksX7_passesTo_2 15 rfl rfl)
theorem dX7_passesTo_62 : decode cX7_passesTo 62 = .ok (.aload_n 0, 1) := dk_42 (dk_at dksX7_passesTo_2 16 rfl rfl)
theorem dX7_passesTo_63 : decode cX7_passesTo 63 = .ok (.getfield 207, 3) := dk_180 0 207 (dk_at dksX7_passesTo_2 17 rfl rfl)
theorem dX7_passesTo_66 : decode cX7_passesTo 66 = .ok (.ireturn, 1) := dk_172 (dk_at dksX7_passesTo_2 20 rfl rfl)
abbrev cX7_nextBus : ByteArray := prog_13_method_33_code
def yX7_nextBus : MethodName := ⟨RX7, "nextBus", "()I"⟩
def dkwX7_nextBus_1 : List UInt8 := [162, 0, 7, 28, 167, 0, 4, 27, 60, 132, 2, 1, 167, 255, 224, 27, 172]
abbrev dktX7_nextBus_1 : List UInt8 := dkwX7_nextBus_1 ++ []
def dkwX7_nextBus_0 : List UInt8 := [3, 60, 4, 61, 28, 42, 180, 0, 118, 162, 0, 30, 42, 28, 5, 182, 0, 171, 42, 27, 5, 182, 0, 171]
abbrev dktX7_nextBus_0 : List UInt8 := dkwX7_nextBus_0 ++ dktX7_nextBus_1
theorem dksX7_nextBus_0 : cX7_nextBus.data.toList.drop 0 = dktX7_nextBus_0 := by decide +kernel
theorem dksX7_nextBus_1 : cX7_nextBus.data.toList.drop 24 = dktX7_nextBus_1 := dk_seg dksX7_nextBus_0 24 rfl rfl
theorem dX7_nextBus_0 : decode cX7_nextBus 0 = .ok (.iconst 0, 1) := dk_3 (dk_at dksX7_nextBus_0 0 rfl rfl)
theorem dX7_nextBus_1 : decode cX7_nextBus 1 = .ok (.istore_n 1, 1) := dk_60 (dk_at dksX7_nextBus_0 1 rfl rfl)
theorem dX7_nextBus_2 : decode cX7_nextBus 2 = .ok (.iconst 1, 1) := dk_4 (dk_at dksX7_nextBus_0 2 rfl rfl)
theorem dX7_nextBus_3 : decode cX7_nextBus 3 = .ok (.istore_n 2, 1) := dk_61 (dk_at dksX7_nextBus_0 3 rfl rfl)
theorem dX7_nextBus_4 : decode cX7_nextBus 4 = .ok (.iload_n 2, 1) := dk_28 (dk_at dksX7_nextBus_0 4 rfl rfl)
theorem dX7_nextBus_5 : decode cX7_nextBus 5 = .ok (.aload_n 0, 1) := dk_42 (dk_at dksX7_nextBus_0 5 rfl rfl)
theorem dX7_nextBus_6 : decode cX7_nextBus 6 = .ok (.getfield 118, 3) := dk_180 0 118 (dk_at dksX7_nextBus_0 6 rfl rfl)
theorem dX7_nextBus_9 : decode cX7_nextBus 9 = .ok (.if_icmp .ge 30, 3) := dk_162 0 30 (dk_at dksX7_nextBus_0 9 rfl rfl)
theorem dX7_nextBus_12 : decode cX7_nextBus 12 = .ok (.aload_n 0, 1) := dk_42 (dk_at dksX7_nextBus_0 12 rfl rfl)
theorem dX7_nextBus_13 : decode cX7_nextBus 13 = .ok (.iload_n 2, 1) := dk_28 (dk_at dksX7_nextBus_0 13 rfl rfl)
theorem dX7_nextBus_14 : decode cX7_nextBus 14 = .ok (.iconst 2, 1) := dk_5 (dk_at dksX7_nextBus_0 14 rfl rfl)
theorem dX7_nextBus_15 : decode cX7_nextBus 15 = .ok (.invokevirtual 171, 3) := dk_182 0 171 (dk_at dksX7_nextBus_0 15 rfl rfl)
theorem dX7_nextBus_18 : decode cX7_nextBus 18 = .ok (.aload_n 0, 1) := dk_42 (dk_at dksX7_nextBus_0 18 rfl rfl)
theorem dX7_nextBus_19 : decode cX7_nextBus 19 = .ok (.iload_n 1, 1) := dk_27 (dk_at dksX7_nextBus_0 19 rfl rfl)
theorem dX7_nextBus_20 : decode cX7_nextBus 20 = .ok (.iconst 2, 1) := dk_5 (dk_at dksX7_nextBus_0 20 rfl rfl)
theorem dX7_nextBus_21 : decode cX7_nextBus 21 = .ok (.invokevirtual 171, 3) := dk_182 0 171 (dk_at dksX7_nextBus_0 21 rfl rfl)
theorem dX7_nextBus_24 : decode cX7_nextBus 24 = .ok (.if_icmp .ge 7, 3) := dk_162 0 7 (dk_at dksX7_nextBus_1 0 rfl rfl)
theorem dX7_nextBus_27 : decode cX7_nextBus 27 = .ok (.iload_n 2, 1) := dk_28 (dk_at dksX7_nextBus_1 3 rfl rfl)
theorem dX7_nextBus_28 : decode cX7_nextBus 28 = .ok (.goto 4, 3) := dk_167 0 4 (dk_at dksX7_nextBus_1 4 rfl rfl)
theorem dX7_nextBus_31 : decode cX7_nextBus 31 = .ok (.iload_n 1, 1) := dk_27 (dk_at dksX7_nextBus_1 7 rfl rfl)
theorem dX7_nextBus_32 : decode cX7_nextBus 32 = .ok (.istore_n 1, 1) := dk_60 (dk_at dksX7_nextBus_1 8 rfl rfl)
theorem dX7_nextBus_33 : decode cX7_nextBus 33 = .ok (.iinc 2 1, 3) := dk_132 2 1 (dk_at dksX7_nextBus_1 9 rfl rfl)
theorem dX7_nextBus_36 : decode cX7_nextBus 36 = .ok (.goto (-32), 3) := dk_167 255 224 (dk_at dksX7_nextBus_1 12 rfl rfl)
theorem dX7_nextBus_39 : decode cX7_nextBus 39 = .ok (.iload_n 1, 1) := dk_27 (dk_at dksX7_nextBus_1 15 rfl rfl)
theorem dX7_nextBus_40 : decode cX7_nextBus 40 = .ok (.ireturn, 1) := dk_172 (dk_at dksX7_nextBus_1 16 rfl rfl)
abbrev cX7_happens : ByteArray := prog_13_method_34_code
def yX7_happens : MethodName := ⟨RX7, "happens", "(I)V"⟩
def dkwX7_happens_3 : List UInt8 := [177]
abbrev dktX7_happens_3 : List UInt8 := dkwX7_happens_3 ++ []
def dkwX7_happens_2 : List UInt8 := [42, 27, 28, 182, 0, 227, 167, 0, 18, 42, 27, 28, 182, 0, 217, 167, 0, 9, 42, 27, 28, 182, 0, 230]
abbrev dktX7_happens_2 : List UInt8 := dkwX7_happens_2 ++ dktX7_happens_3
def dkwX7_happens_1 : List UInt8 := [171, 0, 0, 0, 0, 0, 45, 0, 0, 0, 2, 0, 0, 0, 2, 0, 0, 0, 27, 0, 0, 0, 3, 0, 0, 0, 36]
abbrev dktX7_happens_1 : List UInt8 := dkwX7_happens_1 ++ dktX7_happens_2
def dkwX7_happens_0 : List UInt8 := [42, 27, 5, 182, 0, 171, 61, 42, 27, 3, 182, 0, 171]
abbrev dktX7_happens_0 : List UInt8 := dkwX7_happens_0 ++ dktX7_happens_1
theorem dksX7_happens_0 : cX7_happens.data.toList.drop 0 = dktX7_happens_0 := by decide +kernel
theorem dksX7_happens_1 : cX7_happens.data.toList.drop 13 = dktX7_happens_1 := dk_seg dksX7_happens_0 13 rfl rfl
theorem dksX7_happens_2 : cX7_happens.data.toList.drop 40 = dktX7_happens_2 := dk_seg dksX7_happens_1 27 rfl rfl
theorem dksX7_happens_3 : cX7_happens.data.toList.drop 64 = dktX7_happens_3 := dk_seg dksX7_happens_2 24 rfl rfl
theorem dX7_happens_0 : decode cX7_happens 0 = .ok (.aload_n 0, 1) := dk_42 (dk_at dksX7_happens_0 0 rfl rfl)
theorem dX7_happens_1 : decode cX7_happens 1 = .ok (.iload_n 1, 1) := dk_27 (dk_at dksX7_happens_0 1 rfl rfl)
theorem dX7_happens_2 : decode cX7_happens 2 = .ok (.iconst 2, 1) := dk_5 (dk_at dksX7_happens_0 2 rfl rfl)
theorem dX7_happens_3 : decode cX7_happens 3 = .ok (.invokevirtual 171, 3) := dk_182 0 171 (dk_at dksX7_happens_0 3 rfl rfl)
theorem dX7_happens_6 : decode cX7_happens 6 = .ok (.istore_n 2, 1) := dk_61 (dk_at dksX7_happens_0 6 rfl rfl)
theorem dX7_happens_7 : decode cX7_happens 7 = .ok (.aload_n 0, 1) := dk_42 (dk_at dksX7_happens_0 7 rfl rfl)
theorem dX7_happens_8 : decode cX7_happens 8 = .ok (.iload_n 1, 1) := dk_27 (dk_at dksX7_happens_0 8 rfl rfl)
theorem dX7_happens_9 : decode cX7_happens 9 = .ok (.iconst 0, 1) := dk_3 (dk_at dksX7_happens_0 9 rfl rfl)
theorem dX7_happens_10 : decode cX7_happens 10 = .ok (.invokevirtual 171, 3) := dk_182 0 171 (dk_at dksX7_happens_0 10 rfl rfl)
theorem dX7_happens_13 : decode cX7_happens 13 = .ok (.lookupswitch 45 #[(2, 27), (3, 36)], 27) := by decide +kernel
theorem dX7_happens_40 : decode cX7_happens 40 = .ok (.aload_n 0, 1) := dk_42 (dk_at dksX7_happens_2 0 rfl rfl)
theorem dX7_happens_41 : decode cX7_happens 41 = .ok (.iload_n 1, 1) := dk_27 (dk_at dksX7_happens_2 1 rfl rfl)
theorem dX7_happens_42 : decode cX7_happens 42 = .ok (.iload_n 2, 1) := dk_28 (dk_at dksX7_happens_2 2 rfl rfl)
theorem dX7_happens_43 : decode cX7_happens 43 = .ok (.invokevirtual 227, 3) := dk_182 0 227 (dk_at dksX7_happens_2 3 rfl rfl)
theorem dX7_happens_46 : decode cX7_happens 46 = .ok (.goto 18, 3) := dk_167 0 18 (dk_at dksX7_happens_2 6 rfl rfl)
theorem dX7_happens_49 : decode cX7_happens 49 = .ok (.aload_n 0, 1) := dk_42 (dk_at dksX7_happens_2 9 rfl rfl)
theorem dX7_happens_50 : decode cX7_happens 50 = .ok (.iload_n 1, 1) := dk_27 (dk_at dksX7_happens_2 10 rfl rfl)
theorem dX7_happens_51 : decode cX7_happens 51 = .ok (.iload_n 2, 1) := dk_28 (dk_at dksX7_happens_2 11 rfl rfl)
theorem dX7_happens_52 : decode cX7_happens 52 = .ok (.invokevirtual 217, 3) := dk_182 0 217 (dk_at dksX7_happens_2 12 rfl rfl)
theorem dX7_happens_55 : decode cX7_happens 55 = .ok (.goto 9, 3) := dk_167 0 9 (dk_at dksX7_happens_2 15 rfl rfl)
theorem dX7_happens_58 : decode cX7_happens 58 = .ok (.aload_n 0, 1) := dk_42 (dk_at dksX7_happens_2 18 rfl rfl)
theorem dX7_happens_59 : decode cX7_happens 59 = .ok (.iload_n 1, 1) := dk_27 (dk_at dksX7_happens_2 19 rfl rfl)
theorem dX7_happens_60 : decode cX7_happens 60 = .ok (.iload_n 2, 1) := dk_28 (dk_at dksX7_happens_2 20 rfl rfl)
theorem dX7_happens_61 : decode cX7_happens 61 = .ok (.invokevirtual 230, 3) := dk_182 0 230 (dk_at dksX7_happens_2 21 rfl rfl)
theorem dX7_happens_64 : decode cX7_happens 64 = .ok (.return_, 1) := dk_177 (dk_at dksX7_happens_3 0 rfl rfl)
abbrev cX7_isReady : ByteArray := prog_13_method_29_code
def yX7_isReady : MethodName := ⟨RX7, "isReady", "(II)V"⟩
def dkwX7_isReady_6 : List UInt8 := [96, 182, 0, 139, 42, 28, 5, 27, 29, 21, 4, 182, 0, 210, 177]
abbrev dktX7_isReady_6 : List UInt8 := dkwX7_isReady_6 ++ []
def dkwX7_isReady_5 : List UInt8 := [180, 0, 51, 16, 9, 92, 46, 21, 4, 96, 79, 42, 27, 3, 6, 182, 0, 139, 42, 27, 5, 28, 21, 4]
abbrev dktX7_isReady_5 : List UInt8 := dkwX7_isReady_5 ++ dktX7_isReady_6
def dkwX7_isReady_4 : List UInt8 := [21, 4, 154, 0, 10, 42, 27, 28, 182, 0, 217, 177, 42, 180, 0, 51, 16, 8, 92, 46, 4, 96, 79, 42]
abbrev dktX7_isReady_4 : List UInt8 := dkwX7_isReady_4 ++ dktX7_isReady_5
def dkwX7_isReady_3 : List UInt8 := [180, 0, 51, 4, 46, 28, 182, 0, 191, 21, 4, 164, 0, 8, 16, 10, 167, 0, 4, 3, 96, 182, 0, 139]
abbrev dktX7_isReady_3 : List UInt8 := dkwX7_isReady_3 ++ dktX7_isReady_4
def dkwX7_isReady_2 : List UInt8 := [42, 27, 16, 7, 21, 4, 154, 0, 7, 3, 167, 0, 33, 42, 180, 0, 51, 4, 46, 42, 27, 42]
abbrev dktX7_isReady_2 : List UInt8 := dkwX7_isReady_2 ++ dktX7_isReady_3
def dkwX7_isReady_1 : List UInt8 := [180, 0, 51, 4, 46, 28, 182, 0, 214, 167, 0, 4, 3, 54, 4, 42, 27, 16, 6, 21, 4, 182, 0, 139]
abbrev dktX7_isReady_1 : List UInt8 := dkwX7_isReady_1 ++ dktX7_isReady_2
def dkwX7_isReady_0 : List UInt8 := [42, 27, 4, 182, 0, 171, 62, 42, 180, 0, 51, 16, 13, 29, 96, 46, 4, 160, 0, 18, 42, 27, 42]
abbrev dktX7_isReady_0 : List UInt8 := dkwX7_isReady_0 ++ dktX7_isReady_1
theorem dksX7_isReady_0 : cX7_isReady.data.toList.drop 0 = dktX7_isReady_0 := by decide +kernel
theorem dksX7_isReady_1 : cX7_isReady.data.toList.drop 23 = dktX7_isReady_1 := dk_seg dksX7_isReady_0 23 rfl rfl
theorem dksX7_isReady_2 : cX7_isReady.data.toList.drop 47 = dktX7_isReady_2 := dk_seg dksX7_isReady_1 24 rfl rfl
theorem dksX7_isReady_3 : cX7_isReady.data.toList.drop 69 = dktX7_isReady_3 := dk_seg dksX7_isReady_2 22 rfl rfl
theorem dksX7_isReady_4 : cX7_isReady.data.toList.drop 93 = dktX7_isReady_4 := dk_seg dksX7_isReady_3 24 rfl rfl
theorem dksX7_isReady_5 : cX7_isReady.data.toList.drop 117 = dktX7_isReady_5 := dk_seg dksX7_isReady_4 24 rfl rfl
theorem dksX7_isReady_6 : cX7_isReady.data.toList.drop 141 = dktX7_isReady_6 := dk_seg dksX7_isReady_5 24 rfl rfl
theorem dX7_isReady_0 : decode cX7_isReady 0 = .ok (.aload_n 0, 1) := dk_42 (dk_at dksX7_isReady_0 0 rfl rfl)
theorem dX7_isReady_1 : decode cX7_isReady 1 = .ok (.iload_n 1, 1) := dk_27 (dk_at dksX7_isReady_0 1 rfl rfl)
theorem dX7_isReady_2 : decode cX7_isReady 2 = .ok (.iconst 1, 1) := dk_4 (dk_at dksX7_isReady_0 2 rfl rfl)
theorem dX7_isReady_3 : decode cX7_isReady 3 = .ok (.invokevirtual 171, 3) := dk_182 0 171 (dk_at dksX7_isReady_0 3 rfl rfl)
theorem dX7_isReady_6 : decode cX7_isReady 6 = .ok (.istore_n 3, 1) := dk_62 (dk_at dksX7_isReady_0 6 rfl rfl)
theorem dX7_isReady_7 : decode cX7_isReady 7 = .ok (.aload_n 0, 1) := dk_42 (dk_at dksX7_isReady_0 7 rfl rfl)
theorem dX7_isReady_8 : decode cX7_isReady 8 = .ok (.getfield 51, 3) := dk_180 0 51 (dk_at dksX7_isReady_0 8 rfl rfl)
theorem dX7_isReady_11 : decode cX7_isReady 11 = .ok (.bipush 13, 2) := dk_16 13 (dk_at dksX7_isReady_0 11 rfl rfl)
theorem dX7_isReady_13 : decode cX7_isReady 13 = .ok (.iload_n 3, 1) := dk_29 (dk_at dksX7_isReady_0 13 rfl rfl)
theorem dX7_isReady_14 : decode cX7_isReady 14 = .ok (.iadd, 1) := dk_96 (dk_at dksX7_isReady_0 14 rfl rfl)
theorem dX7_isReady_15 : decode cX7_isReady 15 = .ok (.iaload, 1) := dk_46 (dk_at dksX7_isReady_0 15 rfl rfl)
theorem dX7_isReady_16 : decode cX7_isReady 16 = .ok (.iconst 1, 1) := dk_4 (dk_at dksX7_isReady_0 16 rfl rfl)
theorem dX7_isReady_17 : decode cX7_isReady 17 = .ok (.if_icmp .ne 18, 3) := dk_160 0 18 (dk_at dksX7_isReady_0 17 rfl rfl)
theorem dX7_isReady_20 : decode cX7_isReady 20 = .ok (.aload_n 0, 1) := dk_42 (dk_at dksX7_isReady_0 20 rfl rfl)
theorem dX7_isReady_21 : decode cX7_isReady 21 = .ok (.iload_n 1, 1) := dk_27 (dk_at dksX7_isReady_0 21 rfl rfl)
theorem dX7_isReady_22 : decode cX7_isReady 22 = .ok (.aload_n 0, 1) := dk_42 (dk_at dksX7_isReady_0 22 rfl rfl)
theorem dX7_isReady_23 : decode cX7_isReady 23 = .ok (.getfield 51, 3) := dk_180 0 51 (dk_at dksX7_isReady_1 0 rfl rfl)
theorem dX7_isReady_26 : decode cX7_isReady 26 = .ok (.iconst 1, 1) := dk_4 (dk_at dksX7_isReady_1 3 rfl rfl)
theorem dX7_isReady_27 : decode cX7_isReady 27 = .ok (.iaload, 1) := dk_46 (dk_at dksX7_isReady_1 4 rfl rfl)
theorem dX7_isReady_28 : decode cX7_isReady 28 = .ok (.iload_n 2, 1) := dk_28 (dk_at dksX7_isReady_1 5 rfl rfl)
theorem dX7_isReady_29 : decode cX7_isReady 29 = .ok (.invokevirtual 214, 3) := dk_182 0 214 (dk_at dksX7_isReady_1 6 rfl rfl)
theorem dX7_isReady_32 : decode cX7_isReady 32 = .ok (.goto 4, 3) := dk_167 0 4 (dk_at dksX7_isReady_1 9 rfl rfl)
theorem dX7_isReady_35 : decode cX7_isReady 35 = .ok (.iconst 0, 1) := dk_3 (dk_at dksX7_isReady_1 12 rfl rfl)
theorem dX7_isReady_36 : decode cX7_isReady 36 = .ok (.istore 4, 2) := dk_54 4 (dk_at dksX7_isReady_1 13 rfl rfl)
theorem dX7_isReady_38 : decode cX7_isReady 38 = .ok (.aload_n 0, 1) := dk_42 (dk_at dksX7_isReady_1 15 rfl rfl)
theorem dX7_isReady_39 : decode cX7_isReady 39 = .ok (.iload_n 1, 1) := dk_27 (dk_at dksX7_isReady_1 16 rfl rfl)
theorem dX7_isReady_40 : decode cX7_isReady 40 = .ok (.bipush 6, 2) := dk_16 6 (dk_at dksX7_isReady_1 17 rfl rfl)
theorem dX7_isReady_42 : decode cX7_isReady 42 = .ok (.iload 4, 2) := dk_21 4 (dk_at dksX7_isReady_1 19 rfl rfl)
theorem dX7_isReady_44 : decode cX7_isReady 44 = .ok (.invokevirtual 139, 3) := dk_182 0 139 (dk_at dksX7_isReady_1 21 rfl rfl)
theorem dX7_isReady_47 : decode cX7_isReady 47 = .ok (.aload_n 0, 1) := dk_42 (dk_at dksX7_isReady_2 0 rfl rfl)
theorem dX7_isReady_48 : decode cX7_isReady 48 = .ok (.iload_n 1, 1) := dk_27 (dk_at dksX7_isReady_2 1 rfl rfl)
theorem dX7_isReady_49 : decode cX7_isReady 49 = .ok (.bipush 7, 2) := dk_16 7 (dk_at dksX7_isReady_2 2 rfl rfl)
theorem dX7_isReady_51 : decode cX7_isReady 51 = .ok (.iload 4, 2) := dk_21 4 (dk_at dksX7_isReady_2 4 rfl rfl)
theorem dX7_isReady_53 : decode cX7_isReady 53 = .ok (.ifCond .ne 7, 3) := dk_154 0 7 (dk_at dksX7_isReady_2 6 rfl rfl)
theorem dX7_isReady_56 : decode cX7_isReady 56 = .ok (.iconst 0, 1) := dk_3 (dk_at dksX7_isReady_2 9 rfl rfl)
theorem dX7_isReady_57 : decode cX7_isReady 57 = .ok (.goto 33, 3) := dk_167 0 33 (dk_at dksX7_isReady_2 10 rfl rfl)
theorem dX7_isReady_60 : decode cX7_isReady 60 = .ok (.aload_n 0, 1) := dk_42 (dk_at dksX7_isReady_2 13 rfl rfl)
theorem dX7_isReady_61 : decode cX7_isReady 61 = .ok (.getfield 51, 3) := dk_180 0 51 (dk_at dksX7_isReady_2 14 rfl rfl)
theorem dX7_isReady_64 : decode cX7_isReady 64 = .ok (.iconst 1, 1) := dk_4 (dk_at dksX7_isReady_2 17 rfl rfl)
theorem dX7_isReady_65 : decode cX7_isReady 65 = .ok (.iaload, 1) := dk_46 (dk_at dksX7_isReady_2 18 rfl rfl)
theorem dX7_isReady_66 : decode cX7_isReady 66 = .ok (.aload_n 0, 1) := dk_42 (dk_at dksX7_isReady_2 19 rfl rfl)
theorem dX7_isReady_67 : decode cX7_isReady 67 = .ok (.iload_n 1, 1) := dk_27 (dk_at dksX7_isReady_2 20 rfl rfl)
theorem dX7_isReady_68 : decode cX7_isReady 68 = .ok (.aload_n 0, 1) := dk_42 (dk_at dksX7_isReady_2 21 rfl rfl)
theorem dX7_isReady_69 : decode cX7_isReady 69 = .ok (.getfield 51, 3) := dk_180 0 51 (dk_at dksX7_isReady_3 0 rfl rfl)
theorem dX7_isReady_72 : decode cX7_isReady 72 = .ok (.iconst 1, 1) := dk_4 (dk_at dksX7_isReady_3 3 rfl rfl)
theorem dX7_isReady_73 : decode cX7_isReady 73 = .ok (.iaload, 1) := dk_46 (dk_at dksX7_isReady_3 4 rfl rfl)
theorem dX7_isReady_74 : decode cX7_isReady 74 = .ok (.iload_n 2, 1) := dk_28 (dk_at dksX7_isReady_3 5 rfl rfl)
theorem dX7_isReady_75 : decode cX7_isReady 75 = .ok (.invokevirtual 191, 3) := dk_182 0 191 (dk_at dksX7_isReady_3 6 rfl rfl)
theorem dX7_isReady_78 : decode cX7_isReady 78 = .ok (.iload 4, 2) := dk_21 4 (dk_at dksX7_isReady_3 9 rfl rfl)
theorem dX7_isReady_80 : decode cX7_isReady 80 = .ok (.if_icmp .le 8, 3) := dk_164 0 8 (dk_at dksX7_isReady_3 11 rfl rfl)
theorem dX7_isReady_83 : decode cX7_isReady 83 = .ok (.bipush 10, 2) := dk_16 10 (dk_at dksX7_isReady_3 14 rfl rfl)
theorem dX7_isReady_85 : decode cX7_isReady 85 = .ok (.goto 4, 3) := dk_167 0 4 (dk_at dksX7_isReady_3 16 rfl rfl)
theorem dX7_isReady_88 : decode cX7_isReady 88 = .ok (.iconst 0, 1) := dk_3 (dk_at dksX7_isReady_3 19 rfl rfl)
theorem dX7_isReady_89 : decode cX7_isReady 89 = .ok (.iadd, 1) := dk_96 (dk_at dksX7_isReady_3 20 rfl rfl)
theorem dX7_isReady_90 : decode cX7_isReady 90 = .ok (.invokevirtual 139, 3) := dk_182 0 139 (dk_at dksX7_isReady_3 21 rfl rfl)
theorem dX7_isReady_93 : decode cX7_isReady 93 = .ok (.iload 4, 2) := dk_21 4 (dk_at dksX7_isReady_4 0 rfl rfl)
theorem dX7_isReady_95 : decode cX7_isReady 95 = .ok (.ifCond .ne 10, 3) := dk_154 0 10 (dk_at dksX7_isReady_4 2 rfl rfl)
theorem dX7_isReady_98 : decode cX7_isReady 98 = .ok (.aload_n 0, 1) := dk_42 (dk_at dksX7_isReady_4 5 rfl rfl)
theorem dX7_isReady_99 : decode cX7_isReady 99 = .ok (.iload_n 1, 1) := dk_27 (dk_at dksX7_isReady_4 6 rfl rfl)
theorem dX7_isReady_100 : decode cX7_isReady 100 = .ok (.iload_n 2, 1) := dk_28 (dk_at dksX7_isReady_4 7 rfl rfl)
theorem dX7_isReady_101 : decode cX7_isReady 101 = .ok (.invokevirtual 217, 3) := dk_182 0 217 (dk_at dksX7_isReady_4 8 rfl rfl)
theorem dX7_isReady_104 : decode cX7_isReady 104 = .ok (.return_, 1) := dk_177 (dk_at dksX7_isReady_4 11 rfl rfl)
theorem dX7_isReady_105 : decode cX7_isReady 105 = .ok (.aload_n 0, 1) := dk_42 (dk_at dksX7_isReady_4 12 rfl rfl)
theorem dX7_isReady_106 : decode cX7_isReady 106 = .ok (.getfield 51, 3) := dk_180 0 51 (dk_at dksX7_isReady_4 13 rfl rfl)
theorem dX7_isReady_109 : decode cX7_isReady 109 = .ok (.bipush 8, 2) := dk_16 8 (dk_at dksX7_isReady_4 16 rfl rfl)
theorem dX7_isReady_111 : decode cX7_isReady 111 = .ok (.dup2, 1) := dk_92 (dk_at dksX7_isReady_4 18 rfl rfl)
theorem dX7_isReady_112 : decode cX7_isReady 112 = .ok (.iaload, 1) := dk_46 (dk_at dksX7_isReady_4 19 rfl rfl)
theorem dX7_isReady_113 : decode cX7_isReady 113 = .ok (.iconst 1, 1) := dk_4 (dk_at dksX7_isReady_4 20 rfl rfl)
theorem dX7_isReady_114 : decode cX7_isReady 114 = .ok (.iadd, 1) := dk_96 (dk_at dksX7_isReady_4 21 rfl rfl)
theorem dX7_isReady_115 : decode cX7_isReady 115 = .ok (.iastore, 1) := dk_79 (dk_at dksX7_isReady_4 22 rfl rfl)
theorem dX7_isReady_116 : decode cX7_isReady 116 = .ok (.aload_n 0, 1) := dk_42 (dk_at dksX7_isReady_4 23 rfl rfl)
theorem dX7_isReady_117 : decode cX7_isReady 117 = .ok (.getfield 51, 3) := dk_180 0 51 (dk_at dksX7_isReady_5 0 rfl rfl)
theorem dX7_isReady_120 : decode cX7_isReady 120 = .ok (.bipush 9, 2) := dk_16 9 (dk_at dksX7_isReady_5 3 rfl rfl)
theorem dX7_isReady_122 : decode cX7_isReady 122 = .ok (.dup2, 1) := dk_92 (dk_at dksX7_isReady_5 5 rfl rfl)
theorem dX7_isReady_123 : decode cX7_isReady 123 = .ok (.iaload, 1) := dk_46 (dk_at dksX7_isReady_5 6 rfl rfl)
theorem dX7_isReady_124 : decode cX7_isReady 124 = .ok (.iload 4, 2) := dk_21 4 (dk_at dksX7_isReady_5 7 rfl rfl)
theorem dX7_isReady_126 : decode cX7_isReady 126 = .ok (.iadd, 1) := dk_96 (dk_at dksX7_isReady_5 9 rfl rfl)
theorem dX7_isReady_127 : decode cX7_isReady 127 = .ok (.iastore, 1) := dk_79 (dk_at dksX7_isReady_5 10 rfl rfl)
theorem dX7_isReady_128 : decode cX7_isReady 128 = .ok (.aload_n 0, 1) := dk_42 (dk_at dksX7_isReady_5 11 rfl rfl)
theorem dX7_isReady_129 : decode cX7_isReady 129 = .ok (.iload_n 1, 1) := dk_27 (dk_at dksX7_isReady_5 12 rfl rfl)
theorem dX7_isReady_130 : decode cX7_isReady 130 = .ok (.iconst 0, 1) := dk_3 (dk_at dksX7_isReady_5 13 rfl rfl)
theorem dX7_isReady_131 : decode cX7_isReady 131 = .ok (.iconst 3, 1) := dk_6 (dk_at dksX7_isReady_5 14 rfl rfl)
theorem dX7_isReady_132 : decode cX7_isReady 132 = .ok (.invokevirtual 139, 3) := dk_182 0 139 (dk_at dksX7_isReady_5 15 rfl rfl)
theorem dX7_isReady_135 : decode cX7_isReady 135 = .ok (.aload_n 0, 1) := dk_42 (dk_at dksX7_isReady_5 18 rfl rfl)
theorem dX7_isReady_136 : decode cX7_isReady 136 = .ok (.iload_n 1, 1) := dk_27 (dk_at dksX7_isReady_5 19 rfl rfl)
theorem dX7_isReady_137 : decode cX7_isReady 137 = .ok (.iconst 2, 1) := dk_5 (dk_at dksX7_isReady_5 20 rfl rfl)
theorem dX7_isReady_138 : decode cX7_isReady 138 = .ok (.iload_n 2, 1) := dk_28 (dk_at dksX7_isReady_5 21 rfl rfl)
theorem dX7_isReady_139 : decode cX7_isReady 139 = .ok (.iload 4, 2) := dk_21 4 (dk_at dksX7_isReady_5 22 rfl rfl)
theorem dX7_isReady_141 : decode cX7_isReady 141 = .ok (.iadd, 1) := dk_96 (dk_at dksX7_isReady_6 0 rfl rfl)
theorem dX7_isReady_142 : decode cX7_isReady 142 = .ok (.invokevirtual 139, 3) := dk_182 0 139 (dk_at dksX7_isReady_6 1 rfl rfl)
theorem dX7_isReady_145 : decode cX7_isReady 145 = .ok (.aload_n 0, 1) := dk_42 (dk_at dksX7_isReady_6 4 rfl rfl)
theorem dX7_isReady_146 : decode cX7_isReady 146 = .ok (.iload_n 2, 1) := dk_28 (dk_at dksX7_isReady_6 5 rfl rfl)
theorem dX7_isReady_147 : decode cX7_isReady 147 = .ok (.iconst 2, 1) := dk_5 (dk_at dksX7_isReady_6 6 rfl rfl)
theorem dX7_isReady_148 : decode cX7_isReady 148 = .ok (.iload_n 1, 1) := dk_27 (dk_at dksX7_isReady_6 7 rfl rfl)
theorem dX7_isReady_149 : decode cX7_isReady 149 = .ok (.iload_n 3, 1) := dk_29 (dk_at dksX7_isReady_6 8 rfl rfl)
theorem dX7_isReady_150 : decode cX7_isReady 150 = .ok (.iload 4, 2) := dk_21 4 (dk_at dksX7_isReady_6 9 rfl rfl)
theorem dX7_isReady_152 : decode cX7_isReady 152 = .ok (.invokevirtual 210, 3) := dk_182 0 210 (dk_at dksX7_isReady_6 11 rfl rfl)
theorem dX7_isReady_155 : decode cX7_isReady 155 = .ok (.return_, 1) := dk_177 (dk_at dksX7_isReady_6 14 rfl rfl)
abbrev cX7_heldBy : ByteArray := prog_13_method_26_code
def yX7_heldBy : MethodName := ⟨RX7, "heldBy", "(III)I"⟩
def dkwX7_heldBy_1 : List UInt8 := [6, 46, 164, 0, 12, 42, 180, 0, 51, 6, 46, 167, 0, 5, 21, 4, 172]
abbrev dktX7_heldBy_1 : List UInt8 := dkwX7_heldBy_1 ++ []
def dkwX7_heldBy_0 : List UInt8 := [42, 27, 28, 29, 182, 0, 191, 54, 4, 21, 4, 157, 0, 7, 3, 167, 0, 25, 21, 4, 42, 180, 0, 51]
abbrev dktX7_heldBy_0 : List UInt8 := dkwX7_heldBy_0 ++ dktX7_heldBy_1
theorem dksX7_heldBy_0 : cX7_heldBy.data.toList.drop 0 = dktX7_heldBy_0 := by decide +kernel
theorem dksX7_heldBy_1 : cX7_heldBy.data.toList.drop 24 = dktX7_heldBy_1 := dk_seg dksX7_heldBy_0 24 rfl rfl
theorem dX7_heldBy_0 : decode cX7_heldBy 0 = .ok (.aload_n 0, 1) := dk_42 (dk_at dksX7_heldBy_0 0 rfl rfl)
theorem dX7_heldBy_1 : decode cX7_heldBy 1 = .ok (.iload_n 1, 1) := dk_27 (dk_at dksX7_heldBy_0 1 rfl rfl)
theorem dX7_heldBy_2 : decode cX7_heldBy 2 = .ok (.iload_n 2, 1) := dk_28 (dk_at dksX7_heldBy_0 2 rfl rfl)
theorem dX7_heldBy_3 : decode cX7_heldBy 3 = .ok (.iload_n 3, 1) := dk_29 (dk_at dksX7_heldBy_0 3 rfl rfl)
theorem dX7_heldBy_4 : decode cX7_heldBy 4 = .ok (.invokevirtual 191, 3) := dk_182 0 191 (dk_at dksX7_heldBy_0 4 rfl rfl)
theorem dX7_heldBy_7 : decode cX7_heldBy 7 = .ok (.istore 4, 2) := dk_54 4 (dk_at dksX7_heldBy_0 7 rfl rfl)
theorem dX7_heldBy_9 : decode cX7_heldBy 9 = .ok (.iload 4, 2) := dk_21 4 (dk_at dksX7_heldBy_0 9 rfl rfl)
theorem dX7_heldBy_11 : decode cX7_heldBy 11 = .ok (.ifCond .gt 7, 3) := dk_157 0 7 (dk_at dksX7_heldBy_0 11 rfl rfl)
theorem dX7_heldBy_14 : decode cX7_heldBy 14 = .ok (.iconst 0, 1) := dk_3 (dk_at dksX7_heldBy_0 14 rfl rfl)
theorem dX7_heldBy_15 : decode cX7_heldBy 15 = .ok (.goto 25, 3) := dk_167 0 25 (dk_at dksX7_heldBy_0 15 rfl rfl)
theorem dX7_heldBy_18 : decode cX7_heldBy 18 = .ok (.iload 4, 2) := dk_21 4 (dk_at dksX7_heldBy_0 18 rfl rfl)
theorem dX7_heldBy_20 : decode cX7_heldBy 20 = .ok (.aload_n 0, 1) := dk_42 (dk_at dksX7_heldBy_0 20 rfl rfl)
theorem dX7_heldBy_21 : decode cX7_heldBy 21 = .ok (.getfield 51, 3) := dk_180 0 51 (dk_at dksX7_heldBy_0 21 rfl rfl)
theorem dX7_heldBy_24 : decode cX7_heldBy 24 = .ok (.iconst 3, 1) := dk_6 (dk_at dksX7_heldBy_1 0 rfl rfl)
theorem dX7_heldBy_25 : decode cX7_heldBy 25 = .ok (.iaload, 1) := dk_46 (dk_at dksX7_heldBy_1 1 rfl rfl)
theorem dX7_heldBy_26 : decode cX7_heldBy 26 = .ok (.if_icmp .le 12, 3) := dk_164 0 12 (dk_at dksX7_heldBy_1 2 rfl rfl)
theorem dX7_heldBy_29 : decode cX7_heldBy 29 = .ok (.aload_n 0, 1) := dk_42 (dk_at dksX7_heldBy_1 5 rfl rfl)
theorem dX7_heldBy_30 : decode cX7_heldBy 30 = .ok (.getfield 51, 3) := dk_180 0 51 (dk_at dksX7_heldBy_1 6 rfl rfl)
theorem dX7_heldBy_33 : decode cX7_heldBy 33 = .ok (.iconst 3, 1) := dk_6 (dk_at dksX7_heldBy_1 9 rfl rfl)
theorem dX7_heldBy_34 : decode cX7_heldBy 34 = .ok (.iaload, 1) := dk_46 (dk_at dksX7_heldBy_1 10 rfl rfl)
theorem dX7_heldBy_35 : decode cX7_heldBy 35 = .ok (.goto 5, 3) := dk_167 0 5 (dk_at dksX7_heldBy_1 11 rfl rfl)
theorem dX7_heldBy_38 : decode cX7_heldBy 38 = .ok (.iload 4, 2) := dk_21 4 (dk_at dksX7_heldBy_1 14 rfl rfl)
theorem dX7_heldBy_40 : decode cX7_heldBy 40 = .ok (.ireturn, 1) := dk_172 (dk_at dksX7_heldBy_1 16 rfl rfl)
abbrev cX7_wanted : ByteArray := prog_13_method_25_code
def yX7_wanted : MethodName := ⟨RX7, "wanted", "(III)I"⟩
def dkwX7_wanted_5 : List UInt8 := [54, 7, 21, 7, 157, 0, 7, 3, 167, 0, 7, 21, 7, 5, 108, 172]
abbrev dktX7_wanted_5 : List UInt8 := dkwX7_wanted_5 ++ []
def dkwX7_wanted_4 : List UInt8 := [182, 0, 188, 167, 0, 5, 16, 254, 54, 6, 21, 6, 156, 0, 5, 3, 172, 21, 6, 29, 21, 5, 100, 100]
abbrev dktX7_wanted_4 : List UInt8 := dkwX7_wanted_4 ++ dktX7_wanted_5
def dkwX7_wanted_3 : List UInt8 := [180, 0, 27, 21, 4, 46, 96, 29, 100, 172, 28, 6, 160, 0, 17, 21, 5, 155, 0, 12, 42, 27, 29]
abbrev dktX7_wanted_3 : List UInt8 := dkwX7_wanted_3 ++ dktX7_wanted_4
def dkwX7_wanted_2 : List UInt8 := [160, 0, 34, 42, 180, 0, 36, 27, 46, 42, 27, 6, 182, 0, 171, 42, 180, 0, 51, 8, 46, 104, 96, 42]
abbrev dktX7_wanted_2 : List UInt8 := dkwX7_wanted_2 ++ dktX7_wanted_3
def dkwX7_wanted_1 : List UInt8 := [160, 0, 20, 21, 5, 155, 0, 15, 21, 5, 42, 180, 0, 51, 5, 46, 96, 29, 100, 172, 28, 5]
abbrev dktX7_wanted_1 : List UInt8 := dkwX7_wanted_1 ++ dktX7_wanted_2
def dkwX7_wanted_0 : List UInt8 := [42, 27, 4, 182, 0, 171, 54, 4, 42, 180, 0, 51, 16, 33, 21, 4, 96, 46, 54, 5, 28, 4]
abbrev dktX7_wanted_0 : List UInt8 := dkwX7_wanted_0 ++ dktX7_wanted_1
theorem dksX7_wanted_0 : cX7_wanted.data.toList.drop 0 = dktX7_wanted_0 := by decide +kernel
theorem dksX7_wanted_1 : cX7_wanted.data.toList.drop 22 = dktX7_wanted_1 := dk_seg dksX7_wanted_0 22 rfl rfl
theorem dksX7_wanted_2 : cX7_wanted.data.toList.drop 44 = dktX7_wanted_2 := dk_seg dksX7_wanted_1 22 rfl rfl
theorem dksX7_wanted_3 : cX7_wanted.data.toList.drop 68 = dktX7_wanted_3 := dk_seg dksX7_wanted_2 24 rfl rfl
theorem dksX7_wanted_4 : cX7_wanted.data.toList.drop 91 = dktX7_wanted_4 := dk_seg dksX7_wanted_3 23 rfl rfl
theorem dksX7_wanted_5 : cX7_wanted.data.toList.drop 115 = dktX7_wanted_5 := dk_seg dksX7_wanted_4 24 rfl rfl
theorem dX7_wanted_0 : decode cX7_wanted 0 = .ok (.aload_n 0, 1) := dk_42 (dk_at dksX7_wanted_0 0 rfl rfl)
theorem dX7_wanted_1 : decode cX7_wanted 1 = .ok (.iload_n 1, 1) := dk_27 (dk_at dksX7_wanted_0 1 rfl rfl)
theorem dX7_wanted_2 : decode cX7_wanted 2 = .ok (.iconst 1, 1) := dk_4 (dk_at dksX7_wanted_0 2 rfl rfl)
theorem dX7_wanted_3 : decode cX7_wanted 3 = .ok (.invokevirtual 171, 3) := dk_182 0 171 (dk_at dksX7_wanted_0 3 rfl rfl)
theorem dX7_wanted_6 : decode cX7_wanted 6 = .ok (.istore 4, 2) := dk_54 4 (dk_at dksX7_wanted_0 6 rfl rfl)
theorem dX7_wanted_8 : decode cX7_wanted 8 = .ok (.aload_n 0, 1) := dk_42 (dk_at dksX7_wanted_0 8 rfl rfl)
theorem dX7_wanted_9 : decode cX7_wanted 9 = .ok (.getfield 51, 3) := dk_180 0 51 (dk_at dksX7_wanted_0 9 rfl rfl)
theorem dX7_wanted_12 : decode cX7_wanted 12 = .ok (.bipush 33, 2) := dk_16 33 (dk_at dksX7_wanted_0 12 rfl rfl)
theorem dX7_wanted_14 : decode cX7_wanted 14 = .ok (.iload 4, 2) := dk_21 4 (dk_at dksX7_wanted_0 14 rfl rfl)
theorem dX7_wanted_16 : decode cX7_wanted 16 = .ok (.iadd, 1) := dk_96 (dk_at dksX7_wanted_0 16 rfl rfl)
theorem dX7_wanted_17 : decode cX7_wanted 17 = .ok (.iaload, 1) := dk_46 (dk_at dksX7_wanted_0 17 rfl rfl)
theorem dX7_wanted_18 : decode cX7_wanted 18 = .ok (.istore 5, 2) := dk_54 5 (dk_at dksX7_wanted_0 18 rfl rfl)
theorem dX7_wanted_20 : decode cX7_wanted 20 = .ok (.iload_n 2, 1) := dk_28 (dk_at dksX7_wanted_0 20 rfl rfl)
theorem dX7_wanted_21 : decode cX7_wanted 21 = .ok (.iconst 1, 1) := dk_4 (dk_at dksX7_wanted_0 21 rfl rfl)
theorem dX7_wanted_22 : decode cX7_wanted 22 = .ok (.if_icmp .ne 20, 3) := dk_160 0 20 (dk_at dksX7_wanted_1 0 rfl rfl)
theorem dX7_wanted_25 : decode cX7_wanted 25 = .ok (.iload 5, 2) := dk_21 5 (dk_at dksX7_wanted_1 3 rfl rfl)
theorem dX7_wanted_27 : decode cX7_wanted 27 = .ok (.ifCond .lt 15, 3) := dk_155 0 15 (dk_at dksX7_wanted_1 5 rfl rfl)
theorem dX7_wanted_30 : decode cX7_wanted 30 = .ok (.iload 5, 2) := dk_21 5 (dk_at dksX7_wanted_1 8 rfl rfl)
theorem dX7_wanted_32 : decode cX7_wanted 32 = .ok (.aload_n 0, 1) := dk_42 (dk_at dksX7_wanted_1 10 rfl rfl)
theorem dX7_wanted_33 : decode cX7_wanted 33 = .ok (.getfield 51, 3) := dk_180 0 51 (dk_at dksX7_wanted_1 11 rfl rfl)
theorem dX7_wanted_36 : decode cX7_wanted 36 = .ok (.iconst 2, 1) := dk_5 (dk_at dksX7_wanted_1 14 rfl rfl)
theorem dX7_wanted_37 : decode cX7_wanted 37 = .ok (.iaload, 1) := dk_46 (dk_at dksX7_wanted_1 15 rfl rfl)
theorem dX7_wanted_38 : decode cX7_wanted 38 = .ok (.iadd, 1) := dk_96 (dk_at dksX7_wanted_1 16 rfl rfl)
theorem dX7_wanted_39 : decode cX7_wanted 39 = .ok (.iload_n 3, 1) := dk_29 (dk_at dksX7_wanted_1 17 rfl rfl)
theorem dX7_wanted_40 : decode cX7_wanted 40 = .ok (.isub, 1) := dk_100 (dk_at dksX7_wanted_1 18 rfl rfl)
theorem dX7_wanted_41 : decode cX7_wanted 41 = .ok (.ireturn, 1) := dk_172 (dk_at dksX7_wanted_1 19 rfl rfl)
theorem dX7_wanted_42 : decode cX7_wanted 42 = .ok (.iload_n 2, 1) := dk_28 (dk_at dksX7_wanted_1 20 rfl rfl)
theorem dX7_wanted_43 : decode cX7_wanted 43 = .ok (.iconst 2, 1) := dk_5 (dk_at dksX7_wanted_1 21 rfl rfl)
theorem dX7_wanted_44 : decode cX7_wanted 44 = .ok (.if_icmp .ne 34, 3) := dk_160 0 34 (dk_at dksX7_wanted_2 0 rfl rfl)
theorem dX7_wanted_47 : decode cX7_wanted 47 = .ok (.aload_n 0, 1) := dk_42 (dk_at dksX7_wanted_2 3 rfl rfl)
theorem dX7_wanted_48 : decode cX7_wanted 48 = .ok (.getfield 36, 3) := dk_180 0 36 (dk_at dksX7_wanted_2 4 rfl rfl)
theorem dX7_wanted_51 : decode cX7_wanted 51 = .ok (.iload_n 1, 1) := dk_27 (dk_at dksX7_wanted_2 7 rfl rfl)
theorem dX7_wanted_52 : decode cX7_wanted 52 = .ok (.iaload, 1) := dk_46 (dk_at dksX7_wanted_2 8 rfl rfl)
theorem dX7_wanted_53 : decode cX7_wanted 53 = .ok (.aload_n 0, 1) := dk_42 (dk_at dksX7_wanted_2 9 rfl rfl)
theorem dX7_wanted_54 : decode cX7_wanted 54 = .ok (.iload_n 1, 1) := dk_27 (dk_at dksX7_wanted_2 10 rfl rfl)
theorem dX7_wanted_55 : decode cX7_wanted 55 = .ok (.iconst 3, 1) := dk_6 (dk_at dksX7_wanted_2 11 rfl rfl)
theorem dX7_wanted_56 : decode cX7_wanted 56 = .ok (.invokevirtual 171, 3) := dk_182 0 171 (dk_at dksX7_wanted_2 12 rfl rfl)
theorem dX7_wanted_59 : decode cX7_wanted 59 = .ok (.aload_n 0, 1) := dk_42 (dk_at dksX7_wanted_2 15 rfl rfl)
theorem dX7_wanted_60 : decode cX7_wanted 60 = .ok (.getfield 51, 3) := dk_180 0 51 (dk_at dksX7_wanted_2 16 rfl rfl)
theorem dX7_wanted_63 : decode cX7_wanted 63 = .ok (.iconst 5, 1) := dk_8 (dk_at dksX7_wanted_2 19 rfl rfl)
theorem dX7_wanted_64 : decode cX7_wanted 64 = .ok (.iaload, 1) := dk_46 (dk_at dksX7_wanted_2 20 rfl rfl)
theorem dX7_wanted_65 : decode cX7_wanted 65 = .ok (.imul, 1) := dk_104 (dk_at dksX7_wanted_2 21 rfl rfl)
theorem dX7_wanted_66 : decode cX7_wanted 66 = .ok (.iadd, 1) := dk_96 (dk_at dksX7_wanted_2 22 rfl rfl)
theorem dX7_wanted_67 : decode cX7_wanted 67 = .ok (.aload_n 0, 1) := dk_42 (dk_at dksX7_wanted_2 23 rfl rfl)
theorem dX7_wanted_68 : decode cX7_wanted 68 = .ok (.getfield 27, 3) := dk_180 0 27 (dk_at dksX7_wanted_3 0 rfl rfl)
theorem dX7_wanted_71 : decode cX7_wanted 71 = .ok (.iload 4, 2) := dk_21 4 (dk_at dksX7_wanted_3 3 rfl rfl)
theorem dX7_wanted_73 : decode cX7_wanted 73 = .ok (.iaload, 1) := dk_46 (dk_at dksX7_wanted_3 5 rfl rfl)
theorem dX7_wanted_74 : decode cX7_wanted 74 = .ok (.iadd, 1) := dk_96 (dk_at dksX7_wanted_3 6 rfl rfl)
theorem dX7_wanted_75 : decode cX7_wanted 75 = .ok (.iload_n 3, 1) := dk_29 (dk_at dksX7_wanted_3 7 rfl rfl)
theorem dX7_wanted_76 : decode cX7_wanted 76 = .ok (.isub, 1) := dk_100 (dk_at dksX7_wanted_3 8 rfl rfl)
theorem dX7_wanted_77 : decode cX7_wanted 77 = .ok (.ireturn, 1) := dk_172 (dk_at dksX7_wanted_3 9 rfl rfl)
theorem dX7_wanted_78 : decode cX7_wanted 78 = .ok (.iload_n 2, 1) := dk_28 (dk_at dksX7_wanted_3 10 rfl rfl)
theorem dX7_wanted_79 : decode cX7_wanted 79 = .ok (.iconst 3, 1) := dk_6 (dk_at dksX7_wanted_3 11 rfl rfl)
theorem dX7_wanted_80 : decode cX7_wanted 80 = .ok (.if_icmp .ne 17, 3) := dk_160 0 17 (dk_at dksX7_wanted_3 12 rfl rfl)
theorem dX7_wanted_83 : decode cX7_wanted 83 = .ok (.iload 5, 2) := dk_21 5 (dk_at dksX7_wanted_3 15 rfl rfl)
theorem dX7_wanted_85 : decode cX7_wanted 85 = .ok (.ifCond .lt 12, 3) := dk_155 0 12 (dk_at dksX7_wanted_3 17 rfl rfl)
theorem dX7_wanted_88 : decode cX7_wanted 88 = .ok (.aload_n 0, 1) := dk_42 (dk_at dksX7_wanted_3 20 rfl rfl)
theorem dX7_wanted_89 : decode cX7_wanted 89 = .ok (.iload_n 1, 1) := dk_27 (dk_at dksX7_wanted_3 21 rfl rfl)
theorem dX7_wanted_90 : decode cX7_wanted 90 = .ok (.iload_n 3, 1) := dk_29 (dk_at dksX7_wanted_3 22 rfl rfl)
theorem dX7_wanted_91 : decode cX7_wanted 91 = .ok (.invokevirtual 188, 3) := dk_182 0 188 (dk_at dksX7_wanted_4 0 rfl rfl)
theorem dX7_wanted_94 : decode cX7_wanted 94 = .ok (.goto 5, 3) := dk_167 0 5 (dk_at dksX7_wanted_4 3 rfl rfl)
theorem dX7_wanted_97 : decode cX7_wanted 97 = .ok (.bipush (-2), 2) := dk_16 254 (dk_at dksX7_wanted_4 6 rfl rfl)
theorem dX7_wanted_99 : decode cX7_wanted 99 = .ok (.istore 6, 2) := dk_54 6 (dk_at dksX7_wanted_4 8 rfl rfl)
theorem dX7_wanted_101 : decode cX7_wanted 101 = .ok (.iload 6, 2) := dk_21 6 (dk_at dksX7_wanted_4 10 rfl rfl)
theorem dX7_wanted_103 : decode cX7_wanted 103 = .ok (.ifCond .ge 5, 3) := dk_156 0 5 (dk_at dksX7_wanted_4 12 rfl rfl)
theorem dX7_wanted_106 : decode cX7_wanted 106 = .ok (.iconst 0, 1) := dk_3 (dk_at dksX7_wanted_4 15 rfl rfl)
theorem dX7_wanted_107 : decode cX7_wanted 107 = .ok (.ireturn, 1) := dk_172 (dk_at dksX7_wanted_4 16 rfl rfl)
theorem dX7_wanted_108 : decode cX7_wanted 108 = .ok (.iload 6, 2) := dk_21 6 (dk_at dksX7_wanted_4 17 rfl rfl)
theorem dX7_wanted_110 : decode cX7_wanted 110 = .ok (.iload_n 3, 1) := dk_29 (dk_at dksX7_wanted_4 19 rfl rfl)
theorem dX7_wanted_111 : decode cX7_wanted 111 = .ok (.iload 5, 2) := dk_21 5 (dk_at dksX7_wanted_4 20 rfl rfl)
theorem dX7_wanted_113 : decode cX7_wanted 113 = .ok (.isub, 1) := dk_100 (dk_at dksX7_wanted_4 22 rfl rfl)
theorem dX7_wanted_114 : decode cX7_wanted 114 = .ok (.isub, 1) := dk_100 (dk_at dksX7_wanted_4 23 rfl rfl)
theorem dX7_wanted_115 : decode cX7_wanted 115 = .ok (.istore 7, 2) := dk_54 7 (dk_at dksX7_wanted_5 0 rfl rfl)
theorem dX7_wanted_117 : decode cX7_wanted 117 = .ok (.iload 7, 2) := dk_21 7 (dk_at dksX7_wanted_5 2 rfl rfl)
theorem dX7_wanted_119 : decode cX7_wanted 119 = .ok (.ifCond .gt 7, 3) := dk_157 0 7 (dk_at dksX7_wanted_5 4 rfl rfl)
theorem dX7_wanted_122 : decode cX7_wanted 122 = .ok (.iconst 0, 1) := dk_3 (dk_at dksX7_wanted_5 7 rfl rfl)
theorem dX7_wanted_123 : decode cX7_wanted 123 = .ok (.goto 7, 3) := dk_167 0 7 (dk_at dksX7_wanted_5 8 rfl rfl)
theorem dX7_wanted_126 : decode cX7_wanted 126 = .ok (.iload 7, 2) := dk_21 7 (dk_at dksX7_wanted_5 11 rfl rfl)
theorem dX7_wanted_128 : decode cX7_wanted 128 = .ok (.iconst 2, 1) := dk_5 (dk_at dksX7_wanted_5 13 rfl rfl)
theorem dX7_wanted_129 : decode cX7_wanted 129 = .ok (.idiv, 1) := dk_108 (dk_at dksX7_wanted_5 14 rfl rfl)
theorem dX7_wanted_130 : decode cX7_wanted 130 = .ok (.ireturn, 1) := dk_172 (dk_at dksX7_wanted_5 15 rfl rfl)
abbrev cX7_untilNext : ByteArray := prog_13_method_24_code
def yX7_untilNext : MethodName := ⟨RX7, "untilNext", "(II)I"⟩
def dkwX7_untilNext_6 : List UInt8 := [172]
abbrev dktX7_untilNext_6 : List UInt8 := dkwX7_untilNext_6 ++ []
def dkwX7_untilNext_5 : List UInt8 := [21, 7, 21, 4, 162, 0, 8, 21, 7, 167, 0, 5, 21, 4, 54, 4, 132, 5, 1, 167, 255, 136, 21, 4]
abbrev dktX7_untilNext_5 : List UInt8 := dkwX7_untilNext_5 ++ dktX7_untilNext_6
def dkwX7_untilNext_4 : List UInt8 := [182, 0, 185, 54, 6, 42, 21, 5, 5, 182, 0, 171, 21, 6, 96, 28, 100, 54, 7, 21, 4, 155, 0, 10]
abbrev dktX7_untilNext_4 : List UInt8 := dkwX7_untilNext_4 ++ dktX7_untilNext_5
def dkwX7_untilNext_3 : List UInt8 := [42, 29, 182, 0, 177, 29, 182, 0, 185, 96, 167, 0, 15, 42, 42, 21, 5, 4, 182, 0, 171, 29]
abbrev dktX7_untilNext_3 : List UInt8 := dkwX7_untilNext_3 ++ dktX7_untilNext_4
def dkwX7_untilNext_2 : List UInt8 := [182, 0, 181, 153, 0, 34, 42, 21, 5, 4, 182, 0, 171, 29, 160, 0, 23, 42, 180, 0, 24, 29, 46, 42]
abbrev dktX7_untilNext_2 : List UInt8 := dkwX7_untilNext_2 ++ dktX7_untilNext_3
def dkwX7_untilNext_1 : List UInt8 := [21, 5, 27, 159, 0, 105, 42, 21, 5, 3, 182, 0, 171, 154, 0, 6, 167, 0, 92, 42, 21, 5]
abbrev dktX7_untilNext_1 : List UInt8 := dkwX7_untilNext_1 ++ dktX7_untilNext_2
def dkwX7_untilNext_0 : List UInt8 := [42, 27, 4, 182, 0, 171, 62, 16, 254, 54, 4, 3, 54, 5, 21, 5, 42, 180, 0, 118, 162, 0, 117]
abbrev dktX7_untilNext_0 : List UInt8 := dkwX7_untilNext_0 ++ dktX7_untilNext_1
theorem dksX7_untilNext_0 : cX7_untilNext.data.toList.drop 0 = dktX7_untilNext_0 := by decide +kernel
theorem dksX7_untilNext_1 : cX7_untilNext.data.toList.drop 23 = dktX7_untilNext_1 := dk_seg dksX7_untilNext_0 23 rfl rfl
theorem dksX7_untilNext_2 : cX7_untilNext.data.toList.drop 45 = dktX7_untilNext_2 := dk_seg dksX7_untilNext_1 22 rfl rfl
theorem dksX7_untilNext_3 : cX7_untilNext.data.toList.drop 69 = dktX7_untilNext_3 := dk_seg dksX7_untilNext_2 24 rfl rfl
theorem dksX7_untilNext_4 : cX7_untilNext.data.toList.drop 91 = dktX7_untilNext_4 := dk_seg dksX7_untilNext_3 22 rfl rfl
theorem dksX7_untilNext_5 : cX7_untilNext.data.toList.drop 115 = dktX7_untilNext_5 := dk_seg dksX7_untilNext_4 24 rfl rfl
theorem dksX7_untilNext_6 : cX7_untilNext.data.toList.drop 139 = dktX7_untilNext_6 := dk_seg dksX7_untilNext_5 24 rfl rfl
theorem dX7_untilNext_0 : decode cX7_untilNext 0 = .ok (.aload_n 0, 1) := dk_42 (dk_at dksX7_untilNext_0 0 rfl rfl)
theorem dX7_untilNext_1 : decode cX7_untilNext 1 = .ok (.iload_n 1, 1) := dk_27 (dk_at dksX7_untilNext_0 1 rfl rfl)
theorem dX7_untilNext_2 : decode cX7_untilNext 2 = .ok (.iconst 1, 1) := dk_4 (dk_at dksX7_untilNext_0 2 rfl rfl)
theorem dX7_untilNext_3 : decode cX7_untilNext 3 = .ok (.invokevirtual 171, 3) := dk_182 0 171 (dk_at dksX7_untilNext_0 3 rfl rfl)
theorem dX7_untilNext_6 : decode cX7_untilNext 6 = .ok (.istore_n 3, 1) := dk_62 (dk_at dksX7_untilNext_0 6 rfl rfl)
theorem dX7_untilNext_7 : decode cX7_untilNext 7 = .ok (.bipush (-2), 2) := dk_16 254 (dk_at dksX7_untilNext_0 7 rfl rfl)
theorem dX7_untilNext_9 : decode cX7_untilNext 9 = .ok (.istore 4, 2) := dk_54 4 (dk_at dksX7_untilNext_0 9 rfl rfl)
theorem dX7_untilNext_11 : decode cX7_untilNext 11 = .ok (.iconst 0, 1) := dk_3 (dk_at dksX7_untilNext_0 11 rfl rfl)
theorem dX7_untilNext_12 : decode cX7_untilNext 12 = .ok (.istore 5, 2) := dk_54 5 (dk_at dksX7_untilNext_0 12 rfl rfl)
theorem dX7_untilNext_14 : decode cX7_untilNext 14 = .ok (.iload 5, 2) := dk_21 5 (dk_at dksX7_untilNext_0 14 rfl rfl)
theorem dX7_untilNext_16 : decode cX7_untilNext 16 = .ok (.aload_n 0, 1) := dk_42 (dk_at dksX7_untilNext_0 16 rfl rfl)
theorem dX7_untilNext_17 : decode cX7_untilNext 17 = .ok (.getfield 118, 3) := dk_180 0 118 (dk_at dksX7_untilNext_0 17 rfl rfl)
theorem dX7_untilNext_20 : decode cX7_untilNext 20 = .ok (.if_icmp .ge 117, 3) := dk_162 0 117 (dk_at dksX7_untilNext_0 20 rfl rfl)
theorem dX7_untilNext_23 : decode cX7_untilNext 23 = .ok (.iload 5, 2) := dk_21 5 (dk_at dksX7_untilNext_1 0 rfl rfl)
theorem dX7_untilNext_25 : decode cX7_untilNext 25 = .ok (.iload_n 1, 1) := dk_27 (dk_at dksX7_untilNext_1 2 rfl rfl)
theorem dX7_untilNext_26 : decode cX7_untilNext 26 = .ok (.if_icmp .eq 105, 3) := dk_159 0 105 (dk_at dksX7_untilNext_1 3 rfl rfl)
theorem dX7_untilNext_29 : decode cX7_untilNext 29 = .ok (.aload_n 0, 1) := dk_42 (dk_at dksX7_untilNext_1 6 rfl rfl)
theorem dX7_untilNext_30 : decode cX7_untilNext 30 = .ok (.iload 5, 2) := dk_21 5 (dk_at dksX7_untilNext_1 7 rfl rfl)
theorem dX7_untilNext_32 : decode cX7_untilNext 32 = .ok (.iconst 0, 1) := dk_3 (dk_at dksX7_untilNext_1 9 rfl rfl)
theorem dX7_untilNext_33 : decode cX7_untilNext 33 = .ok (.invokevirtual 171, 3) := dk_182 0 171 (dk_at dksX7_untilNext_1 10 rfl rfl)
theorem dX7_untilNext_36 : decode cX7_untilNext 36 = .ok (.ifCond .ne 6, 3) := dk_154 0 6 (dk_at dksX7_untilNext_1 13 rfl rfl)
theorem dX7_untilNext_39 : decode cX7_untilNext 39 = .ok (.goto 92, 3) := dk_167 0 92 (dk_at dksX7_untilNext_1 16 rfl rfl)
theorem dX7_untilNext_42 : decode cX7_untilNext 42 = .ok (.aload_n 0, 1) := dk_42 (dk_at dksX7_untilNext_1 19 rfl rfl)
theorem dX7_untilNext_43 : decode cX7_untilNext 43 = .ok (.iload 5, 2) := dk_21 5 (dk_at dksX7_untilNext_1 20 rfl rfl)
theorem dX7_untilNext_45 : decode cX7_untilNext 45 = .ok (.invokevirtual 181, 3) := dk_182 0 181 (dk_at dksX7_untilNext_2 0 rfl rfl)
theorem dX7_untilNext_48 : decode cX7_untilNext 48 = .ok (.ifCond .eq 34, 3) := dk_153 0 34 (dk_at dksX7_untilNext_2 3 rfl rfl)
theorem dX7_untilNext_51 : decode cX7_untilNext 51 = .ok (.aload_n 0, 1) := dk_42 (dk_at dksX7_untilNext_2 6 rfl rfl)
theorem dX7_untilNext_52 : decode cX7_untilNext 52 = .ok (.iload 5, 2) := dk_21 5 (dk_at dksX7_untilNext_2 7 rfl rfl)
theorem dX7_untilNext_54 : decode cX7_untilNext 54 = .ok (.iconst 1, 1) := dk_4 (dk_at dksX7_untilNext_2 9 rfl rfl)
theorem dX7_untilNext_55 : decode cX7_untilNext 55 = .ok (.invokevirtual 171, 3) := dk_182 0 171 (dk_at dksX7_untilNext_2 10 rfl rfl)
theorem dX7_untilNext_58 : decode cX7_untilNext 58 = .ok (.iload_n 3, 1) := dk_29 (dk_at dksX7_untilNext_2 13 rfl rfl)
theorem dX7_untilNext_59 : decode cX7_untilNext 59 = .ok (.if_icmp .ne 23, 3) := dk_160 0 23 (dk_at dksX7_untilNext_2 14 rfl rfl)
theorem dX7_untilNext_62 : decode cX7_untilNext 62 = .ok (.aload_n 0, 1) := dk_42 (dk_at dksX7_untilNext_2 17 rfl rfl)
theorem dX7_untilNext_63 : decode cX7_untilNext 63 = .ok (.getfield 24, 3) := dk_180 0 24 (dk_at dksX7_untilNext_2 18 rfl rfl)
theorem dX7_untilNext_66 : decode cX7_untilNext 66 = .ok (.iload_n 3, 1) := dk_29 (dk_at dksX7_untilNext_2 21 rfl rfl)
theorem dX7_untilNext_67 : decode cX7_untilNext 67 = .ok (.iaload, 1) := dk_46 (dk_at dksX7_untilNext_2 22 rfl rfl)
theorem dX7_untilNext_68 : decode cX7_untilNext 68 = .ok (.aload_n 0, 1) := dk_42 (dk_at dksX7_untilNext_2 23 rfl rfl)
theorem dX7_untilNext_69 : decode cX7_untilNext 69 = .ok (.aload_n 0, 1) := dk_42 (dk_at dksX7_untilNext_3 0 rfl rfl)
theorem dX7_untilNext_70 : decode cX7_untilNext 70 = .ok (.iload_n 3, 1) := dk_29 (dk_at dksX7_untilNext_3 1 rfl rfl)
theorem dX7_untilNext_71 : decode cX7_untilNext 71 = .ok (.invokevirtual 177, 3) := dk_182 0 177 (dk_at dksX7_untilNext_3 2 rfl rfl)
theorem dX7_untilNext_74 : decode cX7_untilNext 74 = .ok (.iload_n 3, 1) := dk_29 (dk_at dksX7_untilNext_3 5 rfl rfl)
theorem dX7_untilNext_75 : decode cX7_untilNext 75 = .ok (.invokevirtual 185, 3) := dk_182 0 185 (dk_at dksX7_untilNext_3 6 rfl rfl)
theorem dX7_untilNext_78 : decode cX7_untilNext 78 = .ok (.iadd, 1) := dk_96 (dk_at dksX7_untilNext_3 9 rfl rfl)
theorem dX7_untilNext_79 : decode cX7_untilNext 79 = .ok (.goto 15, 3) := dk_167 0 15 (dk_at dksX7_untilNext_3 10 rfl rfl)
theorem dX7_untilNext_82 : decode cX7_untilNext 82 = .ok (.aload_n 0, 1) := dk_42 (dk_at dksX7_untilNext_3 13 rfl rfl)
theorem dX7_untilNext_83 : decode cX7_untilNext 83 = .ok (.aload_n 0, 1) := dk_42 (dk_at dksX7_untilNext_3 14 rfl rfl)
theorem dX7_untilNext_84 : decode cX7_untilNext 84 = .ok (.iload 5, 2) := dk_21 5 (dk_at dksX7_untilNext_3 15 rfl rfl)
theorem dX7_untilNext_86 : decode cX7_untilNext 86 = .ok (.iconst 1, 1) := dk_4 (dk_at dksX7_untilNext_3 17 rfl rfl)
theorem dX7_untilNext_87 : decode cX7_untilNext 87 = .ok (.invokevirtual 171, 3) := dk_182 0 171 (dk_at dksX7_untilNext_3 18 rfl rfl)
theorem dX7_untilNext_90 : decode cX7_untilNext 90 = .ok (.iload_n 3, 1) := dk_29 (dk_at dksX7_untilNext_3 21 rfl rfl)
theorem dX7_untilNext_91 : decode cX7_untilNext 91 = .ok (.invokevirtual 185, 3) := dk_182 0 185 (dk_at dksX7_untilNext_4 0 rfl rfl)
theorem dX7_untilNext_94 : decode cX7_untilNext 94 = .ok (.istore 6, 2) := dk_54 6 (dk_at dksX7_untilNext_4 3 rfl rfl)
theorem dX7_untilNext_96 : decode cX7_untilNext 96 = .ok (.aload_n 0, 1) := dk_42 (dk_at dksX7_untilNext_4 5 rfl rfl)
theorem dX7_untilNext_97 : decode cX7_untilNext 97 = .ok (.iload 5, 2) := dk_21 5 (dk_at dksX7_untilNext_4 6 rfl rfl)
theorem dX7_untilNext_99 : decode cX7_untilNext 99 = .ok (.iconst 2, 1) := dk_5 (dk_at dksX7_untilNext_4 8 rfl rfl)
theorem dX7_untilNext_100 : decode cX7_untilNext 100 = .ok (.invokevirtual 171, 3) := dk_182 0 171 (dk_at dksX7_untilNext_4 9 rfl rfl)
theorem dX7_untilNext_103 : decode cX7_untilNext 103 = .ok (.iload 6, 2) := dk_21 6 (dk_at dksX7_untilNext_4 12 rfl rfl)
theorem dX7_untilNext_105 : decode cX7_untilNext 105 = .ok (.iadd, 1) := dk_96 (dk_at dksX7_untilNext_4 14 rfl rfl)
theorem dX7_untilNext_106 : decode cX7_untilNext 106 = .ok (.iload_n 2, 1) := dk_28 (dk_at dksX7_untilNext_4 15 rfl rfl)
theorem dX7_untilNext_107 : decode cX7_untilNext 107 = .ok (.isub, 1) := dk_100 (dk_at dksX7_untilNext_4 16 rfl rfl)
theorem dX7_untilNext_108 : decode cX7_untilNext 108 = .ok (.istore 7, 2) := dk_54 7 (dk_at dksX7_untilNext_4 17 rfl rfl)
theorem dX7_untilNext_110 : decode cX7_untilNext 110 = .ok (.iload 4, 2) := dk_21 4 (dk_at dksX7_untilNext_4 19 rfl rfl)
theorem dX7_untilNext_112 : decode cX7_untilNext 112 = .ok (.ifCond .lt 10, 3) := dk_155 0 10 (dk_at dksX7_untilNext_4 21 rfl rfl)
theorem dX7_untilNext_115 : decode cX7_untilNext 115 = .ok (.iload 7, 2) := dk_21 7 (dk_at dksX7_untilNext_5 0 rfl rfl)
theorem dX7_untilNext_117 : decode cX7_untilNext 117 = .ok (.iload 4, 2) := dk_21 4 (dk_at dksX7_untilNext_5 2 rfl rfl)
theorem dX7_untilNext_119 : decode cX7_untilNext 119 = .ok (.if_icmp .ge 8, 3) := dk_162 0 8 (dk_at dksX7_untilNext_5 4 rfl rfl)
theorem dX7_untilNext_122 : decode cX7_untilNext 122 = .ok (.iload 7, 2) := dk_21 7 (dk_at dksX7_untilNext_5 7 rfl rfl)
theorem dX7_untilNext_124 : decode cX7_untilNext 124 = .ok (.goto 5, 3) := dk_167 0 5 (dk_at dksX7_untilNext_5 9 rfl rfl)
theorem dX7_untilNext_127 : decode cX7_untilNext 127 = .ok (.iload 4, 2) := dk_21 4 (dk_at dksX7_untilNext_5 12 rfl rfl)
theorem dX7_untilNext_129 : decode cX7_untilNext 129 = .ok (.istore 4, 2) := dk_54 4 (dk_at dksX7_untilNext_5 14 rfl rfl)
theorem dX7_untilNext_131 : decode cX7_untilNext 131 = .ok (.iinc 5 1, 3) := dk_132 5 1 (dk_at dksX7_untilNext_5 16 rfl rfl)
theorem dX7_untilNext_134 : decode cX7_untilNext 134 = .ok (.goto (-120), 3) := dk_167 255 136 (dk_at dksX7_untilNext_5 19 rfl rfl)
theorem dX7_untilNext_137 : decode cX7_untilNext 137 = .ok (.iload 4, 2) := dk_21 4 (dk_at dksX7_untilNext_5 22 rfl rfl)
theorem dX7_untilNext_139 : decode cX7_untilNext 139 = .ok (.ireturn, 1) := dk_172 (dk_at dksX7_untilNext_6 0 rfl rfl)
abbrev cX7_behind : ByteArray := prog_13_method_21_code
def yX7_behind : MethodName := ⟨RX7, "behind", "(I)I"⟩
def dkwX7_behind_0 : List UInt8 := [27, 4, 96, 42, 180, 0, 113, 160, 0, 7, 3, 167, 0, 6, 27, 4, 96, 172]
abbrev dktX7_behind_0 : List UInt8 := dkwX7_behind_0 ++ []
theorem dksX7_behind_0 : cX7_behind.data.toList.drop 0 = dktX7_behind_0 := by decide +kernel
theorem dX7_behind_0 : decode cX7_behind 0 = .ok (.iload_n 1, 1) := dk_27 (dk_at dksX7_behind_0 0 rfl rfl)
theorem dX7_behind_1 : decode cX7_behind 1 = .ok (.iconst 1, 1) := dk_4 (dk_at dksX7_behind_0 1 rfl rfl)
theorem dX7_behind_2 : decode cX7_behind 2 = .ok (.iadd, 1) := dk_96 (dk_at dksX7_behind_0 2 rfl rfl)
theorem dX7_behind_3 : decode cX7_behind 3 = .ok (.aload_n 0, 1) := dk_42 (dk_at dksX7_behind_0 3 rfl rfl)
theorem dX7_behind_4 : decode cX7_behind 4 = .ok (.getfield 113, 3) := dk_180 0 113 (dk_at dksX7_behind_0 4 rfl rfl)
theorem dX7_behind_7 : decode cX7_behind 7 = .ok (.if_icmp .ne 7, 3) := dk_160 0 7 (dk_at dksX7_behind_0 7 rfl rfl)
theorem dX7_behind_10 : decode cX7_behind 10 = .ok (.iconst 0, 1) := dk_3 (dk_at dksX7_behind_0 10 rfl rfl)
theorem dX7_behind_11 : decode cX7_behind 11 = .ok (.goto 6, 3) := dk_167 0 6 (dk_at dksX7_behind_0 11 rfl rfl)
theorem dX7_behind_14 : decode cX7_behind 14 = .ok (.iload_n 1, 1) := dk_27 (dk_at dksX7_behind_0 14 rfl rfl)
theorem dX7_behind_15 : decode cX7_behind 15 = .ok (.iconst 1, 1) := dk_4 (dk_at dksX7_behind_0 15 rfl rfl)
theorem dX7_behind_16 : decode cX7_behind 16 = .ok (.iadd, 1) := dk_96 (dk_at dksX7_behind_0 16 rfl rfl)
theorem dX7_behind_17 : decode cX7_behind 17 = .ok (.ireturn, 1) := dk_172 (dk_at dksX7_behind_0 17 rfl rfl)
abbrev cX7_way : ByteArray := prog_13_method_22_code
def yX7_way : MethodName := ⟨RX7, "way", "(II)I"⟩
def dkwX7_way_1 : List UInt8 := [182, 0, 177, 54, 4, 167, 255, 232, 29, 172]
abbrev dktX7_way_1 : List UInt8 := dkwX7_way_1 ++ []
def dkwX7_way_0 : List UInt8 := [3, 62, 27, 54, 4, 21, 4, 28, 159, 0, 24, 29, 42, 180, 0, 24, 21, 4, 46, 96, 62, 42, 21, 4]
abbrev dktX7_way_0 : List UInt8 := dkwX7_way_0 ++ dktX7_way_1
theorem dksX7_way_0 : cX7_way.data.toList.drop 0 = dktX7_way_0 := by decide +kernel
theorem dksX7_way_1 : cX7_way.data.toList.drop 24 = dktX7_way_1 := dk_seg dksX7_way_0 24 rfl rfl
theorem dX7_way_0 : decode cX7_way 0 = .ok (.iconst 0, 1) := dk_3 (dk_at dksX7_way_0 0 rfl rfl)
theorem dX7_way_1 : decode cX7_way 1 = .ok (.istore_n 3, 1) := dk_62 (dk_at dksX7_way_0 1 rfl rfl)
theorem dX7_way_2 : decode cX7_way 2 = .ok (.iload_n 1, 1) := dk_27 (dk_at dksX7_way_0 2 rfl rfl)
theorem dX7_way_3 : decode cX7_way 3 = .ok (.istore 4, 2) := dk_54 4 (dk_at dksX7_way_0 3 rfl rfl)
theorem dX7_way_5 : decode cX7_way 5 = .ok (.iload 4, 2) := dk_21 4 (dk_at dksX7_way_0 5 rfl rfl)
theorem dX7_way_7 : decode cX7_way 7 = .ok (.iload_n 2, 1) := dk_28 (dk_at dksX7_way_0 7 rfl rfl)
theorem dX7_way_8 : decode cX7_way 8 = .ok (.if_icmp .eq 24, 3) := dk_159 0 24 (dk_at dksX7_way_0 8 rfl rfl)
theorem dX7_way_11 : decode cX7_way 11 = .ok (.iload_n 3, 1) := dk_29 (dk_at dksX7_way_0 11 rfl rfl)
theorem dX7_way_12 : decode cX7_way 12 = .ok (.aload_n 0, 1) := dk_42 (dk_at dksX7_way_0 12 rfl rfl)
theorem dX7_way_13 : decode cX7_way 13 = .ok (.getfield 24, 3) := dk_180 0 24 (dk_at dksX7_way_0 13 rfl rfl)
theorem dX7_way_16 : decode cX7_way 16 = .ok (.iload 4, 2) := dk_21 4 (dk_at dksX7_way_0 16 rfl rfl)
theorem dX7_way_18 : decode cX7_way 18 = .ok (.iaload, 1) := dk_46 (dk_at dksX7_way_0 18 rfl rfl)
theorem dX7_way_19 : decode cX7_way 19 = .ok (.iadd, 1) := dk_96 (dk_at dksX7_way_0 19 rfl rfl)
theorem dX7_way_20 : decode cX7_way 20 = .ok (.istore_n 3, 1) := dk_62 (dk_at dksX7_way_0 20 rfl rfl)
theorem dX7_way_21 : decode cX7_way 21 = .ok (.aload_n 0, 1) := dk_42 (dk_at dksX7_way_0 21 rfl rfl)
theorem dX7_way_22 : decode cX7_way 22 = .ok (.iload 4, 2) := dk_21 4 (dk_at dksX7_way_0 22 rfl rfl)
theorem dX7_way_24 : decode cX7_way 24 = .ok (.invokevirtual 177, 3) := dk_182 0 177 (dk_at dksX7_way_1 0 rfl rfl)
theorem dX7_way_27 : decode cX7_way 27 = .ok (.istore 4, 2) := dk_54 4 (dk_at dksX7_way_1 3 rfl rfl)
theorem dX7_way_29 : decode cX7_way 29 = .ok (.goto (-24), 3) := dk_167 255 232 (dk_at dksX7_way_1 5 rfl rfl)
theorem dX7_way_32 : decode cX7_way 32 = .ok (.iload_n 3, 1) := dk_29 (dk_at dksX7_way_1 8 rfl rfl)
theorem dX7_way_33 : decode cX7_way 33 = .ok (.ireturn, 1) := dk_172 (dk_at dksX7_way_1 9 rfl rfl)
abbrev cX7_leaves : ByteArray := prog_13_method_32_code
def yX7_leaves : MethodName := ⟨RX7, "leaves", "(II)V"⟩
def dkwX7_leaves_11 : List UInt8 := [46, 96, 182, 0, 139, 42, 27, 28, 182, 0, 198, 177]
abbrev dktX7_leaves_11 : List UInt8 := dkwX7_leaves_11 ++ []
def dkwX7_leaves_10 : List UInt8 := [180, 0, 36, 27, 46, 42, 27, 6, 182, 0, 171, 42, 180, 0, 51, 8, 46, 104, 96, 42, 180, 0, 27, 29]
abbrev dktX7_leaves_10 : List UInt8 := dkwX7_leaves_10 ++ dktX7_leaves_11
def dkwX7_leaves_9 : List UInt8 := [42, 27, 29, 28, 21, 5, 182, 0, 223, 42, 27, 16, 10, 28, 182, 0, 139, 42, 27, 16, 11, 42]
abbrev dktX7_leaves_9 : List UInt8 := dkwX7_leaves_9 ++ dktX7_leaves_10
def dkwX7_leaves_8 : List UInt8 := [182, 0, 139, 42, 180, 0, 51, 16, 7, 92, 46, 4, 96, 79, 42, 28, 4, 27, 29, 21, 5, 182, 0, 210]
abbrev dktX7_leaves_8 : List UInt8 := dkwX7_leaves_8 ++ dktX7_leaves_9
def dkwX7_leaves_7 : List UInt8 := [180, 0, 51, 5, 46, 161, 0, 41, 42, 27, 8, 182, 0, 171, 4, 160, 0, 31, 42, 27, 8, 3]
abbrev dktX7_leaves_7 : List UInt8 := dkwX7_leaves_7 ++ dktX7_leaves_8
def dkwX7_leaves_6 : List UInt8 := [42, 28, 3, 27, 29, 21, 5, 182, 0, 210, 167, 0, 59, 21, 5, 155, 0, 54, 5, 21, 5, 104, 42]
abbrev dktX7_leaves_6 : List UInt8 := dkwX7_leaves_6 ++ dktX7_leaves_7
def dkwX7_leaves_5 : List UInt8 := [182, 0, 171, 154, 0, 34, 42, 27, 8, 4, 182, 0, 139, 42, 180, 0, 51, 16, 6, 92, 46, 4, 96, 79]
abbrev dktX7_leaves_5 : List UInt8 := dkwX7_leaves_5 ++ dktX7_leaves_6
def dkwX7_leaves_4 : List UInt8 := [54, 5, 21, 5, 155, 0, 56, 7, 21, 5, 104, 42, 180, 0, 51, 5, 46, 162, 0, 43, 42, 27, 8]
abbrev dktX7_leaves_4 : List UInt8 := dkwX7_leaves_4 ++ dktX7_leaves_5
def dkwX7_leaves_3 : List UInt8 := [16, 33, 29, 96, 46, 156, 0, 8, 16, 254, 167, 0, 14, 28, 42, 180, 0, 51, 16, 33, 29, 96, 46, 100]
abbrev dktX7_leaves_3 : List UInt8 := dkwX7_leaves_3 ++ dktX7_leaves_4
def dkwX7_leaves_2 : List UInt8 := [158, 0, 20, 42, 28, 7, 27, 29, 42, 180, 0, 51, 16, 23, 29, 96, 46, 182, 0, 210, 42, 180, 0, 51]
abbrev dktX7_leaves_2 : List UInt8 := dkwX7_leaves_2 ++ dktX7_leaves_3
def dkwX7_leaves_1 : List UInt8 := [7, 182, 0, 171, 42, 180, 0, 33, 27, 46, 160, 0, 32, 42, 180, 0, 51, 16, 23, 29, 96, 46]
abbrev dktX7_leaves_1 : List UInt8 := dkwX7_leaves_1 ++ dktX7_leaves_2
def dkwX7_leaves_0 : List UInt8 := [42, 27, 4, 182, 0, 171, 62, 42, 29, 28, 182, 0, 195, 42, 27, 29, 28, 182, 0, 204, 54, 4, 42, 27]
abbrev dktX7_leaves_0 : List UInt8 := dkwX7_leaves_0 ++ dktX7_leaves_1
theorem dksX7_leaves_0 : cX7_leaves.data.toList.drop 0 = dktX7_leaves_0 := by decide +kernel
theorem dksX7_leaves_1 : cX7_leaves.data.toList.drop 24 = dktX7_leaves_1 := dk_seg dksX7_leaves_0 24 rfl rfl
theorem dksX7_leaves_2 : cX7_leaves.data.toList.drop 46 = dktX7_leaves_2 := dk_seg dksX7_leaves_1 22 rfl rfl
theorem dksX7_leaves_3 : cX7_leaves.data.toList.drop 70 = dktX7_leaves_3 := dk_seg dksX7_leaves_2 24 rfl rfl
theorem dksX7_leaves_4 : cX7_leaves.data.toList.drop 94 = dktX7_leaves_4 := dk_seg dksX7_leaves_3 24 rfl rfl
theorem dksX7_leaves_5 : cX7_leaves.data.toList.drop 117 = dktX7_leaves_5 := dk_seg dksX7_leaves_4 23 rfl rfl
theorem dksX7_leaves_6 : cX7_leaves.data.toList.drop 141 = dktX7_leaves_6 := dk_seg dksX7_leaves_5 24 rfl rfl
theorem dksX7_leaves_7 : cX7_leaves.data.toList.drop 164 = dktX7_leaves_7 := dk_seg dksX7_leaves_6 23 rfl rfl
theorem dksX7_leaves_8 : cX7_leaves.data.toList.drop 186 = dktX7_leaves_8 := dk_seg dksX7_leaves_7 22 rfl rfl
theorem dksX7_leaves_9 : cX7_leaves.data.toList.drop 210 = dktX7_leaves_9 := dk_seg dksX7_leaves_8 24 rfl rfl
theorem dksX7_leaves_10 : cX7_leaves.data.toList.drop 232 = dktX7_leaves_10 := dk_seg dksX7_leaves_9 22 rfl rfl
theorem dksX7_leaves_11 : cX7_leaves.data.toList.drop 256 = dktX7_leaves_11 := dk_seg dksX7_leaves_10 24 rfl rfl
theorem dX7_leaves_0 : decode cX7_leaves 0 = .ok (.aload_n 0, 1) := dk_42 (dk_at dksX7_leaves_0 0 rfl rfl)
theorem dX7_leaves_1 : decode cX7_leaves 1 = .ok (.iload_n 1, 1) := dk_27 (dk_at dksX7_leaves_0 1 rfl rfl)
theorem dX7_leaves_2 : decode cX7_leaves 2 = .ok (.iconst 1, 1) := dk_4 (dk_at dksX7_leaves_0 2 rfl rfl)
theorem dX7_leaves_3 : decode cX7_leaves 3 = .ok (.invokevirtual 171, 3) := dk_182 0 171 (dk_at dksX7_leaves_0 3 rfl rfl)
theorem dX7_leaves_6 : decode cX7_leaves 6 = .ok (.istore_n 3, 1) := dk_62 (dk_at dksX7_leaves_0 6 rfl rfl)
theorem dX7_leaves_7 : decode cX7_leaves 7 = .ok (.aload_n 0, 1) := dk_42 (dk_at dksX7_leaves_0 7 rfl rfl)
theorem dX7_leaves_8 : decode cX7_leaves 8 = .ok (.iload_n 3, 1) := dk_29 (dk_at dksX7_leaves_0 8 rfl rfl)
theorem dX7_leaves_9 : decode cX7_leaves 9 = .ok (.iload_n 2, 1) := dk_28 (dk_at dksX7_leaves_0 9 rfl rfl)
theorem dX7_leaves_10 : decode cX7_leaves 10 = .ok (.invokevirtual 195, 3) := dk_182 0 195 (dk_at dksX7_leaves_0 10 rfl rfl)
theorem dX7_leaves_13 : decode cX7_leaves 13 = .ok (.aload_n 0, 1) := dk_42 (dk_at dksX7_leaves_0 13 rfl rfl)
theorem dX7_leaves_14 : decode cX7_leaves 14 = .ok (.iload_n 1, 1) := dk_27 (dk_at dksX7_leaves_0 14 rfl rfl)
theorem dX7_leaves_15 : decode cX7_leaves 15 = .ok (.iload_n 3, 1) := dk_29 (dk_at dksX7_leaves_0 15 rfl rfl)
theorem dX7_leaves_16 : decode cX7_leaves 16 = .ok (.iload_n 2, 1) := dk_28 (dk_at dksX7_leaves_0 16 rfl rfl)
theorem dX7_leaves_17 : decode cX7_leaves 17 = .ok (.invokevirtual 204, 3) := dk_182 0 204 (dk_at dksX7_leaves_0 17 rfl rfl)
theorem dX7_leaves_20 : decode cX7_leaves 20 = .ok (.istore 4, 2) := dk_54 4 (dk_at dksX7_leaves_0 20 rfl rfl)
theorem dX7_leaves_22 : decode cX7_leaves 22 = .ok (.aload_n 0, 1) := dk_42 (dk_at dksX7_leaves_0 22 rfl rfl)
theorem dX7_leaves_23 : decode cX7_leaves 23 = .ok (.iload_n 1, 1) := dk_27 (dk_at dksX7_leaves_0 23 rfl rfl)
theorem dX7_leaves_24 : decode cX7_leaves 24 = .ok (.iconst 4, 1) := dk_7 (dk_at dksX7_leaves_1 0 rfl rfl)
theorem dX7_leaves_25 : decode cX7_leaves 25 = .ok (.invokevirtual 171, 3) := dk_182 0 171 (dk_at dksX7_leaves_1 1 rfl rfl)
theorem dX7_leaves_28 : decode cX7_leaves 28 = .ok (.aload_n 0, 1) := dk_42 (dk_at dksX7_leaves_1 4 rfl rfl)
theorem dX7_leaves_29 : decode cX7_leaves 29 = .ok (.getfield 33, 3) := dk_180 0 33 (dk_at dksX7_leaves_1 5 rfl rfl)
theorem dX7_leaves_32 : decode cX7_leaves 32 = .ok (.iload_n 1, 1) := dk_27 (dk_at dksX7_leaves_1 8 rfl rfl)
theorem dX7_leaves_33 : decode cX7_leaves 33 = .ok (.iaload, 1) := dk_46 (dk_at dksX7_leaves_1 9 rfl rfl)
theorem dX7_leaves_34 : decode cX7_leaves 34 = .ok (.if_icmp .ne 32, 3) := dk_160 0 32 (dk_at dksX7_leaves_1 10 rfl rfl)
theorem dX7_leaves_37 : decode cX7_leaves 37 = .ok (.aload_n 0, 1) := dk_42 (dk_at dksX7_leaves_1 13 rfl rfl)
theorem dX7_leaves_38 : decode cX7_leaves 38 = .ok (.getfield 51, 3) := dk_180 0 51 (dk_at dksX7_leaves_1 14 rfl rfl)
theorem dX7_leaves_41 : decode cX7_leaves 41 = .ok (.bipush 23, 2) := dk_16 23 (dk_at dksX7_leaves_1 17 rfl rfl)
theorem dX7_leaves_43 : decode cX7_leaves 43 = .ok (.iload_n 3, 1) := dk_29 (dk_at dksX7_leaves_1 19 rfl rfl)
theorem dX7_leaves_44 : decode cX7_leaves 44 = .ok (.iadd, 1) := dk_96 (dk_at dksX7_leaves_1 20 rfl rfl)
theorem dX7_leaves_45 : decode cX7_leaves 45 = .ok (.iaload, 1) := dk_46 (dk_at dksX7_leaves_1 21 rfl rfl)
theorem dX7_leaves_46 : decode cX7_leaves 46 = .ok (.ifCond .le 20, 3) := dk_158 0 20 (dk_at dksX7_leaves_2 0 rfl rfl)
theorem dX7_leaves_49 : decode cX7_leaves 49 = .ok (.aload_n 0, 1) := dk_42 (dk_at dksX7_leaves_2 3 rfl rfl)
theorem dX7_leaves_50 : decode cX7_leaves 50 = .ok (.iload_n 2, 1) := dk_28 (dk_at dksX7_leaves_2 4 rfl rfl)
theorem dX7_leaves_51 : decode cX7_leaves 51 = .ok (.iconst 4, 1) := dk_7 (dk_at dksX7_leaves_2 5 rfl rfl)
theorem dX7_leaves_52 : decode cX7_leaves 52 = .ok (.iload_n 1, 1) := dk_27 (dk_at dksX7_leaves_2 6 rfl rfl)
theorem dX7_leaves_53 : decode cX7_leaves 53 = .ok (.iload_n 3, 1) := dk_29 (dk_at dksX7_leaves_2 7 rfl rfl)
theorem dX7_leaves_54 : decode cX7_leaves 54 = .ok (.aload_n 0, 1) := dk_42 (dk_at dksX7_leaves_2 8 rfl rfl)
theorem dX7_leaves_55 : decode cX7_leaves 55 = .ok (.getfield 51, 3) := dk_180 0 51 (dk_at dksX7_leaves_2 9 rfl rfl)
theorem dX7_leaves_58 : decode cX7_leaves 58 = .ok (.bipush 23, 2) := dk_16 23 (dk_at dksX7_leaves_2 12 rfl rfl)
theorem dX7_leaves_60 : decode cX7_leaves 60 = .ok (.iload_n 3, 1) := dk_29 (dk_at dksX7_leaves_2 14 rfl rfl)
theorem dX7_leaves_61 : decode cX7_leaves 61 = .ok (.iadd, 1) := dk_96 (dk_at dksX7_leaves_2 15 rfl rfl)
theorem dX7_leaves_62 : decode cX7_leaves 62 = .ok (.iaload, 1) := dk_46 (dk_at dksX7_leaves_2 16 rfl rfl)
theorem dX7_leaves_63 : decode cX7_leaves 63 = .ok (.invokevirtual 210, 3) := dk_182 0 210 (dk_at dksX7_leaves_2 17 rfl rfl)
theorem dX7_leaves_66 : decode cX7_leaves 66 = .ok (.aload_n 0, 1) := dk_42 (dk_at dksX7_leaves_2 20 rfl rfl)
theorem dX7_leaves_67 : decode cX7_leaves 67 = .ok (.getfield 51, 3) := dk_180 0 51 (dk_at dksX7_leaves_2 21 rfl rfl)
theorem dX7_leaves_70 : decode cX7_leaves 70 = .ok (.bipush 33, 2) := dk_16 33 (dk_at dksX7_leaves_3 0 rfl rfl)
theorem dX7_leaves_72 : decode cX7_leaves 72 = .ok (.iload_n 3, 1) := dk_29 (dk_at dksX7_leaves_3 2 rfl rfl)
theorem dX7_leaves_73 : decode cX7_leaves 73 = .ok (.iadd, 1) := dk_96 (dk_at dksX7_leaves_3 3 rfl rfl)
theorem dX7_leaves_74 : decode cX7_leaves 74 = .ok (.iaload, 1) := dk_46 (dk_at dksX7_leaves_3 4 rfl rfl)
theorem dX7_leaves_75 : decode cX7_leaves 75 = .ok (.ifCond .ge 8, 3) := dk_156 0 8 (dk_at dksX7_leaves_3 5 rfl rfl)
theorem dX7_leaves_78 : decode cX7_leaves 78 = .ok (.bipush (-2), 2) := dk_16 254 (dk_at dksX7_leaves_3 8 rfl rfl)
theorem dX7_leaves_80 : decode cX7_leaves 80 = .ok (.goto 14, 3) := dk_167 0 14 (dk_at dksX7_leaves_3 10 rfl rfl)
theorem dX7_leaves_83 : decode cX7_leaves 83 = .ok (.iload_n 2, 1) := dk_28 (dk_at dksX7_leaves_3 13 rfl rfl)
theorem dX7_leaves_84 : decode cX7_leaves 84 = .ok (.aload_n 0, 1) := dk_42 (dk_at dksX7_leaves_3 14 rfl rfl)
theorem dX7_leaves_85 : decode cX7_leaves 85 = .ok (.getfield 51, 3) := dk_180 0 51 (dk_at dksX7_leaves_3 15 rfl rfl)
theorem dX7_leaves_88 : decode cX7_leaves 88 = .ok (.bipush 33, 2) := dk_16 33 (dk_at dksX7_leaves_3 18 rfl rfl)
theorem dX7_leaves_90 : decode cX7_leaves 90 = .ok (.iload_n 3, 1) := dk_29 (dk_at dksX7_leaves_3 20 rfl rfl)
theorem dX7_leaves_91 : decode cX7_leaves 91 = .ok (.iadd, 1) := dk_96 (dk_at dksX7_leaves_3 21 rfl rfl)
theorem dX7_leaves_92 : decode cX7_leaves 92 = .ok (.iaload, 1) := dk_46 (dk_at dksX7_leaves_3 22 rfl rfl)
theorem dX7_leaves_93 : decode cX7_leaves 93 = .ok (.isub, 1) := dk_100 (dk_at dksX7_leaves_3 23 rfl rfl)
theorem dX7_leaves_94 : decode cX7_leaves 94 = .ok (.istore 5, 2) := dk_54 5 (dk_at dksX7_leaves_4 0 rfl rfl)
theorem dX7_leaves_96 : decode cX7_leaves 96 = .ok (.iload 5, 2) := dk_21 5 (dk_at dksX7_leaves_4 2 rfl rfl)
theorem dX7_leaves_98 : decode cX7_leaves 98 = .ok (.ifCond .lt 56, 3) := dk_155 0 56 (dk_at dksX7_leaves_4 4 rfl rfl)
theorem dX7_leaves_101 : decode cX7_leaves 101 = .ok (.iconst 4, 1) := dk_7 (dk_at dksX7_leaves_4 7 rfl rfl)
theorem dX7_leaves_102 : decode cX7_leaves 102 = .ok (.iload 5, 2) := dk_21 5 (dk_at dksX7_leaves_4 8 rfl rfl)
theorem dX7_leaves_104 : decode cX7_leaves 104 = .ok (.imul, 1) := dk_104 (dk_at dksX7_leaves_4 10 rfl rfl)
theorem dX7_leaves_105 : decode cX7_leaves 105 = .ok (.aload_n 0, 1) := dk_42 (dk_at dksX7_leaves_4 11 rfl rfl)
theorem dX7_leaves_106 : decode cX7_leaves 106 = .ok (.getfield 51, 3) := dk_180 0 51 (dk_at dksX7_leaves_4 12 rfl rfl)
theorem dX7_leaves_109 : decode cX7_leaves 109 = .ok (.iconst 2, 1) := dk_5 (dk_at dksX7_leaves_4 15 rfl rfl)
theorem dX7_leaves_110 : decode cX7_leaves 110 = .ok (.iaload, 1) := dk_46 (dk_at dksX7_leaves_4 16 rfl rfl)
theorem dX7_leaves_111 : decode cX7_leaves 111 = .ok (.if_icmp .ge 43, 3) := dk_162 0 43 (dk_at dksX7_leaves_4 17 rfl rfl)
theorem dX7_leaves_114 : decode cX7_leaves 114 = .ok (.aload_n 0, 1) := dk_42 (dk_at dksX7_leaves_4 20 rfl rfl)
theorem dX7_leaves_115 : decode cX7_leaves 115 = .ok (.iload_n 1, 1) := dk_27 (dk_at dksX7_leaves_4 21 rfl rfl)
theorem dX7_leaves_116 : decode cX7_leaves 116 = .ok (.iconst 5, 1) := dk_8 (dk_at dksX7_leaves_4 22 rfl rfl)
theorem dX7_leaves_117 : decode cX7_leaves 117 = .ok (.invokevirtual 171, 3) := dk_182 0 171 (dk_at dksX7_leaves_5 0 rfl rfl)
theorem dX7_leaves_120 : decode cX7_leaves 120 = .ok (.ifCond .ne 34, 3) := dk_154 0 34 (dk_at dksX7_leaves_5 3 rfl rfl)
theorem dX7_leaves_123 : decode cX7_leaves 123 = .ok (.aload_n 0, 1) := dk_42 (dk_at dksX7_leaves_5 6 rfl rfl)
theorem dX7_leaves_124 : decode cX7_leaves 124 = .ok (.iload_n 1, 1) := dk_27 (dk_at dksX7_leaves_5 7 rfl rfl)
theorem dX7_leaves_125 : decode cX7_leaves 125 = .ok (.iconst 5, 1) := dk_8 (dk_at dksX7_leaves_5 8 rfl rfl)
theorem dX7_leaves_126 : decode cX7_leaves 126 = .ok (.iconst 1, 1) := dk_4 (dk_at dksX7_leaves_5 9 rfl rfl)
theorem dX7_leaves_127 : decode cX7_leaves 127 = .ok (.invokevirtual 139, 3) := dk_182 0 139 (dk_at dksX7_leaves_5 10 rfl rfl)
theorem dX7_leaves_130 : decode cX7_leaves 130 = .ok (.aload_n 0, 1) := dk_42 (dk_at dksX7_leaves_5 13 rfl rfl)
theorem dX7_leaves_131 : decode cX7_leaves 131 = .ok (.getfield 51, 3) := dk_180 0 51 (dk_at dksX7_leaves_5 14 rfl rfl)
theorem dX7_leaves_134 : decode cX7_leaves 134 = .ok (.bipush 6, 2) := dk_16 6 (dk_at dksX7_leaves_5 17 rfl rfl)
theorem dX7_leaves_136 : decode cX7_leaves 136 = .ok (.dup2, 1) := dk_92 (dk_at dksX7_leaves_5 19 rfl rfl)
theorem dX7_leaves_137 : decode cX7_leaves 137 = .ok (.iaload, 1) := dk_46 (dk_at dksX7_leaves_5 20 rfl rfl)
theorem dX7_leaves_138 : decode cX7_leaves 138 = .ok (.iconst 1, 1) := dk_4 (dk_at dksX7_leaves_5 21 rfl rfl)
theorem dX7_leaves_139 : decode cX7_leaves 139 = .ok (.iadd, 1) := dk_96 (dk_at dksX7_leaves_5 22 rfl rfl)
theorem dX7_leaves_140 : decode cX7_leaves 140 = .ok (.iastore, 1) := dk_79 (dk_at dksX7_leaves_5 23 rfl rfl)
theorem dX7_leaves_141 : decode cX7_leaves 141 = .ok (.aload_n 0, 1) := dk_42 (dk_at dksX7_leaves_6 0 rfl rfl)
theorem dX7_leaves_142 : decode cX7_leaves 142 = .ok (.iload_n 2, 1) := dk_28 (dk_at dksX7_leaves_6 1 rfl rfl)
theorem dX7_leaves_143 : decode cX7_leaves 143 = .ok (.iconst 0, 1) := dk_3 (dk_at dksX7_leaves_6 2 rfl rfl)
theorem dX7_leaves_144 : decode cX7_leaves 144 = .ok (.iload_n 1, 1) := dk_27 (dk_at dksX7_leaves_6 3 rfl rfl)
theorem dX7_leaves_145 : decode cX7_leaves 145 = .ok (.iload_n 3, 1) := dk_29 (dk_at dksX7_leaves_6 4 rfl rfl)
theorem dX7_leaves_146 : decode cX7_leaves 146 = .ok (.iload 5, 2) := dk_21 5 (dk_at dksX7_leaves_6 5 rfl rfl)
theorem dX7_leaves_148 : decode cX7_leaves 148 = .ok (.invokevirtual 210, 3) := dk_182 0 210 (dk_at dksX7_leaves_6 7 rfl rfl)
theorem dX7_leaves_151 : decode cX7_leaves 151 = .ok (.goto 59, 3) := dk_167 0 59 (dk_at dksX7_leaves_6 10 rfl rfl)
theorem dX7_leaves_154 : decode cX7_leaves 154 = .ok (.iload 5, 2) := dk_21 5 (dk_at dksX7_leaves_6 13 rfl rfl)
theorem dX7_leaves_156 : decode cX7_leaves 156 = .ok (.ifCond .lt 54, 3) := dk_155 0 54 (dk_at dksX7_leaves_6 15 rfl rfl)
theorem dX7_leaves_159 : decode cX7_leaves 159 = .ok (.iconst 2, 1) := dk_5 (dk_at dksX7_leaves_6 18 rfl rfl)
theorem dX7_leaves_160 : decode cX7_leaves 160 = .ok (.iload 5, 2) := dk_21 5 (dk_at dksX7_leaves_6 19 rfl rfl)
theorem dX7_leaves_162 : decode cX7_leaves 162 = .ok (.imul, 1) := dk_104 (dk_at dksX7_leaves_6 21 rfl rfl)
theorem dX7_leaves_163 : decode cX7_leaves 163 = .ok (.aload_n 0, 1) := dk_42 (dk_at dksX7_leaves_6 22 rfl rfl)
theorem dX7_leaves_164 : decode cX7_leaves 164 = .ok (.getfield 51, 3) := dk_180 0 51 (dk_at dksX7_leaves_7 0 rfl rfl)
theorem dX7_leaves_167 : decode cX7_leaves 167 = .ok (.iconst 2, 1) := dk_5 (dk_at dksX7_leaves_7 3 rfl rfl)
theorem dX7_leaves_168 : decode cX7_leaves 168 = .ok (.iaload, 1) := dk_46 (dk_at dksX7_leaves_7 4 rfl rfl)
theorem dX7_leaves_169 : decode cX7_leaves 169 = .ok (.if_icmp .lt 41, 3) := dk_161 0 41 (dk_at dksX7_leaves_7 5 rfl rfl)
theorem dX7_leaves_172 : decode cX7_leaves 172 = .ok (.aload_n 0, 1) := dk_42 (dk_at dksX7_leaves_7 8 rfl rfl)
theorem dX7_leaves_173 : decode cX7_leaves 173 = .ok (.iload_n 1, 1) := dk_27 (dk_at dksX7_leaves_7 9 rfl rfl)
theorem dX7_leaves_174 : decode cX7_leaves 174 = .ok (.iconst 5, 1) := dk_8 (dk_at dksX7_leaves_7 10 rfl rfl)
theorem dX7_leaves_175 : decode cX7_leaves 175 = .ok (.invokevirtual 171, 3) := dk_182 0 171 (dk_at dksX7_leaves_7 11 rfl rfl)
theorem dX7_leaves_178 : decode cX7_leaves 178 = .ok (.iconst 1, 1) := dk_4 (dk_at dksX7_leaves_7 14 rfl rfl)
theorem dX7_leaves_179 : decode cX7_leaves 179 = .ok (.if_icmp .ne 31, 3) := dk_160 0 31 (dk_at dksX7_leaves_7 15 rfl rfl)
theorem dX7_leaves_182 : decode cX7_leaves 182 = .ok (.aload_n 0, 1) := dk_42 (dk_at dksX7_leaves_7 18 rfl rfl)
theorem dX7_leaves_183 : decode cX7_leaves 183 = .ok (.iload_n 1, 1) := dk_27 (dk_at dksX7_leaves_7 19 rfl rfl)
theorem dX7_leaves_184 : decode cX7_leaves 184 = .ok (.iconst 5, 1) := dk_8 (dk_at dksX7_leaves_7 20 rfl rfl)
theorem dX7_leaves_185 : decode cX7_leaves 185 = .ok (.iconst 0, 1) := dk_3 (dk_at dksX7_leaves_7 21 rfl rfl)
theorem dX7_leaves_186 : decode cX7_leaves 186 = .ok (.invokevirtual 139, 3) := dk_182 0 139 (dk_at dksX7_leaves_8 0 rfl rfl)
theorem dX7_leaves_189 : decode cX7_leaves 189 = .ok (.aload_n 0, 1) := dk_42 (dk_at dksX7_leaves_8 3 rfl rfl)
theorem dX7_leaves_190 : decode cX7_leaves 190 = .ok (.getfield 51, 3) := dk_180 0 51 (dk_at dksX7_leaves_8 4 rfl rfl)
theorem dX7_leaves_193 : decode cX7_leaves 193 = .ok (.bipush 7, 2) := dk_16 7 (dk_at dksX7_leaves_8 7 rfl rfl)
theorem dX7_leaves_195 : decode cX7_leaves 195 = .ok (.dup2, 1) := dk_92 (dk_at dksX7_leaves_8 9 rfl rfl)
theorem dX7_leaves_196 : decode cX7_leaves 196 = .ok (.iaload, 1) := dk_46 (dk_at dksX7_leaves_8 10 rfl rfl)
theorem dX7_leaves_197 : decode cX7_leaves 197 = .ok (.iconst 1, 1) := dk_4 (dk_at dksX7_leaves_8 11 rfl rfl)
theorem dX7_leaves_198 : decode cX7_leaves 198 = .ok (.iadd, 1) := dk_96 (dk_at dksX7_leaves_8 12 rfl rfl)
theorem dX7_leaves_199 : decode cX7_leaves 199 = .ok (.iastore, 1) := dk_79 (dk_at dksX7_leaves_8 13 rfl rfl)
theorem dX7_leaves_200 : decode cX7_leaves 200 = .ok (.aload_n 0, 1) := dk_42 (dk_at dksX7_leaves_8 14 rfl rfl)
theorem dX7_leaves_201 : decode cX7_leaves 201 = .ok (.iload_n 2, 1) := dk_28 (dk_at dksX7_leaves_8 15 rfl rfl)
theorem dX7_leaves_202 : decode cX7_leaves 202 = .ok (.iconst 1, 1) := dk_4 (dk_at dksX7_leaves_8 16 rfl rfl)
theorem dX7_leaves_203 : decode cX7_leaves 203 = .ok (.iload_n 1, 1) := dk_27 (dk_at dksX7_leaves_8 17 rfl rfl)
theorem dX7_leaves_204 : decode cX7_leaves 204 = .ok (.iload_n 3, 1) := dk_29 (dk_at dksX7_leaves_8 18 rfl rfl)
theorem dX7_leaves_205 : decode cX7_leaves 205 = .ok (.iload 5, 2) := dk_21 5 (dk_at dksX7_leaves_8 19 rfl rfl)
theorem dX7_leaves_207 : decode cX7_leaves 207 = .ok (.invokevirtual 210, 3) := dk_182 0 210 (dk_at dksX7_leaves_8 21 rfl rfl)
theorem dX7_leaves_210 : decode cX7_leaves 210 = .ok (.aload_n 0, 1) := dk_42 (dk_at dksX7_leaves_9 0 rfl rfl)
theorem dX7_leaves_211 : decode cX7_leaves 211 = .ok (.iload_n 1, 1) := dk_27 (dk_at dksX7_leaves_9 1 rfl rfl)
theorem dX7_leaves_212 : decode cX7_leaves 212 = .ok (.iload_n 3, 1) := dk_29 (dk_at dksX7_leaves_9 2 rfl rfl)
theorem dX7_leaves_213 : decode cX7_leaves 213 = .ok (.iload_n 2, 1) := dk_28 (dk_at dksX7_leaves_9 3 rfl rfl)
theorem dX7_leaves_214 : decode cX7_leaves 214 = .ok (.iload 5, 2) := dk_21 5 (dk_at dksX7_leaves_9 4 rfl rfl)
theorem dX7_leaves_216 : decode cX7_leaves 216 = .ok (.invokevirtual 223, 3) := dk_182 0 223 (dk_at dksX7_leaves_9 6 rfl rfl)
theorem dX7_leaves_219 : decode cX7_leaves 219 = .ok (.aload_n 0, 1) := dk_42 (dk_at dksX7_leaves_9 9 rfl rfl)
theorem dX7_leaves_220 : decode cX7_leaves 220 = .ok (.iload_n 1, 1) := dk_27 (dk_at dksX7_leaves_9 10 rfl rfl)
theorem dX7_leaves_221 : decode cX7_leaves 221 = .ok (.bipush 10, 2) := dk_16 10 (dk_at dksX7_leaves_9 11 rfl rfl)
theorem dX7_leaves_223 : decode cX7_leaves 223 = .ok (.iload_n 2, 1) := dk_28 (dk_at dksX7_leaves_9 13 rfl rfl)
theorem dX7_leaves_224 : decode cX7_leaves 224 = .ok (.invokevirtual 139, 3) := dk_182 0 139 (dk_at dksX7_leaves_9 14 rfl rfl)
theorem dX7_leaves_227 : decode cX7_leaves 227 = .ok (.aload_n 0, 1) := dk_42 (dk_at dksX7_leaves_9 17 rfl rfl)
theorem dX7_leaves_228 : decode cX7_leaves 228 = .ok (.iload_n 1, 1) := dk_27 (dk_at dksX7_leaves_9 18 rfl rfl)
theorem dX7_leaves_229 : decode cX7_leaves 229 = .ok (.bipush 11, 2) := dk_16 11 (dk_at dksX7_leaves_9 19 rfl rfl)
theorem dX7_leaves_231 : decode cX7_leaves 231 = .ok (.aload_n 0, 1) := dk_42 (dk_at dksX7_leaves_9 21 rfl rfl)
theorem dX7_leaves_232 : decode cX7_leaves 232 = .ok (.getfield 36, 3) := dk_180 0 36 (dk_at dksX7_leaves_10 0 rfl rfl)
theorem dX7_leaves_235 : decode cX7_leaves 235 = .ok (.iload_n 1, 1) := dk_27 (dk_at dksX7_leaves_10 3 rfl rfl)
theorem dX7_leaves_236 : decode cX7_leaves 236 = .ok (.iaload, 1) := dk_46 (dk_at dksX7_leaves_10 4 rfl rfl)
theorem dX7_leaves_237 : decode cX7_leaves 237 = .ok (.aload_n 0, 1) := dk_42 (dk_at dksX7_leaves_10 5 rfl rfl)
theorem dX7_leaves_238 : decode cX7_leaves 238 = .ok (.iload_n 1, 1) := dk_27 (dk_at dksX7_leaves_10 6 rfl rfl)
theorem dX7_leaves_239 : decode cX7_leaves 239 = .ok (.iconst 3, 1) := dk_6 (dk_at dksX7_leaves_10 7 rfl rfl)
theorem dX7_leaves_240 : decode cX7_leaves 240 = .ok (.invokevirtual 171, 3) := dk_182 0 171 (dk_at dksX7_leaves_10 8 rfl rfl)
theorem dX7_leaves_243 : decode cX7_leaves 243 = .ok (.aload_n 0, 1) := dk_42 (dk_at dksX7_leaves_10 11 rfl rfl)
theorem dX7_leaves_244 : decode cX7_leaves 244 = .ok (.getfield 51, 3) := dk_180 0 51 (dk_at dksX7_leaves_10 12 rfl rfl)
theorem dX7_leaves_247 : decode cX7_leaves 247 = .ok (.iconst 5, 1) := dk_8 (dk_at dksX7_leaves_10 15 rfl rfl)
theorem dX7_leaves_248 : decode cX7_leaves 248 = .ok (.iaload, 1) := dk_46 (dk_at dksX7_leaves_10 16 rfl rfl)
theorem dX7_leaves_249 : decode cX7_leaves 249 = .ok (.imul, 1) := dk_104 (dk_at dksX7_leaves_10 17 rfl rfl)
theorem dX7_leaves_250 : decode cX7_leaves 250 = .ok (.iadd, 1) := dk_96 (dk_at dksX7_leaves_10 18 rfl rfl)
theorem dX7_leaves_251 : decode cX7_leaves 251 = .ok (.aload_n 0, 1) := dk_42 (dk_at dksX7_leaves_10 19 rfl rfl)
theorem dX7_leaves_252 : decode cX7_leaves 252 = .ok (.getfield 27, 3) := dk_180 0 27 (dk_at dksX7_leaves_10 20 rfl rfl)
theorem dX7_leaves_255 : decode cX7_leaves 255 = .ok (.iload_n 3, 1) := dk_29 (dk_at dksX7_leaves_10 23 rfl rfl)
theorem dX7_leaves_256 : decode cX7_leaves 256 = .ok (.iaload, 1) := dk_46 (dk_at dksX7_leaves_11 0 rfl rfl)
theorem dX7_leaves_257 : decode cX7_leaves 257 = .ok (.iadd, 1) := dk_96 (dk_at dksX7_leaves_11 1 rfl rfl)
theorem dX7_leaves_258 : decode cX7_leaves 258 = .ok (.invokevirtual 139, 3) := dk_182 0 139 (dk_at dksX7_leaves_11 2 rfl rfl)
theorem dX7_leaves_261 : decode cX7_leaves 261 = .ok (.aload_n 0, 1) := dk_42 (dk_at dksX7_leaves_11 5 rfl rfl)
theorem dX7_leaves_262 : decode cX7_leaves 262 = .ok (.iload_n 1, 1) := dk_27 (dk_at dksX7_leaves_11 6 rfl rfl)
theorem dX7_leaves_263 : decode cX7_leaves 263 = .ok (.iload_n 2, 1) := dk_28 (dk_at dksX7_leaves_11 7 rfl rfl)
theorem dX7_leaves_264 : decode cX7_leaves 264 = .ok (.invokevirtual 198, 3) := dk_182 0 198 (dk_at dksX7_leaves_11 8 rfl rfl)
theorem dX7_leaves_267 : decode cX7_leaves 267 = .ok (.return_, 1) := dk_177 (dk_at dksX7_leaves_11 11 rfl rfl)
abbrev cX7_boards : ByteArray := prog_13_method_18_code
def yX7_boards : MethodName := ⟨RX7, "boards", "(III)I"⟩
def dkwX7_boards_7 : List UInt8 := [167, 255, 97, 42, 28, 21, 4, 182, 0, 158, 21, 4, 172]
abbrev dktX7_boards_7 : List UInt8 := dkwX7_boards_7 ++ []
def dkwX7_boards_6 : List UInt8 := [182, 0, 139, 42, 27, 16, 9, 42, 27, 16, 9, 182, 0, 171, 4, 96, 182, 0, 139, 132, 4, 1]
abbrev dktX7_boards_6 : List UInt8 := dkwX7_boards_6 ++ dktX7_boards_7
def dkwX7_boards_5 : List UInt8 := [180, 0, 51, 21, 5, 5, 96, 46, 6, 182, 0, 154, 42, 27, 7, 42, 27, 7, 182, 0, 171, 4, 96]
abbrev dktX7_boards_5 : List UInt8 := dkwX7_boards_5 ++ dktX7_boards_6
def dkwX7_boards_4 : List UInt8 := [42, 180, 0, 54, 3, 92, 47, 29, 42, 180, 0, 51, 21, 5, 4, 96, 46, 100, 133, 97, 80, 42, 42]
abbrev dktX7_boards_4 : List UInt8 := dkwX7_boards_4 ++ dktX7_boards_5
def dkwX7_boards_3 : List UInt8 := [21, 6, 4, 96, 29, 79, 42, 180, 0, 51, 21, 6, 5, 96, 42, 180, 0, 51, 21, 5, 5, 96, 46, 79]
abbrev dktX7_boards_3 : List UInt8 := dkwX7_boards_3 ++ dktX7_boards_4
def dkwX7_boards_2 : List UInt8 := [184, 0, 174, 54, 6, 42, 180, 0, 51, 21, 6, 42, 180, 0, 51, 21, 5, 46, 79, 42, 180, 0, 51]
abbrev dktX7_boards_2 : List UInt8 := dkwX7_boards_2 ++ dktX7_boards_3
def dkwX7_boards_1 : List UInt8 := [180, 0, 33, 27, 46, 162, 0, 136, 28, 21, 4, 184, 0, 150, 54, 5, 27, 42, 27, 7, 182, 0, 171]
abbrev dktX7_boards_1 : List UInt8 := dkwX7_boards_1 ++ dktX7_boards_2
def dkwX7_boards_0 : List UInt8 := [3, 54, 4, 21, 4, 42, 180, 0, 51, 16, 23, 28, 96, 46, 162, 0, 151, 42, 27, 7, 182, 0, 171, 42]
abbrev dktX7_boards_0 : List UInt8 := dkwX7_boards_0 ++ dktX7_boards_1
theorem dksX7_boards_0 : cX7_boards.data.toList.drop 0 = dktX7_boards_0 := by decide +kernel
theorem dksX7_boards_1 : cX7_boards.data.toList.drop 24 = dktX7_boards_1 := dk_seg dksX7_boards_0 24 rfl rfl
theorem dksX7_boards_2 : cX7_boards.data.toList.drop 47 = dktX7_boards_2 := dk_seg dksX7_boards_1 23 rfl rfl
theorem dksX7_boards_3 : cX7_boards.data.toList.drop 70 = dktX7_boards_3 := dk_seg dksX7_boards_2 23 rfl rfl
theorem dksX7_boards_4 : cX7_boards.data.toList.drop 94 = dktX7_boards_4 := dk_seg dksX7_boards_3 24 rfl rfl
theorem dksX7_boards_5 : cX7_boards.data.toList.drop 117 = dktX7_boards_5 := dk_seg dksX7_boards_4 23 rfl rfl
theorem dksX7_boards_6 : cX7_boards.data.toList.drop 140 = dktX7_boards_6 := dk_seg dksX7_boards_5 23 rfl rfl
theorem dksX7_boards_7 : cX7_boards.data.toList.drop 162 = dktX7_boards_7 := dk_seg dksX7_boards_6 22 rfl rfl
theorem dX7_boards_0 : decode cX7_boards 0 = .ok (.iconst 0, 1) := dk_3 (dk_at dksX7_boards_0 0 rfl rfl)
theorem dX7_boards_1 : decode cX7_boards 1 = .ok (.istore 4, 2) := dk_54 4 (dk_at dksX7_boards_0 1 rfl rfl)
theorem dX7_boards_3 : decode cX7_boards 3 = .ok (.iload 4, 2) := dk_21 4 (dk_at dksX7_boards_0 3 rfl rfl)
theorem dX7_boards_5 : decode cX7_boards 5 = .ok (.aload_n 0, 1) := dk_42 (dk_at dksX7_boards_0 5 rfl rfl)
theorem dX7_boards_6 : decode cX7_boards 6 = .ok (.getfield 51, 3) := dk_180 0 51 (dk_at dksX7_boards_0 6 rfl rfl)
theorem dX7_boards_9 : decode cX7_boards 9 = .ok (.bipush 23, 2) := dk_16 23 (dk_at dksX7_boards_0 9 rfl rfl)
theorem dX7_boards_11 : decode cX7_boards 11 = .ok (.iload_n 2, 1) := dk_28 (dk_at dksX7_boards_0 11 rfl rfl)
theorem dX7_boards_12 : decode cX7_boards 12 = .ok (.iadd, 1) := dk_96 (dk_at dksX7_boards_0 12 rfl rfl)
theorem dX7_boards_13 : decode cX7_boards 13 = .ok (.iaload, 1) := dk_46 (dk_at dksX7_boards_0 13 rfl rfl)
theorem dX7_boards_14 : decode cX7_boards 14 = .ok (.if_icmp .ge 151, 3) := dk_162 0 151 (dk_at dksX7_boards_0 14 rfl rfl)
theorem dX7_boards_17 : decode cX7_boards 17 = .ok (.aload_n 0, 1) := dk_42 (dk_at dksX7_boards_0 17 rfl rfl)
theorem dX7_boards_18 : decode cX7_boards 18 = .ok (.iload_n 1, 1) := dk_27 (dk_at dksX7_boards_0 18 rfl rfl)
theorem dX7_boards_19 : decode cX7_boards 19 = .ok (.iconst 4, 1) := dk_7 (dk_at dksX7_boards_0 19 rfl rfl)
theorem dX7_boards_20 : decode cX7_boards 20 = .ok (.invokevirtual 171, 3) := dk_182 0 171 (dk_at dksX7_boards_0 20 rfl rfl)
theorem dX7_boards_23 : decode cX7_boards 23 = .ok (.aload_n 0, 1) := dk_42 (dk_at dksX7_boards_0 23 rfl rfl)
theorem dX7_boards_24 : decode cX7_boards 24 = .ok (.getfield 33, 3) := dk_180 0 33 (dk_at dksX7_boards_1 0 rfl rfl)
theorem dX7_boards_27 : decode cX7_boards 27 = .ok (.iload_n 1, 1) := dk_27 (dk_at dksX7_boards_1 3 rfl rfl)
theorem dX7_boards_28 : decode cX7_boards 28 = .ok (.iaload, 1) := dk_46 (dk_at dksX7_boards_1 4 rfl rfl)
theorem dX7_boards_29 : decode cX7_boards 29 = .ok (.if_icmp .ge 136, 3) := dk_162 0 136 (dk_at dksX7_boards_1 5 rfl rfl)
theorem dX7_boards_32 : decode cX7_boards 32 = .ok (.iload_n 2, 1) := dk_28 (dk_at dksX7_boards_1 8 rfl rfl)
theorem dX7_boards_33 : decode cX7_boards 33 = .ok (.iload 4, 2) := dk_21 4 (dk_at dksX7_boards_1 9 rfl rfl)
theorem dX7_boards_35 : decode cX7_boards 35 = .ok (.invokestatic 150, 3) := dk_184 0 150 (dk_at dksX7_boards_1 11 rfl rfl)
theorem dX7_boards_38 : decode cX7_boards 38 = .ok (.istore 5, 2) := dk_54 5 (dk_at dksX7_boards_1 14 rfl rfl)
theorem dX7_boards_40 : decode cX7_boards 40 = .ok (.iload_n 1, 1) := dk_27 (dk_at dksX7_boards_1 16 rfl rfl)
theorem dX7_boards_41 : decode cX7_boards 41 = .ok (.aload_n 0, 1) := dk_42 (dk_at dksX7_boards_1 17 rfl rfl)
theorem dX7_boards_42 : decode cX7_boards 42 = .ok (.iload_n 1, 1) := dk_27 (dk_at dksX7_boards_1 18 rfl rfl)
theorem dX7_boards_43 : decode cX7_boards 43 = .ok (.iconst 4, 1) := dk_7 (dk_at dksX7_boards_1 19 rfl rfl)
theorem dX7_boards_44 : decode cX7_boards 44 = .ok (.invokevirtual 171, 3) := dk_182 0 171 (dk_at dksX7_boards_1 20 rfl rfl)
theorem dX7_boards_47 : decode cX7_boards 47 = .ok (.invokestatic 174, 3) := dk_184 0 174 (dk_at dksX7_boards_2 0 rfl rfl)
theorem dX7_boards_50 : decode cX7_boards 50 = .ok (.istore 6, 2) := dk_54 6 (dk_at dksX7_boards_2 3 rfl rfl)
theorem dX7_boards_52 : decode cX7_boards 52 = .ok (.aload_n 0, 1) := dk_42 (dk_at dksX7_boards_2 5 rfl rfl)
theorem dX7_boards_53 : decode cX7_boards 53 = .ok (.getfield 51, 3) := dk_180 0 51 (dk_at dksX7_boards_2 6 rfl rfl)
theorem dX7_boards_56 : decode cX7_boards 56 = .ok (.iload 6, 2) := dk_21 6 (dk_at dksX7_boards_2 9 rfl rfl)
theorem dX7_boards_58 : decode cX7_boards 58 = .ok (.aload_n 0, 1) := dk_42 (dk_at dksX7_boards_2 11 rfl rfl)
theorem dX7_boards_59 : decode cX7_boards 59 = .ok (.getfield 51, 3) := dk_180 0 51 (dk_at dksX7_boards_2 12 rfl rfl)
theorem dX7_boards_62 : decode cX7_boards 62 = .ok (.iload 5, 2) := dk_21 5 (dk_at dksX7_boards_2 15 rfl rfl)
theorem dX7_boards_64 : decode cX7_boards 64 = .ok (.iaload, 1) := dk_46 (dk_at dksX7_boards_2 17 rfl rfl)
theorem dX7_boards_65 : decode cX7_boards 65 = .ok (.iastore, 1) := dk_79 (dk_at dksX7_boards_2 18 rfl rfl)
theorem dX7_boards_66 : decode cX7_boards 66 = .ok (.aload_n 0, 1) := dk_42 (dk_at dksX7_boards_2 19 rfl rfl)
theorem dX7_boards_67 : decode cX7_boards 67 = .ok (.getfield 51, 3) := dk_180 0 51 (dk_at dksX7_boards_2 20 rfl rfl)
theorem dX7_boards_70 : decode cX7_boards 70 = .ok (.iload 6, 2) := dk_21 6 (dk_at dksX7_boards_3 0 rfl rfl)
theorem dX7_boards_72 : decode cX7_boards 72 = .ok (.iconst 1, 1) := dk_4 (dk_at dksX7_boards_3 2 rfl rfl)
theorem dX7_boards_73 : decode cX7_boards 73 = .ok (.iadd, 1) := dk_96 (dk_at dksX7_boards_3 3 rfl rfl)
theorem dX7_boards_74 : decode cX7_boards 74 = .ok (.iload_n 3, 1) := dk_29 (dk_at dksX7_boards_3 4 rfl rfl)
theorem dX7_boards_75 : decode cX7_boards 75 = .ok (.iastore, 1) := dk_79 (dk_at dksX7_boards_3 5 rfl rfl)
theorem dX7_boards_76 : decode cX7_boards 76 = .ok (.aload_n 0, 1) := dk_42 (dk_at dksX7_boards_3 6 rfl rfl)
theorem dX7_boards_77 : decode cX7_boards 77 = .ok (.getfield 51, 3) := dk_180 0 51 (dk_at dksX7_boards_3 7 rfl rfl)
theorem dX7_boards_80 : decode cX7_boards 80 = .ok (.iload 6, 2) := dk_21 6 (dk_at dksX7_boards_3 10 rfl rfl)
theorem dX7_boards_82 : decode cX7_boards 82 = .ok (.iconst 2, 1) := dk_5 (dk_at dksX7_boards_3 12 rfl rfl)
theorem dX7_boards_83 : decode cX7_boards 83 = .ok (.iadd, 1) := dk_96 (dk_at dksX7_boards_3 13 rfl rfl)
theorem dX7_boards_84 : decode cX7_boards 84 = .ok (.aload_n 0, 1) := dk_42 (dk_at dksX7_boards_3 14 rfl rfl)
theorem dX7_boards_85 : decode cX7_boards 85 = .ok (.getfield 51, 3) := dk_180 0 51 (dk_at dksX7_boards_3 15 rfl rfl)
theorem dX7_boards_88 : decode cX7_boards 88 = .ok (.iload 5, 2) := dk_21 5 (dk_at dksX7_boards_3 18 rfl rfl)
theorem dX7_boards_90 : decode cX7_boards 90 = .ok (.iconst 2, 1) := dk_5 (dk_at dksX7_boards_3 20 rfl rfl)
theorem dX7_boards_91 : decode cX7_boards 91 = .ok (.iadd, 1) := dk_96 (dk_at dksX7_boards_3 21 rfl rfl)
theorem dX7_boards_92 : decode cX7_boards 92 = .ok (.iaload, 1) := dk_46 (dk_at dksX7_boards_3 22 rfl rfl)
theorem dX7_boards_93 : decode cX7_boards 93 = .ok (.iastore, 1) := dk_79 (dk_at dksX7_boards_3 23 rfl rfl)
theorem dX7_boards_94 : decode cX7_boards 94 = .ok (.aload_n 0, 1) := dk_42 (dk_at dksX7_boards_4 0 rfl rfl)
theorem dX7_boards_95 : decode cX7_boards 95 = .ok (.getfield 54, 3) := dk_180 0 54 (dk_at dksX7_boards_4 1 rfl rfl)
theorem dX7_boards_98 : decode cX7_boards 98 = .ok (.iconst 0, 1) := dk_3 (dk_at dksX7_boards_4 4 rfl rfl)
theorem dX7_boards_99 : decode cX7_boards 99 = .ok (.dup2, 1) := dk_92 (dk_at dksX7_boards_4 5 rfl rfl)
theorem dX7_boards_100 : decode cX7_boards 100 = .ok (.laload, 1) := dk_47 (dk_at dksX7_boards_4 6 rfl rfl)
theorem dX7_boards_101 : decode cX7_boards 101 = .ok (.iload_n 3, 1) := dk_29 (dk_at dksX7_boards_4 7 rfl rfl)
theorem dX7_boards_102 : decode cX7_boards 102 = .ok (.aload_n 0, 1) := dk_42 (dk_at dksX7_boards_4 8 rfl rfl)
theorem dX7_boards_103 : decode cX7_boards 103 = .ok (.getfield 51, 3) := dk_180 0 51 (dk_at dksX7_boards_4 9 rfl rfl)
theorem dX7_boards_106 : decode cX7_boards 106 = .ok (.iload 5, 2) := dk_21 5 (dk_at dksX7_boards_4 12 rfl rfl)
theorem dX7_boards_108 : decode cX7_boards 108 = .ok (.iconst 1, 1) := dk_4 (dk_at dksX7_boards_4 14 rfl rfl)
theorem dX7_boards_109 : decode cX7_boards 109 = .ok (.iadd, 1) := dk_96 (dk_at dksX7_boards_4 15 rfl rfl)
theorem dX7_boards_110 : decode cX7_boards 110 = .ok (.iaload, 1) := dk_46 (dk_at dksX7_boards_4 16 rfl rfl)
theorem dX7_boards_111 : decode cX7_boards 111 = .ok (.isub, 1) := dk_100 (dk_at dksX7_boards_4 17 rfl rfl)
theorem dX7_boards_112 : decode cX7_boards 112 = .ok (.i2l, 1) := dk_133 (dk_at dksX7_boards_4 18 rfl rfl)
theorem dX7_boards_113 : decode cX7_boards 113 = .ok (.ladd, 1) := dk_97 (dk_at dksX7_boards_4 19 rfl rfl)
theorem dX7_boards_114 : decode cX7_boards 114 = .ok (.lastore, 1) := dk_80 (dk_at dksX7_boards_4 20 rfl rfl)
theorem dX7_boards_115 : decode cX7_boards 115 = .ok (.aload_n 0, 1) := dk_42 (dk_at dksX7_boards_4 21 rfl rfl)
theorem dX7_boards_116 : decode cX7_boards 116 = .ok (.aload_n 0, 1) := dk_42 (dk_at dksX7_boards_4 22 rfl rfl)
theorem dX7_boards_117 : decode cX7_boards 117 = .ok (.getfield 51, 3) := dk_180 0 51 (dk_at dksX7_boards_5 0 rfl rfl)
theorem dX7_boards_120 : decode cX7_boards 120 = .ok (.iload 5, 2) := dk_21 5 (dk_at dksX7_boards_5 3 rfl rfl)
theorem dX7_boards_122 : decode cX7_boards 122 = .ok (.iconst 2, 1) := dk_5 (dk_at dksX7_boards_5 5 rfl rfl)
theorem dX7_boards_123 : decode cX7_boards 123 = .ok (.iadd, 1) := dk_96 (dk_at dksX7_boards_5 6 rfl rfl)
theorem dX7_boards_124 : decode cX7_boards 124 = .ok (.iaload, 1) := dk_46 (dk_at dksX7_boards_5 7 rfl rfl)
theorem dX7_boards_125 : decode cX7_boards 125 = .ok (.iconst 3, 1) := dk_6 (dk_at dksX7_boards_5 8 rfl rfl)
theorem dX7_boards_126 : decode cX7_boards 126 = .ok (.invokevirtual 154, 3) := dk_182 0 154 (dk_at dksX7_boards_5 9 rfl rfl)
theorem dX7_boards_129 : decode cX7_boards 129 = .ok (.aload_n 0, 1) := dk_42 (dk_at dksX7_boards_5 12 rfl rfl)
theorem dX7_boards_130 : decode cX7_boards 130 = .ok (.iload_n 1, 1) := dk_27 (dk_at dksX7_boards_5 13 rfl rfl)
theorem dX7_boards_131 : decode cX7_boards 131 = .ok (.iconst 4, 1) := dk_7 (dk_at dksX7_boards_5 14 rfl rfl)
theorem dX7_boards_132 : decode cX7_boards 132 = .ok (.aload_n 0, 1) := dk_42 (dk_at dksX7_boards_5 15 rfl rfl)
theorem dX7_boards_133 : decode cX7_boards 133 = .ok (.iload_n 1, 1) := dk_27 (dk_at dksX7_boards_5 16 rfl rfl)
theorem dX7_boards_134 : decode cX7_boards 134 = .ok (.iconst 4, 1) := dk_7 (dk_at dksX7_boards_5 17 rfl rfl)
theorem dX7_boards_135 : decode cX7_boards 135 = .ok (.invokevirtual 171, 3) := dk_182 0 171 (dk_at dksX7_boards_5 18 rfl rfl)
theorem dX7_boards_138 : decode cX7_boards 138 = .ok (.iconst 1, 1) := dk_4 (dk_at dksX7_boards_5 21 rfl rfl)
theorem dX7_boards_139 : decode cX7_boards 139 = .ok (.iadd, 1) := dk_96 (dk_at dksX7_boards_5 22 rfl rfl)
theorem dX7_boards_140 : decode cX7_boards 140 = .ok (.invokevirtual 139, 3) := dk_182 0 139 (dk_at dksX7_boards_6 0 rfl rfl)
theorem dX7_boards_143 : decode cX7_boards 143 = .ok (.aload_n 0, 1) := dk_42 (dk_at dksX7_boards_6 3 rfl rfl)
theorem dX7_boards_144 : decode cX7_boards 144 = .ok (.iload_n 1, 1) := dk_27 (dk_at dksX7_boards_6 4 rfl rfl)
theorem dX7_boards_145 : decode cX7_boards 145 = .ok (.bipush 9, 2) := dk_16 9 (dk_at dksX7_boards_6 5 rfl rfl)
theorem dX7_boards_147 : decode cX7_boards 147 = .ok (.aload_n 0, 1) := dk_42 (dk_at dksX7_boards_6 7 rfl rfl)
theorem dX7_boards_148 : decode cX7_boards 148 = .ok (.iload_n 1, 1) := dk_27 (dk_at dksX7_boards_6 8 rfl rfl)
theorem dX7_boards_149 : decode cX7_boards 149 = .ok (.bipush 9, 2) := dk_16 9 (dk_at dksX7_boards_6 9 rfl rfl)
theorem dX7_boards_151 : decode cX7_boards 151 = .ok (.invokevirtual 171, 3) := dk_182 0 171 (dk_at dksX7_boards_6 11 rfl rfl)
theorem dX7_boards_154 : decode cX7_boards 154 = .ok (.iconst 1, 1) := dk_4 (dk_at dksX7_boards_6 14 rfl rfl)
theorem dX7_boards_155 : decode cX7_boards 155 = .ok (.iadd, 1) := dk_96 (dk_at dksX7_boards_6 15 rfl rfl)
theorem dX7_boards_156 : decode cX7_boards 156 = .ok (.invokevirtual 139, 3) := dk_182 0 139 (dk_at dksX7_boards_6 16 rfl rfl)
theorem dX7_boards_159 : decode cX7_boards 159 = .ok (.iinc 4 1, 3) := dk_132 4 1 (dk_at dksX7_boards_6 19 rfl rfl)
theorem dX7_boards_162 : decode cX7_boards 162 = .ok (.goto (-159), 3) := dk_167 255 97 (dk_at dksX7_boards_7 0 rfl rfl)
theorem dX7_boards_165 : decode cX7_boards 165 = .ok (.aload_n 0, 1) := dk_42 (dk_at dksX7_boards_7 3 rfl rfl)
theorem dX7_boards_166 : decode cX7_boards 166 = .ok (.iload_n 2, 1) := dk_28 (dk_at dksX7_boards_7 4 rfl rfl)
theorem dX7_boards_167 : decode cX7_boards 167 = .ok (.iload 4, 2) := dk_21 4 (dk_at dksX7_boards_7 5 rfl rfl)
theorem dX7_boards_169 : decode cX7_boards 169 = .ok (.invokevirtual 158, 3) := dk_182 0 158 (dk_at dksX7_boards_7 7 rfl rfl)
theorem dX7_boards_172 : decode cX7_boards 172 = .ok (.iload 4, 2) := dk_21 4 (dk_at dksX7_boards_7 10 rfl rfl)
theorem dX7_boards_174 : decode cX7_boards 174 = .ok (.ireturn, 1) := dk_172 (dk_at dksX7_boards_7 12 rfl rfl)
abbrev cX7_tells : ByteArray := prog_13_method_10_code
def yX7_tells : MethodName := ⟨RX7, "tells", "(IIIII)V"⟩
def dkwX7_tells_5 : List UInt8 := [79, 42, 180, 0, 51, 21, 6, 7, 96, 21, 5, 79, 42, 180, 0, 51, 16, 12, 92, 46, 4, 96, 79, 177]
abbrev dktX7_tells_5 : List UInt8 := dkwX7_tells_5 ++ []
def dkwX7_tells_4 : List UInt8 := [4, 96, 28, 79, 42, 180, 0, 51, 21, 6, 5, 96, 29, 79, 42, 180, 0, 51, 21, 6, 6, 96, 21, 4]
abbrev dktX7_tells_4 : List UInt8 := dkwX7_tells_4 ++ dktX7_tells_5
def dkwX7_tells_3 : List UInt8 := [180, 0, 51, 16, 12, 46, 104, 96, 54, 6, 42, 180, 0, 51, 21, 6, 27, 79, 42, 180, 0, 51, 21, 6]
abbrev dktX7_tells_3 : List UInt8 := dkwX7_tells_3 ++ dktX7_tells_4
def dkwX7_tells_2 : List UInt8 := [132, 6, 1, 167, 255, 221, 42, 180, 0, 51, 16, 12, 92, 46, 4, 100, 79, 17, 6, 146, 8, 42]
abbrev dktX7_tells_2 : List UInt8 := dkwX7_tells_2 ++ dktX7_tells_3
def dkwX7_tells_1 : List UInt8 := [180, 0, 51, 17, 6, 146, 21, 6, 96, 8, 100, 42, 180, 0, 51, 17, 6, 146, 21, 6, 96, 46, 79]
abbrev dktX7_tells_1 : List UInt8 := dkwX7_tells_1 ++ dktX7_tells_2
def dkwX7_tells_0 : List UInt8 := [42, 180, 0, 51, 16, 12, 46, 16, 30, 160, 0, 55, 8, 54, 6, 21, 6, 17, 0, 150, 162, 0, 33, 42]
abbrev dktX7_tells_0 : List UInt8 := dkwX7_tells_0 ++ dktX7_tells_1
theorem dksX7_tells_0 : cX7_tells.data.toList.drop 0 = dktX7_tells_0 := by decide +kernel
theorem dksX7_tells_1 : cX7_tells.data.toList.drop 24 = dktX7_tells_1 := dk_seg dksX7_tells_0 24 rfl rfl
theorem dksX7_tells_2 : cX7_tells.data.toList.drop 47 = dktX7_tells_2 := dk_seg dksX7_tells_1 23 rfl rfl
theorem dksX7_tells_3 : cX7_tells.data.toList.drop 69 = dktX7_tells_3 := dk_seg dksX7_tells_2 22 rfl rfl
theorem dksX7_tells_4 : cX7_tells.data.toList.drop 93 = dktX7_tells_4 := dk_seg dksX7_tells_3 24 rfl rfl
theorem dksX7_tells_5 : cX7_tells.data.toList.drop 117 = dktX7_tells_5 := dk_seg dksX7_tells_4 24 rfl rfl
theorem dX7_tells_0 : decode cX7_tells 0 = .ok (.aload_n 0, 1) := dk_42 (dk_at dksX7_tells_0 0 rfl rfl)
theorem dX7_tells_1 : decode cX7_tells 1 = .ok (.getfield 51, 3) := dk_180 0 51 (dk_at dksX7_tells_0 1 rfl rfl)
theorem dX7_tells_4 : decode cX7_tells 4 = .ok (.bipush 12, 2) := dk_16 12 (dk_at dksX7_tells_0 4 rfl rfl)
theorem dX7_tells_6 : decode cX7_tells 6 = .ok (.iaload, 1) := dk_46 (dk_at dksX7_tells_0 6 rfl rfl)
theorem dX7_tells_7 : decode cX7_tells 7 = .ok (.bipush 30, 2) := dk_16 30 (dk_at dksX7_tells_0 7 rfl rfl)
theorem dX7_tells_9 : decode cX7_tells 9 = .ok (.if_icmp .ne 55, 3) := dk_160 0 55 (dk_at dksX7_tells_0 9 rfl rfl)
theorem dX7_tells_12 : decode cX7_tells 12 = .ok (.iconst 5, 1) := dk_8 (dk_at dksX7_tells_0 12 rfl rfl)
theorem dX7_tells_13 : decode cX7_tells 13 = .ok (.istore 6, 2) := dk_54 6 (dk_at dksX7_tells_0 13 rfl rfl)
theorem dX7_tells_15 : decode cX7_tells 15 = .ok (.iload 6, 2) := dk_21 6 (dk_at dksX7_tells_0 15 rfl rfl)
theorem dX7_tells_17 : decode cX7_tells 17 = .ok (.sipush 150, 3) := dk_17 0 150 (dk_at dksX7_tells_0 17 rfl rfl)
theorem dX7_tells_20 : decode cX7_tells 20 = .ok (.if_icmp .ge 33, 3) := dk_162 0 33 (dk_at dksX7_tells_0 20 rfl rfl)
theorem dX7_tells_23 : decode cX7_tells 23 = .ok (.aload_n 0, 1) := dk_42 (dk_at dksX7_tells_0 23 rfl rfl)
theorem dX7_tells_24 : decode cX7_tells 24 = .ok (.getfield 51, 3) := dk_180 0 51 (dk_at dksX7_tells_1 0 rfl rfl)
theorem dX7_tells_27 : decode cX7_tells 27 = .ok (.sipush 1682, 3) := dk_17 6 146 (dk_at dksX7_tells_1 3 rfl rfl)
theorem dX7_tells_30 : decode cX7_tells 30 = .ok (.iload 6, 2) := dk_21 6 (dk_at dksX7_tells_1 6 rfl rfl)
theorem dX7_tells_32 : decode cX7_tells 32 = .ok (.iadd, 1) := dk_96 (dk_at dksX7_tells_1 8 rfl rfl)
theorem dX7_tells_33 : decode cX7_tells 33 = .ok (.iconst 5, 1) := dk_8 (dk_at dksX7_tells_1 9 rfl rfl)
theorem dX7_tells_34 : decode cX7_tells 34 = .ok (.isub, 1) := dk_100 (dk_at dksX7_tells_1 10 rfl rfl)
theorem dX7_tells_35 : decode cX7_tells 35 = .ok (.aload_n 0, 1) := dk_42 (dk_at dksX7_tells_1 11 rfl rfl)
theorem dX7_tells_36 : decode cX7_tells 36 = .ok (.getfield 51, 3) := dk_180 0 51 (dk_at dksX7_tells_1 12 rfl rfl)
theorem dX7_tells_39 : decode cX7_tells 39 = .ok (.sipush 1682, 3) := dk_17 6 146 (dk_at dksX7_tells_1 15 rfl rfl)
theorem dX7_tells_42 : decode cX7_tells 42 = .ok (.iload 6, 2) := dk_21 6 (dk_at dksX7_tells_1 18 rfl rfl)
theorem dX7_tells_44 : decode cX7_tells 44 = .ok (.iadd, 1) := dk_96 (dk_at dksX7_tells_1 20 rfl rfl)
theorem dX7_tells_45 : decode cX7_tells 45 = .ok (.iaload, 1) := dk_46 (dk_at dksX7_tells_1 21 rfl rfl)
theorem dX7_tells_46 : decode cX7_tells 46 = .ok (.iastore, 1) := dk_79 (dk_at dksX7_tells_1 22 rfl rfl)
theorem dX7_tells_47 : decode cX7_tells 47 = .ok (.iinc 6 1, 3) := dk_132 6 1 (dk_at dksX7_tells_2 0 rfl rfl)
theorem dX7_tells_50 : decode cX7_tells 50 = .ok (.goto (-35), 3) := dk_167 255 221 (dk_at dksX7_tells_2 3 rfl rfl)
theorem dX7_tells_53 : decode cX7_tells 53 = .ok (.aload_n 0, 1) := dk_42 (dk_at dksX7_tells_2 6 rfl rfl)
theorem dX7_tells_54 : decode cX7_tells 54 = .ok (.getfield 51, 3) := dk_180 0 51 (dk_at dksX7_tells_2 7 rfl rfl)
theorem dX7_tells_57 : decode cX7_tells 57 = .ok (.bipush 12, 2) := dk_16 12 (dk_at dksX7_tells_2 10 rfl rfl)
theorem dX7_tells_59 : decode cX7_tells 59 = .ok (.dup2, 1) := dk_92 (dk_at dksX7_tells_2 12 rfl rfl)
theorem dX7_tells_60 : decode cX7_tells 60 = .ok (.iaload, 1) := dk_46 (dk_at dksX7_tells_2 13 rfl rfl)
theorem dX7_tells_61 : decode cX7_tells 61 = .ok (.iconst 1, 1) := dk_4 (dk_at dksX7_tells_2 14 rfl rfl)
theorem dX7_tells_62 : decode cX7_tells 62 = .ok (.isub, 1) := dk_100 (dk_at dksX7_tells_2 15 rfl rfl)
theorem dX7_tells_63 : decode cX7_tells 63 = .ok (.iastore, 1) := dk_79 (dk_at dksX7_tells_2 16 rfl rfl)
theorem dX7_tells_64 : decode cX7_tells 64 = .ok (.sipush 1682, 3) := dk_17 6 146 (dk_at dksX7_tells_2 17 rfl rfl)
theorem dX7_tells_67 : decode cX7_tells 67 = .ok (.iconst 5, 1) := dk_8 (dk_at dksX7_tells_2 20 rfl rfl)
theorem dX7_tells_68 : decode cX7_tells 68 = .ok (.aload_n 0, 1) := dk_42 (dk_at dksX7_tells_2 21 rfl rfl)
theorem dX7_tells_69 : decode cX7_tells 69 = .ok (.getfield 51, 3) := dk_180 0 51 (dk_at dksX7_tells_3 0 rfl rfl)
theorem dX7_tells_72 : decode cX7_tells 72 = .ok (.bipush 12, 2) := dk_16 12 (dk_at dksX7_tells_3 3 rfl rfl)
theorem dX7_tells_74 : decode cX7_tells 74 = .ok (.iaload, 1) := dk_46 (dk_at dksX7_tells_3 5 rfl rfl)
theorem dX7_tells_75 : decode cX7_tells 75 = .ok (.imul, 1) := dk_104 (dk_at dksX7_tells_3 6 rfl rfl)
theorem dX7_tells_76 : decode cX7_tells 76 = .ok (.iadd, 1) := dk_96 (dk_at dksX7_tells_3 7 rfl rfl)
theorem dX7_tells_77 : decode cX7_tells 77 = .ok (.istore 6, 2) := dk_54 6 (dk_at dksX7_tells_3 8 rfl rfl)
theorem dX7_tells_79 : decode cX7_tells 79 = .ok (.aload_n 0, 1) := dk_42 (dk_at dksX7_tells_3 10 rfl rfl)
theorem dX7_tells_80 : decode cX7_tells 80 = .ok (.getfield 51, 3) := dk_180 0 51 (dk_at dksX7_tells_3 11 rfl rfl)
theorem dX7_tells_83 : decode cX7_tells 83 = .ok (.iload 6, 2) := dk_21 6 (dk_at dksX7_tells_3 14 rfl rfl)
theorem dX7_tells_85 : decode cX7_tells 85 = .ok (.iload_n 1, 1) := dk_27 (dk_at dksX7_tells_3 16 rfl rfl)
theorem dX7_tells_86 : decode cX7_tells 86 = .ok (.iastore, 1) := dk_79 (dk_at dksX7_tells_3 17 rfl rfl)
theorem dX7_tells_87 : decode cX7_tells 87 = .ok (.aload_n 0, 1) := dk_42 (dk_at dksX7_tells_3 18 rfl rfl)
theorem dX7_tells_88 : decode cX7_tells 88 = .ok (.getfield 51, 3) := dk_180 0 51 (dk_at dksX7_tells_3 19 rfl rfl)
theorem dX7_tells_91 : decode cX7_tells 91 = .ok (.iload 6, 2) := dk_21 6 (dk_at dksX7_tells_3 22 rfl rfl)
theorem dX7_tells_93 : decode cX7_tells 93 = .ok (.iconst 1, 1) := dk_4 (dk_at dksX7_tells_4 0 rfl rfl)
theorem dX7_tells_94 : decode cX7_tells 94 = .ok (.iadd, 1) := dk_96 (dk_at dksX7_tells_4 1 rfl rfl)
theorem dX7_tells_95 : decode cX7_tells 95 = .ok (.iload_n 2, 1) := dk_28 (dk_at dksX7_tells_4 2 rfl rfl)
theorem dX7_tells_96 : decode cX7_tells 96 = .ok (.iastore, 1) := dk_79 (dk_at dksX7_tells_4 3 rfl rfl)
theorem dX7_tells_97 : decode cX7_tells 97 = .ok (.aload_n 0, 1) := dk_42 (dk_at dksX7_tells_4 4 rfl rfl)
theorem dX7_tells_98 : decode cX7_tells 98 = .ok (.getfield 51, 3) := dk_180 0 51 (dk_at dksX7_tells_4 5 rfl rfl)
theorem dX7_tells_101 : decode cX7_tells 101 = .ok (.iload 6, 2) := dk_21 6 (dk_at dksX7_tells_4 8 rfl rfl)
theorem dX7_tells_103 : decode cX7_tells 103 = .ok (.iconst 2, 1) := dk_5 (dk_at dksX7_tells_4 10 rfl rfl)
theorem dX7_tells_104 : decode cX7_tells 104 = .ok (.iadd, 1) := dk_96 (dk_at dksX7_tells_4 11 rfl rfl)
theorem dX7_tells_105 : decode cX7_tells 105 = .ok (.iload_n 3, 1) := dk_29 (dk_at dksX7_tells_4 12 rfl rfl)
theorem dX7_tells_106 : decode cX7_tells 106 = .ok (.iastore, 1) := dk_79 (dk_at dksX7_tells_4 13 rfl rfl)
theorem dX7_tells_107 : decode cX7_tells 107 = .ok (.aload_n 0, 1) := dk_42 (dk_at dksX7_tells_4 14 rfl rfl)
theorem dX7_tells_108 : decode cX7_tells 108 = .ok (.getfield 51, 3) := dk_180 0 51 (dk_at dksX7_tells_4 15 rfl rfl)
theorem dX7_tells_111 : decode cX7_tells 111 = .ok (.iload 6, 2) := dk_21 6 (dk_at dksX7_tells_4 18 rfl rfl)
theorem dX7_tells_113 : decode cX7_tells 113 = .ok (.iconst 3, 1) := dk_6 (dk_at dksX7_tells_4 20 rfl rfl)
theorem dX7_tells_114 : decode cX7_tells 114 = .ok (.iadd, 1) := dk_96 (dk_at dksX7_tells_4 21 rfl rfl)
theorem dX7_tells_115 : decode cX7_tells 115 = .ok (.iload 4, 2) := dk_21 4 (dk_at dksX7_tells_4 22 rfl rfl)
theorem dX7_tells_117 : decode cX7_tells 117 = .ok (.iastore, 1) := dk_79 (dk_at dksX7_tells_5 0 rfl rfl)
theorem dX7_tells_118 : decode cX7_tells 118 = .ok (.aload_n 0, 1) := dk_42 (dk_at dksX7_tells_5 1 rfl rfl)
theorem dX7_tells_119 : decode cX7_tells 119 = .ok (.getfield 51, 3) := dk_180 0 51 (dk_at dksX7_tells_5 2 rfl rfl)
theorem dX7_tells_122 : decode cX7_tells 122 = .ok (.iload 6, 2) := dk_21 6 (dk_at dksX7_tells_5 5 rfl rfl)
theorem dX7_tells_124 : decode cX7_tells 124 = .ok (.iconst 4, 1) := dk_7 (dk_at dksX7_tells_5 7 rfl rfl)
theorem dX7_tells_125 : decode cX7_tells 125 = .ok (.iadd, 1) := dk_96 (dk_at dksX7_tells_5 8 rfl rfl)
theorem dX7_tells_126 : decode cX7_tells 126 = .ok (.iload 5, 2) := dk_21 5 (dk_at dksX7_tells_5 9 rfl rfl)
theorem dX7_tells_128 : decode cX7_tells 128 = .ok (.iastore, 1) := dk_79 (dk_at dksX7_tells_5 11 rfl rfl)
theorem dX7_tells_129 : decode cX7_tells 129 = .ok (.aload_n 0, 1) := dk_42 (dk_at dksX7_tells_5 12 rfl rfl)
theorem dX7_tells_130 : decode cX7_tells 130 = .ok (.getfield 51, 3) := dk_180 0 51 (dk_at dksX7_tells_5 13 rfl rfl)
theorem dX7_tells_133 : decode cX7_tells 133 = .ok (.bipush 12, 2) := dk_16 12 (dk_at dksX7_tells_5 16 rfl rfl)
theorem dX7_tells_135 : decode cX7_tells 135 = .ok (.dup2, 1) := dk_92 (dk_at dksX7_tells_5 18 rfl rfl)
theorem dX7_tells_136 : decode cX7_tells 136 = .ok (.iaload, 1) := dk_46 (dk_at dksX7_tells_5 19 rfl rfl)
theorem dX7_tells_137 : decode cX7_tells 137 = .ok (.iconst 1, 1) := dk_4 (dk_at dksX7_tells_5 20 rfl rfl)
theorem dX7_tells_138 : decode cX7_tells 138 = .ok (.iadd, 1) := dk_96 (dk_at dksX7_tells_5 21 rfl rfl)
theorem dX7_tells_139 : decode cX7_tells 139 = .ok (.iastore, 1) := dk_79 (dk_at dksX7_tells_5 22 rfl rfl)
theorem dX7_tells_140 : decode cX7_tells 140 = .ok (.return_, 1) := dk_177 (dk_at dksX7_tells_5 23 rfl rfl)
abbrev cX7_notes : ByteArray := prog_13_method_31_code
def yX7_notes : MethodName := ⟨RX7, "notes", "(IIII)V"⟩
def dkwX7_notes_6 : List UInt8 := [4, 96, 79, 177]
abbrev dktX7_notes_6 : List UInt8 := dkwX7_notes_6 ++ []
def dkwX7_notes_5 : List UInt8 := [46, 4, 96, 79, 42, 180, 0, 51, 16, 33, 28, 96, 29, 79, 42, 180, 0, 51, 16, 43, 28, 96, 92, 46]
abbrev dktX7_notes_5 : List UInt8 := dkwX7_notes_5 ++ dktX7_notes_6
def dkwX7_notes_4 : List UInt8 := [4, 96, 29, 79, 42, 180, 0, 51, 21, 5, 5, 96, 21, 4, 79, 42, 180, 0, 51, 16, 53, 28, 96, 92]
abbrev dktX7_notes_4 : List UInt8 := dkwX7_notes_4 ++ dktX7_notes_5
def dkwX7_notes_3 : List UInt8 := [16, 53, 28, 96, 46, 184, 0, 220, 54, 5, 42, 180, 0, 51, 21, 5, 27, 79, 42, 180, 0, 51, 21, 5]
abbrev dktX7_notes_3 : List UInt8 := dkwX7_notes_3 ++ dktX7_notes_4
def dkwX7_notes_2 : List UInt8 := [132, 5, 1, 167, 255, 226, 42, 180, 0, 51, 16, 53, 28, 96, 92, 46, 4, 100, 79, 28, 42, 180, 0, 51]
abbrev dktX7_notes_2 : List UInt8 := dkwX7_notes_2 ++ dktX7_notes_3
def dkwX7_notes_1 : List UInt8 := [16, 7, 184, 0, 220, 162, 0, 25, 42, 180, 0, 51, 21, 5, 42, 180, 0, 51, 21, 5, 6, 96, 46, 79]
abbrev dktX7_notes_1 : List UInt8 := dkwX7_notes_1 ++ dktX7_notes_2
def dkwX7_notes_0 : List UInt8 := [42, 180, 0, 51, 16, 53, 28, 96, 46, 16, 8, 160, 0, 56, 28, 3, 184, 0, 220, 54, 5, 21, 5, 28]
abbrev dktX7_notes_0 : List UInt8 := dkwX7_notes_0 ++ dktX7_notes_1
theorem dksX7_notes_0 : cX7_notes.data.toList.drop 0 = dktX7_notes_0 := by decide +kernel
theorem dksX7_notes_1 : cX7_notes.data.toList.drop 24 = dktX7_notes_1 := dk_seg dksX7_notes_0 24 rfl rfl
theorem dksX7_notes_2 : cX7_notes.data.toList.drop 48 = dktX7_notes_2 := dk_seg dksX7_notes_1 24 rfl rfl
theorem dksX7_notes_3 : cX7_notes.data.toList.drop 72 = dktX7_notes_3 := dk_seg dksX7_notes_2 24 rfl rfl
theorem dksX7_notes_4 : cX7_notes.data.toList.drop 96 = dktX7_notes_4 := dk_seg dksX7_notes_3 24 rfl rfl
theorem dksX7_notes_5 : cX7_notes.data.toList.drop 120 = dktX7_notes_5 := dk_seg dksX7_notes_4 24 rfl rfl
theorem dksX7_notes_6 : cX7_notes.data.toList.drop 144 = dktX7_notes_6 := dk_seg dksX7_notes_5 24 rfl rfl
theorem dX7_notes_0 : decode cX7_notes 0 = .ok (.aload_n 0, 1) := dk_42 (dk_at dksX7_notes_0 0 rfl rfl)
theorem dX7_notes_1 : decode cX7_notes 1 = .ok (.getfield 51, 3) := dk_180 0 51 (dk_at dksX7_notes_0 1 rfl rfl)
theorem dX7_notes_4 : decode cX7_notes 4 = .ok (.bipush 53, 2) := dk_16 53 (dk_at dksX7_notes_0 4 rfl rfl)
theorem dX7_notes_6 : decode cX7_notes 6 = .ok (.iload_n 2, 1) := dk_28 (dk_at dksX7_notes_0 6 rfl rfl)
theorem dX7_notes_7 : decode cX7_notes 7 = .ok (.iadd, 1) := dk_96 (dk_at dksX7_notes_0 7 rfl rfl)
theorem dX7_notes_8 : decode cX7_notes 8 = .ok (.iaload, 1) := dk_46 (dk_at dksX7_notes_0 8 rfl rfl)
theorem dX7_notes_9 : decode cX7_notes 9 = .ok (.bipush 8, 2) := dk_16 8 (dk_at dksX7_notes_0 9 rfl rfl)
theorem dX7_notes_11 : decode cX7_notes 11 = .ok (.if_icmp .ne 56, 3) := dk_160 0 56 (dk_at dksX7_notes_0 11 rfl rfl)
theorem dX7_notes_14 : decode cX7_notes 14 = .ok (.iload_n 2, 1) := dk_28 (dk_at dksX7_notes_0 14 rfl rfl)
theorem dX7_notes_15 : decode cX7_notes 15 = .ok (.iconst 0, 1) := dk_3 (dk_at dksX7_notes_0 15 rfl rfl)
theorem dX7_notes_16 : decode cX7_notes 16 = .ok (.invokestatic 220, 3) := dk_184 0 220 (dk_at dksX7_notes_0 16 rfl rfl)
theorem dX7_notes_19 : decode cX7_notes 19 = .ok (.istore 5, 2) := dk_54 5 (dk_at dksX7_notes_0 19 rfl rfl)
theorem dX7_notes_21 : decode cX7_notes 21 = .ok (.iload 5, 2) := dk_21 5 (dk_at dksX7_notes_0 21 rfl rfl)
theorem dX7_notes_23 : decode cX7_notes 23 = .ok (.iload_n 2, 1) := dk_28 (dk_at dksX7_notes_0 23 rfl rfl)
theorem dX7_notes_24 : decode cX7_notes 24 = .ok (.bipush 7, 2) := dk_16 7 (dk_at dksX7_notes_1 0 rfl rfl)
theorem dX7_notes_26 : decode cX7_notes 26 = .ok (.invokestatic 220, 3) := dk_184 0 220 (dk_at dksX7_notes_1 2 rfl rfl)
theorem dX7_notes_29 : decode cX7_notes 29 = .ok (.if_icmp .ge 25, 3) := dk_162 0 25 (dk_at dksX7_notes_1 5 rfl rfl)
theorem dX7_notes_32 : decode cX7_notes 32 = .ok (.aload_n 0, 1) := dk_42 (dk_at dksX7_notes_1 8 rfl rfl)
theorem dX7_notes_33 : decode cX7_notes 33 = .ok (.getfield 51, 3) := dk_180 0 51 (dk_at dksX7_notes_1 9 rfl rfl)
theorem dX7_notes_36 : decode cX7_notes 36 = .ok (.iload 5, 2) := dk_21 5 (dk_at dksX7_notes_1 12 rfl rfl)
theorem dX7_notes_38 : decode cX7_notes 38 = .ok (.aload_n 0, 1) := dk_42 (dk_at dksX7_notes_1 14 rfl rfl)
theorem dX7_notes_39 : decode cX7_notes 39 = .ok (.getfield 51, 3) := dk_180 0 51 (dk_at dksX7_notes_1 15 rfl rfl)
theorem dX7_notes_42 : decode cX7_notes 42 = .ok (.iload 5, 2) := dk_21 5 (dk_at dksX7_notes_1 18 rfl rfl)
theorem dX7_notes_44 : decode cX7_notes 44 = .ok (.iconst 3, 1) := dk_6 (dk_at dksX7_notes_1 20 rfl rfl)
theorem dX7_notes_45 : decode cX7_notes 45 = .ok (.iadd, 1) := dk_96 (dk_at dksX7_notes_1 21 rfl rfl)
theorem dX7_notes_46 : decode cX7_notes 46 = .ok (.iaload, 1) := dk_46 (dk_at dksX7_notes_1 22 rfl rfl)
theorem dX7_notes_47 : decode cX7_notes 47 = .ok (.iastore, 1) := dk_79 (dk_at dksX7_notes_1 23 rfl rfl)
theorem dX7_notes_48 : decode cX7_notes 48 = .ok (.iinc 5 1, 3) := dk_132 5 1 (dk_at dksX7_notes_2 0 rfl rfl)
theorem dX7_notes_51 : decode cX7_notes 51 = .ok (.goto (-30), 3) := dk_167 255 226 (dk_at dksX7_notes_2 3 rfl rfl)
theorem dX7_notes_54 : decode cX7_notes 54 = .ok (.aload_n 0, 1) := dk_42 (dk_at dksX7_notes_2 6 rfl rfl)
theorem dX7_notes_55 : decode cX7_notes 55 = .ok (.getfield 51, 3) := dk_180 0 51 (dk_at dksX7_notes_2 7 rfl rfl)
theorem dX7_notes_58 : decode cX7_notes 58 = .ok (.bipush 53, 2) := dk_16 53 (dk_at dksX7_notes_2 10 rfl rfl)
theorem dX7_notes_60 : decode cX7_notes 60 = .ok (.iload_n 2, 1) := dk_28 (dk_at dksX7_notes_2 12 rfl rfl)
theorem dX7_notes_61 : decode cX7_notes 61 = .ok (.iadd, 1) := dk_96 (dk_at dksX7_notes_2 13 rfl rfl)
theorem dX7_notes_62 : decode cX7_notes 62 = .ok (.dup2, 1) := dk_92 (dk_at dksX7_notes_2 14 rfl rfl)
theorem dX7_notes_63 : decode cX7_notes 63 = .ok (.iaload, 1) := dk_46 (dk_at dksX7_notes_2 15 rfl rfl)
theorem dX7_notes_64 : decode cX7_notes 64 = .ok (.iconst 1, 1) := dk_4 (dk_at dksX7_notes_2 16 rfl rfl)
theorem dX7_notes_65 : decode cX7_notes 65 = .ok (.isub, 1) := dk_100 (dk_at dksX7_notes_2 17 rfl rfl)
theorem dX7_notes_66 : decode cX7_notes 66 = .ok (.iastore, 1) := dk_79 (dk_at dksX7_notes_2 18 rfl rfl)
theorem dX7_notes_67 : decode cX7_notes 67 = .ok (.iload_n 2, 1) := dk_28 (dk_at dksX7_notes_2 19 rfl rfl)
theorem dX7_notes_68 : decode cX7_notes 68 = .ok (.aload_n 0, 1) := dk_42 (dk_at dksX7_notes_2 20 rfl rfl)
theorem dX7_notes_69 : decode cX7_notes 69 = .ok (.getfield 51, 3) := dk_180 0 51 (dk_at dksX7_notes_2 21 rfl rfl)
theorem dX7_notes_72 : decode cX7_notes 72 = .ok (.bipush 53, 2) := dk_16 53 (dk_at dksX7_notes_3 0 rfl rfl)
theorem dX7_notes_74 : decode cX7_notes 74 = .ok (.iload_n 2, 1) := dk_28 (dk_at dksX7_notes_3 2 rfl rfl)
theorem dX7_notes_75 : decode cX7_notes 75 = .ok (.iadd, 1) := dk_96 (dk_at dksX7_notes_3 3 rfl rfl)
theorem dX7_notes_76 : decode cX7_notes 76 = .ok (.iaload, 1) := dk_46 (dk_at dksX7_notes_3 4 rfl rfl)
theorem dX7_notes_77 : decode cX7_notes 77 = .ok (.invokestatic 220, 3) := dk_184 0 220 (dk_at dksX7_notes_3 5 rfl rfl)
theorem dX7_notes_80 : decode cX7_notes 80 = .ok (.istore 5, 2) := dk_54 5 (dk_at dksX7_notes_3 8 rfl rfl)
theorem dX7_notes_82 : decode cX7_notes 82 = .ok (.aload_n 0, 1) := dk_42 (dk_at dksX7_notes_3 10 rfl rfl)
theorem dX7_notes_83 : decode cX7_notes 83 = .ok (.getfield 51, 3) := dk_180 0 51 (dk_at dksX7_notes_3 11 rfl rfl)
theorem dX7_notes_86 : decode cX7_notes 86 = .ok (.iload 5, 2) := dk_21 5 (dk_at dksX7_notes_3 14 rfl rfl)
theorem dX7_notes_88 : decode cX7_notes 88 = .ok (.iload_n 1, 1) := dk_27 (dk_at dksX7_notes_3 16 rfl rfl)
theorem dX7_notes_89 : decode cX7_notes 89 = .ok (.iastore, 1) := dk_79 (dk_at dksX7_notes_3 17 rfl rfl)
theorem dX7_notes_90 : decode cX7_notes 90 = .ok (.aload_n 0, 1) := dk_42 (dk_at dksX7_notes_3 18 rfl rfl)
theorem dX7_notes_91 : decode cX7_notes 91 = .ok (.getfield 51, 3) := dk_180 0 51 (dk_at dksX7_notes_3 19 rfl rfl)
theorem dX7_notes_94 : decode cX7_notes 94 = .ok (.iload 5, 2) := dk_21 5 (dk_at dksX7_notes_3 22 rfl rfl)
theorem dX7_notes_96 : decode cX7_notes 96 = .ok (.iconst 1, 1) := dk_4 (dk_at dksX7_notes_4 0 rfl rfl)
theorem dX7_notes_97 : decode cX7_notes 97 = .ok (.iadd, 1) := dk_96 (dk_at dksX7_notes_4 1 rfl rfl)
theorem dX7_notes_98 : decode cX7_notes 98 = .ok (.iload_n 3, 1) := dk_29 (dk_at dksX7_notes_4 2 rfl rfl)
theorem dX7_notes_99 : decode cX7_notes 99 = .ok (.iastore, 1) := dk_79 (dk_at dksX7_notes_4 3 rfl rfl)
theorem dX7_notes_100 : decode cX7_notes 100 = .ok (.aload_n 0, 1) := dk_42 (dk_at dksX7_notes_4 4 rfl rfl)
theorem dX7_notes_101 : decode cX7_notes 101 = .ok (.getfield 51, 3) := dk_180 0 51 (dk_at dksX7_notes_4 5 rfl rfl)
theorem dX7_notes_104 : decode cX7_notes 104 = .ok (.iload 5, 2) := dk_21 5 (dk_at dksX7_notes_4 8 rfl rfl)
theorem dX7_notes_106 : decode cX7_notes 106 = .ok (.iconst 2, 1) := dk_5 (dk_at dksX7_notes_4 10 rfl rfl)
theorem dX7_notes_107 : decode cX7_notes 107 = .ok (.iadd, 1) := dk_96 (dk_at dksX7_notes_4 11 rfl rfl)
theorem dX7_notes_108 : decode cX7_notes 108 = .ok (.iload 4, 2) := dk_21 4 (dk_at dksX7_notes_4 12 rfl rfl)
theorem dX7_notes_110 : decode cX7_notes 110 = .ok (.iastore, 1) := dk_79 (dk_at dksX7_notes_4 14 rfl rfl)
theorem dX7_notes_111 : decode cX7_notes 111 = .ok (.aload_n 0, 1) := dk_42 (dk_at dksX7_notes_4 15 rfl rfl)
theorem dX7_notes_112 : decode cX7_notes 112 = .ok (.getfield 51, 3) := dk_180 0 51 (dk_at dksX7_notes_4 16 rfl rfl)
theorem dX7_notes_115 : decode cX7_notes 115 = .ok (.bipush 53, 2) := dk_16 53 (dk_at dksX7_notes_4 19 rfl rfl)
theorem dX7_notes_117 : decode cX7_notes 117 = .ok (.iload_n 2, 1) := dk_28 (dk_at dksX7_notes_4 21 rfl rfl)
theorem dX7_notes_118 : decode cX7_notes 118 = .ok (.iadd, 1) := dk_96 (dk_at dksX7_notes_4 22 rfl rfl)
theorem dX7_notes_119 : decode cX7_notes 119 = .ok (.dup2, 1) := dk_92 (dk_at dksX7_notes_4 23 rfl rfl)
theorem dX7_notes_120 : decode cX7_notes 120 = .ok (.iaload, 1) := dk_46 (dk_at dksX7_notes_5 0 rfl rfl)
theorem dX7_notes_121 : decode cX7_notes 121 = .ok (.iconst 1, 1) := dk_4 (dk_at dksX7_notes_5 1 rfl rfl)
theorem dX7_notes_122 : decode cX7_notes 122 = .ok (.iadd, 1) := dk_96 (dk_at dksX7_notes_5 2 rfl rfl)
theorem dX7_notes_123 : decode cX7_notes 123 = .ok (.iastore, 1) := dk_79 (dk_at dksX7_notes_5 3 rfl rfl)
theorem dX7_notes_124 : decode cX7_notes 124 = .ok (.aload_n 0, 1) := dk_42 (dk_at dksX7_notes_5 4 rfl rfl)
theorem dX7_notes_125 : decode cX7_notes 125 = .ok (.getfield 51, 3) := dk_180 0 51 (dk_at dksX7_notes_5 5 rfl rfl)
theorem dX7_notes_128 : decode cX7_notes 128 = .ok (.bipush 33, 2) := dk_16 33 (dk_at dksX7_notes_5 8 rfl rfl)
theorem dX7_notes_130 : decode cX7_notes 130 = .ok (.iload_n 2, 1) := dk_28 (dk_at dksX7_notes_5 10 rfl rfl)
theorem dX7_notes_131 : decode cX7_notes 131 = .ok (.iadd, 1) := dk_96 (dk_at dksX7_notes_5 11 rfl rfl)
theorem dX7_notes_132 : decode cX7_notes 132 = .ok (.iload_n 3, 1) := dk_29 (dk_at dksX7_notes_5 12 rfl rfl)
theorem dX7_notes_133 : decode cX7_notes 133 = .ok (.iastore, 1) := dk_79 (dk_at dksX7_notes_5 13 rfl rfl)
theorem dX7_notes_134 : decode cX7_notes 134 = .ok (.aload_n 0, 1) := dk_42 (dk_at dksX7_notes_5 14 rfl rfl)
theorem dX7_notes_135 : decode cX7_notes 135 = .ok (.getfield 51, 3) := dk_180 0 51 (dk_at dksX7_notes_5 15 rfl rfl)
theorem dX7_notes_138 : decode cX7_notes 138 = .ok (.bipush 43, 2) := dk_16 43 (dk_at dksX7_notes_5 18 rfl rfl)
theorem dX7_notes_140 : decode cX7_notes 140 = .ok (.iload_n 2, 1) := dk_28 (dk_at dksX7_notes_5 20 rfl rfl)
theorem dX7_notes_141 : decode cX7_notes 141 = .ok (.iadd, 1) := dk_96 (dk_at dksX7_notes_5 21 rfl rfl)
theorem dX7_notes_142 : decode cX7_notes 142 = .ok (.dup2, 1) := dk_92 (dk_at dksX7_notes_5 22 rfl rfl)
theorem dX7_notes_143 : decode cX7_notes 143 = .ok (.iaload, 1) := dk_46 (dk_at dksX7_notes_5 23 rfl rfl)
theorem dX7_notes_144 : decode cX7_notes 144 = .ok (.iconst 1, 1) := dk_4 (dk_at dksX7_notes_6 0 rfl rfl)
theorem dX7_notes_145 : decode cX7_notes 145 = .ok (.iadd, 1) := dk_96 (dk_at dksX7_notes_6 1 rfl rfl)
theorem dX7_notes_146 : decode cX7_notes 146 = .ok (.iastore, 1) := dk_79 (dk_at dksX7_notes_6 2 rfl rfl)
theorem dX7_notes_147 : decode cX7_notes 147 = .ok (.return_, 1) := dk_177 (dk_at dksX7_notes_6 3 rfl rfl)
abbrev cX7_leavingAt : ByteArray := prog_13_method_30_code
def yX7_leavingAt : MethodName := ⟨RX7, "leavingAt", "(II)I"⟩
def dkwX7_leavingAt_0 : List UInt8 := [17, 5, 162, 16, 24, 26, 104, 96, 6, 27, 104, 96, 172]
abbrev dktX7_leavingAt_0 : List UInt8 := dkwX7_leavingAt_0 ++ []
theorem dksX7_leavingAt_0 : cX7_leavingAt.data.toList.drop 0 = dktX7_leavingAt_0 := by decide +kernel
theorem dX7_leavingAt_0 : decode cX7_leavingAt 0 = .ok (.sipush 1442, 3) := dk_17 5 162 (dk_at dksX7_leavingAt_0 0 rfl rfl)
theorem dX7_leavingAt_3 : decode cX7_leavingAt 3 = .ok (.bipush 24, 2) := dk_16 24 (dk_at dksX7_leavingAt_0 3 rfl rfl)
theorem dX7_leavingAt_5 : decode cX7_leavingAt 5 = .ok (.iload_n 0, 1) := dk_26 (dk_at dksX7_leavingAt_0 5 rfl rfl)
theorem dX7_leavingAt_6 : decode cX7_leavingAt 6 = .ok (.imul, 1) := dk_104 (dk_at dksX7_leavingAt_0 6 rfl rfl)
theorem dX7_leavingAt_7 : decode cX7_leavingAt 7 = .ok (.iadd, 1) := dk_96 (dk_at dksX7_leavingAt_0 7 rfl rfl)
theorem dX7_leavingAt_8 : decode cX7_leavingAt 8 = .ok (.iconst 3, 1) := dk_6 (dk_at dksX7_leavingAt_0 8 rfl rfl)
theorem dX7_leavingAt_9 : decode cX7_leavingAt 9 = .ok (.iload_n 1, 1) := dk_27 (dk_at dksX7_leavingAt_0 9 rfl rfl)
theorem dX7_leavingAt_10 : decode cX7_leavingAt 10 = .ok (.imul, 1) := dk_104 (dk_at dksX7_leavingAt_0 10 rfl rfl)
theorem dX7_leavingAt_11 : decode cX7_leavingAt 11 = .ok (.iadd, 1) := dk_96 (dk_at dksX7_leavingAt_0 11 rfl rfl)
theorem dX7_leavingAt_12 : decode cX7_leavingAt 12 = .ok (.ireturn, 1) := dk_172 (dk_at dksX7_leavingAt_0 12 rfl rfl)
abbrev cX7_goesOn : ByteArray := prog_13_method_28_code
def yX7_goesOn : MethodName := ⟨RX7, "goesOn", "(II)V"⟩
def dkwX7_goesOn_1 : List UInt8 := [182, 0, 139, 42, 27, 5, 28, 42, 180, 0, 24, 29, 46, 96, 182, 0, 139, 177]
abbrev dktX7_goesOn_1 : List UInt8 := dkwX7_goesOn_1 ++ []
def dkwX7_goesOn_0 : List UInt8 := [42, 27, 4, 182, 0, 171, 62, 42, 27, 3, 4, 182, 0, 139, 42, 27, 4, 42, 29, 182, 0, 177]
abbrev dktX7_goesOn_0 : List UInt8 := dkwX7_goesOn_0 ++ dktX7_goesOn_1
theorem dksX7_goesOn_0 : cX7_goesOn.data.toList.drop 0 = dktX7_goesOn_0 := by decide +kernel
theorem dksX7_goesOn_1 : cX7_goesOn.data.toList.drop 22 = dktX7_goesOn_1 := dk_seg dksX7_goesOn_0 22 rfl rfl
theorem dX7_goesOn_0 : decode cX7_goesOn 0 = .ok (.aload_n 0, 1) := dk_42 (dk_at dksX7_goesOn_0 0 rfl rfl)
theorem dX7_goesOn_1 : decode cX7_goesOn 1 = .ok (.iload_n 1, 1) := dk_27 (dk_at dksX7_goesOn_0 1 rfl rfl)
theorem dX7_goesOn_2 : decode cX7_goesOn 2 = .ok (.iconst 1, 1) := dk_4 (dk_at dksX7_goesOn_0 2 rfl rfl)
theorem dX7_goesOn_3 : decode cX7_goesOn 3 = .ok (.invokevirtual 171, 3) := dk_182 0 171 (dk_at dksX7_goesOn_0 3 rfl rfl)
theorem dX7_goesOn_6 : decode cX7_goesOn 6 = .ok (.istore_n 3, 1) := dk_62 (dk_at dksX7_goesOn_0 6 rfl rfl)
theorem dX7_goesOn_7 : decode cX7_goesOn 7 = .ok (.aload_n 0, 1) := dk_42 (dk_at dksX7_goesOn_0 7 rfl rfl)
theorem dX7_goesOn_8 : decode cX7_goesOn 8 = .ok (.iload_n 1, 1) := dk_27 (dk_at dksX7_goesOn_0 8 rfl rfl)
theorem dX7_goesOn_9 : decode cX7_goesOn 9 = .ok (.iconst 0, 1) := dk_3 (dk_at dksX7_goesOn_0 9 rfl rfl)
theorem dX7_goesOn_10 : decode cX7_goesOn 10 = .ok (.iconst 1, 1) := dk_4 (dk_at dksX7_goesOn_0 10 rfl rfl)
theorem dX7_goesOn_11 : decode cX7_goesOn 11 = .ok (.invokevirtual 139, 3) := dk_182 0 139 (dk_at dksX7_goesOn_0 11 rfl rfl)
theorem dX7_goesOn_14 : decode cX7_goesOn 14 = .ok (.aload_n 0, 1) := dk_42 (dk_at dksX7_goesOn_0 14 rfl rfl)
theorem dX7_goesOn_15 : decode cX7_goesOn 15 = .ok (.iload_n 1, 1) := dk_27 (dk_at dksX7_goesOn_0 15 rfl rfl)
theorem dX7_goesOn_16 : decode cX7_goesOn 16 = .ok (.iconst 1, 1) := dk_4 (dk_at dksX7_goesOn_0 16 rfl rfl)
theorem dX7_goesOn_17 : decode cX7_goesOn 17 = .ok (.aload_n 0, 1) := dk_42 (dk_at dksX7_goesOn_0 17 rfl rfl)
theorem dX7_goesOn_18 : decode cX7_goesOn 18 = .ok (.iload_n 3, 1) := dk_29 (dk_at dksX7_goesOn_0 18 rfl rfl)
theorem dX7_goesOn_19 : decode cX7_goesOn 19 = .ok (.invokevirtual 177, 3) := dk_182 0 177 (dk_at dksX7_goesOn_0 19 rfl rfl)
theorem dX7_goesOn_22 : decode cX7_goesOn 22 = .ok (.invokevirtual 139, 3) := dk_182 0 139 (dk_at dksX7_goesOn_1 0 rfl rfl)
theorem dX7_goesOn_25 : decode cX7_goesOn 25 = .ok (.aload_n 0, 1) := dk_42 (dk_at dksX7_goesOn_1 3 rfl rfl)
theorem dX7_goesOn_26 : decode cX7_goesOn 26 = .ok (.iload_n 1, 1) := dk_27 (dk_at dksX7_goesOn_1 4 rfl rfl)
theorem dX7_goesOn_27 : decode cX7_goesOn 27 = .ok (.iconst 2, 1) := dk_5 (dk_at dksX7_goesOn_1 5 rfl rfl)
theorem dX7_goesOn_28 : decode cX7_goesOn 28 = .ok (.iload_n 2, 1) := dk_28 (dk_at dksX7_goesOn_1 6 rfl rfl)
theorem dX7_goesOn_29 : decode cX7_goesOn 29 = .ok (.aload_n 0, 1) := dk_42 (dk_at dksX7_goesOn_1 7 rfl rfl)
theorem dX7_goesOn_30 : decode cX7_goesOn 30 = .ok (.getfield 24, 3) := dk_180 0 24 (dk_at dksX7_goesOn_1 8 rfl rfl)
theorem dX7_goesOn_33 : decode cX7_goesOn 33 = .ok (.iload_n 3, 1) := dk_29 (dk_at dksX7_goesOn_1 11 rfl rfl)
theorem dX7_goesOn_34 : decode cX7_goesOn 34 = .ok (.iaload, 1) := dk_46 (dk_at dksX7_goesOn_1 12 rfl rfl)
theorem dX7_goesOn_35 : decode cX7_goesOn 35 = .ok (.iadd, 1) := dk_96 (dk_at dksX7_goesOn_1 13 rfl rfl)
theorem dX7_goesOn_36 : decode cX7_goesOn 36 = .ok (.invokevirtual 139, 3) := dk_182 0 139 (dk_at dksX7_goesOn_1 14 rfl rfl)
theorem dX7_goesOn_39 : decode cX7_goesOn 39 = .ok (.return_, 1) := dk_177 (dk_at dksX7_goesOn_1 17 rfl rfl)
abbrev cX7_comesTo : ByteArray := prog_13_method_27_code
def yX7_comesTo : MethodName := ⟨RX7, "comesTo", "(II)V"⟩
def dkwX7_comesTo_8 : List UInt8 := [177]
abbrev dktX7_comesTo_8 : List UInt8 := dkwX7_comesTo_8 ++ []
def dkwX7_comesTo_7 : List UInt8 := [16, 23, 29, 96, 46, 96, 79, 42, 28, 6, 27, 29, 42, 180, 0, 51, 16, 23, 29, 96, 46, 182, 0, 210]
abbrev dktX7_comesTo_7 : List UInt8 := dkwX7_comesTo_7 ++ dktX7_comesTo_8
def dkwX7_comesTo_6 : List UInt8 := [180, 0, 51, 16, 23, 29, 96, 46, 158, 0, 39, 42, 180, 0, 51, 16, 10, 92, 46, 42, 180, 0, 51]
abbrev dktX7_comesTo_6 : List UInt8 := dkwX7_comesTo_6 ++ dktX7_comesTo_7
def dkwX7_comesTo_5 : List UInt8 := [180, 0, 121, 96, 42, 180, 0, 127, 21, 4, 104, 96, 42, 180, 0, 124, 21, 5, 104, 96, 182, 0, 139, 42]
abbrev dktX7_comesTo_5 : List UInt8 := dkwX7_comesTo_5 ++ dktX7_comesTo_6
def dkwX7_comesTo_4 : List UInt8 := [42, 89, 180, 0, 207, 21, 4, 96, 181, 0, 207, 42, 27, 3, 5, 182, 0, 139, 42, 27, 5, 28, 42]
abbrev dktX7_comesTo_4 : List UInt8 := dkwX7_comesTo_4 ++ dktX7_comesTo_5
def dkwX7_comesTo_3 : List UInt8 := [27, 28, 182, 0, 198, 177, 42, 27, 29, 28, 182, 0, 201, 54, 4, 42, 27, 29, 28, 182, 0, 204, 54, 5]
abbrev dktX7_comesTo_3 : List UInt8 := dkwX7_comesTo_3 ++ dktX7_comesTo_4
def dkwX7_comesTo_2 : List UInt8 := [4, 160, 0, 29, 42, 27, 16, 8, 3, 182, 0, 139, 42, 180, 0, 51, 16, 11, 92, 46, 4, 96, 79, 42]
abbrev dktX7_comesTo_2 : List UInt8 := dkwX7_comesTo_2 ++ dktX7_comesTo_3
def dkwX7_comesTo_1 : List UInt8 := [42, 27, 6, 182, 0, 171, 4, 96, 182, 0, 139, 42, 29, 28, 182, 0, 195, 42, 27, 16, 8, 182, 0, 171]
abbrev dktX7_comesTo_1 : List UInt8 := dkwX7_comesTo_1 ++ dktX7_comesTo_2
def dkwX7_comesTo_0 : List UInt8 := [42, 27, 4, 182, 0, 171, 62, 42, 27, 3, 182, 0, 171, 4, 160, 0, 21, 29, 154, 0, 17, 42, 27, 6]
abbrev dktX7_comesTo_0 : List UInt8 := dkwX7_comesTo_0 ++ dktX7_comesTo_1
theorem dksX7_comesTo_0 : cX7_comesTo.data.toList.drop 0 = dktX7_comesTo_0 := by decide +kernel
theorem dksX7_comesTo_1 : cX7_comesTo.data.toList.drop 24 = dktX7_comesTo_1 := dk_seg dksX7_comesTo_0 24 rfl rfl
theorem dksX7_comesTo_2 : cX7_comesTo.data.toList.drop 48 = dktX7_comesTo_2 := dk_seg dksX7_comesTo_1 24 rfl rfl
theorem dksX7_comesTo_3 : cX7_comesTo.data.toList.drop 72 = dktX7_comesTo_3 := dk_seg dksX7_comesTo_2 24 rfl rfl
theorem dksX7_comesTo_4 : cX7_comesTo.data.toList.drop 96 = dktX7_comesTo_4 := dk_seg dksX7_comesTo_3 24 rfl rfl
theorem dksX7_comesTo_5 : cX7_comesTo.data.toList.drop 119 = dktX7_comesTo_5 := dk_seg dksX7_comesTo_4 23 rfl rfl
theorem dksX7_comesTo_6 : cX7_comesTo.data.toList.drop 143 = dktX7_comesTo_6 := dk_seg dksX7_comesTo_5 24 rfl rfl
theorem dksX7_comesTo_7 : cX7_comesTo.data.toList.drop 166 = dktX7_comesTo_7 := dk_seg dksX7_comesTo_6 23 rfl rfl
theorem dksX7_comesTo_8 : cX7_comesTo.data.toList.drop 190 = dktX7_comesTo_8 := dk_seg dksX7_comesTo_7 24 rfl rfl
theorem dX7_comesTo_0 : decode cX7_comesTo 0 = .ok (.aload_n 0, 1) := dk_42 (dk_at dksX7_comesTo_0 0 rfl rfl)
theorem dX7_comesTo_1 : decode cX7_comesTo 1 = .ok (.iload_n 1, 1) := dk_27 (dk_at dksX7_comesTo_0 1 rfl rfl)
theorem dX7_comesTo_2 : decode cX7_comesTo 2 = .ok (.iconst 1, 1) := dk_4 (dk_at dksX7_comesTo_0 2 rfl rfl)
theorem dX7_comesTo_3 : decode cX7_comesTo 3 = .ok (.invokevirtual 171, 3) := dk_182 0 171 (dk_at dksX7_comesTo_0 3 rfl rfl)
theorem dX7_comesTo_6 : decode cX7_comesTo 6 = .ok (.istore_n 3, 1) := dk_62 (dk_at dksX7_comesTo_0 6 rfl rfl)
theorem dX7_comesTo_7 : decode cX7_comesTo 7 = .ok (.aload_n 0, 1) := dk_42 (dk_at dksX7_comesTo_0 7 rfl rfl)
theorem dX7_comesTo_8 : decode cX7_comesTo 8 = .ok (.iload_n 1, 1) := dk_27 (dk_at dksX7_comesTo_0 8 rfl rfl)
theorem dX7_comesTo_9 : decode cX7_comesTo 9 = .ok (.iconst 0, 1) := dk_3 (dk_at dksX7_comesTo_0 9 rfl rfl)
theorem dX7_comesTo_10 : decode cX7_comesTo 10 = .ok (.invokevirtual 171, 3) := dk_182 0 171 (dk_at dksX7_comesTo_0 10 rfl rfl)
theorem dX7_comesTo_13 : decode cX7_comesTo 13 = .ok (.iconst 1, 1) := dk_4 (dk_at dksX7_comesTo_0 13 rfl rfl)
theorem dX7_comesTo_14 : decode cX7_comesTo 14 = .ok (.if_icmp .ne 21, 3) := dk_160 0 21 (dk_at dksX7_comesTo_0 14 rfl rfl)
theorem dX7_comesTo_17 : decode cX7_comesTo 17 = .ok (.iload_n 3, 1) := dk_29 (dk_at dksX7_comesTo_0 17 rfl rfl)
theorem dX7_comesTo_18 : decode cX7_comesTo 18 = .ok (.ifCond .ne 17, 3) := dk_154 0 17 (dk_at dksX7_comesTo_0 18 rfl rfl)
theorem dX7_comesTo_21 : decode cX7_comesTo 21 = .ok (.aload_n 0, 1) := dk_42 (dk_at dksX7_comesTo_0 21 rfl rfl)
theorem dX7_comesTo_22 : decode cX7_comesTo 22 = .ok (.iload_n 1, 1) := dk_27 (dk_at dksX7_comesTo_0 22 rfl rfl)
theorem dX7_comesTo_23 : decode cX7_comesTo 23 = .ok (.iconst 3, 1) := dk_6 (dk_at dksX7_comesTo_0 23 rfl rfl)
theorem dX7_comesTo_24 : decode cX7_comesTo 24 = .ok (.aload_n 0, 1) := dk_42 (dk_at dksX7_comesTo_1 0 rfl rfl)
theorem dX7_comesTo_25 : decode cX7_comesTo 25 = .ok (.iload_n 1, 1) := dk_27 (dk_at dksX7_comesTo_1 1 rfl rfl)
theorem dX7_comesTo_26 : decode cX7_comesTo 26 = .ok (.iconst 3, 1) := dk_6 (dk_at dksX7_comesTo_1 2 rfl rfl)
theorem dX7_comesTo_27 : decode cX7_comesTo 27 = .ok (.invokevirtual 171, 3) := dk_182 0 171 (dk_at dksX7_comesTo_1 3 rfl rfl)
theorem dX7_comesTo_30 : decode cX7_comesTo 30 = .ok (.iconst 1, 1) := dk_4 (dk_at dksX7_comesTo_1 6 rfl rfl)
theorem dX7_comesTo_31 : decode cX7_comesTo 31 = .ok (.iadd, 1) := dk_96 (dk_at dksX7_comesTo_1 7 rfl rfl)
theorem dX7_comesTo_32 : decode cX7_comesTo 32 = .ok (.invokevirtual 139, 3) := dk_182 0 139 (dk_at dksX7_comesTo_1 8 rfl rfl)
theorem dX7_comesTo_35 : decode cX7_comesTo 35 = .ok (.aload_n 0, 1) := dk_42 (dk_at dksX7_comesTo_1 11 rfl rfl)
theorem dX7_comesTo_36 : decode cX7_comesTo 36 = .ok (.iload_n 3, 1) := dk_29 (dk_at dksX7_comesTo_1 12 rfl rfl)
theorem dX7_comesTo_37 : decode cX7_comesTo 37 = .ok (.iload_n 2, 1) := dk_28 (dk_at dksX7_comesTo_1 13 rfl rfl)
theorem dX7_comesTo_38 : decode cX7_comesTo 38 = .ok (.invokevirtual 195, 3) := dk_182 0 195 (dk_at dksX7_comesTo_1 14 rfl rfl)
theorem dX7_comesTo_41 : decode cX7_comesTo 41 = .ok (.aload_n 0, 1) := dk_42 (dk_at dksX7_comesTo_1 17 rfl rfl)
theorem dX7_comesTo_42 : decode cX7_comesTo 42 = .ok (.iload_n 1, 1) := dk_27 (dk_at dksX7_comesTo_1 18 rfl rfl)
theorem dX7_comesTo_43 : decode cX7_comesTo 43 = .ok (.bipush 8, 2) := dk_16 8 (dk_at dksX7_comesTo_1 19 rfl rfl)
theorem dX7_comesTo_45 : decode cX7_comesTo 45 = .ok (.invokevirtual 171, 3) := dk_182 0 171 (dk_at dksX7_comesTo_1 21 rfl rfl)
theorem dX7_comesTo_48 : decode cX7_comesTo 48 = .ok (.iconst 1, 1) := dk_4 (dk_at dksX7_comesTo_2 0 rfl rfl)
theorem dX7_comesTo_49 : decode cX7_comesTo 49 = .ok (.if_icmp .ne 29, 3) := dk_160 0 29 (dk_at dksX7_comesTo_2 1 rfl rfl)
theorem dX7_comesTo_52 : decode cX7_comesTo 52 = .ok (.aload_n 0, 1) := dk_42 (dk_at dksX7_comesTo_2 4 rfl rfl)
theorem dX7_comesTo_53 : decode cX7_comesTo 53 = .ok (.iload_n 1, 1) := dk_27 (dk_at dksX7_comesTo_2 5 rfl rfl)
theorem dX7_comesTo_54 : decode cX7_comesTo 54 = .ok (.bipush 8, 2) := dk_16 8 (dk_at dksX7_comesTo_2 6 rfl rfl)
theorem dX7_comesTo_56 : decode cX7_comesTo 56 = .ok (.iconst 0, 1) := dk_3 (dk_at dksX7_comesTo_2 8 rfl rfl)
theorem dX7_comesTo_57 : decode cX7_comesTo 57 = .ok (.invokevirtual 139, 3) := dk_182 0 139 (dk_at dksX7_comesTo_2 9 rfl rfl)
theorem dX7_comesTo_60 : decode cX7_comesTo 60 = .ok (.aload_n 0, 1) := dk_42 (dk_at dksX7_comesTo_2 12 rfl rfl)
theorem dX7_comesTo_61 : decode cX7_comesTo 61 = .ok (.getfield 51, 3) := dk_180 0 51 (dk_at dksX7_comesTo_2 13 rfl rfl)
theorem dX7_comesTo_64 : decode cX7_comesTo 64 = .ok (.bipush 11, 2) := dk_16 11 (dk_at dksX7_comesTo_2 16 rfl rfl)
theorem dX7_comesTo_66 : decode cX7_comesTo 66 = .ok (.dup2, 1) := dk_92 (dk_at dksX7_comesTo_2 18 rfl rfl)
theorem dX7_comesTo_67 : decode cX7_comesTo 67 = .ok (.iaload, 1) := dk_46 (dk_at dksX7_comesTo_2 19 rfl rfl)
theorem dX7_comesTo_68 : decode cX7_comesTo 68 = .ok (.iconst 1, 1) := dk_4 (dk_at dksX7_comesTo_2 20 rfl rfl)
theorem dX7_comesTo_69 : decode cX7_comesTo 69 = .ok (.iadd, 1) := dk_96 (dk_at dksX7_comesTo_2 21 rfl rfl)
theorem dX7_comesTo_70 : decode cX7_comesTo 70 = .ok (.iastore, 1) := dk_79 (dk_at dksX7_comesTo_2 22 rfl rfl)
theorem dX7_comesTo_71 : decode cX7_comesTo 71 = .ok (.aload_n 0, 1) := dk_42 (dk_at dksX7_comesTo_2 23 rfl rfl)
theorem dX7_comesTo_72 : decode cX7_comesTo 72 = .ok (.iload_n 1, 1) := dk_27 (dk_at dksX7_comesTo_3 0 rfl rfl)
theorem dX7_comesTo_73 : decode cX7_comesTo 73 = .ok (.iload_n 2, 1) := dk_28 (dk_at dksX7_comesTo_3 1 rfl rfl)
theorem dX7_comesTo_74 : decode cX7_comesTo 74 = .ok (.invokevirtual 198, 3) := dk_182 0 198 (dk_at dksX7_comesTo_3 2 rfl rfl)
theorem dX7_comesTo_77 : decode cX7_comesTo 77 = .ok (.return_, 1) := dk_177 (dk_at dksX7_comesTo_3 5 rfl rfl)
theorem dX7_comesTo_78 : decode cX7_comesTo 78 = .ok (.aload_n 0, 1) := dk_42 (dk_at dksX7_comesTo_3 6 rfl rfl)
theorem dX7_comesTo_79 : decode cX7_comesTo 79 = .ok (.iload_n 1, 1) := dk_27 (dk_at dksX7_comesTo_3 7 rfl rfl)
theorem dX7_comesTo_80 : decode cX7_comesTo 80 = .ok (.iload_n 3, 1) := dk_29 (dk_at dksX7_comesTo_3 8 rfl rfl)
theorem dX7_comesTo_81 : decode cX7_comesTo 81 = .ok (.iload_n 2, 1) := dk_28 (dk_at dksX7_comesTo_3 9 rfl rfl)
theorem dX7_comesTo_82 : decode cX7_comesTo 82 = .ok (.invokevirtual 201, 3) := dk_182 0 201 (dk_at dksX7_comesTo_3 10 rfl rfl)
theorem dX7_comesTo_85 : decode cX7_comesTo 85 = .ok (.istore 4, 2) := dk_54 4 (dk_at dksX7_comesTo_3 13 rfl rfl)
theorem dX7_comesTo_87 : decode cX7_comesTo 87 = .ok (.aload_n 0, 1) := dk_42 (dk_at dksX7_comesTo_3 15 rfl rfl)
theorem dX7_comesTo_88 : decode cX7_comesTo 88 = .ok (.iload_n 1, 1) := dk_27 (dk_at dksX7_comesTo_3 16 rfl rfl)
theorem dX7_comesTo_89 : decode cX7_comesTo 89 = .ok (.iload_n 3, 1) := dk_29 (dk_at dksX7_comesTo_3 17 rfl rfl)
theorem dX7_comesTo_90 : decode cX7_comesTo 90 = .ok (.iload_n 2, 1) := dk_28 (dk_at dksX7_comesTo_3 18 rfl rfl)
theorem dX7_comesTo_91 : decode cX7_comesTo 91 = .ok (.invokevirtual 204, 3) := dk_182 0 204 (dk_at dksX7_comesTo_3 19 rfl rfl)
theorem dX7_comesTo_94 : decode cX7_comesTo 94 = .ok (.istore 5, 2) := dk_54 5 (dk_at dksX7_comesTo_3 22 rfl rfl)
theorem dX7_comesTo_96 : decode cX7_comesTo 96 = .ok (.aload_n 0, 1) := dk_42 (dk_at dksX7_comesTo_4 0 rfl rfl)
theorem dX7_comesTo_97 : decode cX7_comesTo 97 = .ok (.dup, 1) := dk_89 (dk_at dksX7_comesTo_4 1 rfl rfl)
theorem dX7_comesTo_98 : decode cX7_comesTo 98 = .ok (.getfield 207, 3) := dk_180 0 207 (dk_at dksX7_comesTo_4 2 rfl rfl)
theorem dX7_comesTo_101 : decode cX7_comesTo 101 = .ok (.iload 4, 2) := dk_21 4 (dk_at dksX7_comesTo_4 5 rfl rfl)
theorem dX7_comesTo_103 : decode cX7_comesTo 103 = .ok (.iadd, 1) := dk_96 (dk_at dksX7_comesTo_4 7 rfl rfl)
theorem dX7_comesTo_104 : decode cX7_comesTo 104 = .ok (.putfield 207, 3) := dk_181 0 207 (dk_at dksX7_comesTo_4 8 rfl rfl)
theorem dX7_comesTo_107 : decode cX7_comesTo 107 = .ok (.aload_n 0, 1) := dk_42 (dk_at dksX7_comesTo_4 11 rfl rfl)
theorem dX7_comesTo_108 : decode cX7_comesTo 108 = .ok (.iload_n 1, 1) := dk_27 (dk_at dksX7_comesTo_4 12 rfl rfl)
theorem dX7_comesTo_109 : decode cX7_comesTo 109 = .ok (.iconst 0, 1) := dk_3 (dk_at dksX7_comesTo_4 13 rfl rfl)
theorem dX7_comesTo_110 : decode cX7_comesTo 110 = .ok (.iconst 2, 1) := dk_5 (dk_at dksX7_comesTo_4 14 rfl rfl)
theorem dX7_comesTo_111 : decode cX7_comesTo 111 = .ok (.invokevirtual 139, 3) := dk_182 0 139 (dk_at dksX7_comesTo_4 15 rfl rfl)
theorem dX7_comesTo_114 : decode cX7_comesTo 114 = .ok (.aload_n 0, 1) := dk_42 (dk_at dksX7_comesTo_4 18 rfl rfl)
theorem dX7_comesTo_115 : decode cX7_comesTo 115 = .ok (.iload_n 1, 1) := dk_27 (dk_at dksX7_comesTo_4 19 rfl rfl)
theorem dX7_comesTo_116 : decode cX7_comesTo 116 = .ok (.iconst 2, 1) := dk_5 (dk_at dksX7_comesTo_4 20 rfl rfl)
theorem dX7_comesTo_117 : decode cX7_comesTo 117 = .ok (.iload_n 2, 1) := dk_28 (dk_at dksX7_comesTo_4 21 rfl rfl)
theorem dX7_comesTo_118 : decode cX7_comesTo 118 = .ok (.aload_n 0, 1) := dk_42 (dk_at dksX7_comesTo_4 22 rfl rfl)
theorem dX7_comesTo_119 : decode cX7_comesTo 119 = .ok (.getfield 121, 3) := dk_180 0 121 (dk_at dksX7_comesTo_5 0 rfl rfl)
theorem dX7_comesTo_122 : decode cX7_comesTo 122 = .ok (.iadd, 1) := dk_96 (dk_at dksX7_comesTo_5 3 rfl rfl)
theorem dX7_comesTo_123 : decode cX7_comesTo 123 = .ok (.aload_n 0, 1) := dk_42 (dk_at dksX7_comesTo_5 4 rfl rfl)
theorem dX7_comesTo_124 : decode cX7_comesTo 124 = .ok (.getfield 127, 3) := dk_180 0 127 (dk_at dksX7_comesTo_5 5 rfl rfl)
theorem dX7_comesTo_127 : decode cX7_comesTo 127 = .ok (.iload 4, 2) := dk_21 4 (dk_at dksX7_comesTo_5 8 rfl rfl)
theorem dX7_comesTo_129 : decode cX7_comesTo 129 = .ok (.imul, 1) := dk_104 (dk_at dksX7_comesTo_5 10 rfl rfl)
theorem dX7_comesTo_130 : decode cX7_comesTo 130 = .ok (.iadd, 1) := dk_96 (dk_at dksX7_comesTo_5 11 rfl rfl)
theorem dX7_comesTo_131 : decode cX7_comesTo 131 = .ok (.aload_n 0, 1) := dk_42 (dk_at dksX7_comesTo_5 12 rfl rfl)
theorem dX7_comesTo_132 : decode cX7_comesTo 132 = .ok (.getfield 124, 3) := dk_180 0 124 (dk_at dksX7_comesTo_5 13 rfl rfl)
theorem dX7_comesTo_135 : decode cX7_comesTo 135 = .ok (.iload 5, 2) := dk_21 5 (dk_at dksX7_comesTo_5 16 rfl rfl)
theorem dX7_comesTo_137 : decode cX7_comesTo 137 = .ok (.imul, 1) := dk_104 (dk_at dksX7_comesTo_5 18 rfl rfl)
theorem dX7_comesTo_138 : decode cX7_comesTo 138 = .ok (.iadd, 1) := dk_96 (dk_at dksX7_comesTo_5 19 rfl rfl)
theorem dX7_comesTo_139 : decode cX7_comesTo 139 = .ok (.invokevirtual 139, 3) := dk_182 0 139 (dk_at dksX7_comesTo_5 20 rfl rfl)
theorem dX7_comesTo_142 : decode cX7_comesTo 142 = .ok (.aload_n 0, 1) := dk_42 (dk_at dksX7_comesTo_5 23 rfl rfl)
theorem dX7_comesTo_143 : decode cX7_comesTo 143 = .ok (.getfield 51, 3) := dk_180 0 51 (dk_at dksX7_comesTo_6 0 rfl rfl)
theorem dX7_comesTo_146 : decode cX7_comesTo 146 = .ok (.bipush 23, 2) := dk_16 23 (dk_at dksX7_comesTo_6 3 rfl rfl)
theorem dX7_comesTo_148 : decode cX7_comesTo 148 = .ok (.iload_n 3, 1) := dk_29 (dk_at dksX7_comesTo_6 5 rfl rfl)
theorem dX7_comesTo_149 : decode cX7_comesTo 149 = .ok (.iadd, 1) := dk_96 (dk_at dksX7_comesTo_6 6 rfl rfl)
theorem dX7_comesTo_150 : decode cX7_comesTo 150 = .ok (.iaload, 1) := dk_46 (dk_at dksX7_comesTo_6 7 rfl rfl)
theorem dX7_comesTo_151 : decode cX7_comesTo 151 = .ok (.ifCond .le 39, 3) := dk_158 0 39 (dk_at dksX7_comesTo_6 8 rfl rfl)
theorem dX7_comesTo_154 : decode cX7_comesTo 154 = .ok (.aload_n 0, 1) := dk_42 (dk_at dksX7_comesTo_6 11 rfl rfl)
theorem dX7_comesTo_155 : decode cX7_comesTo 155 = .ok (.getfield 51, 3) := dk_180 0 51 (dk_at dksX7_comesTo_6 12 rfl rfl)
theorem dX7_comesTo_158 : decode cX7_comesTo 158 = .ok (.bipush 10, 2) := dk_16 10 (dk_at dksX7_comesTo_6 15 rfl rfl)
theorem dX7_comesTo_160 : decode cX7_comesTo 160 = .ok (.dup2, 1) := dk_92 (dk_at dksX7_comesTo_6 17 rfl rfl)
theorem dX7_comesTo_161 : decode cX7_comesTo 161 = .ok (.iaload, 1) := dk_46 (dk_at dksX7_comesTo_6 18 rfl rfl)
theorem dX7_comesTo_162 : decode cX7_comesTo 162 = .ok (.aload_n 0, 1) := dk_42 (dk_at dksX7_comesTo_6 19 rfl rfl)
theorem dX7_comesTo_163 : decode cX7_comesTo 163 = .ok (.getfield 51, 3) := dk_180 0 51 (dk_at dksX7_comesTo_6 20 rfl rfl)
theorem dX7_comesTo_166 : decode cX7_comesTo 166 = .ok (.bipush 23, 2) := dk_16 23 (dk_at dksX7_comesTo_7 0 rfl rfl)
theorem dX7_comesTo_168 : decode cX7_comesTo 168 = .ok (.iload_n 3, 1) := dk_29 (dk_at dksX7_comesTo_7 2 rfl rfl)
theorem dX7_comesTo_169 : decode cX7_comesTo 169 = .ok (.iadd, 1) := dk_96 (dk_at dksX7_comesTo_7 3 rfl rfl)
theorem dX7_comesTo_170 : decode cX7_comesTo 170 = .ok (.iaload, 1) := dk_46 (dk_at dksX7_comesTo_7 4 rfl rfl)
theorem dX7_comesTo_171 : decode cX7_comesTo 171 = .ok (.iadd, 1) := dk_96 (dk_at dksX7_comesTo_7 5 rfl rfl)
theorem dX7_comesTo_172 : decode cX7_comesTo 172 = .ok (.iastore, 1) := dk_79 (dk_at dksX7_comesTo_7 6 rfl rfl)
theorem dX7_comesTo_173 : decode cX7_comesTo 173 = .ok (.aload_n 0, 1) := dk_42 (dk_at dksX7_comesTo_7 7 rfl rfl)
theorem dX7_comesTo_174 : decode cX7_comesTo 174 = .ok (.iload_n 2, 1) := dk_28 (dk_at dksX7_comesTo_7 8 rfl rfl)
theorem dX7_comesTo_175 : decode cX7_comesTo 175 = .ok (.iconst 3, 1) := dk_6 (dk_at dksX7_comesTo_7 9 rfl rfl)
theorem dX7_comesTo_176 : decode cX7_comesTo 176 = .ok (.iload_n 1, 1) := dk_27 (dk_at dksX7_comesTo_7 10 rfl rfl)
theorem dX7_comesTo_177 : decode cX7_comesTo 177 = .ok (.iload_n 3, 1) := dk_29 (dk_at dksX7_comesTo_7 11 rfl rfl)
theorem dX7_comesTo_178 : decode cX7_comesTo 178 = .ok (.aload_n 0, 1) := dk_42 (dk_at dksX7_comesTo_7 12 rfl rfl)
theorem dX7_comesTo_179 : decode cX7_comesTo 179 = .ok (.getfield 51, 3) := dk_180 0 51 (dk_at dksX7_comesTo_7 13 rfl rfl)
theorem dX7_comesTo_182 : decode cX7_comesTo 182 = .ok (.bipush 23, 2) := dk_16 23 (dk_at dksX7_comesTo_7 16 rfl rfl)
theorem dX7_comesTo_184 : decode cX7_comesTo 184 = .ok (.iload_n 3, 1) := dk_29 (dk_at dksX7_comesTo_7 18 rfl rfl)
theorem dX7_comesTo_185 : decode cX7_comesTo 185 = .ok (.iadd, 1) := dk_96 (dk_at dksX7_comesTo_7 19 rfl rfl)
theorem dX7_comesTo_186 : decode cX7_comesTo 186 = .ok (.iaload, 1) := dk_46 (dk_at dksX7_comesTo_7 20 rfl rfl)
theorem dX7_comesTo_187 : decode cX7_comesTo 187 = .ok (.invokevirtual 210, 3) := dk_182 0 210 (dk_at dksX7_comesTo_7 21 rfl rfl)
theorem dX7_comesTo_190 : decode cX7_comesTo 190 = .ok (.return_, 1) := dk_177 (dk_at dksX7_comesTo_8 0 rfl rfl)
abbrev cX7_alights : ByteArray := prog_13_method_19_code
def yX7_alights : MethodName := ⟨RX7, "alights", "(III)I"⟩
def dkwX7_alights_5 : List UInt8 := [167, 255, 223, 132, 5, 1, 132, 6, 1, 167, 255, 140, 42, 27, 7, 21, 5, 182, 0, 139, 21, 4, 172]
abbrev dktX7_alights_5 : List UInt8 := dkwX7_alights_5 ++ []
def dkwX7_alights_4 : List UInt8 := [21, 5, 184, 0, 174, 21, 8, 96, 42, 180, 0, 51, 21, 7, 21, 8, 96, 46, 79, 132, 8, 1]
abbrev dktX7_alights_4 : List UInt8 := dkwX7_alights_4 ++ dktX7_alights_5
def dkwX7_alights_3 : List UInt8 := [182, 0, 154, 132, 4, 1, 167, 0, 45, 3, 54, 8, 21, 8, 6, 162, 0, 33, 42, 180, 0, 51, 27]
abbrev dktX7_alights_3 : List UInt8 := dkwX7_alights_3 ++ dktX7_alights_4
def dkwX7_alights_2 : List UInt8 := [42, 180, 0, 51, 21, 7, 4, 96, 46, 100, 133, 97, 80, 42, 42, 180, 0, 51, 21, 7, 5, 96, 46, 7]
abbrev dktX7_alights_2 : List UInt8 := dkwX7_alights_2 ++ dktX7_alights_3
def dkwX7_alights_1 : List UInt8 := [184, 0, 174, 54, 7, 42, 180, 0, 51, 21, 7, 46, 28, 160, 0, 44, 42, 180, 0, 54, 4, 92, 47, 29]
abbrev dktX7_alights_1 : List UInt8 := dkwX7_alights_1 ++ dktX7_alights_2
def dkwX7_alights_0 : List UInt8 := [3, 54, 4, 3, 54, 5, 3, 54, 6, 21, 6, 42, 27, 7, 182, 0, 171, 162, 0, 111, 27, 21, 6]
abbrev dktX7_alights_0 : List UInt8 := dkwX7_alights_0 ++ dktX7_alights_1
theorem dksX7_alights_0 : cX7_alights.data.toList.drop 0 = dktX7_alights_0 := by decide +kernel
theorem dksX7_alights_1 : cX7_alights.data.toList.drop 23 = dktX7_alights_1 := dk_seg dksX7_alights_0 23 rfl rfl
theorem dksX7_alights_2 : cX7_alights.data.toList.drop 47 = dktX7_alights_2 := dk_seg dksX7_alights_1 24 rfl rfl
theorem dksX7_alights_3 : cX7_alights.data.toList.drop 71 = dktX7_alights_3 := dk_seg dksX7_alights_2 24 rfl rfl
theorem dksX7_alights_4 : cX7_alights.data.toList.drop 94 = dktX7_alights_4 := dk_seg dksX7_alights_3 23 rfl rfl
theorem dksX7_alights_5 : cX7_alights.data.toList.drop 116 = dktX7_alights_5 := dk_seg dksX7_alights_4 22 rfl rfl
theorem dX7_alights_0 : decode cX7_alights 0 = .ok (.iconst 0, 1) := dk_3 (dk_at dksX7_alights_0 0 rfl rfl)
theorem dX7_alights_1 : decode cX7_alights 1 = .ok (.istore 4, 2) := dk_54 4 (dk_at dksX7_alights_0 1 rfl rfl)
theorem dX7_alights_3 : decode cX7_alights 3 = .ok (.iconst 0, 1) := dk_3 (dk_at dksX7_alights_0 3 rfl rfl)
theorem dX7_alights_4 : decode cX7_alights 4 = .ok (.istore 5, 2) := dk_54 5 (dk_at dksX7_alights_0 4 rfl rfl)
theorem dX7_alights_6 : decode cX7_alights 6 = .ok (.iconst 0, 1) := dk_3 (dk_at dksX7_alights_0 6 rfl rfl)
theorem dX7_alights_7 : decode cX7_alights 7 = .ok (.istore 6, 2) := dk_54 6 (dk_at dksX7_alights_0 7 rfl rfl)
theorem dX7_alights_9 : decode cX7_alights 9 = .ok (.iload 6, 2) := dk_21 6 (dk_at dksX7_alights_0 9 rfl rfl)
theorem dX7_alights_11 : decode cX7_alights 11 = .ok (.aload_n 0, 1) := dk_42 (dk_at dksX7_alights_0 11 rfl rfl)
theorem dX7_alights_12 : decode cX7_alights 12 = .ok (.iload_n 1, 1) := dk_27 (dk_at dksX7_alights_0 12 rfl rfl)
theorem dX7_alights_13 : decode cX7_alights 13 = .ok (.iconst 4, 1) := dk_7 (dk_at dksX7_alights_0 13 rfl rfl)
theorem dX7_alights_14 : decode cX7_alights 14 = .ok (.invokevirtual 171, 3) := dk_182 0 171 (dk_at dksX7_alights_0 14 rfl rfl)
theorem dX7_alights_17 : decode cX7_alights 17 = .ok (.if_icmp .ge 111, 3) := dk_162 0 111 (dk_at dksX7_alights_0 17 rfl rfl)
theorem dX7_alights_20 : decode cX7_alights 20 = .ok (.iload_n 1, 1) := dk_27 (dk_at dksX7_alights_0 20 rfl rfl)
theorem dX7_alights_21 : decode cX7_alights 21 = .ok (.iload 6, 2) := dk_21 6 (dk_at dksX7_alights_0 21 rfl rfl)
theorem dX7_alights_23 : decode cX7_alights 23 = .ok (.invokestatic 174, 3) := dk_184 0 174 (dk_at dksX7_alights_1 0 rfl rfl)
theorem dX7_alights_26 : decode cX7_alights 26 = .ok (.istore 7, 2) := dk_54 7 (dk_at dksX7_alights_1 3 rfl rfl)
theorem dX7_alights_28 : decode cX7_alights 28 = .ok (.aload_n 0, 1) := dk_42 (dk_at dksX7_alights_1 5 rfl rfl)
theorem dX7_alights_29 : decode cX7_alights 29 = .ok (.getfield 51, 3) := dk_180 0 51 (dk_at dksX7_alights_1 6 rfl rfl)
theorem dX7_alights_32 : decode cX7_alights 32 = .ok (.iload 7, 2) := dk_21 7 (dk_at dksX7_alights_1 9 rfl rfl)
theorem dX7_alights_34 : decode cX7_alights 34 = .ok (.iaload, 1) := dk_46 (dk_at dksX7_alights_1 11 rfl rfl)
theorem dX7_alights_35 : decode cX7_alights 35 = .ok (.iload_n 2, 1) := dk_28 (dk_at dksX7_alights_1 12 rfl rfl)
theorem dX7_alights_36 : decode cX7_alights 36 = .ok (.if_icmp .ne 44, 3) := dk_160 0 44 (dk_at dksX7_alights_1 13 rfl rfl)
theorem dX7_alights_39 : decode cX7_alights 39 = .ok (.aload_n 0, 1) := dk_42 (dk_at dksX7_alights_1 16 rfl rfl)
theorem dX7_alights_40 : decode cX7_alights 40 = .ok (.getfield 54, 3) := dk_180 0 54 (dk_at dksX7_alights_1 17 rfl rfl)
theorem dX7_alights_43 : decode cX7_alights 43 = .ok (.iconst 1, 1) := dk_4 (dk_at dksX7_alights_1 20 rfl rfl)
theorem dX7_alights_44 : decode cX7_alights 44 = .ok (.dup2, 1) := dk_92 (dk_at dksX7_alights_1 21 rfl rfl)
theorem dX7_alights_45 : decode cX7_alights 45 = .ok (.laload, 1) := dk_47 (dk_at dksX7_alights_1 22 rfl rfl)
theorem dX7_alights_46 : decode cX7_alights 46 = .ok (.iload_n 3, 1) := dk_29 (dk_at dksX7_alights_1 23 rfl rfl)
theorem dX7_alights_47 : decode cX7_alights 47 = .ok (.aload_n 0, 1) := dk_42 (dk_at dksX7_alights_2 0 rfl rfl)
theorem dX7_alights_48 : decode cX7_alights 48 = .ok (.getfield 51, 3) := dk_180 0 51 (dk_at dksX7_alights_2 1 rfl rfl)
theorem dX7_alights_51 : decode cX7_alights 51 = .ok (.iload 7, 2) := dk_21 7 (dk_at dksX7_alights_2 4 rfl rfl)
theorem dX7_alights_53 : decode cX7_alights 53 = .ok (.iconst 1, 1) := dk_4 (dk_at dksX7_alights_2 6 rfl rfl)
theorem dX7_alights_54 : decode cX7_alights 54 = .ok (.iadd, 1) := dk_96 (dk_at dksX7_alights_2 7 rfl rfl)
theorem dX7_alights_55 : decode cX7_alights 55 = .ok (.iaload, 1) := dk_46 (dk_at dksX7_alights_2 8 rfl rfl)
theorem dX7_alights_56 : decode cX7_alights 56 = .ok (.isub, 1) := dk_100 (dk_at dksX7_alights_2 9 rfl rfl)
theorem dX7_alights_57 : decode cX7_alights 57 = .ok (.i2l, 1) := dk_133 (dk_at dksX7_alights_2 10 rfl rfl)
theorem dX7_alights_58 : decode cX7_alights 58 = .ok (.ladd, 1) := dk_97 (dk_at dksX7_alights_2 11 rfl rfl)
theorem dX7_alights_59 : decode cX7_alights 59 = .ok (.lastore, 1) := dk_80 (dk_at dksX7_alights_2 12 rfl rfl)
theorem dX7_alights_60 : decode cX7_alights 60 = .ok (.aload_n 0, 1) := dk_42 (dk_at dksX7_alights_2 13 rfl rfl)
theorem dX7_alights_61 : decode cX7_alights 61 = .ok (.aload_n 0, 1) := dk_42 (dk_at dksX7_alights_2 14 rfl rfl)
theorem dX7_alights_62 : decode cX7_alights 62 = .ok (.getfield 51, 3) := dk_180 0 51 (dk_at dksX7_alights_2 15 rfl rfl)
theorem dX7_alights_65 : decode cX7_alights 65 = .ok (.iload 7, 2) := dk_21 7 (dk_at dksX7_alights_2 18 rfl rfl)
theorem dX7_alights_67 : decode cX7_alights 67 = .ok (.iconst 2, 1) := dk_5 (dk_at dksX7_alights_2 20 rfl rfl)
theorem dX7_alights_68 : decode cX7_alights 68 = .ok (.iadd, 1) := dk_96 (dk_at dksX7_alights_2 21 rfl rfl)
theorem dX7_alights_69 : decode cX7_alights 69 = .ok (.iaload, 1) := dk_46 (dk_at dksX7_alights_2 22 rfl rfl)
theorem dX7_alights_70 : decode cX7_alights 70 = .ok (.iconst 4, 1) := dk_7 (dk_at dksX7_alights_2 23 rfl rfl)
theorem dX7_alights_71 : decode cX7_alights 71 = .ok (.invokevirtual 154, 3) := dk_182 0 154 (dk_at dksX7_alights_3 0 rfl rfl)
theorem dX7_alights_74 : decode cX7_alights 74 = .ok (.iinc 4 1, 3) := dk_132 4 1 (dk_at dksX7_alights_3 3 rfl rfl)
theorem dX7_alights_77 : decode cX7_alights 77 = .ok (.goto 45, 3) := dk_167 0 45 (dk_at dksX7_alights_3 6 rfl rfl)
theorem dX7_alights_80 : decode cX7_alights 80 = .ok (.iconst 0, 1) := dk_3 (dk_at dksX7_alights_3 9 rfl rfl)
theorem dX7_alights_81 : decode cX7_alights 81 = .ok (.istore 8, 2) := dk_54 8 (dk_at dksX7_alights_3 10 rfl rfl)
theorem dX7_alights_83 : decode cX7_alights 83 = .ok (.iload 8, 2) := dk_21 8 (dk_at dksX7_alights_3 12 rfl rfl)
theorem dX7_alights_85 : decode cX7_alights 85 = .ok (.iconst 3, 1) := dk_6 (dk_at dksX7_alights_3 14 rfl rfl)
theorem dX7_alights_86 : decode cX7_alights 86 = .ok (.if_icmp .ge 33, 3) := dk_162 0 33 (dk_at dksX7_alights_3 15 rfl rfl)
theorem dX7_alights_89 : decode cX7_alights 89 = .ok (.aload_n 0, 1) := dk_42 (dk_at dksX7_alights_3 18 rfl rfl)
theorem dX7_alights_90 : decode cX7_alights 90 = .ok (.getfield 51, 3) := dk_180 0 51 (dk_at dksX7_alights_3 19 rfl rfl)
theorem dX7_alights_93 : decode cX7_alights 93 = .ok (.iload_n 1, 1) := dk_27 (dk_at dksX7_alights_3 22 rfl rfl)
theorem dX7_alights_94 : decode cX7_alights 94 = .ok (.iload 5, 2) := dk_21 5 (dk_at dksX7_alights_4 0 rfl rfl)
theorem dX7_alights_96 : decode cX7_alights 96 = .ok (.invokestatic 174, 3) := dk_184 0 174 (dk_at dksX7_alights_4 2 rfl rfl)
theorem dX7_alights_99 : decode cX7_alights 99 = .ok (.iload 8, 2) := dk_21 8 (dk_at dksX7_alights_4 5 rfl rfl)
theorem dX7_alights_101 : decode cX7_alights 101 = .ok (.iadd, 1) := dk_96 (dk_at dksX7_alights_4 7 rfl rfl)
theorem dX7_alights_102 : decode cX7_alights 102 = .ok (.aload_n 0, 1) := dk_42 (dk_at dksX7_alights_4 8 rfl rfl)
theorem dX7_alights_103 : decode cX7_alights 103 = .ok (.getfield 51, 3) := dk_180 0 51 (dk_at dksX7_alights_4 9 rfl rfl)
theorem dX7_alights_106 : decode cX7_alights 106 = .ok (.iload 7, 2) := dk_21 7 (dk_at dksX7_alights_4 12 rfl rfl)
theorem dX7_alights_108 : decode cX7_alights 108 = .ok (.iload 8, 2) := dk_21 8 (dk_at dksX7_alights_4 14 rfl rfl)
theorem dX7_alights_110 : decode cX7_alights 110 = .ok (.iadd, 1) := dk_96 (dk_at dksX7_alights_4 16 rfl rfl)
theorem dX7_alights_111 : decode cX7_alights 111 = .ok (.iaload, 1) := dk_46 (dk_at dksX7_alights_4 17 rfl rfl)
theorem dX7_alights_112 : decode cX7_alights 112 = .ok (.iastore, 1) := dk_79 (dk_at dksX7_alights_4 18 rfl rfl)
theorem dX7_alights_113 : decode cX7_alights 113 = .ok (.iinc 8 1, 3) := dk_132 8 1 (dk_at dksX7_alights_4 19 rfl rfl)
theorem dX7_alights_116 : decode cX7_alights 116 = .ok (.goto (-33), 3) := dk_167 255 223 (dk_at dksX7_alights_5 0 rfl rfl)
theorem dX7_alights_119 : decode cX7_alights 119 = .ok (.iinc 5 1, 3) := dk_132 5 1 (dk_at dksX7_alights_5 3 rfl rfl)
theorem dX7_alights_122 : decode cX7_alights 122 = .ok (.iinc 6 1, 3) := dk_132 6 1 (dk_at dksX7_alights_5 6 rfl rfl)
theorem dX7_alights_125 : decode cX7_alights 125 = .ok (.goto (-116), 3) := dk_167 255 140 (dk_at dksX7_alights_5 9 rfl rfl)
theorem dX7_alights_128 : decode cX7_alights 128 = .ok (.aload_n 0, 1) := dk_42 (dk_at dksX7_alights_5 12 rfl rfl)
theorem dX7_alights_129 : decode cX7_alights 129 = .ok (.iload_n 1, 1) := dk_27 (dk_at dksX7_alights_5 13 rfl rfl)
theorem dX7_alights_130 : decode cX7_alights 130 = .ok (.iconst 4, 1) := dk_7 (dk_at dksX7_alights_5 14 rfl rfl)
theorem dX7_alights_131 : decode cX7_alights 131 = .ok (.iload 5, 2) := dk_21 5 (dk_at dksX7_alights_5 15 rfl rfl)
theorem dX7_alights_133 : decode cX7_alights 133 = .ok (.invokevirtual 139, 3) := dk_182 0 139 (dk_at dksX7_alights_5 17 rfl rfl)
theorem dX7_alights_136 : decode cX7_alights 136 = .ok (.iload 4, 2) := dk_21 4 (dk_at dksX7_alights_5 20 rfl rfl)
theorem dX7_alights_138 : decode cX7_alights 138 = .ok (.ireturn, 1) := dk_172 (dk_at dksX7_alights_5 22 rfl rfl)
abbrev cX7_keep : ByteArray := prog_13_method_69_code
def yX7_keep : MethodName := ⟨RX7, "keep", "(I)I"⟩
def dkwX7_keep_3 : List UInt8 := [180, 0, 54, 4, 47, 80, 42, 180, 0, 76, 27, 4, 84, 42, 180, 0, 51, 3, 46, 172]
abbrev dktX7_keep_3 : List UInt8 := dkwX7_keep_3 ++ []
def dkwX7_keep_2 : List UInt8 := [180, 0, 73, 5, 27, 104, 42, 180, 0, 54, 3, 47, 80, 42, 180, 0, 73, 5, 27, 104, 4, 96, 42]
abbrev dktX7_keep_2 : List UInt8 := dkwX7_keep_2 ++ dktX7_keep_3
def dkwX7_keep_1 : List UInt8 := [180, 0, 70, 17, 14, 30, 27, 104, 28, 96, 42, 180, 0, 51, 28, 46, 79, 132, 2, 1, 167, 255, 228, 42]
abbrev dktX7_keep_1 : List UInt8 := dkwX7_keep_1 ++ dktX7_keep_2
def dkwX7_keep_0 : List UInt8 := [27, 133, 9, 10, 184, 0, 146, 154, 0, 5, 2, 172, 3, 61, 28, 17, 14, 30, 162, 0, 27, 42]
abbrev dktX7_keep_0 : List UInt8 := dkwX7_keep_0 ++ dktX7_keep_1
theorem dksX7_keep_0 : cX7_keep.data.toList.drop 0 = dktX7_keep_0 := by decide +kernel
theorem dksX7_keep_1 : cX7_keep.data.toList.drop 22 = dktX7_keep_1 := dk_seg dksX7_keep_0 22 rfl rfl
theorem dksX7_keep_2 : cX7_keep.data.toList.drop 46 = dktX7_keep_2 := dk_seg dksX7_keep_1 24 rfl rfl
theorem dksX7_keep_3 : cX7_keep.data.toList.drop 69 = dktX7_keep_3 := dk_seg dksX7_keep_2 23 rfl rfl
theorem dX7_keep_0 : decode cX7_keep 0 = .ok (.iload_n 1, 1) := dk_27 (dk_at dksX7_keep_0 0 rfl rfl)
theorem dX7_keep_1 : decode cX7_keep 1 = .ok (.i2l, 1) := dk_133 (dk_at dksX7_keep_0 1 rfl rfl)
theorem dX7_keep_2 : decode cX7_keep 2 = .ok (.lconst 0, 1) := dk_9 (dk_at dksX7_keep_0 2 rfl rfl)
theorem dX7_keep_3 : decode cX7_keep 3 = .ok (.lconst 1, 1) := dk_10 (dk_at dksX7_keep_0 3 rfl rfl)
theorem dX7_keep_4 : decode cX7_keep 4 = .ok (.invokestatic 146, 3) := dk_184 0 146 (dk_at dksX7_keep_0 4 rfl rfl)
theorem dX7_keep_7 : decode cX7_keep 7 = .ok (.ifCond .ne 5, 3) := dk_154 0 5 (dk_at dksX7_keep_0 7 rfl rfl)
theorem dX7_keep_10 : decode cX7_keep 10 = .ok (.iconst (-1), 1) := dk_2 (dk_at dksX7_keep_0 10 rfl rfl)
theorem dX7_keep_11 : decode cX7_keep 11 = .ok (.ireturn, 1) := dk_172 (dk_at dksX7_keep_0 11 rfl rfl)
theorem dX7_keep_12 : decode cX7_keep 12 = .ok (.iconst 0, 1) := dk_3 (dk_at dksX7_keep_0 12 rfl rfl)
theorem dX7_keep_13 : decode cX7_keep 13 = .ok (.istore_n 2, 1) := dk_61 (dk_at dksX7_keep_0 13 rfl rfl)
theorem dX7_keep_14 : decode cX7_keep 14 = .ok (.iload_n 2, 1) := dk_28 (dk_at dksX7_keep_0 14 rfl rfl)
theorem dX7_keep_15 : decode cX7_keep 15 = .ok (.sipush 3614, 3) := dk_17 14 30 (dk_at dksX7_keep_0 15 rfl rfl)
theorem dX7_keep_18 : decode cX7_keep 18 = .ok (.if_icmp .ge 27, 3) := dk_162 0 27 (dk_at dksX7_keep_0 18 rfl rfl)
theorem dX7_keep_21 : decode cX7_keep 21 = .ok (.aload_n 0, 1) := dk_42 (dk_at dksX7_keep_0 21 rfl rfl)
theorem dX7_keep_22 : decode cX7_keep 22 = .ok (.getfield 70, 3) := dk_180 0 70 (dk_at dksX7_keep_1 0 rfl rfl)
theorem dX7_keep_25 : decode cX7_keep 25 = .ok (.sipush 3614, 3) := dk_17 14 30 (dk_at dksX7_keep_1 3 rfl rfl)
theorem dX7_keep_28 : decode cX7_keep 28 = .ok (.iload_n 1, 1) := dk_27 (dk_at dksX7_keep_1 6 rfl rfl)
theorem dX7_keep_29 : decode cX7_keep 29 = .ok (.imul, 1) := dk_104 (dk_at dksX7_keep_1 7 rfl rfl)
theorem dX7_keep_30 : decode cX7_keep 30 = .ok (.iload_n 2, 1) := dk_28 (dk_at dksX7_keep_1 8 rfl rfl)
theorem dX7_keep_31 : decode cX7_keep 31 = .ok (.iadd, 1) := dk_96 (dk_at dksX7_keep_1 9 rfl rfl)
theorem dX7_keep_32 : decode cX7_keep 32 = .ok (.aload_n 0, 1) := dk_42 (dk_at dksX7_keep_1 10 rfl rfl)
theorem dX7_keep_33 : decode cX7_keep 33 = .ok (.getfield 51, 3) := dk_180 0 51 (dk_at dksX7_keep_1 11 rfl rfl)
theorem dX7_keep_36 : decode cX7_keep 36 = .ok (.iload_n 2, 1) := dk_28 (dk_at dksX7_keep_1 14 rfl rfl)
theorem dX7_keep_37 : decode cX7_keep 37 = .ok (.iaload, 1) := dk_46 (dk_at dksX7_keep_1 15 rfl rfl)
theorem dX7_keep_38 : decode cX7_keep 38 = .ok (.iastore, 1) := dk_79 (dk_at dksX7_keep_1 16 rfl rfl)
theorem dX7_keep_39 : decode cX7_keep 39 = .ok (.iinc 2 1, 3) := dk_132 2 1 (dk_at dksX7_keep_1 17 rfl rfl)
theorem dX7_keep_42 : decode cX7_keep 42 = .ok (.goto (-28), 3) := dk_167 255 228 (dk_at dksX7_keep_1 20 rfl rfl)
theorem dX7_keep_45 : decode cX7_keep 45 = .ok (.aload_n 0, 1) := dk_42 (dk_at dksX7_keep_1 23 rfl rfl)
theorem dX7_keep_46 : decode cX7_keep 46 = .ok (.getfield 73, 3) := dk_180 0 73 (dk_at dksX7_keep_2 0 rfl rfl)
theorem dX7_keep_49 : decode cX7_keep 49 = .ok (.iconst 2, 1) := dk_5 (dk_at dksX7_keep_2 3 rfl rfl)
theorem dX7_keep_50 : decode cX7_keep 50 = .ok (.iload_n 1, 1) := dk_27 (dk_at dksX7_keep_2 4 rfl rfl)
theorem dX7_keep_51 : decode cX7_keep 51 = .ok (.imul, 1) := dk_104 (dk_at dksX7_keep_2 5 rfl rfl)
theorem dX7_keep_52 : decode cX7_keep 52 = .ok (.aload_n 0, 1) := dk_42 (dk_at dksX7_keep_2 6 rfl rfl)
theorem dX7_keep_53 : decode cX7_keep 53 = .ok (.getfield 54, 3) := dk_180 0 54 (dk_at dksX7_keep_2 7 rfl rfl)
theorem dX7_keep_56 : decode cX7_keep 56 = .ok (.iconst 0, 1) := dk_3 (dk_at dksX7_keep_2 10 rfl rfl)
theorem dX7_keep_57 : decode cX7_keep 57 = .ok (.laload, 1) := dk_47 (dk_at dksX7_keep_2 11 rfl rfl)
theorem dX7_keep_58 : decode cX7_keep 58 = .ok (.lastore, 1) := dk_80 (dk_at dksX7_keep_2 12 rfl rfl)
theorem dX7_keep_59 : decode cX7_keep 59 = .ok (.aload_n 0, 1) := dk_42 (dk_at dksX7_keep_2 13 rfl rfl)
theorem dX7_keep_60 : decode cX7_keep 60 = .ok (.getfield 73, 3) := dk_180 0 73 (dk_at dksX7_keep_2 14 rfl rfl)
theorem dX7_keep_63 : decode cX7_keep 63 = .ok (.iconst 2, 1) := dk_5 (dk_at dksX7_keep_2 17 rfl rfl)
theorem dX7_keep_64 : decode cX7_keep 64 = .ok (.iload_n 1, 1) := dk_27 (dk_at dksX7_keep_2 18 rfl rfl)
theorem dX7_keep_65 : decode cX7_keep 65 = .ok (.imul, 1) := dk_104 (dk_at dksX7_keep_2 19 rfl rfl)
theorem dX7_keep_66 : decode cX7_keep 66 = .ok (.iconst 1, 1) := dk_4 (dk_at dksX7_keep_2 20 rfl rfl)
theorem dX7_keep_67 : decode cX7_keep 67 = .ok (.iadd, 1) := dk_96 (dk_at dksX7_keep_2 21 rfl rfl)
theorem dX7_keep_68 : decode cX7_keep 68 = .ok (.aload_n 0, 1) := dk_42 (dk_at dksX7_keep_2 22 rfl rfl)
theorem dX7_keep_69 : decode cX7_keep 69 = .ok (.getfield 54, 3) := dk_180 0 54 (dk_at dksX7_keep_3 0 rfl rfl)
theorem dX7_keep_72 : decode cX7_keep 72 = .ok (.iconst 1, 1) := dk_4 (dk_at dksX7_keep_3 3 rfl rfl)
theorem dX7_keep_73 : decode cX7_keep 73 = .ok (.laload, 1) := dk_47 (dk_at dksX7_keep_3 4 rfl rfl)
theorem dX7_keep_74 : decode cX7_keep 74 = .ok (.lastore, 1) := dk_80 (dk_at dksX7_keep_3 5 rfl rfl)
theorem dX7_keep_75 : decode cX7_keep 75 = .ok (.aload_n 0, 1) := dk_42 (dk_at dksX7_keep_3 6 rfl rfl)
theorem dX7_keep_76 : decode cX7_keep 76 = .ok (.getfield 76, 3) := dk_180 0 76 (dk_at dksX7_keep_3 7 rfl rfl)
theorem dX7_keep_79 : decode cX7_keep 79 = .ok (.iload_n 1, 1) := dk_27 (dk_at dksX7_keep_3 10 rfl rfl)
theorem dX7_keep_80 : decode cX7_keep 80 = .ok (.iconst 1, 1) := dk_4 (dk_at dksX7_keep_3 11 rfl rfl)
theorem dX7_keep_81 : decode cX7_keep 81 = .ok (.bastore, 1) := dk_84 (dk_at dksX7_keep_3 12 rfl rfl)
theorem dX7_keep_82 : decode cX7_keep 82 = .ok (.aload_n 0, 1) := dk_42 (dk_at dksX7_keep_3 13 rfl rfl)
theorem dX7_keep_83 : decode cX7_keep 83 = .ok (.getfield 51, 3) := dk_180 0 51 (dk_at dksX7_keep_3 14 rfl rfl)
theorem dX7_keep_86 : decode cX7_keep 86 = .ok (.iconst 0, 1) := dk_3 (dk_at dksX7_keep_3 17 rfl rfl)
theorem dX7_keep_87 : decode cX7_keep 87 = .ok (.iaload, 1) := dk_46 (dk_at dksX7_keep_3 18 rfl rfl)
theorem dX7_keep_88 : decode cX7_keep 88 = .ok (.ireturn, 1) := dk_172 (dk_at dksX7_keep_3 19 rfl rfl)
abbrev cX7_restore : ByteArray := prog_13_method_70_code
def yX7_restore : MethodName := ⟨RX7, "restore", "(I)I"⟩
def dkwX7_restore_4 : List UInt8 := [180, 0, 51, 3, 46, 172]
abbrev dktX7_restore_4 : List UInt8 := dkwX7_restore_4 ++ []
def dkwX7_restore_3 : List UInt8 := [5, 27, 104, 47, 80, 42, 180, 0, 54, 4, 42, 180, 0, 73, 5, 27, 104, 4, 96, 47, 80, 42]
abbrev dktX7_restore_3 : List UInt8 := dkwX7_restore_3 ++ dktX7_restore_4
def dkwX7_restore_2 : List UInt8 := [17, 14, 30, 27, 104, 28, 96, 46, 79, 132, 2, 1, 167, 255, 228, 42, 180, 0, 54, 3, 42, 180, 0, 73]
abbrev dktX7_restore_2 : List UInt8 := dkwX7_restore_2 ++ dktX7_restore_3
def dkwX7_restore_1 : List UInt8 := [42, 182, 1, 118, 3, 61, 28, 17, 14, 30, 162, 0, 27, 42, 180, 0, 51, 28, 42, 180, 0, 70]
abbrev dktX7_restore_1 : List UInt8 := dkwX7_restore_1 ++ dktX7_restore_2
def dkwX7_restore_0 : List UInt8 := [27, 133, 9, 10, 184, 0, 146, 154, 0, 5, 2, 172, 42, 180, 0, 76, 27, 51, 154, 0, 6, 16, 254, 172]
abbrev dktX7_restore_0 : List UInt8 := dkwX7_restore_0 ++ dktX7_restore_1
theorem dksX7_restore_0 : cX7_restore.data.toList.drop 0 = dktX7_restore_0 := by decide +kernel
theorem dksX7_restore_1 : cX7_restore.data.toList.drop 24 = dktX7_restore_1 := dk_seg dksX7_restore_0 24 rfl rfl
theorem dksX7_restore_2 : cX7_restore.data.toList.drop 46 = dktX7_restore_2 := dk_seg dksX7_restore_1 22 rfl rfl
theorem dksX7_restore_3 : cX7_restore.data.toList.drop 70 = dktX7_restore_3 := dk_seg dksX7_restore_2 24 rfl rfl
theorem dksX7_restore_4 : cX7_restore.data.toList.drop 92 = dktX7_restore_4 := dk_seg dksX7_restore_3 22 rfl rfl
theorem dX7_restore_0 : decode cX7_restore 0 = .ok (.iload_n 1, 1) := dk_27 (dk_at dksX7_restore_0 0 rfl rfl)
theorem dX7_restore_1 : decode cX7_restore 1 = .ok (.i2l, 1) := dk_133 (dk_at dksX7_restore_0 1 rfl rfl)
theorem dX7_restore_2 : decode cX7_restore 2 = .ok (.lconst 0, 1) := dk_9 (dk_at dksX7_restore_0 2 rfl rfl)
theorem dX7_restore_3 : decode cX7_restore 3 = .ok (.lconst 1, 1) := dk_10 (dk_at dksX7_restore_0 3 rfl rfl)
theorem dX7_restore_4 : decode cX7_restore 4 = .ok (.invokestatic 146, 3) := dk_184 0 146 (dk_at dksX7_restore_0 4 rfl rfl)
theorem dX7_restore_7 : decode cX7_restore 7 = .ok (.ifCond .ne 5, 3) := dk_154 0 5 (dk_at dksX7_restore_0 7 rfl rfl)
theorem dX7_restore_10 : decode cX7_restore 10 = .ok (.iconst (-1), 1) := dk_2 (dk_at dksX7_restore_0 10 rfl rfl)
theorem dX7_restore_11 : decode cX7_restore 11 = .ok (.ireturn, 1) := dk_172 (dk_at dksX7_restore_0 11 rfl rfl)
theorem dX7_restore_12 : decode cX7_restore 12 = .ok (.aload_n 0, 1) := dk_42 (dk_at dksX7_restore_0 12 rfl rfl)
theorem dX7_restore_13 : decode cX7_restore 13 = .ok (.getfield 76, 3) := dk_180 0 76 (dk_at dksX7_restore_0 13 rfl rfl)
theorem dX7_restore_16 : decode cX7_restore 16 = .ok (.iload_n 1, 1) := dk_27 (dk_at dksX7_restore_0 16 rfl rfl)
theorem dX7_restore_17 : decode cX7_restore 17 = .ok (.baload, 1) := dk_51 (dk_at dksX7_restore_0 17 rfl rfl)
theorem dX7_restore_18 : decode cX7_restore 18 = .ok (.ifCond .ne 6, 3) := dk_154 0 6 (dk_at dksX7_restore_0 18 rfl rfl)
theorem dX7_restore_21 : decode cX7_restore 21 = .ok (.bipush (-2), 2) := dk_16 254 (dk_at dksX7_restore_0 21 rfl rfl)
theorem dX7_restore_23 : decode cX7_restore 23 = .ok (.ireturn, 1) := dk_172 (dk_at dksX7_restore_0 23 rfl rfl)
theorem dX7_restore_24 : decode cX7_restore 24 = .ok (.aload_n 0, 1) := dk_42 (dk_at dksX7_restore_1 0 rfl rfl)
theorem dX7_restore_25 : decode cX7_restore 25 = .ok (.invokevirtual 374, 3) := dk_182 1 118 (dk_at dksX7_restore_1 1 rfl rfl)
theorem dX7_restore_28 : decode cX7_restore 28 = .ok (.iconst 0, 1) := dk_3 (dk_at dksX7_restore_1 4 rfl rfl)
theorem dX7_restore_29 : decode cX7_restore 29 = .ok (.istore_n 2, 1) := dk_61 (dk_at dksX7_restore_1 5 rfl rfl)
theorem dX7_restore_30 : decode cX7_restore 30 = .ok (.iload_n 2, 1) := dk_28 (dk_at dksX7_restore_1 6 rfl rfl)
theorem dX7_restore_31 : decode cX7_restore 31 = .ok (.sipush 3614, 3) := dk_17 14 30 (dk_at dksX7_restore_1 7 rfl rfl)
theorem dX7_restore_34 : decode cX7_restore 34 = .ok (.if_icmp .ge 27, 3) := dk_162 0 27 (dk_at dksX7_restore_1 10 rfl rfl)
theorem dX7_restore_37 : decode cX7_restore 37 = .ok (.aload_n 0, 1) := dk_42 (dk_at dksX7_restore_1 13 rfl rfl)
theorem dX7_restore_38 : decode cX7_restore 38 = .ok (.getfield 51, 3) := dk_180 0 51 (dk_at dksX7_restore_1 14 rfl rfl)
theorem dX7_restore_41 : decode cX7_restore 41 = .ok (.iload_n 2, 1) := dk_28 (dk_at dksX7_restore_1 17 rfl rfl)
theorem dX7_restore_42 : decode cX7_restore 42 = .ok (.aload_n 0, 1) := dk_42 (dk_at dksX7_restore_1 18 rfl rfl)
theorem dX7_restore_43 : decode cX7_restore 43 = .ok (.getfield 70, 3) := dk_180 0 70 (dk_at dksX7_restore_1 19 rfl rfl)
theorem dX7_restore_46 : decode cX7_restore 46 = .ok (.sipush 3614, 3) := dk_17 14 30 (dk_at dksX7_restore_2 0 rfl rfl)
theorem dX7_restore_49 : decode cX7_restore 49 = .ok (.iload_n 1, 1) := dk_27 (dk_at dksX7_restore_2 3 rfl rfl)
theorem dX7_restore_50 : decode cX7_restore 50 = .ok (.imul, 1) := dk_104 (dk_at dksX7_restore_2 4 rfl rfl)
theorem dX7_restore_51 : decode cX7_restore 51 = .ok (.iload_n 2, 1) := dk_28 (dk_at dksX7_restore_2 5 rfl rfl)
theorem dX7_restore_52 : decode cX7_restore 52 = .ok (.iadd, 1) := dk_96 (dk_at dksX7_restore_2 6 rfl rfl)
theorem dX7_restore_53 : decode cX7_restore 53 = .ok (.iaload, 1) := dk_46 (dk_at dksX7_restore_2 7 rfl rfl)
theorem dX7_restore_54 : decode cX7_restore 54 = .ok (.iastore, 1) := dk_79 (dk_at dksX7_restore_2 8 rfl rfl)
theorem dX7_restore_55 : decode cX7_restore 55 = .ok (.iinc 2 1, 3) := dk_132 2 1 (dk_at dksX7_restore_2 9 rfl rfl)
theorem dX7_restore_58 : decode cX7_restore 58 = .ok (.goto (-28), 3) := dk_167 255 228 (dk_at dksX7_restore_2 12 rfl rfl)
theorem dX7_restore_61 : decode cX7_restore 61 = .ok (.aload_n 0, 1) := dk_42 (dk_at dksX7_restore_2 15 rfl rfl)
theorem dX7_restore_62 : decode cX7_restore 62 = .ok (.getfield 54, 3) := dk_180 0 54 (dk_at dksX7_restore_2 16 rfl rfl)
theorem dX7_restore_65 : decode cX7_restore 65 = .ok (.iconst 0, 1) := dk_3 (dk_at dksX7_restore_2 19 rfl rfl)
theorem dX7_restore_66 : decode cX7_restore 66 = .ok (.aload_n 0, 1) := dk_42 (dk_at dksX7_restore_2 20 rfl rfl)
theorem dX7_restore_67 : decode cX7_restore 67 = .ok (.getfield 73, 3) := dk_180 0 73 (dk_at dksX7_restore_2 21 rfl rfl)
theorem dX7_restore_70 : decode cX7_restore 70 = .ok (.iconst 2, 1) := dk_5 (dk_at dksX7_restore_3 0 rfl rfl)
theorem dX7_restore_71 : decode cX7_restore 71 = .ok (.iload_n 1, 1) := dk_27 (dk_at dksX7_restore_3 1 rfl rfl)
theorem dX7_restore_72 : decode cX7_restore 72 = .ok (.imul, 1) := dk_104 (dk_at dksX7_restore_3 2 rfl rfl)
theorem dX7_restore_73 : decode cX7_restore 73 = .ok (.laload, 1) := dk_47 (dk_at dksX7_restore_3 3 rfl rfl)
theorem dX7_restore_74 : decode cX7_restore 74 = .ok (.lastore, 1) := dk_80 (dk_at dksX7_restore_3 4 rfl rfl)
theorem dX7_restore_75 : decode cX7_restore 75 = .ok (.aload_n 0, 1) := dk_42 (dk_at dksX7_restore_3 5 rfl rfl)
theorem dX7_restore_76 : decode cX7_restore 76 = .ok (.getfield 54, 3) := dk_180 0 54 (dk_at dksX7_restore_3 6 rfl rfl)
theorem dX7_restore_79 : decode cX7_restore 79 = .ok (.iconst 1, 1) := dk_4 (dk_at dksX7_restore_3 9 rfl rfl)
theorem dX7_restore_80 : decode cX7_restore 80 = .ok (.aload_n 0, 1) := dk_42 (dk_at dksX7_restore_3 10 rfl rfl)
theorem dX7_restore_81 : decode cX7_restore 81 = .ok (.getfield 73, 3) := dk_180 0 73 (dk_at dksX7_restore_3 11 rfl rfl)
theorem dX7_restore_84 : decode cX7_restore 84 = .ok (.iconst 2, 1) := dk_5 (dk_at dksX7_restore_3 14 rfl rfl)
theorem dX7_restore_85 : decode cX7_restore 85 = .ok (.iload_n 1, 1) := dk_27 (dk_at dksX7_restore_3 15 rfl rfl)
theorem dX7_restore_86 : decode cX7_restore 86 = .ok (.imul, 1) := dk_104 (dk_at dksX7_restore_3 16 rfl rfl)
theorem dX7_restore_87 : decode cX7_restore 87 = .ok (.iconst 1, 1) := dk_4 (dk_at dksX7_restore_3 17 rfl rfl)
theorem dX7_restore_88 : decode cX7_restore 88 = .ok (.iadd, 1) := dk_96 (dk_at dksX7_restore_3 18 rfl rfl)
theorem dX7_restore_89 : decode cX7_restore 89 = .ok (.laload, 1) := dk_47 (dk_at dksX7_restore_3 19 rfl rfl)
theorem dX7_restore_90 : decode cX7_restore 90 = .ok (.lastore, 1) := dk_80 (dk_at dksX7_restore_3 20 rfl rfl)
theorem dX7_restore_91 : decode cX7_restore 91 = .ok (.aload_n 0, 1) := dk_42 (dk_at dksX7_restore_3 21 rfl rfl)
theorem dX7_restore_92 : decode cX7_restore 92 = .ok (.getfield 51, 3) := dk_180 0 51 (dk_at dksX7_restore_4 0 rfl rfl)
theorem dX7_restore_95 : decode cX7_restore 95 = .ok (.iconst 0, 1) := dk_3 (dk_at dksX7_restore_4 3 rfl rfl)
theorem dX7_restore_96 : decode cX7_restore 96 = .ok (.iaload, 1) := dk_46 (dk_at dksX7_restore_4 4 rfl rfl)
theorem dX7_restore_97 : decode cX7_restore 97 = .ok (.ireturn, 1) := dk_172 (dk_at dksX7_restore_4 5 rfl rfl)
abbrev cX7_value : ByteArray := prog_13_method_75_code
def yX7_value : MethodName := ⟨RX7, "value", "(I)I"⟩
def dkwX7_value_5 : List UInt8 := [42, 180, 0, 51, 16, 6, 27, 96, 16, 15, 100, 46, 172, 2, 172]
abbrev dktX7_value_5 : List UInt8 := dkwX7_value_5 ++ []
def dkwX7_value_4 : List UInt8 := [27, 96, 16, 8, 100, 46, 172, 42, 180, 0, 51, 4, 46, 172, 42, 182, 1, 151, 172, 42, 182, 1, 154, 172]
abbrev dktX7_value_4 : List UInt8 := dkwX7_value_4 ++ dktX7_value_5
def dkwX7_value_3 : List UInt8 := [182, 1, 124, 172, 42, 180, 0, 121, 172, 42, 180, 0, 124, 172, 42, 180, 0, 127, 172, 42, 180, 0, 51, 5]
abbrev dktX7_value_3 : List UInt8 := dkwX7_value_3 ++ dktX7_value_4
def dkwX7_value_2 : List UInt8 := [42, 180, 0, 51, 3, 46, 172, 42, 180, 0, 113, 172, 42, 180, 0, 118, 172, 42, 180, 0, 136, 172, 42]
abbrev dktX7_value_2 : List UInt8 := dkwX7_value_2 ++ dktX7_value_3
def dkwX7_value_1 : List UInt8 := [170, 0, 0, 0, 0, 0, 187, 0, 0, 0, 0, 0, 0, 0, 21, 0, 0, 0, 103, 0, 0, 0, 110, 0, 0, 0, 115, 0, 0, 0, 120, 0, 0, 0, 125, 0, 0, 0, 130, 0, 0, 0, 135, 0, 0, 0, 140, 0, 0, 0, 145, 0, 0, 0, 145, 0, 0, 0, 145, 0, 0, 0, 145, 0, 0, 0, 157, 0, 0, 0, 164, 0, 0, 0, 169, 0, 0, 0, 174, 0, 0, 0, 174, 0, 0, 0, 174, 0, 0, 0, 174, 0, 0, 0, 174, 0, 0, 0, 174, 0, 0, 0, 174]
abbrev dktX7_value_1 : List UInt8 := dkwX7_value_1 ++ dktX7_value_2
def dkwX7_value_0 : List UInt8 := [27]
abbrev dktX7_value_0 : List UInt8 := dkwX7_value_0 ++ dktX7_value_1
theorem dksX7_value_0 : cX7_value.data.toList.drop 0 = dktX7_value_0 := by decide +kernel
theorem dksX7_value_1 : cX7_value.data.toList.drop 1 = dktX7_value_1 := dk_seg dksX7_value_0 1 rfl rfl
theorem dksX7_value_2 : cX7_value.data.toList.drop 104 = dktX7_value_2 := dk_seg dksX7_value_1 103 rfl rfl
theorem dksX7_value_3 : cX7_value.data.toList.drop 127 = dktX7_value_3 := dk_seg dksX7_value_2 23 rfl rfl
theorem dksX7_value_4 : cX7_value.data.toList.drop 151 = dktX7_value_4 := dk_seg dksX7_value_3 24 rfl rfl
theorem dksX7_value_5 : cX7_value.data.toList.drop 175 = dktX7_value_5 := dk_seg dksX7_value_4 24 rfl rfl
theorem dX7_value_0 : decode cX7_value 0 = .ok (.iload_n 1, 1) := dk_27 (dk_at dksX7_value_0 0 rfl rfl)
theorem dX7_value_1 : decode cX7_value 1 = .ok (.tableswitch 187 0 21 #[103, 110, 115, 120, 125, 130, 135, 140, 145, 145, 145, 145, 157, 164, 169, 174, 174, 174, 174, 174, 174, 174], 103) := by decide +kernel
theorem dX7_value_104 : decode cX7_value 104 = .ok (.aload_n 0, 1) := dk_42 (dk_at dksX7_value_2 0 rfl rfl)
theorem dX7_value_105 : decode cX7_value 105 = .ok (.getfield 51, 3) := dk_180 0 51 (dk_at dksX7_value_2 1 rfl rfl)
theorem dX7_value_108 : decode cX7_value 108 = .ok (.iconst 0, 1) := dk_3 (dk_at dksX7_value_2 4 rfl rfl)
theorem dX7_value_109 : decode cX7_value 109 = .ok (.iaload, 1) := dk_46 (dk_at dksX7_value_2 5 rfl rfl)
theorem dX7_value_110 : decode cX7_value 110 = .ok (.ireturn, 1) := dk_172 (dk_at dksX7_value_2 6 rfl rfl)
theorem dX7_value_111 : decode cX7_value 111 = .ok (.aload_n 0, 1) := dk_42 (dk_at dksX7_value_2 7 rfl rfl)
theorem dX7_value_112 : decode cX7_value 112 = .ok (.getfield 113, 3) := dk_180 0 113 (dk_at dksX7_value_2 8 rfl rfl)
theorem dX7_value_115 : decode cX7_value 115 = .ok (.ireturn, 1) := dk_172 (dk_at dksX7_value_2 11 rfl rfl)
theorem dX7_value_116 : decode cX7_value 116 = .ok (.aload_n 0, 1) := dk_42 (dk_at dksX7_value_2 12 rfl rfl)
theorem dX7_value_117 : decode cX7_value 117 = .ok (.getfield 118, 3) := dk_180 0 118 (dk_at dksX7_value_2 13 rfl rfl)
theorem dX7_value_120 : decode cX7_value 120 = .ok (.ireturn, 1) := dk_172 (dk_at dksX7_value_2 16 rfl rfl)
theorem dX7_value_121 : decode cX7_value 121 = .ok (.aload_n 0, 1) := dk_42 (dk_at dksX7_value_2 17 rfl rfl)
theorem dX7_value_122 : decode cX7_value 122 = .ok (.getfield 136, 3) := dk_180 0 136 (dk_at dksX7_value_2 18 rfl rfl)
theorem dX7_value_125 : decode cX7_value 125 = .ok (.ireturn, 1) := dk_172 (dk_at dksX7_value_2 21 rfl rfl)
theorem dX7_value_126 : decode cX7_value 126 = .ok (.aload_n 0, 1) := dk_42 (dk_at dksX7_value_2 22 rfl rfl)
theorem dX7_value_127 : decode cX7_value 127 = .ok (.invokevirtual 380, 3) := dk_182 1 124 (dk_at dksX7_value_3 0 rfl rfl)
theorem dX7_value_130 : decode cX7_value 130 = .ok (.ireturn, 1) := dk_172 (dk_at dksX7_value_3 3 rfl rfl)
theorem dX7_value_131 : decode cX7_value 131 = .ok (.aload_n 0, 1) := dk_42 (dk_at dksX7_value_3 4 rfl rfl)
theorem dX7_value_132 : decode cX7_value 132 = .ok (.getfield 121, 3) := dk_180 0 121 (dk_at dksX7_value_3 5 rfl rfl)
theorem dX7_value_135 : decode cX7_value 135 = .ok (.ireturn, 1) := dk_172 (dk_at dksX7_value_3 8 rfl rfl)
theorem dX7_value_136 : decode cX7_value 136 = .ok (.aload_n 0, 1) := dk_42 (dk_at dksX7_value_3 9 rfl rfl)
theorem dX7_value_137 : decode cX7_value 137 = .ok (.getfield 124, 3) := dk_180 0 124 (dk_at dksX7_value_3 10 rfl rfl)
theorem dX7_value_140 : decode cX7_value 140 = .ok (.ireturn, 1) := dk_172 (dk_at dksX7_value_3 13 rfl rfl)
theorem dX7_value_141 : decode cX7_value 141 = .ok (.aload_n 0, 1) := dk_42 (dk_at dksX7_value_3 14 rfl rfl)
theorem dX7_value_142 : decode cX7_value 142 = .ok (.getfield 127, 3) := dk_180 0 127 (dk_at dksX7_value_3 15 rfl rfl)
theorem dX7_value_145 : decode cX7_value 145 = .ok (.ireturn, 1) := dk_172 (dk_at dksX7_value_3 18 rfl rfl)
theorem dX7_value_146 : decode cX7_value 146 = .ok (.aload_n 0, 1) := dk_42 (dk_at dksX7_value_3 19 rfl rfl)
theorem dX7_value_147 : decode cX7_value 147 = .ok (.getfield 51, 3) := dk_180 0 51 (dk_at dksX7_value_3 20 rfl rfl)
theorem dX7_value_150 : decode cX7_value 150 = .ok (.iconst 2, 1) := dk_5 (dk_at dksX7_value_3 23 rfl rfl)
theorem dX7_value_151 : decode cX7_value 151 = .ok (.iload_n 1, 1) := dk_27 (dk_at dksX7_value_4 0 rfl rfl)
theorem dX7_value_152 : decode cX7_value 152 = .ok (.iadd, 1) := dk_96 (dk_at dksX7_value_4 1 rfl rfl)
theorem dX7_value_153 : decode cX7_value 153 = .ok (.bipush 8, 2) := dk_16 8 (dk_at dksX7_value_4 2 rfl rfl)
theorem dX7_value_155 : decode cX7_value 155 = .ok (.isub, 1) := dk_100 (dk_at dksX7_value_4 4 rfl rfl)
theorem dX7_value_156 : decode cX7_value 156 = .ok (.iaload, 1) := dk_46 (dk_at dksX7_value_4 5 rfl rfl)
theorem dX7_value_157 : decode cX7_value 157 = .ok (.ireturn, 1) := dk_172 (dk_at dksX7_value_4 6 rfl rfl)
theorem dX7_value_158 : decode cX7_value 158 = .ok (.aload_n 0, 1) := dk_42 (dk_at dksX7_value_4 7 rfl rfl)
theorem dX7_value_159 : decode cX7_value 159 = .ok (.getfield 51, 3) := dk_180 0 51 (dk_at dksX7_value_4 8 rfl rfl)
theorem dX7_value_162 : decode cX7_value 162 = .ok (.iconst 1, 1) := dk_4 (dk_at dksX7_value_4 11 rfl rfl)
theorem dX7_value_163 : decode cX7_value 163 = .ok (.iaload, 1) := dk_46 (dk_at dksX7_value_4 12 rfl rfl)
theorem dX7_value_164 : decode cX7_value 164 = .ok (.ireturn, 1) := dk_172 (dk_at dksX7_value_4 13 rfl rfl)
theorem dX7_value_165 : decode cX7_value 165 = .ok (.aload_n 0, 1) := dk_42 (dk_at dksX7_value_4 14 rfl rfl)
theorem dX7_value_166 : decode cX7_value 166 = .ok (.invokevirtual 407, 3) := dk_182 1 151 (dk_at dksX7_value_4 15 rfl rfl)
theorem dX7_value_169 : decode cX7_value 169 = .ok (.ireturn, 1) := dk_172 (dk_at dksX7_value_4 18 rfl rfl)
theorem dX7_value_170 : decode cX7_value 170 = .ok (.aload_n 0, 1) := dk_42 (dk_at dksX7_value_4 19 rfl rfl)
theorem dX7_value_171 : decode cX7_value 171 = .ok (.invokevirtual 410, 3) := dk_182 1 154 (dk_at dksX7_value_4 20 rfl rfl)
theorem dX7_value_174 : decode cX7_value 174 = .ok (.ireturn, 1) := dk_172 (dk_at dksX7_value_4 23 rfl rfl)
theorem dX7_value_175 : decode cX7_value 175 = .ok (.aload_n 0, 1) := dk_42 (dk_at dksX7_value_5 0 rfl rfl)
theorem dX7_value_176 : decode cX7_value 176 = .ok (.getfield 51, 3) := dk_180 0 51 (dk_at dksX7_value_5 1 rfl rfl)
theorem dX7_value_179 : decode cX7_value 179 = .ok (.bipush 6, 2) := dk_16 6 (dk_at dksX7_value_5 4 rfl rfl)
theorem dX7_value_181 : decode cX7_value 181 = .ok (.iload_n 1, 1) := dk_27 (dk_at dksX7_value_5 6 rfl rfl)
theorem dX7_value_182 : decode cX7_value 182 = .ok (.iadd, 1) := dk_96 (dk_at dksX7_value_5 7 rfl rfl)
theorem dX7_value_183 : decode cX7_value 183 = .ok (.bipush 15, 2) := dk_16 15 (dk_at dksX7_value_5 8 rfl rfl)
theorem dX7_value_185 : decode cX7_value 185 = .ok (.isub, 1) := dk_100 (dk_at dksX7_value_5 10 rfl rfl)
theorem dX7_value_186 : decode cX7_value 186 = .ok (.iaload, 1) := dk_46 (dk_at dksX7_value_5 11 rfl rfl)
theorem dX7_value_187 : decode cX7_value 187 = .ok (.ireturn, 1) := dk_172 (dk_at dksX7_value_5 12 rfl rfl)
theorem dX7_value_188 : decode cX7_value 188 = .ok (.iconst (-1), 1) := dk_2 (dk_at dksX7_value_5 13 rfl rfl)
theorem dX7_value_189 : decode cX7_value 189 = .ok (.ireturn, 1) := dk_172 (dk_at dksX7_value_5 14 rfl rfl)
abbrev cX7_waitingAll : ByteArray := prog_13_method_73_code
def yX7_waitingAll : MethodName := ⟨RX7, "waitingAll", "()I"⟩
def dkwX7_waitingAll_1 : List UInt8 := [132, 2, 1, 167, 255, 233, 27, 172]
abbrev dktX7_waitingAll_1 : List UInt8 := dkwX7_waitingAll_1 ++ []
def dkwX7_waitingAll_0 : List UInt8 := [3, 60, 3, 61, 28, 42, 180, 0, 113, 162, 0, 21, 27, 42, 180, 0, 51, 16, 23, 28, 96, 46, 96, 60]
abbrev dktX7_waitingAll_0 : List UInt8 := dkwX7_waitingAll_0 ++ dktX7_waitingAll_1
theorem dksX7_waitingAll_0 : cX7_waitingAll.data.toList.drop 0 = dktX7_waitingAll_0 := by decide +kernel
theorem dksX7_waitingAll_1 : cX7_waitingAll.data.toList.drop 24 = dktX7_waitingAll_1 := dk_seg dksX7_waitingAll_0 24 rfl rfl
theorem dX7_waitingAll_0 : decode cX7_waitingAll 0 = .ok (.iconst 0, 1) := dk_3 (dk_at dksX7_waitingAll_0 0 rfl rfl)
theorem dX7_waitingAll_1 : decode cX7_waitingAll 1 = .ok (.istore_n 1, 1) := dk_60 (dk_at dksX7_waitingAll_0 1 rfl rfl)
theorem dX7_waitingAll_2 : decode cX7_waitingAll 2 = .ok (.iconst 0, 1) := dk_3 (dk_at dksX7_waitingAll_0 2 rfl rfl)
theorem dX7_waitingAll_3 : decode cX7_waitingAll 3 = .ok (.istore_n 2, 1) := dk_61 (dk_at dksX7_waitingAll_0 3 rfl rfl)
theorem dX7_waitingAll_4 : decode cX7_waitingAll 4 = .ok (.iload_n 2, 1) := dk_28 (dk_at dksX7_waitingAll_0 4 rfl rfl)
theorem dX7_waitingAll_5 : decode cX7_waitingAll 5 = .ok (.aload_n 0, 1) := dk_42 (dk_at dksX7_waitingAll_0 5 rfl rfl)
theorem dX7_waitingAll_6 : decode cX7_waitingAll 6 = .ok (.getfield 113, 3) := dk_180 0 113 (dk_at dksX7_waitingAll_0 6 rfl rfl)
theorem dX7_waitingAll_9 : decode cX7_waitingAll 9 = .ok (.if_icmp .ge 21, 3) := dk_162 0 21 (dk_at dksX7_waitingAll_0 9 rfl rfl)
theorem dX7_waitingAll_12 : decode cX7_waitingAll 12 = .ok (.iload_n 1, 1) := dk_27 (dk_at dksX7_waitingAll_0 12 rfl rfl)
theorem dX7_waitingAll_13 : decode cX7_waitingAll 13 = .ok (.aload_n 0, 1) := dk_42 (dk_at dksX7_waitingAll_0 13 rfl rfl)
theorem dX7_waitingAll_14 : decode cX7_waitingAll 14 = .ok (.getfield 51, 3) := dk_180 0 51 (dk_at dksX7_waitingAll_0 14 rfl rfl)
theorem dX7_waitingAll_17 : decode cX7_waitingAll 17 = .ok (.bipush 23, 2) := dk_16 23 (dk_at dksX7_waitingAll_0 17 rfl rfl)
theorem dX7_waitingAll_19 : decode cX7_waitingAll 19 = .ok (.iload_n 2, 1) := dk_28 (dk_at dksX7_waitingAll_0 19 rfl rfl)
theorem dX7_waitingAll_20 : decode cX7_waitingAll 20 = .ok (.iadd, 1) := dk_96 (dk_at dksX7_waitingAll_0 20 rfl rfl)
theorem dX7_waitingAll_21 : decode cX7_waitingAll 21 = .ok (.iaload, 1) := dk_46 (dk_at dksX7_waitingAll_0 21 rfl rfl)
theorem dX7_waitingAll_22 : decode cX7_waitingAll 22 = .ok (.iadd, 1) := dk_96 (dk_at dksX7_waitingAll_0 22 rfl rfl)
theorem dX7_waitingAll_23 : decode cX7_waitingAll 23 = .ok (.istore_n 1, 1) := dk_60 (dk_at dksX7_waitingAll_0 23 rfl rfl)
theorem dX7_waitingAll_24 : decode cX7_waitingAll 24 = .ok (.iinc 2 1, 3) := dk_132 2 1 (dk_at dksX7_waitingAll_1 0 rfl rfl)
theorem dX7_waitingAll_27 : decode cX7_waitingAll 27 = .ok (.goto (-23), 3) := dk_167 255 233 (dk_at dksX7_waitingAll_1 3 rfl rfl)
theorem dX7_waitingAll_30 : decode cX7_waitingAll 30 = .ok (.iload_n 1, 1) := dk_27 (dk_at dksX7_waitingAll_1 6 rfl rfl)
theorem dX7_waitingAll_31 : decode cX7_waitingAll 31 = .ok (.ireturn, 1) := dk_172 (dk_at dksX7_waitingAll_1 7 rfl rfl)
abbrev cX7_aboardAll : ByteArray := prog_13_method_74_code
def yX7_aboardAll : MethodName := ⟨RX7, "aboardAll", "()I"⟩
def dkwX7_aboardAll_1 : List UInt8 := [167, 255, 236, 27, 172]
abbrev dktX7_aboardAll_1 : List UInt8 := dkwX7_aboardAll_1 ++ []
def dkwX7_aboardAll_0 : List UInt8 := [3, 60, 3, 61, 28, 42, 180, 0, 118, 162, 0, 18, 27, 42, 28, 7, 182, 0, 171, 96, 60, 132, 2, 1]
abbrev dktX7_aboardAll_0 : List UInt8 := dkwX7_aboardAll_0 ++ dktX7_aboardAll_1
theorem dksX7_aboardAll_0 : cX7_aboardAll.data.toList.drop 0 = dktX7_aboardAll_0 := by decide +kernel
theorem dksX7_aboardAll_1 : cX7_aboardAll.data.toList.drop 24 = dktX7_aboardAll_1 := dk_seg dksX7_aboardAll_0 24 rfl rfl
theorem dX7_aboardAll_0 : decode cX7_aboardAll 0 = .ok (.iconst 0, 1) := dk_3 (dk_at dksX7_aboardAll_0 0 rfl rfl)
theorem dX7_aboardAll_1 : decode cX7_aboardAll 1 = .ok (.istore_n 1, 1) := dk_60 (dk_at dksX7_aboardAll_0 1 rfl rfl)
theorem dX7_aboardAll_2 : decode cX7_aboardAll 2 = .ok (.iconst 0, 1) := dk_3 (dk_at dksX7_aboardAll_0 2 rfl rfl)
theorem dX7_aboardAll_3 : decode cX7_aboardAll 3 = .ok (.istore_n 2, 1) := dk_61 (dk_at dksX7_aboardAll_0 3 rfl rfl)
theorem dX7_aboardAll_4 : decode cX7_aboardAll 4 = .ok (.iload_n 2, 1) := dk_28 (dk_at dksX7_aboardAll_0 4 rfl rfl)
theorem dX7_aboardAll_5 : decode cX7_aboardAll 5 = .ok (.aload_n 0, 1) := dk_42 (dk_at dksX7_aboardAll_0 5 rfl rfl)
theorem dX7_aboardAll_6 : decode cX7_aboardAll 6 = .ok (.getfield 118, 3) := dk_180 0 118 (dk_at dksX7_aboardAll_0 6 rfl rfl)
theorem dX7_aboardAll_9 : decode cX7_aboardAll 9 = .ok (.if_icmp .ge 18, 3) := dk_162 0 18 (dk_at dksX7_aboardAll_0 9 rfl rfl)
theorem dX7_aboardAll_12 : decode cX7_aboardAll 12 = .ok (.iload_n 1, 1) := dk_27 (dk_at dksX7_aboardAll_0 12 rfl rfl)
theorem dX7_aboardAll_13 : decode cX7_aboardAll 13 = .ok (.aload_n 0, 1) := dk_42 (dk_at dksX7_aboardAll_0 13 rfl rfl)
theorem dX7_aboardAll_14 : decode cX7_aboardAll 14 = .ok (.iload_n 2, 1) := dk_28 (dk_at dksX7_aboardAll_0 14 rfl rfl)
theorem dX7_aboardAll_15 : decode cX7_aboardAll 15 = .ok (.iconst 4, 1) := dk_7 (dk_at dksX7_aboardAll_0 15 rfl rfl)
theorem dX7_aboardAll_16 : decode cX7_aboardAll 16 = .ok (.invokevirtual 171, 3) := dk_182 0 171 (dk_at dksX7_aboardAll_0 16 rfl rfl)
theorem dX7_aboardAll_19 : decode cX7_aboardAll 19 = .ok (.iadd, 1) := dk_96 (dk_at dksX7_aboardAll_0 19 rfl rfl)
theorem dX7_aboardAll_20 : decode cX7_aboardAll 20 = .ok (.istore_n 1, 1) := dk_60 (dk_at dksX7_aboardAll_0 20 rfl rfl)
theorem dX7_aboardAll_21 : decode cX7_aboardAll 21 = .ok (.iinc 2 1, 3) := dk_132 2 1 (dk_at dksX7_aboardAll_0 21 rfl rfl)
theorem dX7_aboardAll_24 : decode cX7_aboardAll 24 = .ok (.goto (-20), 3) := dk_167 255 236 (dk_at dksX7_aboardAll_1 0 rfl rfl)
theorem dX7_aboardAll_27 : decode cX7_aboardAll 27 = .ok (.iload_n 1, 1) := dk_27 (dk_at dksX7_aboardAll_1 3 rfl rfl)
theorem dX7_aboardAll_28 : decode cX7_aboardAll 28 = .ok (.ireturn, 1) := dk_172 (dk_at dksX7_aboardAll_1 4 rfl rfl)
abbrev cX7_stop : ByteArray := prog_13_method_77_code
def yX7_stop : MethodName := ⟨RX7, "stop", "(II)I"⟩
def dkwX7_stop_4 : List UInt8 := [16, 43, 27, 96, 46, 172, 42, 27, 182, 1, 157, 172, 2, 172]
abbrev dktX7_stop_4 : List UInt8 := dkwX7_stop_4 ++ []
def dkwX7_stop_3 : List UInt8 := [42, 180, 0, 51, 16, 23, 27, 96, 46, 172, 42, 180, 0, 51, 16, 33, 27, 96, 46, 172, 42, 180, 0, 51]
abbrev dktX7_stop_3 : List UInt8 := dkwX7_stop_3 ++ dktX7_stop_4
def dkwX7_stop_2 : List UInt8 := [42, 180, 0, 24, 27, 46, 172, 42, 180, 0, 27, 27, 46, 172, 42, 180, 0, 51, 16, 13, 27, 96, 46, 172]
abbrev dktX7_stop_2 : List UInt8 := dkwX7_stop_2 ++ dktX7_stop_3
def dkwX7_stop_1 : List UInt8 := [170, 0, 0, 0, 101, 0, 0, 0, 0, 0, 0, 0, 6, 0, 0, 0, 41, 0, 0, 0, 48, 0, 0, 0, 55, 0, 0, 0, 65, 0, 0, 0, 75, 0, 0, 0, 85, 0, 0, 0, 95]
abbrev dktX7_stop_1 : List UInt8 := dkwX7_stop_1 ++ dktX7_stop_2
def dkwX7_stop_0 : List UInt8 := [42, 27, 182, 1, 121, 154, 0, 5, 2, 172, 28]
abbrev dktX7_stop_0 : List UInt8 := dkwX7_stop_0 ++ dktX7_stop_1
theorem dksX7_stop_0 : cX7_stop.data.toList.drop 0 = dktX7_stop_0 := by decide +kernel
theorem dksX7_stop_1 : cX7_stop.data.toList.drop 11 = dktX7_stop_1 := dk_seg dksX7_stop_0 11 rfl rfl
theorem dksX7_stop_2 : cX7_stop.data.toList.drop 52 = dktX7_stop_2 := dk_seg dksX7_stop_1 41 rfl rfl
theorem dksX7_stop_3 : cX7_stop.data.toList.drop 76 = dktX7_stop_3 := dk_seg dksX7_stop_2 24 rfl rfl
theorem dksX7_stop_4 : cX7_stop.data.toList.drop 100 = dktX7_stop_4 := dk_seg dksX7_stop_3 24 rfl rfl
theorem dX7_stop_0 : decode cX7_stop 0 = .ok (.aload_n 0, 1) := dk_42 (dk_at dksX7_stop_0 0 rfl rfl)
theorem dX7_stop_1 : decode cX7_stop 1 = .ok (.iload_n 1, 1) := dk_27 (dk_at dksX7_stop_0 1 rfl rfl)
theorem dX7_stop_2 : decode cX7_stop 2 = .ok (.invokevirtual 377, 3) := dk_182 1 121 (dk_at dksX7_stop_0 2 rfl rfl)
theorem dX7_stop_5 : decode cX7_stop 5 = .ok (.ifCond .ne 5, 3) := dk_154 0 5 (dk_at dksX7_stop_0 5 rfl rfl)
theorem dX7_stop_8 : decode cX7_stop 8 = .ok (.iconst (-1), 1) := dk_2 (dk_at dksX7_stop_0 8 rfl rfl)
theorem dX7_stop_9 : decode cX7_stop 9 = .ok (.ireturn, 1) := dk_172 (dk_at dksX7_stop_0 9 rfl rfl)
theorem dX7_stop_10 : decode cX7_stop 10 = .ok (.iload_n 2, 1) := dk_28 (dk_at dksX7_stop_0 10 rfl rfl)
theorem dX7_stop_11 : decode cX7_stop 11 = .ok (.tableswitch 101 0 6 #[41, 48, 55, 65, 75, 85, 95], 41) := by decide +kernel
theorem dX7_stop_52 : decode cX7_stop 52 = .ok (.aload_n 0, 1) := dk_42 (dk_at dksX7_stop_2 0 rfl rfl)
theorem dX7_stop_53 : decode cX7_stop 53 = .ok (.getfield 24, 3) := dk_180 0 24 (dk_at dksX7_stop_2 1 rfl rfl)
theorem dX7_stop_56 : decode cX7_stop 56 = .ok (.iload_n 1, 1) := dk_27 (dk_at dksX7_stop_2 4 rfl rfl)
theorem dX7_stop_57 : decode cX7_stop 57 = .ok (.iaload, 1) := dk_46 (dk_at dksX7_stop_2 5 rfl rfl)
theorem dX7_stop_58 : decode cX7_stop 58 = .ok (.ireturn, 1) := dk_172 (dk_at dksX7_stop_2 6 rfl rfl)
theorem dX7_stop_59 : decode cX7_stop 59 = .ok (.aload_n 0, 1) := dk_42 (dk_at dksX7_stop_2 7 rfl rfl)
theorem dX7_stop_60 : decode cX7_stop 60 = .ok (.getfield 27, 3) := dk_180 0 27 (dk_at dksX7_stop_2 8 rfl rfl)
theorem dX7_stop_63 : decode cX7_stop 63 = .ok (.iload_n 1, 1) := dk_27 (dk_at dksX7_stop_2 11 rfl rfl)
theorem dX7_stop_64 : decode cX7_stop 64 = .ok (.iaload, 1) := dk_46 (dk_at dksX7_stop_2 12 rfl rfl)
theorem dX7_stop_65 : decode cX7_stop 65 = .ok (.ireturn, 1) := dk_172 (dk_at dksX7_stop_2 13 rfl rfl)
theorem dX7_stop_66 : decode cX7_stop 66 = .ok (.aload_n 0, 1) := dk_42 (dk_at dksX7_stop_2 14 rfl rfl)
theorem dX7_stop_67 : decode cX7_stop 67 = .ok (.getfield 51, 3) := dk_180 0 51 (dk_at dksX7_stop_2 15 rfl rfl)
theorem dX7_stop_70 : decode cX7_stop 70 = .ok (.bipush 13, 2) := dk_16 13 (dk_at dksX7_stop_2 18 rfl rfl)
theorem dX7_stop_72 : decode cX7_stop 72 = .ok (.iload_n 1, 1) := dk_27 (dk_at dksX7_stop_2 20 rfl rfl)
theorem dX7_stop_73 : decode cX7_stop 73 = .ok (.iadd, 1) := dk_96 (dk_at dksX7_stop_2 21 rfl rfl)
theorem dX7_stop_74 : decode cX7_stop 74 = .ok (.iaload, 1) := dk_46 (dk_at dksX7_stop_2 22 rfl rfl)
theorem dX7_stop_75 : decode cX7_stop 75 = .ok (.ireturn, 1) := dk_172 (dk_at dksX7_stop_2 23 rfl rfl)
theorem dX7_stop_76 : decode cX7_stop 76 = .ok (.aload_n 0, 1) := dk_42 (dk_at dksX7_stop_3 0 rfl rfl)
theorem dX7_stop_77 : decode cX7_stop 77 = .ok (.getfield 51, 3) := dk_180 0 51 (dk_at dksX7_stop_3 1 rfl rfl)
theorem dX7_stop_80 : decode cX7_stop 80 = .ok (.bipush 23, 2) := dk_16 23 (dk_at dksX7_stop_3 4 rfl rfl)
theorem dX7_stop_82 : decode cX7_stop 82 = .ok (.iload_n 1, 1) := dk_27 (dk_at dksX7_stop_3 6 rfl rfl)
theorem dX7_stop_83 : decode cX7_stop 83 = .ok (.iadd, 1) := dk_96 (dk_at dksX7_stop_3 7 rfl rfl)
theorem dX7_stop_84 : decode cX7_stop 84 = .ok (.iaload, 1) := dk_46 (dk_at dksX7_stop_3 8 rfl rfl)
theorem dX7_stop_85 : decode cX7_stop 85 = .ok (.ireturn, 1) := dk_172 (dk_at dksX7_stop_3 9 rfl rfl)
theorem dX7_stop_86 : decode cX7_stop 86 = .ok (.aload_n 0, 1) := dk_42 (dk_at dksX7_stop_3 10 rfl rfl)
theorem dX7_stop_87 : decode cX7_stop 87 = .ok (.getfield 51, 3) := dk_180 0 51 (dk_at dksX7_stop_3 11 rfl rfl)
theorem dX7_stop_90 : decode cX7_stop 90 = .ok (.bipush 33, 2) := dk_16 33 (dk_at dksX7_stop_3 14 rfl rfl)
theorem dX7_stop_92 : decode cX7_stop 92 = .ok (.iload_n 1, 1) := dk_27 (dk_at dksX7_stop_3 16 rfl rfl)
theorem dX7_stop_93 : decode cX7_stop 93 = .ok (.iadd, 1) := dk_96 (dk_at dksX7_stop_3 17 rfl rfl)
theorem dX7_stop_94 : decode cX7_stop 94 = .ok (.iaload, 1) := dk_46 (dk_at dksX7_stop_3 18 rfl rfl)
theorem dX7_stop_95 : decode cX7_stop 95 = .ok (.ireturn, 1) := dk_172 (dk_at dksX7_stop_3 19 rfl rfl)
theorem dX7_stop_96 : decode cX7_stop 96 = .ok (.aload_n 0, 1) := dk_42 (dk_at dksX7_stop_3 20 rfl rfl)
theorem dX7_stop_97 : decode cX7_stop 97 = .ok (.getfield 51, 3) := dk_180 0 51 (dk_at dksX7_stop_3 21 rfl rfl)
theorem dX7_stop_100 : decode cX7_stop 100 = .ok (.bipush 43, 2) := dk_16 43 (dk_at dksX7_stop_4 0 rfl rfl)
theorem dX7_stop_102 : decode cX7_stop 102 = .ok (.iload_n 1, 1) := dk_27 (dk_at dksX7_stop_4 2 rfl rfl)
theorem dX7_stop_103 : decode cX7_stop 103 = .ok (.iadd, 1) := dk_96 (dk_at dksX7_stop_4 3 rfl rfl)
theorem dX7_stop_104 : decode cX7_stop 104 = .ok (.iaload, 1) := dk_46 (dk_at dksX7_stop_4 4 rfl rfl)
theorem dX7_stop_105 : decode cX7_stop 105 = .ok (.ireturn, 1) := dk_172 (dk_at dksX7_stop_4 5 rfl rfl)
theorem dX7_stop_106 : decode cX7_stop 106 = .ok (.aload_n 0, 1) := dk_42 (dk_at dksX7_stop_4 6 rfl rfl)
theorem dX7_stop_107 : decode cX7_stop 107 = .ok (.iload_n 1, 1) := dk_27 (dk_at dksX7_stop_4 7 rfl rfl)
theorem dX7_stop_108 : decode cX7_stop 108 = .ok (.invokevirtual 413, 3) := dk_182 1 157 (dk_at dksX7_stop_4 8 rfl rfl)
theorem dX7_stop_111 : decode cX7_stop 111 = .ok (.ireturn, 1) := dk_172 (dk_at dksX7_stop_4 11 rfl rfl)
theorem dX7_stop_112 : decode cX7_stop 112 = .ok (.iconst (-1), 1) := dk_2 (dk_at dksX7_stop_4 12 rfl rfl)
theorem dX7_stop_113 : decode cX7_stop 113 = .ok (.ireturn, 1) := dk_172 (dk_at dksX7_stop_4 13 rfl rfl)
abbrev cX7_atStop : ByteArray := prog_13_method_76_code
def yX7_atStop : MethodName := ⟨RX7, "atStop", "(I)I"⟩
def dkwX7_atStop_1 : List UInt8 := [182, 0, 171, 27, 160, 0, 7, 4, 167, 0, 4, 3, 96, 61, 132, 3, 1, 167, 255, 219, 28, 172]
abbrev dktX7_atStop_1 : List UInt8 := dkwX7_atStop_1 ++ []
def dkwX7_atStop_0 : List UInt8 := [3, 61, 3, 62, 29, 42, 180, 0, 118, 162, 0, 35, 28, 42, 29, 182, 0, 181, 153, 0, 17, 42, 29, 4]
abbrev dktX7_atStop_0 : List UInt8 := dkwX7_atStop_0 ++ dktX7_atStop_1
theorem dksX7_atStop_0 : cX7_atStop.data.toList.drop 0 = dktX7_atStop_0 := by decide +kernel
theorem dksX7_atStop_1 : cX7_atStop.data.toList.drop 24 = dktX7_atStop_1 := dk_seg dksX7_atStop_0 24 rfl rfl
theorem dX7_atStop_0 : decode cX7_atStop 0 = .ok (.iconst 0, 1) := dk_3 (dk_at dksX7_atStop_0 0 rfl rfl)
theorem dX7_atStop_1 : decode cX7_atStop 1 = .ok (.istore_n 2, 1) := dk_61 (dk_at dksX7_atStop_0 1 rfl rfl)
theorem dX7_atStop_2 : decode cX7_atStop 2 = .ok (.iconst 0, 1) := dk_3 (dk_at dksX7_atStop_0 2 rfl rfl)
theorem dX7_atStop_3 : decode cX7_atStop 3 = .ok (.istore_n 3, 1) := dk_62 (dk_at dksX7_atStop_0 3 rfl rfl)
theorem dX7_atStop_4 : decode cX7_atStop 4 = .ok (.iload_n 3, 1) := dk_29 (dk_at dksX7_atStop_0 4 rfl rfl)
theorem dX7_atStop_5 : decode cX7_atStop 5 = .ok (.aload_n 0, 1) := dk_42 (dk_at dksX7_atStop_0 5 rfl rfl)
theorem dX7_atStop_6 : decode cX7_atStop 6 = .ok (.getfield 118, 3) := dk_180 0 118 (dk_at dksX7_atStop_0 6 rfl rfl)
theorem dX7_atStop_9 : decode cX7_atStop 9 = .ok (.if_icmp .ge 35, 3) := dk_162 0 35 (dk_at dksX7_atStop_0 9 rfl rfl)
theorem dX7_atStop_12 : decode cX7_atStop 12 = .ok (.iload_n 2, 1) := dk_28 (dk_at dksX7_atStop_0 12 rfl rfl)
theorem dX7_atStop_13 : decode cX7_atStop 13 = .ok (.aload_n 0, 1) := dk_42 (dk_at dksX7_atStop_0 13 rfl rfl)
theorem dX7_atStop_14 : decode cX7_atStop 14 = .ok (.iload_n 3, 1) := dk_29 (dk_at dksX7_atStop_0 14 rfl rfl)
theorem dX7_atStop_15 : decode cX7_atStop 15 = .ok (.invokevirtual 181, 3) := dk_182 0 181 (dk_at dksX7_atStop_0 15 rfl rfl)
theorem dX7_atStop_18 : decode cX7_atStop 18 = .ok (.ifCond .eq 17, 3) := dk_153 0 17 (dk_at dksX7_atStop_0 18 rfl rfl)
theorem dX7_atStop_21 : decode cX7_atStop 21 = .ok (.aload_n 0, 1) := dk_42 (dk_at dksX7_atStop_0 21 rfl rfl)
theorem dX7_atStop_22 : decode cX7_atStop 22 = .ok (.iload_n 3, 1) := dk_29 (dk_at dksX7_atStop_0 22 rfl rfl)
theorem dX7_atStop_23 : decode cX7_atStop 23 = .ok (.iconst 1, 1) := dk_4 (dk_at dksX7_atStop_0 23 rfl rfl)
theorem dX7_atStop_24 : decode cX7_atStop 24 = .ok (.invokevirtual 171, 3) := dk_182 0 171 (dk_at dksX7_atStop_1 0 rfl rfl)
theorem dX7_atStop_27 : decode cX7_atStop 27 = .ok (.iload_n 1, 1) := dk_27 (dk_at dksX7_atStop_1 3 rfl rfl)
theorem dX7_atStop_28 : decode cX7_atStop 28 = .ok (.if_icmp .ne 7, 3) := dk_160 0 7 (dk_at dksX7_atStop_1 4 rfl rfl)
theorem dX7_atStop_31 : decode cX7_atStop 31 = .ok (.iconst 1, 1) := dk_4 (dk_at dksX7_atStop_1 7 rfl rfl)
theorem dX7_atStop_32 : decode cX7_atStop 32 = .ok (.goto 4, 3) := dk_167 0 4 (dk_at dksX7_atStop_1 8 rfl rfl)
theorem dX7_atStop_35 : decode cX7_atStop 35 = .ok (.iconst 0, 1) := dk_3 (dk_at dksX7_atStop_1 11 rfl rfl)
theorem dX7_atStop_36 : decode cX7_atStop 36 = .ok (.iadd, 1) := dk_96 (dk_at dksX7_atStop_1 12 rfl rfl)
theorem dX7_atStop_37 : decode cX7_atStop 37 = .ok (.istore_n 2, 1) := dk_61 (dk_at dksX7_atStop_1 13 rfl rfl)
theorem dX7_atStop_38 : decode cX7_atStop 38 = .ok (.iinc 3 1, 3) := dk_132 3 1 (dk_at dksX7_atStop_1 14 rfl rfl)
theorem dX7_atStop_41 : decode cX7_atStop 41 = .ok (.goto (-37), 3) := dk_167 255 219 (dk_at dksX7_atStop_1 17 rfl rfl)
theorem dX7_atStop_44 : decode cX7_atStop 44 = .ok (.iload_n 2, 1) := dk_28 (dk_at dksX7_atStop_1 20 rfl rfl)
theorem dX7_atStop_45 : decode cX7_atStop 45 = .ok (.ireturn, 1) := dk_172 (dk_at dksX7_atStop_1 21 rfl rfl)
abbrev cX7_bus : ByteArray := prog_13_method_78_code
def yX7_bus : MethodName := ⟨RX7, "bus", "(II)I"⟩
def dkwX7_bus_5 : List UInt8 := [42, 27, 16, 9, 182, 0, 171, 172, 2, 172]
abbrev dktX7_bus_5 : List UInt8 := dkwX7_bus_5 ++ []
def dkwX7_bus_4 : List UInt8 := [172, 42, 27, 8, 182, 0, 171, 172, 42, 27, 16, 6, 182, 0, 171, 172, 42, 27, 16, 8, 182, 0, 171, 172]
abbrev dktX7_bus_4 : List UInt8 := dkwX7_bus_4 ++ dktX7_bus_5
def dkwX7_bus_3 : List UInt8 := [182, 0, 171, 172, 42, 27, 5, 182, 0, 171, 172, 42, 27, 6, 182, 0, 171, 172, 42, 27, 7, 182, 0, 171]
abbrev dktX7_bus_3 : List UInt8 := dkwX7_bus_3 ++ dktX7_bus_4
def dkwX7_bus_2 : List UInt8 := [42, 180, 0, 33, 27, 46, 172, 42, 180, 0, 36, 27, 46, 172, 42, 27, 3, 182, 0, 171, 172, 42, 27, 4]
abbrev dktX7_bus_2 : List UInt8 := dkwX7_bus_2 ++ dktX7_bus_3
def dkwX7_bus_1 : List UInt8 := [170, 0, 0, 0, 137, 0, 0, 0, 0, 0, 0, 0, 10, 0, 0, 0, 57, 0, 0, 0, 64, 0, 0, 0, 71, 0, 0, 0, 78, 0, 0, 0, 85, 0, 0, 0, 92, 0, 0, 0, 99, 0, 0, 0, 106, 0, 0, 0, 113, 0, 0, 0, 121, 0, 0, 0, 129]
abbrev dktX7_bus_1 : List UInt8 := dkwX7_bus_1 ++ dktX7_bus_2
def dkwX7_bus_0 : List UInt8 := [42, 27, 182, 1, 140, 154, 0, 5, 2, 172, 28]
abbrev dktX7_bus_0 : List UInt8 := dkwX7_bus_0 ++ dktX7_bus_1
theorem dksX7_bus_0 : cX7_bus.data.toList.drop 0 = dktX7_bus_0 := by decide +kernel
theorem dksX7_bus_1 : cX7_bus.data.toList.drop 11 = dktX7_bus_1 := dk_seg dksX7_bus_0 11 rfl rfl
theorem dksX7_bus_2 : cX7_bus.data.toList.drop 68 = dktX7_bus_2 := dk_seg dksX7_bus_1 57 rfl rfl
theorem dksX7_bus_3 : cX7_bus.data.toList.drop 92 = dktX7_bus_3 := dk_seg dksX7_bus_2 24 rfl rfl
theorem dksX7_bus_4 : cX7_bus.data.toList.drop 116 = dktX7_bus_4 := dk_seg dksX7_bus_3 24 rfl rfl
theorem dksX7_bus_5 : cX7_bus.data.toList.drop 140 = dktX7_bus_5 := dk_seg dksX7_bus_4 24 rfl rfl
theorem dX7_bus_0 : decode cX7_bus 0 = .ok (.aload_n 0, 1) := dk_42 (dk_at dksX7_bus_0 0 rfl rfl)
theorem dX7_bus_1 : decode cX7_bus 1 = .ok (.iload_n 1, 1) := dk_27 (dk_at dksX7_bus_0 1 rfl rfl)
theorem dX7_bus_2 : decode cX7_bus 2 = .ok (.invokevirtual 396, 3) := dk_182 1 140 (dk_at dksX7_bus_0 2 rfl rfl)
theorem dX7_bus_5 : decode cX7_bus 5 = .ok (.ifCond .ne 5, 3) := dk_154 0 5 (dk_at dksX7_bus_0 5 rfl rfl)
theorem dX7_bus_8 : decode cX7_bus 8 = .ok (.iconst (-1), 1) := dk_2 (dk_at dksX7_bus_0 8 rfl rfl)
theorem dX7_bus_9 : decode cX7_bus 9 = .ok (.ireturn, 1) := dk_172 (dk_at dksX7_bus_0 9 rfl rfl)
theorem dX7_bus_10 : decode cX7_bus 10 = .ok (.iload_n 2, 1) := dk_28 (dk_at dksX7_bus_0 10 rfl rfl)
theorem dX7_bus_11 : decode cX7_bus 11 = .ok (.tableswitch 137 0 10 #[57, 64, 71, 78, 85, 92, 99, 106, 113, 121, 129], 57) := by decide +kernel
theorem dX7_bus_68 : decode cX7_bus 68 = .ok (.aload_n 0, 1) := dk_42 (dk_at dksX7_bus_2 0 rfl rfl)
theorem dX7_bus_69 : decode cX7_bus 69 = .ok (.getfield 33, 3) := dk_180 0 33 (dk_at dksX7_bus_2 1 rfl rfl)
theorem dX7_bus_72 : decode cX7_bus 72 = .ok (.iload_n 1, 1) := dk_27 (dk_at dksX7_bus_2 4 rfl rfl)
theorem dX7_bus_73 : decode cX7_bus 73 = .ok (.iaload, 1) := dk_46 (dk_at dksX7_bus_2 5 rfl rfl)
theorem dX7_bus_74 : decode cX7_bus 74 = .ok (.ireturn, 1) := dk_172 (dk_at dksX7_bus_2 6 rfl rfl)
theorem dX7_bus_75 : decode cX7_bus 75 = .ok (.aload_n 0, 1) := dk_42 (dk_at dksX7_bus_2 7 rfl rfl)
theorem dX7_bus_76 : decode cX7_bus 76 = .ok (.getfield 36, 3) := dk_180 0 36 (dk_at dksX7_bus_2 8 rfl rfl)
theorem dX7_bus_79 : decode cX7_bus 79 = .ok (.iload_n 1, 1) := dk_27 (dk_at dksX7_bus_2 11 rfl rfl)
theorem dX7_bus_80 : decode cX7_bus 80 = .ok (.iaload, 1) := dk_46 (dk_at dksX7_bus_2 12 rfl rfl)
theorem dX7_bus_81 : decode cX7_bus 81 = .ok (.ireturn, 1) := dk_172 (dk_at dksX7_bus_2 13 rfl rfl)
theorem dX7_bus_82 : decode cX7_bus 82 = .ok (.aload_n 0, 1) := dk_42 (dk_at dksX7_bus_2 14 rfl rfl)
theorem dX7_bus_83 : decode cX7_bus 83 = .ok (.iload_n 1, 1) := dk_27 (dk_at dksX7_bus_2 15 rfl rfl)
theorem dX7_bus_84 : decode cX7_bus 84 = .ok (.iconst 0, 1) := dk_3 (dk_at dksX7_bus_2 16 rfl rfl)
theorem dX7_bus_85 : decode cX7_bus 85 = .ok (.invokevirtual 171, 3) := dk_182 0 171 (dk_at dksX7_bus_2 17 rfl rfl)
theorem dX7_bus_88 : decode cX7_bus 88 = .ok (.ireturn, 1) := dk_172 (dk_at dksX7_bus_2 20 rfl rfl)
theorem dX7_bus_89 : decode cX7_bus 89 = .ok (.aload_n 0, 1) := dk_42 (dk_at dksX7_bus_2 21 rfl rfl)
theorem dX7_bus_90 : decode cX7_bus 90 = .ok (.iload_n 1, 1) := dk_27 (dk_at dksX7_bus_2 22 rfl rfl)
theorem dX7_bus_91 : decode cX7_bus 91 = .ok (.iconst 1, 1) := dk_4 (dk_at dksX7_bus_2 23 rfl rfl)
theorem dX7_bus_92 : decode cX7_bus 92 = .ok (.invokevirtual 171, 3) := dk_182 0 171 (dk_at dksX7_bus_3 0 rfl rfl)
theorem dX7_bus_95 : decode cX7_bus 95 = .ok (.ireturn, 1) := dk_172 (dk_at dksX7_bus_3 3 rfl rfl)
theorem dX7_bus_96 : decode cX7_bus 96 = .ok (.aload_n 0, 1) := dk_42 (dk_at dksX7_bus_3 4 rfl rfl)
theorem dX7_bus_97 : decode cX7_bus 97 = .ok (.iload_n 1, 1) := dk_27 (dk_at dksX7_bus_3 5 rfl rfl)
theorem dX7_bus_98 : decode cX7_bus 98 = .ok (.iconst 2, 1) := dk_5 (dk_at dksX7_bus_3 6 rfl rfl)
theorem dX7_bus_99 : decode cX7_bus 99 = .ok (.invokevirtual 171, 3) := dk_182 0 171 (dk_at dksX7_bus_3 7 rfl rfl)
theorem dX7_bus_102 : decode cX7_bus 102 = .ok (.ireturn, 1) := dk_172 (dk_at dksX7_bus_3 10 rfl rfl)
theorem dX7_bus_103 : decode cX7_bus 103 = .ok (.aload_n 0, 1) := dk_42 (dk_at dksX7_bus_3 11 rfl rfl)
theorem dX7_bus_104 : decode cX7_bus 104 = .ok (.iload_n 1, 1) := dk_27 (dk_at dksX7_bus_3 12 rfl rfl)
theorem dX7_bus_105 : decode cX7_bus 105 = .ok (.iconst 3, 1) := dk_6 (dk_at dksX7_bus_3 13 rfl rfl)
theorem dX7_bus_106 : decode cX7_bus 106 = .ok (.invokevirtual 171, 3) := dk_182 0 171 (dk_at dksX7_bus_3 14 rfl rfl)
theorem dX7_bus_109 : decode cX7_bus 109 = .ok (.ireturn, 1) := dk_172 (dk_at dksX7_bus_3 17 rfl rfl)
theorem dX7_bus_110 : decode cX7_bus 110 = .ok (.aload_n 0, 1) := dk_42 (dk_at dksX7_bus_3 18 rfl rfl)
theorem dX7_bus_111 : decode cX7_bus 111 = .ok (.iload_n 1, 1) := dk_27 (dk_at dksX7_bus_3 19 rfl rfl)
theorem dX7_bus_112 : decode cX7_bus 112 = .ok (.iconst 4, 1) := dk_7 (dk_at dksX7_bus_3 20 rfl rfl)
theorem dX7_bus_113 : decode cX7_bus 113 = .ok (.invokevirtual 171, 3) := dk_182 0 171 (dk_at dksX7_bus_3 21 rfl rfl)
theorem dX7_bus_116 : decode cX7_bus 116 = .ok (.ireturn, 1) := dk_172 (dk_at dksX7_bus_4 0 rfl rfl)
theorem dX7_bus_117 : decode cX7_bus 117 = .ok (.aload_n 0, 1) := dk_42 (dk_at dksX7_bus_4 1 rfl rfl)
theorem dX7_bus_118 : decode cX7_bus 118 = .ok (.iload_n 1, 1) := dk_27 (dk_at dksX7_bus_4 2 rfl rfl)
theorem dX7_bus_119 : decode cX7_bus 119 = .ok (.iconst 5, 1) := dk_8 (dk_at dksX7_bus_4 3 rfl rfl)
theorem dX7_bus_120 : decode cX7_bus 120 = .ok (.invokevirtual 171, 3) := dk_182 0 171 (dk_at dksX7_bus_4 4 rfl rfl)
theorem dX7_bus_123 : decode cX7_bus 123 = .ok (.ireturn, 1) := dk_172 (dk_at dksX7_bus_4 7 rfl rfl)
theorem dX7_bus_124 : decode cX7_bus 124 = .ok (.aload_n 0, 1) := dk_42 (dk_at dksX7_bus_4 8 rfl rfl)
theorem dX7_bus_125 : decode cX7_bus 125 = .ok (.iload_n 1, 1) := dk_27 (dk_at dksX7_bus_4 9 rfl rfl)
theorem dX7_bus_126 : decode cX7_bus 126 = .ok (.bipush 6, 2) := dk_16 6 (dk_at dksX7_bus_4 10 rfl rfl)
theorem dX7_bus_128 : decode cX7_bus 128 = .ok (.invokevirtual 171, 3) := dk_182 0 171 (dk_at dksX7_bus_4 12 rfl rfl)
theorem dX7_bus_131 : decode cX7_bus 131 = .ok (.ireturn, 1) := dk_172 (dk_at dksX7_bus_4 15 rfl rfl)
theorem dX7_bus_132 : decode cX7_bus 132 = .ok (.aload_n 0, 1) := dk_42 (dk_at dksX7_bus_4 16 rfl rfl)
theorem dX7_bus_133 : decode cX7_bus 133 = .ok (.iload_n 1, 1) := dk_27 (dk_at dksX7_bus_4 17 rfl rfl)
theorem dX7_bus_134 : decode cX7_bus 134 = .ok (.bipush 8, 2) := dk_16 8 (dk_at dksX7_bus_4 18 rfl rfl)
theorem dX7_bus_136 : decode cX7_bus 136 = .ok (.invokevirtual 171, 3) := dk_182 0 171 (dk_at dksX7_bus_4 20 rfl rfl)
theorem dX7_bus_139 : decode cX7_bus 139 = .ok (.ireturn, 1) := dk_172 (dk_at dksX7_bus_4 23 rfl rfl)
theorem dX7_bus_140 : decode cX7_bus 140 = .ok (.aload_n 0, 1) := dk_42 (dk_at dksX7_bus_5 0 rfl rfl)
theorem dX7_bus_141 : decode cX7_bus 141 = .ok (.iload_n 1, 1) := dk_27 (dk_at dksX7_bus_5 1 rfl rfl)
theorem dX7_bus_142 : decode cX7_bus 142 = .ok (.bipush 9, 2) := dk_16 9 (dk_at dksX7_bus_5 2 rfl rfl)
theorem dX7_bus_144 : decode cX7_bus 144 = .ok (.invokevirtual 171, 3) := dk_182 0 171 (dk_at dksX7_bus_5 4 rfl rfl)
theorem dX7_bus_147 : decode cX7_bus 147 = .ok (.ireturn, 1) := dk_172 (dk_at dksX7_bus_5 7 rfl rfl)
theorem dX7_bus_148 : decode cX7_bus 148 = .ok (.iconst (-1), 1) := dk_2 (dk_at dksX7_bus_5 8 rfl rfl)
theorem dX7_bus_149 : decode cX7_bus 149 = .ok (.ireturn, 1) := dk_172 (dk_at dksX7_bus_5 9 rfl rfl)
abbrev cX7_why : ByteArray := prog_13_method_79_code
def yX7_why : MethodName := ⟨RX7, "why", "(I)I"⟩
def dkwX7_why_1 : List UInt8 := [167, 0, 10, 42, 27, 16, 7, 182, 0, 171, 172]
abbrev dktX7_why_1 : List UInt8 := dkwX7_why_1 ++ []
def dkwX7_why_0 : List UInt8 := [42, 27, 182, 1, 140, 154, 0, 7, 2, 167, 0, 25, 42, 27, 16, 6, 182, 0, 171, 156, 0, 8, 16, 254]
abbrev dktX7_why_0 : List UInt8 := dkwX7_why_0 ++ dktX7_why_1
theorem dksX7_why_0 : cX7_why.data.toList.drop 0 = dktX7_why_0 := by decide +kernel
theorem dksX7_why_1 : cX7_why.data.toList.drop 24 = dktX7_why_1 := dk_seg dksX7_why_0 24 rfl rfl
theorem dX7_why_0 : decode cX7_why 0 = .ok (.aload_n 0, 1) := dk_42 (dk_at dksX7_why_0 0 rfl rfl)
theorem dX7_why_1 : decode cX7_why 1 = .ok (.iload_n 1, 1) := dk_27 (dk_at dksX7_why_0 1 rfl rfl)
theorem dX7_why_2 : decode cX7_why 2 = .ok (.invokevirtual 396, 3) := dk_182 1 140 (dk_at dksX7_why_0 2 rfl rfl)
theorem dX7_why_5 : decode cX7_why 5 = .ok (.ifCond .ne 7, 3) := dk_154 0 7 (dk_at dksX7_why_0 5 rfl rfl)
theorem dX7_why_8 : decode cX7_why 8 = .ok (.iconst (-1), 1) := dk_2 (dk_at dksX7_why_0 8 rfl rfl)
theorem dX7_why_9 : decode cX7_why 9 = .ok (.goto 25, 3) := dk_167 0 25 (dk_at dksX7_why_0 9 rfl rfl)
theorem dX7_why_12 : decode cX7_why 12 = .ok (.aload_n 0, 1) := dk_42 (dk_at dksX7_why_0 12 rfl rfl)
theorem dX7_why_13 : decode cX7_why 13 = .ok (.iload_n 1, 1) := dk_27 (dk_at dksX7_why_0 13 rfl rfl)
theorem dX7_why_14 : decode cX7_why 14 = .ok (.bipush 6, 2) := dk_16 6 (dk_at dksX7_why_0 14 rfl rfl)
theorem dX7_why_16 : decode cX7_why 16 = .ok (.invokevirtual 171, 3) := dk_182 0 171 (dk_at dksX7_why_0 16 rfl rfl)
theorem dX7_why_19 : decode cX7_why 19 = .ok (.ifCond .ge 8, 3) := dk_156 0 8 (dk_at dksX7_why_0 19 rfl rfl)
theorem dX7_why_22 : decode cX7_why 22 = .ok (.bipush (-2), 2) := dk_16 254 (dk_at dksX7_why_0 22 rfl rfl)
theorem dX7_why_24 : decode cX7_why 24 = .ok (.goto 10, 3) := dk_167 0 10 (dk_at dksX7_why_1 0 rfl rfl)
theorem dX7_why_27 : decode cX7_why 27 = .ok (.aload_n 0, 1) := dk_42 (dk_at dksX7_why_1 3 rfl rfl)
theorem dX7_why_28 : decode cX7_why 28 = .ok (.iload_n 1, 1) := dk_27 (dk_at dksX7_why_1 4 rfl rfl)
theorem dX7_why_29 : decode cX7_why 29 = .ok (.bipush 7, 2) := dk_16 7 (dk_at dksX7_why_1 5 rfl rfl)
theorem dX7_why_31 : decode cX7_why 31 = .ok (.invokevirtual 171, 3) := dk_182 0 171 (dk_at dksX7_why_1 7 rfl rfl)
theorem dX7_why_34 : decode cX7_why 34 = .ok (.ireturn, 1) := dk_172 (dk_at dksX7_why_1 10 rfl rfl)
abbrev cX7_flow : ByteArray := prog_13_method_83_code
def yX7_flow : MethodName := ⟨RX7, "flow", "(II)I"⟩
def dkwX7_flow_4 : List UInt8 := [182, 1, 168, 167, 0, 8, 42, 29, 182, 1, 171, 172]
abbrev dktX7_flow_4 : List UInt8 := dkwX7_flow_4 ++ []
def dkwX7_flow_3 : List UInt8 := [162, 0, 14, 42, 29, 28, 7, 100, 182, 1, 165, 167, 0, 22, 28, 16, 9, 160, 0, 11, 42, 29]
abbrev dktX7_flow_3 : List UInt8 := dkwX7_flow_3 ++ dktX7_flow_4
def dkwX7_flow_2 : List UInt8 := [162, 0, 21, 29, 16, 16, 160, 0, 8, 16, 254, 167, 0, 9, 42, 29, 28, 182, 1, 162, 172, 28, 16, 9]
abbrev dktX7_flow_2 : List UInt8 := dkwX7_flow_2 ++ dktX7_flow_3
def dkwX7_flow_1 : List UInt8 := [154, 0, 5, 2, 172, 27, 42, 180, 0, 136, 160, 0, 8, 16, 16, 167, 0, 4, 27, 62, 28, 7]
abbrev dktX7_flow_1 : List UInt8 := dkwX7_flow_1 ++ dktX7_flow_2
def dkwX7_flow_0 : List UInt8 := [27, 133, 9, 42, 180, 0, 136, 133, 184, 0, 146, 153, 0, 15, 28, 133, 9, 20, 1, 160, 184, 0, 146]
abbrev dktX7_flow_0 : List UInt8 := dkwX7_flow_0 ++ dktX7_flow_1
theorem dksX7_flow_0 : cX7_flow.data.toList.drop 0 = dktX7_flow_0 := by decide +kernel
theorem dksX7_flow_1 : cX7_flow.data.toList.drop 23 = dktX7_flow_1 := dk_seg dksX7_flow_0 23 rfl rfl
theorem dksX7_flow_2 : cX7_flow.data.toList.drop 45 = dktX7_flow_2 := dk_seg dksX7_flow_1 22 rfl rfl
theorem dksX7_flow_3 : cX7_flow.data.toList.drop 69 = dktX7_flow_3 := dk_seg dksX7_flow_2 24 rfl rfl
theorem dksX7_flow_4 : cX7_flow.data.toList.drop 91 = dktX7_flow_4 := dk_seg dksX7_flow_3 22 rfl rfl
theorem dX7_flow_0 : decode cX7_flow 0 = .ok (.iload_n 1, 1) := dk_27 (dk_at dksX7_flow_0 0 rfl rfl)
theorem dX7_flow_1 : decode cX7_flow 1 = .ok (.i2l, 1) := dk_133 (dk_at dksX7_flow_0 1 rfl rfl)
theorem dX7_flow_2 : decode cX7_flow 2 = .ok (.lconst 0, 1) := dk_9 (dk_at dksX7_flow_0 2 rfl rfl)
theorem dX7_flow_3 : decode cX7_flow 3 = .ok (.aload_n 0, 1) := dk_42 (dk_at dksX7_flow_0 3 rfl rfl)
theorem dX7_flow_4 : decode cX7_flow 4 = .ok (.getfield 136, 3) := dk_180 0 136 (dk_at dksX7_flow_0 4 rfl rfl)
theorem dX7_flow_7 : decode cX7_flow 7 = .ok (.i2l, 1) := dk_133 (dk_at dksX7_flow_0 7 rfl rfl)
theorem dX7_flow_8 : decode cX7_flow 8 = .ok (.invokestatic 146, 3) := dk_184 0 146 (dk_at dksX7_flow_0 8 rfl rfl)
theorem dX7_flow_11 : decode cX7_flow 11 = .ok (.ifCond .eq 15, 3) := dk_153 0 15 (dk_at dksX7_flow_0 11 rfl rfl)
theorem dX7_flow_14 : decode cX7_flow 14 = .ok (.iload_n 2, 1) := dk_28 (dk_at dksX7_flow_0 14 rfl rfl)
theorem dX7_flow_15 : decode cX7_flow 15 = .ok (.i2l, 1) := dk_133 (dk_at dksX7_flow_0 15 rfl rfl)
theorem dX7_flow_16 : decode cX7_flow 16 = .ok (.lconst 0, 1) := dk_9 (dk_at dksX7_flow_0 16 rfl rfl)
theorem dX7_flow_17 : decode cX7_flow 17 = .ok (.ldc2_w 416, 3) := dk_20 1 160 (dk_at dksX7_flow_0 17 rfl rfl)
theorem dX7_flow_20 : decode cX7_flow 20 = .ok (.invokestatic 146, 3) := dk_184 0 146 (dk_at dksX7_flow_0 20 rfl rfl)
theorem dX7_flow_23 : decode cX7_flow 23 = .ok (.ifCond .ne 5, 3) := dk_154 0 5 (dk_at dksX7_flow_1 0 rfl rfl)
theorem dX7_flow_26 : decode cX7_flow 26 = .ok (.iconst (-1), 1) := dk_2 (dk_at dksX7_flow_1 3 rfl rfl)
theorem dX7_flow_27 : decode cX7_flow 27 = .ok (.ireturn, 1) := dk_172 (dk_at dksX7_flow_1 4 rfl rfl)
theorem dX7_flow_28 : decode cX7_flow 28 = .ok (.iload_n 1, 1) := dk_27 (dk_at dksX7_flow_1 5 rfl rfl)
theorem dX7_flow_29 : decode cX7_flow 29 = .ok (.aload_n 0, 1) := dk_42 (dk_at dksX7_flow_1 6 rfl rfl)
theorem dX7_flow_30 : decode cX7_flow 30 = .ok (.getfield 136, 3) := dk_180 0 136 (dk_at dksX7_flow_1 7 rfl rfl)
theorem dX7_flow_33 : decode cX7_flow 33 = .ok (.if_icmp .ne 8, 3) := dk_160 0 8 (dk_at dksX7_flow_1 10 rfl rfl)
theorem dX7_flow_36 : decode cX7_flow 36 = .ok (.bipush 16, 2) := dk_16 16 (dk_at dksX7_flow_1 13 rfl rfl)
theorem dX7_flow_38 : decode cX7_flow 38 = .ok (.goto 4, 3) := dk_167 0 4 (dk_at dksX7_flow_1 15 rfl rfl)
theorem dX7_flow_41 : decode cX7_flow 41 = .ok (.iload_n 1, 1) := dk_27 (dk_at dksX7_flow_1 18 rfl rfl)
theorem dX7_flow_42 : decode cX7_flow 42 = .ok (.istore_n 3, 1) := dk_62 (dk_at dksX7_flow_1 19 rfl rfl)
theorem dX7_flow_43 : decode cX7_flow 43 = .ok (.iload_n 2, 1) := dk_28 (dk_at dksX7_flow_1 20 rfl rfl)
theorem dX7_flow_44 : decode cX7_flow 44 = .ok (.iconst 4, 1) := dk_7 (dk_at dksX7_flow_1 21 rfl rfl)
theorem dX7_flow_45 : decode cX7_flow 45 = .ok (.if_icmp .ge 21, 3) := dk_162 0 21 (dk_at dksX7_flow_2 0 rfl rfl)
theorem dX7_flow_48 : decode cX7_flow 48 = .ok (.iload_n 3, 1) := dk_29 (dk_at dksX7_flow_2 3 rfl rfl)
theorem dX7_flow_49 : decode cX7_flow 49 = .ok (.bipush 16, 2) := dk_16 16 (dk_at dksX7_flow_2 4 rfl rfl)
theorem dX7_flow_51 : decode cX7_flow 51 = .ok (.if_icmp .ne 8, 3) := dk_160 0 8 (dk_at dksX7_flow_2 6 rfl rfl)
theorem dX7_flow_54 : decode cX7_flow 54 = .ok (.bipush (-2), 2) := dk_16 254 (dk_at dksX7_flow_2 9 rfl rfl)
theorem dX7_flow_56 : decode cX7_flow 56 = .ok (.goto 9, 3) := dk_167 0 9 (dk_at dksX7_flow_2 11 rfl rfl)
theorem dX7_flow_59 : decode cX7_flow 59 = .ok (.aload_n 0, 1) := dk_42 (dk_at dksX7_flow_2 14 rfl rfl)
theorem dX7_flow_60 : decode cX7_flow 60 = .ok (.iload_n 3, 1) := dk_29 (dk_at dksX7_flow_2 15 rfl rfl)
theorem dX7_flow_61 : decode cX7_flow 61 = .ok (.iload_n 2, 1) := dk_28 (dk_at dksX7_flow_2 16 rfl rfl)
theorem dX7_flow_62 : decode cX7_flow 62 = .ok (.invokevirtual 418, 3) := dk_182 1 162 (dk_at dksX7_flow_2 17 rfl rfl)
theorem dX7_flow_65 : decode cX7_flow 65 = .ok (.ireturn, 1) := dk_172 (dk_at dksX7_flow_2 20 rfl rfl)
theorem dX7_flow_66 : decode cX7_flow 66 = .ok (.iload_n 2, 1) := dk_28 (dk_at dksX7_flow_2 21 rfl rfl)
theorem dX7_flow_67 : decode cX7_flow 67 = .ok (.bipush 9, 2) := dk_16 9 (dk_at dksX7_flow_2 22 rfl rfl)
theorem dX7_flow_69 : decode cX7_flow 69 = .ok (.if_icmp .ge 14, 3) := dk_162 0 14 (dk_at dksX7_flow_3 0 rfl rfl)
theorem dX7_flow_72 : decode cX7_flow 72 = .ok (.aload_n 0, 1) := dk_42 (dk_at dksX7_flow_3 3 rfl rfl)
theorem dX7_flow_73 : decode cX7_flow 73 = .ok (.iload_n 3, 1) := dk_29 (dk_at dksX7_flow_3 4 rfl rfl)
theorem dX7_flow_74 : decode cX7_flow 74 = .ok (.iload_n 2, 1) := dk_28 (dk_at dksX7_flow_3 5 rfl rfl)
theorem dX7_flow_75 : decode cX7_flow 75 = .ok (.iconst 4, 1) := dk_7 (dk_at dksX7_flow_3 6 rfl rfl)
theorem dX7_flow_76 : decode cX7_flow 76 = .ok (.isub, 1) := dk_100 (dk_at dksX7_flow_3 7 rfl rfl)
theorem dX7_flow_77 : decode cX7_flow 77 = .ok (.invokevirtual 421, 3) := dk_182 1 165 (dk_at dksX7_flow_3 8 rfl rfl)
theorem dX7_flow_80 : decode cX7_flow 80 = .ok (.goto 22, 3) := dk_167 0 22 (dk_at dksX7_flow_3 11 rfl rfl)
theorem dX7_flow_83 : decode cX7_flow 83 = .ok (.iload_n 2, 1) := dk_28 (dk_at dksX7_flow_3 14 rfl rfl)
theorem dX7_flow_84 : decode cX7_flow 84 = .ok (.bipush 9, 2) := dk_16 9 (dk_at dksX7_flow_3 15 rfl rfl)
theorem dX7_flow_86 : decode cX7_flow 86 = .ok (.if_icmp .ne 11, 3) := dk_160 0 11 (dk_at dksX7_flow_3 17 rfl rfl)
theorem dX7_flow_89 : decode cX7_flow 89 = .ok (.aload_n 0, 1) := dk_42 (dk_at dksX7_flow_3 20 rfl rfl)
theorem dX7_flow_90 : decode cX7_flow 90 = .ok (.iload_n 3, 1) := dk_29 (dk_at dksX7_flow_3 21 rfl rfl)
theorem dX7_flow_91 : decode cX7_flow 91 = .ok (.invokevirtual 424, 3) := dk_182 1 168 (dk_at dksX7_flow_4 0 rfl rfl)
theorem dX7_flow_94 : decode cX7_flow 94 = .ok (.goto 8, 3) := dk_167 0 8 (dk_at dksX7_flow_4 3 rfl rfl)
theorem dX7_flow_97 : decode cX7_flow 97 = .ok (.aload_n 0, 1) := dk_42 (dk_at dksX7_flow_4 6 rfl rfl)
theorem dX7_flow_98 : decode cX7_flow 98 = .ok (.iload_n 3, 1) := dk_29 (dk_at dksX7_flow_4 7 rfl rfl)
theorem dX7_flow_99 : decode cX7_flow 99 = .ok (.invokevirtual 427, 3) := dk_182 1 171 (dk_at dksX7_flow_4 8 rfl rfl)
theorem dX7_flow_102 : decode cX7_flow 102 = .ok (.ireturn, 1) := dk_172 (dk_at dksX7_flow_4 11 rfl rfl)
abbrev cX7_toldOf : ByteArray := prog_13_method_82_code
def yX7_toldOf : MethodName := ⟨RX7, "toldOf", "(II)I"⟩
def dkwX7_toldOf_1 : List UInt8 := [167, 0, 23, 28, 5, 160, 0, 12, 42, 180, 0, 45, 27, 46, 167, 0, 9, 42, 180, 0, 48, 27, 46, 172]
abbrev dktX7_toldOf_1 : List UInt8 := dkwX7_toldOf_1 ++ []
def dkwX7_toldOf_0 : List UInt8 := [28, 154, 0, 12, 42, 180, 0, 39, 27, 46, 167, 0, 37, 28, 4, 160, 0, 12, 42, 180, 0, 42, 27, 46]
abbrev dktX7_toldOf_0 : List UInt8 := dkwX7_toldOf_0 ++ dktX7_toldOf_1
theorem dksX7_toldOf_0 : cX7_toldOf.data.toList.drop 0 = dktX7_toldOf_0 := by decide +kernel
theorem dksX7_toldOf_1 : cX7_toldOf.data.toList.drop 24 = dktX7_toldOf_1 := dk_seg dksX7_toldOf_0 24 rfl rfl
theorem dX7_toldOf_0 : decode cX7_toldOf 0 = .ok (.iload_n 2, 1) := dk_28 (dk_at dksX7_toldOf_0 0 rfl rfl)
theorem dX7_toldOf_1 : decode cX7_toldOf 1 = .ok (.ifCond .ne 12, 3) := dk_154 0 12 (dk_at dksX7_toldOf_0 1 rfl rfl)
theorem dX7_toldOf_4 : decode cX7_toldOf 4 = .ok (.aload_n 0, 1) := dk_42 (dk_at dksX7_toldOf_0 4 rfl rfl)
theorem dX7_toldOf_5 : decode cX7_toldOf 5 = .ok (.getfield 39, 3) := dk_180 0 39 (dk_at dksX7_toldOf_0 5 rfl rfl)
theorem dX7_toldOf_8 : decode cX7_toldOf 8 = .ok (.iload_n 1, 1) := dk_27 (dk_at dksX7_toldOf_0 8 rfl rfl)
theorem dX7_toldOf_9 : decode cX7_toldOf 9 = .ok (.iaload, 1) := dk_46 (dk_at dksX7_toldOf_0 9 rfl rfl)
theorem dX7_toldOf_10 : decode cX7_toldOf 10 = .ok (.goto 37, 3) := dk_167 0 37 (dk_at dksX7_toldOf_0 10 rfl rfl)
theorem dX7_toldOf_13 : decode cX7_toldOf 13 = .ok (.iload_n 2, 1) := dk_28 (dk_at dksX7_toldOf_0 13 rfl rfl)
theorem dX7_toldOf_14 : decode cX7_toldOf 14 = .ok (.iconst 1, 1) := dk_4 (dk_at dksX7_toldOf_0 14 rfl rfl)
theorem dX7_toldOf_15 : decode cX7_toldOf 15 = .ok (.if_icmp .ne 12, 3) := dk_160 0 12 (dk_at dksX7_toldOf_0 15 rfl rfl)
theorem dX7_toldOf_18 : decode cX7_toldOf 18 = .ok (.aload_n 0, 1) := dk_42 (dk_at dksX7_toldOf_0 18 rfl rfl)
theorem dX7_toldOf_19 : decode cX7_toldOf 19 = .ok (.getfield 42, 3) := dk_180 0 42 (dk_at dksX7_toldOf_0 19 rfl rfl)
theorem dX7_toldOf_22 : decode cX7_toldOf 22 = .ok (.iload_n 1, 1) := dk_27 (dk_at dksX7_toldOf_0 22 rfl rfl)
theorem dX7_toldOf_23 : decode cX7_toldOf 23 = .ok (.iaload, 1) := dk_46 (dk_at dksX7_toldOf_0 23 rfl rfl)
theorem dX7_toldOf_24 : decode cX7_toldOf 24 = .ok (.goto 23, 3) := dk_167 0 23 (dk_at dksX7_toldOf_1 0 rfl rfl)
theorem dX7_toldOf_27 : decode cX7_toldOf 27 = .ok (.iload_n 2, 1) := dk_28 (dk_at dksX7_toldOf_1 3 rfl rfl)
theorem dX7_toldOf_28 : decode cX7_toldOf 28 = .ok (.iconst 2, 1) := dk_5 (dk_at dksX7_toldOf_1 4 rfl rfl)
theorem dX7_toldOf_29 : decode cX7_toldOf 29 = .ok (.if_icmp .ne 12, 3) := dk_160 0 12 (dk_at dksX7_toldOf_1 5 rfl rfl)
theorem dX7_toldOf_32 : decode cX7_toldOf 32 = .ok (.aload_n 0, 1) := dk_42 (dk_at dksX7_toldOf_1 8 rfl rfl)
theorem dX7_toldOf_33 : decode cX7_toldOf 33 = .ok (.getfield 45, 3) := dk_180 0 45 (dk_at dksX7_toldOf_1 9 rfl rfl)
theorem dX7_toldOf_36 : decode cX7_toldOf 36 = .ok (.iload_n 1, 1) := dk_27 (dk_at dksX7_toldOf_1 12 rfl rfl)
theorem dX7_toldOf_37 : decode cX7_toldOf 37 = .ok (.iaload, 1) := dk_46 (dk_at dksX7_toldOf_1 13 rfl rfl)
theorem dX7_toldOf_38 : decode cX7_toldOf 38 = .ok (.goto 9, 3) := dk_167 0 9 (dk_at dksX7_toldOf_1 14 rfl rfl)
theorem dX7_toldOf_41 : decode cX7_toldOf 41 = .ok (.aload_n 0, 1) := dk_42 (dk_at dksX7_toldOf_1 17 rfl rfl)
theorem dX7_toldOf_42 : decode cX7_toldOf 42 = .ok (.getfield 48, 3) := dk_180 0 48 (dk_at dksX7_toldOf_1 18 rfl rfl)
theorem dX7_toldOf_45 : decode cX7_toldOf 45 = .ok (.iload_n 1, 1) := dk_27 (dk_at dksX7_toldOf_1 21 rfl rfl)
theorem dX7_toldOf_46 : decode cX7_toldOf 46 = .ok (.iaload, 1) := dk_46 (dk_at dksX7_toldOf_1 22 rfl rfl)
theorem dX7_toldOf_47 : decode cX7_toldOf 47 = .ok (.ireturn, 1) := dk_172 (dk_at dksX7_toldOf_1 23 rfl rfl)
abbrev cX7_account : ByteArray := prog_13_method_7_code
def yX7_account : MethodName := ⟨RX7, "account", "(II)I"⟩
def dkwX7_account_0 : List UInt8 := [42, 180, 0, 51, 16, 79, 8, 27, 104, 96, 28, 96, 46, 172]
abbrev dktX7_account_0 : List UInt8 := dkwX7_account_0 ++ []
theorem dksX7_account_0 : cX7_account.data.toList.drop 0 = dktX7_account_0 := by decide +kernel
theorem dX7_account_0 : decode cX7_account 0 = .ok (.aload_n 0, 1) := dk_42 (dk_at dksX7_account_0 0 rfl rfl)
theorem dX7_account_1 : decode cX7_account 1 = .ok (.getfield 51, 3) := dk_180 0 51 (dk_at dksX7_account_0 1 rfl rfl)
theorem dX7_account_4 : decode cX7_account 4 = .ok (.bipush 79, 2) := dk_16 79 (dk_at dksX7_account_0 4 rfl rfl)
theorem dX7_account_6 : decode cX7_account 6 = .ok (.iconst 5, 1) := dk_8 (dk_at dksX7_account_0 6 rfl rfl)
theorem dX7_account_7 : decode cX7_account 7 = .ok (.iload_n 1, 1) := dk_27 (dk_at dksX7_account_0 7 rfl rfl)
theorem dX7_account_8 : decode cX7_account 8 = .ok (.imul, 1) := dk_104 (dk_at dksX7_account_0 8 rfl rfl)
theorem dX7_account_9 : decode cX7_account 9 = .ok (.iadd, 1) := dk_96 (dk_at dksX7_account_0 9 rfl rfl)
theorem dX7_account_10 : decode cX7_account 10 = .ok (.iload_n 2, 1) := dk_28 (dk_at dksX7_account_0 10 rfl rfl)
theorem dX7_account_11 : decode cX7_account 11 = .ok (.iadd, 1) := dk_96 (dk_at dksX7_account_0 11 rfl rfl)
theorem dX7_account_12 : decode cX7_account 12 = .ok (.iaload, 1) := dk_46 (dk_at dksX7_account_0 12 rfl rfl)
theorem dX7_account_13 : decode cX7_account 13 = .ok (.ireturn, 1) := dk_172 (dk_at dksX7_account_0 13 rfl rfl)
abbrev cX7_waitingOf : ByteArray := prog_13_method_80_code
def yX7_waitingOf : MethodName := ⟨RX7, "waitingOf", "(I)I"⟩
def dkwX7_waitingOf_2 : List UInt8 := [167, 0, 4, 3, 96, 61, 132, 4, 1, 167, 255, 214, 132, 3, 1, 167, 255, 197, 28, 172]
abbrev dktX7_waitingOf_2 : List UInt8 := dkwX7_waitingOf_2 ++ []
def dkwX7_waitingOf_1 : List UInt8 := [96, 46, 162, 0, 34, 28, 42, 180, 0, 51, 29, 21, 4, 184, 0, 150, 5, 96, 46, 27, 160, 0, 7, 4]
abbrev dktX7_waitingOf_1 : List UInt8 := dkwX7_waitingOf_1 ++ dktX7_waitingOf_2
def dkwX7_waitingOf_0 : List UInt8 := [3, 61, 3, 62, 29, 42, 180, 0, 113, 162, 0, 57, 3, 54, 4, 21, 4, 42, 180, 0, 51, 16, 23, 29]
abbrev dktX7_waitingOf_0 : List UInt8 := dkwX7_waitingOf_0 ++ dktX7_waitingOf_1
theorem dksX7_waitingOf_0 : cX7_waitingOf.data.toList.drop 0 = dktX7_waitingOf_0 := by decide +kernel
theorem dksX7_waitingOf_1 : cX7_waitingOf.data.toList.drop 24 = dktX7_waitingOf_1 := dk_seg dksX7_waitingOf_0 24 rfl rfl
theorem dksX7_waitingOf_2 : cX7_waitingOf.data.toList.drop 48 = dktX7_waitingOf_2 := dk_seg dksX7_waitingOf_1 24 rfl rfl
theorem dX7_waitingOf_0 : decode cX7_waitingOf 0 = .ok (.iconst 0, 1) := dk_3 (dk_at dksX7_waitingOf_0 0 rfl rfl)
theorem dX7_waitingOf_1 : decode cX7_waitingOf 1 = .ok (.istore_n 2, 1) := dk_61 (dk_at dksX7_waitingOf_0 1 rfl rfl)
theorem dX7_waitingOf_2 : decode cX7_waitingOf 2 = .ok (.iconst 0, 1) := dk_3 (dk_at dksX7_waitingOf_0 2 rfl rfl)
theorem dX7_waitingOf_3 : decode cX7_waitingOf 3 = .ok (.istore_n 3, 1) := dk_62 (dk_at dksX7_waitingOf_0 3 rfl rfl)
theorem dX7_waitingOf_4 : decode cX7_waitingOf 4 = .ok (.iload_n 3, 1) := dk_29 (dk_at dksX7_waitingOf_0 4 rfl rfl)
theorem dX7_waitingOf_5 : decode cX7_waitingOf 5 = .ok (.aload_n 0, 1) := dk_42 (dk_at dksX7_waitingOf_0 5 rfl rfl)
theorem dX7_waitingOf_6 : decode cX7_waitingOf 6 = .ok (.getfield 113, 3) := dk_180 0 113 (dk_at dksX7_waitingOf_0 6 rfl rfl)
theorem dX7_waitingOf_9 : decode cX7_waitingOf 9 = .ok (.if_icmp .ge 57, 3) := dk_162 0 57 (dk_at dksX7_waitingOf_0 9 rfl rfl)
theorem dX7_waitingOf_12 : decode cX7_waitingOf 12 = .ok (.iconst 0, 1) := dk_3 (dk_at dksX7_waitingOf_0 12 rfl rfl)
theorem dX7_waitingOf_13 : decode cX7_waitingOf 13 = .ok (.istore 4, 2) := dk_54 4 (dk_at dksX7_waitingOf_0 13 rfl rfl)
theorem dX7_waitingOf_15 : decode cX7_waitingOf 15 = .ok (.iload 4, 2) := dk_21 4 (dk_at dksX7_waitingOf_0 15 rfl rfl)
theorem dX7_waitingOf_17 : decode cX7_waitingOf 17 = .ok (.aload_n 0, 1) := dk_42 (dk_at dksX7_waitingOf_0 17 rfl rfl)
theorem dX7_waitingOf_18 : decode cX7_waitingOf 18 = .ok (.getfield 51, 3) := dk_180 0 51 (dk_at dksX7_waitingOf_0 18 rfl rfl)
theorem dX7_waitingOf_21 : decode cX7_waitingOf 21 = .ok (.bipush 23, 2) := dk_16 23 (dk_at dksX7_waitingOf_0 21 rfl rfl)
theorem dX7_waitingOf_23 : decode cX7_waitingOf 23 = .ok (.iload_n 3, 1) := dk_29 (dk_at dksX7_waitingOf_0 23 rfl rfl)
theorem dX7_waitingOf_24 : decode cX7_waitingOf 24 = .ok (.iadd, 1) := dk_96 (dk_at dksX7_waitingOf_1 0 rfl rfl)
theorem dX7_waitingOf_25 : decode cX7_waitingOf 25 = .ok (.iaload, 1) := dk_46 (dk_at dksX7_waitingOf_1 1 rfl rfl)
theorem dX7_waitingOf_26 : decode cX7_waitingOf 26 = .ok (.if_icmp .ge 34, 3) := dk_162 0 34 (dk_at dksX7_waitingOf_1 2 rfl rfl)
theorem dX7_waitingOf_29 : decode cX7_waitingOf 29 = .ok (.iload_n 2, 1) := dk_28 (dk_at dksX7_waitingOf_1 5 rfl rfl)
theorem dX7_waitingOf_30 : decode cX7_waitingOf 30 = .ok (.aload_n 0, 1) := dk_42 (dk_at dksX7_waitingOf_1 6 rfl rfl)
theorem dX7_waitingOf_31 : decode cX7_waitingOf 31 = .ok (.getfield 51, 3) := dk_180 0 51 (dk_at dksX7_waitingOf_1 7 rfl rfl)
theorem dX7_waitingOf_34 : decode cX7_waitingOf 34 = .ok (.iload_n 3, 1) := dk_29 (dk_at dksX7_waitingOf_1 10 rfl rfl)
theorem dX7_waitingOf_35 : decode cX7_waitingOf 35 = .ok (.iload 4, 2) := dk_21 4 (dk_at dksX7_waitingOf_1 11 rfl rfl)
theorem dX7_waitingOf_37 : decode cX7_waitingOf 37 = .ok (.invokestatic 150, 3) := dk_184 0 150 (dk_at dksX7_waitingOf_1 13 rfl rfl)
theorem dX7_waitingOf_40 : decode cX7_waitingOf 40 = .ok (.iconst 2, 1) := dk_5 (dk_at dksX7_waitingOf_1 16 rfl rfl)
theorem dX7_waitingOf_41 : decode cX7_waitingOf 41 = .ok (.iadd, 1) := dk_96 (dk_at dksX7_waitingOf_1 17 rfl rfl)
theorem dX7_waitingOf_42 : decode cX7_waitingOf 42 = .ok (.iaload, 1) := dk_46 (dk_at dksX7_waitingOf_1 18 rfl rfl)
theorem dX7_waitingOf_43 : decode cX7_waitingOf 43 = .ok (.iload_n 1, 1) := dk_27 (dk_at dksX7_waitingOf_1 19 rfl rfl)
theorem dX7_waitingOf_44 : decode cX7_waitingOf 44 = .ok (.if_icmp .ne 7, 3) := dk_160 0 7 (dk_at dksX7_waitingOf_1 20 rfl rfl)
theorem dX7_waitingOf_47 : decode cX7_waitingOf 47 = .ok (.iconst 1, 1) := dk_4 (dk_at dksX7_waitingOf_1 23 rfl rfl)
theorem dX7_waitingOf_48 : decode cX7_waitingOf 48 = .ok (.goto 4, 3) := dk_167 0 4 (dk_at dksX7_waitingOf_2 0 rfl rfl)
theorem dX7_waitingOf_51 : decode cX7_waitingOf 51 = .ok (.iconst 0, 1) := dk_3 (dk_at dksX7_waitingOf_2 3 rfl rfl)
theorem dX7_waitingOf_52 : decode cX7_waitingOf 52 = .ok (.iadd, 1) := dk_96 (dk_at dksX7_waitingOf_2 4 rfl rfl)
theorem dX7_waitingOf_53 : decode cX7_waitingOf 53 = .ok (.istore_n 2, 1) := dk_61 (dk_at dksX7_waitingOf_2 5 rfl rfl)
theorem dX7_waitingOf_54 : decode cX7_waitingOf 54 = .ok (.iinc 4 1, 3) := dk_132 4 1 (dk_at dksX7_waitingOf_2 6 rfl rfl)
theorem dX7_waitingOf_57 : decode cX7_waitingOf 57 = .ok (.goto (-42), 3) := dk_167 255 214 (dk_at dksX7_waitingOf_2 9 rfl rfl)
theorem dX7_waitingOf_60 : decode cX7_waitingOf 60 = .ok (.iinc 3 1, 3) := dk_132 3 1 (dk_at dksX7_waitingOf_2 12 rfl rfl)
theorem dX7_waitingOf_63 : decode cX7_waitingOf 63 = .ok (.goto (-59), 3) := dk_167 255 197 (dk_at dksX7_waitingOf_2 15 rfl rfl)
theorem dX7_waitingOf_66 : decode cX7_waitingOf 66 = .ok (.iload_n 2, 1) := dk_28 (dk_at dksX7_waitingOf_2 18 rfl rfl)
theorem dX7_waitingOf_67 : decode cX7_waitingOf 67 = .ok (.ireturn, 1) := dk_172 (dk_at dksX7_waitingOf_2 19 rfl rfl)
abbrev cX7_aboardOf : ByteArray := prog_13_method_81_code
def yX7_aboardOf : MethodName := ⟨RX7, "aboardOf", "(I)I"⟩
def dkwX7_aboardOf_2 : List UInt8 := [167, 0, 4, 3, 96, 61, 132, 4, 1, 167, 255, 217, 132, 3, 1, 167, 255, 200, 28, 172]
abbrev dktX7_aboardOf_2 : List UInt8 := dkwX7_aboardOf_2 ++ []
def dkwX7_aboardOf_1 : List UInt8 := [162, 0, 34, 28, 42, 180, 0, 51, 29, 21, 4, 184, 0, 174, 5, 96, 46, 27, 160, 0, 7, 4]
abbrev dktX7_aboardOf_1 : List UInt8 := dkwX7_aboardOf_1 ++ dktX7_aboardOf_2
def dkwX7_aboardOf_0 : List UInt8 := [3, 61, 3, 62, 29, 42, 180, 0, 118, 162, 0, 54, 3, 54, 4, 21, 4, 42, 29, 7, 182, 0, 171]
abbrev dktX7_aboardOf_0 : List UInt8 := dkwX7_aboardOf_0 ++ dktX7_aboardOf_1
theorem dksX7_aboardOf_0 : cX7_aboardOf.data.toList.drop 0 = dktX7_aboardOf_0 := by decide +kernel
theorem dksX7_aboardOf_1 : cX7_aboardOf.data.toList.drop 23 = dktX7_aboardOf_1 := dk_seg dksX7_aboardOf_0 23 rfl rfl
theorem dksX7_aboardOf_2 : cX7_aboardOf.data.toList.drop 45 = dktX7_aboardOf_2 := dk_seg dksX7_aboardOf_1 22 rfl rfl
theorem dX7_aboardOf_0 : decode cX7_aboardOf 0 = .ok (.iconst 0, 1) := dk_3 (dk_at dksX7_aboardOf_0 0 rfl rfl)
theorem dX7_aboardOf_1 : decode cX7_aboardOf 1 = .ok (.istore_n 2, 1) := dk_61 (dk_at dksX7_aboardOf_0 1 rfl rfl)
theorem dX7_aboardOf_2 : decode cX7_aboardOf 2 = .ok (.iconst 0, 1) := dk_3 (dk_at dksX7_aboardOf_0 2 rfl rfl)
theorem dX7_aboardOf_3 : decode cX7_aboardOf 3 = .ok (.istore_n 3, 1) := dk_62 (dk_at dksX7_aboardOf_0 3 rfl rfl)
theorem dX7_aboardOf_4 : decode cX7_aboardOf 4 = .ok (.iload_n 3, 1) := dk_29 (dk_at dksX7_aboardOf_0 4 rfl rfl)
theorem dX7_aboardOf_5 : decode cX7_aboardOf 5 = .ok (.aload_n 0, 1) := dk_42 (dk_at dksX7_aboardOf_0 5 rfl rfl)
theorem dX7_aboardOf_6 : decode cX7_aboardOf 6 = .ok (.getfield 118, 3) := dk_180 0 118 (dk_at dksX7_aboardOf_0 6 rfl rfl)
theorem dX7_aboardOf_9 : decode cX7_aboardOf 9 = .ok (.if_icmp .ge 54, 3) := dk_162 0 54 (dk_at dksX7_aboardOf_0 9 rfl rfl)
theorem dX7_aboardOf_12 : decode cX7_aboardOf 12 = .ok (.iconst 0, 1) := dk_3 (dk_at dksX7_aboardOf_0 12 rfl rfl)
theorem dX7_aboardOf_13 : decode cX7_aboardOf 13 = .ok (.istore 4, 2) := dk_54 4 (dk_at dksX7_aboardOf_0 13 rfl rfl)
theorem dX7_aboardOf_15 : decode cX7_aboardOf 15 = .ok (.iload 4, 2) := dk_21 4 (dk_at dksX7_aboardOf_0 15 rfl rfl)
theorem dX7_aboardOf_17 : decode cX7_aboardOf 17 = .ok (.aload_n 0, 1) := dk_42 (dk_at dksX7_aboardOf_0 17 rfl rfl)
theorem dX7_aboardOf_18 : decode cX7_aboardOf 18 = .ok (.iload_n 3, 1) := dk_29 (dk_at dksX7_aboardOf_0 18 rfl rfl)
theorem dX7_aboardOf_19 : decode cX7_aboardOf 19 = .ok (.iconst 4, 1) := dk_7 (dk_at dksX7_aboardOf_0 19 rfl rfl)
theorem dX7_aboardOf_20 : decode cX7_aboardOf 20 = .ok (.invokevirtual 171, 3) := dk_182 0 171 (dk_at dksX7_aboardOf_0 20 rfl rfl)
theorem dX7_aboardOf_23 : decode cX7_aboardOf 23 = .ok (.if_icmp .ge 34, 3) := dk_162 0 34 (dk_at dksX7_aboardOf_1 0 rfl rfl)
theorem dX7_aboardOf_26 : decode cX7_aboardOf 26 = .ok (.iload_n 2, 1) := dk_28 (dk_at dksX7_aboardOf_1 3 rfl rfl)
theorem dX7_aboardOf_27 : decode cX7_aboardOf 27 = .ok (.aload_n 0, 1) := dk_42 (dk_at dksX7_aboardOf_1 4 rfl rfl)
theorem dX7_aboardOf_28 : decode cX7_aboardOf 28 = .ok (.getfield 51, 3) := dk_180 0 51 (dk_at dksX7_aboardOf_1 5 rfl rfl)
theorem dX7_aboardOf_31 : decode cX7_aboardOf 31 = .ok (.iload_n 3, 1) := dk_29 (dk_at dksX7_aboardOf_1 8 rfl rfl)
theorem dX7_aboardOf_32 : decode cX7_aboardOf 32 = .ok (.iload 4, 2) := dk_21 4 (dk_at dksX7_aboardOf_1 9 rfl rfl)
theorem dX7_aboardOf_34 : decode cX7_aboardOf 34 = .ok (.invokestatic 174, 3) := dk_184 0 174 (dk_at dksX7_aboardOf_1 11 rfl rfl)
theorem dX7_aboardOf_37 : decode cX7_aboardOf 37 = .ok (.iconst 2, 1) := dk_5 (dk_at dksX7_aboardOf_1 14 rfl rfl)
theorem dX7_aboardOf_38 : decode cX7_aboardOf 38 = .ok (.iadd, 1) := dk_96 (dk_at dksX7_aboardOf_1 15 rfl rfl)
theorem dX7_aboardOf_39 : decode cX7_aboardOf 39 = .ok (.iaload, 1) := dk_46 (dk_at dksX7_aboardOf_1 16 rfl rfl)
theorem dX7_aboardOf_40 : decode cX7_aboardOf 40 = .ok (.iload_n 1, 1) := dk_27 (dk_at dksX7_aboardOf_1 17 rfl rfl)
theorem dX7_aboardOf_41 : decode cX7_aboardOf 41 = .ok (.if_icmp .ne 7, 3) := dk_160 0 7 (dk_at dksX7_aboardOf_1 18 rfl rfl)
theorem dX7_aboardOf_44 : decode cX7_aboardOf 44 = .ok (.iconst 1, 1) := dk_4 (dk_at dksX7_aboardOf_1 21 rfl rfl)
theorem dX7_aboardOf_45 : decode cX7_aboardOf 45 = .ok (.goto 4, 3) := dk_167 0 4 (dk_at dksX7_aboardOf_2 0 rfl rfl)
theorem dX7_aboardOf_48 : decode cX7_aboardOf 48 = .ok (.iconst 0, 1) := dk_3 (dk_at dksX7_aboardOf_2 3 rfl rfl)
theorem dX7_aboardOf_49 : decode cX7_aboardOf 49 = .ok (.iadd, 1) := dk_96 (dk_at dksX7_aboardOf_2 4 rfl rfl)
theorem dX7_aboardOf_50 : decode cX7_aboardOf 50 = .ok (.istore_n 2, 1) := dk_61 (dk_at dksX7_aboardOf_2 5 rfl rfl)
theorem dX7_aboardOf_51 : decode cX7_aboardOf 51 = .ok (.iinc 4 1, 3) := dk_132 4 1 (dk_at dksX7_aboardOf_2 6 rfl rfl)
theorem dX7_aboardOf_54 : decode cX7_aboardOf 54 = .ok (.goto (-39), 3) := dk_167 255 217 (dk_at dksX7_aboardOf_2 9 rfl rfl)
theorem dX7_aboardOf_57 : decode cX7_aboardOf 57 = .ok (.iinc 3 1, 3) := dk_132 3 1 (dk_at dksX7_aboardOf_2 12 rfl rfl)
theorem dX7_aboardOf_60 : decode cX7_aboardOf 60 = .ok (.goto (-56), 3) := dk_167 255 200 (dk_at dksX7_aboardOf_2 15 rfl rfl)
theorem dX7_aboardOf_63 : decode cX7_aboardOf 63 = .ok (.iload_n 2, 1) := dk_28 (dk_at dksX7_aboardOf_2 18 rfl rfl)
theorem dX7_aboardOf_64 : decode cX7_aboardOf 64 = .ok (.ireturn, 1) := dk_172 (dk_at dksX7_aboardOf_2 19 rfl rfl)
abbrev cX7_rider : ByteArray := prog_13_method_84_code
def yX7_rider : MethodName := ⟨RX7, "rider", "(III)I"⟩
def dkwX7_rider_3 : List UInt8 := [167, 0, 5, 21, 4, 172]
abbrev dktX7_rider_3 : List UInt8 := dkwX7_rider_3 ++ []
def dkwX7_rider_2 : List UInt8 := [184, 0, 150, 29, 96, 46, 54, 4, 29, 5, 160, 0, 17, 21, 4, 16, 16, 160, 0, 10, 42, 180, 0, 136]
abbrev dktX7_rider_2 : List UInt8 := dkwX7_rider_2 ++ dktX7_rider_3
def dkwX7_rider_1 : List UInt8 := [2, 172, 28, 42, 180, 0, 51, 16, 23, 27, 96, 46, 161, 0, 6, 16, 254, 172, 42, 180, 0, 51, 27, 28]
abbrev dktX7_rider_1 : List UInt8 := dkwX7_rider_1 ++ dktX7_rider_2
def dkwX7_rider_0 : List UInt8 := [42, 27, 182, 1, 121, 153, 0, 19, 28, 155, 0, 15, 29, 133, 9, 20, 1, 174, 184, 0, 146, 154, 0, 5]
abbrev dktX7_rider_0 : List UInt8 := dkwX7_rider_0 ++ dktX7_rider_1
theorem dksX7_rider_0 : cX7_rider.data.toList.drop 0 = dktX7_rider_0 := by decide +kernel
theorem dksX7_rider_1 : cX7_rider.data.toList.drop 24 = dktX7_rider_1 := dk_seg dksX7_rider_0 24 rfl rfl
theorem dksX7_rider_2 : cX7_rider.data.toList.drop 48 = dktX7_rider_2 := dk_seg dksX7_rider_1 24 rfl rfl
theorem dksX7_rider_3 : cX7_rider.data.toList.drop 72 = dktX7_rider_3 := dk_seg dksX7_rider_2 24 rfl rfl
theorem dX7_rider_0 : decode cX7_rider 0 = .ok (.aload_n 0, 1) := dk_42 (dk_at dksX7_rider_0 0 rfl rfl)
theorem dX7_rider_1 : decode cX7_rider 1 = .ok (.iload_n 1, 1) := dk_27 (dk_at dksX7_rider_0 1 rfl rfl)
theorem dX7_rider_2 : decode cX7_rider 2 = .ok (.invokevirtual 377, 3) := dk_182 1 121 (dk_at dksX7_rider_0 2 rfl rfl)
theorem dX7_rider_5 : decode cX7_rider 5 = .ok (.ifCond .eq 19, 3) := dk_153 0 19 (dk_at dksX7_rider_0 5 rfl rfl)
theorem dX7_rider_8 : decode cX7_rider 8 = .ok (.iload_n 2, 1) := dk_28 (dk_at dksX7_rider_0 8 rfl rfl)
theorem dX7_rider_9 : decode cX7_rider 9 = .ok (.ifCond .lt 15, 3) := dk_155 0 15 (dk_at dksX7_rider_0 9 rfl rfl)
theorem dX7_rider_12 : decode cX7_rider 12 = .ok (.iload_n 3, 1) := dk_29 (dk_at dksX7_rider_0 12 rfl rfl)
theorem dX7_rider_13 : decode cX7_rider 13 = .ok (.i2l, 1) := dk_133 (dk_at dksX7_rider_0 13 rfl rfl)
theorem dX7_rider_14 : decode cX7_rider 14 = .ok (.lconst 0, 1) := dk_9 (dk_at dksX7_rider_0 14 rfl rfl)
theorem dX7_rider_15 : decode cX7_rider 15 = .ok (.ldc2_w 430, 3) := dk_20 1 174 (dk_at dksX7_rider_0 15 rfl rfl)
theorem dX7_rider_18 : decode cX7_rider 18 = .ok (.invokestatic 146, 3) := dk_184 0 146 (dk_at dksX7_rider_0 18 rfl rfl)
theorem dX7_rider_21 : decode cX7_rider 21 = .ok (.ifCond .ne 5, 3) := dk_154 0 5 (dk_at dksX7_rider_0 21 rfl rfl)
theorem dX7_rider_24 : decode cX7_rider 24 = .ok (.iconst (-1), 1) := dk_2 (dk_at dksX7_rider_1 0 rfl rfl)
theorem dX7_rider_25 : decode cX7_rider 25 = .ok (.ireturn, 1) := dk_172 (dk_at dksX7_rider_1 1 rfl rfl)
theorem dX7_rider_26 : decode cX7_rider 26 = .ok (.iload_n 2, 1) := dk_28 (dk_at dksX7_rider_1 2 rfl rfl)
theorem dX7_rider_27 : decode cX7_rider 27 = .ok (.aload_n 0, 1) := dk_42 (dk_at dksX7_rider_1 3 rfl rfl)
theorem dX7_rider_28 : decode cX7_rider 28 = .ok (.getfield 51, 3) := dk_180 0 51 (dk_at dksX7_rider_1 4 rfl rfl)
theorem dX7_rider_31 : decode cX7_rider 31 = .ok (.bipush 23, 2) := dk_16 23 (dk_at dksX7_rider_1 7 rfl rfl)
theorem dX7_rider_33 : decode cX7_rider 33 = .ok (.iload_n 1, 1) := dk_27 (dk_at dksX7_rider_1 9 rfl rfl)
theorem dX7_rider_34 : decode cX7_rider 34 = .ok (.iadd, 1) := dk_96 (dk_at dksX7_rider_1 10 rfl rfl)
theorem dX7_rider_35 : decode cX7_rider 35 = .ok (.iaload, 1) := dk_46 (dk_at dksX7_rider_1 11 rfl rfl)
theorem dX7_rider_36 : decode cX7_rider 36 = .ok (.if_icmp .lt 6, 3) := dk_161 0 6 (dk_at dksX7_rider_1 12 rfl rfl)
theorem dX7_rider_39 : decode cX7_rider 39 = .ok (.bipush (-2), 2) := dk_16 254 (dk_at dksX7_rider_1 15 rfl rfl)
theorem dX7_rider_41 : decode cX7_rider 41 = .ok (.ireturn, 1) := dk_172 (dk_at dksX7_rider_1 17 rfl rfl)
theorem dX7_rider_42 : decode cX7_rider 42 = .ok (.aload_n 0, 1) := dk_42 (dk_at dksX7_rider_1 18 rfl rfl)
theorem dX7_rider_43 : decode cX7_rider 43 = .ok (.getfield 51, 3) := dk_180 0 51 (dk_at dksX7_rider_1 19 rfl rfl)
theorem dX7_rider_46 : decode cX7_rider 46 = .ok (.iload_n 1, 1) := dk_27 (dk_at dksX7_rider_1 22 rfl rfl)
theorem dX7_rider_47 : decode cX7_rider 47 = .ok (.iload_n 2, 1) := dk_28 (dk_at dksX7_rider_1 23 rfl rfl)
theorem dX7_rider_48 : decode cX7_rider 48 = .ok (.invokestatic 150, 3) := dk_184 0 150 (dk_at dksX7_rider_2 0 rfl rfl)
theorem dX7_rider_51 : decode cX7_rider 51 = .ok (.iload_n 3, 1) := dk_29 (dk_at dksX7_rider_2 3 rfl rfl)
theorem dX7_rider_52 : decode cX7_rider 52 = .ok (.iadd, 1) := dk_96 (dk_at dksX7_rider_2 4 rfl rfl)
theorem dX7_rider_53 : decode cX7_rider 53 = .ok (.iaload, 1) := dk_46 (dk_at dksX7_rider_2 5 rfl rfl)
theorem dX7_rider_54 : decode cX7_rider 54 = .ok (.istore 4, 2) := dk_54 4 (dk_at dksX7_rider_2 6 rfl rfl)
theorem dX7_rider_56 : decode cX7_rider 56 = .ok (.iload_n 3, 1) := dk_29 (dk_at dksX7_rider_2 8 rfl rfl)
theorem dX7_rider_57 : decode cX7_rider 57 = .ok (.iconst 2, 1) := dk_5 (dk_at dksX7_rider_2 9 rfl rfl)
theorem dX7_rider_58 : decode cX7_rider 58 = .ok (.if_icmp .ne 17, 3) := dk_160 0 17 (dk_at dksX7_rider_2 10 rfl rfl)
theorem dX7_rider_61 : decode cX7_rider 61 = .ok (.iload 4, 2) := dk_21 4 (dk_at dksX7_rider_2 13 rfl rfl)
theorem dX7_rider_63 : decode cX7_rider 63 = .ok (.bipush 16, 2) := dk_16 16 (dk_at dksX7_rider_2 15 rfl rfl)
theorem dX7_rider_65 : decode cX7_rider 65 = .ok (.if_icmp .ne 10, 3) := dk_160 0 10 (dk_at dksX7_rider_2 17 rfl rfl)
theorem dX7_rider_68 : decode cX7_rider 68 = .ok (.aload_n 0, 1) := dk_42 (dk_at dksX7_rider_2 20 rfl rfl)
theorem dX7_rider_69 : decode cX7_rider 69 = .ok (.getfield 136, 3) := dk_180 0 136 (dk_at dksX7_rider_2 21 rfl rfl)
theorem dX7_rider_72 : decode cX7_rider 72 = .ok (.goto 5, 3) := dk_167 0 5 (dk_at dksX7_rider_3 0 rfl rfl)
theorem dX7_rider_75 : decode cX7_rider 75 = .ok (.iload 4, 2) := dk_21 4 (dk_at dksX7_rider_3 3 rfl rfl)
theorem dX7_rider_77 : decode cX7_rider 77 = .ok (.ireturn, 1) := dk_172 (dk_at dksX7_rider_3 5 rfl rfl)
abbrev cX7_aboard : ByteArray := prog_13_method_85_code
def yX7_aboard : MethodName := ⟨RX7, "aboard", "(II)I"⟩
def dkwX7_aboard_1 : List UInt8 := [167, 0, 4, 2, 172]
abbrev dktX7_aboard_1 : List UInt8 := dkwX7_aboard_1 ++ []
def dkwX7_aboard_0 : List UInt8 := [42, 27, 182, 1, 140, 153, 0, 20, 42, 28, 182, 1, 121, 153, 0, 12, 42, 27, 28, 182, 1, 143]
abbrev dktX7_aboard_0 : List UInt8 := dkwX7_aboard_0 ++ dktX7_aboard_1
theorem dksX7_aboard_0 : cX7_aboard.data.toList.drop 0 = dktX7_aboard_0 := by decide +kernel
theorem dksX7_aboard_1 : cX7_aboard.data.toList.drop 22 = dktX7_aboard_1 := dk_seg dksX7_aboard_0 22 rfl rfl
theorem dX7_aboard_0 : decode cX7_aboard 0 = .ok (.aload_n 0, 1) := dk_42 (dk_at dksX7_aboard_0 0 rfl rfl)
theorem dX7_aboard_1 : decode cX7_aboard 1 = .ok (.iload_n 1, 1) := dk_27 (dk_at dksX7_aboard_0 1 rfl rfl)
theorem dX7_aboard_2 : decode cX7_aboard 2 = .ok (.invokevirtual 396, 3) := dk_182 1 140 (dk_at dksX7_aboard_0 2 rfl rfl)
theorem dX7_aboard_5 : decode cX7_aboard 5 = .ok (.ifCond .eq 20, 3) := dk_153 0 20 (dk_at dksX7_aboard_0 5 rfl rfl)
theorem dX7_aboard_8 : decode cX7_aboard 8 = .ok (.aload_n 0, 1) := dk_42 (dk_at dksX7_aboard_0 8 rfl rfl)
theorem dX7_aboard_9 : decode cX7_aboard 9 = .ok (.iload_n 2, 1) := dk_28 (dk_at dksX7_aboard_0 9 rfl rfl)
theorem dX7_aboard_10 : decode cX7_aboard 10 = .ok (.invokevirtual 377, 3) := dk_182 1 121 (dk_at dksX7_aboard_0 10 rfl rfl)
theorem dX7_aboard_13 : decode cX7_aboard 13 = .ok (.ifCond .eq 12, 3) := dk_153 0 12 (dk_at dksX7_aboard_0 13 rfl rfl)
theorem dX7_aboard_16 : decode cX7_aboard 16 = .ok (.aload_n 0, 1) := dk_42 (dk_at dksX7_aboard_0 16 rfl rfl)
theorem dX7_aboard_17 : decode cX7_aboard 17 = .ok (.iload_n 1, 1) := dk_27 (dk_at dksX7_aboard_0 17 rfl rfl)
theorem dX7_aboard_18 : decode cX7_aboard 18 = .ok (.iload_n 2, 1) := dk_28 (dk_at dksX7_aboard_0 18 rfl rfl)
theorem dX7_aboard_19 : decode cX7_aboard 19 = .ok (.invokevirtual 399, 3) := dk_182 1 143 (dk_at dksX7_aboard_0 19 rfl rfl)
theorem dX7_aboard_22 : decode cX7_aboard 22 = .ok (.goto 4, 3) := dk_167 0 4 (dk_at dksX7_aboard_1 0 rfl rfl)
theorem dX7_aboard_25 : decode cX7_aboard 25 = .ok (.iconst (-1), 1) := dk_2 (dk_at dksX7_aboard_1 3 rfl rfl)
theorem dX7_aboard_26 : decode cX7_aboard 26 = .ok (.ireturn, 1) := dk_172 (dk_at dksX7_aboard_1 4 rfl rfl)
abbrev cX7_left : ByteArray := prog_13_method_86_code
def yX7_left : MethodName := ⟨RX7, "left", "(III)I"⟩
def dkwX7_left_2 : List UInt8 := [21, 4, 4, 100, 28, 100, 184, 0, 220, 29, 96, 46, 167, 0, 5, 16, 254, 172]
abbrev dktX7_left_2 : List UInt8 := dkwX7_left_2 ++ []
def dkwX7_left_1 : List UInt8 := [2, 172, 42, 180, 0, 51, 16, 53, 27, 96, 46, 54, 4, 28, 21, 4, 162, 0, 23, 42, 180, 0, 51, 27]
abbrev dktX7_left_1 : List UInt8 := dkwX7_left_1 ++ dktX7_left_2
def dkwX7_left_0 : List UInt8 := [42, 27, 182, 1, 121, 153, 0, 19, 28, 155, 0, 15, 29, 133, 9, 20, 1, 174, 184, 0, 146, 154, 0, 5]
abbrev dktX7_left_0 : List UInt8 := dkwX7_left_0 ++ dktX7_left_1
theorem dksX7_left_0 : cX7_left.data.toList.drop 0 = dktX7_left_0 := by decide +kernel
theorem dksX7_left_1 : cX7_left.data.toList.drop 24 = dktX7_left_1 := dk_seg dksX7_left_0 24 rfl rfl
theorem dksX7_left_2 : cX7_left.data.toList.drop 48 = dktX7_left_2 := dk_seg dksX7_left_1 24 rfl rfl
theorem dX7_left_0 : decode cX7_left 0 = .ok (.aload_n 0, 1) := dk_42 (dk_at dksX7_left_0 0 rfl rfl)
theorem dX7_left_1 : decode cX7_left 1 = .ok (.iload_n 1, 1) := dk_27 (dk_at dksX7_left_0 1 rfl rfl)
theorem dX7_left_2 : decode cX7_left 2 = .ok (.invokevirtual 377, 3) := dk_182 1 121 (dk_at dksX7_left_0 2 rfl rfl)
theorem dX7_left_5 : decode cX7_left 5 = .ok (.ifCond .eq 19, 3) := dk_153 0 19 (dk_at dksX7_left_0 5 rfl rfl)
theorem dX7_left_8 : decode cX7_left 8 = .ok (.iload_n 2, 1) := dk_28 (dk_at dksX7_left_0 8 rfl rfl)
theorem dX7_left_9 : decode cX7_left 9 = .ok (.ifCond .lt 15, 3) := dk_155 0 15 (dk_at dksX7_left_0 9 rfl rfl)
theorem dX7_left_12 : decode cX7_left 12 = .ok (.iload_n 3, 1) := dk_29 (dk_at dksX7_left_0 12 rfl rfl)
theorem dX7_left_13 : decode cX7_left 13 = .ok (.i2l, 1) := dk_133 (dk_at dksX7_left_0 13 rfl rfl)
theorem dX7_left_14 : decode cX7_left 14 = .ok (.lconst 0, 1) := dk_9 (dk_at dksX7_left_0 14 rfl rfl)
theorem dX7_left_15 : decode cX7_left 15 = .ok (.ldc2_w 430, 3) := dk_20 1 174 (dk_at dksX7_left_0 15 rfl rfl)
theorem dX7_left_18 : decode cX7_left 18 = .ok (.invokestatic 146, 3) := dk_184 0 146 (dk_at dksX7_left_0 18 rfl rfl)
theorem dX7_left_21 : decode cX7_left 21 = .ok (.ifCond .ne 5, 3) := dk_154 0 5 (dk_at dksX7_left_0 21 rfl rfl)
theorem dX7_left_24 : decode cX7_left 24 = .ok (.iconst (-1), 1) := dk_2 (dk_at dksX7_left_1 0 rfl rfl)
theorem dX7_left_25 : decode cX7_left 25 = .ok (.ireturn, 1) := dk_172 (dk_at dksX7_left_1 1 rfl rfl)
theorem dX7_left_26 : decode cX7_left 26 = .ok (.aload_n 0, 1) := dk_42 (dk_at dksX7_left_1 2 rfl rfl)
theorem dX7_left_27 : decode cX7_left 27 = .ok (.getfield 51, 3) := dk_180 0 51 (dk_at dksX7_left_1 3 rfl rfl)
theorem dX7_left_30 : decode cX7_left 30 = .ok (.bipush 53, 2) := dk_16 53 (dk_at dksX7_left_1 6 rfl rfl)
theorem dX7_left_32 : decode cX7_left 32 = .ok (.iload_n 1, 1) := dk_27 (dk_at dksX7_left_1 8 rfl rfl)
theorem dX7_left_33 : decode cX7_left 33 = .ok (.iadd, 1) := dk_96 (dk_at dksX7_left_1 9 rfl rfl)
theorem dX7_left_34 : decode cX7_left 34 = .ok (.iaload, 1) := dk_46 (dk_at dksX7_left_1 10 rfl rfl)
theorem dX7_left_35 : decode cX7_left 35 = .ok (.istore 4, 2) := dk_54 4 (dk_at dksX7_left_1 11 rfl rfl)
theorem dX7_left_37 : decode cX7_left 37 = .ok (.iload_n 2, 1) := dk_28 (dk_at dksX7_left_1 13 rfl rfl)
theorem dX7_left_38 : decode cX7_left 38 = .ok (.iload 4, 2) := dk_21 4 (dk_at dksX7_left_1 14 rfl rfl)
theorem dX7_left_40 : decode cX7_left 40 = .ok (.if_icmp .ge 23, 3) := dk_162 0 23 (dk_at dksX7_left_1 16 rfl rfl)
theorem dX7_left_43 : decode cX7_left 43 = .ok (.aload_n 0, 1) := dk_42 (dk_at dksX7_left_1 19 rfl rfl)
theorem dX7_left_44 : decode cX7_left 44 = .ok (.getfield 51, 3) := dk_180 0 51 (dk_at dksX7_left_1 20 rfl rfl)
theorem dX7_left_47 : decode cX7_left 47 = .ok (.iload_n 1, 1) := dk_27 (dk_at dksX7_left_1 23 rfl rfl)
theorem dX7_left_48 : decode cX7_left 48 = .ok (.iload 4, 2) := dk_21 4 (dk_at dksX7_left_2 0 rfl rfl)
theorem dX7_left_50 : decode cX7_left 50 = .ok (.iconst 1, 1) := dk_4 (dk_at dksX7_left_2 2 rfl rfl)
theorem dX7_left_51 : decode cX7_left 51 = .ok (.isub, 1) := dk_100 (dk_at dksX7_left_2 3 rfl rfl)
theorem dX7_left_52 : decode cX7_left 52 = .ok (.iload_n 2, 1) := dk_28 (dk_at dksX7_left_2 4 rfl rfl)
theorem dX7_left_53 : decode cX7_left 53 = .ok (.isub, 1) := dk_100 (dk_at dksX7_left_2 5 rfl rfl)
theorem dX7_left_54 : decode cX7_left 54 = .ok (.invokestatic 220, 3) := dk_184 0 220 (dk_at dksX7_left_2 6 rfl rfl)
theorem dX7_left_57 : decode cX7_left 57 = .ok (.iload_n 3, 1) := dk_29 (dk_at dksX7_left_2 9 rfl rfl)
theorem dX7_left_58 : decode cX7_left 58 = .ok (.iadd, 1) := dk_96 (dk_at dksX7_left_2 10 rfl rfl)
theorem dX7_left_59 : decode cX7_left 59 = .ok (.iaload, 1) := dk_46 (dk_at dksX7_left_2 11 rfl rfl)
theorem dX7_left_60 : decode cX7_left 60 = .ok (.goto 5, 3) := dk_167 0 5 (dk_at dksX7_left_2 12 rfl rfl)
theorem dX7_left_63 : decode cX7_left 63 = .ok (.bipush (-2), 2) := dk_16 254 (dk_at dksX7_left_2 15 rfl rfl)
theorem dX7_left_65 : decode cX7_left 65 = .ok (.ireturn, 1) := dk_172 (dk_at dksX7_left_2 17 rfl rfl)
abbrev cX7_log : ByteArray := prog_13_method_87_code
def yX7_log : MethodName := ⟨RX7, "log", "(II)I"⟩
def dkwX7_log_2 : List UInt8 := [16, 254, 172]
abbrev dktX7_log_2 : List UInt8 := dkwX7_log_2 ++ []
def dkwX7_log_1 : List UInt8 := [16, 12, 46, 162, 0, 20, 42, 180, 0, 51, 17, 6, 146, 8, 27, 104, 96, 28, 96, 46, 167, 0, 5]
abbrev dktX7_log_1 : List UInt8 := dkwX7_log_1 ++ dktX7_log_2
def dkwX7_log_0 : List UInt8 := [27, 155, 0, 15, 28, 133, 9, 20, 1, 176, 184, 0, 146, 154, 0, 5, 2, 172, 27, 42, 180, 0, 51]
abbrev dktX7_log_0 : List UInt8 := dkwX7_log_0 ++ dktX7_log_1
theorem dksX7_log_0 : cX7_log.data.toList.drop 0 = dktX7_log_0 := by decide +kernel
theorem dksX7_log_1 : cX7_log.data.toList.drop 23 = dktX7_log_1 := dk_seg dksX7_log_0 23 rfl rfl
theorem dksX7_log_2 : cX7_log.data.toList.drop 46 = dktX7_log_2 := dk_seg dksX7_log_1 23 rfl rfl
theorem dX7_log_0 : decode cX7_log 0 = .ok (.iload_n 1, 1) := dk_27 (dk_at dksX7_log_0 0 rfl rfl)
theorem dX7_log_1 : decode cX7_log 1 = .ok (.ifCond .lt 15, 3) := dk_155 0 15 (dk_at dksX7_log_0 1 rfl rfl)
theorem dX7_log_4 : decode cX7_log 4 = .ok (.iload_n 2, 1) := dk_28 (dk_at dksX7_log_0 4 rfl rfl)
theorem dX7_log_5 : decode cX7_log 5 = .ok (.i2l, 1) := dk_133 (dk_at dksX7_log_0 5 rfl rfl)
theorem dX7_log_6 : decode cX7_log 6 = .ok (.lconst 0, 1) := dk_9 (dk_at dksX7_log_0 6 rfl rfl)
theorem dX7_log_7 : decode cX7_log 7 = .ok (.ldc2_w 432, 3) := dk_20 1 176 (dk_at dksX7_log_0 7 rfl rfl)
theorem dX7_log_10 : decode cX7_log 10 = .ok (.invokestatic 146, 3) := dk_184 0 146 (dk_at dksX7_log_0 10 rfl rfl)
theorem dX7_log_13 : decode cX7_log 13 = .ok (.ifCond .ne 5, 3) := dk_154 0 5 (dk_at dksX7_log_0 13 rfl rfl)
theorem dX7_log_16 : decode cX7_log 16 = .ok (.iconst (-1), 1) := dk_2 (dk_at dksX7_log_0 16 rfl rfl)
theorem dX7_log_17 : decode cX7_log 17 = .ok (.ireturn, 1) := dk_172 (dk_at dksX7_log_0 17 rfl rfl)
theorem dX7_log_18 : decode cX7_log 18 = .ok (.iload_n 1, 1) := dk_27 (dk_at dksX7_log_0 18 rfl rfl)
theorem dX7_log_19 : decode cX7_log 19 = .ok (.aload_n 0, 1) := dk_42 (dk_at dksX7_log_0 19 rfl rfl)
theorem dX7_log_20 : decode cX7_log 20 = .ok (.getfield 51, 3) := dk_180 0 51 (dk_at dksX7_log_0 20 rfl rfl)
theorem dX7_log_23 : decode cX7_log 23 = .ok (.bipush 12, 2) := dk_16 12 (dk_at dksX7_log_1 0 rfl rfl)
theorem dX7_log_25 : decode cX7_log 25 = .ok (.iaload, 1) := dk_46 (dk_at dksX7_log_1 2 rfl rfl)
theorem dX7_log_26 : decode cX7_log 26 = .ok (.if_icmp .ge 20, 3) := dk_162 0 20 (dk_at dksX7_log_1 3 rfl rfl)
theorem dX7_log_29 : decode cX7_log 29 = .ok (.aload_n 0, 1) := dk_42 (dk_at dksX7_log_1 6 rfl rfl)
theorem dX7_log_30 : decode cX7_log 30 = .ok (.getfield 51, 3) := dk_180 0 51 (dk_at dksX7_log_1 7 rfl rfl)
theorem dX7_log_33 : decode cX7_log 33 = .ok (.sipush 1682, 3) := dk_17 6 146 (dk_at dksX7_log_1 10 rfl rfl)
theorem dX7_log_36 : decode cX7_log 36 = .ok (.iconst 5, 1) := dk_8 (dk_at dksX7_log_1 13 rfl rfl)
theorem dX7_log_37 : decode cX7_log 37 = .ok (.iload_n 1, 1) := dk_27 (dk_at dksX7_log_1 14 rfl rfl)
theorem dX7_log_38 : decode cX7_log 38 = .ok (.imul, 1) := dk_104 (dk_at dksX7_log_1 15 rfl rfl)
theorem dX7_log_39 : decode cX7_log 39 = .ok (.iadd, 1) := dk_96 (dk_at dksX7_log_1 16 rfl rfl)
theorem dX7_log_40 : decode cX7_log 40 = .ok (.iload_n 2, 1) := dk_28 (dk_at dksX7_log_1 17 rfl rfl)
theorem dX7_log_41 : decode cX7_log 41 = .ok (.iadd, 1) := dk_96 (dk_at dksX7_log_1 18 rfl rfl)
theorem dX7_log_42 : decode cX7_log 42 = .ok (.iaload, 1) := dk_46 (dk_at dksX7_log_1 19 rfl rfl)
theorem dX7_log_43 : decode cX7_log 43 = .ok (.goto 5, 3) := dk_167 0 5 (dk_at dksX7_log_1 20 rfl rfl)
theorem dX7_log_46 : decode cX7_log 46 = .ok (.bipush (-2), 2) := dk_16 254 (dk_at dksX7_log_2 0 rfl rfl)
theorem dX7_log_48 : decode cX7_log 48 = .ok (.ireturn, 1) := dk_172 (dk_at dksX7_log_2 2 rfl rfl)
abbrev cX7_named : ByteArray := prog_13_method_89_code
def yX7_named : MethodName := ⟨RX7, "named", "(I)I"⟩
def dkwX7_named_1 : List UInt8 := [46, 27, 160, 0, 5, 28, 172, 132, 2, 1, 167, 255, 233, 16, 254, 172]
abbrev dktX7_named_1 : List UInt8 := dkwX7_named_1 ++ []
def dkwX7_named_0 : List UInt8 := [27, 184, 1, 178, 154, 0, 5, 2, 172, 3, 61, 28, 42, 180, 0, 113, 162, 0, 21, 42, 180, 0, 21, 28]
abbrev dktX7_named_0 : List UInt8 := dkwX7_named_0 ++ dktX7_named_1
theorem dksX7_named_0 : cX7_named.data.toList.drop 0 = dktX7_named_0 := by decide +kernel
theorem dksX7_named_1 : cX7_named.data.toList.drop 24 = dktX7_named_1 := dk_seg dksX7_named_0 24 rfl rfl
theorem dX7_named_0 : decode cX7_named 0 = .ok (.iload_n 1, 1) := dk_27 (dk_at dksX7_named_0 0 rfl rfl)
theorem dX7_named_1 : decode cX7_named 1 = .ok (.invokestatic 434, 3) := dk_184 1 178 (dk_at dksX7_named_0 1 rfl rfl)
theorem dX7_named_4 : decode cX7_named 4 = .ok (.ifCond .ne 5, 3) := dk_154 0 5 (dk_at dksX7_named_0 4 rfl rfl)
theorem dX7_named_7 : decode cX7_named 7 = .ok (.iconst (-1), 1) := dk_2 (dk_at dksX7_named_0 7 rfl rfl)
theorem dX7_named_8 : decode cX7_named 8 = .ok (.ireturn, 1) := dk_172 (dk_at dksX7_named_0 8 rfl rfl)
theorem dX7_named_9 : decode cX7_named 9 = .ok (.iconst 0, 1) := dk_3 (dk_at dksX7_named_0 9 rfl rfl)
theorem dX7_named_10 : decode cX7_named 10 = .ok (.istore_n 2, 1) := dk_61 (dk_at dksX7_named_0 10 rfl rfl)
theorem dX7_named_11 : decode cX7_named 11 = .ok (.iload_n 2, 1) := dk_28 (dk_at dksX7_named_0 11 rfl rfl)
theorem dX7_named_12 : decode cX7_named 12 = .ok (.aload_n 0, 1) := dk_42 (dk_at dksX7_named_0 12 rfl rfl)
theorem dX7_named_13 : decode cX7_named 13 = .ok (.getfield 113, 3) := dk_180 0 113 (dk_at dksX7_named_0 13 rfl rfl)
theorem dX7_named_16 : decode cX7_named 16 = .ok (.if_icmp .ge 21, 3) := dk_162 0 21 (dk_at dksX7_named_0 16 rfl rfl)
theorem dX7_named_19 : decode cX7_named 19 = .ok (.aload_n 0, 1) := dk_42 (dk_at dksX7_named_0 19 rfl rfl)
theorem dX7_named_20 : decode cX7_named 20 = .ok (.getfield 21, 3) := dk_180 0 21 (dk_at dksX7_named_0 20 rfl rfl)
theorem dX7_named_23 : decode cX7_named 23 = .ok (.iload_n 2, 1) := dk_28 (dk_at dksX7_named_0 23 rfl rfl)
theorem dX7_named_24 : decode cX7_named 24 = .ok (.iaload, 1) := dk_46 (dk_at dksX7_named_1 0 rfl rfl)
theorem dX7_named_25 : decode cX7_named 25 = .ok (.iload_n 1, 1) := dk_27 (dk_at dksX7_named_1 1 rfl rfl)
theorem dX7_named_26 : decode cX7_named 26 = .ok (.if_icmp .ne 5, 3) := dk_160 0 5 (dk_at dksX7_named_1 2 rfl rfl)
theorem dX7_named_29 : decode cX7_named 29 = .ok (.iload_n 2, 1) := dk_28 (dk_at dksX7_named_1 5 rfl rfl)
theorem dX7_named_30 : decode cX7_named 30 = .ok (.ireturn, 1) := dk_172 (dk_at dksX7_named_1 6 rfl rfl)
theorem dX7_named_31 : decode cX7_named 31 = .ok (.iinc 2 1, 3) := dk_132 2 1 (dk_at dksX7_named_1 7 rfl rfl)
theorem dX7_named_34 : decode cX7_named 34 = .ok (.goto (-23), 3) := dk_167 255 233 (dk_at dksX7_named_1 10 rfl rfl)
theorem dX7_named_37 : decode cX7_named 37 = .ok (.bipush (-2), 2) := dk_16 254 (dk_at dksX7_named_1 13 rfl rfl)
theorem dX7_named_39 : decode cX7_named 39 = .ok (.ireturn, 1) := dk_172 (dk_at dksX7_named_1 15 rfl rfl)
abbrev cX7_isName : ByteArray := prog_13_method_88_code
def yX7_isName : MethodName := ⟨RX7, "isName", "(I)Z"⟩
def dkwX7_isName_3 : List UInt8 := [4, 167, 0, 4, 3, 60, 132, 3, 251, 167, 255, 200, 28, 172]
abbrev dktX7_isName_3 : List UInt8 := dkwX7_isName_3 ++ []
def dkwX7_isName_2 : List UInt8 := [27, 153, 0, 8, 21, 4, 157, 0, 7, 4, 167, 0, 4, 3, 61, 27, 154, 0, 8, 21, 4, 154, 0, 7]
abbrev dktX7_isName_2 : List UInt8 := dkwX7_isName_2 ++ dktX7_isName_3
def dkwX7_isName_1 : List UInt8 := [62, 29, 155, 0, 58, 26, 29, 122, 16, 31, 126, 54, 4, 28, 153, 0, 23, 21, 4, 16, 27, 162, 0, 16]
abbrev dktX7_isName_1 : List UInt8 := dkwX7_isName_1 ++ dktX7_isName_2
def dkwX7_isName_0 : List UInt8 := [3, 60, 26, 16, 25, 122, 158, 0, 14, 26, 16, 30, 122, 154, 0, 7, 4, 167, 0, 4, 3, 61, 16, 25]
abbrev dktX7_isName_0 : List UInt8 := dkwX7_isName_0 ++ dktX7_isName_1
theorem dksX7_isName_0 : cX7_isName.data.toList.drop 0 = dktX7_isName_0 := by decide +kernel
theorem dksX7_isName_1 : cX7_isName.data.toList.drop 24 = dktX7_isName_1 := dk_seg dksX7_isName_0 24 rfl rfl
theorem dksX7_isName_2 : cX7_isName.data.toList.drop 48 = dktX7_isName_2 := dk_seg dksX7_isName_1 24 rfl rfl
theorem dksX7_isName_3 : cX7_isName.data.toList.drop 72 = dktX7_isName_3 := dk_seg dksX7_isName_2 24 rfl rfl
theorem dX7_isName_0 : decode cX7_isName 0 = .ok (.iconst 0, 1) := dk_3 (dk_at dksX7_isName_0 0 rfl rfl)
theorem dX7_isName_1 : decode cX7_isName 1 = .ok (.istore_n 1, 1) := dk_60 (dk_at dksX7_isName_0 1 rfl rfl)
theorem dX7_isName_2 : decode cX7_isName 2 = .ok (.iload_n 0, 1) := dk_26 (dk_at dksX7_isName_0 2 rfl rfl)
theorem dX7_isName_3 : decode cX7_isName 3 = .ok (.bipush 25, 2) := dk_16 25 (dk_at dksX7_isName_0 3 rfl rfl)
theorem dX7_isName_5 : decode cX7_isName 5 = .ok (.ishr, 1) := dk_122 (dk_at dksX7_isName_0 5 rfl rfl)
theorem dX7_isName_6 : decode cX7_isName 6 = .ok (.ifCond .le 14, 3) := dk_158 0 14 (dk_at dksX7_isName_0 6 rfl rfl)
theorem dX7_isName_9 : decode cX7_isName 9 = .ok (.iload_n 0, 1) := dk_26 (dk_at dksX7_isName_0 9 rfl rfl)
theorem dX7_isName_10 : decode cX7_isName 10 = .ok (.bipush 30, 2) := dk_16 30 (dk_at dksX7_isName_0 10 rfl rfl)
theorem dX7_isName_12 : decode cX7_isName 12 = .ok (.ishr, 1) := dk_122 (dk_at dksX7_isName_0 12 rfl rfl)
theorem dX7_isName_13 : decode cX7_isName 13 = .ok (.ifCond .ne 7, 3) := dk_154 0 7 (dk_at dksX7_isName_0 13 rfl rfl)
theorem dX7_isName_16 : decode cX7_isName 16 = .ok (.iconst 1, 1) := dk_4 (dk_at dksX7_isName_0 16 rfl rfl)
theorem dX7_isName_17 : decode cX7_isName 17 = .ok (.goto 4, 3) := dk_167 0 4 (dk_at dksX7_isName_0 17 rfl rfl)
theorem dX7_isName_20 : decode cX7_isName 20 = .ok (.iconst 0, 1) := dk_3 (dk_at dksX7_isName_0 20 rfl rfl)
theorem dX7_isName_21 : decode cX7_isName 21 = .ok (.istore_n 2, 1) := dk_61 (dk_at dksX7_isName_0 21 rfl rfl)
theorem dX7_isName_22 : decode cX7_isName 22 = .ok (.bipush 25, 2) := dk_16 25 (dk_at dksX7_isName_0 22 rfl rfl)
theorem dX7_isName_24 : decode cX7_isName 24 = .ok (.istore_n 3, 1) := dk_62 (dk_at dksX7_isName_1 0 rfl rfl)
theorem dX7_isName_25 : decode cX7_isName 25 = .ok (.iload_n 3, 1) := dk_29 (dk_at dksX7_isName_1 1 rfl rfl)
theorem dX7_isName_26 : decode cX7_isName 26 = .ok (.ifCond .lt 58, 3) := dk_155 0 58 (dk_at dksX7_isName_1 2 rfl rfl)
theorem dX7_isName_29 : decode cX7_isName 29 = .ok (.iload_n 0, 1) := dk_26 (dk_at dksX7_isName_1 5 rfl rfl)
theorem dX7_isName_30 : decode cX7_isName 30 = .ok (.iload_n 3, 1) := dk_29 (dk_at dksX7_isName_1 6 rfl rfl)
theorem dX7_isName_31 : decode cX7_isName 31 = .ok (.ishr, 1) := dk_122 (dk_at dksX7_isName_1 7 rfl rfl)
theorem dX7_isName_32 : decode cX7_isName 32 = .ok (.bipush 31, 2) := dk_16 31 (dk_at dksX7_isName_1 8 rfl rfl)
theorem dX7_isName_34 : decode cX7_isName 34 = .ok (.iand, 1) := dk_126 (dk_at dksX7_isName_1 10 rfl rfl)
theorem dX7_isName_35 : decode cX7_isName 35 = .ok (.istore 4, 2) := dk_54 4 (dk_at dksX7_isName_1 11 rfl rfl)
theorem dX7_isName_37 : decode cX7_isName 37 = .ok (.iload_n 2, 1) := dk_28 (dk_at dksX7_isName_1 13 rfl rfl)
theorem dX7_isName_38 : decode cX7_isName 38 = .ok (.ifCond .eq 23, 3) := dk_153 0 23 (dk_at dksX7_isName_1 14 rfl rfl)
theorem dX7_isName_41 : decode cX7_isName 41 = .ok (.iload 4, 2) := dk_21 4 (dk_at dksX7_isName_1 17 rfl rfl)
theorem dX7_isName_43 : decode cX7_isName 43 = .ok (.bipush 27, 2) := dk_16 27 (dk_at dksX7_isName_1 19 rfl rfl)
theorem dX7_isName_45 : decode cX7_isName 45 = .ok (.if_icmp .ge 16, 3) := dk_162 0 16 (dk_at dksX7_isName_1 21 rfl rfl)
theorem dX7_isName_48 : decode cX7_isName 48 = .ok (.iload_n 1, 1) := dk_27 (dk_at dksX7_isName_2 0 rfl rfl)
theorem dX7_isName_49 : decode cX7_isName 49 = .ok (.ifCond .eq 8, 3) := dk_153 0 8 (dk_at dksX7_isName_2 1 rfl rfl)
theorem dX7_isName_52 : decode cX7_isName 52 = .ok (.iload 4, 2) := dk_21 4 (dk_at dksX7_isName_2 4 rfl rfl)
theorem dX7_isName_54 : decode cX7_isName 54 = .ok (.ifCond .gt 7, 3) := dk_157 0 7 (dk_at dksX7_isName_2 6 rfl rfl)
theorem dX7_isName_57 : decode cX7_isName 57 = .ok (.iconst 1, 1) := dk_4 (dk_at dksX7_isName_2 9 rfl rfl)
theorem dX7_isName_58 : decode cX7_isName 58 = .ok (.goto 4, 3) := dk_167 0 4 (dk_at dksX7_isName_2 10 rfl rfl)
theorem dX7_isName_61 : decode cX7_isName 61 = .ok (.iconst 0, 1) := dk_3 (dk_at dksX7_isName_2 13 rfl rfl)
theorem dX7_isName_62 : decode cX7_isName 62 = .ok (.istore_n 2, 1) := dk_61 (dk_at dksX7_isName_2 14 rfl rfl)
theorem dX7_isName_63 : decode cX7_isName 63 = .ok (.iload_n 1, 1) := dk_27 (dk_at dksX7_isName_2 15 rfl rfl)
theorem dX7_isName_64 : decode cX7_isName 64 = .ok (.ifCond .ne 8, 3) := dk_154 0 8 (dk_at dksX7_isName_2 16 rfl rfl)
theorem dX7_isName_67 : decode cX7_isName 67 = .ok (.iload 4, 2) := dk_21 4 (dk_at dksX7_isName_2 19 rfl rfl)
theorem dX7_isName_69 : decode cX7_isName 69 = .ok (.ifCond .ne 7, 3) := dk_154 0 7 (dk_at dksX7_isName_2 21 rfl rfl)
theorem dX7_isName_72 : decode cX7_isName 72 = .ok (.iconst 1, 1) := dk_4 (dk_at dksX7_isName_3 0 rfl rfl)
theorem dX7_isName_73 : decode cX7_isName 73 = .ok (.goto 4, 3) := dk_167 0 4 (dk_at dksX7_isName_3 1 rfl rfl)
theorem dX7_isName_76 : decode cX7_isName 76 = .ok (.iconst 0, 1) := dk_3 (dk_at dksX7_isName_3 4 rfl rfl)
theorem dX7_isName_77 : decode cX7_isName 77 = .ok (.istore_n 1, 1) := dk_60 (dk_at dksX7_isName_3 5 rfl rfl)
theorem dX7_isName_78 : decode cX7_isName 78 = .ok (.iinc 3 (-5), 3) := dk_132 3 251 (dk_at dksX7_isName_3 6 rfl rfl)
theorem dX7_isName_81 : decode cX7_isName 81 = .ok (.goto (-56), 3) := dk_167 255 200 (dk_at dksX7_isName_3 9 rfl rfl)
theorem dX7_isName_84 : decode cX7_isName 84 = .ok (.iload_n 2, 1) := dk_28 (dk_at dksX7_isName_3 12 rfl rfl)
theorem dX7_isName_85 : decode cX7_isName 85 = .ok (.ireturn, 1) := dk_172 (dk_at dksX7_isName_3 13 rfl rfl)
abbrev cX7_ahead : ByteArray := prog_13_method_90_code
def yX7_ahead : MethodName := ⟨RX7, "ahead", "(IZ)I"⟩
def dkwX7_ahead_5 : List UInt8 := [21, 4, 172]
abbrev dktX7_ahead_5 : List UInt8 := dkwX7_ahead_5 ++ []
def dkwX7_ahead_4 : List UInt8 := [132, 5, 1, 167, 255, 179, 29, 156, 0, 8, 16, 254, 167, 0, 13, 28, 153, 0, 7, 29, 167, 0, 5]
abbrev dktX7_ahead_4 : List UInt8 := dkwX7_ahead_4 ++ dktX7_ahead_5
def dkwX7_ahead_3 : List UInt8 := [182, 0, 185, 54, 6, 29, 155, 0, 10, 21, 6, 21, 4, 162, 0, 10, 21, 5, 62, 21, 6, 54, 4]
abbrev dktX7_ahead_3 : List UInt8 := dkwX7_ahead_3 ++ dktX7_ahead_4
def dkwX7_ahead_2 : List UInt8 := [3, 182, 0, 171, 154, 0, 6, 167, 0, 40, 42, 42, 27, 4, 182, 0, 171, 42, 21, 5, 4, 182, 0, 171]
abbrev dktX7_ahead_2 : List UInt8 := dkwX7_ahead_2 ++ dktX7_ahead_3
def dkwX7_ahead_1 : List UInt8 := [180, 0, 118, 162, 0, 74, 42, 27, 3, 182, 0, 171, 153, 0, 65, 21, 5, 27, 159, 0, 53, 42, 21, 5]
abbrev dktX7_ahead_1 : List UInt8 := dkwX7_ahead_1 ++ dktX7_ahead_2
def dkwX7_ahead_0 : List UInt8 := [42, 27, 182, 1, 140, 154, 0, 5, 2, 172, 16, 254, 62, 3, 54, 4, 3, 54, 5, 21, 5, 42]
abbrev dktX7_ahead_0 : List UInt8 := dkwX7_ahead_0 ++ dktX7_ahead_1
theorem dksX7_ahead_0 : cX7_ahead.data.toList.drop 0 = dktX7_ahead_0 := by decide +kernel
theorem dksX7_ahead_1 : cX7_ahead.data.toList.drop 22 = dktX7_ahead_1 := dk_seg dksX7_ahead_0 22 rfl rfl
theorem dksX7_ahead_2 : cX7_ahead.data.toList.drop 46 = dktX7_ahead_2 := dk_seg dksX7_ahead_1 24 rfl rfl
theorem dksX7_ahead_3 : cX7_ahead.data.toList.drop 70 = dktX7_ahead_3 := dk_seg dksX7_ahead_2 24 rfl rfl
theorem dksX7_ahead_4 : cX7_ahead.data.toList.drop 93 = dktX7_ahead_4 := dk_seg dksX7_ahead_3 23 rfl rfl
theorem dksX7_ahead_5 : cX7_ahead.data.toList.drop 116 = dktX7_ahead_5 := dk_seg dksX7_ahead_4 23 rfl rfl
theorem dX7_ahead_0 : decode cX7_ahead 0 = .ok (.aload_n 0, 1) := dk_42 (dk_at dksX7_ahead_0 0 rfl rfl)
theorem dX7_ahead_1 : decode cX7_ahead 1 = .ok (.iload_n 1, 1) := dk_27 (dk_at dksX7_ahead_0 1 rfl rfl)
theorem dX7_ahead_2 : decode cX7_ahead 2 = .ok (.invokevirtual 396, 3) := dk_182 1 140 (dk_at dksX7_ahead_0 2 rfl rfl)
theorem dX7_ahead_5 : decode cX7_ahead 5 = .ok (.ifCond .ne 5, 3) := dk_154 0 5 (dk_at dksX7_ahead_0 5 rfl rfl)
theorem dX7_ahead_8 : decode cX7_ahead 8 = .ok (.iconst (-1), 1) := dk_2 (dk_at dksX7_ahead_0 8 rfl rfl)
theorem dX7_ahead_9 : decode cX7_ahead 9 = .ok (.ireturn, 1) := dk_172 (dk_at dksX7_ahead_0 9 rfl rfl)
theorem dX7_ahead_10 : decode cX7_ahead 10 = .ok (.bipush (-2), 2) := dk_16 254 (dk_at dksX7_ahead_0 10 rfl rfl)
theorem dX7_ahead_12 : decode cX7_ahead 12 = .ok (.istore_n 3, 1) := dk_62 (dk_at dksX7_ahead_0 12 rfl rfl)
theorem dX7_ahead_13 : decode cX7_ahead 13 = .ok (.iconst 0, 1) := dk_3 (dk_at dksX7_ahead_0 13 rfl rfl)
theorem dX7_ahead_14 : decode cX7_ahead 14 = .ok (.istore 4, 2) := dk_54 4 (dk_at dksX7_ahead_0 14 rfl rfl)
theorem dX7_ahead_16 : decode cX7_ahead 16 = .ok (.iconst 0, 1) := dk_3 (dk_at dksX7_ahead_0 16 rfl rfl)
theorem dX7_ahead_17 : decode cX7_ahead 17 = .ok (.istore 5, 2) := dk_54 5 (dk_at dksX7_ahead_0 17 rfl rfl)
theorem dX7_ahead_19 : decode cX7_ahead 19 = .ok (.iload 5, 2) := dk_21 5 (dk_at dksX7_ahead_0 19 rfl rfl)
theorem dX7_ahead_21 : decode cX7_ahead 21 = .ok (.aload_n 0, 1) := dk_42 (dk_at dksX7_ahead_0 21 rfl rfl)
theorem dX7_ahead_22 : decode cX7_ahead 22 = .ok (.getfield 118, 3) := dk_180 0 118 (dk_at dksX7_ahead_1 0 rfl rfl)
theorem dX7_ahead_25 : decode cX7_ahead 25 = .ok (.if_icmp .ge 74, 3) := dk_162 0 74 (dk_at dksX7_ahead_1 3 rfl rfl)
theorem dX7_ahead_28 : decode cX7_ahead 28 = .ok (.aload_n 0, 1) := dk_42 (dk_at dksX7_ahead_1 6 rfl rfl)
theorem dX7_ahead_29 : decode cX7_ahead 29 = .ok (.iload_n 1, 1) := dk_27 (dk_at dksX7_ahead_1 7 rfl rfl)
theorem dX7_ahead_30 : decode cX7_ahead 30 = .ok (.iconst 0, 1) := dk_3 (dk_at dksX7_ahead_1 8 rfl rfl)
theorem dX7_ahead_31 : decode cX7_ahead 31 = .ok (.invokevirtual 171, 3) := dk_182 0 171 (dk_at dksX7_ahead_1 9 rfl rfl)
theorem dX7_ahead_34 : decode cX7_ahead 34 = .ok (.ifCond .eq 65, 3) := dk_153 0 65 (dk_at dksX7_ahead_1 12 rfl rfl)
theorem dX7_ahead_37 : decode cX7_ahead 37 = .ok (.iload 5, 2) := dk_21 5 (dk_at dksX7_ahead_1 15 rfl rfl)
theorem dX7_ahead_39 : decode cX7_ahead 39 = .ok (.iload_n 1, 1) := dk_27 (dk_at dksX7_ahead_1 17 rfl rfl)
theorem dX7_ahead_40 : decode cX7_ahead 40 = .ok (.if_icmp .eq 53, 3) := dk_159 0 53 (dk_at dksX7_ahead_1 18 rfl rfl)
theorem dX7_ahead_43 : decode cX7_ahead 43 = .ok (.aload_n 0, 1) := dk_42 (dk_at dksX7_ahead_1 21 rfl rfl)
theorem dX7_ahead_44 : decode cX7_ahead 44 = .ok (.iload 5, 2) := dk_21 5 (dk_at dksX7_ahead_1 22 rfl rfl)
theorem dX7_ahead_46 : decode cX7_ahead 46 = .ok (.iconst 0, 1) := dk_3 (dk_at dksX7_ahead_2 0 rfl rfl)
theorem dX7_ahead_47 : decode cX7_ahead 47 = .ok (.invokevirtual 171, 3) := dk_182 0 171 (dk_at dksX7_ahead_2 1 rfl rfl)
theorem dX7_ahead_50 : decode cX7_ahead 50 = .ok (.ifCond .ne 6, 3) := dk_154 0 6 (dk_at dksX7_ahead_2 4 rfl rfl)
theorem dX7_ahead_53 : decode cX7_ahead 53 = .ok (.goto 40, 3) := dk_167 0 40 (dk_at dksX7_ahead_2 7 rfl rfl)
theorem dX7_ahead_56 : decode cX7_ahead 56 = .ok (.aload_n 0, 1) := dk_42 (dk_at dksX7_ahead_2 10 rfl rfl)
theorem dX7_ahead_57 : decode cX7_ahead 57 = .ok (.aload_n 0, 1) := dk_42 (dk_at dksX7_ahead_2 11 rfl rfl)
theorem dX7_ahead_58 : decode cX7_ahead 58 = .ok (.iload_n 1, 1) := dk_27 (dk_at dksX7_ahead_2 12 rfl rfl)
theorem dX7_ahead_59 : decode cX7_ahead 59 = .ok (.iconst 1, 1) := dk_4 (dk_at dksX7_ahead_2 13 rfl rfl)
theorem dX7_ahead_60 : decode cX7_ahead 60 = .ok (.invokevirtual 171, 3) := dk_182 0 171 (dk_at dksX7_ahead_2 14 rfl rfl)
theorem dX7_ahead_63 : decode cX7_ahead 63 = .ok (.aload_n 0, 1) := dk_42 (dk_at dksX7_ahead_2 17 rfl rfl)
theorem dX7_ahead_64 : decode cX7_ahead 64 = .ok (.iload 5, 2) := dk_21 5 (dk_at dksX7_ahead_2 18 rfl rfl)
theorem dX7_ahead_66 : decode cX7_ahead 66 = .ok (.iconst 1, 1) := dk_4 (dk_at dksX7_ahead_2 20 rfl rfl)
theorem dX7_ahead_67 : decode cX7_ahead 67 = .ok (.invokevirtual 171, 3) := dk_182 0 171 (dk_at dksX7_ahead_2 21 rfl rfl)
theorem dX7_ahead_70 : decode cX7_ahead 70 = .ok (.invokevirtual 185, 3) := dk_182 0 185 (dk_at dksX7_ahead_3 0 rfl rfl)
theorem dX7_ahead_73 : decode cX7_ahead 73 = .ok (.istore 6, 2) := dk_54 6 (dk_at dksX7_ahead_3 3 rfl rfl)
theorem dX7_ahead_75 : decode cX7_ahead 75 = .ok (.iload_n 3, 1) := dk_29 (dk_at dksX7_ahead_3 5 rfl rfl)
theorem dX7_ahead_76 : decode cX7_ahead 76 = .ok (.ifCond .lt 10, 3) := dk_155 0 10 (dk_at dksX7_ahead_3 6 rfl rfl)
theorem dX7_ahead_79 : decode cX7_ahead 79 = .ok (.iload 6, 2) := dk_21 6 (dk_at dksX7_ahead_3 9 rfl rfl)
theorem dX7_ahead_81 : decode cX7_ahead 81 = .ok (.iload 4, 2) := dk_21 4 (dk_at dksX7_ahead_3 11 rfl rfl)
theorem dX7_ahead_83 : decode cX7_ahead 83 = .ok (.if_icmp .ge 10, 3) := dk_162 0 10 (dk_at dksX7_ahead_3 13 rfl rfl)
theorem dX7_ahead_86 : decode cX7_ahead 86 = .ok (.iload 5, 2) := dk_21 5 (dk_at dksX7_ahead_3 16 rfl rfl)
theorem dX7_ahead_88 : decode cX7_ahead 88 = .ok (.istore_n 3, 1) := dk_62 (dk_at dksX7_ahead_3 18 rfl rfl)
theorem dX7_ahead_89 : decode cX7_ahead 89 = .ok (.iload 6, 2) := dk_21 6 (dk_at dksX7_ahead_3 19 rfl rfl)
theorem dX7_ahead_91 : decode cX7_ahead 91 = .ok (.istore 4, 2) := dk_54 4 (dk_at dksX7_ahead_3 21 rfl rfl)
theorem dX7_ahead_93 : decode cX7_ahead 93 = .ok (.iinc 5 1, 3) := dk_132 5 1 (dk_at dksX7_ahead_4 0 rfl rfl)
theorem dX7_ahead_96 : decode cX7_ahead 96 = .ok (.goto (-77), 3) := dk_167 255 179 (dk_at dksX7_ahead_4 3 rfl rfl)
theorem dX7_ahead_99 : decode cX7_ahead 99 = .ok (.iload_n 3, 1) := dk_29 (dk_at dksX7_ahead_4 6 rfl rfl)
theorem dX7_ahead_100 : decode cX7_ahead 100 = .ok (.ifCond .ge 8, 3) := dk_156 0 8 (dk_at dksX7_ahead_4 7 rfl rfl)
theorem dX7_ahead_103 : decode cX7_ahead 103 = .ok (.bipush (-2), 2) := dk_16 254 (dk_at dksX7_ahead_4 10 rfl rfl)
theorem dX7_ahead_105 : decode cX7_ahead 105 = .ok (.goto 13, 3) := dk_167 0 13 (dk_at dksX7_ahead_4 12 rfl rfl)
theorem dX7_ahead_108 : decode cX7_ahead 108 = .ok (.iload_n 2, 1) := dk_28 (dk_at dksX7_ahead_4 15 rfl rfl)
theorem dX7_ahead_109 : decode cX7_ahead 109 = .ok (.ifCond .eq 7, 3) := dk_153 0 7 (dk_at dksX7_ahead_4 16 rfl rfl)
theorem dX7_ahead_112 : decode cX7_ahead 112 = .ok (.iload_n 3, 1) := dk_29 (dk_at dksX7_ahead_4 19 rfl rfl)
theorem dX7_ahead_113 : decode cX7_ahead 113 = .ok (.goto 5, 3) := dk_167 0 5 (dk_at dksX7_ahead_4 20 rfl rfl)
theorem dX7_ahead_116 : decode cX7_ahead 116 = .ok (.iload 4, 2) := dk_21 4 (dk_at dksX7_ahead_5 0 rfl rfl)
theorem dX7_ahead_118 : decode cX7_ahead 118 = .ok (.ireturn, 1) := dk_172 (dk_at dksX7_ahead_5 2 rfl rfl)
abbrev cX7_spread : ByteArray := prog_13_method_91_code
def yX7_spread : MethodName := ⟨RX7, "spread", "(I)I"⟩
def dkwX7_spread_4 : List UInt8 := [16, 254, 167, 0, 6, 28, 29, 100, 172]
abbrev dktX7_spread_4 : List UInt8 := dkwX7_spread_4 ++ []
def dkwX7_spread_3 : List UInt8 := [21, 5, 29, 162, 0, 8, 21, 5, 167, 0, 4, 29, 62, 132, 4, 1, 167, 255, 189, 28, 156, 0, 8]
abbrev dktX7_spread_3 : List UInt8 := dkwX7_spread_3 ++ dktX7_spread_4
def dkwX7_spread_2 : List UInt8 := [54, 5, 21, 5, 155, 0, 33, 21, 5, 28, 164, 0, 8, 21, 5, 167, 0, 4, 28, 61, 29, 155, 0, 9]
abbrev dktX7_spread_2 : List UInt8 := dkwX7_spread_2 ++ dktX7_spread_3
def dkwX7_spread_1 : List UInt8 := [180, 0, 51, 16, 53, 27, 96, 46, 162, 0, 59, 42, 180, 0, 51, 27, 21, 4, 184, 0, 220, 5, 96, 46]
abbrev dktX7_spread_1 : List UInt8 := dkwX7_spread_1 ++ dktX7_spread_2
def dkwX7_spread_0 : List UInt8 := [42, 27, 182, 1, 121, 154, 0, 5, 2, 172, 16, 254, 61, 16, 254, 62, 3, 54, 4, 21, 4, 42]
abbrev dktX7_spread_0 : List UInt8 := dkwX7_spread_0 ++ dktX7_spread_1
theorem dksX7_spread_0 : cX7_spread.data.toList.drop 0 = dktX7_spread_0 := by decide +kernel
theorem dksX7_spread_1 : cX7_spread.data.toList.drop 22 = dktX7_spread_1 := dk_seg dksX7_spread_0 22 rfl rfl
theorem dksX7_spread_2 : cX7_spread.data.toList.drop 46 = dktX7_spread_2 := dk_seg dksX7_spread_1 24 rfl rfl
theorem dksX7_spread_3 : cX7_spread.data.toList.drop 70 = dktX7_spread_3 := dk_seg dksX7_spread_2 24 rfl rfl
theorem dksX7_spread_4 : cX7_spread.data.toList.drop 93 = dktX7_spread_4 := dk_seg dksX7_spread_3 23 rfl rfl
theorem dX7_spread_0 : decode cX7_spread 0 = .ok (.aload_n 0, 1) := dk_42 (dk_at dksX7_spread_0 0 rfl rfl)
theorem dX7_spread_1 : decode cX7_spread 1 = .ok (.iload_n 1, 1) := dk_27 (dk_at dksX7_spread_0 1 rfl rfl)
theorem dX7_spread_2 : decode cX7_spread 2 = .ok (.invokevirtual 377, 3) := dk_182 1 121 (dk_at dksX7_spread_0 2 rfl rfl)
theorem dX7_spread_5 : decode cX7_spread 5 = .ok (.ifCond .ne 5, 3) := dk_154 0 5 (dk_at dksX7_spread_0 5 rfl rfl)
theorem dX7_spread_8 : decode cX7_spread 8 = .ok (.iconst (-1), 1) := dk_2 (dk_at dksX7_spread_0 8 rfl rfl)
theorem dX7_spread_9 : decode cX7_spread 9 = .ok (.ireturn, 1) := dk_172 (dk_at dksX7_spread_0 9 rfl rfl)
theorem dX7_spread_10 : decode cX7_spread 10 = .ok (.bipush (-2), 2) := dk_16 254 (dk_at dksX7_spread_0 10 rfl rfl)
theorem dX7_spread_12 : decode cX7_spread 12 = .ok (.istore_n 2, 1) := dk_61 (dk_at dksX7_spread_0 12 rfl rfl)
theorem dX7_spread_13 : decode cX7_spread 13 = .ok (.bipush (-2), 2) := dk_16 254 (dk_at dksX7_spread_0 13 rfl rfl)
theorem dX7_spread_15 : decode cX7_spread 15 = .ok (.istore_n 3, 1) := dk_62 (dk_at dksX7_spread_0 15 rfl rfl)
theorem dX7_spread_16 : decode cX7_spread 16 = .ok (.iconst 0, 1) := dk_3 (dk_at dksX7_spread_0 16 rfl rfl)
theorem dX7_spread_17 : decode cX7_spread 17 = .ok (.istore 4, 2) := dk_54 4 (dk_at dksX7_spread_0 17 rfl rfl)
theorem dX7_spread_19 : decode cX7_spread 19 = .ok (.iload 4, 2) := dk_21 4 (dk_at dksX7_spread_0 19 rfl rfl)
theorem dX7_spread_21 : decode cX7_spread 21 = .ok (.aload_n 0, 1) := dk_42 (dk_at dksX7_spread_0 21 rfl rfl)
theorem dX7_spread_22 : decode cX7_spread 22 = .ok (.getfield 51, 3) := dk_180 0 51 (dk_at dksX7_spread_1 0 rfl rfl)
theorem dX7_spread_25 : decode cX7_spread 25 = .ok (.bipush 53, 2) := dk_16 53 (dk_at dksX7_spread_1 3 rfl rfl)
theorem dX7_spread_27 : decode cX7_spread 27 = .ok (.iload_n 1, 1) := dk_27 (dk_at dksX7_spread_1 5 rfl rfl)
theorem dX7_spread_28 : decode cX7_spread 28 = .ok (.iadd, 1) := dk_96 (dk_at dksX7_spread_1 6 rfl rfl)
theorem dX7_spread_29 : decode cX7_spread 29 = .ok (.iaload, 1) := dk_46 (dk_at dksX7_spread_1 7 rfl rfl)
theorem dX7_spread_30 : decode cX7_spread 30 = .ok (.if_icmp .ge 59, 3) := dk_162 0 59 (dk_at dksX7_spread_1 8 rfl rfl)
theorem dX7_spread_33 : decode cX7_spread 33 = .ok (.aload_n 0, 1) := dk_42 (dk_at dksX7_spread_1 11 rfl rfl)
theorem dX7_spread_34 : decode cX7_spread 34 = .ok (.getfield 51, 3) := dk_180 0 51 (dk_at dksX7_spread_1 12 rfl rfl)
theorem dX7_spread_37 : decode cX7_spread 37 = .ok (.iload_n 1, 1) := dk_27 (dk_at dksX7_spread_1 15 rfl rfl)
theorem dX7_spread_38 : decode cX7_spread 38 = .ok (.iload 4, 2) := dk_21 4 (dk_at dksX7_spread_1 16 rfl rfl)
theorem dX7_spread_40 : decode cX7_spread 40 = .ok (.invokestatic 220, 3) := dk_184 0 220 (dk_at dksX7_spread_1 18 rfl rfl)
theorem dX7_spread_43 : decode cX7_spread 43 = .ok (.iconst 2, 1) := dk_5 (dk_at dksX7_spread_1 21 rfl rfl)
theorem dX7_spread_44 : decode cX7_spread 44 = .ok (.iadd, 1) := dk_96 (dk_at dksX7_spread_1 22 rfl rfl)
theorem dX7_spread_45 : decode cX7_spread 45 = .ok (.iaload, 1) := dk_46 (dk_at dksX7_spread_1 23 rfl rfl)
theorem dX7_spread_46 : decode cX7_spread 46 = .ok (.istore 5, 2) := dk_54 5 (dk_at dksX7_spread_2 0 rfl rfl)
theorem dX7_spread_48 : decode cX7_spread 48 = .ok (.iload 5, 2) := dk_21 5 (dk_at dksX7_spread_2 2 rfl rfl)
theorem dX7_spread_50 : decode cX7_spread 50 = .ok (.ifCond .lt 33, 3) := dk_155 0 33 (dk_at dksX7_spread_2 4 rfl rfl)
theorem dX7_spread_53 : decode cX7_spread 53 = .ok (.iload 5, 2) := dk_21 5 (dk_at dksX7_spread_2 7 rfl rfl)
theorem dX7_spread_55 : decode cX7_spread 55 = .ok (.iload_n 2, 1) := dk_28 (dk_at dksX7_spread_2 9 rfl rfl)
theorem dX7_spread_56 : decode cX7_spread 56 = .ok (.if_icmp .le 8, 3) := dk_164 0 8 (dk_at dksX7_spread_2 10 rfl rfl)
theorem dX7_spread_59 : decode cX7_spread 59 = .ok (.iload 5, 2) := dk_21 5 (dk_at dksX7_spread_2 13 rfl rfl)
theorem dX7_spread_61 : decode cX7_spread 61 = .ok (.goto 4, 3) := dk_167 0 4 (dk_at dksX7_spread_2 15 rfl rfl)
theorem dX7_spread_64 : decode cX7_spread 64 = .ok (.iload_n 2, 1) := dk_28 (dk_at dksX7_spread_2 18 rfl rfl)
theorem dX7_spread_65 : decode cX7_spread 65 = .ok (.istore_n 2, 1) := dk_61 (dk_at dksX7_spread_2 19 rfl rfl)
theorem dX7_spread_66 : decode cX7_spread 66 = .ok (.iload_n 3, 1) := dk_29 (dk_at dksX7_spread_2 20 rfl rfl)
theorem dX7_spread_67 : decode cX7_spread 67 = .ok (.ifCond .lt 9, 3) := dk_155 0 9 (dk_at dksX7_spread_2 21 rfl rfl)
theorem dX7_spread_70 : decode cX7_spread 70 = .ok (.iload 5, 2) := dk_21 5 (dk_at dksX7_spread_3 0 rfl rfl)
theorem dX7_spread_72 : decode cX7_spread 72 = .ok (.iload_n 3, 1) := dk_29 (dk_at dksX7_spread_3 2 rfl rfl)
theorem dX7_spread_73 : decode cX7_spread 73 = .ok (.if_icmp .ge 8, 3) := dk_162 0 8 (dk_at dksX7_spread_3 3 rfl rfl)
theorem dX7_spread_76 : decode cX7_spread 76 = .ok (.iload 5, 2) := dk_21 5 (dk_at dksX7_spread_3 6 rfl rfl)
theorem dX7_spread_78 : decode cX7_spread 78 = .ok (.goto 4, 3) := dk_167 0 4 (dk_at dksX7_spread_3 8 rfl rfl)
theorem dX7_spread_81 : decode cX7_spread 81 = .ok (.iload_n 3, 1) := dk_29 (dk_at dksX7_spread_3 11 rfl rfl)
theorem dX7_spread_82 : decode cX7_spread 82 = .ok (.istore_n 3, 1) := dk_62 (dk_at dksX7_spread_3 12 rfl rfl)
theorem dX7_spread_83 : decode cX7_spread 83 = .ok (.iinc 4 1, 3) := dk_132 4 1 (dk_at dksX7_spread_3 13 rfl rfl)
theorem dX7_spread_86 : decode cX7_spread 86 = .ok (.goto (-67), 3) := dk_167 255 189 (dk_at dksX7_spread_3 16 rfl rfl)
theorem dX7_spread_89 : decode cX7_spread 89 = .ok (.iload_n 2, 1) := dk_28 (dk_at dksX7_spread_3 19 rfl rfl)
theorem dX7_spread_90 : decode cX7_spread 90 = .ok (.ifCond .ge 8, 3) := dk_156 0 8 (dk_at dksX7_spread_3 20 rfl rfl)
theorem dX7_spread_93 : decode cX7_spread 93 = .ok (.bipush (-2), 2) := dk_16 254 (dk_at dksX7_spread_4 0 rfl rfl)
theorem dX7_spread_95 : decode cX7_spread 95 = .ok (.goto 6, 3) := dk_167 0 6 (dk_at dksX7_spread_4 2 rfl rfl)
theorem dX7_spread_98 : decode cX7_spread 98 = .ok (.iload_n 2, 1) := dk_28 (dk_at dksX7_spread_4 5 rfl rfl)
theorem dX7_spread_99 : decode cX7_spread 99 = .ok (.iload_n 3, 1) := dk_29 (dk_at dksX7_spread_4 6 rfl rfl)
theorem dX7_spread_100 : decode cX7_spread 100 = .ok (.isub, 1) := dk_100 (dk_at dksX7_spread_4 7 rfl rfl)
theorem dX7_spread_101 : decode cX7_spread 101 = .ok (.ireturn, 1) := dk_172 (dk_at dksX7_spread_4 8 rfl rfl)
abbrev cX7_late : ByteArray := prog_13_method_92_code
def yX7_late : MethodName := ⟨RX7, "late", "(I)I"⟩
def dkwX7_late_1 : List UInt8 := [42, 27, 16, 10, 182, 0, 171, 42, 27, 16, 11, 182, 0, 171, 100, 19, 1, 181, 96, 172]
abbrev dktX7_late_1 : List UInt8 := dkwX7_late_1 ++ []
def dkwX7_late_0 : List UInt8 := [42, 27, 182, 1, 140, 154, 0, 5, 2, 172, 42, 27, 16, 10, 182, 0, 171, 156, 0, 7, 19, 1, 181, 172]
abbrev dktX7_late_0 : List UInt8 := dkwX7_late_0 ++ dktX7_late_1
theorem dksX7_late_0 : cX7_late.data.toList.drop 0 = dktX7_late_0 := by decide +kernel
theorem dksX7_late_1 : cX7_late.data.toList.drop 24 = dktX7_late_1 := dk_seg dksX7_late_0 24 rfl rfl
theorem dX7_late_0 : decode cX7_late 0 = .ok (.aload_n 0, 1) := dk_42 (dk_at dksX7_late_0 0 rfl rfl)
theorem dX7_late_1 : decode cX7_late 1 = .ok (.iload_n 1, 1) := dk_27 (dk_at dksX7_late_0 1 rfl rfl)
theorem dX7_late_2 : decode cX7_late 2 = .ok (.invokevirtual 396, 3) := dk_182 1 140 (dk_at dksX7_late_0 2 rfl rfl)
theorem dX7_late_5 : decode cX7_late 5 = .ok (.ifCond .ne 5, 3) := dk_154 0 5 (dk_at dksX7_late_0 5 rfl rfl)
theorem dX7_late_8 : decode cX7_late 8 = .ok (.iconst (-1), 1) := dk_2 (dk_at dksX7_late_0 8 rfl rfl)
theorem dX7_late_9 : decode cX7_late 9 = .ok (.ireturn, 1) := dk_172 (dk_at dksX7_late_0 9 rfl rfl)
theorem dX7_late_10 : decode cX7_late 10 = .ok (.aload_n 0, 1) := dk_42 (dk_at dksX7_late_0 10 rfl rfl)
theorem dX7_late_11 : decode cX7_late 11 = .ok (.iload_n 1, 1) := dk_27 (dk_at dksX7_late_0 11 rfl rfl)
theorem dX7_late_12 : decode cX7_late 12 = .ok (.bipush 10, 2) := dk_16 10 (dk_at dksX7_late_0 12 rfl rfl)
theorem dX7_late_14 : decode cX7_late 14 = .ok (.invokevirtual 171, 3) := dk_182 0 171 (dk_at dksX7_late_0 14 rfl rfl)
theorem dX7_late_17 : decode cX7_late 17 = .ok (.ifCond .ge 7, 3) := dk_156 0 7 (dk_at dksX7_late_0 17 rfl rfl)
theorem dX7_late_20 : decode cX7_late 20 = .ok (.ldc_w 437, 3) := dk_19 1 181 (dk_at dksX7_late_0 20 rfl rfl)
theorem dX7_late_23 : decode cX7_late 23 = .ok (.ireturn, 1) := dk_172 (dk_at dksX7_late_0 23 rfl rfl)
theorem dX7_late_24 : decode cX7_late 24 = .ok (.aload_n 0, 1) := dk_42 (dk_at dksX7_late_1 0 rfl rfl)
theorem dX7_late_25 : decode cX7_late 25 = .ok (.iload_n 1, 1) := dk_27 (dk_at dksX7_late_1 1 rfl rfl)
theorem dX7_late_26 : decode cX7_late 26 = .ok (.bipush 10, 2) := dk_16 10 (dk_at dksX7_late_1 2 rfl rfl)
theorem dX7_late_28 : decode cX7_late 28 = .ok (.invokevirtual 171, 3) := dk_182 0 171 (dk_at dksX7_late_1 4 rfl rfl)
theorem dX7_late_31 : decode cX7_late 31 = .ok (.aload_n 0, 1) := dk_42 (dk_at dksX7_late_1 7 rfl rfl)
theorem dX7_late_32 : decode cX7_late 32 = .ok (.iload_n 1, 1) := dk_27 (dk_at dksX7_late_1 8 rfl rfl)
theorem dX7_late_33 : decode cX7_late 33 = .ok (.bipush 11, 2) := dk_16 11 (dk_at dksX7_late_1 9 rfl rfl)
theorem dX7_late_35 : decode cX7_late 35 = .ok (.invokevirtual 171, 3) := dk_182 0 171 (dk_at dksX7_late_1 11 rfl rfl)
theorem dX7_late_38 : decode cX7_late 38 = .ok (.isub, 1) := dk_100 (dk_at dksX7_late_1 14 rfl rfl)
theorem dX7_late_39 : decode cX7_late 39 = .ok (.ldc_w 437, 3) := dk_19 1 181 (dk_at dksX7_late_1 15 rfl rfl)
theorem dX7_late_42 : decode cX7_late 42 = .ok (.iadd, 1) := dk_96 (dk_at dksX7_late_1 18 rfl rfl)
theorem dX7_late_43 : decode cX7_late 43 = .ok (.ireturn, 1) := dk_172 (dk_at dksX7_late_1 19 rfl rfl)
abbrev cX7_wouldHold : ByteArray := prog_13_method_93_code
def yX7_wouldHold : MethodName := ⟨RX7, "wouldHold", "(II)I"⟩
def dkwX7_wouldHold_1 : List UInt8 := [153, 0, 18, 42, 27, 28, 42, 180, 0, 51, 3, 46, 182, 0, 214, 167, 0, 5, 16, 252, 172]
abbrev dktX7_wouldHold_1 : List UInt8 := dkwX7_wouldHold_1 ++ []
def dkwX7_wouldHold_0 : List UInt8 := [42, 27, 182, 1, 140, 153, 0, 10, 28, 184, 1, 115, 154, 0, 5, 2, 172, 42, 27, 182, 0, 181]
abbrev dktX7_wouldHold_0 : List UInt8 := dkwX7_wouldHold_0 ++ dktX7_wouldHold_1
theorem dksX7_wouldHold_0 : cX7_wouldHold.data.toList.drop 0 = dktX7_wouldHold_0 := by decide +kernel
theorem dksX7_wouldHold_1 : cX7_wouldHold.data.toList.drop 22 = dktX7_wouldHold_1 := dk_seg dksX7_wouldHold_0 22 rfl rfl
theorem dX7_wouldHold_0 : decode cX7_wouldHold 0 = .ok (.aload_n 0, 1) := dk_42 (dk_at dksX7_wouldHold_0 0 rfl rfl)
theorem dX7_wouldHold_1 : decode cX7_wouldHold 1 = .ok (.iload_n 1, 1) := dk_27 (dk_at dksX7_wouldHold_0 1 rfl rfl)
theorem dX7_wouldHold_2 : decode cX7_wouldHold 2 = .ok (.invokevirtual 396, 3) := dk_182 1 140 (dk_at dksX7_wouldHold_0 2 rfl rfl)
theorem dX7_wouldHold_5 : decode cX7_wouldHold 5 = .ok (.ifCond .eq 10, 3) := dk_153 0 10 (dk_at dksX7_wouldHold_0 5 rfl rfl)
theorem dX7_wouldHold_8 : decode cX7_wouldHold 8 = .ok (.iload_n 2, 1) := dk_28 (dk_at dksX7_wouldHold_0 8 rfl rfl)
theorem dX7_wouldHold_9 : decode cX7_wouldHold 9 = .ok (.invokestatic 371, 3) := dk_184 1 115 (dk_at dksX7_wouldHold_0 9 rfl rfl)
theorem dX7_wouldHold_12 : decode cX7_wouldHold 12 = .ok (.ifCond .ne 5, 3) := dk_154 0 5 (dk_at dksX7_wouldHold_0 12 rfl rfl)
theorem dX7_wouldHold_15 : decode cX7_wouldHold 15 = .ok (.iconst (-1), 1) := dk_2 (dk_at dksX7_wouldHold_0 15 rfl rfl)
theorem dX7_wouldHold_16 : decode cX7_wouldHold 16 = .ok (.ireturn, 1) := dk_172 (dk_at dksX7_wouldHold_0 16 rfl rfl)
theorem dX7_wouldHold_17 : decode cX7_wouldHold 17 = .ok (.aload_n 0, 1) := dk_42 (dk_at dksX7_wouldHold_0 17 rfl rfl)
theorem dX7_wouldHold_18 : decode cX7_wouldHold 18 = .ok (.iload_n 1, 1) := dk_27 (dk_at dksX7_wouldHold_0 18 rfl rfl)
theorem dX7_wouldHold_19 : decode cX7_wouldHold 19 = .ok (.invokevirtual 181, 3) := dk_182 0 181 (dk_at dksX7_wouldHold_0 19 rfl rfl)
theorem dX7_wouldHold_22 : decode cX7_wouldHold 22 = .ok (.ifCond .eq 18, 3) := dk_153 0 18 (dk_at dksX7_wouldHold_1 0 rfl rfl)
theorem dX7_wouldHold_25 : decode cX7_wouldHold 25 = .ok (.aload_n 0, 1) := dk_42 (dk_at dksX7_wouldHold_1 3 rfl rfl)
theorem dX7_wouldHold_26 : decode cX7_wouldHold 26 = .ok (.iload_n 1, 1) := dk_27 (dk_at dksX7_wouldHold_1 4 rfl rfl)
theorem dX7_wouldHold_27 : decode cX7_wouldHold 27 = .ok (.iload_n 2, 1) := dk_28 (dk_at dksX7_wouldHold_1 5 rfl rfl)
theorem dX7_wouldHold_28 : decode cX7_wouldHold 28 = .ok (.aload_n 0, 1) := dk_42 (dk_at dksX7_wouldHold_1 6 rfl rfl)
theorem dX7_wouldHold_29 : decode cX7_wouldHold 29 = .ok (.getfield 51, 3) := dk_180 0 51 (dk_at dksX7_wouldHold_1 7 rfl rfl)
theorem dX7_wouldHold_32 : decode cX7_wouldHold 32 = .ok (.iconst 0, 1) := dk_3 (dk_at dksX7_wouldHold_1 10 rfl rfl)
theorem dX7_wouldHold_33 : decode cX7_wouldHold 33 = .ok (.iaload, 1) := dk_46 (dk_at dksX7_wouldHold_1 11 rfl rfl)
theorem dX7_wouldHold_34 : decode cX7_wouldHold 34 = .ok (.invokevirtual 214, 3) := dk_182 0 214 (dk_at dksX7_wouldHold_1 12 rfl rfl)
theorem dX7_wouldHold_37 : decode cX7_wouldHold 37 = .ok (.goto 5, 3) := dk_167 0 5 (dk_at dksX7_wouldHold_1 15 rfl rfl)
theorem dX7_wouldHold_40 : decode cX7_wouldHold 40 = .ok (.bipush (-4), 2) := dk_16 252 (dk_at dksX7_wouldHold_1 18 rfl rfl)
theorem dX7_wouldHold_42 : decode cX7_wouldHold 42 = .ok (.ireturn, 1) := dk_172 (dk_at dksX7_wouldHold_1 20 rfl rfl)
abbrev cX7_comes : ByteArray := prog_13_method_95_code
def yX7_comes : MethodName := ⟨RX7, "comes", "(II)I"⟩
def dkwX7_comes_4 : List UInt8 := [167, 255, 191, 42, 182, 1, 188, 29, 172]
abbrev dktX7_comes_4 : List UInt8 := dkwX7_comes_4 ++ []
def dkwX7_comes_3 : List UInt8 := [21, 4, 5, 182, 0, 171, 167, 0, 5, 16, 254, 62, 42, 21, 4, 182, 0, 237, 42, 182, 0, 233, 54, 4]
abbrev dktX7_comes_3 : List UInt8 := dkwX7_comes_3 ++ dktX7_comes_4
def dkwX7_comes_2 : List UInt8 := [17, 14, 16, 96, 163, 0, 47, 21, 4, 27, 160, 0, 23, 42, 21, 4, 28, 182, 1, 185, 153, 0, 13, 42]
abbrev dktX7_comes_2 : List UInt8 := dkwX7_comes_2 ++ dktX7_comes_3
def dkwX7_comes_1 : List UInt8 := [62, 42, 182, 0, 233, 54, 4, 29, 156, 0, 67, 42, 21, 4, 5, 182, 0, 171, 42, 180, 0, 58, 3, 46]
abbrev dktX7_comes_1 : List UInt8 := dkwX7_comes_1 ++ dktX7_comes_2
def dkwX7_comes_0 : List UInt8 := [42, 27, 182, 1, 140, 153, 0, 11, 42, 28, 182, 1, 121, 154, 0, 5, 2, 172, 42, 182, 1, 182, 16, 254]
abbrev dktX7_comes_0 : List UInt8 := dkwX7_comes_0 ++ dktX7_comes_1
theorem dksX7_comes_0 : cX7_comes.data.toList.drop 0 = dktX7_comes_0 := by decide +kernel
theorem dksX7_comes_1 : cX7_comes.data.toList.drop 24 = dktX7_comes_1 := dk_seg dksX7_comes_0 24 rfl rfl
theorem dksX7_comes_2 : cX7_comes.data.toList.drop 48 = dktX7_comes_2 := dk_seg dksX7_comes_1 24 rfl rfl
theorem dksX7_comes_3 : cX7_comes.data.toList.drop 72 = dktX7_comes_3 := dk_seg dksX7_comes_2 24 rfl rfl
theorem dksX7_comes_4 : cX7_comes.data.toList.drop 96 = dktX7_comes_4 := dk_seg dksX7_comes_3 24 rfl rfl
theorem dX7_comes_0 : decode cX7_comes 0 = .ok (.aload_n 0, 1) := dk_42 (dk_at dksX7_comes_0 0 rfl rfl)
theorem dX7_comes_1 : decode cX7_comes 1 = .ok (.iload_n 1, 1) := dk_27 (dk_at dksX7_comes_0 1 rfl rfl)
theorem dX7_comes_2 : decode cX7_comes 2 = .ok (.invokevirtual 396, 3) := dk_182 1 140 (dk_at dksX7_comes_0 2 rfl rfl)
theorem dX7_comes_5 : decode cX7_comes 5 = .ok (.ifCond .eq 11, 3) := dk_153 0 11 (dk_at dksX7_comes_0 5 rfl rfl)
theorem dX7_comes_8 : decode cX7_comes 8 = .ok (.aload_n 0, 1) := dk_42 (dk_at dksX7_comes_0 8 rfl rfl)
theorem dX7_comes_9 : decode cX7_comes 9 = .ok (.iload_n 2, 1) := dk_28 (dk_at dksX7_comes_0 9 rfl rfl)
theorem dX7_comes_10 : decode cX7_comes 10 = .ok (.invokevirtual 377, 3) := dk_182 1 121 (dk_at dksX7_comes_0 10 rfl rfl)
theorem dX7_comes_13 : decode cX7_comes 13 = .ok (.ifCond .ne 5, 3) := dk_154 0 5 (dk_at dksX7_comes_0 13 rfl rfl)
theorem dX7_comes_16 : decode cX7_comes 16 = .ok (.iconst (-1), 1) := dk_2 (dk_at dksX7_comes_0 16 rfl rfl)
theorem dX7_comes_17 : decode cX7_comes 17 = .ok (.ireturn, 1) := dk_172 (dk_at dksX7_comes_0 17 rfl rfl)
theorem dX7_comes_18 : decode cX7_comes 18 = .ok (.aload_n 0, 1) := dk_42 (dk_at dksX7_comes_0 18 rfl rfl)
theorem dX7_comes_19 : decode cX7_comes 19 = .ok (.invokevirtual 438, 3) := dk_182 1 182 (dk_at dksX7_comes_0 19 rfl rfl)
theorem dX7_comes_22 : decode cX7_comes 22 = .ok (.bipush (-2), 2) := dk_16 254 (dk_at dksX7_comes_0 22 rfl rfl)
theorem dX7_comes_24 : decode cX7_comes 24 = .ok (.istore_n 3, 1) := dk_62 (dk_at dksX7_comes_1 0 rfl rfl)
theorem dX7_comes_25 : decode cX7_comes 25 = .ok (.aload_n 0, 1) := dk_42 (dk_at dksX7_comes_1 1 rfl rfl)
theorem dX7_comes_26 : decode cX7_comes 26 = .ok (.invokevirtual 233, 3) := dk_182 0 233 (dk_at dksX7_comes_1 2 rfl rfl)
theorem dX7_comes_29 : decode cX7_comes 29 = .ok (.istore 4, 2) := dk_54 4 (dk_at dksX7_comes_1 5 rfl rfl)
theorem dX7_comes_31 : decode cX7_comes 31 = .ok (.iload_n 3, 1) := dk_29 (dk_at dksX7_comes_1 7 rfl rfl)
theorem dX7_comes_32 : decode cX7_comes 32 = .ok (.ifCond .ge 67, 3) := dk_156 0 67 (dk_at dksX7_comes_1 8 rfl rfl)
theorem dX7_comes_35 : decode cX7_comes 35 = .ok (.aload_n 0, 1) := dk_42 (dk_at dksX7_comes_1 11 rfl rfl)
theorem dX7_comes_36 : decode cX7_comes 36 = .ok (.iload 4, 2) := dk_21 4 (dk_at dksX7_comes_1 12 rfl rfl)
theorem dX7_comes_38 : decode cX7_comes 38 = .ok (.iconst 2, 1) := dk_5 (dk_at dksX7_comes_1 14 rfl rfl)
theorem dX7_comes_39 : decode cX7_comes 39 = .ok (.invokevirtual 171, 3) := dk_182 0 171 (dk_at dksX7_comes_1 15 rfl rfl)
theorem dX7_comes_42 : decode cX7_comes 42 = .ok (.aload_n 0, 1) := dk_42 (dk_at dksX7_comes_1 18 rfl rfl)
theorem dX7_comes_43 : decode cX7_comes 43 = .ok (.getfield 58, 3) := dk_180 0 58 (dk_at dksX7_comes_1 19 rfl rfl)
theorem dX7_comes_46 : decode cX7_comes 46 = .ok (.iconst 0, 1) := dk_3 (dk_at dksX7_comes_1 22 rfl rfl)
theorem dX7_comes_47 : decode cX7_comes 47 = .ok (.iaload, 1) := dk_46 (dk_at dksX7_comes_1 23 rfl rfl)
theorem dX7_comes_48 : decode cX7_comes 48 = .ok (.sipush 3600, 3) := dk_17 14 16 (dk_at dksX7_comes_2 0 rfl rfl)
theorem dX7_comes_51 : decode cX7_comes 51 = .ok (.iadd, 1) := dk_96 (dk_at dksX7_comes_2 3 rfl rfl)
theorem dX7_comes_52 : decode cX7_comes 52 = .ok (.if_icmp .gt 47, 3) := dk_163 0 47 (dk_at dksX7_comes_2 4 rfl rfl)
theorem dX7_comes_55 : decode cX7_comes 55 = .ok (.iload 4, 2) := dk_21 4 (dk_at dksX7_comes_2 7 rfl rfl)
theorem dX7_comes_57 : decode cX7_comes 57 = .ok (.iload_n 1, 1) := dk_27 (dk_at dksX7_comes_2 9 rfl rfl)
theorem dX7_comes_58 : decode cX7_comes 58 = .ok (.if_icmp .ne 23, 3) := dk_160 0 23 (dk_at dksX7_comes_2 10 rfl rfl)
theorem dX7_comes_61 : decode cX7_comes 61 = .ok (.aload_n 0, 1) := dk_42 (dk_at dksX7_comes_2 13 rfl rfl)
theorem dX7_comes_62 : decode cX7_comes 62 = .ok (.iload 4, 2) := dk_21 4 (dk_at dksX7_comes_2 14 rfl rfl)
theorem dX7_comes_64 : decode cX7_comes 64 = .ok (.iload_n 2, 1) := dk_28 (dk_at dksX7_comes_2 16 rfl rfl)
theorem dX7_comes_65 : decode cX7_comes 65 = .ok (.invokevirtual 441, 3) := dk_182 1 185 (dk_at dksX7_comes_2 17 rfl rfl)
theorem dX7_comes_68 : decode cX7_comes 68 = .ok (.ifCond .eq 13, 3) := dk_153 0 13 (dk_at dksX7_comes_2 20 rfl rfl)
theorem dX7_comes_71 : decode cX7_comes 71 = .ok (.aload_n 0, 1) := dk_42 (dk_at dksX7_comes_2 23 rfl rfl)
theorem dX7_comes_72 : decode cX7_comes 72 = .ok (.iload 4, 2) := dk_21 4 (dk_at dksX7_comes_3 0 rfl rfl)
theorem dX7_comes_74 : decode cX7_comes 74 = .ok (.iconst 2, 1) := dk_5 (dk_at dksX7_comes_3 2 rfl rfl)
theorem dX7_comes_75 : decode cX7_comes 75 = .ok (.invokevirtual 171, 3) := dk_182 0 171 (dk_at dksX7_comes_3 3 rfl rfl)
theorem dX7_comes_78 : decode cX7_comes 78 = .ok (.goto 5, 3) := dk_167 0 5 (dk_at dksX7_comes_3 6 rfl rfl)
theorem dX7_comes_81 : decode cX7_comes 81 = .ok (.bipush (-2), 2) := dk_16 254 (dk_at dksX7_comes_3 9 rfl rfl)
theorem dX7_comes_83 : decode cX7_comes 83 = .ok (.istore_n 3, 1) := dk_62 (dk_at dksX7_comes_3 11 rfl rfl)
theorem dX7_comes_84 : decode cX7_comes 84 = .ok (.aload_n 0, 1) := dk_42 (dk_at dksX7_comes_3 12 rfl rfl)
theorem dX7_comes_85 : decode cX7_comes 85 = .ok (.iload 4, 2) := dk_21 4 (dk_at dksX7_comes_3 13 rfl rfl)
theorem dX7_comes_87 : decode cX7_comes 87 = .ok (.invokevirtual 237, 3) := dk_182 0 237 (dk_at dksX7_comes_3 15 rfl rfl)
theorem dX7_comes_90 : decode cX7_comes 90 = .ok (.aload_n 0, 1) := dk_42 (dk_at dksX7_comes_3 18 rfl rfl)
theorem dX7_comes_91 : decode cX7_comes 91 = .ok (.invokevirtual 233, 3) := dk_182 0 233 (dk_at dksX7_comes_3 19 rfl rfl)
theorem dX7_comes_94 : decode cX7_comes 94 = .ok (.istore 4, 2) := dk_54 4 (dk_at dksX7_comes_3 22 rfl rfl)
theorem dX7_comes_96 : decode cX7_comes 96 = .ok (.goto (-65), 3) := dk_167 255 191 (dk_at dksX7_comes_4 0 rfl rfl)
theorem dX7_comes_99 : decode cX7_comes 99 = .ok (.aload_n 0, 1) := dk_42 (dk_at dksX7_comes_4 3 rfl rfl)
theorem dX7_comes_100 : decode cX7_comes 100 = .ok (.invokevirtual 444, 3) := dk_182 1 188 (dk_at dksX7_comes_4 4 rfl rfl)
theorem dX7_comes_103 : decode cX7_comes 103 = .ok (.iload_n 3, 1) := dk_29 (dk_at dksX7_comes_4 7 rfl rfl)
theorem dX7_comes_104 : decode cX7_comes 104 = .ok (.ireturn, 1) := dk_172 (dk_at dksX7_comes_4 8 rfl rfl)
abbrev cX7_thinks : ByteArray := prog_13_method_71_code
def yX7_thinks : MethodName := ⟨RX7, "thinks", "()V"⟩
def dkwX7_thinks_2 : List UInt8 := [4, 47, 80, 177]
abbrev dktX7_thinks_2 : List UInt8 := dkwX7_thinks_2 ++ []
def dkwX7_thinks_1 : List UInt8 := [167, 255, 234, 42, 180, 0, 61, 3, 42, 180, 0, 54, 3, 47, 80, 42, 180, 0, 61, 4, 42, 180, 0, 54]
abbrev dktX7_thinks_1 : List UInt8 := dkwX7_thinks_1 ++ dktX7_thinks_2
def dkwX7_thinks_0 : List UInt8 := [3, 60, 27, 17, 14, 30, 162, 0, 21, 42, 180, 0, 58, 27, 42, 180, 0, 51, 27, 46, 79, 132, 1, 1]
abbrev dktX7_thinks_0 : List UInt8 := dkwX7_thinks_0 ++ dktX7_thinks_1
theorem dksX7_thinks_0 : cX7_thinks.data.toList.drop 0 = dktX7_thinks_0 := by decide +kernel
theorem dksX7_thinks_1 : cX7_thinks.data.toList.drop 24 = dktX7_thinks_1 := dk_seg dksX7_thinks_0 24 rfl rfl
theorem dksX7_thinks_2 : cX7_thinks.data.toList.drop 48 = dktX7_thinks_2 := dk_seg dksX7_thinks_1 24 rfl rfl
theorem dX7_thinks_0 : decode cX7_thinks 0 = .ok (.iconst 0, 1) := dk_3 (dk_at dksX7_thinks_0 0 rfl rfl)
theorem dX7_thinks_1 : decode cX7_thinks 1 = .ok (.istore_n 1, 1) := dk_60 (dk_at dksX7_thinks_0 1 rfl rfl)
theorem dX7_thinks_2 : decode cX7_thinks 2 = .ok (.iload_n 1, 1) := dk_27 (dk_at dksX7_thinks_0 2 rfl rfl)
theorem dX7_thinks_3 : decode cX7_thinks 3 = .ok (.sipush 3614, 3) := dk_17 14 30 (dk_at dksX7_thinks_0 3 rfl rfl)
theorem dX7_thinks_6 : decode cX7_thinks 6 = .ok (.if_icmp .ge 21, 3) := dk_162 0 21 (dk_at dksX7_thinks_0 6 rfl rfl)
theorem dX7_thinks_9 : decode cX7_thinks 9 = .ok (.aload_n 0, 1) := dk_42 (dk_at dksX7_thinks_0 9 rfl rfl)
theorem dX7_thinks_10 : decode cX7_thinks 10 = .ok (.getfield 58, 3) := dk_180 0 58 (dk_at dksX7_thinks_0 10 rfl rfl)
theorem dX7_thinks_13 : decode cX7_thinks 13 = .ok (.iload_n 1, 1) := dk_27 (dk_at dksX7_thinks_0 13 rfl rfl)
theorem dX7_thinks_14 : decode cX7_thinks 14 = .ok (.aload_n 0, 1) := dk_42 (dk_at dksX7_thinks_0 14 rfl rfl)
theorem dX7_thinks_15 : decode cX7_thinks 15 = .ok (.getfield 51, 3) := dk_180 0 51 (dk_at dksX7_thinks_0 15 rfl rfl)
theorem dX7_thinks_18 : decode cX7_thinks 18 = .ok (.iload_n 1, 1) := dk_27 (dk_at dksX7_thinks_0 18 rfl rfl)
theorem dX7_thinks_19 : decode cX7_thinks 19 = .ok (.iaload, 1) := dk_46 (dk_at dksX7_thinks_0 19 rfl rfl)
theorem dX7_thinks_20 : decode cX7_thinks 20 = .ok (.iastore, 1) := dk_79 (dk_at dksX7_thinks_0 20 rfl rfl)
theorem dX7_thinks_21 : decode cX7_thinks 21 = .ok (.iinc 1 1, 3) := dk_132 1 1 (dk_at dksX7_thinks_0 21 rfl rfl)
theorem dX7_thinks_24 : decode cX7_thinks 24 = .ok (.goto (-22), 3) := dk_167 255 234 (dk_at dksX7_thinks_1 0 rfl rfl)
theorem dX7_thinks_27 : decode cX7_thinks 27 = .ok (.aload_n 0, 1) := dk_42 (dk_at dksX7_thinks_1 3 rfl rfl)
theorem dX7_thinks_28 : decode cX7_thinks 28 = .ok (.getfield 61, 3) := dk_180 0 61 (dk_at dksX7_thinks_1 4 rfl rfl)
theorem dX7_thinks_31 : decode cX7_thinks 31 = .ok (.iconst 0, 1) := dk_3 (dk_at dksX7_thinks_1 7 rfl rfl)
theorem dX7_thinks_32 : decode cX7_thinks 32 = .ok (.aload_n 0, 1) := dk_42 (dk_at dksX7_thinks_1 8 rfl rfl)
theorem dX7_thinks_33 : decode cX7_thinks 33 = .ok (.getfield 54, 3) := dk_180 0 54 (dk_at dksX7_thinks_1 9 rfl rfl)
theorem dX7_thinks_36 : decode cX7_thinks 36 = .ok (.iconst 0, 1) := dk_3 (dk_at dksX7_thinks_1 12 rfl rfl)
theorem dX7_thinks_37 : decode cX7_thinks 37 = .ok (.laload, 1) := dk_47 (dk_at dksX7_thinks_1 13 rfl rfl)
theorem dX7_thinks_38 : decode cX7_thinks 38 = .ok (.lastore, 1) := dk_80 (dk_at dksX7_thinks_1 14 rfl rfl)
theorem dX7_thinks_39 : decode cX7_thinks 39 = .ok (.aload_n 0, 1) := dk_42 (dk_at dksX7_thinks_1 15 rfl rfl)
theorem dX7_thinks_40 : decode cX7_thinks 40 = .ok (.getfield 61, 3) := dk_180 0 61 (dk_at dksX7_thinks_1 16 rfl rfl)
theorem dX7_thinks_43 : decode cX7_thinks 43 = .ok (.iconst 1, 1) := dk_4 (dk_at dksX7_thinks_1 19 rfl rfl)
theorem dX7_thinks_44 : decode cX7_thinks 44 = .ok (.aload_n 0, 1) := dk_42 (dk_at dksX7_thinks_1 20 rfl rfl)
theorem dX7_thinks_45 : decode cX7_thinks 45 = .ok (.getfield 54, 3) := dk_180 0 54 (dk_at dksX7_thinks_1 21 rfl rfl)
theorem dX7_thinks_48 : decode cX7_thinks 48 = .ok (.iconst 1, 1) := dk_4 (dk_at dksX7_thinks_2 0 rfl rfl)
theorem dX7_thinks_49 : decode cX7_thinks 49 = .ok (.laload, 1) := dk_47 (dk_at dksX7_thinks_2 1 rfl rfl)
theorem dX7_thinks_50 : decode cX7_thinks 50 = .ok (.lastore, 1) := dk_80 (dk_at dksX7_thinks_2 2 rfl rfl)
theorem dX7_thinks_51 : decode cX7_thinks 51 = .ok (.return_, 1) := dk_177 (dk_at dksX7_thinks_2 3 rfl rfl)
abbrev cX7_isComing : ByteArray := prog_13_method_94_code
def yX7_isComing : MethodName := ⟨RX7, "isComing", "(II)Z"⟩
def dkwX7_isComing_0 : List UInt8 := [42, 27, 182, 0, 181, 154, 0, 17, 42, 27, 4, 182, 0, 171, 28, 160, 0, 7, 4, 167, 0, 4, 3, 172]
abbrev dktX7_isComing_0 : List UInt8 := dkwX7_isComing_0 ++ []
theorem dksX7_isComing_0 : cX7_isComing.data.toList.drop 0 = dktX7_isComing_0 := by decide +kernel
theorem dX7_isComing_0 : decode cX7_isComing 0 = .ok (.aload_n 0, 1) := dk_42 (dk_at dksX7_isComing_0 0 rfl rfl)
theorem dX7_isComing_1 : decode cX7_isComing 1 = .ok (.iload_n 1, 1) := dk_27 (dk_at dksX7_isComing_0 1 rfl rfl)
theorem dX7_isComing_2 : decode cX7_isComing 2 = .ok (.invokevirtual 181, 3) := dk_182 0 181 (dk_at dksX7_isComing_0 2 rfl rfl)
theorem dX7_isComing_5 : decode cX7_isComing 5 = .ok (.ifCond .ne 17, 3) := dk_154 0 17 (dk_at dksX7_isComing_0 5 rfl rfl)
theorem dX7_isComing_8 : decode cX7_isComing 8 = .ok (.aload_n 0, 1) := dk_42 (dk_at dksX7_isComing_0 8 rfl rfl)
theorem dX7_isComing_9 : decode cX7_isComing 9 = .ok (.iload_n 1, 1) := dk_27 (dk_at dksX7_isComing_0 9 rfl rfl)
theorem dX7_isComing_10 : decode cX7_isComing 10 = .ok (.iconst 1, 1) := dk_4 (dk_at dksX7_isComing_0 10 rfl rfl)
theorem dX7_isComing_11 : decode cX7_isComing 11 = .ok (.invokevirtual 171, 3) := dk_182 0 171 (dk_at dksX7_isComing_0 11 rfl rfl)
theorem dX7_isComing_14 : decode cX7_isComing 14 = .ok (.iload_n 2, 1) := dk_28 (dk_at dksX7_isComing_0 14 rfl rfl)
theorem dX7_isComing_15 : decode cX7_isComing 15 = .ok (.if_icmp .ne 7, 3) := dk_160 0 7 (dk_at dksX7_isComing_0 15 rfl rfl)
theorem dX7_isComing_18 : decode cX7_isComing 18 = .ok (.iconst 1, 1) := dk_4 (dk_at dksX7_isComing_0 18 rfl rfl)
theorem dX7_isComing_19 : decode cX7_isComing 19 = .ok (.goto 4, 3) := dk_167 0 4 (dk_at dksX7_isComing_0 19 rfl rfl)
theorem dX7_isComing_22 : decode cX7_isComing 22 = .ok (.iconst 0, 1) := dk_3 (dk_at dksX7_isComing_0 22 rfl rfl)
theorem dX7_isComing_23 : decode cX7_isComing 23 = .ok (.ireturn, 1) := dk_172 (dk_at dksX7_isComing_0 23 rfl rfl)
abbrev cX7_comesBack : ByteArray := prog_13_method_72_code
def yX7_comesBack : MethodName := ⟨RX7, "comesBack", "()V"⟩
def dkwX7_comesBack_2 : List UInt8 := [4, 47, 80, 177]
abbrev dktX7_comesBack_2 : List UInt8 := dkwX7_comesBack_2 ++ []
def dkwX7_comesBack_1 : List UInt8 := [167, 255, 234, 42, 180, 0, 54, 3, 42, 180, 0, 61, 3, 47, 80, 42, 180, 0, 54, 4, 42, 180, 0, 61]
abbrev dktX7_comesBack_1 : List UInt8 := dkwX7_comesBack_1 ++ dktX7_comesBack_2
def dkwX7_comesBack_0 : List UInt8 := [3, 60, 27, 17, 14, 30, 162, 0, 21, 42, 180, 0, 51, 27, 42, 180, 0, 58, 27, 46, 79, 132, 1, 1]
abbrev dktX7_comesBack_0 : List UInt8 := dkwX7_comesBack_0 ++ dktX7_comesBack_1
theorem dksX7_comesBack_0 : cX7_comesBack.data.toList.drop 0 = dktX7_comesBack_0 := by decide +kernel
theorem dksX7_comesBack_1 : cX7_comesBack.data.toList.drop 24 = dktX7_comesBack_1 := dk_seg dksX7_comesBack_0 24 rfl rfl
theorem dksX7_comesBack_2 : cX7_comesBack.data.toList.drop 48 = dktX7_comesBack_2 := dk_seg dksX7_comesBack_1 24 rfl rfl
theorem dX7_comesBack_0 : decode cX7_comesBack 0 = .ok (.iconst 0, 1) := dk_3 (dk_at dksX7_comesBack_0 0 rfl rfl)
theorem dX7_comesBack_1 : decode cX7_comesBack 1 = .ok (.istore_n 1, 1) := dk_60 (dk_at dksX7_comesBack_0 1 rfl rfl)
theorem dX7_comesBack_2 : decode cX7_comesBack 2 = .ok (.iload_n 1, 1) := dk_27 (dk_at dksX7_comesBack_0 2 rfl rfl)
theorem dX7_comesBack_3 : decode cX7_comesBack 3 = .ok (.sipush 3614, 3) := dk_17 14 30 (dk_at dksX7_comesBack_0 3 rfl rfl)
theorem dX7_comesBack_6 : decode cX7_comesBack 6 = .ok (.if_icmp .ge 21, 3) := dk_162 0 21 (dk_at dksX7_comesBack_0 6 rfl rfl)
theorem dX7_comesBack_9 : decode cX7_comesBack 9 = .ok (.aload_n 0, 1) := dk_42 (dk_at dksX7_comesBack_0 9 rfl rfl)
theorem dX7_comesBack_10 : decode cX7_comesBack 10 = .ok (.getfield 51, 3) := dk_180 0 51 (dk_at dksX7_comesBack_0 10 rfl rfl)
theorem dX7_comesBack_13 : decode cX7_comesBack 13 = .ok (.iload_n 1, 1) := dk_27 (dk_at dksX7_comesBack_0 13 rfl rfl)
theorem dX7_comesBack_14 : decode cX7_comesBack 14 = .ok (.aload_n 0, 1) := dk_42 (dk_at dksX7_comesBack_0 14 rfl rfl)
theorem dX7_comesBack_15 : decode cX7_comesBack 15 = .ok (.getfield 58, 3) := dk_180 0 58 (dk_at dksX7_comesBack_0 15 rfl rfl)
theorem dX7_comesBack_18 : decode cX7_comesBack 18 = .ok (.iload_n 1, 1) := dk_27 (dk_at dksX7_comesBack_0 18 rfl rfl)
theorem dX7_comesBack_19 : decode cX7_comesBack 19 = .ok (.iaload, 1) := dk_46 (dk_at dksX7_comesBack_0 19 rfl rfl)
theorem dX7_comesBack_20 : decode cX7_comesBack 20 = .ok (.iastore, 1) := dk_79 (dk_at dksX7_comesBack_0 20 rfl rfl)
theorem dX7_comesBack_21 : decode cX7_comesBack 21 = .ok (.iinc 1 1, 3) := dk_132 1 1 (dk_at dksX7_comesBack_0 21 rfl rfl)
theorem dX7_comesBack_24 : decode cX7_comesBack 24 = .ok (.goto (-22), 3) := dk_167 255 234 (dk_at dksX7_comesBack_1 0 rfl rfl)
theorem dX7_comesBack_27 : decode cX7_comesBack 27 = .ok (.aload_n 0, 1) := dk_42 (dk_at dksX7_comesBack_1 3 rfl rfl)
theorem dX7_comesBack_28 : decode cX7_comesBack 28 = .ok (.getfield 54, 3) := dk_180 0 54 (dk_at dksX7_comesBack_1 4 rfl rfl)
theorem dX7_comesBack_31 : decode cX7_comesBack 31 = .ok (.iconst 0, 1) := dk_3 (dk_at dksX7_comesBack_1 7 rfl rfl)
theorem dX7_comesBack_32 : decode cX7_comesBack 32 = .ok (.aload_n 0, 1) := dk_42 (dk_at dksX7_comesBack_1 8 rfl rfl)
theorem dX7_comesBack_33 : decode cX7_comesBack 33 = .ok (.getfield 61, 3) := dk_180 0 61 (dk_at dksX7_comesBack_1 9 rfl rfl)
theorem dX7_comesBack_36 : decode cX7_comesBack 36 = .ok (.iconst 0, 1) := dk_3 (dk_at dksX7_comesBack_1 12 rfl rfl)
theorem dX7_comesBack_37 : decode cX7_comesBack 37 = .ok (.laload, 1) := dk_47 (dk_at dksX7_comesBack_1 13 rfl rfl)
theorem dX7_comesBack_38 : decode cX7_comesBack 38 = .ok (.lastore, 1) := dk_80 (dk_at dksX7_comesBack_1 14 rfl rfl)
theorem dX7_comesBack_39 : decode cX7_comesBack 39 = .ok (.aload_n 0, 1) := dk_42 (dk_at dksX7_comesBack_1 15 rfl rfl)
theorem dX7_comesBack_40 : decode cX7_comesBack 40 = .ok (.getfield 54, 3) := dk_180 0 54 (dk_at dksX7_comesBack_1 16 rfl rfl)
theorem dX7_comesBack_43 : decode cX7_comesBack 43 = .ok (.iconst 1, 1) := dk_4 (dk_at dksX7_comesBack_1 19 rfl rfl)
theorem dX7_comesBack_44 : decode cX7_comesBack 44 = .ok (.aload_n 0, 1) := dk_42 (dk_at dksX7_comesBack_1 20 rfl rfl)
theorem dX7_comesBack_45 : decode cX7_comesBack 45 = .ok (.getfield 61, 3) := dk_180 0 61 (dk_at dksX7_comesBack_1 21 rfl rfl)
theorem dX7_comesBack_48 : decode cX7_comesBack 48 = .ok (.iconst 1, 1) := dk_4 (dk_at dksX7_comesBack_2 0 rfl rfl)
theorem dX7_comesBack_49 : decode cX7_comesBack 49 = .ok (.laload, 1) := dk_47 (dk_at dksX7_comesBack_2 1 rfl rfl)
theorem dX7_comesBack_50 : decode cX7_comesBack 50 = .ok (.lastore, 1) := dk_80 (dk_at dksX7_comesBack_2 2 rfl rfl)
theorem dX7_comesBack_51 : decode cX7_comesBack 51 = .ok (.return_, 1) := dk_177 (dk_at dksX7_comesBack_2 3 rfl rfl)
abbrev cX7_nextLeft : ByteArray := prog_13_method_96_code
def yX7_nextLeft : MethodName := ⟨RX7, "nextLeft", "(IZ)I"⟩
def dkwX7_nextLeft_5 : List UInt8 := [182, 1, 188, 21, 4, 172]
abbrev dktX7_nextLeft_5 : List UInt8 := dkwX7_nextLeft_5 ++ []
def dkwX7_nextLeft_4 : List UInt8 := [153, 0, 8, 21, 6, 167, 0, 5, 21, 5, 54, 4, 42, 182, 0, 233, 54, 5, 167, 255, 179, 42]
abbrev dktX7_nextLeft_4 : List UInt8 := dkwX7_nextLeft_4 ++ dktX7_nextLeft_5
def dkwX7_nextLeft_3 : List UInt8 := [182, 0, 237, 42, 180, 0, 51, 16, 43, 27, 96, 46, 29, 160, 0, 8, 16, 254, 167, 0, 14, 28]
abbrev dktX7_nextLeft_3 : List UInt8 := dkwX7_nextLeft_3 ++ dktX7_nextLeft_4
def dkwX7_nextLeft_2 : List UInt8 := [180, 0, 58, 3, 46, 17, 14, 16, 96, 163, 0, 58, 42, 21, 5, 5, 182, 0, 171, 54, 6, 42, 21, 5]
abbrev dktX7_nextLeft_2 : List UInt8 := dkwX7_nextLeft_2 ++ dktX7_nextLeft_3
def dkwX7_nextLeft_1 : List UInt8 := [16, 254, 54, 4, 42, 182, 0, 233, 54, 5, 21, 4, 156, 0, 78, 42, 21, 5, 5, 182, 0, 171, 42]
abbrev dktX7_nextLeft_1 : List UInt8 := dkwX7_nextLeft_1 ++ dktX7_nextLeft_2
def dkwX7_nextLeft_0 : List UInt8 := [42, 27, 182, 1, 121, 154, 0, 5, 2, 172, 42, 182, 1, 182, 42, 180, 0, 51, 16, 43, 27, 96, 46, 62]
abbrev dktX7_nextLeft_0 : List UInt8 := dkwX7_nextLeft_0 ++ dktX7_nextLeft_1
theorem dksX7_nextLeft_0 : cX7_nextLeft.data.toList.drop 0 = dktX7_nextLeft_0 := by decide +kernel
theorem dksX7_nextLeft_1 : cX7_nextLeft.data.toList.drop 24 = dktX7_nextLeft_1 := dk_seg dksX7_nextLeft_0 24 rfl rfl
theorem dksX7_nextLeft_2 : cX7_nextLeft.data.toList.drop 47 = dktX7_nextLeft_2 := dk_seg dksX7_nextLeft_1 23 rfl rfl
theorem dksX7_nextLeft_3 : cX7_nextLeft.data.toList.drop 71 = dktX7_nextLeft_3 := dk_seg dksX7_nextLeft_2 24 rfl rfl
theorem dksX7_nextLeft_4 : cX7_nextLeft.data.toList.drop 93 = dktX7_nextLeft_4 := dk_seg dksX7_nextLeft_3 22 rfl rfl
theorem dksX7_nextLeft_5 : cX7_nextLeft.data.toList.drop 115 = dktX7_nextLeft_5 := dk_seg dksX7_nextLeft_4 22 rfl rfl
theorem dX7_nextLeft_0 : decode cX7_nextLeft 0 = .ok (.aload_n 0, 1) := dk_42 (dk_at dksX7_nextLeft_0 0 rfl rfl)
theorem dX7_nextLeft_1 : decode cX7_nextLeft 1 = .ok (.iload_n 1, 1) := dk_27 (dk_at dksX7_nextLeft_0 1 rfl rfl)
theorem dX7_nextLeft_2 : decode cX7_nextLeft 2 = .ok (.invokevirtual 377, 3) := dk_182 1 121 (dk_at dksX7_nextLeft_0 2 rfl rfl)
theorem dX7_nextLeft_5 : decode cX7_nextLeft 5 = .ok (.ifCond .ne 5, 3) := dk_154 0 5 (dk_at dksX7_nextLeft_0 5 rfl rfl)
theorem dX7_nextLeft_8 : decode cX7_nextLeft 8 = .ok (.iconst (-1), 1) := dk_2 (dk_at dksX7_nextLeft_0 8 rfl rfl)
theorem dX7_nextLeft_9 : decode cX7_nextLeft 9 = .ok (.ireturn, 1) := dk_172 (dk_at dksX7_nextLeft_0 9 rfl rfl)
theorem dX7_nextLeft_10 : decode cX7_nextLeft 10 = .ok (.aload_n 0, 1) := dk_42 (dk_at dksX7_nextLeft_0 10 rfl rfl)
theorem dX7_nextLeft_11 : decode cX7_nextLeft 11 = .ok (.invokevirtual 438, 3) := dk_182 1 182 (dk_at dksX7_nextLeft_0 11 rfl rfl)
theorem dX7_nextLeft_14 : decode cX7_nextLeft 14 = .ok (.aload_n 0, 1) := dk_42 (dk_at dksX7_nextLeft_0 14 rfl rfl)
theorem dX7_nextLeft_15 : decode cX7_nextLeft 15 = .ok (.getfield 51, 3) := dk_180 0 51 (dk_at dksX7_nextLeft_0 15 rfl rfl)
theorem dX7_nextLeft_18 : decode cX7_nextLeft 18 = .ok (.bipush 43, 2) := dk_16 43 (dk_at dksX7_nextLeft_0 18 rfl rfl)
theorem dX7_nextLeft_20 : decode cX7_nextLeft 20 = .ok (.iload_n 1, 1) := dk_27 (dk_at dksX7_nextLeft_0 20 rfl rfl)
theorem dX7_nextLeft_21 : decode cX7_nextLeft 21 = .ok (.iadd, 1) := dk_96 (dk_at dksX7_nextLeft_0 21 rfl rfl)
theorem dX7_nextLeft_22 : decode cX7_nextLeft 22 = .ok (.iaload, 1) := dk_46 (dk_at dksX7_nextLeft_0 22 rfl rfl)
theorem dX7_nextLeft_23 : decode cX7_nextLeft 23 = .ok (.istore_n 3, 1) := dk_62 (dk_at dksX7_nextLeft_0 23 rfl rfl)
theorem dX7_nextLeft_24 : decode cX7_nextLeft 24 = .ok (.bipush (-2), 2) := dk_16 254 (dk_at dksX7_nextLeft_1 0 rfl rfl)
theorem dX7_nextLeft_26 : decode cX7_nextLeft 26 = .ok (.istore 4, 2) := dk_54 4 (dk_at dksX7_nextLeft_1 2 rfl rfl)
theorem dX7_nextLeft_28 : decode cX7_nextLeft 28 = .ok (.aload_n 0, 1) := dk_42 (dk_at dksX7_nextLeft_1 4 rfl rfl)
theorem dX7_nextLeft_29 : decode cX7_nextLeft 29 = .ok (.invokevirtual 233, 3) := dk_182 0 233 (dk_at dksX7_nextLeft_1 5 rfl rfl)
theorem dX7_nextLeft_32 : decode cX7_nextLeft 32 = .ok (.istore 5, 2) := dk_54 5 (dk_at dksX7_nextLeft_1 8 rfl rfl)
theorem dX7_nextLeft_34 : decode cX7_nextLeft 34 = .ok (.iload 4, 2) := dk_21 4 (dk_at dksX7_nextLeft_1 10 rfl rfl)
theorem dX7_nextLeft_36 : decode cX7_nextLeft 36 = .ok (.ifCond .ge 78, 3) := dk_156 0 78 (dk_at dksX7_nextLeft_1 12 rfl rfl)
theorem dX7_nextLeft_39 : decode cX7_nextLeft 39 = .ok (.aload_n 0, 1) := dk_42 (dk_at dksX7_nextLeft_1 15 rfl rfl)
theorem dX7_nextLeft_40 : decode cX7_nextLeft 40 = .ok (.iload 5, 2) := dk_21 5 (dk_at dksX7_nextLeft_1 16 rfl rfl)
theorem dX7_nextLeft_42 : decode cX7_nextLeft 42 = .ok (.iconst 2, 1) := dk_5 (dk_at dksX7_nextLeft_1 18 rfl rfl)
theorem dX7_nextLeft_43 : decode cX7_nextLeft 43 = .ok (.invokevirtual 171, 3) := dk_182 0 171 (dk_at dksX7_nextLeft_1 19 rfl rfl)
theorem dX7_nextLeft_46 : decode cX7_nextLeft 46 = .ok (.aload_n 0, 1) := dk_42 (dk_at dksX7_nextLeft_1 22 rfl rfl)
theorem dX7_nextLeft_47 : decode cX7_nextLeft 47 = .ok (.getfield 58, 3) := dk_180 0 58 (dk_at dksX7_nextLeft_2 0 rfl rfl)
theorem dX7_nextLeft_50 : decode cX7_nextLeft 50 = .ok (.iconst 0, 1) := dk_3 (dk_at dksX7_nextLeft_2 3 rfl rfl)
theorem dX7_nextLeft_51 : decode cX7_nextLeft 51 = .ok (.iaload, 1) := dk_46 (dk_at dksX7_nextLeft_2 4 rfl rfl)
theorem dX7_nextLeft_52 : decode cX7_nextLeft 52 = .ok (.sipush 3600, 3) := dk_17 14 16 (dk_at dksX7_nextLeft_2 5 rfl rfl)
theorem dX7_nextLeft_55 : decode cX7_nextLeft 55 = .ok (.iadd, 1) := dk_96 (dk_at dksX7_nextLeft_2 8 rfl rfl)
theorem dX7_nextLeft_56 : decode cX7_nextLeft 56 = .ok (.if_icmp .gt 58, 3) := dk_163 0 58 (dk_at dksX7_nextLeft_2 9 rfl rfl)
theorem dX7_nextLeft_59 : decode cX7_nextLeft 59 = .ok (.aload_n 0, 1) := dk_42 (dk_at dksX7_nextLeft_2 12 rfl rfl)
theorem dX7_nextLeft_60 : decode cX7_nextLeft 60 = .ok (.iload 5, 2) := dk_21 5 (dk_at dksX7_nextLeft_2 13 rfl rfl)
theorem dX7_nextLeft_62 : decode cX7_nextLeft 62 = .ok (.iconst 2, 1) := dk_5 (dk_at dksX7_nextLeft_2 15 rfl rfl)
theorem dX7_nextLeft_63 : decode cX7_nextLeft 63 = .ok (.invokevirtual 171, 3) := dk_182 0 171 (dk_at dksX7_nextLeft_2 16 rfl rfl)
theorem dX7_nextLeft_66 : decode cX7_nextLeft 66 = .ok (.istore 6, 2) := dk_54 6 (dk_at dksX7_nextLeft_2 19 rfl rfl)
theorem dX7_nextLeft_68 : decode cX7_nextLeft 68 = .ok (.aload_n 0, 1) := dk_42 (dk_at dksX7_nextLeft_2 21 rfl rfl)
theorem dX7_nextLeft_69 : decode cX7_nextLeft 69 = .ok (.iload 5, 2) := dk_21 5 (dk_at dksX7_nextLeft_2 22 rfl rfl)
theorem dX7_nextLeft_71 : decode cX7_nextLeft 71 = .ok (.invokevirtual 237, 3) := dk_182 0 237 (dk_at dksX7_nextLeft_3 0 rfl rfl)
theorem dX7_nextLeft_74 : decode cX7_nextLeft 74 = .ok (.aload_n 0, 1) := dk_42 (dk_at dksX7_nextLeft_3 3 rfl rfl)
theorem dX7_nextLeft_75 : decode cX7_nextLeft 75 = .ok (.getfield 51, 3) := dk_180 0 51 (dk_at dksX7_nextLeft_3 4 rfl rfl)
theorem dX7_nextLeft_78 : decode cX7_nextLeft 78 = .ok (.bipush 43, 2) := dk_16 43 (dk_at dksX7_nextLeft_3 7 rfl rfl)
theorem dX7_nextLeft_80 : decode cX7_nextLeft 80 = .ok (.iload_n 1, 1) := dk_27 (dk_at dksX7_nextLeft_3 9 rfl rfl)
theorem dX7_nextLeft_81 : decode cX7_nextLeft 81 = .ok (.iadd, 1) := dk_96 (dk_at dksX7_nextLeft_3 10 rfl rfl)
theorem dX7_nextLeft_82 : decode cX7_nextLeft 82 = .ok (.iaload, 1) := dk_46 (dk_at dksX7_nextLeft_3 11 rfl rfl)
theorem dX7_nextLeft_83 : decode cX7_nextLeft 83 = .ok (.iload_n 3, 1) := dk_29 (dk_at dksX7_nextLeft_3 12 rfl rfl)
theorem dX7_nextLeft_84 : decode cX7_nextLeft 84 = .ok (.if_icmp .ne 8, 3) := dk_160 0 8 (dk_at dksX7_nextLeft_3 13 rfl rfl)
theorem dX7_nextLeft_87 : decode cX7_nextLeft 87 = .ok (.bipush (-2), 2) := dk_16 254 (dk_at dksX7_nextLeft_3 16 rfl rfl)
theorem dX7_nextLeft_89 : decode cX7_nextLeft 89 = .ok (.goto 14, 3) := dk_167 0 14 (dk_at dksX7_nextLeft_3 18 rfl rfl)
theorem dX7_nextLeft_92 : decode cX7_nextLeft 92 = .ok (.iload_n 2, 1) := dk_28 (dk_at dksX7_nextLeft_3 21 rfl rfl)
theorem dX7_nextLeft_93 : decode cX7_nextLeft 93 = .ok (.ifCond .eq 8, 3) := dk_153 0 8 (dk_at dksX7_nextLeft_4 0 rfl rfl)
theorem dX7_nextLeft_96 : decode cX7_nextLeft 96 = .ok (.iload 6, 2) := dk_21 6 (dk_at dksX7_nextLeft_4 3 rfl rfl)
theorem dX7_nextLeft_98 : decode cX7_nextLeft 98 = .ok (.goto 5, 3) := dk_167 0 5 (dk_at dksX7_nextLeft_4 5 rfl rfl)
theorem dX7_nextLeft_101 : decode cX7_nextLeft 101 = .ok (.iload 5, 2) := dk_21 5 (dk_at dksX7_nextLeft_4 8 rfl rfl)
theorem dX7_nextLeft_103 : decode cX7_nextLeft 103 = .ok (.istore 4, 2) := dk_54 4 (dk_at dksX7_nextLeft_4 10 rfl rfl)
theorem dX7_nextLeft_105 : decode cX7_nextLeft 105 = .ok (.aload_n 0, 1) := dk_42 (dk_at dksX7_nextLeft_4 12 rfl rfl)
theorem dX7_nextLeft_106 : decode cX7_nextLeft 106 = .ok (.invokevirtual 233, 3) := dk_182 0 233 (dk_at dksX7_nextLeft_4 13 rfl rfl)
theorem dX7_nextLeft_109 : decode cX7_nextLeft 109 = .ok (.istore 5, 2) := dk_54 5 (dk_at dksX7_nextLeft_4 16 rfl rfl)
theorem dX7_nextLeft_111 : decode cX7_nextLeft 111 = .ok (.goto (-77), 3) := dk_167 255 179 (dk_at dksX7_nextLeft_4 18 rfl rfl)
theorem dX7_nextLeft_114 : decode cX7_nextLeft 114 = .ok (.aload_n 0, 1) := dk_42 (dk_at dksX7_nextLeft_4 21 rfl rfl)
theorem dX7_nextLeft_115 : decode cX7_nextLeft 115 = .ok (.invokevirtual 444, 3) := dk_182 1 188 (dk_at dksX7_nextLeft_5 0 rfl rfl)
theorem dX7_nextLeft_118 : decode cX7_nextLeft 118 = .ok (.iload 4, 2) := dk_21 4 (dk_at dksX7_nextLeft_5 3 rfl rfl)
theorem dX7_nextLeft_120 : decode cX7_nextLeft 120 = .ok (.ireturn, 1) := dk_172 (dk_at dksX7_nextLeft_5 5 rfl rfl)
abbrev cX7_would : ByteArray := prog_13_method_99_code
def yX7_would : MethodName := ⟨RX7, "would", "(III)I"⟩
def dkwX7_would_4 : List UInt8 := [182, 1, 196, 21, 4, 100, 54, 6, 42, 182, 1, 188, 21, 6, 172]
abbrev dktX7_would_4 : List UInt8 := dkwX7_would_4 ++ []
def dkwX7_would_3 : List UInt8 := [160, 0, 20, 42, 180, 0, 54, 3, 47, 42, 180, 0, 61, 3, 47, 101, 136, 167, 0, 11, 42, 29]
abbrev dktX7_would_3 : List UInt8 := dkwX7_would_3 ++ dktX7_would_4
def dkwX7_would_2 : List UInt8 := [180, 0, 51, 4, 27, 79, 42, 42, 180, 0, 51, 3, 46, 28, 96, 182, 1, 148, 54, 5, 29, 6]
abbrev dktX7_would_2 : List UInt8 := dkwX7_would_2 ++ dktX7_would_3
def dkwX7_would_1 : List UInt8 := [20, 1, 194, 184, 0, 146, 154, 0, 5, 2, 172, 42, 182, 1, 182, 42, 29, 182, 1, 196, 54, 4, 42]
abbrev dktX7_would_1 : List UInt8 := dkwX7_would_1 ++ dktX7_would_2
def dkwX7_would_0 : List UInt8 := [27, 184, 1, 115, 153, 0, 27, 28, 133, 10, 20, 1, 129, 184, 0, 146, 153, 0, 15, 29, 133, 9]
abbrev dktX7_would_0 : List UInt8 := dkwX7_would_0 ++ dktX7_would_1
theorem dksX7_would_0 : cX7_would.data.toList.drop 0 = dktX7_would_0 := by decide +kernel
theorem dksX7_would_1 : cX7_would.data.toList.drop 22 = dktX7_would_1 := dk_seg dksX7_would_0 22 rfl rfl
theorem dksX7_would_2 : cX7_would.data.toList.drop 45 = dktX7_would_2 := dk_seg dksX7_would_1 23 rfl rfl
theorem dksX7_would_3 : cX7_would.data.toList.drop 67 = dktX7_would_3 := dk_seg dksX7_would_2 22 rfl rfl
theorem dksX7_would_4 : cX7_would.data.toList.drop 89 = dktX7_would_4 := dk_seg dksX7_would_3 22 rfl rfl
theorem dX7_would_0 : decode cX7_would 0 = .ok (.iload_n 1, 1) := dk_27 (dk_at dksX7_would_0 0 rfl rfl)
theorem dX7_would_1 : decode cX7_would 1 = .ok (.invokestatic 371, 3) := dk_184 1 115 (dk_at dksX7_would_0 1 rfl rfl)
theorem dX7_would_4 : decode cX7_would 4 = .ok (.ifCond .eq 27, 3) := dk_153 0 27 (dk_at dksX7_would_0 4 rfl rfl)
theorem dX7_would_7 : decode cX7_would 7 = .ok (.iload_n 2, 1) := dk_28 (dk_at dksX7_would_0 7 rfl rfl)
theorem dX7_would_8 : decode cX7_would 8 = .ok (.i2l, 1) := dk_133 (dk_at dksX7_would_0 8 rfl rfl)
theorem dX7_would_9 : decode cX7_would 9 = .ok (.lconst 1, 1) := dk_10 (dk_at dksX7_would_0 9 rfl rfl)
theorem dX7_would_10 : decode cX7_would 10 = .ok (.ldc2_w 385, 3) := dk_20 1 129 (dk_at dksX7_would_0 10 rfl rfl)
theorem dX7_would_13 : decode cX7_would 13 = .ok (.invokestatic 146, 3) := dk_184 0 146 (dk_at dksX7_would_0 13 rfl rfl)
theorem dX7_would_16 : decode cX7_would 16 = .ok (.ifCond .eq 15, 3) := dk_153 0 15 (dk_at dksX7_would_0 16 rfl rfl)
theorem dX7_would_19 : decode cX7_would 19 = .ok (.iload_n 3, 1) := dk_29 (dk_at dksX7_would_0 19 rfl rfl)
theorem dX7_would_20 : decode cX7_would 20 = .ok (.i2l, 1) := dk_133 (dk_at dksX7_would_0 20 rfl rfl)
theorem dX7_would_21 : decode cX7_would 21 = .ok (.lconst 0, 1) := dk_9 (dk_at dksX7_would_0 21 rfl rfl)
theorem dX7_would_22 : decode cX7_would 22 = .ok (.ldc2_w 450, 3) := dk_20 1 194 (dk_at dksX7_would_1 0 rfl rfl)
theorem dX7_would_25 : decode cX7_would 25 = .ok (.invokestatic 146, 3) := dk_184 0 146 (dk_at dksX7_would_1 3 rfl rfl)
theorem dX7_would_28 : decode cX7_would 28 = .ok (.ifCond .ne 5, 3) := dk_154 0 5 (dk_at dksX7_would_1 6 rfl rfl)
theorem dX7_would_31 : decode cX7_would 31 = .ok (.iconst (-1), 1) := dk_2 (dk_at dksX7_would_1 9 rfl rfl)
theorem dX7_would_32 : decode cX7_would 32 = .ok (.ireturn, 1) := dk_172 (dk_at dksX7_would_1 10 rfl rfl)
theorem dX7_would_33 : decode cX7_would 33 = .ok (.aload_n 0, 1) := dk_42 (dk_at dksX7_would_1 11 rfl rfl)
theorem dX7_would_34 : decode cX7_would 34 = .ok (.invokevirtual 438, 3) := dk_182 1 182 (dk_at dksX7_would_1 12 rfl rfl)
theorem dX7_would_37 : decode cX7_would 37 = .ok (.aload_n 0, 1) := dk_42 (dk_at dksX7_would_1 15 rfl rfl)
theorem dX7_would_38 : decode cX7_would 38 = .ok (.iload_n 3, 1) := dk_29 (dk_at dksX7_would_1 16 rfl rfl)
theorem dX7_would_39 : decode cX7_would 39 = .ok (.invokevirtual 452, 3) := dk_182 1 196 (dk_at dksX7_would_1 17 rfl rfl)
theorem dX7_would_42 : decode cX7_would 42 = .ok (.istore 4, 2) := dk_54 4 (dk_at dksX7_would_1 20 rfl rfl)
theorem dX7_would_44 : decode cX7_would 44 = .ok (.aload_n 0, 1) := dk_42 (dk_at dksX7_would_1 22 rfl rfl)
theorem dX7_would_45 : decode cX7_would 45 = .ok (.getfield 51, 3) := dk_180 0 51 (dk_at dksX7_would_2 0 rfl rfl)
theorem dX7_would_48 : decode cX7_would 48 = .ok (.iconst 1, 1) := dk_4 (dk_at dksX7_would_2 3 rfl rfl)
theorem dX7_would_49 : decode cX7_would 49 = .ok (.iload_n 1, 1) := dk_27 (dk_at dksX7_would_2 4 rfl rfl)
theorem dX7_would_50 : decode cX7_would 50 = .ok (.iastore, 1) := dk_79 (dk_at dksX7_would_2 5 rfl rfl)
theorem dX7_would_51 : decode cX7_would 51 = .ok (.aload_n 0, 1) := dk_42 (dk_at dksX7_would_2 6 rfl rfl)
theorem dX7_would_52 : decode cX7_would 52 = .ok (.aload_n 0, 1) := dk_42 (dk_at dksX7_would_2 7 rfl rfl)
theorem dX7_would_53 : decode cX7_would 53 = .ok (.getfield 51, 3) := dk_180 0 51 (dk_at dksX7_would_2 8 rfl rfl)
theorem dX7_would_56 : decode cX7_would 56 = .ok (.iconst 0, 1) := dk_3 (dk_at dksX7_would_2 11 rfl rfl)
theorem dX7_would_57 : decode cX7_would 57 = .ok (.iaload, 1) := dk_46 (dk_at dksX7_would_2 12 rfl rfl)
theorem dX7_would_58 : decode cX7_would 58 = .ok (.iload_n 2, 1) := dk_28 (dk_at dksX7_would_2 13 rfl rfl)
theorem dX7_would_59 : decode cX7_would 59 = .ok (.iadd, 1) := dk_96 (dk_at dksX7_would_2 14 rfl rfl)
theorem dX7_would_60 : decode cX7_would 60 = .ok (.invokevirtual 404, 3) := dk_182 1 148 (dk_at dksX7_would_2 15 rfl rfl)
theorem dX7_would_63 : decode cX7_would 63 = .ok (.istore 5, 2) := dk_54 5 (dk_at dksX7_would_2 18 rfl rfl)
theorem dX7_would_65 : decode cX7_would 65 = .ok (.iload_n 3, 1) := dk_29 (dk_at dksX7_would_2 20 rfl rfl)
theorem dX7_would_66 : decode cX7_would 66 = .ok (.iconst 3, 1) := dk_6 (dk_at dksX7_would_2 21 rfl rfl)
theorem dX7_would_67 : decode cX7_would 67 = .ok (.if_icmp .ne 20, 3) := dk_160 0 20 (dk_at dksX7_would_3 0 rfl rfl)
theorem dX7_would_70 : decode cX7_would 70 = .ok (.aload_n 0, 1) := dk_42 (dk_at dksX7_would_3 3 rfl rfl)
theorem dX7_would_71 : decode cX7_would 71 = .ok (.getfield 54, 3) := dk_180 0 54 (dk_at dksX7_would_3 4 rfl rfl)
theorem dX7_would_74 : decode cX7_would 74 = .ok (.iconst 0, 1) := dk_3 (dk_at dksX7_would_3 7 rfl rfl)
theorem dX7_would_75 : decode cX7_would 75 = .ok (.laload, 1) := dk_47 (dk_at dksX7_would_3 8 rfl rfl)
theorem dX7_would_76 : decode cX7_would 76 = .ok (.aload_n 0, 1) := dk_42 (dk_at dksX7_would_3 9 rfl rfl)
theorem dX7_would_77 : decode cX7_would 77 = .ok (.getfield 61, 3) := dk_180 0 61 (dk_at dksX7_would_3 10 rfl rfl)
theorem dX7_would_80 : decode cX7_would 80 = .ok (.iconst 0, 1) := dk_3 (dk_at dksX7_would_3 13 rfl rfl)
theorem dX7_would_81 : decode cX7_would 81 = .ok (.laload, 1) := dk_47 (dk_at dksX7_would_3 14 rfl rfl)
theorem dX7_would_82 : decode cX7_would 82 = .ok (.lsub, 1) := dk_101 (dk_at dksX7_would_3 15 rfl rfl)
theorem dX7_would_83 : decode cX7_would 83 = .ok (.l2i, 1) := dk_136 (dk_at dksX7_would_3 16 rfl rfl)
theorem dX7_would_84 : decode cX7_would 84 = .ok (.goto 11, 3) := dk_167 0 11 (dk_at dksX7_would_3 17 rfl rfl)
theorem dX7_would_87 : decode cX7_would 87 = .ok (.aload_n 0, 1) := dk_42 (dk_at dksX7_would_3 20 rfl rfl)
theorem dX7_would_88 : decode cX7_would 88 = .ok (.iload_n 3, 1) := dk_29 (dk_at dksX7_would_3 21 rfl rfl)
theorem dX7_would_89 : decode cX7_would 89 = .ok (.invokevirtual 452, 3) := dk_182 1 196 (dk_at dksX7_would_4 0 rfl rfl)
theorem dX7_would_92 : decode cX7_would 92 = .ok (.iload 4, 2) := dk_21 4 (dk_at dksX7_would_4 3 rfl rfl)
theorem dX7_would_94 : decode cX7_would 94 = .ok (.isub, 1) := dk_100 (dk_at dksX7_would_4 5 rfl rfl)
theorem dX7_would_95 : decode cX7_would 95 = .ok (.istore 6, 2) := dk_54 6 (dk_at dksX7_would_4 6 rfl rfl)
theorem dX7_would_97 : decode cX7_would 97 = .ok (.aload_n 0, 1) := dk_42 (dk_at dksX7_would_4 8 rfl rfl)
theorem dX7_would_98 : decode cX7_would 98 = .ok (.invokevirtual 444, 3) := dk_182 1 188 (dk_at dksX7_would_4 9 rfl rfl)
theorem dX7_would_101 : decode cX7_would 101 = .ok (.iload 6, 2) := dk_21 6 (dk_at dksX7_would_4 12 rfl rfl)
theorem dX7_would_103 : decode cX7_would 103 = .ok (.ireturn, 1) := dk_172 (dk_at dksX7_would_4 14 rfl rfl)
abbrev cX7_told : ByteArray := prog_13_method_98_code
def yX7_told : MethodName := ⟨RX7, "told", "(I)I"⟩
def dkwX7_told_3 : List UInt8 := [42, 180, 0, 51, 16, 6, 46, 172, 42, 180, 0, 51, 16, 10, 46, 172]
abbrev dktX7_told_3 : List UInt8 := dkwX7_told_3 ++ []
def dkwX7_told_2 : List UInt8 := [42, 6, 182, 1, 191, 172, 42, 7, 182, 1, 191, 172, 42, 5, 182, 1, 191, 42, 4, 182, 1, 191, 96, 172]
abbrev dktX7_told_2 : List UInt8 := dkwX7_told_2 ++ dktX7_told_3
def dkwX7_told_1 : List UInt8 := [170, 0, 0, 0, 0, 0, 67, 0, 0, 0, 0, 0, 0, 0, 4, 0, 0, 0, 35, 0, 0, 0, 41, 0, 0, 0, 47, 0, 0, 0, 67, 0, 0, 0, 59]
abbrev dktX7_told_1 : List UInt8 := dkwX7_told_1 ++ dktX7_told_2
def dkwX7_told_0 : List UInt8 := [27]
abbrev dktX7_told_0 : List UInt8 := dkwX7_told_0 ++ dktX7_told_1
theorem dksX7_told_0 : cX7_told.data.toList.drop 0 = dktX7_told_0 := by decide +kernel
theorem dksX7_told_1 : cX7_told.data.toList.drop 1 = dktX7_told_1 := dk_seg dksX7_told_0 1 rfl rfl
theorem dksX7_told_2 : cX7_told.data.toList.drop 36 = dktX7_told_2 := dk_seg dksX7_told_1 35 rfl rfl
theorem dksX7_told_3 : cX7_told.data.toList.drop 60 = dktX7_told_3 := dk_seg dksX7_told_2 24 rfl rfl
theorem dX7_told_0 : decode cX7_told 0 = .ok (.iload_n 1, 1) := dk_27 (dk_at dksX7_told_0 0 rfl rfl)
theorem dX7_told_1 : decode cX7_told 1 = .ok (.tableswitch 67 0 4 #[35, 41, 47, 67, 59], 35) := by decide +kernel
theorem dX7_told_36 : decode cX7_told 36 = .ok (.aload_n 0, 1) := dk_42 (dk_at dksX7_told_2 0 rfl rfl)
theorem dX7_told_37 : decode cX7_told 37 = .ok (.iconst 3, 1) := dk_6 (dk_at dksX7_told_2 1 rfl rfl)
theorem dX7_told_38 : decode cX7_told 38 = .ok (.invokevirtual 447, 3) := dk_182 1 191 (dk_at dksX7_told_2 2 rfl rfl)
theorem dX7_told_41 : decode cX7_told 41 = .ok (.ireturn, 1) := dk_172 (dk_at dksX7_told_2 5 rfl rfl)
theorem dX7_told_42 : decode cX7_told 42 = .ok (.aload_n 0, 1) := dk_42 (dk_at dksX7_told_2 6 rfl rfl)
theorem dX7_told_43 : decode cX7_told 43 = .ok (.iconst 4, 1) := dk_7 (dk_at dksX7_told_2 7 rfl rfl)
theorem dX7_told_44 : decode cX7_told 44 = .ok (.invokevirtual 447, 3) := dk_182 1 191 (dk_at dksX7_told_2 8 rfl rfl)
theorem dX7_told_47 : decode cX7_told 47 = .ok (.ireturn, 1) := dk_172 (dk_at dksX7_told_2 11 rfl rfl)
theorem dX7_told_48 : decode cX7_told 48 = .ok (.aload_n 0, 1) := dk_42 (dk_at dksX7_told_2 12 rfl rfl)
theorem dX7_told_49 : decode cX7_told 49 = .ok (.iconst 2, 1) := dk_5 (dk_at dksX7_told_2 13 rfl rfl)
theorem dX7_told_50 : decode cX7_told 50 = .ok (.invokevirtual 447, 3) := dk_182 1 191 (dk_at dksX7_told_2 14 rfl rfl)
theorem dX7_told_53 : decode cX7_told 53 = .ok (.aload_n 0, 1) := dk_42 (dk_at dksX7_told_2 17 rfl rfl)
theorem dX7_told_54 : decode cX7_told 54 = .ok (.iconst 1, 1) := dk_4 (dk_at dksX7_told_2 18 rfl rfl)
theorem dX7_told_55 : decode cX7_told 55 = .ok (.invokevirtual 447, 3) := dk_182 1 191 (dk_at dksX7_told_2 19 rfl rfl)
theorem dX7_told_58 : decode cX7_told 58 = .ok (.iadd, 1) := dk_96 (dk_at dksX7_told_2 22 rfl rfl)
theorem dX7_told_59 : decode cX7_told 59 = .ok (.ireturn, 1) := dk_172 (dk_at dksX7_told_2 23 rfl rfl)
theorem dX7_told_60 : decode cX7_told 60 = .ok (.aload_n 0, 1) := dk_42 (dk_at dksX7_told_3 0 rfl rfl)
theorem dX7_told_61 : decode cX7_told 61 = .ok (.getfield 51, 3) := dk_180 0 51 (dk_at dksX7_told_3 1 rfl rfl)
theorem dX7_told_64 : decode cX7_told 64 = .ok (.bipush 6, 2) := dk_16 6 (dk_at dksX7_told_3 4 rfl rfl)
theorem dX7_told_66 : decode cX7_told 66 = .ok (.iaload, 1) := dk_46 (dk_at dksX7_told_3 6 rfl rfl)
theorem dX7_told_67 : decode cX7_told 67 = .ok (.ireturn, 1) := dk_172 (dk_at dksX7_told_3 7 rfl rfl)
theorem dX7_told_68 : decode cX7_told 68 = .ok (.aload_n 0, 1) := dk_42 (dk_at dksX7_told_3 8 rfl rfl)
theorem dX7_told_69 : decode cX7_told 69 = .ok (.getfield 51, 3) := dk_180 0 51 (dk_at dksX7_told_3 9 rfl rfl)
theorem dX7_told_72 : decode cX7_told 72 = .ok (.bipush 10, 2) := dk_16 10 (dk_at dksX7_told_3 12 rfl rfl)
theorem dX7_told_74 : decode cX7_told 74 = .ok (.iaload, 1) := dk_46 (dk_at dksX7_told_3 14 rfl rfl)
theorem dX7_told_75 : decode cX7_told 75 = .ok (.ireturn, 1) := dk_172 (dk_at dksX7_told_3 15 rfl rfl)
abbrev cX7_sumOf : ByteArray := prog_13_method_97_code
def yX7_sumOf : MethodName := ⟨RX7, "sumOf", "(I)I"⟩
def dkwX7_sumOf_1 : List UInt8 := [167, 255, 238, 28, 172]
abbrev dktX7_sumOf_1 : List UInt8 := dkwX7_sumOf_1 ++ []
def dkwX7_sumOf_0 : List UInt8 := [3, 61, 3, 62, 29, 16, 16, 163, 0, 18, 28, 42, 29, 27, 182, 1, 165, 96, 61, 132, 3, 1]
abbrev dktX7_sumOf_0 : List UInt8 := dkwX7_sumOf_0 ++ dktX7_sumOf_1
theorem dksX7_sumOf_0 : cX7_sumOf.data.toList.drop 0 = dktX7_sumOf_0 := by decide +kernel
theorem dksX7_sumOf_1 : cX7_sumOf.data.toList.drop 22 = dktX7_sumOf_1 := dk_seg dksX7_sumOf_0 22 rfl rfl
theorem dX7_sumOf_0 : decode cX7_sumOf 0 = .ok (.iconst 0, 1) := dk_3 (dk_at dksX7_sumOf_0 0 rfl rfl)
theorem dX7_sumOf_1 : decode cX7_sumOf 1 = .ok (.istore_n 2, 1) := dk_61 (dk_at dksX7_sumOf_0 1 rfl rfl)
theorem dX7_sumOf_2 : decode cX7_sumOf 2 = .ok (.iconst 0, 1) := dk_3 (dk_at dksX7_sumOf_0 2 rfl rfl)
theorem dX7_sumOf_3 : decode cX7_sumOf 3 = .ok (.istore_n 3, 1) := dk_62 (dk_at dksX7_sumOf_0 3 rfl rfl)
theorem dX7_sumOf_4 : decode cX7_sumOf 4 = .ok (.iload_n 3, 1) := dk_29 (dk_at dksX7_sumOf_0 4 rfl rfl)
theorem dX7_sumOf_5 : decode cX7_sumOf 5 = .ok (.bipush 16, 2) := dk_16 16 (dk_at dksX7_sumOf_0 5 rfl rfl)
theorem dX7_sumOf_7 : decode cX7_sumOf 7 = .ok (.if_icmp .gt 18, 3) := dk_163 0 18 (dk_at dksX7_sumOf_0 7 rfl rfl)
theorem dX7_sumOf_10 : decode cX7_sumOf 10 = .ok (.iload_n 2, 1) := dk_28 (dk_at dksX7_sumOf_0 10 rfl rfl)
theorem dX7_sumOf_11 : decode cX7_sumOf 11 = .ok (.aload_n 0, 1) := dk_42 (dk_at dksX7_sumOf_0 11 rfl rfl)
theorem dX7_sumOf_12 : decode cX7_sumOf 12 = .ok (.iload_n 3, 1) := dk_29 (dk_at dksX7_sumOf_0 12 rfl rfl)
theorem dX7_sumOf_13 : decode cX7_sumOf 13 = .ok (.iload_n 1, 1) := dk_27 (dk_at dksX7_sumOf_0 13 rfl rfl)
theorem dX7_sumOf_14 : decode cX7_sumOf 14 = .ok (.invokevirtual 421, 3) := dk_182 1 165 (dk_at dksX7_sumOf_0 14 rfl rfl)
theorem dX7_sumOf_17 : decode cX7_sumOf 17 = .ok (.iadd, 1) := dk_96 (dk_at dksX7_sumOf_0 17 rfl rfl)
theorem dX7_sumOf_18 : decode cX7_sumOf 18 = .ok (.istore_n 2, 1) := dk_61 (dk_at dksX7_sumOf_0 18 rfl rfl)
theorem dX7_sumOf_19 : decode cX7_sumOf 19 = .ok (.iinc 3 1, 3) := dk_132 3 1 (dk_at dksX7_sumOf_0 19 rfl rfl)
theorem dX7_sumOf_22 : decode cX7_sumOf 22 = .ok (.goto (-18), 3) := dk_167 255 238 (dk_at dksX7_sumOf_1 0 rfl rfl)
theorem dX7_sumOf_25 : decode cX7_sumOf 25 = .ok (.iload_n 2, 1) := dk_28 (dk_at dksX7_sumOf_1 3 rfl rfl)
theorem dX7_sumOf_26 : decode cX7_sumOf 26 = .ok (.ireturn, 1) := dk_172 (dk_at dksX7_sumOf_1 4 rfl rfl)
abbrev cX7_bestMode : ByteArray := prog_13_method_100_code
def yX7_bestMode : MethodName := ⟨RX7, "bestMode", "(I)I"⟩
def dkwX7_bestMode_4 : List UInt8 := [21, 4, 162, 0, 13, 21, 5, 61, 21, 6, 62, 21, 7, 54, 4, 132, 5, 1, 167, 255, 167, 28, 172]
abbrev dktX7_bestMode_4 : List UInt8 := dkwX7_bestMode_4 ++ []
def dkwX7_bestMode_3 : List UInt8 := [42, 182, 1, 188, 21, 5, 153, 0, 22, 21, 6, 29, 163, 0, 16, 21, 6, 29, 160, 0, 20, 21, 7]
abbrev dktX7_bestMode_3 : List UInt8 := dkwX7_bestMode_3 ++ dktX7_bestMode_4
def dkwX7_bestMode_2 : List UInt8 := [46, 27, 96, 182, 1, 148, 54, 6, 42, 180, 0, 54, 3, 47, 42, 180, 0, 61, 3, 47, 101, 136, 54, 7]
abbrev dktX7_bestMode_2 : List UInt8 := dkwX7_bestMode_2 ++ dktX7_bestMode_3
def dkwX7_bestMode_1 : List UInt8 := [21, 5, 7, 162, 0, 89, 42, 182, 1, 182, 42, 180, 0, 51, 4, 21, 5, 79, 42, 42, 180, 0, 51, 3]
abbrev dktX7_bestMode_1 : List UInt8 := dkwX7_bestMode_1 ++ dktX7_bestMode_2
def dkwX7_bestMode_0 : List UInt8 := [27, 133, 10, 20, 1, 129, 184, 0, 146, 154, 0, 5, 2, 172, 3, 61, 3, 62, 3, 54, 4, 3, 54, 5]
abbrev dktX7_bestMode_0 : List UInt8 := dkwX7_bestMode_0 ++ dktX7_bestMode_1
theorem dksX7_bestMode_0 : cX7_bestMode.data.toList.drop 0 = dktX7_bestMode_0 := by decide +kernel
theorem dksX7_bestMode_1 : cX7_bestMode.data.toList.drop 24 = dktX7_bestMode_1 := dk_seg dksX7_bestMode_0 24 rfl rfl
theorem dksX7_bestMode_2 : cX7_bestMode.data.toList.drop 48 = dktX7_bestMode_2 := dk_seg dksX7_bestMode_1 24 rfl rfl
theorem dksX7_bestMode_3 : cX7_bestMode.data.toList.drop 72 = dktX7_bestMode_3 := dk_seg dksX7_bestMode_2 24 rfl rfl
theorem dksX7_bestMode_4 : cX7_bestMode.data.toList.drop 95 = dktX7_bestMode_4 := dk_seg dksX7_bestMode_3 23 rfl rfl
theorem dX7_bestMode_0 : decode cX7_bestMode 0 = .ok (.iload_n 1, 1) := dk_27 (dk_at dksX7_bestMode_0 0 rfl rfl)
theorem dX7_bestMode_1 : decode cX7_bestMode 1 = .ok (.i2l, 1) := dk_133 (dk_at dksX7_bestMode_0 1 rfl rfl)
theorem dX7_bestMode_2 : decode cX7_bestMode 2 = .ok (.lconst 1, 1) := dk_10 (dk_at dksX7_bestMode_0 2 rfl rfl)
theorem dX7_bestMode_3 : decode cX7_bestMode 3 = .ok (.ldc2_w 385, 3) := dk_20 1 129 (dk_at dksX7_bestMode_0 3 rfl rfl)
theorem dX7_bestMode_6 : decode cX7_bestMode 6 = .ok (.invokestatic 146, 3) := dk_184 0 146 (dk_at dksX7_bestMode_0 6 rfl rfl)
theorem dX7_bestMode_9 : decode cX7_bestMode 9 = .ok (.ifCond .ne 5, 3) := dk_154 0 5 (dk_at dksX7_bestMode_0 9 rfl rfl)
theorem dX7_bestMode_12 : decode cX7_bestMode 12 = .ok (.iconst (-1), 1) := dk_2 (dk_at dksX7_bestMode_0 12 rfl rfl)
theorem dX7_bestMode_13 : decode cX7_bestMode 13 = .ok (.ireturn, 1) := dk_172 (dk_at dksX7_bestMode_0 13 rfl rfl)
theorem dX7_bestMode_14 : decode cX7_bestMode 14 = .ok (.iconst 0, 1) := dk_3 (dk_at dksX7_bestMode_0 14 rfl rfl)
theorem dX7_bestMode_15 : decode cX7_bestMode 15 = .ok (.istore_n 2, 1) := dk_61 (dk_at dksX7_bestMode_0 15 rfl rfl)
theorem dX7_bestMode_16 : decode cX7_bestMode 16 = .ok (.iconst 0, 1) := dk_3 (dk_at dksX7_bestMode_0 16 rfl rfl)
theorem dX7_bestMode_17 : decode cX7_bestMode 17 = .ok (.istore_n 3, 1) := dk_62 (dk_at dksX7_bestMode_0 17 rfl rfl)
theorem dX7_bestMode_18 : decode cX7_bestMode 18 = .ok (.iconst 0, 1) := dk_3 (dk_at dksX7_bestMode_0 18 rfl rfl)
theorem dX7_bestMode_19 : decode cX7_bestMode 19 = .ok (.istore 4, 2) := dk_54 4 (dk_at dksX7_bestMode_0 19 rfl rfl)
theorem dX7_bestMode_21 : decode cX7_bestMode 21 = .ok (.iconst 0, 1) := dk_3 (dk_at dksX7_bestMode_0 21 rfl rfl)
theorem dX7_bestMode_22 : decode cX7_bestMode 22 = .ok (.istore 5, 2) := dk_54 5 (dk_at dksX7_bestMode_0 22 rfl rfl)
theorem dX7_bestMode_24 : decode cX7_bestMode 24 = .ok (.iload 5, 2) := dk_21 5 (dk_at dksX7_bestMode_1 0 rfl rfl)
theorem dX7_bestMode_26 : decode cX7_bestMode 26 = .ok (.iconst 4, 1) := dk_7 (dk_at dksX7_bestMode_1 2 rfl rfl)
theorem dX7_bestMode_27 : decode cX7_bestMode 27 = .ok (.if_icmp .ge 89, 3) := dk_162 0 89 (dk_at dksX7_bestMode_1 3 rfl rfl)
theorem dX7_bestMode_30 : decode cX7_bestMode 30 = .ok (.aload_n 0, 1) := dk_42 (dk_at dksX7_bestMode_1 6 rfl rfl)
theorem dX7_bestMode_31 : decode cX7_bestMode 31 = .ok (.invokevirtual 438, 3) := dk_182 1 182 (dk_at dksX7_bestMode_1 7 rfl rfl)
theorem dX7_bestMode_34 : decode cX7_bestMode 34 = .ok (.aload_n 0, 1) := dk_42 (dk_at dksX7_bestMode_1 10 rfl rfl)
theorem dX7_bestMode_35 : decode cX7_bestMode 35 = .ok (.getfield 51, 3) := dk_180 0 51 (dk_at dksX7_bestMode_1 11 rfl rfl)
theorem dX7_bestMode_38 : decode cX7_bestMode 38 = .ok (.iconst 1, 1) := dk_4 (dk_at dksX7_bestMode_1 14 rfl rfl)
theorem dX7_bestMode_39 : decode cX7_bestMode 39 = .ok (.iload 5, 2) := dk_21 5 (dk_at dksX7_bestMode_1 15 rfl rfl)
theorem dX7_bestMode_41 : decode cX7_bestMode 41 = .ok (.iastore, 1) := dk_79 (dk_at dksX7_bestMode_1 17 rfl rfl)
theorem dX7_bestMode_42 : decode cX7_bestMode 42 = .ok (.aload_n 0, 1) := dk_42 (dk_at dksX7_bestMode_1 18 rfl rfl)
theorem dX7_bestMode_43 : decode cX7_bestMode 43 = .ok (.aload_n 0, 1) := dk_42 (dk_at dksX7_bestMode_1 19 rfl rfl)
theorem dX7_bestMode_44 : decode cX7_bestMode 44 = .ok (.getfield 51, 3) := dk_180 0 51 (dk_at dksX7_bestMode_1 20 rfl rfl)
theorem dX7_bestMode_47 : decode cX7_bestMode 47 = .ok (.iconst 0, 1) := dk_3 (dk_at dksX7_bestMode_1 23 rfl rfl)
theorem dX7_bestMode_48 : decode cX7_bestMode 48 = .ok (.iaload, 1) := dk_46 (dk_at dksX7_bestMode_2 0 rfl rfl)
theorem dX7_bestMode_49 : decode cX7_bestMode 49 = .ok (.iload_n 1, 1) := dk_27 (dk_at dksX7_bestMode_2 1 rfl rfl)
theorem dX7_bestMode_50 : decode cX7_bestMode 50 = .ok (.iadd, 1) := dk_96 (dk_at dksX7_bestMode_2 2 rfl rfl)
theorem dX7_bestMode_51 : decode cX7_bestMode 51 = .ok (.invokevirtual 404, 3) := dk_182 1 148 (dk_at dksX7_bestMode_2 3 rfl rfl)
theorem dX7_bestMode_54 : decode cX7_bestMode 54 = .ok (.istore 6, 2) := dk_54 6 (dk_at dksX7_bestMode_2 6 rfl rfl)
theorem dX7_bestMode_56 : decode cX7_bestMode 56 = .ok (.aload_n 0, 1) := dk_42 (dk_at dksX7_bestMode_2 8 rfl rfl)
theorem dX7_bestMode_57 : decode cX7_bestMode 57 = .ok (.getfield 54, 3) := dk_180 0 54 (dk_at dksX7_bestMode_2 9 rfl rfl)
theorem dX7_bestMode_60 : decode cX7_bestMode 60 = .ok (.iconst 0, 1) := dk_3 (dk_at dksX7_bestMode_2 12 rfl rfl)
theorem dX7_bestMode_61 : decode cX7_bestMode 61 = .ok (.laload, 1) := dk_47 (dk_at dksX7_bestMode_2 13 rfl rfl)
theorem dX7_bestMode_62 : decode cX7_bestMode 62 = .ok (.aload_n 0, 1) := dk_42 (dk_at dksX7_bestMode_2 14 rfl rfl)
theorem dX7_bestMode_63 : decode cX7_bestMode 63 = .ok (.getfield 61, 3) := dk_180 0 61 (dk_at dksX7_bestMode_2 15 rfl rfl)
theorem dX7_bestMode_66 : decode cX7_bestMode 66 = .ok (.iconst 0, 1) := dk_3 (dk_at dksX7_bestMode_2 18 rfl rfl)
theorem dX7_bestMode_67 : decode cX7_bestMode 67 = .ok (.laload, 1) := dk_47 (dk_at dksX7_bestMode_2 19 rfl rfl)
theorem dX7_bestMode_68 : decode cX7_bestMode 68 = .ok (.lsub, 1) := dk_101 (dk_at dksX7_bestMode_2 20 rfl rfl)
theorem dX7_bestMode_69 : decode cX7_bestMode 69 = .ok (.l2i, 1) := dk_136 (dk_at dksX7_bestMode_2 21 rfl rfl)
theorem dX7_bestMode_70 : decode cX7_bestMode 70 = .ok (.istore 7, 2) := dk_54 7 (dk_at dksX7_bestMode_2 22 rfl rfl)
theorem dX7_bestMode_72 : decode cX7_bestMode 72 = .ok (.aload_n 0, 1) := dk_42 (dk_at dksX7_bestMode_3 0 rfl rfl)
theorem dX7_bestMode_73 : decode cX7_bestMode 73 = .ok (.invokevirtual 444, 3) := dk_182 1 188 (dk_at dksX7_bestMode_3 1 rfl rfl)
theorem dX7_bestMode_76 : decode cX7_bestMode 76 = .ok (.iload 5, 2) := dk_21 5 (dk_at dksX7_bestMode_3 4 rfl rfl)
theorem dX7_bestMode_78 : decode cX7_bestMode 78 = .ok (.ifCond .eq 22, 3) := dk_153 0 22 (dk_at dksX7_bestMode_3 6 rfl rfl)
theorem dX7_bestMode_81 : decode cX7_bestMode 81 = .ok (.iload 6, 2) := dk_21 6 (dk_at dksX7_bestMode_3 9 rfl rfl)
theorem dX7_bestMode_83 : decode cX7_bestMode 83 = .ok (.iload_n 3, 1) := dk_29 (dk_at dksX7_bestMode_3 11 rfl rfl)
theorem dX7_bestMode_84 : decode cX7_bestMode 84 = .ok (.if_icmp .gt 16, 3) := dk_163 0 16 (dk_at dksX7_bestMode_3 12 rfl rfl)
theorem dX7_bestMode_87 : decode cX7_bestMode 87 = .ok (.iload 6, 2) := dk_21 6 (dk_at dksX7_bestMode_3 15 rfl rfl)
theorem dX7_bestMode_89 : decode cX7_bestMode 89 = .ok (.iload_n 3, 1) := dk_29 (dk_at dksX7_bestMode_3 17 rfl rfl)
theorem dX7_bestMode_90 : decode cX7_bestMode 90 = .ok (.if_icmp .ne 20, 3) := dk_160 0 20 (dk_at dksX7_bestMode_3 18 rfl rfl)
theorem dX7_bestMode_93 : decode cX7_bestMode 93 = .ok (.iload 7, 2) := dk_21 7 (dk_at dksX7_bestMode_3 21 rfl rfl)
theorem dX7_bestMode_95 : decode cX7_bestMode 95 = .ok (.iload 4, 2) := dk_21 4 (dk_at dksX7_bestMode_4 0 rfl rfl)
theorem dX7_bestMode_97 : decode cX7_bestMode 97 = .ok (.if_icmp .ge 13, 3) := dk_162 0 13 (dk_at dksX7_bestMode_4 2 rfl rfl)
theorem dX7_bestMode_100 : decode cX7_bestMode 100 = .ok (.iload 5, 2) := dk_21 5 (dk_at dksX7_bestMode_4 5 rfl rfl)
theorem dX7_bestMode_102 : decode cX7_bestMode 102 = .ok (.istore_n 2, 1) := dk_61 (dk_at dksX7_bestMode_4 7 rfl rfl)
theorem dX7_bestMode_103 : decode cX7_bestMode 103 = .ok (.iload 6, 2) := dk_21 6 (dk_at dksX7_bestMode_4 8 rfl rfl)
theorem dX7_bestMode_105 : decode cX7_bestMode 105 = .ok (.istore_n 3, 1) := dk_62 (dk_at dksX7_bestMode_4 10 rfl rfl)
theorem dX7_bestMode_106 : decode cX7_bestMode 106 = .ok (.iload 7, 2) := dk_21 7 (dk_at dksX7_bestMode_4 11 rfl rfl)
theorem dX7_bestMode_108 : decode cX7_bestMode 108 = .ok (.istore 4, 2) := dk_54 4 (dk_at dksX7_bestMode_4 13 rfl rfl)
theorem dX7_bestMode_110 : decode cX7_bestMode 110 = .ok (.iinc 5 1, 3) := dk_132 5 1 (dk_at dksX7_bestMode_4 15 rfl rfl)
theorem dX7_bestMode_113 : decode cX7_bestMode 113 = .ok (.goto (-89), 3) := dk_167 255 167 (dk_at dksX7_bestMode_4 18 rfl rfl)
theorem dX7_bestMode_116 : decode cX7_bestMode 116 = .ok (.iload_n 2, 1) := dk_28 (dk_at dksX7_bestMode_4 21 rfl rfl)
theorem dX7_bestMode_117 : decode cX7_bestMode 117 = .ok (.ireturn, 1) := dk_172 (dk_at dksX7_bestMode_4 22 rfl rfl)
abbrev cX7_comeBy : ByteArray := prog_13_method_101_code
def yX7_comeBy : MethodName := ⟨RX7, "comeBy", "(II)I"⟩
def dkwX7_comeBy_2 : List UInt8 := [180, 0, 48, 27, 46, 100, 42, 180, 0, 45, 27, 46, 108, 4, 96, 172]
abbrev dktX7_comeBy_2 : List UInt8 := dkwX7_comeBy_2 ++ []
def dkwX7_comeBy_1 : List UInt8 := [184, 0, 146, 154, 0, 5, 2, 172, 28, 42, 180, 0, 48, 27, 46, 162, 0, 7, 3, 167, 0, 20, 28, 42]
abbrev dktX7_comeBy_1 : List UInt8 := dkwX7_comeBy_1 ++ dktX7_comeBy_2
def dkwX7_comeBy_0 : List UInt8 := [27, 133, 9, 42, 180, 0, 136, 4, 100, 133, 184, 0, 146, 153, 0, 15, 28, 133, 9, 20, 1, 199]
abbrev dktX7_comeBy_0 : List UInt8 := dkwX7_comeBy_0 ++ dktX7_comeBy_1
theorem dksX7_comeBy_0 : cX7_comeBy.data.toList.drop 0 = dktX7_comeBy_0 := by decide +kernel
theorem dksX7_comeBy_1 : cX7_comeBy.data.toList.drop 22 = dktX7_comeBy_1 := dk_seg dksX7_comeBy_0 22 rfl rfl
theorem dksX7_comeBy_2 : cX7_comeBy.data.toList.drop 46 = dktX7_comeBy_2 := dk_seg dksX7_comeBy_1 24 rfl rfl
theorem dX7_comeBy_0 : decode cX7_comeBy 0 = .ok (.iload_n 1, 1) := dk_27 (dk_at dksX7_comeBy_0 0 rfl rfl)
theorem dX7_comeBy_1 : decode cX7_comeBy 1 = .ok (.i2l, 1) := dk_133 (dk_at dksX7_comeBy_0 1 rfl rfl)
theorem dX7_comeBy_2 : decode cX7_comeBy 2 = .ok (.lconst 0, 1) := dk_9 (dk_at dksX7_comeBy_0 2 rfl rfl)
theorem dX7_comeBy_3 : decode cX7_comeBy 3 = .ok (.aload_n 0, 1) := dk_42 (dk_at dksX7_comeBy_0 3 rfl rfl)
theorem dX7_comeBy_4 : decode cX7_comeBy 4 = .ok (.getfield 136, 3) := dk_180 0 136 (dk_at dksX7_comeBy_0 4 rfl rfl)
theorem dX7_comeBy_7 : decode cX7_comeBy 7 = .ok (.iconst 1, 1) := dk_4 (dk_at dksX7_comeBy_0 7 rfl rfl)
theorem dX7_comeBy_8 : decode cX7_comeBy 8 = .ok (.isub, 1) := dk_100 (dk_at dksX7_comeBy_0 8 rfl rfl)
theorem dX7_comeBy_9 : decode cX7_comeBy 9 = .ok (.i2l, 1) := dk_133 (dk_at dksX7_comeBy_0 9 rfl rfl)
theorem dX7_comeBy_10 : decode cX7_comeBy 10 = .ok (.invokestatic 146, 3) := dk_184 0 146 (dk_at dksX7_comeBy_0 10 rfl rfl)
theorem dX7_comeBy_13 : decode cX7_comeBy 13 = .ok (.ifCond .eq 15, 3) := dk_153 0 15 (dk_at dksX7_comeBy_0 13 rfl rfl)
theorem dX7_comeBy_16 : decode cX7_comeBy 16 = .ok (.iload_n 2, 1) := dk_28 (dk_at dksX7_comeBy_0 16 rfl rfl)
theorem dX7_comeBy_17 : decode cX7_comeBy 17 = .ok (.i2l, 1) := dk_133 (dk_at dksX7_comeBy_0 17 rfl rfl)
theorem dX7_comeBy_18 : decode cX7_comeBy 18 = .ok (.lconst 0, 1) := dk_9 (dk_at dksX7_comeBy_0 18 rfl rfl)
theorem dX7_comeBy_19 : decode cX7_comeBy 19 = .ok (.ldc2_w 455, 3) := dk_20 1 199 (dk_at dksX7_comeBy_0 19 rfl rfl)
theorem dX7_comeBy_22 : decode cX7_comeBy 22 = .ok (.invokestatic 146, 3) := dk_184 0 146 (dk_at dksX7_comeBy_1 0 rfl rfl)
theorem dX7_comeBy_25 : decode cX7_comeBy 25 = .ok (.ifCond .ne 5, 3) := dk_154 0 5 (dk_at dksX7_comeBy_1 3 rfl rfl)
theorem dX7_comeBy_28 : decode cX7_comeBy 28 = .ok (.iconst (-1), 1) := dk_2 (dk_at dksX7_comeBy_1 6 rfl rfl)
theorem dX7_comeBy_29 : decode cX7_comeBy 29 = .ok (.ireturn, 1) := dk_172 (dk_at dksX7_comeBy_1 7 rfl rfl)
theorem dX7_comeBy_30 : decode cX7_comeBy 30 = .ok (.iload_n 2, 1) := dk_28 (dk_at dksX7_comeBy_1 8 rfl rfl)
theorem dX7_comeBy_31 : decode cX7_comeBy 31 = .ok (.aload_n 0, 1) := dk_42 (dk_at dksX7_comeBy_1 9 rfl rfl)
theorem dX7_comeBy_32 : decode cX7_comeBy 32 = .ok (.getfield 48, 3) := dk_180 0 48 (dk_at dksX7_comeBy_1 10 rfl rfl)
theorem dX7_comeBy_35 : decode cX7_comeBy 35 = .ok (.iload_n 1, 1) := dk_27 (dk_at dksX7_comeBy_1 13 rfl rfl)
theorem dX7_comeBy_36 : decode cX7_comeBy 36 = .ok (.iaload, 1) := dk_46 (dk_at dksX7_comeBy_1 14 rfl rfl)
theorem dX7_comeBy_37 : decode cX7_comeBy 37 = .ok (.if_icmp .ge 7, 3) := dk_162 0 7 (dk_at dksX7_comeBy_1 15 rfl rfl)
theorem dX7_comeBy_40 : decode cX7_comeBy 40 = .ok (.iconst 0, 1) := dk_3 (dk_at dksX7_comeBy_1 18 rfl rfl)
theorem dX7_comeBy_41 : decode cX7_comeBy 41 = .ok (.goto 20, 3) := dk_167 0 20 (dk_at dksX7_comeBy_1 19 rfl rfl)
theorem dX7_comeBy_44 : decode cX7_comeBy 44 = .ok (.iload_n 2, 1) := dk_28 (dk_at dksX7_comeBy_1 22 rfl rfl)
theorem dX7_comeBy_45 : decode cX7_comeBy 45 = .ok (.aload_n 0, 1) := dk_42 (dk_at dksX7_comeBy_1 23 rfl rfl)
theorem dX7_comeBy_46 : decode cX7_comeBy 46 = .ok (.getfield 48, 3) := dk_180 0 48 (dk_at dksX7_comeBy_2 0 rfl rfl)
theorem dX7_comeBy_49 : decode cX7_comeBy 49 = .ok (.iload_n 1, 1) := dk_27 (dk_at dksX7_comeBy_2 3 rfl rfl)
theorem dX7_comeBy_50 : decode cX7_comeBy 50 = .ok (.iaload, 1) := dk_46 (dk_at dksX7_comeBy_2 4 rfl rfl)
theorem dX7_comeBy_51 : decode cX7_comeBy 51 = .ok (.isub, 1) := dk_100 (dk_at dksX7_comeBy_2 5 rfl rfl)
theorem dX7_comeBy_52 : decode cX7_comeBy 52 = .ok (.aload_n 0, 1) := dk_42 (dk_at dksX7_comeBy_2 6 rfl rfl)
theorem dX7_comeBy_53 : decode cX7_comeBy 53 = .ok (.getfield 45, 3) := dk_180 0 45 (dk_at dksX7_comeBy_2 7 rfl rfl)
theorem dX7_comeBy_56 : decode cX7_comeBy 56 = .ok (.iload_n 1, 1) := dk_27 (dk_at dksX7_comeBy_2 10 rfl rfl)
theorem dX7_comeBy_57 : decode cX7_comeBy 57 = .ok (.iaload, 1) := dk_46 (dk_at dksX7_comeBy_2 11 rfl rfl)
theorem dX7_comeBy_58 : decode cX7_comeBy 58 = .ok (.idiv, 1) := dk_108 (dk_at dksX7_comeBy_2 12 rfl rfl)
theorem dX7_comeBy_59 : decode cX7_comeBy 59 = .ok (.iconst 1, 1) := dk_4 (dk_at dksX7_comeBy_2 13 rfl rfl)
theorem dX7_comeBy_60 : decode cX7_comeBy 60 = .ok (.iadd, 1) := dk_96 (dk_at dksX7_comeBy_2 14 rfl rfl)
theorem dX7_comeBy_61 : decode cX7_comeBy 61 = .ok (.ireturn, 1) := dk_172 (dk_at dksX7_comeBy_2 15 rfl rfl)
abbrev cX7_meanWaiting : ByteArray := prog_13_method_102_code
def yX7_meanWaiting : MethodName := ⟨RX7, "meanWaiting", "()D"⟩
def dkwX7_meanWaiting_1 : List UInt8 := [175]
abbrev dktX7_meanWaiting_1 : List UInt8 := dkwX7_meanWaiting_1 ++ []
def dkwX7_meanWaiting_0 : List UInt8 := [42, 6, 182, 1, 191, 60, 27, 154, 0, 7, 14, 167, 0, 13, 42, 180, 0, 54, 3, 47, 138, 27, 135, 111]
abbrev dktX7_meanWaiting_0 : List UInt8 := dkwX7_meanWaiting_0 ++ dktX7_meanWaiting_1
theorem dksX7_meanWaiting_0 : cX7_meanWaiting.data.toList.drop 0 = dktX7_meanWaiting_0 := by decide +kernel
theorem dksX7_meanWaiting_1 : cX7_meanWaiting.data.toList.drop 24 = dktX7_meanWaiting_1 := dk_seg dksX7_meanWaiting_0 24 rfl rfl
theorem dX7_meanWaiting_0 : decode cX7_meanWaiting 0 = .ok (.aload_n 0, 1) := dk_42 (dk_at dksX7_meanWaiting_0 0 rfl rfl)
theorem dX7_meanWaiting_1 : decode cX7_meanWaiting 1 = .ok (.iconst 3, 1) := dk_6 (dk_at dksX7_meanWaiting_0 1 rfl rfl)
theorem dX7_meanWaiting_2 : decode cX7_meanWaiting 2 = .ok (.invokevirtual 447, 3) := dk_182 1 191 (dk_at dksX7_meanWaiting_0 2 rfl rfl)
theorem dX7_meanWaiting_5 : decode cX7_meanWaiting 5 = .ok (.istore_n 1, 1) := dk_60 (dk_at dksX7_meanWaiting_0 5 rfl rfl)
theorem dX7_meanWaiting_6 : decode cX7_meanWaiting 6 = .ok (.iload_n 1, 1) := dk_27 (dk_at dksX7_meanWaiting_0 6 rfl rfl)
theorem dX7_meanWaiting_7 : decode cX7_meanWaiting 7 = .ok (.ifCond .ne 7, 3) := dk_154 0 7 (dk_at dksX7_meanWaiting_0 7 rfl rfl)
theorem dX7_meanWaiting_10 : decode cX7_meanWaiting 10 = .ok (.dconst 0, 1) := dk_14 (dk_at dksX7_meanWaiting_0 10 rfl rfl)
theorem dX7_meanWaiting_11 : decode cX7_meanWaiting 11 = .ok (.goto 13, 3) := dk_167 0 13 (dk_at dksX7_meanWaiting_0 11 rfl rfl)
theorem dX7_meanWaiting_14 : decode cX7_meanWaiting 14 = .ok (.aload_n 0, 1) := dk_42 (dk_at dksX7_meanWaiting_0 14 rfl rfl)
theorem dX7_meanWaiting_15 : decode cX7_meanWaiting 15 = .ok (.getfield 54, 3) := dk_180 0 54 (dk_at dksX7_meanWaiting_0 15 rfl rfl)
theorem dX7_meanWaiting_18 : decode cX7_meanWaiting 18 = .ok (.iconst 0, 1) := dk_3 (dk_at dksX7_meanWaiting_0 18 rfl rfl)
theorem dX7_meanWaiting_19 : decode cX7_meanWaiting 19 = .ok (.laload, 1) := dk_47 (dk_at dksX7_meanWaiting_0 19 rfl rfl)
theorem dX7_meanWaiting_20 : decode cX7_meanWaiting 20 = .ok (.l2d, 1) := dk_138 (dk_at dksX7_meanWaiting_0 20 rfl rfl)
theorem dX7_meanWaiting_21 : decode cX7_meanWaiting 21 = .ok (.iload_n 1, 1) := dk_27 (dk_at dksX7_meanWaiting_0 21 rfl rfl)
theorem dX7_meanWaiting_22 : decode cX7_meanWaiting 22 = .ok (.i2d, 1) := dk_135 (dk_at dksX7_meanWaiting_0 22 rfl rfl)
theorem dX7_meanWaiting_23 : decode cX7_meanWaiting 23 = .ok (.ddiv, 1) := dk_111 (dk_at dksX7_meanWaiting_0 23 rfl rfl)
theorem dX7_meanWaiting_24 : decode cX7_meanWaiting 24 = .ok (.dreturn, 1) := dk_175 (dk_at dksX7_meanWaiting_1 0 rfl rfl)
abbrev cX7_meanRide : ByteArray := prog_13_method_103_code
def yX7_meanRide : MethodName := ⟨RX7, "meanRide", "()D"⟩
def dkwX7_meanRide_1 : List UInt8 := [175]
abbrev dktX7_meanRide_1 : List UInt8 := dkwX7_meanRide_1 ++ []
def dkwX7_meanRide_0 : List UInt8 := [42, 7, 182, 1, 191, 60, 27, 154, 0, 7, 14, 167, 0, 13, 42, 180, 0, 54, 4, 47, 138, 27, 135, 111]
abbrev dktX7_meanRide_0 : List UInt8 := dkwX7_meanRide_0 ++ dktX7_meanRide_1
theorem dksX7_meanRide_0 : cX7_meanRide.data.toList.drop 0 = dktX7_meanRide_0 := by decide +kernel
theorem dksX7_meanRide_1 : cX7_meanRide.data.toList.drop 24 = dktX7_meanRide_1 := dk_seg dksX7_meanRide_0 24 rfl rfl
theorem dX7_meanRide_0 : decode cX7_meanRide 0 = .ok (.aload_n 0, 1) := dk_42 (dk_at dksX7_meanRide_0 0 rfl rfl)
theorem dX7_meanRide_1 : decode cX7_meanRide 1 = .ok (.iconst 4, 1) := dk_7 (dk_at dksX7_meanRide_0 1 rfl rfl)
theorem dX7_meanRide_2 : decode cX7_meanRide 2 = .ok (.invokevirtual 447, 3) := dk_182 1 191 (dk_at dksX7_meanRide_0 2 rfl rfl)
theorem dX7_meanRide_5 : decode cX7_meanRide 5 = .ok (.istore_n 1, 1) := dk_60 (dk_at dksX7_meanRide_0 5 rfl rfl)
theorem dX7_meanRide_6 : decode cX7_meanRide 6 = .ok (.iload_n 1, 1) := dk_27 (dk_at dksX7_meanRide_0 6 rfl rfl)
theorem dX7_meanRide_7 : decode cX7_meanRide 7 = .ok (.ifCond .ne 7, 3) := dk_154 0 7 (dk_at dksX7_meanRide_0 7 rfl rfl)
theorem dX7_meanRide_10 : decode cX7_meanRide 10 = .ok (.dconst 0, 1) := dk_14 (dk_at dksX7_meanRide_0 10 rfl rfl)
theorem dX7_meanRide_11 : decode cX7_meanRide 11 = .ok (.goto 13, 3) := dk_167 0 13 (dk_at dksX7_meanRide_0 11 rfl rfl)
theorem dX7_meanRide_14 : decode cX7_meanRide 14 = .ok (.aload_n 0, 1) := dk_42 (dk_at dksX7_meanRide_0 14 rfl rfl)
theorem dX7_meanRide_15 : decode cX7_meanRide 15 = .ok (.getfield 54, 3) := dk_180 0 54 (dk_at dksX7_meanRide_0 15 rfl rfl)
theorem dX7_meanRide_18 : decode cX7_meanRide 18 = .ok (.iconst 1, 1) := dk_4 (dk_at dksX7_meanRide_0 18 rfl rfl)
theorem dX7_meanRide_19 : decode cX7_meanRide 19 = .ok (.laload, 1) := dk_47 (dk_at dksX7_meanRide_0 19 rfl rfl)
theorem dX7_meanRide_20 : decode cX7_meanRide 20 = .ok (.l2d, 1) := dk_138 (dk_at dksX7_meanRide_0 20 rfl rfl)
theorem dX7_meanRide_21 : decode cX7_meanRide 21 = .ok (.iload_n 1, 1) := dk_27 (dk_at dksX7_meanRide_0 21 rfl rfl)
theorem dX7_meanRide_22 : decode cX7_meanRide 22 = .ok (.i2d, 1) := dk_135 (dk_at dksX7_meanRide_0 22 rfl rfl)
theorem dX7_meanRide_23 : decode cX7_meanRide 23 = .ok (.ddiv, 1) := dk_111 (dk_at dksX7_meanRide_0 23 rfl rfl)
theorem dX7_meanRide_24 : decode cX7_meanRide 24 = .ok (.dreturn, 1) := dk_175 (dk_at dksX7_meanRide_1 0 rfl rfl)
abbrev cX7_full : ByteArray := prog_13_method_104_code
def yX7_full : MethodName := ⟨RX7, "full", "(I)F"⟩
def dkwX7_full_1 : List UInt8 := [167, 0, 6, 19, 1, 201, 174]
abbrev dktX7_full_1 : List UInt8 := dkwX7_full_1 ++ []
def dkwX7_full_0 : List UInt8 := [42, 27, 182, 1, 140, 153, 0, 21, 42, 27, 7, 182, 0, 171, 134, 42, 180, 0, 33, 27, 46, 134, 110]
abbrev dktX7_full_0 : List UInt8 := dkwX7_full_0 ++ dktX7_full_1
theorem dksX7_full_0 : cX7_full.data.toList.drop 0 = dktX7_full_0 := by decide +kernel
theorem dksX7_full_1 : cX7_full.data.toList.drop 23 = dktX7_full_1 := dk_seg dksX7_full_0 23 rfl rfl
theorem dX7_full_0 : decode cX7_full 0 = .ok (.aload_n 0, 1) := dk_42 (dk_at dksX7_full_0 0 rfl rfl)
theorem dX7_full_1 : decode cX7_full 1 = .ok (.iload_n 1, 1) := dk_27 (dk_at dksX7_full_0 1 rfl rfl)
theorem dX7_full_2 : decode cX7_full 2 = .ok (.invokevirtual 396, 3) := dk_182 1 140 (dk_at dksX7_full_0 2 rfl rfl)
theorem dX7_full_5 : decode cX7_full 5 = .ok (.ifCond .eq 21, 3) := dk_153 0 21 (dk_at dksX7_full_0 5 rfl rfl)
theorem dX7_full_8 : decode cX7_full 8 = .ok (.aload_n 0, 1) := dk_42 (dk_at dksX7_full_0 8 rfl rfl)
theorem dX7_full_9 : decode cX7_full 9 = .ok (.iload_n 1, 1) := dk_27 (dk_at dksX7_full_0 9 rfl rfl)
theorem dX7_full_10 : decode cX7_full 10 = .ok (.iconst 4, 1) := dk_7 (dk_at dksX7_full_0 10 rfl rfl)
theorem dX7_full_11 : decode cX7_full 11 = .ok (.invokevirtual 171, 3) := dk_182 0 171 (dk_at dksX7_full_0 11 rfl rfl)
theorem dX7_full_14 : decode cX7_full 14 = .ok (.i2f, 1) := dk_134 (dk_at dksX7_full_0 14 rfl rfl)
theorem dX7_full_15 : decode cX7_full 15 = .ok (.aload_n 0, 1) := dk_42 (dk_at dksX7_full_0 15 rfl rfl)
theorem dX7_full_16 : decode cX7_full 16 = .ok (.getfield 33, 3) := dk_180 0 33 (dk_at dksX7_full_0 16 rfl rfl)
theorem dX7_full_19 : decode cX7_full 19 = .ok (.iload_n 1, 1) := dk_27 (dk_at dksX7_full_0 19 rfl rfl)
theorem dX7_full_20 : decode cX7_full 20 = .ok (.iaload, 1) := dk_46 (dk_at dksX7_full_0 20 rfl rfl)
theorem dX7_full_21 : decode cX7_full 21 = .ok (.i2f, 1) := dk_134 (dk_at dksX7_full_0 21 rfl rfl)
theorem dX7_full_22 : decode cX7_full 22 = .ok (.fdiv, 1) := dk_110 (dk_at dksX7_full_0 22 rfl rfl)
theorem dX7_full_23 : decode cX7_full 23 = .ok (.goto 6, 3) := dk_167 0 6 (dk_at dksX7_full_1 0 rfl rfl)
theorem dX7_full_26 : decode cX7_full 26 = .ok (.ldc_w 457, 3) := dk_19 1 201 (dk_at dksX7_full_1 3 rfl rfl)
theorem dX7_full_29 : decode cX7_full 29 = .ok (.freturn, 1) := dk_174 (dk_at dksX7_full_1 6 rfl rfl)
abbrev cX7_boardLength : ByteArray := prog_13_method_111_code
def yX7_boardLength : MethodName := ⟨RX7, "boardLength", "()I"⟩
def dkwX7_boardLength_0 : List UInt8 := [42, 2, 182, 1, 230, 42, 180, 1, 202, 172]
abbrev dktX7_boardLength_0 : List UInt8 := dkwX7_boardLength_0 ++ []
theorem dksX7_boardLength_0 : cX7_boardLength.data.toList.drop 0 = dktX7_boardLength_0 := by decide +kernel
theorem dX7_boardLength_0 : decode cX7_boardLength 0 = .ok (.aload_n 0, 1) := dk_42 (dk_at dksX7_boardLength_0 0 rfl rfl)
theorem dX7_boardLength_1 : decode cX7_boardLength 1 = .ok (.iconst (-1), 1) := dk_2 (dk_at dksX7_boardLength_0 1 rfl rfl)
theorem dX7_boardLength_2 : decode cX7_boardLength 2 = .ok (.invokevirtual 486, 3) := dk_182 1 230 (dk_at dksX7_boardLength_0 2 rfl rfl)
theorem dX7_boardLength_5 : decode cX7_boardLength 5 = .ok (.aload_n 0, 1) := dk_42 (dk_at dksX7_boardLength_0 5 rfl rfl)
theorem dX7_boardLength_6 : decode cX7_boardLength 6 = .ok (.getfield 458, 3) := dk_180 1 202 (dk_at dksX7_boardLength_0 6 rfl rfl)
theorem dX7_boardLength_9 : decode cX7_boardLength 9 = .ok (.ireturn, 1) := dk_172 (dk_at dksX7_boardLength_0 9 rfl rfl)
abbrev cX7_saysBoard : ByteArray := prog_13_method_110_code
def yX7_saysBoard : MethodName := ⟨RX7, "saysBoard", "(I)V"⟩
def dkwX7_saysBoard_2 : List UInt8 := [4, 182, 1, 226, 42, 28, 3, 182, 1, 226, 42, 16, 10, 182, 1, 213, 132, 2, 1, 167, 255, 197, 177]
abbrev dktX7_saysBoard_2 : List UInt8 := dkwX7_saysBoard_2 ++ []
def dkwX7_saysBoard_1 : List UInt8 := [182, 1, 222, 42, 16, 32, 182, 1, 213, 42, 42, 180, 0, 51, 16, 23, 28, 96, 46, 182, 1, 216, 42, 28]
abbrev dktX7_saysBoard_1 : List UInt8 := dkwX7_saysBoard_1 ++ dktX7_saysBoard_2
def dkwX7_saysBoard_0 : List UInt8 := [42, 27, 182, 1, 219, 3, 61, 28, 42, 180, 0, 113, 162, 0, 57, 42, 42, 180, 0, 21, 28, 46, 133]
abbrev dktX7_saysBoard_0 : List UInt8 := dkwX7_saysBoard_0 ++ dktX7_saysBoard_1
theorem dksX7_saysBoard_0 : cX7_saysBoard.data.toList.drop 0 = dktX7_saysBoard_0 := by decide +kernel
theorem dksX7_saysBoard_1 : cX7_saysBoard.data.toList.drop 23 = dktX7_saysBoard_1 := dk_seg dksX7_saysBoard_0 23 rfl rfl
theorem dksX7_saysBoard_2 : cX7_saysBoard.data.toList.drop 47 = dktX7_saysBoard_2 := dk_seg dksX7_saysBoard_1 24 rfl rfl
theorem dX7_saysBoard_0 : decode cX7_saysBoard 0 = .ok (.aload_n 0, 1) := dk_42 (dk_at dksX7_saysBoard_0 0 rfl rfl)
theorem dX7_saysBoard_1 : decode cX7_saysBoard 1 = .ok (.iload_n 1, 1) := dk_27 (dk_at dksX7_saysBoard_0 1 rfl rfl)
theorem dX7_saysBoard_2 : decode cX7_saysBoard 2 = .ok (.invokevirtual 475, 3) := dk_182 1 219 (dk_at dksX7_saysBoard_0 2 rfl rfl)
theorem dX7_saysBoard_5 : decode cX7_saysBoard 5 = .ok (.iconst 0, 1) := dk_3 (dk_at dksX7_saysBoard_0 5 rfl rfl)
theorem dX7_saysBoard_6 : decode cX7_saysBoard 6 = .ok (.istore_n 2, 1) := dk_61 (dk_at dksX7_saysBoard_0 6 rfl rfl)
theorem dX7_saysBoard_7 : decode cX7_saysBoard 7 = .ok (.iload_n 2, 1) := dk_28 (dk_at dksX7_saysBoard_0 7 rfl rfl)
theorem dX7_saysBoard_8 : decode cX7_saysBoard 8 = .ok (.aload_n 0, 1) := dk_42 (dk_at dksX7_saysBoard_0 8 rfl rfl)
theorem dX7_saysBoard_9 : decode cX7_saysBoard 9 = .ok (.getfield 113, 3) := dk_180 0 113 (dk_at dksX7_saysBoard_0 9 rfl rfl)
theorem dX7_saysBoard_12 : decode cX7_saysBoard 12 = .ok (.if_icmp .ge 57, 3) := dk_162 0 57 (dk_at dksX7_saysBoard_0 12 rfl rfl)
theorem dX7_saysBoard_15 : decode cX7_saysBoard 15 = .ok (.aload_n 0, 1) := dk_42 (dk_at dksX7_saysBoard_0 15 rfl rfl)
theorem dX7_saysBoard_16 : decode cX7_saysBoard 16 = .ok (.aload_n 0, 1) := dk_42 (dk_at dksX7_saysBoard_0 16 rfl rfl)
theorem dX7_saysBoard_17 : decode cX7_saysBoard 17 = .ok (.getfield 21, 3) := dk_180 0 21 (dk_at dksX7_saysBoard_0 17 rfl rfl)
theorem dX7_saysBoard_20 : decode cX7_saysBoard 20 = .ok (.iload_n 2, 1) := dk_28 (dk_at dksX7_saysBoard_0 20 rfl rfl)
theorem dX7_saysBoard_21 : decode cX7_saysBoard 21 = .ok (.iaload, 1) := dk_46 (dk_at dksX7_saysBoard_0 21 rfl rfl)
theorem dX7_saysBoard_22 : decode cX7_saysBoard 22 = .ok (.i2l, 1) := dk_133 (dk_at dksX7_saysBoard_0 22 rfl rfl)
theorem dX7_saysBoard_23 : decode cX7_saysBoard 23 = .ok (.invokevirtual 478, 3) := dk_182 1 222 (dk_at dksX7_saysBoard_1 0 rfl rfl)
theorem dX7_saysBoard_26 : decode cX7_saysBoard 26 = .ok (.aload_n 0, 1) := dk_42 (dk_at dksX7_saysBoard_1 3 rfl rfl)
theorem dX7_saysBoard_27 : decode cX7_saysBoard 27 = .ok (.bipush 32, 2) := dk_16 32 (dk_at dksX7_saysBoard_1 4 rfl rfl)
theorem dX7_saysBoard_29 : decode cX7_saysBoard 29 = .ok (.invokevirtual 469, 3) := dk_182 1 213 (dk_at dksX7_saysBoard_1 6 rfl rfl)
theorem dX7_saysBoard_32 : decode cX7_saysBoard 32 = .ok (.aload_n 0, 1) := dk_42 (dk_at dksX7_saysBoard_1 9 rfl rfl)
theorem dX7_saysBoard_33 : decode cX7_saysBoard 33 = .ok (.aload_n 0, 1) := dk_42 (dk_at dksX7_saysBoard_1 10 rfl rfl)
theorem dX7_saysBoard_34 : decode cX7_saysBoard 34 = .ok (.getfield 51, 3) := dk_180 0 51 (dk_at dksX7_saysBoard_1 11 rfl rfl)
theorem dX7_saysBoard_37 : decode cX7_saysBoard 37 = .ok (.bipush 23, 2) := dk_16 23 (dk_at dksX7_saysBoard_1 14 rfl rfl)
theorem dX7_saysBoard_39 : decode cX7_saysBoard 39 = .ok (.iload_n 2, 1) := dk_28 (dk_at dksX7_saysBoard_1 16 rfl rfl)
theorem dX7_saysBoard_40 : decode cX7_saysBoard 40 = .ok (.iadd, 1) := dk_96 (dk_at dksX7_saysBoard_1 17 rfl rfl)
theorem dX7_saysBoard_41 : decode cX7_saysBoard 41 = .ok (.iaload, 1) := dk_46 (dk_at dksX7_saysBoard_1 18 rfl rfl)
theorem dX7_saysBoard_42 : decode cX7_saysBoard 42 = .ok (.invokevirtual 472, 3) := dk_182 1 216 (dk_at dksX7_saysBoard_1 19 rfl rfl)
theorem dX7_saysBoard_45 : decode cX7_saysBoard 45 = .ok (.aload_n 0, 1) := dk_42 (dk_at dksX7_saysBoard_1 22 rfl rfl)
theorem dX7_saysBoard_46 : decode cX7_saysBoard 46 = .ok (.iload_n 2, 1) := dk_28 (dk_at dksX7_saysBoard_1 23 rfl rfl)
theorem dX7_saysBoard_47 : decode cX7_saysBoard 47 = .ok (.iconst 1, 1) := dk_4 (dk_at dksX7_saysBoard_2 0 rfl rfl)
theorem dX7_saysBoard_48 : decode cX7_saysBoard 48 = .ok (.invokevirtual 482, 3) := dk_182 1 226 (dk_at dksX7_saysBoard_2 1 rfl rfl)
theorem dX7_saysBoard_51 : decode cX7_saysBoard 51 = .ok (.aload_n 0, 1) := dk_42 (dk_at dksX7_saysBoard_2 4 rfl rfl)
theorem dX7_saysBoard_52 : decode cX7_saysBoard 52 = .ok (.iload_n 2, 1) := dk_28 (dk_at dksX7_saysBoard_2 5 rfl rfl)
theorem dX7_saysBoard_53 : decode cX7_saysBoard 53 = .ok (.iconst 0, 1) := dk_3 (dk_at dksX7_saysBoard_2 6 rfl rfl)
theorem dX7_saysBoard_54 : decode cX7_saysBoard 54 = .ok (.invokevirtual 482, 3) := dk_182 1 226 (dk_at dksX7_saysBoard_2 7 rfl rfl)
theorem dX7_saysBoard_57 : decode cX7_saysBoard 57 = .ok (.aload_n 0, 1) := dk_42 (dk_at dksX7_saysBoard_2 10 rfl rfl)
theorem dX7_saysBoard_58 : decode cX7_saysBoard 58 = .ok (.bipush 10, 2) := dk_16 10 (dk_at dksX7_saysBoard_2 11 rfl rfl)
theorem dX7_saysBoard_60 : decode cX7_saysBoard 60 = .ok (.invokevirtual 469, 3) := dk_182 1 213 (dk_at dksX7_saysBoard_2 13 rfl rfl)
theorem dX7_saysBoard_63 : decode cX7_saysBoard 63 = .ok (.iinc 2 1, 3) := dk_132 2 1 (dk_at dksX7_saysBoard_2 16 rfl rfl)
theorem dX7_saysBoard_66 : decode cX7_saysBoard 66 = .ok (.goto (-59), 3) := dk_167 255 197 (dk_at dksX7_saysBoard_2 19 rfl rfl)
theorem dX7_saysBoard_69 : decode cX7_saysBoard 69 = .ok (.return_, 1) := dk_177 (dk_at dksX7_saysBoard_2 22 rfl rfl)
abbrev cX7_startsText : ByteArray := prog_13_method_105_code
def yX7_startsText : MethodName := ⟨RX7, "startsText", "(I)V"⟩
def dkwX7_startsText_0 : List UInt8 := [42, 3, 181, 1, 202, 42, 27, 181, 1, 205, 42, 16, 254, 181, 1, 208, 177]
abbrev dktX7_startsText_0 : List UInt8 := dkwX7_startsText_0 ++ []
theorem dksX7_startsText_0 : cX7_startsText.data.toList.drop 0 = dktX7_startsText_0 := by decide +kernel
theorem dX7_startsText_0 : decode cX7_startsText 0 = .ok (.aload_n 0, 1) := dk_42 (dk_at dksX7_startsText_0 0 rfl rfl)
theorem dX7_startsText_1 : decode cX7_startsText 1 = .ok (.iconst 0, 1) := dk_3 (dk_at dksX7_startsText_0 1 rfl rfl)
theorem dX7_startsText_2 : decode cX7_startsText 2 = .ok (.putfield 458, 3) := dk_181 1 202 (dk_at dksX7_startsText_0 2 rfl rfl)
theorem dX7_startsText_5 : decode cX7_startsText 5 = .ok (.aload_n 0, 1) := dk_42 (dk_at dksX7_startsText_0 5 rfl rfl)
theorem dX7_startsText_6 : decode cX7_startsText 6 = .ok (.iload_n 1, 1) := dk_27 (dk_at dksX7_startsText_0 6 rfl rfl)
theorem dX7_startsText_7 : decode cX7_startsText 7 = .ok (.putfield 461, 3) := dk_181 1 205 (dk_at dksX7_startsText_0 7 rfl rfl)
theorem dX7_startsText_10 : decode cX7_startsText 10 = .ok (.aload_n 0, 1) := dk_42 (dk_at dksX7_startsText_0 10 rfl rfl)
theorem dX7_startsText_11 : decode cX7_startsText 11 = .ok (.bipush (-2), 2) := dk_16 254 (dk_at dksX7_startsText_0 11 rfl rfl)
theorem dX7_startsText_13 : decode cX7_startsText 13 = .ok (.putfield 464, 3) := dk_181 1 208 (dk_at dksX7_startsText_0 13 rfl rfl)
theorem dX7_startsText_16 : decode cX7_startsText 16 = .ok (.return_, 1) := dk_177 (dk_at dksX7_startsText_0 16 rfl rfl)
abbrev cX7_saysWord : ByteArray := prog_13_method_107_code
def yX7_saysWord : MethodName := ⟨RX7, "saysWord", "(J)V"⟩
def dkwX7_saysWord_1 : List UInt8 := [16, 96, 21, 4, 96, 182, 1, 213, 132, 3, 251, 167, 255, 225, 177]
abbrev dktX7_saysWord_1 : List UInt8 := dkwX7_saysWord_1 ++ []
def dkwX7_saysWord_0 : List UInt8 := [16, 40, 62, 29, 155, 0, 33, 31, 29, 123, 20, 1, 211, 127, 136, 54, 4, 21, 4, 158, 0, 12, 42]
abbrev dktX7_saysWord_0 : List UInt8 := dkwX7_saysWord_0 ++ dktX7_saysWord_1
theorem dksX7_saysWord_0 : cX7_saysWord.data.toList.drop 0 = dktX7_saysWord_0 := by decide +kernel
theorem dksX7_saysWord_1 : cX7_saysWord.data.toList.drop 23 = dktX7_saysWord_1 := dk_seg dksX7_saysWord_0 23 rfl rfl
theorem dX7_saysWord_0 : decode cX7_saysWord 0 = .ok (.bipush 40, 2) := dk_16 40 (dk_at dksX7_saysWord_0 0 rfl rfl)
theorem dX7_saysWord_2 : decode cX7_saysWord 2 = .ok (.istore_n 3, 1) := dk_62 (dk_at dksX7_saysWord_0 2 rfl rfl)
theorem dX7_saysWord_3 : decode cX7_saysWord 3 = .ok (.iload_n 3, 1) := dk_29 (dk_at dksX7_saysWord_0 3 rfl rfl)
theorem dX7_saysWord_4 : decode cX7_saysWord 4 = .ok (.ifCond .lt 33, 3) := dk_155 0 33 (dk_at dksX7_saysWord_0 4 rfl rfl)
theorem dX7_saysWord_7 : decode cX7_saysWord 7 = .ok (.lload_n 1, 1) := dk_31 (dk_at dksX7_saysWord_0 7 rfl rfl)
theorem dX7_saysWord_8 : decode cX7_saysWord 8 = .ok (.iload_n 3, 1) := dk_29 (dk_at dksX7_saysWord_0 8 rfl rfl)
theorem dX7_saysWord_9 : decode cX7_saysWord 9 = .ok (.lshr, 1) := dk_123 (dk_at dksX7_saysWord_0 9 rfl rfl)
theorem dX7_saysWord_10 : decode cX7_saysWord 10 = .ok (.ldc2_w 467, 3) := dk_20 1 211 (dk_at dksX7_saysWord_0 10 rfl rfl)
theorem dX7_saysWord_13 : decode cX7_saysWord 13 = .ok (.land, 1) := dk_127 (dk_at dksX7_saysWord_0 13 rfl rfl)
theorem dX7_saysWord_14 : decode cX7_saysWord 14 = .ok (.l2i, 1) := dk_136 (dk_at dksX7_saysWord_0 14 rfl rfl)
theorem dX7_saysWord_15 : decode cX7_saysWord 15 = .ok (.istore 4, 2) := dk_54 4 (dk_at dksX7_saysWord_0 15 rfl rfl)
theorem dX7_saysWord_17 : decode cX7_saysWord 17 = .ok (.iload 4, 2) := dk_21 4 (dk_at dksX7_saysWord_0 17 rfl rfl)
theorem dX7_saysWord_19 : decode cX7_saysWord 19 = .ok (.ifCond .le 12, 3) := dk_158 0 12 (dk_at dksX7_saysWord_0 19 rfl rfl)
theorem dX7_saysWord_22 : decode cX7_saysWord 22 = .ok (.aload_n 0, 1) := dk_42 (dk_at dksX7_saysWord_0 22 rfl rfl)
theorem dX7_saysWord_23 : decode cX7_saysWord 23 = .ok (.bipush 96, 2) := dk_16 96 (dk_at dksX7_saysWord_1 0 rfl rfl)
theorem dX7_saysWord_25 : decode cX7_saysWord 25 = .ok (.iload 4, 2) := dk_21 4 (dk_at dksX7_saysWord_1 2 rfl rfl)
theorem dX7_saysWord_27 : decode cX7_saysWord 27 = .ok (.iadd, 1) := dk_96 (dk_at dksX7_saysWord_1 4 rfl rfl)
theorem dX7_saysWord_28 : decode cX7_saysWord 28 = .ok (.invokevirtual 469, 3) := dk_182 1 213 (dk_at dksX7_saysWord_1 5 rfl rfl)
theorem dX7_saysWord_31 : decode cX7_saysWord 31 = .ok (.iinc 3 (-5), 3) := dk_132 3 251 (dk_at dksX7_saysWord_1 8 rfl rfl)
theorem dX7_saysWord_34 : decode cX7_saysWord 34 = .ok (.goto (-31), 3) := dk_167 255 225 (dk_at dksX7_saysWord_1 11 rfl rfl)
theorem dX7_saysWord_37 : decode cX7_saysWord 37 = .ok (.return_, 1) := dk_177 (dk_at dksX7_saysWord_1 14 rfl rfl)
abbrev cX7_says : ByteArray := prog_13_method_106_code
def yX7_says : MethodName := ⟨RX7, "says", "(I)V"⟩
def dkwX7_says_1 : List UInt8 := [89, 180, 1, 202, 4, 96, 181, 1, 202, 177]
abbrev dktX7_says_1 : List UInt8 := dkwX7_says_1 ++ []
def dkwX7_says_0 : List UInt8 := [42, 42, 180, 1, 202, 42, 180, 1, 205, 160, 0, 7, 27, 167, 0, 7, 42, 180, 1, 208, 181, 1, 208, 42]
abbrev dktX7_says_0 : List UInt8 := dkwX7_says_0 ++ dktX7_says_1
theorem dksX7_says_0 : cX7_says.data.toList.drop 0 = dktX7_says_0 := by decide +kernel
theorem dksX7_says_1 : cX7_says.data.toList.drop 24 = dktX7_says_1 := dk_seg dksX7_says_0 24 rfl rfl
theorem dX7_says_0 : decode cX7_says 0 = .ok (.aload_n 0, 1) := dk_42 (dk_at dksX7_says_0 0 rfl rfl)
theorem dX7_says_1 : decode cX7_says 1 = .ok (.aload_n 0, 1) := dk_42 (dk_at dksX7_says_0 1 rfl rfl)
theorem dX7_says_2 : decode cX7_says 2 = .ok (.getfield 458, 3) := dk_180 1 202 (dk_at dksX7_says_0 2 rfl rfl)
theorem dX7_says_5 : decode cX7_says 5 = .ok (.aload_n 0, 1) := dk_42 (dk_at dksX7_says_0 5 rfl rfl)
theorem dX7_says_6 : decode cX7_says 6 = .ok (.getfield 461, 3) := dk_180 1 205 (dk_at dksX7_says_0 6 rfl rfl)
theorem dX7_says_9 : decode cX7_says 9 = .ok (.if_icmp .ne 7, 3) := dk_160 0 7 (dk_at dksX7_says_0 9 rfl rfl)
theorem dX7_says_12 : decode cX7_says 12 = .ok (.iload_n 1, 1) := dk_27 (dk_at dksX7_says_0 12 rfl rfl)
theorem dX7_says_13 : decode cX7_says 13 = .ok (.goto 7, 3) := dk_167 0 7 (dk_at dksX7_says_0 13 rfl rfl)
theorem dX7_says_16 : decode cX7_says 16 = .ok (.aload_n 0, 1) := dk_42 (dk_at dksX7_says_0 16 rfl rfl)
theorem dX7_says_17 : decode cX7_says 17 = .ok (.getfield 464, 3) := dk_180 1 208 (dk_at dksX7_says_0 17 rfl rfl)
theorem dX7_says_20 : decode cX7_says 20 = .ok (.putfield 464, 3) := dk_181 1 208 (dk_at dksX7_says_0 20 rfl rfl)
theorem dX7_says_23 : decode cX7_says 23 = .ok (.aload_n 0, 1) := dk_42 (dk_at dksX7_says_0 23 rfl rfl)
theorem dX7_says_24 : decode cX7_says 24 = .ok (.dup, 1) := dk_89 (dk_at dksX7_says_1 0 rfl rfl)
theorem dX7_says_25 : decode cX7_says 25 = .ok (.getfield 458, 3) := dk_180 1 202 (dk_at dksX7_says_1 1 rfl rfl)
theorem dX7_says_28 : decode cX7_says 28 = .ok (.iconst 1, 1) := dk_4 (dk_at dksX7_says_1 4 rfl rfl)
theorem dX7_says_29 : decode cX7_says 29 = .ok (.iadd, 1) := dk_96 (dk_at dksX7_says_1 5 rfl rfl)
theorem dX7_says_30 : decode cX7_says 30 = .ok (.putfield 458, 3) := dk_181 1 202 (dk_at dksX7_says_1 6 rfl rfl)
theorem dX7_says_33 : decode cX7_says 33 = .ok (.return_, 1) := dk_177 (dk_at dksX7_says_1 9 rfl rfl)
abbrev cX7_saysNumber : ByteArray := prog_13_method_108_code
def yX7_saysNumber : MethodName := ⟨RX7, "saysNumber", "(I)V"⟩
def dkwX7_saysNumber_1 : List UInt8 := [16, 48, 27, 28, 108, 16, 10, 112, 96, 182, 1, 213, 28, 16, 10, 108, 61, 167, 255, 234, 177]
abbrev dktX7_saysNumber_1 : List UInt8 := dkwX7_saysNumber_1 ++ []
def dkwX7_saysNumber_0 : List UInt8 := [4, 61, 27, 28, 108, 16, 9, 164, 0, 11, 28, 16, 10, 104, 61, 167, 255, 243, 28, 158, 0, 24, 42]
abbrev dktX7_saysNumber_0 : List UInt8 := dkwX7_saysNumber_0 ++ dktX7_saysNumber_1
theorem dksX7_saysNumber_0 : cX7_saysNumber.data.toList.drop 0 = dktX7_saysNumber_0 := by decide +kernel
theorem dksX7_saysNumber_1 : cX7_saysNumber.data.toList.drop 23 = dktX7_saysNumber_1 := dk_seg dksX7_saysNumber_0 23 rfl rfl
theorem dX7_saysNumber_0 : decode cX7_saysNumber 0 = .ok (.iconst 1, 1) := dk_4 (dk_at dksX7_saysNumber_0 0 rfl rfl)
theorem dX7_saysNumber_1 : decode cX7_saysNumber 1 = .ok (.istore_n 2, 1) := dk_61 (dk_at dksX7_saysNumber_0 1 rfl rfl)
theorem dX7_saysNumber_2 : decode cX7_saysNumber 2 = .ok (.iload_n 1, 1) := dk_27 (dk_at dksX7_saysNumber_0 2 rfl rfl)
theorem dX7_saysNumber_3 : decode cX7_saysNumber 3 = .ok (.iload_n 2, 1) := dk_28 (dk_at dksX7_saysNumber_0 3 rfl rfl)
theorem dX7_saysNumber_4 : decode cX7_saysNumber 4 = .ok (.idiv, 1) := dk_108 (dk_at dksX7_saysNumber_0 4 rfl rfl)
theorem dX7_saysNumber_5 : decode cX7_saysNumber 5 = .ok (.bipush 9, 2) := dk_16 9 (dk_at dksX7_saysNumber_0 5 rfl rfl)
theorem dX7_saysNumber_7 : decode cX7_saysNumber 7 = .ok (.if_icmp .le 11, 3) := dk_164 0 11 (dk_at dksX7_saysNumber_0 7 rfl rfl)
theorem dX7_saysNumber_10 : decode cX7_saysNumber 10 = .ok (.iload_n 2, 1) := dk_28 (dk_at dksX7_saysNumber_0 10 rfl rfl)
theorem dX7_saysNumber_11 : decode cX7_saysNumber 11 = .ok (.bipush 10, 2) := dk_16 10 (dk_at dksX7_saysNumber_0 11 rfl rfl)
theorem dX7_saysNumber_13 : decode cX7_saysNumber 13 = .ok (.imul, 1) := dk_104 (dk_at dksX7_saysNumber_0 13 rfl rfl)
theorem dX7_saysNumber_14 : decode cX7_saysNumber 14 = .ok (.istore_n 2, 1) := dk_61 (dk_at dksX7_saysNumber_0 14 rfl rfl)
theorem dX7_saysNumber_15 : decode cX7_saysNumber 15 = .ok (.goto (-13), 3) := dk_167 255 243 (dk_at dksX7_saysNumber_0 15 rfl rfl)
theorem dX7_saysNumber_18 : decode cX7_saysNumber 18 = .ok (.iload_n 2, 1) := dk_28 (dk_at dksX7_saysNumber_0 18 rfl rfl)
theorem dX7_saysNumber_19 : decode cX7_saysNumber 19 = .ok (.ifCond .le 24, 3) := dk_158 0 24 (dk_at dksX7_saysNumber_0 19 rfl rfl)
theorem dX7_saysNumber_22 : decode cX7_saysNumber 22 = .ok (.aload_n 0, 1) := dk_42 (dk_at dksX7_saysNumber_0 22 rfl rfl)
theorem dX7_saysNumber_23 : decode cX7_saysNumber 23 = .ok (.bipush 48, 2) := dk_16 48 (dk_at dksX7_saysNumber_1 0 rfl rfl)
theorem dX7_saysNumber_25 : decode cX7_saysNumber 25 = .ok (.iload_n 1, 1) := dk_27 (dk_at dksX7_saysNumber_1 2 rfl rfl)
theorem dX7_saysNumber_26 : decode cX7_saysNumber 26 = .ok (.iload_n 2, 1) := dk_28 (dk_at dksX7_saysNumber_1 3 rfl rfl)
theorem dX7_saysNumber_27 : decode cX7_saysNumber 27 = .ok (.idiv, 1) := dk_108 (dk_at dksX7_saysNumber_1 4 rfl rfl)
theorem dX7_saysNumber_28 : decode cX7_saysNumber 28 = .ok (.bipush 10, 2) := dk_16 10 (dk_at dksX7_saysNumber_1 5 rfl rfl)
theorem dX7_saysNumber_30 : decode cX7_saysNumber 30 = .ok (.irem, 1) := dk_112 (dk_at dksX7_saysNumber_1 7 rfl rfl)
theorem dX7_saysNumber_31 : decode cX7_saysNumber 31 = .ok (.iadd, 1) := dk_96 (dk_at dksX7_saysNumber_1 8 rfl rfl)
theorem dX7_saysNumber_32 : decode cX7_saysNumber 32 = .ok (.invokevirtual 469, 3) := dk_182 1 213 (dk_at dksX7_saysNumber_1 9 rfl rfl)
theorem dX7_saysNumber_35 : decode cX7_saysNumber 35 = .ok (.iload_n 2, 1) := dk_28 (dk_at dksX7_saysNumber_1 12 rfl rfl)
theorem dX7_saysNumber_36 : decode cX7_saysNumber 36 = .ok (.bipush 10, 2) := dk_16 10 (dk_at dksX7_saysNumber_1 13 rfl rfl)
theorem dX7_saysNumber_38 : decode cX7_saysNumber 38 = .ok (.idiv, 1) := dk_108 (dk_at dksX7_saysNumber_1 15 rfl rfl)
theorem dX7_saysNumber_39 : decode cX7_saysNumber 39 = .ok (.istore_n 2, 1) := dk_61 (dk_at dksX7_saysNumber_1 16 rfl rfl)
theorem dX7_saysNumber_40 : decode cX7_saysNumber 40 = .ok (.goto (-22), 3) := dk_167 255 234 (dk_at dksX7_saysNumber_1 17 rfl rfl)
theorem dX7_saysNumber_43 : decode cX7_saysNumber 43 = .ok (.return_, 1) := dk_177 (dk_at dksX7_saysNumber_1 20 rfl rfl)
abbrev cX7_saysBuses : ByteArray := prog_13_method_109_code
def yX7_saysBuses : MethodName := ⟨RX7, "saysBuses", "(IZ)V"⟩
def dkwX7_saysBuses_3 : List UInt8 := [177]
abbrev dktX7_saysBuses_3 : List UInt8 := dkwX7_saysBuses_3 ++ []
def dkwX7_saysBuses_2 : List UInt8 := [153, 0, 8, 16, 42, 167, 0, 5, 16, 45, 182, 1, 213, 42, 29, 182, 1, 216, 132, 3, 1, 167, 255, 191]
abbrev dktX7_saysBuses_2 : List UInt8 := dkwX7_saysBuses_2 ++ dktX7_saysBuses_3
def dkwX7_saysBuses_1 : List UInt8 := [182, 0, 171, 153, 0, 38, 42, 29, 182, 0, 181, 28, 160, 0, 29, 42, 16, 32, 182, 1, 213, 42, 28]
abbrev dktX7_saysBuses_1 : List UInt8 := dkwX7_saysBuses_1 ++ dktX7_saysBuses_2
def dkwX7_saysBuses_0 : List UInt8 := [3, 62, 29, 42, 180, 0, 118, 162, 0, 63, 42, 29, 4, 182, 0, 171, 27, 160, 0, 47, 42, 29, 3]
abbrev dktX7_saysBuses_0 : List UInt8 := dkwX7_saysBuses_0 ++ dktX7_saysBuses_1
theorem dksX7_saysBuses_0 : cX7_saysBuses.data.toList.drop 0 = dktX7_saysBuses_0 := by decide +kernel
theorem dksX7_saysBuses_1 : cX7_saysBuses.data.toList.drop 23 = dktX7_saysBuses_1 := dk_seg dksX7_saysBuses_0 23 rfl rfl
theorem dksX7_saysBuses_2 : cX7_saysBuses.data.toList.drop 46 = dktX7_saysBuses_2 := dk_seg dksX7_saysBuses_1 23 rfl rfl
theorem dksX7_saysBuses_3 : cX7_saysBuses.data.toList.drop 70 = dktX7_saysBuses_3 := dk_seg dksX7_saysBuses_2 24 rfl rfl
theorem dX7_saysBuses_0 : decode cX7_saysBuses 0 = .ok (.iconst 0, 1) := dk_3 (dk_at dksX7_saysBuses_0 0 rfl rfl)
theorem dX7_saysBuses_1 : decode cX7_saysBuses 1 = .ok (.istore_n 3, 1) := dk_62 (dk_at dksX7_saysBuses_0 1 rfl rfl)
theorem dX7_saysBuses_2 : decode cX7_saysBuses 2 = .ok (.iload_n 3, 1) := dk_29 (dk_at dksX7_saysBuses_0 2 rfl rfl)
theorem dX7_saysBuses_3 : decode cX7_saysBuses 3 = .ok (.aload_n 0, 1) := dk_42 (dk_at dksX7_saysBuses_0 3 rfl rfl)
theorem dX7_saysBuses_4 : decode cX7_saysBuses 4 = .ok (.getfield 118, 3) := dk_180 0 118 (dk_at dksX7_saysBuses_0 4 rfl rfl)
theorem dX7_saysBuses_7 : decode cX7_saysBuses 7 = .ok (.if_icmp .ge 63, 3) := dk_162 0 63 (dk_at dksX7_saysBuses_0 7 rfl rfl)
theorem dX7_saysBuses_10 : decode cX7_saysBuses 10 = .ok (.aload_n 0, 1) := dk_42 (dk_at dksX7_saysBuses_0 10 rfl rfl)
theorem dX7_saysBuses_11 : decode cX7_saysBuses 11 = .ok (.iload_n 3, 1) := dk_29 (dk_at dksX7_saysBuses_0 11 rfl rfl)
theorem dX7_saysBuses_12 : decode cX7_saysBuses 12 = .ok (.iconst 1, 1) := dk_4 (dk_at dksX7_saysBuses_0 12 rfl rfl)
theorem dX7_saysBuses_13 : decode cX7_saysBuses 13 = .ok (.invokevirtual 171, 3) := dk_182 0 171 (dk_at dksX7_saysBuses_0 13 rfl rfl)
theorem dX7_saysBuses_16 : decode cX7_saysBuses 16 = .ok (.iload_n 1, 1) := dk_27 (dk_at dksX7_saysBuses_0 16 rfl rfl)
theorem dX7_saysBuses_17 : decode cX7_saysBuses 17 = .ok (.if_icmp .ne 47, 3) := dk_160 0 47 (dk_at dksX7_saysBuses_0 17 rfl rfl)
theorem dX7_saysBuses_20 : decode cX7_saysBuses 20 = .ok (.aload_n 0, 1) := dk_42 (dk_at dksX7_saysBuses_0 20 rfl rfl)
theorem dX7_saysBuses_21 : decode cX7_saysBuses 21 = .ok (.iload_n 3, 1) := dk_29 (dk_at dksX7_saysBuses_0 21 rfl rfl)
theorem dX7_saysBuses_22 : decode cX7_saysBuses 22 = .ok (.iconst 0, 1) := dk_3 (dk_at dksX7_saysBuses_0 22 rfl rfl)
theorem dX7_saysBuses_23 : decode cX7_saysBuses 23 = .ok (.invokevirtual 171, 3) := dk_182 0 171 (dk_at dksX7_saysBuses_1 0 rfl rfl)
theorem dX7_saysBuses_26 : decode cX7_saysBuses 26 = .ok (.ifCond .eq 38, 3) := dk_153 0 38 (dk_at dksX7_saysBuses_1 3 rfl rfl)
theorem dX7_saysBuses_29 : decode cX7_saysBuses 29 = .ok (.aload_n 0, 1) := dk_42 (dk_at dksX7_saysBuses_1 6 rfl rfl)
theorem dX7_saysBuses_30 : decode cX7_saysBuses 30 = .ok (.iload_n 3, 1) := dk_29 (dk_at dksX7_saysBuses_1 7 rfl rfl)
theorem dX7_saysBuses_31 : decode cX7_saysBuses 31 = .ok (.invokevirtual 181, 3) := dk_182 0 181 (dk_at dksX7_saysBuses_1 8 rfl rfl)
theorem dX7_saysBuses_34 : decode cX7_saysBuses 34 = .ok (.iload_n 2, 1) := dk_28 (dk_at dksX7_saysBuses_1 11 rfl rfl)
theorem dX7_saysBuses_35 : decode cX7_saysBuses 35 = .ok (.if_icmp .ne 29, 3) := dk_160 0 29 (dk_at dksX7_saysBuses_1 12 rfl rfl)
theorem dX7_saysBuses_38 : decode cX7_saysBuses 38 = .ok (.aload_n 0, 1) := dk_42 (dk_at dksX7_saysBuses_1 15 rfl rfl)
theorem dX7_saysBuses_39 : decode cX7_saysBuses 39 = .ok (.bipush 32, 2) := dk_16 32 (dk_at dksX7_saysBuses_1 16 rfl rfl)
theorem dX7_saysBuses_41 : decode cX7_saysBuses 41 = .ok (.invokevirtual 469, 3) := dk_182 1 213 (dk_at dksX7_saysBuses_1 18 rfl rfl)
theorem dX7_saysBuses_44 : decode cX7_saysBuses 44 = .ok (.aload_n 0, 1) := dk_42 (dk_at dksX7_saysBuses_1 21 rfl rfl)
theorem dX7_saysBuses_45 : decode cX7_saysBuses 45 = .ok (.iload_n 2, 1) := dk_28 (dk_at dksX7_saysBuses_1 22 rfl rfl)
theorem dX7_saysBuses_46 : decode cX7_saysBuses 46 = .ok (.ifCond .eq 8, 3) := dk_153 0 8 (dk_at dksX7_saysBuses_2 0 rfl rfl)
theorem dX7_saysBuses_49 : decode cX7_saysBuses 49 = .ok (.bipush 42, 2) := dk_16 42 (dk_at dksX7_saysBuses_2 3 rfl rfl)
theorem dX7_saysBuses_51 : decode cX7_saysBuses 51 = .ok (.goto 5, 3) := dk_167 0 5 (dk_at dksX7_saysBuses_2 5 rfl rfl)
theorem dX7_saysBuses_54 : decode cX7_saysBuses 54 = .ok (.bipush 45, 2) := dk_16 45 (dk_at dksX7_saysBuses_2 8 rfl rfl)
theorem dX7_saysBuses_56 : decode cX7_saysBuses 56 = .ok (.invokevirtual 469, 3) := dk_182 1 213 (dk_at dksX7_saysBuses_2 10 rfl rfl)
theorem dX7_saysBuses_59 : decode cX7_saysBuses 59 = .ok (.aload_n 0, 1) := dk_42 (dk_at dksX7_saysBuses_2 13 rfl rfl)
theorem dX7_saysBuses_60 : decode cX7_saysBuses 60 = .ok (.iload_n 3, 1) := dk_29 (dk_at dksX7_saysBuses_2 14 rfl rfl)
theorem dX7_saysBuses_61 : decode cX7_saysBuses 61 = .ok (.invokevirtual 472, 3) := dk_182 1 216 (dk_at dksX7_saysBuses_2 15 rfl rfl)
theorem dX7_saysBuses_64 : decode cX7_saysBuses 64 = .ok (.iinc 3 1, 3) := dk_132 3 1 (dk_at dksX7_saysBuses_2 18 rfl rfl)
theorem dX7_saysBuses_67 : decode cX7_saysBuses 67 = .ok (.goto (-65), 3) := dk_167 255 191 (dk_at dksX7_saysBuses_2 21 rfl rfl)
theorem dX7_saysBuses_70 : decode cX7_saysBuses 70 = .ok (.return_, 1) := dk_177 (dk_at dksX7_saysBuses_3 0 rfl rfl)
abbrev cX7_boardByte : ByteArray := prog_13_method_112_code
def yX7_boardByte : MethodName := ⟨RX7, "boardByte", "(I)I"⟩
def dkwX7_boardByte_0 : List UInt8 := [27, 156, 0, 5, 2, 172, 42, 27, 182, 1, 230, 42, 180, 1, 208, 172]
abbrev dktX7_boardByte_0 : List UInt8 := dkwX7_boardByte_0 ++ []
theorem dksX7_boardByte_0 : cX7_boardByte.data.toList.drop 0 = dktX7_boardByte_0 := by decide +kernel
theorem dX7_boardByte_0 : decode cX7_boardByte 0 = .ok (.iload_n 1, 1) := dk_27 (dk_at dksX7_boardByte_0 0 rfl rfl)
theorem dX7_boardByte_1 : decode cX7_boardByte 1 = .ok (.ifCond .ge 5, 3) := dk_156 0 5 (dk_at dksX7_boardByte_0 1 rfl rfl)
theorem dX7_boardByte_4 : decode cX7_boardByte 4 = .ok (.iconst (-1), 1) := dk_2 (dk_at dksX7_boardByte_0 4 rfl rfl)
theorem dX7_boardByte_5 : decode cX7_boardByte 5 = .ok (.ireturn, 1) := dk_172 (dk_at dksX7_boardByte_0 5 rfl rfl)
theorem dX7_boardByte_6 : decode cX7_boardByte 6 = .ok (.aload_n 0, 1) := dk_42 (dk_at dksX7_boardByte_0 6 rfl rfl)
theorem dX7_boardByte_7 : decode cX7_boardByte 7 = .ok (.iload_n 1, 1) := dk_27 (dk_at dksX7_boardByte_0 7 rfl rfl)
theorem dX7_boardByte_8 : decode cX7_boardByte 8 = .ok (.invokevirtual 486, 3) := dk_182 1 230 (dk_at dksX7_boardByte_0 8 rfl rfl)
theorem dX7_boardByte_11 : decode cX7_boardByte 11 = .ok (.aload_n 0, 1) := dk_42 (dk_at dksX7_boardByte_0 11 rfl rfl)
theorem dX7_boardByte_12 : decode cX7_boardByte 12 = .ok (.getfield 464, 3) := dk_180 1 208 (dk_at dksX7_boardByte_0 12 rfl rfl)
theorem dX7_boardByte_15 : decode cX7_boardByte 15 = .ok (.ireturn, 1) := dk_172 (dk_at dksX7_boardByte_0 15 rfl rfl)
abbrev cX7_storyLength : ByteArray := prog_13_method_115_code
def yX7_storyLength : MethodName := ⟨RX7, "storyLength", "()I"⟩
def dkwX7_storyLength_0 : List UInt8 := [42, 2, 182, 1, 247, 42, 180, 1, 202, 172]
abbrev dktX7_storyLength_0 : List UInt8 := dkwX7_storyLength_0 ++ []
theorem dksX7_storyLength_0 : cX7_storyLength.data.toList.drop 0 = dktX7_storyLength_0 := by decide +kernel
theorem dX7_storyLength_0 : decode cX7_storyLength 0 = .ok (.aload_n 0, 1) := dk_42 (dk_at dksX7_storyLength_0 0 rfl rfl)
theorem dX7_storyLength_1 : decode cX7_storyLength 1 = .ok (.iconst (-1), 1) := dk_2 (dk_at dksX7_storyLength_0 1 rfl rfl)
theorem dX7_storyLength_2 : decode cX7_storyLength 2 = .ok (.invokevirtual 503, 3) := dk_182 1 247 (dk_at dksX7_storyLength_0 2 rfl rfl)
theorem dX7_storyLength_5 : decode cX7_storyLength 5 = .ok (.aload_n 0, 1) := dk_42 (dk_at dksX7_storyLength_0 5 rfl rfl)
theorem dX7_storyLength_6 : decode cX7_storyLength 6 = .ok (.getfield 458, 3) := dk_180 1 202 (dk_at dksX7_storyLength_0 6 rfl rfl)
theorem dX7_storyLength_9 : decode cX7_storyLength 9 = .ok (.ireturn, 1) := dk_172 (dk_at dksX7_storyLength_0 9 rfl rfl)
abbrev cX7_saysStory : ByteArray := prog_13_method_114_code
def yX7_saysStory : MethodName := ⟨RX7, "saysStory", "(I)V"⟩
def dkwX7_saysStory_5 : List UInt8 := [182, 1, 213, 132, 2, 1, 167, 255, 137, 177]
abbrev dktX7_saysStory_5 : List UInt8 := dkwX7_saysStory_5 ++ []
def dkwX7_saysStory_4 : List UInt8 := [182, 1, 222, 42, 16, 32, 182, 1, 213, 42, 42, 180, 0, 51, 29, 7, 96, 46, 182, 1, 216, 42, 16, 10]
abbrev dktX7_saysStory_4 : List UInt8 := dkwX7_saysStory_4 ++ dktX7_saysStory_5
def dkwX7_saysStory_3 : List UInt8 := [182, 1, 216, 42, 16, 32, 182, 1, 213, 42, 42, 180, 0, 21, 42, 180, 0, 51, 29, 6, 96, 46, 46, 133]
abbrev dktX7_saysStory_3 : List UInt8 := dkwX7_saysStory_3 ++ dktX7_saysStory_4
def dkwX7_saysStory_2 : List UInt8 := [4, 96, 46, 184, 1, 243, 182, 1, 222, 42, 16, 32, 182, 1, 213, 42, 42, 180, 0, 51, 29, 5, 96, 46]
abbrev dktX7_saysStory_2 : List UInt8 := dkwX7_saysStory_2 ++ dktX7_saysStory_3
def dkwX7_saysStory_1 : List UInt8 := [96, 62, 42, 42, 180, 0, 51, 29, 46, 182, 1, 216, 42, 16, 32, 182, 1, 213, 42, 42, 180, 0, 51, 29]
abbrev dktX7_saysStory_1 : List UInt8 := dkwX7_saysStory_1 ++ dktX7_saysStory_2
def dkwX7_saysStory_0 : List UInt8 := [42, 27, 182, 1, 219, 3, 61, 28, 42, 180, 0, 51, 16, 12, 46, 162, 0, 114, 17, 6, 146, 8, 28, 104]
abbrev dktX7_saysStory_0 : List UInt8 := dkwX7_saysStory_0 ++ dktX7_saysStory_1
theorem dksX7_saysStory_0 : cX7_saysStory.data.toList.drop 0 = dktX7_saysStory_0 := by decide +kernel
theorem dksX7_saysStory_1 : cX7_saysStory.data.toList.drop 24 = dktX7_saysStory_1 := dk_seg dksX7_saysStory_0 24 rfl rfl
theorem dksX7_saysStory_2 : cX7_saysStory.data.toList.drop 48 = dktX7_saysStory_2 := dk_seg dksX7_saysStory_1 24 rfl rfl
theorem dksX7_saysStory_3 : cX7_saysStory.data.toList.drop 72 = dktX7_saysStory_3 := dk_seg dksX7_saysStory_2 24 rfl rfl
theorem dksX7_saysStory_4 : cX7_saysStory.data.toList.drop 96 = dktX7_saysStory_4 := dk_seg dksX7_saysStory_3 24 rfl rfl
theorem dksX7_saysStory_5 : cX7_saysStory.data.toList.drop 120 = dktX7_saysStory_5 := dk_seg dksX7_saysStory_4 24 rfl rfl
theorem dX7_saysStory_0 : decode cX7_saysStory 0 = .ok (.aload_n 0, 1) := dk_42 (dk_at dksX7_saysStory_0 0 rfl rfl)
theorem dX7_saysStory_1 : decode cX7_saysStory 1 = .ok (.iload_n 1, 1) := dk_27 (dk_at dksX7_saysStory_0 1 rfl rfl)
theorem dX7_saysStory_2 : decode cX7_saysStory 2 = .ok (.invokevirtual 475, 3) := dk_182 1 219 (dk_at dksX7_saysStory_0 2 rfl rfl)
theorem dX7_saysStory_5 : decode cX7_saysStory 5 = .ok (.iconst 0, 1) := dk_3 (dk_at dksX7_saysStory_0 5 rfl rfl)
theorem dX7_saysStory_6 : decode cX7_saysStory 6 = .ok (.istore_n 2, 1) := dk_61 (dk_at dksX7_saysStory_0 6 rfl rfl)
theorem dX7_saysStory_7 : decode cX7_saysStory 7 = .ok (.iload_n 2, 1) := dk_28 (dk_at dksX7_saysStory_0 7 rfl rfl)
theorem dX7_saysStory_8 : decode cX7_saysStory 8 = .ok (.aload_n 0, 1) := dk_42 (dk_at dksX7_saysStory_0 8 rfl rfl)
theorem dX7_saysStory_9 : decode cX7_saysStory 9 = .ok (.getfield 51, 3) := dk_180 0 51 (dk_at dksX7_saysStory_0 9 rfl rfl)
theorem dX7_saysStory_12 : decode cX7_saysStory 12 = .ok (.bipush 12, 2) := dk_16 12 (dk_at dksX7_saysStory_0 12 rfl rfl)
theorem dX7_saysStory_14 : decode cX7_saysStory 14 = .ok (.iaload, 1) := dk_46 (dk_at dksX7_saysStory_0 14 rfl rfl)
theorem dX7_saysStory_15 : decode cX7_saysStory 15 = .ok (.if_icmp .ge 114, 3) := dk_162 0 114 (dk_at dksX7_saysStory_0 15 rfl rfl)
theorem dX7_saysStory_18 : decode cX7_saysStory 18 = .ok (.sipush 1682, 3) := dk_17 6 146 (dk_at dksX7_saysStory_0 18 rfl rfl)
theorem dX7_saysStory_21 : decode cX7_saysStory 21 = .ok (.iconst 5, 1) := dk_8 (dk_at dksX7_saysStory_0 21 rfl rfl)
theorem dX7_saysStory_22 : decode cX7_saysStory 22 = .ok (.iload_n 2, 1) := dk_28 (dk_at dksX7_saysStory_0 22 rfl rfl)
theorem dX7_saysStory_23 : decode cX7_saysStory 23 = .ok (.imul, 1) := dk_104 (dk_at dksX7_saysStory_0 23 rfl rfl)
theorem dX7_saysStory_24 : decode cX7_saysStory 24 = .ok (.iadd, 1) := dk_96 (dk_at dksX7_saysStory_1 0 rfl rfl)
theorem dX7_saysStory_25 : decode cX7_saysStory 25 = .ok (.istore_n 3, 1) := dk_62 (dk_at dksX7_saysStory_1 1 rfl rfl)
theorem dX7_saysStory_26 : decode cX7_saysStory 26 = .ok (.aload_n 0, 1) := dk_42 (dk_at dksX7_saysStory_1 2 rfl rfl)
theorem dX7_saysStory_27 : decode cX7_saysStory 27 = .ok (.aload_n 0, 1) := dk_42 (dk_at dksX7_saysStory_1 3 rfl rfl)
theorem dX7_saysStory_28 : decode cX7_saysStory 28 = .ok (.getfield 51, 3) := dk_180 0 51 (dk_at dksX7_saysStory_1 4 rfl rfl)
theorem dX7_saysStory_31 : decode cX7_saysStory 31 = .ok (.iload_n 3, 1) := dk_29 (dk_at dksX7_saysStory_1 7 rfl rfl)
theorem dX7_saysStory_32 : decode cX7_saysStory 32 = .ok (.iaload, 1) := dk_46 (dk_at dksX7_saysStory_1 8 rfl rfl)
theorem dX7_saysStory_33 : decode cX7_saysStory 33 = .ok (.invokevirtual 472, 3) := dk_182 1 216 (dk_at dksX7_saysStory_1 9 rfl rfl)
theorem dX7_saysStory_36 : decode cX7_saysStory 36 = .ok (.aload_n 0, 1) := dk_42 (dk_at dksX7_saysStory_1 12 rfl rfl)
theorem dX7_saysStory_37 : decode cX7_saysStory 37 = .ok (.bipush 32, 2) := dk_16 32 (dk_at dksX7_saysStory_1 13 rfl rfl)
theorem dX7_saysStory_39 : decode cX7_saysStory 39 = .ok (.invokevirtual 469, 3) := dk_182 1 213 (dk_at dksX7_saysStory_1 15 rfl rfl)
theorem dX7_saysStory_42 : decode cX7_saysStory 42 = .ok (.aload_n 0, 1) := dk_42 (dk_at dksX7_saysStory_1 18 rfl rfl)
theorem dX7_saysStory_43 : decode cX7_saysStory 43 = .ok (.aload_n 0, 1) := dk_42 (dk_at dksX7_saysStory_1 19 rfl rfl)
theorem dX7_saysStory_44 : decode cX7_saysStory 44 = .ok (.getfield 51, 3) := dk_180 0 51 (dk_at dksX7_saysStory_1 20 rfl rfl)
theorem dX7_saysStory_47 : decode cX7_saysStory 47 = .ok (.iload_n 3, 1) := dk_29 (dk_at dksX7_saysStory_1 23 rfl rfl)
theorem dX7_saysStory_48 : decode cX7_saysStory 48 = .ok (.iconst 1, 1) := dk_4 (dk_at dksX7_saysStory_2 0 rfl rfl)
theorem dX7_saysStory_49 : decode cX7_saysStory 49 = .ok (.iadd, 1) := dk_96 (dk_at dksX7_saysStory_2 1 rfl rfl)
theorem dX7_saysStory_50 : decode cX7_saysStory 50 = .ok (.iaload, 1) := dk_46 (dk_at dksX7_saysStory_2 2 rfl rfl)
theorem dX7_saysStory_51 : decode cX7_saysStory 51 = .ok (.invokestatic 499, 3) := dk_184 1 243 (dk_at dksX7_saysStory_2 3 rfl rfl)
theorem dX7_saysStory_54 : decode cX7_saysStory 54 = .ok (.invokevirtual 478, 3) := dk_182 1 222 (dk_at dksX7_saysStory_2 6 rfl rfl)
theorem dX7_saysStory_57 : decode cX7_saysStory 57 = .ok (.aload_n 0, 1) := dk_42 (dk_at dksX7_saysStory_2 9 rfl rfl)
theorem dX7_saysStory_58 : decode cX7_saysStory 58 = .ok (.bipush 32, 2) := dk_16 32 (dk_at dksX7_saysStory_2 10 rfl rfl)
theorem dX7_saysStory_60 : decode cX7_saysStory 60 = .ok (.invokevirtual 469, 3) := dk_182 1 213 (dk_at dksX7_saysStory_2 12 rfl rfl)
theorem dX7_saysStory_63 : decode cX7_saysStory 63 = .ok (.aload_n 0, 1) := dk_42 (dk_at dksX7_saysStory_2 15 rfl rfl)
theorem dX7_saysStory_64 : decode cX7_saysStory 64 = .ok (.aload_n 0, 1) := dk_42 (dk_at dksX7_saysStory_2 16 rfl rfl)
theorem dX7_saysStory_65 : decode cX7_saysStory 65 = .ok (.getfield 51, 3) := dk_180 0 51 (dk_at dksX7_saysStory_2 17 rfl rfl)
theorem dX7_saysStory_68 : decode cX7_saysStory 68 = .ok (.iload_n 3, 1) := dk_29 (dk_at dksX7_saysStory_2 20 rfl rfl)
theorem dX7_saysStory_69 : decode cX7_saysStory 69 = .ok (.iconst 2, 1) := dk_5 (dk_at dksX7_saysStory_2 21 rfl rfl)
theorem dX7_saysStory_70 : decode cX7_saysStory 70 = .ok (.iadd, 1) := dk_96 (dk_at dksX7_saysStory_2 22 rfl rfl)
theorem dX7_saysStory_71 : decode cX7_saysStory 71 = .ok (.iaload, 1) := dk_46 (dk_at dksX7_saysStory_2 23 rfl rfl)
theorem dX7_saysStory_72 : decode cX7_saysStory 72 = .ok (.invokevirtual 472, 3) := dk_182 1 216 (dk_at dksX7_saysStory_3 0 rfl rfl)
theorem dX7_saysStory_75 : decode cX7_saysStory 75 = .ok (.aload_n 0, 1) := dk_42 (dk_at dksX7_saysStory_3 3 rfl rfl)
theorem dX7_saysStory_76 : decode cX7_saysStory 76 = .ok (.bipush 32, 2) := dk_16 32 (dk_at dksX7_saysStory_3 4 rfl rfl)
theorem dX7_saysStory_78 : decode cX7_saysStory 78 = .ok (.invokevirtual 469, 3) := dk_182 1 213 (dk_at dksX7_saysStory_3 6 rfl rfl)
theorem dX7_saysStory_81 : decode cX7_saysStory 81 = .ok (.aload_n 0, 1) := dk_42 (dk_at dksX7_saysStory_3 9 rfl rfl)
theorem dX7_saysStory_82 : decode cX7_saysStory 82 = .ok (.aload_n 0, 1) := dk_42 (dk_at dksX7_saysStory_3 10 rfl rfl)
theorem dX7_saysStory_83 : decode cX7_saysStory 83 = .ok (.getfield 21, 3) := dk_180 0 21 (dk_at dksX7_saysStory_3 11 rfl rfl)
theorem dX7_saysStory_86 : decode cX7_saysStory 86 = .ok (.aload_n 0, 1) := dk_42 (dk_at dksX7_saysStory_3 14 rfl rfl)
theorem dX7_saysStory_87 : decode cX7_saysStory 87 = .ok (.getfield 51, 3) := dk_180 0 51 (dk_at dksX7_saysStory_3 15 rfl rfl)
theorem dX7_saysStory_90 : decode cX7_saysStory 90 = .ok (.iload_n 3, 1) := dk_29 (dk_at dksX7_saysStory_3 18 rfl rfl)
theorem dX7_saysStory_91 : decode cX7_saysStory 91 = .ok (.iconst 3, 1) := dk_6 (dk_at dksX7_saysStory_3 19 rfl rfl)
theorem dX7_saysStory_92 : decode cX7_saysStory 92 = .ok (.iadd, 1) := dk_96 (dk_at dksX7_saysStory_3 20 rfl rfl)
theorem dX7_saysStory_93 : decode cX7_saysStory 93 = .ok (.iaload, 1) := dk_46 (dk_at dksX7_saysStory_3 21 rfl rfl)
theorem dX7_saysStory_94 : decode cX7_saysStory 94 = .ok (.iaload, 1) := dk_46 (dk_at dksX7_saysStory_3 22 rfl rfl)
theorem dX7_saysStory_95 : decode cX7_saysStory 95 = .ok (.i2l, 1) := dk_133 (dk_at dksX7_saysStory_3 23 rfl rfl)
theorem dX7_saysStory_96 : decode cX7_saysStory 96 = .ok (.invokevirtual 478, 3) := dk_182 1 222 (dk_at dksX7_saysStory_4 0 rfl rfl)
theorem dX7_saysStory_99 : decode cX7_saysStory 99 = .ok (.aload_n 0, 1) := dk_42 (dk_at dksX7_saysStory_4 3 rfl rfl)
theorem dX7_saysStory_100 : decode cX7_saysStory 100 = .ok (.bipush 32, 2) := dk_16 32 (dk_at dksX7_saysStory_4 4 rfl rfl)
theorem dX7_saysStory_102 : decode cX7_saysStory 102 = .ok (.invokevirtual 469, 3) := dk_182 1 213 (dk_at dksX7_saysStory_4 6 rfl rfl)
theorem dX7_saysStory_105 : decode cX7_saysStory 105 = .ok (.aload_n 0, 1) := dk_42 (dk_at dksX7_saysStory_4 9 rfl rfl)
theorem dX7_saysStory_106 : decode cX7_saysStory 106 = .ok (.aload_n 0, 1) := dk_42 (dk_at dksX7_saysStory_4 10 rfl rfl)
theorem dX7_saysStory_107 : decode cX7_saysStory 107 = .ok (.getfield 51, 3) := dk_180 0 51 (dk_at dksX7_saysStory_4 11 rfl rfl)
theorem dX7_saysStory_110 : decode cX7_saysStory 110 = .ok (.iload_n 3, 1) := dk_29 (dk_at dksX7_saysStory_4 14 rfl rfl)
theorem dX7_saysStory_111 : decode cX7_saysStory 111 = .ok (.iconst 4, 1) := dk_7 (dk_at dksX7_saysStory_4 15 rfl rfl)
theorem dX7_saysStory_112 : decode cX7_saysStory 112 = .ok (.iadd, 1) := dk_96 (dk_at dksX7_saysStory_4 16 rfl rfl)
theorem dX7_saysStory_113 : decode cX7_saysStory 113 = .ok (.iaload, 1) := dk_46 (dk_at dksX7_saysStory_4 17 rfl rfl)
theorem dX7_saysStory_114 : decode cX7_saysStory 114 = .ok (.invokevirtual 472, 3) := dk_182 1 216 (dk_at dksX7_saysStory_4 18 rfl rfl)
theorem dX7_saysStory_117 : decode cX7_saysStory 117 = .ok (.aload_n 0, 1) := dk_42 (dk_at dksX7_saysStory_4 21 rfl rfl)
theorem dX7_saysStory_118 : decode cX7_saysStory 118 = .ok (.bipush 10, 2) := dk_16 10 (dk_at dksX7_saysStory_4 22 rfl rfl)
theorem dX7_saysStory_120 : decode cX7_saysStory 120 = .ok (.invokevirtual 469, 3) := dk_182 1 213 (dk_at dksX7_saysStory_5 0 rfl rfl)
theorem dX7_saysStory_123 : decode cX7_saysStory 123 = .ok (.iinc 2 1, 3) := dk_132 2 1 (dk_at dksX7_saysStory_5 3 rfl rfl)
theorem dX7_saysStory_126 : decode cX7_saysStory 126 = .ok (.goto (-119), 3) := dk_167 255 137 (dk_at dksX7_saysStory_5 6 rfl rfl)
theorem dX7_saysStory_129 : decode cX7_saysStory 129 = .ok (.return_, 1) := dk_177 (dk_at dksX7_saysStory_5 9 rfl rfl)
abbrev cX7_wordOf : ByteArray := prog_13_method_113_code
def yX7_wordOf : MethodName := ⟨RX7, "wordOf", "(I)J"⟩
def dkwX7_wordOf_1 : List UInt8 := [160, 0, 9, 20, 1, 237, 167, 0, 17, 26, 6, 160, 0, 9, 20, 1, 239, 167, 0, 6, 20, 1, 241, 173]
abbrev dktX7_wordOf_1 : List UInt8 := dkwX7_wordOf_1 ++ []
def dkwX7_wordOf_0 : List UInt8 := [26, 154, 0, 9, 20, 1, 233, 167, 0, 39, 26, 4, 160, 0, 9, 20, 1, 235, 167, 0, 28, 26, 5]
abbrev dktX7_wordOf_0 : List UInt8 := dkwX7_wordOf_0 ++ dktX7_wordOf_1
theorem dksX7_wordOf_0 : cX7_wordOf.data.toList.drop 0 = dktX7_wordOf_0 := by decide +kernel
theorem dksX7_wordOf_1 : cX7_wordOf.data.toList.drop 23 = dktX7_wordOf_1 := dk_seg dksX7_wordOf_0 23 rfl rfl
theorem dX7_wordOf_0 : decode cX7_wordOf 0 = .ok (.iload_n 0, 1) := dk_26 (dk_at dksX7_wordOf_0 0 rfl rfl)
theorem dX7_wordOf_1 : decode cX7_wordOf 1 = .ok (.ifCond .ne 9, 3) := dk_154 0 9 (dk_at dksX7_wordOf_0 1 rfl rfl)
theorem dX7_wordOf_4 : decode cX7_wordOf 4 = .ok (.ldc2_w 489, 3) := dk_20 1 233 (dk_at dksX7_wordOf_0 4 rfl rfl)
theorem dX7_wordOf_7 : decode cX7_wordOf 7 = .ok (.goto 39, 3) := dk_167 0 39 (dk_at dksX7_wordOf_0 7 rfl rfl)
theorem dX7_wordOf_10 : decode cX7_wordOf 10 = .ok (.iload_n 0, 1) := dk_26 (dk_at dksX7_wordOf_0 10 rfl rfl)
theorem dX7_wordOf_11 : decode cX7_wordOf 11 = .ok (.iconst 1, 1) := dk_4 (dk_at dksX7_wordOf_0 11 rfl rfl)
theorem dX7_wordOf_12 : decode cX7_wordOf 12 = .ok (.if_icmp .ne 9, 3) := dk_160 0 9 (dk_at dksX7_wordOf_0 12 rfl rfl)
theorem dX7_wordOf_15 : decode cX7_wordOf 15 = .ok (.ldc2_w 491, 3) := dk_20 1 235 (dk_at dksX7_wordOf_0 15 rfl rfl)
theorem dX7_wordOf_18 : decode cX7_wordOf 18 = .ok (.goto 28, 3) := dk_167 0 28 (dk_at dksX7_wordOf_0 18 rfl rfl)
theorem dX7_wordOf_21 : decode cX7_wordOf 21 = .ok (.iload_n 0, 1) := dk_26 (dk_at dksX7_wordOf_0 21 rfl rfl)
theorem dX7_wordOf_22 : decode cX7_wordOf 22 = .ok (.iconst 2, 1) := dk_5 (dk_at dksX7_wordOf_0 22 rfl rfl)
theorem dX7_wordOf_23 : decode cX7_wordOf 23 = .ok (.if_icmp .ne 9, 3) := dk_160 0 9 (dk_at dksX7_wordOf_1 0 rfl rfl)
theorem dX7_wordOf_26 : decode cX7_wordOf 26 = .ok (.ldc2_w 493, 3) := dk_20 1 237 (dk_at dksX7_wordOf_1 3 rfl rfl)
theorem dX7_wordOf_29 : decode cX7_wordOf 29 = .ok (.goto 17, 3) := dk_167 0 17 (dk_at dksX7_wordOf_1 6 rfl rfl)
theorem dX7_wordOf_32 : decode cX7_wordOf 32 = .ok (.iload_n 0, 1) := dk_26 (dk_at dksX7_wordOf_1 9 rfl rfl)
theorem dX7_wordOf_33 : decode cX7_wordOf 33 = .ok (.iconst 3, 1) := dk_6 (dk_at dksX7_wordOf_1 10 rfl rfl)
theorem dX7_wordOf_34 : decode cX7_wordOf 34 = .ok (.if_icmp .ne 9, 3) := dk_160 0 9 (dk_at dksX7_wordOf_1 11 rfl rfl)
theorem dX7_wordOf_37 : decode cX7_wordOf 37 = .ok (.ldc2_w 495, 3) := dk_20 1 239 (dk_at dksX7_wordOf_1 14 rfl rfl)
theorem dX7_wordOf_40 : decode cX7_wordOf 40 = .ok (.goto 6, 3) := dk_167 0 6 (dk_at dksX7_wordOf_1 17 rfl rfl)
theorem dX7_wordOf_43 : decode cX7_wordOf 43 = .ok (.ldc2_w 497, 3) := dk_20 1 241 (dk_at dksX7_wordOf_1 20 rfl rfl)
theorem dX7_wordOf_46 : decode cX7_wordOf 46 = .ok (.lreturn, 1) := dk_173 (dk_at dksX7_wordOf_1 23 rfl rfl)
abbrev cX7_storyByte : ByteArray := prog_13_method_116_code
def yX7_storyByte : MethodName := ⟨RX7, "storyByte", "(I)I"⟩
def dkwX7_storyByte_0 : List UInt8 := [27, 156, 0, 5, 2, 172, 42, 27, 182, 1, 247, 42, 180, 1, 208, 172]
abbrev dktX7_storyByte_0 : List UInt8 := dkwX7_storyByte_0 ++ []
theorem dksX7_storyByte_0 : cX7_storyByte.data.toList.drop 0 = dktX7_storyByte_0 := by decide +kernel
theorem dX7_storyByte_0 : decode cX7_storyByte 0 = .ok (.iload_n 1, 1) := dk_27 (dk_at dksX7_storyByte_0 0 rfl rfl)
theorem dX7_storyByte_1 : decode cX7_storyByte 1 = .ok (.ifCond .ge 5, 3) := dk_156 0 5 (dk_at dksX7_storyByte_0 1 rfl rfl)
theorem dX7_storyByte_4 : decode cX7_storyByte 4 = .ok (.iconst (-1), 1) := dk_2 (dk_at dksX7_storyByte_0 4 rfl rfl)
theorem dX7_storyByte_5 : decode cX7_storyByte 5 = .ok (.ireturn, 1) := dk_172 (dk_at dksX7_storyByte_0 5 rfl rfl)
theorem dX7_storyByte_6 : decode cX7_storyByte 6 = .ok (.aload_n 0, 1) := dk_42 (dk_at dksX7_storyByte_0 6 rfl rfl)
theorem dX7_storyByte_7 : decode cX7_storyByte 7 = .ok (.iload_n 1, 1) := dk_27 (dk_at dksX7_storyByte_0 7 rfl rfl)
theorem dX7_storyByte_8 : decode cX7_storyByte 8 = .ok (.invokevirtual 503, 3) := dk_182 1 247 (dk_at dksX7_storyByte_0 8 rfl rfl)
theorem dX7_storyByte_11 : decode cX7_storyByte 11 = .ok (.aload_n 0, 1) := dk_42 (dk_at dksX7_storyByte_0 11 rfl rfl)
theorem dX7_storyByte_12 : decode cX7_storyByte 12 = .ok (.getfield 464, 3) := dk_180 1 208 (dk_at dksX7_storyByte_0 12 rfl rfl)
theorem dX7_storyByte_15 : decode cX7_storyByte 15 = .ok (.ireturn, 1) := dk_172 (dk_at dksX7_storyByte_0 15 rfl rfl)
abbrev cX7_setupLength : ByteArray := prog_13_method_121_code
def yX7_setupLength : MethodName := ⟨RX7, "setupLength", "()I"⟩
def dkwX7_setupLength_0 : List UInt8 := [42, 2, 182, 2, 5, 42, 180, 1, 202, 172]
abbrev dktX7_setupLength_0 : List UInt8 := dkwX7_setupLength_0 ++ []
theorem dksX7_setupLength_0 : cX7_setupLength.data.toList.drop 0 = dktX7_setupLength_0 := by decide +kernel
theorem dX7_setupLength_0 : decode cX7_setupLength 0 = .ok (.aload_n 0, 1) := dk_42 (dk_at dksX7_setupLength_0 0 rfl rfl)
theorem dX7_setupLength_1 : decode cX7_setupLength 1 = .ok (.iconst (-1), 1) := dk_2 (dk_at dksX7_setupLength_0 1 rfl rfl)
theorem dX7_setupLength_2 : decode cX7_setupLength 2 = .ok (.invokevirtual 517, 3) := dk_182 2 5 (dk_at dksX7_setupLength_0 2 rfl rfl)
theorem dX7_setupLength_5 : decode cX7_setupLength 5 = .ok (.aload_n 0, 1) := dk_42 (dk_at dksX7_setupLength_0 5 rfl rfl)
theorem dX7_setupLength_6 : decode cX7_setupLength 6 = .ok (.getfield 458, 3) := dk_180 1 202 (dk_at dksX7_setupLength_0 6 rfl rfl)
theorem dX7_setupLength_9 : decode cX7_setupLength 9 = .ok (.ireturn, 1) := dk_172 (dk_at dksX7_setupLength_0 9 rfl rfl)
abbrev cX7_saysSetup : ByteArray := prog_13_method_120_code
def yX7_saysSetup : MethodName := ⟨RX7, "saysSetup", "(I)V"⟩
def dkwX7_saysSetup_10 : List UInt8 := [182, 1, 250, 132, 2, 1, 167, 255, 179, 177]
abbrev dktX7_saysSetup_10 : List UInt8 := dkwX7_saysSetup_10 ++ []
def dkwX7_saysSetup_9 : List UInt8 := [180, 0, 45, 28, 46, 16, 32, 182, 1, 250, 42, 20, 1, 25, 42, 180, 0, 48, 28, 46, 16, 59]
abbrev dktX7_saysSetup_9 : List UInt8 := dkwX7_saysSetup_9 ++ dktX7_saysSetup_10
def dkwX7_saysSetup_8 : List UInt8 := [42, 20, 1, 21, 42, 180, 0, 21, 42, 180, 0, 42, 28, 46, 46, 182, 2, 1, 42, 20, 1, 23, 42]
abbrev dktX7_saysSetup_8 : List UInt8 := dkwX7_saysSetup_8 ++ dktX7_saysSetup_9
def dkwX7_saysSetup_7 : List UInt8 := [180, 0, 136, 162, 0, 75, 42, 20, 1, 19, 42, 180, 0, 21, 42, 180, 0, 39, 28, 46, 46, 182, 2, 1]
abbrev dktX7_saysSetup_7 : List UInt8 := dkwX7_saysSetup_7 ++ dktX7_saysSetup_8
def dkwX7_saysSetup_6 : List UInt8 := [20, 1, 17, 42, 180, 0, 36, 28, 46, 16, 59, 182, 1, 250, 132, 2, 1, 167, 255, 215, 3, 61, 28, 42]
abbrev dktX7_saysSetup_6 : List UInt8 := dkwX7_saysSetup_6 ++ dktX7_saysSetup_7
def dkwX7_saysSetup_5 : List UInt8 := [180, 0, 118, 162, 0, 39, 42, 20, 1, 15, 42, 180, 0, 33, 28, 46, 16, 32, 182, 1, 250, 42]
abbrev dktX7_saysSetup_5 : List UInt8 := dkwX7_saysSetup_5 ++ dktX7_saysSetup_6
def dkwX7_saysSetup_4 : List UInt8 := [20, 1, 13, 182, 1, 222, 42, 16, 59, 182, 1, 213, 132, 2, 1, 167, 255, 158, 3, 61, 28, 42]
abbrev dktX7_saysSetup_4 : List UInt8 := dkwX7_saysSetup_4 ++ dktX7_saysSetup_5
def dkwX7_saysSetup_3 : List UInt8 := [167, 0, 5, 16, 59, 182, 1, 250, 42, 180, 0, 51, 16, 13, 28, 96, 46, 4, 160, 0, 16, 42]
abbrev dktX7_saysSetup_3 : List UInt8 := dkwX7_saysSetup_3 ++ dktX7_saysSetup_4
def dkwX7_saysSetup_2 : List UInt8 := [20, 1, 11, 42, 180, 0, 27, 28, 46, 42, 180, 0, 51, 16, 13, 28, 96, 46, 4, 160, 0, 8, 16, 32]
abbrev dktX7_saysSetup_2 : List UInt8 := dkwX7_saysSetup_2 ++ dktX7_saysSetup_3
def dkwX7_saysSetup_1 : List UInt8 := [180, 0, 21, 28, 46, 182, 2, 1, 42, 20, 1, 9, 42, 180, 0, 24, 28, 46, 16, 32, 182, 1, 250, 42]
abbrev dktX7_saysSetup_1 : List UInt8 := dkwX7_saysSetup_1 ++ dktX7_saysSetup_2
def dkwX7_saysSetup_0 : List UInt8 := [42, 27, 182, 1, 219, 42, 182, 1, 254, 3, 61, 28, 42, 180, 0, 113, 162, 0, 96, 42, 20, 1, 7, 42]
abbrev dktX7_saysSetup_0 : List UInt8 := dkwX7_saysSetup_0 ++ dktX7_saysSetup_1
theorem dksX7_saysSetup_0 : cX7_saysSetup.data.toList.drop 0 = dktX7_saysSetup_0 := by decide +kernel
theorem dksX7_saysSetup_1 : cX7_saysSetup.data.toList.drop 24 = dktX7_saysSetup_1 := dk_seg dksX7_saysSetup_0 24 rfl rfl
theorem dksX7_saysSetup_2 : cX7_saysSetup.data.toList.drop 48 = dktX7_saysSetup_2 := dk_seg dksX7_saysSetup_1 24 rfl rfl
theorem dksX7_saysSetup_3 : cX7_saysSetup.data.toList.drop 72 = dktX7_saysSetup_3 := dk_seg dksX7_saysSetup_2 24 rfl rfl
theorem dksX7_saysSetup_4 : cX7_saysSetup.data.toList.drop 94 = dktX7_saysSetup_4 := dk_seg dksX7_saysSetup_3 22 rfl rfl
theorem dksX7_saysSetup_5 : cX7_saysSetup.data.toList.drop 116 = dktX7_saysSetup_5 := dk_seg dksX7_saysSetup_4 22 rfl rfl
theorem dksX7_saysSetup_6 : cX7_saysSetup.data.toList.drop 138 = dktX7_saysSetup_6 := dk_seg dksX7_saysSetup_5 22 rfl rfl
theorem dksX7_saysSetup_7 : cX7_saysSetup.data.toList.drop 162 = dktX7_saysSetup_7 := dk_seg dksX7_saysSetup_6 24 rfl rfl
theorem dksX7_saysSetup_8 : cX7_saysSetup.data.toList.drop 186 = dktX7_saysSetup_8 := dk_seg dksX7_saysSetup_7 24 rfl rfl
theorem dksX7_saysSetup_9 : cX7_saysSetup.data.toList.drop 209 = dktX7_saysSetup_9 := dk_seg dksX7_saysSetup_8 23 rfl rfl
theorem dksX7_saysSetup_10 : cX7_saysSetup.data.toList.drop 231 = dktX7_saysSetup_10 := dk_seg dksX7_saysSetup_9 22 rfl rfl
theorem dX7_saysSetup_0 : decode cX7_saysSetup 0 = .ok (.aload_n 0, 1) := dk_42 (dk_at dksX7_saysSetup_0 0 rfl rfl)
theorem dX7_saysSetup_1 : decode cX7_saysSetup 1 = .ok (.iload_n 1, 1) := dk_27 (dk_at dksX7_saysSetup_0 1 rfl rfl)
theorem dX7_saysSetup_2 : decode cX7_saysSetup 2 = .ok (.invokevirtual 475, 3) := dk_182 1 219 (dk_at dksX7_saysSetup_0 2 rfl rfl)
theorem dX7_saysSetup_5 : decode cX7_saysSetup 5 = .ok (.aload_n 0, 1) := dk_42 (dk_at dksX7_saysSetup_0 5 rfl rfl)
theorem dX7_saysSetup_6 : decode cX7_saysSetup 6 = .ok (.invokevirtual 510, 3) := dk_182 1 254 (dk_at dksX7_saysSetup_0 6 rfl rfl)
theorem dX7_saysSetup_9 : decode cX7_saysSetup 9 = .ok (.iconst 0, 1) := dk_3 (dk_at dksX7_saysSetup_0 9 rfl rfl)
theorem dX7_saysSetup_10 : decode cX7_saysSetup 10 = .ok (.istore_n 2, 1) := dk_61 (dk_at dksX7_saysSetup_0 10 rfl rfl)
theorem dX7_saysSetup_11 : decode cX7_saysSetup 11 = .ok (.iload_n 2, 1) := dk_28 (dk_at dksX7_saysSetup_0 11 rfl rfl)
theorem dX7_saysSetup_12 : decode cX7_saysSetup 12 = .ok (.aload_n 0, 1) := dk_42 (dk_at dksX7_saysSetup_0 12 rfl rfl)
theorem dX7_saysSetup_13 : decode cX7_saysSetup 13 = .ok (.getfield 113, 3) := dk_180 0 113 (dk_at dksX7_saysSetup_0 13 rfl rfl)
theorem dX7_saysSetup_16 : decode cX7_saysSetup 16 = .ok (.if_icmp .ge 96, 3) := dk_162 0 96 (dk_at dksX7_saysSetup_0 16 rfl rfl)
theorem dX7_saysSetup_19 : decode cX7_saysSetup 19 = .ok (.aload_n 0, 1) := dk_42 (dk_at dksX7_saysSetup_0 19 rfl rfl)
theorem dX7_saysSetup_20 : decode cX7_saysSetup 20 = .ok (.ldc2_w 263, 3) := dk_20 1 7 (dk_at dksX7_saysSetup_0 20 rfl rfl)
theorem dX7_saysSetup_23 : decode cX7_saysSetup 23 = .ok (.aload_n 0, 1) := dk_42 (dk_at dksX7_saysSetup_0 23 rfl rfl)
theorem dX7_saysSetup_24 : decode cX7_saysSetup 24 = .ok (.getfield 21, 3) := dk_180 0 21 (dk_at dksX7_saysSetup_1 0 rfl rfl)
theorem dX7_saysSetup_27 : decode cX7_saysSetup 27 = .ok (.iload_n 2, 1) := dk_28 (dk_at dksX7_saysSetup_1 3 rfl rfl)
theorem dX7_saysSetup_28 : decode cX7_saysSetup 28 = .ok (.iaload, 1) := dk_46 (dk_at dksX7_saysSetup_1 4 rfl rfl)
theorem dX7_saysSetup_29 : decode cX7_saysSetup 29 = .ok (.invokevirtual 513, 3) := dk_182 2 1 (dk_at dksX7_saysSetup_1 5 rfl rfl)
theorem dX7_saysSetup_32 : decode cX7_saysSetup 32 = .ok (.aload_n 0, 1) := dk_42 (dk_at dksX7_saysSetup_1 8 rfl rfl)
theorem dX7_saysSetup_33 : decode cX7_saysSetup 33 = .ok (.ldc2_w 265, 3) := dk_20 1 9 (dk_at dksX7_saysSetup_1 9 rfl rfl)
theorem dX7_saysSetup_36 : decode cX7_saysSetup 36 = .ok (.aload_n 0, 1) := dk_42 (dk_at dksX7_saysSetup_1 12 rfl rfl)
theorem dX7_saysSetup_37 : decode cX7_saysSetup 37 = .ok (.getfield 24, 3) := dk_180 0 24 (dk_at dksX7_saysSetup_1 13 rfl rfl)
theorem dX7_saysSetup_40 : decode cX7_saysSetup 40 = .ok (.iload_n 2, 1) := dk_28 (dk_at dksX7_saysSetup_1 16 rfl rfl)
theorem dX7_saysSetup_41 : decode cX7_saysSetup 41 = .ok (.iaload, 1) := dk_46 (dk_at dksX7_saysSetup_1 17 rfl rfl)
theorem dX7_saysSetup_42 : decode cX7_saysSetup 42 = .ok (.bipush 32, 2) := dk_16 32 (dk_at dksX7_saysSetup_1 18 rfl rfl)
theorem dX7_saysSetup_44 : decode cX7_saysSetup 44 = .ok (.invokevirtual 506, 3) := dk_182 1 250 (dk_at dksX7_saysSetup_1 20 rfl rfl)
theorem dX7_saysSetup_47 : decode cX7_saysSetup 47 = .ok (.aload_n 0, 1) := dk_42 (dk_at dksX7_saysSetup_1 23 rfl rfl)
theorem dX7_saysSetup_48 : decode cX7_saysSetup 48 = .ok (.ldc2_w 267, 3) := dk_20 1 11 (dk_at dksX7_saysSetup_2 0 rfl rfl)
theorem dX7_saysSetup_51 : decode cX7_saysSetup 51 = .ok (.aload_n 0, 1) := dk_42 (dk_at dksX7_saysSetup_2 3 rfl rfl)
theorem dX7_saysSetup_52 : decode cX7_saysSetup 52 = .ok (.getfield 27, 3) := dk_180 0 27 (dk_at dksX7_saysSetup_2 4 rfl rfl)
theorem dX7_saysSetup_55 : decode cX7_saysSetup 55 = .ok (.iload_n 2, 1) := dk_28 (dk_at dksX7_saysSetup_2 7 rfl rfl)
theorem dX7_saysSetup_56 : decode cX7_saysSetup 56 = .ok (.iaload, 1) := dk_46 (dk_at dksX7_saysSetup_2 8 rfl rfl)
theorem dX7_saysSetup_57 : decode cX7_saysSetup 57 = .ok (.aload_n 0, 1) := dk_42 (dk_at dksX7_saysSetup_2 9 rfl rfl)
theorem dX7_saysSetup_58 : decode cX7_saysSetup 58 = .ok (.getfield 51, 3) := dk_180 0 51 (dk_at dksX7_saysSetup_2 10 rfl rfl)
theorem dX7_saysSetup_61 : decode cX7_saysSetup 61 = .ok (.bipush 13, 2) := dk_16 13 (dk_at dksX7_saysSetup_2 13 rfl rfl)
theorem dX7_saysSetup_63 : decode cX7_saysSetup 63 = .ok (.iload_n 2, 1) := dk_28 (dk_at dksX7_saysSetup_2 15 rfl rfl)
theorem dX7_saysSetup_64 : decode cX7_saysSetup 64 = .ok (.iadd, 1) := dk_96 (dk_at dksX7_saysSetup_2 16 rfl rfl)
theorem dX7_saysSetup_65 : decode cX7_saysSetup 65 = .ok (.iaload, 1) := dk_46 (dk_at dksX7_saysSetup_2 17 rfl rfl)
theorem dX7_saysSetup_66 : decode cX7_saysSetup 66 = .ok (.iconst 1, 1) := dk_4 (dk_at dksX7_saysSetup_2 18 rfl rfl)
theorem dX7_saysSetup_67 : decode cX7_saysSetup 67 = .ok (.if_icmp .ne 8, 3) := dk_160 0 8 (dk_at dksX7_saysSetup_2 19 rfl rfl)
theorem dX7_saysSetup_70 : decode cX7_saysSetup 70 = .ok (.bipush 32, 2) := dk_16 32 (dk_at dksX7_saysSetup_2 22 rfl rfl)
theorem dX7_saysSetup_72 : decode cX7_saysSetup 72 = .ok (.goto 5, 3) := dk_167 0 5 (dk_at dksX7_saysSetup_3 0 rfl rfl)
theorem dX7_saysSetup_75 : decode cX7_saysSetup 75 = .ok (.bipush 59, 2) := dk_16 59 (dk_at dksX7_saysSetup_3 3 rfl rfl)
theorem dX7_saysSetup_77 : decode cX7_saysSetup 77 = .ok (.invokevirtual 506, 3) := dk_182 1 250 (dk_at dksX7_saysSetup_3 5 rfl rfl)
theorem dX7_saysSetup_80 : decode cX7_saysSetup 80 = .ok (.aload_n 0, 1) := dk_42 (dk_at dksX7_saysSetup_3 8 rfl rfl)
theorem dX7_saysSetup_81 : decode cX7_saysSetup 81 = .ok (.getfield 51, 3) := dk_180 0 51 (dk_at dksX7_saysSetup_3 9 rfl rfl)
theorem dX7_saysSetup_84 : decode cX7_saysSetup 84 = .ok (.bipush 13, 2) := dk_16 13 (dk_at dksX7_saysSetup_3 12 rfl rfl)
theorem dX7_saysSetup_86 : decode cX7_saysSetup 86 = .ok (.iload_n 2, 1) := dk_28 (dk_at dksX7_saysSetup_3 14 rfl rfl)
theorem dX7_saysSetup_87 : decode cX7_saysSetup 87 = .ok (.iadd, 1) := dk_96 (dk_at dksX7_saysSetup_3 15 rfl rfl)
theorem dX7_saysSetup_88 : decode cX7_saysSetup 88 = .ok (.iaload, 1) := dk_46 (dk_at dksX7_saysSetup_3 16 rfl rfl)
theorem dX7_saysSetup_89 : decode cX7_saysSetup 89 = .ok (.iconst 1, 1) := dk_4 (dk_at dksX7_saysSetup_3 17 rfl rfl)
theorem dX7_saysSetup_90 : decode cX7_saysSetup 90 = .ok (.if_icmp .ne 16, 3) := dk_160 0 16 (dk_at dksX7_saysSetup_3 18 rfl rfl)
theorem dX7_saysSetup_93 : decode cX7_saysSetup 93 = .ok (.aload_n 0, 1) := dk_42 (dk_at dksX7_saysSetup_3 21 rfl rfl)
theorem dX7_saysSetup_94 : decode cX7_saysSetup 94 = .ok (.ldc2_w 269, 3) := dk_20 1 13 (dk_at dksX7_saysSetup_4 0 rfl rfl)
theorem dX7_saysSetup_97 : decode cX7_saysSetup 97 = .ok (.invokevirtual 478, 3) := dk_182 1 222 (dk_at dksX7_saysSetup_4 3 rfl rfl)
theorem dX7_saysSetup_100 : decode cX7_saysSetup 100 = .ok (.aload_n 0, 1) := dk_42 (dk_at dksX7_saysSetup_4 6 rfl rfl)
theorem dX7_saysSetup_101 : decode cX7_saysSetup 101 = .ok (.bipush 59, 2) := dk_16 59 (dk_at dksX7_saysSetup_4 7 rfl rfl)
theorem dX7_saysSetup_103 : decode cX7_saysSetup 103 = .ok (.invokevirtual 469, 3) := dk_182 1 213 (dk_at dksX7_saysSetup_4 9 rfl rfl)
theorem dX7_saysSetup_106 : decode cX7_saysSetup 106 = .ok (.iinc 2 1, 3) := dk_132 2 1 (dk_at dksX7_saysSetup_4 12 rfl rfl)
theorem dX7_saysSetup_109 : decode cX7_saysSetup 109 = .ok (.goto (-98), 3) := dk_167 255 158 (dk_at dksX7_saysSetup_4 15 rfl rfl)
theorem dX7_saysSetup_112 : decode cX7_saysSetup 112 = .ok (.iconst 0, 1) := dk_3 (dk_at dksX7_saysSetup_4 18 rfl rfl)
theorem dX7_saysSetup_113 : decode cX7_saysSetup 113 = .ok (.istore_n 2, 1) := dk_61 (dk_at dksX7_saysSetup_4 19 rfl rfl)
theorem dX7_saysSetup_114 : decode cX7_saysSetup 114 = .ok (.iload_n 2, 1) := dk_28 (dk_at dksX7_saysSetup_4 20 rfl rfl)
theorem dX7_saysSetup_115 : decode cX7_saysSetup 115 = .ok (.aload_n 0, 1) := dk_42 (dk_at dksX7_saysSetup_4 21 rfl rfl)
theorem dX7_saysSetup_116 : decode cX7_saysSetup 116 = .ok (.getfield 118, 3) := dk_180 0 118 (dk_at dksX7_saysSetup_5 0 rfl rfl)
theorem dX7_saysSetup_119 : decode cX7_saysSetup 119 = .ok (.if_icmp .ge 39, 3) := dk_162 0 39 (dk_at dksX7_saysSetup_5 3 rfl rfl)
theorem dX7_saysSetup_122 : decode cX7_saysSetup 122 = .ok (.aload_n 0, 1) := dk_42 (dk_at dksX7_saysSetup_5 6 rfl rfl)
theorem dX7_saysSetup_123 : decode cX7_saysSetup 123 = .ok (.ldc2_w 271, 3) := dk_20 1 15 (dk_at dksX7_saysSetup_5 7 rfl rfl)
theorem dX7_saysSetup_126 : decode cX7_saysSetup 126 = .ok (.aload_n 0, 1) := dk_42 (dk_at dksX7_saysSetup_5 10 rfl rfl)
theorem dX7_saysSetup_127 : decode cX7_saysSetup 127 = .ok (.getfield 33, 3) := dk_180 0 33 (dk_at dksX7_saysSetup_5 11 rfl rfl)
theorem dX7_saysSetup_130 : decode cX7_saysSetup 130 = .ok (.iload_n 2, 1) := dk_28 (dk_at dksX7_saysSetup_5 14 rfl rfl)
theorem dX7_saysSetup_131 : decode cX7_saysSetup 131 = .ok (.iaload, 1) := dk_46 (dk_at dksX7_saysSetup_5 15 rfl rfl)
theorem dX7_saysSetup_132 : decode cX7_saysSetup 132 = .ok (.bipush 32, 2) := dk_16 32 (dk_at dksX7_saysSetup_5 16 rfl rfl)
theorem dX7_saysSetup_134 : decode cX7_saysSetup 134 = .ok (.invokevirtual 506, 3) := dk_182 1 250 (dk_at dksX7_saysSetup_5 18 rfl rfl)
theorem dX7_saysSetup_137 : decode cX7_saysSetup 137 = .ok (.aload_n 0, 1) := dk_42 (dk_at dksX7_saysSetup_5 21 rfl rfl)
theorem dX7_saysSetup_138 : decode cX7_saysSetup 138 = .ok (.ldc2_w 273, 3) := dk_20 1 17 (dk_at dksX7_saysSetup_6 0 rfl rfl)
theorem dX7_saysSetup_141 : decode cX7_saysSetup 141 = .ok (.aload_n 0, 1) := dk_42 (dk_at dksX7_saysSetup_6 3 rfl rfl)
theorem dX7_saysSetup_142 : decode cX7_saysSetup 142 = .ok (.getfield 36, 3) := dk_180 0 36 (dk_at dksX7_saysSetup_6 4 rfl rfl)
theorem dX7_saysSetup_145 : decode cX7_saysSetup 145 = .ok (.iload_n 2, 1) := dk_28 (dk_at dksX7_saysSetup_6 7 rfl rfl)
theorem dX7_saysSetup_146 : decode cX7_saysSetup 146 = .ok (.iaload, 1) := dk_46 (dk_at dksX7_saysSetup_6 8 rfl rfl)
theorem dX7_saysSetup_147 : decode cX7_saysSetup 147 = .ok (.bipush 59, 2) := dk_16 59 (dk_at dksX7_saysSetup_6 9 rfl rfl)
theorem dX7_saysSetup_149 : decode cX7_saysSetup 149 = .ok (.invokevirtual 506, 3) := dk_182 1 250 (dk_at dksX7_saysSetup_6 11 rfl rfl)
theorem dX7_saysSetup_152 : decode cX7_saysSetup 152 = .ok (.iinc 2 1, 3) := dk_132 2 1 (dk_at dksX7_saysSetup_6 14 rfl rfl)
theorem dX7_saysSetup_155 : decode cX7_saysSetup 155 = .ok (.goto (-41), 3) := dk_167 255 215 (dk_at dksX7_saysSetup_6 17 rfl rfl)
theorem dX7_saysSetup_158 : decode cX7_saysSetup 158 = .ok (.iconst 0, 1) := dk_3 (dk_at dksX7_saysSetup_6 20 rfl rfl)
theorem dX7_saysSetup_159 : decode cX7_saysSetup 159 = .ok (.istore_n 2, 1) := dk_61 (dk_at dksX7_saysSetup_6 21 rfl rfl)
theorem dX7_saysSetup_160 : decode cX7_saysSetup 160 = .ok (.iload_n 2, 1) := dk_28 (dk_at dksX7_saysSetup_6 22 rfl rfl)
theorem dX7_saysSetup_161 : decode cX7_saysSetup 161 = .ok (.aload_n 0, 1) := dk_42 (dk_at dksX7_saysSetup_6 23 rfl rfl)
theorem dX7_saysSetup_162 : decode cX7_saysSetup 162 = .ok (.getfield 136, 3) := dk_180 0 136 (dk_at dksX7_saysSetup_7 0 rfl rfl)
theorem dX7_saysSetup_165 : decode cX7_saysSetup 165 = .ok (.if_icmp .ge 75, 3) := dk_162 0 75 (dk_at dksX7_saysSetup_7 3 rfl rfl)
theorem dX7_saysSetup_168 : decode cX7_saysSetup 168 = .ok (.aload_n 0, 1) := dk_42 (dk_at dksX7_saysSetup_7 6 rfl rfl)
theorem dX7_saysSetup_169 : decode cX7_saysSetup 169 = .ok (.ldc2_w 275, 3) := dk_20 1 19 (dk_at dksX7_saysSetup_7 7 rfl rfl)
theorem dX7_saysSetup_172 : decode cX7_saysSetup 172 = .ok (.aload_n 0, 1) := dk_42 (dk_at dksX7_saysSetup_7 10 rfl rfl)
theorem dX7_saysSetup_173 : decode cX7_saysSetup 173 = .ok (.getfield 21, 3) := dk_180 0 21 (dk_at dksX7_saysSetup_7 11 rfl rfl)
theorem dX7_saysSetup_176 : decode cX7_saysSetup 176 = .ok (.aload_n 0, 1) := dk_42 (dk_at dksX7_saysSetup_7 14 rfl rfl)
theorem dX7_saysSetup_177 : decode cX7_saysSetup 177 = .ok (.getfield 39, 3) := dk_180 0 39 (dk_at dksX7_saysSetup_7 15 rfl rfl)
theorem dX7_saysSetup_180 : decode cX7_saysSetup 180 = .ok (.iload_n 2, 1) := dk_28 (dk_at dksX7_saysSetup_7 18 rfl rfl)
theorem dX7_saysSetup_181 : decode cX7_saysSetup 181 = .ok (.iaload, 1) := dk_46 (dk_at dksX7_saysSetup_7 19 rfl rfl)
theorem dX7_saysSetup_182 : decode cX7_saysSetup 182 = .ok (.iaload, 1) := dk_46 (dk_at dksX7_saysSetup_7 20 rfl rfl)
theorem dX7_saysSetup_183 : decode cX7_saysSetup 183 = .ok (.invokevirtual 513, 3) := dk_182 2 1 (dk_at dksX7_saysSetup_7 21 rfl rfl)
theorem dX7_saysSetup_186 : decode cX7_saysSetup 186 = .ok (.aload_n 0, 1) := dk_42 (dk_at dksX7_saysSetup_8 0 rfl rfl)
theorem dX7_saysSetup_187 : decode cX7_saysSetup 187 = .ok (.ldc2_w 277, 3) := dk_20 1 21 (dk_at dksX7_saysSetup_8 1 rfl rfl)
theorem dX7_saysSetup_190 : decode cX7_saysSetup 190 = .ok (.aload_n 0, 1) := dk_42 (dk_at dksX7_saysSetup_8 4 rfl rfl)
theorem dX7_saysSetup_191 : decode cX7_saysSetup 191 = .ok (.getfield 21, 3) := dk_180 0 21 (dk_at dksX7_saysSetup_8 5 rfl rfl)
theorem dX7_saysSetup_194 : decode cX7_saysSetup 194 = .ok (.aload_n 0, 1) := dk_42 (dk_at dksX7_saysSetup_8 8 rfl rfl)
theorem dX7_saysSetup_195 : decode cX7_saysSetup 195 = .ok (.getfield 42, 3) := dk_180 0 42 (dk_at dksX7_saysSetup_8 9 rfl rfl)
theorem dX7_saysSetup_198 : decode cX7_saysSetup 198 = .ok (.iload_n 2, 1) := dk_28 (dk_at dksX7_saysSetup_8 12 rfl rfl)
theorem dX7_saysSetup_199 : decode cX7_saysSetup 199 = .ok (.iaload, 1) := dk_46 (dk_at dksX7_saysSetup_8 13 rfl rfl)
theorem dX7_saysSetup_200 : decode cX7_saysSetup 200 = .ok (.iaload, 1) := dk_46 (dk_at dksX7_saysSetup_8 14 rfl rfl)
theorem dX7_saysSetup_201 : decode cX7_saysSetup 201 = .ok (.invokevirtual 513, 3) := dk_182 2 1 (dk_at dksX7_saysSetup_8 15 rfl rfl)
theorem dX7_saysSetup_204 : decode cX7_saysSetup 204 = .ok (.aload_n 0, 1) := dk_42 (dk_at dksX7_saysSetup_8 18 rfl rfl)
theorem dX7_saysSetup_205 : decode cX7_saysSetup 205 = .ok (.ldc2_w 279, 3) := dk_20 1 23 (dk_at dksX7_saysSetup_8 19 rfl rfl)
theorem dX7_saysSetup_208 : decode cX7_saysSetup 208 = .ok (.aload_n 0, 1) := dk_42 (dk_at dksX7_saysSetup_8 22 rfl rfl)
theorem dX7_saysSetup_209 : decode cX7_saysSetup 209 = .ok (.getfield 45, 3) := dk_180 0 45 (dk_at dksX7_saysSetup_9 0 rfl rfl)
theorem dX7_saysSetup_212 : decode cX7_saysSetup 212 = .ok (.iload_n 2, 1) := dk_28 (dk_at dksX7_saysSetup_9 3 rfl rfl)
theorem dX7_saysSetup_213 : decode cX7_saysSetup 213 = .ok (.iaload, 1) := dk_46 (dk_at dksX7_saysSetup_9 4 rfl rfl)
theorem dX7_saysSetup_214 : decode cX7_saysSetup 214 = .ok (.bipush 32, 2) := dk_16 32 (dk_at dksX7_saysSetup_9 5 rfl rfl)
theorem dX7_saysSetup_216 : decode cX7_saysSetup 216 = .ok (.invokevirtual 506, 3) := dk_182 1 250 (dk_at dksX7_saysSetup_9 7 rfl rfl)
theorem dX7_saysSetup_219 : decode cX7_saysSetup 219 = .ok (.aload_n 0, 1) := dk_42 (dk_at dksX7_saysSetup_9 10 rfl rfl)
theorem dX7_saysSetup_220 : decode cX7_saysSetup 220 = .ok (.ldc2_w 281, 3) := dk_20 1 25 (dk_at dksX7_saysSetup_9 11 rfl rfl)
theorem dX7_saysSetup_223 : decode cX7_saysSetup 223 = .ok (.aload_n 0, 1) := dk_42 (dk_at dksX7_saysSetup_9 14 rfl rfl)
theorem dX7_saysSetup_224 : decode cX7_saysSetup 224 = .ok (.getfield 48, 3) := dk_180 0 48 (dk_at dksX7_saysSetup_9 15 rfl rfl)
theorem dX7_saysSetup_227 : decode cX7_saysSetup 227 = .ok (.iload_n 2, 1) := dk_28 (dk_at dksX7_saysSetup_9 18 rfl rfl)
theorem dX7_saysSetup_228 : decode cX7_saysSetup 228 = .ok (.iaload, 1) := dk_46 (dk_at dksX7_saysSetup_9 19 rfl rfl)
theorem dX7_saysSetup_229 : decode cX7_saysSetup 229 = .ok (.bipush 59, 2) := dk_16 59 (dk_at dksX7_saysSetup_9 20 rfl rfl)
theorem dX7_saysSetup_231 : decode cX7_saysSetup 231 = .ok (.invokevirtual 506, 3) := dk_182 1 250 (dk_at dksX7_saysSetup_10 0 rfl rfl)
theorem dX7_saysSetup_234 : decode cX7_saysSetup 234 = .ok (.iinc 2 1, 3) := dk_132 2 1 (dk_at dksX7_saysSetup_10 3 rfl rfl)
theorem dX7_saysSetup_237 : decode cX7_saysSetup 237 = .ok (.goto (-77), 3) := dk_167 255 179 (dk_at dksX7_saysSetup_10 6 rfl rfl)
theorem dX7_saysSetup_240 : decode cX7_saysSetup 240 = .ok (.return_, 1) := dk_177 (dk_at dksX7_saysSetup_10 9 rfl rfl)
abbrev cX7_saysNumbers : ByteArray := prog_13_method_119_code
def yX7_saysNumbers : MethodName := ⟨RX7, "saysNumbers", "()V"⟩
def dkwX7_saysNumbers_4 : List UInt8 := [16, 32, 182, 1, 250, 42, 20, 1, 5, 42, 180, 0, 51, 4, 46, 16, 59, 182, 1, 250, 177]
abbrev dktX7_saysNumbers_4 : List UInt8 := dkwX7_saysNumbers_4 ++ []
def dkwX7_saysNumbers_3 : List UInt8 := [20, 1, 1, 42, 180, 0, 51, 7, 46, 16, 32, 182, 1, 250, 42, 20, 1, 3, 42, 180, 0, 51, 8, 46]
abbrev dktX7_saysNumbers_3 : List UInt8 := dkwX7_saysNumbers_3 ++ dktX7_saysNumbers_4
def dkwX7_saysNumbers_2 : List UInt8 := [5, 46, 16, 32, 182, 1, 250, 42, 20, 0, 255, 42, 180, 0, 51, 6, 46, 16, 32, 182, 1, 250, 42]
abbrev dktX7_saysNumbers_2 : List UInt8 := dkwX7_saysNumbers_2 ++ dktX7_saysNumbers_3
def dkwX7_saysNumbers_1 : List UInt8 := [182, 1, 250, 42, 20, 0, 251, 42, 180, 0, 127, 16, 32, 182, 1, 250, 42, 20, 0, 253, 42, 180, 0, 51]
abbrev dktX7_saysNumbers_1 : List UInt8 := dkwX7_saysNumbers_1 ++ dktX7_saysNumbers_2
def dkwX7_saysNumbers_0 : List UInt8 := [42, 20, 0, 247, 42, 180, 0, 121, 16, 32, 182, 1, 250, 42, 20, 0, 249, 42, 180, 0, 124, 16, 32]
abbrev dktX7_saysNumbers_0 : List UInt8 := dkwX7_saysNumbers_0 ++ dktX7_saysNumbers_1
theorem dksX7_saysNumbers_0 : cX7_saysNumbers.data.toList.drop 0 = dktX7_saysNumbers_0 := by decide +kernel
theorem dksX7_saysNumbers_1 : cX7_saysNumbers.data.toList.drop 23 = dktX7_saysNumbers_1 := dk_seg dksX7_saysNumbers_0 23 rfl rfl
theorem dksX7_saysNumbers_2 : cX7_saysNumbers.data.toList.drop 47 = dktX7_saysNumbers_2 := dk_seg dksX7_saysNumbers_1 24 rfl rfl
theorem dksX7_saysNumbers_3 : cX7_saysNumbers.data.toList.drop 70 = dktX7_saysNumbers_3 := dk_seg dksX7_saysNumbers_2 23 rfl rfl
theorem dksX7_saysNumbers_4 : cX7_saysNumbers.data.toList.drop 94 = dktX7_saysNumbers_4 := dk_seg dksX7_saysNumbers_3 24 rfl rfl
theorem dX7_saysNumbers_0 : decode cX7_saysNumbers 0 = .ok (.aload_n 0, 1) := dk_42 (dk_at dksX7_saysNumbers_0 0 rfl rfl)
theorem dX7_saysNumbers_1 : decode cX7_saysNumbers 1 = .ok (.ldc2_w 247, 3) := dk_20 0 247 (dk_at dksX7_saysNumbers_0 1 rfl rfl)
theorem dX7_saysNumbers_4 : decode cX7_saysNumbers 4 = .ok (.aload_n 0, 1) := dk_42 (dk_at dksX7_saysNumbers_0 4 rfl rfl)
theorem dX7_saysNumbers_5 : decode cX7_saysNumbers 5 = .ok (.getfield 121, 3) := dk_180 0 121 (dk_at dksX7_saysNumbers_0 5 rfl rfl)
theorem dX7_saysNumbers_8 : decode cX7_saysNumbers 8 = .ok (.bipush 32, 2) := dk_16 32 (dk_at dksX7_saysNumbers_0 8 rfl rfl)
theorem dX7_saysNumbers_10 : decode cX7_saysNumbers 10 = .ok (.invokevirtual 506, 3) := dk_182 1 250 (dk_at dksX7_saysNumbers_0 10 rfl rfl)
theorem dX7_saysNumbers_13 : decode cX7_saysNumbers 13 = .ok (.aload_n 0, 1) := dk_42 (dk_at dksX7_saysNumbers_0 13 rfl rfl)
theorem dX7_saysNumbers_14 : decode cX7_saysNumbers 14 = .ok (.ldc2_w 249, 3) := dk_20 0 249 (dk_at dksX7_saysNumbers_0 14 rfl rfl)
theorem dX7_saysNumbers_17 : decode cX7_saysNumbers 17 = .ok (.aload_n 0, 1) := dk_42 (dk_at dksX7_saysNumbers_0 17 rfl rfl)
theorem dX7_saysNumbers_18 : decode cX7_saysNumbers 18 = .ok (.getfield 124, 3) := dk_180 0 124 (dk_at dksX7_saysNumbers_0 18 rfl rfl)
theorem dX7_saysNumbers_21 : decode cX7_saysNumbers 21 = .ok (.bipush 32, 2) := dk_16 32 (dk_at dksX7_saysNumbers_0 21 rfl rfl)
theorem dX7_saysNumbers_23 : decode cX7_saysNumbers 23 = .ok (.invokevirtual 506, 3) := dk_182 1 250 (dk_at dksX7_saysNumbers_1 0 rfl rfl)
theorem dX7_saysNumbers_26 : decode cX7_saysNumbers 26 = .ok (.aload_n 0, 1) := dk_42 (dk_at dksX7_saysNumbers_1 3 rfl rfl)
theorem dX7_saysNumbers_27 : decode cX7_saysNumbers 27 = .ok (.ldc2_w 251, 3) := dk_20 0 251 (dk_at dksX7_saysNumbers_1 4 rfl rfl)
theorem dX7_saysNumbers_30 : decode cX7_saysNumbers 30 = .ok (.aload_n 0, 1) := dk_42 (dk_at dksX7_saysNumbers_1 7 rfl rfl)
theorem dX7_saysNumbers_31 : decode cX7_saysNumbers 31 = .ok (.getfield 127, 3) := dk_180 0 127 (dk_at dksX7_saysNumbers_1 8 rfl rfl)
theorem dX7_saysNumbers_34 : decode cX7_saysNumbers 34 = .ok (.bipush 32, 2) := dk_16 32 (dk_at dksX7_saysNumbers_1 11 rfl rfl)
theorem dX7_saysNumbers_36 : decode cX7_saysNumbers 36 = .ok (.invokevirtual 506, 3) := dk_182 1 250 (dk_at dksX7_saysNumbers_1 13 rfl rfl)
theorem dX7_saysNumbers_39 : decode cX7_saysNumbers 39 = .ok (.aload_n 0, 1) := dk_42 (dk_at dksX7_saysNumbers_1 16 rfl rfl)
theorem dX7_saysNumbers_40 : decode cX7_saysNumbers 40 = .ok (.ldc2_w 253, 3) := dk_20 0 253 (dk_at dksX7_saysNumbers_1 17 rfl rfl)
theorem dX7_saysNumbers_43 : decode cX7_saysNumbers 43 = .ok (.aload_n 0, 1) := dk_42 (dk_at dksX7_saysNumbers_1 20 rfl rfl)
theorem dX7_saysNumbers_44 : decode cX7_saysNumbers 44 = .ok (.getfield 51, 3) := dk_180 0 51 (dk_at dksX7_saysNumbers_1 21 rfl rfl)
theorem dX7_saysNumbers_47 : decode cX7_saysNumbers 47 = .ok (.iconst 2, 1) := dk_5 (dk_at dksX7_saysNumbers_2 0 rfl rfl)
theorem dX7_saysNumbers_48 : decode cX7_saysNumbers 48 = .ok (.iaload, 1) := dk_46 (dk_at dksX7_saysNumbers_2 1 rfl rfl)
theorem dX7_saysNumbers_49 : decode cX7_saysNumbers 49 = .ok (.bipush 32, 2) := dk_16 32 (dk_at dksX7_saysNumbers_2 2 rfl rfl)
theorem dX7_saysNumbers_51 : decode cX7_saysNumbers 51 = .ok (.invokevirtual 506, 3) := dk_182 1 250 (dk_at dksX7_saysNumbers_2 4 rfl rfl)
theorem dX7_saysNumbers_54 : decode cX7_saysNumbers 54 = .ok (.aload_n 0, 1) := dk_42 (dk_at dksX7_saysNumbers_2 7 rfl rfl)
theorem dX7_saysNumbers_55 : decode cX7_saysNumbers 55 = .ok (.ldc2_w 255, 3) := dk_20 0 255 (dk_at dksX7_saysNumbers_2 8 rfl rfl)
theorem dX7_saysNumbers_58 : decode cX7_saysNumbers 58 = .ok (.aload_n 0, 1) := dk_42 (dk_at dksX7_saysNumbers_2 11 rfl rfl)
theorem dX7_saysNumbers_59 : decode cX7_saysNumbers 59 = .ok (.getfield 51, 3) := dk_180 0 51 (dk_at dksX7_saysNumbers_2 12 rfl rfl)
theorem dX7_saysNumbers_62 : decode cX7_saysNumbers 62 = .ok (.iconst 3, 1) := dk_6 (dk_at dksX7_saysNumbers_2 15 rfl rfl)
theorem dX7_saysNumbers_63 : decode cX7_saysNumbers 63 = .ok (.iaload, 1) := dk_46 (dk_at dksX7_saysNumbers_2 16 rfl rfl)
theorem dX7_saysNumbers_64 : decode cX7_saysNumbers 64 = .ok (.bipush 32, 2) := dk_16 32 (dk_at dksX7_saysNumbers_2 17 rfl rfl)
theorem dX7_saysNumbers_66 : decode cX7_saysNumbers 66 = .ok (.invokevirtual 506, 3) := dk_182 1 250 (dk_at dksX7_saysNumbers_2 19 rfl rfl)
theorem dX7_saysNumbers_69 : decode cX7_saysNumbers 69 = .ok (.aload_n 0, 1) := dk_42 (dk_at dksX7_saysNumbers_2 22 rfl rfl)
theorem dX7_saysNumbers_70 : decode cX7_saysNumbers 70 = .ok (.ldc2_w 257, 3) := dk_20 1 1 (dk_at dksX7_saysNumbers_3 0 rfl rfl)
theorem dX7_saysNumbers_73 : decode cX7_saysNumbers 73 = .ok (.aload_n 0, 1) := dk_42 (dk_at dksX7_saysNumbers_3 3 rfl rfl)
theorem dX7_saysNumbers_74 : decode cX7_saysNumbers 74 = .ok (.getfield 51, 3) := dk_180 0 51 (dk_at dksX7_saysNumbers_3 4 rfl rfl)
theorem dX7_saysNumbers_77 : decode cX7_saysNumbers 77 = .ok (.iconst 4, 1) := dk_7 (dk_at dksX7_saysNumbers_3 7 rfl rfl)
theorem dX7_saysNumbers_78 : decode cX7_saysNumbers 78 = .ok (.iaload, 1) := dk_46 (dk_at dksX7_saysNumbers_3 8 rfl rfl)
theorem dX7_saysNumbers_79 : decode cX7_saysNumbers 79 = .ok (.bipush 32, 2) := dk_16 32 (dk_at dksX7_saysNumbers_3 9 rfl rfl)
theorem dX7_saysNumbers_81 : decode cX7_saysNumbers 81 = .ok (.invokevirtual 506, 3) := dk_182 1 250 (dk_at dksX7_saysNumbers_3 11 rfl rfl)
theorem dX7_saysNumbers_84 : decode cX7_saysNumbers 84 = .ok (.aload_n 0, 1) := dk_42 (dk_at dksX7_saysNumbers_3 14 rfl rfl)
theorem dX7_saysNumbers_85 : decode cX7_saysNumbers 85 = .ok (.ldc2_w 259, 3) := dk_20 1 3 (dk_at dksX7_saysNumbers_3 15 rfl rfl)
theorem dX7_saysNumbers_88 : decode cX7_saysNumbers 88 = .ok (.aload_n 0, 1) := dk_42 (dk_at dksX7_saysNumbers_3 18 rfl rfl)
theorem dX7_saysNumbers_89 : decode cX7_saysNumbers 89 = .ok (.getfield 51, 3) := dk_180 0 51 (dk_at dksX7_saysNumbers_3 19 rfl rfl)
theorem dX7_saysNumbers_92 : decode cX7_saysNumbers 92 = .ok (.iconst 5, 1) := dk_8 (dk_at dksX7_saysNumbers_3 22 rfl rfl)
theorem dX7_saysNumbers_93 : decode cX7_saysNumbers 93 = .ok (.iaload, 1) := dk_46 (dk_at dksX7_saysNumbers_3 23 rfl rfl)
theorem dX7_saysNumbers_94 : decode cX7_saysNumbers 94 = .ok (.bipush 32, 2) := dk_16 32 (dk_at dksX7_saysNumbers_4 0 rfl rfl)
theorem dX7_saysNumbers_96 : decode cX7_saysNumbers 96 = .ok (.invokevirtual 506, 3) := dk_182 1 250 (dk_at dksX7_saysNumbers_4 2 rfl rfl)
theorem dX7_saysNumbers_99 : decode cX7_saysNumbers 99 = .ok (.aload_n 0, 1) := dk_42 (dk_at dksX7_saysNumbers_4 5 rfl rfl)
theorem dX7_saysNumbers_100 : decode cX7_saysNumbers 100 = .ok (.ldc2_w 261, 3) := dk_20 1 5 (dk_at dksX7_saysNumbers_4 6 rfl rfl)
theorem dX7_saysNumbers_103 : decode cX7_saysNumbers 103 = .ok (.aload_n 0, 1) := dk_42 (dk_at dksX7_saysNumbers_4 9 rfl rfl)
theorem dX7_saysNumbers_104 : decode cX7_saysNumbers 104 = .ok (.getfield 51, 3) := dk_180 0 51 (dk_at dksX7_saysNumbers_4 10 rfl rfl)
theorem dX7_saysNumbers_107 : decode cX7_saysNumbers 107 = .ok (.iconst 1, 1) := dk_4 (dk_at dksX7_saysNumbers_4 13 rfl rfl)
theorem dX7_saysNumbers_108 : decode cX7_saysNumbers 108 = .ok (.iaload, 1) := dk_46 (dk_at dksX7_saysNumbers_4 14 rfl rfl)
theorem dX7_saysNumbers_109 : decode cX7_saysNumbers 109 = .ok (.bipush 59, 2) := dk_16 59 (dk_at dksX7_saysNumbers_4 15 rfl rfl)
theorem dX7_saysNumbers_111 : decode cX7_saysNumbers 111 = .ok (.invokevirtual 506, 3) := dk_182 1 250 (dk_at dksX7_saysNumbers_4 17 rfl rfl)
theorem dX7_saysNumbers_114 : decode cX7_saysNumbers 114 = .ok (.return_, 1) := dk_177 (dk_at dksX7_saysNumbers_4 20 rfl rfl)
abbrev cX7_saysPair : ByteArray := prog_13_method_117_code
def yX7_saysPair : MethodName := ⟨RX7, "saysPair", "(JII)V"⟩
def dkwX7_saysPair_0 : List UInt8 := [42, 31, 182, 1, 222, 42, 16, 32, 182, 1, 213, 42, 29, 182, 1, 216, 42, 21, 4, 182, 1, 213, 177]
abbrev dktX7_saysPair_0 : List UInt8 := dkwX7_saysPair_0 ++ []
theorem dksX7_saysPair_0 : cX7_saysPair.data.toList.drop 0 = dktX7_saysPair_0 := by decide +kernel
theorem dX7_saysPair_0 : decode cX7_saysPair 0 = .ok (.aload_n 0, 1) := dk_42 (dk_at dksX7_saysPair_0 0 rfl rfl)
theorem dX7_saysPair_1 : decode cX7_saysPair 1 = .ok (.lload_n 1, 1) := dk_31 (dk_at dksX7_saysPair_0 1 rfl rfl)
theorem dX7_saysPair_2 : decode cX7_saysPair 2 = .ok (.invokevirtual 478, 3) := dk_182 1 222 (dk_at dksX7_saysPair_0 2 rfl rfl)
theorem dX7_saysPair_5 : decode cX7_saysPair 5 = .ok (.aload_n 0, 1) := dk_42 (dk_at dksX7_saysPair_0 5 rfl rfl)
theorem dX7_saysPair_6 : decode cX7_saysPair 6 = .ok (.bipush 32, 2) := dk_16 32 (dk_at dksX7_saysPair_0 6 rfl rfl)
theorem dX7_saysPair_8 : decode cX7_saysPair 8 = .ok (.invokevirtual 469, 3) := dk_182 1 213 (dk_at dksX7_saysPair_0 8 rfl rfl)
theorem dX7_saysPair_11 : decode cX7_saysPair 11 = .ok (.aload_n 0, 1) := dk_42 (dk_at dksX7_saysPair_0 11 rfl rfl)
theorem dX7_saysPair_12 : decode cX7_saysPair 12 = .ok (.iload_n 3, 1) := dk_29 (dk_at dksX7_saysPair_0 12 rfl rfl)
theorem dX7_saysPair_13 : decode cX7_saysPair 13 = .ok (.invokevirtual 472, 3) := dk_182 1 216 (dk_at dksX7_saysPair_0 13 rfl rfl)
theorem dX7_saysPair_16 : decode cX7_saysPair 16 = .ok (.aload_n 0, 1) := dk_42 (dk_at dksX7_saysPair_0 16 rfl rfl)
theorem dX7_saysPair_17 : decode cX7_saysPair 17 = .ok (.iload 4, 2) := dk_21 4 (dk_at dksX7_saysPair_0 17 rfl rfl)
theorem dX7_saysPair_19 : decode cX7_saysPair 19 = .ok (.invokevirtual 469, 3) := dk_182 1 213 (dk_at dksX7_saysPair_0 19 rfl rfl)
theorem dX7_saysPair_22 : decode cX7_saysPair 22 = .ok (.return_, 1) := dk_177 (dk_at dksX7_saysPair_0 22 rfl rfl)
abbrev cX7_saysName : ByteArray := prog_13_method_118_code
def yX7_saysName : MethodName := ⟨RX7, "saysName", "(JI)V"⟩
def dkwX7_saysName_0 : List UInt8 := [42, 31, 182, 1, 222, 42, 16, 32, 182, 1, 213, 42, 29, 133, 182, 1, 222, 42, 16, 32, 182, 1, 213, 177]
abbrev dktX7_saysName_0 : List UInt8 := dkwX7_saysName_0 ++ []
theorem dksX7_saysName_0 : cX7_saysName.data.toList.drop 0 = dktX7_saysName_0 := by decide +kernel
theorem dX7_saysName_0 : decode cX7_saysName 0 = .ok (.aload_n 0, 1) := dk_42 (dk_at dksX7_saysName_0 0 rfl rfl)
theorem dX7_saysName_1 : decode cX7_saysName 1 = .ok (.lload_n 1, 1) := dk_31 (dk_at dksX7_saysName_0 1 rfl rfl)
theorem dX7_saysName_2 : decode cX7_saysName 2 = .ok (.invokevirtual 478, 3) := dk_182 1 222 (dk_at dksX7_saysName_0 2 rfl rfl)
theorem dX7_saysName_5 : decode cX7_saysName 5 = .ok (.aload_n 0, 1) := dk_42 (dk_at dksX7_saysName_0 5 rfl rfl)
theorem dX7_saysName_6 : decode cX7_saysName 6 = .ok (.bipush 32, 2) := dk_16 32 (dk_at dksX7_saysName_0 6 rfl rfl)
theorem dX7_saysName_8 : decode cX7_saysName 8 = .ok (.invokevirtual 469, 3) := dk_182 1 213 (dk_at dksX7_saysName_0 8 rfl rfl)
theorem dX7_saysName_11 : decode cX7_saysName 11 = .ok (.aload_n 0, 1) := dk_42 (dk_at dksX7_saysName_0 11 rfl rfl)
theorem dX7_saysName_12 : decode cX7_saysName 12 = .ok (.iload_n 3, 1) := dk_29 (dk_at dksX7_saysName_0 12 rfl rfl)
theorem dX7_saysName_13 : decode cX7_saysName 13 = .ok (.i2l, 1) := dk_133 (dk_at dksX7_saysName_0 13 rfl rfl)
theorem dX7_saysName_14 : decode cX7_saysName 14 = .ok (.invokevirtual 478, 3) := dk_182 1 222 (dk_at dksX7_saysName_0 14 rfl rfl)
theorem dX7_saysName_17 : decode cX7_saysName 17 = .ok (.aload_n 0, 1) := dk_42 (dk_at dksX7_saysName_0 17 rfl rfl)
theorem dX7_saysName_18 : decode cX7_saysName 18 = .ok (.bipush 32, 2) := dk_16 32 (dk_at dksX7_saysName_0 18 rfl rfl)
theorem dX7_saysName_20 : decode cX7_saysName 20 = .ok (.invokevirtual 469, 3) := dk_182 1 213 (dk_at dksX7_saysName_0 20 rfl rfl)
theorem dX7_saysName_23 : decode cX7_saysName 23 = .ok (.return_, 1) := dk_177 (dk_at dksX7_saysName_0 23 rfl rfl)
abbrev cX7_setupByte : ByteArray := prog_13_method_122_code
def yX7_setupByte : MethodName := ⟨RX7, "setupByte", "(I)I"⟩
def dkwX7_setupByte_0 : List UInt8 := [27, 156, 0, 5, 2, 172, 42, 27, 182, 2, 5, 42, 180, 1, 208, 172]
abbrev dktX7_setupByte_0 : List UInt8 := dkwX7_setupByte_0 ++ []
theorem dksX7_setupByte_0 : cX7_setupByte.data.toList.drop 0 = dktX7_setupByte_0 := by decide +kernel
theorem dX7_setupByte_0 : decode cX7_setupByte 0 = .ok (.iload_n 1, 1) := dk_27 (dk_at dksX7_setupByte_0 0 rfl rfl)
theorem dX7_setupByte_1 : decode cX7_setupByte 1 = .ok (.ifCond .ge 5, 3) := dk_156 0 5 (dk_at dksX7_setupByte_0 1 rfl rfl)
theorem dX7_setupByte_4 : decode cX7_setupByte 4 = .ok (.iconst (-1), 1) := dk_2 (dk_at dksX7_setupByte_0 4 rfl rfl)
theorem dX7_setupByte_5 : decode cX7_setupByte 5 = .ok (.ireturn, 1) := dk_172 (dk_at dksX7_setupByte_0 5 rfl rfl)
theorem dX7_setupByte_6 : decode cX7_setupByte 6 = .ok (.aload_n 0, 1) := dk_42 (dk_at dksX7_setupByte_0 6 rfl rfl)
theorem dX7_setupByte_7 : decode cX7_setupByte 7 = .ok (.iload_n 1, 1) := dk_27 (dk_at dksX7_setupByte_0 7 rfl rfl)
theorem dX7_setupByte_8 : decode cX7_setupByte 8 = .ok (.invokevirtual 517, 3) := dk_182 2 5 (dk_at dksX7_setupByte_0 8 rfl rfl)
theorem dX7_setupByte_11 : decode cX7_setupByte 11 = .ok (.aload_n 0, 1) := dk_42 (dk_at dksX7_setupByte_0 11 rfl rfl)
theorem dX7_setupByte_12 : decode cX7_setupByte 12 = .ok (.getfield 464, 3) := dk_180 1 208 (dk_at dksX7_setupByte_0 12 rfl rfl)
theorem dX7_setupByte_15 : decode cX7_setupByte 15 = .ok (.ireturn, 1) := dk_172 (dk_at dksX7_setupByte_0 15 rfl rfl)
abbrev cX7_tapeLength : ByteArray := prog_13_method_123_code
def yX7_tapeLength : MethodName := ⟨RX7, "tapeLength", "()I"⟩
theorem dX7_tapeLength_0 : decode cX7_tapeLength 0 = .ok (.aload_n 0, 1) := by decide +kernel
theorem dX7_tapeLength_1 : decode cX7_tapeLength 1 = .ok (.getfield 244, 3) := by decide +kernel
theorem dX7_tapeLength_4 : decode cX7_tapeLength 4 = .ok (.ireturn, 1) := by decide +kernel
theorem q159 : (Jvm.Cond.initialized "BusLineModel") ∈ lw_all := lw_g (lw_at lw_m1 35 rfl) rfl
theorem q393 : (Jvm.Cond.selects "BusLineModel" ({ cls := "java/lang/Object", name := "getClass", desc := "()Ljava/lang/Class;" } : Jvm.MethodName) ({ cls := "java/lang/Object", name := "getClass", desc := "()Ljava/lang/Class;" } : Jvm.MethodName)) ∈ lw_all := lw_g (lw_at lw_m2 29 rfl) rfl
theorem q1614 : (Jvm.Cond.selects "BusLineModel" ({ cls := "java/lang/Object", name := "equals", desc := "(Ljava/lang/Object;)Z" } : Jvm.MethodName) ({ cls := "java/lang/Object", name := "equals", desc := "(Ljava/lang/Object;)Z" } : Jvm.MethodName)) ∈ lw_all := lw_g (lw_at lw_m7 50 rfl) rfl
theorem q2516 : (Jvm.Cond.instantiable "BusLineModel" (56 : Nat)) ∈ lw_all := lw_g (lw_at lw_m10 232 rfl) rfl
theorem q2518 : (Jvm.Cond.instanceMethod ({ cls := "BusLineModel", name := "<init>", desc := "()V" } : Jvm.MethodName)) ∈ lw_all := lw_g (lw_at lw_m10 234 rfl) rfl
theorem q2519 : (Jvm.Cond.code ({ cls := "BusLineModel", name := "<init>", desc := "()V" } : Jvm.MethodName) prog_13_method_1_code (1 : Nat) (Option.none : Option Jvm.ClassFile.FieldType)) ∈ lw_all := lw_g (lw_at lw_m10 235 rfl) rfl
theorem q2520 : (Jvm.Cond.methodLink "BusLineModel" (1 : Nat) ({ cls := "java/lang/Object", name := "<init>", desc := "()V" } : Jvm.MethodName)) ∈ lw_all := lw_g (lw_at lw_m10 236 rfl) rfl
theorem q2521 : (Jvm.Cond.constant "BusLineModel" (116 : Nat) (33554432 : Int32)) ∈ lw_all := lw_g (lw_at lw_m10 237 rfl) rfl
theorem q2522 : (Jvm.Cond.constant "BusLineModel" (117 : Nat) (67108864 : Int32)) ∈ lw_all := lw_g (lw_at lw_m10 238 rfl) rfl
theorem q2523 : (Jvm.Cond.methodLink "BusLineModel" (130 : Nat) ({ cls := "BusLineModel", name := "clear", desc := "()V" } : Jvm.MethodName)) ∈ lw_all := lw_g (lw_at lw_m10 239 rfl) rfl
theorem q2524 : (Jvm.Cond.privateMethod ({ cls := "BusLineModel", name := "clear", desc := "()V" } : Jvm.MethodName)) ∈ lw_tbl := lw_at lw_m11 0 rfl
theorem q2525 : (Jvm.Cond.instanceMethod ({ cls := "BusLineModel", name := "clear", desc := "()V" } : Jvm.MethodName)) ∈ lw_all := lw_g (lw_at lw_m11 1 rfl) rfl
theorem q2526 : (Jvm.Cond.code ({ cls := "BusLineModel", name := "clear", desc := "()V" } : Jvm.MethodName) prog_13_method_3_code (2 : Nat) (Option.none : Option Jvm.ClassFile.FieldType)) ∈ lw_all := lw_g (lw_at lw_m11 2 rfl) rfl
theorem q2527 : (Jvm.Cond.methodLink "BusLineModel" (139 : Nat) ({ cls := "BusLineModel", name := "sets", desc := "(III)V" } : Jvm.MethodName)) ∈ lw_all := lw_g (lw_at lw_m11 3 rfl) rfl
theorem q2528 : (Jvm.Cond.privateMethod ({ cls := "BusLineModel", name := "sets", desc := "(III)V" } : Jvm.MethodName)) ∈ lw_tbl := lw_at lw_m11 4 rfl
theorem q2529 : (Jvm.Cond.instanceMethod ({ cls := "BusLineModel", name := "sets", desc := "(III)V" } : Jvm.MethodName)) ∈ lw_all := lw_g (lw_at lw_m11 5 rfl) rfl
theorem q2530 : (Jvm.Cond.code ({ cls := "BusLineModel", name := "sets", desc := "(III)V" } : Jvm.MethodName) prog_13_method_5_code (4 : Nat) (Option.none : Option Jvm.ClassFile.FieldType)) ∈ lw_all := lw_g (lw_at lw_m11 6 rfl) rfl
theorem q2531 : (Jvm.Cond.fieldLink "BusLineModel" (7 : Nat) "BusLineModel" "tape" "[B") ∈ lw_all := lw_g (lw_at lw_m11 7 rfl) rfl
theorem q2532 : (Jvm.Cond.fieldLink "BusLineModel" (244 : Nat) "BusLineModel" "taped" "I") ∈ lw_all := lw_g (lw_at lw_m11 8 rfl) rfl
theorem q2533 : (Jvm.Cond.fieldLink "BusLineModel" (13 : Nat) "BusLineModel" "errorAt" "I") ∈ lw_all := lw_g (lw_at lw_m11 9 rfl) rfl
theorem q2534 : (Jvm.Cond.fieldLink "BusLineModel" (113 : Nat) "BusLineModel" "stops" "I") ∈ lw_all := lw_g (lw_at lw_m11 10 rfl) rfl
theorem q2535 : (Jvm.Cond.fieldLink "BusLineModel" (118 : Nat) "BusLineModel" "buses" "I") ∈ lw_all := lw_g (lw_at lw_m11 11 rfl) rfl
theorem q2536 : (Jvm.Cond.fieldLink "BusLineModel" (136 : Nat) "BusLineModel" "flows" "I") ∈ lw_all := lw_g (lw_at lw_m11 12 rfl) rfl
theorem q2537 : (Jvm.Cond.fieldLink "BusLineModel" (121 : Nat) "BusLineModel" "open" "I") ∈ lw_all := lw_g (lw_at lw_m11 13 rfl) rfl
theorem q2538 : (Jvm.Cond.fieldLink "BusLineModel" (124 : Nat) "BusLineModel" "on" "I") ∈ lw_all := lw_g (lw_at lw_m11 14 rfl) rfl
theorem q2539 : (Jvm.Cond.fieldLink "BusLineModel" (127 : Nat) "BusLineModel" "down" "I") ∈ lw_all := lw_g (lw_at lw_m11 15 rfl) rfl
theorem q2540 : (Jvm.Cond.fieldLink "BusLineModel" (133 : Nat) "BusLineModel" "firstMode" "I") ∈ lw_all := lw_g (lw_at lw_m11 16 rfl) rfl
theorem q2541 : (Jvm.Cond.fieldLink "BusLineModel" (17 : Nat) "BusLineModel" "firstNumbers" "[I") ∈ lw_all := lw_g (lw_at lw_m11 17 rfl) rfl
theorem q2542 : (Jvm.Cond.fieldLink "BusLineModel" (21 : Nat) "BusLineModel" "stopNames" "[I") ∈ lw_all := lw_g (lw_at lw_m11 18 rfl) rfl
theorem q2543 : (Jvm.Cond.fieldLink "BusLineModel" (24 : Nat) "BusLineModel" "drives" "[I") ∈ lw_all := lw_g (lw_at lw_m11 19 rfl) rfl
theorem q2544 : (Jvm.Cond.fieldLink "BusLineModel" (27 : Nat) "BusLineModel" "offs" "[I") ∈ lw_all := lw_g (lw_at lw_m11 20 rfl) rfl
theorem q2545 : (Jvm.Cond.fieldLink "BusLineModel" (30 : Nat) "BusLineModel" "firstPoints" "[I") ∈ lw_all := lw_g (lw_at lw_m11 21 rfl) rfl
theorem q2546 : (Jvm.Cond.fieldLink "BusLineModel" (33 : Nat) "BusLineModel" "seats" "[I") ∈ lw_all := lw_g (lw_at lw_m11 22 rfl) rfl
theorem q2547 : (Jvm.Cond.fieldLink "BusLineModel" (36 : Nat) "BusLineModel" "starts" "[I") ∈ lw_all := lw_g (lw_at lw_m11 23 rfl) rfl
theorem q2548 : (Jvm.Cond.fieldLink "BusLineModel" (39 : Nat) "BusLineModel" "flowFrom" "[I") ∈ lw_all := lw_g (lw_at lw_m11 24 rfl) rfl
theorem q2549 : (Jvm.Cond.fieldLink "BusLineModel" (42 : Nat) "BusLineModel" "flowTo" "[I") ∈ lw_all := lw_g (lw_at lw_m11 25 rfl) rfl
theorem q2550 : (Jvm.Cond.fieldLink "BusLineModel" (45 : Nat) "BusLineModel" "every" "[I") ∈ lw_all := lw_g (lw_at lw_m11 26 rfl) rfl
theorem q2551 : (Jvm.Cond.fieldLink "BusLineModel" (48 : Nat) "BusLineModel" "first" "[I") ∈ lw_all := lw_g (lw_at lw_m11 27 rfl) rfl
theorem q2552 : (Jvm.Cond.fieldLink "BusLineModel" (51 : Nat) "BusLineModel" "world" "[I") ∈ lw_all := lw_g (lw_at lw_m11 28 rfl) rfl
theorem q2553 : (Jvm.Cond.fieldLink "BusLineModel" (54 : Nat) "BusLineModel" "sums" "[J") ∈ lw_all := lw_g (lw_at lw_m11 29 rfl) rfl
theorem q2554 : (Jvm.Cond.fieldLink "BusLineModel" (58 : Nat) "BusLineModel" "aside" "[I") ∈ lw_all := lw_g (lw_at lw_m11 30 rfl) rfl
theorem q2555 : (Jvm.Cond.fieldLink "BusLineModel" (61 : Nat) "BusLineModel" "asideSums" "[J") ∈ lw_all := lw_g (lw_at lw_m11 31 rfl) rfl
theorem q2556 : (Jvm.Cond.fieldLink "BusLineModel" (64 : Nat) "BusLineModel" "undone" "[I") ∈ lw_all := lw_g (lw_at lw_m11 32 rfl) rfl
theorem q2557 : (Jvm.Cond.fieldLink "BusLineModel" (67 : Nat) "BusLineModel" "undoneSums" "[J") ∈ lw_all := lw_g (lw_at lw_m11 33 rfl) rfl
theorem q2558 : (Jvm.Cond.fieldLink "BusLineModel" (70 : Nat) "BusLineModel" "slots" "[I") ∈ lw_all := lw_g (lw_at lw_m11 34 rfl) rfl
theorem q2559 : (Jvm.Cond.fieldLink "BusLineModel" (73 : Nat) "BusLineModel" "slotsSums" "[J") ∈ lw_all := lw_g (lw_at lw_m11 35 rfl) rfl
theorem q2560 : (Jvm.Cond.fieldLink "BusLineModel" (76 : Nat) "BusLineModel" "isKept" "[Z") ∈ lw_all := lw_g (lw_at lw_m11 36 rfl) rfl
theorem q2561 : (Jvm.Cond.fieldLink "BusLineModel" (143 : Nat) "BusLineModel" "undos" "I") ∈ lw_all := lw_g (lw_at lw_m11 37 rfl) rfl
theorem q2562 : (Jvm.Cond.fieldLink "BusLineModel" (207 : Nat) "BusLineModel" "outNow" "I") ∈ lw_all := lw_g (lw_at lw_m11 38 rfl) rfl
theorem q2563 : (Jvm.Cond.fieldLink "BusLineModel" (241 : Nat) "BusLineModel" "readAt" "I") ∈ lw_all := lw_g (lw_at lw_m11 39 rfl) rfl
theorem q2564 : (Jvm.Cond.fieldLink "BusLineModel" (294 : Nat) "BusLineModel" "start" "I") ∈ lw_all := lw_g (lw_at lw_m11 40 rfl) rfl
theorem q2565 : (Jvm.Cond.fieldLink "BusLineModel" (303 : Nat) "BusLineModel" "kind" "I") ∈ lw_all := lw_g (lw_at lw_m11 41 rfl) rfl
theorem q2566 : (Jvm.Cond.fieldLink "BusLineModel" (283 : Nat) "BusLineModel" "word" "J") ∈ lw_all := lw_g (lw_at lw_m11 42 rfl) rfl
theorem q2567 : (Jvm.Cond.fieldLink "BusLineModel" (306 : Nat) "BusLineModel" "value" "I") ∈ lw_all := lw_g (lw_at lw_m11 43 rfl) rfl
theorem q2568 : (Jvm.Cond.fieldLink "BusLineModel" (287 : Nat) "BusLineModel" "letters" "I") ∈ lw_all := lw_g (lw_at lw_m11 44 rfl) rfl
theorem q2569 : (Jvm.Cond.fieldLink "BusLineModel" (315 : Nat) "BusLineModel" "fine" "Z") ∈ lw_all := lw_g (lw_at lw_m11 45 rfl) rfl
theorem q2570 : (Jvm.Cond.fieldLink "BusLineModel" (332 : Nat) "BusLineModel" "newStops" "I") ∈ lw_all := lw_g (lw_at lw_m11 46 rfl) rfl
theorem q2571 : (Jvm.Cond.fieldLink "BusLineModel" (342 : Nat) "BusLineModel" "newBuses" "I") ∈ lw_all := lw_g (lw_at lw_m11 47 rfl) rfl
theorem q2572 : (Jvm.Cond.fieldLink "BusLineModel" (345 : Nat) "BusLineModel" "newFlows" "I") ∈ lw_all := lw_g (lw_at lw_m11 48 rfl) rfl
theorem q2573 : (Jvm.Cond.fieldLink "BusLineModel" (80 : Nat) "BusLineModel" "newNumbers" "[I") ∈ lw_all := lw_g (lw_at lw_m11 49 rfl) rfl
theorem q2574 : (Jvm.Cond.fieldLink "BusLineModel" (83 : Nat) "BusLineModel" "newNames" "[I") ∈ lw_all := lw_g (lw_at lw_m11 50 rfl) rfl
theorem q2575 : (Jvm.Cond.fieldLink "BusLineModel" (86 : Nat) "BusLineModel" "newDrives" "[I") ∈ lw_all := lw_g (lw_at lw_m11 51 rfl) rfl
theorem q2576 : (Jvm.Cond.fieldLink "BusLineModel" (89 : Nat) "BusLineModel" "newOffs" "[I") ∈ lw_all := lw_g (lw_at lw_m11 52 rfl) rfl
theorem q2577 : (Jvm.Cond.fieldLink "BusLineModel" (92 : Nat) "BusLineModel" "newPoints" "[I") ∈ lw_all := lw_g (lw_at lw_m11 53 rfl) rfl
theorem q2578 : (Jvm.Cond.fieldLink "BusLineModel" (95 : Nat) "BusLineModel" "newSeats" "[I") ∈ lw_all := lw_g (lw_at lw_m11 54 rfl) rfl
theorem q2579 : (Jvm.Cond.fieldLink "BusLineModel" (98 : Nat) "BusLineModel" "newStarts" "[I") ∈ lw_all := lw_g (lw_at lw_m11 55 rfl) rfl
theorem q2580 : (Jvm.Cond.fieldLink "BusLineModel" (101 : Nat) "BusLineModel" "newFrom" "[I") ∈ lw_all := lw_g (lw_at lw_m11 56 rfl) rfl
theorem q2581 : (Jvm.Cond.fieldLink "BusLineModel" (104 : Nat) "BusLineModel" "newTo" "[I") ∈ lw_all := lw_g (lw_at lw_m11 57 rfl) rfl
theorem q2582 : (Jvm.Cond.fieldLink "BusLineModel" (107 : Nat) "BusLineModel" "newEvery" "[I") ∈ lw_all := lw_g (lw_at lw_m11 58 rfl) rfl
theorem q2583 : (Jvm.Cond.fieldLink "BusLineModel" (110 : Nat) "BusLineModel" "newFirst" "[I") ∈ lw_all := lw_g (lw_at lw_m11 59 rfl) rfl
theorem q2584 : (Jvm.Cond.fieldLink "BusLineModel" (458 : Nat) "BusLineModel" "outs" "I") ∈ lw_all := lw_g (lw_at lw_m11 60 rfl) rfl
theorem q2585 : (Jvm.Cond.fieldLink "BusLineModel" (461 : Nat) "BusLineModel" "wantedAt" "I") ∈ lw_all := lw_g (lw_at lw_m11 61 rfl) rfl
theorem q2586 : (Jvm.Cond.fieldLink "BusLineModel" (464 : Nat) "BusLineModel" "foundByte" "I") ∈ lw_all := lw_g (lw_at lw_m11 62 rfl) rfl
theorem q2587 : (Jvm.Cond.laysFinal "BusLineModel" "BusLineModel" "tape" "[B") ∈ lw_all := lw_g (lw_at lw_m11 63 rfl) rfl
theorem q2588 : (Jvm.Cond.soleField "BusLineModel" "tape") ∈ lw_all := lw_g (lw_at lw_m11 64 rfl) rfl
theorem q2589 : (Jvm.Cond.lays "BusLineModel" "BusLineModel" "taped" "I") ∈ lw_all := lw_g (lw_at lw_m11 65 rfl) rfl
theorem q2590 : (Jvm.Cond.soleField "BusLineModel" "taped") ∈ lw_all := lw_g (lw_at lw_m11 66 rfl) rfl
theorem q2591 : (Jvm.Cond.lays "BusLineModel" "BusLineModel" "errorAt" "I") ∈ lw_all := lw_g (lw_at lw_m11 67 rfl) rfl
theorem q2592 : (Jvm.Cond.soleField "BusLineModel" "errorAt") ∈ lw_all := lw_g (lw_at lw_m11 68 rfl) rfl
theorem q2593 : (Jvm.Cond.lays "BusLineModel" "BusLineModel" "stops" "I") ∈ lw_all := lw_g (lw_at lw_m11 69 rfl) rfl
theorem q2594 : (Jvm.Cond.soleField "BusLineModel" "stops") ∈ lw_all := lw_g (lw_at lw_m11 70 rfl) rfl
theorem q2595 : (Jvm.Cond.lays "BusLineModel" "BusLineModel" "buses" "I") ∈ lw_all := lw_g (lw_at lw_m11 71 rfl) rfl
theorem q2596 : (Jvm.Cond.soleField "BusLineModel" "buses") ∈ lw_all := lw_g (lw_at lw_m11 72 rfl) rfl
theorem q2597 : (Jvm.Cond.lays "BusLineModel" "BusLineModel" "flows" "I") ∈ lw_all := lw_g (lw_at lw_m11 73 rfl) rfl
theorem q2598 : (Jvm.Cond.soleField "BusLineModel" "flows") ∈ lw_all := lw_g (lw_at lw_m11 74 rfl) rfl
theorem q2599 : (Jvm.Cond.lays "BusLineModel" "BusLineModel" "open" "I") ∈ lw_all := lw_g (lw_at lw_m11 75 rfl) rfl
theorem q2600 : (Jvm.Cond.soleField "BusLineModel" "open") ∈ lw_all := lw_g (lw_at lw_m11 76 rfl) rfl
theorem q2601 : (Jvm.Cond.lays "BusLineModel" "BusLineModel" "on" "I") ∈ lw_all := lw_g (lw_at lw_m11 77 rfl) rfl
theorem q2602 : (Jvm.Cond.soleField "BusLineModel" "on") ∈ lw_all := lw_g (lw_at lw_m11 78 rfl) rfl
theorem q2603 : (Jvm.Cond.lays "BusLineModel" "BusLineModel" "down" "I") ∈ lw_all := lw_g (lw_at lw_m11 79 rfl) rfl
theorem q2604 : (Jvm.Cond.soleField "BusLineModel" "down") ∈ lw_all := lw_g (lw_at lw_m11 80 rfl) rfl
theorem q2605 : (Jvm.Cond.lays "BusLineModel" "BusLineModel" "firstMode" "I") ∈ lw_all := lw_g (lw_at lw_m11 81 rfl) rfl
theorem q2606 : (Jvm.Cond.soleField "BusLineModel" "firstMode") ∈ lw_all := lw_g (lw_at lw_m11 82 rfl) rfl
theorem q2607 : (Jvm.Cond.laysFinal "BusLineModel" "BusLineModel" "firstNumbers" "[I") ∈ lw_all := lw_g (lw_at lw_m11 83 rfl) rfl
theorem q2608 : (Jvm.Cond.soleField "BusLineModel" "firstNumbers") ∈ lw_all := lw_g (lw_at lw_m11 84 rfl) rfl
theorem q2609 : (Jvm.Cond.laysFinal "BusLineModel" "BusLineModel" "stopNames" "[I") ∈ lw_all := lw_g (lw_at lw_m11 85 rfl) rfl
theorem q2610 : (Jvm.Cond.soleField "BusLineModel" "stopNames") ∈ lw_all := lw_g (lw_at lw_m11 86 rfl) rfl
theorem q2611 : (Jvm.Cond.laysFinal "BusLineModel" "BusLineModel" "drives" "[I") ∈ lw_all := lw_g (lw_at lw_m11 87 rfl) rfl
theorem q2612 : (Jvm.Cond.soleField "BusLineModel" "drives") ∈ lw_all := lw_g (lw_at lw_m11 88 rfl) rfl
theorem q2613 : (Jvm.Cond.laysFinal "BusLineModel" "BusLineModel" "offs" "[I") ∈ lw_all := lw_g (lw_at lw_m11 89 rfl) rfl
theorem q2614 : (Jvm.Cond.soleField "BusLineModel" "offs") ∈ lw_all := lw_g (lw_at lw_m11 90 rfl) rfl
theorem q2615 : (Jvm.Cond.laysFinal "BusLineModel" "BusLineModel" "firstPoints" "[I") ∈ lw_all := lw_g (lw_at lw_m11 91 rfl) rfl
theorem q2616 : (Jvm.Cond.soleField "BusLineModel" "firstPoints") ∈ lw_all := lw_g (lw_at lw_m11 92 rfl) rfl
theorem q2617 : (Jvm.Cond.laysFinal "BusLineModel" "BusLineModel" "seats" "[I") ∈ lw_all := lw_g (lw_at lw_m11 93 rfl) rfl
theorem q2618 : (Jvm.Cond.soleField "BusLineModel" "seats") ∈ lw_all := lw_g (lw_at lw_m11 94 rfl) rfl
theorem q2619 : (Jvm.Cond.laysFinal "BusLineModel" "BusLineModel" "starts" "[I") ∈ lw_all := lw_g (lw_at lw_m11 95 rfl) rfl
theorem q2620 : (Jvm.Cond.soleField "BusLineModel" "starts") ∈ lw_all := lw_g (lw_at lw_m11 96 rfl) rfl
theorem q2621 : (Jvm.Cond.laysFinal "BusLineModel" "BusLineModel" "flowFrom" "[I") ∈ lw_all := lw_g (lw_at lw_m11 97 rfl) rfl
theorem q2622 : (Jvm.Cond.soleField "BusLineModel" "flowFrom") ∈ lw_all := lw_g (lw_at lw_m11 98 rfl) rfl
theorem q2623 : (Jvm.Cond.laysFinal "BusLineModel" "BusLineModel" "flowTo" "[I") ∈ lw_all := lw_g (lw_at lw_m11 99 rfl) rfl
theorem q2624 : (Jvm.Cond.soleField "BusLineModel" "flowTo") ∈ lw_all := lw_g (lw_at lw_m11 100 rfl) rfl
theorem q2625 : (Jvm.Cond.laysFinal "BusLineModel" "BusLineModel" "every" "[I") ∈ lw_all := lw_g (lw_at lw_m11 101 rfl) rfl
theorem q2626 : (Jvm.Cond.soleField "BusLineModel" "every") ∈ lw_all := lw_g (lw_at lw_m11 102 rfl) rfl
theorem q2627 : (Jvm.Cond.laysFinal "BusLineModel" "BusLineModel" "first" "[I") ∈ lw_all := lw_g (lw_at lw_m11 103 rfl) rfl
theorem q2628 : (Jvm.Cond.soleField "BusLineModel" "first") ∈ lw_all := lw_g (lw_at lw_m11 104 rfl) rfl
theorem q2629 : (Jvm.Cond.laysFinal "BusLineModel" "BusLineModel" "world" "[I") ∈ lw_all := lw_g (lw_at lw_m11 105 rfl) rfl
theorem q2630 : (Jvm.Cond.soleField "BusLineModel" "world") ∈ lw_all := lw_g (lw_at lw_m11 106 rfl) rfl
theorem q2631 : (Jvm.Cond.laysFinal "BusLineModel" "BusLineModel" "sums" "[J") ∈ lw_all := lw_g (lw_at lw_m11 107 rfl) rfl
theorem q2632 : (Jvm.Cond.soleField "BusLineModel" "sums") ∈ lw_all := lw_g (lw_at lw_m11 108 rfl) rfl
theorem q2633 : (Jvm.Cond.laysFinal "BusLineModel" "BusLineModel" "aside" "[I") ∈ lw_all := lw_g (lw_at lw_m11 109 rfl) rfl
theorem q2634 : (Jvm.Cond.soleField "BusLineModel" "aside") ∈ lw_all := lw_g (lw_at lw_m11 110 rfl) rfl
theorem q2635 : (Jvm.Cond.laysFinal "BusLineModel" "BusLineModel" "asideSums" "[J") ∈ lw_all := lw_g (lw_at lw_m11 111 rfl) rfl
theorem q2636 : (Jvm.Cond.soleField "BusLineModel" "asideSums") ∈ lw_all := lw_g (lw_at lw_m11 112 rfl) rfl
theorem q2637 : (Jvm.Cond.laysFinal "BusLineModel" "BusLineModel" "undone" "[I") ∈ lw_all := lw_g (lw_at lw_m11 113 rfl) rfl
theorem q2638 : (Jvm.Cond.soleField "BusLineModel" "undone") ∈ lw_all := lw_g (lw_at lw_m11 114 rfl) rfl
theorem q2639 : (Jvm.Cond.laysFinal "BusLineModel" "BusLineModel" "undoneSums" "[J") ∈ lw_all := lw_g (lw_at lw_m11 115 rfl) rfl
theorem q2640 : (Jvm.Cond.soleField "BusLineModel" "undoneSums") ∈ lw_all := lw_g (lw_at lw_m11 116 rfl) rfl
theorem q2641 : (Jvm.Cond.laysFinal "BusLineModel" "BusLineModel" "slots" "[I") ∈ lw_all := lw_g (lw_at lw_m11 117 rfl) rfl
theorem q2642 : (Jvm.Cond.soleField "BusLineModel" "slots") ∈ lw_all := lw_g (lw_at lw_m11 118 rfl) rfl
theorem q2643 : (Jvm.Cond.laysFinal "BusLineModel" "BusLineModel" "slotsSums" "[J") ∈ lw_all := lw_g (lw_at lw_m11 119 rfl) rfl
theorem q2644 : (Jvm.Cond.soleField "BusLineModel" "slotsSums") ∈ lw_all := lw_g (lw_at lw_m11 120 rfl) rfl
theorem q2645 : (Jvm.Cond.laysFinal "BusLineModel" "BusLineModel" "isKept" "[Z") ∈ lw_all := lw_g (lw_at lw_m11 121 rfl) rfl
theorem q2646 : (Jvm.Cond.soleField "BusLineModel" "isKept") ∈ lw_all := lw_g (lw_at lw_m11 122 rfl) rfl
theorem q2647 : (Jvm.Cond.lays "BusLineModel" "BusLineModel" "undos" "I") ∈ lw_all := lw_g (lw_at lw_m11 123 rfl) rfl
theorem q2648 : (Jvm.Cond.soleField "BusLineModel" "undos") ∈ lw_all := lw_g (lw_at lw_m11 124 rfl) rfl
theorem q2649 : (Jvm.Cond.lays "BusLineModel" "BusLineModel" "outNow" "I") ∈ lw_all := lw_g (lw_at lw_m11 125 rfl) rfl
theorem q2650 : (Jvm.Cond.soleField "BusLineModel" "outNow") ∈ lw_all := lw_g (lw_at lw_m11 126 rfl) rfl
theorem q2651 : (Jvm.Cond.lays "BusLineModel" "BusLineModel" "readAt" "I") ∈ lw_all := lw_g (lw_at lw_m11 127 rfl) rfl
theorem q2652 : (Jvm.Cond.soleField "BusLineModel" "readAt") ∈ lw_all := lw_g (lw_at lw_m11 128 rfl) rfl
theorem q2653 : (Jvm.Cond.lays "BusLineModel" "BusLineModel" "start" "I") ∈ lw_all := lw_g (lw_at lw_m11 129 rfl) rfl
theorem q2654 : (Jvm.Cond.soleField "BusLineModel" "start") ∈ lw_all := lw_g (lw_at lw_m11 130 rfl) rfl
theorem q2655 : (Jvm.Cond.lays "BusLineModel" "BusLineModel" "kind" "I") ∈ lw_all := lw_g (lw_at lw_m11 131 rfl) rfl
theorem q2656 : (Jvm.Cond.soleField "BusLineModel" "kind") ∈ lw_all := lw_g (lw_at lw_m11 132 rfl) rfl
theorem q2657 : (Jvm.Cond.lays "BusLineModel" "BusLineModel" "word" "J") ∈ lw_all := lw_g (lw_at lw_m11 133 rfl) rfl
theorem q2658 : (Jvm.Cond.soleField "BusLineModel" "word") ∈ lw_all := lw_g (lw_at lw_m11 134 rfl) rfl
theorem q2659 : (Jvm.Cond.lays "BusLineModel" "BusLineModel" "value" "I") ∈ lw_all := lw_g (lw_at lw_m11 135 rfl) rfl
theorem q2660 : (Jvm.Cond.soleField "BusLineModel" "value") ∈ lw_all := lw_g (lw_at lw_m11 136 rfl) rfl
theorem q2661 : (Jvm.Cond.lays "BusLineModel" "BusLineModel" "letters" "I") ∈ lw_all := lw_g (lw_at lw_m11 137 rfl) rfl
theorem q2662 : (Jvm.Cond.soleField "BusLineModel" "letters") ∈ lw_all := lw_g (lw_at lw_m11 138 rfl) rfl
theorem q2663 : (Jvm.Cond.lays "BusLineModel" "BusLineModel" "fine" "Z") ∈ lw_all := lw_g (lw_at lw_m11 139 rfl) rfl
theorem q2664 : (Jvm.Cond.soleField "BusLineModel" "fine") ∈ lw_all := lw_g (lw_at lw_m11 140 rfl) rfl
theorem q2665 : (Jvm.Cond.lays "BusLineModel" "BusLineModel" "newStops" "I") ∈ lw_all := lw_g (lw_at lw_m11 141 rfl) rfl
theorem q2666 : (Jvm.Cond.soleField "BusLineModel" "newStops") ∈ lw_all := lw_g (lw_at lw_m11 142 rfl) rfl
theorem q2667 : (Jvm.Cond.lays "BusLineModel" "BusLineModel" "newBuses" "I") ∈ lw_all := lw_g (lw_at lw_m11 143 rfl) rfl
theorem q2668 : (Jvm.Cond.soleField "BusLineModel" "newBuses") ∈ lw_all := lw_g (lw_at lw_m11 144 rfl) rfl
theorem q2669 : (Jvm.Cond.lays "BusLineModel" "BusLineModel" "newFlows" "I") ∈ lw_all := lw_g (lw_at lw_m11 145 rfl) rfl
theorem q2670 : (Jvm.Cond.soleField "BusLineModel" "newFlows") ∈ lw_all := lw_g (lw_at lw_m11 146 rfl) rfl
theorem q2671 : (Jvm.Cond.laysFinal "BusLineModel" "BusLineModel" "newNumbers" "[I") ∈ lw_all := lw_g (lw_at lw_m11 147 rfl) rfl
theorem q2672 : (Jvm.Cond.soleField "BusLineModel" "newNumbers") ∈ lw_all := lw_g (lw_at lw_m11 148 rfl) rfl
theorem q2673 : (Jvm.Cond.laysFinal "BusLineModel" "BusLineModel" "newNames" "[I") ∈ lw_all := lw_g (lw_at lw_m11 149 rfl) rfl
theorem q2674 : (Jvm.Cond.soleField "BusLineModel" "newNames") ∈ lw_all := lw_g (lw_at lw_m11 150 rfl) rfl
theorem q2675 : (Jvm.Cond.laysFinal "BusLineModel" "BusLineModel" "newDrives" "[I") ∈ lw_all := lw_g (lw_at lw_m11 151 rfl) rfl
theorem q2676 : (Jvm.Cond.soleField "BusLineModel" "newDrives") ∈ lw_all := lw_g (lw_at lw_m11 152 rfl) rfl
theorem q2677 : (Jvm.Cond.laysFinal "BusLineModel" "BusLineModel" "newOffs" "[I") ∈ lw_all := lw_g (lw_at lw_m11 153 rfl) rfl
theorem q2678 : (Jvm.Cond.soleField "BusLineModel" "newOffs") ∈ lw_all := lw_g (lw_at lw_m11 154 rfl) rfl
theorem q2679 : (Jvm.Cond.laysFinal "BusLineModel" "BusLineModel" "newPoints" "[I") ∈ lw_all := lw_g (lw_at lw_m11 155 rfl) rfl
theorem q2680 : (Jvm.Cond.soleField "BusLineModel" "newPoints") ∈ lw_all := lw_g (lw_at lw_m11 156 rfl) rfl
theorem q2681 : (Jvm.Cond.laysFinal "BusLineModel" "BusLineModel" "newSeats" "[I") ∈ lw_all := lw_g (lw_at lw_m11 157 rfl) rfl
theorem q2682 : (Jvm.Cond.soleField "BusLineModel" "newSeats") ∈ lw_all := lw_g (lw_at lw_m11 158 rfl) rfl
theorem q2683 : (Jvm.Cond.laysFinal "BusLineModel" "BusLineModel" "newStarts" "[I") ∈ lw_all := lw_g (lw_at lw_m11 159 rfl) rfl
theorem q2684 : (Jvm.Cond.soleField "BusLineModel" "newStarts") ∈ lw_all := lw_g (lw_at lw_m11 160 rfl) rfl
theorem q2685 : (Jvm.Cond.laysFinal "BusLineModel" "BusLineModel" "newFrom" "[I") ∈ lw_all := lw_g (lw_at lw_m11 161 rfl) rfl
theorem q2686 : (Jvm.Cond.soleField "BusLineModel" "newFrom") ∈ lw_all := lw_g (lw_at lw_m11 162 rfl) rfl
theorem q2687 : (Jvm.Cond.laysFinal "BusLineModel" "BusLineModel" "newTo" "[I") ∈ lw_all := lw_g (lw_at lw_m11 163 rfl) rfl
theorem q2688 : (Jvm.Cond.soleField "BusLineModel" "newTo") ∈ lw_all := lw_g (lw_at lw_m11 164 rfl) rfl
theorem q2689 : (Jvm.Cond.laysFinal "BusLineModel" "BusLineModel" "newEvery" "[I") ∈ lw_all := lw_g (lw_at lw_m11 165 rfl) rfl
theorem q2690 : (Jvm.Cond.soleField "BusLineModel" "newEvery") ∈ lw_all := lw_g (lw_at lw_m11 166 rfl) rfl
theorem q2691 : (Jvm.Cond.laysFinal "BusLineModel" "BusLineModel" "newFirst" "[I") ∈ lw_all := lw_g (lw_at lw_m11 167 rfl) rfl
theorem q2692 : (Jvm.Cond.soleField "BusLineModel" "newFirst") ∈ lw_all := lw_g (lw_at lw_m11 168 rfl) rfl
theorem q2693 : (Jvm.Cond.lays "BusLineModel" "BusLineModel" "outs" "I") ∈ lw_all := lw_g (lw_at lw_m11 169 rfl) rfl
theorem q2694 : (Jvm.Cond.soleField "BusLineModel" "outs") ∈ lw_all := lw_g (lw_at lw_m11 170 rfl) rfl
theorem q2695 : (Jvm.Cond.lays "BusLineModel" "BusLineModel" "wantedAt" "I") ∈ lw_all := lw_g (lw_at lw_m11 171 rfl) rfl
theorem q2696 : (Jvm.Cond.soleField "BusLineModel" "wantedAt") ∈ lw_all := lw_g (lw_at lw_m11 172 rfl) rfl
theorem q2697 : (Jvm.Cond.lays "BusLineModel" "BusLineModel" "foundByte" "I") ∈ lw_all := lw_g (lw_at lw_m11 173 rfl) rfl
theorem q2698 : (Jvm.Cond.soleField "BusLineModel" "foundByte") ∈ lw_all := lw_g (lw_at lw_m11 174 rfl) rfl
theorem q2699 : (Jvm.Cond.superclass "BusLineModel" "java/lang/Object") ∈ lw_all := lw_g (lw_at lw_m11 175 rfl) rfl
theorem q2702 : (Jvm.Cond.instanceMethod ({ cls := "BusLineModel", name := "append", desc := "(IIIII)I" } : Jvm.MethodName)) ∈ lw_all := lw_g (lw_at lw_m11 178 rfl) rfl
theorem q2703 : (Jvm.Cond.selects "BusLineModel" ({ cls := "BusLineModel", name := "append", desc := "(IIIII)I" } : Jvm.MethodName) ({ cls := "BusLineModel", name := "append", desc := "(IIIII)I" } : Jvm.MethodName)) ∈ lw_all := lw_g (lw_at lw_m11 179 rfl) rfl
theorem q2704 : (Jvm.Cond.code ({ cls := "BusLineModel", name := "append", desc := "(IIIII)I" } : Jvm.MethodName) prog_13_method_51_code (6 : Nat) (Option.some Jvm.ClassFile.FieldType.int)) ∈ lw_all := lw_g (lw_at lw_m11 180 rfl) rfl
theorem q2705 : (Jvm.Cond.methodLink "BusLineModel" (360 : Nat) ({ cls := "BusLineModel", name := "feeds", desc := "(I)V" } : Jvm.MethodName)) ∈ lw_all := lw_g (lw_at lw_m11 181 rfl) rfl
theorem q2706 : (Jvm.Cond.privateMethod ({ cls := "BusLineModel", name := "feeds", desc := "(I)V" } : Jvm.MethodName)) ∈ lw_tbl := lw_at lw_m11 182 rfl
theorem q2707 : (Jvm.Cond.instanceMethod ({ cls := "BusLineModel", name := "feeds", desc := "(I)V" } : Jvm.MethodName)) ∈ lw_all := lw_g (lw_at lw_m11 183 rfl) rfl
theorem q2708 : (Jvm.Cond.code ({ cls := "BusLineModel", name := "feeds", desc := "(I)V" } : Jvm.MethodName) prog_13_method_52_code (3 : Nat) (Option.none : Option Jvm.ClassFile.FieldType)) ∈ lw_all := lw_g (lw_at lw_m11 184 rfl) rfl
theorem q2710 : (Jvm.Cond.instanceMethod ({ cls := "BusLineModel", name := "truncate", desc := "(I)I" } : Jvm.MethodName)) ∈ lw_all := lw_g (lw_at lw_m11 186 rfl) rfl
theorem q2711 : (Jvm.Cond.selects "BusLineModel" ({ cls := "BusLineModel", name := "truncate", desc := "(I)I" } : Jvm.MethodName) ({ cls := "BusLineModel", name := "truncate", desc := "(I)I" } : Jvm.MethodName)) ∈ lw_all := lw_g (lw_at lw_m11 187 rfl) rfl
theorem q2712 : (Jvm.Cond.code ({ cls := "BusLineModel", name := "truncate", desc := "(I)I" } : Jvm.MethodName) prog_13_method_53_code (2 : Nat) (Option.some Jvm.ClassFile.FieldType.int)) ∈ lw_all := lw_g (lw_at lw_m11 188 rfl) rfl
theorem q2713 : (Jvm.Cond.methodLink "BusLineModel" (146 : Nat) ({ cls := "BusLineModel", name := "in", desc := "(JJJ)Z" } : Jvm.MethodName)) ∈ lw_all := lw_g (lw_at lw_m11 189 rfl) rfl
theorem q2714 : (Jvm.Cond.static ({ cls := "BusLineModel", name := "in", desc := "(JJJ)Z" } : Jvm.MethodName)) ∈ lw_all := lw_g (lw_at lw_m11 190 rfl) rfl
theorem q2715 : (Jvm.Cond.code ({ cls := "BusLineModel", name := "in", desc := "(JJJ)Z" } : Jvm.MethodName) prog_13_method_2_code (6 : Nat) (Option.some Jvm.ClassFile.FieldType.boolean)) ∈ lw_all := lw_g (lw_at lw_m11 191 rfl) rfl
theorem q2717 : (Jvm.Cond.instanceMethod ({ cls := "BusLineModel", name := "load", desc := "()I" } : Jvm.MethodName)) ∈ lw_all := lw_g (lw_at lw_m11 193 rfl) rfl
theorem q2718 : (Jvm.Cond.selects "BusLineModel" ({ cls := "BusLineModel", name := "load", desc := "()I" } : Jvm.MethodName) ({ cls := "BusLineModel", name := "load", desc := "()I" } : Jvm.MethodName)) ∈ lw_all := lw_g (lw_at lw_m11 194 rfl) rfl
theorem q2719 : (Jvm.Cond.code ({ cls := "BusLineModel", name := "load", desc := "()I" } : Jvm.MethodName) prog_13_method_55_code (1 : Nat) (Option.some Jvm.ClassFile.FieldType.int)) ∈ lw_all := lw_g (lw_at lw_m11 195 rfl) rfl
theorem q2720 : (Jvm.Cond.methodLink "BusLineModel" (363 : Nat) ({ cls := "BusLineModel", name := "readAll", desc := "()V" } : Jvm.MethodName)) ∈ lw_all := lw_g (lw_at lw_m11 196 rfl) rfl
theorem q2721 : (Jvm.Cond.privateMethod ({ cls := "BusLineModel", name := "readAll", desc := "()V" } : Jvm.MethodName)) ∈ lw_tbl := lw_at lw_m11 197 rfl
theorem q2722 : (Jvm.Cond.instanceMethod ({ cls := "BusLineModel", name := "readAll", desc := "()V" } : Jvm.MethodName)) ∈ lw_all := lw_g (lw_at lw_m11 198 rfl) rfl
theorem q2723 : (Jvm.Cond.code ({ cls := "BusLineModel", name := "readAll", desc := "()V" } : Jvm.MethodName) prog_13_method_50_code (1 : Nat) (Option.none : Option Jvm.ClassFile.FieldType)) ∈ lw_all := lw_g (lw_at lw_m11 199 rfl) rfl
theorem q2724 : (Jvm.Cond.methodLink "BusLineModel" (319 : Nat) ({ cls := "BusLineModel", name := "next", desc := "()V" } : Jvm.MethodName)) ∈ lw_all := lw_g (lw_at lw_m11 200 rfl) rfl
theorem q2725 : (Jvm.Cond.privateMethod ({ cls := "BusLineModel", name := "next", desc := "()V" } : Jvm.MethodName)) ∈ lw_tbl := lw_at lw_m11 201 rfl
theorem q2726 : (Jvm.Cond.instanceMethod ({ cls := "BusLineModel", name := "next", desc := "()V" } : Jvm.MethodName)) ∈ lw_all := lw_g (lw_at lw_m11 202 rfl) rfl
theorem q2727 : (Jvm.Cond.code ({ cls := "BusLineModel", name := "next", desc := "()V" } : Jvm.MethodName) prog_13_method_40_code (1 : Nat) (Option.none : Option Jvm.ClassFile.FieldType)) ∈ lw_all := lw_g (lw_at lw_m11 203 rfl) rfl
theorem q2728 : (Jvm.Cond.methodLink "BusLineModel" (290 : Nat) ({ cls := "BusLineModel", name := "isByte", desc := "(II)Z" } : Jvm.MethodName)) ∈ lw_all := lw_g (lw_at lw_m11 204 rfl) rfl
theorem q2729 : (Jvm.Cond.privateMethod ({ cls := "BusLineModel", name := "isByte", desc := "(II)Z" } : Jvm.MethodName)) ∈ lw_tbl := lw_at lw_m11 205 rfl
theorem q2730 : (Jvm.Cond.instanceMethod ({ cls := "BusLineModel", name := "isByte", desc := "(II)Z" } : Jvm.MethodName)) ∈ lw_all := lw_g (lw_at lw_m11 206 rfl) rfl
theorem q2731 : (Jvm.Cond.code ({ cls := "BusLineModel", name := "isByte", desc := "(II)Z" } : Jvm.MethodName) prog_13_method_36_code (3 : Nat) (Option.some Jvm.ClassFile.FieldType.boolean)) ∈ lw_all := lw_g (lw_at lw_m11 207 rfl) rfl
theorem q2732 : (Jvm.Cond.methodLink "BusLineModel" (309 : Nat) ({ cls := "BusLineModel", name := "nextWord", desc := "()V" } : Jvm.MethodName)) ∈ lw_all := lw_g (lw_at lw_m11 208 rfl) rfl
theorem q2733 : (Jvm.Cond.privateMethod ({ cls := "BusLineModel", name := "nextWord", desc := "()V" } : Jvm.MethodName)) ∈ lw_tbl := lw_at lw_m11 209 rfl
theorem q2734 : (Jvm.Cond.instanceMethod ({ cls := "BusLineModel", name := "nextWord", desc := "()V" } : Jvm.MethodName)) ∈ lw_all := lw_g (lw_at lw_m11 210 rfl) rfl
theorem q2735 : (Jvm.Cond.code ({ cls := "BusLineModel", name := "nextWord", desc := "()V" } : Jvm.MethodName) prog_13_method_38_code (3 : Nat) (Option.none : Option Jvm.ClassFile.FieldType)) ∈ lw_all := lw_g (lw_at lw_m11 211 rfl) rfl
theorem q2736 : (Jvm.Cond.constantLong "BusLineModel" (297 : Nat) (32 : Int64)) ∈ lw_all := lw_g (lw_at lw_m11 212 rfl) rfl
theorem q2737 : (Jvm.Cond.methodLink "BusLineModel" (299 : Nat) ({ cls := "BusLineModel", name := "isKey", desc := "(J)Z" } : Jvm.MethodName)) ∈ lw_all := lw_g (lw_at lw_m11 213 rfl) rfl
theorem q2738 : (Jvm.Cond.static ({ cls := "BusLineModel", name := "isKey", desc := "(J)Z" } : Jvm.MethodName)) ∈ lw_all := lw_g (lw_at lw_m11 214 rfl) rfl
theorem q2739 : (Jvm.Cond.code ({ cls := "BusLineModel", name := "isKey", desc := "(J)Z" } : Jvm.MethodName) prog_13_method_37_code (3 : Nat) (Option.some Jvm.ClassFile.FieldType.boolean)) ∈ lw_all := lw_g (lw_at lw_m11 215 rfl) rfl
theorem q2740 : (Jvm.Cond.constantLong "BusLineModel" (247 : Nat) (508078 : Int64)) ∈ lw_all := lw_g (lw_at lw_m11 216 rfl) rfl
theorem q2741 : (Jvm.Cond.constantLong "BusLineModel" (249 : Nat) (494 : Int64)) ∈ lw_all := lw_g (lw_at lw_m11 217 rfl) rfl
theorem q2742 : (Jvm.Cond.constantLong "BusLineModel" (251 : Nat) (147182 : Int64)) ∈ lw_all := lw_g (lw_at lw_m11 218 rfl) rfl
theorem q2743 : (Jvm.Cond.constantLong "BusLineModel" (253 : Nat) (8758910009 : Int64)) ∈ lw_all := lw_g (lw_at lw_m11 219 rfl) rfl
theorem q2744 : (Jvm.Cond.constantLong "BusLineModel" (255 : Nat) (3120 : Int64)) ∈ lw_all := lw_g (lw_at lw_m11 220 rfl) rfl
theorem q2745 : (Jvm.Cond.constantLong "BusLineModel" (257 : Nat) (551510259813 : Int64)) ∈ lw_all := lw_g (lw_at lw_m11 221 rfl) rfl
theorem q2746 : (Jvm.Cond.constantLong "BusLineModel" (259 : Nat) (19387844 : Int64)) ∈ lw_all := lw_g (lw_at lw_m11 222 rfl) rfl
theorem q2747 : (Jvm.Cond.constantLong "BusLineModel" (261 : Nat) (441477 : Int64)) ∈ lw_all := lw_g (lw_at lw_m11 223 rfl) rfl
theorem q2748 : (Jvm.Cond.constantLong "BusLineModel" (263 : Nat) (643568 : Int64)) ∈ lw_all := lw_g (lw_at lw_m11 224 rfl) rfl
theorem q2749 : (Jvm.Cond.constantLong "BusLineModel" (265 : Nat) (4794053 : Int64)) ∈ lw_all := lw_g (lw_at lw_m11 225 rfl) rfl
theorem q2750 : (Jvm.Cond.constantLong "BusLineModel" (267 : Nat) (15558 : Int64)) ∈ lw_all := lw_g (lw_at lw_m11 226 rfl) rfl
theorem q2751 : (Jvm.Cond.constantLong "BusLineModel" (269 : Nat) (17278420 : Int64)) ∈ lw_all := lw_g (lw_at lw_m11 227 rfl) rfl
theorem q2752 : (Jvm.Cond.constantLong "BusLineModel" (271 : Nat) (2739 : Int64)) ∈ lw_all := lw_g (lw_at lw_m11 228 rfl) rfl
theorem q2753 : (Jvm.Cond.constantLong "BusLineModel" (273 : Nat) (20579924 : Int64)) ∈ lw_all := lw_g (lw_at lw_m11 229 rfl) rfl
theorem q2754 : (Jvm.Cond.constantLong "BusLineModel" (275 : Nat) (215533 : Int64)) ∈ lw_all := lw_g (lw_at lw_m11 230 rfl) rfl
theorem q2755 : (Jvm.Cond.constantLong "BusLineModel" (277 : Nat) (655 : Int64)) ∈ lw_all := lw_g (lw_at lw_m11 231 rfl) rfl
theorem q2756 : (Jvm.Cond.constantLong "BusLineModel" (279 : Nat) (5969497 : Int64)) ∈ lw_all := lw_g (lw_at lw_m11 232 rfl) rfl
theorem q2757 : (Jvm.Cond.constantLong "BusLineModel" (281 : Nat) (6605428 : Int64)) ∈ lw_all := lw_g (lw_at lw_m11 233 rfl) rfl
theorem q2758 : (Jvm.Cond.methodLink "BusLineModel" (312 : Nat) ({ cls := "BusLineModel", name := "nextInt", desc := "()V" } : Jvm.MethodName)) ∈ lw_all := lw_g (lw_at lw_m11 234 rfl) rfl
theorem q2759 : (Jvm.Cond.privateMethod ({ cls := "BusLineModel", name := "nextInt", desc := "()V" } : Jvm.MethodName)) ∈ lw_tbl := lw_at lw_m11 235 rfl
theorem q2760 : (Jvm.Cond.instanceMethod ({ cls := "BusLineModel", name := "nextInt", desc := "()V" } : Jvm.MethodName)) ∈ lw_all := lw_g (lw_at lw_m11 236 rfl) rfl
theorem q2761 : (Jvm.Cond.code ({ cls := "BusLineModel", name := "nextInt", desc := "()V" } : Jvm.MethodName) prog_13_method_39_code (1 : Nat) (Option.none : Option Jvm.ClassFile.FieldType)) ∈ lw_all := lw_g (lw_at lw_m11 237 rfl) rfl
theorem q2762 : (Jvm.Cond.methodLink "BusLineModel" (348 : Nat) ({ cls := "BusLineModel", name := "readNumbers", desc := "()V" } : Jvm.MethodName)) ∈ lw_all := lw_g (lw_at lw_m11 238 rfl) rfl
theorem q2763 : (Jvm.Cond.privateMethod ({ cls := "BusLineModel", name := "readNumbers", desc := "()V" } : Jvm.MethodName)) ∈ lw_tbl := lw_at lw_m11 239 rfl
theorem q2764 : (Jvm.Cond.instanceMethod ({ cls := "BusLineModel", name := "readNumbers", desc := "()V" } : Jvm.MethodName)) ∈ lw_all := lw_g (lw_at lw_m12 0 rfl) rfl
theorem q2765 : (Jvm.Cond.code ({ cls := "BusLineModel", name := "readNumbers", desc := "()V" } : Jvm.MethodName) prog_13_method_46_code (1 : Nat) (Option.none : Option Jvm.ClassFile.FieldType)) ∈ lw_all := lw_g (lw_at lw_m12 1 rfl) rfl
theorem q2766 : (Jvm.Cond.methodLink "BusLineModel" (335 : Nat) ({ cls := "BusLineModel", name := "numberOf", desc := "(JII)I" } : Jvm.MethodName)) ∈ lw_all := lw_g (lw_at lw_m12 2 rfl) rfl
theorem q2767 : (Jvm.Cond.privateMethod ({ cls := "BusLineModel", name := "numberOf", desc := "(JII)I" } : Jvm.MethodName)) ∈ lw_tbl := lw_at lw_m12 3 rfl
theorem q2768 : (Jvm.Cond.instanceMethod ({ cls := "BusLineModel", name := "numberOf", desc := "(JII)I" } : Jvm.MethodName)) ∈ lw_all := lw_g (lw_at lw_m12 4 rfl) rfl
theorem q2769 : (Jvm.Cond.code ({ cls := "BusLineModel", name := "numberOf", desc := "(JII)I" } : Jvm.MethodName) prog_13_method_44_code (5 : Nat) (Option.some Jvm.ClassFile.FieldType.int)) ∈ lw_all := lw_g (lw_at lw_m12 5 rfl) rfl
theorem q2770 : (Jvm.Cond.methodLink "BusLineModel" (326 : Nat) ({ cls := "BusLineModel", name := "isWord", desc := "(J)Z" } : Jvm.MethodName)) ∈ lw_all := lw_g (lw_at lw_m12 6 rfl) rfl
theorem q2771 : (Jvm.Cond.privateMethod ({ cls := "BusLineModel", name := "isWord", desc := "(J)Z" } : Jvm.MethodName)) ∈ lw_tbl := lw_at lw_m12 7 rfl
theorem q2772 : (Jvm.Cond.instanceMethod ({ cls := "BusLineModel", name := "isWord", desc := "(J)Z" } : Jvm.MethodName)) ∈ lw_all := lw_g (lw_at lw_m12 8 rfl) rfl
theorem q2773 : (Jvm.Cond.code ({ cls := "BusLineModel", name := "isWord", desc := "(J)Z" } : Jvm.MethodName) prog_13_method_42_code (3 : Nat) (Option.some Jvm.ClassFile.FieldType.boolean)) ∈ lw_all := lw_g (lw_at lw_m12 9 rfl) rfl
theorem q2774 : (Jvm.Cond.methodLink "BusLineModel" (322 : Nat) ({ cls := "BusLineModel", name := "takes", desc := "(Z)V" } : Jvm.MethodName)) ∈ lw_all := lw_g (lw_at lw_m12 10 rfl) rfl
theorem q2775 : (Jvm.Cond.privateMethod ({ cls := "BusLineModel", name := "takes", desc := "(Z)V" } : Jvm.MethodName)) ∈ lw_tbl := lw_at lw_m12 11 rfl
theorem q2776 : (Jvm.Cond.instanceMethod ({ cls := "BusLineModel", name := "takes", desc := "(Z)V" } : Jvm.MethodName)) ∈ lw_all := lw_g (lw_at lw_m12 12 rfl) rfl
theorem q2777 : (Jvm.Cond.code ({ cls := "BusLineModel", name := "takes", desc := "(Z)V" } : Jvm.MethodName) prog_13_method_41_code (2 : Nat) (Option.none : Option Jvm.ClassFile.FieldType)) ∈ lw_all := lw_g (lw_at lw_m12 13 rfl) rfl
theorem q2778 : (Jvm.Cond.methodLink "BusLineModel" (329 : Nat) ({ cls := "BusLineModel", name := "number", desc := "(II)I" } : Jvm.MethodName)) ∈ lw_all := lw_g (lw_at lw_m12 14 rfl) rfl
theorem q2779 : (Jvm.Cond.privateMethod ({ cls := "BusLineModel", name := "number", desc := "(II)I" } : Jvm.MethodName)) ∈ lw_tbl := lw_at lw_m12 15 rfl
theorem q2780 : (Jvm.Cond.instanceMethod ({ cls := "BusLineModel", name := "number", desc := "(II)I" } : Jvm.MethodName)) ∈ lw_all := lw_g (lw_at lw_m12 16 rfl) rfl
theorem q2781 : (Jvm.Cond.code ({ cls := "BusLineModel", name := "number", desc := "(II)I" } : Jvm.MethodName) prog_13_method_43_code (4 : Nat) (Option.some Jvm.ClassFile.FieldType.int)) ∈ lw_all := lw_g (lw_at lw_m12 17 rfl) rfl
theorem q2782 : (Jvm.Cond.methodLink "BusLineModel" (351 : Nat) ({ cls := "BusLineModel", name := "readStop", desc := "()V" } : Jvm.MethodName)) ∈ lw_all := lw_g (lw_at lw_m12 18 rfl) rfl
theorem q2783 : (Jvm.Cond.privateMethod ({ cls := "BusLineModel", name := "readStop", desc := "()V" } : Jvm.MethodName)) ∈ lw_tbl := lw_at lw_m12 19 rfl
theorem q2784 : (Jvm.Cond.instanceMethod ({ cls := "BusLineModel", name := "readStop", desc := "()V" } : Jvm.MethodName)) ∈ lw_all := lw_g (lw_at lw_m12 20 rfl) rfl
theorem q2785 : (Jvm.Cond.code ({ cls := "BusLineModel", name := "readStop", desc := "()V" } : Jvm.MethodName) prog_13_method_47_code (6 : Nat) (Option.none : Option Jvm.ClassFile.FieldType)) ∈ lw_all := lw_g (lw_at lw_m12 21 rfl) rfl
theorem q2786 : (Jvm.Cond.methodLink "BusLineModel" (339 : Nat) ({ cls := "BusLineModel", name := "stopNamed", desc := "()I" } : Jvm.MethodName)) ∈ lw_all := lw_g (lw_at lw_m12 22 rfl) rfl
theorem q2787 : (Jvm.Cond.privateMethod ({ cls := "BusLineModel", name := "stopNamed", desc := "()I" } : Jvm.MethodName)) ∈ lw_tbl := lw_at lw_m12 23 rfl
theorem q2788 : (Jvm.Cond.instanceMethod ({ cls := "BusLineModel", name := "stopNamed", desc := "()I" } : Jvm.MethodName)) ∈ lw_all := lw_g (lw_at lw_m12 24 rfl) rfl
theorem q2789 : (Jvm.Cond.code ({ cls := "BusLineModel", name := "stopNamed", desc := "()I" } : Jvm.MethodName) prog_13_method_45_code (2 : Nat) (Option.some Jvm.ClassFile.FieldType.int)) ∈ lw_all := lw_g (lw_at lw_m12 25 rfl) rfl
theorem q2790 : (Jvm.Cond.methodLink "BusLineModel" (354 : Nat) ({ cls := "BusLineModel", name := "readBus", desc := "()V" } : Jvm.MethodName)) ∈ lw_all := lw_g (lw_at lw_m12 26 rfl) rfl
theorem q2791 : (Jvm.Cond.privateMethod ({ cls := "BusLineModel", name := "readBus", desc := "()V" } : Jvm.MethodName)) ∈ lw_tbl := lw_at lw_m12 27 rfl
theorem q2792 : (Jvm.Cond.instanceMethod ({ cls := "BusLineModel", name := "readBus", desc := "()V" } : Jvm.MethodName)) ∈ lw_all := lw_g (lw_at lw_m12 28 rfl) rfl
theorem q2793 : (Jvm.Cond.code ({ cls := "BusLineModel", name := "readBus", desc := "()V" } : Jvm.MethodName) prog_13_method_48_code (4 : Nat) (Option.none : Option Jvm.ClassFile.FieldType)) ∈ lw_all := lw_g (lw_at lw_m12 29 rfl) rfl
theorem q2794 : (Jvm.Cond.methodLink "BusLineModel" (357 : Nat) ({ cls := "BusLineModel", name := "readFlow", desc := "()V" } : Jvm.MethodName)) ∈ lw_all := lw_g (lw_at lw_m12 30 rfl) rfl
theorem q2795 : (Jvm.Cond.privateMethod ({ cls := "BusLineModel", name := "readFlow", desc := "()V" } : Jvm.MethodName)) ∈ lw_tbl := lw_at lw_m12 31 rfl
theorem q2796 : (Jvm.Cond.instanceMethod ({ cls := "BusLineModel", name := "readFlow", desc := "()V" } : Jvm.MethodName)) ∈ lw_all := lw_g (lw_at lw_m12 32 rfl) rfl
theorem q2797 : (Jvm.Cond.code ({ cls := "BusLineModel", name := "readFlow", desc := "()V" } : Jvm.MethodName) prog_13_method_49_code (6 : Nat) (Option.none : Option Jvm.ClassFile.FieldType)) ∈ lw_all := lw_g (lw_at lw_m12 33 rfl) rfl
theorem q2798 : (Jvm.Cond.methodLink "BusLineModel" (366 : Nat) ({ cls := "BusLineModel", name := "becomes", desc := "()V" } : Jvm.MethodName)) ∈ lw_all := lw_g (lw_at lw_m12 34 rfl) rfl
theorem q2799 : (Jvm.Cond.privateMethod ({ cls := "BusLineModel", name := "becomes", desc := "()V" } : Jvm.MethodName)) ∈ lw_tbl := lw_at lw_m12 35 rfl
theorem q2800 : (Jvm.Cond.instanceMethod ({ cls := "BusLineModel", name := "becomes", desc := "()V" } : Jvm.MethodName)) ∈ lw_all := lw_g (lw_at lw_m12 36 rfl) rfl
theorem q2801 : (Jvm.Cond.code ({ cls := "BusLineModel", name := "becomes", desc := "()V" } : Jvm.MethodName) prog_13_method_54_code (2 : Nat) (Option.none : Option Jvm.ClassFile.FieldType)) ∈ lw_all := lw_g (lw_at lw_m12 37 rfl) rfl
theorem q2803 : (Jvm.Cond.instanceMethod ({ cls := "BusLineModel", name := "errorPosition", desc := "()I" } : Jvm.MethodName)) ∈ lw_all := lw_g (lw_at lw_m12 39 rfl) rfl
theorem q2804 : (Jvm.Cond.selects "BusLineModel" ({ cls := "BusLineModel", name := "errorPosition", desc := "()I" } : Jvm.MethodName) ({ cls := "BusLineModel", name := "errorPosition", desc := "()I" } : Jvm.MethodName)) ∈ lw_all := lw_g (lw_at lw_m12 40 rfl) rfl
theorem q2805 : (Jvm.Cond.code ({ cls := "BusLineModel", name := "errorPosition", desc := "()I" } : Jvm.MethodName) prog_13_method_56_code (1 : Nat) (Option.some Jvm.ClassFile.FieldType.int)) ∈ lw_all := lw_g (lw_at lw_m12 41 rfl) rfl
theorem q2807 : (Jvm.Cond.instanceMethod ({ cls := "BusLineModel", name := "undo", desc := "()I" } : Jvm.MethodName)) ∈ lw_all := lw_g (lw_at lw_m12 43 rfl) rfl
theorem q2808 : (Jvm.Cond.selects "BusLineModel" ({ cls := "BusLineModel", name := "undo", desc := "()I" } : Jvm.MethodName) ({ cls := "BusLineModel", name := "undo", desc := "()I" } : Jvm.MethodName)) ∈ lw_all := lw_g (lw_at lw_m12 44 rfl) rfl
theorem q2809 : (Jvm.Cond.code ({ cls := "BusLineModel", name := "undo", desc := "()I" } : Jvm.MethodName) prog_13_method_58_code (2 : Nat) (Option.some Jvm.ClassFile.FieldType.int)) ∈ lw_all := lw_g (lw_at lw_m12 45 rfl) rfl
theorem q2811 : (Jvm.Cond.instanceMethod ({ cls := "BusLineModel", name := "setMode", desc := "(I)I" } : Jvm.MethodName)) ∈ lw_all := lw_g (lw_at lw_m12 47 rfl) rfl
theorem q2812 : (Jvm.Cond.selects "BusLineModel" ({ cls := "BusLineModel", name := "setMode", desc := "(I)I" } : Jvm.MethodName) ({ cls := "BusLineModel", name := "setMode", desc := "(I)I" } : Jvm.MethodName)) ∈ lw_all := lw_g (lw_at lw_m12 48 rfl) rfl
theorem q2813 : (Jvm.Cond.code ({ cls := "BusLineModel", name := "setMode", desc := "(I)I" } : Jvm.MethodName) prog_13_method_61_code (3 : Nat) (Option.some Jvm.ClassFile.FieldType.int)) ∈ lw_all := lw_g (lw_at lw_m12 49 rfl) rfl
theorem q2814 : (Jvm.Cond.methodLink "BusLineModel" (371 : Nat) ({ cls := "BusLineModel", name := "isMode", desc := "(I)Z" } : Jvm.MethodName)) ∈ lw_all := lw_g (lw_at lw_m12 50 rfl) rfl
theorem q2815 : (Jvm.Cond.static ({ cls := "BusLineModel", name := "isMode", desc := "(I)Z" } : Jvm.MethodName)) ∈ lw_all := lw_g (lw_at lw_m12 51 rfl) rfl
theorem q2816 : (Jvm.Cond.code ({ cls := "BusLineModel", name := "isMode", desc := "(I)Z" } : Jvm.MethodName) prog_13_method_59_code (1 : Nat) (Option.some Jvm.ClassFile.FieldType.boolean)) ∈ lw_all := lw_g (lw_at lw_m12 52 rfl) rfl
theorem q2817 : (Jvm.Cond.constantLong "BusLineModel" (369 : Nat) (3 : Int64)) ∈ lw_all := lw_g (lw_at lw_m12 53 rfl) rfl
theorem q2818 : (Jvm.Cond.methodLink "BusLineModel" (374 : Nat) ({ cls := "BusLineModel", name := "keeps", desc := "()V" } : Jvm.MethodName)) ∈ lw_all := lw_g (lw_at lw_m12 54 rfl) rfl
theorem q2819 : (Jvm.Cond.privateMethod ({ cls := "BusLineModel", name := "keeps", desc := "()V" } : Jvm.MethodName)) ∈ lw_tbl := lw_at lw_m12 55 rfl
theorem q2820 : (Jvm.Cond.instanceMethod ({ cls := "BusLineModel", name := "keeps", desc := "()V" } : Jvm.MethodName)) ∈ lw_all := lw_g (lw_at lw_m12 56 rfl) rfl
theorem q2821 : (Jvm.Cond.code ({ cls := "BusLineModel", name := "keeps", desc := "()V" } : Jvm.MethodName) prog_13_method_57_code (2 : Nat) (Option.none : Option Jvm.ClassFile.FieldType)) ∈ lw_all := lw_g (lw_at lw_m12 57 rfl) rfl
theorem q2823 : (Jvm.Cond.instanceMethod ({ cls := "BusLineModel", name := "setPoint", desc := "(IZ)I" } : Jvm.MethodName)) ∈ lw_all := lw_g (lw_at lw_m12 59 rfl) rfl
theorem q2824 : (Jvm.Cond.selects "BusLineModel" ({ cls := "BusLineModel", name := "setPoint", desc := "(IZ)I" } : Jvm.MethodName) ({ cls := "BusLineModel", name := "setPoint", desc := "(IZ)I" } : Jvm.MethodName)) ∈ lw_all := lw_g (lw_at lw_m12 60 rfl) rfl
theorem q2825 : (Jvm.Cond.code ({ cls := "BusLineModel", name := "setPoint", desc := "(IZ)I" } : Jvm.MethodName) prog_13_method_62_code (3 : Nat) (Option.some Jvm.ClassFile.FieldType.int)) ∈ lw_all := lw_g (lw_at lw_m12 61 rfl) rfl
theorem q2826 : (Jvm.Cond.methodLink "BusLineModel" (377 : Nat) ({ cls := "BusLineModel", name := "isStop", desc := "(I)Z" } : Jvm.MethodName)) ∈ lw_all := lw_g (lw_at lw_m12 62 rfl) rfl
theorem q2827 : (Jvm.Cond.privateMethod ({ cls := "BusLineModel", name := "isStop", desc := "(I)Z" } : Jvm.MethodName)) ∈ lw_tbl := lw_at lw_m12 63 rfl
theorem q2828 : (Jvm.Cond.instanceMethod ({ cls := "BusLineModel", name := "isStop", desc := "(I)Z" } : Jvm.MethodName)) ∈ lw_all := lw_g (lw_at lw_m12 64 rfl) rfl
theorem q2829 : (Jvm.Cond.code ({ cls := "BusLineModel", name := "isStop", desc := "(I)Z" } : Jvm.MethodName) prog_13_method_8_code (2 : Nat) (Option.some Jvm.ClassFile.FieldType.boolean)) ∈ lw_all := lw_g (lw_at lw_m12 65 rfl) rfl
theorem q2830 : (Jvm.Cond.methodLink "BusLineModel" (380 : Nat) ({ cls := "BusLineModel", name := "pointMany", desc := "()I" } : Jvm.MethodName)) ∈ lw_all := lw_g (lw_at lw_m12 66 rfl) rfl
theorem q2831 : (Jvm.Cond.privateMethod ({ cls := "BusLineModel", name := "pointMany", desc := "()I" } : Jvm.MethodName)) ∈ lw_tbl := lw_at lw_m12 67 rfl
theorem q2832 : (Jvm.Cond.instanceMethod ({ cls := "BusLineModel", name := "pointMany", desc := "()I" } : Jvm.MethodName)) ∈ lw_all := lw_g (lw_at lw_m12 68 rfl) rfl
theorem q2833 : (Jvm.Cond.code ({ cls := "BusLineModel", name := "pointMany", desc := "()I" } : Jvm.MethodName) prog_13_method_60_code (3 : Nat) (Option.some Jvm.ClassFile.FieldType.int)) ∈ lw_all := lw_g (lw_at lw_m12 69 rfl) rfl
theorem q2835 : (Jvm.Cond.instanceMethod ({ cls := "BusLineModel", name := "setNumber", desc := "(II)I" } : Jvm.MethodName)) ∈ lw_all := lw_g (lw_at lw_m12 71 rfl) rfl
theorem q2836 : (Jvm.Cond.selects "BusLineModel" ({ cls := "BusLineModel", name := "setNumber", desc := "(II)I" } : Jvm.MethodName) ({ cls := "BusLineModel", name := "setNumber", desc := "(II)I" } : Jvm.MethodName)) ∈ lw_all := lw_g (lw_at lw_m12 72 rfl) rfl
theorem q2837 : (Jvm.Cond.code ({ cls := "BusLineModel", name := "setNumber", desc := "(II)I" } : Jvm.MethodName) prog_13_method_64_code (4 : Nat) (Option.some Jvm.ClassFile.FieldType.int)) ∈ lw_all := lw_g (lw_at lw_m12 73 rfl) rfl
theorem q2838 : (Jvm.Cond.methodLink "BusLineModel" (393 : Nat) ({ cls := "BusLineModel", name := "isNumber", desc := "(II)Z" } : Jvm.MethodName)) ∈ lw_all := lw_g (lw_at lw_m12 74 rfl) rfl
theorem q2839 : (Jvm.Cond.static ({ cls := "BusLineModel", name := "isNumber", desc := "(II)Z" } : Jvm.MethodName)) ∈ lw_all := lw_g (lw_at lw_m12 75 rfl) rfl
theorem q2840 : (Jvm.Cond.code ({ cls := "BusLineModel", name := "isNumber", desc := "(II)Z" } : Jvm.MethodName) prog_13_method_63_code (2 : Nat) (Option.some Jvm.ClassFile.FieldType.boolean)) ∈ lw_all := lw_g (lw_at lw_m12 76 rfl) rfl
theorem q2841 : (Jvm.Cond.constantLong "BusLineModel" (383 : Nat) (30 : Int64)) ∈ lw_all := lw_g (lw_at lw_m12 77 rfl) rfl
theorem q2842 : (Jvm.Cond.constantLong "BusLineModel" (385 : Nat) (3600 : Int64)) ∈ lw_all := lw_g (lw_at lw_m12 78 rfl) rfl
theorem q2843 : (Jvm.Cond.constantLong "BusLineModel" (387 : Nat) (900 : Int64)) ∈ lw_all := lw_g (lw_at lw_m12 79 rfl) rfl
theorem q2844 : (Jvm.Cond.constantLong "BusLineModel" (389 : Nat) (60 : Int64)) ∈ lw_all := lw_g (lw_at lw_m12 80 rfl) rfl
theorem q2845 : (Jvm.Cond.constantLong "BusLineModel" (391 : Nat) (9999 : Int64)) ∈ lw_all := lw_g (lw_at lw_m12 81 rfl) rfl
theorem q2847 : (Jvm.Cond.instanceMethod ({ cls := "BusLineModel", name := "skip", desc := "(I)I" } : Jvm.MethodName)) ∈ lw_all := lw_g (lw_at lw_m12 83 rfl) rfl
theorem q2848 : (Jvm.Cond.selects "BusLineModel" ({ cls := "BusLineModel", name := "skip", desc := "(I)I" } : Jvm.MethodName) ({ cls := "BusLineModel", name := "skip", desc := "(I)I" } : Jvm.MethodName)) ∈ lw_all := lw_g (lw_at lw_m12 84 rfl) rfl
theorem q2849 : (Jvm.Cond.code ({ cls := "BusLineModel", name := "skip", desc := "(I)I" } : Jvm.MethodName) prog_13_method_65_code (3 : Nat) (Option.some Jvm.ClassFile.FieldType.int)) ∈ lw_all := lw_g (lw_at lw_m12 85 rfl) rfl
theorem q2850 : (Jvm.Cond.methodLink "BusLineModel" (396 : Nat) ({ cls := "BusLineModel", name := "isBus", desc := "(I)Z" } : Jvm.MethodName)) ∈ lw_all := lw_g (lw_at lw_m12 86 rfl) rfl
theorem q2851 : (Jvm.Cond.privateMethod ({ cls := "BusLineModel", name := "isBus", desc := "(I)Z" } : Jvm.MethodName)) ∈ lw_tbl := lw_at lw_m12 87 rfl
theorem q2852 : (Jvm.Cond.instanceMethod ({ cls := "BusLineModel", name := "isBus", desc := "(I)Z" } : Jvm.MethodName)) ∈ lw_all := lw_g (lw_at lw_m12 88 rfl) rfl
theorem q2853 : (Jvm.Cond.code ({ cls := "BusLineModel", name := "isBus", desc := "(I)Z" } : Jvm.MethodName) prog_13_method_9_code (2 : Nat) (Option.some Jvm.ClassFile.FieldType.boolean)) ∈ lw_all := lw_g (lw_at lw_m12 89 rfl) rfl
theorem q2854 : (Jvm.Cond.methodLink "BusLineModel" (171 : Nat) ({ cls := "BusLineModel", name := "of", desc := "(II)I" } : Jvm.MethodName)) ∈ lw_all := lw_g (lw_at lw_m12 90 rfl) rfl
theorem q2855 : (Jvm.Cond.privateMethod ({ cls := "BusLineModel", name := "of", desc := "(II)I" } : Jvm.MethodName)) ∈ lw_tbl := lw_at lw_m12 91 rfl
theorem q2856 : (Jvm.Cond.instanceMethod ({ cls := "BusLineModel", name := "of", desc := "(II)I" } : Jvm.MethodName)) ∈ lw_all := lw_g (lw_at lw_m12 92 rfl) rfl
theorem q2857 : (Jvm.Cond.code ({ cls := "BusLineModel", name := "of", desc := "(II)I" } : Jvm.MethodName) prog_13_method_4_code (3 : Nat) (Option.some Jvm.ClassFile.FieldType.int)) ∈ lw_all := lw_g (lw_at lw_m12 93 rfl) rfl
theorem q2858 : (Jvm.Cond.methodLink "BusLineModel" (399 : Nat) ({ cls := "BusLineModel", name := "aboardTo", desc := "(II)I" } : Jvm.MethodName)) ∈ lw_all := lw_g (lw_at lw_m12 94 rfl) rfl
theorem q2859 : (Jvm.Cond.privateMethod ({ cls := "BusLineModel", name := "aboardTo", desc := "(II)I" } : Jvm.MethodName)) ∈ lw_tbl := lw_at lw_m12 95 rfl
theorem q2860 : (Jvm.Cond.instanceMethod ({ cls := "BusLineModel", name := "aboardTo", desc := "(II)I" } : Jvm.MethodName)) ∈ lw_all := lw_g (lw_at lw_m12 96 rfl) rfl
theorem q2861 : (Jvm.Cond.code ({ cls := "BusLineModel", name := "aboardTo", desc := "(II)I" } : Jvm.MethodName) prog_13_method_20_code (5 : Nat) (Option.some Jvm.ClassFile.FieldType.int)) ∈ lw_all := lw_g (lw_at lw_m12 97 rfl) rfl
theorem q2862 : (Jvm.Cond.methodLink "BusLineModel" (174 : Nat) ({ cls := "BusLineModel", name := "seatAt", desc := "(II)I" } : Jvm.MethodName)) ∈ lw_all := lw_g (lw_at lw_m12 98 rfl) rfl
theorem q2863 : (Jvm.Cond.static ({ cls := "BusLineModel", name := "seatAt", desc := "(II)I" } : Jvm.MethodName)) ∈ lw_all := lw_g (lw_at lw_m12 99 rfl) rfl
theorem q2864 : (Jvm.Cond.code ({ cls := "BusLineModel", name := "seatAt", desc := "(II)I" } : Jvm.MethodName) prog_13_method_17_code (2 : Nat) (Option.some Jvm.ClassFile.FieldType.int)) ∈ lw_all := lw_g (lw_at lw_m12 100 rfl) rfl
theorem q2866 : (Jvm.Cond.instanceMethod ({ cls := "BusLineModel", name := "hold", desc := "(II)I" } : Jvm.MethodName)) ∈ lw_all := lw_g (lw_at lw_m12 102 rfl) rfl
theorem q2867 : (Jvm.Cond.selects "BusLineModel" ({ cls := "BusLineModel", name := "hold", desc := "(II)I" } : Jvm.MethodName) ({ cls := "BusLineModel", name := "hold", desc := "(II)I" } : Jvm.MethodName)) ∈ lw_all := lw_g (lw_at lw_m12 103 rfl) rfl
theorem q2868 : (Jvm.Cond.code ({ cls := "BusLineModel", name := "hold", desc := "(II)I" } : Jvm.MethodName) prog_13_method_66_code (3 : Nat) (Option.some Jvm.ClassFile.FieldType.int)) ∈ lw_all := lw_g (lw_at lw_m12 104 rfl) rfl
theorem q2869 : (Jvm.Cond.methodLink "BusLineModel" (181 : Nat) ({ cls := "BusLineModel", name := "isAt", desc := "(I)Z" } : Jvm.MethodName)) ∈ lw_all := lw_g (lw_at lw_m12 105 rfl) rfl
theorem q2870 : (Jvm.Cond.privateMethod ({ cls := "BusLineModel", name := "isAt", desc := "(I)Z" } : Jvm.MethodName)) ∈ lw_tbl := lw_at lw_m12 106 rfl
theorem q2871 : (Jvm.Cond.instanceMethod ({ cls := "BusLineModel", name := "isAt", desc := "(I)Z" } : Jvm.MethodName)) ∈ lw_all := lw_g (lw_at lw_m12 107 rfl) rfl
theorem q2872 : (Jvm.Cond.code ({ cls := "BusLineModel", name := "isAt", desc := "(I)Z" } : Jvm.MethodName) prog_13_method_23_code (2 : Nat) (Option.some Jvm.ClassFile.FieldType.boolean)) ∈ lw_all := lw_g (lw_at lw_m12 108 rfl) rfl
theorem q2874 : (Jvm.Cond.instanceMethod ({ cls := "BusLineModel", name := "group", desc := "(III)I" } : Jvm.MethodName)) ∈ lw_all := lw_g (lw_at lw_m12 110 rfl) rfl
theorem q2875 : (Jvm.Cond.selects "BusLineModel" ({ cls := "BusLineModel", name := "group", desc := "(III)I" } : Jvm.MethodName) ({ cls := "BusLineModel", name := "group", desc := "(III)I" } : Jvm.MethodName)) ∈ lw_all := lw_g (lw_at lw_m12 111 rfl) rfl
theorem q2876 : (Jvm.Cond.code ({ cls := "BusLineModel", name := "group", desc := "(III)I" } : Jvm.MethodName) prog_13_method_67_code (6 : Nat) (Option.some Jvm.ClassFile.FieldType.int)) ∈ lw_all := lw_g (lw_at lw_m12 112 rfl) rfl
theorem q2877 : (Jvm.Cond.constantLong "BusLineModel" (402 : Nat) (40 : Int64)) ∈ lw_all := lw_g (lw_at lw_m12 113 rfl) rfl
theorem q2878 : (Jvm.Cond.methodLink "BusLineModel" (195 : Nat) ({ cls := "BusLineModel", name := "bringsUp", desc := "(II)V" } : Jvm.MethodName)) ∈ lw_all := lw_g (lw_at lw_m12 114 rfl) rfl
theorem q2879 : (Jvm.Cond.privateMethod ({ cls := "BusLineModel", name := "bringsUp", desc := "(II)V" } : Jvm.MethodName)) ∈ lw_tbl := lw_at lw_m12 115 rfl
theorem q2880 : (Jvm.Cond.instanceMethod ({ cls := "BusLineModel", name := "bringsUp", desc := "(II)V" } : Jvm.MethodName)) ∈ lw_all := lw_g (lw_at lw_m12 116 rfl) rfl
theorem q2881 : (Jvm.Cond.code ({ cls := "BusLineModel", name := "bringsUp", desc := "(II)V" } : Jvm.MethodName) prog_13_method_16_code (5 : Nat) (Option.none : Option Jvm.ClassFile.FieldType)) ∈ lw_all := lw_g (lw_at lw_m12 117 rfl) rfl
theorem q2882 : (Jvm.Cond.methodLink "BusLineModel" (164 : Nat) ({ cls := "BusLineModel", name := "flowNext", desc := "(II)I" } : Jvm.MethodName)) ∈ lw_all := lw_g (lw_at lw_m12 118 rfl) rfl
theorem q2883 : (Jvm.Cond.privateMethod ({ cls := "BusLineModel", name := "flowNext", desc := "(II)I" } : Jvm.MethodName)) ∈ lw_tbl := lw_at lw_m12 119 rfl
theorem q2884 : (Jvm.Cond.instanceMethod ({ cls := "BusLineModel", name := "flowNext", desc := "(II)I" } : Jvm.MethodName)) ∈ lw_all := lw_g (lw_at lw_m12 120 rfl) rfl
theorem q2885 : (Jvm.Cond.code ({ cls := "BusLineModel", name := "flowNext", desc := "(II)I" } : Jvm.MethodName) prog_13_method_15_code (5 : Nat) (Option.some Jvm.ClassFile.FieldType.int)) ∈ lw_all := lw_g (lw_at lw_m12 121 rfl) rfl
theorem q2886 : (Jvm.Cond.methodLink "BusLineModel" (167 : Nat) ({ cls := "BusLineModel", name := "joins", desc := "(IIII)Z" } : Jvm.MethodName)) ∈ lw_all := lw_g (lw_at lw_m12 122 rfl) rfl
theorem q2887 : (Jvm.Cond.privateMethod ({ cls := "BusLineModel", name := "joins", desc := "(IIII)Z" } : Jvm.MethodName)) ∈ lw_tbl := lw_at lw_m12 123 rfl
theorem q2888 : (Jvm.Cond.instanceMethod ({ cls := "BusLineModel", name := "joins", desc := "(IIII)Z" } : Jvm.MethodName)) ∈ lw_all := lw_g (lw_at lw_m12 124 rfl) rfl
theorem q2889 : (Jvm.Cond.code ({ cls := "BusLineModel", name := "joins", desc := "(IIII)Z" } : Jvm.MethodName) prog_13_method_14_code (6 : Nat) (Option.some Jvm.ClassFile.FieldType.boolean)) ∈ lw_all := lw_g (lw_at lw_m12 125 rfl) rfl
theorem q2890 : (Jvm.Cond.methodLink "BusLineModel" (161 : Nat) ({ cls := "BusLineModel", name := "giveUp", desc := "(II)V" } : Jvm.MethodName)) ∈ lw_all := lw_g (lw_at lw_m12 126 rfl) rfl
theorem q2891 : (Jvm.Cond.privateMethod ({ cls := "BusLineModel", name := "giveUp", desc := "(II)V" } : Jvm.MethodName)) ∈ lw_tbl := lw_at lw_m12 127 rfl
theorem q2892 : (Jvm.Cond.instanceMethod ({ cls := "BusLineModel", name := "giveUp", desc := "(II)V" } : Jvm.MethodName)) ∈ lw_all := lw_g (lw_at lw_m12 128 rfl) rfl
theorem q2893 : (Jvm.Cond.code ({ cls := "BusLineModel", name := "giveUp", desc := "(II)V" } : Jvm.MethodName) prog_13_method_13_code (4 : Nat) (Option.none : Option Jvm.ClassFile.FieldType)) ∈ lw_all := lw_g (lw_at lw_m12 129 rfl) rfl
theorem q2894 : (Jvm.Cond.methodLink "BusLineModel" (150 : Nat) ({ cls := "BusLineModel", name := "riderAt", desc := "(II)I" } : Jvm.MethodName)) ∈ lw_all := lw_g (lw_at lw_m12 130 rfl) rfl
theorem q2895 : (Jvm.Cond.static ({ cls := "BusLineModel", name := "riderAt", desc := "(II)I" } : Jvm.MethodName)) ∈ lw_all := lw_g (lw_at lw_m12 131 rfl) rfl
theorem q2896 : (Jvm.Cond.code ({ cls := "BusLineModel", name := "riderAt", desc := "(II)I" } : Jvm.MethodName) prog_13_method_11_code (2 : Nat) (Option.some Jvm.ClassFile.FieldType.int)) ∈ lw_all := lw_g (lw_at lw_m12 132 rfl) rfl
theorem q2897 : (Jvm.Cond.methodLink "BusLineModel" (154 : Nat) ({ cls := "BusLineModel", name := "counts", desc := "(II)V" } : Jvm.MethodName)) ∈ lw_all := lw_g (lw_at lw_m12 133 rfl) rfl
theorem q2898 : (Jvm.Cond.privateMethod ({ cls := "BusLineModel", name := "counts", desc := "(II)V" } : Jvm.MethodName)) ∈ lw_tbl := lw_at lw_m12 134 rfl
theorem q2899 : (Jvm.Cond.instanceMethod ({ cls := "BusLineModel", name := "counts", desc := "(II)V" } : Jvm.MethodName)) ∈ lw_all := lw_g (lw_at lw_m12 135 rfl) rfl
theorem q2900 : (Jvm.Cond.code ({ cls := "BusLineModel", name := "counts", desc := "(II)V" } : Jvm.MethodName) prog_13_method_6_code (3 : Nat) (Option.none : Option Jvm.ClassFile.FieldType)) ∈ lw_all := lw_g (lw_at lw_m12 136 rfl) rfl
theorem q2901 : (Jvm.Cond.methodLink "BusLineModel" (158 : Nat) ({ cls := "BusLineModel", name := "shifts", desc := "(II)V" } : Jvm.MethodName)) ∈ lw_all := lw_g (lw_at lw_m12 137 rfl) rfl
theorem q2902 : (Jvm.Cond.privateMethod ({ cls := "BusLineModel", name := "shifts", desc := "(II)V" } : Jvm.MethodName)) ∈ lw_tbl := lw_at lw_m12 138 rfl
theorem q2903 : (Jvm.Cond.instanceMethod ({ cls := "BusLineModel", name := "shifts", desc := "(II)V" } : Jvm.MethodName)) ∈ lw_all := lw_g (lw_at lw_m12 139 rfl) rfl
theorem q2904 : (Jvm.Cond.code ({ cls := "BusLineModel", name := "shifts", desc := "(II)V" } : Jvm.MethodName) prog_13_method_12_code (4 : Nat) (Option.none : Option Jvm.ClassFile.FieldType)) ∈ lw_all := lw_g (lw_at lw_m12 140 rfl) rfl
theorem q2906 : (Jvm.Cond.instanceMethod ({ cls := "BusLineModel", name := "pass", desc := "(I)I" } : Jvm.MethodName)) ∈ lw_all := lw_g (lw_at lw_m12 142 rfl) rfl
theorem q2907 : (Jvm.Cond.selects "BusLineModel" ({ cls := "BusLineModel", name := "pass", desc := "(I)I" } : Jvm.MethodName) ({ cls := "BusLineModel", name := "pass", desc := "(I)I" } : Jvm.MethodName)) ∈ lw_all := lw_g (lw_at lw_m12 143 rfl) rfl
theorem q2908 : (Jvm.Cond.code ({ cls := "BusLineModel", name := "pass", desc := "(I)I" } : Jvm.MethodName) prog_13_method_68_code (2 : Nat) (Option.some Jvm.ClassFile.FieldType.int)) ∈ lw_all := lw_g (lw_at lw_m12 144 rfl) rfl
theorem q2909 : (Jvm.Cond.methodLink "BusLineModel" (404 : Nat) ({ cls := "BusLineModel", name := "passesTo", desc := "(I)I" } : Jvm.MethodName)) ∈ lw_all := lw_g (lw_at lw_m12 145 rfl) rfl
theorem q2910 : (Jvm.Cond.privateMethod ({ cls := "BusLineModel", name := "passesTo", desc := "(I)I" } : Jvm.MethodName)) ∈ lw_tbl := lw_at lw_m12 146 rfl
theorem q2911 : (Jvm.Cond.instanceMethod ({ cls := "BusLineModel", name := "passesTo", desc := "(I)I" } : Jvm.MethodName)) ∈ lw_all := lw_g (lw_at lw_m12 147 rfl) rfl
theorem q2912 : (Jvm.Cond.code ({ cls := "BusLineModel", name := "passesTo", desc := "(I)I" } : Jvm.MethodName) prog_13_method_35_code (4 : Nat) (Option.some Jvm.ClassFile.FieldType.int)) ∈ lw_all := lw_g (lw_at lw_m12 148 rfl) rfl
theorem q2913 : (Jvm.Cond.methodLink "BusLineModel" (233 : Nat) ({ cls := "BusLineModel", name := "nextBus", desc := "()I" } : Jvm.MethodName)) ∈ lw_all := lw_g (lw_at lw_m12 149 rfl) rfl
theorem q2914 : (Jvm.Cond.privateMethod ({ cls := "BusLineModel", name := "nextBus", desc := "()I" } : Jvm.MethodName)) ∈ lw_tbl := lw_at lw_m12 150 rfl
theorem q2915 : (Jvm.Cond.instanceMethod ({ cls := "BusLineModel", name := "nextBus", desc := "()I" } : Jvm.MethodName)) ∈ lw_all := lw_g (lw_at lw_m12 151 rfl) rfl
theorem q2916 : (Jvm.Cond.code ({ cls := "BusLineModel", name := "nextBus", desc := "()I" } : Jvm.MethodName) prog_13_method_33_code (3 : Nat) (Option.some Jvm.ClassFile.FieldType.int)) ∈ lw_all := lw_g (lw_at lw_m12 152 rfl) rfl
theorem q2917 : (Jvm.Cond.methodLink "BusLineModel" (237 : Nat) ({ cls := "BusLineModel", name := "happens", desc := "(I)V" } : Jvm.MethodName)) ∈ lw_all := lw_g (lw_at lw_m12 153 rfl) rfl
theorem q2918 : (Jvm.Cond.privateMethod ({ cls := "BusLineModel", name := "happens", desc := "(I)V" } : Jvm.MethodName)) ∈ lw_tbl := lw_at lw_m12 154 rfl
theorem q2919 : (Jvm.Cond.instanceMethod ({ cls := "BusLineModel", name := "happens", desc := "(I)V" } : Jvm.MethodName)) ∈ lw_all := lw_g (lw_at lw_m12 155 rfl) rfl
theorem q2920 : (Jvm.Cond.code ({ cls := "BusLineModel", name := "happens", desc := "(I)V" } : Jvm.MethodName) prog_13_method_34_code (3 : Nat) (Option.none : Option Jvm.ClassFile.FieldType)) ∈ lw_all := lw_g (lw_at lw_m12 156 rfl) rfl
theorem q2921 : (Jvm.Cond.methodLink "BusLineModel" (227 : Nat) ({ cls := "BusLineModel", name := "isReady", desc := "(II)V" } : Jvm.MethodName)) ∈ lw_all := lw_g (lw_at lw_m12 157 rfl) rfl
theorem q2922 : (Jvm.Cond.privateMethod ({ cls := "BusLineModel", name := "isReady", desc := "(II)V" } : Jvm.MethodName)) ∈ lw_tbl := lw_at lw_m12 158 rfl
theorem q2923 : (Jvm.Cond.instanceMethod ({ cls := "BusLineModel", name := "isReady", desc := "(II)V" } : Jvm.MethodName)) ∈ lw_all := lw_g (lw_at lw_m12 159 rfl) rfl
theorem q2924 : (Jvm.Cond.code ({ cls := "BusLineModel", name := "isReady", desc := "(II)V" } : Jvm.MethodName) prog_13_method_29_code (5 : Nat) (Option.none : Option Jvm.ClassFile.FieldType)) ∈ lw_all := lw_g (lw_at lw_m12 160 rfl) rfl
theorem q2925 : (Jvm.Cond.methodLink "BusLineModel" (214 : Nat) ({ cls := "BusLineModel", name := "heldBy", desc := "(III)I" } : Jvm.MethodName)) ∈ lw_all := lw_g (lw_at lw_m12 161 rfl) rfl
theorem q2926 : (Jvm.Cond.privateMethod ({ cls := "BusLineModel", name := "heldBy", desc := "(III)I" } : Jvm.MethodName)) ∈ lw_tbl := lw_at lw_m12 162 rfl
theorem q2927 : (Jvm.Cond.instanceMethod ({ cls := "BusLineModel", name := "heldBy", desc := "(III)I" } : Jvm.MethodName)) ∈ lw_all := lw_g (lw_at lw_m12 163 rfl) rfl
theorem q2928 : (Jvm.Cond.code ({ cls := "BusLineModel", name := "heldBy", desc := "(III)I" } : Jvm.MethodName) prog_13_method_26_code (5 : Nat) (Option.some Jvm.ClassFile.FieldType.int)) ∈ lw_all := lw_g (lw_at lw_m12 164 rfl) rfl
theorem q2929 : (Jvm.Cond.methodLink "BusLineModel" (191 : Nat) ({ cls := "BusLineModel", name := "wanted", desc := "(III)I" } : Jvm.MethodName)) ∈ lw_all := lw_g (lw_at lw_m12 165 rfl) rfl
theorem q2930 : (Jvm.Cond.privateMethod ({ cls := "BusLineModel", name := "wanted", desc := "(III)I" } : Jvm.MethodName)) ∈ lw_tbl := lw_at lw_m12 166 rfl
theorem q2931 : (Jvm.Cond.instanceMethod ({ cls := "BusLineModel", name := "wanted", desc := "(III)I" } : Jvm.MethodName)) ∈ lw_all := lw_g (lw_at lw_m12 167 rfl) rfl
theorem q2932 : (Jvm.Cond.code ({ cls := "BusLineModel", name := "wanted", desc := "(III)I" } : Jvm.MethodName) prog_13_method_25_code (8 : Nat) (Option.some Jvm.ClassFile.FieldType.int)) ∈ lw_all := lw_g (lw_at lw_m12 168 rfl) rfl
theorem q2933 : (Jvm.Cond.methodLink "BusLineModel" (188 : Nat) ({ cls := "BusLineModel", name := "untilNext", desc := "(II)I" } : Jvm.MethodName)) ∈ lw_all := lw_g (lw_at lw_m12 169 rfl) rfl
theorem q2934 : (Jvm.Cond.privateMethod ({ cls := "BusLineModel", name := "untilNext", desc := "(II)I" } : Jvm.MethodName)) ∈ lw_tbl := lw_at lw_m12 170 rfl
theorem q2935 : (Jvm.Cond.instanceMethod ({ cls := "BusLineModel", name := "untilNext", desc := "(II)I" } : Jvm.MethodName)) ∈ lw_all := lw_g (lw_at lw_m12 171 rfl) rfl
theorem q2936 : (Jvm.Cond.code ({ cls := "BusLineModel", name := "untilNext", desc := "(II)I" } : Jvm.MethodName) prog_13_method_24_code (8 : Nat) (Option.some Jvm.ClassFile.FieldType.int)) ∈ lw_all := lw_g (lw_at lw_m12 172 rfl) rfl
theorem q2937 : (Jvm.Cond.methodLink "BusLineModel" (177 : Nat) ({ cls := "BusLineModel", name := "behind", desc := "(I)I" } : Jvm.MethodName)) ∈ lw_all := lw_g (lw_at lw_m12 173 rfl) rfl
theorem q2938 : (Jvm.Cond.privateMethod ({ cls := "BusLineModel", name := "behind", desc := "(I)I" } : Jvm.MethodName)) ∈ lw_tbl := lw_at lw_m12 174 rfl
theorem q2939 : (Jvm.Cond.instanceMethod ({ cls := "BusLineModel", name := "behind", desc := "(I)I" } : Jvm.MethodName)) ∈ lw_all := lw_g (lw_at lw_m12 175 rfl) rfl
theorem q2940 : (Jvm.Cond.code ({ cls := "BusLineModel", name := "behind", desc := "(I)I" } : Jvm.MethodName) prog_13_method_21_code (2 : Nat) (Option.some Jvm.ClassFile.FieldType.int)) ∈ lw_all := lw_g (lw_at lw_m12 176 rfl) rfl
theorem q2941 : (Jvm.Cond.methodLink "BusLineModel" (185 : Nat) ({ cls := "BusLineModel", name := "way", desc := "(II)I" } : Jvm.MethodName)) ∈ lw_all := lw_g (lw_at lw_m12 177 rfl) rfl
theorem q2942 : (Jvm.Cond.privateMethod ({ cls := "BusLineModel", name := "way", desc := "(II)I" } : Jvm.MethodName)) ∈ lw_tbl := lw_at lw_m12 178 rfl
theorem q2943 : (Jvm.Cond.instanceMethod ({ cls := "BusLineModel", name := "way", desc := "(II)I" } : Jvm.MethodName)) ∈ lw_all := lw_g (lw_at lw_m12 179 rfl) rfl
theorem q2944 : (Jvm.Cond.code ({ cls := "BusLineModel", name := "way", desc := "(II)I" } : Jvm.MethodName) prog_13_method_22_code (5 : Nat) (Option.some Jvm.ClassFile.FieldType.int)) ∈ lw_all := lw_g (lw_at lw_m12 180 rfl) rfl
theorem q2945 : (Jvm.Cond.methodLink "BusLineModel" (217 : Nat) ({ cls := "BusLineModel", name := "leaves", desc := "(II)V" } : Jvm.MethodName)) ∈ lw_all := lw_g (lw_at lw_m12 181 rfl) rfl
theorem q2946 : (Jvm.Cond.privateMethod ({ cls := "BusLineModel", name := "leaves", desc := "(II)V" } : Jvm.MethodName)) ∈ lw_tbl := lw_at lw_m12 182 rfl
theorem q2947 : (Jvm.Cond.instanceMethod ({ cls := "BusLineModel", name := "leaves", desc := "(II)V" } : Jvm.MethodName)) ∈ lw_all := lw_g (lw_at lw_m12 183 rfl) rfl
theorem q2948 : (Jvm.Cond.code ({ cls := "BusLineModel", name := "leaves", desc := "(II)V" } : Jvm.MethodName) prog_13_method_32_code (6 : Nat) (Option.none : Option Jvm.ClassFile.FieldType)) ∈ lw_all := lw_g (lw_at lw_m12 184 rfl) rfl
theorem q2949 : (Jvm.Cond.methodLink "BusLineModel" (204 : Nat) ({ cls := "BusLineModel", name := "boards", desc := "(III)I" } : Jvm.MethodName)) ∈ lw_all := lw_g (lw_at lw_m12 185 rfl) rfl
theorem q2950 : (Jvm.Cond.privateMethod ({ cls := "BusLineModel", name := "boards", desc := "(III)I" } : Jvm.MethodName)) ∈ lw_tbl := lw_at lw_m12 186 rfl
theorem q2951 : (Jvm.Cond.instanceMethod ({ cls := "BusLineModel", name := "boards", desc := "(III)I" } : Jvm.MethodName)) ∈ lw_all := lw_g (lw_at lw_m12 187 rfl) rfl
theorem q2952 : (Jvm.Cond.code ({ cls := "BusLineModel", name := "boards", desc := "(III)I" } : Jvm.MethodName) prog_13_method_18_code (7 : Nat) (Option.some Jvm.ClassFile.FieldType.int)) ∈ lw_all := lw_g (lw_at lw_m12 188 rfl) rfl
theorem q2953 : (Jvm.Cond.methodLink "BusLineModel" (210 : Nat) ({ cls := "BusLineModel", name := "tells", desc := "(IIIII)V" } : Jvm.MethodName)) ∈ lw_all := lw_g (lw_at lw_m12 189 rfl) rfl
theorem q2954 : (Jvm.Cond.privateMethod ({ cls := "BusLineModel", name := "tells", desc := "(IIIII)V" } : Jvm.MethodName)) ∈ lw_tbl := lw_at lw_m12 190 rfl
theorem q2955 : (Jvm.Cond.instanceMethod ({ cls := "BusLineModel", name := "tells", desc := "(IIIII)V" } : Jvm.MethodName)) ∈ lw_all := lw_g (lw_at lw_m12 191 rfl) rfl
theorem q2956 : (Jvm.Cond.code ({ cls := "BusLineModel", name := "tells", desc := "(IIIII)V" } : Jvm.MethodName) prog_13_method_10_code (7 : Nat) (Option.none : Option Jvm.ClassFile.FieldType)) ∈ lw_all := lw_g (lw_at lw_m12 192 rfl) rfl
theorem q2957 : (Jvm.Cond.methodLink "BusLineModel" (223 : Nat) ({ cls := "BusLineModel", name := "notes", desc := "(IIII)V" } : Jvm.MethodName)) ∈ lw_all := lw_g (lw_at lw_m12 193 rfl) rfl
theorem q2958 : (Jvm.Cond.privateMethod ({ cls := "BusLineModel", name := "notes", desc := "(IIII)V" } : Jvm.MethodName)) ∈ lw_tbl := lw_at lw_m12 194 rfl
theorem q2959 : (Jvm.Cond.instanceMethod ({ cls := "BusLineModel", name := "notes", desc := "(IIII)V" } : Jvm.MethodName)) ∈ lw_all := lw_g (lw_at lw_m12 195 rfl) rfl
theorem q2960 : (Jvm.Cond.code ({ cls := "BusLineModel", name := "notes", desc := "(IIII)V" } : Jvm.MethodName) prog_13_method_31_code (6 : Nat) (Option.none : Option Jvm.ClassFile.FieldType)) ∈ lw_all := lw_g (lw_at lw_m12 196 rfl) rfl
theorem q2961 : (Jvm.Cond.methodLink "BusLineModel" (220 : Nat) ({ cls := "BusLineModel", name := "leavingAt", desc := "(II)I" } : Jvm.MethodName)) ∈ lw_all := lw_g (lw_at lw_m12 197 rfl) rfl
theorem q2962 : (Jvm.Cond.static ({ cls := "BusLineModel", name := "leavingAt", desc := "(II)I" } : Jvm.MethodName)) ∈ lw_all := lw_g (lw_at lw_m12 198 rfl) rfl
theorem q2963 : (Jvm.Cond.code ({ cls := "BusLineModel", name := "leavingAt", desc := "(II)I" } : Jvm.MethodName) prog_13_method_30_code (2 : Nat) (Option.some Jvm.ClassFile.FieldType.int)) ∈ lw_all := lw_g (lw_at lw_m12 199 rfl) rfl
theorem q2964 : (Jvm.Cond.methodLink "BusLineModel" (198 : Nat) ({ cls := "BusLineModel", name := "goesOn", desc := "(II)V" } : Jvm.MethodName)) ∈ lw_all := lw_g (lw_at lw_m12 200 rfl) rfl
theorem q2965 : (Jvm.Cond.privateMethod ({ cls := "BusLineModel", name := "goesOn", desc := "(II)V" } : Jvm.MethodName)) ∈ lw_tbl := lw_at lw_m12 201 rfl
theorem q2966 : (Jvm.Cond.instanceMethod ({ cls := "BusLineModel", name := "goesOn", desc := "(II)V" } : Jvm.MethodName)) ∈ lw_all := lw_g (lw_at lw_m12 202 rfl) rfl
theorem q2967 : (Jvm.Cond.code ({ cls := "BusLineModel", name := "goesOn", desc := "(II)V" } : Jvm.MethodName) prog_13_method_28_code (4 : Nat) (Option.none : Option Jvm.ClassFile.FieldType)) ∈ lw_all := lw_g (lw_at lw_m12 203 rfl) rfl
theorem q2968 : (Jvm.Cond.methodLink "BusLineModel" (230 : Nat) ({ cls := "BusLineModel", name := "comesTo", desc := "(II)V" } : Jvm.MethodName)) ∈ lw_all := lw_g (lw_at lw_m12 204 rfl) rfl
theorem q2969 : (Jvm.Cond.privateMethod ({ cls := "BusLineModel", name := "comesTo", desc := "(II)V" } : Jvm.MethodName)) ∈ lw_tbl := lw_at lw_m12 205 rfl
theorem q2970 : (Jvm.Cond.instanceMethod ({ cls := "BusLineModel", name := "comesTo", desc := "(II)V" } : Jvm.MethodName)) ∈ lw_all := lw_g (lw_at lw_m12 206 rfl) rfl
theorem q2971 : (Jvm.Cond.code ({ cls := "BusLineModel", name := "comesTo", desc := "(II)V" } : Jvm.MethodName) prog_13_method_27_code (6 : Nat) (Option.none : Option Jvm.ClassFile.FieldType)) ∈ lw_all := lw_g (lw_at lw_m12 207 rfl) rfl
theorem q2972 : (Jvm.Cond.methodLink "BusLineModel" (201 : Nat) ({ cls := "BusLineModel", name := "alights", desc := "(III)I" } : Jvm.MethodName)) ∈ lw_all := lw_g (lw_at lw_m12 208 rfl) rfl
theorem q2973 : (Jvm.Cond.privateMethod ({ cls := "BusLineModel", name := "alights", desc := "(III)I" } : Jvm.MethodName)) ∈ lw_tbl := lw_at lw_m12 209 rfl
theorem q2974 : (Jvm.Cond.instanceMethod ({ cls := "BusLineModel", name := "alights", desc := "(III)I" } : Jvm.MethodName)) ∈ lw_all := lw_g (lw_at lw_m12 210 rfl) rfl
theorem q2975 : (Jvm.Cond.code ({ cls := "BusLineModel", name := "alights", desc := "(III)I" } : Jvm.MethodName) prog_13_method_19_code (9 : Nat) (Option.some Jvm.ClassFile.FieldType.int)) ∈ lw_all := lw_g (lw_at lw_m12 211 rfl) rfl
theorem q2977 : (Jvm.Cond.instanceMethod ({ cls := "BusLineModel", name := "keep", desc := "(I)I" } : Jvm.MethodName)) ∈ lw_all := lw_g (lw_at lw_m12 213 rfl) rfl
theorem q2978 : (Jvm.Cond.selects "BusLineModel" ({ cls := "BusLineModel", name := "keep", desc := "(I)I" } : Jvm.MethodName) ({ cls := "BusLineModel", name := "keep", desc := "(I)I" } : Jvm.MethodName)) ∈ lw_all := lw_g (lw_at lw_m12 214 rfl) rfl
theorem q2979 : (Jvm.Cond.code ({ cls := "BusLineModel", name := "keep", desc := "(I)I" } : Jvm.MethodName) prog_13_method_69_code (3 : Nat) (Option.some Jvm.ClassFile.FieldType.int)) ∈ lw_all := lw_g (lw_at lw_m12 215 rfl) rfl
theorem q2981 : (Jvm.Cond.instanceMethod ({ cls := "BusLineModel", name := "restore", desc := "(I)I" } : Jvm.MethodName)) ∈ lw_all := lw_g (lw_at lw_m12 217 rfl) rfl
theorem q2982 : (Jvm.Cond.selects "BusLineModel" ({ cls := "BusLineModel", name := "restore", desc := "(I)I" } : Jvm.MethodName) ({ cls := "BusLineModel", name := "restore", desc := "(I)I" } : Jvm.MethodName)) ∈ lw_all := lw_g (lw_at lw_m12 218 rfl) rfl
theorem q2983 : (Jvm.Cond.code ({ cls := "BusLineModel", name := "restore", desc := "(I)I" } : Jvm.MethodName) prog_13_method_70_code (3 : Nat) (Option.some Jvm.ClassFile.FieldType.int)) ∈ lw_all := lw_g (lw_at lw_m12 219 rfl) rfl
theorem q2985 : (Jvm.Cond.instanceMethod ({ cls := "BusLineModel", name := "value", desc := "(I)I" } : Jvm.MethodName)) ∈ lw_all := lw_g (lw_at lw_m12 221 rfl) rfl
theorem q2986 : (Jvm.Cond.selects "BusLineModel" ({ cls := "BusLineModel", name := "value", desc := "(I)I" } : Jvm.MethodName) ({ cls := "BusLineModel", name := "value", desc := "(I)I" } : Jvm.MethodName)) ∈ lw_all := lw_g (lw_at lw_m12 222 rfl) rfl
theorem q2987 : (Jvm.Cond.code ({ cls := "BusLineModel", name := "value", desc := "(I)I" } : Jvm.MethodName) prog_13_method_75_code (2 : Nat) (Option.some Jvm.ClassFile.FieldType.int)) ∈ lw_all := lw_g (lw_at lw_m12 223 rfl) rfl
theorem q2988 : (Jvm.Cond.methodLink "BusLineModel" (407 : Nat) ({ cls := "BusLineModel", name := "waitingAll", desc := "()I" } : Jvm.MethodName)) ∈ lw_all := lw_g (lw_at lw_m12 224 rfl) rfl
theorem q2989 : (Jvm.Cond.privateMethod ({ cls := "BusLineModel", name := "waitingAll", desc := "()I" } : Jvm.MethodName)) ∈ lw_tbl := lw_at lw_m12 225 rfl
theorem q2990 : (Jvm.Cond.instanceMethod ({ cls := "BusLineModel", name := "waitingAll", desc := "()I" } : Jvm.MethodName)) ∈ lw_all := lw_g (lw_at lw_m12 226 rfl) rfl
theorem q2991 : (Jvm.Cond.code ({ cls := "BusLineModel", name := "waitingAll", desc := "()I" } : Jvm.MethodName) prog_13_method_73_code (3 : Nat) (Option.some Jvm.ClassFile.FieldType.int)) ∈ lw_all := lw_g (lw_at lw_m12 227 rfl) rfl
theorem q2992 : (Jvm.Cond.methodLink "BusLineModel" (410 : Nat) ({ cls := "BusLineModel", name := "aboardAll", desc := "()I" } : Jvm.MethodName)) ∈ lw_all := lw_g (lw_at lw_m12 228 rfl) rfl
theorem q2993 : (Jvm.Cond.privateMethod ({ cls := "BusLineModel", name := "aboardAll", desc := "()I" } : Jvm.MethodName)) ∈ lw_tbl := lw_at lw_m12 229 rfl
theorem q2994 : (Jvm.Cond.instanceMethod ({ cls := "BusLineModel", name := "aboardAll", desc := "()I" } : Jvm.MethodName)) ∈ lw_all := lw_g (lw_at lw_m12 230 rfl) rfl
theorem q2995 : (Jvm.Cond.code ({ cls := "BusLineModel", name := "aboardAll", desc := "()I" } : Jvm.MethodName) prog_13_method_74_code (3 : Nat) (Option.some Jvm.ClassFile.FieldType.int)) ∈ lw_all := lw_g (lw_at lw_m12 231 rfl) rfl
theorem q2997 : (Jvm.Cond.instanceMethod ({ cls := "BusLineModel", name := "stop", desc := "(II)I" } : Jvm.MethodName)) ∈ lw_all := lw_g (lw_at lw_m12 233 rfl) rfl
theorem q2998 : (Jvm.Cond.selects "BusLineModel" ({ cls := "BusLineModel", name := "stop", desc := "(II)I" } : Jvm.MethodName) ({ cls := "BusLineModel", name := "stop", desc := "(II)I" } : Jvm.MethodName)) ∈ lw_all := lw_g (lw_at lw_m12 234 rfl) rfl
theorem q2999 : (Jvm.Cond.code ({ cls := "BusLineModel", name := "stop", desc := "(II)I" } : Jvm.MethodName) prog_13_method_77_code (3 : Nat) (Option.some Jvm.ClassFile.FieldType.int)) ∈ lw_all := lw_g (lw_at lw_m12 235 rfl) rfl
theorem q3000 : (Jvm.Cond.methodLink "BusLineModel" (413 : Nat) ({ cls := "BusLineModel", name := "atStop", desc := "(I)I" } : Jvm.MethodName)) ∈ lw_all := lw_g (lw_at lw_m12 236 rfl) rfl
theorem q3001 : (Jvm.Cond.privateMethod ({ cls := "BusLineModel", name := "atStop", desc := "(I)I" } : Jvm.MethodName)) ∈ lw_tbl := lw_at lw_m12 237 rfl
theorem q3002 : (Jvm.Cond.instanceMethod ({ cls := "BusLineModel", name := "atStop", desc := "(I)I" } : Jvm.MethodName)) ∈ lw_all := lw_g (lw_at lw_m12 238 rfl) rfl
theorem q3003 : (Jvm.Cond.code ({ cls := "BusLineModel", name := "atStop", desc := "(I)I" } : Jvm.MethodName) prog_13_method_76_code (4 : Nat) (Option.some Jvm.ClassFile.FieldType.int)) ∈ lw_all := lw_g (lw_at lw_m12 239 rfl) rfl
theorem q3005 : (Jvm.Cond.instanceMethod ({ cls := "BusLineModel", name := "bus", desc := "(II)I" } : Jvm.MethodName)) ∈ lw_all := lw_g (lw_at lw_m13 1 rfl) rfl
theorem q3006 : (Jvm.Cond.selects "BusLineModel" ({ cls := "BusLineModel", name := "bus", desc := "(II)I" } : Jvm.MethodName) ({ cls := "BusLineModel", name := "bus", desc := "(II)I" } : Jvm.MethodName)) ∈ lw_all := lw_g (lw_at lw_m13 2 rfl) rfl
theorem q3007 : (Jvm.Cond.code ({ cls := "BusLineModel", name := "bus", desc := "(II)I" } : Jvm.MethodName) prog_13_method_78_code (3 : Nat) (Option.some Jvm.ClassFile.FieldType.int)) ∈ lw_all := lw_g (lw_at lw_m13 3 rfl) rfl
theorem q3009 : (Jvm.Cond.instanceMethod ({ cls := "BusLineModel", name := "why", desc := "(I)I" } : Jvm.MethodName)) ∈ lw_all := lw_g (lw_at lw_m13 5 rfl) rfl
theorem q3010 : (Jvm.Cond.selects "BusLineModel" ({ cls := "BusLineModel", name := "why", desc := "(I)I" } : Jvm.MethodName) ({ cls := "BusLineModel", name := "why", desc := "(I)I" } : Jvm.MethodName)) ∈ lw_all := lw_g (lw_at lw_m13 6 rfl) rfl
theorem q3011 : (Jvm.Cond.code ({ cls := "BusLineModel", name := "why", desc := "(I)I" } : Jvm.MethodName) prog_13_method_79_code (2 : Nat) (Option.some Jvm.ClassFile.FieldType.int)) ∈ lw_all := lw_g (lw_at lw_m13 7 rfl) rfl
theorem q3013 : (Jvm.Cond.instanceMethod ({ cls := "BusLineModel", name := "flow", desc := "(II)I" } : Jvm.MethodName)) ∈ lw_all := lw_g (lw_at lw_m13 9 rfl) rfl
theorem q3014 : (Jvm.Cond.selects "BusLineModel" ({ cls := "BusLineModel", name := "flow", desc := "(II)I" } : Jvm.MethodName) ({ cls := "BusLineModel", name := "flow", desc := "(II)I" } : Jvm.MethodName)) ∈ lw_all := lw_g (lw_at lw_m13 10 rfl) rfl
theorem q3015 : (Jvm.Cond.code ({ cls := "BusLineModel", name := "flow", desc := "(II)I" } : Jvm.MethodName) prog_13_method_83_code (4 : Nat) (Option.some Jvm.ClassFile.FieldType.int)) ∈ lw_all := lw_g (lw_at lw_m13 11 rfl) rfl
theorem q3016 : (Jvm.Cond.constantLong "BusLineModel" (416 : Nat) (10 : Int64)) ∈ lw_all := lw_g (lw_at lw_m13 12 rfl) rfl
theorem q3017 : (Jvm.Cond.methodLink "BusLineModel" (418 : Nat) ({ cls := "BusLineModel", name := "toldOf", desc := "(II)I" } : Jvm.MethodName)) ∈ lw_all := lw_g (lw_at lw_m13 13 rfl) rfl
theorem q3018 : (Jvm.Cond.privateMethod ({ cls := "BusLineModel", name := "toldOf", desc := "(II)I" } : Jvm.MethodName)) ∈ lw_tbl := lw_at lw_m13 14 rfl
theorem q3019 : (Jvm.Cond.instanceMethod ({ cls := "BusLineModel", name := "toldOf", desc := "(II)I" } : Jvm.MethodName)) ∈ lw_all := lw_g (lw_at lw_m13 15 rfl) rfl
theorem q3020 : (Jvm.Cond.code ({ cls := "BusLineModel", name := "toldOf", desc := "(II)I" } : Jvm.MethodName) prog_13_method_82_code (3 : Nat) (Option.some Jvm.ClassFile.FieldType.int)) ∈ lw_all := lw_g (lw_at lw_m13 16 rfl) rfl
theorem q3021 : (Jvm.Cond.methodLink "BusLineModel" (421 : Nat) ({ cls := "BusLineModel", name := "account", desc := "(II)I" } : Jvm.MethodName)) ∈ lw_all := lw_g (lw_at lw_m13 17 rfl) rfl
theorem q3022 : (Jvm.Cond.privateMethod ({ cls := "BusLineModel", name := "account", desc := "(II)I" } : Jvm.MethodName)) ∈ lw_tbl := lw_at lw_m13 18 rfl
theorem q3023 : (Jvm.Cond.instanceMethod ({ cls := "BusLineModel", name := "account", desc := "(II)I" } : Jvm.MethodName)) ∈ lw_all := lw_g (lw_at lw_m13 19 rfl) rfl
theorem q3024 : (Jvm.Cond.code ({ cls := "BusLineModel", name := "account", desc := "(II)I" } : Jvm.MethodName) prog_13_method_7_code (3 : Nat) (Option.some Jvm.ClassFile.FieldType.int)) ∈ lw_all := lw_g (lw_at lw_m13 20 rfl) rfl
theorem q3025 : (Jvm.Cond.methodLink "BusLineModel" (424 : Nat) ({ cls := "BusLineModel", name := "waitingOf", desc := "(I)I" } : Jvm.MethodName)) ∈ lw_all := lw_g (lw_at lw_m13 21 rfl) rfl
theorem q3026 : (Jvm.Cond.privateMethod ({ cls := "BusLineModel", name := "waitingOf", desc := "(I)I" } : Jvm.MethodName)) ∈ lw_tbl := lw_at lw_m13 22 rfl
theorem q3027 : (Jvm.Cond.instanceMethod ({ cls := "BusLineModel", name := "waitingOf", desc := "(I)I" } : Jvm.MethodName)) ∈ lw_all := lw_g (lw_at lw_m13 23 rfl) rfl
theorem q3028 : (Jvm.Cond.code ({ cls := "BusLineModel", name := "waitingOf", desc := "(I)I" } : Jvm.MethodName) prog_13_method_80_code (5 : Nat) (Option.some Jvm.ClassFile.FieldType.int)) ∈ lw_all := lw_g (lw_at lw_m13 24 rfl) rfl
theorem q3029 : (Jvm.Cond.methodLink "BusLineModel" (427 : Nat) ({ cls := "BusLineModel", name := "aboardOf", desc := "(I)I" } : Jvm.MethodName)) ∈ lw_all := lw_g (lw_at lw_m13 25 rfl) rfl
theorem q3030 : (Jvm.Cond.privateMethod ({ cls := "BusLineModel", name := "aboardOf", desc := "(I)I" } : Jvm.MethodName)) ∈ lw_tbl := lw_at lw_m13 26 rfl
theorem q3031 : (Jvm.Cond.instanceMethod ({ cls := "BusLineModel", name := "aboardOf", desc := "(I)I" } : Jvm.MethodName)) ∈ lw_all := lw_g (lw_at lw_m13 27 rfl) rfl
theorem q3032 : (Jvm.Cond.code ({ cls := "BusLineModel", name := "aboardOf", desc := "(I)I" } : Jvm.MethodName) prog_13_method_81_code (5 : Nat) (Option.some Jvm.ClassFile.FieldType.int)) ∈ lw_all := lw_g (lw_at lw_m13 28 rfl) rfl
theorem q3034 : (Jvm.Cond.instanceMethod ({ cls := "BusLineModel", name := "rider", desc := "(III)I" } : Jvm.MethodName)) ∈ lw_all := lw_g (lw_at lw_m13 30 rfl) rfl
theorem q3035 : (Jvm.Cond.selects "BusLineModel" ({ cls := "BusLineModel", name := "rider", desc := "(III)I" } : Jvm.MethodName) ({ cls := "BusLineModel", name := "rider", desc := "(III)I" } : Jvm.MethodName)) ∈ lw_all := lw_g (lw_at lw_m13 31 rfl) rfl
theorem q3036 : (Jvm.Cond.code ({ cls := "BusLineModel", name := "rider", desc := "(III)I" } : Jvm.MethodName) prog_13_method_84_code (5 : Nat) (Option.some Jvm.ClassFile.FieldType.int)) ∈ lw_all := lw_g (lw_at lw_m13 32 rfl) rfl
theorem q3037 : (Jvm.Cond.constantLong "BusLineModel" (430 : Nat) (2 : Int64)) ∈ lw_all := lw_g (lw_at lw_m13 33 rfl) rfl
theorem q3039 : (Jvm.Cond.instanceMethod ({ cls := "BusLineModel", name := "aboard", desc := "(II)I" } : Jvm.MethodName)) ∈ lw_all := lw_g (lw_at lw_m13 35 rfl) rfl
theorem q3040 : (Jvm.Cond.selects "BusLineModel" ({ cls := "BusLineModel", name := "aboard", desc := "(II)I" } : Jvm.MethodName) ({ cls := "BusLineModel", name := "aboard", desc := "(II)I" } : Jvm.MethodName)) ∈ lw_all := lw_g (lw_at lw_m13 36 rfl) rfl
theorem q3041 : (Jvm.Cond.code ({ cls := "BusLineModel", name := "aboard", desc := "(II)I" } : Jvm.MethodName) prog_13_method_85_code (3 : Nat) (Option.some Jvm.ClassFile.FieldType.int)) ∈ lw_all := lw_g (lw_at lw_m13 37 rfl) rfl
theorem q3043 : (Jvm.Cond.instanceMethod ({ cls := "BusLineModel", name := "left", desc := "(III)I" } : Jvm.MethodName)) ∈ lw_all := lw_g (lw_at lw_m13 39 rfl) rfl
theorem q3044 : (Jvm.Cond.selects "BusLineModel" ({ cls := "BusLineModel", name := "left", desc := "(III)I" } : Jvm.MethodName) ({ cls := "BusLineModel", name := "left", desc := "(III)I" } : Jvm.MethodName)) ∈ lw_all := lw_g (lw_at lw_m13 40 rfl) rfl
theorem q3045 : (Jvm.Cond.code ({ cls := "BusLineModel", name := "left", desc := "(III)I" } : Jvm.MethodName) prog_13_method_86_code (5 : Nat) (Option.some Jvm.ClassFile.FieldType.int)) ∈ lw_all := lw_g (lw_at lw_m13 41 rfl) rfl
theorem q3047 : (Jvm.Cond.instanceMethod ({ cls := "BusLineModel", name := "log", desc := "(II)I" } : Jvm.MethodName)) ∈ lw_all := lw_g (lw_at lw_m13 43 rfl) rfl
theorem q3048 : (Jvm.Cond.selects "BusLineModel" ({ cls := "BusLineModel", name := "log", desc := "(II)I" } : Jvm.MethodName) ({ cls := "BusLineModel", name := "log", desc := "(II)I" } : Jvm.MethodName)) ∈ lw_all := lw_g (lw_at lw_m13 44 rfl) rfl
theorem q3049 : (Jvm.Cond.code ({ cls := "BusLineModel", name := "log", desc := "(II)I" } : Jvm.MethodName) prog_13_method_87_code (3 : Nat) (Option.some Jvm.ClassFile.FieldType.int)) ∈ lw_all := lw_g (lw_at lw_m13 45 rfl) rfl
theorem q3050 : (Jvm.Cond.constantLong "BusLineModel" (432 : Nat) (4 : Int64)) ∈ lw_all := lw_g (lw_at lw_m13 46 rfl) rfl
theorem q3052 : (Jvm.Cond.instanceMethod ({ cls := "BusLineModel", name := "named", desc := "(I)I" } : Jvm.MethodName)) ∈ lw_all := lw_g (lw_at lw_m13 48 rfl) rfl
theorem q3053 : (Jvm.Cond.selects "BusLineModel" ({ cls := "BusLineModel", name := "named", desc := "(I)I" } : Jvm.MethodName) ({ cls := "BusLineModel", name := "named", desc := "(I)I" } : Jvm.MethodName)) ∈ lw_all := lw_g (lw_at lw_m13 49 rfl) rfl
theorem q3054 : (Jvm.Cond.code ({ cls := "BusLineModel", name := "named", desc := "(I)I" } : Jvm.MethodName) prog_13_method_89_code (3 : Nat) (Option.some Jvm.ClassFile.FieldType.int)) ∈ lw_all := lw_g (lw_at lw_m13 50 rfl) rfl
theorem q3055 : (Jvm.Cond.methodLink "BusLineModel" (434 : Nat) ({ cls := "BusLineModel", name := "isName", desc := "(I)Z" } : Jvm.MethodName)) ∈ lw_all := lw_g (lw_at lw_m13 51 rfl) rfl
theorem q3056 : (Jvm.Cond.static ({ cls := "BusLineModel", name := "isName", desc := "(I)Z" } : Jvm.MethodName)) ∈ lw_all := lw_g (lw_at lw_m13 52 rfl) rfl
theorem q3057 : (Jvm.Cond.code ({ cls := "BusLineModel", name := "isName", desc := "(I)Z" } : Jvm.MethodName) prog_13_method_88_code (5 : Nat) (Option.some Jvm.ClassFile.FieldType.boolean)) ∈ lw_all := lw_g (lw_at lw_m13 53 rfl) rfl
theorem q3059 : (Jvm.Cond.instanceMethod ({ cls := "BusLineModel", name := "ahead", desc := "(IZ)I" } : Jvm.MethodName)) ∈ lw_all := lw_g (lw_at lw_m13 55 rfl) rfl
theorem q3060 : (Jvm.Cond.selects "BusLineModel" ({ cls := "BusLineModel", name := "ahead", desc := "(IZ)I" } : Jvm.MethodName) ({ cls := "BusLineModel", name := "ahead", desc := "(IZ)I" } : Jvm.MethodName)) ∈ lw_all := lw_g (lw_at lw_m13 56 rfl) rfl
theorem q3061 : (Jvm.Cond.code ({ cls := "BusLineModel", name := "ahead", desc := "(IZ)I" } : Jvm.MethodName) prog_13_method_90_code (7 : Nat) (Option.some Jvm.ClassFile.FieldType.int)) ∈ lw_all := lw_g (lw_at lw_m13 57 rfl) rfl
theorem q3063 : (Jvm.Cond.instanceMethod ({ cls := "BusLineModel", name := "spread", desc := "(I)I" } : Jvm.MethodName)) ∈ lw_all := lw_g (lw_at lw_m13 59 rfl) rfl
theorem q3064 : (Jvm.Cond.selects "BusLineModel" ({ cls := "BusLineModel", name := "spread", desc := "(I)I" } : Jvm.MethodName) ({ cls := "BusLineModel", name := "spread", desc := "(I)I" } : Jvm.MethodName)) ∈ lw_all := lw_g (lw_at lw_m13 60 rfl) rfl
theorem q3065 : (Jvm.Cond.code ({ cls := "BusLineModel", name := "spread", desc := "(I)I" } : Jvm.MethodName) prog_13_method_91_code (6 : Nat) (Option.some Jvm.ClassFile.FieldType.int)) ∈ lw_all := lw_g (lw_at lw_m13 61 rfl) rfl
theorem q3067 : (Jvm.Cond.instanceMethod ({ cls := "BusLineModel", name := "late", desc := "(I)I" } : Jvm.MethodName)) ∈ lw_all := lw_g (lw_at lw_m13 63 rfl) rfl
theorem q3068 : (Jvm.Cond.selects "BusLineModel" ({ cls := "BusLineModel", name := "late", desc := "(I)I" } : Jvm.MethodName) ({ cls := "BusLineModel", name := "late", desc := "(I)I" } : Jvm.MethodName)) ∈ lw_all := lw_g (lw_at lw_m13 64 rfl) rfl
theorem q3069 : (Jvm.Cond.code ({ cls := "BusLineModel", name := "late", desc := "(I)I" } : Jvm.MethodName) prog_13_method_92_code (2 : Nat) (Option.some Jvm.ClassFile.FieldType.int)) ∈ lw_all := lw_g (lw_at lw_m13 65 rfl) rfl
theorem q3070 : (Jvm.Cond.constant "BusLineModel" (437 : Nat) (100000 : Int32)) ∈ lw_all := lw_g (lw_at lw_m13 66 rfl) rfl
theorem q3072 : (Jvm.Cond.instanceMethod ({ cls := "BusLineModel", name := "wouldHold", desc := "(II)I" } : Jvm.MethodName)) ∈ lw_all := lw_g (lw_at lw_m13 68 rfl) rfl
theorem q3073 : (Jvm.Cond.selects "BusLineModel" ({ cls := "BusLineModel", name := "wouldHold", desc := "(II)I" } : Jvm.MethodName) ({ cls := "BusLineModel", name := "wouldHold", desc := "(II)I" } : Jvm.MethodName)) ∈ lw_all := lw_g (lw_at lw_m13 69 rfl) rfl
theorem q3074 : (Jvm.Cond.code ({ cls := "BusLineModel", name := "wouldHold", desc := "(II)I" } : Jvm.MethodName) prog_13_method_93_code (3 : Nat) (Option.some Jvm.ClassFile.FieldType.int)) ∈ lw_all := lw_g (lw_at lw_m13 70 rfl) rfl
theorem q3076 : (Jvm.Cond.instanceMethod ({ cls := "BusLineModel", name := "comes", desc := "(II)I" } : Jvm.MethodName)) ∈ lw_all := lw_g (lw_at lw_m13 72 rfl) rfl
theorem q3077 : (Jvm.Cond.selects "BusLineModel" ({ cls := "BusLineModel", name := "comes", desc := "(II)I" } : Jvm.MethodName) ({ cls := "BusLineModel", name := "comes", desc := "(II)I" } : Jvm.MethodName)) ∈ lw_all := lw_g (lw_at lw_m13 73 rfl) rfl
theorem q3078 : (Jvm.Cond.code ({ cls := "BusLineModel", name := "comes", desc := "(II)I" } : Jvm.MethodName) prog_13_method_95_code (5 : Nat) (Option.some Jvm.ClassFile.FieldType.int)) ∈ lw_all := lw_g (lw_at lw_m13 74 rfl) rfl
theorem q3079 : (Jvm.Cond.methodLink "BusLineModel" (438 : Nat) ({ cls := "BusLineModel", name := "thinks", desc := "()V" } : Jvm.MethodName)) ∈ lw_all := lw_g (lw_at lw_m13 75 rfl) rfl
theorem q3080 : (Jvm.Cond.privateMethod ({ cls := "BusLineModel", name := "thinks", desc := "()V" } : Jvm.MethodName)) ∈ lw_tbl := lw_at lw_m13 76 rfl
theorem q3081 : (Jvm.Cond.instanceMethod ({ cls := "BusLineModel", name := "thinks", desc := "()V" } : Jvm.MethodName)) ∈ lw_all := lw_g (lw_at lw_m13 77 rfl) rfl
theorem q3082 : (Jvm.Cond.code ({ cls := "BusLineModel", name := "thinks", desc := "()V" } : Jvm.MethodName) prog_13_method_71_code (2 : Nat) (Option.none : Option Jvm.ClassFile.FieldType)) ∈ lw_all := lw_g (lw_at lw_m13 78 rfl) rfl
theorem q3083 : (Jvm.Cond.methodLink "BusLineModel" (441 : Nat) ({ cls := "BusLineModel", name := "isComing", desc := "(II)Z" } : Jvm.MethodName)) ∈ lw_all := lw_g (lw_at lw_m13 79 rfl) rfl
theorem q3084 : (Jvm.Cond.privateMethod ({ cls := "BusLineModel", name := "isComing", desc := "(II)Z" } : Jvm.MethodName)) ∈ lw_tbl := lw_at lw_m13 80 rfl
theorem q3085 : (Jvm.Cond.instanceMethod ({ cls := "BusLineModel", name := "isComing", desc := "(II)Z" } : Jvm.MethodName)) ∈ lw_all := lw_g (lw_at lw_m13 81 rfl) rfl
theorem q3086 : (Jvm.Cond.code ({ cls := "BusLineModel", name := "isComing", desc := "(II)Z" } : Jvm.MethodName) prog_13_method_94_code (3 : Nat) (Option.some Jvm.ClassFile.FieldType.boolean)) ∈ lw_all := lw_g (lw_at lw_m13 82 rfl) rfl
theorem q3087 : (Jvm.Cond.methodLink "BusLineModel" (444 : Nat) ({ cls := "BusLineModel", name := "comesBack", desc := "()V" } : Jvm.MethodName)) ∈ lw_all := lw_g (lw_at lw_m13 83 rfl) rfl
theorem q3088 : (Jvm.Cond.privateMethod ({ cls := "BusLineModel", name := "comesBack", desc := "()V" } : Jvm.MethodName)) ∈ lw_tbl := lw_at lw_m13 84 rfl
theorem q3089 : (Jvm.Cond.instanceMethod ({ cls := "BusLineModel", name := "comesBack", desc := "()V" } : Jvm.MethodName)) ∈ lw_all := lw_g (lw_at lw_m13 85 rfl) rfl
theorem q3090 : (Jvm.Cond.code ({ cls := "BusLineModel", name := "comesBack", desc := "()V" } : Jvm.MethodName) prog_13_method_72_code (2 : Nat) (Option.none : Option Jvm.ClassFile.FieldType)) ∈ lw_all := lw_g (lw_at lw_m13 86 rfl) rfl
theorem q3092 : (Jvm.Cond.instanceMethod ({ cls := "BusLineModel", name := "nextLeft", desc := "(IZ)I" } : Jvm.MethodName)) ∈ lw_all := lw_g (lw_at lw_m13 88 rfl) rfl
theorem q3093 : (Jvm.Cond.selects "BusLineModel" ({ cls := "BusLineModel", name := "nextLeft", desc := "(IZ)I" } : Jvm.MethodName) ({ cls := "BusLineModel", name := "nextLeft", desc := "(IZ)I" } : Jvm.MethodName)) ∈ lw_all := lw_g (lw_at lw_m13 89 rfl) rfl
theorem q3094 : (Jvm.Cond.code ({ cls := "BusLineModel", name := "nextLeft", desc := "(IZ)I" } : Jvm.MethodName) prog_13_method_96_code (7 : Nat) (Option.some Jvm.ClassFile.FieldType.int)) ∈ lw_all := lw_g (lw_at lw_m13 90 rfl) rfl
theorem q3096 : (Jvm.Cond.instanceMethod ({ cls := "BusLineModel", name := "would", desc := "(III)I" } : Jvm.MethodName)) ∈ lw_all := lw_g (lw_at lw_m13 92 rfl) rfl
theorem q3097 : (Jvm.Cond.selects "BusLineModel" ({ cls := "BusLineModel", name := "would", desc := "(III)I" } : Jvm.MethodName) ({ cls := "BusLineModel", name := "would", desc := "(III)I" } : Jvm.MethodName)) ∈ lw_all := lw_g (lw_at lw_m13 93 rfl) rfl
theorem q3098 : (Jvm.Cond.code ({ cls := "BusLineModel", name := "would", desc := "(III)I" } : Jvm.MethodName) prog_13_method_99_code (7 : Nat) (Option.some Jvm.ClassFile.FieldType.int)) ∈ lw_all := lw_g (lw_at lw_m13 94 rfl) rfl
theorem q3099 : (Jvm.Cond.constantLong "BusLineModel" (450 : Nat) (5 : Int64)) ∈ lw_all := lw_g (lw_at lw_m13 95 rfl) rfl
theorem q3100 : (Jvm.Cond.methodLink "BusLineModel" (452 : Nat) ({ cls := "BusLineModel", name := "told", desc := "(I)I" } : Jvm.MethodName)) ∈ lw_all := lw_g (lw_at lw_m13 96 rfl) rfl
theorem q3101 : (Jvm.Cond.privateMethod ({ cls := "BusLineModel", name := "told", desc := "(I)I" } : Jvm.MethodName)) ∈ lw_tbl := lw_at lw_m13 97 rfl
theorem q3102 : (Jvm.Cond.instanceMethod ({ cls := "BusLineModel", name := "told", desc := "(I)I" } : Jvm.MethodName)) ∈ lw_all := lw_g (lw_at lw_m13 98 rfl) rfl
theorem q3103 : (Jvm.Cond.code ({ cls := "BusLineModel", name := "told", desc := "(I)I" } : Jvm.MethodName) prog_13_method_98_code (2 : Nat) (Option.some Jvm.ClassFile.FieldType.int)) ∈ lw_all := lw_g (lw_at lw_m13 99 rfl) rfl
theorem q3104 : (Jvm.Cond.methodLink "BusLineModel" (447 : Nat) ({ cls := "BusLineModel", name := "sumOf", desc := "(I)I" } : Jvm.MethodName)) ∈ lw_all := lw_g (lw_at lw_m13 100 rfl) rfl
theorem q3105 : (Jvm.Cond.privateMethod ({ cls := "BusLineModel", name := "sumOf", desc := "(I)I" } : Jvm.MethodName)) ∈ lw_tbl := lw_at lw_m13 101 rfl
theorem q3106 : (Jvm.Cond.instanceMethod ({ cls := "BusLineModel", name := "sumOf", desc := "(I)I" } : Jvm.MethodName)) ∈ lw_all := lw_g (lw_at lw_m13 102 rfl) rfl
theorem q3107 : (Jvm.Cond.code ({ cls := "BusLineModel", name := "sumOf", desc := "(I)I" } : Jvm.MethodName) prog_13_method_97_code (4 : Nat) (Option.some Jvm.ClassFile.FieldType.int)) ∈ lw_all := lw_g (lw_at lw_m13 103 rfl) rfl
theorem q3109 : (Jvm.Cond.instanceMethod ({ cls := "BusLineModel", name := "bestMode", desc := "(I)I" } : Jvm.MethodName)) ∈ lw_all := lw_g (lw_at lw_m13 105 rfl) rfl
theorem q3110 : (Jvm.Cond.selects "BusLineModel" ({ cls := "BusLineModel", name := "bestMode", desc := "(I)I" } : Jvm.MethodName) ({ cls := "BusLineModel", name := "bestMode", desc := "(I)I" } : Jvm.MethodName)) ∈ lw_all := lw_g (lw_at lw_m13 106 rfl) rfl
theorem q3111 : (Jvm.Cond.code ({ cls := "BusLineModel", name := "bestMode", desc := "(I)I" } : Jvm.MethodName) prog_13_method_100_code (8 : Nat) (Option.some Jvm.ClassFile.FieldType.int)) ∈ lw_all := lw_g (lw_at lw_m13 107 rfl) rfl
theorem q3113 : (Jvm.Cond.instanceMethod ({ cls := "BusLineModel", name := "comeBy", desc := "(II)I" } : Jvm.MethodName)) ∈ lw_all := lw_g (lw_at lw_m13 109 rfl) rfl
theorem q3114 : (Jvm.Cond.selects "BusLineModel" ({ cls := "BusLineModel", name := "comeBy", desc := "(II)I" } : Jvm.MethodName) ({ cls := "BusLineModel", name := "comeBy", desc := "(II)I" } : Jvm.MethodName)) ∈ lw_all := lw_g (lw_at lw_m13 110 rfl) rfl
theorem q3115 : (Jvm.Cond.code ({ cls := "BusLineModel", name := "comeBy", desc := "(II)I" } : Jvm.MethodName) prog_13_method_101_code (3 : Nat) (Option.some Jvm.ClassFile.FieldType.int)) ∈ lw_all := lw_g (lw_at lw_m13 111 rfl) rfl
theorem q3116 : (Jvm.Cond.constantLong "BusLineModel" (455 : Nat) (9999999 : Int64)) ∈ lw_all := lw_g (lw_at lw_m13 112 rfl) rfl
theorem q3118 : (Jvm.Cond.instanceMethod ({ cls := "BusLineModel", name := "meanWaiting", desc := "()D" } : Jvm.MethodName)) ∈ lw_all := lw_g (lw_at lw_m13 114 rfl) rfl
theorem q3119 : (Jvm.Cond.selects "BusLineModel" ({ cls := "BusLineModel", name := "meanWaiting", desc := "()D" } : Jvm.MethodName) ({ cls := "BusLineModel", name := "meanWaiting", desc := "()D" } : Jvm.MethodName)) ∈ lw_all := lw_g (lw_at lw_m13 115 rfl) rfl
theorem q3120 : (Jvm.Cond.code ({ cls := "BusLineModel", name := "meanWaiting", desc := "()D" } : Jvm.MethodName) prog_13_method_102_code (2 : Nat) (Option.some Jvm.ClassFile.FieldType.double)) ∈ lw_all := lw_g (lw_at lw_m13 116 rfl) rfl
theorem q3122 : (Jvm.Cond.instanceMethod ({ cls := "BusLineModel", name := "meanRide", desc := "()D" } : Jvm.MethodName)) ∈ lw_all := lw_g (lw_at lw_m13 118 rfl) rfl
theorem q3123 : (Jvm.Cond.selects "BusLineModel" ({ cls := "BusLineModel", name := "meanRide", desc := "()D" } : Jvm.MethodName) ({ cls := "BusLineModel", name := "meanRide", desc := "()D" } : Jvm.MethodName)) ∈ lw_all := lw_g (lw_at lw_m13 119 rfl) rfl
theorem q3124 : (Jvm.Cond.code ({ cls := "BusLineModel", name := "meanRide", desc := "()D" } : Jvm.MethodName) prog_13_method_103_code (2 : Nat) (Option.some Jvm.ClassFile.FieldType.double)) ∈ lw_all := lw_g (lw_at lw_m13 120 rfl) rfl
theorem q3126 : (Jvm.Cond.instanceMethod ({ cls := "BusLineModel", name := "full", desc := "(I)F" } : Jvm.MethodName)) ∈ lw_all := lw_g (lw_at lw_m13 122 rfl) rfl
theorem q3127 : (Jvm.Cond.selects "BusLineModel" ({ cls := "BusLineModel", name := "full", desc := "(I)F" } : Jvm.MethodName) ({ cls := "BusLineModel", name := "full", desc := "(I)F" } : Jvm.MethodName)) ∈ lw_all := lw_g (lw_at lw_m13 123 rfl) rfl
theorem q3128 : (Jvm.Cond.code ({ cls := "BusLineModel", name := "full", desc := "(I)F" } : Jvm.MethodName) prog_13_method_104_code (2 : Nat) (Option.some Jvm.ClassFile.FieldType.float)) ∈ lw_all := lw_g (lw_at lw_m13 124 rfl) rfl
theorem q3129 : (Jvm.Cond.constantFloat "BusLineModel" (457 : Nat) (3212836864 : UInt32)) ∈ lw_all := lw_g (lw_at lw_m13 125 rfl) rfl
theorem q3131 : (Jvm.Cond.instanceMethod ({ cls := "BusLineModel", name := "boardLength", desc := "()I" } : Jvm.MethodName)) ∈ lw_all := lw_g (lw_at lw_m13 127 rfl) rfl
theorem q3132 : (Jvm.Cond.selects "BusLineModel" ({ cls := "BusLineModel", name := "boardLength", desc := "()I" } : Jvm.MethodName) ({ cls := "BusLineModel", name := "boardLength", desc := "()I" } : Jvm.MethodName)) ∈ lw_all := lw_g (lw_at lw_m13 128 rfl) rfl
theorem q3133 : (Jvm.Cond.code ({ cls := "BusLineModel", name := "boardLength", desc := "()I" } : Jvm.MethodName) prog_13_method_111_code (1 : Nat) (Option.some Jvm.ClassFile.FieldType.int)) ∈ lw_all := lw_g (lw_at lw_m13 129 rfl) rfl
theorem q3134 : (Jvm.Cond.methodLink "BusLineModel" (486 : Nat) ({ cls := "BusLineModel", name := "saysBoard", desc := "(I)V" } : Jvm.MethodName)) ∈ lw_all := lw_g (lw_at lw_m13 130 rfl) rfl
theorem q3135 : (Jvm.Cond.privateMethod ({ cls := "BusLineModel", name := "saysBoard", desc := "(I)V" } : Jvm.MethodName)) ∈ lw_tbl := lw_at lw_m13 131 rfl
theorem q3136 : (Jvm.Cond.instanceMethod ({ cls := "BusLineModel", name := "saysBoard", desc := "(I)V" } : Jvm.MethodName)) ∈ lw_all := lw_g (lw_at lw_m13 132 rfl) rfl
theorem q3137 : (Jvm.Cond.code ({ cls := "BusLineModel", name := "saysBoard", desc := "(I)V" } : Jvm.MethodName) prog_13_method_110_code (3 : Nat) (Option.none : Option Jvm.ClassFile.FieldType)) ∈ lw_all := lw_g (lw_at lw_m13 133 rfl) rfl
theorem q3138 : (Jvm.Cond.methodLink "BusLineModel" (475 : Nat) ({ cls := "BusLineModel", name := "startsText", desc := "(I)V" } : Jvm.MethodName)) ∈ lw_all := lw_g (lw_at lw_m13 134 rfl) rfl
theorem q3139 : (Jvm.Cond.privateMethod ({ cls := "BusLineModel", name := "startsText", desc := "(I)V" } : Jvm.MethodName)) ∈ lw_tbl := lw_at lw_m13 135 rfl
theorem q3140 : (Jvm.Cond.instanceMethod ({ cls := "BusLineModel", name := "startsText", desc := "(I)V" } : Jvm.MethodName)) ∈ lw_all := lw_g (lw_at lw_m13 136 rfl) rfl
theorem q3141 : (Jvm.Cond.code ({ cls := "BusLineModel", name := "startsText", desc := "(I)V" } : Jvm.MethodName) prog_13_method_105_code (2 : Nat) (Option.none : Option Jvm.ClassFile.FieldType)) ∈ lw_all := lw_g (lw_at lw_m13 137 rfl) rfl
theorem q3142 : (Jvm.Cond.methodLink "BusLineModel" (478 : Nat) ({ cls := "BusLineModel", name := "saysWord", desc := "(J)V" } : Jvm.MethodName)) ∈ lw_all := lw_g (lw_at lw_m13 138 rfl) rfl
theorem q3143 : (Jvm.Cond.privateMethod ({ cls := "BusLineModel", name := "saysWord", desc := "(J)V" } : Jvm.MethodName)) ∈ lw_tbl := lw_at lw_m13 139 rfl
theorem q3144 : (Jvm.Cond.instanceMethod ({ cls := "BusLineModel", name := "saysWord", desc := "(J)V" } : Jvm.MethodName)) ∈ lw_all := lw_g (lw_at lw_m13 140 rfl) rfl
theorem q3145 : (Jvm.Cond.code ({ cls := "BusLineModel", name := "saysWord", desc := "(J)V" } : Jvm.MethodName) prog_13_method_107_code (5 : Nat) (Option.none : Option Jvm.ClassFile.FieldType)) ∈ lw_all := lw_g (lw_at lw_m13 141 rfl) rfl
theorem q3146 : (Jvm.Cond.constantLong "BusLineModel" (467 : Nat) (31 : Int64)) ∈ lw_all := lw_g (lw_at lw_m13 142 rfl) rfl
theorem q3147 : (Jvm.Cond.methodLink "BusLineModel" (469 : Nat) ({ cls := "BusLineModel", name := "says", desc := "(I)V" } : Jvm.MethodName)) ∈ lw_all := lw_g (lw_at lw_m13 143 rfl) rfl
theorem q3148 : (Jvm.Cond.privateMethod ({ cls := "BusLineModel", name := "says", desc := "(I)V" } : Jvm.MethodName)) ∈ lw_tbl := lw_at lw_m13 144 rfl
theorem q3149 : (Jvm.Cond.instanceMethod ({ cls := "BusLineModel", name := "says", desc := "(I)V" } : Jvm.MethodName)) ∈ lw_all := lw_g (lw_at lw_m13 145 rfl) rfl
theorem q3150 : (Jvm.Cond.code ({ cls := "BusLineModel", name := "says", desc := "(I)V" } : Jvm.MethodName) prog_13_method_106_code (2 : Nat) (Option.none : Option Jvm.ClassFile.FieldType)) ∈ lw_all := lw_g (lw_at lw_m13 146 rfl) rfl
theorem q3151 : (Jvm.Cond.methodLink "BusLineModel" (472 : Nat) ({ cls := "BusLineModel", name := "saysNumber", desc := "(I)V" } : Jvm.MethodName)) ∈ lw_all := lw_g (lw_at lw_m13 147 rfl) rfl
theorem q3152 : (Jvm.Cond.privateMethod ({ cls := "BusLineModel", name := "saysNumber", desc := "(I)V" } : Jvm.MethodName)) ∈ lw_tbl := lw_at lw_m13 148 rfl
theorem q3153 : (Jvm.Cond.instanceMethod ({ cls := "BusLineModel", name := "saysNumber", desc := "(I)V" } : Jvm.MethodName)) ∈ lw_all := lw_g (lw_at lw_m13 149 rfl) rfl
theorem q3154 : (Jvm.Cond.code ({ cls := "BusLineModel", name := "saysNumber", desc := "(I)V" } : Jvm.MethodName) prog_13_method_108_code (3 : Nat) (Option.none : Option Jvm.ClassFile.FieldType)) ∈ lw_all := lw_g (lw_at lw_m13 150 rfl) rfl
theorem q3155 : (Jvm.Cond.methodLink "BusLineModel" (482 : Nat) ({ cls := "BusLineModel", name := "saysBuses", desc := "(IZ)V" } : Jvm.MethodName)) ∈ lw_all := lw_g (lw_at lw_m13 151 rfl) rfl
theorem q3156 : (Jvm.Cond.privateMethod ({ cls := "BusLineModel", name := "saysBuses", desc := "(IZ)V" } : Jvm.MethodName)) ∈ lw_tbl := lw_at lw_m13 152 rfl
theorem q3157 : (Jvm.Cond.instanceMethod ({ cls := "BusLineModel", name := "saysBuses", desc := "(IZ)V" } : Jvm.MethodName)) ∈ lw_all := lw_g (lw_at lw_m13 153 rfl) rfl
theorem q3158 : (Jvm.Cond.code ({ cls := "BusLineModel", name := "saysBuses", desc := "(IZ)V" } : Jvm.MethodName) prog_13_method_109_code (4 : Nat) (Option.none : Option Jvm.ClassFile.FieldType)) ∈ lw_all := lw_g (lw_at lw_m13 154 rfl) rfl
theorem q3160 : (Jvm.Cond.instanceMethod ({ cls := "BusLineModel", name := "boardByte", desc := "(I)I" } : Jvm.MethodName)) ∈ lw_all := lw_g (lw_at lw_m13 156 rfl) rfl
theorem q3161 : (Jvm.Cond.selects "BusLineModel" ({ cls := "BusLineModel", name := "boardByte", desc := "(I)I" } : Jvm.MethodName) ({ cls := "BusLineModel", name := "boardByte", desc := "(I)I" } : Jvm.MethodName)) ∈ lw_all := lw_g (lw_at lw_m13 157 rfl) rfl
theorem q3162 : (Jvm.Cond.code ({ cls := "BusLineModel", name := "boardByte", desc := "(I)I" } : Jvm.MethodName) prog_13_method_112_code (2 : Nat) (Option.some Jvm.ClassFile.FieldType.int)) ∈ lw_all := lw_g (lw_at lw_m13 158 rfl) rfl
theorem q3164 : (Jvm.Cond.instanceMethod ({ cls := "BusLineModel", name := "storyLength", desc := "()I" } : Jvm.MethodName)) ∈ lw_all := lw_g (lw_at lw_m13 160 rfl) rfl
theorem q3165 : (Jvm.Cond.selects "BusLineModel" ({ cls := "BusLineModel", name := "storyLength", desc := "()I" } : Jvm.MethodName) ({ cls := "BusLineModel", name := "storyLength", desc := "()I" } : Jvm.MethodName)) ∈ lw_all := lw_g (lw_at lw_m13 161 rfl) rfl
theorem q3166 : (Jvm.Cond.code ({ cls := "BusLineModel", name := "storyLength", desc := "()I" } : Jvm.MethodName) prog_13_method_115_code (1 : Nat) (Option.some Jvm.ClassFile.FieldType.int)) ∈ lw_all := lw_g (lw_at lw_m13 162 rfl) rfl
theorem q3167 : (Jvm.Cond.methodLink "BusLineModel" (503 : Nat) ({ cls := "BusLineModel", name := "saysStory", desc := "(I)V" } : Jvm.MethodName)) ∈ lw_all := lw_g (lw_at lw_m13 163 rfl) rfl
theorem q3168 : (Jvm.Cond.privateMethod ({ cls := "BusLineModel", name := "saysStory", desc := "(I)V" } : Jvm.MethodName)) ∈ lw_tbl := lw_at lw_m13 164 rfl
theorem q3169 : (Jvm.Cond.instanceMethod ({ cls := "BusLineModel", name := "saysStory", desc := "(I)V" } : Jvm.MethodName)) ∈ lw_all := lw_g (lw_at lw_m13 165 rfl) rfl
theorem q3170 : (Jvm.Cond.code ({ cls := "BusLineModel", name := "saysStory", desc := "(I)V" } : Jvm.MethodName) prog_13_method_114_code (4 : Nat) (Option.none : Option Jvm.ClassFile.FieldType)) ∈ lw_all := lw_g (lw_at lw_m13 166 rfl) rfl
theorem q3171 : (Jvm.Cond.methodLink "BusLineModel" (499 : Nat) ({ cls := "BusLineModel", name := "wordOf", desc := "(I)J" } : Jvm.MethodName)) ∈ lw_all := lw_g (lw_at lw_m13 167 rfl) rfl
theorem q3172 : (Jvm.Cond.static ({ cls := "BusLineModel", name := "wordOf", desc := "(I)J" } : Jvm.MethodName)) ∈ lw_all := lw_g (lw_at lw_m13 168 rfl) rfl
theorem q3173 : (Jvm.Cond.code ({ cls := "BusLineModel", name := "wordOf", desc := "(I)J" } : Jvm.MethodName) prog_13_method_113_code (1 : Nat) (Option.some Jvm.ClassFile.FieldType.long)) ∈ lw_all := lw_g (lw_at lw_m13 169 rfl) rfl
theorem q3174 : (Jvm.Cond.constantLong "BusLineModel" (489 : Nat) (2799720 : Int64)) ∈ lw_all := lw_g (lw_at lw_m13 170 rfl) rfl
theorem q3175 : (Jvm.Cond.constantLong "BusLineModel" (491 : Nat) (20459828 : Int64)) ∈ lw_all := lw_g (lw_at lw_m13 171 rfl) rfl
theorem q3176 : (Jvm.Cond.constantLong "BusLineModel" (493 : Nat) (267652 : Int64)) ∈ lw_all := lw_g (lw_at lw_m13 172 rfl) rfl
theorem q3177 : (Jvm.Cond.constantLong "BusLineModel" (495 : Nat) (398548 : Int64)) ∈ lw_all := lw_g (lw_at lw_m13 173 rfl) rfl
theorem q3178 : (Jvm.Cond.constantLong "BusLineModel" (497 : Nat) (218508 : Int64)) ∈ lw_all := lw_g (lw_at lw_m13 174 rfl) rfl
theorem q3180 : (Jvm.Cond.instanceMethod ({ cls := "BusLineModel", name := "storyByte", desc := "(I)I" } : Jvm.MethodName)) ∈ lw_all := lw_g (lw_at lw_m13 176 rfl) rfl
theorem q3181 : (Jvm.Cond.selects "BusLineModel" ({ cls := "BusLineModel", name := "storyByte", desc := "(I)I" } : Jvm.MethodName) ({ cls := "BusLineModel", name := "storyByte", desc := "(I)I" } : Jvm.MethodName)) ∈ lw_all := lw_g (lw_at lw_m13 177 rfl) rfl
theorem q3182 : (Jvm.Cond.code ({ cls := "BusLineModel", name := "storyByte", desc := "(I)I" } : Jvm.MethodName) prog_13_method_116_code (2 : Nat) (Option.some Jvm.ClassFile.FieldType.int)) ∈ lw_all := lw_g (lw_at lw_m13 178 rfl) rfl
theorem q3184 : (Jvm.Cond.instanceMethod ({ cls := "BusLineModel", name := "setupLength", desc := "()I" } : Jvm.MethodName)) ∈ lw_all := lw_g (lw_at lw_m13 180 rfl) rfl
theorem q3185 : (Jvm.Cond.selects "BusLineModel" ({ cls := "BusLineModel", name := "setupLength", desc := "()I" } : Jvm.MethodName) ({ cls := "BusLineModel", name := "setupLength", desc := "()I" } : Jvm.MethodName)) ∈ lw_all := lw_g (lw_at lw_m13 181 rfl) rfl
theorem q3186 : (Jvm.Cond.code ({ cls := "BusLineModel", name := "setupLength", desc := "()I" } : Jvm.MethodName) prog_13_method_121_code (1 : Nat) (Option.some Jvm.ClassFile.FieldType.int)) ∈ lw_all := lw_g (lw_at lw_m13 182 rfl) rfl
theorem q3187 : (Jvm.Cond.methodLink "BusLineModel" (517 : Nat) ({ cls := "BusLineModel", name := "saysSetup", desc := "(I)V" } : Jvm.MethodName)) ∈ lw_all := lw_g (lw_at lw_m13 183 rfl) rfl
theorem q3188 : (Jvm.Cond.privateMethod ({ cls := "BusLineModel", name := "saysSetup", desc := "(I)V" } : Jvm.MethodName)) ∈ lw_tbl := lw_at lw_m13 184 rfl
theorem q3189 : (Jvm.Cond.instanceMethod ({ cls := "BusLineModel", name := "saysSetup", desc := "(I)V" } : Jvm.MethodName)) ∈ lw_all := lw_g (lw_at lw_m13 185 rfl) rfl
theorem q3190 : (Jvm.Cond.code ({ cls := "BusLineModel", name := "saysSetup", desc := "(I)V" } : Jvm.MethodName) prog_13_method_120_code (3 : Nat) (Option.none : Option Jvm.ClassFile.FieldType)) ∈ lw_all := lw_g (lw_at lw_m13 186 rfl) rfl
theorem q3191 : (Jvm.Cond.methodLink "BusLineModel" (510 : Nat) ({ cls := "BusLineModel", name := "saysNumbers", desc := "()V" } : Jvm.MethodName)) ∈ lw_all := lw_g (lw_at lw_m13 187 rfl) rfl
theorem q3192 : (Jvm.Cond.privateMethod ({ cls := "BusLineModel", name := "saysNumbers", desc := "()V" } : Jvm.MethodName)) ∈ lw_tbl := lw_at lw_m13 188 rfl
theorem q3193 : (Jvm.Cond.instanceMethod ({ cls := "BusLineModel", name := "saysNumbers", desc := "()V" } : Jvm.MethodName)) ∈ lw_all := lw_g (lw_at lw_m13 189 rfl) rfl
theorem q3194 : (Jvm.Cond.code ({ cls := "BusLineModel", name := "saysNumbers", desc := "()V" } : Jvm.MethodName) prog_13_method_119_code (1 : Nat) (Option.none : Option Jvm.ClassFile.FieldType)) ∈ lw_all := lw_g (lw_at lw_m13 190 rfl) rfl
theorem q3195 : (Jvm.Cond.methodLink "BusLineModel" (506 : Nat) ({ cls := "BusLineModel", name := "saysPair", desc := "(JII)V" } : Jvm.MethodName)) ∈ lw_all := lw_g (lw_at lw_m13 191 rfl) rfl
theorem q3196 : (Jvm.Cond.privateMethod ({ cls := "BusLineModel", name := "saysPair", desc := "(JII)V" } : Jvm.MethodName)) ∈ lw_tbl := lw_at lw_m13 192 rfl
theorem q3197 : (Jvm.Cond.instanceMethod ({ cls := "BusLineModel", name := "saysPair", desc := "(JII)V" } : Jvm.MethodName)) ∈ lw_all := lw_g (lw_at lw_m13 193 rfl) rfl
theorem q3198 : (Jvm.Cond.code ({ cls := "BusLineModel", name := "saysPair", desc := "(JII)V" } : Jvm.MethodName) prog_13_method_117_code (5 : Nat) (Option.none : Option Jvm.ClassFile.FieldType)) ∈ lw_all := lw_g (lw_at lw_m13 194 rfl) rfl
theorem q3199 : (Jvm.Cond.methodLink "BusLineModel" (513 : Nat) ({ cls := "BusLineModel", name := "saysName", desc := "(JI)V" } : Jvm.MethodName)) ∈ lw_all := lw_g (lw_at lw_m13 195 rfl) rfl
theorem q3200 : (Jvm.Cond.privateMethod ({ cls := "BusLineModel", name := "saysName", desc := "(JI)V" } : Jvm.MethodName)) ∈ lw_tbl := lw_at lw_m13 196 rfl
theorem q3201 : (Jvm.Cond.instanceMethod ({ cls := "BusLineModel", name := "saysName", desc := "(JI)V" } : Jvm.MethodName)) ∈ lw_all := lw_g (lw_at lw_m13 197 rfl) rfl
theorem q3202 : (Jvm.Cond.code ({ cls := "BusLineModel", name := "saysName", desc := "(JI)V" } : Jvm.MethodName) prog_13_method_118_code (4 : Nat) (Option.none : Option Jvm.ClassFile.FieldType)) ∈ lw_all := lw_g (lw_at lw_m13 198 rfl) rfl
theorem q3204 : (Jvm.Cond.instanceMethod ({ cls := "BusLineModel", name := "setupByte", desc := "(I)I" } : Jvm.MethodName)) ∈ lw_all := lw_g (lw_at lw_m13 200 rfl) rfl
theorem q3205 : (Jvm.Cond.selects "BusLineModel" ({ cls := "BusLineModel", name := "setupByte", desc := "(I)I" } : Jvm.MethodName) ({ cls := "BusLineModel", name := "setupByte", desc := "(I)I" } : Jvm.MethodName)) ∈ lw_all := lw_g (lw_at lw_m13 201 rfl) rfl
theorem q3206 : (Jvm.Cond.code ({ cls := "BusLineModel", name := "setupByte", desc := "(I)I" } : Jvm.MethodName) prog_13_method_122_code (2 : Nat) (Option.some Jvm.ClassFile.FieldType.int)) ∈ lw_all := lw_g (lw_at lw_m13 202 rfl) rfl
theorem q3208 : (Jvm.Cond.instanceMethod ({ cls := "BusLineModel", name := "tapeLength", desc := "()I" } : Jvm.MethodName)) ∈ lw_all := lw_g (lw_at lw_m13 204 rfl) rfl
theorem q3209 : (Jvm.Cond.selects "BusLineModel" ({ cls := "BusLineModel", name := "tapeLength", desc := "()I" } : Jvm.MethodName) ({ cls := "BusLineModel", name := "tapeLength", desc := "()I" } : Jvm.MethodName)) ∈ lw_all := lw_g (lw_at lw_m13 205 rfl) rfl
theorem q3210 : (Jvm.Cond.code ({ cls := "BusLineModel", name := "tapeLength", desc := "()I" } : Jvm.MethodName) prog_13_method_123_code (1 : Nat) (Option.some Jvm.ClassFile.FieldType.int)) ∈ lw_all := lw_g (lw_at lw_m13 206 rfl) rfl
theorem q3244 : (Jvm.Cond.castable "BusLineModel" "java/lang/Object") ∈ lw_tbl := lw_at lw_m14 0 rfl
theorem in_X7 : ∀ w ∈ wsX70, w ∈ lw_all := lw_in wsX70 [2587, 2589, 2591, 2593, 2595, 2597, 2599, 2601, 2603, 2605, 2607, 2609, 2611, 2613, 2615, 2617, 2619, 2621, 2623, 2625, 2627, 2629, 2631, 2633, 2635, 2637, 2639, 2641, 2643, 2645, 2647, 2649, 2651, 2653, 2655, 2657, 2659, 2661, 2663, 2665, 2667, 2669, 2671, 2673, 2675, 2677, 2679, 2681, 2683, 2685, 2687, 2689, 2691, 2693, 2695, 2697] (by decide +kernel) (by decide +kernel)
