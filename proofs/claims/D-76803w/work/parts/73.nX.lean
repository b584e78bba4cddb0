/-! names and decode rows: X -/
set_option maxRecDepth 100000
abbrev cL_law : ByteArray := code
def dkwL_law_53 : List UInt8 := [4, 96, 46, 182, 0, 175, 159, 0, 5, 3, 172, 132, 3, 7, 167, 250, 146, 4, 172]
abbrev dktL_law_53 : List UInt8 := dkwL_law_53 ++ []
def dkwL_law_52 : List UInt8 := [182, 0, 168, 44, 182, 0, 171, 159, 0, 28, 3, 172, 43, 42, 29, 4, 96, 46, 182, 0, 172, 44, 42, 29]
abbrev dktL_law_52 : List UInt8 := dkwL_law_52 ++ dktL_law_53
def dkwL_law_51 : List UInt8 := [182, 0, 163, 159, 0, 54, 3, 172, 43, 182, 0, 164, 44, 182, 0, 167, 159, 0, 41, 3, 172, 43]
abbrev dktL_law_51 : List UInt8 := dkwL_law_51 ++ dktL_law_52
def dkwL_law_50 : List UInt8 := [46, 182, 0, 159, 159, 0, 77, 3, 172, 43, 42, 29, 4, 96, 46, 182, 0, 160, 44, 42, 29, 4, 96, 46]
abbrev dktL_law_50 : List UInt8 := dkwL_law_50 ++ dktL_law_51
def dkwL_law_49 : List UInt8 := [43, 42, 29, 4, 96, 46, 42, 29, 5, 96, 46, 182, 0, 156, 44, 42, 29, 4, 96, 46, 42, 29, 5, 96]
abbrev dktL_law_49 : List UInt8 := dkwL_law_49 ++ dktL_law_50
def dkwL_law_48 : List UInt8 := [96, 46, 182, 0, 152, 44, 42, 29, 4, 96, 46, 42, 29, 5, 96, 46, 182, 0, 155, 159, 0, 110, 3, 172]
abbrev dktL_law_48 : List UInt8 := dkwL_law_48 ++ dktL_law_49
def dkwL_law_47 : List UInt8 := [44, 42, 29, 4, 96, 46, 182, 0, 151, 148, 153, 0, 143, 3, 172, 43, 42, 29, 4, 96, 46, 42, 29, 5]
abbrev dktL_law_47 : List UInt8 := dkwL_law_47 ++ dktL_law_48
def dkwL_law_46 : List UInt8 := [96, 46, 42, 29, 6, 96, 46, 182, 0, 147, 159, 0, 167, 3, 172, 43, 42, 29, 4, 96, 46, 182, 0, 148]
abbrev dktL_law_46 : List UInt8 := dkwL_law_46 ++ dktL_law_47
def dkwL_law_45 : List UInt8 := [96, 46, 42, 29, 5, 96, 46, 42, 29, 6, 96, 46, 182, 0, 144, 44, 42, 29, 4, 96, 46, 42, 29, 5]
abbrev dktL_law_45 : List UInt8 := dkwL_law_45 ++ dktL_law_46
def dkwL_law_44 : List UInt8 := [4, 96, 46, 182, 0, 140, 44, 42, 29, 4, 96, 46, 182, 0, 143, 159, 0, 210, 3, 172, 43, 42, 29, 4]
abbrev dktL_law_44 : List UInt8 := dkwL_law_44 ++ dktL_law_45
def dkwL_law_43 : List UInt8 := [4, 96, 46, 42, 29, 5, 96, 46, 42, 29, 6, 96, 46, 182, 0, 139, 159, 0, 233, 3, 172, 43, 42, 29]
abbrev dktL_law_43 : List UInt8 := dkwL_law_43 ++ dktL_law_44
def dkwL_law_42 : List UInt8 := [3, 172, 43, 42, 29, 4, 96, 46, 42, 29, 5, 96, 46, 42, 29, 6, 96, 46, 182, 0, 136, 44, 42, 29]
abbrev dktL_law_42 : List UInt8 := dkwL_law_42 ++ dktL_law_43
def dkwL_law_41 : List UInt8 := [29, 5, 96, 46, 182, 0, 132, 44, 42, 29, 4, 96, 46, 42, 29, 5, 96, 46, 182, 0, 135, 159, 1, 20]
abbrev dktL_law_41 : List UInt8 := dkwL_law_41 ++ dktL_law_42
def dkwL_law_40 : List UInt8 := [29, 5, 96, 46, 42, 29, 6, 96, 46, 182, 0, 131, 159, 1, 53, 3, 172, 43, 42, 29, 4, 96, 46, 42]
abbrev dktL_law_40 : List UInt8 := dkwL_law_40 ++ dktL_law_41
def dkwL_law_39 : List UInt8 := [29, 4, 96, 46, 42, 29, 5, 96, 46, 42, 29, 6, 96, 46, 182, 0, 128, 44, 42, 29, 4, 96, 46, 42]
abbrev dktL_law_39 : List UInt8 := dkwL_law_39 ++ dktL_law_40
def dkwL_law_38 : List UInt8 := [182, 0, 124, 44, 42, 29, 4, 96, 46, 42, 29, 5, 96, 46, 182, 0, 127, 159, 1, 96, 3, 172, 43, 42]
abbrev dktL_law_38 : List UInt8 := dkwL_law_38 ++ dktL_law_39
def dkwL_law_37 : List UInt8 := [42, 29, 4, 96, 46, 182, 0, 123, 159, 1, 129, 3, 172, 43, 42, 29, 4, 96, 46, 42, 29, 5, 96, 46]
abbrev dktL_law_37 : List UInt8 := dkwL_law_37 ++ dktL_law_38
def dkwL_law_36 : List UInt8 := [44, 42, 29, 4, 96, 46, 182, 0, 119, 159, 1, 152, 3, 172, 43, 42, 29, 4, 96, 46, 182, 0, 120, 44]
abbrev dktL_law_36 : List UInt8 := dkwL_law_36 ++ dktL_law_37
def dkwL_law_35 : List UInt8 := [96, 46, 42, 29, 6, 96, 46, 182, 0, 115, 159, 1, 175, 3, 172, 43, 42, 29, 4, 96, 46, 182, 0, 116]
abbrev dktL_law_35 : List UInt8 := dkwL_law_35 ++ dktL_law_36
def dkwL_law_34 : List UInt8 := [96, 46, 42, 29, 5, 96, 46, 42, 29, 6, 96, 46, 182, 0, 112, 44, 42, 29, 4, 96, 46, 42, 29, 5]
abbrev dktL_law_34 : List UInt8 := dkwL_law_34 ++ dktL_law_35
def dkwL_law_33 : List UInt8 := [4, 96, 46, 182, 0, 108, 44, 42, 29, 4, 96, 46, 182, 0, 111, 159, 1, 218, 3, 172, 43, 42, 29, 4]
abbrev dktL_law_33 : List UInt8 := dkwL_law_33 ++ dktL_law_34
def dkwL_law_32 : List UInt8 := [29, 4, 96, 46, 182, 0, 104, 44, 42, 29, 4, 96, 46, 182, 0, 107, 159, 1, 241, 3, 172, 43, 42, 29]
abbrev dktL_law_32 : List UInt8 := dkwL_law_32 ++ dktL_law_33
def dkwL_law_31 : List UInt8 := [182, 0, 100, 44, 42, 29, 4, 96, 46, 42, 29, 5, 96, 46, 182, 0, 103, 159, 2, 8, 3, 172, 43, 42]
abbrev dktL_law_31 : List UInt8 := dkwL_law_31 ++ dktL_law_32
def dkwL_law_30 : List UInt8 := [4, 96, 46, 182, 0, 99, 159, 2, 41, 3, 172, 43, 42, 29, 4, 96, 46, 42, 29, 5, 96, 46]
abbrev dktL_law_30 : List UInt8 := dkwL_law_30 ++ dktL_law_31
def dkwL_law_29 : List UInt8 := [182, 0, 91, 44, 182, 0, 95, 159, 2, 64, 3, 172, 43, 42, 29, 4, 96, 46, 182, 0, 96, 44, 42, 29]
abbrev dktL_law_29 : List UInt8 := dkwL_law_29 ++ dktL_law_30
def dkwL_law_28 : List UInt8 := [43, 42, 29, 4, 96, 46, 182, 0, 87, 44, 42, 29, 4, 96, 46, 182, 0, 90, 159, 2, 77, 3, 172, 43]
abbrev dktL_law_28 : List UInt8 := dkwL_law_28 ++ dktL_law_29
def dkwL_law_27 : List UInt8 := [172, 43, 42, 29, 4, 96, 46, 182, 0, 83, 44, 42, 29, 4, 96, 46, 182, 0, 86, 159, 2, 100, 3, 172]
abbrev dktL_law_27 : List UInt8 := dkwL_law_27 ++ dktL_law_28
def dkwL_law_26 : List UInt8 := [46, 42, 29, 7, 96, 46, 42, 29, 8, 96, 46, 42, 29, 16, 6, 96, 46, 182, 0, 82, 159, 2, 123, 3]
abbrev dktL_law_26 : List UInt8 := dkwL_law_26 ++ dktL_law_27
def dkwL_law_25 : List UInt8 := [42, 29, 16, 6, 96, 46, 182, 0, 78, 44, 42, 29, 4, 96, 46, 42, 29, 5, 96, 46, 42, 29, 6, 96]
abbrev dktL_law_25 : List UInt8 := dkwL_law_25 ++ dktL_law_26
def dkwL_law_24 : List UInt8 := [29, 4, 96, 46, 42, 29, 5, 96, 46, 42, 29, 6, 96, 46, 42, 29, 7, 96, 46, 42, 29, 8, 96, 46]
abbrev dktL_law_24 : List UInt8 := dkwL_law_24 ++ dktL_law_25
def dkwL_law_23 : List UInt8 := [29, 5, 96, 46, 42, 29, 6, 96, 46, 42, 29, 7, 96, 46, 182, 0, 77, 159, 2, 198, 3, 172, 43, 42]
abbrev dktL_law_23 : List UInt8 := dkwL_law_23 ++ dktL_law_24
def dkwL_law_22 : List UInt8 := [29, 5, 96, 46, 42, 29, 6, 96, 46, 42, 29, 7, 96, 46, 182, 0, 74, 44, 42, 29, 4, 96, 46, 42]
abbrev dktL_law_22 : List UInt8 := dkwL_law_22 ++ dktL_law_23
def dkwL_law_21 : List UInt8 := [29, 4, 96, 46, 42, 29, 5, 96, 46, 182, 0, 73, 159, 2, 251, 3, 172, 43, 42, 29, 4, 96, 46, 42]
abbrev dktL_law_21 : List UInt8 := dkwL_law_21 ++ dktL_law_22
def dkwL_law_20 : List UInt8 := [182, 0, 69, 159, 3, 28, 3, 172, 43, 42, 29, 4, 96, 46, 42, 29, 5, 96, 46, 182, 0, 70, 44, 42]
abbrev dktL_law_20 : List UInt8 := dkwL_law_20 ++ dktL_law_21
def dkwL_law_19 : List UInt8 := [29, 4, 96, 46, 42, 29, 5, 96, 46, 182, 0, 66, 44, 42, 29, 4, 96, 46, 42, 29, 5, 96, 46]
abbrev dktL_law_19 : List UInt8 := dkwL_law_19 ++ dktL_law_20
def dkwL_law_18 : List UInt8 := [182, 0, 62, 44, 42, 29, 4, 96, 46, 42, 29, 5, 96, 46, 182, 0, 65, 159, 3, 61, 3, 172, 43, 42]
abbrev dktL_law_18 : List UInt8 := dkwL_law_18 ++ dktL_law_19
def dkwL_law_17 : List UInt8 := [4, 96, 46, 182, 0, 61, 159, 3, 94, 3, 172, 43, 42, 29, 4, 96, 46, 42, 29, 5, 96, 46]
abbrev dktL_law_17 : List UInt8 := dkwL_law_17 ++ dktL_law_18
def dkwL_law_16 : List UInt8 := [29, 6, 96, 46, 182, 0, 57, 159, 3, 117, 3, 172, 43, 42, 29, 4, 96, 46, 182, 0, 58, 44, 42, 29]
abbrev dktL_law_16 : List UInt8 := dkwL_law_16 ++ dktL_law_17
def dkwL_law_15 : List UInt8 := [29, 5, 96, 46, 42, 29, 6, 96, 46, 182, 0, 53, 44, 42, 29, 4, 96, 46, 42, 29, 5, 96, 46, 42]
abbrev dktL_law_15 : List UInt8 := dkwL_law_15 ++ dktL_law_16
def dkwL_law_14 : List UInt8 := [29, 4, 96, 46, 42, 29, 5, 96, 46, 182, 0, 52, 159, 3, 160, 3, 172, 43, 42, 29, 4, 96, 46, 42]
abbrev dktL_law_14 : List UInt8 := dkwL_law_14 ++ dktL_law_15
def dkwL_law_13 : List UInt8 := [182, 0, 48, 159, 3, 193, 3, 172, 43, 42, 29, 4, 96, 46, 42, 29, 5, 96, 46, 182, 0, 49, 44, 42]
abbrev dktL_law_13 : List UInt8 := dkwL_law_13 ++ dktL_law_14
def dkwL_law_12 : List UInt8 := [182, 0, 44, 159, 3, 216, 3, 172, 43, 42, 29, 4, 96, 46, 182, 0, 45, 44, 42, 29, 4, 96, 46]
abbrev dktL_law_12 : List UInt8 := dkwL_law_12 ++ dktL_law_13
def dkwL_law_11 : List UInt8 := [182, 0, 40, 44, 42, 29, 4, 96, 46, 42, 29, 5, 96, 46, 42, 29, 6, 96, 46, 42, 29, 7, 96, 46]
abbrev dktL_law_11 : List UInt8 := dkwL_law_11 ++ dktL_law_12
def dkwL_law_10 : List UInt8 := [172, 43, 42, 29, 4, 96, 46, 42, 29, 5, 96, 46, 42, 29, 6, 96, 46, 42, 29, 7, 96, 46]
abbrev dktL_law_10 : List UInt8 := dkwL_law_10 ++ dktL_law_11
def dkwL_law_9 : List UInt8 := [3, 172, 43, 42, 29, 4, 96, 46, 182, 0, 36, 44, 42, 29, 4, 96, 46, 182, 0, 39, 159, 4, 13, 3]
abbrev dktL_law_9 : List UInt8 := dkwL_law_9 ++ dktL_law_10
def dkwL_law_8 : List UInt8 := [3, 172, 43, 42, 29, 4, 96, 46, 182, 0, 31, 44, 42, 29, 4, 96, 46, 182, 0, 35, 148, 153, 4, 36]
abbrev dktL_law_8 : List UInt8 := dkwL_law_8 ++ dktL_law_9
def dkwL_law_7 : List UInt8 := [29, 5, 96, 46, 182, 0, 27, 44, 42, 29, 4, 96, 46, 42, 29, 5, 96, 46, 182, 0, 30, 159, 4, 60]
abbrev dktL_law_7 : List UInt8 := dkwL_law_7 ++ dktL_law_8
def dkwL_law_6 : List UInt8 := [182, 0, 22, 44, 42, 29, 4, 96, 46, 182, 0, 26, 159, 4, 93, 3, 172, 43, 42, 29, 4, 96, 46, 42]
abbrev dktL_law_6 : List UInt8 := dkwL_law_6 ++ dktL_law_7
def dkwL_law_5 : List UInt8 := [42, 29, 4, 96, 46, 42, 29, 5, 96, 46, 182, 0, 21, 159, 4, 116, 3, 172, 43, 42, 29, 4, 96, 46]
abbrev dktL_law_5 : List UInt8 := dkwL_law_5 ++ dktL_law_6
def dkwL_law_4 : List UInt8 := [46, 182, 0, 17, 159, 4, 149, 3, 172, 43, 42, 29, 4, 96, 46, 42, 29, 5, 96, 46, 182, 0, 18, 44]
abbrev dktL_law_4 : List UInt8 := dkwL_law_4 ++ dktL_law_5
def dkwL_law_3 : List UInt8 := [43, 42, 29, 4, 96, 46, 42, 29, 5, 96, 46, 182, 0, 13, 44, 42, 29, 4, 96, 46, 42, 29, 5, 96]
abbrev dktL_law_3 : List UInt8 := dkwL_law_3 ++ dktL_law_4
def dkwL_law_2 : List UInt8 := [170, 0, 0, 0, 0, 5, 92, 0, 0, 0, 0, 0, 0, 0, 38, 0, 0, 0, 171, 0, 0, 0, 204, 0, 0, 0, 237, 0, 0, 1, 4, 0, 0, 1, 37, 0, 0, 1, 61, 0, 0, 1, 84, 0, 0, 1, 137, 0, 0, 1, 160, 0, 0, 1, 193, 0, 0, 1, 236, 0, 0, 2, 3, 0, 0, 2, 36, 0, 0, 2, 69, 0, 0, 2, 102, 0, 0, 2, 155, 0, 0, 2, 230, 0, 0, 2, 253, 0, 0, 3, 20, 0, 0, 3, 33, 0, 0, 3, 56, 0, 0, 3, 89, 0, 0, 3, 112, 0, 0, 3, 135, 0, 0, 3, 178, 0, 0, 3, 201, 0, 0, 3, 224, 0, 0, 4, 1, 0, 0, 4, 44, 0, 0, 4, 77, 0, 0, 4, 120, 0, 0, 4, 143, 0, 0, 4, 186, 0, 0, 4, 210, 0, 0, 4, 243, 0, 0, 5, 20, 0, 0, 5, 43, 0, 0, 5, 56, 0, 0, 5, 69]
abbrev dktL_law_2 : List UInt8 := dkwL_law_2 ++ dktL_law_3
def dkwL_law_1 : List UInt8 := [163, 5, 107, 42, 29, 46, 16, 63, 126]
abbrev dktL_law_1 : List UInt8 := dkwL_law_1 ++ dktL_law_2
def dkwL_law_0 : List UInt8 := [187, 0, 7, 89, 183, 0, 9, 76, 187, 0, 10, 89, 183, 0, 12, 77, 3, 62, 29, 42, 190, 16, 7, 100]
abbrev dktL_law_0 : List UInt8 := dkwL_law_0 ++ dktL_law_1
theorem dksL_law_0 : cL_law.data.toList.drop 0 = dktL_law_0 := by decide +kernel
theorem dksL_law_1 : cL_law.data.toList.drop 24 = dktL_law_1 := dk_seg dksL_law_0 24 rfl rfl
theorem dksL_law_2 : cL_law.data.toList.drop 33 = dktL_law_2 := dk_seg dksL_law_1 9 rfl rfl
theorem dksL_law_3 : cL_law.data.toList.drop 204 = dktL_law_3 := dk_seg dksL_law_2 171 rfl rfl
theorem dksL_law_4 : cL_law.data.toList.drop 228 = dktL_law_4 := dk_seg dksL_law_3 24 rfl rfl
theorem dksL_law_5 : cL_law.data.toList.drop 252 = dktL_law_5 := dk_seg dksL_law_4 24 rfl rfl
theorem dksL_law_6 : cL_law.data.toList.drop 276 = dktL_law_6 := dk_seg dksL_law_5 24 rfl rfl
theorem dksL_law_7 : cL_law.data.toList.drop 300 = dktL_law_7 := dk_seg dksL_law_6 24 rfl rfl
theorem dksL_law_8 : cL_law.data.toList.drop 324 = dktL_law_8 := dk_seg dksL_law_7 24 rfl rfl
theorem dksL_law_9 : cL_law.data.toList.drop 348 = dktL_law_9 := dk_seg dksL_law_8 24 rfl rfl
theorem dksL_law_10 : cL_law.data.toList.drop 372 = dktL_law_10 := dk_seg dksL_law_9 24 rfl rfl
theorem dksL_law_11 : cL_law.data.toList.drop 394 = dktL_law_11 := dk_seg dksL_law_10 22 rfl rfl
theorem dksL_law_12 : cL_law.data.toList.drop 418 = dktL_law_12 := dk_seg dksL_law_11 24 rfl rfl
theorem dksL_law_13 : cL_law.data.toList.drop 441 = dktL_law_13 := dk_seg dksL_law_12 23 rfl rfl
theorem dksL_law_14 : cL_law.data.toList.drop 465 = dktL_law_14 := dk_seg dksL_law_13 24 rfl rfl
theorem dksL_law_15 : cL_law.data.toList.drop 489 = dktL_law_15 := dk_seg dksL_law_14 24 rfl rfl
theorem dksL_law_16 : cL_law.data.toList.drop 513 = dktL_law_16 := dk_seg dksL_law_15 24 rfl rfl
theorem dksL_law_17 : cL_law.data.toList.drop 537 = dktL_law_17 := dk_seg dksL_law_16 24 rfl rfl
theorem dksL_law_18 : cL_law.data.toList.drop 559 = dktL_law_18 := dk_seg dksL_law_17 22 rfl rfl
theorem dksL_law_19 : cL_law.data.toList.drop 583 = dktL_law_19 := dk_seg dksL_law_18 24 rfl rfl
theorem dksL_law_20 : cL_law.data.toList.drop 606 = dktL_law_20 := dk_seg dksL_law_19 23 rfl rfl
theorem dksL_law_21 : cL_law.data.toList.drop 630 = dktL_law_21 := dk_seg dksL_law_20 24 rfl rfl
theorem dksL_law_22 : cL_law.data.toList.drop 654 = dktL_law_22 := dk_seg dksL_law_21 24 rfl rfl
theorem dksL_law_23 : cL_law.data.toList.drop 678 = dktL_law_23 := dk_seg dksL_law_22 24 rfl rfl
theorem dksL_law_24 : cL_law.data.toList.drop 702 = dktL_law_24 := dk_seg dksL_law_23 24 rfl rfl
theorem dksL_law_25 : cL_law.data.toList.drop 726 = dktL_law_25 := dk_seg dksL_law_24 24 rfl rfl
theorem dksL_law_26 : cL_law.data.toList.drop 750 = dktL_law_26 := dk_seg dksL_law_25 24 rfl rfl
theorem dksL_law_27 : cL_law.data.toList.drop 774 = dktL_law_27 := dk_seg dksL_law_26 24 rfl rfl
theorem dksL_law_28 : cL_law.data.toList.drop 798 = dktL_law_28 := dk_seg dksL_law_27 24 rfl rfl
theorem dksL_law_29 : cL_law.data.toList.drop 822 = dktL_law_29 := dk_seg dksL_law_28 24 rfl rfl
theorem dksL_law_30 : cL_law.data.toList.drop 846 = dktL_law_30 := dk_seg dksL_law_29 24 rfl rfl
theorem dksL_law_31 : cL_law.data.toList.drop 868 = dktL_law_31 := dk_seg dksL_law_30 22 rfl rfl
theorem dksL_law_32 : cL_law.data.toList.drop 892 = dktL_law_32 := dk_seg dksL_law_31 24 rfl rfl
theorem dksL_law_33 : cL_law.data.toList.drop 916 = dktL_law_33 := dk_seg dksL_law_32 24 rfl rfl
theorem dksL_law_34 : cL_law.data.toList.drop 940 = dktL_law_34 := dk_seg dksL_law_33 24 rfl rfl
theorem dksL_law_35 : cL_law.data.toList.drop 964 = dktL_law_35 := dk_seg dksL_law_34 24 rfl rfl
theorem dksL_law_36 : cL_law.data.toList.drop 988 = dktL_law_36 := dk_seg dksL_law_35 24 rfl rfl
theorem dksL_law_37 : cL_law.data.toList.drop 1012 = dktL_law_37 := dk_seg dksL_law_36 24 rfl rfl
theorem dksL_law_38 : cL_law.data.toList.drop 1036 = dktL_law_38 := dk_seg dksL_law_37 24 rfl rfl
theorem dksL_law_39 : cL_law.data.toList.drop 1060 = dktL_law_39 := dk_seg dksL_law_38 24 rfl rfl
theorem dksL_law_40 : cL_law.data.toList.drop 1084 = dktL_law_40 := dk_seg dksL_law_39 24 rfl rfl
theorem dksL_law_41 : cL_law.data.toList.drop 1108 = dktL_law_41 := dk_seg dksL_law_40 24 rfl rfl
theorem dksL_law_42 : cL_law.data.toList.drop 1132 = dktL_law_42 := dk_seg dksL_law_41 24 rfl rfl
theorem dksL_law_43 : cL_law.data.toList.drop 1156 = dktL_law_43 := dk_seg dksL_law_42 24 rfl rfl
theorem dksL_law_44 : cL_law.data.toList.drop 1180 = dktL_law_44 := dk_seg dksL_law_43 24 rfl rfl
theorem dksL_law_45 : cL_law.data.toList.drop 1204 = dktL_law_45 := dk_seg dksL_law_44 24 rfl rfl
theorem dksL_law_46 : cL_law.data.toList.drop 1228 = dktL_law_46 := dk_seg dksL_law_45 24 rfl rfl
theorem dksL_law_47 : cL_law.data.toList.drop 1252 = dktL_law_47 := dk_seg dksL_law_46 24 rfl rfl
theorem dksL_law_48 : cL_law.data.toList.drop 1276 = dktL_law_48 := dk_seg dksL_law_47 24 rfl rfl
theorem dksL_law_49 : cL_law.data.toList.drop 1300 = dktL_law_49 := dk_seg dksL_law_48 24 rfl rfl
theorem dksL_law_50 : cL_law.data.toList.drop 1324 = dktL_law_50 := dk_seg dksL_law_49 24 rfl rfl
theorem dksL_law_51 : cL_law.data.toList.drop 1348 = dktL_law_51 := dk_seg dksL_law_50 24 rfl rfl
theorem dksL_law_52 : cL_law.data.toList.drop 1370 = dktL_law_52 := dk_seg dksL_law_51 22 rfl rfl
theorem dksL_law_53 : cL_law.data.toList.drop 1394 = dktL_law_53 := dk_seg dksL_law_52 24 rfl rfl
theorem dL_law_0 : decode cL_law 0 = .ok (.new 7, 3) := dk_187 0 7 (dk_at dksL_law_0 0 rfl rfl)
theorem dL_law_3 : decode cL_law 3 = .ok (.dup, 1) := dk_89 (dk_at dksL_law_0 3 rfl rfl)
theorem dL_law_4 : decode cL_law 4 = .ok (.invokespecial 9, 3) := dk_183 0 9 (dk_at dksL_law_0 4 rfl rfl)
theorem dL_law_7 : decode cL_law 7 = .ok (.astore_n 1, 1) := dk_76 (dk_at dksL_law_0 7 rfl rfl)
theorem dL_law_8 : decode cL_law 8 = .ok (.new 10, 3) := dk_187 0 10 (dk_at dksL_law_0 8 rfl rfl)
theorem dL_law_11 : decode cL_law 11 = .ok (.dup, 1) := dk_89 (dk_at dksL_law_0 11 rfl rfl)
theorem dL_law_12 : decode cL_law 12 = .ok (.invokespecial 12, 3) := dk_183 0 12 (dk_at dksL_law_0 12 rfl rfl)
theorem dL_law_15 : decode cL_law 15 = .ok (.astore_n 2, 1) := dk_77 (dk_at dksL_law_0 15 rfl rfl)
theorem dL_law_16 : decode cL_law 16 = .ok (.iconst 0, 1) := dk_3 (dk_at dksL_law_0 16 rfl rfl)
theorem dL_law_17 : decode cL_law 17 = .ok (.istore_n 3, 1) := dk_62 (dk_at dksL_law_0 17 rfl rfl)
theorem dL_law_18 : decode cL_law 18 = .ok (.iload_n 3, 1) := dk_29 (dk_at dksL_law_0 18 rfl rfl)
theorem dL_law_19 : decode cL_law 19 = .ok (.aload_n 0, 1) := dk_42 (dk_at dksL_law_0 19 rfl rfl)
theorem dL_law_20 : decode cL_law 20 = .ok (.arraylength, 1) := dk_190 (dk_at dksL_law_0 20 rfl rfl)
theorem dL_law_21 : decode cL_law 21 = .ok (.bipush 7, 2) := dk_16 7 (dk_at dksL_law_0 21 rfl rfl)
theorem dL_law_23 : decode cL_law 23 = .ok (.isub, 1) := dk_100 (dk_at dksL_law_0 23 rfl rfl)
theorem dL_law_24 : decode cL_law 24 = .ok (.if_icmp .gt 1387, 3) := dk_163 5 107 (dk_at dksL_law_1 0 rfl rfl)
theorem dL_law_27 : decode cL_law 27 = .ok (.aload_n 0, 1) := dk_42 (dk_at dksL_law_1 3 rfl rfl)
theorem dL_law_28 : decode cL_law 28 = .ok (.iload_n 3, 1) := dk_29 (dk_at dksL_law_1 4 rfl rfl)
theorem dL_law_29 : decode cL_law 29 = .ok (.iaload, 1) := dk_46 (dk_at dksL_law_1 5 rfl rfl)
theorem dL_law_30 : decode cL_law 30 = .ok (.bipush 63, 2) := dk_16 63 (dk_at dksL_law_1 6 rfl rfl)
theorem dL_law_32 : decode cL_law 32 = .ok (.iand, 1) := dk_126 (dk_at dksL_law_1 8 rfl rfl)
theorem dL_law_33 : decode cL_law 33 = .ok (.tableswitch 1372 0 38 #[171, 204, 237, 260, 293, 317, 340, 393, 416, 449, 492, 515, 548, 581, 614, 667, 742, 765, 788, 801, 824, 857, 880, 903, 946, 969, 992, 1025, 1068, 1101, 1144, 1167, 1210, 1234, 1267, 1300, 1323, 1336, 1349], 171) := by decide +kernel
theorem dL_law_204 : decode cL_law 204 = .ok (.aload_n 1, 1) := dk_43 (dk_at dksL_law_3 0 rfl rfl)
theorem dL_law_205 : decode cL_law 205 = .ok (.aload_n 0, 1) := dk_42 (dk_at dksL_law_3 1 rfl rfl)
theorem dL_law_206 : decode cL_law 206 = .ok (.iload_n 3, 1) := dk_29 (dk_at dksL_law_3 2 rfl rfl)
theorem dL_law_207 : decode cL_law 207 = .ok (.iconst 1, 1) := dk_4 (dk_at dksL_law_3 3 rfl rfl)
theorem dL_law_208 : decode cL_law 208 = .ok (.iadd, 1) := dk_96 (dk_at dksL_law_3 4 rfl rfl)
theorem dL_law_209 : decode cL_law 209 = .ok (.iaload, 1) := dk_46 (dk_at dksL_law_3 5 rfl rfl)
theorem dL_law_210 : decode cL_law 210 = .ok (.aload_n 0, 1) := dk_42 (dk_at dksL_law_3 6 rfl rfl)
theorem dL_law_211 : decode cL_law 211 = .ok (.iload_n 3, 1) := dk_29 (dk_at dksL_law_3 7 rfl rfl)
theorem dL_law_212 : decode cL_law 212 = .ok (.iconst 2, 1) := dk_5 (dk_at dksL_law_3 8 rfl rfl)
theorem dL_law_213 : decode cL_law 213 = .ok (.iadd, 1) := dk_96 (dk_at dksL_law_3 9 rfl rfl)
theorem dL_law_214 : decode cL_law 214 = .ok (.iaload, 1) := dk_46 (dk_at dksL_law_3 10 rfl rfl)
theorem dL_law_215 : decode cL_law 215 = .ok (.invokevirtual 13, 3) := dk_182 0 13 (dk_at dksL_law_3 11 rfl rfl)
theorem dL_law_218 : decode cL_law 218 = .ok (.aload_n 2, 1) := dk_44 (dk_at dksL_law_3 14 rfl rfl)
theorem dL_law_219 : decode cL_law 219 = .ok (.aload_n 0, 1) := dk_42 (dk_at dksL_law_3 15 rfl rfl)
theorem dL_law_220 : decode cL_law 220 = .ok (.iload_n 3, 1) := dk_29 (dk_at dksL_law_3 16 rfl rfl)
theorem dL_law_221 : decode cL_law 221 = .ok (.iconst 1, 1) := dk_4 (dk_at dksL_law_3 17 rfl rfl)
theorem dL_law_222 : decode cL_law 222 = .ok (.iadd, 1) := dk_96 (dk_at dksL_law_3 18 rfl rfl)
theorem dL_law_223 : decode cL_law 223 = .ok (.iaload, 1) := dk_46 (dk_at dksL_law_3 19 rfl rfl)
theorem dL_law_224 : decode cL_law 224 = .ok (.aload_n 0, 1) := dk_42 (dk_at dksL_law_3 20 rfl rfl)
theorem dL_law_225 : decode cL_law 225 = .ok (.iload_n 3, 1) := dk_29 (dk_at dksL_law_3 21 rfl rfl)
theorem dL_law_226 : decode cL_law 226 = .ok (.iconst 2, 1) := dk_5 (dk_at dksL_law_3 22 rfl rfl)
theorem dL_law_227 : decode cL_law 227 = .ok (.iadd, 1) := dk_96 (dk_at dksL_law_3 23 rfl rfl)
theorem dL_law_228 : decode cL_law 228 = .ok (.iaload, 1) := dk_46 (dk_at dksL_law_4 0 rfl rfl)
theorem dL_law_229 : decode cL_law 229 = .ok (.invokevirtual 17, 3) := dk_182 0 17 (dk_at dksL_law_4 1 rfl rfl)
theorem dL_law_232 : decode cL_law 232 = .ok (.if_icmp .eq 1173, 3) := dk_159 4 149 (dk_at dksL_law_4 4 rfl rfl)
theorem dL_law_235 : decode cL_law 235 = .ok (.iconst 0, 1) := dk_3 (dk_at dksL_law_4 7 rfl rfl)
theorem dL_law_236 : decode cL_law 236 = .ok (.ireturn, 1) := dk_172 (dk_at dksL_law_4 8 rfl rfl)
theorem dL_law_237 : decode cL_law 237 = .ok (.aload_n 1, 1) := dk_43 (dk_at dksL_law_4 9 rfl rfl)
theorem dL_law_238 : decode cL_law 238 = .ok (.aload_n 0, 1) := dk_42 (dk_at dksL_law_4 10 rfl rfl)
theorem dL_law_239 : decode cL_law 239 = .ok (.iload_n 3, 1) := dk_29 (dk_at dksL_law_4 11 rfl rfl)
theorem dL_law_240 : decode cL_law 240 = .ok (.iconst 1, 1) := dk_4 (dk_at dksL_law_4 12 rfl rfl)
theorem dL_law_241 : decode cL_law 241 = .ok (.iadd, 1) := dk_96 (dk_at dksL_law_4 13 rfl rfl)
theorem dL_law_242 : decode cL_law 242 = .ok (.iaload, 1) := dk_46 (dk_at dksL_law_4 14 rfl rfl)
theorem dL_law_243 : decode cL_law 243 = .ok (.aload_n 0, 1) := dk_42 (dk_at dksL_law_4 15 rfl rfl)
theorem dL_law_244 : decode cL_law 244 = .ok (.iload_n 3, 1) := dk_29 (dk_at dksL_law_4 16 rfl rfl)
theorem dL_law_245 : decode cL_law 245 = .ok (.iconst 2, 1) := dk_5 (dk_at dksL_law_4 17 rfl rfl)
theorem dL_law_246 : decode cL_law 246 = .ok (.iadd, 1) := dk_96 (dk_at dksL_law_4 18 rfl rfl)
theorem dL_law_247 : decode cL_law 247 = .ok (.iaload, 1) := dk_46 (dk_at dksL_law_4 19 rfl rfl)
theorem dL_law_248 : decode cL_law 248 = .ok (.invokevirtual 18, 3) := dk_182 0 18 (dk_at dksL_law_4 20 rfl rfl)
theorem dL_law_251 : decode cL_law 251 = .ok (.aload_n 2, 1) := dk_44 (dk_at dksL_law_4 23 rfl rfl)
theorem dL_law_252 : decode cL_law 252 = .ok (.aload_n 0, 1) := dk_42 (dk_at dksL_law_5 0 rfl rfl)
theorem dL_law_253 : decode cL_law 253 = .ok (.iload_n 3, 1) := dk_29 (dk_at dksL_law_5 1 rfl rfl)
theorem dL_law_254 : decode cL_law 254 = .ok (.iconst 1, 1) := dk_4 (dk_at dksL_law_5 2 rfl rfl)
theorem dL_law_255 : decode cL_law 255 = .ok (.iadd, 1) := dk_96 (dk_at dksL_law_5 3 rfl rfl)
theorem dL_law_256 : decode cL_law 256 = .ok (.iaload, 1) := dk_46 (dk_at dksL_law_5 4 rfl rfl)
theorem dL_law_257 : decode cL_law 257 = .ok (.aload_n 0, 1) := dk_42 (dk_at dksL_law_5 5 rfl rfl)
theorem dL_law_258 : decode cL_law 258 = .ok (.iload_n 3, 1) := dk_29 (dk_at dksL_law_5 6 rfl rfl)
theorem dL_law_259 : decode cL_law 259 = .ok (.iconst 2, 1) := dk_5 (dk_at dksL_law_5 7 rfl rfl)
theorem dL_law_260 : decode cL_law 260 = .ok (.iadd, 1) := dk_96 (dk_at dksL_law_5 8 rfl rfl)
theorem dL_law_261 : decode cL_law 261 = .ok (.iaload, 1) := dk_46 (dk_at dksL_law_5 9 rfl rfl)
theorem dL_law_262 : decode cL_law 262 = .ok (.invokevirtual 21, 3) := dk_182 0 21 (dk_at dksL_law_5 10 rfl rfl)
theorem dL_law_265 : decode cL_law 265 = .ok (.if_icmp .eq 1140, 3) := dk_159 4 116 (dk_at dksL_law_5 13 rfl rfl)
theorem dL_law_268 : decode cL_law 268 = .ok (.iconst 0, 1) := dk_3 (dk_at dksL_law_5 16 rfl rfl)
theorem dL_law_269 : decode cL_law 269 = .ok (.ireturn, 1) := dk_172 (dk_at dksL_law_5 17 rfl rfl)
theorem dL_law_270 : decode cL_law 270 = .ok (.aload_n 1, 1) := dk_43 (dk_at dksL_law_5 18 rfl rfl)
theorem dL_law_271 : decode cL_law 271 = .ok (.aload_n 0, 1) := dk_42 (dk_at dksL_law_5 19 rfl rfl)
theorem dL_law_272 : decode cL_law 272 = .ok (.iload_n 3, 1) := dk_29 (dk_at dksL_law_5 20 rfl rfl)
theorem dL_law_273 : decode cL_law 273 = .ok (.iconst 1, 1) := dk_4 (dk_at dksL_law_5 21 rfl rfl)
theorem dL_law_274 : decode cL_law 274 = .ok (.iadd, 1) := dk_96 (dk_at dksL_law_5 22 rfl rfl)
theorem dL_law_275 : decode cL_law 275 = .ok (.iaload, 1) := dk_46 (dk_at dksL_law_5 23 rfl rfl)
theorem dL_law_276 : decode cL_law 276 = .ok (.invokevirtual 22, 3) := dk_182 0 22 (dk_at dksL_law_6 0 rfl rfl)
theorem dL_law_279 : decode cL_law 279 = .ok (.aload_n 2, 1) := dk_44 (dk_at dksL_law_6 3 rfl rfl)
theorem dL_law_280 : decode cL_law 280 = .ok (.aload_n 0, 1) := dk_42 (dk_at dksL_law_6 4 rfl rfl)
theorem dL_law_281 : decode cL_law 281 = .ok (.iload_n 3, 1) := dk_29 (dk_at dksL_law_6 5 rfl rfl)
theorem dL_law_282 : decode cL_law 282 = .ok (.iconst 1, 1) := dk_4 (dk_at dksL_law_6 6 rfl rfl)
theorem dL_law_283 : decode cL_law 283 = .ok (.iadd, 1) := dk_96 (dk_at dksL_law_6 7 rfl rfl)
theorem dL_law_284 : decode cL_law 284 = .ok (.iaload, 1) := dk_46 (dk_at dksL_law_6 8 rfl rfl)
theorem dL_law_285 : decode cL_law 285 = .ok (.invokevirtual 26, 3) := dk_182 0 26 (dk_at dksL_law_6 9 rfl rfl)
theorem dL_law_288 : decode cL_law 288 = .ok (.if_icmp .eq 1117, 3) := dk_159 4 93 (dk_at dksL_law_6 12 rfl rfl)
theorem dL_law_291 : decode cL_law 291 = .ok (.iconst 0, 1) := dk_3 (dk_at dksL_law_6 15 rfl rfl)
theorem dL_law_292 : decode cL_law 292 = .ok (.ireturn, 1) := dk_172 (dk_at dksL_law_6 16 rfl rfl)
theorem dL_law_293 : decode cL_law 293 = .ok (.aload_n 1, 1) := dk_43 (dk_at dksL_law_6 17 rfl rfl)
theorem dL_law_294 : decode cL_law 294 = .ok (.aload_n 0, 1) := dk_42 (dk_at dksL_law_6 18 rfl rfl)
theorem dL_law_295 : decode cL_law 295 = .ok (.iload_n 3, 1) := dk_29 (dk_at dksL_law_6 19 rfl rfl)
theorem dL_law_296 : decode cL_law 296 = .ok (.iconst 1, 1) := dk_4 (dk_at dksL_law_6 20 rfl rfl)
theorem dL_law_297 : decode cL_law 297 = .ok (.iadd, 1) := dk_96 (dk_at dksL_law_6 21 rfl rfl)
theorem dL_law_298 : decode cL_law 298 = .ok (.iaload, 1) := dk_46 (dk_at dksL_law_6 22 rfl rfl)
theorem dL_law_299 : decode cL_law 299 = .ok (.aload_n 0, 1) := dk_42 (dk_at dksL_law_6 23 rfl rfl)
theorem dL_law_300 : decode cL_law 300 = .ok (.iload_n 3, 1) := dk_29 (dk_at dksL_law_7 0 rfl rfl)
theorem dL_law_301 : decode cL_law 301 = .ok (.iconst 2, 1) := dk_5 (dk_at dksL_law_7 1 rfl rfl)
theorem dL_law_302 : decode cL_law 302 = .ok (.iadd, 1) := dk_96 (dk_at dksL_law_7 2 rfl rfl)
theorem dL_law_303 : decode cL_law 303 = .ok (.iaload, 1) := dk_46 (dk_at dksL_law_7 3 rfl rfl)
theorem dL_law_304 : decode cL_law 304 = .ok (.invokevirtual 27, 3) := dk_182 0 27 (dk_at dksL_law_7 4 rfl rfl)
theorem dL_law_307 : decode cL_law 307 = .ok (.aload_n 2, 1) := dk_44 (dk_at dksL_law_7 7 rfl rfl)
theorem dL_law_308 : decode cL_law 308 = .ok (.aload_n 0, 1) := dk_42 (dk_at dksL_law_7 8 rfl rfl)
theorem dL_law_309 : decode cL_law 309 = .ok (.iload_n 3, 1) := dk_29 (dk_at dksL_law_7 9 rfl rfl)
theorem dL_law_310 : decode cL_law 310 = .ok (.iconst 1, 1) := dk_4 (dk_at dksL_law_7 10 rfl rfl)
theorem dL_law_311 : decode cL_law 311 = .ok (.iadd, 1) := dk_96 (dk_at dksL_law_7 11 rfl rfl)
theorem dL_law_312 : decode cL_law 312 = .ok (.iaload, 1) := dk_46 (dk_at dksL_law_7 12 rfl rfl)
theorem dL_law_313 : decode cL_law 313 = .ok (.aload_n 0, 1) := dk_42 (dk_at dksL_law_7 13 rfl rfl)
theorem dL_law_314 : decode cL_law 314 = .ok (.iload_n 3, 1) := dk_29 (dk_at dksL_law_7 14 rfl rfl)
theorem dL_law_315 : decode cL_law 315 = .ok (.iconst 2, 1) := dk_5 (dk_at dksL_law_7 15 rfl rfl)
theorem dL_law_316 : decode cL_law 316 = .ok (.iadd, 1) := dk_96 (dk_at dksL_law_7 16 rfl rfl)
theorem dL_law_317 : decode cL_law 317 = .ok (.iaload, 1) := dk_46 (dk_at dksL_law_7 17 rfl rfl)
theorem dL_law_318 : decode cL_law 318 = .ok (.invokevirtual 30, 3) := dk_182 0 30 (dk_at dksL_law_7 18 rfl rfl)
theorem dL_law_321 : decode cL_law 321 = .ok (.if_icmp .eq 1084, 3) := dk_159 4 60 (dk_at dksL_law_7 21 rfl rfl)
theorem dL_law_324 : decode cL_law 324 = .ok (.iconst 0, 1) := dk_3 (dk_at dksL_law_8 0 rfl rfl)
theorem dL_law_325 : decode cL_law 325 = .ok (.ireturn, 1) := dk_172 (dk_at dksL_law_8 1 rfl rfl)
theorem dL_law_326 : decode cL_law 326 = .ok (.aload_n 1, 1) := dk_43 (dk_at dksL_law_8 2 rfl rfl)
theorem dL_law_327 : decode cL_law 327 = .ok (.aload_n 0, 1) := dk_42 (dk_at dksL_law_8 3 rfl rfl)
theorem dL_law_328 : decode cL_law 328 = .ok (.iload_n 3, 1) := dk_29 (dk_at dksL_law_8 4 rfl rfl)
theorem dL_law_329 : decode cL_law 329 = .ok (.iconst 1, 1) := dk_4 (dk_at dksL_law_8 5 rfl rfl)
theorem dL_law_330 : decode cL_law 330 = .ok (.iadd, 1) := dk_96 (dk_at dksL_law_8 6 rfl rfl)
theorem dL_law_331 : decode cL_law 331 = .ok (.iaload, 1) := dk_46 (dk_at dksL_law_8 7 rfl rfl)
theorem dL_law_332 : decode cL_law 332 = .ok (.invokevirtual 31, 3) := dk_182 0 31 (dk_at dksL_law_8 8 rfl rfl)
theorem dL_law_335 : decode cL_law 335 = .ok (.aload_n 2, 1) := dk_44 (dk_at dksL_law_8 11 rfl rfl)
theorem dL_law_336 : decode cL_law 336 = .ok (.aload_n 0, 1) := dk_42 (dk_at dksL_law_8 12 rfl rfl)
theorem dL_law_337 : decode cL_law 337 = .ok (.iload_n 3, 1) := dk_29 (dk_at dksL_law_8 13 rfl rfl)
theorem dL_law_338 : decode cL_law 338 = .ok (.iconst 1, 1) := dk_4 (dk_at dksL_law_8 14 rfl rfl)
theorem dL_law_339 : decode cL_law 339 = .ok (.iadd, 1) := dk_96 (dk_at dksL_law_8 15 rfl rfl)
theorem dL_law_340 : decode cL_law 340 = .ok (.iaload, 1) := dk_46 (dk_at dksL_law_8 16 rfl rfl)
theorem dL_law_341 : decode cL_law 341 = .ok (.invokevirtual 35, 3) := dk_182 0 35 (dk_at dksL_law_8 17 rfl rfl)
theorem dL_law_344 : decode cL_law 344 = .ok (.lcmp, 1) := dk_148 (dk_at dksL_law_8 20 rfl rfl)
theorem dL_law_345 : decode cL_law 345 = .ok (.ifCond .eq 1060, 3) := dk_153 4 36 (dk_at dksL_law_8 21 rfl rfl)
theorem dL_law_348 : decode cL_law 348 = .ok (.iconst 0, 1) := dk_3 (dk_at dksL_law_9 0 rfl rfl)
theorem dL_law_349 : decode cL_law 349 = .ok (.ireturn, 1) := dk_172 (dk_at dksL_law_9 1 rfl rfl)
theorem dL_law_350 : decode cL_law 350 = .ok (.aload_n 1, 1) := dk_43 (dk_at dksL_law_9 2 rfl rfl)
theorem dL_law_351 : decode cL_law 351 = .ok (.aload_n 0, 1) := dk_42 (dk_at dksL_law_9 3 rfl rfl)
theorem dL_law_352 : decode cL_law 352 = .ok (.iload_n 3, 1) := dk_29 (dk_at dksL_law_9 4 rfl rfl)
theorem dL_law_353 : decode cL_law 353 = .ok (.iconst 1, 1) := dk_4 (dk_at dksL_law_9 5 rfl rfl)
theorem dL_law_354 : decode cL_law 354 = .ok (.iadd, 1) := dk_96 (dk_at dksL_law_9 6 rfl rfl)
theorem dL_law_355 : decode cL_law 355 = .ok (.iaload, 1) := dk_46 (dk_at dksL_law_9 7 rfl rfl)
theorem dL_law_356 : decode cL_law 356 = .ok (.invokevirtual 36, 3) := dk_182 0 36 (dk_at dksL_law_9 8 rfl rfl)
theorem dL_law_359 : decode cL_law 359 = .ok (.aload_n 2, 1) := dk_44 (dk_at dksL_law_9 11 rfl rfl)
theorem dL_law_360 : decode cL_law 360 = .ok (.aload_n 0, 1) := dk_42 (dk_at dksL_law_9 12 rfl rfl)
theorem dL_law_361 : decode cL_law 361 = .ok (.iload_n 3, 1) := dk_29 (dk_at dksL_law_9 13 rfl rfl)
theorem dL_law_362 : decode cL_law 362 = .ok (.iconst 1, 1) := dk_4 (dk_at dksL_law_9 14 rfl rfl)
theorem dL_law_363 : decode cL_law 363 = .ok (.iadd, 1) := dk_96 (dk_at dksL_law_9 15 rfl rfl)
theorem dL_law_364 : decode cL_law 364 = .ok (.iaload, 1) := dk_46 (dk_at dksL_law_9 16 rfl rfl)
theorem dL_law_365 : decode cL_law 365 = .ok (.invokevirtual 39, 3) := dk_182 0 39 (dk_at dksL_law_9 17 rfl rfl)
theorem dL_law_368 : decode cL_law 368 = .ok (.if_icmp .eq 1037, 3) := dk_159 4 13 (dk_at dksL_law_9 20 rfl rfl)
theorem dL_law_371 : decode cL_law 371 = .ok (.iconst 0, 1) := dk_3 (dk_at dksL_law_9 23 rfl rfl)
theorem dL_law_372 : decode cL_law 372 = .ok (.ireturn, 1) := dk_172 (dk_at dksL_law_10 0 rfl rfl)
theorem dL_law_373 : decode cL_law 373 = .ok (.aload_n 1, 1) := dk_43 (dk_at dksL_law_10 1 rfl rfl)
theorem dL_law_374 : decode cL_law 374 = .ok (.aload_n 0, 1) := dk_42 (dk_at dksL_law_10 2 rfl rfl)
theorem dL_law_375 : decode cL_law 375 = .ok (.iload_n 3, 1) := dk_29 (dk_at dksL_law_10 3 rfl rfl)
theorem dL_law_376 : decode cL_law 376 = .ok (.iconst 1, 1) := dk_4 (dk_at dksL_law_10 4 rfl rfl)
theorem dL_law_377 : decode cL_law 377 = .ok (.iadd, 1) := dk_96 (dk_at dksL_law_10 5 rfl rfl)
theorem dL_law_378 : decode cL_law 378 = .ok (.iaload, 1) := dk_46 (dk_at dksL_law_10 6 rfl rfl)
theorem dL_law_379 : decode cL_law 379 = .ok (.aload_n 0, 1) := dk_42 (dk_at dksL_law_10 7 rfl rfl)
theorem dL_law_380 : decode cL_law 380 = .ok (.iload_n 3, 1) := dk_29 (dk_at dksL_law_10 8 rfl rfl)
theorem dL_law_381 : decode cL_law 381 = .ok (.iconst 2, 1) := dk_5 (dk_at dksL_law_10 9 rfl rfl)
theorem dL_law_382 : decode cL_law 382 = .ok (.iadd, 1) := dk_96 (dk_at dksL_law_10 10 rfl rfl)
theorem dL_law_383 : decode cL_law 383 = .ok (.iaload, 1) := dk_46 (dk_at dksL_law_10 11 rfl rfl)
theorem dL_law_384 : decode cL_law 384 = .ok (.aload_n 0, 1) := dk_42 (dk_at dksL_law_10 12 rfl rfl)
theorem dL_law_385 : decode cL_law 385 = .ok (.iload_n 3, 1) := dk_29 (dk_at dksL_law_10 13 rfl rfl)
theorem dL_law_386 : decode cL_law 386 = .ok (.iconst 3, 1) := dk_6 (dk_at dksL_law_10 14 rfl rfl)
theorem dL_law_387 : decode cL_law 387 = .ok (.iadd, 1) := dk_96 (dk_at dksL_law_10 15 rfl rfl)
theorem dL_law_388 : decode cL_law 388 = .ok (.iaload, 1) := dk_46 (dk_at dksL_law_10 16 rfl rfl)
theorem dL_law_389 : decode cL_law 389 = .ok (.aload_n 0, 1) := dk_42 (dk_at dksL_law_10 17 rfl rfl)
theorem dL_law_390 : decode cL_law 390 = .ok (.iload_n 3, 1) := dk_29 (dk_at dksL_law_10 18 rfl rfl)
theorem dL_law_391 : decode cL_law 391 = .ok (.iconst 4, 1) := dk_7 (dk_at dksL_law_10 19 rfl rfl)
theorem dL_law_392 : decode cL_law 392 = .ok (.iadd, 1) := dk_96 (dk_at dksL_law_10 20 rfl rfl)
theorem dL_law_393 : decode cL_law 393 = .ok (.iaload, 1) := dk_46 (dk_at dksL_law_10 21 rfl rfl)
theorem dL_law_394 : decode cL_law 394 = .ok (.invokevirtual 40, 3) := dk_182 0 40 (dk_at dksL_law_11 0 rfl rfl)
theorem dL_law_397 : decode cL_law 397 = .ok (.aload_n 2, 1) := dk_44 (dk_at dksL_law_11 3 rfl rfl)
theorem dL_law_398 : decode cL_law 398 = .ok (.aload_n 0, 1) := dk_42 (dk_at dksL_law_11 4 rfl rfl)
theorem dL_law_399 : decode cL_law 399 = .ok (.iload_n 3, 1) := dk_29 (dk_at dksL_law_11 5 rfl rfl)
theorem dL_law_400 : decode cL_law 400 = .ok (.iconst 1, 1) := dk_4 (dk_at dksL_law_11 6 rfl rfl)
theorem dL_law_401 : decode cL_law 401 = .ok (.iadd, 1) := dk_96 (dk_at dksL_law_11 7 rfl rfl)
theorem dL_law_402 : decode cL_law 402 = .ok (.iaload, 1) := dk_46 (dk_at dksL_law_11 8 rfl rfl)
theorem dL_law_403 : decode cL_law 403 = .ok (.aload_n 0, 1) := dk_42 (dk_at dksL_law_11 9 rfl rfl)
theorem dL_law_404 : decode cL_law 404 = .ok (.iload_n 3, 1) := dk_29 (dk_at dksL_law_11 10 rfl rfl)
theorem dL_law_405 : decode cL_law 405 = .ok (.iconst 2, 1) := dk_5 (dk_at dksL_law_11 11 rfl rfl)
theorem dL_law_406 : decode cL_law 406 = .ok (.iadd, 1) := dk_96 (dk_at dksL_law_11 12 rfl rfl)
theorem dL_law_407 : decode cL_law 407 = .ok (.iaload, 1) := dk_46 (dk_at dksL_law_11 13 rfl rfl)
theorem dL_law_408 : decode cL_law 408 = .ok (.aload_n 0, 1) := dk_42 (dk_at dksL_law_11 14 rfl rfl)
theorem dL_law_409 : decode cL_law 409 = .ok (.iload_n 3, 1) := dk_29 (dk_at dksL_law_11 15 rfl rfl)
theorem dL_law_410 : decode cL_law 410 = .ok (.iconst 3, 1) := dk_6 (dk_at dksL_law_11 16 rfl rfl)
theorem dL_law_411 : decode cL_law 411 = .ok (.iadd, 1) := dk_96 (dk_at dksL_law_11 17 rfl rfl)
theorem dL_law_412 : decode cL_law 412 = .ok (.iaload, 1) := dk_46 (dk_at dksL_law_11 18 rfl rfl)
theorem dL_law_413 : decode cL_law 413 = .ok (.aload_n 0, 1) := dk_42 (dk_at dksL_law_11 19 rfl rfl)
theorem dL_law_414 : decode cL_law 414 = .ok (.iload_n 3, 1) := dk_29 (dk_at dksL_law_11 20 rfl rfl)
theorem dL_law_415 : decode cL_law 415 = .ok (.iconst 4, 1) := dk_7 (dk_at dksL_law_11 21 rfl rfl)
theorem dL_law_416 : decode cL_law 416 = .ok (.iadd, 1) := dk_96 (dk_at dksL_law_11 22 rfl rfl)
theorem dL_law_417 : decode cL_law 417 = .ok (.iaload, 1) := dk_46 (dk_at dksL_law_11 23 rfl rfl)
theorem dL_law_418 : decode cL_law 418 = .ok (.invokevirtual 44, 3) := dk_182 0 44 (dk_at dksL_law_12 0 rfl rfl)
theorem dL_law_421 : decode cL_law 421 = .ok (.if_icmp .eq 984, 3) := dk_159 3 216 (dk_at dksL_law_12 3 rfl rfl)
theorem dL_law_424 : decode cL_law 424 = .ok (.iconst 0, 1) := dk_3 (dk_at dksL_law_12 6 rfl rfl)
theorem dL_law_425 : decode cL_law 425 = .ok (.ireturn, 1) := dk_172 (dk_at dksL_law_12 7 rfl rfl)
theorem dL_law_426 : decode cL_law 426 = .ok (.aload_n 1, 1) := dk_43 (dk_at dksL_law_12 8 rfl rfl)
theorem dL_law_427 : decode cL_law 427 = .ok (.aload_n 0, 1) := dk_42 (dk_at dksL_law_12 9 rfl rfl)
theorem dL_law_428 : decode cL_law 428 = .ok (.iload_n 3, 1) := dk_29 (dk_at dksL_law_12 10 rfl rfl)
theorem dL_law_429 : decode cL_law 429 = .ok (.iconst 1, 1) := dk_4 (dk_at dksL_law_12 11 rfl rfl)
theorem dL_law_430 : decode cL_law 430 = .ok (.iadd, 1) := dk_96 (dk_at dksL_law_12 12 rfl rfl)
theorem dL_law_431 : decode cL_law 431 = .ok (.iaload, 1) := dk_46 (dk_at dksL_law_12 13 rfl rfl)
theorem dL_law_432 : decode cL_law 432 = .ok (.invokevirtual 45, 3) := dk_182 0 45 (dk_at dksL_law_12 14 rfl rfl)
theorem dL_law_435 : decode cL_law 435 = .ok (.aload_n 2, 1) := dk_44 (dk_at dksL_law_12 17 rfl rfl)
theorem dL_law_436 : decode cL_law 436 = .ok (.aload_n 0, 1) := dk_42 (dk_at dksL_law_12 18 rfl rfl)
theorem dL_law_437 : decode cL_law 437 = .ok (.iload_n 3, 1) := dk_29 (dk_at dksL_law_12 19 rfl rfl)
theorem dL_law_438 : decode cL_law 438 = .ok (.iconst 1, 1) := dk_4 (dk_at dksL_law_12 20 rfl rfl)
theorem dL_law_439 : decode cL_law 439 = .ok (.iadd, 1) := dk_96 (dk_at dksL_law_12 21 rfl rfl)
theorem dL_law_440 : decode cL_law 440 = .ok (.iaload, 1) := dk_46 (dk_at dksL_law_12 22 rfl rfl)
theorem dL_law_441 : decode cL_law 441 = .ok (.invokevirtual 48, 3) := dk_182 0 48 (dk_at dksL_law_13 0 rfl rfl)
theorem dL_law_444 : decode cL_law 444 = .ok (.if_icmp .eq 961, 3) := dk_159 3 193 (dk_at dksL_law_13 3 rfl rfl)
theorem dL_law_447 : decode cL_law 447 = .ok (.iconst 0, 1) := dk_3 (dk_at dksL_law_13 6 rfl rfl)
theorem dL_law_448 : decode cL_law 448 = .ok (.ireturn, 1) := dk_172 (dk_at dksL_law_13 7 rfl rfl)
theorem dL_law_449 : decode cL_law 449 = .ok (.aload_n 1, 1) := dk_43 (dk_at dksL_law_13 8 rfl rfl)
theorem dL_law_450 : decode cL_law 450 = .ok (.aload_n 0, 1) := dk_42 (dk_at dksL_law_13 9 rfl rfl)
theorem dL_law_451 : decode cL_law 451 = .ok (.iload_n 3, 1) := dk_29 (dk_at dksL_law_13 10 rfl rfl)
theorem dL_law_452 : decode cL_law 452 = .ok (.iconst 1, 1) := dk_4 (dk_at dksL_law_13 11 rfl rfl)
theorem dL_law_453 : decode cL_law 453 = .ok (.iadd, 1) := dk_96 (dk_at dksL_law_13 12 rfl rfl)
theorem dL_law_454 : decode cL_law 454 = .ok (.iaload, 1) := dk_46 (dk_at dksL_law_13 13 rfl rfl)
theorem dL_law_455 : decode cL_law 455 = .ok (.aload_n 0, 1) := dk_42 (dk_at dksL_law_13 14 rfl rfl)
theorem dL_law_456 : decode cL_law 456 = .ok (.iload_n 3, 1) := dk_29 (dk_at dksL_law_13 15 rfl rfl)
theorem dL_law_457 : decode cL_law 457 = .ok (.iconst 2, 1) := dk_5 (dk_at dksL_law_13 16 rfl rfl)
theorem dL_law_458 : decode cL_law 458 = .ok (.iadd, 1) := dk_96 (dk_at dksL_law_13 17 rfl rfl)
theorem dL_law_459 : decode cL_law 459 = .ok (.iaload, 1) := dk_46 (dk_at dksL_law_13 18 rfl rfl)
theorem dL_law_460 : decode cL_law 460 = .ok (.invokevirtual 49, 3) := dk_182 0 49 (dk_at dksL_law_13 19 rfl rfl)
theorem dL_law_463 : decode cL_law 463 = .ok (.aload_n 2, 1) := dk_44 (dk_at dksL_law_13 22 rfl rfl)
theorem dL_law_464 : decode cL_law 464 = .ok (.aload_n 0, 1) := dk_42 (dk_at dksL_law_13 23 rfl rfl)
theorem dL_law_465 : decode cL_law 465 = .ok (.iload_n 3, 1) := dk_29 (dk_at dksL_law_14 0 rfl rfl)
theorem dL_law_466 : decode cL_law 466 = .ok (.iconst 1, 1) := dk_4 (dk_at dksL_law_14 1 rfl rfl)
theorem dL_law_467 : decode cL_law 467 = .ok (.iadd, 1) := dk_96 (dk_at dksL_law_14 2 rfl rfl)
theorem dL_law_468 : decode cL_law 468 = .ok (.iaload, 1) := dk_46 (dk_at dksL_law_14 3 rfl rfl)
theorem dL_law_469 : decode cL_law 469 = .ok (.aload_n 0, 1) := dk_42 (dk_at dksL_law_14 4 rfl rfl)
theorem dL_law_470 : decode cL_law 470 = .ok (.iload_n 3, 1) := dk_29 (dk_at dksL_law_14 5 rfl rfl)
theorem dL_law_471 : decode cL_law 471 = .ok (.iconst 2, 1) := dk_5 (dk_at dksL_law_14 6 rfl rfl)
theorem dL_law_472 : decode cL_law 472 = .ok (.iadd, 1) := dk_96 (dk_at dksL_law_14 7 rfl rfl)
theorem dL_law_473 : decode cL_law 473 = .ok (.iaload, 1) := dk_46 (dk_at dksL_law_14 8 rfl rfl)
theorem dL_law_474 : decode cL_law 474 = .ok (.invokevirtual 52, 3) := dk_182 0 52 (dk_at dksL_law_14 9 rfl rfl)
theorem dL_law_477 : decode cL_law 477 = .ok (.if_icmp .eq 928, 3) := dk_159 3 160 (dk_at dksL_law_14 12 rfl rfl)
theorem dL_law_480 : decode cL_law 480 = .ok (.iconst 0, 1) := dk_3 (dk_at dksL_law_14 15 rfl rfl)
theorem dL_law_481 : decode cL_law 481 = .ok (.ireturn, 1) := dk_172 (dk_at dksL_law_14 16 rfl rfl)
theorem dL_law_482 : decode cL_law 482 = .ok (.aload_n 1, 1) := dk_43 (dk_at dksL_law_14 17 rfl rfl)
theorem dL_law_483 : decode cL_law 483 = .ok (.aload_n 0, 1) := dk_42 (dk_at dksL_law_14 18 rfl rfl)
theorem dL_law_484 : decode cL_law 484 = .ok (.iload_n 3, 1) := dk_29 (dk_at dksL_law_14 19 rfl rfl)
theorem dL_law_485 : decode cL_law 485 = .ok (.iconst 1, 1) := dk_4 (dk_at dksL_law_14 20 rfl rfl)
theorem dL_law_486 : decode cL_law 486 = .ok (.iadd, 1) := dk_96 (dk_at dksL_law_14 21 rfl rfl)
theorem dL_law_487 : decode cL_law 487 = .ok (.iaload, 1) := dk_46 (dk_at dksL_law_14 22 rfl rfl)
theorem dL_law_488 : decode cL_law 488 = .ok (.aload_n 0, 1) := dk_42 (dk_at dksL_law_14 23 rfl rfl)
theorem dL_law_489 : decode cL_law 489 = .ok (.iload_n 3, 1) := dk_29 (dk_at dksL_law_15 0 rfl rfl)
theorem dL_law_490 : decode cL_law 490 = .ok (.iconst 2, 1) := dk_5 (dk_at dksL_law_15 1 rfl rfl)
theorem dL_law_491 : decode cL_law 491 = .ok (.iadd, 1) := dk_96 (dk_at dksL_law_15 2 rfl rfl)
theorem dL_law_492 : decode cL_law 492 = .ok (.iaload, 1) := dk_46 (dk_at dksL_law_15 3 rfl rfl)
theorem dL_law_493 : decode cL_law 493 = .ok (.aload_n 0, 1) := dk_42 (dk_at dksL_law_15 4 rfl rfl)
theorem dL_law_494 : decode cL_law 494 = .ok (.iload_n 3, 1) := dk_29 (dk_at dksL_law_15 5 rfl rfl)
theorem dL_law_495 : decode cL_law 495 = .ok (.iconst 3, 1) := dk_6 (dk_at dksL_law_15 6 rfl rfl)
theorem dL_law_496 : decode cL_law 496 = .ok (.iadd, 1) := dk_96 (dk_at dksL_law_15 7 rfl rfl)
theorem dL_law_497 : decode cL_law 497 = .ok (.iaload, 1) := dk_46 (dk_at dksL_law_15 8 rfl rfl)
theorem dL_law_498 : decode cL_law 498 = .ok (.invokevirtual 53, 3) := dk_182 0 53 (dk_at dksL_law_15 9 rfl rfl)
theorem dL_law_501 : decode cL_law 501 = .ok (.aload_n 2, 1) := dk_44 (dk_at dksL_law_15 12 rfl rfl)
theorem dL_law_502 : decode cL_law 502 = .ok (.aload_n 0, 1) := dk_42 (dk_at dksL_law_15 13 rfl rfl)
theorem dL_law_503 : decode cL_law 503 = .ok (.iload_n 3, 1) := dk_29 (dk_at dksL_law_15 14 rfl rfl)
theorem dL_law_504 : decode cL_law 504 = .ok (.iconst 1, 1) := dk_4 (dk_at dksL_law_15 15 rfl rfl)
theorem dL_law_505 : decode cL_law 505 = .ok (.iadd, 1) := dk_96 (dk_at dksL_law_15 16 rfl rfl)
theorem dL_law_506 : decode cL_law 506 = .ok (.iaload, 1) := dk_46 (dk_at dksL_law_15 17 rfl rfl)
theorem dL_law_507 : decode cL_law 507 = .ok (.aload_n 0, 1) := dk_42 (dk_at dksL_law_15 18 rfl rfl)
theorem dL_law_508 : decode cL_law 508 = .ok (.iload_n 3, 1) := dk_29 (dk_at dksL_law_15 19 rfl rfl)
theorem dL_law_509 : decode cL_law 509 = .ok (.iconst 2, 1) := dk_5 (dk_at dksL_law_15 20 rfl rfl)
theorem dL_law_510 : decode cL_law 510 = .ok (.iadd, 1) := dk_96 (dk_at dksL_law_15 21 rfl rfl)
theorem dL_law_511 : decode cL_law 511 = .ok (.iaload, 1) := dk_46 (dk_at dksL_law_15 22 rfl rfl)
theorem dL_law_512 : decode cL_law 512 = .ok (.aload_n 0, 1) := dk_42 (dk_at dksL_law_15 23 rfl rfl)
theorem dL_law_513 : decode cL_law 513 = .ok (.iload_n 3, 1) := dk_29 (dk_at dksL_law_16 0 rfl rfl)
theorem dL_law_514 : decode cL_law 514 = .ok (.iconst 3, 1) := dk_6 (dk_at dksL_law_16 1 rfl rfl)
theorem dL_law_515 : decode cL_law 515 = .ok (.iadd, 1) := dk_96 (dk_at dksL_law_16 2 rfl rfl)
theorem dL_law_516 : decode cL_law 516 = .ok (.iaload, 1) := dk_46 (dk_at dksL_law_16 3 rfl rfl)
theorem dL_law_517 : decode cL_law 517 = .ok (.invokevirtual 57, 3) := dk_182 0 57 (dk_at dksL_law_16 4 rfl rfl)
theorem dL_law_520 : decode cL_law 520 = .ok (.if_icmp .eq 885, 3) := dk_159 3 117 (dk_at dksL_law_16 7 rfl rfl)
theorem dL_law_523 : decode cL_law 523 = .ok (.iconst 0, 1) := dk_3 (dk_at dksL_law_16 10 rfl rfl)
theorem dL_law_524 : decode cL_law 524 = .ok (.ireturn, 1) := dk_172 (dk_at dksL_law_16 11 rfl rfl)
theorem dL_law_525 : decode cL_law 525 = .ok (.aload_n 1, 1) := dk_43 (dk_at dksL_law_16 12 rfl rfl)
theorem dL_law_526 : decode cL_law 526 = .ok (.aload_n 0, 1) := dk_42 (dk_at dksL_law_16 13 rfl rfl)
theorem dL_law_527 : decode cL_law 527 = .ok (.iload_n 3, 1) := dk_29 (dk_at dksL_law_16 14 rfl rfl)
theorem dL_law_528 : decode cL_law 528 = .ok (.iconst 1, 1) := dk_4 (dk_at dksL_law_16 15 rfl rfl)
theorem dL_law_529 : decode cL_law 529 = .ok (.iadd, 1) := dk_96 (dk_at dksL_law_16 16 rfl rfl)
theorem dL_law_530 : decode cL_law 530 = .ok (.iaload, 1) := dk_46 (dk_at dksL_law_16 17 rfl rfl)
theorem dL_law_531 : decode cL_law 531 = .ok (.invokevirtual 58, 3) := dk_182 0 58 (dk_at dksL_law_16 18 rfl rfl)
theorem dL_law_534 : decode cL_law 534 = .ok (.aload_n 2, 1) := dk_44 (dk_at dksL_law_16 21 rfl rfl)
theorem dL_law_535 : decode cL_law 535 = .ok (.aload_n 0, 1) := dk_42 (dk_at dksL_law_16 22 rfl rfl)
theorem dL_law_536 : decode cL_law 536 = .ok (.iload_n 3, 1) := dk_29 (dk_at dksL_law_16 23 rfl rfl)
theorem dL_law_537 : decode cL_law 537 = .ok (.iconst 1, 1) := dk_4 (dk_at dksL_law_17 0 rfl rfl)
theorem dL_law_538 : decode cL_law 538 = .ok (.iadd, 1) := dk_96 (dk_at dksL_law_17 1 rfl rfl)
theorem dL_law_539 : decode cL_law 539 = .ok (.iaload, 1) := dk_46 (dk_at dksL_law_17 2 rfl rfl)
theorem dL_law_540 : decode cL_law 540 = .ok (.invokevirtual 61, 3) := dk_182 0 61 (dk_at dksL_law_17 3 rfl rfl)
theorem dL_law_543 : decode cL_law 543 = .ok (.if_icmp .eq 862, 3) := dk_159 3 94 (dk_at dksL_law_17 6 rfl rfl)
theorem dL_law_546 : decode cL_law 546 = .ok (.iconst 0, 1) := dk_3 (dk_at dksL_law_17 9 rfl rfl)
theorem dL_law_547 : decode cL_law 547 = .ok (.ireturn, 1) := dk_172 (dk_at dksL_law_17 10 rfl rfl)
theorem dL_law_548 : decode cL_law 548 = .ok (.aload_n 1, 1) := dk_43 (dk_at dksL_law_17 11 rfl rfl)
theorem dL_law_549 : decode cL_law 549 = .ok (.aload_n 0, 1) := dk_42 (dk_at dksL_law_17 12 rfl rfl)
theorem dL_law_550 : decode cL_law 550 = .ok (.iload_n 3, 1) := dk_29 (dk_at dksL_law_17 13 rfl rfl)
theorem dL_law_551 : decode cL_law 551 = .ok (.iconst 1, 1) := dk_4 (dk_at dksL_law_17 14 rfl rfl)
theorem dL_law_552 : decode cL_law 552 = .ok (.iadd, 1) := dk_96 (dk_at dksL_law_17 15 rfl rfl)
theorem dL_law_553 : decode cL_law 553 = .ok (.iaload, 1) := dk_46 (dk_at dksL_law_17 16 rfl rfl)
theorem dL_law_554 : decode cL_law 554 = .ok (.aload_n 0, 1) := dk_42 (dk_at dksL_law_17 17 rfl rfl)
theorem dL_law_555 : decode cL_law 555 = .ok (.iload_n 3, 1) := dk_29 (dk_at dksL_law_17 18 rfl rfl)
theorem dL_law_556 : decode cL_law 556 = .ok (.iconst 2, 1) := dk_5 (dk_at dksL_law_17 19 rfl rfl)
theorem dL_law_557 : decode cL_law 557 = .ok (.iadd, 1) := dk_96 (dk_at dksL_law_17 20 rfl rfl)
theorem dL_law_558 : decode cL_law 558 = .ok (.iaload, 1) := dk_46 (dk_at dksL_law_17 21 rfl rfl)
theorem dL_law_559 : decode cL_law 559 = .ok (.invokevirtual 62, 3) := dk_182 0 62 (dk_at dksL_law_18 0 rfl rfl)
theorem dL_law_562 : decode cL_law 562 = .ok (.aload_n 2, 1) := dk_44 (dk_at dksL_law_18 3 rfl rfl)
theorem dL_law_563 : decode cL_law 563 = .ok (.aload_n 0, 1) := dk_42 (dk_at dksL_law_18 4 rfl rfl)
theorem dL_law_564 : decode cL_law 564 = .ok (.iload_n 3, 1) := dk_29 (dk_at dksL_law_18 5 rfl rfl)
theorem dL_law_565 : decode cL_law 565 = .ok (.iconst 1, 1) := dk_4 (dk_at dksL_law_18 6 rfl rfl)
theorem dL_law_566 : decode cL_law 566 = .ok (.iadd, 1) := dk_96 (dk_at dksL_law_18 7 rfl rfl)
theorem dL_law_567 : decode cL_law 567 = .ok (.iaload, 1) := dk_46 (dk_at dksL_law_18 8 rfl rfl)
theorem dL_law_568 : decode cL_law 568 = .ok (.aload_n 0, 1) := dk_42 (dk_at dksL_law_18 9 rfl rfl)
theorem dL_law_569 : decode cL_law 569 = .ok (.iload_n 3, 1) := dk_29 (dk_at dksL_law_18 10 rfl rfl)
theorem dL_law_570 : decode cL_law 570 = .ok (.iconst 2, 1) := dk_5 (dk_at dksL_law_18 11 rfl rfl)
theorem dL_law_571 : decode cL_law 571 = .ok (.iadd, 1) := dk_96 (dk_at dksL_law_18 12 rfl rfl)
theorem dL_law_572 : decode cL_law 572 = .ok (.iaload, 1) := dk_46 (dk_at dksL_law_18 13 rfl rfl)
theorem dL_law_573 : decode cL_law 573 = .ok (.invokevirtual 65, 3) := dk_182 0 65 (dk_at dksL_law_18 14 rfl rfl)
theorem dL_law_576 : decode cL_law 576 = .ok (.if_icmp .eq 829, 3) := dk_159 3 61 (dk_at dksL_law_18 17 rfl rfl)
theorem dL_law_579 : decode cL_law 579 = .ok (.iconst 0, 1) := dk_3 (dk_at dksL_law_18 20 rfl rfl)
theorem dL_law_580 : decode cL_law 580 = .ok (.ireturn, 1) := dk_172 (dk_at dksL_law_18 21 rfl rfl)
theorem dL_law_581 : decode cL_law 581 = .ok (.aload_n 1, 1) := dk_43 (dk_at dksL_law_18 22 rfl rfl)
theorem dL_law_582 : decode cL_law 582 = .ok (.aload_n 0, 1) := dk_42 (dk_at dksL_law_18 23 rfl rfl)
theorem dL_law_583 : decode cL_law 583 = .ok (.iload_n 3, 1) := dk_29 (dk_at dksL_law_19 0 rfl rfl)
theorem dL_law_584 : decode cL_law 584 = .ok (.iconst 1, 1) := dk_4 (dk_at dksL_law_19 1 rfl rfl)
theorem dL_law_585 : decode cL_law 585 = .ok (.iadd, 1) := dk_96 (dk_at dksL_law_19 2 rfl rfl)
theorem dL_law_586 : decode cL_law 586 = .ok (.iaload, 1) := dk_46 (dk_at dksL_law_19 3 rfl rfl)
theorem dL_law_587 : decode cL_law 587 = .ok (.aload_n 0, 1) := dk_42 (dk_at dksL_law_19 4 rfl rfl)
theorem dL_law_588 : decode cL_law 588 = .ok (.iload_n 3, 1) := dk_29 (dk_at dksL_law_19 5 rfl rfl)
theorem dL_law_589 : decode cL_law 589 = .ok (.iconst 2, 1) := dk_5 (dk_at dksL_law_19 6 rfl rfl)
theorem dL_law_590 : decode cL_law 590 = .ok (.iadd, 1) := dk_96 (dk_at dksL_law_19 7 rfl rfl)
theorem dL_law_591 : decode cL_law 591 = .ok (.iaload, 1) := dk_46 (dk_at dksL_law_19 8 rfl rfl)
theorem dL_law_592 : decode cL_law 592 = .ok (.invokevirtual 66, 3) := dk_182 0 66 (dk_at dksL_law_19 9 rfl rfl)
theorem dL_law_595 : decode cL_law 595 = .ok (.aload_n 2, 1) := dk_44 (dk_at dksL_law_19 12 rfl rfl)
theorem dL_law_596 : decode cL_law 596 = .ok (.aload_n 0, 1) := dk_42 (dk_at dksL_law_19 13 rfl rfl)
theorem dL_law_597 : decode cL_law 597 = .ok (.iload_n 3, 1) := dk_29 (dk_at dksL_law_19 14 rfl rfl)
theorem dL_law_598 : decode cL_law 598 = .ok (.iconst 1, 1) := dk_4 (dk_at dksL_law_19 15 rfl rfl)
theorem dL_law_599 : decode cL_law 599 = .ok (.iadd, 1) := dk_96 (dk_at dksL_law_19 16 rfl rfl)
theorem dL_law_600 : decode cL_law 600 = .ok (.iaload, 1) := dk_46 (dk_at dksL_law_19 17 rfl rfl)
theorem dL_law_601 : decode cL_law 601 = .ok (.aload_n 0, 1) := dk_42 (dk_at dksL_law_19 18 rfl rfl)
theorem dL_law_602 : decode cL_law 602 = .ok (.iload_n 3, 1) := dk_29 (dk_at dksL_law_19 19 rfl rfl)
theorem dL_law_603 : decode cL_law 603 = .ok (.iconst 2, 1) := dk_5 (dk_at dksL_law_19 20 rfl rfl)
theorem dL_law_604 : decode cL_law 604 = .ok (.iadd, 1) := dk_96 (dk_at dksL_law_19 21 rfl rfl)
theorem dL_law_605 : decode cL_law 605 = .ok (.iaload, 1) := dk_46 (dk_at dksL_law_19 22 rfl rfl)
theorem dL_law_606 : decode cL_law 606 = .ok (.invokevirtual 69, 3) := dk_182 0 69 (dk_at dksL_law_20 0 rfl rfl)
theorem dL_law_609 : decode cL_law 609 = .ok (.if_icmp .eq 796, 3) := dk_159 3 28 (dk_at dksL_law_20 3 rfl rfl)
theorem dL_law_612 : decode cL_law 612 = .ok (.iconst 0, 1) := dk_3 (dk_at dksL_law_20 6 rfl rfl)
theorem dL_law_613 : decode cL_law 613 = .ok (.ireturn, 1) := dk_172 (dk_at dksL_law_20 7 rfl rfl)
theorem dL_law_614 : decode cL_law 614 = .ok (.aload_n 1, 1) := dk_43 (dk_at dksL_law_20 8 rfl rfl)
theorem dL_law_615 : decode cL_law 615 = .ok (.aload_n 0, 1) := dk_42 (dk_at dksL_law_20 9 rfl rfl)
theorem dL_law_616 : decode cL_law 616 = .ok (.iload_n 3, 1) := dk_29 (dk_at dksL_law_20 10 rfl rfl)
theorem dL_law_617 : decode cL_law 617 = .ok (.iconst 1, 1) := dk_4 (dk_at dksL_law_20 11 rfl rfl)
theorem dL_law_618 : decode cL_law 618 = .ok (.iadd, 1) := dk_96 (dk_at dksL_law_20 12 rfl rfl)
theorem dL_law_619 : decode cL_law 619 = .ok (.iaload, 1) := dk_46 (dk_at dksL_law_20 13 rfl rfl)
theorem dL_law_620 : decode cL_law 620 = .ok (.aload_n 0, 1) := dk_42 (dk_at dksL_law_20 14 rfl rfl)
theorem dL_law_621 : decode cL_law 621 = .ok (.iload_n 3, 1) := dk_29 (dk_at dksL_law_20 15 rfl rfl)
theorem dL_law_622 : decode cL_law 622 = .ok (.iconst 2, 1) := dk_5 (dk_at dksL_law_20 16 rfl rfl)
theorem dL_law_623 : decode cL_law 623 = .ok (.iadd, 1) := dk_96 (dk_at dksL_law_20 17 rfl rfl)
theorem dL_law_624 : decode cL_law 624 = .ok (.iaload, 1) := dk_46 (dk_at dksL_law_20 18 rfl rfl)
theorem dL_law_625 : decode cL_law 625 = .ok (.invokevirtual 70, 3) := dk_182 0 70 (dk_at dksL_law_20 19 rfl rfl)
theorem dL_law_628 : decode cL_law 628 = .ok (.aload_n 2, 1) := dk_44 (dk_at dksL_law_20 22 rfl rfl)
theorem dL_law_629 : decode cL_law 629 = .ok (.aload_n 0, 1) := dk_42 (dk_at dksL_law_20 23 rfl rfl)
theorem dL_law_630 : decode cL_law 630 = .ok (.iload_n 3, 1) := dk_29 (dk_at dksL_law_21 0 rfl rfl)
theorem dL_law_631 : decode cL_law 631 = .ok (.iconst 1, 1) := dk_4 (dk_at dksL_law_21 1 rfl rfl)
theorem dL_law_632 : decode cL_law 632 = .ok (.iadd, 1) := dk_96 (dk_at dksL_law_21 2 rfl rfl)
theorem dL_law_633 : decode cL_law 633 = .ok (.iaload, 1) := dk_46 (dk_at dksL_law_21 3 rfl rfl)
theorem dL_law_634 : decode cL_law 634 = .ok (.aload_n 0, 1) := dk_42 (dk_at dksL_law_21 4 rfl rfl)
theorem dL_law_635 : decode cL_law 635 = .ok (.iload_n 3, 1) := dk_29 (dk_at dksL_law_21 5 rfl rfl)
theorem dL_law_636 : decode cL_law 636 = .ok (.iconst 2, 1) := dk_5 (dk_at dksL_law_21 6 rfl rfl)
theorem dL_law_637 : decode cL_law 637 = .ok (.iadd, 1) := dk_96 (dk_at dksL_law_21 7 rfl rfl)
theorem dL_law_638 : decode cL_law 638 = .ok (.iaload, 1) := dk_46 (dk_at dksL_law_21 8 rfl rfl)
theorem dL_law_639 : decode cL_law 639 = .ok (.invokevirtual 73, 3) := dk_182 0 73 (dk_at dksL_law_21 9 rfl rfl)
theorem dL_law_642 : decode cL_law 642 = .ok (.if_icmp .eq 763, 3) := dk_159 2 251 (dk_at dksL_law_21 12 rfl rfl)
theorem dL_law_645 : decode cL_law 645 = .ok (.iconst 0, 1) := dk_3 (dk_at dksL_law_21 15 rfl rfl)
theorem dL_law_646 : decode cL_law 646 = .ok (.ireturn, 1) := dk_172 (dk_at dksL_law_21 16 rfl rfl)
theorem dL_law_647 : decode cL_law 647 = .ok (.aload_n 1, 1) := dk_43 (dk_at dksL_law_21 17 rfl rfl)
theorem dL_law_648 : decode cL_law 648 = .ok (.aload_n 0, 1) := dk_42 (dk_at dksL_law_21 18 rfl rfl)
theorem dL_law_649 : decode cL_law 649 = .ok (.iload_n 3, 1) := dk_29 (dk_at dksL_law_21 19 rfl rfl)
theorem dL_law_650 : decode cL_law 650 = .ok (.iconst 1, 1) := dk_4 (dk_at dksL_law_21 20 rfl rfl)
theorem dL_law_651 : decode cL_law 651 = .ok (.iadd, 1) := dk_96 (dk_at dksL_law_21 21 rfl rfl)
theorem dL_law_652 : decode cL_law 652 = .ok (.iaload, 1) := dk_46 (dk_at dksL_law_21 22 rfl rfl)
theorem dL_law_653 : decode cL_law 653 = .ok (.aload_n 0, 1) := dk_42 (dk_at dksL_law_21 23 rfl rfl)
theorem dL_law_654 : decode cL_law 654 = .ok (.iload_n 3, 1) := dk_29 (dk_at dksL_law_22 0 rfl rfl)
theorem dL_law_655 : decode cL_law 655 = .ok (.iconst 2, 1) := dk_5 (dk_at dksL_law_22 1 rfl rfl)
theorem dL_law_656 : decode cL_law 656 = .ok (.iadd, 1) := dk_96 (dk_at dksL_law_22 2 rfl rfl)
theorem dL_law_657 : decode cL_law 657 = .ok (.iaload, 1) := dk_46 (dk_at dksL_law_22 3 rfl rfl)
theorem dL_law_658 : decode cL_law 658 = .ok (.aload_n 0, 1) := dk_42 (dk_at dksL_law_22 4 rfl rfl)
theorem dL_law_659 : decode cL_law 659 = .ok (.iload_n 3, 1) := dk_29 (dk_at dksL_law_22 5 rfl rfl)
theorem dL_law_660 : decode cL_law 660 = .ok (.iconst 3, 1) := dk_6 (dk_at dksL_law_22 6 rfl rfl)
theorem dL_law_661 : decode cL_law 661 = .ok (.iadd, 1) := dk_96 (dk_at dksL_law_22 7 rfl rfl)
theorem dL_law_662 : decode cL_law 662 = .ok (.iaload, 1) := dk_46 (dk_at dksL_law_22 8 rfl rfl)
theorem dL_law_663 : decode cL_law 663 = .ok (.aload_n 0, 1) := dk_42 (dk_at dksL_law_22 9 rfl rfl)
theorem dL_law_664 : decode cL_law 664 = .ok (.iload_n 3, 1) := dk_29 (dk_at dksL_law_22 10 rfl rfl)
theorem dL_law_665 : decode cL_law 665 = .ok (.iconst 4, 1) := dk_7 (dk_at dksL_law_22 11 rfl rfl)
theorem dL_law_666 : decode cL_law 666 = .ok (.iadd, 1) := dk_96 (dk_at dksL_law_22 12 rfl rfl)
theorem dL_law_667 : decode cL_law 667 = .ok (.iaload, 1) := dk_46 (dk_at dksL_law_22 13 rfl rfl)
theorem dL_law_668 : decode cL_law 668 = .ok (.invokevirtual 74, 3) := dk_182 0 74 (dk_at dksL_law_22 14 rfl rfl)
theorem dL_law_671 : decode cL_law 671 = .ok (.aload_n 2, 1) := dk_44 (dk_at dksL_law_22 17 rfl rfl)
theorem dL_law_672 : decode cL_law 672 = .ok (.aload_n 0, 1) := dk_42 (dk_at dksL_law_22 18 rfl rfl)
theorem dL_law_673 : decode cL_law 673 = .ok (.iload_n 3, 1) := dk_29 (dk_at dksL_law_22 19 rfl rfl)
theorem dL_law_674 : decode cL_law 674 = .ok (.iconst 1, 1) := dk_4 (dk_at dksL_law_22 20 rfl rfl)
theorem dL_law_675 : decode cL_law 675 = .ok (.iadd, 1) := dk_96 (dk_at dksL_law_22 21 rfl rfl)
theorem dL_law_676 : decode cL_law 676 = .ok (.iaload, 1) := dk_46 (dk_at dksL_law_22 22 rfl rfl)
theorem dL_law_677 : decode cL_law 677 = .ok (.aload_n 0, 1) := dk_42 (dk_at dksL_law_22 23 rfl rfl)
theorem dL_law_678 : decode cL_law 678 = .ok (.iload_n 3, 1) := dk_29 (dk_at dksL_law_23 0 rfl rfl)
theorem dL_law_679 : decode cL_law 679 = .ok (.iconst 2, 1) := dk_5 (dk_at dksL_law_23 1 rfl rfl)
theorem dL_law_680 : decode cL_law 680 = .ok (.iadd, 1) := dk_96 (dk_at dksL_law_23 2 rfl rfl)
theorem dL_law_681 : decode cL_law 681 = .ok (.iaload, 1) := dk_46 (dk_at dksL_law_23 3 rfl rfl)
theorem dL_law_682 : decode cL_law 682 = .ok (.aload_n 0, 1) := dk_42 (dk_at dksL_law_23 4 rfl rfl)
theorem dL_law_683 : decode cL_law 683 = .ok (.iload_n 3, 1) := dk_29 (dk_at dksL_law_23 5 rfl rfl)
theorem dL_law_684 : decode cL_law 684 = .ok (.iconst 3, 1) := dk_6 (dk_at dksL_law_23 6 rfl rfl)
theorem dL_law_685 : decode cL_law 685 = .ok (.iadd, 1) := dk_96 (dk_at dksL_law_23 7 rfl rfl)
theorem dL_law_686 : decode cL_law 686 = .ok (.iaload, 1) := dk_46 (dk_at dksL_law_23 8 rfl rfl)
theorem dL_law_687 : decode cL_law 687 = .ok (.aload_n 0, 1) := dk_42 (dk_at dksL_law_23 9 rfl rfl)
theorem dL_law_688 : decode cL_law 688 = .ok (.iload_n 3, 1) := dk_29 (dk_at dksL_law_23 10 rfl rfl)
theorem dL_law_689 : decode cL_law 689 = .ok (.iconst 4, 1) := dk_7 (dk_at dksL_law_23 11 rfl rfl)
theorem dL_law_690 : decode cL_law 690 = .ok (.iadd, 1) := dk_96 (dk_at dksL_law_23 12 rfl rfl)
theorem dL_law_691 : decode cL_law 691 = .ok (.iaload, 1) := dk_46 (dk_at dksL_law_23 13 rfl rfl)
theorem dL_law_692 : decode cL_law 692 = .ok (.invokevirtual 77, 3) := dk_182 0 77 (dk_at dksL_law_23 14 rfl rfl)
theorem dL_law_695 : decode cL_law 695 = .ok (.if_icmp .eq 710, 3) := dk_159 2 198 (dk_at dksL_law_23 17 rfl rfl)
theorem dL_law_698 : decode cL_law 698 = .ok (.iconst 0, 1) := dk_3 (dk_at dksL_law_23 20 rfl rfl)
theorem dL_law_699 : decode cL_law 699 = .ok (.ireturn, 1) := dk_172 (dk_at dksL_law_23 21 rfl rfl)
theorem dL_law_700 : decode cL_law 700 = .ok (.aload_n 1, 1) := dk_43 (dk_at dksL_law_23 22 rfl rfl)
theorem dL_law_701 : decode cL_law 701 = .ok (.aload_n 0, 1) := dk_42 (dk_at dksL_law_23 23 rfl rfl)
theorem dL_law_702 : decode cL_law 702 = .ok (.iload_n 3, 1) := dk_29 (dk_at dksL_law_24 0 rfl rfl)
theorem dL_law_703 : decode cL_law 703 = .ok (.iconst 1, 1) := dk_4 (dk_at dksL_law_24 1 rfl rfl)
theorem dL_law_704 : decode cL_law 704 = .ok (.iadd, 1) := dk_96 (dk_at dksL_law_24 2 rfl rfl)
theorem dL_law_705 : decode cL_law 705 = .ok (.iaload, 1) := dk_46 (dk_at dksL_law_24 3 rfl rfl)
theorem dL_law_706 : decode cL_law 706 = .ok (.aload_n 0, 1) := dk_42 (dk_at dksL_law_24 4 rfl rfl)
theorem dL_law_707 : decode cL_law 707 = .ok (.iload_n 3, 1) := dk_29 (dk_at dksL_law_24 5 rfl rfl)
theorem dL_law_708 : decode cL_law 708 = .ok (.iconst 2, 1) := dk_5 (dk_at dksL_law_24 6 rfl rfl)
theorem dL_law_709 : decode cL_law 709 = .ok (.iadd, 1) := dk_96 (dk_at dksL_law_24 7 rfl rfl)
theorem dL_law_710 : decode cL_law 710 = .ok (.iaload, 1) := dk_46 (dk_at dksL_law_24 8 rfl rfl)
theorem dL_law_711 : decode cL_law 711 = .ok (.aload_n 0, 1) := dk_42 (dk_at dksL_law_24 9 rfl rfl)
theorem dL_law_712 : decode cL_law 712 = .ok (.iload_n 3, 1) := dk_29 (dk_at dksL_law_24 10 rfl rfl)
theorem dL_law_713 : decode cL_law 713 = .ok (.iconst 3, 1) := dk_6 (dk_at dksL_law_24 11 rfl rfl)
theorem dL_law_714 : decode cL_law 714 = .ok (.iadd, 1) := dk_96 (dk_at dksL_law_24 12 rfl rfl)
theorem dL_law_715 : decode cL_law 715 = .ok (.iaload, 1) := dk_46 (dk_at dksL_law_24 13 rfl rfl)
theorem dL_law_716 : decode cL_law 716 = .ok (.aload_n 0, 1) := dk_42 (dk_at dksL_law_24 14 rfl rfl)
theorem dL_law_717 : decode cL_law 717 = .ok (.iload_n 3, 1) := dk_29 (dk_at dksL_law_24 15 rfl rfl)
theorem dL_law_718 : decode cL_law 718 = .ok (.iconst 4, 1) := dk_7 (dk_at dksL_law_24 16 rfl rfl)
theorem dL_law_719 : decode cL_law 719 = .ok (.iadd, 1) := dk_96 (dk_at dksL_law_24 17 rfl rfl)
theorem dL_law_720 : decode cL_law 720 = .ok (.iaload, 1) := dk_46 (dk_at dksL_law_24 18 rfl rfl)
theorem dL_law_721 : decode cL_law 721 = .ok (.aload_n 0, 1) := dk_42 (dk_at dksL_law_24 19 rfl rfl)
theorem dL_law_722 : decode cL_law 722 = .ok (.iload_n 3, 1) := dk_29 (dk_at dksL_law_24 20 rfl rfl)
theorem dL_law_723 : decode cL_law 723 = .ok (.iconst 5, 1) := dk_8 (dk_at dksL_law_24 21 rfl rfl)
theorem dL_law_724 : decode cL_law 724 = .ok (.iadd, 1) := dk_96 (dk_at dksL_law_24 22 rfl rfl)
theorem dL_law_725 : decode cL_law 725 = .ok (.iaload, 1) := dk_46 (dk_at dksL_law_24 23 rfl rfl)
theorem dL_law_726 : decode cL_law 726 = .ok (.aload_n 0, 1) := dk_42 (dk_at dksL_law_25 0 rfl rfl)
theorem dL_law_727 : decode cL_law 727 = .ok (.iload_n 3, 1) := dk_29 (dk_at dksL_law_25 1 rfl rfl)
theorem dL_law_728 : decode cL_law 728 = .ok (.bipush 6, 2) := dk_16 6 (dk_at dksL_law_25 2 rfl rfl)
theorem dL_law_730 : decode cL_law 730 = .ok (.iadd, 1) := dk_96 (dk_at dksL_law_25 4 rfl rfl)
theorem dL_law_731 : decode cL_law 731 = .ok (.iaload, 1) := dk_46 (dk_at dksL_law_25 5 rfl rfl)
theorem dL_law_732 : decode cL_law 732 = .ok (.invokevirtual 78, 3) := dk_182 0 78 (dk_at dksL_law_25 6 rfl rfl)
theorem dL_law_735 : decode cL_law 735 = .ok (.aload_n 2, 1) := dk_44 (dk_at dksL_law_25 9 rfl rfl)
theorem dL_law_736 : decode cL_law 736 = .ok (.aload_n 0, 1) := dk_42 (dk_at dksL_law_25 10 rfl rfl)
theorem dL_law_737 : decode cL_law 737 = .ok (.iload_n 3, 1) := dk_29 (dk_at dksL_law_25 11 rfl rfl)
theorem dL_law_738 : decode cL_law 738 = .ok (.iconst 1, 1) := dk_4 (dk_at dksL_law_25 12 rfl rfl)
theorem dL_law_739 : decode cL_law 739 = .ok (.iadd, 1) := dk_96 (dk_at dksL_law_25 13 rfl rfl)
theorem dL_law_740 : decode cL_law 740 = .ok (.iaload, 1) := dk_46 (dk_at dksL_law_25 14 rfl rfl)
theorem dL_law_741 : decode cL_law 741 = .ok (.aload_n 0, 1) := dk_42 (dk_at dksL_law_25 15 rfl rfl)
theorem dL_law_742 : decode cL_law 742 = .ok (.iload_n 3, 1) := dk_29 (dk_at dksL_law_25 16 rfl rfl)
theorem dL_law_743 : decode cL_law 743 = .ok (.iconst 2, 1) := dk_5 (dk_at dksL_law_25 17 rfl rfl)
theorem dL_law_744 : decode cL_law 744 = .ok (.iadd, 1) := dk_96 (dk_at dksL_law_25 18 rfl rfl)
theorem dL_law_745 : decode cL_law 745 = .ok (.iaload, 1) := dk_46 (dk_at dksL_law_25 19 rfl rfl)
theorem dL_law_746 : decode cL_law 746 = .ok (.aload_n 0, 1) := dk_42 (dk_at dksL_law_25 20 rfl rfl)
theorem dL_law_747 : decode cL_law 747 = .ok (.iload_n 3, 1) := dk_29 (dk_at dksL_law_25 21 rfl rfl)
theorem dL_law_748 : decode cL_law 748 = .ok (.iconst 3, 1) := dk_6 (dk_at dksL_law_25 22 rfl rfl)
theorem dL_law_749 : decode cL_law 749 = .ok (.iadd, 1) := dk_96 (dk_at dksL_law_25 23 rfl rfl)
theorem dL_law_750 : decode cL_law 750 = .ok (.iaload, 1) := dk_46 (dk_at dksL_law_26 0 rfl rfl)
theorem dL_law_751 : decode cL_law 751 = .ok (.aload_n 0, 1) := dk_42 (dk_at dksL_law_26 1 rfl rfl)
theorem dL_law_752 : decode cL_law 752 = .ok (.iload_n 3, 1) := dk_29 (dk_at dksL_law_26 2 rfl rfl)
theorem dL_law_753 : decode cL_law 753 = .ok (.iconst 4, 1) := dk_7 (dk_at dksL_law_26 3 rfl rfl)
theorem dL_law_754 : decode cL_law 754 = .ok (.iadd, 1) := dk_96 (dk_at dksL_law_26 4 rfl rfl)
theorem dL_law_755 : decode cL_law 755 = .ok (.iaload, 1) := dk_46 (dk_at dksL_law_26 5 rfl rfl)
theorem dL_law_756 : decode cL_law 756 = .ok (.aload_n 0, 1) := dk_42 (dk_at dksL_law_26 6 rfl rfl)
theorem dL_law_757 : decode cL_law 757 = .ok (.iload_n 3, 1) := dk_29 (dk_at dksL_law_26 7 rfl rfl)
theorem dL_law_758 : decode cL_law 758 = .ok (.iconst 5, 1) := dk_8 (dk_at dksL_law_26 8 rfl rfl)
theorem dL_law_759 : decode cL_law 759 = .ok (.iadd, 1) := dk_96 (dk_at dksL_law_26 9 rfl rfl)
theorem dL_law_760 : decode cL_law 760 = .ok (.iaload, 1) := dk_46 (dk_at dksL_law_26 10 rfl rfl)
theorem dL_law_761 : decode cL_law 761 = .ok (.aload_n 0, 1) := dk_42 (dk_at dksL_law_26 11 rfl rfl)
theorem dL_law_762 : decode cL_law 762 = .ok (.iload_n 3, 1) := dk_29 (dk_at dksL_law_26 12 rfl rfl)
theorem dL_law_763 : decode cL_law 763 = .ok (.bipush 6, 2) := dk_16 6 (dk_at dksL_law_26 13 rfl rfl)
theorem dL_law_765 : decode cL_law 765 = .ok (.iadd, 1) := dk_96 (dk_at dksL_law_26 15 rfl rfl)
theorem dL_law_766 : decode cL_law 766 = .ok (.iaload, 1) := dk_46 (dk_at dksL_law_26 16 rfl rfl)
theorem dL_law_767 : decode cL_law 767 = .ok (.invokevirtual 82, 3) := dk_182 0 82 (dk_at dksL_law_26 17 rfl rfl)
theorem dL_law_770 : decode cL_law 770 = .ok (.if_icmp .eq 635, 3) := dk_159 2 123 (dk_at dksL_law_26 20 rfl rfl)
theorem dL_law_773 : decode cL_law 773 = .ok (.iconst 0, 1) := dk_3 (dk_at dksL_law_26 23 rfl rfl)
theorem dL_law_774 : decode cL_law 774 = .ok (.ireturn, 1) := dk_172 (dk_at dksL_law_27 0 rfl rfl)
theorem dL_law_775 : decode cL_law 775 = .ok (.aload_n 1, 1) := dk_43 (dk_at dksL_law_27 1 rfl rfl)
theorem dL_law_776 : decode cL_law 776 = .ok (.aload_n 0, 1) := dk_42 (dk_at dksL_law_27 2 rfl rfl)
theorem dL_law_777 : decode cL_law 777 = .ok (.iload_n 3, 1) := dk_29 (dk_at dksL_law_27 3 rfl rfl)
theorem dL_law_778 : decode cL_law 778 = .ok (.iconst 1, 1) := dk_4 (dk_at dksL_law_27 4 rfl rfl)
theorem dL_law_779 : decode cL_law 779 = .ok (.iadd, 1) := dk_96 (dk_at dksL_law_27 5 rfl rfl)
theorem dL_law_780 : decode cL_law 780 = .ok (.iaload, 1) := dk_46 (dk_at dksL_law_27 6 rfl rfl)
theorem dL_law_781 : decode cL_law 781 = .ok (.invokevirtual 83, 3) := dk_182 0 83 (dk_at dksL_law_27 7 rfl rfl)
theorem dL_law_784 : decode cL_law 784 = .ok (.aload_n 2, 1) := dk_44 (dk_at dksL_law_27 10 rfl rfl)
theorem dL_law_785 : decode cL_law 785 = .ok (.aload_n 0, 1) := dk_42 (dk_at dksL_law_27 11 rfl rfl)
theorem dL_law_786 : decode cL_law 786 = .ok (.iload_n 3, 1) := dk_29 (dk_at dksL_law_27 12 rfl rfl)
theorem dL_law_787 : decode cL_law 787 = .ok (.iconst 1, 1) := dk_4 (dk_at dksL_law_27 13 rfl rfl)
theorem dL_law_788 : decode cL_law 788 = .ok (.iadd, 1) := dk_96 (dk_at dksL_law_27 14 rfl rfl)
theorem dL_law_789 : decode cL_law 789 = .ok (.iaload, 1) := dk_46 (dk_at dksL_law_27 15 rfl rfl)
theorem dL_law_790 : decode cL_law 790 = .ok (.invokevirtual 86, 3) := dk_182 0 86 (dk_at dksL_law_27 16 rfl rfl)
theorem dL_law_793 : decode cL_law 793 = .ok (.if_icmp .eq 612, 3) := dk_159 2 100 (dk_at dksL_law_27 19 rfl rfl)
theorem dL_law_796 : decode cL_law 796 = .ok (.iconst 0, 1) := dk_3 (dk_at dksL_law_27 22 rfl rfl)
theorem dL_law_797 : decode cL_law 797 = .ok (.ireturn, 1) := dk_172 (dk_at dksL_law_27 23 rfl rfl)
theorem dL_law_798 : decode cL_law 798 = .ok (.aload_n 1, 1) := dk_43 (dk_at dksL_law_28 0 rfl rfl)
theorem dL_law_799 : decode cL_law 799 = .ok (.aload_n 0, 1) := dk_42 (dk_at dksL_law_28 1 rfl rfl)
theorem dL_law_800 : decode cL_law 800 = .ok (.iload_n 3, 1) := dk_29 (dk_at dksL_law_28 2 rfl rfl)
theorem dL_law_801 : decode cL_law 801 = .ok (.iconst 1, 1) := dk_4 (dk_at dksL_law_28 3 rfl rfl)
theorem dL_law_802 : decode cL_law 802 = .ok (.iadd, 1) := dk_96 (dk_at dksL_law_28 4 rfl rfl)
theorem dL_law_803 : decode cL_law 803 = .ok (.iaload, 1) := dk_46 (dk_at dksL_law_28 5 rfl rfl)
theorem dL_law_804 : decode cL_law 804 = .ok (.invokevirtual 87, 3) := dk_182 0 87 (dk_at dksL_law_28 6 rfl rfl)
theorem dL_law_807 : decode cL_law 807 = .ok (.aload_n 2, 1) := dk_44 (dk_at dksL_law_28 9 rfl rfl)
theorem dL_law_808 : decode cL_law 808 = .ok (.aload_n 0, 1) := dk_42 (dk_at dksL_law_28 10 rfl rfl)
theorem dL_law_809 : decode cL_law 809 = .ok (.iload_n 3, 1) := dk_29 (dk_at dksL_law_28 11 rfl rfl)
theorem dL_law_810 : decode cL_law 810 = .ok (.iconst 1, 1) := dk_4 (dk_at dksL_law_28 12 rfl rfl)
theorem dL_law_811 : decode cL_law 811 = .ok (.iadd, 1) := dk_96 (dk_at dksL_law_28 13 rfl rfl)
theorem dL_law_812 : decode cL_law 812 = .ok (.iaload, 1) := dk_46 (dk_at dksL_law_28 14 rfl rfl)
theorem dL_law_813 : decode cL_law 813 = .ok (.invokevirtual 90, 3) := dk_182 0 90 (dk_at dksL_law_28 15 rfl rfl)
theorem dL_law_816 : decode cL_law 816 = .ok (.if_icmp .eq 589, 3) := dk_159 2 77 (dk_at dksL_law_28 18 rfl rfl)
theorem dL_law_819 : decode cL_law 819 = .ok (.iconst 0, 1) := dk_3 (dk_at dksL_law_28 21 rfl rfl)
theorem dL_law_820 : decode cL_law 820 = .ok (.ireturn, 1) := dk_172 (dk_at dksL_law_28 22 rfl rfl)
theorem dL_law_821 : decode cL_law 821 = .ok (.aload_n 1, 1) := dk_43 (dk_at dksL_law_28 23 rfl rfl)
theorem dL_law_822 : decode cL_law 822 = .ok (.invokevirtual 91, 3) := dk_182 0 91 (dk_at dksL_law_29 0 rfl rfl)
theorem dL_law_825 : decode cL_law 825 = .ok (.aload_n 2, 1) := dk_44 (dk_at dksL_law_29 3 rfl rfl)
theorem dL_law_826 : decode cL_law 826 = .ok (.invokevirtual 95, 3) := dk_182 0 95 (dk_at dksL_law_29 4 rfl rfl)
theorem dL_law_829 : decode cL_law 829 = .ok (.if_icmp .eq 576, 3) := dk_159 2 64 (dk_at dksL_law_29 7 rfl rfl)
theorem dL_law_832 : decode cL_law 832 = .ok (.iconst 0, 1) := dk_3 (dk_at dksL_law_29 10 rfl rfl)
theorem dL_law_833 : decode cL_law 833 = .ok (.ireturn, 1) := dk_172 (dk_at dksL_law_29 11 rfl rfl)
theorem dL_law_834 : decode cL_law 834 = .ok (.aload_n 1, 1) := dk_43 (dk_at dksL_law_29 12 rfl rfl)
theorem dL_law_835 : decode cL_law 835 = .ok (.aload_n 0, 1) := dk_42 (dk_at dksL_law_29 13 rfl rfl)
theorem dL_law_836 : decode cL_law 836 = .ok (.iload_n 3, 1) := dk_29 (dk_at dksL_law_29 14 rfl rfl)
theorem dL_law_837 : decode cL_law 837 = .ok (.iconst 1, 1) := dk_4 (dk_at dksL_law_29 15 rfl rfl)
theorem dL_law_838 : decode cL_law 838 = .ok (.iadd, 1) := dk_96 (dk_at dksL_law_29 16 rfl rfl)
theorem dL_law_839 : decode cL_law 839 = .ok (.iaload, 1) := dk_46 (dk_at dksL_law_29 17 rfl rfl)
theorem dL_law_840 : decode cL_law 840 = .ok (.invokevirtual 96, 3) := dk_182 0 96 (dk_at dksL_law_29 18 rfl rfl)
theorem dL_law_843 : decode cL_law 843 = .ok (.aload_n 2, 1) := dk_44 (dk_at dksL_law_29 21 rfl rfl)
theorem dL_law_844 : decode cL_law 844 = .ok (.aload_n 0, 1) := dk_42 (dk_at dksL_law_29 22 rfl rfl)
theorem dL_law_845 : decode cL_law 845 = .ok (.iload_n 3, 1) := dk_29 (dk_at dksL_law_29 23 rfl rfl)
theorem dL_law_846 : decode cL_law 846 = .ok (.iconst 1, 1) := dk_4 (dk_at dksL_law_30 0 rfl rfl)
theorem dL_law_847 : decode cL_law 847 = .ok (.iadd, 1) := dk_96 (dk_at dksL_law_30 1 rfl rfl)
theorem dL_law_848 : decode cL_law 848 = .ok (.iaload, 1) := dk_46 (dk_at dksL_law_30 2 rfl rfl)
theorem dL_law_849 : decode cL_law 849 = .ok (.invokevirtual 99, 3) := dk_182 0 99 (dk_at dksL_law_30 3 rfl rfl)
theorem dL_law_852 : decode cL_law 852 = .ok (.if_icmp .eq 553, 3) := dk_159 2 41 (dk_at dksL_law_30 6 rfl rfl)
theorem dL_law_855 : decode cL_law 855 = .ok (.iconst 0, 1) := dk_3 (dk_at dksL_law_30 9 rfl rfl)
theorem dL_law_856 : decode cL_law 856 = .ok (.ireturn, 1) := dk_172 (dk_at dksL_law_30 10 rfl rfl)
theorem dL_law_857 : decode cL_law 857 = .ok (.aload_n 1, 1) := dk_43 (dk_at dksL_law_30 11 rfl rfl)
theorem dL_law_858 : decode cL_law 858 = .ok (.aload_n 0, 1) := dk_42 (dk_at dksL_law_30 12 rfl rfl)
theorem dL_law_859 : decode cL_law 859 = .ok (.iload_n 3, 1) := dk_29 (dk_at dksL_law_30 13 rfl rfl)
theorem dL_law_860 : decode cL_law 860 = .ok (.iconst 1, 1) := dk_4 (dk_at dksL_law_30 14 rfl rfl)
theorem dL_law_861 : decode cL_law 861 = .ok (.iadd, 1) := dk_96 (dk_at dksL_law_30 15 rfl rfl)
theorem dL_law_862 : decode cL_law 862 = .ok (.iaload, 1) := dk_46 (dk_at dksL_law_30 16 rfl rfl)
theorem dL_law_863 : decode cL_law 863 = .ok (.aload_n 0, 1) := dk_42 (dk_at dksL_law_30 17 rfl rfl)
theorem dL_law_864 : decode cL_law 864 = .ok (.iload_n 3, 1) := dk_29 (dk_at dksL_law_30 18 rfl rfl)
theorem dL_law_865 : decode cL_law 865 = .ok (.iconst 2, 1) := dk_5 (dk_at dksL_law_30 19 rfl rfl)
theorem dL_law_866 : decode cL_law 866 = .ok (.iadd, 1) := dk_96 (dk_at dksL_law_30 20 rfl rfl)
theorem dL_law_867 : decode cL_law 867 = .ok (.iaload, 1) := dk_46 (dk_at dksL_law_30 21 rfl rfl)
theorem dL_law_868 : decode cL_law 868 = .ok (.invokevirtual 100, 3) := dk_182 0 100 (dk_at dksL_law_31 0 rfl rfl)
theorem dL_law_871 : decode cL_law 871 = .ok (.aload_n 2, 1) := dk_44 (dk_at dksL_law_31 3 rfl rfl)
theorem dL_law_872 : decode cL_law 872 = .ok (.aload_n 0, 1) := dk_42 (dk_at dksL_law_31 4 rfl rfl)
theorem dL_law_873 : decode cL_law 873 = .ok (.iload_n 3, 1) := dk_29 (dk_at dksL_law_31 5 rfl rfl)
theorem dL_law_874 : decode cL_law 874 = .ok (.iconst 1, 1) := dk_4 (dk_at dksL_law_31 6 rfl rfl)
theorem dL_law_875 : decode cL_law 875 = .ok (.iadd, 1) := dk_96 (dk_at dksL_law_31 7 rfl rfl)
theorem dL_law_876 : decode cL_law 876 = .ok (.iaload, 1) := dk_46 (dk_at dksL_law_31 8 rfl rfl)
theorem dL_law_877 : decode cL_law 877 = .ok (.aload_n 0, 1) := dk_42 (dk_at dksL_law_31 9 rfl rfl)
theorem dL_law_878 : decode cL_law 878 = .ok (.iload_n 3, 1) := dk_29 (dk_at dksL_law_31 10 rfl rfl)
theorem dL_law_879 : decode cL_law 879 = .ok (.iconst 2, 1) := dk_5 (dk_at dksL_law_31 11 rfl rfl)
theorem dL_law_880 : decode cL_law 880 = .ok (.iadd, 1) := dk_96 (dk_at dksL_law_31 12 rfl rfl)
theorem dL_law_881 : decode cL_law 881 = .ok (.iaload, 1) := dk_46 (dk_at dksL_law_31 13 rfl rfl)
theorem dL_law_882 : decode cL_law 882 = .ok (.invokevirtual 103, 3) := dk_182 0 103 (dk_at dksL_law_31 14 rfl rfl)
theorem dL_law_885 : decode cL_law 885 = .ok (.if_icmp .eq 520, 3) := dk_159 2 8 (dk_at dksL_law_31 17 rfl rfl)
theorem dL_law_888 : decode cL_law 888 = .ok (.iconst 0, 1) := dk_3 (dk_at dksL_law_31 20 rfl rfl)
theorem dL_law_889 : decode cL_law 889 = .ok (.ireturn, 1) := dk_172 (dk_at dksL_law_31 21 rfl rfl)
theorem dL_law_890 : decode cL_law 890 = .ok (.aload_n 1, 1) := dk_43 (dk_at dksL_law_31 22 rfl rfl)
theorem dL_law_891 : decode cL_law 891 = .ok (.aload_n 0, 1) := dk_42 (dk_at dksL_law_31 23 rfl rfl)
theorem dL_law_892 : decode cL_law 892 = .ok (.iload_n 3, 1) := dk_29 (dk_at dksL_law_32 0 rfl rfl)
theorem dL_law_893 : decode cL_law 893 = .ok (.iconst 1, 1) := dk_4 (dk_at dksL_law_32 1 rfl rfl)
theorem dL_law_894 : decode cL_law 894 = .ok (.iadd, 1) := dk_96 (dk_at dksL_law_32 2 rfl rfl)
theorem dL_law_895 : decode cL_law 895 = .ok (.iaload, 1) := dk_46 (dk_at dksL_law_32 3 rfl rfl)
theorem dL_law_896 : decode cL_law 896 = .ok (.invokevirtual 104, 3) := dk_182 0 104 (dk_at dksL_law_32 4 rfl rfl)
theorem dL_law_899 : decode cL_law 899 = .ok (.aload_n 2, 1) := dk_44 (dk_at dksL_law_32 7 rfl rfl)
theorem dL_law_900 : decode cL_law 900 = .ok (.aload_n 0, 1) := dk_42 (dk_at dksL_law_32 8 rfl rfl)
theorem dL_law_901 : decode cL_law 901 = .ok (.iload_n 3, 1) := dk_29 (dk_at dksL_law_32 9 rfl rfl)
theorem dL_law_902 : decode cL_law 902 = .ok (.iconst 1, 1) := dk_4 (dk_at dksL_law_32 10 rfl rfl)
theorem dL_law_903 : decode cL_law 903 = .ok (.iadd, 1) := dk_96 (dk_at dksL_law_32 11 rfl rfl)
theorem dL_law_904 : decode cL_law 904 = .ok (.iaload, 1) := dk_46 (dk_at dksL_law_32 12 rfl rfl)
theorem dL_law_905 : decode cL_law 905 = .ok (.invokevirtual 107, 3) := dk_182 0 107 (dk_at dksL_law_32 13 rfl rfl)
theorem dL_law_908 : decode cL_law 908 = .ok (.if_icmp .eq 497, 3) := dk_159 1 241 (dk_at dksL_law_32 16 rfl rfl)
theorem dL_law_911 : decode cL_law 911 = .ok (.iconst 0, 1) := dk_3 (dk_at dksL_law_32 19 rfl rfl)
theorem dL_law_912 : decode cL_law 912 = .ok (.ireturn, 1) := dk_172 (dk_at dksL_law_32 20 rfl rfl)
theorem dL_law_913 : decode cL_law 913 = .ok (.aload_n 1, 1) := dk_43 (dk_at dksL_law_32 21 rfl rfl)
theorem dL_law_914 : decode cL_law 914 = .ok (.aload_n 0, 1) := dk_42 (dk_at dksL_law_32 22 rfl rfl)
theorem dL_law_915 : decode cL_law 915 = .ok (.iload_n 3, 1) := dk_29 (dk_at dksL_law_32 23 rfl rfl)
theorem dL_law_916 : decode cL_law 916 = .ok (.iconst 1, 1) := dk_4 (dk_at dksL_law_33 0 rfl rfl)
theorem dL_law_917 : decode cL_law 917 = .ok (.iadd, 1) := dk_96 (dk_at dksL_law_33 1 rfl rfl)
theorem dL_law_918 : decode cL_law 918 = .ok (.iaload, 1) := dk_46 (dk_at dksL_law_33 2 rfl rfl)
theorem dL_law_919 : decode cL_law 919 = .ok (.invokevirtual 108, 3) := dk_182 0 108 (dk_at dksL_law_33 3 rfl rfl)
theorem dL_law_922 : decode cL_law 922 = .ok (.aload_n 2, 1) := dk_44 (dk_at dksL_law_33 6 rfl rfl)
theorem dL_law_923 : decode cL_law 923 = .ok (.aload_n 0, 1) := dk_42 (dk_at dksL_law_33 7 rfl rfl)
theorem dL_law_924 : decode cL_law 924 = .ok (.iload_n 3, 1) := dk_29 (dk_at dksL_law_33 8 rfl rfl)
theorem dL_law_925 : decode cL_law 925 = .ok (.iconst 1, 1) := dk_4 (dk_at dksL_law_33 9 rfl rfl)
theorem dL_law_926 : decode cL_law 926 = .ok (.iadd, 1) := dk_96 (dk_at dksL_law_33 10 rfl rfl)
theorem dL_law_927 : decode cL_law 927 = .ok (.iaload, 1) := dk_46 (dk_at dksL_law_33 11 rfl rfl)
theorem dL_law_928 : decode cL_law 928 = .ok (.invokevirtual 111, 3) := dk_182 0 111 (dk_at dksL_law_33 12 rfl rfl)
theorem dL_law_931 : decode cL_law 931 = .ok (.if_icmp .eq 474, 3) := dk_159 1 218 (dk_at dksL_law_33 15 rfl rfl)
theorem dL_law_934 : decode cL_law 934 = .ok (.iconst 0, 1) := dk_3 (dk_at dksL_law_33 18 rfl rfl)
theorem dL_law_935 : decode cL_law 935 = .ok (.ireturn, 1) := dk_172 (dk_at dksL_law_33 19 rfl rfl)
theorem dL_law_936 : decode cL_law 936 = .ok (.aload_n 1, 1) := dk_43 (dk_at dksL_law_33 20 rfl rfl)
theorem dL_law_937 : decode cL_law 937 = .ok (.aload_n 0, 1) := dk_42 (dk_at dksL_law_33 21 rfl rfl)
theorem dL_law_938 : decode cL_law 938 = .ok (.iload_n 3, 1) := dk_29 (dk_at dksL_law_33 22 rfl rfl)
theorem dL_law_939 : decode cL_law 939 = .ok (.iconst 1, 1) := dk_4 (dk_at dksL_law_33 23 rfl rfl)
theorem dL_law_940 : decode cL_law 940 = .ok (.iadd, 1) := dk_96 (dk_at dksL_law_34 0 rfl rfl)
theorem dL_law_941 : decode cL_law 941 = .ok (.iaload, 1) := dk_46 (dk_at dksL_law_34 1 rfl rfl)
theorem dL_law_942 : decode cL_law 942 = .ok (.aload_n 0, 1) := dk_42 (dk_at dksL_law_34 2 rfl rfl)
theorem dL_law_943 : decode cL_law 943 = .ok (.iload_n 3, 1) := dk_29 (dk_at dksL_law_34 3 rfl rfl)
theorem dL_law_944 : decode cL_law 944 = .ok (.iconst 2, 1) := dk_5 (dk_at dksL_law_34 4 rfl rfl)
theorem dL_law_945 : decode cL_law 945 = .ok (.iadd, 1) := dk_96 (dk_at dksL_law_34 5 rfl rfl)
theorem dL_law_946 : decode cL_law 946 = .ok (.iaload, 1) := dk_46 (dk_at dksL_law_34 6 rfl rfl)
theorem dL_law_947 : decode cL_law 947 = .ok (.aload_n 0, 1) := dk_42 (dk_at dksL_law_34 7 rfl rfl)
theorem dL_law_948 : decode cL_law 948 = .ok (.iload_n 3, 1) := dk_29 (dk_at dksL_law_34 8 rfl rfl)
theorem dL_law_949 : decode cL_law 949 = .ok (.iconst 3, 1) := dk_6 (dk_at dksL_law_34 9 rfl rfl)
theorem dL_law_950 : decode cL_law 950 = .ok (.iadd, 1) := dk_96 (dk_at dksL_law_34 10 rfl rfl)
theorem dL_law_951 : decode cL_law 951 = .ok (.iaload, 1) := dk_46 (dk_at dksL_law_34 11 rfl rfl)
theorem dL_law_952 : decode cL_law 952 = .ok (.invokevirtual 112, 3) := dk_182 0 112 (dk_at dksL_law_34 12 rfl rfl)
theorem dL_law_955 : decode cL_law 955 = .ok (.aload_n 2, 1) := dk_44 (dk_at dksL_law_34 15 rfl rfl)
theorem dL_law_956 : decode cL_law 956 = .ok (.aload_n 0, 1) := dk_42 (dk_at dksL_law_34 16 rfl rfl)
theorem dL_law_957 : decode cL_law 957 = .ok (.iload_n 3, 1) := dk_29 (dk_at dksL_law_34 17 rfl rfl)
theorem dL_law_958 : decode cL_law 958 = .ok (.iconst 1, 1) := dk_4 (dk_at dksL_law_34 18 rfl rfl)
theorem dL_law_959 : decode cL_law 959 = .ok (.iadd, 1) := dk_96 (dk_at dksL_law_34 19 rfl rfl)
theorem dL_law_960 : decode cL_law 960 = .ok (.iaload, 1) := dk_46 (dk_at dksL_law_34 20 rfl rfl)
theorem dL_law_961 : decode cL_law 961 = .ok (.aload_n 0, 1) := dk_42 (dk_at dksL_law_34 21 rfl rfl)
theorem dL_law_962 : decode cL_law 962 = .ok (.iload_n 3, 1) := dk_29 (dk_at dksL_law_34 22 rfl rfl)
theorem dL_law_963 : decode cL_law 963 = .ok (.iconst 2, 1) := dk_5 (dk_at dksL_law_34 23 rfl rfl)
theorem dL_law_964 : decode cL_law 964 = .ok (.iadd, 1) := dk_96 (dk_at dksL_law_35 0 rfl rfl)
theorem dL_law_965 : decode cL_law 965 = .ok (.iaload, 1) := dk_46 (dk_at dksL_law_35 1 rfl rfl)
theorem dL_law_966 : decode cL_law 966 = .ok (.aload_n 0, 1) := dk_42 (dk_at dksL_law_35 2 rfl rfl)
theorem dL_law_967 : decode cL_law 967 = .ok (.iload_n 3, 1) := dk_29 (dk_at dksL_law_35 3 rfl rfl)
theorem dL_law_968 : decode cL_law 968 = .ok (.iconst 3, 1) := dk_6 (dk_at dksL_law_35 4 rfl rfl)
theorem dL_law_969 : decode cL_law 969 = .ok (.iadd, 1) := dk_96 (dk_at dksL_law_35 5 rfl rfl)
theorem dL_law_970 : decode cL_law 970 = .ok (.iaload, 1) := dk_46 (dk_at dksL_law_35 6 rfl rfl)
theorem dL_law_971 : decode cL_law 971 = .ok (.invokevirtual 115, 3) := dk_182 0 115 (dk_at dksL_law_35 7 rfl rfl)
theorem dL_law_974 : decode cL_law 974 = .ok (.if_icmp .eq 431, 3) := dk_159 1 175 (dk_at dksL_law_35 10 rfl rfl)
theorem dL_law_977 : decode cL_law 977 = .ok (.iconst 0, 1) := dk_3 (dk_at dksL_law_35 13 rfl rfl)
theorem dL_law_978 : decode cL_law 978 = .ok (.ireturn, 1) := dk_172 (dk_at dksL_law_35 14 rfl rfl)
theorem dL_law_979 : decode cL_law 979 = .ok (.aload_n 1, 1) := dk_43 (dk_at dksL_law_35 15 rfl rfl)
theorem dL_law_980 : decode cL_law 980 = .ok (.aload_n 0, 1) := dk_42 (dk_at dksL_law_35 16 rfl rfl)
theorem dL_law_981 : decode cL_law 981 = .ok (.iload_n 3, 1) := dk_29 (dk_at dksL_law_35 17 rfl rfl)
theorem dL_law_982 : decode cL_law 982 = .ok (.iconst 1, 1) := dk_4 (dk_at dksL_law_35 18 rfl rfl)
theorem dL_law_983 : decode cL_law 983 = .ok (.iadd, 1) := dk_96 (dk_at dksL_law_35 19 rfl rfl)
theorem dL_law_984 : decode cL_law 984 = .ok (.iaload, 1) := dk_46 (dk_at dksL_law_35 20 rfl rfl)
theorem dL_law_985 : decode cL_law 985 = .ok (.invokevirtual 116, 3) := dk_182 0 116 (dk_at dksL_law_35 21 rfl rfl)
theorem dL_law_988 : decode cL_law 988 = .ok (.aload_n 2, 1) := dk_44 (dk_at dksL_law_36 0 rfl rfl)
theorem dL_law_989 : decode cL_law 989 = .ok (.aload_n 0, 1) := dk_42 (dk_at dksL_law_36 1 rfl rfl)
theorem dL_law_990 : decode cL_law 990 = .ok (.iload_n 3, 1) := dk_29 (dk_at dksL_law_36 2 rfl rfl)
theorem dL_law_991 : decode cL_law 991 = .ok (.iconst 1, 1) := dk_4 (dk_at dksL_law_36 3 rfl rfl)
theorem dL_law_992 : decode cL_law 992 = .ok (.iadd, 1) := dk_96 (dk_at dksL_law_36 4 rfl rfl)
theorem dL_law_993 : decode cL_law 993 = .ok (.iaload, 1) := dk_46 (dk_at dksL_law_36 5 rfl rfl)
theorem dL_law_994 : decode cL_law 994 = .ok (.invokevirtual 119, 3) := dk_182 0 119 (dk_at dksL_law_36 6 rfl rfl)
theorem dL_law_997 : decode cL_law 997 = .ok (.if_icmp .eq 408, 3) := dk_159 1 152 (dk_at dksL_law_36 9 rfl rfl)
theorem dL_law_1000 : decode cL_law 1000 = .ok (.iconst 0, 1) := dk_3 (dk_at dksL_law_36 12 rfl rfl)
theorem dL_law_1001 : decode cL_law 1001 = .ok (.ireturn, 1) := dk_172 (dk_at dksL_law_36 13 rfl rfl)
theorem dL_law_1002 : decode cL_law 1002 = .ok (.aload_n 1, 1) := dk_43 (dk_at dksL_law_36 14 rfl rfl)
theorem dL_law_1003 : decode cL_law 1003 = .ok (.aload_n 0, 1) := dk_42 (dk_at dksL_law_36 15 rfl rfl)
theorem dL_law_1004 : decode cL_law 1004 = .ok (.iload_n 3, 1) := dk_29 (dk_at dksL_law_36 16 rfl rfl)
theorem dL_law_1005 : decode cL_law 1005 = .ok (.iconst 1, 1) := dk_4 (dk_at dksL_law_36 17 rfl rfl)
theorem dL_law_1006 : decode cL_law 1006 = .ok (.iadd, 1) := dk_96 (dk_at dksL_law_36 18 rfl rfl)
theorem dL_law_1007 : decode cL_law 1007 = .ok (.iaload, 1) := dk_46 (dk_at dksL_law_36 19 rfl rfl)
theorem dL_law_1008 : decode cL_law 1008 = .ok (.invokevirtual 120, 3) := dk_182 0 120 (dk_at dksL_law_36 20 rfl rfl)
theorem dL_law_1011 : decode cL_law 1011 = .ok (.aload_n 2, 1) := dk_44 (dk_at dksL_law_36 23 rfl rfl)
theorem dL_law_1012 : decode cL_law 1012 = .ok (.aload_n 0, 1) := dk_42 (dk_at dksL_law_37 0 rfl rfl)
theorem dL_law_1013 : decode cL_law 1013 = .ok (.iload_n 3, 1) := dk_29 (dk_at dksL_law_37 1 rfl rfl)
theorem dL_law_1014 : decode cL_law 1014 = .ok (.iconst 1, 1) := dk_4 (dk_at dksL_law_37 2 rfl rfl)
theorem dL_law_1015 : decode cL_law 1015 = .ok (.iadd, 1) := dk_96 (dk_at dksL_law_37 3 rfl rfl)
theorem dL_law_1016 : decode cL_law 1016 = .ok (.iaload, 1) := dk_46 (dk_at dksL_law_37 4 rfl rfl)
theorem dL_law_1017 : decode cL_law 1017 = .ok (.invokevirtual 123, 3) := dk_182 0 123 (dk_at dksL_law_37 5 rfl rfl)
theorem dL_law_1020 : decode cL_law 1020 = .ok (.if_icmp .eq 385, 3) := dk_159 1 129 (dk_at dksL_law_37 8 rfl rfl)
theorem dL_law_1023 : decode cL_law 1023 = .ok (.iconst 0, 1) := dk_3 (dk_at dksL_law_37 11 rfl rfl)
theorem dL_law_1024 : decode cL_law 1024 = .ok (.ireturn, 1) := dk_172 (dk_at dksL_law_37 12 rfl rfl)
theorem dL_law_1025 : decode cL_law 1025 = .ok (.aload_n 1, 1) := dk_43 (dk_at dksL_law_37 13 rfl rfl)
theorem dL_law_1026 : decode cL_law 1026 = .ok (.aload_n 0, 1) := dk_42 (dk_at dksL_law_37 14 rfl rfl)
theorem dL_law_1027 : decode cL_law 1027 = .ok (.iload_n 3, 1) := dk_29 (dk_at dksL_law_37 15 rfl rfl)
theorem dL_law_1028 : decode cL_law 1028 = .ok (.iconst 1, 1) := dk_4 (dk_at dksL_law_37 16 rfl rfl)
theorem dL_law_1029 : decode cL_law 1029 = .ok (.iadd, 1) := dk_96 (dk_at dksL_law_37 17 rfl rfl)
theorem dL_law_1030 : decode cL_law 1030 = .ok (.iaload, 1) := dk_46 (dk_at dksL_law_37 18 rfl rfl)
theorem dL_law_1031 : decode cL_law 1031 = .ok (.aload_n 0, 1) := dk_42 (dk_at dksL_law_37 19 rfl rfl)
theorem dL_law_1032 : decode cL_law 1032 = .ok (.iload_n 3, 1) := dk_29 (dk_at dksL_law_37 20 rfl rfl)
theorem dL_law_1033 : decode cL_law 1033 = .ok (.iconst 2, 1) := dk_5 (dk_at dksL_law_37 21 rfl rfl)
theorem dL_law_1034 : decode cL_law 1034 = .ok (.iadd, 1) := dk_96 (dk_at dksL_law_37 22 rfl rfl)
theorem dL_law_1035 : decode cL_law 1035 = .ok (.iaload, 1) := dk_46 (dk_at dksL_law_37 23 rfl rfl)
theorem dL_law_1036 : decode cL_law 1036 = .ok (.invokevirtual 124, 3) := dk_182 0 124 (dk_at dksL_law_38 0 rfl rfl)
theorem dL_law_1039 : decode cL_law 1039 = .ok (.aload_n 2, 1) := dk_44 (dk_at dksL_law_38 3 rfl rfl)
theorem dL_law_1040 : decode cL_law 1040 = .ok (.aload_n 0, 1) := dk_42 (dk_at dksL_law_38 4 rfl rfl)
theorem dL_law_1041 : decode cL_law 1041 = .ok (.iload_n 3, 1) := dk_29 (dk_at dksL_law_38 5 rfl rfl)
theorem dL_law_1042 : decode cL_law 1042 = .ok (.iconst 1, 1) := dk_4 (dk_at dksL_law_38 6 rfl rfl)
theorem dL_law_1043 : decode cL_law 1043 = .ok (.iadd, 1) := dk_96 (dk_at dksL_law_38 7 rfl rfl)
theorem dL_law_1044 : decode cL_law 1044 = .ok (.iaload, 1) := dk_46 (dk_at dksL_law_38 8 rfl rfl)
theorem dL_law_1045 : decode cL_law 1045 = .ok (.aload_n 0, 1) := dk_42 (dk_at dksL_law_38 9 rfl rfl)
theorem dL_law_1046 : decode cL_law 1046 = .ok (.iload_n 3, 1) := dk_29 (dk_at dksL_law_38 10 rfl rfl)
theorem dL_law_1047 : decode cL_law 1047 = .ok (.iconst 2, 1) := dk_5 (dk_at dksL_law_38 11 rfl rfl)
theorem dL_law_1048 : decode cL_law 1048 = .ok (.iadd, 1) := dk_96 (dk_at dksL_law_38 12 rfl rfl)
theorem dL_law_1049 : decode cL_law 1049 = .ok (.iaload, 1) := dk_46 (dk_at dksL_law_38 13 rfl rfl)
theorem dL_law_1050 : decode cL_law 1050 = .ok (.invokevirtual 127, 3) := dk_182 0 127 (dk_at dksL_law_38 14 rfl rfl)
theorem dL_law_1053 : decode cL_law 1053 = .ok (.if_icmp .eq 352, 3) := dk_159 1 96 (dk_at dksL_law_38 17 rfl rfl)
theorem dL_law_1056 : decode cL_law 1056 = .ok (.iconst 0, 1) := dk_3 (dk_at dksL_law_38 20 rfl rfl)
theorem dL_law_1057 : decode cL_law 1057 = .ok (.ireturn, 1) := dk_172 (dk_at dksL_law_38 21 rfl rfl)
theorem dL_law_1058 : decode cL_law 1058 = .ok (.aload_n 1, 1) := dk_43 (dk_at dksL_law_38 22 rfl rfl)
theorem dL_law_1059 : decode cL_law 1059 = .ok (.aload_n 0, 1) := dk_42 (dk_at dksL_law_38 23 rfl rfl)
theorem dL_law_1060 : decode cL_law 1060 = .ok (.iload_n 3, 1) := dk_29 (dk_at dksL_law_39 0 rfl rfl)
theorem dL_law_1061 : decode cL_law 1061 = .ok (.iconst 1, 1) := dk_4 (dk_at dksL_law_39 1 rfl rfl)
theorem dL_law_1062 : decode cL_law 1062 = .ok (.iadd, 1) := dk_96 (dk_at dksL_law_39 2 rfl rfl)
theorem dL_law_1063 : decode cL_law 1063 = .ok (.iaload, 1) := dk_46 (dk_at dksL_law_39 3 rfl rfl)
theorem dL_law_1064 : decode cL_law 1064 = .ok (.aload_n 0, 1) := dk_42 (dk_at dksL_law_39 4 rfl rfl)
theorem dL_law_1065 : decode cL_law 1065 = .ok (.iload_n 3, 1) := dk_29 (dk_at dksL_law_39 5 rfl rfl)
theorem dL_law_1066 : decode cL_law 1066 = .ok (.iconst 2, 1) := dk_5 (dk_at dksL_law_39 6 rfl rfl)
theorem dL_law_1067 : decode cL_law 1067 = .ok (.iadd, 1) := dk_96 (dk_at dksL_law_39 7 rfl rfl)
theorem dL_law_1068 : decode cL_law 1068 = .ok (.iaload, 1) := dk_46 (dk_at dksL_law_39 8 rfl rfl)
theorem dL_law_1069 : decode cL_law 1069 = .ok (.aload_n 0, 1) := dk_42 (dk_at dksL_law_39 9 rfl rfl)
theorem dL_law_1070 : decode cL_law 1070 = .ok (.iload_n 3, 1) := dk_29 (dk_at dksL_law_39 10 rfl rfl)
theorem dL_law_1071 : decode cL_law 1071 = .ok (.iconst 3, 1) := dk_6 (dk_at dksL_law_39 11 rfl rfl)
theorem dL_law_1072 : decode cL_law 1072 = .ok (.iadd, 1) := dk_96 (dk_at dksL_law_39 12 rfl rfl)
theorem dL_law_1073 : decode cL_law 1073 = .ok (.iaload, 1) := dk_46 (dk_at dksL_law_39 13 rfl rfl)
theorem dL_law_1074 : decode cL_law 1074 = .ok (.invokevirtual 128, 3) := dk_182 0 128 (dk_at dksL_law_39 14 rfl rfl)
theorem dL_law_1077 : decode cL_law 1077 = .ok (.aload_n 2, 1) := dk_44 (dk_at dksL_law_39 17 rfl rfl)
theorem dL_law_1078 : decode cL_law 1078 = .ok (.aload_n 0, 1) := dk_42 (dk_at dksL_law_39 18 rfl rfl)
theorem dL_law_1079 : decode cL_law 1079 = .ok (.iload_n 3, 1) := dk_29 (dk_at dksL_law_39 19 rfl rfl)
theorem dL_law_1080 : decode cL_law 1080 = .ok (.iconst 1, 1) := dk_4 (dk_at dksL_law_39 20 rfl rfl)
theorem dL_law_1081 : decode cL_law 1081 = .ok (.iadd, 1) := dk_96 (dk_at dksL_law_39 21 rfl rfl)
theorem dL_law_1082 : decode cL_law 1082 = .ok (.iaload, 1) := dk_46 (dk_at dksL_law_39 22 rfl rfl)
theorem dL_law_1083 : decode cL_law 1083 = .ok (.aload_n 0, 1) := dk_42 (dk_at dksL_law_39 23 rfl rfl)
theorem dL_law_1084 : decode cL_law 1084 = .ok (.iload_n 3, 1) := dk_29 (dk_at dksL_law_40 0 rfl rfl)
theorem dL_law_1085 : decode cL_law 1085 = .ok (.iconst 2, 1) := dk_5 (dk_at dksL_law_40 1 rfl rfl)
theorem dL_law_1086 : decode cL_law 1086 = .ok (.iadd, 1) := dk_96 (dk_at dksL_law_40 2 rfl rfl)
theorem dL_law_1087 : decode cL_law 1087 = .ok (.iaload, 1) := dk_46 (dk_at dksL_law_40 3 rfl rfl)
theorem dL_law_1088 : decode cL_law 1088 = .ok (.aload_n 0, 1) := dk_42 (dk_at dksL_law_40 4 rfl rfl)
theorem dL_law_1089 : decode cL_law 1089 = .ok (.iload_n 3, 1) := dk_29 (dk_at dksL_law_40 5 rfl rfl)
theorem dL_law_1090 : decode cL_law 1090 = .ok (.iconst 3, 1) := dk_6 (dk_at dksL_law_40 6 rfl rfl)
theorem dL_law_1091 : decode cL_law 1091 = .ok (.iadd, 1) := dk_96 (dk_at dksL_law_40 7 rfl rfl)
theorem dL_law_1092 : decode cL_law 1092 = .ok (.iaload, 1) := dk_46 (dk_at dksL_law_40 8 rfl rfl)
theorem dL_law_1093 : decode cL_law 1093 = .ok (.invokevirtual 131, 3) := dk_182 0 131 (dk_at dksL_law_40 9 rfl rfl)
theorem dL_law_1096 : decode cL_law 1096 = .ok (.if_icmp .eq 309, 3) := dk_159 1 53 (dk_at dksL_law_40 12 rfl rfl)
theorem dL_law_1099 : decode cL_law 1099 = .ok (.iconst 0, 1) := dk_3 (dk_at dksL_law_40 15 rfl rfl)
theorem dL_law_1100 : decode cL_law 1100 = .ok (.ireturn, 1) := dk_172 (dk_at dksL_law_40 16 rfl rfl)
theorem dL_law_1101 : decode cL_law 1101 = .ok (.aload_n 1, 1) := dk_43 (dk_at dksL_law_40 17 rfl rfl)
theorem dL_law_1102 : decode cL_law 1102 = .ok (.aload_n 0, 1) := dk_42 (dk_at dksL_law_40 18 rfl rfl)
theorem dL_law_1103 : decode cL_law 1103 = .ok (.iload_n 3, 1) := dk_29 (dk_at dksL_law_40 19 rfl rfl)
theorem dL_law_1104 : decode cL_law 1104 = .ok (.iconst 1, 1) := dk_4 (dk_at dksL_law_40 20 rfl rfl)
theorem dL_law_1105 : decode cL_law 1105 = .ok (.iadd, 1) := dk_96 (dk_at dksL_law_40 21 rfl rfl)
theorem dL_law_1106 : decode cL_law 1106 = .ok (.iaload, 1) := dk_46 (dk_at dksL_law_40 22 rfl rfl)
theorem dL_law_1107 : decode cL_law 1107 = .ok (.aload_n 0, 1) := dk_42 (dk_at dksL_law_40 23 rfl rfl)
theorem dL_law_1108 : decode cL_law 1108 = .ok (.iload_n 3, 1) := dk_29 (dk_at dksL_law_41 0 rfl rfl)
theorem dL_law_1109 : decode cL_law 1109 = .ok (.iconst 2, 1) := dk_5 (dk_at dksL_law_41 1 rfl rfl)
theorem dL_law_1110 : decode cL_law 1110 = .ok (.iadd, 1) := dk_96 (dk_at dksL_law_41 2 rfl rfl)
theorem dL_law_1111 : decode cL_law 1111 = .ok (.iaload, 1) := dk_46 (dk_at dksL_law_41 3 rfl rfl)
theorem dL_law_1112 : decode cL_law 1112 = .ok (.invokevirtual 132, 3) := dk_182 0 132 (dk_at dksL_law_41 4 rfl rfl)
theorem dL_law_1115 : decode cL_law 1115 = .ok (.aload_n 2, 1) := dk_44 (dk_at dksL_law_41 7 rfl rfl)
theorem dL_law_1116 : decode cL_law 1116 = .ok (.aload_n 0, 1) := dk_42 (dk_at dksL_law_41 8 rfl rfl)
theorem dL_law_1117 : decode cL_law 1117 = .ok (.iload_n 3, 1) := dk_29 (dk_at dksL_law_41 9 rfl rfl)
theorem dL_law_1118 : decode cL_law 1118 = .ok (.iconst 1, 1) := dk_4 (dk_at dksL_law_41 10 rfl rfl)
theorem dL_law_1119 : decode cL_law 1119 = .ok (.iadd, 1) := dk_96 (dk_at dksL_law_41 11 rfl rfl)
theorem dL_law_1120 : decode cL_law 1120 = .ok (.iaload, 1) := dk_46 (dk_at dksL_law_41 12 rfl rfl)
theorem dL_law_1121 : decode cL_law 1121 = .ok (.aload_n 0, 1) := dk_42 (dk_at dksL_law_41 13 rfl rfl)
theorem dL_law_1122 : decode cL_law 1122 = .ok (.iload_n 3, 1) := dk_29 (dk_at dksL_law_41 14 rfl rfl)
theorem dL_law_1123 : decode cL_law 1123 = .ok (.iconst 2, 1) := dk_5 (dk_at dksL_law_41 15 rfl rfl)
theorem dL_law_1124 : decode cL_law 1124 = .ok (.iadd, 1) := dk_96 (dk_at dksL_law_41 16 rfl rfl)
theorem dL_law_1125 : decode cL_law 1125 = .ok (.iaload, 1) := dk_46 (dk_at dksL_law_41 17 rfl rfl)
theorem dL_law_1126 : decode cL_law 1126 = .ok (.invokevirtual 135, 3) := dk_182 0 135 (dk_at dksL_law_41 18 rfl rfl)
theorem dL_law_1129 : decode cL_law 1129 = .ok (.if_icmp .eq 276, 3) := dk_159 1 20 (dk_at dksL_law_41 21 rfl rfl)
theorem dL_law_1132 : decode cL_law 1132 = .ok (.iconst 0, 1) := dk_3 (dk_at dksL_law_42 0 rfl rfl)
theorem dL_law_1133 : decode cL_law 1133 = .ok (.ireturn, 1) := dk_172 (dk_at dksL_law_42 1 rfl rfl)
theorem dL_law_1134 : decode cL_law 1134 = .ok (.aload_n 1, 1) := dk_43 (dk_at dksL_law_42 2 rfl rfl)
theorem dL_law_1135 : decode cL_law 1135 = .ok (.aload_n 0, 1) := dk_42 (dk_at dksL_law_42 3 rfl rfl)
theorem dL_law_1136 : decode cL_law 1136 = .ok (.iload_n 3, 1) := dk_29 (dk_at dksL_law_42 4 rfl rfl)
theorem dL_law_1137 : decode cL_law 1137 = .ok (.iconst 1, 1) := dk_4 (dk_at dksL_law_42 5 rfl rfl)
theorem dL_law_1138 : decode cL_law 1138 = .ok (.iadd, 1) := dk_96 (dk_at dksL_law_42 6 rfl rfl)
theorem dL_law_1139 : decode cL_law 1139 = .ok (.iaload, 1) := dk_46 (dk_at dksL_law_42 7 rfl rfl)
theorem dL_law_1140 : decode cL_law 1140 = .ok (.aload_n 0, 1) := dk_42 (dk_at dksL_law_42 8 rfl rfl)
theorem dL_law_1141 : decode cL_law 1141 = .ok (.iload_n 3, 1) := dk_29 (dk_at dksL_law_42 9 rfl rfl)
theorem dL_law_1142 : decode cL_law 1142 = .ok (.iconst 2, 1) := dk_5 (dk_at dksL_law_42 10 rfl rfl)
theorem dL_law_1143 : decode cL_law 1143 = .ok (.iadd, 1) := dk_96 (dk_at dksL_law_42 11 rfl rfl)
theorem dL_law_1144 : decode cL_law 1144 = .ok (.iaload, 1) := dk_46 (dk_at dksL_law_42 12 rfl rfl)
theorem dL_law_1145 : decode cL_law 1145 = .ok (.aload_n 0, 1) := dk_42 (dk_at dksL_law_42 13 rfl rfl)
theorem dL_law_1146 : decode cL_law 1146 = .ok (.iload_n 3, 1) := dk_29 (dk_at dksL_law_42 14 rfl rfl)
theorem dL_law_1147 : decode cL_law 1147 = .ok (.iconst 3, 1) := dk_6 (dk_at dksL_law_42 15 rfl rfl)
theorem dL_law_1148 : decode cL_law 1148 = .ok (.iadd, 1) := dk_96 (dk_at dksL_law_42 16 rfl rfl)
theorem dL_law_1149 : decode cL_law 1149 = .ok (.iaload, 1) := dk_46 (dk_at dksL_law_42 17 rfl rfl)
theorem dL_law_1150 : decode cL_law 1150 = .ok (.invokevirtual 136, 3) := dk_182 0 136 (dk_at dksL_law_42 18 rfl rfl)
theorem dL_law_1153 : decode cL_law 1153 = .ok (.aload_n 2, 1) := dk_44 (dk_at dksL_law_42 21 rfl rfl)
theorem dL_law_1154 : decode cL_law 1154 = .ok (.aload_n 0, 1) := dk_42 (dk_at dksL_law_42 22 rfl rfl)
theorem dL_law_1155 : decode cL_law 1155 = .ok (.iload_n 3, 1) := dk_29 (dk_at dksL_law_42 23 rfl rfl)
theorem dL_law_1156 : decode cL_law 1156 = .ok (.iconst 1, 1) := dk_4 (dk_at dksL_law_43 0 rfl rfl)
theorem dL_law_1157 : decode cL_law 1157 = .ok (.iadd, 1) := dk_96 (dk_at dksL_law_43 1 rfl rfl)
theorem dL_law_1158 : decode cL_law 1158 = .ok (.iaload, 1) := dk_46 (dk_at dksL_law_43 2 rfl rfl)
theorem dL_law_1159 : decode cL_law 1159 = .ok (.aload_n 0, 1) := dk_42 (dk_at dksL_law_43 3 rfl rfl)
theorem dL_law_1160 : decode cL_law 1160 = .ok (.iload_n 3, 1) := dk_29 (dk_at dksL_law_43 4 rfl rfl)
theorem dL_law_1161 : decode cL_law 1161 = .ok (.iconst 2, 1) := dk_5 (dk_at dksL_law_43 5 rfl rfl)
theorem dL_law_1162 : decode cL_law 1162 = .ok (.iadd, 1) := dk_96 (dk_at dksL_law_43 6 rfl rfl)
theorem dL_law_1163 : decode cL_law 1163 = .ok (.iaload, 1) := dk_46 (dk_at dksL_law_43 7 rfl rfl)
theorem dL_law_1164 : decode cL_law 1164 = .ok (.aload_n 0, 1) := dk_42 (dk_at dksL_law_43 8 rfl rfl)
theorem dL_law_1165 : decode cL_law 1165 = .ok (.iload_n 3, 1) := dk_29 (dk_at dksL_law_43 9 rfl rfl)
theorem dL_law_1166 : decode cL_law 1166 = .ok (.iconst 3, 1) := dk_6 (dk_at dksL_law_43 10 rfl rfl)
theorem dL_law_1167 : decode cL_law 1167 = .ok (.iadd, 1) := dk_96 (dk_at dksL_law_43 11 rfl rfl)
theorem dL_law_1168 : decode cL_law 1168 = .ok (.iaload, 1) := dk_46 (dk_at dksL_law_43 12 rfl rfl)
theorem dL_law_1169 : decode cL_law 1169 = .ok (.invokevirtual 139, 3) := dk_182 0 139 (dk_at dksL_law_43 13 rfl rfl)
theorem dL_law_1172 : decode cL_law 1172 = .ok (.if_icmp .eq 233, 3) := dk_159 0 233 (dk_at dksL_law_43 16 rfl rfl)
theorem dL_law_1175 : decode cL_law 1175 = .ok (.iconst 0, 1) := dk_3 (dk_at dksL_law_43 19 rfl rfl)
theorem dL_law_1176 : decode cL_law 1176 = .ok (.ireturn, 1) := dk_172 (dk_at dksL_law_43 20 rfl rfl)
theorem dL_law_1177 : decode cL_law 1177 = .ok (.aload_n 1, 1) := dk_43 (dk_at dksL_law_43 21 rfl rfl)
theorem dL_law_1178 : decode cL_law 1178 = .ok (.aload_n 0, 1) := dk_42 (dk_at dksL_law_43 22 rfl rfl)
theorem dL_law_1179 : decode cL_law 1179 = .ok (.iload_n 3, 1) := dk_29 (dk_at dksL_law_43 23 rfl rfl)
theorem dL_law_1180 : decode cL_law 1180 = .ok (.iconst 1, 1) := dk_4 (dk_at dksL_law_44 0 rfl rfl)
theorem dL_law_1181 : decode cL_law 1181 = .ok (.iadd, 1) := dk_96 (dk_at dksL_law_44 1 rfl rfl)
theorem dL_law_1182 : decode cL_law 1182 = .ok (.iaload, 1) := dk_46 (dk_at dksL_law_44 2 rfl rfl)
theorem dL_law_1183 : decode cL_law 1183 = .ok (.invokevirtual 140, 3) := dk_182 0 140 (dk_at dksL_law_44 3 rfl rfl)
theorem dL_law_1186 : decode cL_law 1186 = .ok (.aload_n 2, 1) := dk_44 (dk_at dksL_law_44 6 rfl rfl)
theorem dL_law_1187 : decode cL_law 1187 = .ok (.aload_n 0, 1) := dk_42 (dk_at dksL_law_44 7 rfl rfl)
theorem dL_law_1188 : decode cL_law 1188 = .ok (.iload_n 3, 1) := dk_29 (dk_at dksL_law_44 8 rfl rfl)
theorem dL_law_1189 : decode cL_law 1189 = .ok (.iconst 1, 1) := dk_4 (dk_at dksL_law_44 9 rfl rfl)
theorem dL_law_1190 : decode cL_law 1190 = .ok (.iadd, 1) := dk_96 (dk_at dksL_law_44 10 rfl rfl)
theorem dL_law_1191 : decode cL_law 1191 = .ok (.iaload, 1) := dk_46 (dk_at dksL_law_44 11 rfl rfl)
theorem dL_law_1192 : decode cL_law 1192 = .ok (.invokevirtual 143, 3) := dk_182 0 143 (dk_at dksL_law_44 12 rfl rfl)
theorem dL_law_1195 : decode cL_law 1195 = .ok (.if_icmp .eq 210, 3) := dk_159 0 210 (dk_at dksL_law_44 15 rfl rfl)
theorem dL_law_1198 : decode cL_law 1198 = .ok (.iconst 0, 1) := dk_3 (dk_at dksL_law_44 18 rfl rfl)
theorem dL_law_1199 : decode cL_law 1199 = .ok (.ireturn, 1) := dk_172 (dk_at dksL_law_44 19 rfl rfl)
theorem dL_law_1200 : decode cL_law 1200 = .ok (.aload_n 1, 1) := dk_43 (dk_at dksL_law_44 20 rfl rfl)
theorem dL_law_1201 : decode cL_law 1201 = .ok (.aload_n 0, 1) := dk_42 (dk_at dksL_law_44 21 rfl rfl)
theorem dL_law_1202 : decode cL_law 1202 = .ok (.iload_n 3, 1) := dk_29 (dk_at dksL_law_44 22 rfl rfl)
theorem dL_law_1203 : decode cL_law 1203 = .ok (.iconst 1, 1) := dk_4 (dk_at dksL_law_44 23 rfl rfl)
theorem dL_law_1204 : decode cL_law 1204 = .ok (.iadd, 1) := dk_96 (dk_at dksL_law_45 0 rfl rfl)
theorem dL_law_1205 : decode cL_law 1205 = .ok (.iaload, 1) := dk_46 (dk_at dksL_law_45 1 rfl rfl)
theorem dL_law_1206 : decode cL_law 1206 = .ok (.aload_n 0, 1) := dk_42 (dk_at dksL_law_45 2 rfl rfl)
theorem dL_law_1207 : decode cL_law 1207 = .ok (.iload_n 3, 1) := dk_29 (dk_at dksL_law_45 3 rfl rfl)
theorem dL_law_1208 : decode cL_law 1208 = .ok (.iconst 2, 1) := dk_5 (dk_at dksL_law_45 4 rfl rfl)
theorem dL_law_1209 : decode cL_law 1209 = .ok (.iadd, 1) := dk_96 (dk_at dksL_law_45 5 rfl rfl)
theorem dL_law_1210 : decode cL_law 1210 = .ok (.iaload, 1) := dk_46 (dk_at dksL_law_45 6 rfl rfl)
theorem dL_law_1211 : decode cL_law 1211 = .ok (.aload_n 0, 1) := dk_42 (dk_at dksL_law_45 7 rfl rfl)
theorem dL_law_1212 : decode cL_law 1212 = .ok (.iload_n 3, 1) := dk_29 (dk_at dksL_law_45 8 rfl rfl)
theorem dL_law_1213 : decode cL_law 1213 = .ok (.iconst 3, 1) := dk_6 (dk_at dksL_law_45 9 rfl rfl)
theorem dL_law_1214 : decode cL_law 1214 = .ok (.iadd, 1) := dk_96 (dk_at dksL_law_45 10 rfl rfl)
theorem dL_law_1215 : decode cL_law 1215 = .ok (.iaload, 1) := dk_46 (dk_at dksL_law_45 11 rfl rfl)
theorem dL_law_1216 : decode cL_law 1216 = .ok (.invokevirtual 144, 3) := dk_182 0 144 (dk_at dksL_law_45 12 rfl rfl)
theorem dL_law_1219 : decode cL_law 1219 = .ok (.aload_n 2, 1) := dk_44 (dk_at dksL_law_45 15 rfl rfl)
theorem dL_law_1220 : decode cL_law 1220 = .ok (.aload_n 0, 1) := dk_42 (dk_at dksL_law_45 16 rfl rfl)
theorem dL_law_1221 : decode cL_law 1221 = .ok (.iload_n 3, 1) := dk_29 (dk_at dksL_law_45 17 rfl rfl)
theorem dL_law_1222 : decode cL_law 1222 = .ok (.iconst 1, 1) := dk_4 (dk_at dksL_law_45 18 rfl rfl)
theorem dL_law_1223 : decode cL_law 1223 = .ok (.iadd, 1) := dk_96 (dk_at dksL_law_45 19 rfl rfl)
theorem dL_law_1224 : decode cL_law 1224 = .ok (.iaload, 1) := dk_46 (dk_at dksL_law_45 20 rfl rfl)
theorem dL_law_1225 : decode cL_law 1225 = .ok (.aload_n 0, 1) := dk_42 (dk_at dksL_law_45 21 rfl rfl)
theorem dL_law_1226 : decode cL_law 1226 = .ok (.iload_n 3, 1) := dk_29 (dk_at dksL_law_45 22 rfl rfl)
theorem dL_law_1227 : decode cL_law 1227 = .ok (.iconst 2, 1) := dk_5 (dk_at dksL_law_45 23 rfl rfl)
theorem dL_law_1228 : decode cL_law 1228 = .ok (.iadd, 1) := dk_96 (dk_at dksL_law_46 0 rfl rfl)
theorem dL_law_1229 : decode cL_law 1229 = .ok (.iaload, 1) := dk_46 (dk_at dksL_law_46 1 rfl rfl)
theorem dL_law_1230 : decode cL_law 1230 = .ok (.aload_n 0, 1) := dk_42 (dk_at dksL_law_46 2 rfl rfl)
theorem dL_law_1231 : decode cL_law 1231 = .ok (.iload_n 3, 1) := dk_29 (dk_at dksL_law_46 3 rfl rfl)
theorem dL_law_1232 : decode cL_law 1232 = .ok (.iconst 3, 1) := dk_6 (dk_at dksL_law_46 4 rfl rfl)
theorem dL_law_1233 : decode cL_law 1233 = .ok (.iadd, 1) := dk_96 (dk_at dksL_law_46 5 rfl rfl)
theorem dL_law_1234 : decode cL_law 1234 = .ok (.iaload, 1) := dk_46 (dk_at dksL_law_46 6 rfl rfl)
theorem dL_law_1235 : decode cL_law 1235 = .ok (.invokevirtual 147, 3) := dk_182 0 147 (dk_at dksL_law_46 7 rfl rfl)
theorem dL_law_1238 : decode cL_law 1238 = .ok (.if_icmp .eq 167, 3) := dk_159 0 167 (dk_at dksL_law_46 10 rfl rfl)
theorem dL_law_1241 : decode cL_law 1241 = .ok (.iconst 0, 1) := dk_3 (dk_at dksL_law_46 13 rfl rfl)
theorem dL_law_1242 : decode cL_law 1242 = .ok (.ireturn, 1) := dk_172 (dk_at dksL_law_46 14 rfl rfl)
theorem dL_law_1243 : decode cL_law 1243 = .ok (.aload_n 1, 1) := dk_43 (dk_at dksL_law_46 15 rfl rfl)
theorem dL_law_1244 : decode cL_law 1244 = .ok (.aload_n 0, 1) := dk_42 (dk_at dksL_law_46 16 rfl rfl)
theorem dL_law_1245 : decode cL_law 1245 = .ok (.iload_n 3, 1) := dk_29 (dk_at dksL_law_46 17 rfl rfl)
theorem dL_law_1246 : decode cL_law 1246 = .ok (.iconst 1, 1) := dk_4 (dk_at dksL_law_46 18 rfl rfl)
theorem dL_law_1247 : decode cL_law 1247 = .ok (.iadd, 1) := dk_96 (dk_at dksL_law_46 19 rfl rfl)
theorem dL_law_1248 : decode cL_law 1248 = .ok (.iaload, 1) := dk_46 (dk_at dksL_law_46 20 rfl rfl)
theorem dL_law_1249 : decode cL_law 1249 = .ok (.invokevirtual 148, 3) := dk_182 0 148 (dk_at dksL_law_46 21 rfl rfl)
theorem dL_law_1252 : decode cL_law 1252 = .ok (.aload_n 2, 1) := dk_44 (dk_at dksL_law_47 0 rfl rfl)
theorem dL_law_1253 : decode cL_law 1253 = .ok (.aload_n 0, 1) := dk_42 (dk_at dksL_law_47 1 rfl rfl)
theorem dL_law_1254 : decode cL_law 1254 = .ok (.iload_n 3, 1) := dk_29 (dk_at dksL_law_47 2 rfl rfl)
theorem dL_law_1255 : decode cL_law 1255 = .ok (.iconst 1, 1) := dk_4 (dk_at dksL_law_47 3 rfl rfl)
theorem dL_law_1256 : decode cL_law 1256 = .ok (.iadd, 1) := dk_96 (dk_at dksL_law_47 4 rfl rfl)
theorem dL_law_1257 : decode cL_law 1257 = .ok (.iaload, 1) := dk_46 (dk_at dksL_law_47 5 rfl rfl)
theorem dL_law_1258 : decode cL_law 1258 = .ok (.invokevirtual 151, 3) := dk_182 0 151 (dk_at dksL_law_47 6 rfl rfl)
theorem dL_law_1261 : decode cL_law 1261 = .ok (.lcmp, 1) := dk_148 (dk_at dksL_law_47 9 rfl rfl)
theorem dL_law_1262 : decode cL_law 1262 = .ok (.ifCond .eq 143, 3) := dk_153 0 143 (dk_at dksL_law_47 10 rfl rfl)
theorem dL_law_1265 : decode cL_law 1265 = .ok (.iconst 0, 1) := dk_3 (dk_at dksL_law_47 13 rfl rfl)
theorem dL_law_1266 : decode cL_law 1266 = .ok (.ireturn, 1) := dk_172 (dk_at dksL_law_47 14 rfl rfl)
theorem dL_law_1267 : decode cL_law 1267 = .ok (.aload_n 1, 1) := dk_43 (dk_at dksL_law_47 15 rfl rfl)
theorem dL_law_1268 : decode cL_law 1268 = .ok (.aload_n 0, 1) := dk_42 (dk_at dksL_law_47 16 rfl rfl)
theorem dL_law_1269 : decode cL_law 1269 = .ok (.iload_n 3, 1) := dk_29 (dk_at dksL_law_47 17 rfl rfl)
theorem dL_law_1270 : decode cL_law 1270 = .ok (.iconst 1, 1) := dk_4 (dk_at dksL_law_47 18 rfl rfl)
theorem dL_law_1271 : decode cL_law 1271 = .ok (.iadd, 1) := dk_96 (dk_at dksL_law_47 19 rfl rfl)
theorem dL_law_1272 : decode cL_law 1272 = .ok (.iaload, 1) := dk_46 (dk_at dksL_law_47 20 rfl rfl)
theorem dL_law_1273 : decode cL_law 1273 = .ok (.aload_n 0, 1) := dk_42 (dk_at dksL_law_47 21 rfl rfl)
theorem dL_law_1274 : decode cL_law 1274 = .ok (.iload_n 3, 1) := dk_29 (dk_at dksL_law_47 22 rfl rfl)
theorem dL_law_1275 : decode cL_law 1275 = .ok (.iconst 2, 1) := dk_5 (dk_at dksL_law_47 23 rfl rfl)
theorem dL_law_1276 : decode cL_law 1276 = .ok (.iadd, 1) := dk_96 (dk_at dksL_law_48 0 rfl rfl)
theorem dL_law_1277 : decode cL_law 1277 = .ok (.iaload, 1) := dk_46 (dk_at dksL_law_48 1 rfl rfl)
theorem dL_law_1278 : decode cL_law 1278 = .ok (.invokevirtual 152, 3) := dk_182 0 152 (dk_at dksL_law_48 2 rfl rfl)
theorem dL_law_1281 : decode cL_law 1281 = .ok (.aload_n 2, 1) := dk_44 (dk_at dksL_law_48 5 rfl rfl)
theorem dL_law_1282 : decode cL_law 1282 = .ok (.aload_n 0, 1) := dk_42 (dk_at dksL_law_48 6 rfl rfl)
theorem dL_law_1283 : decode cL_law 1283 = .ok (.iload_n 3, 1) := dk_29 (dk_at dksL_law_48 7 rfl rfl)
theorem dL_law_1284 : decode cL_law 1284 = .ok (.iconst 1, 1) := dk_4 (dk_at dksL_law_48 8 rfl rfl)
theorem dL_law_1285 : decode cL_law 1285 = .ok (.iadd, 1) := dk_96 (dk_at dksL_law_48 9 rfl rfl)
theorem dL_law_1286 : decode cL_law 1286 = .ok (.iaload, 1) := dk_46 (dk_at dksL_law_48 10 rfl rfl)
theorem dL_law_1287 : decode cL_law 1287 = .ok (.aload_n 0, 1) := dk_42 (dk_at dksL_law_48 11 rfl rfl)
theorem dL_law_1288 : decode cL_law 1288 = .ok (.iload_n 3, 1) := dk_29 (dk_at dksL_law_48 12 rfl rfl)
theorem dL_law_1289 : decode cL_law 1289 = .ok (.iconst 2, 1) := dk_5 (dk_at dksL_law_48 13 rfl rfl)
theorem dL_law_1290 : decode cL_law 1290 = .ok (.iadd, 1) := dk_96 (dk_at dksL_law_48 14 rfl rfl)
theorem dL_law_1291 : decode cL_law 1291 = .ok (.iaload, 1) := dk_46 (dk_at dksL_law_48 15 rfl rfl)
theorem dL_law_1292 : decode cL_law 1292 = .ok (.invokevirtual 155, 3) := dk_182 0 155 (dk_at dksL_law_48 16 rfl rfl)
theorem dL_law_1295 : decode cL_law 1295 = .ok (.if_icmp .eq 110, 3) := dk_159 0 110 (dk_at dksL_law_48 19 rfl rfl)
theorem dL_law_1298 : decode cL_law 1298 = .ok (.iconst 0, 1) := dk_3 (dk_at dksL_law_48 22 rfl rfl)
theorem dL_law_1299 : decode cL_law 1299 = .ok (.ireturn, 1) := dk_172 (dk_at dksL_law_48 23 rfl rfl)
theorem dL_law_1300 : decode cL_law 1300 = .ok (.aload_n 1, 1) := dk_43 (dk_at dksL_law_49 0 rfl rfl)
theorem dL_law_1301 : decode cL_law 1301 = .ok (.aload_n 0, 1) := dk_42 (dk_at dksL_law_49 1 rfl rfl)
theorem dL_law_1302 : decode cL_law 1302 = .ok (.iload_n 3, 1) := dk_29 (dk_at dksL_law_49 2 rfl rfl)
theorem dL_law_1303 : decode cL_law 1303 = .ok (.iconst 1, 1) := dk_4 (dk_at dksL_law_49 3 rfl rfl)
theorem dL_law_1304 : decode cL_law 1304 = .ok (.iadd, 1) := dk_96 (dk_at dksL_law_49 4 rfl rfl)
theorem dL_law_1305 : decode cL_law 1305 = .ok (.iaload, 1) := dk_46 (dk_at dksL_law_49 5 rfl rfl)
theorem dL_law_1306 : decode cL_law 1306 = .ok (.aload_n 0, 1) := dk_42 (dk_at dksL_law_49 6 rfl rfl)
theorem dL_law_1307 : decode cL_law 1307 = .ok (.iload_n 3, 1) := dk_29 (dk_at dksL_law_49 7 rfl rfl)
theorem dL_law_1308 : decode cL_law 1308 = .ok (.iconst 2, 1) := dk_5 (dk_at dksL_law_49 8 rfl rfl)
theorem dL_law_1309 : decode cL_law 1309 = .ok (.iadd, 1) := dk_96 (dk_at dksL_law_49 9 rfl rfl)
theorem dL_law_1310 : decode cL_law 1310 = .ok (.iaload, 1) := dk_46 (dk_at dksL_law_49 10 rfl rfl)
theorem dL_law_1311 : decode cL_law 1311 = .ok (.invokevirtual 156, 3) := dk_182 0 156 (dk_at dksL_law_49 11 rfl rfl)
theorem dL_law_1314 : decode cL_law 1314 = .ok (.aload_n 2, 1) := dk_44 (dk_at dksL_law_49 14 rfl rfl)
theorem dL_law_1315 : decode cL_law 1315 = .ok (.aload_n 0, 1) := dk_42 (dk_at dksL_law_49 15 rfl rfl)
theorem dL_law_1316 : decode cL_law 1316 = .ok (.iload_n 3, 1) := dk_29 (dk_at dksL_law_49 16 rfl rfl)
theorem dL_law_1317 : decode cL_law 1317 = .ok (.iconst 1, 1) := dk_4 (dk_at dksL_law_49 17 rfl rfl)
theorem dL_law_1318 : decode cL_law 1318 = .ok (.iadd, 1) := dk_96 (dk_at dksL_law_49 18 rfl rfl)
theorem dL_law_1319 : decode cL_law 1319 = .ok (.iaload, 1) := dk_46 (dk_at dksL_law_49 19 rfl rfl)
theorem dL_law_1320 : decode cL_law 1320 = .ok (.aload_n 0, 1) := dk_42 (dk_at dksL_law_49 20 rfl rfl)
theorem dL_law_1321 : decode cL_law 1321 = .ok (.iload_n 3, 1) := dk_29 (dk_at dksL_law_49 21 rfl rfl)
theorem dL_law_1322 : decode cL_law 1322 = .ok (.iconst 2, 1) := dk_5 (dk_at dksL_law_49 22 rfl rfl)
theorem dL_law_1323 : decode cL_law 1323 = .ok (.iadd, 1) := dk_96 (dk_at dksL_law_49 23 rfl rfl)
theorem dL_law_1324 : decode cL_law 1324 = .ok (.iaload, 1) := dk_46 (dk_at dksL_law_50 0 rfl rfl)
theorem dL_law_1325 : decode cL_law 1325 = .ok (.invokevirtual 159, 3) := dk_182 0 159 (dk_at dksL_law_50 1 rfl rfl)
theorem dL_law_1328 : decode cL_law 1328 = .ok (.if_icmp .eq 77, 3) := dk_159 0 77 (dk_at dksL_law_50 4 rfl rfl)
theorem dL_law_1331 : decode cL_law 1331 = .ok (.iconst 0, 1) := dk_3 (dk_at dksL_law_50 7 rfl rfl)
theorem dL_law_1332 : decode cL_law 1332 = .ok (.ireturn, 1) := dk_172 (dk_at dksL_law_50 8 rfl rfl)
theorem dL_law_1333 : decode cL_law 1333 = .ok (.aload_n 1, 1) := dk_43 (dk_at dksL_law_50 9 rfl rfl)
theorem dL_law_1334 : decode cL_law 1334 = .ok (.aload_n 0, 1) := dk_42 (dk_at dksL_law_50 10 rfl rfl)
theorem dL_law_1335 : decode cL_law 1335 = .ok (.iload_n 3, 1) := dk_29 (dk_at dksL_law_50 11 rfl rfl)
theorem dL_law_1336 : decode cL_law 1336 = .ok (.iconst 1, 1) := dk_4 (dk_at dksL_law_50 12 rfl rfl)
theorem dL_law_1337 : decode cL_law 1337 = .ok (.iadd, 1) := dk_96 (dk_at dksL_law_50 13 rfl rfl)
theorem dL_law_1338 : decode cL_law 1338 = .ok (.iaload, 1) := dk_46 (dk_at dksL_law_50 14 rfl rfl)
theorem dL_law_1339 : decode cL_law 1339 = .ok (.invokevirtual 160, 3) := dk_182 0 160 (dk_at dksL_law_50 15 rfl rfl)
theorem dL_law_1342 : decode cL_law 1342 = .ok (.aload_n 2, 1) := dk_44 (dk_at dksL_law_50 18 rfl rfl)
theorem dL_law_1343 : decode cL_law 1343 = .ok (.aload_n 0, 1) := dk_42 (dk_at dksL_law_50 19 rfl rfl)
theorem dL_law_1344 : decode cL_law 1344 = .ok (.iload_n 3, 1) := dk_29 (dk_at dksL_law_50 20 rfl rfl)
theorem dL_law_1345 : decode cL_law 1345 = .ok (.iconst 1, 1) := dk_4 (dk_at dksL_law_50 21 rfl rfl)
theorem dL_law_1346 : decode cL_law 1346 = .ok (.iadd, 1) := dk_96 (dk_at dksL_law_50 22 rfl rfl)
theorem dL_law_1347 : decode cL_law 1347 = .ok (.iaload, 1) := dk_46 (dk_at dksL_law_50 23 rfl rfl)
theorem dL_law_1348 : decode cL_law 1348 = .ok (.invokevirtual 163, 3) := dk_182 0 163 (dk_at dksL_law_51 0 rfl rfl)
theorem dL_law_1351 : decode cL_law 1351 = .ok (.if_icmp .eq 54, 3) := dk_159 0 54 (dk_at dksL_law_51 3 rfl rfl)
theorem dL_law_1354 : decode cL_law 1354 = .ok (.iconst 0, 1) := dk_3 (dk_at dksL_law_51 6 rfl rfl)
theorem dL_law_1355 : decode cL_law 1355 = .ok (.ireturn, 1) := dk_172 (dk_at dksL_law_51 7 rfl rfl)
theorem dL_law_1356 : decode cL_law 1356 = .ok (.aload_n 1, 1) := dk_43 (dk_at dksL_law_51 8 rfl rfl)
theorem dL_law_1357 : decode cL_law 1357 = .ok (.invokevirtual 164, 3) := dk_182 0 164 (dk_at dksL_law_51 9 rfl rfl)
theorem dL_law_1360 : decode cL_law 1360 = .ok (.aload_n 2, 1) := dk_44 (dk_at dksL_law_51 12 rfl rfl)
theorem dL_law_1361 : decode cL_law 1361 = .ok (.invokevirtual 167, 3) := dk_182 0 167 (dk_at dksL_law_51 13 rfl rfl)
theorem dL_law_1364 : decode cL_law 1364 = .ok (.if_icmp .eq 41, 3) := dk_159 0 41 (dk_at dksL_law_51 16 rfl rfl)
theorem dL_law_1367 : decode cL_law 1367 = .ok (.iconst 0, 1) := dk_3 (dk_at dksL_law_51 19 rfl rfl)
theorem dL_law_1368 : decode cL_law 1368 = .ok (.ireturn, 1) := dk_172 (dk_at dksL_law_51 20 rfl rfl)
theorem dL_law_1369 : decode cL_law 1369 = .ok (.aload_n 1, 1) := dk_43 (dk_at dksL_law_51 21 rfl rfl)
theorem dL_law_1370 : decode cL_law 1370 = .ok (.invokevirtual 168, 3) := dk_182 0 168 (dk_at dksL_law_52 0 rfl rfl)
theorem dL_law_1373 : decode cL_law 1373 = .ok (.aload_n 2, 1) := dk_44 (dk_at dksL_law_52 3 rfl rfl)
theorem dL_law_1374 : decode cL_law 1374 = .ok (.invokevirtual 171, 3) := dk_182 0 171 (dk_at dksL_law_52 4 rfl rfl)
theorem dL_law_1377 : decode cL_law 1377 = .ok (.if_icmp .eq 28, 3) := dk_159 0 28 (dk_at dksL_law_52 7 rfl rfl)
theorem dL_law_1380 : decode cL_law 1380 = .ok (.iconst 0, 1) := dk_3 (dk_at dksL_law_52 10 rfl rfl)
theorem dL_law_1381 : decode cL_law 1381 = .ok (.ireturn, 1) := dk_172 (dk_at dksL_law_52 11 rfl rfl)
theorem dL_law_1382 : decode cL_law 1382 = .ok (.aload_n 1, 1) := dk_43 (dk_at dksL_law_52 12 rfl rfl)
theorem dL_law_1383 : decode cL_law 1383 = .ok (.aload_n 0, 1) := dk_42 (dk_at dksL_law_52 13 rfl rfl)
theorem dL_law_1384 : decode cL_law 1384 = .ok (.iload_n 3, 1) := dk_29 (dk_at dksL_law_52 14 rfl rfl)
theorem dL_law_1385 : decode cL_law 1385 = .ok (.iconst 1, 1) := dk_4 (dk_at dksL_law_52 15 rfl rfl)
theorem dL_law_1386 : decode cL_law 1386 = .ok (.iadd, 1) := dk_96 (dk_at dksL_law_52 16 rfl rfl)
theorem dL_law_1387 : decode cL_law 1387 = .ok (.iaload, 1) := dk_46 (dk_at dksL_law_52 17 rfl rfl)
theorem dL_law_1388 : decode cL_law 1388 = .ok (.invokevirtual 172, 3) := dk_182 0 172 (dk_at dksL_law_52 18 rfl rfl)
theorem dL_law_1391 : decode cL_law 1391 = .ok (.aload_n 2, 1) := dk_44 (dk_at dksL_law_52 21 rfl rfl)
theorem dL_law_1392 : decode cL_law 1392 = .ok (.aload_n 0, 1) := dk_42 (dk_at dksL_law_52 22 rfl rfl)
theorem dL_law_1393 : decode cL_law 1393 = .ok (.iload_n 3, 1) := dk_29 (dk_at dksL_law_52 23 rfl rfl)
theorem dL_law_1394 : decode cL_law 1394 = .ok (.iconst 1, 1) := dk_4 (dk_at dksL_law_53 0 rfl rfl)
theorem dL_law_1395 : decode cL_law 1395 = .ok (.iadd, 1) := dk_96 (dk_at dksL_law_53 1 rfl rfl)
theorem dL_law_1396 : decode cL_law 1396 = .ok (.iaload, 1) := dk_46 (dk_at dksL_law_53 2 rfl rfl)
theorem dL_law_1397 : decode cL_law 1397 = .ok (.invokevirtual 175, 3) := dk_182 0 175 (dk_at dksL_law_53 3 rfl rfl)
theorem dL_law_1400 : decode cL_law 1400 = .ok (.if_icmp .eq 5, 3) := dk_159 0 5 (dk_at dksL_law_53 6 rfl rfl)
theorem dL_law_1403 : decode cL_law 1403 = .ok (.iconst 0, 1) := dk_3 (dk_at dksL_law_53 9 rfl rfl)
theorem dL_law_1404 : decode cL_law 1404 = .ok (.ireturn, 1) := dk_172 (dk_at dksL_law_53 10 rfl rfl)
theorem dL_law_1405 : decode cL_law 1405 = .ok (.iinc 3 7, 3) := dk_132 3 7 (dk_at dksL_law_53 11 rfl rfl)
theorem dL_law_1408 : decode cL_law 1408 = .ok (.goto (-1390), 3) := dk_167 250 146 (dk_at dksL_law_53 14 rfl rfl)
theorem dL_law_1411 : decode cL_law 1411 = .ok (.iconst 1, 1) := dk_4 (dk_at dksL_law_53 17 rfl rfl)
theorem dL_law_1412 : decode cL_law 1412 = .ok (.ireturn, 1) := dk_172 (dk_at dksL_law_53 18 rfl rfl)
abbrev cX0_init : ByteArray := prog_1_method_1_code
def dkwX0_init_1 : List UInt8 := [187, 0, 13, 89, 183, 0, 15, 181, 0, 20, 177]
abbrev dktX0_init_1 : List UInt8 := dkwX0_init_1 ++ []
def dkwX0_init_0 : List UInt8 := [42, 183, 0, 1, 42, 16, 60, 188, 8, 181, 0, 9, 42, 187, 0, 13, 89, 183, 0, 15, 181, 0, 16, 42]
abbrev dktX0_init_0 : List UInt8 := dkwX0_init_0 ++ dktX0_init_1
theorem dksX0_init_0 : cX0_init.data.toList.drop 0 = dktX0_init_0 := by decide +kernel
theorem dksX0_init_1 : cX0_init.data.toList.drop 24 = dktX0_init_1 := dk_seg dksX0_init_0 24 rfl rfl
theorem dX0_init_0 : decode cX0_init 0 = .ok (.aload_n 0, 1) := dk_42 (dk_at dksX0_init_0 0 rfl rfl)
theorem dX0_init_1 : decode cX0_init 1 = .ok (.invokespecial 1, 3) := dk_183 0 1 (dk_at dksX0_init_0 1 rfl rfl)
theorem dX0_init_4 : decode cX0_init 4 = .ok (.aload_n 0, 1) := dk_42 (dk_at dksX0_init_0 4 rfl rfl)
theorem dX0_init_5 : decode cX0_init 5 = .ok (.bipush 60, 2) := dk_16 60 (dk_at dksX0_init_0 5 rfl rfl)
theorem dX0_init_7 : decode cX0_init 7 = .ok (.newarray .byte, 2) := dk_188_8 (dk_at dksX0_init_0 7 rfl rfl)
theorem dX0_init_9 : decode cX0_init 9 = .ok (.putfield 9, 3) := dk_181 0 9 (dk_at dksX0_init_0 9 rfl rfl)
theorem dX0_init_12 : decode cX0_init 12 = .ok (.aload_n 0, 1) := dk_42 (dk_at dksX0_init_0 12 rfl rfl)
theorem dX0_init_13 : decode cX0_init 13 = .ok (.new 13, 3) := dk_187 0 13 (dk_at dksX0_init_0 13 rfl rfl)
theorem dX0_init_16 : decode cX0_init 16 = .ok (.dup, 1) := dk_89 (dk_at dksX0_init_0 16 rfl rfl)
theorem dX0_init_17 : decode cX0_init 17 = .ok (.invokespecial 15, 3) := dk_183 0 15 (dk_at dksX0_init_0 17 rfl rfl)
theorem dX0_init_20 : decode cX0_init 20 = .ok (.putfield 16, 3) := dk_181 0 16 (dk_at dksX0_init_0 20 rfl rfl)
theorem dX0_init_23 : decode cX0_init 23 = .ok (.aload_n 0, 1) := dk_42 (dk_at dksX0_init_0 23 rfl rfl)
theorem dX0_init_24 : decode cX0_init 24 = .ok (.new 13, 3) := dk_187 0 13 (dk_at dksX0_init_1 0 rfl rfl)
theorem dX0_init_27 : decode cX0_init 27 = .ok (.dup, 1) := dk_89 (dk_at dksX0_init_1 3 rfl rfl)
theorem dX0_init_28 : decode cX0_init 28 = .ok (.invokespecial 15, 3) := dk_183 0 15 (dk_at dksX0_init_1 4 rfl rfl)
theorem dX0_init_31 : decode cX0_init 31 = .ok (.putfield 20, 3) := dk_181 0 20 (dk_at dksX0_init_1 7 rfl rfl)
theorem dX0_init_34 : decode cX0_init 34 = .ok (.return_, 1) := dk_177 (dk_at dksX0_init_1 10 rfl rfl)
abbrev cX0_weight : ByteArray := prog_1_method_7_code
def dkwX0_weight_1 : List UInt8 := [180, 0, 16, 180, 0, 61, 27, 46, 62, 42, 180, 0, 16, 180, 0, 61, 27, 28, 79, 29, 172]
abbrev dktX0_weight_1 : List UInt8 := dkwX0_weight_1 ++ []
def dkwX0_weight_0 : List UInt8 := [27, 184, 0, 55, 153, 0, 15, 28, 133, 10, 20, 0, 59, 184, 0, 25, 154, 0, 5, 2, 172, 42]
abbrev dktX0_weight_0 : List UInt8 := dkwX0_weight_0 ++ dktX0_weight_1
theorem dksX0_weight_0 : cX0_weight.data.toList.drop 0 = dktX0_weight_0 := by decide +kernel
theorem dksX0_weight_1 : cX0_weight.data.toList.drop 22 = dktX0_weight_1 := dk_seg dksX0_weight_0 22 rfl rfl
theorem dX0_weight_0 : decode cX0_weight 0 = .ok (.iload_n 1, 1) := dk_27 (dk_at dksX0_weight_0 0 rfl rfl)
theorem dX0_weight_1 : decode cX0_weight 1 = .ok (.invokestatic 55, 3) := dk_184 0 55 (dk_at dksX0_weight_0 1 rfl rfl)
theorem dX0_weight_4 : decode cX0_weight 4 = .ok (.ifCond .eq 15, 3) := dk_153 0 15 (dk_at dksX0_weight_0 4 rfl rfl)
theorem dX0_weight_7 : decode cX0_weight 7 = .ok (.iload_n 2, 1) := dk_28 (dk_at dksX0_weight_0 7 rfl rfl)
theorem dX0_weight_8 : decode cX0_weight 8 = .ok (.i2l, 1) := dk_133 (dk_at dksX0_weight_0 8 rfl rfl)
theorem dX0_weight_9 : decode cX0_weight 9 = .ok (.lconst 1, 1) := dk_10 (dk_at dksX0_weight_0 9 rfl rfl)
theorem dX0_weight_10 : decode cX0_weight 10 = .ok (.ldc2_w 59, 3) := dk_20 0 59 (dk_at dksX0_weight_0 10 rfl rfl)
theorem dX0_weight_13 : decode cX0_weight 13 = .ok (.invokestatic 25, 3) := dk_184 0 25 (dk_at dksX0_weight_0 13 rfl rfl)
theorem dX0_weight_16 : decode cX0_weight 16 = .ok (.ifCond .ne 5, 3) := dk_154 0 5 (dk_at dksX0_weight_0 16 rfl rfl)
theorem dX0_weight_19 : decode cX0_weight 19 = .ok (.iconst (-1), 1) := dk_2 (dk_at dksX0_weight_0 19 rfl rfl)
theorem dX0_weight_20 : decode cX0_weight 20 = .ok (.ireturn, 1) := dk_172 (dk_at dksX0_weight_0 20 rfl rfl)
theorem dX0_weight_21 : decode cX0_weight 21 = .ok (.aload_n 0, 1) := dk_42 (dk_at dksX0_weight_0 21 rfl rfl)
theorem dX0_weight_22 : decode cX0_weight 22 = .ok (.getfield 16, 3) := dk_180 0 16 (dk_at dksX0_weight_1 0 rfl rfl)
theorem dX0_weight_25 : decode cX0_weight 25 = .ok (.getfield 61, 3) := dk_180 0 61 (dk_at dksX0_weight_1 3 rfl rfl)
theorem dX0_weight_28 : decode cX0_weight 28 = .ok (.iload_n 1, 1) := dk_27 (dk_at dksX0_weight_1 6 rfl rfl)
theorem dX0_weight_29 : decode cX0_weight 29 = .ok (.iaload, 1) := dk_46 (dk_at dksX0_weight_1 7 rfl rfl)
theorem dX0_weight_30 : decode cX0_weight 30 = .ok (.istore_n 3, 1) := dk_62 (dk_at dksX0_weight_1 8 rfl rfl)
theorem dX0_weight_31 : decode cX0_weight 31 = .ok (.aload_n 0, 1) := dk_42 (dk_at dksX0_weight_1 9 rfl rfl)
theorem dX0_weight_32 : decode cX0_weight 32 = .ok (.getfield 16, 3) := dk_180 0 16 (dk_at dksX0_weight_1 10 rfl rfl)
theorem dX0_weight_35 : decode cX0_weight 35 = .ok (.getfield 61, 3) := dk_180 0 61 (dk_at dksX0_weight_1 13 rfl rfl)
theorem dX0_weight_38 : decode cX0_weight 38 = .ok (.iload_n 1, 1) := dk_27 (dk_at dksX0_weight_1 16 rfl rfl)
theorem dX0_weight_39 : decode cX0_weight 39 = .ok (.iload_n 2, 1) := dk_28 (dk_at dksX0_weight_1 17 rfl rfl)
theorem dX0_weight_40 : decode cX0_weight 40 = .ok (.iastore, 1) := dk_79 (dk_at dksX0_weight_1 18 rfl rfl)
theorem dX0_weight_41 : decode cX0_weight 41 = .ok (.iload_n 3, 1) := dk_29 (dk_at dksX0_weight_1 19 rfl rfl)
theorem dX0_weight_42 : decode cX0_weight 42 = .ok (.ireturn, 1) := dk_172 (dk_at dksX0_weight_1 20 rfl rfl)
abbrev cX0_limit : ByteArray := prog_1_method_8_code
def dkwX0_limit_1 : List UInt8 := [180, 0, 16, 180, 0, 67, 27, 46, 62, 42, 180, 0, 16, 180, 0, 67, 27, 28, 79, 29, 172]
abbrev dktX0_limit_1 : List UInt8 := dkwX0_limit_1 ++ []
def dkwX0_limit_0 : List UInt8 := [27, 184, 0, 55, 153, 0, 15, 28, 133, 9, 20, 0, 65, 184, 0, 25, 154, 0, 5, 2, 172, 42]
abbrev dktX0_limit_0 : List UInt8 := dkwX0_limit_0 ++ dktX0_limit_1
theorem dksX0_limit_0 : cX0_limit.data.toList.drop 0 = dktX0_limit_0 := by decide +kernel
theorem dksX0_limit_1 : cX0_limit.data.toList.drop 22 = dktX0_limit_1 := dk_seg dksX0_limit_0 22 rfl rfl
theorem dX0_limit_0 : decode cX0_limit 0 = .ok (.iload_n 1, 1) := dk_27 (dk_at dksX0_limit_0 0 rfl rfl)
theorem dX0_limit_1 : decode cX0_limit 1 = .ok (.invokestatic 55, 3) := dk_184 0 55 (dk_at dksX0_limit_0 1 rfl rfl)
theorem dX0_limit_4 : decode cX0_limit 4 = .ok (.ifCond .eq 15, 3) := dk_153 0 15 (dk_at dksX0_limit_0 4 rfl rfl)
theorem dX0_limit_7 : decode cX0_limit 7 = .ok (.iload_n 2, 1) := dk_28 (dk_at dksX0_limit_0 7 rfl rfl)
theorem dX0_limit_8 : decode cX0_limit 8 = .ok (.i2l, 1) := dk_133 (dk_at dksX0_limit_0 8 rfl rfl)
theorem dX0_limit_9 : decode cX0_limit 9 = .ok (.lconst 0, 1) := dk_9 (dk_at dksX0_limit_0 9 rfl rfl)
theorem dX0_limit_10 : decode cX0_limit 10 = .ok (.ldc2_w 65, 3) := dk_20 0 65 (dk_at dksX0_limit_0 10 rfl rfl)
theorem dX0_limit_13 : decode cX0_limit 13 = .ok (.invokestatic 25, 3) := dk_184 0 25 (dk_at dksX0_limit_0 13 rfl rfl)
theorem dX0_limit_16 : decode cX0_limit 16 = .ok (.ifCond .ne 5, 3) := dk_154 0 5 (dk_at dksX0_limit_0 16 rfl rfl)
theorem dX0_limit_19 : decode cX0_limit 19 = .ok (.iconst (-1), 1) := dk_2 (dk_at dksX0_limit_0 19 rfl rfl)
theorem dX0_limit_20 : decode cX0_limit 20 = .ok (.ireturn, 1) := dk_172 (dk_at dksX0_limit_0 20 rfl rfl)
theorem dX0_limit_21 : decode cX0_limit 21 = .ok (.aload_n 0, 1) := dk_42 (dk_at dksX0_limit_0 21 rfl rfl)
theorem dX0_limit_22 : decode cX0_limit 22 = .ok (.getfield 16, 3) := dk_180 0 16 (dk_at dksX0_limit_1 0 rfl rfl)
theorem dX0_limit_25 : decode cX0_limit 25 = .ok (.getfield 67, 3) := dk_180 0 67 (dk_at dksX0_limit_1 3 rfl rfl)
theorem dX0_limit_28 : decode cX0_limit 28 = .ok (.iload_n 1, 1) := dk_27 (dk_at dksX0_limit_1 6 rfl rfl)
theorem dX0_limit_29 : decode cX0_limit 29 = .ok (.iaload, 1) := dk_46 (dk_at dksX0_limit_1 7 rfl rfl)
theorem dX0_limit_30 : decode cX0_limit 30 = .ok (.istore_n 3, 1) := dk_62 (dk_at dksX0_limit_1 8 rfl rfl)
theorem dX0_limit_31 : decode cX0_limit 31 = .ok (.aload_n 0, 1) := dk_42 (dk_at dksX0_limit_1 9 rfl rfl)
theorem dX0_limit_32 : decode cX0_limit 32 = .ok (.getfield 16, 3) := dk_180 0 16 (dk_at dksX0_limit_1 10 rfl rfl)
theorem dX0_limit_35 : decode cX0_limit 35 = .ok (.getfield 67, 3) := dk_180 0 67 (dk_at dksX0_limit_1 13 rfl rfl)
theorem dX0_limit_38 : decode cX0_limit 38 = .ok (.iload_n 1, 1) := dk_27 (dk_at dksX0_limit_1 16 rfl rfl)
theorem dX0_limit_39 : decode cX0_limit 39 = .ok (.iload_n 2, 1) := dk_28 (dk_at dksX0_limit_1 17 rfl rfl)
theorem dX0_limit_40 : decode cX0_limit 40 = .ok (.iastore, 1) := dk_79 (dk_at dksX0_limit_1 18 rfl rfl)
theorem dX0_limit_41 : decode cX0_limit 41 = .ok (.iload_n 3, 1) := dk_29 (dk_at dksX0_limit_1 19 rfl rfl)
theorem dX0_limit_42 : decode cX0_limit 42 = .ok (.ireturn, 1) := dk_172 (dk_at dksX0_limit_1 20 rfl rfl)
abbrev cX0_ranked : ByteArray := prog_1_method_9_code
def dkwX0_ranked_2 : List UInt8 := [192, 0, 96, 182, 0, 98, 54, 4, 28, 27, 160, 0, 6, 21, 4, 172, 132, 2, 1, 167, 255, 222, 2, 172]
abbrev dktX0_ranked_2 : List UInt8 := dkwX0_ranked_2 ++ []
def dkwX0_ranked_1 : List UInt8 := [182, 0, 74, 185, 0, 80, 1, 0, 78, 45, 185, 0, 86, 1, 0, 153, 0, 31, 45, 185, 0, 92, 1, 0]
abbrev dktX0_ranked_1 : List UInt8 := dkwX0_ranked_1 ++ dktX0_ranked_2
def dkwX0_ranked_0 : List UInt8 := [27, 133, 9, 20, 0, 23, 184, 0, 25, 154, 0, 5, 2, 172, 3, 61, 42, 180, 0, 16, 182, 0, 70]
abbrev dktX0_ranked_0 : List UInt8 := dkwX0_ranked_0 ++ dktX0_ranked_1
theorem dksX0_ranked_0 : cX0_ranked.data.toList.drop 0 = dktX0_ranked_0 := by decide +kernel
theorem dksX0_ranked_1 : cX0_ranked.data.toList.drop 23 = dktX0_ranked_1 := dk_seg dksX0_ranked_0 23 rfl rfl
theorem dksX0_ranked_2 : cX0_ranked.data.toList.drop 47 = dktX0_ranked_2 := dk_seg dksX0_ranked_1 24 rfl rfl
theorem dX0_ranked_0 : decode cX0_ranked 0 = .ok (.iload_n 1, 1) := dk_27 (dk_at dksX0_ranked_0 0 rfl rfl)
theorem dX0_ranked_1 : decode cX0_ranked 1 = .ok (.i2l, 1) := dk_133 (dk_at dksX0_ranked_0 1 rfl rfl)
theorem dX0_ranked_2 : decode cX0_ranked 2 = .ok (.lconst 0, 1) := dk_9 (dk_at dksX0_ranked_0 2 rfl rfl)
theorem dX0_ranked_3 : decode cX0_ranked 3 = .ok (.ldc2_w 23, 3) := dk_20 0 23 (dk_at dksX0_ranked_0 3 rfl rfl)
theorem dX0_ranked_6 : decode cX0_ranked 6 = .ok (.invokestatic 25, 3) := dk_184 0 25 (dk_at dksX0_ranked_0 6 rfl rfl)
theorem dX0_ranked_9 : decode cX0_ranked 9 = .ok (.ifCond .ne 5, 3) := dk_154 0 5 (dk_at dksX0_ranked_0 9 rfl rfl)
theorem dX0_ranked_12 : decode cX0_ranked 12 = .ok (.iconst (-1), 1) := dk_2 (dk_at dksX0_ranked_0 12 rfl rfl)
theorem dX0_ranked_13 : decode cX0_ranked 13 = .ok (.ireturn, 1) := dk_172 (dk_at dksX0_ranked_0 13 rfl rfl)
theorem dX0_ranked_14 : decode cX0_ranked 14 = .ok (.iconst 0, 1) := dk_3 (dk_at dksX0_ranked_0 14 rfl rfl)
theorem dX0_ranked_15 : decode cX0_ranked 15 = .ok (.istore_n 2, 1) := dk_61 (dk_at dksX0_ranked_0 15 rfl rfl)
theorem dX0_ranked_16 : decode cX0_ranked 16 = .ok (.aload_n 0, 1) := dk_42 (dk_at dksX0_ranked_0 16 rfl rfl)
theorem dX0_ranked_17 : decode cX0_ranked 17 = .ok (.getfield 16, 3) := dk_180 0 16 (dk_at dksX0_ranked_0 17 rfl rfl)
theorem dX0_ranked_20 : decode cX0_ranked 20 = .ok (.invokevirtual 70, 3) := dk_182 0 70 (dk_at dksX0_ranked_0 20 rfl rfl)
theorem dX0_ranked_23 : decode cX0_ranked 23 = .ok (.invokevirtual 74, 3) := dk_182 0 74 (dk_at dksX0_ranked_1 0 rfl rfl)
theorem dX0_ranked_26 : decode cX0_ranked 26 = .ok (.invokeinterface 80 1, 5) := by decide +kernel
theorem dX0_ranked_31 : decode cX0_ranked 31 = .ok (.astore_n 3, 1) := dk_78 (dk_at dksX0_ranked_1 8 rfl rfl)
theorem dX0_ranked_32 : decode cX0_ranked 32 = .ok (.aload_n 3, 1) := dk_45 (dk_at dksX0_ranked_1 9 rfl rfl)
theorem dX0_ranked_33 : decode cX0_ranked 33 = .ok (.invokeinterface 86 1, 5) := by decide +kernel
theorem dX0_ranked_38 : decode cX0_ranked 38 = .ok (.ifCond .eq 31, 3) := dk_153 0 31 (dk_at dksX0_ranked_1 15 rfl rfl)
theorem dX0_ranked_41 : decode cX0_ranked 41 = .ok (.aload_n 3, 1) := dk_45 (dk_at dksX0_ranked_1 18 rfl rfl)
theorem dX0_ranked_42 : decode cX0_ranked 42 = .ok (.invokeinterface 92 1, 5) := by decide +kernel
theorem dX0_ranked_47 : decode cX0_ranked 47 = .ok (.checkcast 96, 3) := dk_192 0 96 (dk_at dksX0_ranked_2 0 rfl rfl)
theorem dX0_ranked_50 : decode cX0_ranked 50 = .ok (.invokevirtual 98, 3) := dk_182 0 98 (dk_at dksX0_ranked_2 3 rfl rfl)
theorem dX0_ranked_53 : decode cX0_ranked 53 = .ok (.istore 4, 2) := dk_54 4 (dk_at dksX0_ranked_2 6 rfl rfl)
theorem dX0_ranked_55 : decode cX0_ranked 55 = .ok (.iload_n 2, 1) := dk_28 (dk_at dksX0_ranked_2 8 rfl rfl)
theorem dX0_ranked_56 : decode cX0_ranked 56 = .ok (.iload_n 1, 1) := dk_27 (dk_at dksX0_ranked_2 9 rfl rfl)
theorem dX0_ranked_57 : decode cX0_ranked 57 = .ok (.if_icmp .ne 6, 3) := dk_160 0 6 (dk_at dksX0_ranked_2 10 rfl rfl)
theorem dX0_ranked_60 : decode cX0_ranked 60 = .ok (.iload 4, 2) := dk_21 4 (dk_at dksX0_ranked_2 13 rfl rfl)
theorem dX0_ranked_62 : decode cX0_ranked 62 = .ok (.ireturn, 1) := dk_172 (dk_at dksX0_ranked_2 15 rfl rfl)
theorem dX0_ranked_63 : decode cX0_ranked 63 = .ok (.iinc 2 1, 3) := dk_132 2 1 (dk_at dksX0_ranked_2 16 rfl rfl)
theorem dX0_ranked_66 : decode cX0_ranked 66 = .ok (.goto (-34), 3) := dk_167 255 222 (dk_at dksX0_ranked_2 19 rfl rfl)
theorem dX0_ranked_69 : decode cX0_ranked 69 = .ok (.iconst (-1), 1) := dk_2 (dk_at dksX0_ranked_2 22 rfl rfl)
theorem dX0_ranked_70 : decode cX0_ranked 70 = .ok (.ireturn, 1) := dk_172 (dk_at dksX0_ranked_2 23 rfl rfl)
abbrev cX0_rule : ByteArray := prog_1_method_12_code
def dkwX0_rule_0 : List UInt8 := [27, 28, 184, 0, 114, 153, 0, 15, 42, 180, 0, 16, 27, 28, 184, 0, 118, 167, 0, 4, 2, 172]
abbrev dktX0_rule_0 : List UInt8 := dkwX0_rule_0 ++ []
theorem dksX0_rule_0 : cX0_rule.data.toList.drop 0 = dktX0_rule_0 := by decide +kernel
theorem dX0_rule_0 : decode cX0_rule 0 = .ok (.iload_n 1, 1) := dk_27 (dk_at dksX0_rule_0 0 rfl rfl)
theorem dX0_rule_1 : decode cX0_rule 1 = .ok (.iload_n 2, 1) := dk_28 (dk_at dksX0_rule_0 1 rfl rfl)
theorem dX0_rule_2 : decode cX0_rule 2 = .ok (.invokestatic 114, 3) := dk_184 0 114 (dk_at dksX0_rule_0 2 rfl rfl)
theorem dX0_rule_5 : decode cX0_rule 5 = .ok (.ifCond .eq 15, 3) := dk_153 0 15 (dk_at dksX0_rule_0 5 rfl rfl)
theorem dX0_rule_8 : decode cX0_rule 8 = .ok (.aload_n 0, 1) := dk_42 (dk_at dksX0_rule_0 8 rfl rfl)
theorem dX0_rule_9 : decode cX0_rule 9 = .ok (.getfield 16, 3) := dk_180 0 16 (dk_at dksX0_rule_0 9 rfl rfl)
theorem dX0_rule_12 : decode cX0_rule 12 = .ok (.iload_n 1, 1) := dk_27 (dk_at dksX0_rule_0 12 rfl rfl)
theorem dX0_rule_13 : decode cX0_rule 13 = .ok (.iload_n 2, 1) := dk_28 (dk_at dksX0_rule_0 13 rfl rfl)
theorem dX0_rule_14 : decode cX0_rule 14 = .ok (.invokestatic 118, 3) := dk_184 0 118 (dk_at dksX0_rule_0 14 rfl rfl)
theorem dX0_rule_17 : decode cX0_rule 17 = .ok (.goto 4, 3) := dk_167 0 4 (dk_at dksX0_rule_0 17 rfl rfl)
theorem dX0_rule_20 : decode cX0_rule 20 = .ok (.iconst (-1), 1) := dk_2 (dk_at dksX0_rule_0 20 rfl rfl)
theorem dX0_rule_21 : decode cX0_rule 21 = .ok (.ireturn, 1) := dk_172 (dk_at dksX0_rule_0 21 rfl rfl)
abbrev cX0_used : ByteArray := prog_1_method_13_code
def dkwX0_used_0 : List UInt8 := [27, 184, 0, 55, 153, 0, 15, 42, 180, 0, 16, 180, 0, 122, 27, 47, 167, 0, 6, 20, 0, 126, 173]
abbrev dktX0_used_0 : List UInt8 := dkwX0_used_0 ++ []
theorem dksX0_used_0 : cX0_used.data.toList.drop 0 = dktX0_used_0 := by decide +kernel
theorem dX0_used_0 : decode cX0_used 0 = .ok (.iload_n 1, 1) := dk_27 (dk_at dksX0_used_0 0 rfl rfl)
theorem dX0_used_1 : decode cX0_used 1 = .ok (.invokestatic 55, 3) := dk_184 0 55 (dk_at dksX0_used_0 1 rfl rfl)
theorem dX0_used_4 : decode cX0_used 4 = .ok (.ifCond .eq 15, 3) := dk_153 0 15 (dk_at dksX0_used_0 4 rfl rfl)
theorem dX0_used_7 : decode cX0_used 7 = .ok (.aload_n 0, 1) := dk_42 (dk_at dksX0_used_0 7 rfl rfl)
theorem dX0_used_8 : decode cX0_used 8 = .ok (.getfield 16, 3) := dk_180 0 16 (dk_at dksX0_used_0 8 rfl rfl)
theorem dX0_used_11 : decode cX0_used 11 = .ok (.getfield 122, 3) := dk_180 0 122 (dk_at dksX0_used_0 11 rfl rfl)
theorem dX0_used_14 : decode cX0_used 14 = .ok (.iload_n 1, 1) := dk_27 (dk_at dksX0_used_0 14 rfl rfl)
theorem dX0_used_15 : decode cX0_used 15 = .ok (.laload, 1) := dk_47 (dk_at dksX0_used_0 15 rfl rfl)
theorem dX0_used_16 : decode cX0_used 16 = .ok (.goto 6, 3) := dk_167 0 6 (dk_at dksX0_used_0 16 rfl rfl)
theorem dX0_used_19 : decode cX0_used 19 = .ok (.ldc2_w 126, 3) := dk_20 0 126 (dk_at dksX0_used_0 19 rfl rfl)
theorem dX0_used_22 : decode cX0_used 22 = .ok (.lreturn, 1) := dk_173 (dk_at dksX0_used_0 22 rfl rfl)
abbrev cX0_feed : ByteArray := prog_1_method_5_code
def dkwX0_feed_2 : List UInt8 := [42, 180, 0, 35, 172]
abbrev dktX0_feed_2 : List UInt8 := dkwX0_feed_2 ++ []
def dkwX0_feed_1 : List UInt8 := [160, 0, 6, 16, 253, 172, 42, 180, 0, 9, 42, 89, 180, 0, 35, 90, 4, 96, 181, 0, 35, 27, 145, 84]
abbrev dktX0_feed_1 : List UInt8 := dkwX0_feed_1 ++ dktX0_feed_2
def dkwX0_feed_0 : List UInt8 := [27, 133, 20, 0, 31, 20, 0, 33, 184, 0, 25, 154, 0, 5, 2, 172, 42, 180, 0, 35, 16, 60]
abbrev dktX0_feed_0 : List UInt8 := dkwX0_feed_0 ++ dktX0_feed_1
theorem dksX0_feed_0 : cX0_feed.data.toList.drop 0 = dktX0_feed_0 := by decide +kernel
theorem dksX0_feed_1 : cX0_feed.data.toList.drop 22 = dktX0_feed_1 := dk_seg dksX0_feed_0 22 rfl rfl
theorem dksX0_feed_2 : cX0_feed.data.toList.drop 46 = dktX0_feed_2 := dk_seg dksX0_feed_1 24 rfl rfl
theorem dX0_feed_0 : decode cX0_feed 0 = .ok (.iload_n 1, 1) := dk_27 (dk_at dksX0_feed_0 0 rfl rfl)
theorem dX0_feed_1 : decode cX0_feed 1 = .ok (.i2l, 1) := dk_133 (dk_at dksX0_feed_0 1 rfl rfl)
theorem dX0_feed_2 : decode cX0_feed 2 = .ok (.ldc2_w 31, 3) := dk_20 0 31 (dk_at dksX0_feed_0 2 rfl rfl)
theorem dX0_feed_5 : decode cX0_feed 5 = .ok (.ldc2_w 33, 3) := dk_20 0 33 (dk_at dksX0_feed_0 5 rfl rfl)
theorem dX0_feed_8 : decode cX0_feed 8 = .ok (.invokestatic 25, 3) := dk_184 0 25 (dk_at dksX0_feed_0 8 rfl rfl)
theorem dX0_feed_11 : decode cX0_feed 11 = .ok (.ifCond .ne 5, 3) := dk_154 0 5 (dk_at dksX0_feed_0 11 rfl rfl)
theorem dX0_feed_14 : decode cX0_feed 14 = .ok (.iconst (-1), 1) := dk_2 (dk_at dksX0_feed_0 14 rfl rfl)
theorem dX0_feed_15 : decode cX0_feed 15 = .ok (.ireturn, 1) := dk_172 (dk_at dksX0_feed_0 15 rfl rfl)
theorem dX0_feed_16 : decode cX0_feed 16 = .ok (.aload_n 0, 1) := dk_42 (dk_at dksX0_feed_0 16 rfl rfl)
theorem dX0_feed_17 : decode cX0_feed 17 = .ok (.getfield 35, 3) := dk_180 0 35 (dk_at dksX0_feed_0 17 rfl rfl)
theorem dX0_feed_20 : decode cX0_feed 20 = .ok (.bipush 60, 2) := dk_16 60 (dk_at dksX0_feed_0 20 rfl rfl)
theorem dX0_feed_22 : decode cX0_feed 22 = .ok (.if_icmp .ne 6, 3) := dk_160 0 6 (dk_at dksX0_feed_1 0 rfl rfl)
theorem dX0_feed_25 : decode cX0_feed 25 = .ok (.bipush (-3), 2) := dk_16 253 (dk_at dksX0_feed_1 3 rfl rfl)
theorem dX0_feed_27 : decode cX0_feed 27 = .ok (.ireturn, 1) := dk_172 (dk_at dksX0_feed_1 5 rfl rfl)
theorem dX0_feed_28 : decode cX0_feed 28 = .ok (.aload_n 0, 1) := dk_42 (dk_at dksX0_feed_1 6 rfl rfl)
theorem dX0_feed_29 : decode cX0_feed 29 = .ok (.getfield 9, 3) := dk_180 0 9 (dk_at dksX0_feed_1 7 rfl rfl)
theorem dX0_feed_32 : decode cX0_feed 32 = .ok (.aload_n 0, 1) := dk_42 (dk_at dksX0_feed_1 10 rfl rfl)
theorem dX0_feed_33 : decode cX0_feed 33 = .ok (.dup, 1) := dk_89 (dk_at dksX0_feed_1 11 rfl rfl)
theorem dX0_feed_34 : decode cX0_feed 34 = .ok (.getfield 35, 3) := dk_180 0 35 (dk_at dksX0_feed_1 12 rfl rfl)
theorem dX0_feed_37 : decode cX0_feed 37 = .ok (.dup_x1, 1) := dk_90 (dk_at dksX0_feed_1 15 rfl rfl)
theorem dX0_feed_38 : decode cX0_feed 38 = .ok (.iconst 1, 1) := dk_4 (dk_at dksX0_feed_1 16 rfl rfl)
theorem dX0_feed_39 : decode cX0_feed 39 = .ok (.iadd, 1) := dk_96 (dk_at dksX0_feed_1 17 rfl rfl)
theorem dX0_feed_40 : decode cX0_feed 40 = .ok (.putfield 35, 3) := dk_181 0 35 (dk_at dksX0_feed_1 18 rfl rfl)
theorem dX0_feed_43 : decode cX0_feed 43 = .ok (.iload_n 1, 1) := dk_27 (dk_at dksX0_feed_1 21 rfl rfl)
theorem dX0_feed_44 : decode cX0_feed 44 = .ok (.i2b, 1) := dk_145 (dk_at dksX0_feed_1 22 rfl rfl)
theorem dX0_feed_45 : decode cX0_feed 45 = .ok (.bastore, 1) := dk_84 (dk_at dksX0_feed_1 23 rfl rfl)
theorem dX0_feed_46 : decode cX0_feed 46 = .ok (.aload_n 0, 1) := dk_42 (dk_at dksX0_feed_2 0 rfl rfl)
theorem dX0_feed_47 : decode cX0_feed 47 = .ok (.getfield 35, 3) := dk_180 0 35 (dk_at dksX0_feed_2 1 rfl rfl)
theorem dX0_feed_50 : decode cX0_feed 50 = .ok (.ireturn, 1) := dk_172 (dk_at dksX0_feed_2 4 rfl rfl)
abbrev cX0_job : ByteArray := prog_1_method_14_code
def dkwX0_job_7 : List UInt8 := [180, 0, 16, 3, 25, 7, 182, 0, 163, 25, 7, 180, 0, 167, 172]
abbrev dktX0_job_7 : List UInt8 := dkwX0_job_7 ++ []
def dkwX0_job_6 : List UInt8 := [182, 0, 150, 183, 0, 154, 58, 7, 42, 180, 0, 16, 180, 0, 39, 25, 7, 182, 0, 157, 87, 42]
abbrev dktX0_job_6 : List UInt8 := dkwX0_job_6 ++ dktX0_job_7
def dkwX0_job_5 : List UInt8 := [42, 180, 0, 16, 180, 0, 39, 182, 0, 43, 27, 28, 29, 21, 4, 42, 180, 0, 16, 180, 0, 147, 25, 5]
abbrev dktX0_job_5 : List UInt8 := dkwX0_job_5 ++ dktX0_job_6
def dkwX0_job_4 : List UInt8 := [183, 0, 141, 58, 5, 25, 5, 182, 0, 144, 54, 6, 21, 6, 153, 0, 6, 21, 6, 172, 187, 0, 53, 89]
abbrev dktX0_job_4 : List UInt8 := dkwX0_job_4 ++ dktX0_job_5
def dkwX0_job_3 : List UInt8 := [159, 0, 19, 42, 21, 4, 182, 0, 132, 180, 0, 136, 7, 160, 0, 6, 16, 251, 172, 187, 0, 139, 89, 42]
abbrev dktX0_job_3 : List UInt8 := dkwX0_job_3 ++ dktX0_job_4
def dkwX0_job_2 : List UInt8 := [2, 172, 42, 180, 0, 16, 180, 0, 39, 182, 0, 43, 16, 80, 160, 0, 6, 16, 253, 172, 21, 4, 2]
abbrev dktX0_job_2 : List UInt8 := dkwX0_job_2 ++ dktX0_job_3
def dkwX0_job_1 : List UInt8 := [20, 0, 130, 184, 0, 25, 153, 0, 18, 21, 4, 2, 159, 0, 14, 42, 21, 4, 182, 0, 132, 199, 0, 5]
abbrev dktX0_job_1 : List UInt8 := dkwX0_job_1 ++ dktX0_job_2
def dkwX0_job_0 : List UInt8 := [27, 184, 0, 55, 153, 0, 42, 28, 133, 9, 20, 0, 128, 184, 0, 25, 153, 0, 30, 29, 133, 10]
abbrev dktX0_job_0 : List UInt8 := dkwX0_job_0 ++ dktX0_job_1
theorem dksX0_job_0 : cX0_job.data.toList.drop 0 = dktX0_job_0 := by decide +kernel
theorem dksX0_job_1 : cX0_job.data.toList.drop 22 = dktX0_job_1 := dk_seg dksX0_job_0 22 rfl rfl
theorem dksX0_job_2 : cX0_job.data.toList.drop 46 = dktX0_job_2 := dk_seg dksX0_job_1 24 rfl rfl
theorem dksX0_job_3 : cX0_job.data.toList.drop 69 = dktX0_job_3 := dk_seg dksX0_job_2 23 rfl rfl
theorem dksX0_job_4 : cX0_job.data.toList.drop 93 = dktX0_job_4 := dk_seg dksX0_job_3 24 rfl rfl
theorem dksX0_job_5 : cX0_job.data.toList.drop 117 = dktX0_job_5 := dk_seg dksX0_job_4 24 rfl rfl
theorem dksX0_job_6 : cX0_job.data.toList.drop 141 = dktX0_job_6 := dk_seg dksX0_job_5 24 rfl rfl
theorem dksX0_job_7 : cX0_job.data.toList.drop 163 = dktX0_job_7 := dk_seg dksX0_job_6 22 rfl rfl
theorem dX0_job_0 : decode cX0_job 0 = .ok (.iload_n 1, 1) := dk_27 (dk_at dksX0_job_0 0 rfl rfl)
theorem dX0_job_1 : decode cX0_job 1 = .ok (.invokestatic 55, 3) := dk_184 0 55 (dk_at dksX0_job_0 1 rfl rfl)
theorem dX0_job_4 : decode cX0_job 4 = .ok (.ifCond .eq 42, 3) := dk_153 0 42 (dk_at dksX0_job_0 4 rfl rfl)
theorem dX0_job_7 : decode cX0_job 7 = .ok (.iload_n 2, 1) := dk_28 (dk_at dksX0_job_0 7 rfl rfl)
theorem dX0_job_8 : decode cX0_job 8 = .ok (.i2l, 1) := dk_133 (dk_at dksX0_job_0 8 rfl rfl)
theorem dX0_job_9 : decode cX0_job 9 = .ok (.lconst 0, 1) := dk_9 (dk_at dksX0_job_0 9 rfl rfl)
theorem dX0_job_10 : decode cX0_job 10 = .ok (.ldc2_w 128, 3) := dk_20 0 128 (dk_at dksX0_job_0 10 rfl rfl)
theorem dX0_job_13 : decode cX0_job 13 = .ok (.invokestatic 25, 3) := dk_184 0 25 (dk_at dksX0_job_0 13 rfl rfl)
theorem dX0_job_16 : decode cX0_job 16 = .ok (.ifCond .eq 30, 3) := dk_153 0 30 (dk_at dksX0_job_0 16 rfl rfl)
theorem dX0_job_19 : decode cX0_job 19 = .ok (.iload_n 3, 1) := dk_29 (dk_at dksX0_job_0 19 rfl rfl)
theorem dX0_job_20 : decode cX0_job 20 = .ok (.i2l, 1) := dk_133 (dk_at dksX0_job_0 20 rfl rfl)
theorem dX0_job_21 : decode cX0_job 21 = .ok (.lconst 1, 1) := dk_10 (dk_at dksX0_job_0 21 rfl rfl)
theorem dX0_job_22 : decode cX0_job 22 = .ok (.ldc2_w 130, 3) := dk_20 0 130 (dk_at dksX0_job_1 0 rfl rfl)
theorem dX0_job_25 : decode cX0_job 25 = .ok (.invokestatic 25, 3) := dk_184 0 25 (dk_at dksX0_job_1 3 rfl rfl)
theorem dX0_job_28 : decode cX0_job 28 = .ok (.ifCond .eq 18, 3) := dk_153 0 18 (dk_at dksX0_job_1 6 rfl rfl)
theorem dX0_job_31 : decode cX0_job 31 = .ok (.iload 4, 2) := dk_21 4 (dk_at dksX0_job_1 9 rfl rfl)
theorem dX0_job_33 : decode cX0_job 33 = .ok (.iconst (-1), 1) := dk_2 (dk_at dksX0_job_1 11 rfl rfl)
theorem dX0_job_34 : decode cX0_job 34 = .ok (.if_icmp .eq 14, 3) := dk_159 0 14 (dk_at dksX0_job_1 12 rfl rfl)
theorem dX0_job_37 : decode cX0_job 37 = .ok (.aload_n 0, 1) := dk_42 (dk_at dksX0_job_1 15 rfl rfl)
theorem dX0_job_38 : decode cX0_job 38 = .ok (.iload 4, 2) := dk_21 4 (dk_at dksX0_job_1 16 rfl rfl)
theorem dX0_job_40 : decode cX0_job 40 = .ok (.invokevirtual 132, 3) := dk_182 0 132 (dk_at dksX0_job_1 18 rfl rfl)
theorem dX0_job_43 : decode cX0_job 43 = .ok (.ifnonnull 5, 3) := dk_199 0 5 (dk_at dksX0_job_1 21 rfl rfl)
theorem dX0_job_46 : decode cX0_job 46 = .ok (.iconst (-1), 1) := dk_2 (dk_at dksX0_job_2 0 rfl rfl)
theorem dX0_job_47 : decode cX0_job 47 = .ok (.ireturn, 1) := dk_172 (dk_at dksX0_job_2 1 rfl rfl)
theorem dX0_job_48 : decode cX0_job 48 = .ok (.aload_n 0, 1) := dk_42 (dk_at dksX0_job_2 2 rfl rfl)
theorem dX0_job_49 : decode cX0_job 49 = .ok (.getfield 16, 3) := dk_180 0 16 (dk_at dksX0_job_2 3 rfl rfl)
theorem dX0_job_52 : decode cX0_job 52 = .ok (.getfield 39, 3) := dk_180 0 39 (dk_at dksX0_job_2 6 rfl rfl)
theorem dX0_job_55 : decode cX0_job 55 = .ok (.invokevirtual 43, 3) := dk_182 0 43 (dk_at dksX0_job_2 9 rfl rfl)
theorem dX0_job_58 : decode cX0_job 58 = .ok (.bipush 80, 2) := dk_16 80 (dk_at dksX0_job_2 12 rfl rfl)
theorem dX0_job_60 : decode cX0_job 60 = .ok (.if_icmp .ne 6, 3) := dk_160 0 6 (dk_at dksX0_job_2 14 rfl rfl)
theorem dX0_job_63 : decode cX0_job 63 = .ok (.bipush (-3), 2) := dk_16 253 (dk_at dksX0_job_2 17 rfl rfl)
theorem dX0_job_65 : decode cX0_job 65 = .ok (.ireturn, 1) := dk_172 (dk_at dksX0_job_2 19 rfl rfl)
theorem dX0_job_66 : decode cX0_job 66 = .ok (.iload 4, 2) := dk_21 4 (dk_at dksX0_job_2 20 rfl rfl)
theorem dX0_job_68 : decode cX0_job 68 = .ok (.iconst (-1), 1) := dk_2 (dk_at dksX0_job_2 22 rfl rfl)
theorem dX0_job_69 : decode cX0_job 69 = .ok (.if_icmp .eq 19, 3) := dk_159 0 19 (dk_at dksX0_job_3 0 rfl rfl)
theorem dX0_job_72 : decode cX0_job 72 = .ok (.aload_n 0, 1) := dk_42 (dk_at dksX0_job_3 3 rfl rfl)
theorem dX0_job_73 : decode cX0_job 73 = .ok (.iload 4, 2) := dk_21 4 (dk_at dksX0_job_3 4 rfl rfl)
theorem dX0_job_75 : decode cX0_job 75 = .ok (.invokevirtual 132, 3) := dk_182 0 132 (dk_at dksX0_job_3 6 rfl rfl)
theorem dX0_job_78 : decode cX0_job 78 = .ok (.getfield 136, 3) := dk_180 0 136 (dk_at dksX0_job_3 9 rfl rfl)
theorem dX0_job_81 : decode cX0_job 81 = .ok (.iconst 4, 1) := dk_7 (dk_at dksX0_job_3 12 rfl rfl)
theorem dX0_job_82 : decode cX0_job 82 = .ok (.if_icmp .ne 6, 3) := dk_160 0 6 (dk_at dksX0_job_3 13 rfl rfl)
theorem dX0_job_85 : decode cX0_job 85 = .ok (.bipush (-5), 2) := dk_16 251 (dk_at dksX0_job_3 16 rfl rfl)
theorem dX0_job_87 : decode cX0_job 87 = .ok (.ireturn, 1) := dk_172 (dk_at dksX0_job_3 18 rfl rfl)
theorem dX0_job_88 : decode cX0_job 88 = .ok (.new 139, 3) := dk_187 0 139 (dk_at dksX0_job_3 19 rfl rfl)
theorem dX0_job_91 : decode cX0_job 91 = .ok (.dup, 1) := dk_89 (dk_at dksX0_job_3 22 rfl rfl)
theorem dX0_job_92 : decode cX0_job 92 = .ok (.aload_n 0, 1) := dk_42 (dk_at dksX0_job_3 23 rfl rfl)
theorem dX0_job_93 : decode cX0_job 93 = .ok (.invokespecial 141, 3) := dk_183 0 141 (dk_at dksX0_job_4 0 rfl rfl)
theorem dX0_job_96 : decode cX0_job 96 = .ok (.astore 5, 2) := dk_58 5 (dk_at dksX0_job_4 3 rfl rfl)
theorem dX0_job_98 : decode cX0_job 98 = .ok (.aload 5, 2) := dk_25 5 (dk_at dksX0_job_4 5 rfl rfl)
theorem dX0_job_100 : decode cX0_job 100 = .ok (.invokevirtual 144, 3) := dk_182 0 144 (dk_at dksX0_job_4 7 rfl rfl)
theorem dX0_job_103 : decode cX0_job 103 = .ok (.istore 6, 2) := dk_54 6 (dk_at dksX0_job_4 10 rfl rfl)
theorem dX0_job_105 : decode cX0_job 105 = .ok (.iload 6, 2) := dk_21 6 (dk_at dksX0_job_4 12 rfl rfl)
theorem dX0_job_107 : decode cX0_job 107 = .ok (.ifCond .eq 6, 3) := dk_153 0 6 (dk_at dksX0_job_4 14 rfl rfl)
theorem dX0_job_110 : decode cX0_job 110 = .ok (.iload 6, 2) := dk_21 6 (dk_at dksX0_job_4 17 rfl rfl)
theorem dX0_job_112 : decode cX0_job 112 = .ok (.ireturn, 1) := dk_172 (dk_at dksX0_job_4 19 rfl rfl)
theorem dX0_job_113 : decode cX0_job 113 = .ok (.new 53, 3) := dk_187 0 53 (dk_at dksX0_job_4 20 rfl rfl)
theorem dX0_job_116 : decode cX0_job 116 = .ok (.dup, 1) := dk_89 (dk_at dksX0_job_4 23 rfl rfl)
theorem dX0_job_117 : decode cX0_job 117 = .ok (.aload_n 0, 1) := dk_42 (dk_at dksX0_job_5 0 rfl rfl)
theorem dX0_job_118 : decode cX0_job 118 = .ok (.getfield 16, 3) := dk_180 0 16 (dk_at dksX0_job_5 1 rfl rfl)
theorem dX0_job_121 : decode cX0_job 121 = .ok (.getfield 39, 3) := dk_180 0 39 (dk_at dksX0_job_5 4 rfl rfl)
theorem dX0_job_124 : decode cX0_job 124 = .ok (.invokevirtual 43, 3) := dk_182 0 43 (dk_at dksX0_job_5 7 rfl rfl)
theorem dX0_job_127 : decode cX0_job 127 = .ok (.iload_n 1, 1) := dk_27 (dk_at dksX0_job_5 10 rfl rfl)
theorem dX0_job_128 : decode cX0_job 128 = .ok (.iload_n 2, 1) := dk_28 (dk_at dksX0_job_5 11 rfl rfl)
theorem dX0_job_129 : decode cX0_job 129 = .ok (.iload_n 3, 1) := dk_29 (dk_at dksX0_job_5 12 rfl rfl)
theorem dX0_job_130 : decode cX0_job 130 = .ok (.iload 4, 2) := dk_21 4 (dk_at dksX0_job_5 13 rfl rfl)
theorem dX0_job_132 : decode cX0_job 132 = .ok (.aload_n 0, 1) := dk_42 (dk_at dksX0_job_5 15 rfl rfl)
theorem dX0_job_133 : decode cX0_job 133 = .ok (.getfield 16, 3) := dk_180 0 16 (dk_at dksX0_job_5 16 rfl rfl)
theorem dX0_job_136 : decode cX0_job 136 = .ok (.getfield 147, 3) := dk_180 0 147 (dk_at dksX0_job_5 19 rfl rfl)
theorem dX0_job_139 : decode cX0_job 139 = .ok (.aload 5, 2) := dk_25 5 (dk_at dksX0_job_5 22 rfl rfl)
theorem dX0_job_141 : decode cX0_job 141 = .ok (.invokevirtual 150, 3) := dk_182 0 150 (dk_at dksX0_job_6 0 rfl rfl)
theorem dX0_job_144 : decode cX0_job 144 = .ok (.invokespecial 154, 3) := dk_183 0 154 (dk_at dksX0_job_6 3 rfl rfl)
theorem dX0_job_147 : decode cX0_job 147 = .ok (.astore 7, 2) := dk_58 7 (dk_at dksX0_job_6 6 rfl rfl)
theorem dX0_job_149 : decode cX0_job 149 = .ok (.aload_n 0, 1) := dk_42 (dk_at dksX0_job_6 8 rfl rfl)
theorem dX0_job_150 : decode cX0_job 150 = .ok (.getfield 16, 3) := dk_180 0 16 (dk_at dksX0_job_6 9 rfl rfl)
theorem dX0_job_153 : decode cX0_job 153 = .ok (.getfield 39, 3) := dk_180 0 39 (dk_at dksX0_job_6 12 rfl rfl)
theorem dX0_job_156 : decode cX0_job 156 = .ok (.aload 7, 2) := dk_25 7 (dk_at dksX0_job_6 15 rfl rfl)
theorem dX0_job_158 : decode cX0_job 158 = .ok (.invokevirtual 157, 3) := dk_182 0 157 (dk_at dksX0_job_6 17 rfl rfl)
theorem dX0_job_161 : decode cX0_job 161 = .ok (.pop, 1) := dk_87 (dk_at dksX0_job_6 20 rfl rfl)
theorem dX0_job_162 : decode cX0_job 162 = .ok (.aload_n 0, 1) := dk_42 (dk_at dksX0_job_6 21 rfl rfl)
theorem dX0_job_163 : decode cX0_job 163 = .ok (.getfield 16, 3) := dk_180 0 16 (dk_at dksX0_job_7 0 rfl rfl)
theorem dX0_job_166 : decode cX0_job 166 = .ok (.iconst 0, 1) := dk_3 (dk_at dksX0_job_7 3 rfl rfl)
theorem dX0_job_167 : decode cX0_job 167 = .ok (.aload 7, 2) := dk_25 7 (dk_at dksX0_job_7 4 rfl rfl)
theorem dX0_job_169 : decode cX0_job 169 = .ok (.invokevirtual 163, 3) := dk_182 0 163 (dk_at dksX0_job_7 6 rfl rfl)
theorem dX0_job_172 : decode cX0_job 172 = .ok (.aload 7, 2) := dk_25 7 (dk_at dksX0_job_7 9 rfl rfl)
theorem dX0_job_174 : decode cX0_job 174 = .ok (.getfield 167, 3) := dk_180 0 167 (dk_at dksX0_job_7 11 rfl rfl)
theorem dX0_job_177 : decode cX0_job 177 = .ok (.ireturn, 1) := dk_172 (dk_at dksX0_job_7 14 rfl rfl)
abbrev cX0_off : ByteArray := prog_1_method_15_code
def dkwX0_off_1 : List UInt8 := [153, 0, 14, 42, 180, 0, 16, 44, 182, 0, 170, 167, 0, 5, 16, 251, 172]
abbrev dktX0_off_1 : List UInt8 := dkwX0_off_1 ++ []
def dkwX0_off_0 : List UInt8 := [42, 27, 182, 0, 132, 77, 44, 199, 0, 5, 2, 172, 44, 180, 0, 136, 133, 9, 10, 184, 0, 25]
abbrev dktX0_off_0 : List UInt8 := dkwX0_off_0 ++ dktX0_off_1
theorem dksX0_off_0 : cX0_off.data.toList.drop 0 = dktX0_off_0 := by decide +kernel
theorem dksX0_off_1 : cX0_off.data.toList.drop 22 = dktX0_off_1 := dk_seg dksX0_off_0 22 rfl rfl
theorem dX0_off_0 : decode cX0_off 0 = .ok (.aload_n 0, 1) := dk_42 (dk_at dksX0_off_0 0 rfl rfl)
theorem dX0_off_1 : decode cX0_off 1 = .ok (.iload_n 1, 1) := dk_27 (dk_at dksX0_off_0 1 rfl rfl)
theorem dX0_off_2 : decode cX0_off 2 = .ok (.invokevirtual 132, 3) := dk_182 0 132 (dk_at dksX0_off_0 2 rfl rfl)
theorem dX0_off_5 : decode cX0_off 5 = .ok (.astore_n 2, 1) := dk_77 (dk_at dksX0_off_0 5 rfl rfl)
theorem dX0_off_6 : decode cX0_off 6 = .ok (.aload_n 2, 1) := dk_44 (dk_at dksX0_off_0 6 rfl rfl)
theorem dX0_off_7 : decode cX0_off 7 = .ok (.ifnonnull 5, 3) := dk_199 0 5 (dk_at dksX0_off_0 7 rfl rfl)
theorem dX0_off_10 : decode cX0_off 10 = .ok (.iconst (-1), 1) := dk_2 (dk_at dksX0_off_0 10 rfl rfl)
theorem dX0_off_11 : decode cX0_off 11 = .ok (.ireturn, 1) := dk_172 (dk_at dksX0_off_0 11 rfl rfl)
theorem dX0_off_12 : decode cX0_off 12 = .ok (.aload_n 2, 1) := dk_44 (dk_at dksX0_off_0 12 rfl rfl)
theorem dX0_off_13 : decode cX0_off 13 = .ok (.getfield 136, 3) := dk_180 0 136 (dk_at dksX0_off_0 13 rfl rfl)
theorem dX0_off_16 : decode cX0_off 16 = .ok (.i2l, 1) := dk_133 (dk_at dksX0_off_0 16 rfl rfl)
theorem dX0_off_17 : decode cX0_off 17 = .ok (.lconst 0, 1) := dk_9 (dk_at dksX0_off_0 17 rfl rfl)
theorem dX0_off_18 : decode cX0_off 18 = .ok (.lconst 1, 1) := dk_10 (dk_at dksX0_off_0 18 rfl rfl)
theorem dX0_off_19 : decode cX0_off 19 = .ok (.invokestatic 25, 3) := dk_184 0 25 (dk_at dksX0_off_0 19 rfl rfl)
theorem dX0_off_22 : decode cX0_off 22 = .ok (.ifCond .eq 14, 3) := dk_153 0 14 (dk_at dksX0_off_1 0 rfl rfl)
theorem dX0_off_25 : decode cX0_off 25 = .ok (.aload_n 0, 1) := dk_42 (dk_at dksX0_off_1 3 rfl rfl)
theorem dX0_off_26 : decode cX0_off 26 = .ok (.getfield 16, 3) := dk_180 0 16 (dk_at dksX0_off_1 4 rfl rfl)
theorem dX0_off_29 : decode cX0_off 29 = .ok (.aload_n 2, 1) := dk_44 (dk_at dksX0_off_1 7 rfl rfl)
theorem dX0_off_30 : decode cX0_off 30 = .ok (.invokevirtual 170, 3) := dk_182 0 170 (dk_at dksX0_off_1 8 rfl rfl)
theorem dX0_off_33 : decode cX0_off 33 = .ok (.goto 5, 3) := dk_167 0 5 (dk_at dksX0_off_1 11 rfl rfl)
theorem dX0_off_36 : decode cX0_off 36 = .ok (.bipush (-5), 2) := dk_16 251 (dk_at dksX0_off_1 14 rfl rfl)
theorem dX0_off_38 : decode cX0_off 38 = .ok (.ireturn, 1) := dk_172 (dk_at dksX0_off_1 16 rfl rfl)
abbrev cX0_of : ByteArray := prog_1_method_16_code
def dkwX0_of_4 : List UInt8 := [182, 0, 199, 172, 45, 182, 0, 202, 172, 2, 172]
abbrev dktX0_of_4 : List UInt8 := dkwX0_of_4 ++ []
def dkwX0_of_3 : List UInt8 := [172, 45, 180, 0, 186, 190, 172, 45, 180, 0, 190, 172, 45, 180, 0, 193, 172, 45, 180, 0, 196, 172, 42, 45]
abbrev dktX0_of_3 : List UInt8 := dkwX0_of_3 ++ dktX0_of_4
def dkwX0_of_2 : List UInt8 := [45, 180, 0, 136, 172, 45, 180, 0, 174, 172, 45, 180, 0, 177, 172, 45, 180, 0, 180, 172, 45, 180, 0, 183]
abbrev dktX0_of_2 : List UInt8 := dkwX0_of_2 ++ dktX0_of_3
def dkwX0_of_1 : List UInt8 := [170, 0, 0, 0, 0, 0, 116, 0, 0, 0, 0, 0, 0, 0, 10, 0, 0, 0, 59, 0, 0, 0, 64, 0, 0, 0, 69, 0, 0, 0, 74, 0, 0, 0, 79, 0, 0, 0, 84, 0, 0, 0, 90, 0, 0, 0, 95, 0, 0, 0, 100, 0, 0, 0, 105, 0, 0, 0, 111]
abbrev dktX0_of_1 : List UInt8 := dkwX0_of_1 ++ dktX0_of_2
def dkwX0_of_0 : List UInt8 := [42, 27, 182, 0, 132, 78, 45, 199, 0, 5, 2, 172, 28]
abbrev dktX0_of_0 : List UInt8 := dkwX0_of_0 ++ dktX0_of_1
theorem dksX0_of_0 : cX0_of.data.toList.drop 0 = dktX0_of_0 := by decide +kernel
theorem dksX0_of_1 : cX0_of.data.toList.drop 13 = dktX0_of_1 := dk_seg dksX0_of_0 13 rfl rfl
theorem dksX0_of_2 : cX0_of.data.toList.drop 72 = dktX0_of_2 := dk_seg dksX0_of_1 59 rfl rfl
theorem dksX0_of_3 : cX0_of.data.toList.drop 96 = dktX0_of_3 := dk_seg dksX0_of_2 24 rfl rfl
theorem dksX0_of_4 : cX0_of.data.toList.drop 120 = dktX0_of_4 := dk_seg dksX0_of_3 24 rfl rfl
theorem dX0_of_0 : decode cX0_of 0 = .ok (.aload_n 0, 1) := dk_42 (dk_at dksX0_of_0 0 rfl rfl)
theorem dX0_of_1 : decode cX0_of 1 = .ok (.iload_n 1, 1) := dk_27 (dk_at dksX0_of_0 1 rfl rfl)
theorem dX0_of_2 : decode cX0_of 2 = .ok (.invokevirtual 132, 3) := dk_182 0 132 (dk_at dksX0_of_0 2 rfl rfl)
theorem dX0_of_5 : decode cX0_of 5 = .ok (.astore_n 3, 1) := dk_78 (dk_at dksX0_of_0 5 rfl rfl)
theorem dX0_of_6 : decode cX0_of 6 = .ok (.aload_n 3, 1) := dk_45 (dk_at dksX0_of_0 6 rfl rfl)
theorem dX0_of_7 : decode cX0_of 7 = .ok (.ifnonnull 5, 3) := dk_199 0 5 (dk_at dksX0_of_0 7 rfl rfl)
theorem dX0_of_10 : decode cX0_of 10 = .ok (.iconst (-1), 1) := dk_2 (dk_at dksX0_of_0 10 rfl rfl)
theorem dX0_of_11 : decode cX0_of 11 = .ok (.ireturn, 1) := dk_172 (dk_at dksX0_of_0 11 rfl rfl)
theorem dX0_of_12 : decode cX0_of 12 = .ok (.iload_n 2, 1) := dk_28 (dk_at dksX0_of_0 12 rfl rfl)
theorem dX0_of_13 : decode cX0_of 13 = .ok (.tableswitch 116 0 10 #[59, 64, 69, 74, 79, 84, 90, 95, 100, 105, 111], 59) := by decide +kernel
theorem dX0_of_72 : decode cX0_of 72 = .ok (.aload_n 3, 1) := dk_45 (dk_at dksX0_of_2 0 rfl rfl)
theorem dX0_of_73 : decode cX0_of 73 = .ok (.getfield 136, 3) := dk_180 0 136 (dk_at dksX0_of_2 1 rfl rfl)
theorem dX0_of_76 : decode cX0_of 76 = .ok (.ireturn, 1) := dk_172 (dk_at dksX0_of_2 4 rfl rfl)
theorem dX0_of_77 : decode cX0_of 77 = .ok (.aload_n 3, 1) := dk_45 (dk_at dksX0_of_2 5 rfl rfl)
theorem dX0_of_78 : decode cX0_of 78 = .ok (.getfield 174, 3) := dk_180 0 174 (dk_at dksX0_of_2 6 rfl rfl)
theorem dX0_of_81 : decode cX0_of 81 = .ok (.ireturn, 1) := dk_172 (dk_at dksX0_of_2 9 rfl rfl)
theorem dX0_of_82 : decode cX0_of 82 = .ok (.aload_n 3, 1) := dk_45 (dk_at dksX0_of_2 10 rfl rfl)
theorem dX0_of_83 : decode cX0_of 83 = .ok (.getfield 177, 3) := dk_180 0 177 (dk_at dksX0_of_2 11 rfl rfl)
theorem dX0_of_86 : decode cX0_of 86 = .ok (.ireturn, 1) := dk_172 (dk_at dksX0_of_2 14 rfl rfl)
theorem dX0_of_87 : decode cX0_of 87 = .ok (.aload_n 3, 1) := dk_45 (dk_at dksX0_of_2 15 rfl rfl)
theorem dX0_of_88 : decode cX0_of 88 = .ok (.getfield 180, 3) := dk_180 0 180 (dk_at dksX0_of_2 16 rfl rfl)
theorem dX0_of_91 : decode cX0_of 91 = .ok (.ireturn, 1) := dk_172 (dk_at dksX0_of_2 19 rfl rfl)
theorem dX0_of_92 : decode cX0_of 92 = .ok (.aload_n 3, 1) := dk_45 (dk_at dksX0_of_2 20 rfl rfl)
theorem dX0_of_93 : decode cX0_of 93 = .ok (.getfield 183, 3) := dk_180 0 183 (dk_at dksX0_of_2 21 rfl rfl)
theorem dX0_of_96 : decode cX0_of 96 = .ok (.ireturn, 1) := dk_172 (dk_at dksX0_of_3 0 rfl rfl)
theorem dX0_of_97 : decode cX0_of 97 = .ok (.aload_n 3, 1) := dk_45 (dk_at dksX0_of_3 1 rfl rfl)
theorem dX0_of_98 : decode cX0_of 98 = .ok (.getfield 186, 3) := dk_180 0 186 (dk_at dksX0_of_3 2 rfl rfl)
theorem dX0_of_101 : decode cX0_of 101 = .ok (.arraylength, 1) := dk_190 (dk_at dksX0_of_3 5 rfl rfl)
theorem dX0_of_102 : decode cX0_of 102 = .ok (.ireturn, 1) := dk_172 (dk_at dksX0_of_3 6 rfl rfl)
theorem dX0_of_103 : decode cX0_of 103 = .ok (.aload_n 3, 1) := dk_45 (dk_at dksX0_of_3 7 rfl rfl)
theorem dX0_of_104 : decode cX0_of 104 = .ok (.getfield 190, 3) := dk_180 0 190 (dk_at dksX0_of_3 8 rfl rfl)
theorem dX0_of_107 : decode cX0_of 107 = .ok (.ireturn, 1) := dk_172 (dk_at dksX0_of_3 11 rfl rfl)
theorem dX0_of_108 : decode cX0_of 108 = .ok (.aload_n 3, 1) := dk_45 (dk_at dksX0_of_3 12 rfl rfl)
theorem dX0_of_109 : decode cX0_of 109 = .ok (.getfield 193, 3) := dk_180 0 193 (dk_at dksX0_of_3 13 rfl rfl)
theorem dX0_of_112 : decode cX0_of 112 = .ok (.ireturn, 1) := dk_172 (dk_at dksX0_of_3 16 rfl rfl)
theorem dX0_of_113 : decode cX0_of 113 = .ok (.aload_n 3, 1) := dk_45 (dk_at dksX0_of_3 17 rfl rfl)
theorem dX0_of_114 : decode cX0_of 114 = .ok (.getfield 196, 3) := dk_180 0 196 (dk_at dksX0_of_3 18 rfl rfl)
theorem dX0_of_117 : decode cX0_of 117 = .ok (.ireturn, 1) := dk_172 (dk_at dksX0_of_3 21 rfl rfl)
theorem dX0_of_118 : decode cX0_of 118 = .ok (.aload_n 0, 1) := dk_42 (dk_at dksX0_of_3 22 rfl rfl)
theorem dX0_of_119 : decode cX0_of 119 = .ok (.aload_n 3, 1) := dk_45 (dk_at dksX0_of_3 23 rfl rfl)
theorem dX0_of_120 : decode cX0_of 120 = .ok (.invokevirtual 199, 3) := dk_182 0 199 (dk_at dksX0_of_4 0 rfl rfl)
theorem dX0_of_123 : decode cX0_of 123 = .ok (.ireturn, 1) := dk_172 (dk_at dksX0_of_4 3 rfl rfl)
theorem dX0_of_124 : decode cX0_of 124 = .ok (.aload_n 3, 1) := dk_45 (dk_at dksX0_of_4 4 rfl rfl)
theorem dX0_of_125 : decode cX0_of 125 = .ok (.invokevirtual 202, 3) := dk_182 0 202 (dk_at dksX0_of_4 5 rfl rfl)
theorem dX0_of_128 : decode cX0_of 128 = .ok (.ireturn, 1) := dk_172 (dk_at dksX0_of_4 8 rfl rfl)
theorem dX0_of_129 : decode cX0_of 129 = .ok (.iconst (-1), 1) := dk_2 (dk_at dksX0_of_4 9 rfl rfl)
theorem dX0_of_130 : decode cX0_of 130 = .ok (.ireturn, 1) := dk_172 (dk_at dksX0_of_4 10 rfl rfl)
abbrev cX0_arm : ByteArray := prog_1_method_18_code
def dkwX0_arm_5 : List UInt8 := [172, 2, 172]
abbrev dktX0_arm_5 : List UInt8 := dkwX0_arm_5 ++ []
def dkwX0_arm_4 : List UInt8 := [25, 5, 182, 0, 226, 153, 0, 11, 25, 5, 180, 0, 229, 167, 0, 5, 16, 254, 172, 25, 5, 180, 0, 232]
abbrev dktX0_arm_4 : List UInt8 := dkwX0_arm_4 ++ dktX0_arm_5
def dkwX0_arm_3 : List UInt8 := [25, 5, 180, 0, 215, 172, 25, 5, 180, 0, 220, 172, 25, 5, 25, 4, 180, 0, 180, 182, 0, 223, 172]
abbrev dktX0_arm_3 : List UInt8 := dkwX0_arm_3 ++ dktX0_arm_4
def dkwX0_arm_2 : List UInt8 := [170, 0, 0, 0, 0, 82, 0, 0, 0, 0, 0, 0, 0, 4, 0, 0, 0, 34, 0, 0, 0, 40, 0, 0, 0, 46, 0, 0, 0, 57, 0, 0, 0, 76]
abbrev dktX0_arm_2 : List UInt8 := dkwX0_arm_2 ++ dktX0_arm_3
def dkwX0_arm_1 : List UInt8 := [184, 0, 25, 154, 0, 5, 2, 172, 25, 4, 180, 0, 186, 28, 50, 58, 5, 29]
abbrev dktX0_arm_1 : List UInt8 := dkwX0_arm_1 ++ dktX0_arm_2
def dkwX0_arm_0 : List UInt8 := [42, 27, 182, 0, 132, 58, 4, 25, 4, 198, 0, 21, 28, 133, 9, 25, 4, 180, 0, 186, 190, 4, 100, 133]
abbrev dktX0_arm_0 : List UInt8 := dkwX0_arm_0 ++ dktX0_arm_1
theorem dksX0_arm_0 : cX0_arm.data.toList.drop 0 = dktX0_arm_0 := by decide +kernel
theorem dksX0_arm_1 : cX0_arm.data.toList.drop 24 = dktX0_arm_1 := dk_seg dksX0_arm_0 24 rfl rfl
theorem dksX0_arm_2 : cX0_arm.data.toList.drop 42 = dktX0_arm_2 := dk_seg dksX0_arm_1 18 rfl rfl
theorem dksX0_arm_3 : cX0_arm.data.toList.drop 76 = dktX0_arm_3 := dk_seg dksX0_arm_2 34 rfl rfl
theorem dksX0_arm_4 : cX0_arm.data.toList.drop 99 = dktX0_arm_4 := dk_seg dksX0_arm_3 23 rfl rfl
theorem dksX0_arm_5 : cX0_arm.data.toList.drop 123 = dktX0_arm_5 := dk_seg dksX0_arm_4 24 rfl rfl
theorem dX0_arm_0 : decode cX0_arm 0 = .ok (.aload_n 0, 1) := dk_42 (dk_at dksX0_arm_0 0 rfl rfl)
theorem dX0_arm_1 : decode cX0_arm 1 = .ok (.iload_n 1, 1) := dk_27 (dk_at dksX0_arm_0 1 rfl rfl)
theorem dX0_arm_2 : decode cX0_arm 2 = .ok (.invokevirtual 132, 3) := dk_182 0 132 (dk_at dksX0_arm_0 2 rfl rfl)
theorem dX0_arm_5 : decode cX0_arm 5 = .ok (.astore 4, 2) := dk_58 4 (dk_at dksX0_arm_0 5 rfl rfl)
theorem dX0_arm_7 : decode cX0_arm 7 = .ok (.aload 4, 2) := dk_25 4 (dk_at dksX0_arm_0 7 rfl rfl)
theorem dX0_arm_9 : decode cX0_arm 9 = .ok (.ifnull 21, 3) := dk_198 0 21 (dk_at dksX0_arm_0 9 rfl rfl)
theorem dX0_arm_12 : decode cX0_arm 12 = .ok (.iload_n 2, 1) := dk_28 (dk_at dksX0_arm_0 12 rfl rfl)
theorem dX0_arm_13 : decode cX0_arm 13 = .ok (.i2l, 1) := dk_133 (dk_at dksX0_arm_0 13 rfl rfl)
theorem dX0_arm_14 : decode cX0_arm 14 = .ok (.lconst 0, 1) := dk_9 (dk_at dksX0_arm_0 14 rfl rfl)
theorem dX0_arm_15 : decode cX0_arm 15 = .ok (.aload 4, 2) := dk_25 4 (dk_at dksX0_arm_0 15 rfl rfl)
theorem dX0_arm_17 : decode cX0_arm 17 = .ok (.getfield 186, 3) := dk_180 0 186 (dk_at dksX0_arm_0 17 rfl rfl)
theorem dX0_arm_20 : decode cX0_arm 20 = .ok (.arraylength, 1) := dk_190 (dk_at dksX0_arm_0 20 rfl rfl)
theorem dX0_arm_21 : decode cX0_arm 21 = .ok (.iconst 1, 1) := dk_4 (dk_at dksX0_arm_0 21 rfl rfl)
theorem dX0_arm_22 : decode cX0_arm 22 = .ok (.isub, 1) := dk_100 (dk_at dksX0_arm_0 22 rfl rfl)
theorem dX0_arm_23 : decode cX0_arm 23 = .ok (.i2l, 1) := dk_133 (dk_at dksX0_arm_0 23 rfl rfl)
theorem dX0_arm_24 : decode cX0_arm 24 = .ok (.invokestatic 25, 3) := dk_184 0 25 (dk_at dksX0_arm_1 0 rfl rfl)
theorem dX0_arm_27 : decode cX0_arm 27 = .ok (.ifCond .ne 5, 3) := dk_154 0 5 (dk_at dksX0_arm_1 3 rfl rfl)
theorem dX0_arm_30 : decode cX0_arm 30 = .ok (.iconst (-1), 1) := dk_2 (dk_at dksX0_arm_1 6 rfl rfl)
theorem dX0_arm_31 : decode cX0_arm 31 = .ok (.ireturn, 1) := dk_172 (dk_at dksX0_arm_1 7 rfl rfl)
theorem dX0_arm_32 : decode cX0_arm 32 = .ok (.aload 4, 2) := dk_25 4 (dk_at dksX0_arm_1 8 rfl rfl)
theorem dX0_arm_34 : decode cX0_arm 34 = .ok (.getfield 186, 3) := dk_180 0 186 (dk_at dksX0_arm_1 10 rfl rfl)
theorem dX0_arm_37 : decode cX0_arm 37 = .ok (.iload_n 2, 1) := dk_28 (dk_at dksX0_arm_1 13 rfl rfl)
theorem dX0_arm_38 : decode cX0_arm 38 = .ok (.aaload, 1) := dk_50 (dk_at dksX0_arm_1 14 rfl rfl)
theorem dX0_arm_39 : decode cX0_arm 39 = .ok (.astore 5, 2) := dk_58 5 (dk_at dksX0_arm_1 15 rfl rfl)
theorem dX0_arm_41 : decode cX0_arm 41 = .ok (.iload_n 3, 1) := dk_29 (dk_at dksX0_arm_1 17 rfl rfl)
theorem dX0_arm_42 : decode cX0_arm 42 = .ok (.tableswitch 82 0 4 #[34, 40, 46, 57, 76], 34) := by decide +kernel
theorem dX0_arm_76 : decode cX0_arm 76 = .ok (.aload 5, 2) := dk_25 5 (dk_at dksX0_arm_3 0 rfl rfl)
theorem dX0_arm_78 : decode cX0_arm 78 = .ok (.getfield 215, 3) := dk_180 0 215 (dk_at dksX0_arm_3 2 rfl rfl)
theorem dX0_arm_81 : decode cX0_arm 81 = .ok (.ireturn, 1) := dk_172 (dk_at dksX0_arm_3 5 rfl rfl)
theorem dX0_arm_82 : decode cX0_arm 82 = .ok (.aload 5, 2) := dk_25 5 (dk_at dksX0_arm_3 6 rfl rfl)
theorem dX0_arm_84 : decode cX0_arm 84 = .ok (.getfield 220, 3) := dk_180 0 220 (dk_at dksX0_arm_3 8 rfl rfl)
theorem dX0_arm_87 : decode cX0_arm 87 = .ok (.ireturn, 1) := dk_172 (dk_at dksX0_arm_3 11 rfl rfl)
theorem dX0_arm_88 : decode cX0_arm 88 = .ok (.aload 5, 2) := dk_25 5 (dk_at dksX0_arm_3 12 rfl rfl)
theorem dX0_arm_90 : decode cX0_arm 90 = .ok (.aload 4, 2) := dk_25 4 (dk_at dksX0_arm_3 14 rfl rfl)
theorem dX0_arm_92 : decode cX0_arm 92 = .ok (.getfield 180, 3) := dk_180 0 180 (dk_at dksX0_arm_3 16 rfl rfl)
theorem dX0_arm_95 : decode cX0_arm 95 = .ok (.invokevirtual 223, 3) := dk_182 0 223 (dk_at dksX0_arm_3 19 rfl rfl)
theorem dX0_arm_98 : decode cX0_arm 98 = .ok (.ireturn, 1) := dk_172 (dk_at dksX0_arm_3 22 rfl rfl)
theorem dX0_arm_99 : decode cX0_arm 99 = .ok (.aload 5, 2) := dk_25 5 (dk_at dksX0_arm_4 0 rfl rfl)
theorem dX0_arm_101 : decode cX0_arm 101 = .ok (.invokevirtual 226, 3) := dk_182 0 226 (dk_at dksX0_arm_4 2 rfl rfl)
theorem dX0_arm_104 : decode cX0_arm 104 = .ok (.ifCond .eq 11, 3) := dk_153 0 11 (dk_at dksX0_arm_4 5 rfl rfl)
theorem dX0_arm_107 : decode cX0_arm 107 = .ok (.aload 5, 2) := dk_25 5 (dk_at dksX0_arm_4 8 rfl rfl)
theorem dX0_arm_109 : decode cX0_arm 109 = .ok (.getfield 229, 3) := dk_180 0 229 (dk_at dksX0_arm_4 10 rfl rfl)
theorem dX0_arm_112 : decode cX0_arm 112 = .ok (.goto 5, 3) := dk_167 0 5 (dk_at dksX0_arm_4 13 rfl rfl)
theorem dX0_arm_115 : decode cX0_arm 115 = .ok (.bipush (-2), 2) := dk_16 254 (dk_at dksX0_arm_4 16 rfl rfl)
theorem dX0_arm_117 : decode cX0_arm 117 = .ok (.ireturn, 1) := dk_172 (dk_at dksX0_arm_4 18 rfl rfl)
theorem dX0_arm_118 : decode cX0_arm 118 = .ok (.aload 5, 2) := dk_25 5 (dk_at dksX0_arm_4 19 rfl rfl)
theorem dX0_arm_120 : decode cX0_arm 120 = .ok (.getfield 232, 3) := dk_180 0 232 (dk_at dksX0_arm_4 21 rfl rfl)
theorem dX0_arm_123 : decode cX0_arm 123 = .ok (.ireturn, 1) := dk_172 (dk_at dksX0_arm_5 0 rfl rfl)
theorem dX0_arm_124 : decode cX0_arm 124 = .ok (.iconst (-1), 1) := dk_2 (dk_at dksX0_arm_5 1 rfl rfl)
theorem dX0_arm_125 : decode cX0_arm 125 = .ok (.ireturn, 1) := dk_172 (dk_at dksX0_arm_5 2 rfl rfl)
abbrev cX0_line : ByteArray := prog_1_method_20_code
def dkwX0_line_1 : List UInt8 := [167, 0, 8, 44, 27, 184, 0, 245, 172]
abbrev dktX0_line_1 : List UInt8 := dkwX0_line_1 ++ []
def dkwX0_line_0 : List UInt8 := [27, 2, 162, 0, 5, 2, 172, 42, 180, 0, 16, 182, 0, 238, 77, 27, 2, 160, 0, 10, 44, 182, 0, 242]
abbrev dktX0_line_0 : List UInt8 := dkwX0_line_0 ++ dktX0_line_1
theorem dksX0_line_0 : cX0_line.data.toList.drop 0 = dktX0_line_0 := by decide +kernel
theorem dksX0_line_1 : cX0_line.data.toList.drop 24 = dktX0_line_1 := dk_seg dksX0_line_0 24 rfl rfl
theorem dX0_line_0 : decode cX0_line 0 = .ok (.iload_n 1, 1) := dk_27 (dk_at dksX0_line_0 0 rfl rfl)
theorem dX0_line_1 : decode cX0_line 1 = .ok (.iconst (-1), 1) := dk_2 (dk_at dksX0_line_0 1 rfl rfl)
theorem dX0_line_2 : decode cX0_line 2 = .ok (.if_icmp .ge 5, 3) := dk_162 0 5 (dk_at dksX0_line_0 2 rfl rfl)
theorem dX0_line_5 : decode cX0_line 5 = .ok (.iconst (-1), 1) := dk_2 (dk_at dksX0_line_0 5 rfl rfl)
theorem dX0_line_6 : decode cX0_line 6 = .ok (.ireturn, 1) := dk_172 (dk_at dksX0_line_0 6 rfl rfl)
theorem dX0_line_7 : decode cX0_line 7 = .ok (.aload_n 0, 1) := dk_42 (dk_at dksX0_line_0 7 rfl rfl)
theorem dX0_line_8 : decode cX0_line 8 = .ok (.getfield 16, 3) := dk_180 0 16 (dk_at dksX0_line_0 8 rfl rfl)
theorem dX0_line_11 : decode cX0_line 11 = .ok (.invokevirtual 238, 3) := dk_182 0 238 (dk_at dksX0_line_0 11 rfl rfl)
theorem dX0_line_14 : decode cX0_line 14 = .ok (.astore_n 2, 1) := dk_77 (dk_at dksX0_line_0 14 rfl rfl)
theorem dX0_line_15 : decode cX0_line 15 = .ok (.iload_n 1, 1) := dk_27 (dk_at dksX0_line_0 15 rfl rfl)
theorem dX0_line_16 : decode cX0_line 16 = .ok (.iconst (-1), 1) := dk_2 (dk_at dksX0_line_0 16 rfl rfl)
theorem dX0_line_17 : decode cX0_line 17 = .ok (.if_icmp .ne 10, 3) := dk_160 0 10 (dk_at dksX0_line_0 17 rfl rfl)
theorem dX0_line_20 : decode cX0_line 20 = .ok (.aload_n 2, 1) := dk_44 (dk_at dksX0_line_0 20 rfl rfl)
theorem dX0_line_21 : decode cX0_line 21 = .ok (.invokevirtual 242, 3) := dk_182 0 242 (dk_at dksX0_line_0 21 rfl rfl)
theorem dX0_line_24 : decode cX0_line 24 = .ok (.goto 8, 3) := dk_167 0 8 (dk_at dksX0_line_1 0 rfl rfl)
theorem dX0_line_27 : decode cX0_line 27 = .ok (.aload_n 2, 1) := dk_44 (dk_at dksX0_line_1 3 rfl rfl)
theorem dX0_line_28 : decode cX0_line 28 = .ok (.iload_n 1, 1) := dk_27 (dk_at dksX0_line_1 4 rfl rfl)
theorem dX0_line_29 : decode cX0_line 29 = .ok (.invokestatic 245, 3) := dk_184 0 245 (dk_at dksX0_line_1 5 rfl rfl)
theorem dX0_line_32 : decode cX0_line 32 = .ok (.ireturn, 1) := dk_172 (dk_at dksX0_line_1 8 rfl rfl)
abbrev cX0_rank : ByteArray := prog_1_method_21_code
def dkwX0_rank_1 : List UInt8 := [182, 0, 254, 172]
abbrev dktX0_rank_1 : List UInt8 := dkwX0_rank_1 ++ []
def dkwX0_rank_0 : List UInt8 := [28, 133, 9, 20, 0, 128, 184, 0, 25, 154, 0, 5, 2, 172, 187, 0, 249, 89, 42, 28, 183, 0, 251, 27]
abbrev dktX0_rank_0 : List UInt8 := dkwX0_rank_0 ++ dktX0_rank_1
theorem dksX0_rank_0 : cX0_rank.data.toList.drop 0 = dktX0_rank_0 := by decide +kernel
theorem dksX0_rank_1 : cX0_rank.data.toList.drop 24 = dktX0_rank_1 := dk_seg dksX0_rank_0 24 rfl rfl
theorem dX0_rank_0 : decode cX0_rank 0 = .ok (.iload_n 2, 1) := dk_28 (dk_at dksX0_rank_0 0 rfl rfl)
theorem dX0_rank_1 : decode cX0_rank 1 = .ok (.i2l, 1) := dk_133 (dk_at dksX0_rank_0 1 rfl rfl)
theorem dX0_rank_2 : decode cX0_rank 2 = .ok (.lconst 0, 1) := dk_9 (dk_at dksX0_rank_0 2 rfl rfl)
theorem dX0_rank_3 : decode cX0_rank 3 = .ok (.ldc2_w 128, 3) := dk_20 0 128 (dk_at dksX0_rank_0 3 rfl rfl)
theorem dX0_rank_6 : decode cX0_rank 6 = .ok (.invokestatic 25, 3) := dk_184 0 25 (dk_at dksX0_rank_0 6 rfl rfl)
theorem dX0_rank_9 : decode cX0_rank 9 = .ok (.ifCond .ne 5, 3) := dk_154 0 5 (dk_at dksX0_rank_0 9 rfl rfl)
theorem dX0_rank_12 : decode cX0_rank 12 = .ok (.iconst (-1), 1) := dk_2 (dk_at dksX0_rank_0 12 rfl rfl)
theorem dX0_rank_13 : decode cX0_rank 13 = .ok (.ireturn, 1) := dk_172 (dk_at dksX0_rank_0 13 rfl rfl)
theorem dX0_rank_14 : decode cX0_rank 14 = .ok (.new 249, 3) := dk_187 0 249 (dk_at dksX0_rank_0 14 rfl rfl)
theorem dX0_rank_17 : decode cX0_rank 17 = .ok (.dup, 1) := dk_89 (dk_at dksX0_rank_0 17 rfl rfl)
theorem dX0_rank_18 : decode cX0_rank 18 = .ok (.aload_n 0, 1) := dk_42 (dk_at dksX0_rank_0 18 rfl rfl)
theorem dX0_rank_19 : decode cX0_rank 19 = .ok (.iload_n 2, 1) := dk_28 (dk_at dksX0_rank_0 19 rfl rfl)
theorem dX0_rank_20 : decode cX0_rank 20 = .ok (.invokespecial 251, 3) := dk_183 0 251 (dk_at dksX0_rank_0 20 rfl rfl)
theorem dX0_rank_23 : decode cX0_rank 23 = .ok (.iload_n 1, 1) := dk_27 (dk_at dksX0_rank_0 23 rfl rfl)
theorem dX0_rank_24 : decode cX0_rank 24 = .ok (.invokevirtual 254, 3) := dk_182 0 254 (dk_at dksX0_rank_1 0 rfl rfl)
theorem dX0_rank_27 : decode cX0_rank 27 = .ok (.ireturn, 1) := dk_172 (dk_at dksX0_rank_1 3 rfl rfl)
abbrev cX0_hold : ByteArray := prog_1_method_22_code
def dkwX0_hold_1 : List UInt8 := [182, 1, 4, 172]
abbrev dktX0_hold_1 : List UInt8 := dkwX0_hold_1 ++ []
def dkwX0_hold_0 : List UInt8 := [28, 133, 9, 10, 184, 0, 25, 154, 0, 5, 2, 172, 187, 1, 1, 89, 42, 28, 183, 1, 3, 27]
abbrev dktX0_hold_0 : List UInt8 := dkwX0_hold_0 ++ dktX0_hold_1
theorem dksX0_hold_0 : cX0_hold.data.toList.drop 0 = dktX0_hold_0 := by decide +kernel
theorem dksX0_hold_1 : cX0_hold.data.toList.drop 22 = dktX0_hold_1 := dk_seg dksX0_hold_0 22 rfl rfl
theorem dX0_hold_0 : decode cX0_hold 0 = .ok (.iload_n 2, 1) := dk_28 (dk_at dksX0_hold_0 0 rfl rfl)
theorem dX0_hold_1 : decode cX0_hold 1 = .ok (.i2l, 1) := dk_133 (dk_at dksX0_hold_0 1 rfl rfl)
theorem dX0_hold_2 : decode cX0_hold 2 = .ok (.lconst 0, 1) := dk_9 (dk_at dksX0_hold_0 2 rfl rfl)
theorem dX0_hold_3 : decode cX0_hold 3 = .ok (.lconst 1, 1) := dk_10 (dk_at dksX0_hold_0 3 rfl rfl)
theorem dX0_hold_4 : decode cX0_hold 4 = .ok (.invokestatic 25, 3) := dk_184 0 25 (dk_at dksX0_hold_0 4 rfl rfl)
theorem dX0_hold_7 : decode cX0_hold 7 = .ok (.ifCond .ne 5, 3) := dk_154 0 5 (dk_at dksX0_hold_0 7 rfl rfl)
theorem dX0_hold_10 : decode cX0_hold 10 = .ok (.iconst (-1), 1) := dk_2 (dk_at dksX0_hold_0 10 rfl rfl)
theorem dX0_hold_11 : decode cX0_hold 11 = .ok (.ireturn, 1) := dk_172 (dk_at dksX0_hold_0 11 rfl rfl)
theorem dX0_hold_12 : decode cX0_hold 12 = .ok (.new 257, 3) := dk_187 1 1 (dk_at dksX0_hold_0 12 rfl rfl)
theorem dX0_hold_15 : decode cX0_hold 15 = .ok (.dup, 1) := dk_89 (dk_at dksX0_hold_0 15 rfl rfl)
theorem dX0_hold_16 : decode cX0_hold 16 = .ok (.aload_n 0, 1) := dk_42 (dk_at dksX0_hold_0 16 rfl rfl)
theorem dX0_hold_17 : decode cX0_hold 17 = .ok (.iload_n 2, 1) := dk_28 (dk_at dksX0_hold_0 17 rfl rfl)
theorem dX0_hold_18 : decode cX0_hold 18 = .ok (.invokespecial 259, 3) := dk_183 1 3 (dk_at dksX0_hold_0 18 rfl rfl)
theorem dX0_hold_21 : decode cX0_hold 21 = .ok (.iload_n 1, 1) := dk_27 (dk_at dksX0_hold_0 21 rfl rfl)
theorem dX0_hold_22 : decode cX0_hold 22 = .ok (.invokevirtual 260, 3) := dk_182 1 4 (dk_at dksX0_hold_1 0 rfl rfl)
theorem dX0_hold_25 : decode cX0_hold 25 = .ok (.ireturn, 1) := dk_172 (dk_at dksX0_hold_1 3 rfl rfl)
abbrev cX0_text : ByteArray := prog_1_method_23_code
def dkwX0_text_2 : List UInt8 := [182, 1, 13, 167, 0, 5, 16, 254, 172]
abbrev dktX0_text_2 : List UInt8 := dkwX0_text_2 ++ []
def dkwX0_text_1 : List UInt8 := [2, 160, 0, 9, 25, 4, 182, 1, 9, 172, 28, 25, 4, 182, 1, 9, 162, 0, 12, 25, 4, 28]
abbrev dktX0_text_1 : List UInt8 := dkwX0_text_1 ++ dktX0_text_2
def dkwX0_text_0 : List UInt8 := [42, 27, 182, 0, 132, 78, 45, 198, 0, 8, 28, 2, 162, 0, 5, 2, 172, 45, 182, 1, 5, 58, 4, 28]
abbrev dktX0_text_0 : List UInt8 := dkwX0_text_0 ++ dktX0_text_1
theorem dksX0_text_0 : cX0_text.data.toList.drop 0 = dktX0_text_0 := by decide +kernel
theorem dksX0_text_1 : cX0_text.data.toList.drop 24 = dktX0_text_1 := dk_seg dksX0_text_0 24 rfl rfl
theorem dksX0_text_2 : cX0_text.data.toList.drop 46 = dktX0_text_2 := dk_seg dksX0_text_1 22 rfl rfl
theorem dX0_text_0 : decode cX0_text 0 = .ok (.aload_n 0, 1) := dk_42 (dk_at dksX0_text_0 0 rfl rfl)
theorem dX0_text_1 : decode cX0_text 1 = .ok (.iload_n 1, 1) := dk_27 (dk_at dksX0_text_0 1 rfl rfl)
theorem dX0_text_2 : decode cX0_text 2 = .ok (.invokevirtual 132, 3) := dk_182 0 132 (dk_at dksX0_text_0 2 rfl rfl)
theorem dX0_text_5 : decode cX0_text 5 = .ok (.astore_n 3, 1) := dk_78 (dk_at dksX0_text_0 5 rfl rfl)
theorem dX0_text_6 : decode cX0_text 6 = .ok (.aload_n 3, 1) := dk_45 (dk_at dksX0_text_0 6 rfl rfl)
theorem dX0_text_7 : decode cX0_text 7 = .ok (.ifnull 8, 3) := dk_198 0 8 (dk_at dksX0_text_0 7 rfl rfl)
theorem dX0_text_10 : decode cX0_text 10 = .ok (.iload_n 2, 1) := dk_28 (dk_at dksX0_text_0 10 rfl rfl)
theorem dX0_text_11 : decode cX0_text 11 = .ok (.iconst (-1), 1) := dk_2 (dk_at dksX0_text_0 11 rfl rfl)
theorem dX0_text_12 : decode cX0_text 12 = .ok (.if_icmp .ge 5, 3) := dk_162 0 5 (dk_at dksX0_text_0 12 rfl rfl)
theorem dX0_text_15 : decode cX0_text 15 = .ok (.iconst (-1), 1) := dk_2 (dk_at dksX0_text_0 15 rfl rfl)
theorem dX0_text_16 : decode cX0_text 16 = .ok (.ireturn, 1) := dk_172 (dk_at dksX0_text_0 16 rfl rfl)
theorem dX0_text_17 : decode cX0_text 17 = .ok (.aload_n 3, 1) := dk_45 (dk_at dksX0_text_0 17 rfl rfl)
theorem dX0_text_18 : decode cX0_text 18 = .ok (.invokevirtual 261, 3) := dk_182 1 5 (dk_at dksX0_text_0 18 rfl rfl)
theorem dX0_text_21 : decode cX0_text 21 = .ok (.astore 4, 2) := dk_58 4 (dk_at dksX0_text_0 21 rfl rfl)
theorem dX0_text_23 : decode cX0_text 23 = .ok (.iload_n 2, 1) := dk_28 (dk_at dksX0_text_0 23 rfl rfl)
theorem dX0_text_24 : decode cX0_text 24 = .ok (.iconst (-1), 1) := dk_2 (dk_at dksX0_text_1 0 rfl rfl)
theorem dX0_text_25 : decode cX0_text 25 = .ok (.if_icmp .ne 9, 3) := dk_160 0 9 (dk_at dksX0_text_1 1 rfl rfl)
theorem dX0_text_28 : decode cX0_text 28 = .ok (.aload 4, 2) := dk_25 4 (dk_at dksX0_text_1 4 rfl rfl)
theorem dX0_text_30 : decode cX0_text 30 = .ok (.invokevirtual 265, 3) := dk_182 1 9 (dk_at dksX0_text_1 6 rfl rfl)
theorem dX0_text_33 : decode cX0_text 33 = .ok (.ireturn, 1) := dk_172 (dk_at dksX0_text_1 9 rfl rfl)
theorem dX0_text_34 : decode cX0_text 34 = .ok (.iload_n 2, 1) := dk_28 (dk_at dksX0_text_1 10 rfl rfl)
theorem dX0_text_35 : decode cX0_text 35 = .ok (.aload 4, 2) := dk_25 4 (dk_at dksX0_text_1 11 rfl rfl)
theorem dX0_text_37 : decode cX0_text 37 = .ok (.invokevirtual 265, 3) := dk_182 1 9 (dk_at dksX0_text_1 13 rfl rfl)
theorem dX0_text_40 : decode cX0_text 40 = .ok (.if_icmp .ge 12, 3) := dk_162 0 12 (dk_at dksX0_text_1 16 rfl rfl)
theorem dX0_text_43 : decode cX0_text 43 = .ok (.aload 4, 2) := dk_25 4 (dk_at dksX0_text_1 19 rfl rfl)
theorem dX0_text_45 : decode cX0_text 45 = .ok (.iload_n 2, 1) := dk_28 (dk_at dksX0_text_1 21 rfl rfl)
theorem dX0_text_46 : decode cX0_text 46 = .ok (.invokevirtual 269, 3) := dk_182 1 13 (dk_at dksX0_text_2 0 rfl rfl)
theorem dX0_text_49 : decode cX0_text 49 = .ok (.goto 5, 3) := dk_167 0 5 (dk_at dksX0_text_2 3 rfl rfl)
theorem dX0_text_52 : decode cX0_text 52 = .ok (.bipush (-2), 2) := dk_16 254 (dk_at dksX0_text_2 6 rfl rfl)
theorem dX0_text_54 : decode cX0_text 54 = .ok (.ireturn, 1) := dk_172 (dk_at dksX0_text_2 8 rfl rfl)
abbrev cX0_keep : ByteArray := prog_1_method_26_code
def dkwX0_keep_1 : List UInt8 := [182, 1, 45, 16, 12, 160, 0, 8, 16, 253, 167, 0, 12, 42, 27, 28, 29, 21, 4, 182, 1, 46, 172]
abbrev dktX0_keep_1 : List UInt8 := dkwX0_keep_1 ++ []
def dkwX0_keep_0 : List UInt8 := [42, 27, 28, 29, 133, 21, 4, 182, 1, 37, 154, 0, 5, 2, 172, 42, 180, 0, 16, 180, 1, 41]
abbrev dktX0_keep_0 : List UInt8 := dkwX0_keep_0 ++ dktX0_keep_1
theorem dksX0_keep_0 : cX0_keep.data.toList.drop 0 = dktX0_keep_0 := by decide +kernel
theorem dksX0_keep_1 : cX0_keep.data.toList.drop 22 = dktX0_keep_1 := dk_seg dksX0_keep_0 22 rfl rfl
theorem dX0_keep_0 : decode cX0_keep 0 = .ok (.aload_n 0, 1) := dk_42 (dk_at dksX0_keep_0 0 rfl rfl)
theorem dX0_keep_1 : decode cX0_keep 1 = .ok (.iload_n 1, 1) := dk_27 (dk_at dksX0_keep_0 1 rfl rfl)
theorem dX0_keep_2 : decode cX0_keep 2 = .ok (.iload_n 2, 1) := dk_28 (dk_at dksX0_keep_0 2 rfl rfl)
theorem dX0_keep_3 : decode cX0_keep 3 = .ok (.iload_n 3, 1) := dk_29 (dk_at dksX0_keep_0 3 rfl rfl)
theorem dX0_keep_4 : decode cX0_keep 4 = .ok (.i2l, 1) := dk_133 (dk_at dksX0_keep_0 4 rfl rfl)
theorem dX0_keep_5 : decode cX0_keep 5 = .ok (.iload 4, 2) := dk_21 4 (dk_at dksX0_keep_0 5 rfl rfl)
theorem dX0_keep_7 : decode cX0_keep 7 = .ok (.invokevirtual 293, 3) := dk_182 1 37 (dk_at dksX0_keep_0 7 rfl rfl)
theorem dX0_keep_10 : decode cX0_keep 10 = .ok (.ifCond .ne 5, 3) := dk_154 0 5 (dk_at dksX0_keep_0 10 rfl rfl)
theorem dX0_keep_13 : decode cX0_keep 13 = .ok (.iconst (-1), 1) := dk_2 (dk_at dksX0_keep_0 13 rfl rfl)
theorem dX0_keep_14 : decode cX0_keep 14 = .ok (.ireturn, 1) := dk_172 (dk_at dksX0_keep_0 14 rfl rfl)
theorem dX0_keep_15 : decode cX0_keep 15 = .ok (.aload_n 0, 1) := dk_42 (dk_at dksX0_keep_0 15 rfl rfl)
theorem dX0_keep_16 : decode cX0_keep 16 = .ok (.getfield 16, 3) := dk_180 0 16 (dk_at dksX0_keep_0 16 rfl rfl)
theorem dX0_keep_19 : decode cX0_keep 19 = .ok (.getfield 297, 3) := dk_180 1 41 (dk_at dksX0_keep_0 19 rfl rfl)
theorem dX0_keep_22 : decode cX0_keep 22 = .ok (.invokevirtual 301, 3) := dk_182 1 45 (dk_at dksX0_keep_1 0 rfl rfl)
theorem dX0_keep_25 : decode cX0_keep 25 = .ok (.bipush 12, 2) := dk_16 12 (dk_at dksX0_keep_1 3 rfl rfl)
theorem dX0_keep_27 : decode cX0_keep 27 = .ok (.if_icmp .ne 8, 3) := dk_160 0 8 (dk_at dksX0_keep_1 5 rfl rfl)
theorem dX0_keep_30 : decode cX0_keep 30 = .ok (.bipush (-3), 2) := dk_16 253 (dk_at dksX0_keep_1 8 rfl rfl)
theorem dX0_keep_32 : decode cX0_keep 32 = .ok (.goto 12, 3) := dk_167 0 12 (dk_at dksX0_keep_1 10 rfl rfl)
theorem dX0_keep_35 : decode cX0_keep 35 = .ok (.aload_n 0, 1) := dk_42 (dk_at dksX0_keep_1 13 rfl rfl)
theorem dX0_keep_36 : decode cX0_keep 36 = .ok (.iload_n 1, 1) := dk_27 (dk_at dksX0_keep_1 14 rfl rfl)
theorem dX0_keep_37 : decode cX0_keep 37 = .ok (.iload_n 2, 1) := dk_28 (dk_at dksX0_keep_1 15 rfl rfl)
theorem dX0_keep_38 : decode cX0_keep 38 = .ok (.iload_n 3, 1) := dk_29 (dk_at dksX0_keep_1 16 rfl rfl)
theorem dX0_keep_39 : decode cX0_keep 39 = .ok (.iload 4, 2) := dk_21 4 (dk_at dksX0_keep_1 17 rfl rfl)
theorem dX0_keep_41 : decode cX0_keep 41 = .ok (.invokevirtual 302, 3) := dk_182 1 46 (dk_at dksX0_keep_1 19 rfl rfl)
theorem dX0_keep_44 : decode cX0_keep 44 = .ok (.ireturn, 1) := dk_172 (dk_at dksX0_keep_1 22 rfl rfl)
abbrev cX0_every : ByteArray := prog_1_method_27_code
def dkwX0_every_7 : List UInt8 := [172, 132, 8, 1, 167, 255, 210, 21, 7, 172]
abbrev dktX0_every_7 : List UInt8 := dkwX0_every_7 ++ []
def dkwX0_every_6 : List UInt8 := [21, 9, 21, 9, 29, 96, 21, 6, 182, 1, 46, 16, 251, 160, 0, 12, 42, 21, 7, 182, 1, 55, 16, 251]
abbrev dktX0_every_6 : List UInt8 := dkwX0_every_6 ++ dktX0_every_7
def dkwX0_every_5 : List UInt8 := [54, 7, 3, 54, 8, 21, 8, 21, 5, 162, 0, 45, 28, 21, 8, 21, 4, 104, 96, 54, 9, 42, 27]
abbrev dktX0_every_5 : List UInt8 := dkwX0_every_5 ++ dktX0_every_6
def dkwX0_every_4 : List UInt8 := [180, 1, 41, 182, 1, 45, 21, 5, 96, 16, 12, 164, 0, 6, 16, 253, 172, 42, 180, 0, 16, 180, 1, 22]
abbrev dktX0_every_4 : List UInt8 := dkwX0_every_4 ++ dktX0_every_5
def dkwX0_every_3 : List UInt8 := [133, 97, 21, 6, 182, 1, 37, 154, 0, 5, 2, 172, 132, 7, 1, 167, 255, 205, 42, 180, 0, 16]
abbrev dktX0_every_3 : List UInt8 := dkwX0_every_3 ++ dktX0_every_4
def dkwX0_every_2 : List UInt8 := [21, 4, 133, 105, 97, 55, 8, 22, 8, 20, 1, 53, 148, 157, 0, 21, 42, 27, 22, 8, 136, 22, 8, 29]
abbrev dktX0_every_2 : List UInt8 := dkwX0_every_2 ++ dktX0_every_3
def dkwX0_every_1 : List UInt8 := [28, 19, 1, 52, 164, 0, 5, 2, 172, 3, 54, 7, 21, 7, 21, 5, 162, 0, 50, 28, 133, 21, 7, 133]
abbrev dktX0_every_1 : List UInt8 := dkwX0_every_1 ++ dktX0_every_2
def dkwX0_every_0 : List UInt8 := [21, 5, 133, 10, 20, 1, 50, 184, 0, 25, 153, 0, 21, 29, 4, 161, 0, 16, 21, 4, 29, 161, 0, 10]
abbrev dktX0_every_0 : List UInt8 := dkwX0_every_0 ++ dktX0_every_1
theorem dksX0_every_0 : cX0_every.data.toList.drop 0 = dktX0_every_0 := by decide +kernel
theorem dksX0_every_1 : cX0_every.data.toList.drop 24 = dktX0_every_1 := dk_seg dksX0_every_0 24 rfl rfl
theorem dksX0_every_2 : cX0_every.data.toList.drop 48 = dktX0_every_2 := dk_seg dksX0_every_1 24 rfl rfl
theorem dksX0_every_3 : cX0_every.data.toList.drop 72 = dktX0_every_3 := dk_seg dksX0_every_2 24 rfl rfl
theorem dksX0_every_4 : cX0_every.data.toList.drop 94 = dktX0_every_4 := dk_seg dksX0_every_3 22 rfl rfl
theorem dksX0_every_5 : cX0_every.data.toList.drop 118 = dktX0_every_5 := dk_seg dksX0_every_4 24 rfl rfl
theorem dksX0_every_6 : cX0_every.data.toList.drop 141 = dktX0_every_6 := dk_seg dksX0_every_5 23 rfl rfl
theorem dksX0_every_7 : cX0_every.data.toList.drop 165 = dktX0_every_7 := dk_seg dksX0_every_6 24 rfl rfl
theorem dX0_every_0 : decode cX0_every 0 = .ok (.iload 5, 2) := dk_21 5 (dk_at dksX0_every_0 0 rfl rfl)
theorem dX0_every_2 : decode cX0_every 2 = .ok (.i2l, 1) := dk_133 (dk_at dksX0_every_0 2 rfl rfl)
theorem dX0_every_3 : decode cX0_every 3 = .ok (.lconst 1, 1) := dk_10 (dk_at dksX0_every_0 3 rfl rfl)
theorem dX0_every_4 : decode cX0_every 4 = .ok (.ldc2_w 306, 3) := dk_20 1 50 (dk_at dksX0_every_0 4 rfl rfl)
theorem dX0_every_7 : decode cX0_every 7 = .ok (.invokestatic 25, 3) := dk_184 0 25 (dk_at dksX0_every_0 7 rfl rfl)
theorem dX0_every_10 : decode cX0_every 10 = .ok (.ifCond .eq 21, 3) := dk_153 0 21 (dk_at dksX0_every_0 10 rfl rfl)
theorem dX0_every_13 : decode cX0_every 13 = .ok (.iload_n 3, 1) := dk_29 (dk_at dksX0_every_0 13 rfl rfl)
theorem dX0_every_14 : decode cX0_every 14 = .ok (.iconst 1, 1) := dk_4 (dk_at dksX0_every_0 14 rfl rfl)
theorem dX0_every_15 : decode cX0_every 15 = .ok (.if_icmp .lt 16, 3) := dk_161 0 16 (dk_at dksX0_every_0 15 rfl rfl)
theorem dX0_every_18 : decode cX0_every 18 = .ok (.iload 4, 2) := dk_21 4 (dk_at dksX0_every_0 18 rfl rfl)
theorem dX0_every_20 : decode cX0_every 20 = .ok (.iload_n 3, 1) := dk_29 (dk_at dksX0_every_0 20 rfl rfl)
theorem dX0_every_21 : decode cX0_every 21 = .ok (.if_icmp .lt 10, 3) := dk_161 0 10 (dk_at dksX0_every_0 21 rfl rfl)
theorem dX0_every_24 : decode cX0_every 24 = .ok (.iload_n 2, 1) := dk_28 (dk_at dksX0_every_1 0 rfl rfl)
theorem dX0_every_25 : decode cX0_every 25 = .ok (.ldc_w 308, 3) := dk_19 1 52 (dk_at dksX0_every_1 1 rfl rfl)
theorem dX0_every_28 : decode cX0_every 28 = .ok (.if_icmp .le 5, 3) := dk_164 0 5 (dk_at dksX0_every_1 4 rfl rfl)
theorem dX0_every_31 : decode cX0_every 31 = .ok (.iconst (-1), 1) := dk_2 (dk_at dksX0_every_1 7 rfl rfl)
theorem dX0_every_32 : decode cX0_every 32 = .ok (.ireturn, 1) := dk_172 (dk_at dksX0_every_1 8 rfl rfl)
theorem dX0_every_33 : decode cX0_every 33 = .ok (.iconst 0, 1) := dk_3 (dk_at dksX0_every_1 9 rfl rfl)
theorem dX0_every_34 : decode cX0_every 34 = .ok (.istore 7, 2) := dk_54 7 (dk_at dksX0_every_1 10 rfl rfl)
theorem dX0_every_36 : decode cX0_every 36 = .ok (.iload 7, 2) := dk_21 7 (dk_at dksX0_every_1 12 rfl rfl)
theorem dX0_every_38 : decode cX0_every 38 = .ok (.iload 5, 2) := dk_21 5 (dk_at dksX0_every_1 14 rfl rfl)
theorem dX0_every_40 : decode cX0_every 40 = .ok (.if_icmp .ge 50, 3) := dk_162 0 50 (dk_at dksX0_every_1 16 rfl rfl)
theorem dX0_every_43 : decode cX0_every 43 = .ok (.iload_n 2, 1) := dk_28 (dk_at dksX0_every_1 19 rfl rfl)
theorem dX0_every_44 : decode cX0_every 44 = .ok (.i2l, 1) := dk_133 (dk_at dksX0_every_1 20 rfl rfl)
theorem dX0_every_45 : decode cX0_every 45 = .ok (.iload 7, 2) := dk_21 7 (dk_at dksX0_every_1 21 rfl rfl)
theorem dX0_every_47 : decode cX0_every 47 = .ok (.i2l, 1) := dk_133 (dk_at dksX0_every_1 23 rfl rfl)
theorem dX0_every_48 : decode cX0_every 48 = .ok (.iload 4, 2) := dk_21 4 (dk_at dksX0_every_2 0 rfl rfl)
theorem dX0_every_50 : decode cX0_every 50 = .ok (.i2l, 1) := dk_133 (dk_at dksX0_every_2 2 rfl rfl)
theorem dX0_every_51 : decode cX0_every 51 = .ok (.lmul, 1) := dk_105 (dk_at dksX0_every_2 3 rfl rfl)
theorem dX0_every_52 : decode cX0_every 52 = .ok (.ladd, 1) := dk_97 (dk_at dksX0_every_2 4 rfl rfl)
theorem dX0_every_53 : decode cX0_every 53 = .ok (.lstore 8, 2) := dk_55 8 (dk_at dksX0_every_2 5 rfl rfl)
theorem dX0_every_55 : decode cX0_every 55 = .ok (.lload 8, 2) := dk_22 8 (dk_at dksX0_every_2 7 rfl rfl)
theorem dX0_every_57 : decode cX0_every 57 = .ok (.ldc2_w 309, 3) := dk_20 1 53 (dk_at dksX0_every_2 9 rfl rfl)
theorem dX0_every_60 : decode cX0_every 60 = .ok (.lcmp, 1) := dk_148 (dk_at dksX0_every_2 12 rfl rfl)
theorem dX0_every_61 : decode cX0_every 61 = .ok (.ifCond .gt 21, 3) := dk_157 0 21 (dk_at dksX0_every_2 13 rfl rfl)
theorem dX0_every_64 : decode cX0_every 64 = .ok (.aload_n 0, 1) := dk_42 (dk_at dksX0_every_2 16 rfl rfl)
theorem dX0_every_65 : decode cX0_every 65 = .ok (.iload_n 1, 1) := dk_27 (dk_at dksX0_every_2 17 rfl rfl)
theorem dX0_every_66 : decode cX0_every 66 = .ok (.lload 8, 2) := dk_22 8 (dk_at dksX0_every_2 18 rfl rfl)
theorem dX0_every_68 : decode cX0_every 68 = .ok (.l2i, 1) := dk_136 (dk_at dksX0_every_2 20 rfl rfl)
theorem dX0_every_69 : decode cX0_every 69 = .ok (.lload 8, 2) := dk_22 8 (dk_at dksX0_every_2 21 rfl rfl)
theorem dX0_every_71 : decode cX0_every 71 = .ok (.iload_n 3, 1) := dk_29 (dk_at dksX0_every_2 23 rfl rfl)
theorem dX0_every_72 : decode cX0_every 72 = .ok (.i2l, 1) := dk_133 (dk_at dksX0_every_3 0 rfl rfl)
theorem dX0_every_73 : decode cX0_every 73 = .ok (.ladd, 1) := dk_97 (dk_at dksX0_every_3 1 rfl rfl)
theorem dX0_every_74 : decode cX0_every 74 = .ok (.iload 6, 2) := dk_21 6 (dk_at dksX0_every_3 2 rfl rfl)
theorem dX0_every_76 : decode cX0_every 76 = .ok (.invokevirtual 293, 3) := dk_182 1 37 (dk_at dksX0_every_3 4 rfl rfl)
theorem dX0_every_79 : decode cX0_every 79 = .ok (.ifCond .ne 5, 3) := dk_154 0 5 (dk_at dksX0_every_3 7 rfl rfl)
theorem dX0_every_82 : decode cX0_every 82 = .ok (.iconst (-1), 1) := dk_2 (dk_at dksX0_every_3 10 rfl rfl)
theorem dX0_every_83 : decode cX0_every 83 = .ok (.ireturn, 1) := dk_172 (dk_at dksX0_every_3 11 rfl rfl)
theorem dX0_every_84 : decode cX0_every 84 = .ok (.iinc 7 1, 3) := dk_132 7 1 (dk_at dksX0_every_3 12 rfl rfl)
theorem dX0_every_87 : decode cX0_every 87 = .ok (.goto (-51), 3) := dk_167 255 205 (dk_at dksX0_every_3 15 rfl rfl)
theorem dX0_every_90 : decode cX0_every 90 = .ok (.aload_n 0, 1) := dk_42 (dk_at dksX0_every_3 18 rfl rfl)
theorem dX0_every_91 : decode cX0_every 91 = .ok (.getfield 16, 3) := dk_180 0 16 (dk_at dksX0_every_3 19 rfl rfl)
theorem dX0_every_94 : decode cX0_every 94 = .ok (.getfield 297, 3) := dk_180 1 41 (dk_at dksX0_every_4 0 rfl rfl)
theorem dX0_every_97 : decode cX0_every 97 = .ok (.invokevirtual 301, 3) := dk_182 1 45 (dk_at dksX0_every_4 3 rfl rfl)
theorem dX0_every_100 : decode cX0_every 100 = .ok (.iload 5, 2) := dk_21 5 (dk_at dksX0_every_4 6 rfl rfl)
theorem dX0_every_102 : decode cX0_every 102 = .ok (.iadd, 1) := dk_96 (dk_at dksX0_every_4 8 rfl rfl)
theorem dX0_every_103 : decode cX0_every 103 = .ok (.bipush 12, 2) := dk_16 12 (dk_at dksX0_every_4 9 rfl rfl)
theorem dX0_every_105 : decode cX0_every 105 = .ok (.if_icmp .le 6, 3) := dk_164 0 6 (dk_at dksX0_every_4 11 rfl rfl)
theorem dX0_every_108 : decode cX0_every 108 = .ok (.bipush (-3), 2) := dk_16 253 (dk_at dksX0_every_4 14 rfl rfl)
theorem dX0_every_110 : decode cX0_every 110 = .ok (.ireturn, 1) := dk_172 (dk_at dksX0_every_4 16 rfl rfl)
theorem dX0_every_111 : decode cX0_every 111 = .ok (.aload_n 0, 1) := dk_42 (dk_at dksX0_every_4 17 rfl rfl)
theorem dX0_every_112 : decode cX0_every 112 = .ok (.getfield 16, 3) := dk_180 0 16 (dk_at dksX0_every_4 18 rfl rfl)
theorem dX0_every_115 : decode cX0_every 115 = .ok (.getfield 278, 3) := dk_180 1 22 (dk_at dksX0_every_4 21 rfl rfl)
theorem dX0_every_118 : decode cX0_every 118 = .ok (.istore 7, 2) := dk_54 7 (dk_at dksX0_every_5 0 rfl rfl)
theorem dX0_every_120 : decode cX0_every 120 = .ok (.iconst 0, 1) := dk_3 (dk_at dksX0_every_5 2 rfl rfl)
theorem dX0_every_121 : decode cX0_every 121 = .ok (.istore 8, 2) := dk_54 8 (dk_at dksX0_every_5 3 rfl rfl)
theorem dX0_every_123 : decode cX0_every 123 = .ok (.iload 8, 2) := dk_21 8 (dk_at dksX0_every_5 5 rfl rfl)
theorem dX0_every_125 : decode cX0_every 125 = .ok (.iload 5, 2) := dk_21 5 (dk_at dksX0_every_5 7 rfl rfl)
theorem dX0_every_127 : decode cX0_every 127 = .ok (.if_icmp .ge 45, 3) := dk_162 0 45 (dk_at dksX0_every_5 9 rfl rfl)
theorem dX0_every_130 : decode cX0_every 130 = .ok (.iload_n 2, 1) := dk_28 (dk_at dksX0_every_5 12 rfl rfl)
theorem dX0_every_131 : decode cX0_every 131 = .ok (.iload 8, 2) := dk_21 8 (dk_at dksX0_every_5 13 rfl rfl)
theorem dX0_every_133 : decode cX0_every 133 = .ok (.iload 4, 2) := dk_21 4 (dk_at dksX0_every_5 15 rfl rfl)
theorem dX0_every_135 : decode cX0_every 135 = .ok (.imul, 1) := dk_104 (dk_at dksX0_every_5 17 rfl rfl)
theorem dX0_every_136 : decode cX0_every 136 = .ok (.iadd, 1) := dk_96 (dk_at dksX0_every_5 18 rfl rfl)
theorem dX0_every_137 : decode cX0_every 137 = .ok (.istore 9, 2) := dk_54 9 (dk_at dksX0_every_5 19 rfl rfl)
theorem dX0_every_139 : decode cX0_every 139 = .ok (.aload_n 0, 1) := dk_42 (dk_at dksX0_every_5 21 rfl rfl)
theorem dX0_every_140 : decode cX0_every 140 = .ok (.iload_n 1, 1) := dk_27 (dk_at dksX0_every_5 22 rfl rfl)
theorem dX0_every_141 : decode cX0_every 141 = .ok (.iload 9, 2) := dk_21 9 (dk_at dksX0_every_6 0 rfl rfl)
theorem dX0_every_143 : decode cX0_every 143 = .ok (.iload 9, 2) := dk_21 9 (dk_at dksX0_every_6 2 rfl rfl)
theorem dX0_every_145 : decode cX0_every 145 = .ok (.iload_n 3, 1) := dk_29 (dk_at dksX0_every_6 4 rfl rfl)
theorem dX0_every_146 : decode cX0_every 146 = .ok (.iadd, 1) := dk_96 (dk_at dksX0_every_6 5 rfl rfl)
theorem dX0_every_147 : decode cX0_every 147 = .ok (.iload 6, 2) := dk_21 6 (dk_at dksX0_every_6 6 rfl rfl)
theorem dX0_every_149 : decode cX0_every 149 = .ok (.invokevirtual 302, 3) := dk_182 1 46 (dk_at dksX0_every_6 8 rfl rfl)
theorem dX0_every_152 : decode cX0_every 152 = .ok (.bipush (-5), 2) := dk_16 251 (dk_at dksX0_every_6 11 rfl rfl)
theorem dX0_every_154 : decode cX0_every 154 = .ok (.if_icmp .ne 12, 3) := dk_160 0 12 (dk_at dksX0_every_6 13 rfl rfl)
theorem dX0_every_157 : decode cX0_every 157 = .ok (.aload_n 0, 1) := dk_42 (dk_at dksX0_every_6 16 rfl rfl)
theorem dX0_every_158 : decode cX0_every 158 = .ok (.iload 7, 2) := dk_21 7 (dk_at dksX0_every_6 17 rfl rfl)
theorem dX0_every_160 : decode cX0_every 160 = .ok (.invokevirtual 311, 3) := dk_182 1 55 (dk_at dksX0_every_6 19 rfl rfl)
theorem dX0_every_163 : decode cX0_every 163 = .ok (.bipush (-5), 2) := dk_16 251 (dk_at dksX0_every_6 22 rfl rfl)
theorem dX0_every_165 : decode cX0_every 165 = .ok (.ireturn, 1) := dk_172 (dk_at dksX0_every_7 0 rfl rfl)
theorem dX0_every_166 : decode cX0_every 166 = .ok (.iinc 8 1, 3) := dk_132 8 1 (dk_at dksX0_every_7 1 rfl rfl)
theorem dX0_every_169 : decode cX0_every 169 = .ok (.goto (-46), 3) := dk_167 255 210 (dk_at dksX0_every_7 4 rfl rfl)
theorem dX0_every_172 : decode cX0_every 172 = .ok (.iload 7, 2) := dk_21 7 (dk_at dksX0_every_7 7 rfl rfl)
theorem dX0_every_174 : decode cX0_every 174 = .ok (.ireturn, 1) := dk_172 (dk_at dksX0_every_7 9 rfl rfl)
abbrev cX0_free : ByteArray := prog_1_method_29_code
def dkwX0_free_2 : List UInt8 := [180, 0, 16, 180, 1, 41, 182, 1, 45, 172]
abbrev dktX0_free_2 : List UInt8 := dkwX0_free_2 ++ []
def dkwX0_free_1 : List UInt8 := [42, 180, 0, 16, 44, 182, 1, 66, 42, 180, 0, 16, 180, 1, 41, 27, 184, 1, 59, 182, 1, 69, 87, 42]
abbrev dktX0_free_1 : List UInt8 := dkwX0_free_1 ++ dktX0_free_2
def dkwX0_free_0 : List UInt8 := [42, 180, 0, 16, 180, 1, 41, 27, 184, 1, 59, 182, 1, 63, 192, 1, 20, 77, 44, 199, 0, 5, 2, 172]
abbrev dktX0_free_0 : List UInt8 := dkwX0_free_0 ++ dktX0_free_1
theorem dksX0_free_0 : cX0_free.data.toList.drop 0 = dktX0_free_0 := by decide +kernel
theorem dksX0_free_1 : cX0_free.data.toList.drop 24 = dktX0_free_1 := dk_seg dksX0_free_0 24 rfl rfl
theorem dksX0_free_2 : cX0_free.data.toList.drop 48 = dktX0_free_2 := dk_seg dksX0_free_1 24 rfl rfl
theorem dX0_free_0 : decode cX0_free 0 = .ok (.aload_n 0, 1) := dk_42 (dk_at dksX0_free_0 0 rfl rfl)
theorem dX0_free_1 : decode cX0_free 1 = .ok (.getfield 16, 3) := dk_180 0 16 (dk_at dksX0_free_0 1 rfl rfl)
theorem dX0_free_4 : decode cX0_free 4 = .ok (.getfield 297, 3) := dk_180 1 41 (dk_at dksX0_free_0 4 rfl rfl)
theorem dX0_free_7 : decode cX0_free 7 = .ok (.iload_n 1, 1) := dk_27 (dk_at dksX0_free_0 7 rfl rfl)
theorem dX0_free_8 : decode cX0_free 8 = .ok (.invokestatic 315, 3) := dk_184 1 59 (dk_at dksX0_free_0 8 rfl rfl)
theorem dX0_free_11 : decode cX0_free 11 = .ok (.invokevirtual 319, 3) := dk_182 1 63 (dk_at dksX0_free_0 11 rfl rfl)
theorem dX0_free_14 : decode cX0_free 14 = .ok (.checkcast 276, 3) := dk_192 1 20 (dk_at dksX0_free_0 14 rfl rfl)
theorem dX0_free_17 : decode cX0_free 17 = .ok (.astore_n 2, 1) := dk_77 (dk_at dksX0_free_0 17 rfl rfl)
theorem dX0_free_18 : decode cX0_free 18 = .ok (.aload_n 2, 1) := dk_44 (dk_at dksX0_free_0 18 rfl rfl)
theorem dX0_free_19 : decode cX0_free 19 = .ok (.ifnonnull 5, 3) := dk_199 0 5 (dk_at dksX0_free_0 19 rfl rfl)
theorem dX0_free_22 : decode cX0_free 22 = .ok (.iconst (-1), 1) := dk_2 (dk_at dksX0_free_0 22 rfl rfl)
theorem dX0_free_23 : decode cX0_free 23 = .ok (.ireturn, 1) := dk_172 (dk_at dksX0_free_0 23 rfl rfl)
theorem dX0_free_24 : decode cX0_free 24 = .ok (.aload_n 0, 1) := dk_42 (dk_at dksX0_free_1 0 rfl rfl)
theorem dX0_free_25 : decode cX0_free 25 = .ok (.getfield 16, 3) := dk_180 0 16 (dk_at dksX0_free_1 1 rfl rfl)
theorem dX0_free_28 : decode cX0_free 28 = .ok (.aload_n 2, 1) := dk_44 (dk_at dksX0_free_1 4 rfl rfl)
theorem dX0_free_29 : decode cX0_free 29 = .ok (.invokevirtual 322, 3) := dk_182 1 66 (dk_at dksX0_free_1 5 rfl rfl)
theorem dX0_free_32 : decode cX0_free 32 = .ok (.aload_n 0, 1) := dk_42 (dk_at dksX0_free_1 8 rfl rfl)
theorem dX0_free_33 : decode cX0_free 33 = .ok (.getfield 16, 3) := dk_180 0 16 (dk_at dksX0_free_1 9 rfl rfl)
theorem dX0_free_36 : decode cX0_free 36 = .ok (.getfield 297, 3) := dk_180 1 41 (dk_at dksX0_free_1 12 rfl rfl)
theorem dX0_free_39 : decode cX0_free 39 = .ok (.iload_n 1, 1) := dk_27 (dk_at dksX0_free_1 15 rfl rfl)
theorem dX0_free_40 : decode cX0_free 40 = .ok (.invokestatic 315, 3) := dk_184 1 59 (dk_at dksX0_free_1 16 rfl rfl)
theorem dX0_free_43 : decode cX0_free 43 = .ok (.invokevirtual 325, 3) := dk_182 1 69 (dk_at dksX0_free_1 19 rfl rfl)
theorem dX0_free_46 : decode cX0_free 46 = .ok (.pop, 1) := dk_87 (dk_at dksX0_free_1 22 rfl rfl)
theorem dX0_free_47 : decode cX0_free 47 = .ok (.aload_n 0, 1) := dk_42 (dk_at dksX0_free_1 23 rfl rfl)
theorem dX0_free_48 : decode cX0_free 48 = .ok (.getfield 16, 3) := dk_180 0 16 (dk_at dksX0_free_2 0 rfl rfl)
theorem dX0_free_51 : decode cX0_free 51 = .ok (.getfield 297, 3) := dk_180 1 41 (dk_at dksX0_free_2 3 rfl rfl)
theorem dX0_free_54 : decode cX0_free 54 = .ok (.invokevirtual 301, 3) := dk_182 1 45 (dk_at dksX0_free_2 6 rfl rfl)
theorem dX0_free_57 : decode cX0_free 57 = .ok (.ireturn, 1) := dk_172 (dk_at dksX0_free_2 9 rfl rfl)
abbrev cX0_step : ByteArray := prog_1_method_31_code
def dkwX0_step_2 : List UInt8 := [186, 1, 73, 0, 0, 182, 1, 77, 132, 2, 1, 167, 255, 236, 42, 180, 0, 16, 180, 0, 147, 172]
abbrev dktX0_step_2 : List UInt8 := dkwX0_step_2 ++ []
def dkwX0_step_1 : List UInt8 := [19, 1, 72, 164, 0, 6, 16, 253, 172, 3, 61, 28, 27, 162, 0, 21, 42, 180, 0, 16]
abbrev dktX0_step_1 : List UInt8 := dkwX0_step_1 ++ dktX0_step_2
def dkwX0_step_0 : List UInt8 := [27, 133, 10, 20, 0, 59, 184, 0, 25, 154, 0, 5, 2, 172, 42, 180, 0, 16, 180, 0, 147, 27, 96]
abbrev dktX0_step_0 : List UInt8 := dkwX0_step_0 ++ dktX0_step_1
theorem dksX0_step_0 : cX0_step.data.toList.drop 0 = dktX0_step_0 := by decide +kernel
theorem dksX0_step_1 : cX0_step.data.toList.drop 23 = dktX0_step_1 := dk_seg dksX0_step_0 23 rfl rfl
theorem dksX0_step_2 : cX0_step.data.toList.drop 43 = dktX0_step_2 := dk_seg dksX0_step_1 20 rfl rfl
theorem dX0_step_0 : decode cX0_step 0 = .ok (.iload_n 1, 1) := dk_27 (dk_at dksX0_step_0 0 rfl rfl)
theorem dX0_step_1 : decode cX0_step 1 = .ok (.i2l, 1) := dk_133 (dk_at dksX0_step_0 1 rfl rfl)
theorem dX0_step_2 : decode cX0_step 2 = .ok (.lconst 1, 1) := dk_10 (dk_at dksX0_step_0 2 rfl rfl)
theorem dX0_step_3 : decode cX0_step 3 = .ok (.ldc2_w 59, 3) := dk_20 0 59 (dk_at dksX0_step_0 3 rfl rfl)
theorem dX0_step_6 : decode cX0_step 6 = .ok (.invokestatic 25, 3) := dk_184 0 25 (dk_at dksX0_step_0 6 rfl rfl)
theorem dX0_step_9 : decode cX0_step 9 = .ok (.ifCond .ne 5, 3) := dk_154 0 5 (dk_at dksX0_step_0 9 rfl rfl)
theorem dX0_step_12 : decode cX0_step 12 = .ok (.iconst (-1), 1) := dk_2 (dk_at dksX0_step_0 12 rfl rfl)
theorem dX0_step_13 : decode cX0_step 13 = .ok (.ireturn, 1) := dk_172 (dk_at dksX0_step_0 13 rfl rfl)
theorem dX0_step_14 : decode cX0_step 14 = .ok (.aload_n 0, 1) := dk_42 (dk_at dksX0_step_0 14 rfl rfl)
theorem dX0_step_15 : decode cX0_step 15 = .ok (.getfield 16, 3) := dk_180 0 16 (dk_at dksX0_step_0 15 rfl rfl)
theorem dX0_step_18 : decode cX0_step 18 = .ok (.getfield 147, 3) := dk_180 0 147 (dk_at dksX0_step_0 18 rfl rfl)
theorem dX0_step_21 : decode cX0_step 21 = .ok (.iload_n 1, 1) := dk_27 (dk_at dksX0_step_0 21 rfl rfl)
theorem dX0_step_22 : decode cX0_step 22 = .ok (.iadd, 1) := dk_96 (dk_at dksX0_step_0 22 rfl rfl)
theorem dX0_step_23 : decode cX0_step 23 = .ok (.ldc_w 328, 3) := dk_19 1 72 (dk_at dksX0_step_1 0 rfl rfl)
theorem dX0_step_26 : decode cX0_step 26 = .ok (.if_icmp .le 6, 3) := dk_164 0 6 (dk_at dksX0_step_1 3 rfl rfl)
theorem dX0_step_29 : decode cX0_step 29 = .ok (.bipush (-3), 2) := dk_16 253 (dk_at dksX0_step_1 6 rfl rfl)
theorem dX0_step_31 : decode cX0_step 31 = .ok (.ireturn, 1) := dk_172 (dk_at dksX0_step_1 8 rfl rfl)
theorem dX0_step_32 : decode cX0_step 32 = .ok (.iconst 0, 1) := dk_3 (dk_at dksX0_step_1 9 rfl rfl)
theorem dX0_step_33 : decode cX0_step 33 = .ok (.istore_n 2, 1) := dk_61 (dk_at dksX0_step_1 10 rfl rfl)
theorem dX0_step_34 : decode cX0_step 34 = .ok (.iload_n 2, 1) := dk_28 (dk_at dksX0_step_1 11 rfl rfl)
theorem dX0_step_35 : decode cX0_step 35 = .ok (.iload_n 1, 1) := dk_27 (dk_at dksX0_step_1 12 rfl rfl)
theorem dX0_step_36 : decode cX0_step 36 = .ok (.if_icmp .ge 21, 3) := dk_162 0 21 (dk_at dksX0_step_1 13 rfl rfl)
theorem dX0_step_39 : decode cX0_step 39 = .ok (.aload_n 0, 1) := dk_42 (dk_at dksX0_step_1 16 rfl rfl)
theorem dX0_step_40 : decode cX0_step 40 = .ok (.getfield 16, 3) := dk_180 0 16 (dk_at dksX0_step_1 17 rfl rfl)
theorem dX0_step_43 : decode cX0_step 43 = .ok (.invokedynamic 329, 5) := by decide +kernel
theorem dX0_step_48 : decode cX0_step 48 = .ok (.invokevirtual 333, 3) := dk_182 1 77 (dk_at dksX0_step_2 5 rfl rfl)
theorem dX0_step_51 : decode cX0_step 51 = .ok (.iinc 2 1, 3) := dk_132 2 1 (dk_at dksX0_step_2 8 rfl rfl)
theorem dX0_step_54 : decode cX0_step 54 = .ok (.goto (-20), 3) := dk_167 255 236 (dk_at dksX0_step_2 11 rfl rfl)
theorem dX0_step_57 : decode cX0_step 57 = .ok (.aload_n 0, 1) := dk_42 (dk_at dksX0_step_2 14 rfl rfl)
theorem dX0_step_58 : decode cX0_step 58 = .ok (.getfield 16, 3) := dk_180 0 16 (dk_at dksX0_step_2 15 rfl rfl)
theorem dX0_step_61 : decode cX0_step 61 = .ok (.getfield 147, 3) := dk_180 0 147 (dk_at dksX0_step_2 18 rfl rfl)
theorem dX0_step_64 : decode cX0_step 64 = .ok (.ireturn, 1) := dk_172 (dk_at dksX0_step_2 21 rfl rfl)
abbrev cX0_pass : ByteArray := prog_1_method_32_code
def dkwX0_pass_0 : List UInt8 := [42, 180, 0, 16, 186, 1, 73, 0, 0, 182, 1, 81, 172]
abbrev dktX0_pass_0 : List UInt8 := dkwX0_pass_0 ++ []
theorem dksX0_pass_0 : cX0_pass.data.toList.drop 0 = dktX0_pass_0 := by decide +kernel
theorem dX0_pass_0 : decode cX0_pass 0 = .ok (.aload_n 0, 1) := dk_42 (dk_at dksX0_pass_0 0 rfl rfl)
theorem dX0_pass_1 : decode cX0_pass 1 = .ok (.getfield 16, 3) := dk_180 0 16 (dk_at dksX0_pass_0 1 rfl rfl)
theorem dX0_pass_4 : decode cX0_pass 4 = .ok (.invokedynamic 329, 5) := by decide +kernel
theorem dX0_pass_9 : decode cX0_pass 9 = .ok (.invokevirtual 337, 3) := dk_182 1 81 (dk_at dksX0_pass_0 9 rfl rfl)
theorem dX0_pass_12 : decode cX0_pass 12 = .ok (.ireturn, 1) := dk_172 (dk_at dksX0_pass_0 12 rfl rfl)
abbrev cX0_holder : ByteArray := prog_1_method_34_code
def dkwX0_holder_1 : List UInt8 := [182, 1, 101, 172]
abbrev dktX0_holder_1 : List UInt8 := dkwX0_holder_1 ++ []
def dkwX0_holder_0 : List UInt8 := [27, 184, 1, 17, 154, 0, 5, 2, 172, 42, 27, 42, 180, 0, 16, 180, 0, 147, 186, 1, 98, 0, 0]
abbrev dktX0_holder_0 : List UInt8 := dkwX0_holder_0 ++ dktX0_holder_1
theorem dksX0_holder_0 : cX0_holder.data.toList.drop 0 = dktX0_holder_0 := by decide +kernel
theorem dksX0_holder_1 : cX0_holder.data.toList.drop 23 = dktX0_holder_1 := dk_seg dksX0_holder_0 23 rfl rfl
theorem dX0_holder_0 : decode cX0_holder 0 = .ok (.iload_n 1, 1) := dk_27 (dk_at dksX0_holder_0 0 rfl rfl)
theorem dX0_holder_1 : decode cX0_holder 1 = .ok (.invokestatic 273, 3) := dk_184 1 17 (dk_at dksX0_holder_0 1 rfl rfl)
theorem dX0_holder_4 : decode cX0_holder 4 = .ok (.ifCond .ne 5, 3) := dk_154 0 5 (dk_at dksX0_holder_0 4 rfl rfl)
theorem dX0_holder_7 : decode cX0_holder 7 = .ok (.iconst (-1), 1) := dk_2 (dk_at dksX0_holder_0 7 rfl rfl)
theorem dX0_holder_8 : decode cX0_holder 8 = .ok (.ireturn, 1) := dk_172 (dk_at dksX0_holder_0 8 rfl rfl)
theorem dX0_holder_9 : decode cX0_holder 9 = .ok (.aload_n 0, 1) := dk_42 (dk_at dksX0_holder_0 9 rfl rfl)
theorem dX0_holder_10 : decode cX0_holder 10 = .ok (.iload_n 1, 1) := dk_27 (dk_at dksX0_holder_0 10 rfl rfl)
theorem dX0_holder_11 : decode cX0_holder 11 = .ok (.aload_n 0, 1) := dk_42 (dk_at dksX0_holder_0 11 rfl rfl)
theorem dX0_holder_12 : decode cX0_holder 12 = .ok (.getfield 16, 3) := dk_180 0 16 (dk_at dksX0_holder_0 12 rfl rfl)
theorem dX0_holder_15 : decode cX0_holder 15 = .ok (.getfield 147, 3) := dk_180 0 147 (dk_at dksX0_holder_0 15 rfl rfl)
theorem dX0_holder_18 : decode cX0_holder 18 = .ok (.invokedynamic 354, 5) := by decide +kernel
theorem dX0_holder_23 : decode cX0_holder 23 = .ok (.invokevirtual 357, 3) := dk_182 1 101 (dk_at dksX0_holder_1 0 rfl rfl)
theorem dX0_holder_26 : decode cX0_holder 26 = .ok (.ireturn, 1) := dk_172 (dk_at dksX0_holder_1 3 rfl rfl)
abbrev cX0_promised : ByteArray := prog_1_method_35_code
def dkwX0_promised_1 : List UInt8 := [186, 1, 105, 0, 0, 182, 1, 101, 172]
abbrev dktX0_promised_1 : List UInt8 := dkwX0_promised_1 ++ []
def dkwX0_promised_0 : List UInt8 := [27, 184, 1, 17, 153, 0, 14, 28, 42, 180, 0, 16, 180, 0, 147, 162, 0, 5, 2, 172, 42, 27, 28]
abbrev dktX0_promised_0 : List UInt8 := dkwX0_promised_0 ++ dktX0_promised_1
theorem dksX0_promised_0 : cX0_promised.data.toList.drop 0 = dktX0_promised_0 := by decide +kernel
theorem dksX0_promised_1 : cX0_promised.data.toList.drop 23 = dktX0_promised_1 := dk_seg dksX0_promised_0 23 rfl rfl
theorem dX0_promised_0 : decode cX0_promised 0 = .ok (.iload_n 1, 1) := dk_27 (dk_at dksX0_promised_0 0 rfl rfl)
theorem dX0_promised_1 : decode cX0_promised 1 = .ok (.invokestatic 273, 3) := dk_184 1 17 (dk_at dksX0_promised_0 1 rfl rfl)
theorem dX0_promised_4 : decode cX0_promised 4 = .ok (.ifCond .eq 14, 3) := dk_153 0 14 (dk_at dksX0_promised_0 4 rfl rfl)
theorem dX0_promised_7 : decode cX0_promised 7 = .ok (.iload_n 2, 1) := dk_28 (dk_at dksX0_promised_0 7 rfl rfl)
theorem dX0_promised_8 : decode cX0_promised 8 = .ok (.aload_n 0, 1) := dk_42 (dk_at dksX0_promised_0 8 rfl rfl)
theorem dX0_promised_9 : decode cX0_promised 9 = .ok (.getfield 16, 3) := dk_180 0 16 (dk_at dksX0_promised_0 9 rfl rfl)
theorem dX0_promised_12 : decode cX0_promised 12 = .ok (.getfield 147, 3) := dk_180 0 147 (dk_at dksX0_promised_0 12 rfl rfl)
theorem dX0_promised_15 : decode cX0_promised 15 = .ok (.if_icmp .ge 5, 3) := dk_162 0 5 (dk_at dksX0_promised_0 15 rfl rfl)
theorem dX0_promised_18 : decode cX0_promised 18 = .ok (.iconst (-1), 1) := dk_2 (dk_at dksX0_promised_0 18 rfl rfl)
theorem dX0_promised_19 : decode cX0_promised 19 = .ok (.ireturn, 1) := dk_172 (dk_at dksX0_promised_0 19 rfl rfl)
theorem dX0_promised_20 : decode cX0_promised 20 = .ok (.aload_n 0, 1) := dk_42 (dk_at dksX0_promised_0 20 rfl rfl)
theorem dX0_promised_21 : decode cX0_promised 21 = .ok (.iload_n 1, 1) := dk_27 (dk_at dksX0_promised_0 21 rfl rfl)
theorem dX0_promised_22 : decode cX0_promised 22 = .ok (.iload_n 2, 1) := dk_28 (dk_at dksX0_promised_0 22 rfl rfl)
theorem dX0_promised_23 : decode cX0_promised 23 = .ok (.invokedynamic 361, 5) := by decide +kernel
theorem dX0_promised_28 : decode cX0_promised 28 = .ok (.invokevirtual 357, 3) := dk_182 1 101 (dk_at dksX0_promised_1 5 rfl rfl)
theorem dX0_promised_31 : decode cX0_promised 31 = .ok (.ireturn, 1) := dk_172 (dk_at dksX0_promised_1 8 rfl rfl)
abbrev cX0_foretell : ByteArray := prog_1_method_36_code
def dkwX0_foretell_1 : List UInt8 := [187, 1, 106, 89, 42, 3, 189, 0, 53, 183, 1, 108, 78, 45, 27, 182, 1, 111, 45, 27, 182, 1, 114, 172]
abbrev dktX0_foretell_1 : List UInt8 := dkwX0_foretell_1 ++ []
def dkwX0_foretell_0 : List UInt8 := [42, 27, 182, 0, 132, 77, 44, 199, 0, 5, 2, 172, 44, 180, 0, 136, 153, 0, 6, 16, 251, 172]
abbrev dktX0_foretell_0 : List UInt8 := dkwX0_foretell_0 ++ dktX0_foretell_1
theorem dksX0_foretell_0 : cX0_foretell.data.toList.drop 0 = dktX0_foretell_0 := by decide +kernel
theorem dksX0_foretell_1 : cX0_foretell.data.toList.drop 22 = dktX0_foretell_1 := dk_seg dksX0_foretell_0 22 rfl rfl
theorem dX0_foretell_0 : decode cX0_foretell 0 = .ok (.aload_n 0, 1) := dk_42 (dk_at dksX0_foretell_0 0 rfl rfl)
theorem dX0_foretell_1 : decode cX0_foretell 1 = .ok (.iload_n 1, 1) := dk_27 (dk_at dksX0_foretell_0 1 rfl rfl)
theorem dX0_foretell_2 : decode cX0_foretell 2 = .ok (.invokevirtual 132, 3) := dk_182 0 132 (dk_at dksX0_foretell_0 2 rfl rfl)
theorem dX0_foretell_5 : decode cX0_foretell 5 = .ok (.astore_n 2, 1) := dk_77 (dk_at dksX0_foretell_0 5 rfl rfl)
theorem dX0_foretell_6 : decode cX0_foretell 6 = .ok (.aload_n 2, 1) := dk_44 (dk_at dksX0_foretell_0 6 rfl rfl)
theorem dX0_foretell_7 : decode cX0_foretell 7 = .ok (.ifnonnull 5, 3) := dk_199 0 5 (dk_at dksX0_foretell_0 7 rfl rfl)
theorem dX0_foretell_10 : decode cX0_foretell 10 = .ok (.iconst (-1), 1) := dk_2 (dk_at dksX0_foretell_0 10 rfl rfl)
theorem dX0_foretell_11 : decode cX0_foretell 11 = .ok (.ireturn, 1) := dk_172 (dk_at dksX0_foretell_0 11 rfl rfl)
theorem dX0_foretell_12 : decode cX0_foretell 12 = .ok (.aload_n 2, 1) := dk_44 (dk_at dksX0_foretell_0 12 rfl rfl)
theorem dX0_foretell_13 : decode cX0_foretell 13 = .ok (.getfield 136, 3) := dk_180 0 136 (dk_at dksX0_foretell_0 13 rfl rfl)
theorem dX0_foretell_16 : decode cX0_foretell 16 = .ok (.ifCond .eq 6, 3) := dk_153 0 6 (dk_at dksX0_foretell_0 16 rfl rfl)
theorem dX0_foretell_19 : decode cX0_foretell 19 = .ok (.bipush (-5), 2) := dk_16 251 (dk_at dksX0_foretell_0 19 rfl rfl)
theorem dX0_foretell_21 : decode cX0_foretell 21 = .ok (.ireturn, 1) := dk_172 (dk_at dksX0_foretell_0 21 rfl rfl)
theorem dX0_foretell_22 : decode cX0_foretell 22 = .ok (.new 362, 3) := dk_187 1 106 (dk_at dksX0_foretell_1 0 rfl rfl)
theorem dX0_foretell_25 : decode cX0_foretell 25 = .ok (.dup, 1) := dk_89 (dk_at dksX0_foretell_1 3 rfl rfl)
theorem dX0_foretell_26 : decode cX0_foretell 26 = .ok (.aload_n 0, 1) := dk_42 (dk_at dksX0_foretell_1 4 rfl rfl)
theorem dX0_foretell_27 : decode cX0_foretell 27 = .ok (.iconst 0, 1) := dk_3 (dk_at dksX0_foretell_1 5 rfl rfl)
theorem dX0_foretell_28 : decode cX0_foretell 28 = .ok (.anewarray 53, 3) := dk_189 0 53 (dk_at dksX0_foretell_1 6 rfl rfl)
theorem dX0_foretell_31 : decode cX0_foretell 31 = .ok (.invokespecial 364, 3) := dk_183 1 108 (dk_at dksX0_foretell_1 9 rfl rfl)
theorem dX0_foretell_34 : decode cX0_foretell 34 = .ok (.astore_n 3, 1) := dk_78 (dk_at dksX0_foretell_1 12 rfl rfl)
theorem dX0_foretell_35 : decode cX0_foretell 35 = .ok (.aload_n 3, 1) := dk_45 (dk_at dksX0_foretell_1 13 rfl rfl)
theorem dX0_foretell_36 : decode cX0_foretell 36 = .ok (.iload_n 1, 1) := dk_27 (dk_at dksX0_foretell_1 14 rfl rfl)
theorem dX0_foretell_37 : decode cX0_foretell 37 = .ok (.invokevirtual 367, 3) := dk_182 1 111 (dk_at dksX0_foretell_1 15 rfl rfl)
theorem dX0_foretell_40 : decode cX0_foretell 40 = .ok (.aload_n 3, 1) := dk_45 (dk_at dksX0_foretell_1 18 rfl rfl)
theorem dX0_foretell_41 : decode cX0_foretell 41 = .ok (.iload_n 1, 1) := dk_27 (dk_at dksX0_foretell_1 19 rfl rfl)
theorem dX0_foretell_42 : decode cX0_foretell 42 = .ok (.invokevirtual 370, 3) := dk_182 1 114 (dk_at dksX0_foretell_1 20 rfl rfl)
theorem dX0_foretell_45 : decode cX0_foretell 45 = .ok (.ireturn, 1) := dk_172 (dk_at dksX0_foretell_1 23 rfl rfl)
abbrev cX0_plan : ByteArray := prog_1_method_37_code
def dkwX0_plan_2 : List UInt8 := [184, 0, 245, 172]
abbrev dktX0_plan_2 : List UInt8 := dkwX0_plan_2 ++ []
def dkwX0_plan_1 : List UInt8 := [182, 1, 111, 27, 2, 160, 0, 13, 44, 180, 1, 117, 182, 0, 43, 167, 0, 11, 44, 180, 1, 117, 27]
abbrev dktX0_plan_1 : List UInt8 := dkwX0_plan_1 ++ dktX0_plan_2
def dkwX0_plan_0 : List UInt8 := [27, 2, 162, 0, 5, 2, 172, 187, 1, 106, 89, 42, 3, 189, 0, 53, 183, 1, 108, 77, 44, 2]
abbrev dktX0_plan_0 : List UInt8 := dkwX0_plan_0 ++ dktX0_plan_1
theorem dksX0_plan_0 : cX0_plan.data.toList.drop 0 = dktX0_plan_0 := by decide +kernel
theorem dksX0_plan_1 : cX0_plan.data.toList.drop 22 = dktX0_plan_1 := dk_seg dksX0_plan_0 22 rfl rfl
theorem dksX0_plan_2 : cX0_plan.data.toList.drop 45 = dktX0_plan_2 := dk_seg dksX0_plan_1 23 rfl rfl
theorem dX0_plan_0 : decode cX0_plan 0 = .ok (.iload_n 1, 1) := dk_27 (dk_at dksX0_plan_0 0 rfl rfl)
theorem dX0_plan_1 : decode cX0_plan 1 = .ok (.iconst (-1), 1) := dk_2 (dk_at dksX0_plan_0 1 rfl rfl)
theorem dX0_plan_2 : decode cX0_plan 2 = .ok (.if_icmp .ge 5, 3) := dk_162 0 5 (dk_at dksX0_plan_0 2 rfl rfl)
theorem dX0_plan_5 : decode cX0_plan 5 = .ok (.iconst (-1), 1) := dk_2 (dk_at dksX0_plan_0 5 rfl rfl)
theorem dX0_plan_6 : decode cX0_plan 6 = .ok (.ireturn, 1) := dk_172 (dk_at dksX0_plan_0 6 rfl rfl)
theorem dX0_plan_7 : decode cX0_plan 7 = .ok (.new 362, 3) := dk_187 1 106 (dk_at dksX0_plan_0 7 rfl rfl)
theorem dX0_plan_10 : decode cX0_plan 10 = .ok (.dup, 1) := dk_89 (dk_at dksX0_plan_0 10 rfl rfl)
theorem dX0_plan_11 : decode cX0_plan 11 = .ok (.aload_n 0, 1) := dk_42 (dk_at dksX0_plan_0 11 rfl rfl)
theorem dX0_plan_12 : decode cX0_plan 12 = .ok (.iconst 0, 1) := dk_3 (dk_at dksX0_plan_0 12 rfl rfl)
theorem dX0_plan_13 : decode cX0_plan 13 = .ok (.anewarray 53, 3) := dk_189 0 53 (dk_at dksX0_plan_0 13 rfl rfl)
theorem dX0_plan_16 : decode cX0_plan 16 = .ok (.invokespecial 364, 3) := dk_183 1 108 (dk_at dksX0_plan_0 16 rfl rfl)
theorem dX0_plan_19 : decode cX0_plan 19 = .ok (.astore_n 2, 1) := dk_77 (dk_at dksX0_plan_0 19 rfl rfl)
theorem dX0_plan_20 : decode cX0_plan 20 = .ok (.aload_n 2, 1) := dk_44 (dk_at dksX0_plan_0 20 rfl rfl)
theorem dX0_plan_21 : decode cX0_plan 21 = .ok (.iconst (-1), 1) := dk_2 (dk_at dksX0_plan_0 21 rfl rfl)
theorem dX0_plan_22 : decode cX0_plan 22 = .ok (.invokevirtual 367, 3) := dk_182 1 111 (dk_at dksX0_plan_1 0 rfl rfl)
theorem dX0_plan_25 : decode cX0_plan 25 = .ok (.iload_n 1, 1) := dk_27 (dk_at dksX0_plan_1 3 rfl rfl)
theorem dX0_plan_26 : decode cX0_plan 26 = .ok (.iconst (-1), 1) := dk_2 (dk_at dksX0_plan_1 4 rfl rfl)
theorem dX0_plan_27 : decode cX0_plan 27 = .ok (.if_icmp .ne 13, 3) := dk_160 0 13 (dk_at dksX0_plan_1 5 rfl rfl)
theorem dX0_plan_30 : decode cX0_plan 30 = .ok (.aload_n 2, 1) := dk_44 (dk_at dksX0_plan_1 8 rfl rfl)
theorem dX0_plan_31 : decode cX0_plan 31 = .ok (.getfield 373, 3) := dk_180 1 117 (dk_at dksX0_plan_1 9 rfl rfl)
theorem dX0_plan_34 : decode cX0_plan 34 = .ok (.invokevirtual 43, 3) := dk_182 0 43 (dk_at dksX0_plan_1 12 rfl rfl)
theorem dX0_plan_37 : decode cX0_plan 37 = .ok (.goto 11, 3) := dk_167 0 11 (dk_at dksX0_plan_1 15 rfl rfl)
theorem dX0_plan_40 : decode cX0_plan 40 = .ok (.aload_n 2, 1) := dk_44 (dk_at dksX0_plan_1 18 rfl rfl)
theorem dX0_plan_41 : decode cX0_plan 41 = .ok (.getfield 373, 3) := dk_180 1 117 (dk_at dksX0_plan_1 19 rfl rfl)
theorem dX0_plan_44 : decode cX0_plan 44 = .ok (.iload_n 1, 1) := dk_27 (dk_at dksX0_plan_1 22 rfl rfl)
theorem dX0_plan_45 : decode cX0_plan 45 = .ok (.invokestatic 245, 3) := dk_184 0 245 (dk_at dksX0_plan_2 0 rfl rfl)
theorem dX0_plan_48 : decode cX0_plan 48 = .ok (.ireturn, 1) := dk_172 (dk_at dksX0_plan_2 3 rfl rfl)
abbrev cX0_byRule : ByteArray := prog_1_method_41_code
def dkwX0_byRule_6 : List UInt8 := [182, 0, 43, 167, 0, 15, 29, 4, 160, 0, 8, 21, 5, 167, 0, 5, 21, 6, 172]
abbrev dktX0_byRule_6 : List UInt8 := dkwX0_byRule_6 ++ []
def dkwX0_byRule_5 : List UInt8 := [180, 0, 16, 180, 0, 147, 100, 184, 1, 125, 54, 6, 167, 255, 196, 29, 154, 0, 14, 25, 4, 180, 1, 117]
abbrev dktX0_byRule_5 : List UInt8 := dkwX0_byRule_5 ++ dktX0_byRule_6
def dkwX0_byRule_4 : List UInt8 := [25, 8, 180, 0, 190, 42, 180, 0, 16, 180, 0, 147, 100, 96, 54, 5, 21, 6, 25, 8, 180, 0, 190, 42]
abbrev dktX0_byRule_4 : List UInt8 := dkwX0_byRule_4 ++ dktX0_byRule_5
def dkwX0_byRule_3 : List UInt8 := [25, 7, 185, 0, 86, 1, 0, 153, 0, 56, 25, 7, 185, 0, 92, 1, 0, 192, 0, 53, 58, 8, 21, 5]
abbrev dktX0_byRule_3 : List UInt8 := dkwX0_byRule_3 ++ dktX0_byRule_4
def dkwX0_byRule_2 : List UInt8 := [87, 25, 4, 2, 182, 1, 111, 3, 54, 5, 16, 254, 54, 6, 25, 4, 180, 1, 117, 182, 1, 120, 58, 7]
abbrev dktX0_byRule_2 : List UInt8 := dkwX0_byRule_2 ++ dktX0_byRule_3
def dkwX0_byRule_1 : List UInt8 := [187, 1, 106, 89, 42, 3, 189, 0, 53, 183, 1, 108, 58, 4, 25, 4, 180, 1, 139, 27, 28, 184, 0, 118]
abbrev dktX0_byRule_1 : List UInt8 := dkwX0_byRule_1 ++ dktX0_byRule_2
def dkwX0_byRule_0 : List UInt8 := [27, 28, 184, 0, 114, 153, 0, 15, 29, 133, 9, 20, 1, 137, 184, 0, 25, 154, 0, 5, 2, 172]
abbrev dktX0_byRule_0 : List UInt8 := dkwX0_byRule_0 ++ dktX0_byRule_1
theorem dksX0_byRule_0 : cX0_byRule.data.toList.drop 0 = dktX0_byRule_0 := by decide +kernel
theorem dksX0_byRule_1 : cX0_byRule.data.toList.drop 22 = dktX0_byRule_1 := dk_seg dksX0_byRule_0 22 rfl rfl
theorem dksX0_byRule_2 : cX0_byRule.data.toList.drop 46 = dktX0_byRule_2 := dk_seg dksX0_byRule_1 24 rfl rfl
theorem dksX0_byRule_3 : cX0_byRule.data.toList.drop 70 = dktX0_byRule_3 := dk_seg dksX0_byRule_2 24 rfl rfl
theorem dksX0_byRule_4 : cX0_byRule.data.toList.drop 94 = dktX0_byRule_4 := dk_seg dksX0_byRule_3 24 rfl rfl
theorem dksX0_byRule_5 : cX0_byRule.data.toList.drop 118 = dktX0_byRule_5 := dk_seg dksX0_byRule_4 24 rfl rfl
theorem dksX0_byRule_6 : cX0_byRule.data.toList.drop 142 = dktX0_byRule_6 := dk_seg dksX0_byRule_5 24 rfl rfl
theorem dX0_byRule_0 : decode cX0_byRule 0 = .ok (.iload_n 1, 1) := dk_27 (dk_at dksX0_byRule_0 0 rfl rfl)
theorem dX0_byRule_1 : decode cX0_byRule 1 = .ok (.iload_n 2, 1) := dk_28 (dk_at dksX0_byRule_0 1 rfl rfl)
theorem dX0_byRule_2 : decode cX0_byRule 2 = .ok (.invokestatic 114, 3) := dk_184 0 114 (dk_at dksX0_byRule_0 2 rfl rfl)
theorem dX0_byRule_5 : decode cX0_byRule 5 = .ok (.ifCond .eq 15, 3) := dk_153 0 15 (dk_at dksX0_byRule_0 5 rfl rfl)
theorem dX0_byRule_8 : decode cX0_byRule 8 = .ok (.iload_n 3, 1) := dk_29 (dk_at dksX0_byRule_0 8 rfl rfl)
theorem dX0_byRule_9 : decode cX0_byRule 9 = .ok (.i2l, 1) := dk_133 (dk_at dksX0_byRule_0 9 rfl rfl)
theorem dX0_byRule_10 : decode cX0_byRule 10 = .ok (.lconst 0, 1) := dk_9 (dk_at dksX0_byRule_0 10 rfl rfl)
theorem dX0_byRule_11 : decode cX0_byRule 11 = .ok (.ldc2_w 393, 3) := dk_20 1 137 (dk_at dksX0_byRule_0 11 rfl rfl)
theorem dX0_byRule_14 : decode cX0_byRule 14 = .ok (.invokestatic 25, 3) := dk_184 0 25 (dk_at dksX0_byRule_0 14 rfl rfl)
theorem dX0_byRule_17 : decode cX0_byRule 17 = .ok (.ifCond .ne 5, 3) := dk_154 0 5 (dk_at dksX0_byRule_0 17 rfl rfl)
theorem dX0_byRule_20 : decode cX0_byRule 20 = .ok (.iconst (-1), 1) := dk_2 (dk_at dksX0_byRule_0 20 rfl rfl)
theorem dX0_byRule_21 : decode cX0_byRule 21 = .ok (.ireturn, 1) := dk_172 (dk_at dksX0_byRule_0 21 rfl rfl)
theorem dX0_byRule_22 : decode cX0_byRule 22 = .ok (.new 362, 3) := dk_187 1 106 (dk_at dksX0_byRule_1 0 rfl rfl)
theorem dX0_byRule_25 : decode cX0_byRule 25 = .ok (.dup, 1) := dk_89 (dk_at dksX0_byRule_1 3 rfl rfl)
theorem dX0_byRule_26 : decode cX0_byRule 26 = .ok (.aload_n 0, 1) := dk_42 (dk_at dksX0_byRule_1 4 rfl rfl)
theorem dX0_byRule_27 : decode cX0_byRule 27 = .ok (.iconst 0, 1) := dk_3 (dk_at dksX0_byRule_1 5 rfl rfl)
theorem dX0_byRule_28 : decode cX0_byRule 28 = .ok (.anewarray 53, 3) := dk_189 0 53 (dk_at dksX0_byRule_1 6 rfl rfl)
theorem dX0_byRule_31 : decode cX0_byRule 31 = .ok (.invokespecial 364, 3) := dk_183 1 108 (dk_at dksX0_byRule_1 9 rfl rfl)
theorem dX0_byRule_34 : decode cX0_byRule 34 = .ok (.astore 4, 2) := dk_58 4 (dk_at dksX0_byRule_1 12 rfl rfl)
theorem dX0_byRule_36 : decode cX0_byRule 36 = .ok (.aload 4, 2) := dk_25 4 (dk_at dksX0_byRule_1 14 rfl rfl)
theorem dX0_byRule_38 : decode cX0_byRule 38 = .ok (.getfield 395, 3) := dk_180 1 139 (dk_at dksX0_byRule_1 16 rfl rfl)
theorem dX0_byRule_41 : decode cX0_byRule 41 = .ok (.iload_n 1, 1) := dk_27 (dk_at dksX0_byRule_1 19 rfl rfl)
theorem dX0_byRule_42 : decode cX0_byRule 42 = .ok (.iload_n 2, 1) := dk_28 (dk_at dksX0_byRule_1 20 rfl rfl)
theorem dX0_byRule_43 : decode cX0_byRule 43 = .ok (.invokestatic 118, 3) := dk_184 0 118 (dk_at dksX0_byRule_1 21 rfl rfl)
theorem dX0_byRule_46 : decode cX0_byRule 46 = .ok (.pop, 1) := dk_87 (dk_at dksX0_byRule_2 0 rfl rfl)
theorem dX0_byRule_47 : decode cX0_byRule 47 = .ok (.aload 4, 2) := dk_25 4 (dk_at dksX0_byRule_2 1 rfl rfl)
theorem dX0_byRule_49 : decode cX0_byRule 49 = .ok (.iconst (-1), 1) := dk_2 (dk_at dksX0_byRule_2 3 rfl rfl)
theorem dX0_byRule_50 : decode cX0_byRule 50 = .ok (.invokevirtual 367, 3) := dk_182 1 111 (dk_at dksX0_byRule_2 4 rfl rfl)
theorem dX0_byRule_53 : decode cX0_byRule 53 = .ok (.iconst 0, 1) := dk_3 (dk_at dksX0_byRule_2 7 rfl rfl)
theorem dX0_byRule_54 : decode cX0_byRule 54 = .ok (.istore 5, 2) := dk_54 5 (dk_at dksX0_byRule_2 8 rfl rfl)
theorem dX0_byRule_56 : decode cX0_byRule 56 = .ok (.bipush (-2), 2) := dk_16 254 (dk_at dksX0_byRule_2 10 rfl rfl)
theorem dX0_byRule_58 : decode cX0_byRule 58 = .ok (.istore 6, 2) := dk_54 6 (dk_at dksX0_byRule_2 12 rfl rfl)
theorem dX0_byRule_60 : decode cX0_byRule 60 = .ok (.aload 4, 2) := dk_25 4 (dk_at dksX0_byRule_2 14 rfl rfl)
theorem dX0_byRule_62 : decode cX0_byRule 62 = .ok (.getfield 373, 3) := dk_180 1 117 (dk_at dksX0_byRule_2 16 rfl rfl)
theorem dX0_byRule_65 : decode cX0_byRule 65 = .ok (.invokevirtual 376, 3) := dk_182 1 120 (dk_at dksX0_byRule_2 19 rfl rfl)
theorem dX0_byRule_68 : decode cX0_byRule 68 = .ok (.astore 7, 2) := dk_58 7 (dk_at dksX0_byRule_2 22 rfl rfl)
theorem dX0_byRule_70 : decode cX0_byRule 70 = .ok (.aload 7, 2) := dk_25 7 (dk_at dksX0_byRule_3 0 rfl rfl)
theorem dX0_byRule_72 : decode cX0_byRule 72 = .ok (.invokeinterface 86 1, 5) := by decide +kernel
theorem dX0_byRule_77 : decode cX0_byRule 77 = .ok (.ifCond .eq 56, 3) := dk_153 0 56 (dk_at dksX0_byRule_3 7 rfl rfl)
theorem dX0_byRule_80 : decode cX0_byRule 80 = .ok (.aload 7, 2) := dk_25 7 (dk_at dksX0_byRule_3 10 rfl rfl)
theorem dX0_byRule_82 : decode cX0_byRule 82 = .ok (.invokeinterface 92 1, 5) := by decide +kernel
theorem dX0_byRule_87 : decode cX0_byRule 87 = .ok (.checkcast 53, 3) := dk_192 0 53 (dk_at dksX0_byRule_3 17 rfl rfl)
theorem dX0_byRule_90 : decode cX0_byRule 90 = .ok (.astore 8, 2) := dk_58 8 (dk_at dksX0_byRule_3 20 rfl rfl)
theorem dX0_byRule_92 : decode cX0_byRule 92 = .ok (.iload 5, 2) := dk_21 5 (dk_at dksX0_byRule_3 22 rfl rfl)
theorem dX0_byRule_94 : decode cX0_byRule 94 = .ok (.aload 8, 2) := dk_25 8 (dk_at dksX0_byRule_4 0 rfl rfl)
theorem dX0_byRule_96 : decode cX0_byRule 96 = .ok (.getfield 190, 3) := dk_180 0 190 (dk_at dksX0_byRule_4 2 rfl rfl)
theorem dX0_byRule_99 : decode cX0_byRule 99 = .ok (.aload_n 0, 1) := dk_42 (dk_at dksX0_byRule_4 5 rfl rfl)
theorem dX0_byRule_100 : decode cX0_byRule 100 = .ok (.getfield 16, 3) := dk_180 0 16 (dk_at dksX0_byRule_4 6 rfl rfl)
theorem dX0_byRule_103 : decode cX0_byRule 103 = .ok (.getfield 147, 3) := dk_180 0 147 (dk_at dksX0_byRule_4 9 rfl rfl)
theorem dX0_byRule_106 : decode cX0_byRule 106 = .ok (.isub, 1) := dk_100 (dk_at dksX0_byRule_4 12 rfl rfl)
theorem dX0_byRule_107 : decode cX0_byRule 107 = .ok (.iadd, 1) := dk_96 (dk_at dksX0_byRule_4 13 rfl rfl)
theorem dX0_byRule_108 : decode cX0_byRule 108 = .ok (.istore 5, 2) := dk_54 5 (dk_at dksX0_byRule_4 14 rfl rfl)
theorem dX0_byRule_110 : decode cX0_byRule 110 = .ok (.iload 6, 2) := dk_21 6 (dk_at dksX0_byRule_4 16 rfl rfl)
theorem dX0_byRule_112 : decode cX0_byRule 112 = .ok (.aload 8, 2) := dk_25 8 (dk_at dksX0_byRule_4 18 rfl rfl)
theorem dX0_byRule_114 : decode cX0_byRule 114 = .ok (.getfield 190, 3) := dk_180 0 190 (dk_at dksX0_byRule_4 20 rfl rfl)
theorem dX0_byRule_117 : decode cX0_byRule 117 = .ok (.aload_n 0, 1) := dk_42 (dk_at dksX0_byRule_4 23 rfl rfl)
theorem dX0_byRule_118 : decode cX0_byRule 118 = .ok (.getfield 16, 3) := dk_180 0 16 (dk_at dksX0_byRule_5 0 rfl rfl)
theorem dX0_byRule_121 : decode cX0_byRule 121 = .ok (.getfield 147, 3) := dk_180 0 147 (dk_at dksX0_byRule_5 3 rfl rfl)
theorem dX0_byRule_124 : decode cX0_byRule 124 = .ok (.isub, 1) := dk_100 (dk_at dksX0_byRule_5 6 rfl rfl)
theorem dX0_byRule_125 : decode cX0_byRule 125 = .ok (.invokestatic 381, 3) := dk_184 1 125 (dk_at dksX0_byRule_5 7 rfl rfl)
theorem dX0_byRule_128 : decode cX0_byRule 128 = .ok (.istore 6, 2) := dk_54 6 (dk_at dksX0_byRule_5 10 rfl rfl)
theorem dX0_byRule_130 : decode cX0_byRule 130 = .ok (.goto (-60), 3) := dk_167 255 196 (dk_at dksX0_byRule_5 12 rfl rfl)
theorem dX0_byRule_133 : decode cX0_byRule 133 = .ok (.iload_n 3, 1) := dk_29 (dk_at dksX0_byRule_5 15 rfl rfl)
theorem dX0_byRule_134 : decode cX0_byRule 134 = .ok (.ifCond .ne 14, 3) := dk_154 0 14 (dk_at dksX0_byRule_5 16 rfl rfl)
theorem dX0_byRule_137 : decode cX0_byRule 137 = .ok (.aload 4, 2) := dk_25 4 (dk_at dksX0_byRule_5 19 rfl rfl)
theorem dX0_byRule_139 : decode cX0_byRule 139 = .ok (.getfield 373, 3) := dk_180 1 117 (dk_at dksX0_byRule_5 21 rfl rfl)
theorem dX0_byRule_142 : decode cX0_byRule 142 = .ok (.invokevirtual 43, 3) := dk_182 0 43 (dk_at dksX0_byRule_6 0 rfl rfl)
theorem dX0_byRule_145 : decode cX0_byRule 145 = .ok (.goto 15, 3) := dk_167 0 15 (dk_at dksX0_byRule_6 3 rfl rfl)
theorem dX0_byRule_148 : decode cX0_byRule 148 = .ok (.iload_n 3, 1) := dk_29 (dk_at dksX0_byRule_6 6 rfl rfl)
theorem dX0_byRule_149 : decode cX0_byRule 149 = .ok (.iconst 1, 1) := dk_4 (dk_at dksX0_byRule_6 7 rfl rfl)
theorem dX0_byRule_150 : decode cX0_byRule 150 = .ok (.if_icmp .ne 8, 3) := dk_160 0 8 (dk_at dksX0_byRule_6 8 rfl rfl)
theorem dX0_byRule_153 : decode cX0_byRule 153 = .ok (.iload 5, 2) := dk_21 5 (dk_at dksX0_byRule_6 11 rfl rfl)
theorem dX0_byRule_155 : decode cX0_byRule 155 = .ok (.goto 5, 3) := dk_167 0 5 (dk_at dksX0_byRule_6 13 rfl rfl)
theorem dX0_byRule_158 : decode cX0_byRule 158 = .ok (.iload 6, 2) := dk_21 6 (dk_at dksX0_byRule_6 16 rfl rfl)
theorem dX0_byRule_160 : decode cX0_byRule 160 = .ok (.ireturn, 1) := dk_172 (dk_at dksX0_byRule_6 18 rfl rfl)
abbrev cX0_shrunk : ByteArray := prog_1_method_43_code
def dkwX0_shrunk_3 : List UInt8 := [45, 186, 1, 154, 0, 0, 182, 1, 157, 153, 0, 6, 21, 4, 172, 132, 4, 255, 167, 255, 211, 16, 254, 172]
abbrev dktX0_shrunk_3 : List UInt8 := dkwX0_shrunk_3 ++ []
def dkwX0_shrunk_2 : List UInt8 := [161, 0, 45, 44, 21, 4, 184, 1, 150, 58, 5, 42, 180, 0, 16, 25, 5, 42, 180, 0, 16, 180, 0, 147]
abbrev dktX0_shrunk_2 : List UInt8 := dkwX0_shrunk_2 ++ dktX0_shrunk_3
def dkwX0_shrunk_1 : List UInt8 := [187, 1, 145, 89, 42, 44, 42, 180, 0, 16, 180, 0, 147, 183, 1, 147, 78, 16, 100, 54, 4, 21, 4, 4]
abbrev dktX0_shrunk_1 : List UInt8 := dkwX0_shrunk_1 ++ dktX0_shrunk_2
def dkwX0_shrunk_0 : List UInt8 := [42, 27, 182, 0, 132, 77, 44, 199, 0, 5, 2, 172, 44, 180, 0, 136, 153, 0, 6, 16, 251, 172]
abbrev dktX0_shrunk_0 : List UInt8 := dkwX0_shrunk_0 ++ dktX0_shrunk_1
theorem dksX0_shrunk_0 : cX0_shrunk.data.toList.drop 0 = dktX0_shrunk_0 := by decide +kernel
theorem dksX0_shrunk_1 : cX0_shrunk.data.toList.drop 22 = dktX0_shrunk_1 := dk_seg dksX0_shrunk_0 22 rfl rfl
theorem dksX0_shrunk_2 : cX0_shrunk.data.toList.drop 46 = dktX0_shrunk_2 := dk_seg dksX0_shrunk_1 24 rfl rfl
theorem dksX0_shrunk_3 : cX0_shrunk.data.toList.drop 70 = dktX0_shrunk_3 := dk_seg dksX0_shrunk_2 24 rfl rfl
theorem dX0_shrunk_0 : decode cX0_shrunk 0 = .ok (.aload_n 0, 1) := dk_42 (dk_at dksX0_shrunk_0 0 rfl rfl)
theorem dX0_shrunk_1 : decode cX0_shrunk 1 = .ok (.iload_n 1, 1) := dk_27 (dk_at dksX0_shrunk_0 1 rfl rfl)
theorem dX0_shrunk_2 : decode cX0_shrunk 2 = .ok (.invokevirtual 132, 3) := dk_182 0 132 (dk_at dksX0_shrunk_0 2 rfl rfl)
theorem dX0_shrunk_5 : decode cX0_shrunk 5 = .ok (.astore_n 2, 1) := dk_77 (dk_at dksX0_shrunk_0 5 rfl rfl)
theorem dX0_shrunk_6 : decode cX0_shrunk 6 = .ok (.aload_n 2, 1) := dk_44 (dk_at dksX0_shrunk_0 6 rfl rfl)
theorem dX0_shrunk_7 : decode cX0_shrunk 7 = .ok (.ifnonnull 5, 3) := dk_199 0 5 (dk_at dksX0_shrunk_0 7 rfl rfl)
theorem dX0_shrunk_10 : decode cX0_shrunk 10 = .ok (.iconst (-1), 1) := dk_2 (dk_at dksX0_shrunk_0 10 rfl rfl)
theorem dX0_shrunk_11 : decode cX0_shrunk 11 = .ok (.ireturn, 1) := dk_172 (dk_at dksX0_shrunk_0 11 rfl rfl)
theorem dX0_shrunk_12 : decode cX0_shrunk 12 = .ok (.aload_n 2, 1) := dk_44 (dk_at dksX0_shrunk_0 12 rfl rfl)
theorem dX0_shrunk_13 : decode cX0_shrunk 13 = .ok (.getfield 136, 3) := dk_180 0 136 (dk_at dksX0_shrunk_0 13 rfl rfl)
theorem dX0_shrunk_16 : decode cX0_shrunk 16 = .ok (.ifCond .eq 6, 3) := dk_153 0 6 (dk_at dksX0_shrunk_0 16 rfl rfl)
theorem dX0_shrunk_19 : decode cX0_shrunk 19 = .ok (.bipush (-5), 2) := dk_16 251 (dk_at dksX0_shrunk_0 19 rfl rfl)
theorem dX0_shrunk_21 : decode cX0_shrunk 21 = .ok (.ireturn, 1) := dk_172 (dk_at dksX0_shrunk_0 21 rfl rfl)
theorem dX0_shrunk_22 : decode cX0_shrunk 22 = .ok (.new 401, 3) := dk_187 1 145 (dk_at dksX0_shrunk_1 0 rfl rfl)
theorem dX0_shrunk_25 : decode cX0_shrunk 25 = .ok (.dup, 1) := dk_89 (dk_at dksX0_shrunk_1 3 rfl rfl)
theorem dX0_shrunk_26 : decode cX0_shrunk 26 = .ok (.aload_n 0, 1) := dk_42 (dk_at dksX0_shrunk_1 4 rfl rfl)
theorem dX0_shrunk_27 : decode cX0_shrunk 27 = .ok (.aload_n 2, 1) := dk_44 (dk_at dksX0_shrunk_1 5 rfl rfl)
theorem dX0_shrunk_28 : decode cX0_shrunk 28 = .ok (.aload_n 0, 1) := dk_42 (dk_at dksX0_shrunk_1 6 rfl rfl)
theorem dX0_shrunk_29 : decode cX0_shrunk 29 = .ok (.getfield 16, 3) := dk_180 0 16 (dk_at dksX0_shrunk_1 7 rfl rfl)
theorem dX0_shrunk_32 : decode cX0_shrunk 32 = .ok (.getfield 147, 3) := dk_180 0 147 (dk_at dksX0_shrunk_1 10 rfl rfl)
theorem dX0_shrunk_35 : decode cX0_shrunk 35 = .ok (.invokespecial 403, 3) := dk_183 1 147 (dk_at dksX0_shrunk_1 13 rfl rfl)
theorem dX0_shrunk_38 : decode cX0_shrunk 38 = .ok (.astore_n 3, 1) := dk_78 (dk_at dksX0_shrunk_1 16 rfl rfl)
theorem dX0_shrunk_39 : decode cX0_shrunk 39 = .ok (.bipush 100, 2) := dk_16 100 (dk_at dksX0_shrunk_1 17 rfl rfl)
theorem dX0_shrunk_41 : decode cX0_shrunk 41 = .ok (.istore 4, 2) := dk_54 4 (dk_at dksX0_shrunk_1 19 rfl rfl)
theorem dX0_shrunk_43 : decode cX0_shrunk 43 = .ok (.iload 4, 2) := dk_21 4 (dk_at dksX0_shrunk_1 21 rfl rfl)
theorem dX0_shrunk_45 : decode cX0_shrunk 45 = .ok (.iconst 1, 1) := dk_4 (dk_at dksX0_shrunk_1 23 rfl rfl)
theorem dX0_shrunk_46 : decode cX0_shrunk 46 = .ok (.if_icmp .lt 45, 3) := dk_161 0 45 (dk_at dksX0_shrunk_2 0 rfl rfl)
theorem dX0_shrunk_49 : decode cX0_shrunk 49 = .ok (.aload_n 2, 1) := dk_44 (dk_at dksX0_shrunk_2 3 rfl rfl)
theorem dX0_shrunk_50 : decode cX0_shrunk 50 = .ok (.iload 4, 2) := dk_21 4 (dk_at dksX0_shrunk_2 4 rfl rfl)
theorem dX0_shrunk_52 : decode cX0_shrunk 52 = .ok (.invokestatic 406, 3) := dk_184 1 150 (dk_at dksX0_shrunk_2 6 rfl rfl)
theorem dX0_shrunk_55 : decode cX0_shrunk 55 = .ok (.astore 5, 2) := dk_58 5 (dk_at dksX0_shrunk_2 9 rfl rfl)
theorem dX0_shrunk_57 : decode cX0_shrunk 57 = .ok (.aload_n 0, 1) := dk_42 (dk_at dksX0_shrunk_2 11 rfl rfl)
theorem dX0_shrunk_58 : decode cX0_shrunk 58 = .ok (.getfield 16, 3) := dk_180 0 16 (dk_at dksX0_shrunk_2 12 rfl rfl)
theorem dX0_shrunk_61 : decode cX0_shrunk 61 = .ok (.aload 5, 2) := dk_25 5 (dk_at dksX0_shrunk_2 15 rfl rfl)
theorem dX0_shrunk_63 : decode cX0_shrunk 63 = .ok (.aload_n 0, 1) := dk_42 (dk_at dksX0_shrunk_2 17 rfl rfl)
theorem dX0_shrunk_64 : decode cX0_shrunk 64 = .ok (.getfield 16, 3) := dk_180 0 16 (dk_at dksX0_shrunk_2 18 rfl rfl)
theorem dX0_shrunk_67 : decode cX0_shrunk 67 = .ok (.getfield 147, 3) := dk_180 0 147 (dk_at dksX0_shrunk_2 21 rfl rfl)
theorem dX0_shrunk_70 : decode cX0_shrunk 70 = .ok (.aload_n 3, 1) := dk_45 (dk_at dksX0_shrunk_3 0 rfl rfl)
theorem dX0_shrunk_71 : decode cX0_shrunk 71 = .ok (.invokedynamic 410, 5) := by decide +kernel
theorem dX0_shrunk_76 : decode cX0_shrunk 76 = .ok (.invokevirtual 413, 3) := dk_182 1 157 (dk_at dksX0_shrunk_3 6 rfl rfl)
theorem dX0_shrunk_79 : decode cX0_shrunk 79 = .ok (.ifCond .eq 6, 3) := dk_153 0 6 (dk_at dksX0_shrunk_3 9 rfl rfl)
theorem dX0_shrunk_82 : decode cX0_shrunk 82 = .ok (.iload 4, 2) := dk_21 4 (dk_at dksX0_shrunk_3 12 rfl rfl)
theorem dX0_shrunk_84 : decode cX0_shrunk 84 = .ok (.ireturn, 1) := dk_172 (dk_at dksX0_shrunk_3 14 rfl rfl)
theorem dX0_shrunk_85 : decode cX0_shrunk 85 = .ok (.iinc 4 (-1), 3) := dk_132 4 255 (dk_at dksX0_shrunk_3 15 rfl rfl)
theorem dX0_shrunk_88 : decode cX0_shrunk 88 = .ok (.goto (-45), 3) := dk_167 255 211 (dk_at dksX0_shrunk_3 18 rfl rfl)
theorem dX0_shrunk_91 : decode cX0_shrunk 91 = .ok (.bipush (-2), 2) := dk_16 254 (dk_at dksX0_shrunk_3 21 rfl rfl)
theorem dX0_shrunk_93 : decode cX0_shrunk 93 = .ok (.ireturn, 1) := dk_172 (dk_at dksX0_shrunk_3 23 rfl rfl)
abbrev cX0_moves : ByteArray := prog_1_method_44_code
def dkwX0_moves_5 : List UInt8 := [16, 254, 172]
abbrev dktX0_moves_5 : List UInt8 := dkwX0_moves_5 ++ []
def dkwX0_moves_4 : List UInt8 := [162, 0, 24, 25, 4, 45, 3, 21, 5, 182, 1, 176, 153, 0, 6, 21, 5, 172, 132, 5, 1, 167, 255, 232]
abbrev dktX0_moves_4 : List UInt8 := dkwX0_moves_4 ++ dktX0_moves_5
def dkwX0_moves_3 : List UInt8 := [182, 0, 157, 87, 167, 255, 227, 187, 1, 171, 89, 42, 44, 183, 1, 173, 58, 4, 3, 54, 5, 21, 5, 6]
abbrev dktX0_moves_3 : List UInt8 := dkwX0_moves_3 ++ dktX0_moves_4
def dkwX0_moves_2 : List UInt8 := [185, 0, 86, 1, 0, 153, 0, 25, 25, 4, 185, 0, 92, 1, 0, 192, 1, 169, 58, 5, 45, 25, 5]
abbrev dktX0_moves_2 : List UInt8 := dkwX0_moves_2 ++ dktX0_moves_3
def dkwX0_moves_1 : List UInt8 := [187, 0, 44, 89, 183, 1, 161, 78, 42, 180, 0, 16, 180, 1, 162, 182, 1, 166, 58, 4, 25, 4]
abbrev dktX0_moves_1 : List UInt8 := dkwX0_moves_1 ++ dktX0_moves_2
def dkwX0_moves_0 : List UInt8 := [42, 27, 182, 0, 132, 77, 44, 199, 0, 5, 2, 172, 44, 180, 0, 136, 153, 0, 6, 16, 251, 172]
abbrev dktX0_moves_0 : List UInt8 := dkwX0_moves_0 ++ dktX0_moves_1
theorem dksX0_moves_0 : cX0_moves.data.toList.drop 0 = dktX0_moves_0 := by decide +kernel
theorem dksX0_moves_1 : cX0_moves.data.toList.drop 22 = dktX0_moves_1 := dk_seg dksX0_moves_0 22 rfl rfl
theorem dksX0_moves_2 : cX0_moves.data.toList.drop 44 = dktX0_moves_2 := dk_seg dksX0_moves_1 22 rfl rfl
theorem dksX0_moves_3 : cX0_moves.data.toList.drop 67 = dktX0_moves_3 := dk_seg dksX0_moves_2 23 rfl rfl
theorem dksX0_moves_4 : cX0_moves.data.toList.drop 91 = dktX0_moves_4 := dk_seg dksX0_moves_3 24 rfl rfl
theorem dksX0_moves_5 : cX0_moves.data.toList.drop 115 = dktX0_moves_5 := dk_seg dksX0_moves_4 24 rfl rfl
theorem dX0_moves_0 : decode cX0_moves 0 = .ok (.aload_n 0, 1) := dk_42 (dk_at dksX0_moves_0 0 rfl rfl)
theorem dX0_moves_1 : decode cX0_moves 1 = .ok (.iload_n 1, 1) := dk_27 (dk_at dksX0_moves_0 1 rfl rfl)
theorem dX0_moves_2 : decode cX0_moves 2 = .ok (.invokevirtual 132, 3) := dk_182 0 132 (dk_at dksX0_moves_0 2 rfl rfl)
theorem dX0_moves_5 : decode cX0_moves 5 = .ok (.astore_n 2, 1) := dk_77 (dk_at dksX0_moves_0 5 rfl rfl)
theorem dX0_moves_6 : decode cX0_moves 6 = .ok (.aload_n 2, 1) := dk_44 (dk_at dksX0_moves_0 6 rfl rfl)
theorem dX0_moves_7 : decode cX0_moves 7 = .ok (.ifnonnull 5, 3) := dk_199 0 5 (dk_at dksX0_moves_0 7 rfl rfl)
theorem dX0_moves_10 : decode cX0_moves 10 = .ok (.iconst (-1), 1) := dk_2 (dk_at dksX0_moves_0 10 rfl rfl)
theorem dX0_moves_11 : decode cX0_moves 11 = .ok (.ireturn, 1) := dk_172 (dk_at dksX0_moves_0 11 rfl rfl)
theorem dX0_moves_12 : decode cX0_moves 12 = .ok (.aload_n 2, 1) := dk_44 (dk_at dksX0_moves_0 12 rfl rfl)
theorem dX0_moves_13 : decode cX0_moves 13 = .ok (.getfield 136, 3) := dk_180 0 136 (dk_at dksX0_moves_0 13 rfl rfl)
theorem dX0_moves_16 : decode cX0_moves 16 = .ok (.ifCond .eq 6, 3) := dk_153 0 6 (dk_at dksX0_moves_0 16 rfl rfl)
theorem dX0_moves_19 : decode cX0_moves 19 = .ok (.bipush (-5), 2) := dk_16 251 (dk_at dksX0_moves_0 19 rfl rfl)
theorem dX0_moves_21 : decode cX0_moves 21 = .ok (.ireturn, 1) := dk_172 (dk_at dksX0_moves_0 21 rfl rfl)
theorem dX0_moves_22 : decode cX0_moves 22 = .ok (.new 44, 3) := dk_187 0 44 (dk_at dksX0_moves_1 0 rfl rfl)
theorem dX0_moves_25 : decode cX0_moves 25 = .ok (.dup, 1) := dk_89 (dk_at dksX0_moves_1 3 rfl rfl)
theorem dX0_moves_26 : decode cX0_moves 26 = .ok (.invokespecial 417, 3) := dk_183 1 161 (dk_at dksX0_moves_1 4 rfl rfl)
theorem dX0_moves_29 : decode cX0_moves 29 = .ok (.astore_n 3, 1) := dk_78 (dk_at dksX0_moves_1 7 rfl rfl)
theorem dX0_moves_30 : decode cX0_moves 30 = .ok (.aload_n 0, 1) := dk_42 (dk_at dksX0_moves_1 8 rfl rfl)
theorem dX0_moves_31 : decode cX0_moves 31 = .ok (.getfield 16, 3) := dk_180 0 16 (dk_at dksX0_moves_1 9 rfl rfl)
theorem dX0_moves_34 : decode cX0_moves 34 = .ok (.getfield 418, 3) := dk_180 1 162 (dk_at dksX0_moves_1 12 rfl rfl)
theorem dX0_moves_37 : decode cX0_moves 37 = .ok (.invokevirtual 422, 3) := dk_182 1 166 (dk_at dksX0_moves_1 15 rfl rfl)
theorem dX0_moves_40 : decode cX0_moves 40 = .ok (.astore 4, 2) := dk_58 4 (dk_at dksX0_moves_1 18 rfl rfl)
theorem dX0_moves_42 : decode cX0_moves 42 = .ok (.aload 4, 2) := dk_25 4 (dk_at dksX0_moves_1 20 rfl rfl)
theorem dX0_moves_44 : decode cX0_moves 44 = .ok (.invokeinterface 86 1, 5) := by decide +kernel
theorem dX0_moves_49 : decode cX0_moves 49 = .ok (.ifCond .eq 25, 3) := dk_153 0 25 (dk_at dksX0_moves_2 5 rfl rfl)
theorem dX0_moves_52 : decode cX0_moves 52 = .ok (.aload 4, 2) := dk_25 4 (dk_at dksX0_moves_2 8 rfl rfl)
theorem dX0_moves_54 : decode cX0_moves 54 = .ok (.invokeinterface 92 1, 5) := by decide +kernel
theorem dX0_moves_59 : decode cX0_moves 59 = .ok (.checkcast 425, 3) := dk_192 1 169 (dk_at dksX0_moves_2 15 rfl rfl)
theorem dX0_moves_62 : decode cX0_moves 62 = .ok (.astore 5, 2) := dk_58 5 (dk_at dksX0_moves_2 18 rfl rfl)
theorem dX0_moves_64 : decode cX0_moves 64 = .ok (.aload_n 3, 1) := dk_45 (dk_at dksX0_moves_2 20 rfl rfl)
theorem dX0_moves_65 : decode cX0_moves 65 = .ok (.aload 5, 2) := dk_25 5 (dk_at dksX0_moves_2 21 rfl rfl)
theorem dX0_moves_67 : decode cX0_moves 67 = .ok (.invokevirtual 157, 3) := dk_182 0 157 (dk_at dksX0_moves_3 0 rfl rfl)
theorem dX0_moves_70 : decode cX0_moves 70 = .ok (.pop, 1) := dk_87 (dk_at dksX0_moves_3 3 rfl rfl)
theorem dX0_moves_71 : decode cX0_moves 71 = .ok (.goto (-29), 3) := dk_167 255 227 (dk_at dksX0_moves_3 4 rfl rfl)
theorem dX0_moves_74 : decode cX0_moves 74 = .ok (.new 427, 3) := dk_187 1 171 (dk_at dksX0_moves_3 7 rfl rfl)
theorem dX0_moves_77 : decode cX0_moves 77 = .ok (.dup, 1) := dk_89 (dk_at dksX0_moves_3 10 rfl rfl)
theorem dX0_moves_78 : decode cX0_moves 78 = .ok (.aload_n 0, 1) := dk_42 (dk_at dksX0_moves_3 11 rfl rfl)
theorem dX0_moves_79 : decode cX0_moves 79 = .ok (.aload_n 2, 1) := dk_44 (dk_at dksX0_moves_3 12 rfl rfl)
theorem dX0_moves_80 : decode cX0_moves 80 = .ok (.invokespecial 429, 3) := dk_183 1 173 (dk_at dksX0_moves_3 13 rfl rfl)
theorem dX0_moves_83 : decode cX0_moves 83 = .ok (.astore 4, 2) := dk_58 4 (dk_at dksX0_moves_3 16 rfl rfl)
theorem dX0_moves_85 : decode cX0_moves 85 = .ok (.iconst 0, 1) := dk_3 (dk_at dksX0_moves_3 18 rfl rfl)
theorem dX0_moves_86 : decode cX0_moves 86 = .ok (.istore 5, 2) := dk_54 5 (dk_at dksX0_moves_3 19 rfl rfl)
theorem dX0_moves_88 : decode cX0_moves 88 = .ok (.iload 5, 2) := dk_21 5 (dk_at dksX0_moves_3 21 rfl rfl)
theorem dX0_moves_90 : decode cX0_moves 90 = .ok (.iconst 3, 1) := dk_6 (dk_at dksX0_moves_3 23 rfl rfl)
theorem dX0_moves_91 : decode cX0_moves 91 = .ok (.if_icmp .ge 24, 3) := dk_162 0 24 (dk_at dksX0_moves_4 0 rfl rfl)
theorem dX0_moves_94 : decode cX0_moves 94 = .ok (.aload 4, 2) := dk_25 4 (dk_at dksX0_moves_4 3 rfl rfl)
theorem dX0_moves_96 : decode cX0_moves 96 = .ok (.aload_n 3, 1) := dk_45 (dk_at dksX0_moves_4 5 rfl rfl)
theorem dX0_moves_97 : decode cX0_moves 97 = .ok (.iconst 0, 1) := dk_3 (dk_at dksX0_moves_4 6 rfl rfl)
theorem dX0_moves_98 : decode cX0_moves 98 = .ok (.iload 5, 2) := dk_21 5 (dk_at dksX0_moves_4 7 rfl rfl)
theorem dX0_moves_100 : decode cX0_moves 100 = .ok (.invokevirtual 432, 3) := dk_182 1 176 (dk_at dksX0_moves_4 9 rfl rfl)
theorem dX0_moves_103 : decode cX0_moves 103 = .ok (.ifCond .eq 6, 3) := dk_153 0 6 (dk_at dksX0_moves_4 12 rfl rfl)
theorem dX0_moves_106 : decode cX0_moves 106 = .ok (.iload 5, 2) := dk_21 5 (dk_at dksX0_moves_4 15 rfl rfl)
theorem dX0_moves_108 : decode cX0_moves 108 = .ok (.ireturn, 1) := dk_172 (dk_at dksX0_moves_4 17 rfl rfl)
theorem dX0_moves_109 : decode cX0_moves 109 = .ok (.iinc 5 1, 3) := dk_132 5 1 (dk_at dksX0_moves_4 18 rfl rfl)
theorem dX0_moves_112 : decode cX0_moves 112 = .ok (.goto (-24), 3) := dk_167 255 232 (dk_at dksX0_moves_4 21 rfl rfl)
theorem dX0_moves_115 : decode cX0_moves 115 = .ok (.bipush (-2), 2) := dk_16 254 (dk_at dksX0_moves_5 0 rfl rfl)
theorem dX0_moves_117 : decode cX0_moves 117 = .ok (.ireturn, 1) := dk_172 (dk_at dksX0_moves_5 2 rfl rfl)
abbrev cX0_together : ByteArray := prog_1_method_46_code
def dkwX0_together_3 : List UInt8 := [5, 167, 0, 4, 3, 128, 172]
abbrev dktX0_together_3 : List UInt8 := dkwX0_together_3 ++ []
def dkwX0_together_2 : List UInt8 := [45, 25, 4, 182, 1, 187, 153, 0, 7, 4, 167, 0, 4, 3, 42, 25, 4, 45, 182, 1, 187, 153, 0, 7]
abbrev dktX0_together_2 : List UInt8 := dkwX0_together_2 ++ dktX0_together_3
def dkwX0_together_1 : List UInt8 := [160, 0, 5, 2, 172, 45, 180, 0, 136, 154, 0, 11, 25, 4, 180, 0, 136, 153, 0, 6, 16, 251, 172, 42]
abbrev dktX0_together_1 : List UInt8 := dkwX0_together_1 ++ dktX0_together_2
def dkwX0_together_0 : List UInt8 := [42, 27, 182, 0, 132, 78, 42, 28, 182, 0, 132, 58, 4, 45, 198, 0, 13, 25, 4, 198, 0, 8, 27, 28]
abbrev dktX0_together_0 : List UInt8 := dkwX0_together_0 ++ dktX0_together_1
theorem dksX0_together_0 : cX0_together.data.toList.drop 0 = dktX0_together_0 := by decide +kernel
theorem dksX0_together_1 : cX0_together.data.toList.drop 24 = dktX0_together_1 := dk_seg dksX0_together_0 24 rfl rfl
theorem dksX0_together_2 : cX0_together.data.toList.drop 48 = dktX0_together_2 := dk_seg dksX0_together_1 24 rfl rfl
theorem dksX0_together_3 : cX0_together.data.toList.drop 72 = dktX0_together_3 := dk_seg dksX0_together_2 24 rfl rfl
theorem dX0_together_0 : decode cX0_together 0 = .ok (.aload_n 0, 1) := dk_42 (dk_at dksX0_together_0 0 rfl rfl)
theorem dX0_together_1 : decode cX0_together 1 = .ok (.iload_n 1, 1) := dk_27 (dk_at dksX0_together_0 1 rfl rfl)
theorem dX0_together_2 : decode cX0_together 2 = .ok (.invokevirtual 132, 3) := dk_182 0 132 (dk_at dksX0_together_0 2 rfl rfl)
theorem dX0_together_5 : decode cX0_together 5 = .ok (.astore_n 3, 1) := dk_78 (dk_at dksX0_together_0 5 rfl rfl)
theorem dX0_together_6 : decode cX0_together 6 = .ok (.aload_n 0, 1) := dk_42 (dk_at dksX0_together_0 6 rfl rfl)
theorem dX0_together_7 : decode cX0_together 7 = .ok (.iload_n 2, 1) := dk_28 (dk_at dksX0_together_0 7 rfl rfl)
theorem dX0_together_8 : decode cX0_together 8 = .ok (.invokevirtual 132, 3) := dk_182 0 132 (dk_at dksX0_together_0 8 rfl rfl)
theorem dX0_together_11 : decode cX0_together 11 = .ok (.astore 4, 2) := dk_58 4 (dk_at dksX0_together_0 11 rfl rfl)
theorem dX0_together_13 : decode cX0_together 13 = .ok (.aload_n 3, 1) := dk_45 (dk_at dksX0_together_0 13 rfl rfl)
theorem dX0_together_14 : decode cX0_together 14 = .ok (.ifnull 13, 3) := dk_198 0 13 (dk_at dksX0_together_0 14 rfl rfl)
theorem dX0_together_17 : decode cX0_together 17 = .ok (.aload 4, 2) := dk_25 4 (dk_at dksX0_together_0 17 rfl rfl)
theorem dX0_together_19 : decode cX0_together 19 = .ok (.ifnull 8, 3) := dk_198 0 8 (dk_at dksX0_together_0 19 rfl rfl)
theorem dX0_together_22 : decode cX0_together 22 = .ok (.iload_n 1, 1) := dk_27 (dk_at dksX0_together_0 22 rfl rfl)
theorem dX0_together_23 : decode cX0_together 23 = .ok (.iload_n 2, 1) := dk_28 (dk_at dksX0_together_0 23 rfl rfl)
theorem dX0_together_24 : decode cX0_together 24 = .ok (.if_icmp .ne 5, 3) := dk_160 0 5 (dk_at dksX0_together_1 0 rfl rfl)
theorem dX0_together_27 : decode cX0_together 27 = .ok (.iconst (-1), 1) := dk_2 (dk_at dksX0_together_1 3 rfl rfl)
theorem dX0_together_28 : decode cX0_together 28 = .ok (.ireturn, 1) := dk_172 (dk_at dksX0_together_1 4 rfl rfl)
theorem dX0_together_29 : decode cX0_together 29 = .ok (.aload_n 3, 1) := dk_45 (dk_at dksX0_together_1 5 rfl rfl)
theorem dX0_together_30 : decode cX0_together 30 = .ok (.getfield 136, 3) := dk_180 0 136 (dk_at dksX0_together_1 6 rfl rfl)
theorem dX0_together_33 : decode cX0_together 33 = .ok (.ifCond .ne 11, 3) := dk_154 0 11 (dk_at dksX0_together_1 9 rfl rfl)
theorem dX0_together_36 : decode cX0_together 36 = .ok (.aload 4, 2) := dk_25 4 (dk_at dksX0_together_1 12 rfl rfl)
theorem dX0_together_38 : decode cX0_together 38 = .ok (.getfield 136, 3) := dk_180 0 136 (dk_at dksX0_together_1 14 rfl rfl)
theorem dX0_together_41 : decode cX0_together 41 = .ok (.ifCond .eq 6, 3) := dk_153 0 6 (dk_at dksX0_together_1 17 rfl rfl)
theorem dX0_together_44 : decode cX0_together 44 = .ok (.bipush (-5), 2) := dk_16 251 (dk_at dksX0_together_1 20 rfl rfl)
theorem dX0_together_46 : decode cX0_together 46 = .ok (.ireturn, 1) := dk_172 (dk_at dksX0_together_1 22 rfl rfl)
theorem dX0_together_47 : decode cX0_together 47 = .ok (.aload_n 0, 1) := dk_42 (dk_at dksX0_together_1 23 rfl rfl)
theorem dX0_together_48 : decode cX0_together 48 = .ok (.aload_n 3, 1) := dk_45 (dk_at dksX0_together_2 0 rfl rfl)
theorem dX0_together_49 : decode cX0_together 49 = .ok (.aload 4, 2) := dk_25 4 (dk_at dksX0_together_2 1 rfl rfl)
theorem dX0_together_51 : decode cX0_together 51 = .ok (.invokevirtual 443, 3) := dk_182 1 187 (dk_at dksX0_together_2 3 rfl rfl)
theorem dX0_together_54 : decode cX0_together 54 = .ok (.ifCond .eq 7, 3) := dk_153 0 7 (dk_at dksX0_together_2 6 rfl rfl)
theorem dX0_together_57 : decode cX0_together 57 = .ok (.iconst 1, 1) := dk_4 (dk_at dksX0_together_2 9 rfl rfl)
theorem dX0_together_58 : decode cX0_together 58 = .ok (.goto 4, 3) := dk_167 0 4 (dk_at dksX0_together_2 10 rfl rfl)
theorem dX0_together_61 : decode cX0_together 61 = .ok (.iconst 0, 1) := dk_3 (dk_at dksX0_together_2 13 rfl rfl)
theorem dX0_together_62 : decode cX0_together 62 = .ok (.aload_n 0, 1) := dk_42 (dk_at dksX0_together_2 14 rfl rfl)
theorem dX0_together_63 : decode cX0_together 63 = .ok (.aload 4, 2) := dk_25 4 (dk_at dksX0_together_2 15 rfl rfl)
theorem dX0_together_65 : decode cX0_together 65 = .ok (.aload_n 3, 1) := dk_45 (dk_at dksX0_together_2 17 rfl rfl)
theorem dX0_together_66 : decode cX0_together 66 = .ok (.invokevirtual 443, 3) := dk_182 1 187 (dk_at dksX0_together_2 18 rfl rfl)
theorem dX0_together_69 : decode cX0_together 69 = .ok (.ifCond .eq 7, 3) := dk_153 0 7 (dk_at dksX0_together_2 21 rfl rfl)
theorem dX0_together_72 : decode cX0_together 72 = .ok (.iconst 2, 1) := dk_5 (dk_at dksX0_together_3 0 rfl rfl)
theorem dX0_together_73 : decode cX0_together 73 = .ok (.goto 4, 3) := dk_167 0 4 (dk_at dksX0_together_3 1 rfl rfl)
theorem dX0_together_76 : decode cX0_together 76 = .ok (.iconst 0, 1) := dk_3 (dk_at dksX0_together_3 4 rfl rfl)
theorem dX0_together_77 : decode cX0_together 77 = .ok (.ior, 1) := dk_128 (dk_at dksX0_together_3 5 rfl rfl)
theorem dX0_together_78 : decode cX0_together 78 = .ok (.ireturn, 1) := dk_172 (dk_at dksX0_together_3 6 rfl rfl)
abbrev cX0_gap : ByteArray := prog_1_method_47_code
def dkwX0_gap_6 : List UInt8 := [167, 0, 5, 21, 4, 172]
abbrev dktX0_gap_6 : List UInt8 := dkwX0_gap_6 ++ []
def dkwX0_gap_5 : List UInt8 := [180, 1, 197, 184, 1, 125, 54, 4, 167, 255, 185, 21, 5, 28, 161, 0, 8, 29, 4, 160, 0, 8, 16, 254]
abbrev dktX0_gap_5 : List UInt8 := dkwX0_gap_5 ++ dktX0_gap_6
def dkwX0_gap_4 : List UInt8 := [154, 0, 8, 21, 4, 167, 0, 11, 25, 7, 180, 1, 194, 21, 4, 100, 172, 132, 5, 1, 21, 4, 25, 7]
abbrev dktX0_gap_4 : List UInt8 := dkwX0_gap_4 ++ dktX0_gap_5
def dkwX0_gap_3 : List UInt8 := [192, 1, 95, 58, 7, 25, 7, 180, 1, 194, 21, 4, 164, 0, 30, 21, 5, 28, 160, 0, 21, 29]
abbrev dktX0_gap_3 : List UInt8 := dkwX0_gap_3 ++ dktX0_gap_4
def dkwX0_gap_2 : List UInt8 := [182, 1, 120, 58, 6, 25, 6, 185, 0, 86, 1, 0, 153, 0, 67, 25, 6, 185, 0, 92, 1, 0]
abbrev dktX0_gap_2 : List UInt8 := dkwX0_gap_2 ++ dktX0_gap_3
def dkwX0_gap_1 : List UInt8 := [180, 0, 16, 180, 0, 147, 54, 4, 3, 54, 5, 42, 180, 0, 16, 180, 1, 85, 27, 50, 180, 1, 191]
abbrev dktX0_gap_1 : List UInt8 := dkwX0_gap_1 ++ dktX0_gap_2
def dkwX0_gap_0 : List UInt8 := [27, 184, 1, 17, 153, 0, 17, 28, 155, 0, 13, 29, 133, 9, 10, 184, 0, 25, 154, 0, 5, 2, 172, 42]
abbrev dktX0_gap_0 : List UInt8 := dkwX0_gap_0 ++ dktX0_gap_1
theorem dksX0_gap_0 : cX0_gap.data.toList.drop 0 = dktX0_gap_0 := by decide +kernel
theorem dksX0_gap_1 : cX0_gap.data.toList.drop 24 = dktX0_gap_1 := dk_seg dksX0_gap_0 24 rfl rfl
theorem dksX0_gap_2 : cX0_gap.data.toList.drop 47 = dktX0_gap_2 := dk_seg dksX0_gap_1 23 rfl rfl
theorem dksX0_gap_3 : cX0_gap.data.toList.drop 69 = dktX0_gap_3 := dk_seg dksX0_gap_2 22 rfl rfl
theorem dksX0_gap_4 : cX0_gap.data.toList.drop 91 = dktX0_gap_4 := dk_seg dksX0_gap_3 22 rfl rfl
theorem dksX0_gap_5 : cX0_gap.data.toList.drop 115 = dktX0_gap_5 := dk_seg dksX0_gap_4 24 rfl rfl
theorem dksX0_gap_6 : cX0_gap.data.toList.drop 139 = dktX0_gap_6 := dk_seg dksX0_gap_5 24 rfl rfl
theorem dX0_gap_0 : decode cX0_gap 0 = .ok (.iload_n 1, 1) := dk_27 (dk_at dksX0_gap_0 0 rfl rfl)
theorem dX0_gap_1 : decode cX0_gap 1 = .ok (.invokestatic 273, 3) := dk_184 1 17 (dk_at dksX0_gap_0 1 rfl rfl)
theorem dX0_gap_4 : decode cX0_gap 4 = .ok (.ifCond .eq 17, 3) := dk_153 0 17 (dk_at dksX0_gap_0 4 rfl rfl)
theorem dX0_gap_7 : decode cX0_gap 7 = .ok (.iload_n 2, 1) := dk_28 (dk_at dksX0_gap_0 7 rfl rfl)
theorem dX0_gap_8 : decode cX0_gap 8 = .ok (.ifCond .lt 13, 3) := dk_155 0 13 (dk_at dksX0_gap_0 8 rfl rfl)
theorem dX0_gap_11 : decode cX0_gap 11 = .ok (.iload_n 3, 1) := dk_29 (dk_at dksX0_gap_0 11 rfl rfl)
theorem dX0_gap_12 : decode cX0_gap 12 = .ok (.i2l, 1) := dk_133 (dk_at dksX0_gap_0 12 rfl rfl)
theorem dX0_gap_13 : decode cX0_gap 13 = .ok (.lconst 0, 1) := dk_9 (dk_at dksX0_gap_0 13 rfl rfl)
theorem dX0_gap_14 : decode cX0_gap 14 = .ok (.lconst 1, 1) := dk_10 (dk_at dksX0_gap_0 14 rfl rfl)
theorem dX0_gap_15 : decode cX0_gap 15 = .ok (.invokestatic 25, 3) := dk_184 0 25 (dk_at dksX0_gap_0 15 rfl rfl)
theorem dX0_gap_18 : decode cX0_gap 18 = .ok (.ifCond .ne 5, 3) := dk_154 0 5 (dk_at dksX0_gap_0 18 rfl rfl)
theorem dX0_gap_21 : decode cX0_gap 21 = .ok (.iconst (-1), 1) := dk_2 (dk_at dksX0_gap_0 21 rfl rfl)
theorem dX0_gap_22 : decode cX0_gap 22 = .ok (.ireturn, 1) := dk_172 (dk_at dksX0_gap_0 22 rfl rfl)
theorem dX0_gap_23 : decode cX0_gap 23 = .ok (.aload_n 0, 1) := dk_42 (dk_at dksX0_gap_0 23 rfl rfl)
theorem dX0_gap_24 : decode cX0_gap 24 = .ok (.getfield 16, 3) := dk_180 0 16 (dk_at dksX0_gap_1 0 rfl rfl)
theorem dX0_gap_27 : decode cX0_gap 27 = .ok (.getfield 147, 3) := dk_180 0 147 (dk_at dksX0_gap_1 3 rfl rfl)
theorem dX0_gap_30 : decode cX0_gap 30 = .ok (.istore 4, 2) := dk_54 4 (dk_at dksX0_gap_1 6 rfl rfl)
theorem dX0_gap_32 : decode cX0_gap 32 = .ok (.iconst 0, 1) := dk_3 (dk_at dksX0_gap_1 8 rfl rfl)
theorem dX0_gap_33 : decode cX0_gap 33 = .ok (.istore 5, 2) := dk_54 5 (dk_at dksX0_gap_1 9 rfl rfl)
theorem dX0_gap_35 : decode cX0_gap 35 = .ok (.aload_n 0, 1) := dk_42 (dk_at dksX0_gap_1 11 rfl rfl)
theorem dX0_gap_36 : decode cX0_gap 36 = .ok (.getfield 16, 3) := dk_180 0 16 (dk_at dksX0_gap_1 12 rfl rfl)
theorem dX0_gap_39 : decode cX0_gap 39 = .ok (.getfield 341, 3) := dk_180 1 85 (dk_at dksX0_gap_1 15 rfl rfl)
theorem dX0_gap_42 : decode cX0_gap 42 = .ok (.iload_n 1, 1) := dk_27 (dk_at dksX0_gap_1 18 rfl rfl)
theorem dX0_gap_43 : decode cX0_gap 43 = .ok (.aaload, 1) := dk_50 (dk_at dksX0_gap_1 19 rfl rfl)
theorem dX0_gap_44 : decode cX0_gap 44 = .ok (.getfield 447, 3) := dk_180 1 191 (dk_at dksX0_gap_1 20 rfl rfl)
theorem dX0_gap_47 : decode cX0_gap 47 = .ok (.invokevirtual 376, 3) := dk_182 1 120 (dk_at dksX0_gap_2 0 rfl rfl)
theorem dX0_gap_50 : decode cX0_gap 50 = .ok (.astore 6, 2) := dk_58 6 (dk_at dksX0_gap_2 3 rfl rfl)
theorem dX0_gap_52 : decode cX0_gap 52 = .ok (.aload 6, 2) := dk_25 6 (dk_at dksX0_gap_2 5 rfl rfl)
theorem dX0_gap_54 : decode cX0_gap 54 = .ok (.invokeinterface 86 1, 5) := by decide +kernel
theorem dX0_gap_59 : decode cX0_gap 59 = .ok (.ifCond .eq 67, 3) := dk_153 0 67 (dk_at dksX0_gap_2 12 rfl rfl)
theorem dX0_gap_62 : decode cX0_gap 62 = .ok (.aload 6, 2) := dk_25 6 (dk_at dksX0_gap_2 15 rfl rfl)
theorem dX0_gap_64 : decode cX0_gap 64 = .ok (.invokeinterface 92 1, 5) := by decide +kernel
theorem dX0_gap_69 : decode cX0_gap 69 = .ok (.checkcast 351, 3) := dk_192 1 95 (dk_at dksX0_gap_3 0 rfl rfl)
theorem dX0_gap_72 : decode cX0_gap 72 = .ok (.astore 7, 2) := dk_58 7 (dk_at dksX0_gap_3 3 rfl rfl)
theorem dX0_gap_74 : decode cX0_gap 74 = .ok (.aload 7, 2) := dk_25 7 (dk_at dksX0_gap_3 5 rfl rfl)
theorem dX0_gap_76 : decode cX0_gap 76 = .ok (.getfield 450, 3) := dk_180 1 194 (dk_at dksX0_gap_3 7 rfl rfl)
theorem dX0_gap_79 : decode cX0_gap 79 = .ok (.iload 4, 2) := dk_21 4 (dk_at dksX0_gap_3 10 rfl rfl)
theorem dX0_gap_81 : decode cX0_gap 81 = .ok (.if_icmp .le 30, 3) := dk_164 0 30 (dk_at dksX0_gap_3 12 rfl rfl)
theorem dX0_gap_84 : decode cX0_gap 84 = .ok (.iload 5, 2) := dk_21 5 (dk_at dksX0_gap_3 15 rfl rfl)
theorem dX0_gap_86 : decode cX0_gap 86 = .ok (.iload_n 2, 1) := dk_28 (dk_at dksX0_gap_3 17 rfl rfl)
theorem dX0_gap_87 : decode cX0_gap 87 = .ok (.if_icmp .ne 21, 3) := dk_160 0 21 (dk_at dksX0_gap_3 18 rfl rfl)
theorem dX0_gap_90 : decode cX0_gap 90 = .ok (.iload_n 3, 1) := dk_29 (dk_at dksX0_gap_3 21 rfl rfl)
theorem dX0_gap_91 : decode cX0_gap 91 = .ok (.ifCond .ne 8, 3) := dk_154 0 8 (dk_at dksX0_gap_4 0 rfl rfl)
theorem dX0_gap_94 : decode cX0_gap 94 = .ok (.iload 4, 2) := dk_21 4 (dk_at dksX0_gap_4 3 rfl rfl)
theorem dX0_gap_96 : decode cX0_gap 96 = .ok (.goto 11, 3) := dk_167 0 11 (dk_at dksX0_gap_4 5 rfl rfl)
theorem dX0_gap_99 : decode cX0_gap 99 = .ok (.aload 7, 2) := dk_25 7 (dk_at dksX0_gap_4 8 rfl rfl)
theorem dX0_gap_101 : decode cX0_gap 101 = .ok (.getfield 450, 3) := dk_180 1 194 (dk_at dksX0_gap_4 10 rfl rfl)
theorem dX0_gap_104 : decode cX0_gap 104 = .ok (.iload 4, 2) := dk_21 4 (dk_at dksX0_gap_4 13 rfl rfl)
theorem dX0_gap_106 : decode cX0_gap 106 = .ok (.isub, 1) := dk_100 (dk_at dksX0_gap_4 15 rfl rfl)
theorem dX0_gap_107 : decode cX0_gap 107 = .ok (.ireturn, 1) := dk_172 (dk_at dksX0_gap_4 16 rfl rfl)
theorem dX0_gap_108 : decode cX0_gap 108 = .ok (.iinc 5 1, 3) := dk_132 5 1 (dk_at dksX0_gap_4 17 rfl rfl)
theorem dX0_gap_111 : decode cX0_gap 111 = .ok (.iload 4, 2) := dk_21 4 (dk_at dksX0_gap_4 20 rfl rfl)
theorem dX0_gap_113 : decode cX0_gap 113 = .ok (.aload 7, 2) := dk_25 7 (dk_at dksX0_gap_4 22 rfl rfl)
theorem dX0_gap_115 : decode cX0_gap 115 = .ok (.getfield 453, 3) := dk_180 1 197 (dk_at dksX0_gap_5 0 rfl rfl)
theorem dX0_gap_118 : decode cX0_gap 118 = .ok (.invokestatic 381, 3) := dk_184 1 125 (dk_at dksX0_gap_5 3 rfl rfl)
theorem dX0_gap_121 : decode cX0_gap 121 = .ok (.istore 4, 2) := dk_54 4 (dk_at dksX0_gap_5 6 rfl rfl)
theorem dX0_gap_123 : decode cX0_gap 123 = .ok (.goto (-71), 3) := dk_167 255 185 (dk_at dksX0_gap_5 8 rfl rfl)
theorem dX0_gap_126 : decode cX0_gap 126 = .ok (.iload 5, 2) := dk_21 5 (dk_at dksX0_gap_5 11 rfl rfl)
theorem dX0_gap_128 : decode cX0_gap 128 = .ok (.iload_n 2, 1) := dk_28 (dk_at dksX0_gap_5 13 rfl rfl)
theorem dX0_gap_129 : decode cX0_gap 129 = .ok (.if_icmp .lt 8, 3) := dk_161 0 8 (dk_at dksX0_gap_5 14 rfl rfl)
theorem dX0_gap_132 : decode cX0_gap 132 = .ok (.iload_n 3, 1) := dk_29 (dk_at dksX0_gap_5 17 rfl rfl)
theorem dX0_gap_133 : decode cX0_gap 133 = .ok (.iconst 1, 1) := dk_4 (dk_at dksX0_gap_5 18 rfl rfl)
theorem dX0_gap_134 : decode cX0_gap 134 = .ok (.if_icmp .ne 8, 3) := dk_160 0 8 (dk_at dksX0_gap_5 19 rfl rfl)
theorem dX0_gap_137 : decode cX0_gap 137 = .ok (.bipush (-2), 2) := dk_16 254 (dk_at dksX0_gap_5 22 rfl rfl)
theorem dX0_gap_139 : decode cX0_gap 139 = .ok (.goto 5, 3) := dk_167 0 5 (dk_at dksX0_gap_6 0 rfl rfl)
theorem dX0_gap_142 : decode cX0_gap 142 = .ok (.iload 4, 2) := dk_21 4 (dk_at dksX0_gap_6 3 rfl rfl)
theorem dX0_gap_144 : decode cX0_gap 144 = .ok (.ireturn, 1) := dk_172 (dk_at dksX0_gap_6 5 rfl rfl)
abbrev cX0_orders : ByteArray := prog_1_method_48_code
def dkwX0_orders_3 : List UInt8 := [182, 1, 202, 25, 4, 180, 1, 205, 172]
abbrev dktX0_orders_3 : List UInt8 := dkwX0_orders_3 ++ []
def dkwX0_orders_2 : List UInt8 := [16, 251, 172, 187, 1, 145, 89, 42, 45, 28, 183, 1, 147, 58, 4, 25, 4, 187, 0, 44, 89, 183, 1, 161]
abbrev dktX0_orders_2 : List UInt8 := dkwX0_orders_2 ++ dktX0_orders_3
def dkwX0_orders_1 : List UInt8 := [180, 0, 147, 133, 20, 1, 200, 97, 184, 0, 25, 154, 0, 5, 2, 172, 45, 180, 0, 136, 153, 0, 6]
abbrev dktX0_orders_1 : List UInt8 := dkwX0_orders_1 ++ dktX0_orders_2
def dkwX0_orders_0 : List UInt8 := [42, 27, 182, 0, 132, 78, 45, 198, 0, 31, 28, 133, 42, 180, 0, 16, 180, 0, 147, 133, 42, 180, 0, 16]
abbrev dktX0_orders_0 : List UInt8 := dkwX0_orders_0 ++ dktX0_orders_1
theorem dksX0_orders_0 : cX0_orders.data.toList.drop 0 = dktX0_orders_0 := by decide +kernel
theorem dksX0_orders_1 : cX0_orders.data.toList.drop 24 = dktX0_orders_1 := dk_seg dksX0_orders_0 24 rfl rfl
theorem dksX0_orders_2 : cX0_orders.data.toList.drop 47 = dktX0_orders_2 := dk_seg dksX0_orders_1 23 rfl rfl
theorem dksX0_orders_3 : cX0_orders.data.toList.drop 71 = dktX0_orders_3 := dk_seg dksX0_orders_2 24 rfl rfl
theorem dX0_orders_0 : decode cX0_orders 0 = .ok (.aload_n 0, 1) := dk_42 (dk_at dksX0_orders_0 0 rfl rfl)
theorem dX0_orders_1 : decode cX0_orders 1 = .ok (.iload_n 1, 1) := dk_27 (dk_at dksX0_orders_0 1 rfl rfl)
theorem dX0_orders_2 : decode cX0_orders 2 = .ok (.invokevirtual 132, 3) := dk_182 0 132 (dk_at dksX0_orders_0 2 rfl rfl)
theorem dX0_orders_5 : decode cX0_orders 5 = .ok (.astore_n 3, 1) := dk_78 (dk_at dksX0_orders_0 5 rfl rfl)
theorem dX0_orders_6 : decode cX0_orders 6 = .ok (.aload_n 3, 1) := dk_45 (dk_at dksX0_orders_0 6 rfl rfl)
theorem dX0_orders_7 : decode cX0_orders 7 = .ok (.ifnull 31, 3) := dk_198 0 31 (dk_at dksX0_orders_0 7 rfl rfl)
theorem dX0_orders_10 : decode cX0_orders 10 = .ok (.iload_n 2, 1) := dk_28 (dk_at dksX0_orders_0 10 rfl rfl)
theorem dX0_orders_11 : decode cX0_orders 11 = .ok (.i2l, 1) := dk_133 (dk_at dksX0_orders_0 11 rfl rfl)
theorem dX0_orders_12 : decode cX0_orders 12 = .ok (.aload_n 0, 1) := dk_42 (dk_at dksX0_orders_0 12 rfl rfl)
theorem dX0_orders_13 : decode cX0_orders 13 = .ok (.getfield 16, 3) := dk_180 0 16 (dk_at dksX0_orders_0 13 rfl rfl)
theorem dX0_orders_16 : decode cX0_orders 16 = .ok (.getfield 147, 3) := dk_180 0 147 (dk_at dksX0_orders_0 16 rfl rfl)
theorem dX0_orders_19 : decode cX0_orders 19 = .ok (.i2l, 1) := dk_133 (dk_at dksX0_orders_0 19 rfl rfl)
theorem dX0_orders_20 : decode cX0_orders 20 = .ok (.aload_n 0, 1) := dk_42 (dk_at dksX0_orders_0 20 rfl rfl)
theorem dX0_orders_21 : decode cX0_orders 21 = .ok (.getfield 16, 3) := dk_180 0 16 (dk_at dksX0_orders_0 21 rfl rfl)
theorem dX0_orders_24 : decode cX0_orders 24 = .ok (.getfield 147, 3) := dk_180 0 147 (dk_at dksX0_orders_1 0 rfl rfl)
theorem dX0_orders_27 : decode cX0_orders 27 = .ok (.i2l, 1) := dk_133 (dk_at dksX0_orders_1 3 rfl rfl)
theorem dX0_orders_28 : decode cX0_orders 28 = .ok (.ldc2_w 456, 3) := dk_20 1 200 (dk_at dksX0_orders_1 4 rfl rfl)
theorem dX0_orders_31 : decode cX0_orders 31 = .ok (.ladd, 1) := dk_97 (dk_at dksX0_orders_1 7 rfl rfl)
theorem dX0_orders_32 : decode cX0_orders 32 = .ok (.invokestatic 25, 3) := dk_184 0 25 (dk_at dksX0_orders_1 8 rfl rfl)
theorem dX0_orders_35 : decode cX0_orders 35 = .ok (.ifCond .ne 5, 3) := dk_154 0 5 (dk_at dksX0_orders_1 11 rfl rfl)
theorem dX0_orders_38 : decode cX0_orders 38 = .ok (.iconst (-1), 1) := dk_2 (dk_at dksX0_orders_1 14 rfl rfl)
theorem dX0_orders_39 : decode cX0_orders 39 = .ok (.ireturn, 1) := dk_172 (dk_at dksX0_orders_1 15 rfl rfl)
theorem dX0_orders_40 : decode cX0_orders 40 = .ok (.aload_n 3, 1) := dk_45 (dk_at dksX0_orders_1 16 rfl rfl)
theorem dX0_orders_41 : decode cX0_orders 41 = .ok (.getfield 136, 3) := dk_180 0 136 (dk_at dksX0_orders_1 17 rfl rfl)
theorem dX0_orders_44 : decode cX0_orders 44 = .ok (.ifCond .eq 6, 3) := dk_153 0 6 (dk_at dksX0_orders_1 20 rfl rfl)
theorem dX0_orders_47 : decode cX0_orders 47 = .ok (.bipush (-5), 2) := dk_16 251 (dk_at dksX0_orders_2 0 rfl rfl)
theorem dX0_orders_49 : decode cX0_orders 49 = .ok (.ireturn, 1) := dk_172 (dk_at dksX0_orders_2 2 rfl rfl)
theorem dX0_orders_50 : decode cX0_orders 50 = .ok (.new 401, 3) := dk_187 1 145 (dk_at dksX0_orders_2 3 rfl rfl)
theorem dX0_orders_53 : decode cX0_orders 53 = .ok (.dup, 1) := dk_89 (dk_at dksX0_orders_2 6 rfl rfl)
theorem dX0_orders_54 : decode cX0_orders 54 = .ok (.aload_n 0, 1) := dk_42 (dk_at dksX0_orders_2 7 rfl rfl)
theorem dX0_orders_55 : decode cX0_orders 55 = .ok (.aload_n 3, 1) := dk_45 (dk_at dksX0_orders_2 8 rfl rfl)
theorem dX0_orders_56 : decode cX0_orders 56 = .ok (.iload_n 2, 1) := dk_28 (dk_at dksX0_orders_2 9 rfl rfl)
theorem dX0_orders_57 : decode cX0_orders 57 = .ok (.invokespecial 403, 3) := dk_183 1 147 (dk_at dksX0_orders_2 10 rfl rfl)
theorem dX0_orders_60 : decode cX0_orders 60 = .ok (.astore 4, 2) := dk_58 4 (dk_at dksX0_orders_2 13 rfl rfl)
theorem dX0_orders_62 : decode cX0_orders 62 = .ok (.aload 4, 2) := dk_25 4 (dk_at dksX0_orders_2 15 rfl rfl)
theorem dX0_orders_64 : decode cX0_orders 64 = .ok (.new 44, 3) := dk_187 0 44 (dk_at dksX0_orders_2 17 rfl rfl)
theorem dX0_orders_67 : decode cX0_orders 67 = .ok (.dup, 1) := dk_89 (dk_at dksX0_orders_2 20 rfl rfl)
theorem dX0_orders_68 : decode cX0_orders 68 = .ok (.invokespecial 417, 3) := dk_183 1 161 (dk_at dksX0_orders_2 21 rfl rfl)
theorem dX0_orders_71 : decode cX0_orders 71 = .ok (.invokevirtual 458, 3) := dk_182 1 202 (dk_at dksX0_orders_3 0 rfl rfl)
theorem dX0_orders_74 : decode cX0_orders 74 = .ok (.aload 4, 2) := dk_25 4 (dk_at dksX0_orders_3 3 rfl rfl)
theorem dX0_orders_76 : decode cX0_orders 76 = .ok (.getfield 461, 3) := dk_180 1 205 (dk_at dksX0_orders_3 5 rfl rfl)
theorem dX0_orders_79 : decode cX0_orders 79 = .ok (.ireturn, 1) := dk_172 (dk_at dksX0_orders_3 8 rfl rfl)
abbrev cX0_costs : ByteArray := prog_1_method_38_code
def dkwX0_costs_11 : List UInt8 := [54, 9, 167, 255, 194, 21, 9, 172]
abbrev dktX0_costs_11 : List UInt8 := dkwX0_costs_11 ++ []
def dkwX0_costs_10 : List UInt8 := [180, 0, 167, 182, 1, 114, 25, 8, 25, 11, 180, 0, 167, 182, 1, 114, 184, 1, 121, 167, 0, 4, 3, 96]
abbrev dktX0_costs_10 : List UInt8 := dkwX0_costs_10 ++ dktX0_costs_11
def dkwX0_costs_9 : List UInt8 := [185, 0, 92, 1, 0, 192, 0, 53, 58, 11, 21, 9, 25, 11, 180, 0, 136, 154, 0, 29, 25, 7, 25, 11]
abbrev dktX0_costs_9 : List UInt8 := dkwX0_costs_9 ++ dktX0_costs_10
def dkwX0_costs_8 : List UInt8 := [180, 0, 16, 180, 0, 39, 182, 1, 120, 58, 10, 25, 10, 185, 0, 86, 1, 0, 153, 0, 58, 25, 10]
abbrev dktX0_costs_8 : List UInt8 := dkwX0_costs_8 ++ dktX0_costs_9
def dkwX0_costs_7 : List UInt8 := [187, 1, 106, 89, 42, 3, 189, 0, 53, 183, 1, 108, 58, 8, 25, 8, 2, 182, 1, 111, 3, 54, 9, 42]
abbrev dktX0_costs_7 : List UInt8 := dkwX0_costs_7 ++ dktX0_costs_8
def dkwX0_costs_6 : List UInt8 := [167, 0, 4, 2, 182, 1, 111, 29, 154, 0, 14, 25, 7, 25, 6, 180, 0, 167, 182, 1, 114, 172]
abbrev dktX0_costs_6 : List UInt8 := dkwX0_costs_6 ++ dktX0_costs_7
def dkwX0_costs_5 : List UInt8 := [189, 0, 53, 89, 3, 25, 6, 83, 183, 1, 108, 58, 7, 25, 7, 29, 154, 0, 11, 25, 6, 180, 0, 167]
abbrev dktX0_costs_5 : List UInt8 := dkwX0_costs_5 ++ dktX0_costs_6
def dkwX0_costs_4 : List UInt8 := [2, 42, 180, 0, 16, 180, 0, 147, 25, 4, 182, 0, 150, 183, 0, 154, 58, 6, 187, 1, 106, 89, 42, 4]
abbrev dktX0_costs_4 : List UInt8 := dkwX0_costs_4 ++ dktX0_costs_5
def dkwX0_costs_3 : List UInt8 := [153, 0, 6, 21, 5, 172, 187, 0, 53, 89, 42, 180, 0, 16, 180, 0, 39, 182, 0, 43, 27, 28, 16, 100]
abbrev dktX0_costs_3 : List UInt8 := dkwX0_costs_3 ++ dktX0_costs_4
def dkwX0_costs_2 : List UInt8 := [16, 253, 172, 187, 0, 139, 89, 42, 183, 0, 141, 58, 4, 25, 4, 182, 0, 144, 54, 5, 21, 5]
abbrev dktX0_costs_2 : List UInt8 := dkwX0_costs_2 ++ dktX0_costs_3
def dkwX0_costs_1 : List UInt8 := [184, 0, 25, 154, 0, 5, 2, 172, 42, 180, 0, 16, 180, 0, 39, 182, 0, 43, 16, 80, 160, 0, 6]
abbrev dktX0_costs_1 : List UInt8 := dkwX0_costs_1 ++ dktX0_costs_2
def dkwX0_costs_0 : List UInt8 := [27, 184, 0, 55, 153, 0, 25, 28, 133, 9, 20, 0, 128, 184, 0, 25, 153, 0, 13, 29, 133, 9, 10]
abbrev dktX0_costs_0 : List UInt8 := dkwX0_costs_0 ++ dktX0_costs_1
theorem dksX0_costs_0 : cX0_costs.data.toList.drop 0 = dktX0_costs_0 := by decide +kernel
theorem dksX0_costs_1 : cX0_costs.data.toList.drop 23 = dktX0_costs_1 := dk_seg dksX0_costs_0 23 rfl rfl
theorem dksX0_costs_2 : cX0_costs.data.toList.drop 46 = dktX0_costs_2 := dk_seg dksX0_costs_1 23 rfl rfl
theorem dksX0_costs_3 : cX0_costs.data.toList.drop 68 = dktX0_costs_3 := dk_seg dksX0_costs_2 22 rfl rfl
theorem dksX0_costs_4 : cX0_costs.data.toList.drop 92 = dktX0_costs_4 := dk_seg dksX0_costs_3 24 rfl rfl
theorem dksX0_costs_5 : cX0_costs.data.toList.drop 116 = dktX0_costs_5 := dk_seg dksX0_costs_4 24 rfl rfl
theorem dksX0_costs_6 : cX0_costs.data.toList.drop 140 = dktX0_costs_6 := dk_seg dksX0_costs_5 24 rfl rfl
theorem dksX0_costs_7 : cX0_costs.data.toList.drop 162 = dktX0_costs_7 := dk_seg dksX0_costs_6 22 rfl rfl
theorem dksX0_costs_8 : cX0_costs.data.toList.drop 186 = dktX0_costs_8 := dk_seg dksX0_costs_7 24 rfl rfl
theorem dksX0_costs_9 : cX0_costs.data.toList.drop 209 = dktX0_costs_9 := dk_seg dksX0_costs_8 23 rfl rfl
theorem dksX0_costs_10 : cX0_costs.data.toList.drop 233 = dktX0_costs_10 := dk_seg dksX0_costs_9 24 rfl rfl
theorem dksX0_costs_11 : cX0_costs.data.toList.drop 257 = dktX0_costs_11 := dk_seg dksX0_costs_10 24 rfl rfl
theorem dX0_costs_0 : decode cX0_costs 0 = .ok (.iload_n 1, 1) := dk_27 (dk_at dksX0_costs_0 0 rfl rfl)
theorem dX0_costs_1 : decode cX0_costs 1 = .ok (.invokestatic 55, 3) := dk_184 0 55 (dk_at dksX0_costs_0 1 rfl rfl)
theorem dX0_costs_4 : decode cX0_costs 4 = .ok (.ifCond .eq 25, 3) := dk_153 0 25 (dk_at dksX0_costs_0 4 rfl rfl)
theorem dX0_costs_7 : decode cX0_costs 7 = .ok (.iload_n 2, 1) := dk_28 (dk_at dksX0_costs_0 7 rfl rfl)
theorem dX0_costs_8 : decode cX0_costs 8 = .ok (.i2l, 1) := dk_133 (dk_at dksX0_costs_0 8 rfl rfl)
theorem dX0_costs_9 : decode cX0_costs 9 = .ok (.lconst 0, 1) := dk_9 (dk_at dksX0_costs_0 9 rfl rfl)
theorem dX0_costs_10 : decode cX0_costs 10 = .ok (.ldc2_w 128, 3) := dk_20 0 128 (dk_at dksX0_costs_0 10 rfl rfl)
theorem dX0_costs_13 : decode cX0_costs 13 = .ok (.invokestatic 25, 3) := dk_184 0 25 (dk_at dksX0_costs_0 13 rfl rfl)
theorem dX0_costs_16 : decode cX0_costs 16 = .ok (.ifCond .eq 13, 3) := dk_153 0 13 (dk_at dksX0_costs_0 16 rfl rfl)
theorem dX0_costs_19 : decode cX0_costs 19 = .ok (.iload_n 3, 1) := dk_29 (dk_at dksX0_costs_0 19 rfl rfl)
theorem dX0_costs_20 : decode cX0_costs 20 = .ok (.i2l, 1) := dk_133 (dk_at dksX0_costs_0 20 rfl rfl)
theorem dX0_costs_21 : decode cX0_costs 21 = .ok (.lconst 0, 1) := dk_9 (dk_at dksX0_costs_0 21 rfl rfl)
theorem dX0_costs_22 : decode cX0_costs 22 = .ok (.lconst 1, 1) := dk_10 (dk_at dksX0_costs_0 22 rfl rfl)
theorem dX0_costs_23 : decode cX0_costs 23 = .ok (.invokestatic 25, 3) := dk_184 0 25 (dk_at dksX0_costs_1 0 rfl rfl)
theorem dX0_costs_26 : decode cX0_costs 26 = .ok (.ifCond .ne 5, 3) := dk_154 0 5 (dk_at dksX0_costs_1 3 rfl rfl)
theorem dX0_costs_29 : decode cX0_costs 29 = .ok (.iconst (-1), 1) := dk_2 (dk_at dksX0_costs_1 6 rfl rfl)
theorem dX0_costs_30 : decode cX0_costs 30 = .ok (.ireturn, 1) := dk_172 (dk_at dksX0_costs_1 7 rfl rfl)
theorem dX0_costs_31 : decode cX0_costs 31 = .ok (.aload_n 0, 1) := dk_42 (dk_at dksX0_costs_1 8 rfl rfl)
theorem dX0_costs_32 : decode cX0_costs 32 = .ok (.getfield 16, 3) := dk_180 0 16 (dk_at dksX0_costs_1 9 rfl rfl)
theorem dX0_costs_35 : decode cX0_costs 35 = .ok (.getfield 39, 3) := dk_180 0 39 (dk_at dksX0_costs_1 12 rfl rfl)
theorem dX0_costs_38 : decode cX0_costs 38 = .ok (.invokevirtual 43, 3) := dk_182 0 43 (dk_at dksX0_costs_1 15 rfl rfl)
theorem dX0_costs_41 : decode cX0_costs 41 = .ok (.bipush 80, 2) := dk_16 80 (dk_at dksX0_costs_1 18 rfl rfl)
theorem dX0_costs_43 : decode cX0_costs 43 = .ok (.if_icmp .ne 6, 3) := dk_160 0 6 (dk_at dksX0_costs_1 20 rfl rfl)
theorem dX0_costs_46 : decode cX0_costs 46 = .ok (.bipush (-3), 2) := dk_16 253 (dk_at dksX0_costs_2 0 rfl rfl)
theorem dX0_costs_48 : decode cX0_costs 48 = .ok (.ireturn, 1) := dk_172 (dk_at dksX0_costs_2 2 rfl rfl)
theorem dX0_costs_49 : decode cX0_costs 49 = .ok (.new 139, 3) := dk_187 0 139 (dk_at dksX0_costs_2 3 rfl rfl)
theorem dX0_costs_52 : decode cX0_costs 52 = .ok (.dup, 1) := dk_89 (dk_at dksX0_costs_2 6 rfl rfl)
theorem dX0_costs_53 : decode cX0_costs 53 = .ok (.aload_n 0, 1) := dk_42 (dk_at dksX0_costs_2 7 rfl rfl)
theorem dX0_costs_54 : decode cX0_costs 54 = .ok (.invokespecial 141, 3) := dk_183 0 141 (dk_at dksX0_costs_2 8 rfl rfl)
theorem dX0_costs_57 : decode cX0_costs 57 = .ok (.astore 4, 2) := dk_58 4 (dk_at dksX0_costs_2 11 rfl rfl)
theorem dX0_costs_59 : decode cX0_costs 59 = .ok (.aload 4, 2) := dk_25 4 (dk_at dksX0_costs_2 13 rfl rfl)
theorem dX0_costs_61 : decode cX0_costs 61 = .ok (.invokevirtual 144, 3) := dk_182 0 144 (dk_at dksX0_costs_2 15 rfl rfl)
theorem dX0_costs_64 : decode cX0_costs 64 = .ok (.istore 5, 2) := dk_54 5 (dk_at dksX0_costs_2 18 rfl rfl)
theorem dX0_costs_66 : decode cX0_costs 66 = .ok (.iload 5, 2) := dk_21 5 (dk_at dksX0_costs_2 20 rfl rfl)
theorem dX0_costs_68 : decode cX0_costs 68 = .ok (.ifCond .eq 6, 3) := dk_153 0 6 (dk_at dksX0_costs_3 0 rfl rfl)
theorem dX0_costs_71 : decode cX0_costs 71 = .ok (.iload 5, 2) := dk_21 5 (dk_at dksX0_costs_3 3 rfl rfl)
theorem dX0_costs_73 : decode cX0_costs 73 = .ok (.ireturn, 1) := dk_172 (dk_at dksX0_costs_3 5 rfl rfl)
theorem dX0_costs_74 : decode cX0_costs 74 = .ok (.new 53, 3) := dk_187 0 53 (dk_at dksX0_costs_3 6 rfl rfl)
theorem dX0_costs_77 : decode cX0_costs 77 = .ok (.dup, 1) := dk_89 (dk_at dksX0_costs_3 9 rfl rfl)
theorem dX0_costs_78 : decode cX0_costs 78 = .ok (.aload_n 0, 1) := dk_42 (dk_at dksX0_costs_3 10 rfl rfl)
theorem dX0_costs_79 : decode cX0_costs 79 = .ok (.getfield 16, 3) := dk_180 0 16 (dk_at dksX0_costs_3 11 rfl rfl)
theorem dX0_costs_82 : decode cX0_costs 82 = .ok (.getfield 39, 3) := dk_180 0 39 (dk_at dksX0_costs_3 14 rfl rfl)
theorem dX0_costs_85 : decode cX0_costs 85 = .ok (.invokevirtual 43, 3) := dk_182 0 43 (dk_at dksX0_costs_3 17 rfl rfl)
theorem dX0_costs_88 : decode cX0_costs 88 = .ok (.iload_n 1, 1) := dk_27 (dk_at dksX0_costs_3 20 rfl rfl)
theorem dX0_costs_89 : decode cX0_costs 89 = .ok (.iload_n 2, 1) := dk_28 (dk_at dksX0_costs_3 21 rfl rfl)
theorem dX0_costs_90 : decode cX0_costs 90 = .ok (.bipush 100, 2) := dk_16 100 (dk_at dksX0_costs_3 22 rfl rfl)
theorem dX0_costs_92 : decode cX0_costs 92 = .ok (.iconst (-1), 1) := dk_2 (dk_at dksX0_costs_4 0 rfl rfl)
theorem dX0_costs_93 : decode cX0_costs 93 = .ok (.aload_n 0, 1) := dk_42 (dk_at dksX0_costs_4 1 rfl rfl)
theorem dX0_costs_94 : decode cX0_costs 94 = .ok (.getfield 16, 3) := dk_180 0 16 (dk_at dksX0_costs_4 2 rfl rfl)
theorem dX0_costs_97 : decode cX0_costs 97 = .ok (.getfield 147, 3) := dk_180 0 147 (dk_at dksX0_costs_4 5 rfl rfl)
theorem dX0_costs_100 : decode cX0_costs 100 = .ok (.aload 4, 2) := dk_25 4 (dk_at dksX0_costs_4 8 rfl rfl)
theorem dX0_costs_102 : decode cX0_costs 102 = .ok (.invokevirtual 150, 3) := dk_182 0 150 (dk_at dksX0_costs_4 10 rfl rfl)
theorem dX0_costs_105 : decode cX0_costs 105 = .ok (.invokespecial 154, 3) := dk_183 0 154 (dk_at dksX0_costs_4 13 rfl rfl)
theorem dX0_costs_108 : decode cX0_costs 108 = .ok (.astore 6, 2) := dk_58 6 (dk_at dksX0_costs_4 16 rfl rfl)
theorem dX0_costs_110 : decode cX0_costs 110 = .ok (.new 362, 3) := dk_187 1 106 (dk_at dksX0_costs_4 18 rfl rfl)
theorem dX0_costs_113 : decode cX0_costs 113 = .ok (.dup, 1) := dk_89 (dk_at dksX0_costs_4 21 rfl rfl)
theorem dX0_costs_114 : decode cX0_costs 114 = .ok (.aload_n 0, 1) := dk_42 (dk_at dksX0_costs_4 22 rfl rfl)
theorem dX0_costs_115 : decode cX0_costs 115 = .ok (.iconst 1, 1) := dk_4 (dk_at dksX0_costs_4 23 rfl rfl)
theorem dX0_costs_116 : decode cX0_costs 116 = .ok (.anewarray 53, 3) := dk_189 0 53 (dk_at dksX0_costs_5 0 rfl rfl)
theorem dX0_costs_119 : decode cX0_costs 119 = .ok (.dup, 1) := dk_89 (dk_at dksX0_costs_5 3 rfl rfl)
theorem dX0_costs_120 : decode cX0_costs 120 = .ok (.iconst 0, 1) := dk_3 (dk_at dksX0_costs_5 4 rfl rfl)
theorem dX0_costs_121 : decode cX0_costs 121 = .ok (.aload 6, 2) := dk_25 6 (dk_at dksX0_costs_5 5 rfl rfl)
theorem dX0_costs_123 : decode cX0_costs 123 = .ok (.aastore, 1) := dk_83 (dk_at dksX0_costs_5 7 rfl rfl)
theorem dX0_costs_124 : decode cX0_costs 124 = .ok (.invokespecial 364, 3) := dk_183 1 108 (dk_at dksX0_costs_5 8 rfl rfl)
theorem dX0_costs_127 : decode cX0_costs 127 = .ok (.astore 7, 2) := dk_58 7 (dk_at dksX0_costs_5 11 rfl rfl)
theorem dX0_costs_129 : decode cX0_costs 129 = .ok (.aload 7, 2) := dk_25 7 (dk_at dksX0_costs_5 13 rfl rfl)
theorem dX0_costs_131 : decode cX0_costs 131 = .ok (.iload_n 3, 1) := dk_29 (dk_at dksX0_costs_5 15 rfl rfl)
theorem dX0_costs_132 : decode cX0_costs 132 = .ok (.ifCond .ne 11, 3) := dk_154 0 11 (dk_at dksX0_costs_5 16 rfl rfl)
theorem dX0_costs_135 : decode cX0_costs 135 = .ok (.aload 6, 2) := dk_25 6 (dk_at dksX0_costs_5 19 rfl rfl)
theorem dX0_costs_137 : decode cX0_costs 137 = .ok (.getfield 167, 3) := dk_180 0 167 (dk_at dksX0_costs_5 21 rfl rfl)
theorem dX0_costs_140 : decode cX0_costs 140 = .ok (.goto 4, 3) := dk_167 0 4 (dk_at dksX0_costs_6 0 rfl rfl)
theorem dX0_costs_143 : decode cX0_costs 143 = .ok (.iconst (-1), 1) := dk_2 (dk_at dksX0_costs_6 3 rfl rfl)
theorem dX0_costs_144 : decode cX0_costs 144 = .ok (.invokevirtual 367, 3) := dk_182 1 111 (dk_at dksX0_costs_6 4 rfl rfl)
theorem dX0_costs_147 : decode cX0_costs 147 = .ok (.iload_n 3, 1) := dk_29 (dk_at dksX0_costs_6 7 rfl rfl)
theorem dX0_costs_148 : decode cX0_costs 148 = .ok (.ifCond .ne 14, 3) := dk_154 0 14 (dk_at dksX0_costs_6 8 rfl rfl)
theorem dX0_costs_151 : decode cX0_costs 151 = .ok (.aload 7, 2) := dk_25 7 (dk_at dksX0_costs_6 11 rfl rfl)
theorem dX0_costs_153 : decode cX0_costs 153 = .ok (.aload 6, 2) := dk_25 6 (dk_at dksX0_costs_6 13 rfl rfl)
theorem dX0_costs_155 : decode cX0_costs 155 = .ok (.getfield 167, 3) := dk_180 0 167 (dk_at dksX0_costs_6 15 rfl rfl)
theorem dX0_costs_158 : decode cX0_costs 158 = .ok (.invokevirtual 370, 3) := dk_182 1 114 (dk_at dksX0_costs_6 18 rfl rfl)
theorem dX0_costs_161 : decode cX0_costs 161 = .ok (.ireturn, 1) := dk_172 (dk_at dksX0_costs_6 21 rfl rfl)
theorem dX0_costs_162 : decode cX0_costs 162 = .ok (.new 362, 3) := dk_187 1 106 (dk_at dksX0_costs_7 0 rfl rfl)
theorem dX0_costs_165 : decode cX0_costs 165 = .ok (.dup, 1) := dk_89 (dk_at dksX0_costs_7 3 rfl rfl)
theorem dX0_costs_166 : decode cX0_costs 166 = .ok (.aload_n 0, 1) := dk_42 (dk_at dksX0_costs_7 4 rfl rfl)
theorem dX0_costs_167 : decode cX0_costs 167 = .ok (.iconst 0, 1) := dk_3 (dk_at dksX0_costs_7 5 rfl rfl)
theorem dX0_costs_168 : decode cX0_costs 168 = .ok (.anewarray 53, 3) := dk_189 0 53 (dk_at dksX0_costs_7 6 rfl rfl)
theorem dX0_costs_171 : decode cX0_costs 171 = .ok (.invokespecial 364, 3) := dk_183 1 108 (dk_at dksX0_costs_7 9 rfl rfl)
theorem dX0_costs_174 : decode cX0_costs 174 = .ok (.astore 8, 2) := dk_58 8 (dk_at dksX0_costs_7 12 rfl rfl)
theorem dX0_costs_176 : decode cX0_costs 176 = .ok (.aload 8, 2) := dk_25 8 (dk_at dksX0_costs_7 14 rfl rfl)
theorem dX0_costs_178 : decode cX0_costs 178 = .ok (.iconst (-1), 1) := dk_2 (dk_at dksX0_costs_7 16 rfl rfl)
theorem dX0_costs_179 : decode cX0_costs 179 = .ok (.invokevirtual 367, 3) := dk_182 1 111 (dk_at dksX0_costs_7 17 rfl rfl)
theorem dX0_costs_182 : decode cX0_costs 182 = .ok (.iconst 0, 1) := dk_3 (dk_at dksX0_costs_7 20 rfl rfl)
theorem dX0_costs_183 : decode cX0_costs 183 = .ok (.istore 9, 2) := dk_54 9 (dk_at dksX0_costs_7 21 rfl rfl)
theorem dX0_costs_185 : decode cX0_costs 185 = .ok (.aload_n 0, 1) := dk_42 (dk_at dksX0_costs_7 23 rfl rfl)
theorem dX0_costs_186 : decode cX0_costs 186 = .ok (.getfield 16, 3) := dk_180 0 16 (dk_at dksX0_costs_8 0 rfl rfl)
theorem dX0_costs_189 : decode cX0_costs 189 = .ok (.getfield 39, 3) := dk_180 0 39 (dk_at dksX0_costs_8 3 rfl rfl)
theorem dX0_costs_192 : decode cX0_costs 192 = .ok (.invokevirtual 376, 3) := dk_182 1 120 (dk_at dksX0_costs_8 6 rfl rfl)
theorem dX0_costs_195 : decode cX0_costs 195 = .ok (.astore 10, 2) := dk_58 10 (dk_at dksX0_costs_8 9 rfl rfl)
theorem dX0_costs_197 : decode cX0_costs 197 = .ok (.aload 10, 2) := dk_25 10 (dk_at dksX0_costs_8 11 rfl rfl)
theorem dX0_costs_199 : decode cX0_costs 199 = .ok (.invokeinterface 86 1, 5) := by decide +kernel
theorem dX0_costs_204 : decode cX0_costs 204 = .ok (.ifCond .eq 58, 3) := dk_153 0 58 (dk_at dksX0_costs_8 18 rfl rfl)
theorem dX0_costs_207 : decode cX0_costs 207 = .ok (.aload 10, 2) := dk_25 10 (dk_at dksX0_costs_8 21 rfl rfl)
theorem dX0_costs_209 : decode cX0_costs 209 = .ok (.invokeinterface 92 1, 5) := by decide +kernel
theorem dX0_costs_214 : decode cX0_costs 214 = .ok (.checkcast 53, 3) := dk_192 0 53 (dk_at dksX0_costs_9 5 rfl rfl)
theorem dX0_costs_217 : decode cX0_costs 217 = .ok (.astore 11, 2) := dk_58 11 (dk_at dksX0_costs_9 8 rfl rfl)
theorem dX0_costs_219 : decode cX0_costs 219 = .ok (.iload 9, 2) := dk_21 9 (dk_at dksX0_costs_9 10 rfl rfl)
theorem dX0_costs_221 : decode cX0_costs 221 = .ok (.aload 11, 2) := dk_25 11 (dk_at dksX0_costs_9 12 rfl rfl)
theorem dX0_costs_223 : decode cX0_costs 223 = .ok (.getfield 136, 3) := dk_180 0 136 (dk_at dksX0_costs_9 14 rfl rfl)
theorem dX0_costs_226 : decode cX0_costs 226 = .ok (.ifCond .ne 29, 3) := dk_154 0 29 (dk_at dksX0_costs_9 17 rfl rfl)
theorem dX0_costs_229 : decode cX0_costs 229 = .ok (.aload 7, 2) := dk_25 7 (dk_at dksX0_costs_9 20 rfl rfl)
theorem dX0_costs_231 : decode cX0_costs 231 = .ok (.aload 11, 2) := dk_25 11 (dk_at dksX0_costs_9 22 rfl rfl)
theorem dX0_costs_233 : decode cX0_costs 233 = .ok (.getfield 167, 3) := dk_180 0 167 (dk_at dksX0_costs_10 0 rfl rfl)
theorem dX0_costs_236 : decode cX0_costs 236 = .ok (.invokevirtual 370, 3) := dk_182 1 114 (dk_at dksX0_costs_10 3 rfl rfl)
theorem dX0_costs_239 : decode cX0_costs 239 = .ok (.aload 8, 2) := dk_25 8 (dk_at dksX0_costs_10 6 rfl rfl)
theorem dX0_costs_241 : decode cX0_costs 241 = .ok (.aload 11, 2) := dk_25 11 (dk_at dksX0_costs_10 8 rfl rfl)
theorem dX0_costs_243 : decode cX0_costs 243 = .ok (.getfield 167, 3) := dk_180 0 167 (dk_at dksX0_costs_10 10 rfl rfl)
theorem dX0_costs_246 : decode cX0_costs 246 = .ok (.invokevirtual 370, 3) := dk_182 1 114 (dk_at dksX0_costs_10 13 rfl rfl)
theorem dX0_costs_249 : decode cX0_costs 249 = .ok (.invokestatic 377, 3) := dk_184 1 121 (dk_at dksX0_costs_10 16 rfl rfl)
theorem dX0_costs_252 : decode cX0_costs 252 = .ok (.goto 4, 3) := dk_167 0 4 (dk_at dksX0_costs_10 19 rfl rfl)
theorem dX0_costs_255 : decode cX0_costs 255 = .ok (.iconst 0, 1) := dk_3 (dk_at dksX0_costs_10 22 rfl rfl)
theorem dX0_costs_256 : decode cX0_costs 256 = .ok (.iadd, 1) := dk_96 (dk_at dksX0_costs_10 23 rfl rfl)
theorem dX0_costs_257 : decode cX0_costs 257 = .ok (.istore 9, 2) := dk_54 9 (dk_at dksX0_costs_11 0 rfl rfl)
theorem dX0_costs_259 : decode cX0_costs 259 = .ok (.goto (-62), 3) := dk_167 255 194 (dk_at dksX0_costs_11 2 rfl rfl)
theorem dX0_costs_262 : decode cX0_costs 262 = .ok (.iload 9, 2) := dk_21 9 (dk_at dksX0_costs_11 5 rfl rfl)
theorem dX0_costs_264 : decode cX0_costs 264 = .ok (.ireturn, 1) := dk_172 (dk_at dksX0_costs_11 7 rfl rfl)
abbrev cX0_earliest : ByteArray := prog_1_method_40_code
def dkwX0_earliest_2 : List UInt8 := [180, 0, 16, 180, 0, 147, 42, 180, 0, 16, 180, 0, 147, 17, 78, 32, 96, 182, 1, 133, 172]
abbrev dktX0_earliest_2 : List UInt8 := dkwX0_earliest_2 ++ []
def dkwX0_earliest_1 : List UInt8 := [153, 0, 5, 29, 172, 42, 180, 0, 16, 187, 0, 53, 89, 27, 44, 182, 0, 150, 183, 1, 130, 42]
abbrev dktX0_earliest_1 : List UInt8 := dkwX0_earliest_1 ++ dktX0_earliest_2
def dkwX0_earliest_0 : List UInt8 := [27, 184, 0, 55, 154, 0, 5, 2, 172, 187, 0, 139, 89, 42, 183, 0, 141, 77, 44, 182, 0, 144, 62, 29]
abbrev dktX0_earliest_0 : List UInt8 := dkwX0_earliest_0 ++ dktX0_earliest_1
theorem dksX0_earliest_0 : cX0_earliest.data.toList.drop 0 = dktX0_earliest_0 := by decide +kernel
theorem dksX0_earliest_1 : cX0_earliest.data.toList.drop 24 = dktX0_earliest_1 := dk_seg dksX0_earliest_0 24 rfl rfl
theorem dksX0_earliest_2 : cX0_earliest.data.toList.drop 46 = dktX0_earliest_2 := dk_seg dksX0_earliest_1 22 rfl rfl
theorem dX0_earliest_0 : decode cX0_earliest 0 = .ok (.iload_n 1, 1) := dk_27 (dk_at dksX0_earliest_0 0 rfl rfl)
theorem dX0_earliest_1 : decode cX0_earliest 1 = .ok (.invokestatic 55, 3) := dk_184 0 55 (dk_at dksX0_earliest_0 1 rfl rfl)
theorem dX0_earliest_4 : decode cX0_earliest 4 = .ok (.ifCond .ne 5, 3) := dk_154 0 5 (dk_at dksX0_earliest_0 4 rfl rfl)
theorem dX0_earliest_7 : decode cX0_earliest 7 = .ok (.iconst (-1), 1) := dk_2 (dk_at dksX0_earliest_0 7 rfl rfl)
theorem dX0_earliest_8 : decode cX0_earliest 8 = .ok (.ireturn, 1) := dk_172 (dk_at dksX0_earliest_0 8 rfl rfl)
theorem dX0_earliest_9 : decode cX0_earliest 9 = .ok (.new 139, 3) := dk_187 0 139 (dk_at dksX0_earliest_0 9 rfl rfl)
theorem dX0_earliest_12 : decode cX0_earliest 12 = .ok (.dup, 1) := dk_89 (dk_at dksX0_earliest_0 12 rfl rfl)
theorem dX0_earliest_13 : decode cX0_earliest 13 = .ok (.aload_n 0, 1) := dk_42 (dk_at dksX0_earliest_0 13 rfl rfl)
theorem dX0_earliest_14 : decode cX0_earliest 14 = .ok (.invokespecial 141, 3) := dk_183 0 141 (dk_at dksX0_earliest_0 14 rfl rfl)
theorem dX0_earliest_17 : decode cX0_earliest 17 = .ok (.astore_n 2, 1) := dk_77 (dk_at dksX0_earliest_0 17 rfl rfl)
theorem dX0_earliest_18 : decode cX0_earliest 18 = .ok (.aload_n 2, 1) := dk_44 (dk_at dksX0_earliest_0 18 rfl rfl)
theorem dX0_earliest_19 : decode cX0_earliest 19 = .ok (.invokevirtual 144, 3) := dk_182 0 144 (dk_at dksX0_earliest_0 19 rfl rfl)
theorem dX0_earliest_22 : decode cX0_earliest 22 = .ok (.istore_n 3, 1) := dk_62 (dk_at dksX0_earliest_0 22 rfl rfl)
theorem dX0_earliest_23 : decode cX0_earliest 23 = .ok (.iload_n 3, 1) := dk_29 (dk_at dksX0_earliest_0 23 rfl rfl)
theorem dX0_earliest_24 : decode cX0_earliest 24 = .ok (.ifCond .eq 5, 3) := dk_153 0 5 (dk_at dksX0_earliest_1 0 rfl rfl)
theorem dX0_earliest_27 : decode cX0_earliest 27 = .ok (.iload_n 3, 1) := dk_29 (dk_at dksX0_earliest_1 3 rfl rfl)
theorem dX0_earliest_28 : decode cX0_earliest 28 = .ok (.ireturn, 1) := dk_172 (dk_at dksX0_earliest_1 4 rfl rfl)
theorem dX0_earliest_29 : decode cX0_earliest 29 = .ok (.aload_n 0, 1) := dk_42 (dk_at dksX0_earliest_1 5 rfl rfl)
theorem dX0_earliest_30 : decode cX0_earliest 30 = .ok (.getfield 16, 3) := dk_180 0 16 (dk_at dksX0_earliest_1 6 rfl rfl)
theorem dX0_earliest_33 : decode cX0_earliest 33 = .ok (.new 53, 3) := dk_187 0 53 (dk_at dksX0_earliest_1 9 rfl rfl)
theorem dX0_earliest_36 : decode cX0_earliest 36 = .ok (.dup, 1) := dk_89 (dk_at dksX0_earliest_1 12 rfl rfl)
theorem dX0_earliest_37 : decode cX0_earliest 37 = .ok (.iload_n 1, 1) := dk_27 (dk_at dksX0_earliest_1 13 rfl rfl)
theorem dX0_earliest_38 : decode cX0_earliest 38 = .ok (.aload_n 2, 1) := dk_44 (dk_at dksX0_earliest_1 14 rfl rfl)
theorem dX0_earliest_39 : decode cX0_earliest 39 = .ok (.invokevirtual 150, 3) := dk_182 0 150 (dk_at dksX0_earliest_1 15 rfl rfl)
theorem dX0_earliest_42 : decode cX0_earliest 42 = .ok (.invokespecial 386, 3) := dk_183 1 130 (dk_at dksX0_earliest_1 18 rfl rfl)
theorem dX0_earliest_45 : decode cX0_earliest 45 = .ok (.aload_n 0, 1) := dk_42 (dk_at dksX0_earliest_1 21 rfl rfl)
theorem dX0_earliest_46 : decode cX0_earliest 46 = .ok (.getfield 16, 3) := dk_180 0 16 (dk_at dksX0_earliest_2 0 rfl rfl)
theorem dX0_earliest_49 : decode cX0_earliest 49 = .ok (.getfield 147, 3) := dk_180 0 147 (dk_at dksX0_earliest_2 3 rfl rfl)
theorem dX0_earliest_52 : decode cX0_earliest 52 = .ok (.aload_n 0, 1) := dk_42 (dk_at dksX0_earliest_2 6 rfl rfl)
theorem dX0_earliest_53 : decode cX0_earliest 53 = .ok (.getfield 16, 3) := dk_180 0 16 (dk_at dksX0_earliest_2 7 rfl rfl)
theorem dX0_earliest_56 : decode cX0_earliest 56 = .ok (.getfield 147, 3) := dk_180 0 147 (dk_at dksX0_earliest_2 10 rfl rfl)
theorem dX0_earliest_59 : decode cX0_earliest 59 = .ok (.sipush 20000, 3) := dk_17 78 32 (dk_at dksX0_earliest_2 13 rfl rfl)
theorem dX0_earliest_62 : decode cX0_earliest 62 = .ok (.iadd, 1) := dk_96 (dk_at dksX0_earliest_2 16 rfl rfl)
theorem dX0_earliest_63 : decode cX0_earliest 63 = .ok (.invokevirtual 389, 3) := dk_182 1 133 (dk_at dksX0_earliest_2 17 rfl rfl)
theorem dX0_earliest_66 : decode cX0_earliest 66 = .ok (.ireturn, 1) := dk_172 (dk_at dksX0_earliest_2 20 rfl rfl)
abbrev cX0_holes : ByteArray := prog_1_method_49_code
def dkwX0_holes_5 : List UInt8 := [182, 1, 219, 172]
abbrev dktX0_holes_5 : List UInt8 := dkwX0_holes_5 ++ []
def dkwX0_holes_4 : List UInt8 := [132, 6, 1, 167, 255, 208, 29, 154, 0, 8, 21, 5, 167, 0, 15, 187, 1, 214, 89, 25, 4, 183, 1, 216]
abbrev dktX0_holes_4 : List UInt8 := dkwX0_holes_4 ++ dktX0_holes_5
def dkwX0_holes_3 : List UInt8 := [184, 1, 210, 84, 21, 5, 25, 4, 21, 6, 51, 153, 0, 7, 4, 167, 0, 4, 3, 96, 54, 5]
abbrev dktX0_holes_3 : List UInt8 := dkwX0_holes_3 ++ dktX0_holes_4
def dkwX0_holes_2 : List UInt8 := [21, 6, 16, 16, 162, 0, 47, 25, 4, 21, 6, 42, 180, 0, 16, 180, 1, 85, 21, 6, 50, 27, 28]
abbrev dktX0_holes_2 : List UInt8 := dkwX0_holes_2 ++ dktX0_holes_3
def dkwX0_holes_1 : List UInt8 := [133, 9, 10, 184, 0, 25, 154, 0, 5, 2, 172, 16, 16, 188, 4, 58, 4, 3, 54, 5, 3, 54, 6]
abbrev dktX0_holes_1 : List UInt8 := dkwX0_holes_1 ++ dktX0_holes_2
def dkwX0_holes_0 : List UInt8 := [27, 42, 180, 0, 16, 180, 0, 147, 161, 0, 25, 28, 133, 10, 20, 1, 208, 184, 0, 25, 153, 0, 13, 29]
abbrev dktX0_holes_0 : List UInt8 := dkwX0_holes_0 ++ dktX0_holes_1
theorem dksX0_holes_0 : cX0_holes.data.toList.drop 0 = dktX0_holes_0 := by decide +kernel
theorem dksX0_holes_1 : cX0_holes.data.toList.drop 24 = dktX0_holes_1 := dk_seg dksX0_holes_0 24 rfl rfl
theorem dksX0_holes_2 : cX0_holes.data.toList.drop 47 = dktX0_holes_2 := dk_seg dksX0_holes_1 23 rfl rfl
theorem dksX0_holes_3 : cX0_holes.data.toList.drop 70 = dktX0_holes_3 := dk_seg dksX0_holes_2 23 rfl rfl
theorem dksX0_holes_4 : cX0_holes.data.toList.drop 92 = dktX0_holes_4 := dk_seg dksX0_holes_3 22 rfl rfl
theorem dksX0_holes_5 : cX0_holes.data.toList.drop 116 = dktX0_holes_5 := dk_seg dksX0_holes_4 24 rfl rfl
theorem dX0_holes_0 : decode cX0_holes 0 = .ok (.iload_n 1, 1) := dk_27 (dk_at dksX0_holes_0 0 rfl rfl)
theorem dX0_holes_1 : decode cX0_holes 1 = .ok (.aload_n 0, 1) := dk_42 (dk_at dksX0_holes_0 1 rfl rfl)
theorem dX0_holes_2 : decode cX0_holes 2 = .ok (.getfield 16, 3) := dk_180 0 16 (dk_at dksX0_holes_0 2 rfl rfl)
theorem dX0_holes_5 : decode cX0_holes 5 = .ok (.getfield 147, 3) := dk_180 0 147 (dk_at dksX0_holes_0 5 rfl rfl)
theorem dX0_holes_8 : decode cX0_holes 8 = .ok (.if_icmp .lt 25, 3) := dk_161 0 25 (dk_at dksX0_holes_0 8 rfl rfl)
theorem dX0_holes_11 : decode cX0_holes 11 = .ok (.iload_n 2, 1) := dk_28 (dk_at dksX0_holes_0 11 rfl rfl)
theorem dX0_holes_12 : decode cX0_holes 12 = .ok (.i2l, 1) := dk_133 (dk_at dksX0_holes_0 12 rfl rfl)
theorem dX0_holes_13 : decode cX0_holes 13 = .ok (.lconst 1, 1) := dk_10 (dk_at dksX0_holes_0 13 rfl rfl)
theorem dX0_holes_14 : decode cX0_holes 14 = .ok (.ldc2_w 464, 3) := dk_20 1 208 (dk_at dksX0_holes_0 14 rfl rfl)
theorem dX0_holes_17 : decode cX0_holes 17 = .ok (.invokestatic 25, 3) := dk_184 0 25 (dk_at dksX0_holes_0 17 rfl rfl)
theorem dX0_holes_20 : decode cX0_holes 20 = .ok (.ifCond .eq 13, 3) := dk_153 0 13 (dk_at dksX0_holes_0 20 rfl rfl)
theorem dX0_holes_23 : decode cX0_holes 23 = .ok (.iload_n 3, 1) := dk_29 (dk_at dksX0_holes_0 23 rfl rfl)
theorem dX0_holes_24 : decode cX0_holes 24 = .ok (.i2l, 1) := dk_133 (dk_at dksX0_holes_1 0 rfl rfl)
theorem dX0_holes_25 : decode cX0_holes 25 = .ok (.lconst 0, 1) := dk_9 (dk_at dksX0_holes_1 1 rfl rfl)
theorem dX0_holes_26 : decode cX0_holes 26 = .ok (.lconst 1, 1) := dk_10 (dk_at dksX0_holes_1 2 rfl rfl)
theorem dX0_holes_27 : decode cX0_holes 27 = .ok (.invokestatic 25, 3) := dk_184 0 25 (dk_at dksX0_holes_1 3 rfl rfl)
theorem dX0_holes_30 : decode cX0_holes 30 = .ok (.ifCond .ne 5, 3) := dk_154 0 5 (dk_at dksX0_holes_1 6 rfl rfl)
theorem dX0_holes_33 : decode cX0_holes 33 = .ok (.iconst (-1), 1) := dk_2 (dk_at dksX0_holes_1 9 rfl rfl)
theorem dX0_holes_34 : decode cX0_holes 34 = .ok (.ireturn, 1) := dk_172 (dk_at dksX0_holes_1 10 rfl rfl)
theorem dX0_holes_35 : decode cX0_holes 35 = .ok (.bipush 16, 2) := dk_16 16 (dk_at dksX0_holes_1 11 rfl rfl)
theorem dX0_holes_37 : decode cX0_holes 37 = .ok (.newarray .boolean, 2) := dk_188_4 (dk_at dksX0_holes_1 13 rfl rfl)
theorem dX0_holes_39 : decode cX0_holes 39 = .ok (.astore 4, 2) := dk_58 4 (dk_at dksX0_holes_1 15 rfl rfl)
theorem dX0_holes_41 : decode cX0_holes 41 = .ok (.iconst 0, 1) := dk_3 (dk_at dksX0_holes_1 17 rfl rfl)
theorem dX0_holes_42 : decode cX0_holes 42 = .ok (.istore 5, 2) := dk_54 5 (dk_at dksX0_holes_1 18 rfl rfl)
theorem dX0_holes_44 : decode cX0_holes 44 = .ok (.iconst 0, 1) := dk_3 (dk_at dksX0_holes_1 20 rfl rfl)
theorem dX0_holes_45 : decode cX0_holes 45 = .ok (.istore 6, 2) := dk_54 6 (dk_at dksX0_holes_1 21 rfl rfl)
theorem dX0_holes_47 : decode cX0_holes 47 = .ok (.iload 6, 2) := dk_21 6 (dk_at dksX0_holes_2 0 rfl rfl)
theorem dX0_holes_49 : decode cX0_holes 49 = .ok (.bipush 16, 2) := dk_16 16 (dk_at dksX0_holes_2 2 rfl rfl)
theorem dX0_holes_51 : decode cX0_holes 51 = .ok (.if_icmp .ge 47, 3) := dk_162 0 47 (dk_at dksX0_holes_2 4 rfl rfl)
theorem dX0_holes_54 : decode cX0_holes 54 = .ok (.aload 4, 2) := dk_25 4 (dk_at dksX0_holes_2 7 rfl rfl)
theorem dX0_holes_56 : decode cX0_holes 56 = .ok (.iload 6, 2) := dk_21 6 (dk_at dksX0_holes_2 9 rfl rfl)
theorem dX0_holes_58 : decode cX0_holes 58 = .ok (.aload_n 0, 1) := dk_42 (dk_at dksX0_holes_2 11 rfl rfl)
theorem dX0_holes_59 : decode cX0_holes 59 = .ok (.getfield 16, 3) := dk_180 0 16 (dk_at dksX0_holes_2 12 rfl rfl)
theorem dX0_holes_62 : decode cX0_holes 62 = .ok (.getfield 341, 3) := dk_180 1 85 (dk_at dksX0_holes_2 15 rfl rfl)
theorem dX0_holes_65 : decode cX0_holes 65 = .ok (.iload 6, 2) := dk_21 6 (dk_at dksX0_holes_2 18 rfl rfl)
theorem dX0_holes_67 : decode cX0_holes 67 = .ok (.aaload, 1) := dk_50 (dk_at dksX0_holes_2 20 rfl rfl)
theorem dX0_holes_68 : decode cX0_holes 68 = .ok (.iload_n 1, 1) := dk_27 (dk_at dksX0_holes_2 21 rfl rfl)
theorem dX0_holes_69 : decode cX0_holes 69 = .ok (.iload_n 2, 1) := dk_28 (dk_at dksX0_holes_2 22 rfl rfl)
theorem dX0_holes_70 : decode cX0_holes 70 = .ok (.invokestatic 466, 3) := dk_184 1 210 (dk_at dksX0_holes_3 0 rfl rfl)
theorem dX0_holes_73 : decode cX0_holes 73 = .ok (.bastore, 1) := dk_84 (dk_at dksX0_holes_3 3 rfl rfl)
theorem dX0_holes_74 : decode cX0_holes 74 = .ok (.iload 5, 2) := dk_21 5 (dk_at dksX0_holes_3 4 rfl rfl)
theorem dX0_holes_76 : decode cX0_holes 76 = .ok (.aload 4, 2) := dk_25 4 (dk_at dksX0_holes_3 6 rfl rfl)
theorem dX0_holes_78 : decode cX0_holes 78 = .ok (.iload 6, 2) := dk_21 6 (dk_at dksX0_holes_3 8 rfl rfl)
theorem dX0_holes_80 : decode cX0_holes 80 = .ok (.baload, 1) := dk_51 (dk_at dksX0_holes_3 10 rfl rfl)
theorem dX0_holes_81 : decode cX0_holes 81 = .ok (.ifCond .eq 7, 3) := dk_153 0 7 (dk_at dksX0_holes_3 11 rfl rfl)
theorem dX0_holes_84 : decode cX0_holes 84 = .ok (.iconst 1, 1) := dk_4 (dk_at dksX0_holes_3 14 rfl rfl)
theorem dX0_holes_85 : decode cX0_holes 85 = .ok (.goto 4, 3) := dk_167 0 4 (dk_at dksX0_holes_3 15 rfl rfl)
theorem dX0_holes_88 : decode cX0_holes 88 = .ok (.iconst 0, 1) := dk_3 (dk_at dksX0_holes_3 18 rfl rfl)
theorem dX0_holes_89 : decode cX0_holes 89 = .ok (.iadd, 1) := dk_96 (dk_at dksX0_holes_3 19 rfl rfl)
theorem dX0_holes_90 : decode cX0_holes 90 = .ok (.istore 5, 2) := dk_54 5 (dk_at dksX0_holes_3 20 rfl rfl)
theorem dX0_holes_92 : decode cX0_holes 92 = .ok (.iinc 6 1, 3) := dk_132 6 1 (dk_at dksX0_holes_4 0 rfl rfl)
theorem dX0_holes_95 : decode cX0_holes 95 = .ok (.goto (-48), 3) := dk_167 255 208 (dk_at dksX0_holes_4 3 rfl rfl)
theorem dX0_holes_98 : decode cX0_holes 98 = .ok (.iload_n 3, 1) := dk_29 (dk_at dksX0_holes_4 6 rfl rfl)
theorem dX0_holes_99 : decode cX0_holes 99 = .ok (.ifCond .ne 8, 3) := dk_154 0 8 (dk_at dksX0_holes_4 7 rfl rfl)
theorem dX0_holes_102 : decode cX0_holes 102 = .ok (.iload 5, 2) := dk_21 5 (dk_at dksX0_holes_4 10 rfl rfl)
theorem dX0_holes_104 : decode cX0_holes 104 = .ok (.goto 15, 3) := dk_167 0 15 (dk_at dksX0_holes_4 12 rfl rfl)
theorem dX0_holes_107 : decode cX0_holes 107 = .ok (.new 470, 3) := dk_187 1 214 (dk_at dksX0_holes_4 15 rfl rfl)
theorem dX0_holes_110 : decode cX0_holes 110 = .ok (.dup, 1) := dk_89 (dk_at dksX0_holes_4 18 rfl rfl)
theorem dX0_holes_111 : decode cX0_holes 111 = .ok (.aload 4, 2) := dk_25 4 (dk_at dksX0_holes_4 19 rfl rfl)
theorem dX0_holes_113 : decode cX0_holes 113 = .ok (.invokespecial 472, 3) := dk_183 1 216 (dk_at dksX0_holes_4 21 rfl rfl)
theorem dX0_holes_116 : decode cX0_holes 116 = .ok (.invokevirtual 475, 3) := dk_182 1 219 (dk_at dksX0_holes_5 0 rfl rfl)
theorem dX0_holes_119 : decode cX0_holes 119 = .ok (.ireturn, 1) := dk_172 (dk_at dksX0_holes_5 3 rfl rfl)
abbrev cX0_led : ByteArray := prog_1_method_51_code
def dkwX0_led_1 : List UInt8 := [20, 0, 126, 173]
abbrev dktX0_led_1 : List UInt8 := dkwX0_led_1 ++ []
def dkwX0_led_0 : List UInt8 := [27, 133, 9, 20, 0, 23, 184, 0, 25, 153, 0, 15, 42, 180, 0, 16, 180, 1, 222, 27, 47, 167, 0, 6]
abbrev dktX0_led_0 : List UInt8 := dkwX0_led_0 ++ dktX0_led_1
theorem dksX0_led_0 : cX0_led.data.toList.drop 0 = dktX0_led_0 := by decide +kernel
theorem dksX0_led_1 : cX0_led.data.toList.drop 24 = dktX0_led_1 := dk_seg dksX0_led_0 24 rfl rfl
theorem dX0_led_0 : decode cX0_led 0 = .ok (.iload_n 1, 1) := dk_27 (dk_at dksX0_led_0 0 rfl rfl)
theorem dX0_led_1 : decode cX0_led 1 = .ok (.i2l, 1) := dk_133 (dk_at dksX0_led_0 1 rfl rfl)
theorem dX0_led_2 : decode cX0_led 2 = .ok (.lconst 0, 1) := dk_9 (dk_at dksX0_led_0 2 rfl rfl)
theorem dX0_led_3 : decode cX0_led 3 = .ok (.ldc2_w 23, 3) := dk_20 0 23 (dk_at dksX0_led_0 3 rfl rfl)
theorem dX0_led_6 : decode cX0_led 6 = .ok (.invokestatic 25, 3) := dk_184 0 25 (dk_at dksX0_led_0 6 rfl rfl)
theorem dX0_led_9 : decode cX0_led 9 = .ok (.ifCond .eq 15, 3) := dk_153 0 15 (dk_at dksX0_led_0 9 rfl rfl)
theorem dX0_led_12 : decode cX0_led 12 = .ok (.aload_n 0, 1) := dk_42 (dk_at dksX0_led_0 12 rfl rfl)
theorem dX0_led_13 : decode cX0_led 13 = .ok (.getfield 16, 3) := dk_180 0 16 (dk_at dksX0_led_0 13 rfl rfl)
theorem dX0_led_16 : decode cX0_led 16 = .ok (.getfield 478, 3) := dk_180 1 222 (dk_at dksX0_led_0 16 rfl rfl)
theorem dX0_led_19 : decode cX0_led 19 = .ok (.iload_n 1, 1) := dk_27 (dk_at dksX0_led_0 19 rfl rfl)
theorem dX0_led_20 : decode cX0_led 20 = .ok (.laload, 1) := dk_47 (dk_at dksX0_led_0 20 rfl rfl)
theorem dX0_led_21 : decode cX0_led 21 = .ok (.goto 6, 3) := dk_167 0 6 (dk_at dksX0_led_0 21 rfl rfl)
theorem dX0_led_24 : decode cX0_led 24 = .ok (.ldc2_w 126, 3) := dk_20 0 126 (dk_at dksX0_led_1 0 rfl rfl)
theorem dX0_led_27 : decode cX0_led 27 = .ok (.lreturn, 1) := dk_173 (dk_at dksX0_led_1 3 rfl rfl)
abbrev cX0_chart : ByteArray := prog_1_method_52_code
def dkwX0_chart_2 : List UInt8 := [180, 0, 16, 180, 0, 147, 28, 100, 4, 96, 16, 64, 112, 46, 172]
abbrev dktX0_chart_2 : List UInt8 := dkwX0_chart_2 ++ []
def dkwX0_chart_1 : List UInt8 := [180, 0, 16, 180, 0, 147, 164, 0, 8, 16, 254, 167, 0, 27, 42, 180, 0, 16, 180, 1, 227, 27, 50, 42]
abbrev dktX0_chart_1 : List UInt8 := dkwX0_chart_1 ++ dktX0_chart_2
def dkwX0_chart_0 : List UInt8 := [27, 184, 1, 17, 153, 0, 15, 28, 133, 10, 20, 1, 225, 184, 0, 25, 154, 0, 5, 2, 172, 28, 42]
abbrev dktX0_chart_0 : List UInt8 := dkwX0_chart_0 ++ dktX0_chart_1
theorem dksX0_chart_0 : cX0_chart.data.toList.drop 0 = dktX0_chart_0 := by decide +kernel
theorem dksX0_chart_1 : cX0_chart.data.toList.drop 23 = dktX0_chart_1 := dk_seg dksX0_chart_0 23 rfl rfl
theorem dksX0_chart_2 : cX0_chart.data.toList.drop 47 = dktX0_chart_2 := dk_seg dksX0_chart_1 24 rfl rfl
theorem dX0_chart_0 : decode cX0_chart 0 = .ok (.iload_n 1, 1) := dk_27 (dk_at dksX0_chart_0 0 rfl rfl)
theorem dX0_chart_1 : decode cX0_chart 1 = .ok (.invokestatic 273, 3) := dk_184 1 17 (dk_at dksX0_chart_0 1 rfl rfl)
theorem dX0_chart_4 : decode cX0_chart 4 = .ok (.ifCond .eq 15, 3) := dk_153 0 15 (dk_at dksX0_chart_0 4 rfl rfl)
theorem dX0_chart_7 : decode cX0_chart 7 = .ok (.iload_n 2, 1) := dk_28 (dk_at dksX0_chart_0 7 rfl rfl)
theorem dX0_chart_8 : decode cX0_chart 8 = .ok (.i2l, 1) := dk_133 (dk_at dksX0_chart_0 8 rfl rfl)
theorem dX0_chart_9 : decode cX0_chart 9 = .ok (.lconst 1, 1) := dk_10 (dk_at dksX0_chart_0 9 rfl rfl)
theorem dX0_chart_10 : decode cX0_chart 10 = .ok (.ldc2_w 481, 3) := dk_20 1 225 (dk_at dksX0_chart_0 10 rfl rfl)
theorem dX0_chart_13 : decode cX0_chart 13 = .ok (.invokestatic 25, 3) := dk_184 0 25 (dk_at dksX0_chart_0 13 rfl rfl)
theorem dX0_chart_16 : decode cX0_chart 16 = .ok (.ifCond .ne 5, 3) := dk_154 0 5 (dk_at dksX0_chart_0 16 rfl rfl)
theorem dX0_chart_19 : decode cX0_chart 19 = .ok (.iconst (-1), 1) := dk_2 (dk_at dksX0_chart_0 19 rfl rfl)
theorem dX0_chart_20 : decode cX0_chart 20 = .ok (.ireturn, 1) := dk_172 (dk_at dksX0_chart_0 20 rfl rfl)
theorem dX0_chart_21 : decode cX0_chart 21 = .ok (.iload_n 2, 1) := dk_28 (dk_at dksX0_chart_0 21 rfl rfl)
theorem dX0_chart_22 : decode cX0_chart 22 = .ok (.aload_n 0, 1) := dk_42 (dk_at dksX0_chart_0 22 rfl rfl)
theorem dX0_chart_23 : decode cX0_chart 23 = .ok (.getfield 16, 3) := dk_180 0 16 (dk_at dksX0_chart_1 0 rfl rfl)
theorem dX0_chart_26 : decode cX0_chart 26 = .ok (.getfield 147, 3) := dk_180 0 147 (dk_at dksX0_chart_1 3 rfl rfl)
theorem dX0_chart_29 : decode cX0_chart 29 = .ok (.if_icmp .le 8, 3) := dk_164 0 8 (dk_at dksX0_chart_1 6 rfl rfl)
theorem dX0_chart_32 : decode cX0_chart 32 = .ok (.bipush (-2), 2) := dk_16 254 (dk_at dksX0_chart_1 9 rfl rfl)
theorem dX0_chart_34 : decode cX0_chart 34 = .ok (.goto 27, 3) := dk_167 0 27 (dk_at dksX0_chart_1 11 rfl rfl)
theorem dX0_chart_37 : decode cX0_chart 37 = .ok (.aload_n 0, 1) := dk_42 (dk_at dksX0_chart_1 14 rfl rfl)
theorem dX0_chart_38 : decode cX0_chart 38 = .ok (.getfield 16, 3) := dk_180 0 16 (dk_at dksX0_chart_1 15 rfl rfl)
theorem dX0_chart_41 : decode cX0_chart 41 = .ok (.getfield 483, 3) := dk_180 1 227 (dk_at dksX0_chart_1 18 rfl rfl)
theorem dX0_chart_44 : decode cX0_chart 44 = .ok (.iload_n 1, 1) := dk_27 (dk_at dksX0_chart_1 21 rfl rfl)
theorem dX0_chart_45 : decode cX0_chart 45 = .ok (.aaload, 1) := dk_50 (dk_at dksX0_chart_1 22 rfl rfl)
theorem dX0_chart_46 : decode cX0_chart 46 = .ok (.aload_n 0, 1) := dk_42 (dk_at dksX0_chart_1 23 rfl rfl)
theorem dX0_chart_47 : decode cX0_chart 47 = .ok (.getfield 16, 3) := dk_180 0 16 (dk_at dksX0_chart_2 0 rfl rfl)
theorem dX0_chart_50 : decode cX0_chart 50 = .ok (.getfield 147, 3) := dk_180 0 147 (dk_at dksX0_chart_2 3 rfl rfl)
theorem dX0_chart_53 : decode cX0_chart 53 = .ok (.iload_n 2, 1) := dk_28 (dk_at dksX0_chart_2 6 rfl rfl)
theorem dX0_chart_54 : decode cX0_chart 54 = .ok (.isub, 1) := dk_100 (dk_at dksX0_chart_2 7 rfl rfl)
theorem dX0_chart_55 : decode cX0_chart 55 = .ok (.iconst 1, 1) := dk_4 (dk_at dksX0_chart_2 8 rfl rfl)
theorem dX0_chart_56 : decode cX0_chart 56 = .ok (.iadd, 1) := dk_96 (dk_at dksX0_chart_2 9 rfl rfl)
theorem dX0_chart_57 : decode cX0_chart 57 = .ok (.bipush 64, 2) := dk_16 64 (dk_at dksX0_chart_2 10 rfl rfl)
theorem dX0_chart_59 : decode cX0_chart 59 = .ok (.irem, 1) := dk_112 (dk_at dksX0_chart_2 12 rfl rfl)
theorem dX0_chart_60 : decode cX0_chart 60 = .ok (.iaload, 1) := dk_46 (dk_at dksX0_chart_2 13 rfl rfl)
theorem dX0_chart_61 : decode cX0_chart 61 = .ok (.ireturn, 1) := dk_172 (dk_at dksX0_chart_2 14 rfl rfl)
abbrev cX0_event : ByteArray := prog_1_method_53_code
def dkwX0_event_2 : List UInt8 := [182, 1, 234, 167, 0, 5, 16, 254, 172]
abbrev dktX0_event_2 : List UInt8 := dkwX0_event_2 ++ []
def dkwX0_event_1 : List UInt8 := [180, 1, 231, 182, 0, 43, 162, 0, 24, 42, 180, 0, 16, 180, 1, 231, 27, 182, 0, 49, 192, 0, 161, 28]
abbrev dktX0_event_1 : List UInt8 := dkwX0_event_1 ++ dktX0_event_2
def dkwX0_event_0 : List UInt8 := [27, 155, 0, 15, 28, 133, 9, 20, 1, 137, 184, 0, 25, 154, 0, 5, 2, 172, 27, 42, 180, 0, 16]
abbrev dktX0_event_0 : List UInt8 := dkwX0_event_0 ++ dktX0_event_1
theorem dksX0_event_0 : cX0_event.data.toList.drop 0 = dktX0_event_0 := by decide +kernel
theorem dksX0_event_1 : cX0_event.data.toList.drop 23 = dktX0_event_1 := dk_seg dksX0_event_0 23 rfl rfl
theorem dksX0_event_2 : cX0_event.data.toList.drop 47 = dktX0_event_2 := dk_seg dksX0_event_1 24 rfl rfl
theorem dX0_event_0 : decode cX0_event 0 = .ok (.iload_n 1, 1) := dk_27 (dk_at dksX0_event_0 0 rfl rfl)
theorem dX0_event_1 : decode cX0_event 1 = .ok (.ifCond .lt 15, 3) := dk_155 0 15 (dk_at dksX0_event_0 1 rfl rfl)
theorem dX0_event_4 : decode cX0_event 4 = .ok (.iload_n 2, 1) := dk_28 (dk_at dksX0_event_0 4 rfl rfl)
theorem dX0_event_5 : decode cX0_event 5 = .ok (.i2l, 1) := dk_133 (dk_at dksX0_event_0 5 rfl rfl)
theorem dX0_event_6 : decode cX0_event 6 = .ok (.lconst 0, 1) := dk_9 (dk_at dksX0_event_0 6 rfl rfl)
theorem dX0_event_7 : decode cX0_event 7 = .ok (.ldc2_w 393, 3) := dk_20 1 137 (dk_at dksX0_event_0 7 rfl rfl)
theorem dX0_event_10 : decode cX0_event 10 = .ok (.invokestatic 25, 3) := dk_184 0 25 (dk_at dksX0_event_0 10 rfl rfl)
theorem dX0_event_13 : decode cX0_event 13 = .ok (.ifCond .ne 5, 3) := dk_154 0 5 (dk_at dksX0_event_0 13 rfl rfl)
theorem dX0_event_16 : decode cX0_event 16 = .ok (.iconst (-1), 1) := dk_2 (dk_at dksX0_event_0 16 rfl rfl)
theorem dX0_event_17 : decode cX0_event 17 = .ok (.ireturn, 1) := dk_172 (dk_at dksX0_event_0 17 rfl rfl)
theorem dX0_event_18 : decode cX0_event 18 = .ok (.iload_n 1, 1) := dk_27 (dk_at dksX0_event_0 18 rfl rfl)
theorem dX0_event_19 : decode cX0_event 19 = .ok (.aload_n 0, 1) := dk_42 (dk_at dksX0_event_0 19 rfl rfl)
theorem dX0_event_20 : decode cX0_event 20 = .ok (.getfield 16, 3) := dk_180 0 16 (dk_at dksX0_event_0 20 rfl rfl)
theorem dX0_event_23 : decode cX0_event 23 = .ok (.getfield 487, 3) := dk_180 1 231 (dk_at dksX0_event_1 0 rfl rfl)
theorem dX0_event_26 : decode cX0_event 26 = .ok (.invokevirtual 43, 3) := dk_182 0 43 (dk_at dksX0_event_1 3 rfl rfl)
theorem dX0_event_29 : decode cX0_event 29 = .ok (.if_icmp .ge 24, 3) := dk_162 0 24 (dk_at dksX0_event_1 6 rfl rfl)
theorem dX0_event_32 : decode cX0_event 32 = .ok (.aload_n 0, 1) := dk_42 (dk_at dksX0_event_1 9 rfl rfl)
theorem dX0_event_33 : decode cX0_event 33 = .ok (.getfield 16, 3) := dk_180 0 16 (dk_at dksX0_event_1 10 rfl rfl)
theorem dX0_event_36 : decode cX0_event 36 = .ok (.getfield 487, 3) := dk_180 1 231 (dk_at dksX0_event_1 13 rfl rfl)
theorem dX0_event_39 : decode cX0_event 39 = .ok (.iload_n 1, 1) := dk_27 (dk_at dksX0_event_1 16 rfl rfl)
theorem dX0_event_40 : decode cX0_event 40 = .ok (.invokevirtual 49, 3) := dk_182 0 49 (dk_at dksX0_event_1 17 rfl rfl)
theorem dX0_event_43 : decode cX0_event 43 = .ok (.checkcast 161, 3) := dk_192 0 161 (dk_at dksX0_event_1 20 rfl rfl)
theorem dX0_event_46 : decode cX0_event 46 = .ok (.iload_n 2, 1) := dk_28 (dk_at dksX0_event_1 23 rfl rfl)
theorem dX0_event_47 : decode cX0_event 47 = .ok (.invokevirtual 490, 3) := dk_182 1 234 (dk_at dksX0_event_2 0 rfl rfl)
theorem dX0_event_50 : decode cX0_event 50 = .ok (.goto 5, 3) := dk_167 0 5 (dk_at dksX0_event_2 3 rfl rfl)
theorem dX0_event_53 : decode cX0_event 53 = .ok (.bipush (-2), 2) := dk_16 254 (dk_at dksX0_event_2 6 rfl rfl)
theorem dX0_event_55 : decode cX0_event 55 = .ok (.ireturn, 1) := dk_172 (dk_at dksX0_event_2 8 rfl rfl)
abbrev cX0_started : ByteArray := prog_1_method_54_code
def dkwX0_started_0 : List UInt8 := [27, 156, 0, 7, 2, 167, 0, 14, 42, 180, 0, 16, 180, 1, 237, 27, 184, 0, 245, 172]
abbrev dktX0_started_0 : List UInt8 := dkwX0_started_0 ++ []
theorem dksX0_started_0 : cX0_started.data.toList.drop 0 = dktX0_started_0 := by decide +kernel
theorem dX0_started_0 : decode cX0_started 0 = .ok (.iload_n 1, 1) := dk_27 (dk_at dksX0_started_0 0 rfl rfl)
theorem dX0_started_1 : decode cX0_started 1 = .ok (.ifCond .ge 7, 3) := dk_156 0 7 (dk_at dksX0_started_0 1 rfl rfl)
theorem dX0_started_4 : decode cX0_started 4 = .ok (.iconst (-1), 1) := dk_2 (dk_at dksX0_started_0 4 rfl rfl)
theorem dX0_started_5 : decode cX0_started 5 = .ok (.goto 14, 3) := dk_167 0 14 (dk_at dksX0_started_0 5 rfl rfl)
theorem dX0_started_8 : decode cX0_started 8 = .ok (.aload_n 0, 1) := dk_42 (dk_at dksX0_started_0 8 rfl rfl)
theorem dX0_started_9 : decode cX0_started 9 = .ok (.getfield 16, 3) := dk_180 0 16 (dk_at dksX0_started_0 9 rfl rfl)
theorem dX0_started_12 : decode cX0_started 12 = .ok (.getfield 493, 3) := dk_180 1 237 (dk_at dksX0_started_0 12 rfl rfl)
theorem dX0_started_15 : decode cX0_started 15 = .ok (.iload_n 1, 1) := dk_27 (dk_at dksX0_started_0 15 rfl rfl)
theorem dX0_started_16 : decode cX0_started 16 = .ok (.invokestatic 245, 3) := dk_184 0 245 (dk_at dksX0_started_0 16 rfl rfl)
theorem dX0_started_19 : decode cX0_started 19 = .ok (.ireturn, 1) := dk_172 (dk_at dksX0_started_0 19 rfl rfl)
abbrev cX0_image : ByteArray := prog_1_method_55_code
def dkwX0_image_0 : List UInt8 := [42, 42, 180, 0, 16, 182, 1, 240, 181, 0, 20, 42, 180, 0, 16, 180, 0, 147, 172]
abbrev dktX0_image_0 : List UInt8 := dkwX0_image_0 ++ []
theorem dksX0_image_0 : cX0_image.data.toList.drop 0 = dktX0_image_0 := by decide +kernel
theorem dX0_image_0 : decode cX0_image 0 = .ok (.aload_n 0, 1) := dk_42 (dk_at dksX0_image_0 0 rfl rfl)
theorem dX0_image_1 : decode cX0_image 1 = .ok (.aload_n 0, 1) := dk_42 (dk_at dksX0_image_0 1 rfl rfl)
theorem dX0_image_2 : decode cX0_image 2 = .ok (.getfield 16, 3) := dk_180 0 16 (dk_at dksX0_image_0 2 rfl rfl)
theorem dX0_image_5 : decode cX0_image 5 = .ok (.invokevirtual 496, 3) := dk_182 1 240 (dk_at dksX0_image_0 5 rfl rfl)
theorem dX0_image_8 : decode cX0_image 8 = .ok (.putfield 20, 3) := dk_181 0 20 (dk_at dksX0_image_0 8 rfl rfl)
theorem dX0_image_11 : decode cX0_image 11 = .ok (.aload_n 0, 1) := dk_42 (dk_at dksX0_image_0 11 rfl rfl)
theorem dX0_image_12 : decode cX0_image 12 = .ok (.getfield 16, 3) := dk_180 0 16 (dk_at dksX0_image_0 12 rfl rfl)
theorem dX0_image_15 : decode cX0_image 15 = .ok (.getfield 147, 3) := dk_180 0 147 (dk_at dksX0_image_0 15 rfl rfl)
theorem dX0_image_18 : decode cX0_image 18 = .ok (.ireturn, 1) := dk_172 (dk_at dksX0_image_0 18 rfl rfl)
abbrev cX0_back : ByteArray := prog_1_method_56_code
def dkwX0_back_0 : List UInt8 := [42, 42, 180, 0, 20, 182, 1, 240, 181, 0, 16, 42, 180, 0, 16, 180, 0, 147, 172]
abbrev dktX0_back_0 : List UInt8 := dkwX0_back_0 ++ []
theorem dksX0_back_0 : cX0_back.data.toList.drop 0 = dktX0_back_0 := by decide +kernel
theorem dX0_back_0 : decode cX0_back 0 = .ok (.aload_n 0, 1) := dk_42 (dk_at dksX0_back_0 0 rfl rfl)
theorem dX0_back_1 : decode cX0_back 1 = .ok (.aload_n 0, 1) := dk_42 (dk_at dksX0_back_0 1 rfl rfl)
theorem dX0_back_2 : decode cX0_back 2 = .ok (.getfield 20, 3) := dk_180 0 20 (dk_at dksX0_back_0 2 rfl rfl)
theorem dX0_back_5 : decode cX0_back 5 = .ok (.invokevirtual 496, 3) := dk_182 1 240 (dk_at dksX0_back_0 5 rfl rfl)
theorem dX0_back_8 : decode cX0_back 8 = .ok (.putfield 16, 3) := dk_181 0 16 (dk_at dksX0_back_0 8 rfl rfl)
theorem dX0_back_11 : decode cX0_back 11 = .ok (.aload_n 0, 1) := dk_42 (dk_at dksX0_back_0 11 rfl rfl)
theorem dX0_back_12 : decode cX0_back 12 = .ok (.getfield 16, 3) := dk_180 0 16 (dk_at dksX0_back_0 12 rfl rfl)
theorem dX0_back_15 : decode cX0_back 15 = .ok (.getfield 147, 3) := dk_180 0 147 (dk_at dksX0_back_0 15 rfl rfl)
theorem dX0_back_18 : decode cX0_back 18 = .ok (.ireturn, 1) := dk_172 (dk_at dksX0_back_0 18 rfl rfl)
abbrev cX0_count : ByteArray := prog_1_method_57_code
def dkwX0_count_5 : List UInt8 := [2, 172]
abbrev dktX0_count_5 : List UInt8 := dkwX0_count_5 ++ []
def dkwX0_count_4 : List UInt8 := [42, 180, 0, 35, 172, 42, 180, 0, 16, 180, 0, 205, 180, 1, 250, 172, 42, 180, 0, 16, 180, 0, 147, 172]
abbrev dktX0_count_4 : List UInt8 := dkwX0_count_4 ++ dktX0_count_5
def dkwX0_count_3 : List UInt8 := [4, 182, 1, 244, 172, 42, 180, 0, 16, 180, 1, 41, 182, 1, 45, 172, 42, 180, 0, 16, 182, 1, 247, 172]
abbrev dktX0_count_3 : List UInt8 := dkwX0_count_3 ++ dktX0_count_4
def dkwX0_count_2 : List UInt8 := [42, 180, 0, 16, 180, 0, 39, 182, 0, 43, 172, 42, 180, 0, 16, 3, 182, 1, 244, 172, 42, 180, 0, 16]
abbrev dktX0_count_2 : List UInt8 := dkwX0_count_2 ++ dktX0_count_3
def dkwX0_count_1 : List UInt8 := [170, 0, 0, 0, 0, 0, 119, 0, 0, 0, 0, 0, 0, 0, 7, 0, 0, 0, 47, 0, 0, 0, 58, 0, 0, 0, 67, 0, 0, 0, 76, 0, 0, 0, 87, 0, 0, 0, 95, 0, 0, 0, 100, 0, 0, 0, 111]
abbrev dktX0_count_1 : List UInt8 := dkwX0_count_1 ++ dktX0_count_2
def dkwX0_count_0 : List UInt8 := [27]
abbrev dktX0_count_0 : List UInt8 := dkwX0_count_0 ++ dktX0_count_1
theorem dksX0_count_0 : cX0_count.data.toList.drop 0 = dktX0_count_0 := by decide +kernel
theorem dksX0_count_1 : cX0_count.data.toList.drop 1 = dktX0_count_1 := dk_seg dksX0_count_0 1 rfl rfl
theorem dksX0_count_2 : cX0_count.data.toList.drop 48 = dktX0_count_2 := dk_seg dksX0_count_1 47 rfl rfl
theorem dksX0_count_3 : cX0_count.data.toList.drop 72 = dktX0_count_3 := dk_seg dksX0_count_2 24 rfl rfl
theorem dksX0_count_4 : cX0_count.data.toList.drop 96 = dktX0_count_4 := dk_seg dksX0_count_3 24 rfl rfl
theorem dksX0_count_5 : cX0_count.data.toList.drop 120 = dktX0_count_5 := dk_seg dksX0_count_4 24 rfl rfl
theorem dX0_count_0 : decode cX0_count 0 = .ok (.iload_n 1, 1) := dk_27 (dk_at dksX0_count_0 0 rfl rfl)
theorem dX0_count_1 : decode cX0_count 1 = .ok (.tableswitch 119 0 7 #[47, 58, 67, 76, 87, 95, 100, 111], 47) := by decide +kernel
theorem dX0_count_48 : decode cX0_count 48 = .ok (.aload_n 0, 1) := dk_42 (dk_at dksX0_count_2 0 rfl rfl)
theorem dX0_count_49 : decode cX0_count 49 = .ok (.getfield 16, 3) := dk_180 0 16 (dk_at dksX0_count_2 1 rfl rfl)
theorem dX0_count_52 : decode cX0_count 52 = .ok (.getfield 39, 3) := dk_180 0 39 (dk_at dksX0_count_2 4 rfl rfl)
theorem dX0_count_55 : decode cX0_count 55 = .ok (.invokevirtual 43, 3) := dk_182 0 43 (dk_at dksX0_count_2 7 rfl rfl)
theorem dX0_count_58 : decode cX0_count 58 = .ok (.ireturn, 1) := dk_172 (dk_at dksX0_count_2 10 rfl rfl)
theorem dX0_count_59 : decode cX0_count 59 = .ok (.aload_n 0, 1) := dk_42 (dk_at dksX0_count_2 11 rfl rfl)
theorem dX0_count_60 : decode cX0_count 60 = .ok (.getfield 16, 3) := dk_180 0 16 (dk_at dksX0_count_2 12 rfl rfl)
theorem dX0_count_63 : decode cX0_count 63 = .ok (.iconst 0, 1) := dk_3 (dk_at dksX0_count_2 15 rfl rfl)
theorem dX0_count_64 : decode cX0_count 64 = .ok (.invokevirtual 500, 3) := dk_182 1 244 (dk_at dksX0_count_2 16 rfl rfl)
theorem dX0_count_67 : decode cX0_count 67 = .ok (.ireturn, 1) := dk_172 (dk_at dksX0_count_2 19 rfl rfl)
theorem dX0_count_68 : decode cX0_count 68 = .ok (.aload_n 0, 1) := dk_42 (dk_at dksX0_count_2 20 rfl rfl)
theorem dX0_count_69 : decode cX0_count 69 = .ok (.getfield 16, 3) := dk_180 0 16 (dk_at dksX0_count_2 21 rfl rfl)
theorem dX0_count_72 : decode cX0_count 72 = .ok (.iconst 1, 1) := dk_4 (dk_at dksX0_count_3 0 rfl rfl)
theorem dX0_count_73 : decode cX0_count 73 = .ok (.invokevirtual 500, 3) := dk_182 1 244 (dk_at dksX0_count_3 1 rfl rfl)
theorem dX0_count_76 : decode cX0_count 76 = .ok (.ireturn, 1) := dk_172 (dk_at dksX0_count_3 4 rfl rfl)
theorem dX0_count_77 : decode cX0_count 77 = .ok (.aload_n 0, 1) := dk_42 (dk_at dksX0_count_3 5 rfl rfl)
theorem dX0_count_78 : decode cX0_count 78 = .ok (.getfield 16, 3) := dk_180 0 16 (dk_at dksX0_count_3 6 rfl rfl)
theorem dX0_count_81 : decode cX0_count 81 = .ok (.getfield 297, 3) := dk_180 1 41 (dk_at dksX0_count_3 9 rfl rfl)
theorem dX0_count_84 : decode cX0_count 84 = .ok (.invokevirtual 301, 3) := dk_182 1 45 (dk_at dksX0_count_3 12 rfl rfl)
theorem dX0_count_87 : decode cX0_count 87 = .ok (.ireturn, 1) := dk_172 (dk_at dksX0_count_3 15 rfl rfl)
theorem dX0_count_88 : decode cX0_count 88 = .ok (.aload_n 0, 1) := dk_42 (dk_at dksX0_count_3 16 rfl rfl)
theorem dX0_count_89 : decode cX0_count 89 = .ok (.getfield 16, 3) := dk_180 0 16 (dk_at dksX0_count_3 17 rfl rfl)
theorem dX0_count_92 : decode cX0_count 92 = .ok (.invokevirtual 503, 3) := dk_182 1 247 (dk_at dksX0_count_3 20 rfl rfl)
theorem dX0_count_95 : decode cX0_count 95 = .ok (.ireturn, 1) := dk_172 (dk_at dksX0_count_3 23 rfl rfl)
theorem dX0_count_96 : decode cX0_count 96 = .ok (.aload_n 0, 1) := dk_42 (dk_at dksX0_count_4 0 rfl rfl)
theorem dX0_count_97 : decode cX0_count 97 = .ok (.getfield 35, 3) := dk_180 0 35 (dk_at dksX0_count_4 1 rfl rfl)
theorem dX0_count_100 : decode cX0_count 100 = .ok (.ireturn, 1) := dk_172 (dk_at dksX0_count_4 4 rfl rfl)
theorem dX0_count_101 : decode cX0_count 101 = .ok (.aload_n 0, 1) := dk_42 (dk_at dksX0_count_4 5 rfl rfl)
theorem dX0_count_102 : decode cX0_count 102 = .ok (.getfield 16, 3) := dk_180 0 16 (dk_at dksX0_count_4 6 rfl rfl)
theorem dX0_count_105 : decode cX0_count 105 = .ok (.getfield 205, 3) := dk_180 0 205 (dk_at dksX0_count_4 9 rfl rfl)
theorem dX0_count_108 : decode cX0_count 108 = .ok (.getfield 506, 3) := dk_180 1 250 (dk_at dksX0_count_4 12 rfl rfl)
theorem dX0_count_111 : decode cX0_count 111 = .ok (.ireturn, 1) := dk_172 (dk_at dksX0_count_4 15 rfl rfl)
theorem dX0_count_112 : decode cX0_count 112 = .ok (.aload_n 0, 1) := dk_42 (dk_at dksX0_count_4 16 rfl rfl)
theorem dX0_count_113 : decode cX0_count 113 = .ok (.getfield 16, 3) := dk_180 0 16 (dk_at dksX0_count_4 17 rfl rfl)
theorem dX0_count_116 : decode cX0_count 116 = .ok (.getfield 147, 3) := dk_180 0 147 (dk_at dksX0_count_4 20 rfl rfl)
theorem dX0_count_119 : decode cX0_count 119 = .ok (.ireturn, 1) := dk_172 (dk_at dksX0_count_4 23 rfl rfl)
theorem dX0_count_120 : decode cX0_count 120 = .ok (.iconst (-1), 1) := dk_2 (dk_at dksX0_count_5 0 rfl rfl)
theorem dX0_count_121 : decode cX0_count 121 = .ok (.ireturn, 1) := dk_172 (dk_at dksX0_count_5 1 rfl rfl)
abbrev cX1_init : ByteArray := prog_8_method_1_code
def dkwX1_init_11 : List UInt8 := [180, 0, 21, 27, 16, 16, 79, 132, 1, 1, 167, 255, 231, 177]
abbrev dktX1_init_11 : List UInt8 := dkwX1_init_11 ++ []
def dkwX1_init_10 : List UInt8 := [132, 1, 1, 167, 255, 210, 3, 60, 27, 16, 8, 162, 0, 25, 42, 180, 0, 17, 27, 16, 10, 79, 42]
abbrev dktX1_init_10 : List UInt8 := dkwX1_init_10 ++ dktX1_init_11
def dkwX1_init_9 : List UInt8 := [3, 61, 28, 16, 64, 162, 0, 19, 42, 180, 0, 30, 27, 50, 28, 16, 254, 79, 132, 2, 1, 167, 255, 237]
abbrev dktX1_init_9 : List UInt8 := dkwX1_init_9 ++ dktX1_init_10
def dkwX1_init_8 : List UInt8 := [181, 0, 103, 3, 60, 27, 16, 16, 162, 0, 46, 42, 180, 0, 11, 27, 187, 0, 9, 89, 183, 0, 107, 83]
abbrev dktX1_init_8 : List UInt8 := dkwX1_init_8 ++ dktX1_init_9
def dkwX1_init_7 : List UInt8 := [187, 0, 91, 89, 42, 183, 0, 93, 181, 0, 96, 42, 7, 188, 10, 181, 0, 100, 42, 16, 16, 188, 4]
abbrev dktX1_init_7 : List UInt8 := dkwX1_init_7 ++ dktX1_init_8
def dkwX1_init_6 : List UInt8 := [16, 80, 181, 0, 79, 42, 16, 8, 188, 11, 181, 0, 82, 42, 16, 80, 189, 0, 85, 181, 0, 87, 42]
abbrev dktX1_init_6 : List UInt8 := dkwX1_init_6 ++ dktX1_init_7
def dkwX1_init_5 : List UInt8 := [89, 183, 0, 67, 181, 0, 68, 42, 187, 0, 65, 89, 183, 0, 67, 181, 0, 72, 42, 4, 181, 0, 75, 42]
abbrev dktX1_init_5 : List UInt8 := dkwX1_init_5 ++ dktX1_init_6
def dkwX1_init_4 : List UInt8 := [183, 0, 54, 183, 0, 55, 181, 0, 58, 42, 187, 0, 33, 89, 183, 0, 35, 181, 0, 62, 42, 187, 0, 65]
abbrev dktX1_init_4 : List UInt8 := dkwX1_init_4 ++ dktX1_init_5
def dkwX1_init_3 : List UInt8 := [181, 0, 40, 42, 187, 0, 43, 89, 183, 0, 45, 181, 0, 46, 42, 187, 0, 50, 89, 187, 0, 52, 89]
abbrev dktX1_init_3 : List UInt8 := dkwX1_init_3 ++ dktX1_init_4
def dkwX1_init_2 : List UInt8 := [181, 0, 30, 42, 187, 0, 33, 89, 183, 0, 35, 181, 0, 36, 42, 187, 0, 33, 89, 183, 0, 35]
abbrev dktX1_init_2 : List UInt8 := dkwX1_init_2 ++ dktX1_init_3
def dkwX1_init_1 : List UInt8 := [188, 10, 181, 0, 21, 42, 16, 8, 188, 11, 181, 0, 24, 42, 16, 16, 16, 64, 197, 0, 28, 2]
abbrev dktX1_init_1 : List UInt8 := dkwX1_init_1 ++ dktX1_init_2
def dkwX1_init_0 : List UInt8 := [42, 183, 0, 3, 42, 16, 16, 189, 0, 9, 181, 0, 11, 42, 16, 8, 188, 10, 181, 0, 17, 42, 16, 8]
abbrev dktX1_init_0 : List UInt8 := dkwX1_init_0 ++ dktX1_init_1
theorem dksX1_init_0 : cX1_init.data.toList.drop 0 = dktX1_init_0 := by decide +kernel
theorem dksX1_init_1 : cX1_init.data.toList.drop 24 = dktX1_init_1 := dk_seg dksX1_init_0 24 rfl rfl
theorem dksX1_init_2 : cX1_init.data.toList.drop 46 = dktX1_init_2 := dk_seg dksX1_init_1 22 rfl rfl
theorem dksX1_init_3 : cX1_init.data.toList.drop 68 = dktX1_init_3 := dk_seg dksX1_init_2 22 rfl rfl
theorem dksX1_init_4 : cX1_init.data.toList.drop 91 = dktX1_init_4 := dk_seg dksX1_init_3 23 rfl rfl
theorem dksX1_init_5 : cX1_init.data.toList.drop 115 = dktX1_init_5 := dk_seg dksX1_init_4 24 rfl rfl
theorem dksX1_init_6 : cX1_init.data.toList.drop 139 = dktX1_init_6 := dk_seg dksX1_init_5 24 rfl rfl
theorem dksX1_init_7 : cX1_init.data.toList.drop 162 = dktX1_init_7 := dk_seg dksX1_init_6 23 rfl rfl
theorem dksX1_init_8 : cX1_init.data.toList.drop 185 = dktX1_init_8 := dk_seg dksX1_init_7 23 rfl rfl
theorem dksX1_init_9 : cX1_init.data.toList.drop 209 = dktX1_init_9 := dk_seg dksX1_init_8 24 rfl rfl
theorem dksX1_init_10 : cX1_init.data.toList.drop 233 = dktX1_init_10 := dk_seg dksX1_init_9 24 rfl rfl
theorem dksX1_init_11 : cX1_init.data.toList.drop 256 = dktX1_init_11 := dk_seg dksX1_init_10 23 rfl rfl
theorem dX1_init_0 : decode cX1_init 0 = .ok (.aload_n 0, 1) := dk_42 (dk_at dksX1_init_0 0 rfl rfl)
theorem dX1_init_1 : decode cX1_init 1 = .ok (.invokespecial 3, 3) := dk_183 0 3 (dk_at dksX1_init_0 1 rfl rfl)
theorem dX1_init_4 : decode cX1_init 4 = .ok (.aload_n 0, 1) := dk_42 (dk_at dksX1_init_0 4 rfl rfl)
theorem dX1_init_5 : decode cX1_init 5 = .ok (.bipush 16, 2) := dk_16 16 (dk_at dksX1_init_0 5 rfl rfl)
theorem dX1_init_7 : decode cX1_init 7 = .ok (.anewarray 9, 3) := dk_189 0 9 (dk_at dksX1_init_0 7 rfl rfl)
theorem dX1_init_10 : decode cX1_init 10 = .ok (.putfield 11, 3) := dk_181 0 11 (dk_at dksX1_init_0 10 rfl rfl)
theorem dX1_init_13 : decode cX1_init 13 = .ok (.aload_n 0, 1) := dk_42 (dk_at dksX1_init_0 13 rfl rfl)
theorem dX1_init_14 : decode cX1_init 14 = .ok (.bipush 8, 2) := dk_16 8 (dk_at dksX1_init_0 14 rfl rfl)
theorem dX1_init_16 : decode cX1_init 16 = .ok (.newarray .int, 2) := dk_188_10 (dk_at dksX1_init_0 16 rfl rfl)
theorem dX1_init_18 : decode cX1_init 18 = .ok (.putfield 17, 3) := dk_181 0 17 (dk_at dksX1_init_0 18 rfl rfl)
theorem dX1_init_21 : decode cX1_init 21 = .ok (.aload_n 0, 1) := dk_42 (dk_at dksX1_init_0 21 rfl rfl)
theorem dX1_init_22 : decode cX1_init 22 = .ok (.bipush 8, 2) := dk_16 8 (dk_at dksX1_init_0 22 rfl rfl)
theorem dX1_init_24 : decode cX1_init 24 = .ok (.newarray .int, 2) := dk_188_10 (dk_at dksX1_init_1 0 rfl rfl)
theorem dX1_init_26 : decode cX1_init 26 = .ok (.putfield 21, 3) := dk_181 0 21 (dk_at dksX1_init_1 2 rfl rfl)
theorem dX1_init_29 : decode cX1_init 29 = .ok (.aload_n 0, 1) := dk_42 (dk_at dksX1_init_1 5 rfl rfl)
theorem dX1_init_30 : decode cX1_init 30 = .ok (.bipush 8, 2) := dk_16 8 (dk_at dksX1_init_1 6 rfl rfl)
theorem dX1_init_32 : decode cX1_init 32 = .ok (.newarray .long, 2) := dk_188_11 (dk_at dksX1_init_1 8 rfl rfl)
theorem dX1_init_34 : decode cX1_init 34 = .ok (.putfield 24, 3) := dk_181 0 24 (dk_at dksX1_init_1 10 rfl rfl)
theorem dX1_init_37 : decode cX1_init 37 = .ok (.aload_n 0, 1) := dk_42 (dk_at dksX1_init_1 13 rfl rfl)
theorem dX1_init_38 : decode cX1_init 38 = .ok (.bipush 16, 2) := dk_16 16 (dk_at dksX1_init_1 14 rfl rfl)
theorem dX1_init_40 : decode cX1_init 40 = .ok (.bipush 64, 2) := dk_16 64 (dk_at dksX1_init_1 16 rfl rfl)
theorem dX1_init_42 : decode cX1_init 42 = .ok (.multianewarray 28 2, 4) := by decide +kernel
theorem dX1_init_46 : decode cX1_init 46 = .ok (.putfield 30, 3) := dk_181 0 30 (dk_at dksX1_init_2 0 rfl rfl)
theorem dX1_init_49 : decode cX1_init 49 = .ok (.aload_n 0, 1) := dk_42 (dk_at dksX1_init_2 3 rfl rfl)
theorem dX1_init_50 : decode cX1_init 50 = .ok (.new 33, 3) := dk_187 0 33 (dk_at dksX1_init_2 4 rfl rfl)
theorem dX1_init_53 : decode cX1_init 53 = .ok (.dup, 1) := dk_89 (dk_at dksX1_init_2 7 rfl rfl)
theorem dX1_init_54 : decode cX1_init 54 = .ok (.invokespecial 35, 3) := dk_183 0 35 (dk_at dksX1_init_2 8 rfl rfl)
theorem dX1_init_57 : decode cX1_init 57 = .ok (.putfield 36, 3) := dk_181 0 36 (dk_at dksX1_init_2 11 rfl rfl)
theorem dX1_init_60 : decode cX1_init 60 = .ok (.aload_n 0, 1) := dk_42 (dk_at dksX1_init_2 14 rfl rfl)
theorem dX1_init_61 : decode cX1_init 61 = .ok (.new 33, 3) := dk_187 0 33 (dk_at dksX1_init_2 15 rfl rfl)
theorem dX1_init_64 : decode cX1_init 64 = .ok (.dup, 1) := dk_89 (dk_at dksX1_init_2 18 rfl rfl)
theorem dX1_init_65 : decode cX1_init 65 = .ok (.invokespecial 35, 3) := dk_183 0 35 (dk_at dksX1_init_2 19 rfl rfl)
theorem dX1_init_68 : decode cX1_init 68 = .ok (.putfield 40, 3) := dk_181 0 40 (dk_at dksX1_init_3 0 rfl rfl)
theorem dX1_init_71 : decode cX1_init 71 = .ok (.aload_n 0, 1) := dk_42 (dk_at dksX1_init_3 3 rfl rfl)
theorem dX1_init_72 : decode cX1_init 72 = .ok (.new 43, 3) := dk_187 0 43 (dk_at dksX1_init_3 4 rfl rfl)
theorem dX1_init_75 : decode cX1_init 75 = .ok (.dup, 1) := dk_89 (dk_at dksX1_init_3 7 rfl rfl)
theorem dX1_init_76 : decode cX1_init 76 = .ok (.invokespecial 45, 3) := dk_183 0 45 (dk_at dksX1_init_3 8 rfl rfl)
theorem dX1_init_79 : decode cX1_init 79 = .ok (.putfield 46, 3) := dk_181 0 46 (dk_at dksX1_init_3 11 rfl rfl)
theorem dX1_init_82 : decode cX1_init 82 = .ok (.aload_n 0, 1) := dk_42 (dk_at dksX1_init_3 14 rfl rfl)
theorem dX1_init_83 : decode cX1_init 83 = .ok (.new 50, 3) := dk_187 0 50 (dk_at dksX1_init_3 15 rfl rfl)
theorem dX1_init_86 : decode cX1_init 86 = .ok (.dup, 1) := dk_89 (dk_at dksX1_init_3 18 rfl rfl)
theorem dX1_init_87 : decode cX1_init 87 = .ok (.new 52, 3) := dk_187 0 52 (dk_at dksX1_init_3 19 rfl rfl)
theorem dX1_init_90 : decode cX1_init 90 = .ok (.dup, 1) := dk_89 (dk_at dksX1_init_3 22 rfl rfl)
theorem dX1_init_91 : decode cX1_init 91 = .ok (.invokespecial 54, 3) := dk_183 0 54 (dk_at dksX1_init_4 0 rfl rfl)
theorem dX1_init_94 : decode cX1_init 94 = .ok (.invokespecial 55, 3) := dk_183 0 55 (dk_at dksX1_init_4 3 rfl rfl)
theorem dX1_init_97 : decode cX1_init 97 = .ok (.putfield 58, 3) := dk_181 0 58 (dk_at dksX1_init_4 6 rfl rfl)
theorem dX1_init_100 : decode cX1_init 100 = .ok (.aload_n 0, 1) := dk_42 (dk_at dksX1_init_4 9 rfl rfl)
theorem dX1_init_101 : decode cX1_init 101 = .ok (.new 33, 3) := dk_187 0 33 (dk_at dksX1_init_4 10 rfl rfl)
theorem dX1_init_104 : decode cX1_init 104 = .ok (.dup, 1) := dk_89 (dk_at dksX1_init_4 13 rfl rfl)
theorem dX1_init_105 : decode cX1_init 105 = .ok (.invokespecial 35, 3) := dk_183 0 35 (dk_at dksX1_init_4 14 rfl rfl)
theorem dX1_init_108 : decode cX1_init 108 = .ok (.putfield 62, 3) := dk_181 0 62 (dk_at dksX1_init_4 17 rfl rfl)
theorem dX1_init_111 : decode cX1_init 111 = .ok (.aload_n 0, 1) := dk_42 (dk_at dksX1_init_4 20 rfl rfl)
theorem dX1_init_112 : decode cX1_init 112 = .ok (.new 65, 3) := dk_187 0 65 (dk_at dksX1_init_4 21 rfl rfl)
theorem dX1_init_115 : decode cX1_init 115 = .ok (.dup, 1) := dk_89 (dk_at dksX1_init_5 0 rfl rfl)
theorem dX1_init_116 : decode cX1_init 116 = .ok (.invokespecial 67, 3) := dk_183 0 67 (dk_at dksX1_init_5 1 rfl rfl)
theorem dX1_init_119 : decode cX1_init 119 = .ok (.putfield 68, 3) := dk_181 0 68 (dk_at dksX1_init_5 4 rfl rfl)
theorem dX1_init_122 : decode cX1_init 122 = .ok (.aload_n 0, 1) := dk_42 (dk_at dksX1_init_5 7 rfl rfl)
theorem dX1_init_123 : decode cX1_init 123 = .ok (.new 65, 3) := dk_187 0 65 (dk_at dksX1_init_5 8 rfl rfl)
theorem dX1_init_126 : decode cX1_init 126 = .ok (.dup, 1) := dk_89 (dk_at dksX1_init_5 11 rfl rfl)
theorem dX1_init_127 : decode cX1_init 127 = .ok (.invokespecial 67, 3) := dk_183 0 67 (dk_at dksX1_init_5 12 rfl rfl)
theorem dX1_init_130 : decode cX1_init 130 = .ok (.putfield 72, 3) := dk_181 0 72 (dk_at dksX1_init_5 15 rfl rfl)
theorem dX1_init_133 : decode cX1_init 133 = .ok (.aload_n 0, 1) := dk_42 (dk_at dksX1_init_5 18 rfl rfl)
theorem dX1_init_134 : decode cX1_init 134 = .ok (.iconst 1, 1) := dk_4 (dk_at dksX1_init_5 19 rfl rfl)
theorem dX1_init_135 : decode cX1_init 135 = .ok (.putfield 75, 3) := dk_181 0 75 (dk_at dksX1_init_5 20 rfl rfl)
theorem dX1_init_138 : decode cX1_init 138 = .ok (.aload_n 0, 1) := dk_42 (dk_at dksX1_init_5 23 rfl rfl)
theorem dX1_init_139 : decode cX1_init 139 = .ok (.bipush 80, 2) := dk_16 80 (dk_at dksX1_init_6 0 rfl rfl)
theorem dX1_init_141 : decode cX1_init 141 = .ok (.putfield 79, 3) := dk_181 0 79 (dk_at dksX1_init_6 2 rfl rfl)
theorem dX1_init_144 : decode cX1_init 144 = .ok (.aload_n 0, 1) := dk_42 (dk_at dksX1_init_6 5 rfl rfl)
theorem dX1_init_145 : decode cX1_init 145 = .ok (.bipush 8, 2) := dk_16 8 (dk_at dksX1_init_6 6 rfl rfl)
theorem dX1_init_147 : decode cX1_init 147 = .ok (.newarray .long, 2) := dk_188_11 (dk_at dksX1_init_6 8 rfl rfl)
theorem dX1_init_149 : decode cX1_init 149 = .ok (.putfield 82, 3) := dk_181 0 82 (dk_at dksX1_init_6 10 rfl rfl)
theorem dX1_init_152 : decode cX1_init 152 = .ok (.aload_n 0, 1) := dk_42 (dk_at dksX1_init_6 13 rfl rfl)
theorem dX1_init_153 : decode cX1_init 153 = .ok (.bipush 80, 2) := dk_16 80 (dk_at dksX1_init_6 14 rfl rfl)
theorem dX1_init_155 : decode cX1_init 155 = .ok (.anewarray 85, 3) := dk_189 0 85 (dk_at dksX1_init_6 16 rfl rfl)
theorem dX1_init_158 : decode cX1_init 158 = .ok (.putfield 87, 3) := dk_181 0 87 (dk_at dksX1_init_6 19 rfl rfl)
theorem dX1_init_161 : decode cX1_init 161 = .ok (.aload_n 0, 1) := dk_42 (dk_at dksX1_init_6 22 rfl rfl)
theorem dX1_init_162 : decode cX1_init 162 = .ok (.new 91, 3) := dk_187 0 91 (dk_at dksX1_init_7 0 rfl rfl)
theorem dX1_init_165 : decode cX1_init 165 = .ok (.dup, 1) := dk_89 (dk_at dksX1_init_7 3 rfl rfl)
theorem dX1_init_166 : decode cX1_init 166 = .ok (.aload_n 0, 1) := dk_42 (dk_at dksX1_init_7 4 rfl rfl)
theorem dX1_init_167 : decode cX1_init 167 = .ok (.invokespecial 93, 3) := dk_183 0 93 (dk_at dksX1_init_7 5 rfl rfl)
theorem dX1_init_170 : decode cX1_init 170 = .ok (.putfield 96, 3) := dk_181 0 96 (dk_at dksX1_init_7 8 rfl rfl)
theorem dX1_init_173 : decode cX1_init 173 = .ok (.aload_n 0, 1) := dk_42 (dk_at dksX1_init_7 11 rfl rfl)
theorem dX1_init_174 : decode cX1_init 174 = .ok (.iconst 4, 1) := dk_7 (dk_at dksX1_init_7 12 rfl rfl)
theorem dX1_init_175 : decode cX1_init 175 = .ok (.newarray .int, 2) := dk_188_10 (dk_at dksX1_init_7 13 rfl rfl)
theorem dX1_init_177 : decode cX1_init 177 = .ok (.putfield 100, 3) := dk_181 0 100 (dk_at dksX1_init_7 15 rfl rfl)
theorem dX1_init_180 : decode cX1_init 180 = .ok (.aload_n 0, 1) := dk_42 (dk_at dksX1_init_7 18 rfl rfl)
theorem dX1_init_181 : decode cX1_init 181 = .ok (.bipush 16, 2) := dk_16 16 (dk_at dksX1_init_7 19 rfl rfl)
theorem dX1_init_183 : decode cX1_init 183 = .ok (.newarray .boolean, 2) := dk_188_4 (dk_at dksX1_init_7 21 rfl rfl)
theorem dX1_init_185 : decode cX1_init 185 = .ok (.putfield 103, 3) := dk_181 0 103 (dk_at dksX1_init_8 0 rfl rfl)
theorem dX1_init_188 : decode cX1_init 188 = .ok (.iconst 0, 1) := dk_3 (dk_at dksX1_init_8 3 rfl rfl)
theorem dX1_init_189 : decode cX1_init 189 = .ok (.istore_n 1, 1) := dk_60 (dk_at dksX1_init_8 4 rfl rfl)
theorem dX1_init_190 : decode cX1_init 190 = .ok (.iload_n 1, 1) := dk_27 (dk_at dksX1_init_8 5 rfl rfl)
theorem dX1_init_191 : decode cX1_init 191 = .ok (.bipush 16, 2) := dk_16 16 (dk_at dksX1_init_8 6 rfl rfl)
theorem dX1_init_193 : decode cX1_init 193 = .ok (.if_icmp .ge 46, 3) := dk_162 0 46 (dk_at dksX1_init_8 8 rfl rfl)
theorem dX1_init_196 : decode cX1_init 196 = .ok (.aload_n 0, 1) := dk_42 (dk_at dksX1_init_8 11 rfl rfl)
theorem dX1_init_197 : decode cX1_init 197 = .ok (.getfield 11, 3) := dk_180 0 11 (dk_at dksX1_init_8 12 rfl rfl)
theorem dX1_init_200 : decode cX1_init 200 = .ok (.iload_n 1, 1) := dk_27 (dk_at dksX1_init_8 15 rfl rfl)
theorem dX1_init_201 : decode cX1_init 201 = .ok (.new 9, 3) := dk_187 0 9 (dk_at dksX1_init_8 16 rfl rfl)
theorem dX1_init_204 : decode cX1_init 204 = .ok (.dup, 1) := dk_89 (dk_at dksX1_init_8 19 rfl rfl)
theorem dX1_init_205 : decode cX1_init 205 = .ok (.invokespecial 107, 3) := dk_183 0 107 (dk_at dksX1_init_8 20 rfl rfl)
theorem dX1_init_208 : decode cX1_init 208 = .ok (.aastore, 1) := dk_83 (dk_at dksX1_init_8 23 rfl rfl)
theorem dX1_init_209 : decode cX1_init 209 = .ok (.iconst 0, 1) := dk_3 (dk_at dksX1_init_9 0 rfl rfl)
theorem dX1_init_210 : decode cX1_init 210 = .ok (.istore_n 2, 1) := dk_61 (dk_at dksX1_init_9 1 rfl rfl)
theorem dX1_init_211 : decode cX1_init 211 = .ok (.iload_n 2, 1) := dk_28 (dk_at dksX1_init_9 2 rfl rfl)
theorem dX1_init_212 : decode cX1_init 212 = .ok (.bipush 64, 2) := dk_16 64 (dk_at dksX1_init_9 3 rfl rfl)
theorem dX1_init_214 : decode cX1_init 214 = .ok (.if_icmp .ge 19, 3) := dk_162 0 19 (dk_at dksX1_init_9 5 rfl rfl)
theorem dX1_init_217 : decode cX1_init 217 = .ok (.aload_n 0, 1) := dk_42 (dk_at dksX1_init_9 8 rfl rfl)
theorem dX1_init_218 : decode cX1_init 218 = .ok (.getfield 30, 3) := dk_180 0 30 (dk_at dksX1_init_9 9 rfl rfl)
theorem dX1_init_221 : decode cX1_init 221 = .ok (.iload_n 1, 1) := dk_27 (dk_at dksX1_init_9 12 rfl rfl)
theorem dX1_init_222 : decode cX1_init 222 = .ok (.aaload, 1) := dk_50 (dk_at dksX1_init_9 13 rfl rfl)
theorem dX1_init_223 : decode cX1_init 223 = .ok (.iload_n 2, 1) := dk_28 (dk_at dksX1_init_9 14 rfl rfl)
theorem dX1_init_224 : decode cX1_init 224 = .ok (.bipush (-2), 2) := dk_16 254 (dk_at dksX1_init_9 15 rfl rfl)
theorem dX1_init_226 : decode cX1_init 226 = .ok (.iastore, 1) := dk_79 (dk_at dksX1_init_9 17 rfl rfl)
theorem dX1_init_227 : decode cX1_init 227 = .ok (.iinc 2 1, 3) := dk_132 2 1 (dk_at dksX1_init_9 18 rfl rfl)
theorem dX1_init_230 : decode cX1_init 230 = .ok (.goto (-19), 3) := dk_167 255 237 (dk_at dksX1_init_9 21 rfl rfl)
theorem dX1_init_233 : decode cX1_init 233 = .ok (.iinc 1 1, 3) := dk_132 1 1 (dk_at dksX1_init_10 0 rfl rfl)
theorem dX1_init_236 : decode cX1_init 236 = .ok (.goto (-46), 3) := dk_167 255 210 (dk_at dksX1_init_10 3 rfl rfl)
theorem dX1_init_239 : decode cX1_init 239 = .ok (.iconst 0, 1) := dk_3 (dk_at dksX1_init_10 6 rfl rfl)
theorem dX1_init_240 : decode cX1_init 240 = .ok (.istore_n 1, 1) := dk_60 (dk_at dksX1_init_10 7 rfl rfl)
theorem dX1_init_241 : decode cX1_init 241 = .ok (.iload_n 1, 1) := dk_27 (dk_at dksX1_init_10 8 rfl rfl)
theorem dX1_init_242 : decode cX1_init 242 = .ok (.bipush 8, 2) := dk_16 8 (dk_at dksX1_init_10 9 rfl rfl)
theorem dX1_init_244 : decode cX1_init 244 = .ok (.if_icmp .ge 25, 3) := dk_162 0 25 (dk_at dksX1_init_10 11 rfl rfl)
theorem dX1_init_247 : decode cX1_init 247 = .ok (.aload_n 0, 1) := dk_42 (dk_at dksX1_init_10 14 rfl rfl)
theorem dX1_init_248 : decode cX1_init 248 = .ok (.getfield 17, 3) := dk_180 0 17 (dk_at dksX1_init_10 15 rfl rfl)
theorem dX1_init_251 : decode cX1_init 251 = .ok (.iload_n 1, 1) := dk_27 (dk_at dksX1_init_10 18 rfl rfl)
theorem dX1_init_252 : decode cX1_init 252 = .ok (.bipush 10, 2) := dk_16 10 (dk_at dksX1_init_10 19 rfl rfl)
theorem dX1_init_254 : decode cX1_init 254 = .ok (.iastore, 1) := dk_79 (dk_at dksX1_init_10 21 rfl rfl)
theorem dX1_init_255 : decode cX1_init 255 = .ok (.aload_n 0, 1) := dk_42 (dk_at dksX1_init_10 22 rfl rfl)
theorem dX1_init_256 : decode cX1_init 256 = .ok (.getfield 21, 3) := dk_180 0 21 (dk_at dksX1_init_11 0 rfl rfl)
theorem dX1_init_259 : decode cX1_init 259 = .ok (.iload_n 1, 1) := dk_27 (dk_at dksX1_init_11 3 rfl rfl)
theorem dX1_init_260 : decode cX1_init 260 = .ok (.bipush 16, 2) := dk_16 16 (dk_at dksX1_init_11 4 rfl rfl)
theorem dX1_init_262 : decode cX1_init 262 = .ok (.iastore, 1) := dk_79 (dk_at dksX1_init_11 6 rfl rfl)
theorem dX1_init_263 : decode cX1_init 263 = .ok (.iinc 1 1, 3) := dk_132 1 1 (dk_at dksX1_init_11 7 rfl rfl)
theorem dX1_init_266 : decode cX1_init 266 = .ok (.goto (-25), 3) := dk_167 255 231 (dk_at dksX1_init_11 10 rfl rfl)
theorem dX1_init_269 : decode cX1_init 269 = .ok (.return_, 1) := dk_177 (dk_at dksX1_init_11 13 rfl rfl)
abbrev cX0_isAccount : ByteArray := prog_1_method_3_code
def dkwX0_isAccount_0 : List UInt8 := [26, 133, 9, 20, 0, 23, 184, 0, 25, 172]
abbrev dktX0_isAccount_0 : List UInt8 := dkwX0_isAccount_0 ++ []
theorem dksX0_isAccount_0 : cX0_isAccount.data.toList.drop 0 = dktX0_isAccount_0 := by decide +kernel
theorem dX0_isAccount_0 : decode cX0_isAccount 0 = .ok (.iload_n 0, 1) := dk_26 (dk_at dksX0_isAccount_0 0 rfl rfl)
theorem dX0_isAccount_1 : decode cX0_isAccount 1 = .ok (.i2l, 1) := dk_133 (dk_at dksX0_isAccount_0 1 rfl rfl)
theorem dX0_isAccount_2 : decode cX0_isAccount 2 = .ok (.lconst 0, 1) := dk_9 (dk_at dksX0_isAccount_0 2 rfl rfl)
theorem dX0_isAccount_3 : decode cX0_isAccount 3 = .ok (.ldc2_w 23, 3) := dk_20 0 23 (dk_at dksX0_isAccount_0 3 rfl rfl)
theorem dX0_isAccount_6 : decode cX0_isAccount 6 = .ok (.invokestatic 25, 3) := dk_184 0 25 (dk_at dksX0_isAccount_0 6 rfl rfl)
theorem dX0_isAccount_9 : decode cX0_isAccount 9 = .ok (.ireturn, 1) := dk_172 (dk_at dksX0_isAccount_0 9 rfl rfl)
abbrev cX0_within : ByteArray := prog_1_method_2_code
def dkwX0_within_0 : List UInt8 := [30, 32, 148, 155, 0, 14, 30, 22, 4, 148, 157, 0, 7, 4, 167, 0, 4, 3, 172]
abbrev dktX0_within_0 : List UInt8 := dkwX0_within_0 ++ []
theorem dksX0_within_0 : cX0_within.data.toList.drop 0 = dktX0_within_0 := by decide +kernel
theorem dX0_within_0 : decode cX0_within 0 = .ok (.lload_n 0, 1) := dk_30 (dk_at dksX0_within_0 0 rfl rfl)
theorem dX0_within_1 : decode cX0_within 1 = .ok (.lload_n 2, 1) := dk_32 (dk_at dksX0_within_0 1 rfl rfl)
theorem dX0_within_2 : decode cX0_within 2 = .ok (.lcmp, 1) := dk_148 (dk_at dksX0_within_0 2 rfl rfl)
theorem dX0_within_3 : decode cX0_within 3 = .ok (.ifCond .lt 14, 3) := dk_155 0 14 (dk_at dksX0_within_0 3 rfl rfl)
theorem dX0_within_6 : decode cX0_within 6 = .ok (.lload_n 0, 1) := dk_30 (dk_at dksX0_within_0 6 rfl rfl)
theorem dX0_within_7 : decode cX0_within 7 = .ok (.lload 4, 2) := dk_22 4 (dk_at dksX0_within_0 7 rfl rfl)
theorem dX0_within_9 : decode cX0_within 9 = .ok (.lcmp, 1) := dk_148 (dk_at dksX0_within_0 9 rfl rfl)
theorem dX0_within_10 : decode cX0_within 10 = .ok (.ifCond .gt 7, 3) := dk_157 0 7 (dk_at dksX0_within_0 10 rfl rfl)
theorem dX0_within_13 : decode cX0_within 13 = .ok (.iconst 1, 1) := dk_4 (dk_at dksX0_within_0 13 rfl rfl)
theorem dX0_within_14 : decode cX0_within 14 = .ok (.goto 4, 3) := dk_167 0 4 (dk_at dksX0_within_0 14 rfl rfl)
theorem dX0_within_17 : decode cX0_within 17 = .ok (.iconst 0, 1) := dk_3 (dk_at dksX0_within_0 17 rfl rfl)
theorem dX0_within_18 : decode cX0_within 18 = .ok (.ireturn, 1) := dk_172 (dk_at dksX0_within_0 18 rfl rfl)
abbrev cX1_shares : ByteArray := prog_8_method_6_code
def dkwX1_shares_1 : List UInt8 := [184, 0, 156, 182, 0, 162, 87, 132, 2, 1, 167, 255, 233, 43, 176]
abbrev dktX1_shares_1 : List UInt8 := dkwX1_shares_1 ++ []
def dkwX1_shares_0 : List UInt8 := [187, 0, 43, 89, 183, 0, 45, 76, 3, 61, 28, 16, 8, 162, 0, 23, 43, 42, 28, 182, 0, 241, 28]
abbrev dktX1_shares_0 : List UInt8 := dkwX1_shares_0 ++ dktX1_shares_1
theorem dksX1_shares_0 : cX1_shares.data.toList.drop 0 = dktX1_shares_0 := by decide +kernel
theorem dksX1_shares_1 : cX1_shares.data.toList.drop 23 = dktX1_shares_1 := dk_seg dksX1_shares_0 23 rfl rfl
theorem dX1_shares_0 : decode cX1_shares 0 = .ok (.new 43, 3) := dk_187 0 43 (dk_at dksX1_shares_0 0 rfl rfl)
theorem dX1_shares_3 : decode cX1_shares 3 = .ok (.dup, 1) := dk_89 (dk_at dksX1_shares_0 3 rfl rfl)
theorem dX1_shares_4 : decode cX1_shares 4 = .ok (.invokespecial 45, 3) := dk_183 0 45 (dk_at dksX1_shares_0 4 rfl rfl)
theorem dX1_shares_7 : decode cX1_shares 7 = .ok (.astore_n 1, 1) := dk_76 (dk_at dksX1_shares_0 7 rfl rfl)
theorem dX1_shares_8 : decode cX1_shares 8 = .ok (.iconst 0, 1) := dk_3 (dk_at dksX1_shares_0 8 rfl rfl)
theorem dX1_shares_9 : decode cX1_shares 9 = .ok (.istore_n 2, 1) := dk_61 (dk_at dksX1_shares_0 9 rfl rfl)
theorem dX1_shares_10 : decode cX1_shares 10 = .ok (.iload_n 2, 1) := dk_28 (dk_at dksX1_shares_0 10 rfl rfl)
theorem dX1_shares_11 : decode cX1_shares 11 = .ok (.bipush 8, 2) := dk_16 8 (dk_at dksX1_shares_0 11 rfl rfl)
theorem dX1_shares_13 : decode cX1_shares 13 = .ok (.if_icmp .ge 23, 3) := dk_162 0 23 (dk_at dksX1_shares_0 13 rfl rfl)
theorem dX1_shares_16 : decode cX1_shares 16 = .ok (.aload_n 1, 1) := dk_43 (dk_at dksX1_shares_0 16 rfl rfl)
theorem dX1_shares_17 : decode cX1_shares 17 = .ok (.aload_n 0, 1) := dk_42 (dk_at dksX1_shares_0 17 rfl rfl)
theorem dX1_shares_18 : decode cX1_shares 18 = .ok (.iload_n 2, 1) := dk_28 (dk_at dksX1_shares_0 18 rfl rfl)
theorem dX1_shares_19 : decode cX1_shares 19 = .ok (.invokevirtual 241, 3) := dk_182 0 241 (dk_at dksX1_shares_0 19 rfl rfl)
theorem dX1_shares_22 : decode cX1_shares 22 = .ok (.iload_n 2, 1) := dk_28 (dk_at dksX1_shares_0 22 rfl rfl)
theorem dX1_shares_23 : decode cX1_shares 23 = .ok (.invokestatic 156, 3) := dk_184 0 156 (dk_at dksX1_shares_1 0 rfl rfl)
theorem dX1_shares_26 : decode cX1_shares 26 = .ok (.invokevirtual 162, 3) := dk_182 0 162 (dk_at dksX1_shares_1 3 rfl rfl)
theorem dX1_shares_29 : decode cX1_shares 29 = .ok (.pop, 1) := dk_87 (dk_at dksX1_shares_1 6 rfl rfl)
theorem dX1_shares_30 : decode cX1_shares 30 = .ok (.iinc 2 1, 3) := dk_132 2 1 (dk_at dksX1_shares_1 7 rfl rfl)
theorem dX1_shares_33 : decode cX1_shares 33 = .ok (.goto (-23), 3) := dk_167 255 233 (dk_at dksX1_shares_1 10 rfl rfl)
theorem dX1_shares_36 : decode cX1_shares 36 = .ok (.aload_n 1, 1) := dk_43 (dk_at dksX1_shares_1 13 rfl rfl)
theorem dX1_shares_37 : decode cX1_shares 37 = .ok (.areturn, 1) := dk_176 (dk_at dksX1_shares_1 14 rfl rfl)
abbrev cX15_hasNext : ByteArray := prog_15_method_3_code
def dkwX15_hasNext_0 : List UInt8 := [42, 180, 0, 19, 16, 16, 162, 0, 7, 4, 167, 0, 4, 3, 172]
abbrev dktX15_hasNext_0 : List UInt8 := dkwX15_hasNext_0 ++ []
theorem dksX15_hasNext_0 : cX15_hasNext.data.toList.drop 0 = dktX15_hasNext_0 := by decide +kernel
theorem dX15_hasNext_0 : decode cX15_hasNext 0 = .ok (.aload_n 0, 1) := dk_42 (dk_at dksX15_hasNext_0 0 rfl rfl)
theorem dX15_hasNext_1 : decode cX15_hasNext 1 = .ok (.getfield 19, 3) := dk_180 0 19 (dk_at dksX15_hasNext_0 1 rfl rfl)
theorem dX15_hasNext_4 : decode cX15_hasNext 4 = .ok (.bipush 16, 2) := dk_16 16 (dk_at dksX15_hasNext_0 4 rfl rfl)
theorem dX15_hasNext_6 : decode cX15_hasNext 6 = .ok (.if_icmp .ge 7, 3) := dk_162 0 7 (dk_at dksX15_hasNext_0 6 rfl rfl)
theorem dX15_hasNext_9 : decode cX15_hasNext 9 = .ok (.iconst 1, 1) := dk_4 (dk_at dksX15_hasNext_0 9 rfl rfl)
theorem dX15_hasNext_10 : decode cX15_hasNext 10 = .ok (.goto 4, 3) := dk_167 0 4 (dk_at dksX15_hasNext_0 10 rfl rfl)
theorem dX15_hasNext_13 : decode cX15_hasNext 13 = .ok (.iconst 0, 1) := dk_3 (dk_at dksX15_hasNext_0 13 rfl rfl)
theorem dX15_hasNext_14 : decode cX15_hasNext 14 = .ok (.ireturn, 1) := dk_172 (dk_at dksX15_hasNext_0 14 rfl rfl)
abbrev cX15_next : ByteArray := prog_15_method_5_code
theorem dX15_next_0 : decode cX15_next 0 = .ok (.aload_n 0, 1) := by decide +kernel
theorem dX15_next_1 : decode cX15_next 1 = .ok (.invokevirtual 34, 3) := by decide +kernel
theorem dX15_next_4 : decode cX15_next 4 = .ok (.areturn, 1) := by decide +kernel
abbrev cX0_isRule : ByteArray := prog_1_method_10_code
def dkwX0_isRule_2 : List UInt8 := [153, 0, 7, 4, 167, 0, 4, 3, 172]
abbrev dktX0_isRule_2 : List UInt8 := dkwX0_isRule_2 ++ []
def dkwX0_isRule_1 : List UInt8 := [20, 0, 103, 184, 0, 25, 154, 0, 20, 26, 5, 160, 0, 19, 27, 133, 9, 20, 0, 59, 184, 0, 25]
abbrev dktX0_isRule_1 : List UInt8 := dkwX0_isRule_1 ++ dktX0_isRule_2
def dkwX0_isRule_0 : List UInt8 := [26, 154, 0, 15, 27, 133, 9, 20, 0, 101, 184, 0, 25, 154, 0, 37, 26, 4, 160, 0, 15, 27, 133, 9]
abbrev dktX0_isRule_0 : List UInt8 := dkwX0_isRule_0 ++ dktX0_isRule_1
theorem dksX0_isRule_0 : cX0_isRule.data.toList.drop 0 = dktX0_isRule_0 := by decide +kernel
theorem dksX0_isRule_1 : cX0_isRule.data.toList.drop 24 = dktX0_isRule_1 := dk_seg dksX0_isRule_0 24 rfl rfl
theorem dksX0_isRule_2 : cX0_isRule.data.toList.drop 47 = dktX0_isRule_2 := dk_seg dksX0_isRule_1 23 rfl rfl
theorem dX0_isRule_0 : decode cX0_isRule 0 = .ok (.iload_n 0, 1) := dk_26 (dk_at dksX0_isRule_0 0 rfl rfl)
theorem dX0_isRule_1 : decode cX0_isRule 1 = .ok (.ifCond .ne 15, 3) := dk_154 0 15 (dk_at dksX0_isRule_0 1 rfl rfl)
theorem dX0_isRule_4 : decode cX0_isRule 4 = .ok (.iload_n 1, 1) := dk_27 (dk_at dksX0_isRule_0 4 rfl rfl)
theorem dX0_isRule_5 : decode cX0_isRule 5 = .ok (.i2l, 1) := dk_133 (dk_at dksX0_isRule_0 5 rfl rfl)
theorem dX0_isRule_6 : decode cX0_isRule 6 = .ok (.lconst 0, 1) := dk_9 (dk_at dksX0_isRule_0 6 rfl rfl)
theorem dX0_isRule_7 : decode cX0_isRule 7 = .ok (.ldc2_w 101, 3) := dk_20 0 101 (dk_at dksX0_isRule_0 7 rfl rfl)
theorem dX0_isRule_10 : decode cX0_isRule 10 = .ok (.invokestatic 25, 3) := dk_184 0 25 (dk_at dksX0_isRule_0 10 rfl rfl)
theorem dX0_isRule_13 : decode cX0_isRule 13 = .ok (.ifCond .ne 37, 3) := dk_154 0 37 (dk_at dksX0_isRule_0 13 rfl rfl)
theorem dX0_isRule_16 : decode cX0_isRule 16 = .ok (.iload_n 0, 1) := dk_26 (dk_at dksX0_isRule_0 16 rfl rfl)
theorem dX0_isRule_17 : decode cX0_isRule 17 = .ok (.iconst 1, 1) := dk_4 (dk_at dksX0_isRule_0 17 rfl rfl)
theorem dX0_isRule_18 : decode cX0_isRule 18 = .ok (.if_icmp .ne 15, 3) := dk_160 0 15 (dk_at dksX0_isRule_0 18 rfl rfl)
theorem dX0_isRule_21 : decode cX0_isRule 21 = .ok (.iload_n 1, 1) := dk_27 (dk_at dksX0_isRule_0 21 rfl rfl)
theorem dX0_isRule_22 : decode cX0_isRule 22 = .ok (.i2l, 1) := dk_133 (dk_at dksX0_isRule_0 22 rfl rfl)
theorem dX0_isRule_23 : decode cX0_isRule 23 = .ok (.lconst 0, 1) := dk_9 (dk_at dksX0_isRule_0 23 rfl rfl)
theorem dX0_isRule_24 : decode cX0_isRule 24 = .ok (.ldc2_w 103, 3) := dk_20 0 103 (dk_at dksX0_isRule_1 0 rfl rfl)
theorem dX0_isRule_27 : decode cX0_isRule 27 = .ok (.invokestatic 25, 3) := dk_184 0 25 (dk_at dksX0_isRule_1 3 rfl rfl)
theorem dX0_isRule_30 : decode cX0_isRule 30 = .ok (.ifCond .ne 20, 3) := dk_154 0 20 (dk_at dksX0_isRule_1 6 rfl rfl)
theorem dX0_isRule_33 : decode cX0_isRule 33 = .ok (.iload_n 0, 1) := dk_26 (dk_at dksX0_isRule_1 9 rfl rfl)
theorem dX0_isRule_34 : decode cX0_isRule 34 = .ok (.iconst 2, 1) := dk_5 (dk_at dksX0_isRule_1 10 rfl rfl)
theorem dX0_isRule_35 : decode cX0_isRule 35 = .ok (.if_icmp .ne 19, 3) := dk_160 0 19 (dk_at dksX0_isRule_1 11 rfl rfl)
theorem dX0_isRule_38 : decode cX0_isRule 38 = .ok (.iload_n 1, 1) := dk_27 (dk_at dksX0_isRule_1 14 rfl rfl)
theorem dX0_isRule_39 : decode cX0_isRule 39 = .ok (.i2l, 1) := dk_133 (dk_at dksX0_isRule_1 15 rfl rfl)
theorem dX0_isRule_40 : decode cX0_isRule 40 = .ok (.lconst 0, 1) := dk_9 (dk_at dksX0_isRule_1 16 rfl rfl)
theorem dX0_isRule_41 : decode cX0_isRule 41 = .ok (.ldc2_w 59, 3) := dk_20 0 59 (dk_at dksX0_isRule_1 17 rfl rfl)
theorem dX0_isRule_44 : decode cX0_isRule 44 = .ok (.invokestatic 25, 3) := dk_184 0 25 (dk_at dksX0_isRule_1 20 rfl rfl)
theorem dX0_isRule_47 : decode cX0_isRule 47 = .ok (.ifCond .eq 7, 3) := dk_153 0 7 (dk_at dksX0_isRule_2 0 rfl rfl)
theorem dX0_isRule_50 : decode cX0_isRule 50 = .ok (.iconst 1, 1) := dk_4 (dk_at dksX0_isRule_2 3 rfl rfl)
theorem dX0_isRule_51 : decode cX0_isRule 51 = .ok (.goto 4, 3) := dk_167 0 4 (dk_at dksX0_isRule_2 4 rfl rfl)
theorem dX0_isRule_54 : decode cX0_isRule 54 = .ok (.iconst 0, 1) := dk_3 (dk_at dksX0_isRule_2 7 rfl rfl)
theorem dX0_isRule_55 : decode cX0_isRule 55 = .ok (.ireturn, 1) := dk_172 (dk_at dksX0_isRule_2 8 rfl rfl)
abbrev cX0_ruled : ByteArray := prog_1_method_11_code
def dkwX0_ruled_3 : List UInt8 := [42, 28, 181, 0, 105, 167, 0, 16, 42, 28, 181, 0, 108, 167, 0, 8, 42, 28, 181, 0, 111, 29, 172]
abbrev dktX0_ruled_3 : List UInt8 := dkwX0_ruled_3 ++ []
def dkwX0_ruled_2 : List UInt8 := [171, 0, 0, 0, 0, 0, 43, 0, 0, 0, 2, 0, 0, 0, 0, 0, 0, 0, 27, 0, 0, 0, 1, 0, 0, 0, 35]
abbrev dktX0_ruled_2 : List UInt8 := dkwX0_ruled_2 ++ dktX0_ruled_3
def dkwX0_ruled_1 : List UInt8 := [180, 0, 111, 62, 27]
abbrev dktX0_ruled_1 : List UInt8 := dkwX0_ruled_1 ++ dktX0_ruled_2
def dkwX0_ruled_0 : List UInt8 := [27, 154, 0, 10, 42, 180, 0, 105, 167, 0, 19, 27, 4, 160, 0, 10, 42, 180, 0, 108, 167, 0, 7, 42]
abbrev dktX0_ruled_0 : List UInt8 := dkwX0_ruled_0 ++ dktX0_ruled_1
theorem dksX0_ruled_0 : cX0_ruled.data.toList.drop 0 = dktX0_ruled_0 := by decide +kernel
theorem dksX0_ruled_1 : cX0_ruled.data.toList.drop 24 = dktX0_ruled_1 := dk_seg dksX0_ruled_0 24 rfl rfl
theorem dksX0_ruled_2 : cX0_ruled.data.toList.drop 29 = dktX0_ruled_2 := dk_seg dksX0_ruled_1 5 rfl rfl
theorem dksX0_ruled_3 : cX0_ruled.data.toList.drop 56 = dktX0_ruled_3 := dk_seg dksX0_ruled_2 27 rfl rfl
theorem dX0_ruled_0 : decode cX0_ruled 0 = .ok (.iload_n 1, 1) := dk_27 (dk_at dksX0_ruled_0 0 rfl rfl)
theorem dX0_ruled_1 : decode cX0_ruled 1 = .ok (.ifCond .ne 10, 3) := dk_154 0 10 (dk_at dksX0_ruled_0 1 rfl rfl)
theorem dX0_ruled_4 : decode cX0_ruled 4 = .ok (.aload_n 0, 1) := dk_42 (dk_at dksX0_ruled_0 4 rfl rfl)
theorem dX0_ruled_5 : decode cX0_ruled 5 = .ok (.getfield 105, 3) := dk_180 0 105 (dk_at dksX0_ruled_0 5 rfl rfl)
theorem dX0_ruled_8 : decode cX0_ruled 8 = .ok (.goto 19, 3) := dk_167 0 19 (dk_at dksX0_ruled_0 8 rfl rfl)
theorem dX0_ruled_11 : decode cX0_ruled 11 = .ok (.iload_n 1, 1) := dk_27 (dk_at dksX0_ruled_0 11 rfl rfl)
theorem dX0_ruled_12 : decode cX0_ruled 12 = .ok (.iconst 1, 1) := dk_4 (dk_at dksX0_ruled_0 12 rfl rfl)
theorem dX0_ruled_13 : decode cX0_ruled 13 = .ok (.if_icmp .ne 10, 3) := dk_160 0 10 (dk_at dksX0_ruled_0 13 rfl rfl)
theorem dX0_ruled_16 : decode cX0_ruled 16 = .ok (.aload_n 0, 1) := dk_42 (dk_at dksX0_ruled_0 16 rfl rfl)
theorem dX0_ruled_17 : decode cX0_ruled 17 = .ok (.getfield 108, 3) := dk_180 0 108 (dk_at dksX0_ruled_0 17 rfl rfl)
theorem dX0_ruled_20 : decode cX0_ruled 20 = .ok (.goto 7, 3) := dk_167 0 7 (dk_at dksX0_ruled_0 20 rfl rfl)
theorem dX0_ruled_23 : decode cX0_ruled 23 = .ok (.aload_n 0, 1) := dk_42 (dk_at dksX0_ruled_0 23 rfl rfl)
theorem dX0_ruled_24 : decode cX0_ruled 24 = .ok (.getfield 111, 3) := dk_180 0 111 (dk_at dksX0_ruled_1 0 rfl rfl)
theorem dX0_ruled_27 : decode cX0_ruled 27 = .ok (.istore_n 3, 1) := dk_62 (dk_at dksX0_ruled_1 3 rfl rfl)
theorem dX0_ruled_28 : decode cX0_ruled 28 = .ok (.iload_n 1, 1) := dk_27 (dk_at dksX0_ruled_1 4 rfl rfl)
theorem dX0_ruled_29 : decode cX0_ruled 29 = .ok (.lookupswitch 43 #[(0, 27), (1, 35)], 27) := by decide +kernel
theorem dX0_ruled_56 : decode cX0_ruled 56 = .ok (.aload_n 0, 1) := dk_42 (dk_at dksX0_ruled_3 0 rfl rfl)
theorem dX0_ruled_57 : decode cX0_ruled 57 = .ok (.iload_n 2, 1) := dk_28 (dk_at dksX0_ruled_3 1 rfl rfl)
theorem dX0_ruled_58 : decode cX0_ruled 58 = .ok (.putfield 105, 3) := dk_181 0 105 (dk_at dksX0_ruled_3 2 rfl rfl)
theorem dX0_ruled_61 : decode cX0_ruled 61 = .ok (.goto 16, 3) := dk_167 0 16 (dk_at dksX0_ruled_3 5 rfl rfl)
theorem dX0_ruled_64 : decode cX0_ruled 64 = .ok (.aload_n 0, 1) := dk_42 (dk_at dksX0_ruled_3 8 rfl rfl)
theorem dX0_ruled_65 : decode cX0_ruled 65 = .ok (.iload_n 2, 1) := dk_28 (dk_at dksX0_ruled_3 9 rfl rfl)
theorem dX0_ruled_66 : decode cX0_ruled 66 = .ok (.putfield 108, 3) := dk_181 0 108 (dk_at dksX0_ruled_3 10 rfl rfl)
theorem dX0_ruled_69 : decode cX0_ruled 69 = .ok (.goto 8, 3) := dk_167 0 8 (dk_at dksX0_ruled_3 13 rfl rfl)
theorem dX0_ruled_72 : decode cX0_ruled 72 = .ok (.aload_n 0, 1) := dk_42 (dk_at dksX0_ruled_3 16 rfl rfl)
theorem dX0_ruled_73 : decode cX0_ruled 73 = .ok (.iload_n 2, 1) := dk_28 (dk_at dksX0_ruled_3 17 rfl rfl)
theorem dX0_ruled_74 : decode cX0_ruled 74 = .ok (.putfield 111, 3) := dk_181 0 111 (dk_at dksX0_ruled_3 18 rfl rfl)
theorem dX0_ruled_77 : decode cX0_ruled 77 = .ok (.iload_n 3, 1) := dk_29 (dk_at dksX0_ruled_3 21 rfl rfl)
theorem dX0_ruled_78 : decode cX0_ruled 78 = .ok (.ireturn, 1) := dk_172 (dk_at dksX0_ruled_3 22 rfl rfl)
abbrev cX0_jobAt : ByteArray := prog_1_method_6_code
def dkwX0_jobAt_1 : List UInt8 := [180, 0, 16, 180, 0, 39, 27, 182, 0, 49, 192, 0, 53, 167, 0, 4, 1, 176]
abbrev dktX0_jobAt_1 : List UInt8 := dkwX0_jobAt_1 ++ []
def dkwX0_jobAt_0 : List UInt8 := [27, 133, 9, 42, 180, 0, 16, 180, 0, 39, 182, 0, 43, 4, 100, 133, 184, 0, 25, 153, 0, 20, 42]
abbrev dktX0_jobAt_0 : List UInt8 := dkwX0_jobAt_0 ++ dktX0_jobAt_1
theorem dksX0_jobAt_0 : cX0_jobAt.data.toList.drop 0 = dktX0_jobAt_0 := by decide +kernel
theorem dksX0_jobAt_1 : cX0_jobAt.data.toList.drop 23 = dktX0_jobAt_1 := dk_seg dksX0_jobAt_0 23 rfl rfl
theorem dX0_jobAt_0 : decode cX0_jobAt 0 = .ok (.iload_n 1, 1) := dk_27 (dk_at dksX0_jobAt_0 0 rfl rfl)
theorem dX0_jobAt_1 : decode cX0_jobAt 1 = .ok (.i2l, 1) := dk_133 (dk_at dksX0_jobAt_0 1 rfl rfl)
theorem dX0_jobAt_2 : decode cX0_jobAt 2 = .ok (.lconst 0, 1) := dk_9 (dk_at dksX0_jobAt_0 2 rfl rfl)
theorem dX0_jobAt_3 : decode cX0_jobAt 3 = .ok (.aload_n 0, 1) := dk_42 (dk_at dksX0_jobAt_0 3 rfl rfl)
theorem dX0_jobAt_4 : decode cX0_jobAt 4 = .ok (.getfield 16, 3) := dk_180 0 16 (dk_at dksX0_jobAt_0 4 rfl rfl)
theorem dX0_jobAt_7 : decode cX0_jobAt 7 = .ok (.getfield 39, 3) := dk_180 0 39 (dk_at dksX0_jobAt_0 7 rfl rfl)
theorem dX0_jobAt_10 : decode cX0_jobAt 10 = .ok (.invokevirtual 43, 3) := dk_182 0 43 (dk_at dksX0_jobAt_0 10 rfl rfl)
theorem dX0_jobAt_13 : decode cX0_jobAt 13 = .ok (.iconst 1, 1) := dk_4 (dk_at dksX0_jobAt_0 13 rfl rfl)
theorem dX0_jobAt_14 : decode cX0_jobAt 14 = .ok (.isub, 1) := dk_100 (dk_at dksX0_jobAt_0 14 rfl rfl)
theorem dX0_jobAt_15 : decode cX0_jobAt 15 = .ok (.i2l, 1) := dk_133 (dk_at dksX0_jobAt_0 15 rfl rfl)
theorem dX0_jobAt_16 : decode cX0_jobAt 16 = .ok (.invokestatic 25, 3) := dk_184 0 25 (dk_at dksX0_jobAt_0 16 rfl rfl)
theorem dX0_jobAt_19 : decode cX0_jobAt 19 = .ok (.ifCond .eq 20, 3) := dk_153 0 20 (dk_at dksX0_jobAt_0 19 rfl rfl)
theorem dX0_jobAt_22 : decode cX0_jobAt 22 = .ok (.aload_n 0, 1) := dk_42 (dk_at dksX0_jobAt_0 22 rfl rfl)
theorem dX0_jobAt_23 : decode cX0_jobAt 23 = .ok (.getfield 16, 3) := dk_180 0 16 (dk_at dksX0_jobAt_1 0 rfl rfl)
theorem dX0_jobAt_26 : decode cX0_jobAt 26 = .ok (.getfield 39, 3) := dk_180 0 39 (dk_at dksX0_jobAt_1 3 rfl rfl)
theorem dX0_jobAt_29 : decode cX0_jobAt 29 = .ok (.iload_n 1, 1) := dk_27 (dk_at dksX0_jobAt_1 6 rfl rfl)
theorem dX0_jobAt_30 : decode cX0_jobAt 30 = .ok (.invokevirtual 49, 3) := dk_182 0 49 (dk_at dksX0_jobAt_1 7 rfl rfl)
theorem dX0_jobAt_33 : decode cX0_jobAt 33 = .ok (.checkcast 53, 3) := dk_192 0 53 (dk_at dksX0_jobAt_1 10 rfl rfl)
theorem dX0_jobAt_36 : decode cX0_jobAt 36 = .ok (.goto 4, 3) := dk_167 0 4 (dk_at dksX0_jobAt_1 13 rfl rfl)
theorem dX0_jobAt_39 : decode cX0_jobAt 39 = .ok (.aconst_null, 1) := dk_1 (dk_at dksX0_jobAt_1 16 rfl rfl)
theorem dX0_jobAt_40 : decode cX0_jobAt 40 = .ok (.areturn, 1) := dk_176 (dk_at dksX0_jobAt_1 17 rfl rfl)
abbrev cX9_init : ByteArray := prog_5_method_1_code
def dkwX9_init_0 : List UInt8 := [42, 43, 181, 0, 3, 42, 183, 0, 9, 42, 187, 0, 15, 89, 183, 0, 17, 181, 0, 18, 177]
abbrev dktX9_init_0 : List UInt8 := dkwX9_init_0 ++ []
theorem dksX9_init_0 : cX9_init.data.toList.drop 0 = dktX9_init_0 := by decide +kernel
theorem dX9_init_0 : decode cX9_init 0 = .ok (.aload_n 0, 1) := dk_42 (dk_at dksX9_init_0 0 rfl rfl)
theorem dX9_init_1 : decode cX9_init 1 = .ok (.aload_n 1, 1) := dk_43 (dk_at dksX9_init_0 1 rfl rfl)
theorem dX9_init_2 : decode cX9_init 2 = .ok (.putfield 3, 3) := dk_181 0 3 (dk_at dksX9_init_0 2 rfl rfl)
theorem dX9_init_5 : decode cX9_init 5 = .ok (.aload_n 0, 1) := dk_42 (dk_at dksX9_init_0 5 rfl rfl)
theorem dX9_init_6 : decode cX9_init 6 = .ok (.invokespecial 9, 3) := dk_183 0 9 (dk_at dksX9_init_0 6 rfl rfl)
theorem dX9_init_9 : decode cX9_init 9 = .ok (.aload_n 0, 1) := dk_42 (dk_at dksX9_init_0 9 rfl rfl)
theorem dX9_init_10 : decode cX9_init 10 = .ok (.new 15, 3) := dk_187 0 15 (dk_at dksX9_init_0 10 rfl rfl)
theorem dX9_init_13 : decode cX9_init 13 = .ok (.dup, 1) := dk_89 (dk_at dksX9_init_0 13 rfl rfl)
theorem dX9_init_14 : decode cX9_init 14 = .ok (.invokespecial 17, 3) := dk_183 0 17 (dk_at dksX9_init_0 14 rfl rfl)
theorem dX9_init_17 : decode cX9_init 17 = .ok (.putfield 18, 3) := dk_181 0 18 (dk_at dksX9_init_0 17 rfl rfl)
theorem dX9_init_20 : decode cX9_init 20 = .ok (.return_, 1) := dk_177 (dk_at dksX9_init_0 20 rfl rfl)
abbrev cX9_read : ByteArray := prog_5_method_5_code
def dkwX9_read_1 : List UInt8 := [61, 42, 180, 0, 3, 3, 181, 0, 26, 28, 172, 78, 42, 180, 0, 3, 3, 181, 0, 26, 45, 191]
abbrev dktX9_read_1 : List UInt8 := dkwX9_read_1 ++ []
def dkwX9_read_0 : List UInt8 := [42, 182, 0, 66, 3, 60, 42, 180, 0, 3, 3, 181, 0, 26, 27, 172, 76, 16, 156, 43, 180, 0, 69, 100]
abbrev dktX9_read_0 : List UInt8 := dkwX9_read_0 ++ dktX9_read_1
theorem dksX9_read_0 : cX9_read.data.toList.drop 0 = dktX9_read_0 := by decide +kernel
theorem dksX9_read_1 : cX9_read.data.toList.drop 24 = dktX9_read_1 := dk_seg dksX9_read_0 24 rfl rfl
theorem dX9_read_0 : decode cX9_read 0 = .ok (.aload_n 0, 1) := dk_42 (dk_at dksX9_read_0 0 rfl rfl)
theorem dX9_read_1 : decode cX9_read 1 = .ok (.invokevirtual 66, 3) := dk_182 0 66 (dk_at dksX9_read_0 1 rfl rfl)
theorem dX9_read_4 : decode cX9_read 4 = .ok (.iconst 0, 1) := dk_3 (dk_at dksX9_read_0 4 rfl rfl)
theorem dX9_read_5 : decode cX9_read 5 = .ok (.istore_n 1, 1) := dk_60 (dk_at dksX9_read_0 5 rfl rfl)
theorem dX9_read_6 : decode cX9_read 6 = .ok (.aload_n 0, 1) := dk_42 (dk_at dksX9_read_0 6 rfl rfl)
theorem dX9_read_7 : decode cX9_read 7 = .ok (.getfield 3, 3) := dk_180 0 3 (dk_at dksX9_read_0 7 rfl rfl)
theorem dX9_read_10 : decode cX9_read 10 = .ok (.iconst 0, 1) := dk_3 (dk_at dksX9_read_0 10 rfl rfl)
theorem dX9_read_11 : decode cX9_read 11 = .ok (.putfield 26, 3) := dk_181 0 26 (dk_at dksX9_read_0 11 rfl rfl)
theorem dX9_read_14 : decode cX9_read 14 = .ok (.iload_n 1, 1) := dk_27 (dk_at dksX9_read_0 14 rfl rfl)
theorem dX9_read_15 : decode cX9_read 15 = .ok (.ireturn, 1) := dk_172 (dk_at dksX9_read_0 15 rfl rfl)
theorem dX9_read_16 : decode cX9_read 16 = .ok (.astore_n 1, 1) := dk_76 (dk_at dksX9_read_0 16 rfl rfl)
theorem dX9_read_17 : decode cX9_read 17 = .ok (.bipush (-100), 2) := dk_16 156 (dk_at dksX9_read_0 17 rfl rfl)
theorem dX9_read_19 : decode cX9_read 19 = .ok (.aload_n 1, 1) := dk_43 (dk_at dksX9_read_0 19 rfl rfl)
theorem dX9_read_20 : decode cX9_read 20 = .ok (.getfield 69, 3) := dk_180 0 69 (dk_at dksX9_read_0 20 rfl rfl)
theorem dX9_read_23 : decode cX9_read 23 = .ok (.isub, 1) := dk_100 (dk_at dksX9_read_0 23 rfl rfl)
theorem dX9_read_24 : decode cX9_read 24 = .ok (.istore_n 2, 1) := dk_61 (dk_at dksX9_read_1 0 rfl rfl)
theorem dX9_read_25 : decode cX9_read 25 = .ok (.aload_n 0, 1) := dk_42 (dk_at dksX9_read_1 1 rfl rfl)
theorem dX9_read_26 : decode cX9_read 26 = .ok (.getfield 3, 3) := dk_180 0 3 (dk_at dksX9_read_1 2 rfl rfl)
theorem dX9_read_29 : decode cX9_read 29 = .ok (.iconst 0, 1) := dk_3 (dk_at dksX9_read_1 5 rfl rfl)
theorem dX9_read_30 : decode cX9_read 30 = .ok (.putfield 26, 3) := dk_181 0 26 (dk_at dksX9_read_1 6 rfl rfl)
theorem dX9_read_33 : decode cX9_read 33 = .ok (.iload_n 2, 1) := dk_28 (dk_at dksX9_read_1 9 rfl rfl)
theorem dX9_read_34 : decode cX9_read 34 = .ok (.ireturn, 1) := dk_172 (dk_at dksX9_read_1 10 rfl rfl)
theorem dX9_read_35 : decode cX9_read 35 = .ok (.astore_n 3, 1) := dk_78 (dk_at dksX9_read_1 11 rfl rfl)
theorem dX9_read_36 : decode cX9_read 36 = .ok (.aload_n 0, 1) := dk_42 (dk_at dksX9_read_1 12 rfl rfl)
theorem dX9_read_37 : decode cX9_read 37 = .ok (.getfield 3, 3) := dk_180 0 3 (dk_at dksX9_read_1 13 rfl rfl)
theorem dX9_read_40 : decode cX9_read 40 = .ok (.iconst 0, 1) := dk_3 (dk_at dksX9_read_1 16 rfl rfl)
theorem dX9_read_41 : decode cX9_read 41 = .ok (.putfield 26, 3) := dk_181 0 26 (dk_at dksX9_read_1 17 rfl rfl)
theorem dX9_read_44 : decode cX9_read 44 = .ok (.aload_n 3, 1) := dk_45 (dk_at dksX9_read_1 20 rfl rfl)
theorem dX9_read_45 : decode cX9_read 45 = .ok (.athrow, 1) := dk_191 (dk_at dksX9_read_1 21 rfl rfl)
abbrev cX9_row : ByteArray := prog_5_method_6_code
def dkwX9_row_1 : List UInt8 := [180, 0, 18, 28, 182, 0, 72, 192, 0, 54, 83, 132, 2, 1, 167, 255, 233, 43, 176]
abbrev dktX9_row_1 : List UInt8 := dkwX9_row_1 ++ []
def dkwX9_row_0 : List UInt8 := [42, 180, 0, 18, 182, 0, 56, 189, 0, 54, 76, 3, 61, 28, 43, 190, 162, 0, 23, 43, 28, 42]
abbrev dktX9_row_0 : List UInt8 := dkwX9_row_0 ++ dktX9_row_1
theorem dksX9_row_0 : cX9_row.data.toList.drop 0 = dktX9_row_0 := by decide +kernel
theorem dksX9_row_1 : cX9_row.data.toList.drop 22 = dktX9_row_1 := dk_seg dksX9_row_0 22 rfl rfl
theorem dX9_row_0 : decode cX9_row 0 = .ok (.aload_n 0, 1) := dk_42 (dk_at dksX9_row_0 0 rfl rfl)
theorem dX9_row_1 : decode cX9_row 1 = .ok (.getfield 18, 3) := dk_180 0 18 (dk_at dksX9_row_0 1 rfl rfl)
theorem dX9_row_4 : decode cX9_row 4 = .ok (.invokevirtual 56, 3) := dk_182 0 56 (dk_at dksX9_row_0 4 rfl rfl)
theorem dX9_row_7 : decode cX9_row 7 = .ok (.anewarray 54, 3) := dk_189 0 54 (dk_at dksX9_row_0 7 rfl rfl)
theorem dX9_row_10 : decode cX9_row 10 = .ok (.astore_n 1, 1) := dk_76 (dk_at dksX9_row_0 10 rfl rfl)
theorem dX9_row_11 : decode cX9_row 11 = .ok (.iconst 0, 1) := dk_3 (dk_at dksX9_row_0 11 rfl rfl)
theorem dX9_row_12 : decode cX9_row 12 = .ok (.istore_n 2, 1) := dk_61 (dk_at dksX9_row_0 12 rfl rfl)
theorem dX9_row_13 : decode cX9_row 13 = .ok (.iload_n 2, 1) := dk_28 (dk_at dksX9_row_0 13 rfl rfl)
theorem dX9_row_14 : decode cX9_row 14 = .ok (.aload_n 1, 1) := dk_43 (dk_at dksX9_row_0 14 rfl rfl)
theorem dX9_row_15 : decode cX9_row 15 = .ok (.arraylength, 1) := dk_190 (dk_at dksX9_row_0 15 rfl rfl)
theorem dX9_row_16 : decode cX9_row 16 = .ok (.if_icmp .ge 23, 3) := dk_162 0 23 (dk_at dksX9_row_0 16 rfl rfl)
theorem dX9_row_19 : decode cX9_row 19 = .ok (.aload_n 1, 1) := dk_43 (dk_at dksX9_row_0 19 rfl rfl)
theorem dX9_row_20 : decode cX9_row 20 = .ok (.iload_n 2, 1) := dk_28 (dk_at dksX9_row_0 20 rfl rfl)
theorem dX9_row_21 : decode cX9_row 21 = .ok (.aload_n 0, 1) := dk_42 (dk_at dksX9_row_0 21 rfl rfl)
theorem dX9_row_22 : decode cX9_row 22 = .ok (.getfield 18, 3) := dk_180 0 18 (dk_at dksX9_row_1 0 rfl rfl)
theorem dX9_row_25 : decode cX9_row 25 = .ok (.iload_n 2, 1) := dk_28 (dk_at dksX9_row_1 3 rfl rfl)
theorem dX9_row_26 : decode cX9_row 26 = .ok (.invokevirtual 72, 3) := dk_182 0 72 (dk_at dksX9_row_1 4 rfl rfl)
theorem dX9_row_29 : decode cX9_row 29 = .ok (.checkcast 54, 3) := dk_192 0 54 (dk_at dksX9_row_1 7 rfl rfl)
theorem dX9_row_32 : decode cX9_row 32 = .ok (.aastore, 1) := dk_83 (dk_at dksX9_row_1 10 rfl rfl)
theorem dX9_row_33 : decode cX9_row 33 = .ok (.iinc 2 1, 3) := dk_132 2 1 (dk_at dksX9_row_1 11 rfl rfl)
theorem dX9_row_36 : decode cX9_row 36 = .ok (.goto (-23), 3) := dk_167 255 233 (dk_at dksX9_row_1 14 rfl rfl)
theorem dX9_row_39 : decode cX9_row 39 = .ok (.aload_n 1, 1) := dk_43 (dk_at dksX9_row_1 17 rfl rfl)
theorem dX9_row_40 : decode cX9_row 40 = .ok (.areturn, 1) := dk_176 (dk_at dksX9_row_1 18 rfl rfl)
abbrev cX12_init : ByteArray := prog_18_method_1_code
def dkwX12_init_5 : List UInt8 := [21, 8, 132, 8, 1, 25, 10, 83, 167, 255, 222, 177]
abbrev dktX12_init_5 : List UInt8 := dkwX12_init_5 ++ []
def dkwX12_init_4 : List UInt8 := [185, 0, 61, 1, 0, 153, 0, 30, 25, 9, 185, 0, 67, 1, 0, 192, 0, 46, 58, 10, 42, 180, 0, 48]
abbrev dktX12_init_4 : List UInt8 := dkwX12_init_4 ++ dktX12_init_5
def dkwX12_init_3 : List UInt8 := [189, 0, 46, 181, 0, 48, 3, 54, 8, 42, 182, 0, 51, 182, 0, 55, 58, 9, 25, 9]
abbrev dktX12_init_3 : List UInt8 := dkwX12_init_3 ++ dktX12_init_4
def dkwX12_init_2 : List UInt8 := [42, 21, 5, 181, 0, 36, 42, 21, 6, 181, 0, 39, 42, 25, 7, 181, 0, 42, 42, 25, 7, 190]
abbrev dktX12_init_2 : List UInt8 := dkwX12_init_2 ++ dktX12_init_3
def dkwX12_init_1 : List UInt8 := [181, 0, 21, 42, 27, 181, 0, 24, 42, 28, 181, 0, 27, 42, 29, 181, 0, 30, 42, 21, 4, 181, 0, 33]
abbrev dktX12_init_1 : List UInt8 := dkwX12_init_1 ++ dktX12_init_2
def dkwX12_init_0 : List UInt8 := [42, 183, 0, 3, 42, 3, 181, 0, 9, 42, 16, 254, 181, 0, 15, 42, 16, 254, 181, 0, 18, 42, 16, 254]
abbrev dktX12_init_0 : List UInt8 := dkwX12_init_0 ++ dktX12_init_1
theorem dksX12_init_0 : cX12_init.data.toList.drop 0 = dktX12_init_0 := by decide +kernel
theorem dksX12_init_1 : cX12_init.data.toList.drop 24 = dktX12_init_1 := dk_seg dksX12_init_0 24 rfl rfl
theorem dksX12_init_2 : cX12_init.data.toList.drop 48 = dktX12_init_2 := dk_seg dksX12_init_1 24 rfl rfl
theorem dksX12_init_3 : cX12_init.data.toList.drop 70 = dktX12_init_3 := dk_seg dksX12_init_2 22 rfl rfl
theorem dksX12_init_4 : cX12_init.data.toList.drop 90 = dktX12_init_4 := dk_seg dksX12_init_3 20 rfl rfl
theorem dksX12_init_5 : cX12_init.data.toList.drop 114 = dktX12_init_5 := dk_seg dksX12_init_4 24 rfl rfl
theorem dX12_init_0 : decode cX12_init 0 = .ok (.aload_n 0, 1) := dk_42 (dk_at dksX12_init_0 0 rfl rfl)
theorem dX12_init_1 : decode cX12_init 1 = .ok (.invokespecial 3, 3) := dk_183 0 3 (dk_at dksX12_init_0 1 rfl rfl)
theorem dX12_init_4 : decode cX12_init 4 = .ok (.aload_n 0, 1) := dk_42 (dk_at dksX12_init_0 4 rfl rfl)
theorem dX12_init_5 : decode cX12_init 5 = .ok (.iconst 0, 1) := dk_3 (dk_at dksX12_init_0 5 rfl rfl)
theorem dX12_init_6 : decode cX12_init 6 = .ok (.putfield 9, 3) := dk_181 0 9 (dk_at dksX12_init_0 6 rfl rfl)
theorem dX12_init_9 : decode cX12_init 9 = .ok (.aload_n 0, 1) := dk_42 (dk_at dksX12_init_0 9 rfl rfl)
theorem dX12_init_10 : decode cX12_init 10 = .ok (.bipush (-2), 2) := dk_16 254 (dk_at dksX12_init_0 10 rfl rfl)
theorem dX12_init_12 : decode cX12_init 12 = .ok (.putfield 15, 3) := dk_181 0 15 (dk_at dksX12_init_0 12 rfl rfl)
theorem dX12_init_15 : decode cX12_init 15 = .ok (.aload_n 0, 1) := dk_42 (dk_at dksX12_init_0 15 rfl rfl)
theorem dX12_init_16 : decode cX12_init 16 = .ok (.bipush (-2), 2) := dk_16 254 (dk_at dksX12_init_0 16 rfl rfl)
theorem dX12_init_18 : decode cX12_init 18 = .ok (.putfield 18, 3) := dk_181 0 18 (dk_at dksX12_init_0 18 rfl rfl)
theorem dX12_init_21 : decode cX12_init 21 = .ok (.aload_n 0, 1) := dk_42 (dk_at dksX12_init_0 21 rfl rfl)
theorem dX12_init_22 : decode cX12_init 22 = .ok (.bipush (-2), 2) := dk_16 254 (dk_at dksX12_init_0 22 rfl rfl)
theorem dX12_init_24 : decode cX12_init 24 = .ok (.putfield 21, 3) := dk_181 0 21 (dk_at dksX12_init_1 0 rfl rfl)
theorem dX12_init_27 : decode cX12_init 27 = .ok (.aload_n 0, 1) := dk_42 (dk_at dksX12_init_1 3 rfl rfl)
theorem dX12_init_28 : decode cX12_init 28 = .ok (.iload_n 1, 1) := dk_27 (dk_at dksX12_init_1 4 rfl rfl)
theorem dX12_init_29 : decode cX12_init 29 = .ok (.putfield 24, 3) := dk_181 0 24 (dk_at dksX12_init_1 5 rfl rfl)
theorem dX12_init_32 : decode cX12_init 32 = .ok (.aload_n 0, 1) := dk_42 (dk_at dksX12_init_1 8 rfl rfl)
theorem dX12_init_33 : decode cX12_init 33 = .ok (.iload_n 2, 1) := dk_28 (dk_at dksX12_init_1 9 rfl rfl)
theorem dX12_init_34 : decode cX12_init 34 = .ok (.putfield 27, 3) := dk_181 0 27 (dk_at dksX12_init_1 10 rfl rfl)
theorem dX12_init_37 : decode cX12_init 37 = .ok (.aload_n 0, 1) := dk_42 (dk_at dksX12_init_1 13 rfl rfl)
theorem dX12_init_38 : decode cX12_init 38 = .ok (.iload_n 3, 1) := dk_29 (dk_at dksX12_init_1 14 rfl rfl)
theorem dX12_init_39 : decode cX12_init 39 = .ok (.putfield 30, 3) := dk_181 0 30 (dk_at dksX12_init_1 15 rfl rfl)
theorem dX12_init_42 : decode cX12_init 42 = .ok (.aload_n 0, 1) := dk_42 (dk_at dksX12_init_1 18 rfl rfl)
theorem dX12_init_43 : decode cX12_init 43 = .ok (.iload 4, 2) := dk_21 4 (dk_at dksX12_init_1 19 rfl rfl)
theorem dX12_init_45 : decode cX12_init 45 = .ok (.putfield 33, 3) := dk_181 0 33 (dk_at dksX12_init_1 21 rfl rfl)
theorem dX12_init_48 : decode cX12_init 48 = .ok (.aload_n 0, 1) := dk_42 (dk_at dksX12_init_2 0 rfl rfl)
theorem dX12_init_49 : decode cX12_init 49 = .ok (.iload 5, 2) := dk_21 5 (dk_at dksX12_init_2 1 rfl rfl)
theorem dX12_init_51 : decode cX12_init 51 = .ok (.putfield 36, 3) := dk_181 0 36 (dk_at dksX12_init_2 3 rfl rfl)
theorem dX12_init_54 : decode cX12_init 54 = .ok (.aload_n 0, 1) := dk_42 (dk_at dksX12_init_2 6 rfl rfl)
theorem dX12_init_55 : decode cX12_init 55 = .ok (.iload 6, 2) := dk_21 6 (dk_at dksX12_init_2 7 rfl rfl)
theorem dX12_init_57 : decode cX12_init 57 = .ok (.putfield 39, 3) := dk_181 0 39 (dk_at dksX12_init_2 9 rfl rfl)
theorem dX12_init_60 : decode cX12_init 60 = .ok (.aload_n 0, 1) := dk_42 (dk_at dksX12_init_2 12 rfl rfl)
theorem dX12_init_61 : decode cX12_init 61 = .ok (.aload 7, 2) := dk_25 7 (dk_at dksX12_init_2 13 rfl rfl)
theorem dX12_init_63 : decode cX12_init 63 = .ok (.putfield 42, 3) := dk_181 0 42 (dk_at dksX12_init_2 15 rfl rfl)
theorem dX12_init_66 : decode cX12_init 66 = .ok (.aload_n 0, 1) := dk_42 (dk_at dksX12_init_2 18 rfl rfl)
theorem dX12_init_67 : decode cX12_init 67 = .ok (.aload 7, 2) := dk_25 7 (dk_at dksX12_init_2 19 rfl rfl)
theorem dX12_init_69 : decode cX12_init 69 = .ok (.arraylength, 1) := dk_190 (dk_at dksX12_init_2 21 rfl rfl)
theorem dX12_init_70 : decode cX12_init 70 = .ok (.anewarray 46, 3) := dk_189 0 46 (dk_at dksX12_init_3 0 rfl rfl)
theorem dX12_init_73 : decode cX12_init 73 = .ok (.putfield 48, 3) := dk_181 0 48 (dk_at dksX12_init_3 3 rfl rfl)
theorem dX12_init_76 : decode cX12_init 76 = .ok (.iconst 0, 1) := dk_3 (dk_at dksX12_init_3 6 rfl rfl)
theorem dX12_init_77 : decode cX12_init 77 = .ok (.istore 8, 2) := dk_54 8 (dk_at dksX12_init_3 7 rfl rfl)
theorem dX12_init_79 : decode cX12_init 79 = .ok (.aload_n 0, 1) := dk_42 (dk_at dksX12_init_3 9 rfl rfl)
theorem dX12_init_80 : decode cX12_init 80 = .ok (.invokevirtual 51, 3) := dk_182 0 51 (dk_at dksX12_init_3 10 rfl rfl)
theorem dX12_init_83 : decode cX12_init 83 = .ok (.invokevirtual 55, 3) := dk_182 0 55 (dk_at dksX12_init_3 13 rfl rfl)
theorem dX12_init_86 : decode cX12_init 86 = .ok (.astore 9, 2) := dk_58 9 (dk_at dksX12_init_3 16 rfl rfl)
theorem dX12_init_88 : decode cX12_init 88 = .ok (.aload 9, 2) := dk_25 9 (dk_at dksX12_init_3 18 rfl rfl)
theorem dX12_init_90 : decode cX12_init 90 = .ok (.invokeinterface 61 1, 5) := by decide +kernel
theorem dX12_init_95 : decode cX12_init 95 = .ok (.ifCond .eq 30, 3) := dk_153 0 30 (dk_at dksX12_init_4 5 rfl rfl)
theorem dX12_init_98 : decode cX12_init 98 = .ok (.aload 9, 2) := dk_25 9 (dk_at dksX12_init_4 8 rfl rfl)
theorem dX12_init_100 : decode cX12_init 100 = .ok (.invokeinterface 67 1, 5) := by decide +kernel
theorem dX12_init_105 : decode cX12_init 105 = .ok (.checkcast 46, 3) := dk_192 0 46 (dk_at dksX12_init_4 15 rfl rfl)
theorem dX12_init_108 : decode cX12_init 108 = .ok (.astore 10, 2) := dk_58 10 (dk_at dksX12_init_4 18 rfl rfl)
theorem dX12_init_110 : decode cX12_init 110 = .ok (.aload_n 0, 1) := dk_42 (dk_at dksX12_init_4 20 rfl rfl)
theorem dX12_init_111 : decode cX12_init 111 = .ok (.getfield 48, 3) := dk_180 0 48 (dk_at dksX12_init_4 21 rfl rfl)
theorem dX12_init_114 : decode cX12_init 114 = .ok (.iload 8, 2) := dk_21 8 (dk_at dksX12_init_5 0 rfl rfl)
theorem dX12_init_116 : decode cX12_init 116 = .ok (.iinc 8 1, 3) := dk_132 8 1 (dk_at dksX12_init_5 2 rfl rfl)
theorem dX12_init_119 : decode cX12_init 119 = .ok (.aload 10, 2) := dk_25 10 (dk_at dksX12_init_5 5 rfl rfl)
theorem dX12_init_121 : decode cX12_init 121 = .ok (.aastore, 1) := dk_83 (dk_at dksX12_init_5 7 rfl rfl)
theorem dX12_init_122 : decode cX12_init 122 = .ok (.goto (-34), 3) := dk_167 255 222 (dk_at dksX12_init_5 8 rfl rfl)
theorem dX12_init_125 : decode cX12_init 125 = .ok (.return_, 1) := dk_177 (dk_at dksX12_init_5 11 rfl rfl)
abbrev cX1_happens : ByteArray := prog_8_method_8_code
def dkwX1_happens_2 : List UInt8 := [183, 1, 6, 182, 0, 140, 87, 177]
abbrev dktX1_happens_2 : List UInt8 := dkwX1_happens_2 ++ []
def dkwX1_happens_1 : List UInt8 := [3, 182, 1, 1, 87, 42, 180, 0, 36, 187, 1, 4, 89, 42, 180, 0, 203, 27, 44, 180, 0, 166]
abbrev dktX1_happens_1 : List UInt8 := dkwX1_happens_1 ++ dktX1_happens_2
def dkwX1_happens_0 : List UInt8 := [42, 180, 0, 206, 153, 0, 4, 177, 42, 180, 0, 36, 182, 0, 254, 16, 60, 160, 0, 12, 42, 180, 0, 36]
abbrev dktX1_happens_0 : List UInt8 := dkwX1_happens_0 ++ dktX1_happens_1
theorem dksX1_happens_0 : cX1_happens.data.toList.drop 0 = dktX1_happens_0 := by decide +kernel
theorem dksX1_happens_1 : cX1_happens.data.toList.drop 24 = dktX1_happens_1 := dk_seg dksX1_happens_0 24 rfl rfl
theorem dksX1_happens_2 : cX1_happens.data.toList.drop 46 = dktX1_happens_2 := dk_seg dksX1_happens_1 22 rfl rfl
theorem dX1_happens_0 : decode cX1_happens 0 = .ok (.aload_n 0, 1) := dk_42 (dk_at dksX1_happens_0 0 rfl rfl)
theorem dX1_happens_1 : decode cX1_happens 1 = .ok (.getfield 206, 3) := dk_180 0 206 (dk_at dksX1_happens_0 1 rfl rfl)
theorem dX1_happens_4 : decode cX1_happens 4 = .ok (.ifCond .eq 4, 3) := dk_153 0 4 (dk_at dksX1_happens_0 4 rfl rfl)
theorem dX1_happens_7 : decode cX1_happens 7 = .ok (.return_, 1) := dk_177 (dk_at dksX1_happens_0 7 rfl rfl)
theorem dX1_happens_8 : decode cX1_happens 8 = .ok (.aload_n 0, 1) := dk_42 (dk_at dksX1_happens_0 8 rfl rfl)
theorem dX1_happens_9 : decode cX1_happens 9 = .ok (.getfield 36, 3) := dk_180 0 36 (dk_at dksX1_happens_0 9 rfl rfl)
theorem dX1_happens_12 : decode cX1_happens 12 = .ok (.invokevirtual 254, 3) := dk_182 0 254 (dk_at dksX1_happens_0 12 rfl rfl)
theorem dX1_happens_15 : decode cX1_happens 15 = .ok (.bipush 60, 2) := dk_16 60 (dk_at dksX1_happens_0 15 rfl rfl)
theorem dX1_happens_17 : decode cX1_happens 17 = .ok (.if_icmp .ne 12, 3) := dk_160 0 12 (dk_at dksX1_happens_0 17 rfl rfl)
theorem dX1_happens_20 : decode cX1_happens 20 = .ok (.aload_n 0, 1) := dk_42 (dk_at dksX1_happens_0 20 rfl rfl)
theorem dX1_happens_21 : decode cX1_happens 21 = .ok (.getfield 36, 3) := dk_180 0 36 (dk_at dksX1_happens_0 21 rfl rfl)
theorem dX1_happens_24 : decode cX1_happens 24 = .ok (.iconst 0, 1) := dk_3 (dk_at dksX1_happens_1 0 rfl rfl)
theorem dX1_happens_25 : decode cX1_happens 25 = .ok (.invokevirtual 257, 3) := dk_182 1 1 (dk_at dksX1_happens_1 1 rfl rfl)
theorem dX1_happens_28 : decode cX1_happens 28 = .ok (.pop, 1) := dk_87 (dk_at dksX1_happens_1 4 rfl rfl)
theorem dX1_happens_29 : decode cX1_happens 29 = .ok (.aload_n 0, 1) := dk_42 (dk_at dksX1_happens_1 5 rfl rfl)
theorem dX1_happens_30 : decode cX1_happens 30 = .ok (.getfield 36, 3) := dk_180 0 36 (dk_at dksX1_happens_1 6 rfl rfl)
theorem dX1_happens_33 : decode cX1_happens 33 = .ok (.new 260, 3) := dk_187 1 4 (dk_at dksX1_happens_1 9 rfl rfl)
theorem dX1_happens_36 : decode cX1_happens 36 = .ok (.dup, 1) := dk_89 (dk_at dksX1_happens_1 12 rfl rfl)
theorem dX1_happens_37 : decode cX1_happens 37 = .ok (.aload_n 0, 1) := dk_42 (dk_at dksX1_happens_1 13 rfl rfl)
theorem dX1_happens_38 : decode cX1_happens 38 = .ok (.getfield 203, 3) := dk_180 0 203 (dk_at dksX1_happens_1 14 rfl rfl)
theorem dX1_happens_41 : decode cX1_happens 41 = .ok (.iload_n 1, 1) := dk_27 (dk_at dksX1_happens_1 17 rfl rfl)
theorem dX1_happens_42 : decode cX1_happens 42 = .ok (.aload_n 2, 1) := dk_44 (dk_at dksX1_happens_1 18 rfl rfl)
theorem dX1_happens_43 : decode cX1_happens 43 = .ok (.getfield 166, 3) := dk_180 0 166 (dk_at dksX1_happens_1 19 rfl rfl)
theorem dX1_happens_46 : decode cX1_happens 46 = .ok (.invokespecial 262, 3) := dk_183 1 6 (dk_at dksX1_happens_2 0 rfl rfl)
theorem dX1_happens_49 : decode cX1_happens 49 = .ok (.invokevirtual 140, 3) := dk_182 0 140 (dk_at dksX1_happens_2 3 rfl rfl)
theorem dX1_happens_52 : decode cX1_happens 52 = .ok (.pop, 1) := dk_87 (dk_at dksX1_happens_2 6 rfl rfl)
theorem dX1_happens_53 : decode cX1_happens 53 = .ok (.return_, 1) := dk_177 (dk_at dksX1_happens_2 7 rfl rfl)
abbrev cX1_off : ByteArray := prog_8_method_35_code
def dkwX1_off_4 : List UInt8 := [160, 0, 12, 28, 42, 25, 4, 182, 1, 212, 96, 61, 167, 255, 207, 28, 172]
abbrev dktX1_off_4 : List UInt8 := dkwX1_off_4 ++ []
def dkwX1_off_3 : List UInt8 := [192, 0, 85, 58, 4, 25, 4, 180, 0, 219, 154, 0, 24, 25, 4, 180, 0, 225, 43, 180, 0, 166]
abbrev dktX1_off_3 : List UInt8 := dkwX1_off_3 ++ dktX1_off_4
def dkwX1_off_2 : List UInt8 := [61, 42, 180, 0, 40, 182, 0, 123, 78, 45, 185, 0, 127, 1, 0, 153, 0, 46, 45, 185, 0, 133, 1, 0]
abbrev dktX1_off_2 : List UInt8 := dkwX1_off_2 ++ dktX1_off_3
def dkwX1_off_1 : List UInt8 := [42, 180, 0, 203, 181, 1, 152, 42, 7, 43, 182, 1, 92, 42, 180, 0, 82, 6, 92, 47, 10, 97, 80, 4]
abbrev dktX1_off_1 : List UInt8 := dkwX1_off_1 ++ dktX1_off_2
def dkwX1_off_0 : List UInt8 := [43, 180, 0, 219, 4, 160, 0, 8, 42, 43, 182, 1, 206, 42, 43, 182, 1, 209, 43, 7, 181, 0, 219, 43]
abbrev dktX1_off_0 : List UInt8 := dkwX1_off_0 ++ dktX1_off_1
theorem dksX1_off_0 : cX1_off.data.toList.drop 0 = dktX1_off_0 := by decide +kernel
theorem dksX1_off_1 : cX1_off.data.toList.drop 24 = dktX1_off_1 := dk_seg dksX1_off_0 24 rfl rfl
theorem dksX1_off_2 : cX1_off.data.toList.drop 48 = dktX1_off_2 := dk_seg dksX1_off_1 24 rfl rfl
theorem dksX1_off_3 : cX1_off.data.toList.drop 72 = dktX1_off_3 := dk_seg dksX1_off_2 24 rfl rfl
theorem dksX1_off_4 : cX1_off.data.toList.drop 94 = dktX1_off_4 := dk_seg dksX1_off_3 22 rfl rfl
theorem dX1_off_0 : decode cX1_off 0 = .ok (.aload_n 1, 1) := dk_43 (dk_at dksX1_off_0 0 rfl rfl)
theorem dX1_off_1 : decode cX1_off 1 = .ok (.getfield 219, 3) := dk_180 0 219 (dk_at dksX1_off_0 1 rfl rfl)
theorem dX1_off_4 : decode cX1_off 4 = .ok (.iconst 1, 1) := dk_4 (dk_at dksX1_off_0 4 rfl rfl)
theorem dX1_off_5 : decode cX1_off 5 = .ok (.if_icmp .ne 8, 3) := dk_160 0 8 (dk_at dksX1_off_0 5 rfl rfl)
theorem dX1_off_8 : decode cX1_off 8 = .ok (.aload_n 0, 1) := dk_42 (dk_at dksX1_off_0 8 rfl rfl)
theorem dX1_off_9 : decode cX1_off 9 = .ok (.aload_n 1, 1) := dk_43 (dk_at dksX1_off_0 9 rfl rfl)
theorem dX1_off_10 : decode cX1_off 10 = .ok (.invokevirtual 462, 3) := dk_182 1 206 (dk_at dksX1_off_0 10 rfl rfl)
theorem dX1_off_13 : decode cX1_off 13 = .ok (.aload_n 0, 1) := dk_42 (dk_at dksX1_off_0 13 rfl rfl)
theorem dX1_off_14 : decode cX1_off 14 = .ok (.aload_n 1, 1) := dk_43 (dk_at dksX1_off_0 14 rfl rfl)
theorem dX1_off_15 : decode cX1_off 15 = .ok (.invokevirtual 465, 3) := dk_182 1 209 (dk_at dksX1_off_0 15 rfl rfl)
theorem dX1_off_18 : decode cX1_off 18 = .ok (.aload_n 1, 1) := dk_43 (dk_at dksX1_off_0 18 rfl rfl)
theorem dX1_off_19 : decode cX1_off 19 = .ok (.iconst 4, 1) := dk_7 (dk_at dksX1_off_0 19 rfl rfl)
theorem dX1_off_20 : decode cX1_off 20 = .ok (.putfield 219, 3) := dk_181 0 219 (dk_at dksX1_off_0 20 rfl rfl)
theorem dX1_off_23 : decode cX1_off 23 = .ok (.aload_n 1, 1) := dk_43 (dk_at dksX1_off_0 23 rfl rfl)
theorem dX1_off_24 : decode cX1_off 24 = .ok (.aload_n 0, 1) := dk_42 (dk_at dksX1_off_1 0 rfl rfl)
theorem dX1_off_25 : decode cX1_off 25 = .ok (.getfield 203, 3) := dk_180 0 203 (dk_at dksX1_off_1 1 rfl rfl)
theorem dX1_off_28 : decode cX1_off 28 = .ok (.putfield 408, 3) := dk_181 1 152 (dk_at dksX1_off_1 4 rfl rfl)
theorem dX1_off_31 : decode cX1_off 31 = .ok (.aload_n 0, 1) := dk_42 (dk_at dksX1_off_1 7 rfl rfl)
theorem dX1_off_32 : decode cX1_off 32 = .ok (.iconst 4, 1) := dk_7 (dk_at dksX1_off_1 8 rfl rfl)
theorem dX1_off_33 : decode cX1_off 33 = .ok (.aload_n 1, 1) := dk_43 (dk_at dksX1_off_1 9 rfl rfl)
theorem dX1_off_34 : decode cX1_off 34 = .ok (.invokevirtual 348, 3) := dk_182 1 92 (dk_at dksX1_off_1 10 rfl rfl)
theorem dX1_off_37 : decode cX1_off 37 = .ok (.aload_n 0, 1) := dk_42 (dk_at dksX1_off_1 13 rfl rfl)
theorem dX1_off_38 : decode cX1_off 38 = .ok (.getfield 82, 3) := dk_180 0 82 (dk_at dksX1_off_1 14 rfl rfl)
theorem dX1_off_41 : decode cX1_off 41 = .ok (.iconst 3, 1) := dk_6 (dk_at dksX1_off_1 17 rfl rfl)
theorem dX1_off_42 : decode cX1_off 42 = .ok (.dup2, 1) := dk_92 (dk_at dksX1_off_1 18 rfl rfl)
theorem dX1_off_43 : decode cX1_off 43 = .ok (.laload, 1) := dk_47 (dk_at dksX1_off_1 19 rfl rfl)
theorem dX1_off_44 : decode cX1_off 44 = .ok (.lconst 1, 1) := dk_10 (dk_at dksX1_off_1 20 rfl rfl)
theorem dX1_off_45 : decode cX1_off 45 = .ok (.ladd, 1) := dk_97 (dk_at dksX1_off_1 21 rfl rfl)
theorem dX1_off_46 : decode cX1_off 46 = .ok (.lastore, 1) := dk_80 (dk_at dksX1_off_1 22 rfl rfl)
theorem dX1_off_47 : decode cX1_off 47 = .ok (.iconst 1, 1) := dk_4 (dk_at dksX1_off_1 23 rfl rfl)
theorem dX1_off_48 : decode cX1_off 48 = .ok (.istore_n 2, 1) := dk_61 (dk_at dksX1_off_2 0 rfl rfl)
theorem dX1_off_49 : decode cX1_off 49 = .ok (.aload_n 0, 1) := dk_42 (dk_at dksX1_off_2 1 rfl rfl)
theorem dX1_off_50 : decode cX1_off 50 = .ok (.getfield 40, 3) := dk_180 0 40 (dk_at dksX1_off_2 2 rfl rfl)
theorem dX1_off_53 : decode cX1_off 53 = .ok (.invokevirtual 123, 3) := dk_182 0 123 (dk_at dksX1_off_2 5 rfl rfl)
theorem dX1_off_56 : decode cX1_off 56 = .ok (.astore_n 3, 1) := dk_78 (dk_at dksX1_off_2 8 rfl rfl)
theorem dX1_off_57 : decode cX1_off 57 = .ok (.aload_n 3, 1) := dk_45 (dk_at dksX1_off_2 9 rfl rfl)
theorem dX1_off_58 : decode cX1_off 58 = .ok (.invokeinterface 127 1, 5) := by decide +kernel
theorem dX1_off_63 : decode cX1_off 63 = .ok (.ifCond .eq 46, 3) := dk_153 0 46 (dk_at dksX1_off_2 15 rfl rfl)
theorem dX1_off_66 : decode cX1_off 66 = .ok (.aload_n 3, 1) := dk_45 (dk_at dksX1_off_2 18 rfl rfl)
theorem dX1_off_67 : decode cX1_off 67 = .ok (.invokeinterface 133 1, 5) := by decide +kernel
theorem dX1_off_72 : decode cX1_off 72 = .ok (.checkcast 85, 3) := dk_192 0 85 (dk_at dksX1_off_3 0 rfl rfl)
theorem dX1_off_75 : decode cX1_off 75 = .ok (.astore 4, 2) := dk_58 4 (dk_at dksX1_off_3 3 rfl rfl)
theorem dX1_off_77 : decode cX1_off 77 = .ok (.aload 4, 2) := dk_25 4 (dk_at dksX1_off_3 5 rfl rfl)
theorem dX1_off_79 : decode cX1_off 79 = .ok (.getfield 219, 3) := dk_180 0 219 (dk_at dksX1_off_3 7 rfl rfl)
theorem dX1_off_82 : decode cX1_off 82 = .ok (.ifCond .ne 24, 3) := dk_154 0 24 (dk_at dksX1_off_3 10 rfl rfl)
theorem dX1_off_85 : decode cX1_off 85 = .ok (.aload 4, 2) := dk_25 4 (dk_at dksX1_off_3 13 rfl rfl)
theorem dX1_off_87 : decode cX1_off 87 = .ok (.getfield 225, 3) := dk_180 0 225 (dk_at dksX1_off_3 15 rfl rfl)
theorem dX1_off_90 : decode cX1_off 90 = .ok (.aload_n 1, 1) := dk_43 (dk_at dksX1_off_3 18 rfl rfl)
theorem dX1_off_91 : decode cX1_off 91 = .ok (.getfield 166, 3) := dk_180 0 166 (dk_at dksX1_off_3 19 rfl rfl)
theorem dX1_off_94 : decode cX1_off 94 = .ok (.if_icmp .ne 12, 3) := dk_160 0 12 (dk_at dksX1_off_4 0 rfl rfl)
theorem dX1_off_97 : decode cX1_off 97 = .ok (.iload_n 2, 1) := dk_28 (dk_at dksX1_off_4 3 rfl rfl)
theorem dX1_off_98 : decode cX1_off 98 = .ok (.aload_n 0, 1) := dk_42 (dk_at dksX1_off_4 4 rfl rfl)
theorem dX1_off_99 : decode cX1_off 99 = .ok (.aload 4, 2) := dk_25 4 (dk_at dksX1_off_4 5 rfl rfl)
theorem dX1_off_101 : decode cX1_off 101 = .ok (.invokevirtual 468, 3) := dk_182 1 212 (dk_at dksX1_off_4 7 rfl rfl)
theorem dX1_off_104 : decode cX1_off 104 = .ok (.iadd, 1) := dk_96 (dk_at dksX1_off_4 10 rfl rfl)
theorem dX1_off_105 : decode cX1_off 105 = .ok (.istore_n 2, 1) := dk_61 (dk_at dksX1_off_4 11 rfl rfl)
theorem dX1_off_106 : decode cX1_off 106 = .ok (.goto (-49), 3) := dk_167 255 207 (dk_at dksX1_off_4 12 rfl rfl)
theorem dX1_off_109 : decode cX1_off 109 = .ok (.iload_n 2, 1) := dk_28 (dk_at dksX1_off_4 15 rfl rfl)
theorem dX1_off_110 : decode cX1_off 110 = .ok (.ireturn, 1) := dk_172 (dk_at dksX1_off_4 16 rfl rfl)
abbrev cX0_promiseOf : ByteArray := prog_1_method_17_code
def dkwX0_promiseOf_0 : List UInt8 := [42, 180, 0, 16, 180, 0, 205, 43, 180, 0, 167, 182, 0, 209, 172]
abbrev dktX0_promiseOf_0 : List UInt8 := dkwX0_promiseOf_0 ++ []
theorem dksX0_promiseOf_0 : cX0_promiseOf.data.toList.drop 0 = dktX0_promiseOf_0 := by decide +kernel
theorem dX0_promiseOf_0 : decode cX0_promiseOf 0 = .ok (.aload_n 0, 1) := dk_42 (dk_at dksX0_promiseOf_0 0 rfl rfl)
theorem dX0_promiseOf_1 : decode cX0_promiseOf 1 = .ok (.getfield 16, 3) := dk_180 0 16 (dk_at dksX0_promiseOf_0 1 rfl rfl)
theorem dX0_promiseOf_4 : decode cX0_promiseOf 4 = .ok (.getfield 205, 3) := dk_180 0 205 (dk_at dksX0_promiseOf_0 4 rfl rfl)
theorem dX0_promiseOf_7 : decode cX0_promiseOf 7 = .ok (.aload_n 1, 1) := dk_43 (dk_at dksX0_promiseOf_0 7 rfl rfl)
theorem dX0_promiseOf_8 : decode cX0_promiseOf 8 = .ok (.getfield 167, 3) := dk_180 0 167 (dk_at dksX0_promiseOf_0 8 rfl rfl)
theorem dX0_promiseOf_11 : decode cX0_promiseOf 11 = .ok (.invokevirtual 209, 3) := dk_182 0 209 (dk_at dksX0_promiseOf_0 11 rfl rfl)
theorem dX0_promiseOf_14 : decode cX0_promiseOf 14 = .ok (.ireturn, 1) := dk_172 (dk_at dksX0_promiseOf_0 14 rfl rfl)
abbrev cX12_columns : ByteArray := prog_18_method_4_code
def dkwX12_columns_1 : List UInt8 := [58, 5, 27, 25, 5, 180, 0, 84, 96, 60, 132, 4, 1, 167, 255, 233, 27, 172]
abbrev dktX12_columns_1 : List UInt8 := dkwX12_columns_1 ++ []
def dkwX12_columns_0 : List UInt8 := [3, 60, 42, 180, 0, 42, 77, 44, 190, 62, 3, 54, 4, 21, 4, 29, 162, 0, 23, 44, 21, 4, 50]
abbrev dktX12_columns_0 : List UInt8 := dkwX12_columns_0 ++ dktX12_columns_1
theorem dksX12_columns_0 : cX12_columns.data.toList.drop 0 = dktX12_columns_0 := by decide +kernel
theorem dksX12_columns_1 : cX12_columns.data.toList.drop 23 = dktX12_columns_1 := dk_seg dksX12_columns_0 23 rfl rfl
theorem dX12_columns_0 : decode cX12_columns 0 = .ok (.iconst 0, 1) := dk_3 (dk_at dksX12_columns_0 0 rfl rfl)
theorem dX12_columns_1 : decode cX12_columns 1 = .ok (.istore_n 1, 1) := dk_60 (dk_at dksX12_columns_0 1 rfl rfl)
theorem dX12_columns_2 : decode cX12_columns 2 = .ok (.aload_n 0, 1) := dk_42 (dk_at dksX12_columns_0 2 rfl rfl)
theorem dX12_columns_3 : decode cX12_columns 3 = .ok (.getfield 42, 3) := dk_180 0 42 (dk_at dksX12_columns_0 3 rfl rfl)
theorem dX12_columns_6 : decode cX12_columns 6 = .ok (.astore_n 2, 1) := dk_77 (dk_at dksX12_columns_0 6 rfl rfl)
theorem dX12_columns_7 : decode cX12_columns 7 = .ok (.aload_n 2, 1) := dk_44 (dk_at dksX12_columns_0 7 rfl rfl)
theorem dX12_columns_8 : decode cX12_columns 8 = .ok (.arraylength, 1) := dk_190 (dk_at dksX12_columns_0 8 rfl rfl)
theorem dX12_columns_9 : decode cX12_columns 9 = .ok (.istore_n 3, 1) := dk_62 (dk_at dksX12_columns_0 9 rfl rfl)
theorem dX12_columns_10 : decode cX12_columns 10 = .ok (.iconst 0, 1) := dk_3 (dk_at dksX12_columns_0 10 rfl rfl)
theorem dX12_columns_11 : decode cX12_columns 11 = .ok (.istore 4, 2) := dk_54 4 (dk_at dksX12_columns_0 11 rfl rfl)
theorem dX12_columns_13 : decode cX12_columns 13 = .ok (.iload 4, 2) := dk_21 4 (dk_at dksX12_columns_0 13 rfl rfl)
theorem dX12_columns_15 : decode cX12_columns 15 = .ok (.iload_n 3, 1) := dk_29 (dk_at dksX12_columns_0 15 rfl rfl)
theorem dX12_columns_16 : decode cX12_columns 16 = .ok (.if_icmp .ge 23, 3) := dk_162 0 23 (dk_at dksX12_columns_0 16 rfl rfl)
theorem dX12_columns_19 : decode cX12_columns 19 = .ok (.aload_n 2, 1) := dk_44 (dk_at dksX12_columns_0 19 rfl rfl)
theorem dX12_columns_20 : decode cX12_columns 20 = .ok (.iload 4, 2) := dk_21 4 (dk_at dksX12_columns_0 20 rfl rfl)
theorem dX12_columns_22 : decode cX12_columns 22 = .ok (.aaload, 1) := dk_50 (dk_at dksX12_columns_0 22 rfl rfl)
theorem dX12_columns_23 : decode cX12_columns 23 = .ok (.astore 5, 2) := dk_58 5 (dk_at dksX12_columns_1 0 rfl rfl)
theorem dX12_columns_25 : decode cX12_columns 25 = .ok (.iload_n 1, 1) := dk_27 (dk_at dksX12_columns_1 2 rfl rfl)
theorem dX12_columns_26 : decode cX12_columns 26 = .ok (.aload 5, 2) := dk_25 5 (dk_at dksX12_columns_1 3 rfl rfl)
theorem dX12_columns_28 : decode cX12_columns 28 = .ok (.getfield 84, 3) := dk_180 0 84 (dk_at dksX12_columns_1 5 rfl rfl)
theorem dX12_columns_31 : decode cX12_columns 31 = .ok (.iadd, 1) := dk_96 (dk_at dksX12_columns_1 8 rfl rfl)
theorem dX12_columns_32 : decode cX12_columns 32 = .ok (.istore_n 1, 1) := dk_60 (dk_at dksX12_columns_1 9 rfl rfl)
theorem dX12_columns_33 : decode cX12_columns 33 = .ok (.iinc 4 1, 3) := dk_132 4 1 (dk_at dksX12_columns_1 10 rfl rfl)
theorem dX12_columns_36 : decode cX12_columns 36 = .ok (.goto (-23), 3) := dk_167 255 233 (dk_at dksX12_columns_1 13 rfl rfl)
theorem dX12_columns_39 : decode cX12_columns 39 = .ok (.iload_n 1, 1) := dk_27 (dk_at dksX12_columns_1 16 rfl rfl)
theorem dX12_columns_40 : decode cX12_columns 40 = .ok (.ireturn, 1) := dk_172 (dk_at dksX12_columns_1 17 rfl rfl)
abbrev cX11_lasts : ByteArray := prog_4_method_2_code
def dkwX11_lasts_0 : List UInt8 := [4, 42, 180, 0, 24, 27, 104, 16, 100, 108, 184, 0, 27, 172]
abbrev dktX11_lasts_0 : List UInt8 := dkwX11_lasts_0 ++ []
theorem dksX11_lasts_0 : cX11_lasts.data.toList.drop 0 = dktX11_lasts_0 := by decide +kernel
theorem dX11_lasts_0 : decode cX11_lasts 0 = .ok (.iconst 1, 1) := dk_4 (dk_at dksX11_lasts_0 0 rfl rfl)
theorem dX11_lasts_1 : decode cX11_lasts 1 = .ok (.aload_n 0, 1) := dk_42 (dk_at dksX11_lasts_0 1 rfl rfl)
theorem dX11_lasts_2 : decode cX11_lasts 2 = .ok (.getfield 24, 3) := dk_180 0 24 (dk_at dksX11_lasts_0 2 rfl rfl)
theorem dX11_lasts_5 : decode cX11_lasts 5 = .ok (.iload_n 1, 1) := dk_27 (dk_at dksX11_lasts_0 5 rfl rfl)
theorem dX11_lasts_6 : decode cX11_lasts 6 = .ok (.imul, 1) := dk_104 (dk_at dksX11_lasts_0 6 rfl rfl)
theorem dX11_lasts_7 : decode cX11_lasts 7 = .ok (.bipush 100, 2) := dk_16 100 (dk_at dksX11_lasts_0 7 rfl rfl)
theorem dX11_lasts_9 : decode cX11_lasts 9 = .ok (.idiv, 1) := dk_108 (dk_at dksX11_lasts_0 9 rfl rfl)
theorem dX11_lasts_10 : decode cX11_lasts 10 = .ok (.invokestatic 27, 3) := dk_184 0 27 (dk_at dksX11_lasts_0 10 rfl rfl)
theorem dX11_lasts_13 : decode cX11_lasts 13 = .ok (.ireturn, 1) := dk_172 (dk_at dksX11_lasts_0 13 rfl rfl)
abbrev cX11_hasStarted : ByteArray := prog_4_method_3_code
def dkwX11_hasStarted_0 : List UInt8 := [42, 180, 0, 9, 2, 159, 0, 7, 4, 167, 0, 4, 3, 172]
abbrev dktX11_hasStarted_0 : List UInt8 := dkwX11_hasStarted_0 ++ []
theorem dksX11_hasStarted_0 : cX11_hasStarted.data.toList.drop 0 = dktX11_hasStarted_0 := by decide +kernel
theorem dX11_hasStarted_0 : decode cX11_hasStarted 0 = .ok (.aload_n 0, 1) := dk_42 (dk_at dksX11_hasStarted_0 0 rfl rfl)
theorem dX11_hasStarted_1 : decode cX11_hasStarted 1 = .ok (.getfield 9, 3) := dk_180 0 9 (dk_at dksX11_hasStarted_0 1 rfl rfl)
theorem dX11_hasStarted_4 : decode cX11_hasStarted 4 = .ok (.iconst (-1), 1) := dk_2 (dk_at dksX11_hasStarted_0 4 rfl rfl)
theorem dX11_hasStarted_5 : decode cX11_hasStarted 5 = .ok (.if_icmp .eq 7, 3) := dk_159 0 7 (dk_at dksX11_hasStarted_0 5 rfl rfl)
theorem dX11_hasStarted_8 : decode cX11_hasStarted 8 = .ok (.iconst 1, 1) := dk_4 (dk_at dksX11_hasStarted_0 8 rfl rfl)
theorem dX11_hasStarted_9 : decode cX11_hasStarted 9 = .ok (.goto 4, 3) := dk_167 0 4 (dk_at dksX11_hasStarted_0 9 rfl rfl)
theorem dX11_hasStarted_12 : decode cX11_hasStarted 12 = .ok (.iconst 0, 1) := dk_3 (dk_at dksX11_hasStarted_0 12 rfl rfl)
theorem dX11_hasStarted_13 : decode cX11_hasStarted 13 = .ok (.ireturn, 1) := dk_172 (dk_at dksX11_hasStarted_0 13 rfl rfl)
abbrev cX1_line : ByteArray := prog_8_method_10_code
def dkwX1_line_2 : List UInt8 := [153, 0, 9, 43, 45, 182, 1, 23, 87, 167, 255, 223, 43, 176]
abbrev dktX1_line_2 : List UInt8 := dkwX1_line_2 ++ []
def dkwX1_line_1 : List UInt8 := [44, 185, 0, 127, 1, 0, 153, 0, 30, 44, 185, 0, 133, 1, 0, 192, 0, 85, 78, 42, 45, 182, 1, 12]
abbrev dktX1_line_1 : List UInt8 := dkwX1_line_1 ++ dktX1_line_2
def dkwX1_line_0 : List UInt8 := [187, 1, 20, 89, 187, 0, 91, 89, 42, 183, 0, 93, 183, 1, 22, 76, 42, 180, 0, 40, 182, 0, 123, 77]
abbrev dktX1_line_0 : List UInt8 := dkwX1_line_0 ++ dktX1_line_1
theorem dksX1_line_0 : cX1_line.data.toList.drop 0 = dktX1_line_0 := by decide +kernel
theorem dksX1_line_1 : cX1_line.data.toList.drop 24 = dktX1_line_1 := dk_seg dksX1_line_0 24 rfl rfl
theorem dksX1_line_2 : cX1_line.data.toList.drop 48 = dktX1_line_2 := dk_seg dksX1_line_1 24 rfl rfl
theorem dX1_line_0 : decode cX1_line 0 = .ok (.new 276, 3) := dk_187 1 20 (dk_at dksX1_line_0 0 rfl rfl)
theorem dX1_line_3 : decode cX1_line 3 = .ok (.dup, 1) := dk_89 (dk_at dksX1_line_0 3 rfl rfl)
theorem dX1_line_4 : decode cX1_line 4 = .ok (.new 91, 3) := dk_187 0 91 (dk_at dksX1_line_0 4 rfl rfl)
theorem dX1_line_7 : decode cX1_line 7 = .ok (.dup, 1) := dk_89 (dk_at dksX1_line_0 7 rfl rfl)
theorem dX1_line_8 : decode cX1_line 8 = .ok (.aload_n 0, 1) := dk_42 (dk_at dksX1_line_0 8 rfl rfl)
theorem dX1_line_9 : decode cX1_line 9 = .ok (.invokespecial 93, 3) := dk_183 0 93 (dk_at dksX1_line_0 9 rfl rfl)
theorem dX1_line_12 : decode cX1_line 12 = .ok (.invokespecial 278, 3) := dk_183 1 22 (dk_at dksX1_line_0 12 rfl rfl)
theorem dX1_line_15 : decode cX1_line 15 = .ok (.astore_n 1, 1) := dk_76 (dk_at dksX1_line_0 15 rfl rfl)
theorem dX1_line_16 : decode cX1_line 16 = .ok (.aload_n 0, 1) := dk_42 (dk_at dksX1_line_0 16 rfl rfl)
theorem dX1_line_17 : decode cX1_line 17 = .ok (.getfield 40, 3) := dk_180 0 40 (dk_at dksX1_line_0 17 rfl rfl)
theorem dX1_line_20 : decode cX1_line 20 = .ok (.invokevirtual 123, 3) := dk_182 0 123 (dk_at dksX1_line_0 20 rfl rfl)
theorem dX1_line_23 : decode cX1_line 23 = .ok (.astore_n 2, 1) := dk_77 (dk_at dksX1_line_0 23 rfl rfl)
theorem dX1_line_24 : decode cX1_line 24 = .ok (.aload_n 2, 1) := dk_44 (dk_at dksX1_line_1 0 rfl rfl)
theorem dX1_line_25 : decode cX1_line 25 = .ok (.invokeinterface 127 1, 5) := by decide +kernel
theorem dX1_line_30 : decode cX1_line 30 = .ok (.ifCond .eq 30, 3) := dk_153 0 30 (dk_at dksX1_line_1 6 rfl rfl)
theorem dX1_line_33 : decode cX1_line 33 = .ok (.aload_n 2, 1) := dk_44 (dk_at dksX1_line_1 9 rfl rfl)
theorem dX1_line_34 : decode cX1_line 34 = .ok (.invokeinterface 133 1, 5) := by decide +kernel
theorem dX1_line_39 : decode cX1_line 39 = .ok (.checkcast 85, 3) := dk_192 0 85 (dk_at dksX1_line_1 15 rfl rfl)
theorem dX1_line_42 : decode cX1_line 42 = .ok (.astore_n 3, 1) := dk_78 (dk_at dksX1_line_1 18 rfl rfl)
theorem dX1_line_43 : decode cX1_line 43 = .ok (.aload_n 0, 1) := dk_42 (dk_at dksX1_line_1 19 rfl rfl)
theorem dX1_line_44 : decode cX1_line 44 = .ok (.aload_n 3, 1) := dk_45 (dk_at dksX1_line_1 20 rfl rfl)
theorem dX1_line_45 : decode cX1_line 45 = .ok (.invokevirtual 268, 3) := dk_182 1 12 (dk_at dksX1_line_1 21 rfl rfl)
theorem dX1_line_48 : decode cX1_line 48 = .ok (.ifCond .eq 9, 3) := dk_153 0 9 (dk_at dksX1_line_2 0 rfl rfl)
theorem dX1_line_51 : decode cX1_line 51 = .ok (.aload_n 1, 1) := dk_43 (dk_at dksX1_line_2 3 rfl rfl)
theorem dX1_line_52 : decode cX1_line 52 = .ok (.aload_n 3, 1) := dk_45 (dk_at dksX1_line_2 4 rfl rfl)
theorem dX1_line_53 : decode cX1_line 53 = .ok (.invokevirtual 279, 3) := dk_182 1 23 (dk_at dksX1_line_2 5 rfl rfl)
theorem dX1_line_56 : decode cX1_line 56 = .ok (.pop, 1) := dk_87 (dk_at dksX1_line_2 8 rfl rfl)
theorem dX1_line_57 : decode cX1_line 57 = .ok (.goto (-33), 3) := dk_167 255 223 (dk_at dksX1_line_2 9 rfl rfl)
theorem dX1_line_60 : decode cX1_line 60 = .ok (.aload_n 1, 1) := dk_43 (dk_at dksX1_line_2 12 rfl rfl)
theorem dX1_line_61 : decode cX1_line 61 = .ok (.areturn, 1) := dk_176 (dk_at dksX1_line_2 13 rfl rfl)
abbrev cX0_numberAt : ByteArray := prog_1_method_19_code
def dkwX0_numberAt_2 : List UInt8 := [172]
abbrev dktX0_numberAt_2 : List UInt8 := dkwX0_numberAt_2 ++ []
def dkwX0_numberAt_1 : List UInt8 := [192, 0, 53, 58, 4, 28, 27, 160, 0, 9, 25, 4, 180, 0, 167, 172, 132, 2, 1, 167, 255, 222, 16, 254]
abbrev dktX0_numberAt_1 : List UInt8 := dkwX0_numberAt_1 ++ dktX0_numberAt_2
def dkwX0_numberAt_0 : List UInt8 := [3, 61, 42, 185, 0, 235, 1, 0, 78, 45, 185, 0, 86, 1, 0, 153, 0, 31, 45, 185, 0, 92, 1, 0]
abbrev dktX0_numberAt_0 : List UInt8 := dkwX0_numberAt_0 ++ dktX0_numberAt_1
theorem dksX0_numberAt_0 : cX0_numberAt.data.toList.drop 0 = dktX0_numberAt_0 := by decide +kernel
theorem dksX0_numberAt_1 : cX0_numberAt.data.toList.drop 24 = dktX0_numberAt_1 := dk_seg dksX0_numberAt_0 24 rfl rfl
theorem dksX0_numberAt_2 : cX0_numberAt.data.toList.drop 48 = dktX0_numberAt_2 := dk_seg dksX0_numberAt_1 24 rfl rfl
theorem dX0_numberAt_0 : decode cX0_numberAt 0 = .ok (.iconst 0, 1) := dk_3 (dk_at dksX0_numberAt_0 0 rfl rfl)
theorem dX0_numberAt_1 : decode cX0_numberAt 1 = .ok (.istore_n 2, 1) := dk_61 (dk_at dksX0_numberAt_0 1 rfl rfl)
theorem dX0_numberAt_2 : decode cX0_numberAt 2 = .ok (.aload_n 0, 1) := dk_42 (dk_at dksX0_numberAt_0 2 rfl rfl)
theorem dX0_numberAt_3 : decode cX0_numberAt 3 = .ok (.invokeinterface 235 1, 5) := by decide +kernel
theorem dX0_numberAt_8 : decode cX0_numberAt 8 = .ok (.astore_n 3, 1) := dk_78 (dk_at dksX0_numberAt_0 8 rfl rfl)
theorem dX0_numberAt_9 : decode cX0_numberAt 9 = .ok (.aload_n 3, 1) := dk_45 (dk_at dksX0_numberAt_0 9 rfl rfl)
theorem dX0_numberAt_10 : decode cX0_numberAt 10 = .ok (.invokeinterface 86 1, 5) := by decide +kernel
theorem dX0_numberAt_15 : decode cX0_numberAt 15 = .ok (.ifCond .eq 31, 3) := dk_153 0 31 (dk_at dksX0_numberAt_0 15 rfl rfl)
theorem dX0_numberAt_18 : decode cX0_numberAt 18 = .ok (.aload_n 3, 1) := dk_45 (dk_at dksX0_numberAt_0 18 rfl rfl)
theorem dX0_numberAt_19 : decode cX0_numberAt 19 = .ok (.invokeinterface 92 1, 5) := by decide +kernel
theorem dX0_numberAt_24 : decode cX0_numberAt 24 = .ok (.checkcast 53, 3) := dk_192 0 53 (dk_at dksX0_numberAt_1 0 rfl rfl)
theorem dX0_numberAt_27 : decode cX0_numberAt 27 = .ok (.astore 4, 2) := dk_58 4 (dk_at dksX0_numberAt_1 3 rfl rfl)
theorem dX0_numberAt_29 : decode cX0_numberAt 29 = .ok (.iload_n 2, 1) := dk_28 (dk_at dksX0_numberAt_1 5 rfl rfl)
theorem dX0_numberAt_30 : decode cX0_numberAt 30 = .ok (.iload_n 1, 1) := dk_27 (dk_at dksX0_numberAt_1 6 rfl rfl)
theorem dX0_numberAt_31 : decode cX0_numberAt 31 = .ok (.if_icmp .ne 9, 3) := dk_160 0 9 (dk_at dksX0_numberAt_1 7 rfl rfl)
theorem dX0_numberAt_34 : decode cX0_numberAt 34 = .ok (.aload 4, 2) := dk_25 4 (dk_at dksX0_numberAt_1 10 rfl rfl)
theorem dX0_numberAt_36 : decode cX0_numberAt 36 = .ok (.getfield 167, 3) := dk_180 0 167 (dk_at dksX0_numberAt_1 12 rfl rfl)
theorem dX0_numberAt_39 : decode cX0_numberAt 39 = .ok (.ireturn, 1) := dk_172 (dk_at dksX0_numberAt_1 15 rfl rfl)
theorem dX0_numberAt_40 : decode cX0_numberAt 40 = .ok (.iinc 2 1, 3) := dk_132 2 1 (dk_at dksX0_numberAt_1 16 rfl rfl)
theorem dX0_numberAt_43 : decode cX0_numberAt 43 = .ok (.goto (-34), 3) := dk_167 255 222 (dk_at dksX0_numberAt_1 19 rfl rfl)
theorem dX0_numberAt_46 : decode cX0_numberAt 46 = .ok (.bipush (-2), 2) := dk_16 254 (dk_at dksX0_numberAt_1 22 rfl rfl)
theorem dX0_numberAt_48 : decode cX0_numberAt 48 = .ok (.ireturn, 1) := dk_172 (dk_at dksX0_numberAt_2 0 rfl rfl)
abbrev cX17_init : ByteArray := prog_2_method_1_code
def dkwX17_init_0 : List UInt8 := [42, 43, 181, 0, 1, 42, 28, 181, 0, 7, 42, 43, 183, 0, 11, 177]
abbrev dktX17_init_0 : List UInt8 := dkwX17_init_0 ++ []
theorem dksX17_init_0 : cX17_init.data.toList.drop 0 = dktX17_init_0 := by decide +kernel
theorem dX17_init_0 : decode cX17_init 0 = .ok (.aload_n 0, 1) := dk_42 (dk_at dksX17_init_0 0 rfl rfl)
theorem dX17_init_1 : decode cX17_init 1 = .ok (.aload_n 1, 1) := dk_43 (dk_at dksX17_init_0 1 rfl rfl)
theorem dX17_init_2 : decode cX17_init 2 = .ok (.putfield 1, 3) := dk_181 0 1 (dk_at dksX17_init_0 2 rfl rfl)
theorem dX17_init_5 : decode cX17_init 5 = .ok (.aload_n 0, 1) := dk_42 (dk_at dksX17_init_0 5 rfl rfl)
theorem dX17_init_6 : decode cX17_init 6 = .ok (.iload_n 2, 1) := dk_28 (dk_at dksX17_init_0 6 rfl rfl)
theorem dX17_init_7 : decode cX17_init 7 = .ok (.putfield 7, 3) := dk_181 0 7 (dk_at dksX17_init_0 7 rfl rfl)
theorem dX17_init_10 : decode cX17_init 10 = .ok (.aload_n 0, 1) := dk_42 (dk_at dksX17_init_0 10 rfl rfl)
theorem dX17_init_11 : decode cX17_init 11 = .ok (.aload_n 1, 1) := dk_43 (dk_at dksX17_init_0 11 rfl rfl)
theorem dX17_init_12 : decode cX17_init 12 = .ok (.invokespecial 11, 3) := dk_183 0 11 (dk_at dksX17_init_0 12 rfl rfl)
theorem dX17_init_15 : decode cX17_init 15 = .ok (.return_, 1) := dk_177 (dk_at dksX17_init_0 15 rfl rfl)
abbrev cX16_does : ByteArray := prog_30_method_3_code
def dkwX16_does_1 : List UInt8 := [16, 251, 167, 0, 8, 42, 44, 182, 0, 25, 172]
abbrev dktX16_does_1 : List UInt8 := dkwX16_does_1 ++ []
def dkwX16_does_0 : List UInt8 := [42, 180, 0, 3, 27, 182, 0, 15, 77, 44, 199, 0, 7, 2, 167, 0, 20, 44, 180, 0, 19, 153, 0, 8]
abbrev dktX16_does_0 : List UInt8 := dkwX16_does_0 ++ dktX16_does_1
theorem dksX16_does_0 : cX16_does.data.toList.drop 0 = dktX16_does_0 := by decide +kernel
theorem dksX16_does_1 : cX16_does.data.toList.drop 24 = dktX16_does_1 := dk_seg dksX16_does_0 24 rfl rfl
theorem dX16_does_0 : decode cX16_does 0 = .ok (.aload_n 0, 1) := dk_42 (dk_at dksX16_does_0 0 rfl rfl)
theorem dX16_does_1 : decode cX16_does 1 = .ok (.getfield 3, 3) := dk_180 0 3 (dk_at dksX16_does_0 1 rfl rfl)
theorem dX16_does_4 : decode cX16_does 4 = .ok (.iload_n 1, 1) := dk_27 (dk_at dksX16_does_0 4 rfl rfl)
theorem dX16_does_5 : decode cX16_does 5 = .ok (.invokevirtual 15, 3) := dk_182 0 15 (dk_at dksX16_does_0 5 rfl rfl)
theorem dX16_does_8 : decode cX16_does 8 = .ok (.astore_n 2, 1) := dk_77 (dk_at dksX16_does_0 8 rfl rfl)
theorem dX16_does_9 : decode cX16_does 9 = .ok (.aload_n 2, 1) := dk_44 (dk_at dksX16_does_0 9 rfl rfl)
theorem dX16_does_10 : decode cX16_does 10 = .ok (.ifnonnull 7, 3) := dk_199 0 7 (dk_at dksX16_does_0 10 rfl rfl)
theorem dX16_does_13 : decode cX16_does 13 = .ok (.iconst (-1), 1) := dk_2 (dk_at dksX16_does_0 13 rfl rfl)
theorem dX16_does_14 : decode cX16_does 14 = .ok (.goto 20, 3) := dk_167 0 20 (dk_at dksX16_does_0 14 rfl rfl)
theorem dX16_does_17 : decode cX16_does 17 = .ok (.aload_n 2, 1) := dk_44 (dk_at dksX16_does_0 17 rfl rfl)
theorem dX16_does_18 : decode cX16_does 18 = .ok (.getfield 19, 3) := dk_180 0 19 (dk_at dksX16_does_0 18 rfl rfl)
theorem dX16_does_21 : decode cX16_does 21 = .ok (.ifCond .eq 8, 3) := dk_153 0 8 (dk_at dksX16_does_0 21 rfl rfl)
theorem dX16_does_24 : decode cX16_does 24 = .ok (.bipush (-5), 2) := dk_16 251 (dk_at dksX16_does_1 0 rfl rfl)
theorem dX16_does_26 : decode cX16_does 26 = .ok (.goto 8, 3) := dk_167 0 8 (dk_at dksX16_does_1 2 rfl rfl)
theorem dX16_does_29 : decode cX16_does 29 = .ok (.aload_n 0, 1) := dk_42 (dk_at dksX16_does_1 5 rfl rfl)
theorem dX16_does_30 : decode cX16_does 30 = .ok (.aload_n 2, 1) := dk_44 (dk_at dksX16_does_1 6 rfl rfl)
theorem dX16_does_31 : decode cX16_does 31 = .ok (.invokevirtual 25, 3) := dk_182 0 25 (dk_at dksX16_does_1 7 rfl rfl)
theorem dX16_does_34 : decode cX16_does 34 = .ok (.ireturn, 1) := dk_172 (dk_at dksX16_does_1 10 rfl rfl)
abbrev cX18_init : ByteArray := prog_3_method_1_code
def dkwX18_init_0 : List UInt8 := [42, 43, 181, 0, 1, 42, 28, 181, 0, 7, 42, 43, 183, 0, 11, 177]
abbrev dktX18_init_0 : List UInt8 := dkwX18_init_0 ++ []
theorem dksX18_init_0 : cX18_init.data.toList.drop 0 = dktX18_init_0 := by decide +kernel
theorem dX18_init_0 : decode cX18_init 0 = .ok (.aload_n 0, 1) := dk_42 (dk_at dksX18_init_0 0 rfl rfl)
theorem dX18_init_1 : decode cX18_init 1 = .ok (.aload_n 1, 1) := dk_43 (dk_at dksX18_init_0 1 rfl rfl)
theorem dX18_init_2 : decode cX18_init 2 = .ok (.putfield 1, 3) := dk_181 0 1 (dk_at dksX18_init_0 2 rfl rfl)
theorem dX18_init_5 : decode cX18_init 5 = .ok (.aload_n 0, 1) := dk_42 (dk_at dksX18_init_0 5 rfl rfl)
theorem dX18_init_6 : decode cX18_init 6 = .ok (.iload_n 2, 1) := dk_28 (dk_at dksX18_init_0 6 rfl rfl)
theorem dX18_init_7 : decode cX18_init 7 = .ok (.putfield 7, 3) := dk_181 0 7 (dk_at dksX18_init_0 7 rfl rfl)
theorem dX18_init_10 : decode cX18_init 10 = .ok (.aload_n 0, 1) := dk_42 (dk_at dksX18_init_0 10 rfl rfl)
theorem dX18_init_11 : decode cX18_init 11 = .ok (.aload_n 1, 1) := dk_43 (dk_at dksX18_init_0 11 rfl rfl)
theorem dX18_init_12 : decode cX18_init 12 = .ok (.invokespecial 11, 3) := dk_183 0 11 (dk_at dksX18_init_0 12 rfl rfl)
theorem dX18_init_15 : decode cX18_init 15 = .ok (.return_, 1) := dk_177 (dk_at dksX18_init_0 15 rfl rfl)
abbrev cX12_text : ByteArray := prog_18_method_5_code
def dkwX12_text_6 : List UInt8 := [180, 0, 15, 182, 0, 90, 182, 0, 111, 176]
abbrev dktX12_text_6 : List UInt8 := dkwX12_text_6 ++ []
def dkwX12_text_5 : List UInt8 := [43, 182, 0, 111, 167, 0, 29, 187, 0, 87, 89, 183, 0, 89, 43, 182, 0, 115, 18, 118, 182, 0, 96, 42]
abbrev dktX12_text_5 : List UInt8 := dkwX12_text_5 ++ dktX12_text_6
def dkwX12_text_4 : List UInt8 := [28, 50, 180, 0, 108, 182, 0, 90, 87, 132, 2, 1, 167, 255, 199, 42, 180, 0, 15, 16, 254, 160, 0, 10]
abbrev dktX12_text_4 : List UInt8 := dkwX12_text_4 ++ dktX12_text_5
def dkwX12_text_3 : List UInt8 := [182, 0, 96, 42, 180, 0, 42, 28, 50, 180, 0, 84, 182, 0, 90, 16, 120, 182, 0, 101, 42, 180, 0, 42]
abbrev dktX12_text_3 : List UInt8 := dkwX12_text_3 ++ dktX12_text_4
def dkwX12_text_2 : List UInt8 := [3, 61, 28, 42, 180, 0, 42, 190, 162, 0, 54, 43, 28, 158, 0, 8, 18, 104, 167, 0, 5, 18, 106]
abbrev dktX12_text_2 : List UInt8 := dkwX12_text_2 ++ dktX12_text_3
def dkwX12_text_1 : List UInt8 := [180, 0, 27, 182, 0, 90, 18, 99, 182, 0, 96, 42, 180, 0, 30, 182, 0, 90, 16, 32, 182, 0, 101, 87]
abbrev dktX12_text_1 : List UInt8 := dkwX12_text_1 ++ dktX12_text_2
def dkwX12_text_0 : List UInt8 := [187, 0, 87, 89, 183, 0, 89, 76, 43, 42, 180, 0, 24, 182, 0, 90, 18, 94, 182, 0, 96, 42]
abbrev dktX12_text_0 : List UInt8 := dkwX12_text_0 ++ dktX12_text_1
theorem dksX12_text_0 : cX12_text.data.toList.drop 0 = dktX12_text_0 := by decide +kernel
theorem dksX12_text_1 : cX12_text.data.toList.drop 22 = dktX12_text_1 := dk_seg dksX12_text_0 22 rfl rfl
theorem dksX12_text_2 : cX12_text.data.toList.drop 46 = dktX12_text_2 := dk_seg dksX12_text_1 24 rfl rfl
theorem dksX12_text_3 : cX12_text.data.toList.drop 69 = dktX12_text_3 := dk_seg dksX12_text_2 23 rfl rfl
theorem dksX12_text_4 : cX12_text.data.toList.drop 93 = dktX12_text_4 := dk_seg dksX12_text_3 24 rfl rfl
theorem dksX12_text_5 : cX12_text.data.toList.drop 117 = dktX12_text_5 := dk_seg dksX12_text_4 24 rfl rfl
theorem dksX12_text_6 : cX12_text.data.toList.drop 141 = dktX12_text_6 := dk_seg dksX12_text_5 24 rfl rfl
theorem dX12_text_0 : decode cX12_text 0 = .ok (.new 87, 3) := dk_187 0 87 (dk_at dksX12_text_0 0 rfl rfl)
theorem dX12_text_3 : decode cX12_text 3 = .ok (.dup, 1) := dk_89 (dk_at dksX12_text_0 3 rfl rfl)
theorem dX12_text_4 : decode cX12_text 4 = .ok (.invokespecial 89, 3) := dk_183 0 89 (dk_at dksX12_text_0 4 rfl rfl)
theorem dX12_text_7 : decode cX12_text 7 = .ok (.astore_n 1, 1) := dk_76 (dk_at dksX12_text_0 7 rfl rfl)
theorem dX12_text_8 : decode cX12_text 8 = .ok (.aload_n 1, 1) := dk_43 (dk_at dksX12_text_0 8 rfl rfl)
theorem dX12_text_9 : decode cX12_text 9 = .ok (.aload_n 0, 1) := dk_42 (dk_at dksX12_text_0 9 rfl rfl)
theorem dX12_text_10 : decode cX12_text 10 = .ok (.getfield 24, 3) := dk_180 0 24 (dk_at dksX12_text_0 10 rfl rfl)
theorem dX12_text_13 : decode cX12_text 13 = .ok (.invokevirtual 90, 3) := dk_182 0 90 (dk_at dksX12_text_0 13 rfl rfl)
theorem dX12_text_16 : decode cX12_text 16 = .ok (.ldc 94, 2) := dk_18 94 (dk_at dksX12_text_0 16 rfl rfl)
theorem dX12_text_18 : decode cX12_text 18 = .ok (.invokevirtual 96, 3) := dk_182 0 96 (dk_at dksX12_text_0 18 rfl rfl)
theorem dX12_text_21 : decode cX12_text 21 = .ok (.aload_n 0, 1) := dk_42 (dk_at dksX12_text_0 21 rfl rfl)
theorem dX12_text_22 : decode cX12_text 22 = .ok (.getfield 27, 3) := dk_180 0 27 (dk_at dksX12_text_1 0 rfl rfl)
theorem dX12_text_25 : decode cX12_text 25 = .ok (.invokevirtual 90, 3) := dk_182 0 90 (dk_at dksX12_text_1 3 rfl rfl)
theorem dX12_text_28 : decode cX12_text 28 = .ok (.ldc 99, 2) := dk_18 99 (dk_at dksX12_text_1 6 rfl rfl)
theorem dX12_text_30 : decode cX12_text 30 = .ok (.invokevirtual 96, 3) := dk_182 0 96 (dk_at dksX12_text_1 8 rfl rfl)
theorem dX12_text_33 : decode cX12_text 33 = .ok (.aload_n 0, 1) := dk_42 (dk_at dksX12_text_1 11 rfl rfl)
theorem dX12_text_34 : decode cX12_text 34 = .ok (.getfield 30, 3) := dk_180 0 30 (dk_at dksX12_text_1 12 rfl rfl)
theorem dX12_text_37 : decode cX12_text 37 = .ok (.invokevirtual 90, 3) := dk_182 0 90 (dk_at dksX12_text_1 15 rfl rfl)
theorem dX12_text_40 : decode cX12_text 40 = .ok (.bipush 32, 2) := dk_16 32 (dk_at dksX12_text_1 18 rfl rfl)
theorem dX12_text_42 : decode cX12_text 42 = .ok (.invokevirtual 101, 3) := dk_182 0 101 (dk_at dksX12_text_1 20 rfl rfl)
theorem dX12_text_45 : decode cX12_text 45 = .ok (.pop, 1) := dk_87 (dk_at dksX12_text_1 23 rfl rfl)
theorem dX12_text_46 : decode cX12_text 46 = .ok (.iconst 0, 1) := dk_3 (dk_at dksX12_text_2 0 rfl rfl)
theorem dX12_text_47 : decode cX12_text 47 = .ok (.istore_n 2, 1) := dk_61 (dk_at dksX12_text_2 1 rfl rfl)
theorem dX12_text_48 : decode cX12_text 48 = .ok (.iload_n 2, 1) := dk_28 (dk_at dksX12_text_2 2 rfl rfl)
theorem dX12_text_49 : decode cX12_text 49 = .ok (.aload_n 0, 1) := dk_42 (dk_at dksX12_text_2 3 rfl rfl)
theorem dX12_text_50 : decode cX12_text 50 = .ok (.getfield 42, 3) := dk_180 0 42 (dk_at dksX12_text_2 4 rfl rfl)
theorem dX12_text_53 : decode cX12_text 53 = .ok (.arraylength, 1) := dk_190 (dk_at dksX12_text_2 7 rfl rfl)
theorem dX12_text_54 : decode cX12_text 54 = .ok (.if_icmp .ge 54, 3) := dk_162 0 54 (dk_at dksX12_text_2 8 rfl rfl)
theorem dX12_text_57 : decode cX12_text 57 = .ok (.aload_n 1, 1) := dk_43 (dk_at dksX12_text_2 11 rfl rfl)
theorem dX12_text_58 : decode cX12_text 58 = .ok (.iload_n 2, 1) := dk_28 (dk_at dksX12_text_2 12 rfl rfl)
theorem dX12_text_59 : decode cX12_text 59 = .ok (.ifCond .le 8, 3) := dk_158 0 8 (dk_at dksX12_text_2 13 rfl rfl)
theorem dX12_text_62 : decode cX12_text 62 = .ok (.ldc 104, 2) := dk_18 104 (dk_at dksX12_text_2 16 rfl rfl)
theorem dX12_text_64 : decode cX12_text 64 = .ok (.goto 5, 3) := dk_167 0 5 (dk_at dksX12_text_2 18 rfl rfl)
theorem dX12_text_67 : decode cX12_text 67 = .ok (.ldc 106, 2) := dk_18 106 (dk_at dksX12_text_2 21 rfl rfl)
theorem dX12_text_69 : decode cX12_text 69 = .ok (.invokevirtual 96, 3) := dk_182 0 96 (dk_at dksX12_text_3 0 rfl rfl)
theorem dX12_text_72 : decode cX12_text 72 = .ok (.aload_n 0, 1) := dk_42 (dk_at dksX12_text_3 3 rfl rfl)
theorem dX12_text_73 : decode cX12_text 73 = .ok (.getfield 42, 3) := dk_180 0 42 (dk_at dksX12_text_3 4 rfl rfl)
theorem dX12_text_76 : decode cX12_text 76 = .ok (.iload_n 2, 1) := dk_28 (dk_at dksX12_text_3 7 rfl rfl)
theorem dX12_text_77 : decode cX12_text 77 = .ok (.aaload, 1) := dk_50 (dk_at dksX12_text_3 8 rfl rfl)
theorem dX12_text_78 : decode cX12_text 78 = .ok (.getfield 84, 3) := dk_180 0 84 (dk_at dksX12_text_3 9 rfl rfl)
theorem dX12_text_81 : decode cX12_text 81 = .ok (.invokevirtual 90, 3) := dk_182 0 90 (dk_at dksX12_text_3 12 rfl rfl)
theorem dX12_text_84 : decode cX12_text 84 = .ok (.bipush 120, 2) := dk_16 120 (dk_at dksX12_text_3 15 rfl rfl)
theorem dX12_text_86 : decode cX12_text 86 = .ok (.invokevirtual 101, 3) := dk_182 0 101 (dk_at dksX12_text_3 17 rfl rfl)
theorem dX12_text_89 : decode cX12_text 89 = .ok (.aload_n 0, 1) := dk_42 (dk_at dksX12_text_3 20 rfl rfl)
theorem dX12_text_90 : decode cX12_text 90 = .ok (.getfield 42, 3) := dk_180 0 42 (dk_at dksX12_text_3 21 rfl rfl)
theorem dX12_text_93 : decode cX12_text 93 = .ok (.iload_n 2, 1) := dk_28 (dk_at dksX12_text_4 0 rfl rfl)
theorem dX12_text_94 : decode cX12_text 94 = .ok (.aaload, 1) := dk_50 (dk_at dksX12_text_4 1 rfl rfl)
theorem dX12_text_95 : decode cX12_text 95 = .ok (.getfield 108, 3) := dk_180 0 108 (dk_at dksX12_text_4 2 rfl rfl)
theorem dX12_text_98 : decode cX12_text 98 = .ok (.invokevirtual 90, 3) := dk_182 0 90 (dk_at dksX12_text_4 5 rfl rfl)
theorem dX12_text_101 : decode cX12_text 101 = .ok (.pop, 1) := dk_87 (dk_at dksX12_text_4 8 rfl rfl)
theorem dX12_text_102 : decode cX12_text 102 = .ok (.iinc 2 1, 3) := dk_132 2 1 (dk_at dksX12_text_4 9 rfl rfl)
theorem dX12_text_105 : decode cX12_text 105 = .ok (.goto (-57), 3) := dk_167 255 199 (dk_at dksX12_text_4 12 rfl rfl)
theorem dX12_text_108 : decode cX12_text 108 = .ok (.aload_n 0, 1) := dk_42 (dk_at dksX12_text_4 15 rfl rfl)
theorem dX12_text_109 : decode cX12_text 109 = .ok (.getfield 15, 3) := dk_180 0 15 (dk_at dksX12_text_4 16 rfl rfl)
theorem dX12_text_112 : decode cX12_text 112 = .ok (.bipush (-2), 2) := dk_16 254 (dk_at dksX12_text_4 19 rfl rfl)
theorem dX12_text_114 : decode cX12_text 114 = .ok (.if_icmp .ne 10, 3) := dk_160 0 10 (dk_at dksX12_text_4 21 rfl rfl)
theorem dX12_text_117 : decode cX12_text 117 = .ok (.aload_n 1, 1) := dk_43 (dk_at dksX12_text_5 0 rfl rfl)
theorem dX12_text_118 : decode cX12_text 118 = .ok (.invokevirtual 111, 3) := dk_182 0 111 (dk_at dksX12_text_5 1 rfl rfl)
theorem dX12_text_121 : decode cX12_text 121 = .ok (.goto 29, 3) := dk_167 0 29 (dk_at dksX12_text_5 4 rfl rfl)
theorem dX12_text_124 : decode cX12_text 124 = .ok (.new 87, 3) := dk_187 0 87 (dk_at dksX12_text_5 7 rfl rfl)
theorem dX12_text_127 : decode cX12_text 127 = .ok (.dup, 1) := dk_89 (dk_at dksX12_text_5 10 rfl rfl)
theorem dX12_text_128 : decode cX12_text 128 = .ok (.invokespecial 89, 3) := dk_183 0 89 (dk_at dksX12_text_5 11 rfl rfl)
theorem dX12_text_131 : decode cX12_text 131 = .ok (.aload_n 1, 1) := dk_43 (dk_at dksX12_text_5 14 rfl rfl)
theorem dX12_text_132 : decode cX12_text 132 = .ok (.invokevirtual 115, 3) := dk_182 0 115 (dk_at dksX12_text_5 15 rfl rfl)
theorem dX12_text_135 : decode cX12_text 135 = .ok (.ldc 118, 2) := dk_18 118 (dk_at dksX12_text_5 18 rfl rfl)
theorem dX12_text_137 : decode cX12_text 137 = .ok (.invokevirtual 96, 3) := dk_182 0 96 (dk_at dksX12_text_5 20 rfl rfl)
theorem dX12_text_140 : decode cX12_text 140 = .ok (.aload_n 0, 1) := dk_42 (dk_at dksX12_text_5 23 rfl rfl)
theorem dX12_text_141 : decode cX12_text 141 = .ok (.getfield 15, 3) := dk_180 0 15 (dk_at dksX12_text_6 0 rfl rfl)
theorem dX12_text_144 : decode cX12_text 144 = .ok (.invokevirtual 90, 3) := dk_182 0 90 (dk_at dksX12_text_6 3 rfl rfl)
theorem dX12_text_147 : decode cX12_text 147 = .ok (.invokevirtual 111, 3) := dk_182 0 111 (dk_at dksX12_text_6 6 rfl rfl)
theorem dX12_text_150 : decode cX12_text 150 = .ok (.areturn, 1) := dk_176 (dk_at dksX12_text_6 9 rfl rfl)
abbrev cX0_isSpan : ByteArray := prog_1_method_24_code
def dkwX0_isSpan_4 : List UInt8 := [3, 172]
abbrev dktX0_isSpan_4 : List UInt8 := dkwX0_isSpan_4 ++ []
def dkwX0_isSpan_3 : List UInt8 := [96, 133, 148, 157, 0, 21, 21, 5, 2, 159, 0, 11, 21, 5, 184, 0, 55, 153, 0, 7, 4, 167, 0, 4]
abbrev dktX0_isSpan_3 : List UInt8 := dkwX0_isSpan_3 ++ dktX0_isSpan_4
def dkwX0_isSpan_2 : List UInt8 := [180, 0, 147, 161, 0, 45, 33, 28, 133, 148, 158, 0, 38, 33, 42, 180, 0, 16, 180, 0, 147, 17, 117, 48]
abbrev dktX0_isSpan_2 : List UInt8 := dkwX0_isSpan_2 ++ dktX0_isSpan_3
def dkwX0_isSpan_1 : List UInt8 := [21, 7, 184, 1, 17, 153, 0, 10, 21, 6, 21, 7, 164, 0, 5, 3, 172, 28, 42, 180, 0, 16]
abbrev dktX0_isSpan_1 : List UInt8 := dkwX0_isSpan_1 ++ dktX0_isSpan_2
def dkwX0_isSpan_0 : List UInt8 := [27, 16, 100, 108, 54, 6, 27, 16, 100, 112, 54, 7, 27, 155, 0, 26, 21, 6, 184, 1, 17, 153, 0, 18]
abbrev dktX0_isSpan_0 : List UInt8 := dkwX0_isSpan_0 ++ dktX0_isSpan_1
theorem dksX0_isSpan_0 : cX0_isSpan.data.toList.drop 0 = dktX0_isSpan_0 := by decide +kernel
theorem dksX0_isSpan_1 : cX0_isSpan.data.toList.drop 24 = dktX0_isSpan_1 := dk_seg dksX0_isSpan_0 24 rfl rfl
theorem dksX0_isSpan_2 : cX0_isSpan.data.toList.drop 46 = dktX0_isSpan_2 := dk_seg dksX0_isSpan_1 22 rfl rfl
theorem dksX0_isSpan_3 : cX0_isSpan.data.toList.drop 70 = dktX0_isSpan_3 := dk_seg dksX0_isSpan_2 24 rfl rfl
theorem dksX0_isSpan_4 : cX0_isSpan.data.toList.drop 94 = dktX0_isSpan_4 := dk_seg dksX0_isSpan_3 24 rfl rfl
theorem dX0_isSpan_0 : decode cX0_isSpan 0 = .ok (.iload_n 1, 1) := dk_27 (dk_at dksX0_isSpan_0 0 rfl rfl)
theorem dX0_isSpan_1 : decode cX0_isSpan 1 = .ok (.bipush 100, 2) := dk_16 100 (dk_at dksX0_isSpan_0 1 rfl rfl)
theorem dX0_isSpan_3 : decode cX0_isSpan 3 = .ok (.idiv, 1) := dk_108 (dk_at dksX0_isSpan_0 3 rfl rfl)
theorem dX0_isSpan_4 : decode cX0_isSpan 4 = .ok (.istore 6, 2) := dk_54 6 (dk_at dksX0_isSpan_0 4 rfl rfl)
theorem dX0_isSpan_6 : decode cX0_isSpan 6 = .ok (.iload_n 1, 1) := dk_27 (dk_at dksX0_isSpan_0 6 rfl rfl)
theorem dX0_isSpan_7 : decode cX0_isSpan 7 = .ok (.bipush 100, 2) := dk_16 100 (dk_at dksX0_isSpan_0 7 rfl rfl)
theorem dX0_isSpan_9 : decode cX0_isSpan 9 = .ok (.irem, 1) := dk_112 (dk_at dksX0_isSpan_0 9 rfl rfl)
theorem dX0_isSpan_10 : decode cX0_isSpan 10 = .ok (.istore 7, 2) := dk_54 7 (dk_at dksX0_isSpan_0 10 rfl rfl)
theorem dX0_isSpan_12 : decode cX0_isSpan 12 = .ok (.iload_n 1, 1) := dk_27 (dk_at dksX0_isSpan_0 12 rfl rfl)
theorem dX0_isSpan_13 : decode cX0_isSpan 13 = .ok (.ifCond .lt 26, 3) := dk_155 0 26 (dk_at dksX0_isSpan_0 13 rfl rfl)
theorem dX0_isSpan_16 : decode cX0_isSpan 16 = .ok (.iload 6, 2) := dk_21 6 (dk_at dksX0_isSpan_0 16 rfl rfl)
theorem dX0_isSpan_18 : decode cX0_isSpan 18 = .ok (.invokestatic 273, 3) := dk_184 1 17 (dk_at dksX0_isSpan_0 18 rfl rfl)
theorem dX0_isSpan_21 : decode cX0_isSpan 21 = .ok (.ifCond .eq 18, 3) := dk_153 0 18 (dk_at dksX0_isSpan_0 21 rfl rfl)
theorem dX0_isSpan_24 : decode cX0_isSpan 24 = .ok (.iload 7, 2) := dk_21 7 (dk_at dksX0_isSpan_1 0 rfl rfl)
theorem dX0_isSpan_26 : decode cX0_isSpan 26 = .ok (.invokestatic 273, 3) := dk_184 1 17 (dk_at dksX0_isSpan_1 2 rfl rfl)
theorem dX0_isSpan_29 : decode cX0_isSpan 29 = .ok (.ifCond .eq 10, 3) := dk_153 0 10 (dk_at dksX0_isSpan_1 5 rfl rfl)
theorem dX0_isSpan_32 : decode cX0_isSpan 32 = .ok (.iload 6, 2) := dk_21 6 (dk_at dksX0_isSpan_1 8 rfl rfl)
theorem dX0_isSpan_34 : decode cX0_isSpan 34 = .ok (.iload 7, 2) := dk_21 7 (dk_at dksX0_isSpan_1 10 rfl rfl)
theorem dX0_isSpan_36 : decode cX0_isSpan 36 = .ok (.if_icmp .le 5, 3) := dk_164 0 5 (dk_at dksX0_isSpan_1 12 rfl rfl)
theorem dX0_isSpan_39 : decode cX0_isSpan 39 = .ok (.iconst 0, 1) := dk_3 (dk_at dksX0_isSpan_1 15 rfl rfl)
theorem dX0_isSpan_40 : decode cX0_isSpan 40 = .ok (.ireturn, 1) := dk_172 (dk_at dksX0_isSpan_1 16 rfl rfl)
theorem dX0_isSpan_41 : decode cX0_isSpan 41 = .ok (.iload_n 2, 1) := dk_28 (dk_at dksX0_isSpan_1 17 rfl rfl)
theorem dX0_isSpan_42 : decode cX0_isSpan 42 = .ok (.aload_n 0, 1) := dk_42 (dk_at dksX0_isSpan_1 18 rfl rfl)
theorem dX0_isSpan_43 : decode cX0_isSpan 43 = .ok (.getfield 16, 3) := dk_180 0 16 (dk_at dksX0_isSpan_1 19 rfl rfl)
theorem dX0_isSpan_46 : decode cX0_isSpan 46 = .ok (.getfield 147, 3) := dk_180 0 147 (dk_at dksX0_isSpan_2 0 rfl rfl)
theorem dX0_isSpan_49 : decode cX0_isSpan 49 = .ok (.if_icmp .lt 45, 3) := dk_161 0 45 (dk_at dksX0_isSpan_2 3 rfl rfl)
theorem dX0_isSpan_52 : decode cX0_isSpan 52 = .ok (.lload_n 3, 1) := dk_33 (dk_at dksX0_isSpan_2 6 rfl rfl)
theorem dX0_isSpan_53 : decode cX0_isSpan 53 = .ok (.iload_n 2, 1) := dk_28 (dk_at dksX0_isSpan_2 7 rfl rfl)
theorem dX0_isSpan_54 : decode cX0_isSpan 54 = .ok (.i2l, 1) := dk_133 (dk_at dksX0_isSpan_2 8 rfl rfl)
theorem dX0_isSpan_55 : decode cX0_isSpan 55 = .ok (.lcmp, 1) := dk_148 (dk_at dksX0_isSpan_2 9 rfl rfl)
theorem dX0_isSpan_56 : decode cX0_isSpan 56 = .ok (.ifCond .le 38, 3) := dk_158 0 38 (dk_at dksX0_isSpan_2 10 rfl rfl)
theorem dX0_isSpan_59 : decode cX0_isSpan 59 = .ok (.lload_n 3, 1) := dk_33 (dk_at dksX0_isSpan_2 13 rfl rfl)
theorem dX0_isSpan_60 : decode cX0_isSpan 60 = .ok (.aload_n 0, 1) := dk_42 (dk_at dksX0_isSpan_2 14 rfl rfl)
theorem dX0_isSpan_61 : decode cX0_isSpan 61 = .ok (.getfield 16, 3) := dk_180 0 16 (dk_at dksX0_isSpan_2 15 rfl rfl)
theorem dX0_isSpan_64 : decode cX0_isSpan 64 = .ok (.getfield 147, 3) := dk_180 0 147 (dk_at dksX0_isSpan_2 18 rfl rfl)
theorem dX0_isSpan_67 : decode cX0_isSpan 67 = .ok (.sipush 30000, 3) := dk_17 117 48 (dk_at dksX0_isSpan_2 21 rfl rfl)
theorem dX0_isSpan_70 : decode cX0_isSpan 70 = .ok (.iadd, 1) := dk_96 (dk_at dksX0_isSpan_3 0 rfl rfl)
theorem dX0_isSpan_71 : decode cX0_isSpan 71 = .ok (.i2l, 1) := dk_133 (dk_at dksX0_isSpan_3 1 rfl rfl)
theorem dX0_isSpan_72 : decode cX0_isSpan 72 = .ok (.lcmp, 1) := dk_148 (dk_at dksX0_isSpan_3 2 rfl rfl)
theorem dX0_isSpan_73 : decode cX0_isSpan 73 = .ok (.ifCond .gt 21, 3) := dk_157 0 21 (dk_at dksX0_isSpan_3 3 rfl rfl)
theorem dX0_isSpan_76 : decode cX0_isSpan 76 = .ok (.iload 5, 2) := dk_21 5 (dk_at dksX0_isSpan_3 6 rfl rfl)
theorem dX0_isSpan_78 : decode cX0_isSpan 78 = .ok (.iconst (-1), 1) := dk_2 (dk_at dksX0_isSpan_3 8 rfl rfl)
theorem dX0_isSpan_79 : decode cX0_isSpan 79 = .ok (.if_icmp .eq 11, 3) := dk_159 0 11 (dk_at dksX0_isSpan_3 9 rfl rfl)
theorem dX0_isSpan_82 : decode cX0_isSpan 82 = .ok (.iload 5, 2) := dk_21 5 (dk_at dksX0_isSpan_3 12 rfl rfl)
theorem dX0_isSpan_84 : decode cX0_isSpan 84 = .ok (.invokestatic 55, 3) := dk_184 0 55 (dk_at dksX0_isSpan_3 14 rfl rfl)
theorem dX0_isSpan_87 : decode cX0_isSpan 87 = .ok (.ifCond .eq 7, 3) := dk_153 0 7 (dk_at dksX0_isSpan_3 17 rfl rfl)
theorem dX0_isSpan_90 : decode cX0_isSpan 90 = .ok (.iconst 1, 1) := dk_4 (dk_at dksX0_isSpan_3 20 rfl rfl)
theorem dX0_isSpan_91 : decode cX0_isSpan 91 = .ok (.goto 4, 3) := dk_167 0 4 (dk_at dksX0_isSpan_3 21 rfl rfl)
theorem dX0_isSpan_94 : decode cX0_isSpan 94 = .ok (.iconst 0, 1) := dk_3 (dk_at dksX0_isSpan_4 0 rfl rfl)
theorem dX0_isSpan_95 : decode cX0_isSpan 95 = .ok (.ireturn, 1) := dk_172 (dk_at dksX0_isSpan_4 1 rfl rfl)
abbrev cX0_kept : ByteArray := prog_1_method_25_code
def dkwX0_kept_2 : List UInt8 := [25, 5, 182, 1, 32, 25, 5, 180, 1, 36, 172]
abbrev dktX0_kept_2 : List UInt8 := dkwX0_kept_2 ++ []
def dkwX0_kept_1 : List UInt8 := [183, 1, 25, 58, 5, 42, 180, 0, 16, 25, 5, 182, 1, 28, 154, 0, 6, 16, 251, 172, 42, 180, 0, 16]
abbrev dktX0_kept_1 : List UInt8 := dkwX0_kept_1 ++ dktX0_kept_2
def dkwX0_kept_0 : List UInt8 := [187, 1, 20, 89, 42, 180, 0, 16, 180, 1, 22, 27, 16, 100, 108, 27, 16, 100, 112, 28, 29, 21, 4]
abbrev dktX0_kept_0 : List UInt8 := dkwX0_kept_0 ++ dktX0_kept_1
theorem dksX0_kept_0 : cX0_kept.data.toList.drop 0 = dktX0_kept_0 := by decide +kernel
theorem dksX0_kept_1 : cX0_kept.data.toList.drop 23 = dktX0_kept_1 := dk_seg dksX0_kept_0 23 rfl rfl
theorem dksX0_kept_2 : cX0_kept.data.toList.drop 47 = dktX0_kept_2 := dk_seg dksX0_kept_1 24 rfl rfl
theorem dX0_kept_0 : decode cX0_kept 0 = .ok (.new 276, 3) := dk_187 1 20 (dk_at dksX0_kept_0 0 rfl rfl)
theorem dX0_kept_3 : decode cX0_kept 3 = .ok (.dup, 1) := dk_89 (dk_at dksX0_kept_0 3 rfl rfl)
theorem dX0_kept_4 : decode cX0_kept 4 = .ok (.aload_n 0, 1) := dk_42 (dk_at dksX0_kept_0 4 rfl rfl)
theorem dX0_kept_5 : decode cX0_kept 5 = .ok (.getfield 16, 3) := dk_180 0 16 (dk_at dksX0_kept_0 5 rfl rfl)
theorem dX0_kept_8 : decode cX0_kept 8 = .ok (.getfield 278, 3) := dk_180 1 22 (dk_at dksX0_kept_0 8 rfl rfl)
theorem dX0_kept_11 : decode cX0_kept 11 = .ok (.iload_n 1, 1) := dk_27 (dk_at dksX0_kept_0 11 rfl rfl)
theorem dX0_kept_12 : decode cX0_kept 12 = .ok (.bipush 100, 2) := dk_16 100 (dk_at dksX0_kept_0 12 rfl rfl)
theorem dX0_kept_14 : decode cX0_kept 14 = .ok (.idiv, 1) := dk_108 (dk_at dksX0_kept_0 14 rfl rfl)
theorem dX0_kept_15 : decode cX0_kept 15 = .ok (.iload_n 1, 1) := dk_27 (dk_at dksX0_kept_0 15 rfl rfl)
theorem dX0_kept_16 : decode cX0_kept 16 = .ok (.bipush 100, 2) := dk_16 100 (dk_at dksX0_kept_0 16 rfl rfl)
theorem dX0_kept_18 : decode cX0_kept 18 = .ok (.irem, 1) := dk_112 (dk_at dksX0_kept_0 18 rfl rfl)
theorem dX0_kept_19 : decode cX0_kept 19 = .ok (.iload_n 2, 1) := dk_28 (dk_at dksX0_kept_0 19 rfl rfl)
theorem dX0_kept_20 : decode cX0_kept 20 = .ok (.iload_n 3, 1) := dk_29 (dk_at dksX0_kept_0 20 rfl rfl)
theorem dX0_kept_21 : decode cX0_kept 21 = .ok (.iload 4, 2) := dk_21 4 (dk_at dksX0_kept_0 21 rfl rfl)
theorem dX0_kept_23 : decode cX0_kept 23 = .ok (.invokespecial 281, 3) := dk_183 1 25 (dk_at dksX0_kept_1 0 rfl rfl)
theorem dX0_kept_26 : decode cX0_kept 26 = .ok (.astore 5, 2) := dk_58 5 (dk_at dksX0_kept_1 3 rfl rfl)
theorem dX0_kept_28 : decode cX0_kept 28 = .ok (.aload_n 0, 1) := dk_42 (dk_at dksX0_kept_1 5 rfl rfl)
theorem dX0_kept_29 : decode cX0_kept 29 = .ok (.getfield 16, 3) := dk_180 0 16 (dk_at dksX0_kept_1 6 rfl rfl)
theorem dX0_kept_32 : decode cX0_kept 32 = .ok (.aload 5, 2) := dk_25 5 (dk_at dksX0_kept_1 9 rfl rfl)
theorem dX0_kept_34 : decode cX0_kept 34 = .ok (.invokevirtual 284, 3) := dk_182 1 28 (dk_at dksX0_kept_1 11 rfl rfl)
theorem dX0_kept_37 : decode cX0_kept 37 = .ok (.ifCond .ne 6, 3) := dk_154 0 6 (dk_at dksX0_kept_1 14 rfl rfl)
theorem dX0_kept_40 : decode cX0_kept 40 = .ok (.bipush (-5), 2) := dk_16 251 (dk_at dksX0_kept_1 17 rfl rfl)
theorem dX0_kept_42 : decode cX0_kept 42 = .ok (.ireturn, 1) := dk_172 (dk_at dksX0_kept_1 19 rfl rfl)
theorem dX0_kept_43 : decode cX0_kept 43 = .ok (.aload_n 0, 1) := dk_42 (dk_at dksX0_kept_1 20 rfl rfl)
theorem dX0_kept_44 : decode cX0_kept 44 = .ok (.getfield 16, 3) := dk_180 0 16 (dk_at dksX0_kept_1 21 rfl rfl)
theorem dX0_kept_47 : decode cX0_kept 47 = .ok (.aload 5, 2) := dk_25 5 (dk_at dksX0_kept_2 0 rfl rfl)
theorem dX0_kept_49 : decode cX0_kept 49 = .ok (.invokevirtual 288, 3) := dk_182 1 32 (dk_at dksX0_kept_2 2 rfl rfl)
theorem dX0_kept_52 : decode cX0_kept 52 = .ok (.aload 5, 2) := dk_25 5 (dk_at dksX0_kept_2 5 rfl rfl)
theorem dX0_kept_54 : decode cX0_kept 54 = .ok (.getfield 292, 3) := dk_180 1 36 (dk_at dksX0_kept_2 7 rfl rfl)
theorem dX0_kept_57 : decode cX0_kept 57 = .ok (.ireturn, 1) := dk_172 (dk_at dksX0_kept_2 10 rfl rfl)
abbrev cX0_givesBack : ByteArray := prog_1_method_28_code
def dkwX0_givesBack_2 : List UInt8 := [184, 1, 59, 182, 1, 69, 87, 132, 2, 255, 167, 255, 209, 42, 180, 0, 16, 27, 181, 1, 22, 177]
abbrev dktX0_givesBack_2 : List UInt8 := dkwX0_givesBack_2 ++ []
def dkwX0_givesBack_1 : List UInt8 := [180, 1, 41, 28, 184, 1, 59, 182, 1, 63, 192, 1, 20, 182, 1, 66, 42, 180, 0, 16, 180, 1, 41, 28]
abbrev dktX0_givesBack_1 : List UInt8 := dkwX0_givesBack_1 ++ dktX0_givesBack_2
def dkwX0_givesBack_0 : List UInt8 := [42, 180, 0, 16, 180, 1, 22, 4, 100, 61, 28, 27, 161, 0, 48, 42, 180, 0, 16, 42, 180, 0, 16]
abbrev dktX0_givesBack_0 : List UInt8 := dkwX0_givesBack_0 ++ dktX0_givesBack_1
theorem dksX0_givesBack_0 : cX0_givesBack.data.toList.drop 0 = dktX0_givesBack_0 := by decide +kernel
theorem dksX0_givesBack_1 : cX0_givesBack.data.toList.drop 23 = dktX0_givesBack_1 := dk_seg dksX0_givesBack_0 23 rfl rfl
theorem dksX0_givesBack_2 : cX0_givesBack.data.toList.drop 47 = dktX0_givesBack_2 := dk_seg dksX0_givesBack_1 24 rfl rfl
theorem dX0_givesBack_0 : decode cX0_givesBack 0 = .ok (.aload_n 0, 1) := dk_42 (dk_at dksX0_givesBack_0 0 rfl rfl)
theorem dX0_givesBack_1 : decode cX0_givesBack 1 = .ok (.getfield 16, 3) := dk_180 0 16 (dk_at dksX0_givesBack_0 1 rfl rfl)
theorem dX0_givesBack_4 : decode cX0_givesBack 4 = .ok (.getfield 278, 3) := dk_180 1 22 (dk_at dksX0_givesBack_0 4 rfl rfl)
theorem dX0_givesBack_7 : decode cX0_givesBack 7 = .ok (.iconst 1, 1) := dk_4 (dk_at dksX0_givesBack_0 7 rfl rfl)
theorem dX0_givesBack_8 : decode cX0_givesBack 8 = .ok (.isub, 1) := dk_100 (dk_at dksX0_givesBack_0 8 rfl rfl)
theorem dX0_givesBack_9 : decode cX0_givesBack 9 = .ok (.istore_n 2, 1) := dk_61 (dk_at dksX0_givesBack_0 9 rfl rfl)
theorem dX0_givesBack_10 : decode cX0_givesBack 10 = .ok (.iload_n 2, 1) := dk_28 (dk_at dksX0_givesBack_0 10 rfl rfl)
theorem dX0_givesBack_11 : decode cX0_givesBack 11 = .ok (.iload_n 1, 1) := dk_27 (dk_at dksX0_givesBack_0 11 rfl rfl)
theorem dX0_givesBack_12 : decode cX0_givesBack 12 = .ok (.if_icmp .lt 48, 3) := dk_161 0 48 (dk_at dksX0_givesBack_0 12 rfl rfl)
theorem dX0_givesBack_15 : decode cX0_givesBack 15 = .ok (.aload_n 0, 1) := dk_42 (dk_at dksX0_givesBack_0 15 rfl rfl)
theorem dX0_givesBack_16 : decode cX0_givesBack 16 = .ok (.getfield 16, 3) := dk_180 0 16 (dk_at dksX0_givesBack_0 16 rfl rfl)
theorem dX0_givesBack_19 : decode cX0_givesBack 19 = .ok (.aload_n 0, 1) := dk_42 (dk_at dksX0_givesBack_0 19 rfl rfl)
theorem dX0_givesBack_20 : decode cX0_givesBack 20 = .ok (.getfield 16, 3) := dk_180 0 16 (dk_at dksX0_givesBack_0 20 rfl rfl)
theorem dX0_givesBack_23 : decode cX0_givesBack 23 = .ok (.getfield 297, 3) := dk_180 1 41 (dk_at dksX0_givesBack_1 0 rfl rfl)
theorem dX0_givesBack_26 : decode cX0_givesBack 26 = .ok (.iload_n 2, 1) := dk_28 (dk_at dksX0_givesBack_1 3 rfl rfl)
theorem dX0_givesBack_27 : decode cX0_givesBack 27 = .ok (.invokestatic 315, 3) := dk_184 1 59 (dk_at dksX0_givesBack_1 4 rfl rfl)
theorem dX0_givesBack_30 : decode cX0_givesBack 30 = .ok (.invokevirtual 319, 3) := dk_182 1 63 (dk_at dksX0_givesBack_1 7 rfl rfl)
theorem dX0_givesBack_33 : decode cX0_givesBack 33 = .ok (.checkcast 276, 3) := dk_192 1 20 (dk_at dksX0_givesBack_1 10 rfl rfl)
theorem dX0_givesBack_36 : decode cX0_givesBack 36 = .ok (.invokevirtual 322, 3) := dk_182 1 66 (dk_at dksX0_givesBack_1 13 rfl rfl)
theorem dX0_givesBack_39 : decode cX0_givesBack 39 = .ok (.aload_n 0, 1) := dk_42 (dk_at dksX0_givesBack_1 16 rfl rfl)
theorem dX0_givesBack_40 : decode cX0_givesBack 40 = .ok (.getfield 16, 3) := dk_180 0 16 (dk_at dksX0_givesBack_1 17 rfl rfl)
theorem dX0_givesBack_43 : decode cX0_givesBack 43 = .ok (.getfield 297, 3) := dk_180 1 41 (dk_at dksX0_givesBack_1 20 rfl rfl)
theorem dX0_givesBack_46 : decode cX0_givesBack 46 = .ok (.iload_n 2, 1) := dk_28 (dk_at dksX0_givesBack_1 23 rfl rfl)
theorem dX0_givesBack_47 : decode cX0_givesBack 47 = .ok (.invokestatic 315, 3) := dk_184 1 59 (dk_at dksX0_givesBack_2 0 rfl rfl)
theorem dX0_givesBack_50 : decode cX0_givesBack 50 = .ok (.invokevirtual 325, 3) := dk_182 1 69 (dk_at dksX0_givesBack_2 3 rfl rfl)
theorem dX0_givesBack_53 : decode cX0_givesBack 53 = .ok (.pop, 1) := dk_87 (dk_at dksX0_givesBack_2 6 rfl rfl)
theorem dX0_givesBack_54 : decode cX0_givesBack 54 = .ok (.iinc 2 (-1), 3) := dk_132 2 255 (dk_at dksX0_givesBack_2 7 rfl rfl)
theorem dX0_givesBack_57 : decode cX0_givesBack 57 = .ok (.goto (-47), 3) := dk_167 255 209 (dk_at dksX0_givesBack_2 10 rfl rfl)
theorem dX0_givesBack_60 : decode cX0_givesBack 60 = .ok (.aload_n 0, 1) := dk_42 (dk_at dksX0_givesBack_2 13 rfl rfl)
theorem dX0_givesBack_61 : decode cX0_givesBack 61 = .ok (.getfield 16, 3) := dk_180 0 16 (dk_at dksX0_givesBack_2 14 rfl rfl)
theorem dX0_givesBack_64 : decode cX0_givesBack 64 = .ok (.iload_n 1, 1) := dk_27 (dk_at dksX0_givesBack_2 17 rfl rfl)
theorem dX0_givesBack_65 : decode cX0_givesBack 65 = .ok (.putfield 278, 3) := dk_181 1 22 (dk_at dksX0_givesBack_2 18 rfl rfl)
theorem dX0_givesBack_68 : decode cX0_givesBack 68 = .ok (.return_, 1) := dk_177 (dk_at dksX0_givesBack_2 21 rfl rfl)
abbrev cX1_letsSpan : ByteArray := prog_8_method_32_code
def dkwX1_letsSpan_0 : List UInt8 := [42, 43, 186, 1, 199, 0, 0, 182, 1, 118, 177]
abbrev dktX1_letsSpan_0 : List UInt8 := dkwX1_letsSpan_0 ++ []
theorem dksX1_letsSpan_0 : cX1_letsSpan.data.toList.drop 0 = dktX1_letsSpan_0 := by decide +kernel
theorem dX1_letsSpan_0 : decode cX1_letsSpan 0 = .ok (.aload_n 0, 1) := dk_42 (dk_at dksX1_letsSpan_0 0 rfl rfl)
theorem dX1_letsSpan_1 : decode cX1_letsSpan 1 = .ok (.aload_n 1, 1) := dk_43 (dk_at dksX1_letsSpan_0 1 rfl rfl)
theorem dX1_letsSpan_2 : decode cX1_letsSpan 2 = .ok (.invokedynamic 455, 5) := by decide +kernel
theorem dX1_letsSpan_7 : decode cX1_letsSpan 7 = .ok (.invokevirtual 374, 3) := dk_182 1 118 (dk_at dksX1_letsSpan_0 7 rfl rfl)
theorem dX1_letsSpan_10 : decode cX1_letsSpan 10 = .ok (.return_, 1) := dk_177 (dk_at dksX1_letsSpan_0 10 rfl rfl)
abbrev cX1_tick : ByteArray := prog_8_method_30_code
def dkwX1_tick_6 : List UInt8 := [180, 0, 24, 28, 92, 47, 20, 0, 228, 109, 80, 132, 2, 1, 167, 255, 216, 42, 182, 1, 182, 177]
abbrev dktX1_tick_6 : List UInt8 := dkwX1_tick_6 ++ []
def dkwX1_tick_5 : List UInt8 := [162, 0, 40, 42, 180, 0, 197, 158, 0, 33, 42, 180, 0, 203, 42, 180, 0, 197, 112, 154, 0, 21, 42]
abbrev dktX1_tick_5 : List UInt8 := dkwX1_tick_5 ++ dktX1_tick_6
def dkwX1_tick_4 : List UInt8 := [182, 1, 176, 153, 0, 11, 42, 44, 180, 0, 174, 182, 1, 179, 167, 255, 170, 3, 61, 28, 16, 8]
abbrev dktX1_tick_4 : List UInt8 := dkwX1_tick_4 ++ dktX1_tick_5
def dkwX1_tick_3 : List UInt8 := [180, 0, 182, 182, 1, 174, 44, 180, 0, 174, 180, 0, 219, 4, 160, 0, 22, 42, 44, 180, 0, 174]
abbrev dktX1_tick_3 : List UInt8 := dkwX1_tick_3 ++ dktX1_tick_4
def dkwX1_tick_2 : List UInt8 := [180, 0, 203, 160, 0, 59, 42, 180, 0, 58, 182, 1, 171, 192, 0, 172, 77, 42, 44, 180, 0, 174, 44]
abbrev dktX1_tick_2 : List UInt8 := dkwX1_tick_2 ++ dktX1_tick_3
def dkwX1_tick_1 : List UInt8 := [182, 1, 165, 154, 0, 82, 42, 180, 0, 58, 182, 1, 168, 192, 0, 172, 180, 0, 182, 180, 0, 216, 42]
abbrev dktX1_tick_1 : List UInt8 := dkwX1_tick_1 ++ dktX1_tick_2
def dkwX1_tick_0 : List UInt8 := [42, 43, 182, 1, 158, 87, 42, 89, 180, 0, 203, 4, 96, 181, 0, 203, 42, 182, 1, 162, 42, 180, 0, 58]
abbrev dktX1_tick_0 : List UInt8 := dkwX1_tick_0 ++ dktX1_tick_1
theorem dksX1_tick_0 : cX1_tick.data.toList.drop 0 = dktX1_tick_0 := by decide +kernel
theorem dksX1_tick_1 : cX1_tick.data.toList.drop 24 = dktX1_tick_1 := dk_seg dksX1_tick_0 24 rfl rfl
theorem dksX1_tick_2 : cX1_tick.data.toList.drop 47 = dktX1_tick_2 := dk_seg dksX1_tick_1 23 rfl rfl
theorem dksX1_tick_3 : cX1_tick.data.toList.drop 70 = dktX1_tick_3 := dk_seg dksX1_tick_2 23 rfl rfl
theorem dksX1_tick_4 : cX1_tick.data.toList.drop 92 = dktX1_tick_4 := dk_seg dksX1_tick_3 22 rfl rfl
theorem dksX1_tick_5 : cX1_tick.data.toList.drop 114 = dktX1_tick_5 := dk_seg dksX1_tick_4 22 rfl rfl
theorem dksX1_tick_6 : cX1_tick.data.toList.drop 137 = dktX1_tick_6 := dk_seg dksX1_tick_5 23 rfl rfl
theorem dX1_tick_0 : decode cX1_tick 0 = .ok (.aload_n 0, 1) := dk_42 (dk_at dksX1_tick_0 0 rfl rfl)
theorem dX1_tick_1 : decode cX1_tick 1 = .ok (.aload_n 1, 1) := dk_43 (dk_at dksX1_tick_0 1 rfl rfl)
theorem dX1_tick_2 : decode cX1_tick 2 = .ok (.invokevirtual 414, 3) := dk_182 1 158 (dk_at dksX1_tick_0 2 rfl rfl)
theorem dX1_tick_5 : decode cX1_tick 5 = .ok (.pop, 1) := dk_87 (dk_at dksX1_tick_0 5 rfl rfl)
theorem dX1_tick_6 : decode cX1_tick 6 = .ok (.aload_n 0, 1) := dk_42 (dk_at dksX1_tick_0 6 rfl rfl)
theorem dX1_tick_7 : decode cX1_tick 7 = .ok (.dup, 1) := dk_89 (dk_at dksX1_tick_0 7 rfl rfl)
theorem dX1_tick_8 : decode cX1_tick 8 = .ok (.getfield 203, 3) := dk_180 0 203 (dk_at dksX1_tick_0 8 rfl rfl)
theorem dX1_tick_11 : decode cX1_tick 11 = .ok (.iconst 1, 1) := dk_4 (dk_at dksX1_tick_0 11 rfl rfl)
theorem dX1_tick_12 : decode cX1_tick 12 = .ok (.iadd, 1) := dk_96 (dk_at dksX1_tick_0 12 rfl rfl)
theorem dX1_tick_13 : decode cX1_tick 13 = .ok (.putfield 203, 3) := dk_181 0 203 (dk_at dksX1_tick_0 13 rfl rfl)
theorem dX1_tick_16 : decode cX1_tick 16 = .ok (.aload_n 0, 1) := dk_42 (dk_at dksX1_tick_0 16 rfl rfl)
theorem dX1_tick_17 : decode cX1_tick 17 = .ok (.invokevirtual 418, 3) := dk_182 1 162 (dk_at dksX1_tick_0 17 rfl rfl)
theorem dX1_tick_20 : decode cX1_tick 20 = .ok (.aload_n 0, 1) := dk_42 (dk_at dksX1_tick_0 20 rfl rfl)
theorem dX1_tick_21 : decode cX1_tick 21 = .ok (.getfield 58, 3) := dk_180 0 58 (dk_at dksX1_tick_0 21 rfl rfl)
theorem dX1_tick_24 : decode cX1_tick 24 = .ok (.invokevirtual 421, 3) := dk_182 1 165 (dk_at dksX1_tick_1 0 rfl rfl)
theorem dX1_tick_27 : decode cX1_tick 27 = .ok (.ifCond .ne 82, 3) := dk_154 0 82 (dk_at dksX1_tick_1 3 rfl rfl)
theorem dX1_tick_30 : decode cX1_tick 30 = .ok (.aload_n 0, 1) := dk_42 (dk_at dksX1_tick_1 6 rfl rfl)
theorem dX1_tick_31 : decode cX1_tick 31 = .ok (.getfield 58, 3) := dk_180 0 58 (dk_at dksX1_tick_1 7 rfl rfl)
theorem dX1_tick_34 : decode cX1_tick 34 = .ok (.invokevirtual 424, 3) := dk_182 1 168 (dk_at dksX1_tick_1 10 rfl rfl)
theorem dX1_tick_37 : decode cX1_tick 37 = .ok (.checkcast 172, 3) := dk_192 0 172 (dk_at dksX1_tick_1 13 rfl rfl)
theorem dX1_tick_40 : decode cX1_tick 40 = .ok (.getfield 182, 3) := dk_180 0 182 (dk_at dksX1_tick_1 16 rfl rfl)
theorem dX1_tick_43 : decode cX1_tick 43 = .ok (.getfield 216, 3) := dk_180 0 216 (dk_at dksX1_tick_1 19 rfl rfl)
theorem dX1_tick_46 : decode cX1_tick 46 = .ok (.aload_n 0, 1) := dk_42 (dk_at dksX1_tick_1 22 rfl rfl)
theorem dX1_tick_47 : decode cX1_tick 47 = .ok (.getfield 203, 3) := dk_180 0 203 (dk_at dksX1_tick_2 0 rfl rfl)
theorem dX1_tick_50 : decode cX1_tick 50 = .ok (.if_icmp .ne 59, 3) := dk_160 0 59 (dk_at dksX1_tick_2 3 rfl rfl)
theorem dX1_tick_53 : decode cX1_tick 53 = .ok (.aload_n 0, 1) := dk_42 (dk_at dksX1_tick_2 6 rfl rfl)
theorem dX1_tick_54 : decode cX1_tick 54 = .ok (.getfield 58, 3) := dk_180 0 58 (dk_at dksX1_tick_2 7 rfl rfl)
theorem dX1_tick_57 : decode cX1_tick 57 = .ok (.invokevirtual 427, 3) := dk_182 1 171 (dk_at dksX1_tick_2 10 rfl rfl)
theorem dX1_tick_60 : decode cX1_tick 60 = .ok (.checkcast 172, 3) := dk_192 0 172 (dk_at dksX1_tick_2 13 rfl rfl)
theorem dX1_tick_63 : decode cX1_tick 63 = .ok (.astore_n 2, 1) := dk_77 (dk_at dksX1_tick_2 16 rfl rfl)
theorem dX1_tick_64 : decode cX1_tick 64 = .ok (.aload_n 0, 1) := dk_42 (dk_at dksX1_tick_2 17 rfl rfl)
theorem dX1_tick_65 : decode cX1_tick 65 = .ok (.aload_n 2, 1) := dk_44 (dk_at dksX1_tick_2 18 rfl rfl)
theorem dX1_tick_66 : decode cX1_tick 66 = .ok (.getfield 174, 3) := dk_180 0 174 (dk_at dksX1_tick_2 19 rfl rfl)
theorem dX1_tick_69 : decode cX1_tick 69 = .ok (.aload_n 2, 1) := dk_44 (dk_at dksX1_tick_2 22 rfl rfl)
theorem dX1_tick_70 : decode cX1_tick 70 = .ok (.getfield 182, 3) := dk_180 0 182 (dk_at dksX1_tick_3 0 rfl rfl)
theorem dX1_tick_73 : decode cX1_tick 73 = .ok (.invokevirtual 430, 3) := dk_182 1 174 (dk_at dksX1_tick_3 3 rfl rfl)
theorem dX1_tick_76 : decode cX1_tick 76 = .ok (.aload_n 2, 1) := dk_44 (dk_at dksX1_tick_3 6 rfl rfl)
theorem dX1_tick_77 : decode cX1_tick 77 = .ok (.getfield 174, 3) := dk_180 0 174 (dk_at dksX1_tick_3 7 rfl rfl)
theorem dX1_tick_80 : decode cX1_tick 80 = .ok (.getfield 219, 3) := dk_180 0 219 (dk_at dksX1_tick_3 10 rfl rfl)
theorem dX1_tick_83 : decode cX1_tick 83 = .ok (.iconst 1, 1) := dk_4 (dk_at dksX1_tick_3 13 rfl rfl)
theorem dX1_tick_84 : decode cX1_tick 84 = .ok (.if_icmp .ne 22, 3) := dk_160 0 22 (dk_at dksX1_tick_3 14 rfl rfl)
theorem dX1_tick_87 : decode cX1_tick 87 = .ok (.aload_n 0, 1) := dk_42 (dk_at dksX1_tick_3 17 rfl rfl)
theorem dX1_tick_88 : decode cX1_tick 88 = .ok (.aload_n 2, 1) := dk_44 (dk_at dksX1_tick_3 18 rfl rfl)
theorem dX1_tick_89 : decode cX1_tick 89 = .ok (.getfield 174, 3) := dk_180 0 174 (dk_at dksX1_tick_3 19 rfl rfl)
theorem dX1_tick_92 : decode cX1_tick 92 = .ok (.invokevirtual 432, 3) := dk_182 1 176 (dk_at dksX1_tick_4 0 rfl rfl)
theorem dX1_tick_95 : decode cX1_tick 95 = .ok (.ifCond .eq 11, 3) := dk_153 0 11 (dk_at dksX1_tick_4 3 rfl rfl)
theorem dX1_tick_98 : decode cX1_tick 98 = .ok (.aload_n 0, 1) := dk_42 (dk_at dksX1_tick_4 6 rfl rfl)
theorem dX1_tick_99 : decode cX1_tick 99 = .ok (.aload_n 2, 1) := dk_44 (dk_at dksX1_tick_4 7 rfl rfl)
theorem dX1_tick_100 : decode cX1_tick 100 = .ok (.getfield 174, 3) := dk_180 0 174 (dk_at dksX1_tick_4 8 rfl rfl)
theorem dX1_tick_103 : decode cX1_tick 103 = .ok (.invokevirtual 435, 3) := dk_182 1 179 (dk_at dksX1_tick_4 11 rfl rfl)
theorem dX1_tick_106 : decode cX1_tick 106 = .ok (.goto (-86), 3) := dk_167 255 170 (dk_at dksX1_tick_4 14 rfl rfl)
theorem dX1_tick_109 : decode cX1_tick 109 = .ok (.iconst 0, 1) := dk_3 (dk_at dksX1_tick_4 17 rfl rfl)
theorem dX1_tick_110 : decode cX1_tick 110 = .ok (.istore_n 2, 1) := dk_61 (dk_at dksX1_tick_4 18 rfl rfl)
theorem dX1_tick_111 : decode cX1_tick 111 = .ok (.iload_n 2, 1) := dk_28 (dk_at dksX1_tick_4 19 rfl rfl)
theorem dX1_tick_112 : decode cX1_tick 112 = .ok (.bipush 8, 2) := dk_16 8 (dk_at dksX1_tick_4 20 rfl rfl)
theorem dX1_tick_114 : decode cX1_tick 114 = .ok (.if_icmp .ge 40, 3) := dk_162 0 40 (dk_at dksX1_tick_5 0 rfl rfl)
theorem dX1_tick_117 : decode cX1_tick 117 = .ok (.aload_n 0, 1) := dk_42 (dk_at dksX1_tick_5 3 rfl rfl)
theorem dX1_tick_118 : decode cX1_tick 118 = .ok (.getfield 197, 3) := dk_180 0 197 (dk_at dksX1_tick_5 4 rfl rfl)
theorem dX1_tick_121 : decode cX1_tick 121 = .ok (.ifCond .le 33, 3) := dk_158 0 33 (dk_at dksX1_tick_5 7 rfl rfl)
theorem dX1_tick_124 : decode cX1_tick 124 = .ok (.aload_n 0, 1) := dk_42 (dk_at dksX1_tick_5 10 rfl rfl)
theorem dX1_tick_125 : decode cX1_tick 125 = .ok (.getfield 203, 3) := dk_180 0 203 (dk_at dksX1_tick_5 11 rfl rfl)
theorem dX1_tick_128 : decode cX1_tick 128 = .ok (.aload_n 0, 1) := dk_42 (dk_at dksX1_tick_5 14 rfl rfl)
theorem dX1_tick_129 : decode cX1_tick 129 = .ok (.getfield 197, 3) := dk_180 0 197 (dk_at dksX1_tick_5 15 rfl rfl)
theorem dX1_tick_132 : decode cX1_tick 132 = .ok (.irem, 1) := dk_112 (dk_at dksX1_tick_5 18 rfl rfl)
theorem dX1_tick_133 : decode cX1_tick 133 = .ok (.ifCond .ne 21, 3) := dk_154 0 21 (dk_at dksX1_tick_5 19 rfl rfl)
theorem dX1_tick_136 : decode cX1_tick 136 = .ok (.aload_n 0, 1) := dk_42 (dk_at dksX1_tick_5 22 rfl rfl)
theorem dX1_tick_137 : decode cX1_tick 137 = .ok (.getfield 24, 3) := dk_180 0 24 (dk_at dksX1_tick_6 0 rfl rfl)
theorem dX1_tick_140 : decode cX1_tick 140 = .ok (.iload_n 2, 1) := dk_28 (dk_at dksX1_tick_6 3 rfl rfl)
theorem dX1_tick_141 : decode cX1_tick 141 = .ok (.dup2, 1) := dk_92 (dk_at dksX1_tick_6 4 rfl rfl)
theorem dX1_tick_142 : decode cX1_tick 142 = .ok (.laload, 1) := dk_47 (dk_at dksX1_tick_6 5 rfl rfl)
theorem dX1_tick_143 : decode cX1_tick 143 = .ok (.ldc2_w 228, 3) := dk_20 0 228 (dk_at dksX1_tick_6 6 rfl rfl)
theorem dX1_tick_146 : decode cX1_tick 146 = .ok (.ldiv, 1) := dk_109 (dk_at dksX1_tick_6 9 rfl rfl)
theorem dX1_tick_147 : decode cX1_tick 147 = .ok (.lastore, 1) := dk_80 (dk_at dksX1_tick_6 10 rfl rfl)
theorem dX1_tick_148 : decode cX1_tick 148 = .ok (.iinc 2 1, 3) := dk_132 2 1 (dk_at dksX1_tick_6 11 rfl rfl)
theorem dX1_tick_151 : decode cX1_tick 151 = .ok (.goto (-40), 3) := dk_167 255 216 (dk_at dksX1_tick_6 14 rfl rfl)
theorem dX1_tick_154 : decode cX1_tick 154 = .ok (.aload_n 0, 1) := dk_42 (dk_at dksX1_tick_6 17 rfl rfl)
theorem dX1_tick_155 : decode cX1_tick 155 = .ok (.invokevirtual 438, 3) := dk_182 1 182 (dk_at dksX1_tick_6 18 rfl rfl)
theorem dX1_tick_158 : decode cX1_tick 158 = .ok (.return_, 1) := dk_177 (dk_at dksX1_tick_6 21 rfl rfl)
abbrev cX1_pass : ByteArray := prog_8_method_24_code
def dkwX1_pass_8 : List UInt8 := [162, 0, 10, 42, 25, 6, 182, 1, 148, 87, 132, 5, 1, 167, 255, 113, 29, 172]
abbrev dktX1_pass_8 : List UInt8 := dkwX1_pass_8 ++ []
def dkwX1_pass_7 : List UInt8 := [167, 0, 32, 21, 4, 3, 184, 1, 142, 54, 4, 42, 180, 0, 68, 180, 1, 145, 42, 180, 0, 75]
abbrev dktX1_pass_7 : List UInt8 := dkwX1_pass_7 ++ dktX1_pass_8
def dkwX1_pass_6 : List UInt8 := [132, 3, 1, 42, 180, 0, 82, 7, 92, 47, 21, 4, 2, 160, 0, 7, 9, 167, 0, 4, 10, 97, 80]
abbrev dktX1_pass_6 : List UInt8 := dkwX1_pass_6 ++ dktX1_pass_7
def dkwX1_pass_5 : List UInt8 := [180, 0, 203, 182, 1, 130, 153, 0, 43, 42, 25, 6, 182, 1, 133, 43, 25, 6, 185, 1, 137, 2, 0]
abbrev dktX1_pass_5 : List UInt8 := dkwX1_pass_5 ++ dktX1_pass_6
def dkwX1_pass_4 : List UInt8 := [167, 0, 107, 21, 4, 21, 4, 2, 160, 0, 7, 3, 167, 0, 4, 4, 96, 54, 4, 42, 25, 6, 42]
abbrev dktX1_pass_4 : List UInt8 := dkwX1_pass_4 ++ dktX1_pass_5
def dkwX1_pass_3 : List UInt8 := [50, 58, 6, 42, 25, 6, 182, 1, 127, 153, 0, 6, 167, 0, 113, 21, 4, 42, 180, 0, 79, 160, 0, 6]
abbrev dktX1_pass_3 : List UInt8 := dkwX1_pass_3 ++ dktX1_pass_4
def dkwX1_pass_2 : List UInt8 := [54, 4, 42, 182, 1, 124, 3, 54, 5, 21, 5, 42, 180, 1, 9, 162, 0, 140, 42, 180, 0, 87, 21, 5]
abbrev dktX1_pass_2 : List UInt8 := dkwX1_pass_2 ++ dktX1_pass_3
def dkwX1_pass_1 : List UInt8 := [77, 42, 42, 180, 0, 68, 181, 0, 72, 42, 44, 181, 0, 68, 42, 180, 0, 68, 182, 1, 121, 3, 62, 2]
abbrev dktX1_pass_1 : List UInt8 := dkwX1_pass_1 ++ dktX1_pass_2
def dkwX1_pass_0 : List UInt8 := [42, 180, 0, 82, 16, 7, 92, 47, 10, 97, 80, 42, 186, 1, 115, 0, 0, 182, 1, 118, 42, 180, 0, 72]
abbrev dktX1_pass_0 : List UInt8 := dkwX1_pass_0 ++ dktX1_pass_1
theorem dksX1_pass_0 : cX1_pass.data.toList.drop 0 = dktX1_pass_0 := by decide +kernel
theorem dksX1_pass_1 : cX1_pass.data.toList.drop 24 = dktX1_pass_1 := dk_seg dksX1_pass_0 24 rfl rfl
theorem dksX1_pass_2 : cX1_pass.data.toList.drop 48 = dktX1_pass_2 := dk_seg dksX1_pass_1 24 rfl rfl
theorem dksX1_pass_3 : cX1_pass.data.toList.drop 72 = dktX1_pass_3 := dk_seg dksX1_pass_2 24 rfl rfl
theorem dksX1_pass_4 : cX1_pass.data.toList.drop 96 = dktX1_pass_4 := dk_seg dksX1_pass_3 24 rfl rfl
theorem dksX1_pass_5 : cX1_pass.data.toList.drop 119 = dktX1_pass_5 := dk_seg dksX1_pass_4 23 rfl rfl
theorem dksX1_pass_6 : cX1_pass.data.toList.drop 142 = dktX1_pass_6 := dk_seg dksX1_pass_5 23 rfl rfl
theorem dksX1_pass_7 : cX1_pass.data.toList.drop 165 = dktX1_pass_7 := dk_seg dksX1_pass_6 23 rfl rfl
theorem dksX1_pass_8 : cX1_pass.data.toList.drop 187 = dktX1_pass_8 := dk_seg dksX1_pass_7 22 rfl rfl
theorem dX1_pass_0 : decode cX1_pass 0 = .ok (.aload_n 0, 1) := dk_42 (dk_at dksX1_pass_0 0 rfl rfl)
theorem dX1_pass_1 : decode cX1_pass 1 = .ok (.getfield 82, 3) := dk_180 0 82 (dk_at dksX1_pass_0 1 rfl rfl)
theorem dX1_pass_4 : decode cX1_pass 4 = .ok (.bipush 7, 2) := dk_16 7 (dk_at dksX1_pass_0 4 rfl rfl)
theorem dX1_pass_6 : decode cX1_pass 6 = .ok (.dup2, 1) := dk_92 (dk_at dksX1_pass_0 6 rfl rfl)
theorem dX1_pass_7 : decode cX1_pass 7 = .ok (.laload, 1) := dk_47 (dk_at dksX1_pass_0 7 rfl rfl)
theorem dX1_pass_8 : decode cX1_pass 8 = .ok (.lconst 1, 1) := dk_10 (dk_at dksX1_pass_0 8 rfl rfl)
theorem dX1_pass_9 : decode cX1_pass 9 = .ok (.ladd, 1) := dk_97 (dk_at dksX1_pass_0 9 rfl rfl)
theorem dX1_pass_10 : decode cX1_pass 10 = .ok (.lastore, 1) := dk_80 (dk_at dksX1_pass_0 10 rfl rfl)
theorem dX1_pass_11 : decode cX1_pass 11 = .ok (.aload_n 0, 1) := dk_42 (dk_at dksX1_pass_0 11 rfl rfl)
theorem dX1_pass_12 : decode cX1_pass 12 = .ok (.invokedynamic 371, 5) := by decide +kernel
theorem dX1_pass_17 : decode cX1_pass 17 = .ok (.invokevirtual 374, 3) := dk_182 1 118 (dk_at dksX1_pass_0 17 rfl rfl)
theorem dX1_pass_20 : decode cX1_pass 20 = .ok (.aload_n 0, 1) := dk_42 (dk_at dksX1_pass_0 20 rfl rfl)
theorem dX1_pass_21 : decode cX1_pass 21 = .ok (.getfield 72, 3) := dk_180 0 72 (dk_at dksX1_pass_0 21 rfl rfl)
theorem dX1_pass_24 : decode cX1_pass 24 = .ok (.astore_n 2, 1) := dk_77 (dk_at dksX1_pass_1 0 rfl rfl)
theorem dX1_pass_25 : decode cX1_pass 25 = .ok (.aload_n 0, 1) := dk_42 (dk_at dksX1_pass_1 1 rfl rfl)
theorem dX1_pass_26 : decode cX1_pass 26 = .ok (.aload_n 0, 1) := dk_42 (dk_at dksX1_pass_1 2 rfl rfl)
theorem dX1_pass_27 : decode cX1_pass 27 = .ok (.getfield 68, 3) := dk_180 0 68 (dk_at dksX1_pass_1 3 rfl rfl)
theorem dX1_pass_30 : decode cX1_pass 30 = .ok (.putfield 72, 3) := dk_181 0 72 (dk_at dksX1_pass_1 6 rfl rfl)
theorem dX1_pass_33 : decode cX1_pass 33 = .ok (.aload_n 0, 1) := dk_42 (dk_at dksX1_pass_1 9 rfl rfl)
theorem dX1_pass_34 : decode cX1_pass 34 = .ok (.aload_n 2, 1) := dk_44 (dk_at dksX1_pass_1 10 rfl rfl)
theorem dX1_pass_35 : decode cX1_pass 35 = .ok (.putfield 68, 3) := dk_181 0 68 (dk_at dksX1_pass_1 11 rfl rfl)
theorem dX1_pass_38 : decode cX1_pass 38 = .ok (.aload_n 0, 1) := dk_42 (dk_at dksX1_pass_1 14 rfl rfl)
theorem dX1_pass_39 : decode cX1_pass 39 = .ok (.getfield 68, 3) := dk_180 0 68 (dk_at dksX1_pass_1 15 rfl rfl)
theorem dX1_pass_42 : decode cX1_pass 42 = .ok (.invokevirtual 377, 3) := dk_182 1 121 (dk_at dksX1_pass_1 18 rfl rfl)
theorem dX1_pass_45 : decode cX1_pass 45 = .ok (.iconst 0, 1) := dk_3 (dk_at dksX1_pass_1 21 rfl rfl)
theorem dX1_pass_46 : decode cX1_pass 46 = .ok (.istore_n 3, 1) := dk_62 (dk_at dksX1_pass_1 22 rfl rfl)
theorem dX1_pass_47 : decode cX1_pass 47 = .ok (.iconst (-1), 1) := dk_2 (dk_at dksX1_pass_1 23 rfl rfl)
theorem dX1_pass_48 : decode cX1_pass 48 = .ok (.istore 4, 2) := dk_54 4 (dk_at dksX1_pass_2 0 rfl rfl)
theorem dX1_pass_50 : decode cX1_pass 50 = .ok (.aload_n 0, 1) := dk_42 (dk_at dksX1_pass_2 2 rfl rfl)
theorem dX1_pass_51 : decode cX1_pass 51 = .ok (.invokevirtual 380, 3) := dk_182 1 124 (dk_at dksX1_pass_2 3 rfl rfl)
theorem dX1_pass_54 : decode cX1_pass 54 = .ok (.iconst 0, 1) := dk_3 (dk_at dksX1_pass_2 6 rfl rfl)
theorem dX1_pass_55 : decode cX1_pass 55 = .ok (.istore 5, 2) := dk_54 5 (dk_at dksX1_pass_2 7 rfl rfl)
theorem dX1_pass_57 : decode cX1_pass 57 = .ok (.iload 5, 2) := dk_21 5 (dk_at dksX1_pass_2 9 rfl rfl)
theorem dX1_pass_59 : decode cX1_pass 59 = .ok (.aload_n 0, 1) := dk_42 (dk_at dksX1_pass_2 11 rfl rfl)
theorem dX1_pass_60 : decode cX1_pass 60 = .ok (.getfield 265, 3) := dk_180 1 9 (dk_at dksX1_pass_2 12 rfl rfl)
theorem dX1_pass_63 : decode cX1_pass 63 = .ok (.if_icmp .ge 140, 3) := dk_162 0 140 (dk_at dksX1_pass_2 15 rfl rfl)
theorem dX1_pass_66 : decode cX1_pass 66 = .ok (.aload_n 0, 1) := dk_42 (dk_at dksX1_pass_2 18 rfl rfl)
theorem dX1_pass_67 : decode cX1_pass 67 = .ok (.getfield 87, 3) := dk_180 0 87 (dk_at dksX1_pass_2 19 rfl rfl)
theorem dX1_pass_70 : decode cX1_pass 70 = .ok (.iload 5, 2) := dk_21 5 (dk_at dksX1_pass_2 22 rfl rfl)
theorem dX1_pass_72 : decode cX1_pass 72 = .ok (.aaload, 1) := dk_50 (dk_at dksX1_pass_3 0 rfl rfl)
theorem dX1_pass_73 : decode cX1_pass 73 = .ok (.astore 6, 2) := dk_58 6 (dk_at dksX1_pass_3 1 rfl rfl)
theorem dX1_pass_75 : decode cX1_pass 75 = .ok (.aload_n 0, 1) := dk_42 (dk_at dksX1_pass_3 3 rfl rfl)
theorem dX1_pass_76 : decode cX1_pass 76 = .ok (.aload 6, 2) := dk_25 6 (dk_at dksX1_pass_3 4 rfl rfl)
theorem dX1_pass_78 : decode cX1_pass 78 = .ok (.invokevirtual 383, 3) := dk_182 1 127 (dk_at dksX1_pass_3 6 rfl rfl)
theorem dX1_pass_81 : decode cX1_pass 81 = .ok (.ifCond .eq 6, 3) := dk_153 0 6 (dk_at dksX1_pass_3 9 rfl rfl)
theorem dX1_pass_84 : decode cX1_pass 84 = .ok (.goto 113, 3) := dk_167 0 113 (dk_at dksX1_pass_3 12 rfl rfl)
theorem dX1_pass_87 : decode cX1_pass 87 = .ok (.iload 4, 2) := dk_21 4 (dk_at dksX1_pass_3 15 rfl rfl)
theorem dX1_pass_89 : decode cX1_pass 89 = .ok (.aload_n 0, 1) := dk_42 (dk_at dksX1_pass_3 17 rfl rfl)
theorem dX1_pass_90 : decode cX1_pass 90 = .ok (.getfield 79, 3) := dk_180 0 79 (dk_at dksX1_pass_3 18 rfl rfl)
theorem dX1_pass_93 : decode cX1_pass 93 = .ok (.if_icmp .ne 6, 3) := dk_160 0 6 (dk_at dksX1_pass_3 21 rfl rfl)
theorem dX1_pass_96 : decode cX1_pass 96 = .ok (.goto 107, 3) := dk_167 0 107 (dk_at dksX1_pass_4 0 rfl rfl)
theorem dX1_pass_99 : decode cX1_pass 99 = .ok (.iload 4, 2) := dk_21 4 (dk_at dksX1_pass_4 3 rfl rfl)
theorem dX1_pass_101 : decode cX1_pass 101 = .ok (.iload 4, 2) := dk_21 4 (dk_at dksX1_pass_4 5 rfl rfl)
theorem dX1_pass_103 : decode cX1_pass 103 = .ok (.iconst (-1), 1) := dk_2 (dk_at dksX1_pass_4 7 rfl rfl)
theorem dX1_pass_104 : decode cX1_pass 104 = .ok (.if_icmp .ne 7, 3) := dk_160 0 7 (dk_at dksX1_pass_4 8 rfl rfl)
theorem dX1_pass_107 : decode cX1_pass 107 = .ok (.iconst 0, 1) := dk_3 (dk_at dksX1_pass_4 11 rfl rfl)
theorem dX1_pass_108 : decode cX1_pass 108 = .ok (.goto 4, 3) := dk_167 0 4 (dk_at dksX1_pass_4 12 rfl rfl)
theorem dX1_pass_111 : decode cX1_pass 111 = .ok (.iconst 1, 1) := dk_4 (dk_at dksX1_pass_4 15 rfl rfl)
theorem dX1_pass_112 : decode cX1_pass 112 = .ok (.iadd, 1) := dk_96 (dk_at dksX1_pass_4 16 rfl rfl)
theorem dX1_pass_113 : decode cX1_pass 113 = .ok (.istore 4, 2) := dk_54 4 (dk_at dksX1_pass_4 17 rfl rfl)
theorem dX1_pass_115 : decode cX1_pass 115 = .ok (.aload_n 0, 1) := dk_42 (dk_at dksX1_pass_4 19 rfl rfl)
theorem dX1_pass_116 : decode cX1_pass 116 = .ok (.aload 6, 2) := dk_25 6 (dk_at dksX1_pass_4 20 rfl rfl)
theorem dX1_pass_118 : decode cX1_pass 118 = .ok (.aload_n 0, 1) := dk_42 (dk_at dksX1_pass_4 22 rfl rfl)
theorem dX1_pass_119 : decode cX1_pass 119 = .ok (.getfield 203, 3) := dk_180 0 203 (dk_at dksX1_pass_5 0 rfl rfl)
theorem dX1_pass_122 : decode cX1_pass 122 = .ok (.invokevirtual 386, 3) := dk_182 1 130 (dk_at dksX1_pass_5 3 rfl rfl)
theorem dX1_pass_125 : decode cX1_pass 125 = .ok (.ifCond .eq 43, 3) := dk_153 0 43 (dk_at dksX1_pass_5 6 rfl rfl)
theorem dX1_pass_128 : decode cX1_pass 128 = .ok (.aload_n 0, 1) := dk_42 (dk_at dksX1_pass_5 9 rfl rfl)
theorem dX1_pass_129 : decode cX1_pass 129 = .ok (.aload 6, 2) := dk_25 6 (dk_at dksX1_pass_5 10 rfl rfl)
theorem dX1_pass_131 : decode cX1_pass 131 = .ok (.invokevirtual 389, 3) := dk_182 1 133 (dk_at dksX1_pass_5 12 rfl rfl)
theorem dX1_pass_134 : decode cX1_pass 134 = .ok (.aload_n 1, 1) := dk_43 (dk_at dksX1_pass_5 15 rfl rfl)
theorem dX1_pass_135 : decode cX1_pass 135 = .ok (.aload 6, 2) := dk_25 6 (dk_at dksX1_pass_5 16 rfl rfl)
theorem dX1_pass_137 : decode cX1_pass 137 = .ok (.invokeinterface 393 2, 5) := by decide +kernel
theorem dX1_pass_142 : decode cX1_pass 142 = .ok (.iinc 3 1, 3) := dk_132 3 1 (dk_at dksX1_pass_6 0 rfl rfl)
theorem dX1_pass_145 : decode cX1_pass 145 = .ok (.aload_n 0, 1) := dk_42 (dk_at dksX1_pass_6 3 rfl rfl)
theorem dX1_pass_146 : decode cX1_pass 146 = .ok (.getfield 82, 3) := dk_180 0 82 (dk_at dksX1_pass_6 4 rfl rfl)
theorem dX1_pass_149 : decode cX1_pass 149 = .ok (.iconst 4, 1) := dk_7 (dk_at dksX1_pass_6 7 rfl rfl)
theorem dX1_pass_150 : decode cX1_pass 150 = .ok (.dup2, 1) := dk_92 (dk_at dksX1_pass_6 8 rfl rfl)
theorem dX1_pass_151 : decode cX1_pass 151 = .ok (.laload, 1) := dk_47 (dk_at dksX1_pass_6 9 rfl rfl)
theorem dX1_pass_152 : decode cX1_pass 152 = .ok (.iload 4, 2) := dk_21 4 (dk_at dksX1_pass_6 10 rfl rfl)
theorem dX1_pass_154 : decode cX1_pass 154 = .ok (.iconst (-1), 1) := dk_2 (dk_at dksX1_pass_6 12 rfl rfl)
theorem dX1_pass_155 : decode cX1_pass 155 = .ok (.if_icmp .ne 7, 3) := dk_160 0 7 (dk_at dksX1_pass_6 13 rfl rfl)
theorem dX1_pass_158 : decode cX1_pass 158 = .ok (.lconst 0, 1) := dk_9 (dk_at dksX1_pass_6 16 rfl rfl)
theorem dX1_pass_159 : decode cX1_pass 159 = .ok (.goto 4, 3) := dk_167 0 4 (dk_at dksX1_pass_6 17 rfl rfl)
theorem dX1_pass_162 : decode cX1_pass 162 = .ok (.lconst 1, 1) := dk_10 (dk_at dksX1_pass_6 20 rfl rfl)
theorem dX1_pass_163 : decode cX1_pass 163 = .ok (.ladd, 1) := dk_97 (dk_at dksX1_pass_6 21 rfl rfl)
theorem dX1_pass_164 : decode cX1_pass 164 = .ok (.lastore, 1) := dk_80 (dk_at dksX1_pass_6 22 rfl rfl)
theorem dX1_pass_165 : decode cX1_pass 165 = .ok (.goto 32, 3) := dk_167 0 32 (dk_at dksX1_pass_7 0 rfl rfl)
theorem dX1_pass_168 : decode cX1_pass 168 = .ok (.iload 4, 2) := dk_21 4 (dk_at dksX1_pass_7 3 rfl rfl)
theorem dX1_pass_170 : decode cX1_pass 170 = .ok (.iconst 0, 1) := dk_3 (dk_at dksX1_pass_7 5 rfl rfl)
theorem dX1_pass_171 : decode cX1_pass 171 = .ok (.invokestatic 398, 3) := dk_184 1 142 (dk_at dksX1_pass_7 6 rfl rfl)
theorem dX1_pass_174 : decode cX1_pass 174 = .ok (.istore 4, 2) := dk_54 4 (dk_at dksX1_pass_7 9 rfl rfl)
theorem dX1_pass_176 : decode cX1_pass 176 = .ok (.aload_n 0, 1) := dk_42 (dk_at dksX1_pass_7 11 rfl rfl)
theorem dX1_pass_177 : decode cX1_pass 177 = .ok (.getfield 68, 3) := dk_180 0 68 (dk_at dksX1_pass_7 12 rfl rfl)
theorem dX1_pass_180 : decode cX1_pass 180 = .ok (.getfield 401, 3) := dk_180 1 145 (dk_at dksX1_pass_7 15 rfl rfl)
theorem dX1_pass_183 : decode cX1_pass 183 = .ok (.aload_n 0, 1) := dk_42 (dk_at dksX1_pass_7 18 rfl rfl)
theorem dX1_pass_184 : decode cX1_pass 184 = .ok (.getfield 75, 3) := dk_180 0 75 (dk_at dksX1_pass_7 19 rfl rfl)
theorem dX1_pass_187 : decode cX1_pass 187 = .ok (.if_icmp .ge 10, 3) := dk_162 0 10 (dk_at dksX1_pass_8 0 rfl rfl)
theorem dX1_pass_190 : decode cX1_pass 190 = .ok (.aload_n 0, 1) := dk_42 (dk_at dksX1_pass_8 3 rfl rfl)
theorem dX1_pass_191 : decode cX1_pass 191 = .ok (.aload 6, 2) := dk_25 6 (dk_at dksX1_pass_8 4 rfl rfl)
theorem dX1_pass_193 : decode cX1_pass 193 = .ok (.invokevirtual 404, 3) := dk_182 1 148 (dk_at dksX1_pass_8 6 rfl rfl)
theorem dX1_pass_196 : decode cX1_pass 196 = .ok (.pop, 1) := dk_87 (dk_at dksX1_pass_8 9 rfl rfl)
theorem dX1_pass_197 : decode cX1_pass 197 = .ok (.iinc 5 1, 3) := dk_132 5 1 (dk_at dksX1_pass_8 10 rfl rfl)
theorem dX1_pass_200 : decode cX1_pass 200 = .ok (.goto (-143), 3) := dk_167 255 113 (dk_at dksX1_pass_8 13 rfl rfl)
theorem dX1_pass_203 : decode cX1_pass 203 = .ok (.iload_n 3, 1) := dk_29 (dk_at dksX1_pass_8 16 rfl rfl)
theorem dX1_pass_204 : decode cX1_pass 204 = .ok (.ireturn, 1) := dk_172 (dk_at dksX1_pass_8 17 rfl rfl)
abbrev cX0_isColumn : ByteArray := prog_1_method_4_code
def dkwX0_isColumn_0 : List UInt8 := [26, 133, 9, 20, 0, 29, 184, 0, 25, 172]
abbrev dktX0_isColumn_0 : List UInt8 := dkwX0_isColumn_0 ++ []
theorem dksX0_isColumn_0 : cX0_isColumn.data.toList.drop 0 = dktX0_isColumn_0 := by decide +kernel
theorem dX0_isColumn_0 : decode cX0_isColumn 0 = .ok (.iload_n 0, 1) := dk_26 (dk_at dksX0_isColumn_0 0 rfl rfl)
theorem dX0_isColumn_1 : decode cX0_isColumn 1 = .ok (.i2l, 1) := dk_133 (dk_at dksX0_isColumn_0 1 rfl rfl)
theorem dX0_isColumn_2 : decode cX0_isColumn 2 = .ok (.lconst 0, 1) := dk_9 (dk_at dksX0_isColumn_0 2 rfl rfl)
theorem dX0_isColumn_3 : decode cX0_isColumn 3 = .ok (.ldc2_w 29, 3) := dk_20 0 29 (dk_at dksX0_isColumn_0 3 rfl rfl)
theorem dX0_isColumn_6 : decode cX0_isColumn 6 = .ok (.invokestatic 25, 3) := dk_184 0 25 (dk_at dksX0_isColumn_0 6 rfl rfl)
theorem dX0_isColumn_9 : decode cX0_isColumn 9 = .ok (.ireturn, 1) := dk_172 (dk_at dksX0_isColumn_0 9 rfl rfl)
abbrev cX0_heldBy : ByteArray := prog_1_method_33_code
def dkwX0_heldBy_1 : List UInt8 := [167, 0, 8, 25, 4, 182, 1, 94, 172]
abbrev dktX0_heldBy_1 : List UInt8 := dkwX0_heldBy_1 ++ []
def dkwX0_heldBy_0 : List UInt8 := [42, 180, 0, 16, 180, 1, 85, 27, 50, 28, 45, 182, 1, 88, 58, 4, 25, 4, 199, 0, 8, 16, 254]
abbrev dktX0_heldBy_0 : List UInt8 := dkwX0_heldBy_0 ++ dktX0_heldBy_1
theorem dksX0_heldBy_0 : cX0_heldBy.data.toList.drop 0 = dktX0_heldBy_0 := by decide +kernel
theorem dksX0_heldBy_1 : cX0_heldBy.data.toList.drop 23 = dktX0_heldBy_1 := dk_seg dksX0_heldBy_0 23 rfl rfl
theorem dX0_heldBy_0 : decode cX0_heldBy 0 = .ok (.aload_n 0, 1) := dk_42 (dk_at dksX0_heldBy_0 0 rfl rfl)
theorem dX0_heldBy_1 : decode cX0_heldBy 1 = .ok (.getfield 16, 3) := dk_180 0 16 (dk_at dksX0_heldBy_0 1 rfl rfl)
theorem dX0_heldBy_4 : decode cX0_heldBy 4 = .ok (.getfield 341, 3) := dk_180 1 85 (dk_at dksX0_heldBy_0 4 rfl rfl)
theorem dX0_heldBy_7 : decode cX0_heldBy 7 = .ok (.iload_n 1, 1) := dk_27 (dk_at dksX0_heldBy_0 7 rfl rfl)
theorem dX0_heldBy_8 : decode cX0_heldBy 8 = .ok (.aaload, 1) := dk_50 (dk_at dksX0_heldBy_0 8 rfl rfl)
theorem dX0_heldBy_9 : decode cX0_heldBy 9 = .ok (.iload_n 2, 1) := dk_28 (dk_at dksX0_heldBy_0 9 rfl rfl)
theorem dX0_heldBy_10 : decode cX0_heldBy 10 = .ok (.aload_n 3, 1) := dk_45 (dk_at dksX0_heldBy_0 10 rfl rfl)
theorem dX0_heldBy_11 : decode cX0_heldBy 11 = .ok (.invokevirtual 344, 3) := dk_182 1 88 (dk_at dksX0_heldBy_0 11 rfl rfl)
theorem dX0_heldBy_14 : decode cX0_heldBy 14 = .ok (.astore 4, 2) := dk_58 4 (dk_at dksX0_heldBy_0 14 rfl rfl)
theorem dX0_heldBy_16 : decode cX0_heldBy 16 = .ok (.aload 4, 2) := dk_25 4 (dk_at dksX0_heldBy_0 16 rfl rfl)
theorem dX0_heldBy_18 : decode cX0_heldBy 18 = .ok (.ifnonnull 8, 3) := dk_199 0 8 (dk_at dksX0_heldBy_0 18 rfl rfl)
theorem dX0_heldBy_21 : decode cX0_heldBy 21 = .ok (.bipush (-2), 2) := dk_16 254 (dk_at dksX0_heldBy_0 21 rfl rfl)
theorem dX0_heldBy_23 : decode cX0_heldBy 23 = .ok (.goto 8, 3) := dk_167 0 8 (dk_at dksX0_heldBy_1 0 rfl rfl)
theorem dX0_heldBy_26 : decode cX0_heldBy 26 = .ok (.aload 4, 2) := dk_25 4 (dk_at dksX0_heldBy_1 3 rfl rfl)
theorem dX0_heldBy_28 : decode cX0_heldBy 28 = .ok (.invokevirtual 350, 3) := dk_182 1 94 (dk_at dksX0_heldBy_1 5 rfl rfl)
theorem dX0_heldBy_31 : decode cX0_heldBy 31 = .ok (.ireturn, 1) := dk_172 (dk_at dksX0_heldBy_1 8 rfl rfl)
abbrev cX25_init : ByteArray := prog_13_method_1_code
def dkwX25_init_3 : List UInt8 := [182, 0, 41, 182, 0, 46, 87, 132, 5, 1, 167, 255, 224, 177]
abbrev dktX25_init_3 : List UInt8 := dkwX25_init_3 ++ []
def dkwX25_init_2 : List UInt8 := [54, 5, 21, 5, 21, 4, 162, 0, 31, 45, 21, 5, 50, 58, 6, 42, 180, 0, 32, 180, 0, 38, 25, 6]
abbrev dktX25_init_2 : List UInt8 := dkwX25_init_2 ++ dktX25_init_3
def dkwX25_init_1 : List UInt8 := [180, 0, 22, 182, 0, 26, 181, 0, 32, 42, 180, 0, 32, 182, 0, 35, 44, 78, 45, 190, 54, 4, 3]
abbrev dktX25_init_1 : List UInt8 := dkwX25_init_1 ++ dktX25_init_2
def dkwX25_init_0 : List UInt8 := [42, 43, 181, 0, 3, 42, 183, 0, 9, 42, 187, 0, 15, 89, 183, 0, 17, 181, 0, 18, 42, 43]
abbrev dktX25_init_0 : List UInt8 := dkwX25_init_0 ++ dktX25_init_1
theorem dksX25_init_0 : cX25_init.data.toList.drop 0 = dktX25_init_0 := by decide +kernel
theorem dksX25_init_1 : cX25_init.data.toList.drop 22 = dktX25_init_1 := dk_seg dksX25_init_0 22 rfl rfl
theorem dksX25_init_2 : cX25_init.data.toList.drop 45 = dktX25_init_2 := dk_seg dksX25_init_1 23 rfl rfl
theorem dksX25_init_3 : cX25_init.data.toList.drop 69 = dktX25_init_3 := dk_seg dksX25_init_2 24 rfl rfl
theorem dX25_init_0 : decode cX25_init 0 = .ok (.aload_n 0, 1) := dk_42 (dk_at dksX25_init_0 0 rfl rfl)
theorem dX25_init_1 : decode cX25_init 1 = .ok (.aload_n 1, 1) := dk_43 (dk_at dksX25_init_0 1 rfl rfl)
theorem dX25_init_2 : decode cX25_init 2 = .ok (.putfield 3, 3) := dk_181 0 3 (dk_at dksX25_init_0 2 rfl rfl)
theorem dX25_init_5 : decode cX25_init 5 = .ok (.aload_n 0, 1) := dk_42 (dk_at dksX25_init_0 5 rfl rfl)
theorem dX25_init_6 : decode cX25_init 6 = .ok (.invokespecial 9, 3) := dk_183 0 9 (dk_at dksX25_init_0 6 rfl rfl)
theorem dX25_init_9 : decode cX25_init 9 = .ok (.aload_n 0, 1) := dk_42 (dk_at dksX25_init_0 9 rfl rfl)
theorem dX25_init_10 : decode cX25_init 10 = .ok (.new 15, 3) := dk_187 0 15 (dk_at dksX25_init_0 10 rfl rfl)
theorem dX25_init_13 : decode cX25_init 13 = .ok (.dup, 1) := dk_89 (dk_at dksX25_init_0 13 rfl rfl)
theorem dX25_init_14 : decode cX25_init 14 = .ok (.invokespecial 17, 3) := dk_183 0 17 (dk_at dksX25_init_0 14 rfl rfl)
theorem dX25_init_17 : decode cX25_init 17 = .ok (.putfield 18, 3) := dk_181 0 18 (dk_at dksX25_init_0 17 rfl rfl)
theorem dX25_init_20 : decode cX25_init 20 = .ok (.aload_n 0, 1) := dk_42 (dk_at dksX25_init_0 20 rfl rfl)
theorem dX25_init_21 : decode cX25_init 21 = .ok (.aload_n 1, 1) := dk_43 (dk_at dksX25_init_0 21 rfl rfl)
theorem dX25_init_22 : decode cX25_init 22 = .ok (.getfield 22, 3) := dk_180 0 22 (dk_at dksX25_init_1 0 rfl rfl)
theorem dX25_init_25 : decode cX25_init 25 = .ok (.invokevirtual 26, 3) := dk_182 0 26 (dk_at dksX25_init_1 3 rfl rfl)
theorem dX25_init_28 : decode cX25_init 28 = .ok (.putfield 32, 3) := dk_181 0 32 (dk_at dksX25_init_1 6 rfl rfl)
theorem dX25_init_31 : decode cX25_init 31 = .ok (.aload_n 0, 1) := dk_42 (dk_at dksX25_init_1 9 rfl rfl)
theorem dX25_init_32 : decode cX25_init 32 = .ok (.getfield 32, 3) := dk_180 0 32 (dk_at dksX25_init_1 10 rfl rfl)
theorem dX25_init_35 : decode cX25_init 35 = .ok (.invokevirtual 35, 3) := dk_182 0 35 (dk_at dksX25_init_1 13 rfl rfl)
theorem dX25_init_38 : decode cX25_init 38 = .ok (.aload_n 2, 1) := dk_44 (dk_at dksX25_init_1 16 rfl rfl)
theorem dX25_init_39 : decode cX25_init 39 = .ok (.astore_n 3, 1) := dk_78 (dk_at dksX25_init_1 17 rfl rfl)
theorem dX25_init_40 : decode cX25_init 40 = .ok (.aload_n 3, 1) := dk_45 (dk_at dksX25_init_1 18 rfl rfl)
theorem dX25_init_41 : decode cX25_init 41 = .ok (.arraylength, 1) := dk_190 (dk_at dksX25_init_1 19 rfl rfl)
theorem dX25_init_42 : decode cX25_init 42 = .ok (.istore 4, 2) := dk_54 4 (dk_at dksX25_init_1 20 rfl rfl)
theorem dX25_init_44 : decode cX25_init 44 = .ok (.iconst 0, 1) := dk_3 (dk_at dksX25_init_1 22 rfl rfl)
theorem dX25_init_45 : decode cX25_init 45 = .ok (.istore 5, 2) := dk_54 5 (dk_at dksX25_init_2 0 rfl rfl)
theorem dX25_init_47 : decode cX25_init 47 = .ok (.iload 5, 2) := dk_21 5 (dk_at dksX25_init_2 2 rfl rfl)
theorem dX25_init_49 : decode cX25_init 49 = .ok (.iload 4, 2) := dk_21 4 (dk_at dksX25_init_2 4 rfl rfl)
theorem dX25_init_51 : decode cX25_init 51 = .ok (.if_icmp .ge 31, 3) := dk_162 0 31 (dk_at dksX25_init_2 6 rfl rfl)
theorem dX25_init_54 : decode cX25_init 54 = .ok (.aload_n 3, 1) := dk_45 (dk_at dksX25_init_2 9 rfl rfl)
theorem dX25_init_55 : decode cX25_init 55 = .ok (.iload 5, 2) := dk_21 5 (dk_at dksX25_init_2 10 rfl rfl)
theorem dX25_init_57 : decode cX25_init 57 = .ok (.aaload, 1) := dk_50 (dk_at dksX25_init_2 12 rfl rfl)
theorem dX25_init_58 : decode cX25_init 58 = .ok (.astore 6, 2) := dk_58 6 (dk_at dksX25_init_2 13 rfl rfl)
theorem dX25_init_60 : decode cX25_init 60 = .ok (.aload_n 0, 1) := dk_42 (dk_at dksX25_init_2 15 rfl rfl)
theorem dX25_init_61 : decode cX25_init 61 = .ok (.getfield 32, 3) := dk_180 0 32 (dk_at dksX25_init_2 16 rfl rfl)
theorem dX25_init_64 : decode cX25_init 64 = .ok (.getfield 38, 3) := dk_180 0 38 (dk_at dksX25_init_2 19 rfl rfl)
theorem dX25_init_67 : decode cX25_init 67 = .ok (.aload 6, 2) := dk_25 6 (dk_at dksX25_init_2 22 rfl rfl)
theorem dX25_init_69 : decode cX25_init 69 = .ok (.invokevirtual 41, 3) := dk_182 0 41 (dk_at dksX25_init_3 0 rfl rfl)
theorem dX25_init_72 : decode cX25_init 72 = .ok (.invokevirtual 46, 3) := dk_182 0 46 (dk_at dksX25_init_3 3 rfl rfl)
theorem dX25_init_75 : decode cX25_init 75 = .ok (.pop, 1) := dk_87 (dk_at dksX25_init_3 6 rfl rfl)
theorem dX25_init_76 : decode cX25_init 76 = .ok (.iinc 5 1, 3) := dk_132 5 1 (dk_at dksX25_init_3 7 rfl rfl)
theorem dX25_init_79 : decode cX25_init 79 = .ok (.goto (-32), 3) := dk_167 255 224 (dk_at dksX25_init_3 10 rfl rfl)
theorem dX25_init_82 : decode cX25_init 82 = .ok (.return_, 1) := dk_177 (dk_at dksX25_init_3 13 rfl rfl)
abbrev cX25_goesOn : ByteArray := prog_13_method_2_code
def dkwX25_goesOn_3 : List UInt8 := [192, 0, 42, 180, 0, 69, 16, 254, 159, 0, 4, 177, 132, 3, 1, 167, 255, 179, 177]
abbrev dktX25_goesOn_3 : List UInt8 := dkwX25_goesOn_3 ++ []
def dkwX25_goesOn_2 : List UInt8 := [182, 0, 54, 21, 4, 100, 100, 61, 27, 2, 159, 0, 26, 42, 180, 0, 32, 180, 0, 38, 27, 182, 0, 65]
abbrev dktX25_goesOn_2 : List UInt8 := dkwX25_goesOn_2 ++ dktX25_goesOn_3
def dkwX25_goesOn_1 : List UInt8 := [182, 0, 54, 54, 4, 42, 180, 0, 32, 42, 186, 0, 57, 0, 0, 182, 0, 61, 28, 42, 180, 0, 18]
abbrev dktX25_goesOn_1 : List UInt8 := dkwX25_goesOn_1 ++ dktX25_goesOn_2
def dkwX25_goesOn_0 : List UInt8 := [42, 182, 0, 50, 61, 3, 62, 29, 17, 1, 44, 162, 0, 76, 28, 158, 0, 72, 42, 180, 0, 18]
abbrev dktX25_goesOn_0 : List UInt8 := dkwX25_goesOn_0 ++ dktX25_goesOn_1
theorem dksX25_goesOn_0 : cX25_goesOn.data.toList.drop 0 = dktX25_goesOn_0 := by decide +kernel
theorem dksX25_goesOn_1 : cX25_goesOn.data.toList.drop 22 = dktX25_goesOn_1 := dk_seg dksX25_goesOn_0 22 rfl rfl
theorem dksX25_goesOn_2 : cX25_goesOn.data.toList.drop 45 = dktX25_goesOn_2 := dk_seg dksX25_goesOn_1 23 rfl rfl
theorem dksX25_goesOn_3 : cX25_goesOn.data.toList.drop 69 = dktX25_goesOn_3 := dk_seg dksX25_goesOn_2 24 rfl rfl
theorem dX25_goesOn_0 : decode cX25_goesOn 0 = .ok (.aload_n 0, 1) := dk_42 (dk_at dksX25_goesOn_0 0 rfl rfl)
theorem dX25_goesOn_1 : decode cX25_goesOn 1 = .ok (.invokevirtual 50, 3) := dk_182 0 50 (dk_at dksX25_goesOn_0 1 rfl rfl)
theorem dX25_goesOn_4 : decode cX25_goesOn 4 = .ok (.istore_n 2, 1) := dk_61 (dk_at dksX25_goesOn_0 4 rfl rfl)
theorem dX25_goesOn_5 : decode cX25_goesOn 5 = .ok (.iconst 0, 1) := dk_3 (dk_at dksX25_goesOn_0 5 rfl rfl)
theorem dX25_goesOn_6 : decode cX25_goesOn 6 = .ok (.istore_n 3, 1) := dk_62 (dk_at dksX25_goesOn_0 6 rfl rfl)
theorem dX25_goesOn_7 : decode cX25_goesOn 7 = .ok (.iload_n 3, 1) := dk_29 (dk_at dksX25_goesOn_0 7 rfl rfl)
theorem dX25_goesOn_8 : decode cX25_goesOn 8 = .ok (.sipush 300, 3) := dk_17 1 44 (dk_at dksX25_goesOn_0 8 rfl rfl)
theorem dX25_goesOn_11 : decode cX25_goesOn 11 = .ok (.if_icmp .ge 76, 3) := dk_162 0 76 (dk_at dksX25_goesOn_0 11 rfl rfl)
theorem dX25_goesOn_14 : decode cX25_goesOn 14 = .ok (.iload_n 2, 1) := dk_28 (dk_at dksX25_goesOn_0 14 rfl rfl)
theorem dX25_goesOn_15 : decode cX25_goesOn 15 = .ok (.ifCond .le 72, 3) := dk_158 0 72 (dk_at dksX25_goesOn_0 15 rfl rfl)
theorem dX25_goesOn_18 : decode cX25_goesOn 18 = .ok (.aload_n 0, 1) := dk_42 (dk_at dksX25_goesOn_0 18 rfl rfl)
theorem dX25_goesOn_19 : decode cX25_goesOn 19 = .ok (.getfield 18, 3) := dk_180 0 18 (dk_at dksX25_goesOn_0 19 rfl rfl)
theorem dX25_goesOn_22 : decode cX25_goesOn 22 = .ok (.invokevirtual 54, 3) := dk_182 0 54 (dk_at dksX25_goesOn_1 0 rfl rfl)
theorem dX25_goesOn_25 : decode cX25_goesOn 25 = .ok (.istore 4, 2) := dk_54 4 (dk_at dksX25_goesOn_1 3 rfl rfl)
theorem dX25_goesOn_27 : decode cX25_goesOn 27 = .ok (.aload_n 0, 1) := dk_42 (dk_at dksX25_goesOn_1 5 rfl rfl)
theorem dX25_goesOn_28 : decode cX25_goesOn 28 = .ok (.getfield 32, 3) := dk_180 0 32 (dk_at dksX25_goesOn_1 6 rfl rfl)
theorem dX25_goesOn_31 : decode cX25_goesOn 31 = .ok (.aload_n 0, 1) := dk_42 (dk_at dksX25_goesOn_1 9 rfl rfl)
theorem dX25_goesOn_32 : decode cX25_goesOn 32 = .ok (.invokedynamic 57, 5) := by decide +kernel
theorem dX25_goesOn_37 : decode cX25_goesOn 37 = .ok (.invokevirtual 61, 3) := dk_182 0 61 (dk_at dksX25_goesOn_1 15 rfl rfl)
theorem dX25_goesOn_40 : decode cX25_goesOn 40 = .ok (.iload_n 2, 1) := dk_28 (dk_at dksX25_goesOn_1 18 rfl rfl)
theorem dX25_goesOn_41 : decode cX25_goesOn 41 = .ok (.aload_n 0, 1) := dk_42 (dk_at dksX25_goesOn_1 19 rfl rfl)
theorem dX25_goesOn_42 : decode cX25_goesOn 42 = .ok (.getfield 18, 3) := dk_180 0 18 (dk_at dksX25_goesOn_1 20 rfl rfl)
theorem dX25_goesOn_45 : decode cX25_goesOn 45 = .ok (.invokevirtual 54, 3) := dk_182 0 54 (dk_at dksX25_goesOn_2 0 rfl rfl)
theorem dX25_goesOn_48 : decode cX25_goesOn 48 = .ok (.iload 4, 2) := dk_21 4 (dk_at dksX25_goesOn_2 3 rfl rfl)
theorem dX25_goesOn_50 : decode cX25_goesOn 50 = .ok (.isub, 1) := dk_100 (dk_at dksX25_goesOn_2 5 rfl rfl)
theorem dX25_goesOn_51 : decode cX25_goesOn 51 = .ok (.isub, 1) := dk_100 (dk_at dksX25_goesOn_2 6 rfl rfl)
theorem dX25_goesOn_52 : decode cX25_goesOn 52 = .ok (.istore_n 2, 1) := dk_61 (dk_at dksX25_goesOn_2 7 rfl rfl)
theorem dX25_goesOn_53 : decode cX25_goesOn 53 = .ok (.iload_n 1, 1) := dk_27 (dk_at dksX25_goesOn_2 8 rfl rfl)
theorem dX25_goesOn_54 : decode cX25_goesOn 54 = .ok (.iconst (-1), 1) := dk_2 (dk_at dksX25_goesOn_2 9 rfl rfl)
theorem dX25_goesOn_55 : decode cX25_goesOn 55 = .ok (.if_icmp .eq 26, 3) := dk_159 0 26 (dk_at dksX25_goesOn_2 10 rfl rfl)
theorem dX25_goesOn_58 : decode cX25_goesOn 58 = .ok (.aload_n 0, 1) := dk_42 (dk_at dksX25_goesOn_2 13 rfl rfl)
theorem dX25_goesOn_59 : decode cX25_goesOn 59 = .ok (.getfield 32, 3) := dk_180 0 32 (dk_at dksX25_goesOn_2 14 rfl rfl)
theorem dX25_goesOn_62 : decode cX25_goesOn 62 = .ok (.getfield 38, 3) := dk_180 0 38 (dk_at dksX25_goesOn_2 17 rfl rfl)
theorem dX25_goesOn_65 : decode cX25_goesOn 65 = .ok (.iload_n 1, 1) := dk_27 (dk_at dksX25_goesOn_2 20 rfl rfl)
theorem dX25_goesOn_66 : decode cX25_goesOn 66 = .ok (.invokevirtual 65, 3) := dk_182 0 65 (dk_at dksX25_goesOn_2 21 rfl rfl)
theorem dX25_goesOn_69 : decode cX25_goesOn 69 = .ok (.checkcast 42, 3) := dk_192 0 42 (dk_at dksX25_goesOn_3 0 rfl rfl)
theorem dX25_goesOn_72 : decode cX25_goesOn 72 = .ok (.getfield 69, 3) := dk_180 0 69 (dk_at dksX25_goesOn_3 3 rfl rfl)
theorem dX25_goesOn_75 : decode cX25_goesOn 75 = .ok (.bipush (-2), 2) := dk_16 254 (dk_at dksX25_goesOn_3 6 rfl rfl)
theorem dX25_goesOn_77 : decode cX25_goesOn 77 = .ok (.if_icmp .eq 4, 3) := dk_159 0 4 (dk_at dksX25_goesOn_3 8 rfl rfl)
theorem dX25_goesOn_80 : decode cX25_goesOn 80 = .ok (.return_, 1) := dk_177 (dk_at dksX25_goesOn_3 11 rfl rfl)
theorem dX25_goesOn_81 : decode cX25_goesOn 81 = .ok (.iinc 3 1, 3) := dk_132 3 1 (dk_at dksX25_goesOn_3 12 rfl rfl)
theorem dX25_goesOn_84 : decode cX25_goesOn 84 = .ok (.goto (-77), 3) := dk_167 255 179 (dk_at dksX25_goesOn_3 15 rfl rfl)
theorem dX25_goesOn_87 : decode cX25_goesOn 87 = .ok (.return_, 1) := dk_177 (dk_at dksX25_goesOn_3 18 rfl rfl)
abbrev cX25_startOf : ByteArray := prog_13_method_5_code
def dkwX25_startOf_0 : List UInt8 := [42, 180, 0, 32, 180, 0, 38, 27, 182, 0, 65, 192, 0, 42, 180, 0, 69, 172]
abbrev dktX25_startOf_0 : List UInt8 := dkwX25_startOf_0 ++ []
theorem dksX25_startOf_0 : cX25_startOf.data.toList.drop 0 = dktX25_startOf_0 := by decide +kernel
theorem dX25_startOf_0 : decode cX25_startOf 0 = .ok (.aload_n 0, 1) := dk_42 (dk_at dksX25_startOf_0 0 rfl rfl)
theorem dX25_startOf_1 : decode cX25_startOf 1 = .ok (.getfield 32, 3) := dk_180 0 32 (dk_at dksX25_startOf_0 1 rfl rfl)
theorem dX25_startOf_4 : decode cX25_startOf 4 = .ok (.getfield 38, 3) := dk_180 0 38 (dk_at dksX25_startOf_0 4 rfl rfl)
theorem dX25_startOf_7 : decode cX25_startOf 7 = .ok (.iload_n 1, 1) := dk_27 (dk_at dksX25_startOf_0 7 rfl rfl)
theorem dX25_startOf_8 : decode cX25_startOf 8 = .ok (.invokevirtual 65, 3) := dk_182 0 65 (dk_at dksX25_startOf_0 8 rfl rfl)
theorem dX25_startOf_11 : decode cX25_startOf 11 = .ok (.checkcast 42, 3) := dk_192 0 42 (dk_at dksX25_startOf_0 11 rfl rfl)
theorem dX25_startOf_14 : decode cX25_startOf 14 = .ok (.getfield 69, 3) := dk_180 0 69 (dk_at dksX25_startOf_0 14 rfl rfl)
theorem dX25_startOf_17 : decode cX25_startOf 17 = .ok (.ireturn, 1) := dk_172 (dk_at dksX25_startOf_0 17 rfl rfl)
abbrev cX26_init : ByteArray := prog_22_method_1_code
def dkwX26_init_0 : List UInt8 := [42, 43, 181, 0, 1, 42, 183, 0, 7, 42, 44, 181, 0, 13, 42, 29, 181, 0, 17, 177]
abbrev dktX26_init_0 : List UInt8 := dkwX26_init_0 ++ []
theorem dksX26_init_0 : cX26_init.data.toList.drop 0 = dktX26_init_0 := by decide +kernel
theorem dX26_init_0 : decode cX26_init 0 = .ok (.aload_n 0, 1) := dk_42 (dk_at dksX26_init_0 0 rfl rfl)
theorem dX26_init_1 : decode cX26_init 1 = .ok (.aload_n 1, 1) := dk_43 (dk_at dksX26_init_0 1 rfl rfl)
theorem dX26_init_2 : decode cX26_init 2 = .ok (.putfield 1, 3) := dk_181 0 1 (dk_at dksX26_init_0 2 rfl rfl)
theorem dX26_init_5 : decode cX26_init 5 = .ok (.aload_n 0, 1) := dk_42 (dk_at dksX26_init_0 5 rfl rfl)
theorem dX26_init_6 : decode cX26_init 6 = .ok (.invokespecial 7, 3) := dk_183 0 7 (dk_at dksX26_init_0 6 rfl rfl)
theorem dX26_init_9 : decode cX26_init 9 = .ok (.aload_n 0, 1) := dk_42 (dk_at dksX26_init_0 9 rfl rfl)
theorem dX26_init_10 : decode cX26_init 10 = .ok (.aload_n 2, 1) := dk_44 (dk_at dksX26_init_0 10 rfl rfl)
theorem dX26_init_11 : decode cX26_init 11 = .ok (.putfield 13, 3) := dk_181 0 13 (dk_at dksX26_init_0 11 rfl rfl)
theorem dX26_init_14 : decode cX26_init 14 = .ok (.aload_n 0, 1) := dk_42 (dk_at dksX26_init_0 14 rfl rfl)
theorem dX26_init_15 : decode cX26_init 15 = .ok (.iload_n 3, 1) := dk_29 (dk_at dksX26_init_0 15 rfl rfl)
theorem dX26_init_16 : decode cX26_init 16 = .ok (.putfield 17, 3) := dk_181 0 17 (dk_at dksX26_init_0 16 rfl rfl)
theorem dX26_init_19 : decode cX26_init 19 = .ok (.return_, 1) := dk_177 (dk_at dksX26_init_0 19 rfl rfl)
abbrev cX0_lessOf : ByteArray := prog_1_method_42_code
def dkwX0_lessOf_2 : List UInt8 := [132, 3, 1, 167, 255, 217, 187, 0, 53, 89, 42, 180, 0, 174, 44, 183, 1, 130, 176]
abbrev dktX0_lessOf_2 : List UInt8 := dkwX0_lessOf_2 ++ []
def dkwX0_lessOf_1 : List UInt8 := [42, 180, 0, 186, 29, 50, 180, 0, 215, 42, 180, 0, 186, 29, 50, 27, 182, 0, 223, 183, 1, 142, 83]
abbrev dktX0_lessOf_1 : List UInt8 := dkwX0_lessOf_1 ++ dktX0_lessOf_2
def dkwX0_lessOf_0 : List UInt8 := [42, 180, 0, 186, 190, 189, 0, 216, 77, 3, 62, 29, 44, 190, 162, 0, 39, 44, 29, 187, 0, 216, 89, 29]
abbrev dktX0_lessOf_0 : List UInt8 := dkwX0_lessOf_0 ++ dktX0_lessOf_1
theorem dksX0_lessOf_0 : cX0_lessOf.data.toList.drop 0 = dktX0_lessOf_0 := by decide +kernel
theorem dksX0_lessOf_1 : cX0_lessOf.data.toList.drop 24 = dktX0_lessOf_1 := dk_seg dksX0_lessOf_0 24 rfl rfl
theorem dksX0_lessOf_2 : cX0_lessOf.data.toList.drop 47 = dktX0_lessOf_2 := dk_seg dksX0_lessOf_1 23 rfl rfl
theorem dX0_lessOf_0 : decode cX0_lessOf 0 = .ok (.aload_n 0, 1) := dk_42 (dk_at dksX0_lessOf_0 0 rfl rfl)
theorem dX0_lessOf_1 : decode cX0_lessOf 1 = .ok (.getfield 186, 3) := dk_180 0 186 (dk_at dksX0_lessOf_0 1 rfl rfl)
theorem dX0_lessOf_4 : decode cX0_lessOf 4 = .ok (.arraylength, 1) := dk_190 (dk_at dksX0_lessOf_0 4 rfl rfl)
theorem dX0_lessOf_5 : decode cX0_lessOf 5 = .ok (.anewarray 216, 3) := dk_189 0 216 (dk_at dksX0_lessOf_0 5 rfl rfl)
theorem dX0_lessOf_8 : decode cX0_lessOf 8 = .ok (.astore_n 2, 1) := dk_77 (dk_at dksX0_lessOf_0 8 rfl rfl)
theorem dX0_lessOf_9 : decode cX0_lessOf 9 = .ok (.iconst 0, 1) := dk_3 (dk_at dksX0_lessOf_0 9 rfl rfl)
theorem dX0_lessOf_10 : decode cX0_lessOf 10 = .ok (.istore_n 3, 1) := dk_62 (dk_at dksX0_lessOf_0 10 rfl rfl)
theorem dX0_lessOf_11 : decode cX0_lessOf 11 = .ok (.iload_n 3, 1) := dk_29 (dk_at dksX0_lessOf_0 11 rfl rfl)
theorem dX0_lessOf_12 : decode cX0_lessOf 12 = .ok (.aload_n 2, 1) := dk_44 (dk_at dksX0_lessOf_0 12 rfl rfl)
theorem dX0_lessOf_13 : decode cX0_lessOf 13 = .ok (.arraylength, 1) := dk_190 (dk_at dksX0_lessOf_0 13 rfl rfl)
theorem dX0_lessOf_14 : decode cX0_lessOf 14 = .ok (.if_icmp .ge 39, 3) := dk_162 0 39 (dk_at dksX0_lessOf_0 14 rfl rfl)
theorem dX0_lessOf_17 : decode cX0_lessOf 17 = .ok (.aload_n 2, 1) := dk_44 (dk_at dksX0_lessOf_0 17 rfl rfl)
theorem dX0_lessOf_18 : decode cX0_lessOf 18 = .ok (.iload_n 3, 1) := dk_29 (dk_at dksX0_lessOf_0 18 rfl rfl)
theorem dX0_lessOf_19 : decode cX0_lessOf 19 = .ok (.new 216, 3) := dk_187 0 216 (dk_at dksX0_lessOf_0 19 rfl rfl)
theorem dX0_lessOf_22 : decode cX0_lessOf 22 = .ok (.dup, 1) := dk_89 (dk_at dksX0_lessOf_0 22 rfl rfl)
theorem dX0_lessOf_23 : decode cX0_lessOf 23 = .ok (.iload_n 3, 1) := dk_29 (dk_at dksX0_lessOf_0 23 rfl rfl)
theorem dX0_lessOf_24 : decode cX0_lessOf 24 = .ok (.aload_n 0, 1) := dk_42 (dk_at dksX0_lessOf_1 0 rfl rfl)
theorem dX0_lessOf_25 : decode cX0_lessOf 25 = .ok (.getfield 186, 3) := dk_180 0 186 (dk_at dksX0_lessOf_1 1 rfl rfl)
theorem dX0_lessOf_28 : decode cX0_lessOf 28 = .ok (.iload_n 3, 1) := dk_29 (dk_at dksX0_lessOf_1 4 rfl rfl)
theorem dX0_lessOf_29 : decode cX0_lessOf 29 = .ok (.aaload, 1) := dk_50 (dk_at dksX0_lessOf_1 5 rfl rfl)
theorem dX0_lessOf_30 : decode cX0_lessOf 30 = .ok (.getfield 215, 3) := dk_180 0 215 (dk_at dksX0_lessOf_1 6 rfl rfl)
theorem dX0_lessOf_33 : decode cX0_lessOf 33 = .ok (.aload_n 0, 1) := dk_42 (dk_at dksX0_lessOf_1 9 rfl rfl)
theorem dX0_lessOf_34 : decode cX0_lessOf 34 = .ok (.getfield 186, 3) := dk_180 0 186 (dk_at dksX0_lessOf_1 10 rfl rfl)
theorem dX0_lessOf_37 : decode cX0_lessOf 37 = .ok (.iload_n 3, 1) := dk_29 (dk_at dksX0_lessOf_1 13 rfl rfl)
theorem dX0_lessOf_38 : decode cX0_lessOf 38 = .ok (.aaload, 1) := dk_50 (dk_at dksX0_lessOf_1 14 rfl rfl)
theorem dX0_lessOf_39 : decode cX0_lessOf 39 = .ok (.iload_n 1, 1) := dk_27 (dk_at dksX0_lessOf_1 15 rfl rfl)
theorem dX0_lessOf_40 : decode cX0_lessOf 40 = .ok (.invokevirtual 223, 3) := dk_182 0 223 (dk_at dksX0_lessOf_1 16 rfl rfl)
theorem dX0_lessOf_43 : decode cX0_lessOf 43 = .ok (.invokespecial 398, 3) := dk_183 1 142 (dk_at dksX0_lessOf_1 19 rfl rfl)
theorem dX0_lessOf_46 : decode cX0_lessOf 46 = .ok (.aastore, 1) := dk_83 (dk_at dksX0_lessOf_1 22 rfl rfl)
theorem dX0_lessOf_47 : decode cX0_lessOf 47 = .ok (.iinc 3 1, 3) := dk_132 3 1 (dk_at dksX0_lessOf_2 0 rfl rfl)
theorem dX0_lessOf_50 : decode cX0_lessOf 50 = .ok (.goto (-39), 3) := dk_167 255 217 (dk_at dksX0_lessOf_2 3 rfl rfl)
theorem dX0_lessOf_53 : decode cX0_lessOf 53 = .ok (.new 53, 3) := dk_187 0 53 (dk_at dksX0_lessOf_2 6 rfl rfl)
theorem dX0_lessOf_56 : decode cX0_lessOf 56 = .ok (.dup, 1) := dk_89 (dk_at dksX0_lessOf_2 9 rfl rfl)
theorem dX0_lessOf_57 : decode cX0_lessOf 57 = .ok (.aload_n 0, 1) := dk_42 (dk_at dksX0_lessOf_2 10 rfl rfl)
theorem dX0_lessOf_58 : decode cX0_lessOf 58 = .ok (.getfield 174, 3) := dk_180 0 174 (dk_at dksX0_lessOf_2 11 rfl rfl)
theorem dX0_lessOf_61 : decode cX0_lessOf 61 = .ok (.aload_n 2, 1) := dk_44 (dk_at dksX0_lessOf_2 14 rfl rfl)
theorem dX0_lessOf_62 : decode cX0_lessOf 62 = .ok (.invokespecial 386, 3) := dk_183 1 130 (dk_at dksX0_lessOf_2 15 rfl rfl)
theorem dX0_lessOf_65 : decode cX0_lessOf 65 = .ok (.areturn, 1) := dk_176 (dk_at dksX0_lessOf_2 18 rfl rfl)
abbrev cX1_fits_2 : ByteArray := prog_8_method_16_code
def dkwX1_fits_2_0 : List UInt8 := [42, 182, 1, 42, 42, 43, 28, 45, 182, 1, 45, 172]
abbrev dktX1_fits_2_0 : List UInt8 := dkwX1_fits_2_0 ++ []
theorem dksX1_fits_2_0 : cX1_fits_2.data.toList.drop 0 = dktX1_fits_2_0 := by decide +kernel
theorem dX1_fits_2_0 : decode cX1_fits_2 0 = .ok (.aload_n 0, 1) := dk_42 (dk_at dksX1_fits_2_0 0 rfl rfl)
theorem dX1_fits_2_1 : decode cX1_fits_2 1 = .ok (.invokevirtual 298, 3) := dk_182 1 42 (dk_at dksX1_fits_2_0 1 rfl rfl)
theorem dX1_fits_2_4 : decode cX1_fits_2 4 = .ok (.aload_n 0, 1) := dk_42 (dk_at dksX1_fits_2_0 4 rfl rfl)
theorem dX1_fits_2_5 : decode cX1_fits_2 5 = .ok (.aload_n 1, 1) := dk_43 (dk_at dksX1_fits_2_0 5 rfl rfl)
theorem dX1_fits_2_6 : decode cX1_fits_2 6 = .ok (.iload_n 2, 1) := dk_28 (dk_at dksX1_fits_2_0 6 rfl rfl)
theorem dX1_fits_2_7 : decode cX1_fits_2 7 = .ok (.aload_n 3, 1) := dk_45 (dk_at dksX1_fits_2_0 7 rfl rfl)
theorem dX1_fits_2_8 : decode cX1_fits_2 8 = .ok (.invokevirtual 301, 3) := dk_182 1 45 (dk_at dksX1_fits_2_0 8 rfl rfl)
theorem dX1_fits_2_11 : decode cX1_fits_2 11 = .ok (.ireturn, 1) := dk_172 (dk_at dksX1_fits_2_0 11 rfl rfl)
abbrev cX27_init : ByteArray := prog_21_method_1_code
def dkwX27_init_1 : List UInt8 := [181, 0, 22, 42, 187, 0, 26, 89, 43, 44, 43, 180, 0, 28, 180, 0, 32, 183, 0, 38, 181, 0, 41, 177]
abbrev dktX27_init_1 : List UInt8 := dkwX27_init_1 ++ []
def dkwX27_init_0 : List UInt8 := [42, 43, 181, 0, 3, 42, 183, 0, 9, 42, 187, 0, 15, 89, 183, 0, 17, 181, 0, 18, 42, 44]
abbrev dktX27_init_0 : List UInt8 := dkwX27_init_0 ++ dktX27_init_1
theorem dksX27_init_0 : cX27_init.data.toList.drop 0 = dktX27_init_0 := by decide +kernel
theorem dksX27_init_1 : cX27_init.data.toList.drop 22 = dktX27_init_1 := dk_seg dksX27_init_0 22 rfl rfl
theorem dX27_init_0 : decode cX27_init 0 = .ok (.aload_n 0, 1) := dk_42 (dk_at dksX27_init_0 0 rfl rfl)
theorem dX27_init_1 : decode cX27_init 1 = .ok (.aload_n 1, 1) := dk_43 (dk_at dksX27_init_0 1 rfl rfl)
theorem dX27_init_2 : decode cX27_init 2 = .ok (.putfield 3, 3) := dk_181 0 3 (dk_at dksX27_init_0 2 rfl rfl)
theorem dX27_init_5 : decode cX27_init 5 = .ok (.aload_n 0, 1) := dk_42 (dk_at dksX27_init_0 5 rfl rfl)
theorem dX27_init_6 : decode cX27_init 6 = .ok (.invokespecial 9, 3) := dk_183 0 9 (dk_at dksX27_init_0 6 rfl rfl)
theorem dX27_init_9 : decode cX27_init 9 = .ok (.aload_n 0, 1) := dk_42 (dk_at dksX27_init_0 9 rfl rfl)
theorem dX27_init_10 : decode cX27_init 10 = .ok (.new 15, 3) := dk_187 0 15 (dk_at dksX27_init_0 10 rfl rfl)
theorem dX27_init_13 : decode cX27_init 13 = .ok (.dup, 1) := dk_89 (dk_at dksX27_init_0 13 rfl rfl)
theorem dX27_init_14 : decode cX27_init 14 = .ok (.invokespecial 17, 3) := dk_183 0 17 (dk_at dksX27_init_0 14 rfl rfl)
theorem dX27_init_17 : decode cX27_init 17 = .ok (.putfield 18, 3) := dk_181 0 18 (dk_at dksX27_init_0 17 rfl rfl)
theorem dX27_init_20 : decode cX27_init 20 = .ok (.aload_n 0, 1) := dk_42 (dk_at dksX27_init_0 20 rfl rfl)
theorem dX27_init_21 : decode cX27_init 21 = .ok (.aload_n 2, 1) := dk_44 (dk_at dksX27_init_0 21 rfl rfl)
theorem dX27_init_22 : decode cX27_init 22 = .ok (.putfield 22, 3) := dk_181 0 22 (dk_at dksX27_init_1 0 rfl rfl)
theorem dX27_init_25 : decode cX27_init 25 = .ok (.aload_n 0, 1) := dk_42 (dk_at dksX27_init_1 3 rfl rfl)
theorem dX27_init_26 : decode cX27_init 26 = .ok (.new 26, 3) := dk_187 0 26 (dk_at dksX27_init_1 4 rfl rfl)
theorem dX27_init_29 : decode cX27_init 29 = .ok (.dup, 1) := dk_89 (dk_at dksX27_init_1 7 rfl rfl)
theorem dX27_init_30 : decode cX27_init 30 = .ok (.aload_n 1, 1) := dk_43 (dk_at dksX27_init_1 8 rfl rfl)
theorem dX27_init_31 : decode cX27_init 31 = .ok (.aload_n 2, 1) := dk_44 (dk_at dksX27_init_1 9 rfl rfl)
theorem dX27_init_32 : decode cX27_init 32 = .ok (.aload_n 1, 1) := dk_43 (dk_at dksX27_init_1 10 rfl rfl)
theorem dX27_init_33 : decode cX27_init 33 = .ok (.getfield 28, 3) := dk_180 0 28 (dk_at dksX27_init_1 11 rfl rfl)
theorem dX27_init_36 : decode cX27_init 36 = .ok (.getfield 32, 3) := dk_180 0 32 (dk_at dksX27_init_1 14 rfl rfl)
theorem dX27_init_39 : decode cX27_init 39 = .ok (.invokespecial 38, 3) := dk_183 0 38 (dk_at dksX27_init_1 17 rfl rfl)
theorem dX27_init_42 : decode cX27_init 42 = .ok (.putfield 41, 3) := dk_181 0 41 (dk_at dksX27_init_1 20 rfl rfl)
theorem dX27_init_45 : decode cX27_init 45 = .ok (.return_, 1) := dk_177 (dk_at dksX27_init_1 23 rfl rfl)
abbrev cX27_does : ByteArray := prog_21_method_6_code
def dkwX27_does_3 : List UInt8 := [21, 5, 153, 0, 5, 4, 172, 132, 4, 1, 167, 255, 189, 3, 172]
abbrev dktX27_does_3 : List UInt8 := dkwX27_does_3 ++ []
def dkwX27_does_2 : List UInt8 := [100, 182, 0, 167, 54, 5, 42, 180, 0, 18, 42, 180, 0, 18, 182, 0, 156, 4, 100, 182, 0, 170, 87]
abbrev dktX27_does_2 : List UInt8 := dkwX27_does_2 ++ dktX27_does_3
def dkwX27_does_1 : List UInt8 := [180, 0, 18, 43, 21, 4, 182, 0, 159, 192, 0, 59, 182, 0, 163, 87, 42, 43, 21, 4, 4, 96, 29, 4]
abbrev dktX27_does_1 : List UInt8 := dkwX27_does_1 ++ dktX27_does_2
def dkwX27_does_0 : List UInt8 := [29, 154, 0, 8, 42, 182, 0, 153, 172, 28, 54, 4, 21, 4, 43, 182, 0, 156, 162, 0, 64, 42]
abbrev dktX27_does_0 : List UInt8 := dkwX27_does_0 ++ dktX27_does_1
theorem dksX27_does_0 : cX27_does.data.toList.drop 0 = dktX27_does_0 := by decide +kernel
theorem dksX27_does_1 : cX27_does.data.toList.drop 22 = dktX27_does_1 := dk_seg dksX27_does_0 22 rfl rfl
theorem dksX27_does_2 : cX27_does.data.toList.drop 46 = dktX27_does_2 := dk_seg dksX27_does_1 24 rfl rfl
theorem dksX27_does_3 : cX27_does.data.toList.drop 69 = dktX27_does_3 := dk_seg dksX27_does_2 23 rfl rfl
theorem dX27_does_0 : decode cX27_does 0 = .ok (.iload_n 3, 1) := dk_29 (dk_at dksX27_does_0 0 rfl rfl)
theorem dX27_does_1 : decode cX27_does 1 = .ok (.ifCond .ne 8, 3) := dk_154 0 8 (dk_at dksX27_does_0 1 rfl rfl)
theorem dX27_does_4 : decode cX27_does 4 = .ok (.aload_n 0, 1) := dk_42 (dk_at dksX27_does_0 4 rfl rfl)
theorem dX27_does_5 : decode cX27_does 5 = .ok (.invokevirtual 153, 3) := dk_182 0 153 (dk_at dksX27_does_0 5 rfl rfl)
theorem dX27_does_8 : decode cX27_does 8 = .ok (.ireturn, 1) := dk_172 (dk_at dksX27_does_0 8 rfl rfl)
theorem dX27_does_9 : decode cX27_does 9 = .ok (.iload_n 2, 1) := dk_28 (dk_at dksX27_does_0 9 rfl rfl)
theorem dX27_does_10 : decode cX27_does 10 = .ok (.istore 4, 2) := dk_54 4 (dk_at dksX27_does_0 10 rfl rfl)
theorem dX27_does_12 : decode cX27_does 12 = .ok (.iload 4, 2) := dk_21 4 (dk_at dksX27_does_0 12 rfl rfl)
theorem dX27_does_14 : decode cX27_does 14 = .ok (.aload_n 1, 1) := dk_43 (dk_at dksX27_does_0 14 rfl rfl)
theorem dX27_does_15 : decode cX27_does 15 = .ok (.invokevirtual 156, 3) := dk_182 0 156 (dk_at dksX27_does_0 15 rfl rfl)
theorem dX27_does_18 : decode cX27_does 18 = .ok (.if_icmp .ge 64, 3) := dk_162 0 64 (dk_at dksX27_does_0 18 rfl rfl)
theorem dX27_does_21 : decode cX27_does 21 = .ok (.aload_n 0, 1) := dk_42 (dk_at dksX27_does_0 21 rfl rfl)
theorem dX27_does_22 : decode cX27_does 22 = .ok (.getfield 18, 3) := dk_180 0 18 (dk_at dksX27_does_1 0 rfl rfl)
theorem dX27_does_25 : decode cX27_does 25 = .ok (.aload_n 1, 1) := dk_43 (dk_at dksX27_does_1 3 rfl rfl)
theorem dX27_does_26 : decode cX27_does 26 = .ok (.iload 4, 2) := dk_21 4 (dk_at dksX27_does_1 4 rfl rfl)
theorem dX27_does_28 : decode cX27_does 28 = .ok (.invokevirtual 159, 3) := dk_182 0 159 (dk_at dksX27_does_1 6 rfl rfl)
theorem dX27_does_31 : decode cX27_does 31 = .ok (.checkcast 59, 3) := dk_192 0 59 (dk_at dksX27_does_1 9 rfl rfl)
theorem dX27_does_34 : decode cX27_does 34 = .ok (.invokevirtual 163, 3) := dk_182 0 163 (dk_at dksX27_does_1 12 rfl rfl)
theorem dX27_does_37 : decode cX27_does 37 = .ok (.pop, 1) := dk_87 (dk_at dksX27_does_1 15 rfl rfl)
theorem dX27_does_38 : decode cX27_does 38 = .ok (.aload_n 0, 1) := dk_42 (dk_at dksX27_does_1 16 rfl rfl)
theorem dX27_does_39 : decode cX27_does 39 = .ok (.aload_n 1, 1) := dk_43 (dk_at dksX27_does_1 17 rfl rfl)
theorem dX27_does_40 : decode cX27_does 40 = .ok (.iload 4, 2) := dk_21 4 (dk_at dksX27_does_1 18 rfl rfl)
theorem dX27_does_42 : decode cX27_does 42 = .ok (.iconst 1, 1) := dk_4 (dk_at dksX27_does_1 20 rfl rfl)
theorem dX27_does_43 : decode cX27_does 43 = .ok (.iadd, 1) := dk_96 (dk_at dksX27_does_1 21 rfl rfl)
theorem dX27_does_44 : decode cX27_does 44 = .ok (.iload_n 3, 1) := dk_29 (dk_at dksX27_does_1 22 rfl rfl)
theorem dX27_does_45 : decode cX27_does 45 = .ok (.iconst 1, 1) := dk_4 (dk_at dksX27_does_1 23 rfl rfl)
theorem dX27_does_46 : decode cX27_does 46 = .ok (.isub, 1) := dk_100 (dk_at dksX27_does_2 0 rfl rfl)
theorem dX27_does_47 : decode cX27_does 47 = .ok (.invokevirtual 167, 3) := dk_182 0 167 (dk_at dksX27_does_2 1 rfl rfl)
theorem dX27_does_50 : decode cX27_does 50 = .ok (.istore 5, 2) := dk_54 5 (dk_at dksX27_does_2 4 rfl rfl)
theorem dX27_does_52 : decode cX27_does 52 = .ok (.aload_n 0, 1) := dk_42 (dk_at dksX27_does_2 6 rfl rfl)
theorem dX27_does_53 : decode cX27_does 53 = .ok (.getfield 18, 3) := dk_180 0 18 (dk_at dksX27_does_2 7 rfl rfl)
theorem dX27_does_56 : decode cX27_does 56 = .ok (.aload_n 0, 1) := dk_42 (dk_at dksX27_does_2 10 rfl rfl)
theorem dX27_does_57 : decode cX27_does 57 = .ok (.getfield 18, 3) := dk_180 0 18 (dk_at dksX27_does_2 11 rfl rfl)
theorem dX27_does_60 : decode cX27_does 60 = .ok (.invokevirtual 156, 3) := dk_182 0 156 (dk_at dksX27_does_2 14 rfl rfl)
theorem dX27_does_63 : decode cX27_does 63 = .ok (.iconst 1, 1) := dk_4 (dk_at dksX27_does_2 17 rfl rfl)
theorem dX27_does_64 : decode cX27_does 64 = .ok (.isub, 1) := dk_100 (dk_at dksX27_does_2 18 rfl rfl)
theorem dX27_does_65 : decode cX27_does 65 = .ok (.invokevirtual 170, 3) := dk_182 0 170 (dk_at dksX27_does_2 19 rfl rfl)
theorem dX27_does_68 : decode cX27_does 68 = .ok (.pop, 1) := dk_87 (dk_at dksX27_does_2 22 rfl rfl)
theorem dX27_does_69 : decode cX27_does 69 = .ok (.iload 5, 2) := dk_21 5 (dk_at dksX27_does_3 0 rfl rfl)
theorem dX27_does_71 : decode cX27_does 71 = .ok (.ifCond .eq 5, 3) := dk_153 0 5 (dk_at dksX27_does_3 2 rfl rfl)
theorem dX27_does_74 : decode cX27_does 74 = .ok (.iconst 1, 1) := dk_4 (dk_at dksX27_does_3 5 rfl rfl)
theorem dX27_does_75 : decode cX27_does 75 = .ok (.ireturn, 1) := dk_172 (dk_at dksX27_does_3 6 rfl rfl)
theorem dX27_does_76 : decode cX27_does 76 = .ok (.iinc 4 1, 3) := dk_132 4 1 (dk_at dksX27_does_3 7 rfl rfl)
theorem dX27_does_79 : decode cX27_does 79 = .ok (.goto (-67), 3) := dk_167 255 189 (dk_at dksX27_does_3 10 rfl rfl)
theorem dX27_does_82 : decode cX27_does 82 = .ok (.iconst 0, 1) := dk_3 (dk_at dksX27_does_3 13 rfl rfl)
theorem dX27_does_83 : decode cX27_does 83 = .ok (.ireturn, 1) := dk_172 (dk_at dksX27_does_3 14 rfl rfl)
abbrev cX0_areTogether : ByteArray := prog_1_method_45_code
def dkwX0_areTogether_2 : List UInt8 := [44, 45, 25, 4, 186, 1, 182, 0, 0, 182, 1, 183, 172]
abbrev dktX0_areTogether_2 : List UInt8 := dkwX0_areTogether_2 ++ []
def dkwX0_areTogether_1 : List UInt8 := [180, 0, 16, 180, 0, 147, 183, 1, 147, 58, 4, 42, 180, 0, 16, 43, 25, 4, 45, 186, 1, 179, 0, 0]
abbrev dktX0_areTogether_1 : List UInt8 := dkwX0_areTogether_1 ++ dktX0_areTogether_2
def dkwX0_areTogether_0 : List UInt8 := [187, 1, 145, 89, 42, 43, 42, 180, 0, 16, 180, 0, 147, 183, 1, 147, 78, 187, 1, 145, 89, 42, 44, 42]
abbrev dktX0_areTogether_0 : List UInt8 := dkwX0_areTogether_0 ++ dktX0_areTogether_1
theorem dksX0_areTogether_0 : cX0_areTogether.data.toList.drop 0 = dktX0_areTogether_0 := by decide +kernel
theorem dksX0_areTogether_1 : cX0_areTogether.data.toList.drop 24 = dktX0_areTogether_1 := dk_seg dksX0_areTogether_0 24 rfl rfl
theorem dksX0_areTogether_2 : cX0_areTogether.data.toList.drop 48 = dktX0_areTogether_2 := dk_seg dksX0_areTogether_1 24 rfl rfl
theorem dX0_areTogether_0 : decode cX0_areTogether 0 = .ok (.new 401, 3) := dk_187 1 145 (dk_at dksX0_areTogether_0 0 rfl rfl)
theorem dX0_areTogether_3 : decode cX0_areTogether 3 = .ok (.dup, 1) := dk_89 (dk_at dksX0_areTogether_0 3 rfl rfl)
theorem dX0_areTogether_4 : decode cX0_areTogether 4 = .ok (.aload_n 0, 1) := dk_42 (dk_at dksX0_areTogether_0 4 rfl rfl)
theorem dX0_areTogether_5 : decode cX0_areTogether 5 = .ok (.aload_n 1, 1) := dk_43 (dk_at dksX0_areTogether_0 5 rfl rfl)
theorem dX0_areTogether_6 : decode cX0_areTogether 6 = .ok (.aload_n 0, 1) := dk_42 (dk_at dksX0_areTogether_0 6 rfl rfl)
theorem dX0_areTogether_7 : decode cX0_areTogether 7 = .ok (.getfield 16, 3) := dk_180 0 16 (dk_at dksX0_areTogether_0 7 rfl rfl)
theorem dX0_areTogether_10 : decode cX0_areTogether 10 = .ok (.getfield 147, 3) := dk_180 0 147 (dk_at dksX0_areTogether_0 10 rfl rfl)
theorem dX0_areTogether_13 : decode cX0_areTogether 13 = .ok (.invokespecial 403, 3) := dk_183 1 147 (dk_at dksX0_areTogether_0 13 rfl rfl)
theorem dX0_areTogether_16 : decode cX0_areTogether 16 = .ok (.astore_n 3, 1) := dk_78 (dk_at dksX0_areTogether_0 16 rfl rfl)
theorem dX0_areTogether_17 : decode cX0_areTogether 17 = .ok (.new 401, 3) := dk_187 1 145 (dk_at dksX0_areTogether_0 17 rfl rfl)
theorem dX0_areTogether_20 : decode cX0_areTogether 20 = .ok (.dup, 1) := dk_89 (dk_at dksX0_areTogether_0 20 rfl rfl)
theorem dX0_areTogether_21 : decode cX0_areTogether 21 = .ok (.aload_n 0, 1) := dk_42 (dk_at dksX0_areTogether_0 21 rfl rfl)
theorem dX0_areTogether_22 : decode cX0_areTogether 22 = .ok (.aload_n 2, 1) := dk_44 (dk_at dksX0_areTogether_0 22 rfl rfl)
theorem dX0_areTogether_23 : decode cX0_areTogether 23 = .ok (.aload_n 0, 1) := dk_42 (dk_at dksX0_areTogether_0 23 rfl rfl)
theorem dX0_areTogether_24 : decode cX0_areTogether 24 = .ok (.getfield 16, 3) := dk_180 0 16 (dk_at dksX0_areTogether_1 0 rfl rfl)
theorem dX0_areTogether_27 : decode cX0_areTogether 27 = .ok (.getfield 147, 3) := dk_180 0 147 (dk_at dksX0_areTogether_1 3 rfl rfl)
theorem dX0_areTogether_30 : decode cX0_areTogether 30 = .ok (.invokespecial 403, 3) := dk_183 1 147 (dk_at dksX0_areTogether_1 6 rfl rfl)
theorem dX0_areTogether_33 : decode cX0_areTogether 33 = .ok (.astore 4, 2) := dk_58 4 (dk_at dksX0_areTogether_1 9 rfl rfl)
theorem dX0_areTogether_35 : decode cX0_areTogether 35 = .ok (.aload_n 0, 1) := dk_42 (dk_at dksX0_areTogether_1 11 rfl rfl)
theorem dX0_areTogether_36 : decode cX0_areTogether 36 = .ok (.getfield 16, 3) := dk_180 0 16 (dk_at dksX0_areTogether_1 12 rfl rfl)
theorem dX0_areTogether_39 : decode cX0_areTogether 39 = .ok (.aload_n 1, 1) := dk_43 (dk_at dksX0_areTogether_1 15 rfl rfl)
theorem dX0_areTogether_40 : decode cX0_areTogether 40 = .ok (.aload 4, 2) := dk_25 4 (dk_at dksX0_areTogether_1 16 rfl rfl)
theorem dX0_areTogether_42 : decode cX0_areTogether 42 = .ok (.aload_n 3, 1) := dk_45 (dk_at dksX0_areTogether_1 18 rfl rfl)
theorem dX0_areTogether_43 : decode cX0_areTogether 43 = .ok (.invokedynamic 435, 5) := by decide +kernel
theorem dX0_areTogether_48 : decode cX0_areTogether 48 = .ok (.aload_n 2, 1) := dk_44 (dk_at dksX0_areTogether_2 0 rfl rfl)
theorem dX0_areTogether_49 : decode cX0_areTogether 49 = .ok (.aload_n 3, 1) := dk_45 (dk_at dksX0_areTogether_2 1 rfl rfl)
theorem dX0_areTogether_50 : decode cX0_areTogether 50 = .ok (.aload 4, 2) := dk_25 4 (dk_at dksX0_areTogether_2 2 rfl rfl)
theorem dX0_areTogether_52 : decode cX0_areTogether 52 = .ok (.invokedynamic 438, 5) := by decide +kernel
theorem dX0_areTogether_57 : decode cX0_areTogether 57 = .ok (.invokevirtual 439, 3) := dk_182 1 183 (dk_at dksX0_areTogether_2 9 rfl rfl)
theorem dX0_areTogether_60 : decode cX0_areTogether 60 = .ok (.ireturn, 1) := dk_172 (dk_at dksX0_areTogether_2 12 rfl rfl)
abbrev cX26_from : ByteArray := prog_22_method_2_code
def dkwX26_from_4 : List UInt8 := [87, 42, 43, 182, 0, 59, 43, 43, 182, 0, 21, 4, 100, 182, 0, 63, 87, 132, 4, 1, 167, 255, 209, 177]
abbrev dktX26_from_4 : List UInt8 := dkwX26_from_4 ++ []
def dkwX26_from_3 : List UInt8 := [162, 0, 47, 44, 21, 4, 50, 58, 5, 43, 25, 5, 182, 0, 52, 154, 0, 26, 43, 25, 5, 182, 0, 56]
abbrev dktX26_from_3 : List UInt8 := dkwX26_from_3 ++ dktX26_from_4
def dkwX26_from_2 : List UInt8 := [3, 96, 181, 0, 33, 177, 42, 180, 0, 13, 180, 0, 27, 77, 44, 190, 62, 3, 54, 4, 21, 4, 29]
abbrev dktX26_from_2 : List UInt8 := dkwX26_from_2 ++ dktX26_from_3
def dkwX26_from_1 : List UInt8 := [180, 0, 36, 43, 42, 180, 0, 17, 42, 186, 0, 42, 0, 0, 182, 0, 46, 153, 0, 7, 4, 167, 0, 4]
abbrev dktX26_from_1 : List UInt8 := dkwX26_from_1 ++ dktX26_from_2
def dkwX26_from_0 : List UInt8 := [43, 182, 0, 21, 42, 180, 0, 13, 180, 0, 27, 190, 160, 0, 42, 42, 89, 180, 0, 33, 42, 180, 0, 1]
abbrev dktX26_from_0 : List UInt8 := dkwX26_from_0 ++ dktX26_from_1
theorem dksX26_from_0 : cX26_from.data.toList.drop 0 = dktX26_from_0 := by decide +kernel
theorem dksX26_from_1 : cX26_from.data.toList.drop 24 = dktX26_from_1 := dk_seg dksX26_from_0 24 rfl rfl
theorem dksX26_from_2 : cX26_from.data.toList.drop 48 = dktX26_from_2 := dk_seg dksX26_from_1 24 rfl rfl
theorem dksX26_from_3 : cX26_from.data.toList.drop 71 = dktX26_from_3 := dk_seg dksX26_from_2 23 rfl rfl
theorem dksX26_from_4 : cX26_from.data.toList.drop 95 = dktX26_from_4 := dk_seg dksX26_from_3 24 rfl rfl
theorem dX26_from_0 : decode cX26_from 0 = .ok (.aload_n 1, 1) := dk_43 (dk_at dksX26_from_0 0 rfl rfl)
theorem dX26_from_1 : decode cX26_from 1 = .ok (.invokevirtual 21, 3) := dk_182 0 21 (dk_at dksX26_from_0 1 rfl rfl)
theorem dX26_from_4 : decode cX26_from 4 = .ok (.aload_n 0, 1) := dk_42 (dk_at dksX26_from_0 4 rfl rfl)
theorem dX26_from_5 : decode cX26_from 5 = .ok (.getfield 13, 3) := dk_180 0 13 (dk_at dksX26_from_0 5 rfl rfl)
theorem dX26_from_8 : decode cX26_from 8 = .ok (.getfield 27, 3) := dk_180 0 27 (dk_at dksX26_from_0 8 rfl rfl)
theorem dX26_from_11 : decode cX26_from 11 = .ok (.arraylength, 1) := dk_190 (dk_at dksX26_from_0 11 rfl rfl)
theorem dX26_from_12 : decode cX26_from 12 = .ok (.if_icmp .ne 42, 3) := dk_160 0 42 (dk_at dksX26_from_0 12 rfl rfl)
theorem dX26_from_15 : decode cX26_from 15 = .ok (.aload_n 0, 1) := dk_42 (dk_at dksX26_from_0 15 rfl rfl)
theorem dX26_from_16 : decode cX26_from 16 = .ok (.dup, 1) := dk_89 (dk_at dksX26_from_0 16 rfl rfl)
theorem dX26_from_17 : decode cX26_from 17 = .ok (.getfield 33, 3) := dk_180 0 33 (dk_at dksX26_from_0 17 rfl rfl)
theorem dX26_from_20 : decode cX26_from 20 = .ok (.aload_n 0, 1) := dk_42 (dk_at dksX26_from_0 20 rfl rfl)
theorem dX26_from_21 : decode cX26_from 21 = .ok (.getfield 1, 3) := dk_180 0 1 (dk_at dksX26_from_0 21 rfl rfl)
theorem dX26_from_24 : decode cX26_from 24 = .ok (.getfield 36, 3) := dk_180 0 36 (dk_at dksX26_from_1 0 rfl rfl)
theorem dX26_from_27 : decode cX26_from 27 = .ok (.aload_n 1, 1) := dk_43 (dk_at dksX26_from_1 3 rfl rfl)
theorem dX26_from_28 : decode cX26_from 28 = .ok (.aload_n 0, 1) := dk_42 (dk_at dksX26_from_1 4 rfl rfl)
theorem dX26_from_29 : decode cX26_from 29 = .ok (.getfield 17, 3) := dk_180 0 17 (dk_at dksX26_from_1 5 rfl rfl)
theorem dX26_from_32 : decode cX26_from 32 = .ok (.aload_n 0, 1) := dk_42 (dk_at dksX26_from_1 8 rfl rfl)
theorem dX26_from_33 : decode cX26_from 33 = .ok (.invokedynamic 42, 5) := by decide +kernel
theorem dX26_from_38 : decode cX26_from 38 = .ok (.invokevirtual 46, 3) := dk_182 0 46 (dk_at dksX26_from_1 14 rfl rfl)
theorem dX26_from_41 : decode cX26_from 41 = .ok (.ifCond .eq 7, 3) := dk_153 0 7 (dk_at dksX26_from_1 17 rfl rfl)
theorem dX26_from_44 : decode cX26_from 44 = .ok (.iconst 1, 1) := dk_4 (dk_at dksX26_from_1 20 rfl rfl)
theorem dX26_from_45 : decode cX26_from 45 = .ok (.goto 4, 3) := dk_167 0 4 (dk_at dksX26_from_1 21 rfl rfl)
theorem dX26_from_48 : decode cX26_from 48 = .ok (.iconst 0, 1) := dk_3 (dk_at dksX26_from_2 0 rfl rfl)
theorem dX26_from_49 : decode cX26_from 49 = .ok (.iadd, 1) := dk_96 (dk_at dksX26_from_2 1 rfl rfl)
theorem dX26_from_50 : decode cX26_from 50 = .ok (.putfield 33, 3) := dk_181 0 33 (dk_at dksX26_from_2 2 rfl rfl)
theorem dX26_from_53 : decode cX26_from 53 = .ok (.return_, 1) := dk_177 (dk_at dksX26_from_2 5 rfl rfl)
theorem dX26_from_54 : decode cX26_from 54 = .ok (.aload_n 0, 1) := dk_42 (dk_at dksX26_from_2 6 rfl rfl)
theorem dX26_from_55 : decode cX26_from 55 = .ok (.getfield 13, 3) := dk_180 0 13 (dk_at dksX26_from_2 7 rfl rfl)
theorem dX26_from_58 : decode cX26_from 58 = .ok (.getfield 27, 3) := dk_180 0 27 (dk_at dksX26_from_2 10 rfl rfl)
theorem dX26_from_61 : decode cX26_from 61 = .ok (.astore_n 2, 1) := dk_77 (dk_at dksX26_from_2 13 rfl rfl)
theorem dX26_from_62 : decode cX26_from 62 = .ok (.aload_n 2, 1) := dk_44 (dk_at dksX26_from_2 14 rfl rfl)
theorem dX26_from_63 : decode cX26_from 63 = .ok (.arraylength, 1) := dk_190 (dk_at dksX26_from_2 15 rfl rfl)
theorem dX26_from_64 : decode cX26_from 64 = .ok (.istore_n 3, 1) := dk_62 (dk_at dksX26_from_2 16 rfl rfl)
theorem dX26_from_65 : decode cX26_from 65 = .ok (.iconst 0, 1) := dk_3 (dk_at dksX26_from_2 17 rfl rfl)
theorem dX26_from_66 : decode cX26_from 66 = .ok (.istore 4, 2) := dk_54 4 (dk_at dksX26_from_2 18 rfl rfl)
theorem dX26_from_68 : decode cX26_from 68 = .ok (.iload 4, 2) := dk_21 4 (dk_at dksX26_from_2 20 rfl rfl)
theorem dX26_from_70 : decode cX26_from 70 = .ok (.iload_n 3, 1) := dk_29 (dk_at dksX26_from_2 22 rfl rfl)
theorem dX26_from_71 : decode cX26_from 71 = .ok (.if_icmp .ge 47, 3) := dk_162 0 47 (dk_at dksX26_from_3 0 rfl rfl)
theorem dX26_from_74 : decode cX26_from 74 = .ok (.aload_n 2, 1) := dk_44 (dk_at dksX26_from_3 3 rfl rfl)
theorem dX26_from_75 : decode cX26_from 75 = .ok (.iload 4, 2) := dk_21 4 (dk_at dksX26_from_3 4 rfl rfl)
theorem dX26_from_77 : decode cX26_from 77 = .ok (.aaload, 1) := dk_50 (dk_at dksX26_from_3 6 rfl rfl)
theorem dX26_from_78 : decode cX26_from 78 = .ok (.astore 5, 2) := dk_58 5 (dk_at dksX26_from_3 7 rfl rfl)
theorem dX26_from_80 : decode cX26_from 80 = .ok (.aload_n 1, 1) := dk_43 (dk_at dksX26_from_3 9 rfl rfl)
theorem dX26_from_81 : decode cX26_from 81 = .ok (.aload 5, 2) := dk_25 5 (dk_at dksX26_from_3 10 rfl rfl)
theorem dX26_from_83 : decode cX26_from 83 = .ok (.invokevirtual 52, 3) := dk_182 0 52 (dk_at dksX26_from_3 12 rfl rfl)
theorem dX26_from_86 : decode cX26_from 86 = .ok (.ifCond .ne 26, 3) := dk_154 0 26 (dk_at dksX26_from_3 15 rfl rfl)
theorem dX26_from_89 : decode cX26_from 89 = .ok (.aload_n 1, 1) := dk_43 (dk_at dksX26_from_3 18 rfl rfl)
theorem dX26_from_90 : decode cX26_from 90 = .ok (.aload 5, 2) := dk_25 5 (dk_at dksX26_from_3 19 rfl rfl)
theorem dX26_from_92 : decode cX26_from 92 = .ok (.invokevirtual 56, 3) := dk_182 0 56 (dk_at dksX26_from_3 21 rfl rfl)
theorem dX26_from_95 : decode cX26_from 95 = .ok (.pop, 1) := dk_87 (dk_at dksX26_from_4 0 rfl rfl)
theorem dX26_from_96 : decode cX26_from 96 = .ok (.aload_n 0, 1) := dk_42 (dk_at dksX26_from_4 1 rfl rfl)
theorem dX26_from_97 : decode cX26_from 97 = .ok (.aload_n 1, 1) := dk_43 (dk_at dksX26_from_4 2 rfl rfl)
theorem dX26_from_98 : decode cX26_from 98 = .ok (.invokevirtual 59, 3) := dk_182 0 59 (dk_at dksX26_from_4 3 rfl rfl)
theorem dX26_from_101 : decode cX26_from 101 = .ok (.aload_n 1, 1) := dk_43 (dk_at dksX26_from_4 6 rfl rfl)
theorem dX26_from_102 : decode cX26_from 102 = .ok (.aload_n 1, 1) := dk_43 (dk_at dksX26_from_4 7 rfl rfl)
theorem dX26_from_103 : decode cX26_from 103 = .ok (.invokevirtual 21, 3) := dk_182 0 21 (dk_at dksX26_from_4 8 rfl rfl)
theorem dX26_from_106 : decode cX26_from 106 = .ok (.iconst 1, 1) := dk_4 (dk_at dksX26_from_4 11 rfl rfl)
theorem dX26_from_107 : decode cX26_from 107 = .ok (.isub, 1) := dk_100 (dk_at dksX26_from_4 12 rfl rfl)
theorem dX26_from_108 : decode cX26_from 108 = .ok (.invokevirtual 63, 3) := dk_182 0 63 (dk_at dksX26_from_4 13 rfl rfl)
theorem dX26_from_111 : decode cX26_from 111 = .ok (.pop, 1) := dk_87 (dk_at dksX26_from_4 16 rfl rfl)
theorem dX26_from_112 : decode cX26_from 112 = .ok (.iinc 4 1, 3) := dk_132 4 1 (dk_at dksX26_from_4 17 rfl rfl)
theorem dX26_from_115 : decode cX26_from 115 = .ok (.goto (-47), 3) := dk_167 255 209 (dk_at dksX26_from_4 20 rfl rfl)
theorem dX26_from_118 : decode cX26_from 118 = .ok (.return_, 1) := dk_177 (dk_at dksX26_from_4 23 rfl rfl)
abbrev cX0_later : ByteArray := prog_1_method_39_code
def dkwX0_later_0 : List UInt8 := [26, 16, 254, 159, 0, 9, 27, 16, 254, 160, 0, 7, 3, 167, 0, 10, 3, 26, 27, 100, 184, 1, 125, 172]
abbrev dktX0_later_0 : List UInt8 := dkwX0_later_0 ++ []
theorem dksX0_later_0 : cX0_later.data.toList.drop 0 = dktX0_later_0 := by decide +kernel
theorem dX0_later_0 : decode cX0_later 0 = .ok (.iload_n 0, 1) := dk_26 (dk_at dksX0_later_0 0 rfl rfl)
theorem dX0_later_1 : decode cX0_later 1 = .ok (.bipush (-2), 2) := dk_16 254 (dk_at dksX0_later_0 1 rfl rfl)
theorem dX0_later_3 : decode cX0_later 3 = .ok (.if_icmp .eq 9, 3) := dk_159 0 9 (dk_at dksX0_later_0 3 rfl rfl)
theorem dX0_later_6 : decode cX0_later 6 = .ok (.iload_n 1, 1) := dk_27 (dk_at dksX0_later_0 6 rfl rfl)
theorem dX0_later_7 : decode cX0_later 7 = .ok (.bipush (-2), 2) := dk_16 254 (dk_at dksX0_later_0 7 rfl rfl)
theorem dX0_later_9 : decode cX0_later 9 = .ok (.if_icmp .ne 7, 3) := dk_160 0 7 (dk_at dksX0_later_0 9 rfl rfl)
theorem dX0_later_12 : decode cX0_later 12 = .ok (.iconst 0, 1) := dk_3 (dk_at dksX0_later_0 12 rfl rfl)
theorem dX0_later_13 : decode cX0_later 13 = .ok (.goto 10, 3) := dk_167 0 10 (dk_at dksX0_later_0 13 rfl rfl)
theorem dX0_later_16 : decode cX0_later 16 = .ok (.iconst 0, 1) := dk_3 (dk_at dksX0_later_0 16 rfl rfl)
theorem dX0_later_17 : decode cX0_later 17 = .ok (.iload_n 0, 1) := dk_26 (dk_at dksX0_later_0 17 rfl rfl)
theorem dX0_later_18 : decode cX0_later 18 = .ok (.iload_n 1, 1) := dk_27 (dk_at dksX0_later_0 18 rfl rfl)
theorem dX0_later_19 : decode cX0_later 19 = .ok (.isub, 1) := dk_100 (dk_at dksX0_later_0 19 rfl rfl)
theorem dX0_later_20 : decode cX0_later 20 = .ok (.invokestatic 381, 3) := dk_184 1 125 (dk_at dksX0_later_0 20 rfl rfl)
theorem dX0_later_23 : decode cX0_later 23 = .ok (.ireturn, 1) := dk_172 (dk_at dksX0_later_0 23 rfl rfl)
abbrev cX12_init_2 : ByteArray := prog_18_method_2_code
def dkwX12_init_2_0 : List UInt8 := [42, 2, 27, 3, 16, 100, 2, 3, 44, 183, 0, 71, 177]
abbrev dktX12_init_2_0 : List UInt8 := dkwX12_init_2_0 ++ []
theorem dksX12_init_2_0 : cX12_init_2.data.toList.drop 0 = dktX12_init_2_0 := by decide +kernel
theorem dX12_init_2_0 : decode cX12_init_2 0 = .ok (.aload_n 0, 1) := dk_42 (dk_at dksX12_init_2_0 0 rfl rfl)
theorem dX12_init_2_1 : decode cX12_init_2 1 = .ok (.iconst (-1), 1) := dk_2 (dk_at dksX12_init_2_0 1 rfl rfl)
theorem dX12_init_2_2 : decode cX12_init_2 2 = .ok (.iload_n 1, 1) := dk_27 (dk_at dksX12_init_2_0 2 rfl rfl)
theorem dX12_init_2_3 : decode cX12_init_2 3 = .ok (.iconst 0, 1) := dk_3 (dk_at dksX12_init_2_0 3 rfl rfl)
theorem dX12_init_2_4 : decode cX12_init_2 4 = .ok (.bipush 100, 2) := dk_16 100 (dk_at dksX12_init_2_0 4 rfl rfl)
theorem dX12_init_2_6 : decode cX12_init_2 6 = .ok (.iconst (-1), 1) := dk_2 (dk_at dksX12_init_2_0 6 rfl rfl)
theorem dX12_init_2_7 : decode cX12_init_2 7 = .ok (.iconst 0, 1) := dk_3 (dk_at dksX12_init_2_0 7 rfl rfl)
theorem dX12_init_2_8 : decode cX12_init_2 8 = .ok (.aload_n 2, 1) := dk_44 (dk_at dksX12_init_2_0 8 rfl rfl)
theorem dX12_init_2_9 : decode cX12_init_2 9 = .ok (.invokespecial 71, 3) := dk_183 0 71 (dk_at dksX12_init_2_0 9 rfl rfl)
theorem dX12_init_2_12 : decode cX12_init_2 12 = .ok (.return_, 1) := dk_177 (dk_at dksX12_init_2_0 12 rfl rfl)
abbrev cX1_firstTick : ByteArray := prog_8_method_20_code
def dkwX1_firstTick_4 : List UInt8 := [167, 255, 174, 16, 254, 172]
abbrev dktX1_firstTick_4 : List UInt8 := dkwX1_firstTick_4 ++ []
def dkwX1_firstTick_3 : List UInt8 := [21, 5, 43, 180, 0, 178, 182, 1, 61, 184, 1, 65, 54, 6, 132, 9, 1, 167, 255, 221, 21, 6, 54, 5]
abbrev dktX1_firstTick_3 : List UInt8 := dkwX1_firstTick_3 ++ dktX1_firstTick_4
def dkwX1_firstTick_2 : List UInt8 := [54, 8, 3, 54, 9, 21, 9, 21, 8, 162, 0, 34, 25, 7, 21, 9, 50, 58, 10, 21, 6, 25, 10]
abbrev dktX1_firstTick_2 : List UInt8 := dkwX1_firstTick_2 ++ dktX1_firstTick_3
def dkwX1_firstTick_1 : List UInt8 := [182, 1, 52, 153, 0, 6, 21, 5, 172, 19, 1, 60, 54, 6, 42, 180, 0, 11, 58, 7, 25, 7, 190]
abbrev dktX1_firstTick_1 : List UInt8 := dkwX1_firstTick_1 ++ dktX1_firstTick_2
def dkwX1_firstTick_0 : List UInt8 := [43, 186, 1, 59, 0, 0, 58, 4, 28, 54, 5, 21, 5, 29, 163, 0, 82, 42, 43, 21, 5, 25, 4]
abbrev dktX1_firstTick_0 : List UInt8 := dkwX1_firstTick_0 ++ dktX1_firstTick_1
theorem dksX1_firstTick_0 : cX1_firstTick.data.toList.drop 0 = dktX1_firstTick_0 := by decide +kernel
theorem dksX1_firstTick_1 : cX1_firstTick.data.toList.drop 23 = dktX1_firstTick_1 := dk_seg dksX1_firstTick_0 23 rfl rfl
theorem dksX1_firstTick_2 : cX1_firstTick.data.toList.drop 46 = dktX1_firstTick_2 := dk_seg dksX1_firstTick_1 23 rfl rfl
theorem dksX1_firstTick_3 : cX1_firstTick.data.toList.drop 69 = dktX1_firstTick_3 := dk_seg dksX1_firstTick_2 23 rfl rfl
theorem dksX1_firstTick_4 : cX1_firstTick.data.toList.drop 93 = dktX1_firstTick_4 := dk_seg dksX1_firstTick_3 24 rfl rfl
theorem dX1_firstTick_0 : decode cX1_firstTick 0 = .ok (.aload_n 1, 1) := dk_43 (dk_at dksX1_firstTick_0 0 rfl rfl)
theorem dX1_firstTick_1 : decode cX1_firstTick 1 = .ok (.invokedynamic 315, 5) := by decide +kernel
theorem dX1_firstTick_6 : decode cX1_firstTick 6 = .ok (.astore 4, 2) := dk_58 4 (dk_at dksX1_firstTick_0 6 rfl rfl)
theorem dX1_firstTick_8 : decode cX1_firstTick 8 = .ok (.iload_n 2, 1) := dk_28 (dk_at dksX1_firstTick_0 8 rfl rfl)
theorem dX1_firstTick_9 : decode cX1_firstTick 9 = .ok (.istore 5, 2) := dk_54 5 (dk_at dksX1_firstTick_0 9 rfl rfl)
theorem dX1_firstTick_11 : decode cX1_firstTick 11 = .ok (.iload 5, 2) := dk_21 5 (dk_at dksX1_firstTick_0 11 rfl rfl)
theorem dX1_firstTick_13 : decode cX1_firstTick 13 = .ok (.iload_n 3, 1) := dk_29 (dk_at dksX1_firstTick_0 13 rfl rfl)
theorem dX1_firstTick_14 : decode cX1_firstTick 14 = .ok (.if_icmp .gt 82, 3) := dk_163 0 82 (dk_at dksX1_firstTick_0 14 rfl rfl)
theorem dX1_firstTick_17 : decode cX1_firstTick 17 = .ok (.aload_n 0, 1) := dk_42 (dk_at dksX1_firstTick_0 17 rfl rfl)
theorem dX1_firstTick_18 : decode cX1_firstTick 18 = .ok (.aload_n 1, 1) := dk_43 (dk_at dksX1_firstTick_0 18 rfl rfl)
theorem dX1_firstTick_19 : decode cX1_firstTick 19 = .ok (.iload 5, 2) := dk_21 5 (dk_at dksX1_firstTick_0 19 rfl rfl)
theorem dX1_firstTick_21 : decode cX1_firstTick 21 = .ok (.aload 4, 2) := dk_25 4 (dk_at dksX1_firstTick_0 21 rfl rfl)
theorem dX1_firstTick_23 : decode cX1_firstTick 23 = .ok (.invokevirtual 308, 3) := dk_182 1 52 (dk_at dksX1_firstTick_1 0 rfl rfl)
theorem dX1_firstTick_26 : decode cX1_firstTick 26 = .ok (.ifCond .eq 6, 3) := dk_153 0 6 (dk_at dksX1_firstTick_1 3 rfl rfl)
theorem dX1_firstTick_29 : decode cX1_firstTick 29 = .ok (.iload 5, 2) := dk_21 5 (dk_at dksX1_firstTick_1 6 rfl rfl)
theorem dX1_firstTick_31 : decode cX1_firstTick 31 = .ok (.ireturn, 1) := dk_172 (dk_at dksX1_firstTick_1 8 rfl rfl)
theorem dX1_firstTick_32 : decode cX1_firstTick 32 = .ok (.ldc_w 316, 3) := dk_19 1 60 (dk_at dksX1_firstTick_1 9 rfl rfl)
theorem dX1_firstTick_35 : decode cX1_firstTick 35 = .ok (.istore 6, 2) := dk_54 6 (dk_at dksX1_firstTick_1 12 rfl rfl)
theorem dX1_firstTick_37 : decode cX1_firstTick 37 = .ok (.aload_n 0, 1) := dk_42 (dk_at dksX1_firstTick_1 14 rfl rfl)
theorem dX1_firstTick_38 : decode cX1_firstTick 38 = .ok (.getfield 11, 3) := dk_180 0 11 (dk_at dksX1_firstTick_1 15 rfl rfl)
theorem dX1_firstTick_41 : decode cX1_firstTick 41 = .ok (.astore 7, 2) := dk_58 7 (dk_at dksX1_firstTick_1 18 rfl rfl)
theorem dX1_firstTick_43 : decode cX1_firstTick 43 = .ok (.aload 7, 2) := dk_25 7 (dk_at dksX1_firstTick_1 20 rfl rfl)
theorem dX1_firstTick_45 : decode cX1_firstTick 45 = .ok (.arraylength, 1) := dk_190 (dk_at dksX1_firstTick_1 22 rfl rfl)
theorem dX1_firstTick_46 : decode cX1_firstTick 46 = .ok (.istore 8, 2) := dk_54 8 (dk_at dksX1_firstTick_2 0 rfl rfl)
theorem dX1_firstTick_48 : decode cX1_firstTick 48 = .ok (.iconst 0, 1) := dk_3 (dk_at dksX1_firstTick_2 2 rfl rfl)
theorem dX1_firstTick_49 : decode cX1_firstTick 49 = .ok (.istore 9, 2) := dk_54 9 (dk_at dksX1_firstTick_2 3 rfl rfl)
theorem dX1_firstTick_51 : decode cX1_firstTick 51 = .ok (.iload 9, 2) := dk_21 9 (dk_at dksX1_firstTick_2 5 rfl rfl)
theorem dX1_firstTick_53 : decode cX1_firstTick 53 = .ok (.iload 8, 2) := dk_21 8 (dk_at dksX1_firstTick_2 7 rfl rfl)
theorem dX1_firstTick_55 : decode cX1_firstTick 55 = .ok (.if_icmp .ge 34, 3) := dk_162 0 34 (dk_at dksX1_firstTick_2 9 rfl rfl)
theorem dX1_firstTick_58 : decode cX1_firstTick 58 = .ok (.aload 7, 2) := dk_25 7 (dk_at dksX1_firstTick_2 12 rfl rfl)
theorem dX1_firstTick_60 : decode cX1_firstTick 60 = .ok (.iload 9, 2) := dk_21 9 (dk_at dksX1_firstTick_2 14 rfl rfl)
theorem dX1_firstTick_62 : decode cX1_firstTick 62 = .ok (.aaload, 1) := dk_50 (dk_at dksX1_firstTick_2 16 rfl rfl)
theorem dX1_firstTick_63 : decode cX1_firstTick 63 = .ok (.astore 10, 2) := dk_58 10 (dk_at dksX1_firstTick_2 17 rfl rfl)
theorem dX1_firstTick_65 : decode cX1_firstTick 65 = .ok (.iload 6, 2) := dk_21 6 (dk_at dksX1_firstTick_2 19 rfl rfl)
theorem dX1_firstTick_67 : decode cX1_firstTick 67 = .ok (.aload 10, 2) := dk_25 10 (dk_at dksX1_firstTick_2 21 rfl rfl)
theorem dX1_firstTick_69 : decode cX1_firstTick 69 = .ok (.iload 5, 2) := dk_21 5 (dk_at dksX1_firstTick_3 0 rfl rfl)
theorem dX1_firstTick_71 : decode cX1_firstTick 71 = .ok (.aload_n 1, 1) := dk_43 (dk_at dksX1_firstTick_3 2 rfl rfl)
theorem dX1_firstTick_72 : decode cX1_firstTick 72 = .ok (.getfield 178, 3) := dk_180 0 178 (dk_at dksX1_firstTick_3 3 rfl rfl)
theorem dX1_firstTick_75 : decode cX1_firstTick 75 = .ok (.invokevirtual 317, 3) := dk_182 1 61 (dk_at dksX1_firstTick_3 6 rfl rfl)
theorem dX1_firstTick_78 : decode cX1_firstTick 78 = .ok (.invokestatic 321, 3) := dk_184 1 65 (dk_at dksX1_firstTick_3 9 rfl rfl)
theorem dX1_firstTick_81 : decode cX1_firstTick 81 = .ok (.istore 6, 2) := dk_54 6 (dk_at dksX1_firstTick_3 12 rfl rfl)
theorem dX1_firstTick_83 : decode cX1_firstTick 83 = .ok (.iinc 9 1, 3) := dk_132 9 1 (dk_at dksX1_firstTick_3 14 rfl rfl)
theorem dX1_firstTick_86 : decode cX1_firstTick 86 = .ok (.goto (-35), 3) := dk_167 255 221 (dk_at dksX1_firstTick_3 17 rfl rfl)
theorem dX1_firstTick_89 : decode cX1_firstTick 89 = .ok (.iload 6, 2) := dk_21 6 (dk_at dksX1_firstTick_3 20 rfl rfl)
theorem dX1_firstTick_91 : decode cX1_firstTick 91 = .ok (.istore 5, 2) := dk_54 5 (dk_at dksX1_firstTick_3 22 rfl rfl)
theorem dX1_firstTick_93 : decode cX1_firstTick 93 = .ok (.goto (-82), 3) := dk_167 255 174 (dk_at dksX1_firstTick_4 0 rfl rfl)
theorem dX1_firstTick_96 : decode cX1_firstTick 96 = .ok (.bipush (-2), 2) := dk_16 254 (dk_at dksX1_firstTick_4 3 rfl rfl)
theorem dX1_firstTick_98 : decode cX1_firstTick 98 = .ok (.ireturn, 1) := dk_172 (dk_at dksX1_firstTick_4 5 rfl rfl)
abbrev cX0_isHole : ByteArray := prog_1_method_50_code
def dkwX0_isHole_2 : List UInt8 := [180, 1, 197, 162, 0, 5, 3, 172, 167, 255, 210, 4, 172]
abbrev dktX0_isHole_2 : List UInt8 := dkwX0_isHole_2 ++ []
def dkwX0_isHole_1 : List UInt8 := [192, 1, 95, 58, 4, 25, 4, 180, 1, 194, 133, 27, 133, 28, 133, 97, 148, 156, 0, 14, 27, 25, 4]
abbrev dktX0_isHole_1 : List UInt8 := dkwX0_isHole_1 ++ dktX0_isHole_2
def dkwX0_isHole_0 : List UInt8 := [42, 180, 1, 191, 182, 1, 120, 78, 45, 185, 0, 86, 1, 0, 153, 0, 43, 45, 185, 0, 92, 1, 0]
abbrev dktX0_isHole_0 : List UInt8 := dkwX0_isHole_0 ++ dktX0_isHole_1
theorem dksX0_isHole_0 : cX0_isHole.data.toList.drop 0 = dktX0_isHole_0 := by decide +kernel
theorem dksX0_isHole_1 : cX0_isHole.data.toList.drop 23 = dktX0_isHole_1 := dk_seg dksX0_isHole_0 23 rfl rfl
theorem dksX0_isHole_2 : cX0_isHole.data.toList.drop 46 = dktX0_isHole_2 := dk_seg dksX0_isHole_1 23 rfl rfl
theorem dX0_isHole_0 : decode cX0_isHole 0 = .ok (.aload_n 0, 1) := dk_42 (dk_at dksX0_isHole_0 0 rfl rfl)
theorem dX0_isHole_1 : decode cX0_isHole 1 = .ok (.getfield 447, 3) := dk_180 1 191 (dk_at dksX0_isHole_0 1 rfl rfl)
theorem dX0_isHole_4 : decode cX0_isHole 4 = .ok (.invokevirtual 376, 3) := dk_182 1 120 (dk_at dksX0_isHole_0 4 rfl rfl)
theorem dX0_isHole_7 : decode cX0_isHole 7 = .ok (.astore_n 3, 1) := dk_78 (dk_at dksX0_isHole_0 7 rfl rfl)
theorem dX0_isHole_8 : decode cX0_isHole 8 = .ok (.aload_n 3, 1) := dk_45 (dk_at dksX0_isHole_0 8 rfl rfl)
theorem dX0_isHole_9 : decode cX0_isHole 9 = .ok (.invokeinterface 86 1, 5) := by decide +kernel
theorem dX0_isHole_14 : decode cX0_isHole 14 = .ok (.ifCond .eq 43, 3) := dk_153 0 43 (dk_at dksX0_isHole_0 14 rfl rfl)
theorem dX0_isHole_17 : decode cX0_isHole 17 = .ok (.aload_n 3, 1) := dk_45 (dk_at dksX0_isHole_0 17 rfl rfl)
theorem dX0_isHole_18 : decode cX0_isHole 18 = .ok (.invokeinterface 92 1, 5) := by decide +kernel
theorem dX0_isHole_23 : decode cX0_isHole 23 = .ok (.checkcast 351, 3) := dk_192 1 95 (dk_at dksX0_isHole_1 0 rfl rfl)
theorem dX0_isHole_26 : decode cX0_isHole 26 = .ok (.astore 4, 2) := dk_58 4 (dk_at dksX0_isHole_1 3 rfl rfl)
theorem dX0_isHole_28 : decode cX0_isHole 28 = .ok (.aload 4, 2) := dk_25 4 (dk_at dksX0_isHole_1 5 rfl rfl)
theorem dX0_isHole_30 : decode cX0_isHole 30 = .ok (.getfield 450, 3) := dk_180 1 194 (dk_at dksX0_isHole_1 7 rfl rfl)
theorem dX0_isHole_33 : decode cX0_isHole 33 = .ok (.i2l, 1) := dk_133 (dk_at dksX0_isHole_1 10 rfl rfl)
theorem dX0_isHole_34 : decode cX0_isHole 34 = .ok (.iload_n 1, 1) := dk_27 (dk_at dksX0_isHole_1 11 rfl rfl)
theorem dX0_isHole_35 : decode cX0_isHole 35 = .ok (.i2l, 1) := dk_133 (dk_at dksX0_isHole_1 12 rfl rfl)
theorem dX0_isHole_36 : decode cX0_isHole 36 = .ok (.iload_n 2, 1) := dk_28 (dk_at dksX0_isHole_1 13 rfl rfl)
theorem dX0_isHole_37 : decode cX0_isHole 37 = .ok (.i2l, 1) := dk_133 (dk_at dksX0_isHole_1 14 rfl rfl)
theorem dX0_isHole_38 : decode cX0_isHole 38 = .ok (.ladd, 1) := dk_97 (dk_at dksX0_isHole_1 15 rfl rfl)
theorem dX0_isHole_39 : decode cX0_isHole 39 = .ok (.lcmp, 1) := dk_148 (dk_at dksX0_isHole_1 16 rfl rfl)
theorem dX0_isHole_40 : decode cX0_isHole 40 = .ok (.ifCond .ge 14, 3) := dk_156 0 14 (dk_at dksX0_isHole_1 17 rfl rfl)
theorem dX0_isHole_43 : decode cX0_isHole 43 = .ok (.iload_n 1, 1) := dk_27 (dk_at dksX0_isHole_1 20 rfl rfl)
theorem dX0_isHole_44 : decode cX0_isHole 44 = .ok (.aload 4, 2) := dk_25 4 (dk_at dksX0_isHole_1 21 rfl rfl)
theorem dX0_isHole_46 : decode cX0_isHole 46 = .ok (.getfield 453, 3) := dk_180 1 197 (dk_at dksX0_isHole_2 0 rfl rfl)
theorem dX0_isHole_49 : decode cX0_isHole 49 = .ok (.if_icmp .ge 5, 3) := dk_162 0 5 (dk_at dksX0_isHole_2 3 rfl rfl)
theorem dX0_isHole_52 : decode cX0_isHole 52 = .ok (.iconst 0, 1) := dk_3 (dk_at dksX0_isHole_2 6 rfl rfl)
theorem dX0_isHole_53 : decode cX0_isHole 53 = .ok (.ireturn, 1) := dk_172 (dk_at dksX0_isHole_2 7 rfl rfl)
theorem dX0_isHole_54 : decode cX0_isHole 54 = .ok (.goto (-46), 3) := dk_167 255 210 (dk_at dksX0_isHole_2 8 rfl rfl)
theorem dX0_isHole_57 : decode cX0_isHole 57 = .ok (.iconst 1, 1) := dk_4 (dk_at dksX0_isHole_2 11 rfl rfl)
theorem dX0_isHole_58 : decode cX0_isHole 58 = .ok (.ireturn, 1) := dk_172 (dk_at dksX0_isHole_2 12 rfl rfl)
abbrev cX28_init : ByteArray := prog_14_method_1_code
def dkwX28_init_0 : List UInt8 := [42, 183, 0, 1, 42, 43, 181, 0, 7, 177]
abbrev dktX28_init_0 : List UInt8 := dkwX28_init_0 ++ []
theorem dksX28_init_0 : cX28_init.data.toList.drop 0 = dktX28_init_0 := by decide +kernel
theorem dX28_init_0 : decode cX28_init 0 = .ok (.aload_n 0, 1) := dk_42 (dk_at dksX28_init_0 0 rfl rfl)
theorem dX28_init_1 : decode cX28_init 1 = .ok (.invokespecial 1, 3) := dk_183 0 1 (dk_at dksX28_init_0 1 rfl rfl)
theorem dX28_init_4 : decode cX28_init 4 = .ok (.aload_n 0, 1) := dk_42 (dk_at dksX28_init_0 4 rfl rfl)
theorem dX28_init_5 : decode cX28_init 5 = .ok (.aload_n 1, 1) := dk_43 (dk_at dksX28_init_0 5 rfl rfl)
theorem dX28_init_6 : decode cX28_init 6 = .ok (.putfield 7, 3) := dk_181 0 7 (dk_at dksX28_init_0 6 rfl rfl)
theorem dX28_init_9 : decode cX28_init 9 = .ok (.return_, 1) := dk_177 (dk_at dksX28_init_0 9 rfl rfl)
abbrev cX28_longest : ByteArray := prog_14_method_4_code
def dkwX28_longest_1 : List UInt8 := [192, 0, 32, 78, 27, 45, 180, 0, 34, 184, 0, 38, 60, 167, 255, 228, 27, 172]
abbrev dktX28_longest_1 : List UInt8 := dkwX28_longest_1 ++ []
def dkwX28_longest_0 : List UInt8 := [3, 60, 42, 182, 0, 18, 77, 44, 185, 0, 22, 1, 0, 153, 0, 25, 44, 185, 0, 28, 1, 0]
abbrev dktX28_longest_0 : List UInt8 := dkwX28_longest_0 ++ dktX28_longest_1
theorem dksX28_longest_0 : cX28_longest.data.toList.drop 0 = dktX28_longest_0 := by decide +kernel
theorem dksX28_longest_1 : cX28_longest.data.toList.drop 22 = dktX28_longest_1 := dk_seg dksX28_longest_0 22 rfl rfl
theorem dX28_longest_0 : decode cX28_longest 0 = .ok (.iconst 0, 1) := dk_3 (dk_at dksX28_longest_0 0 rfl rfl)
theorem dX28_longest_1 : decode cX28_longest 1 = .ok (.istore_n 1, 1) := dk_60 (dk_at dksX28_longest_0 1 rfl rfl)
theorem dX28_longest_2 : decode cX28_longest 2 = .ok (.aload_n 0, 1) := dk_42 (dk_at dksX28_longest_0 2 rfl rfl)
theorem dX28_longest_3 : decode cX28_longest 3 = .ok (.invokevirtual 18, 3) := dk_182 0 18 (dk_at dksX28_longest_0 3 rfl rfl)
theorem dX28_longest_6 : decode cX28_longest 6 = .ok (.astore_n 2, 1) := dk_77 (dk_at dksX28_longest_0 6 rfl rfl)
theorem dX28_longest_7 : decode cX28_longest 7 = .ok (.aload_n 2, 1) := dk_44 (dk_at dksX28_longest_0 7 rfl rfl)
theorem dX28_longest_8 : decode cX28_longest 8 = .ok (.invokeinterface 22 1, 5) := by decide +kernel
theorem dX28_longest_13 : decode cX28_longest 13 = .ok (.ifCond .eq 25, 3) := dk_153 0 25 (dk_at dksX28_longest_0 13 rfl rfl)
theorem dX28_longest_16 : decode cX28_longest 16 = .ok (.aload_n 2, 1) := dk_44 (dk_at dksX28_longest_0 16 rfl rfl)
theorem dX28_longest_17 : decode cX28_longest 17 = .ok (.invokeinterface 28 1, 5) := by decide +kernel
theorem dX28_longest_22 : decode cX28_longest 22 = .ok (.checkcast 32, 3) := dk_192 0 32 (dk_at dksX28_longest_1 0 rfl rfl)
theorem dX28_longest_25 : decode cX28_longest 25 = .ok (.astore_n 3, 1) := dk_78 (dk_at dksX28_longest_1 3 rfl rfl)
theorem dX28_longest_26 : decode cX28_longest 26 = .ok (.iload_n 1, 1) := dk_27 (dk_at dksX28_longest_1 4 rfl rfl)
theorem dX28_longest_27 : decode cX28_longest 27 = .ok (.aload_n 3, 1) := dk_45 (dk_at dksX28_longest_1 5 rfl rfl)
theorem dX28_longest_28 : decode cX28_longest 28 = .ok (.getfield 34, 3) := dk_180 0 34 (dk_at dksX28_longest_1 6 rfl rfl)
theorem dX28_longest_31 : decode cX28_longest 31 = .ok (.invokestatic 38, 3) := dk_184 0 38 (dk_at dksX28_longest_1 9 rfl rfl)
theorem dX28_longest_34 : decode cX28_longest 34 = .ok (.istore_n 1, 1) := dk_60 (dk_at dksX28_longest_1 12 rfl rfl)
theorem dX28_longest_35 : decode cX28_longest 35 = .ok (.goto (-28), 3) := dk_167 255 228 (dk_at dksX28_longest_1 13 rfl rfl)
theorem dX28_longest_38 : decode cX28_longest 38 = .ok (.iload_n 1, 1) := dk_27 (dk_at dksX28_longest_1 16 rfl rfl)
theorem dX28_longest_39 : decode cX28_longest 39 = .ok (.ireturn, 1) := dk_172 (dk_at dksX28_longest_1 17 rfl rfl)
abbrev cX14_ask : ByteArray := prog_11_method_2_code
def dkwX14_ask_1 : List UInt8 := [180, 0, 16, 172]
abbrev dktX14_ask_1 : List UInt8 := dkwX14_ask_1 ++ []
def dkwX14_ask_0 : List UInt8 := [27, 154, 0, 10, 42, 180, 0, 7, 167, 0, 19, 27, 4, 160, 0, 10, 42, 180, 0, 13, 167, 0, 7, 42]
abbrev dktX14_ask_0 : List UInt8 := dkwX14_ask_0 ++ dktX14_ask_1
theorem dksX14_ask_0 : cX14_ask.data.toList.drop 0 = dktX14_ask_0 := by decide +kernel
theorem dksX14_ask_1 : cX14_ask.data.toList.drop 24 = dktX14_ask_1 := dk_seg dksX14_ask_0 24 rfl rfl
theorem dX14_ask_0 : decode cX14_ask 0 = .ok (.iload_n 1, 1) := dk_27 (dk_at dksX14_ask_0 0 rfl rfl)
theorem dX14_ask_1 : decode cX14_ask 1 = .ok (.ifCond .ne 10, 3) := dk_154 0 10 (dk_at dksX14_ask_0 1 rfl rfl)
theorem dX14_ask_4 : decode cX14_ask 4 = .ok (.aload_n 0, 1) := dk_42 (dk_at dksX14_ask_0 4 rfl rfl)
theorem dX14_ask_5 : decode cX14_ask 5 = .ok (.getfield 7, 3) := dk_180 0 7 (dk_at dksX14_ask_0 5 rfl rfl)
theorem dX14_ask_8 : decode cX14_ask 8 = .ok (.goto 19, 3) := dk_167 0 19 (dk_at dksX14_ask_0 8 rfl rfl)
theorem dX14_ask_11 : decode cX14_ask 11 = .ok (.iload_n 1, 1) := dk_27 (dk_at dksX14_ask_0 11 rfl rfl)
theorem dX14_ask_12 : decode cX14_ask 12 = .ok (.iconst 1, 1) := dk_4 (dk_at dksX14_ask_0 12 rfl rfl)
theorem dX14_ask_13 : decode cX14_ask 13 = .ok (.if_icmp .ne 10, 3) := dk_160 0 10 (dk_at dksX14_ask_0 13 rfl rfl)
theorem dX14_ask_16 : decode cX14_ask 16 = .ok (.aload_n 0, 1) := dk_42 (dk_at dksX14_ask_0 16 rfl rfl)
theorem dX14_ask_17 : decode cX14_ask 17 = .ok (.getfield 13, 3) := dk_180 0 13 (dk_at dksX14_ask_0 17 rfl rfl)
theorem dX14_ask_20 : decode cX14_ask 20 = .ok (.goto 7, 3) := dk_167 0 7 (dk_at dksX14_ask_0 20 rfl rfl)
theorem dX14_ask_23 : decode cX14_ask 23 = .ok (.aload_n 0, 1) := dk_42 (dk_at dksX14_ask_0 23 rfl rfl)
theorem dX14_ask_24 : decode cX14_ask 24 = .ok (.getfield 16, 3) := dk_180 0 16 (dk_at dksX14_ask_1 0 rfl rfl)
theorem dX14_ask_27 : decode cX14_ask 27 = .ok (.ireturn, 1) := dk_172 (dk_at dksX14_ask_1 3 rfl rfl)
abbrev cX1_copy : ByteArray := prog_8_method_2_code
def dkwX1_copy_17 : List UInt8 := [181, 0, 200, 43, 42, 180, 0, 203, 181, 0, 203, 43, 176]
abbrev dktX1_copy_17 : List UInt8 := dkwX1_copy_17 ++ []
def dkwX1_copy_16 : List UInt8 := [181, 0, 75, 43, 42, 180, 0, 79, 181, 0, 79, 43, 42, 180, 0, 197, 181, 0, 197, 43, 42, 180, 0, 200]
abbrev dktX1_copy_16 : List UInt8 := dkwX1_copy_16 ++ dktX1_copy_17
def dkwX1_copy_15 : List UInt8 := [182, 0, 192, 87, 167, 255, 188, 43, 180, 0, 68, 42, 180, 0, 68, 182, 0, 193, 43, 42, 180, 0, 75]
abbrev dktX1_copy_15 : List UInt8 := dkwX1_copy_15 ++ dktX1_copy_16
def dkwX1_copy_14 : List UInt8 := [187, 0, 172, 89, 25, 4, 25, 4, 180, 0, 178, 45, 180, 0, 182, 180, 0, 186, 50, 183, 0, 189]
abbrev dktX1_copy_14 : List UInt8 := dkwX1_copy_14 ++ dktX1_copy_15
def dkwX1_copy_13 : List UInt8 := [180, 0, 40, 45, 180, 0, 174, 180, 0, 166, 182, 0, 167, 192, 0, 85, 58, 4, 43, 180, 0, 58]
abbrev dktX1_copy_13 : List UInt8 := dkwX1_copy_13 ++ dktX1_copy_14
def dkwX1_copy_12 : List UInt8 := [182, 0, 171, 77, 44, 185, 0, 127, 1, 0, 153, 0, 65, 44, 185, 0, 133, 1, 0, 192, 0, 172, 78, 43]
abbrev dktX1_copy_12 : List UInt8 := dkwX1_copy_12 ++ dktX1_copy_13
def dkwX1_copy_11 : List UInt8 := [180, 0, 40, 45, 180, 0, 166, 182, 0, 167, 192, 0, 85, 182, 0, 140, 87, 167, 255, 215, 42, 180, 0, 58]
abbrev dktX1_copy_11 : List UInt8 := dkwX1_copy_11 ++ dktX1_copy_12
def dkwX1_copy_10 : List UInt8 := [185, 0, 127, 1, 0, 153, 0, 38, 44, 185, 0, 133, 1, 0, 192, 0, 85, 78, 43, 180, 0, 62, 43]
abbrev dktX1_copy_10 : List UInt8 := dkwX1_copy_10 ++ dktX1_copy_11
def dkwX1_copy_9 : List UInt8 := [180, 0, 153, 184, 0, 156, 45, 182, 0, 162, 87, 167, 255, 221, 42, 180, 0, 62, 182, 0, 123, 77, 44]
abbrev dktX1_copy_9 : List UInt8 := dkwX1_copy_9 ++ dktX1_copy_10
def dkwX1_copy_8 : List UInt8 := [44, 185, 0, 127, 1, 0, 153, 0, 32, 44, 185, 0, 133, 1, 0, 192, 0, 151, 78, 43, 180, 0, 46, 45]
abbrev dktX1_copy_8 : List UInt8 := dkwX1_copy_8 ++ dktX1_copy_9
def dkwX1_copy_7 : List UInt8 := [45, 182, 0, 137, 182, 0, 140, 87, 167, 255, 225, 42, 180, 0, 46, 182, 0, 144, 185, 0, 148, 1, 0, 77]
abbrev dktX1_copy_7 : List UInt8 := dkwX1_copy_7 ++ dktX1_copy_8
def dkwX1_copy_6 : List UInt8 := [77, 44, 185, 0, 127, 1, 0, 153, 0, 28, 44, 185, 0, 133, 1, 0, 192, 0, 85, 78, 43, 180, 0, 40]
abbrev dktX1_copy_6 : List UInt8 := dkwX1_copy_6 ++ dktX1_copy_7
def dkwX1_copy_5 : List UInt8 := [180, 0, 82, 3, 43, 180, 0, 82, 3, 42, 180, 0, 82, 190, 184, 0, 113, 42, 180, 0, 40, 182, 0, 123]
abbrev dktX1_copy_5 : List UInt8 := dkwX1_copy_5 ++ dktX1_copy_6
def dkwX1_copy_4 : List UInt8 := [180, 0, 21, 3, 16, 8, 184, 0, 113, 43, 180, 0, 36, 42, 180, 0, 36, 182, 0, 119, 87, 42]
abbrev dktX1_copy_4 : List UInt8 := dkwX1_copy_4 ++ dktX1_copy_5
def dkwX1_copy_3 : List UInt8 := [184, 0, 113, 42, 180, 0, 24, 3, 43, 180, 0, 24, 3, 16, 8, 184, 0, 113, 42, 180, 0, 21, 3, 43]
abbrev dktX1_copy_3 : List UInt8 := dkwX1_copy_3 ++ dktX1_copy_4
def dkwX1_copy_2 : List UInt8 := [16, 64, 184, 0, 113, 132, 2, 1, 167, 255, 213, 42, 180, 0, 17, 3, 43, 180, 0, 17, 3, 16, 8]
abbrev dktX1_copy_2 : List UInt8 := dkwX1_copy_2 ++ dktX1_copy_3
def dkwX1_copy_1 : List UInt8 := [180, 0, 11, 28, 50, 182, 0, 109, 83, 42, 180, 0, 30, 28, 50, 3, 43, 180, 0, 30, 28, 50, 3]
abbrev dktX1_copy_1 : List UInt8 := dkwX1_copy_1 ++ dktX1_copy_2
def dkwX1_copy_0 : List UInt8 := [187, 0, 12, 89, 183, 0, 108, 76, 3, 61, 28, 16, 16, 162, 0, 43, 43, 180, 0, 11, 28, 42]
abbrev dktX1_copy_0 : List UInt8 := dkwX1_copy_0 ++ dktX1_copy_1
theorem dksX1_copy_0 : cX1_copy.data.toList.drop 0 = dktX1_copy_0 := by decide +kernel
theorem dksX1_copy_1 : cX1_copy.data.toList.drop 22 = dktX1_copy_1 := dk_seg dksX1_copy_0 22 rfl rfl
theorem dksX1_copy_2 : cX1_copy.data.toList.drop 45 = dktX1_copy_2 := dk_seg dksX1_copy_1 23 rfl rfl
theorem dksX1_copy_3 : cX1_copy.data.toList.drop 68 = dktX1_copy_3 := dk_seg dksX1_copy_2 23 rfl rfl
theorem dksX1_copy_4 : cX1_copy.data.toList.drop 92 = dktX1_copy_4 := dk_seg dksX1_copy_3 24 rfl rfl
theorem dksX1_copy_5 : cX1_copy.data.toList.drop 114 = dktX1_copy_5 := dk_seg dksX1_copy_4 22 rfl rfl
theorem dksX1_copy_6 : cX1_copy.data.toList.drop 138 = dktX1_copy_6 := dk_seg dksX1_copy_5 24 rfl rfl
theorem dksX1_copy_7 : cX1_copy.data.toList.drop 162 = dktX1_copy_7 := dk_seg dksX1_copy_6 24 rfl rfl
theorem dksX1_copy_8 : cX1_copy.data.toList.drop 186 = dktX1_copy_8 := dk_seg dksX1_copy_7 24 rfl rfl
theorem dksX1_copy_9 : cX1_copy.data.toList.drop 210 = dktX1_copy_9 := dk_seg dksX1_copy_8 24 rfl rfl
theorem dksX1_copy_10 : cX1_copy.data.toList.drop 233 = dktX1_copy_10 := dk_seg dksX1_copy_9 23 rfl rfl
theorem dksX1_copy_11 : cX1_copy.data.toList.drop 256 = dktX1_copy_11 := dk_seg dksX1_copy_10 23 rfl rfl
theorem dksX1_copy_12 : cX1_copy.data.toList.drop 280 = dktX1_copy_12 := dk_seg dksX1_copy_11 24 rfl rfl
theorem dksX1_copy_13 : cX1_copy.data.toList.drop 304 = dktX1_copy_13 := dk_seg dksX1_copy_12 24 rfl rfl
theorem dksX1_copy_14 : cX1_copy.data.toList.drop 326 = dktX1_copy_14 := dk_seg dksX1_copy_13 22 rfl rfl
theorem dksX1_copy_15 : cX1_copy.data.toList.drop 348 = dktX1_copy_15 := dk_seg dksX1_copy_14 22 rfl rfl
theorem dksX1_copy_16 : cX1_copy.data.toList.drop 371 = dktX1_copy_16 := dk_seg dksX1_copy_15 23 rfl rfl
theorem dksX1_copy_17 : cX1_copy.data.toList.drop 395 = dktX1_copy_17 := dk_seg dksX1_copy_16 24 rfl rfl
theorem dX1_copy_0 : decode cX1_copy 0 = .ok (.new 12, 3) := dk_187 0 12 (dk_at dksX1_copy_0 0 rfl rfl)
theorem dX1_copy_3 : decode cX1_copy 3 = .ok (.dup, 1) := dk_89 (dk_at dksX1_copy_0 3 rfl rfl)
theorem dX1_copy_4 : decode cX1_copy 4 = .ok (.invokespecial 108, 3) := dk_183 0 108 (dk_at dksX1_copy_0 4 rfl rfl)
theorem dX1_copy_7 : decode cX1_copy 7 = .ok (.astore_n 1, 1) := dk_76 (dk_at dksX1_copy_0 7 rfl rfl)
theorem dX1_copy_8 : decode cX1_copy 8 = .ok (.iconst 0, 1) := dk_3 (dk_at dksX1_copy_0 8 rfl rfl)
theorem dX1_copy_9 : decode cX1_copy 9 = .ok (.istore_n 2, 1) := dk_61 (dk_at dksX1_copy_0 9 rfl rfl)
theorem dX1_copy_10 : decode cX1_copy 10 = .ok (.iload_n 2, 1) := dk_28 (dk_at dksX1_copy_0 10 rfl rfl)
theorem dX1_copy_11 : decode cX1_copy 11 = .ok (.bipush 16, 2) := dk_16 16 (dk_at dksX1_copy_0 11 rfl rfl)
theorem dX1_copy_13 : decode cX1_copy 13 = .ok (.if_icmp .ge 43, 3) := dk_162 0 43 (dk_at dksX1_copy_0 13 rfl rfl)
theorem dX1_copy_16 : decode cX1_copy 16 = .ok (.aload_n 1, 1) := dk_43 (dk_at dksX1_copy_0 16 rfl rfl)
theorem dX1_copy_17 : decode cX1_copy 17 = .ok (.getfield 11, 3) := dk_180 0 11 (dk_at dksX1_copy_0 17 rfl rfl)
theorem dX1_copy_20 : decode cX1_copy 20 = .ok (.iload_n 2, 1) := dk_28 (dk_at dksX1_copy_0 20 rfl rfl)
theorem dX1_copy_21 : decode cX1_copy 21 = .ok (.aload_n 0, 1) := dk_42 (dk_at dksX1_copy_0 21 rfl rfl)
theorem dX1_copy_22 : decode cX1_copy 22 = .ok (.getfield 11, 3) := dk_180 0 11 (dk_at dksX1_copy_1 0 rfl rfl)
theorem dX1_copy_25 : decode cX1_copy 25 = .ok (.iload_n 2, 1) := dk_28 (dk_at dksX1_copy_1 3 rfl rfl)
theorem dX1_copy_26 : decode cX1_copy 26 = .ok (.aaload, 1) := dk_50 (dk_at dksX1_copy_1 4 rfl rfl)
theorem dX1_copy_27 : decode cX1_copy 27 = .ok (.invokevirtual 109, 3) := dk_182 0 109 (dk_at dksX1_copy_1 5 rfl rfl)
theorem dX1_copy_30 : decode cX1_copy 30 = .ok (.aastore, 1) := dk_83 (dk_at dksX1_copy_1 8 rfl rfl)
theorem dX1_copy_31 : decode cX1_copy 31 = .ok (.aload_n 0, 1) := dk_42 (dk_at dksX1_copy_1 9 rfl rfl)
theorem dX1_copy_32 : decode cX1_copy 32 = .ok (.getfield 30, 3) := dk_180 0 30 (dk_at dksX1_copy_1 10 rfl rfl)
theorem dX1_copy_35 : decode cX1_copy 35 = .ok (.iload_n 2, 1) := dk_28 (dk_at dksX1_copy_1 13 rfl rfl)
theorem dX1_copy_36 : decode cX1_copy 36 = .ok (.aaload, 1) := dk_50 (dk_at dksX1_copy_1 14 rfl rfl)
theorem dX1_copy_37 : decode cX1_copy 37 = .ok (.iconst 0, 1) := dk_3 (dk_at dksX1_copy_1 15 rfl rfl)
theorem dX1_copy_38 : decode cX1_copy 38 = .ok (.aload_n 1, 1) := dk_43 (dk_at dksX1_copy_1 16 rfl rfl)
theorem dX1_copy_39 : decode cX1_copy 39 = .ok (.getfield 30, 3) := dk_180 0 30 (dk_at dksX1_copy_1 17 rfl rfl)
theorem dX1_copy_42 : decode cX1_copy 42 = .ok (.iload_n 2, 1) := dk_28 (dk_at dksX1_copy_1 20 rfl rfl)
theorem dX1_copy_43 : decode cX1_copy 43 = .ok (.aaload, 1) := dk_50 (dk_at dksX1_copy_1 21 rfl rfl)
theorem dX1_copy_44 : decode cX1_copy 44 = .ok (.iconst 0, 1) := dk_3 (dk_at dksX1_copy_1 22 rfl rfl)
theorem dX1_copy_45 : decode cX1_copy 45 = .ok (.bipush 64, 2) := dk_16 64 (dk_at dksX1_copy_2 0 rfl rfl)
theorem dX1_copy_47 : decode cX1_copy 47 = .ok (.invokestatic 113, 3) := dk_184 0 113 (dk_at dksX1_copy_2 2 rfl rfl)
theorem dX1_copy_50 : decode cX1_copy 50 = .ok (.iinc 2 1, 3) := dk_132 2 1 (dk_at dksX1_copy_2 5 rfl rfl)
theorem dX1_copy_53 : decode cX1_copy 53 = .ok (.goto (-43), 3) := dk_167 255 213 (dk_at dksX1_copy_2 8 rfl rfl)
theorem dX1_copy_56 : decode cX1_copy 56 = .ok (.aload_n 0, 1) := dk_42 (dk_at dksX1_copy_2 11 rfl rfl)
theorem dX1_copy_57 : decode cX1_copy 57 = .ok (.getfield 17, 3) := dk_180 0 17 (dk_at dksX1_copy_2 12 rfl rfl)
theorem dX1_copy_60 : decode cX1_copy 60 = .ok (.iconst 0, 1) := dk_3 (dk_at dksX1_copy_2 15 rfl rfl)
theorem dX1_copy_61 : decode cX1_copy 61 = .ok (.aload_n 1, 1) := dk_43 (dk_at dksX1_copy_2 16 rfl rfl)
theorem dX1_copy_62 : decode cX1_copy 62 = .ok (.getfield 17, 3) := dk_180 0 17 (dk_at dksX1_copy_2 17 rfl rfl)
theorem dX1_copy_65 : decode cX1_copy 65 = .ok (.iconst 0, 1) := dk_3 (dk_at dksX1_copy_2 20 rfl rfl)
theorem dX1_copy_66 : decode cX1_copy 66 = .ok (.bipush 8, 2) := dk_16 8 (dk_at dksX1_copy_2 21 rfl rfl)
theorem dX1_copy_68 : decode cX1_copy 68 = .ok (.invokestatic 113, 3) := dk_184 0 113 (dk_at dksX1_copy_3 0 rfl rfl)
theorem dX1_copy_71 : decode cX1_copy 71 = .ok (.aload_n 0, 1) := dk_42 (dk_at dksX1_copy_3 3 rfl rfl)
theorem dX1_copy_72 : decode cX1_copy 72 = .ok (.getfield 24, 3) := dk_180 0 24 (dk_at dksX1_copy_3 4 rfl rfl)
theorem dX1_copy_75 : decode cX1_copy 75 = .ok (.iconst 0, 1) := dk_3 (dk_at dksX1_copy_3 7 rfl rfl)
theorem dX1_copy_76 : decode cX1_copy 76 = .ok (.aload_n 1, 1) := dk_43 (dk_at dksX1_copy_3 8 rfl rfl)
theorem dX1_copy_77 : decode cX1_copy 77 = .ok (.getfield 24, 3) := dk_180 0 24 (dk_at dksX1_copy_3 9 rfl rfl)
theorem dX1_copy_80 : decode cX1_copy 80 = .ok (.iconst 0, 1) := dk_3 (dk_at dksX1_copy_3 12 rfl rfl)
theorem dX1_copy_81 : decode cX1_copy 81 = .ok (.bipush 8, 2) := dk_16 8 (dk_at dksX1_copy_3 13 rfl rfl)
theorem dX1_copy_83 : decode cX1_copy 83 = .ok (.invokestatic 113, 3) := dk_184 0 113 (dk_at dksX1_copy_3 15 rfl rfl)
theorem dX1_copy_86 : decode cX1_copy 86 = .ok (.aload_n 0, 1) := dk_42 (dk_at dksX1_copy_3 18 rfl rfl)
theorem dX1_copy_87 : decode cX1_copy 87 = .ok (.getfield 21, 3) := dk_180 0 21 (dk_at dksX1_copy_3 19 rfl rfl)
theorem dX1_copy_90 : decode cX1_copy 90 = .ok (.iconst 0, 1) := dk_3 (dk_at dksX1_copy_3 22 rfl rfl)
theorem dX1_copy_91 : decode cX1_copy 91 = .ok (.aload_n 1, 1) := dk_43 (dk_at dksX1_copy_3 23 rfl rfl)
theorem dX1_copy_92 : decode cX1_copy 92 = .ok (.getfield 21, 3) := dk_180 0 21 (dk_at dksX1_copy_4 0 rfl rfl)
theorem dX1_copy_95 : decode cX1_copy 95 = .ok (.iconst 0, 1) := dk_3 (dk_at dksX1_copy_4 3 rfl rfl)
theorem dX1_copy_96 : decode cX1_copy 96 = .ok (.bipush 8, 2) := dk_16 8 (dk_at dksX1_copy_4 4 rfl rfl)
theorem dX1_copy_98 : decode cX1_copy 98 = .ok (.invokestatic 113, 3) := dk_184 0 113 (dk_at dksX1_copy_4 6 rfl rfl)
theorem dX1_copy_101 : decode cX1_copy 101 = .ok (.aload_n 1, 1) := dk_43 (dk_at dksX1_copy_4 9 rfl rfl)
theorem dX1_copy_102 : decode cX1_copy 102 = .ok (.getfield 36, 3) := dk_180 0 36 (dk_at dksX1_copy_4 10 rfl rfl)
theorem dX1_copy_105 : decode cX1_copy 105 = .ok (.aload_n 0, 1) := dk_42 (dk_at dksX1_copy_4 13 rfl rfl)
theorem dX1_copy_106 : decode cX1_copy 106 = .ok (.getfield 36, 3) := dk_180 0 36 (dk_at dksX1_copy_4 14 rfl rfl)
theorem dX1_copy_109 : decode cX1_copy 109 = .ok (.invokevirtual 119, 3) := dk_182 0 119 (dk_at dksX1_copy_4 17 rfl rfl)
theorem dX1_copy_112 : decode cX1_copy 112 = .ok (.pop, 1) := dk_87 (dk_at dksX1_copy_4 20 rfl rfl)
theorem dX1_copy_113 : decode cX1_copy 113 = .ok (.aload_n 0, 1) := dk_42 (dk_at dksX1_copy_4 21 rfl rfl)
theorem dX1_copy_114 : decode cX1_copy 114 = .ok (.getfield 82, 3) := dk_180 0 82 (dk_at dksX1_copy_5 0 rfl rfl)
theorem dX1_copy_117 : decode cX1_copy 117 = .ok (.iconst 0, 1) := dk_3 (dk_at dksX1_copy_5 3 rfl rfl)
theorem dX1_copy_118 : decode cX1_copy 118 = .ok (.aload_n 1, 1) := dk_43 (dk_at dksX1_copy_5 4 rfl rfl)
theorem dX1_copy_119 : decode cX1_copy 119 = .ok (.getfield 82, 3) := dk_180 0 82 (dk_at dksX1_copy_5 5 rfl rfl)
theorem dX1_copy_122 : decode cX1_copy 122 = .ok (.iconst 0, 1) := dk_3 (dk_at dksX1_copy_5 8 rfl rfl)
theorem dX1_copy_123 : decode cX1_copy 123 = .ok (.aload_n 0, 1) := dk_42 (dk_at dksX1_copy_5 9 rfl rfl)
theorem dX1_copy_124 : decode cX1_copy 124 = .ok (.getfield 82, 3) := dk_180 0 82 (dk_at dksX1_copy_5 10 rfl rfl)
theorem dX1_copy_127 : decode cX1_copy 127 = .ok (.arraylength, 1) := dk_190 (dk_at dksX1_copy_5 13 rfl rfl)
theorem dX1_copy_128 : decode cX1_copy 128 = .ok (.invokestatic 113, 3) := dk_184 0 113 (dk_at dksX1_copy_5 14 rfl rfl)
theorem dX1_copy_131 : decode cX1_copy 131 = .ok (.aload_n 0, 1) := dk_42 (dk_at dksX1_copy_5 17 rfl rfl)
theorem dX1_copy_132 : decode cX1_copy 132 = .ok (.getfield 40, 3) := dk_180 0 40 (dk_at dksX1_copy_5 18 rfl rfl)
theorem dX1_copy_135 : decode cX1_copy 135 = .ok (.invokevirtual 123, 3) := dk_182 0 123 (dk_at dksX1_copy_5 21 rfl rfl)
theorem dX1_copy_138 : decode cX1_copy 138 = .ok (.astore_n 2, 1) := dk_77 (dk_at dksX1_copy_6 0 rfl rfl)
theorem dX1_copy_139 : decode cX1_copy 139 = .ok (.aload_n 2, 1) := dk_44 (dk_at dksX1_copy_6 1 rfl rfl)
theorem dX1_copy_140 : decode cX1_copy 140 = .ok (.invokeinterface 127 1, 5) := by decide +kernel
theorem dX1_copy_145 : decode cX1_copy 145 = .ok (.ifCond .eq 28, 3) := dk_153 0 28 (dk_at dksX1_copy_6 7 rfl rfl)
theorem dX1_copy_148 : decode cX1_copy 148 = .ok (.aload_n 2, 1) := dk_44 (dk_at dksX1_copy_6 10 rfl rfl)
theorem dX1_copy_149 : decode cX1_copy 149 = .ok (.invokeinterface 133 1, 5) := by decide +kernel
theorem dX1_copy_154 : decode cX1_copy 154 = .ok (.checkcast 85, 3) := dk_192 0 85 (dk_at dksX1_copy_6 16 rfl rfl)
theorem dX1_copy_157 : decode cX1_copy 157 = .ok (.astore_n 3, 1) := dk_78 (dk_at dksX1_copy_6 19 rfl rfl)
theorem dX1_copy_158 : decode cX1_copy 158 = .ok (.aload_n 1, 1) := dk_43 (dk_at dksX1_copy_6 20 rfl rfl)
theorem dX1_copy_159 : decode cX1_copy 159 = .ok (.getfield 40, 3) := dk_180 0 40 (dk_at dksX1_copy_6 21 rfl rfl)
theorem dX1_copy_162 : decode cX1_copy 162 = .ok (.aload_n 3, 1) := dk_45 (dk_at dksX1_copy_7 0 rfl rfl)
theorem dX1_copy_163 : decode cX1_copy 163 = .ok (.invokevirtual 137, 3) := dk_182 0 137 (dk_at dksX1_copy_7 1 rfl rfl)
theorem dX1_copy_166 : decode cX1_copy 166 = .ok (.invokevirtual 140, 3) := dk_182 0 140 (dk_at dksX1_copy_7 4 rfl rfl)
theorem dX1_copy_169 : decode cX1_copy 169 = .ok (.pop, 1) := dk_87 (dk_at dksX1_copy_7 7 rfl rfl)
theorem dX1_copy_170 : decode cX1_copy 170 = .ok (.goto (-31), 3) := dk_167 255 225 (dk_at dksX1_copy_7 8 rfl rfl)
theorem dX1_copy_173 : decode cX1_copy 173 = .ok (.aload_n 0, 1) := dk_42 (dk_at dksX1_copy_7 11 rfl rfl)
theorem dX1_copy_174 : decode cX1_copy 174 = .ok (.getfield 46, 3) := dk_180 0 46 (dk_at dksX1_copy_7 12 rfl rfl)
theorem dX1_copy_177 : decode cX1_copy 177 = .ok (.invokevirtual 144, 3) := dk_182 0 144 (dk_at dksX1_copy_7 15 rfl rfl)
theorem dX1_copy_180 : decode cX1_copy 180 = .ok (.invokeinterface 148 1, 5) := by decide +kernel
theorem dX1_copy_185 : decode cX1_copy 185 = .ok (.astore_n 2, 1) := dk_77 (dk_at dksX1_copy_7 23 rfl rfl)
theorem dX1_copy_186 : decode cX1_copy 186 = .ok (.aload_n 2, 1) := dk_44 (dk_at dksX1_copy_8 0 rfl rfl)
theorem dX1_copy_187 : decode cX1_copy 187 = .ok (.invokeinterface 127 1, 5) := by decide +kernel
theorem dX1_copy_192 : decode cX1_copy 192 = .ok (.ifCond .eq 32, 3) := dk_153 0 32 (dk_at dksX1_copy_8 6 rfl rfl)
theorem dX1_copy_195 : decode cX1_copy 195 = .ok (.aload_n 2, 1) := dk_44 (dk_at dksX1_copy_8 9 rfl rfl)
theorem dX1_copy_196 : decode cX1_copy 196 = .ok (.invokeinterface 133 1, 5) := by decide +kernel
theorem dX1_copy_201 : decode cX1_copy 201 = .ok (.checkcast 151, 3) := dk_192 0 151 (dk_at dksX1_copy_8 15 rfl rfl)
theorem dX1_copy_204 : decode cX1_copy 204 = .ok (.astore_n 3, 1) := dk_78 (dk_at dksX1_copy_8 18 rfl rfl)
theorem dX1_copy_205 : decode cX1_copy 205 = .ok (.aload_n 1, 1) := dk_43 (dk_at dksX1_copy_8 19 rfl rfl)
theorem dX1_copy_206 : decode cX1_copy 206 = .ok (.getfield 46, 3) := dk_180 0 46 (dk_at dksX1_copy_8 20 rfl rfl)
theorem dX1_copy_209 : decode cX1_copy 209 = .ok (.aload_n 3, 1) := dk_45 (dk_at dksX1_copy_8 23 rfl rfl)
theorem dX1_copy_210 : decode cX1_copy 210 = .ok (.getfield 153, 3) := dk_180 0 153 (dk_at dksX1_copy_9 0 rfl rfl)
theorem dX1_copy_213 : decode cX1_copy 213 = .ok (.invokestatic 156, 3) := dk_184 0 156 (dk_at dksX1_copy_9 3 rfl rfl)
theorem dX1_copy_216 : decode cX1_copy 216 = .ok (.aload_n 3, 1) := dk_45 (dk_at dksX1_copy_9 6 rfl rfl)
theorem dX1_copy_217 : decode cX1_copy 217 = .ok (.invokevirtual 162, 3) := dk_182 0 162 (dk_at dksX1_copy_9 7 rfl rfl)
theorem dX1_copy_220 : decode cX1_copy 220 = .ok (.pop, 1) := dk_87 (dk_at dksX1_copy_9 10 rfl rfl)
theorem dX1_copy_221 : decode cX1_copy 221 = .ok (.goto (-35), 3) := dk_167 255 221 (dk_at dksX1_copy_9 11 rfl rfl)
theorem dX1_copy_224 : decode cX1_copy 224 = .ok (.aload_n 0, 1) := dk_42 (dk_at dksX1_copy_9 14 rfl rfl)
theorem dX1_copy_225 : decode cX1_copy 225 = .ok (.getfield 62, 3) := dk_180 0 62 (dk_at dksX1_copy_9 15 rfl rfl)
theorem dX1_copy_228 : decode cX1_copy 228 = .ok (.invokevirtual 123, 3) := dk_182 0 123 (dk_at dksX1_copy_9 18 rfl rfl)
theorem dX1_copy_231 : decode cX1_copy 231 = .ok (.astore_n 2, 1) := dk_77 (dk_at dksX1_copy_9 21 rfl rfl)
theorem dX1_copy_232 : decode cX1_copy 232 = .ok (.aload_n 2, 1) := dk_44 (dk_at dksX1_copy_9 22 rfl rfl)
theorem dX1_copy_233 : decode cX1_copy 233 = .ok (.invokeinterface 127 1, 5) := by decide +kernel
theorem dX1_copy_238 : decode cX1_copy 238 = .ok (.ifCond .eq 38, 3) := dk_153 0 38 (dk_at dksX1_copy_10 5 rfl rfl)
theorem dX1_copy_241 : decode cX1_copy 241 = .ok (.aload_n 2, 1) := dk_44 (dk_at dksX1_copy_10 8 rfl rfl)
theorem dX1_copy_242 : decode cX1_copy 242 = .ok (.invokeinterface 133 1, 5) := by decide +kernel
theorem dX1_copy_247 : decode cX1_copy 247 = .ok (.checkcast 85, 3) := dk_192 0 85 (dk_at dksX1_copy_10 14 rfl rfl)
theorem dX1_copy_250 : decode cX1_copy 250 = .ok (.astore_n 3, 1) := dk_78 (dk_at dksX1_copy_10 17 rfl rfl)
theorem dX1_copy_251 : decode cX1_copy 251 = .ok (.aload_n 1, 1) := dk_43 (dk_at dksX1_copy_10 18 rfl rfl)
theorem dX1_copy_252 : decode cX1_copy 252 = .ok (.getfield 62, 3) := dk_180 0 62 (dk_at dksX1_copy_10 19 rfl rfl)
theorem dX1_copy_255 : decode cX1_copy 255 = .ok (.aload_n 1, 1) := dk_43 (dk_at dksX1_copy_10 22 rfl rfl)
theorem dX1_copy_256 : decode cX1_copy 256 = .ok (.getfield 40, 3) := dk_180 0 40 (dk_at dksX1_copy_11 0 rfl rfl)
theorem dX1_copy_259 : decode cX1_copy 259 = .ok (.aload_n 3, 1) := dk_45 (dk_at dksX1_copy_11 3 rfl rfl)
theorem dX1_copy_260 : decode cX1_copy 260 = .ok (.getfield 166, 3) := dk_180 0 166 (dk_at dksX1_copy_11 4 rfl rfl)
theorem dX1_copy_263 : decode cX1_copy 263 = .ok (.invokevirtual 167, 3) := dk_182 0 167 (dk_at dksX1_copy_11 7 rfl rfl)
theorem dX1_copy_266 : decode cX1_copy 266 = .ok (.checkcast 85, 3) := dk_192 0 85 (dk_at dksX1_copy_11 10 rfl rfl)
theorem dX1_copy_269 : decode cX1_copy 269 = .ok (.invokevirtual 140, 3) := dk_182 0 140 (dk_at dksX1_copy_11 13 rfl rfl)
theorem dX1_copy_272 : decode cX1_copy 272 = .ok (.pop, 1) := dk_87 (dk_at dksX1_copy_11 16 rfl rfl)
theorem dX1_copy_273 : decode cX1_copy 273 = .ok (.goto (-41), 3) := dk_167 255 215 (dk_at dksX1_copy_11 17 rfl rfl)
theorem dX1_copy_276 : decode cX1_copy 276 = .ok (.aload_n 0, 1) := dk_42 (dk_at dksX1_copy_11 20 rfl rfl)
theorem dX1_copy_277 : decode cX1_copy 277 = .ok (.getfield 58, 3) := dk_180 0 58 (dk_at dksX1_copy_11 21 rfl rfl)
theorem dX1_copy_280 : decode cX1_copy 280 = .ok (.invokevirtual 171, 3) := dk_182 0 171 (dk_at dksX1_copy_12 0 rfl rfl)
theorem dX1_copy_283 : decode cX1_copy 283 = .ok (.astore_n 2, 1) := dk_77 (dk_at dksX1_copy_12 3 rfl rfl)
theorem dX1_copy_284 : decode cX1_copy 284 = .ok (.aload_n 2, 1) := dk_44 (dk_at dksX1_copy_12 4 rfl rfl)
theorem dX1_copy_285 : decode cX1_copy 285 = .ok (.invokeinterface 127 1, 5) := by decide +kernel
theorem dX1_copy_290 : decode cX1_copy 290 = .ok (.ifCond .eq 65, 3) := dk_153 0 65 (dk_at dksX1_copy_12 10 rfl rfl)
theorem dX1_copy_293 : decode cX1_copy 293 = .ok (.aload_n 2, 1) := dk_44 (dk_at dksX1_copy_12 13 rfl rfl)
theorem dX1_copy_294 : decode cX1_copy 294 = .ok (.invokeinterface 133 1, 5) := by decide +kernel
theorem dX1_copy_299 : decode cX1_copy 299 = .ok (.checkcast 172, 3) := dk_192 0 172 (dk_at dksX1_copy_12 19 rfl rfl)
theorem dX1_copy_302 : decode cX1_copy 302 = .ok (.astore_n 3, 1) := dk_78 (dk_at dksX1_copy_12 22 rfl rfl)
theorem dX1_copy_303 : decode cX1_copy 303 = .ok (.aload_n 1, 1) := dk_43 (dk_at dksX1_copy_12 23 rfl rfl)
theorem dX1_copy_304 : decode cX1_copy 304 = .ok (.getfield 40, 3) := dk_180 0 40 (dk_at dksX1_copy_13 0 rfl rfl)
theorem dX1_copy_307 : decode cX1_copy 307 = .ok (.aload_n 3, 1) := dk_45 (dk_at dksX1_copy_13 3 rfl rfl)
theorem dX1_copy_308 : decode cX1_copy 308 = .ok (.getfield 174, 3) := dk_180 0 174 (dk_at dksX1_copy_13 4 rfl rfl)
theorem dX1_copy_311 : decode cX1_copy 311 = .ok (.getfield 166, 3) := dk_180 0 166 (dk_at dksX1_copy_13 7 rfl rfl)
theorem dX1_copy_314 : decode cX1_copy 314 = .ok (.invokevirtual 167, 3) := dk_182 0 167 (dk_at dksX1_copy_13 10 rfl rfl)
theorem dX1_copy_317 : decode cX1_copy 317 = .ok (.checkcast 85, 3) := dk_192 0 85 (dk_at dksX1_copy_13 13 rfl rfl)
theorem dX1_copy_320 : decode cX1_copy 320 = .ok (.astore 4, 2) := dk_58 4 (dk_at dksX1_copy_13 16 rfl rfl)
theorem dX1_copy_322 : decode cX1_copy 322 = .ok (.aload_n 1, 1) := dk_43 (dk_at dksX1_copy_13 18 rfl rfl)
theorem dX1_copy_323 : decode cX1_copy 323 = .ok (.getfield 58, 3) := dk_180 0 58 (dk_at dksX1_copy_13 19 rfl rfl)
theorem dX1_copy_326 : decode cX1_copy 326 = .ok (.new 172, 3) := dk_187 0 172 (dk_at dksX1_copy_14 0 rfl rfl)
theorem dX1_copy_329 : decode cX1_copy 329 = .ok (.dup, 1) := dk_89 (dk_at dksX1_copy_14 3 rfl rfl)
theorem dX1_copy_330 : decode cX1_copy 330 = .ok (.aload 4, 2) := dk_25 4 (dk_at dksX1_copy_14 4 rfl rfl)
theorem dX1_copy_332 : decode cX1_copy 332 = .ok (.aload 4, 2) := dk_25 4 (dk_at dksX1_copy_14 6 rfl rfl)
theorem dX1_copy_334 : decode cX1_copy 334 = .ok (.getfield 178, 3) := dk_180 0 178 (dk_at dksX1_copy_14 8 rfl rfl)
theorem dX1_copy_337 : decode cX1_copy 337 = .ok (.aload_n 3, 1) := dk_45 (dk_at dksX1_copy_14 11 rfl rfl)
theorem dX1_copy_338 : decode cX1_copy 338 = .ok (.getfield 182, 3) := dk_180 0 182 (dk_at dksX1_copy_14 12 rfl rfl)
theorem dX1_copy_341 : decode cX1_copy 341 = .ok (.getfield 186, 3) := dk_180 0 186 (dk_at dksX1_copy_14 15 rfl rfl)
theorem dX1_copy_344 : decode cX1_copy 344 = .ok (.aaload, 1) := dk_50 (dk_at dksX1_copy_14 18 rfl rfl)
theorem dX1_copy_345 : decode cX1_copy 345 = .ok (.invokespecial 189, 3) := dk_183 0 189 (dk_at dksX1_copy_14 19 rfl rfl)
theorem dX1_copy_348 : decode cX1_copy 348 = .ok (.invokevirtual 192, 3) := dk_182 0 192 (dk_at dksX1_copy_15 0 rfl rfl)
theorem dX1_copy_351 : decode cX1_copy 351 = .ok (.pop, 1) := dk_87 (dk_at dksX1_copy_15 3 rfl rfl)
theorem dX1_copy_352 : decode cX1_copy 352 = .ok (.goto (-68), 3) := dk_167 255 188 (dk_at dksX1_copy_15 4 rfl rfl)
theorem dX1_copy_355 : decode cX1_copy 355 = .ok (.aload_n 1, 1) := dk_43 (dk_at dksX1_copy_15 7 rfl rfl)
theorem dX1_copy_356 : decode cX1_copy 356 = .ok (.getfield 68, 3) := dk_180 0 68 (dk_at dksX1_copy_15 8 rfl rfl)
theorem dX1_copy_359 : decode cX1_copy 359 = .ok (.aload_n 0, 1) := dk_42 (dk_at dksX1_copy_15 11 rfl rfl)
theorem dX1_copy_360 : decode cX1_copy 360 = .ok (.getfield 68, 3) := dk_180 0 68 (dk_at dksX1_copy_15 12 rfl rfl)
theorem dX1_copy_363 : decode cX1_copy 363 = .ok (.invokevirtual 193, 3) := dk_182 0 193 (dk_at dksX1_copy_15 15 rfl rfl)
theorem dX1_copy_366 : decode cX1_copy 366 = .ok (.aload_n 1, 1) := dk_43 (dk_at dksX1_copy_15 18 rfl rfl)
theorem dX1_copy_367 : decode cX1_copy 367 = .ok (.aload_n 0, 1) := dk_42 (dk_at dksX1_copy_15 19 rfl rfl)
theorem dX1_copy_368 : decode cX1_copy 368 = .ok (.getfield 75, 3) := dk_180 0 75 (dk_at dksX1_copy_15 20 rfl rfl)
theorem dX1_copy_371 : decode cX1_copy 371 = .ok (.putfield 75, 3) := dk_181 0 75 (dk_at dksX1_copy_16 0 rfl rfl)
theorem dX1_copy_374 : decode cX1_copy 374 = .ok (.aload_n 1, 1) := dk_43 (dk_at dksX1_copy_16 3 rfl rfl)
theorem dX1_copy_375 : decode cX1_copy 375 = .ok (.aload_n 0, 1) := dk_42 (dk_at dksX1_copy_16 4 rfl rfl)
theorem dX1_copy_376 : decode cX1_copy 376 = .ok (.getfield 79, 3) := dk_180 0 79 (dk_at dksX1_copy_16 5 rfl rfl)
theorem dX1_copy_379 : decode cX1_copy 379 = .ok (.putfield 79, 3) := dk_181 0 79 (dk_at dksX1_copy_16 8 rfl rfl)
theorem dX1_copy_382 : decode cX1_copy 382 = .ok (.aload_n 1, 1) := dk_43 (dk_at dksX1_copy_16 11 rfl rfl)
theorem dX1_copy_383 : decode cX1_copy 383 = .ok (.aload_n 0, 1) := dk_42 (dk_at dksX1_copy_16 12 rfl rfl)
theorem dX1_copy_384 : decode cX1_copy 384 = .ok (.getfield 197, 3) := dk_180 0 197 (dk_at dksX1_copy_16 13 rfl rfl)
theorem dX1_copy_387 : decode cX1_copy 387 = .ok (.putfield 197, 3) := dk_181 0 197 (dk_at dksX1_copy_16 16 rfl rfl)
theorem dX1_copy_390 : decode cX1_copy 390 = .ok (.aload_n 1, 1) := dk_43 (dk_at dksX1_copy_16 19 rfl rfl)
theorem dX1_copy_391 : decode cX1_copy 391 = .ok (.aload_n 0, 1) := dk_42 (dk_at dksX1_copy_16 20 rfl rfl)
theorem dX1_copy_392 : decode cX1_copy 392 = .ok (.getfield 200, 3) := dk_180 0 200 (dk_at dksX1_copy_16 21 rfl rfl)
theorem dX1_copy_395 : decode cX1_copy 395 = .ok (.putfield 200, 3) := dk_181 0 200 (dk_at dksX1_copy_17 0 rfl rfl)
theorem dX1_copy_398 : decode cX1_copy 398 = .ok (.aload_n 1, 1) := dk_43 (dk_at dksX1_copy_17 3 rfl rfl)
theorem dX1_copy_399 : decode cX1_copy 399 = .ok (.aload_n 0, 1) := dk_42 (dk_at dksX1_copy_17 4 rfl rfl)
theorem dX1_copy_400 : decode cX1_copy 400 = .ok (.getfield 203, 3) := dk_180 0 203 (dk_at dksX1_copy_17 5 rfl rfl)
theorem dX1_copy_403 : decode cX1_copy 403 = .ok (.putfield 203, 3) := dk_181 0 203 (dk_at dksX1_copy_17 8 rfl rfl)
theorem dX1_copy_406 : decode cX1_copy 406 = .ok (.aload_n 1, 1) := dk_43 (dk_at dksX1_copy_17 11 rfl rfl)
theorem dX1_copy_407 : decode cX1_copy 407 = .ok (.areturn, 1) := dk_176 (dk_at dksX1_copy_17 12 rfl rfl)
abbrev cX1_jobsThat : ByteArray := prog_8_method_39_code
def dkwX1_jobsThat_2 : List UInt8 := [3, 96, 61, 167, 255, 219, 28, 172]
abbrev dktX1_jobsThat_2 : List UInt8 := dkwX1_jobsThat_2 ++ []
def dkwX1_jobsThat_1 : List UInt8 := [185, 0, 133, 1, 0, 192, 0, 85, 58, 4, 28, 25, 4, 180, 0, 219, 27, 160, 0, 7, 4, 167, 0, 4]
abbrev dktX1_jobsThat_1 : List UInt8 := dkwX1_jobsThat_1 ++ dktX1_jobsThat_2
def dkwX1_jobsThat_0 : List UInt8 := [3, 61, 42, 180, 0, 40, 182, 0, 123, 78, 45, 185, 0, 127, 1, 0, 153, 0, 34, 45]
abbrev dktX1_jobsThat_0 : List UInt8 := dkwX1_jobsThat_0 ++ dktX1_jobsThat_1
theorem dksX1_jobsThat_0 : cX1_jobsThat.data.toList.drop 0 = dktX1_jobsThat_0 := by decide +kernel
theorem dksX1_jobsThat_1 : cX1_jobsThat.data.toList.drop 20 = dktX1_jobsThat_1 := dk_seg dksX1_jobsThat_0 20 rfl rfl
theorem dksX1_jobsThat_2 : cX1_jobsThat.data.toList.drop 44 = dktX1_jobsThat_2 := dk_seg dksX1_jobsThat_1 24 rfl rfl
theorem dX1_jobsThat_0 : decode cX1_jobsThat 0 = .ok (.iconst 0, 1) := dk_3 (dk_at dksX1_jobsThat_0 0 rfl rfl)
theorem dX1_jobsThat_1 : decode cX1_jobsThat 1 = .ok (.istore_n 2, 1) := dk_61 (dk_at dksX1_jobsThat_0 1 rfl rfl)
theorem dX1_jobsThat_2 : decode cX1_jobsThat 2 = .ok (.aload_n 0, 1) := dk_42 (dk_at dksX1_jobsThat_0 2 rfl rfl)
theorem dX1_jobsThat_3 : decode cX1_jobsThat 3 = .ok (.getfield 40, 3) := dk_180 0 40 (dk_at dksX1_jobsThat_0 3 rfl rfl)
theorem dX1_jobsThat_6 : decode cX1_jobsThat 6 = .ok (.invokevirtual 123, 3) := dk_182 0 123 (dk_at dksX1_jobsThat_0 6 rfl rfl)
theorem dX1_jobsThat_9 : decode cX1_jobsThat 9 = .ok (.astore_n 3, 1) := dk_78 (dk_at dksX1_jobsThat_0 9 rfl rfl)
theorem dX1_jobsThat_10 : decode cX1_jobsThat 10 = .ok (.aload_n 3, 1) := dk_45 (dk_at dksX1_jobsThat_0 10 rfl rfl)
theorem dX1_jobsThat_11 : decode cX1_jobsThat 11 = .ok (.invokeinterface 127 1, 5) := by decide +kernel
theorem dX1_jobsThat_16 : decode cX1_jobsThat 16 = .ok (.ifCond .eq 34, 3) := dk_153 0 34 (dk_at dksX1_jobsThat_0 16 rfl rfl)
theorem dX1_jobsThat_19 : decode cX1_jobsThat 19 = .ok (.aload_n 3, 1) := dk_45 (dk_at dksX1_jobsThat_0 19 rfl rfl)
theorem dX1_jobsThat_20 : decode cX1_jobsThat 20 = .ok (.invokeinterface 133 1, 5) := by decide +kernel
theorem dX1_jobsThat_25 : decode cX1_jobsThat 25 = .ok (.checkcast 85, 3) := dk_192 0 85 (dk_at dksX1_jobsThat_1 5 rfl rfl)
theorem dX1_jobsThat_28 : decode cX1_jobsThat 28 = .ok (.astore 4, 2) := dk_58 4 (dk_at dksX1_jobsThat_1 8 rfl rfl)
theorem dX1_jobsThat_30 : decode cX1_jobsThat 30 = .ok (.iload_n 2, 1) := dk_28 (dk_at dksX1_jobsThat_1 10 rfl rfl)
theorem dX1_jobsThat_31 : decode cX1_jobsThat 31 = .ok (.aload 4, 2) := dk_25 4 (dk_at dksX1_jobsThat_1 11 rfl rfl)
theorem dX1_jobsThat_33 : decode cX1_jobsThat 33 = .ok (.getfield 219, 3) := dk_180 0 219 (dk_at dksX1_jobsThat_1 13 rfl rfl)
theorem dX1_jobsThat_36 : decode cX1_jobsThat 36 = .ok (.iload_n 1, 1) := dk_27 (dk_at dksX1_jobsThat_1 16 rfl rfl)
theorem dX1_jobsThat_37 : decode cX1_jobsThat 37 = .ok (.if_icmp .ne 7, 3) := dk_160 0 7 (dk_at dksX1_jobsThat_1 17 rfl rfl)
theorem dX1_jobsThat_40 : decode cX1_jobsThat 40 = .ok (.iconst 1, 1) := dk_4 (dk_at dksX1_jobsThat_1 20 rfl rfl)
theorem dX1_jobsThat_41 : decode cX1_jobsThat 41 = .ok (.goto 4, 3) := dk_167 0 4 (dk_at dksX1_jobsThat_1 21 rfl rfl)
theorem dX1_jobsThat_44 : decode cX1_jobsThat 44 = .ok (.iconst 0, 1) := dk_3 (dk_at dksX1_jobsThat_2 0 rfl rfl)
theorem dX1_jobsThat_45 : decode cX1_jobsThat 45 = .ok (.iadd, 1) := dk_96 (dk_at dksX1_jobsThat_2 1 rfl rfl)
theorem dX1_jobsThat_46 : decode cX1_jobsThat 46 = .ok (.istore_n 2, 1) := dk_61 (dk_at dksX1_jobsThat_2 2 rfl rfl)
theorem dX1_jobsThat_47 : decode cX1_jobsThat 47 = .ok (.goto (-37), 3) := dk_167 255 219 (dk_at dksX1_jobsThat_2 3 rfl rfl)
theorem dX1_jobsThat_50 : decode cX1_jobsThat 50 = .ok (.iload_n 2, 1) := dk_28 (dk_at dksX1_jobsThat_2 6 rfl rfl)
theorem dX1_jobsThat_51 : decode cX1_jobsThat 51 = .ok (.ireturn, 1) := dk_172 (dk_at dksX1_jobsThat_2 7 rfl rfl)
abbrev cX1_heldNow : ByteArray := prog_8_method_38_code
def dkwX1_heldNow_1 : List UInt8 := [185, 0, 133, 1, 0, 192, 0, 172, 78, 27, 45, 180, 0, 182, 180, 0, 248, 96, 60, 167, 255, 227, 27, 172]
abbrev dktX1_heldNow_1 : List UInt8 := dkwX1_heldNow_1 ++ []
def dkwX1_heldNow_0 : List UInt8 := [3, 60, 42, 180, 0, 58, 182, 0, 171, 77, 44, 185, 0, 127, 1, 0, 153, 0, 26, 44]
abbrev dktX1_heldNow_0 : List UInt8 := dkwX1_heldNow_0 ++ dktX1_heldNow_1
theorem dksX1_heldNow_0 : cX1_heldNow.data.toList.drop 0 = dktX1_heldNow_0 := by decide +kernel
theorem dksX1_heldNow_1 : cX1_heldNow.data.toList.drop 20 = dktX1_heldNow_1 := dk_seg dksX1_heldNow_0 20 rfl rfl
theorem dX1_heldNow_0 : decode cX1_heldNow 0 = .ok (.iconst 0, 1) := dk_3 (dk_at dksX1_heldNow_0 0 rfl rfl)
theorem dX1_heldNow_1 : decode cX1_heldNow 1 = .ok (.istore_n 1, 1) := dk_60 (dk_at dksX1_heldNow_0 1 rfl rfl)
theorem dX1_heldNow_2 : decode cX1_heldNow 2 = .ok (.aload_n 0, 1) := dk_42 (dk_at dksX1_heldNow_0 2 rfl rfl)
theorem dX1_heldNow_3 : decode cX1_heldNow 3 = .ok (.getfield 58, 3) := dk_180 0 58 (dk_at dksX1_heldNow_0 3 rfl rfl)
theorem dX1_heldNow_6 : decode cX1_heldNow 6 = .ok (.invokevirtual 171, 3) := dk_182 0 171 (dk_at dksX1_heldNow_0 6 rfl rfl)
theorem dX1_heldNow_9 : decode cX1_heldNow 9 = .ok (.astore_n 2, 1) := dk_77 (dk_at dksX1_heldNow_0 9 rfl rfl)
theorem dX1_heldNow_10 : decode cX1_heldNow 10 = .ok (.aload_n 2, 1) := dk_44 (dk_at dksX1_heldNow_0 10 rfl rfl)
theorem dX1_heldNow_11 : decode cX1_heldNow 11 = .ok (.invokeinterface 127 1, 5) := by decide +kernel
theorem dX1_heldNow_16 : decode cX1_heldNow 16 = .ok (.ifCond .eq 26, 3) := dk_153 0 26 (dk_at dksX1_heldNow_0 16 rfl rfl)
theorem dX1_heldNow_19 : decode cX1_heldNow 19 = .ok (.aload_n 2, 1) := dk_44 (dk_at dksX1_heldNow_0 19 rfl rfl)
theorem dX1_heldNow_20 : decode cX1_heldNow 20 = .ok (.invokeinterface 133 1, 5) := by decide +kernel
theorem dX1_heldNow_25 : decode cX1_heldNow 25 = .ok (.checkcast 172, 3) := dk_192 0 172 (dk_at dksX1_heldNow_1 5 rfl rfl)
theorem dX1_heldNow_28 : decode cX1_heldNow 28 = .ok (.astore_n 3, 1) := dk_78 (dk_at dksX1_heldNow_1 8 rfl rfl)
theorem dX1_heldNow_29 : decode cX1_heldNow 29 = .ok (.iload_n 1, 1) := dk_27 (dk_at dksX1_heldNow_1 9 rfl rfl)
theorem dX1_heldNow_30 : decode cX1_heldNow 30 = .ok (.aload_n 3, 1) := dk_45 (dk_at dksX1_heldNow_1 10 rfl rfl)
theorem dX1_heldNow_31 : decode cX1_heldNow 31 = .ok (.getfield 182, 3) := dk_180 0 182 (dk_at dksX1_heldNow_1 11 rfl rfl)
theorem dX1_heldNow_34 : decode cX1_heldNow 34 = .ok (.getfield 248, 3) := dk_180 0 248 (dk_at dksX1_heldNow_1 14 rfl rfl)
theorem dX1_heldNow_37 : decode cX1_heldNow 37 = .ok (.iadd, 1) := dk_96 (dk_at dksX1_heldNow_1 17 rfl rfl)
theorem dX1_heldNow_38 : decode cX1_heldNow 38 = .ok (.istore_n 1, 1) := dk_60 (dk_at dksX1_heldNow_1 18 rfl rfl)
theorem dX1_heldNow_39 : decode cX1_heldNow 39 = .ok (.goto (-29), 3) := dk_167 255 227 (dk_at dksX1_heldNow_1 19 rfl rfl)
theorem dX1_heldNow_42 : decode cX1_heldNow 42 = .ok (.iload_n 1, 1) := dk_27 (dk_at dksX1_heldNow_1 22 rfl rfl)
theorem dX1_heldNow_43 : decode cX1_heldNow 43 = .ok (.ireturn, 1) := dk_172 (dk_at dksX1_heldNow_1 23 rfl rfl)
abbrev cX2_init : ByteArray := prog_6_method_1_code
theorem dX2_init_0 : decode cX2_init 0 = .ok (.aload_n 0, 1) := by decide +kernel
theorem dX2_init_1 : decode cX2_init 1 = .ok (.invokespecial 1, 3) := by decide +kernel
theorem dX2_init_4 : decode cX2_init 4 = .ok (.return_, 1) := by decide +kernel
abbrev cX3_init : ByteArray := prog_24_method_1_code
def dkwX3_init_0 : List UInt8 := [42, 183, 0, 3, 42, 16, 80, 188, 10, 181, 0, 9, 42, 182, 0, 15, 177]
abbrev dktX3_init_0 : List UInt8 := dkwX3_init_0 ++ []
theorem dksX3_init_0 : cX3_init.data.toList.drop 0 = dktX3_init_0 := by decide +kernel
theorem dX3_init_0 : decode cX3_init 0 = .ok (.aload_n 0, 1) := dk_42 (dk_at dksX3_init_0 0 rfl rfl)
theorem dX3_init_1 : decode cX3_init 1 = .ok (.invokespecial 3, 3) := dk_183 0 3 (dk_at dksX3_init_0 1 rfl rfl)
theorem dX3_init_4 : decode cX3_init 4 = .ok (.aload_n 0, 1) := dk_42 (dk_at dksX3_init_0 4 rfl rfl)
theorem dX3_init_5 : decode cX3_init 5 = .ok (.bipush 80, 2) := dk_16 80 (dk_at dksX3_init_0 5 rfl rfl)
theorem dX3_init_7 : decode cX3_init 7 = .ok (.newarray .int, 2) := dk_188_10 (dk_at dksX3_init_0 7 rfl rfl)
theorem dX3_init_9 : decode cX3_init 9 = .ok (.putfield 9, 3) := dk_181 0 9 (dk_at dksX3_init_0 9 rfl rfl)
theorem dX3_init_12 : decode cX3_init 12 = .ok (.aload_n 0, 1) := dk_42 (dk_at dksX3_init_0 12 rfl rfl)
theorem dX3_init_13 : decode cX3_init 13 = .ok (.invokevirtual 15, 3) := dk_182 0 15 (dk_at dksX3_init_0 13 rfl rfl)
theorem dX3_init_16 : decode cX3_init 16 = .ok (.return_, 1) := dk_177 (dk_at dksX3_init_0 16 rfl rfl)
abbrev cX4_init : ByteArray := prog_9_method_1_code
def dkwX4_init_0 : List UInt8 := [42, 43, 181, 0, 1, 42, 183, 0, 7, 177]
abbrev dktX4_init_0 : List UInt8 := dkwX4_init_0 ++ []
theorem dksX4_init_0 : cX4_init.data.toList.drop 0 = dktX4_init_0 := by decide +kernel
theorem dX4_init_0 : decode cX4_init 0 = .ok (.aload_n 0, 1) := dk_42 (dk_at dksX4_init_0 0 rfl rfl)
theorem dX4_init_1 : decode cX4_init 1 = .ok (.aload_n 1, 1) := dk_43 (dk_at dksX4_init_0 1 rfl rfl)
theorem dX4_init_2 : decode cX4_init 2 = .ok (.putfield 1, 3) := dk_181 0 1 (dk_at dksX4_init_0 2 rfl rfl)
theorem dX4_init_5 : decode cX4_init 5 = .ok (.aload_n 0, 1) := dk_42 (dk_at dksX4_init_0 5 rfl rfl)
theorem dX4_init_6 : decode cX4_init 6 = .ok (.invokespecial 7, 3) := dk_183 0 7 (dk_at dksX4_init_0 6 rfl rfl)
theorem dX4_init_9 : decode cX4_init 9 = .ok (.return_, 1) := dk_177 (dk_at dksX4_init_0 9 rfl rfl)
abbrev cX5_init : ByteArray := prog_10_method_1_code
def dkwX5_init_0 : List UInt8 := [42, 183, 0, 1, 42, 187, 0, 7, 89, 183, 0, 9, 181, 0, 10, 177]
abbrev dktX5_init_0 : List UInt8 := dkwX5_init_0 ++ []
theorem dksX5_init_0 : cX5_init.data.toList.drop 0 = dktX5_init_0 := by decide +kernel
theorem dX5_init_0 : decode cX5_init 0 = .ok (.aload_n 0, 1) := dk_42 (dk_at dksX5_init_0 0 rfl rfl)
theorem dX5_init_1 : decode cX5_init 1 = .ok (.invokespecial 1, 3) := dk_183 0 1 (dk_at dksX5_init_0 1 rfl rfl)
theorem dX5_init_4 : decode cX5_init 4 = .ok (.aload_n 0, 1) := dk_42 (dk_at dksX5_init_0 4 rfl rfl)
theorem dX5_init_5 : decode cX5_init 5 = .ok (.new 7, 3) := dk_187 0 7 (dk_at dksX5_init_0 5 rfl rfl)
theorem dX5_init_8 : decode cX5_init 8 = .ok (.dup, 1) := dk_89 (dk_at dksX5_init_0 8 rfl rfl)
theorem dX5_init_9 : decode cX5_init 9 = .ok (.invokespecial 9, 3) := dk_183 0 9 (dk_at dksX5_init_0 9 rfl rfl)
theorem dX5_init_12 : decode cX5_init 12 = .ok (.putfield 10, 3) := dk_181 0 10 (dk_at dksX5_init_0 12 rfl rfl)
theorem dX5_init_15 : decode cX5_init 15 = .ok (.return_, 1) := dk_177 (dk_at dksX5_init_0 15 rfl rfl)
abbrev cX1_shareOf : ByteArray := prog_8_method_5_code
def dkwX1_shareOf_0 : List UInt8 := [187, 0, 236, 89, 27, 42, 180, 0, 24, 27, 47, 42, 180, 0, 17, 27, 46, 183, 0, 238, 176]
abbrev dktX1_shareOf_0 : List UInt8 := dkwX1_shareOf_0 ++ []
theorem dksX1_shareOf_0 : cX1_shareOf.data.toList.drop 0 = dktX1_shareOf_0 := by decide +kernel
theorem dX1_shareOf_0 : decode cX1_shareOf 0 = .ok (.new 236, 3) := dk_187 0 236 (dk_at dksX1_shareOf_0 0 rfl rfl)
theorem dX1_shareOf_3 : decode cX1_shareOf 3 = .ok (.dup, 1) := dk_89 (dk_at dksX1_shareOf_0 3 rfl rfl)
theorem dX1_shareOf_4 : decode cX1_shareOf 4 = .ok (.iload_n 1, 1) := dk_27 (dk_at dksX1_shareOf_0 4 rfl rfl)
theorem dX1_shareOf_5 : decode cX1_shareOf 5 = .ok (.aload_n 0, 1) := dk_42 (dk_at dksX1_shareOf_0 5 rfl rfl)
theorem dX1_shareOf_6 : decode cX1_shareOf 6 = .ok (.getfield 24, 3) := dk_180 0 24 (dk_at dksX1_shareOf_0 6 rfl rfl)
theorem dX1_shareOf_9 : decode cX1_shareOf 9 = .ok (.iload_n 1, 1) := dk_27 (dk_at dksX1_shareOf_0 9 rfl rfl)
theorem dX1_shareOf_10 : decode cX1_shareOf 10 = .ok (.laload, 1) := dk_47 (dk_at dksX1_shareOf_0 10 rfl rfl)
theorem dX1_shareOf_11 : decode cX1_shareOf 11 = .ok (.aload_n 0, 1) := dk_42 (dk_at dksX1_shareOf_0 11 rfl rfl)
theorem dX1_shareOf_12 : decode cX1_shareOf 12 = .ok (.getfield 17, 3) := dk_180 0 17 (dk_at dksX1_shareOf_0 12 rfl rfl)
theorem dX1_shareOf_15 : decode cX1_shareOf 15 = .ok (.iload_n 1, 1) := dk_27 (dk_at dksX1_shareOf_0 15 rfl rfl)
theorem dX1_shareOf_16 : decode cX1_shareOf 16 = .ok (.iaload, 1) := dk_46 (dk_at dksX1_shareOf_0 16 rfl rfl)
theorem dX1_shareOf_17 : decode cX1_shareOf 17 = .ok (.invokespecial 238, 3) := dk_183 0 238 (dk_at dksX1_shareOf_0 17 rfl rfl)
theorem dX1_shareOf_20 : decode cX1_shareOf 20 = .ok (.areturn, 1) := dk_176 (dk_at dksX1_shareOf_0 20 rfl rfl)
abbrev cX15_next_2 : ByteArray := prog_15_method_4_code
def dkwX15_next_2_2 : List UInt8 := [42, 42, 27, 182, 0, 15, 181, 0, 19, 44, 176]
abbrev dktX15_next_2_2 : List UInt8 := dkwX15_next_2_2 ++ []
def dkwX15_next_2_1 : List UInt8 := [132, 1, 1, 167, 255, 235, 187, 0, 29, 89, 42, 180, 0, 19, 27, 42, 180, 0, 19, 100, 183, 0, 31, 77]
abbrev dktX15_next_2_1 : List UInt8 := dkwX15_next_2_1 ++ dktX15_next_2_2
def dkwX15_next_2_0 : List UInt8 := [42, 180, 0, 19, 60, 27, 16, 16, 162, 0, 21, 42, 180, 0, 3, 180, 0, 23, 27, 51, 153, 0, 9]
abbrev dktX15_next_2_0 : List UInt8 := dkwX15_next_2_0 ++ dktX15_next_2_1
theorem dksX15_next_2_0 : cX15_next_2.data.toList.drop 0 = dktX15_next_2_0 := by decide +kernel
theorem dksX15_next_2_1 : cX15_next_2.data.toList.drop 23 = dktX15_next_2_1 := dk_seg dksX15_next_2_0 23 rfl rfl
theorem dksX15_next_2_2 : cX15_next_2.data.toList.drop 47 = dktX15_next_2_2 := dk_seg dksX15_next_2_1 24 rfl rfl
theorem dX15_next_2_0 : decode cX15_next_2 0 = .ok (.aload_n 0, 1) := dk_42 (dk_at dksX15_next_2_0 0 rfl rfl)
theorem dX15_next_2_1 : decode cX15_next_2 1 = .ok (.getfield 19, 3) := dk_180 0 19 (dk_at dksX15_next_2_0 1 rfl rfl)
theorem dX15_next_2_4 : decode cX15_next_2 4 = .ok (.istore_n 1, 1) := dk_60 (dk_at dksX15_next_2_0 4 rfl rfl)
theorem dX15_next_2_5 : decode cX15_next_2 5 = .ok (.iload_n 1, 1) := dk_27 (dk_at dksX15_next_2_0 5 rfl rfl)
theorem dX15_next_2_6 : decode cX15_next_2 6 = .ok (.bipush 16, 2) := dk_16 16 (dk_at dksX15_next_2_0 6 rfl rfl)
theorem dX15_next_2_8 : decode cX15_next_2 8 = .ok (.if_icmp .ge 21, 3) := dk_162 0 21 (dk_at dksX15_next_2_0 8 rfl rfl)
theorem dX15_next_2_11 : decode cX15_next_2 11 = .ok (.aload_n 0, 1) := dk_42 (dk_at dksX15_next_2_0 11 rfl rfl)
theorem dX15_next_2_12 : decode cX15_next_2 12 = .ok (.getfield 3, 3) := dk_180 0 3 (dk_at dksX15_next_2_0 12 rfl rfl)
theorem dX15_next_2_15 : decode cX15_next_2 15 = .ok (.getfield 23, 3) := dk_180 0 23 (dk_at dksX15_next_2_0 15 rfl rfl)
theorem dX15_next_2_18 : decode cX15_next_2 18 = .ok (.iload_n 1, 1) := dk_27 (dk_at dksX15_next_2_0 18 rfl rfl)
theorem dX15_next_2_19 : decode cX15_next_2 19 = .ok (.baload, 1) := dk_51 (dk_at dksX15_next_2_0 19 rfl rfl)
theorem dX15_next_2_20 : decode cX15_next_2 20 = .ok (.ifCond .eq 9, 3) := dk_153 0 9 (dk_at dksX15_next_2_0 20 rfl rfl)
theorem dX15_next_2_23 : decode cX15_next_2 23 = .ok (.iinc 1 1, 3) := dk_132 1 1 (dk_at dksX15_next_2_1 0 rfl rfl)
theorem dX15_next_2_26 : decode cX15_next_2 26 = .ok (.goto (-21), 3) := dk_167 255 235 (dk_at dksX15_next_2_1 3 rfl rfl)
theorem dX15_next_2_29 : decode cX15_next_2 29 = .ok (.new 29, 3) := dk_187 0 29 (dk_at dksX15_next_2_1 6 rfl rfl)
theorem dX15_next_2_32 : decode cX15_next_2 32 = .ok (.dup, 1) := dk_89 (dk_at dksX15_next_2_1 9 rfl rfl)
theorem dX15_next_2_33 : decode cX15_next_2 33 = .ok (.aload_n 0, 1) := dk_42 (dk_at dksX15_next_2_1 10 rfl rfl)
theorem dX15_next_2_34 : decode cX15_next_2 34 = .ok (.getfield 19, 3) := dk_180 0 19 (dk_at dksX15_next_2_1 11 rfl rfl)
theorem dX15_next_2_37 : decode cX15_next_2 37 = .ok (.iload_n 1, 1) := dk_27 (dk_at dksX15_next_2_1 14 rfl rfl)
theorem dX15_next_2_38 : decode cX15_next_2 38 = .ok (.aload_n 0, 1) := dk_42 (dk_at dksX15_next_2_1 15 rfl rfl)
theorem dX15_next_2_39 : decode cX15_next_2 39 = .ok (.getfield 19, 3) := dk_180 0 19 (dk_at dksX15_next_2_1 16 rfl rfl)
theorem dX15_next_2_42 : decode cX15_next_2 42 = .ok (.isub, 1) := dk_100 (dk_at dksX15_next_2_1 19 rfl rfl)
theorem dX15_next_2_43 : decode cX15_next_2 43 = .ok (.invokespecial 31, 3) := dk_183 0 31 (dk_at dksX15_next_2_1 20 rfl rfl)
theorem dX15_next_2_46 : decode cX15_next_2 46 = .ok (.astore_n 2, 1) := dk_77 (dk_at dksX15_next_2_1 23 rfl rfl)
theorem dX15_next_2_47 : decode cX15_next_2 47 = .ok (.aload_n 0, 1) := dk_42 (dk_at dksX15_next_2_2 0 rfl rfl)
theorem dX15_next_2_48 : decode cX15_next_2 48 = .ok (.aload_n 0, 1) := dk_42 (dk_at dksX15_next_2_2 1 rfl rfl)
theorem dX15_next_2_49 : decode cX15_next_2 49 = .ok (.iload_n 1, 1) := dk_27 (dk_at dksX15_next_2_2 2 rfl rfl)
theorem dX15_next_2_50 : decode cX15_next_2 50 = .ok (.invokevirtual 15, 3) := dk_182 0 15 (dk_at dksX15_next_2_2 3 rfl rfl)
theorem dX15_next_2_53 : decode cX15_next_2 53 = .ok (.putfield 19, 3) := dk_181 0 19 (dk_at dksX15_next_2_2 6 rfl rfl)
theorem dX15_next_2_56 : decode cX15_next_2 56 = .ok (.aload_n 2, 1) := dk_44 (dk_at dksX15_next_2_2 9 rfl rfl)
theorem dX15_next_2_57 : decode cX15_next_2 57 = .ok (.areturn, 1) := dk_176 (dk_at dksX15_next_2_2 10 rfl rfl)
abbrev cX9_whole : ByteArray := prog_5_method_4_code
def dkwX9_whole_6 : List UInt8 := [42, 180, 0, 22, 183, 0, 47, 191, 177]
abbrev dktX9_whole_6 : List UInt8 := dkwX9_whole_6 ++ []
def dkwX9_whole_5 : List UInt8 := [181, 0, 22, 167, 255, 140, 42, 180, 0, 22, 42, 180, 0, 3, 180, 0, 26, 162, 0, 15, 187, 0, 45, 89]
abbrev dktX9_whole_5 : List UInt8 := dkwX9_whole_5 ++ dktX9_whole_6
def dkwX9_whole_4 : List UInt8 := [162, 0, 7, 4, 167, 0, 4, 3, 60, 42, 89, 180, 0, 22, 27, 153, 0, 7, 4, 167, 0, 4, 3, 96]
abbrev dktX9_whole_4 : List UInt8 := dkwX9_whole_4 ++ dktX9_whole_5
def dkwX9_whole_3 : List UInt8 := [183, 0, 59, 182, 0, 62, 87, 42, 182, 0, 33, 16, 44, 160, 0, 18, 42, 180, 0, 18, 182, 0, 56, 7]
abbrev dktX9_whole_3 : List UInt8 := dkwX9_whole_3 ++ dktX9_whole_4
def dkwX9_whole_2 : List UInt8 := [180, 0, 18, 187, 0, 54, 89, 42, 180, 0, 18, 182, 0, 56, 28, 42, 17, 0, 200, 182, 0, 50]
abbrev dktX9_whole_2 : List UInt8 := dkwX9_whole_2 ++ dktX9_whole_3
def dkwX9_whole_1 : List UInt8 := [187, 0, 45, 89, 42, 180, 0, 22, 183, 0, 47, 191, 42, 89, 180, 0, 22, 4, 96, 181, 0, 22, 42]
abbrev dktX9_whole_1 : List UInt8 := dkwX9_whole_1 ++ dktX9_whole_2
def dkwX9_whole_0 : List UInt8 := [4, 60, 27, 153, 0, 118, 42, 16, 16, 182, 0, 50, 61, 42, 182, 0, 33, 16, 120, 159, 0, 15]
abbrev dktX9_whole_0 : List UInt8 := dkwX9_whole_0 ++ dktX9_whole_1
theorem dksX9_whole_0 : cX9_whole.data.toList.drop 0 = dktX9_whole_0 := by decide +kernel
theorem dksX9_whole_1 : cX9_whole.data.toList.drop 22 = dktX9_whole_1 := dk_seg dksX9_whole_0 22 rfl rfl
theorem dksX9_whole_2 : cX9_whole.data.toList.drop 45 = dktX9_whole_2 := dk_seg dksX9_whole_1 23 rfl rfl
theorem dksX9_whole_3 : cX9_whole.data.toList.drop 67 = dktX9_whole_3 := dk_seg dksX9_whole_2 22 rfl rfl
theorem dksX9_whole_4 : cX9_whole.data.toList.drop 91 = dktX9_whole_4 := dk_seg dksX9_whole_3 24 rfl rfl
theorem dksX9_whole_5 : cX9_whole.data.toList.drop 115 = dktX9_whole_5 := dk_seg dksX9_whole_4 24 rfl rfl
theorem dksX9_whole_6 : cX9_whole.data.toList.drop 139 = dktX9_whole_6 := dk_seg dksX9_whole_5 24 rfl rfl
theorem dX9_whole_0 : decode cX9_whole 0 = .ok (.iconst 1, 1) := dk_4 (dk_at dksX9_whole_0 0 rfl rfl)
theorem dX9_whole_1 : decode cX9_whole 1 = .ok (.istore_n 1, 1) := dk_60 (dk_at dksX9_whole_0 1 rfl rfl)
theorem dX9_whole_2 : decode cX9_whole 2 = .ok (.iload_n 1, 1) := dk_27 (dk_at dksX9_whole_0 2 rfl rfl)
theorem dX9_whole_3 : decode cX9_whole 3 = .ok (.ifCond .eq 118, 3) := dk_153 0 118 (dk_at dksX9_whole_0 3 rfl rfl)
theorem dX9_whole_6 : decode cX9_whole 6 = .ok (.aload_n 0, 1) := dk_42 (dk_at dksX9_whole_0 6 rfl rfl)
theorem dX9_whole_7 : decode cX9_whole 7 = .ok (.bipush 16, 2) := dk_16 16 (dk_at dksX9_whole_0 7 rfl rfl)
theorem dX9_whole_9 : decode cX9_whole 9 = .ok (.invokevirtual 50, 3) := dk_182 0 50 (dk_at dksX9_whole_0 9 rfl rfl)
theorem dX9_whole_12 : decode cX9_whole 12 = .ok (.istore_n 2, 1) := dk_61 (dk_at dksX9_whole_0 12 rfl rfl)
theorem dX9_whole_13 : decode cX9_whole 13 = .ok (.aload_n 0, 1) := dk_42 (dk_at dksX9_whole_0 13 rfl rfl)
theorem dX9_whole_14 : decode cX9_whole 14 = .ok (.invokevirtual 33, 3) := dk_182 0 33 (dk_at dksX9_whole_0 14 rfl rfl)
theorem dX9_whole_17 : decode cX9_whole 17 = .ok (.bipush 120, 2) := dk_16 120 (dk_at dksX9_whole_0 17 rfl rfl)
theorem dX9_whole_19 : decode cX9_whole 19 = .ok (.if_icmp .eq 15, 3) := dk_159 0 15 (dk_at dksX9_whole_0 19 rfl rfl)
theorem dX9_whole_22 : decode cX9_whole 22 = .ok (.new 45, 3) := dk_187 0 45 (dk_at dksX9_whole_1 0 rfl rfl)
theorem dX9_whole_25 : decode cX9_whole 25 = .ok (.dup, 1) := dk_89 (dk_at dksX9_whole_1 3 rfl rfl)
theorem dX9_whole_26 : decode cX9_whole 26 = .ok (.aload_n 0, 1) := dk_42 (dk_at dksX9_whole_1 4 rfl rfl)
theorem dX9_whole_27 : decode cX9_whole 27 = .ok (.getfield 22, 3) := dk_180 0 22 (dk_at dksX9_whole_1 5 rfl rfl)
theorem dX9_whole_30 : decode cX9_whole 30 = .ok (.invokespecial 47, 3) := dk_183 0 47 (dk_at dksX9_whole_1 8 rfl rfl)
theorem dX9_whole_33 : decode cX9_whole 33 = .ok (.athrow, 1) := dk_191 (dk_at dksX9_whole_1 11 rfl rfl)
theorem dX9_whole_34 : decode cX9_whole 34 = .ok (.aload_n 0, 1) := dk_42 (dk_at dksX9_whole_1 12 rfl rfl)
theorem dX9_whole_35 : decode cX9_whole 35 = .ok (.dup, 1) := dk_89 (dk_at dksX9_whole_1 13 rfl rfl)
theorem dX9_whole_36 : decode cX9_whole 36 = .ok (.getfield 22, 3) := dk_180 0 22 (dk_at dksX9_whole_1 14 rfl rfl)
theorem dX9_whole_39 : decode cX9_whole 39 = .ok (.iconst 1, 1) := dk_4 (dk_at dksX9_whole_1 17 rfl rfl)
theorem dX9_whole_40 : decode cX9_whole 40 = .ok (.iadd, 1) := dk_96 (dk_at dksX9_whole_1 18 rfl rfl)
theorem dX9_whole_41 : decode cX9_whole 41 = .ok (.putfield 22, 3) := dk_181 0 22 (dk_at dksX9_whole_1 19 rfl rfl)
theorem dX9_whole_44 : decode cX9_whole 44 = .ok (.aload_n 0, 1) := dk_42 (dk_at dksX9_whole_1 22 rfl rfl)
theorem dX9_whole_45 : decode cX9_whole 45 = .ok (.getfield 18, 3) := dk_180 0 18 (dk_at dksX9_whole_2 0 rfl rfl)
theorem dX9_whole_48 : decode cX9_whole 48 = .ok (.new 54, 3) := dk_187 0 54 (dk_at dksX9_whole_2 3 rfl rfl)
theorem dX9_whole_51 : decode cX9_whole 51 = .ok (.dup, 1) := dk_89 (dk_at dksX9_whole_2 6 rfl rfl)
theorem dX9_whole_52 : decode cX9_whole 52 = .ok (.aload_n 0, 1) := dk_42 (dk_at dksX9_whole_2 7 rfl rfl)
theorem dX9_whole_53 : decode cX9_whole 53 = .ok (.getfield 18, 3) := dk_180 0 18 (dk_at dksX9_whole_2 8 rfl rfl)
theorem dX9_whole_56 : decode cX9_whole 56 = .ok (.invokevirtual 56, 3) := dk_182 0 56 (dk_at dksX9_whole_2 11 rfl rfl)
theorem dX9_whole_59 : decode cX9_whole 59 = .ok (.iload_n 2, 1) := dk_28 (dk_at dksX9_whole_2 14 rfl rfl)
theorem dX9_whole_60 : decode cX9_whole 60 = .ok (.aload_n 0, 1) := dk_42 (dk_at dksX9_whole_2 15 rfl rfl)
theorem dX9_whole_61 : decode cX9_whole 61 = .ok (.sipush 200, 3) := dk_17 0 200 (dk_at dksX9_whole_2 16 rfl rfl)
theorem dX9_whole_64 : decode cX9_whole 64 = .ok (.invokevirtual 50, 3) := dk_182 0 50 (dk_at dksX9_whole_2 19 rfl rfl)
theorem dX9_whole_67 : decode cX9_whole 67 = .ok (.invokespecial 59, 3) := dk_183 0 59 (dk_at dksX9_whole_3 0 rfl rfl)
theorem dX9_whole_70 : decode cX9_whole 70 = .ok (.invokevirtual 62, 3) := dk_182 0 62 (dk_at dksX9_whole_3 3 rfl rfl)
theorem dX9_whole_73 : decode cX9_whole 73 = .ok (.pop, 1) := dk_87 (dk_at dksX9_whole_3 6 rfl rfl)
theorem dX9_whole_74 : decode cX9_whole 74 = .ok (.aload_n 0, 1) := dk_42 (dk_at dksX9_whole_3 7 rfl rfl)
theorem dX9_whole_75 : decode cX9_whole 75 = .ok (.invokevirtual 33, 3) := dk_182 0 33 (dk_at dksX9_whole_3 8 rfl rfl)
theorem dX9_whole_78 : decode cX9_whole 78 = .ok (.bipush 44, 2) := dk_16 44 (dk_at dksX9_whole_3 11 rfl rfl)
theorem dX9_whole_80 : decode cX9_whole 80 = .ok (.if_icmp .ne 18, 3) := dk_160 0 18 (dk_at dksX9_whole_3 13 rfl rfl)
theorem dX9_whole_83 : decode cX9_whole 83 = .ok (.aload_n 0, 1) := dk_42 (dk_at dksX9_whole_3 16 rfl rfl)
theorem dX9_whole_84 : decode cX9_whole 84 = .ok (.getfield 18, 3) := dk_180 0 18 (dk_at dksX9_whole_3 17 rfl rfl)
theorem dX9_whole_87 : decode cX9_whole 87 = .ok (.invokevirtual 56, 3) := dk_182 0 56 (dk_at dksX9_whole_3 20 rfl rfl)
theorem dX9_whole_90 : decode cX9_whole 90 = .ok (.iconst 4, 1) := dk_7 (dk_at dksX9_whole_3 23 rfl rfl)
theorem dX9_whole_91 : decode cX9_whole 91 = .ok (.if_icmp .ge 7, 3) := dk_162 0 7 (dk_at dksX9_whole_4 0 rfl rfl)
theorem dX9_whole_94 : decode cX9_whole 94 = .ok (.iconst 1, 1) := dk_4 (dk_at dksX9_whole_4 3 rfl rfl)
theorem dX9_whole_95 : decode cX9_whole 95 = .ok (.goto 4, 3) := dk_167 0 4 (dk_at dksX9_whole_4 4 rfl rfl)
theorem dX9_whole_98 : decode cX9_whole 98 = .ok (.iconst 0, 1) := dk_3 (dk_at dksX9_whole_4 7 rfl rfl)
theorem dX9_whole_99 : decode cX9_whole 99 = .ok (.istore_n 1, 1) := dk_60 (dk_at dksX9_whole_4 8 rfl rfl)
theorem dX9_whole_100 : decode cX9_whole 100 = .ok (.aload_n 0, 1) := dk_42 (dk_at dksX9_whole_4 9 rfl rfl)
theorem dX9_whole_101 : decode cX9_whole 101 = .ok (.dup, 1) := dk_89 (dk_at dksX9_whole_4 10 rfl rfl)
theorem dX9_whole_102 : decode cX9_whole 102 = .ok (.getfield 22, 3) := dk_180 0 22 (dk_at dksX9_whole_4 11 rfl rfl)
theorem dX9_whole_105 : decode cX9_whole 105 = .ok (.iload_n 1, 1) := dk_27 (dk_at dksX9_whole_4 14 rfl rfl)
theorem dX9_whole_106 : decode cX9_whole 106 = .ok (.ifCond .eq 7, 3) := dk_153 0 7 (dk_at dksX9_whole_4 15 rfl rfl)
theorem dX9_whole_109 : decode cX9_whole 109 = .ok (.iconst 1, 1) := dk_4 (dk_at dksX9_whole_4 18 rfl rfl)
theorem dX9_whole_110 : decode cX9_whole 110 = .ok (.goto 4, 3) := dk_167 0 4 (dk_at dksX9_whole_4 19 rfl rfl)
theorem dX9_whole_113 : decode cX9_whole 113 = .ok (.iconst 0, 1) := dk_3 (dk_at dksX9_whole_4 22 rfl rfl)
theorem dX9_whole_114 : decode cX9_whole 114 = .ok (.iadd, 1) := dk_96 (dk_at dksX9_whole_4 23 rfl rfl)
theorem dX9_whole_115 : decode cX9_whole 115 = .ok (.putfield 22, 3) := dk_181 0 22 (dk_at dksX9_whole_5 0 rfl rfl)
theorem dX9_whole_118 : decode cX9_whole 118 = .ok (.goto (-116), 3) := dk_167 255 140 (dk_at dksX9_whole_5 3 rfl rfl)
theorem dX9_whole_121 : decode cX9_whole 121 = .ok (.aload_n 0, 1) := dk_42 (dk_at dksX9_whole_5 6 rfl rfl)
theorem dX9_whole_122 : decode cX9_whole 122 = .ok (.getfield 22, 3) := dk_180 0 22 (dk_at dksX9_whole_5 7 rfl rfl)
theorem dX9_whole_125 : decode cX9_whole 125 = .ok (.aload_n 0, 1) := dk_42 (dk_at dksX9_whole_5 10 rfl rfl)
theorem dX9_whole_126 : decode cX9_whole 126 = .ok (.getfield 3, 3) := dk_180 0 3 (dk_at dksX9_whole_5 11 rfl rfl)
theorem dX9_whole_129 : decode cX9_whole 129 = .ok (.getfield 26, 3) := dk_180 0 26 (dk_at dksX9_whole_5 14 rfl rfl)
theorem dX9_whole_132 : decode cX9_whole 132 = .ok (.if_icmp .ge 15, 3) := dk_162 0 15 (dk_at dksX9_whole_5 17 rfl rfl)
theorem dX9_whole_135 : decode cX9_whole 135 = .ok (.new 45, 3) := dk_187 0 45 (dk_at dksX9_whole_5 20 rfl rfl)
theorem dX9_whole_138 : decode cX9_whole 138 = .ok (.dup, 1) := dk_89 (dk_at dksX9_whole_5 23 rfl rfl)
theorem dX9_whole_139 : decode cX9_whole 139 = .ok (.aload_n 0, 1) := dk_42 (dk_at dksX9_whole_6 0 rfl rfl)
theorem dX9_whole_140 : decode cX9_whole 140 = .ok (.getfield 22, 3) := dk_180 0 22 (dk_at dksX9_whole_6 1 rfl rfl)
theorem dX9_whole_143 : decode cX9_whole 143 = .ok (.invokespecial 47, 3) := dk_183 0 47 (dk_at dksX9_whole_6 4 rfl rfl)
theorem dX9_whole_146 : decode cX9_whole 146 = .ok (.athrow, 1) := dk_191 (dk_at dksX9_whole_6 7 rfl rfl)
theorem dX9_whole_147 : decode cX9_whole 147 = .ok (.return_, 1) := dk_177 (dk_at dksX9_whole_6 8 rfl rfl)
abbrev cX12_byWidth : ByteArray := prog_18_method_3_code
def dkwX12_byWidth_2 : List UInt8 := [167, 255, 234, 43, 176]
abbrev dktX12_byWidth_2 : List UInt8 := dkwX12_byWidth_2 ++ []
def dkwX12_byWidth_1 : List UInt8 := [54, 4, 21, 4, 29, 162, 0, 22, 44, 21, 4, 50, 58, 5, 43, 25, 5, 182, 0, 80, 87, 132, 4, 1]
abbrev dktX12_byWidth_1 : List UInt8 := dkwX12_byWidth_1 ++ dktX12_byWidth_2
def dkwX12_byWidth_0 : List UInt8 := [187, 0, 56, 89, 187, 0, 74, 89, 183, 0, 76, 183, 0, 77, 76, 42, 180, 0, 42, 77, 44, 190, 62, 3]
abbrev dktX12_byWidth_0 : List UInt8 := dkwX12_byWidth_0 ++ dktX12_byWidth_1
theorem dksX12_byWidth_0 : cX12_byWidth.data.toList.drop 0 = dktX12_byWidth_0 := by decide +kernel
theorem dksX12_byWidth_1 : cX12_byWidth.data.toList.drop 24 = dktX12_byWidth_1 := dk_seg dksX12_byWidth_0 24 rfl rfl
theorem dksX12_byWidth_2 : cX12_byWidth.data.toList.drop 48 = dktX12_byWidth_2 := dk_seg dksX12_byWidth_1 24 rfl rfl
theorem dX12_byWidth_0 : decode cX12_byWidth 0 = .ok (.new 56, 3) := dk_187 0 56 (dk_at dksX12_byWidth_0 0 rfl rfl)
theorem dX12_byWidth_3 : decode cX12_byWidth 3 = .ok (.dup, 1) := dk_89 (dk_at dksX12_byWidth_0 3 rfl rfl)
theorem dX12_byWidth_4 : decode cX12_byWidth 4 = .ok (.new 74, 3) := dk_187 0 74 (dk_at dksX12_byWidth_0 4 rfl rfl)
theorem dX12_byWidth_7 : decode cX12_byWidth 7 = .ok (.dup, 1) := dk_89 (dk_at dksX12_byWidth_0 7 rfl rfl)
theorem dX12_byWidth_8 : decode cX12_byWidth 8 = .ok (.invokespecial 76, 3) := dk_183 0 76 (dk_at dksX12_byWidth_0 8 rfl rfl)
theorem dX12_byWidth_11 : decode cX12_byWidth 11 = .ok (.invokespecial 77, 3) := dk_183 0 77 (dk_at dksX12_byWidth_0 11 rfl rfl)
theorem dX12_byWidth_14 : decode cX12_byWidth 14 = .ok (.astore_n 1, 1) := dk_76 (dk_at dksX12_byWidth_0 14 rfl rfl)
theorem dX12_byWidth_15 : decode cX12_byWidth 15 = .ok (.aload_n 0, 1) := dk_42 (dk_at dksX12_byWidth_0 15 rfl rfl)
theorem dX12_byWidth_16 : decode cX12_byWidth 16 = .ok (.getfield 42, 3) := dk_180 0 42 (dk_at dksX12_byWidth_0 16 rfl rfl)
theorem dX12_byWidth_19 : decode cX12_byWidth 19 = .ok (.astore_n 2, 1) := dk_77 (dk_at dksX12_byWidth_0 19 rfl rfl)
theorem dX12_byWidth_20 : decode cX12_byWidth 20 = .ok (.aload_n 2, 1) := dk_44 (dk_at dksX12_byWidth_0 20 rfl rfl)
theorem dX12_byWidth_21 : decode cX12_byWidth 21 = .ok (.arraylength, 1) := dk_190 (dk_at dksX12_byWidth_0 21 rfl rfl)
theorem dX12_byWidth_22 : decode cX12_byWidth 22 = .ok (.istore_n 3, 1) := dk_62 (dk_at dksX12_byWidth_0 22 rfl rfl)
theorem dX12_byWidth_23 : decode cX12_byWidth 23 = .ok (.iconst 0, 1) := dk_3 (dk_at dksX12_byWidth_0 23 rfl rfl)
theorem dX12_byWidth_24 : decode cX12_byWidth 24 = .ok (.istore 4, 2) := dk_54 4 (dk_at dksX12_byWidth_1 0 rfl rfl)
theorem dX12_byWidth_26 : decode cX12_byWidth 26 = .ok (.iload 4, 2) := dk_21 4 (dk_at dksX12_byWidth_1 2 rfl rfl)
theorem dX12_byWidth_28 : decode cX12_byWidth 28 = .ok (.iload_n 3, 1) := dk_29 (dk_at dksX12_byWidth_1 4 rfl rfl)
theorem dX12_byWidth_29 : decode cX12_byWidth 29 = .ok (.if_icmp .ge 22, 3) := dk_162 0 22 (dk_at dksX12_byWidth_1 5 rfl rfl)
theorem dX12_byWidth_32 : decode cX12_byWidth 32 = .ok (.aload_n 2, 1) := dk_44 (dk_at dksX12_byWidth_1 8 rfl rfl)
theorem dX12_byWidth_33 : decode cX12_byWidth 33 = .ok (.iload 4, 2) := dk_21 4 (dk_at dksX12_byWidth_1 9 rfl rfl)
theorem dX12_byWidth_35 : decode cX12_byWidth 35 = .ok (.aaload, 1) := dk_50 (dk_at dksX12_byWidth_1 11 rfl rfl)
theorem dX12_byWidth_36 : decode cX12_byWidth 36 = .ok (.astore 5, 2) := dk_58 5 (dk_at dksX12_byWidth_1 12 rfl rfl)
theorem dX12_byWidth_38 : decode cX12_byWidth 38 = .ok (.aload_n 1, 1) := dk_43 (dk_at dksX12_byWidth_1 14 rfl rfl)
theorem dX12_byWidth_39 : decode cX12_byWidth 39 = .ok (.aload 5, 2) := dk_25 5 (dk_at dksX12_byWidth_1 15 rfl rfl)
theorem dX12_byWidth_41 : decode cX12_byWidth 41 = .ok (.invokevirtual 80, 3) := dk_182 0 80 (dk_at dksX12_byWidth_1 17 rfl rfl)
theorem dX12_byWidth_44 : decode cX12_byWidth 44 = .ok (.pop, 1) := dk_87 (dk_at dksX12_byWidth_1 20 rfl rfl)
theorem dX12_byWidth_45 : decode cX12_byWidth 45 = .ok (.iinc 4 1, 3) := dk_132 4 1 (dk_at dksX12_byWidth_1 21 rfl rfl)
theorem dX12_byWidth_48 : decode cX12_byWidth 48 = .ok (.goto (-22), 3) := dk_167 255 234 (dk_at dksX12_byWidth_2 0 rfl rfl)
theorem dX12_byWidth_51 : decode cX12_byWidth 51 = .ok (.aload_n 1, 1) := dk_43 (dk_at dksX12_byWidth_2 3 rfl rfl)
theorem dX12_byWidth_52 : decode cX12_byWidth 52 = .ok (.areturn, 1) := dk_176 (dk_at dksX12_byWidth_2 4 rfl rfl)
abbrev cX14_init : ByteArray := prog_11_method_1_code
def dkwX14_init_0 : List UInt8 := [42, 183, 0, 1, 42, 27, 181, 0, 7, 42, 28, 181, 0, 13, 42, 29, 181, 0, 16, 177]
abbrev dktX14_init_0 : List UInt8 := dkwX14_init_0 ++ []
theorem dksX14_init_0 : cX14_init.data.toList.drop 0 = dktX14_init_0 := by decide +kernel
theorem dX14_init_0 : decode cX14_init 0 = .ok (.aload_n 0, 1) := dk_42 (dk_at dksX14_init_0 0 rfl rfl)
theorem dX14_init_1 : decode cX14_init 1 = .ok (.invokespecial 1, 3) := dk_183 0 1 (dk_at dksX14_init_0 1 rfl rfl)
theorem dX14_init_4 : decode cX14_init 4 = .ok (.aload_n 0, 1) := dk_42 (dk_at dksX14_init_0 4 rfl rfl)
theorem dX14_init_5 : decode cX14_init 5 = .ok (.iload_n 1, 1) := dk_27 (dk_at dksX14_init_0 5 rfl rfl)
theorem dX14_init_6 : decode cX14_init 6 = .ok (.putfield 7, 3) := dk_181 0 7 (dk_at dksX14_init_0 6 rfl rfl)
theorem dX14_init_9 : decode cX14_init 9 = .ok (.aload_n 0, 1) := dk_42 (dk_at dksX14_init_0 9 rfl rfl)
theorem dX14_init_10 : decode cX14_init 10 = .ok (.iload_n 2, 1) := dk_28 (dk_at dksX14_init_0 10 rfl rfl)
theorem dX14_init_11 : decode cX14_init 11 = .ok (.putfield 13, 3) := dk_181 0 13 (dk_at dksX14_init_0 11 rfl rfl)
theorem dX14_init_14 : decode cX14_init 14 = .ok (.aload_n 0, 1) := dk_42 (dk_at dksX14_init_0 14 rfl rfl)
theorem dX14_init_15 : decode cX14_init 15 = .ok (.iload_n 3, 1) := dk_29 (dk_at dksX14_init_0 15 rfl rfl)
theorem dX14_init_16 : decode cX14_init 16 = .ok (.putfield 16, 3) := dk_181 0 16 (dk_at dksX14_init_0 16 rfl rfl)
theorem dX14_init_19 : decode cX14_init 19 = .ok (.return_, 1) := dk_177 (dk_at dksX14_init_0 19 rfl rfl)
abbrev cX1_stops : ByteArray := prog_8_method_33_code
def dkwX1_stops_3 : List UInt8 := [25, 4, 180, 0, 182, 42, 180, 0, 203, 181, 0, 216, 167, 255, 195, 42, 44, 181, 0, 58, 177]
abbrev dktX1_stops_3 : List UInt8 := dkwX1_stops_3 ++ []
def dkwX1_stops_2 : List UInt8 := [43, 165, 0, 13, 44, 25, 4, 182, 0, 192, 87, 167, 0, 25, 42, 43, 25, 4, 180, 0, 182, 182, 1, 174]
abbrev dktX1_stops_2 : List UInt8 := dkwX1_stops_2 ++ dktX1_stops_3
def dkwX1_stops_1 : List UInt8 := [185, 0, 127, 1, 0, 153, 0, 58, 45, 185, 0, 133, 1, 0, 192, 0, 172, 58, 4, 25, 4, 180, 0, 174]
abbrev dktX1_stops_1 : List UInt8 := dkwX1_stops_1 ++ dktX1_stops_2
def dkwX1_stops_0 : List UInt8 := [187, 0, 50, 89, 187, 0, 52, 89, 183, 0, 54, 183, 0, 55, 77, 42, 180, 0, 58, 182, 0, 171, 78, 45]
abbrev dktX1_stops_0 : List UInt8 := dkwX1_stops_0 ++ dktX1_stops_1
theorem dksX1_stops_0 : cX1_stops.data.toList.drop 0 = dktX1_stops_0 := by decide +kernel
theorem dksX1_stops_1 : cX1_stops.data.toList.drop 24 = dktX1_stops_1 := dk_seg dksX1_stops_0 24 rfl rfl
theorem dksX1_stops_2 : cX1_stops.data.toList.drop 48 = dktX1_stops_2 := dk_seg dksX1_stops_1 24 rfl rfl
theorem dksX1_stops_3 : cX1_stops.data.toList.drop 72 = dktX1_stops_3 := dk_seg dksX1_stops_2 24 rfl rfl
theorem dX1_stops_0 : decode cX1_stops 0 = .ok (.new 50, 3) := dk_187 0 50 (dk_at dksX1_stops_0 0 rfl rfl)
theorem dX1_stops_3 : decode cX1_stops 3 = .ok (.dup, 1) := dk_89 (dk_at dksX1_stops_0 3 rfl rfl)
theorem dX1_stops_4 : decode cX1_stops 4 = .ok (.new 52, 3) := dk_187 0 52 (dk_at dksX1_stops_0 4 rfl rfl)
theorem dX1_stops_7 : decode cX1_stops 7 = .ok (.dup, 1) := dk_89 (dk_at dksX1_stops_0 7 rfl rfl)
theorem dX1_stops_8 : decode cX1_stops 8 = .ok (.invokespecial 54, 3) := dk_183 0 54 (dk_at dksX1_stops_0 8 rfl rfl)
theorem dX1_stops_11 : decode cX1_stops 11 = .ok (.invokespecial 55, 3) := dk_183 0 55 (dk_at dksX1_stops_0 11 rfl rfl)
theorem dX1_stops_14 : decode cX1_stops 14 = .ok (.astore_n 2, 1) := dk_77 (dk_at dksX1_stops_0 14 rfl rfl)
theorem dX1_stops_15 : decode cX1_stops 15 = .ok (.aload_n 0, 1) := dk_42 (dk_at dksX1_stops_0 15 rfl rfl)
theorem dX1_stops_16 : decode cX1_stops 16 = .ok (.getfield 58, 3) := dk_180 0 58 (dk_at dksX1_stops_0 16 rfl rfl)
theorem dX1_stops_19 : decode cX1_stops 19 = .ok (.invokevirtual 171, 3) := dk_182 0 171 (dk_at dksX1_stops_0 19 rfl rfl)
theorem dX1_stops_22 : decode cX1_stops 22 = .ok (.astore_n 3, 1) := dk_78 (dk_at dksX1_stops_0 22 rfl rfl)
theorem dX1_stops_23 : decode cX1_stops 23 = .ok (.aload_n 3, 1) := dk_45 (dk_at dksX1_stops_0 23 rfl rfl)
theorem dX1_stops_24 : decode cX1_stops 24 = .ok (.invokeinterface 127 1, 5) := by decide +kernel
theorem dX1_stops_29 : decode cX1_stops 29 = .ok (.ifCond .eq 58, 3) := dk_153 0 58 (dk_at dksX1_stops_1 5 rfl rfl)
theorem dX1_stops_32 : decode cX1_stops 32 = .ok (.aload_n 3, 1) := dk_45 (dk_at dksX1_stops_1 8 rfl rfl)
theorem dX1_stops_33 : decode cX1_stops 33 = .ok (.invokeinterface 133 1, 5) := by decide +kernel
theorem dX1_stops_38 : decode cX1_stops 38 = .ok (.checkcast 172, 3) := dk_192 0 172 (dk_at dksX1_stops_1 14 rfl rfl)
theorem dX1_stops_41 : decode cX1_stops 41 = .ok (.astore 4, 2) := dk_58 4 (dk_at dksX1_stops_1 17 rfl rfl)
theorem dX1_stops_43 : decode cX1_stops 43 = .ok (.aload 4, 2) := dk_25 4 (dk_at dksX1_stops_1 19 rfl rfl)
theorem dX1_stops_45 : decode cX1_stops 45 = .ok (.getfield 174, 3) := dk_180 0 174 (dk_at dksX1_stops_1 21 rfl rfl)
theorem dX1_stops_48 : decode cX1_stops 48 = .ok (.aload_n 1, 1) := dk_43 (dk_at dksX1_stops_2 0 rfl rfl)
theorem dX1_stops_49 : decode cX1_stops 49 = .ok (.if_acmp .eq 13, 3) := dk_165 0 13 (dk_at dksX1_stops_2 1 rfl rfl)
theorem dX1_stops_52 : decode cX1_stops 52 = .ok (.aload_n 2, 1) := dk_44 (dk_at dksX1_stops_2 4 rfl rfl)
theorem dX1_stops_53 : decode cX1_stops 53 = .ok (.aload 4, 2) := dk_25 4 (dk_at dksX1_stops_2 5 rfl rfl)
theorem dX1_stops_55 : decode cX1_stops 55 = .ok (.invokevirtual 192, 3) := dk_182 0 192 (dk_at dksX1_stops_2 7 rfl rfl)
theorem dX1_stops_58 : decode cX1_stops 58 = .ok (.pop, 1) := dk_87 (dk_at dksX1_stops_2 10 rfl rfl)
theorem dX1_stops_59 : decode cX1_stops 59 = .ok (.goto 25, 3) := dk_167 0 25 (dk_at dksX1_stops_2 11 rfl rfl)
theorem dX1_stops_62 : decode cX1_stops 62 = .ok (.aload_n 0, 1) := dk_42 (dk_at dksX1_stops_2 14 rfl rfl)
theorem dX1_stops_63 : decode cX1_stops 63 = .ok (.aload_n 1, 1) := dk_43 (dk_at dksX1_stops_2 15 rfl rfl)
theorem dX1_stops_64 : decode cX1_stops 64 = .ok (.aload 4, 2) := dk_25 4 (dk_at dksX1_stops_2 16 rfl rfl)
theorem dX1_stops_66 : decode cX1_stops 66 = .ok (.getfield 182, 3) := dk_180 0 182 (dk_at dksX1_stops_2 18 rfl rfl)
theorem dX1_stops_69 : decode cX1_stops 69 = .ok (.invokevirtual 430, 3) := dk_182 1 174 (dk_at dksX1_stops_2 21 rfl rfl)
theorem dX1_stops_72 : decode cX1_stops 72 = .ok (.aload 4, 2) := dk_25 4 (dk_at dksX1_stops_3 0 rfl rfl)
theorem dX1_stops_74 : decode cX1_stops 74 = .ok (.getfield 182, 3) := dk_180 0 182 (dk_at dksX1_stops_3 2 rfl rfl)
theorem dX1_stops_77 : decode cX1_stops 77 = .ok (.aload_n 0, 1) := dk_42 (dk_at dksX1_stops_3 5 rfl rfl)
theorem dX1_stops_78 : decode cX1_stops 78 = .ok (.getfield 203, 3) := dk_180 0 203 (dk_at dksX1_stops_3 6 rfl rfl)
theorem dX1_stops_81 : decode cX1_stops 81 = .ok (.putfield 216, 3) := dk_181 0 216 (dk_at dksX1_stops_3 9 rfl rfl)
theorem dX1_stops_84 : decode cX1_stops 84 = .ok (.goto (-61), 3) := dk_167 255 195 (dk_at dksX1_stops_3 12 rfl rfl)
theorem dX1_stops_87 : decode cX1_stops 87 = .ok (.aload_n 0, 1) := dk_42 (dk_at dksX1_stops_3 15 rfl rfl)
theorem dX1_stops_88 : decode cX1_stops 88 = .ok (.aload_n 2, 1) := dk_44 (dk_at dksX1_stops_3 16 rfl rfl)
theorem dX1_stops_89 : decode cX1_stops 89 = .ok (.putfield 58, 3) := dk_181 0 58 (dk_at dksX1_stops_3 17 rfl rfl)
theorem dX1_stops_92 : decode cX1_stops 92 = .ok (.return_, 1) := dk_177 (dk_at dksX1_stops_3 20 rfl rfl)
abbrev cX1_forgets : ByteArray := prog_8_method_34_code
def dkwX1_forgets_0 : List UInt8 := [42, 43, 186, 1, 202, 0, 0, 182, 1, 118, 42, 180, 0, 68, 43, 180, 0, 166, 182, 1, 203, 177]
abbrev dktX1_forgets_0 : List UInt8 := dkwX1_forgets_0 ++ []
theorem dksX1_forgets_0 : cX1_forgets.data.toList.drop 0 = dktX1_forgets_0 := by decide +kernel
theorem dX1_forgets_0 : decode cX1_forgets 0 = .ok (.aload_n 0, 1) := dk_42 (dk_at dksX1_forgets_0 0 rfl rfl)
theorem dX1_forgets_1 : decode cX1_forgets 1 = .ok (.aload_n 1, 1) := dk_43 (dk_at dksX1_forgets_0 1 rfl rfl)
theorem dX1_forgets_2 : decode cX1_forgets 2 = .ok (.invokedynamic 458, 5) := by decide +kernel
theorem dX1_forgets_7 : decode cX1_forgets 7 = .ok (.invokevirtual 374, 3) := dk_182 1 118 (dk_at dksX1_forgets_0 7 rfl rfl)
theorem dX1_forgets_10 : decode cX1_forgets 10 = .ok (.aload_n 0, 1) := dk_42 (dk_at dksX1_forgets_0 10 rfl rfl)
theorem dX1_forgets_11 : decode cX1_forgets 11 = .ok (.getfield 68, 3) := dk_180 0 68 (dk_at dksX1_forgets_0 11 rfl rfl)
theorem dX1_forgets_14 : decode cX1_forgets 14 = .ok (.aload_n 1, 1) := dk_43 (dk_at dksX1_forgets_0 14 rfl rfl)
theorem dX1_forgets_15 : decode cX1_forgets 15 = .ok (.getfield 166, 3) := dk_180 0 166 (dk_at dksX1_forgets_0 15 rfl rfl)
theorem dX1_forgets_18 : decode cX1_forgets 18 = .ok (.invokevirtual 459, 3) := dk_182 1 203 (dk_at dksX1_forgets_0 18 rfl rfl)
theorem dX1_forgets_21 : decode cX1_forgets 21 = .ok (.return_, 1) := dk_177 (dk_at dksX1_forgets_0 21 rfl rfl)
abbrev cX3_of : ByteArray := prog_24_method_5_code
def dkwX3_of_0 : List UInt8 := [42, 180, 0, 9, 27, 46, 172]
abbrev dktX3_of_0 : List UInt8 := dkwX3_of_0 ++ []
theorem dksX3_of_0 : cX3_of.data.toList.drop 0 = dktX3_of_0 := by decide +kernel
theorem dX3_of_0 : decode cX3_of 0 = .ok (.aload_n 0, 1) := dk_42 (dk_at dksX3_of_0 0 rfl rfl)
theorem dX3_of_1 : decode cX3_of 1 = .ok (.getfield 9, 3) := dk_180 0 9 (dk_at dksX3_of_0 1 rfl rfl)
theorem dX3_of_4 : decode cX3_of 4 = .ok (.iload_n 1, 1) := dk_27 (dk_at dksX3_of_0 4 rfl rfl)
theorem dX3_of_5 : decode cX3_of 5 = .ok (.iaload, 1) := dk_46 (dk_at dksX3_of_0 5 rfl rfl)
theorem dX3_of_6 : decode cX3_of 6 = .ok (.ireturn, 1) := dk_172 (dk_at dksX3_of_0 6 rfl rfl)
abbrev cX1_isReady : ByteArray := prog_8_method_4_code
def dkwX1_isReady_2 : List UInt8 := [184, 0, 232, 153, 0, 7, 4, 167, 0, 4, 3, 172]
abbrev dktX1_isReady_2 : List UInt8 := dkwX1_isReady_2 ++ []
def dkwX1_isReady_1 : List UInt8 := [42, 180, 0, 40, 43, 180, 0, 225, 182, 0, 167, 192, 0, 85, 180, 0, 219, 133, 20, 0, 228, 20, 0, 230]
abbrev dktX1_isReady_1 : List UInt8 := dkwX1_isReady_1 ++ dktX1_isReady_2
def dkwX1_isReady_0 : List UInt8 := [43, 180, 0, 219, 154, 0, 10, 43, 180, 0, 222, 153, 0, 5, 3, 172, 43, 180, 0, 225, 2, 159, 0, 33]
abbrev dktX1_isReady_0 : List UInt8 := dkwX1_isReady_0 ++ dktX1_isReady_1
theorem dksX1_isReady_0 : cX1_isReady.data.toList.drop 0 = dktX1_isReady_0 := by decide +kernel
theorem dksX1_isReady_1 : cX1_isReady.data.toList.drop 24 = dktX1_isReady_1 := dk_seg dksX1_isReady_0 24 rfl rfl
theorem dksX1_isReady_2 : cX1_isReady.data.toList.drop 48 = dktX1_isReady_2 := dk_seg dksX1_isReady_1 24 rfl rfl
theorem dX1_isReady_0 : decode cX1_isReady 0 = .ok (.aload_n 1, 1) := dk_43 (dk_at dksX1_isReady_0 0 rfl rfl)
theorem dX1_isReady_1 : decode cX1_isReady 1 = .ok (.getfield 219, 3) := dk_180 0 219 (dk_at dksX1_isReady_0 1 rfl rfl)
theorem dX1_isReady_4 : decode cX1_isReady 4 = .ok (.ifCond .ne 10, 3) := dk_154 0 10 (dk_at dksX1_isReady_0 4 rfl rfl)
theorem dX1_isReady_7 : decode cX1_isReady 7 = .ok (.aload_n 1, 1) := dk_43 (dk_at dksX1_isReady_0 7 rfl rfl)
theorem dX1_isReady_8 : decode cX1_isReady 8 = .ok (.getfield 222, 3) := dk_180 0 222 (dk_at dksX1_isReady_0 8 rfl rfl)
theorem dX1_isReady_11 : decode cX1_isReady 11 = .ok (.ifCond .eq 5, 3) := dk_153 0 5 (dk_at dksX1_isReady_0 11 rfl rfl)
theorem dX1_isReady_14 : decode cX1_isReady 14 = .ok (.iconst 0, 1) := dk_3 (dk_at dksX1_isReady_0 14 rfl rfl)
theorem dX1_isReady_15 : decode cX1_isReady 15 = .ok (.ireturn, 1) := dk_172 (dk_at dksX1_isReady_0 15 rfl rfl)
theorem dX1_isReady_16 : decode cX1_isReady 16 = .ok (.aload_n 1, 1) := dk_43 (dk_at dksX1_isReady_0 16 rfl rfl)
theorem dX1_isReady_17 : decode cX1_isReady 17 = .ok (.getfield 225, 3) := dk_180 0 225 (dk_at dksX1_isReady_0 17 rfl rfl)
theorem dX1_isReady_20 : decode cX1_isReady 20 = .ok (.iconst (-1), 1) := dk_2 (dk_at dksX1_isReady_0 20 rfl rfl)
theorem dX1_isReady_21 : decode cX1_isReady 21 = .ok (.if_icmp .eq 33, 3) := dk_159 0 33 (dk_at dksX1_isReady_0 21 rfl rfl)
theorem dX1_isReady_24 : decode cX1_isReady 24 = .ok (.aload_n 0, 1) := dk_42 (dk_at dksX1_isReady_1 0 rfl rfl)
theorem dX1_isReady_25 : decode cX1_isReady 25 = .ok (.getfield 40, 3) := dk_180 0 40 (dk_at dksX1_isReady_1 1 rfl rfl)
theorem dX1_isReady_28 : decode cX1_isReady 28 = .ok (.aload_n 1, 1) := dk_43 (dk_at dksX1_isReady_1 4 rfl rfl)
theorem dX1_isReady_29 : decode cX1_isReady 29 = .ok (.getfield 225, 3) := dk_180 0 225 (dk_at dksX1_isReady_1 5 rfl rfl)
theorem dX1_isReady_32 : decode cX1_isReady 32 = .ok (.invokevirtual 167, 3) := dk_182 0 167 (dk_at dksX1_isReady_1 8 rfl rfl)
theorem dX1_isReady_35 : decode cX1_isReady 35 = .ok (.checkcast 85, 3) := dk_192 0 85 (dk_at dksX1_isReady_1 11 rfl rfl)
theorem dX1_isReady_38 : decode cX1_isReady 38 = .ok (.getfield 219, 3) := dk_180 0 219 (dk_at dksX1_isReady_1 14 rfl rfl)
theorem dX1_isReady_41 : decode cX1_isReady 41 = .ok (.i2l, 1) := dk_133 (dk_at dksX1_isReady_1 17 rfl rfl)
theorem dX1_isReady_42 : decode cX1_isReady 42 = .ok (.ldc2_w 228, 3) := dk_20 0 228 (dk_at dksX1_isReady_1 18 rfl rfl)
theorem dX1_isReady_45 : decode cX1_isReady 45 = .ok (.ldc2_w 230, 3) := dk_20 0 230 (dk_at dksX1_isReady_1 21 rfl rfl)
theorem dX1_isReady_48 : decode cX1_isReady 48 = .ok (.invokestatic 232, 3) := dk_184 0 232 (dk_at dksX1_isReady_2 0 rfl rfl)
theorem dX1_isReady_51 : decode cX1_isReady 51 = .ok (.ifCond .eq 7, 3) := dk_153 0 7 (dk_at dksX1_isReady_2 3 rfl rfl)
theorem dX1_isReady_54 : decode cX1_isReady 54 = .ok (.iconst 1, 1) := dk_4 (dk_at dksX1_isReady_2 6 rfl rfl)
theorem dX1_isReady_55 : decode cX1_isReady 55 = .ok (.goto 4, 3) := dk_167 0 4 (dk_at dksX1_isReady_2 7 rfl rfl)
theorem dX1_isReady_58 : decode cX1_isReady 58 = .ok (.iconst 0, 1) := dk_3 (dk_at dksX1_isReady_2 10 rfl rfl)
theorem dX1_isReady_59 : decode cX1_isReady 59 = .ok (.ireturn, 1) := dk_172 (dk_at dksX1_isReady_2 11 rfl rfl)
abbrev cX28_iterator : ByteArray := prog_14_method_2_code
def dkwX28_iterator_0 : List UInt8 := [187, 0, 13, 89, 42, 183, 0, 15, 176]
abbrev dktX28_iterator_0 : List UInt8 := dkwX28_iterator_0 ++ []
theorem dksX28_iterator_0 : cX28_iterator.data.toList.drop 0 = dktX28_iterator_0 := by decide +kernel
theorem dX28_iterator_0 : decode cX28_iterator 0 = .ok (.new 13, 3) := dk_187 0 13 (dk_at dksX28_iterator_0 0 rfl rfl)
theorem dX28_iterator_3 : decode cX28_iterator 3 = .ok (.dup, 1) := dk_89 (dk_at dksX28_iterator_0 3 rfl rfl)
theorem dX28_iterator_4 : decode cX28_iterator 4 = .ok (.aload_n 0, 1) := dk_42 (dk_at dksX28_iterator_0 4 rfl rfl)
theorem dX28_iterator_5 : decode cX28_iterator 5 = .ok (.invokespecial 15, 3) := dk_183 0 15 (dk_at dksX28_iterator_0 5 rfl rfl)
theorem dX28_iterator_8 : decode cX28_iterator 8 = .ok (.areturn, 1) := dk_176 (dk_at dksX28_iterator_0 8 rfl rfl)
abbrev cX16_init : ByteArray := prog_30_method_1_code
def dkwX16_init_0 : List UInt8 := [42, 43, 181, 0, 3, 42, 183, 0, 9, 177]
abbrev dktX16_init_0 : List UInt8 := dkwX16_init_0 ++ []
theorem dksX16_init_0 : cX16_init.data.toList.drop 0 = dktX16_init_0 := by decide +kernel
theorem dX16_init_0 : decode cX16_init 0 = .ok (.aload_n 0, 1) := dk_42 (dk_at dksX16_init_0 0 rfl rfl)
theorem dX16_init_1 : decode cX16_init 1 = .ok (.aload_n 1, 1) := dk_43 (dk_at dksX16_init_0 1 rfl rfl)
theorem dX16_init_2 : decode cX16_init 2 = .ok (.putfield 3, 3) := dk_181 0 3 (dk_at dksX16_init_0 2 rfl rfl)
theorem dX16_init_5 : decode cX16_init 5 = .ok (.aload_n 0, 1) := dk_42 (dk_at dksX16_init_0 5 rfl rfl)
theorem dX16_init_6 : decode cX16_init 6 = .ok (.invokespecial 9, 3) := dk_183 0 9 (dk_at dksX16_init_0 6 rfl rfl)
theorem dX16_init_9 : decode cX16_init 9 = .ok (.return_, 1) := dk_177 (dk_at dksX16_init_0 9 rfl rfl)
abbrev cX17_with : ByteArray := prog_2_method_2_code
def dkwX17_with_0 : List UInt8 := [43, 180, 0, 17, 61, 43, 42, 180, 0, 7, 181, 0, 17, 28, 172]
abbrev dktX17_with_0 : List UInt8 := dkwX17_with_0 ++ []
theorem dksX17_with_0 : cX17_with.data.toList.drop 0 = dktX17_with_0 := by decide +kernel
theorem dX17_with_0 : decode cX17_with 0 = .ok (.aload_n 1, 1) := dk_43 (dk_at dksX17_with_0 0 rfl rfl)
theorem dX17_with_1 : decode cX17_with 1 = .ok (.getfield 17, 3) := dk_180 0 17 (dk_at dksX17_with_0 1 rfl rfl)
theorem dX17_with_4 : decode cX17_with 4 = .ok (.istore_n 2, 1) := dk_61 (dk_at dksX17_with_0 4 rfl rfl)
theorem dX17_with_5 : decode cX17_with 5 = .ok (.aload_n 1, 1) := dk_43 (dk_at dksX17_with_0 5 rfl rfl)
theorem dX17_with_6 : decode cX17_with 6 = .ok (.aload_n 0, 1) := dk_42 (dk_at dksX17_with_0 6 rfl rfl)
theorem dX17_with_7 : decode cX17_with 7 = .ok (.getfield 7, 3) := dk_180 0 7 (dk_at dksX17_with_0 7 rfl rfl)
theorem dX17_with_10 : decode cX17_with 10 = .ok (.putfield 17, 3) := dk_181 0 17 (dk_at dksX17_with_0 10 rfl rfl)
theorem dX17_with_13 : decode cX17_with 13 = .ok (.iload_n 2, 1) := dk_28 (dk_at dksX17_with_0 13 rfl rfl)
theorem dX17_with_14 : decode cX17_with 14 = .ok (.ireturn, 1) := dk_172 (dk_at dksX17_with_0 14 rfl rfl)
abbrev cX18_with : ByteArray := prog_3_method_2_code
def dkwX18_with_2 : List UInt8 := [182, 0, 29, 28, 172]
abbrev dktX18_with_2 : List UInt8 := dkwX18_with_2 ++ []
def dkwX18_with_1 : List UInt8 := [167, 0, 4, 3, 181, 0, 17, 43, 180, 0, 17, 153, 0, 14, 42, 180, 0, 1, 180, 0, 23, 43]
abbrev dktX18_with_1 : List UInt8 := dkwX18_with_1 ++ dktX18_with_2
def dkwX18_with_0 : List UInt8 := [43, 180, 0, 17, 153, 0, 7, 4, 167, 0, 4, 3, 61, 43, 42, 180, 0, 7, 4, 160, 0, 7, 4]
abbrev dktX18_with_0 : List UInt8 := dkwX18_with_0 ++ dktX18_with_1
theorem dksX18_with_0 : cX18_with.data.toList.drop 0 = dktX18_with_0 := by decide +kernel
theorem dksX18_with_1 : cX18_with.data.toList.drop 23 = dktX18_with_1 := dk_seg dksX18_with_0 23 rfl rfl
theorem dksX18_with_2 : cX18_with.data.toList.drop 45 = dktX18_with_2 := dk_seg dksX18_with_1 22 rfl rfl
theorem dX18_with_0 : decode cX18_with 0 = .ok (.aload_n 1, 1) := dk_43 (dk_at dksX18_with_0 0 rfl rfl)
theorem dX18_with_1 : decode cX18_with 1 = .ok (.getfield 17, 3) := dk_180 0 17 (dk_at dksX18_with_0 1 rfl rfl)
theorem dX18_with_4 : decode cX18_with 4 = .ok (.ifCond .eq 7, 3) := dk_153 0 7 (dk_at dksX18_with_0 4 rfl rfl)
theorem dX18_with_7 : decode cX18_with 7 = .ok (.iconst 1, 1) := dk_4 (dk_at dksX18_with_0 7 rfl rfl)
theorem dX18_with_8 : decode cX18_with 8 = .ok (.goto 4, 3) := dk_167 0 4 (dk_at dksX18_with_0 8 rfl rfl)
theorem dX18_with_11 : decode cX18_with 11 = .ok (.iconst 0, 1) := dk_3 (dk_at dksX18_with_0 11 rfl rfl)
theorem dX18_with_12 : decode cX18_with 12 = .ok (.istore_n 2, 1) := dk_61 (dk_at dksX18_with_0 12 rfl rfl)
theorem dX18_with_13 : decode cX18_with 13 = .ok (.aload_n 1, 1) := dk_43 (dk_at dksX18_with_0 13 rfl rfl)
theorem dX18_with_14 : decode cX18_with 14 = .ok (.aload_n 0, 1) := dk_42 (dk_at dksX18_with_0 14 rfl rfl)
theorem dX18_with_15 : decode cX18_with 15 = .ok (.getfield 7, 3) := dk_180 0 7 (dk_at dksX18_with_0 15 rfl rfl)
theorem dX18_with_18 : decode cX18_with 18 = .ok (.iconst 1, 1) := dk_4 (dk_at dksX18_with_0 18 rfl rfl)
theorem dX18_with_19 : decode cX18_with 19 = .ok (.if_icmp .ne 7, 3) := dk_160 0 7 (dk_at dksX18_with_0 19 rfl rfl)
theorem dX18_with_22 : decode cX18_with 22 = .ok (.iconst 1, 1) := dk_4 (dk_at dksX18_with_0 22 rfl rfl)
theorem dX18_with_23 : decode cX18_with 23 = .ok (.goto 4, 3) := dk_167 0 4 (dk_at dksX18_with_1 0 rfl rfl)
theorem dX18_with_26 : decode cX18_with 26 = .ok (.iconst 0, 1) := dk_3 (dk_at dksX18_with_1 3 rfl rfl)
theorem dX18_with_27 : decode cX18_with 27 = .ok (.putfield 17, 3) := dk_181 0 17 (dk_at dksX18_with_1 4 rfl rfl)
theorem dX18_with_30 : decode cX18_with 30 = .ok (.aload_n 1, 1) := dk_43 (dk_at dksX18_with_1 7 rfl rfl)
theorem dX18_with_31 : decode cX18_with 31 = .ok (.getfield 17, 3) := dk_180 0 17 (dk_at dksX18_with_1 8 rfl rfl)
theorem dX18_with_34 : decode cX18_with 34 = .ok (.ifCond .eq 14, 3) := dk_153 0 14 (dk_at dksX18_with_1 11 rfl rfl)
theorem dX18_with_37 : decode cX18_with 37 = .ok (.aload_n 0, 1) := dk_42 (dk_at dksX18_with_1 14 rfl rfl)
theorem dX18_with_38 : decode cX18_with 38 = .ok (.getfield 1, 3) := dk_180 0 1 (dk_at dksX18_with_1 15 rfl rfl)
theorem dX18_with_41 : decode cX18_with 41 = .ok (.getfield 23, 3) := dk_180 0 23 (dk_at dksX18_with_1 18 rfl rfl)
theorem dX18_with_44 : decode cX18_with 44 = .ok (.aload_n 1, 1) := dk_43 (dk_at dksX18_with_1 21 rfl rfl)
theorem dX18_with_45 : decode cX18_with 45 = .ok (.invokevirtual 29, 3) := dk_182 0 29 (dk_at dksX18_with_2 0 rfl rfl)
theorem dX18_with_48 : decode cX18_with 48 = .ok (.iload_n 2, 1) := dk_28 (dk_at dksX18_with_2 3 rfl rfl)
theorem dX18_with_49 : decode cX18_with 49 = .ok (.ireturn, 1) := dk_172 (dk_at dksX18_with_2 4 rfl rfl)
abbrev cX19_init : ByteArray := prog_28_method_1_code
def dkwX19_init_1 : List UInt8 := [181, 0, 19, 42, 21, 5, 181, 0, 22, 42, 21, 6, 181, 0, 25, 177]
abbrev dktX19_init_1 : List UInt8 := dkwX19_init_1 ++ []
def dkwX19_init_0 : List UInt8 := [42, 183, 0, 1, 42, 27, 181, 0, 7, 42, 28, 181, 0, 13, 42, 29, 181, 0, 16, 42, 21, 4]
abbrev dktX19_init_0 : List UInt8 := dkwX19_init_0 ++ dktX19_init_1
theorem dksX19_init_0 : cX19_init.data.toList.drop 0 = dktX19_init_0 := by decide +kernel
theorem dksX19_init_1 : cX19_init.data.toList.drop 22 = dktX19_init_1 := dk_seg dksX19_init_0 22 rfl rfl
theorem dX19_init_0 : decode cX19_init 0 = .ok (.aload_n 0, 1) := dk_42 (dk_at dksX19_init_0 0 rfl rfl)
theorem dX19_init_1 : decode cX19_init 1 = .ok (.invokespecial 1, 3) := dk_183 0 1 (dk_at dksX19_init_0 1 rfl rfl)
theorem dX19_init_4 : decode cX19_init 4 = .ok (.aload_n 0, 1) := dk_42 (dk_at dksX19_init_0 4 rfl rfl)
theorem dX19_init_5 : decode cX19_init 5 = .ok (.iload_n 1, 1) := dk_27 (dk_at dksX19_init_0 5 rfl rfl)
theorem dX19_init_6 : decode cX19_init 6 = .ok (.putfield 7, 3) := dk_181 0 7 (dk_at dksX19_init_0 6 rfl rfl)
theorem dX19_init_9 : decode cX19_init 9 = .ok (.aload_n 0, 1) := dk_42 (dk_at dksX19_init_0 9 rfl rfl)
theorem dX19_init_10 : decode cX19_init 10 = .ok (.iload_n 2, 1) := dk_28 (dk_at dksX19_init_0 10 rfl rfl)
theorem dX19_init_11 : decode cX19_init 11 = .ok (.putfield 13, 3) := dk_181 0 13 (dk_at dksX19_init_0 11 rfl rfl)
theorem dX19_init_14 : decode cX19_init 14 = .ok (.aload_n 0, 1) := dk_42 (dk_at dksX19_init_0 14 rfl rfl)
theorem dX19_init_15 : decode cX19_init 15 = .ok (.iload_n 3, 1) := dk_29 (dk_at dksX19_init_0 15 rfl rfl)
theorem dX19_init_16 : decode cX19_init 16 = .ok (.putfield 16, 3) := dk_181 0 16 (dk_at dksX19_init_0 16 rfl rfl)
theorem dX19_init_19 : decode cX19_init 19 = .ok (.aload_n 0, 1) := dk_42 (dk_at dksX19_init_0 19 rfl rfl)
theorem dX19_init_20 : decode cX19_init 20 = .ok (.iload 4, 2) := dk_21 4 (dk_at dksX19_init_0 20 rfl rfl)
theorem dX19_init_22 : decode cX19_init 22 = .ok (.putfield 19, 3) := dk_181 0 19 (dk_at dksX19_init_1 0 rfl rfl)
theorem dX19_init_25 : decode cX19_init 25 = .ok (.aload_n 0, 1) := dk_42 (dk_at dksX19_init_1 3 rfl rfl)
theorem dX19_init_26 : decode cX19_init 26 = .ok (.iload 5, 2) := dk_21 5 (dk_at dksX19_init_1 4 rfl rfl)
theorem dX19_init_28 : decode cX19_init 28 = .ok (.putfield 22, 3) := dk_181 0 22 (dk_at dksX19_init_1 6 rfl rfl)
theorem dX19_init_31 : decode cX19_init 31 = .ok (.aload_n 0, 1) := dk_42 (dk_at dksX19_init_1 9 rfl rfl)
theorem dX19_init_32 : decode cX19_init 32 = .ok (.iload 6, 2) := dk_21 6 (dk_at dksX19_init_1 10 rfl rfl)
theorem dX19_init_34 : decode cX19_init 34 = .ok (.putfield 25, 3) := dk_181 0 25 (dk_at dksX19_init_1 12 rfl rfl)
theorem dX19_init_37 : decode cX19_init 37 = .ok (.return_, 1) := dk_177 (dk_at dksX19_init_1 15 rfl rfl)
abbrev cX1_mayKeep : ByteArray := prog_8_method_36_code
def dkwX1_mayKeep_5 : List UInt8 := [154, 0, 5, 3, 172, 132, 2, 1, 167, 255, 218, 4, 172]
abbrev dktX1_mayKeep_5 : List UInt8 := dkwX1_mayKeep_5 ++ []
def dkwX1_mayKeep_4 : List UInt8 := [42, 180, 0, 11, 28, 50, 43, 180, 1, 221, 43, 180, 1, 186, 186, 1, 224, 0, 0, 182, 1, 24]
abbrev dktX1_mayKeep_4 : List UInt8 := dkwX1_mayKeep_4 ++ dktX1_mayKeep_5
def dkwX1_mayKeep_3 : List UInt8 := [180, 1, 186, 162, 0, 5, 3, 172, 167, 255, 191, 43, 180, 1, 216, 61, 28, 43, 180, 1, 218, 163, 0, 36]
abbrev dktX1_mayKeep_3 : List UInt8 := dkwX1_mayKeep_3 ++ dktX1_mayKeep_4
def dkwX1_mayKeep_2 : List UInt8 := [45, 180, 1, 218, 163, 0, 27, 45, 180, 1, 221, 43, 180, 1, 186, 162, 0, 16, 43, 180, 1, 221, 45]
abbrev dktX1_mayKeep_2 : List UInt8 := dkwX1_mayKeep_2 ++ dktX1_mayKeep_3
def dkwX1_mayKeep_1 : List UInt8 := [185, 0, 133, 1, 0, 192, 0, 151, 78, 45, 180, 1, 216, 43, 180, 1, 218, 163, 0, 38, 43, 180, 1, 216]
abbrev dktX1_mayKeep_1 : List UInt8 := dkwX1_mayKeep_1 ++ dktX1_mayKeep_2
def dkwX1_mayKeep_0 : List UInt8 := [42, 180, 0, 46, 182, 0, 144, 185, 0, 148, 1, 0, 77, 44, 185, 0, 127, 1, 0, 153, 0, 62, 44]
abbrev dktX1_mayKeep_0 : List UInt8 := dkwX1_mayKeep_0 ++ dktX1_mayKeep_1
theorem dksX1_mayKeep_0 : cX1_mayKeep.data.toList.drop 0 = dktX1_mayKeep_0 := by decide +kernel
theorem dksX1_mayKeep_1 : cX1_mayKeep.data.toList.drop 23 = dktX1_mayKeep_1 := dk_seg dksX1_mayKeep_0 23 rfl rfl
theorem dksX1_mayKeep_2 : cX1_mayKeep.data.toList.drop 47 = dktX1_mayKeep_2 := dk_seg dksX1_mayKeep_1 24 rfl rfl
theorem dksX1_mayKeep_3 : cX1_mayKeep.data.toList.drop 70 = dktX1_mayKeep_3 := dk_seg dksX1_mayKeep_2 23 rfl rfl
theorem dksX1_mayKeep_4 : cX1_mayKeep.data.toList.drop 94 = dktX1_mayKeep_4 := dk_seg dksX1_mayKeep_3 24 rfl rfl
theorem dksX1_mayKeep_5 : cX1_mayKeep.data.toList.drop 116 = dktX1_mayKeep_5 := dk_seg dksX1_mayKeep_4 22 rfl rfl
theorem dX1_mayKeep_0 : decode cX1_mayKeep 0 = .ok (.aload_n 0, 1) := dk_42 (dk_at dksX1_mayKeep_0 0 rfl rfl)
theorem dX1_mayKeep_1 : decode cX1_mayKeep 1 = .ok (.getfield 46, 3) := dk_180 0 46 (dk_at dksX1_mayKeep_0 1 rfl rfl)
theorem dX1_mayKeep_4 : decode cX1_mayKeep 4 = .ok (.invokevirtual 144, 3) := dk_182 0 144 (dk_at dksX1_mayKeep_0 4 rfl rfl)
theorem dX1_mayKeep_7 : decode cX1_mayKeep 7 = .ok (.invokeinterface 148 1, 5) := by decide +kernel
theorem dX1_mayKeep_12 : decode cX1_mayKeep 12 = .ok (.astore_n 2, 1) := dk_77 (dk_at dksX1_mayKeep_0 12 rfl rfl)
theorem dX1_mayKeep_13 : decode cX1_mayKeep 13 = .ok (.aload_n 2, 1) := dk_44 (dk_at dksX1_mayKeep_0 13 rfl rfl)
theorem dX1_mayKeep_14 : decode cX1_mayKeep 14 = .ok (.invokeinterface 127 1, 5) := by decide +kernel
theorem dX1_mayKeep_19 : decode cX1_mayKeep 19 = .ok (.ifCond .eq 62, 3) := dk_153 0 62 (dk_at dksX1_mayKeep_0 19 rfl rfl)
theorem dX1_mayKeep_22 : decode cX1_mayKeep 22 = .ok (.aload_n 2, 1) := dk_44 (dk_at dksX1_mayKeep_0 22 rfl rfl)
theorem dX1_mayKeep_23 : decode cX1_mayKeep 23 = .ok (.invokeinterface 133 1, 5) := by decide +kernel
theorem dX1_mayKeep_28 : decode cX1_mayKeep 28 = .ok (.checkcast 151, 3) := dk_192 0 151 (dk_at dksX1_mayKeep_1 5 rfl rfl)
theorem dX1_mayKeep_31 : decode cX1_mayKeep 31 = .ok (.astore_n 3, 1) := dk_78 (dk_at dksX1_mayKeep_1 8 rfl rfl)
theorem dX1_mayKeep_32 : decode cX1_mayKeep 32 = .ok (.aload_n 3, 1) := dk_45 (dk_at dksX1_mayKeep_1 9 rfl rfl)
theorem dX1_mayKeep_33 : decode cX1_mayKeep 33 = .ok (.getfield 472, 3) := dk_180 1 216 (dk_at dksX1_mayKeep_1 10 rfl rfl)
theorem dX1_mayKeep_36 : decode cX1_mayKeep 36 = .ok (.aload_n 1, 1) := dk_43 (dk_at dksX1_mayKeep_1 13 rfl rfl)
theorem dX1_mayKeep_37 : decode cX1_mayKeep 37 = .ok (.getfield 474, 3) := dk_180 1 218 (dk_at dksX1_mayKeep_1 14 rfl rfl)
theorem dX1_mayKeep_40 : decode cX1_mayKeep 40 = .ok (.if_icmp .gt 38, 3) := dk_163 0 38 (dk_at dksX1_mayKeep_1 17 rfl rfl)
theorem dX1_mayKeep_43 : decode cX1_mayKeep 43 = .ok (.aload_n 1, 1) := dk_43 (dk_at dksX1_mayKeep_1 20 rfl rfl)
theorem dX1_mayKeep_44 : decode cX1_mayKeep 44 = .ok (.getfield 472, 3) := dk_180 1 216 (dk_at dksX1_mayKeep_1 21 rfl rfl)
theorem dX1_mayKeep_47 : decode cX1_mayKeep 47 = .ok (.aload_n 3, 1) := dk_45 (dk_at dksX1_mayKeep_2 0 rfl rfl)
theorem dX1_mayKeep_48 : decode cX1_mayKeep 48 = .ok (.getfield 474, 3) := dk_180 1 218 (dk_at dksX1_mayKeep_2 1 rfl rfl)
theorem dX1_mayKeep_51 : decode cX1_mayKeep 51 = .ok (.if_icmp .gt 27, 3) := dk_163 0 27 (dk_at dksX1_mayKeep_2 4 rfl rfl)
theorem dX1_mayKeep_54 : decode cX1_mayKeep 54 = .ok (.aload_n 3, 1) := dk_45 (dk_at dksX1_mayKeep_2 7 rfl rfl)
theorem dX1_mayKeep_55 : decode cX1_mayKeep 55 = .ok (.getfield 477, 3) := dk_180 1 221 (dk_at dksX1_mayKeep_2 8 rfl rfl)
theorem dX1_mayKeep_58 : decode cX1_mayKeep 58 = .ok (.aload_n 1, 1) := dk_43 (dk_at dksX1_mayKeep_2 11 rfl rfl)
theorem dX1_mayKeep_59 : decode cX1_mayKeep 59 = .ok (.getfield 442, 3) := dk_180 1 186 (dk_at dksX1_mayKeep_2 12 rfl rfl)
theorem dX1_mayKeep_62 : decode cX1_mayKeep 62 = .ok (.if_icmp .ge 16, 3) := dk_162 0 16 (dk_at dksX1_mayKeep_2 15 rfl rfl)
theorem dX1_mayKeep_65 : decode cX1_mayKeep 65 = .ok (.aload_n 1, 1) := dk_43 (dk_at dksX1_mayKeep_2 18 rfl rfl)
theorem dX1_mayKeep_66 : decode cX1_mayKeep 66 = .ok (.getfield 477, 3) := dk_180 1 221 (dk_at dksX1_mayKeep_2 19 rfl rfl)
theorem dX1_mayKeep_69 : decode cX1_mayKeep 69 = .ok (.aload_n 3, 1) := dk_45 (dk_at dksX1_mayKeep_2 22 rfl rfl)
theorem dX1_mayKeep_70 : decode cX1_mayKeep 70 = .ok (.getfield 442, 3) := dk_180 1 186 (dk_at dksX1_mayKeep_3 0 rfl rfl)
theorem dX1_mayKeep_73 : decode cX1_mayKeep 73 = .ok (.if_icmp .ge 5, 3) := dk_162 0 5 (dk_at dksX1_mayKeep_3 3 rfl rfl)
theorem dX1_mayKeep_76 : decode cX1_mayKeep 76 = .ok (.iconst 0, 1) := dk_3 (dk_at dksX1_mayKeep_3 6 rfl rfl)
theorem dX1_mayKeep_77 : decode cX1_mayKeep 77 = .ok (.ireturn, 1) := dk_172 (dk_at dksX1_mayKeep_3 7 rfl rfl)
theorem dX1_mayKeep_78 : decode cX1_mayKeep 78 = .ok (.goto (-65), 3) := dk_167 255 191 (dk_at dksX1_mayKeep_3 8 rfl rfl)
theorem dX1_mayKeep_81 : decode cX1_mayKeep 81 = .ok (.aload_n 1, 1) := dk_43 (dk_at dksX1_mayKeep_3 11 rfl rfl)
theorem dX1_mayKeep_82 : decode cX1_mayKeep 82 = .ok (.getfield 472, 3) := dk_180 1 216 (dk_at dksX1_mayKeep_3 12 rfl rfl)
theorem dX1_mayKeep_85 : decode cX1_mayKeep 85 = .ok (.istore_n 2, 1) := dk_61 (dk_at dksX1_mayKeep_3 15 rfl rfl)
theorem dX1_mayKeep_86 : decode cX1_mayKeep 86 = .ok (.iload_n 2, 1) := dk_28 (dk_at dksX1_mayKeep_3 16 rfl rfl)
theorem dX1_mayKeep_87 : decode cX1_mayKeep 87 = .ok (.aload_n 1, 1) := dk_43 (dk_at dksX1_mayKeep_3 17 rfl rfl)
theorem dX1_mayKeep_88 : decode cX1_mayKeep 88 = .ok (.getfield 474, 3) := dk_180 1 218 (dk_at dksX1_mayKeep_3 18 rfl rfl)
theorem dX1_mayKeep_91 : decode cX1_mayKeep 91 = .ok (.if_icmp .gt 36, 3) := dk_163 0 36 (dk_at dksX1_mayKeep_3 21 rfl rfl)
theorem dX1_mayKeep_94 : decode cX1_mayKeep 94 = .ok (.aload_n 0, 1) := dk_42 (dk_at dksX1_mayKeep_4 0 rfl rfl)
theorem dX1_mayKeep_95 : decode cX1_mayKeep 95 = .ok (.getfield 11, 3) := dk_180 0 11 (dk_at dksX1_mayKeep_4 1 rfl rfl)
theorem dX1_mayKeep_98 : decode cX1_mayKeep 98 = .ok (.iload_n 2, 1) := dk_28 (dk_at dksX1_mayKeep_4 4 rfl rfl)
theorem dX1_mayKeep_99 : decode cX1_mayKeep 99 = .ok (.aaload, 1) := dk_50 (dk_at dksX1_mayKeep_4 5 rfl rfl)
theorem dX1_mayKeep_100 : decode cX1_mayKeep 100 = .ok (.aload_n 1, 1) := dk_43 (dk_at dksX1_mayKeep_4 6 rfl rfl)
theorem dX1_mayKeep_101 : decode cX1_mayKeep 101 = .ok (.getfield 477, 3) := dk_180 1 221 (dk_at dksX1_mayKeep_4 7 rfl rfl)
theorem dX1_mayKeep_104 : decode cX1_mayKeep 104 = .ok (.aload_n 1, 1) := dk_43 (dk_at dksX1_mayKeep_4 10 rfl rfl)
theorem dX1_mayKeep_105 : decode cX1_mayKeep 105 = .ok (.getfield 442, 3) := dk_180 1 186 (dk_at dksX1_mayKeep_4 11 rfl rfl)
theorem dX1_mayKeep_108 : decode cX1_mayKeep 108 = .ok (.invokedynamic 480, 5) := by decide +kernel
theorem dX1_mayKeep_113 : decode cX1_mayKeep 113 = .ok (.invokevirtual 280, 3) := dk_182 1 24 (dk_at dksX1_mayKeep_4 19 rfl rfl)
theorem dX1_mayKeep_116 : decode cX1_mayKeep 116 = .ok (.ifCond .ne 5, 3) := dk_154 0 5 (dk_at dksX1_mayKeep_5 0 rfl rfl)
theorem dX1_mayKeep_119 : decode cX1_mayKeep 119 = .ok (.iconst 0, 1) := dk_3 (dk_at dksX1_mayKeep_5 3 rfl rfl)
theorem dX1_mayKeep_120 : decode cX1_mayKeep 120 = .ok (.ireturn, 1) := dk_172 (dk_at dksX1_mayKeep_5 4 rfl rfl)
theorem dX1_mayKeep_121 : decode cX1_mayKeep 121 = .ok (.iinc 2 1, 3) := dk_132 2 1 (dk_at dksX1_mayKeep_5 5 rfl rfl)
theorem dX1_mayKeep_124 : decode cX1_mayKeep 124 = .ok (.goto (-38), 3) := dk_167 255 218 (dk_at dksX1_mayKeep_5 8 rfl rfl)
theorem dX1_mayKeep_127 : decode cX1_mayKeep 127 = .ok (.iconst 1, 1) := dk_4 (dk_at dksX1_mayKeep_5 11 rfl rfl)
theorem dX1_mayKeep_128 : decode cX1_mayKeep 128 = .ok (.ireturn, 1) := dk_172 (dk_at dksX1_mayKeep_5 12 rfl rfl)
abbrev cX1_keep : ByteArray := prog_8_method_37_code
def dkwX1_keep_2 : List UInt8 := [187, 1, 225, 89, 43, 183, 1, 227, 182, 1, 89, 132, 2, 1, 167, 255, 228, 177]
abbrev dktX1_keep_2 : List UInt8 := dkwX1_keep_2 ++ []
def dkwX1_keep_1 : List UInt8 := [181, 0, 200, 43, 180, 1, 216, 61, 28, 43, 180, 1, 218, 163, 0, 26, 42, 180, 0, 11, 28, 50]
abbrev dktX1_keep_1 : List UInt8 := dkwX1_keep_1 ++ dktX1_keep_2
def dkwX1_keep_0 : List UInt8 := [42, 180, 0, 46, 43, 180, 0, 153, 184, 0, 156, 43, 182, 0, 162, 87, 42, 89, 180, 0, 200, 4, 96]
abbrev dktX1_keep_0 : List UInt8 := dkwX1_keep_0 ++ dktX1_keep_1
theorem dksX1_keep_0 : cX1_keep.data.toList.drop 0 = dktX1_keep_0 := by decide +kernel
theorem dksX1_keep_1 : cX1_keep.data.toList.drop 23 = dktX1_keep_1 := dk_seg dksX1_keep_0 23 rfl rfl
theorem dksX1_keep_2 : cX1_keep.data.toList.drop 45 = dktX1_keep_2 := dk_seg dksX1_keep_1 22 rfl rfl
theorem dX1_keep_0 : decode cX1_keep 0 = .ok (.aload_n 0, 1) := dk_42 (dk_at dksX1_keep_0 0 rfl rfl)
theorem dX1_keep_1 : decode cX1_keep 1 = .ok (.getfield 46, 3) := dk_180 0 46 (dk_at dksX1_keep_0 1 rfl rfl)
theorem dX1_keep_4 : decode cX1_keep 4 = .ok (.aload_n 1, 1) := dk_43 (dk_at dksX1_keep_0 4 rfl rfl)
theorem dX1_keep_5 : decode cX1_keep 5 = .ok (.getfield 153, 3) := dk_180 0 153 (dk_at dksX1_keep_0 5 rfl rfl)
theorem dX1_keep_8 : decode cX1_keep 8 = .ok (.invokestatic 156, 3) := dk_184 0 156 (dk_at dksX1_keep_0 8 rfl rfl)
theorem dX1_keep_11 : decode cX1_keep 11 = .ok (.aload_n 1, 1) := dk_43 (dk_at dksX1_keep_0 11 rfl rfl)
theorem dX1_keep_12 : decode cX1_keep 12 = .ok (.invokevirtual 162, 3) := dk_182 0 162 (dk_at dksX1_keep_0 12 rfl rfl)
theorem dX1_keep_15 : decode cX1_keep 15 = .ok (.pop, 1) := dk_87 (dk_at dksX1_keep_0 15 rfl rfl)
theorem dX1_keep_16 : decode cX1_keep 16 = .ok (.aload_n 0, 1) := dk_42 (dk_at dksX1_keep_0 16 rfl rfl)
theorem dX1_keep_17 : decode cX1_keep 17 = .ok (.dup, 1) := dk_89 (dk_at dksX1_keep_0 17 rfl rfl)
theorem dX1_keep_18 : decode cX1_keep 18 = .ok (.getfield 200, 3) := dk_180 0 200 (dk_at dksX1_keep_0 18 rfl rfl)
theorem dX1_keep_21 : decode cX1_keep 21 = .ok (.iconst 1, 1) := dk_4 (dk_at dksX1_keep_0 21 rfl rfl)
theorem dX1_keep_22 : decode cX1_keep 22 = .ok (.iadd, 1) := dk_96 (dk_at dksX1_keep_0 22 rfl rfl)
theorem dX1_keep_23 : decode cX1_keep 23 = .ok (.putfield 200, 3) := dk_181 0 200 (dk_at dksX1_keep_1 0 rfl rfl)
theorem dX1_keep_26 : decode cX1_keep 26 = .ok (.aload_n 1, 1) := dk_43 (dk_at dksX1_keep_1 3 rfl rfl)
theorem dX1_keep_27 : decode cX1_keep 27 = .ok (.getfield 472, 3) := dk_180 1 216 (dk_at dksX1_keep_1 4 rfl rfl)
theorem dX1_keep_30 : decode cX1_keep 30 = .ok (.istore_n 2, 1) := dk_61 (dk_at dksX1_keep_1 7 rfl rfl)
theorem dX1_keep_31 : decode cX1_keep 31 = .ok (.iload_n 2, 1) := dk_28 (dk_at dksX1_keep_1 8 rfl rfl)
theorem dX1_keep_32 : decode cX1_keep 32 = .ok (.aload_n 1, 1) := dk_43 (dk_at dksX1_keep_1 9 rfl rfl)
theorem dX1_keep_33 : decode cX1_keep 33 = .ok (.getfield 474, 3) := dk_180 1 218 (dk_at dksX1_keep_1 10 rfl rfl)
theorem dX1_keep_36 : decode cX1_keep 36 = .ok (.if_icmp .gt 26, 3) := dk_163 0 26 (dk_at dksX1_keep_1 13 rfl rfl)
theorem dX1_keep_39 : decode cX1_keep 39 = .ok (.aload_n 0, 1) := dk_42 (dk_at dksX1_keep_1 16 rfl rfl)
theorem dX1_keep_40 : decode cX1_keep 40 = .ok (.getfield 11, 3) := dk_180 0 11 (dk_at dksX1_keep_1 17 rfl rfl)
theorem dX1_keep_43 : decode cX1_keep 43 = .ok (.iload_n 2, 1) := dk_28 (dk_at dksX1_keep_1 20 rfl rfl)
theorem dX1_keep_44 : decode cX1_keep 44 = .ok (.aaload, 1) := dk_50 (dk_at dksX1_keep_1 21 rfl rfl)
theorem dX1_keep_45 : decode cX1_keep 45 = .ok (.new 481, 3) := dk_187 1 225 (dk_at dksX1_keep_2 0 rfl rfl)
theorem dX1_keep_48 : decode cX1_keep 48 = .ok (.dup, 1) := dk_89 (dk_at dksX1_keep_2 3 rfl rfl)
theorem dX1_keep_49 : decode cX1_keep 49 = .ok (.aload_n 1, 1) := dk_43 (dk_at dksX1_keep_2 4 rfl rfl)
theorem dX1_keep_50 : decode cX1_keep 50 = .ok (.invokespecial 483, 3) := dk_183 1 227 (dk_at dksX1_keep_2 5 rfl rfl)
theorem dX1_keep_53 : decode cX1_keep 53 = .ok (.invokevirtual 345, 3) := dk_182 1 89 (dk_at dksX1_keep_2 8 rfl rfl)
theorem dX1_keep_56 : decode cX1_keep 56 = .ok (.iinc 2 1, 3) := dk_132 2 1 (dk_at dksX1_keep_2 11 rfl rfl)
theorem dX1_keep_59 : decode cX1_keep 59 = .ok (.goto (-28), 3) := dk_167 255 228 (dk_at dksX1_keep_2 14 rfl rfl)
theorem dX1_keep_62 : decode cX1_keep 62 = .ok (.return_, 1) := dk_177 (dk_at dksX1_keep_2 17 rfl rfl)
abbrev cX1_givesUp : ByteArray := prog_8_method_21_code
def dkwX1_givesUp_1 : List UInt8 := [25, 5, 43, 182, 1, 71, 132, 4, 1, 167, 255, 235, 177]
abbrev dktX1_givesUp_1 : List UInt8 := dkwX1_givesUp_1 ++ []
def dkwX1_givesUp_0 : List UInt8 := [42, 180, 0, 11, 77, 44, 190, 62, 3, 54, 4, 21, 4, 29, 162, 0, 21, 44, 21, 4, 50, 58, 5]
abbrev dktX1_givesUp_0 : List UInt8 := dkwX1_givesUp_0 ++ dktX1_givesUp_1
theorem dksX1_givesUp_0 : cX1_givesUp.data.toList.drop 0 = dktX1_givesUp_0 := by decide +kernel
theorem dksX1_givesUp_1 : cX1_givesUp.data.toList.drop 23 = dktX1_givesUp_1 := dk_seg dksX1_givesUp_0 23 rfl rfl
theorem dX1_givesUp_0 : decode cX1_givesUp 0 = .ok (.aload_n 0, 1) := dk_42 (dk_at dksX1_givesUp_0 0 rfl rfl)
theorem dX1_givesUp_1 : decode cX1_givesUp 1 = .ok (.getfield 11, 3) := dk_180 0 11 (dk_at dksX1_givesUp_0 1 rfl rfl)
theorem dX1_givesUp_4 : decode cX1_givesUp 4 = .ok (.astore_n 2, 1) := dk_77 (dk_at dksX1_givesUp_0 4 rfl rfl)
theorem dX1_givesUp_5 : decode cX1_givesUp 5 = .ok (.aload_n 2, 1) := dk_44 (dk_at dksX1_givesUp_0 5 rfl rfl)
theorem dX1_givesUp_6 : decode cX1_givesUp 6 = .ok (.arraylength, 1) := dk_190 (dk_at dksX1_givesUp_0 6 rfl rfl)
theorem dX1_givesUp_7 : decode cX1_givesUp 7 = .ok (.istore_n 3, 1) := dk_62 (dk_at dksX1_givesUp_0 7 rfl rfl)
theorem dX1_givesUp_8 : decode cX1_givesUp 8 = .ok (.iconst 0, 1) := dk_3 (dk_at dksX1_givesUp_0 8 rfl rfl)
theorem dX1_givesUp_9 : decode cX1_givesUp 9 = .ok (.istore 4, 2) := dk_54 4 (dk_at dksX1_givesUp_0 9 rfl rfl)
theorem dX1_givesUp_11 : decode cX1_givesUp 11 = .ok (.iload 4, 2) := dk_21 4 (dk_at dksX1_givesUp_0 11 rfl rfl)
theorem dX1_givesUp_13 : decode cX1_givesUp 13 = .ok (.iload_n 3, 1) := dk_29 (dk_at dksX1_givesUp_0 13 rfl rfl)
theorem dX1_givesUp_14 : decode cX1_givesUp 14 = .ok (.if_icmp .ge 21, 3) := dk_162 0 21 (dk_at dksX1_givesUp_0 14 rfl rfl)
theorem dX1_givesUp_17 : decode cX1_givesUp 17 = .ok (.aload_n 2, 1) := dk_44 (dk_at dksX1_givesUp_0 17 rfl rfl)
theorem dX1_givesUp_18 : decode cX1_givesUp 18 = .ok (.iload 4, 2) := dk_21 4 (dk_at dksX1_givesUp_0 18 rfl rfl)
theorem dX1_givesUp_20 : decode cX1_givesUp 20 = .ok (.aaload, 1) := dk_50 (dk_at dksX1_givesUp_0 20 rfl rfl)
theorem dX1_givesUp_21 : decode cX1_givesUp 21 = .ok (.astore 5, 2) := dk_58 5 (dk_at dksX1_givesUp_0 21 rfl rfl)
theorem dX1_givesUp_23 : decode cX1_givesUp 23 = .ok (.aload 5, 2) := dk_25 5 (dk_at dksX1_givesUp_1 0 rfl rfl)
theorem dX1_givesUp_25 : decode cX1_givesUp 25 = .ok (.aload_n 1, 1) := dk_43 (dk_at dksX1_givesUp_1 2 rfl rfl)
theorem dX1_givesUp_26 : decode cX1_givesUp 26 = .ok (.invokevirtual 327, 3) := dk_182 1 71 (dk_at dksX1_givesUp_1 3 rfl rfl)
theorem dX1_givesUp_29 : decode cX1_givesUp 29 = .ok (.iinc 4 1, 3) := dk_132 4 1 (dk_at dksX1_givesUp_1 6 rfl rfl)
theorem dX1_givesUp_32 : decode cX1_givesUp 32 = .ok (.goto (-21), 3) := dk_167 255 235 (dk_at dksX1_givesUp_1 9 rfl rfl)
theorem dX1_givesUp_35 : decode cX1_givesUp 35 = .ok (.return_, 1) := dk_177 (dk_at dksX1_givesUp_1 12 rfl rfl)
abbrev cX1_uses : ByteArray := prog_8_method_28_code
def dkwX1_uses_3 : List UInt8 := [182, 1, 155, 42, 180, 0, 82, 16, 6, 92, 47, 16, 16, 27, 100, 133, 97, 80, 177]
abbrev dktX1_uses_3 : List UInt8 := dkwX1_uses_3 ++ []
def dkwX1_uses_2 : List UInt8 := [180, 0, 182, 180, 0, 248, 133, 97, 80, 27, 45, 180, 0, 182, 180, 0, 248, 96, 60, 167, 255, 204, 42]
abbrev dktX1_uses_2 : List UInt8 := dkwX1_uses_2 ++ dktX1_uses_3
def dkwX1_uses_1 : List UInt8 := [185, 0, 133, 1, 0, 192, 0, 172, 78, 42, 180, 0, 24, 45, 180, 0, 174, 180, 0, 245, 92, 47, 45]
abbrev dktX1_uses_1 : List UInt8 := dkwX1_uses_1 ++ dktX1_uses_2
def dkwX1_uses_0 : List UInt8 := [3, 60, 42, 180, 0, 58, 182, 0, 171, 77, 44, 185, 0, 127, 1, 0, 153, 0, 49, 44]
abbrev dktX1_uses_0 : List UInt8 := dkwX1_uses_0 ++ dktX1_uses_1
theorem dksX1_uses_0 : cX1_uses.data.toList.drop 0 = dktX1_uses_0 := by decide +kernel
theorem dksX1_uses_1 : cX1_uses.data.toList.drop 20 = dktX1_uses_1 := dk_seg dksX1_uses_0 20 rfl rfl
theorem dksX1_uses_2 : cX1_uses.data.toList.drop 43 = dktX1_uses_2 := dk_seg dksX1_uses_1 23 rfl rfl
theorem dksX1_uses_3 : cX1_uses.data.toList.drop 66 = dktX1_uses_3 := dk_seg dksX1_uses_2 23 rfl rfl
theorem dX1_uses_0 : decode cX1_uses 0 = .ok (.iconst 0, 1) := dk_3 (dk_at dksX1_uses_0 0 rfl rfl)
theorem dX1_uses_1 : decode cX1_uses 1 = .ok (.istore_n 1, 1) := dk_60 (dk_at dksX1_uses_0 1 rfl rfl)
theorem dX1_uses_2 : decode cX1_uses 2 = .ok (.aload_n 0, 1) := dk_42 (dk_at dksX1_uses_0 2 rfl rfl)
theorem dX1_uses_3 : decode cX1_uses 3 = .ok (.getfield 58, 3) := dk_180 0 58 (dk_at dksX1_uses_0 3 rfl rfl)
theorem dX1_uses_6 : decode cX1_uses 6 = .ok (.invokevirtual 171, 3) := dk_182 0 171 (dk_at dksX1_uses_0 6 rfl rfl)
theorem dX1_uses_9 : decode cX1_uses 9 = .ok (.astore_n 2, 1) := dk_77 (dk_at dksX1_uses_0 9 rfl rfl)
theorem dX1_uses_10 : decode cX1_uses 10 = .ok (.aload_n 2, 1) := dk_44 (dk_at dksX1_uses_0 10 rfl rfl)
theorem dX1_uses_11 : decode cX1_uses 11 = .ok (.invokeinterface 127 1, 5) := by decide +kernel
theorem dX1_uses_16 : decode cX1_uses 16 = .ok (.ifCond .eq 49, 3) := dk_153 0 49 (dk_at dksX1_uses_0 16 rfl rfl)
theorem dX1_uses_19 : decode cX1_uses 19 = .ok (.aload_n 2, 1) := dk_44 (dk_at dksX1_uses_0 19 rfl rfl)
theorem dX1_uses_20 : decode cX1_uses 20 = .ok (.invokeinterface 133 1, 5) := by decide +kernel
theorem dX1_uses_25 : decode cX1_uses 25 = .ok (.checkcast 172, 3) := dk_192 0 172 (dk_at dksX1_uses_1 5 rfl rfl)
theorem dX1_uses_28 : decode cX1_uses 28 = .ok (.astore_n 3, 1) := dk_78 (dk_at dksX1_uses_1 8 rfl rfl)
theorem dX1_uses_29 : decode cX1_uses 29 = .ok (.aload_n 0, 1) := dk_42 (dk_at dksX1_uses_1 9 rfl rfl)
theorem dX1_uses_30 : decode cX1_uses 30 = .ok (.getfield 24, 3) := dk_180 0 24 (dk_at dksX1_uses_1 10 rfl rfl)
theorem dX1_uses_33 : decode cX1_uses 33 = .ok (.aload_n 3, 1) := dk_45 (dk_at dksX1_uses_1 13 rfl rfl)
theorem dX1_uses_34 : decode cX1_uses 34 = .ok (.getfield 174, 3) := dk_180 0 174 (dk_at dksX1_uses_1 14 rfl rfl)
theorem dX1_uses_37 : decode cX1_uses 37 = .ok (.getfield 245, 3) := dk_180 0 245 (dk_at dksX1_uses_1 17 rfl rfl)
theorem dX1_uses_40 : decode cX1_uses 40 = .ok (.dup2, 1) := dk_92 (dk_at dksX1_uses_1 20 rfl rfl)
theorem dX1_uses_41 : decode cX1_uses 41 = .ok (.laload, 1) := dk_47 (dk_at dksX1_uses_1 21 rfl rfl)
theorem dX1_uses_42 : decode cX1_uses 42 = .ok (.aload_n 3, 1) := dk_45 (dk_at dksX1_uses_1 22 rfl rfl)
theorem dX1_uses_43 : decode cX1_uses 43 = .ok (.getfield 182, 3) := dk_180 0 182 (dk_at dksX1_uses_2 0 rfl rfl)
theorem dX1_uses_46 : decode cX1_uses 46 = .ok (.getfield 248, 3) := dk_180 0 248 (dk_at dksX1_uses_2 3 rfl rfl)
theorem dX1_uses_49 : decode cX1_uses 49 = .ok (.i2l, 1) := dk_133 (dk_at dksX1_uses_2 6 rfl rfl)
theorem dX1_uses_50 : decode cX1_uses 50 = .ok (.ladd, 1) := dk_97 (dk_at dksX1_uses_2 7 rfl rfl)
theorem dX1_uses_51 : decode cX1_uses 51 = .ok (.lastore, 1) := dk_80 (dk_at dksX1_uses_2 8 rfl rfl)
theorem dX1_uses_52 : decode cX1_uses 52 = .ok (.iload_n 1, 1) := dk_27 (dk_at dksX1_uses_2 9 rfl rfl)
theorem dX1_uses_53 : decode cX1_uses 53 = .ok (.aload_n 3, 1) := dk_45 (dk_at dksX1_uses_2 10 rfl rfl)
theorem dX1_uses_54 : decode cX1_uses 54 = .ok (.getfield 182, 3) := dk_180 0 182 (dk_at dksX1_uses_2 11 rfl rfl)
theorem dX1_uses_57 : decode cX1_uses 57 = .ok (.getfield 248, 3) := dk_180 0 248 (dk_at dksX1_uses_2 14 rfl rfl)
theorem dX1_uses_60 : decode cX1_uses 60 = .ok (.iadd, 1) := dk_96 (dk_at dksX1_uses_2 17 rfl rfl)
theorem dX1_uses_61 : decode cX1_uses 61 = .ok (.istore_n 1, 1) := dk_60 (dk_at dksX1_uses_2 18 rfl rfl)
theorem dX1_uses_62 : decode cX1_uses 62 = .ok (.goto (-52), 3) := dk_167 255 204 (dk_at dksX1_uses_2 19 rfl rfl)
theorem dX1_uses_65 : decode cX1_uses 65 = .ok (.aload_n 0, 1) := dk_42 (dk_at dksX1_uses_2 22 rfl rfl)
theorem dX1_uses_66 : decode cX1_uses 66 = .ok (.invokevirtual 411, 3) := dk_182 1 155 (dk_at dksX1_uses_3 0 rfl rfl)
theorem dX1_uses_69 : decode cX1_uses 69 = .ok (.aload_n 0, 1) := dk_42 (dk_at dksX1_uses_3 3 rfl rfl)
theorem dX1_uses_70 : decode cX1_uses 70 = .ok (.getfield 82, 3) := dk_180 0 82 (dk_at dksX1_uses_3 4 rfl rfl)
theorem dX1_uses_73 : decode cX1_uses 73 = .ok (.bipush 6, 2) := dk_16 6 (dk_at dksX1_uses_3 7 rfl rfl)
theorem dX1_uses_75 : decode cX1_uses 75 = .ok (.dup2, 1) := dk_92 (dk_at dksX1_uses_3 9 rfl rfl)
theorem dX1_uses_76 : decode cX1_uses 76 = .ok (.laload, 1) := dk_47 (dk_at dksX1_uses_3 10 rfl rfl)
theorem dX1_uses_77 : decode cX1_uses 77 = .ok (.bipush 16, 2) := dk_16 16 (dk_at dksX1_uses_3 11 rfl rfl)
theorem dX1_uses_79 : decode cX1_uses 79 = .ok (.iload_n 1, 1) := dk_27 (dk_at dksX1_uses_3 13 rfl rfl)
theorem dX1_uses_80 : decode cX1_uses 80 = .ok (.isub, 1) := dk_100 (dk_at dksX1_uses_3 14 rfl rfl)
theorem dX1_uses_81 : decode cX1_uses 81 = .ok (.i2l, 1) := dk_133 (dk_at dksX1_uses_3 15 rfl rfl)
theorem dX1_uses_82 : decode cX1_uses 82 = .ok (.ladd, 1) := dk_97 (dk_at dksX1_uses_3 16 rfl rfl)
theorem dX1_uses_83 : decode cX1_uses 83 = .ok (.lastore, 1) := dk_80 (dk_at dksX1_uses_3 17 rfl rfl)
theorem dX1_uses_84 : decode cX1_uses 84 = .ok (.return_, 1) := dk_177 (dk_at dksX1_uses_3 18 rfl rfl)
abbrev cX1_lets : ByteArray := prog_8_method_26_code
def dkwX1_lets_1 : List UInt8 := [43, 186, 1, 151, 0, 0, 182, 1, 71, 132, 3, 1, 167, 255, 225, 177]
abbrev dktX1_lets_1 : List UInt8 := dkwX1_lets_1 ++ []
def dkwX1_lets_0 : List UInt8 := [44, 180, 1, 76, 62, 29, 44, 180, 1, 76, 44, 180, 0, 248, 96, 162, 0, 24, 42, 180, 0, 11, 29, 50]
abbrev dktX1_lets_0 : List UInt8 := dkwX1_lets_0 ++ dktX1_lets_1
theorem dksX1_lets_0 : cX1_lets.data.toList.drop 0 = dktX1_lets_0 := by decide +kernel
theorem dksX1_lets_1 : cX1_lets.data.toList.drop 24 = dktX1_lets_1 := dk_seg dksX1_lets_0 24 rfl rfl
theorem dX1_lets_0 : decode cX1_lets 0 = .ok (.aload_n 2, 1) := dk_44 (dk_at dksX1_lets_0 0 rfl rfl)
theorem dX1_lets_1 : decode cX1_lets 1 = .ok (.getfield 332, 3) := dk_180 1 76 (dk_at dksX1_lets_0 1 rfl rfl)
theorem dX1_lets_4 : decode cX1_lets 4 = .ok (.istore_n 3, 1) := dk_62 (dk_at dksX1_lets_0 4 rfl rfl)
theorem dX1_lets_5 : decode cX1_lets 5 = .ok (.iload_n 3, 1) := dk_29 (dk_at dksX1_lets_0 5 rfl rfl)
theorem dX1_lets_6 : decode cX1_lets 6 = .ok (.aload_n 2, 1) := dk_44 (dk_at dksX1_lets_0 6 rfl rfl)
theorem dX1_lets_7 : decode cX1_lets 7 = .ok (.getfield 332, 3) := dk_180 1 76 (dk_at dksX1_lets_0 7 rfl rfl)
theorem dX1_lets_10 : decode cX1_lets 10 = .ok (.aload_n 2, 1) := dk_44 (dk_at dksX1_lets_0 10 rfl rfl)
theorem dX1_lets_11 : decode cX1_lets 11 = .ok (.getfield 248, 3) := dk_180 0 248 (dk_at dksX1_lets_0 11 rfl rfl)
theorem dX1_lets_14 : decode cX1_lets 14 = .ok (.iadd, 1) := dk_96 (dk_at dksX1_lets_0 14 rfl rfl)
theorem dX1_lets_15 : decode cX1_lets 15 = .ok (.if_icmp .ge 24, 3) := dk_162 0 24 (dk_at dksX1_lets_0 15 rfl rfl)
theorem dX1_lets_18 : decode cX1_lets 18 = .ok (.aload_n 0, 1) := dk_42 (dk_at dksX1_lets_0 18 rfl rfl)
theorem dX1_lets_19 : decode cX1_lets 19 = .ok (.getfield 11, 3) := dk_180 0 11 (dk_at dksX1_lets_0 19 rfl rfl)
theorem dX1_lets_22 : decode cX1_lets 22 = .ok (.iload_n 3, 1) := dk_29 (dk_at dksX1_lets_0 22 rfl rfl)
theorem dX1_lets_23 : decode cX1_lets 23 = .ok (.aaload, 1) := dk_50 (dk_at dksX1_lets_0 23 rfl rfl)
theorem dX1_lets_24 : decode cX1_lets 24 = .ok (.aload_n 1, 1) := dk_43 (dk_at dksX1_lets_1 0 rfl rfl)
theorem dX1_lets_25 : decode cX1_lets 25 = .ok (.invokedynamic 407, 5) := by decide +kernel
theorem dX1_lets_30 : decode cX1_lets 30 = .ok (.invokevirtual 327, 3) := dk_182 1 71 (dk_at dksX1_lets_1 6 rfl rfl)
theorem dX1_lets_33 : decode cX1_lets 33 = .ok (.iinc 3 1, 3) := dk_132 3 1 (dk_at dksX1_lets_1 9 rfl rfl)
theorem dX1_lets_36 : decode cX1_lets 36 = .ok (.goto (-31), 3) := dk_167 255 225 (dk_at dksX1_lets_1 12 rfl rfl)
theorem dX1_lets_39 : decode cX1_lets 39 = .ok (.return_, 1) := dk_177 (dk_at dksX1_lets_1 15 rfl rfl)
abbrev cX1_isOver : ByteArray := prog_8_method_25_code
def dkwX1_isOver_1 : List UInt8 := [25, 5, 180, 0, 216, 42, 180, 0, 203, 164, 0, 5, 3, 172, 132, 4, 1, 167, 255, 227, 4, 172]
abbrev dktX1_isOver_1 : List UInt8 := dkwX1_isOver_1 ++ []
def dkwX1_isOver_0 : List UInt8 := [43, 180, 0, 178, 77, 44, 190, 62, 3, 54, 4, 21, 4, 29, 162, 0, 29, 44, 21, 4, 50, 58, 5]
abbrev dktX1_isOver_0 : List UInt8 := dkwX1_isOver_0 ++ dktX1_isOver_1
theorem dksX1_isOver_0 : cX1_isOver.data.toList.drop 0 = dktX1_isOver_0 := by decide +kernel
theorem dksX1_isOver_1 : cX1_isOver.data.toList.drop 23 = dktX1_isOver_1 := dk_seg dksX1_isOver_0 23 rfl rfl
theorem dX1_isOver_0 : decode cX1_isOver 0 = .ok (.aload_n 1, 1) := dk_43 (dk_at dksX1_isOver_0 0 rfl rfl)
theorem dX1_isOver_1 : decode cX1_isOver 1 = .ok (.getfield 178, 3) := dk_180 0 178 (dk_at dksX1_isOver_0 1 rfl rfl)
theorem dX1_isOver_4 : decode cX1_isOver 4 = .ok (.astore_n 2, 1) := dk_77 (dk_at dksX1_isOver_0 4 rfl rfl)
theorem dX1_isOver_5 : decode cX1_isOver 5 = .ok (.aload_n 2, 1) := dk_44 (dk_at dksX1_isOver_0 5 rfl rfl)
theorem dX1_isOver_6 : decode cX1_isOver 6 = .ok (.arraylength, 1) := dk_190 (dk_at dksX1_isOver_0 6 rfl rfl)
theorem dX1_isOver_7 : decode cX1_isOver 7 = .ok (.istore_n 3, 1) := dk_62 (dk_at dksX1_isOver_0 7 rfl rfl)
theorem dX1_isOver_8 : decode cX1_isOver 8 = .ok (.iconst 0, 1) := dk_3 (dk_at dksX1_isOver_0 8 rfl rfl)
theorem dX1_isOver_9 : decode cX1_isOver 9 = .ok (.istore 4, 2) := dk_54 4 (dk_at dksX1_isOver_0 9 rfl rfl)
theorem dX1_isOver_11 : decode cX1_isOver 11 = .ok (.iload 4, 2) := dk_21 4 (dk_at dksX1_isOver_0 11 rfl rfl)
theorem dX1_isOver_13 : decode cX1_isOver 13 = .ok (.iload_n 3, 1) := dk_29 (dk_at dksX1_isOver_0 13 rfl rfl)
theorem dX1_isOver_14 : decode cX1_isOver 14 = .ok (.if_icmp .ge 29, 3) := dk_162 0 29 (dk_at dksX1_isOver_0 14 rfl rfl)
theorem dX1_isOver_17 : decode cX1_isOver 17 = .ok (.aload_n 2, 1) := dk_44 (dk_at dksX1_isOver_0 17 rfl rfl)
theorem dX1_isOver_18 : decode cX1_isOver 18 = .ok (.iload 4, 2) := dk_21 4 (dk_at dksX1_isOver_0 18 rfl rfl)
theorem dX1_isOver_20 : decode cX1_isOver 20 = .ok (.aaload, 1) := dk_50 (dk_at dksX1_isOver_0 20 rfl rfl)
theorem dX1_isOver_21 : decode cX1_isOver 21 = .ok (.astore 5, 2) := dk_58 5 (dk_at dksX1_isOver_0 21 rfl rfl)
theorem dX1_isOver_23 : decode cX1_isOver 23 = .ok (.aload 5, 2) := dk_25 5 (dk_at dksX1_isOver_1 0 rfl rfl)
theorem dX1_isOver_25 : decode cX1_isOver 25 = .ok (.getfield 216, 3) := dk_180 0 216 (dk_at dksX1_isOver_1 2 rfl rfl)
theorem dX1_isOver_28 : decode cX1_isOver 28 = .ok (.aload_n 0, 1) := dk_42 (dk_at dksX1_isOver_1 5 rfl rfl)
theorem dX1_isOver_29 : decode cX1_isOver 29 = .ok (.getfield 203, 3) := dk_180 0 203 (dk_at dksX1_isOver_1 6 rfl rfl)
theorem dX1_isOver_32 : decode cX1_isOver 32 = .ok (.if_icmp .le 5, 3) := dk_164 0 5 (dk_at dksX1_isOver_1 9 rfl rfl)
theorem dX1_isOver_35 : decode cX1_isOver 35 = .ok (.iconst 0, 1) := dk_3 (dk_at dksX1_isOver_1 12 rfl rfl)
theorem dX1_isOver_36 : decode cX1_isOver 36 = .ok (.ireturn, 1) := dk_172 (dk_at dksX1_isOver_1 13 rfl rfl)
theorem dX1_isOver_37 : decode cX1_isOver 37 = .ok (.iinc 4 1, 3) := dk_132 4 1 (dk_at dksX1_isOver_1 14 rfl rfl)
theorem dX1_isOver_40 : decode cX1_isOver 40 = .ok (.goto (-29), 3) := dk_167 255 227 (dk_at dksX1_isOver_1 17 rfl rfl)
theorem dX1_isOver_43 : decode cX1_isOver 43 = .ok (.iconst 1, 1) := dk_4 (dk_at dksX1_isOver_1 20 rfl rfl)
theorem dX1_isOver_44 : decode cX1_isOver 44 = .ok (.ireturn, 1) := dk_172 (dk_at dksX1_isOver_1 21 rfl rfl)
abbrev cX1_ends : ByteArray := prog_8_method_27_code
def dkwX1_ends_4 : List UInt8 := [28, 153, 0, 7, 5, 167, 0, 4, 4, 92, 47, 10, 97, 80, 177]
abbrev dktX1_ends_4 : List UInt8 := dkwX1_ends_4 ++ []
def dkwX1_ends_3 : List UInt8 := [181, 0, 219, 43, 42, 180, 0, 203, 181, 1, 152, 42, 43, 180, 0, 219, 43, 182, 1, 92, 42, 180, 0, 82]
abbrev dktX1_ends_3 : List UInt8 := dkwX1_ends_3 ++ dktX1_ends_4
def dkwX1_ends_2 : List UInt8 := [4, 167, 0, 4, 3, 61, 132, 5, 1, 167, 255, 213, 43, 28, 153, 0, 7, 6, 167, 0, 4, 5]
abbrev dktX1_ends_2 : List UInt8 := dkwX1_ends_2 ++ dktX1_ends_3
def dkwX1_ends_1 : List UInt8 := [50, 58, 6, 28, 154, 0, 20, 25, 6, 43, 180, 1, 79, 182, 1, 82, 25, 6, 180, 0, 213, 164, 0, 7]
abbrev dktX1_ends_1 : List UInt8 := dkwX1_ends_1 ++ dktX1_ends_2
def dkwX1_ends_0 : List UInt8 := [3, 61, 43, 180, 0, 178, 78, 45, 190, 54, 4, 3, 54, 5, 21, 5, 21, 4, 162, 0, 42, 45, 21, 5]
abbrev dktX1_ends_0 : List UInt8 := dkwX1_ends_0 ++ dktX1_ends_1
theorem dksX1_ends_0 : cX1_ends.data.toList.drop 0 = dktX1_ends_0 := by decide +kernel
theorem dksX1_ends_1 : cX1_ends.data.toList.drop 24 = dktX1_ends_1 := dk_seg dksX1_ends_0 24 rfl rfl
theorem dksX1_ends_2 : cX1_ends.data.toList.drop 48 = dktX1_ends_2 := dk_seg dksX1_ends_1 24 rfl rfl
theorem dksX1_ends_3 : cX1_ends.data.toList.drop 70 = dktX1_ends_3 := dk_seg dksX1_ends_2 22 rfl rfl
theorem dksX1_ends_4 : cX1_ends.data.toList.drop 94 = dktX1_ends_4 := dk_seg dksX1_ends_3 24 rfl rfl
theorem dX1_ends_0 : decode cX1_ends 0 = .ok (.iconst 0, 1) := dk_3 (dk_at dksX1_ends_0 0 rfl rfl)
theorem dX1_ends_1 : decode cX1_ends 1 = .ok (.istore_n 2, 1) := dk_61 (dk_at dksX1_ends_0 1 rfl rfl)
theorem dX1_ends_2 : decode cX1_ends 2 = .ok (.aload_n 1, 1) := dk_43 (dk_at dksX1_ends_0 2 rfl rfl)
theorem dX1_ends_3 : decode cX1_ends 3 = .ok (.getfield 178, 3) := dk_180 0 178 (dk_at dksX1_ends_0 3 rfl rfl)
theorem dX1_ends_6 : decode cX1_ends 6 = .ok (.astore_n 3, 1) := dk_78 (dk_at dksX1_ends_0 6 rfl rfl)
theorem dX1_ends_7 : decode cX1_ends 7 = .ok (.aload_n 3, 1) := dk_45 (dk_at dksX1_ends_0 7 rfl rfl)
theorem dX1_ends_8 : decode cX1_ends 8 = .ok (.arraylength, 1) := dk_190 (dk_at dksX1_ends_0 8 rfl rfl)
theorem dX1_ends_9 : decode cX1_ends 9 = .ok (.istore 4, 2) := dk_54 4 (dk_at dksX1_ends_0 9 rfl rfl)
theorem dX1_ends_11 : decode cX1_ends 11 = .ok (.iconst 0, 1) := dk_3 (dk_at dksX1_ends_0 11 rfl rfl)
theorem dX1_ends_12 : decode cX1_ends 12 = .ok (.istore 5, 2) := dk_54 5 (dk_at dksX1_ends_0 12 rfl rfl)
theorem dX1_ends_14 : decode cX1_ends 14 = .ok (.iload 5, 2) := dk_21 5 (dk_at dksX1_ends_0 14 rfl rfl)
theorem dX1_ends_16 : decode cX1_ends 16 = .ok (.iload 4, 2) := dk_21 4 (dk_at dksX1_ends_0 16 rfl rfl)
theorem dX1_ends_18 : decode cX1_ends 18 = .ok (.if_icmp .ge 42, 3) := dk_162 0 42 (dk_at dksX1_ends_0 18 rfl rfl)
theorem dX1_ends_21 : decode cX1_ends 21 = .ok (.aload_n 3, 1) := dk_45 (dk_at dksX1_ends_0 21 rfl rfl)
theorem dX1_ends_22 : decode cX1_ends 22 = .ok (.iload 5, 2) := dk_21 5 (dk_at dksX1_ends_0 22 rfl rfl)
theorem dX1_ends_24 : decode cX1_ends 24 = .ok (.aaload, 1) := dk_50 (dk_at dksX1_ends_1 0 rfl rfl)
theorem dX1_ends_25 : decode cX1_ends 25 = .ok (.astore 6, 2) := dk_58 6 (dk_at dksX1_ends_1 1 rfl rfl)
theorem dX1_ends_27 : decode cX1_ends 27 = .ok (.iload_n 2, 1) := dk_28 (dk_at dksX1_ends_1 3 rfl rfl)
theorem dX1_ends_28 : decode cX1_ends 28 = .ok (.ifCond .ne 20, 3) := dk_154 0 20 (dk_at dksX1_ends_1 4 rfl rfl)
theorem dX1_ends_31 : decode cX1_ends 31 = .ok (.aload 6, 2) := dk_25 6 (dk_at dksX1_ends_1 7 rfl rfl)
theorem dX1_ends_33 : decode cX1_ends 33 = .ok (.aload_n 1, 1) := dk_43 (dk_at dksX1_ends_1 9 rfl rfl)
theorem dX1_ends_34 : decode cX1_ends 34 = .ok (.getfield 335, 3) := dk_180 1 79 (dk_at dksX1_ends_1 10 rfl rfl)
theorem dX1_ends_37 : decode cX1_ends 37 = .ok (.invokevirtual 338, 3) := dk_182 1 82 (dk_at dksX1_ends_1 13 rfl rfl)
theorem dX1_ends_40 : decode cX1_ends 40 = .ok (.aload 6, 2) := dk_25 6 (dk_at dksX1_ends_1 16 rfl rfl)
theorem dX1_ends_42 : decode cX1_ends 42 = .ok (.getfield 213, 3) := dk_180 0 213 (dk_at dksX1_ends_1 18 rfl rfl)
theorem dX1_ends_45 : decode cX1_ends 45 = .ok (.if_icmp .le 7, 3) := dk_164 0 7 (dk_at dksX1_ends_1 21 rfl rfl)
theorem dX1_ends_48 : decode cX1_ends 48 = .ok (.iconst 1, 1) := dk_4 (dk_at dksX1_ends_2 0 rfl rfl)
theorem dX1_ends_49 : decode cX1_ends 49 = .ok (.goto 4, 3) := dk_167 0 4 (dk_at dksX1_ends_2 1 rfl rfl)
theorem dX1_ends_52 : decode cX1_ends 52 = .ok (.iconst 0, 1) := dk_3 (dk_at dksX1_ends_2 4 rfl rfl)
theorem dX1_ends_53 : decode cX1_ends 53 = .ok (.istore_n 2, 1) := dk_61 (dk_at dksX1_ends_2 5 rfl rfl)
theorem dX1_ends_54 : decode cX1_ends 54 = .ok (.iinc 5 1, 3) := dk_132 5 1 (dk_at dksX1_ends_2 6 rfl rfl)
theorem dX1_ends_57 : decode cX1_ends 57 = .ok (.goto (-43), 3) := dk_167 255 213 (dk_at dksX1_ends_2 9 rfl rfl)
theorem dX1_ends_60 : decode cX1_ends 60 = .ok (.aload_n 1, 1) := dk_43 (dk_at dksX1_ends_2 12 rfl rfl)
theorem dX1_ends_61 : decode cX1_ends 61 = .ok (.iload_n 2, 1) := dk_28 (dk_at dksX1_ends_2 13 rfl rfl)
theorem dX1_ends_62 : decode cX1_ends 62 = .ok (.ifCond .eq 7, 3) := dk_153 0 7 (dk_at dksX1_ends_2 14 rfl rfl)
theorem dX1_ends_65 : decode cX1_ends 65 = .ok (.iconst 3, 1) := dk_6 (dk_at dksX1_ends_2 17 rfl rfl)
theorem dX1_ends_66 : decode cX1_ends 66 = .ok (.goto 4, 3) := dk_167 0 4 (dk_at dksX1_ends_2 18 rfl rfl)
theorem dX1_ends_69 : decode cX1_ends 69 = .ok (.iconst 2, 1) := dk_5 (dk_at dksX1_ends_2 21 rfl rfl)
theorem dX1_ends_70 : decode cX1_ends 70 = .ok (.putfield 219, 3) := dk_181 0 219 (dk_at dksX1_ends_3 0 rfl rfl)
theorem dX1_ends_73 : decode cX1_ends 73 = .ok (.aload_n 1, 1) := dk_43 (dk_at dksX1_ends_3 3 rfl rfl)
theorem dX1_ends_74 : decode cX1_ends 74 = .ok (.aload_n 0, 1) := dk_42 (dk_at dksX1_ends_3 4 rfl rfl)
theorem dX1_ends_75 : decode cX1_ends 75 = .ok (.getfield 203, 3) := dk_180 0 203 (dk_at dksX1_ends_3 5 rfl rfl)
theorem dX1_ends_78 : decode cX1_ends 78 = .ok (.putfield 408, 3) := dk_181 1 152 (dk_at dksX1_ends_3 8 rfl rfl)
theorem dX1_ends_81 : decode cX1_ends 81 = .ok (.aload_n 0, 1) := dk_42 (dk_at dksX1_ends_3 11 rfl rfl)
theorem dX1_ends_82 : decode cX1_ends 82 = .ok (.aload_n 1, 1) := dk_43 (dk_at dksX1_ends_3 12 rfl rfl)
theorem dX1_ends_83 : decode cX1_ends 83 = .ok (.getfield 219, 3) := dk_180 0 219 (dk_at dksX1_ends_3 13 rfl rfl)
theorem dX1_ends_86 : decode cX1_ends 86 = .ok (.aload_n 1, 1) := dk_43 (dk_at dksX1_ends_3 16 rfl rfl)
theorem dX1_ends_87 : decode cX1_ends 87 = .ok (.invokevirtual 348, 3) := dk_182 1 92 (dk_at dksX1_ends_3 17 rfl rfl)
theorem dX1_ends_90 : decode cX1_ends 90 = .ok (.aload_n 0, 1) := dk_42 (dk_at dksX1_ends_3 20 rfl rfl)
theorem dX1_ends_91 : decode cX1_ends 91 = .ok (.getfield 82, 3) := dk_180 0 82 (dk_at dksX1_ends_3 21 rfl rfl)
theorem dX1_ends_94 : decode cX1_ends 94 = .ok (.iload_n 2, 1) := dk_28 (dk_at dksX1_ends_4 0 rfl rfl)
theorem dX1_ends_95 : decode cX1_ends 95 = .ok (.ifCond .eq 7, 3) := dk_153 0 7 (dk_at dksX1_ends_4 1 rfl rfl)
theorem dX1_ends_98 : decode cX1_ends 98 = .ok (.iconst 2, 1) := dk_5 (dk_at dksX1_ends_4 4 rfl rfl)
theorem dX1_ends_99 : decode cX1_ends 99 = .ok (.goto 4, 3) := dk_167 0 4 (dk_at dksX1_ends_4 5 rfl rfl)
theorem dX1_ends_102 : decode cX1_ends 102 = .ok (.iconst 1, 1) := dk_4 (dk_at dksX1_ends_4 8 rfl rfl)
theorem dX1_ends_103 : decode cX1_ends 103 = .ok (.dup2, 1) := dk_92 (dk_at dksX1_ends_4 9 rfl rfl)
theorem dX1_ends_104 : decode cX1_ends 104 = .ok (.laload, 1) := dk_47 (dk_at dksX1_ends_4 10 rfl rfl)
theorem dX1_ends_105 : decode cX1_ends 105 = .ok (.lconst 1, 1) := dk_10 (dk_at dksX1_ends_4 11 rfl rfl)
theorem dX1_ends_106 : decode cX1_ends 106 = .ok (.ladd, 1) := dk_97 (dk_at dksX1_ends_4 12 rfl rfl)
theorem dX1_ends_107 : decode cX1_ends 107 = .ok (.lastore, 1) := dk_80 (dk_at dksX1_ends_4 13 rfl rfl)
theorem dX1_ends_108 : decode cX1_ends 108 = .ok (.return_, 1) := dk_177 (dk_at dksX1_ends_4 14 rfl rfl)
abbrev cX1_endsSpans : ByteArray := prog_8_method_31_code
def dkwX1_endsSpans_4 : List UInt8 := [182, 1, 193, 162, 0, 18, 42, 180, 0, 46, 182, 1, 194, 42, 180, 0, 46, 43, 182, 1, 195, 177]
abbrev dktX1_endsSpans_4 : List UInt8 := dkwX1_endsSpans_4 ++ []
def dkwX1_endsSpans_3 : List UInt8 := [182, 0, 162, 87, 167, 0, 8, 42, 45, 182, 1, 189, 167, 255, 205, 43, 182, 1, 193, 42, 180, 0, 46]
abbrev dktX1_endsSpans_3 : List UInt8 := dkwX1_endsSpans_3 ++ dktX1_endsSpans_4
def dkwX1_endsSpans_2 : List UInt8 := [192, 0, 151, 78, 45, 180, 1, 186, 42, 180, 0, 203, 164, 0, 19, 43, 45, 180, 0, 153, 184, 0, 156, 45]
abbrev dktX1_endsSpans_2 : List UInt8 := dkwX1_endsSpans_2 ++ dktX1_endsSpans_3
def dkwX1_endsSpans_1 : List UInt8 := [182, 0, 144, 185, 0, 148, 1, 0, 77, 44, 185, 0, 127, 1, 0, 153, 0, 48, 44, 185, 0, 133, 1, 0]
abbrev dktX1_endsSpans_1 : List UInt8 := dkwX1_endsSpans_1 ++ dktX1_endsSpans_2
def dkwX1_endsSpans_0 : List UInt8 := [42, 180, 0, 46, 182, 1, 185, 153, 0, 4, 177, 187, 0, 43, 89, 183, 0, 45, 76, 42, 180, 0, 46]
abbrev dktX1_endsSpans_0 : List UInt8 := dkwX1_endsSpans_0 ++ dktX1_endsSpans_1
theorem dksX1_endsSpans_0 : cX1_endsSpans.data.toList.drop 0 = dktX1_endsSpans_0 := by decide +kernel
theorem dksX1_endsSpans_1 : cX1_endsSpans.data.toList.drop 23 = dktX1_endsSpans_1 := dk_seg dksX1_endsSpans_0 23 rfl rfl
theorem dksX1_endsSpans_2 : cX1_endsSpans.data.toList.drop 47 = dktX1_endsSpans_2 := dk_seg dksX1_endsSpans_1 24 rfl rfl
theorem dksX1_endsSpans_3 : cX1_endsSpans.data.toList.drop 71 = dktX1_endsSpans_3 := dk_seg dksX1_endsSpans_2 24 rfl rfl
theorem dksX1_endsSpans_4 : cX1_endsSpans.data.toList.drop 94 = dktX1_endsSpans_4 := dk_seg dksX1_endsSpans_3 23 rfl rfl
theorem dX1_endsSpans_0 : decode cX1_endsSpans 0 = .ok (.aload_n 0, 1) := dk_42 (dk_at dksX1_endsSpans_0 0 rfl rfl)
theorem dX1_endsSpans_1 : decode cX1_endsSpans 1 = .ok (.getfield 46, 3) := dk_180 0 46 (dk_at dksX1_endsSpans_0 1 rfl rfl)
theorem dX1_endsSpans_4 : decode cX1_endsSpans 4 = .ok (.invokevirtual 441, 3) := dk_182 1 185 (dk_at dksX1_endsSpans_0 4 rfl rfl)
theorem dX1_endsSpans_7 : decode cX1_endsSpans 7 = .ok (.ifCond .eq 4, 3) := dk_153 0 4 (dk_at dksX1_endsSpans_0 7 rfl rfl)
theorem dX1_endsSpans_10 : decode cX1_endsSpans 10 = .ok (.return_, 1) := dk_177 (dk_at dksX1_endsSpans_0 10 rfl rfl)
theorem dX1_endsSpans_11 : decode cX1_endsSpans 11 = .ok (.new 43, 3) := dk_187 0 43 (dk_at dksX1_endsSpans_0 11 rfl rfl)
theorem dX1_endsSpans_14 : decode cX1_endsSpans 14 = .ok (.dup, 1) := dk_89 (dk_at dksX1_endsSpans_0 14 rfl rfl)
theorem dX1_endsSpans_15 : decode cX1_endsSpans 15 = .ok (.invokespecial 45, 3) := dk_183 0 45 (dk_at dksX1_endsSpans_0 15 rfl rfl)
theorem dX1_endsSpans_18 : decode cX1_endsSpans 18 = .ok (.astore_n 1, 1) := dk_76 (dk_at dksX1_endsSpans_0 18 rfl rfl)
theorem dX1_endsSpans_19 : decode cX1_endsSpans 19 = .ok (.aload_n 0, 1) := dk_42 (dk_at dksX1_endsSpans_0 19 rfl rfl)
theorem dX1_endsSpans_20 : decode cX1_endsSpans 20 = .ok (.getfield 46, 3) := dk_180 0 46 (dk_at dksX1_endsSpans_0 20 rfl rfl)
theorem dX1_endsSpans_23 : decode cX1_endsSpans 23 = .ok (.invokevirtual 144, 3) := dk_182 0 144 (dk_at dksX1_endsSpans_1 0 rfl rfl)
theorem dX1_endsSpans_26 : decode cX1_endsSpans 26 = .ok (.invokeinterface 148 1, 5) := by decide +kernel
theorem dX1_endsSpans_31 : decode cX1_endsSpans 31 = .ok (.astore_n 2, 1) := dk_77 (dk_at dksX1_endsSpans_1 8 rfl rfl)
theorem dX1_endsSpans_32 : decode cX1_endsSpans 32 = .ok (.aload_n 2, 1) := dk_44 (dk_at dksX1_endsSpans_1 9 rfl rfl)
theorem dX1_endsSpans_33 : decode cX1_endsSpans 33 = .ok (.invokeinterface 127 1, 5) := by decide +kernel
theorem dX1_endsSpans_38 : decode cX1_endsSpans 38 = .ok (.ifCond .eq 48, 3) := dk_153 0 48 (dk_at dksX1_endsSpans_1 15 rfl rfl)
theorem dX1_endsSpans_41 : decode cX1_endsSpans 41 = .ok (.aload_n 2, 1) := dk_44 (dk_at dksX1_endsSpans_1 18 rfl rfl)
theorem dX1_endsSpans_42 : decode cX1_endsSpans 42 = .ok (.invokeinterface 133 1, 5) := by decide +kernel
theorem dX1_endsSpans_47 : decode cX1_endsSpans 47 = .ok (.checkcast 151, 3) := dk_192 0 151 (dk_at dksX1_endsSpans_2 0 rfl rfl)
theorem dX1_endsSpans_50 : decode cX1_endsSpans 50 = .ok (.astore_n 3, 1) := dk_78 (dk_at dksX1_endsSpans_2 3 rfl rfl)
theorem dX1_endsSpans_51 : decode cX1_endsSpans 51 = .ok (.aload_n 3, 1) := dk_45 (dk_at dksX1_endsSpans_2 4 rfl rfl)
theorem dX1_endsSpans_52 : decode cX1_endsSpans 52 = .ok (.getfield 442, 3) := dk_180 1 186 (dk_at dksX1_endsSpans_2 5 rfl rfl)
theorem dX1_endsSpans_55 : decode cX1_endsSpans 55 = .ok (.aload_n 0, 1) := dk_42 (dk_at dksX1_endsSpans_2 8 rfl rfl)
theorem dX1_endsSpans_56 : decode cX1_endsSpans 56 = .ok (.getfield 203, 3) := dk_180 0 203 (dk_at dksX1_endsSpans_2 9 rfl rfl)
theorem dX1_endsSpans_59 : decode cX1_endsSpans 59 = .ok (.if_icmp .le 19, 3) := dk_164 0 19 (dk_at dksX1_endsSpans_2 12 rfl rfl)
theorem dX1_endsSpans_62 : decode cX1_endsSpans 62 = .ok (.aload_n 1, 1) := dk_43 (dk_at dksX1_endsSpans_2 15 rfl rfl)
theorem dX1_endsSpans_63 : decode cX1_endsSpans 63 = .ok (.aload_n 3, 1) := dk_45 (dk_at dksX1_endsSpans_2 16 rfl rfl)
theorem dX1_endsSpans_64 : decode cX1_endsSpans 64 = .ok (.getfield 153, 3) := dk_180 0 153 (dk_at dksX1_endsSpans_2 17 rfl rfl)
theorem dX1_endsSpans_67 : decode cX1_endsSpans 67 = .ok (.invokestatic 156, 3) := dk_184 0 156 (dk_at dksX1_endsSpans_2 20 rfl rfl)
theorem dX1_endsSpans_70 : decode cX1_endsSpans 70 = .ok (.aload_n 3, 1) := dk_45 (dk_at dksX1_endsSpans_2 23 rfl rfl)
theorem dX1_endsSpans_71 : decode cX1_endsSpans 71 = .ok (.invokevirtual 162, 3) := dk_182 0 162 (dk_at dksX1_endsSpans_3 0 rfl rfl)
theorem dX1_endsSpans_74 : decode cX1_endsSpans 74 = .ok (.pop, 1) := dk_87 (dk_at dksX1_endsSpans_3 3 rfl rfl)
theorem dX1_endsSpans_75 : decode cX1_endsSpans 75 = .ok (.goto 8, 3) := dk_167 0 8 (dk_at dksX1_endsSpans_3 4 rfl rfl)
theorem dX1_endsSpans_78 : decode cX1_endsSpans 78 = .ok (.aload_n 0, 1) := dk_42 (dk_at dksX1_endsSpans_3 7 rfl rfl)
theorem dX1_endsSpans_79 : decode cX1_endsSpans 79 = .ok (.aload_n 3, 1) := dk_45 (dk_at dksX1_endsSpans_3 8 rfl rfl)
theorem dX1_endsSpans_80 : decode cX1_endsSpans 80 = .ok (.invokevirtual 445, 3) := dk_182 1 189 (dk_at dksX1_endsSpans_3 9 rfl rfl)
theorem dX1_endsSpans_83 : decode cX1_endsSpans 83 = .ok (.goto (-51), 3) := dk_167 255 205 (dk_at dksX1_endsSpans_3 12 rfl rfl)
theorem dX1_endsSpans_86 : decode cX1_endsSpans 86 = .ok (.aload_n 1, 1) := dk_43 (dk_at dksX1_endsSpans_3 15 rfl rfl)
theorem dX1_endsSpans_87 : decode cX1_endsSpans 87 = .ok (.invokevirtual 449, 3) := dk_182 1 193 (dk_at dksX1_endsSpans_3 16 rfl rfl)
theorem dX1_endsSpans_90 : decode cX1_endsSpans 90 = .ok (.aload_n 0, 1) := dk_42 (dk_at dksX1_endsSpans_3 19 rfl rfl)
theorem dX1_endsSpans_91 : decode cX1_endsSpans 91 = .ok (.getfield 46, 3) := dk_180 0 46 (dk_at dksX1_endsSpans_3 20 rfl rfl)
theorem dX1_endsSpans_94 : decode cX1_endsSpans 94 = .ok (.invokevirtual 449, 3) := dk_182 1 193 (dk_at dksX1_endsSpans_4 0 rfl rfl)
theorem dX1_endsSpans_97 : decode cX1_endsSpans 97 = .ok (.if_icmp .ge 18, 3) := dk_162 0 18 (dk_at dksX1_endsSpans_4 3 rfl rfl)
theorem dX1_endsSpans_100 : decode cX1_endsSpans 100 = .ok (.aload_n 0, 1) := dk_42 (dk_at dksX1_endsSpans_4 6 rfl rfl)
theorem dX1_endsSpans_101 : decode cX1_endsSpans 101 = .ok (.getfield 46, 3) := dk_180 0 46 (dk_at dksX1_endsSpans_4 7 rfl rfl)
theorem dX1_endsSpans_104 : decode cX1_endsSpans 104 = .ok (.invokevirtual 450, 3) := dk_182 1 194 (dk_at dksX1_endsSpans_4 10 rfl rfl)
theorem dX1_endsSpans_107 : decode cX1_endsSpans 107 = .ok (.aload_n 0, 1) := dk_42 (dk_at dksX1_endsSpans_4 13 rfl rfl)
theorem dX1_endsSpans_108 : decode cX1_endsSpans 108 = .ok (.getfield 46, 3) := dk_180 0 46 (dk_at dksX1_endsSpans_4 14 rfl rfl)
theorem dX1_endsSpans_111 : decode cX1_endsSpans 111 = .ok (.aload_n 1, 1) := dk_43 (dk_at dksX1_endsSpans_4 17 rfl rfl)
theorem dX1_endsSpans_112 : decode cX1_endsSpans 112 = .ok (.invokevirtual 451, 3) := dk_182 1 195 (dk_at dksX1_endsSpans_4 18 rfl rfl)
theorem dX1_endsSpans_115 : decode cX1_endsSpans 115 = .ok (.return_, 1) := dk_177 (dk_at dksX1_endsSpans_4 21 rfl rfl)
abbrev cX3_clear : ByteArray := prog_24_method_2_code
def dkwX3_clear_1 : List UInt8 := [181, 0, 18, 177]
abbrev dktX3_clear_1 : List UInt8 := dkwX3_clear_1 ++ []
def dkwX3_clear_0 : List UInt8 := [3, 60, 27, 16, 80, 162, 0, 17, 42, 180, 0, 9, 27, 16, 254, 79, 132, 1, 1, 167, 255, 239, 42, 3]
abbrev dktX3_clear_0 : List UInt8 := dkwX3_clear_0 ++ dktX3_clear_1
theorem dksX3_clear_0 : cX3_clear.data.toList.drop 0 = dktX3_clear_0 := by decide +kernel
theorem dksX3_clear_1 : cX3_clear.data.toList.drop 24 = dktX3_clear_1 := dk_seg dksX3_clear_0 24 rfl rfl
theorem dX3_clear_0 : decode cX3_clear 0 = .ok (.iconst 0, 1) := dk_3 (dk_at dksX3_clear_0 0 rfl rfl)
theorem dX3_clear_1 : decode cX3_clear 1 = .ok (.istore_n 1, 1) := dk_60 (dk_at dksX3_clear_0 1 rfl rfl)
theorem dX3_clear_2 : decode cX3_clear 2 = .ok (.iload_n 1, 1) := dk_27 (dk_at dksX3_clear_0 2 rfl rfl)
theorem dX3_clear_3 : decode cX3_clear 3 = .ok (.bipush 80, 2) := dk_16 80 (dk_at dksX3_clear_0 3 rfl rfl)
theorem dX3_clear_5 : decode cX3_clear 5 = .ok (.if_icmp .ge 17, 3) := dk_162 0 17 (dk_at dksX3_clear_0 5 rfl rfl)
theorem dX3_clear_8 : decode cX3_clear 8 = .ok (.aload_n 0, 1) := dk_42 (dk_at dksX3_clear_0 8 rfl rfl)
theorem dX3_clear_9 : decode cX3_clear 9 = .ok (.getfield 9, 3) := dk_180 0 9 (dk_at dksX3_clear_0 9 rfl rfl)
theorem dX3_clear_12 : decode cX3_clear 12 = .ok (.iload_n 1, 1) := dk_27 (dk_at dksX3_clear_0 12 rfl rfl)
theorem dX3_clear_13 : decode cX3_clear 13 = .ok (.bipush (-2), 2) := dk_16 254 (dk_at dksX3_clear_0 13 rfl rfl)
theorem dX3_clear_15 : decode cX3_clear 15 = .ok (.iastore, 1) := dk_79 (dk_at dksX3_clear_0 15 rfl rfl)
theorem dX3_clear_16 : decode cX3_clear 16 = .ok (.iinc 1 1, 3) := dk_132 1 1 (dk_at dksX3_clear_0 16 rfl rfl)
theorem dX3_clear_19 : decode cX3_clear 19 = .ok (.goto (-17), 3) := dk_167 255 239 (dk_at dksX3_clear_0 19 rfl rfl)
theorem dX3_clear_22 : decode cX3_clear 22 = .ok (.aload_n 0, 1) := dk_42 (dk_at dksX3_clear_0 22 rfl rfl)
theorem dX3_clear_23 : decode cX3_clear 23 = .ok (.iconst 0, 1) := dk_3 (dk_at dksX3_clear_0 23 rfl rfl)
theorem dX3_clear_24 : decode cX3_clear 24 = .ok (.putfield 18, 3) := dk_181 0 18 (dk_at dksX3_clear_1 0 rfl rfl)
theorem dX3_clear_27 : decode cX3_clear 27 = .ok (.return_, 1) := dk_177 (dk_at dksX3_clear_1 3 rfl rfl)
abbrev cX1_lineUp : ByteArray := prog_8_method_9_code
def dkwX1_lineUp_4 : List UInt8 := [180, 0, 87, 29, 44, 83, 132, 1, 1, 167, 255, 160, 177]
abbrev dktX1_lineUp_4 : List UInt8 := dkwX1_lineUp_4 ++ []
def dkwX1_lineUp_3 : List UInt8 := [156, 0, 23, 42, 180, 0, 87, 29, 42, 180, 0, 87, 29, 4, 100, 50, 83, 132, 3, 255, 167, 255, 216, 42]
abbrev dktX1_lineUp_3 : List UInt8 := dkwX1_lineUp_3 ++ dktX1_lineUp_4
def dkwX1_lineUp_2 : List UInt8 := [181, 1, 9, 62, 29, 158, 0, 42, 42, 180, 0, 96, 44, 42, 180, 0, 87, 29, 4, 100, 50, 182, 1, 16]
abbrev dktX1_lineUp_2 : List UInt8 := dkwX1_lineUp_2 ++ dktX1_lineUp_3
def dkwX1_lineUp_1 : List UInt8 := [182, 0, 167, 192, 0, 85, 77, 42, 44, 182, 1, 12, 153, 0, 65, 42, 89, 180, 1, 9, 90, 4, 96]
abbrev dktX1_lineUp_1 : List UInt8 := dkwX1_lineUp_1 ++ dktX1_lineUp_2
def dkwX1_lineUp_0 : List UInt8 := [42, 3, 181, 1, 9, 3, 60, 27, 42, 180, 0, 40, 182, 0, 254, 162, 0, 91, 42, 180, 0, 40, 27]
abbrev dktX1_lineUp_0 : List UInt8 := dkwX1_lineUp_0 ++ dktX1_lineUp_1
theorem dksX1_lineUp_0 : cX1_lineUp.data.toList.drop 0 = dktX1_lineUp_0 := by decide +kernel
theorem dksX1_lineUp_1 : cX1_lineUp.data.toList.drop 23 = dktX1_lineUp_1 := dk_seg dksX1_lineUp_0 23 rfl rfl
theorem dksX1_lineUp_2 : cX1_lineUp.data.toList.drop 46 = dktX1_lineUp_2 := dk_seg dksX1_lineUp_1 23 rfl rfl
theorem dksX1_lineUp_3 : cX1_lineUp.data.toList.drop 70 = dktX1_lineUp_3 := dk_seg dksX1_lineUp_2 24 rfl rfl
theorem dksX1_lineUp_4 : cX1_lineUp.data.toList.drop 94 = dktX1_lineUp_4 := dk_seg dksX1_lineUp_3 24 rfl rfl
theorem dX1_lineUp_0 : decode cX1_lineUp 0 = .ok (.aload_n 0, 1) := dk_42 (dk_at dksX1_lineUp_0 0 rfl rfl)
theorem dX1_lineUp_1 : decode cX1_lineUp 1 = .ok (.iconst 0, 1) := dk_3 (dk_at dksX1_lineUp_0 1 rfl rfl)
theorem dX1_lineUp_2 : decode cX1_lineUp 2 = .ok (.putfield 265, 3) := dk_181 1 9 (dk_at dksX1_lineUp_0 2 rfl rfl)
theorem dX1_lineUp_5 : decode cX1_lineUp 5 = .ok (.iconst 0, 1) := dk_3 (dk_at dksX1_lineUp_0 5 rfl rfl)
theorem dX1_lineUp_6 : decode cX1_lineUp 6 = .ok (.istore_n 1, 1) := dk_60 (dk_at dksX1_lineUp_0 6 rfl rfl)
theorem dX1_lineUp_7 : decode cX1_lineUp 7 = .ok (.iload_n 1, 1) := dk_27 (dk_at dksX1_lineUp_0 7 rfl rfl)
theorem dX1_lineUp_8 : decode cX1_lineUp 8 = .ok (.aload_n 0, 1) := dk_42 (dk_at dksX1_lineUp_0 8 rfl rfl)
theorem dX1_lineUp_9 : decode cX1_lineUp 9 = .ok (.getfield 40, 3) := dk_180 0 40 (dk_at dksX1_lineUp_0 9 rfl rfl)
theorem dX1_lineUp_12 : decode cX1_lineUp 12 = .ok (.invokevirtual 254, 3) := dk_182 0 254 (dk_at dksX1_lineUp_0 12 rfl rfl)
theorem dX1_lineUp_15 : decode cX1_lineUp 15 = .ok (.if_icmp .ge 91, 3) := dk_162 0 91 (dk_at dksX1_lineUp_0 15 rfl rfl)
theorem dX1_lineUp_18 : decode cX1_lineUp 18 = .ok (.aload_n 0, 1) := dk_42 (dk_at dksX1_lineUp_0 18 rfl rfl)
theorem dX1_lineUp_19 : decode cX1_lineUp 19 = .ok (.getfield 40, 3) := dk_180 0 40 (dk_at dksX1_lineUp_0 19 rfl rfl)
theorem dX1_lineUp_22 : decode cX1_lineUp 22 = .ok (.iload_n 1, 1) := dk_27 (dk_at dksX1_lineUp_0 22 rfl rfl)
theorem dX1_lineUp_23 : decode cX1_lineUp 23 = .ok (.invokevirtual 167, 3) := dk_182 0 167 (dk_at dksX1_lineUp_1 0 rfl rfl)
theorem dX1_lineUp_26 : decode cX1_lineUp 26 = .ok (.checkcast 85, 3) := dk_192 0 85 (dk_at dksX1_lineUp_1 3 rfl rfl)
theorem dX1_lineUp_29 : decode cX1_lineUp 29 = .ok (.astore_n 2, 1) := dk_77 (dk_at dksX1_lineUp_1 6 rfl rfl)
theorem dX1_lineUp_30 : decode cX1_lineUp 30 = .ok (.aload_n 0, 1) := dk_42 (dk_at dksX1_lineUp_1 7 rfl rfl)
theorem dX1_lineUp_31 : decode cX1_lineUp 31 = .ok (.aload_n 2, 1) := dk_44 (dk_at dksX1_lineUp_1 8 rfl rfl)
theorem dX1_lineUp_32 : decode cX1_lineUp 32 = .ok (.invokevirtual 268, 3) := dk_182 1 12 (dk_at dksX1_lineUp_1 9 rfl rfl)
theorem dX1_lineUp_35 : decode cX1_lineUp 35 = .ok (.ifCond .eq 65, 3) := dk_153 0 65 (dk_at dksX1_lineUp_1 12 rfl rfl)
theorem dX1_lineUp_38 : decode cX1_lineUp 38 = .ok (.aload_n 0, 1) := dk_42 (dk_at dksX1_lineUp_1 15 rfl rfl)
theorem dX1_lineUp_39 : decode cX1_lineUp 39 = .ok (.dup, 1) := dk_89 (dk_at dksX1_lineUp_1 16 rfl rfl)
theorem dX1_lineUp_40 : decode cX1_lineUp 40 = .ok (.getfield 265, 3) := dk_180 1 9 (dk_at dksX1_lineUp_1 17 rfl rfl)
theorem dX1_lineUp_43 : decode cX1_lineUp 43 = .ok (.dup_x1, 1) := dk_90 (dk_at dksX1_lineUp_1 20 rfl rfl)
theorem dX1_lineUp_44 : decode cX1_lineUp 44 = .ok (.iconst 1, 1) := dk_4 (dk_at dksX1_lineUp_1 21 rfl rfl)
theorem dX1_lineUp_45 : decode cX1_lineUp 45 = .ok (.iadd, 1) := dk_96 (dk_at dksX1_lineUp_1 22 rfl rfl)
theorem dX1_lineUp_46 : decode cX1_lineUp 46 = .ok (.putfield 265, 3) := dk_181 1 9 (dk_at dksX1_lineUp_2 0 rfl rfl)
theorem dX1_lineUp_49 : decode cX1_lineUp 49 = .ok (.istore_n 3, 1) := dk_62 (dk_at dksX1_lineUp_2 3 rfl rfl)
theorem dX1_lineUp_50 : decode cX1_lineUp 50 = .ok (.iload_n 3, 1) := dk_29 (dk_at dksX1_lineUp_2 4 rfl rfl)
theorem dX1_lineUp_51 : decode cX1_lineUp 51 = .ok (.ifCond .le 42, 3) := dk_158 0 42 (dk_at dksX1_lineUp_2 5 rfl rfl)
theorem dX1_lineUp_54 : decode cX1_lineUp 54 = .ok (.aload_n 0, 1) := dk_42 (dk_at dksX1_lineUp_2 8 rfl rfl)
theorem dX1_lineUp_55 : decode cX1_lineUp 55 = .ok (.getfield 96, 3) := dk_180 0 96 (dk_at dksX1_lineUp_2 9 rfl rfl)
theorem dX1_lineUp_58 : decode cX1_lineUp 58 = .ok (.aload_n 2, 1) := dk_44 (dk_at dksX1_lineUp_2 12 rfl rfl)
theorem dX1_lineUp_59 : decode cX1_lineUp 59 = .ok (.aload_n 0, 1) := dk_42 (dk_at dksX1_lineUp_2 13 rfl rfl)
theorem dX1_lineUp_60 : decode cX1_lineUp 60 = .ok (.getfield 87, 3) := dk_180 0 87 (dk_at dksX1_lineUp_2 14 rfl rfl)
theorem dX1_lineUp_63 : decode cX1_lineUp 63 = .ok (.iload_n 3, 1) := dk_29 (dk_at dksX1_lineUp_2 17 rfl rfl)
theorem dX1_lineUp_64 : decode cX1_lineUp 64 = .ok (.iconst 1, 1) := dk_4 (dk_at dksX1_lineUp_2 18 rfl rfl)
theorem dX1_lineUp_65 : decode cX1_lineUp 65 = .ok (.isub, 1) := dk_100 (dk_at dksX1_lineUp_2 19 rfl rfl)
theorem dX1_lineUp_66 : decode cX1_lineUp 66 = .ok (.aaload, 1) := dk_50 (dk_at dksX1_lineUp_2 20 rfl rfl)
theorem dX1_lineUp_67 : decode cX1_lineUp 67 = .ok (.invokevirtual 272, 3) := dk_182 1 16 (dk_at dksX1_lineUp_2 21 rfl rfl)
theorem dX1_lineUp_70 : decode cX1_lineUp 70 = .ok (.ifCond .ge 23, 3) := dk_156 0 23 (dk_at dksX1_lineUp_3 0 rfl rfl)
theorem dX1_lineUp_73 : decode cX1_lineUp 73 = .ok (.aload_n 0, 1) := dk_42 (dk_at dksX1_lineUp_3 3 rfl rfl)
theorem dX1_lineUp_74 : decode cX1_lineUp 74 = .ok (.getfield 87, 3) := dk_180 0 87 (dk_at dksX1_lineUp_3 4 rfl rfl)
theorem dX1_lineUp_77 : decode cX1_lineUp 77 = .ok (.iload_n 3, 1) := dk_29 (dk_at dksX1_lineUp_3 7 rfl rfl)
theorem dX1_lineUp_78 : decode cX1_lineUp 78 = .ok (.aload_n 0, 1) := dk_42 (dk_at dksX1_lineUp_3 8 rfl rfl)
theorem dX1_lineUp_79 : decode cX1_lineUp 79 = .ok (.getfield 87, 3) := dk_180 0 87 (dk_at dksX1_lineUp_3 9 rfl rfl)
theorem dX1_lineUp_82 : decode cX1_lineUp 82 = .ok (.iload_n 3, 1) := dk_29 (dk_at dksX1_lineUp_3 12 rfl rfl)
theorem dX1_lineUp_83 : decode cX1_lineUp 83 = .ok (.iconst 1, 1) := dk_4 (dk_at dksX1_lineUp_3 13 rfl rfl)
theorem dX1_lineUp_84 : decode cX1_lineUp 84 = .ok (.isub, 1) := dk_100 (dk_at dksX1_lineUp_3 14 rfl rfl)
theorem dX1_lineUp_85 : decode cX1_lineUp 85 = .ok (.aaload, 1) := dk_50 (dk_at dksX1_lineUp_3 15 rfl rfl)
theorem dX1_lineUp_86 : decode cX1_lineUp 86 = .ok (.aastore, 1) := dk_83 (dk_at dksX1_lineUp_3 16 rfl rfl)
theorem dX1_lineUp_87 : decode cX1_lineUp 87 = .ok (.iinc 3 (-1), 3) := dk_132 3 255 (dk_at dksX1_lineUp_3 17 rfl rfl)
theorem dX1_lineUp_90 : decode cX1_lineUp 90 = .ok (.goto (-40), 3) := dk_167 255 216 (dk_at dksX1_lineUp_3 20 rfl rfl)
theorem dX1_lineUp_93 : decode cX1_lineUp 93 = .ok (.aload_n 0, 1) := dk_42 (dk_at dksX1_lineUp_3 23 rfl rfl)
theorem dX1_lineUp_94 : decode cX1_lineUp 94 = .ok (.getfield 87, 3) := dk_180 0 87 (dk_at dksX1_lineUp_4 0 rfl rfl)
theorem dX1_lineUp_97 : decode cX1_lineUp 97 = .ok (.iload_n 3, 1) := dk_29 (dk_at dksX1_lineUp_4 3 rfl rfl)
theorem dX1_lineUp_98 : decode cX1_lineUp 98 = .ok (.aload_n 2, 1) := dk_44 (dk_at dksX1_lineUp_4 4 rfl rfl)
theorem dX1_lineUp_99 : decode cX1_lineUp 99 = .ok (.aastore, 1) := dk_83 (dk_at dksX1_lineUp_4 5 rfl rfl)
theorem dX1_lineUp_100 : decode cX1_lineUp 100 = .ok (.iinc 1 1, 3) := dk_132 1 1 (dk_at dksX1_lineUp_4 6 rfl rfl)
theorem dX1_lineUp_103 : decode cX1_lineUp 103 = .ok (.goto (-96), 3) := dk_167 255 160 (dk_at dksX1_lineUp_4 9 rfl rfl)
theorem dX1_lineUp_106 : decode cX1_lineUp 106 = .ok (.return_, 1) := dk_177 (dk_at dksX1_lineUp_4 12 rfl rfl)
abbrev cX1_isBarred : ByteArray := prog_8_method_7_code
def dkwX1_isBarred_3 : List UInt8 := [182, 0, 251, 96, 42, 180, 0, 21, 43, 180, 0, 245, 46, 164, 0, 7, 4, 167, 0, 4, 3, 172]
abbrev dktX1_isBarred_3 : List UInt8 := dkwX1_isBarred_3 ++ []
def dkwX1_isBarred_2 : List UInt8 := [160, 0, 14, 25, 4, 180, 0, 182, 180, 0, 248, 167, 0, 4, 3, 96, 61, 167, 255, 206, 28, 43]
abbrev dktX1_isBarred_2 : List UInt8 := dkwX1_isBarred_2 ++ dktX1_isBarred_3
def dkwX1_isBarred_1 : List UInt8 := [185, 0, 133, 1, 0, 192, 0, 172, 58, 4, 28, 25, 4, 180, 0, 174, 180, 0, 245, 43, 180, 0, 245]
abbrev dktX1_isBarred_1 : List UInt8 := dkwX1_isBarred_1 ++ dktX1_isBarred_2
def dkwX1_isBarred_0 : List UInt8 := [3, 61, 42, 180, 0, 58, 182, 0, 171, 78, 45, 185, 0, 127, 1, 0, 153, 0, 47, 45]
abbrev dktX1_isBarred_0 : List UInt8 := dkwX1_isBarred_0 ++ dktX1_isBarred_1
theorem dksX1_isBarred_0 : cX1_isBarred.data.toList.drop 0 = dktX1_isBarred_0 := by decide +kernel
theorem dksX1_isBarred_1 : cX1_isBarred.data.toList.drop 20 = dktX1_isBarred_1 := dk_seg dksX1_isBarred_0 20 rfl rfl
theorem dksX1_isBarred_2 : cX1_isBarred.data.toList.drop 43 = dktX1_isBarred_2 := dk_seg dksX1_isBarred_1 23 rfl rfl
theorem dksX1_isBarred_3 : cX1_isBarred.data.toList.drop 65 = dktX1_isBarred_3 := dk_seg dksX1_isBarred_2 22 rfl rfl
theorem dX1_isBarred_0 : decode cX1_isBarred 0 = .ok (.iconst 0, 1) := dk_3 (dk_at dksX1_isBarred_0 0 rfl rfl)
theorem dX1_isBarred_1 : decode cX1_isBarred 1 = .ok (.istore_n 2, 1) := dk_61 (dk_at dksX1_isBarred_0 1 rfl rfl)
theorem dX1_isBarred_2 : decode cX1_isBarred 2 = .ok (.aload_n 0, 1) := dk_42 (dk_at dksX1_isBarred_0 2 rfl rfl)
theorem dX1_isBarred_3 : decode cX1_isBarred 3 = .ok (.getfield 58, 3) := dk_180 0 58 (dk_at dksX1_isBarred_0 3 rfl rfl)
theorem dX1_isBarred_6 : decode cX1_isBarred 6 = .ok (.invokevirtual 171, 3) := dk_182 0 171 (dk_at dksX1_isBarred_0 6 rfl rfl)
theorem dX1_isBarred_9 : decode cX1_isBarred 9 = .ok (.astore_n 3, 1) := dk_78 (dk_at dksX1_isBarred_0 9 rfl rfl)
theorem dX1_isBarred_10 : decode cX1_isBarred 10 = .ok (.aload_n 3, 1) := dk_45 (dk_at dksX1_isBarred_0 10 rfl rfl)
theorem dX1_isBarred_11 : decode cX1_isBarred 11 = .ok (.invokeinterface 127 1, 5) := by decide +kernel
theorem dX1_isBarred_16 : decode cX1_isBarred 16 = .ok (.ifCond .eq 47, 3) := dk_153 0 47 (dk_at dksX1_isBarred_0 16 rfl rfl)
theorem dX1_isBarred_19 : decode cX1_isBarred 19 = .ok (.aload_n 3, 1) := dk_45 (dk_at dksX1_isBarred_0 19 rfl rfl)
theorem dX1_isBarred_20 : decode cX1_isBarred 20 = .ok (.invokeinterface 133 1, 5) := by decide +kernel
theorem dX1_isBarred_25 : decode cX1_isBarred 25 = .ok (.checkcast 172, 3) := dk_192 0 172 (dk_at dksX1_isBarred_1 5 rfl rfl)
theorem dX1_isBarred_28 : decode cX1_isBarred 28 = .ok (.astore 4, 2) := dk_58 4 (dk_at dksX1_isBarred_1 8 rfl rfl)
theorem dX1_isBarred_30 : decode cX1_isBarred 30 = .ok (.iload_n 2, 1) := dk_28 (dk_at dksX1_isBarred_1 10 rfl rfl)
theorem dX1_isBarred_31 : decode cX1_isBarred 31 = .ok (.aload 4, 2) := dk_25 4 (dk_at dksX1_isBarred_1 11 rfl rfl)
theorem dX1_isBarred_33 : decode cX1_isBarred 33 = .ok (.getfield 174, 3) := dk_180 0 174 (dk_at dksX1_isBarred_1 13 rfl rfl)
theorem dX1_isBarred_36 : decode cX1_isBarred 36 = .ok (.getfield 245, 3) := dk_180 0 245 (dk_at dksX1_isBarred_1 16 rfl rfl)
theorem dX1_isBarred_39 : decode cX1_isBarred 39 = .ok (.aload_n 1, 1) := dk_43 (dk_at dksX1_isBarred_1 19 rfl rfl)
theorem dX1_isBarred_40 : decode cX1_isBarred 40 = .ok (.getfield 245, 3) := dk_180 0 245 (dk_at dksX1_isBarred_1 20 rfl rfl)
theorem dX1_isBarred_43 : decode cX1_isBarred 43 = .ok (.if_icmp .ne 14, 3) := dk_160 0 14 (dk_at dksX1_isBarred_2 0 rfl rfl)
theorem dX1_isBarred_46 : decode cX1_isBarred 46 = .ok (.aload 4, 2) := dk_25 4 (dk_at dksX1_isBarred_2 3 rfl rfl)
theorem dX1_isBarred_48 : decode cX1_isBarred 48 = .ok (.getfield 182, 3) := dk_180 0 182 (dk_at dksX1_isBarred_2 5 rfl rfl)
theorem dX1_isBarred_51 : decode cX1_isBarred 51 = .ok (.getfield 248, 3) := dk_180 0 248 (dk_at dksX1_isBarred_2 8 rfl rfl)
theorem dX1_isBarred_54 : decode cX1_isBarred 54 = .ok (.goto 4, 3) := dk_167 0 4 (dk_at dksX1_isBarred_2 11 rfl rfl)
theorem dX1_isBarred_57 : decode cX1_isBarred 57 = .ok (.iconst 0, 1) := dk_3 (dk_at dksX1_isBarred_2 14 rfl rfl)
theorem dX1_isBarred_58 : decode cX1_isBarred 58 = .ok (.iadd, 1) := dk_96 (dk_at dksX1_isBarred_2 15 rfl rfl)
theorem dX1_isBarred_59 : decode cX1_isBarred 59 = .ok (.istore_n 2, 1) := dk_61 (dk_at dksX1_isBarred_2 16 rfl rfl)
theorem dX1_isBarred_60 : decode cX1_isBarred 60 = .ok (.goto (-50), 3) := dk_167 255 206 (dk_at dksX1_isBarred_2 17 rfl rfl)
theorem dX1_isBarred_63 : decode cX1_isBarred 63 = .ok (.iload_n 2, 1) := dk_28 (dk_at dksX1_isBarred_2 20 rfl rfl)
theorem dX1_isBarred_64 : decode cX1_isBarred 64 = .ok (.aload_n 1, 1) := dk_43 (dk_at dksX1_isBarred_2 21 rfl rfl)
theorem dX1_isBarred_65 : decode cX1_isBarred 65 = .ok (.invokevirtual 251, 3) := dk_182 0 251 (dk_at dksX1_isBarred_3 0 rfl rfl)
theorem dX1_isBarred_68 : decode cX1_isBarred 68 = .ok (.iadd, 1) := dk_96 (dk_at dksX1_isBarred_3 3 rfl rfl)
theorem dX1_isBarred_69 : decode cX1_isBarred 69 = .ok (.aload_n 0, 1) := dk_42 (dk_at dksX1_isBarred_3 4 rfl rfl)
theorem dX1_isBarred_70 : decode cX1_isBarred 70 = .ok (.getfield 21, 3) := dk_180 0 21 (dk_at dksX1_isBarred_3 5 rfl rfl)
theorem dX1_isBarred_73 : decode cX1_isBarred 73 = .ok (.aload_n 1, 1) := dk_43 (dk_at dksX1_isBarred_3 8 rfl rfl)
theorem dX1_isBarred_74 : decode cX1_isBarred 74 = .ok (.getfield 245, 3) := dk_180 0 245 (dk_at dksX1_isBarred_3 9 rfl rfl)
theorem dX1_isBarred_77 : decode cX1_isBarred 77 = .ok (.iaload, 1) := dk_46 (dk_at dksX1_isBarred_3 12 rfl rfl)
theorem dX1_isBarred_78 : decode cX1_isBarred 78 = .ok (.if_icmp .le 7, 3) := dk_164 0 7 (dk_at dksX1_isBarred_3 13 rfl rfl)
theorem dX1_isBarred_81 : decode cX1_isBarred 81 = .ok (.iconst 1, 1) := dk_4 (dk_at dksX1_isBarred_3 16 rfl rfl)
theorem dX1_isBarred_82 : decode cX1_isBarred 82 = .ok (.goto 4, 3) := dk_167 0 4 (dk_at dksX1_isBarred_3 17 rfl rfl)
theorem dX1_isBarred_85 : decode cX1_isBarred 85 = .ok (.iconst 0, 1) := dk_3 (dk_at dksX1_isBarred_3 20 rfl rfl)
theorem dX1_isBarred_86 : decode cX1_isBarred 86 = .ok (.ireturn, 1) := dk_172 (dk_at dksX1_isBarred_3 21 rfl rfl)
abbrev cX1_fits : ByteArray := prog_8_method_17_code
def dkwX1_fits_0 : List UInt8 := [42, 43, 28, 43, 186, 1, 48, 0, 0, 182, 1, 52, 172]
abbrev dktX1_fits_0 : List UInt8 := dkwX1_fits_0 ++ []
theorem dksX1_fits_0 : cX1_fits.data.toList.drop 0 = dktX1_fits_0 := by decide +kernel
theorem dX1_fits_0 : decode cX1_fits 0 = .ok (.aload_n 0, 1) := dk_42 (dk_at dksX1_fits_0 0 rfl rfl)
theorem dX1_fits_1 : decode cX1_fits 1 = .ok (.aload_n 1, 1) := dk_43 (dk_at dksX1_fits_0 1 rfl rfl)
theorem dX1_fits_2 : decode cX1_fits 2 = .ok (.iload_n 2, 1) := dk_28 (dk_at dksX1_fits_0 2 rfl rfl)
theorem dX1_fits_3 : decode cX1_fits 3 = .ok (.aload_n 1, 1) := dk_43 (dk_at dksX1_fits_0 3 rfl rfl)
theorem dX1_fits_4 : decode cX1_fits 4 = .ok (.invokedynamic 304, 5) := by decide +kernel
theorem dX1_fits_9 : decode cX1_fits 9 = .ok (.invokevirtual 308, 3) := dk_182 1 52 (dk_at dksX1_fits_0 9 rfl rfl)
theorem dX1_fits_12 : decode cX1_fits 12 = .ok (.ireturn, 1) := dk_172 (dk_at dksX1_fits_0 12 rfl rfl)
abbrev cX1_starts : ByteArray := prog_8_method_22_code
def dkwX1_starts_10 : List UInt8 := [180, 1, 96, 100, 133, 97, 80, 177]
abbrev dktX1_starts_10 : List UInt8 := dkwX1_starts_10 ++ []
def dkwX1_starts_9 : List UInt8 := [42, 180, 0, 82, 3, 92, 47, 10, 97, 80, 42, 180, 0, 82, 8, 92, 47, 42, 180, 0, 203, 43]
abbrev dktX1_starts_9 : List UInt8 := dkwX1_starts_9 ++ dktX1_starts_10
def dkwX1_starts_8 : List UInt8 := [167, 255, 225, 132, 4, 1, 167, 255, 89, 42, 180, 0, 62, 43, 182, 0, 140, 87, 42, 4, 43, 182, 1, 92]
abbrev dktX1_starts_8 : List UInt8 := dkwX1_starts_8 ++ dktX1_starts_9
def dkwX1_starts_7 : List UInt8 := [180, 0, 248, 96, 162, 0, 21, 42, 180, 0, 11, 21, 7, 50, 25, 6, 182, 1, 89, 132, 7, 1]
abbrev dktX1_starts_7 : List UInt8 := dkwX1_starts_7 ++ dktX1_starts_8
def dkwX1_starts_6 : List UInt8 := [180, 0, 166, 183, 1, 88, 58, 6, 25, 5, 180, 1, 76, 54, 7, 21, 7, 25, 5, 180, 1, 76, 25, 5]
abbrev dktX1_starts_6 : List UInt8 := dkwX1_starts_6 ++ dktX1_starts_7
def dkwX1_starts_5 : List UInt8 := [182, 0, 192, 87, 187, 1, 86, 89, 42, 180, 0, 203, 42, 180, 0, 203, 25, 5, 180, 0, 213, 96, 43]
abbrev dktX1_starts_5 : List UInt8 := dkwX1_starts_5 ++ dktX1_starts_6
def dkwX1_starts_4 : List UInt8 := [182, 1, 82, 184, 1, 65, 96, 181, 0, 216, 42, 180, 0, 58, 187, 0, 172, 89, 43, 25, 5, 183, 0, 189]
abbrev dktX1_starts_4 : List UInt8 := dkwX1_starts_4 ++ dktX1_starts_5
def dkwX1_starts_3 : List UInt8 := [153, 0, 11, 25, 5, 180, 0, 213, 167, 0, 20, 25, 5, 180, 0, 213, 25, 5, 43, 180, 1, 79]
abbrev dktX1_starts_3 : List UInt8 := dkwX1_starts_3 ++ dktX1_starts_4
def dkwX1_starts_2 : List UInt8 := [181, 1, 76, 25, 5, 42, 180, 0, 203, 181, 0, 210, 25, 5, 42, 180, 0, 203, 42, 180, 0, 206]
abbrev dktX1_starts_2 : List UInt8 := dkwX1_starts_2 ++ dktX1_starts_3
def dkwX1_starts_1 : List UInt8 := [21, 4, 29, 162, 0, 167, 44, 21, 4, 50, 58, 5, 25, 5, 42, 180, 0, 100, 25, 5, 180, 0, 186, 46]
abbrev dktX1_starts_1 : List UInt8 := dkwX1_starts_1 ++ dktX1_starts_2
def dkwX1_starts_0 : List UInt8 := [43, 4, 181, 0, 219, 43, 42, 180, 0, 203, 181, 1, 75, 43, 180, 0, 178, 77, 44, 190, 62, 3, 54, 4]
abbrev dktX1_starts_0 : List UInt8 := dkwX1_starts_0 ++ dktX1_starts_1
theorem dksX1_starts_0 : cX1_starts.data.toList.drop 0 = dktX1_starts_0 := by decide +kernel
theorem dksX1_starts_1 : cX1_starts.data.toList.drop 24 = dktX1_starts_1 := dk_seg dksX1_starts_0 24 rfl rfl
theorem dksX1_starts_2 : cX1_starts.data.toList.drop 48 = dktX1_starts_2 := dk_seg dksX1_starts_1 24 rfl rfl
theorem dksX1_starts_3 : cX1_starts.data.toList.drop 70 = dktX1_starts_3 := dk_seg dksX1_starts_2 22 rfl rfl
theorem dksX1_starts_4 : cX1_starts.data.toList.drop 92 = dktX1_starts_4 := dk_seg dksX1_starts_3 22 rfl rfl
theorem dksX1_starts_5 : cX1_starts.data.toList.drop 116 = dktX1_starts_5 := dk_seg dksX1_starts_4 24 rfl rfl
theorem dksX1_starts_6 : cX1_starts.data.toList.drop 139 = dktX1_starts_6 := dk_seg dksX1_starts_5 23 rfl rfl
theorem dksX1_starts_7 : cX1_starts.data.toList.drop 163 = dktX1_starts_7 := dk_seg dksX1_starts_6 24 rfl rfl
theorem dksX1_starts_8 : cX1_starts.data.toList.drop 185 = dktX1_starts_8 := dk_seg dksX1_starts_7 22 rfl rfl
theorem dksX1_starts_9 : cX1_starts.data.toList.drop 209 = dktX1_starts_9 := dk_seg dksX1_starts_8 24 rfl rfl
theorem dksX1_starts_10 : cX1_starts.data.toList.drop 231 = dktX1_starts_10 := dk_seg dksX1_starts_9 22 rfl rfl
theorem dX1_starts_0 : decode cX1_starts 0 = .ok (.aload_n 1, 1) := dk_43 (dk_at dksX1_starts_0 0 rfl rfl)
theorem dX1_starts_1 : decode cX1_starts 1 = .ok (.iconst 1, 1) := dk_4 (dk_at dksX1_starts_0 1 rfl rfl)
theorem dX1_starts_2 : decode cX1_starts 2 = .ok (.putfield 219, 3) := dk_181 0 219 (dk_at dksX1_starts_0 2 rfl rfl)
theorem dX1_starts_5 : decode cX1_starts 5 = .ok (.aload_n 1, 1) := dk_43 (dk_at dksX1_starts_0 5 rfl rfl)
theorem dX1_starts_6 : decode cX1_starts 6 = .ok (.aload_n 0, 1) := dk_42 (dk_at dksX1_starts_0 6 rfl rfl)
theorem dX1_starts_7 : decode cX1_starts 7 = .ok (.getfield 203, 3) := dk_180 0 203 (dk_at dksX1_starts_0 7 rfl rfl)
theorem dX1_starts_10 : decode cX1_starts 10 = .ok (.putfield 331, 3) := dk_181 1 75 (dk_at dksX1_starts_0 10 rfl rfl)
theorem dX1_starts_13 : decode cX1_starts 13 = .ok (.aload_n 1, 1) := dk_43 (dk_at dksX1_starts_0 13 rfl rfl)
theorem dX1_starts_14 : decode cX1_starts 14 = .ok (.getfield 178, 3) := dk_180 0 178 (dk_at dksX1_starts_0 14 rfl rfl)
theorem dX1_starts_17 : decode cX1_starts 17 = .ok (.astore_n 2, 1) := dk_77 (dk_at dksX1_starts_0 17 rfl rfl)
theorem dX1_starts_18 : decode cX1_starts 18 = .ok (.aload_n 2, 1) := dk_44 (dk_at dksX1_starts_0 18 rfl rfl)
theorem dX1_starts_19 : decode cX1_starts 19 = .ok (.arraylength, 1) := dk_190 (dk_at dksX1_starts_0 19 rfl rfl)
theorem dX1_starts_20 : decode cX1_starts 20 = .ok (.istore_n 3, 1) := dk_62 (dk_at dksX1_starts_0 20 rfl rfl)
theorem dX1_starts_21 : decode cX1_starts 21 = .ok (.iconst 0, 1) := dk_3 (dk_at dksX1_starts_0 21 rfl rfl)
theorem dX1_starts_22 : decode cX1_starts 22 = .ok (.istore 4, 2) := dk_54 4 (dk_at dksX1_starts_0 22 rfl rfl)
theorem dX1_starts_24 : decode cX1_starts 24 = .ok (.iload 4, 2) := dk_21 4 (dk_at dksX1_starts_1 0 rfl rfl)
theorem dX1_starts_26 : decode cX1_starts 26 = .ok (.iload_n 3, 1) := dk_29 (dk_at dksX1_starts_1 2 rfl rfl)
theorem dX1_starts_27 : decode cX1_starts 27 = .ok (.if_icmp .ge 167, 3) := dk_162 0 167 (dk_at dksX1_starts_1 3 rfl rfl)
theorem dX1_starts_30 : decode cX1_starts 30 = .ok (.aload_n 2, 1) := dk_44 (dk_at dksX1_starts_1 6 rfl rfl)
theorem dX1_starts_31 : decode cX1_starts 31 = .ok (.iload 4, 2) := dk_21 4 (dk_at dksX1_starts_1 7 rfl rfl)
theorem dX1_starts_33 : decode cX1_starts 33 = .ok (.aaload, 1) := dk_50 (dk_at dksX1_starts_1 9 rfl rfl)
theorem dX1_starts_34 : decode cX1_starts 34 = .ok (.astore 5, 2) := dk_58 5 (dk_at dksX1_starts_1 10 rfl rfl)
theorem dX1_starts_36 : decode cX1_starts 36 = .ok (.aload 5, 2) := dk_25 5 (dk_at dksX1_starts_1 12 rfl rfl)
theorem dX1_starts_38 : decode cX1_starts 38 = .ok (.aload_n 0, 1) := dk_42 (dk_at dksX1_starts_1 14 rfl rfl)
theorem dX1_starts_39 : decode cX1_starts 39 = .ok (.getfield 100, 3) := dk_180 0 100 (dk_at dksX1_starts_1 15 rfl rfl)
theorem dX1_starts_42 : decode cX1_starts 42 = .ok (.aload 5, 2) := dk_25 5 (dk_at dksX1_starts_1 18 rfl rfl)
theorem dX1_starts_44 : decode cX1_starts 44 = .ok (.getfield 186, 3) := dk_180 0 186 (dk_at dksX1_starts_1 20 rfl rfl)
theorem dX1_starts_47 : decode cX1_starts 47 = .ok (.iaload, 1) := dk_46 (dk_at dksX1_starts_1 23 rfl rfl)
theorem dX1_starts_48 : decode cX1_starts 48 = .ok (.putfield 332, 3) := dk_181 1 76 (dk_at dksX1_starts_2 0 rfl rfl)
theorem dX1_starts_51 : decode cX1_starts 51 = .ok (.aload 5, 2) := dk_25 5 (dk_at dksX1_starts_2 3 rfl rfl)
theorem dX1_starts_53 : decode cX1_starts 53 = .ok (.aload_n 0, 1) := dk_42 (dk_at dksX1_starts_2 5 rfl rfl)
theorem dX1_starts_54 : decode cX1_starts 54 = .ok (.getfield 203, 3) := dk_180 0 203 (dk_at dksX1_starts_2 6 rfl rfl)
theorem dX1_starts_57 : decode cX1_starts 57 = .ok (.putfield 210, 3) := dk_181 0 210 (dk_at dksX1_starts_2 9 rfl rfl)
theorem dX1_starts_60 : decode cX1_starts 60 = .ok (.aload 5, 2) := dk_25 5 (dk_at dksX1_starts_2 12 rfl rfl)
theorem dX1_starts_62 : decode cX1_starts 62 = .ok (.aload_n 0, 1) := dk_42 (dk_at dksX1_starts_2 14 rfl rfl)
theorem dX1_starts_63 : decode cX1_starts 63 = .ok (.getfield 203, 3) := dk_180 0 203 (dk_at dksX1_starts_2 15 rfl rfl)
theorem dX1_starts_66 : decode cX1_starts 66 = .ok (.aload_n 0, 1) := dk_42 (dk_at dksX1_starts_2 18 rfl rfl)
theorem dX1_starts_67 : decode cX1_starts 67 = .ok (.getfield 206, 3) := dk_180 0 206 (dk_at dksX1_starts_2 19 rfl rfl)
theorem dX1_starts_70 : decode cX1_starts 70 = .ok (.ifCond .eq 11, 3) := dk_153 0 11 (dk_at dksX1_starts_3 0 rfl rfl)
theorem dX1_starts_73 : decode cX1_starts 73 = .ok (.aload 5, 2) := dk_25 5 (dk_at dksX1_starts_3 3 rfl rfl)
theorem dX1_starts_75 : decode cX1_starts 75 = .ok (.getfield 213, 3) := dk_180 0 213 (dk_at dksX1_starts_3 5 rfl rfl)
theorem dX1_starts_78 : decode cX1_starts 78 = .ok (.goto 20, 3) := dk_167 0 20 (dk_at dksX1_starts_3 8 rfl rfl)
theorem dX1_starts_81 : decode cX1_starts 81 = .ok (.aload 5, 2) := dk_25 5 (dk_at dksX1_starts_3 11 rfl rfl)
theorem dX1_starts_83 : decode cX1_starts 83 = .ok (.getfield 213, 3) := dk_180 0 213 (dk_at dksX1_starts_3 13 rfl rfl)
theorem dX1_starts_86 : decode cX1_starts 86 = .ok (.aload 5, 2) := dk_25 5 (dk_at dksX1_starts_3 16 rfl rfl)
theorem dX1_starts_88 : decode cX1_starts 88 = .ok (.aload_n 1, 1) := dk_43 (dk_at dksX1_starts_3 18 rfl rfl)
theorem dX1_starts_89 : decode cX1_starts 89 = .ok (.getfield 335, 3) := dk_180 1 79 (dk_at dksX1_starts_3 19 rfl rfl)
theorem dX1_starts_92 : decode cX1_starts 92 = .ok (.invokevirtual 338, 3) := dk_182 1 82 (dk_at dksX1_starts_4 0 rfl rfl)
theorem dX1_starts_95 : decode cX1_starts 95 = .ok (.invokestatic 321, 3) := dk_184 1 65 (dk_at dksX1_starts_4 3 rfl rfl)
theorem dX1_starts_98 : decode cX1_starts 98 = .ok (.iadd, 1) := dk_96 (dk_at dksX1_starts_4 6 rfl rfl)
theorem dX1_starts_99 : decode cX1_starts 99 = .ok (.putfield 216, 3) := dk_181 0 216 (dk_at dksX1_starts_4 7 rfl rfl)
theorem dX1_starts_102 : decode cX1_starts 102 = .ok (.aload_n 0, 1) := dk_42 (dk_at dksX1_starts_4 10 rfl rfl)
theorem dX1_starts_103 : decode cX1_starts 103 = .ok (.getfield 58, 3) := dk_180 0 58 (dk_at dksX1_starts_4 11 rfl rfl)
theorem dX1_starts_106 : decode cX1_starts 106 = .ok (.new 172, 3) := dk_187 0 172 (dk_at dksX1_starts_4 14 rfl rfl)
theorem dX1_starts_109 : decode cX1_starts 109 = .ok (.dup, 1) := dk_89 (dk_at dksX1_starts_4 17 rfl rfl)
theorem dX1_starts_110 : decode cX1_starts 110 = .ok (.aload_n 1, 1) := dk_43 (dk_at dksX1_starts_4 18 rfl rfl)
theorem dX1_starts_111 : decode cX1_starts 111 = .ok (.aload 5, 2) := dk_25 5 (dk_at dksX1_starts_4 19 rfl rfl)
theorem dX1_starts_113 : decode cX1_starts 113 = .ok (.invokespecial 189, 3) := dk_183 0 189 (dk_at dksX1_starts_4 21 rfl rfl)
theorem dX1_starts_116 : decode cX1_starts 116 = .ok (.invokevirtual 192, 3) := dk_182 0 192 (dk_at dksX1_starts_5 0 rfl rfl)
theorem dX1_starts_119 : decode cX1_starts 119 = .ok (.pop, 1) := dk_87 (dk_at dksX1_starts_5 3 rfl rfl)
theorem dX1_starts_120 : decode cX1_starts 120 = .ok (.new 342, 3) := dk_187 1 86 (dk_at dksX1_starts_5 4 rfl rfl)
theorem dX1_starts_123 : decode cX1_starts 123 = .ok (.dup, 1) := dk_89 (dk_at dksX1_starts_5 7 rfl rfl)
theorem dX1_starts_124 : decode cX1_starts 124 = .ok (.aload_n 0, 1) := dk_42 (dk_at dksX1_starts_5 8 rfl rfl)
theorem dX1_starts_125 : decode cX1_starts 125 = .ok (.getfield 203, 3) := dk_180 0 203 (dk_at dksX1_starts_5 9 rfl rfl)
theorem dX1_starts_128 : decode cX1_starts 128 = .ok (.aload_n 0, 1) := dk_42 (dk_at dksX1_starts_5 12 rfl rfl)
theorem dX1_starts_129 : decode cX1_starts 129 = .ok (.getfield 203, 3) := dk_180 0 203 (dk_at dksX1_starts_5 13 rfl rfl)
theorem dX1_starts_132 : decode cX1_starts 132 = .ok (.aload 5, 2) := dk_25 5 (dk_at dksX1_starts_5 16 rfl rfl)
theorem dX1_starts_134 : decode cX1_starts 134 = .ok (.getfield 213, 3) := dk_180 0 213 (dk_at dksX1_starts_5 18 rfl rfl)
theorem dX1_starts_137 : decode cX1_starts 137 = .ok (.iadd, 1) := dk_96 (dk_at dksX1_starts_5 21 rfl rfl)
theorem dX1_starts_138 : decode cX1_starts 138 = .ok (.aload_n 1, 1) := dk_43 (dk_at dksX1_starts_5 22 rfl rfl)
theorem dX1_starts_139 : decode cX1_starts 139 = .ok (.getfield 166, 3) := dk_180 0 166 (dk_at dksX1_starts_6 0 rfl rfl)
theorem dX1_starts_142 : decode cX1_starts 142 = .ok (.invokespecial 344, 3) := dk_183 1 88 (dk_at dksX1_starts_6 3 rfl rfl)
theorem dX1_starts_145 : decode cX1_starts 145 = .ok (.astore 6, 2) := dk_58 6 (dk_at dksX1_starts_6 6 rfl rfl)
theorem dX1_starts_147 : decode cX1_starts 147 = .ok (.aload 5, 2) := dk_25 5 (dk_at dksX1_starts_6 8 rfl rfl)
theorem dX1_starts_149 : decode cX1_starts 149 = .ok (.getfield 332, 3) := dk_180 1 76 (dk_at dksX1_starts_6 10 rfl rfl)
theorem dX1_starts_152 : decode cX1_starts 152 = .ok (.istore 7, 2) := dk_54 7 (dk_at dksX1_starts_6 13 rfl rfl)
theorem dX1_starts_154 : decode cX1_starts 154 = .ok (.iload 7, 2) := dk_21 7 (dk_at dksX1_starts_6 15 rfl rfl)
theorem dX1_starts_156 : decode cX1_starts 156 = .ok (.aload 5, 2) := dk_25 5 (dk_at dksX1_starts_6 17 rfl rfl)
theorem dX1_starts_158 : decode cX1_starts 158 = .ok (.getfield 332, 3) := dk_180 1 76 (dk_at dksX1_starts_6 19 rfl rfl)
theorem dX1_starts_161 : decode cX1_starts 161 = .ok (.aload 5, 2) := dk_25 5 (dk_at dksX1_starts_6 22 rfl rfl)
theorem dX1_starts_163 : decode cX1_starts 163 = .ok (.getfield 248, 3) := dk_180 0 248 (dk_at dksX1_starts_7 0 rfl rfl)
theorem dX1_starts_166 : decode cX1_starts 166 = .ok (.iadd, 1) := dk_96 (dk_at dksX1_starts_7 3 rfl rfl)
theorem dX1_starts_167 : decode cX1_starts 167 = .ok (.if_icmp .ge 21, 3) := dk_162 0 21 (dk_at dksX1_starts_7 4 rfl rfl)
theorem dX1_starts_170 : decode cX1_starts 170 = .ok (.aload_n 0, 1) := dk_42 (dk_at dksX1_starts_7 7 rfl rfl)
theorem dX1_starts_171 : decode cX1_starts 171 = .ok (.getfield 11, 3) := dk_180 0 11 (dk_at dksX1_starts_7 8 rfl rfl)
theorem dX1_starts_174 : decode cX1_starts 174 = .ok (.iload 7, 2) := dk_21 7 (dk_at dksX1_starts_7 11 rfl rfl)
theorem dX1_starts_176 : decode cX1_starts 176 = .ok (.aaload, 1) := dk_50 (dk_at dksX1_starts_7 13 rfl rfl)
theorem dX1_starts_177 : decode cX1_starts 177 = .ok (.aload 6, 2) := dk_25 6 (dk_at dksX1_starts_7 14 rfl rfl)
theorem dX1_starts_179 : decode cX1_starts 179 = .ok (.invokevirtual 345, 3) := dk_182 1 89 (dk_at dksX1_starts_7 16 rfl rfl)
theorem dX1_starts_182 : decode cX1_starts 182 = .ok (.iinc 7 1, 3) := dk_132 7 1 (dk_at dksX1_starts_7 19 rfl rfl)
theorem dX1_starts_185 : decode cX1_starts 185 = .ok (.goto (-31), 3) := dk_167 255 225 (dk_at dksX1_starts_8 0 rfl rfl)
theorem dX1_starts_188 : decode cX1_starts 188 = .ok (.iinc 4 1, 3) := dk_132 4 1 (dk_at dksX1_starts_8 3 rfl rfl)
theorem dX1_starts_191 : decode cX1_starts 191 = .ok (.goto (-167), 3) := dk_167 255 89 (dk_at dksX1_starts_8 6 rfl rfl)
theorem dX1_starts_194 : decode cX1_starts 194 = .ok (.aload_n 0, 1) := dk_42 (dk_at dksX1_starts_8 9 rfl rfl)
theorem dX1_starts_195 : decode cX1_starts 195 = .ok (.getfield 62, 3) := dk_180 0 62 (dk_at dksX1_starts_8 10 rfl rfl)
theorem dX1_starts_198 : decode cX1_starts 198 = .ok (.aload_n 1, 1) := dk_43 (dk_at dksX1_starts_8 13 rfl rfl)
theorem dX1_starts_199 : decode cX1_starts 199 = .ok (.invokevirtual 140, 3) := dk_182 0 140 (dk_at dksX1_starts_8 14 rfl rfl)
theorem dX1_starts_202 : decode cX1_starts 202 = .ok (.pop, 1) := dk_87 (dk_at dksX1_starts_8 17 rfl rfl)
theorem dX1_starts_203 : decode cX1_starts 203 = .ok (.aload_n 0, 1) := dk_42 (dk_at dksX1_starts_8 18 rfl rfl)
theorem dX1_starts_204 : decode cX1_starts 204 = .ok (.iconst 1, 1) := dk_4 (dk_at dksX1_starts_8 19 rfl rfl)
theorem dX1_starts_205 : decode cX1_starts 205 = .ok (.aload_n 1, 1) := dk_43 (dk_at dksX1_starts_8 20 rfl rfl)
theorem dX1_starts_206 : decode cX1_starts 206 = .ok (.invokevirtual 348, 3) := dk_182 1 92 (dk_at dksX1_starts_8 21 rfl rfl)
theorem dX1_starts_209 : decode cX1_starts 209 = .ok (.aload_n 0, 1) := dk_42 (dk_at dksX1_starts_9 0 rfl rfl)
theorem dX1_starts_210 : decode cX1_starts 210 = .ok (.getfield 82, 3) := dk_180 0 82 (dk_at dksX1_starts_9 1 rfl rfl)
theorem dX1_starts_213 : decode cX1_starts 213 = .ok (.iconst 0, 1) := dk_3 (dk_at dksX1_starts_9 4 rfl rfl)
theorem dX1_starts_214 : decode cX1_starts 214 = .ok (.dup2, 1) := dk_92 (dk_at dksX1_starts_9 5 rfl rfl)
theorem dX1_starts_215 : decode cX1_starts 215 = .ok (.laload, 1) := dk_47 (dk_at dksX1_starts_9 6 rfl rfl)
theorem dX1_starts_216 : decode cX1_starts 216 = .ok (.lconst 1, 1) := dk_10 (dk_at dksX1_starts_9 7 rfl rfl)
theorem dX1_starts_217 : decode cX1_starts 217 = .ok (.ladd, 1) := dk_97 (dk_at dksX1_starts_9 8 rfl rfl)
theorem dX1_starts_218 : decode cX1_starts 218 = .ok (.lastore, 1) := dk_80 (dk_at dksX1_starts_9 9 rfl rfl)
theorem dX1_starts_219 : decode cX1_starts 219 = .ok (.aload_n 0, 1) := dk_42 (dk_at dksX1_starts_9 10 rfl rfl)
theorem dX1_starts_220 : decode cX1_starts 220 = .ok (.getfield 82, 3) := dk_180 0 82 (dk_at dksX1_starts_9 11 rfl rfl)
theorem dX1_starts_223 : decode cX1_starts 223 = .ok (.iconst 5, 1) := dk_8 (dk_at dksX1_starts_9 14 rfl rfl)
theorem dX1_starts_224 : decode cX1_starts 224 = .ok (.dup2, 1) := dk_92 (dk_at dksX1_starts_9 15 rfl rfl)
theorem dX1_starts_225 : decode cX1_starts 225 = .ok (.laload, 1) := dk_47 (dk_at dksX1_starts_9 16 rfl rfl)
theorem dX1_starts_226 : decode cX1_starts 226 = .ok (.aload_n 0, 1) := dk_42 (dk_at dksX1_starts_9 17 rfl rfl)
theorem dX1_starts_227 : decode cX1_starts 227 = .ok (.getfield 203, 3) := dk_180 0 203 (dk_at dksX1_starts_9 18 rfl rfl)
theorem dX1_starts_230 : decode cX1_starts 230 = .ok (.aload_n 1, 1) := dk_43 (dk_at dksX1_starts_9 21 rfl rfl)
theorem dX1_starts_231 : decode cX1_starts 231 = .ok (.getfield 352, 3) := dk_180 1 96 (dk_at dksX1_starts_10 0 rfl rfl)
theorem dX1_starts_234 : decode cX1_starts 234 = .ok (.isub, 1) := dk_100 (dk_at dksX1_starts_10 3 rfl rfl)
theorem dX1_starts_235 : decode cX1_starts 235 = .ok (.i2l, 1) := dk_133 (dk_at dksX1_starts_10 4 rfl rfl)
theorem dX1_starts_236 : decode cX1_starts 236 = .ok (.ladd, 1) := dk_97 (dk_at dksX1_starts_10 5 rfl rfl)
theorem dX1_starts_237 : decode cX1_starts 237 = .ok (.lastore, 1) := dk_80 (dk_at dksX1_starts_10 6 rfl rfl)
theorem dX1_starts_238 : decode cX1_starts 238 = .ok (.return_, 1) := dk_177 (dk_at dksX1_starts_10 7 rfl rfl)
abbrev cX0_nothing : ByteArray := prog_1_method_30_code
theorem dX0_nothing_0 : decode cX0_nothing 0 = .ok (.return_, 1) := by decide +kernel
abbrev cX25_adds : ByteArray := prog_13_method_3_code
def dkwX25_adds_0 : List UInt8 := [42, 180, 0, 18, 43, 182, 0, 46, 87, 177]
abbrev dktX25_adds_0 : List UInt8 := dkwX25_adds_0 ++ []
theorem dksX25_adds_0 : cX25_adds.data.toList.drop 0 = dktX25_adds_0 := by decide +kernel
theorem dX25_adds_0 : decode cX25_adds 0 = .ok (.aload_n 0, 1) := dk_42 (dk_at dksX25_adds_0 0 rfl rfl)
theorem dX25_adds_1 : decode cX25_adds 1 = .ok (.getfield 18, 3) := dk_180 0 18 (dk_at dksX25_adds_0 1 rfl rfl)
theorem dX25_adds_4 : decode cX25_adds 4 = .ok (.aload_n 1, 1) := dk_43 (dk_at dksX25_adds_0 4 rfl rfl)
theorem dX25_adds_5 : decode cX25_adds 5 = .ok (.invokevirtual 46, 3) := dk_182 0 46 (dk_at dksX25_adds_0 5 rfl rfl)
theorem dX25_adds_8 : decode cX25_adds 8 = .ok (.pop, 1) := dk_87 (dk_at dksX25_adds_0 8 rfl rfl)
theorem dX25_adds_9 : decode cX25_adds 9 = .ok (.return_, 1) := dk_177 (dk_at dksX25_adds_0 9 rfl rfl)
abbrev cX1_isPromised : ByteArray := prog_8_method_23_code
def dkwX1_isPromised_7 : List UInt8 := [43, 43, 180, 1, 112, 16, 254, 160, 0, 7, 28, 167, 0, 7, 43, 180, 1, 112, 181, 1, 112, 4, 172]
abbrev dktX1_isPromised_7 : List UInt8 := dkwX1_isPromised_7 ++ []
def dkwX1_isPromised_6 : List UInt8 := [182, 1, 106, 42, 180, 0, 72, 43, 180, 0, 166, 182, 1, 109, 28, 159, 0, 9, 42, 8, 43, 182, 1, 92]
abbrev dktX1_isPromised_6 : List UInt8 := dkwX1_isPromised_6 ++ dktX1_isPromised_7
def dkwX1_isPromised_5 : List UInt8 := [182, 1, 89, 132, 8, 1, 167, 255, 220, 132, 5, 1, 167, 255, 168, 42, 180, 0, 68, 43, 180, 0, 166, 28]
abbrev dktX1_isPromised_5 : List UInt8 := dkwX1_isPromised_5 ++ dktX1_isPromised_6
def dkwX1_isPromised_4 : List UInt8 := [25, 6, 180, 0, 186, 46, 25, 6, 180, 0, 248, 96, 162, 0, 21, 42, 180, 0, 11, 21, 8, 50, 25, 7]
abbrev dktX1_isPromised_4 : List UInt8 := dkwX1_isPromised_4 ++ dktX1_isPromised_5
def dkwX1_isPromised_3 : List UInt8 := [183, 1, 105, 58, 7, 42, 180, 0, 100, 25, 6, 180, 0, 186, 46, 54, 8, 21, 8, 42, 180, 0, 100]
abbrev dktX1_isPromised_3 : List UInt8 := dkwX1_isPromised_3 ++ dktX1_isPromised_4
def dkwX1_isPromised_2 : List UInt8 := [45, 21, 5, 50, 58, 6, 187, 1, 103, 89, 28, 28, 25, 6, 180, 0, 213, 96, 43, 180, 0, 166]
abbrev dktX1_isPromised_2 : List UInt8 := dkwX1_isPromised_2 ++ dktX1_isPromised_3
def dkwX1_isPromised_1 : List UInt8 := [160, 0, 5, 3, 172, 43, 180, 0, 178, 78, 45, 190, 54, 4, 3, 54, 5, 21, 5, 21, 4, 162, 0, 87]
abbrev dktX1_isPromised_1 : List UInt8 := dkwX1_isPromised_1 ++ dktX1_isPromised_2
def dkwX1_isPromised_0 : List UInt8 := [42, 43, 42, 180, 0, 203, 4, 96, 42, 180, 0, 203, 17, 78, 32, 96, 182, 1, 99, 61, 28, 16, 254]
abbrev dktX1_isPromised_0 : List UInt8 := dkwX1_isPromised_0 ++ dktX1_isPromised_1
theorem dksX1_isPromised_0 : cX1_isPromised.data.toList.drop 0 = dktX1_isPromised_0 := by decide +kernel
theorem dksX1_isPromised_1 : cX1_isPromised.data.toList.drop 23 = dktX1_isPromised_1 := dk_seg dksX1_isPromised_0 23 rfl rfl
theorem dksX1_isPromised_2 : cX1_isPromised.data.toList.drop 47 = dktX1_isPromised_2 := dk_seg dksX1_isPromised_1 24 rfl rfl
theorem dksX1_isPromised_3 : cX1_isPromised.data.toList.drop 69 = dktX1_isPromised_3 := dk_seg dksX1_isPromised_2 22 rfl rfl
theorem dksX1_isPromised_4 : cX1_isPromised.data.toList.drop 92 = dktX1_isPromised_4 := dk_seg dksX1_isPromised_3 23 rfl rfl
theorem dksX1_isPromised_5 : cX1_isPromised.data.toList.drop 116 = dktX1_isPromised_5 := dk_seg dksX1_isPromised_4 24 rfl rfl
theorem dksX1_isPromised_6 : cX1_isPromised.data.toList.drop 140 = dktX1_isPromised_6 := dk_seg dksX1_isPromised_5 24 rfl rfl
theorem dksX1_isPromised_7 : cX1_isPromised.data.toList.drop 164 = dktX1_isPromised_7 := dk_seg dksX1_isPromised_6 24 rfl rfl
theorem dX1_isPromised_0 : decode cX1_isPromised 0 = .ok (.aload_n 0, 1) := dk_42 (dk_at dksX1_isPromised_0 0 rfl rfl)
theorem dX1_isPromised_1 : decode cX1_isPromised 1 = .ok (.aload_n 1, 1) := dk_43 (dk_at dksX1_isPromised_0 1 rfl rfl)
theorem dX1_isPromised_2 : decode cX1_isPromised 2 = .ok (.aload_n 0, 1) := dk_42 (dk_at dksX1_isPromised_0 2 rfl rfl)
theorem dX1_isPromised_3 : decode cX1_isPromised 3 = .ok (.getfield 203, 3) := dk_180 0 203 (dk_at dksX1_isPromised_0 3 rfl rfl)
theorem dX1_isPromised_6 : decode cX1_isPromised 6 = .ok (.iconst 1, 1) := dk_4 (dk_at dksX1_isPromised_0 6 rfl rfl)
theorem dX1_isPromised_7 : decode cX1_isPromised 7 = .ok (.iadd, 1) := dk_96 (dk_at dksX1_isPromised_0 7 rfl rfl)
theorem dX1_isPromised_8 : decode cX1_isPromised 8 = .ok (.aload_n 0, 1) := dk_42 (dk_at dksX1_isPromised_0 8 rfl rfl)
theorem dX1_isPromised_9 : decode cX1_isPromised 9 = .ok (.getfield 203, 3) := dk_180 0 203 (dk_at dksX1_isPromised_0 9 rfl rfl)
theorem dX1_isPromised_12 : decode cX1_isPromised 12 = .ok (.sipush 20000, 3) := dk_17 78 32 (dk_at dksX1_isPromised_0 12 rfl rfl)
theorem dX1_isPromised_15 : decode cX1_isPromised 15 = .ok (.iadd, 1) := dk_96 (dk_at dksX1_isPromised_0 15 rfl rfl)
theorem dX1_isPromised_16 : decode cX1_isPromised 16 = .ok (.invokevirtual 355, 3) := dk_182 1 99 (dk_at dksX1_isPromised_0 16 rfl rfl)
theorem dX1_isPromised_19 : decode cX1_isPromised 19 = .ok (.istore_n 2, 1) := dk_61 (dk_at dksX1_isPromised_0 19 rfl rfl)
theorem dX1_isPromised_20 : decode cX1_isPromised 20 = .ok (.iload_n 2, 1) := dk_28 (dk_at dksX1_isPromised_0 20 rfl rfl)
theorem dX1_isPromised_21 : decode cX1_isPromised 21 = .ok (.bipush (-2), 2) := dk_16 254 (dk_at dksX1_isPromised_0 21 rfl rfl)
theorem dX1_isPromised_23 : decode cX1_isPromised 23 = .ok (.if_icmp .ne 5, 3) := dk_160 0 5 (dk_at dksX1_isPromised_1 0 rfl rfl)
theorem dX1_isPromised_26 : decode cX1_isPromised 26 = .ok (.iconst 0, 1) := dk_3 (dk_at dksX1_isPromised_1 3 rfl rfl)
theorem dX1_isPromised_27 : decode cX1_isPromised 27 = .ok (.ireturn, 1) := dk_172 (dk_at dksX1_isPromised_1 4 rfl rfl)
theorem dX1_isPromised_28 : decode cX1_isPromised 28 = .ok (.aload_n 1, 1) := dk_43 (dk_at dksX1_isPromised_1 5 rfl rfl)
theorem dX1_isPromised_29 : decode cX1_isPromised 29 = .ok (.getfield 178, 3) := dk_180 0 178 (dk_at dksX1_isPromised_1 6 rfl rfl)
theorem dX1_isPromised_32 : decode cX1_isPromised 32 = .ok (.astore_n 3, 1) := dk_78 (dk_at dksX1_isPromised_1 9 rfl rfl)
theorem dX1_isPromised_33 : decode cX1_isPromised 33 = .ok (.aload_n 3, 1) := dk_45 (dk_at dksX1_isPromised_1 10 rfl rfl)
theorem dX1_isPromised_34 : decode cX1_isPromised 34 = .ok (.arraylength, 1) := dk_190 (dk_at dksX1_isPromised_1 11 rfl rfl)
theorem dX1_isPromised_35 : decode cX1_isPromised 35 = .ok (.istore 4, 2) := dk_54 4 (dk_at dksX1_isPromised_1 12 rfl rfl)
theorem dX1_isPromised_37 : decode cX1_isPromised 37 = .ok (.iconst 0, 1) := dk_3 (dk_at dksX1_isPromised_1 14 rfl rfl)
theorem dX1_isPromised_38 : decode cX1_isPromised 38 = .ok (.istore 5, 2) := dk_54 5 (dk_at dksX1_isPromised_1 15 rfl rfl)
theorem dX1_isPromised_40 : decode cX1_isPromised 40 = .ok (.iload 5, 2) := dk_21 5 (dk_at dksX1_isPromised_1 17 rfl rfl)
theorem dX1_isPromised_42 : decode cX1_isPromised 42 = .ok (.iload 4, 2) := dk_21 4 (dk_at dksX1_isPromised_1 19 rfl rfl)
theorem dX1_isPromised_44 : decode cX1_isPromised 44 = .ok (.if_icmp .ge 87, 3) := dk_162 0 87 (dk_at dksX1_isPromised_1 21 rfl rfl)
theorem dX1_isPromised_47 : decode cX1_isPromised 47 = .ok (.aload_n 3, 1) := dk_45 (dk_at dksX1_isPromised_2 0 rfl rfl)
theorem dX1_isPromised_48 : decode cX1_isPromised 48 = .ok (.iload 5, 2) := dk_21 5 (dk_at dksX1_isPromised_2 1 rfl rfl)
theorem dX1_isPromised_50 : decode cX1_isPromised 50 = .ok (.aaload, 1) := dk_50 (dk_at dksX1_isPromised_2 3 rfl rfl)
theorem dX1_isPromised_51 : decode cX1_isPromised 51 = .ok (.astore 6, 2) := dk_58 6 (dk_at dksX1_isPromised_2 4 rfl rfl)
theorem dX1_isPromised_53 : decode cX1_isPromised 53 = .ok (.new 359, 3) := dk_187 1 103 (dk_at dksX1_isPromised_2 6 rfl rfl)
theorem dX1_isPromised_56 : decode cX1_isPromised 56 = .ok (.dup, 1) := dk_89 (dk_at dksX1_isPromised_2 9 rfl rfl)
theorem dX1_isPromised_57 : decode cX1_isPromised 57 = .ok (.iload_n 2, 1) := dk_28 (dk_at dksX1_isPromised_2 10 rfl rfl)
theorem dX1_isPromised_58 : decode cX1_isPromised 58 = .ok (.iload_n 2, 1) := dk_28 (dk_at dksX1_isPromised_2 11 rfl rfl)
theorem dX1_isPromised_59 : decode cX1_isPromised 59 = .ok (.aload 6, 2) := dk_25 6 (dk_at dksX1_isPromised_2 12 rfl rfl)
theorem dX1_isPromised_61 : decode cX1_isPromised 61 = .ok (.getfield 213, 3) := dk_180 0 213 (dk_at dksX1_isPromised_2 14 rfl rfl)
theorem dX1_isPromised_64 : decode cX1_isPromised 64 = .ok (.iadd, 1) := dk_96 (dk_at dksX1_isPromised_2 17 rfl rfl)
theorem dX1_isPromised_65 : decode cX1_isPromised 65 = .ok (.aload_n 1, 1) := dk_43 (dk_at dksX1_isPromised_2 18 rfl rfl)
theorem dX1_isPromised_66 : decode cX1_isPromised 66 = .ok (.getfield 166, 3) := dk_180 0 166 (dk_at dksX1_isPromised_2 19 rfl rfl)
theorem dX1_isPromised_69 : decode cX1_isPromised 69 = .ok (.invokespecial 361, 3) := dk_183 1 105 (dk_at dksX1_isPromised_3 0 rfl rfl)
theorem dX1_isPromised_72 : decode cX1_isPromised 72 = .ok (.astore 7, 2) := dk_58 7 (dk_at dksX1_isPromised_3 3 rfl rfl)
theorem dX1_isPromised_74 : decode cX1_isPromised 74 = .ok (.aload_n 0, 1) := dk_42 (dk_at dksX1_isPromised_3 5 rfl rfl)
theorem dX1_isPromised_75 : decode cX1_isPromised 75 = .ok (.getfield 100, 3) := dk_180 0 100 (dk_at dksX1_isPromised_3 6 rfl rfl)
theorem dX1_isPromised_78 : decode cX1_isPromised 78 = .ok (.aload 6, 2) := dk_25 6 (dk_at dksX1_isPromised_3 9 rfl rfl)
theorem dX1_isPromised_80 : decode cX1_isPromised 80 = .ok (.getfield 186, 3) := dk_180 0 186 (dk_at dksX1_isPromised_3 11 rfl rfl)
theorem dX1_isPromised_83 : decode cX1_isPromised 83 = .ok (.iaload, 1) := dk_46 (dk_at dksX1_isPromised_3 14 rfl rfl)
theorem dX1_isPromised_84 : decode cX1_isPromised 84 = .ok (.istore 8, 2) := dk_54 8 (dk_at dksX1_isPromised_3 15 rfl rfl)
theorem dX1_isPromised_86 : decode cX1_isPromised 86 = .ok (.iload 8, 2) := dk_21 8 (dk_at dksX1_isPromised_3 17 rfl rfl)
theorem dX1_isPromised_88 : decode cX1_isPromised 88 = .ok (.aload_n 0, 1) := dk_42 (dk_at dksX1_isPromised_3 19 rfl rfl)
theorem dX1_isPromised_89 : decode cX1_isPromised 89 = .ok (.getfield 100, 3) := dk_180 0 100 (dk_at dksX1_isPromised_3 20 rfl rfl)
theorem dX1_isPromised_92 : decode cX1_isPromised 92 = .ok (.aload 6, 2) := dk_25 6 (dk_at dksX1_isPromised_4 0 rfl rfl)
theorem dX1_isPromised_94 : decode cX1_isPromised 94 = .ok (.getfield 186, 3) := dk_180 0 186 (dk_at dksX1_isPromised_4 2 rfl rfl)
theorem dX1_isPromised_97 : decode cX1_isPromised 97 = .ok (.iaload, 1) := dk_46 (dk_at dksX1_isPromised_4 5 rfl rfl)
theorem dX1_isPromised_98 : decode cX1_isPromised 98 = .ok (.aload 6, 2) := dk_25 6 (dk_at dksX1_isPromised_4 6 rfl rfl)
theorem dX1_isPromised_100 : decode cX1_isPromised 100 = .ok (.getfield 248, 3) := dk_180 0 248 (dk_at dksX1_isPromised_4 8 rfl rfl)
theorem dX1_isPromised_103 : decode cX1_isPromised 103 = .ok (.iadd, 1) := dk_96 (dk_at dksX1_isPromised_4 11 rfl rfl)
theorem dX1_isPromised_104 : decode cX1_isPromised 104 = .ok (.if_icmp .ge 21, 3) := dk_162 0 21 (dk_at dksX1_isPromised_4 12 rfl rfl)
theorem dX1_isPromised_107 : decode cX1_isPromised 107 = .ok (.aload_n 0, 1) := dk_42 (dk_at dksX1_isPromised_4 15 rfl rfl)
theorem dX1_isPromised_108 : decode cX1_isPromised 108 = .ok (.getfield 11, 3) := dk_180 0 11 (dk_at dksX1_isPromised_4 16 rfl rfl)
theorem dX1_isPromised_111 : decode cX1_isPromised 111 = .ok (.iload 8, 2) := dk_21 8 (dk_at dksX1_isPromised_4 19 rfl rfl)
theorem dX1_isPromised_113 : decode cX1_isPromised 113 = .ok (.aaload, 1) := dk_50 (dk_at dksX1_isPromised_4 21 rfl rfl)
theorem dX1_isPromised_114 : decode cX1_isPromised 114 = .ok (.aload 7, 2) := dk_25 7 (dk_at dksX1_isPromised_4 22 rfl rfl)
theorem dX1_isPromised_116 : decode cX1_isPromised 116 = .ok (.invokevirtual 345, 3) := dk_182 1 89 (dk_at dksX1_isPromised_5 0 rfl rfl)
theorem dX1_isPromised_119 : decode cX1_isPromised 119 = .ok (.iinc 8 1, 3) := dk_132 8 1 (dk_at dksX1_isPromised_5 3 rfl rfl)
theorem dX1_isPromised_122 : decode cX1_isPromised 122 = .ok (.goto (-36), 3) := dk_167 255 220 (dk_at dksX1_isPromised_5 6 rfl rfl)
theorem dX1_isPromised_125 : decode cX1_isPromised 125 = .ok (.iinc 5 1, 3) := dk_132 5 1 (dk_at dksX1_isPromised_5 9 rfl rfl)
theorem dX1_isPromised_128 : decode cX1_isPromised 128 = .ok (.goto (-88), 3) := dk_167 255 168 (dk_at dksX1_isPromised_5 12 rfl rfl)
theorem dX1_isPromised_131 : decode cX1_isPromised 131 = .ok (.aload_n 0, 1) := dk_42 (dk_at dksX1_isPromised_5 15 rfl rfl)
theorem dX1_isPromised_132 : decode cX1_isPromised 132 = .ok (.getfield 68, 3) := dk_180 0 68 (dk_at dksX1_isPromised_5 16 rfl rfl)
theorem dX1_isPromised_135 : decode cX1_isPromised 135 = .ok (.aload_n 1, 1) := dk_43 (dk_at dksX1_isPromised_5 19 rfl rfl)
theorem dX1_isPromised_136 : decode cX1_isPromised 136 = .ok (.getfield 166, 3) := dk_180 0 166 (dk_at dksX1_isPromised_5 20 rfl rfl)
theorem dX1_isPromised_139 : decode cX1_isPromised 139 = .ok (.iload_n 2, 1) := dk_28 (dk_at dksX1_isPromised_5 23 rfl rfl)
theorem dX1_isPromised_140 : decode cX1_isPromised 140 = .ok (.invokevirtual 362, 3) := dk_182 1 106 (dk_at dksX1_isPromised_6 0 rfl rfl)
theorem dX1_isPromised_143 : decode cX1_isPromised 143 = .ok (.aload_n 0, 1) := dk_42 (dk_at dksX1_isPromised_6 3 rfl rfl)
theorem dX1_isPromised_144 : decode cX1_isPromised 144 = .ok (.getfield 72, 3) := dk_180 0 72 (dk_at dksX1_isPromised_6 4 rfl rfl)
theorem dX1_isPromised_147 : decode cX1_isPromised 147 = .ok (.aload_n 1, 1) := dk_43 (dk_at dksX1_isPromised_6 7 rfl rfl)
theorem dX1_isPromised_148 : decode cX1_isPromised 148 = .ok (.getfield 166, 3) := dk_180 0 166 (dk_at dksX1_isPromised_6 8 rfl rfl)
theorem dX1_isPromised_151 : decode cX1_isPromised 151 = .ok (.invokevirtual 365, 3) := dk_182 1 109 (dk_at dksX1_isPromised_6 11 rfl rfl)
theorem dX1_isPromised_154 : decode cX1_isPromised 154 = .ok (.iload_n 2, 1) := dk_28 (dk_at dksX1_isPromised_6 14 rfl rfl)
theorem dX1_isPromised_155 : decode cX1_isPromised 155 = .ok (.if_icmp .eq 9, 3) := dk_159 0 9 (dk_at dksX1_isPromised_6 15 rfl rfl)
theorem dX1_isPromised_158 : decode cX1_isPromised 158 = .ok (.aload_n 0, 1) := dk_42 (dk_at dksX1_isPromised_6 18 rfl rfl)
theorem dX1_isPromised_159 : decode cX1_isPromised 159 = .ok (.iconst 5, 1) := dk_8 (dk_at dksX1_isPromised_6 19 rfl rfl)
theorem dX1_isPromised_160 : decode cX1_isPromised 160 = .ok (.aload_n 1, 1) := dk_43 (dk_at dksX1_isPromised_6 20 rfl rfl)
theorem dX1_isPromised_161 : decode cX1_isPromised 161 = .ok (.invokevirtual 348, 3) := dk_182 1 92 (dk_at dksX1_isPromised_6 21 rfl rfl)
theorem dX1_isPromised_164 : decode cX1_isPromised 164 = .ok (.aload_n 1, 1) := dk_43 (dk_at dksX1_isPromised_7 0 rfl rfl)
theorem dX1_isPromised_165 : decode cX1_isPromised 165 = .ok (.aload_n 1, 1) := dk_43 (dk_at dksX1_isPromised_7 1 rfl rfl)
theorem dX1_isPromised_166 : decode cX1_isPromised 166 = .ok (.getfield 368, 3) := dk_180 1 112 (dk_at dksX1_isPromised_7 2 rfl rfl)
theorem dX1_isPromised_169 : decode cX1_isPromised 169 = .ok (.bipush (-2), 2) := dk_16 254 (dk_at dksX1_isPromised_7 5 rfl rfl)
theorem dX1_isPromised_171 : decode cX1_isPromised 171 = .ok (.if_icmp .ne 7, 3) := dk_160 0 7 (dk_at dksX1_isPromised_7 7 rfl rfl)
theorem dX1_isPromised_174 : decode cX1_isPromised 174 = .ok (.iload_n 2, 1) := dk_28 (dk_at dksX1_isPromised_7 10 rfl rfl)
theorem dX1_isPromised_175 : decode cX1_isPromised 175 = .ok (.goto 7, 3) := dk_167 0 7 (dk_at dksX1_isPromised_7 11 rfl rfl)
theorem dX1_isPromised_178 : decode cX1_isPromised 178 = .ok (.aload_n 1, 1) := dk_43 (dk_at dksX1_isPromised_7 14 rfl rfl)
theorem dX1_isPromised_179 : decode cX1_isPromised 179 = .ok (.getfield 368, 3) := dk_180 1 112 (dk_at dksX1_isPromised_7 15 rfl rfl)
theorem dX1_isPromised_182 : decode cX1_isPromised 182 = .ok (.putfield 368, 3) := dk_181 1 112 (dk_at dksX1_isPromised_7 18 rfl rfl)
theorem dX1_isPromised_185 : decode cX1_isPromised 185 = .ok (.iconst 1, 1) := dk_4 (dk_at dksX1_isPromised_7 21 rfl rfl)
theorem dX1_isPromised_186 : decode cX1_isPromised 186 = .ok (.ireturn, 1) := dk_172 (dk_at dksX1_isPromised_7 22 rfl rfl)
abbrev cX5_at : ByteArray := prog_10_method_4_code
def dkwX5_at_2 : List UInt8 := [185, 0, 38, 2, 0, 153, 0, 6, 25, 4, 176, 167, 255, 210, 1, 176]
abbrev dktX5_at_2 : List UInt8 := dkwX5_at_2 ++ []
def dkwX5_at_1 : List UInt8 := [192, 0, 24, 58, 4, 25, 4, 27, 27, 4, 96, 182, 0, 34, 153, 0, 17, 44, 25, 4]
abbrev dktX5_at_1 : List UInt8 := dkwX5_at_1 ++ dktX5_at_2
def dkwX5_at_0 : List UInt8 := [42, 180, 0, 10, 182, 0, 44, 78, 45, 185, 0, 48, 1, 0, 153, 0, 43, 45, 185, 0, 54, 1, 0]
abbrev dktX5_at_0 : List UInt8 := dkwX5_at_0 ++ dktX5_at_1
theorem dksX5_at_0 : cX5_at.data.toList.drop 0 = dktX5_at_0 := by decide +kernel
theorem dksX5_at_1 : cX5_at.data.toList.drop 23 = dktX5_at_1 := dk_seg dksX5_at_0 23 rfl rfl
theorem dksX5_at_2 : cX5_at.data.toList.drop 43 = dktX5_at_2 := dk_seg dksX5_at_1 20 rfl rfl
theorem dX5_at_0 : decode cX5_at 0 = .ok (.aload_n 0, 1) := dk_42 (dk_at dksX5_at_0 0 rfl rfl)
theorem dX5_at_1 : decode cX5_at 1 = .ok (.getfield 10, 3) := dk_180 0 10 (dk_at dksX5_at_0 1 rfl rfl)
theorem dX5_at_4 : decode cX5_at 4 = .ok (.invokevirtual 44, 3) := dk_182 0 44 (dk_at dksX5_at_0 4 rfl rfl)
theorem dX5_at_7 : decode cX5_at 7 = .ok (.astore_n 3, 1) := dk_78 (dk_at dksX5_at_0 7 rfl rfl)
theorem dX5_at_8 : decode cX5_at 8 = .ok (.aload_n 3, 1) := dk_45 (dk_at dksX5_at_0 8 rfl rfl)
theorem dX5_at_9 : decode cX5_at 9 = .ok (.invokeinterface 48 1, 5) := by decide +kernel
theorem dX5_at_14 : decode cX5_at 14 = .ok (.ifCond .eq 43, 3) := dk_153 0 43 (dk_at dksX5_at_0 14 rfl rfl)
theorem dX5_at_17 : decode cX5_at 17 = .ok (.aload_n 3, 1) := dk_45 (dk_at dksX5_at_0 17 rfl rfl)
theorem dX5_at_18 : decode cX5_at 18 = .ok (.invokeinterface 54 1, 5) := by decide +kernel
theorem dX5_at_23 : decode cX5_at 23 = .ok (.checkcast 24, 3) := dk_192 0 24 (dk_at dksX5_at_1 0 rfl rfl)
theorem dX5_at_26 : decode cX5_at 26 = .ok (.astore 4, 2) := dk_58 4 (dk_at dksX5_at_1 3 rfl rfl)
theorem dX5_at_28 : decode cX5_at 28 = .ok (.aload 4, 2) := dk_25 4 (dk_at dksX5_at_1 5 rfl rfl)
theorem dX5_at_30 : decode cX5_at 30 = .ok (.iload_n 1, 1) := dk_27 (dk_at dksX5_at_1 7 rfl rfl)
theorem dX5_at_31 : decode cX5_at 31 = .ok (.iload_n 1, 1) := dk_27 (dk_at dksX5_at_1 8 rfl rfl)
theorem dX5_at_32 : decode cX5_at 32 = .ok (.iconst 1, 1) := dk_4 (dk_at dksX5_at_1 9 rfl rfl)
theorem dX5_at_33 : decode cX5_at 33 = .ok (.iadd, 1) := dk_96 (dk_at dksX5_at_1 10 rfl rfl)
theorem dX5_at_34 : decode cX5_at 34 = .ok (.invokevirtual 34, 3) := dk_182 0 34 (dk_at dksX5_at_1 11 rfl rfl)
theorem dX5_at_37 : decode cX5_at 37 = .ok (.ifCond .eq 17, 3) := dk_153 0 17 (dk_at dksX5_at_1 14 rfl rfl)
theorem dX5_at_40 : decode cX5_at 40 = .ok (.aload_n 2, 1) := dk_44 (dk_at dksX5_at_1 17 rfl rfl)
theorem dX5_at_41 : decode cX5_at 41 = .ok (.aload 4, 2) := dk_25 4 (dk_at dksX5_at_1 18 rfl rfl)
theorem dX5_at_43 : decode cX5_at 43 = .ok (.invokeinterface 38 2, 5) := by decide +kernel
theorem dX5_at_48 : decode cX5_at 48 = .ok (.ifCond .eq 6, 3) := dk_153 0 6 (dk_at dksX5_at_2 5 rfl rfl)
theorem dX5_at_51 : decode cX5_at 51 = .ok (.aload 4, 2) := dk_25 4 (dk_at dksX5_at_2 8 rfl rfl)
theorem dX5_at_53 : decode cX5_at 53 = .ok (.areturn, 1) := dk_176 (dk_at dksX5_at_2 10 rfl rfl)
theorem dX5_at_54 : decode cX5_at 54 = .ok (.goto (-46), 3) := dk_167 255 210 (dk_at dksX5_at_2 11 rfl rfl)
theorem dX5_at_57 : decode cX5_at 57 = .ok (.aconst_null, 1) := dk_1 (dk_at dksX5_at_2 14 rfl rfl)
theorem dX5_at_58 : decode cX5_at 58 = .ok (.areturn, 1) := dk_176 (dk_at dksX5_at_2 15 rfl rfl)
abbrev cX21_of : ByteArray := prog_19_method_4_code
def dkwX21_of_0 : List UInt8 := [42, 180, 0, 18, 180, 0, 27, 172]
abbrev dktX21_of_0 : List UInt8 := dkwX21_of_0 ++ []
theorem dksX21_of_0 : cX21_of.data.toList.drop 0 = dktX21_of_0 := by decide +kernel
theorem dX21_of_0 : decode cX21_of 0 = .ok (.aload_n 0, 1) := dk_42 (dk_at dksX21_of_0 0 rfl rfl)
theorem dX21_of_1 : decode cX21_of 1 = .ok (.getfield 18, 3) := dk_180 0 18 (dk_at dksX21_of_0 1 rfl rfl)
theorem dX21_of_4 : decode cX21_of 4 = .ok (.getfield 27, 3) := dk_180 0 27 (dk_at dksX21_of_0 4 rfl rfl)
theorem dX21_of_7 : decode cX21_of 7 = .ok (.ireturn, 1) := dk_172 (dk_at dksX21_of_0 7 rfl rfl)
abbrev cX24_of : ByteArray := prog_23_method_4_code
theorem dX24_of_0 : decode cX24_of 0 = .ok (.aload_n 0, 1) := by decide +kernel
theorem dX24_of_1 : decode cX24_of 1 = .ok (.getfield 7, 3) := by decide +kernel
theorem dX24_of_4 : decode cX24_of 4 = .ok (.ireturn, 1) := by decide +kernel
abbrev cX23_of : ByteArray := prog_26_method_4_code
theorem dX23_of_0 : decode cX23_of 0 = .ok (.aload_n 0, 1) := by decide +kernel
theorem dX23_of_1 : decode cX23_of 1 = .ok (.getfield 7, 3) := by decide +kernel
theorem dX23_of_4 : decode cX23_of 4 = .ok (.ireturn, 1) := by decide +kernel
abbrev cX1_thinks : ByteArray := prog_8_method_3_code
def dkwX1_thinks_3 : List UInt8 := [182, 0, 192, 87, 167, 255, 209, 42, 43, 181, 0, 58, 177]
abbrev dktX1_thinks_3 : List UInt8 := dkwX1_thinks_3 ++ []
def dkwX1_thinks_2 : List UInt8 := [180, 0, 182, 45, 180, 0, 182, 180, 0, 210, 45, 180, 0, 182, 180, 0, 213, 96, 181, 0, 216, 43, 45]
abbrev dktX1_thinks_2 : List UInt8 := dkwX1_thinks_2 ++ dktX1_thinks_3
def dkwX1_thinks_1 : List UInt8 := [182, 0, 171, 77, 44, 185, 0, 127, 1, 0, 153, 0, 44, 44, 185, 0, 133, 1, 0, 192, 0, 172, 78, 45]
abbrev dktX1_thinks_1 : List UInt8 := dkwX1_thinks_1 ++ dktX1_thinks_2
def dkwX1_thinks_0 : List UInt8 := [42, 4, 181, 0, 206, 187, 0, 50, 89, 187, 0, 52, 89, 183, 0, 54, 183, 0, 55, 76, 42, 180, 0, 58]
abbrev dktX1_thinks_0 : List UInt8 := dkwX1_thinks_0 ++ dktX1_thinks_1
theorem dksX1_thinks_0 : cX1_thinks.data.toList.drop 0 = dktX1_thinks_0 := by decide +kernel
theorem dksX1_thinks_1 : cX1_thinks.data.toList.drop 24 = dktX1_thinks_1 := dk_seg dksX1_thinks_0 24 rfl rfl
theorem dksX1_thinks_2 : cX1_thinks.data.toList.drop 48 = dktX1_thinks_2 := dk_seg dksX1_thinks_1 24 rfl rfl
theorem dksX1_thinks_3 : cX1_thinks.data.toList.drop 71 = dktX1_thinks_3 := dk_seg dksX1_thinks_2 23 rfl rfl
theorem dX1_thinks_0 : decode cX1_thinks 0 = .ok (.aload_n 0, 1) := dk_42 (dk_at dksX1_thinks_0 0 rfl rfl)
theorem dX1_thinks_1 : decode cX1_thinks 1 = .ok (.iconst 1, 1) := dk_4 (dk_at dksX1_thinks_0 1 rfl rfl)
theorem dX1_thinks_2 : decode cX1_thinks 2 = .ok (.putfield 206, 3) := dk_181 0 206 (dk_at dksX1_thinks_0 2 rfl rfl)
theorem dX1_thinks_5 : decode cX1_thinks 5 = .ok (.new 50, 3) := dk_187 0 50 (dk_at dksX1_thinks_0 5 rfl rfl)
theorem dX1_thinks_8 : decode cX1_thinks 8 = .ok (.dup, 1) := dk_89 (dk_at dksX1_thinks_0 8 rfl rfl)
theorem dX1_thinks_9 : decode cX1_thinks 9 = .ok (.new 52, 3) := dk_187 0 52 (dk_at dksX1_thinks_0 9 rfl rfl)
theorem dX1_thinks_12 : decode cX1_thinks 12 = .ok (.dup, 1) := dk_89 (dk_at dksX1_thinks_0 12 rfl rfl)
theorem dX1_thinks_13 : decode cX1_thinks 13 = .ok (.invokespecial 54, 3) := dk_183 0 54 (dk_at dksX1_thinks_0 13 rfl rfl)
theorem dX1_thinks_16 : decode cX1_thinks 16 = .ok (.invokespecial 55, 3) := dk_183 0 55 (dk_at dksX1_thinks_0 16 rfl rfl)
theorem dX1_thinks_19 : decode cX1_thinks 19 = .ok (.astore_n 1, 1) := dk_76 (dk_at dksX1_thinks_0 19 rfl rfl)
theorem dX1_thinks_20 : decode cX1_thinks 20 = .ok (.aload_n 0, 1) := dk_42 (dk_at dksX1_thinks_0 20 rfl rfl)
theorem dX1_thinks_21 : decode cX1_thinks 21 = .ok (.getfield 58, 3) := dk_180 0 58 (dk_at dksX1_thinks_0 21 rfl rfl)
theorem dX1_thinks_24 : decode cX1_thinks 24 = .ok (.invokevirtual 171, 3) := dk_182 0 171 (dk_at dksX1_thinks_1 0 rfl rfl)
theorem dX1_thinks_27 : decode cX1_thinks 27 = .ok (.astore_n 2, 1) := dk_77 (dk_at dksX1_thinks_1 3 rfl rfl)
theorem dX1_thinks_28 : decode cX1_thinks 28 = .ok (.aload_n 2, 1) := dk_44 (dk_at dksX1_thinks_1 4 rfl rfl)
theorem dX1_thinks_29 : decode cX1_thinks 29 = .ok (.invokeinterface 127 1, 5) := by decide +kernel
theorem dX1_thinks_34 : decode cX1_thinks 34 = .ok (.ifCond .eq 44, 3) := dk_153 0 44 (dk_at dksX1_thinks_1 10 rfl rfl)
theorem dX1_thinks_37 : decode cX1_thinks 37 = .ok (.aload_n 2, 1) := dk_44 (dk_at dksX1_thinks_1 13 rfl rfl)
theorem dX1_thinks_38 : decode cX1_thinks 38 = .ok (.invokeinterface 133 1, 5) := by decide +kernel
theorem dX1_thinks_43 : decode cX1_thinks 43 = .ok (.checkcast 172, 3) := dk_192 0 172 (dk_at dksX1_thinks_1 19 rfl rfl)
theorem dX1_thinks_46 : decode cX1_thinks 46 = .ok (.astore_n 3, 1) := dk_78 (dk_at dksX1_thinks_1 22 rfl rfl)
theorem dX1_thinks_47 : decode cX1_thinks 47 = .ok (.aload_n 3, 1) := dk_45 (dk_at dksX1_thinks_1 23 rfl rfl)
theorem dX1_thinks_48 : decode cX1_thinks 48 = .ok (.getfield 182, 3) := dk_180 0 182 (dk_at dksX1_thinks_2 0 rfl rfl)
theorem dX1_thinks_51 : decode cX1_thinks 51 = .ok (.aload_n 3, 1) := dk_45 (dk_at dksX1_thinks_2 3 rfl rfl)
theorem dX1_thinks_52 : decode cX1_thinks 52 = .ok (.getfield 182, 3) := dk_180 0 182 (dk_at dksX1_thinks_2 4 rfl rfl)
theorem dX1_thinks_55 : decode cX1_thinks 55 = .ok (.getfield 210, 3) := dk_180 0 210 (dk_at dksX1_thinks_2 7 rfl rfl)
theorem dX1_thinks_58 : decode cX1_thinks 58 = .ok (.aload_n 3, 1) := dk_45 (dk_at dksX1_thinks_2 10 rfl rfl)
theorem dX1_thinks_59 : decode cX1_thinks 59 = .ok (.getfield 182, 3) := dk_180 0 182 (dk_at dksX1_thinks_2 11 rfl rfl)
theorem dX1_thinks_62 : decode cX1_thinks 62 = .ok (.getfield 213, 3) := dk_180 0 213 (dk_at dksX1_thinks_2 14 rfl rfl)
theorem dX1_thinks_65 : decode cX1_thinks 65 = .ok (.iadd, 1) := dk_96 (dk_at dksX1_thinks_2 17 rfl rfl)
theorem dX1_thinks_66 : decode cX1_thinks 66 = .ok (.putfield 216, 3) := dk_181 0 216 (dk_at dksX1_thinks_2 18 rfl rfl)
theorem dX1_thinks_69 : decode cX1_thinks 69 = .ok (.aload_n 1, 1) := dk_43 (dk_at dksX1_thinks_2 21 rfl rfl)
theorem dX1_thinks_70 : decode cX1_thinks 70 = .ok (.aload_n 3, 1) := dk_45 (dk_at dksX1_thinks_2 22 rfl rfl)
theorem dX1_thinks_71 : decode cX1_thinks 71 = .ok (.invokevirtual 192, 3) := dk_182 0 192 (dk_at dksX1_thinks_3 0 rfl rfl)
theorem dX1_thinks_74 : decode cX1_thinks 74 = .ok (.pop, 1) := dk_87 (dk_at dksX1_thinks_3 3 rfl rfl)
theorem dX1_thinks_75 : decode cX1_thinks 75 = .ok (.goto (-47), 3) := dk_167 255 209 (dk_at dksX1_thinks_3 4 rfl rfl)
theorem dX1_thinks_78 : decode cX1_thinks 78 = .ok (.aload_n 0, 1) := dk_42 (dk_at dksX1_thinks_3 7 rfl rfl)
theorem dX1_thinks_79 : decode cX1_thinks 79 = .ok (.aload_n 1, 1) := dk_43 (dk_at dksX1_thinks_3 8 rfl rfl)
theorem dX1_thinks_80 : decode cX1_thinks 80 = .ok (.putfield 58, 3) := dk_181 0 58 (dk_at dksX1_thinks_3 9 rfl rfl)
theorem dX1_thinks_83 : decode cX1_thinks 83 = .ok (.return_, 1) := dk_177 (dk_at dksX1_thinks_3 12 rfl rfl)
abbrev cX12_copy : ByteArray := prog_18_method_6_code
def dkwX12_copy_4 : List UInt8 := [180, 0, 18, 181, 0, 18, 44, 42, 180, 0, 21, 181, 0, 21, 44, 176]
abbrev dktX12_copy_4 : List UInt8 := dkwX12_copy_4 ++ []
def dkwX12_copy_3 : List UInt8 := [180, 0, 9, 181, 0, 9, 44, 42, 180, 0, 124, 181, 0, 124, 44, 42, 180, 0, 15, 181, 0, 15, 44, 42]
abbrev dktX12_copy_3 : List UInt8 := dkwX12_copy_3 ++ dktX12_copy_4
def dkwX12_copy_2 : List UInt8 := [180, 0, 30, 42, 180, 0, 33, 42, 180, 0, 36, 42, 180, 0, 39, 43, 183, 0, 71, 77, 44, 42]
abbrev dktX12_copy_2 : List UInt8 := dkwX12_copy_2 ++ dktX12_copy_3
def dkwX12_copy_1 : List UInt8 := [50, 182, 0, 120, 83, 132, 2, 1, 167, 255, 235, 187, 0, 10, 89, 42, 180, 0, 24, 42, 180, 0, 27, 42]
abbrev dktX12_copy_1 : List UInt8 := dkwX12_copy_1 ++ dktX12_copy_2
def dkwX12_copy_0 : List UInt8 := [42, 180, 0, 42, 190, 189, 0, 46, 76, 3, 61, 28, 43, 190, 162, 0, 21, 43, 28, 42, 180, 0, 42, 28]
abbrev dktX12_copy_0 : List UInt8 := dkwX12_copy_0 ++ dktX12_copy_1
theorem dksX12_copy_0 : cX12_copy.data.toList.drop 0 = dktX12_copy_0 := by decide +kernel
theorem dksX12_copy_1 : cX12_copy.data.toList.drop 24 = dktX12_copy_1 := dk_seg dksX12_copy_0 24 rfl rfl
theorem dksX12_copy_2 : cX12_copy.data.toList.drop 48 = dktX12_copy_2 := dk_seg dksX12_copy_1 24 rfl rfl
theorem dksX12_copy_3 : cX12_copy.data.toList.drop 70 = dktX12_copy_3 := dk_seg dksX12_copy_2 22 rfl rfl
theorem dksX12_copy_4 : cX12_copy.data.toList.drop 94 = dktX12_copy_4 := dk_seg dksX12_copy_3 24 rfl rfl
theorem dX12_copy_0 : decode cX12_copy 0 = .ok (.aload_n 0, 1) := dk_42 (dk_at dksX12_copy_0 0 rfl rfl)
theorem dX12_copy_1 : decode cX12_copy 1 = .ok (.getfield 42, 3) := dk_180 0 42 (dk_at dksX12_copy_0 1 rfl rfl)
theorem dX12_copy_4 : decode cX12_copy 4 = .ok (.arraylength, 1) := dk_190 (dk_at dksX12_copy_0 4 rfl rfl)
theorem dX12_copy_5 : decode cX12_copy 5 = .ok (.anewarray 46, 3) := dk_189 0 46 (dk_at dksX12_copy_0 5 rfl rfl)
theorem dX12_copy_8 : decode cX12_copy 8 = .ok (.astore_n 1, 1) := dk_76 (dk_at dksX12_copy_0 8 rfl rfl)
theorem dX12_copy_9 : decode cX12_copy 9 = .ok (.iconst 0, 1) := dk_3 (dk_at dksX12_copy_0 9 rfl rfl)
theorem dX12_copy_10 : decode cX12_copy 10 = .ok (.istore_n 2, 1) := dk_61 (dk_at dksX12_copy_0 10 rfl rfl)
theorem dX12_copy_11 : decode cX12_copy 11 = .ok (.iload_n 2, 1) := dk_28 (dk_at dksX12_copy_0 11 rfl rfl)
theorem dX12_copy_12 : decode cX12_copy 12 = .ok (.aload_n 1, 1) := dk_43 (dk_at dksX12_copy_0 12 rfl rfl)
theorem dX12_copy_13 : decode cX12_copy 13 = .ok (.arraylength, 1) := dk_190 (dk_at dksX12_copy_0 13 rfl rfl)
theorem dX12_copy_14 : decode cX12_copy 14 = .ok (.if_icmp .ge 21, 3) := dk_162 0 21 (dk_at dksX12_copy_0 14 rfl rfl)
theorem dX12_copy_17 : decode cX12_copy 17 = .ok (.aload_n 1, 1) := dk_43 (dk_at dksX12_copy_0 17 rfl rfl)
theorem dX12_copy_18 : decode cX12_copy 18 = .ok (.iload_n 2, 1) := dk_28 (dk_at dksX12_copy_0 18 rfl rfl)
theorem dX12_copy_19 : decode cX12_copy 19 = .ok (.aload_n 0, 1) := dk_42 (dk_at dksX12_copy_0 19 rfl rfl)
theorem dX12_copy_20 : decode cX12_copy 20 = .ok (.getfield 42, 3) := dk_180 0 42 (dk_at dksX12_copy_0 20 rfl rfl)
theorem dX12_copy_23 : decode cX12_copy 23 = .ok (.iload_n 2, 1) := dk_28 (dk_at dksX12_copy_0 23 rfl rfl)
theorem dX12_copy_24 : decode cX12_copy 24 = .ok (.aaload, 1) := dk_50 (dk_at dksX12_copy_1 0 rfl rfl)
theorem dX12_copy_25 : decode cX12_copy 25 = .ok (.invokevirtual 120, 3) := dk_182 0 120 (dk_at dksX12_copy_1 1 rfl rfl)
theorem dX12_copy_28 : decode cX12_copy 28 = .ok (.aastore, 1) := dk_83 (dk_at dksX12_copy_1 4 rfl rfl)
theorem dX12_copy_29 : decode cX12_copy 29 = .ok (.iinc 2 1, 3) := dk_132 2 1 (dk_at dksX12_copy_1 5 rfl rfl)
theorem dX12_copy_32 : decode cX12_copy 32 = .ok (.goto (-21), 3) := dk_167 255 235 (dk_at dksX12_copy_1 8 rfl rfl)
theorem dX12_copy_35 : decode cX12_copy 35 = .ok (.new 10, 3) := dk_187 0 10 (dk_at dksX12_copy_1 11 rfl rfl)
theorem dX12_copy_38 : decode cX12_copy 38 = .ok (.dup, 1) := dk_89 (dk_at dksX12_copy_1 14 rfl rfl)
theorem dX12_copy_39 : decode cX12_copy 39 = .ok (.aload_n 0, 1) := dk_42 (dk_at dksX12_copy_1 15 rfl rfl)
theorem dX12_copy_40 : decode cX12_copy 40 = .ok (.getfield 24, 3) := dk_180 0 24 (dk_at dksX12_copy_1 16 rfl rfl)
theorem dX12_copy_43 : decode cX12_copy 43 = .ok (.aload_n 0, 1) := dk_42 (dk_at dksX12_copy_1 19 rfl rfl)
theorem dX12_copy_44 : decode cX12_copy 44 = .ok (.getfield 27, 3) := dk_180 0 27 (dk_at dksX12_copy_1 20 rfl rfl)
theorem dX12_copy_47 : decode cX12_copy 47 = .ok (.aload_n 0, 1) := dk_42 (dk_at dksX12_copy_1 23 rfl rfl)
theorem dX12_copy_48 : decode cX12_copy 48 = .ok (.getfield 30, 3) := dk_180 0 30 (dk_at dksX12_copy_2 0 rfl rfl)
theorem dX12_copy_51 : decode cX12_copy 51 = .ok (.aload_n 0, 1) := dk_42 (dk_at dksX12_copy_2 3 rfl rfl)
theorem dX12_copy_52 : decode cX12_copy 52 = .ok (.getfield 33, 3) := dk_180 0 33 (dk_at dksX12_copy_2 4 rfl rfl)
theorem dX12_copy_55 : decode cX12_copy 55 = .ok (.aload_n 0, 1) := dk_42 (dk_at dksX12_copy_2 7 rfl rfl)
theorem dX12_copy_56 : decode cX12_copy 56 = .ok (.getfield 36, 3) := dk_180 0 36 (dk_at dksX12_copy_2 8 rfl rfl)
theorem dX12_copy_59 : decode cX12_copy 59 = .ok (.aload_n 0, 1) := dk_42 (dk_at dksX12_copy_2 11 rfl rfl)
theorem dX12_copy_60 : decode cX12_copy 60 = .ok (.getfield 39, 3) := dk_180 0 39 (dk_at dksX12_copy_2 12 rfl rfl)
theorem dX12_copy_63 : decode cX12_copy 63 = .ok (.aload_n 1, 1) := dk_43 (dk_at dksX12_copy_2 15 rfl rfl)
theorem dX12_copy_64 : decode cX12_copy 64 = .ok (.invokespecial 71, 3) := dk_183 0 71 (dk_at dksX12_copy_2 16 rfl rfl)
theorem dX12_copy_67 : decode cX12_copy 67 = .ok (.astore_n 2, 1) := dk_77 (dk_at dksX12_copy_2 19 rfl rfl)
theorem dX12_copy_68 : decode cX12_copy 68 = .ok (.aload_n 2, 1) := dk_44 (dk_at dksX12_copy_2 20 rfl rfl)
theorem dX12_copy_69 : decode cX12_copy 69 = .ok (.aload_n 0, 1) := dk_42 (dk_at dksX12_copy_2 21 rfl rfl)
theorem dX12_copy_70 : decode cX12_copy 70 = .ok (.getfield 9, 3) := dk_180 0 9 (dk_at dksX12_copy_3 0 rfl rfl)
theorem dX12_copy_73 : decode cX12_copy 73 = .ok (.putfield 9, 3) := dk_181 0 9 (dk_at dksX12_copy_3 3 rfl rfl)
theorem dX12_copy_76 : decode cX12_copy 76 = .ok (.aload_n 2, 1) := dk_44 (dk_at dksX12_copy_3 6 rfl rfl)
theorem dX12_copy_77 : decode cX12_copy 77 = .ok (.aload_n 0, 1) := dk_42 (dk_at dksX12_copy_3 7 rfl rfl)
theorem dX12_copy_78 : decode cX12_copy 78 = .ok (.getfield 124, 3) := dk_180 0 124 (dk_at dksX12_copy_3 8 rfl rfl)
theorem dX12_copy_81 : decode cX12_copy 81 = .ok (.putfield 124, 3) := dk_181 0 124 (dk_at dksX12_copy_3 11 rfl rfl)
theorem dX12_copy_84 : decode cX12_copy 84 = .ok (.aload_n 2, 1) := dk_44 (dk_at dksX12_copy_3 14 rfl rfl)
theorem dX12_copy_85 : decode cX12_copy 85 = .ok (.aload_n 0, 1) := dk_42 (dk_at dksX12_copy_3 15 rfl rfl)
theorem dX12_copy_86 : decode cX12_copy 86 = .ok (.getfield 15, 3) := dk_180 0 15 (dk_at dksX12_copy_3 16 rfl rfl)
theorem dX12_copy_89 : decode cX12_copy 89 = .ok (.putfield 15, 3) := dk_181 0 15 (dk_at dksX12_copy_3 19 rfl rfl)
theorem dX12_copy_92 : decode cX12_copy 92 = .ok (.aload_n 2, 1) := dk_44 (dk_at dksX12_copy_3 22 rfl rfl)
theorem dX12_copy_93 : decode cX12_copy 93 = .ok (.aload_n 0, 1) := dk_42 (dk_at dksX12_copy_3 23 rfl rfl)
theorem dX12_copy_94 : decode cX12_copy 94 = .ok (.getfield 18, 3) := dk_180 0 18 (dk_at dksX12_copy_4 0 rfl rfl)
theorem dX12_copy_97 : decode cX12_copy 97 = .ok (.putfield 18, 3) := dk_181 0 18 (dk_at dksX12_copy_4 3 rfl rfl)
theorem dX12_copy_100 : decode cX12_copy 100 = .ok (.aload_n 2, 1) := dk_44 (dk_at dksX12_copy_4 6 rfl rfl)
theorem dX12_copy_101 : decode cX12_copy 101 = .ok (.aload_n 0, 1) := dk_42 (dk_at dksX12_copy_4 7 rfl rfl)
theorem dX12_copy_102 : decode cX12_copy 102 = .ok (.getfield 21, 3) := dk_180 0 21 (dk_at dksX12_copy_4 8 rfl rfl)
theorem dX12_copy_105 : decode cX12_copy 105 = .ok (.putfield 21, 3) := dk_181 0 21 (dk_at dksX12_copy_4 11 rfl rfl)
theorem dX12_copy_108 : decode cX12_copy 108 = .ok (.aload_n 2, 1) := dk_44 (dk_at dksX12_copy_4 14 rfl rfl)
theorem dX12_copy_109 : decode cX12_copy 109 = .ok (.areturn, 1) := dk_176 (dk_at dksX12_copy_4 15 rfl rfl)
abbrev cX25_waitingMany : ByteArray := prog_13_method_4_code
def dkwX25_waitingMany_0 : List UInt8 := [42, 180, 0, 32, 3, 182, 0, 73, 172]
abbrev dktX25_waitingMany_0 : List UInt8 := dkwX25_waitingMany_0 ++ []
theorem dksX25_waitingMany_0 : cX25_waitingMany.data.toList.drop 0 = dktX25_waitingMany_0 := by decide +kernel
theorem dX25_waitingMany_0 : decode cX25_waitingMany 0 = .ok (.aload_n 0, 1) := dk_42 (dk_at dksX25_waitingMany_0 0 rfl rfl)
theorem dX25_waitingMany_1 : decode cX25_waitingMany 1 = .ok (.getfield 32, 3) := dk_180 0 32 (dk_at dksX25_waitingMany_0 1 rfl rfl)
theorem dX25_waitingMany_4 : decode cX25_waitingMany 4 = .ok (.iconst 0, 1) := dk_3 (dk_at dksX25_waitingMany_0 4 rfl rfl)
theorem dX25_waitingMany_5 : decode cX25_waitingMany 5 = .ok (.invokevirtual 73, 3) := dk_182 0 73 (dk_at dksX25_waitingMany_0 5 rfl rfl)
theorem dX25_waitingMany_8 : decode cX25_waitingMany 8 = .ok (.ireturn, 1) := dk_172 (dk_at dksX25_waitingMany_0 8 rfl rfl)
abbrev cX11_init : ByteArray := prog_4_method_1_code
def dkwX11_init_1 : List UInt8 := [181, 0, 21, 42, 29, 181, 0, 24, 177]
abbrev dktX11_init_1 : List UInt8 := dkwX11_init_1 ++ []
def dkwX11_init_0 : List UInt8 := [42, 183, 0, 3, 42, 2, 181, 0, 9, 42, 16, 254, 181, 0, 15, 42, 27, 181, 0, 18, 42, 28]
abbrev dktX11_init_0 : List UInt8 := dkwX11_init_0 ++ dktX11_init_1
theorem dksX11_init_0 : cX11_init.data.toList.drop 0 = dktX11_init_0 := by decide +kernel
theorem dksX11_init_1 : cX11_init.data.toList.drop 22 = dktX11_init_1 := dk_seg dksX11_init_0 22 rfl rfl
theorem dX11_init_0 : decode cX11_init 0 = .ok (.aload_n 0, 1) := dk_42 (dk_at dksX11_init_0 0 rfl rfl)
theorem dX11_init_1 : decode cX11_init 1 = .ok (.invokespecial 3, 3) := dk_183 0 3 (dk_at dksX11_init_0 1 rfl rfl)
theorem dX11_init_4 : decode cX11_init 4 = .ok (.aload_n 0, 1) := dk_42 (dk_at dksX11_init_0 4 rfl rfl)
theorem dX11_init_5 : decode cX11_init 5 = .ok (.iconst (-1), 1) := dk_2 (dk_at dksX11_init_0 5 rfl rfl)
theorem dX11_init_6 : decode cX11_init 6 = .ok (.putfield 9, 3) := dk_181 0 9 (dk_at dksX11_init_0 6 rfl rfl)
theorem dX11_init_9 : decode cX11_init 9 = .ok (.aload_n 0, 1) := dk_42 (dk_at dksX11_init_0 9 rfl rfl)
theorem dX11_init_10 : decode cX11_init 10 = .ok (.bipush (-2), 2) := dk_16 254 (dk_at dksX11_init_0 10 rfl rfl)
theorem dX11_init_12 : decode cX11_init 12 = .ok (.putfield 15, 3) := dk_181 0 15 (dk_at dksX11_init_0 12 rfl rfl)
theorem dX11_init_15 : decode cX11_init 15 = .ok (.aload_n 0, 1) := dk_42 (dk_at dksX11_init_0 15 rfl rfl)
theorem dX11_init_16 : decode cX11_init 16 = .ok (.iload_n 1, 1) := dk_27 (dk_at dksX11_init_0 16 rfl rfl)
theorem dX11_init_17 : decode cX11_init 17 = .ok (.putfield 18, 3) := dk_181 0 18 (dk_at dksX11_init_0 17 rfl rfl)
theorem dX11_init_20 : decode cX11_init 20 = .ok (.aload_n 0, 1) := dk_42 (dk_at dksX11_init_0 20 rfl rfl)
theorem dX11_init_21 : decode cX11_init 21 = .ok (.iload_n 2, 1) := dk_28 (dk_at dksX11_init_0 21 rfl rfl)
theorem dX11_init_22 : decode cX11_init 22 = .ok (.putfield 21, 3) := dk_181 0 21 (dk_at dksX11_init_1 0 rfl rfl)
theorem dX11_init_25 : decode cX11_init 25 = .ok (.aload_n 0, 1) := dk_42 (dk_at dksX11_init_1 3 rfl rfl)
theorem dX11_init_26 : decode cX11_init 26 = .ok (.iload_n 3, 1) := dk_29 (dk_at dksX11_init_1 4 rfl rfl)
theorem dX11_init_27 : decode cX11_init 27 = .ok (.putfield 24, 3) := dk_181 0 24 (dk_at dksX11_init_1 5 rfl rfl)
theorem dX11_init_30 : decode cX11_init 30 = .ok (.return_, 1) := dk_177 (dk_at dksX11_init_1 8 rfl rfl)
abbrev cX1_takesNone : ByteArray := prog_8_method_11_code
def dkwX1_takesNone_0 : List UInt8 := [3, 60, 27, 16, 16, 162, 0, 16, 42, 180, 0, 103, 27, 3, 84, 132, 1, 1, 167, 255, 240, 177]
abbrev dktX1_takesNone_0 : List UInt8 := dkwX1_takesNone_0 ++ []
theorem dksX1_takesNone_0 : cX1_takesNone.data.toList.drop 0 = dktX1_takesNone_0 := by decide +kernel
theorem dX1_takesNone_0 : decode cX1_takesNone 0 = .ok (.iconst 0, 1) := dk_3 (dk_at dksX1_takesNone_0 0 rfl rfl)
theorem dX1_takesNone_1 : decode cX1_takesNone 1 = .ok (.istore_n 1, 1) := dk_60 (dk_at dksX1_takesNone_0 1 rfl rfl)
theorem dX1_takesNone_2 : decode cX1_takesNone 2 = .ok (.iload_n 1, 1) := dk_27 (dk_at dksX1_takesNone_0 2 rfl rfl)
theorem dX1_takesNone_3 : decode cX1_takesNone 3 = .ok (.bipush 16, 2) := dk_16 16 (dk_at dksX1_takesNone_0 3 rfl rfl)
theorem dX1_takesNone_5 : decode cX1_takesNone 5 = .ok (.if_icmp .ge 16, 3) := dk_162 0 16 (dk_at dksX1_takesNone_0 5 rfl rfl)
theorem dX1_takesNone_8 : decode cX1_takesNone 8 = .ok (.aload_n 0, 1) := dk_42 (dk_at dksX1_takesNone_0 8 rfl rfl)
theorem dX1_takesNone_9 : decode cX1_takesNone 9 = .ok (.getfield 103, 3) := dk_180 0 103 (dk_at dksX1_takesNone_0 9 rfl rfl)
theorem dX1_takesNone_12 : decode cX1_takesNone 12 = .ok (.iload_n 1, 1) := dk_27 (dk_at dksX1_takesNone_0 12 rfl rfl)
theorem dX1_takesNone_13 : decode cX1_takesNone 13 = .ok (.iconst 0, 1) := dk_3 (dk_at dksX1_takesNone_0 13 rfl rfl)
theorem dX1_takesNone_14 : decode cX1_takesNone 14 = .ok (.bastore, 1) := dk_84 (dk_at dksX1_takesNone_0 14 rfl rfl)
theorem dX1_takesNone_15 : decode cX1_takesNone 15 = .ok (.iinc 1 1, 3) := dk_132 1 1 (dk_at dksX1_takesNone_0 15 rfl rfl)
theorem dX1_takesNone_18 : decode cX1_takesNone 18 = .ok (.goto (-16), 3) := dk_167 255 240 (dk_at dksX1_takesNone_0 18 rfl rfl)
theorem dX1_takesNone_21 : decode cX1_takesNone 21 = .ok (.return_, 1) := dk_177 (dk_at dksX1_takesNone_0 21 rfl rfl)
abbrev cX1_takes : ByteArray := prog_8_method_15_code
def dkwX1_takes_2 : List UInt8 := [4, 172]
abbrev dktX1_takes_2 : List UInt8 := dkwX1_takes_2 ++ []
def dkwX1_takes_1 : List UInt8 := [21, 6, 50, 58, 7, 42, 25, 7, 28, 45, 182, 1, 31, 154, 0, 5, 3, 172, 132, 6, 1, 167, 255, 226]
abbrev dktX1_takes_1 : List UInt8 := dkwX1_takes_1 ++ dktX1_takes_2
def dkwX1_takes_0 : List UInt8 := [43, 180, 1, 39, 58, 4, 25, 4, 190, 54, 5, 3, 54, 6, 21, 6, 21, 5, 162, 0, 29, 25, 4]
abbrev dktX1_takes_0 : List UInt8 := dkwX1_takes_0 ++ dktX1_takes_1
theorem dksX1_takes_0 : cX1_takes.data.toList.drop 0 = dktX1_takes_0 := by decide +kernel
theorem dksX1_takes_1 : cX1_takes.data.toList.drop 23 = dktX1_takes_1 := dk_seg dksX1_takes_0 23 rfl rfl
theorem dksX1_takes_2 : cX1_takes.data.toList.drop 47 = dktX1_takes_2 := dk_seg dksX1_takes_1 24 rfl rfl
theorem dX1_takes_0 : decode cX1_takes 0 = .ok (.aload_n 1, 1) := dk_43 (dk_at dksX1_takes_0 0 rfl rfl)
theorem dX1_takes_1 : decode cX1_takes 1 = .ok (.getfield 295, 3) := dk_180 1 39 (dk_at dksX1_takes_0 1 rfl rfl)
theorem dX1_takes_4 : decode cX1_takes 4 = .ok (.astore 4, 2) := dk_58 4 (dk_at dksX1_takes_0 4 rfl rfl)
theorem dX1_takes_6 : decode cX1_takes 6 = .ok (.aload 4, 2) := dk_25 4 (dk_at dksX1_takes_0 6 rfl rfl)
theorem dX1_takes_8 : decode cX1_takes 8 = .ok (.arraylength, 1) := dk_190 (dk_at dksX1_takes_0 8 rfl rfl)
theorem dX1_takes_9 : decode cX1_takes 9 = .ok (.istore 5, 2) := dk_54 5 (dk_at dksX1_takes_0 9 rfl rfl)
theorem dX1_takes_11 : decode cX1_takes 11 = .ok (.iconst 0, 1) := dk_3 (dk_at dksX1_takes_0 11 rfl rfl)
theorem dX1_takes_12 : decode cX1_takes 12 = .ok (.istore 6, 2) := dk_54 6 (dk_at dksX1_takes_0 12 rfl rfl)
theorem dX1_takes_14 : decode cX1_takes 14 = .ok (.iload 6, 2) := dk_21 6 (dk_at dksX1_takes_0 14 rfl rfl)
theorem dX1_takes_16 : decode cX1_takes 16 = .ok (.iload 5, 2) := dk_21 5 (dk_at dksX1_takes_0 16 rfl rfl)
theorem dX1_takes_18 : decode cX1_takes 18 = .ok (.if_icmp .ge 29, 3) := dk_162 0 29 (dk_at dksX1_takes_0 18 rfl rfl)
theorem dX1_takes_21 : decode cX1_takes 21 = .ok (.aload 4, 2) := dk_25 4 (dk_at dksX1_takes_0 21 rfl rfl)
theorem dX1_takes_23 : decode cX1_takes 23 = .ok (.iload 6, 2) := dk_21 6 (dk_at dksX1_takes_1 0 rfl rfl)
theorem dX1_takes_25 : decode cX1_takes 25 = .ok (.aaload, 1) := dk_50 (dk_at dksX1_takes_1 2 rfl rfl)
theorem dX1_takes_26 : decode cX1_takes 26 = .ok (.astore 7, 2) := dk_58 7 (dk_at dksX1_takes_1 3 rfl rfl)
theorem dX1_takes_28 : decode cX1_takes 28 = .ok (.aload_n 0, 1) := dk_42 (dk_at dksX1_takes_1 5 rfl rfl)
theorem dX1_takes_29 : decode cX1_takes 29 = .ok (.aload 7, 2) := dk_25 7 (dk_at dksX1_takes_1 6 rfl rfl)
theorem dX1_takes_31 : decode cX1_takes 31 = .ok (.iload_n 2, 1) := dk_28 (dk_at dksX1_takes_1 8 rfl rfl)
theorem dX1_takes_32 : decode cX1_takes 32 = .ok (.aload_n 3, 1) := dk_45 (dk_at dksX1_takes_1 9 rfl rfl)
theorem dX1_takes_33 : decode cX1_takes 33 = .ok (.invokevirtual 287, 3) := dk_182 1 31 (dk_at dksX1_takes_1 10 rfl rfl)
theorem dX1_takes_36 : decode cX1_takes 36 = .ok (.ifCond .ne 5, 3) := dk_154 0 5 (dk_at dksX1_takes_1 13 rfl rfl)
theorem dX1_takes_39 : decode cX1_takes 39 = .ok (.iconst 0, 1) := dk_3 (dk_at dksX1_takes_1 16 rfl rfl)
theorem dX1_takes_40 : decode cX1_takes 40 = .ok (.ireturn, 1) := dk_172 (dk_at dksX1_takes_1 17 rfl rfl)
theorem dX1_takes_41 : decode cX1_takes 41 = .ok (.iinc 6 1, 3) := dk_132 6 1 (dk_at dksX1_takes_1 18 rfl rfl)
theorem dX1_takes_44 : decode cX1_takes 44 = .ok (.goto (-30), 3) := dk_167 255 226 (dk_at dksX1_takes_1 21 rfl rfl)
theorem dX1_takes_47 : decode cX1_takes 47 = .ok (.iconst 1, 1) := dk_4 (dk_at dksX1_takes_2 0 rfl rfl)
theorem dX1_takes_48 : decode cX1_takes 48 = .ok (.ireturn, 1) := dk_172 (dk_at dksX1_takes_2 1 rfl rfl)
abbrev cX27_isDone : ByteArray := prog_21_method_5_code
def dkwX27_isDone_7 : List UInt8 := [154, 0, 5, 3, 172, 167, 255, 182, 4, 172]
abbrev dktX27_isDone_7 : List UInt8 := dkwX27_isDone_7 ++ []
def dkwX27_isDone_6 : List UInt8 := [180, 0, 75, 180, 0, 130, 96, 42, 180, 0, 3, 180, 0, 28, 180, 0, 32, 100, 43, 182, 0, 133]
abbrev dktX27_isDone_6 : List UInt8 := dkwX27_isDone_6 ++ dktX27_isDone_7
def dkwX27_isDone_5 : List UInt8 := [180, 0, 69, 180, 0, 127, 25, 4, 180, 0, 75, 180, 0, 84, 25, 4, 180, 0, 75, 180, 0, 150, 25, 4]
abbrev dktX27_isDone_5 : List UInt8 := dkwX27_isDone_5 ++ dktX27_isDone_6
def dkwX27_isDone_4 : List UInt8 := [78, 45, 185, 0, 49, 1, 0, 153, 0, 71, 45, 185, 0, 55, 1, 0, 192, 0, 59, 58, 4, 42, 25, 4]
abbrev dktX27_isDone_4 : List UInt8 := dkwX27_isDone_4 ++ dktX27_isDone_5
def dkwX27_isDone_3 : List UInt8 := [187, 0, 139, 89, 183, 0, 141, 183, 0, 142, 77, 44, 42, 180, 0, 18, 182, 0, 145, 87, 44, 182, 0, 149]
abbrev dktX27_isDone_3 : List UInt8 := dkwX27_isDone_3 ++ dktX27_isDone_4
def dkwX27_isDone_2 : List UInt8 := [180, 0, 130, 43, 182, 0, 133, 154, 0, 5, 3, 172, 132, 4, 1, 167, 255, 214, 187, 0, 137, 89]
abbrev dktX27_isDone_2 : List UInt8 := dkwX27_isDone_2 ++ dktX27_isDone_3
def dkwX27_isDone_1 : List UInt8 := [162, 0, 42, 44, 21, 4, 50, 58, 5, 42, 42, 180, 0, 22, 180, 0, 127, 25, 5, 180, 0, 84, 25, 5]
abbrev dktX27_isDone_1 : List UInt8 := dkwX27_isDone_1 ++ dktX27_isDone_2
def dkwX27_isDone_0 : List UInt8 := [16, 16, 188, 4, 76, 42, 180, 0, 22, 180, 0, 123, 77, 44, 190, 62, 3, 54, 4, 21, 4, 29]
abbrev dktX27_isDone_0 : List UInt8 := dkwX27_isDone_0 ++ dktX27_isDone_1
theorem dksX27_isDone_0 : cX27_isDone.data.toList.drop 0 = dktX27_isDone_0 := by decide +kernel
theorem dksX27_isDone_1 : cX27_isDone.data.toList.drop 22 = dktX27_isDone_1 := dk_seg dksX27_isDone_0 22 rfl rfl
theorem dksX27_isDone_2 : cX27_isDone.data.toList.drop 46 = dktX27_isDone_2 := dk_seg dksX27_isDone_1 24 rfl rfl
theorem dksX27_isDone_3 : cX27_isDone.data.toList.drop 68 = dktX27_isDone_3 := dk_seg dksX27_isDone_2 22 rfl rfl
theorem dksX27_isDone_4 : cX27_isDone.data.toList.drop 92 = dktX27_isDone_4 := dk_seg dksX27_isDone_3 24 rfl rfl
theorem dksX27_isDone_5 : cX27_isDone.data.toList.drop 116 = dktX27_isDone_5 := dk_seg dksX27_isDone_4 24 rfl rfl
theorem dksX27_isDone_6 : cX27_isDone.data.toList.drop 140 = dktX27_isDone_6 := dk_seg dksX27_isDone_5 24 rfl rfl
theorem dksX27_isDone_7 : cX27_isDone.data.toList.drop 162 = dktX27_isDone_7 := dk_seg dksX27_isDone_6 22 rfl rfl
theorem dX27_isDone_0 : decode cX27_isDone 0 = .ok (.bipush 16, 2) := dk_16 16 (dk_at dksX27_isDone_0 0 rfl rfl)
theorem dX27_isDone_2 : decode cX27_isDone 2 = .ok (.newarray .boolean, 2) := dk_188_4 (dk_at dksX27_isDone_0 2 rfl rfl)
theorem dX27_isDone_4 : decode cX27_isDone 4 = .ok (.astore_n 1, 1) := dk_76 (dk_at dksX27_isDone_0 4 rfl rfl)
theorem dX27_isDone_5 : decode cX27_isDone 5 = .ok (.aload_n 0, 1) := dk_42 (dk_at dksX27_isDone_0 5 rfl rfl)
theorem dX27_isDone_6 : decode cX27_isDone 6 = .ok (.getfield 22, 3) := dk_180 0 22 (dk_at dksX27_isDone_0 6 rfl rfl)
theorem dX27_isDone_9 : decode cX27_isDone 9 = .ok (.getfield 123, 3) := dk_180 0 123 (dk_at dksX27_isDone_0 9 rfl rfl)
theorem dX27_isDone_12 : decode cX27_isDone 12 = .ok (.astore_n 2, 1) := dk_77 (dk_at dksX27_isDone_0 12 rfl rfl)
theorem dX27_isDone_13 : decode cX27_isDone 13 = .ok (.aload_n 2, 1) := dk_44 (dk_at dksX27_isDone_0 13 rfl rfl)
theorem dX27_isDone_14 : decode cX27_isDone 14 = .ok (.arraylength, 1) := dk_190 (dk_at dksX27_isDone_0 14 rfl rfl)
theorem dX27_isDone_15 : decode cX27_isDone 15 = .ok (.istore_n 3, 1) := dk_62 (dk_at dksX27_isDone_0 15 rfl rfl)
theorem dX27_isDone_16 : decode cX27_isDone 16 = .ok (.iconst 0, 1) := dk_3 (dk_at dksX27_isDone_0 16 rfl rfl)
theorem dX27_isDone_17 : decode cX27_isDone 17 = .ok (.istore 4, 2) := dk_54 4 (dk_at dksX27_isDone_0 17 rfl rfl)
theorem dX27_isDone_19 : decode cX27_isDone 19 = .ok (.iload 4, 2) := dk_21 4 (dk_at dksX27_isDone_0 19 rfl rfl)
theorem dX27_isDone_21 : decode cX27_isDone 21 = .ok (.iload_n 3, 1) := dk_29 (dk_at dksX27_isDone_0 21 rfl rfl)
theorem dX27_isDone_22 : decode cX27_isDone 22 = .ok (.if_icmp .ge 42, 3) := dk_162 0 42 (dk_at dksX27_isDone_1 0 rfl rfl)
theorem dX27_isDone_25 : decode cX27_isDone 25 = .ok (.aload_n 2, 1) := dk_44 (dk_at dksX27_isDone_1 3 rfl rfl)
theorem dX27_isDone_26 : decode cX27_isDone 26 = .ok (.iload 4, 2) := dk_21 4 (dk_at dksX27_isDone_1 4 rfl rfl)
theorem dX27_isDone_28 : decode cX27_isDone 28 = .ok (.aaload, 1) := dk_50 (dk_at dksX27_isDone_1 6 rfl rfl)
theorem dX27_isDone_29 : decode cX27_isDone 29 = .ok (.astore 5, 2) := dk_58 5 (dk_at dksX27_isDone_1 7 rfl rfl)
theorem dX27_isDone_31 : decode cX27_isDone 31 = .ok (.aload_n 0, 1) := dk_42 (dk_at dksX27_isDone_1 9 rfl rfl)
theorem dX27_isDone_32 : decode cX27_isDone 32 = .ok (.aload_n 0, 1) := dk_42 (dk_at dksX27_isDone_1 10 rfl rfl)
theorem dX27_isDone_33 : decode cX27_isDone 33 = .ok (.getfield 22, 3) := dk_180 0 22 (dk_at dksX27_isDone_1 11 rfl rfl)
theorem dX27_isDone_36 : decode cX27_isDone 36 = .ok (.getfield 127, 3) := dk_180 0 127 (dk_at dksX27_isDone_1 14 rfl rfl)
theorem dX27_isDone_39 : decode cX27_isDone 39 = .ok (.aload 5, 2) := dk_25 5 (dk_at dksX27_isDone_1 17 rfl rfl)
theorem dX27_isDone_41 : decode cX27_isDone 41 = .ok (.getfield 84, 3) := dk_180 0 84 (dk_at dksX27_isDone_1 19 rfl rfl)
theorem dX27_isDone_44 : decode cX27_isDone 44 = .ok (.aload 5, 2) := dk_25 5 (dk_at dksX27_isDone_1 22 rfl rfl)
theorem dX27_isDone_46 : decode cX27_isDone 46 = .ok (.getfield 130, 3) := dk_180 0 130 (dk_at dksX27_isDone_2 0 rfl rfl)
theorem dX27_isDone_49 : decode cX27_isDone 49 = .ok (.aload_n 1, 1) := dk_43 (dk_at dksX27_isDone_2 3 rfl rfl)
theorem dX27_isDone_50 : decode cX27_isDone 50 = .ok (.invokevirtual 133, 3) := dk_182 0 133 (dk_at dksX27_isDone_2 4 rfl rfl)
theorem dX27_isDone_53 : decode cX27_isDone 53 = .ok (.ifCond .ne 5, 3) := dk_154 0 5 (dk_at dksX27_isDone_2 7 rfl rfl)
theorem dX27_isDone_56 : decode cX27_isDone 56 = .ok (.iconst 0, 1) := dk_3 (dk_at dksX27_isDone_2 10 rfl rfl)
theorem dX27_isDone_57 : decode cX27_isDone 57 = .ok (.ireturn, 1) := dk_172 (dk_at dksX27_isDone_2 11 rfl rfl)
theorem dX27_isDone_58 : decode cX27_isDone 58 = .ok (.iinc 4 1, 3) := dk_132 4 1 (dk_at dksX27_isDone_2 12 rfl rfl)
theorem dX27_isDone_61 : decode cX27_isDone 61 = .ok (.goto (-42), 3) := dk_167 255 214 (dk_at dksX27_isDone_2 15 rfl rfl)
theorem dX27_isDone_64 : decode cX27_isDone 64 = .ok (.new 137, 3) := dk_187 0 137 (dk_at dksX27_isDone_2 18 rfl rfl)
theorem dX27_isDone_67 : decode cX27_isDone 67 = .ok (.dup, 1) := dk_89 (dk_at dksX27_isDone_2 21 rfl rfl)
theorem dX27_isDone_68 : decode cX27_isDone 68 = .ok (.new 139, 3) := dk_187 0 139 (dk_at dksX27_isDone_3 0 rfl rfl)
theorem dX27_isDone_71 : decode cX27_isDone 71 = .ok (.dup, 1) := dk_89 (dk_at dksX27_isDone_3 3 rfl rfl)
theorem dX27_isDone_72 : decode cX27_isDone 72 = .ok (.invokespecial 141, 3) := dk_183 0 141 (dk_at dksX27_isDone_3 4 rfl rfl)
theorem dX27_isDone_75 : decode cX27_isDone 75 = .ok (.invokespecial 142, 3) := dk_183 0 142 (dk_at dksX27_isDone_3 7 rfl rfl)
theorem dX27_isDone_78 : decode cX27_isDone 78 = .ok (.astore_n 2, 1) := dk_77 (dk_at dksX27_isDone_3 10 rfl rfl)
theorem dX27_isDone_79 : decode cX27_isDone 79 = .ok (.aload_n 2, 1) := dk_44 (dk_at dksX27_isDone_3 11 rfl rfl)
theorem dX27_isDone_80 : decode cX27_isDone 80 = .ok (.aload_n 0, 1) := dk_42 (dk_at dksX27_isDone_3 12 rfl rfl)
theorem dX27_isDone_81 : decode cX27_isDone 81 = .ok (.getfield 18, 3) := dk_180 0 18 (dk_at dksX27_isDone_3 13 rfl rfl)
theorem dX27_isDone_84 : decode cX27_isDone 84 = .ok (.invokevirtual 145, 3) := dk_182 0 145 (dk_at dksX27_isDone_3 16 rfl rfl)
theorem dX27_isDone_87 : decode cX27_isDone 87 = .ok (.pop, 1) := dk_87 (dk_at dksX27_isDone_3 19 rfl rfl)
theorem dX27_isDone_88 : decode cX27_isDone 88 = .ok (.aload_n 2, 1) := dk_44 (dk_at dksX27_isDone_3 20 rfl rfl)
theorem dX27_isDone_89 : decode cX27_isDone 89 = .ok (.invokevirtual 149, 3) := dk_182 0 149 (dk_at dksX27_isDone_3 21 rfl rfl)
theorem dX27_isDone_92 : decode cX27_isDone 92 = .ok (.astore_n 3, 1) := dk_78 (dk_at dksX27_isDone_4 0 rfl rfl)
theorem dX27_isDone_93 : decode cX27_isDone 93 = .ok (.aload_n 3, 1) := dk_45 (dk_at dksX27_isDone_4 1 rfl rfl)
theorem dX27_isDone_94 : decode cX27_isDone 94 = .ok (.invokeinterface 49 1, 5) := by decide +kernel
theorem dX27_isDone_99 : decode cX27_isDone 99 = .ok (.ifCond .eq 71, 3) := dk_153 0 71 (dk_at dksX27_isDone_4 7 rfl rfl)
theorem dX27_isDone_102 : decode cX27_isDone 102 = .ok (.aload_n 3, 1) := dk_45 (dk_at dksX27_isDone_4 10 rfl rfl)
theorem dX27_isDone_103 : decode cX27_isDone 103 = .ok (.invokeinterface 55 1, 5) := by decide +kernel
theorem dX27_isDone_108 : decode cX27_isDone 108 = .ok (.checkcast 59, 3) := dk_192 0 59 (dk_at dksX27_isDone_4 16 rfl rfl)
theorem dX27_isDone_111 : decode cX27_isDone 111 = .ok (.astore 4, 2) := dk_58 4 (dk_at dksX27_isDone_4 19 rfl rfl)
theorem dX27_isDone_113 : decode cX27_isDone 113 = .ok (.aload_n 0, 1) := dk_42 (dk_at dksX27_isDone_4 21 rfl rfl)
theorem dX27_isDone_114 : decode cX27_isDone 114 = .ok (.aload 4, 2) := dk_25 4 (dk_at dksX27_isDone_4 22 rfl rfl)
theorem dX27_isDone_116 : decode cX27_isDone 116 = .ok (.getfield 69, 3) := dk_180 0 69 (dk_at dksX27_isDone_5 0 rfl rfl)
theorem dX27_isDone_119 : decode cX27_isDone 119 = .ok (.getfield 127, 3) := dk_180 0 127 (dk_at dksX27_isDone_5 3 rfl rfl)
theorem dX27_isDone_122 : decode cX27_isDone 122 = .ok (.aload 4, 2) := dk_25 4 (dk_at dksX27_isDone_5 6 rfl rfl)
theorem dX27_isDone_124 : decode cX27_isDone 124 = .ok (.getfield 75, 3) := dk_180 0 75 (dk_at dksX27_isDone_5 8 rfl rfl)
theorem dX27_isDone_127 : decode cX27_isDone 127 = .ok (.getfield 84, 3) := dk_180 0 84 (dk_at dksX27_isDone_5 11 rfl rfl)
theorem dX27_isDone_130 : decode cX27_isDone 130 = .ok (.aload 4, 2) := dk_25 4 (dk_at dksX27_isDone_5 14 rfl rfl)
theorem dX27_isDone_132 : decode cX27_isDone 132 = .ok (.getfield 75, 3) := dk_180 0 75 (dk_at dksX27_isDone_5 16 rfl rfl)
theorem dX27_isDone_135 : decode cX27_isDone 135 = .ok (.getfield 150, 3) := dk_180 0 150 (dk_at dksX27_isDone_5 19 rfl rfl)
theorem dX27_isDone_138 : decode cX27_isDone 138 = .ok (.aload 4, 2) := dk_25 4 (dk_at dksX27_isDone_5 22 rfl rfl)
theorem dX27_isDone_140 : decode cX27_isDone 140 = .ok (.getfield 75, 3) := dk_180 0 75 (dk_at dksX27_isDone_6 0 rfl rfl)
theorem dX27_isDone_143 : decode cX27_isDone 143 = .ok (.getfield 130, 3) := dk_180 0 130 (dk_at dksX27_isDone_6 3 rfl rfl)
theorem dX27_isDone_146 : decode cX27_isDone 146 = .ok (.iadd, 1) := dk_96 (dk_at dksX27_isDone_6 6 rfl rfl)
theorem dX27_isDone_147 : decode cX27_isDone 147 = .ok (.aload_n 0, 1) := dk_42 (dk_at dksX27_isDone_6 7 rfl rfl)
theorem dX27_isDone_148 : decode cX27_isDone 148 = .ok (.getfield 3, 3) := dk_180 0 3 (dk_at dksX27_isDone_6 8 rfl rfl)
theorem dX27_isDone_151 : decode cX27_isDone 151 = .ok (.getfield 28, 3) := dk_180 0 28 (dk_at dksX27_isDone_6 11 rfl rfl)
theorem dX27_isDone_154 : decode cX27_isDone 154 = .ok (.getfield 32, 3) := dk_180 0 32 (dk_at dksX27_isDone_6 14 rfl rfl)
theorem dX27_isDone_157 : decode cX27_isDone 157 = .ok (.isub, 1) := dk_100 (dk_at dksX27_isDone_6 17 rfl rfl)
theorem dX27_isDone_158 : decode cX27_isDone 158 = .ok (.aload_n 1, 1) := dk_43 (dk_at dksX27_isDone_6 18 rfl rfl)
theorem dX27_isDone_159 : decode cX27_isDone 159 = .ok (.invokevirtual 133, 3) := dk_182 0 133 (dk_at dksX27_isDone_6 19 rfl rfl)
theorem dX27_isDone_162 : decode cX27_isDone 162 = .ok (.ifCond .ne 5, 3) := dk_154 0 5 (dk_at dksX27_isDone_7 0 rfl rfl)
theorem dX27_isDone_165 : decode cX27_isDone 165 = .ok (.iconst 0, 1) := dk_3 (dk_at dksX27_isDone_7 3 rfl rfl)
theorem dX27_isDone_166 : decode cX27_isDone 166 = .ok (.ireturn, 1) := dk_172 (dk_at dksX27_isDone_7 4 rfl rfl)
theorem dX27_isDone_167 : decode cX27_isDone 167 = .ok (.goto (-74), 3) := dk_167 255 182 (dk_at dksX27_isDone_7 5 rfl rfl)
theorem dX27_isDone_170 : decode cX27_isDone 170 = .ok (.iconst 1, 1) := dk_4 (dk_at dksX27_isDone_7 8 rfl rfl)
theorem dX27_isDone_171 : decode cX27_isDone 171 = .ok (.ireturn, 1) := dk_172 (dk_at dksX27_isDone_7 9 rfl rfl)
abbrev cX1_fit : ByteArray := prog_8_method_19_code
def dkwX1_fit_1 : List UInt8 := [25, 4, 182, 1, 45, 153, 0, 7, 4, 167, 0, 4, 3, 172]
abbrev dktX1_fit_1 : List UInt8 := dkwX1_fit_1 ++ []
def dkwX1_fit_0 : List UInt8 := [42, 182, 1, 42, 42, 43, 42, 180, 0, 203, 44, 182, 1, 45, 153, 0, 21, 42, 45, 42, 180, 0, 203]
abbrev dktX1_fit_0 : List UInt8 := dkwX1_fit_0 ++ dktX1_fit_1
theorem dksX1_fit_0 : cX1_fit.data.toList.drop 0 = dktX1_fit_0 := by decide +kernel
theorem dksX1_fit_1 : cX1_fit.data.toList.drop 23 = dktX1_fit_1 := dk_seg dksX1_fit_0 23 rfl rfl
theorem dX1_fit_0 : decode cX1_fit 0 = .ok (.aload_n 0, 1) := dk_42 (dk_at dksX1_fit_0 0 rfl rfl)
theorem dX1_fit_1 : decode cX1_fit 1 = .ok (.invokevirtual 298, 3) := dk_182 1 42 (dk_at dksX1_fit_0 1 rfl rfl)
theorem dX1_fit_4 : decode cX1_fit 4 = .ok (.aload_n 0, 1) := dk_42 (dk_at dksX1_fit_0 4 rfl rfl)
theorem dX1_fit_5 : decode cX1_fit 5 = .ok (.aload_n 1, 1) := dk_43 (dk_at dksX1_fit_0 5 rfl rfl)
theorem dX1_fit_6 : decode cX1_fit 6 = .ok (.aload_n 0, 1) := dk_42 (dk_at dksX1_fit_0 6 rfl rfl)
theorem dX1_fit_7 : decode cX1_fit 7 = .ok (.getfield 203, 3) := dk_180 0 203 (dk_at dksX1_fit_0 7 rfl rfl)
theorem dX1_fit_10 : decode cX1_fit 10 = .ok (.aload_n 2, 1) := dk_44 (dk_at dksX1_fit_0 10 rfl rfl)
theorem dX1_fit_11 : decode cX1_fit 11 = .ok (.invokevirtual 301, 3) := dk_182 1 45 (dk_at dksX1_fit_0 11 rfl rfl)
theorem dX1_fit_14 : decode cX1_fit 14 = .ok (.ifCond .eq 21, 3) := dk_153 0 21 (dk_at dksX1_fit_0 14 rfl rfl)
theorem dX1_fit_17 : decode cX1_fit 17 = .ok (.aload_n 0, 1) := dk_42 (dk_at dksX1_fit_0 17 rfl rfl)
theorem dX1_fit_18 : decode cX1_fit 18 = .ok (.aload_n 3, 1) := dk_45 (dk_at dksX1_fit_0 18 rfl rfl)
theorem dX1_fit_19 : decode cX1_fit 19 = .ok (.aload_n 0, 1) := dk_42 (dk_at dksX1_fit_0 19 rfl rfl)
theorem dX1_fit_20 : decode cX1_fit 20 = .ok (.getfield 203, 3) := dk_180 0 203 (dk_at dksX1_fit_0 20 rfl rfl)
theorem dX1_fit_23 : decode cX1_fit 23 = .ok (.aload 4, 2) := dk_25 4 (dk_at dksX1_fit_1 0 rfl rfl)
theorem dX1_fit_25 : decode cX1_fit 25 = .ok (.invokevirtual 301, 3) := dk_182 1 45 (dk_at dksX1_fit_1 2 rfl rfl)
theorem dX1_fit_28 : decode cX1_fit 28 = .ok (.ifCond .eq 7, 3) := dk_153 0 7 (dk_at dksX1_fit_1 5 rfl rfl)
theorem dX1_fit_31 : decode cX1_fit 31 = .ok (.iconst 1, 1) := dk_4 (dk_at dksX1_fit_1 8 rfl rfl)
theorem dX1_fit_32 : decode cX1_fit 32 = .ok (.goto 4, 3) := dk_167 0 4 (dk_at dksX1_fit_1 9 rfl rfl)
theorem dX1_fit_35 : decode cX1_fit 35 = .ok (.iconst 0, 1) := dk_3 (dk_at dksX1_fit_1 12 rfl rfl)
theorem dX1_fit_36 : decode cX1_fit 36 = .ok (.ireturn, 1) := dk_172 (dk_at dksX1_fit_1 13 rfl rfl)
abbrev cX1_fits_3 : ByteArray := prog_8_method_18_code
def dkwX1_fits_3_0 : List UInt8 := [42, 182, 1, 42, 42, 43, 28, 45, 182, 1, 55, 172]
abbrev dktX1_fits_3_0 : List UInt8 := dkwX1_fits_3_0 ++ []
theorem dksX1_fits_3_0 : cX1_fits_3.data.toList.drop 0 = dktX1_fits_3_0 := by decide +kernel
theorem dX1_fits_3_0 : decode cX1_fits_3 0 = .ok (.aload_n 0, 1) := dk_42 (dk_at dksX1_fits_3_0 0 rfl rfl)
theorem dX1_fits_3_1 : decode cX1_fits_3 1 = .ok (.invokevirtual 298, 3) := dk_182 1 42 (dk_at dksX1_fits_3_0 1 rfl rfl)
theorem dX1_fits_3_4 : decode cX1_fits_3 4 = .ok (.aload_n 0, 1) := dk_42 (dk_at dksX1_fits_3_0 4 rfl rfl)
theorem dX1_fits_3_5 : decode cX1_fits_3 5 = .ok (.aload_n 1, 1) := dk_43 (dk_at dksX1_fits_3_0 5 rfl rfl)
theorem dX1_fits_3_6 : decode cX1_fits_3 6 = .ok (.iload_n 2, 1) := dk_28 (dk_at dksX1_fits_3_0 6 rfl rfl)
theorem dX1_fits_3_7 : decode cX1_fits_3 7 = .ok (.aload_n 3, 1) := dk_45 (dk_at dksX1_fits_3_0 7 rfl rfl)
theorem dX1_fits_3_8 : decode cX1_fits_3 8 = .ok (.invokevirtual 311, 3) := dk_182 1 55 (dk_at dksX1_fits_3_0 8 rfl rfl)
theorem dX1_fits_3_11 : decode cX1_fits_3 11 = .ok (.ireturn, 1) := dk_172 (dk_at dksX1_fits_3_0 11 rfl rfl)
abbrev cX5_turnBehind : ByteArray := prog_10_method_6_code
def dkwX5_turnBehind_5 : List UInt8 := [167, 255, 207, 132, 4, 1, 167, 255, 141, 29, 172]
abbrev dktX5_turnBehind_5 : List UInt8 := dkwX5_turnBehind_5 ++ []
def dkwX5_turnBehind_4 : List UInt8 := [54, 10, 21, 10, 27, 164, 0, 12, 29, 21, 10, 184, 0, 68, 167, 0, 4, 29, 62, 132, 8, 1]
abbrev dktX5_turnBehind_4 : List UInt8 := dkwX5_turnBehind_4 ++ dktX5_turnBehind_5
def dkwX5_turnBehind_3 : List UInt8 := [162, 0, 48, 25, 6, 21, 8, 50, 58, 9, 25, 5, 180, 0, 74, 25, 9, 180, 0, 77, 100, 4, 96]
abbrev dktX5_turnBehind_3 : List UInt8 := dkwX5_turnBehind_3 ++ dktX5_turnBehind_4
def dkwX5_turnBehind_2 : List UInt8 := [184, 0, 68, 167, 0, 4, 29, 62, 44, 58, 6, 25, 6, 190, 54, 7, 3, 54, 8, 21, 8, 21, 7]
abbrev dktX5_turnBehind_2 : List UInt8 := dkwX5_turnBehind_2 ++ dktX5_turnBehind_3
def dkwX5_turnBehind_1 : List UInt8 := [182, 0, 20, 192, 0, 24, 58, 5, 25, 5, 180, 0, 64, 27, 164, 0, 15, 29, 25, 5, 180, 0, 64]
abbrev dktX5_turnBehind_1 : List UInt8 := dkwX5_turnBehind_1 ++ dktX5_turnBehind_2
def dkwX5_turnBehind_0 : List UInt8 := [18, 63, 62, 3, 54, 4, 21, 4, 42, 180, 0, 10, 182, 0, 16, 162, 0, 109, 42, 180, 0, 10, 21, 4]
abbrev dktX5_turnBehind_0 : List UInt8 := dkwX5_turnBehind_0 ++ dktX5_turnBehind_1
theorem dksX5_turnBehind_0 : cX5_turnBehind.data.toList.drop 0 = dktX5_turnBehind_0 := by decide +kernel
theorem dksX5_turnBehind_1 : cX5_turnBehind.data.toList.drop 24 = dktX5_turnBehind_1 := dk_seg dksX5_turnBehind_0 24 rfl rfl
theorem dksX5_turnBehind_2 : cX5_turnBehind.data.toList.drop 47 = dktX5_turnBehind_2 := dk_seg dksX5_turnBehind_1 23 rfl rfl
theorem dksX5_turnBehind_3 : cX5_turnBehind.data.toList.drop 70 = dktX5_turnBehind_3 := dk_seg dksX5_turnBehind_2 23 rfl rfl
theorem dksX5_turnBehind_4 : cX5_turnBehind.data.toList.drop 93 = dktX5_turnBehind_4 := dk_seg dksX5_turnBehind_3 23 rfl rfl
theorem dksX5_turnBehind_5 : cX5_turnBehind.data.toList.drop 115 = dktX5_turnBehind_5 := dk_seg dksX5_turnBehind_4 22 rfl rfl
theorem dX5_turnBehind_0 : decode cX5_turnBehind 0 = .ok (.ldc 63, 2) := dk_18 63 (dk_at dksX5_turnBehind_0 0 rfl rfl)
theorem dX5_turnBehind_2 : decode cX5_turnBehind 2 = .ok (.istore_n 3, 1) := dk_62 (dk_at dksX5_turnBehind_0 2 rfl rfl)
theorem dX5_turnBehind_3 : decode cX5_turnBehind 3 = .ok (.iconst 0, 1) := dk_3 (dk_at dksX5_turnBehind_0 3 rfl rfl)
theorem dX5_turnBehind_4 : decode cX5_turnBehind 4 = .ok (.istore 4, 2) := dk_54 4 (dk_at dksX5_turnBehind_0 4 rfl rfl)
theorem dX5_turnBehind_6 : decode cX5_turnBehind 6 = .ok (.iload 4, 2) := dk_21 4 (dk_at dksX5_turnBehind_0 6 rfl rfl)
theorem dX5_turnBehind_8 : decode cX5_turnBehind 8 = .ok (.aload_n 0, 1) := dk_42 (dk_at dksX5_turnBehind_0 8 rfl rfl)
theorem dX5_turnBehind_9 : decode cX5_turnBehind 9 = .ok (.getfield 10, 3) := dk_180 0 10 (dk_at dksX5_turnBehind_0 9 rfl rfl)
theorem dX5_turnBehind_12 : decode cX5_turnBehind 12 = .ok (.invokevirtual 16, 3) := dk_182 0 16 (dk_at dksX5_turnBehind_0 12 rfl rfl)
theorem dX5_turnBehind_15 : decode cX5_turnBehind 15 = .ok (.if_icmp .ge 109, 3) := dk_162 0 109 (dk_at dksX5_turnBehind_0 15 rfl rfl)
theorem dX5_turnBehind_18 : decode cX5_turnBehind 18 = .ok (.aload_n 0, 1) := dk_42 (dk_at dksX5_turnBehind_0 18 rfl rfl)
theorem dX5_turnBehind_19 : decode cX5_turnBehind 19 = .ok (.getfield 10, 3) := dk_180 0 10 (dk_at dksX5_turnBehind_0 19 rfl rfl)
theorem dX5_turnBehind_22 : decode cX5_turnBehind 22 = .ok (.iload 4, 2) := dk_21 4 (dk_at dksX5_turnBehind_0 22 rfl rfl)
theorem dX5_turnBehind_24 : decode cX5_turnBehind 24 = .ok (.invokevirtual 20, 3) := dk_182 0 20 (dk_at dksX5_turnBehind_1 0 rfl rfl)
theorem dX5_turnBehind_27 : decode cX5_turnBehind 27 = .ok (.checkcast 24, 3) := dk_192 0 24 (dk_at dksX5_turnBehind_1 3 rfl rfl)
theorem dX5_turnBehind_30 : decode cX5_turnBehind 30 = .ok (.astore 5, 2) := dk_58 5 (dk_at dksX5_turnBehind_1 6 rfl rfl)
theorem dX5_turnBehind_32 : decode cX5_turnBehind 32 = .ok (.aload 5, 2) := dk_25 5 (dk_at dksX5_turnBehind_1 8 rfl rfl)
theorem dX5_turnBehind_34 : decode cX5_turnBehind 34 = .ok (.getfield 64, 3) := dk_180 0 64 (dk_at dksX5_turnBehind_1 10 rfl rfl)
theorem dX5_turnBehind_37 : decode cX5_turnBehind 37 = .ok (.iload_n 1, 1) := dk_27 (dk_at dksX5_turnBehind_1 13 rfl rfl)
theorem dX5_turnBehind_38 : decode cX5_turnBehind 38 = .ok (.if_icmp .le 15, 3) := dk_164 0 15 (dk_at dksX5_turnBehind_1 14 rfl rfl)
theorem dX5_turnBehind_41 : decode cX5_turnBehind 41 = .ok (.iload_n 3, 1) := dk_29 (dk_at dksX5_turnBehind_1 17 rfl rfl)
theorem dX5_turnBehind_42 : decode cX5_turnBehind 42 = .ok (.aload 5, 2) := dk_25 5 (dk_at dksX5_turnBehind_1 18 rfl rfl)
theorem dX5_turnBehind_44 : decode cX5_turnBehind 44 = .ok (.getfield 64, 3) := dk_180 0 64 (dk_at dksX5_turnBehind_1 20 rfl rfl)
theorem dX5_turnBehind_47 : decode cX5_turnBehind 47 = .ok (.invokestatic 68, 3) := dk_184 0 68 (dk_at dksX5_turnBehind_2 0 rfl rfl)
theorem dX5_turnBehind_50 : decode cX5_turnBehind 50 = .ok (.goto 4, 3) := dk_167 0 4 (dk_at dksX5_turnBehind_2 3 rfl rfl)
theorem dX5_turnBehind_53 : decode cX5_turnBehind 53 = .ok (.iload_n 3, 1) := dk_29 (dk_at dksX5_turnBehind_2 6 rfl rfl)
theorem dX5_turnBehind_54 : decode cX5_turnBehind 54 = .ok (.istore_n 3, 1) := dk_62 (dk_at dksX5_turnBehind_2 7 rfl rfl)
theorem dX5_turnBehind_55 : decode cX5_turnBehind 55 = .ok (.aload_n 2, 1) := dk_44 (dk_at dksX5_turnBehind_2 8 rfl rfl)
theorem dX5_turnBehind_56 : decode cX5_turnBehind 56 = .ok (.astore 6, 2) := dk_58 6 (dk_at dksX5_turnBehind_2 9 rfl rfl)
theorem dX5_turnBehind_58 : decode cX5_turnBehind 58 = .ok (.aload 6, 2) := dk_25 6 (dk_at dksX5_turnBehind_2 11 rfl rfl)
theorem dX5_turnBehind_60 : decode cX5_turnBehind 60 = .ok (.arraylength, 1) := dk_190 (dk_at dksX5_turnBehind_2 13 rfl rfl)
theorem dX5_turnBehind_61 : decode cX5_turnBehind 61 = .ok (.istore 7, 2) := dk_54 7 (dk_at dksX5_turnBehind_2 14 rfl rfl)
theorem dX5_turnBehind_63 : decode cX5_turnBehind 63 = .ok (.iconst 0, 1) := dk_3 (dk_at dksX5_turnBehind_2 16 rfl rfl)
theorem dX5_turnBehind_64 : decode cX5_turnBehind 64 = .ok (.istore 8, 2) := dk_54 8 (dk_at dksX5_turnBehind_2 17 rfl rfl)
theorem dX5_turnBehind_66 : decode cX5_turnBehind 66 = .ok (.iload 8, 2) := dk_21 8 (dk_at dksX5_turnBehind_2 19 rfl rfl)
theorem dX5_turnBehind_68 : decode cX5_turnBehind 68 = .ok (.iload 7, 2) := dk_21 7 (dk_at dksX5_turnBehind_2 21 rfl rfl)
theorem dX5_turnBehind_70 : decode cX5_turnBehind 70 = .ok (.if_icmp .ge 48, 3) := dk_162 0 48 (dk_at dksX5_turnBehind_3 0 rfl rfl)
theorem dX5_turnBehind_73 : decode cX5_turnBehind 73 = .ok (.aload 6, 2) := dk_25 6 (dk_at dksX5_turnBehind_3 3 rfl rfl)
theorem dX5_turnBehind_75 : decode cX5_turnBehind 75 = .ok (.iload 8, 2) := dk_21 8 (dk_at dksX5_turnBehind_3 5 rfl rfl)
theorem dX5_turnBehind_77 : decode cX5_turnBehind 77 = .ok (.aaload, 1) := dk_50 (dk_at dksX5_turnBehind_3 7 rfl rfl)
theorem dX5_turnBehind_78 : decode cX5_turnBehind 78 = .ok (.astore 9, 2) := dk_58 9 (dk_at dksX5_turnBehind_3 8 rfl rfl)
theorem dX5_turnBehind_80 : decode cX5_turnBehind 80 = .ok (.aload 5, 2) := dk_25 5 (dk_at dksX5_turnBehind_3 10 rfl rfl)
theorem dX5_turnBehind_82 : decode cX5_turnBehind 82 = .ok (.getfield 74, 3) := dk_180 0 74 (dk_at dksX5_turnBehind_3 12 rfl rfl)
theorem dX5_turnBehind_85 : decode cX5_turnBehind 85 = .ok (.aload 9, 2) := dk_25 9 (dk_at dksX5_turnBehind_3 15 rfl rfl)
theorem dX5_turnBehind_87 : decode cX5_turnBehind 87 = .ok (.getfield 77, 3) := dk_180 0 77 (dk_at dksX5_turnBehind_3 17 rfl rfl)
theorem dX5_turnBehind_90 : decode cX5_turnBehind 90 = .ok (.isub, 1) := dk_100 (dk_at dksX5_turnBehind_3 20 rfl rfl)
theorem dX5_turnBehind_91 : decode cX5_turnBehind 91 = .ok (.iconst 1, 1) := dk_4 (dk_at dksX5_turnBehind_3 21 rfl rfl)
theorem dX5_turnBehind_92 : decode cX5_turnBehind 92 = .ok (.iadd, 1) := dk_96 (dk_at dksX5_turnBehind_3 22 rfl rfl)
theorem dX5_turnBehind_93 : decode cX5_turnBehind 93 = .ok (.istore 10, 2) := dk_54 10 (dk_at dksX5_turnBehind_4 0 rfl rfl)
theorem dX5_turnBehind_95 : decode cX5_turnBehind 95 = .ok (.iload 10, 2) := dk_21 10 (dk_at dksX5_turnBehind_4 2 rfl rfl)
theorem dX5_turnBehind_97 : decode cX5_turnBehind 97 = .ok (.iload_n 1, 1) := dk_27 (dk_at dksX5_turnBehind_4 4 rfl rfl)
theorem dX5_turnBehind_98 : decode cX5_turnBehind 98 = .ok (.if_icmp .le 12, 3) := dk_164 0 12 (dk_at dksX5_turnBehind_4 5 rfl rfl)
theorem dX5_turnBehind_101 : decode cX5_turnBehind 101 = .ok (.iload_n 3, 1) := dk_29 (dk_at dksX5_turnBehind_4 8 rfl rfl)
theorem dX5_turnBehind_102 : decode cX5_turnBehind 102 = .ok (.iload 10, 2) := dk_21 10 (dk_at dksX5_turnBehind_4 9 rfl rfl)
theorem dX5_turnBehind_104 : decode cX5_turnBehind 104 = .ok (.invokestatic 68, 3) := dk_184 0 68 (dk_at dksX5_turnBehind_4 11 rfl rfl)
theorem dX5_turnBehind_107 : decode cX5_turnBehind 107 = .ok (.goto 4, 3) := dk_167 0 4 (dk_at dksX5_turnBehind_4 14 rfl rfl)
theorem dX5_turnBehind_110 : decode cX5_turnBehind 110 = .ok (.iload_n 3, 1) := dk_29 (dk_at dksX5_turnBehind_4 17 rfl rfl)
theorem dX5_turnBehind_111 : decode cX5_turnBehind 111 = .ok (.istore_n 3, 1) := dk_62 (dk_at dksX5_turnBehind_4 18 rfl rfl)
theorem dX5_turnBehind_112 : decode cX5_turnBehind 112 = .ok (.iinc 8 1, 3) := dk_132 8 1 (dk_at dksX5_turnBehind_4 19 rfl rfl)
theorem dX5_turnBehind_115 : decode cX5_turnBehind 115 = .ok (.goto (-49), 3) := dk_167 255 207 (dk_at dksX5_turnBehind_5 0 rfl rfl)
theorem dX5_turnBehind_118 : decode cX5_turnBehind 118 = .ok (.iinc 4 1, 3) := dk_132 4 1 (dk_at dksX5_turnBehind_5 3 rfl rfl)
theorem dX5_turnBehind_121 : decode cX5_turnBehind 121 = .ok (.goto (-115), 3) := dk_167 255 141 (dk_at dksX5_turnBehind_5 6 rfl rfl)
theorem dX5_turnBehind_124 : decode cX5_turnBehind 124 = .ok (.iload_n 3, 1) := dk_29 (dk_at dksX5_turnBehind_5 9 rfl rfl)
theorem dX5_turnBehind_125 : decode cX5_turnBehind 125 = .ok (.ireturn, 1) := dk_172 (dk_at dksX5_turnBehind_5 10 rfl rfl)
abbrev cX5_copy : ByteArray := prog_10_method_7_code
def dkwX5_copy_0 : List UInt8 := [187, 0, 11, 89, 183, 0, 82, 76, 43, 180, 0, 10, 42, 180, 0, 10, 182, 0, 83, 87, 43, 176]
abbrev dktX5_copy_0 : List UInt8 := dkwX5_copy_0 ++ []
theorem dksX5_copy_0 : cX5_copy.data.toList.drop 0 = dktX5_copy_0 := by decide +kernel
theorem dX5_copy_0 : decode cX5_copy 0 = .ok (.new 11, 3) := dk_187 0 11 (dk_at dksX5_copy_0 0 rfl rfl)
theorem dX5_copy_3 : decode cX5_copy 3 = .ok (.dup, 1) := dk_89 (dk_at dksX5_copy_0 3 rfl rfl)
theorem dX5_copy_4 : decode cX5_copy 4 = .ok (.invokespecial 82, 3) := dk_183 0 82 (dk_at dksX5_copy_0 4 rfl rfl)
theorem dX5_copy_7 : decode cX5_copy 7 = .ok (.astore_n 1, 1) := dk_76 (dk_at dksX5_copy_0 7 rfl rfl)
theorem dX5_copy_8 : decode cX5_copy 8 = .ok (.aload_n 1, 1) := dk_43 (dk_at dksX5_copy_0 8 rfl rfl)
theorem dX5_copy_9 : decode cX5_copy 9 = .ok (.getfield 10, 3) := dk_180 0 10 (dk_at dksX5_copy_0 9 rfl rfl)
theorem dX5_copy_12 : decode cX5_copy 12 = .ok (.aload_n 0, 1) := dk_42 (dk_at dksX5_copy_0 12 rfl rfl)
theorem dX5_copy_13 : decode cX5_copy 13 = .ok (.getfield 10, 3) := dk_180 0 10 (dk_at dksX5_copy_0 13 rfl rfl)
theorem dX5_copy_16 : decode cX5_copy 16 = .ok (.invokevirtual 83, 3) := dk_182 0 83 (dk_at dksX5_copy_0 16 rfl rfl)
theorem dX5_copy_19 : decode cX5_copy 19 = .ok (.pop, 1) := dk_87 (dk_at dksX5_copy_0 19 rfl rfl)
theorem dX5_copy_20 : decode cX5_copy 20 = .ok (.aload_n 1, 1) := dk_43 (dk_at dksX5_copy_0 20 rfl rfl)
theorem dX5_copy_21 : decode cX5_copy 21 = .ok (.areturn, 1) := dk_176 (dk_at dksX5_copy_0 21 rfl rfl)
abbrev cX22_init : ByteArray := prog_16_method_1_code
def dkwX22_init_0 : List UInt8 := [42, 183, 0, 1, 42, 43, 181, 0, 7, 42, 44, 181, 0, 13, 177]
abbrev dktX22_init_0 : List UInt8 := dkwX22_init_0 ++ []
theorem dksX22_init_0 : cX22_init.data.toList.drop 0 = dktX22_init_0 := by decide +kernel
theorem dX22_init_0 : decode cX22_init 0 = .ok (.aload_n 0, 1) := dk_42 (dk_at dksX22_init_0 0 rfl rfl)
theorem dX22_init_1 : decode cX22_init 1 = .ok (.invokespecial 1, 3) := dk_183 0 1 (dk_at dksX22_init_0 1 rfl rfl)
theorem dX22_init_4 : decode cX22_init 4 = .ok (.aload_n 0, 1) := dk_42 (dk_at dksX22_init_0 4 rfl rfl)
theorem dX22_init_5 : decode cX22_init 5 = .ok (.aload_n 1, 1) := dk_43 (dk_at dksX22_init_0 5 rfl rfl)
theorem dX22_init_6 : decode cX22_init 6 = .ok (.putfield 7, 3) := dk_181 0 7 (dk_at dksX22_init_0 6 rfl rfl)
theorem dX22_init_9 : decode cX22_init 9 = .ok (.aload_n 0, 1) := dk_42 (dk_at dksX22_init_0 9 rfl rfl)
theorem dX22_init_10 : decode cX22_init 10 = .ok (.aload_n 2, 1) := dk_44 (dk_at dksX22_init_0 10 rfl rfl)
theorem dX22_init_11 : decode cX22_init 11 = .ok (.putfield 13, 3) := dk_181 0 13 (dk_at dksX22_init_0 11 rfl rfl)
theorem dX22_init_14 : decode cX22_init 14 = .ok (.return_, 1) := dk_177 (dk_at dksX22_init_0 14 rfl rfl)
abbrev cX3_like : ByteArray := prog_24_method_6_code
def dkwX3_like_0 : List UInt8 := [43, 180, 0, 9, 3, 42, 180, 0, 9, 3, 16, 80, 184, 0, 22, 42, 43, 180, 0, 18, 181, 0, 18, 177]
abbrev dktX3_like_0 : List UInt8 := dkwX3_like_0 ++ []
theorem dksX3_like_0 : cX3_like.data.toList.drop 0 = dktX3_like_0 := by decide +kernel
theorem dX3_like_0 : decode cX3_like 0 = .ok (.aload_n 1, 1) := dk_43 (dk_at dksX3_like_0 0 rfl rfl)
theorem dX3_like_1 : decode cX3_like 1 = .ok (.getfield 9, 3) := dk_180 0 9 (dk_at dksX3_like_0 1 rfl rfl)
theorem dX3_like_4 : decode cX3_like 4 = .ok (.iconst 0, 1) := dk_3 (dk_at dksX3_like_0 4 rfl rfl)
theorem dX3_like_5 : decode cX3_like 5 = .ok (.aload_n 0, 1) := dk_42 (dk_at dksX3_like_0 5 rfl rfl)
theorem dX3_like_6 : decode cX3_like 6 = .ok (.getfield 9, 3) := dk_180 0 9 (dk_at dksX3_like_0 6 rfl rfl)
theorem dX3_like_9 : decode cX3_like 9 = .ok (.iconst 0, 1) := dk_3 (dk_at dksX3_like_0 9 rfl rfl)
theorem dX3_like_10 : decode cX3_like 10 = .ok (.bipush 80, 2) := dk_16 80 (dk_at dksX3_like_0 10 rfl rfl)
theorem dX3_like_12 : decode cX3_like 12 = .ok (.invokestatic 22, 3) := dk_184 0 22 (dk_at dksX3_like_0 12 rfl rfl)
theorem dX3_like_15 : decode cX3_like 15 = .ok (.aload_n 0, 1) := dk_42 (dk_at dksX3_like_0 15 rfl rfl)
theorem dX3_like_16 : decode cX3_like 16 = .ok (.aload_n 1, 1) := dk_43 (dk_at dksX3_like_0 16 rfl rfl)
theorem dX3_like_17 : decode cX3_like 17 = .ok (.getfield 18, 3) := dk_180 0 18 (dk_at dksX3_like_0 17 rfl rfl)
theorem dX3_like_20 : decode cX3_like 20 = .ok (.putfield 18, 3) := dk_181 0 18 (dk_at dksX3_like_0 20 rfl rfl)
theorem dX3_like_23 : decode cX3_like 23 = .ok (.return_, 1) := dk_177 (dk_at dksX3_like_0 23 rfl rfl)
abbrev cX7_init : ByteArray := prog_27_method_1_code
def dkwX7_init_0 : List UInt8 := [42, 183, 0, 1, 42, 27, 181, 0, 7, 42, 32, 181, 0, 13, 42, 21, 4, 181, 0, 17, 177]
abbrev dktX7_init_0 : List UInt8 := dkwX7_init_0 ++ []
theorem dksX7_init_0 : cX7_init.data.toList.drop 0 = dktX7_init_0 := by decide +kernel
theorem dX7_init_0 : decode cX7_init 0 = .ok (.aload_n 0, 1) := dk_42 (dk_at dksX7_init_0 0 rfl rfl)
theorem dX7_init_1 : decode cX7_init 1 = .ok (.invokespecial 1, 3) := dk_183 0 1 (dk_at dksX7_init_0 1 rfl rfl)
theorem dX7_init_4 : decode cX7_init 4 = .ok (.aload_n 0, 1) := dk_42 (dk_at dksX7_init_0 4 rfl rfl)
theorem dX7_init_5 : decode cX7_init 5 = .ok (.iload_n 1, 1) := dk_27 (dk_at dksX7_init_0 5 rfl rfl)
theorem dX7_init_6 : decode cX7_init 6 = .ok (.putfield 7, 3) := dk_181 0 7 (dk_at dksX7_init_0 6 rfl rfl)
theorem dX7_init_9 : decode cX7_init 9 = .ok (.aload_n 0, 1) := dk_42 (dk_at dksX7_init_0 9 rfl rfl)
theorem dX7_init_10 : decode cX7_init 10 = .ok (.lload_n 2, 1) := dk_32 (dk_at dksX7_init_0 10 rfl rfl)
theorem dX7_init_11 : decode cX7_init 11 = .ok (.putfield 13, 3) := dk_181 0 13 (dk_at dksX7_init_0 11 rfl rfl)
theorem dX7_init_14 : decode cX7_init 14 = .ok (.aload_n 0, 1) := dk_42 (dk_at dksX7_init_0 14 rfl rfl)
theorem dX7_init_15 : decode cX7_init 15 = .ok (.iload 4, 2) := dk_21 4 (dk_at dksX7_init_0 15 rfl rfl)
theorem dX7_init_17 : decode cX7_init 17 = .ok (.putfield 17, 3) := dk_181 0 17 (dk_at dksX7_init_0 17 rfl rfl)
theorem dX7_init_20 : decode cX7_init 20 = .ok (.return_, 1) := dk_177 (dk_at dksX7_init_0 20 rfl rfl)
abbrev cX8_init : ByteArray := prog_25_method_1_code
def dkwX8_init_0 : List UInt8 := [42, 183, 0, 1, 42, 27, 181, 0, 7, 42, 28, 181, 0, 13, 177]
abbrev dktX8_init_0 : List UInt8 := dkwX8_init_0 ++ []
theorem dksX8_init_0 : cX8_init.data.toList.drop 0 = dktX8_init_0 := by decide +kernel
theorem dX8_init_0 : decode cX8_init 0 = .ok (.aload_n 0, 1) := dk_42 (dk_at dksX8_init_0 0 rfl rfl)
theorem dX8_init_1 : decode cX8_init 1 = .ok (.invokespecial 1, 3) := dk_183 0 1 (dk_at dksX8_init_0 1 rfl rfl)
theorem dX8_init_4 : decode cX8_init 4 = .ok (.aload_n 0, 1) := dk_42 (dk_at dksX8_init_0 4 rfl rfl)
theorem dX8_init_5 : decode cX8_init 5 = .ok (.iload_n 1, 1) := dk_27 (dk_at dksX8_init_0 5 rfl rfl)
theorem dX8_init_6 : decode cX8_init 6 = .ok (.putfield 7, 3) := dk_181 0 7 (dk_at dksX8_init_0 6 rfl rfl)
theorem dX8_init_9 : decode cX8_init 9 = .ok (.aload_n 0, 1) := dk_42 (dk_at dksX8_init_0 9 rfl rfl)
theorem dX8_init_10 : decode cX8_init 10 = .ok (.iload_n 2, 1) := dk_28 (dk_at dksX8_init_0 10 rfl rfl)
theorem dX8_init_11 : decode cX8_init 11 = .ok (.putfield 13, 3) := dk_181 0 13 (dk_at dksX8_init_0 11 rfl rfl)
theorem dX8_init_14 : decode cX8_init 14 = .ok (.return_, 1) := dk_177 (dk_at dksX8_init_0 14 rfl rfl)
abbrev cX15_begin : ByteArray := prog_15_method_2_code
def dkwX15_begin_1 : List UInt8 := [167, 255, 235, 28, 172]
abbrev dktX15_begin_1 : List UInt8 := dkwX15_begin_1 ++ []
def dkwX15_begin_0 : List UInt8 := [27, 61, 28, 16, 16, 162, 0, 21, 42, 180, 0, 3, 180, 0, 23, 28, 51, 154, 0, 9, 132, 2, 1]
abbrev dktX15_begin_0 : List UInt8 := dkwX15_begin_0 ++ dktX15_begin_1
theorem dksX15_begin_0 : cX15_begin.data.toList.drop 0 = dktX15_begin_0 := by decide +kernel
theorem dksX15_begin_1 : cX15_begin.data.toList.drop 23 = dktX15_begin_1 := dk_seg dksX15_begin_0 23 rfl rfl
theorem dX15_begin_0 : decode cX15_begin 0 = .ok (.iload_n 1, 1) := dk_27 (dk_at dksX15_begin_0 0 rfl rfl)
theorem dX15_begin_1 : decode cX15_begin 1 = .ok (.istore_n 2, 1) := dk_61 (dk_at dksX15_begin_0 1 rfl rfl)
theorem dX15_begin_2 : decode cX15_begin 2 = .ok (.iload_n 2, 1) := dk_28 (dk_at dksX15_begin_0 2 rfl rfl)
theorem dX15_begin_3 : decode cX15_begin 3 = .ok (.bipush 16, 2) := dk_16 16 (dk_at dksX15_begin_0 3 rfl rfl)
theorem dX15_begin_5 : decode cX15_begin 5 = .ok (.if_icmp .ge 21, 3) := dk_162 0 21 (dk_at dksX15_begin_0 5 rfl rfl)
theorem dX15_begin_8 : decode cX15_begin 8 = .ok (.aload_n 0, 1) := dk_42 (dk_at dksX15_begin_0 8 rfl rfl)
theorem dX15_begin_9 : decode cX15_begin 9 = .ok (.getfield 3, 3) := dk_180 0 3 (dk_at dksX15_begin_0 9 rfl rfl)
theorem dX15_begin_12 : decode cX15_begin 12 = .ok (.getfield 23, 3) := dk_180 0 23 (dk_at dksX15_begin_0 12 rfl rfl)
theorem dX15_begin_15 : decode cX15_begin 15 = .ok (.iload_n 2, 1) := dk_28 (dk_at dksX15_begin_0 15 rfl rfl)
theorem dX15_begin_16 : decode cX15_begin 16 = .ok (.baload, 1) := dk_51 (dk_at dksX15_begin_0 16 rfl rfl)
theorem dX15_begin_17 : decode cX15_begin 17 = .ok (.ifCond .ne 9, 3) := dk_154 0 9 (dk_at dksX15_begin_0 17 rfl rfl)
theorem dX15_begin_20 : decode cX15_begin 20 = .ok (.iinc 2 1, 3) := dk_132 2 1 (dk_at dksX15_begin_0 20 rfl rfl)
theorem dX15_begin_23 : decode cX15_begin 23 = .ok (.goto (-21), 3) := dk_167 255 235 (dk_at dksX15_begin_1 0 rfl rfl)
theorem dX15_begin_26 : decode cX15_begin 26 = .ok (.iload_n 2, 1) := dk_28 (dk_at dksX15_begin_1 3 rfl rfl)
theorem dX15_begin_27 : decode cX15_begin 27 = .ok (.ireturn, 1) := dk_172 (dk_at dksX15_begin_1 4 rfl rfl)
abbrev cX9_number : ByteArray := prog_5_method_3_code
def dkwX9_number_3 : List UInt8 := [10, 27, 133, 184, 0, 41, 154, 0, 12, 187, 0, 45, 89, 28, 183, 0, 47, 191, 29, 172]
abbrev dktX9_number_3 : List UInt8 := dkwX9_number_3 ++ []
def dkwX9_number_2 : List UInt8 := [62, 42, 89, 180, 0, 22, 4, 96, 181, 0, 22, 167, 255, 206, 42, 180, 0, 22, 28, 159, 0, 14, 29, 133]
abbrev dktX9_number_2 : List UInt8 := dkwX9_number_2 ++ dktX9_number_3
def dkwX9_number_1 : List UInt8 := [20, 0, 37, 20, 0, 39, 184, 0, 41, 153, 0, 29, 16, 10, 29, 104, 42, 182, 0, 33, 96, 16, 48, 100]
abbrev dktX9_number_1 : List UInt8 := dkwX9_number_1 ++ dktX9_number_2
def dkwX9_number_0 : List UInt8 := [42, 180, 0, 22, 61, 3, 62, 42, 180, 0, 22, 28, 6, 96, 162, 0, 46, 42, 182, 0, 33, 133]
abbrev dktX9_number_0 : List UInt8 := dkwX9_number_0 ++ dktX9_number_1
theorem dksX9_number_0 : cX9_number.data.toList.drop 0 = dktX9_number_0 := by decide +kernel
theorem dksX9_number_1 : cX9_number.data.toList.drop 22 = dktX9_number_1 := dk_seg dksX9_number_0 22 rfl rfl
theorem dksX9_number_2 : cX9_number.data.toList.drop 46 = dktX9_number_2 := dk_seg dksX9_number_1 24 rfl rfl
theorem dksX9_number_3 : cX9_number.data.toList.drop 70 = dktX9_number_3 := dk_seg dksX9_number_2 24 rfl rfl
theorem dX9_number_0 : decode cX9_number 0 = .ok (.aload_n 0, 1) := dk_42 (dk_at dksX9_number_0 0 rfl rfl)
theorem dX9_number_1 : decode cX9_number 1 = .ok (.getfield 22, 3) := dk_180 0 22 (dk_at dksX9_number_0 1 rfl rfl)
theorem dX9_number_4 : decode cX9_number 4 = .ok (.istore_n 2, 1) := dk_61 (dk_at dksX9_number_0 4 rfl rfl)
theorem dX9_number_5 : decode cX9_number 5 = .ok (.iconst 0, 1) := dk_3 (dk_at dksX9_number_0 5 rfl rfl)
theorem dX9_number_6 : decode cX9_number 6 = .ok (.istore_n 3, 1) := dk_62 (dk_at dksX9_number_0 6 rfl rfl)
theorem dX9_number_7 : decode cX9_number 7 = .ok (.aload_n 0, 1) := dk_42 (dk_at dksX9_number_0 7 rfl rfl)
theorem dX9_number_8 : decode cX9_number 8 = .ok (.getfield 22, 3) := dk_180 0 22 (dk_at dksX9_number_0 8 rfl rfl)
theorem dX9_number_11 : decode cX9_number 11 = .ok (.iload_n 2, 1) := dk_28 (dk_at dksX9_number_0 11 rfl rfl)
theorem dX9_number_12 : decode cX9_number 12 = .ok (.iconst 3, 1) := dk_6 (dk_at dksX9_number_0 12 rfl rfl)
theorem dX9_number_13 : decode cX9_number 13 = .ok (.iadd, 1) := dk_96 (dk_at dksX9_number_0 13 rfl rfl)
theorem dX9_number_14 : decode cX9_number 14 = .ok (.if_icmp .ge 46, 3) := dk_162 0 46 (dk_at dksX9_number_0 14 rfl rfl)
theorem dX9_number_17 : decode cX9_number 17 = .ok (.aload_n 0, 1) := dk_42 (dk_at dksX9_number_0 17 rfl rfl)
theorem dX9_number_18 : decode cX9_number 18 = .ok (.invokevirtual 33, 3) := dk_182 0 33 (dk_at dksX9_number_0 18 rfl rfl)
theorem dX9_number_21 : decode cX9_number 21 = .ok (.i2l, 1) := dk_133 (dk_at dksX9_number_0 21 rfl rfl)
theorem dX9_number_22 : decode cX9_number 22 = .ok (.ldc2_w 37, 3) := dk_20 0 37 (dk_at dksX9_number_1 0 rfl rfl)
theorem dX9_number_25 : decode cX9_number 25 = .ok (.ldc2_w 39, 3) := dk_20 0 39 (dk_at dksX9_number_1 3 rfl rfl)
theorem dX9_number_28 : decode cX9_number 28 = .ok (.invokestatic 41, 3) := dk_184 0 41 (dk_at dksX9_number_1 6 rfl rfl)
theorem dX9_number_31 : decode cX9_number 31 = .ok (.ifCond .eq 29, 3) := dk_153 0 29 (dk_at dksX9_number_1 9 rfl rfl)
theorem dX9_number_34 : decode cX9_number 34 = .ok (.bipush 10, 2) := dk_16 10 (dk_at dksX9_number_1 12 rfl rfl)
theorem dX9_number_36 : decode cX9_number 36 = .ok (.iload_n 3, 1) := dk_29 (dk_at dksX9_number_1 14 rfl rfl)
theorem dX9_number_37 : decode cX9_number 37 = .ok (.imul, 1) := dk_104 (dk_at dksX9_number_1 15 rfl rfl)
theorem dX9_number_38 : decode cX9_number 38 = .ok (.aload_n 0, 1) := dk_42 (dk_at dksX9_number_1 16 rfl rfl)
theorem dX9_number_39 : decode cX9_number 39 = .ok (.invokevirtual 33, 3) := dk_182 0 33 (dk_at dksX9_number_1 17 rfl rfl)
theorem dX9_number_42 : decode cX9_number 42 = .ok (.iadd, 1) := dk_96 (dk_at dksX9_number_1 20 rfl rfl)
theorem dX9_number_43 : decode cX9_number 43 = .ok (.bipush 48, 2) := dk_16 48 (dk_at dksX9_number_1 21 rfl rfl)
theorem dX9_number_45 : decode cX9_number 45 = .ok (.isub, 1) := dk_100 (dk_at dksX9_number_1 23 rfl rfl)
theorem dX9_number_46 : decode cX9_number 46 = .ok (.istore_n 3, 1) := dk_62 (dk_at dksX9_number_2 0 rfl rfl)
theorem dX9_number_47 : decode cX9_number 47 = .ok (.aload_n 0, 1) := dk_42 (dk_at dksX9_number_2 1 rfl rfl)
theorem dX9_number_48 : decode cX9_number 48 = .ok (.dup, 1) := dk_89 (dk_at dksX9_number_2 2 rfl rfl)
theorem dX9_number_49 : decode cX9_number 49 = .ok (.getfield 22, 3) := dk_180 0 22 (dk_at dksX9_number_2 3 rfl rfl)
theorem dX9_number_52 : decode cX9_number 52 = .ok (.iconst 1, 1) := dk_4 (dk_at dksX9_number_2 6 rfl rfl)
theorem dX9_number_53 : decode cX9_number 53 = .ok (.iadd, 1) := dk_96 (dk_at dksX9_number_2 7 rfl rfl)
theorem dX9_number_54 : decode cX9_number 54 = .ok (.putfield 22, 3) := dk_181 0 22 (dk_at dksX9_number_2 8 rfl rfl)
theorem dX9_number_57 : decode cX9_number 57 = .ok (.goto (-50), 3) := dk_167 255 206 (dk_at dksX9_number_2 11 rfl rfl)
theorem dX9_number_60 : decode cX9_number 60 = .ok (.aload_n 0, 1) := dk_42 (dk_at dksX9_number_2 14 rfl rfl)
theorem dX9_number_61 : decode cX9_number 61 = .ok (.getfield 22, 3) := dk_180 0 22 (dk_at dksX9_number_2 15 rfl rfl)
theorem dX9_number_64 : decode cX9_number 64 = .ok (.iload_n 2, 1) := dk_28 (dk_at dksX9_number_2 18 rfl rfl)
theorem dX9_number_65 : decode cX9_number 65 = .ok (.if_icmp .eq 14, 3) := dk_159 0 14 (dk_at dksX9_number_2 19 rfl rfl)
theorem dX9_number_68 : decode cX9_number 68 = .ok (.iload_n 3, 1) := dk_29 (dk_at dksX9_number_2 22 rfl rfl)
theorem dX9_number_69 : decode cX9_number 69 = .ok (.i2l, 1) := dk_133 (dk_at dksX9_number_2 23 rfl rfl)
theorem dX9_number_70 : decode cX9_number 70 = .ok (.lconst 1, 1) := dk_10 (dk_at dksX9_number_3 0 rfl rfl)
theorem dX9_number_71 : decode cX9_number 71 = .ok (.iload_n 1, 1) := dk_27 (dk_at dksX9_number_3 1 rfl rfl)
theorem dX9_number_72 : decode cX9_number 72 = .ok (.i2l, 1) := dk_133 (dk_at dksX9_number_3 2 rfl rfl)
theorem dX9_number_73 : decode cX9_number 73 = .ok (.invokestatic 41, 3) := dk_184 0 41 (dk_at dksX9_number_3 3 rfl rfl)
theorem dX9_number_76 : decode cX9_number 76 = .ok (.ifCond .ne 12, 3) := dk_154 0 12 (dk_at dksX9_number_3 6 rfl rfl)
theorem dX9_number_79 : decode cX9_number 79 = .ok (.new 45, 3) := dk_187 0 45 (dk_at dksX9_number_3 9 rfl rfl)
theorem dX9_number_82 : decode cX9_number 82 = .ok (.dup, 1) := dk_89 (dk_at dksX9_number_3 12 rfl rfl)
theorem dX9_number_83 : decode cX9_number 83 = .ok (.iload_n 2, 1) := dk_28 (dk_at dksX9_number_3 13 rfl rfl)
theorem dX9_number_84 : decode cX9_number 84 = .ok (.invokespecial 47, 3) := dk_183 0 47 (dk_at dksX9_number_3 14 rfl rfl)
theorem dX9_number_87 : decode cX9_number 87 = .ok (.athrow, 1) := dk_191 (dk_at dksX9_number_3 17 rfl rfl)
theorem dX9_number_88 : decode cX9_number 88 = .ok (.iload_n 3, 1) := dk_29 (dk_at dksX9_number_3 18 rfl rfl)
theorem dX9_number_89 : decode cX9_number 89 = .ok (.ireturn, 1) := dk_172 (dk_at dksX9_number_3 19 rfl rfl)
abbrev cX9_peek : ByteArray := prog_5_method_2_code
def dkwX9_peek_1 : List UInt8 := [180, 0, 22, 51, 167, 0, 4, 2, 172]
abbrev dktX9_peek_1 : List UInt8 := dkwX9_peek_1 ++ []
def dkwX9_peek_0 : List UInt8 := [42, 180, 0, 22, 42, 180, 0, 3, 180, 0, 26, 162, 0, 18, 42, 180, 0, 3, 180, 0, 29, 42]
abbrev dktX9_peek_0 : List UInt8 := dkwX9_peek_0 ++ dktX9_peek_1
theorem dksX9_peek_0 : cX9_peek.data.toList.drop 0 = dktX9_peek_0 := by decide +kernel
theorem dksX9_peek_1 : cX9_peek.data.toList.drop 22 = dktX9_peek_1 := dk_seg dksX9_peek_0 22 rfl rfl
theorem dX9_peek_0 : decode cX9_peek 0 = .ok (.aload_n 0, 1) := dk_42 (dk_at dksX9_peek_0 0 rfl rfl)
theorem dX9_peek_1 : decode cX9_peek 1 = .ok (.getfield 22, 3) := dk_180 0 22 (dk_at dksX9_peek_0 1 rfl rfl)
theorem dX9_peek_4 : decode cX9_peek 4 = .ok (.aload_n 0, 1) := dk_42 (dk_at dksX9_peek_0 4 rfl rfl)
theorem dX9_peek_5 : decode cX9_peek 5 = .ok (.getfield 3, 3) := dk_180 0 3 (dk_at dksX9_peek_0 5 rfl rfl)
theorem dX9_peek_8 : decode cX9_peek 8 = .ok (.getfield 26, 3) := dk_180 0 26 (dk_at dksX9_peek_0 8 rfl rfl)
theorem dX9_peek_11 : decode cX9_peek 11 = .ok (.if_icmp .ge 18, 3) := dk_162 0 18 (dk_at dksX9_peek_0 11 rfl rfl)
theorem dX9_peek_14 : decode cX9_peek 14 = .ok (.aload_n 0, 1) := dk_42 (dk_at dksX9_peek_0 14 rfl rfl)
theorem dX9_peek_15 : decode cX9_peek 15 = .ok (.getfield 3, 3) := dk_180 0 3 (dk_at dksX9_peek_0 15 rfl rfl)
theorem dX9_peek_18 : decode cX9_peek 18 = .ok (.getfield 29, 3) := dk_180 0 29 (dk_at dksX9_peek_0 18 rfl rfl)
theorem dX9_peek_21 : decode cX9_peek 21 = .ok (.aload_n 0, 1) := dk_42 (dk_at dksX9_peek_0 21 rfl rfl)
theorem dX9_peek_22 : decode cX9_peek 22 = .ok (.getfield 22, 3) := dk_180 0 22 (dk_at dksX9_peek_1 0 rfl rfl)
theorem dX9_peek_25 : decode cX9_peek 25 = .ok (.baload, 1) := dk_51 (dk_at dksX9_peek_1 3 rfl rfl)
theorem dX9_peek_26 : decode cX9_peek 26 = .ok (.goto 4, 3) := dk_167 0 4 (dk_at dksX9_peek_1 4 rfl rfl)
theorem dX9_peek_29 : decode cX9_peek 29 = .ok (.iconst (-1), 1) := dk_2 (dk_at dksX9_peek_1 7 rfl rfl)
theorem dX9_peek_30 : decode cX9_peek 30 = .ok (.ireturn, 1) := dk_172 (dk_at dksX9_peek_1 8 rfl rfl)
abbrev cX10_init : ByteArray := prog_12_method_1_code
def dkwX10_init_0 : List UInt8 := [42, 1, 1, 3, 3, 183, 0, 1, 42, 27, 181, 0, 7, 177]
abbrev dktX10_init_0 : List UInt8 := dkwX10_init_0 ++ []
theorem dksX10_init_0 : cX10_init.data.toList.drop 0 = dktX10_init_0 := by decide +kernel
theorem dX10_init_0 : decode cX10_init 0 = .ok (.aload_n 0, 1) := dk_42 (dk_at dksX10_init_0 0 rfl rfl)
theorem dX10_init_1 : decode cX10_init 1 = .ok (.aconst_null, 1) := dk_1 (dk_at dksX10_init_0 1 rfl rfl)
theorem dX10_init_2 : decode cX10_init 2 = .ok (.aconst_null, 1) := dk_1 (dk_at dksX10_init_0 2 rfl rfl)
theorem dX10_init_3 : decode cX10_init 3 = .ok (.iconst 0, 1) := dk_3 (dk_at dksX10_init_0 3 rfl rfl)
theorem dX10_init_4 : decode cX10_init 4 = .ok (.iconst 0, 1) := dk_3 (dk_at dksX10_init_0 4 rfl rfl)
theorem dX10_init_5 : decode cX10_init 5 = .ok (.invokespecial 1, 3) := dk_183 0 1 (dk_at dksX10_init_0 5 rfl rfl)
theorem dX10_init_8 : decode cX10_init 8 = .ok (.aload_n 0, 1) := dk_42 (dk_at dksX10_init_0 8 rfl rfl)
theorem dX10_init_9 : decode cX10_init 9 = .ok (.iload_n 1, 1) := dk_27 (dk_at dksX10_init_0 9 rfl rfl)
theorem dX10_init_10 : decode cX10_init 10 = .ok (.putfield 7, 3) := dk_181 0 7 (dk_at dksX10_init_0 10 rfl rfl)
theorem dX10_init_13 : decode cX10_init 13 = .ok (.return_, 1) := dk_177 (dk_at dksX10_init_0 13 rfl rfl)
abbrev cX13_init : ByteArray := prog_7_method_1_code
theorem dX13_init_0 : decode cX13_init 0 = .ok (.aload_n 0, 1) := by decide +kernel
theorem dX13_init_1 : decode cX13_init 1 = .ok (.invokespecial 1, 3) := by decide +kernel
theorem dX13_init_4 : decode cX13_init 4 = .ok (.return_, 1) := by decide +kernel
abbrev cX3_remove : ByteArray := prog_24_method_4_code
def dkwX3_remove_1 : List UInt8 := [181, 0, 18, 42, 180, 0, 9, 27, 16, 254, 79, 177]
abbrev dktX3_remove_1 : List UInt8 := dkwX3_remove_1 ++ []
def dkwX3_remove_0 : List UInt8 := [42, 89, 180, 0, 18, 42, 180, 0, 9, 27, 46, 16, 254, 160, 0, 7, 3, 167, 0, 4, 4, 100]
abbrev dktX3_remove_0 : List UInt8 := dkwX3_remove_0 ++ dktX3_remove_1
theorem dksX3_remove_0 : cX3_remove.data.toList.drop 0 = dktX3_remove_0 := by decide +kernel
theorem dksX3_remove_1 : cX3_remove.data.toList.drop 22 = dktX3_remove_1 := dk_seg dksX3_remove_0 22 rfl rfl
theorem dX3_remove_0 : decode cX3_remove 0 = .ok (.aload_n 0, 1) := dk_42 (dk_at dksX3_remove_0 0 rfl rfl)
theorem dX3_remove_1 : decode cX3_remove 1 = .ok (.dup, 1) := dk_89 (dk_at dksX3_remove_0 1 rfl rfl)
theorem dX3_remove_2 : decode cX3_remove 2 = .ok (.getfield 18, 3) := dk_180 0 18 (dk_at dksX3_remove_0 2 rfl rfl)
theorem dX3_remove_5 : decode cX3_remove 5 = .ok (.aload_n 0, 1) := dk_42 (dk_at dksX3_remove_0 5 rfl rfl)
theorem dX3_remove_6 : decode cX3_remove 6 = .ok (.getfield 9, 3) := dk_180 0 9 (dk_at dksX3_remove_0 6 rfl rfl)
theorem dX3_remove_9 : decode cX3_remove 9 = .ok (.iload_n 1, 1) := dk_27 (dk_at dksX3_remove_0 9 rfl rfl)
theorem dX3_remove_10 : decode cX3_remove 10 = .ok (.iaload, 1) := dk_46 (dk_at dksX3_remove_0 10 rfl rfl)
theorem dX3_remove_11 : decode cX3_remove 11 = .ok (.bipush (-2), 2) := dk_16 254 (dk_at dksX3_remove_0 11 rfl rfl)
theorem dX3_remove_13 : decode cX3_remove 13 = .ok (.if_icmp .ne 7, 3) := dk_160 0 7 (dk_at dksX3_remove_0 13 rfl rfl)
theorem dX3_remove_16 : decode cX3_remove 16 = .ok (.iconst 0, 1) := dk_3 (dk_at dksX3_remove_0 16 rfl rfl)
theorem dX3_remove_17 : decode cX3_remove 17 = .ok (.goto 4, 3) := dk_167 0 4 (dk_at dksX3_remove_0 17 rfl rfl)
theorem dX3_remove_20 : decode cX3_remove 20 = .ok (.iconst 1, 1) := dk_4 (dk_at dksX3_remove_0 20 rfl rfl)
theorem dX3_remove_21 : decode cX3_remove 21 = .ok (.isub, 1) := dk_100 (dk_at dksX3_remove_0 21 rfl rfl)
theorem dX3_remove_22 : decode cX3_remove 22 = .ok (.putfield 18, 3) := dk_181 0 18 (dk_at dksX3_remove_1 0 rfl rfl)
theorem dX3_remove_25 : decode cX3_remove 25 = .ok (.aload_n 0, 1) := dk_42 (dk_at dksX3_remove_1 3 rfl rfl)
theorem dX3_remove_26 : decode cX3_remove 26 = .ok (.getfield 9, 3) := dk_180 0 9 (dk_at dksX3_remove_1 4 rfl rfl)
theorem dX3_remove_29 : decode cX3_remove 29 = .ok (.iload_n 1, 1) := dk_27 (dk_at dksX3_remove_1 7 rfl rfl)
theorem dX3_remove_30 : decode cX3_remove 30 = .ok (.bipush (-2), 2) := dk_16 254 (dk_at dksX3_remove_1 8 rfl rfl)
theorem dX3_remove_32 : decode cX3_remove 32 = .ok (.iastore, 1) := dk_79 (dk_at dksX3_remove_1 10 rfl rfl)
theorem dX3_remove_33 : decode cX3_remove 33 = .ok (.return_, 1) := dk_177 (dk_at dksX3_remove_1 11 rfl rfl)
abbrev cX15_init : ByteArray := prog_15_method_1_code
def dkwX15_init_0 : List UInt8 := [42, 43, 181, 0, 3, 42, 183, 0, 9, 42, 42, 3, 182, 0, 15, 181, 0, 19, 177]
abbrev dktX15_init_0 : List UInt8 := dkwX15_init_0 ++ []
theorem dksX15_init_0 : cX15_init.data.toList.drop 0 = dktX15_init_0 := by decide +kernel
theorem dX15_init_0 : decode cX15_init 0 = .ok (.aload_n 0, 1) := dk_42 (dk_at dksX15_init_0 0 rfl rfl)
theorem dX15_init_1 : decode cX15_init 1 = .ok (.aload_n 1, 1) := dk_43 (dk_at dksX15_init_0 1 rfl rfl)
theorem dX15_init_2 : decode cX15_init 2 = .ok (.putfield 3, 3) := dk_181 0 3 (dk_at dksX15_init_0 2 rfl rfl)
theorem dX15_init_5 : decode cX15_init 5 = .ok (.aload_n 0, 1) := dk_42 (dk_at dksX15_init_0 5 rfl rfl)
theorem dX15_init_6 : decode cX15_init 6 = .ok (.invokespecial 9, 3) := dk_183 0 9 (dk_at dksX15_init_0 6 rfl rfl)
theorem dX15_init_9 : decode cX15_init 9 = .ok (.aload_n 0, 1) := dk_42 (dk_at dksX15_init_0 9 rfl rfl)
theorem dX15_init_10 : decode cX15_init 10 = .ok (.aload_n 0, 1) := dk_42 (dk_at dksX15_init_0 10 rfl rfl)
theorem dX15_init_11 : decode cX15_init 11 = .ok (.iconst 0, 1) := dk_3 (dk_at dksX15_init_0 11 rfl rfl)
theorem dX15_init_12 : decode cX15_init 12 = .ok (.invokevirtual 15, 3) := dk_182 0 15 (dk_at dksX15_init_0 12 rfl rfl)
theorem dX15_init_15 : decode cX15_init 15 = .ok (.putfield 19, 3) := dk_181 0 19 (dk_at dksX15_init_0 15 rfl rfl)
theorem dX15_init_18 : decode cX15_init 18 = .ok (.return_, 1) := dk_177 (dk_at dksX15_init_0 18 rfl rfl)
abbrev cX5_isFree : ByteArray := prog_10_method_3_code
def dkwX5_isFree_2 : List UInt8 := [185, 0, 38, 2, 0, 153, 0, 5, 3, 172, 132, 4, 1, 167, 255, 198, 4, 172]
abbrev dktX5_isFree_2 : List UInt8 := dkwX5_isFree_2 ++ []
def dkwX5_isFree_1 : List UInt8 := [192, 0, 24, 27, 28, 182, 0, 34, 153, 0, 26, 45, 42, 180, 0, 10, 21, 4, 182, 0, 20, 192, 0, 24]
abbrev dktX5_isFree_1 : List UInt8 := dkwX5_isFree_1 ++ dktX5_isFree_2
def dkwX5_isFree_0 : List UInt8 := [3, 54, 4, 21, 4, 42, 180, 0, 10, 182, 0, 16, 162, 0, 52, 42, 180, 0, 10, 21, 4, 182, 0, 20]
abbrev dktX5_isFree_0 : List UInt8 := dkwX5_isFree_0 ++ dktX5_isFree_1
theorem dksX5_isFree_0 : cX5_isFree.data.toList.drop 0 = dktX5_isFree_0 := by decide +kernel
theorem dksX5_isFree_1 : cX5_isFree.data.toList.drop 24 = dktX5_isFree_1 := dk_seg dksX5_isFree_0 24 rfl rfl
theorem dksX5_isFree_2 : cX5_isFree.data.toList.drop 48 = dktX5_isFree_2 := dk_seg dksX5_isFree_1 24 rfl rfl
theorem dX5_isFree_0 : decode cX5_isFree 0 = .ok (.iconst 0, 1) := dk_3 (dk_at dksX5_isFree_0 0 rfl rfl)
theorem dX5_isFree_1 : decode cX5_isFree 1 = .ok (.istore 4, 2) := dk_54 4 (dk_at dksX5_isFree_0 1 rfl rfl)
theorem dX5_isFree_3 : decode cX5_isFree 3 = .ok (.iload 4, 2) := dk_21 4 (dk_at dksX5_isFree_0 3 rfl rfl)
theorem dX5_isFree_5 : decode cX5_isFree 5 = .ok (.aload_n 0, 1) := dk_42 (dk_at dksX5_isFree_0 5 rfl rfl)
theorem dX5_isFree_6 : decode cX5_isFree 6 = .ok (.getfield 10, 3) := dk_180 0 10 (dk_at dksX5_isFree_0 6 rfl rfl)
theorem dX5_isFree_9 : decode cX5_isFree 9 = .ok (.invokevirtual 16, 3) := dk_182 0 16 (dk_at dksX5_isFree_0 9 rfl rfl)
theorem dX5_isFree_12 : decode cX5_isFree 12 = .ok (.if_icmp .ge 52, 3) := dk_162 0 52 (dk_at dksX5_isFree_0 12 rfl rfl)
theorem dX5_isFree_15 : decode cX5_isFree 15 = .ok (.aload_n 0, 1) := dk_42 (dk_at dksX5_isFree_0 15 rfl rfl)
theorem dX5_isFree_16 : decode cX5_isFree 16 = .ok (.getfield 10, 3) := dk_180 0 10 (dk_at dksX5_isFree_0 16 rfl rfl)
theorem dX5_isFree_19 : decode cX5_isFree 19 = .ok (.iload 4, 2) := dk_21 4 (dk_at dksX5_isFree_0 19 rfl rfl)
theorem dX5_isFree_21 : decode cX5_isFree 21 = .ok (.invokevirtual 20, 3) := dk_182 0 20 (dk_at dksX5_isFree_0 21 rfl rfl)
theorem dX5_isFree_24 : decode cX5_isFree 24 = .ok (.checkcast 24, 3) := dk_192 0 24 (dk_at dksX5_isFree_1 0 rfl rfl)
theorem dX5_isFree_27 : decode cX5_isFree 27 = .ok (.iload_n 1, 1) := dk_27 (dk_at dksX5_isFree_1 3 rfl rfl)
theorem dX5_isFree_28 : decode cX5_isFree 28 = .ok (.iload_n 2, 1) := dk_28 (dk_at dksX5_isFree_1 4 rfl rfl)
theorem dX5_isFree_29 : decode cX5_isFree 29 = .ok (.invokevirtual 34, 3) := dk_182 0 34 (dk_at dksX5_isFree_1 5 rfl rfl)
theorem dX5_isFree_32 : decode cX5_isFree 32 = .ok (.ifCond .eq 26, 3) := dk_153 0 26 (dk_at dksX5_isFree_1 8 rfl rfl)
theorem dX5_isFree_35 : decode cX5_isFree 35 = .ok (.aload_n 3, 1) := dk_45 (dk_at dksX5_isFree_1 11 rfl rfl)
theorem dX5_isFree_36 : decode cX5_isFree 36 = .ok (.aload_n 0, 1) := dk_42 (dk_at dksX5_isFree_1 12 rfl rfl)
theorem dX5_isFree_37 : decode cX5_isFree 37 = .ok (.getfield 10, 3) := dk_180 0 10 (dk_at dksX5_isFree_1 13 rfl rfl)
theorem dX5_isFree_40 : decode cX5_isFree 40 = .ok (.iload 4, 2) := dk_21 4 (dk_at dksX5_isFree_1 16 rfl rfl)
theorem dX5_isFree_42 : decode cX5_isFree 42 = .ok (.invokevirtual 20, 3) := dk_182 0 20 (dk_at dksX5_isFree_1 18 rfl rfl)
theorem dX5_isFree_45 : decode cX5_isFree 45 = .ok (.checkcast 24, 3) := dk_192 0 24 (dk_at dksX5_isFree_1 21 rfl rfl)
theorem dX5_isFree_48 : decode cX5_isFree 48 = .ok (.invokeinterface 38 2, 5) := by decide +kernel
theorem dX5_isFree_53 : decode cX5_isFree 53 = .ok (.ifCond .eq 5, 3) := dk_153 0 5 (dk_at dksX5_isFree_2 5 rfl rfl)
theorem dX5_isFree_56 : decode cX5_isFree 56 = .ok (.iconst 0, 1) := dk_3 (dk_at dksX5_isFree_2 8 rfl rfl)
theorem dX5_isFree_57 : decode cX5_isFree 57 = .ok (.ireturn, 1) := dk_172 (dk_at dksX5_isFree_2 9 rfl rfl)
theorem dX5_isFree_58 : decode cX5_isFree 58 = .ok (.iinc 4 1, 3) := dk_132 4 1 (dk_at dksX5_isFree_2 10 rfl rfl)
theorem dX5_isFree_61 : decode cX5_isFree 61 = .ok (.goto (-58), 3) := dk_167 255 198 (dk_at dksX5_isFree_2 13 rfl rfl)
theorem dX5_isFree_64 : decode cX5_isFree 64 = .ok (.iconst 1, 1) := dk_4 (dk_at dksX5_isFree_2 16 rfl rfl)
theorem dX5_isFree_65 : decode cX5_isFree 65 = .ok (.ireturn, 1) := dk_172 (dk_at dksX5_isFree_2 17 rfl rfl)
abbrev cX21_init : ByteArray := prog_19_method_1_code
def dkwX21_init_0 : List UInt8 := [42, 43, 180, 0, 3, 43, 180, 0, 9, 183, 0, 12, 42, 43, 181, 0, 18, 177]
abbrev dktX21_init_0 : List UInt8 := dkwX21_init_0 ++ []
theorem dksX21_init_0 : cX21_init.data.toList.drop 0 = dktX21_init_0 := by decide +kernel
theorem dX21_init_0 : decode cX21_init 0 = .ok (.aload_n 0, 1) := dk_42 (dk_at dksX21_init_0 0 rfl rfl)
theorem dX21_init_1 : decode cX21_init 1 = .ok (.aload_n 1, 1) := dk_43 (dk_at dksX21_init_0 1 rfl rfl)
theorem dX21_init_2 : decode cX21_init 2 = .ok (.getfield 3, 3) := dk_180 0 3 (dk_at dksX21_init_0 2 rfl rfl)
theorem dX21_init_5 : decode cX21_init 5 = .ok (.aload_n 1, 1) := dk_43 (dk_at dksX21_init_0 5 rfl rfl)
theorem dX21_init_6 : decode cX21_init 6 = .ok (.getfield 9, 3) := dk_180 0 9 (dk_at dksX21_init_0 6 rfl rfl)
theorem dX21_init_9 : decode cX21_init 9 = .ok (.invokespecial 12, 3) := dk_183 0 12 (dk_at dksX21_init_0 9 rfl rfl)
theorem dX21_init_12 : decode cX21_init 12 = .ok (.aload_n 0, 1) := dk_42 (dk_at dksX21_init_0 12 rfl rfl)
theorem dX21_init_13 : decode cX21_init 13 = .ok (.aload_n 1, 1) := dk_43 (dk_at dksX21_init_0 13 rfl rfl)
theorem dX21_init_14 : decode cX21_init 14 = .ok (.putfield 18, 3) := dk_181 0 18 (dk_at dksX21_init_0 14 rfl rfl)
theorem dX21_init_17 : decode cX21_init 17 = .ok (.return_, 1) := dk_177 (dk_at dksX21_init_0 17 rfl rfl)
abbrev cX5_add : ByteArray := prog_10_method_2_code
def dkwX5_add_2 : List UInt8 := [182, 0, 30, 177]
abbrev dktX5_add_2 : List UInt8 := dkwX5_add_2 ++ []
def dkwX5_add_1 : List UInt8 := [192, 0, 24, 43, 182, 0, 26, 158, 0, 9, 132, 2, 255, 167, 255, 229, 42, 180, 0, 10, 28, 43]
abbrev dktX5_add_1 : List UInt8 := dkwX5_add_1 ++ dktX5_add_2
def dkwX5_add_0 : List UInt8 := [42, 180, 0, 10, 182, 0, 16, 61, 28, 158, 0, 29, 42, 180, 0, 10, 28, 4, 100, 182, 0, 20]
abbrev dktX5_add_0 : List UInt8 := dkwX5_add_0 ++ dktX5_add_1
theorem dksX5_add_0 : cX5_add.data.toList.drop 0 = dktX5_add_0 := by decide +kernel
theorem dksX5_add_1 : cX5_add.data.toList.drop 22 = dktX5_add_1 := dk_seg dksX5_add_0 22 rfl rfl
theorem dksX5_add_2 : cX5_add.data.toList.drop 44 = dktX5_add_2 := dk_seg dksX5_add_1 22 rfl rfl
theorem dX5_add_0 : decode cX5_add 0 = .ok (.aload_n 0, 1) := dk_42 (dk_at dksX5_add_0 0 rfl rfl)
theorem dX5_add_1 : decode cX5_add 1 = .ok (.getfield 10, 3) := dk_180 0 10 (dk_at dksX5_add_0 1 rfl rfl)
theorem dX5_add_4 : decode cX5_add 4 = .ok (.invokevirtual 16, 3) := dk_182 0 16 (dk_at dksX5_add_0 4 rfl rfl)
theorem dX5_add_7 : decode cX5_add 7 = .ok (.istore_n 2, 1) := dk_61 (dk_at dksX5_add_0 7 rfl rfl)
theorem dX5_add_8 : decode cX5_add 8 = .ok (.iload_n 2, 1) := dk_28 (dk_at dksX5_add_0 8 rfl rfl)
theorem dX5_add_9 : decode cX5_add 9 = .ok (.ifCond .le 29, 3) := dk_158 0 29 (dk_at dksX5_add_0 9 rfl rfl)
theorem dX5_add_12 : decode cX5_add 12 = .ok (.aload_n 0, 1) := dk_42 (dk_at dksX5_add_0 12 rfl rfl)
theorem dX5_add_13 : decode cX5_add 13 = .ok (.getfield 10, 3) := dk_180 0 10 (dk_at dksX5_add_0 13 rfl rfl)
theorem dX5_add_16 : decode cX5_add 16 = .ok (.iload_n 2, 1) := dk_28 (dk_at dksX5_add_0 16 rfl rfl)
theorem dX5_add_17 : decode cX5_add 17 = .ok (.iconst 1, 1) := dk_4 (dk_at dksX5_add_0 17 rfl rfl)
theorem dX5_add_18 : decode cX5_add 18 = .ok (.isub, 1) := dk_100 (dk_at dksX5_add_0 18 rfl rfl)
theorem dX5_add_19 : decode cX5_add 19 = .ok (.invokevirtual 20, 3) := dk_182 0 20 (dk_at dksX5_add_0 19 rfl rfl)
theorem dX5_add_22 : decode cX5_add 22 = .ok (.checkcast 24, 3) := dk_192 0 24 (dk_at dksX5_add_1 0 rfl rfl)
theorem dX5_add_25 : decode cX5_add 25 = .ok (.aload_n 1, 1) := dk_43 (dk_at dksX5_add_1 3 rfl rfl)
theorem dX5_add_26 : decode cX5_add 26 = .ok (.invokevirtual 26, 3) := dk_182 0 26 (dk_at dksX5_add_1 4 rfl rfl)
theorem dX5_add_29 : decode cX5_add 29 = .ok (.ifCond .le 9, 3) := dk_158 0 9 (dk_at dksX5_add_1 7 rfl rfl)
theorem dX5_add_32 : decode cX5_add 32 = .ok (.iinc 2 (-1), 3) := dk_132 2 255 (dk_at dksX5_add_1 10 rfl rfl)
theorem dX5_add_35 : decode cX5_add 35 = .ok (.goto (-27), 3) := dk_167 255 229 (dk_at dksX5_add_1 13 rfl rfl)
theorem dX5_add_38 : decode cX5_add 38 = .ok (.aload_n 0, 1) := dk_42 (dk_at dksX5_add_1 16 rfl rfl)
theorem dX5_add_39 : decode cX5_add 39 = .ok (.getfield 10, 3) := dk_180 0 10 (dk_at dksX5_add_1 17 rfl rfl)
theorem dX5_add_42 : decode cX5_add 42 = .ok (.iload_n 2, 1) := dk_28 (dk_at dksX5_add_1 20 rfl rfl)
theorem dX5_add_43 : decode cX5_add 43 = .ok (.aload_n 1, 1) := dk_43 (dk_at dksX5_add_1 21 rfl rfl)
theorem dX5_add_44 : decode cX5_add 44 = .ok (.invokevirtual 30, 3) := dk_182 0 30 (dk_at dksX5_add_2 0 rfl rfl)
theorem dX5_add_47 : decode cX5_add 47 = .ok (.return_, 1) := dk_177 (dk_at dksX5_add_2 3 rfl rfl)
abbrev cX20_compareTo : ByteArray := prog_17_method_7_code
def dkwX20_compareTo_0 : List UInt8 := [42, 43, 192, 0, 8, 182, 0, 23, 172]
abbrev dktX20_compareTo_0 : List UInt8 := dkwX20_compareTo_0 ++ []
theorem dksX20_compareTo_0 : cX20_compareTo.data.toList.drop 0 = dktX20_compareTo_0 := by decide +kernel
theorem dX20_compareTo_0 : decode cX20_compareTo 0 = .ok (.aload_n 0, 1) := dk_42 (dk_at dksX20_compareTo_0 0 rfl rfl)
theorem dX20_compareTo_1 : decode cX20_compareTo 1 = .ok (.aload_n 1, 1) := dk_43 (dk_at dksX20_compareTo_0 1 rfl rfl)
theorem dX20_compareTo_2 : decode cX20_compareTo 2 = .ok (.checkcast 8, 3) := dk_192 0 8 (dk_at dksX20_compareTo_0 2 rfl rfl)
theorem dX20_compareTo_5 : decode cX20_compareTo 5 = .ok (.invokevirtual 23, 3) := dk_182 0 23 (dk_at dksX20_compareTo_0 5 rfl rfl)
theorem dX20_compareTo_8 : decode cX20_compareTo 8 = .ok (.ireturn, 1) := dk_172 (dk_at dksX20_compareTo_0 8 rfl rfl)
abbrev cX7_compareTo : ByteArray := prog_27_method_4_code
def dkwX7_compareTo_0 : List UInt8 := [42, 43, 192, 0, 8, 182, 0, 24, 172]
abbrev dktX7_compareTo_0 : List UInt8 := dkwX7_compareTo_0 ++ []
theorem dksX7_compareTo_0 : cX7_compareTo.data.toList.drop 0 = dktX7_compareTo_0 := by decide +kernel
theorem dX7_compareTo_0 : decode cX7_compareTo 0 = .ok (.aload_n 0, 1) := dk_42 (dk_at dksX7_compareTo_0 0 rfl rfl)
theorem dX7_compareTo_1 : decode cX7_compareTo 1 = .ok (.aload_n 1, 1) := dk_43 (dk_at dksX7_compareTo_0 1 rfl rfl)
theorem dX7_compareTo_2 : decode cX7_compareTo 2 = .ok (.checkcast 8, 3) := dk_192 0 8 (dk_at dksX7_compareTo_0 2 rfl rfl)
theorem dX7_compareTo_5 : decode cX7_compareTo 5 = .ok (.invokevirtual 24, 3) := dk_182 0 24 (dk_at dksX7_compareTo_0 5 rfl rfl)
theorem dX7_compareTo_8 : decode cX7_compareTo 8 = .ok (.ireturn, 1) := dk_172 (dk_at dksX7_compareTo_0 8 rfl rfl)
abbrev cX5_lets : ByteArray := prog_10_method_5_code
def dkwX5_lets_2 : List UInt8 := [167, 255, 220, 177]
abbrev dktX5_lets_2 : List UInt8 := dkwX5_lets_2 ++ []
def dkwX5_lets_1 : List UInt8 := [192, 0, 24, 185, 0, 38, 2, 0, 153, 0, 12, 42, 180, 0, 10, 28, 182, 0, 58, 87, 132, 2, 255]
abbrev dktX5_lets_1 : List UInt8 := dkwX5_lets_1 ++ dktX5_lets_2
def dkwX5_lets_0 : List UInt8 := [42, 180, 0, 10, 182, 0, 16, 4, 100, 61, 28, 155, 0, 38, 43, 42, 180, 0, 10, 28, 182, 0, 20]
abbrev dktX5_lets_0 : List UInt8 := dkwX5_lets_0 ++ dktX5_lets_1
theorem dksX5_lets_0 : cX5_lets.data.toList.drop 0 = dktX5_lets_0 := by decide +kernel
theorem dksX5_lets_1 : cX5_lets.data.toList.drop 23 = dktX5_lets_1 := dk_seg dksX5_lets_0 23 rfl rfl
theorem dksX5_lets_2 : cX5_lets.data.toList.drop 46 = dktX5_lets_2 := dk_seg dksX5_lets_1 23 rfl rfl
theorem dX5_lets_0 : decode cX5_lets 0 = .ok (.aload_n 0, 1) := dk_42 (dk_at dksX5_lets_0 0 rfl rfl)
theorem dX5_lets_1 : decode cX5_lets 1 = .ok (.getfield 10, 3) := dk_180 0 10 (dk_at dksX5_lets_0 1 rfl rfl)
theorem dX5_lets_4 : decode cX5_lets 4 = .ok (.invokevirtual 16, 3) := dk_182 0 16 (dk_at dksX5_lets_0 4 rfl rfl)
theorem dX5_lets_7 : decode cX5_lets 7 = .ok (.iconst 1, 1) := dk_4 (dk_at dksX5_lets_0 7 rfl rfl)
theorem dX5_lets_8 : decode cX5_lets 8 = .ok (.isub, 1) := dk_100 (dk_at dksX5_lets_0 8 rfl rfl)
theorem dX5_lets_9 : decode cX5_lets 9 = .ok (.istore_n 2, 1) := dk_61 (dk_at dksX5_lets_0 9 rfl rfl)
theorem dX5_lets_10 : decode cX5_lets 10 = .ok (.iload_n 2, 1) := dk_28 (dk_at dksX5_lets_0 10 rfl rfl)
theorem dX5_lets_11 : decode cX5_lets 11 = .ok (.ifCond .lt 38, 3) := dk_155 0 38 (dk_at dksX5_lets_0 11 rfl rfl)
theorem dX5_lets_14 : decode cX5_lets 14 = .ok (.aload_n 1, 1) := dk_43 (dk_at dksX5_lets_0 14 rfl rfl)
theorem dX5_lets_15 : decode cX5_lets 15 = .ok (.aload_n 0, 1) := dk_42 (dk_at dksX5_lets_0 15 rfl rfl)
theorem dX5_lets_16 : decode cX5_lets 16 = .ok (.getfield 10, 3) := dk_180 0 10 (dk_at dksX5_lets_0 16 rfl rfl)
theorem dX5_lets_19 : decode cX5_lets 19 = .ok (.iload_n 2, 1) := dk_28 (dk_at dksX5_lets_0 19 rfl rfl)
theorem dX5_lets_20 : decode cX5_lets 20 = .ok (.invokevirtual 20, 3) := dk_182 0 20 (dk_at dksX5_lets_0 20 rfl rfl)
theorem dX5_lets_23 : decode cX5_lets 23 = .ok (.checkcast 24, 3) := dk_192 0 24 (dk_at dksX5_lets_1 0 rfl rfl)
theorem dX5_lets_26 : decode cX5_lets 26 = .ok (.invokeinterface 38 2, 5) := by decide +kernel
theorem dX5_lets_31 : decode cX5_lets 31 = .ok (.ifCond .eq 12, 3) := dk_153 0 12 (dk_at dksX5_lets_1 8 rfl rfl)
theorem dX5_lets_34 : decode cX5_lets 34 = .ok (.aload_n 0, 1) := dk_42 (dk_at dksX5_lets_1 11 rfl rfl)
theorem dX5_lets_35 : decode cX5_lets 35 = .ok (.getfield 10, 3) := dk_180 0 10 (dk_at dksX5_lets_1 12 rfl rfl)
theorem dX5_lets_38 : decode cX5_lets 38 = .ok (.iload_n 2, 1) := dk_28 (dk_at dksX5_lets_1 15 rfl rfl)
theorem dX5_lets_39 : decode cX5_lets 39 = .ok (.invokevirtual 58, 3) := dk_182 0 58 (dk_at dksX5_lets_1 16 rfl rfl)
theorem dX5_lets_42 : decode cX5_lets 42 = .ok (.pop, 1) := dk_87 (dk_at dksX5_lets_1 19 rfl rfl)
theorem dX5_lets_43 : decode cX5_lets 43 = .ok (.iinc 2 (-1), 3) := dk_132 2 255 (dk_at dksX5_lets_1 20 rfl rfl)
theorem dX5_lets_46 : decode cX5_lets 46 = .ok (.goto (-36), 3) := dk_167 255 220 (dk_at dksX5_lets_2 0 rfl rfl)
theorem dX5_lets_49 : decode cX5_lets 49 = .ok (.return_, 1) := dk_177 (dk_at dksX5_lets_2 3 rfl rfl)
abbrev cX1_charts : ByteArray := prog_8_method_29_code
def dkwX1_charts_5 : List UInt8 := [180, 0, 166, 79, 132, 4, 1, 167, 255, 217, 167, 255, 186, 177]
abbrev dktX1_charts_5 : List UInt8 := dkwX1_charts_5 ++ []
def dkwX1_charts_4 : List UInt8 := [180, 0, 182, 180, 0, 248, 96, 162, 0, 25, 42, 180, 0, 30, 21, 4, 50, 27, 45, 180, 0, 174]
abbrev dktX1_charts_4 : List UInt8 := dkwX1_charts_4 ++ dktX1_charts_5
def dkwX1_charts_3 : List UInt8 := [192, 0, 172, 78, 45, 180, 0, 182, 180, 1, 76, 54, 4, 21, 4, 45, 180, 0, 182, 180, 1, 76, 45]
abbrev dktX1_charts_3 : List UInt8 := dkwX1_charts_3 ++ dktX1_charts_4
def dkwX1_charts_2 : List UInt8 := [180, 0, 58, 182, 0, 171, 77, 44, 185, 0, 127, 1, 0, 153, 0, 67, 44, 185, 0, 133, 1, 0]
abbrev dktX1_charts_2 : List UInt8 := dkwX1_charts_2 ++ dktX1_charts_3
def dkwX1_charts_1 : List UInt8 := [162, 0, 21, 44, 21, 4, 50, 58, 5, 25, 5, 27, 16, 254, 79, 132, 4, 1, 167, 255, 235, 42]
abbrev dktX1_charts_1 : List UInt8 := dkwX1_charts_1 ++ dktX1_charts_2
def dkwX1_charts_0 : List UInt8 := [42, 180, 0, 203, 16, 64, 112, 60, 42, 180, 0, 30, 77, 44, 190, 62, 3, 54, 4, 21, 4, 29]
abbrev dktX1_charts_0 : List UInt8 := dkwX1_charts_0 ++ dktX1_charts_1
theorem dksX1_charts_0 : cX1_charts.data.toList.drop 0 = dktX1_charts_0 := by decide +kernel
theorem dksX1_charts_1 : cX1_charts.data.toList.drop 22 = dktX1_charts_1 := dk_seg dksX1_charts_0 22 rfl rfl
theorem dksX1_charts_2 : cX1_charts.data.toList.drop 44 = dktX1_charts_2 := dk_seg dksX1_charts_1 22 rfl rfl
theorem dksX1_charts_3 : cX1_charts.data.toList.drop 66 = dktX1_charts_3 := dk_seg dksX1_charts_2 22 rfl rfl
theorem dksX1_charts_4 : cX1_charts.data.toList.drop 89 = dktX1_charts_4 := dk_seg dksX1_charts_3 23 rfl rfl
theorem dksX1_charts_5 : cX1_charts.data.toList.drop 111 = dktX1_charts_5 := dk_seg dksX1_charts_4 22 rfl rfl
theorem dX1_charts_0 : decode cX1_charts 0 = .ok (.aload_n 0, 1) := dk_42 (dk_at dksX1_charts_0 0 rfl rfl)
theorem dX1_charts_1 : decode cX1_charts 1 = .ok (.getfield 203, 3) := dk_180 0 203 (dk_at dksX1_charts_0 1 rfl rfl)
theorem dX1_charts_4 : decode cX1_charts 4 = .ok (.bipush 64, 2) := dk_16 64 (dk_at dksX1_charts_0 4 rfl rfl)
theorem dX1_charts_6 : decode cX1_charts 6 = .ok (.irem, 1) := dk_112 (dk_at dksX1_charts_0 6 rfl rfl)
theorem dX1_charts_7 : decode cX1_charts 7 = .ok (.istore_n 1, 1) := dk_60 (dk_at dksX1_charts_0 7 rfl rfl)
theorem dX1_charts_8 : decode cX1_charts 8 = .ok (.aload_n 0, 1) := dk_42 (dk_at dksX1_charts_0 8 rfl rfl)
theorem dX1_charts_9 : decode cX1_charts 9 = .ok (.getfield 30, 3) := dk_180 0 30 (dk_at dksX1_charts_0 9 rfl rfl)
theorem dX1_charts_12 : decode cX1_charts 12 = .ok (.astore_n 2, 1) := dk_77 (dk_at dksX1_charts_0 12 rfl rfl)
theorem dX1_charts_13 : decode cX1_charts 13 = .ok (.aload_n 2, 1) := dk_44 (dk_at dksX1_charts_0 13 rfl rfl)
theorem dX1_charts_14 : decode cX1_charts 14 = .ok (.arraylength, 1) := dk_190 (dk_at dksX1_charts_0 14 rfl rfl)
theorem dX1_charts_15 : decode cX1_charts 15 = .ok (.istore_n 3, 1) := dk_62 (dk_at dksX1_charts_0 15 rfl rfl)
theorem dX1_charts_16 : decode cX1_charts 16 = .ok (.iconst 0, 1) := dk_3 (dk_at dksX1_charts_0 16 rfl rfl)
theorem dX1_charts_17 : decode cX1_charts 17 = .ok (.istore 4, 2) := dk_54 4 (dk_at dksX1_charts_0 17 rfl rfl)
theorem dX1_charts_19 : decode cX1_charts 19 = .ok (.iload 4, 2) := dk_21 4 (dk_at dksX1_charts_0 19 rfl rfl)
theorem dX1_charts_21 : decode cX1_charts 21 = .ok (.iload_n 3, 1) := dk_29 (dk_at dksX1_charts_0 21 rfl rfl)
theorem dX1_charts_22 : decode cX1_charts 22 = .ok (.if_icmp .ge 21, 3) := dk_162 0 21 (dk_at dksX1_charts_1 0 rfl rfl)
theorem dX1_charts_25 : decode cX1_charts 25 = .ok (.aload_n 2, 1) := dk_44 (dk_at dksX1_charts_1 3 rfl rfl)
theorem dX1_charts_26 : decode cX1_charts 26 = .ok (.iload 4, 2) := dk_21 4 (dk_at dksX1_charts_1 4 rfl rfl)
theorem dX1_charts_28 : decode cX1_charts 28 = .ok (.aaload, 1) := dk_50 (dk_at dksX1_charts_1 6 rfl rfl)
theorem dX1_charts_29 : decode cX1_charts 29 = .ok (.astore 5, 2) := dk_58 5 (dk_at dksX1_charts_1 7 rfl rfl)
theorem dX1_charts_31 : decode cX1_charts 31 = .ok (.aload 5, 2) := dk_25 5 (dk_at dksX1_charts_1 9 rfl rfl)
theorem dX1_charts_33 : decode cX1_charts 33 = .ok (.iload_n 1, 1) := dk_27 (dk_at dksX1_charts_1 11 rfl rfl)
theorem dX1_charts_34 : decode cX1_charts 34 = .ok (.bipush (-2), 2) := dk_16 254 (dk_at dksX1_charts_1 12 rfl rfl)
theorem dX1_charts_36 : decode cX1_charts 36 = .ok (.iastore, 1) := dk_79 (dk_at dksX1_charts_1 14 rfl rfl)
theorem dX1_charts_37 : decode cX1_charts 37 = .ok (.iinc 4 1, 3) := dk_132 4 1 (dk_at dksX1_charts_1 15 rfl rfl)
theorem dX1_charts_40 : decode cX1_charts 40 = .ok (.goto (-21), 3) := dk_167 255 235 (dk_at dksX1_charts_1 18 rfl rfl)
theorem dX1_charts_43 : decode cX1_charts 43 = .ok (.aload_n 0, 1) := dk_42 (dk_at dksX1_charts_1 21 rfl rfl)
theorem dX1_charts_44 : decode cX1_charts 44 = .ok (.getfield 58, 3) := dk_180 0 58 (dk_at dksX1_charts_2 0 rfl rfl)
theorem dX1_charts_47 : decode cX1_charts 47 = .ok (.invokevirtual 171, 3) := dk_182 0 171 (dk_at dksX1_charts_2 3 rfl rfl)
theorem dX1_charts_50 : decode cX1_charts 50 = .ok (.astore_n 2, 1) := dk_77 (dk_at dksX1_charts_2 6 rfl rfl)
theorem dX1_charts_51 : decode cX1_charts 51 = .ok (.aload_n 2, 1) := dk_44 (dk_at dksX1_charts_2 7 rfl rfl)
theorem dX1_charts_52 : decode cX1_charts 52 = .ok (.invokeinterface 127 1, 5) := by decide +kernel
theorem dX1_charts_57 : decode cX1_charts 57 = .ok (.ifCond .eq 67, 3) := dk_153 0 67 (dk_at dksX1_charts_2 13 rfl rfl)
theorem dX1_charts_60 : decode cX1_charts 60 = .ok (.aload_n 2, 1) := dk_44 (dk_at dksX1_charts_2 16 rfl rfl)
theorem dX1_charts_61 : decode cX1_charts 61 = .ok (.invokeinterface 133 1, 5) := by decide +kernel
theorem dX1_charts_66 : decode cX1_charts 66 = .ok (.checkcast 172, 3) := dk_192 0 172 (dk_at dksX1_charts_3 0 rfl rfl)
theorem dX1_charts_69 : decode cX1_charts 69 = .ok (.astore_n 3, 1) := dk_78 (dk_at dksX1_charts_3 3 rfl rfl)
theorem dX1_charts_70 : decode cX1_charts 70 = .ok (.aload_n 3, 1) := dk_45 (dk_at dksX1_charts_3 4 rfl rfl)
theorem dX1_charts_71 : decode cX1_charts 71 = .ok (.getfield 182, 3) := dk_180 0 182 (dk_at dksX1_charts_3 5 rfl rfl)
theorem dX1_charts_74 : decode cX1_charts 74 = .ok (.getfield 332, 3) := dk_180 1 76 (dk_at dksX1_charts_3 8 rfl rfl)
theorem dX1_charts_77 : decode cX1_charts 77 = .ok (.istore 4, 2) := dk_54 4 (dk_at dksX1_charts_3 11 rfl rfl)
theorem dX1_charts_79 : decode cX1_charts 79 = .ok (.iload 4, 2) := dk_21 4 (dk_at dksX1_charts_3 13 rfl rfl)
theorem dX1_charts_81 : decode cX1_charts 81 = .ok (.aload_n 3, 1) := dk_45 (dk_at dksX1_charts_3 15 rfl rfl)
theorem dX1_charts_82 : decode cX1_charts 82 = .ok (.getfield 182, 3) := dk_180 0 182 (dk_at dksX1_charts_3 16 rfl rfl)
theorem dX1_charts_85 : decode cX1_charts 85 = .ok (.getfield 332, 3) := dk_180 1 76 (dk_at dksX1_charts_3 19 rfl rfl)
theorem dX1_charts_88 : decode cX1_charts 88 = .ok (.aload_n 3, 1) := dk_45 (dk_at dksX1_charts_3 22 rfl rfl)
theorem dX1_charts_89 : decode cX1_charts 89 = .ok (.getfield 182, 3) := dk_180 0 182 (dk_at dksX1_charts_4 0 rfl rfl)
theorem dX1_charts_92 : decode cX1_charts 92 = .ok (.getfield 248, 3) := dk_180 0 248 (dk_at dksX1_charts_4 3 rfl rfl)
theorem dX1_charts_95 : decode cX1_charts 95 = .ok (.iadd, 1) := dk_96 (dk_at dksX1_charts_4 6 rfl rfl)
theorem dX1_charts_96 : decode cX1_charts 96 = .ok (.if_icmp .ge 25, 3) := dk_162 0 25 (dk_at dksX1_charts_4 7 rfl rfl)
theorem dX1_charts_99 : decode cX1_charts 99 = .ok (.aload_n 0, 1) := dk_42 (dk_at dksX1_charts_4 10 rfl rfl)
theorem dX1_charts_100 : decode cX1_charts 100 = .ok (.getfield 30, 3) := dk_180 0 30 (dk_at dksX1_charts_4 11 rfl rfl)
theorem dX1_charts_103 : decode cX1_charts 103 = .ok (.iload 4, 2) := dk_21 4 (dk_at dksX1_charts_4 14 rfl rfl)
theorem dX1_charts_105 : decode cX1_charts 105 = .ok (.aaload, 1) := dk_50 (dk_at dksX1_charts_4 16 rfl rfl)
theorem dX1_charts_106 : decode cX1_charts 106 = .ok (.iload_n 1, 1) := dk_27 (dk_at dksX1_charts_4 17 rfl rfl)
theorem dX1_charts_107 : decode cX1_charts 107 = .ok (.aload_n 3, 1) := dk_45 (dk_at dksX1_charts_4 18 rfl rfl)
theorem dX1_charts_108 : decode cX1_charts 108 = .ok (.getfield 174, 3) := dk_180 0 174 (dk_at dksX1_charts_4 19 rfl rfl)
theorem dX1_charts_111 : decode cX1_charts 111 = .ok (.getfield 166, 3) := dk_180 0 166 (dk_at dksX1_charts_5 0 rfl rfl)
theorem dX1_charts_114 : decode cX1_charts 114 = .ok (.iastore, 1) := dk_79 (dk_at dksX1_charts_5 3 rfl rfl)
theorem dX1_charts_115 : decode cX1_charts 115 = .ok (.iinc 4 1, 3) := dk_132 4 1 (dk_at dksX1_charts_5 4 rfl rfl)
theorem dX1_charts_118 : decode cX1_charts 118 = .ok (.goto (-39), 3) := dk_167 255 217 (dk_at dksX1_charts_5 7 rfl rfl)
theorem dX1_charts_121 : decode cX1_charts 121 = .ok (.goto (-70), 3) := dk_167 255 186 (dk_at dksX1_charts_5 10 rfl rfl)
theorem dX1_charts_124 : decode cX1_charts 124 = .ok (.return_, 1) := dk_177 (dk_at dksX1_charts_5 13 rfl rfl)
abbrev cX4_compare_2 : ByteArray := prog_9_method_2_code
def dkwX4_compare_2_4 : List UInt8 := [167, 0, 16, 4, 167, 0, 12, 43, 180, 0, 32, 44, 180, 0, 32, 100, 172]
abbrev dktX4_compare_2_4 : List UInt8 := dkwX4_compare_2_4 ++ []
def dkwX4_compare_2_3 : List UInt8 := [180, 0, 25, 46, 133, 105, 55, 5, 33, 22, 5, 148, 153, 0, 18, 33, 22, 5, 148, 156, 0, 7, 2]
abbrev dktX4_compare_2_3 : List UInt8 := dkwX4_compare_2_3 ++ dktX4_compare_2_4
def dkwX4_compare_2_2 : List UInt8 := [105, 66, 42, 180, 0, 1, 180, 0, 19, 44, 180, 0, 25, 47, 42, 180, 0, 1, 180, 0, 28, 43]
abbrev dktX4_compare_2_2 : List UInt8 := dkwX4_compare_2_2 ++ dktX4_compare_2_3
def dkwX4_compare_2_1 : List UInt8 := [180, 0, 1, 180, 0, 19, 43, 180, 0, 25, 47, 42, 180, 0, 1, 180, 0, 28, 44, 180, 0, 25, 46, 133]
abbrev dktX4_compare_2_1 : List UInt8 := dkwX4_compare_2_1 ++ dktX4_compare_2_2
def dkwX4_compare_2_0 : List UInt8 := [43, 180, 0, 13, 44, 180, 0, 13, 159, 0, 13, 44, 180, 0, 13, 43, 180, 0, 13, 100, 172, 42]
abbrev dktX4_compare_2_0 : List UInt8 := dkwX4_compare_2_0 ++ dktX4_compare_2_1
theorem dksX4_compare_2_0 : cX4_compare_2.data.toList.drop 0 = dktX4_compare_2_0 := by decide +kernel
theorem dksX4_compare_2_1 : cX4_compare_2.data.toList.drop 22 = dktX4_compare_2_1 := dk_seg dksX4_compare_2_0 22 rfl rfl
theorem dksX4_compare_2_2 : cX4_compare_2.data.toList.drop 46 = dktX4_compare_2_2 := dk_seg dksX4_compare_2_1 24 rfl rfl
theorem dksX4_compare_2_3 : cX4_compare_2.data.toList.drop 68 = dktX4_compare_2_3 := dk_seg dksX4_compare_2_2 22 rfl rfl
theorem dksX4_compare_2_4 : cX4_compare_2.data.toList.drop 91 = dktX4_compare_2_4 := dk_seg dksX4_compare_2_3 23 rfl rfl
theorem dX4_compare_2_0 : decode cX4_compare_2 0 = .ok (.aload_n 1, 1) := dk_43 (dk_at dksX4_compare_2_0 0 rfl rfl)
theorem dX4_compare_2_1 : decode cX4_compare_2 1 = .ok (.getfield 13, 3) := dk_180 0 13 (dk_at dksX4_compare_2_0 1 rfl rfl)
theorem dX4_compare_2_4 : decode cX4_compare_2 4 = .ok (.aload_n 2, 1) := dk_44 (dk_at dksX4_compare_2_0 4 rfl rfl)
theorem dX4_compare_2_5 : decode cX4_compare_2 5 = .ok (.getfield 13, 3) := dk_180 0 13 (dk_at dksX4_compare_2_0 5 rfl rfl)
theorem dX4_compare_2_8 : decode cX4_compare_2 8 = .ok (.if_icmp .eq 13, 3) := dk_159 0 13 (dk_at dksX4_compare_2_0 8 rfl rfl)
theorem dX4_compare_2_11 : decode cX4_compare_2 11 = .ok (.aload_n 2, 1) := dk_44 (dk_at dksX4_compare_2_0 11 rfl rfl)
theorem dX4_compare_2_12 : decode cX4_compare_2 12 = .ok (.getfield 13, 3) := dk_180 0 13 (dk_at dksX4_compare_2_0 12 rfl rfl)
theorem dX4_compare_2_15 : decode cX4_compare_2 15 = .ok (.aload_n 1, 1) := dk_43 (dk_at dksX4_compare_2_0 15 rfl rfl)
theorem dX4_compare_2_16 : decode cX4_compare_2 16 = .ok (.getfield 13, 3) := dk_180 0 13 (dk_at dksX4_compare_2_0 16 rfl rfl)
theorem dX4_compare_2_19 : decode cX4_compare_2 19 = .ok (.isub, 1) := dk_100 (dk_at dksX4_compare_2_0 19 rfl rfl)
theorem dX4_compare_2_20 : decode cX4_compare_2 20 = .ok (.ireturn, 1) := dk_172 (dk_at dksX4_compare_2_0 20 rfl rfl)
theorem dX4_compare_2_21 : decode cX4_compare_2 21 = .ok (.aload_n 0, 1) := dk_42 (dk_at dksX4_compare_2_0 21 rfl rfl)
theorem dX4_compare_2_22 : decode cX4_compare_2 22 = .ok (.getfield 1, 3) := dk_180 0 1 (dk_at dksX4_compare_2_1 0 rfl rfl)
theorem dX4_compare_2_25 : decode cX4_compare_2 25 = .ok (.getfield 19, 3) := dk_180 0 19 (dk_at dksX4_compare_2_1 3 rfl rfl)
theorem dX4_compare_2_28 : decode cX4_compare_2 28 = .ok (.aload_n 1, 1) := dk_43 (dk_at dksX4_compare_2_1 6 rfl rfl)
theorem dX4_compare_2_29 : decode cX4_compare_2 29 = .ok (.getfield 25, 3) := dk_180 0 25 (dk_at dksX4_compare_2_1 7 rfl rfl)
theorem dX4_compare_2_32 : decode cX4_compare_2 32 = .ok (.laload, 1) := dk_47 (dk_at dksX4_compare_2_1 10 rfl rfl)
theorem dX4_compare_2_33 : decode cX4_compare_2 33 = .ok (.aload_n 0, 1) := dk_42 (dk_at dksX4_compare_2_1 11 rfl rfl)
theorem dX4_compare_2_34 : decode cX4_compare_2 34 = .ok (.getfield 1, 3) := dk_180 0 1 (dk_at dksX4_compare_2_1 12 rfl rfl)
theorem dX4_compare_2_37 : decode cX4_compare_2 37 = .ok (.getfield 28, 3) := dk_180 0 28 (dk_at dksX4_compare_2_1 15 rfl rfl)
theorem dX4_compare_2_40 : decode cX4_compare_2 40 = .ok (.aload_n 2, 1) := dk_44 (dk_at dksX4_compare_2_1 18 rfl rfl)
theorem dX4_compare_2_41 : decode cX4_compare_2 41 = .ok (.getfield 25, 3) := dk_180 0 25 (dk_at dksX4_compare_2_1 19 rfl rfl)
theorem dX4_compare_2_44 : decode cX4_compare_2 44 = .ok (.iaload, 1) := dk_46 (dk_at dksX4_compare_2_1 22 rfl rfl)
theorem dX4_compare_2_45 : decode cX4_compare_2 45 = .ok (.i2l, 1) := dk_133 (dk_at dksX4_compare_2_1 23 rfl rfl)
theorem dX4_compare_2_46 : decode cX4_compare_2 46 = .ok (.lmul, 1) := dk_105 (dk_at dksX4_compare_2_2 0 rfl rfl)
theorem dX4_compare_2_47 : decode cX4_compare_2 47 = .ok (.lstore_n 3, 1) := dk_66 (dk_at dksX4_compare_2_2 1 rfl rfl)
theorem dX4_compare_2_48 : decode cX4_compare_2 48 = .ok (.aload_n 0, 1) := dk_42 (dk_at dksX4_compare_2_2 2 rfl rfl)
theorem dX4_compare_2_49 : decode cX4_compare_2 49 = .ok (.getfield 1, 3) := dk_180 0 1 (dk_at dksX4_compare_2_2 3 rfl rfl)
theorem dX4_compare_2_52 : decode cX4_compare_2 52 = .ok (.getfield 19, 3) := dk_180 0 19 (dk_at dksX4_compare_2_2 6 rfl rfl)
theorem dX4_compare_2_55 : decode cX4_compare_2 55 = .ok (.aload_n 2, 1) := dk_44 (dk_at dksX4_compare_2_2 9 rfl rfl)
theorem dX4_compare_2_56 : decode cX4_compare_2 56 = .ok (.getfield 25, 3) := dk_180 0 25 (dk_at dksX4_compare_2_2 10 rfl rfl)
theorem dX4_compare_2_59 : decode cX4_compare_2 59 = .ok (.laload, 1) := dk_47 (dk_at dksX4_compare_2_2 13 rfl rfl)
theorem dX4_compare_2_60 : decode cX4_compare_2 60 = .ok (.aload_n 0, 1) := dk_42 (dk_at dksX4_compare_2_2 14 rfl rfl)
theorem dX4_compare_2_61 : decode cX4_compare_2 61 = .ok (.getfield 1, 3) := dk_180 0 1 (dk_at dksX4_compare_2_2 15 rfl rfl)
theorem dX4_compare_2_64 : decode cX4_compare_2 64 = .ok (.getfield 28, 3) := dk_180 0 28 (dk_at dksX4_compare_2_2 18 rfl rfl)
theorem dX4_compare_2_67 : decode cX4_compare_2 67 = .ok (.aload_n 1, 1) := dk_43 (dk_at dksX4_compare_2_2 21 rfl rfl)
theorem dX4_compare_2_68 : decode cX4_compare_2 68 = .ok (.getfield 25, 3) := dk_180 0 25 (dk_at dksX4_compare_2_3 0 rfl rfl)
theorem dX4_compare_2_71 : decode cX4_compare_2 71 = .ok (.iaload, 1) := dk_46 (dk_at dksX4_compare_2_3 3 rfl rfl)
theorem dX4_compare_2_72 : decode cX4_compare_2 72 = .ok (.i2l, 1) := dk_133 (dk_at dksX4_compare_2_3 4 rfl rfl)
theorem dX4_compare_2_73 : decode cX4_compare_2 73 = .ok (.lmul, 1) := dk_105 (dk_at dksX4_compare_2_3 5 rfl rfl)
theorem dX4_compare_2_74 : decode cX4_compare_2 74 = .ok (.lstore 5, 2) := dk_55 5 (dk_at dksX4_compare_2_3 6 rfl rfl)
theorem dX4_compare_2_76 : decode cX4_compare_2 76 = .ok (.lload_n 3, 1) := dk_33 (dk_at dksX4_compare_2_3 8 rfl rfl)
theorem dX4_compare_2_77 : decode cX4_compare_2 77 = .ok (.lload 5, 2) := dk_22 5 (dk_at dksX4_compare_2_3 9 rfl rfl)
theorem dX4_compare_2_79 : decode cX4_compare_2 79 = .ok (.lcmp, 1) := dk_148 (dk_at dksX4_compare_2_3 11 rfl rfl)
theorem dX4_compare_2_80 : decode cX4_compare_2 80 = .ok (.ifCond .eq 18, 3) := dk_153 0 18 (dk_at dksX4_compare_2_3 12 rfl rfl)
theorem dX4_compare_2_83 : decode cX4_compare_2 83 = .ok (.lload_n 3, 1) := dk_33 (dk_at dksX4_compare_2_3 15 rfl rfl)
theorem dX4_compare_2_84 : decode cX4_compare_2 84 = .ok (.lload 5, 2) := dk_22 5 (dk_at dksX4_compare_2_3 16 rfl rfl)
theorem dX4_compare_2_86 : decode cX4_compare_2 86 = .ok (.lcmp, 1) := dk_148 (dk_at dksX4_compare_2_3 18 rfl rfl)
theorem dX4_compare_2_87 : decode cX4_compare_2 87 = .ok (.ifCond .ge 7, 3) := dk_156 0 7 (dk_at dksX4_compare_2_3 19 rfl rfl)
theorem dX4_compare_2_90 : decode cX4_compare_2 90 = .ok (.iconst (-1), 1) := dk_2 (dk_at dksX4_compare_2_3 22 rfl rfl)
theorem dX4_compare_2_91 : decode cX4_compare_2 91 = .ok (.goto 16, 3) := dk_167 0 16 (dk_at dksX4_compare_2_4 0 rfl rfl)
theorem dX4_compare_2_94 : decode cX4_compare_2 94 = .ok (.iconst 1, 1) := dk_4 (dk_at dksX4_compare_2_4 3 rfl rfl)
theorem dX4_compare_2_95 : decode cX4_compare_2 95 = .ok (.goto 12, 3) := dk_167 0 12 (dk_at dksX4_compare_2_4 4 rfl rfl)
theorem dX4_compare_2_98 : decode cX4_compare_2 98 = .ok (.aload_n 1, 1) := dk_43 (dk_at dksX4_compare_2_4 7 rfl rfl)
theorem dX4_compare_2_99 : decode cX4_compare_2 99 = .ok (.getfield 32, 3) := dk_180 0 32 (dk_at dksX4_compare_2_4 8 rfl rfl)
theorem dX4_compare_2_102 : decode cX4_compare_2 102 = .ok (.aload_n 2, 1) := dk_44 (dk_at dksX4_compare_2_4 11 rfl rfl)
theorem dX4_compare_2_103 : decode cX4_compare_2 103 = .ok (.getfield 32, 3) := dk_180 0 32 (dk_at dksX4_compare_2_4 12 rfl rfl)
theorem dX4_compare_2_106 : decode cX4_compare_2 106 = .ok (.isub, 1) := dk_100 (dk_at dksX4_compare_2_4 15 rfl rfl)
theorem dX4_compare_2_107 : decode cX4_compare_2 107 = .ok (.ireturn, 1) := dk_172 (dk_at dksX4_compare_2_4 16 rfl rfl)
abbrev cX23_init : ByteArray := prog_26_method_1_code
def dkwX23_init_0 : List UInt8 := [42, 27, 28, 183, 0, 1, 42, 29, 181, 0, 7, 177]
abbrev dktX23_init_0 : List UInt8 := dkwX23_init_0 ++ []
theorem dksX23_init_0 : cX23_init.data.toList.drop 0 = dktX23_init_0 := by decide +kernel
theorem dX23_init_0 : decode cX23_init 0 = .ok (.aload_n 0, 1) := dk_42 (dk_at dksX23_init_0 0 rfl rfl)
theorem dX23_init_1 : decode cX23_init 1 = .ok (.iload_n 1, 1) := dk_27 (dk_at dksX23_init_0 1 rfl rfl)
theorem dX23_init_2 : decode cX23_init 2 = .ok (.iload_n 2, 1) := dk_28 (dk_at dksX23_init_0 2 rfl rfl)
theorem dX23_init_3 : decode cX23_init 3 = .ok (.invokespecial 1, 3) := dk_183 0 1 (dk_at dksX23_init_0 3 rfl rfl)
theorem dX23_init_6 : decode cX23_init 6 = .ok (.aload_n 0, 1) := dk_42 (dk_at dksX23_init_0 6 rfl rfl)
theorem dX23_init_7 : decode cX23_init 7 = .ok (.iload_n 3, 1) := dk_29 (dk_at dksX23_init_0 7 rfl rfl)
theorem dX23_init_8 : decode cX23_init 8 = .ok (.putfield 7, 3) := dk_181 0 7 (dk_at dksX23_init_0 8 rfl rfl)
theorem dX23_init_11 : decode cX23_init 11 = .ok (.return_, 1) := dk_177 (dk_at dksX23_init_0 11 rfl rfl)
abbrev cX24_init : ByteArray := prog_23_method_1_code
def dkwX24_init_0 : List UInt8 := [42, 27, 28, 183, 0, 1, 42, 29, 181, 0, 7, 177]
abbrev dktX24_init_0 : List UInt8 := dkwX24_init_0 ++ []
theorem dksX24_init_0 : cX24_init.data.toList.drop 0 = dktX24_init_0 := by decide +kernel
theorem dX24_init_0 : decode cX24_init 0 = .ok (.aload_n 0, 1) := dk_42 (dk_at dksX24_init_0 0 rfl rfl)
theorem dX24_init_1 : decode cX24_init 1 = .ok (.iload_n 1, 1) := dk_27 (dk_at dksX24_init_0 1 rfl rfl)
theorem dX24_init_2 : decode cX24_init 2 = .ok (.iload_n 2, 1) := dk_28 (dk_at dksX24_init_0 2 rfl rfl)
theorem dX24_init_3 : decode cX24_init 3 = .ok (.invokespecial 1, 3) := dk_183 0 1 (dk_at dksX24_init_0 3 rfl rfl)
theorem dX24_init_6 : decode cX24_init 6 = .ok (.aload_n 0, 1) := dk_42 (dk_at dksX24_init_0 6 rfl rfl)
theorem dX24_init_7 : decode cX24_init 7 = .ok (.iload_n 3, 1) := dk_29 (dk_at dksX24_init_0 7 rfl rfl)
theorem dX24_init_8 : decode cX24_init 8 = .ok (.putfield 7, 3) := dk_181 0 7 (dk_at dksX24_init_0 8 rfl rfl)
theorem dX24_init_11 : decode cX24_init 11 = .ok (.return_, 1) := dk_177 (dk_at dksX24_init_0 11 rfl rfl)
abbrev cX3_put : ByteArray := prog_24_method_3_code
def dkwX3_put_1 : List UInt8 := [181, 0, 18, 42, 180, 0, 9, 27, 28, 79, 177]
abbrev dktX3_put_1 : List UInt8 := dkwX3_put_1 ++ []
def dkwX3_put_0 : List UInt8 := [42, 89, 180, 0, 18, 42, 180, 0, 9, 27, 46, 16, 254, 160, 0, 7, 4, 167, 0, 4, 3, 96]
abbrev dktX3_put_0 : List UInt8 := dkwX3_put_0 ++ dktX3_put_1
theorem dksX3_put_0 : cX3_put.data.toList.drop 0 = dktX3_put_0 := by decide +kernel
theorem dksX3_put_1 : cX3_put.data.toList.drop 22 = dktX3_put_1 := dk_seg dksX3_put_0 22 rfl rfl
theorem dX3_put_0 : decode cX3_put 0 = .ok (.aload_n 0, 1) := dk_42 (dk_at dksX3_put_0 0 rfl rfl)
theorem dX3_put_1 : decode cX3_put 1 = .ok (.dup, 1) := dk_89 (dk_at dksX3_put_0 1 rfl rfl)
theorem dX3_put_2 : decode cX3_put 2 = .ok (.getfield 18, 3) := dk_180 0 18 (dk_at dksX3_put_0 2 rfl rfl)
theorem dX3_put_5 : decode cX3_put 5 = .ok (.aload_n 0, 1) := dk_42 (dk_at dksX3_put_0 5 rfl rfl)
theorem dX3_put_6 : decode cX3_put 6 = .ok (.getfield 9, 3) := dk_180 0 9 (dk_at dksX3_put_0 6 rfl rfl)
theorem dX3_put_9 : decode cX3_put 9 = .ok (.iload_n 1, 1) := dk_27 (dk_at dksX3_put_0 9 rfl rfl)
theorem dX3_put_10 : decode cX3_put 10 = .ok (.iaload, 1) := dk_46 (dk_at dksX3_put_0 10 rfl rfl)
theorem dX3_put_11 : decode cX3_put 11 = .ok (.bipush (-2), 2) := dk_16 254 (dk_at dksX3_put_0 11 rfl rfl)
theorem dX3_put_13 : decode cX3_put 13 = .ok (.if_icmp .ne 7, 3) := dk_160 0 7 (dk_at dksX3_put_0 13 rfl rfl)
theorem dX3_put_16 : decode cX3_put 16 = .ok (.iconst 1, 1) := dk_4 (dk_at dksX3_put_0 16 rfl rfl)
theorem dX3_put_17 : decode cX3_put 17 = .ok (.goto 4, 3) := dk_167 0 4 (dk_at dksX3_put_0 17 rfl rfl)
theorem dX3_put_20 : decode cX3_put 20 = .ok (.iconst 0, 1) := dk_3 (dk_at dksX3_put_0 20 rfl rfl)
theorem dX3_put_21 : decode cX3_put 21 = .ok (.iadd, 1) := dk_96 (dk_at dksX3_put_0 21 rfl rfl)
theorem dX3_put_22 : decode cX3_put 22 = .ok (.putfield 18, 3) := dk_181 0 18 (dk_at dksX3_put_1 0 rfl rfl)
theorem dX3_put_25 : decode cX3_put 25 = .ok (.aload_n 0, 1) := dk_42 (dk_at dksX3_put_1 3 rfl rfl)
theorem dX3_put_26 : decode cX3_put 26 = .ok (.getfield 9, 3) := dk_180 0 9 (dk_at dksX3_put_1 4 rfl rfl)
theorem dX3_put_29 : decode cX3_put 29 = .ok (.iload_n 1, 1) := dk_27 (dk_at dksX3_put_1 7 rfl rfl)
theorem dX3_put_30 : decode cX3_put 30 = .ok (.iload_n 2, 1) := dk_28 (dk_at dksX3_put_1 8 rfl rfl)
theorem dX3_put_31 : decode cX3_put 31 = .ok (.iastore, 1) := dk_79 (dk_at dksX3_put_1 9 rfl rfl)
theorem dX3_put_32 : decode cX3_put 32 = .ok (.return_, 1) := dk_177 (dk_at dksX3_put_1 10 rfl rfl)
abbrev cX20_meets : ByteArray := prog_17_method_2_code
def dkwX20_meets_0 : List UInt8 := [42, 180, 0, 7, 28, 162, 0, 15, 27, 42, 180, 0, 13, 162, 0, 7, 4, 167, 0, 4, 3, 172]
abbrev dktX20_meets_0 : List UInt8 := dkwX20_meets_0 ++ []
theorem dksX20_meets_0 : cX20_meets.data.toList.drop 0 = dktX20_meets_0 := by decide +kernel
theorem dX20_meets_0 : decode cX20_meets 0 = .ok (.aload_n 0, 1) := dk_42 (dk_at dksX20_meets_0 0 rfl rfl)
theorem dX20_meets_1 : decode cX20_meets 1 = .ok (.getfield 7, 3) := dk_180 0 7 (dk_at dksX20_meets_0 1 rfl rfl)
theorem dX20_meets_4 : decode cX20_meets 4 = .ok (.iload_n 2, 1) := dk_28 (dk_at dksX20_meets_0 4 rfl rfl)
theorem dX20_meets_5 : decode cX20_meets 5 = .ok (.if_icmp .ge 15, 3) := dk_162 0 15 (dk_at dksX20_meets_0 5 rfl rfl)
theorem dX20_meets_8 : decode cX20_meets 8 = .ok (.iload_n 1, 1) := dk_27 (dk_at dksX20_meets_0 8 rfl rfl)
theorem dX20_meets_9 : decode cX20_meets 9 = .ok (.aload_n 0, 1) := dk_42 (dk_at dksX20_meets_0 9 rfl rfl)
theorem dX20_meets_10 : decode cX20_meets 10 = .ok (.getfield 13, 3) := dk_180 0 13 (dk_at dksX20_meets_0 10 rfl rfl)
theorem dX20_meets_13 : decode cX20_meets 13 = .ok (.if_icmp .ge 7, 3) := dk_162 0 7 (dk_at dksX20_meets_0 13 rfl rfl)
theorem dX20_meets_16 : decode cX20_meets 16 = .ok (.iconst 1, 1) := dk_4 (dk_at dksX20_meets_0 16 rfl rfl)
theorem dX20_meets_17 : decode cX20_meets 17 = .ok (.goto 4, 3) := dk_167 0 4 (dk_at dksX20_meets_0 17 rfl rfl)
theorem dX20_meets_20 : decode cX20_meets 20 = .ok (.iconst 0, 1) := dk_3 (dk_at dksX20_meets_0 20 rfl rfl)
theorem dX20_meets_21 : decode cX20_meets 21 = .ok (.ireturn, 1) := dk_172 (dk_at dksX20_meets_0 21 rfl rfl)
abbrev cX1_lambda_lets_3 : ByteArray := prog_8_method_43_code
def dkwX1_lambda_lets_3_0 : List UInt8 := [43, 193, 1, 86, 153, 0, 18, 43, 182, 1, 229, 42, 180, 0, 166, 160, 0, 7, 4, 167, 0, 4, 3, 172]
abbrev dktX1_lambda_lets_3_0 : List UInt8 := dkwX1_lambda_lets_3_0 ++ []
theorem dksX1_lambda_lets_3_0 : cX1_lambda_lets_3.data.toList.drop 0 = dktX1_lambda_lets_3_0 := by decide +kernel
theorem dX1_lambda_lets_3_0 : decode cX1_lambda_lets_3 0 = .ok (.aload_n 1, 1) := dk_43 (dk_at dksX1_lambda_lets_3_0 0 rfl rfl)
theorem dX1_lambda_lets_3_1 : decode cX1_lambda_lets_3 1 = .ok (.instanceof 342, 3) := dk_193 1 86 (dk_at dksX1_lambda_lets_3_0 1 rfl rfl)
theorem dX1_lambda_lets_3_4 : decode cX1_lambda_lets_3 4 = .ok (.ifCond .eq 18, 3) := dk_153 0 18 (dk_at dksX1_lambda_lets_3_0 4 rfl rfl)
theorem dX1_lambda_lets_3_7 : decode cX1_lambda_lets_3 7 = .ok (.aload_n 1, 1) := dk_43 (dk_at dksX1_lambda_lets_3_0 7 rfl rfl)
theorem dX1_lambda_lets_3_8 : decode cX1_lambda_lets_3 8 = .ok (.invokevirtual 485, 3) := dk_182 1 229 (dk_at dksX1_lambda_lets_3_0 8 rfl rfl)
theorem dX1_lambda_lets_3_11 : decode cX1_lambda_lets_3 11 = .ok (.aload_n 0, 1) := dk_42 (dk_at dksX1_lambda_lets_3_0 11 rfl rfl)
theorem dX1_lambda_lets_3_12 : decode cX1_lambda_lets_3 12 = .ok (.getfield 166, 3) := dk_180 0 166 (dk_at dksX1_lambda_lets_3_0 12 rfl rfl)
theorem dX1_lambda_lets_3_15 : decode cX1_lambda_lets_3 15 = .ok (.if_icmp .ne 7, 3) := dk_160 0 7 (dk_at dksX1_lambda_lets_3_0 15 rfl rfl)
theorem dX1_lambda_lets_3_18 : decode cX1_lambda_lets_3 18 = .ok (.iconst 1, 1) := dk_4 (dk_at dksX1_lambda_lets_3_0 18 rfl rfl)
theorem dX1_lambda_lets_3_19 : decode cX1_lambda_lets_3 19 = .ok (.goto 4, 3) := dk_167 0 4 (dk_at dksX1_lambda_lets_3_0 19 rfl rfl)
theorem dX1_lambda_lets_3_22 : decode cX1_lambda_lets_3 22 = .ok (.iconst 0, 1) := dk_3 (dk_at dksX1_lambda_lets_3_0 22 rfl rfl)
theorem dX1_lambda_lets_3_23 : decode cX1_lambda_lets_3 23 = .ok (.ireturn, 1) := dk_172 (dk_at dksX1_lambda_lets_3_0 23 rfl rfl)
abbrev cX1_lambda_forgets_5 : ByteArray := prog_8_method_41_code
def dkwX1_lambda_forgets_5_0 : List UInt8 := [43, 193, 1, 103, 153, 0, 18, 43, 182, 1, 229, 42, 180, 0, 166, 160, 0, 7, 4, 167, 0, 4, 3, 172]
abbrev dktX1_lambda_forgets_5_0 : List UInt8 := dkwX1_lambda_forgets_5_0 ++ []
theorem dksX1_lambda_forgets_5_0 : cX1_lambda_forgets_5.data.toList.drop 0 = dktX1_lambda_forgets_5_0 := by decide +kernel
theorem dX1_lambda_forgets_5_0 : decode cX1_lambda_forgets_5 0 = .ok (.aload_n 1, 1) := dk_43 (dk_at dksX1_lambda_forgets_5_0 0 rfl rfl)
theorem dX1_lambda_forgets_5_1 : decode cX1_lambda_forgets_5 1 = .ok (.instanceof 359, 3) := dk_193 1 103 (dk_at dksX1_lambda_forgets_5_0 1 rfl rfl)
theorem dX1_lambda_forgets_5_4 : decode cX1_lambda_forgets_5 4 = .ok (.ifCond .eq 18, 3) := dk_153 0 18 (dk_at dksX1_lambda_forgets_5_0 4 rfl rfl)
theorem dX1_lambda_forgets_5_7 : decode cX1_lambda_forgets_5 7 = .ok (.aload_n 1, 1) := dk_43 (dk_at dksX1_lambda_forgets_5_0 7 rfl rfl)
theorem dX1_lambda_forgets_5_8 : decode cX1_lambda_forgets_5 8 = .ok (.invokevirtual 485, 3) := dk_182 1 229 (dk_at dksX1_lambda_forgets_5_0 8 rfl rfl)
theorem dX1_lambda_forgets_5_11 : decode cX1_lambda_forgets_5 11 = .ok (.aload_n 0, 1) := dk_42 (dk_at dksX1_lambda_forgets_5_0 11 rfl rfl)
theorem dX1_lambda_forgets_5_12 : decode cX1_lambda_forgets_5 12 = .ok (.getfield 166, 3) := dk_180 0 166 (dk_at dksX1_lambda_forgets_5_0 12 rfl rfl)
theorem dX1_lambda_forgets_5_15 : decode cX1_lambda_forgets_5 15 = .ok (.if_icmp .ne 7, 3) := dk_160 0 7 (dk_at dksX1_lambda_forgets_5_0 15 rfl rfl)
theorem dX1_lambda_forgets_5_18 : decode cX1_lambda_forgets_5 18 = .ok (.iconst 1, 1) := dk_4 (dk_at dksX1_lambda_forgets_5_0 18 rfl rfl)
theorem dX1_lambda_forgets_5_19 : decode cX1_lambda_forgets_5 19 = .ok (.goto 4, 3) := dk_167 0 4 (dk_at dksX1_lambda_forgets_5_0 19 rfl rfl)
theorem dX1_lambda_forgets_5_22 : decode cX1_lambda_forgets_5 22 = .ok (.iconst 0, 1) := dk_3 (dk_at dksX1_lambda_forgets_5_0 22 rfl rfl)
theorem dX1_lambda_forgets_5_23 : decode cX1_lambda_forgets_5 23 = .ok (.ireturn, 1) := dk_172 (dk_at dksX1_lambda_forgets_5_0 23 rfl rfl)
abbrev cX1_lambda_mayKeep_6 : ByteArray := prog_8_method_40_code
theorem dX1_lambda_mayKeep_6_0 : decode cX1_lambda_mayKeep_6 0 = .ok (.aload_n 0, 1) := by decide +kernel
theorem dX1_lambda_mayKeep_6_1 : decode cX1_lambda_mayKeep_6 1 = .ok (.instanceof 342, 3) := by decide +kernel
theorem dX1_lambda_mayKeep_6_4 : decode cX1_lambda_mayKeep_6 4 = .ok (.ireturn, 1) := by decide +kernel
abbrev cX1_lambda_letsSpan_4 : ByteArray := prog_8_method_42_code
def dkwX1_lambda_letsSpan_4_0 : List UInt8 := [43, 193, 1, 225, 153, 0, 18, 43, 182, 1, 229, 42, 180, 0, 153, 160, 0, 7, 4, 167, 0, 4, 3, 172]
abbrev dktX1_lambda_letsSpan_4_0 : List UInt8 := dkwX1_lambda_letsSpan_4_0 ++ []
theorem dksX1_lambda_letsSpan_4_0 : cX1_lambda_letsSpan_4.data.toList.drop 0 = dktX1_lambda_letsSpan_4_0 := by decide +kernel
theorem dX1_lambda_letsSpan_4_0 : decode cX1_lambda_letsSpan_4 0 = .ok (.aload_n 1, 1) := dk_43 (dk_at dksX1_lambda_letsSpan_4_0 0 rfl rfl)
theorem dX1_lambda_letsSpan_4_1 : decode cX1_lambda_letsSpan_4 1 = .ok (.instanceof 481, 3) := dk_193 1 225 (dk_at dksX1_lambda_letsSpan_4_0 1 rfl rfl)
theorem dX1_lambda_letsSpan_4_4 : decode cX1_lambda_letsSpan_4 4 = .ok (.ifCond .eq 18, 3) := dk_153 0 18 (dk_at dksX1_lambda_letsSpan_4_0 4 rfl rfl)
theorem dX1_lambda_letsSpan_4_7 : decode cX1_lambda_letsSpan_4 7 = .ok (.aload_n 1, 1) := dk_43 (dk_at dksX1_lambda_letsSpan_4_0 7 rfl rfl)
theorem dX1_lambda_letsSpan_4_8 : decode cX1_lambda_letsSpan_4 8 = .ok (.invokevirtual 485, 3) := dk_182 1 229 (dk_at dksX1_lambda_letsSpan_4_0 8 rfl rfl)
theorem dX1_lambda_letsSpan_4_11 : decode cX1_lambda_letsSpan_4 11 = .ok (.aload_n 0, 1) := dk_42 (dk_at dksX1_lambda_letsSpan_4_0 11 rfl rfl)
theorem dX1_lambda_letsSpan_4_12 : decode cX1_lambda_letsSpan_4 12 = .ok (.getfield 153, 3) := dk_180 0 153 (dk_at dksX1_lambda_letsSpan_4_0 12 rfl rfl)
theorem dX1_lambda_letsSpan_4_15 : decode cX1_lambda_letsSpan_4 15 = .ok (.if_icmp .ne 7, 3) := dk_160 0 7 (dk_at dksX1_lambda_letsSpan_4_0 15 rfl rfl)
theorem dX1_lambda_letsSpan_4_18 : decode cX1_lambda_letsSpan_4 18 = .ok (.iconst 1, 1) := dk_4 (dk_at dksX1_lambda_letsSpan_4_0 18 rfl rfl)
theorem dX1_lambda_letsSpan_4_19 : decode cX1_lambda_letsSpan_4 19 = .ok (.goto 4, 3) := dk_167 0 4 (dk_at dksX1_lambda_letsSpan_4_0 19 rfl rfl)
theorem dX1_lambda_letsSpan_4_22 : decode cX1_lambda_letsSpan_4 22 = .ok (.iconst 0, 1) := dk_3 (dk_at dksX1_lambda_letsSpan_4_0 22 rfl rfl)
theorem dX1_lambda_letsSpan_4_23 : decode cX1_lambda_letsSpan_4 23 = .ok (.ireturn, 1) := dk_172 (dk_at dksX1_lambda_letsSpan_4_0 23 rfl rfl)
abbrev cX1_lambda_pass_2 : ByteArray := prog_8_method_44_code
theorem dX1_lambda_pass_2_0 : decode cX1_lambda_pass_2 0 = .ok (.aload_n 0, 1) := by decide +kernel
theorem dX1_lambda_pass_2_1 : decode cX1_lambda_pass_2 1 = .ok (.instanceof 359, 3) := by decide +kernel
theorem dX1_lambda_pass_2_4 : decode cX1_lambda_pass_2 4 = .ok (.ireturn, 1) := by decide +kernel
abbrev cX1_lambda_fits_0 : ByteArray := prog_8_method_46_code
def dkwX1_lambda_fits_0_0 : List UInt8 := [43, 42, 180, 0, 245, 182, 1, 233, 172]
abbrev dktX1_lambda_fits_0_0 : List UInt8 := dkwX1_lambda_fits_0_0 ++ []
theorem dksX1_lambda_fits_0_0 : cX1_lambda_fits_0.data.toList.drop 0 = dktX1_lambda_fits_0_0 := by decide +kernel
theorem dX1_lambda_fits_0_0 : decode cX1_lambda_fits_0 0 = .ok (.aload_n 1, 1) := dk_43 (dk_at dksX1_lambda_fits_0_0 0 rfl rfl)
theorem dX1_lambda_fits_0_1 : decode cX1_lambda_fits_0 1 = .ok (.aload_n 0, 1) := dk_42 (dk_at dksX1_lambda_fits_0_0 1 rfl rfl)
theorem dX1_lambda_fits_0_2 : decode cX1_lambda_fits_0 2 = .ok (.getfield 245, 3) := dk_180 0 245 (dk_at dksX1_lambda_fits_0_0 2 rfl rfl)
theorem dX1_lambda_fits_0_5 : decode cX1_lambda_fits_0 5 = .ok (.invokevirtual 489, 3) := dk_182 1 233 (dk_at dksX1_lambda_fits_0_0 5 rfl rfl)
theorem dX1_lambda_fits_0_8 : decode cX1_lambda_fits_0 8 = .ok (.ireturn, 1) := dk_172 (dk_at dksX1_lambda_fits_0_0 8 rfl rfl)
abbrev cX1_lambda_firstTick_1 : ByteArray := prog_8_method_45_code
def dkwX1_lambda_firstTick_1_0 : List UInt8 := [43, 42, 180, 0, 245, 182, 1, 233, 172]
abbrev dktX1_lambda_firstTick_1_0 : List UInt8 := dkwX1_lambda_firstTick_1_0 ++ []
theorem dksX1_lambda_firstTick_1_0 : cX1_lambda_firstTick_1.data.toList.drop 0 = dktX1_lambda_firstTick_1_0 := by decide +kernel
theorem dX1_lambda_firstTick_1_0 : decode cX1_lambda_firstTick_1 0 = .ok (.aload_n 1, 1) := dk_43 (dk_at dksX1_lambda_firstTick_1_0 0 rfl rfl)
theorem dX1_lambda_firstTick_1_1 : decode cX1_lambda_firstTick_1 1 = .ok (.aload_n 0, 1) := dk_42 (dk_at dksX1_lambda_firstTick_1_0 1 rfl rfl)
theorem dX1_lambda_firstTick_1_2 : decode cX1_lambda_firstTick_1 2 = .ok (.getfield 245, 3) := dk_180 0 245 (dk_at dksX1_lambda_firstTick_1_0 2 rfl rfl)
theorem dX1_lambda_firstTick_1_5 : decode cX1_lambda_firstTick_1 5 = .ok (.invokevirtual 489, 3) := dk_182 1 233 (dk_at dksX1_lambda_firstTick_1_0 5 rfl rfl)
theorem dX1_lambda_firstTick_1_8 : decode cX1_lambda_firstTick_1 8 = .ok (.ireturn, 1) := dk_172 (dk_at dksX1_lambda_firstTick_1_0 8 rfl rfl)
abbrev cX0_lambda_holder_0 : ByteArray := prog_1_method_62_code
theorem dX0_lambda_holder_0_0 : decode cX0_lambda_holder_0 0 = .ok (.aload_n 0, 1) := by decide +kernel
theorem dX0_lambda_holder_0_1 : decode cX0_lambda_holder_0 1 = .ok (.instanceof 516, 3) := by decide +kernel
theorem dX0_lambda_holder_0_4 : decode cX0_lambda_holder_0 4 = .ok (.ireturn, 1) := by decide +kernel
abbrev cX0_lambda_promised_1 : ByteArray := prog_1_method_61_code
theorem dX0_lambda_promised_1_0 : decode cX0_lambda_promised_1 0 = .ok (.aload_n 0, 1) := by decide +kernel
theorem dX0_lambda_promised_1_1 : decode cX0_lambda_promised_1 1 = .ok (.instanceof 514, 3) := by decide +kernel
theorem dX0_lambda_promised_1_4 : decode cX0_lambda_promised_1 4 = .ok (.ireturn, 1) := by decide +kernel
abbrev cX0_lambda_shrunk_2 : ByteArray := prog_1_method_60_code
def dkwX0_lambda_shrunk_2_0 : List UInt8 := [42, 43, 182, 1, 255, 172]
abbrev dktX0_lambda_shrunk_2_0 : List UInt8 := dkwX0_lambda_shrunk_2_0 ++ []
theorem dksX0_lambda_shrunk_2_0 : cX0_lambda_shrunk_2.data.toList.drop 0 = dktX0_lambda_shrunk_2_0 := by decide +kernel
theorem dX0_lambda_shrunk_2_0 : decode cX0_lambda_shrunk_2 0 = .ok (.aload_n 0, 1) := dk_42 (dk_at dksX0_lambda_shrunk_2_0 0 rfl rfl)
theorem dX0_lambda_shrunk_2_1 : decode cX0_lambda_shrunk_2 1 = .ok (.aload_n 1, 1) := dk_43 (dk_at dksX0_lambda_shrunk_2_0 1 rfl rfl)
theorem dX0_lambda_shrunk_2_2 : decode cX0_lambda_shrunk_2 2 = .ok (.invokevirtual 511, 3) := dk_182 1 255 (dk_at dksX0_lambda_shrunk_2_0 2 rfl rfl)
theorem dX0_lambda_shrunk_2_5 : decode cX0_lambda_shrunk_2 5 = .ok (.ireturn, 1) := dk_172 (dk_at dksX0_lambda_shrunk_2_0 5 rfl rfl)
abbrev cX27_lambda_freeFor_0 : ByteArray := prog_21_method_7_code
def dkwX27_lambda_freeFor_0_1 : List UInt8 := [182, 0, 181, 153, 0, 7, 4, 167, 0, 4, 3, 172]
abbrev dktX27_lambda_freeFor_0_1 : List UInt8 := dkwX27_lambda_freeFor_0_1 ++ []
def dkwX27_lambda_freeFor_0_0 : List UInt8 := [42, 180, 0, 41, 45, 182, 0, 173, 154, 0, 24, 42, 45, 27, 182, 0, 177, 154, 0, 15, 45, 28]
abbrev dktX27_lambda_freeFor_0_0 : List UInt8 := dkwX27_lambda_freeFor_0_0 ++ dktX27_lambda_freeFor_0_1
theorem dksX27_lambda_freeFor_0_0 : cX27_lambda_freeFor_0.data.toList.drop 0 = dktX27_lambda_freeFor_0_0 := by decide +kernel
theorem dksX27_lambda_freeFor_0_1 : cX27_lambda_freeFor_0.data.toList.drop 22 = dktX27_lambda_freeFor_0_1 := dk_seg dksX27_lambda_freeFor_0_0 22 rfl rfl
theorem dX27_lambda_freeFor_0_0 : decode cX27_lambda_freeFor_0 0 = .ok (.aload_n 0, 1) := dk_42 (dk_at dksX27_lambda_freeFor_0_0 0 rfl rfl)
theorem dX27_lambda_freeFor_0_1 : decode cX27_lambda_freeFor_0 1 = .ok (.getfield 41, 3) := dk_180 0 41 (dk_at dksX27_lambda_freeFor_0_0 1 rfl rfl)
theorem dX27_lambda_freeFor_0_4 : decode cX27_lambda_freeFor_0 4 = .ok (.aload_n 3, 1) := dk_45 (dk_at dksX27_lambda_freeFor_0_0 4 rfl rfl)
theorem dX27_lambda_freeFor_0_5 : decode cX27_lambda_freeFor_0 5 = .ok (.invokevirtual 173, 3) := dk_182 0 173 (dk_at dksX27_lambda_freeFor_0_0 5 rfl rfl)
theorem dX27_lambda_freeFor_0_8 : decode cX27_lambda_freeFor_0 8 = .ok (.ifCond .ne 24, 3) := dk_154 0 24 (dk_at dksX27_lambda_freeFor_0_0 8 rfl rfl)
theorem dX27_lambda_freeFor_0_11 : decode cX27_lambda_freeFor_0 11 = .ok (.aload_n 0, 1) := dk_42 (dk_at dksX27_lambda_freeFor_0_0 11 rfl rfl)
theorem dX27_lambda_freeFor_0_12 : decode cX27_lambda_freeFor_0 12 = .ok (.aload_n 3, 1) := dk_45 (dk_at dksX27_lambda_freeFor_0_0 12 rfl rfl)
theorem dX27_lambda_freeFor_0_13 : decode cX27_lambda_freeFor_0 13 = .ok (.iload_n 1, 1) := dk_27 (dk_at dksX27_lambda_freeFor_0_0 13 rfl rfl)
theorem dX27_lambda_freeFor_0_14 : decode cX27_lambda_freeFor_0 14 = .ok (.invokevirtual 177, 3) := dk_182 0 177 (dk_at dksX27_lambda_freeFor_0_0 14 rfl rfl)
theorem dX27_lambda_freeFor_0_17 : decode cX27_lambda_freeFor_0 17 = .ok (.ifCond .ne 15, 3) := dk_154 0 15 (dk_at dksX27_lambda_freeFor_0_0 17 rfl rfl)
theorem dX27_lambda_freeFor_0_20 : decode cX27_lambda_freeFor_0 20 = .ok (.aload_n 3, 1) := dk_45 (dk_at dksX27_lambda_freeFor_0_0 20 rfl rfl)
theorem dX27_lambda_freeFor_0_21 : decode cX27_lambda_freeFor_0 21 = .ok (.iload_n 2, 1) := dk_28 (dk_at dksX27_lambda_freeFor_0_0 21 rfl rfl)
theorem dX27_lambda_freeFor_0_22 : decode cX27_lambda_freeFor_0 22 = .ok (.invokevirtual 181, 3) := dk_182 0 181 (dk_at dksX27_lambda_freeFor_0_1 0 rfl rfl)
theorem dX27_lambda_freeFor_0_25 : decode cX27_lambda_freeFor_0 25 = .ok (.ifCond .eq 7, 3) := dk_153 0 7 (dk_at dksX27_lambda_freeFor_0_1 3 rfl rfl)
theorem dX27_lambda_freeFor_0_28 : decode cX27_lambda_freeFor_0 28 = .ok (.iconst 1, 1) := dk_4 (dk_at dksX27_lambda_freeFor_0_1 6 rfl rfl)
theorem dX27_lambda_freeFor_0_29 : decode cX27_lambda_freeFor_0 29 = .ok (.goto 4, 3) := dk_167 0 4 (dk_at dksX27_lambda_freeFor_0_1 7 rfl rfl)
theorem dX27_lambda_freeFor_0_32 : decode cX27_lambda_freeFor_0 32 = .ok (.iconst 0, 1) := dk_3 (dk_at dksX27_lambda_freeFor_0_1 10 rfl rfl)
theorem dX27_lambda_freeFor_0_33 : decode cX27_lambda_freeFor_0 33 = .ok (.ireturn, 1) := dk_172 (dk_at dksX27_lambda_freeFor_0_1 11 rfl rfl)
abbrev cX0_lambda_areTogether_3 : ByteArray := prog_1_method_59_code
def dkwX0_lambda_areTogether_3_0 : List UInt8 := [42, 44, 182, 1, 251, 154, 0, 15, 43, 44, 182, 1, 255, 153, 0, 7, 4, 167, 0, 4, 3, 172]
abbrev dktX0_lambda_areTogether_3_0 : List UInt8 := dkwX0_lambda_areTogether_3_0 ++ []
theorem dksX0_lambda_areTogether_3_0 : cX0_lambda_areTogether_3.data.toList.drop 0 = dktX0_lambda_areTogether_3_0 := by decide +kernel
theorem dX0_lambda_areTogether_3_0 : decode cX0_lambda_areTogether_3 0 = .ok (.aload_n 0, 1) := dk_42 (dk_at dksX0_lambda_areTogether_3_0 0 rfl rfl)
theorem dX0_lambda_areTogether_3_1 : decode cX0_lambda_areTogether_3 1 = .ok (.aload_n 2, 1) := dk_44 (dk_at dksX0_lambda_areTogether_3_0 1 rfl rfl)
theorem dX0_lambda_areTogether_3_2 : decode cX0_lambda_areTogether_3 2 = .ok (.invokevirtual 507, 3) := dk_182 1 251 (dk_at dksX0_lambda_areTogether_3_0 2 rfl rfl)
theorem dX0_lambda_areTogether_3_5 : decode cX0_lambda_areTogether_3 5 = .ok (.ifCond .ne 15, 3) := dk_154 0 15 (dk_at dksX0_lambda_areTogether_3_0 5 rfl rfl)
theorem dX0_lambda_areTogether_3_8 : decode cX0_lambda_areTogether_3 8 = .ok (.aload_n 1, 1) := dk_43 (dk_at dksX0_lambda_areTogether_3_0 8 rfl rfl)
theorem dX0_lambda_areTogether_3_9 : decode cX0_lambda_areTogether_3 9 = .ok (.aload_n 2, 1) := dk_44 (dk_at dksX0_lambda_areTogether_3_0 9 rfl rfl)
theorem dX0_lambda_areTogether_3_10 : decode cX0_lambda_areTogether_3 10 = .ok (.invokevirtual 511, 3) := dk_182 1 255 (dk_at dksX0_lambda_areTogether_3_0 10 rfl rfl)
theorem dX0_lambda_areTogether_3_13 : decode cX0_lambda_areTogether_3 13 = .ok (.ifCond .eq 7, 3) := dk_153 0 7 (dk_at dksX0_lambda_areTogether_3_0 13 rfl rfl)
theorem dX0_lambda_areTogether_3_16 : decode cX0_lambda_areTogether_3 16 = .ok (.iconst 1, 1) := dk_4 (dk_at dksX0_lambda_areTogether_3_0 16 rfl rfl)
theorem dX0_lambda_areTogether_3_17 : decode cX0_lambda_areTogether_3 17 = .ok (.goto 4, 3) := dk_167 0 4 (dk_at dksX0_lambda_areTogether_3_0 17 rfl rfl)
theorem dX0_lambda_areTogether_3_20 : decode cX0_lambda_areTogether_3 20 = .ok (.iconst 0, 1) := dk_3 (dk_at dksX0_lambda_areTogether_3_0 20 rfl rfl)
theorem dX0_lambda_areTogether_3_21 : decode cX0_lambda_areTogether_3 21 = .ok (.ireturn, 1) := dk_172 (dk_at dksX0_lambda_areTogether_3_0 21 rfl rfl)
abbrev cX0_lambda_areTogether_4 : ByteArray := prog_1_method_58_code
def dkwX0_lambda_areTogether_4_0 : List UInt8 := [42, 44, 182, 1, 251, 154, 0, 15, 43, 44, 182, 1, 255, 153, 0, 7, 4, 167, 0, 4, 3, 172]
abbrev dktX0_lambda_areTogether_4_0 : List UInt8 := dkwX0_lambda_areTogether_4_0 ++ []
theorem dksX0_lambda_areTogether_4_0 : cX0_lambda_areTogether_4.data.toList.drop 0 = dktX0_lambda_areTogether_4_0 := by decide +kernel
theorem dX0_lambda_areTogether_4_0 : decode cX0_lambda_areTogether_4 0 = .ok (.aload_n 0, 1) := dk_42 (dk_at dksX0_lambda_areTogether_4_0 0 rfl rfl)
theorem dX0_lambda_areTogether_4_1 : decode cX0_lambda_areTogether_4 1 = .ok (.aload_n 2, 1) := dk_44 (dk_at dksX0_lambda_areTogether_4_0 1 rfl rfl)
theorem dX0_lambda_areTogether_4_2 : decode cX0_lambda_areTogether_4 2 = .ok (.invokevirtual 507, 3) := dk_182 1 251 (dk_at dksX0_lambda_areTogether_4_0 2 rfl rfl)
theorem dX0_lambda_areTogether_4_5 : decode cX0_lambda_areTogether_4 5 = .ok (.ifCond .ne 15, 3) := dk_154 0 15 (dk_at dksX0_lambda_areTogether_4_0 5 rfl rfl)
theorem dX0_lambda_areTogether_4_8 : decode cX0_lambda_areTogether_4 8 = .ok (.aload_n 1, 1) := dk_43 (dk_at dksX0_lambda_areTogether_4_0 8 rfl rfl)
theorem dX0_lambda_areTogether_4_9 : decode cX0_lambda_areTogether_4 9 = .ok (.aload_n 2, 1) := dk_44 (dk_at dksX0_lambda_areTogether_4_0 9 rfl rfl)
theorem dX0_lambda_areTogether_4_10 : decode cX0_lambda_areTogether_4 10 = .ok (.invokevirtual 511, 3) := dk_182 1 255 (dk_at dksX0_lambda_areTogether_4_0 10 rfl rfl)
theorem dX0_lambda_areTogether_4_13 : decode cX0_lambda_areTogether_4 13 = .ok (.ifCond .eq 7, 3) := dk_153 0 7 (dk_at dksX0_lambda_areTogether_4_0 13 rfl rfl)
theorem dX0_lambda_areTogether_4_16 : decode cX0_lambda_areTogether_4 16 = .ok (.iconst 1, 1) := dk_4 (dk_at dksX0_lambda_areTogether_4_0 16 rfl rfl)
theorem dX0_lambda_areTogether_4_17 : decode cX0_lambda_areTogether_4 17 = .ok (.goto 4, 3) := dk_167 0 4 (dk_at dksX0_lambda_areTogether_4_0 17 rfl rfl)
theorem dX0_lambda_areTogether_4_20 : decode cX0_lambda_areTogether_4 20 = .ok (.iconst 0, 1) := dk_3 (dk_at dksX0_lambda_areTogether_4_0 20 rfl rfl)
theorem dX0_lambda_areTogether_4_21 : decode cX0_lambda_areTogether_4 21 = .ok (.ireturn, 1) := dk_172 (dk_at dksX0_lambda_areTogether_4_0 21 rfl rfl)
abbrev cX26_matters : ByteArray := prog_22_method_4_code
def dkwX26_matters_1 : List UInt8 := [167, 0, 4, 3, 172]
abbrev dktX26_matters_1 : List UInt8 := dkwX26_matters_1 ++ []
def dkwX26_matters_0 : List UInt8 := [42, 43, 182, 0, 77, 154, 0, 21, 43, 42, 180, 0, 13, 180, 0, 81, 182, 0, 84, 153, 0, 7, 4]
abbrev dktX26_matters_0 : List UInt8 := dkwX26_matters_0 ++ dktX26_matters_1
theorem dksX26_matters_0 : cX26_matters.data.toList.drop 0 = dktX26_matters_0 := by decide +kernel
theorem dksX26_matters_1 : cX26_matters.data.toList.drop 23 = dktX26_matters_1 := dk_seg dksX26_matters_0 23 rfl rfl
theorem dX26_matters_0 : decode cX26_matters 0 = .ok (.aload_n 0, 1) := dk_42 (dk_at dksX26_matters_0 0 rfl rfl)
theorem dX26_matters_1 : decode cX26_matters 1 = .ok (.aload_n 1, 1) := dk_43 (dk_at dksX26_matters_0 1 rfl rfl)
theorem dX26_matters_2 : decode cX26_matters 2 = .ok (.invokevirtual 77, 3) := dk_182 0 77 (dk_at dksX26_matters_0 2 rfl rfl)
theorem dX26_matters_5 : decode cX26_matters 5 = .ok (.ifCond .ne 21, 3) := dk_154 0 21 (dk_at dksX26_matters_0 5 rfl rfl)
theorem dX26_matters_8 : decode cX26_matters 8 = .ok (.aload_n 1, 1) := dk_43 (dk_at dksX26_matters_0 8 rfl rfl)
theorem dX26_matters_9 : decode cX26_matters 9 = .ok (.aload_n 0, 1) := dk_42 (dk_at dksX26_matters_0 9 rfl rfl)
theorem dX26_matters_10 : decode cX26_matters 10 = .ok (.getfield 13, 3) := dk_180 0 13 (dk_at dksX26_matters_0 10 rfl rfl)
theorem dX26_matters_13 : decode cX26_matters 13 = .ok (.getfield 81, 3) := dk_180 0 81 (dk_at dksX26_matters_0 13 rfl rfl)
theorem dX26_matters_16 : decode cX26_matters 16 = .ok (.invokevirtual 84, 3) := dk_182 0 84 (dk_at dksX26_matters_0 16 rfl rfl)
theorem dX26_matters_19 : decode cX26_matters 19 = .ok (.ifCond .eq 7, 3) := dk_153 0 7 (dk_at dksX26_matters_0 19 rfl rfl)
theorem dX26_matters_22 : decode cX26_matters 22 = .ok (.iconst 1, 1) := dk_4 (dk_at dksX26_matters_0 22 rfl rfl)
theorem dX26_matters_23 : decode cX26_matters 23 = .ok (.goto 4, 3) := dk_167 0 4 (dk_at dksX26_matters_1 0 rfl rfl)
theorem dX26_matters_26 : decode cX26_matters 26 = .ok (.iconst 0, 1) := dk_3 (dk_at dksX26_matters_1 3 rfl rfl)
theorem dX26_matters_27 : decode cX26_matters 27 = .ok (.ireturn, 1) := dk_172 (dk_at dksX26_matters_1 4 rfl rfl)
abbrev cX11_copy : ByteArray := prog_4_method_4_code
def dkwX11_copy_1 : List UInt8 := [180, 0, 9, 181, 0, 9, 43, 42, 180, 0, 36, 181, 0, 36, 43, 42, 180, 0, 15, 181, 0, 15, 43, 176]
abbrev dktX11_copy_1 : List UInt8 := dkwX11_copy_1 ++ []
def dkwX11_copy_0 : List UInt8 := [187, 0, 10, 89, 42, 180, 0, 18, 42, 180, 0, 21, 42, 180, 0, 24, 183, 0, 33, 76, 43, 42]
abbrev dktX11_copy_0 : List UInt8 := dkwX11_copy_0 ++ dktX11_copy_1
theorem dksX11_copy_0 : cX11_copy.data.toList.drop 0 = dktX11_copy_0 := by decide +kernel
theorem dksX11_copy_1 : cX11_copy.data.toList.drop 22 = dktX11_copy_1 := dk_seg dksX11_copy_0 22 rfl rfl
theorem dX11_copy_0 : decode cX11_copy 0 = .ok (.new 10, 3) := dk_187 0 10 (dk_at dksX11_copy_0 0 rfl rfl)
theorem dX11_copy_3 : decode cX11_copy 3 = .ok (.dup, 1) := dk_89 (dk_at dksX11_copy_0 3 rfl rfl)
theorem dX11_copy_4 : decode cX11_copy 4 = .ok (.aload_n 0, 1) := dk_42 (dk_at dksX11_copy_0 4 rfl rfl)
theorem dX11_copy_5 : decode cX11_copy 5 = .ok (.getfield 18, 3) := dk_180 0 18 (dk_at dksX11_copy_0 5 rfl rfl)
theorem dX11_copy_8 : decode cX11_copy 8 = .ok (.aload_n 0, 1) := dk_42 (dk_at dksX11_copy_0 8 rfl rfl)
theorem dX11_copy_9 : decode cX11_copy 9 = .ok (.getfield 21, 3) := dk_180 0 21 (dk_at dksX11_copy_0 9 rfl rfl)
theorem dX11_copy_12 : decode cX11_copy 12 = .ok (.aload_n 0, 1) := dk_42 (dk_at dksX11_copy_0 12 rfl rfl)
theorem dX11_copy_13 : decode cX11_copy 13 = .ok (.getfield 24, 3) := dk_180 0 24 (dk_at dksX11_copy_0 13 rfl rfl)
theorem dX11_copy_16 : decode cX11_copy 16 = .ok (.invokespecial 33, 3) := dk_183 0 33 (dk_at dksX11_copy_0 16 rfl rfl)
theorem dX11_copy_19 : decode cX11_copy 19 = .ok (.astore_n 1, 1) := dk_76 (dk_at dksX11_copy_0 19 rfl rfl)
theorem dX11_copy_20 : decode cX11_copy 20 = .ok (.aload_n 1, 1) := dk_43 (dk_at dksX11_copy_0 20 rfl rfl)
theorem dX11_copy_21 : decode cX11_copy 21 = .ok (.aload_n 0, 1) := dk_42 (dk_at dksX11_copy_0 21 rfl rfl)
theorem dX11_copy_22 : decode cX11_copy 22 = .ok (.getfield 9, 3) := dk_180 0 9 (dk_at dksX11_copy_1 0 rfl rfl)
theorem dX11_copy_25 : decode cX11_copy 25 = .ok (.putfield 9, 3) := dk_181 0 9 (dk_at dksX11_copy_1 3 rfl rfl)
theorem dX11_copy_28 : decode cX11_copy 28 = .ok (.aload_n 1, 1) := dk_43 (dk_at dksX11_copy_1 6 rfl rfl)
theorem dX11_copy_29 : decode cX11_copy 29 = .ok (.aload_n 0, 1) := dk_42 (dk_at dksX11_copy_1 7 rfl rfl)
theorem dX11_copy_30 : decode cX11_copy 30 = .ok (.getfield 36, 3) := dk_180 0 36 (dk_at dksX11_copy_1 8 rfl rfl)
theorem dX11_copy_33 : decode cX11_copy 33 = .ok (.putfield 36, 3) := dk_181 0 36 (dk_at dksX11_copy_1 11 rfl rfl)
theorem dX11_copy_36 : decode cX11_copy 36 = .ok (.aload_n 1, 1) := dk_43 (dk_at dksX11_copy_1 14 rfl rfl)
theorem dX11_copy_37 : decode cX11_copy 37 = .ok (.aload_n 0, 1) := dk_42 (dk_at dksX11_copy_1 15 rfl rfl)
theorem dX11_copy_38 : decode cX11_copy 38 = .ok (.getfield 15, 3) := dk_180 0 15 (dk_at dksX11_copy_1 16 rfl rfl)
theorem dX11_copy_41 : decode cX11_copy 41 = .ok (.putfield 15, 3) := dk_181 0 15 (dk_at dksX11_copy_1 19 rfl rfl)
theorem dX11_copy_44 : decode cX11_copy 44 = .ok (.aload_n 1, 1) := dk_43 (dk_at dksX11_copy_1 22 rfl rfl)
theorem dX11_copy_45 : decode cX11_copy 45 = .ok (.areturn, 1) := dk_176 (dk_at dksX11_copy_1 23 rfl rfl)
abbrev cX1_takes_2 : ByteArray := prog_8_method_14_code
def dkwX1_takes_2_2 : List UInt8 := [180, 0, 103, 21, 5, 4, 84, 132, 5, 1, 167, 255, 233, 4, 172]
abbrev dktX1_takes_2_2 : List UInt8 := dkwX1_takes_2_2 ++ []
def dkwX1_takes_2_1 : List UInt8 := [180, 0, 186, 21, 4, 79, 21, 4, 54, 5, 21, 5, 21, 4, 43, 180, 0, 248, 96, 162, 0, 17, 42]
abbrev dktX1_takes_2_1 : List UInt8 := dkwX1_takes_2_1 ++ dktX1_takes_2_2
def dkwX1_takes_2_0 : List UInt8 := [42, 43, 28, 45, 182, 1, 35, 54, 4, 21, 4, 2, 160, 0, 5, 3, 172, 42, 180, 0, 100, 43]
abbrev dktX1_takes_2_0 : List UInt8 := dkwX1_takes_2_0 ++ dktX1_takes_2_1
theorem dksX1_takes_2_0 : cX1_takes_2.data.toList.drop 0 = dktX1_takes_2_0 := by decide +kernel
theorem dksX1_takes_2_1 : cX1_takes_2.data.toList.drop 22 = dktX1_takes_2_1 := dk_seg dksX1_takes_2_0 22 rfl rfl
theorem dksX1_takes_2_2 : cX1_takes_2.data.toList.drop 45 = dktX1_takes_2_2 := dk_seg dksX1_takes_2_1 23 rfl rfl
theorem dX1_takes_2_0 : decode cX1_takes_2 0 = .ok (.aload_n 0, 1) := dk_42 (dk_at dksX1_takes_2_0 0 rfl rfl)
theorem dX1_takes_2_1 : decode cX1_takes_2 1 = .ok (.aload_n 1, 1) := dk_43 (dk_at dksX1_takes_2_0 1 rfl rfl)
theorem dX1_takes_2_2 : decode cX1_takes_2 2 = .ok (.iload_n 2, 1) := dk_28 (dk_at dksX1_takes_2_0 2 rfl rfl)
theorem dX1_takes_2_3 : decode cX1_takes_2 3 = .ok (.aload_n 3, 1) := dk_45 (dk_at dksX1_takes_2_0 3 rfl rfl)
theorem dX1_takes_2_4 : decode cX1_takes_2 4 = .ok (.invokevirtual 291, 3) := dk_182 1 35 (dk_at dksX1_takes_2_0 4 rfl rfl)
theorem dX1_takes_2_7 : decode cX1_takes_2 7 = .ok (.istore 4, 2) := dk_54 4 (dk_at dksX1_takes_2_0 7 rfl rfl)
theorem dX1_takes_2_9 : decode cX1_takes_2 9 = .ok (.iload 4, 2) := dk_21 4 (dk_at dksX1_takes_2_0 9 rfl rfl)
theorem dX1_takes_2_11 : decode cX1_takes_2 11 = .ok (.iconst (-1), 1) := dk_2 (dk_at dksX1_takes_2_0 11 rfl rfl)
theorem dX1_takes_2_12 : decode cX1_takes_2 12 = .ok (.if_icmp .ne 5, 3) := dk_160 0 5 (dk_at dksX1_takes_2_0 12 rfl rfl)
theorem dX1_takes_2_15 : decode cX1_takes_2 15 = .ok (.iconst 0, 1) := dk_3 (dk_at dksX1_takes_2_0 15 rfl rfl)
theorem dX1_takes_2_16 : decode cX1_takes_2 16 = .ok (.ireturn, 1) := dk_172 (dk_at dksX1_takes_2_0 16 rfl rfl)
theorem dX1_takes_2_17 : decode cX1_takes_2 17 = .ok (.aload_n 0, 1) := dk_42 (dk_at dksX1_takes_2_0 17 rfl rfl)
theorem dX1_takes_2_18 : decode cX1_takes_2 18 = .ok (.getfield 100, 3) := dk_180 0 100 (dk_at dksX1_takes_2_0 18 rfl rfl)
theorem dX1_takes_2_21 : decode cX1_takes_2 21 = .ok (.aload_n 1, 1) := dk_43 (dk_at dksX1_takes_2_0 21 rfl rfl)
theorem dX1_takes_2_22 : decode cX1_takes_2 22 = .ok (.getfield 186, 3) := dk_180 0 186 (dk_at dksX1_takes_2_1 0 rfl rfl)
theorem dX1_takes_2_25 : decode cX1_takes_2 25 = .ok (.iload 4, 2) := dk_21 4 (dk_at dksX1_takes_2_1 3 rfl rfl)
theorem dX1_takes_2_27 : decode cX1_takes_2 27 = .ok (.iastore, 1) := dk_79 (dk_at dksX1_takes_2_1 5 rfl rfl)
theorem dX1_takes_2_28 : decode cX1_takes_2 28 = .ok (.iload 4, 2) := dk_21 4 (dk_at dksX1_takes_2_1 6 rfl rfl)
theorem dX1_takes_2_30 : decode cX1_takes_2 30 = .ok (.istore 5, 2) := dk_54 5 (dk_at dksX1_takes_2_1 8 rfl rfl)
theorem dX1_takes_2_32 : decode cX1_takes_2 32 = .ok (.iload 5, 2) := dk_21 5 (dk_at dksX1_takes_2_1 10 rfl rfl)
theorem dX1_takes_2_34 : decode cX1_takes_2 34 = .ok (.iload 4, 2) := dk_21 4 (dk_at dksX1_takes_2_1 12 rfl rfl)
theorem dX1_takes_2_36 : decode cX1_takes_2 36 = .ok (.aload_n 1, 1) := dk_43 (dk_at dksX1_takes_2_1 14 rfl rfl)
theorem dX1_takes_2_37 : decode cX1_takes_2 37 = .ok (.getfield 248, 3) := dk_180 0 248 (dk_at dksX1_takes_2_1 15 rfl rfl)
theorem dX1_takes_2_40 : decode cX1_takes_2 40 = .ok (.iadd, 1) := dk_96 (dk_at dksX1_takes_2_1 18 rfl rfl)
theorem dX1_takes_2_41 : decode cX1_takes_2 41 = .ok (.if_icmp .ge 17, 3) := dk_162 0 17 (dk_at dksX1_takes_2_1 19 rfl rfl)
theorem dX1_takes_2_44 : decode cX1_takes_2 44 = .ok (.aload_n 0, 1) := dk_42 (dk_at dksX1_takes_2_1 22 rfl rfl)
theorem dX1_takes_2_45 : decode cX1_takes_2 45 = .ok (.getfield 103, 3) := dk_180 0 103 (dk_at dksX1_takes_2_2 0 rfl rfl)
theorem dX1_takes_2_48 : decode cX1_takes_2 48 = .ok (.iload 5, 2) := dk_21 5 (dk_at dksX1_takes_2_2 3 rfl rfl)
theorem dX1_takes_2_50 : decode cX1_takes_2 50 = .ok (.iconst 1, 1) := dk_4 (dk_at dksX1_takes_2_2 5 rfl rfl)
theorem dX1_takes_2_51 : decode cX1_takes_2 51 = .ok (.bastore, 1) := dk_84 (dk_at dksX1_takes_2_2 6 rfl rfl)
theorem dX1_takes_2_52 : decode cX1_takes_2 52 = .ok (.iinc 5 1, 3) := dk_132 5 1 (dk_at dksX1_takes_2_2 7 rfl rfl)
theorem dX1_takes_2_55 : decode cX1_takes_2 55 = .ok (.goto (-23), 3) := dk_167 255 233 (dk_at dksX1_takes_2_2 10 rfl rfl)
theorem dX1_takes_2_58 : decode cX1_takes_2 58 = .ok (.iconst 1, 1) := dk_4 (dk_at dksX1_takes_2_2 13 rfl rfl)
theorem dX1_takes_2_59 : decode cX1_takes_2 59 = .ok (.ireturn, 1) := dk_172 (dk_at dksX1_takes_2_2 14 rfl rfl)
abbrev cX27_puts : ByteArray := prog_21_method_4_code
def dkwX27_puts_2 : List UInt8 := [25, 4, 21, 6, 4, 84, 132, 6, 1, 167, 255, 235, 4, 172]
abbrev dktX27_puts_2 : List UInt8 := dkwX27_puts_2 ++ []
def dkwX27_puts_1 : List UInt8 := [199, 0, 5, 3, 172, 25, 5, 180, 0, 118, 54, 6, 21, 6, 25, 5, 180, 0, 118, 28, 96, 162, 0, 15]
abbrev dktX27_puts_1 : List UInt8 := dkwX27_puts_1 ++ dktX27_puts_2
def dkwX27_puts_0 : List UInt8 := [187, 0, 105, 89, 42, 27, 29, 25, 4, 182, 0, 107, 183, 0, 111, 28, 182, 0, 114, 58, 5, 25, 5]
abbrev dktX27_puts_0 : List UInt8 := dkwX27_puts_0 ++ dktX27_puts_1
theorem dksX27_puts_0 : cX27_puts.data.toList.drop 0 = dktX27_puts_0 := by decide +kernel
theorem dksX27_puts_1 : cX27_puts.data.toList.drop 23 = dktX27_puts_1 := dk_seg dksX27_puts_0 23 rfl rfl
theorem dksX27_puts_2 : cX27_puts.data.toList.drop 47 = dktX27_puts_2 := dk_seg dksX27_puts_1 24 rfl rfl
theorem dX27_puts_0 : decode cX27_puts 0 = .ok (.new 105, 3) := dk_187 0 105 (dk_at dksX27_puts_0 0 rfl rfl)
theorem dX27_puts_3 : decode cX27_puts 3 = .ok (.dup, 1) := dk_89 (dk_at dksX27_puts_0 3 rfl rfl)
theorem dX27_puts_4 : decode cX27_puts 4 = .ok (.aload_n 0, 1) := dk_42 (dk_at dksX27_puts_0 4 rfl rfl)
theorem dX27_puts_5 : decode cX27_puts 5 = .ok (.iload_n 1, 1) := dk_27 (dk_at dksX27_puts_0 5 rfl rfl)
theorem dX27_puts_6 : decode cX27_puts 6 = .ok (.iload_n 3, 1) := dk_29 (dk_at dksX27_puts_0 6 rfl rfl)
theorem dX27_puts_7 : decode cX27_puts 7 = .ok (.aload 4, 2) := dk_25 4 (dk_at dksX27_puts_0 7 rfl rfl)
theorem dX27_puts_9 : decode cX27_puts 9 = .ok (.invokevirtual 107, 3) := dk_182 0 107 (dk_at dksX27_puts_0 9 rfl rfl)
theorem dX27_puts_12 : decode cX27_puts 12 = .ok (.invokespecial 111, 3) := dk_183 0 111 (dk_at dksX27_puts_0 12 rfl rfl)
theorem dX27_puts_15 : decode cX27_puts 15 = .ok (.iload_n 2, 1) := dk_28 (dk_at dksX27_puts_0 15 rfl rfl)
theorem dX27_puts_16 : decode cX27_puts 16 = .ok (.invokevirtual 114, 3) := dk_182 0 114 (dk_at dksX27_puts_0 16 rfl rfl)
theorem dX27_puts_19 : decode cX27_puts 19 = .ok (.astore 5, 2) := dk_58 5 (dk_at dksX27_puts_0 19 rfl rfl)
theorem dX27_puts_21 : decode cX27_puts 21 = .ok (.aload 5, 2) := dk_25 5 (dk_at dksX27_puts_0 21 rfl rfl)
theorem dX27_puts_23 : decode cX27_puts 23 = .ok (.ifnonnull 5, 3) := dk_199 0 5 (dk_at dksX27_puts_1 0 rfl rfl)
theorem dX27_puts_26 : decode cX27_puts 26 = .ok (.iconst 0, 1) := dk_3 (dk_at dksX27_puts_1 3 rfl rfl)
theorem dX27_puts_27 : decode cX27_puts 27 = .ok (.ireturn, 1) := dk_172 (dk_at dksX27_puts_1 4 rfl rfl)
theorem dX27_puts_28 : decode cX27_puts 28 = .ok (.aload 5, 2) := dk_25 5 (dk_at dksX27_puts_1 5 rfl rfl)
theorem dX27_puts_30 : decode cX27_puts 30 = .ok (.getfield 118, 3) := dk_180 0 118 (dk_at dksX27_puts_1 7 rfl rfl)
theorem dX27_puts_33 : decode cX27_puts 33 = .ok (.istore 6, 2) := dk_54 6 (dk_at dksX27_puts_1 10 rfl rfl)
theorem dX27_puts_35 : decode cX27_puts 35 = .ok (.iload 6, 2) := dk_21 6 (dk_at dksX27_puts_1 12 rfl rfl)
theorem dX27_puts_37 : decode cX27_puts 37 = .ok (.aload 5, 2) := dk_25 5 (dk_at dksX27_puts_1 14 rfl rfl)
theorem dX27_puts_39 : decode cX27_puts 39 = .ok (.getfield 118, 3) := dk_180 0 118 (dk_at dksX27_puts_1 16 rfl rfl)
theorem dX27_puts_42 : decode cX27_puts 42 = .ok (.iload_n 2, 1) := dk_28 (dk_at dksX27_puts_1 19 rfl rfl)
theorem dX27_puts_43 : decode cX27_puts 43 = .ok (.iadd, 1) := dk_96 (dk_at dksX27_puts_1 20 rfl rfl)
theorem dX27_puts_44 : decode cX27_puts 44 = .ok (.if_icmp .ge 15, 3) := dk_162 0 15 (dk_at dksX27_puts_1 21 rfl rfl)
theorem dX27_puts_47 : decode cX27_puts 47 = .ok (.aload 4, 2) := dk_25 4 (dk_at dksX27_puts_2 0 rfl rfl)
theorem dX27_puts_49 : decode cX27_puts 49 = .ok (.iload 6, 2) := dk_21 6 (dk_at dksX27_puts_2 2 rfl rfl)
theorem dX27_puts_51 : decode cX27_puts 51 = .ok (.iconst 1, 1) := dk_4 (dk_at dksX27_puts_2 4 rfl rfl)
theorem dX27_puts_52 : decode cX27_puts 52 = .ok (.bastore, 1) := dk_84 (dk_at dksX27_puts_2 5 rfl rfl)
theorem dX27_puts_53 : decode cX27_puts 53 = .ok (.iinc 6 1, 3) := dk_132 6 1 (dk_at dksX27_puts_2 6 rfl rfl)
theorem dX27_puts_56 : decode cX27_puts 56 = .ok (.goto (-21), 3) := dk_167 255 235 (dk_at dksX27_puts_2 9 rfl rfl)
theorem dX27_puts_59 : decode cX27_puts 59 = .ok (.iconst 1, 1) := dk_4 (dk_at dksX27_puts_2 12 rfl rfl)
theorem dX27_puts_60 : decode cX27_puts 60 = .ok (.ireturn, 1) := dk_172 (dk_at dksX27_puts_2 13 rfl rfl)
abbrev cX29_init : ByteArray := prog_31_method_1_code
theorem dX29_init_0 : decode cX29_init 0 = .ok (.aload_n 0, 1) := by decide +kernel
theorem dX29_init_1 : decode cX29_init 1 = .ok (.invokespecial 1, 3) := by decide +kernel
theorem dX29_init_4 : decode cX29_init 4 = .ok (.return_, 1) := by decide +kernel
abbrev cX1_take : ByteArray := prog_8_method_13_code
def dkwX1_take_2 : List UInt8 := [167, 255, 221, 4, 172]
abbrev dktX1_take_2 : List UInt8 := dkwX1_take_2 ++ []
def dkwX1_take_1 : List UInt8 := [185, 0, 133, 1, 0, 192, 0, 187, 58, 5, 42, 25, 5, 28, 45, 182, 1, 31, 154, 0, 5, 3, 172]
abbrev dktX1_take_1 : List UInt8 := dkwX1_take_1 ++ dktX1_take_2
def dkwX1_take_0 : List UInt8 := [43, 185, 1, 28, 1, 0, 58, 4, 25, 4, 185, 0, 127, 1, 0, 153, 0, 31, 25, 4]
abbrev dktX1_take_0 : List UInt8 := dkwX1_take_0 ++ dktX1_take_1
theorem dksX1_take_0 : cX1_take.data.toList.drop 0 = dktX1_take_0 := by decide +kernel
theorem dksX1_take_1 : cX1_take.data.toList.drop 20 = dktX1_take_1 := dk_seg dksX1_take_0 20 rfl rfl
theorem dksX1_take_2 : cX1_take.data.toList.drop 43 = dktX1_take_2 := dk_seg dksX1_take_1 23 rfl rfl
theorem dX1_take_0 : decode cX1_take 0 = .ok (.aload_n 1, 1) := dk_43 (dk_at dksX1_take_0 0 rfl rfl)
theorem dX1_take_1 : decode cX1_take 1 = .ok (.invokeinterface 284 1, 5) := by decide +kernel
theorem dX1_take_6 : decode cX1_take 6 = .ok (.astore 4, 2) := dk_58 4 (dk_at dksX1_take_0 6 rfl rfl)
theorem dX1_take_8 : decode cX1_take 8 = .ok (.aload 4, 2) := dk_25 4 (dk_at dksX1_take_0 8 rfl rfl)
theorem dX1_take_10 : decode cX1_take 10 = .ok (.invokeinterface 127 1, 5) := by decide +kernel
theorem dX1_take_15 : decode cX1_take 15 = .ok (.ifCond .eq 31, 3) := dk_153 0 31 (dk_at dksX1_take_0 15 rfl rfl)
theorem dX1_take_18 : decode cX1_take 18 = .ok (.aload 4, 2) := dk_25 4 (dk_at dksX1_take_0 18 rfl rfl)
theorem dX1_take_20 : decode cX1_take 20 = .ok (.invokeinterface 133 1, 5) := by decide +kernel
theorem dX1_take_25 : decode cX1_take 25 = .ok (.checkcast 187, 3) := dk_192 0 187 (dk_at dksX1_take_1 5 rfl rfl)
theorem dX1_take_28 : decode cX1_take 28 = .ok (.astore 5, 2) := dk_58 5 (dk_at dksX1_take_1 8 rfl rfl)
theorem dX1_take_30 : decode cX1_take 30 = .ok (.aload_n 0, 1) := dk_42 (dk_at dksX1_take_1 10 rfl rfl)
theorem dX1_take_31 : decode cX1_take 31 = .ok (.aload 5, 2) := dk_25 5 (dk_at dksX1_take_1 11 rfl rfl)
theorem dX1_take_33 : decode cX1_take 33 = .ok (.iload_n 2, 1) := dk_28 (dk_at dksX1_take_1 13 rfl rfl)
theorem dX1_take_34 : decode cX1_take 34 = .ok (.aload_n 3, 1) := dk_45 (dk_at dksX1_take_1 14 rfl rfl)
theorem dX1_take_35 : decode cX1_take 35 = .ok (.invokevirtual 287, 3) := dk_182 1 31 (dk_at dksX1_take_1 15 rfl rfl)
theorem dX1_take_38 : decode cX1_take 38 = .ok (.ifCond .ne 5, 3) := dk_154 0 5 (dk_at dksX1_take_1 18 rfl rfl)
theorem dX1_take_41 : decode cX1_take 41 = .ok (.iconst 0, 1) := dk_3 (dk_at dksX1_take_1 21 rfl rfl)
theorem dX1_take_42 : decode cX1_take 42 = .ok (.ireturn, 1) := dk_172 (dk_at dksX1_take_1 22 rfl rfl)
theorem dX1_take_43 : decode cX1_take 43 = .ok (.goto (-35), 3) := dk_167 255 221 (dk_at dksX1_take_2 0 rfl rfl)
theorem dX1_take_46 : decode cX1_take 46 = .ok (.iconst 1, 1) := dk_4 (dk_at dksX1_take_2 3 rfl rfl)
theorem dX1_take_47 : decode cX1_take 47 = .ok (.ireturn, 1) := dk_172 (dk_at dksX1_take_2 4 rfl rfl)
abbrev cX2_compare : ByteArray := prog_6_method_3_code
def dkwX2_compare_0 : List UInt8 := [42, 43, 192, 0, 8, 44, 192, 0, 8, 182, 0, 29, 172]
abbrev dktX2_compare_0 : List UInt8 := dkwX2_compare_0 ++ []
theorem dksX2_compare_0 : cX2_compare.data.toList.drop 0 = dktX2_compare_0 := by decide +kernel
theorem dX2_compare_0 : decode cX2_compare 0 = .ok (.aload_n 0, 1) := dk_42 (dk_at dksX2_compare_0 0 rfl rfl)
theorem dX2_compare_1 : decode cX2_compare 1 = .ok (.aload_n 1, 1) := dk_43 (dk_at dksX2_compare_0 1 rfl rfl)
theorem dX2_compare_2 : decode cX2_compare 2 = .ok (.checkcast 8, 3) := dk_192 0 8 (dk_at dksX2_compare_0 2 rfl rfl)
theorem dX2_compare_5 : decode cX2_compare 5 = .ok (.aload_n 2, 1) := dk_44 (dk_at dksX2_compare_0 5 rfl rfl)
theorem dX2_compare_6 : decode cX2_compare 6 = .ok (.checkcast 8, 3) := dk_192 0 8 (dk_at dksX2_compare_0 6 rfl rfl)
theorem dX2_compare_9 : decode cX2_compare 9 = .ok (.invokevirtual 29, 3) := dk_182 0 29 (dk_at dksX2_compare_0 9 rfl rfl)
theorem dX2_compare_12 : decode cX2_compare 12 = .ok (.ireturn, 1) := dk_172 (dk_at dksX2_compare_0 12 rfl rfl)
abbrev cX13_compare : ByteArray := prog_7_method_3_code
def dkwX13_compare_0 : List UInt8 := [42, 43, 192, 0, 8, 44, 192, 0, 8, 182, 0, 16, 172]
abbrev dktX13_compare_0 : List UInt8 := dkwX13_compare_0 ++ []
theorem dksX13_compare_0 : cX13_compare.data.toList.drop 0 = dktX13_compare_0 := by decide +kernel
theorem dX13_compare_0 : decode cX13_compare 0 = .ok (.aload_n 0, 1) := dk_42 (dk_at dksX13_compare_0 0 rfl rfl)
theorem dX13_compare_1 : decode cX13_compare 1 = .ok (.aload_n 1, 1) := dk_43 (dk_at dksX13_compare_0 1 rfl rfl)
theorem dX13_compare_2 : decode cX13_compare 2 = .ok (.checkcast 8, 3) := dk_192 0 8 (dk_at dksX13_compare_0 2 rfl rfl)
theorem dX13_compare_5 : decode cX13_compare 5 = .ok (.aload_n 2, 1) := dk_44 (dk_at dksX13_compare_0 5 rfl rfl)
theorem dX13_compare_6 : decode cX13_compare 6 = .ok (.checkcast 8, 3) := dk_192 0 8 (dk_at dksX13_compare_0 6 rfl rfl)
theorem dX13_compare_9 : decode cX13_compare 9 = .ok (.invokevirtual 16, 3) := dk_182 0 16 (dk_at dksX13_compare_0 9 rfl rfl)
theorem dX13_compare_12 : decode cX13_compare 12 = .ok (.ireturn, 1) := dk_172 (dk_at dksX13_compare_0 12 rfl rfl)
abbrev cX4_compare : ByteArray := prog_9_method_3_code
def dkwX4_compare_0 : List UInt8 := [42, 43, 192, 0, 14, 44, 192, 0, 14, 182, 0, 35, 172]
abbrev dktX4_compare_0 : List UInt8 := dkwX4_compare_0 ++ []
theorem dksX4_compare_0 : cX4_compare.data.toList.drop 0 = dktX4_compare_0 := by decide +kernel
theorem dX4_compare_0 : decode cX4_compare 0 = .ok (.aload_n 0, 1) := dk_42 (dk_at dksX4_compare_0 0 rfl rfl)
theorem dX4_compare_1 : decode cX4_compare 1 = .ok (.aload_n 1, 1) := dk_43 (dk_at dksX4_compare_0 1 rfl rfl)
theorem dX4_compare_2 : decode cX4_compare 2 = .ok (.checkcast 14, 3) := dk_192 0 14 (dk_at dksX4_compare_0 2 rfl rfl)
theorem dX4_compare_5 : decode cX4_compare 5 = .ok (.aload_n 2, 1) := dk_44 (dk_at dksX4_compare_0 5 rfl rfl)
theorem dX4_compare_6 : decode cX4_compare 6 = .ok (.checkcast 14, 3) := dk_192 0 14 (dk_at dksX4_compare_0 6 rfl rfl)
theorem dX4_compare_9 : decode cX4_compare 9 = .ok (.invokevirtual 35, 3) := dk_182 0 35 (dk_at dksX4_compare_0 9 rfl rfl)
theorem dX4_compare_12 : decode cX4_compare 12 = .ok (.ireturn, 1) := dk_172 (dk_at dksX4_compare_0 12 rfl rfl)
abbrev cX29_compare : ByteArray := prog_31_method_3_code
def dkwX29_compare_0 : List UInt8 := [42, 43, 192, 0, 8, 44, 192, 0, 8, 182, 0, 29, 172]
abbrev dktX29_compare_0 : List UInt8 := dkwX29_compare_0 ++ []
theorem dksX29_compare_0 : cX29_compare.data.toList.drop 0 = dktX29_compare_0 := by decide +kernel
theorem dX29_compare_0 : decode cX29_compare 0 = .ok (.aload_n 0, 1) := dk_42 (dk_at dksX29_compare_0 0 rfl rfl)
theorem dX29_compare_1 : decode cX29_compare 1 = .ok (.aload_n 1, 1) := dk_43 (dk_at dksX29_compare_0 1 rfl rfl)
theorem dX29_compare_2 : decode cX29_compare 2 = .ok (.checkcast 8, 3) := dk_192 0 8 (dk_at dksX29_compare_0 2 rfl rfl)
theorem dX29_compare_5 : decode cX29_compare 5 = .ok (.aload_n 2, 1) := dk_44 (dk_at dksX29_compare_0 5 rfl rfl)
theorem dX29_compare_6 : decode cX29_compare 6 = .ok (.checkcast 8, 3) := dk_192 0 8 (dk_at dksX29_compare_0 6 rfl rfl)
theorem dX29_compare_9 : decode cX29_compare 9 = .ok (.invokevirtual 29, 3) := dk_182 0 29 (dk_at dksX29_compare_0 9 rfl rfl)
theorem dX29_compare_12 : decode cX29_compare 12 = .ok (.ireturn, 1) := dk_172 (dk_at dksX29_compare_0 12 rfl rfl)
abbrev cX20_init : ByteArray := prog_17_method_1_code
def dkwX20_init_0 : List UInt8 := [42, 183, 0, 1, 42, 27, 181, 0, 7, 42, 28, 181, 0, 13, 177]
abbrev dktX20_init_0 : List UInt8 := dkwX20_init_0 ++ []
theorem dksX20_init_0 : cX20_init.data.toList.drop 0 = dktX20_init_0 := by decide +kernel
theorem dX20_init_0 : decode cX20_init 0 = .ok (.aload_n 0, 1) := dk_42 (dk_at dksX20_init_0 0 rfl rfl)
theorem dX20_init_1 : decode cX20_init 1 = .ok (.invokespecial 1, 3) := dk_183 0 1 (dk_at dksX20_init_0 1 rfl rfl)
theorem dX20_init_4 : decode cX20_init 4 = .ok (.aload_n 0, 1) := dk_42 (dk_at dksX20_init_0 4 rfl rfl)
theorem dX20_init_5 : decode cX20_init 5 = .ok (.iload_n 1, 1) := dk_27 (dk_at dksX20_init_0 5 rfl rfl)
theorem dX20_init_6 : decode cX20_init 6 = .ok (.putfield 7, 3) := dk_181 0 7 (dk_at dksX20_init_0 6 rfl rfl)
theorem dX20_init_9 : decode cX20_init 9 = .ok (.aload_n 0, 1) := dk_42 (dk_at dksX20_init_0 9 rfl rfl)
theorem dX20_init_10 : decode cX20_init 10 = .ok (.iload_n 2, 1) := dk_28 (dk_at dksX20_init_0 10 rfl rfl)
theorem dX20_init_11 : decode cX20_init 11 = .ok (.putfield 13, 3) := dk_181 0 13 (dk_at dksX20_init_0 11 rfl rfl)
theorem dX20_init_14 : decode cX20_init 14 = .ok (.return_, 1) := dk_177 (dk_at dksX20_init_0 14 rfl rfl)
abbrev cX20_compareTo_2 : ByteArray := prog_17_method_6_code
def dkwX20_compareTo_2_3 : List UInt8 := [43, 182, 0, 16, 100, 172, 42, 182, 0, 20, 43, 182, 0, 20, 100, 172]
abbrev dktX20_compareTo_2_3 : List UInt8 := dkwX20_compareTo_2_3 ++ []
def dkwX20_compareTo_2_2 : List UInt8 := [162, 0, 7, 2, 167, 0, 4, 4, 172, 42, 182, 0, 16, 43, 182, 0, 16, 159, 0, 13, 42, 182, 0, 16]
abbrev dktX20_compareTo_2_2 : List UInt8 := dkwX20_compareTo_2_2 ++ dktX20_compareTo_2_3
def dkwX20_compareTo_2_1 : List UInt8 := [167, 0, 4, 4, 172, 42, 180, 0, 13, 43, 180, 0, 13, 159, 0, 20, 42, 180, 0, 13, 43, 180, 0, 13]
abbrev dktX20_compareTo_2_1 : List UInt8 := dkwX20_compareTo_2_1 ++ dktX20_compareTo_2_2
def dkwX20_compareTo_2_0 : List UInt8 := [42, 180, 0, 7, 43, 180, 0, 7, 159, 0, 20, 42, 180, 0, 7, 43, 180, 0, 7, 162, 0, 7, 2]
abbrev dktX20_compareTo_2_0 : List UInt8 := dkwX20_compareTo_2_0 ++ dktX20_compareTo_2_1
theorem dksX20_compareTo_2_0 : cX20_compareTo_2.data.toList.drop 0 = dktX20_compareTo_2_0 := by decide +kernel
theorem dksX20_compareTo_2_1 : cX20_compareTo_2.data.toList.drop 23 = dktX20_compareTo_2_1 := dk_seg dksX20_compareTo_2_0 23 rfl rfl
theorem dksX20_compareTo_2_2 : cX20_compareTo_2.data.toList.drop 47 = dktX20_compareTo_2_2 := dk_seg dksX20_compareTo_2_1 24 rfl rfl
theorem dksX20_compareTo_2_3 : cX20_compareTo_2.data.toList.drop 71 = dktX20_compareTo_2_3 := dk_seg dksX20_compareTo_2_2 24 rfl rfl
theorem dX20_compareTo_2_0 : decode cX20_compareTo_2 0 = .ok (.aload_n 0, 1) := dk_42 (dk_at dksX20_compareTo_2_0 0 rfl rfl)
theorem dX20_compareTo_2_1 : decode cX20_compareTo_2 1 = .ok (.getfield 7, 3) := dk_180 0 7 (dk_at dksX20_compareTo_2_0 1 rfl rfl)
theorem dX20_compareTo_2_4 : decode cX20_compareTo_2 4 = .ok (.aload_n 1, 1) := dk_43 (dk_at dksX20_compareTo_2_0 4 rfl rfl)
theorem dX20_compareTo_2_5 : decode cX20_compareTo_2 5 = .ok (.getfield 7, 3) := dk_180 0 7 (dk_at dksX20_compareTo_2_0 5 rfl rfl)
theorem dX20_compareTo_2_8 : decode cX20_compareTo_2 8 = .ok (.if_icmp .eq 20, 3) := dk_159 0 20 (dk_at dksX20_compareTo_2_0 8 rfl rfl)
theorem dX20_compareTo_2_11 : decode cX20_compareTo_2 11 = .ok (.aload_n 0, 1) := dk_42 (dk_at dksX20_compareTo_2_0 11 rfl rfl)
theorem dX20_compareTo_2_12 : decode cX20_compareTo_2 12 = .ok (.getfield 7, 3) := dk_180 0 7 (dk_at dksX20_compareTo_2_0 12 rfl rfl)
theorem dX20_compareTo_2_15 : decode cX20_compareTo_2 15 = .ok (.aload_n 1, 1) := dk_43 (dk_at dksX20_compareTo_2_0 15 rfl rfl)
theorem dX20_compareTo_2_16 : decode cX20_compareTo_2 16 = .ok (.getfield 7, 3) := dk_180 0 7 (dk_at dksX20_compareTo_2_0 16 rfl rfl)
theorem dX20_compareTo_2_19 : decode cX20_compareTo_2 19 = .ok (.if_icmp .ge 7, 3) := dk_162 0 7 (dk_at dksX20_compareTo_2_0 19 rfl rfl)
theorem dX20_compareTo_2_22 : decode cX20_compareTo_2 22 = .ok (.iconst (-1), 1) := dk_2 (dk_at dksX20_compareTo_2_0 22 rfl rfl)
theorem dX20_compareTo_2_23 : decode cX20_compareTo_2 23 = .ok (.goto 4, 3) := dk_167 0 4 (dk_at dksX20_compareTo_2_1 0 rfl rfl)
theorem dX20_compareTo_2_26 : decode cX20_compareTo_2 26 = .ok (.iconst 1, 1) := dk_4 (dk_at dksX20_compareTo_2_1 3 rfl rfl)
theorem dX20_compareTo_2_27 : decode cX20_compareTo_2 27 = .ok (.ireturn, 1) := dk_172 (dk_at dksX20_compareTo_2_1 4 rfl rfl)
theorem dX20_compareTo_2_28 : decode cX20_compareTo_2 28 = .ok (.aload_n 0, 1) := dk_42 (dk_at dksX20_compareTo_2_1 5 rfl rfl)
theorem dX20_compareTo_2_29 : decode cX20_compareTo_2 29 = .ok (.getfield 13, 3) := dk_180 0 13 (dk_at dksX20_compareTo_2_1 6 rfl rfl)
theorem dX20_compareTo_2_32 : decode cX20_compareTo_2 32 = .ok (.aload_n 1, 1) := dk_43 (dk_at dksX20_compareTo_2_1 9 rfl rfl)
theorem dX20_compareTo_2_33 : decode cX20_compareTo_2 33 = .ok (.getfield 13, 3) := dk_180 0 13 (dk_at dksX20_compareTo_2_1 10 rfl rfl)
theorem dX20_compareTo_2_36 : decode cX20_compareTo_2 36 = .ok (.if_icmp .eq 20, 3) := dk_159 0 20 (dk_at dksX20_compareTo_2_1 13 rfl rfl)
theorem dX20_compareTo_2_39 : decode cX20_compareTo_2 39 = .ok (.aload_n 0, 1) := dk_42 (dk_at dksX20_compareTo_2_1 16 rfl rfl)
theorem dX20_compareTo_2_40 : decode cX20_compareTo_2 40 = .ok (.getfield 13, 3) := dk_180 0 13 (dk_at dksX20_compareTo_2_1 17 rfl rfl)
theorem dX20_compareTo_2_43 : decode cX20_compareTo_2 43 = .ok (.aload_n 1, 1) := dk_43 (dk_at dksX20_compareTo_2_1 20 rfl rfl)
theorem dX20_compareTo_2_44 : decode cX20_compareTo_2 44 = .ok (.getfield 13, 3) := dk_180 0 13 (dk_at dksX20_compareTo_2_1 21 rfl rfl)
theorem dX20_compareTo_2_47 : decode cX20_compareTo_2 47 = .ok (.if_icmp .ge 7, 3) := dk_162 0 7 (dk_at dksX20_compareTo_2_2 0 rfl rfl)
theorem dX20_compareTo_2_50 : decode cX20_compareTo_2 50 = .ok (.iconst (-1), 1) := dk_2 (dk_at dksX20_compareTo_2_2 3 rfl rfl)
theorem dX20_compareTo_2_51 : decode cX20_compareTo_2 51 = .ok (.goto 4, 3) := dk_167 0 4 (dk_at dksX20_compareTo_2_2 4 rfl rfl)
theorem dX20_compareTo_2_54 : decode cX20_compareTo_2 54 = .ok (.iconst 1, 1) := dk_4 (dk_at dksX20_compareTo_2_2 7 rfl rfl)
theorem dX20_compareTo_2_55 : decode cX20_compareTo_2 55 = .ok (.ireturn, 1) := dk_172 (dk_at dksX20_compareTo_2_2 8 rfl rfl)
theorem dX20_compareTo_2_56 : decode cX20_compareTo_2 56 = .ok (.aload_n 0, 1) := dk_42 (dk_at dksX20_compareTo_2_2 9 rfl rfl)
theorem dX20_compareTo_2_57 : decode cX20_compareTo_2 57 = .ok (.invokevirtual 16, 3) := dk_182 0 16 (dk_at dksX20_compareTo_2_2 10 rfl rfl)
theorem dX20_compareTo_2_60 : decode cX20_compareTo_2 60 = .ok (.aload_n 1, 1) := dk_43 (dk_at dksX20_compareTo_2_2 13 rfl rfl)
theorem dX20_compareTo_2_61 : decode cX20_compareTo_2 61 = .ok (.invokevirtual 16, 3) := dk_182 0 16 (dk_at dksX20_compareTo_2_2 14 rfl rfl)
theorem dX20_compareTo_2_64 : decode cX20_compareTo_2 64 = .ok (.if_icmp .eq 13, 3) := dk_159 0 13 (dk_at dksX20_compareTo_2_2 17 rfl rfl)
theorem dX20_compareTo_2_67 : decode cX20_compareTo_2 67 = .ok (.aload_n 0, 1) := dk_42 (dk_at dksX20_compareTo_2_2 20 rfl rfl)
theorem dX20_compareTo_2_68 : decode cX20_compareTo_2 68 = .ok (.invokevirtual 16, 3) := dk_182 0 16 (dk_at dksX20_compareTo_2_2 21 rfl rfl)
theorem dX20_compareTo_2_71 : decode cX20_compareTo_2 71 = .ok (.aload_n 1, 1) := dk_43 (dk_at dksX20_compareTo_2_3 0 rfl rfl)
theorem dX20_compareTo_2_72 : decode cX20_compareTo_2 72 = .ok (.invokevirtual 16, 3) := dk_182 0 16 (dk_at dksX20_compareTo_2_3 1 rfl rfl)
theorem dX20_compareTo_2_75 : decode cX20_compareTo_2 75 = .ok (.isub, 1) := dk_100 (dk_at dksX20_compareTo_2_3 4 rfl rfl)
theorem dX20_compareTo_2_76 : decode cX20_compareTo_2 76 = .ok (.ireturn, 1) := dk_172 (dk_at dksX20_compareTo_2_3 5 rfl rfl)
theorem dX20_compareTo_2_77 : decode cX20_compareTo_2 77 = .ok (.aload_n 0, 1) := dk_42 (dk_at dksX20_compareTo_2_3 6 rfl rfl)
theorem dX20_compareTo_2_78 : decode cX20_compareTo_2 78 = .ok (.invokevirtual 20, 3) := dk_182 0 20 (dk_at dksX20_compareTo_2_3 7 rfl rfl)
theorem dX20_compareTo_2_81 : decode cX20_compareTo_2 81 = .ok (.aload_n 1, 1) := dk_43 (dk_at dksX20_compareTo_2_3 10 rfl rfl)
theorem dX20_compareTo_2_82 : decode cX20_compareTo_2 82 = .ok (.invokevirtual 20, 3) := dk_182 0 20 (dk_at dksX20_compareTo_2_3 11 rfl rfl)
theorem dX20_compareTo_2_85 : decode cX20_compareTo_2 85 = .ok (.isub, 1) := dk_100 (dk_at dksX20_compareTo_2_3 14 rfl rfl)
theorem dX20_compareTo_2_86 : decode cX20_compareTo_2 86 = .ok (.ireturn, 1) := dk_172 (dk_at dksX20_compareTo_2_3 15 rfl rfl)
abbrev cX7_compareTo_2 : ByteArray := prog_27_method_3_code
def dkwX7_compareTo_2_0 : List UInt8 := [42, 43, 182, 0, 20, 61, 28, 153, 0, 7, 28, 167, 0, 12, 42, 180, 0, 7, 43, 180, 0, 7, 100, 172]
abbrev dktX7_compareTo_2_0 : List UInt8 := dkwX7_compareTo_2_0 ++ []
theorem dksX7_compareTo_2_0 : cX7_compareTo_2.data.toList.drop 0 = dktX7_compareTo_2_0 := by decide +kernel
theorem dX7_compareTo_2_0 : decode cX7_compareTo_2 0 = .ok (.aload_n 0, 1) := dk_42 (dk_at dksX7_compareTo_2_0 0 rfl rfl)
theorem dX7_compareTo_2_1 : decode cX7_compareTo_2 1 = .ok (.aload_n 1, 1) := dk_43 (dk_at dksX7_compareTo_2_0 1 rfl rfl)
theorem dX7_compareTo_2_2 : decode cX7_compareTo_2 2 = .ok (.invokevirtual 20, 3) := dk_182 0 20 (dk_at dksX7_compareTo_2_0 2 rfl rfl)
theorem dX7_compareTo_2_5 : decode cX7_compareTo_2 5 = .ok (.istore_n 2, 1) := dk_61 (dk_at dksX7_compareTo_2_0 5 rfl rfl)
theorem dX7_compareTo_2_6 : decode cX7_compareTo_2 6 = .ok (.iload_n 2, 1) := dk_28 (dk_at dksX7_compareTo_2_0 6 rfl rfl)
theorem dX7_compareTo_2_7 : decode cX7_compareTo_2 7 = .ok (.ifCond .eq 7, 3) := dk_153 0 7 (dk_at dksX7_compareTo_2_0 7 rfl rfl)
theorem dX7_compareTo_2_10 : decode cX7_compareTo_2 10 = .ok (.iload_n 2, 1) := dk_28 (dk_at dksX7_compareTo_2_0 10 rfl rfl)
theorem dX7_compareTo_2_11 : decode cX7_compareTo_2 11 = .ok (.goto 12, 3) := dk_167 0 12 (dk_at dksX7_compareTo_2_0 11 rfl rfl)
theorem dX7_compareTo_2_14 : decode cX7_compareTo_2 14 = .ok (.aload_n 0, 1) := dk_42 (dk_at dksX7_compareTo_2_0 14 rfl rfl)
theorem dX7_compareTo_2_15 : decode cX7_compareTo_2 15 = .ok (.getfield 7, 3) := dk_180 0 7 (dk_at dksX7_compareTo_2_0 15 rfl rfl)
theorem dX7_compareTo_2_18 : decode cX7_compareTo_2 18 = .ok (.aload_n 1, 1) := dk_43 (dk_at dksX7_compareTo_2_0 18 rfl rfl)
theorem dX7_compareTo_2_19 : decode cX7_compareTo_2 19 = .ok (.getfield 7, 3) := dk_180 0 7 (dk_at dksX7_compareTo_2_0 19 rfl rfl)
theorem dX7_compareTo_2_22 : decode cX7_compareTo_2 22 = .ok (.isub, 1) := dk_100 (dk_at dksX7_compareTo_2_0 22 rfl rfl)
theorem dX7_compareTo_2_23 : decode cX7_compareTo_2 23 = .ok (.ireturn, 1) := dk_172 (dk_at dksX7_compareTo_2_0 23 rfl rfl)
abbrev cX21_hinders : ByteArray := prog_19_method_2_code
def dkwX21_hinders_0 : List UInt8 := [27, 2, 159, 0, 14, 42, 180, 0, 18, 180, 0, 24, 27, 159, 0, 7, 4, 167, 0, 4, 3, 172]
abbrev dktX21_hinders_0 : List UInt8 := dkwX21_hinders_0 ++ []
theorem dksX21_hinders_0 : cX21_hinders.data.toList.drop 0 = dktX21_hinders_0 := by decide +kernel
theorem dX21_hinders_0 : decode cX21_hinders 0 = .ok (.iload_n 1, 1) := dk_27 (dk_at dksX21_hinders_0 0 rfl rfl)
theorem dX21_hinders_1 : decode cX21_hinders 1 = .ok (.iconst (-1), 1) := dk_2 (dk_at dksX21_hinders_0 1 rfl rfl)
theorem dX21_hinders_2 : decode cX21_hinders 2 = .ok (.if_icmp .eq 14, 3) := dk_159 0 14 (dk_at dksX21_hinders_0 2 rfl rfl)
theorem dX21_hinders_5 : decode cX21_hinders 5 = .ok (.aload_n 0, 1) := dk_42 (dk_at dksX21_hinders_0 5 rfl rfl)
theorem dX21_hinders_6 : decode cX21_hinders 6 = .ok (.getfield 18, 3) := dk_180 0 18 (dk_at dksX21_hinders_0 6 rfl rfl)
theorem dX21_hinders_9 : decode cX21_hinders 9 = .ok (.getfield 24, 3) := dk_180 0 24 (dk_at dksX21_hinders_0 9 rfl rfl)
theorem dX21_hinders_12 : decode cX21_hinders 12 = .ok (.iload_n 1, 1) := dk_27 (dk_at dksX21_hinders_0 12 rfl rfl)
theorem dX21_hinders_13 : decode cX21_hinders 13 = .ok (.if_icmp .eq 7, 3) := dk_159 0 7 (dk_at dksX21_hinders_0 13 rfl rfl)
theorem dX21_hinders_16 : decode cX21_hinders 16 = .ok (.iconst 1, 1) := dk_4 (dk_at dksX21_hinders_0 16 rfl rfl)
theorem dX21_hinders_17 : decode cX21_hinders 17 = .ok (.goto 4, 3) := dk_167 0 4 (dk_at dksX21_hinders_0 17 rfl rfl)
theorem dX21_hinders_20 : decode cX21_hinders 20 = .ok (.iconst 0, 1) := dk_3 (dk_at dksX21_hinders_0 20 rfl rfl)
theorem dX21_hinders_21 : decode cX21_hinders 21 = .ok (.ireturn, 1) := dk_172 (dk_at dksX21_hinders_0 21 rfl rfl)
abbrev cX24_hinders : ByteArray := prog_23_method_2_code
theorem dX24_hinders_0 : decode cX24_hinders 0 = .ok (.iconst 1, 1) := by decide +kernel
theorem dX24_hinders_1 : decode cX24_hinders 1 = .ok (.ireturn, 1) := by decide +kernel
abbrev cX23_hinders : ByteArray := prog_26_method_2_code
theorem dX23_hinders_0 : decode cX23_hinders 0 = .ok (.iconst 1, 1) := by decide +kernel
theorem dX23_hinders_1 : decode cX23_hinders 1 = .ok (.ireturn, 1) := by decide +kernel
abbrev cX26_isOwn : ByteArray := prog_22_method_3_code
def dkwX26_isOwn_1 : List UInt8 := [167, 0, 4, 3, 172]
abbrev dktX26_isOwn_1 : List UInt8 := dkwX26_isOwn_1 ++ []
def dkwX26_isOwn_0 : List UInt8 := [43, 193, 0, 67, 153, 0, 21, 43, 182, 0, 69, 42, 180, 0, 13, 180, 0, 74, 160, 0, 7, 4]
abbrev dktX26_isOwn_0 : List UInt8 := dkwX26_isOwn_0 ++ dktX26_isOwn_1
theorem dksX26_isOwn_0 : cX26_isOwn.data.toList.drop 0 = dktX26_isOwn_0 := by decide +kernel
theorem dksX26_isOwn_1 : cX26_isOwn.data.toList.drop 22 = dktX26_isOwn_1 := dk_seg dksX26_isOwn_0 22 rfl rfl
theorem dX26_isOwn_0 : decode cX26_isOwn 0 = .ok (.aload_n 1, 1) := dk_43 (dk_at dksX26_isOwn_0 0 rfl rfl)
theorem dX26_isOwn_1 : decode cX26_isOwn 1 = .ok (.instanceof 67, 3) := dk_193 0 67 (dk_at dksX26_isOwn_0 1 rfl rfl)
theorem dX26_isOwn_4 : decode cX26_isOwn 4 = .ok (.ifCond .eq 21, 3) := dk_153 0 21 (dk_at dksX26_isOwn_0 4 rfl rfl)
theorem dX26_isOwn_7 : decode cX26_isOwn 7 = .ok (.aload_n 1, 1) := dk_43 (dk_at dksX26_isOwn_0 7 rfl rfl)
theorem dX26_isOwn_8 : decode cX26_isOwn 8 = .ok (.invokevirtual 69, 3) := dk_182 0 69 (dk_at dksX26_isOwn_0 8 rfl rfl)
theorem dX26_isOwn_11 : decode cX26_isOwn 11 = .ok (.aload_n 0, 1) := dk_42 (dk_at dksX26_isOwn_0 11 rfl rfl)
theorem dX26_isOwn_12 : decode cX26_isOwn 12 = .ok (.getfield 13, 3) := dk_180 0 13 (dk_at dksX26_isOwn_0 12 rfl rfl)
theorem dX26_isOwn_15 : decode cX26_isOwn 15 = .ok (.getfield 74, 3) := dk_180 0 74 (dk_at dksX26_isOwn_0 15 rfl rfl)
theorem dX26_isOwn_18 : decode cX26_isOwn 18 = .ok (.if_icmp .ne 7, 3) := dk_160 0 7 (dk_at dksX26_isOwn_0 18 rfl rfl)
theorem dX26_isOwn_21 : decode cX26_isOwn 21 = .ok (.iconst 1, 1) := dk_4 (dk_at dksX26_isOwn_0 21 rfl rfl)
theorem dX26_isOwn_22 : decode cX26_isOwn 22 = .ok (.goto 4, 3) := dk_167 0 4 (dk_at dksX26_isOwn_1 0 rfl rfl)
theorem dX26_isOwn_25 : decode cX26_isOwn 25 = .ok (.iconst 0, 1) := dk_3 (dk_at dksX26_isOwn_1 3 rfl rfl)
theorem dX26_isOwn_26 : decode cX26_isOwn 26 = .ok (.ireturn, 1) := dk_172 (dk_at dksX26_isOwn_1 4 rfl rfl)
abbrev cX27_isMoved : ByteArray := prog_21_method_2_code
def dkwX27_isMoved_3 : List UInt8 := [180, 0, 75, 180, 0, 84, 96, 4, 100, 133, 184, 0, 87, 153, 0, 5, 4, 172, 167, 255, 175, 3, 172]
abbrev dktX27_isMoved_3 : List UInt8 := dkwX27_isMoved_3 ++ []
def dkwX27_isMoved_2 : List UInt8 := [160, 0, 42, 28, 133, 25, 4, 180, 0, 75, 180, 0, 79, 133, 25, 4, 180, 0, 75, 180, 0, 79, 25, 4]
abbrev dktX27_isMoved_2 : List UInt8 := dkwX27_isMoved_2 ++ dktX27_isMoved_3
def dkwX27_isMoved_1 : List UInt8 := [192, 0, 59, 58, 4, 43, 193, 0, 61, 153, 0, 57, 43, 182, 0, 63, 25, 4, 180, 0, 69, 180, 0, 70]
abbrev dktX27_isMoved_1 : List UInt8 := dkwX27_isMoved_1 ++ dktX27_isMoved_2
def dkwX27_isMoved_0 : List UInt8 := [42, 180, 0, 18, 182, 0, 45, 78, 45, 185, 0, 49, 1, 0, 153, 0, 78, 45, 185, 0, 55, 1, 0]
abbrev dktX27_isMoved_0 : List UInt8 := dkwX27_isMoved_0 ++ dktX27_isMoved_1
theorem dksX27_isMoved_0 : cX27_isMoved.data.toList.drop 0 = dktX27_isMoved_0 := by decide +kernel
theorem dksX27_isMoved_1 : cX27_isMoved.data.toList.drop 23 = dktX27_isMoved_1 := dk_seg dksX27_isMoved_0 23 rfl rfl
theorem dksX27_isMoved_2 : cX27_isMoved.data.toList.drop 47 = dktX27_isMoved_2 := dk_seg dksX27_isMoved_1 24 rfl rfl
theorem dksX27_isMoved_3 : cX27_isMoved.data.toList.drop 71 = dktX27_isMoved_3 := dk_seg dksX27_isMoved_2 24 rfl rfl
theorem dX27_isMoved_0 : decode cX27_isMoved 0 = .ok (.aload_n 0, 1) := dk_42 (dk_at dksX27_isMoved_0 0 rfl rfl)
theorem dX27_isMoved_1 : decode cX27_isMoved 1 = .ok (.getfield 18, 3) := dk_180 0 18 (dk_at dksX27_isMoved_0 1 rfl rfl)
theorem dX27_isMoved_4 : decode cX27_isMoved 4 = .ok (.invokevirtual 45, 3) := dk_182 0 45 (dk_at dksX27_isMoved_0 4 rfl rfl)
theorem dX27_isMoved_7 : decode cX27_isMoved 7 = .ok (.astore_n 3, 1) := dk_78 (dk_at dksX27_isMoved_0 7 rfl rfl)
theorem dX27_isMoved_8 : decode cX27_isMoved 8 = .ok (.aload_n 3, 1) := dk_45 (dk_at dksX27_isMoved_0 8 rfl rfl)
theorem dX27_isMoved_9 : decode cX27_isMoved 9 = .ok (.invokeinterface 49 1, 5) := by decide +kernel
theorem dX27_isMoved_14 : decode cX27_isMoved 14 = .ok (.ifCond .eq 78, 3) := dk_153 0 78 (dk_at dksX27_isMoved_0 14 rfl rfl)
theorem dX27_isMoved_17 : decode cX27_isMoved 17 = .ok (.aload_n 3, 1) := dk_45 (dk_at dksX27_isMoved_0 17 rfl rfl)
theorem dX27_isMoved_18 : decode cX27_isMoved 18 = .ok (.invokeinterface 55 1, 5) := by decide +kernel
theorem dX27_isMoved_23 : decode cX27_isMoved 23 = .ok (.checkcast 59, 3) := dk_192 0 59 (dk_at dksX27_isMoved_1 0 rfl rfl)
theorem dX27_isMoved_26 : decode cX27_isMoved 26 = .ok (.astore 4, 2) := dk_58 4 (dk_at dksX27_isMoved_1 3 rfl rfl)
theorem dX27_isMoved_28 : decode cX27_isMoved 28 = .ok (.aload_n 1, 1) := dk_43 (dk_at dksX27_isMoved_1 5 rfl rfl)
theorem dX27_isMoved_29 : decode cX27_isMoved 29 = .ok (.instanceof 61, 3) := dk_193 0 61 (dk_at dksX27_isMoved_1 6 rfl rfl)
theorem dX27_isMoved_32 : decode cX27_isMoved 32 = .ok (.ifCond .eq 57, 3) := dk_153 0 57 (dk_at dksX27_isMoved_1 9 rfl rfl)
theorem dX27_isMoved_35 : decode cX27_isMoved 35 = .ok (.aload_n 1, 1) := dk_43 (dk_at dksX27_isMoved_1 12 rfl rfl)
theorem dX27_isMoved_36 : decode cX27_isMoved 36 = .ok (.invokevirtual 63, 3) := dk_182 0 63 (dk_at dksX27_isMoved_1 13 rfl rfl)
theorem dX27_isMoved_39 : decode cX27_isMoved 39 = .ok (.aload 4, 2) := dk_25 4 (dk_at dksX27_isMoved_1 16 rfl rfl)
theorem dX27_isMoved_41 : decode cX27_isMoved 41 = .ok (.getfield 69, 3) := dk_180 0 69 (dk_at dksX27_isMoved_1 18 rfl rfl)
theorem dX27_isMoved_44 : decode cX27_isMoved 44 = .ok (.getfield 70, 3) := dk_180 0 70 (dk_at dksX27_isMoved_1 21 rfl rfl)
theorem dX27_isMoved_47 : decode cX27_isMoved 47 = .ok (.if_icmp .ne 42, 3) := dk_160 0 42 (dk_at dksX27_isMoved_2 0 rfl rfl)
theorem dX27_isMoved_50 : decode cX27_isMoved 50 = .ok (.iload_n 2, 1) := dk_28 (dk_at dksX27_isMoved_2 3 rfl rfl)
theorem dX27_isMoved_51 : decode cX27_isMoved 51 = .ok (.i2l, 1) := dk_133 (dk_at dksX27_isMoved_2 4 rfl rfl)
theorem dX27_isMoved_52 : decode cX27_isMoved 52 = .ok (.aload 4, 2) := dk_25 4 (dk_at dksX27_isMoved_2 5 rfl rfl)
theorem dX27_isMoved_54 : decode cX27_isMoved 54 = .ok (.getfield 75, 3) := dk_180 0 75 (dk_at dksX27_isMoved_2 7 rfl rfl)
theorem dX27_isMoved_57 : decode cX27_isMoved 57 = .ok (.getfield 79, 3) := dk_180 0 79 (dk_at dksX27_isMoved_2 10 rfl rfl)
theorem dX27_isMoved_60 : decode cX27_isMoved 60 = .ok (.i2l, 1) := dk_133 (dk_at dksX27_isMoved_2 13 rfl rfl)
theorem dX27_isMoved_61 : decode cX27_isMoved 61 = .ok (.aload 4, 2) := dk_25 4 (dk_at dksX27_isMoved_2 14 rfl rfl)
theorem dX27_isMoved_63 : decode cX27_isMoved 63 = .ok (.getfield 75, 3) := dk_180 0 75 (dk_at dksX27_isMoved_2 16 rfl rfl)
theorem dX27_isMoved_66 : decode cX27_isMoved 66 = .ok (.getfield 79, 3) := dk_180 0 79 (dk_at dksX27_isMoved_2 19 rfl rfl)
theorem dX27_isMoved_69 : decode cX27_isMoved 69 = .ok (.aload 4, 2) := dk_25 4 (dk_at dksX27_isMoved_2 22 rfl rfl)
theorem dX27_isMoved_71 : decode cX27_isMoved 71 = .ok (.getfield 75, 3) := dk_180 0 75 (dk_at dksX27_isMoved_3 0 rfl rfl)
theorem dX27_isMoved_74 : decode cX27_isMoved 74 = .ok (.getfield 84, 3) := dk_180 0 84 (dk_at dksX27_isMoved_3 3 rfl rfl)
theorem dX27_isMoved_77 : decode cX27_isMoved 77 = .ok (.iadd, 1) := dk_96 (dk_at dksX27_isMoved_3 6 rfl rfl)
theorem dX27_isMoved_78 : decode cX27_isMoved 78 = .ok (.iconst 1, 1) := dk_4 (dk_at dksX27_isMoved_3 7 rfl rfl)
theorem dX27_isMoved_79 : decode cX27_isMoved 79 = .ok (.isub, 1) := dk_100 (dk_at dksX27_isMoved_3 8 rfl rfl)
theorem dX27_isMoved_80 : decode cX27_isMoved 80 = .ok (.i2l, 1) := dk_133 (dk_at dksX27_isMoved_3 9 rfl rfl)
theorem dX27_isMoved_81 : decode cX27_isMoved 81 = .ok (.invokestatic 87, 3) := dk_184 0 87 (dk_at dksX27_isMoved_3 10 rfl rfl)
theorem dX27_isMoved_84 : decode cX27_isMoved 84 = .ok (.ifCond .eq 5, 3) := dk_153 0 5 (dk_at dksX27_isMoved_3 13 rfl rfl)
theorem dX27_isMoved_87 : decode cX27_isMoved 87 = .ok (.iconst 1, 1) := dk_4 (dk_at dksX27_isMoved_3 16 rfl rfl)
theorem dX27_isMoved_88 : decode cX27_isMoved 88 = .ok (.ireturn, 1) := dk_172 (dk_at dksX27_isMoved_3 17 rfl rfl)
theorem dX27_isMoved_89 : decode cX27_isMoved 89 = .ok (.goto (-81), 3) := dk_167 255 175 (dk_at dksX27_isMoved_3 18 rfl rfl)
theorem dX27_isMoved_92 : decode cX27_isMoved 92 = .ok (.iconst 0, 1) := dk_3 (dk_at dksX27_isMoved_3 21 rfl rfl)
theorem dX27_isMoved_93 : decode cX27_isMoved 93 = .ok (.ireturn, 1) := dk_172 (dk_at dksX27_isMoved_3 22 rfl rfl)
abbrev cX1_runFor : ByteArray := prog_8_method_12_code
def dkwX1_runFor_4 : List UInt8 := [21, 7, 4, 96, 54, 6, 132, 7, 1, 167, 255, 166, 21, 4, 172]
abbrev dktX1_runFor_4 : List UInt8 := dkwX1_runFor_4 ++ []
def dkwX1_runFor_3 : List UInt8 := [161, 0, 24, 21, 7, 21, 6, 100, 21, 5, 162, 0, 14, 21, 6, 54, 4, 21, 7, 21, 6, 100, 54, 5]
abbrev dktX1_runFor_3 : List UInt8 := dkwX1_runFor_3 ++ dktX1_runFor_4
def dkwX1_runFor_2 : List UInt8 := [180, 0, 213, 96, 45, 182, 1, 24, 153, 0, 6, 167, 0, 42, 21, 7, 21, 6, 100, 43, 180, 0, 248]
abbrev dktX1_runFor_2 : List UInt8 := dkwX1_runFor_2 ++ dktX1_runFor_3
def dkwX1_runFor_1 : List UInt8 := [162, 0, 37, 42, 180, 0, 103, 21, 7, 51, 154, 0, 27, 42, 180, 0, 11, 21, 7, 50, 28, 28, 43]
abbrev dktX1_runFor_1 : List UInt8 := dkwX1_runFor_1 ++ dktX1_runFor_2
def dkwX1_runFor_0 : List UInt8 := [2, 54, 4, 16, 17, 54, 5, 3, 54, 6, 3, 54, 7, 21, 7, 16, 16, 163, 0, 89, 21, 7, 16, 16]
abbrev dktX1_runFor_0 : List UInt8 := dkwX1_runFor_0 ++ dktX1_runFor_1
theorem dksX1_runFor_0 : cX1_runFor.data.toList.drop 0 = dktX1_runFor_0 := by decide +kernel
theorem dksX1_runFor_1 : cX1_runFor.data.toList.drop 24 = dktX1_runFor_1 := dk_seg dksX1_runFor_0 24 rfl rfl
theorem dksX1_runFor_2 : cX1_runFor.data.toList.drop 47 = dktX1_runFor_2 := dk_seg dksX1_runFor_1 23 rfl rfl
theorem dksX1_runFor_3 : cX1_runFor.data.toList.drop 70 = dktX1_runFor_3 := dk_seg dksX1_runFor_2 23 rfl rfl
theorem dksX1_runFor_4 : cX1_runFor.data.toList.drop 94 = dktX1_runFor_4 := dk_seg dksX1_runFor_3 24 rfl rfl
theorem dX1_runFor_0 : decode cX1_runFor 0 = .ok (.iconst (-1), 1) := dk_2 (dk_at dksX1_runFor_0 0 rfl rfl)
theorem dX1_runFor_1 : decode cX1_runFor 1 = .ok (.istore 4, 2) := dk_54 4 (dk_at dksX1_runFor_0 1 rfl rfl)
theorem dX1_runFor_3 : decode cX1_runFor 3 = .ok (.bipush 17, 2) := dk_16 17 (dk_at dksX1_runFor_0 3 rfl rfl)
theorem dX1_runFor_5 : decode cX1_runFor 5 = .ok (.istore 5, 2) := dk_54 5 (dk_at dksX1_runFor_0 5 rfl rfl)
theorem dX1_runFor_7 : decode cX1_runFor 7 = .ok (.iconst 0, 1) := dk_3 (dk_at dksX1_runFor_0 7 rfl rfl)
theorem dX1_runFor_8 : decode cX1_runFor 8 = .ok (.istore 6, 2) := dk_54 6 (dk_at dksX1_runFor_0 8 rfl rfl)
theorem dX1_runFor_10 : decode cX1_runFor 10 = .ok (.iconst 0, 1) := dk_3 (dk_at dksX1_runFor_0 10 rfl rfl)
theorem dX1_runFor_11 : decode cX1_runFor 11 = .ok (.istore 7, 2) := dk_54 7 (dk_at dksX1_runFor_0 11 rfl rfl)
theorem dX1_runFor_13 : decode cX1_runFor 13 = .ok (.iload 7, 2) := dk_21 7 (dk_at dksX1_runFor_0 13 rfl rfl)
theorem dX1_runFor_15 : decode cX1_runFor 15 = .ok (.bipush 16, 2) := dk_16 16 (dk_at dksX1_runFor_0 15 rfl rfl)
theorem dX1_runFor_17 : decode cX1_runFor 17 = .ok (.if_icmp .gt 89, 3) := dk_163 0 89 (dk_at dksX1_runFor_0 17 rfl rfl)
theorem dX1_runFor_20 : decode cX1_runFor 20 = .ok (.iload 7, 2) := dk_21 7 (dk_at dksX1_runFor_0 20 rfl rfl)
theorem dX1_runFor_22 : decode cX1_runFor 22 = .ok (.bipush 16, 2) := dk_16 16 (dk_at dksX1_runFor_0 22 rfl rfl)
theorem dX1_runFor_24 : decode cX1_runFor 24 = .ok (.if_icmp .ge 37, 3) := dk_162 0 37 (dk_at dksX1_runFor_1 0 rfl rfl)
theorem dX1_runFor_27 : decode cX1_runFor 27 = .ok (.aload_n 0, 1) := dk_42 (dk_at dksX1_runFor_1 3 rfl rfl)
theorem dX1_runFor_28 : decode cX1_runFor 28 = .ok (.getfield 103, 3) := dk_180 0 103 (dk_at dksX1_runFor_1 4 rfl rfl)
theorem dX1_runFor_31 : decode cX1_runFor 31 = .ok (.iload 7, 2) := dk_21 7 (dk_at dksX1_runFor_1 7 rfl rfl)
theorem dX1_runFor_33 : decode cX1_runFor 33 = .ok (.baload, 1) := dk_51 (dk_at dksX1_runFor_1 9 rfl rfl)
theorem dX1_runFor_34 : decode cX1_runFor 34 = .ok (.ifCond .ne 27, 3) := dk_154 0 27 (dk_at dksX1_runFor_1 10 rfl rfl)
theorem dX1_runFor_37 : decode cX1_runFor 37 = .ok (.aload_n 0, 1) := dk_42 (dk_at dksX1_runFor_1 13 rfl rfl)
theorem dX1_runFor_38 : decode cX1_runFor 38 = .ok (.getfield 11, 3) := dk_180 0 11 (dk_at dksX1_runFor_1 14 rfl rfl)
theorem dX1_runFor_41 : decode cX1_runFor 41 = .ok (.iload 7, 2) := dk_21 7 (dk_at dksX1_runFor_1 17 rfl rfl)
theorem dX1_runFor_43 : decode cX1_runFor 43 = .ok (.aaload, 1) := dk_50 (dk_at dksX1_runFor_1 19 rfl rfl)
theorem dX1_runFor_44 : decode cX1_runFor 44 = .ok (.iload_n 2, 1) := dk_28 (dk_at dksX1_runFor_1 20 rfl rfl)
theorem dX1_runFor_45 : decode cX1_runFor 45 = .ok (.iload_n 2, 1) := dk_28 (dk_at dksX1_runFor_1 21 rfl rfl)
theorem dX1_runFor_46 : decode cX1_runFor 46 = .ok (.aload_n 1, 1) := dk_43 (dk_at dksX1_runFor_1 22 rfl rfl)
theorem dX1_runFor_47 : decode cX1_runFor 47 = .ok (.getfield 213, 3) := dk_180 0 213 (dk_at dksX1_runFor_2 0 rfl rfl)
theorem dX1_runFor_50 : decode cX1_runFor 50 = .ok (.iadd, 1) := dk_96 (dk_at dksX1_runFor_2 3 rfl rfl)
theorem dX1_runFor_51 : decode cX1_runFor 51 = .ok (.aload_n 3, 1) := dk_45 (dk_at dksX1_runFor_2 4 rfl rfl)
theorem dX1_runFor_52 : decode cX1_runFor 52 = .ok (.invokevirtual 280, 3) := dk_182 1 24 (dk_at dksX1_runFor_2 5 rfl rfl)
theorem dX1_runFor_55 : decode cX1_runFor 55 = .ok (.ifCond .eq 6, 3) := dk_153 0 6 (dk_at dksX1_runFor_2 8 rfl rfl)
theorem dX1_runFor_58 : decode cX1_runFor 58 = .ok (.goto 42, 3) := dk_167 0 42 (dk_at dksX1_runFor_2 11 rfl rfl)
theorem dX1_runFor_61 : decode cX1_runFor 61 = .ok (.iload 7, 2) := dk_21 7 (dk_at dksX1_runFor_2 14 rfl rfl)
theorem dX1_runFor_63 : decode cX1_runFor 63 = .ok (.iload 6, 2) := dk_21 6 (dk_at dksX1_runFor_2 16 rfl rfl)
theorem dX1_runFor_65 : decode cX1_runFor 65 = .ok (.isub, 1) := dk_100 (dk_at dksX1_runFor_2 18 rfl rfl)
theorem dX1_runFor_66 : decode cX1_runFor 66 = .ok (.aload_n 1, 1) := dk_43 (dk_at dksX1_runFor_2 19 rfl rfl)
theorem dX1_runFor_67 : decode cX1_runFor 67 = .ok (.getfield 248, 3) := dk_180 0 248 (dk_at dksX1_runFor_2 20 rfl rfl)
theorem dX1_runFor_70 : decode cX1_runFor 70 = .ok (.if_icmp .lt 24, 3) := dk_161 0 24 (dk_at dksX1_runFor_3 0 rfl rfl)
theorem dX1_runFor_73 : decode cX1_runFor 73 = .ok (.iload 7, 2) := dk_21 7 (dk_at dksX1_runFor_3 3 rfl rfl)
theorem dX1_runFor_75 : decode cX1_runFor 75 = .ok (.iload 6, 2) := dk_21 6 (dk_at dksX1_runFor_3 5 rfl rfl)
theorem dX1_runFor_77 : decode cX1_runFor 77 = .ok (.isub, 1) := dk_100 (dk_at dksX1_runFor_3 7 rfl rfl)
theorem dX1_runFor_78 : decode cX1_runFor 78 = .ok (.iload 5, 2) := dk_21 5 (dk_at dksX1_runFor_3 8 rfl rfl)
theorem dX1_runFor_80 : decode cX1_runFor 80 = .ok (.if_icmp .ge 14, 3) := dk_162 0 14 (dk_at dksX1_runFor_3 10 rfl rfl)
theorem dX1_runFor_83 : decode cX1_runFor 83 = .ok (.iload 6, 2) := dk_21 6 (dk_at dksX1_runFor_3 13 rfl rfl)
theorem dX1_runFor_85 : decode cX1_runFor 85 = .ok (.istore 4, 2) := dk_54 4 (dk_at dksX1_runFor_3 15 rfl rfl)
theorem dX1_runFor_87 : decode cX1_runFor 87 = .ok (.iload 7, 2) := dk_21 7 (dk_at dksX1_runFor_3 17 rfl rfl)
theorem dX1_runFor_89 : decode cX1_runFor 89 = .ok (.iload 6, 2) := dk_21 6 (dk_at dksX1_runFor_3 19 rfl rfl)
theorem dX1_runFor_91 : decode cX1_runFor 91 = .ok (.isub, 1) := dk_100 (dk_at dksX1_runFor_3 21 rfl rfl)
theorem dX1_runFor_92 : decode cX1_runFor 92 = .ok (.istore 5, 2) := dk_54 5 (dk_at dksX1_runFor_3 22 rfl rfl)
theorem dX1_runFor_94 : decode cX1_runFor 94 = .ok (.iload 7, 2) := dk_21 7 (dk_at dksX1_runFor_4 0 rfl rfl)
theorem dX1_runFor_96 : decode cX1_runFor 96 = .ok (.iconst 1, 1) := dk_4 (dk_at dksX1_runFor_4 2 rfl rfl)
theorem dX1_runFor_97 : decode cX1_runFor 97 = .ok (.iadd, 1) := dk_96 (dk_at dksX1_runFor_4 3 rfl rfl)
theorem dX1_runFor_98 : decode cX1_runFor 98 = .ok (.istore 6, 2) := dk_54 6 (dk_at dksX1_runFor_4 4 rfl rfl)
theorem dX1_runFor_100 : decode cX1_runFor 100 = .ok (.iinc 7 1, 3) := dk_132 7 1 (dk_at dksX1_runFor_4 6 rfl rfl)
theorem dX1_runFor_103 : decode cX1_runFor 103 = .ok (.goto (-90), 3) := dk_167 255 166 (dk_at dksX1_runFor_4 9 rfl rfl)
theorem dX1_runFor_106 : decode cX1_runFor 106 = .ok (.iload 4, 2) := dk_21 4 (dk_at dksX1_runFor_4 12 rfl rfl)
theorem dX1_runFor_108 : decode cX1_runFor 108 = .ok (.ireturn, 1) := dk_172 (dk_at dksX1_runFor_4 14 rfl rfl)
abbrev cX27_freeFor : ByteArray := prog_21_method_3_code
def dkwX27_freeFor_4 : List UInt8 := [25, 4, 176]
abbrev dktX27_freeFor_4 : List UInt8 := dkwX27_freeFor_4 ++ []
def dkwX27_freeFor_3 : List UInt8 := [186, 0, 95, 0, 0, 182, 0, 99, 153, 0, 7, 4, 167, 0, 4, 3, 84, 132, 5, 1, 167, 255, 175]
abbrev dktX27_freeFor_3 : List UInt8 := dkwX27_freeFor_3 ++ dktX27_freeFor_4
def dkwX27_freeFor_2 : List UInt8 := [180, 0, 28, 180, 0, 32, 42, 180, 0, 3, 180, 0, 28, 180, 0, 32, 28, 96, 42, 21, 6, 27]
abbrev dktX27_freeFor_2 : List UInt8 := dkwX27_freeFor_2 ++ dktX27_freeFor_3
def dkwX27_freeFor_1 : List UInt8 := [45, 21, 5, 51, 154, 0, 57, 42, 180, 0, 3, 180, 0, 28, 180, 0, 91, 21, 5, 50, 42, 180, 0, 3]
abbrev dktX27_freeFor_1 : List UInt8 := dkwX27_freeFor_1 ++ dktX27_freeFor_2
def dkwX27_freeFor_0 : List UInt8 := [16, 16, 188, 4, 58, 4, 3, 54, 5, 21, 5, 16, 16, 162, 0, 80, 21, 5, 54, 6, 25, 4, 21, 5]
abbrev dktX27_freeFor_0 : List UInt8 := dkwX27_freeFor_0 ++ dktX27_freeFor_1
theorem dksX27_freeFor_0 : cX27_freeFor.data.toList.drop 0 = dktX27_freeFor_0 := by decide +kernel
theorem dksX27_freeFor_1 : cX27_freeFor.data.toList.drop 24 = dktX27_freeFor_1 := dk_seg dksX27_freeFor_0 24 rfl rfl
theorem dksX27_freeFor_2 : cX27_freeFor.data.toList.drop 48 = dktX27_freeFor_2 := dk_seg dksX27_freeFor_1 24 rfl rfl
theorem dksX27_freeFor_3 : cX27_freeFor.data.toList.drop 70 = dktX27_freeFor_3 := dk_seg dksX27_freeFor_2 22 rfl rfl
theorem dksX27_freeFor_4 : cX27_freeFor.data.toList.drop 93 = dktX27_freeFor_4 := dk_seg dksX27_freeFor_3 23 rfl rfl
theorem dX27_freeFor_0 : decode cX27_freeFor 0 = .ok (.bipush 16, 2) := dk_16 16 (dk_at dksX27_freeFor_0 0 rfl rfl)
theorem dX27_freeFor_2 : decode cX27_freeFor 2 = .ok (.newarray .boolean, 2) := dk_188_4 (dk_at dksX27_freeFor_0 2 rfl rfl)
theorem dX27_freeFor_4 : decode cX27_freeFor 4 = .ok (.astore 4, 2) := dk_58 4 (dk_at dksX27_freeFor_0 4 rfl rfl)
theorem dX27_freeFor_6 : decode cX27_freeFor 6 = .ok (.iconst 0, 1) := dk_3 (dk_at dksX27_freeFor_0 6 rfl rfl)
theorem dX27_freeFor_7 : decode cX27_freeFor 7 = .ok (.istore 5, 2) := dk_54 5 (dk_at dksX27_freeFor_0 7 rfl rfl)
theorem dX27_freeFor_9 : decode cX27_freeFor 9 = .ok (.iload 5, 2) := dk_21 5 (dk_at dksX27_freeFor_0 9 rfl rfl)
theorem dX27_freeFor_11 : decode cX27_freeFor 11 = .ok (.bipush 16, 2) := dk_16 16 (dk_at dksX27_freeFor_0 11 rfl rfl)
theorem dX27_freeFor_13 : decode cX27_freeFor 13 = .ok (.if_icmp .ge 80, 3) := dk_162 0 80 (dk_at dksX27_freeFor_0 13 rfl rfl)
theorem dX27_freeFor_16 : decode cX27_freeFor 16 = .ok (.iload 5, 2) := dk_21 5 (dk_at dksX27_freeFor_0 16 rfl rfl)
theorem dX27_freeFor_18 : decode cX27_freeFor 18 = .ok (.istore 6, 2) := dk_54 6 (dk_at dksX27_freeFor_0 18 rfl rfl)
theorem dX27_freeFor_20 : decode cX27_freeFor 20 = .ok (.aload 4, 2) := dk_25 4 (dk_at dksX27_freeFor_0 20 rfl rfl)
theorem dX27_freeFor_22 : decode cX27_freeFor 22 = .ok (.iload 5, 2) := dk_21 5 (dk_at dksX27_freeFor_0 22 rfl rfl)
theorem dX27_freeFor_24 : decode cX27_freeFor 24 = .ok (.aload_n 3, 1) := dk_45 (dk_at dksX27_freeFor_1 0 rfl rfl)
theorem dX27_freeFor_25 : decode cX27_freeFor 25 = .ok (.iload 5, 2) := dk_21 5 (dk_at dksX27_freeFor_1 1 rfl rfl)
theorem dX27_freeFor_27 : decode cX27_freeFor 27 = .ok (.baload, 1) := dk_51 (dk_at dksX27_freeFor_1 3 rfl rfl)
theorem dX27_freeFor_28 : decode cX27_freeFor 28 = .ok (.ifCond .ne 57, 3) := dk_154 0 57 (dk_at dksX27_freeFor_1 4 rfl rfl)
theorem dX27_freeFor_31 : decode cX27_freeFor 31 = .ok (.aload_n 0, 1) := dk_42 (dk_at dksX27_freeFor_1 7 rfl rfl)
theorem dX27_freeFor_32 : decode cX27_freeFor 32 = .ok (.getfield 3, 3) := dk_180 0 3 (dk_at dksX27_freeFor_1 8 rfl rfl)
theorem dX27_freeFor_35 : decode cX27_freeFor 35 = .ok (.getfield 28, 3) := dk_180 0 28 (dk_at dksX27_freeFor_1 11 rfl rfl)
theorem dX27_freeFor_38 : decode cX27_freeFor 38 = .ok (.getfield 91, 3) := dk_180 0 91 (dk_at dksX27_freeFor_1 14 rfl rfl)
theorem dX27_freeFor_41 : decode cX27_freeFor 41 = .ok (.iload 5, 2) := dk_21 5 (dk_at dksX27_freeFor_1 17 rfl rfl)
theorem dX27_freeFor_43 : decode cX27_freeFor 43 = .ok (.aaload, 1) := dk_50 (dk_at dksX27_freeFor_1 19 rfl rfl)
theorem dX27_freeFor_44 : decode cX27_freeFor 44 = .ok (.aload_n 0, 1) := dk_42 (dk_at dksX27_freeFor_1 20 rfl rfl)
theorem dX27_freeFor_45 : decode cX27_freeFor 45 = .ok (.getfield 3, 3) := dk_180 0 3 (dk_at dksX27_freeFor_1 21 rfl rfl)
theorem dX27_freeFor_48 : decode cX27_freeFor 48 = .ok (.getfield 28, 3) := dk_180 0 28 (dk_at dksX27_freeFor_2 0 rfl rfl)
theorem dX27_freeFor_51 : decode cX27_freeFor 51 = .ok (.getfield 32, 3) := dk_180 0 32 (dk_at dksX27_freeFor_2 3 rfl rfl)
theorem dX27_freeFor_54 : decode cX27_freeFor 54 = .ok (.aload_n 0, 1) := dk_42 (dk_at dksX27_freeFor_2 6 rfl rfl)
theorem dX27_freeFor_55 : decode cX27_freeFor 55 = .ok (.getfield 3, 3) := dk_180 0 3 (dk_at dksX27_freeFor_2 7 rfl rfl)
theorem dX27_freeFor_58 : decode cX27_freeFor 58 = .ok (.getfield 28, 3) := dk_180 0 28 (dk_at dksX27_freeFor_2 10 rfl rfl)
theorem dX27_freeFor_61 : decode cX27_freeFor 61 = .ok (.getfield 32, 3) := dk_180 0 32 (dk_at dksX27_freeFor_2 13 rfl rfl)
theorem dX27_freeFor_64 : decode cX27_freeFor 64 = .ok (.iload_n 2, 1) := dk_28 (dk_at dksX27_freeFor_2 16 rfl rfl)
theorem dX27_freeFor_65 : decode cX27_freeFor 65 = .ok (.iadd, 1) := dk_96 (dk_at dksX27_freeFor_2 17 rfl rfl)
theorem dX27_freeFor_66 : decode cX27_freeFor 66 = .ok (.aload_n 0, 1) := dk_42 (dk_at dksX27_freeFor_2 18 rfl rfl)
theorem dX27_freeFor_67 : decode cX27_freeFor 67 = .ok (.iload 6, 2) := dk_21 6 (dk_at dksX27_freeFor_2 19 rfl rfl)
theorem dX27_freeFor_69 : decode cX27_freeFor 69 = .ok (.iload_n 1, 1) := dk_27 (dk_at dksX27_freeFor_2 21 rfl rfl)
theorem dX27_freeFor_70 : decode cX27_freeFor 70 = .ok (.invokedynamic 95, 5) := by decide +kernel
theorem dX27_freeFor_75 : decode cX27_freeFor 75 = .ok (.invokevirtual 99, 3) := dk_182 0 99 (dk_at dksX27_freeFor_3 5 rfl rfl)
theorem dX27_freeFor_78 : decode cX27_freeFor 78 = .ok (.ifCond .eq 7, 3) := dk_153 0 7 (dk_at dksX27_freeFor_3 8 rfl rfl)
theorem dX27_freeFor_81 : decode cX27_freeFor 81 = .ok (.iconst 1, 1) := dk_4 (dk_at dksX27_freeFor_3 11 rfl rfl)
theorem dX27_freeFor_82 : decode cX27_freeFor 82 = .ok (.goto 4, 3) := dk_167 0 4 (dk_at dksX27_freeFor_3 12 rfl rfl)
theorem dX27_freeFor_85 : decode cX27_freeFor 85 = .ok (.iconst 0, 1) := dk_3 (dk_at dksX27_freeFor_3 15 rfl rfl)
theorem dX27_freeFor_86 : decode cX27_freeFor 86 = .ok (.bastore, 1) := dk_84 (dk_at dksX27_freeFor_3 16 rfl rfl)
theorem dX27_freeFor_87 : decode cX27_freeFor 87 = .ok (.iinc 5 1, 3) := dk_132 5 1 (dk_at dksX27_freeFor_3 17 rfl rfl)
theorem dX27_freeFor_90 : decode cX27_freeFor 90 = .ok (.goto (-81), 3) := dk_167 255 175 (dk_at dksX27_freeFor_3 20 rfl rfl)
theorem dX27_freeFor_93 : decode cX27_freeFor 93 = .ok (.aload 4, 2) := dk_25 4 (dk_at dksX27_freeFor_4 0 rfl rfl)
theorem dX27_freeFor_95 : decode cX27_freeFor 95 = .ok (.areturn, 1) := dk_176 (dk_at dksX27_freeFor_4 2 rfl rfl)
abbrev cX28_fits : ByteArray := prog_14_method_3_code
def dkwX28_fits_2 : List UInt8 := [180, 0, 34, 162, 0, 6, 25, 4, 77, 167, 255, 208, 44, 176]
abbrev dktX28_fits_2 : List UInt8 := dkwX28_fits_2 ++ []
def dkwX28_fits_1 : List UInt8 := [192, 0, 32, 58, 4, 25, 4, 180, 0, 34, 27, 161, 0, 22, 44, 198, 0, 15, 25, 4, 180, 0, 34, 44]
abbrev dktX28_fits_1 : List UInt8 := dkwX28_fits_1 ++ dktX28_fits_2
def dkwX28_fits_0 : List UInt8 := [1, 77, 42, 182, 0, 18, 78, 45, 185, 0, 22, 1, 0, 153, 0, 45, 45, 185, 0, 28, 1, 0]
abbrev dktX28_fits_0 : List UInt8 := dkwX28_fits_0 ++ dktX28_fits_1
theorem dksX28_fits_0 : cX28_fits.data.toList.drop 0 = dktX28_fits_0 := by decide +kernel
theorem dksX28_fits_1 : cX28_fits.data.toList.drop 22 = dktX28_fits_1 := dk_seg dksX28_fits_0 22 rfl rfl
theorem dksX28_fits_2 : cX28_fits.data.toList.drop 46 = dktX28_fits_2 := dk_seg dksX28_fits_1 24 rfl rfl
theorem dX28_fits_0 : decode cX28_fits 0 = .ok (.aconst_null, 1) := dk_1 (dk_at dksX28_fits_0 0 rfl rfl)
theorem dX28_fits_1 : decode cX28_fits 1 = .ok (.astore_n 2, 1) := dk_77 (dk_at dksX28_fits_0 1 rfl rfl)
theorem dX28_fits_2 : decode cX28_fits 2 = .ok (.aload_n 0, 1) := dk_42 (dk_at dksX28_fits_0 2 rfl rfl)
theorem dX28_fits_3 : decode cX28_fits 3 = .ok (.invokevirtual 18, 3) := dk_182 0 18 (dk_at dksX28_fits_0 3 rfl rfl)
theorem dX28_fits_6 : decode cX28_fits 6 = .ok (.astore_n 3, 1) := dk_78 (dk_at dksX28_fits_0 6 rfl rfl)
theorem dX28_fits_7 : decode cX28_fits 7 = .ok (.aload_n 3, 1) := dk_45 (dk_at dksX28_fits_0 7 rfl rfl)
theorem dX28_fits_8 : decode cX28_fits 8 = .ok (.invokeinterface 22 1, 5) := by decide +kernel
theorem dX28_fits_13 : decode cX28_fits 13 = .ok (.ifCond .eq 45, 3) := dk_153 0 45 (dk_at dksX28_fits_0 13 rfl rfl)
theorem dX28_fits_16 : decode cX28_fits 16 = .ok (.aload_n 3, 1) := dk_45 (dk_at dksX28_fits_0 16 rfl rfl)
theorem dX28_fits_17 : decode cX28_fits 17 = .ok (.invokeinterface 28 1, 5) := by decide +kernel
theorem dX28_fits_22 : decode cX28_fits 22 = .ok (.checkcast 32, 3) := dk_192 0 32 (dk_at dksX28_fits_1 0 rfl rfl)
theorem dX28_fits_25 : decode cX28_fits 25 = .ok (.astore 4, 2) := dk_58 4 (dk_at dksX28_fits_1 3 rfl rfl)
theorem dX28_fits_27 : decode cX28_fits 27 = .ok (.aload 4, 2) := dk_25 4 (dk_at dksX28_fits_1 5 rfl rfl)
theorem dX28_fits_29 : decode cX28_fits 29 = .ok (.getfield 34, 3) := dk_180 0 34 (dk_at dksX28_fits_1 7 rfl rfl)
theorem dX28_fits_32 : decode cX28_fits 32 = .ok (.iload_n 1, 1) := dk_27 (dk_at dksX28_fits_1 10 rfl rfl)
theorem dX28_fits_33 : decode cX28_fits 33 = .ok (.if_icmp .lt 22, 3) := dk_161 0 22 (dk_at dksX28_fits_1 11 rfl rfl)
theorem dX28_fits_36 : decode cX28_fits 36 = .ok (.aload_n 2, 1) := dk_44 (dk_at dksX28_fits_1 14 rfl rfl)
theorem dX28_fits_37 : decode cX28_fits 37 = .ok (.ifnull 15, 3) := dk_198 0 15 (dk_at dksX28_fits_1 15 rfl rfl)
theorem dX28_fits_40 : decode cX28_fits 40 = .ok (.aload 4, 2) := dk_25 4 (dk_at dksX28_fits_1 18 rfl rfl)
theorem dX28_fits_42 : decode cX28_fits 42 = .ok (.getfield 34, 3) := dk_180 0 34 (dk_at dksX28_fits_1 20 rfl rfl)
theorem dX28_fits_45 : decode cX28_fits 45 = .ok (.aload_n 2, 1) := dk_44 (dk_at dksX28_fits_1 23 rfl rfl)
theorem dX28_fits_46 : decode cX28_fits 46 = .ok (.getfield 34, 3) := dk_180 0 34 (dk_at dksX28_fits_2 0 rfl rfl)
theorem dX28_fits_49 : decode cX28_fits 49 = .ok (.if_icmp .ge 6, 3) := dk_162 0 6 (dk_at dksX28_fits_2 3 rfl rfl)
theorem dX28_fits_52 : decode cX28_fits 52 = .ok (.aload 4, 2) := dk_25 4 (dk_at dksX28_fits_2 6 rfl rfl)
theorem dX28_fits_54 : decode cX28_fits 54 = .ok (.astore_n 2, 1) := dk_77 (dk_at dksX28_fits_2 8 rfl rfl)
theorem dX28_fits_55 : decode cX28_fits 55 = .ok (.goto (-48), 3) := dk_167 255 208 (dk_at dksX28_fits_2 9 rfl rfl)
theorem dX28_fits_58 : decode cX28_fits 58 = .ok (.aload_n 2, 1) := dk_44 (dk_at dksX28_fits_2 12 rfl rfl)
theorem dX28_fits_59 : decode cX28_fits 59 = .ok (.areturn, 1) := dk_176 (dk_at dksX28_fits_2 13 rfl rfl)
abbrev cX2_compare_2 : ByteArray := prog_6_method_2_code
def dkwX2_compare_2_3 : List UInt8 := [167, 0, 18, 43, 180, 0, 7, 180, 0, 28, 44, 180, 0, 7, 180, 0, 28, 100, 172]
abbrev dktX2_compare_2_3 : List UInt8 := dkwX2_compare_2_3 ++ []
def dkwX2_compare_2_2 : List UInt8 := [180, 0, 19, 180, 0, 23, 159, 0, 21, 43, 180, 0, 19, 180, 0, 23, 44, 180, 0, 19, 180, 0, 23, 100]
abbrev dktX2_compare_2_2 : List UInt8 := dkwX2_compare_2_2 ++ dktX2_compare_2_3
def dkwX2_compare_2_1 : List UInt8 := [44, 180, 0, 7, 180, 0, 13, 162, 0, 7, 2, 167, 0, 4, 4, 172, 43, 180, 0, 19, 180, 0, 23, 44]
abbrev dktX2_compare_2_1 : List UInt8 := dkwX2_compare_2_1 ++ dktX2_compare_2_2
def dkwX2_compare_2_0 : List UInt8 := [43, 180, 0, 7, 180, 0, 13, 44, 180, 0, 7, 180, 0, 13, 159, 0, 26, 43, 180, 0, 7, 180, 0, 13]
abbrev dktX2_compare_2_0 : List UInt8 := dkwX2_compare_2_0 ++ dktX2_compare_2_1
theorem dksX2_compare_2_0 : cX2_compare_2.data.toList.drop 0 = dktX2_compare_2_0 := by decide +kernel
theorem dksX2_compare_2_1 : cX2_compare_2.data.toList.drop 24 = dktX2_compare_2_1 := dk_seg dksX2_compare_2_0 24 rfl rfl
theorem dksX2_compare_2_2 : cX2_compare_2.data.toList.drop 48 = dktX2_compare_2_2 := dk_seg dksX2_compare_2_1 24 rfl rfl
theorem dksX2_compare_2_3 : cX2_compare_2.data.toList.drop 72 = dktX2_compare_2_3 := dk_seg dksX2_compare_2_2 24 rfl rfl
theorem dX2_compare_2_0 : decode cX2_compare_2 0 = .ok (.aload_n 1, 1) := dk_43 (dk_at dksX2_compare_2_0 0 rfl rfl)
theorem dX2_compare_2_1 : decode cX2_compare_2 1 = .ok (.getfield 7, 3) := dk_180 0 7 (dk_at dksX2_compare_2_0 1 rfl rfl)
theorem dX2_compare_2_4 : decode cX2_compare_2 4 = .ok (.getfield 13, 3) := dk_180 0 13 (dk_at dksX2_compare_2_0 4 rfl rfl)
theorem dX2_compare_2_7 : decode cX2_compare_2 7 = .ok (.aload_n 2, 1) := dk_44 (dk_at dksX2_compare_2_0 7 rfl rfl)
theorem dX2_compare_2_8 : decode cX2_compare_2 8 = .ok (.getfield 7, 3) := dk_180 0 7 (dk_at dksX2_compare_2_0 8 rfl rfl)
theorem dX2_compare_2_11 : decode cX2_compare_2 11 = .ok (.getfield 13, 3) := dk_180 0 13 (dk_at dksX2_compare_2_0 11 rfl rfl)
theorem dX2_compare_2_14 : decode cX2_compare_2 14 = .ok (.if_icmp .eq 26, 3) := dk_159 0 26 (dk_at dksX2_compare_2_0 14 rfl rfl)
theorem dX2_compare_2_17 : decode cX2_compare_2 17 = .ok (.aload_n 1, 1) := dk_43 (dk_at dksX2_compare_2_0 17 rfl rfl)
theorem dX2_compare_2_18 : decode cX2_compare_2 18 = .ok (.getfield 7, 3) := dk_180 0 7 (dk_at dksX2_compare_2_0 18 rfl rfl)
theorem dX2_compare_2_21 : decode cX2_compare_2 21 = .ok (.getfield 13, 3) := dk_180 0 13 (dk_at dksX2_compare_2_0 21 rfl rfl)
theorem dX2_compare_2_24 : decode cX2_compare_2 24 = .ok (.aload_n 2, 1) := dk_44 (dk_at dksX2_compare_2_1 0 rfl rfl)
theorem dX2_compare_2_25 : decode cX2_compare_2 25 = .ok (.getfield 7, 3) := dk_180 0 7 (dk_at dksX2_compare_2_1 1 rfl rfl)
theorem dX2_compare_2_28 : decode cX2_compare_2 28 = .ok (.getfield 13, 3) := dk_180 0 13 (dk_at dksX2_compare_2_1 4 rfl rfl)
theorem dX2_compare_2_31 : decode cX2_compare_2 31 = .ok (.if_icmp .ge 7, 3) := dk_162 0 7 (dk_at dksX2_compare_2_1 7 rfl rfl)
theorem dX2_compare_2_34 : decode cX2_compare_2 34 = .ok (.iconst (-1), 1) := dk_2 (dk_at dksX2_compare_2_1 10 rfl rfl)
theorem dX2_compare_2_35 : decode cX2_compare_2 35 = .ok (.goto 4, 3) := dk_167 0 4 (dk_at dksX2_compare_2_1 11 rfl rfl)
theorem dX2_compare_2_38 : decode cX2_compare_2 38 = .ok (.iconst 1, 1) := dk_4 (dk_at dksX2_compare_2_1 14 rfl rfl)
theorem dX2_compare_2_39 : decode cX2_compare_2 39 = .ok (.ireturn, 1) := dk_172 (dk_at dksX2_compare_2_1 15 rfl rfl)
theorem dX2_compare_2_40 : decode cX2_compare_2 40 = .ok (.aload_n 1, 1) := dk_43 (dk_at dksX2_compare_2_1 16 rfl rfl)
theorem dX2_compare_2_41 : decode cX2_compare_2 41 = .ok (.getfield 19, 3) := dk_180 0 19 (dk_at dksX2_compare_2_1 17 rfl rfl)
theorem dX2_compare_2_44 : decode cX2_compare_2 44 = .ok (.getfield 23, 3) := dk_180 0 23 (dk_at dksX2_compare_2_1 20 rfl rfl)
theorem dX2_compare_2_47 : decode cX2_compare_2 47 = .ok (.aload_n 2, 1) := dk_44 (dk_at dksX2_compare_2_1 23 rfl rfl)
theorem dX2_compare_2_48 : decode cX2_compare_2 48 = .ok (.getfield 19, 3) := dk_180 0 19 (dk_at dksX2_compare_2_2 0 rfl rfl)
theorem dX2_compare_2_51 : decode cX2_compare_2 51 = .ok (.getfield 23, 3) := dk_180 0 23 (dk_at dksX2_compare_2_2 3 rfl rfl)
theorem dX2_compare_2_54 : decode cX2_compare_2 54 = .ok (.if_icmp .eq 21, 3) := dk_159 0 21 (dk_at dksX2_compare_2_2 6 rfl rfl)
theorem dX2_compare_2_57 : decode cX2_compare_2 57 = .ok (.aload_n 1, 1) := dk_43 (dk_at dksX2_compare_2_2 9 rfl rfl)
theorem dX2_compare_2_58 : decode cX2_compare_2 58 = .ok (.getfield 19, 3) := dk_180 0 19 (dk_at dksX2_compare_2_2 10 rfl rfl)
theorem dX2_compare_2_61 : decode cX2_compare_2 61 = .ok (.getfield 23, 3) := dk_180 0 23 (dk_at dksX2_compare_2_2 13 rfl rfl)
theorem dX2_compare_2_64 : decode cX2_compare_2 64 = .ok (.aload_n 2, 1) := dk_44 (dk_at dksX2_compare_2_2 16 rfl rfl)
theorem dX2_compare_2_65 : decode cX2_compare_2 65 = .ok (.getfield 19, 3) := dk_180 0 19 (dk_at dksX2_compare_2_2 17 rfl rfl)
theorem dX2_compare_2_68 : decode cX2_compare_2 68 = .ok (.getfield 23, 3) := dk_180 0 23 (dk_at dksX2_compare_2_2 20 rfl rfl)
theorem dX2_compare_2_71 : decode cX2_compare_2 71 = .ok (.isub, 1) := dk_100 (dk_at dksX2_compare_2_2 23 rfl rfl)
theorem dX2_compare_2_72 : decode cX2_compare_2 72 = .ok (.goto 18, 3) := dk_167 0 18 (dk_at dksX2_compare_2_3 0 rfl rfl)
theorem dX2_compare_2_75 : decode cX2_compare_2 75 = .ok (.aload_n 1, 1) := dk_43 (dk_at dksX2_compare_2_3 3 rfl rfl)
theorem dX2_compare_2_76 : decode cX2_compare_2 76 = .ok (.getfield 7, 3) := dk_180 0 7 (dk_at dksX2_compare_2_3 4 rfl rfl)
theorem dX2_compare_2_79 : decode cX2_compare_2 79 = .ok (.getfield 28, 3) := dk_180 0 28 (dk_at dksX2_compare_2_3 7 rfl rfl)
theorem dX2_compare_2_82 : decode cX2_compare_2 82 = .ok (.aload_n 2, 1) := dk_44 (dk_at dksX2_compare_2_3 10 rfl rfl)
theorem dX2_compare_2_83 : decode cX2_compare_2 83 = .ok (.getfield 7, 3) := dk_180 0 7 (dk_at dksX2_compare_2_3 11 rfl rfl)
theorem dX2_compare_2_86 : decode cX2_compare_2 86 = .ok (.getfield 28, 3) := dk_180 0 28 (dk_at dksX2_compare_2_3 14 rfl rfl)
theorem dX2_compare_2_89 : decode cX2_compare_2 89 = .ok (.isub, 1) := dk_100 (dk_at dksX2_compare_2_3 17 rfl rfl)
theorem dX2_compare_2_90 : decode cX2_compare_2 90 = .ok (.ireturn, 1) := dk_172 (dk_at dksX2_compare_2_3 18 rfl rfl)
abbrev cX13_compare_2 : ByteArray := prog_7_method_2_code
def dkwX13_compare_2_1 : List UInt8 := [180, 0, 13, 44, 180, 0, 13, 100, 172]
abbrev dktX13_compare_2_1 : List UInt8 := dkwX13_compare_2_1 ++ []
def dkwX13_compare_2_0 : List UInt8 := [43, 180, 0, 7, 44, 180, 0, 7, 159, 0, 15, 44, 180, 0, 7, 43, 180, 0, 7, 100, 167, 0, 12, 43]
abbrev dktX13_compare_2_0 : List UInt8 := dkwX13_compare_2_0 ++ dktX13_compare_2_1
theorem dksX13_compare_2_0 : cX13_compare_2.data.toList.drop 0 = dktX13_compare_2_0 := by decide +kernel
theorem dksX13_compare_2_1 : cX13_compare_2.data.toList.drop 24 = dktX13_compare_2_1 := dk_seg dksX13_compare_2_0 24 rfl rfl
theorem dX13_compare_2_0 : decode cX13_compare_2 0 = .ok (.aload_n 1, 1) := dk_43 (dk_at dksX13_compare_2_0 0 rfl rfl)
theorem dX13_compare_2_1 : decode cX13_compare_2 1 = .ok (.getfield 7, 3) := dk_180 0 7 (dk_at dksX13_compare_2_0 1 rfl rfl)
theorem dX13_compare_2_4 : decode cX13_compare_2 4 = .ok (.aload_n 2, 1) := dk_44 (dk_at dksX13_compare_2_0 4 rfl rfl)
theorem dX13_compare_2_5 : decode cX13_compare_2 5 = .ok (.getfield 7, 3) := dk_180 0 7 (dk_at dksX13_compare_2_0 5 rfl rfl)
theorem dX13_compare_2_8 : decode cX13_compare_2 8 = .ok (.if_icmp .eq 15, 3) := dk_159 0 15 (dk_at dksX13_compare_2_0 8 rfl rfl)
theorem dX13_compare_2_11 : decode cX13_compare_2 11 = .ok (.aload_n 2, 1) := dk_44 (dk_at dksX13_compare_2_0 11 rfl rfl)
theorem dX13_compare_2_12 : decode cX13_compare_2 12 = .ok (.getfield 7, 3) := dk_180 0 7 (dk_at dksX13_compare_2_0 12 rfl rfl)
theorem dX13_compare_2_15 : decode cX13_compare_2 15 = .ok (.aload_n 1, 1) := dk_43 (dk_at dksX13_compare_2_0 15 rfl rfl)
theorem dX13_compare_2_16 : decode cX13_compare_2 16 = .ok (.getfield 7, 3) := dk_180 0 7 (dk_at dksX13_compare_2_0 16 rfl rfl)
theorem dX13_compare_2_19 : decode cX13_compare_2 19 = .ok (.isub, 1) := dk_100 (dk_at dksX13_compare_2_0 19 rfl rfl)
theorem dX13_compare_2_20 : decode cX13_compare_2 20 = .ok (.goto 12, 3) := dk_167 0 12 (dk_at dksX13_compare_2_0 20 rfl rfl)
theorem dX13_compare_2_23 : decode cX13_compare_2 23 = .ok (.aload_n 1, 1) := dk_43 (dk_at dksX13_compare_2_0 23 rfl rfl)
theorem dX13_compare_2_24 : decode cX13_compare_2 24 = .ok (.getfield 13, 3) := dk_180 0 13 (dk_at dksX13_compare_2_1 0 rfl rfl)
theorem dX13_compare_2_27 : decode cX13_compare_2 27 = .ok (.aload_n 2, 1) := dk_44 (dk_at dksX13_compare_2_1 3 rfl rfl)
theorem dX13_compare_2_28 : decode cX13_compare_2 28 = .ok (.getfield 13, 3) := dk_180 0 13 (dk_at dksX13_compare_2_1 4 rfl rfl)
theorem dX13_compare_2_31 : decode cX13_compare_2 31 = .ok (.isub, 1) := dk_100 (dk_at dksX13_compare_2_1 7 rfl rfl)
theorem dX13_compare_2_32 : decode cX13_compare_2 32 = .ok (.ireturn, 1) := dk_172 (dk_at dksX13_compare_2_1 8 rfl rfl)
abbrev cX29_compare_2 : ByteArray := prog_31_method_2_code
def dkwX29_compare_2_3 : List UInt8 := [180, 0, 7, 180, 0, 28, 44, 180, 0, 7, 180, 0, 28, 100, 172]
abbrev dktX29_compare_2_3 : List UInt8 := dkwX29_compare_2_3 ++ []
def dkwX29_compare_2_2 : List UInt8 := [159, 0, 21, 43, 180, 0, 19, 180, 0, 23, 44, 180, 0, 19, 180, 0, 23, 100, 167, 0, 18, 43]
abbrev dktX29_compare_2_2 : List UInt8 := dkwX29_compare_2_2 ++ dktX29_compare_2_3
def dkwX29_compare_2_1 : List UInt8 := [43, 180, 0, 7, 180, 0, 13, 100, 172, 43, 180, 0, 19, 180, 0, 23, 44, 180, 0, 19, 180, 0, 23]
abbrev dktX29_compare_2_1 : List UInt8 := dkwX29_compare_2_1 ++ dktX29_compare_2_2
def dkwX29_compare_2_0 : List UInt8 := [43, 180, 0, 7, 180, 0, 13, 44, 180, 0, 7, 180, 0, 13, 159, 0, 19, 44, 180, 0, 7, 180, 0, 13]
abbrev dktX29_compare_2_0 : List UInt8 := dkwX29_compare_2_0 ++ dktX29_compare_2_1
theorem dksX29_compare_2_0 : cX29_compare_2.data.toList.drop 0 = dktX29_compare_2_0 := by decide +kernel
theorem dksX29_compare_2_1 : cX29_compare_2.data.toList.drop 24 = dktX29_compare_2_1 := dk_seg dksX29_compare_2_0 24 rfl rfl
theorem dksX29_compare_2_2 : cX29_compare_2.data.toList.drop 47 = dktX29_compare_2_2 := dk_seg dksX29_compare_2_1 23 rfl rfl
theorem dksX29_compare_2_3 : cX29_compare_2.data.toList.drop 69 = dktX29_compare_2_3 := dk_seg dksX29_compare_2_2 22 rfl rfl
theorem dX29_compare_2_0 : decode cX29_compare_2 0 = .ok (.aload_n 1, 1) := dk_43 (dk_at dksX29_compare_2_0 0 rfl rfl)
theorem dX29_compare_2_1 : decode cX29_compare_2 1 = .ok (.getfield 7, 3) := dk_180 0 7 (dk_at dksX29_compare_2_0 1 rfl rfl)
theorem dX29_compare_2_4 : decode cX29_compare_2 4 = .ok (.getfield 13, 3) := dk_180 0 13 (dk_at dksX29_compare_2_0 4 rfl rfl)
theorem dX29_compare_2_7 : decode cX29_compare_2 7 = .ok (.aload_n 2, 1) := dk_44 (dk_at dksX29_compare_2_0 7 rfl rfl)
theorem dX29_compare_2_8 : decode cX29_compare_2 8 = .ok (.getfield 7, 3) := dk_180 0 7 (dk_at dksX29_compare_2_0 8 rfl rfl)
theorem dX29_compare_2_11 : decode cX29_compare_2 11 = .ok (.getfield 13, 3) := dk_180 0 13 (dk_at dksX29_compare_2_0 11 rfl rfl)
theorem dX29_compare_2_14 : decode cX29_compare_2 14 = .ok (.if_icmp .eq 19, 3) := dk_159 0 19 (dk_at dksX29_compare_2_0 14 rfl rfl)
theorem dX29_compare_2_17 : decode cX29_compare_2 17 = .ok (.aload_n 2, 1) := dk_44 (dk_at dksX29_compare_2_0 17 rfl rfl)
theorem dX29_compare_2_18 : decode cX29_compare_2 18 = .ok (.getfield 7, 3) := dk_180 0 7 (dk_at dksX29_compare_2_0 18 rfl rfl)
theorem dX29_compare_2_21 : decode cX29_compare_2 21 = .ok (.getfield 13, 3) := dk_180 0 13 (dk_at dksX29_compare_2_0 21 rfl rfl)
theorem dX29_compare_2_24 : decode cX29_compare_2 24 = .ok (.aload_n 1, 1) := dk_43 (dk_at dksX29_compare_2_1 0 rfl rfl)
theorem dX29_compare_2_25 : decode cX29_compare_2 25 = .ok (.getfield 7, 3) := dk_180 0 7 (dk_at dksX29_compare_2_1 1 rfl rfl)
theorem dX29_compare_2_28 : decode cX29_compare_2 28 = .ok (.getfield 13, 3) := dk_180 0 13 (dk_at dksX29_compare_2_1 4 rfl rfl)
theorem dX29_compare_2_31 : decode cX29_compare_2 31 = .ok (.isub, 1) := dk_100 (dk_at dksX29_compare_2_1 7 rfl rfl)
theorem dX29_compare_2_32 : decode cX29_compare_2 32 = .ok (.ireturn, 1) := dk_172 (dk_at dksX29_compare_2_1 8 rfl rfl)
theorem dX29_compare_2_33 : decode cX29_compare_2 33 = .ok (.aload_n 1, 1) := dk_43 (dk_at dksX29_compare_2_1 9 rfl rfl)
theorem dX29_compare_2_34 : decode cX29_compare_2 34 = .ok (.getfield 19, 3) := dk_180 0 19 (dk_at dksX29_compare_2_1 10 rfl rfl)
theorem dX29_compare_2_37 : decode cX29_compare_2 37 = .ok (.getfield 23, 3) := dk_180 0 23 (dk_at dksX29_compare_2_1 13 rfl rfl)
theorem dX29_compare_2_40 : decode cX29_compare_2 40 = .ok (.aload_n 2, 1) := dk_44 (dk_at dksX29_compare_2_1 16 rfl rfl)
theorem dX29_compare_2_41 : decode cX29_compare_2 41 = .ok (.getfield 19, 3) := dk_180 0 19 (dk_at dksX29_compare_2_1 17 rfl rfl)
theorem dX29_compare_2_44 : decode cX29_compare_2 44 = .ok (.getfield 23, 3) := dk_180 0 23 (dk_at dksX29_compare_2_1 20 rfl rfl)
theorem dX29_compare_2_47 : decode cX29_compare_2 47 = .ok (.if_icmp .eq 21, 3) := dk_159 0 21 (dk_at dksX29_compare_2_2 0 rfl rfl)
theorem dX29_compare_2_50 : decode cX29_compare_2 50 = .ok (.aload_n 1, 1) := dk_43 (dk_at dksX29_compare_2_2 3 rfl rfl)
theorem dX29_compare_2_51 : decode cX29_compare_2 51 = .ok (.getfield 19, 3) := dk_180 0 19 (dk_at dksX29_compare_2_2 4 rfl rfl)
theorem dX29_compare_2_54 : decode cX29_compare_2 54 = .ok (.getfield 23, 3) := dk_180 0 23 (dk_at dksX29_compare_2_2 7 rfl rfl)
theorem dX29_compare_2_57 : decode cX29_compare_2 57 = .ok (.aload_n 2, 1) := dk_44 (dk_at dksX29_compare_2_2 10 rfl rfl)
theorem dX29_compare_2_58 : decode cX29_compare_2 58 = .ok (.getfield 19, 3) := dk_180 0 19 (dk_at dksX29_compare_2_2 11 rfl rfl)
theorem dX29_compare_2_61 : decode cX29_compare_2 61 = .ok (.getfield 23, 3) := dk_180 0 23 (dk_at dksX29_compare_2_2 14 rfl rfl)
theorem dX29_compare_2_64 : decode cX29_compare_2 64 = .ok (.isub, 1) := dk_100 (dk_at dksX29_compare_2_2 17 rfl rfl)
theorem dX29_compare_2_65 : decode cX29_compare_2 65 = .ok (.goto 18, 3) := dk_167 0 18 (dk_at dksX29_compare_2_2 18 rfl rfl)
theorem dX29_compare_2_68 : decode cX29_compare_2 68 = .ok (.aload_n 1, 1) := dk_43 (dk_at dksX29_compare_2_2 21 rfl rfl)
theorem dX29_compare_2_69 : decode cX29_compare_2 69 = .ok (.getfield 7, 3) := dk_180 0 7 (dk_at dksX29_compare_2_3 0 rfl rfl)
theorem dX29_compare_2_72 : decode cX29_compare_2 72 = .ok (.getfield 28, 3) := dk_180 0 28 (dk_at dksX29_compare_2_3 3 rfl rfl)
theorem dX29_compare_2_75 : decode cX29_compare_2 75 = .ok (.aload_n 2, 1) := dk_44 (dk_at dksX29_compare_2_3 6 rfl rfl)
theorem dX29_compare_2_76 : decode cX29_compare_2 76 = .ok (.getfield 7, 3) := dk_180 0 7 (dk_at dksX29_compare_2_3 7 rfl rfl)
theorem dX29_compare_2_79 : decode cX29_compare_2 79 = .ok (.getfield 28, 3) := dk_180 0 28 (dk_at dksX29_compare_2_3 10 rfl rfl)
theorem dX29_compare_2_82 : decode cX29_compare_2 82 = .ok (.isub, 1) := dk_100 (dk_at dksX29_compare_2_3 13 rfl rfl)
theorem dX29_compare_2_83 : decode cX29_compare_2 83 = .ok (.ireturn, 1) := dk_172 (dk_at dksX29_compare_2_3 14 rfl rfl)
abbrev cX21_kind : ByteArray := prog_19_method_3_code
theorem dX21_kind_0 : decode cX21_kind 0 = .ok (.iconst 2, 1) := by decide +kernel
theorem dX21_kind_1 : decode cX21_kind 1 = .ok (.ireturn, 1) := by decide +kernel
abbrev cX24_kind : ByteArray := prog_23_method_3_code
theorem dX24_kind_0 : decode cX24_kind 0 = .ok (.iconst 1, 1) := by decide +kernel
theorem dX24_kind_1 : decode cX24_kind 1 = .ok (.ireturn, 1) := by decide +kernel
abbrev cX23_kind : ByteArray := prog_26_method_3_code
theorem dX23_kind_0 : decode cX23_kind 0 = .ok (.iconst 0, 1) := by decide +kernel
theorem dX23_kind_1 : decode cX23_kind 1 = .ok (.ireturn, 1) := by decide +kernel
abbrev cX7_comparedTo : ByteArray := prog_27_method_2_code
def dkwX7_comparedTo_1 : List UInt8 := [22, 4, 148, 154, 0, 7, 3, 167, 0, 15, 32, 22, 4, 148, 156, 0, 7, 2, 167, 0, 4, 4, 172]
abbrev dktX7_comparedTo_1 : List UInt8 := dkwX7_comparedTo_1 ++ []
def dkwX7_comparedTo_0 : List UInt8 := [42, 180, 0, 13, 43, 180, 0, 17, 133, 105, 65, 43, 180, 0, 13, 42, 180, 0, 17, 133, 105, 55, 4, 32]
abbrev dktX7_comparedTo_0 : List UInt8 := dkwX7_comparedTo_0 ++ dktX7_comparedTo_1
theorem dksX7_comparedTo_0 : cX7_comparedTo.data.toList.drop 0 = dktX7_comparedTo_0 := by decide +kernel
theorem dksX7_comparedTo_1 : cX7_comparedTo.data.toList.drop 24 = dktX7_comparedTo_1 := dk_seg dksX7_comparedTo_0 24 rfl rfl
theorem dX7_comparedTo_0 : decode cX7_comparedTo 0 = .ok (.aload_n 0, 1) := dk_42 (dk_at dksX7_comparedTo_0 0 rfl rfl)
theorem dX7_comparedTo_1 : decode cX7_comparedTo 1 = .ok (.getfield 13, 3) := dk_180 0 13 (dk_at dksX7_comparedTo_0 1 rfl rfl)
theorem dX7_comparedTo_4 : decode cX7_comparedTo 4 = .ok (.aload_n 1, 1) := dk_43 (dk_at dksX7_comparedTo_0 4 rfl rfl)
theorem dX7_comparedTo_5 : decode cX7_comparedTo 5 = .ok (.getfield 17, 3) := dk_180 0 17 (dk_at dksX7_comparedTo_0 5 rfl rfl)
theorem dX7_comparedTo_8 : decode cX7_comparedTo 8 = .ok (.i2l, 1) := dk_133 (dk_at dksX7_comparedTo_0 8 rfl rfl)
theorem dX7_comparedTo_9 : decode cX7_comparedTo 9 = .ok (.lmul, 1) := dk_105 (dk_at dksX7_comparedTo_0 9 rfl rfl)
theorem dX7_comparedTo_10 : decode cX7_comparedTo 10 = .ok (.lstore_n 2, 1) := dk_65 (dk_at dksX7_comparedTo_0 10 rfl rfl)
theorem dX7_comparedTo_11 : decode cX7_comparedTo 11 = .ok (.aload_n 1, 1) := dk_43 (dk_at dksX7_comparedTo_0 11 rfl rfl)
theorem dX7_comparedTo_12 : decode cX7_comparedTo 12 = .ok (.getfield 13, 3) := dk_180 0 13 (dk_at dksX7_comparedTo_0 12 rfl rfl)
theorem dX7_comparedTo_15 : decode cX7_comparedTo 15 = .ok (.aload_n 0, 1) := dk_42 (dk_at dksX7_comparedTo_0 15 rfl rfl)
theorem dX7_comparedTo_16 : decode cX7_comparedTo 16 = .ok (.getfield 17, 3) := dk_180 0 17 (dk_at dksX7_comparedTo_0 16 rfl rfl)
theorem dX7_comparedTo_19 : decode cX7_comparedTo 19 = .ok (.i2l, 1) := dk_133 (dk_at dksX7_comparedTo_0 19 rfl rfl)
theorem dX7_comparedTo_20 : decode cX7_comparedTo 20 = .ok (.lmul, 1) := dk_105 (dk_at dksX7_comparedTo_0 20 rfl rfl)
theorem dX7_comparedTo_21 : decode cX7_comparedTo 21 = .ok (.lstore 4, 2) := dk_55 4 (dk_at dksX7_comparedTo_0 21 rfl rfl)
theorem dX7_comparedTo_23 : decode cX7_comparedTo 23 = .ok (.lload_n 2, 1) := dk_32 (dk_at dksX7_comparedTo_0 23 rfl rfl)
theorem dX7_comparedTo_24 : decode cX7_comparedTo 24 = .ok (.lload 4, 2) := dk_22 4 (dk_at dksX7_comparedTo_1 0 rfl rfl)
theorem dX7_comparedTo_26 : decode cX7_comparedTo 26 = .ok (.lcmp, 1) := dk_148 (dk_at dksX7_comparedTo_1 2 rfl rfl)
theorem dX7_comparedTo_27 : decode cX7_comparedTo 27 = .ok (.ifCond .ne 7, 3) := dk_154 0 7 (dk_at dksX7_comparedTo_1 3 rfl rfl)
theorem dX7_comparedTo_30 : decode cX7_comparedTo 30 = .ok (.iconst 0, 1) := dk_3 (dk_at dksX7_comparedTo_1 6 rfl rfl)
theorem dX7_comparedTo_31 : decode cX7_comparedTo 31 = .ok (.goto 15, 3) := dk_167 0 15 (dk_at dksX7_comparedTo_1 7 rfl rfl)
theorem dX7_comparedTo_34 : decode cX7_comparedTo 34 = .ok (.lload_n 2, 1) := dk_32 (dk_at dksX7_comparedTo_1 10 rfl rfl)
theorem dX7_comparedTo_35 : decode cX7_comparedTo 35 = .ok (.lload 4, 2) := dk_22 4 (dk_at dksX7_comparedTo_1 11 rfl rfl)
theorem dX7_comparedTo_37 : decode cX7_comparedTo 37 = .ok (.lcmp, 1) := dk_148 (dk_at dksX7_comparedTo_1 13 rfl rfl)
theorem dX7_comparedTo_38 : decode cX7_comparedTo 38 = .ok (.ifCond .ge 7, 3) := dk_156 0 7 (dk_at dksX7_comparedTo_1 14 rfl rfl)
theorem dX7_comparedTo_41 : decode cX7_comparedTo 41 = .ok (.iconst (-1), 1) := dk_2 (dk_at dksX7_comparedTo_1 17 rfl rfl)
theorem dX7_comparedTo_42 : decode cX7_comparedTo 42 = .ok (.goto 4, 3) := dk_167 0 4 (dk_at dksX7_comparedTo_1 18 rfl rfl)
theorem dX7_comparedTo_45 : decode cX7_comparedTo 45 = .ok (.iconst 1, 1) := dk_4 (dk_at dksX7_comparedTo_1 21 rfl rfl)
theorem dX7_comparedTo_46 : decode cX7_comparedTo 46 = .ok (.ireturn, 1) := dk_172 (dk_at dksX7_comparedTo_1 22 rfl rfl)
