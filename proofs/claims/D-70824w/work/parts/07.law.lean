/-! the law's own entry -/
set_option maxRecDepth 100000
abbrev cL_law : ByteArray := code
def dkwL_law_42 : List UInt8 := [4, 172]
abbrev dktL_law_42 : List UInt8 := dkwL_law_42 ++ []
def dkwL_law_41 : List UInt8 := [46, 182, 0, 137, 44, 42, 29, 4, 96, 46, 182, 0, 140, 159, 0, 5, 3, 172, 132, 3, 6, 167, 251, 204]
abbrev dktL_law_41 : List UInt8 := dkwL_law_41 ++ dktL_law_42
def dkwL_law_40 : List UInt8 := [96, 46, 182, 0, 133, 44, 42, 29, 4, 96, 46, 182, 0, 136, 159, 0, 28, 3, 172, 43, 42, 29, 4, 96]
abbrev dktL_law_40 : List UInt8 := dkwL_law_40 ++ dktL_law_41
def dkwL_law_39 : List UInt8 := [4, 96, 46, 182, 0, 129, 44, 42, 29, 4, 96, 46, 182, 0, 132, 159, 0, 51, 3, 172, 43, 42, 29, 4]
abbrev dktL_law_39 : List UInt8 := dkwL_law_39 ++ dktL_law_40
def dkwL_law_38 : List UInt8 := [4, 96, 46, 42, 29, 5, 96, 46, 42, 29, 6, 96, 46, 182, 0, 128, 159, 0, 74, 3, 172, 43, 42, 29]
abbrev dktL_law_38 : List UInt8 := dkwL_law_38 ++ dktL_law_39
def dkwL_law_37 : List UInt8 := [3, 172, 43, 42, 29, 4, 96, 46, 42, 29, 5, 96, 46, 42, 29, 6, 96, 46, 182, 0, 125, 44, 42, 29]
abbrev dktL_law_37 : List UInt8 := dkwL_law_37 ++ dktL_law_38
def dkwL_law_36 : List UInt8 := [96, 46, 42, 29, 6, 96, 46, 42, 29, 7, 96, 46, 42, 29, 8, 96, 46, 182, 0, 124, 148, 153, 0, 117]
abbrev dktL_law_36 : List UInt8 := dkwL_law_36 ++ dktL_law_37
def dkwL_law_35 : List UInt8 := [96, 46, 42, 29, 7, 96, 46, 42, 29, 8, 96, 46, 182, 0, 120, 44, 42, 29, 4, 96, 46, 42, 29, 5]
abbrev dktL_law_35 : List UInt8 := dkwL_law_35 ++ dktL_law_36
def dkwL_law_34 : List UInt8 := [96, 46, 182, 0, 119, 159, 0, 181, 3, 172, 43, 42, 29, 4, 96, 46, 42, 29, 5, 96, 46, 42, 29, 6]
abbrev dktL_law_34 : List UInt8 := dkwL_law_34 ++ dktL_law_35
def dkwL_law_33 : List UInt8 := [4, 96, 46, 182, 0, 115, 159, 0, 204, 3, 172, 43, 42, 29, 4, 96, 46, 182, 0, 116, 44, 42, 29, 4]
abbrev dktL_law_33 : List UInt8 := dkwL_law_33 ++ dktL_law_34
def dkwL_law_32 : List UInt8 := [182, 0, 108, 44, 182, 0, 111, 159, 0, 227, 3, 172, 43, 42, 29, 4, 96, 46, 182, 0, 112, 44, 42, 29]
abbrev dktL_law_32 : List UInt8 := dkwL_law_32 ++ dktL_law_33
def dkwL_law_31 : List UInt8 := [182, 0, 104, 44, 42, 29, 4, 96, 46, 42, 29, 5, 96, 46, 182, 0, 107, 159, 0, 240, 3, 172, 43]
abbrev dktL_law_31 : List UInt8 := dkwL_law_31 ++ dktL_law_32
def dkwL_law_30 : List UInt8 := [42, 29, 7, 96, 46, 182, 0, 103, 159, 1, 17, 3, 172, 43, 42, 29, 4, 96, 46, 42, 29, 5, 96, 46]
abbrev dktL_law_30 : List UInt8 := dkwL_law_30 ++ dktL_law_31
def dkwL_law_29 : List UInt8 := [42, 29, 7, 96, 46, 182, 0, 99, 44, 42, 29, 4, 96, 46, 42, 29, 5, 96, 46, 42, 29, 6, 96, 46]
abbrev dktL_law_29 : List UInt8 := dkwL_law_29 ++ dktL_law_30
def dkwL_law_28 : List UInt8 := [182, 0, 98, 159, 1, 70, 3, 172, 43, 42, 29, 4, 96, 46, 42, 29, 5, 96, 46, 42, 29, 6, 96, 46]
abbrev dktL_law_28 : List UInt8 := dkwL_law_28 ++ dktL_law_29
def dkwL_law_27 : List UInt8 := [42, 29, 6, 96, 46, 182, 0, 95, 44, 42, 29, 4, 96, 46, 42, 29, 5, 96, 46, 42, 29, 6, 96, 46]
abbrev dktL_law_27 : List UInt8 := dkwL_law_27 ++ dktL_law_28
def dkwL_law_26 : List UInt8 := [43, 182, 0, 91, 44, 182, 0, 94, 159, 1, 113, 3, 172, 43, 42, 29, 4, 96, 46, 42, 29, 5, 96, 46]
abbrev dktL_law_26 : List UInt8 := dkwL_law_26 ++ dktL_law_27
def dkwL_law_25 : List UInt8 := [172, 43, 42, 29, 4, 96, 46, 182, 0, 87, 44, 42, 29, 4, 96, 46, 182, 0, 90, 159, 1, 126, 3, 172]
abbrev dktL_law_25 : List UInt8 := dkwL_law_25 ++ dktL_law_26
def dkwL_law_24 : List UInt8 := [5, 96, 46, 182, 0, 83, 44, 42, 29, 4, 96, 46, 42, 29, 5, 96, 46, 182, 0, 86, 159, 1, 149, 3]
abbrev dktL_law_24 : List UInt8 := dkwL_law_24 ++ dktL_law_25
def dkwL_law_23 : List UInt8 := [5, 96, 46, 42, 29, 6, 96, 46, 182, 0, 82, 159, 1, 182, 3, 172, 43, 42, 29, 4, 96, 46, 42, 29]
abbrev dktL_law_23 : List UInt8 := dkwL_law_23 ++ dktL_law_24
def dkwL_law_22 : List UInt8 := [4, 96, 46, 42, 29, 5, 96, 46, 42, 29, 6, 96, 46, 182, 0, 78, 44, 42, 29, 4, 96, 46, 42, 29]
abbrev dktL_law_22 : List UInt8 := dkwL_law_22 ++ dktL_law_23
def dkwL_law_21 : List UInt8 := [182, 0, 73, 159, 1, 238, 3, 172, 43, 182, 0, 74, 44, 182, 0, 77, 159, 1, 225, 3, 172, 43, 42, 29]
abbrev dktL_law_21 : List UInt8 := dkwL_law_21 ++ dktL_law_22
def dkwL_law_20 : List UInt8 := [182, 0, 69, 159, 2, 5, 3, 172, 43, 42, 29, 4, 96, 46, 182, 0, 70, 44, 42, 29, 4, 96, 46]
abbrev dktL_law_20 : List UInt8 := dkwL_law_20 ++ dktL_law_21
def dkwL_law_19 : List UInt8 := [182, 0, 65, 159, 2, 28, 3, 172, 43, 42, 29, 4, 96, 46, 182, 0, 66, 44, 42, 29, 4, 96, 46]
abbrev dktL_law_19 : List UInt8 := dkwL_law_19 ++ dktL_law_20
def dkwL_law_18 : List UInt8 := [29, 4, 96, 46, 42, 29, 5, 96, 46, 182, 0, 62, 44, 42, 29, 4, 96, 46, 42, 29, 5, 96, 46]
abbrev dktL_law_18 : List UInt8 := dkwL_law_18 ++ dktL_law_19
def dkwL_law_17 : List UInt8 := [182, 0, 58, 44, 42, 29, 4, 96, 46, 42, 29, 5, 96, 46, 182, 0, 61, 159, 2, 61, 3, 172, 43, 42]
abbrev dktL_law_17 : List UInt8 := dkwL_law_17 ++ dktL_law_18
def dkwL_law_16 : List UInt8 := [43, 182, 0, 54, 44, 182, 0, 57, 159, 2, 94, 3, 172, 43, 42, 29, 4, 96, 46, 42, 29, 5, 96, 46]
abbrev dktL_law_16 : List UInt8 := dkwL_law_16 ++ dktL_law_17
def dkwL_law_15 : List UInt8 := [172, 43, 42, 29, 4, 96, 46, 182, 0, 50, 44, 42, 29, 4, 96, 46, 182, 0, 53, 159, 2, 107, 3, 172]
abbrev dktL_law_15 : List UInt8 := dkwL_law_15 ++ dktL_law_16
def dkwL_law_14 : List UInt8 := [182, 0, 41, 44, 182, 0, 45, 159, 2, 143, 3, 172, 43, 182, 0, 46, 44, 182, 0, 49, 159, 2, 130, 3]
abbrev dktL_law_14 : List UInt8 := dkwL_law_14 ++ dktL_law_15
def dkwL_law_13 : List UInt8 := [29, 4, 96, 46, 182, 0, 37, 44, 42, 29, 4, 96, 46, 182, 0, 40, 159, 2, 156, 3, 172, 43]
abbrev dktL_law_13 : List UInt8 := dkwL_law_13 ++ dktL_law_14
def dkwL_law_12 : List UInt8 := [42, 29, 4, 96, 46, 182, 0, 32, 44, 42, 29, 4, 96, 46, 182, 0, 36, 159, 2, 179, 3, 172, 43, 42]
abbrev dktL_law_12 : List UInt8 := dkwL_law_12 ++ dktL_law_13
def dkwL_law_11 : List UInt8 := [46, 182, 0, 27, 44, 42, 29, 4, 96, 46, 42, 29, 5, 96, 46, 182, 0, 31, 159, 2, 202, 3, 172, 43]
abbrev dktL_law_11 : List UInt8 := dkwL_law_11 ++ dktL_law_12
def dkwL_law_10 : List UInt8 := [46, 42, 29, 8, 96, 46, 182, 0, 26, 159, 2, 235, 3, 172, 43, 42, 29, 4, 96, 46, 42, 29, 5, 96]
abbrev dktL_law_10 : List UInt8 := dkwL_law_10 ++ dktL_law_11
def dkwL_law_9 : List UInt8 := [46, 182, 0, 22, 44, 42, 29, 4, 96, 46, 42, 29, 5, 96, 46, 42, 29, 6, 96, 46, 42, 29, 7, 96]
abbrev dktL_law_9 : List UInt8 := dkwL_law_9 ++ dktL_law_10
def dkwL_law_8 : List UInt8 := [42, 29, 4, 96, 46, 42, 29, 5, 96, 46, 42, 29, 6, 96, 46, 42, 29, 7, 96, 46, 42, 29, 8, 96]
abbrev dktL_law_8 : List UInt8 := dkwL_law_8 ++ dktL_law_9
def dkwL_law_7 : List UInt8 := [96, 46, 42, 29, 6, 96, 46, 153, 0, 7, 4, 167, 0, 4, 3, 182, 0, 21, 159, 3, 42, 3, 172, 43]
abbrev dktL_law_7 : List UInt8 := dkwL_law_7 ++ dktL_law_8
def dkwL_law_6 : List UInt8 := [29, 6, 96, 46, 153, 0, 7, 4, 167, 0, 4, 3, 182, 0, 18, 44, 42, 29, 4, 96, 46, 42, 29, 5]
abbrev dktL_law_6 : List UInt8 := dkwL_law_6 ++ dktL_law_7
def dkwL_law_5 : List UInt8 := [167, 0, 4, 3, 182, 0, 17, 159, 3, 101, 3, 172, 43, 42, 29, 4, 96, 46, 42, 29, 5, 96, 46, 42]
abbrev dktL_law_5 : List UInt8 := dkwL_law_5 ++ dktL_law_6
def dkwL_law_4 : List UInt8 := [182, 0, 13, 44, 42, 29, 4, 96, 46, 42, 29, 5, 96, 46, 42, 29, 6, 96, 46, 153, 0, 7, 4]
abbrev dktL_law_4 : List UInt8 := dkwL_law_4 ++ dktL_law_5
def dkwL_law_3 : List UInt8 := [43, 42, 29, 4, 96, 46, 42, 29, 5, 96, 46, 42, 29, 6, 96, 46, 153, 0, 7, 4, 167, 0, 4, 3]
abbrev dktL_law_3 : List UInt8 := dkwL_law_3 ++ dktL_law_4
def dkwL_law_2 : List UInt8 := [170, 0, 0, 0, 0, 4, 34, 0, 0, 0, 0, 0, 0, 0, 29, 0, 0, 0, 135, 0, 0, 0, 194, 0, 0, 0, 253, 0, 0, 1, 60, 0, 0, 1, 93, 0, 0, 1, 116, 0, 0, 1, 139, 0, 0, 1, 152, 0, 0, 1, 165, 0, 0, 1, 188, 0, 0, 1, 201, 0, 0, 1, 234, 0, 0, 2, 11, 0, 0, 2, 34, 0, 0, 2, 57, 0, 0, 2, 70, 0, 0, 2, 113, 0, 0, 2, 146, 0, 0, 2, 169, 0, 0, 2, 182, 0, 0, 2, 225, 0, 0, 3, 22, 0, 0, 3, 55, 0, 0, 3, 68, 0, 0, 3, 91, 0, 0, 3, 114, 0, 0, 3, 178, 0, 0, 3, 221, 0, 0, 3, 244, 0, 0, 4, 11]
abbrev dktL_law_2 : List UInt8 := dkwL_law_2 ++ dktL_law_3
def dkwL_law_1 : List UInt8 := [163, 4, 49, 42, 29, 46, 16, 31, 126]
abbrev dktL_law_1 : List UInt8 := dkwL_law_1 ++ dktL_law_2
def dkwL_law_0 : List UInt8 := [187, 0, 7, 89, 183, 0, 9, 76, 187, 0, 10, 89, 183, 0, 12, 77, 3, 62, 29, 42, 190, 16, 6, 100]
abbrev dktL_law_0 : List UInt8 := dkwL_law_0 ++ dktL_law_1
theorem dksL_law_0 : cL_law.data.toList.drop 0 = dktL_law_0 := by decide +kernel
theorem dksL_law_1 : cL_law.data.toList.drop 24 = dktL_law_1 := dk_seg dksL_law_0 24 rfl rfl
theorem dksL_law_2 : cL_law.data.toList.drop 33 = dktL_law_2 := dk_seg dksL_law_1 9 rfl rfl
theorem dksL_law_3 : cL_law.data.toList.drop 168 = dktL_law_3 := dk_seg dksL_law_2 135 rfl rfl
theorem dksL_law_4 : cL_law.data.toList.drop 192 = dktL_law_4 := dk_seg dksL_law_3 24 rfl rfl
theorem dksL_law_5 : cL_law.data.toList.drop 215 = dktL_law_5 := dk_seg dksL_law_4 23 rfl rfl
theorem dksL_law_6 : cL_law.data.toList.drop 239 = dktL_law_6 := dk_seg dksL_law_5 24 rfl rfl
theorem dksL_law_7 : cL_law.data.toList.drop 263 = dktL_law_7 := dk_seg dksL_law_6 24 rfl rfl
theorem dksL_law_8 : cL_law.data.toList.drop 287 = dktL_law_8 := dk_seg dksL_law_7 24 rfl rfl
theorem dksL_law_9 : cL_law.data.toList.drop 311 = dktL_law_9 := dk_seg dksL_law_8 24 rfl rfl
theorem dksL_law_10 : cL_law.data.toList.drop 335 = dktL_law_10 := dk_seg dksL_law_9 24 rfl rfl
theorem dksL_law_11 : cL_law.data.toList.drop 359 = dktL_law_11 := dk_seg dksL_law_10 24 rfl rfl
theorem dksL_law_12 : cL_law.data.toList.drop 383 = dktL_law_12 := dk_seg dksL_law_11 24 rfl rfl
theorem dksL_law_13 : cL_law.data.toList.drop 407 = dktL_law_13 := dk_seg dksL_law_12 24 rfl rfl
theorem dksL_law_14 : cL_law.data.toList.drop 429 = dktL_law_14 := dk_seg dksL_law_13 22 rfl rfl
theorem dksL_law_15 : cL_law.data.toList.drop 453 = dktL_law_15 := dk_seg dksL_law_14 24 rfl rfl
theorem dksL_law_16 : cL_law.data.toList.drop 477 = dktL_law_16 := dk_seg dksL_law_15 24 rfl rfl
theorem dksL_law_17 : cL_law.data.toList.drop 501 = dktL_law_17 := dk_seg dksL_law_16 24 rfl rfl
theorem dksL_law_18 : cL_law.data.toList.drop 525 = dktL_law_18 := dk_seg dksL_law_17 24 rfl rfl
theorem dksL_law_19 : cL_law.data.toList.drop 548 = dktL_law_19 := dk_seg dksL_law_18 23 rfl rfl
theorem dksL_law_20 : cL_law.data.toList.drop 571 = dktL_law_20 := dk_seg dksL_law_19 23 rfl rfl
theorem dksL_law_21 : cL_law.data.toList.drop 594 = dktL_law_21 := dk_seg dksL_law_20 23 rfl rfl
theorem dksL_law_22 : cL_law.data.toList.drop 618 = dktL_law_22 := dk_seg dksL_law_21 24 rfl rfl
theorem dksL_law_23 : cL_law.data.toList.drop 642 = dktL_law_23 := dk_seg dksL_law_22 24 rfl rfl
theorem dksL_law_24 : cL_law.data.toList.drop 666 = dktL_law_24 := dk_seg dksL_law_23 24 rfl rfl
theorem dksL_law_25 : cL_law.data.toList.drop 690 = dktL_law_25 := dk_seg dksL_law_24 24 rfl rfl
theorem dksL_law_26 : cL_law.data.toList.drop 714 = dktL_law_26 := dk_seg dksL_law_25 24 rfl rfl
theorem dksL_law_27 : cL_law.data.toList.drop 738 = dktL_law_27 := dk_seg dksL_law_26 24 rfl rfl
theorem dksL_law_28 : cL_law.data.toList.drop 762 = dktL_law_28 := dk_seg dksL_law_27 24 rfl rfl
theorem dksL_law_29 : cL_law.data.toList.drop 786 = dktL_law_29 := dk_seg dksL_law_28 24 rfl rfl
theorem dksL_law_30 : cL_law.data.toList.drop 810 = dktL_law_30 := dk_seg dksL_law_29 24 rfl rfl
theorem dksL_law_31 : cL_law.data.toList.drop 834 = dktL_law_31 := dk_seg dksL_law_30 24 rfl rfl
theorem dksL_law_32 : cL_law.data.toList.drop 857 = dktL_law_32 := dk_seg dksL_law_31 23 rfl rfl
theorem dksL_law_33 : cL_law.data.toList.drop 881 = dktL_law_33 := dk_seg dksL_law_32 24 rfl rfl
theorem dksL_law_34 : cL_law.data.toList.drop 905 = dktL_law_34 := dk_seg dksL_law_33 24 rfl rfl
theorem dksL_law_35 : cL_law.data.toList.drop 929 = dktL_law_35 := dk_seg dksL_law_34 24 rfl rfl
theorem dksL_law_36 : cL_law.data.toList.drop 953 = dktL_law_36 := dk_seg dksL_law_35 24 rfl rfl
theorem dksL_law_37 : cL_law.data.toList.drop 977 = dktL_law_37 := dk_seg dksL_law_36 24 rfl rfl
theorem dksL_law_38 : cL_law.data.toList.drop 1001 = dktL_law_38 := dk_seg dksL_law_37 24 rfl rfl
theorem dksL_law_39 : cL_law.data.toList.drop 1025 = dktL_law_39 := dk_seg dksL_law_38 24 rfl rfl
theorem dksL_law_40 : cL_law.data.toList.drop 1049 = dktL_law_40 := dk_seg dksL_law_39 24 rfl rfl
theorem dksL_law_41 : cL_law.data.toList.drop 1073 = dktL_law_41 := dk_seg dksL_law_40 24 rfl rfl
theorem dksL_law_42 : cL_law.data.toList.drop 1097 = dktL_law_42 := dk_seg dksL_law_41 24 rfl rfl
theorem dL_law_0 : decode cL_law 0 = .ok (.new 7, 3) := dk_187 0 7 (dk_at dksL_law_0 0 rfl rfl)
theorem dL_law_3 : decode cL_law 3 = .ok (.dup, 1) := dk_89 (dk_at dksL_law_0 3 rfl rfl)
theorem dL_law_4 : decode cL_law 4 = .ok (.invokespecial 9, 3) := dk_183 0 9 (dk_at dksL_law_0 4 rfl rfl)
theorem dL_law_7 : decode cL_law 7 = .ok (.astore_n 1, 1) := dk_76 (dk_at dksL_law_0 7 rfl rfl)
theorem dL_law_8 : decode cL_law 8 = .ok (.new 10, 3) := dk_187 0 10 (dk_at dksL_law_0 8 rfl rfl)
theorem dL_law_11 : decode cL_law 11 = .ok (.dup, 1) := dk_89 (dk_at dksL_law_0 11 rfl rfl)
theorem dL_law_12 : decode cL_law 12 = .ok (.invokespecial 12, 3) := dk_183 0 12 (dk_at dksL_law_0 12 rfl rfl)
theorem dL_law_15 : decode cL_law 15 = .ok (.astore_n 2, 1) := dk_77 (dk_at dksL_law_0 15 rfl rfl)
theorem dL_law_16 : decode cL_law 16 = .ok (.iconst 0, 1) := dk_3 (dk_at dksL_law_0 16 rfl rfl)
theorem dL_law_17 : decode cL_law 17 = .ok (.istore_n 3, 1) := dk_62 (dk_at dksL_law_0 17 rfl rfl)
theorem dL_law_18 : decode cL_law 18 = .ok (.iload_n 3, 1) := dk_29 (dk_at dksL_law_0 18 rfl rfl)
theorem dL_law_19 : decode cL_law 19 = .ok (.aload_n 0, 1) := dk_42 (dk_at dksL_law_0 19 rfl rfl)
theorem dL_law_20 : decode cL_law 20 = .ok (.arraylength, 1) := dk_190 (dk_at dksL_law_0 20 rfl rfl)
theorem dL_law_21 : decode cL_law 21 = .ok (.bipush 6, 2) := dk_16 6 (dk_at dksL_law_0 21 rfl rfl)
theorem dL_law_23 : decode cL_law 23 = .ok (.isub, 1) := dk_100 (dk_at dksL_law_0 23 rfl rfl)
theorem dL_law_24 : decode cL_law 24 = .ok (.if_icmp .gt 1073, 3) := dk_163 4 49 (dk_at dksL_law_1 0 rfl rfl)
theorem dL_law_27 : decode cL_law 27 = .ok (.aload_n 0, 1) := dk_42 (dk_at dksL_law_1 3 rfl rfl)
theorem dL_law_28 : decode cL_law 28 = .ok (.iload_n 3, 1) := dk_29 (dk_at dksL_law_1 4 rfl rfl)
theorem dL_law_29 : decode cL_law 29 = .ok (.iaload, 1) := dk_46 (dk_at dksL_law_1 5 rfl rfl)
theorem dL_law_30 : decode cL_law 30 = .ok (.bipush 31, 2) := dk_16 31 (dk_at dksL_law_1 6 rfl rfl)
theorem dL_law_32 : decode cL_law 32 = .ok (.iand, 1) := dk_126 (dk_at dksL_law_1 8 rfl rfl)
theorem dL_law_33 : decode cL_law 33 = .ok (.tableswitch 1058 0 29 #[135, 194, 253, 316, 349, 372, 395, 408, 421, 444, 457, 490, 523, 546, 569, 582, 625, 658, 681, 694, 737, 790, 823, 836, 859, 882, 946, 989, 1012, 1035], 135) := by decide +kernel
theorem dL_law_168 : decode cL_law 168 = .ok (.aload_n 1, 1) := dk_43 (dk_at dksL_law_3 0 rfl rfl)
theorem dL_law_169 : decode cL_law 169 = .ok (.aload_n 0, 1) := dk_42 (dk_at dksL_law_3 1 rfl rfl)
theorem dL_law_170 : decode cL_law 170 = .ok (.iload_n 3, 1) := dk_29 (dk_at dksL_law_3 2 rfl rfl)
theorem dL_law_171 : decode cL_law 171 = .ok (.iconst 1, 1) := dk_4 (dk_at dksL_law_3 3 rfl rfl)
theorem dL_law_172 : decode cL_law 172 = .ok (.iadd, 1) := dk_96 (dk_at dksL_law_3 4 rfl rfl)
theorem dL_law_173 : decode cL_law 173 = .ok (.iaload, 1) := dk_46 (dk_at dksL_law_3 5 rfl rfl)
theorem dL_law_174 : decode cL_law 174 = .ok (.aload_n 0, 1) := dk_42 (dk_at dksL_law_3 6 rfl rfl)
theorem dL_law_175 : decode cL_law 175 = .ok (.iload_n 3, 1) := dk_29 (dk_at dksL_law_3 7 rfl rfl)
theorem dL_law_176 : decode cL_law 176 = .ok (.iconst 2, 1) := dk_5 (dk_at dksL_law_3 8 rfl rfl)
theorem dL_law_177 : decode cL_law 177 = .ok (.iadd, 1) := dk_96 (dk_at dksL_law_3 9 rfl rfl)
theorem dL_law_178 : decode cL_law 178 = .ok (.iaload, 1) := dk_46 (dk_at dksL_law_3 10 rfl rfl)
theorem dL_law_179 : decode cL_law 179 = .ok (.aload_n 0, 1) := dk_42 (dk_at dksL_law_3 11 rfl rfl)
theorem dL_law_180 : decode cL_law 180 = .ok (.iload_n 3, 1) := dk_29 (dk_at dksL_law_3 12 rfl rfl)
theorem dL_law_181 : decode cL_law 181 = .ok (.iconst 3, 1) := dk_6 (dk_at dksL_law_3 13 rfl rfl)
theorem dL_law_182 : decode cL_law 182 = .ok (.iadd, 1) := dk_96 (dk_at dksL_law_3 14 rfl rfl)
theorem dL_law_183 : decode cL_law 183 = .ok (.iaload, 1) := dk_46 (dk_at dksL_law_3 15 rfl rfl)
theorem dL_law_184 : decode cL_law 184 = .ok (.ifCond .eq 7, 3) := dk_153 0 7 (dk_at dksL_law_3 16 rfl rfl)
theorem dL_law_187 : decode cL_law 187 = .ok (.iconst 1, 1) := dk_4 (dk_at dksL_law_3 19 rfl rfl)
theorem dL_law_188 : decode cL_law 188 = .ok (.goto 4, 3) := dk_167 0 4 (dk_at dksL_law_3 20 rfl rfl)
theorem dL_law_191 : decode cL_law 191 = .ok (.iconst 0, 1) := dk_3 (dk_at dksL_law_3 23 rfl rfl)
theorem dL_law_192 : decode cL_law 192 = .ok (.invokevirtual 13, 3) := dk_182 0 13 (dk_at dksL_law_4 0 rfl rfl)
theorem dL_law_195 : decode cL_law 195 = .ok (.aload_n 2, 1) := dk_44 (dk_at dksL_law_4 3 rfl rfl)
theorem dL_law_196 : decode cL_law 196 = .ok (.aload_n 0, 1) := dk_42 (dk_at dksL_law_4 4 rfl rfl)
theorem dL_law_197 : decode cL_law 197 = .ok (.iload_n 3, 1) := dk_29 (dk_at dksL_law_4 5 rfl rfl)
theorem dL_law_198 : decode cL_law 198 = .ok (.iconst 1, 1) := dk_4 (dk_at dksL_law_4 6 rfl rfl)
theorem dL_law_199 : decode cL_law 199 = .ok (.iadd, 1) := dk_96 (dk_at dksL_law_4 7 rfl rfl)
theorem dL_law_200 : decode cL_law 200 = .ok (.iaload, 1) := dk_46 (dk_at dksL_law_4 8 rfl rfl)
theorem dL_law_201 : decode cL_law 201 = .ok (.aload_n 0, 1) := dk_42 (dk_at dksL_law_4 9 rfl rfl)
theorem dL_law_202 : decode cL_law 202 = .ok (.iload_n 3, 1) := dk_29 (dk_at dksL_law_4 10 rfl rfl)
theorem dL_law_203 : decode cL_law 203 = .ok (.iconst 2, 1) := dk_5 (dk_at dksL_law_4 11 rfl rfl)
theorem dL_law_204 : decode cL_law 204 = .ok (.iadd, 1) := dk_96 (dk_at dksL_law_4 12 rfl rfl)
theorem dL_law_205 : decode cL_law 205 = .ok (.iaload, 1) := dk_46 (dk_at dksL_law_4 13 rfl rfl)
theorem dL_law_206 : decode cL_law 206 = .ok (.aload_n 0, 1) := dk_42 (dk_at dksL_law_4 14 rfl rfl)
theorem dL_law_207 : decode cL_law 207 = .ok (.iload_n 3, 1) := dk_29 (dk_at dksL_law_4 15 rfl rfl)
theorem dL_law_208 : decode cL_law 208 = .ok (.iconst 3, 1) := dk_6 (dk_at dksL_law_4 16 rfl rfl)
theorem dL_law_209 : decode cL_law 209 = .ok (.iadd, 1) := dk_96 (dk_at dksL_law_4 17 rfl rfl)
theorem dL_law_210 : decode cL_law 210 = .ok (.iaload, 1) := dk_46 (dk_at dksL_law_4 18 rfl rfl)
theorem dL_law_211 : decode cL_law 211 = .ok (.ifCond .eq 7, 3) := dk_153 0 7 (dk_at dksL_law_4 19 rfl rfl)
theorem dL_law_214 : decode cL_law 214 = .ok (.iconst 1, 1) := dk_4 (dk_at dksL_law_4 22 rfl rfl)
theorem dL_law_215 : decode cL_law 215 = .ok (.goto 4, 3) := dk_167 0 4 (dk_at dksL_law_5 0 rfl rfl)
theorem dL_law_218 : decode cL_law 218 = .ok (.iconst 0, 1) := dk_3 (dk_at dksL_law_5 3 rfl rfl)
theorem dL_law_219 : decode cL_law 219 = .ok (.invokevirtual 17, 3) := dk_182 0 17 (dk_at dksL_law_5 4 rfl rfl)
theorem dL_law_222 : decode cL_law 222 = .ok (.if_icmp .eq 869, 3) := dk_159 3 101 (dk_at dksL_law_5 7 rfl rfl)
theorem dL_law_225 : decode cL_law 225 = .ok (.iconst 0, 1) := dk_3 (dk_at dksL_law_5 10 rfl rfl)
theorem dL_law_226 : decode cL_law 226 = .ok (.ireturn, 1) := dk_172 (dk_at dksL_law_5 11 rfl rfl)
theorem dL_law_227 : decode cL_law 227 = .ok (.aload_n 1, 1) := dk_43 (dk_at dksL_law_5 12 rfl rfl)
theorem dL_law_228 : decode cL_law 228 = .ok (.aload_n 0, 1) := dk_42 (dk_at dksL_law_5 13 rfl rfl)
theorem dL_law_229 : decode cL_law 229 = .ok (.iload_n 3, 1) := dk_29 (dk_at dksL_law_5 14 rfl rfl)
theorem dL_law_230 : decode cL_law 230 = .ok (.iconst 1, 1) := dk_4 (dk_at dksL_law_5 15 rfl rfl)
theorem dL_law_231 : decode cL_law 231 = .ok (.iadd, 1) := dk_96 (dk_at dksL_law_5 16 rfl rfl)
theorem dL_law_232 : decode cL_law 232 = .ok (.iaload, 1) := dk_46 (dk_at dksL_law_5 17 rfl rfl)
theorem dL_law_233 : decode cL_law 233 = .ok (.aload_n 0, 1) := dk_42 (dk_at dksL_law_5 18 rfl rfl)
theorem dL_law_234 : decode cL_law 234 = .ok (.iload_n 3, 1) := dk_29 (dk_at dksL_law_5 19 rfl rfl)
theorem dL_law_235 : decode cL_law 235 = .ok (.iconst 2, 1) := dk_5 (dk_at dksL_law_5 20 rfl rfl)
theorem dL_law_236 : decode cL_law 236 = .ok (.iadd, 1) := dk_96 (dk_at dksL_law_5 21 rfl rfl)
theorem dL_law_237 : decode cL_law 237 = .ok (.iaload, 1) := dk_46 (dk_at dksL_law_5 22 rfl rfl)
theorem dL_law_238 : decode cL_law 238 = .ok (.aload_n 0, 1) := dk_42 (dk_at dksL_law_5 23 rfl rfl)
theorem dL_law_239 : decode cL_law 239 = .ok (.iload_n 3, 1) := dk_29 (dk_at dksL_law_6 0 rfl rfl)
theorem dL_law_240 : decode cL_law 240 = .ok (.iconst 3, 1) := dk_6 (dk_at dksL_law_6 1 rfl rfl)
theorem dL_law_241 : decode cL_law 241 = .ok (.iadd, 1) := dk_96 (dk_at dksL_law_6 2 rfl rfl)
theorem dL_law_242 : decode cL_law 242 = .ok (.iaload, 1) := dk_46 (dk_at dksL_law_6 3 rfl rfl)
theorem dL_law_243 : decode cL_law 243 = .ok (.ifCond .eq 7, 3) := dk_153 0 7 (dk_at dksL_law_6 4 rfl rfl)
theorem dL_law_246 : decode cL_law 246 = .ok (.iconst 1, 1) := dk_4 (dk_at dksL_law_6 7 rfl rfl)
theorem dL_law_247 : decode cL_law 247 = .ok (.goto 4, 3) := dk_167 0 4 (dk_at dksL_law_6 8 rfl rfl)
theorem dL_law_250 : decode cL_law 250 = .ok (.iconst 0, 1) := dk_3 (dk_at dksL_law_6 11 rfl rfl)
theorem dL_law_251 : decode cL_law 251 = .ok (.invokevirtual 18, 3) := dk_182 0 18 (dk_at dksL_law_6 12 rfl rfl)
theorem dL_law_254 : decode cL_law 254 = .ok (.aload_n 2, 1) := dk_44 (dk_at dksL_law_6 15 rfl rfl)
theorem dL_law_255 : decode cL_law 255 = .ok (.aload_n 0, 1) := dk_42 (dk_at dksL_law_6 16 rfl rfl)
theorem dL_law_256 : decode cL_law 256 = .ok (.iload_n 3, 1) := dk_29 (dk_at dksL_law_6 17 rfl rfl)
theorem dL_law_257 : decode cL_law 257 = .ok (.iconst 1, 1) := dk_4 (dk_at dksL_law_6 18 rfl rfl)
theorem dL_law_258 : decode cL_law 258 = .ok (.iadd, 1) := dk_96 (dk_at dksL_law_6 19 rfl rfl)
theorem dL_law_259 : decode cL_law 259 = .ok (.iaload, 1) := dk_46 (dk_at dksL_law_6 20 rfl rfl)
theorem dL_law_260 : decode cL_law 260 = .ok (.aload_n 0, 1) := dk_42 (dk_at dksL_law_6 21 rfl rfl)
theorem dL_law_261 : decode cL_law 261 = .ok (.iload_n 3, 1) := dk_29 (dk_at dksL_law_6 22 rfl rfl)
theorem dL_law_262 : decode cL_law 262 = .ok (.iconst 2, 1) := dk_5 (dk_at dksL_law_6 23 rfl rfl)
theorem dL_law_263 : decode cL_law 263 = .ok (.iadd, 1) := dk_96 (dk_at dksL_law_7 0 rfl rfl)
theorem dL_law_264 : decode cL_law 264 = .ok (.iaload, 1) := dk_46 (dk_at dksL_law_7 1 rfl rfl)
theorem dL_law_265 : decode cL_law 265 = .ok (.aload_n 0, 1) := dk_42 (dk_at dksL_law_7 2 rfl rfl)
theorem dL_law_266 : decode cL_law 266 = .ok (.iload_n 3, 1) := dk_29 (dk_at dksL_law_7 3 rfl rfl)
theorem dL_law_267 : decode cL_law 267 = .ok (.iconst 3, 1) := dk_6 (dk_at dksL_law_7 4 rfl rfl)
theorem dL_law_268 : decode cL_law 268 = .ok (.iadd, 1) := dk_96 (dk_at dksL_law_7 5 rfl rfl)
theorem dL_law_269 : decode cL_law 269 = .ok (.iaload, 1) := dk_46 (dk_at dksL_law_7 6 rfl rfl)
theorem dL_law_270 : decode cL_law 270 = .ok (.ifCond .eq 7, 3) := dk_153 0 7 (dk_at dksL_law_7 7 rfl rfl)
theorem dL_law_273 : decode cL_law 273 = .ok (.iconst 1, 1) := dk_4 (dk_at dksL_law_7 10 rfl rfl)
theorem dL_law_274 : decode cL_law 274 = .ok (.goto 4, 3) := dk_167 0 4 (dk_at dksL_law_7 11 rfl rfl)
theorem dL_law_277 : decode cL_law 277 = .ok (.iconst 0, 1) := dk_3 (dk_at dksL_law_7 14 rfl rfl)
theorem dL_law_278 : decode cL_law 278 = .ok (.invokevirtual 21, 3) := dk_182 0 21 (dk_at dksL_law_7 15 rfl rfl)
theorem dL_law_281 : decode cL_law 281 = .ok (.if_icmp .eq 810, 3) := dk_159 3 42 (dk_at dksL_law_7 18 rfl rfl)
theorem dL_law_284 : decode cL_law 284 = .ok (.iconst 0, 1) := dk_3 (dk_at dksL_law_7 21 rfl rfl)
theorem dL_law_285 : decode cL_law 285 = .ok (.ireturn, 1) := dk_172 (dk_at dksL_law_7 22 rfl rfl)
theorem dL_law_286 : decode cL_law 286 = .ok (.aload_n 1, 1) := dk_43 (dk_at dksL_law_7 23 rfl rfl)
theorem dL_law_287 : decode cL_law 287 = .ok (.aload_n 0, 1) := dk_42 (dk_at dksL_law_8 0 rfl rfl)
theorem dL_law_288 : decode cL_law 288 = .ok (.iload_n 3, 1) := dk_29 (dk_at dksL_law_8 1 rfl rfl)
theorem dL_law_289 : decode cL_law 289 = .ok (.iconst 1, 1) := dk_4 (dk_at dksL_law_8 2 rfl rfl)
theorem dL_law_290 : decode cL_law 290 = .ok (.iadd, 1) := dk_96 (dk_at dksL_law_8 3 rfl rfl)
theorem dL_law_291 : decode cL_law 291 = .ok (.iaload, 1) := dk_46 (dk_at dksL_law_8 4 rfl rfl)
theorem dL_law_292 : decode cL_law 292 = .ok (.aload_n 0, 1) := dk_42 (dk_at dksL_law_8 5 rfl rfl)
theorem dL_law_293 : decode cL_law 293 = .ok (.iload_n 3, 1) := dk_29 (dk_at dksL_law_8 6 rfl rfl)
theorem dL_law_294 : decode cL_law 294 = .ok (.iconst 2, 1) := dk_5 (dk_at dksL_law_8 7 rfl rfl)
theorem dL_law_295 : decode cL_law 295 = .ok (.iadd, 1) := dk_96 (dk_at dksL_law_8 8 rfl rfl)
theorem dL_law_296 : decode cL_law 296 = .ok (.iaload, 1) := dk_46 (dk_at dksL_law_8 9 rfl rfl)
theorem dL_law_297 : decode cL_law 297 = .ok (.aload_n 0, 1) := dk_42 (dk_at dksL_law_8 10 rfl rfl)
theorem dL_law_298 : decode cL_law 298 = .ok (.iload_n 3, 1) := dk_29 (dk_at dksL_law_8 11 rfl rfl)
theorem dL_law_299 : decode cL_law 299 = .ok (.iconst 3, 1) := dk_6 (dk_at dksL_law_8 12 rfl rfl)
theorem dL_law_300 : decode cL_law 300 = .ok (.iadd, 1) := dk_96 (dk_at dksL_law_8 13 rfl rfl)
theorem dL_law_301 : decode cL_law 301 = .ok (.iaload, 1) := dk_46 (dk_at dksL_law_8 14 rfl rfl)
theorem dL_law_302 : decode cL_law 302 = .ok (.aload_n 0, 1) := dk_42 (dk_at dksL_law_8 15 rfl rfl)
theorem dL_law_303 : decode cL_law 303 = .ok (.iload_n 3, 1) := dk_29 (dk_at dksL_law_8 16 rfl rfl)
theorem dL_law_304 : decode cL_law 304 = .ok (.iconst 4, 1) := dk_7 (dk_at dksL_law_8 17 rfl rfl)
theorem dL_law_305 : decode cL_law 305 = .ok (.iadd, 1) := dk_96 (dk_at dksL_law_8 18 rfl rfl)
theorem dL_law_306 : decode cL_law 306 = .ok (.iaload, 1) := dk_46 (dk_at dksL_law_8 19 rfl rfl)
theorem dL_law_307 : decode cL_law 307 = .ok (.aload_n 0, 1) := dk_42 (dk_at dksL_law_8 20 rfl rfl)
theorem dL_law_308 : decode cL_law 308 = .ok (.iload_n 3, 1) := dk_29 (dk_at dksL_law_8 21 rfl rfl)
theorem dL_law_309 : decode cL_law 309 = .ok (.iconst 5, 1) := dk_8 (dk_at dksL_law_8 22 rfl rfl)
theorem dL_law_310 : decode cL_law 310 = .ok (.iadd, 1) := dk_96 (dk_at dksL_law_8 23 rfl rfl)
theorem dL_law_311 : decode cL_law 311 = .ok (.iaload, 1) := dk_46 (dk_at dksL_law_9 0 rfl rfl)
theorem dL_law_312 : decode cL_law 312 = .ok (.invokevirtual 22, 3) := dk_182 0 22 (dk_at dksL_law_9 1 rfl rfl)
theorem dL_law_315 : decode cL_law 315 = .ok (.aload_n 2, 1) := dk_44 (dk_at dksL_law_9 4 rfl rfl)
theorem dL_law_316 : decode cL_law 316 = .ok (.aload_n 0, 1) := dk_42 (dk_at dksL_law_9 5 rfl rfl)
theorem dL_law_317 : decode cL_law 317 = .ok (.iload_n 3, 1) := dk_29 (dk_at dksL_law_9 6 rfl rfl)
theorem dL_law_318 : decode cL_law 318 = .ok (.iconst 1, 1) := dk_4 (dk_at dksL_law_9 7 rfl rfl)
theorem dL_law_319 : decode cL_law 319 = .ok (.iadd, 1) := dk_96 (dk_at dksL_law_9 8 rfl rfl)
theorem dL_law_320 : decode cL_law 320 = .ok (.iaload, 1) := dk_46 (dk_at dksL_law_9 9 rfl rfl)
theorem dL_law_321 : decode cL_law 321 = .ok (.aload_n 0, 1) := dk_42 (dk_at dksL_law_9 10 rfl rfl)
theorem dL_law_322 : decode cL_law 322 = .ok (.iload_n 3, 1) := dk_29 (dk_at dksL_law_9 11 rfl rfl)
theorem dL_law_323 : decode cL_law 323 = .ok (.iconst 2, 1) := dk_5 (dk_at dksL_law_9 12 rfl rfl)
theorem dL_law_324 : decode cL_law 324 = .ok (.iadd, 1) := dk_96 (dk_at dksL_law_9 13 rfl rfl)
theorem dL_law_325 : decode cL_law 325 = .ok (.iaload, 1) := dk_46 (dk_at dksL_law_9 14 rfl rfl)
theorem dL_law_326 : decode cL_law 326 = .ok (.aload_n 0, 1) := dk_42 (dk_at dksL_law_9 15 rfl rfl)
theorem dL_law_327 : decode cL_law 327 = .ok (.iload_n 3, 1) := dk_29 (dk_at dksL_law_9 16 rfl rfl)
theorem dL_law_328 : decode cL_law 328 = .ok (.iconst 3, 1) := dk_6 (dk_at dksL_law_9 17 rfl rfl)
theorem dL_law_329 : decode cL_law 329 = .ok (.iadd, 1) := dk_96 (dk_at dksL_law_9 18 rfl rfl)
theorem dL_law_330 : decode cL_law 330 = .ok (.iaload, 1) := dk_46 (dk_at dksL_law_9 19 rfl rfl)
theorem dL_law_331 : decode cL_law 331 = .ok (.aload_n 0, 1) := dk_42 (dk_at dksL_law_9 20 rfl rfl)
theorem dL_law_332 : decode cL_law 332 = .ok (.iload_n 3, 1) := dk_29 (dk_at dksL_law_9 21 rfl rfl)
theorem dL_law_333 : decode cL_law 333 = .ok (.iconst 4, 1) := dk_7 (dk_at dksL_law_9 22 rfl rfl)
theorem dL_law_334 : decode cL_law 334 = .ok (.iadd, 1) := dk_96 (dk_at dksL_law_9 23 rfl rfl)
theorem dL_law_335 : decode cL_law 335 = .ok (.iaload, 1) := dk_46 (dk_at dksL_law_10 0 rfl rfl)
theorem dL_law_336 : decode cL_law 336 = .ok (.aload_n 0, 1) := dk_42 (dk_at dksL_law_10 1 rfl rfl)
theorem dL_law_337 : decode cL_law 337 = .ok (.iload_n 3, 1) := dk_29 (dk_at dksL_law_10 2 rfl rfl)
theorem dL_law_338 : decode cL_law 338 = .ok (.iconst 5, 1) := dk_8 (dk_at dksL_law_10 3 rfl rfl)
theorem dL_law_339 : decode cL_law 339 = .ok (.iadd, 1) := dk_96 (dk_at dksL_law_10 4 rfl rfl)
theorem dL_law_340 : decode cL_law 340 = .ok (.iaload, 1) := dk_46 (dk_at dksL_law_10 5 rfl rfl)
theorem dL_law_341 : decode cL_law 341 = .ok (.invokevirtual 26, 3) := dk_182 0 26 (dk_at dksL_law_10 6 rfl rfl)
theorem dL_law_344 : decode cL_law 344 = .ok (.if_icmp .eq 747, 3) := dk_159 2 235 (dk_at dksL_law_10 9 rfl rfl)
theorem dL_law_347 : decode cL_law 347 = .ok (.iconst 0, 1) := dk_3 (dk_at dksL_law_10 12 rfl rfl)
theorem dL_law_348 : decode cL_law 348 = .ok (.ireturn, 1) := dk_172 (dk_at dksL_law_10 13 rfl rfl)
theorem dL_law_349 : decode cL_law 349 = .ok (.aload_n 1, 1) := dk_43 (dk_at dksL_law_10 14 rfl rfl)
theorem dL_law_350 : decode cL_law 350 = .ok (.aload_n 0, 1) := dk_42 (dk_at dksL_law_10 15 rfl rfl)
theorem dL_law_351 : decode cL_law 351 = .ok (.iload_n 3, 1) := dk_29 (dk_at dksL_law_10 16 rfl rfl)
theorem dL_law_352 : decode cL_law 352 = .ok (.iconst 1, 1) := dk_4 (dk_at dksL_law_10 17 rfl rfl)
theorem dL_law_353 : decode cL_law 353 = .ok (.iadd, 1) := dk_96 (dk_at dksL_law_10 18 rfl rfl)
theorem dL_law_354 : decode cL_law 354 = .ok (.iaload, 1) := dk_46 (dk_at dksL_law_10 19 rfl rfl)
theorem dL_law_355 : decode cL_law 355 = .ok (.aload_n 0, 1) := dk_42 (dk_at dksL_law_10 20 rfl rfl)
theorem dL_law_356 : decode cL_law 356 = .ok (.iload_n 3, 1) := dk_29 (dk_at dksL_law_10 21 rfl rfl)
theorem dL_law_357 : decode cL_law 357 = .ok (.iconst 2, 1) := dk_5 (dk_at dksL_law_10 22 rfl rfl)
theorem dL_law_358 : decode cL_law 358 = .ok (.iadd, 1) := dk_96 (dk_at dksL_law_10 23 rfl rfl)
theorem dL_law_359 : decode cL_law 359 = .ok (.iaload, 1) := dk_46 (dk_at dksL_law_11 0 rfl rfl)
theorem dL_law_360 : decode cL_law 360 = .ok (.invokevirtual 27, 3) := dk_182 0 27 (dk_at dksL_law_11 1 rfl rfl)
theorem dL_law_363 : decode cL_law 363 = .ok (.aload_n 2, 1) := dk_44 (dk_at dksL_law_11 4 rfl rfl)
theorem dL_law_364 : decode cL_law 364 = .ok (.aload_n 0, 1) := dk_42 (dk_at dksL_law_11 5 rfl rfl)
theorem dL_law_365 : decode cL_law 365 = .ok (.iload_n 3, 1) := dk_29 (dk_at dksL_law_11 6 rfl rfl)
theorem dL_law_366 : decode cL_law 366 = .ok (.iconst 1, 1) := dk_4 (dk_at dksL_law_11 7 rfl rfl)
theorem dL_law_367 : decode cL_law 367 = .ok (.iadd, 1) := dk_96 (dk_at dksL_law_11 8 rfl rfl)
theorem dL_law_368 : decode cL_law 368 = .ok (.iaload, 1) := dk_46 (dk_at dksL_law_11 9 rfl rfl)
theorem dL_law_369 : decode cL_law 369 = .ok (.aload_n 0, 1) := dk_42 (dk_at dksL_law_11 10 rfl rfl)
theorem dL_law_370 : decode cL_law 370 = .ok (.iload_n 3, 1) := dk_29 (dk_at dksL_law_11 11 rfl rfl)
theorem dL_law_371 : decode cL_law 371 = .ok (.iconst 2, 1) := dk_5 (dk_at dksL_law_11 12 rfl rfl)
theorem dL_law_372 : decode cL_law 372 = .ok (.iadd, 1) := dk_96 (dk_at dksL_law_11 13 rfl rfl)
theorem dL_law_373 : decode cL_law 373 = .ok (.iaload, 1) := dk_46 (dk_at dksL_law_11 14 rfl rfl)
theorem dL_law_374 : decode cL_law 374 = .ok (.invokevirtual 31, 3) := dk_182 0 31 (dk_at dksL_law_11 15 rfl rfl)
theorem dL_law_377 : decode cL_law 377 = .ok (.if_icmp .eq 714, 3) := dk_159 2 202 (dk_at dksL_law_11 18 rfl rfl)
theorem dL_law_380 : decode cL_law 380 = .ok (.iconst 0, 1) := dk_3 (dk_at dksL_law_11 21 rfl rfl)
theorem dL_law_381 : decode cL_law 381 = .ok (.ireturn, 1) := dk_172 (dk_at dksL_law_11 22 rfl rfl)
theorem dL_law_382 : decode cL_law 382 = .ok (.aload_n 1, 1) := dk_43 (dk_at dksL_law_11 23 rfl rfl)
theorem dL_law_383 : decode cL_law 383 = .ok (.aload_n 0, 1) := dk_42 (dk_at dksL_law_12 0 rfl rfl)
theorem dL_law_384 : decode cL_law 384 = .ok (.iload_n 3, 1) := dk_29 (dk_at dksL_law_12 1 rfl rfl)
theorem dL_law_385 : decode cL_law 385 = .ok (.iconst 1, 1) := dk_4 (dk_at dksL_law_12 2 rfl rfl)
theorem dL_law_386 : decode cL_law 386 = .ok (.iadd, 1) := dk_96 (dk_at dksL_law_12 3 rfl rfl)
theorem dL_law_387 : decode cL_law 387 = .ok (.iaload, 1) := dk_46 (dk_at dksL_law_12 4 rfl rfl)
theorem dL_law_388 : decode cL_law 388 = .ok (.invokevirtual 32, 3) := dk_182 0 32 (dk_at dksL_law_12 5 rfl rfl)
theorem dL_law_391 : decode cL_law 391 = .ok (.aload_n 2, 1) := dk_44 (dk_at dksL_law_12 8 rfl rfl)
theorem dL_law_392 : decode cL_law 392 = .ok (.aload_n 0, 1) := dk_42 (dk_at dksL_law_12 9 rfl rfl)
theorem dL_law_393 : decode cL_law 393 = .ok (.iload_n 3, 1) := dk_29 (dk_at dksL_law_12 10 rfl rfl)
theorem dL_law_394 : decode cL_law 394 = .ok (.iconst 1, 1) := dk_4 (dk_at dksL_law_12 11 rfl rfl)
theorem dL_law_395 : decode cL_law 395 = .ok (.iadd, 1) := dk_96 (dk_at dksL_law_12 12 rfl rfl)
theorem dL_law_396 : decode cL_law 396 = .ok (.iaload, 1) := dk_46 (dk_at dksL_law_12 13 rfl rfl)
theorem dL_law_397 : decode cL_law 397 = .ok (.invokevirtual 36, 3) := dk_182 0 36 (dk_at dksL_law_12 14 rfl rfl)
theorem dL_law_400 : decode cL_law 400 = .ok (.if_icmp .eq 691, 3) := dk_159 2 179 (dk_at dksL_law_12 17 rfl rfl)
theorem dL_law_403 : decode cL_law 403 = .ok (.iconst 0, 1) := dk_3 (dk_at dksL_law_12 20 rfl rfl)
theorem dL_law_404 : decode cL_law 404 = .ok (.ireturn, 1) := dk_172 (dk_at dksL_law_12 21 rfl rfl)
theorem dL_law_405 : decode cL_law 405 = .ok (.aload_n 1, 1) := dk_43 (dk_at dksL_law_12 22 rfl rfl)
theorem dL_law_406 : decode cL_law 406 = .ok (.aload_n 0, 1) := dk_42 (dk_at dksL_law_12 23 rfl rfl)
theorem dL_law_407 : decode cL_law 407 = .ok (.iload_n 3, 1) := dk_29 (dk_at dksL_law_13 0 rfl rfl)
theorem dL_law_408 : decode cL_law 408 = .ok (.iconst 1, 1) := dk_4 (dk_at dksL_law_13 1 rfl rfl)
theorem dL_law_409 : decode cL_law 409 = .ok (.iadd, 1) := dk_96 (dk_at dksL_law_13 2 rfl rfl)
theorem dL_law_410 : decode cL_law 410 = .ok (.iaload, 1) := dk_46 (dk_at dksL_law_13 3 rfl rfl)
theorem dL_law_411 : decode cL_law 411 = .ok (.invokevirtual 37, 3) := dk_182 0 37 (dk_at dksL_law_13 4 rfl rfl)
theorem dL_law_414 : decode cL_law 414 = .ok (.aload_n 2, 1) := dk_44 (dk_at dksL_law_13 7 rfl rfl)
theorem dL_law_415 : decode cL_law 415 = .ok (.aload_n 0, 1) := dk_42 (dk_at dksL_law_13 8 rfl rfl)
theorem dL_law_416 : decode cL_law 416 = .ok (.iload_n 3, 1) := dk_29 (dk_at dksL_law_13 9 rfl rfl)
theorem dL_law_417 : decode cL_law 417 = .ok (.iconst 1, 1) := dk_4 (dk_at dksL_law_13 10 rfl rfl)
theorem dL_law_418 : decode cL_law 418 = .ok (.iadd, 1) := dk_96 (dk_at dksL_law_13 11 rfl rfl)
theorem dL_law_419 : decode cL_law 419 = .ok (.iaload, 1) := dk_46 (dk_at dksL_law_13 12 rfl rfl)
theorem dL_law_420 : decode cL_law 420 = .ok (.invokevirtual 40, 3) := dk_182 0 40 (dk_at dksL_law_13 13 rfl rfl)
theorem dL_law_423 : decode cL_law 423 = .ok (.if_icmp .eq 668, 3) := dk_159 2 156 (dk_at dksL_law_13 16 rfl rfl)
theorem dL_law_426 : decode cL_law 426 = .ok (.iconst 0, 1) := dk_3 (dk_at dksL_law_13 19 rfl rfl)
theorem dL_law_427 : decode cL_law 427 = .ok (.ireturn, 1) := dk_172 (dk_at dksL_law_13 20 rfl rfl)
theorem dL_law_428 : decode cL_law 428 = .ok (.aload_n 1, 1) := dk_43 (dk_at dksL_law_13 21 rfl rfl)
theorem dL_law_429 : decode cL_law 429 = .ok (.invokevirtual 41, 3) := dk_182 0 41 (dk_at dksL_law_14 0 rfl rfl)
theorem dL_law_432 : decode cL_law 432 = .ok (.aload_n 2, 1) := dk_44 (dk_at dksL_law_14 3 rfl rfl)
theorem dL_law_433 : decode cL_law 433 = .ok (.invokevirtual 45, 3) := dk_182 0 45 (dk_at dksL_law_14 4 rfl rfl)
theorem dL_law_436 : decode cL_law 436 = .ok (.if_icmp .eq 655, 3) := dk_159 2 143 (dk_at dksL_law_14 7 rfl rfl)
theorem dL_law_439 : decode cL_law 439 = .ok (.iconst 0, 1) := dk_3 (dk_at dksL_law_14 10 rfl rfl)
theorem dL_law_440 : decode cL_law 440 = .ok (.ireturn, 1) := dk_172 (dk_at dksL_law_14 11 rfl rfl)
theorem dL_law_441 : decode cL_law 441 = .ok (.aload_n 1, 1) := dk_43 (dk_at dksL_law_14 12 rfl rfl)
theorem dL_law_442 : decode cL_law 442 = .ok (.invokevirtual 46, 3) := dk_182 0 46 (dk_at dksL_law_14 13 rfl rfl)
theorem dL_law_445 : decode cL_law 445 = .ok (.aload_n 2, 1) := dk_44 (dk_at dksL_law_14 16 rfl rfl)
theorem dL_law_446 : decode cL_law 446 = .ok (.invokevirtual 49, 3) := dk_182 0 49 (dk_at dksL_law_14 17 rfl rfl)
theorem dL_law_449 : decode cL_law 449 = .ok (.if_icmp .eq 642, 3) := dk_159 2 130 (dk_at dksL_law_14 20 rfl rfl)
theorem dL_law_452 : decode cL_law 452 = .ok (.iconst 0, 1) := dk_3 (dk_at dksL_law_14 23 rfl rfl)
theorem dL_law_453 : decode cL_law 453 = .ok (.ireturn, 1) := dk_172 (dk_at dksL_law_15 0 rfl rfl)
theorem dL_law_454 : decode cL_law 454 = .ok (.aload_n 1, 1) := dk_43 (dk_at dksL_law_15 1 rfl rfl)
theorem dL_law_455 : decode cL_law 455 = .ok (.aload_n 0, 1) := dk_42 (dk_at dksL_law_15 2 rfl rfl)
theorem dL_law_456 : decode cL_law 456 = .ok (.iload_n 3, 1) := dk_29 (dk_at dksL_law_15 3 rfl rfl)
theorem dL_law_457 : decode cL_law 457 = .ok (.iconst 1, 1) := dk_4 (dk_at dksL_law_15 4 rfl rfl)
theorem dL_law_458 : decode cL_law 458 = .ok (.iadd, 1) := dk_96 (dk_at dksL_law_15 5 rfl rfl)
theorem dL_law_459 : decode cL_law 459 = .ok (.iaload, 1) := dk_46 (dk_at dksL_law_15 6 rfl rfl)
theorem dL_law_460 : decode cL_law 460 = .ok (.invokevirtual 50, 3) := dk_182 0 50 (dk_at dksL_law_15 7 rfl rfl)
theorem dL_law_463 : decode cL_law 463 = .ok (.aload_n 2, 1) := dk_44 (dk_at dksL_law_15 10 rfl rfl)
theorem dL_law_464 : decode cL_law 464 = .ok (.aload_n 0, 1) := dk_42 (dk_at dksL_law_15 11 rfl rfl)
theorem dL_law_465 : decode cL_law 465 = .ok (.iload_n 3, 1) := dk_29 (dk_at dksL_law_15 12 rfl rfl)
theorem dL_law_466 : decode cL_law 466 = .ok (.iconst 1, 1) := dk_4 (dk_at dksL_law_15 13 rfl rfl)
theorem dL_law_467 : decode cL_law 467 = .ok (.iadd, 1) := dk_96 (dk_at dksL_law_15 14 rfl rfl)
theorem dL_law_468 : decode cL_law 468 = .ok (.iaload, 1) := dk_46 (dk_at dksL_law_15 15 rfl rfl)
theorem dL_law_469 : decode cL_law 469 = .ok (.invokevirtual 53, 3) := dk_182 0 53 (dk_at dksL_law_15 16 rfl rfl)
theorem dL_law_472 : decode cL_law 472 = .ok (.if_icmp .eq 619, 3) := dk_159 2 107 (dk_at dksL_law_15 19 rfl rfl)
theorem dL_law_475 : decode cL_law 475 = .ok (.iconst 0, 1) := dk_3 (dk_at dksL_law_15 22 rfl rfl)
theorem dL_law_476 : decode cL_law 476 = .ok (.ireturn, 1) := dk_172 (dk_at dksL_law_15 23 rfl rfl)
theorem dL_law_477 : decode cL_law 477 = .ok (.aload_n 1, 1) := dk_43 (dk_at dksL_law_16 0 rfl rfl)
theorem dL_law_478 : decode cL_law 478 = .ok (.invokevirtual 54, 3) := dk_182 0 54 (dk_at dksL_law_16 1 rfl rfl)
theorem dL_law_481 : decode cL_law 481 = .ok (.aload_n 2, 1) := dk_44 (dk_at dksL_law_16 4 rfl rfl)
theorem dL_law_482 : decode cL_law 482 = .ok (.invokevirtual 57, 3) := dk_182 0 57 (dk_at dksL_law_16 5 rfl rfl)
theorem dL_law_485 : decode cL_law 485 = .ok (.if_icmp .eq 606, 3) := dk_159 2 94 (dk_at dksL_law_16 8 rfl rfl)
theorem dL_law_488 : decode cL_law 488 = .ok (.iconst 0, 1) := dk_3 (dk_at dksL_law_16 11 rfl rfl)
theorem dL_law_489 : decode cL_law 489 = .ok (.ireturn, 1) := dk_172 (dk_at dksL_law_16 12 rfl rfl)
theorem dL_law_490 : decode cL_law 490 = .ok (.aload_n 1, 1) := dk_43 (dk_at dksL_law_16 13 rfl rfl)
theorem dL_law_491 : decode cL_law 491 = .ok (.aload_n 0, 1) := dk_42 (dk_at dksL_law_16 14 rfl rfl)
theorem dL_law_492 : decode cL_law 492 = .ok (.iload_n 3, 1) := dk_29 (dk_at dksL_law_16 15 rfl rfl)
theorem dL_law_493 : decode cL_law 493 = .ok (.iconst 1, 1) := dk_4 (dk_at dksL_law_16 16 rfl rfl)
theorem dL_law_494 : decode cL_law 494 = .ok (.iadd, 1) := dk_96 (dk_at dksL_law_16 17 rfl rfl)
theorem dL_law_495 : decode cL_law 495 = .ok (.iaload, 1) := dk_46 (dk_at dksL_law_16 18 rfl rfl)
theorem dL_law_496 : decode cL_law 496 = .ok (.aload_n 0, 1) := dk_42 (dk_at dksL_law_16 19 rfl rfl)
theorem dL_law_497 : decode cL_law 497 = .ok (.iload_n 3, 1) := dk_29 (dk_at dksL_law_16 20 rfl rfl)
theorem dL_law_498 : decode cL_law 498 = .ok (.iconst 2, 1) := dk_5 (dk_at dksL_law_16 21 rfl rfl)
theorem dL_law_499 : decode cL_law 499 = .ok (.iadd, 1) := dk_96 (dk_at dksL_law_16 22 rfl rfl)
theorem dL_law_500 : decode cL_law 500 = .ok (.iaload, 1) := dk_46 (dk_at dksL_law_16 23 rfl rfl)
theorem dL_law_501 : decode cL_law 501 = .ok (.invokevirtual 58, 3) := dk_182 0 58 (dk_at dksL_law_17 0 rfl rfl)
theorem dL_law_504 : decode cL_law 504 = .ok (.aload_n 2, 1) := dk_44 (dk_at dksL_law_17 3 rfl rfl)
theorem dL_law_505 : decode cL_law 505 = .ok (.aload_n 0, 1) := dk_42 (dk_at dksL_law_17 4 rfl rfl)
theorem dL_law_506 : decode cL_law 506 = .ok (.iload_n 3, 1) := dk_29 (dk_at dksL_law_17 5 rfl rfl)
theorem dL_law_507 : decode cL_law 507 = .ok (.iconst 1, 1) := dk_4 (dk_at dksL_law_17 6 rfl rfl)
theorem dL_law_508 : decode cL_law 508 = .ok (.iadd, 1) := dk_96 (dk_at dksL_law_17 7 rfl rfl)
theorem dL_law_509 : decode cL_law 509 = .ok (.iaload, 1) := dk_46 (dk_at dksL_law_17 8 rfl rfl)
theorem dL_law_510 : decode cL_law 510 = .ok (.aload_n 0, 1) := dk_42 (dk_at dksL_law_17 9 rfl rfl)
theorem dL_law_511 : decode cL_law 511 = .ok (.iload_n 3, 1) := dk_29 (dk_at dksL_law_17 10 rfl rfl)
theorem dL_law_512 : decode cL_law 512 = .ok (.iconst 2, 1) := dk_5 (dk_at dksL_law_17 11 rfl rfl)
theorem dL_law_513 : decode cL_law 513 = .ok (.iadd, 1) := dk_96 (dk_at dksL_law_17 12 rfl rfl)
theorem dL_law_514 : decode cL_law 514 = .ok (.iaload, 1) := dk_46 (dk_at dksL_law_17 13 rfl rfl)
theorem dL_law_515 : decode cL_law 515 = .ok (.invokevirtual 61, 3) := dk_182 0 61 (dk_at dksL_law_17 14 rfl rfl)
theorem dL_law_518 : decode cL_law 518 = .ok (.if_icmp .eq 573, 3) := dk_159 2 61 (dk_at dksL_law_17 17 rfl rfl)
theorem dL_law_521 : decode cL_law 521 = .ok (.iconst 0, 1) := dk_3 (dk_at dksL_law_17 20 rfl rfl)
theorem dL_law_522 : decode cL_law 522 = .ok (.ireturn, 1) := dk_172 (dk_at dksL_law_17 21 rfl rfl)
theorem dL_law_523 : decode cL_law 523 = .ok (.aload_n 1, 1) := dk_43 (dk_at dksL_law_17 22 rfl rfl)
theorem dL_law_524 : decode cL_law 524 = .ok (.aload_n 0, 1) := dk_42 (dk_at dksL_law_17 23 rfl rfl)
theorem dL_law_525 : decode cL_law 525 = .ok (.iload_n 3, 1) := dk_29 (dk_at dksL_law_18 0 rfl rfl)
theorem dL_law_526 : decode cL_law 526 = .ok (.iconst 1, 1) := dk_4 (dk_at dksL_law_18 1 rfl rfl)
theorem dL_law_527 : decode cL_law 527 = .ok (.iadd, 1) := dk_96 (dk_at dksL_law_18 2 rfl rfl)
theorem dL_law_528 : decode cL_law 528 = .ok (.iaload, 1) := dk_46 (dk_at dksL_law_18 3 rfl rfl)
theorem dL_law_529 : decode cL_law 529 = .ok (.aload_n 0, 1) := dk_42 (dk_at dksL_law_18 4 rfl rfl)
theorem dL_law_530 : decode cL_law 530 = .ok (.iload_n 3, 1) := dk_29 (dk_at dksL_law_18 5 rfl rfl)
theorem dL_law_531 : decode cL_law 531 = .ok (.iconst 2, 1) := dk_5 (dk_at dksL_law_18 6 rfl rfl)
theorem dL_law_532 : decode cL_law 532 = .ok (.iadd, 1) := dk_96 (dk_at dksL_law_18 7 rfl rfl)
theorem dL_law_533 : decode cL_law 533 = .ok (.iaload, 1) := dk_46 (dk_at dksL_law_18 8 rfl rfl)
theorem dL_law_534 : decode cL_law 534 = .ok (.invokevirtual 62, 3) := dk_182 0 62 (dk_at dksL_law_18 9 rfl rfl)
theorem dL_law_537 : decode cL_law 537 = .ok (.aload_n 2, 1) := dk_44 (dk_at dksL_law_18 12 rfl rfl)
theorem dL_law_538 : decode cL_law 538 = .ok (.aload_n 0, 1) := dk_42 (dk_at dksL_law_18 13 rfl rfl)
theorem dL_law_539 : decode cL_law 539 = .ok (.iload_n 3, 1) := dk_29 (dk_at dksL_law_18 14 rfl rfl)
theorem dL_law_540 : decode cL_law 540 = .ok (.iconst 1, 1) := dk_4 (dk_at dksL_law_18 15 rfl rfl)
theorem dL_law_541 : decode cL_law 541 = .ok (.iadd, 1) := dk_96 (dk_at dksL_law_18 16 rfl rfl)
theorem dL_law_542 : decode cL_law 542 = .ok (.iaload, 1) := dk_46 (dk_at dksL_law_18 17 rfl rfl)
theorem dL_law_543 : decode cL_law 543 = .ok (.aload_n 0, 1) := dk_42 (dk_at dksL_law_18 18 rfl rfl)
theorem dL_law_544 : decode cL_law 544 = .ok (.iload_n 3, 1) := dk_29 (dk_at dksL_law_18 19 rfl rfl)
theorem dL_law_545 : decode cL_law 545 = .ok (.iconst 2, 1) := dk_5 (dk_at dksL_law_18 20 rfl rfl)
theorem dL_law_546 : decode cL_law 546 = .ok (.iadd, 1) := dk_96 (dk_at dksL_law_18 21 rfl rfl)
theorem dL_law_547 : decode cL_law 547 = .ok (.iaload, 1) := dk_46 (dk_at dksL_law_18 22 rfl rfl)
theorem dL_law_548 : decode cL_law 548 = .ok (.invokevirtual 65, 3) := dk_182 0 65 (dk_at dksL_law_19 0 rfl rfl)
theorem dL_law_551 : decode cL_law 551 = .ok (.if_icmp .eq 540, 3) := dk_159 2 28 (dk_at dksL_law_19 3 rfl rfl)
theorem dL_law_554 : decode cL_law 554 = .ok (.iconst 0, 1) := dk_3 (dk_at dksL_law_19 6 rfl rfl)
theorem dL_law_555 : decode cL_law 555 = .ok (.ireturn, 1) := dk_172 (dk_at dksL_law_19 7 rfl rfl)
theorem dL_law_556 : decode cL_law 556 = .ok (.aload_n 1, 1) := dk_43 (dk_at dksL_law_19 8 rfl rfl)
theorem dL_law_557 : decode cL_law 557 = .ok (.aload_n 0, 1) := dk_42 (dk_at dksL_law_19 9 rfl rfl)
theorem dL_law_558 : decode cL_law 558 = .ok (.iload_n 3, 1) := dk_29 (dk_at dksL_law_19 10 rfl rfl)
theorem dL_law_559 : decode cL_law 559 = .ok (.iconst 1, 1) := dk_4 (dk_at dksL_law_19 11 rfl rfl)
theorem dL_law_560 : decode cL_law 560 = .ok (.iadd, 1) := dk_96 (dk_at dksL_law_19 12 rfl rfl)
theorem dL_law_561 : decode cL_law 561 = .ok (.iaload, 1) := dk_46 (dk_at dksL_law_19 13 rfl rfl)
theorem dL_law_562 : decode cL_law 562 = .ok (.invokevirtual 66, 3) := dk_182 0 66 (dk_at dksL_law_19 14 rfl rfl)
theorem dL_law_565 : decode cL_law 565 = .ok (.aload_n 2, 1) := dk_44 (dk_at dksL_law_19 17 rfl rfl)
theorem dL_law_566 : decode cL_law 566 = .ok (.aload_n 0, 1) := dk_42 (dk_at dksL_law_19 18 rfl rfl)
theorem dL_law_567 : decode cL_law 567 = .ok (.iload_n 3, 1) := dk_29 (dk_at dksL_law_19 19 rfl rfl)
theorem dL_law_568 : decode cL_law 568 = .ok (.iconst 1, 1) := dk_4 (dk_at dksL_law_19 20 rfl rfl)
theorem dL_law_569 : decode cL_law 569 = .ok (.iadd, 1) := dk_96 (dk_at dksL_law_19 21 rfl rfl)
theorem dL_law_570 : decode cL_law 570 = .ok (.iaload, 1) := dk_46 (dk_at dksL_law_19 22 rfl rfl)
theorem dL_law_571 : decode cL_law 571 = .ok (.invokevirtual 69, 3) := dk_182 0 69 (dk_at dksL_law_20 0 rfl rfl)
theorem dL_law_574 : decode cL_law 574 = .ok (.if_icmp .eq 517, 3) := dk_159 2 5 (dk_at dksL_law_20 3 rfl rfl)
theorem dL_law_577 : decode cL_law 577 = .ok (.iconst 0, 1) := dk_3 (dk_at dksL_law_20 6 rfl rfl)
theorem dL_law_578 : decode cL_law 578 = .ok (.ireturn, 1) := dk_172 (dk_at dksL_law_20 7 rfl rfl)
theorem dL_law_579 : decode cL_law 579 = .ok (.aload_n 1, 1) := dk_43 (dk_at dksL_law_20 8 rfl rfl)
theorem dL_law_580 : decode cL_law 580 = .ok (.aload_n 0, 1) := dk_42 (dk_at dksL_law_20 9 rfl rfl)
theorem dL_law_581 : decode cL_law 581 = .ok (.iload_n 3, 1) := dk_29 (dk_at dksL_law_20 10 rfl rfl)
theorem dL_law_582 : decode cL_law 582 = .ok (.iconst 1, 1) := dk_4 (dk_at dksL_law_20 11 rfl rfl)
theorem dL_law_583 : decode cL_law 583 = .ok (.iadd, 1) := dk_96 (dk_at dksL_law_20 12 rfl rfl)
theorem dL_law_584 : decode cL_law 584 = .ok (.iaload, 1) := dk_46 (dk_at dksL_law_20 13 rfl rfl)
theorem dL_law_585 : decode cL_law 585 = .ok (.invokevirtual 70, 3) := dk_182 0 70 (dk_at dksL_law_20 14 rfl rfl)
theorem dL_law_588 : decode cL_law 588 = .ok (.aload_n 2, 1) := dk_44 (dk_at dksL_law_20 17 rfl rfl)
theorem dL_law_589 : decode cL_law 589 = .ok (.aload_n 0, 1) := dk_42 (dk_at dksL_law_20 18 rfl rfl)
theorem dL_law_590 : decode cL_law 590 = .ok (.iload_n 3, 1) := dk_29 (dk_at dksL_law_20 19 rfl rfl)
theorem dL_law_591 : decode cL_law 591 = .ok (.iconst 1, 1) := dk_4 (dk_at dksL_law_20 20 rfl rfl)
theorem dL_law_592 : decode cL_law 592 = .ok (.iadd, 1) := dk_96 (dk_at dksL_law_20 21 rfl rfl)
theorem dL_law_593 : decode cL_law 593 = .ok (.iaload, 1) := dk_46 (dk_at dksL_law_20 22 rfl rfl)
theorem dL_law_594 : decode cL_law 594 = .ok (.invokevirtual 73, 3) := dk_182 0 73 (dk_at dksL_law_21 0 rfl rfl)
theorem dL_law_597 : decode cL_law 597 = .ok (.if_icmp .eq 494, 3) := dk_159 1 238 (dk_at dksL_law_21 3 rfl rfl)
theorem dL_law_600 : decode cL_law 600 = .ok (.iconst 0, 1) := dk_3 (dk_at dksL_law_21 6 rfl rfl)
theorem dL_law_601 : decode cL_law 601 = .ok (.ireturn, 1) := dk_172 (dk_at dksL_law_21 7 rfl rfl)
theorem dL_law_602 : decode cL_law 602 = .ok (.aload_n 1, 1) := dk_43 (dk_at dksL_law_21 8 rfl rfl)
theorem dL_law_603 : decode cL_law 603 = .ok (.invokevirtual 74, 3) := dk_182 0 74 (dk_at dksL_law_21 9 rfl rfl)
theorem dL_law_606 : decode cL_law 606 = .ok (.aload_n 2, 1) := dk_44 (dk_at dksL_law_21 12 rfl rfl)
theorem dL_law_607 : decode cL_law 607 = .ok (.invokevirtual 77, 3) := dk_182 0 77 (dk_at dksL_law_21 13 rfl rfl)
theorem dL_law_610 : decode cL_law 610 = .ok (.if_icmp .eq 481, 3) := dk_159 1 225 (dk_at dksL_law_21 16 rfl rfl)
theorem dL_law_613 : decode cL_law 613 = .ok (.iconst 0, 1) := dk_3 (dk_at dksL_law_21 19 rfl rfl)
theorem dL_law_614 : decode cL_law 614 = .ok (.ireturn, 1) := dk_172 (dk_at dksL_law_21 20 rfl rfl)
theorem dL_law_615 : decode cL_law 615 = .ok (.aload_n 1, 1) := dk_43 (dk_at dksL_law_21 21 rfl rfl)
theorem dL_law_616 : decode cL_law 616 = .ok (.aload_n 0, 1) := dk_42 (dk_at dksL_law_21 22 rfl rfl)
theorem dL_law_617 : decode cL_law 617 = .ok (.iload_n 3, 1) := dk_29 (dk_at dksL_law_21 23 rfl rfl)
theorem dL_law_618 : decode cL_law 618 = .ok (.iconst 1, 1) := dk_4 (dk_at dksL_law_22 0 rfl rfl)
theorem dL_law_619 : decode cL_law 619 = .ok (.iadd, 1) := dk_96 (dk_at dksL_law_22 1 rfl rfl)
theorem dL_law_620 : decode cL_law 620 = .ok (.iaload, 1) := dk_46 (dk_at dksL_law_22 2 rfl rfl)
theorem dL_law_621 : decode cL_law 621 = .ok (.aload_n 0, 1) := dk_42 (dk_at dksL_law_22 3 rfl rfl)
theorem dL_law_622 : decode cL_law 622 = .ok (.iload_n 3, 1) := dk_29 (dk_at dksL_law_22 4 rfl rfl)
theorem dL_law_623 : decode cL_law 623 = .ok (.iconst 2, 1) := dk_5 (dk_at dksL_law_22 5 rfl rfl)
theorem dL_law_624 : decode cL_law 624 = .ok (.iadd, 1) := dk_96 (dk_at dksL_law_22 6 rfl rfl)
theorem dL_law_625 : decode cL_law 625 = .ok (.iaload, 1) := dk_46 (dk_at dksL_law_22 7 rfl rfl)
theorem dL_law_626 : decode cL_law 626 = .ok (.aload_n 0, 1) := dk_42 (dk_at dksL_law_22 8 rfl rfl)
theorem dL_law_627 : decode cL_law 627 = .ok (.iload_n 3, 1) := dk_29 (dk_at dksL_law_22 9 rfl rfl)
theorem dL_law_628 : decode cL_law 628 = .ok (.iconst 3, 1) := dk_6 (dk_at dksL_law_22 10 rfl rfl)
theorem dL_law_629 : decode cL_law 629 = .ok (.iadd, 1) := dk_96 (dk_at dksL_law_22 11 rfl rfl)
theorem dL_law_630 : decode cL_law 630 = .ok (.iaload, 1) := dk_46 (dk_at dksL_law_22 12 rfl rfl)
theorem dL_law_631 : decode cL_law 631 = .ok (.invokevirtual 78, 3) := dk_182 0 78 (dk_at dksL_law_22 13 rfl rfl)
theorem dL_law_634 : decode cL_law 634 = .ok (.aload_n 2, 1) := dk_44 (dk_at dksL_law_22 16 rfl rfl)
theorem dL_law_635 : decode cL_law 635 = .ok (.aload_n 0, 1) := dk_42 (dk_at dksL_law_22 17 rfl rfl)
theorem dL_law_636 : decode cL_law 636 = .ok (.iload_n 3, 1) := dk_29 (dk_at dksL_law_22 18 rfl rfl)
theorem dL_law_637 : decode cL_law 637 = .ok (.iconst 1, 1) := dk_4 (dk_at dksL_law_22 19 rfl rfl)
theorem dL_law_638 : decode cL_law 638 = .ok (.iadd, 1) := dk_96 (dk_at dksL_law_22 20 rfl rfl)
theorem dL_law_639 : decode cL_law 639 = .ok (.iaload, 1) := dk_46 (dk_at dksL_law_22 21 rfl rfl)
theorem dL_law_640 : decode cL_law 640 = .ok (.aload_n 0, 1) := dk_42 (dk_at dksL_law_22 22 rfl rfl)
theorem dL_law_641 : decode cL_law 641 = .ok (.iload_n 3, 1) := dk_29 (dk_at dksL_law_22 23 rfl rfl)
theorem dL_law_642 : decode cL_law 642 = .ok (.iconst 2, 1) := dk_5 (dk_at dksL_law_23 0 rfl rfl)
theorem dL_law_643 : decode cL_law 643 = .ok (.iadd, 1) := dk_96 (dk_at dksL_law_23 1 rfl rfl)
theorem dL_law_644 : decode cL_law 644 = .ok (.iaload, 1) := dk_46 (dk_at dksL_law_23 2 rfl rfl)
theorem dL_law_645 : decode cL_law 645 = .ok (.aload_n 0, 1) := dk_42 (dk_at dksL_law_23 3 rfl rfl)
theorem dL_law_646 : decode cL_law 646 = .ok (.iload_n 3, 1) := dk_29 (dk_at dksL_law_23 4 rfl rfl)
theorem dL_law_647 : decode cL_law 647 = .ok (.iconst 3, 1) := dk_6 (dk_at dksL_law_23 5 rfl rfl)
theorem dL_law_648 : decode cL_law 648 = .ok (.iadd, 1) := dk_96 (dk_at dksL_law_23 6 rfl rfl)
theorem dL_law_649 : decode cL_law 649 = .ok (.iaload, 1) := dk_46 (dk_at dksL_law_23 7 rfl rfl)
theorem dL_law_650 : decode cL_law 650 = .ok (.invokevirtual 82, 3) := dk_182 0 82 (dk_at dksL_law_23 8 rfl rfl)
theorem dL_law_653 : decode cL_law 653 = .ok (.if_icmp .eq 438, 3) := dk_159 1 182 (dk_at dksL_law_23 11 rfl rfl)
theorem dL_law_656 : decode cL_law 656 = .ok (.iconst 0, 1) := dk_3 (dk_at dksL_law_23 14 rfl rfl)
theorem dL_law_657 : decode cL_law 657 = .ok (.ireturn, 1) := dk_172 (dk_at dksL_law_23 15 rfl rfl)
theorem dL_law_658 : decode cL_law 658 = .ok (.aload_n 1, 1) := dk_43 (dk_at dksL_law_23 16 rfl rfl)
theorem dL_law_659 : decode cL_law 659 = .ok (.aload_n 0, 1) := dk_42 (dk_at dksL_law_23 17 rfl rfl)
theorem dL_law_660 : decode cL_law 660 = .ok (.iload_n 3, 1) := dk_29 (dk_at dksL_law_23 18 rfl rfl)
theorem dL_law_661 : decode cL_law 661 = .ok (.iconst 1, 1) := dk_4 (dk_at dksL_law_23 19 rfl rfl)
theorem dL_law_662 : decode cL_law 662 = .ok (.iadd, 1) := dk_96 (dk_at dksL_law_23 20 rfl rfl)
theorem dL_law_663 : decode cL_law 663 = .ok (.iaload, 1) := dk_46 (dk_at dksL_law_23 21 rfl rfl)
theorem dL_law_664 : decode cL_law 664 = .ok (.aload_n 0, 1) := dk_42 (dk_at dksL_law_23 22 rfl rfl)
theorem dL_law_665 : decode cL_law 665 = .ok (.iload_n 3, 1) := dk_29 (dk_at dksL_law_23 23 rfl rfl)
theorem dL_law_666 : decode cL_law 666 = .ok (.iconst 2, 1) := dk_5 (dk_at dksL_law_24 0 rfl rfl)
theorem dL_law_667 : decode cL_law 667 = .ok (.iadd, 1) := dk_96 (dk_at dksL_law_24 1 rfl rfl)
theorem dL_law_668 : decode cL_law 668 = .ok (.iaload, 1) := dk_46 (dk_at dksL_law_24 2 rfl rfl)
theorem dL_law_669 : decode cL_law 669 = .ok (.invokevirtual 83, 3) := dk_182 0 83 (dk_at dksL_law_24 3 rfl rfl)
theorem dL_law_672 : decode cL_law 672 = .ok (.aload_n 2, 1) := dk_44 (dk_at dksL_law_24 6 rfl rfl)
theorem dL_law_673 : decode cL_law 673 = .ok (.aload_n 0, 1) := dk_42 (dk_at dksL_law_24 7 rfl rfl)
theorem dL_law_674 : decode cL_law 674 = .ok (.iload_n 3, 1) := dk_29 (dk_at dksL_law_24 8 rfl rfl)
theorem dL_law_675 : decode cL_law 675 = .ok (.iconst 1, 1) := dk_4 (dk_at dksL_law_24 9 rfl rfl)
theorem dL_law_676 : decode cL_law 676 = .ok (.iadd, 1) := dk_96 (dk_at dksL_law_24 10 rfl rfl)
theorem dL_law_677 : decode cL_law 677 = .ok (.iaload, 1) := dk_46 (dk_at dksL_law_24 11 rfl rfl)
theorem dL_law_678 : decode cL_law 678 = .ok (.aload_n 0, 1) := dk_42 (dk_at dksL_law_24 12 rfl rfl)
theorem dL_law_679 : decode cL_law 679 = .ok (.iload_n 3, 1) := dk_29 (dk_at dksL_law_24 13 rfl rfl)
theorem dL_law_680 : decode cL_law 680 = .ok (.iconst 2, 1) := dk_5 (dk_at dksL_law_24 14 rfl rfl)
theorem dL_law_681 : decode cL_law 681 = .ok (.iadd, 1) := dk_96 (dk_at dksL_law_24 15 rfl rfl)
theorem dL_law_682 : decode cL_law 682 = .ok (.iaload, 1) := dk_46 (dk_at dksL_law_24 16 rfl rfl)
theorem dL_law_683 : decode cL_law 683 = .ok (.invokevirtual 86, 3) := dk_182 0 86 (dk_at dksL_law_24 17 rfl rfl)
theorem dL_law_686 : decode cL_law 686 = .ok (.if_icmp .eq 405, 3) := dk_159 1 149 (dk_at dksL_law_24 20 rfl rfl)
theorem dL_law_689 : decode cL_law 689 = .ok (.iconst 0, 1) := dk_3 (dk_at dksL_law_24 23 rfl rfl)
theorem dL_law_690 : decode cL_law 690 = .ok (.ireturn, 1) := dk_172 (dk_at dksL_law_25 0 rfl rfl)
theorem dL_law_691 : decode cL_law 691 = .ok (.aload_n 1, 1) := dk_43 (dk_at dksL_law_25 1 rfl rfl)
theorem dL_law_692 : decode cL_law 692 = .ok (.aload_n 0, 1) := dk_42 (dk_at dksL_law_25 2 rfl rfl)
theorem dL_law_693 : decode cL_law 693 = .ok (.iload_n 3, 1) := dk_29 (dk_at dksL_law_25 3 rfl rfl)
theorem dL_law_694 : decode cL_law 694 = .ok (.iconst 1, 1) := dk_4 (dk_at dksL_law_25 4 rfl rfl)
theorem dL_law_695 : decode cL_law 695 = .ok (.iadd, 1) := dk_96 (dk_at dksL_law_25 5 rfl rfl)
theorem dL_law_696 : decode cL_law 696 = .ok (.iaload, 1) := dk_46 (dk_at dksL_law_25 6 rfl rfl)
theorem dL_law_697 : decode cL_law 697 = .ok (.invokevirtual 87, 3) := dk_182 0 87 (dk_at dksL_law_25 7 rfl rfl)
theorem dL_law_700 : decode cL_law 700 = .ok (.aload_n 2, 1) := dk_44 (dk_at dksL_law_25 10 rfl rfl)
theorem dL_law_701 : decode cL_law 701 = .ok (.aload_n 0, 1) := dk_42 (dk_at dksL_law_25 11 rfl rfl)
theorem dL_law_702 : decode cL_law 702 = .ok (.iload_n 3, 1) := dk_29 (dk_at dksL_law_25 12 rfl rfl)
theorem dL_law_703 : decode cL_law 703 = .ok (.iconst 1, 1) := dk_4 (dk_at dksL_law_25 13 rfl rfl)
theorem dL_law_704 : decode cL_law 704 = .ok (.iadd, 1) := dk_96 (dk_at dksL_law_25 14 rfl rfl)
theorem dL_law_705 : decode cL_law 705 = .ok (.iaload, 1) := dk_46 (dk_at dksL_law_25 15 rfl rfl)
theorem dL_law_706 : decode cL_law 706 = .ok (.invokevirtual 90, 3) := dk_182 0 90 (dk_at dksL_law_25 16 rfl rfl)
theorem dL_law_709 : decode cL_law 709 = .ok (.if_icmp .eq 382, 3) := dk_159 1 126 (dk_at dksL_law_25 19 rfl rfl)
theorem dL_law_712 : decode cL_law 712 = .ok (.iconst 0, 1) := dk_3 (dk_at dksL_law_25 22 rfl rfl)
theorem dL_law_713 : decode cL_law 713 = .ok (.ireturn, 1) := dk_172 (dk_at dksL_law_25 23 rfl rfl)
theorem dL_law_714 : decode cL_law 714 = .ok (.aload_n 1, 1) := dk_43 (dk_at dksL_law_26 0 rfl rfl)
theorem dL_law_715 : decode cL_law 715 = .ok (.invokevirtual 91, 3) := dk_182 0 91 (dk_at dksL_law_26 1 rfl rfl)
theorem dL_law_718 : decode cL_law 718 = .ok (.aload_n 2, 1) := dk_44 (dk_at dksL_law_26 4 rfl rfl)
theorem dL_law_719 : decode cL_law 719 = .ok (.invokevirtual 94, 3) := dk_182 0 94 (dk_at dksL_law_26 5 rfl rfl)
theorem dL_law_722 : decode cL_law 722 = .ok (.if_icmp .eq 369, 3) := dk_159 1 113 (dk_at dksL_law_26 8 rfl rfl)
theorem dL_law_725 : decode cL_law 725 = .ok (.iconst 0, 1) := dk_3 (dk_at dksL_law_26 11 rfl rfl)
theorem dL_law_726 : decode cL_law 726 = .ok (.ireturn, 1) := dk_172 (dk_at dksL_law_26 12 rfl rfl)
theorem dL_law_727 : decode cL_law 727 = .ok (.aload_n 1, 1) := dk_43 (dk_at dksL_law_26 13 rfl rfl)
theorem dL_law_728 : decode cL_law 728 = .ok (.aload_n 0, 1) := dk_42 (dk_at dksL_law_26 14 rfl rfl)
theorem dL_law_729 : decode cL_law 729 = .ok (.iload_n 3, 1) := dk_29 (dk_at dksL_law_26 15 rfl rfl)
theorem dL_law_730 : decode cL_law 730 = .ok (.iconst 1, 1) := dk_4 (dk_at dksL_law_26 16 rfl rfl)
theorem dL_law_731 : decode cL_law 731 = .ok (.iadd, 1) := dk_96 (dk_at dksL_law_26 17 rfl rfl)
theorem dL_law_732 : decode cL_law 732 = .ok (.iaload, 1) := dk_46 (dk_at dksL_law_26 18 rfl rfl)
theorem dL_law_733 : decode cL_law 733 = .ok (.aload_n 0, 1) := dk_42 (dk_at dksL_law_26 19 rfl rfl)
theorem dL_law_734 : decode cL_law 734 = .ok (.iload_n 3, 1) := dk_29 (dk_at dksL_law_26 20 rfl rfl)
theorem dL_law_735 : decode cL_law 735 = .ok (.iconst 2, 1) := dk_5 (dk_at dksL_law_26 21 rfl rfl)
theorem dL_law_736 : decode cL_law 736 = .ok (.iadd, 1) := dk_96 (dk_at dksL_law_26 22 rfl rfl)
theorem dL_law_737 : decode cL_law 737 = .ok (.iaload, 1) := dk_46 (dk_at dksL_law_26 23 rfl rfl)
theorem dL_law_738 : decode cL_law 738 = .ok (.aload_n 0, 1) := dk_42 (dk_at dksL_law_27 0 rfl rfl)
theorem dL_law_739 : decode cL_law 739 = .ok (.iload_n 3, 1) := dk_29 (dk_at dksL_law_27 1 rfl rfl)
theorem dL_law_740 : decode cL_law 740 = .ok (.iconst 3, 1) := dk_6 (dk_at dksL_law_27 2 rfl rfl)
theorem dL_law_741 : decode cL_law 741 = .ok (.iadd, 1) := dk_96 (dk_at dksL_law_27 3 rfl rfl)
theorem dL_law_742 : decode cL_law 742 = .ok (.iaload, 1) := dk_46 (dk_at dksL_law_27 4 rfl rfl)
theorem dL_law_743 : decode cL_law 743 = .ok (.invokevirtual 95, 3) := dk_182 0 95 (dk_at dksL_law_27 5 rfl rfl)
theorem dL_law_746 : decode cL_law 746 = .ok (.aload_n 2, 1) := dk_44 (dk_at dksL_law_27 8 rfl rfl)
theorem dL_law_747 : decode cL_law 747 = .ok (.aload_n 0, 1) := dk_42 (dk_at dksL_law_27 9 rfl rfl)
theorem dL_law_748 : decode cL_law 748 = .ok (.iload_n 3, 1) := dk_29 (dk_at dksL_law_27 10 rfl rfl)
theorem dL_law_749 : decode cL_law 749 = .ok (.iconst 1, 1) := dk_4 (dk_at dksL_law_27 11 rfl rfl)
theorem dL_law_750 : decode cL_law 750 = .ok (.iadd, 1) := dk_96 (dk_at dksL_law_27 12 rfl rfl)
theorem dL_law_751 : decode cL_law 751 = .ok (.iaload, 1) := dk_46 (dk_at dksL_law_27 13 rfl rfl)
theorem dL_law_752 : decode cL_law 752 = .ok (.aload_n 0, 1) := dk_42 (dk_at dksL_law_27 14 rfl rfl)
theorem dL_law_753 : decode cL_law 753 = .ok (.iload_n 3, 1) := dk_29 (dk_at dksL_law_27 15 rfl rfl)
theorem dL_law_754 : decode cL_law 754 = .ok (.iconst 2, 1) := dk_5 (dk_at dksL_law_27 16 rfl rfl)
theorem dL_law_755 : decode cL_law 755 = .ok (.iadd, 1) := dk_96 (dk_at dksL_law_27 17 rfl rfl)
theorem dL_law_756 : decode cL_law 756 = .ok (.iaload, 1) := dk_46 (dk_at dksL_law_27 18 rfl rfl)
theorem dL_law_757 : decode cL_law 757 = .ok (.aload_n 0, 1) := dk_42 (dk_at dksL_law_27 19 rfl rfl)
theorem dL_law_758 : decode cL_law 758 = .ok (.iload_n 3, 1) := dk_29 (dk_at dksL_law_27 20 rfl rfl)
theorem dL_law_759 : decode cL_law 759 = .ok (.iconst 3, 1) := dk_6 (dk_at dksL_law_27 21 rfl rfl)
theorem dL_law_760 : decode cL_law 760 = .ok (.iadd, 1) := dk_96 (dk_at dksL_law_27 22 rfl rfl)
theorem dL_law_761 : decode cL_law 761 = .ok (.iaload, 1) := dk_46 (dk_at dksL_law_27 23 rfl rfl)
theorem dL_law_762 : decode cL_law 762 = .ok (.invokevirtual 98, 3) := dk_182 0 98 (dk_at dksL_law_28 0 rfl rfl)
theorem dL_law_765 : decode cL_law 765 = .ok (.if_icmp .eq 326, 3) := dk_159 1 70 (dk_at dksL_law_28 3 rfl rfl)
theorem dL_law_768 : decode cL_law 768 = .ok (.iconst 0, 1) := dk_3 (dk_at dksL_law_28 6 rfl rfl)
theorem dL_law_769 : decode cL_law 769 = .ok (.ireturn, 1) := dk_172 (dk_at dksL_law_28 7 rfl rfl)
theorem dL_law_770 : decode cL_law 770 = .ok (.aload_n 1, 1) := dk_43 (dk_at dksL_law_28 8 rfl rfl)
theorem dL_law_771 : decode cL_law 771 = .ok (.aload_n 0, 1) := dk_42 (dk_at dksL_law_28 9 rfl rfl)
theorem dL_law_772 : decode cL_law 772 = .ok (.iload_n 3, 1) := dk_29 (dk_at dksL_law_28 10 rfl rfl)
theorem dL_law_773 : decode cL_law 773 = .ok (.iconst 1, 1) := dk_4 (dk_at dksL_law_28 11 rfl rfl)
theorem dL_law_774 : decode cL_law 774 = .ok (.iadd, 1) := dk_96 (dk_at dksL_law_28 12 rfl rfl)
theorem dL_law_775 : decode cL_law 775 = .ok (.iaload, 1) := dk_46 (dk_at dksL_law_28 13 rfl rfl)
theorem dL_law_776 : decode cL_law 776 = .ok (.aload_n 0, 1) := dk_42 (dk_at dksL_law_28 14 rfl rfl)
theorem dL_law_777 : decode cL_law 777 = .ok (.iload_n 3, 1) := dk_29 (dk_at dksL_law_28 15 rfl rfl)
theorem dL_law_778 : decode cL_law 778 = .ok (.iconst 2, 1) := dk_5 (dk_at dksL_law_28 16 rfl rfl)
theorem dL_law_779 : decode cL_law 779 = .ok (.iadd, 1) := dk_96 (dk_at dksL_law_28 17 rfl rfl)
theorem dL_law_780 : decode cL_law 780 = .ok (.iaload, 1) := dk_46 (dk_at dksL_law_28 18 rfl rfl)
theorem dL_law_781 : decode cL_law 781 = .ok (.aload_n 0, 1) := dk_42 (dk_at dksL_law_28 19 rfl rfl)
theorem dL_law_782 : decode cL_law 782 = .ok (.iload_n 3, 1) := dk_29 (dk_at dksL_law_28 20 rfl rfl)
theorem dL_law_783 : decode cL_law 783 = .ok (.iconst 3, 1) := dk_6 (dk_at dksL_law_28 21 rfl rfl)
theorem dL_law_784 : decode cL_law 784 = .ok (.iadd, 1) := dk_96 (dk_at dksL_law_28 22 rfl rfl)
theorem dL_law_785 : decode cL_law 785 = .ok (.iaload, 1) := dk_46 (dk_at dksL_law_28 23 rfl rfl)
theorem dL_law_786 : decode cL_law 786 = .ok (.aload_n 0, 1) := dk_42 (dk_at dksL_law_29 0 rfl rfl)
theorem dL_law_787 : decode cL_law 787 = .ok (.iload_n 3, 1) := dk_29 (dk_at dksL_law_29 1 rfl rfl)
theorem dL_law_788 : decode cL_law 788 = .ok (.iconst 4, 1) := dk_7 (dk_at dksL_law_29 2 rfl rfl)
theorem dL_law_789 : decode cL_law 789 = .ok (.iadd, 1) := dk_96 (dk_at dksL_law_29 3 rfl rfl)
theorem dL_law_790 : decode cL_law 790 = .ok (.iaload, 1) := dk_46 (dk_at dksL_law_29 4 rfl rfl)
theorem dL_law_791 : decode cL_law 791 = .ok (.invokevirtual 99, 3) := dk_182 0 99 (dk_at dksL_law_29 5 rfl rfl)
theorem dL_law_794 : decode cL_law 794 = .ok (.aload_n 2, 1) := dk_44 (dk_at dksL_law_29 8 rfl rfl)
theorem dL_law_795 : decode cL_law 795 = .ok (.aload_n 0, 1) := dk_42 (dk_at dksL_law_29 9 rfl rfl)
theorem dL_law_796 : decode cL_law 796 = .ok (.iload_n 3, 1) := dk_29 (dk_at dksL_law_29 10 rfl rfl)
theorem dL_law_797 : decode cL_law 797 = .ok (.iconst 1, 1) := dk_4 (dk_at dksL_law_29 11 rfl rfl)
theorem dL_law_798 : decode cL_law 798 = .ok (.iadd, 1) := dk_96 (dk_at dksL_law_29 12 rfl rfl)
theorem dL_law_799 : decode cL_law 799 = .ok (.iaload, 1) := dk_46 (dk_at dksL_law_29 13 rfl rfl)
theorem dL_law_800 : decode cL_law 800 = .ok (.aload_n 0, 1) := dk_42 (dk_at dksL_law_29 14 rfl rfl)
theorem dL_law_801 : decode cL_law 801 = .ok (.iload_n 3, 1) := dk_29 (dk_at dksL_law_29 15 rfl rfl)
theorem dL_law_802 : decode cL_law 802 = .ok (.iconst 2, 1) := dk_5 (dk_at dksL_law_29 16 rfl rfl)
theorem dL_law_803 : decode cL_law 803 = .ok (.iadd, 1) := dk_96 (dk_at dksL_law_29 17 rfl rfl)
theorem dL_law_804 : decode cL_law 804 = .ok (.iaload, 1) := dk_46 (dk_at dksL_law_29 18 rfl rfl)
theorem dL_law_805 : decode cL_law 805 = .ok (.aload_n 0, 1) := dk_42 (dk_at dksL_law_29 19 rfl rfl)
theorem dL_law_806 : decode cL_law 806 = .ok (.iload_n 3, 1) := dk_29 (dk_at dksL_law_29 20 rfl rfl)
theorem dL_law_807 : decode cL_law 807 = .ok (.iconst 3, 1) := dk_6 (dk_at dksL_law_29 21 rfl rfl)
theorem dL_law_808 : decode cL_law 808 = .ok (.iadd, 1) := dk_96 (dk_at dksL_law_29 22 rfl rfl)
theorem dL_law_809 : decode cL_law 809 = .ok (.iaload, 1) := dk_46 (dk_at dksL_law_29 23 rfl rfl)
theorem dL_law_810 : decode cL_law 810 = .ok (.aload_n 0, 1) := dk_42 (dk_at dksL_law_30 0 rfl rfl)
theorem dL_law_811 : decode cL_law 811 = .ok (.iload_n 3, 1) := dk_29 (dk_at dksL_law_30 1 rfl rfl)
theorem dL_law_812 : decode cL_law 812 = .ok (.iconst 4, 1) := dk_7 (dk_at dksL_law_30 2 rfl rfl)
theorem dL_law_813 : decode cL_law 813 = .ok (.iadd, 1) := dk_96 (dk_at dksL_law_30 3 rfl rfl)
theorem dL_law_814 : decode cL_law 814 = .ok (.iaload, 1) := dk_46 (dk_at dksL_law_30 4 rfl rfl)
theorem dL_law_815 : decode cL_law 815 = .ok (.invokevirtual 103, 3) := dk_182 0 103 (dk_at dksL_law_30 5 rfl rfl)
theorem dL_law_818 : decode cL_law 818 = .ok (.if_icmp .eq 273, 3) := dk_159 1 17 (dk_at dksL_law_30 8 rfl rfl)
theorem dL_law_821 : decode cL_law 821 = .ok (.iconst 0, 1) := dk_3 (dk_at dksL_law_30 11 rfl rfl)
theorem dL_law_822 : decode cL_law 822 = .ok (.ireturn, 1) := dk_172 (dk_at dksL_law_30 12 rfl rfl)
theorem dL_law_823 : decode cL_law 823 = .ok (.aload_n 1, 1) := dk_43 (dk_at dksL_law_30 13 rfl rfl)
theorem dL_law_824 : decode cL_law 824 = .ok (.aload_n 0, 1) := dk_42 (dk_at dksL_law_30 14 rfl rfl)
theorem dL_law_825 : decode cL_law 825 = .ok (.iload_n 3, 1) := dk_29 (dk_at dksL_law_30 15 rfl rfl)
theorem dL_law_826 : decode cL_law 826 = .ok (.iconst 1, 1) := dk_4 (dk_at dksL_law_30 16 rfl rfl)
theorem dL_law_827 : decode cL_law 827 = .ok (.iadd, 1) := dk_96 (dk_at dksL_law_30 17 rfl rfl)
theorem dL_law_828 : decode cL_law 828 = .ok (.iaload, 1) := dk_46 (dk_at dksL_law_30 18 rfl rfl)
theorem dL_law_829 : decode cL_law 829 = .ok (.aload_n 0, 1) := dk_42 (dk_at dksL_law_30 19 rfl rfl)
theorem dL_law_830 : decode cL_law 830 = .ok (.iload_n 3, 1) := dk_29 (dk_at dksL_law_30 20 rfl rfl)
theorem dL_law_831 : decode cL_law 831 = .ok (.iconst 2, 1) := dk_5 (dk_at dksL_law_30 21 rfl rfl)
theorem dL_law_832 : decode cL_law 832 = .ok (.iadd, 1) := dk_96 (dk_at dksL_law_30 22 rfl rfl)
theorem dL_law_833 : decode cL_law 833 = .ok (.iaload, 1) := dk_46 (dk_at dksL_law_30 23 rfl rfl)
theorem dL_law_834 : decode cL_law 834 = .ok (.invokevirtual 104, 3) := dk_182 0 104 (dk_at dksL_law_31 0 rfl rfl)
theorem dL_law_837 : decode cL_law 837 = .ok (.aload_n 2, 1) := dk_44 (dk_at dksL_law_31 3 rfl rfl)
theorem dL_law_838 : decode cL_law 838 = .ok (.aload_n 0, 1) := dk_42 (dk_at dksL_law_31 4 rfl rfl)
theorem dL_law_839 : decode cL_law 839 = .ok (.iload_n 3, 1) := dk_29 (dk_at dksL_law_31 5 rfl rfl)
theorem dL_law_840 : decode cL_law 840 = .ok (.iconst 1, 1) := dk_4 (dk_at dksL_law_31 6 rfl rfl)
theorem dL_law_841 : decode cL_law 841 = .ok (.iadd, 1) := dk_96 (dk_at dksL_law_31 7 rfl rfl)
theorem dL_law_842 : decode cL_law 842 = .ok (.iaload, 1) := dk_46 (dk_at dksL_law_31 8 rfl rfl)
theorem dL_law_843 : decode cL_law 843 = .ok (.aload_n 0, 1) := dk_42 (dk_at dksL_law_31 9 rfl rfl)
theorem dL_law_844 : decode cL_law 844 = .ok (.iload_n 3, 1) := dk_29 (dk_at dksL_law_31 10 rfl rfl)
theorem dL_law_845 : decode cL_law 845 = .ok (.iconst 2, 1) := dk_5 (dk_at dksL_law_31 11 rfl rfl)
theorem dL_law_846 : decode cL_law 846 = .ok (.iadd, 1) := dk_96 (dk_at dksL_law_31 12 rfl rfl)
theorem dL_law_847 : decode cL_law 847 = .ok (.iaload, 1) := dk_46 (dk_at dksL_law_31 13 rfl rfl)
theorem dL_law_848 : decode cL_law 848 = .ok (.invokevirtual 107, 3) := dk_182 0 107 (dk_at dksL_law_31 14 rfl rfl)
theorem dL_law_851 : decode cL_law 851 = .ok (.if_icmp .eq 240, 3) := dk_159 0 240 (dk_at dksL_law_31 17 rfl rfl)
theorem dL_law_854 : decode cL_law 854 = .ok (.iconst 0, 1) := dk_3 (dk_at dksL_law_31 20 rfl rfl)
theorem dL_law_855 : decode cL_law 855 = .ok (.ireturn, 1) := dk_172 (dk_at dksL_law_31 21 rfl rfl)
theorem dL_law_856 : decode cL_law 856 = .ok (.aload_n 1, 1) := dk_43 (dk_at dksL_law_31 22 rfl rfl)
theorem dL_law_857 : decode cL_law 857 = .ok (.invokevirtual 108, 3) := dk_182 0 108 (dk_at dksL_law_32 0 rfl rfl)
theorem dL_law_860 : decode cL_law 860 = .ok (.aload_n 2, 1) := dk_44 (dk_at dksL_law_32 3 rfl rfl)
theorem dL_law_861 : decode cL_law 861 = .ok (.invokevirtual 111, 3) := dk_182 0 111 (dk_at dksL_law_32 4 rfl rfl)
theorem dL_law_864 : decode cL_law 864 = .ok (.if_icmp .eq 227, 3) := dk_159 0 227 (dk_at dksL_law_32 7 rfl rfl)
theorem dL_law_867 : decode cL_law 867 = .ok (.iconst 0, 1) := dk_3 (dk_at dksL_law_32 10 rfl rfl)
theorem dL_law_868 : decode cL_law 868 = .ok (.ireturn, 1) := dk_172 (dk_at dksL_law_32 11 rfl rfl)
theorem dL_law_869 : decode cL_law 869 = .ok (.aload_n 1, 1) := dk_43 (dk_at dksL_law_32 12 rfl rfl)
theorem dL_law_870 : decode cL_law 870 = .ok (.aload_n 0, 1) := dk_42 (dk_at dksL_law_32 13 rfl rfl)
theorem dL_law_871 : decode cL_law 871 = .ok (.iload_n 3, 1) := dk_29 (dk_at dksL_law_32 14 rfl rfl)
theorem dL_law_872 : decode cL_law 872 = .ok (.iconst 1, 1) := dk_4 (dk_at dksL_law_32 15 rfl rfl)
theorem dL_law_873 : decode cL_law 873 = .ok (.iadd, 1) := dk_96 (dk_at dksL_law_32 16 rfl rfl)
theorem dL_law_874 : decode cL_law 874 = .ok (.iaload, 1) := dk_46 (dk_at dksL_law_32 17 rfl rfl)
theorem dL_law_875 : decode cL_law 875 = .ok (.invokevirtual 112, 3) := dk_182 0 112 (dk_at dksL_law_32 18 rfl rfl)
theorem dL_law_878 : decode cL_law 878 = .ok (.aload_n 2, 1) := dk_44 (dk_at dksL_law_32 21 rfl rfl)
theorem dL_law_879 : decode cL_law 879 = .ok (.aload_n 0, 1) := dk_42 (dk_at dksL_law_32 22 rfl rfl)
theorem dL_law_880 : decode cL_law 880 = .ok (.iload_n 3, 1) := dk_29 (dk_at dksL_law_32 23 rfl rfl)
theorem dL_law_881 : decode cL_law 881 = .ok (.iconst 1, 1) := dk_4 (dk_at dksL_law_33 0 rfl rfl)
theorem dL_law_882 : decode cL_law 882 = .ok (.iadd, 1) := dk_96 (dk_at dksL_law_33 1 rfl rfl)
theorem dL_law_883 : decode cL_law 883 = .ok (.iaload, 1) := dk_46 (dk_at dksL_law_33 2 rfl rfl)
theorem dL_law_884 : decode cL_law 884 = .ok (.invokevirtual 115, 3) := dk_182 0 115 (dk_at dksL_law_33 3 rfl rfl)
theorem dL_law_887 : decode cL_law 887 = .ok (.if_icmp .eq 204, 3) := dk_159 0 204 (dk_at dksL_law_33 6 rfl rfl)
theorem dL_law_890 : decode cL_law 890 = .ok (.iconst 0, 1) := dk_3 (dk_at dksL_law_33 9 rfl rfl)
theorem dL_law_891 : decode cL_law 891 = .ok (.ireturn, 1) := dk_172 (dk_at dksL_law_33 10 rfl rfl)
theorem dL_law_892 : decode cL_law 892 = .ok (.aload_n 1, 1) := dk_43 (dk_at dksL_law_33 11 rfl rfl)
theorem dL_law_893 : decode cL_law 893 = .ok (.aload_n 0, 1) := dk_42 (dk_at dksL_law_33 12 rfl rfl)
theorem dL_law_894 : decode cL_law 894 = .ok (.iload_n 3, 1) := dk_29 (dk_at dksL_law_33 13 rfl rfl)
theorem dL_law_895 : decode cL_law 895 = .ok (.iconst 1, 1) := dk_4 (dk_at dksL_law_33 14 rfl rfl)
theorem dL_law_896 : decode cL_law 896 = .ok (.iadd, 1) := dk_96 (dk_at dksL_law_33 15 rfl rfl)
theorem dL_law_897 : decode cL_law 897 = .ok (.iaload, 1) := dk_46 (dk_at dksL_law_33 16 rfl rfl)
theorem dL_law_898 : decode cL_law 898 = .ok (.invokevirtual 116, 3) := dk_182 0 116 (dk_at dksL_law_33 17 rfl rfl)
theorem dL_law_901 : decode cL_law 901 = .ok (.aload_n 2, 1) := dk_44 (dk_at dksL_law_33 20 rfl rfl)
theorem dL_law_902 : decode cL_law 902 = .ok (.aload_n 0, 1) := dk_42 (dk_at dksL_law_33 21 rfl rfl)
theorem dL_law_903 : decode cL_law 903 = .ok (.iload_n 3, 1) := dk_29 (dk_at dksL_law_33 22 rfl rfl)
theorem dL_law_904 : decode cL_law 904 = .ok (.iconst 1, 1) := dk_4 (dk_at dksL_law_33 23 rfl rfl)
theorem dL_law_905 : decode cL_law 905 = .ok (.iadd, 1) := dk_96 (dk_at dksL_law_34 0 rfl rfl)
theorem dL_law_906 : decode cL_law 906 = .ok (.iaload, 1) := dk_46 (dk_at dksL_law_34 1 rfl rfl)
theorem dL_law_907 : decode cL_law 907 = .ok (.invokevirtual 119, 3) := dk_182 0 119 (dk_at dksL_law_34 2 rfl rfl)
theorem dL_law_910 : decode cL_law 910 = .ok (.if_icmp .eq 181, 3) := dk_159 0 181 (dk_at dksL_law_34 5 rfl rfl)
theorem dL_law_913 : decode cL_law 913 = .ok (.iconst 0, 1) := dk_3 (dk_at dksL_law_34 8 rfl rfl)
theorem dL_law_914 : decode cL_law 914 = .ok (.ireturn, 1) := dk_172 (dk_at dksL_law_34 9 rfl rfl)
theorem dL_law_915 : decode cL_law 915 = .ok (.aload_n 1, 1) := dk_43 (dk_at dksL_law_34 10 rfl rfl)
theorem dL_law_916 : decode cL_law 916 = .ok (.aload_n 0, 1) := dk_42 (dk_at dksL_law_34 11 rfl rfl)
theorem dL_law_917 : decode cL_law 917 = .ok (.iload_n 3, 1) := dk_29 (dk_at dksL_law_34 12 rfl rfl)
theorem dL_law_918 : decode cL_law 918 = .ok (.iconst 1, 1) := dk_4 (dk_at dksL_law_34 13 rfl rfl)
theorem dL_law_919 : decode cL_law 919 = .ok (.iadd, 1) := dk_96 (dk_at dksL_law_34 14 rfl rfl)
theorem dL_law_920 : decode cL_law 920 = .ok (.iaload, 1) := dk_46 (dk_at dksL_law_34 15 rfl rfl)
theorem dL_law_921 : decode cL_law 921 = .ok (.aload_n 0, 1) := dk_42 (dk_at dksL_law_34 16 rfl rfl)
theorem dL_law_922 : decode cL_law 922 = .ok (.iload_n 3, 1) := dk_29 (dk_at dksL_law_34 17 rfl rfl)
theorem dL_law_923 : decode cL_law 923 = .ok (.iconst 2, 1) := dk_5 (dk_at dksL_law_34 18 rfl rfl)
theorem dL_law_924 : decode cL_law 924 = .ok (.iadd, 1) := dk_96 (dk_at dksL_law_34 19 rfl rfl)
theorem dL_law_925 : decode cL_law 925 = .ok (.iaload, 1) := dk_46 (dk_at dksL_law_34 20 rfl rfl)
theorem dL_law_926 : decode cL_law 926 = .ok (.aload_n 0, 1) := dk_42 (dk_at dksL_law_34 21 rfl rfl)
theorem dL_law_927 : decode cL_law 927 = .ok (.iload_n 3, 1) := dk_29 (dk_at dksL_law_34 22 rfl rfl)
theorem dL_law_928 : decode cL_law 928 = .ok (.iconst 3, 1) := dk_6 (dk_at dksL_law_34 23 rfl rfl)
theorem dL_law_929 : decode cL_law 929 = .ok (.iadd, 1) := dk_96 (dk_at dksL_law_35 0 rfl rfl)
theorem dL_law_930 : decode cL_law 930 = .ok (.iaload, 1) := dk_46 (dk_at dksL_law_35 1 rfl rfl)
theorem dL_law_931 : decode cL_law 931 = .ok (.aload_n 0, 1) := dk_42 (dk_at dksL_law_35 2 rfl rfl)
theorem dL_law_932 : decode cL_law 932 = .ok (.iload_n 3, 1) := dk_29 (dk_at dksL_law_35 3 rfl rfl)
theorem dL_law_933 : decode cL_law 933 = .ok (.iconst 4, 1) := dk_7 (dk_at dksL_law_35 4 rfl rfl)
theorem dL_law_934 : decode cL_law 934 = .ok (.iadd, 1) := dk_96 (dk_at dksL_law_35 5 rfl rfl)
theorem dL_law_935 : decode cL_law 935 = .ok (.iaload, 1) := dk_46 (dk_at dksL_law_35 6 rfl rfl)
theorem dL_law_936 : decode cL_law 936 = .ok (.aload_n 0, 1) := dk_42 (dk_at dksL_law_35 7 rfl rfl)
theorem dL_law_937 : decode cL_law 937 = .ok (.iload_n 3, 1) := dk_29 (dk_at dksL_law_35 8 rfl rfl)
theorem dL_law_938 : decode cL_law 938 = .ok (.iconst 5, 1) := dk_8 (dk_at dksL_law_35 9 rfl rfl)
theorem dL_law_939 : decode cL_law 939 = .ok (.iadd, 1) := dk_96 (dk_at dksL_law_35 10 rfl rfl)
theorem dL_law_940 : decode cL_law 940 = .ok (.iaload, 1) := dk_46 (dk_at dksL_law_35 11 rfl rfl)
theorem dL_law_941 : decode cL_law 941 = .ok (.invokevirtual 120, 3) := dk_182 0 120 (dk_at dksL_law_35 12 rfl rfl)
theorem dL_law_944 : decode cL_law 944 = .ok (.aload_n 2, 1) := dk_44 (dk_at dksL_law_35 15 rfl rfl)
theorem dL_law_945 : decode cL_law 945 = .ok (.aload_n 0, 1) := dk_42 (dk_at dksL_law_35 16 rfl rfl)
theorem dL_law_946 : decode cL_law 946 = .ok (.iload_n 3, 1) := dk_29 (dk_at dksL_law_35 17 rfl rfl)
theorem dL_law_947 : decode cL_law 947 = .ok (.iconst 1, 1) := dk_4 (dk_at dksL_law_35 18 rfl rfl)
theorem dL_law_948 : decode cL_law 948 = .ok (.iadd, 1) := dk_96 (dk_at dksL_law_35 19 rfl rfl)
theorem dL_law_949 : decode cL_law 949 = .ok (.iaload, 1) := dk_46 (dk_at dksL_law_35 20 rfl rfl)
theorem dL_law_950 : decode cL_law 950 = .ok (.aload_n 0, 1) := dk_42 (dk_at dksL_law_35 21 rfl rfl)
theorem dL_law_951 : decode cL_law 951 = .ok (.iload_n 3, 1) := dk_29 (dk_at dksL_law_35 22 rfl rfl)
theorem dL_law_952 : decode cL_law 952 = .ok (.iconst 2, 1) := dk_5 (dk_at dksL_law_35 23 rfl rfl)
theorem dL_law_953 : decode cL_law 953 = .ok (.iadd, 1) := dk_96 (dk_at dksL_law_36 0 rfl rfl)
theorem dL_law_954 : decode cL_law 954 = .ok (.iaload, 1) := dk_46 (dk_at dksL_law_36 1 rfl rfl)
theorem dL_law_955 : decode cL_law 955 = .ok (.aload_n 0, 1) := dk_42 (dk_at dksL_law_36 2 rfl rfl)
theorem dL_law_956 : decode cL_law 956 = .ok (.iload_n 3, 1) := dk_29 (dk_at dksL_law_36 3 rfl rfl)
theorem dL_law_957 : decode cL_law 957 = .ok (.iconst 3, 1) := dk_6 (dk_at dksL_law_36 4 rfl rfl)
theorem dL_law_958 : decode cL_law 958 = .ok (.iadd, 1) := dk_96 (dk_at dksL_law_36 5 rfl rfl)
theorem dL_law_959 : decode cL_law 959 = .ok (.iaload, 1) := dk_46 (dk_at dksL_law_36 6 rfl rfl)
theorem dL_law_960 : decode cL_law 960 = .ok (.aload_n 0, 1) := dk_42 (dk_at dksL_law_36 7 rfl rfl)
theorem dL_law_961 : decode cL_law 961 = .ok (.iload_n 3, 1) := dk_29 (dk_at dksL_law_36 8 rfl rfl)
theorem dL_law_962 : decode cL_law 962 = .ok (.iconst 4, 1) := dk_7 (dk_at dksL_law_36 9 rfl rfl)
theorem dL_law_963 : decode cL_law 963 = .ok (.iadd, 1) := dk_96 (dk_at dksL_law_36 10 rfl rfl)
theorem dL_law_964 : decode cL_law 964 = .ok (.iaload, 1) := dk_46 (dk_at dksL_law_36 11 rfl rfl)
theorem dL_law_965 : decode cL_law 965 = .ok (.aload_n 0, 1) := dk_42 (dk_at dksL_law_36 12 rfl rfl)
theorem dL_law_966 : decode cL_law 966 = .ok (.iload_n 3, 1) := dk_29 (dk_at dksL_law_36 13 rfl rfl)
theorem dL_law_967 : decode cL_law 967 = .ok (.iconst 5, 1) := dk_8 (dk_at dksL_law_36 14 rfl rfl)
theorem dL_law_968 : decode cL_law 968 = .ok (.iadd, 1) := dk_96 (dk_at dksL_law_36 15 rfl rfl)
theorem dL_law_969 : decode cL_law 969 = .ok (.iaload, 1) := dk_46 (dk_at dksL_law_36 16 rfl rfl)
theorem dL_law_970 : decode cL_law 970 = .ok (.invokevirtual 124, 3) := dk_182 0 124 (dk_at dksL_law_36 17 rfl rfl)
theorem dL_law_973 : decode cL_law 973 = .ok (.lcmp, 1) := dk_148 (dk_at dksL_law_36 20 rfl rfl)
theorem dL_law_974 : decode cL_law 974 = .ok (.ifCond .eq 117, 3) := dk_153 0 117 (dk_at dksL_law_36 21 rfl rfl)
theorem dL_law_977 : decode cL_law 977 = .ok (.iconst 0, 1) := dk_3 (dk_at dksL_law_37 0 rfl rfl)
theorem dL_law_978 : decode cL_law 978 = .ok (.ireturn, 1) := dk_172 (dk_at dksL_law_37 1 rfl rfl)
theorem dL_law_979 : decode cL_law 979 = .ok (.aload_n 1, 1) := dk_43 (dk_at dksL_law_37 2 rfl rfl)
theorem dL_law_980 : decode cL_law 980 = .ok (.aload_n 0, 1) := dk_42 (dk_at dksL_law_37 3 rfl rfl)
theorem dL_law_981 : decode cL_law 981 = .ok (.iload_n 3, 1) := dk_29 (dk_at dksL_law_37 4 rfl rfl)
theorem dL_law_982 : decode cL_law 982 = .ok (.iconst 1, 1) := dk_4 (dk_at dksL_law_37 5 rfl rfl)
theorem dL_law_983 : decode cL_law 983 = .ok (.iadd, 1) := dk_96 (dk_at dksL_law_37 6 rfl rfl)
theorem dL_law_984 : decode cL_law 984 = .ok (.iaload, 1) := dk_46 (dk_at dksL_law_37 7 rfl rfl)
theorem dL_law_985 : decode cL_law 985 = .ok (.aload_n 0, 1) := dk_42 (dk_at dksL_law_37 8 rfl rfl)
theorem dL_law_986 : decode cL_law 986 = .ok (.iload_n 3, 1) := dk_29 (dk_at dksL_law_37 9 rfl rfl)
theorem dL_law_987 : decode cL_law 987 = .ok (.iconst 2, 1) := dk_5 (dk_at dksL_law_37 10 rfl rfl)
theorem dL_law_988 : decode cL_law 988 = .ok (.iadd, 1) := dk_96 (dk_at dksL_law_37 11 rfl rfl)
theorem dL_law_989 : decode cL_law 989 = .ok (.iaload, 1) := dk_46 (dk_at dksL_law_37 12 rfl rfl)
theorem dL_law_990 : decode cL_law 990 = .ok (.aload_n 0, 1) := dk_42 (dk_at dksL_law_37 13 rfl rfl)
theorem dL_law_991 : decode cL_law 991 = .ok (.iload_n 3, 1) := dk_29 (dk_at dksL_law_37 14 rfl rfl)
theorem dL_law_992 : decode cL_law 992 = .ok (.iconst 3, 1) := dk_6 (dk_at dksL_law_37 15 rfl rfl)
theorem dL_law_993 : decode cL_law 993 = .ok (.iadd, 1) := dk_96 (dk_at dksL_law_37 16 rfl rfl)
theorem dL_law_994 : decode cL_law 994 = .ok (.iaload, 1) := dk_46 (dk_at dksL_law_37 17 rfl rfl)
theorem dL_law_995 : decode cL_law 995 = .ok (.invokevirtual 125, 3) := dk_182 0 125 (dk_at dksL_law_37 18 rfl rfl)
theorem dL_law_998 : decode cL_law 998 = .ok (.aload_n 2, 1) := dk_44 (dk_at dksL_law_37 21 rfl rfl)
theorem dL_law_999 : decode cL_law 999 = .ok (.aload_n 0, 1) := dk_42 (dk_at dksL_law_37 22 rfl rfl)
theorem dL_law_1000 : decode cL_law 1000 = .ok (.iload_n 3, 1) := dk_29 (dk_at dksL_law_37 23 rfl rfl)
theorem dL_law_1001 : decode cL_law 1001 = .ok (.iconst 1, 1) := dk_4 (dk_at dksL_law_38 0 rfl rfl)
theorem dL_law_1002 : decode cL_law 1002 = .ok (.iadd, 1) := dk_96 (dk_at dksL_law_38 1 rfl rfl)
theorem dL_law_1003 : decode cL_law 1003 = .ok (.iaload, 1) := dk_46 (dk_at dksL_law_38 2 rfl rfl)
theorem dL_law_1004 : decode cL_law 1004 = .ok (.aload_n 0, 1) := dk_42 (dk_at dksL_law_38 3 rfl rfl)
theorem dL_law_1005 : decode cL_law 1005 = .ok (.iload_n 3, 1) := dk_29 (dk_at dksL_law_38 4 rfl rfl)
theorem dL_law_1006 : decode cL_law 1006 = .ok (.iconst 2, 1) := dk_5 (dk_at dksL_law_38 5 rfl rfl)
theorem dL_law_1007 : decode cL_law 1007 = .ok (.iadd, 1) := dk_96 (dk_at dksL_law_38 6 rfl rfl)
theorem dL_law_1008 : decode cL_law 1008 = .ok (.iaload, 1) := dk_46 (dk_at dksL_law_38 7 rfl rfl)
theorem dL_law_1009 : decode cL_law 1009 = .ok (.aload_n 0, 1) := dk_42 (dk_at dksL_law_38 8 rfl rfl)
theorem dL_law_1010 : decode cL_law 1010 = .ok (.iload_n 3, 1) := dk_29 (dk_at dksL_law_38 9 rfl rfl)
theorem dL_law_1011 : decode cL_law 1011 = .ok (.iconst 3, 1) := dk_6 (dk_at dksL_law_38 10 rfl rfl)
theorem dL_law_1012 : decode cL_law 1012 = .ok (.iadd, 1) := dk_96 (dk_at dksL_law_38 11 rfl rfl)
theorem dL_law_1013 : decode cL_law 1013 = .ok (.iaload, 1) := dk_46 (dk_at dksL_law_38 12 rfl rfl)
theorem dL_law_1014 : decode cL_law 1014 = .ok (.invokevirtual 128, 3) := dk_182 0 128 (dk_at dksL_law_38 13 rfl rfl)
theorem dL_law_1017 : decode cL_law 1017 = .ok (.if_icmp .eq 74, 3) := dk_159 0 74 (dk_at dksL_law_38 16 rfl rfl)
theorem dL_law_1020 : decode cL_law 1020 = .ok (.iconst 0, 1) := dk_3 (dk_at dksL_law_38 19 rfl rfl)
theorem dL_law_1021 : decode cL_law 1021 = .ok (.ireturn, 1) := dk_172 (dk_at dksL_law_38 20 rfl rfl)
theorem dL_law_1022 : decode cL_law 1022 = .ok (.aload_n 1, 1) := dk_43 (dk_at dksL_law_38 21 rfl rfl)
theorem dL_law_1023 : decode cL_law 1023 = .ok (.aload_n 0, 1) := dk_42 (dk_at dksL_law_38 22 rfl rfl)
theorem dL_law_1024 : decode cL_law 1024 = .ok (.iload_n 3, 1) := dk_29 (dk_at dksL_law_38 23 rfl rfl)
theorem dL_law_1025 : decode cL_law 1025 = .ok (.iconst 1, 1) := dk_4 (dk_at dksL_law_39 0 rfl rfl)
theorem dL_law_1026 : decode cL_law 1026 = .ok (.iadd, 1) := dk_96 (dk_at dksL_law_39 1 rfl rfl)
theorem dL_law_1027 : decode cL_law 1027 = .ok (.iaload, 1) := dk_46 (dk_at dksL_law_39 2 rfl rfl)
theorem dL_law_1028 : decode cL_law 1028 = .ok (.invokevirtual 129, 3) := dk_182 0 129 (dk_at dksL_law_39 3 rfl rfl)
theorem dL_law_1031 : decode cL_law 1031 = .ok (.aload_n 2, 1) := dk_44 (dk_at dksL_law_39 6 rfl rfl)
theorem dL_law_1032 : decode cL_law 1032 = .ok (.aload_n 0, 1) := dk_42 (dk_at dksL_law_39 7 rfl rfl)
theorem dL_law_1033 : decode cL_law 1033 = .ok (.iload_n 3, 1) := dk_29 (dk_at dksL_law_39 8 rfl rfl)
theorem dL_law_1034 : decode cL_law 1034 = .ok (.iconst 1, 1) := dk_4 (dk_at dksL_law_39 9 rfl rfl)
theorem dL_law_1035 : decode cL_law 1035 = .ok (.iadd, 1) := dk_96 (dk_at dksL_law_39 10 rfl rfl)
theorem dL_law_1036 : decode cL_law 1036 = .ok (.iaload, 1) := dk_46 (dk_at dksL_law_39 11 rfl rfl)
theorem dL_law_1037 : decode cL_law 1037 = .ok (.invokevirtual 132, 3) := dk_182 0 132 (dk_at dksL_law_39 12 rfl rfl)
theorem dL_law_1040 : decode cL_law 1040 = .ok (.if_icmp .eq 51, 3) := dk_159 0 51 (dk_at dksL_law_39 15 rfl rfl)
theorem dL_law_1043 : decode cL_law 1043 = .ok (.iconst 0, 1) := dk_3 (dk_at dksL_law_39 18 rfl rfl)
theorem dL_law_1044 : decode cL_law 1044 = .ok (.ireturn, 1) := dk_172 (dk_at dksL_law_39 19 rfl rfl)
theorem dL_law_1045 : decode cL_law 1045 = .ok (.aload_n 1, 1) := dk_43 (dk_at dksL_law_39 20 rfl rfl)
theorem dL_law_1046 : decode cL_law 1046 = .ok (.aload_n 0, 1) := dk_42 (dk_at dksL_law_39 21 rfl rfl)
theorem dL_law_1047 : decode cL_law 1047 = .ok (.iload_n 3, 1) := dk_29 (dk_at dksL_law_39 22 rfl rfl)
theorem dL_law_1048 : decode cL_law 1048 = .ok (.iconst 1, 1) := dk_4 (dk_at dksL_law_39 23 rfl rfl)
theorem dL_law_1049 : decode cL_law 1049 = .ok (.iadd, 1) := dk_96 (dk_at dksL_law_40 0 rfl rfl)
theorem dL_law_1050 : decode cL_law 1050 = .ok (.iaload, 1) := dk_46 (dk_at dksL_law_40 1 rfl rfl)
theorem dL_law_1051 : decode cL_law 1051 = .ok (.invokevirtual 133, 3) := dk_182 0 133 (dk_at dksL_law_40 2 rfl rfl)
theorem dL_law_1054 : decode cL_law 1054 = .ok (.aload_n 2, 1) := dk_44 (dk_at dksL_law_40 5 rfl rfl)
theorem dL_law_1055 : decode cL_law 1055 = .ok (.aload_n 0, 1) := dk_42 (dk_at dksL_law_40 6 rfl rfl)
theorem dL_law_1056 : decode cL_law 1056 = .ok (.iload_n 3, 1) := dk_29 (dk_at dksL_law_40 7 rfl rfl)
theorem dL_law_1057 : decode cL_law 1057 = .ok (.iconst 1, 1) := dk_4 (dk_at dksL_law_40 8 rfl rfl)
theorem dL_law_1058 : decode cL_law 1058 = .ok (.iadd, 1) := dk_96 (dk_at dksL_law_40 9 rfl rfl)
theorem dL_law_1059 : decode cL_law 1059 = .ok (.iaload, 1) := dk_46 (dk_at dksL_law_40 10 rfl rfl)
theorem dL_law_1060 : decode cL_law 1060 = .ok (.invokevirtual 136, 3) := dk_182 0 136 (dk_at dksL_law_40 11 rfl rfl)
theorem dL_law_1063 : decode cL_law 1063 = .ok (.if_icmp .eq 28, 3) := dk_159 0 28 (dk_at dksL_law_40 14 rfl rfl)
theorem dL_law_1066 : decode cL_law 1066 = .ok (.iconst 0, 1) := dk_3 (dk_at dksL_law_40 17 rfl rfl)
theorem dL_law_1067 : decode cL_law 1067 = .ok (.ireturn, 1) := dk_172 (dk_at dksL_law_40 18 rfl rfl)
theorem dL_law_1068 : decode cL_law 1068 = .ok (.aload_n 1, 1) := dk_43 (dk_at dksL_law_40 19 rfl rfl)
theorem dL_law_1069 : decode cL_law 1069 = .ok (.aload_n 0, 1) := dk_42 (dk_at dksL_law_40 20 rfl rfl)
theorem dL_law_1070 : decode cL_law 1070 = .ok (.iload_n 3, 1) := dk_29 (dk_at dksL_law_40 21 rfl rfl)
theorem dL_law_1071 : decode cL_law 1071 = .ok (.iconst 1, 1) := dk_4 (dk_at dksL_law_40 22 rfl rfl)
theorem dL_law_1072 : decode cL_law 1072 = .ok (.iadd, 1) := dk_96 (dk_at dksL_law_40 23 rfl rfl)
theorem dL_law_1073 : decode cL_law 1073 = .ok (.iaload, 1) := dk_46 (dk_at dksL_law_41 0 rfl rfl)
theorem dL_law_1074 : decode cL_law 1074 = .ok (.invokevirtual 137, 3) := dk_182 0 137 (dk_at dksL_law_41 1 rfl rfl)
theorem dL_law_1077 : decode cL_law 1077 = .ok (.aload_n 2, 1) := dk_44 (dk_at dksL_law_41 4 rfl rfl)
theorem dL_law_1078 : decode cL_law 1078 = .ok (.aload_n 0, 1) := dk_42 (dk_at dksL_law_41 5 rfl rfl)
theorem dL_law_1079 : decode cL_law 1079 = .ok (.iload_n 3, 1) := dk_29 (dk_at dksL_law_41 6 rfl rfl)
theorem dL_law_1080 : decode cL_law 1080 = .ok (.iconst 1, 1) := dk_4 (dk_at dksL_law_41 7 rfl rfl)
theorem dL_law_1081 : decode cL_law 1081 = .ok (.iadd, 1) := dk_96 (dk_at dksL_law_41 8 rfl rfl)
theorem dL_law_1082 : decode cL_law 1082 = .ok (.iaload, 1) := dk_46 (dk_at dksL_law_41 9 rfl rfl)
theorem dL_law_1083 : decode cL_law 1083 = .ok (.invokevirtual 140, 3) := dk_182 0 140 (dk_at dksL_law_41 10 rfl rfl)
theorem dL_law_1086 : decode cL_law 1086 = .ok (.if_icmp .eq 5, 3) := dk_159 0 5 (dk_at dksL_law_41 13 rfl rfl)
theorem dL_law_1089 : decode cL_law 1089 = .ok (.iconst 0, 1) := dk_3 (dk_at dksL_law_41 16 rfl rfl)
theorem dL_law_1090 : decode cL_law 1090 = .ok (.ireturn, 1) := dk_172 (dk_at dksL_law_41 17 rfl rfl)
theorem dL_law_1091 : decode cL_law 1091 = .ok (.iinc 3 6, 3) := dk_132 3 6 (dk_at dksL_law_41 18 rfl rfl)
theorem dL_law_1094 : decode cL_law 1094 = .ok (.goto (-1076), 3) := dk_167 251 204 (dk_at dksL_law_41 21 rfl rfl)
theorem dL_law_1097 : decode cL_law 1097 = .ok (.iconst 1, 1) := dk_4 (dk_at dksL_law_42 0 rfl rfl)
theorem dL_law_1098 : decode cL_law 1098 = .ok (.ireturn, 1) := dk_172 (dk_at dksL_law_42 1 rfl rfl)
theorem q50 : (Jvm.Cond.initialized "SongLampsLaw") ∈ lw_all := lw_g (lw_at lw_m1 0 rfl) rfl
set_option maxRecDepth 100000
theorem q57 : (Jvm.Cond.classLink "SongLampsLaw" (7 : Nat) "SongLamps") ∈ lw_all := lw_g (lw_at lw_m1 7 rfl) rfl
theorem q59 : (Jvm.Cond.methodLink "SongLampsLaw" (9 : Nat) ({ cls := "SongLamps", name := "<init>", desc := "()V" } : Jvm.MethodName)) ∈ lw_all := lw_g (lw_at lw_m1 9 rfl) rfl
theorem q200 : (Jvm.Cond.methodLink "SongLampsLaw" (13 : Nat) ({ cls := "SongLamps", name := "passage", desc := "(IIZ)I" } : Jvm.MethodName)) ∈ lw_all := lw_g (lw_at lw_m1 150 rfl) rfl
theorem q220 : (Jvm.Cond.methodLink "SongLampsLaw" (18 : Nat) ({ cls := "SongLamps", name := "gallery", desc := "(IIZ)I" } : Jvm.MethodName)) ∈ lw_all := lw_g (lw_at lw_m1 170 rfl) rfl
theorem q224 : (Jvm.Cond.methodLink "SongLampsLaw" (22 : Nat) ({ cls := "SongLamps", name := "voice", desc := "(IIIII)I" } : Jvm.MethodName)) ∈ lw_all := lw_g (lw_at lw_m1 174 rfl) rfl
theorem q237 : (Jvm.Cond.methodLink "SongLampsLaw" (27 : Nat) ({ cls := "SongLamps", name := "breath", desc := "(II)I" } : Jvm.MethodName)) ∈ lw_all := lw_g (lw_at lw_m1 187 rfl) rfl
theorem q252 : (Jvm.Cond.methodLink "SongLampsLaw" (32 : Nat) ({ cls := "SongLamps", name := "leave", desc := "(I)I" } : Jvm.MethodName)) ∈ lw_all := lw_g (lw_at lw_m1 202 rfl) rfl
theorem q256 : (Jvm.Cond.methodLink "SongLampsLaw" (37 : Nat) ({ cls := "SongLamps", name := "say", desc := "(I)I" } : Jvm.MethodName)) ∈ lw_all := lw_g (lw_at lw_m1 206 rfl) rfl
theorem q262 : (Jvm.Cond.methodLink "SongLampsLaw" (41 : Nat) ({ cls := "SongLamps", name := "wipe", desc := "()I" } : Jvm.MethodName)) ∈ lw_all := lw_g (lw_at lw_m1 212 rfl) rfl
theorem q266 : (Jvm.Cond.methodLink "SongLampsLaw" (46 : Nat) ({ cls := "SongLamps", name := "fault", desc := "()I" } : Jvm.MethodName)) ∈ lw_all := lw_g (lw_at lw_m1 216 rfl) rfl
theorem q286 : (Jvm.Cond.methodLink "SongLampsLaw" (50 : Nat) ({ cls := "SongLamps", name := "judge", desc := "(I)I" } : Jvm.MethodName)) ∈ lw_all := lw_g (lw_at lw_m1 236 rfl) rfl
theorem q376 : (Jvm.Cond.methodLink "SongLampsLaw" (54 : Nat) ({ cls := "SongLamps", name := "done", desc := "()I" } : Jvm.MethodName)) ∈ lw_all := lw_g (lw_at lw_m2 86 rfl) rfl
theorem q384 : (Jvm.Cond.methodLink "SongLampsLaw" (58 : Nat) ({ cls := "SongLamps", name := "behind", desc := "(II)I" } : Jvm.MethodName)) ∈ lw_all := lw_g (lw_at lw_m2 94 rfl) rfl
theorem q389 : (Jvm.Cond.methodLink "SongLampsLaw" (62 : Nat) ({ cls := "SongLamps", name := "seam", desc := "(II)I" } : Jvm.MethodName)) ∈ lw_all := lw_g (lw_at lw_m2 99 rfl) rfl
theorem q394 : (Jvm.Cond.methodLink "SongLampsLaw" (66 : Nat) ({ cls := "SongLamps", name := "then", desc := "(I)I" } : Jvm.MethodName)) ∈ lw_all := lw_g (lw_at lw_m2 104 rfl) rfl
theorem q402 : (Jvm.Cond.methodLink "SongLampsLaw" (70 : Nat) ({ cls := "SongLamps", name := "light", desc := "(I)I" } : Jvm.MethodName)) ∈ lw_all := lw_g (lw_at lw_m2 112 rfl) rfl
theorem q406 : (Jvm.Cond.methodLink "SongLampsLaw" (74 : Nat) ({ cls := "SongLamps", name := "shakes", desc := "()I" } : Jvm.MethodName)) ∈ lw_all := lw_g (lw_at lw_m2 116 rfl) rfl
theorem q411 : (Jvm.Cond.methodLink "SongLampsLaw" (78 : Nat) ({ cls := "SongLamps", name := "way", desc := "(III)I" } : Jvm.MethodName)) ∈ lw_all := lw_g (lw_at lw_m2 121 rfl) rfl
theorem q424 : (Jvm.Cond.methodLink "SongLampsLaw" (83 : Nat) ({ cls := "SongLamps", name := "fewest", desc := "(II)I" } : Jvm.MethodName)) ∈ lw_all := lw_g (lw_at lw_m2 134 rfl) rfl
theorem q433 : (Jvm.Cond.methodLink "SongLampsLaw" (87 : Nat) ({ cls := "SongLamps", name := "keep", desc := "(I)I" } : Jvm.MethodName)) ∈ lw_all := lw_g (lw_at lw_m2 143 rfl) rfl
theorem q446 : (Jvm.Cond.methodLink "SongLampsLaw" (91 : Nat) ({ cls := "SongLamps", name := "cut", desc := "()I" } : Jvm.MethodName)) ∈ lw_all := lw_g (lw_at lw_m2 156 rfl) rfl
theorem q450 : (Jvm.Cond.methodLink "SongLampsLaw" (95 : Nat) ({ cls := "SongLamps", name := "hold", desc := "(III)I" } : Jvm.MethodName)) ∈ lw_all := lw_g (lw_at lw_m2 160 rfl) rfl
theorem q474 : (Jvm.Cond.methodLink "SongLampsLaw" (99 : Nat) ({ cls := "SongLamps", name := "round", desc := "(IIII)I" } : Jvm.MethodName)) ∈ lw_all := lw_g (lw_at lw_m2 184 rfl) rfl
theorem q478 : (Jvm.Cond.methodLink "SongLampsLaw" (104 : Nat) ({ cls := "SongLamps", name := "heard", desc := "(II)I" } : Jvm.MethodName)) ∈ lw_all := lw_g (lw_at lw_m2 188 rfl) rfl
theorem q483 : (Jvm.Cond.methodLink "SongLampsLaw" (108 : Nat) ({ cls := "SongLamps", name := "forget", desc := "()I" } : Jvm.MethodName)) ∈ lw_all := lw_g (lw_at lw_m2 193 rfl) rfl
theorem q487 : (Jvm.Cond.methodLink "SongLampsLaw" (112 : Nat) ({ cls := "SongLamps", name := "losts", desc := "(I)I" } : Jvm.MethodName)) ∈ lw_all := lw_g (lw_at lw_m2 197 rfl) rfl
theorem q503 : (Jvm.Cond.methodLink "SongLampsLaw" (116 : Nat) ({ cls := "SongLamps", name := "listen", desc := "(I)I" } : Jvm.MethodName)) ∈ lw_all := lw_g (lw_at lw_m2 213 rfl) rfl
theorem q511 : (Jvm.Cond.methodLink "SongLampsLaw" (120 : Nat) ({ cls := "SongLamps", name := "cold", desc := "(IIIII)J" } : Jvm.MethodName)) ∈ lw_all := lw_g (lw_at lw_m2 221 rfl) rfl
theorem q529 : (Jvm.Cond.methodLink "SongLampsLaw" (125 : Nat) ({ cls := "SongLamps", name := "year", desc := "(III)I" } : Jvm.MethodName)) ∈ lw_all := lw_g (lw_at lw_m2 239 rfl) rfl
theorem q540 : (Jvm.Cond.methodLink "SongLampsLaw" (129 : Nat) ({ cls := "SongLamps", name := "image", desc := "(I)I" } : Jvm.MethodName)) ∈ lw_all := lw_g (lw_at lw_m3 10 rfl) rfl
theorem q544 : (Jvm.Cond.methodLink "SongLampsLaw" (133 : Nat) ({ cls := "SongLamps", name := "restore", desc := "(I)I" } : Jvm.MethodName)) ∈ lw_all := lw_g (lw_at lw_m3 14 rfl) rfl
theorem q548 : (Jvm.Cond.methodLink "SongLampsLaw" (137 : Nat) ({ cls := "SongLamps", name := "told", desc := "(I)I" } : Jvm.MethodName)) ∈ lw_all := lw_g (lw_at lw_m3 18 rfl) rfl
theorem q567 : (Jvm.Cond.classLink "SongLampsLaw" (10 : Nat) "SongLampsModel") ∈ lw_all := lw_g (lw_at lw_m3 37 rfl) rfl
theorem q569 : (Jvm.Cond.methodLink "SongLampsLaw" (12 : Nat) ({ cls := "SongLampsModel", name := "<init>", desc := "()V" } : Jvm.MethodName)) ∈ lw_all := lw_g (lw_at lw_m3 39 rfl) rfl
theorem q647 : (Jvm.Cond.methodLink "SongLampsLaw" (17 : Nat) ({ cls := "SongLampsModel", name := "passage", desc := "(IIZ)I" } : Jvm.MethodName)) ∈ lw_all := lw_g (lw_at lw_m3 117 rfl) rfl
theorem q660 : (Jvm.Cond.methodLink "SongLampsLaw" (21 : Nat) ({ cls := "SongLampsModel", name := "gallery", desc := "(IIZ)I" } : Jvm.MethodName)) ∈ lw_all := lw_g (lw_at lw_m3 130 rfl) rfl
theorem q664 : (Jvm.Cond.methodLink "SongLampsLaw" (26 : Nat) ({ cls := "SongLampsModel", name := "voice", desc := "(IIIII)I" } : Jvm.MethodName)) ∈ lw_all := lw_g (lw_at lw_m3 134 rfl) rfl
theorem q668 : (Jvm.Cond.methodLink "SongLampsLaw" (31 : Nat) ({ cls := "SongLampsModel", name := "breath", desc := "(II)I" } : Jvm.MethodName)) ∈ lw_all := lw_g (lw_at lw_m3 138 rfl) rfl
theorem q679 : (Jvm.Cond.methodLink "SongLampsLaw" (36 : Nat) ({ cls := "SongLampsModel", name := "leave", desc := "(I)I" } : Jvm.MethodName)) ∈ lw_all := lw_g (lw_at lw_m3 149 rfl) rfl
theorem q683 : (Jvm.Cond.methodLink "SongLampsLaw" (40 : Nat) ({ cls := "SongLampsModel", name := "say", desc := "(I)I" } : Jvm.MethodName)) ∈ lw_all := lw_g (lw_at lw_m3 153 rfl) rfl
theorem q687 : (Jvm.Cond.methodLink "SongLampsLaw" (45 : Nat) ({ cls := "SongLampsModel", name := "wipe", desc := "()I" } : Jvm.MethodName)) ∈ lw_all := lw_g (lw_at lw_m3 157 rfl) rfl
theorem q691 : (Jvm.Cond.methodLink "SongLampsLaw" (49 : Nat) ({ cls := "SongLampsModel", name := "fault", desc := "()I" } : Jvm.MethodName)) ∈ lw_all := lw_g (lw_at lw_m3 161 rfl) rfl
theorem q699 : (Jvm.Cond.methodLink "SongLampsLaw" (53 : Nat) ({ cls := "SongLampsModel", name := "judge", desc := "(I)I" } : Jvm.MethodName)) ∈ lw_all := lw_g (lw_at lw_m3 169 rfl) rfl
theorem q747 : (Jvm.Cond.methodLink "SongLampsLaw" (57 : Nat) ({ cls := "SongLampsModel", name := "done", desc := "()I" } : Jvm.MethodName)) ∈ lw_all := lw_g (lw_at lw_m3 217 rfl) rfl
theorem q755 : (Jvm.Cond.methodLink "SongLampsLaw" (61 : Nat) ({ cls := "SongLampsModel", name := "behind", desc := "(II)I" } : Jvm.MethodName)) ∈ lw_all := lw_g (lw_at lw_m3 225 rfl) rfl
theorem q759 : (Jvm.Cond.methodLink "SongLampsLaw" (65 : Nat) ({ cls := "SongLampsModel", name := "seam", desc := "(II)I" } : Jvm.MethodName)) ∈ lw_all := lw_g (lw_at lw_m3 229 rfl) rfl
theorem q763 : (Jvm.Cond.methodLink "SongLampsLaw" (69 : Nat) ({ cls := "SongLampsModel", name := "then", desc := "(I)I" } : Jvm.MethodName)) ∈ lw_all := lw_g (lw_at lw_m3 233 rfl) rfl
theorem q771 : (Jvm.Cond.methodLink "SongLampsLaw" (73 : Nat) ({ cls := "SongLampsModel", name := "light", desc := "(I)I" } : Jvm.MethodName)) ∈ lw_all := lw_g (lw_at lw_m4 1 rfl) rfl
theorem q775 : (Jvm.Cond.methodLink "SongLampsLaw" (77 : Nat) ({ cls := "SongLampsModel", name := "shakes", desc := "()I" } : Jvm.MethodName)) ∈ lw_all := lw_g (lw_at lw_m4 5 rfl) rfl
theorem q779 : (Jvm.Cond.methodLink "SongLampsLaw" (82 : Nat) ({ cls := "SongLampsModel", name := "way", desc := "(III)I" } : Jvm.MethodName)) ∈ lw_all := lw_g (lw_at lw_m4 9 rfl) rfl
theorem q788 : (Jvm.Cond.methodLink "SongLampsLaw" (86 : Nat) ({ cls := "SongLampsModel", name := "fewest", desc := "(II)I" } : Jvm.MethodName)) ∈ lw_all := lw_g (lw_at lw_m4 18 rfl) rfl
theorem q792 : (Jvm.Cond.methodLink "SongLampsLaw" (90 : Nat) ({ cls := "SongLampsModel", name := "keep", desc := "(I)I" } : Jvm.MethodName)) ∈ lw_all := lw_g (lw_at lw_m4 22 rfl) rfl
theorem q796 : (Jvm.Cond.methodLink "SongLampsLaw" (94 : Nat) ({ cls := "SongLampsModel", name := "cut", desc := "()I" } : Jvm.MethodName)) ∈ lw_all := lw_g (lw_at lw_m4 26 rfl) rfl
theorem q800 : (Jvm.Cond.methodLink "SongLampsLaw" (98 : Nat) ({ cls := "SongLampsModel", name := "hold", desc := "(III)I" } : Jvm.MethodName)) ∈ lw_all := lw_g (lw_at lw_m4 30 rfl) rfl
theorem q814 : (Jvm.Cond.methodLink "SongLampsLaw" (103 : Nat) ({ cls := "SongLampsModel", name := "round", desc := "(IIII)I" } : Jvm.MethodName)) ∈ lw_all := lw_g (lw_at lw_m4 44 rfl) rfl
theorem q818 : (Jvm.Cond.methodLink "SongLampsLaw" (107 : Nat) ({ cls := "SongLampsModel", name := "heard", desc := "(II)I" } : Jvm.MethodName)) ∈ lw_all := lw_g (lw_at lw_m4 48 rfl) rfl
theorem q822 : (Jvm.Cond.methodLink "SongLampsLaw" (111 : Nat) ({ cls := "SongLampsModel", name := "forget", desc := "()I" } : Jvm.MethodName)) ∈ lw_all := lw_g (lw_at lw_m4 52 rfl) rfl
theorem q826 : (Jvm.Cond.methodLink "SongLampsLaw" (115 : Nat) ({ cls := "SongLampsModel", name := "losts", desc := "(I)I" } : Jvm.MethodName)) ∈ lw_all := lw_g (lw_at lw_m4 56 rfl) rfl
theorem q842 : (Jvm.Cond.methodLink "SongLampsLaw" (119 : Nat) ({ cls := "SongLampsModel", name := "listen", desc := "(I)I" } : Jvm.MethodName)) ∈ lw_all := lw_g (lw_at lw_m4 72 rfl) rfl
theorem q846 : (Jvm.Cond.methodLink "SongLampsLaw" (124 : Nat) ({ cls := "SongLampsModel", name := "cold", desc := "(IIIII)J" } : Jvm.MethodName)) ∈ lw_all := lw_g (lw_at lw_m4 76 rfl) rfl
theorem q857 : (Jvm.Cond.methodLink "SongLampsLaw" (128 : Nat) ({ cls := "SongLampsModel", name := "year", desc := "(III)I" } : Jvm.MethodName)) ∈ lw_all := lw_g (lw_at lw_m4 87 rfl) rfl
theorem q862 : (Jvm.Cond.methodLink "SongLampsLaw" (132 : Nat) ({ cls := "SongLampsModel", name := "image", desc := "(I)I" } : Jvm.MethodName)) ∈ lw_all := lw_g (lw_at lw_m4 92 rfl) rfl
theorem q866 : (Jvm.Cond.methodLink "SongLampsLaw" (136 : Nat) ({ cls := "SongLampsModel", name := "restore", desc := "(I)I" } : Jvm.MethodName)) ∈ lw_all := lw_g (lw_at lw_m4 96 rfl) rfl
theorem q870 : (Jvm.Cond.methodLink "SongLampsLaw" (140 : Nat) ({ cls := "SongLampsModel", name := "told", desc := "(I)I" } : Jvm.MethodName)) ∈ lw_all := lw_g (lw_at lw_m4 100 rfl) rfl
