/-! java/lang/Integer -/
set_option maxRecDepth 100000
def RJ0 : String := "java/lang/Integer"
abbrev cJ0_bitCount : ByteArray := prog_5_method_49_code
def yJ0_bitCount : MethodName := ⟨RJ0, "bitCount", "(I)I"⟩
def dkwJ0_bitCount_2 : List UInt8 := [26, 16, 63, 126, 172]
abbrev dktJ0_bitCount_2 : List UInt8 := dkwJ0_bitCount_2 ++ []
def dkwJ0_bitCount_1 : List UInt8 := [26, 26, 7, 124, 96, 19, 1, 11, 126, 59, 26, 26, 16, 8, 124, 96, 59, 26, 26, 16, 16, 124, 96, 59]
abbrev dktJ0_bitCount_1 : List UInt8 := dkwJ0_bitCount_1 ++ dktJ0_bitCount_2
def dkwJ0_bitCount_0 : List UInt8 := [26, 26, 4, 124, 19, 1, 9, 126, 100, 59, 26, 19, 1, 10, 126, 26, 5, 124, 19, 1, 10, 126, 96, 59]
abbrev dktJ0_bitCount_0 : List UInt8 := dkwJ0_bitCount_0 ++ dktJ0_bitCount_1
theorem dksJ0_bitCount_0 : cJ0_bitCount.data.toList.drop 0 = dktJ0_bitCount_0 := by decide +kernel
theorem dksJ0_bitCount_1 : cJ0_bitCount.data.toList.drop 24 = dktJ0_bitCount_1 := dk_seg dksJ0_bitCount_0 24 rfl rfl
theorem dksJ0_bitCount_2 : cJ0_bitCount.data.toList.drop 48 = dktJ0_bitCount_2 := dk_seg dksJ0_bitCount_1 24 rfl rfl
theorem dJ0_bitCount_0 : decode cJ0_bitCount 0 = .ok (.iload_n 0, 1) := dk_26 (dk_at dksJ0_bitCount_0 0 rfl rfl)
theorem dJ0_bitCount_1 : decode cJ0_bitCount 1 = .ok (.iload_n 0, 1) := dk_26 (dk_at dksJ0_bitCount_0 1 rfl rfl)
theorem dJ0_bitCount_2 : decode cJ0_bitCount 2 = .ok (.iconst 1, 1) := dk_4 (dk_at dksJ0_bitCount_0 2 rfl rfl)
theorem dJ0_bitCount_3 : decode cJ0_bitCount 3 = .ok (.iushr, 1) := dk_124 (dk_at dksJ0_bitCount_0 3 rfl rfl)
theorem dJ0_bitCount_4 : decode cJ0_bitCount 4 = .ok (.ldc_w 265, 3) := dk_19 1 9 (dk_at dksJ0_bitCount_0 4 rfl rfl)
theorem dJ0_bitCount_7 : decode cJ0_bitCount 7 = .ok (.iand, 1) := dk_126 (dk_at dksJ0_bitCount_0 7 rfl rfl)
theorem dJ0_bitCount_8 : decode cJ0_bitCount 8 = .ok (.isub, 1) := dk_100 (dk_at dksJ0_bitCount_0 8 rfl rfl)
theorem dJ0_bitCount_9 : decode cJ0_bitCount 9 = .ok (.istore_n 0, 1) := dk_59 (dk_at dksJ0_bitCount_0 9 rfl rfl)
theorem dJ0_bitCount_10 : decode cJ0_bitCount 10 = .ok (.iload_n 0, 1) := dk_26 (dk_at dksJ0_bitCount_0 10 rfl rfl)
theorem dJ0_bitCount_11 : decode cJ0_bitCount 11 = .ok (.ldc_w 266, 3) := dk_19 1 10 (dk_at dksJ0_bitCount_0 11 rfl rfl)
theorem dJ0_bitCount_14 : decode cJ0_bitCount 14 = .ok (.iand, 1) := dk_126 (dk_at dksJ0_bitCount_0 14 rfl rfl)
theorem dJ0_bitCount_15 : decode cJ0_bitCount 15 = .ok (.iload_n 0, 1) := dk_26 (dk_at dksJ0_bitCount_0 15 rfl rfl)
theorem dJ0_bitCount_16 : decode cJ0_bitCount 16 = .ok (.iconst 2, 1) := dk_5 (dk_at dksJ0_bitCount_0 16 rfl rfl)
theorem dJ0_bitCount_17 : decode cJ0_bitCount 17 = .ok (.iushr, 1) := dk_124 (dk_at dksJ0_bitCount_0 17 rfl rfl)
theorem dJ0_bitCount_18 : decode cJ0_bitCount 18 = .ok (.ldc_w 266, 3) := dk_19 1 10 (dk_at dksJ0_bitCount_0 18 rfl rfl)
theorem dJ0_bitCount_21 : decode cJ0_bitCount 21 = .ok (.iand, 1) := dk_126 (dk_at dksJ0_bitCount_0 21 rfl rfl)
theorem dJ0_bitCount_22 : decode cJ0_bitCount 22 = .ok (.iadd, 1) := dk_96 (dk_at dksJ0_bitCount_0 22 rfl rfl)
theorem dJ0_bitCount_23 : decode cJ0_bitCount 23 = .ok (.istore_n 0, 1) := dk_59 (dk_at dksJ0_bitCount_0 23 rfl rfl)
theorem dJ0_bitCount_24 : decode cJ0_bitCount 24 = .ok (.iload_n 0, 1) := dk_26 (dk_at dksJ0_bitCount_1 0 rfl rfl)
theorem dJ0_bitCount_25 : decode cJ0_bitCount 25 = .ok (.iload_n 0, 1) := dk_26 (dk_at dksJ0_bitCount_1 1 rfl rfl)
theorem dJ0_bitCount_26 : decode cJ0_bitCount 26 = .ok (.iconst 4, 1) := dk_7 (dk_at dksJ0_bitCount_1 2 rfl rfl)
theorem dJ0_bitCount_27 : decode cJ0_bitCount 27 = .ok (.iushr, 1) := dk_124 (dk_at dksJ0_bitCount_1 3 rfl rfl)
theorem dJ0_bitCount_28 : decode cJ0_bitCount 28 = .ok (.iadd, 1) := dk_96 (dk_at dksJ0_bitCount_1 4 rfl rfl)
theorem dJ0_bitCount_29 : decode cJ0_bitCount 29 = .ok (.ldc_w 267, 3) := dk_19 1 11 (dk_at dksJ0_bitCount_1 5 rfl rfl)
theorem dJ0_bitCount_32 : decode cJ0_bitCount 32 = .ok (.iand, 1) := dk_126 (dk_at dksJ0_bitCount_1 8 rfl rfl)
theorem dJ0_bitCount_33 : decode cJ0_bitCount 33 = .ok (.istore_n 0, 1) := dk_59 (dk_at dksJ0_bitCount_1 9 rfl rfl)
theorem dJ0_bitCount_34 : decode cJ0_bitCount 34 = .ok (.iload_n 0, 1) := dk_26 (dk_at dksJ0_bitCount_1 10 rfl rfl)
theorem dJ0_bitCount_35 : decode cJ0_bitCount 35 = .ok (.iload_n 0, 1) := dk_26 (dk_at dksJ0_bitCount_1 11 rfl rfl)
theorem dJ0_bitCount_36 : decode cJ0_bitCount 36 = .ok (.bipush 8, 2) := dk_16 8 (dk_at dksJ0_bitCount_1 12 rfl rfl)
theorem dJ0_bitCount_38 : decode cJ0_bitCount 38 = .ok (.iushr, 1) := dk_124 (dk_at dksJ0_bitCount_1 14 rfl rfl)
theorem dJ0_bitCount_39 : decode cJ0_bitCount 39 = .ok (.iadd, 1) := dk_96 (dk_at dksJ0_bitCount_1 15 rfl rfl)
theorem dJ0_bitCount_40 : decode cJ0_bitCount 40 = .ok (.istore_n 0, 1) := dk_59 (dk_at dksJ0_bitCount_1 16 rfl rfl)
theorem dJ0_bitCount_41 : decode cJ0_bitCount 41 = .ok (.iload_n 0, 1) := dk_26 (dk_at dksJ0_bitCount_1 17 rfl rfl)
theorem dJ0_bitCount_42 : decode cJ0_bitCount 42 = .ok (.iload_n 0, 1) := dk_26 (dk_at dksJ0_bitCount_1 18 rfl rfl)
theorem dJ0_bitCount_43 : decode cJ0_bitCount 43 = .ok (.bipush 16, 2) := dk_16 16 (dk_at dksJ0_bitCount_1 19 rfl rfl)
theorem dJ0_bitCount_45 : decode cJ0_bitCount 45 = .ok (.iushr, 1) := dk_124 (dk_at dksJ0_bitCount_1 21 rfl rfl)
theorem dJ0_bitCount_46 : decode cJ0_bitCount 46 = .ok (.iadd, 1) := dk_96 (dk_at dksJ0_bitCount_1 22 rfl rfl)
theorem dJ0_bitCount_47 : decode cJ0_bitCount 47 = .ok (.istore_n 0, 1) := dk_59 (dk_at dksJ0_bitCount_1 23 rfl rfl)
theorem dJ0_bitCount_48 : decode cJ0_bitCount 48 = .ok (.iload_n 0, 1) := dk_26 (dk_at dksJ0_bitCount_2 0 rfl rfl)
theorem dJ0_bitCount_49 : decode cJ0_bitCount 49 = .ok (.bipush 63, 2) := dk_16 63 (dk_at dksJ0_bitCount_2 1 rfl rfl)
theorem dJ0_bitCount_51 : decode cJ0_bitCount 51 = .ok (.iand, 1) := dk_126 (dk_at dksJ0_bitCount_2 3 rfl rfl)
theorem dJ0_bitCount_52 : decode cJ0_bitCount 52 = .ok (.ireturn, 1) := dk_172 (dk_at dksJ0_bitCount_2 4 rfl rfl)
abbrev cJ0_numberOfTrailingZeros : ByteArray := prog_5_method_48_code
def yJ0_numberOfTrailingZeros : MethodName := ⟨RJ0, "numberOfTrailingZeros", "(I)I"⟩
def dkwJ0_numberOfTrailingZeros_3 : List UInt8 := [5, 124, 59, 27, 26, 4, 124, 96, 172]
abbrev dktJ0_numberOfTrailingZeros_3 : List UInt8 := dkwJ0_numberOfTrailingZeros_3 ++ []
def dkwJ0_numberOfTrailingZeros_2 : List UInt8 := [124, 59, 26, 16, 16, 164, 0, 10, 132, 1, 4, 26, 7, 124, 59, 26, 7, 164, 0, 10, 132, 1, 2, 26]
abbrev dktJ0_numberOfTrailingZeros_2 : List UInt8 := dkwJ0_numberOfTrailingZeros_2 ++ dktJ0_numberOfTrailingZeros_3
def dkwJ0_numberOfTrailingZeros_1 : List UInt8 := [164, 0, 11, 132, 1, 16, 26, 16, 16, 124, 59, 26, 17, 1, 0, 164, 0, 11, 132, 1, 8, 26, 16, 8]
abbrev dktJ0_numberOfTrailingZeros_1 : List UInt8 := dkwJ0_numberOfTrailingZeros_1 ++ dktJ0_numberOfTrailingZeros_2
def dkwJ0_numberOfTrailingZeros_0 : List UInt8 := [26, 2, 130, 26, 4, 100, 126, 59, 26, 157, 0, 8, 26, 16, 32, 126, 172, 4, 60, 26, 19, 1, 8]
abbrev dktJ0_numberOfTrailingZeros_0 : List UInt8 := dkwJ0_numberOfTrailingZeros_0 ++ dktJ0_numberOfTrailingZeros_1
theorem dksJ0_numberOfTrailingZeros_0 : cJ0_numberOfTrailingZeros.data.toList.drop 0 = dktJ0_numberOfTrailingZeros_0 := by decide +kernel
theorem dksJ0_numberOfTrailingZeros_1 : cJ0_numberOfTrailingZeros.data.toList.drop 23 = dktJ0_numberOfTrailingZeros_1 := dk_seg dksJ0_numberOfTrailingZeros_0 23 rfl rfl
theorem dksJ0_numberOfTrailingZeros_2 : cJ0_numberOfTrailingZeros.data.toList.drop 47 = dktJ0_numberOfTrailingZeros_2 := dk_seg dksJ0_numberOfTrailingZeros_1 24 rfl rfl
theorem dksJ0_numberOfTrailingZeros_3 : cJ0_numberOfTrailingZeros.data.toList.drop 71 = dktJ0_numberOfTrailingZeros_3 := dk_seg dksJ0_numberOfTrailingZeros_2 24 rfl rfl
theorem dJ0_numberOfTrailingZeros_0 : decode cJ0_numberOfTrailingZeros 0 = .ok (.iload_n 0, 1) := dk_26 (dk_at dksJ0_numberOfTrailingZeros_0 0 rfl rfl)
theorem dJ0_numberOfTrailingZeros_1 : decode cJ0_numberOfTrailingZeros 1 = .ok (.iconst (-1), 1) := dk_2 (dk_at dksJ0_numberOfTrailingZeros_0 1 rfl rfl)
theorem dJ0_numberOfTrailingZeros_2 : decode cJ0_numberOfTrailingZeros 2 = .ok (.ixor, 1) := dk_130 (dk_at dksJ0_numberOfTrailingZeros_0 2 rfl rfl)
theorem dJ0_numberOfTrailingZeros_3 : decode cJ0_numberOfTrailingZeros 3 = .ok (.iload_n 0, 1) := dk_26 (dk_at dksJ0_numberOfTrailingZeros_0 3 rfl rfl)
theorem dJ0_numberOfTrailingZeros_4 : decode cJ0_numberOfTrailingZeros 4 = .ok (.iconst 1, 1) := dk_4 (dk_at dksJ0_numberOfTrailingZeros_0 4 rfl rfl)
theorem dJ0_numberOfTrailingZeros_5 : decode cJ0_numberOfTrailingZeros 5 = .ok (.isub, 1) := dk_100 (dk_at dksJ0_numberOfTrailingZeros_0 5 rfl rfl)
theorem dJ0_numberOfTrailingZeros_6 : decode cJ0_numberOfTrailingZeros 6 = .ok (.iand, 1) := dk_126 (dk_at dksJ0_numberOfTrailingZeros_0 6 rfl rfl)
theorem dJ0_numberOfTrailingZeros_7 : decode cJ0_numberOfTrailingZeros 7 = .ok (.istore_n 0, 1) := dk_59 (dk_at dksJ0_numberOfTrailingZeros_0 7 rfl rfl)
theorem dJ0_numberOfTrailingZeros_8 : decode cJ0_numberOfTrailingZeros 8 = .ok (.iload_n 0, 1) := dk_26 (dk_at dksJ0_numberOfTrailingZeros_0 8 rfl rfl)
theorem dJ0_numberOfTrailingZeros_9 : decode cJ0_numberOfTrailingZeros 9 = .ok (.ifCond .gt 8, 3) := dk_157 0 8 (dk_at dksJ0_numberOfTrailingZeros_0 9 rfl rfl)
theorem dJ0_numberOfTrailingZeros_12 : decode cJ0_numberOfTrailingZeros 12 = .ok (.iload_n 0, 1) := dk_26 (dk_at dksJ0_numberOfTrailingZeros_0 12 rfl rfl)
theorem dJ0_numberOfTrailingZeros_13 : decode cJ0_numberOfTrailingZeros 13 = .ok (.bipush 32, 2) := dk_16 32 (dk_at dksJ0_numberOfTrailingZeros_0 13 rfl rfl)
theorem dJ0_numberOfTrailingZeros_15 : decode cJ0_numberOfTrailingZeros 15 = .ok (.iand, 1) := dk_126 (dk_at dksJ0_numberOfTrailingZeros_0 15 rfl rfl)
theorem dJ0_numberOfTrailingZeros_16 : decode cJ0_numberOfTrailingZeros 16 = .ok (.ireturn, 1) := dk_172 (dk_at dksJ0_numberOfTrailingZeros_0 16 rfl rfl)
theorem dJ0_numberOfTrailingZeros_17 : decode cJ0_numberOfTrailingZeros 17 = .ok (.iconst 1, 1) := dk_4 (dk_at dksJ0_numberOfTrailingZeros_0 17 rfl rfl)
theorem dJ0_numberOfTrailingZeros_18 : decode cJ0_numberOfTrailingZeros 18 = .ok (.istore_n 1, 1) := dk_60 (dk_at dksJ0_numberOfTrailingZeros_0 18 rfl rfl)
theorem dJ0_numberOfTrailingZeros_19 : decode cJ0_numberOfTrailingZeros 19 = .ok (.iload_n 0, 1) := dk_26 (dk_at dksJ0_numberOfTrailingZeros_0 19 rfl rfl)
theorem dJ0_numberOfTrailingZeros_20 : decode cJ0_numberOfTrailingZeros 20 = .ok (.ldc_w 264, 3) := dk_19 1 8 (dk_at dksJ0_numberOfTrailingZeros_0 20 rfl rfl)
theorem dJ0_numberOfTrailingZeros_23 : decode cJ0_numberOfTrailingZeros 23 = .ok (.if_icmp .le 11, 3) := dk_164 0 11 (dk_at dksJ0_numberOfTrailingZeros_1 0 rfl rfl)
theorem dJ0_numberOfTrailingZeros_26 : decode cJ0_numberOfTrailingZeros 26 = .ok (.iinc 1 16, 3) := dk_132 1 16 (dk_at dksJ0_numberOfTrailingZeros_1 3 rfl rfl)
theorem dJ0_numberOfTrailingZeros_29 : decode cJ0_numberOfTrailingZeros 29 = .ok (.iload_n 0, 1) := dk_26 (dk_at dksJ0_numberOfTrailingZeros_1 6 rfl rfl)
theorem dJ0_numberOfTrailingZeros_30 : decode cJ0_numberOfTrailingZeros 30 = .ok (.bipush 16, 2) := dk_16 16 (dk_at dksJ0_numberOfTrailingZeros_1 7 rfl rfl)
theorem dJ0_numberOfTrailingZeros_32 : decode cJ0_numberOfTrailingZeros 32 = .ok (.iushr, 1) := dk_124 (dk_at dksJ0_numberOfTrailingZeros_1 9 rfl rfl)
theorem dJ0_numberOfTrailingZeros_33 : decode cJ0_numberOfTrailingZeros 33 = .ok (.istore_n 0, 1) := dk_59 (dk_at dksJ0_numberOfTrailingZeros_1 10 rfl rfl)
theorem dJ0_numberOfTrailingZeros_34 : decode cJ0_numberOfTrailingZeros 34 = .ok (.iload_n 0, 1) := dk_26 (dk_at dksJ0_numberOfTrailingZeros_1 11 rfl rfl)
theorem dJ0_numberOfTrailingZeros_35 : decode cJ0_numberOfTrailingZeros 35 = .ok (.sipush 256, 3) := dk_17 1 0 (dk_at dksJ0_numberOfTrailingZeros_1 12 rfl rfl)
theorem dJ0_numberOfTrailingZeros_38 : decode cJ0_numberOfTrailingZeros 38 = .ok (.if_icmp .le 11, 3) := dk_164 0 11 (dk_at dksJ0_numberOfTrailingZeros_1 15 rfl rfl)
theorem dJ0_numberOfTrailingZeros_41 : decode cJ0_numberOfTrailingZeros 41 = .ok (.iinc 1 8, 3) := dk_132 1 8 (dk_at dksJ0_numberOfTrailingZeros_1 18 rfl rfl)
theorem dJ0_numberOfTrailingZeros_44 : decode cJ0_numberOfTrailingZeros 44 = .ok (.iload_n 0, 1) := dk_26 (dk_at dksJ0_numberOfTrailingZeros_1 21 rfl rfl)
theorem dJ0_numberOfTrailingZeros_45 : decode cJ0_numberOfTrailingZeros 45 = .ok (.bipush 8, 2) := dk_16 8 (dk_at dksJ0_numberOfTrailingZeros_1 22 rfl rfl)
theorem dJ0_numberOfTrailingZeros_47 : decode cJ0_numberOfTrailingZeros 47 = .ok (.iushr, 1) := dk_124 (dk_at dksJ0_numberOfTrailingZeros_2 0 rfl rfl)
theorem dJ0_numberOfTrailingZeros_48 : decode cJ0_numberOfTrailingZeros 48 = .ok (.istore_n 0, 1) := dk_59 (dk_at dksJ0_numberOfTrailingZeros_2 1 rfl rfl)
theorem dJ0_numberOfTrailingZeros_49 : decode cJ0_numberOfTrailingZeros 49 = .ok (.iload_n 0, 1) := dk_26 (dk_at dksJ0_numberOfTrailingZeros_2 2 rfl rfl)
theorem dJ0_numberOfTrailingZeros_50 : decode cJ0_numberOfTrailingZeros 50 = .ok (.bipush 16, 2) := dk_16 16 (dk_at dksJ0_numberOfTrailingZeros_2 3 rfl rfl)
theorem dJ0_numberOfTrailingZeros_52 : decode cJ0_numberOfTrailingZeros 52 = .ok (.if_icmp .le 10, 3) := dk_164 0 10 (dk_at dksJ0_numberOfTrailingZeros_2 5 rfl rfl)
theorem dJ0_numberOfTrailingZeros_55 : decode cJ0_numberOfTrailingZeros 55 = .ok (.iinc 1 4, 3) := dk_132 1 4 (dk_at dksJ0_numberOfTrailingZeros_2 8 rfl rfl)
theorem dJ0_numberOfTrailingZeros_58 : decode cJ0_numberOfTrailingZeros 58 = .ok (.iload_n 0, 1) := dk_26 (dk_at dksJ0_numberOfTrailingZeros_2 11 rfl rfl)
theorem dJ0_numberOfTrailingZeros_59 : decode cJ0_numberOfTrailingZeros 59 = .ok (.iconst 4, 1) := dk_7 (dk_at dksJ0_numberOfTrailingZeros_2 12 rfl rfl)
theorem dJ0_numberOfTrailingZeros_60 : decode cJ0_numberOfTrailingZeros 60 = .ok (.iushr, 1) := dk_124 (dk_at dksJ0_numberOfTrailingZeros_2 13 rfl rfl)
theorem dJ0_numberOfTrailingZeros_61 : decode cJ0_numberOfTrailingZeros 61 = .ok (.istore_n 0, 1) := dk_59 (dk_at dksJ0_numberOfTrailingZeros_2 14 rfl rfl)
theorem dJ0_numberOfTrailingZeros_62 : decode cJ0_numberOfTrailingZeros 62 = .ok (.iload_n 0, 1) := dk_26 (dk_at dksJ0_numberOfTrailingZeros_2 15 rfl rfl)
theorem dJ0_numberOfTrailingZeros_63 : decode cJ0_numberOfTrailingZeros 63 = .ok (.iconst 4, 1) := dk_7 (dk_at dksJ0_numberOfTrailingZeros_2 16 rfl rfl)
theorem dJ0_numberOfTrailingZeros_64 : decode cJ0_numberOfTrailingZeros 64 = .ok (.if_icmp .le 10, 3) := dk_164 0 10 (dk_at dksJ0_numberOfTrailingZeros_2 17 rfl rfl)
theorem dJ0_numberOfTrailingZeros_67 : decode cJ0_numberOfTrailingZeros 67 = .ok (.iinc 1 2, 3) := dk_132 1 2 (dk_at dksJ0_numberOfTrailingZeros_2 20 rfl rfl)
theorem dJ0_numberOfTrailingZeros_70 : decode cJ0_numberOfTrailingZeros 70 = .ok (.iload_n 0, 1) := dk_26 (dk_at dksJ0_numberOfTrailingZeros_2 23 rfl rfl)
theorem dJ0_numberOfTrailingZeros_71 : decode cJ0_numberOfTrailingZeros 71 = .ok (.iconst 2, 1) := dk_5 (dk_at dksJ0_numberOfTrailingZeros_3 0 rfl rfl)
theorem dJ0_numberOfTrailingZeros_72 : decode cJ0_numberOfTrailingZeros 72 = .ok (.iushr, 1) := dk_124 (dk_at dksJ0_numberOfTrailingZeros_3 1 rfl rfl)
theorem dJ0_numberOfTrailingZeros_73 : decode cJ0_numberOfTrailingZeros 73 = .ok (.istore_n 0, 1) := dk_59 (dk_at dksJ0_numberOfTrailingZeros_3 2 rfl rfl)
theorem dJ0_numberOfTrailingZeros_74 : decode cJ0_numberOfTrailingZeros 74 = .ok (.iload_n 1, 1) := dk_27 (dk_at dksJ0_numberOfTrailingZeros_3 3 rfl rfl)
theorem dJ0_numberOfTrailingZeros_75 : decode cJ0_numberOfTrailingZeros 75 = .ok (.iload_n 0, 1) := dk_26 (dk_at dksJ0_numberOfTrailingZeros_3 4 rfl rfl)
theorem dJ0_numberOfTrailingZeros_76 : decode cJ0_numberOfTrailingZeros 76 = .ok (.iconst 1, 1) := dk_4 (dk_at dksJ0_numberOfTrailingZeros_3 5 rfl rfl)
theorem dJ0_numberOfTrailingZeros_77 : decode cJ0_numberOfTrailingZeros 77 = .ok (.iushr, 1) := dk_124 (dk_at dksJ0_numberOfTrailingZeros_3 6 rfl rfl)
theorem dJ0_numberOfTrailingZeros_78 : decode cJ0_numberOfTrailingZeros 78 = .ok (.iadd, 1) := dk_96 (dk_at dksJ0_numberOfTrailingZeros_3 7 rfl rfl)
theorem dJ0_numberOfTrailingZeros_79 : decode cJ0_numberOfTrailingZeros 79 = .ok (.ireturn, 1) := dk_172 (dk_at dksJ0_numberOfTrailingZeros_3 8 rfl rfl)
theorem q54 : (Jvm.Cond.initialized "java/lang/Integer") ∈ lw_all := lw_g (lw_at lw_m1 4 rfl) rfl
theorem q215 : (Jvm.Cond.static ({ cls := "java/lang/Integer", name := "bitCount", desc := "(I)I" } : Jvm.MethodName)) ∈ lw_all := lw_g (lw_at lw_m1 165 rfl) rfl
theorem q216 : (Jvm.Cond.code ({ cls := "java/lang/Integer", name := "bitCount", desc := "(I)I" } : Jvm.MethodName) prog_5_method_49_code (1 : Nat) (Option.some Jvm.ClassFile.FieldType.int)) ∈ lw_all := lw_g (lw_at lw_m1 166 rfl) rfl
theorem q217 : (Jvm.Cond.constant "java/lang/Integer" (265 : Nat) (1431655765 : Int32)) ∈ lw_all := lw_g (lw_at lw_m1 167 rfl) rfl
theorem q218 : (Jvm.Cond.constant "java/lang/Integer" (266 : Nat) (858993459 : Int32)) ∈ lw_all := lw_g (lw_at lw_m1 168 rfl) rfl
theorem q219 : (Jvm.Cond.constant "java/lang/Integer" (267 : Nat) (252645135 : Int32)) ∈ lw_all := lw_g (lw_at lw_m1 169 rfl) rfl
theorem q373 : (Jvm.Cond.static ({ cls := "java/lang/Integer", name := "numberOfTrailingZeros", desc := "(I)I" } : Jvm.MethodName)) ∈ lw_all := lw_g (lw_at lw_m2 83 rfl) rfl
theorem q374 : (Jvm.Cond.code ({ cls := "java/lang/Integer", name := "numberOfTrailingZeros", desc := "(I)I" } : Jvm.MethodName) prog_5_method_48_code (2 : Nat) (Option.some Jvm.ClassFile.FieldType.int)) ∈ lw_all := lw_g (lw_at lw_m2 84 rfl) rfl
theorem q375 : (Jvm.Cond.constant "java/lang/Integer" (264 : Nat) (65536 : Int32)) ∈ lw_all := lw_g (lw_at lw_m2 85 rfl) rfl
/-! java/lang/Math -/
set_option maxRecDepth 100000
def RJ1 : String := "java/lang/Math"
abbrev cJ1_abs : ByteArray := prog_6_method_59_code
def yJ1_abs : MethodName := ⟨RJ1, "abs", "(I)I"⟩
def dkwJ1_abs_0 : List UInt8 := [26, 156, 0, 8, 26, 116, 167, 0, 4, 26, 172]
abbrev dktJ1_abs_0 : List UInt8 := dkwJ1_abs_0 ++ []
theorem dksJ1_abs_0 : cJ1_abs.data.toList.drop 0 = dktJ1_abs_0 := by decide +kernel
theorem dJ1_abs_0 : decode cJ1_abs 0 = .ok (.iload_n 0, 1) := dk_26 (dk_at dksJ1_abs_0 0 rfl rfl)
theorem dJ1_abs_1 : decode cJ1_abs 1 = .ok (.ifCond .ge 8, 3) := dk_156 0 8 (dk_at dksJ1_abs_0 1 rfl rfl)
theorem dJ1_abs_4 : decode cJ1_abs 4 = .ok (.iload_n 0, 1) := dk_26 (dk_at dksJ1_abs_0 4 rfl rfl)
theorem dJ1_abs_5 : decode cJ1_abs 5 = .ok (.ineg, 1) := dk_116 (dk_at dksJ1_abs_0 5 rfl rfl)
theorem dJ1_abs_6 : decode cJ1_abs 6 = .ok (.goto 4, 3) := dk_167 0 4 (dk_at dksJ1_abs_0 6 rfl rfl)
theorem dJ1_abs_9 : decode cJ1_abs 9 = .ok (.iload_n 0, 1) := dk_26 (dk_at dksJ1_abs_0 9 rfl rfl)
theorem dJ1_abs_10 : decode cJ1_abs 10 = .ok (.ireturn, 1) := dk_172 (dk_at dksJ1_abs_0 10 rfl rfl)
abbrev cJ1_max : ByteArray := prog_6_method_65_code
def yJ1_max : MethodName := ⟨RJ1, "max", "(II)I"⟩
def dkwJ1_max_0 : List UInt8 := [26, 27, 161, 0, 7, 26, 167, 0, 4, 27, 172]
abbrev dktJ1_max_0 : List UInt8 := dkwJ1_max_0 ++ []
theorem dksJ1_max_0 : cJ1_max.data.toList.drop 0 = dktJ1_max_0 := by decide +kernel
theorem dJ1_max_0 : decode cJ1_max 0 = .ok (.iload_n 0, 1) := dk_26 (dk_at dksJ1_max_0 0 rfl rfl)
theorem dJ1_max_1 : decode cJ1_max 1 = .ok (.iload_n 1, 1) := dk_27 (dk_at dksJ1_max_0 1 rfl rfl)
theorem dJ1_max_2 : decode cJ1_max 2 = .ok (.if_icmp .lt 7, 3) := dk_161 0 7 (dk_at dksJ1_max_0 2 rfl rfl)
theorem dJ1_max_5 : decode cJ1_max 5 = .ok (.iload_n 0, 1) := dk_26 (dk_at dksJ1_max_0 5 rfl rfl)
theorem dJ1_max_6 : decode cJ1_max 6 = .ok (.goto 4, 3) := dk_167 0 4 (dk_at dksJ1_max_0 6 rfl rfl)
theorem dJ1_max_9 : decode cJ1_max 9 = .ok (.iload_n 1, 1) := dk_27 (dk_at dksJ1_max_0 9 rfl rfl)
theorem dJ1_max_10 : decode cJ1_max 10 = .ok (.ireturn, 1) := dk_172 (dk_at dksJ1_max_0 10 rfl rfl)
abbrev cJ1_min : ByteArray := prog_6_method_69_code
def yJ1_min : MethodName := ⟨RJ1, "min", "(II)I"⟩
def dkwJ1_min_0 : List UInt8 := [26, 27, 163, 0, 7, 26, 167, 0, 4, 27, 172]
abbrev dktJ1_min_0 : List UInt8 := dkwJ1_min_0 ++ []
theorem dksJ1_min_0 : cJ1_min.data.toList.drop 0 = dktJ1_min_0 := by decide +kernel
theorem dJ1_min_0 : decode cJ1_min 0 = .ok (.iload_n 0, 1) := dk_26 (dk_at dksJ1_min_0 0 rfl rfl)
theorem dJ1_min_1 : decode cJ1_min 1 = .ok (.iload_n 1, 1) := dk_27 (dk_at dksJ1_min_0 1 rfl rfl)
theorem dJ1_min_2 : decode cJ1_min 2 = .ok (.if_icmp .gt 7, 3) := dk_163 0 7 (dk_at dksJ1_min_0 2 rfl rfl)
theorem dJ1_min_5 : decode cJ1_min 5 = .ok (.iload_n 0, 1) := dk_26 (dk_at dksJ1_min_0 5 rfl rfl)
theorem dJ1_min_6 : decode cJ1_min 6 = .ok (.goto 4, 3) := dk_167 0 4 (dk_at dksJ1_min_0 6 rfl rfl)
theorem dJ1_min_9 : decode cJ1_min 9 = .ok (.iload_n 1, 1) := dk_27 (dk_at dksJ1_min_0 9 rfl rfl)
theorem dJ1_min_10 : decode cJ1_min 10 = .ok (.ireturn, 1) := dk_172 (dk_at dksJ1_min_0 10 rfl rfl)
theorem q56 : (Jvm.Cond.initialized "java/lang/Math") ∈ lw_all := lw_g (lw_at lw_m1 6 rfl) rfl
theorem q346 : (Jvm.Cond.static ({ cls := "java/lang/Math", name := "abs", desc := "(I)I" } : Jvm.MethodName)) ∈ lw_all := lw_g (lw_at lw_m2 56 rfl) rfl
theorem q347 : (Jvm.Cond.code ({ cls := "java/lang/Math", name := "abs", desc := "(I)I" } : Jvm.MethodName) prog_6_method_59_code (1 : Nat) (Option.some Jvm.ClassFile.FieldType.int)) ∈ lw_all := lw_g (lw_at lw_m2 57 rfl) rfl
theorem q351 : (Jvm.Cond.static ({ cls := "java/lang/Math", name := "max", desc := "(II)I" } : Jvm.MethodName)) ∈ lw_all := lw_g (lw_at lw_m2 61 rfl) rfl
theorem q352 : (Jvm.Cond.code ({ cls := "java/lang/Math", name := "max", desc := "(II)I" } : Jvm.MethodName) prog_6_method_65_code (2 : Nat) (Option.some Jvm.ClassFile.FieldType.int)) ∈ lw_all := lw_g (lw_at lw_m2 62 rfl) rfl
theorem q370 : (Jvm.Cond.static ({ cls := "java/lang/Math", name := "min", desc := "(II)I" } : Jvm.MethodName)) ∈ lw_all := lw_g (lw_at lw_m2 80 rfl) rfl
theorem q371 : (Jvm.Cond.code ({ cls := "java/lang/Math", name := "min", desc := "(II)I" } : Jvm.MethodName) prog_6_method_69_code (2 : Nat) (Option.some Jvm.ClassFile.FieldType.int)) ∈ lw_all := lw_g (lw_at lw_m2 81 rfl) rfl
/-! java/lang/Object -/
set_option maxRecDepth 100000
def RJ2 : String := "java/lang/Object"
abbrev cJ2_init : ByteArray := object_method_1_code
def yJ2_init : MethodName := ⟨RJ2, "<init>", "()V"⟩
theorem dJ2_init_0 : decode cJ2_init 0 = .ok (.return_, 1) := by decide +kernel
theorem q63 : (Jvm.Cond.instanceMethod ({ cls := "java/lang/Object", name := "<init>", desc := "()V" } : Jvm.MethodName)) ∈ lw_all := lw_g (lw_at lw_m1 13 rfl) rfl
theorem q64 : (Jvm.Cond.code ({ cls := "java/lang/Object", name := "<init>", desc := "()V" } : Jvm.MethodName) object_method_1_code (1 : Nat) (Option.none : Option Jvm.ClassFile.FieldType)) ∈ lw_all := lw_g (lw_at lw_m1 14 rfl) rfl
theorem q142 : (Jvm.Cond.arrayClass Jvm.ClassFile.FieldType.int) ∈ lw_all := lw_g (lw_at lw_m1 92 rfl) rfl
set_option maxRecDepth 100000
theorem q143 : (Jvm.Cond.arrayOver (Jvm.ClassFile.FieldType.object "SongLamps$Mine")) ∈ lw_tbl := lw_at lw_m1 93 rfl
theorem q199 : (Jvm.Cond.arrayClass Jvm.ClassFile.FieldType.char) ∈ lw_all := lw_g (lw_at lw_m1 149 rfl) rfl
theorem q646 : (Jvm.Cond.arrayClass Jvm.ClassFile.FieldType.boolean) ∈ lw_all := lw_g (lw_at lw_m3 116 rfl) rfl
theorem q55 : (Jvm.Cond.initialized "java/lang/System") ∈ lw_all := lw_g (lw_at lw_m1 5 rfl) rfl
set_option maxRecDepth 100000
theorem q306 : (Jvm.Cond.static ({ cls := "java/lang/System", name := "arraycopy", desc := "(Ljava/lang/Object;ILjava/lang/Object;II)V" } : Jvm.MethodName)) ∈ lw_all := lw_g (lw_at lw_m2 16 rfl) rfl
theorem q307 : (Jvm.Cond.native ({ cls := "java/lang/System", name := "arraycopy", desc := "(Ljava/lang/Object;ILjava/lang/Object;II)V" } : Jvm.MethodName)) ∈ lw_all := lw_g (lw_at lw_m2 17 rfl) rfl
