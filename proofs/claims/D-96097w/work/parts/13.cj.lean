set_option maxRecDepth 100000
theorem kc_b_16 : (Int8.ofInt 16).toInt32 = 16 := by decide +kernel
theorem kc_b_63 : (Int8.ofInt 63).toInt32 = 63 := by decide +kernel
theorem kc_i_8 : Int32.ofInt 8 = 8 := by decide +kernel
theorem kc_i_16 : Int32.ofInt 16 = 16 := by decide +kernel
theorem kc_s_256 : (Int16.ofInt 256).toInt32 = 256 := by decide +kernel
abbrev cJ14_bitCount : ByteArray := prog_33_method_49_code
def yJ14_bitCount : MethodName := ⟨RJ14, "bitCount", "(I)I"⟩
def dkwJ14_bitCount_2 : List UInt8 := [26, 16, 63, 126, 172]
abbrev dktJ14_bitCount_2 : List UInt8 := dkwJ14_bitCount_2 ++ []
def dkwJ14_bitCount_1 : List UInt8 := [26, 26, 7, 124, 96, 19, 1, 11, 126, 59, 26, 26, 16, 8, 124, 96, 59, 26, 26, 16, 16, 124, 96, 59]
abbrev dktJ14_bitCount_1 : List UInt8 := dkwJ14_bitCount_1 ++ dktJ14_bitCount_2
def dkwJ14_bitCount_0 : List UInt8 := [26, 26, 4, 124, 19, 1, 9, 126, 100, 59, 26, 19, 1, 10, 126, 26, 5, 124, 19, 1, 10, 126, 96, 59]
abbrev dktJ14_bitCount_0 : List UInt8 := dkwJ14_bitCount_0 ++ dktJ14_bitCount_1
theorem dksJ14_bitCount_0 : cJ14_bitCount.data.toList.drop 0 = dktJ14_bitCount_0 := by decide +kernel
theorem dksJ14_bitCount_1 : cJ14_bitCount.data.toList.drop 24 = dktJ14_bitCount_1 := dk_seg dksJ14_bitCount_0 24 rfl rfl
theorem dksJ14_bitCount_2 : cJ14_bitCount.data.toList.drop 48 = dktJ14_bitCount_2 := dk_seg dksJ14_bitCount_1 24 rfl rfl
theorem dJ14_bitCount_0 : decode cJ14_bitCount 0 = .ok (.iload_n 0, 1) := dk_26 (dk_at dksJ14_bitCount_0 0 rfl rfl)
theorem dJ14_bitCount_1 : decode cJ14_bitCount 1 = .ok (.iload_n 0, 1) := dk_26 (dk_at dksJ14_bitCount_0 1 rfl rfl)
theorem dJ14_bitCount_2 : decode cJ14_bitCount 2 = .ok (.iconst 1, 1) := dk_4 (dk_at dksJ14_bitCount_0 2 rfl rfl)
theorem dJ14_bitCount_3 : decode cJ14_bitCount 3 = .ok (.iushr, 1) := dk_124 (dk_at dksJ14_bitCount_0 3 rfl rfl)
theorem dJ14_bitCount_4 : decode cJ14_bitCount 4 = .ok (.ldc_w 265, 3) := dk_19 1 9 (dk_at dksJ14_bitCount_0 4 rfl rfl)
theorem dJ14_bitCount_7 : decode cJ14_bitCount 7 = .ok (.iand, 1) := dk_126 (dk_at dksJ14_bitCount_0 7 rfl rfl)
theorem dJ14_bitCount_8 : decode cJ14_bitCount 8 = .ok (.isub, 1) := dk_100 (dk_at dksJ14_bitCount_0 8 rfl rfl)
theorem dJ14_bitCount_9 : decode cJ14_bitCount 9 = .ok (.istore_n 0, 1) := dk_59 (dk_at dksJ14_bitCount_0 9 rfl rfl)
theorem dJ14_bitCount_10 : decode cJ14_bitCount 10 = .ok (.iload_n 0, 1) := dk_26 (dk_at dksJ14_bitCount_0 10 rfl rfl)
theorem dJ14_bitCount_11 : decode cJ14_bitCount 11 = .ok (.ldc_w 266, 3) := dk_19 1 10 (dk_at dksJ14_bitCount_0 11 rfl rfl)
theorem dJ14_bitCount_14 : decode cJ14_bitCount 14 = .ok (.iand, 1) := dk_126 (dk_at dksJ14_bitCount_0 14 rfl rfl)
theorem dJ14_bitCount_15 : decode cJ14_bitCount 15 = .ok (.iload_n 0, 1) := dk_26 (dk_at dksJ14_bitCount_0 15 rfl rfl)
theorem dJ14_bitCount_16 : decode cJ14_bitCount 16 = .ok (.iconst 2, 1) := dk_5 (dk_at dksJ14_bitCount_0 16 rfl rfl)
theorem dJ14_bitCount_17 : decode cJ14_bitCount 17 = .ok (.iushr, 1) := dk_124 (dk_at dksJ14_bitCount_0 17 rfl rfl)
theorem dJ14_bitCount_18 : decode cJ14_bitCount 18 = .ok (.ldc_w 266, 3) := dk_19 1 10 (dk_at dksJ14_bitCount_0 18 rfl rfl)
theorem dJ14_bitCount_21 : decode cJ14_bitCount 21 = .ok (.iand, 1) := dk_126 (dk_at dksJ14_bitCount_0 21 rfl rfl)
theorem dJ14_bitCount_22 : decode cJ14_bitCount 22 = .ok (.iadd, 1) := dk_96 (dk_at dksJ14_bitCount_0 22 rfl rfl)
theorem dJ14_bitCount_23 : decode cJ14_bitCount 23 = .ok (.istore_n 0, 1) := dk_59 (dk_at dksJ14_bitCount_0 23 rfl rfl)
theorem dJ14_bitCount_24 : decode cJ14_bitCount 24 = .ok (.iload_n 0, 1) := dk_26 (dk_at dksJ14_bitCount_1 0 rfl rfl)
theorem dJ14_bitCount_25 : decode cJ14_bitCount 25 = .ok (.iload_n 0, 1) := dk_26 (dk_at dksJ14_bitCount_1 1 rfl rfl)
theorem dJ14_bitCount_26 : decode cJ14_bitCount 26 = .ok (.iconst 4, 1) := dk_7 (dk_at dksJ14_bitCount_1 2 rfl rfl)
theorem dJ14_bitCount_27 : decode cJ14_bitCount 27 = .ok (.iushr, 1) := dk_124 (dk_at dksJ14_bitCount_1 3 rfl rfl)
theorem dJ14_bitCount_28 : decode cJ14_bitCount 28 = .ok (.iadd, 1) := dk_96 (dk_at dksJ14_bitCount_1 4 rfl rfl)
theorem dJ14_bitCount_29 : decode cJ14_bitCount 29 = .ok (.ldc_w 267, 3) := dk_19 1 11 (dk_at dksJ14_bitCount_1 5 rfl rfl)
theorem dJ14_bitCount_32 : decode cJ14_bitCount 32 = .ok (.iand, 1) := dk_126 (dk_at dksJ14_bitCount_1 8 rfl rfl)
theorem dJ14_bitCount_33 : decode cJ14_bitCount 33 = .ok (.istore_n 0, 1) := dk_59 (dk_at dksJ14_bitCount_1 9 rfl rfl)
theorem dJ14_bitCount_34 : decode cJ14_bitCount 34 = .ok (.iload_n 0, 1) := dk_26 (dk_at dksJ14_bitCount_1 10 rfl rfl)
theorem dJ14_bitCount_35 : decode cJ14_bitCount 35 = .ok (.iload_n 0, 1) := dk_26 (dk_at dksJ14_bitCount_1 11 rfl rfl)
theorem dJ14_bitCount_36 : decode cJ14_bitCount 36 = .ok (.bipush 8, 2) := dk_16 8 (dk_at dksJ14_bitCount_1 12 rfl rfl)
theorem dJ14_bitCount_38 : decode cJ14_bitCount 38 = .ok (.iushr, 1) := dk_124 (dk_at dksJ14_bitCount_1 14 rfl rfl)
theorem dJ14_bitCount_39 : decode cJ14_bitCount 39 = .ok (.iadd, 1) := dk_96 (dk_at dksJ14_bitCount_1 15 rfl rfl)
theorem dJ14_bitCount_40 : decode cJ14_bitCount 40 = .ok (.istore_n 0, 1) := dk_59 (dk_at dksJ14_bitCount_1 16 rfl rfl)
theorem dJ14_bitCount_41 : decode cJ14_bitCount 41 = .ok (.iload_n 0, 1) := dk_26 (dk_at dksJ14_bitCount_1 17 rfl rfl)
theorem dJ14_bitCount_42 : decode cJ14_bitCount 42 = .ok (.iload_n 0, 1) := dk_26 (dk_at dksJ14_bitCount_1 18 rfl rfl)
theorem dJ14_bitCount_43 : decode cJ14_bitCount 43 = .ok (.bipush 16, 2) := dk_16 16 (dk_at dksJ14_bitCount_1 19 rfl rfl)
theorem dJ14_bitCount_45 : decode cJ14_bitCount 45 = .ok (.iushr, 1) := dk_124 (dk_at dksJ14_bitCount_1 21 rfl rfl)
theorem dJ14_bitCount_46 : decode cJ14_bitCount 46 = .ok (.iadd, 1) := dk_96 (dk_at dksJ14_bitCount_1 22 rfl rfl)
theorem dJ14_bitCount_47 : decode cJ14_bitCount 47 = .ok (.istore_n 0, 1) := dk_59 (dk_at dksJ14_bitCount_1 23 rfl rfl)
theorem dJ14_bitCount_48 : decode cJ14_bitCount 48 = .ok (.iload_n 0, 1) := dk_26 (dk_at dksJ14_bitCount_2 0 rfl rfl)
theorem dJ14_bitCount_49 : decode cJ14_bitCount 49 = .ok (.bipush 63, 2) := dk_16 63 (dk_at dksJ14_bitCount_2 1 rfl rfl)
theorem dJ14_bitCount_51 : decode cJ14_bitCount 51 = .ok (.iand, 1) := dk_126 (dk_at dksJ14_bitCount_2 3 rfl rfl)
theorem dJ14_bitCount_52 : decode cJ14_bitCount 52 = .ok (.ireturn, 1) := dk_172 (dk_at dksJ14_bitCount_2 4 rfl rfl)
abbrev cJ14_numberOfTrailingZeros : ByteArray := prog_33_method_48_code
def yJ14_numberOfTrailingZeros : MethodName := ⟨RJ14, "numberOfTrailingZeros", "(I)I"⟩
def dkwJ14_numberOfTrailingZeros_3 : List UInt8 := [5, 124, 59, 27, 26, 4, 124, 96, 172]
abbrev dktJ14_numberOfTrailingZeros_3 : List UInt8 := dkwJ14_numberOfTrailingZeros_3 ++ []
def dkwJ14_numberOfTrailingZeros_2 : List UInt8 := [124, 59, 26, 16, 16, 164, 0, 10, 132, 1, 4, 26, 7, 124, 59, 26, 7, 164, 0, 10, 132, 1, 2, 26]
abbrev dktJ14_numberOfTrailingZeros_2 : List UInt8 := dkwJ14_numberOfTrailingZeros_2 ++ dktJ14_numberOfTrailingZeros_3
def dkwJ14_numberOfTrailingZeros_1 : List UInt8 := [164, 0, 11, 132, 1, 16, 26, 16, 16, 124, 59, 26, 17, 1, 0, 164, 0, 11, 132, 1, 8, 26, 16, 8]
abbrev dktJ14_numberOfTrailingZeros_1 : List UInt8 := dkwJ14_numberOfTrailingZeros_1 ++ dktJ14_numberOfTrailingZeros_2
def dkwJ14_numberOfTrailingZeros_0 : List UInt8 := [26, 2, 130, 26, 4, 100, 126, 59, 26, 157, 0, 8, 26, 16, 32, 126, 172, 4, 60, 26, 19, 1, 8]
abbrev dktJ14_numberOfTrailingZeros_0 : List UInt8 := dkwJ14_numberOfTrailingZeros_0 ++ dktJ14_numberOfTrailingZeros_1
theorem dksJ14_numberOfTrailingZeros_0 : cJ14_numberOfTrailingZeros.data.toList.drop 0 = dktJ14_numberOfTrailingZeros_0 := by decide +kernel
theorem dksJ14_numberOfTrailingZeros_1 : cJ14_numberOfTrailingZeros.data.toList.drop 23 = dktJ14_numberOfTrailingZeros_1 := dk_seg dksJ14_numberOfTrailingZeros_0 23 rfl rfl
theorem dksJ14_numberOfTrailingZeros_2 : cJ14_numberOfTrailingZeros.data.toList.drop 47 = dktJ14_numberOfTrailingZeros_2 := dk_seg dksJ14_numberOfTrailingZeros_1 24 rfl rfl
theorem dksJ14_numberOfTrailingZeros_3 : cJ14_numberOfTrailingZeros.data.toList.drop 71 = dktJ14_numberOfTrailingZeros_3 := dk_seg dksJ14_numberOfTrailingZeros_2 24 rfl rfl
theorem dJ14_numberOfTrailingZeros_0 : decode cJ14_numberOfTrailingZeros 0 = .ok (.iload_n 0, 1) := dk_26 (dk_at dksJ14_numberOfTrailingZeros_0 0 rfl rfl)
theorem dJ14_numberOfTrailingZeros_1 : decode cJ14_numberOfTrailingZeros 1 = .ok (.iconst (-1), 1) := dk_2 (dk_at dksJ14_numberOfTrailingZeros_0 1 rfl rfl)
theorem dJ14_numberOfTrailingZeros_2 : decode cJ14_numberOfTrailingZeros 2 = .ok (.ixor, 1) := dk_130 (dk_at dksJ14_numberOfTrailingZeros_0 2 rfl rfl)
theorem dJ14_numberOfTrailingZeros_3 : decode cJ14_numberOfTrailingZeros 3 = .ok (.iload_n 0, 1) := dk_26 (dk_at dksJ14_numberOfTrailingZeros_0 3 rfl rfl)
theorem dJ14_numberOfTrailingZeros_4 : decode cJ14_numberOfTrailingZeros 4 = .ok (.iconst 1, 1) := dk_4 (dk_at dksJ14_numberOfTrailingZeros_0 4 rfl rfl)
theorem dJ14_numberOfTrailingZeros_5 : decode cJ14_numberOfTrailingZeros 5 = .ok (.isub, 1) := dk_100 (dk_at dksJ14_numberOfTrailingZeros_0 5 rfl rfl)
theorem dJ14_numberOfTrailingZeros_6 : decode cJ14_numberOfTrailingZeros 6 = .ok (.iand, 1) := dk_126 (dk_at dksJ14_numberOfTrailingZeros_0 6 rfl rfl)
theorem dJ14_numberOfTrailingZeros_7 : decode cJ14_numberOfTrailingZeros 7 = .ok (.istore_n 0, 1) := dk_59 (dk_at dksJ14_numberOfTrailingZeros_0 7 rfl rfl)
theorem dJ14_numberOfTrailingZeros_8 : decode cJ14_numberOfTrailingZeros 8 = .ok (.iload_n 0, 1) := dk_26 (dk_at dksJ14_numberOfTrailingZeros_0 8 rfl rfl)
theorem dJ14_numberOfTrailingZeros_9 : decode cJ14_numberOfTrailingZeros 9 = .ok (.ifCond .gt 8, 3) := dk_157 0 8 (dk_at dksJ14_numberOfTrailingZeros_0 9 rfl rfl)
theorem dJ14_numberOfTrailingZeros_12 : decode cJ14_numberOfTrailingZeros 12 = .ok (.iload_n 0, 1) := dk_26 (dk_at dksJ14_numberOfTrailingZeros_0 12 rfl rfl)
theorem dJ14_numberOfTrailingZeros_13 : decode cJ14_numberOfTrailingZeros 13 = .ok (.bipush 32, 2) := dk_16 32 (dk_at dksJ14_numberOfTrailingZeros_0 13 rfl rfl)
theorem dJ14_numberOfTrailingZeros_15 : decode cJ14_numberOfTrailingZeros 15 = .ok (.iand, 1) := dk_126 (dk_at dksJ14_numberOfTrailingZeros_0 15 rfl rfl)
theorem dJ14_numberOfTrailingZeros_16 : decode cJ14_numberOfTrailingZeros 16 = .ok (.ireturn, 1) := dk_172 (dk_at dksJ14_numberOfTrailingZeros_0 16 rfl rfl)
theorem dJ14_numberOfTrailingZeros_17 : decode cJ14_numberOfTrailingZeros 17 = .ok (.iconst 1, 1) := dk_4 (dk_at dksJ14_numberOfTrailingZeros_0 17 rfl rfl)
theorem dJ14_numberOfTrailingZeros_18 : decode cJ14_numberOfTrailingZeros 18 = .ok (.istore_n 1, 1) := dk_60 (dk_at dksJ14_numberOfTrailingZeros_0 18 rfl rfl)
theorem dJ14_numberOfTrailingZeros_19 : decode cJ14_numberOfTrailingZeros 19 = .ok (.iload_n 0, 1) := dk_26 (dk_at dksJ14_numberOfTrailingZeros_0 19 rfl rfl)
theorem dJ14_numberOfTrailingZeros_20 : decode cJ14_numberOfTrailingZeros 20 = .ok (.ldc_w 264, 3) := dk_19 1 8 (dk_at dksJ14_numberOfTrailingZeros_0 20 rfl rfl)
theorem dJ14_numberOfTrailingZeros_23 : decode cJ14_numberOfTrailingZeros 23 = .ok (.if_icmp .le 11, 3) := dk_164 0 11 (dk_at dksJ14_numberOfTrailingZeros_1 0 rfl rfl)
theorem dJ14_numberOfTrailingZeros_26 : decode cJ14_numberOfTrailingZeros 26 = .ok (.iinc 1 16, 3) := dk_132 1 16 (dk_at dksJ14_numberOfTrailingZeros_1 3 rfl rfl)
theorem dJ14_numberOfTrailingZeros_29 : decode cJ14_numberOfTrailingZeros 29 = .ok (.iload_n 0, 1) := dk_26 (dk_at dksJ14_numberOfTrailingZeros_1 6 rfl rfl)
theorem dJ14_numberOfTrailingZeros_30 : decode cJ14_numberOfTrailingZeros 30 = .ok (.bipush 16, 2) := dk_16 16 (dk_at dksJ14_numberOfTrailingZeros_1 7 rfl rfl)
theorem dJ14_numberOfTrailingZeros_32 : decode cJ14_numberOfTrailingZeros 32 = .ok (.iushr, 1) := dk_124 (dk_at dksJ14_numberOfTrailingZeros_1 9 rfl rfl)
theorem dJ14_numberOfTrailingZeros_33 : decode cJ14_numberOfTrailingZeros 33 = .ok (.istore_n 0, 1) := dk_59 (dk_at dksJ14_numberOfTrailingZeros_1 10 rfl rfl)
theorem dJ14_numberOfTrailingZeros_34 : decode cJ14_numberOfTrailingZeros 34 = .ok (.iload_n 0, 1) := dk_26 (dk_at dksJ14_numberOfTrailingZeros_1 11 rfl rfl)
theorem dJ14_numberOfTrailingZeros_35 : decode cJ14_numberOfTrailingZeros 35 = .ok (.sipush 256, 3) := dk_17 1 0 (dk_at dksJ14_numberOfTrailingZeros_1 12 rfl rfl)
theorem dJ14_numberOfTrailingZeros_38 : decode cJ14_numberOfTrailingZeros 38 = .ok (.if_icmp .le 11, 3) := dk_164 0 11 (dk_at dksJ14_numberOfTrailingZeros_1 15 rfl rfl)
theorem dJ14_numberOfTrailingZeros_41 : decode cJ14_numberOfTrailingZeros 41 = .ok (.iinc 1 8, 3) := dk_132 1 8 (dk_at dksJ14_numberOfTrailingZeros_1 18 rfl rfl)
theorem dJ14_numberOfTrailingZeros_44 : decode cJ14_numberOfTrailingZeros 44 = .ok (.iload_n 0, 1) := dk_26 (dk_at dksJ14_numberOfTrailingZeros_1 21 rfl rfl)
theorem dJ14_numberOfTrailingZeros_45 : decode cJ14_numberOfTrailingZeros 45 = .ok (.bipush 8, 2) := dk_16 8 (dk_at dksJ14_numberOfTrailingZeros_1 22 rfl rfl)
theorem dJ14_numberOfTrailingZeros_47 : decode cJ14_numberOfTrailingZeros 47 = .ok (.iushr, 1) := dk_124 (dk_at dksJ14_numberOfTrailingZeros_2 0 rfl rfl)
theorem dJ14_numberOfTrailingZeros_48 : decode cJ14_numberOfTrailingZeros 48 = .ok (.istore_n 0, 1) := dk_59 (dk_at dksJ14_numberOfTrailingZeros_2 1 rfl rfl)
theorem dJ14_numberOfTrailingZeros_49 : decode cJ14_numberOfTrailingZeros 49 = .ok (.iload_n 0, 1) := dk_26 (dk_at dksJ14_numberOfTrailingZeros_2 2 rfl rfl)
theorem dJ14_numberOfTrailingZeros_50 : decode cJ14_numberOfTrailingZeros 50 = .ok (.bipush 16, 2) := dk_16 16 (dk_at dksJ14_numberOfTrailingZeros_2 3 rfl rfl)
theorem dJ14_numberOfTrailingZeros_52 : decode cJ14_numberOfTrailingZeros 52 = .ok (.if_icmp .le 10, 3) := dk_164 0 10 (dk_at dksJ14_numberOfTrailingZeros_2 5 rfl rfl)
theorem dJ14_numberOfTrailingZeros_55 : decode cJ14_numberOfTrailingZeros 55 = .ok (.iinc 1 4, 3) := dk_132 1 4 (dk_at dksJ14_numberOfTrailingZeros_2 8 rfl rfl)
theorem dJ14_numberOfTrailingZeros_58 : decode cJ14_numberOfTrailingZeros 58 = .ok (.iload_n 0, 1) := dk_26 (dk_at dksJ14_numberOfTrailingZeros_2 11 rfl rfl)
theorem dJ14_numberOfTrailingZeros_59 : decode cJ14_numberOfTrailingZeros 59 = .ok (.iconst 4, 1) := dk_7 (dk_at dksJ14_numberOfTrailingZeros_2 12 rfl rfl)
theorem dJ14_numberOfTrailingZeros_60 : decode cJ14_numberOfTrailingZeros 60 = .ok (.iushr, 1) := dk_124 (dk_at dksJ14_numberOfTrailingZeros_2 13 rfl rfl)
theorem dJ14_numberOfTrailingZeros_61 : decode cJ14_numberOfTrailingZeros 61 = .ok (.istore_n 0, 1) := dk_59 (dk_at dksJ14_numberOfTrailingZeros_2 14 rfl rfl)
theorem dJ14_numberOfTrailingZeros_62 : decode cJ14_numberOfTrailingZeros 62 = .ok (.iload_n 0, 1) := dk_26 (dk_at dksJ14_numberOfTrailingZeros_2 15 rfl rfl)
theorem dJ14_numberOfTrailingZeros_63 : decode cJ14_numberOfTrailingZeros 63 = .ok (.iconst 4, 1) := dk_7 (dk_at dksJ14_numberOfTrailingZeros_2 16 rfl rfl)
theorem dJ14_numberOfTrailingZeros_64 : decode cJ14_numberOfTrailingZeros 64 = .ok (.if_icmp .le 10, 3) := dk_164 0 10 (dk_at dksJ14_numberOfTrailingZeros_2 17 rfl rfl)
theorem dJ14_numberOfTrailingZeros_67 : decode cJ14_numberOfTrailingZeros 67 = .ok (.iinc 1 2, 3) := dk_132 1 2 (dk_at dksJ14_numberOfTrailingZeros_2 20 rfl rfl)
theorem dJ14_numberOfTrailingZeros_70 : decode cJ14_numberOfTrailingZeros 70 = .ok (.iload_n 0, 1) := dk_26 (dk_at dksJ14_numberOfTrailingZeros_2 23 rfl rfl)
theorem dJ14_numberOfTrailingZeros_71 : decode cJ14_numberOfTrailingZeros 71 = .ok (.iconst 2, 1) := dk_5 (dk_at dksJ14_numberOfTrailingZeros_3 0 rfl rfl)
theorem dJ14_numberOfTrailingZeros_72 : decode cJ14_numberOfTrailingZeros 72 = .ok (.iushr, 1) := dk_124 (dk_at dksJ14_numberOfTrailingZeros_3 1 rfl rfl)
theorem dJ14_numberOfTrailingZeros_73 : decode cJ14_numberOfTrailingZeros 73 = .ok (.istore_n 0, 1) := dk_59 (dk_at dksJ14_numberOfTrailingZeros_3 2 rfl rfl)
theorem dJ14_numberOfTrailingZeros_74 : decode cJ14_numberOfTrailingZeros 74 = .ok (.iload_n 1, 1) := dk_27 (dk_at dksJ14_numberOfTrailingZeros_3 3 rfl rfl)
theorem dJ14_numberOfTrailingZeros_75 : decode cJ14_numberOfTrailingZeros 75 = .ok (.iload_n 0, 1) := dk_26 (dk_at dksJ14_numberOfTrailingZeros_3 4 rfl rfl)
theorem dJ14_numberOfTrailingZeros_76 : decode cJ14_numberOfTrailingZeros 76 = .ok (.iconst 1, 1) := dk_4 (dk_at dksJ14_numberOfTrailingZeros_3 5 rfl rfl)
theorem dJ14_numberOfTrailingZeros_77 : decode cJ14_numberOfTrailingZeros 77 = .ok (.iushr, 1) := dk_124 (dk_at dksJ14_numberOfTrailingZeros_3 6 rfl rfl)
theorem dJ14_numberOfTrailingZeros_78 : decode cJ14_numberOfTrailingZeros 78 = .ok (.iadd, 1) := dk_96 (dk_at dksJ14_numberOfTrailingZeros_3 7 rfl rfl)
theorem dJ14_numberOfTrailingZeros_79 : decode cJ14_numberOfTrailingZeros 79 = .ok (.ireturn, 1) := dk_172 (dk_at dksJ14_numberOfTrailingZeros_3 8 rfl rfl)
theorem jf_bitCount : xS yJ14_bitCount cJ14_bitCount 1 (some .int) 1 := ⟨q1033, q123, q1034, ⟨by decide +kernel, by decide +kernel, by decide +kernel⟩, by decide⟩
theorem jf_numberOfTrailingZeros : xS yJ14_numberOfTrailingZeros cJ14_numberOfTrailingZeros 2 (some .int) 1 := ⟨q1063, q123, q1064, ⟨by decide +kernel, by decide +kernel, by decide +kernel⟩, by decide⟩
def jw_bitCount (x0 : Int32) (k : Int32 → Prop) : Prop := ∀ x9 : Int32, x9 = (x0 - (((x0 : Int32).toUInt32 >>> ((1 : Int32).toUInt32 &&& Int32.toUInt32 31)).toInt32 &&& 1431655765)) → ∀ x23 : Int32, x23 = ((x9 &&& 858993459) + (((x9 : Int32).toUInt32 >>> ((2 : Int32).toUInt32 &&& Int32.toUInt32 31)).toInt32 &&& 858993459)) → ∀ x33 : Int32, x33 = ((x23 + ((x23 : Int32).toUInt32 >>> ((4 : Int32).toUInt32 &&& Int32.toUInt32 31)).toInt32) &&& 252645135) → ∀ x40 : Int32, x40 = (x33 + ((x33 : Int32).toUInt32 >>> ((8 : Int32).toUInt32 &&& Int32.toUInt32 31)).toInt32) → ∀ x47 : Int32, x47 = (x40 + ((x40 : Int32).toUInt32 >>> ((16 : Int32).toUInt32 &&& Int32.toUInt32 31)).toInt32) → k ((x47 &&& 63))
set_option maxHeartbeats 4000000 in
theorem jk_bitCount (l : Launch) (D : va_G) (T : xT) (x0 : Int32) (k : Int32 → Prop) (h : jw_bitCount x0 k) : XM l D T yJ14_bitCount cJ14_bitCount 1 (some .int) 1 0 0 [.int x0] [] (ppostI k) := by
  refine XM.start (by decide +kernel) (Nat.le_of_ble_eq_true rfl) (fun Γ G X _ hl_ => ?_)
  subst hl_
  refine K.less [0] (lv' := [(0, .int x0)]) rfl ?_
  unfold jw_bitCount at h
  refine k_iload_n G dJ14_bitCount_0 rfl ?_
  refine k_iload_n G dJ14_bitCount_1 rfl ?_
  refine k_iconst G dJ14_bitCount_2 kc_i_1 ?_
  refine k_iushr G dJ14_bitCount_3 ?_
  refine k_ldc_w G q1035 dJ14_bitCount_4 ?_
  refine k_iand G dJ14_bitCount_7 ?_
  refine k_isub G dJ14_bitCount_8 ?_
  refine k_nmI (fun x9 e9 => ?_)
  have h := h x9 e9
  refine k_istore_n G [(0, .int x9)] dJ14_bitCount_9 rfl (Nat.le_of_ble_eq_true rfl) rfl ?_
  refine k_iload_n G dJ14_bitCount_10 rfl ?_
  refine k_ldc_w G q1036 dJ14_bitCount_11 ?_
  refine k_iand G dJ14_bitCount_14 ?_
  refine k_iload_n G dJ14_bitCount_15 rfl ?_
  refine k_iconst G dJ14_bitCount_16 kc_i_2 ?_
  refine k_iushr G dJ14_bitCount_17 ?_
  refine k_ldc_w G q1036 dJ14_bitCount_18 ?_
  refine k_iand G dJ14_bitCount_21 ?_
  refine k_iadd G dJ14_bitCount_22 ?_
  refine k_nmI (fun x23 e23 => ?_)
  have h := h x23 e23
  refine k_istore_n G [(0, .int x23)] dJ14_bitCount_23 rfl (Nat.le_of_ble_eq_true rfl) rfl ?_
  refine k_iload_n G dJ14_bitCount_24 rfl ?_
  refine k_iload_n G dJ14_bitCount_25 rfl ?_
  refine k_iconst G dJ14_bitCount_26 kc_i_4 ?_
  refine k_iushr G dJ14_bitCount_27 ?_
  refine k_iadd G dJ14_bitCount_28 ?_
  refine k_ldc_w G q1037 dJ14_bitCount_29 ?_
  refine k_iand G dJ14_bitCount_32 ?_
  refine k_nmI (fun x33 e33 => ?_)
  have h := h x33 e33
  refine k_istore_n G [(0, .int x33)] dJ14_bitCount_33 rfl (Nat.le_of_ble_eq_true rfl) rfl ?_
  refine k_iload_n G dJ14_bitCount_34 rfl ?_
  refine k_iload_n G dJ14_bitCount_35 rfl ?_
  refine k_bipush G dJ14_bitCount_36 kc_b_8 ?_
  refine k_iushr G dJ14_bitCount_38 ?_
  refine k_iadd G dJ14_bitCount_39 ?_
  refine k_nmI (fun x40 e40 => ?_)
  have h := h x40 e40
  refine k_istore_n G [(0, .int x40)] dJ14_bitCount_40 rfl (Nat.le_of_ble_eq_true rfl) rfl ?_
  refine k_iload_n G dJ14_bitCount_41 rfl ?_
  refine k_iload_n G dJ14_bitCount_42 rfl ?_
  refine k_bipush G dJ14_bitCount_43 kc_b_16 ?_
  refine k_iushr G dJ14_bitCount_45 ?_
  refine k_iadd G dJ14_bitCount_46 ?_
  refine k_nmI (fun x47 e47 => ?_)
  have h := h x47 e47
  refine k_istore_n G [(0, .int x47)] dJ14_bitCount_47 rfl (Nat.le_of_ble_eq_true rfl) rfl ?_
  refine k_iload_n G dJ14_bitCount_48 rfl ?_
  refine k_bipush G dJ14_bitCount_49 kc_b_63 ?_
  refine k_iand G dJ14_bitCount_51 ?_
  exact k_iret G X dJ14_bitCount_52 (Nat.le_of_ble_eq_true rfl) (Nat.le_of_ble_eq_true rfl) ⟨_, rfl, rfl, h⟩
def jw_numberOfTrailingZeros_J74 (k : Int32 → Prop) (x0 : Int32) (x1 : Int32) : Prop := k ((x1 + ((x0 : Int32).toUInt32 >>> ((1 : Int32).toUInt32 &&& Int32.toUInt32 31)).toInt32))
def jw_numberOfTrailingZeros_J62 (k : Int32 → Prop) (x0 : Int32) (x1 : Int32) : Prop := (x0 ≤ 4 → jw_numberOfTrailingZeros_J74 k x0 x1) ∧ (¬ x0 ≤ 4 → ∀ x67 : Int32, x67 = x1 + 2 → ∀ x73 : Int32, x73 = ((x0 : Int32).toUInt32 >>> ((2 : Int32).toUInt32 &&& Int32.toUInt32 31)).toInt32 → jw_numberOfTrailingZeros_J74 k x73 x67)
def jw_numberOfTrailingZeros_J49 (k : Int32 → Prop) (x0 : Int32) (x1 : Int32) : Prop := (x0 ≤ 16 → jw_numberOfTrailingZeros_J62 k x0 x1) ∧ (¬ x0 ≤ 16 → ∀ x55 : Int32, x55 = x1 + 4 → ∀ x61 : Int32, x61 = ((x0 : Int32).toUInt32 >>> ((4 : Int32).toUInt32 &&& Int32.toUInt32 31)).toInt32 → jw_numberOfTrailingZeros_J62 k x61 x55)
def jw_numberOfTrailingZeros_J34 (k : Int32 → Prop) (x0 : Int32) (x1 : Int32) : Prop := (x0 ≤ 256 → jw_numberOfTrailingZeros_J49 k x0 x1) ∧ (¬ x0 ≤ 256 → ∀ x41 : Int32, x41 = x1 + 8 → ∀ x48 : Int32, x48 = ((x0 : Int32).toUInt32 >>> ((8 : Int32).toUInt32 &&& Int32.toUInt32 31)).toInt32 → jw_numberOfTrailingZeros_J49 k x48 x41)
def jw_numberOfTrailingZeros (x0 : Int32) (k : Int32 → Prop) : Prop := ∀ x7 : Int32, x7 = ((x0 ^^^ (-1)) &&& (x0 - 1)) → (0 < x7 → (x7 ≤ 65536 → jw_numberOfTrailingZeros_J34 k x7 1) ∧ (¬ x7 ≤ 65536 → ∀ x26 : Int32, x26 = 1 + 16 → ∀ x33 : Int32, x33 = ((x7 : Int32).toUInt32 >>> ((16 : Int32).toUInt32 &&& Int32.toUInt32 31)).toInt32 → jw_numberOfTrailingZeros_J34 k x33 x26)) ∧ (¬ 0 < x7 → k ((x7 &&& 32)))
set_option maxHeartbeats 4000000 in
theorem jk_numberOfTrailingZeros (l : Launch) (D : va_G) (T : xT) (x0 : Int32) (k : Int32 → Prop) (h : jw_numberOfTrailingZeros x0 k) : XM l D T yJ14_numberOfTrailingZeros cJ14_numberOfTrailingZeros 2 (some .int) 1 0 0 [.int x0] [] (ppostI k) := by
  refine XM.start (by decide +kernel) (Nat.le_of_ble_eq_true rfl) (fun Γ G X _ hl_ => ?_)
  subst hl_
  have hJ74 : ∀ (x0 : Int32) (x1 : Int32), jw_numberOfTrailingZeros_J74 k x0 x1 → K D Γ 0 0 74 [(0, .int x0), (1, .int x1)] [] [] := by
    intro x0 x1 h
    unfold jw_numberOfTrailingZeros_J74 at h
    refine k_iload_n G dJ14_numberOfTrailingZeros_74 rfl ?_
    refine k_iload_n G dJ14_numberOfTrailingZeros_75 rfl ?_
    refine k_iconst G dJ14_numberOfTrailingZeros_76 kc_i_1 ?_
    refine k_iushr G dJ14_numberOfTrailingZeros_77 ?_
    refine k_iadd G dJ14_numberOfTrailingZeros_78 ?_
    exact k_iret G X dJ14_numberOfTrailingZeros_79 (Nat.le_of_ble_eq_true rfl) (Nat.le_of_ble_eq_true rfl) ⟨_, rfl, rfl, h⟩
  have hJ62 : ∀ (x0 : Int32) (x1 : Int32), jw_numberOfTrailingZeros_J62 k x0 x1 → K D Γ 0 0 62 [(0, .int x0), (1, .int x1)] [] [] := by
    intro x0 x1 h
    unfold jw_numberOfTrailingZeros_J62 at h
    refine k_iload_n G dJ14_numberOfTrailingZeros_62 rfl ?_
    refine k_iconst G dJ14_numberOfTrailingZeros_63 kc_i_4 ?_
    obtain ⟨hA, hB⟩ := h
    refine k_icmp_le G 74 dJ14_numberOfTrailingZeros_64 (by decide) (fun c64 => ?_) (fun c64 => ?_)
    · have h := hA c64
      clear hA hB
      exact hJ74 _ _ h
    · have h := hB c64
      clear hA hB
      obtain ⟨x67, e67⟩ : ∃ y : Int32, y = x1 + 2 := ⟨_, rfl⟩
      have h := h x67 e67
      refine k_iinc G [(1, .int x67), (0, .int x0)] dJ14_numberOfTrailingZeros_67 rfl (v := x67) (by rw [e67, kc_i_2]) (Nat.le_of_ble_eq_true rfl) rfl ?_
      refine k_iload_n G dJ14_numberOfTrailingZeros_70 rfl ?_
      refine k_iconst G dJ14_numberOfTrailingZeros_71 kc_i_2 ?_
      refine k_iushr G dJ14_numberOfTrailingZeros_72 ?_
      refine k_nmI (fun x73 e73 => ?_)
      have h := h x73 e73
      refine k_istore_n G [(0, .int x73), (1, .int x67)] dJ14_numberOfTrailingZeros_73 rfl (Nat.le_of_ble_eq_true rfl) rfl ?_
      exact hJ74 _ _ h
  have hJ49 : ∀ (x0 : Int32) (x1 : Int32), jw_numberOfTrailingZeros_J49 k x0 x1 → K D Γ 0 0 49 [(0, .int x0), (1, .int x1)] [] [] := by
    intro x0 x1 h
    unfold jw_numberOfTrailingZeros_J49 at h
    refine k_iload_n G dJ14_numberOfTrailingZeros_49 rfl ?_
    refine k_bipush G dJ14_numberOfTrailingZeros_50 kc_b_16 ?_
    obtain ⟨hA, hB⟩ := h
    refine k_icmp_le G 62 dJ14_numberOfTrailingZeros_52 (by decide) (fun c52 => ?_) (fun c52 => ?_)
    · have h := hA c52
      clear hA hB
      exact hJ62 _ _ h
    · have h := hB c52
      clear hA hB
      obtain ⟨x55, e55⟩ : ∃ y : Int32, y = x1 + 4 := ⟨_, rfl⟩
      have h := h x55 e55
      refine k_iinc G [(1, .int x55), (0, .int x0)] dJ14_numberOfTrailingZeros_55 rfl (v := x55) (by rw [e55, kc_i_4]) (Nat.le_of_ble_eq_true rfl) rfl ?_
      refine k_iload_n G dJ14_numberOfTrailingZeros_58 rfl ?_
      refine k_iconst G dJ14_numberOfTrailingZeros_59 kc_i_4 ?_
      refine k_iushr G dJ14_numberOfTrailingZeros_60 ?_
      refine k_nmI (fun x61 e61 => ?_)
      have h := h x61 e61
      refine k_istore_n G [(0, .int x61), (1, .int x55)] dJ14_numberOfTrailingZeros_61 rfl (Nat.le_of_ble_eq_true rfl) rfl ?_
      exact hJ62 _ _ h
  have hJ34 : ∀ (x0 : Int32) (x1 : Int32), jw_numberOfTrailingZeros_J34 k x0 x1 → K D Γ 0 0 34 [(0, .int x0), (1, .int x1)] [] [] := by
    intro x0 x1 h
    unfold jw_numberOfTrailingZeros_J34 at h
    refine k_iload_n G dJ14_numberOfTrailingZeros_34 rfl ?_
    refine k_sipush G dJ14_numberOfTrailingZeros_35 kc_s_256 ?_
    obtain ⟨hA, hB⟩ := h
    refine k_icmp_le G 49 dJ14_numberOfTrailingZeros_38 (by decide) (fun c38 => ?_) (fun c38 => ?_)
    · have h := hA c38
      clear hA hB
      exact hJ49 _ _ h
    · have h := hB c38
      clear hA hB
      obtain ⟨x41, e41⟩ : ∃ y : Int32, y = x1 + 8 := ⟨_, rfl⟩
      have h := h x41 e41
      refine k_iinc G [(1, .int x41), (0, .int x0)] dJ14_numberOfTrailingZeros_41 rfl (v := x41) (by rw [e41, kc_i_8]) (Nat.le_of_ble_eq_true rfl) rfl ?_
      refine k_iload_n G dJ14_numberOfTrailingZeros_44 rfl ?_
      refine k_bipush G dJ14_numberOfTrailingZeros_45 kc_b_8 ?_
      refine k_iushr G dJ14_numberOfTrailingZeros_47 ?_
      refine k_nmI (fun x48 e48 => ?_)
      have h := h x48 e48
      refine k_istore_n G [(0, .int x48), (1, .int x41)] dJ14_numberOfTrailingZeros_48 rfl (Nat.le_of_ble_eq_true rfl) rfl ?_
      exact hJ49 _ _ h
  refine K.less [0] (lv' := [(0, .int x0)]) rfl ?_
  unfold jw_numberOfTrailingZeros at h
  refine k_iload_n G dJ14_numberOfTrailingZeros_0 rfl ?_
  refine k_iconst G dJ14_numberOfTrailingZeros_1 kc_i_m1 ?_
  refine k_ixor G dJ14_numberOfTrailingZeros_2 ?_
  refine k_iload_n G dJ14_numberOfTrailingZeros_3 rfl ?_
  refine k_iconst G dJ14_numberOfTrailingZeros_4 kc_i_1 ?_
  refine k_isub G dJ14_numberOfTrailingZeros_5 ?_
  refine k_iand G dJ14_numberOfTrailingZeros_6 ?_
  refine k_nmI (fun x7 e7 => ?_)
  have h := h x7 e7
  refine k_istore_n G [(0, .int x7)] dJ14_numberOfTrailingZeros_7 rfl (Nat.le_of_ble_eq_true rfl) rfl ?_
  refine k_iload_n G dJ14_numberOfTrailingZeros_8 rfl ?_
  obtain ⟨hA, hB⟩ := h
  refine k_if_gt G 17 dJ14_numberOfTrailingZeros_9 (by decide) (fun c9 => ?_) (fun c9 => ?_)
  · have h := hA c9
    clear hA hB
    refine k_iconst G dJ14_numberOfTrailingZeros_17 kc_i_1 ?_
    refine k_istore_n G [(1, .int 1), (0, .int x7)] dJ14_numberOfTrailingZeros_18 rfl (Nat.le_of_ble_eq_true rfl) rfl ?_
    refine k_iload_n G dJ14_numberOfTrailingZeros_19 rfl ?_
    refine k_ldc_w G q1065 dJ14_numberOfTrailingZeros_20 ?_
    obtain ⟨hA, hB⟩ := h
    refine k_icmp_le G 34 dJ14_numberOfTrailingZeros_23 (by decide) (fun c23 => ?_) (fun c23 => ?_)
    · have h := hA c23
      clear hA hB
      refine K.less [1, 0] rfl ?_
      exact hJ34 _ _ h
    · have h := hB c23
      clear hA hB
      obtain ⟨x26, e26⟩ : ∃ y : Int32, y = 1 + 16 := ⟨_, rfl⟩
      have h := h x26 e26
      refine k_iinc G [(1, .int x26), (0, .int x7)] dJ14_numberOfTrailingZeros_26 rfl (v := x26) (by rw [e26, kc_i_16]) (Nat.le_of_ble_eq_true rfl) rfl ?_
      refine k_iload_n G dJ14_numberOfTrailingZeros_29 rfl ?_
      refine k_bipush G dJ14_numberOfTrailingZeros_30 kc_b_16 ?_
      refine k_iushr G dJ14_numberOfTrailingZeros_32 ?_
      refine k_nmI (fun x33 e33 => ?_)
      have h := h x33 e33
      refine k_istore_n G [(0, .int x33), (1, .int x26)] dJ14_numberOfTrailingZeros_33 rfl (Nat.le_of_ble_eq_true rfl) rfl ?_
      exact hJ34 _ _ h
  · have h := hB c9
    clear hA hB
    refine k_iload_n G dJ14_numberOfTrailingZeros_12 rfl ?_
    refine k_bipush G dJ14_numberOfTrailingZeros_13 kc_b_32 ?_
    refine k_iand G dJ14_numberOfTrailingZeros_15 ?_
    exact k_iret G X dJ14_numberOfTrailingZeros_16 (Nat.le_of_ble_eq_true rfl) (Nat.le_of_ble_eq_true rfl) ⟨_, rfl, rfl, h⟩
