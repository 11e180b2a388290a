/-! the reader: all, some -/
set_option maxRecDepth 100000
abbrev cX14_all : ByteArray := prog_13_method_9_code
def yX14_all : MethodName := ⟨RX14, "all", "()LBakedBefore$Test;"⟩
def dkwX14_all_2 : List UInt8 := [182, 0, 66, 182, 0, 93, 87, 167, 255, 225, 43, 176]
abbrev dktX14_all_2 : List UInt8 := dkwX14_all_2 ++ []
def dkwX14_all_1 : List UInt8 := [182, 0, 34, 16, 38, 160, 0, 28, 42, 89, 180, 0, 26, 4, 96, 181, 0, 26, 43, 180, 0, 89, 42]
abbrev dktX14_all_1 : List UInt8 := dkwX14_all_1 ++ dktX14_all_2
def dkwX14_all_0 : List UInt8 := [187, 0, 84, 89, 4, 183, 0, 86, 76, 43, 180, 0, 89, 42, 182, 0, 66, 182, 0, 93, 87, 42]
abbrev dktX14_all_0 : List UInt8 := dkwX14_all_0 ++ dktX14_all_1
theorem dksX14_all_0 : cX14_all.data.toList.drop 0 = dktX14_all_0 := by decide +kernel
theorem dksX14_all_1 : cX14_all.data.toList.drop 22 = dktX14_all_1 := dk_seg dksX14_all_0 22 rfl rfl
theorem dksX14_all_2 : cX14_all.data.toList.drop 45 = dktX14_all_2 := dk_seg dksX14_all_1 23 rfl rfl
theorem dX14_all_0 : decode cX14_all 0 = .ok (.new 84, 3) := dk_187 0 84 (dk_at dksX14_all_0 0 rfl rfl)
theorem dX14_all_3 : decode cX14_all 3 = .ok (.dup, 1) := dk_89 (dk_at dksX14_all_0 3 rfl rfl)
theorem dX14_all_4 : decode cX14_all 4 = .ok (.iconst 1, 1) := dk_4 (dk_at dksX14_all_0 4 rfl rfl)
theorem dX14_all_5 : decode cX14_all 5 = .ok (.invokespecial 86, 3) := dk_183 0 86 (dk_at dksX14_all_0 5 rfl rfl)
theorem dX14_all_8 : decode cX14_all 8 = .ok (.astore_n 1, 1) := dk_76 (dk_at dksX14_all_0 8 rfl rfl)
theorem dX14_all_9 : decode cX14_all 9 = .ok (.aload_n 1, 1) := dk_43 (dk_at dksX14_all_0 9 rfl rfl)
theorem dX14_all_10 : decode cX14_all 10 = .ok (.getfield 89, 3) := dk_180 0 89 (dk_at dksX14_all_0 10 rfl rfl)
theorem dX14_all_13 : decode cX14_all 13 = .ok (.aload_n 0, 1) := dk_42 (dk_at dksX14_all_0 13 rfl rfl)
theorem dX14_all_14 : decode cX14_all 14 = .ok (.invokevirtual 66, 3) := dk_182 0 66 (dk_at dksX14_all_0 14 rfl rfl)
theorem dX14_all_17 : decode cX14_all 17 = .ok (.invokevirtual 93, 3) := dk_182 0 93 (dk_at dksX14_all_0 17 rfl rfl)
theorem dX14_all_20 : decode cX14_all 20 = .ok (.pop, 1) := dk_87 (dk_at dksX14_all_0 20 rfl rfl)
theorem dX14_all_21 : decode cX14_all 21 = .ok (.aload_n 0, 1) := dk_42 (dk_at dksX14_all_0 21 rfl rfl)
theorem dX14_all_22 : decode cX14_all 22 = .ok (.invokevirtual 34, 3) := dk_182 0 34 (dk_at dksX14_all_1 0 rfl rfl)
theorem dX14_all_25 : decode cX14_all 25 = .ok (.bipush 38, 2) := dk_16 38 (dk_at dksX14_all_1 3 rfl rfl)
theorem dX14_all_27 : decode cX14_all 27 = .ok (.if_icmp .ne 28, 3) := dk_160 0 28 (dk_at dksX14_all_1 5 rfl rfl)
theorem dX14_all_30 : decode cX14_all 30 = .ok (.aload_n 0, 1) := dk_42 (dk_at dksX14_all_1 8 rfl rfl)
theorem dX14_all_31 : decode cX14_all 31 = .ok (.dup, 1) := dk_89 (dk_at dksX14_all_1 9 rfl rfl)
theorem dX14_all_32 : decode cX14_all 32 = .ok (.getfield 26, 3) := dk_180 0 26 (dk_at dksX14_all_1 10 rfl rfl)
theorem dX14_all_35 : decode cX14_all 35 = .ok (.iconst 1, 1) := dk_4 (dk_at dksX14_all_1 13 rfl rfl)
theorem dX14_all_36 : decode cX14_all 36 = .ok (.iadd, 1) := dk_96 (dk_at dksX14_all_1 14 rfl rfl)
theorem dX14_all_37 : decode cX14_all 37 = .ok (.putfield 26, 3) := dk_181 0 26 (dk_at dksX14_all_1 15 rfl rfl)
theorem dX14_all_40 : decode cX14_all 40 = .ok (.aload_n 1, 1) := dk_43 (dk_at dksX14_all_1 18 rfl rfl)
theorem dX14_all_41 : decode cX14_all 41 = .ok (.getfield 89, 3) := dk_180 0 89 (dk_at dksX14_all_1 19 rfl rfl)
theorem dX14_all_44 : decode cX14_all 44 = .ok (.aload_n 0, 1) := dk_42 (dk_at dksX14_all_1 22 rfl rfl)
theorem dX14_all_45 : decode cX14_all 45 = .ok (.invokevirtual 66, 3) := dk_182 0 66 (dk_at dksX14_all_2 0 rfl rfl)
theorem dX14_all_48 : decode cX14_all 48 = .ok (.invokevirtual 93, 3) := dk_182 0 93 (dk_at dksX14_all_2 3 rfl rfl)
theorem dX14_all_51 : decode cX14_all 51 = .ok (.pop, 1) := dk_87 (dk_at dksX14_all_2 6 rfl rfl)
theorem dX14_all_52 : decode cX14_all 52 = .ok (.goto (-31), 3) := dk_167 255 225 (dk_at dksX14_all_2 7 rfl rfl)
theorem dX14_all_55 : decode cX14_all 55 = .ok (.aload_n 1, 1) := dk_43 (dk_at dksX14_all_2 10 rfl rfl)
theorem dX14_all_56 : decode cX14_all 56 = .ok (.areturn, 1) := dk_176 (dk_at dksX14_all_2 11 rfl rfl)
abbrev cX14_some : ByteArray := prog_13_method_10_code
def yX14_some : MethodName := ⟨RX14, "some", "()LBakedBefore$Test;"⟩
def dkwX14_some_2 : List UInt8 := [182, 0, 99, 182, 0, 93, 87, 167, 255, 225, 43, 176]
abbrev dktX14_some_2 : List UInt8 := dkwX14_some_2 ++ []
def dkwX14_some_1 : List UInt8 := [182, 0, 34, 16, 124, 160, 0, 28, 42, 89, 180, 0, 26, 4, 96, 181, 0, 26, 43, 180, 0, 89, 42]
abbrev dktX14_some_1 : List UInt8 := dkwX14_some_1 ++ dktX14_some_2
def dkwX14_some_0 : List UInt8 := [187, 0, 84, 89, 3, 183, 0, 86, 76, 43, 180, 0, 89, 42, 182, 0, 99, 182, 0, 93, 87, 42]
abbrev dktX14_some_0 : List UInt8 := dkwX14_some_0 ++ dktX14_some_1
theorem dksX14_some_0 : cX14_some.data.toList.drop 0 = dktX14_some_0 := by decide +kernel
theorem dksX14_some_1 : cX14_some.data.toList.drop 22 = dktX14_some_1 := dk_seg dksX14_some_0 22 rfl rfl
theorem dksX14_some_2 : cX14_some.data.toList.drop 45 = dktX14_some_2 := dk_seg dksX14_some_1 23 rfl rfl
theorem dX14_some_0 : decode cX14_some 0 = .ok (.new 84, 3) := dk_187 0 84 (dk_at dksX14_some_0 0 rfl rfl)
theorem dX14_some_3 : decode cX14_some 3 = .ok (.dup, 1) := dk_89 (dk_at dksX14_some_0 3 rfl rfl)
theorem dX14_some_4 : decode cX14_some 4 = .ok (.iconst 0, 1) := dk_3 (dk_at dksX14_some_0 4 rfl rfl)
theorem dX14_some_5 : decode cX14_some 5 = .ok (.invokespecial 86, 3) := dk_183 0 86 (dk_at dksX14_some_0 5 rfl rfl)
theorem dX14_some_8 : decode cX14_some 8 = .ok (.astore_n 1, 1) := dk_76 (dk_at dksX14_some_0 8 rfl rfl)
theorem dX14_some_9 : decode cX14_some 9 = .ok (.aload_n 1, 1) := dk_43 (dk_at dksX14_some_0 9 rfl rfl)
theorem dX14_some_10 : decode cX14_some 10 = .ok (.getfield 89, 3) := dk_180 0 89 (dk_at dksX14_some_0 10 rfl rfl)
theorem dX14_some_13 : decode cX14_some 13 = .ok (.aload_n 0, 1) := dk_42 (dk_at dksX14_some_0 13 rfl rfl)
theorem dX14_some_14 : decode cX14_some 14 = .ok (.invokevirtual 99, 3) := dk_182 0 99 (dk_at dksX14_some_0 14 rfl rfl)
theorem dX14_some_17 : decode cX14_some 17 = .ok (.invokevirtual 93, 3) := dk_182 0 93 (dk_at dksX14_some_0 17 rfl rfl)
theorem dX14_some_20 : decode cX14_some 20 = .ok (.pop, 1) := dk_87 (dk_at dksX14_some_0 20 rfl rfl)
theorem dX14_some_21 : decode cX14_some 21 = .ok (.aload_n 0, 1) := dk_42 (dk_at dksX14_some_0 21 rfl rfl)
theorem dX14_some_22 : decode cX14_some 22 = .ok (.invokevirtual 34, 3) := dk_182 0 34 (dk_at dksX14_some_1 0 rfl rfl)
theorem dX14_some_25 : decode cX14_some 25 = .ok (.bipush 124, 2) := dk_16 124 (dk_at dksX14_some_1 3 rfl rfl)
theorem dX14_some_27 : decode cX14_some 27 = .ok (.if_icmp .ne 28, 3) := dk_160 0 28 (dk_at dksX14_some_1 5 rfl rfl)
theorem dX14_some_30 : decode cX14_some 30 = .ok (.aload_n 0, 1) := dk_42 (dk_at dksX14_some_1 8 rfl rfl)
theorem dX14_some_31 : decode cX14_some 31 = .ok (.dup, 1) := dk_89 (dk_at dksX14_some_1 9 rfl rfl)
theorem dX14_some_32 : decode cX14_some 32 = .ok (.getfield 26, 3) := dk_180 0 26 (dk_at dksX14_some_1 10 rfl rfl)
theorem dX14_some_35 : decode cX14_some 35 = .ok (.iconst 1, 1) := dk_4 (dk_at dksX14_some_1 13 rfl rfl)
theorem dX14_some_36 : decode cX14_some 36 = .ok (.iadd, 1) := dk_96 (dk_at dksX14_some_1 14 rfl rfl)
theorem dX14_some_37 : decode cX14_some 37 = .ok (.putfield 26, 3) := dk_181 0 26 (dk_at dksX14_some_1 15 rfl rfl)
theorem dX14_some_40 : decode cX14_some 40 = .ok (.aload_n 1, 1) := dk_43 (dk_at dksX14_some_1 18 rfl rfl)
theorem dX14_some_41 : decode cX14_some 41 = .ok (.getfield 89, 3) := dk_180 0 89 (dk_at dksX14_some_1 19 rfl rfl)
theorem dX14_some_44 : decode cX14_some 44 = .ok (.aload_n 0, 1) := dk_42 (dk_at dksX14_some_1 22 rfl rfl)
theorem dX14_some_45 : decode cX14_some 45 = .ok (.invokevirtual 99, 3) := dk_182 0 99 (dk_at dksX14_some_2 0 rfl rfl)
theorem dX14_some_48 : decode cX14_some 48 = .ok (.invokevirtual 93, 3) := dk_182 0 93 (dk_at dksX14_some_2 3 rfl rfl)
theorem dX14_some_51 : decode cX14_some 51 = .ok (.pop, 1) := dk_87 (dk_at dksX14_some_2 6 rfl rfl)
theorem dX14_some_52 : decode cX14_some 52 = .ok (.goto (-31), 3) := dk_167 255 225 (dk_at dksX14_some_2 7 rfl rfl)
theorem dX14_some_55 : decode cX14_some 55 = .ok (.aload_n 1, 1) := dk_43 (dk_at dksX14_some_2 10 rfl rfl)
theorem dX14_some_56 : decode cX14_some 56 = .ok (.areturn, 1) := dk_176 (dk_at dksX14_some_2 11 rfl rfl)
abbrev cX14_factor : ByteArray := prog_13_method_8_code
def yX14_factor : MethodName := ⟨RX14, "factor", "()LBakedBefore$Test;"⟩
def dkwX14_factor_7 : List UInt8 := [27, 28, 42, 182, 0, 78, 183, 0, 81, 176, 42, 182, 0, 38, 191]
abbrev dktX14_factor_7 : List UInt8 := dkwX14_factor_7 ++ []
def dkwX14_factor_6 : List UInt8 := [16, 62, 159, 0, 8, 42, 182, 0, 38, 191, 42, 89, 180, 0, 26, 4, 96, 181, 0, 26, 187, 0, 76, 89]
abbrev dktX14_factor_6 : List UInt8 := dkwX14_factor_6 ++ dktX14_factor_7
def dkwX14_factor_5 : List UInt8 := [181, 0, 26, 51, 60, 42, 182, 0, 34, 61, 28, 16, 60, 159, 0, 20, 28, 16, 61, 159, 0, 14, 28]
abbrev dktX14_factor_5 : List UInt8 := dkwX14_factor_5 ++ dktX14_factor_6
def dkwX14_factor_4 : List UInt8 := [180, 0, 58, 4, 100, 181, 0, 58, 43, 176, 42, 180, 0, 18, 42, 89, 180, 0, 26, 90, 4, 96]
abbrev dktX14_factor_4 : List UInt8 := dkwX14_factor_4 ++ dktX14_factor_5
def dkwX14_factor_3 : List UInt8 := [181, 0, 58, 43, 176, 42, 182, 0, 61, 42, 182, 0, 73, 76, 42, 16, 41, 182, 0, 51, 42, 89]
abbrev dktX14_factor_3 : List UInt8 := dkwX14_factor_3 ++ dktX14_factor_4
def dkwX14_factor_2 : List UInt8 := [42, 182, 0, 61, 187, 0, 64, 89, 42, 182, 0, 66, 183, 0, 70, 76, 42, 89, 180, 0, 58, 4, 100]
abbrev dktX14_factor_2 : List UInt8 := dkwX14_factor_2 ++ dktX14_factor_3
def dkwX14_factor_1 : List UInt8 := [171, 0, 0, 0, 0, 0, 0, 200, 0, 0, 0, 8, 0, 0, 0, 33, 0, 0, 0, 76, 0, 0, 0, 40, 0, 0, 0, 104, 0, 0, 0, 104, 0, 0, 0, 131, 0, 0, 0, 107, 0, 0, 0, 131, 0, 0, 0, 108, 0, 0, 0, 131, 0, 0, 0, 111, 0, 0, 0, 131, 0, 0, 0, 116, 0, 0, 0, 131, 0, 0, 0, 118, 0, 0, 0, 131]
abbrev dktX14_factor_1 : List UInt8 := dkwX14_factor_1 ++ dktX14_factor_2
def dkwX14_factor_0 : List UInt8 := [42, 182, 0, 34]
abbrev dktX14_factor_0 : List UInt8 := dkwX14_factor_0 ++ dktX14_factor_1
theorem dksX14_factor_0 : cX14_factor.data.toList.drop 0 = dktX14_factor_0 := by decide +kernel
theorem dksX14_factor_1 : cX14_factor.data.toList.drop 4 = dktX14_factor_1 := dk_seg dksX14_factor_0 4 rfl rfl
theorem dksX14_factor_2 : cX14_factor.data.toList.drop 80 = dktX14_factor_2 := dk_seg dksX14_factor_1 76 rfl rfl
theorem dksX14_factor_3 : cX14_factor.data.toList.drop 103 = dktX14_factor_3 := dk_seg dksX14_factor_2 23 rfl rfl
theorem dksX14_factor_4 : cX14_factor.data.toList.drop 125 = dktX14_factor_4 := dk_seg dksX14_factor_3 22 rfl rfl
theorem dksX14_factor_5 : cX14_factor.data.toList.drop 147 = dktX14_factor_5 := dk_seg dksX14_factor_4 22 rfl rfl
theorem dksX14_factor_6 : cX14_factor.data.toList.drop 170 = dktX14_factor_6 := dk_seg dksX14_factor_5 23 rfl rfl
theorem dksX14_factor_7 : cX14_factor.data.toList.drop 194 = dktX14_factor_7 := dk_seg dksX14_factor_6 24 rfl rfl
theorem dX14_factor_0 : decode cX14_factor 0 = .ok (.aload_n 0, 1) := dk_42 (dk_at dksX14_factor_0 0 rfl rfl)
theorem dX14_factor_1 : decode cX14_factor 1 = .ok (.invokevirtual 34, 3) := dk_182 0 34 (dk_at dksX14_factor_0 1 rfl rfl)
theorem dX14_factor_4 : decode cX14_factor 4 = .ok (.lookupswitch 200 #[(33, 76), (40, 104), (104, 131), (107, 131), (108, 131), (111, 131), (116, 131), (118, 131)], 76) := by decide +kernel
theorem dX14_factor_80 : decode cX14_factor 80 = .ok (.aload_n 0, 1) := dk_42 (dk_at dksX14_factor_2 0 rfl rfl)
theorem dX14_factor_81 : decode cX14_factor 81 = .ok (.invokevirtual 61, 3) := dk_182 0 61 (dk_at dksX14_factor_2 1 rfl rfl)
theorem dX14_factor_84 : decode cX14_factor 84 = .ok (.new 64, 3) := dk_187 0 64 (dk_at dksX14_factor_2 4 rfl rfl)
theorem dX14_factor_87 : decode cX14_factor 87 = .ok (.dup, 1) := dk_89 (dk_at dksX14_factor_2 7 rfl rfl)
theorem dX14_factor_88 : decode cX14_factor 88 = .ok (.aload_n 0, 1) := dk_42 (dk_at dksX14_factor_2 8 rfl rfl)
theorem dX14_factor_89 : decode cX14_factor 89 = .ok (.invokevirtual 66, 3) := dk_182 0 66 (dk_at dksX14_factor_2 9 rfl rfl)
theorem dX14_factor_92 : decode cX14_factor 92 = .ok (.invokespecial 70, 3) := dk_183 0 70 (dk_at dksX14_factor_2 12 rfl rfl)
theorem dX14_factor_95 : decode cX14_factor 95 = .ok (.astore_n 1, 1) := dk_76 (dk_at dksX14_factor_2 15 rfl rfl)
theorem dX14_factor_96 : decode cX14_factor 96 = .ok (.aload_n 0, 1) := dk_42 (dk_at dksX14_factor_2 16 rfl rfl)
theorem dX14_factor_97 : decode cX14_factor 97 = .ok (.dup, 1) := dk_89 (dk_at dksX14_factor_2 17 rfl rfl)
theorem dX14_factor_98 : decode cX14_factor 98 = .ok (.getfield 58, 3) := dk_180 0 58 (dk_at dksX14_factor_2 18 rfl rfl)
theorem dX14_factor_101 : decode cX14_factor 101 = .ok (.iconst 1, 1) := dk_4 (dk_at dksX14_factor_2 21 rfl rfl)
theorem dX14_factor_102 : decode cX14_factor 102 = .ok (.isub, 1) := dk_100 (dk_at dksX14_factor_2 22 rfl rfl)
theorem dX14_factor_103 : decode cX14_factor 103 = .ok (.putfield 58, 3) := dk_181 0 58 (dk_at dksX14_factor_3 0 rfl rfl)
theorem dX14_factor_106 : decode cX14_factor 106 = .ok (.aload_n 1, 1) := dk_43 (dk_at dksX14_factor_3 3 rfl rfl)
theorem dX14_factor_107 : decode cX14_factor 107 = .ok (.areturn, 1) := dk_176 (dk_at dksX14_factor_3 4 rfl rfl)
theorem dX14_factor_108 : decode cX14_factor 108 = .ok (.aload_n 0, 1) := dk_42 (dk_at dksX14_factor_3 5 rfl rfl)
theorem dX14_factor_109 : decode cX14_factor 109 = .ok (.invokevirtual 61, 3) := dk_182 0 61 (dk_at dksX14_factor_3 6 rfl rfl)
theorem dX14_factor_112 : decode cX14_factor 112 = .ok (.aload_n 0, 1) := dk_42 (dk_at dksX14_factor_3 9 rfl rfl)
theorem dX14_factor_113 : decode cX14_factor 113 = .ok (.invokevirtual 73, 3) := dk_182 0 73 (dk_at dksX14_factor_3 10 rfl rfl)
theorem dX14_factor_116 : decode cX14_factor 116 = .ok (.astore_n 1, 1) := dk_76 (dk_at dksX14_factor_3 13 rfl rfl)
theorem dX14_factor_117 : decode cX14_factor 117 = .ok (.aload_n 0, 1) := dk_42 (dk_at dksX14_factor_3 14 rfl rfl)
theorem dX14_factor_118 : decode cX14_factor 118 = .ok (.bipush 41, 2) := dk_16 41 (dk_at dksX14_factor_3 15 rfl rfl)
theorem dX14_factor_120 : decode cX14_factor 120 = .ok (.invokevirtual 51, 3) := dk_182 0 51 (dk_at dksX14_factor_3 17 rfl rfl)
theorem dX14_factor_123 : decode cX14_factor 123 = .ok (.aload_n 0, 1) := dk_42 (dk_at dksX14_factor_3 20 rfl rfl)
theorem dX14_factor_124 : decode cX14_factor 124 = .ok (.dup, 1) := dk_89 (dk_at dksX14_factor_3 21 rfl rfl)
theorem dX14_factor_125 : decode cX14_factor 125 = .ok (.getfield 58, 3) := dk_180 0 58 (dk_at dksX14_factor_4 0 rfl rfl)
theorem dX14_factor_128 : decode cX14_factor 128 = .ok (.iconst 1, 1) := dk_4 (dk_at dksX14_factor_4 3 rfl rfl)
theorem dX14_factor_129 : decode cX14_factor 129 = .ok (.isub, 1) := dk_100 (dk_at dksX14_factor_4 4 rfl rfl)
theorem dX14_factor_130 : decode cX14_factor 130 = .ok (.putfield 58, 3) := dk_181 0 58 (dk_at dksX14_factor_4 5 rfl rfl)
theorem dX14_factor_133 : decode cX14_factor 133 = .ok (.aload_n 1, 1) := dk_43 (dk_at dksX14_factor_4 8 rfl rfl)
theorem dX14_factor_134 : decode cX14_factor 134 = .ok (.areturn, 1) := dk_176 (dk_at dksX14_factor_4 9 rfl rfl)
theorem dX14_factor_135 : decode cX14_factor 135 = .ok (.aload_n 0, 1) := dk_42 (dk_at dksX14_factor_4 10 rfl rfl)
theorem dX14_factor_136 : decode cX14_factor 136 = .ok (.getfield 18, 3) := dk_180 0 18 (dk_at dksX14_factor_4 11 rfl rfl)
theorem dX14_factor_139 : decode cX14_factor 139 = .ok (.aload_n 0, 1) := dk_42 (dk_at dksX14_factor_4 14 rfl rfl)
theorem dX14_factor_140 : decode cX14_factor 140 = .ok (.dup, 1) := dk_89 (dk_at dksX14_factor_4 15 rfl rfl)
theorem dX14_factor_141 : decode cX14_factor 141 = .ok (.getfield 26, 3) := dk_180 0 26 (dk_at dksX14_factor_4 16 rfl rfl)
theorem dX14_factor_144 : decode cX14_factor 144 = .ok (.dup_x1, 1) := dk_90 (dk_at dksX14_factor_4 19 rfl rfl)
theorem dX14_factor_145 : decode cX14_factor 145 = .ok (.iconst 1, 1) := dk_4 (dk_at dksX14_factor_4 20 rfl rfl)
theorem dX14_factor_146 : decode cX14_factor 146 = .ok (.iadd, 1) := dk_96 (dk_at dksX14_factor_4 21 rfl rfl)
theorem dX14_factor_147 : decode cX14_factor 147 = .ok (.putfield 26, 3) := dk_181 0 26 (dk_at dksX14_factor_5 0 rfl rfl)
theorem dX14_factor_150 : decode cX14_factor 150 = .ok (.baload, 1) := dk_51 (dk_at dksX14_factor_5 3 rfl rfl)
theorem dX14_factor_151 : decode cX14_factor 151 = .ok (.istore_n 1, 1) := dk_60 (dk_at dksX14_factor_5 4 rfl rfl)
theorem dX14_factor_152 : decode cX14_factor 152 = .ok (.aload_n 0, 1) := dk_42 (dk_at dksX14_factor_5 5 rfl rfl)
theorem dX14_factor_153 : decode cX14_factor 153 = .ok (.invokevirtual 34, 3) := dk_182 0 34 (dk_at dksX14_factor_5 6 rfl rfl)
theorem dX14_factor_156 : decode cX14_factor 156 = .ok (.istore_n 2, 1) := dk_61 (dk_at dksX14_factor_5 9 rfl rfl)
theorem dX14_factor_157 : decode cX14_factor 157 = .ok (.iload_n 2, 1) := dk_28 (dk_at dksX14_factor_5 10 rfl rfl)
theorem dX14_factor_158 : decode cX14_factor 158 = .ok (.bipush 60, 2) := dk_16 60 (dk_at dksX14_factor_5 11 rfl rfl)
theorem dX14_factor_160 : decode cX14_factor 160 = .ok (.if_icmp .eq 20, 3) := dk_159 0 20 (dk_at dksX14_factor_5 13 rfl rfl)
theorem dX14_factor_163 : decode cX14_factor 163 = .ok (.iload_n 2, 1) := dk_28 (dk_at dksX14_factor_5 16 rfl rfl)
theorem dX14_factor_164 : decode cX14_factor 164 = .ok (.bipush 61, 2) := dk_16 61 (dk_at dksX14_factor_5 17 rfl rfl)
theorem dX14_factor_166 : decode cX14_factor 166 = .ok (.if_icmp .eq 14, 3) := dk_159 0 14 (dk_at dksX14_factor_5 19 rfl rfl)
theorem dX14_factor_169 : decode cX14_factor 169 = .ok (.iload_n 2, 1) := dk_28 (dk_at dksX14_factor_5 22 rfl rfl)
theorem dX14_factor_170 : decode cX14_factor 170 = .ok (.bipush 62, 2) := dk_16 62 (dk_at dksX14_factor_6 0 rfl rfl)
theorem dX14_factor_172 : decode cX14_factor 172 = .ok (.if_icmp .eq 8, 3) := dk_159 0 8 (dk_at dksX14_factor_6 2 rfl rfl)
theorem dX14_factor_175 : decode cX14_factor 175 = .ok (.aload_n 0, 1) := dk_42 (dk_at dksX14_factor_6 5 rfl rfl)
theorem dX14_factor_176 : decode cX14_factor 176 = .ok (.invokevirtual 38, 3) := dk_182 0 38 (dk_at dksX14_factor_6 6 rfl rfl)
theorem dX14_factor_179 : decode cX14_factor 179 = .ok (.athrow, 1) := dk_191 (dk_at dksX14_factor_6 9 rfl rfl)
theorem dX14_factor_180 : decode cX14_factor 180 = .ok (.aload_n 0, 1) := dk_42 (dk_at dksX14_factor_6 10 rfl rfl)
theorem dX14_factor_181 : decode cX14_factor 181 = .ok (.dup, 1) := dk_89 (dk_at dksX14_factor_6 11 rfl rfl)
theorem dX14_factor_182 : decode cX14_factor 182 = .ok (.getfield 26, 3) := dk_180 0 26 (dk_at dksX14_factor_6 12 rfl rfl)
theorem dX14_factor_185 : decode cX14_factor 185 = .ok (.iconst 1, 1) := dk_4 (dk_at dksX14_factor_6 15 rfl rfl)
theorem dX14_factor_186 : decode cX14_factor 186 = .ok (.iadd, 1) := dk_96 (dk_at dksX14_factor_6 16 rfl rfl)
theorem dX14_factor_187 : decode cX14_factor 187 = .ok (.putfield 26, 3) := dk_181 0 26 (dk_at dksX14_factor_6 17 rfl rfl)
theorem dX14_factor_190 : decode cX14_factor 190 = .ok (.new 76, 3) := dk_187 0 76 (dk_at dksX14_factor_6 20 rfl rfl)
theorem dX14_factor_193 : decode cX14_factor 193 = .ok (.dup, 1) := dk_89 (dk_at dksX14_factor_6 23 rfl rfl)
theorem dX14_factor_194 : decode cX14_factor 194 = .ok (.iload_n 1, 1) := dk_27 (dk_at dksX14_factor_7 0 rfl rfl)
theorem dX14_factor_195 : decode cX14_factor 195 = .ok (.iload_n 2, 1) := dk_28 (dk_at dksX14_factor_7 1 rfl rfl)
theorem dX14_factor_196 : decode cX14_factor 196 = .ok (.aload_n 0, 1) := dk_42 (dk_at dksX14_factor_7 2 rfl rfl)
theorem dX14_factor_197 : decode cX14_factor 197 = .ok (.invokevirtual 78, 3) := dk_182 0 78 (dk_at dksX14_factor_7 3 rfl rfl)
theorem dX14_factor_200 : decode cX14_factor 200 = .ok (.invokespecial 81, 3) := dk_183 0 81 (dk_at dksX14_factor_7 6 rfl rfl)
theorem dX14_factor_203 : decode cX14_factor 203 = .ok (.areturn, 1) := dk_176 (dk_at dksX14_factor_7 9 rfl rfl)
theorem dX14_factor_204 : decode cX14_factor 204 = .ok (.aload_n 0, 1) := dk_42 (dk_at dksX14_factor_7 10 rfl rfl)
theorem dX14_factor_205 : decode cX14_factor 205 = .ok (.invokevirtual 38, 3) := dk_182 0 38 (dk_at dksX14_factor_7 11 rfl rfl)
theorem dX14_factor_208 : decode cX14_factor 208 = .ok (.athrow, 1) := dk_191 (dk_at dksX14_factor_7 14 rfl rfl)
theorem xr_factor : xV yX14_factor "BakedBefore$Reader" cX14_factor 3 (some (.object "BakedBefore$Test")) 0 := ⟨q878, qs19, q110, q879, ⟨rfl, by decide +kernel, by decide +kernel, by decide +kernel⟩, by decide⟩
theorem xr_all : xV yX14_all "BakedBefore$Reader" cX14_all 2 (some (.object "BakedBefore$Test")) 0 := ⟨q874, qs18, q110, q875, ⟨rfl, by decide +kernel, by decide +kernel, by decide +kernel⟩, by decide⟩
theorem xr_some : xV yX14_some "BakedBefore$Reader" cX14_some 2 (some (.object "BakedBefore$Test")) 0 := ⟨q851, qs17, q110, q852, ⟨rfl, by decide +kernel, by decide +kernel, by decide +kernel⟩, by decide⟩
/-- the loop's end -/
def pLj (all : Bool) (F : Nat → PR TF1) (f : SS) (n : Nat) (sep : Int32) (k a : Nat) (φs : List TF1) : PR TF1 := match pLoop F f n sep k a φs with
  | .inl p => .inl p
  | .inr z => .inr (z.1, jn all z.2)
section PLJ
variable {all : Bool} {F : Nat → PR TF1} {f : SS} {n : Nat} {sep : Int32} {k a : Nat} {φs : List TF1}
theorem pLj_end : endP (pLj all F f n sep k a φs) = endP (pLoop F f n sep k a φs) := by
  unfold pLj
  cases pLoop F f n sep k a φs <;> rfl
theorem pLj_stop (h : k = 0 ∨ ¬ hereS f n a = sep) : pLj all F f n sep k a φs = .inr (a, jn all φs) := by
  unfold pLj
  cases k with
  | zero => rfl
  | succ k =>
    have h2 : ¬ hereS f n a = sep := h.resolve_left (by omega)
    rw [pLoop, if_neg h2]
theorem pLj_inl {p : Nat} (h : hereS f n a = sep) (hr : F (a + 1) = .inl p) : pLj all F f n sep (k + 1) a φs = .inl p := by
  unfold pLj
  rw [pLoop, if_pos h, hr]
theorem pLj_inr {q : Nat × TF1} (h : hereS f n a = sep) (hr : F (a + 1) = .inr q) : pLj all F f n sep (k + 1) a φs = pLj all F f n sep k q.1 (φs ++ [q.2]) := by
  unfold pLj
  rw [pLoop, if_pos h, hr]
theorem pLj_le (hs : sep ≠ -1) (hF : ∀ a, pEn n a (F a)) (h : hereS f n a = sep) : endP (F (a + 1)) ≤ endP (pLj all F f n sep (k + 1) a φs) := by
  cases hr : F (a + 1) with
  | inl p => rw [pLj_inl h hr]; exact Nat.le_refl _
  | inr q => rw [pLj_inr h hr, pLj_end]; exact (pLoop_en hs hF k q.1 _).1
theorem pJ_le (hs : sep ≠ -1) (hF : ∀ a, pEn n a (F a)) (a : Nat) : endP (F a) ≤ endP (pJ all f n sep F a) := by
  have e : pJ all f n sep F a = (match F a with | .inl p => (.inl p : PR TF1) | .inr q => pLj all F f n sep n q.1 [q.2]) := rfl
  rw [e]
  cases hr : F a with
  | inl p => exact Nat.le_refl _
  | inr q =>
    show q.1 ≤ endP (pLj all F f n sep n q.1 [q.2])
    rw [pLj_end]
    exact (pLoop_en hs hF n q.1 _).1
end PLJ
theorem el_add {T : xT} {xs : List Nat} {φs : List TF1} {M N J : va_W} {d b : Nat} {φ2 : TF1} (hl : xs.length = φs.length) (hel : ∀ (i x : Nat) (ψ : TF1), xs[i]? = some x → φs[i]? = some ψ → tstP T M d x ψ) (ht : tstP T N d b φ2) {i x : Nat} {ψ : TF1} (hx : (xs ++ [b])[i]? = some x) (hψ : (φs ++ [φ2])[i]? = some ψ) : tstP T (M ++ N ++ J) d x ψ := by
  rw [List.getElem?_append] at hx hψ
  by_cases hi : i < xs.length
  · rw [if_pos hi] at hx
    rw [if_pos (by omega)] at hψ
    exact (hel i x ψ hx hψ).mono (fun z hz => List.mem_append_left _ (List.mem_append_left _ hz))
  · rw [if_neg hi] at hx
    rw [if_neg (by omega)] at hψ
    have h0 : i - xs.length = 0 := by
      have := (List.getElem?_eq_some_iff.mp hx).1
      simp at this
      omega
    rw [h0] at hx
    rw [show i - φs.length = 0 by omega] at hψ
    cases hx
    cases hψ
    exact ht.mono (fun z hz => List.mem_append_left _ (List.mem_append_right _ hz))
/-- a test has been read -/
def rdP (T : xT) (R tx kl : Nat) (g : Nat → Int32) (n dp : Nat) (r : PR TF1) (d : Nat) : Option Value → va_W → Prop := fun v w => ∃ (e : Nat) (φ : TF1) (b : Nat) (N : va_W), r = .inr (e, φ) ∧ v = some (.ref b) ∧ w = rdW T R tx kl g n (nI e) (nI dp) ++ N ∧ tstP T N d b φ
/-- it can't go on -/
def rdE {α : Type} (T : xT) (R tx kl : Nat) (g : Nat → Int32) (n : Nat) (r : PR α) : String → Nat → va_W → Prop := fun E q w => ∃ p : Nat, r = .inl p ∧ rdX T R tx kl g n p [] E q w
/-- what factor does -/
def kdF (l : Launch) (D : va_G) (T : xT) (n : Nat) (g : Nat → Int32) (r : Nat) : Prop := ∀ R tx kl a : Nat, a ≤ n → XMX l D T yX14_factor cX14_factor 3 (some (.object "BakedBefore$Test")) (15 + 3 * r) (8 * (endP (pF g n r a) - a) + 3) (430 * (endP (pF g n r a) - a) + 20) [.ref R] (rdW T R tx kl g n (nI a) (nI (4 - r))) (rdP T R tx kl g n (4 - r) (pF g n r a) (2 * r + 1)) (rdE T R tx kl g n (pF g n r a))
/-- what all does -/
def kdA (l : Launch) (D : va_G) (T : xT) (n : Nat) (g : Nat → Int32) (r : Nat) : Prop := ∀ R tx kl a : Nat, a ≤ n → XMX l D T yX14_all cX14_all 2 (some (.object "BakedBefore$Test")) (16 + 3 * r) (8 * (endP (pJ true g n 38 (pF g n r) a) - a) + 6) (430 * (endP (pJ true g n 38 (pF g n r) a) - a) + 225) [.ref R] (rdW T R tx kl g n (nI a) (nI (4 - r))) (rdP T R tx kl g n (4 - r) (pJ true g n 38 (pF g n r) a) (2 * r + 2)) (rdE T R tx kl g n (pJ true g n 38 (pF g n r) a))
/-- what some does -/
def kdS (l : Launch) (D : va_G) (T : xT) (n : Nat) (g : Nat → Int32) (r : Nat) : Prop := ∀ R tx kl a : Nat, a ≤ n → XMX l D T yX14_some cX14_some 2 (some (.object "BakedBefore$Test")) (17 + 3 * r) (8 * (endP (pJ false g n 124 (pJ true g n 38 (pF g n r)) a) - a) + 9) (430 * (endP (pJ false g n 124 (pJ true g n 38 (pF g n r)) a) - a) + 430) [.ref R] (rdW T R tx kl g n (nI a) (nI (4 - r))) (rdP T R tx kl g n (4 - r) (pJ false g n 124 (pJ true g n 38 (pF g n r)) a) (2 * r + 3)) (rdE T R tx kl g n (pJ false g n 124 (pJ true g n 38 (pF g n r)) a))
theorem rk_all (l : Launch) (hlt : l.stackTraces = false) (D : va_G) (T : xT) (n : Nat) (g : Nat → Int32) (hn : n ≤ 100) (r : Nat) (hF : kdF l D T n g r) : kdA l D T n g r := by
  intro R tx kl a ha
  have hen : ∀ a, pEn n a (pF g n r a) := pF_en r
  obtain ⟨res, hres⟩ : ∃ z, z = pJ true g n 38 (pF g n r) a := ⟨_, rfl⟩
  have hE : pEn n a res := by rw [hres]; exact pJ_en (by decide) hen a
  have hE1 := hE.1
  have hFR : endP (pF g n r a) ≤ endP res := by rw [hres]; exact pJ_le (by decide) hen a
  have hE0 := (hen a).1
  have hj : res = (match pF g n r a with | .inl p => (.inl p : PR TF1) | .inr q => pLj true (pF g n r) g n 38 n q.1 [q.2]) := hres
  rw [← hres]
  refine XMX.start (by decide +kernel) (Nat.le_of_ble_eq_true rfl) (fun Γ G X htab hl_ => ?_)
  subst hl_
  refine K.less [0] (lv' := [(0, .ref R)]) rfl ?_
  refine k_new G (fs := [.int 0, .null]) ci_X18 q853 q854 q117 (fun j hj => by match j, hj with | 0, _ => rfl | 1, _ => rfl) ⟨by omega, by omega⟩ dX14_all_0 (fun s => ?_)
  refine k_dup G dX14_all_3 rfl ?_
  refine k_iconst G (v := 1) dX14_all_4 (by decide) ?_
  refine k_ctor G (ws := (rdW T R tx kl g n (nI a) (nI (4 - r)))) (As := [.int 1]) (rest := [.ref s]) (ct_Some _ D T s 1 (Or.inr rfl)) xi_Some q855 rfl rfl (Nat.le_of_ble_eq_true rfl) (by omega) ⟨by omega, by omega⟩ dX14_all_5 (fun v w hq => ?_)
  obtain ⟨rfl, al, rfl⟩ := hq
  refine K.nf (c' := 2) (s' := 5) (ws' := ((rdW T R tx kl g n (nI a) (nI (4 - r))) ++ ((s, .inr (17, [.int 1, .ref al])) :: [(al, .inr (20, [.int 0, .ref T.2.2.2, .int 0]))]))) rfl rfl rfl rfl ?_
  have hw0 : alW T al [] [] [(al, .inr (20, [.int 0, .ref T.2.2.2, .int 0]))] := ⟨0, T.2.2.2, [], rfl, Or.inl ⟨rfl, rfl, rfl⟩⟩
  have L : ∀ (k cur : Nat) (xs : List Nat) (φs : List TF1) (M w : va_W), pLj true (pF g n r) g n 38 k cur φs = res → cur ≤ n → a ≤ cur → n ≤ cur + k → xs.length = φs.length → xs.length ≤ cur + 1 - a → alW T al xs M w → (∀ (i x : Nat) (ψ : TF1), xs[i]? = some x → φs[i]? = some ψ → tstP T M (2 * r + 1) x ψ) → K D Γ (8 * (cur - a) + 6) (430 * (cur - a) + 225) 21 [(1, .ref s), (0, .ref R)] [] ((rdW T R tx kl g n (nI cur) (nI (4 - r))) ++ ((s, .inr (17, [.int 1, .ref al])) :: w)) := by
    intro k
    induction k with
    | zero =>
      intro cur xs φs M w he hc ha2 hnk hl hlx hw hel
      refine k_aload_n G dX14_all_21 rfl ?_
      refine kk_here G hn (by omega) dX14_all_22 (Nat.le_of_ble_eq_true rfl) (by omega) ⟨by omega, by omega⟩ ?_
      refine k_bipush G (v := 38) dX14_all_25 (by decide) ?_
      refine k_icmp_ne G 55 dX14_all_27 (by decide) (fun c27 => ?_) (fun c27 => ?_)
      · have hs := pLj_stop (F := pF g n r) (all := true) (k := 0) (φs := φs) (Or.inr c27)
        rw [he] at hs
        have he2 : endP res = cur := by rw [hs]; rfl
        refine k_aload_n G dX14_all_55 rfl ?_
        exact kx_ret X (k_aret (xEr.G G) xEr.X (Or.inl ⟨_, rfl⟩) (r := some s) dX14_all_56 (by omega) (by omega) ⟨cur, _, s, _, hs, rfl, rfl, Or.inr (Or.inr ⟨true, al, xs, φs, List.mem_cons_self, (hw.alP (by omega)).mono (fun z hz => List.mem_cons_of_mem _ hz), hl, fun i x ψ hx hψ => (hel i x ψ hx hψ).mono (fun z hz => List.mem_cons_of_mem _ (hw.sub z hz)), fun e => rfl⟩)⟩)
      · have := hereS_eq c27 (by decide)
        omega
    | succ k ih =>
      intro cur xs φs M w he hc ha2 hnk hl hlx hw hel
      refine k_aload_n G dX14_all_21 rfl ?_
      refine kk_here G hn (by omega) dX14_all_22 (Nat.le_of_ble_eq_true rfl) (by omega) ⟨by omega, by omega⟩ ?_
      refine k_bipush G (v := 38) dX14_all_25 (by decide) ?_
      refine k_icmp_ne G 55 dX14_all_27 (by decide) (fun c27 => ?_) (fun c27 => ?_)
      · have hs := pLj_stop (F := pF g n r) (all := true) (k := (k + 1)) (φs := φs) (Or.inr c27)
        rw [he] at hs
        have he2 : endP res = cur := by rw [hs]; rfl
        refine k_aload_n G dX14_all_55 rfl ?_
        exact kx_ret X (k_aret (xEr.G G) xEr.X (Or.inl ⟨_, rfl⟩) (r := some s) dX14_all_56 (by omega) (by omega) ⟨cur, _, s, _, hs, rfl, rfl, Or.inr (Or.inr ⟨true, al, xs, φs, List.mem_cons_self, (hw.alP (by omega)).mono (fun z hz => List.mem_cons_of_mem _ hz), hl, fun i x ψ hx hψ => (hel i x ψ hx hψ).mono (fun z hz => List.mem_cons_of_mem _ (hw.sub z hz)), fun e => rfl⟩)⟩)
      · have hlt2 := hereS_eq c27 (by decide)
        have hFR : endP (pF g n r (cur + 1)) ≤ endP res := by rw [← he]; exact pLj_le (by decide) hen c27
        have hE0 := (hen (cur + 1)).1
        refine k_aload_n G dX14_all_30 rfl ?_
        refine k_dup G dX14_all_31 rfl ?_
        refine rg_at G dX14_all_32 ?_
        refine k_iconst G (v := 1) dX14_all_35 (by decide) ?_
        refine k_iadd G dX14_all_36 ?_
        rw [nI_1]
        refine rp_at G dX14_all_37 ?_
        refine k_aload_n G dX14_all_40 rfl ?_
        refine k_get G (p := 2) (k := 1) ci_X18 rfl (by decide) (Or.inr (List.mem_of_getElem? (i := 18) rfl)) (fun _ h => h) rfl dX14_all_41 ?_
        refine k_aload_n G dX14_all_44 rfl ?_
        refine k_callVX G (wl := []) (wc := (rdW T R tx kl g n (nI (cur + 1)) (nI (4 - r)))) (wr := (s, .inr (17, [.int 1, .ref al])) :: w) (As := []) (rest := [.ref al]) (hF R tx kl (cur + 1) (by omega)) xr_factor q876 rfl rfl (Nat.le_of_ble_eq_true rfl) (by omega) ⟨by omega, by omega⟩ ⟨0, 14, _, TX14, 5, rfl, rfl⟩ dX14_all_45 (fun v wc hq => ?_) (fun E q wc hq => ?_)
        · obtain ⟨e2, φ2, b, N, hr, rfl, rfl, ht⟩ := hq
          have hb := (hen (cur + 1)).2 (by omega)
          have hb0 := (hen (cur + 1)).1
          rw [hr] at hb hb0 hFR
          change e2 ≤ n at hb
          change (cur + 1) ≤ e2 at hb0
          change e2 ≤ endP res at hFR
          rw [hr]
          show K D Γ (8 * (cur - a) + 6 + (8 * (e2 - (cur + 1)) + 3)) (430 * (cur - a) + 225 + (430 * (e2 - (cur + 1)) + 20)) _ _ _ _
          refine K.perm (ws' := ((rdW T R tx kl g n (nI e2) (nI (4 - r))) ++ [(s, .inr (17, [.int 1, .ref al]))]) ++ ((w ++ N) ++ [])) (pm (fun c f h0 h1 h2 => by simp only [h0, h1, h2, List.cons_append, List.nil_append, List.append_nil]; omega)) ?_
          obtain ⟨m0, arr, w0, hw1, -⟩ := hw
          refine k_callV G (wl := (rdW T R tx kl g n (nI e2) (nI (4 - r))) ++ [(s, .inr (17, [.int 1, .ref al]))]) (wc := w ++ N) (wr := []) (As := [.ref b]) (rest := []) (C := RJ2) (kd_add _ D T (hw.more (N := N)) (fun y hy => by
            obtain ⟨i, hi⟩ := List.getElem?_of_mem hy
            have hlt3 := (List.getElem?_eq_some_iff.mp hi).1
            exact ((hel i y _ hi (List.getElem?_eq_getElem (by omega))).elt).mono (fun z hz => List.mem_append_left _ hz)) ((ht.elt).mono (fun z hz => List.mem_append_right _ hz)) (by omega)) xs_add q910 rfl rfl (Nat.le_of_ble_eq_true rfl) (by omega) ⟨by omega, by omega⟩ ⟨3, 20, _, TJ2, 3, by rw [hw1]; rfl, rfl⟩ dX14_all_48 (fun v9 w9 h9 => ?_)
          obtain ⟨rfl, J, hw9⟩ := h9
          refine K.nf (ws' := ((rdW T R tx kl g n (nI e2) (nI (4 - r))) ++ ((s, .inr (17, [.int 1, .ref al])) :: w9))) rfl rfl rfl (by simp only [List.append_nil, List.append_assoc, List.cons_append, List.nil_append]) ?_
          refine k_pop G dX14_all_51 rfl ?_
          refine k_goto G 21 dX14_all_52 (by decide) ?_
          refine K.widen (c' := 8 * (e2 - a) + 6) (s' := 430 * (e2 - a) + 225) (by omega) (by omega) ?_
          refine ih e2 (xs ++ [b]) (φs ++ [φ2]) (M ++ N ++ J) w9 (by rw [← he]; exact (pLj_inr c27 hr).symm) hb (by omega) (by omega) (by simp [hl]) (by rw [List.length_append]; show xs.length + 1 ≤ _; omega) hw9 (fun i x ψ hx hψ => ?_)
          exact el_add hl hel ht hx hψ
        · obtain ⟨p, hr, rfl, y9, x9, N, fs, rfl, hm, h6⟩ := hq
          rw [hr] at hFR
          change p ≤ endP res at hFR
          rw [hr]
          have hb0 := (hen (cur + 1)).1
          rw [hr] at hb0
          change (cur + 1) ≤ p at hb0
          refine kx_out G X htab (by show 8 * (cur - a) + 6 + (8 * (p - (cur + 1)) + 3) ≤ _; omega) (by show 430 * (cur - a) + 225 + (430 * (p - (cur + 1)) + 20) ≤ _; omega) ⟨p, (he.symm.trans (pLj_inl c27 hr)), rfl, y9, x9, N ++ ((s, .inr (17, [.int 1, .ref al])) :: w), fs, by simp only [List.append_assoc, List.nil_append], List.mem_append_left _ hm, h6⟩
  refine k_astore_n G [(1, .ref s), (0, .ref R)] dX14_all_8 rfl (Nat.le_of_ble_eq_true rfl) rfl ?_
  refine k_aload_n G dX14_all_9 rfl ?_
  refine k_get G (p := 2) (k := 1) ci_X18 rfl (by decide) (Or.inr (List.mem_of_getElem? (i := 18) rfl)) (fun _ h => h) rfl dX14_all_10 ?_
  refine k_aload_n G dX14_all_13 rfl ?_
  refine k_callVX G (wl := []) (wc := (rdW T R tx kl g n (nI a) (nI (4 - r)))) (wr := (s, .inr (17, [.int 1, .ref al])) :: [(al, .inr (20, [.int 0, .ref T.2.2.2, .int 0]))]) (As := []) (rest := [.ref al]) (hF R tx kl a (by omega)) xr_factor q876 rfl rfl (Nat.le_of_ble_eq_true rfl) (by omega) ⟨by omega, by omega⟩ ⟨0, 14, _, TX14, 5, rfl, rfl⟩ dX14_all_14 (fun v wc hq => ?_) (fun E q wc hq => ?_)
  · obtain ⟨e2, φ2, b, N, hr, rfl, rfl, ht⟩ := hq
    have hb := (hen a).2 (by omega)
    have hb0 := (hen a).1
    rw [hr] at hb hb0 hFR
    change e2 ≤ n at hb
    change a ≤ e2 at hb0
    change e2 ≤ endP res at hFR
    rw [hr]
    show K D Γ (2 + (8 * (e2 - a) + 3)) (5 + (430 * (e2 - a) + 20)) _ _ _ _
    refine K.perm (ws' := ((rdW T R tx kl g n (nI e2) (nI (4 - r))) ++ [(s, .inr (17, [.int 1, .ref al]))]) ++ (([(al, .inr (20, [.int 0, .ref T.2.2.2, .int 0]))] ++ N) ++ [])) (pm (fun c f h0 h1 h2 => by simp only [h0, h1, h2, List.cons_append, List.nil_append, List.append_nil]; omega)) ?_
    obtain ⟨m0, arr, w0, hw1, -⟩ := hw0
    refine k_callV G (wl := (rdW T R tx kl g n (nI e2) (nI (4 - r))) ++ [(s, .inr (17, [.int 1, .ref al]))]) (wc := [(al, .inr (20, [.int 0, .ref T.2.2.2, .int 0]))] ++ N) (wr := []) (As := [.ref b]) (rest := []) (C := RJ2) (kd_add _ D T (hw0.more (N := N)) (fun y hy => nomatch hy) ((ht.elt).mono (fun z hz => List.mem_append_right _ hz)) (by decide)) xs_add q910 rfl rfl (Nat.le_of_ble_eq_true rfl) (by omega) ⟨by omega, by omega⟩ ⟨3, 20, _, TJ2, 3, by rw [hw1]; rfl, rfl⟩ dX14_all_17 (fun v9 w9 h9 => ?_)
    obtain ⟨rfl, J, hw9⟩ := h9
    refine K.nf (ws' := ((rdW T R tx kl g n (nI e2) (nI (4 - r))) ++ ((s, .inr (17, [.int 1, .ref al])) :: w9))) rfl rfl rfl (by simp only [List.append_nil, List.append_assoc, List.cons_append, List.nil_append]) ?_
    refine k_pop G dX14_all_20 rfl ?_
    refine K.widen (c' := 8 * (e2 - a) + 6) (s' := 430 * (e2 - a) + 225) (by omega) (by omega) ?_
    rw [hr] at hj
    refine L n e2 [b] [φ2] ([] ++ N ++ J) w9 hj.symm hb hb0 (by omega) rfl (by show 1 ≤ e2 + 1 - a; omega) hw9 (fun i x ψ hx hψ => ?_)
    exact el_add (xs := []) (φs := []) (M := []) rfl (fun i x ψ hx => by cases hx) ht hx hψ
  · obtain ⟨p, hr, rfl, y9, x9, N, fs, rfl, hm, h6⟩ := hq
    rw [hr] at hFR
    change p ≤ endP res at hFR
    rw [hr]
    have hb0 := (hen a).1
    rw [hr] at hb0
    change a ≤ p at hb0
    refine kx_out G X htab (by show 2 + (8 * (p - a) + 3) ≤ _; omega) (by show 5 + (430 * (p - a) + 20) ≤ _; omega) ⟨p, (by rw [hj, hr]), rfl, y9, x9, N ++ ((s, .inr (17, [.int 1, .ref al])) :: [(al, .inr (20, [.int 0, .ref T.2.2.2, .int 0]))]), fs, by simp only [List.append_assoc, List.nil_append], List.mem_append_left _ hm, h6⟩
theorem rk_some (l : Launch) (hlt : l.stackTraces = false) (D : va_G) (T : xT) (n : Nat) (g : Nat → Int32) (hn : n ≤ 100) (r : Nat) (hF : kdA l D T n g r) : kdS l D T n g r := by
  intro R tx kl a ha
  have hen : ∀ a, pEn n a (pJ true g n 38 (pF g n r) a) := pJ_en (by decide) (pF_en r)
  obtain ⟨res, hres⟩ : ∃ z, z = pJ false g n 124 (pJ true g n 38 (pF g n r)) a := ⟨_, rfl⟩
  have hE : pEn n a res := by rw [hres]; exact pJ_en (by decide) hen a
  have hE1 := hE.1
  have hFR : endP (pJ true g n 38 (pF g n r) a) ≤ endP res := by rw [hres]; exact pJ_le (by decide) hen a
  have hE0 := (hen a).1
  have hj : res = (match pJ true g n 38 (pF g n r) a with | .inl p => (.inl p : PR TF1) | .inr q => pLj false (pJ true g n 38 (pF g n r)) g n 124 n q.1 [q.2]) := hres
  rw [← hres]
  refine XMX.start (by decide +kernel) (Nat.le_of_ble_eq_true rfl) (fun Γ G X htab hl_ => ?_)
  subst hl_
  refine K.less [0] (lv' := [(0, .ref R)]) rfl ?_
  refine k_new G (fs := [.int 0, .null]) ci_X18 q853 q854 q117 (fun j hj => by match j, hj with | 0, _ => rfl | 1, _ => rfl) ⟨by omega, by omega⟩ dX14_some_0 (fun s => ?_)
  refine k_dup G dX14_some_3 rfl ?_
  refine k_iconst G (v := 0) dX14_some_4 (by decide) ?_
  refine k_ctor G (ws := (rdW T R tx kl g n (nI a) (nI (4 - r)))) (As := [.int 0]) (rest := [.ref s]) (ct_Some _ D T s 0 (Or.inl rfl)) xi_Some q855 rfl rfl (Nat.le_of_ble_eq_true rfl) (by omega) ⟨by omega, by omega⟩ dX14_some_5 (fun v w hq => ?_)
  obtain ⟨rfl, al, rfl⟩ := hq
  refine K.nf (c' := 2) (s' := 5) (ws' := ((rdW T R tx kl g n (nI a) (nI (4 - r))) ++ ((s, .inr (17, [.int 0, .ref al])) :: [(al, .inr (20, [.int 0, .ref T.2.2.2, .int 0]))]))) rfl rfl rfl rfl ?_
  have hw0 : alW T al [] [] [(al, .inr (20, [.int 0, .ref T.2.2.2, .int 0]))] := ⟨0, T.2.2.2, [], rfl, Or.inl ⟨rfl, rfl, rfl⟩⟩
  have L : ∀ (k cur : Nat) (xs : List Nat) (φs : List TF1) (M w : va_W), pLj false (pJ true g n 38 (pF g n r)) g n 124 k cur φs = res → cur ≤ n → a ≤ cur → n ≤ cur + k → xs.length = φs.length → xs.length ≤ cur + 1 - a → alW T al xs M w → (∀ (i x : Nat) (ψ : TF1), xs[i]? = some x → φs[i]? = some ψ → tstP T M (2 * r + 2) x ψ) → K D Γ (8 * (cur - a) + 9) (430 * (cur - a) + 430) 21 [(1, .ref s), (0, .ref R)] [] ((rdW T R tx kl g n (nI cur) (nI (4 - r))) ++ ((s, .inr (17, [.int 0, .ref al])) :: w)) := by
    intro k
    induction k with
    | zero =>
      intro cur xs φs M w he hc ha2 hnk hl hlx hw hel
      refine k_aload_n G dX14_some_21 rfl ?_
      refine kk_here G hn (by omega) dX14_some_22 (Nat.le_of_ble_eq_true rfl) (by omega) ⟨by omega, by omega⟩ ?_
      refine k_bipush G (v := 124) dX14_some_25 (by decide) ?_
      refine k_icmp_ne G 55 dX14_some_27 (by decide) (fun c27 => ?_) (fun c27 => ?_)
      · have hs := pLj_stop (F := pJ true g n 38 (pF g n r)) (all := false) (k := 0) (φs := φs) (Or.inr c27)
        rw [he] at hs
        have he2 : endP res = cur := by rw [hs]; rfl
        refine k_aload_n G dX14_some_55 rfl ?_
        exact kx_ret X (k_aret (xEr.G G) xEr.X (Or.inl ⟨_, rfl⟩) (r := some s) dX14_some_56 (by omega) (by omega) ⟨cur, _, s, _, hs, rfl, rfl, Or.inr (Or.inr ⟨false, al, xs, φs, List.mem_cons_self, (hw.alP (by omega)).mono (fun z hz => List.mem_cons_of_mem _ hz), hl, fun i x ψ hx hψ => (hel i x ψ hx hψ).mono (fun z hz => List.mem_cons_of_mem _ (hw.sub z hz)), fun e => rfl⟩)⟩)
      · have := hereS_eq c27 (by decide)
        omega
    | succ k ih =>
      intro cur xs φs M w he hc ha2 hnk hl hlx hw hel
      refine k_aload_n G dX14_some_21 rfl ?_
      refine kk_here G hn (by omega) dX14_some_22 (Nat.le_of_ble_eq_true rfl) (by omega) ⟨by omega, by omega⟩ ?_
      refine k_bipush G (v := 124) dX14_some_25 (by decide) ?_
      refine k_icmp_ne G 55 dX14_some_27 (by decide) (fun c27 => ?_) (fun c27 => ?_)
      · have hs := pLj_stop (F := pJ true g n 38 (pF g n r)) (all := false) (k := (k + 1)) (φs := φs) (Or.inr c27)
        rw [he] at hs
        have he2 : endP res = cur := by rw [hs]; rfl
        refine k_aload_n G dX14_some_55 rfl ?_
        exact kx_ret X (k_aret (xEr.G G) xEr.X (Or.inl ⟨_, rfl⟩) (r := some s) dX14_some_56 (by omega) (by omega) ⟨cur, _, s, _, hs, rfl, rfl, Or.inr (Or.inr ⟨false, al, xs, φs, List.mem_cons_self, (hw.alP (by omega)).mono (fun z hz => List.mem_cons_of_mem _ hz), hl, fun i x ψ hx hψ => (hel i x ψ hx hψ).mono (fun z hz => List.mem_cons_of_mem _ (hw.sub z hz)), fun e => rfl⟩)⟩)
      · have hlt2 := hereS_eq c27 (by decide)
        have hFR : endP (pJ true g n 38 (pF g n r) (cur + 1)) ≤ endP res := by rw [← he]; exact pLj_le (by decide) hen c27
        have hE0 := (hen (cur + 1)).1
        refine k_aload_n G dX14_some_30 rfl ?_
        refine k_dup G dX14_some_31 rfl ?_
        refine rg_at G dX14_some_32 ?_
        refine k_iconst G (v := 1) dX14_some_35 (by decide) ?_
        refine k_iadd G dX14_some_36 ?_
        rw [nI_1]
        refine rp_at G dX14_some_37 ?_
        refine k_aload_n G dX14_some_40 rfl ?_
        refine k_get G (p := 2) (k := 1) ci_X18 rfl (by decide) (Or.inr (List.mem_of_getElem? (i := 18) rfl)) (fun _ h => h) rfl dX14_some_41 ?_
        refine k_aload_n G dX14_some_44 rfl ?_
        refine k_callVX G (wl := []) (wc := (rdW T R tx kl g n (nI (cur + 1)) (nI (4 - r)))) (wr := (s, .inr (17, [.int 0, .ref al])) :: w) (As := []) (rest := [.ref al]) (hF R tx kl (cur + 1) (by omega)) xr_all q872 rfl rfl (Nat.le_of_ble_eq_true rfl) (by omega) ⟨by omega, by omega⟩ ⟨0, 14, _, TX14, 5, rfl, rfl⟩ dX14_some_45 (fun v wc hq => ?_) (fun E q wc hq => ?_)
        · obtain ⟨e2, φ2, b, N, hr, rfl, rfl, ht⟩ := hq
          have hb := (hen (cur + 1)).2 (by omega)
          have hb0 := (hen (cur + 1)).1
          rw [hr] at hb hb0 hFR
          change e2 ≤ n at hb
          change (cur + 1) ≤ e2 at hb0
          change e2 ≤ endP res at hFR
          rw [hr]
          show K D Γ (8 * (cur - a) + 9 + (8 * (e2 - (cur + 1)) + 6)) (430 * (cur - a) + 430 + (430 * (e2 - (cur + 1)) + 225)) _ _ _ _
          refine K.perm (ws' := ((rdW T R tx kl g n (nI e2) (nI (4 - r))) ++ [(s, .inr (17, [.int 0, .ref al]))]) ++ ((w ++ N) ++ [])) (pm (fun c f h0 h1 h2 => by simp only [h0, h1, h2, List.cons_append, List.nil_append, List.append_nil]; omega)) ?_
          obtain ⟨m0, arr, w0, hw1, -⟩ := hw
          refine k_callV G (wl := (rdW T R tx kl g n (nI e2) (nI (4 - r))) ++ [(s, .inr (17, [.int 0, .ref al]))]) (wc := w ++ N) (wr := []) (As := [.ref b]) (rest := []) (C := RJ2) (kd_add _ D T (hw.more (N := N)) (fun y hy => by
            obtain ⟨i, hi⟩ := List.getElem?_of_mem hy
            have hlt3 := (List.getElem?_eq_some_iff.mp hi).1
            exact ((hel i y _ hi (List.getElem?_eq_getElem (by omega))).elt).mono (fun z hz => List.mem_append_left _ hz)) ((ht.elt).mono (fun z hz => List.mem_append_right _ hz)) (by omega)) xs_add q910 rfl rfl (Nat.le_of_ble_eq_true rfl) (by omega) ⟨by omega, by omega⟩ ⟨3, 20, _, TJ2, 3, by rw [hw1]; rfl, rfl⟩ dX14_some_48 (fun v9 w9 h9 => ?_)
          obtain ⟨rfl, J, hw9⟩ := h9
          refine K.nf (ws' := ((rdW T R tx kl g n (nI e2) (nI (4 - r))) ++ ((s, .inr (17, [.int 0, .ref al])) :: w9))) rfl rfl rfl (by simp only [List.append_nil, List.append_assoc, List.cons_append, List.nil_append]) ?_
          refine k_pop G dX14_some_51 rfl ?_
          refine k_goto G 21 dX14_some_52 (by decide) ?_
          refine K.widen (c' := 8 * (e2 - a) + 9) (s' := 430 * (e2 - a) + 430) (by omega) (by omega) ?_
          refine ih e2 (xs ++ [b]) (φs ++ [φ2]) (M ++ N ++ J) w9 (by rw [← he]; exact (pLj_inr c27 hr).symm) hb (by omega) (by omega) (by simp [hl]) (by rw [List.length_append]; show xs.length + 1 ≤ _; omega) hw9 (fun i x ψ hx hψ => ?_)
          exact el_add hl hel ht hx hψ
        · obtain ⟨p, hr, rfl, y9, x9, N, fs, rfl, hm, h6⟩ := hq
          rw [hr] at hFR
          change p ≤ endP res at hFR
          rw [hr]
          have hb0 := (hen (cur + 1)).1
          rw [hr] at hb0
          change (cur + 1) ≤ p at hb0
          refine kx_out G X htab (by show 8 * (cur - a) + 9 + (8 * (p - (cur + 1)) + 6) ≤ _; omega) (by show 430 * (cur - a) + 430 + (430 * (p - (cur + 1)) + 225) ≤ _; omega) ⟨p, (he.symm.trans (pLj_inl c27 hr)), rfl, y9, x9, N ++ ((s, .inr (17, [.int 0, .ref al])) :: w), fs, by simp only [List.append_assoc, List.nil_append], List.mem_append_left _ hm, h6⟩
  refine k_astore_n G [(1, .ref s), (0, .ref R)] dX14_some_8 rfl (Nat.le_of_ble_eq_true rfl) rfl ?_
  refine k_aload_n G dX14_some_9 rfl ?_
  refine k_get G (p := 2) (k := 1) ci_X18 rfl (by decide) (Or.inr (List.mem_of_getElem? (i := 18) rfl)) (fun _ h => h) rfl dX14_some_10 ?_
  refine k_aload_n G dX14_some_13 rfl ?_
  refine k_callVX G (wl := []) (wc := (rdW T R tx kl g n (nI a) (nI (4 - r)))) (wr := (s, .inr (17, [.int 0, .ref al])) :: [(al, .inr (20, [.int 0, .ref T.2.2.2, .int 0]))]) (As := []) (rest := [.ref al]) (hF R tx kl a (by omega)) xr_all q872 rfl rfl (Nat.le_of_ble_eq_true rfl) (by omega) ⟨by omega, by omega⟩ ⟨0, 14, _, TX14, 5, rfl, rfl⟩ dX14_some_14 (fun v wc hq => ?_) (fun E q wc hq => ?_)
  · obtain ⟨e2, φ2, b, N, hr, rfl, rfl, ht⟩ := hq
    have hb := (hen a).2 (by omega)
    have hb0 := (hen a).1
    rw [hr] at hb hb0 hFR
    change e2 ≤ n at hb
    change a ≤ e2 at hb0
    change e2 ≤ endP res at hFR
    rw [hr]
    show K D Γ (2 + (8 * (e2 - a) + 6)) (5 + (430 * (e2 - a) + 225)) _ _ _ _
    refine K.perm (ws' := ((rdW T R tx kl g n (nI e2) (nI (4 - r))) ++ [(s, .inr (17, [.int 0, .ref al]))]) ++ (([(al, .inr (20, [.int 0, .ref T.2.2.2, .int 0]))] ++ N) ++ [])) (pm (fun c f h0 h1 h2 => by simp only [h0, h1, h2, List.cons_append, List.nil_append, List.append_nil]; omega)) ?_
    obtain ⟨m0, arr, w0, hw1, -⟩ := hw0
    refine k_callV G (wl := (rdW T R tx kl g n (nI e2) (nI (4 - r))) ++ [(s, .inr (17, [.int 0, .ref al]))]) (wc := [(al, .inr (20, [.int 0, .ref T.2.2.2, .int 0]))] ++ N) (wr := []) (As := [.ref b]) (rest := []) (C := RJ2) (kd_add _ D T (hw0.more (N := N)) (fun y hy => nomatch hy) ((ht.elt).mono (fun z hz => List.mem_append_right _ hz)) (by decide)) xs_add q910 rfl rfl (Nat.le_of_ble_eq_true rfl) (by omega) ⟨by omega, by omega⟩ ⟨3, 20, _, TJ2, 3, by rw [hw1]; rfl, rfl⟩ dX14_some_17 (fun v9 w9 h9 => ?_)
    obtain ⟨rfl, J, hw9⟩ := h9
    refine K.nf (ws' := ((rdW T R tx kl g n (nI e2) (nI (4 - r))) ++ ((s, .inr (17, [.int 0, .ref al])) :: w9))) rfl rfl rfl (by simp only [List.append_nil, List.append_assoc, List.cons_append, List.nil_append]) ?_
    refine k_pop G dX14_some_20 rfl ?_
    refine K.widen (c' := 8 * (e2 - a) + 9) (s' := 430 * (e2 - a) + 430) (by omega) (by omega) ?_
    rw [hr] at hj
    refine L n e2 [b] [φ2] ([] ++ N ++ J) w9 hj.symm hb hb0 (by omega) rfl (by show 1 ≤ e2 + 1 - a; omega) hw9 (fun i x ψ hx hψ => ?_)
    exact el_add (xs := []) (φs := []) (M := []) rfl (fun i x ψ hx => by cases hx) ht hx hψ
  · obtain ⟨p, hr, rfl, y9, x9, N, fs, rfl, hm, h6⟩ := hq
    rw [hr] at hFR
    change p ≤ endP res at hFR
    rw [hr]
    have hb0 := (hen a).1
    rw [hr] at hb0
    change a ≤ p at hb0
    refine kx_out G X htab (by show 2 + (8 * (p - a) + 6) ≤ _; omega) (by show 5 + (430 * (p - a) + 225) ≤ _; omega) ⟨p, (by rw [hj, hr]), rfl, y9, x9, N ++ ((s, .inr (17, [.int 0, .ref al])) :: [(al, .inr (20, [.int 0, .ref T.2.2.2, .int 0]))]), fs, by simp only [List.append_assoc, List.nil_append], List.mem_append_left _ hm, h6⟩
