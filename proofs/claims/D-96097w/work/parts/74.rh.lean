/-! the reader: tested, clause, kiln -/
set_option maxRecDepth 100000
abbrev cX14_tested : ByteArray := prog_13_method_11_code
def yX14_tested : MethodName := ⟨RX14, "tested", "(Ljava/lang/String;)LBakedBefore$Clause;"⟩
def dkwX14_tested_1 : List UInt8 := [182, 0, 73, 183, 0, 108, 176]
abbrev dktX14_tested_1 : List UInt8 := dkwX14_tested_1 ++ []
def dkwX14_tested_0 : List UInt8 := [42, 43, 182, 0, 102, 42, 182, 0, 78, 61, 42, 16, 32, 182, 0, 51, 187, 0, 106, 89, 28, 42]
abbrev dktX14_tested_0 : List UInt8 := dkwX14_tested_0 ++ dktX14_tested_1
theorem dksX14_tested_0 : cX14_tested.data.toList.drop 0 = dktX14_tested_0 := by decide +kernel
theorem dksX14_tested_1 : cX14_tested.data.toList.drop 22 = dktX14_tested_1 := dk_seg dksX14_tested_0 22 rfl rfl
theorem dX14_tested_0 : decode cX14_tested 0 = .ok (.aload_n 0, 1) := dk_42 (dk_at dksX14_tested_0 0 rfl rfl)
theorem dX14_tested_1 : decode cX14_tested 1 = .ok (.aload_n 1, 1) := dk_43 (dk_at dksX14_tested_0 1 rfl rfl)
theorem dX14_tested_2 : decode cX14_tested 2 = .ok (.invokevirtual 102, 3) := dk_182 0 102 (dk_at dksX14_tested_0 2 rfl rfl)
theorem dX14_tested_5 : decode cX14_tested 5 = .ok (.aload_n 0, 1) := dk_42 (dk_at dksX14_tested_0 5 rfl rfl)
theorem dX14_tested_6 : decode cX14_tested 6 = .ok (.invokevirtual 78, 3) := dk_182 0 78 (dk_at dksX14_tested_0 6 rfl rfl)
theorem dX14_tested_9 : decode cX14_tested 9 = .ok (.istore_n 2, 1) := dk_61 (dk_at dksX14_tested_0 9 rfl rfl)
theorem dX14_tested_10 : decode cX14_tested 10 = .ok (.aload_n 0, 1) := dk_42 (dk_at dksX14_tested_0 10 rfl rfl)
theorem dX14_tested_11 : decode cX14_tested 11 = .ok (.bipush 32, 2) := dk_16 32 (dk_at dksX14_tested_0 11 rfl rfl)
theorem dX14_tested_13 : decode cX14_tested 13 = .ok (.invokevirtual 51, 3) := dk_182 0 51 (dk_at dksX14_tested_0 13 rfl rfl)
theorem dX14_tested_16 : decode cX14_tested 16 = .ok (.new 106, 3) := dk_187 0 106 (dk_at dksX14_tested_0 16 rfl rfl)
theorem dX14_tested_19 : decode cX14_tested 19 = .ok (.dup, 1) := dk_89 (dk_at dksX14_tested_0 19 rfl rfl)
theorem dX14_tested_20 : decode cX14_tested 20 = .ok (.iload_n 2, 1) := dk_28 (dk_at dksX14_tested_0 20 rfl rfl)
theorem dX14_tested_21 : decode cX14_tested 21 = .ok (.aload_n 0, 1) := dk_42 (dk_at dksX14_tested_0 21 rfl rfl)
theorem dX14_tested_22 : decode cX14_tested 22 = .ok (.invokevirtual 73, 3) := dk_182 0 73 (dk_at dksX14_tested_1 0 rfl rfl)
theorem dX14_tested_25 : decode cX14_tested 25 = .ok (.invokespecial 108, 3) := dk_183 0 108 (dk_at dksX14_tested_1 3 rfl rfl)
theorem dX14_tested_28 : decode cX14_tested 28 = .ok (.areturn, 1) := dk_176 (dk_at dksX14_tested_1 6 rfl rfl)
abbrev cX14_clause : ByteArray := prog_13_method_12_code
def yX14_clause : MethodName := ⟨RX14, "clause", "()V"⟩
def dkwX14_clause_6 : List UInt8 := [181, 0, 135, 177]
abbrev dktX14_clause_6 : List UInt8 := dkwX14_clause_6 ++ []
def dkwX14_clause_5 : List UInt8 := [182, 0, 78, 181, 0, 132, 167, 0, 8, 42, 182, 0, 38, 191, 42, 180, 0, 12, 89, 180, 0, 135, 4, 96]
abbrev dktX14_clause_5 : List UInt8 := dkwX14_clause_5 ++ dktX14_clause_6
def dkwX14_clause_4 : List UInt8 := [18, 128, 182, 0, 116, 182, 0, 93, 87, 167, 0, 28, 42, 18, 130, 182, 0, 102, 42, 180, 0, 12, 42]
abbrev dktX14_clause_4 : List UInt8 := dkwX14_clause_4 ++ dktX14_clause_5
def dkwX14_clause_3 : List UInt8 := [180, 0, 120, 42, 18, 123, 182, 0, 116, 182, 0, 93, 87, 167, 0, 48, 42, 180, 0, 12, 180, 0, 125, 42]
abbrev dktX14_clause_3 : List UInt8 := dkwX14_clause_3 ++ dktX14_clause_4
def dkwX14_clause_2 : List UInt8 := [42, 180, 0, 12, 180, 0, 111, 42, 18, 114, 182, 0, 116, 182, 0, 93, 87, 167, 0, 68, 42, 180, 0, 12]
abbrev dktX14_clause_2 : List UInt8 := dkwX14_clause_2 ++ dktX14_clause_3
def dkwX14_clause_1 : List UInt8 := [171, 0, 0, 0, 0, 0, 0, 124, 0, 0, 0, 4, 0, 0, 0, 99, 0, 0, 0, 104, 0, 0, 0, 102, 0, 0, 0, 84, 0, 0, 0, 109, 0, 0, 0, 64, 0, 0, 0, 116, 0, 0, 0, 44]
abbrev dktX14_clause_1 : List UInt8 := dkwX14_clause_1 ++ dktX14_clause_2
def dkwX14_clause_0 : List UInt8 := [42, 182, 0, 34]
abbrev dktX14_clause_0 : List UInt8 := dkwX14_clause_0 ++ dktX14_clause_1
theorem dksX14_clause_0 : cX14_clause.data.toList.drop 0 = dktX14_clause_0 := by decide +kernel
theorem dksX14_clause_1 : cX14_clause.data.toList.drop 4 = dktX14_clause_1 := dk_seg dksX14_clause_0 4 rfl rfl
theorem dksX14_clause_2 : cX14_clause.data.toList.drop 48 = dktX14_clause_2 := dk_seg dksX14_clause_1 44 rfl rfl
theorem dksX14_clause_3 : cX14_clause.data.toList.drop 72 = dktX14_clause_3 := dk_seg dksX14_clause_2 24 rfl rfl
theorem dksX14_clause_4 : cX14_clause.data.toList.drop 96 = dktX14_clause_4 := dk_seg dksX14_clause_3 24 rfl rfl
theorem dksX14_clause_5 : cX14_clause.data.toList.drop 119 = dktX14_clause_5 := dk_seg dksX14_clause_4 23 rfl rfl
theorem dksX14_clause_6 : cX14_clause.data.toList.drop 143 = dktX14_clause_6 := dk_seg dksX14_clause_5 24 rfl rfl
theorem dX14_clause_0 : decode cX14_clause 0 = .ok (.aload_n 0, 1) := dk_42 (dk_at dksX14_clause_0 0 rfl rfl)
theorem dX14_clause_1 : decode cX14_clause 1 = .ok (.invokevirtual 34, 3) := dk_182 0 34 (dk_at dksX14_clause_0 1 rfl rfl)
theorem dX14_clause_4 : decode cX14_clause 4 = .ok (.lookupswitch 124 #[(99, 104), (102, 84), (109, 64), (116, 44)], 44) := by decide +kernel
theorem dX14_clause_48 : decode cX14_clause 48 = .ok (.aload_n 0, 1) := dk_42 (dk_at dksX14_clause_2 0 rfl rfl)
theorem dX14_clause_49 : decode cX14_clause 49 = .ok (.getfield 12, 3) := dk_180 0 12 (dk_at dksX14_clause_2 1 rfl rfl)
theorem dX14_clause_52 : decode cX14_clause 52 = .ok (.getfield 111, 3) := dk_180 0 111 (dk_at dksX14_clause_2 4 rfl rfl)
theorem dX14_clause_55 : decode cX14_clause 55 = .ok (.aload_n 0, 1) := dk_42 (dk_at dksX14_clause_2 7 rfl rfl)
theorem dX14_clause_56 : decode cX14_clause 56 = .ok (.ldc 114, 2) := dk_18 114 (dk_at dksX14_clause_2 8 rfl rfl)
theorem dX14_clause_58 : decode cX14_clause 58 = .ok (.invokevirtual 116, 3) := dk_182 0 116 (dk_at dksX14_clause_2 10 rfl rfl)
theorem dX14_clause_61 : decode cX14_clause 61 = .ok (.invokevirtual 93, 3) := dk_182 0 93 (dk_at dksX14_clause_2 13 rfl rfl)
theorem dX14_clause_64 : decode cX14_clause 64 = .ok (.pop, 1) := dk_87 (dk_at dksX14_clause_2 16 rfl rfl)
theorem dX14_clause_65 : decode cX14_clause 65 = .ok (.goto 68, 3) := dk_167 0 68 (dk_at dksX14_clause_2 17 rfl rfl)
theorem dX14_clause_68 : decode cX14_clause 68 = .ok (.aload_n 0, 1) := dk_42 (dk_at dksX14_clause_2 20 rfl rfl)
theorem dX14_clause_69 : decode cX14_clause 69 = .ok (.getfield 12, 3) := dk_180 0 12 (dk_at dksX14_clause_2 21 rfl rfl)
theorem dX14_clause_72 : decode cX14_clause 72 = .ok (.getfield 120, 3) := dk_180 0 120 (dk_at dksX14_clause_3 0 rfl rfl)
theorem dX14_clause_75 : decode cX14_clause 75 = .ok (.aload_n 0, 1) := dk_42 (dk_at dksX14_clause_3 3 rfl rfl)
theorem dX14_clause_76 : decode cX14_clause 76 = .ok (.ldc 123, 2) := dk_18 123 (dk_at dksX14_clause_3 4 rfl rfl)
theorem dX14_clause_78 : decode cX14_clause 78 = .ok (.invokevirtual 116, 3) := dk_182 0 116 (dk_at dksX14_clause_3 6 rfl rfl)
theorem dX14_clause_81 : decode cX14_clause 81 = .ok (.invokevirtual 93, 3) := dk_182 0 93 (dk_at dksX14_clause_3 9 rfl rfl)
theorem dX14_clause_84 : decode cX14_clause 84 = .ok (.pop, 1) := dk_87 (dk_at dksX14_clause_3 12 rfl rfl)
theorem dX14_clause_85 : decode cX14_clause 85 = .ok (.goto 48, 3) := dk_167 0 48 (dk_at dksX14_clause_3 13 rfl rfl)
theorem dX14_clause_88 : decode cX14_clause 88 = .ok (.aload_n 0, 1) := dk_42 (dk_at dksX14_clause_3 16 rfl rfl)
theorem dX14_clause_89 : decode cX14_clause 89 = .ok (.getfield 12, 3) := dk_180 0 12 (dk_at dksX14_clause_3 17 rfl rfl)
theorem dX14_clause_92 : decode cX14_clause 92 = .ok (.getfield 125, 3) := dk_180 0 125 (dk_at dksX14_clause_3 20 rfl rfl)
theorem dX14_clause_95 : decode cX14_clause 95 = .ok (.aload_n 0, 1) := dk_42 (dk_at dksX14_clause_3 23 rfl rfl)
theorem dX14_clause_96 : decode cX14_clause 96 = .ok (.ldc 128, 2) := dk_18 128 (dk_at dksX14_clause_4 0 rfl rfl)
theorem dX14_clause_98 : decode cX14_clause 98 = .ok (.invokevirtual 116, 3) := dk_182 0 116 (dk_at dksX14_clause_4 2 rfl rfl)
theorem dX14_clause_101 : decode cX14_clause 101 = .ok (.invokevirtual 93, 3) := dk_182 0 93 (dk_at dksX14_clause_4 5 rfl rfl)
theorem dX14_clause_104 : decode cX14_clause 104 = .ok (.pop, 1) := dk_87 (dk_at dksX14_clause_4 8 rfl rfl)
theorem dX14_clause_105 : decode cX14_clause 105 = .ok (.goto 28, 3) := dk_167 0 28 (dk_at dksX14_clause_4 9 rfl rfl)
theorem dX14_clause_108 : decode cX14_clause 108 = .ok (.aload_n 0, 1) := dk_42 (dk_at dksX14_clause_4 12 rfl rfl)
theorem dX14_clause_109 : decode cX14_clause 109 = .ok (.ldc 130, 2) := dk_18 130 (dk_at dksX14_clause_4 13 rfl rfl)
theorem dX14_clause_111 : decode cX14_clause 111 = .ok (.invokevirtual 102, 3) := dk_182 0 102 (dk_at dksX14_clause_4 15 rfl rfl)
theorem dX14_clause_114 : decode cX14_clause 114 = .ok (.aload_n 0, 1) := dk_42 (dk_at dksX14_clause_4 18 rfl rfl)
theorem dX14_clause_115 : decode cX14_clause 115 = .ok (.getfield 12, 3) := dk_180 0 12 (dk_at dksX14_clause_4 19 rfl rfl)
theorem dX14_clause_118 : decode cX14_clause 118 = .ok (.aload_n 0, 1) := dk_42 (dk_at dksX14_clause_4 22 rfl rfl)
theorem dX14_clause_119 : decode cX14_clause 119 = .ok (.invokevirtual 78, 3) := dk_182 0 78 (dk_at dksX14_clause_5 0 rfl rfl)
theorem dX14_clause_122 : decode cX14_clause 122 = .ok (.putfield 132, 3) := dk_181 0 132 (dk_at dksX14_clause_5 3 rfl rfl)
theorem dX14_clause_125 : decode cX14_clause 125 = .ok (.goto 8, 3) := dk_167 0 8 (dk_at dksX14_clause_5 6 rfl rfl)
theorem dX14_clause_128 : decode cX14_clause 128 = .ok (.aload_n 0, 1) := dk_42 (dk_at dksX14_clause_5 9 rfl rfl)
theorem dX14_clause_129 : decode cX14_clause 129 = .ok (.invokevirtual 38, 3) := dk_182 0 38 (dk_at dksX14_clause_5 10 rfl rfl)
theorem dX14_clause_132 : decode cX14_clause 132 = .ok (.athrow, 1) := dk_191 (dk_at dksX14_clause_5 13 rfl rfl)
theorem dX14_clause_133 : decode cX14_clause 133 = .ok (.aload_n 0, 1) := dk_42 (dk_at dksX14_clause_5 14 rfl rfl)
theorem dX14_clause_134 : decode cX14_clause 134 = .ok (.getfield 12, 3) := dk_180 0 12 (dk_at dksX14_clause_5 15 rfl rfl)
theorem dX14_clause_137 : decode cX14_clause 137 = .ok (.dup, 1) := dk_89 (dk_at dksX14_clause_5 18 rfl rfl)
theorem dX14_clause_138 : decode cX14_clause 138 = .ok (.getfield 135, 3) := dk_180 0 135 (dk_at dksX14_clause_5 19 rfl rfl)
theorem dX14_clause_141 : decode cX14_clause 141 = .ok (.iconst 1, 1) := dk_4 (dk_at dksX14_clause_5 22 rfl rfl)
theorem dX14_clause_142 : decode cX14_clause 142 = .ok (.iadd, 1) := dk_96 (dk_at dksX14_clause_5 23 rfl rfl)
theorem dX14_clause_143 : decode cX14_clause 143 = .ok (.putfield 135, 3) := dk_181 0 135 (dk_at dksX14_clause_6 0 rfl rfl)
theorem dX14_clause_146 : decode cX14_clause 146 = .ok (.return_, 1) := dk_177 (dk_at dksX14_clause_6 3 rfl rfl)
abbrev cX14_kiln : ByteArray := prog_13_method_13_code
def yX14_kiln : MethodName := ⟨RX14, "kiln", "()LBakedBefore$Kiln;"⟩
def dkwX14_kiln_2 : List UInt8 := [42, 180, 0, 22, 162, 0, 8, 42, 182, 0, 38, 191, 42, 180, 0, 12, 176]
abbrev dktX14_kiln_2 : List UInt8 := dkwX14_kiln_2 ++ []
def dkwX14_kiln_1 : List UInt8 := [160, 0, 20, 42, 89, 180, 0, 26, 4, 96, 181, 0, 26, 42, 182, 0, 138, 167, 255, 221, 42, 180, 0, 26]
abbrev dktX14_kiln_1 : List UInt8 := dkwX14_kiln_1 ++ dktX14_kiln_2
def dkwX14_kiln_0 : List UInt8 := [42, 182, 0, 138, 42, 180, 0, 12, 180, 0, 135, 16, 10, 162, 0, 29, 42, 182, 0, 34, 16, 59]
abbrev dktX14_kiln_0 : List UInt8 := dkwX14_kiln_0 ++ dktX14_kiln_1
theorem dksX14_kiln_0 : cX14_kiln.data.toList.drop 0 = dktX14_kiln_0 := by decide +kernel
theorem dksX14_kiln_1 : cX14_kiln.data.toList.drop 22 = dktX14_kiln_1 := dk_seg dksX14_kiln_0 22 rfl rfl
theorem dksX14_kiln_2 : cX14_kiln.data.toList.drop 46 = dktX14_kiln_2 := dk_seg dksX14_kiln_1 24 rfl rfl
theorem dX14_kiln_0 : decode cX14_kiln 0 = .ok (.aload_n 0, 1) := dk_42 (dk_at dksX14_kiln_0 0 rfl rfl)
theorem dX14_kiln_1 : decode cX14_kiln 1 = .ok (.invokevirtual 138, 3) := dk_182 0 138 (dk_at dksX14_kiln_0 1 rfl rfl)
theorem dX14_kiln_4 : decode cX14_kiln 4 = .ok (.aload_n 0, 1) := dk_42 (dk_at dksX14_kiln_0 4 rfl rfl)
theorem dX14_kiln_5 : decode cX14_kiln 5 = .ok (.getfield 12, 3) := dk_180 0 12 (dk_at dksX14_kiln_0 5 rfl rfl)
theorem dX14_kiln_8 : decode cX14_kiln 8 = .ok (.getfield 135, 3) := dk_180 0 135 (dk_at dksX14_kiln_0 8 rfl rfl)
theorem dX14_kiln_11 : decode cX14_kiln 11 = .ok (.bipush 10, 2) := dk_16 10 (dk_at dksX14_kiln_0 11 rfl rfl)
theorem dX14_kiln_13 : decode cX14_kiln 13 = .ok (.if_icmp .ge 29, 3) := dk_162 0 29 (dk_at dksX14_kiln_0 13 rfl rfl)
theorem dX14_kiln_16 : decode cX14_kiln 16 = .ok (.aload_n 0, 1) := dk_42 (dk_at dksX14_kiln_0 16 rfl rfl)
theorem dX14_kiln_17 : decode cX14_kiln 17 = .ok (.invokevirtual 34, 3) := dk_182 0 34 (dk_at dksX14_kiln_0 17 rfl rfl)
theorem dX14_kiln_20 : decode cX14_kiln 20 = .ok (.bipush 59, 2) := dk_16 59 (dk_at dksX14_kiln_0 20 rfl rfl)
theorem dX14_kiln_22 : decode cX14_kiln 22 = .ok (.if_icmp .ne 20, 3) := dk_160 0 20 (dk_at dksX14_kiln_1 0 rfl rfl)
theorem dX14_kiln_25 : decode cX14_kiln 25 = .ok (.aload_n 0, 1) := dk_42 (dk_at dksX14_kiln_1 3 rfl rfl)
theorem dX14_kiln_26 : decode cX14_kiln 26 = .ok (.dup, 1) := dk_89 (dk_at dksX14_kiln_1 4 rfl rfl)
theorem dX14_kiln_27 : decode cX14_kiln 27 = .ok (.getfield 26, 3) := dk_180 0 26 (dk_at dksX14_kiln_1 5 rfl rfl)
theorem dX14_kiln_30 : decode cX14_kiln 30 = .ok (.iconst 1, 1) := dk_4 (dk_at dksX14_kiln_1 8 rfl rfl)
theorem dX14_kiln_31 : decode cX14_kiln 31 = .ok (.iadd, 1) := dk_96 (dk_at dksX14_kiln_1 9 rfl rfl)
theorem dX14_kiln_32 : decode cX14_kiln 32 = .ok (.putfield 26, 3) := dk_181 0 26 (dk_at dksX14_kiln_1 10 rfl rfl)
theorem dX14_kiln_35 : decode cX14_kiln 35 = .ok (.aload_n 0, 1) := dk_42 (dk_at dksX14_kiln_1 13 rfl rfl)
theorem dX14_kiln_36 : decode cX14_kiln 36 = .ok (.invokevirtual 138, 3) := dk_182 0 138 (dk_at dksX14_kiln_1 14 rfl rfl)
theorem dX14_kiln_39 : decode cX14_kiln 39 = .ok (.goto (-35), 3) := dk_167 255 221 (dk_at dksX14_kiln_1 17 rfl rfl)
theorem dX14_kiln_42 : decode cX14_kiln 42 = .ok (.aload_n 0, 1) := dk_42 (dk_at dksX14_kiln_1 20 rfl rfl)
theorem dX14_kiln_43 : decode cX14_kiln 43 = .ok (.getfield 26, 3) := dk_180 0 26 (dk_at dksX14_kiln_1 21 rfl rfl)
theorem dX14_kiln_46 : decode cX14_kiln 46 = .ok (.aload_n 0, 1) := dk_42 (dk_at dksX14_kiln_2 0 rfl rfl)
theorem dX14_kiln_47 : decode cX14_kiln 47 = .ok (.getfield 22, 3) := dk_180 0 22 (dk_at dksX14_kiln_2 1 rfl rfl)
theorem dX14_kiln_50 : decode cX14_kiln 50 = .ok (.if_icmp .ge 8, 3) := dk_162 0 8 (dk_at dksX14_kiln_2 4 rfl rfl)
theorem dX14_kiln_53 : decode cX14_kiln 53 = .ok (.aload_n 0, 1) := dk_42 (dk_at dksX14_kiln_2 7 rfl rfl)
theorem dX14_kiln_54 : decode cX14_kiln 54 = .ok (.invokevirtual 38, 3) := dk_182 0 38 (dk_at dksX14_kiln_2 8 rfl rfl)
theorem dX14_kiln_57 : decode cX14_kiln 57 = .ok (.athrow, 1) := dk_191 (dk_at dksX14_kiln_2 11 rfl rfl)
theorem dX14_kiln_58 : decode cX14_kiln 58 = .ok (.aload_n 0, 1) := dk_42 (dk_at dksX14_kiln_2 12 rfl rfl)
theorem dX14_kiln_59 : decode cX14_kiln 59 = .ok (.getfield 12, 3) := dk_180 0 12 (dk_at dksX14_kiln_2 13 rfl rfl)
theorem dX14_kiln_62 : decode cX14_kiln 62 = .ok (.areturn, 1) := dk_176 (dk_at dksX14_kiln_2 16 rfl rfl)
theorem xr_tested : xV yX14_tested "BakedBefore$Reader" cX14_tested 3 (some (.object "BakedBefore$Clause")) 1 := ⟨q698, qs10, q110, q699, ⟨rfl, by decide +kernel, by decide +kernel, by decide +kernel⟩, by decide⟩
theorem xr_clause : xV yX14_clause "BakedBefore$Reader" cX14_clause 1 none 0 := ⟨q689, qs8, q110, q690, ⟨rfl, by decide +kernel, by decide +kernel, by decide +kernel⟩, by decide⟩
theorem xr_kiln : xV yX14_kiln "BakedBefore$Reader" cX14_kiln 1 (some (.object "BakedBefore$Kiln")) 0 := ⟨q684, q685, q110, q686, ⟨rfl, by decide +kernel, by decide +kernel, by decide +kernel⟩, by decide⟩
theorem xby_ne : ∀ t, t < 4 → ∀ w ∈ xsbyt.getD t [], w ≠ -1 := by decide
theorem rk_tested (l : Launch) (hlt : l.stackTraces = false) (D : va_G) (T : xT) (n : Nat) (g : Nat → Int32) (hn : n ≤ 100) (R tx kl a t : Nat) (ht : t < 4) (ha : a ≤ n) : XMX l D T yX14_tested cX14_tested 3 (some (.object "BakedBefore$Clause")) 31 (8 * (endP (pTested g n (xsbyt.getD t []) a) - a) + 13) (430 * (endP (pTested g n (xsbyt.getD t []) a) - a) + 460) [.ref R, .ref (T.2.1 t)] (rdW T R tx kl g n (nI a) 0) (fun v w => ∃ (e : Nat) (z : Int32) (φ : TF1) (b u : Nat) (N : va_W), pTested g n (xsbyt.getD t []) a = .inr (e, (z, φ)) ∧ v = some (.ref b) ∧ w = (rdW T R tx kl g n (nI e) 0) ++ N ∧ (b, .inr (16, [.int z, .ref u])) ∈ N ∧ tstP T N 20 u φ) (rdE T R tx kl g n (pTested g n (xsbyt.getD t []) a)) := by
  obtain ⟨res, hres⟩ : ∃ z, z = pTested g n (xsbyt.getD t []) a := ⟨_, rfl⟩
  rw [← hres]
  have hE : pEn n a res := by rw [hres]; exact pTested_en (xby_ne t ht)
  have hE1 := hE.1
  have hj : res = (match pWord g n (xsbyt.getD t []) a with | .inl p => (.inl p : PR (Int32 × TF1)) | .inr q => pNT g n q.1) := hres
  refine XMX.start (by decide +kernel) (Nat.le_of_ble_eq_true rfl) (fun Γ G X htab hl_ => ?_)
  subst hl_
  refine K.less [0, 1] (lv' := [(0, .ref R), (1, .ref (T.2.1 t))]) rfl ?_
  refine K.nf (ws' := ((rdW T R tx kl g n (nI a) 0) ++ [])) rfl rfl rfl (List.append_nil _).symm ?_
  refine k_aload_n G dX14_tested_0 rfl ?_
  refine k_aload_n G dX14_tested_1 rfl ?_
  refine k_callVXw G (As := [.ref (T.2.1 t)]) (rest := []) (C := RX14) (rk_word _ hlt D T R tx kl n g [] ht hn ha) xr_word q700 rfl rfl (Nat.le_of_ble_eq_true rfl) (by omega) ⟨by omega, by omega⟩ ⟨0, 14, _, TX14, 5, rfl, rfl⟩ dX14_tested_2 (fun v w hq => ?_) (fun E q w hq => ?_)
  · obtain ⟨rfl, e1, hr, rfl⟩ := hq
    have hb := pWord_en (f := g) (n := n) _ (xby_ne t ht) a
    rw [hr] at hb hj
    have hb0 : a ≤ e1 := hb.1
    have hb1 : e1 ≤ n := hb.2 ha
    have hj2 : res = (match pNum g n e1 with | .inl p => (.inl p : PR (Int32 × TF1)) | .inr z => if hereS g n z.1 = 32 then (match pE g n (z.1 + 1) with | .inl p => .inl p | .inr y => .inr (y.1, (z.2, y.2))) else .inl z.1) := hj
    refine k_aload_n G dX14_tested_5 rfl ?_
    refine k_callVXw G (As := []) (rest := []) (C := RX14) (rk_number _ hlt D T R tx kl n g [] hn hb1) xr_number q842 rfl rfl (Nat.le_of_ble_eq_true rfl) (by omega) ⟨by omega, by omega⟩ ⟨0, 14, _, TX14, 5, rfl, rfl⟩ dX14_tested_6 (fun v w hq => ?_) (fun E q w hq => ?_)
    · obtain ⟨e2, z, rfl, hr2, rfl⟩ := hq
      have hd := pNum_en (f := g) (n := n) (a := e1)
      rw [hr2] at hd hj2
      have hd0 : e1 ≤ e2 := hd.1
      have hd1 : e2 ≤ n := hd.2 hb1
      have hj3 : res = (if hereS g n e2 = 32 then (match pE g n (e2 + 1) with | .inl p => (.inl p : PR (Int32 × TF1)) | .inr y => .inr (y.1, (z, y.2))) else .inl e2) := hj2
      refine k_istore_n G [(2, .int z), (0, .ref R), (1, .ref (T.2.1 t))] dX14_tested_9 rfl (Nat.le_of_ble_eq_true rfl) rfl ?_
      refine k_aload_n G dX14_tested_10 rfl ?_
      refine k_bipush G (v := 32) dX14_tested_11 (by decide) ?_
      refine k_callVXw G (As := [.int 32]) (rest := []) (C := RX14) (rk_must _ hlt D T R tx kl n g [] hn (by omega)) xr_must q750 rfl rfl (Nat.le_of_ble_eq_true rfl) (by omega) ⟨by omega, by omega⟩ ⟨0, 14, _, TX14, 5, rfl, rfl⟩ dX14_tested_13 (fun v w hq => ?_) (fun E q w hq => ?_)
      · obtain ⟨rfl, h32, rfl⟩ := hq
        rw [if_pos h32] at hj3
        have hlt2 := hereS_eq h32 (by decide)
        have hk := pEof_en (pF_en (f := g) (n := n) 4) (e2 + 1)
        have hk0 : e2 + 1 ≤ endP (pE g n (e2 + 1)) := hk.1
        have hER : endP (pE g n (e2 + 1)) ≤ endP res := by rw [hj3]; cases pE g n (e2 + 1) <;> exact Nat.le_refl _
        refine k_new G (fs := [.int 0, .null]) ci_X16 q847 q848 q115 (fun j hj => by match j, hj with | 0, _ => rfl | 1, _ => rfl) ⟨by omega, by omega⟩ dX14_tested_16 (fun s => ?_)
        refine k_dup G dX14_tested_19 rfl ?_
        refine k_iload_n G dX14_tested_20 rfl ?_
        refine k_aload_n G dX14_tested_21 rfl ?_
        refine K.nf (ws' := ([] ++ ((rdW T R tx kl g n (nI (e2 + 1)) 0) ++ [(s, .inr (16, [.int 0, .null]))]))) rfl rfl rfl rfl ?_
        refine k_callVX G (wl := []) (wc := (rdW T R tx kl g n (nI (e2 + 1)) 0)) (wr := [(s, .inr (16, [.int 0, .null]))]) (As := []) (rest := [.int z, .ref s, .ref s]) ((rk_all3 _ hlt D T n g hn 4 (Nat.le_refl 4)).2 R tx kl (e2 + 1) (by omega)) xr_some q849 rfl rfl (Nat.le_of_ble_eq_true rfl) (by omega) ⟨by show 0 + 1 + 1 + 1 + 1 + (8 * (endP (pE g n (e2 + 1)) - (e2 + 1)) + 9) ≤ _; omega, by show 0 + 7 + 7 + 7 + 2 + (430 * (endP (pE g n (e2 + 1)) - (e2 + 1)) + 430) ≤ _; omega⟩ ⟨0, 14, _, TX14, 5, rfl, rfl⟩ dX14_tested_22 (fun v wc hq => ?_) (fun E q wc hq => ?_)
        · obtain ⟨e3, φ, b, N, hr3, rfl, rfl, htt⟩ := hq
          change pE g n (e2 + 1) = _ at hr3
          rw [hr3] at hj3 hER hk0
          change res = .inr (e3, (z, φ)) at hj3
          change e3 ≤ endP res at hER
          change e2 + 1 ≤ e3 at hk0
          show K D Γ (0 + 1 + 1 + 1 + 1 + (8 * (endP (pE g n (e2 + 1)) - (e2 + 1)) + 9)) (0 + 7 + 7 + 7 + 2 + (430 * (endP (pE g n (e2 + 1)) - (e2 + 1)) + 430)) _ _ _ _
          rw [hr3]
          show K D Γ (0 + 1 + 1 + 1 + 1 + (8 * (e3 - (e2 + 1)) + 9)) (0 + 7 + 7 + 7 + 2 + (430 * (e3 - (e2 + 1)) + 430)) _ _ _ _
          refine k_ctor G (ws := (rdW T R tx kl g n (nI e3) 0) ++ N) (As := [.int z, .ref b]) (rest := [.ref s]) (ct_Clause _ D T s z b) xi_Clause q979 rfl rfl (Nat.le_of_ble_eq_true rfl) (by omega) ⟨by omega, by omega⟩ dX14_tested_25 (fun v w hq => ?_)
          obtain ⟨rfl, rfl⟩ := hq
          exact kx_ret X (k_aret (xEr.G G) xEr.X (Or.inl ⟨_, rfl⟩) (r := some s) dX14_tested_28 (by omega) (by omega) ⟨e3, z, φ, s, b, N ++ [(s, .inr (16, [.int z, .ref b]))], hj3, rfl, List.append_assoc _ _ _, List.mem_append_right _ List.mem_cons_self, (htt.mono (fun z hz => List.mem_append_left _ hz)).to (by omega)⟩)
        · obtain ⟨p, hr3, rfl, y9, x9, N, fs, rfl, hm, h6⟩ := hq
          change pE g n (e2 + 1) = _ at hr3
          rw [hr3] at hj3 hER hk0
          change res = .inl p at hj3
          change p ≤ endP res at hER
          change e2 + 1 ≤ p at hk0
          have hR3 : endP (pE g n (e2 + 1)) = p := by rw [hr3]; rfl
          refine kx_out G X htab (by show 0 + 1 + 1 + 1 + 1 + (8 * (endP (pE g n (e2 + 1)) - (e2 + 1)) + 9) ≤ _; omega) (by show 0 + 7 + 7 + 7 + 2 + (430 * (endP (pE g n (e2 + 1)) - (e2 + 1)) + 430) ≤ _; omega) ⟨p, hj3, rfl, y9, x9, N ++ [(s, .inr (16, [.int 0, .null]))], fs, by simp only [List.append_assoc, List.nil_append], List.mem_append_left _ hm, h6⟩
      · obtain ⟨h32, hq⟩ := hq
        rw [if_neg h32] at hj3
        have hR2 : endP res = e2 := by rw [hj3]; rfl
        exact kx_out G X htab (by omega) (by omega) ⟨e2, hj3, hq⟩
    · obtain ⟨hr2, hq⟩ := hq
      rw [hr2] at hj2
      change res = .inl e1 at hj2
      have hR2 : endP res = e1 := by rw [hj2]; rfl
      exact kx_out G X htab (by omega) (by omega) ⟨e1, hj2, hq⟩
  · obtain ⟨p, hr, hq⟩ := hq
    rw [hr] at hj
    change res = .inl p at hj
    have hR2 : endP res = p := by rw [hj]; rfl
    exact kx_out G X htab (by omega) (by omega) ⟨p, hj, hq⟩
/-- the kiln under construction: j clauses, at most b of a kind -/
def kst (T : xT) (kl tk mo fe : Nat) (κ : KD) (j b : Nat) (W : va_W) : Prop := ∃ (xt xm xf : List Nat) (Et Em Ef wt wm wf : va_W), W = (kl, .inr (2, [.ref tk, .ref mo, .ref fe, .int (nI j), .int κ.2.2.2])) :: (wt ++ (wm ++ wf)) ∧ (alW T tk xt Et wt ∧ clP T Et xt κ.1) ∧ (alW T mo xm Em wm ∧ clP T Em xm κ.2.1) ∧ (alW T fe xf Ef wf ∧ clP T Ef xf κ.2.2.1) ∧ κ.1.length ≤ b ∧ κ.2.1.length ≤ b ∧ κ.2.2.1.length ≤ b
theorem recvM {ws : va_W} {b ci N : Nat} {fs : List Value} {C : String} {TT : u_T} (h : (b, .inr (ci, fs)) ∈ ws) (hc : xcl[ci]? = some (C, TT, N)) : ∃ (q0 ci : Nat) (fs : List Value) (TT : u_T) (N : Nat), ws[q0]? = some (b, .inr (ci, fs)) ∧ xcl[ci]? = some (C, TT, N) := by
  obtain ⟨q0, hq⟩ := List.getElem?_of_mem h
  exact ⟨q0, ci, fs, TT, N, hq, hc⟩
theorem alW.mem {T : xT} {al : Nat} {xs : List Nat} {E w : va_W} (h : alW T al xs E w) : ∃ fs : List Value, (al, .inr (20, fs)) ∈ w := by
  obtain ⟨m, arr, w', rfl, -⟩ := h
  exact ⟨_, List.mem_cons_self⟩
theorem clP.app {T : xT} {E N J : va_W} {xs : List Nat} {cs : CL1} {b u : Nat} {c : Int32 × TF1} (h : clP T E xs cs) (h1 : (b, .inr (16, [.int c.1, .ref u])) ∈ N) (h2 : tstP T N 20 u c.2) : clP T (E ++ N ++ J) (xs ++ [b]) (cs ++ [c]) :=
  clP.add (h.mono (fun z hz => List.mem_append_left _ (List.mem_append_left _ hz))) (List.mem_append_left _ (List.mem_append_right _ h1)) (h2.mono (fun z hz => List.mem_append_left _ (List.mem_append_right _ hz)))
set_option maxHeartbeats 1000000 in
theorem rk_clause (l : Launch) (hlt : l.stackTraces = false) (D : va_G) (T : xT) (n : Nat) (g : Nat → Int32) (hn : n ≤ 100) (R tx kl tk mo fe a j : Nat) (κ : KD) (W : va_W) (hW : kst T kl tk mo fe κ j j W) (hj : j ≤ 10) (ha : a ≤ n) : XMX l D T yX14_clause cX14_clause 1 none 32 (8 * (endP (pClause g n a κ) - a) + 14) (430 * (endP (pClause g n a κ) - a) + 660) [.ref R] ((rdW T R tx kl g n (nI a) 0) ++ W) (fun v w => v = none ∧ ∃ (e : Nat) (κ' : KD) (W' : va_W), pClause g n a κ = .inr (e, κ') ∧ w = ((rdW T R tx kl g n (nI e) 0) ++ W') ∧ kst T kl tk mo fe κ' (j + 1) (j + 1) W') (rdE T R tx kl g n (pClause g n a κ)) := by
  obtain ⟨res, hres⟩ : ∃ z, z = pClause g n a κ := ⟨_, rfl⟩
  rw [← hres]
  have hE : pEn n a res := by rw [hres]; exact pClause_en
  have hE1 := hE.1
  refine XMX.start (by decide +kernel) (Nat.le_of_ble_eq_true rfl) (fun Γ G X htab hl_ => ?_)
  subst hl_
  refine K.less [0] (lv' := [(0, .ref R)]) rfl ?_
  obtain ⟨xt, xm, xf, Et, Em, Ef, wt, wm, wf, rfl, ⟨ht1, ht2⟩, ⟨hm1, hm2⟩, ⟨hf1, hf2⟩, b1, b2, b3⟩ := hW
  have fin : ∀ (e : Nat) (κ' : KD) (W' : va_W) (c s : Nat), res = .inr (e, κ') → kst T kl tk mo fe κ' j (j + 1) W' → c ≤ 8 * (endP res - a) + 14 → s ≤ 430 * (endP res - a) + 660 → K D Γ c s 133 [(0, .ref R)] [] ((rdW T R tx kl g n (nI e) 0) ++ W') := by
    intro e κ' W' c s he hk hc hs
    obtain ⟨xt, xm, xf, Et, Em, Ef, wt, wm, wf, rfl, k1, k2, k3, b1, b2, b3⟩ := hk
    refine k_aload_n G dX14_clause_133 rfl ?_
    refine rg_kiln G dX14_clause_134 ?_
    refine k_dup G dX14_clause_137 rfl ?_
    refine k_get G (p := 2) (k := 3) ci_X2 rfl (by decide) (Or.inr (List.mem_of_getElem? (i := 5) rfl)) (fun _ h => h) rfl dX14_clause_138 ?_
    refine k_iconst G (v := 1) dX14_clause_141 (by decide) ?_
    refine k_iadd G dX14_clause_142 ?_
    rw [nI_1]
    refine k_put G (p := 2) (k := 3) ci_X2 rfl (by decide) (Or.inr (List.mem_of_getElem? (i := 5) rfl)) (fun _ h => h) rfl rfl rfl (Nat.le_of_ble_eq_true rfl) dX14_clause_143 (fun _ _ _ => ?_)
    exact kx_ret X (k_vret (xEr.G G) xEr.X dX14_clause_146 hc hs ⟨rfl, e, κ', _, he, rfl, xt, xm, xf, Et, Em, Ef, wt, wm, wf, rfl, k1, k2, k3, b1, b2, b3⟩)
  refine k_aload_n G dX14_clause_0 rfl ?_
  refine kk_here G hn (by omega) dX14_clause_1 (Nat.le_of_ble_eq_true rfl) (by omega) ⟨by omega, by omega⟩ ?_
  by_cases h116 : hereS g n a = 116
  · unfold pClause at hres
    rw [if_pos h116] at hres
    refine k_lswIn G 116 h116 48 dX14_clause_4 (by decide +kernel) rfl (by decide) ?_
    refine k_aload_n G dX14_clause_48 rfl ?_
    refine rg_kiln G dX14_clause_49 ?_
    refine k_get G (p := 2) (k := 0) ci_X2 rfl (by decide) (Or.inr (List.mem_of_getElem? (i := 2) rfl)) (fun _ h => h) rfl dX14_clause_52 ?_
    refine k_aload_n G dX14_clause_55 rfl ?_
    refine kx_ldc G (j := 0) (tx := "take ") (i := 0) rfl dX14_clause_56 ?_
    have hj2 : endP (pTested g n (xsbyt.getD 0 []) a) = endP res := by rw [hres]; unfold pPut; show _ = endP (match pTested g n (xsbyt.getD 0 []) a with | .inl p => (.inl p : PR KD) | .inr q => .inr (q.1, _)); cases pTested g n (xsbyt.getD 0 []) a <;> rfl
    refine k_callVX G (wl := []) (wc := (rdW T R tx kl g n (nI a) 0)) (wr := ((kl, .inr (2, [.ref tk, .ref mo, .ref fe, .int (nI j), .int κ.2.2.2])) :: (wt ++ (wm ++ wf)))) (As := [.ref (T.2.1 0)]) (rest := [.ref tk]) (rk_tested _ hlt D T n g hn R tx kl a 0 (by decide) ha) xr_tested q696 rfl rfl (Nat.le_of_ble_eq_true rfl) (by omega) ⟨by omega, by omega⟩ ⟨0, 14, _, TX14, 5, rfl, rfl⟩ dX14_clause_58 (fun v wc hq => ?_) (fun E q wc hq => ?_)
    · obtain ⟨e2, zz, φ, b, u, N, hr, rfl, rfl, hm, htt⟩ := hq
      have hres2 := hres
      change res = pPut (pTested g n (xsbyt.getD 0 []) a) _ at hres2
      rw [hr] at hres2
      have hb := pTested_en (f := g) (n := n) (a := a) (xby_ne 0 (by decide))
      rw [hr] at hb hj2
      have hb0 : a ≤ e2 := hb.1
      have hj3 : e2 = endP res := hj2
      rw [hr]
      show K D Γ (0 + (8 * (e2 - a) + 13)) (0 + (430 * (e2 - a) + 460)) _ _ _ _
      refine K.perm (ws' := ((rdW T R tx kl g n (nI e2) 0) ++ ((kl, .inr (2, [.ref tk, .ref mo, .ref fe, .int (nI j), .int κ.2.2.2])) :: (wm ++ wf))) ++ ((wt ++ N) ++ [])) (pm (fun c f h0 h1 h2 => by simp only [h0, h1, h2, List.cons_append, List.nil_append, List.append_nil]; omega)) ?_
      obtain ⟨fsA, hA⟩ := ht1.mem
      refine k_callV G (wl := (rdW T R tx kl g n (nI e2) 0) ++ ((kl, .inr (2, [.ref tk, .ref mo, .ref fe, .int (nI j), .int κ.2.2.2])) :: (wm ++ wf))) (wc := wt ++ N) (wr := []) (As := [.ref b]) (rest := []) (C := RJ2) (kd_add _ D T (ht1.more (N := N)) (fun y hy => (ht2.elt y hy).mono (fun z hz => List.mem_append_left _ hz)) ⟨16, _, "BakedBefore$Clause", TX16, 2, List.mem_append_right _ hm, rfl, by decide⟩ (by have := ht2.1; omega)) xs_add q910 rfl rfl (Nat.le_of_ble_eq_true rfl) (by omega) ⟨by omega, by omega⟩ (recvM (List.mem_append_right _ (List.mem_append_left _ (List.mem_append_left _ hA))) rfl) dX14_clause_61 (fun v9 w9 h9 => ?_)
      obtain ⟨rfl, J, hw9⟩ := h9
      refine K.perm (ws' := (rdW T R tx kl g n (nI e2) 0) ++ ((kl, .inr (2, [.ref tk, .ref mo, .ref fe, .int (nI j), .int κ.2.2.2])) :: (w9 ++ (wm ++ wf)))) (pm (fun c f h0 h1 h2 => by simp only [h0, h1, h2, List.cons_append, List.nil_append, List.append_nil]; omega)) ?_
      refine k_pop G dX14_clause_64 rfl ?_
      refine k_goto G 133 dX14_clause_65 (by decide) ?_
      exact fin e2 _ _ _ _ hres2 ⟨_, xm, xf, _, Em, Ef, w9, wm, wf, rfl, ⟨hw9, ht2.app (c := (zz, φ)) hm htt⟩, ⟨hm1, hm2⟩, ⟨hf1, hf2⟩, by simpa using b1, by show κ.2.1.length ≤ _; omega, by show κ.2.2.1.length ≤ _; omega⟩ (by omega) (by omega)
    · obtain ⟨p, hr, rfl, y9, x9, N, fs, rfl, hm, h6⟩ := hq
      have hres2 := hres
      change res = pPut (pTested g n (xsbyt.getD 0 []) a) _ at hres2
      rw [hr] at hres2
      change res = .inl p at hres2
      exact kx_out G X htab (by omega) (by omega) ⟨p, hres2, rfl, y9, x9, N ++ ((kl, .inr (2, [.ref tk, .ref mo, .ref fe, .int (nI j), .int κ.2.2.2])) :: (wt ++ (wm ++ wf))), fs, by simp only [List.append_assoc, List.nil_append], List.mem_append_left _ hm, h6⟩
  by_cases h109 : hereS g n a = 109
  · unfold pClause at hres
    rw [if_neg h116, if_pos h109] at hres
    refine k_lswIn G 109 h109 68 dX14_clause_4 (by decide +kernel) rfl (by decide) ?_
    refine k_aload_n G dX14_clause_68 rfl ?_
    refine rg_kiln G dX14_clause_69 ?_
    refine k_get G (p := 2) (k := 1) ci_X2 rfl (by decide) (Or.inr (List.mem_of_getElem? (i := 3) rfl)) (fun _ h => h) rfl dX14_clause_72 ?_
    refine k_aload_n G dX14_clause_75 rfl ?_
    refine kx_ldc G (j := 1) (tx := "more ") (i := 1) rfl dX14_clause_76 ?_
    have hj2 : endP (pTested g n (xsbyt.getD 1 []) a) = endP res := by rw [hres]; unfold pPut; show _ = endP (match pTested g n (xsbyt.getD 1 []) a with | .inl p => (.inl p : PR KD) | .inr q => .inr (q.1, _)); cases pTested g n (xsbyt.getD 1 []) a <;> rfl
    refine k_callVX G (wl := []) (wc := (rdW T R tx kl g n (nI a) 0)) (wr := ((kl, .inr (2, [.ref tk, .ref mo, .ref fe, .int (nI j), .int κ.2.2.2])) :: (wt ++ (wm ++ wf)))) (As := [.ref (T.2.1 1)]) (rest := [.ref mo]) (rk_tested _ hlt D T n g hn R tx kl a 1 (by decide) ha) xr_tested q696 rfl rfl (Nat.le_of_ble_eq_true rfl) (by omega) ⟨by omega, by omega⟩ ⟨0, 14, _, TX14, 5, rfl, rfl⟩ dX14_clause_78 (fun v wc hq => ?_) (fun E q wc hq => ?_)
    · obtain ⟨e2, zz, φ, b, u, N, hr, rfl, rfl, hm, htt⟩ := hq
      have hres2 := hres
      change res = pPut (pTested g n (xsbyt.getD 1 []) a) _ at hres2
      rw [hr] at hres2
      have hb := pTested_en (f := g) (n := n) (a := a) (xby_ne 1 (by decide))
      rw [hr] at hb hj2
      have hb0 : a ≤ e2 := hb.1
      have hj3 : e2 = endP res := hj2
      rw [hr]
      show K D Γ (0 + (8 * (e2 - a) + 13)) (0 + (430 * (e2 - a) + 460)) _ _ _ _
      refine K.perm (ws' := ((rdW T R tx kl g n (nI e2) 0) ++ ((kl, .inr (2, [.ref tk, .ref mo, .ref fe, .int (nI j), .int κ.2.2.2])) :: (wt ++ wf))) ++ ((wm ++ N) ++ [])) (pm (fun c f h0 h1 h2 => by simp only [h0, h1, h2, List.cons_append, List.nil_append, List.append_nil]; omega)) ?_
      obtain ⟨fsA, hA⟩ := hm1.mem
      refine k_callV G (wl := (rdW T R tx kl g n (nI e2) 0) ++ ((kl, .inr (2, [.ref tk, .ref mo, .ref fe, .int (nI j), .int κ.2.2.2])) :: (wt ++ wf))) (wc := wm ++ N) (wr := []) (As := [.ref b]) (rest := []) (C := RJ2) (kd_add _ D T (hm1.more (N := N)) (fun y hy => (hm2.elt y hy).mono (fun z hz => List.mem_append_left _ hz)) ⟨16, _, "BakedBefore$Clause", TX16, 2, List.mem_append_right _ hm, rfl, by decide⟩ (by have := hm2.1; omega)) xs_add q910 rfl rfl (Nat.le_of_ble_eq_true rfl) (by omega) ⟨by omega, by omega⟩ (recvM (List.mem_append_right _ (List.mem_append_left _ (List.mem_append_left _ hA))) rfl) dX14_clause_81 (fun v9 w9 h9 => ?_)
      obtain ⟨rfl, J, hw9⟩ := h9
      refine K.perm (ws' := (rdW T R tx kl g n (nI e2) 0) ++ ((kl, .inr (2, [.ref tk, .ref mo, .ref fe, .int (nI j), .int κ.2.2.2])) :: (wt ++ (w9 ++ wf)))) (pm (fun c f h0 h1 h2 => by simp only [h0, h1, h2, List.cons_append, List.nil_append, List.append_nil]; omega)) ?_
      refine k_pop G dX14_clause_84 rfl ?_
      refine k_goto G 133 dX14_clause_85 (by decide) ?_
      exact fin e2 _ _ _ _ hres2 ⟨xt, _, xf, Et, _, Ef, wt, w9, wf, rfl, ⟨ht1, ht2⟩, ⟨hw9, hm2.app (c := (zz, φ)) hm htt⟩, ⟨hf1, hf2⟩, by show κ.1.length ≤ _; omega, by simpa using b2, by show κ.2.2.1.length ≤ _; omega⟩ (by omega) (by omega)
    · obtain ⟨p, hr, rfl, y9, x9, N, fs, rfl, hm, h6⟩ := hq
      have hres2 := hres
      change res = pPut (pTested g n (xsbyt.getD 1 []) a) _ at hres2
      rw [hr] at hres2
      change res = .inl p at hres2
      exact kx_out G X htab (by omega) (by omega) ⟨p, hres2, rfl, y9, x9, N ++ ((kl, .inr (2, [.ref tk, .ref mo, .ref fe, .int (nI j), .int κ.2.2.2])) :: (wt ++ (wm ++ wf))), fs, by simp only [List.append_assoc, List.nil_append], List.mem_append_left _ hm, h6⟩
  by_cases h99 : hereS g n a = 99
  · unfold pClause at hres
    rw [if_neg h116, if_neg h109, if_pos h99] at hres
    refine k_lswIn G 99 h99 108 dX14_clause_4 (by decide +kernel) rfl (by decide) ?_
    refine k_aload_n G dX14_clause_108 rfl ?_
    refine kx_ldc G (j := 2) (tx := "cold ") (i := 2) rfl dX14_clause_109 ?_
    have hj : res = pPut (match pWord g n (xsbyt.getD 2 []) a with | .inl p => (.inl p : PR Int32) | .inr q => pNum g n q.1) (fun c => (κ.1, κ.2.1, κ.2.2.1, c)) := hres
    refine k_callVXw G (As := [.ref (T.2.1 2)]) (rest := []) (C := RX14) (rk_word _ hlt D T R tx kl n g (x := 0) ((kl, .inr (2, [.ref tk, .ref mo, .ref fe, .int (nI j), .int κ.2.2.2])) :: (wt ++ (wm ++ wf))) (by decide) hn ha) xr_word q700 rfl rfl (Nat.le_of_ble_eq_true rfl) (by omega) ⟨by omega, by omega⟩ ⟨0, 14, _, TX14, 5, rfl, rfl⟩ dX14_clause_111 (fun v w hq => ?_) (fun E q w hq => ?_)
    · obtain ⟨rfl, e1, hr, rfl⟩ := hq
      have hb := pWord_en (f := g) (n := n) _ (xby_ne 2 (by decide)) a
      rw [hr] at hb hj
      have hb0 : a ≤ e1 := hb.1
      have hb1 : e1 ≤ n := hb.2 ha
      change res = pPut (pNum g n e1) _ at hj
      refine k_aload_n G dX14_clause_114 rfl ?_
      refine rg_kiln G dX14_clause_115 ?_
      refine k_aload_n G dX14_clause_118 rfl ?_
      refine k_callVXw G (As := []) (rest := [.ref kl]) (C := RX14) (rk_number _ hlt D T R tx kl n g (x := 0) ((kl, .inr (2, [.ref tk, .ref mo, .ref fe, .int (nI j), .int κ.2.2.2])) :: (wt ++ (wm ++ wf))) hn hb1) xr_number q842 rfl rfl (Nat.le_of_ble_eq_true rfl) (by omega) ⟨by omega, by omega⟩ ⟨0, 14, _, TX14, 5, rfl, rfl⟩ dX14_clause_119 (fun v w hq => ?_) (fun E q w hq => ?_)
      · obtain ⟨e2, z, rfl, hr2, rfl⟩ := hq
        have hd := pNum_en (f := g) (n := n) (a := e1)
        rw [hr2] at hd hj
        have hd0 : e1 ≤ e2 := hd.1
        change res = .inr (e2, (κ.1, κ.2.1, κ.2.2.1, z)) at hj
        have hR2 : endP res = e2 := by rw [hj]; rfl
        refine k_put G (p := 2) (k := 4) ci_X2 rfl (by decide) (Or.inr (List.mem_of_getElem? (i := 6) rfl)) (fun _ h => h) rfl rfl rfl (Nat.le_of_ble_eq_true rfl) dX14_clause_122 (fun _ _ _ => ?_)
        refine k_goto G 133 dX14_clause_125 (by decide) ?_
        exact fin e2 _ _ _ _ hj ⟨xt, xm, xf, Et, Em, Ef, wt, wm, wf, rfl, ⟨ht1, ht2⟩, ⟨hm1, hm2⟩, ⟨hf1, hf2⟩, by show κ.1.length ≤ _; omega, by show κ.2.1.length ≤ _; omega, by show κ.2.2.1.length ≤ _; omega⟩ (by omega) (by omega)
      · obtain ⟨hr2, rfl, y9, x9, N, fs, rfl, hm, h6⟩ := hq
        rw [hr2] at hj
        change res = .inl e1 at hj
        have hR2 : endP res = e1 := by rw [hj]; rfl
        exact kx_out G X htab (by omega) (by omega) ⟨e1, hj, rfl, y9, x9, ((kl, .inr (2, [.ref tk, .ref mo, .ref fe, .int (nI j), .int κ.2.2.2])) :: (wt ++ (wm ++ wf))) ++ N, fs, rfl, List.mem_append_right _ hm, h6⟩
    · obtain ⟨p, hr, rfl, y9, x9, N, fs, rfl, hm, h6⟩ := hq
      rw [hr] at hj
      change res = .inl p at hj
      have hR2 : endP res = p := by rw [hj]; rfl
      exact kx_out G X htab (by omega) (by omega) ⟨p, hj, rfl, y9, x9, ((kl, .inr (2, [.ref tk, .ref mo, .ref fe, .int (nI j), .int κ.2.2.2])) :: (wt ++ (wm ++ wf))) ++ N, fs, rfl, List.mem_append_right _ hm, h6⟩
  by_cases h102 : hereS g n a = 102
  · unfold pClause at hres
    rw [if_neg h116, if_neg h109, if_neg h99, if_pos h102] at hres
    refine k_lswIn G 102 h102 88 dX14_clause_4 (by decide +kernel) rfl (by decide) ?_
    refine k_aload_n G dX14_clause_88 rfl ?_
    refine rg_kiln G dX14_clause_89 ?_
    refine k_get G (p := 2) (k := 2) ci_X2 rfl (by decide) (Or.inr (List.mem_of_getElem? (i := 4) rfl)) (fun _ h => h) rfl dX14_clause_92 ?_
    refine k_aload_n G dX14_clause_95 rfl ?_
    refine kx_ldc G (j := 3) (tx := "fee ") (i := 3) rfl dX14_clause_96 ?_
    have hj2 : endP (pTested g n (xsbyt.getD 3 []) a) = endP res := by rw [hres]; unfold pPut; show _ = endP (match pTested g n (xsbyt.getD 3 []) a with | .inl p => (.inl p : PR KD) | .inr q => .inr (q.1, _)); cases pTested g n (xsbyt.getD 3 []) a <;> rfl
    refine k_callVX G (wl := []) (wc := (rdW T R tx kl g n (nI a) 0)) (wr := ((kl, .inr (2, [.ref tk, .ref mo, .ref fe, .int (nI j), .int κ.2.2.2])) :: (wt ++ (wm ++ wf)))) (As := [.ref (T.2.1 3)]) (rest := [.ref fe]) (rk_tested _ hlt D T n g hn R tx kl a 3 (by decide) ha) xr_tested q696 rfl rfl (Nat.le_of_ble_eq_true rfl) (by omega) ⟨by omega, by omega⟩ ⟨0, 14, _, TX14, 5, rfl, rfl⟩ dX14_clause_98 (fun v wc hq => ?_) (fun E q wc hq => ?_)
    · obtain ⟨e2, zz, φ, b, u, N, hr, rfl, rfl, hm, htt⟩ := hq
      have hres2 := hres
      change res = pPut (pTested g n (xsbyt.getD 3 []) a) _ at hres2
      rw [hr] at hres2
      have hb := pTested_en (f := g) (n := n) (a := a) (xby_ne 3 (by decide))
      rw [hr] at hb hj2
      have hb0 : a ≤ e2 := hb.1
      have hj3 : e2 = endP res := hj2
      rw [hr]
      show K D Γ (0 + (8 * (e2 - a) + 13)) (0 + (430 * (e2 - a) + 460)) _ _ _ _
      refine K.perm (ws' := ((rdW T R tx kl g n (nI e2) 0) ++ ((kl, .inr (2, [.ref tk, .ref mo, .ref fe, .int (nI j), .int κ.2.2.2])) :: (wt ++ wm))) ++ ((wf ++ N) ++ [])) (pm (fun c f h0 h1 h2 => by simp only [h0, h1, h2, List.cons_append, List.nil_append, List.append_nil]; omega)) ?_
      obtain ⟨fsA, hA⟩ := hf1.mem
      refine k_callV G (wl := (rdW T R tx kl g n (nI e2) 0) ++ ((kl, .inr (2, [.ref tk, .ref mo, .ref fe, .int (nI j), .int κ.2.2.2])) :: (wt ++ wm))) (wc := wf ++ N) (wr := []) (As := [.ref b]) (rest := []) (C := RJ2) (kd_add _ D T (hf1.more (N := N)) (fun y hy => (hf2.elt y hy).mono (fun z hz => List.mem_append_left _ hz)) ⟨16, _, "BakedBefore$Clause", TX16, 2, List.mem_append_right _ hm, rfl, by decide⟩ (by have := hf2.1; omega)) xs_add q910 rfl rfl (Nat.le_of_ble_eq_true rfl) (by omega) ⟨by omega, by omega⟩ (recvM (List.mem_append_right _ (List.mem_append_left _ (List.mem_append_left _ hA))) rfl) dX14_clause_101 (fun v9 w9 h9 => ?_)
      obtain ⟨rfl, J, hw9⟩ := h9
      refine K.perm (ws' := (rdW T R tx kl g n (nI e2) 0) ++ ((kl, .inr (2, [.ref tk, .ref mo, .ref fe, .int (nI j), .int κ.2.2.2])) :: (wt ++ (wm ++ w9)))) (pm (fun c f h0 h1 h2 => by simp only [h0, h1, h2, List.cons_append, List.nil_append, List.append_nil]; omega)) ?_
      refine k_pop G dX14_clause_104 rfl ?_
      refine k_goto G 133 dX14_clause_105 (by decide) ?_
      exact fin e2 _ _ _ _ hres2 ⟨xt, xm, _, Et, Em, _, wt, wm, w9, rfl, ⟨ht1, ht2⟩, ⟨hm1, hm2⟩, ⟨hw9, hf2.app (c := (zz, φ)) hm htt⟩, by show κ.1.length ≤ _; omega, by show κ.2.1.length ≤ _; omega, by simpa using b3⟩ (by omega) (by omega)
    · obtain ⟨p, hr, rfl, y9, x9, N, fs, rfl, hm, h6⟩ := hq
      have hres2 := hres
      change res = pPut (pTested g n (xsbyt.getD 3 []) a) _ at hres2
      rw [hr] at hres2
      change res = .inl p at hres2
      exact kx_out G X htab (by omega) (by omega) ⟨p, hres2, rfl, y9, x9, N ++ ((kl, .inr (2, [.ref tk, .ref mo, .ref fe, .int (nI j), .int κ.2.2.2])) :: (wt ++ (wm ++ wf))), fs, by simp only [List.append_assoc, List.nil_append], List.mem_append_left _ hm, h6⟩
  unfold pClause at hres
  rw [if_neg h116, if_neg h109, if_neg h99, if_neg h102] at hres
  refine k_lswD G [99, 102, 109, 116] 128 dX14_clause_4 (by decide +kernel) (by decide +kernel) (fun v hv z => ?_) (by decide) ?_
  · simp only [List.mem_cons, List.not_mem_nil, or_false] at hv
    rcases hv with rfl | rfl | rfl | rfl
    · exact h99 z
    · exact h102 z
    · exact h109 z
    · exact h116 z
  refine k_aload_n G dX14_clause_128 rfl ?_
  refine kk_throw G hlt (Nat.le_of_ble_eq_true rfl) (by omega) ⟨by omega, by omega⟩ dX14_clause_129 dX14_clause_132 (fun b fs h6 => ?_)
  exact kx_out G X htab (by omega) (by omega) ⟨a, hres, rfl, nI a, 0, ((kl, .inr (2, [.ref tk, .ref mo, .ref fe, .int (nI j), .int κ.2.2.2])) :: (wt ++ (wm ++ wf))) ++ [(b, .inr (15, fs))], fs, rfl, List.mem_append_right _ List.mem_cons_self, h6⟩
/-- behind a clause, r more allowed -/
def pHd (f : SS) (n r c : Nat) (κ : KD) : PR KD := match r with
  | 0 => if c = n then .inr (c, κ) else .inl c
  | r + 1 => if c = n then .inr (c, κ) else if hereS f n c = 59 then pKil f n r (c + 1) κ else .inl c
theorem pKil_hd {f : SS} {n r a : Nat} {κ : KD} : pKil f n r a κ = (match pClause f n a κ with
    | .inl p => .inl p
    | .inr q => pHd f n r q.1 q.2) := by
  cases r <;> rfl
theorem pHd_en {f : SS} {n r c : Nat} {κ : KD} : pEn n c (pHd f n r c κ) := by
  cases r with
  | zero =>
    show pEn n c (if c = n then (.inr (c, κ) : PR KD) else .inl c)
    by_cases h : c = n
    · rw [if_pos h]; exact ⟨Nat.le_refl c, fun z => z⟩
    · rw [if_neg h]; exact ⟨Nat.le_refl c, fun z => z⟩
  | succ r =>
    show pEn n c (if c = n then (.inr (c, κ) : PR KD) else if hereS f n c = 59 then pKil f n r (c + 1) κ else .inl c)
    by_cases h : c = n
    · rw [if_pos h]; exact ⟨Nat.le_refl c, fun z => z⟩
    rw [if_neg h]
    by_cases h2 : hereS f n c = 59
    · rw [if_pos h2]
      have l2 := hereS_eq h2 (by decide)
      have hc := pKil_en (f := f) (n := n) r (c + 1) κ
      exact ⟨Nat.le_trans (Nat.le_succ _) hc.1, fun _ => hc.2 l2⟩
    · rw [if_neg h2]; exact ⟨Nat.le_refl c, fun z => z⟩
theorem pHd_stop {f : SS} {n r c : Nat} {κ : KD} (h : r = 0 ∨ ¬ hereS f n c = 59) : pHd f n r c κ = if c = n then .inr (c, κ) else .inl c := by
  cases r with
  | zero => rfl
  | succ r =>
    have h2 : ¬ hereS f n c = 59 := h.resolve_left (by omega)
    show (if c = n then (.inr (c, κ) : PR KD) else if hereS f n c = 59 then pKil f n r (c + 1) κ else .inl c) = _
    rw [if_neg h2]
theorem pHd_go {f : SS} {n r c : Nat} {κ : KD} (h : hereS f n c = 59) : pHd f n (r + 1) c κ = pKil f n r (c + 1) κ := by
  have l := hereS_eq h (by decide)
  show (if c = n then (.inr (c, κ) : PR KD) else if hereS f n c = 59 then pKil f n r (c + 1) κ else .inl c) = _
  rw [if_neg (by omega), if_pos h]
theorem pKil_cl {f : SS} {n r a : Nat} {κ : KD} : endP (pClause f n a κ) ≤ endP (pKil f n r a κ) := by
  rw [pKil_hd]
  cases h : pClause f n a κ with
  | inl p => exact Nat.le_refl _
  | inr q => exact (pHd_en (f := f) (n := n) (r := r) (c := q.1) (κ := q.2)).1
theorem rk_kiln (l : Launch) (hlt : l.stackTraces = false) (D : va_G) (T : xT) (n : Nat) (g : Nat → Int32) (hn : n ≤ 100) (R tx kl tk mo fe : Nat) (κ : KD) (W : va_W) (hW : kst T kl tk mo fe κ 0 0 W) : XMX l D T yX14_kiln cX14_kiln 1 (some (.object "BakedBefore$Kiln")) 33 (8 * endP (pKil g n 9 0 κ) + 142) (430 * endP (pKil g n 9 0 κ) + 6620) [.ref R] ((rdW T R tx kl g n (nI 0) 0) ++ W) (fun v w => ∃ (e : Nat) (κ' : KD) (W' : va_W) (j : Nat), pKil g n 9 0 κ = .inr (e, κ') ∧ v = some (.ref kl) ∧ w = ((rdW T R tx kl g n (nI e) 0) ++ W') ∧ kst T kl tk mo fe κ' j j W' ∧ j ≤ 10) (rdE T R tx kl g n (pKil g n 9 0 κ)) := by
  obtain ⟨res, hres⟩ : ∃ z, z = pKil g n 9 0 κ := ⟨_, rfl⟩
  rw [← hres]
  have hE : pEn n 0 res := by rw [hres]; exact pKil_en _ _ _
  refine XMX.start (by decide +kernel) (Nat.le_of_ble_eq_true rfl) (fun Γ G X htab hl_ => ?_)
  subst hl_
  refine K.less [0] (lv' := [(0, .ref R)]) rfl ?_
  have fin : ∀ (c j : Nat) (κ' : KD) (W' : va_W) (cc ss : Nat), res = (if c = n then .inr (c, κ') else .inl c) → kst T kl tk mo fe κ' j j W' → j ≤ 10 → c ≤ n → cc + 1 ≤ 8 * endP res + 142 → ss + 7 ≤ 430 * endP res + 6620 → K D Γ cc ss 42 [(0, .ref R)] [] ((rdW T R tx kl g n (nI c) 0) ++ W') := by
    intro c j κ' W' cc ss he hk hj hcn hc hs
    refine k_aload_n G dX14_kiln_42 rfl ?_
    refine rg_at G dX14_kiln_43 ?_
    refine k_aload_n G dX14_kiln_46 rfl ?_
    refine rg_size G dX14_kiln_47 ?_
    refine k_icmp_ge G 58 dX14_kiln_50 (by decide) (fun c50 => ?_) (fun c50 => ?_)
    · have h9 : n ≤ c := (nI_leI (by omega) (by omega)).mp c50
      rw [if_pos (by omega)] at he
      refine k_aload_n G dX14_kiln_58 rfl ?_
      refine rg_kiln G dX14_kiln_59 ?_
      exact kx_ret X (k_aret (xEr.G G) xEr.X (Or.inl ⟨_, rfl⟩) (r := some kl) dX14_kiln_62 (by omega) (by omega) ⟨c, κ', W', j, he, rfl, rfl, hk, hj⟩)
    · have h9 : ¬ c = n := fun z => c50 (by rw [z]; exact Int32.le_refl _)
      rw [if_neg h9] at he
      refine k_aload_n G dX14_kiln_53 rfl ?_
      refine kk_throw G hlt (Nat.le_of_ble_eq_true rfl) (by omega) ⟨by omega, by omega⟩ dX14_kiln_54 dX14_kiln_57 (fun b fs h6 => ?_)
      exact kx_out G X htab (by omega) (by omega) ⟨c, he, rfl, nI c, 0, W' ++ [(b, .inr (15, fs))], fs, rfl, List.mem_append_right _ List.mem_cons_self, h6⟩
  have L : ∀ (r c j : Nat) (κ' : KD) (W' : va_W), res = pHd g n r c κ' → kst T kl tk mo fe κ' j j W' → j + r = 10 → c ≤ n → K D Γ (8 * c + 14 * j) (430 * c + 660 * j) 4 [(0, .ref R)] [] ((rdW T R tx kl g n (nI c) 0) ++ W') := by
    intro r
    induction r with
    | zero =>
      intro c j κ' W' he hk hj hc
      have hcE : c ≤ endP res := by rw [he]; exact pHd_en.1
      refine k_aload_n G dX14_kiln_4 rfl ?_
      refine rg_kiln G dX14_kiln_5 ?_
      have hk0 := hk
      obtain ⟨xt, xm, xf, Et, Em, Ef, wt, wm, wf, rfl, k1⟩ := hk0
      refine k_get G (p := 2) (k := 3) ci_X2 rfl (by decide) (Or.inr (List.mem_of_getElem? (i := 5) rfl)) (fun _ h => h) rfl dX14_kiln_8 ?_
      refine k_bipush G (v := 10) dX14_kiln_11 (by decide) ?_
      refine k_icmp_ge G 42 dX14_kiln_13 (by decide) (fun _ => ?_) (fun c13 => absurd (show (10 : Int32) ≤ nI j from nI_le (a := 10) (by omega) (by omega)) c13)
      exact fin c j κ' _ _ _ (he.trans (pHd_stop (Or.inl rfl))) hk (by omega) hc (by omega) (by omega)
    | succ r ih =>
      intro c j κ' W' he hk hj hc
      have hcE : c ≤ endP res := by rw [he]; exact pHd_en.1
      refine k_aload_n G dX14_kiln_4 rfl ?_
      refine rg_kiln G dX14_kiln_5 ?_
      have hk0 := hk
      obtain ⟨xt, xm, xf, Et, Em, Ef, wt, wm, wf, rfl, k1⟩ := hk0
      refine k_get G (p := 2) (k := 3) ci_X2 rfl (by decide) (Or.inr (List.mem_of_getElem? (i := 5) rfl)) (fun _ h => h) rfl dX14_kiln_8 ?_
      refine k_bipush G (v := 10) dX14_kiln_11 (by decide) ?_
      refine k_icmp_ge G 42 dX14_kiln_13 (by decide) (fun c13 => absurd c13 (show ¬ (10 : Int32) ≤ nI j from nI_ge (b := 10) (by omega) (by omega))) (fun _ => ?_)
      refine k_aload_n G dX14_kiln_16 rfl ?_
      refine kk_here G hn (by omega) dX14_kiln_17 (Nat.le_of_ble_eq_true rfl) (by omega) ⟨by omega, by omega⟩ ?_
      refine k_bipush G (v := 59) dX14_kiln_20 (by decide) ?_
      refine k_icmp_ne G 42 dX14_kiln_22 (by decide) (fun c22 => ?_) (fun c22 => ?_)
      · exact fin c j κ' _ _ _ (he.trans (pHd_stop (Or.inr c22))) hk (by omega) hc (by omega) (by omega)
      · have hlt2 := hereS_eq c22 (by decide)
        have he2 := he.trans (pHd_go c22)
        have hcl := pKil_cl (f := g) (n := n) (r := r) (a := c + 1) (κ := κ')
        rw [← he2] at hcl
        have hen := pClause_en (f := g) (n := n) (a := c + 1) (κ := κ')
        have hen0 := hen.1
        refine k_aload_n G dX14_kiln_25 rfl ?_
        refine k_dup G dX14_kiln_26 rfl ?_
        refine rg_at G dX14_kiln_27 ?_
        refine k_iconst G (v := 1) dX14_kiln_30 (by decide) ?_
        refine k_iadd G dX14_kiln_31 ?_
        rw [nI_1]
        refine rp_at G dX14_kiln_32 ?_
        refine k_aload_n G dX14_kiln_35 rfl ?_
        refine k_callVXw G (As := []) (rest := []) (C := RX14) (rk_clause _ hlt D T n g hn R tx kl tk mo fe (c + 1) j κ' _ hk (by omega) (by omega)) xr_clause q687 rfl rfl (Nat.le_of_ble_eq_true rfl) (by omega) ⟨by omega, by omega⟩ ⟨0, 14, _, TX14, 5, rfl, rfl⟩ dX14_kiln_36 (fun v w hq => ?_) (fun E q w hq => ?_)
        · obtain ⟨rfl, e, κ2, W2, hr, rfl, hk2⟩ := hq
          rw [pKil_hd, hr] at he2
          rw [hr] at hcl hen
          have g1 : e ≤ endP res := hcl
          have g2 : c + 1 ≤ e := hen.1
          have g3 : e ≤ n := hen.2 (by omega)
          rw [hr]
          show K D Γ (8 * c + 14 * j + (8 * (e - (c + 1)) + 14)) (430 * c + 660 * j + (430 * (e - (c + 1)) + 660)) _ _ _ _
          refine k_goto G 4 dX14_kiln_39 (by decide) ?_
          exact K.widen (by omega) (by omega) (ih e (j + 1) κ2 W2 he2 hk2 (by omega) g3)
        · obtain ⟨p, hr, hq⟩ := hq
          rw [pKil_hd, hr] at he2
          change res = .inl p at he2
          rw [hr] at hcl hen0
          change p ≤ endP res at hcl
          change c + 1 ≤ p at hen0
          rw [hr]
          exact kx_out G X htab (by show 8 * c + 14 * j + (8 * (p - (c + 1)) + 14) ≤ _; omega) (by show 430 * c + 660 * j + (430 * (p - (c + 1)) + 660) ≤ _; omega) ⟨p, he2, hq⟩
  refine k_aload_n G dX14_kiln_0 rfl ?_
  have hcl := pKil_cl (f := g) (n := n) (r := 9) (a := 0) (κ := κ)
  rw [← hres] at hcl
  refine k_callVXw G (As := []) (rest := []) (C := RX14) (rk_clause _ hlt D T n g hn R tx kl tk mo fe 0 0 κ _ hW (by omega) (by omega)) xr_clause q687 rfl rfl (Nat.le_of_ble_eq_true rfl) (by omega) ⟨by omega, by omega⟩ ⟨0, 14, _, TX14, 5, rfl, rfl⟩ dX14_kiln_1 (fun v w hq => ?_) (fun E q w hq => ?_)
  · obtain ⟨rfl, e, κ2, W2, hr, rfl, hk2⟩ := hq
    have he2 := hres
    rw [pKil_hd, hr] at he2
    rw [hr] at hcl
    have g1 : e ≤ endP res := hcl
    have hen := pClause_en (f := g) (n := n) (a := 0) (κ := κ)
    rw [hr] at hen
    have g3 : e ≤ n := hen.2 (by omega)
    rw [hr]
    show K D Γ (0 + (8 * (e - 0) + 14)) (0 + (430 * (e - 0) + 660)) _ _ _ _
    exact K.widen (by omega) (by omega) (L 9 e 1 κ2 W2 he2 hk2 (by omega) g3)
  · obtain ⟨p, hr, hq⟩ := hq
    have he2 := hres
    rw [pKil_hd, hr] at he2
    change res = .inl p at he2
    rw [hr] at hcl
    change p ≤ endP res at hcl
    rw [hr]
    exact kx_out G X htab (by show 0 + (8 * (p - 0) + 14) ≤ _; omega) (by show 0 + (430 * (p - 0) + 660) ≤ _; omega) ⟨p, he2, hq⟩
