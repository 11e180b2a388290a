set_option maxRecDepth 100000

abbrev cX4_ran : ByteArray := prog_21_method_2_code
def yX4_ran : MethodName := ⟨RX4, "ran", "(I)V"⟩
def dkwX4_ran_1 : List UInt8 := [4, 96, 181, 0, 15, 177]
abbrev dktX4_ran_1 : List UInt8 := dkwX4_ran_1 ++ []
def dkwX4_ran_0 : List UInt8 := [42, 180, 0, 15, 16, 20, 162, 0, 13, 42, 180, 0, 9, 42, 180, 0, 15, 27, 79, 42, 89, 180, 0, 15]
abbrev dktX4_ran_0 : List UInt8 := dkwX4_ran_0 ++ dktX4_ran_1
theorem dksX4_ran_0 : cX4_ran.data.toList.drop 0 = dktX4_ran_0 := by decide +kernel
theorem dksX4_ran_1 : cX4_ran.data.toList.drop 24 = dktX4_ran_1 := dk_seg dksX4_ran_0 24 rfl rfl
theorem dX4_ran_0 : decode cX4_ran 0 = .ok (.aload_n 0, 1) := dk_42 (dk_at dksX4_ran_0 0 rfl rfl)
theorem dX4_ran_1 : decode cX4_ran 1 = .ok (.getfield 15, 3) := dk_180 0 15 (dk_at dksX4_ran_0 1 rfl rfl)
theorem dX4_ran_4 : decode cX4_ran 4 = .ok (.bipush 20, 2) := dk_16 20 (dk_at dksX4_ran_0 4 rfl rfl)
theorem dX4_ran_6 : decode cX4_ran 6 = .ok (.if_icmp .ge 13, 3) := dk_162 0 13 (dk_at dksX4_ran_0 6 rfl rfl)
theorem dX4_ran_9 : decode cX4_ran 9 = .ok (.aload_n 0, 1) := dk_42 (dk_at dksX4_ran_0 9 rfl rfl)
theorem dX4_ran_10 : decode cX4_ran 10 = .ok (.getfield 9, 3) := dk_180 0 9 (dk_at dksX4_ran_0 10 rfl rfl)
theorem dX4_ran_13 : decode cX4_ran 13 = .ok (.aload_n 0, 1) := dk_42 (dk_at dksX4_ran_0 13 rfl rfl)
theorem dX4_ran_14 : decode cX4_ran 14 = .ok (.getfield 15, 3) := dk_180 0 15 (dk_at dksX4_ran_0 14 rfl rfl)
theorem dX4_ran_17 : decode cX4_ran 17 = .ok (.iload_n 1, 1) := dk_27 (dk_at dksX4_ran_0 17 rfl rfl)
theorem dX4_ran_18 : decode cX4_ran 18 = .ok (.iastore, 1) := dk_79 (dk_at dksX4_ran_0 18 rfl rfl)
theorem dX4_ran_19 : decode cX4_ran 19 = .ok (.aload_n 0, 1) := dk_42 (dk_at dksX4_ran_0 19 rfl rfl)
theorem dX4_ran_20 : decode cX4_ran 20 = .ok (.dup, 1) := dk_89 (dk_at dksX4_ran_0 20 rfl rfl)
theorem dX4_ran_21 : decode cX4_ran 21 = .ok (.getfield 15, 3) := dk_180 0 15 (dk_at dksX4_ran_0 21 rfl rfl)
theorem dX4_ran_24 : decode cX4_ran 24 = .ok (.iconst 1, 1) := dk_4 (dk_at dksX4_ran_1 0 rfl rfl)
theorem dX4_ran_25 : decode cX4_ran 25 = .ok (.iadd, 1) := dk_96 (dk_at dksX4_ran_1 1 rfl rfl)
theorem dX4_ran_26 : decode cX4_ran 26 = .ok (.putfield 15, 3) := dk_181 0 15 (dk_at dksX4_ran_1 2 rfl rfl)
theorem dX4_ran_29 : decode cX4_ran 29 = .ok (.return_, 1) := dk_177 (dk_at dksX4_ran_1 5 rfl rfl)
abbrev cX3_of : ByteArray := prog_9_method_2_code
def yX3_of : MethodName := ⟨RX3, "of", "(I)I"⟩
def dkwX3_of_3 : List UInt8 := [172, 42, 180, 0, 25, 172]
abbrev dktX3_of_3 : List UInt8 := dkwX3_of_3 ++ []
def dkwX3_of_2 : List UInt8 := [42, 180, 0, 7, 172, 42, 180, 0, 13, 172, 42, 180, 0, 16, 172, 42, 180, 0, 19, 172, 42, 180, 0, 22]
abbrev dktX3_of_2 : List UInt8 := dkwX3_of_2 ++ dktX3_of_3
def dkwX3_of_1 : List UInt8 := [170, 0, 0, 0, 0, 0, 100, 0, 0, 0, 104, 0, 0, 0, 118, 0, 0, 0, 95, 0, 0, 0, 100, 0, 0, 0, 100, 0, 0, 0, 80, 0, 0, 0, 75, 0, 0, 0, 100, 0, 0, 0, 100, 0, 0, 0, 100, 0, 0, 0, 100, 0, 0, 0, 100, 0, 0, 0, 100, 0, 0, 0, 100, 0, 0, 0, 85, 0, 0, 0, 100, 0, 0, 0, 90]
abbrev dktX3_of_1 : List UInt8 := dkwX3_of_1 ++ dktX3_of_2
def dkwX3_of_0 : List UInt8 := [27]
abbrev dktX3_of_0 : List UInt8 := dkwX3_of_0 ++ dktX3_of_1
theorem dksX3_of_0 : cX3_of.data.toList.drop 0 = dktX3_of_0 := by decide +kernel
theorem dksX3_of_1 : cX3_of.data.toList.drop 1 = dktX3_of_1 := dk_seg dksX3_of_0 1 rfl rfl
theorem dksX3_of_2 : cX3_of.data.toList.drop 76 = dktX3_of_2 := dk_seg dksX3_of_1 75 rfl rfl
theorem dksX3_of_3 : cX3_of.data.toList.drop 100 = dktX3_of_3 := dk_seg dksX3_of_2 24 rfl rfl
theorem dX3_of_0 : decode cX3_of 0 = .ok (.iload_n 1, 1) := dk_27 (dk_at dksX3_of_0 0 rfl rfl)
theorem dX3_of_1 : decode cX3_of 1 = .ok (.tableswitch 100 104 118 #[95, 100, 100, 80, 75, 100, 100, 100, 100, 100, 100, 100, 85, 100, 90], 75) := by decide +kernel
theorem dX3_of_76 : decode cX3_of 76 = .ok (.aload_n 0, 1) := dk_42 (dk_at dksX3_of_2 0 rfl rfl)
theorem dX3_of_77 : decode cX3_of 77 = .ok (.getfield 7, 3) := dk_180 0 7 (dk_at dksX3_of_2 1 rfl rfl)
theorem dX3_of_80 : decode cX3_of 80 = .ok (.ireturn, 1) := dk_172 (dk_at dksX3_of_2 4 rfl rfl)
theorem dX3_of_81 : decode cX3_of 81 = .ok (.aload_n 0, 1) := dk_42 (dk_at dksX3_of_2 5 rfl rfl)
theorem dX3_of_82 : decode cX3_of 82 = .ok (.getfield 13, 3) := dk_180 0 13 (dk_at dksX3_of_2 6 rfl rfl)
theorem dX3_of_85 : decode cX3_of 85 = .ok (.ireturn, 1) := dk_172 (dk_at dksX3_of_2 9 rfl rfl)
theorem dX3_of_86 : decode cX3_of 86 = .ok (.aload_n 0, 1) := dk_42 (dk_at dksX3_of_2 10 rfl rfl)
theorem dX3_of_87 : decode cX3_of 87 = .ok (.getfield 16, 3) := dk_180 0 16 (dk_at dksX3_of_2 11 rfl rfl)
theorem dX3_of_90 : decode cX3_of 90 = .ok (.ireturn, 1) := dk_172 (dk_at dksX3_of_2 14 rfl rfl)
theorem dX3_of_91 : decode cX3_of 91 = .ok (.aload_n 0, 1) := dk_42 (dk_at dksX3_of_2 15 rfl rfl)
theorem dX3_of_92 : decode cX3_of 92 = .ok (.getfield 19, 3) := dk_180 0 19 (dk_at dksX3_of_2 16 rfl rfl)
theorem dX3_of_95 : decode cX3_of 95 = .ok (.ireturn, 1) := dk_172 (dk_at dksX3_of_2 19 rfl rfl)
theorem dX3_of_96 : decode cX3_of 96 = .ok (.aload_n 0, 1) := dk_42 (dk_at dksX3_of_2 20 rfl rfl)
theorem dX3_of_97 : decode cX3_of 97 = .ok (.getfield 22, 3) := dk_180 0 22 (dk_at dksX3_of_2 21 rfl rfl)
theorem dX3_of_100 : decode cX3_of 100 = .ok (.ireturn, 1) := dk_172 (dk_at dksX3_of_3 0 rfl rfl)
theorem dX3_of_101 : decode cX3_of 101 = .ok (.aload_n 0, 1) := dk_42 (dk_at dksX3_of_3 1 rfl rfl)
theorem dX3_of_102 : decode cX3_of 102 = .ok (.getfield 25, 3) := dk_180 0 25 (dk_at dksX3_of_3 2 rfl rfl)
theorem dX3_of_105 : decode cX3_of 105 = .ok (.ireturn, 1) := dk_172 (dk_at dksX3_of_3 5 rfl rfl)
abbrev cX7_kind : ByteArray := prog_8_method_2_code
def yX7_kind : MethodName := ⟨RX7, "kind", "()I"⟩
theorem dX7_kind_0 : decode cX7_kind 0 = .ok (.iconst 0, 1) := by decide +kernel
theorem dX7_kind_1 : decode cX7_kind 1 = .ok (.ireturn, 1) := by decide +kernel
abbrev cX7_taking : ByteArray := prog_8_method_3_code
def yX7_taking : MethodName := ⟨RX7, "taking", "(III)I"⟩
def dkwX7_taking_0 : List UInt8 := [27, 28, 104, 16, 100, 108, 172]
abbrev dktX7_taking_0 : List UInt8 := dkwX7_taking_0 ++ []
theorem dksX7_taking_0 : cX7_taking.data.toList.drop 0 = dktX7_taking_0 := by decide +kernel
theorem dX7_taking_0 : decode cX7_taking 0 = .ok (.iload_n 1, 1) := dk_27 (dk_at dksX7_taking_0 0 rfl rfl)
theorem dX7_taking_1 : decode cX7_taking 1 = .ok (.iload_n 2, 1) := dk_28 (dk_at dksX7_taking_0 1 rfl rfl)
theorem dX7_taking_2 : decode cX7_taking 2 = .ok (.imul, 1) := dk_104 (dk_at dksX7_taking_0 2 rfl rfl)
theorem dX7_taking_3 : decode cX7_taking 3 = .ok (.bipush 100, 2) := dk_16 100 (dk_at dksX7_taking_0 3 rfl rfl)
theorem dX7_taking_5 : decode cX7_taking 5 = .ok (.idiv, 1) := dk_108 (dk_at dksX7_taking_0 5 rfl rfl)
theorem dX7_taking_6 : decode cX7_taking 6 = .ok (.ireturn, 1) := dk_172 (dk_at dksX7_taking_0 6 rfl rfl)
abbrev cX7_leaving : ByteArray := prog_8_method_4_code
def yX7_leaving : MethodName := ⟨RX7, "leaving", "(II)I"⟩
theorem dX7_leaving_0 : decode cX7_leaving 0 = .ok (.iload_n 1, 1) := by decide +kernel
theorem dX7_leaving_1 : decode cX7_leaving 1 = .ok (.ireturn, 1) := by decide +kernel
abbrev cX7_rises : ByteArray := prog_8_method_5_code
def yX7_rises : MethodName := ⟨RX7, "rises", "(I)I"⟩
def dkwX7_rises_0 : List UInt8 := [42, 180, 0, 9, 16, 10, 182, 0, 22, 27, 42, 180, 0, 15, 96, 172]
abbrev dktX7_rises_0 : List UInt8 := dkwX7_rises_0 ++ []
theorem dksX7_rises_0 : cX7_rises.data.toList.drop 0 = dktX7_rises_0 := by decide +kernel
theorem dX7_rises_0 : decode cX7_rises 0 = .ok (.aload_n 0, 1) := dk_42 (dk_at dksX7_rises_0 0 rfl rfl)
theorem dX7_rises_1 : decode cX7_rises 1 = .ok (.getfield 9, 3) := dk_180 0 9 (dk_at dksX7_rises_0 1 rfl rfl)
theorem dX7_rises_4 : decode cX7_rises 4 = .ok (.bipush 10, 2) := dk_16 10 (dk_at dksX7_rises_0 4 rfl rfl)
theorem dX7_rises_6 : decode cX7_rises 6 = .ok (.invokevirtual 22, 3) := dk_182 0 22 (dk_at dksX7_rises_0 6 rfl rfl)
theorem dX7_rises_9 : decode cX7_rises 9 = .ok (.iload_n 1, 1) := dk_27 (dk_at dksX7_rises_0 9 rfl rfl)
theorem dX7_rises_10 : decode cX7_rises 10 = .ok (.aload_n 0, 1) := dk_42 (dk_at dksX7_rises_0 10 rfl rfl)
theorem dX7_rises_11 : decode cX7_rises 11 = .ok (.getfield 15, 3) := dk_180 0 15 (dk_at dksX7_rises_0 11 rfl rfl)
theorem dX7_rises_14 : decode cX7_rises 14 = .ok (.iadd, 1) := dk_96 (dk_at dksX7_rises_0 14 rfl rfl)
theorem dX7_rises_15 : decode cX7_rises 15 = .ok (.ireturn, 1) := dk_172 (dk_at dksX7_rises_0 15 rfl rfl)
abbrev cX7_bakes : ByteArray := prog_8_method_6_code
def yX7_bakes : MethodName := ⟨RX7, "bakes", "(I)I"⟩
def dkwX7_bakes_0 : List UInt8 := [42, 180, 0, 9, 16, 11, 182, 0, 22, 42, 27, 182, 0, 28, 42, 180, 0, 19, 100, 172]
abbrev dktX7_bakes_0 : List UInt8 := dkwX7_bakes_0 ++ []
theorem dksX7_bakes_0 : cX7_bakes.data.toList.drop 0 = dktX7_bakes_0 := by decide +kernel
theorem dX7_bakes_0 : decode cX7_bakes 0 = .ok (.aload_n 0, 1) := dk_42 (dk_at dksX7_bakes_0 0 rfl rfl)
theorem dX7_bakes_1 : decode cX7_bakes 1 = .ok (.getfield 9, 3) := dk_180 0 9 (dk_at dksX7_bakes_0 1 rfl rfl)
theorem dX7_bakes_4 : decode cX7_bakes 4 = .ok (.bipush 11, 2) := dk_16 11 (dk_at dksX7_bakes_0 4 rfl rfl)
theorem dX7_bakes_6 : decode cX7_bakes 6 = .ok (.invokevirtual 22, 3) := dk_182 0 22 (dk_at dksX7_bakes_0 6 rfl rfl)
theorem dX7_bakes_9 : decode cX7_bakes 9 = .ok (.aload_n 0, 1) := dk_42 (dk_at dksX7_bakes_0 9 rfl rfl)
theorem dX7_bakes_10 : decode cX7_bakes 10 = .ok (.iload_n 1, 1) := dk_27 (dk_at dksX7_bakes_0 10 rfl rfl)
theorem dX7_bakes_11 : decode cX7_bakes 11 = .ok (.invokevirtual 28, 3) := dk_182 0 28 (dk_at dksX7_bakes_0 11 rfl rfl)
theorem dX7_bakes_14 : decode cX7_bakes 14 = .ok (.aload_n 0, 1) := dk_42 (dk_at dksX7_bakes_0 14 rfl rfl)
theorem dX7_bakes_15 : decode cX7_bakes 15 = .ok (.getfield 19, 3) := dk_180 0 19 (dk_at dksX7_bakes_0 15 rfl rfl)
theorem dX7_bakes_18 : decode cX7_bakes 18 = .ok (.isub, 1) := dk_100 (dk_at dksX7_bakes_0 18 rfl rfl)
theorem dX7_bakes_19 : decode cX7_bakes 19 = .ok (.ireturn, 1) := dk_172 (dk_at dksX7_bakes_0 19 rfl rfl)
abbrev cX7_tells : ByteArray := prog_8_method_7_code
def yX7_tells : MethodName := ⟨RX7, "tells", "(I)I"⟩
def dkwX7_tells_0 : List UInt8 := [42, 180, 0, 9, 16, 12, 182, 0, 22, 42, 27, 182, 0, 32, 5, 104, 172]
abbrev dktX7_tells_0 : List UInt8 := dkwX7_tells_0 ++ []
theorem dksX7_tells_0 : cX7_tells.data.toList.drop 0 = dktX7_tells_0 := by decide +kernel
theorem dX7_tells_0 : decode cX7_tells 0 = .ok (.aload_n 0, 1) := dk_42 (dk_at dksX7_tells_0 0 rfl rfl)
theorem dX7_tells_1 : decode cX7_tells 1 = .ok (.getfield 9, 3) := dk_180 0 9 (dk_at dksX7_tells_0 1 rfl rfl)
theorem dX7_tells_4 : decode cX7_tells 4 = .ok (.bipush 12, 2) := dk_16 12 (dk_at dksX7_tells_0 4 rfl rfl)
theorem dX7_tells_6 : decode cX7_tells 6 = .ok (.invokevirtual 22, 3) := dk_182 0 22 (dk_at dksX7_tells_0 6 rfl rfl)
theorem dX7_tells_9 : decode cX7_tells 9 = .ok (.aload_n 0, 1) := dk_42 (dk_at dksX7_tells_0 9 rfl rfl)
theorem dX7_tells_10 : decode cX7_tells 10 = .ok (.iload_n 1, 1) := dk_27 (dk_at dksX7_tells_0 10 rfl rfl)
theorem dX7_tells_11 : decode cX7_tells 11 = .ok (.invokevirtual 32, 3) := dk_182 0 32 (dk_at dksX7_tells_0 11 rfl rfl)
theorem dX7_tells_14 : decode cX7_tells 14 = .ok (.iconst 2, 1) := dk_5 (dk_at dksX7_tells_0 14 rfl rfl)
theorem dX7_tells_15 : decode cX7_tells 15 = .ok (.imul, 1) := dk_104 (dk_at dksX7_tells_0 15 rfl rfl)
theorem dX7_tells_16 : decode cX7_tells 16 = .ok (.ireturn, 1) := dk_172 (dk_at dksX7_tells_0 16 rfl rfl)
abbrev cX8_kind : ByteArray := prog_4_method_2_code
def yX8_kind : MethodName := ⟨RX8, "kind", "()I"⟩
theorem dX8_kind_0 : decode cX8_kind 0 = .ok (.iconst 1, 1) := by decide +kernel
theorem dX8_kind_1 : decode cX8_kind 1 = .ok (.ireturn, 1) := by decide +kernel
abbrev cX8_taking : ByteArray := prog_4_method_3_code
def yX8_taking : MethodName := ⟨RX8, "taking", "(III)I"⟩
theorem dX8_taking_0 : decode cX8_taking 0 = .ok (.iload_n 1, 1) := by decide +kernel
theorem dX8_taking_1 : decode cX8_taking 1 = .ok (.ireturn, 1) := by decide +kernel
abbrev cX8_leaving : ByteArray := prog_4_method_4_code
def yX8_leaving : MethodName := ⟨RX8, "leaving", "(II)I"⟩
theorem dX8_leaving_0 : decode cX8_leaving 0 = .ok (.iconst 0, 1) := by decide +kernel
theorem dX8_leaving_1 : decode cX8_leaving 1 = .ok (.ireturn, 1) := by decide +kernel
abbrev cX8_bakes : ByteArray := prog_4_method_5_code
def yX8_bakes : MethodName := ⟨RX8, "bakes", "(I)I"⟩
def dkwX8_bakes_0 : List UInt8 := [42, 180, 0, 9, 16, 20, 182, 0, 15, 42, 27, 183, 0, 21, 16, 6, 130, 172]
abbrev dktX8_bakes_0 : List UInt8 := dkwX8_bakes_0 ++ []
theorem dksX8_bakes_0 : cX8_bakes.data.toList.drop 0 = dktX8_bakes_0 := by decide +kernel
theorem dX8_bakes_0 : decode cX8_bakes 0 = .ok (.aload_n 0, 1) := dk_42 (dk_at dksX8_bakes_0 0 rfl rfl)
theorem dX8_bakes_1 : decode cX8_bakes 1 = .ok (.getfield 9, 3) := dk_180 0 9 (dk_at dksX8_bakes_0 1 rfl rfl)
theorem dX8_bakes_4 : decode cX8_bakes 4 = .ok (.bipush 20, 2) := dk_16 20 (dk_at dksX8_bakes_0 4 rfl rfl)
theorem dX8_bakes_6 : decode cX8_bakes 6 = .ok (.invokevirtual 15, 3) := dk_182 0 15 (dk_at dksX8_bakes_0 6 rfl rfl)
theorem dX8_bakes_9 : decode cX8_bakes 9 = .ok (.aload_n 0, 1) := dk_42 (dk_at dksX8_bakes_0 9 rfl rfl)
theorem dX8_bakes_10 : decode cX8_bakes 10 = .ok (.iload_n 1, 1) := dk_27 (dk_at dksX8_bakes_0 10 rfl rfl)
theorem dX8_bakes_11 : decode cX8_bakes 11 = .ok (.invokespecial 21, 3) := dk_183 0 21 (dk_at dksX8_bakes_0 11 rfl rfl)
theorem dX8_bakes_14 : decode cX8_bakes 14 = .ok (.bipush 6, 2) := dk_16 6 (dk_at dksX8_bakes_0 14 rfl rfl)
theorem dX8_bakes_16 : decode cX8_bakes 16 = .ok (.ixor, 1) := dk_130 (dk_at dksX8_bakes_0 16 rfl rfl)
theorem dX8_bakes_17 : decode cX8_bakes 17 = .ok (.ireturn, 1) := dk_172 (dk_at dksX8_bakes_0 17 rfl rfl)
abbrev cX9_kind : ByteArray := prog_5_method_2_code
def yX9_kind : MethodName := ⟨RX9, "kind", "()I"⟩
theorem dX9_kind_0 : decode cX9_kind 0 = .ok (.iconst 2, 1) := by decide +kernel
theorem dX9_kind_1 : decode cX9_kind 1 = .ok (.ireturn, 1) := by decide +kernel
abbrev cX9_taking : ByteArray := prog_5_method_3_code
def yX9_taking : MethodName := ⟨RX9, "taking", "(III)I"⟩
def dkwX9_taking_0 : List UInt8 := [5, 42, 27, 28, 29, 183, 0, 9, 104, 172]
abbrev dktX9_taking_0 : List UInt8 := dkwX9_taking_0 ++ []
theorem dksX9_taking_0 : cX9_taking.data.toList.drop 0 = dktX9_taking_0 := by decide +kernel
theorem dX9_taking_0 : decode cX9_taking 0 = .ok (.iconst 2, 1) := dk_5 (dk_at dksX9_taking_0 0 rfl rfl)
theorem dX9_taking_1 : decode cX9_taking 1 = .ok (.aload_n 0, 1) := dk_42 (dk_at dksX9_taking_0 1 rfl rfl)
theorem dX9_taking_2 : decode cX9_taking 2 = .ok (.iload_n 1, 1) := dk_27 (dk_at dksX9_taking_0 2 rfl rfl)
theorem dX9_taking_3 : decode cX9_taking 3 = .ok (.iload_n 2, 1) := dk_28 (dk_at dksX9_taking_0 3 rfl rfl)
theorem dX9_taking_4 : decode cX9_taking 4 = .ok (.iload_n 3, 1) := dk_29 (dk_at dksX9_taking_0 4 rfl rfl)
theorem dX9_taking_5 : decode cX9_taking 5 = .ok (.invokespecial 9, 3) := dk_183 0 9 (dk_at dksX9_taking_0 5 rfl rfl)
theorem dX9_taking_8 : decode cX9_taking 8 = .ok (.imul, 1) := dk_104 (dk_at dksX9_taking_0 8 rfl rfl)
theorem dX9_taking_9 : decode cX9_taking 9 = .ok (.ireturn, 1) := dk_172 (dk_at dksX9_taking_0 9 rfl rfl)
abbrev cX9_rises : ByteArray := prog_5_method_4_code
def yX9_rises : MethodName := ⟨RX9, "rises", "(I)I"⟩
def dkwX9_rises_0 : List UInt8 := [42, 180, 0, 13, 16, 30, 182, 0, 19, 42, 27, 6, 104, 183, 0, 25, 172]
abbrev dktX9_rises_0 : List UInt8 := dkwX9_rises_0 ++ []
theorem dksX9_rises_0 : cX9_rises.data.toList.drop 0 = dktX9_rises_0 := by decide +kernel
theorem dX9_rises_0 : decode cX9_rises 0 = .ok (.aload_n 0, 1) := dk_42 (dk_at dksX9_rises_0 0 rfl rfl)
theorem dX9_rises_1 : decode cX9_rises 1 = .ok (.getfield 13, 3) := dk_180 0 13 (dk_at dksX9_rises_0 1 rfl rfl)
theorem dX9_rises_4 : decode cX9_rises 4 = .ok (.bipush 30, 2) := dk_16 30 (dk_at dksX9_rises_0 4 rfl rfl)
theorem dX9_rises_6 : decode cX9_rises 6 = .ok (.invokevirtual 19, 3) := dk_182 0 19 (dk_at dksX9_rises_0 6 rfl rfl)
theorem dX9_rises_9 : decode cX9_rises 9 = .ok (.aload_n 0, 1) := dk_42 (dk_at dksX9_rises_0 9 rfl rfl)
theorem dX9_rises_10 : decode cX9_rises 10 = .ok (.iload_n 1, 1) := dk_27 (dk_at dksX9_rises_0 10 rfl rfl)
theorem dX9_rises_11 : decode cX9_rises 11 = .ok (.iconst 3, 1) := dk_6 (dk_at dksX9_rises_0 11 rfl rfl)
theorem dX9_rises_12 : decode cX9_rises 12 = .ok (.imul, 1) := dk_104 (dk_at dksX9_rises_0 12 rfl rfl)
theorem dX9_rises_13 : decode cX9_rises 13 = .ok (.invokespecial 25, 3) := dk_183 0 25 (dk_at dksX9_rises_0 13 rfl rfl)
theorem dX9_rises_16 : decode cX9_rises 16 = .ok (.ireturn, 1) := dk_172 (dk_at dksX9_rises_0 16 rfl rfl)
abbrev cX10_kind : ByteArray := prog_6_method_2_code
def yX10_kind : MethodName := ⟨RX10, "kind", "()I"⟩
theorem dX10_kind_0 : decode cX10_kind 0 = .ok (.iconst 3, 1) := by decide +kernel
theorem dX10_kind_1 : decode cX10_kind 1 = .ok (.ireturn, 1) := by decide +kernel
abbrev cX10_taking : ByteArray := prog_6_method_3_code
def yX10_taking : MethodName := ⟨RX10, "taking", "(III)I"⟩
def dkwX10_taking_0 : List UInt8 := [29, 42, 27, 28, 29, 183, 0, 9, 184, 0, 13, 172]
abbrev dktX10_taking_0 : List UInt8 := dkwX10_taking_0 ++ []
theorem dksX10_taking_0 : cX10_taking.data.toList.drop 0 = dktX10_taking_0 := by decide +kernel
theorem dX10_taking_0 : decode cX10_taking 0 = .ok (.iload_n 3, 1) := dk_29 (dk_at dksX10_taking_0 0 rfl rfl)
theorem dX10_taking_1 : decode cX10_taking 1 = .ok (.aload_n 0, 1) := dk_42 (dk_at dksX10_taking_0 1 rfl rfl)
theorem dX10_taking_2 : decode cX10_taking 2 = .ok (.iload_n 1, 1) := dk_27 (dk_at dksX10_taking_0 2 rfl rfl)
theorem dX10_taking_3 : decode cX10_taking 3 = .ok (.iload_n 2, 1) := dk_28 (dk_at dksX10_taking_0 3 rfl rfl)
theorem dX10_taking_4 : decode cX10_taking 4 = .ok (.iload_n 3, 1) := dk_29 (dk_at dksX10_taking_0 4 rfl rfl)
theorem dX10_taking_5 : decode cX10_taking 5 = .ok (.invokespecial 9, 3) := dk_183 0 9 (dk_at dksX10_taking_0 5 rfl rfl)
theorem dX10_taking_8 : decode cX10_taking 8 = .ok (.invokestatic 13, 3) := dk_184 0 13 (dk_at dksX10_taking_0 8 rfl rfl)
theorem dX10_taking_11 : decode cX10_taking 11 = .ok (.ireturn, 1) := dk_172 (dk_at dksX10_taking_0 11 rfl rfl)
abbrev cX10_tells : ByteArray := prog_6_method_4_code
def yX10_tells : MethodName := ⟨RX10, "tells", "(I)I"⟩
def dkwX10_tells_0 : List UInt8 := [42, 180, 0, 19, 16, 40, 182, 0, 25, 42, 27, 183, 0, 31, 61, 28, 42, 4, 182, 0, 35, 96, 172]
abbrev dktX10_tells_0 : List UInt8 := dkwX10_tells_0 ++ []
theorem dksX10_tells_0 : cX10_tells.data.toList.drop 0 = dktX10_tells_0 := by decide +kernel
theorem dX10_tells_0 : decode cX10_tells 0 = .ok (.aload_n 0, 1) := dk_42 (dk_at dksX10_tells_0 0 rfl rfl)
theorem dX10_tells_1 : decode cX10_tells 1 = .ok (.getfield 19, 3) := dk_180 0 19 (dk_at dksX10_tells_0 1 rfl rfl)
theorem dX10_tells_4 : decode cX10_tells 4 = .ok (.bipush 40, 2) := dk_16 40 (dk_at dksX10_tells_0 4 rfl rfl)
theorem dX10_tells_6 : decode cX10_tells 6 = .ok (.invokevirtual 25, 3) := dk_182 0 25 (dk_at dksX10_tells_0 6 rfl rfl)
theorem dX10_tells_9 : decode cX10_tells 9 = .ok (.aload_n 0, 1) := dk_42 (dk_at dksX10_tells_0 9 rfl rfl)
theorem dX10_tells_10 : decode cX10_tells 10 = .ok (.iload_n 1, 1) := dk_27 (dk_at dksX10_tells_0 10 rfl rfl)
theorem dX10_tells_11 : decode cX10_tells 11 = .ok (.invokespecial 31, 3) := dk_183 0 31 (dk_at dksX10_tells_0 11 rfl rfl)
theorem dX10_tells_14 : decode cX10_tells 14 = .ok (.istore_n 2, 1) := dk_61 (dk_at dksX10_tells_0 14 rfl rfl)
theorem dX10_tells_15 : decode cX10_tells 15 = .ok (.iload_n 2, 1) := dk_28 (dk_at dksX10_tells_0 15 rfl rfl)
theorem dX10_tells_16 : decode cX10_tells 16 = .ok (.aload_n 0, 1) := dk_42 (dk_at dksX10_tells_0 16 rfl rfl)
theorem dX10_tells_17 : decode cX10_tells 17 = .ok (.iconst 1, 1) := dk_4 (dk_at dksX10_tells_0 17 rfl rfl)
theorem dX10_tells_18 : decode cX10_tells 18 = .ok (.invokevirtual 35, 3) := dk_182 0 35 (dk_at dksX10_tells_0 18 rfl rfl)
theorem dX10_tells_21 : decode cX10_tells 21 = .ok (.iadd, 1) := dk_96 (dk_at dksX10_tells_0 21 rfl rfl)
theorem dX10_tells_22 : decode cX10_tells 22 = .ok (.ireturn, 1) := dk_172 (dk_at dksX10_tells_0 22 rfl rfl)
abbrev cX11_kind : ByteArray := prog_14_method_2_code
def yX11_kind : MethodName := ⟨RX11, "kind", "()I"⟩
theorem dX11_kind_0 : decode cX11_kind 0 = .ok (.iconst 4, 1) := by decide +kernel
theorem dX11_kind_1 : decode cX11_kind 1 = .ok (.ireturn, 1) := by decide +kernel
abbrev cX11_taking : ByteArray := prog_14_method_3_code
def yX11_taking : MethodName := ⟨RX11, "taking", "(III)I"⟩
def dkwX11_taking_0 : List UInt8 := [42, 27, 28, 29, 183, 0, 9, 42, 180, 0, 13, 100, 172]
abbrev dktX11_taking_0 : List UInt8 := dkwX11_taking_0 ++ []
theorem dksX11_taking_0 : cX11_taking.data.toList.drop 0 = dktX11_taking_0 := by decide +kernel
theorem dX11_taking_0 : decode cX11_taking 0 = .ok (.aload_n 0, 1) := dk_42 (dk_at dksX11_taking_0 0 rfl rfl)
theorem dX11_taking_1 : decode cX11_taking 1 = .ok (.iload_n 1, 1) := dk_27 (dk_at dksX11_taking_0 1 rfl rfl)
theorem dX11_taking_2 : decode cX11_taking 2 = .ok (.iload_n 2, 1) := dk_28 (dk_at dksX11_taking_0 2 rfl rfl)
theorem dX11_taking_3 : decode cX11_taking 3 = .ok (.iload_n 3, 1) := dk_29 (dk_at dksX11_taking_0 3 rfl rfl)
theorem dX11_taking_4 : decode cX11_taking 4 = .ok (.invokespecial 9, 3) := dk_183 0 9 (dk_at dksX11_taking_0 4 rfl rfl)
theorem dX11_taking_7 : decode cX11_taking 7 = .ok (.aload_n 0, 1) := dk_42 (dk_at dksX11_taking_0 7 rfl rfl)
theorem dX11_taking_8 : decode cX11_taking 8 = .ok (.getfield 13, 3) := dk_180 0 13 (dk_at dksX11_taking_0 8 rfl rfl)
theorem dX11_taking_11 : decode cX11_taking 11 = .ok (.isub, 1) := dk_100 (dk_at dksX11_taking_0 11 rfl rfl)
theorem dX11_taking_12 : decode cX11_taking 12 = .ok (.ireturn, 1) := dk_172 (dk_at dksX11_taking_0 12 rfl rfl)
abbrev cX11_rises : ByteArray := prog_14_method_4_code
def yX11_rises : MethodName := ⟨RX11, "rises", "(I)I"⟩
def dkwX11_rises_0 : List UInt8 := [42, 180, 0, 19, 16, 50, 182, 0, 23, 42, 27, 183, 0, 29, 116, 172]
abbrev dktX11_rises_0 : List UInt8 := dkwX11_rises_0 ++ []
theorem dksX11_rises_0 : cX11_rises.data.toList.drop 0 = dktX11_rises_0 := by decide +kernel
theorem dX11_rises_0 : decode cX11_rises 0 = .ok (.aload_n 0, 1) := dk_42 (dk_at dksX11_rises_0 0 rfl rfl)
theorem dX11_rises_1 : decode cX11_rises 1 = .ok (.getfield 19, 3) := dk_180 0 19 (dk_at dksX11_rises_0 1 rfl rfl)
theorem dX11_rises_4 : decode cX11_rises 4 = .ok (.bipush 50, 2) := dk_16 50 (dk_at dksX11_rises_0 4 rfl rfl)
theorem dX11_rises_6 : decode cX11_rises 6 = .ok (.invokevirtual 23, 3) := dk_182 0 23 (dk_at dksX11_rises_0 6 rfl rfl)
theorem dX11_rises_9 : decode cX11_rises 9 = .ok (.aload_n 0, 1) := dk_42 (dk_at dksX11_rises_0 9 rfl rfl)
theorem dX11_rises_10 : decode cX11_rises 10 = .ok (.iload_n 1, 1) := dk_27 (dk_at dksX11_rises_0 10 rfl rfl)
theorem dX11_rises_11 : decode cX11_rises 11 = .ok (.invokespecial 29, 3) := dk_183 0 29 (dk_at dksX11_rises_0 11 rfl rfl)
theorem dX11_rises_14 : decode cX11_rises 14 = .ok (.ineg, 1) := dk_116 (dk_at dksX11_rises_0 14 rfl rfl)
theorem dX11_rises_15 : decode cX11_rises 15 = .ok (.ireturn, 1) := dk_172 (dk_at dksX11_rises_0 15 rfl rfl)
abbrev cX11_bakes : ByteArray := prog_14_method_5_code
def yX11_bakes : MethodName := ⟨RX11, "bakes", "(I)I"⟩
def dkwX11_bakes_0 : List UInt8 := [42, 180, 0, 19, 16, 51, 182, 0, 23, 42, 27, 4, 96, 183, 0, 33, 172]
abbrev dktX11_bakes_0 : List UInt8 := dkwX11_bakes_0 ++ []
theorem dksX11_bakes_0 : cX11_bakes.data.toList.drop 0 = dktX11_bakes_0 := by decide +kernel
theorem dX11_bakes_0 : decode cX11_bakes 0 = .ok (.aload_n 0, 1) := dk_42 (dk_at dksX11_bakes_0 0 rfl rfl)
theorem dX11_bakes_1 : decode cX11_bakes 1 = .ok (.getfield 19, 3) := dk_180 0 19 (dk_at dksX11_bakes_0 1 rfl rfl)
theorem dX11_bakes_4 : decode cX11_bakes 4 = .ok (.bipush 51, 2) := dk_16 51 (dk_at dksX11_bakes_0 4 rfl rfl)
theorem dX11_bakes_6 : decode cX11_bakes 6 = .ok (.invokevirtual 23, 3) := dk_182 0 23 (dk_at dksX11_bakes_0 6 rfl rfl)
theorem dX11_bakes_9 : decode cX11_bakes 9 = .ok (.aload_n 0, 1) := dk_42 (dk_at dksX11_bakes_0 9 rfl rfl)
theorem dX11_bakes_10 : decode cX11_bakes 10 = .ok (.iload_n 1, 1) := dk_27 (dk_at dksX11_bakes_0 10 rfl rfl)
theorem dX11_bakes_11 : decode cX11_bakes 11 = .ok (.iconst 1, 1) := dk_4 (dk_at dksX11_bakes_0 11 rfl rfl)
theorem dX11_bakes_12 : decode cX11_bakes 12 = .ok (.iadd, 1) := dk_96 (dk_at dksX11_bakes_0 12 rfl rfl)
theorem dX11_bakes_13 : decode cX11_bakes 13 = .ok (.invokespecial 33, 3) := dk_183 0 33 (dk_at dksX11_bakes_0 13 rfl rfl)
theorem dX11_bakes_16 : decode cX11_bakes 16 = .ok (.ireturn, 1) := dk_172 (dk_at dksX11_bakes_0 16 rfl rfl)
abbrev cX12_kind : ByteArray := prog_12_method_2_code
def yX12_kind : MethodName := ⟨RX12, "kind", "()I"⟩
theorem dX12_kind_0 : decode cX12_kind 0 = .ok (.iconst 5, 1) := by decide +kernel
theorem dX12_kind_1 : decode cX12_kind 1 = .ok (.ireturn, 1) := by decide +kernel
abbrev cX12_leaving : ByteArray := prog_12_method_3_code
def yX12_leaving : MethodName := ⟨RX12, "leaving", "(II)I"⟩
def dkwX12_leaving_0 : List UInt8 := [42, 27, 28, 183, 0, 9, 28, 154, 0, 10, 42, 180, 0, 13, 167, 0, 4, 3, 96, 172]
abbrev dktX12_leaving_0 : List UInt8 := dkwX12_leaving_0 ++ []
theorem dksX12_leaving_0 : cX12_leaving.data.toList.drop 0 = dktX12_leaving_0 := by decide +kernel
theorem dX12_leaving_0 : decode cX12_leaving 0 = .ok (.aload_n 0, 1) := dk_42 (dk_at dksX12_leaving_0 0 rfl rfl)
theorem dX12_leaving_1 : decode cX12_leaving 1 = .ok (.iload_n 1, 1) := dk_27 (dk_at dksX12_leaving_0 1 rfl rfl)
theorem dX12_leaving_2 : decode cX12_leaving 2 = .ok (.iload_n 2, 1) := dk_28 (dk_at dksX12_leaving_0 2 rfl rfl)
theorem dX12_leaving_3 : decode cX12_leaving 3 = .ok (.invokespecial 9, 3) := dk_183 0 9 (dk_at dksX12_leaving_0 3 rfl rfl)
theorem dX12_leaving_6 : decode cX12_leaving 6 = .ok (.iload_n 2, 1) := dk_28 (dk_at dksX12_leaving_0 6 rfl rfl)
theorem dX12_leaving_7 : decode cX12_leaving 7 = .ok (.ifCond .ne 10, 3) := dk_154 0 10 (dk_at dksX12_leaving_0 7 rfl rfl)
theorem dX12_leaving_10 : decode cX12_leaving 10 = .ok (.aload_n 0, 1) := dk_42 (dk_at dksX12_leaving_0 10 rfl rfl)
theorem dX12_leaving_11 : decode cX12_leaving 11 = .ok (.getfield 13, 3) := dk_180 0 13 (dk_at dksX12_leaving_0 11 rfl rfl)
theorem dX12_leaving_14 : decode cX12_leaving 14 = .ok (.goto 4, 3) := dk_167 0 4 (dk_at dksX12_leaving_0 14 rfl rfl)
theorem dX12_leaving_17 : decode cX12_leaving 17 = .ok (.iconst 0, 1) := dk_3 (dk_at dksX12_leaving_0 17 rfl rfl)
theorem dX12_leaving_18 : decode cX12_leaving 18 = .ok (.iadd, 1) := dk_96 (dk_at dksX12_leaving_0 18 rfl rfl)
theorem dX12_leaving_19 : decode cX12_leaving 19 = .ok (.ireturn, 1) := dk_172 (dk_at dksX12_leaving_0 19 rfl rfl)
abbrev cX12_tells : ByteArray := prog_12_method_4_code
def yX12_tells : MethodName := ⟨RX12, "tells", "(I)I"⟩
def dkwX12_tells_0 : List UInt8 := [42, 180, 0, 19, 16, 60, 182, 0, 23, 42, 27, 42, 180, 0, 29, 100, 183, 0, 32, 172]
abbrev dktX12_tells_0 : List UInt8 := dkwX12_tells_0 ++ []
theorem dksX12_tells_0 : cX12_tells.data.toList.drop 0 = dktX12_tells_0 := by decide +kernel
theorem dX12_tells_0 : decode cX12_tells 0 = .ok (.aload_n 0, 1) := dk_42 (dk_at dksX12_tells_0 0 rfl rfl)
theorem dX12_tells_1 : decode cX12_tells 1 = .ok (.getfield 19, 3) := dk_180 0 19 (dk_at dksX12_tells_0 1 rfl rfl)
theorem dX12_tells_4 : decode cX12_tells 4 = .ok (.bipush 60, 2) := dk_16 60 (dk_at dksX12_tells_0 4 rfl rfl)
theorem dX12_tells_6 : decode cX12_tells 6 = .ok (.invokevirtual 23, 3) := dk_182 0 23 (dk_at dksX12_tells_0 6 rfl rfl)
theorem dX12_tells_9 : decode cX12_tells 9 = .ok (.aload_n 0, 1) := dk_42 (dk_at dksX12_tells_0 9 rfl rfl)
theorem dX12_tells_10 : decode cX12_tells 10 = .ok (.iload_n 1, 1) := dk_27 (dk_at dksX12_tells_0 10 rfl rfl)
theorem dX12_tells_11 : decode cX12_tells 11 = .ok (.aload_n 0, 1) := dk_42 (dk_at dksX12_tells_0 11 rfl rfl)
theorem dX12_tells_12 : decode cX12_tells 12 = .ok (.getfield 29, 3) := dk_180 0 29 (dk_at dksX12_tells_0 12 rfl rfl)
theorem dX12_tells_15 : decode cX12_tells 15 = .ok (.isub, 1) := dk_100 (dk_at dksX12_tells_0 15 rfl rfl)
theorem dX12_tells_16 : decode cX12_tells 16 = .ok (.invokespecial 32, 3) := dk_183 0 32 (dk_at dksX12_tells_0 16 rfl rfl)
theorem dX12_tells_19 : decode cX12_tells 19 = .ok (.ireturn, 1) := dk_172 (dk_at dksX12_tells_0 19 rfl rfl)
abbrev cX13_kind : ByteArray := prog_15_method_2_code
def yX13_kind : MethodName := ⟨RX13, "kind", "()I"⟩
theorem dX13_kind_0 : decode cX13_kind 0 = .ok (.bipush 6, 2) := by decide +kernel
theorem dX13_kind_2 : decode cX13_kind 2 = .ok (.ireturn, 1) := by decide +kernel
abbrev cX13_taking : ByteArray := prog_15_method_3_code
def yX13_taking : MethodName := ⟨RX13, "taking", "(III)I"⟩
def dkwX13_taking_0 : List UInt8 := [42, 27, 28, 29, 183, 0, 9, 5, 108, 172]
abbrev dktX13_taking_0 : List UInt8 := dkwX13_taking_0 ++ []
theorem dksX13_taking_0 : cX13_taking.data.toList.drop 0 = dktX13_taking_0 := by decide +kernel
theorem dX13_taking_0 : decode cX13_taking 0 = .ok (.aload_n 0, 1) := dk_42 (dk_at dksX13_taking_0 0 rfl rfl)
theorem dX13_taking_1 : decode cX13_taking 1 = .ok (.iload_n 1, 1) := dk_27 (dk_at dksX13_taking_0 1 rfl rfl)
theorem dX13_taking_2 : decode cX13_taking 2 = .ok (.iload_n 2, 1) := dk_28 (dk_at dksX13_taking_0 2 rfl rfl)
theorem dX13_taking_3 : decode cX13_taking 3 = .ok (.iload_n 3, 1) := dk_29 (dk_at dksX13_taking_0 3 rfl rfl)
theorem dX13_taking_4 : decode cX13_taking 4 = .ok (.invokespecial 9, 3) := dk_183 0 9 (dk_at dksX13_taking_0 4 rfl rfl)
theorem dX13_taking_7 : decode cX13_taking 7 = .ok (.iconst 2, 1) := dk_5 (dk_at dksX13_taking_0 7 rfl rfl)
theorem dX13_taking_8 : decode cX13_taking 8 = .ok (.idiv, 1) := dk_108 (dk_at dksX13_taking_0 8 rfl rfl)
theorem dX13_taking_9 : decode cX13_taking 9 = .ok (.ireturn, 1) := dk_172 (dk_at dksX13_taking_0 9 rfl rfl)
abbrev cX13_leaving : ByteArray := prog_15_method_4_code
def yX13_leaving : MethodName := ⟨RX13, "leaving", "(II)I"⟩
def dkwX13_leaving_0 : List UInt8 := [42, 27, 28, 183, 0, 13, 5, 108, 172]
abbrev dktX13_leaving_0 : List UInt8 := dkwX13_leaving_0 ++ []
theorem dksX13_leaving_0 : cX13_leaving.data.toList.drop 0 = dktX13_leaving_0 := by decide +kernel
theorem dX13_leaving_0 : decode cX13_leaving 0 = .ok (.aload_n 0, 1) := dk_42 (dk_at dksX13_leaving_0 0 rfl rfl)
theorem dX13_leaving_1 : decode cX13_leaving 1 = .ok (.iload_n 1, 1) := dk_27 (dk_at dksX13_leaving_0 1 rfl rfl)
theorem dX13_leaving_2 : decode cX13_leaving 2 = .ok (.iload_n 2, 1) := dk_28 (dk_at dksX13_leaving_0 2 rfl rfl)
theorem dX13_leaving_3 : decode cX13_leaving 3 = .ok (.invokespecial 13, 3) := dk_183 0 13 (dk_at dksX13_leaving_0 3 rfl rfl)
theorem dX13_leaving_6 : decode cX13_leaving 6 = .ok (.iconst 2, 1) := dk_5 (dk_at dksX13_leaving_0 6 rfl rfl)
theorem dX13_leaving_7 : decode cX13_leaving 7 = .ok (.idiv, 1) := dk_108 (dk_at dksX13_leaving_0 7 rfl rfl)
theorem dX13_leaving_8 : decode cX13_leaving 8 = .ok (.ireturn, 1) := dk_172 (dk_at dksX13_leaving_0 8 rfl rfl)
abbrev cX13_bakes : ByteArray := prog_15_method_5_code
def yX13_bakes : MethodName := ⟨RX13, "bakes", "(I)I"⟩
def dkwX13_bakes_0 : List UInt8 := [42, 180, 0, 17, 16, 70, 182, 0, 23, 42, 27, 183, 0, 29, 61, 28, 42, 5, 183, 0, 33, 96, 172]
abbrev dktX13_bakes_0 : List UInt8 := dkwX13_bakes_0 ++ []
theorem dksX13_bakes_0 : cX13_bakes.data.toList.drop 0 = dktX13_bakes_0 := by decide +kernel
theorem dX13_bakes_0 : decode cX13_bakes 0 = .ok (.aload_n 0, 1) := dk_42 (dk_at dksX13_bakes_0 0 rfl rfl)
theorem dX13_bakes_1 : decode cX13_bakes 1 = .ok (.getfield 17, 3) := dk_180 0 17 (dk_at dksX13_bakes_0 1 rfl rfl)
theorem dX13_bakes_4 : decode cX13_bakes 4 = .ok (.bipush 70, 2) := dk_16 70 (dk_at dksX13_bakes_0 4 rfl rfl)
theorem dX13_bakes_6 : decode cX13_bakes 6 = .ok (.invokevirtual 23, 3) := dk_182 0 23 (dk_at dksX13_bakes_0 6 rfl rfl)
theorem dX13_bakes_9 : decode cX13_bakes 9 = .ok (.aload_n 0, 1) := dk_42 (dk_at dksX13_bakes_0 9 rfl rfl)
theorem dX13_bakes_10 : decode cX13_bakes 10 = .ok (.iload_n 1, 1) := dk_27 (dk_at dksX13_bakes_0 10 rfl rfl)
theorem dX13_bakes_11 : decode cX13_bakes 11 = .ok (.invokespecial 29, 3) := dk_183 0 29 (dk_at dksX13_bakes_0 11 rfl rfl)
theorem dX13_bakes_14 : decode cX13_bakes 14 = .ok (.istore_n 2, 1) := dk_61 (dk_at dksX13_bakes_0 14 rfl rfl)
theorem dX13_bakes_15 : decode cX13_bakes 15 = .ok (.iload_n 2, 1) := dk_28 (dk_at dksX13_bakes_0 15 rfl rfl)
theorem dX13_bakes_16 : decode cX13_bakes 16 = .ok (.aload_n 0, 1) := dk_42 (dk_at dksX13_bakes_0 16 rfl rfl)
theorem dX13_bakes_17 : decode cX13_bakes 17 = .ok (.iconst 2, 1) := dk_5 (dk_at dksX13_bakes_0 17 rfl rfl)
theorem dX13_bakes_18 : decode cX13_bakes 18 = .ok (.invokespecial 33, 3) := dk_183 0 33 (dk_at dksX13_bakes_0 18 rfl rfl)
theorem dX13_bakes_21 : decode cX13_bakes 21 = .ok (.iadd, 1) := dk_96 (dk_at dksX13_bakes_0 21 rfl rfl)
theorem dX13_bakes_22 : decode cX13_bakes 22 = .ok (.ireturn, 1) := dk_172 (dk_at dksX13_bakes_0 22 rfl rfl)
abbrev cX13_rises : ByteArray := prog_15_method_6_code
def yX13_rises : MethodName := ⟨RX13, "rises", "(I)I"⟩
def dkwX13_rises_0 : List UInt8 := [42, 180, 0, 17, 16, 71, 182, 0, 23, 42, 27, 183, 0, 33, 42, 180, 0, 36, 130, 172]
abbrev dktX13_rises_0 : List UInt8 := dkwX13_rises_0 ++ []
theorem dksX13_rises_0 : cX13_rises.data.toList.drop 0 = dktX13_rises_0 := by decide +kernel
theorem dX13_rises_0 : decode cX13_rises 0 = .ok (.aload_n 0, 1) := dk_42 (dk_at dksX13_rises_0 0 rfl rfl)
theorem dX13_rises_1 : decode cX13_rises 1 = .ok (.getfield 17, 3) := dk_180 0 17 (dk_at dksX13_rises_0 1 rfl rfl)
theorem dX13_rises_4 : decode cX13_rises 4 = .ok (.bipush 71, 2) := dk_16 71 (dk_at dksX13_rises_0 4 rfl rfl)
theorem dX13_rises_6 : decode cX13_rises 6 = .ok (.invokevirtual 23, 3) := dk_182 0 23 (dk_at dksX13_rises_0 6 rfl rfl)
theorem dX13_rises_9 : decode cX13_rises 9 = .ok (.aload_n 0, 1) := dk_42 (dk_at dksX13_rises_0 9 rfl rfl)
theorem dX13_rises_10 : decode cX13_rises 10 = .ok (.iload_n 1, 1) := dk_27 (dk_at dksX13_rises_0 10 rfl rfl)
theorem dX13_rises_11 : decode cX13_rises 11 = .ok (.invokespecial 33, 3) := dk_183 0 33 (dk_at dksX13_rises_0 11 rfl rfl)
theorem dX13_rises_14 : decode cX13_rises 14 = .ok (.aload_n 0, 1) := dk_42 (dk_at dksX13_rises_0 14 rfl rfl)
theorem dX13_rises_15 : decode cX13_rises 15 = .ok (.getfield 36, 3) := dk_180 0 36 (dk_at dksX13_rises_0 15 rfl rfl)
theorem dX13_rises_18 : decode cX13_rises 18 = .ok (.ixor, 1) := dk_130 (dk_at dksX13_rises_0 18 rfl rfl)
theorem dX13_rises_19 : decode cX13_rises 19 = .ok (.ireturn, 1) := dk_172 (dk_at dksX13_rises_0 19 rfl rfl)
theorem of_of : xV yX3_of RX3 cX3_of 2 (some .int) 1 := ⟨q550, q551, q93, q552, ⟨rfl, by decide +kernel, by decide +kernel, by decide +kernel⟩, by decide⟩
theorem of_ran : xV yX4_ran RX4 cX4_ran 2 none 1 := ⟨q1233, q1234, q94, q1235, ⟨rfl, by decide +kernel, by decide +kernel, by decide +kernel⟩, by decide⟩
def ow_ran_J19 (T : xT) (q : Nat → Nat) (k : CS → Prop) (s : CS) : Prop := k ((cA s 26 1 ((s.1.1 26 1) + 1)))
def ow_ran (T : xT) (q : Nat → Nat) (s : CS) (x1 : Int32) (k : CS → Prop) : Prop := (20 ≤ (s.1.1 26 1) → ow_ran_J19 T q k s) ∧ (¬ 20 ≤ (s.1.1 26 1) → vp_in (s.1.1 26 1) 20 ∧ ow_ran_J19 T q k ((cA s 27 ((s.1.1 26 1) : Int32).toNatClampNeg x1)))
set_option maxHeartbeats 4000000 in
theorem ok_ran (l : Launch) (D : va_G) (T : xT) (q : Nat → Nat) (s : CS) (x1 : Int32) (k : CS → Prop) (h : ow_ran T q s x1 k) : XM l D T yX4_ran cX4_ran 2 none 1 0 0 [.ref (q 26), .int x1] (cw T q s) (cpostV T q k) := by
  refine XM.start (by decide +kernel) (Nat.le_of_ble_eq_true rfl) (fun Γ G X _ hl_ => ?_)
  subst hl_
  have hJ19 : ∀ (s : CS), ow_ran_J19 T q k s → K D Γ 0 0 19 [(0, .ref (q 26))] [] (cw T q s) := by
    intro s h
    unfold ow_ran_J19 at h
    refine k_aload_n G dX4_ran_19 rfl ?_
    refine k_dup G dX4_ran_20 rfl ?_
    refine kc_count G (Or.inl q249) dX4_ran_21 ?_
    refine k_iconst G dX4_ran_24 kc_i_1 ?_
    refine k_iadd G dX4_ran_25 ?_
    refine kc_putCount G (Or.inl q249) dX4_ran_26 ?_
    exact k_vret G X dX4_ran_29 (Nat.le_of_ble_eq_true rfl) (Nat.le_of_ble_eq_true rfl) ⟨_, rfl, rfl, h⟩
  refine K.less [0, 1] (lv' := [(0, .ref (q 26)), (1, .int x1)]) rfl ?_
  unfold ow_ran at h
  refine k_aload_n G dX4_ran_0 rfl ?_
  refine kc_count G (Or.inl q249) dX4_ran_1 ?_
  refine k_bipush G dX4_ran_4 kc_b_20 ?_
  obtain ⟨hA, hB⟩ := h
  refine k_icmp_ge G 19 dX4_ran_6 (by decide) (fun c6 => ?_) (fun c6 => ?_)
  · have h := hA c6
    clear hA hB
    refine K.less [0] rfl ?_
    exact hJ19 _ h
  · have h := hB c6
    clear hA hB
    refine k_aload_n G dX4_ran_9 rfl ?_
    refine kc_bodies G (Or.inl q247) dX4_ran_10 ?_
    refine k_aload_n G dX4_ran_13 rfl ?_
    refine kc_count G (Or.inl q249) dX4_ran_14 ?_
    refine k_iload_n G dX4_ran_17 rfl ?_
    obtain ⟨h1, h⟩ := h
    refine kc_iast G cI_27 dX4_ran_18 h1 ?_
    refine K.less [0] rfl ?_
    exact hJ19 _ h
theorem x_samef {s : State} {args : Array Value} {c o n d : String} (h : (Cond.sameField c o n d).before args s = true) : ∀ x, s.fieldFound? o n d = some x → s.fieldFound? c n d = some x := by
  intro x hx
  cases hi : s.fieldFound? c n d with
  | none => simp [Cond.before, Cond.holds, Cond.value, hi] at h
  | some y =>
    obtain ⟨cf, k, i, f⟩ := y
    have h1 := Cond.sameField_spec hi h
    rw [hx] at h1
    exact h1.symm
section KLX
variable {D : va_G} {T : xT} {Γ : xE} {cc : ByteArray} {own : String} {nL lev mc ms : Nat} {ret : Option FieldType} {cells slots pc : Nat} {lv : List (Nat × Value)} {st : List Value} {q : Nat → Nat} {ω : CS}
theorem kc_ran (G : xG D T Γ cc own nL ret lev mc ms) {idx : Nat} {x : Int32} {k : CS → Prop} (hM : XM Γ.1.2.1 D T yX4_ran cX4_ran 2 none 1 0 0 [.ref (q 26), .int x] (cw T q ω) (cpostV T q k)) (hlink : Cond.methodLink own idx yX4_ran ∈ lw_all) (d : decode cc pc = .ok (.invokevirtual idx, 3)) (hcat : (st.map fun v => v.category).sum ≤ 8) (hlev : 3 ≤ lev) (hroom : cells ≤ mc ∧ slots ≤ ms) (kk : ∀ ω1 : CS, k ω1 → K D Γ cells slots (pc + 3) lv st (cw T q ω1)) : K D Γ cells slots pc lv (.int x :: .ref (q 26) :: st) (cw T q ω) :=
  k_callVw G (As := [.int x]) (rest := st) (C := RX4) hM of_ran hlink rfl rfl hcat (by omega) hroom ⟨26, 4, _, TX4, 2, cw_at (p := 26) rfl, rfl⟩ d (fun v w hp => by
    obtain ⟨ω1, rfl, rfl, h⟩ := hp
    exact kk ω1 h)
/-- a field of a loaf: the trace, its number, its v -/
theorem kl_pos {a kd : Nat} {n v : Int32} (h : lofR q ω a kd n v) : ∃ p : Nat, (cw T q ω)[p]? = some (a, .inr (7 + kd, [.ref (q 26), .int n, .int v])) := by
  obtain ⟨p, hp⟩ := cw_pos (T := T) (q := q) h.2.1
  rw [h.2.2] at hp
  exact ⟨p, hp⟩
theorem kl_getk (G : xG D T Γ cc own nL ret lev mc ms) {idx a kd k : Nat} {n v : Int32} {ref nm ds : String} {val : Value} (h : lofR q ω a kd n v) (hk : (k = 0 ∧ nm = "trace" ∧ ds = "LBakedBefore$Trace;") ∨ (k = 1 ∧ nm = "number" ∧ ds = "I") ∨ (k = 2 ∧ nm = "v" ∧ ds = "I")) (hlink : Cond.fieldLink own idx ref nm ds ∈ lw_all) (hsame : ∀ x, Γ.2.1.1.fieldFound? "BakedBefore$Loaf" nm ds = some x → Γ.2.1.1.fieldFound? ref nm ds = some x) (d : decode cc pc = .ok (.getfield idx, 3)) (hv : ([.ref (q 26), .int n, .int v] : List Value)[k]? = some val) (kk : K D Γ cells slots (pc + 3) lv (val :: st) (cw T q ω)) : K D Γ cells slots pc lv (.ref a :: st) (cw T q ω) := by
  obtain ⟨p, hp⟩ := kl_pos (T := T) h
  have hkd := h.1
  have key : ∀ (ci : Nat) (C : String) (TT : u_T) (ty : Nat → FieldType), xCI ci C TT 3 ty → (cw T q ω)[p]? = some (a, .inr (ci, [.ref (q 26), .int n, .int v])) → (TT 0 = ("BakedBefore$Loaf", "trace", "LBakedBefore$Trace;", true) ∧ TT 1 = ("BakedBefore$Loaf", "number", "I", true) ∧ TT 2 = ("BakedBefore$Loaf", "v", "I", true)) → K D Γ cells slots pc lv (.ref a :: st) (cw T q ω) := by
    intro ci C TT ty c hp ⟨e0, e1, e2⟩
    rcases hk with ⟨rfl, rfl, rfl⟩ | ⟨rfl, rfl, rfl⟩ | ⟨rfl, rfl, rfl⟩
    · exact k_get G c hp (by decide) (Or.inl (by rw [e0]; exact hlink)) (by rw [e0]; exact hsame) hv d kk
    · exact k_get G c hp (by decide) (Or.inl (by rw [e1]; exact hlink)) (by rw [e1]; exact hsame) hv d kk
    · exact k_get G c hp (by decide) (Or.inl (by rw [e2]; exact hlink)) (by rw [e2]; exact hsame) hv d kk
  match kd, hkd, hp with
  | 0, _, hp => exact key 7 _ _ _ ci_X7 hp ⟨rfl, rfl, rfl⟩
  | 1, _, hp => exact key 8 _ _ _ ci_X8 hp ⟨rfl, rfl, rfl⟩
  | 2, _, hp => exact key 9 _ _ _ ci_X9 hp ⟨rfl, rfl, rfl⟩
  | 3, _, hp => exact key 10 _ _ _ ci_X10 hp ⟨rfl, rfl, rfl⟩
  | 4, _, hp => exact key 11 _ _ _ ci_X11 hp ⟨rfl, rfl, rfl⟩
  | 5, _, hp => exact key 12 _ _ _ ci_X12 hp ⟨rfl, rfl, rfl⟩
  | 6, _, hp => exact key 13 _ _ _ ci_X13 hp ⟨rfl, rfl, rfl⟩
theorem kl_get0 (G : xG D T Γ cc own nL ret lev mc ms) {idx a kd : Nat} {n v : Int32} {ref : String} (h : lofR q ω a kd n v) (hlink : Cond.fieldLink own idx ref "trace" "LBakedBefore$Trace;" ∈ lw_all) (hsame : ∀ x, Γ.2.1.1.fieldFound? "BakedBefore$Loaf" "trace" "LBakedBefore$Trace;" = some x → Γ.2.1.1.fieldFound? ref "trace" "LBakedBefore$Trace;" = some x) (d : decode cc pc = .ok (.getfield idx, 3)) (kk : K D Γ cells slots (pc + 3) lv (.ref (q 26) :: st) (cw T q ω)) : K D Γ cells slots pc lv (.ref a :: st) (cw T q ω) := kl_getk G (k := 0) h (Or.inl ⟨rfl, rfl, rfl⟩) hlink hsame d rfl kk
theorem kl_get1 (G : xG D T Γ cc own nL ret lev mc ms) {idx a kd : Nat} {n v : Int32} {ref : String} (h : lofR q ω a kd n v) (hlink : Cond.fieldLink own idx ref "number" "I" ∈ lw_all) (hsame : ∀ x, Γ.2.1.1.fieldFound? "BakedBefore$Loaf" "number" "I" = some x → Γ.2.1.1.fieldFound? ref "number" "I" = some x) (d : decode cc pc = .ok (.getfield idx, 3)) (kk : K D Γ cells slots (pc + 3) lv (.int n :: st) (cw T q ω)) : K D Γ cells slots pc lv (.ref a :: st) (cw T q ω) := kl_getk G (k := 1) h (Or.inr (Or.inl ⟨rfl, rfl, rfl⟩)) hlink hsame d rfl kk
theorem kl_get2 (G : xG D T Γ cc own nL ret lev mc ms) {idx a kd : Nat} {n v : Int32} {ref : String} (h : lofR q ω a kd n v) (hlink : Cond.fieldLink own idx ref "v" "I" ∈ lw_all) (hsame : ∀ x, Γ.2.1.1.fieldFound? "BakedBefore$Loaf" "v" "I" = some x → Γ.2.1.1.fieldFound? ref "v" "I" = some x) (d : decode cc pc = .ok (.getfield idx, 3)) (kk : K D Γ cells slots (pc + 3) lv (.int v :: st) (cw T q ω)) : K D Γ cells slots pc lv (.ref a :: st) (cw T q ω) := kl_getk G (k := 2) h (Or.inr (Or.inr ⟨rfl, rfl, rfl⟩)) hlink hsame d rfl kk
theorem kl_v (G : xG D T Γ cc own nL ret lev mc ms) {idx a kd : Nat} {n v : Int32} (h : lofR q ω a kd n v) (hlink : Cond.fieldLink own idx "BakedBefore$Loaf" "v" "I" ∈ lw_all) (d : decode cc pc = .ok (.getfield idx, 3)) (kk : K D Γ cells slots (pc + 3) lv (.int v :: st) (cw T q ω)) : K D Γ cells slots pc lv (.ref a :: st) (cw T q ω) := kl_get2 G h hlink (fun _ h => h) d kk
theorem kl_callU (G : xG D T Γ cc own nL ret lev mc ms) {a kd : Nat} {n v : Int32} (hl : lofR q ω a kd n v) {x y : MethodName} {code' : ByteArray} {nL' lev' m idx : Nat} {As rest : List Value} {k : Int32 → CS → Prop} (hM : XM Γ.1.2.1 D T y code' nL' (some .int) lev' 0 0 (.ref a :: As) (cw T q ω) (cpostI T q k)) {owner C : String} {TT : u_T} (hc : xcl[7 + kd]? = some (C, TT, 3)) (f : xU x owner C y code' nL' (some .int) m) (hlink : Cond.methodLink own idx x ∈ lw_all) (d : decode cc pc = .ok (.invokevirtual idx, 3)) (hn : As.length = m) (hst : st = As.reverse ++ .ref a :: rest) (hcat : (rest.map fun v => v.category).sum ≤ 8) (hlev : lev' + 1 ≤ lev) (hroom : cells ≤ mc ∧ slots ≤ ms)
    (kk : ∀ (r : Int32) (ω1 : CS), k r ω1 → K D Γ cells slots (pc + 3) lv (.int r :: rest) (cw T q ω1)) : K D Γ cells slots pc lv st (cw T q ω) := by
  obtain ⟨p, hp⟩ := kl_pos (T := T) hl
  exact k_callU G hM f hlink d hn hst hcat hlev hroom ⟨p, _, _, TT, 3, hp, hc⟩ (fun v w hp => by
    obtain ⟨r, ω1, rfl, rfl, h⟩ := hp
    exact kk r ω1 h)
theorem kl_callSU (G : xG D T Γ cc own nL ret lev mc ms) {a kd : Nat} {n v : Int32} (hl : lofR q ω a kd n v) {x : MethodName} {code' : ByteArray} {nL' lev' m idx : Nat} {As rest : List Value} {k : Int32 → CS → Prop} {owner : String} (hM : XM Γ.1.2.1 D T ⟨owner, x.name, x.desc⟩ code' nL' (some .int) lev' 0 0 (.ref a :: As) (cw T q ω) (cpostI T q k)) (f : xSU own x owner code' nL' (some .int) m) (hlink : Cond.methodLink own idx x ∈ lw_all) (d : decode cc pc = .ok (.invokespecial idx, 3)) (hn : As.length = m) (hst : st = As.reverse ++ .ref a :: rest) (hcat : (rest.map fun v => v.category).sum ≤ 8) (hlev : lev' + 1 ≤ lev) (hroom : cells ≤ mc ∧ slots ≤ ms)
    (kk : ∀ (r : Int32) (ω1 : CS), k r ω1 → K D Γ cells slots (pc + 3) lv (.int r :: rest) (cw T q ω1)) : K D Γ cells slots pc lv st (cw T q ω) := by
  obtain ⟨p, hp⟩ := kl_pos (T := T) hl
  have hc : ∃ (C : String) (TT : u_T) (N : Nat), xcl[7 + kd]? = some (C, TT, N) := by
    match kd, hl.1 with
    | 0, _ => exact ⟨_, _, _, rfl⟩
    | 1, _ => exact ⟨_, _, _, rfl⟩
    | 2, _ => exact ⟨_, _, _, rfl⟩
    | 3, _ => exact ⟨_, _, _, rfl⟩
    | 4, _ => exact ⟨_, _, _, rfl⟩
    | 5, _ => exact ⟨_, _, _, rfl⟩
    | 6, _ => exact ⟨_, _, _, rfl⟩
  obtain ⟨C, TT, N, hc⟩ := hc
  exact k_callSU G hM f hlink d hn hst hcat hlev hroom ⟨p, _, _, TT, N, hp, hc⟩ (fun v w hp => by
    obtain ⟨r, ω1, rfl, rfl, h⟩ := hp
    exact kk r ω1 h)
end KLX

def ow_of (T : xT) (q : Nat → Nat) (s : CS) (x1 : Int32) (k : Int32 → CS → Prop) : Prop := (x1 = 104 → k ((s.1.1 25 4)) s) ∧ (x1 = 107 → k ((s.1.1 25 1)) s) ∧ (x1 = 108 → k ((s.1.1 25 0)) s) ∧ (x1 = 116 → k ((s.1.1 25 2)) s) ∧ (x1 = 118 → k ((s.1.1 25 3)) s) ∧ (¬ x1 = 104 → ¬ x1 = 107 → ¬ x1 = 108 → ¬ x1 = 116 → ¬ x1 = 118 → k ((s.1.1 25 5)) s)
set_option maxHeartbeats 4000000 in
theorem ok_of (l : Launch) (D : va_G) (T : xT) (q : Nat → Nat) (s : CS) (x1 : Int32) (k : Int32 → CS → Prop) (h : ow_of T q s x1 k) : XM l D T yX3_of cX3_of 2 (some .int) 1 0 0 [.ref (q 25), .int x1] (cw T q s) (cpostI T q k) := by
  refine XM.start (by decide +kernel) (Nat.le_of_ble_eq_true rfl) (fun Γ G X _ hl_ => ?_)
  subst hl_
  refine K.less [0, 1] (lv' := [(0, .ref (q 25)), (1, .int x1)]) rfl ?_
  unfold ow_of at h
  refine k_iload_n G dX3_of_0 rfl ?_
  obtain ⟨h0_, h1_, h2_, h3_, h4_, hD_⟩ := h
  by_cases c1_0 : x1 = 104
  · refine k_tswIn G 104 c1_0 96 dX3_of_1 (by decide +kernel) (by decide +kernel) rfl (by decide) ?_
    have h := h0_ c1_0
    clear h0_ h1_ h2_ h3_ h4_ hD_
    refine k_aload_n G dX3_of_96 rfl ?_
    refine kc_look G (k := 4) (by decide) (Or.inl q224) rfl dX3_of_97 ?_
    exact k_iret G X dX3_of_100 (Nat.le_of_ble_eq_true rfl) (Nat.le_of_ble_eq_true rfl) ⟨_, _, rfl, rfl, h⟩
  by_cases c1_1 : x1 = 107
  · refine k_tswIn G 107 c1_1 81 dX3_of_1 (by decide +kernel) (by decide +kernel) rfl (by decide) ?_
    have h := h1_ c1_1
    clear h0_ h1_ h2_ h3_ h4_ hD_
    refine k_aload_n G dX3_of_81 rfl ?_
    refine kc_look G (k := 1) (by decide) (Or.inl q218) rfl dX3_of_82 ?_
    exact k_iret G X dX3_of_85 (Nat.le_of_ble_eq_true rfl) (Nat.le_of_ble_eq_true rfl) ⟨_, _, rfl, rfl, h⟩
  by_cases c1_2 : x1 = 108
  · refine k_tswIn G 108 c1_2 76 dX3_of_1 (by decide +kernel) (by decide +kernel) rfl (by decide) ?_
    have h := h2_ c1_2
    clear h0_ h1_ h2_ h3_ h4_ hD_
    refine k_aload_n G dX3_of_76 rfl ?_
    refine kc_look G (k := 0) (by decide) (Or.inl q216) rfl dX3_of_77 ?_
    exact k_iret G X dX3_of_80 (Nat.le_of_ble_eq_true rfl) (Nat.le_of_ble_eq_true rfl) ⟨_, _, rfl, rfl, h⟩
  by_cases c1_3 : x1 = 116
  · refine k_tswIn G 116 c1_3 86 dX3_of_1 (by decide +kernel) (by decide +kernel) rfl (by decide) ?_
    have h := h3_ c1_3
    clear h0_ h1_ h2_ h3_ h4_ hD_
    refine k_aload_n G dX3_of_86 rfl ?_
    refine kc_look G (k := 2) (by decide) (Or.inl q220) rfl dX3_of_87 ?_
    exact k_iret G X dX3_of_90 (Nat.le_of_ble_eq_true rfl) (Nat.le_of_ble_eq_true rfl) ⟨_, _, rfl, rfl, h⟩
  by_cases c1_4 : x1 = 118
  · refine k_tswIn G 118 c1_4 91 dX3_of_1 (by decide +kernel) (by decide +kernel) rfl (by decide) ?_
    have h := h4_ c1_4
    clear h0_ h1_ h2_ h3_ h4_ hD_
    refine k_aload_n G dX3_of_91 rfl ?_
    refine kc_look G (k := 3) (by decide) (Or.inl q222) rfl dX3_of_92 ?_
    exact k_iret G X dX3_of_95 (Nat.le_of_ble_eq_true rfl) (Nat.le_of_ble_eq_true rfl) ⟨_, _, rfl, rfl, h⟩
  refine k_tswD G [104, 107, 108, 116, 118] 101 dX3_of_1 (by decide +kernel) (by decide +kernel) (List.forall_mem_cons.mpr ⟨c1_0, List.forall_mem_cons.mpr ⟨c1_1, List.forall_mem_cons.mpr ⟨c1_2, List.forall_mem_cons.mpr ⟨c1_3, List.forall_mem_cons.mpr ⟨c1_4, fun _ h => absurd h List.not_mem_nil⟩⟩⟩⟩⟩) (by decide) ?_
  have h := hD_ c1_0 c1_1 c1_2 c1_3 c1_4
  clear h0_ h1_ h2_ h3_ h4_ hD_
  refine k_aload_n G dX3_of_101 rfl ?_
  refine kc_look G (k := 5) (by decide) (Or.inl q226) rfl dX3_of_102 ?_
  exact k_iret G X dX3_of_105 (Nat.le_of_ble_eq_true rfl) (Nat.le_of_ble_eq_true rfl) ⟨_, _, rfl, rfl, h⟩
def lw_Loaf_kind_0 (T : xT) (q : Nat → Nat) (a : Nat) (n v : Int32) (s : CS) (k : Int32 → CS → Prop) : Prop := k 0 s
theorem lk_Loaf_kind_0 (l : Launch) (D : va_G) (T : xT) (q : Nat → Nat) (a : Nat) (n v : Int32) (s : CS) (k : Int32 → CS → Prop) (h : lw_Loaf_kind_0 T q a n v s k) : XM l D T yX7_kind cX7_kind 1 (some .int) 1 0 0 [.ref a] (cw T q s) (cpostI T q k) := by
  refine XM.start (by decide +kernel) (Nat.le_of_ble_eq_true rfl) (fun Γ G X _ hl_ => ?_)
  subst hl_
  refine K.less [0] (lv' := [(0, .ref a)]) rfl ?_
  unfold lw_Loaf_kind_0 at h
  refine k_iconst G dX7_kind_0 kc_i_0 ?_
  exact k_iret G X dX7_kind_1 (Nat.le_of_ble_eq_true rfl) (Nat.le_of_ble_eq_true rfl) ⟨_, _, rfl, rfl, h⟩
def lw_Loaf_taking_0 (T : xT) (q : Nat → Nat) (a : Nat) (n v : Int32) (s : CS) (x1 : Int32) (x2 : Int32) (x3 : Int32) (k : Int32 → CS → Prop) : Prop := k (((x1 * x2) / 100)) s
theorem lk_Loaf_taking_0 (l : Launch) (D : va_G) (T : xT) (q : Nat → Nat) (a : Nat) (n v : Int32) (s : CS) (x1 : Int32) (x2 : Int32) (x3 : Int32) (k : Int32 → CS → Prop) (h : lw_Loaf_taking_0 T q a n v s x1 x2 x3 k) : XM l D T yX7_taking cX7_taking 4 (some .int) 1 0 0 [.ref a, .int x1, .int x2, .int x3] (cw T q s) (cpostI T q k) := by
  refine XM.start (by decide +kernel) (Nat.le_of_ble_eq_true rfl) (fun Γ G X _ hl_ => ?_)
  subst hl_
  refine K.less [0, 1, 2, 3] (lv' := [(0, .ref a), (1, .int x1), (2, .int x2), (3, .int x3)]) rfl ?_
  unfold lw_Loaf_taking_0 at h
  refine k_iload_n G dX7_taking_0 rfl ?_
  refine k_iload_n G dX7_taking_1 rfl ?_
  refine k_imul G dX7_taking_2 ?_
  refine k_bipush G dX7_taking_3 kc_b_100 ?_
  refine k_idiv G dX7_taking_5 (by decide) ?_
  exact k_iret G X dX7_taking_6 (Nat.le_of_ble_eq_true rfl) (Nat.le_of_ble_eq_true rfl) ⟨_, _, rfl, rfl, h⟩
def lw_Loaf_leaving_0 (T : xT) (q : Nat → Nat) (a : Nat) (n v : Int32) (s : CS) (x1 : Int32) (x2 : Int32) (k : Int32 → CS → Prop) : Prop := k x1 s
theorem lk_Loaf_leaving_0 (l : Launch) (D : va_G) (T : xT) (q : Nat → Nat) (a : Nat) (n v : Int32) (s : CS) (x1 : Int32) (x2 : Int32) (k : Int32 → CS → Prop) (h : lw_Loaf_leaving_0 T q a n v s x1 x2 k) : XM l D T yX7_leaving cX7_leaving 3 (some .int) 1 0 0 [.ref a, .int x1, .int x2] (cw T q s) (cpostI T q k) := by
  refine XM.start (by decide +kernel) (Nat.le_of_ble_eq_true rfl) (fun Γ G X _ hl_ => ?_)
  subst hl_
  refine K.less [0, 1, 2] (lv' := [(0, .ref a), (1, .int x1), (2, .int x2)]) rfl ?_
  unfold lw_Loaf_leaving_0 at h
  refine k_iload_n G dX7_leaving_0 rfl ?_
  exact k_iret G X dX7_leaving_1 (Nat.le_of_ble_eq_true rfl) (Nat.le_of_ble_eq_true rfl) ⟨_, _, rfl, rfl, h⟩
def lw_Loaf_rises_0 (T : xT) (q : Nat → Nat) (a : Nat) (n v : Int32) (s : CS) (x1 : Int32) (k : Int32 → CS → Prop) : Prop := lofR q s a 0 n v ∧ ow_ran T q s 10 (fun s6 => lofR q s6 a 0 n v ∧ k ((x1 + n)) s6)
theorem lk_Loaf_rises_0 (l : Launch) (D : va_G) (T : xT) (q : Nat → Nat) (a : Nat) (n v : Int32) (s : CS) (x1 : Int32) (k : Int32 → CS → Prop) (h : lw_Loaf_rises_0 T q a n v s x1 k) : XM l D T yX7_rises cX7_rises 2 (some .int) 4 0 0 [.ref a, .int x1] (cw T q s) (cpostI T q k) := by
  refine XM.start (by decide +kernel) (Nat.le_of_ble_eq_true rfl) (fun Γ G X _ hl_ => ?_)
  subst hl_
  refine K.less [0, 1] (lv' := [(0, .ref a), (1, .int x1)]) rfl ?_
  unfold lw_Loaf_rises_0 at h
  refine k_aload_n G dX7_rises_0 rfl ?_
  obtain ⟨hl, h⟩ := h
  refine kl_get0 G hl (ref := "BakedBefore$Loaf") q384 (fun _ h => h) dX7_rises_1 ?_
  refine k_bipush G dX7_rises_4 kc_b_10 ?_
  refine kc_ran G (ok_ran _ D T q _ _ _ h) q1238 dX7_rises_6 (Nat.le_of_ble_eq_true rfl) (Nat.le_of_ble_eq_true rfl) ⟨Nat.le_of_ble_eq_true rfl, Nat.le_of_ble_eq_true rfl⟩ (fun s6 h => ?_)
  refine k_iload_n G dX7_rises_9 rfl ?_
  refine k_aload_n G dX7_rises_10 rfl ?_
  obtain ⟨hl, h⟩ := h
  refine kl_get1 G hl (ref := "BakedBefore$Loaf") q397 (fun _ h => h) dX7_rises_11 ?_
  refine k_iadd G dX7_rises_14 ?_
  exact k_iret G X dX7_rises_15 (Nat.le_of_ble_eq_true rfl) (Nat.le_of_ble_eq_true rfl) ⟨_, _, rfl, rfl, h⟩
theorem xu_Loaf_rises_0 : xU ⟨"BakedBefore$Loaf", "rises", "(I)I"⟩ "BakedBefore$Loaf" RX7 yX7_rises cX7_rises 2 (some .int) 1 := ⟨q1227, q1226, q1225, q97, q1237, (Or.inl ⟨q1225, _, _, _, q1237⟩), ⟨by decide +kernel, by decide +kernel, by decide +kernel⟩, by decide⟩
def lw_Loaf_bakes_0 (T : xT) (q : Nat → Nat) (a : Nat) (n v : Int32) (s : CS) (x1 : Int32) (k : Int32 → CS → Prop) : Prop := lofR q s a 0 n v ∧ ow_ran T q s 11 (fun s6 => lofR q s6 a 0 n v ∧ lw_Loaf_rises_0 T q a n v s6 x1 (fun r11 s11 => lofR q s11 a 0 n v ∧ k ((r11 - v)) s11))
theorem lk_Loaf_bakes_0 (l : Launch) (D : va_G) (T : xT) (q : Nat → Nat) (a : Nat) (n v : Int32) (s : CS) (x1 : Int32) (k : Int32 → CS → Prop) (h : lw_Loaf_bakes_0 T q a n v s x1 k) : XM l D T yX7_bakes cX7_bakes 2 (some .int) 6 0 0 [.ref a, .int x1] (cw T q s) (cpostI T q k) := by
  refine XM.start (by decide +kernel) (Nat.le_of_ble_eq_true rfl) (fun Γ G X _ hl_ => ?_)
  subst hl_
  refine K.less [0, 1] (lv' := [(0, .ref a), (1, .int x1)]) rfl ?_
  unfold lw_Loaf_bakes_0 at h
  refine k_aload_n G dX7_bakes_0 rfl ?_
  obtain ⟨hl, h⟩ := h
  refine kl_get0 G hl (ref := "BakedBefore$Loaf") q384 (fun _ h => h) dX7_bakes_1 ?_
  refine k_bipush G dX7_bakes_4 kc_b_11 ?_
  refine kc_ran G (ok_ran _ D T q _ _ _ h) q1238 dX7_bakes_6 (Nat.le_of_ble_eq_true rfl) (Nat.le_of_ble_eq_true rfl) ⟨Nat.le_of_ble_eq_true rfl, Nat.le_of_ble_eq_true rfl⟩ (fun s6 h => ?_)
  refine k_aload_n G dX7_bakes_9 rfl ?_
  refine k_iload_n G dX7_bakes_10 rfl ?_
  obtain ⟨hl, h⟩ := h
  refine kl_callU G hl (lk_Loaf_rises_0 _ D T q a n v _ _ _ h) (x := ⟨"BakedBefore$Loaf", "rises", "(I)I"⟩) (owner := "BakedBefore$Loaf") (C := RX7) rfl xu_Loaf_rises_0 q1264 dX7_bakes_11 rfl rfl (Nat.le_of_ble_eq_true rfl) (Nat.le_of_ble_eq_true rfl) ⟨Nat.le_of_ble_eq_true rfl, Nat.le_of_ble_eq_true rfl⟩ (fun r11 s11 h => ?_)
  refine k_aload_n G dX7_bakes_14 rfl ?_
  obtain ⟨hl, h⟩ := h
  refine kl_get2 G hl (ref := "BakedBefore$Loaf") q400 (fun _ h => h) dX7_bakes_15 ?_
  refine k_isub G dX7_bakes_18 ?_
  exact k_iret G X dX7_bakes_19 (Nat.le_of_ble_eq_true rfl) (Nat.le_of_ble_eq_true rfl) ⟨_, _, rfl, rfl, h⟩
theorem xu_Loaf_bakes_0 : xU ⟨"BakedBefore$Loaf", "bakes", "(I)I"⟩ "BakedBefore$Loaf" RX7 yX7_bakes cX7_bakes 2 (some .int) 1 := ⟨q1257, q1256, q1255, q97, q1263, (Or.inl ⟨q1255, _, _, _, q1263⟩), ⟨by decide +kernel, by decide +kernel, by decide +kernel⟩, by decide⟩
def lw_Loaf_tells_0 (T : xT) (q : Nat → Nat) (a : Nat) (n v : Int32) (s : CS) (x1 : Int32) (k : Int32 → CS → Prop) : Prop := lofR q s a 0 n v ∧ ow_ran T q s 12 (fun s6 => lofR q s6 a 0 n v ∧ lw_Loaf_bakes_0 T q a n v s6 x1 (fun r11 s11 => k ((r11 * 2)) s11))
theorem lk_Loaf_tells_0 (l : Launch) (D : va_G) (T : xT) (q : Nat → Nat) (a : Nat) (n v : Int32) (s : CS) (x1 : Int32) (k : Int32 → CS → Prop) (h : lw_Loaf_tells_0 T q a n v s x1 k) : XM l D T yX7_tells cX7_tells 2 (some .int) 8 0 0 [.ref a, .int x1] (cw T q s) (cpostI T q k) := by
  refine XM.start (by decide +kernel) (Nat.le_of_ble_eq_true rfl) (fun Γ G X _ hl_ => ?_)
  subst hl_
  refine K.less [0, 1] (lv' := [(0, .ref a), (1, .int x1)]) rfl ?_
  unfold lw_Loaf_tells_0 at h
  refine k_aload_n G dX7_tells_0 rfl ?_
  obtain ⟨hl, h⟩ := h
  refine kl_get0 G hl (ref := "BakedBefore$Loaf") q384 (fun _ h => h) dX7_tells_1 ?_
  refine k_bipush G dX7_tells_4 kc_b_12 ?_
  refine kc_ran G (ok_ran _ D T q _ _ _ h) q1238 dX7_tells_6 (Nat.le_of_ble_eq_true rfl) (Nat.le_of_ble_eq_true rfl) ⟨Nat.le_of_ble_eq_true rfl, Nat.le_of_ble_eq_true rfl⟩ (fun s6 h => ?_)
  refine k_aload_n G dX7_tells_9 rfl ?_
  refine k_iload_n G dX7_tells_10 rfl ?_
  obtain ⟨hl, h⟩ := h
  refine kl_callU G hl (lk_Loaf_bakes_0 _ D T q a n v _ _ _ h) (x := ⟨"BakedBefore$Loaf", "bakes", "(I)I"⟩) (owner := "BakedBefore$Loaf") (C := RX7) rfl xu_Loaf_bakes_0 q1290 dX7_tells_11 rfl rfl (Nat.le_of_ble_eq_true rfl) (Nat.le_of_ble_eq_true rfl) ⟨Nat.le_of_ble_eq_true rfl, Nat.le_of_ble_eq_true rfl⟩ (fun r11 s11 h => ?_)
  refine k_iconst G dX7_tells_14 kc_i_2 ?_
  refine k_imul G dX7_tells_15 ?_
  exact k_iret G X dX7_tells_16 (Nat.le_of_ble_eq_true rfl) (Nat.le_of_ble_eq_true rfl) ⟨_, _, rfl, rfl, h⟩
def lw_Clean_kind_1 (T : xT) (q : Nat → Nat) (a : Nat) (n v : Int32) (s : CS) (k : Int32 → CS → Prop) : Prop := k 1 s
theorem lk_Clean_kind_1 (l : Launch) (D : va_G) (T : xT) (q : Nat → Nat) (a : Nat) (n v : Int32) (s : CS) (k : Int32 → CS → Prop) (h : lw_Clean_kind_1 T q a n v s k) : XM l D T yX8_kind cX8_kind 1 (some .int) 1 0 0 [.ref a] (cw T q s) (cpostI T q k) := by
  refine XM.start (by decide +kernel) (Nat.le_of_ble_eq_true rfl) (fun Γ G X _ hl_ => ?_)
  subst hl_
  refine K.less [0] (lv' := [(0, .ref a)]) rfl ?_
  unfold lw_Clean_kind_1 at h
  refine k_iconst G dX8_kind_0 kc_i_1 ?_
  exact k_iret G X dX8_kind_1 (Nat.le_of_ble_eq_true rfl) (Nat.le_of_ble_eq_true rfl) ⟨_, _, rfl, rfl, h⟩
def lw_Clean_taking_1 (T : xT) (q : Nat → Nat) (a : Nat) (n v : Int32) (s : CS) (x1 : Int32) (x2 : Int32) (x3 : Int32) (k : Int32 → CS → Prop) : Prop := k x1 s
theorem lk_Clean_taking_1 (l : Launch) (D : va_G) (T : xT) (q : Nat → Nat) (a : Nat) (n v : Int32) (s : CS) (x1 : Int32) (x2 : Int32) (x3 : Int32) (k : Int32 → CS → Prop) (h : lw_Clean_taking_1 T q a n v s x1 x2 x3 k) : XM l D T yX8_taking cX8_taking 4 (some .int) 1 0 0 [.ref a, .int x1, .int x2, .int x3] (cw T q s) (cpostI T q k) := by
  refine XM.start (by decide +kernel) (Nat.le_of_ble_eq_true rfl) (fun Γ G X _ hl_ => ?_)
  subst hl_
  refine K.less [0, 1, 2, 3] (lv' := [(0, .ref a), (1, .int x1), (2, .int x2), (3, .int x3)]) rfl ?_
  unfold lw_Clean_taking_1 at h
  refine k_iload_n G dX8_taking_0 rfl ?_
  exact k_iret G X dX8_taking_1 (Nat.le_of_ble_eq_true rfl) (Nat.le_of_ble_eq_true rfl) ⟨_, _, rfl, rfl, h⟩
def lw_Clean_leaving_1 (T : xT) (q : Nat → Nat) (a : Nat) (n v : Int32) (s : CS) (x1 : Int32) (x2 : Int32) (k : Int32 → CS → Prop) : Prop := k 0 s
theorem lk_Clean_leaving_1 (l : Launch) (D : va_G) (T : xT) (q : Nat → Nat) (a : Nat) (n v : Int32) (s : CS) (x1 : Int32) (x2 : Int32) (k : Int32 → CS → Prop) (h : lw_Clean_leaving_1 T q a n v s x1 x2 k) : XM l D T yX8_leaving cX8_leaving 3 (some .int) 1 0 0 [.ref a, .int x1, .int x2] (cw T q s) (cpostI T q k) := by
  refine XM.start (by decide +kernel) (Nat.le_of_ble_eq_true rfl) (fun Γ G X _ hl_ => ?_)
  subst hl_
  refine K.less [0, 1, 2] (lv' := [(0, .ref a), (1, .int x1), (2, .int x2)]) rfl ?_
  unfold lw_Clean_leaving_1 at h
  refine k_iconst G dX8_leaving_0 kc_i_0 ?_
  exact k_iret G X dX8_leaving_1 (Nat.le_of_ble_eq_true rfl) (Nat.le_of_ble_eq_true rfl) ⟨_, _, rfl, rfl, h⟩
def lw_Loaf_rises_1 (T : xT) (q : Nat → Nat) (a : Nat) (n v : Int32) (s : CS) (x1 : Int32) (k : Int32 → CS → Prop) : Prop := lofR q s a 1 n v ∧ ow_ran T q s 10 (fun s6 => lofR q s6 a 1 n v ∧ k ((x1 + n)) s6)
theorem lk_Loaf_rises_1 (l : Launch) (D : va_G) (T : xT) (q : Nat → Nat) (a : Nat) (n v : Int32) (s : CS) (x1 : Int32) (k : Int32 → CS → Prop) (h : lw_Loaf_rises_1 T q a n v s x1 k) : XM l D T yX7_rises cX7_rises 2 (some .int) 4 0 0 [.ref a, .int x1] (cw T q s) (cpostI T q k) := by
  refine XM.start (by decide +kernel) (Nat.le_of_ble_eq_true rfl) (fun Γ G X _ hl_ => ?_)
  subst hl_
  refine K.less [0, 1] (lv' := [(0, .ref a), (1, .int x1)]) rfl ?_
  unfold lw_Loaf_rises_1 at h
  refine k_aload_n G dX7_rises_0 rfl ?_
  obtain ⟨hl, h⟩ := h
  refine kl_get0 G hl (ref := "BakedBefore$Loaf") q384 (fun _ h => h) dX7_rises_1 ?_
  refine k_bipush G dX7_rises_4 kc_b_10 ?_
  refine kc_ran G (ok_ran _ D T q _ _ _ h) q1238 dX7_rises_6 (Nat.le_of_ble_eq_true rfl) (Nat.le_of_ble_eq_true rfl) ⟨Nat.le_of_ble_eq_true rfl, Nat.le_of_ble_eq_true rfl⟩ (fun s6 h => ?_)
  refine k_iload_n G dX7_rises_9 rfl ?_
  refine k_aload_n G dX7_rises_10 rfl ?_
  obtain ⟨hl, h⟩ := h
  refine kl_get1 G hl (ref := "BakedBefore$Loaf") q397 (fun _ h => h) dX7_rises_11 ?_
  refine k_iadd G dX7_rises_14 ?_
  exact k_iret G X dX7_rises_15 (Nat.le_of_ble_eq_true rfl) (Nat.le_of_ble_eq_true rfl) ⟨_, _, rfl, rfl, h⟩
theorem xu_Loaf_rises_1 : xU ⟨"BakedBefore$Loaf", "rises", "(I)I"⟩ "BakedBefore$Loaf" RX8 yX7_rises cX7_rises 2 (some .int) 1 := ⟨q1227, q1228, q1225, q97, q1237, (Or.inl ⟨q1225, _, _, _, q1237⟩), ⟨by decide +kernel, by decide +kernel, by decide +kernel⟩, by decide⟩
def lw_Loaf_bakes_1 (T : xT) (q : Nat → Nat) (a : Nat) (n v : Int32) (s : CS) (x1 : Int32) (k : Int32 → CS → Prop) : Prop := lofR q s a 1 n v ∧ ow_ran T q s 11 (fun s6 => lofR q s6 a 1 n v ∧ lw_Loaf_rises_1 T q a n v s6 x1 (fun r11 s11 => lofR q s11 a 1 n v ∧ k ((r11 - v)) s11))
theorem lk_Loaf_bakes_1 (l : Launch) (D : va_G) (T : xT) (q : Nat → Nat) (a : Nat) (n v : Int32) (s : CS) (x1 : Int32) (k : Int32 → CS → Prop) (h : lw_Loaf_bakes_1 T q a n v s x1 k) : XM l D T yX7_bakes cX7_bakes 2 (some .int) 6 0 0 [.ref a, .int x1] (cw T q s) (cpostI T q k) := by
  refine XM.start (by decide +kernel) (Nat.le_of_ble_eq_true rfl) (fun Γ G X _ hl_ => ?_)
  subst hl_
  refine K.less [0, 1] (lv' := [(0, .ref a), (1, .int x1)]) rfl ?_
  unfold lw_Loaf_bakes_1 at h
  refine k_aload_n G dX7_bakes_0 rfl ?_
  obtain ⟨hl, h⟩ := h
  refine kl_get0 G hl (ref := "BakedBefore$Loaf") q384 (fun _ h => h) dX7_bakes_1 ?_
  refine k_bipush G dX7_bakes_4 kc_b_11 ?_
  refine kc_ran G (ok_ran _ D T q _ _ _ h) q1238 dX7_bakes_6 (Nat.le_of_ble_eq_true rfl) (Nat.le_of_ble_eq_true rfl) ⟨Nat.le_of_ble_eq_true rfl, Nat.le_of_ble_eq_true rfl⟩ (fun s6 h => ?_)
  refine k_aload_n G dX7_bakes_9 rfl ?_
  refine k_iload_n G dX7_bakes_10 rfl ?_
  obtain ⟨hl, h⟩ := h
  refine kl_callU G hl (lk_Loaf_rises_1 _ D T q a n v _ _ _ h) (x := ⟨"BakedBefore$Loaf", "rises", "(I)I"⟩) (owner := "BakedBefore$Loaf") (C := RX8) rfl xu_Loaf_rises_1 q1264 dX7_bakes_11 rfl rfl (Nat.le_of_ble_eq_true rfl) (Nat.le_of_ble_eq_true rfl) ⟨Nat.le_of_ble_eq_true rfl, Nat.le_of_ble_eq_true rfl⟩ (fun r11 s11 h => ?_)
  refine k_aload_n G dX7_bakes_14 rfl ?_
  obtain ⟨hl, h⟩ := h
  refine kl_get2 G hl (ref := "BakedBefore$Loaf") q400 (fun _ h => h) dX7_bakes_15 ?_
  refine k_isub G dX7_bakes_18 ?_
  exact k_iret G X dX7_bakes_19 (Nat.le_of_ble_eq_true rfl) (Nat.le_of_ble_eq_true rfl) ⟨_, _, rfl, rfl, h⟩
theorem su_Clean_Loaf_bakes : xSU "BakedBefore$Clean" ⟨"BakedBefore$Loaf", "bakes", "(I)I"⟩ "BakedBefore$Loaf" cX7_bakes 2 (some .int) 1 := ⟨q1257, q414, (Or.inl rfl), q1255, q97, q1263, by decide +kernel, by decide +kernel, by decide⟩
def lw_Clean_bakes_1 (T : xT) (q : Nat → Nat) (a : Nat) (n v : Int32) (s : CS) (x1 : Int32) (k : Int32 → CS → Prop) : Prop := lofR q s a 1 n v ∧ ow_ran T q s 20 (fun s6 => lofR q s6 a 1 n v ∧ lw_Loaf_bakes_1 T q a n v s6 x1 (fun r11 s11 => k ((r11 ^^^ 6)) s11))
theorem lk_Clean_bakes_1 (l : Launch) (D : va_G) (T : xT) (q : Nat → Nat) (a : Nat) (n v : Int32) (s : CS) (x1 : Int32) (k : Int32 → CS → Prop) (h : lw_Clean_bakes_1 T q a n v s x1 k) : XM l D T yX8_bakes cX8_bakes 2 (some .int) 8 0 0 [.ref a, .int x1] (cw T q s) (cpostI T q k) := by
  refine XM.start (by decide +kernel) (Nat.le_of_ble_eq_true rfl) (fun Γ G X _ hl_ => ?_)
  subst hl_
  refine K.less [0, 1] (lv' := [(0, .ref a), (1, .int x1)]) rfl ?_
  unfold lw_Clean_bakes_1 at h
  refine k_aload_n G dX8_bakes_0 rfl ?_
  obtain ⟨hl, h⟩ := h
  refine kl_get0 G hl (ref := "BakedBefore$Clean") q393 (x_samef (G.2.2.2.2.2.2.1 _ q394)) dX8_bakes_1 ?_
  refine k_bipush G dX8_bakes_4 kc_b_20 ?_
  refine kc_ran G (ok_ran _ D T q _ _ _ h) q1261 dX8_bakes_6 (Nat.le_of_ble_eq_true rfl) (Nat.le_of_ble_eq_true rfl) ⟨Nat.le_of_ble_eq_true rfl, Nat.le_of_ble_eq_true rfl⟩ (fun s6 h => ?_)
  refine k_aload_n G dX8_bakes_9 rfl ?_
  refine k_iload_n G dX8_bakes_10 rfl ?_
  obtain ⟨hl, h⟩ := h
  refine kl_callSU G hl (lk_Loaf_bakes_1 _ D T q a n v _ _ _ h) (x := ⟨"BakedBefore$Loaf", "bakes", "(I)I"⟩) (owner := "BakedBefore$Loaf") su_Clean_Loaf_bakes q1262 dX8_bakes_11 rfl rfl (Nat.le_of_ble_eq_true rfl) (Nat.le_of_ble_eq_true rfl) ⟨Nat.le_of_ble_eq_true rfl, Nat.le_of_ble_eq_true rfl⟩ (fun r11 s11 h => ?_)
  refine k_bipush G dX8_bakes_14 kc_b_6 ?_
  refine k_ixor G dX8_bakes_16 ?_
  exact k_iret G X dX8_bakes_17 (Nat.le_of_ble_eq_true rfl) (Nat.le_of_ble_eq_true rfl) ⟨_, _, rfl, rfl, h⟩
theorem xu_Loaf_bakes_1 : xU ⟨"BakedBefore$Loaf", "bakes", "(I)I"⟩ "BakedBefore$Loaf" RX8 yX8_bakes cX8_bakes 2 (some .int) 1 := ⟨q1257, q1258, q1259, q98, q1260, (Or.inl ⟨q1255, _, _, _, q1263⟩), ⟨by decide +kernel, by decide +kernel, by decide +kernel⟩, by decide⟩
def lw_Loaf_tells_1 (T : xT) (q : Nat → Nat) (a : Nat) (n v : Int32) (s : CS) (x1 : Int32) (k : Int32 → CS → Prop) : Prop := lofR q s a 1 n v ∧ ow_ran T q s 12 (fun s6 => lofR q s6 a 1 n v ∧ lw_Clean_bakes_1 T q a n v s6 x1 (fun r11 s11 => k ((r11 * 2)) s11))
theorem lk_Loaf_tells_1 (l : Launch) (D : va_G) (T : xT) (q : Nat → Nat) (a : Nat) (n v : Int32) (s : CS) (x1 : Int32) (k : Int32 → CS → Prop) (h : lw_Loaf_tells_1 T q a n v s x1 k) : XM l D T yX7_tells cX7_tells 2 (some .int) 10 0 0 [.ref a, .int x1] (cw T q s) (cpostI T q k) := by
  refine XM.start (by decide +kernel) (Nat.le_of_ble_eq_true rfl) (fun Γ G X _ hl_ => ?_)
  subst hl_
  refine K.less [0, 1] (lv' := [(0, .ref a), (1, .int x1)]) rfl ?_
  unfold lw_Loaf_tells_1 at h
  refine k_aload_n G dX7_tells_0 rfl ?_
  obtain ⟨hl, h⟩ := h
  refine kl_get0 G hl (ref := "BakedBefore$Loaf") q384 (fun _ h => h) dX7_tells_1 ?_
  refine k_bipush G dX7_tells_4 kc_b_12 ?_
  refine kc_ran G (ok_ran _ D T q _ _ _ h) q1238 dX7_tells_6 (Nat.le_of_ble_eq_true rfl) (Nat.le_of_ble_eq_true rfl) ⟨Nat.le_of_ble_eq_true rfl, Nat.le_of_ble_eq_true rfl⟩ (fun s6 h => ?_)
  refine k_aload_n G dX7_tells_9 rfl ?_
  refine k_iload_n G dX7_tells_10 rfl ?_
  obtain ⟨hl, h⟩ := h
  refine kl_callU G hl (lk_Clean_bakes_1 _ D T q a n v _ _ _ h) (x := ⟨"BakedBefore$Loaf", "bakes", "(I)I"⟩) (owner := "BakedBefore$Loaf") (C := RX8) rfl xu_Loaf_bakes_1 q1290 dX7_tells_11 rfl rfl (Nat.le_of_ble_eq_true rfl) (Nat.le_of_ble_eq_true rfl) ⟨Nat.le_of_ble_eq_true rfl, Nat.le_of_ble_eq_true rfl⟩ (fun r11 s11 h => ?_)
  refine k_iconst G dX7_tells_14 kc_i_2 ?_
  refine k_imul G dX7_tells_15 ?_
  exact k_iret G X dX7_tells_16 (Nat.le_of_ble_eq_true rfl) (Nat.le_of_ble_eq_true rfl) ⟨_, _, rfl, rfl, h⟩
def lw_Greedy_kind_2 (T : xT) (q : Nat → Nat) (a : Nat) (n v : Int32) (s : CS) (k : Int32 → CS → Prop) : Prop := k 2 s
theorem lk_Greedy_kind_2 (l : Launch) (D : va_G) (T : xT) (q : Nat → Nat) (a : Nat) (n v : Int32) (s : CS) (k : Int32 → CS → Prop) (h : lw_Greedy_kind_2 T q a n v s k) : XM l D T yX9_kind cX9_kind 1 (some .int) 1 0 0 [.ref a] (cw T q s) (cpostI T q k) := by
  refine XM.start (by decide +kernel) (Nat.le_of_ble_eq_true rfl) (fun Γ G X _ hl_ => ?_)
  subst hl_
  refine K.less [0] (lv' := [(0, .ref a)]) rfl ?_
  unfold lw_Greedy_kind_2 at h
  refine k_iconst G dX9_kind_0 kc_i_2 ?_
  exact k_iret G X dX9_kind_1 (Nat.le_of_ble_eq_true rfl) (Nat.le_of_ble_eq_true rfl) ⟨_, _, rfl, rfl, h⟩
def lw_Loaf_taking_2 (T : xT) (q : Nat → Nat) (a : Nat) (n v : Int32) (s : CS) (x1 : Int32) (x2 : Int32) (x3 : Int32) (k : Int32 → CS → Prop) : Prop := k (((x1 * x2) / 100)) s
theorem lk_Loaf_taking_2 (l : Launch) (D : va_G) (T : xT) (q : Nat → Nat) (a : Nat) (n v : Int32) (s : CS) (x1 : Int32) (x2 : Int32) (x3 : Int32) (k : Int32 → CS → Prop) (h : lw_Loaf_taking_2 T q a n v s x1 x2 x3 k) : XM l D T yX7_taking cX7_taking 4 (some .int) 1 0 0 [.ref a, .int x1, .int x2, .int x3] (cw T q s) (cpostI T q k) := by
  refine XM.start (by decide +kernel) (Nat.le_of_ble_eq_true rfl) (fun Γ G X _ hl_ => ?_)
  subst hl_
  refine K.less [0, 1, 2, 3] (lv' := [(0, .ref a), (1, .int x1), (2, .int x2), (3, .int x3)]) rfl ?_
  unfold lw_Loaf_taking_2 at h
  refine k_iload_n G dX7_taking_0 rfl ?_
  refine k_iload_n G dX7_taking_1 rfl ?_
  refine k_imul G dX7_taking_2 ?_
  refine k_bipush G dX7_taking_3 kc_b_100 ?_
  refine k_idiv G dX7_taking_5 (by decide) ?_
  exact k_iret G X dX7_taking_6 (Nat.le_of_ble_eq_true rfl) (Nat.le_of_ble_eq_true rfl) ⟨_, _, rfl, rfl, h⟩
theorem su_Greedy_Loaf_taking : xSU "BakedBefore$Greedy" ⟨"BakedBefore$Loaf", "taking", "(III)I"⟩ "BakedBefore$Loaf" cX7_taking 4 (some .int) 3 := ⟨q587, q424, (Or.inl rfl), q585, q97, q595, by decide +kernel, by decide +kernel, by decide⟩
def lw_Greedy_taking_2 (T : xT) (q : Nat → Nat) (a : Nat) (n v : Int32) (s : CS) (x1 : Int32) (x2 : Int32) (x3 : Int32) (k : Int32 → CS → Prop) : Prop := lofR q s a 2 n v ∧ lw_Loaf_taking_2 T q a n v s x1 x2 x3 (fun r5 s5 => k ((2 * r5)) s5)
theorem lk_Greedy_taking_2 (l : Launch) (D : va_G) (T : xT) (q : Nat → Nat) (a : Nat) (n v : Int32) (s : CS) (x1 : Int32) (x2 : Int32) (x3 : Int32) (k : Int32 → CS → Prop) (h : lw_Greedy_taking_2 T q a n v s x1 x2 x3 k) : XM l D T yX9_taking cX9_taking 4 (some .int) 3 0 0 [.ref a, .int x1, .int x2, .int x3] (cw T q s) (cpostI T q k) := by
  refine XM.start (by decide +kernel) (Nat.le_of_ble_eq_true rfl) (fun Γ G X _ hl_ => ?_)
  subst hl_
  refine K.less [0, 1, 2, 3] (lv' := [(0, .ref a), (1, .int x1), (2, .int x2), (3, .int x3)]) rfl ?_
  unfold lw_Greedy_taking_2 at h
  refine k_iconst G dX9_taking_0 kc_i_2 ?_
  refine k_aload_n G dX9_taking_1 rfl ?_
  refine k_iload_n G dX9_taking_2 rfl ?_
  refine k_iload_n G dX9_taking_3 rfl ?_
  refine k_iload_n G dX9_taking_4 rfl ?_
  obtain ⟨hl, h⟩ := h
  refine kl_callSU G hl (lk_Loaf_taking_2 _ D T q a n v _ _ _ _ _ h) (x := ⟨"BakedBefore$Loaf", "taking", "(III)I"⟩) (owner := "BakedBefore$Loaf") su_Greedy_Loaf_taking q594 dX9_taking_5 rfl rfl (Nat.le_of_ble_eq_true rfl) (Nat.le_of_ble_eq_true rfl) ⟨Nat.le_of_ble_eq_true rfl, Nat.le_of_ble_eq_true rfl⟩ (fun r5 s5 h => ?_)
  refine k_imul G dX9_taking_8 ?_
  exact k_iret G X dX9_taking_9 (Nat.le_of_ble_eq_true rfl) (Nat.le_of_ble_eq_true rfl) ⟨_, _, rfl, rfl, h⟩
def lw_Loaf_leaving_2 (T : xT) (q : Nat → Nat) (a : Nat) (n v : Int32) (s : CS) (x1 : Int32) (x2 : Int32) (k : Int32 → CS → Prop) : Prop := k x1 s
theorem lk_Loaf_leaving_2 (l : Launch) (D : va_G) (T : xT) (q : Nat → Nat) (a : Nat) (n v : Int32) (s : CS) (x1 : Int32) (x2 : Int32) (k : Int32 → CS → Prop) (h : lw_Loaf_leaving_2 T q a n v s x1 x2 k) : XM l D T yX7_leaving cX7_leaving 3 (some .int) 1 0 0 [.ref a, .int x1, .int x2] (cw T q s) (cpostI T q k) := by
  refine XM.start (by decide +kernel) (Nat.le_of_ble_eq_true rfl) (fun Γ G X _ hl_ => ?_)
  subst hl_
  refine K.less [0, 1, 2] (lv' := [(0, .ref a), (1, .int x1), (2, .int x2)]) rfl ?_
  unfold lw_Loaf_leaving_2 at h
  refine k_iload_n G dX7_leaving_0 rfl ?_
  exact k_iret G X dX7_leaving_1 (Nat.le_of_ble_eq_true rfl) (Nat.le_of_ble_eq_true rfl) ⟨_, _, rfl, rfl, h⟩
def lw_Loaf_rises_2 (T : xT) (q : Nat → Nat) (a : Nat) (n v : Int32) (s : CS) (x1 : Int32) (k : Int32 → CS → Prop) : Prop := lofR q s a 2 n v ∧ ow_ran T q s 10 (fun s6 => lofR q s6 a 2 n v ∧ k ((x1 + n)) s6)
theorem lk_Loaf_rises_2 (l : Launch) (D : va_G) (T : xT) (q : Nat → Nat) (a : Nat) (n v : Int32) (s : CS) (x1 : Int32) (k : Int32 → CS → Prop) (h : lw_Loaf_rises_2 T q a n v s x1 k) : XM l D T yX7_rises cX7_rises 2 (some .int) 4 0 0 [.ref a, .int x1] (cw T q s) (cpostI T q k) := by
  refine XM.start (by decide +kernel) (Nat.le_of_ble_eq_true rfl) (fun Γ G X _ hl_ => ?_)
  subst hl_
  refine K.less [0, 1] (lv' := [(0, .ref a), (1, .int x1)]) rfl ?_
  unfold lw_Loaf_rises_2 at h
  refine k_aload_n G dX7_rises_0 rfl ?_
  obtain ⟨hl, h⟩ := h
  refine kl_get0 G hl (ref := "BakedBefore$Loaf") q384 (fun _ h => h) dX7_rises_1 ?_
  refine k_bipush G dX7_rises_4 kc_b_10 ?_
  refine kc_ran G (ok_ran _ D T q _ _ _ h) q1238 dX7_rises_6 (Nat.le_of_ble_eq_true rfl) (Nat.le_of_ble_eq_true rfl) ⟨Nat.le_of_ble_eq_true rfl, Nat.le_of_ble_eq_true rfl⟩ (fun s6 h => ?_)
  refine k_iload_n G dX7_rises_9 rfl ?_
  refine k_aload_n G dX7_rises_10 rfl ?_
  obtain ⟨hl, h⟩ := h
  refine kl_get1 G hl (ref := "BakedBefore$Loaf") q397 (fun _ h => h) dX7_rises_11 ?_
  refine k_iadd G dX7_rises_14 ?_
  exact k_iret G X dX7_rises_15 (Nat.le_of_ble_eq_true rfl) (Nat.le_of_ble_eq_true rfl) ⟨_, _, rfl, rfl, h⟩
theorem su_Greedy_Loaf_rises : xSU "BakedBefore$Greedy" ⟨"BakedBefore$Loaf", "rises", "(I)I"⟩ "BakedBefore$Loaf" cX7_rises 2 (some .int) 1 := ⟨q1227, q424, (Or.inl rfl), q1225, q97, q1237, by decide +kernel, by decide +kernel, by decide⟩
def lw_Greedy_rises_2 (T : xT) (q : Nat → Nat) (a : Nat) (n v : Int32) (s : CS) (x1 : Int32) (k : Int32 → CS → Prop) : Prop := lofR q s a 2 n v ∧ ow_ran T q s 30 (fun s6 => lofR q s6 a 2 n v ∧ lw_Loaf_rises_2 T q a n v s6 ((x1 * 3)) (fun r13 s13 => k r13 s13))
theorem lk_Greedy_rises_2 (l : Launch) (D : va_G) (T : xT) (q : Nat → Nat) (a : Nat) (n v : Int32) (s : CS) (x1 : Int32) (k : Int32 → CS → Prop) (h : lw_Greedy_rises_2 T q a n v s x1 k) : XM l D T yX9_rises cX9_rises 2 (some .int) 6 0 0 [.ref a, .int x1] (cw T q s) (cpostI T q k) := by
  refine XM.start (by decide +kernel) (Nat.le_of_ble_eq_true rfl) (fun Γ G X _ hl_ => ?_)
  subst hl_
  refine K.less [0, 1] (lv' := [(0, .ref a), (1, .int x1)]) rfl ?_
  unfold lw_Greedy_rises_2 at h
  refine k_aload_n G dX9_rises_0 rfl ?_
  obtain ⟨hl, h⟩ := h
  refine kl_get0 G hl (ref := "BakedBefore$Greedy") q385 (x_samef (G.2.2.2.2.2.2.1 _ q386)) dX9_rises_1 ?_
  refine k_bipush G dX9_rises_4 kc_b_30 ?_
  refine kc_ran G (ok_ran _ D T q _ _ _ h) q1232 dX9_rises_6 (Nat.le_of_ble_eq_true rfl) (Nat.le_of_ble_eq_true rfl) ⟨Nat.le_of_ble_eq_true rfl, Nat.le_of_ble_eq_true rfl⟩ (fun s6 h => ?_)
  refine k_aload_n G dX9_rises_9 rfl ?_
  refine k_iload_n G dX9_rises_10 rfl ?_
  refine k_iconst G dX9_rises_11 kc_i_3 ?_
  refine k_imul G dX9_rises_12 ?_
  obtain ⟨hl, h⟩ := h
  refine kl_callSU G hl (lk_Loaf_rises_2 _ D T q a n v _ _ _ h) (x := ⟨"BakedBefore$Loaf", "rises", "(I)I"⟩) (owner := "BakedBefore$Loaf") su_Greedy_Loaf_rises q1236 dX9_rises_13 rfl rfl (Nat.le_of_ble_eq_true rfl) (Nat.le_of_ble_eq_true rfl) ⟨Nat.le_of_ble_eq_true rfl, Nat.le_of_ble_eq_true rfl⟩ (fun r13 s13 h => ?_)
  exact k_iret G X dX9_rises_16 (Nat.le_of_ble_eq_true rfl) (Nat.le_of_ble_eq_true rfl) ⟨_, _, rfl, rfl, h⟩
theorem xu_Loaf_rises_2 : xU ⟨"BakedBefore$Loaf", "rises", "(I)I"⟩ "BakedBefore$Loaf" RX9 yX9_rises cX9_rises 2 (some .int) 1 := ⟨q1227, q1229, q1230, q99, q1231, (Or.inl ⟨q1225, _, _, _, q1237⟩), ⟨by decide +kernel, by decide +kernel, by decide +kernel⟩, by decide⟩
def lw_Loaf_bakes_2 (T : xT) (q : Nat → Nat) (a : Nat) (n v : Int32) (s : CS) (x1 : Int32) (k : Int32 → CS → Prop) : Prop := lofR q s a 2 n v ∧ ow_ran T q s 11 (fun s6 => lofR q s6 a 2 n v ∧ lw_Greedy_rises_2 T q a n v s6 x1 (fun r11 s11 => lofR q s11 a 2 n v ∧ k ((r11 - v)) s11))
theorem lk_Loaf_bakes_2 (l : Launch) (D : va_G) (T : xT) (q : Nat → Nat) (a : Nat) (n v : Int32) (s : CS) (x1 : Int32) (k : Int32 → CS → Prop) (h : lw_Loaf_bakes_2 T q a n v s x1 k) : XM l D T yX7_bakes cX7_bakes 2 (some .int) 8 0 0 [.ref a, .int x1] (cw T q s) (cpostI T q k) := by
  refine XM.start (by decide +kernel) (Nat.le_of_ble_eq_true rfl) (fun Γ G X _ hl_ => ?_)
  subst hl_
  refine K.less [0, 1] (lv' := [(0, .ref a), (1, .int x1)]) rfl ?_
  unfold lw_Loaf_bakes_2 at h
  refine k_aload_n G dX7_bakes_0 rfl ?_
  obtain ⟨hl, h⟩ := h
  refine kl_get0 G hl (ref := "BakedBefore$Loaf") q384 (fun _ h => h) dX7_bakes_1 ?_
  refine k_bipush G dX7_bakes_4 kc_b_11 ?_
  refine kc_ran G (ok_ran _ D T q _ _ _ h) q1238 dX7_bakes_6 (Nat.le_of_ble_eq_true rfl) (Nat.le_of_ble_eq_true rfl) ⟨Nat.le_of_ble_eq_true rfl, Nat.le_of_ble_eq_true rfl⟩ (fun s6 h => ?_)
  refine k_aload_n G dX7_bakes_9 rfl ?_
  refine k_iload_n G dX7_bakes_10 rfl ?_
  obtain ⟨hl, h⟩ := h
  refine kl_callU G hl (lk_Greedy_rises_2 _ D T q a n v _ _ _ h) (x := ⟨"BakedBefore$Loaf", "rises", "(I)I"⟩) (owner := "BakedBefore$Loaf") (C := RX9) rfl xu_Loaf_rises_2 q1264 dX7_bakes_11 rfl rfl (Nat.le_of_ble_eq_true rfl) (Nat.le_of_ble_eq_true rfl) ⟨Nat.le_of_ble_eq_true rfl, Nat.le_of_ble_eq_true rfl⟩ (fun r11 s11 h => ?_)
  refine k_aload_n G dX7_bakes_14 rfl ?_
  obtain ⟨hl, h⟩ := h
  refine kl_get2 G hl (ref := "BakedBefore$Loaf") q400 (fun _ h => h) dX7_bakes_15 ?_
  refine k_isub G dX7_bakes_18 ?_
  exact k_iret G X dX7_bakes_19 (Nat.le_of_ble_eq_true rfl) (Nat.le_of_ble_eq_true rfl) ⟨_, _, rfl, rfl, h⟩
theorem xu_Loaf_bakes_2 : xU ⟨"BakedBefore$Loaf", "bakes", "(I)I"⟩ "BakedBefore$Loaf" RX9 yX7_bakes cX7_bakes 2 (some .int) 1 := ⟨q1257, q1265, q1255, q97, q1263, (Or.inl ⟨q1255, _, _, _, q1263⟩), ⟨by decide +kernel, by decide +kernel, by decide +kernel⟩, by decide⟩
def lw_Loaf_tells_2 (T : xT) (q : Nat → Nat) (a : Nat) (n v : Int32) (s : CS) (x1 : Int32) (k : Int32 → CS → Prop) : Prop := lofR q s a 2 n v ∧ ow_ran T q s 12 (fun s6 => lofR q s6 a 2 n v ∧ lw_Loaf_bakes_2 T q a n v s6 x1 (fun r11 s11 => k ((r11 * 2)) s11))
theorem lk_Loaf_tells_2 (l : Launch) (D : va_G) (T : xT) (q : Nat → Nat) (a : Nat) (n v : Int32) (s : CS) (x1 : Int32) (k : Int32 → CS → Prop) (h : lw_Loaf_tells_2 T q a n v s x1 k) : XM l D T yX7_tells cX7_tells 2 (some .int) 10 0 0 [.ref a, .int x1] (cw T q s) (cpostI T q k) := by
  refine XM.start (by decide +kernel) (Nat.le_of_ble_eq_true rfl) (fun Γ G X _ hl_ => ?_)
  subst hl_
  refine K.less [0, 1] (lv' := [(0, .ref a), (1, .int x1)]) rfl ?_
  unfold lw_Loaf_tells_2 at h
  refine k_aload_n G dX7_tells_0 rfl ?_
  obtain ⟨hl, h⟩ := h
  refine kl_get0 G hl (ref := "BakedBefore$Loaf") q384 (fun _ h => h) dX7_tells_1 ?_
  refine k_bipush G dX7_tells_4 kc_b_12 ?_
  refine kc_ran G (ok_ran _ D T q _ _ _ h) q1238 dX7_tells_6 (Nat.le_of_ble_eq_true rfl) (Nat.le_of_ble_eq_true rfl) ⟨Nat.le_of_ble_eq_true rfl, Nat.le_of_ble_eq_true rfl⟩ (fun s6 h => ?_)
  refine k_aload_n G dX7_tells_9 rfl ?_
  refine k_iload_n G dX7_tells_10 rfl ?_
  obtain ⟨hl, h⟩ := h
  refine kl_callU G hl (lk_Loaf_bakes_2 _ D T q a n v _ _ _ h) (x := ⟨"BakedBefore$Loaf", "bakes", "(I)I"⟩) (owner := "BakedBefore$Loaf") (C := RX9) rfl xu_Loaf_bakes_2 q1290 dX7_tells_11 rfl rfl (Nat.le_of_ble_eq_true rfl) (Nat.le_of_ble_eq_true rfl) ⟨Nat.le_of_ble_eq_true rfl, Nat.le_of_ble_eq_true rfl⟩ (fun r11 s11 h => ?_)
  refine k_iconst G dX7_tells_14 kc_i_2 ?_
  refine k_imul G dX7_tells_15 ?_
  exact k_iret G X dX7_tells_16 (Nat.le_of_ble_eq_true rfl) (Nat.le_of_ble_eq_true rfl) ⟨_, _, rfl, rfl, h⟩
def lw_Holy_kind_3 (T : xT) (q : Nat → Nat) (a : Nat) (n v : Int32) (s : CS) (k : Int32 → CS → Prop) : Prop := k 3 s
theorem lk_Holy_kind_3 (l : Launch) (D : va_G) (T : xT) (q : Nat → Nat) (a : Nat) (n v : Int32) (s : CS) (k : Int32 → CS → Prop) (h : lw_Holy_kind_3 T q a n v s k) : XM l D T yX10_kind cX10_kind 1 (some .int) 1 0 0 [.ref a] (cw T q s) (cpostI T q k) := by
  refine XM.start (by decide +kernel) (Nat.le_of_ble_eq_true rfl) (fun Γ G X _ hl_ => ?_)
  subst hl_
  refine K.less [0] (lv' := [(0, .ref a)]) rfl ?_
  unfold lw_Holy_kind_3 at h
  refine k_iconst G dX10_kind_0 kc_i_3 ?_
  exact k_iret G X dX10_kind_1 (Nat.le_of_ble_eq_true rfl) (Nat.le_of_ble_eq_true rfl) ⟨_, _, rfl, rfl, h⟩
def lw_Loaf_taking_3 (T : xT) (q : Nat → Nat) (a : Nat) (n v : Int32) (s : CS) (x1 : Int32) (x2 : Int32) (x3 : Int32) (k : Int32 → CS → Prop) : Prop := k (((x1 * x2) / 100)) s
theorem lk_Loaf_taking_3 (l : Launch) (D : va_G) (T : xT) (q : Nat → Nat) (a : Nat) (n v : Int32) (s : CS) (x1 : Int32) (x2 : Int32) (x3 : Int32) (k : Int32 → CS → Prop) (h : lw_Loaf_taking_3 T q a n v s x1 x2 x3 k) : XM l D T yX7_taking cX7_taking 4 (some .int) 1 0 0 [.ref a, .int x1, .int x2, .int x3] (cw T q s) (cpostI T q k) := by
  refine XM.start (by decide +kernel) (Nat.le_of_ble_eq_true rfl) (fun Γ G X _ hl_ => ?_)
  subst hl_
  refine K.less [0, 1, 2, 3] (lv' := [(0, .ref a), (1, .int x1), (2, .int x2), (3, .int x3)]) rfl ?_
  unfold lw_Loaf_taking_3 at h
  refine k_iload_n G dX7_taking_0 rfl ?_
  refine k_iload_n G dX7_taking_1 rfl ?_
  refine k_imul G dX7_taking_2 ?_
  refine k_bipush G dX7_taking_3 kc_b_100 ?_
  refine k_idiv G dX7_taking_5 (by decide) ?_
  exact k_iret G X dX7_taking_6 (Nat.le_of_ble_eq_true rfl) (Nat.le_of_ble_eq_true rfl) ⟨_, _, rfl, rfl, h⟩
theorem su_Holy_Loaf_taking : xSU "BakedBefore$Holy" ⟨"BakedBefore$Loaf", "taking", "(III)I"⟩ "BakedBefore$Loaf" cX7_taking 4 (some .int) 3 := ⟨q587, q434, (Or.inl rfl), q585, q97, q595, by decide +kernel, by decide +kernel, by decide⟩
def lw_Holy_taking_3 (T : xT) (q : Nat → Nat) (a : Nat) (n v : Int32) (s : CS) (x1 : Int32) (x2 : Int32) (x3 : Int32) (k : Int32 → CS → Prop) : Prop := lofR q s a 3 n v ∧ lw_Loaf_taking_3 T q a n v s x1 x2 x3 (fun r5 s5 => k ((imin x3 r5)) s5)
theorem lk_Holy_taking_3 (l : Launch) (D : va_G) (T : xT) (q : Nat → Nat) (a : Nat) (n v : Int32) (s : CS) (x1 : Int32) (x2 : Int32) (x3 : Int32) (k : Int32 → CS → Prop) (h : lw_Holy_taking_3 T q a n v s x1 x2 x3 k) : XM l D T yX10_taking cX10_taking 4 (some .int) 3 0 0 [.ref a, .int x1, .int x2, .int x3] (cw T q s) (cpostI T q k) := by
  refine XM.start (by decide +kernel) (Nat.le_of_ble_eq_true rfl) (fun Γ G X _ hl_ => ?_)
  subst hl_
  refine K.less [0, 1, 2, 3] (lv' := [(0, .ref a), (1, .int x1), (2, .int x2), (3, .int x3)]) rfl ?_
  unfold lw_Holy_taking_3 at h
  refine k_iload_n G dX10_taking_0 rfl ?_
  refine k_aload_n G dX10_taking_1 rfl ?_
  refine k_iload_n G dX10_taking_2 rfl ?_
  refine k_iload_n G dX10_taking_3 rfl ?_
  refine k_iload_n G dX10_taking_4 rfl ?_
  obtain ⟨hl, h⟩ := h
  refine kl_callSU G hl (lk_Loaf_taking_3 _ D T q a n v _ _ _ _ _ h) (x := ⟨"BakedBefore$Loaf", "taking", "(III)I"⟩) (owner := "BakedBefore$Loaf") su_Holy_Loaf_taking q599 dX10_taking_5 rfl rfl (Nat.le_of_ble_eq_true rfl) (Nat.le_of_ble_eq_true rfl) ⟨Nat.le_of_ble_eq_true rfl, Nat.le_of_ble_eq_true rfl⟩ (fun r5 s5 h => ?_)
  refine kx_min G q600 dX10_taking_8 (Nat.le_of_ble_eq_true rfl) (Nat.le_of_ble_eq_true rfl) ⟨Nat.le_of_ble_eq_true rfl, Nat.le_of_ble_eq_true rfl⟩ ?_
  exact k_iret G X dX10_taking_11 (Nat.le_of_ble_eq_true rfl) (Nat.le_of_ble_eq_true rfl) ⟨_, _, rfl, rfl, h⟩
def lw_Loaf_leaving_3 (T : xT) (q : Nat → Nat) (a : Nat) (n v : Int32) (s : CS) (x1 : Int32) (x2 : Int32) (k : Int32 → CS → Prop) : Prop := k x1 s
theorem lk_Loaf_leaving_3 (l : Launch) (D : va_G) (T : xT) (q : Nat → Nat) (a : Nat) (n v : Int32) (s : CS) (x1 : Int32) (x2 : Int32) (k : Int32 → CS → Prop) (h : lw_Loaf_leaving_3 T q a n v s x1 x2 k) : XM l D T yX7_leaving cX7_leaving 3 (some .int) 1 0 0 [.ref a, .int x1, .int x2] (cw T q s) (cpostI T q k) := by
  refine XM.start (by decide +kernel) (Nat.le_of_ble_eq_true rfl) (fun Γ G X _ hl_ => ?_)
  subst hl_
  refine K.less [0, 1, 2] (lv' := [(0, .ref a), (1, .int x1), (2, .int x2)]) rfl ?_
  unfold lw_Loaf_leaving_3 at h
  refine k_iload_n G dX7_leaving_0 rfl ?_
  exact k_iret G X dX7_leaving_1 (Nat.le_of_ble_eq_true rfl) (Nat.le_of_ble_eq_true rfl) ⟨_, _, rfl, rfl, h⟩
def lw_Loaf_rises_3 (T : xT) (q : Nat → Nat) (a : Nat) (n v : Int32) (s : CS) (x1 : Int32) (k : Int32 → CS → Prop) : Prop := lofR q s a 3 n v ∧ ow_ran T q s 10 (fun s6 => lofR q s6 a 3 n v ∧ k ((x1 + n)) s6)
theorem lk_Loaf_rises_3 (l : Launch) (D : va_G) (T : xT) (q : Nat → Nat) (a : Nat) (n v : Int32) (s : CS) (x1 : Int32) (k : Int32 → CS → Prop) (h : lw_Loaf_rises_3 T q a n v s x1 k) : XM l D T yX7_rises cX7_rises 2 (some .int) 4 0 0 [.ref a, .int x1] (cw T q s) (cpostI T q k) := by
  refine XM.start (by decide +kernel) (Nat.le_of_ble_eq_true rfl) (fun Γ G X _ hl_ => ?_)
  subst hl_
  refine K.less [0, 1] (lv' := [(0, .ref a), (1, .int x1)]) rfl ?_
  unfold lw_Loaf_rises_3 at h
  refine k_aload_n G dX7_rises_0 rfl ?_
  obtain ⟨hl, h⟩ := h
  refine kl_get0 G hl (ref := "BakedBefore$Loaf") q384 (fun _ h => h) dX7_rises_1 ?_
  refine k_bipush G dX7_rises_4 kc_b_10 ?_
  refine kc_ran G (ok_ran _ D T q _ _ _ h) q1238 dX7_rises_6 (Nat.le_of_ble_eq_true rfl) (Nat.le_of_ble_eq_true rfl) ⟨Nat.le_of_ble_eq_true rfl, Nat.le_of_ble_eq_true rfl⟩ (fun s6 h => ?_)
  refine k_iload_n G dX7_rises_9 rfl ?_
  refine k_aload_n G dX7_rises_10 rfl ?_
  obtain ⟨hl, h⟩ := h
  refine kl_get1 G hl (ref := "BakedBefore$Loaf") q397 (fun _ h => h) dX7_rises_11 ?_
  refine k_iadd G dX7_rises_14 ?_
  exact k_iret G X dX7_rises_15 (Nat.le_of_ble_eq_true rfl) (Nat.le_of_ble_eq_true rfl) ⟨_, _, rfl, rfl, h⟩
theorem xu_Loaf_rises_3 : xU ⟨"BakedBefore$Loaf", "rises", "(I)I"⟩ "BakedBefore$Loaf" RX10 yX7_rises cX7_rises 2 (some .int) 1 := ⟨q1227, q1239, q1225, q97, q1237, (Or.inl ⟨q1225, _, _, _, q1237⟩), ⟨by decide +kernel, by decide +kernel, by decide +kernel⟩, by decide⟩
def lw_Loaf_bakes_3 (T : xT) (q : Nat → Nat) (a : Nat) (n v : Int32) (s : CS) (x1 : Int32) (k : Int32 → CS → Prop) : Prop := lofR q s a 3 n v ∧ ow_ran T q s 11 (fun s6 => lofR q s6 a 3 n v ∧ lw_Loaf_rises_3 T q a n v s6 x1 (fun r11 s11 => lofR q s11 a 3 n v ∧ k ((r11 - v)) s11))
theorem lk_Loaf_bakes_3 (l : Launch) (D : va_G) (T : xT) (q : Nat → Nat) (a : Nat) (n v : Int32) (s : CS) (x1 : Int32) (k : Int32 → CS → Prop) (h : lw_Loaf_bakes_3 T q a n v s x1 k) : XM l D T yX7_bakes cX7_bakes 2 (some .int) 6 0 0 [.ref a, .int x1] (cw T q s) (cpostI T q k) := by
  refine XM.start (by decide +kernel) (Nat.le_of_ble_eq_true rfl) (fun Γ G X _ hl_ => ?_)
  subst hl_
  refine K.less [0, 1] (lv' := [(0, .ref a), (1, .int x1)]) rfl ?_
  unfold lw_Loaf_bakes_3 at h
  refine k_aload_n G dX7_bakes_0 rfl ?_
  obtain ⟨hl, h⟩ := h
  refine kl_get0 G hl (ref := "BakedBefore$Loaf") q384 (fun _ h => h) dX7_bakes_1 ?_
  refine k_bipush G dX7_bakes_4 kc_b_11 ?_
  refine kc_ran G (ok_ran _ D T q _ _ _ h) q1238 dX7_bakes_6 (Nat.le_of_ble_eq_true rfl) (Nat.le_of_ble_eq_true rfl) ⟨Nat.le_of_ble_eq_true rfl, Nat.le_of_ble_eq_true rfl⟩ (fun s6 h => ?_)
  refine k_aload_n G dX7_bakes_9 rfl ?_
  refine k_iload_n G dX7_bakes_10 rfl ?_
  obtain ⟨hl, h⟩ := h
  refine kl_callU G hl (lk_Loaf_rises_3 _ D T q a n v _ _ _ h) (x := ⟨"BakedBefore$Loaf", "rises", "(I)I"⟩) (owner := "BakedBefore$Loaf") (C := RX10) rfl xu_Loaf_rises_3 q1264 dX7_bakes_11 rfl rfl (Nat.le_of_ble_eq_true rfl) (Nat.le_of_ble_eq_true rfl) ⟨Nat.le_of_ble_eq_true rfl, Nat.le_of_ble_eq_true rfl⟩ (fun r11 s11 h => ?_)
  refine k_aload_n G dX7_bakes_14 rfl ?_
  obtain ⟨hl, h⟩ := h
  refine kl_get2 G hl (ref := "BakedBefore$Loaf") q400 (fun _ h => h) dX7_bakes_15 ?_
  refine k_isub G dX7_bakes_18 ?_
  exact k_iret G X dX7_bakes_19 (Nat.le_of_ble_eq_true rfl) (Nat.le_of_ble_eq_true rfl) ⟨_, _, rfl, rfl, h⟩
theorem xu_Loaf_bakes_3 : xU ⟨"BakedBefore$Loaf", "bakes", "(I)I"⟩ "BakedBefore$Loaf" RX10 yX7_bakes cX7_bakes 2 (some .int) 1 := ⟨q1257, q1266, q1255, q97, q1263, (Or.inl ⟨q1255, _, _, _, q1263⟩), ⟨by decide +kernel, by decide +kernel, by decide +kernel⟩, by decide⟩
def lw_Loaf_tells_3 (T : xT) (q : Nat → Nat) (a : Nat) (n v : Int32) (s : CS) (x1 : Int32) (k : Int32 → CS → Prop) : Prop := lofR q s a 3 n v ∧ ow_ran T q s 12 (fun s6 => lofR q s6 a 3 n v ∧ lw_Loaf_bakes_3 T q a n v s6 x1 (fun r11 s11 => k ((r11 * 2)) s11))
theorem lk_Loaf_tells_3 (l : Launch) (D : va_G) (T : xT) (q : Nat → Nat) (a : Nat) (n v : Int32) (s : CS) (x1 : Int32) (k : Int32 → CS → Prop) (h : lw_Loaf_tells_3 T q a n v s x1 k) : XM l D T yX7_tells cX7_tells 2 (some .int) 8 0 0 [.ref a, .int x1] (cw T q s) (cpostI T q k) := by
  refine XM.start (by decide +kernel) (Nat.le_of_ble_eq_true rfl) (fun Γ G X _ hl_ => ?_)
  subst hl_
  refine K.less [0, 1] (lv' := [(0, .ref a), (1, .int x1)]) rfl ?_
  unfold lw_Loaf_tells_3 at h
  refine k_aload_n G dX7_tells_0 rfl ?_
  obtain ⟨hl, h⟩ := h
  refine kl_get0 G hl (ref := "BakedBefore$Loaf") q384 (fun _ h => h) dX7_tells_1 ?_
  refine k_bipush G dX7_tells_4 kc_b_12 ?_
  refine kc_ran G (ok_ran _ D T q _ _ _ h) q1238 dX7_tells_6 (Nat.le_of_ble_eq_true rfl) (Nat.le_of_ble_eq_true rfl) ⟨Nat.le_of_ble_eq_true rfl, Nat.le_of_ble_eq_true rfl⟩ (fun s6 h => ?_)
  refine k_aload_n G dX7_tells_9 rfl ?_
  refine k_iload_n G dX7_tells_10 rfl ?_
  obtain ⟨hl, h⟩ := h
  refine kl_callU G hl (lk_Loaf_bakes_3 _ D T q a n v _ _ _ h) (x := ⟨"BakedBefore$Loaf", "bakes", "(I)I"⟩) (owner := "BakedBefore$Loaf") (C := RX10) rfl xu_Loaf_bakes_3 q1290 dX7_tells_11 rfl rfl (Nat.le_of_ble_eq_true rfl) (Nat.le_of_ble_eq_true rfl) ⟨Nat.le_of_ble_eq_true rfl, Nat.le_of_ble_eq_true rfl⟩ (fun r11 s11 h => ?_)
  refine k_iconst G dX7_tells_14 kc_i_2 ?_
  refine k_imul G dX7_tells_15 ?_
  exact k_iret G X dX7_tells_16 (Nat.le_of_ble_eq_true rfl) (Nat.le_of_ble_eq_true rfl) ⟨_, _, rfl, rfl, h⟩
theorem su_Holy_Loaf_tells : xSU "BakedBefore$Holy" ⟨"BakedBefore$Loaf", "tells", "(I)I"⟩ "BakedBefore$Loaf" cX7_tells 2 (some .int) 1 := ⟨q1281, q434, (Or.inl rfl), q1279, q97, q1289, by decide +kernel, by decide +kernel, by decide⟩
theorem xu_Holy_bakes_3 : xU ⟨"BakedBefore$Holy", "bakes", "(I)I"⟩ "BakedBefore$Loaf" RX10 yX7_bakes cX7_bakes 2 (some .int) 1 := ⟨q1276, q1292, q1255, q97, q1263, (Or.inl ⟨q1255, _, _, _, q1263⟩), ⟨by decide +kernel, by decide +kernel, by decide +kernel⟩, by decide⟩
def lw_Holy_tells_3 (T : xT) (q : Nat → Nat) (a : Nat) (n v : Int32) (s : CS) (x1 : Int32) (k : Int32 → CS → Prop) : Prop := lofR q s a 3 n v ∧ ow_ran T q s 40 (fun s6 => lofR q s6 a 3 n v ∧ lw_Loaf_tells_3 T q a n v s6 x1 (fun r11 s11 => lofR q s11 a 3 n v ∧ lw_Loaf_bakes_3 T q a n v s11 1 (fun r18 s18 => k ((r11 + r18)) s18)))
theorem lk_Holy_tells_3 (l : Launch) (D : va_G) (T : xT) (q : Nat → Nat) (a : Nat) (n v : Int32) (s : CS) (x1 : Int32) (k : Int32 → CS → Prop) (h : lw_Holy_tells_3 T q a n v s x1 k) : XM l D T yX10_tells cX10_tells 3 (some .int) 10 0 0 [.ref a, .int x1] (cw T q s) (cpostI T q k) := by
  refine XM.start (by decide +kernel) (Nat.le_of_ble_eq_true rfl) (fun Γ G X _ hl_ => ?_)
  subst hl_
  refine K.less [0, 1] (lv' := [(0, .ref a), (1, .int x1)]) rfl ?_
  unfold lw_Holy_tells_3 at h
  refine k_aload_n G dX10_tells_0 rfl ?_
  obtain ⟨hl, h⟩ := h
  refine kl_get0 G hl (ref := "BakedBefore$Holy") q389 (x_samef (G.2.2.2.2.2.2.1 _ q390)) dX10_tells_1 ?_
  refine k_bipush G dX10_tells_4 kc_b_40 ?_
  refine kc_ran G (ok_ran _ D T q _ _ _ h) q1287 dX10_tells_6 (Nat.le_of_ble_eq_true rfl) (Nat.le_of_ble_eq_true rfl) ⟨Nat.le_of_ble_eq_true rfl, Nat.le_of_ble_eq_true rfl⟩ (fun s6 h => ?_)
  refine k_aload_n G dX10_tells_9 rfl ?_
  refine k_iload_n G dX10_tells_10 rfl ?_
  obtain ⟨hl, h⟩ := h
  refine kl_callSU G hl (lk_Loaf_tells_3 _ D T q a n v _ _ _ h) (x := ⟨"BakedBefore$Loaf", "tells", "(I)I"⟩) (owner := "BakedBefore$Loaf") su_Holy_Loaf_tells q1288 dX10_tells_11 rfl rfl (Nat.le_of_ble_eq_true rfl) (Nat.le_of_ble_eq_true rfl) ⟨Nat.le_of_ble_eq_true rfl, Nat.le_of_ble_eq_true rfl⟩ (fun r11 s11 h => ?_)
  refine k_istore_n G [(2, .int r11), (0, .ref a), (1, .int x1)] dX10_tells_14 rfl (Nat.le_of_ble_eq_true rfl) rfl ?_
  refine k_iload_n G dX10_tells_15 rfl ?_
  refine k_aload_n G dX10_tells_16 rfl ?_
  refine k_iconst G dX10_tells_17 kc_i_1 ?_
  obtain ⟨hl, h⟩ := h
  refine kl_callU G hl (lk_Loaf_bakes_3 _ D T q a n v _ _ _ h) (x := ⟨"BakedBefore$Holy", "bakes", "(I)I"⟩) (owner := "BakedBefore$Loaf") (C := RX10) rfl xu_Holy_bakes_3 q1291 dX10_tells_18 rfl rfl (Nat.le_of_ble_eq_true rfl) (Nat.le_of_ble_eq_true rfl) ⟨Nat.le_of_ble_eq_true rfl, Nat.le_of_ble_eq_true rfl⟩ (fun r18 s18 h => ?_)
  refine k_iadd G dX10_tells_21 ?_
  exact k_iret G X dX10_tells_22 (Nat.le_of_ble_eq_true rfl) (Nat.le_of_ble_eq_true rfl) ⟨_, _, rfl, rfl, h⟩
def lw_Rye_kind_4 (T : xT) (q : Nat → Nat) (a : Nat) (n v : Int32) (s : CS) (k : Int32 → CS → Prop) : Prop := k 4 s
theorem lk_Rye_kind_4 (l : Launch) (D : va_G) (T : xT) (q : Nat → Nat) (a : Nat) (n v : Int32) (s : CS) (k : Int32 → CS → Prop) (h : lw_Rye_kind_4 T q a n v s k) : XM l D T yX11_kind cX11_kind 1 (some .int) 1 0 0 [.ref a] (cw T q s) (cpostI T q k) := by
  refine XM.start (by decide +kernel) (Nat.le_of_ble_eq_true rfl) (fun Γ G X _ hl_ => ?_)
  subst hl_
  refine K.less [0] (lv' := [(0, .ref a)]) rfl ?_
  unfold lw_Rye_kind_4 at h
  refine k_iconst G dX11_kind_0 kc_i_4 ?_
  exact k_iret G X dX11_kind_1 (Nat.le_of_ble_eq_true rfl) (Nat.le_of_ble_eq_true rfl) ⟨_, _, rfl, rfl, h⟩
def lw_Clean_taking_4 (T : xT) (q : Nat → Nat) (a : Nat) (n v : Int32) (s : CS) (x1 : Int32) (x2 : Int32) (x3 : Int32) (k : Int32 → CS → Prop) : Prop := k x1 s
theorem lk_Clean_taking_4 (l : Launch) (D : va_G) (T : xT) (q : Nat → Nat) (a : Nat) (n v : Int32) (s : CS) (x1 : Int32) (x2 : Int32) (x3 : Int32) (k : Int32 → CS → Prop) (h : lw_Clean_taking_4 T q a n v s x1 x2 x3 k) : XM l D T yX8_taking cX8_taking 4 (some .int) 1 0 0 [.ref a, .int x1, .int x2, .int x3] (cw T q s) (cpostI T q k) := by
  refine XM.start (by decide +kernel) (Nat.le_of_ble_eq_true rfl) (fun Γ G X _ hl_ => ?_)
  subst hl_
  refine K.less [0, 1, 2, 3] (lv' := [(0, .ref a), (1, .int x1), (2, .int x2), (3, .int x3)]) rfl ?_
  unfold lw_Clean_taking_4 at h
  refine k_iload_n G dX8_taking_0 rfl ?_
  exact k_iret G X dX8_taking_1 (Nat.le_of_ble_eq_true rfl) (Nat.le_of_ble_eq_true rfl) ⟨_, _, rfl, rfl, h⟩
theorem su_Rye_Clean_taking : xSU "BakedBefore$Rye" ⟨"BakedBefore$Clean", "taking", "(III)I"⟩ "BakedBefore$Clean" cX8_taking 4 (some .int) 3 := ⟨q1859, q444, (Or.inl rfl), q589, q98, q590, by decide +kernel, by decide +kernel, by decide⟩
def lw_Rye_taking_4 (T : xT) (q : Nat → Nat) (a : Nat) (n v : Int32) (s : CS) (x1 : Int32) (x2 : Int32) (x3 : Int32) (k : Int32 → CS → Prop) : Prop := lofR q s a 4 n v ∧ lw_Clean_taking_4 T q a n v s x1 x2 x3 (fun r4 s4 => lofR q s4 a 4 n v ∧ k ((r4 - v)) s4)
theorem lk_Rye_taking_4 (l : Launch) (D : va_G) (T : xT) (q : Nat → Nat) (a : Nat) (n v : Int32) (s : CS) (x1 : Int32) (x2 : Int32) (x3 : Int32) (k : Int32 → CS → Prop) (h : lw_Rye_taking_4 T q a n v s x1 x2 x3 k) : XM l D T yX11_taking cX11_taking 4 (some .int) 3 0 0 [.ref a, .int x1, .int x2, .int x3] (cw T q s) (cpostI T q k) := by
  refine XM.start (by decide +kernel) (Nat.le_of_ble_eq_true rfl) (fun Γ G X _ hl_ => ?_)
  subst hl_
  refine K.less [0, 1, 2, 3] (lv' := [(0, .ref a), (1, .int x1), (2, .int x2), (3, .int x3)]) rfl ?_
  unfold lw_Rye_taking_4 at h
  refine k_aload_n G dX11_taking_0 rfl ?_
  refine k_iload_n G dX11_taking_1 rfl ?_
  refine k_iload_n G dX11_taking_2 rfl ?_
  refine k_iload_n G dX11_taking_3 rfl ?_
  obtain ⟨hl, h⟩ := h
  refine kl_callSU G hl (lk_Clean_taking_4 _ D T q a n v _ _ _ _ _ h) (x := ⟨"BakedBefore$Clean", "taking", "(III)I"⟩) (owner := "BakedBefore$Clean") su_Rye_Clean_taking q607 dX11_taking_4 rfl rfl (Nat.le_of_ble_eq_true rfl) (Nat.le_of_ble_eq_true rfl) ⟨Nat.le_of_ble_eq_true rfl, Nat.le_of_ble_eq_true rfl⟩ (fun r4 s4 h => ?_)
  refine k_aload_n G dX11_taking_7 rfl ?_
  obtain ⟨hl, h⟩ := h
  refine kl_get2 G hl (ref := "BakedBefore$Rye") q401 (x_samef (G.2.2.2.2.2.2.1 _ q402)) dX11_taking_8 ?_
  refine k_isub G dX11_taking_11 ?_
  exact k_iret G X dX11_taking_12 (Nat.le_of_ble_eq_true rfl) (Nat.le_of_ble_eq_true rfl) ⟨_, _, rfl, rfl, h⟩
def lw_Clean_leaving_4 (T : xT) (q : Nat → Nat) (a : Nat) (n v : Int32) (s : CS) (x1 : Int32) (x2 : Int32) (k : Int32 → CS → Prop) : Prop := k 0 s
theorem lk_Clean_leaving_4 (l : Launch) (D : va_G) (T : xT) (q : Nat → Nat) (a : Nat) (n v : Int32) (s : CS) (x1 : Int32) (x2 : Int32) (k : Int32 → CS → Prop) (h : lw_Clean_leaving_4 T q a n v s x1 x2 k) : XM l D T yX8_leaving cX8_leaving 3 (some .int) 1 0 0 [.ref a, .int x1, .int x2] (cw T q s) (cpostI T q k) := by
  refine XM.start (by decide +kernel) (Nat.le_of_ble_eq_true rfl) (fun Γ G X _ hl_ => ?_)
  subst hl_
  refine K.less [0, 1, 2] (lv' := [(0, .ref a), (1, .int x1), (2, .int x2)]) rfl ?_
  unfold lw_Clean_leaving_4 at h
  refine k_iconst G dX8_leaving_0 kc_i_0 ?_
  exact k_iret G X dX8_leaving_1 (Nat.le_of_ble_eq_true rfl) (Nat.le_of_ble_eq_true rfl) ⟨_, _, rfl, rfl, h⟩
def lw_Loaf_rises_4 (T : xT) (q : Nat → Nat) (a : Nat) (n v : Int32) (s : CS) (x1 : Int32) (k : Int32 → CS → Prop) : Prop := lofR q s a 4 n v ∧ ow_ran T q s 10 (fun s6 => lofR q s6 a 4 n v ∧ k ((x1 + n)) s6)
theorem lk_Loaf_rises_4 (l : Launch) (D : va_G) (T : xT) (q : Nat → Nat) (a : Nat) (n v : Int32) (s : CS) (x1 : Int32) (k : Int32 → CS → Prop) (h : lw_Loaf_rises_4 T q a n v s x1 k) : XM l D T yX7_rises cX7_rises 2 (some .int) 4 0 0 [.ref a, .int x1] (cw T q s) (cpostI T q k) := by
  refine XM.start (by decide +kernel) (Nat.le_of_ble_eq_true rfl) (fun Γ G X _ hl_ => ?_)
  subst hl_
  refine K.less [0, 1] (lv' := [(0, .ref a), (1, .int x1)]) rfl ?_
  unfold lw_Loaf_rises_4 at h
  refine k_aload_n G dX7_rises_0 rfl ?_
  obtain ⟨hl, h⟩ := h
  refine kl_get0 G hl (ref := "BakedBefore$Loaf") q384 (fun _ h => h) dX7_rises_1 ?_
  refine k_bipush G dX7_rises_4 kc_b_10 ?_
  refine kc_ran G (ok_ran _ D T q _ _ _ h) q1238 dX7_rises_6 (Nat.le_of_ble_eq_true rfl) (Nat.le_of_ble_eq_true rfl) ⟨Nat.le_of_ble_eq_true rfl, Nat.le_of_ble_eq_true rfl⟩ (fun s6 h => ?_)
  refine k_iload_n G dX7_rises_9 rfl ?_
  refine k_aload_n G dX7_rises_10 rfl ?_
  obtain ⟨hl, h⟩ := h
  refine kl_get1 G hl (ref := "BakedBefore$Loaf") q397 (fun _ h => h) dX7_rises_11 ?_
  refine k_iadd G dX7_rises_14 ?_
  exact k_iret G X dX7_rises_15 (Nat.le_of_ble_eq_true rfl) (Nat.le_of_ble_eq_true rfl) ⟨_, _, rfl, rfl, h⟩
theorem su_Rye_Clean_rises : xSU "BakedBefore$Rye" ⟨"BakedBefore$Clean", "rises", "(I)I"⟩ "BakedBefore$Loaf" cX7_rises 2 (some .int) 1 := ⟨q1246, q444, (Or.inr q414), q1225, q97, q1237, by decide +kernel, by decide +kernel, by decide⟩
def lw_Rye_rises_4 (T : xT) (q : Nat → Nat) (a : Nat) (n v : Int32) (s : CS) (x1 : Int32) (k : Int32 → CS → Prop) : Prop := lofR q s a 4 n v ∧ ow_ran T q s 50 (fun s6 => lofR q s6 a 4 n v ∧ lw_Loaf_rises_4 T q a n v s6 x1 (fun r11 s11 => k ((-r11)) s11))
theorem lk_Rye_rises_4 (l : Launch) (D : va_G) (T : xT) (q : Nat → Nat) (a : Nat) (n v : Int32) (s : CS) (x1 : Int32) (k : Int32 → CS → Prop) (h : lw_Rye_rises_4 T q a n v s x1 k) : XM l D T yX11_rises cX11_rises 2 (some .int) 6 0 0 [.ref a, .int x1] (cw T q s) (cpostI T q k) := by
  refine XM.start (by decide +kernel) (Nat.le_of_ble_eq_true rfl) (fun Γ G X _ hl_ => ?_)
  subst hl_
  refine K.less [0, 1] (lv' := [(0, .ref a), (1, .int x1)]) rfl ?_
  unfold lw_Rye_rises_4 at h
  refine k_aload_n G dX11_rises_0 rfl ?_
  obtain ⟨hl, h⟩ := h
  refine kl_get0 G hl (ref := "BakedBefore$Rye") q387 (x_samef (G.2.2.2.2.2.2.1 _ q388)) dX11_rises_1 ?_
  refine k_bipush G dX11_rises_4 kc_b_50 ?_
  refine kc_ran G (ok_ran _ D T q _ _ _ h) q1244 dX11_rises_6 (Nat.le_of_ble_eq_true rfl) (Nat.le_of_ble_eq_true rfl) ⟨Nat.le_of_ble_eq_true rfl, Nat.le_of_ble_eq_true rfl⟩ (fun s6 h => ?_)
  refine k_aload_n G dX11_rises_9 rfl ?_
  refine k_iload_n G dX11_rises_10 rfl ?_
  obtain ⟨hl, h⟩ := h
  refine kl_callSU G hl (lk_Loaf_rises_4 _ D T q a n v _ _ _ h) (x := ⟨"BakedBefore$Clean", "rises", "(I)I"⟩) (owner := "BakedBefore$Loaf") su_Rye_Clean_rises q1245 dX11_rises_11 rfl rfl (Nat.le_of_ble_eq_true rfl) (Nat.le_of_ble_eq_true rfl) ⟨Nat.le_of_ble_eq_true rfl, Nat.le_of_ble_eq_true rfl⟩ (fun r11 s11 h => ?_)
  refine k_ineg G dX11_rises_14 ?_
  exact k_iret G X dX11_rises_15 (Nat.le_of_ble_eq_true rfl) (Nat.le_of_ble_eq_true rfl) ⟨_, _, rfl, rfl, h⟩
theorem xu_Loaf_rises_4 : xU ⟨"BakedBefore$Loaf", "rises", "(I)I"⟩ "BakedBefore$Loaf" RX11 yX11_rises cX11_rises 2 (some .int) 1 := ⟨q1227, q1241, q1242, q101, q1243, (Or.inl ⟨q1225, _, _, _, q1237⟩), ⟨by decide +kernel, by decide +kernel, by decide +kernel⟩, by decide⟩
def lw_Loaf_bakes_4 (T : xT) (q : Nat → Nat) (a : Nat) (n v : Int32) (s : CS) (x1 : Int32) (k : Int32 → CS → Prop) : Prop := lofR q s a 4 n v ∧ ow_ran T q s 11 (fun s6 => lofR q s6 a 4 n v ∧ lw_Rye_rises_4 T q a n v s6 x1 (fun r11 s11 => lofR q s11 a 4 n v ∧ k ((r11 - v)) s11))
theorem lk_Loaf_bakes_4 (l : Launch) (D : va_G) (T : xT) (q : Nat → Nat) (a : Nat) (n v : Int32) (s : CS) (x1 : Int32) (k : Int32 → CS → Prop) (h : lw_Loaf_bakes_4 T q a n v s x1 k) : XM l D T yX7_bakes cX7_bakes 2 (some .int) 8 0 0 [.ref a, .int x1] (cw T q s) (cpostI T q k) := by
  refine XM.start (by decide +kernel) (Nat.le_of_ble_eq_true rfl) (fun Γ G X _ hl_ => ?_)
  subst hl_
  refine K.less [0, 1] (lv' := [(0, .ref a), (1, .int x1)]) rfl ?_
  unfold lw_Loaf_bakes_4 at h
  refine k_aload_n G dX7_bakes_0 rfl ?_
  obtain ⟨hl, h⟩ := h
  refine kl_get0 G hl (ref := "BakedBefore$Loaf") q384 (fun _ h => h) dX7_bakes_1 ?_
  refine k_bipush G dX7_bakes_4 kc_b_11 ?_
  refine kc_ran G (ok_ran _ D T q _ _ _ h) q1238 dX7_bakes_6 (Nat.le_of_ble_eq_true rfl) (Nat.le_of_ble_eq_true rfl) ⟨Nat.le_of_ble_eq_true rfl, Nat.le_of_ble_eq_true rfl⟩ (fun s6 h => ?_)
  refine k_aload_n G dX7_bakes_9 rfl ?_
  refine k_iload_n G dX7_bakes_10 rfl ?_
  obtain ⟨hl, h⟩ := h
  refine kl_callU G hl (lk_Rye_rises_4 _ D T q a n v _ _ _ h) (x := ⟨"BakedBefore$Loaf", "rises", "(I)I"⟩) (owner := "BakedBefore$Loaf") (C := RX11) rfl xu_Loaf_rises_4 q1264 dX7_bakes_11 rfl rfl (Nat.le_of_ble_eq_true rfl) (Nat.le_of_ble_eq_true rfl) ⟨Nat.le_of_ble_eq_true rfl, Nat.le_of_ble_eq_true rfl⟩ (fun r11 s11 h => ?_)
  refine k_aload_n G dX7_bakes_14 rfl ?_
  obtain ⟨hl, h⟩ := h
  refine kl_get2 G hl (ref := "BakedBefore$Loaf") q400 (fun _ h => h) dX7_bakes_15 ?_
  refine k_isub G dX7_bakes_18 ?_
  exact k_iret G X dX7_bakes_19 (Nat.le_of_ble_eq_true rfl) (Nat.le_of_ble_eq_true rfl) ⟨_, _, rfl, rfl, h⟩
def lw_Clean_bakes_4 (T : xT) (q : Nat → Nat) (a : Nat) (n v : Int32) (s : CS) (x1 : Int32) (k : Int32 → CS → Prop) : Prop := lofR q s a 4 n v ∧ ow_ran T q s 20 (fun s6 => lofR q s6 a 4 n v ∧ lw_Loaf_bakes_4 T q a n v s6 x1 (fun r11 s11 => k ((r11 ^^^ 6)) s11))
theorem lk_Clean_bakes_4 (l : Launch) (D : va_G) (T : xT) (q : Nat → Nat) (a : Nat) (n v : Int32) (s : CS) (x1 : Int32) (k : Int32 → CS → Prop) (h : lw_Clean_bakes_4 T q a n v s x1 k) : XM l D T yX8_bakes cX8_bakes 2 (some .int) 10 0 0 [.ref a, .int x1] (cw T q s) (cpostI T q k) := by
  refine XM.start (by decide +kernel) (Nat.le_of_ble_eq_true rfl) (fun Γ G X _ hl_ => ?_)
  subst hl_
  refine K.less [0, 1] (lv' := [(0, .ref a), (1, .int x1)]) rfl ?_
  unfold lw_Clean_bakes_4 at h
  refine k_aload_n G dX8_bakes_0 rfl ?_
  obtain ⟨hl, h⟩ := h
  refine kl_get0 G hl (ref := "BakedBefore$Clean") q393 (x_samef (G.2.2.2.2.2.2.1 _ q394)) dX8_bakes_1 ?_
  refine k_bipush G dX8_bakes_4 kc_b_20 ?_
  refine kc_ran G (ok_ran _ D T q _ _ _ h) q1261 dX8_bakes_6 (Nat.le_of_ble_eq_true rfl) (Nat.le_of_ble_eq_true rfl) ⟨Nat.le_of_ble_eq_true rfl, Nat.le_of_ble_eq_true rfl⟩ (fun s6 h => ?_)
  refine k_aload_n G dX8_bakes_9 rfl ?_
  refine k_iload_n G dX8_bakes_10 rfl ?_
  obtain ⟨hl, h⟩ := h
  refine kl_callSU G hl (lk_Loaf_bakes_4 _ D T q a n v _ _ _ h) (x := ⟨"BakedBefore$Loaf", "bakes", "(I)I"⟩) (owner := "BakedBefore$Loaf") su_Clean_Loaf_bakes q1262 dX8_bakes_11 rfl rfl (Nat.le_of_ble_eq_true rfl) (Nat.le_of_ble_eq_true rfl) ⟨Nat.le_of_ble_eq_true rfl, Nat.le_of_ble_eq_true rfl⟩ (fun r11 s11 h => ?_)
  refine k_bipush G dX8_bakes_14 kc_b_6 ?_
  refine k_ixor G dX8_bakes_16 ?_
  exact k_iret G X dX8_bakes_17 (Nat.le_of_ble_eq_true rfl) (Nat.le_of_ble_eq_true rfl) ⟨_, _, rfl, rfl, h⟩
theorem su_Rye_Clean_bakes : xSU "BakedBefore$Rye" ⟨"BakedBefore$Clean", "bakes", "(I)I"⟩ "BakedBefore$Clean" cX8_bakes 2 (some .int) 1 := ⟨q1862, q444, (Or.inl rfl), q1259, q98, q1260, by decide +kernel, by decide +kernel, by decide⟩
def lw_Rye_bakes_4 (T : xT) (q : Nat → Nat) (a : Nat) (n v : Int32) (s : CS) (x1 : Int32) (k : Int32 → CS → Prop) : Prop := lofR q s a 4 n v ∧ ow_ran T q s 51 (fun s6 => lofR q s6 a 4 n v ∧ lw_Clean_bakes_4 T q a n v s6 ((x1 + 1)) (fun r13 s13 => k r13 s13))
theorem lk_Rye_bakes_4 (l : Launch) (D : va_G) (T : xT) (q : Nat → Nat) (a : Nat) (n v : Int32) (s : CS) (x1 : Int32) (k : Int32 → CS → Prop) (h : lw_Rye_bakes_4 T q a n v s x1 k) : XM l D T yX11_bakes cX11_bakes 2 (some .int) 12 0 0 [.ref a, .int x1] (cw T q s) (cpostI T q k) := by
  refine XM.start (by decide +kernel) (Nat.le_of_ble_eq_true rfl) (fun Γ G X _ hl_ => ?_)
  subst hl_
  refine K.less [0, 1] (lv' := [(0, .ref a), (1, .int x1)]) rfl ?_
  unfold lw_Rye_bakes_4 at h
  refine k_aload_n G dX11_bakes_0 rfl ?_
  obtain ⟨hl, h⟩ := h
  refine kl_get0 G hl (ref := "BakedBefore$Rye") q387 (x_samef (G.2.2.2.2.2.2.1 _ q388)) dX11_bakes_1 ?_
  refine k_bipush G dX11_bakes_4 kc_b_51 ?_
  refine kc_ran G (ok_ran _ D T q _ _ _ h) q1244 dX11_bakes_6 (Nat.le_of_ble_eq_true rfl) (Nat.le_of_ble_eq_true rfl) ⟨Nat.le_of_ble_eq_true rfl, Nat.le_of_ble_eq_true rfl⟩ (fun s6 h => ?_)
  refine k_aload_n G dX11_bakes_9 rfl ?_
  refine k_iload_n G dX11_bakes_10 rfl ?_
  refine k_iconst G dX11_bakes_11 kc_i_1 ?_
  refine k_iadd G dX11_bakes_12 ?_
  obtain ⟨hl, h⟩ := h
  refine kl_callSU G hl (lk_Clean_bakes_4 _ D T q a n v _ _ _ h) (x := ⟨"BakedBefore$Clean", "bakes", "(I)I"⟩) (owner := "BakedBefore$Clean") su_Rye_Clean_bakes q1271 dX11_bakes_13 rfl rfl (Nat.le_of_ble_eq_true rfl) (Nat.le_of_ble_eq_true rfl) ⟨Nat.le_of_ble_eq_true rfl, Nat.le_of_ble_eq_true rfl⟩ (fun r13 s13 h => ?_)
  exact k_iret G X dX11_bakes_16 (Nat.le_of_ble_eq_true rfl) (Nat.le_of_ble_eq_true rfl) ⟨_, _, rfl, rfl, h⟩
theorem xu_Loaf_bakes_4 : xU ⟨"BakedBefore$Loaf", "bakes", "(I)I"⟩ "BakedBefore$Loaf" RX11 yX11_bakes cX11_bakes 2 (some .int) 1 := ⟨q1257, q1268, q1269, q101, q1270, (Or.inl ⟨q1255, _, _, _, q1263⟩), ⟨by decide +kernel, by decide +kernel, by decide +kernel⟩, by decide⟩
def lw_Loaf_tells_4 (T : xT) (q : Nat → Nat) (a : Nat) (n v : Int32) (s : CS) (x1 : Int32) (k : Int32 → CS → Prop) : Prop := lofR q s a 4 n v ∧ ow_ran T q s 12 (fun s6 => lofR q s6 a 4 n v ∧ lw_Rye_bakes_4 T q a n v s6 x1 (fun r11 s11 => k ((r11 * 2)) s11))
theorem lk_Loaf_tells_4 (l : Launch) (D : va_G) (T : xT) (q : Nat → Nat) (a : Nat) (n v : Int32) (s : CS) (x1 : Int32) (k : Int32 → CS → Prop) (h : lw_Loaf_tells_4 T q a n v s x1 k) : XM l D T yX7_tells cX7_tells 2 (some .int) 14 0 0 [.ref a, .int x1] (cw T q s) (cpostI T q k) := by
  refine XM.start (by decide +kernel) (Nat.le_of_ble_eq_true rfl) (fun Γ G X _ hl_ => ?_)
  subst hl_
  refine K.less [0, 1] (lv' := [(0, .ref a), (1, .int x1)]) rfl ?_
  unfold lw_Loaf_tells_4 at h
  refine k_aload_n G dX7_tells_0 rfl ?_
  obtain ⟨hl, h⟩ := h
  refine kl_get0 G hl (ref := "BakedBefore$Loaf") q384 (fun _ h => h) dX7_tells_1 ?_
  refine k_bipush G dX7_tells_4 kc_b_12 ?_
  refine kc_ran G (ok_ran _ D T q _ _ _ h) q1238 dX7_tells_6 (Nat.le_of_ble_eq_true rfl) (Nat.le_of_ble_eq_true rfl) ⟨Nat.le_of_ble_eq_true rfl, Nat.le_of_ble_eq_true rfl⟩ (fun s6 h => ?_)
  refine k_aload_n G dX7_tells_9 rfl ?_
  refine k_iload_n G dX7_tells_10 rfl ?_
  obtain ⟨hl, h⟩ := h
  refine kl_callU G hl (lk_Rye_bakes_4 _ D T q a n v _ _ _ h) (x := ⟨"BakedBefore$Loaf", "bakes", "(I)I"⟩) (owner := "BakedBefore$Loaf") (C := RX11) rfl xu_Loaf_bakes_4 q1290 dX7_tells_11 rfl rfl (Nat.le_of_ble_eq_true rfl) (Nat.le_of_ble_eq_true rfl) ⟨Nat.le_of_ble_eq_true rfl, Nat.le_of_ble_eq_true rfl⟩ (fun r11 s11 h => ?_)
  refine k_iconst G dX7_tells_14 kc_i_2 ?_
  refine k_imul G dX7_tells_15 ?_
  exact k_iret G X dX7_tells_16 (Nat.le_of_ble_eq_true rfl) (Nat.le_of_ble_eq_true rfl) ⟨_, _, rfl, rfl, h⟩
def lw_Poisoned_kind_5 (T : xT) (q : Nat → Nat) (a : Nat) (n v : Int32) (s : CS) (k : Int32 → CS → Prop) : Prop := k 5 s
theorem lk_Poisoned_kind_5 (l : Launch) (D : va_G) (T : xT) (q : Nat → Nat) (a : Nat) (n v : Int32) (s : CS) (k : Int32 → CS → Prop) (h : lw_Poisoned_kind_5 T q a n v s k) : XM l D T yX12_kind cX12_kind 1 (some .int) 1 0 0 [.ref a] (cw T q s) (cpostI T q k) := by
  refine XM.start (by decide +kernel) (Nat.le_of_ble_eq_true rfl) (fun Γ G X _ hl_ => ?_)
  subst hl_
  refine K.less [0] (lv' := [(0, .ref a)]) rfl ?_
  unfold lw_Poisoned_kind_5 at h
  refine k_iconst G dX12_kind_0 kc_i_5 ?_
  exact k_iret G X dX12_kind_1 (Nat.le_of_ble_eq_true rfl) (Nat.le_of_ble_eq_true rfl) ⟨_, _, rfl, rfl, h⟩
def lw_Loaf_taking_5 (T : xT) (q : Nat → Nat) (a : Nat) (n v : Int32) (s : CS) (x1 : Int32) (x2 : Int32) (x3 : Int32) (k : Int32 → CS → Prop) : Prop := k (((x1 * x2) / 100)) s
theorem lk_Loaf_taking_5 (l : Launch) (D : va_G) (T : xT) (q : Nat → Nat) (a : Nat) (n v : Int32) (s : CS) (x1 : Int32) (x2 : Int32) (x3 : Int32) (k : Int32 → CS → Prop) (h : lw_Loaf_taking_5 T q a n v s x1 x2 x3 k) : XM l D T yX7_taking cX7_taking 4 (some .int) 1 0 0 [.ref a, .int x1, .int x2, .int x3] (cw T q s) (cpostI T q k) := by
  refine XM.start (by decide +kernel) (Nat.le_of_ble_eq_true rfl) (fun Γ G X _ hl_ => ?_)
  subst hl_
  refine K.less [0, 1, 2, 3] (lv' := [(0, .ref a), (1, .int x1), (2, .int x2), (3, .int x3)]) rfl ?_
  unfold lw_Loaf_taking_5 at h
  refine k_iload_n G dX7_taking_0 rfl ?_
  refine k_iload_n G dX7_taking_1 rfl ?_
  refine k_imul G dX7_taking_2 ?_
  refine k_bipush G dX7_taking_3 kc_b_100 ?_
  refine k_idiv G dX7_taking_5 (by decide) ?_
  exact k_iret G X dX7_taking_6 (Nat.le_of_ble_eq_true rfl) (Nat.le_of_ble_eq_true rfl) ⟨_, _, rfl, rfl, h⟩
def lw_Greedy_taking_5 (T : xT) (q : Nat → Nat) (a : Nat) (n v : Int32) (s : CS) (x1 : Int32) (x2 : Int32) (x3 : Int32) (k : Int32 → CS → Prop) : Prop := lofR q s a 5 n v ∧ lw_Loaf_taking_5 T q a n v s x1 x2 x3 (fun r5 s5 => k ((2 * r5)) s5)
theorem lk_Greedy_taking_5 (l : Launch) (D : va_G) (T : xT) (q : Nat → Nat) (a : Nat) (n v : Int32) (s : CS) (x1 : Int32) (x2 : Int32) (x3 : Int32) (k : Int32 → CS → Prop) (h : lw_Greedy_taking_5 T q a n v s x1 x2 x3 k) : XM l D T yX9_taking cX9_taking 4 (some .int) 3 0 0 [.ref a, .int x1, .int x2, .int x3] (cw T q s) (cpostI T q k) := by
  refine XM.start (by decide +kernel) (Nat.le_of_ble_eq_true rfl) (fun Γ G X _ hl_ => ?_)
  subst hl_
  refine K.less [0, 1, 2, 3] (lv' := [(0, .ref a), (1, .int x1), (2, .int x2), (3, .int x3)]) rfl ?_
  unfold lw_Greedy_taking_5 at h
  refine k_iconst G dX9_taking_0 kc_i_2 ?_
  refine k_aload_n G dX9_taking_1 rfl ?_
  refine k_iload_n G dX9_taking_2 rfl ?_
  refine k_iload_n G dX9_taking_3 rfl ?_
  refine k_iload_n G dX9_taking_4 rfl ?_
  obtain ⟨hl, h⟩ := h
  refine kl_callSU G hl (lk_Loaf_taking_5 _ D T q a n v _ _ _ _ _ h) (x := ⟨"BakedBefore$Loaf", "taking", "(III)I"⟩) (owner := "BakedBefore$Loaf") su_Greedy_Loaf_taking q594 dX9_taking_5 rfl rfl (Nat.le_of_ble_eq_true rfl) (Nat.le_of_ble_eq_true rfl) ⟨Nat.le_of_ble_eq_true rfl, Nat.le_of_ble_eq_true rfl⟩ (fun r5 s5 h => ?_)
  refine k_imul G dX9_taking_8 ?_
  exact k_iret G X dX9_taking_9 (Nat.le_of_ble_eq_true rfl) (Nat.le_of_ble_eq_true rfl) ⟨_, _, rfl, rfl, h⟩
def lw_Loaf_leaving_5 (T : xT) (q : Nat → Nat) (a : Nat) (n v : Int32) (s : CS) (x1 : Int32) (x2 : Int32) (k : Int32 → CS → Prop) : Prop := k x1 s
theorem lk_Loaf_leaving_5 (l : Launch) (D : va_G) (T : xT) (q : Nat → Nat) (a : Nat) (n v : Int32) (s : CS) (x1 : Int32) (x2 : Int32) (k : Int32 → CS → Prop) (h : lw_Loaf_leaving_5 T q a n v s x1 x2 k) : XM l D T yX7_leaving cX7_leaving 3 (some .int) 1 0 0 [.ref a, .int x1, .int x2] (cw T q s) (cpostI T q k) := by
  refine XM.start (by decide +kernel) (Nat.le_of_ble_eq_true rfl) (fun Γ G X _ hl_ => ?_)
  subst hl_
  refine K.less [0, 1, 2] (lv' := [(0, .ref a), (1, .int x1), (2, .int x2)]) rfl ?_
  unfold lw_Loaf_leaving_5 at h
  refine k_iload_n G dX7_leaving_0 rfl ?_
  exact k_iret G X dX7_leaving_1 (Nat.le_of_ble_eq_true rfl) (Nat.le_of_ble_eq_true rfl) ⟨_, _, rfl, rfl, h⟩
theorem su_Poisoned_Greedy_leaving : xSU "BakedBefore$Poisoned" ⟨"BakedBefore$Greedy", "leaving", "(II)I"⟩ "BakedBefore$Loaf" cX7_leaving 3 (some .int) 2 := ⟨q637, q454, (Or.inr q424), q625, q97, q639, by decide +kernel, by decide +kernel, by decide⟩
def lw_Poisoned_leaving_5 (T : xT) (q : Nat → Nat) (a : Nat) (n v : Int32) (s : CS) (x1 : Int32) (x2 : Int32) (k : Int32 → CS → Prop) : Prop := lofR q s a 5 n v ∧ lw_Loaf_leaving_5 T q a n v s x1 x2 (fun r3 s3 => (¬ x2 = 0 → k ((r3 + 0)) s3) ∧ (x2 = 0 → lofR q s3 a 5 n v ∧ k ((r3 + v)) s3))
theorem lk_Poisoned_leaving_5 (l : Launch) (D : va_G) (T : xT) (q : Nat → Nat) (a : Nat) (n v : Int32) (s : CS) (x1 : Int32) (x2 : Int32) (k : Int32 → CS → Prop) (h : lw_Poisoned_leaving_5 T q a n v s x1 x2 k) : XM l D T yX12_leaving cX12_leaving 3 (some .int) 3 0 0 [.ref a, .int x1, .int x2] (cw T q s) (cpostI T q k) := by
  refine XM.start (by decide +kernel) (Nat.le_of_ble_eq_true rfl) (fun Γ G X _ hl_ => ?_)
  subst hl_
  refine K.less [0, 1, 2] (lv' := [(0, .ref a), (1, .int x1), (2, .int x2)]) rfl ?_
  unfold lw_Poisoned_leaving_5 at h
  refine k_aload_n G dX12_leaving_0 rfl ?_
  refine k_iload_n G dX12_leaving_1 rfl ?_
  refine k_iload_n G dX12_leaving_2 rfl ?_
  obtain ⟨hl, h⟩ := h
  refine kl_callSU G hl (lk_Loaf_leaving_5 _ D T q a n v _ _ _ _ h) (x := ⟨"BakedBefore$Greedy", "leaving", "(II)I"⟩) (owner := "BakedBefore$Loaf") su_Poisoned_Greedy_leaving q636 dX12_leaving_3 rfl rfl (Nat.le_of_ble_eq_true rfl) (Nat.le_of_ble_eq_true rfl) ⟨Nat.le_of_ble_eq_true rfl, Nat.le_of_ble_eq_true rfl⟩ (fun r3 s3 h => ?_)
  refine k_iload_n G dX12_leaving_6 rfl ?_
  obtain ⟨hA, hB⟩ := h
  refine k_if_ne G 17 dX12_leaving_7 (by decide) (fun c7 => ?_) (fun c7 => ?_)
  · have h := hA c7
    clear hA hB
    refine k_iconst G dX12_leaving_17 kc_i_0 ?_
    refine k_iadd G dX12_leaving_18 ?_
    exact k_iret G X dX12_leaving_19 (Nat.le_of_ble_eq_true rfl) (Nat.le_of_ble_eq_true rfl) ⟨_, _, rfl, rfl, h⟩
  · have h := hB c7
    clear hA hB
    refine k_aload_n G dX12_leaving_10 rfl ?_
    obtain ⟨hl, h⟩ := h
    refine kl_get2 G hl (ref := "BakedBefore$Poisoned") q403 (x_samef (G.2.2.2.2.2.2.1 _ q404)) dX12_leaving_11 ?_
    refine k_goto G 18 dX12_leaving_14 (by decide) ?_
    refine k_iadd G dX12_leaving_18 ?_
    exact k_iret G X dX12_leaving_19 (Nat.le_of_ble_eq_true rfl) (Nat.le_of_ble_eq_true rfl) ⟨_, _, rfl, rfl, h⟩
def lw_Loaf_rises_5 (T : xT) (q : Nat → Nat) (a : Nat) (n v : Int32) (s : CS) (x1 : Int32) (k : Int32 → CS → Prop) : Prop := lofR q s a 5 n v ∧ ow_ran T q s 10 (fun s6 => lofR q s6 a 5 n v ∧ k ((x1 + n)) s6)
theorem lk_Loaf_rises_5 (l : Launch) (D : va_G) (T : xT) (q : Nat → Nat) (a : Nat) (n v : Int32) (s : CS) (x1 : Int32) (k : Int32 → CS → Prop) (h : lw_Loaf_rises_5 T q a n v s x1 k) : XM l D T yX7_rises cX7_rises 2 (some .int) 4 0 0 [.ref a, .int x1] (cw T q s) (cpostI T q k) := by
  refine XM.start (by decide +kernel) (Nat.le_of_ble_eq_true rfl) (fun Γ G X _ hl_ => ?_)
  subst hl_
  refine K.less [0, 1] (lv' := [(0, .ref a), (1, .int x1)]) rfl ?_
  unfold lw_Loaf_rises_5 at h
  refine k_aload_n G dX7_rises_0 rfl ?_
  obtain ⟨hl, h⟩ := h
  refine kl_get0 G hl (ref := "BakedBefore$Loaf") q384 (fun _ h => h) dX7_rises_1 ?_
  refine k_bipush G dX7_rises_4 kc_b_10 ?_
  refine kc_ran G (ok_ran _ D T q _ _ _ h) q1238 dX7_rises_6 (Nat.le_of_ble_eq_true rfl) (Nat.le_of_ble_eq_true rfl) ⟨Nat.le_of_ble_eq_true rfl, Nat.le_of_ble_eq_true rfl⟩ (fun s6 h => ?_)
  refine k_iload_n G dX7_rises_9 rfl ?_
  refine k_aload_n G dX7_rises_10 rfl ?_
  obtain ⟨hl, h⟩ := h
  refine kl_get1 G hl (ref := "BakedBefore$Loaf") q397 (fun _ h => h) dX7_rises_11 ?_
  refine k_iadd G dX7_rises_14 ?_
  exact k_iret G X dX7_rises_15 (Nat.le_of_ble_eq_true rfl) (Nat.le_of_ble_eq_true rfl) ⟨_, _, rfl, rfl, h⟩
def lw_Greedy_rises_5 (T : xT) (q : Nat → Nat) (a : Nat) (n v : Int32) (s : CS) (x1 : Int32) (k : Int32 → CS → Prop) : Prop := lofR q s a 5 n v ∧ ow_ran T q s 30 (fun s6 => lofR q s6 a 5 n v ∧ lw_Loaf_rises_5 T q a n v s6 ((x1 * 3)) (fun r13 s13 => k r13 s13))
theorem lk_Greedy_rises_5 (l : Launch) (D : va_G) (T : xT) (q : Nat → Nat) (a : Nat) (n v : Int32) (s : CS) (x1 : Int32) (k : Int32 → CS → Prop) (h : lw_Greedy_rises_5 T q a n v s x1 k) : XM l D T yX9_rises cX9_rises 2 (some .int) 6 0 0 [.ref a, .int x1] (cw T q s) (cpostI T q k) := by
  refine XM.start (by decide +kernel) (Nat.le_of_ble_eq_true rfl) (fun Γ G X _ hl_ => ?_)
  subst hl_
  refine K.less [0, 1] (lv' := [(0, .ref a), (1, .int x1)]) rfl ?_
  unfold lw_Greedy_rises_5 at h
  refine k_aload_n G dX9_rises_0 rfl ?_
  obtain ⟨hl, h⟩ := h
  refine kl_get0 G hl (ref := "BakedBefore$Greedy") q385 (x_samef (G.2.2.2.2.2.2.1 _ q386)) dX9_rises_1 ?_
  refine k_bipush G dX9_rises_4 kc_b_30 ?_
  refine kc_ran G (ok_ran _ D T q _ _ _ h) q1232 dX9_rises_6 (Nat.le_of_ble_eq_true rfl) (Nat.le_of_ble_eq_true rfl) ⟨Nat.le_of_ble_eq_true rfl, Nat.le_of_ble_eq_true rfl⟩ (fun s6 h => ?_)
  refine k_aload_n G dX9_rises_9 rfl ?_
  refine k_iload_n G dX9_rises_10 rfl ?_
  refine k_iconst G dX9_rises_11 kc_i_3 ?_
  refine k_imul G dX9_rises_12 ?_
  obtain ⟨hl, h⟩ := h
  refine kl_callSU G hl (lk_Loaf_rises_5 _ D T q a n v _ _ _ h) (x := ⟨"BakedBefore$Loaf", "rises", "(I)I"⟩) (owner := "BakedBefore$Loaf") su_Greedy_Loaf_rises q1236 dX9_rises_13 rfl rfl (Nat.le_of_ble_eq_true rfl) (Nat.le_of_ble_eq_true rfl) ⟨Nat.le_of_ble_eq_true rfl, Nat.le_of_ble_eq_true rfl⟩ (fun r13 s13 h => ?_)
  exact k_iret G X dX9_rises_16 (Nat.le_of_ble_eq_true rfl) (Nat.le_of_ble_eq_true rfl) ⟨_, _, rfl, rfl, h⟩
theorem xu_Loaf_rises_5 : xU ⟨"BakedBefore$Loaf", "rises", "(I)I"⟩ "BakedBefore$Loaf" RX12 yX9_rises cX9_rises 2 (some .int) 1 := ⟨q1227, q1240, q1230, q99, q1231, (Or.inl ⟨q1225, _, _, _, q1237⟩), ⟨by decide +kernel, by decide +kernel, by decide +kernel⟩, by decide⟩
def lw_Loaf_bakes_5 (T : xT) (q : Nat → Nat) (a : Nat) (n v : Int32) (s : CS) (x1 : Int32) (k : Int32 → CS → Prop) : Prop := lofR q s a 5 n v ∧ ow_ran T q s 11 (fun s6 => lofR q s6 a 5 n v ∧ lw_Greedy_rises_5 T q a n v s6 x1 (fun r11 s11 => lofR q s11 a 5 n v ∧ k ((r11 - v)) s11))
theorem lk_Loaf_bakes_5 (l : Launch) (D : va_G) (T : xT) (q : Nat → Nat) (a : Nat) (n v : Int32) (s : CS) (x1 : Int32) (k : Int32 → CS → Prop) (h : lw_Loaf_bakes_5 T q a n v s x1 k) : XM l D T yX7_bakes cX7_bakes 2 (some .int) 8 0 0 [.ref a, .int x1] (cw T q s) (cpostI T q k) := by
  refine XM.start (by decide +kernel) (Nat.le_of_ble_eq_true rfl) (fun Γ G X _ hl_ => ?_)
  subst hl_
  refine K.less [0, 1] (lv' := [(0, .ref a), (1, .int x1)]) rfl ?_
  unfold lw_Loaf_bakes_5 at h
  refine k_aload_n G dX7_bakes_0 rfl ?_
  obtain ⟨hl, h⟩ := h
  refine kl_get0 G hl (ref := "BakedBefore$Loaf") q384 (fun _ h => h) dX7_bakes_1 ?_
  refine k_bipush G dX7_bakes_4 kc_b_11 ?_
  refine kc_ran G (ok_ran _ D T q _ _ _ h) q1238 dX7_bakes_6 (Nat.le_of_ble_eq_true rfl) (Nat.le_of_ble_eq_true rfl) ⟨Nat.le_of_ble_eq_true rfl, Nat.le_of_ble_eq_true rfl⟩ (fun s6 h => ?_)
  refine k_aload_n G dX7_bakes_9 rfl ?_
  refine k_iload_n G dX7_bakes_10 rfl ?_
  obtain ⟨hl, h⟩ := h
  refine kl_callU G hl (lk_Greedy_rises_5 _ D T q a n v _ _ _ h) (x := ⟨"BakedBefore$Loaf", "rises", "(I)I"⟩) (owner := "BakedBefore$Loaf") (C := RX12) rfl xu_Loaf_rises_5 q1264 dX7_bakes_11 rfl rfl (Nat.le_of_ble_eq_true rfl) (Nat.le_of_ble_eq_true rfl) ⟨Nat.le_of_ble_eq_true rfl, Nat.le_of_ble_eq_true rfl⟩ (fun r11 s11 h => ?_)
  refine k_aload_n G dX7_bakes_14 rfl ?_
  obtain ⟨hl, h⟩ := h
  refine kl_get2 G hl (ref := "BakedBefore$Loaf") q400 (fun _ h => h) dX7_bakes_15 ?_
  refine k_isub G dX7_bakes_18 ?_
  exact k_iret G X dX7_bakes_19 (Nat.le_of_ble_eq_true rfl) (Nat.le_of_ble_eq_true rfl) ⟨_, _, rfl, rfl, h⟩
theorem xu_Loaf_bakes_5 : xU ⟨"BakedBefore$Loaf", "bakes", "(I)I"⟩ "BakedBefore$Loaf" RX12 yX7_bakes cX7_bakes 2 (some .int) 1 := ⟨q1257, q1267, q1255, q97, q1263, (Or.inl ⟨q1255, _, _, _, q1263⟩), ⟨by decide +kernel, by decide +kernel, by decide +kernel⟩, by decide⟩
def lw_Loaf_tells_5 (T : xT) (q : Nat → Nat) (a : Nat) (n v : Int32) (s : CS) (x1 : Int32) (k : Int32 → CS → Prop) : Prop := lofR q s a 5 n v ∧ ow_ran T q s 12 (fun s6 => lofR q s6 a 5 n v ∧ lw_Loaf_bakes_5 T q a n v s6 x1 (fun r11 s11 => k ((r11 * 2)) s11))
theorem lk_Loaf_tells_5 (l : Launch) (D : va_G) (T : xT) (q : Nat → Nat) (a : Nat) (n v : Int32) (s : CS) (x1 : Int32) (k : Int32 → CS → Prop) (h : lw_Loaf_tells_5 T q a n v s x1 k) : XM l D T yX7_tells cX7_tells 2 (some .int) 10 0 0 [.ref a, .int x1] (cw T q s) (cpostI T q k) := by
  refine XM.start (by decide +kernel) (Nat.le_of_ble_eq_true rfl) (fun Γ G X _ hl_ => ?_)
  subst hl_
  refine K.less [0, 1] (lv' := [(0, .ref a), (1, .int x1)]) rfl ?_
  unfold lw_Loaf_tells_5 at h
  refine k_aload_n G dX7_tells_0 rfl ?_
  obtain ⟨hl, h⟩ := h
  refine kl_get0 G hl (ref := "BakedBefore$Loaf") q384 (fun _ h => h) dX7_tells_1 ?_
  refine k_bipush G dX7_tells_4 kc_b_12 ?_
  refine kc_ran G (ok_ran _ D T q _ _ _ h) q1238 dX7_tells_6 (Nat.le_of_ble_eq_true rfl) (Nat.le_of_ble_eq_true rfl) ⟨Nat.le_of_ble_eq_true rfl, Nat.le_of_ble_eq_true rfl⟩ (fun s6 h => ?_)
  refine k_aload_n G dX7_tells_9 rfl ?_
  refine k_iload_n G dX7_tells_10 rfl ?_
  obtain ⟨hl, h⟩ := h
  refine kl_callU G hl (lk_Loaf_bakes_5 _ D T q a n v _ _ _ h) (x := ⟨"BakedBefore$Loaf", "bakes", "(I)I"⟩) (owner := "BakedBefore$Loaf") (C := RX12) rfl xu_Loaf_bakes_5 q1290 dX7_tells_11 rfl rfl (Nat.le_of_ble_eq_true rfl) (Nat.le_of_ble_eq_true rfl) ⟨Nat.le_of_ble_eq_true rfl, Nat.le_of_ble_eq_true rfl⟩ (fun r11 s11 h => ?_)
  refine k_iconst G dX7_tells_14 kc_i_2 ?_
  refine k_imul G dX7_tells_15 ?_
  exact k_iret G X dX7_tells_16 (Nat.le_of_ble_eq_true rfl) (Nat.le_of_ble_eq_true rfl) ⟨_, _, rfl, rfl, h⟩
theorem su_Poisoned_Greedy_tells : xSU "BakedBefore$Poisoned" ⟨"BakedBefore$Greedy", "tells", "(I)I"⟩ "BakedBefore$Loaf" cX7_tells 2 (some .int) 1 := ⟨q1299, q454, (Or.inr q424), q1279, q97, q1289, by decide +kernel, by decide +kernel, by decide⟩
def lw_Poisoned_tells_5 (T : xT) (q : Nat → Nat) (a : Nat) (n v : Int32) (s : CS) (x1 : Int32) (k : Int32 → CS → Prop) : Prop := lofR q s a 5 n v ∧ ow_ran T q s 60 (fun s6 => lofR q s6 a 5 n v ∧ lofR q s6 a 5 n v ∧ lw_Loaf_tells_5 T q a n v s6 ((x1 - n)) (fun r16 s16 => k r16 s16))
theorem lk_Poisoned_tells_5 (l : Launch) (D : va_G) (T : xT) (q : Nat → Nat) (a : Nat) (n v : Int32) (s : CS) (x1 : Int32) (k : Int32 → CS → Prop) (h : lw_Poisoned_tells_5 T q a n v s x1 k) : XM l D T yX12_tells cX12_tells 2 (some .int) 12 0 0 [.ref a, .int x1] (cw T q s) (cpostI T q k) := by
  refine XM.start (by decide +kernel) (Nat.le_of_ble_eq_true rfl) (fun Γ G X _ hl_ => ?_)
  subst hl_
  refine K.less [0, 1] (lv' := [(0, .ref a), (1, .int x1)]) rfl ?_
  unfold lw_Poisoned_tells_5 at h
  refine k_aload_n G dX12_tells_0 rfl ?_
  obtain ⟨hl, h⟩ := h
  refine kl_get0 G hl (ref := "BakedBefore$Poisoned") q391 (x_samef (G.2.2.2.2.2.2.1 _ q392)) dX12_tells_1 ?_
  refine k_bipush G dX12_tells_4 kc_b_60 ?_
  refine kc_ran G (ok_ran _ D T q _ _ _ h) q1297 dX12_tells_6 (Nat.le_of_ble_eq_true rfl) (Nat.le_of_ble_eq_true rfl) ⟨Nat.le_of_ble_eq_true rfl, Nat.le_of_ble_eq_true rfl⟩ (fun s6 h => ?_)
  refine k_aload_n G dX12_tells_9 rfl ?_
  refine k_iload_n G dX12_tells_10 rfl ?_
  refine k_aload_n G dX12_tells_11 rfl ?_
  obtain ⟨hl, h⟩ := h
  refine kl_get1 G hl (ref := "BakedBefore$Poisoned") q398 (x_samef (G.2.2.2.2.2.2.1 _ q399)) dX12_tells_12 ?_
  refine k_isub G dX12_tells_15 ?_
  obtain ⟨hl, h⟩ := h
  refine kl_callSU G hl (lk_Loaf_tells_5 _ D T q a n v _ _ _ h) (x := ⟨"BakedBefore$Greedy", "tells", "(I)I"⟩) (owner := "BakedBefore$Loaf") su_Poisoned_Greedy_tells q1298 dX12_tells_16 rfl rfl (Nat.le_of_ble_eq_true rfl) (Nat.le_of_ble_eq_true rfl) ⟨Nat.le_of_ble_eq_true rfl, Nat.le_of_ble_eq_true rfl⟩ (fun r16 s16 h => ?_)
  exact k_iret G X dX12_tells_19 (Nat.le_of_ble_eq_true rfl) (Nat.le_of_ble_eq_true rfl) ⟨_, _, rfl, rfl, h⟩
def lw_Shy_kind_6 (T : xT) (q : Nat → Nat) (a : Nat) (n v : Int32) (s : CS) (k : Int32 → CS → Prop) : Prop := k 6 s
theorem lk_Shy_kind_6 (l : Launch) (D : va_G) (T : xT) (q : Nat → Nat) (a : Nat) (n v : Int32) (s : CS) (k : Int32 → CS → Prop) (h : lw_Shy_kind_6 T q a n v s k) : XM l D T yX13_kind cX13_kind 1 (some .int) 1 0 0 [.ref a] (cw T q s) (cpostI T q k) := by
  refine XM.start (by decide +kernel) (Nat.le_of_ble_eq_true rfl) (fun Γ G X _ hl_ => ?_)
  subst hl_
  refine K.less [0] (lv' := [(0, .ref a)]) rfl ?_
  unfold lw_Shy_kind_6 at h
  refine k_bipush G dX13_kind_0 kc_b_6 ?_
  exact k_iret G X dX13_kind_2 (Nat.le_of_ble_eq_true rfl) (Nat.le_of_ble_eq_true rfl) ⟨_, _, rfl, rfl, h⟩
def lw_Loaf_taking_6 (T : xT) (q : Nat → Nat) (a : Nat) (n v : Int32) (s : CS) (x1 : Int32) (x2 : Int32) (x3 : Int32) (k : Int32 → CS → Prop) : Prop := k (((x1 * x2) / 100)) s
theorem lk_Loaf_taking_6 (l : Launch) (D : va_G) (T : xT) (q : Nat → Nat) (a : Nat) (n v : Int32) (s : CS) (x1 : Int32) (x2 : Int32) (x3 : Int32) (k : Int32 → CS → Prop) (h : lw_Loaf_taking_6 T q a n v s x1 x2 x3 k) : XM l D T yX7_taking cX7_taking 4 (some .int) 1 0 0 [.ref a, .int x1, .int x2, .int x3] (cw T q s) (cpostI T q k) := by
  refine XM.start (by decide +kernel) (Nat.le_of_ble_eq_true rfl) (fun Γ G X _ hl_ => ?_)
  subst hl_
  refine K.less [0, 1, 2, 3] (lv' := [(0, .ref a), (1, .int x1), (2, .int x2), (3, .int x3)]) rfl ?_
  unfold lw_Loaf_taking_6 at h
  refine k_iload_n G dX7_taking_0 rfl ?_
  refine k_iload_n G dX7_taking_1 rfl ?_
  refine k_imul G dX7_taking_2 ?_
  refine k_bipush G dX7_taking_3 kc_b_100 ?_
  refine k_idiv G dX7_taking_5 (by decide) ?_
  exact k_iret G X dX7_taking_6 (Nat.le_of_ble_eq_true rfl) (Nat.le_of_ble_eq_true rfl) ⟨_, _, rfl, rfl, h⟩
def lw_Holy_taking_6 (T : xT) (q : Nat → Nat) (a : Nat) (n v : Int32) (s : CS) (x1 : Int32) (x2 : Int32) (x3 : Int32) (k : Int32 → CS → Prop) : Prop := lofR q s a 6 n v ∧ lw_Loaf_taking_6 T q a n v s x1 x2 x3 (fun r5 s5 => k ((imin x3 r5)) s5)
theorem lk_Holy_taking_6 (l : Launch) (D : va_G) (T : xT) (q : Nat → Nat) (a : Nat) (n v : Int32) (s : CS) (x1 : Int32) (x2 : Int32) (x3 : Int32) (k : Int32 → CS → Prop) (h : lw_Holy_taking_6 T q a n v s x1 x2 x3 k) : XM l D T yX10_taking cX10_taking 4 (some .int) 3 0 0 [.ref a, .int x1, .int x2, .int x3] (cw T q s) (cpostI T q k) := by
  refine XM.start (by decide +kernel) (Nat.le_of_ble_eq_true rfl) (fun Γ G X _ hl_ => ?_)
  subst hl_
  refine K.less [0, 1, 2, 3] (lv' := [(0, .ref a), (1, .int x1), (2, .int x2), (3, .int x3)]) rfl ?_
  unfold lw_Holy_taking_6 at h
  refine k_iload_n G dX10_taking_0 rfl ?_
  refine k_aload_n G dX10_taking_1 rfl ?_
  refine k_iload_n G dX10_taking_2 rfl ?_
  refine k_iload_n G dX10_taking_3 rfl ?_
  refine k_iload_n G dX10_taking_4 rfl ?_
  obtain ⟨hl, h⟩ := h
  refine kl_callSU G hl (lk_Loaf_taking_6 _ D T q a n v _ _ _ _ _ h) (x := ⟨"BakedBefore$Loaf", "taking", "(III)I"⟩) (owner := "BakedBefore$Loaf") su_Holy_Loaf_taking q599 dX10_taking_5 rfl rfl (Nat.le_of_ble_eq_true rfl) (Nat.le_of_ble_eq_true rfl) ⟨Nat.le_of_ble_eq_true rfl, Nat.le_of_ble_eq_true rfl⟩ (fun r5 s5 h => ?_)
  refine kx_min G q600 dX10_taking_8 (Nat.le_of_ble_eq_true rfl) (Nat.le_of_ble_eq_true rfl) ⟨Nat.le_of_ble_eq_true rfl, Nat.le_of_ble_eq_true rfl⟩ ?_
  exact k_iret G X dX10_taking_11 (Nat.le_of_ble_eq_true rfl) (Nat.le_of_ble_eq_true rfl) ⟨_, _, rfl, rfl, h⟩
theorem su_Shy_Holy_taking : xSU "BakedBefore$Shy" ⟨"BakedBefore$Holy", "taking", "(III)I"⟩ "BakedBefore$Holy" cX10_taking 4 (some .int) 3 := ⟨q1860, q464, (Or.inl rfl), q597, q100, q598, by decide +kernel, by decide +kernel, by decide⟩
def lw_Shy_taking_6 (T : xT) (q : Nat → Nat) (a : Nat) (n v : Int32) (s : CS) (x1 : Int32) (x2 : Int32) (x3 : Int32) (k : Int32 → CS → Prop) : Prop := lofR q s a 6 n v ∧ lw_Holy_taking_6 T q a n v s x1 x2 x3 (fun r4 s4 => k ((r4 / 2)) s4)
theorem lk_Shy_taking_6 (l : Launch) (D : va_G) (T : xT) (q : Nat → Nat) (a : Nat) (n v : Int32) (s : CS) (x1 : Int32) (x2 : Int32) (x3 : Int32) (k : Int32 → CS → Prop) (h : lw_Shy_taking_6 T q a n v s x1 x2 x3 k) : XM l D T yX13_taking cX13_taking 4 (some .int) 5 0 0 [.ref a, .int x1, .int x2, .int x3] (cw T q s) (cpostI T q k) := by
  refine XM.start (by decide +kernel) (Nat.le_of_ble_eq_true rfl) (fun Γ G X _ hl_ => ?_)
  subst hl_
  refine K.less [0, 1, 2, 3] (lv' := [(0, .ref a), (1, .int x1), (2, .int x2), (3, .int x3)]) rfl ?_
  unfold lw_Shy_taking_6 at h
  refine k_aload_n G dX13_taking_0 rfl ?_
  refine k_iload_n G dX13_taking_1 rfl ?_
  refine k_iload_n G dX13_taking_2 rfl ?_
  refine k_iload_n G dX13_taking_3 rfl ?_
  obtain ⟨hl, h⟩ := h
  refine kl_callSU G hl (lk_Holy_taking_6 _ D T q a n v _ _ _ _ _ h) (x := ⟨"BakedBefore$Holy", "taking", "(III)I"⟩) (owner := "BakedBefore$Holy") su_Shy_Holy_taking q611 dX13_taking_4 rfl rfl (Nat.le_of_ble_eq_true rfl) (Nat.le_of_ble_eq_true rfl) ⟨Nat.le_of_ble_eq_true rfl, Nat.le_of_ble_eq_true rfl⟩ (fun r4 s4 h => ?_)
  refine k_iconst G dX13_taking_7 kc_i_2 ?_
  refine k_idiv G dX13_taking_8 (by decide) ?_
  exact k_iret G X dX13_taking_9 (Nat.le_of_ble_eq_true rfl) (Nat.le_of_ble_eq_true rfl) ⟨_, _, rfl, rfl, h⟩
def lw_Loaf_leaving_6 (T : xT) (q : Nat → Nat) (a : Nat) (n v : Int32) (s : CS) (x1 : Int32) (x2 : Int32) (k : Int32 → CS → Prop) : Prop := k x1 s
theorem lk_Loaf_leaving_6 (l : Launch) (D : va_G) (T : xT) (q : Nat → Nat) (a : Nat) (n v : Int32) (s : CS) (x1 : Int32) (x2 : Int32) (k : Int32 → CS → Prop) (h : lw_Loaf_leaving_6 T q a n v s x1 x2 k) : XM l D T yX7_leaving cX7_leaving 3 (some .int) 1 0 0 [.ref a, .int x1, .int x2] (cw T q s) (cpostI T q k) := by
  refine XM.start (by decide +kernel) (Nat.le_of_ble_eq_true rfl) (fun Γ G X _ hl_ => ?_)
  subst hl_
  refine K.less [0, 1, 2] (lv' := [(0, .ref a), (1, .int x1), (2, .int x2)]) rfl ?_
  unfold lw_Loaf_leaving_6 at h
  refine k_iload_n G dX7_leaving_0 rfl ?_
  exact k_iret G X dX7_leaving_1 (Nat.le_of_ble_eq_true rfl) (Nat.le_of_ble_eq_true rfl) ⟨_, _, rfl, rfl, h⟩
theorem su_Shy_Holy_leaving : xSU "BakedBefore$Shy" ⟨"BakedBefore$Holy", "leaving", "(II)I"⟩ "BakedBefore$Loaf" cX7_leaving 3 (some .int) 2 := ⟨q645, q464, (Or.inr q434), q625, q97, q639, by decide +kernel, by decide +kernel, by decide⟩
def lw_Shy_leaving_6 (T : xT) (q : Nat → Nat) (a : Nat) (n v : Int32) (s : CS) (x1 : Int32) (x2 : Int32) (k : Int32 → CS → Prop) : Prop := lofR q s a 6 n v ∧ lw_Loaf_leaving_6 T q a n v s x1 x2 (fun r3 s3 => k ((r3 / 2)) s3)
theorem lk_Shy_leaving_6 (l : Launch) (D : va_G) (T : xT) (q : Nat → Nat) (a : Nat) (n v : Int32) (s : CS) (x1 : Int32) (x2 : Int32) (k : Int32 → CS → Prop) (h : lw_Shy_leaving_6 T q a n v s x1 x2 k) : XM l D T yX13_leaving cX13_leaving 3 (some .int) 3 0 0 [.ref a, .int x1, .int x2] (cw T q s) (cpostI T q k) := by
  refine XM.start (by decide +kernel) (Nat.le_of_ble_eq_true rfl) (fun Γ G X _ hl_ => ?_)
  subst hl_
  refine K.less [0, 1, 2] (lv' := [(0, .ref a), (1, .int x1), (2, .int x2)]) rfl ?_
  unfold lw_Shy_leaving_6 at h
  refine k_aload_n G dX13_leaving_0 rfl ?_
  refine k_iload_n G dX13_leaving_1 rfl ?_
  refine k_iload_n G dX13_leaving_2 rfl ?_
  obtain ⟨hl, h⟩ := h
  refine kl_callSU G hl (lk_Loaf_leaving_6 _ D T q a n v _ _ _ _ h) (x := ⟨"BakedBefore$Holy", "leaving", "(II)I"⟩) (owner := "BakedBefore$Loaf") su_Shy_Holy_leaving q644 dX13_leaving_3 rfl rfl (Nat.le_of_ble_eq_true rfl) (Nat.le_of_ble_eq_true rfl) ⟨Nat.le_of_ble_eq_true rfl, Nat.le_of_ble_eq_true rfl⟩ (fun r3 s3 h => ?_)
  refine k_iconst G dX13_leaving_6 kc_i_2 ?_
  refine k_idiv G dX13_leaving_7 (by decide) ?_
  exact k_iret G X dX13_leaving_8 (Nat.le_of_ble_eq_true rfl) (Nat.le_of_ble_eq_true rfl) ⟨_, _, rfl, rfl, h⟩
def lw_Loaf_rises_6 (T : xT) (q : Nat → Nat) (a : Nat) (n v : Int32) (s : CS) (x1 : Int32) (k : Int32 → CS → Prop) : Prop := lofR q s a 6 n v ∧ ow_ran T q s 10 (fun s6 => lofR q s6 a 6 n v ∧ k ((x1 + n)) s6)
theorem lk_Loaf_rises_6 (l : Launch) (D : va_G) (T : xT) (q : Nat → Nat) (a : Nat) (n v : Int32) (s : CS) (x1 : Int32) (k : Int32 → CS → Prop) (h : lw_Loaf_rises_6 T q a n v s x1 k) : XM l D T yX7_rises cX7_rises 2 (some .int) 4 0 0 [.ref a, .int x1] (cw T q s) (cpostI T q k) := by
  refine XM.start (by decide +kernel) (Nat.le_of_ble_eq_true rfl) (fun Γ G X _ hl_ => ?_)
  subst hl_
  refine K.less [0, 1] (lv' := [(0, .ref a), (1, .int x1)]) rfl ?_
  unfold lw_Loaf_rises_6 at h
  refine k_aload_n G dX7_rises_0 rfl ?_
  obtain ⟨hl, h⟩ := h
  refine kl_get0 G hl (ref := "BakedBefore$Loaf") q384 (fun _ h => h) dX7_rises_1 ?_
  refine k_bipush G dX7_rises_4 kc_b_10 ?_
  refine kc_ran G (ok_ran _ D T q _ _ _ h) q1238 dX7_rises_6 (Nat.le_of_ble_eq_true rfl) (Nat.le_of_ble_eq_true rfl) ⟨Nat.le_of_ble_eq_true rfl, Nat.le_of_ble_eq_true rfl⟩ (fun s6 h => ?_)
  refine k_iload_n G dX7_rises_9 rfl ?_
  refine k_aload_n G dX7_rises_10 rfl ?_
  obtain ⟨hl, h⟩ := h
  refine kl_get1 G hl (ref := "BakedBefore$Loaf") q397 (fun _ h => h) dX7_rises_11 ?_
  refine k_iadd G dX7_rises_14 ?_
  exact k_iret G X dX7_rises_15 (Nat.le_of_ble_eq_true rfl) (Nat.le_of_ble_eq_true rfl) ⟨_, _, rfl, rfl, h⟩
theorem su_Shy_Holy_rises : xSU "BakedBefore$Shy" ⟨"BakedBefore$Holy", "rises", "(I)I"⟩ "BakedBefore$Loaf" cX7_rises 2 (some .int) 1 := ⟨q1253, q464, (Or.inr q434), q1225, q97, q1237, by decide +kernel, by decide +kernel, by decide⟩
def lw_Shy_rises_6 (T : xT) (q : Nat → Nat) (a : Nat) (n v : Int32) (s : CS) (x1 : Int32) (k : Int32 → CS → Prop) : Prop := lofR q s a 6 n v ∧ ow_ran T q s 71 (fun s6 => lofR q s6 a 6 n v ∧ lw_Loaf_rises_6 T q a n v s6 x1 (fun r11 s11 => lofR q s11 a 6 n v ∧ k ((r11 ^^^ v)) s11))
theorem lk_Shy_rises_6 (l : Launch) (D : va_G) (T : xT) (q : Nat → Nat) (a : Nat) (n v : Int32) (s : CS) (x1 : Int32) (k : Int32 → CS → Prop) (h : lw_Shy_rises_6 T q a n v s x1 k) : XM l D T yX13_rises cX13_rises 2 (some .int) 6 0 0 [.ref a, .int x1] (cw T q s) (cpostI T q k) := by
  refine XM.start (by decide +kernel) (Nat.le_of_ble_eq_true rfl) (fun Γ G X _ hl_ => ?_)
  subst hl_
  refine K.less [0, 1] (lv' := [(0, .ref a), (1, .int x1)]) rfl ?_
  unfold lw_Shy_rises_6 at h
  refine k_aload_n G dX13_rises_0 rfl ?_
  obtain ⟨hl, h⟩ := h
  refine kl_get0 G hl (ref := "BakedBefore$Shy") q395 (x_samef (G.2.2.2.2.2.2.1 _ q396)) dX13_rises_1 ?_
  refine k_bipush G dX13_rises_4 kc_b_71 ?_
  refine kc_ran G (ok_ran _ D T q _ _ _ h) q1251 dX13_rises_6 (Nat.le_of_ble_eq_true rfl) (Nat.le_of_ble_eq_true rfl) ⟨Nat.le_of_ble_eq_true rfl, Nat.le_of_ble_eq_true rfl⟩ (fun s6 h => ?_)
  refine k_aload_n G dX13_rises_9 rfl ?_
  refine k_iload_n G dX13_rises_10 rfl ?_
  obtain ⟨hl, h⟩ := h
  refine kl_callSU G hl (lk_Loaf_rises_6 _ D T q a n v _ _ _ h) (x := ⟨"BakedBefore$Holy", "rises", "(I)I"⟩) (owner := "BakedBefore$Loaf") su_Shy_Holy_rises q1252 dX13_rises_11 rfl rfl (Nat.le_of_ble_eq_true rfl) (Nat.le_of_ble_eq_true rfl) ⟨Nat.le_of_ble_eq_true rfl, Nat.le_of_ble_eq_true rfl⟩ (fun r11 s11 h => ?_)
  refine k_aload_n G dX13_rises_14 rfl ?_
  obtain ⟨hl, h⟩ := h
  refine kl_get2 G hl (ref := "BakedBefore$Shy") q405 (x_samef (G.2.2.2.2.2.2.1 _ q406)) dX13_rises_15 ?_
  refine k_ixor G dX13_rises_18 ?_
  exact k_iret G X dX13_rises_19 (Nat.le_of_ble_eq_true rfl) (Nat.le_of_ble_eq_true rfl) ⟨_, _, rfl, rfl, h⟩
theorem xu_Loaf_rises_6 : xU ⟨"BakedBefore$Loaf", "rises", "(I)I"⟩ "BakedBefore$Loaf" RX13 yX13_rises cX13_rises 2 (some .int) 1 := ⟨q1227, q1248, q1249, q103, q1250, (Or.inl ⟨q1225, _, _, _, q1237⟩), ⟨by decide +kernel, by decide +kernel, by decide +kernel⟩, by decide⟩
def lw_Loaf_bakes_6 (T : xT) (q : Nat → Nat) (a : Nat) (n v : Int32) (s : CS) (x1 : Int32) (k : Int32 → CS → Prop) : Prop := lofR q s a 6 n v ∧ ow_ran T q s 11 (fun s6 => lofR q s6 a 6 n v ∧ lw_Shy_rises_6 T q a n v s6 x1 (fun r11 s11 => lofR q s11 a 6 n v ∧ k ((r11 - v)) s11))
theorem lk_Loaf_bakes_6 (l : Launch) (D : va_G) (T : xT) (q : Nat → Nat) (a : Nat) (n v : Int32) (s : CS) (x1 : Int32) (k : Int32 → CS → Prop) (h : lw_Loaf_bakes_6 T q a n v s x1 k) : XM l D T yX7_bakes cX7_bakes 2 (some .int) 8 0 0 [.ref a, .int x1] (cw T q s) (cpostI T q k) := by
  refine XM.start (by decide +kernel) (Nat.le_of_ble_eq_true rfl) (fun Γ G X _ hl_ => ?_)
  subst hl_
  refine K.less [0, 1] (lv' := [(0, .ref a), (1, .int x1)]) rfl ?_
  unfold lw_Loaf_bakes_6 at h
  refine k_aload_n G dX7_bakes_0 rfl ?_
  obtain ⟨hl, h⟩ := h
  refine kl_get0 G hl (ref := "BakedBefore$Loaf") q384 (fun _ h => h) dX7_bakes_1 ?_
  refine k_bipush G dX7_bakes_4 kc_b_11 ?_
  refine kc_ran G (ok_ran _ D T q _ _ _ h) q1238 dX7_bakes_6 (Nat.le_of_ble_eq_true rfl) (Nat.le_of_ble_eq_true rfl) ⟨Nat.le_of_ble_eq_true rfl, Nat.le_of_ble_eq_true rfl⟩ (fun s6 h => ?_)
  refine k_aload_n G dX7_bakes_9 rfl ?_
  refine k_iload_n G dX7_bakes_10 rfl ?_
  obtain ⟨hl, h⟩ := h
  refine kl_callU G hl (lk_Shy_rises_6 _ D T q a n v _ _ _ h) (x := ⟨"BakedBefore$Loaf", "rises", "(I)I"⟩) (owner := "BakedBefore$Loaf") (C := RX13) rfl xu_Loaf_rises_6 q1264 dX7_bakes_11 rfl rfl (Nat.le_of_ble_eq_true rfl) (Nat.le_of_ble_eq_true rfl) ⟨Nat.le_of_ble_eq_true rfl, Nat.le_of_ble_eq_true rfl⟩ (fun r11 s11 h => ?_)
  refine k_aload_n G dX7_bakes_14 rfl ?_
  obtain ⟨hl, h⟩ := h
  refine kl_get2 G hl (ref := "BakedBefore$Loaf") q400 (fun _ h => h) dX7_bakes_15 ?_
  refine k_isub G dX7_bakes_18 ?_
  exact k_iret G X dX7_bakes_19 (Nat.le_of_ble_eq_true rfl) (Nat.le_of_ble_eq_true rfl) ⟨_, _, rfl, rfl, h⟩
theorem su_Shy_Holy_bakes : xSU "BakedBefore$Shy" ⟨"BakedBefore$Holy", "bakes", "(I)I"⟩ "BakedBefore$Loaf" cX7_bakes 2 (some .int) 1 := ⟨q1276, q464, (Or.inr q434), q1255, q97, q1263, by decide +kernel, by decide +kernel, by decide⟩
def lw_Shy_bakes_6 (T : xT) (q : Nat → Nat) (a : Nat) (n v : Int32) (s : CS) (x1 : Int32) (k : Int32 → CS → Prop) : Prop := lofR q s a 6 n v ∧ ow_ran T q s 70 (fun s6 => lofR q s6 a 6 n v ∧ lw_Loaf_bakes_6 T q a n v s6 x1 (fun r11 s11 => lofR q s11 a 6 n v ∧ lw_Loaf_rises_6 T q a n v s11 2 (fun r18 s18 => k ((r11 + r18)) s18)))
theorem lk_Shy_bakes_6 (l : Launch) (D : va_G) (T : xT) (q : Nat → Nat) (a : Nat) (n v : Int32) (s : CS) (x1 : Int32) (k : Int32 → CS → Prop) (h : lw_Shy_bakes_6 T q a n v s x1 k) : XM l D T yX13_bakes cX13_bakes 3 (some .int) 10 0 0 [.ref a, .int x1] (cw T q s) (cpostI T q k) := by
  refine XM.start (by decide +kernel) (Nat.le_of_ble_eq_true rfl) (fun Γ G X _ hl_ => ?_)
  subst hl_
  refine K.less [0, 1] (lv' := [(0, .ref a), (1, .int x1)]) rfl ?_
  unfold lw_Shy_bakes_6 at h
  refine k_aload_n G dX13_bakes_0 rfl ?_
  obtain ⟨hl, h⟩ := h
  refine kl_get0 G hl (ref := "BakedBefore$Shy") q395 (x_samef (G.2.2.2.2.2.2.1 _ q396)) dX13_bakes_1 ?_
  refine k_bipush G dX13_bakes_4 kc_b_70 ?_
  refine kc_ran G (ok_ran _ D T q _ _ _ h) q1251 dX13_bakes_6 (Nat.le_of_ble_eq_true rfl) (Nat.le_of_ble_eq_true rfl) ⟨Nat.le_of_ble_eq_true rfl, Nat.le_of_ble_eq_true rfl⟩ (fun s6 h => ?_)
  refine k_aload_n G dX13_bakes_9 rfl ?_
  refine k_iload_n G dX13_bakes_10 rfl ?_
  obtain ⟨hl, h⟩ := h
  refine kl_callSU G hl (lk_Loaf_bakes_6 _ D T q a n v _ _ _ h) (x := ⟨"BakedBefore$Holy", "bakes", "(I)I"⟩) (owner := "BakedBefore$Loaf") su_Shy_Holy_bakes q1275 dX13_bakes_11 rfl rfl (Nat.le_of_ble_eq_true rfl) (Nat.le_of_ble_eq_true rfl) ⟨Nat.le_of_ble_eq_true rfl, Nat.le_of_ble_eq_true rfl⟩ (fun r11 s11 h => ?_)
  refine k_istore_n G [(2, .int r11), (0, .ref a), (1, .int x1)] dX13_bakes_14 rfl (Nat.le_of_ble_eq_true rfl) rfl ?_
  refine k_iload_n G dX13_bakes_15 rfl ?_
  refine k_aload_n G dX13_bakes_16 rfl ?_
  refine k_iconst G dX13_bakes_17 kc_i_2 ?_
  obtain ⟨hl, h⟩ := h
  refine kl_callSU G hl (lk_Loaf_rises_6 _ D T q a n v _ _ _ h) (x := ⟨"BakedBefore$Holy", "rises", "(I)I"⟩) (owner := "BakedBefore$Loaf") su_Shy_Holy_rises q1252 dX13_bakes_18 rfl rfl (Nat.le_of_ble_eq_true rfl) (Nat.le_of_ble_eq_true rfl) ⟨Nat.le_of_ble_eq_true rfl, Nat.le_of_ble_eq_true rfl⟩ (fun r18 s18 h => ?_)
  refine k_iadd G dX13_bakes_21 ?_
  exact k_iret G X dX13_bakes_22 (Nat.le_of_ble_eq_true rfl) (Nat.le_of_ble_eq_true rfl) ⟨_, _, rfl, rfl, h⟩
theorem xu_Loaf_bakes_6 : xU ⟨"BakedBefore$Loaf", "bakes", "(I)I"⟩ "BakedBefore$Loaf" RX13 yX13_bakes cX13_bakes 3 (some .int) 1 := ⟨q1257, q1272, q1273, q103, q1274, (Or.inl ⟨q1255, _, _, _, q1263⟩), ⟨by decide +kernel, by decide +kernel, by decide +kernel⟩, by decide⟩
def lw_Loaf_tells_6 (T : xT) (q : Nat → Nat) (a : Nat) (n v : Int32) (s : CS) (x1 : Int32) (k : Int32 → CS → Prop) : Prop := lofR q s a 6 n v ∧ ow_ran T q s 12 (fun s6 => lofR q s6 a 6 n v ∧ lw_Shy_bakes_6 T q a n v s6 x1 (fun r11 s11 => k ((r11 * 2)) s11))
theorem lk_Loaf_tells_6 (l : Launch) (D : va_G) (T : xT) (q : Nat → Nat) (a : Nat) (n v : Int32) (s : CS) (x1 : Int32) (k : Int32 → CS → Prop) (h : lw_Loaf_tells_6 T q a n v s x1 k) : XM l D T yX7_tells cX7_tells 2 (some .int) 12 0 0 [.ref a, .int x1] (cw T q s) (cpostI T q k) := by
  refine XM.start (by decide +kernel) (Nat.le_of_ble_eq_true rfl) (fun Γ G X _ hl_ => ?_)
  subst hl_
  refine K.less [0, 1] (lv' := [(0, .ref a), (1, .int x1)]) rfl ?_
  unfold lw_Loaf_tells_6 at h
  refine k_aload_n G dX7_tells_0 rfl ?_
  obtain ⟨hl, h⟩ := h
  refine kl_get0 G hl (ref := "BakedBefore$Loaf") q384 (fun _ h => h) dX7_tells_1 ?_
  refine k_bipush G dX7_tells_4 kc_b_12 ?_
  refine kc_ran G (ok_ran _ D T q _ _ _ h) q1238 dX7_tells_6 (Nat.le_of_ble_eq_true rfl) (Nat.le_of_ble_eq_true rfl) ⟨Nat.le_of_ble_eq_true rfl, Nat.le_of_ble_eq_true rfl⟩ (fun s6 h => ?_)
  refine k_aload_n G dX7_tells_9 rfl ?_
  refine k_iload_n G dX7_tells_10 rfl ?_
  obtain ⟨hl, h⟩ := h
  refine kl_callU G hl (lk_Shy_bakes_6 _ D T q a n v _ _ _ h) (x := ⟨"BakedBefore$Loaf", "bakes", "(I)I"⟩) (owner := "BakedBefore$Loaf") (C := RX13) rfl xu_Loaf_bakes_6 q1290 dX7_tells_11 rfl rfl (Nat.le_of_ble_eq_true rfl) (Nat.le_of_ble_eq_true rfl) ⟨Nat.le_of_ble_eq_true rfl, Nat.le_of_ble_eq_true rfl⟩ (fun r11 s11 h => ?_)
  refine k_iconst G dX7_tells_14 kc_i_2 ?_
  refine k_imul G dX7_tells_15 ?_
  exact k_iret G X dX7_tells_16 (Nat.le_of_ble_eq_true rfl) (Nat.le_of_ble_eq_true rfl) ⟨_, _, rfl, rfl, h⟩
theorem xu_Holy_bakes_6 : xU ⟨"BakedBefore$Holy", "bakes", "(I)I"⟩ "BakedBefore$Loaf" RX13 yX13_bakes cX13_bakes 3 (some .int) 1 := ⟨q1276, q1293, q1273, q103, q1274, (Or.inl ⟨q1255, _, _, _, q1263⟩), ⟨by decide +kernel, by decide +kernel, by decide +kernel⟩, by decide⟩
def lw_Holy_tells_6 (T : xT) (q : Nat → Nat) (a : Nat) (n v : Int32) (s : CS) (x1 : Int32) (k : Int32 → CS → Prop) : Prop := lofR q s a 6 n v ∧ ow_ran T q s 40 (fun s6 => lofR q s6 a 6 n v ∧ lw_Loaf_tells_6 T q a n v s6 x1 (fun r11 s11 => lofR q s11 a 6 n v ∧ lw_Shy_bakes_6 T q a n v s11 1 (fun r18 s18 => k ((r11 + r18)) s18)))
theorem lk_Holy_tells_6 (l : Launch) (D : va_G) (T : xT) (q : Nat → Nat) (a : Nat) (n v : Int32) (s : CS) (x1 : Int32) (k : Int32 → CS → Prop) (h : lw_Holy_tells_6 T q a n v s x1 k) : XM l D T yX10_tells cX10_tells 3 (some .int) 14 0 0 [.ref a, .int x1] (cw T q s) (cpostI T q k) := by
  refine XM.start (by decide +kernel) (Nat.le_of_ble_eq_true rfl) (fun Γ G X _ hl_ => ?_)
  subst hl_
  refine K.less [0, 1] (lv' := [(0, .ref a), (1, .int x1)]) rfl ?_
  unfold lw_Holy_tells_6 at h
  refine k_aload_n G dX10_tells_0 rfl ?_
  obtain ⟨hl, h⟩ := h
  refine kl_get0 G hl (ref := "BakedBefore$Holy") q389 (x_samef (G.2.2.2.2.2.2.1 _ q390)) dX10_tells_1 ?_
  refine k_bipush G dX10_tells_4 kc_b_40 ?_
  refine kc_ran G (ok_ran _ D T q _ _ _ h) q1287 dX10_tells_6 (Nat.le_of_ble_eq_true rfl) (Nat.le_of_ble_eq_true rfl) ⟨Nat.le_of_ble_eq_true rfl, Nat.le_of_ble_eq_true rfl⟩ (fun s6 h => ?_)
  refine k_aload_n G dX10_tells_9 rfl ?_
  refine k_iload_n G dX10_tells_10 rfl ?_
  obtain ⟨hl, h⟩ := h
  refine kl_callSU G hl (lk_Loaf_tells_6 _ D T q a n v _ _ _ h) (x := ⟨"BakedBefore$Loaf", "tells", "(I)I"⟩) (owner := "BakedBefore$Loaf") su_Holy_Loaf_tells q1288 dX10_tells_11 rfl rfl (Nat.le_of_ble_eq_true rfl) (Nat.le_of_ble_eq_true rfl) ⟨Nat.le_of_ble_eq_true rfl, Nat.le_of_ble_eq_true rfl⟩ (fun r11 s11 h => ?_)
  refine k_istore_n G [(2, .int r11), (0, .ref a), (1, .int x1)] dX10_tells_14 rfl (Nat.le_of_ble_eq_true rfl) rfl ?_
  refine k_iload_n G dX10_tells_15 rfl ?_
  refine k_aload_n G dX10_tells_16 rfl ?_
  refine k_iconst G dX10_tells_17 kc_i_1 ?_
  obtain ⟨hl, h⟩ := h
  refine kl_callU G hl (lk_Shy_bakes_6 _ D T q a n v _ _ _ h) (x := ⟨"BakedBefore$Holy", "bakes", "(I)I"⟩) (owner := "BakedBefore$Loaf") (C := RX13) rfl xu_Holy_bakes_6 q1291 dX10_tells_18 rfl rfl (Nat.le_of_ble_eq_true rfl) (Nat.le_of_ble_eq_true rfl) ⟨Nat.le_of_ble_eq_true rfl, Nat.le_of_ble_eq_true rfl⟩ (fun r18 s18 h => ?_)
  refine k_iadd G dX10_tells_21 ?_
  exact k_iret G X dX10_tells_22 (Nat.le_of_ble_eq_true rfl) (Nat.le_of_ble_eq_true rfl) ⟨_, _, rfl, rfl, h⟩
theorem xu_Loaf_kind_0 : xU ⟨"BakedBefore$Loaf", "kind", "()I"⟩ "BakedBefore$Loaf" RX7 yX7_kind cX7_kind 1 (some .int) 0 := ⟨q489, q488, q487, q97, q508, (Or.inl ⟨q487, _, _, _, q508⟩), ⟨by decide +kernel, by decide +kernel, by decide +kernel⟩, by decide⟩
theorem xu_Loaf_kind_1 : xU ⟨"BakedBefore$Loaf", "kind", "()I"⟩ "BakedBefore$Loaf" RX8 yX8_kind cX8_kind 1 (some .int) 0 := ⟨q489, q490, q491, q98, q492, (Or.inl ⟨q487, _, _, _, q508⟩), ⟨by decide +kernel, by decide +kernel, by decide +kernel⟩, by decide⟩
theorem xu_Loaf_kind_2 : xU ⟨"BakedBefore$Loaf", "kind", "()I"⟩ "BakedBefore$Loaf" RX9 yX9_kind cX9_kind 1 (some .int) 0 := ⟨q489, q493, q494, q99, q495, (Or.inl ⟨q487, _, _, _, q508⟩), ⟨by decide +kernel, by decide +kernel, by decide +kernel⟩, by decide⟩
theorem xu_Loaf_kind_3 : xU ⟨"BakedBefore$Loaf", "kind", "()I"⟩ "BakedBefore$Loaf" RX10 yX10_kind cX10_kind 1 (some .int) 0 := ⟨q489, q496, q497, q100, q498, (Or.inl ⟨q487, _, _, _, q508⟩), ⟨by decide +kernel, by decide +kernel, by decide +kernel⟩, by decide⟩
theorem xu_Loaf_kind_4 : xU ⟨"BakedBefore$Loaf", "kind", "()I"⟩ "BakedBefore$Loaf" RX11 yX11_kind cX11_kind 1 (some .int) 0 := ⟨q489, q502, q503, q101, q504, (Or.inl ⟨q487, _, _, _, q508⟩), ⟨by decide +kernel, by decide +kernel, by decide +kernel⟩, by decide⟩
theorem xu_Loaf_kind_5 : xU ⟨"BakedBefore$Loaf", "kind", "()I"⟩ "BakedBefore$Loaf" RX12 yX12_kind cX12_kind 1 (some .int) 0 := ⟨q489, q499, q500, q102, q501, (Or.inl ⟨q487, _, _, _, q508⟩), ⟨by decide +kernel, by decide +kernel, by decide +kernel⟩, by decide⟩
theorem xu_Loaf_kind_6 : xU ⟨"BakedBefore$Loaf", "kind", "()I"⟩ "BakedBefore$Loaf" RX13 yX13_kind cX13_kind 1 (some .int) 0 := ⟨q489, q505, q506, q103, q507, (Or.inl ⟨q487, _, _, _, q508⟩), ⟨by decide +kernel, by decide +kernel, by decide +kernel⟩, by decide⟩
theorem xu_Loaf_taking_0 : xU ⟨"BakedBefore$Loaf", "taking", "(III)I"⟩ "BakedBefore$Loaf" RX7 yX7_taking cX7_taking 4 (some .int) 3 := ⟨q587, q586, q585, q97, q595, (Or.inl ⟨q585, _, _, _, q595⟩), ⟨by decide +kernel, by decide +kernel, by decide +kernel⟩, by decide⟩
theorem xu_Loaf_taking_1 : xU ⟨"BakedBefore$Loaf", "taking", "(III)I"⟩ "BakedBefore$Loaf" RX8 yX8_taking cX8_taking 4 (some .int) 3 := ⟨q587, q588, q589, q98, q590, (Or.inl ⟨q585, _, _, _, q595⟩), ⟨by decide +kernel, by decide +kernel, by decide +kernel⟩, by decide⟩
theorem xu_Loaf_taking_2 : xU ⟨"BakedBefore$Loaf", "taking", "(III)I"⟩ "BakedBefore$Loaf" RX9 yX9_taking cX9_taking 4 (some .int) 3 := ⟨q587, q591, q592, q99, q593, (Or.inl ⟨q585, _, _, _, q595⟩), ⟨by decide +kernel, by decide +kernel, by decide +kernel⟩, by decide⟩
theorem xu_Loaf_taking_3 : xU ⟨"BakedBefore$Loaf", "taking", "(III)I"⟩ "BakedBefore$Loaf" RX10 yX10_taking cX10_taking 4 (some .int) 3 := ⟨q587, q596, q597, q100, q598, (Or.inl ⟨q585, _, _, _, q595⟩), ⟨by decide +kernel, by decide +kernel, by decide +kernel⟩, by decide⟩
theorem xu_Loaf_taking_4 : xU ⟨"BakedBefore$Loaf", "taking", "(III)I"⟩ "BakedBefore$Loaf" RX11 yX11_taking cX11_taking 4 (some .int) 3 := ⟨q587, q604, q605, q101, q606, (Or.inl ⟨q585, _, _, _, q595⟩), ⟨by decide +kernel, by decide +kernel, by decide +kernel⟩, by decide⟩
theorem xu_Loaf_taking_5 : xU ⟨"BakedBefore$Loaf", "taking", "(III)I"⟩ "BakedBefore$Loaf" RX12 yX9_taking cX9_taking 4 (some .int) 3 := ⟨q587, q603, q592, q99, q593, (Or.inl ⟨q585, _, _, _, q595⟩), ⟨by decide +kernel, by decide +kernel, by decide +kernel⟩, by decide⟩
theorem xu_Loaf_taking_6 : xU ⟨"BakedBefore$Loaf", "taking", "(III)I"⟩ "BakedBefore$Loaf" RX13 yX13_taking cX13_taking 4 (some .int) 3 := ⟨q587, q608, q609, q103, q610, (Or.inl ⟨q585, _, _, _, q595⟩), ⟨by decide +kernel, by decide +kernel, by decide +kernel⟩, by decide⟩
theorem xu_Loaf_leaving_0 : xU ⟨"BakedBefore$Loaf", "leaving", "(II)I"⟩ "BakedBefore$Loaf" RX7 yX7_leaving cX7_leaving 3 (some .int) 2 := ⟨q627, q626, q625, q97, q639, (Or.inl ⟨q625, _, _, _, q639⟩), ⟨by decide +kernel, by decide +kernel, by decide +kernel⟩, by decide⟩
theorem xu_Loaf_leaving_1 : xU ⟨"BakedBefore$Loaf", "leaving", "(II)I"⟩ "BakedBefore$Loaf" RX8 yX8_leaving cX8_leaving 3 (some .int) 2 := ⟨q627, q628, q629, q98, q630, (Or.inl ⟨q625, _, _, _, q639⟩), ⟨by decide +kernel, by decide +kernel, by decide +kernel⟩, by decide⟩
theorem xu_Loaf_leaving_2 : xU ⟨"BakedBefore$Loaf", "leaving", "(II)I"⟩ "BakedBefore$Loaf" RX9 yX7_leaving cX7_leaving 3 (some .int) 2 := ⟨q627, q631, q625, q97, q639, (Or.inl ⟨q625, _, _, _, q639⟩), ⟨by decide +kernel, by decide +kernel, by decide +kernel⟩, by decide⟩
theorem xu_Loaf_leaving_3 : xU ⟨"BakedBefore$Loaf", "leaving", "(II)I"⟩ "BakedBefore$Loaf" RX10 yX7_leaving cX7_leaving 3 (some .int) 2 := ⟨q627, q632, q625, q97, q639, (Or.inl ⟨q625, _, _, _, q639⟩), ⟨by decide +kernel, by decide +kernel, by decide +kernel⟩, by decide⟩
theorem xu_Loaf_leaving_4 : xU ⟨"BakedBefore$Loaf", "leaving", "(II)I"⟩ "BakedBefore$Loaf" RX11 yX8_leaving cX8_leaving 3 (some .int) 2 := ⟨q627, q640, q629, q98, q630, (Or.inl ⟨q625, _, _, _, q639⟩), ⟨by decide +kernel, by decide +kernel, by decide +kernel⟩, by decide⟩
theorem xu_Loaf_leaving_5 : xU ⟨"BakedBefore$Loaf", "leaving", "(II)I"⟩ "BakedBefore$Loaf" RX12 yX12_leaving cX12_leaving 3 (some .int) 2 := ⟨q627, q633, q634, q102, q635, (Or.inl ⟨q625, _, _, _, q639⟩), ⟨by decide +kernel, by decide +kernel, by decide +kernel⟩, by decide⟩
theorem xu_Loaf_leaving_6 : xU ⟨"BakedBefore$Loaf", "leaving", "(II)I"⟩ "BakedBefore$Loaf" RX13 yX13_leaving cX13_leaving 3 (some .int) 2 := ⟨q627, q641, q642, q103, q643, (Or.inl ⟨q625, _, _, _, q639⟩), ⟨by decide +kernel, by decide +kernel, by decide +kernel⟩, by decide⟩
theorem xu_Loaf_tells_0 : xU ⟨"BakedBefore$Loaf", "tells", "(I)I"⟩ "BakedBefore$Loaf" RX7 yX7_tells cX7_tells 2 (some .int) 1 := ⟨q1281, q1280, q1279, q97, q1289, (Or.inl ⟨q1279, _, _, _, q1289⟩), ⟨by decide +kernel, by decide +kernel, by decide +kernel⟩, by decide⟩
theorem xu_Loaf_tells_1 : xU ⟨"BakedBefore$Loaf", "tells", "(I)I"⟩ "BakedBefore$Loaf" RX8 yX7_tells cX7_tells 2 (some .int) 1 := ⟨q1281, q1282, q1279, q97, q1289, (Or.inl ⟨q1279, _, _, _, q1289⟩), ⟨by decide +kernel, by decide +kernel, by decide +kernel⟩, by decide⟩
theorem xu_Loaf_tells_2 : xU ⟨"BakedBefore$Loaf", "tells", "(I)I"⟩ "BakedBefore$Loaf" RX9 yX7_tells cX7_tells 2 (some .int) 1 := ⟨q1281, q1283, q1279, q97, q1289, (Or.inl ⟨q1279, _, _, _, q1289⟩), ⟨by decide +kernel, by decide +kernel, by decide +kernel⟩, by decide⟩
theorem xu_Loaf_tells_3 : xU ⟨"BakedBefore$Loaf", "tells", "(I)I"⟩ "BakedBefore$Loaf" RX10 yX10_tells cX10_tells 3 (some .int) 1 := ⟨q1281, q1284, q1285, q100, q1286, (Or.inl ⟨q1279, _, _, _, q1289⟩), ⟨by decide +kernel, by decide +kernel, by decide +kernel⟩, by decide⟩
theorem xu_Loaf_tells_4 : xU ⟨"BakedBefore$Loaf", "tells", "(I)I"⟩ "BakedBefore$Loaf" RX11 yX7_tells cX7_tells 2 (some .int) 1 := ⟨q1281, q1301, q1279, q97, q1289, (Or.inl ⟨q1279, _, _, _, q1289⟩), ⟨by decide +kernel, by decide +kernel, by decide +kernel⟩, by decide⟩
theorem xu_Loaf_tells_5 : xU ⟨"BakedBefore$Loaf", "tells", "(I)I"⟩ "BakedBefore$Loaf" RX12 yX12_tells cX12_tells 2 (some .int) 1 := ⟨q1281, q1294, q1295, q102, q1296, (Or.inl ⟨q1279, _, _, _, q1289⟩), ⟨by decide +kernel, by decide +kernel, by decide +kernel⟩, by decide⟩
theorem xu_Loaf_tells_6 : xU ⟨"BakedBefore$Loaf", "tells", "(I)I"⟩ "BakedBefore$Loaf" RX13 yX10_tells cX10_tells 3 (some .int) 1 := ⟨q1281, q1302, q1285, q100, q1286, (Or.inl ⟨q1279, _, _, _, q1289⟩), ⟨by decide +kernel, by decide +kernel, by decide +kernel⟩, by decide⟩
theorem ls_kind_0 {T : xT} {q : Nat → Nat} {ω : CS} {a : Nat} {n v : Int32} (h : lofR q ω a 0 n v) : lw_Loaf_kind_0 T q a n v ω (fun r s => r = nI 0 ∧ s = ω) := by
  simp only [lw_Loaf_kind_0]
  first | exact ⟨rfl, trivial⟩ | exact ⟨h, rfl, trivial⟩ | exact ⟨h, h, rfl, trivial⟩ | exact ⟨rfl, rfl⟩ | exact ⟨h, rfl, rfl⟩ | exact ⟨h, h, rfl, rfl⟩
theorem ls_kind_1 {T : xT} {q : Nat → Nat} {ω : CS} {a : Nat} {n v : Int32} (h : lofR q ω a 1 n v) : lw_Clean_kind_1 T q a n v ω (fun r s => r = nI 1 ∧ s = ω) := by
  simp only [lw_Clean_kind_1]
  first | exact ⟨rfl, trivial⟩ | exact ⟨h, rfl, trivial⟩ | exact ⟨h, h, rfl, trivial⟩ | exact ⟨rfl, rfl⟩ | exact ⟨h, rfl, rfl⟩ | exact ⟨h, h, rfl, rfl⟩
theorem ls_kind_2 {T : xT} {q : Nat → Nat} {ω : CS} {a : Nat} {n v : Int32} (h : lofR q ω a 2 n v) : lw_Greedy_kind_2 T q a n v ω (fun r s => r = nI 2 ∧ s = ω) := by
  simp only [lw_Greedy_kind_2]
  first | exact ⟨rfl, trivial⟩ | exact ⟨h, rfl, trivial⟩ | exact ⟨h, h, rfl, trivial⟩ | exact ⟨rfl, rfl⟩ | exact ⟨h, rfl, rfl⟩ | exact ⟨h, h, rfl, rfl⟩
theorem ls_kind_3 {T : xT} {q : Nat → Nat} {ω : CS} {a : Nat} {n v : Int32} (h : lofR q ω a 3 n v) : lw_Holy_kind_3 T q a n v ω (fun r s => r = nI 3 ∧ s = ω) := by
  simp only [lw_Holy_kind_3]
  first | exact ⟨rfl, trivial⟩ | exact ⟨h, rfl, trivial⟩ | exact ⟨h, h, rfl, trivial⟩ | exact ⟨rfl, rfl⟩ | exact ⟨h, rfl, rfl⟩ | exact ⟨h, h, rfl, rfl⟩
theorem ls_kind_4 {T : xT} {q : Nat → Nat} {ω : CS} {a : Nat} {n v : Int32} (h : lofR q ω a 4 n v) : lw_Rye_kind_4 T q a n v ω (fun r s => r = nI 4 ∧ s = ω) := by
  simp only [lw_Rye_kind_4]
  first | exact ⟨rfl, trivial⟩ | exact ⟨h, rfl, trivial⟩ | exact ⟨h, h, rfl, trivial⟩ | exact ⟨rfl, rfl⟩ | exact ⟨h, rfl, rfl⟩ | exact ⟨h, h, rfl, rfl⟩
theorem ls_kind_5 {T : xT} {q : Nat → Nat} {ω : CS} {a : Nat} {n v : Int32} (h : lofR q ω a 5 n v) : lw_Poisoned_kind_5 T q a n v ω (fun r s => r = nI 5 ∧ s = ω) := by
  simp only [lw_Poisoned_kind_5]
  first | exact ⟨rfl, trivial⟩ | exact ⟨h, rfl, trivial⟩ | exact ⟨h, h, rfl, trivial⟩ | exact ⟨rfl, rfl⟩ | exact ⟨h, rfl, rfl⟩ | exact ⟨h, h, rfl, rfl⟩
theorem ls_kind_6 {T : xT} {q : Nat → Nat} {ω : CS} {a : Nat} {n v : Int32} (h : lofR q ω a 6 n v) : lw_Shy_kind_6 T q a n v ω (fun r s => r = nI 6 ∧ s = ω) := by
  simp only [lw_Shy_kind_6]
  first | exact ⟨rfl, trivial⟩ | exact ⟨h, rfl, trivial⟩ | exact ⟨h, h, rfl, trivial⟩ | exact ⟨rfl, rfl⟩ | exact ⟨h, rfl, rfl⟩ | exact ⟨h, h, rfl, rfl⟩
theorem ls_taking_0 {T : xT} {q : Nat → Nat} {ω : CS} {a : Nat} {n v held part bears : Int32} (h : lofR q ω a 0 n v) : lw_Loaf_taking_0 T q a n v ω held part bears (fun r s => r = lTake 0 v held part bears ∧ s = ω) := by
  simp only [lw_Loaf_taking_0]
  first | exact ⟨rfl, trivial⟩ | exact ⟨h, rfl, trivial⟩ | exact ⟨h, h, rfl, trivial⟩ | exact ⟨rfl, rfl⟩ | exact ⟨h, rfl, rfl⟩ | exact ⟨h, h, rfl, rfl⟩
theorem ls_taking_1 {T : xT} {q : Nat → Nat} {ω : CS} {a : Nat} {n v held part bears : Int32} (h : lofR q ω a 1 n v) : lw_Clean_taking_1 T q a n v ω held part bears (fun r s => r = lTake 1 v held part bears ∧ s = ω) := by
  simp only [lw_Clean_taking_1]
  first | exact ⟨rfl, trivial⟩ | exact ⟨h, rfl, trivial⟩ | exact ⟨h, h, rfl, trivial⟩ | exact ⟨rfl, rfl⟩ | exact ⟨h, rfl, rfl⟩ | exact ⟨h, h, rfl, rfl⟩
theorem ls_taking_2 {T : xT} {q : Nat → Nat} {ω : CS} {a : Nat} {n v held part bears : Int32} (h : lofR q ω a 2 n v) : lw_Greedy_taking_2 T q a n v ω held part bears (fun r s => r = lTake 2 v held part bears ∧ s = ω) := by
  simp only [lw_Greedy_taking_2, lw_Loaf_taking_2]
  first | exact ⟨rfl, trivial⟩ | exact ⟨h, rfl, trivial⟩ | exact ⟨h, h, rfl, trivial⟩ | exact ⟨rfl, rfl⟩ | exact ⟨h, rfl, rfl⟩ | exact ⟨h, h, rfl, rfl⟩
theorem ls_taking_3 {T : xT} {q : Nat → Nat} {ω : CS} {a : Nat} {n v held part bears : Int32} (h : lofR q ω a 3 n v) : lw_Holy_taking_3 T q a n v ω held part bears (fun r s => r = lTake 3 v held part bears ∧ s = ω) := by
  simp only [lw_Holy_taking_3, lw_Loaf_taking_3]
  first | exact ⟨rfl, trivial⟩ | exact ⟨h, rfl, trivial⟩ | exact ⟨h, h, rfl, trivial⟩ | exact ⟨rfl, rfl⟩ | exact ⟨h, rfl, rfl⟩ | exact ⟨h, h, rfl, rfl⟩
theorem ls_taking_4 {T : xT} {q : Nat → Nat} {ω : CS} {a : Nat} {n v held part bears : Int32} (h : lofR q ω a 4 n v) : lw_Rye_taking_4 T q a n v ω held part bears (fun r s => r = lTake 4 v held part bears ∧ s = ω) := by
  simp only [lw_Rye_taking_4, lw_Clean_taking_4]
  first | exact ⟨rfl, trivial⟩ | exact ⟨h, rfl, trivial⟩ | exact ⟨h, h, rfl, trivial⟩ | exact ⟨rfl, rfl⟩ | exact ⟨h, rfl, rfl⟩ | exact ⟨h, h, rfl, rfl⟩
theorem ls_taking_5 {T : xT} {q : Nat → Nat} {ω : CS} {a : Nat} {n v held part bears : Int32} (h : lofR q ω a 5 n v) : lw_Greedy_taking_5 T q a n v ω held part bears (fun r s => r = lTake 5 v held part bears ∧ s = ω) := by
  simp only [lw_Greedy_taking_5, lw_Loaf_taking_5]
  first | exact ⟨rfl, trivial⟩ | exact ⟨h, rfl, trivial⟩ | exact ⟨h, h, rfl, trivial⟩ | exact ⟨rfl, rfl⟩ | exact ⟨h, rfl, rfl⟩ | exact ⟨h, h, rfl, rfl⟩
theorem ls_taking_6 {T : xT} {q : Nat → Nat} {ω : CS} {a : Nat} {n v held part bears : Int32} (h : lofR q ω a 6 n v) : lw_Shy_taking_6 T q a n v ω held part bears (fun r s => r = lTake 6 v held part bears ∧ s = ω) := by
  simp only [lw_Shy_taking_6, lw_Holy_taking_6, lw_Loaf_taking_6]
  first | exact ⟨rfl, trivial⟩ | exact ⟨h, rfl, trivial⟩ | exact ⟨h, h, rfl, trivial⟩ | exact ⟨rfl, rfl⟩ | exact ⟨h, rfl, rfl⟩ | exact ⟨h, h, rfl, rfl⟩
theorem ls_leaving_0 {T : xT} {q : Nat → Nat} {ω : CS} {a : Nat} {n v told taste : Int32} (h : lofR q ω a 0 n v) : lw_Loaf_leaving_0 T q a n v ω told taste (fun r s => r = lLeave 0 v told taste ∧ s = ω) := by
  simp only [lw_Loaf_leaving_0]
  first | exact ⟨rfl, trivial⟩ | exact ⟨h, rfl, trivial⟩ | exact ⟨h, h, rfl, trivial⟩ | exact ⟨rfl, rfl⟩ | exact ⟨h, rfl, rfl⟩ | exact ⟨h, h, rfl, rfl⟩
theorem ls_leaving_1 {T : xT} {q : Nat → Nat} {ω : CS} {a : Nat} {n v told taste : Int32} (h : lofR q ω a 1 n v) : lw_Clean_leaving_1 T q a n v ω told taste (fun r s => r = lLeave 1 v told taste ∧ s = ω) := by
  simp only [lw_Clean_leaving_1]
  first | exact ⟨rfl, trivial⟩ | exact ⟨h, rfl, trivial⟩ | exact ⟨h, h, rfl, trivial⟩ | exact ⟨rfl, rfl⟩ | exact ⟨h, rfl, rfl⟩ | exact ⟨h, h, rfl, rfl⟩
theorem ls_leaving_2 {T : xT} {q : Nat → Nat} {ω : CS} {a : Nat} {n v told taste : Int32} (h : lofR q ω a 2 n v) : lw_Loaf_leaving_2 T q a n v ω told taste (fun r s => r = lLeave 2 v told taste ∧ s = ω) := by
  simp only [lw_Loaf_leaving_2]
  first | exact ⟨rfl, trivial⟩ | exact ⟨h, rfl, trivial⟩ | exact ⟨h, h, rfl, trivial⟩ | exact ⟨rfl, rfl⟩ | exact ⟨h, rfl, rfl⟩ | exact ⟨h, h, rfl, rfl⟩
theorem ls_leaving_3 {T : xT} {q : Nat → Nat} {ω : CS} {a : Nat} {n v told taste : Int32} (h : lofR q ω a 3 n v) : lw_Loaf_leaving_3 T q a n v ω told taste (fun r s => r = lLeave 3 v told taste ∧ s = ω) := by
  simp only [lw_Loaf_leaving_3]
  first | exact ⟨rfl, trivial⟩ | exact ⟨h, rfl, trivial⟩ | exact ⟨h, h, rfl, trivial⟩ | exact ⟨rfl, rfl⟩ | exact ⟨h, rfl, rfl⟩ | exact ⟨h, h, rfl, rfl⟩
theorem ls_leaving_4 {T : xT} {q : Nat → Nat} {ω : CS} {a : Nat} {n v told taste : Int32} (h : lofR q ω a 4 n v) : lw_Clean_leaving_4 T q a n v ω told taste (fun r s => r = lLeave 4 v told taste ∧ s = ω) := by
  simp only [lw_Clean_leaving_4]
  first | exact ⟨rfl, trivial⟩ | exact ⟨h, rfl, trivial⟩ | exact ⟨h, h, rfl, trivial⟩ | exact ⟨rfl, rfl⟩ | exact ⟨h, rfl, rfl⟩ | exact ⟨h, h, rfl, rfl⟩
theorem ls_leaving_5 {T : xT} {q : Nat → Nat} {ω : CS} {a : Nat} {n v told taste : Int32} (h : lofR q ω a 5 n v) : lw_Poisoned_leaving_5 T q a n v ω told taste (fun r s => r = lLeave 5 v told taste ∧ s = ω) := by
  simp only [lw_Poisoned_leaving_5, lw_Loaf_leaving_5]
  refine ⟨h, fun c => ⟨?_, trivial⟩, fun c => ⟨h, ?_, trivial⟩⟩ <;> simp [lLeave, c]
theorem ls_leaving_6 {T : xT} {q : Nat → Nat} {ω : CS} {a : Nat} {n v told taste : Int32} (h : lofR q ω a 6 n v) : lw_Shy_leaving_6 T q a n v ω told taste (fun r s => r = lLeave 6 v told taste ∧ s = ω) := by
  simp only [lw_Shy_leaving_6, lw_Loaf_leaving_6]
  first | exact ⟨rfl, trivial⟩ | exact ⟨h, rfl, trivial⟩ | exact ⟨h, h, rfl, trivial⟩ | exact ⟨rfl, rfl⟩ | exact ⟨h, rfl, rfl⟩ | exact ⟨h, h, rfl, rfl⟩
section KLY
variable {D : va_G} {T : xT} {Γ : xE} {cc : ByteArray} {own : String} {nL lev mc ms : Nat} {ret : Option FieldType} {cells slots pc : Nat} {lv : List (Nat × Value)} {st : List Value} {q : Nat → Nat} {ω : CS}
theorem kl_kind (G : xG D T Γ cc own nL ret lev mc ms) {idx a kd : Nat} {n v : Int32} (h : lofR q ω a kd n v) (hlink : Cond.methodLink own idx ⟨"BakedBefore$Loaf", "kind", "()I"⟩ ∈ lw_all) (d : decode cc pc = .ok (.invokevirtual idx, 3)) (hcat : (st.map fun v => v.category).sum ≤ 8) (hlev : 6 ≤ lev) (hroom : cells ≤ mc ∧ slots ≤ ms) (kk : K D Γ cells slots (pc + 3) lv (.int (nI kd) :: st) (cw T q ω)) : K D Γ cells slots pc lv (.ref a :: st) (cw T q ω) := by
  have hkd := h.1
  match kd, hkd, h with
  | 0, _, h => exact kl_callU G (As := []) (rest := st) h (lk_Loaf_kind_0 _ D T q a n v ω _ (ls_kind_0 h)) (x := ⟨"BakedBefore$Loaf", "kind", "()I"⟩) (owner := "BakedBefore$Loaf") (C := RX7) rfl xu_Loaf_kind_0 hlink d rfl rfl hcat (by omega) hroom (kk := fun r s hk => by obtain ⟨rfl, rfl⟩ := hk; exact kk)
  | 1, _, h => exact kl_callU G (As := []) (rest := st) h (lk_Clean_kind_1 _ D T q a n v ω _ (ls_kind_1 h)) (x := ⟨"BakedBefore$Loaf", "kind", "()I"⟩) (owner := "BakedBefore$Loaf") (C := RX8) rfl xu_Loaf_kind_1 hlink d rfl rfl hcat (by omega) hroom (kk := fun r s hk => by obtain ⟨rfl, rfl⟩ := hk; exact kk)
  | 2, _, h => exact kl_callU G (As := []) (rest := st) h (lk_Greedy_kind_2 _ D T q a n v ω _ (ls_kind_2 h)) (x := ⟨"BakedBefore$Loaf", "kind", "()I"⟩) (owner := "BakedBefore$Loaf") (C := RX9) rfl xu_Loaf_kind_2 hlink d rfl rfl hcat (by omega) hroom (kk := fun r s hk => by obtain ⟨rfl, rfl⟩ := hk; exact kk)
  | 3, _, h => exact kl_callU G (As := []) (rest := st) h (lk_Holy_kind_3 _ D T q a n v ω _ (ls_kind_3 h)) (x := ⟨"BakedBefore$Loaf", "kind", "()I"⟩) (owner := "BakedBefore$Loaf") (C := RX10) rfl xu_Loaf_kind_3 hlink d rfl rfl hcat (by omega) hroom (kk := fun r s hk => by obtain ⟨rfl, rfl⟩ := hk; exact kk)
  | 4, _, h => exact kl_callU G (As := []) (rest := st) h (lk_Rye_kind_4 _ D T q a n v ω _ (ls_kind_4 h)) (x := ⟨"BakedBefore$Loaf", "kind", "()I"⟩) (owner := "BakedBefore$Loaf") (C := RX11) rfl xu_Loaf_kind_4 hlink d rfl rfl hcat (by omega) hroom (kk := fun r s hk => by obtain ⟨rfl, rfl⟩ := hk; exact kk)
  | 5, _, h => exact kl_callU G (As := []) (rest := st) h (lk_Poisoned_kind_5 _ D T q a n v ω _ (ls_kind_5 h)) (x := ⟨"BakedBefore$Loaf", "kind", "()I"⟩) (owner := "BakedBefore$Loaf") (C := RX12) rfl xu_Loaf_kind_5 hlink d rfl rfl hcat (by omega) hroom (kk := fun r s hk => by obtain ⟨rfl, rfl⟩ := hk; exact kk)
  | 6, _, h => exact kl_callU G (As := []) (rest := st) h (lk_Shy_kind_6 _ D T q a n v ω _ (ls_kind_6 h)) (x := ⟨"BakedBefore$Loaf", "kind", "()I"⟩) (owner := "BakedBefore$Loaf") (C := RX13) rfl xu_Loaf_kind_6 hlink d rfl rfl hcat (by omega) hroom (kk := fun r s hk => by obtain ⟨rfl, rfl⟩ := hk; exact kk)
theorem kl_taking (G : xG D T Γ cc own nL ret lev mc ms) {idx a kd : Nat} {n v held part bears : Int32} (h : lofR q ω a kd n v) (hlink : Cond.methodLink own idx ⟨"BakedBefore$Loaf", "taking", "(III)I"⟩ ∈ lw_all) (d : decode cc pc = .ok (.invokevirtual idx, 3)) (hcat : (st.map fun v => v.category).sum ≤ 8) (hlev : 6 ≤ lev) (hroom : cells ≤ mc ∧ slots ≤ ms) (kk : K D Γ cells slots (pc + 3) lv (.int (lTake kd v held part bears) :: st) (cw T q ω)) : K D Γ cells slots pc lv (.int bears :: .int part :: .int held :: .ref a :: st) (cw T q ω) := by
  have hkd := h.1
  match kd, hkd, h with
  | 0, _, h => exact kl_callU G (As := [.int held, .int part, .int bears]) (rest := st) h (lk_Loaf_taking_0 _ D T q a n v ω held part bears _ (ls_taking_0 h)) (x := ⟨"BakedBefore$Loaf", "taking", "(III)I"⟩) (owner := "BakedBefore$Loaf") (C := RX7) rfl xu_Loaf_taking_0 hlink d rfl rfl hcat (by omega) hroom (kk := fun r s hk => by obtain ⟨rfl, rfl⟩ := hk; exact kk)
  | 1, _, h => exact kl_callU G (As := [.int held, .int part, .int bears]) (rest := st) h (lk_Clean_taking_1 _ D T q a n v ω held part bears _ (ls_taking_1 h)) (x := ⟨"BakedBefore$Loaf", "taking", "(III)I"⟩) (owner := "BakedBefore$Loaf") (C := RX8) rfl xu_Loaf_taking_1 hlink d rfl rfl hcat (by omega) hroom (kk := fun r s hk => by obtain ⟨rfl, rfl⟩ := hk; exact kk)
  | 2, _, h => exact kl_callU G (As := [.int held, .int part, .int bears]) (rest := st) h (lk_Greedy_taking_2 _ D T q a n v ω held part bears _ (ls_taking_2 h)) (x := ⟨"BakedBefore$Loaf", "taking", "(III)I"⟩) (owner := "BakedBefore$Loaf") (C := RX9) rfl xu_Loaf_taking_2 hlink d rfl rfl hcat (by omega) hroom (kk := fun r s hk => by obtain ⟨rfl, rfl⟩ := hk; exact kk)
  | 3, _, h => exact kl_callU G (As := [.int held, .int part, .int bears]) (rest := st) h (lk_Holy_taking_3 _ D T q a n v ω held part bears _ (ls_taking_3 h)) (x := ⟨"BakedBefore$Loaf", "taking", "(III)I"⟩) (owner := "BakedBefore$Loaf") (C := RX10) rfl xu_Loaf_taking_3 hlink d rfl rfl hcat (by omega) hroom (kk := fun r s hk => by obtain ⟨rfl, rfl⟩ := hk; exact kk)
  | 4, _, h => exact kl_callU G (As := [.int held, .int part, .int bears]) (rest := st) h (lk_Rye_taking_4 _ D T q a n v ω held part bears _ (ls_taking_4 h)) (x := ⟨"BakedBefore$Loaf", "taking", "(III)I"⟩) (owner := "BakedBefore$Loaf") (C := RX11) rfl xu_Loaf_taking_4 hlink d rfl rfl hcat (by omega) hroom (kk := fun r s hk => by obtain ⟨rfl, rfl⟩ := hk; exact kk)
  | 5, _, h => exact kl_callU G (As := [.int held, .int part, .int bears]) (rest := st) h (lk_Greedy_taking_5 _ D T q a n v ω held part bears _ (ls_taking_5 h)) (x := ⟨"BakedBefore$Loaf", "taking", "(III)I"⟩) (owner := "BakedBefore$Loaf") (C := RX12) rfl xu_Loaf_taking_5 hlink d rfl rfl hcat (by omega) hroom (kk := fun r s hk => by obtain ⟨rfl, rfl⟩ := hk; exact kk)
  | 6, _, h => exact kl_callU G (As := [.int held, .int part, .int bears]) (rest := st) h (lk_Shy_taking_6 _ D T q a n v ω held part bears _ (ls_taking_6 h)) (x := ⟨"BakedBefore$Loaf", "taking", "(III)I"⟩) (owner := "BakedBefore$Loaf") (C := RX13) rfl xu_Loaf_taking_6 hlink d rfl rfl hcat (by omega) hroom (kk := fun r s hk => by obtain ⟨rfl, rfl⟩ := hk; exact kk)
theorem kl_leaving (G : xG D T Γ cc own nL ret lev mc ms) {idx a kd : Nat} {n v told taste : Int32} (h : lofR q ω a kd n v) (hlink : Cond.methodLink own idx ⟨"BakedBefore$Loaf", "leaving", "(II)I"⟩ ∈ lw_all) (d : decode cc pc = .ok (.invokevirtual idx, 3)) (hcat : (st.map fun v => v.category).sum ≤ 8) (hlev : 6 ≤ lev) (hroom : cells ≤ mc ∧ slots ≤ ms) (kk : K D Γ cells slots (pc + 3) lv (.int (lLeave kd v told taste) :: st) (cw T q ω)) : K D Γ cells slots pc lv (.int taste :: .int told :: .ref a :: st) (cw T q ω) := by
  have hkd := h.1
  match kd, hkd, h with
  | 0, _, h => exact kl_callU G (As := [.int told, .int taste]) (rest := st) h (lk_Loaf_leaving_0 _ D T q a n v ω told taste _ (ls_leaving_0 h)) (x := ⟨"BakedBefore$Loaf", "leaving", "(II)I"⟩) (owner := "BakedBefore$Loaf") (C := RX7) rfl xu_Loaf_leaving_0 hlink d rfl rfl hcat (by omega) hroom (kk := fun r s hk => by obtain ⟨rfl, rfl⟩ := hk; exact kk)
  | 1, _, h => exact kl_callU G (As := [.int told, .int taste]) (rest := st) h (lk_Clean_leaving_1 _ D T q a n v ω told taste _ (ls_leaving_1 h)) (x := ⟨"BakedBefore$Loaf", "leaving", "(II)I"⟩) (owner := "BakedBefore$Loaf") (C := RX8) rfl xu_Loaf_leaving_1 hlink d rfl rfl hcat (by omega) hroom (kk := fun r s hk => by obtain ⟨rfl, rfl⟩ := hk; exact kk)
  | 2, _, h => exact kl_callU G (As := [.int told, .int taste]) (rest := st) h (lk_Loaf_leaving_2 _ D T q a n v ω told taste _ (ls_leaving_2 h)) (x := ⟨"BakedBefore$Loaf", "leaving", "(II)I"⟩) (owner := "BakedBefore$Loaf") (C := RX9) rfl xu_Loaf_leaving_2 hlink d rfl rfl hcat (by omega) hroom (kk := fun r s hk => by obtain ⟨rfl, rfl⟩ := hk; exact kk)
  | 3, _, h => exact kl_callU G (As := [.int told, .int taste]) (rest := st) h (lk_Loaf_leaving_3 _ D T q a n v ω told taste _ (ls_leaving_3 h)) (x := ⟨"BakedBefore$Loaf", "leaving", "(II)I"⟩) (owner := "BakedBefore$Loaf") (C := RX10) rfl xu_Loaf_leaving_3 hlink d rfl rfl hcat (by omega) hroom (kk := fun r s hk => by obtain ⟨rfl, rfl⟩ := hk; exact kk)
  | 4, _, h => exact kl_callU G (As := [.int told, .int taste]) (rest := st) h (lk_Clean_leaving_4 _ D T q a n v ω told taste _ (ls_leaving_4 h)) (x := ⟨"BakedBefore$Loaf", "leaving", "(II)I"⟩) (owner := "BakedBefore$Loaf") (C := RX11) rfl xu_Loaf_leaving_4 hlink d rfl rfl hcat (by omega) hroom (kk := fun r s hk => by obtain ⟨rfl, rfl⟩ := hk; exact kk)
  | 5, _, h => exact kl_callU G (As := [.int told, .int taste]) (rest := st) h (lk_Poisoned_leaving_5 _ D T q a n v ω told taste _ (ls_leaving_5 h)) (x := ⟨"BakedBefore$Loaf", "leaving", "(II)I"⟩) (owner := "BakedBefore$Loaf") (C := RX12) rfl xu_Loaf_leaving_5 hlink d rfl rfl hcat (by omega) hroom (kk := fun r s hk => by obtain ⟨rfl, rfl⟩ := hk; exact kk)
  | 6, _, h => exact kl_callU G (As := [.int told, .int taste]) (rest := st) h (lk_Shy_leaving_6 _ D T q a n v ω told taste _ (ls_leaving_6 h)) (x := ⟨"BakedBefore$Loaf", "leaving", "(II)I"⟩) (owner := "BakedBefore$Loaf") (C := RX13) rfl xu_Loaf_leaving_6 hlink d rfl rfl hcat (by omega) hroom (kk := fun r s hk => by obtain ⟨rfl, rfl⟩ := hk; exact kk)
def lw_rises (T : xT) (q : Nat → Nat) (kd a : Nat) (n v : Int32) (s : CS) (x : Int32) (k : Int32 → CS → Prop) : Prop := match kd with
  | 0 => lw_Loaf_rises_0 T q a n v s x k
  | 1 => lw_Loaf_rises_1 T q a n v s x k
  | 2 => lw_Greedy_rises_2 T q a n v s x k
  | 3 => lw_Loaf_rises_3 T q a n v s x k
  | 4 => lw_Rye_rises_4 T q a n v s x k
  | 5 => lw_Greedy_rises_5 T q a n v s x k
  | _ => lw_Shy_rises_6 T q a n v s x k
theorem kl_rises (G : xG D T Γ cc own nL ret lev mc ms) {idx a kd : Nat} {n v x : Int32} {k : Int32 → CS → Prop} (hl : lofR q ω a kd n v) (h : lw_rises T q kd a n v ω x k) (hlink : Cond.methodLink own idx ⟨"BakedBefore$Loaf", "rises", "(I)I"⟩ ∈ lw_all) (d : decode cc pc = .ok (.invokevirtual idx, 3)) (hcat : (st.map fun v => v.category).sum ≤ 8) (hlev : 16 ≤ lev) (hroom : cells ≤ mc ∧ slots ≤ ms) (kk : ∀ (r : Int32) (s : CS), k r s → K D Γ cells slots (pc + 3) lv (.int r :: st) (cw T q s)) : K D Γ cells slots pc lv (.int x :: .ref a :: st) (cw T q ω) := by
  have hkd := hl.1
  match kd, hkd, hl, h with
  | 0, _, hl, h => exact kl_callU G (As := [.int x]) (rest := st) hl (lk_Loaf_rises_0 _ D T q a n v ω x _ h) (x := ⟨"BakedBefore$Loaf", "rises", "(I)I"⟩) (owner := "BakedBefore$Loaf") (C := RX7) rfl xu_Loaf_rises_0 hlink d rfl rfl hcat (by omega) hroom (kk := kk)
  | 1, _, hl, h => exact kl_callU G (As := [.int x]) (rest := st) hl (lk_Loaf_rises_1 _ D T q a n v ω x _ h) (x := ⟨"BakedBefore$Loaf", "rises", "(I)I"⟩) (owner := "BakedBefore$Loaf") (C := RX8) rfl xu_Loaf_rises_1 hlink d rfl rfl hcat (by omega) hroom (kk := kk)
  | 2, _, hl, h => exact kl_callU G (As := [.int x]) (rest := st) hl (lk_Greedy_rises_2 _ D T q a n v ω x _ h) (x := ⟨"BakedBefore$Loaf", "rises", "(I)I"⟩) (owner := "BakedBefore$Loaf") (C := RX9) rfl xu_Loaf_rises_2 hlink d rfl rfl hcat (by omega) hroom (kk := kk)
  | 3, _, hl, h => exact kl_callU G (As := [.int x]) (rest := st) hl (lk_Loaf_rises_3 _ D T q a n v ω x _ h) (x := ⟨"BakedBefore$Loaf", "rises", "(I)I"⟩) (owner := "BakedBefore$Loaf") (C := RX10) rfl xu_Loaf_rises_3 hlink d rfl rfl hcat (by omega) hroom (kk := kk)
  | 4, _, hl, h => exact kl_callU G (As := [.int x]) (rest := st) hl (lk_Rye_rises_4 _ D T q a n v ω x _ h) (x := ⟨"BakedBefore$Loaf", "rises", "(I)I"⟩) (owner := "BakedBefore$Loaf") (C := RX11) rfl xu_Loaf_rises_4 hlink d rfl rfl hcat (by omega) hroom (kk := kk)
  | 5, _, hl, h => exact kl_callU G (As := [.int x]) (rest := st) hl (lk_Greedy_rises_5 _ D T q a n v ω x _ h) (x := ⟨"BakedBefore$Loaf", "rises", "(I)I"⟩) (owner := "BakedBefore$Loaf") (C := RX12) rfl xu_Loaf_rises_5 hlink d rfl rfl hcat (by omega) hroom (kk := kk)
  | 6, _, hl, h => exact kl_callU G (As := [.int x]) (rest := st) hl (lk_Shy_rises_6 _ D T q a n v ω x _ h) (x := ⟨"BakedBefore$Loaf", "rises", "(I)I"⟩) (owner := "BakedBefore$Loaf") (C := RX13) rfl xu_Loaf_rises_6 hlink d rfl rfl hcat (by omega) hroom (kk := kk)
def lw_bakes (T : xT) (q : Nat → Nat) (kd a : Nat) (n v : Int32) (s : CS) (x : Int32) (k : Int32 → CS → Prop) : Prop := match kd with
  | 0 => lw_Loaf_bakes_0 T q a n v s x k
  | 1 => lw_Clean_bakes_1 T q a n v s x k
  | 2 => lw_Loaf_bakes_2 T q a n v s x k
  | 3 => lw_Loaf_bakes_3 T q a n v s x k
  | 4 => lw_Rye_bakes_4 T q a n v s x k
  | 5 => lw_Loaf_bakes_5 T q a n v s x k
  | _ => lw_Shy_bakes_6 T q a n v s x k
theorem kl_bakes (G : xG D T Γ cc own nL ret lev mc ms) {idx a kd : Nat} {n v x : Int32} {k : Int32 → CS → Prop} (hl : lofR q ω a kd n v) (h : lw_bakes T q kd a n v ω x k) (hlink : Cond.methodLink own idx ⟨"BakedBefore$Loaf", "bakes", "(I)I"⟩ ∈ lw_all) (d : decode cc pc = .ok (.invokevirtual idx, 3)) (hcat : (st.map fun v => v.category).sum ≤ 8) (hlev : 16 ≤ lev) (hroom : cells ≤ mc ∧ slots ≤ ms) (kk : ∀ (r : Int32) (s : CS), k r s → K D Γ cells slots (pc + 3) lv (.int r :: st) (cw T q s)) : K D Γ cells slots pc lv (.int x :: .ref a :: st) (cw T q ω) := by
  have hkd := hl.1
  match kd, hkd, hl, h with
  | 0, _, hl, h => exact kl_callU G (As := [.int x]) (rest := st) hl (lk_Loaf_bakes_0 _ D T q a n v ω x _ h) (x := ⟨"BakedBefore$Loaf", "bakes", "(I)I"⟩) (owner := "BakedBefore$Loaf") (C := RX7) rfl xu_Loaf_bakes_0 hlink d rfl rfl hcat (by omega) hroom (kk := kk)
  | 1, _, hl, h => exact kl_callU G (As := [.int x]) (rest := st) hl (lk_Clean_bakes_1 _ D T q a n v ω x _ h) (x := ⟨"BakedBefore$Loaf", "bakes", "(I)I"⟩) (owner := "BakedBefore$Loaf") (C := RX8) rfl xu_Loaf_bakes_1 hlink d rfl rfl hcat (by omega) hroom (kk := kk)
  | 2, _, hl, h => exact kl_callU G (As := [.int x]) (rest := st) hl (lk_Loaf_bakes_2 _ D T q a n v ω x _ h) (x := ⟨"BakedBefore$Loaf", "bakes", "(I)I"⟩) (owner := "BakedBefore$Loaf") (C := RX9) rfl xu_Loaf_bakes_2 hlink d rfl rfl hcat (by omega) hroom (kk := kk)
  | 3, _, hl, h => exact kl_callU G (As := [.int x]) (rest := st) hl (lk_Loaf_bakes_3 _ D T q a n v ω x _ h) (x := ⟨"BakedBefore$Loaf", "bakes", "(I)I"⟩) (owner := "BakedBefore$Loaf") (C := RX10) rfl xu_Loaf_bakes_3 hlink d rfl rfl hcat (by omega) hroom (kk := kk)
  | 4, _, hl, h => exact kl_callU G (As := [.int x]) (rest := st) hl (lk_Rye_bakes_4 _ D T q a n v ω x _ h) (x := ⟨"BakedBefore$Loaf", "bakes", "(I)I"⟩) (owner := "BakedBefore$Loaf") (C := RX11) rfl xu_Loaf_bakes_4 hlink d rfl rfl hcat (by omega) hroom (kk := kk)
  | 5, _, hl, h => exact kl_callU G (As := [.int x]) (rest := st) hl (lk_Loaf_bakes_5 _ D T q a n v ω x _ h) (x := ⟨"BakedBefore$Loaf", "bakes", "(I)I"⟩) (owner := "BakedBefore$Loaf") (C := RX12) rfl xu_Loaf_bakes_5 hlink d rfl rfl hcat (by omega) hroom (kk := kk)
  | 6, _, hl, h => exact kl_callU G (As := [.int x]) (rest := st) hl (lk_Shy_bakes_6 _ D T q a n v ω x _ h) (x := ⟨"BakedBefore$Loaf", "bakes", "(I)I"⟩) (owner := "BakedBefore$Loaf") (C := RX13) rfl xu_Loaf_bakes_6 hlink d rfl rfl hcat (by omega) hroom (kk := kk)
def lw_tells (T : xT) (q : Nat → Nat) (kd a : Nat) (n v : Int32) (s : CS) (x : Int32) (k : Int32 → CS → Prop) : Prop := match kd with
  | 0 => lw_Loaf_tells_0 T q a n v s x k
  | 1 => lw_Loaf_tells_1 T q a n v s x k
  | 2 => lw_Loaf_tells_2 T q a n v s x k
  | 3 => lw_Holy_tells_3 T q a n v s x k
  | 4 => lw_Loaf_tells_4 T q a n v s x k
  | 5 => lw_Poisoned_tells_5 T q a n v s x k
  | _ => lw_Holy_tells_6 T q a n v s x k
theorem kl_tells (G : xG D T Γ cc own nL ret lev mc ms) {idx a kd : Nat} {n v x : Int32} {k : Int32 → CS → Prop} (hl : lofR q ω a kd n v) (h : lw_tells T q kd a n v ω x k) (hlink : Cond.methodLink own idx ⟨"BakedBefore$Loaf", "tells", "(I)I"⟩ ∈ lw_all) (d : decode cc pc = .ok (.invokevirtual idx, 3)) (hcat : (st.map fun v => v.category).sum ≤ 8) (hlev : 16 ≤ lev) (hroom : cells ≤ mc ∧ slots ≤ ms) (kk : ∀ (r : Int32) (s : CS), k r s → K D Γ cells slots (pc + 3) lv (.int r :: st) (cw T q s)) : K D Γ cells slots pc lv (.int x :: .ref a :: st) (cw T q ω) := by
  have hkd := hl.1
  match kd, hkd, hl, h with
  | 0, _, hl, h => exact kl_callU G (As := [.int x]) (rest := st) hl (lk_Loaf_tells_0 _ D T q a n v ω x _ h) (x := ⟨"BakedBefore$Loaf", "tells", "(I)I"⟩) (owner := "BakedBefore$Loaf") (C := RX7) rfl xu_Loaf_tells_0 hlink d rfl rfl hcat (by omega) hroom (kk := kk)
  | 1, _, hl, h => exact kl_callU G (As := [.int x]) (rest := st) hl (lk_Loaf_tells_1 _ D T q a n v ω x _ h) (x := ⟨"BakedBefore$Loaf", "tells", "(I)I"⟩) (owner := "BakedBefore$Loaf") (C := RX8) rfl xu_Loaf_tells_1 hlink d rfl rfl hcat (by omega) hroom (kk := kk)
  | 2, _, hl, h => exact kl_callU G (As := [.int x]) (rest := st) hl (lk_Loaf_tells_2 _ D T q a n v ω x _ h) (x := ⟨"BakedBefore$Loaf", "tells", "(I)I"⟩) (owner := "BakedBefore$Loaf") (C := RX9) rfl xu_Loaf_tells_2 hlink d rfl rfl hcat (by omega) hroom (kk := kk)
  | 3, _, hl, h => exact kl_callU G (As := [.int x]) (rest := st) hl (lk_Holy_tells_3 _ D T q a n v ω x _ h) (x := ⟨"BakedBefore$Loaf", "tells", "(I)I"⟩) (owner := "BakedBefore$Loaf") (C := RX10) rfl xu_Loaf_tells_3 hlink d rfl rfl hcat (by omega) hroom (kk := kk)
  | 4, _, hl, h => exact kl_callU G (As := [.int x]) (rest := st) hl (lk_Loaf_tells_4 _ D T q a n v ω x _ h) (x := ⟨"BakedBefore$Loaf", "tells", "(I)I"⟩) (owner := "BakedBefore$Loaf") (C := RX11) rfl xu_Loaf_tells_4 hlink d rfl rfl hcat (by omega) hroom (kk := kk)
  | 5, _, hl, h => exact kl_callU G (As := [.int x]) (rest := st) hl (lk_Poisoned_tells_5 _ D T q a n v ω x _ h) (x := ⟨"BakedBefore$Loaf", "tells", "(I)I"⟩) (owner := "BakedBefore$Loaf") (C := RX12) rfl xu_Loaf_tells_5 hlink d rfl rfl hcat (by omega) hroom (kk := kk)
  | 6, _, hl, h => exact kl_callU G (As := [.int x]) (rest := st) hl (lk_Holy_tells_6 _ D T q a n v ω x _ h) (x := ⟨"BakedBefore$Loaf", "tells", "(I)I"⟩) (owner := "BakedBefore$Loaf") (C := RX13) rfl xu_Loaf_tells_6 hlink d rfl rfl hcat (by omega) hroom (kk := kk)
end KLY
