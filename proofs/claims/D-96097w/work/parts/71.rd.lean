/-! the reader: here, off, must, word, number, deeper -/
set_option maxRecDepth 100000
abbrev cX14_here : ByteArray := prog_13_method_2_code
def yX14_here : MethodName := ⟨RX14, "here", "()I"⟩
def dkwX14_here_1 : List UInt8 := [172]
abbrev dktX14_here_1 : List UInt8 := dkwX14_here_1 ++ []
def dkwX14_here_0 : List UInt8 := [42, 180, 0, 26, 42, 180, 0, 22, 162, 0, 15, 42, 180, 0, 18, 42, 180, 0, 26, 51, 167, 0, 4, 2]
abbrev dktX14_here_0 : List UInt8 := dkwX14_here_0 ++ dktX14_here_1
theorem dksX14_here_0 : cX14_here.data.toList.drop 0 = dktX14_here_0 := by decide +kernel
theorem dksX14_here_1 : cX14_here.data.toList.drop 24 = dktX14_here_1 := dk_seg dksX14_here_0 24 rfl rfl
theorem dX14_here_0 : decode cX14_here 0 = .ok (.aload_n 0, 1) := dk_42 (dk_at dksX14_here_0 0 rfl rfl)
theorem dX14_here_1 : decode cX14_here 1 = .ok (.getfield 26, 3) := dk_180 0 26 (dk_at dksX14_here_0 1 rfl rfl)
theorem dX14_here_4 : decode cX14_here 4 = .ok (.aload_n 0, 1) := dk_42 (dk_at dksX14_here_0 4 rfl rfl)
theorem dX14_here_5 : decode cX14_here 5 = .ok (.getfield 22, 3) := dk_180 0 22 (dk_at dksX14_here_0 5 rfl rfl)
theorem dX14_here_8 : decode cX14_here 8 = .ok (.if_icmp .ge 15, 3) := dk_162 0 15 (dk_at dksX14_here_0 8 rfl rfl)
theorem dX14_here_11 : decode cX14_here 11 = .ok (.aload_n 0, 1) := dk_42 (dk_at dksX14_here_0 11 rfl rfl)
theorem dX14_here_12 : decode cX14_here 12 = .ok (.getfield 18, 3) := dk_180 0 18 (dk_at dksX14_here_0 12 rfl rfl)
theorem dX14_here_15 : decode cX14_here 15 = .ok (.aload_n 0, 1) := dk_42 (dk_at dksX14_here_0 15 rfl rfl)
theorem dX14_here_16 : decode cX14_here 16 = .ok (.getfield 26, 3) := dk_180 0 26 (dk_at dksX14_here_0 16 rfl rfl)
theorem dX14_here_19 : decode cX14_here 19 = .ok (.baload, 1) := dk_51 (dk_at dksX14_here_0 19 rfl rfl)
theorem dX14_here_20 : decode cX14_here 20 = .ok (.goto 4, 3) := dk_167 0 4 (dk_at dksX14_here_0 20 rfl rfl)
theorem dX14_here_23 : decode cX14_here 23 = .ok (.iconst (-1), 1) := dk_2 (dk_at dksX14_here_0 23 rfl rfl)
theorem dX14_here_24 : decode cX14_here 24 = .ok (.ireturn, 1) := dk_172 (dk_at dksX14_here_1 0 rfl rfl)
abbrev cX14_off : ByteArray := prog_13_method_3_code
def yX14_off : MethodName := ⟨RX14, "off", "()LBakedBefore$Off;"⟩
def dkwX14_off_0 : List UInt8 := [187, 0, 29, 89, 42, 180, 0, 26, 183, 0, 31, 176]
abbrev dktX14_off_0 : List UInt8 := dkwX14_off_0 ++ []
theorem dksX14_off_0 : cX14_off.data.toList.drop 0 = dktX14_off_0 := by decide +kernel
theorem dX14_off_0 : decode cX14_off 0 = .ok (.new 29, 3) := dk_187 0 29 (dk_at dksX14_off_0 0 rfl rfl)
theorem dX14_off_3 : decode cX14_off 3 = .ok (.dup, 1) := dk_89 (dk_at dksX14_off_0 3 rfl rfl)
theorem dX14_off_4 : decode cX14_off 4 = .ok (.aload_n 0, 1) := dk_42 (dk_at dksX14_off_0 4 rfl rfl)
theorem dX14_off_5 : decode cX14_off 5 = .ok (.getfield 26, 3) := dk_180 0 26 (dk_at dksX14_off_0 5 rfl rfl)
theorem dX14_off_8 : decode cX14_off 8 = .ok (.invokespecial 31, 3) := dk_183 0 31 (dk_at dksX14_off_0 8 rfl rfl)
theorem dX14_off_11 : decode cX14_off 11 = .ok (.areturn, 1) := dk_176 (dk_at dksX14_off_0 11 rfl rfl)
abbrev cX14_must : ByteArray := prog_13_method_4_code
def yX14_must : MethodName := ⟨RX14, "must", "(I)V"⟩
def dkwX14_must_0 : List UInt8 := [42, 182, 0, 34, 27, 159, 0, 8, 42, 182, 0, 38, 191, 42, 89, 180, 0, 26, 4, 96, 181, 0, 26, 177]
abbrev dktX14_must_0 : List UInt8 := dkwX14_must_0 ++ []
theorem dksX14_must_0 : cX14_must.data.toList.drop 0 = dktX14_must_0 := by decide +kernel
theorem dX14_must_0 : decode cX14_must 0 = .ok (.aload_n 0, 1) := dk_42 (dk_at dksX14_must_0 0 rfl rfl)
theorem dX14_must_1 : decode cX14_must 1 = .ok (.invokevirtual 34, 3) := dk_182 0 34 (dk_at dksX14_must_0 1 rfl rfl)
theorem dX14_must_4 : decode cX14_must 4 = .ok (.iload_n 1, 1) := dk_27 (dk_at dksX14_must_0 4 rfl rfl)
theorem dX14_must_5 : decode cX14_must 5 = .ok (.if_icmp .eq 8, 3) := dk_159 0 8 (dk_at dksX14_must_0 5 rfl rfl)
theorem dX14_must_8 : decode cX14_must 8 = .ok (.aload_n 0, 1) := dk_42 (dk_at dksX14_must_0 8 rfl rfl)
theorem dX14_must_9 : decode cX14_must 9 = .ok (.invokevirtual 38, 3) := dk_182 0 38 (dk_at dksX14_must_0 9 rfl rfl)
theorem dX14_must_12 : decode cX14_must 12 = .ok (.athrow, 1) := dk_191 (dk_at dksX14_must_0 12 rfl rfl)
theorem dX14_must_13 : decode cX14_must 13 = .ok (.aload_n 0, 1) := dk_42 (dk_at dksX14_must_0 13 rfl rfl)
theorem dX14_must_14 : decode cX14_must 14 = .ok (.dup, 1) := dk_89 (dk_at dksX14_must_0 14 rfl rfl)
theorem dX14_must_15 : decode cX14_must 15 = .ok (.getfield 26, 3) := dk_180 0 26 (dk_at dksX14_must_0 15 rfl rfl)
theorem dX14_must_18 : decode cX14_must 18 = .ok (.iconst 1, 1) := dk_4 (dk_at dksX14_must_0 18 rfl rfl)
theorem dX14_must_19 : decode cX14_must 19 = .ok (.iadd, 1) := dk_96 (dk_at dksX14_must_0 19 rfl rfl)
theorem dX14_must_20 : decode cX14_must 20 = .ok (.putfield 26, 3) := dk_181 0 26 (dk_at dksX14_must_0 20 rfl rfl)
theorem dX14_must_23 : decode cX14_must 23 = .ok (.return_, 1) := dk_177 (dk_at dksX14_must_0 23 rfl rfl)
abbrev cX14_word : ByteArray := prog_13_method_5_code
def yX14_word : MethodName := ⟨RX14, "word", "(Ljava/lang/String;)V"⟩
def dkwX14_word_1 : List UInt8 := [167, 255, 236, 177]
abbrev dktX14_word_1 : List UInt8 := dkwX14_word_1 ++ []
def dkwX14_word_0 : List UInt8 := [3, 61, 28, 43, 182, 0, 42, 162, 0, 18, 42, 43, 28, 182, 0, 47, 182, 0, 51, 132, 2, 1]
abbrev dktX14_word_0 : List UInt8 := dkwX14_word_0 ++ dktX14_word_1
theorem dksX14_word_0 : cX14_word.data.toList.drop 0 = dktX14_word_0 := by decide +kernel
theorem dksX14_word_1 : cX14_word.data.toList.drop 22 = dktX14_word_1 := dk_seg dksX14_word_0 22 rfl rfl
theorem dX14_word_0 : decode cX14_word 0 = .ok (.iconst 0, 1) := dk_3 (dk_at dksX14_word_0 0 rfl rfl)
theorem dX14_word_1 : decode cX14_word 1 = .ok (.istore_n 2, 1) := dk_61 (dk_at dksX14_word_0 1 rfl rfl)
theorem dX14_word_2 : decode cX14_word 2 = .ok (.iload_n 2, 1) := dk_28 (dk_at dksX14_word_0 2 rfl rfl)
theorem dX14_word_3 : decode cX14_word 3 = .ok (.aload_n 1, 1) := dk_43 (dk_at dksX14_word_0 3 rfl rfl)
theorem dX14_word_4 : decode cX14_word 4 = .ok (.invokevirtual 42, 3) := dk_182 0 42 (dk_at dksX14_word_0 4 rfl rfl)
theorem dX14_word_7 : decode cX14_word 7 = .ok (.if_icmp .ge 18, 3) := dk_162 0 18 (dk_at dksX14_word_0 7 rfl rfl)
theorem dX14_word_10 : decode cX14_word 10 = .ok (.aload_n 0, 1) := dk_42 (dk_at dksX14_word_0 10 rfl rfl)
theorem dX14_word_11 : decode cX14_word 11 = .ok (.aload_n 1, 1) := dk_43 (dk_at dksX14_word_0 11 rfl rfl)
theorem dX14_word_12 : decode cX14_word 12 = .ok (.iload_n 2, 1) := dk_28 (dk_at dksX14_word_0 12 rfl rfl)
theorem dX14_word_13 : decode cX14_word 13 = .ok (.invokevirtual 47, 3) := dk_182 0 47 (dk_at dksX14_word_0 13 rfl rfl)
theorem dX14_word_16 : decode cX14_word 16 = .ok (.invokevirtual 51, 3) := dk_182 0 51 (dk_at dksX14_word_0 16 rfl rfl)
theorem dX14_word_19 : decode cX14_word 19 = .ok (.iinc 2 1, 3) := dk_132 2 1 (dk_at dksX14_word_0 19 rfl rfl)
theorem dX14_word_22 : decode cX14_word 22 = .ok (.goto (-20), 3) := dk_167 255 236 (dk_at dksX14_word_1 0 rfl rfl)
theorem dX14_word_25 : decode cX14_word 25 = .ok (.return_, 1) := dk_177 (dk_at dksX14_word_1 3 rfl rfl)
abbrev cX14_number : ByteArray := prog_13_method_6_code
def yX14_number : MethodName := ⟨RX14, "number", "()I"⟩
def dkwX14_number_3 : List UInt8 := [167, 255, 209, 27, 172]
abbrev dktX14_number_3 : List UInt8 := dkwX14_number_3 ++ []
def dkwX14_number_2 : List UInt8 := [180, 0, 18, 42, 89, 180, 0, 26, 90, 4, 96, 181, 0, 26, 51, 96, 16, 48, 100, 60, 132, 2, 1]
abbrev dktX14_number_2 : List UInt8 := dkwX14_number_2 ++ dktX14_number_3
def dkwX14_number_1 : List UInt8 := [5, 162, 0, 48, 42, 182, 0, 34, 16, 48, 16, 57, 184, 0, 54, 153, 0, 34, 16, 10, 27, 104, 42]
abbrev dktX14_number_1 : List UInt8 := dkwX14_number_1 ++ dktX14_number_2
def dkwX14_number_0 : List UInt8 := [42, 182, 0, 34, 16, 48, 16, 57, 184, 0, 54, 154, 0, 8, 42, 182, 0, 38, 191, 3, 60, 3, 61, 28]
abbrev dktX14_number_0 : List UInt8 := dkwX14_number_0 ++ dktX14_number_1
theorem dksX14_number_0 : cX14_number.data.toList.drop 0 = dktX14_number_0 := by decide +kernel
theorem dksX14_number_1 : cX14_number.data.toList.drop 24 = dktX14_number_1 := dk_seg dksX14_number_0 24 rfl rfl
theorem dksX14_number_2 : cX14_number.data.toList.drop 47 = dktX14_number_2 := dk_seg dksX14_number_1 23 rfl rfl
theorem dksX14_number_3 : cX14_number.data.toList.drop 70 = dktX14_number_3 := dk_seg dksX14_number_2 23 rfl rfl
theorem dX14_number_0 : decode cX14_number 0 = .ok (.aload_n 0, 1) := dk_42 (dk_at dksX14_number_0 0 rfl rfl)
theorem dX14_number_1 : decode cX14_number 1 = .ok (.invokevirtual 34, 3) := dk_182 0 34 (dk_at dksX14_number_0 1 rfl rfl)
theorem dX14_number_4 : decode cX14_number 4 = .ok (.bipush 48, 2) := dk_16 48 (dk_at dksX14_number_0 4 rfl rfl)
theorem dX14_number_6 : decode cX14_number 6 = .ok (.bipush 57, 2) := dk_16 57 (dk_at dksX14_number_0 6 rfl rfl)
theorem dX14_number_8 : decode cX14_number 8 = .ok (.invokestatic 54, 3) := dk_184 0 54 (dk_at dksX14_number_0 8 rfl rfl)
theorem dX14_number_11 : decode cX14_number 11 = .ok (.ifCond .ne 8, 3) := dk_154 0 8 (dk_at dksX14_number_0 11 rfl rfl)
theorem dX14_number_14 : decode cX14_number 14 = .ok (.aload_n 0, 1) := dk_42 (dk_at dksX14_number_0 14 rfl rfl)
theorem dX14_number_15 : decode cX14_number 15 = .ok (.invokevirtual 38, 3) := dk_182 0 38 (dk_at dksX14_number_0 15 rfl rfl)
theorem dX14_number_18 : decode cX14_number 18 = .ok (.athrow, 1) := dk_191 (dk_at dksX14_number_0 18 rfl rfl)
theorem dX14_number_19 : decode cX14_number 19 = .ok (.iconst 0, 1) := dk_3 (dk_at dksX14_number_0 19 rfl rfl)
theorem dX14_number_20 : decode cX14_number 20 = .ok (.istore_n 1, 1) := dk_60 (dk_at dksX14_number_0 20 rfl rfl)
theorem dX14_number_21 : decode cX14_number 21 = .ok (.iconst 0, 1) := dk_3 (dk_at dksX14_number_0 21 rfl rfl)
theorem dX14_number_22 : decode cX14_number 22 = .ok (.istore_n 2, 1) := dk_61 (dk_at dksX14_number_0 22 rfl rfl)
theorem dX14_number_23 : decode cX14_number 23 = .ok (.iload_n 2, 1) := dk_28 (dk_at dksX14_number_0 23 rfl rfl)
theorem dX14_number_24 : decode cX14_number 24 = .ok (.iconst 2, 1) := dk_5 (dk_at dksX14_number_1 0 rfl rfl)
theorem dX14_number_25 : decode cX14_number 25 = .ok (.if_icmp .ge 48, 3) := dk_162 0 48 (dk_at dksX14_number_1 1 rfl rfl)
theorem dX14_number_28 : decode cX14_number 28 = .ok (.aload_n 0, 1) := dk_42 (dk_at dksX14_number_1 4 rfl rfl)
theorem dX14_number_29 : decode cX14_number 29 = .ok (.invokevirtual 34, 3) := dk_182 0 34 (dk_at dksX14_number_1 5 rfl rfl)
theorem dX14_number_32 : decode cX14_number 32 = .ok (.bipush 48, 2) := dk_16 48 (dk_at dksX14_number_1 8 rfl rfl)
theorem dX14_number_34 : decode cX14_number 34 = .ok (.bipush 57, 2) := dk_16 57 (dk_at dksX14_number_1 10 rfl rfl)
theorem dX14_number_36 : decode cX14_number 36 = .ok (.invokestatic 54, 3) := dk_184 0 54 (dk_at dksX14_number_1 12 rfl rfl)
theorem dX14_number_39 : decode cX14_number 39 = .ok (.ifCond .eq 34, 3) := dk_153 0 34 (dk_at dksX14_number_1 15 rfl rfl)
theorem dX14_number_42 : decode cX14_number 42 = .ok (.bipush 10, 2) := dk_16 10 (dk_at dksX14_number_1 18 rfl rfl)
theorem dX14_number_44 : decode cX14_number 44 = .ok (.iload_n 1, 1) := dk_27 (dk_at dksX14_number_1 20 rfl rfl)
theorem dX14_number_45 : decode cX14_number 45 = .ok (.imul, 1) := dk_104 (dk_at dksX14_number_1 21 rfl rfl)
theorem dX14_number_46 : decode cX14_number 46 = .ok (.aload_n 0, 1) := dk_42 (dk_at dksX14_number_1 22 rfl rfl)
theorem dX14_number_47 : decode cX14_number 47 = .ok (.getfield 18, 3) := dk_180 0 18 (dk_at dksX14_number_2 0 rfl rfl)
theorem dX14_number_50 : decode cX14_number 50 = .ok (.aload_n 0, 1) := dk_42 (dk_at dksX14_number_2 3 rfl rfl)
theorem dX14_number_51 : decode cX14_number 51 = .ok (.dup, 1) := dk_89 (dk_at dksX14_number_2 4 rfl rfl)
theorem dX14_number_52 : decode cX14_number 52 = .ok (.getfield 26, 3) := dk_180 0 26 (dk_at dksX14_number_2 5 rfl rfl)
theorem dX14_number_55 : decode cX14_number 55 = .ok (.dup_x1, 1) := dk_90 (dk_at dksX14_number_2 8 rfl rfl)
theorem dX14_number_56 : decode cX14_number 56 = .ok (.iconst 1, 1) := dk_4 (dk_at dksX14_number_2 9 rfl rfl)
theorem dX14_number_57 : decode cX14_number 57 = .ok (.iadd, 1) := dk_96 (dk_at dksX14_number_2 10 rfl rfl)
theorem dX14_number_58 : decode cX14_number 58 = .ok (.putfield 26, 3) := dk_181 0 26 (dk_at dksX14_number_2 11 rfl rfl)
theorem dX14_number_61 : decode cX14_number 61 = .ok (.baload, 1) := dk_51 (dk_at dksX14_number_2 14 rfl rfl)
theorem dX14_number_62 : decode cX14_number 62 = .ok (.iadd, 1) := dk_96 (dk_at dksX14_number_2 15 rfl rfl)
theorem dX14_number_63 : decode cX14_number 63 = .ok (.bipush 48, 2) := dk_16 48 (dk_at dksX14_number_2 16 rfl rfl)
theorem dX14_number_65 : decode cX14_number 65 = .ok (.isub, 1) := dk_100 (dk_at dksX14_number_2 18 rfl rfl)
theorem dX14_number_66 : decode cX14_number 66 = .ok (.istore_n 1, 1) := dk_60 (dk_at dksX14_number_2 19 rfl rfl)
theorem dX14_number_67 : decode cX14_number 67 = .ok (.iinc 2 1, 3) := dk_132 2 1 (dk_at dksX14_number_2 20 rfl rfl)
theorem dX14_number_70 : decode cX14_number 70 = .ok (.goto (-47), 3) := dk_167 255 209 (dk_at dksX14_number_3 0 rfl rfl)
theorem dX14_number_73 : decode cX14_number 73 = .ok (.iload_n 1, 1) := dk_27 (dk_at dksX14_number_3 3 rfl rfl)
theorem dX14_number_74 : decode cX14_number 74 = .ok (.ireturn, 1) := dk_172 (dk_at dksX14_number_3 4 rfl rfl)
abbrev cX14_deeper : ByteArray := prog_13_method_7_code
def yX14_deeper : MethodName := ⟨RX14, "deeper", "()V"⟩
def dkwX14_deeper_1 : List UInt8 := [89, 180, 0, 26, 4, 96, 181, 0, 26, 177]
abbrev dktX14_deeper_1 : List UInt8 := dkwX14_deeper_1 ++ []
def dkwX14_deeper_0 : List UInt8 := [42, 180, 0, 58, 7, 160, 0, 8, 42, 182, 0, 38, 191, 42, 89, 180, 0, 58, 4, 96, 181, 0, 58, 42]
abbrev dktX14_deeper_0 : List UInt8 := dkwX14_deeper_0 ++ dktX14_deeper_1
theorem dksX14_deeper_0 : cX14_deeper.data.toList.drop 0 = dktX14_deeper_0 := by decide +kernel
theorem dksX14_deeper_1 : cX14_deeper.data.toList.drop 24 = dktX14_deeper_1 := dk_seg dksX14_deeper_0 24 rfl rfl
theorem dX14_deeper_0 : decode cX14_deeper 0 = .ok (.aload_n 0, 1) := dk_42 (dk_at dksX14_deeper_0 0 rfl rfl)
theorem dX14_deeper_1 : decode cX14_deeper 1 = .ok (.getfield 58, 3) := dk_180 0 58 (dk_at dksX14_deeper_0 1 rfl rfl)
theorem dX14_deeper_4 : decode cX14_deeper 4 = .ok (.iconst 4, 1) := dk_7 (dk_at dksX14_deeper_0 4 rfl rfl)
theorem dX14_deeper_5 : decode cX14_deeper 5 = .ok (.if_icmp .ne 8, 3) := dk_160 0 8 (dk_at dksX14_deeper_0 5 rfl rfl)
theorem dX14_deeper_8 : decode cX14_deeper 8 = .ok (.aload_n 0, 1) := dk_42 (dk_at dksX14_deeper_0 8 rfl rfl)
theorem dX14_deeper_9 : decode cX14_deeper 9 = .ok (.invokevirtual 38, 3) := dk_182 0 38 (dk_at dksX14_deeper_0 9 rfl rfl)
theorem dX14_deeper_12 : decode cX14_deeper 12 = .ok (.athrow, 1) := dk_191 (dk_at dksX14_deeper_0 12 rfl rfl)
theorem dX14_deeper_13 : decode cX14_deeper 13 = .ok (.aload_n 0, 1) := dk_42 (dk_at dksX14_deeper_0 13 rfl rfl)
theorem dX14_deeper_14 : decode cX14_deeper 14 = .ok (.dup, 1) := dk_89 (dk_at dksX14_deeper_0 14 rfl rfl)
theorem dX14_deeper_15 : decode cX14_deeper 15 = .ok (.getfield 58, 3) := dk_180 0 58 (dk_at dksX14_deeper_0 15 rfl rfl)
theorem dX14_deeper_18 : decode cX14_deeper 18 = .ok (.iconst 1, 1) := dk_4 (dk_at dksX14_deeper_0 18 rfl rfl)
theorem dX14_deeper_19 : decode cX14_deeper 19 = .ok (.iadd, 1) := dk_96 (dk_at dksX14_deeper_0 19 rfl rfl)
theorem dX14_deeper_20 : decode cX14_deeper 20 = .ok (.putfield 58, 3) := dk_181 0 58 (dk_at dksX14_deeper_0 20 rfl rfl)
theorem dX14_deeper_23 : decode cX14_deeper 23 = .ok (.aload_n 0, 1) := dk_42 (dk_at dksX14_deeper_0 23 rfl rfl)
theorem dX14_deeper_24 : decode cX14_deeper 24 = .ok (.dup, 1) := dk_89 (dk_at dksX14_deeper_1 0 rfl rfl)
theorem dX14_deeper_25 : decode cX14_deeper 25 = .ok (.getfield 26, 3) := dk_180 0 26 (dk_at dksX14_deeper_1 1 rfl rfl)
theorem dX14_deeper_28 : decode cX14_deeper 28 = .ok (.iconst 1, 1) := dk_4 (dk_at dksX14_deeper_1 4 rfl rfl)
theorem dX14_deeper_29 : decode cX14_deeper 29 = .ok (.iadd, 1) := dk_96 (dk_at dksX14_deeper_1 5 rfl rfl)
theorem dX14_deeper_30 : decode cX14_deeper 30 = .ok (.putfield 26, 3) := dk_181 0 26 (dk_at dksX14_deeper_1 6 rfl rfl)
theorem dX14_deeper_33 : decode cX14_deeper 33 = .ok (.return_, 1) := dk_177 (dk_at dksX14_deeper_1 9 rfl rfl)
theorem xr_here : xV yX14_here "BakedBefore$Reader" cX14_here 1 (some .int) 0 := ⟨q693, qs9, q110, q694, ⟨rfl, by decide +kernel, by decide +kernel, by decide +kernel⟩, by decide⟩
theorem xr_off : xV yX14_off "BakedBefore$Reader" cX14_off 1 (some (.object "BakedBefore$Off")) 0 := ⟨q756, qs13, q110, q757, ⟨rfl, by decide +kernel, by decide +kernel, by decide +kernel⟩, by decide⟩
theorem xr_must : xV yX14_must "BakedBefore$Reader" cX14_must 2 none 1 := ⟨q752, qs12, q110, q753, ⟨rfl, by decide +kernel, by decide +kernel, by decide +kernel⟩, by decide⟩
theorem xr_word : xV yX14_word "BakedBefore$Reader" cX14_word 3 none 1 := ⟨q702, qs11, q110, q703, ⟨rfl, by decide +kernel, by decide +kernel, by decide +kernel⟩, by decide⟩
theorem xr_number : xV yX14_number "BakedBefore$Reader" cX14_number 3 (some .int) 0 := ⟨q844, qs16, q110, q845, ⟨rfl, by decide +kernel, by decide +kernel, by decide +kernel⟩, by decide⟩
theorem xr_deeper : xV yX14_deeper "BakedBefore$Reader" cX14_deeper 1 none 0 := ⟨q882, qs20, q110, q883, ⟨rfl, by decide +kernel, by decide +kernel, by decide +kernel⟩, by decide⟩
/-- a reader R at y, x deep, over n signs of the text tx (g), with its kiln kl; the text -/
def rdW (T : xT) (R tx kl : Nat) (g : Nat → Int32) (n : Nat) (y x : Int32) : va_W := [(R, .inr (14, [.ref tx, .int (nI n), .int y, .int x, .ref kl])), (tx, .inl (T.1 2, 100, .inl g))]
/-- Off(p) has been thrown -/
def rdX (T : xT) (R tx kl : Nat) (g : Nat → Int32) (n p : Nat) (W : va_W) (E : String) (q : Nat) (w : va_W) : Prop := E = "BakedBefore$Off" ∧ ∃ (y x : Int32) (N : va_W) (fs : List Value), w = rdW T R tx kl g n y x ++ (W ++ N) ∧ (q, .inr (15, fs)) ∈ N ∧ fs[6]? = some (.int (nI p))
section RDR
variable {D : va_G} {T : xT} {Γ : xE} {cc : ByteArray} {nL lev mc ms : Nat} {ret : Option FieldType} {cells slots pc : Nat} {lv : List (Nat × Value)} {st : List Value} {R tx kl n : Nat} {g : Nat → Int32} {x y : Int32} {W : va_W}
theorem rg_text (G : xG D T Γ cc "BakedBefore$Reader" nL ret lev mc ms) (d : decode cc pc = .ok (.getfield 18, 3)) (kk : K D Γ cells slots (pc + 3) lv (.ref tx :: st) (rdW T R tx kl g n y x ++ W)) : K D Γ cells slots pc lv (.ref R :: st) (rdW T R tx kl g n y x ++ W) := k_get G (p := 0) (k := 0) ci_X14 rfl (by decide) (Or.inl q667) (fun _ h => h) rfl d kk
theorem rg_size (G : xG D T Γ cc "BakedBefore$Reader" nL ret lev mc ms) (d : decode cc pc = .ok (.getfield 22, 3)) (kk : K D Γ cells slots (pc + 3) lv (.int (nI n) :: st) (rdW T R tx kl g n y x ++ W)) : K D Γ cells slots pc lv (.ref R :: st) (rdW T R tx kl g n y x ++ W) := k_get G (p := 0) (k := 1) ci_X14 rfl (by decide) (Or.inl q668) (fun _ h => h) rfl d kk
theorem rg_at (G : xG D T Γ cc "BakedBefore$Reader" nL ret lev mc ms) (d : decode cc pc = .ok (.getfield 26, 3)) (kk : K D Γ cells slots (pc + 3) lv (.int y :: st) (rdW T R tx kl g n y x ++ W)) : K D Γ cells slots pc lv (.ref R :: st) (rdW T R tx kl g n y x ++ W) := k_get G (p := 0) (k := 2) ci_X14 rfl (by decide) (Or.inl q669) (fun _ h => h) rfl d kk
theorem rg_deep (G : xG D T Γ cc "BakedBefore$Reader" nL ret lev mc ms) (d : decode cc pc = .ok (.getfield 58, 3)) (kk : K D Γ cells slots (pc + 3) lv (.int x :: st) (rdW T R tx kl g n y x ++ W)) : K D Γ cells slots pc lv (.ref R :: st) (rdW T R tx kl g n y x ++ W) := k_get G (p := 0) (k := 3) ci_X14 rfl (by decide) (Or.inl q670) (fun _ h => h) rfl d kk
theorem rg_kiln (G : xG D T Γ cc "BakedBefore$Reader" nL ret lev mc ms) (d : decode cc pc = .ok (.getfield 12, 3)) (kk : K D Γ cells slots (pc + 3) lv (.ref kl :: st) (rdW T R tx kl g n y x ++ W)) : K D Γ cells slots pc lv (.ref R :: st) (rdW T R tx kl g n y x ++ W) := k_get G (p := 0) (k := 4) ci_X14 rfl (by decide) (Or.inl q671) (fun _ h => h) rfl d kk
theorem rp_at (G : xG D T Γ cc "BakedBefore$Reader" nL ret lev mc ms) {z : Int32} (d : decode cc pc = .ok (.putfield 26, 3)) (kk : K D Γ cells slots (pc + 3) lv st (rdW T R tx kl g n z x ++ W)) : K D Γ cells slots pc lv (.int z :: .ref R :: st) (rdW T R tx kl g n y x ++ W) := k_put G (p := 0) (k := 2) ci_X14 rfl (by decide) (Or.inl q669) (fun _ h => h) rfl rfl rfl (Nat.le_of_ble_eq_true rfl) d (fun _ _ _ => kk)
theorem rp_deep (G : xG D T Γ cc "BakedBefore$Reader" nL ret lev mc ms) {z : Int32} (d : decode cc pc = .ok (.putfield 58, 3)) (kk : K D Γ cells slots (pc + 3) lv st (rdW T R tx kl g n y z ++ W)) : K D Γ cells slots pc lv (.int z :: .ref R :: st) (rdW T R tx kl g n y x ++ W) := k_put G (p := 0) (k := 3) ci_X14 rfl (by decide) (Or.inl q670) (fun _ h => h) rfl rfl rfl (Nat.le_of_ble_eq_true rfl) d (fun _ _ _ => kk)
end RDR
theorem rk_here (l : Launch) (D : va_G) (T : xT) (R tx kl n : Nat) (g : Nat → Int32) {a : Nat} {x : Int32} (W : va_W) (hn : n ≤ 100) (ha : a ≤ 200) : XM l D T yX14_here cX14_here 1 (some .int) 1 0 0 [.ref R] (rdW T R tx kl g n (nI a) x ++ W) (fun v w => v = some (.int (hereS g n a)) ∧ w = (rdW T R tx kl g n (nI a) x ++ W)) := by
  refine XM.start (by decide +kernel) (Nat.le_of_ble_eq_true rfl) (fun Γ G X _ hl_ => ?_)
  subst hl_
  refine K.less [0] (lv' := [(0, .ref R)]) rfl ?_
  refine k_aload_n G dX14_here_0 rfl ?_
  refine rg_at G dX14_here_1 ?_
  refine k_aload_n G dX14_here_4 rfl ?_
  refine rg_size G dX14_here_5 ?_
  refine k_icmp_ge G 23 dX14_here_8 (by decide) (fun c8 => ?_) (fun c8 => ?_)
  · have h9 : n ≤ a := (nI_leI (by omega) (by omega)).mp c8
    refine k_iconst G (v := -1) dX14_here_23 (by decide) ?_
    exact k_iret G X dX14_here_24 (Nat.le_refl _) (Nat.le_refl _) ⟨by unfold hereS; rw [if_neg (by omega)], rfl⟩
  · have h9 : a < n := Nat.lt_of_not_le (fun z => c8 ((nI_leI (by omega) (by omega)).mpr z))
    refine k_aload_n G dX14_here_11 rfl ?_
    refine rg_text G dX14_here_12 ?_
    refine k_aload_n G dX14_here_15 rfl ?_
    refine rg_at G dX14_here_16 ?_
    refine k_bald G (p := 1) (n := 100) rfl (nI_in (by omega) (by omega)) dX14_here_19 ?_
    rw [nI_clamp (by omega)]
    refine k_goto G 24 dX14_here_20 (by decide) ?_
    exact k_iret G X dX14_here_24 (Nat.le_refl _) (Nat.le_refl _) ⟨by unfold hereS; rw [if_pos h9], rfl⟩
theorem rk_off (l : Launch) (hlt : l.stackTraces = false) (D : va_G) (T : xT) (R tx kl n : Nat) (g : Nat → Int32) (a : Nat) (x : Int32) (W : va_W) : XM l D T yX14_off cX14_off 1 (some (.object "BakedBefore$Off")) 9 1 7 [.ref R] (rdW T R tx kl g n (nI a) x ++ W) (fun v w => ∃ (b : Nat) (fs : List Value), v = some (.ref b) ∧ w = (rdW T R tx kl g n (nI a) x ++ (W ++ [(b, .inr (15, fs))])) ∧ fs[6]? = some (.int (nI a))) := by
  refine XM.start (by decide +kernel) (Nat.le_of_ble_eq_true rfl) (fun Γ G X _ hl_ => ?_)
  subst hl_
  refine K.less [0] (lv' := [(0, .ref R)]) rfl ?_
  refine k_newOff G hlt (ik := 29) (ic := 31) (L := 4) (x := nI a) q758 q815 (Nat.le_of_ble_eq_true rfl) (Nat.le_of_ble_eq_true rfl) ⟨(Nat.le_of_ble_eq_true rfl), (Nat.le_of_ble_eq_true rfl)⟩ dX14_off_0 dX14_off_3 (fun b H locs ls hP hl kk => lv_aload_n G.1 G.2.1 dX14_off_4 rfl (xlk_at hl rfl) (va_get (D := D) (ci := 14) (C := RX14) (T := TX14) (N := 5) G.1 G.2.1 G.2.2.2.2.2.2.1 ci_X14.2.1 G.2.2.2.2.2.1 G.2.2.2.2.2.2.2.2.1.1 hP 0 rfl ci_X14.1 2 (by decide) (G.2.2.2.2.2.2.1 _ q669) (fun _ h => h) rfl dX14_off_5 kk)) dX14_off_8 (fun b fs h6 => ?_)
  exact k_aret G X (Or.inl ⟨_, rfl⟩) (r := some b) dX14_off_11 (Nat.le_refl _) (Nat.le_refl _) ⟨b, fs, rfl, List.append_assoc _ _ _, h6⟩
section RDR2
variable {D : va_G} {T : xT} {Γ : xE} {cc : ByteArray} {nL lev mc ms : Nat} {ret : Option FieldType} {cells slots pc : Nat} {lv : List (Nat × Value)} {st : List Value} {R tx kl n : Nat} {g : Nat → Int32} {x y : Int32} {a : Nat} {W : va_W}
theorem kk_here (G : xG D T Γ cc "BakedBefore$Reader" nL ret lev mc ms) (hn : n ≤ 100) (ha : a ≤ 200) (d : decode cc pc = .ok (.invokevirtual 34, 3)) (hcat : (st.map fun v => v.category).sum ≤ 8) (hlev : 2 ≤ lev) (hroom : cells ≤ mc ∧ slots ≤ ms) (kk : K D Γ cells slots (pc + 3) lv (.int (hereS g n a) :: st) (rdW T R tx kl g n (nI a) x ++ W)) : K D Γ cells slots pc lv (.ref R :: st) (rdW T R tx kl g n (nI a) x ++ W) :=
  k_callVw G (As := []) (rest := st) (C := RX14) (rk_here _ D T R tx kl n g W hn ha) xr_here q691 rfl rfl hcat (by omega) hroom ⟨0, 14, _, TX14, 5, rfl, rfl⟩ d (fun v w hq => by
    obtain ⟨rfl, rfl⟩ := hq
    exact kk)
/-- throw off() -/
theorem kk_throw (G : xG D T Γ cc "BakedBefore$Reader" nL ret lev mc ms) (hlt : Γ.1.2.1.stackTraces = false) (hcat : (st.map fun v => v.category).sum ≤ 8) (hlev : 10 ≤ lev) (hroom : cells + 1 ≤ mc ∧ slots + 7 ≤ ms) (d1 : decode cc pc = .ok (.invokevirtual 38, 3)) (d2 : decode cc (pc + 3) = .ok (.athrow, 1)) (kx : ∀ (b : Nat) (fs : List Value), fs[6]? = some (.int (nI a)) → KX D Γ (cells + 1) (slots + 7) (pc + 3) lv st (rdW T R tx kl g n (nI a) x ++ (W ++ [(b, .inr (15, fs))])) "BakedBefore$Off" b) : K D Γ cells slots pc lv (.ref R :: st) (rdW T R tx kl g n (nI a) x ++ W) :=
  k_callVw G (As := []) (rest := st) (C := RX14) (rk_off _ hlt D T R tx kl n g a x W) xr_off q754 rfl rfl hcat (by omega) hroom ⟨0, 14, _, TX14, 5, rfl, rfl⟩ d1 (fun v w hq => by
    obtain ⟨b, fs, rfl, rfl, h6⟩ := hq
    refine kx_athrow G (p := W.length + 2) (ci := 15) (fs := fs) (TT := TX15) (N := 7) ?_ rfl d2 (kx b fs h6)
    show (_ :: _ :: (W ++ [_]))[W.length + 2]? = _
    simp)
end RDR2
theorem rk_must (l : Launch) (hlt : l.stackTraces = false) (D : va_G) (T : xT) (R tx kl n : Nat) (g : Nat → Int32) {a : Nat} {x c : Int32} (W : va_W) (hn : n ≤ 100) (ha : a ≤ 200) : XMX l D T yX14_must cX14_must 2 none 11 1 7 [.ref R, .int c] (rdW T R tx kl g n (nI a) x ++ W) (fun v w => v = none ∧ hereS g n a = c ∧ w = (rdW T R tx kl g n (nI (a + 1)) x ++ W)) (fun E q w => ¬ hereS g n a = c ∧ rdX T R tx kl g n a W E q w) := by
  refine XMX.start (by decide +kernel) (Nat.le_of_ble_eq_true rfl) (fun Γ G X htab hl_ => ?_)
  subst hl_
  refine K.less [0, 1] (lv' := [(0, .ref R), (1, .int c)]) rfl ?_
  refine k_aload_n G dX14_must_0 rfl ?_
  refine kk_here G hn (by omega) dX14_must_1 (Nat.le_of_ble_eq_true rfl) (Nat.le_of_ble_eq_true rfl) ⟨(Nat.le_of_ble_eq_true rfl), (Nat.le_of_ble_eq_true rfl)⟩ ?_
  refine k_iload_n G dX14_must_4 rfl ?_
  refine k_icmp_eq G 13 dX14_must_5 (by decide) (fun c5 => ?_) (fun c5 => ?_)
  · refine k_aload_n G dX14_must_13 rfl ?_
    refine k_dup G dX14_must_14 rfl ?_
    refine rg_at G dX14_must_15 ?_
    refine k_iconst G (v := 1) dX14_must_18 (by decide) ?_
    refine k_iadd G dX14_must_19 ?_
    rw [nI_1]
    refine rp_at G dX14_must_20 ?_
    exact kx_ret X (k_vret (xEr.G G) xEr.X dX14_must_23 (Nat.le_of_ble_eq_true rfl) (Nat.le_of_ble_eq_true rfl) ⟨rfl, c5, rfl⟩)
  · refine k_aload_n G dX14_must_8 rfl ?_
    refine kk_throw G hlt (Nat.le_of_ble_eq_true rfl) (Nat.le_of_ble_eq_true rfl) ⟨(Nat.le_of_ble_eq_true rfl), (Nat.le_of_ble_eq_true rfl)⟩ dX14_must_9 dX14_must_12 (fun b fs h6 => ?_)
    exact kx_out G X htab (Nat.le_of_ble_eq_true rfl) (Nat.le_of_ble_eq_true rfl) (And.intro c5 ⟨rfl, nI a, _, [(b, .inr (15, fs))], fs, rfl, List.mem_cons_self, h6⟩)
theorem xby_len : ∀ t, t < 4 → (xsbyt.getD t []).length = xtn t ∧ xtn t ≤ 5 := by decide
theorem xby_drop {t j : Nat} (ht : t < 4) (hj : j < xtn t) : (xsbyt.getD t []).drop j = xtc t j :: (xsbyt.getD t []).drop (j + 1) := by
  have h1 := (xby_len t ht).1
  rw [List.drop_eq_getElem_cons (by omega)]
  unfold xtc
  rw [List.getD_eq_getElem?_getD, List.getElem?_eq_getElem (by omega)]
  rfl
theorem rk_word (l : Launch) (hlt : l.stackTraces = false) (D : va_G) (T : xT) (R tx kl n : Nat) (g : Nat → Int32) {a t : Nat} {x : Int32} (W : va_W) (ht : t < 4) (hn : n ≤ 100) (ha : a ≤ n) : XMX l D T yX14_word cX14_word 3 none 12 1 7 [.ref R, .ref (T.2.1 t)] (rdW T R tx kl g n (nI a) x ++ W) (fun v w => v = none ∧ ∃ e : Nat, pWord g n (xsbyt.getD t []) a = .inr (e, ()) ∧ w = (rdW T R tx kl g n (nI e) x ++ W)) (fun E q w => ∃ p : Nat, pWord g n (xsbyt.getD t []) a = .inl p ∧ rdX T R tx kl g n p W E q w) := by
  refine XMX.start (by decide +kernel) (Nat.le_of_ble_eq_true rfl) (fun Γ G X htab hl_ => ?_)
  subst hl_
  refine K.less [0, 1] (lv' := [(0, .ref R), (1, .ref (T.2.1 t))]) rfl ?_
  have hx := xby_len t ht
  have L : ∀ (k j cur : Nat), j + k = xtn t → cur ≤ n → pWord g n ((xsbyt.getD t []).drop j) cur = pWord g n (xsbyt.getD t []) a → K D Γ 0 0 2 [(2, .int (nI j)), (0, .ref R), (1, .ref (T.2.1 t))] [] (rdW T R tx kl g n (nI cur) x ++ W) := by
    intro k
    induction k with
    | zero =>
      intro j cur hj hc he
      refine k_iload_n G dX14_word_2 rfl ?_
      refine k_aload_n G dX14_word_3 rfl ?_
      refine kx_length G ht q704 dX14_word_4 (Nat.le_of_ble_eq_true rfl) (Nat.le_of_ble_eq_true rfl) ⟨(Nat.le_of_ble_eq_true rfl), (Nat.le_of_ble_eq_true rfl)⟩ ?_
      show K D Γ 0 0 _ _ [.int (nI (xtn t)), .int (nI j)] _
      refine k_icmp_ge G 25 dX14_word_7 (by decide) (fun _ => ?_) (fun c7 => absurd (nI_le (by omega) (by omega)) c7)
      exact kx_ret X (k_vret (xEr.G G) xEr.X dX14_word_25 (Nat.le_of_ble_eq_true rfl) (Nat.le_of_ble_eq_true rfl) ⟨rfl, cur, by rw [← he, List.drop_of_length_le (by omega)]; rfl, rfl⟩)
    | succ k ih =>
      intro j cur hj hc he
      rw [xby_drop ht (by omega)] at he
      refine k_iload_n G dX14_word_2 rfl ?_
      refine k_aload_n G dX14_word_3 rfl ?_
      refine kx_length G ht q704 dX14_word_4 (Nat.le_of_ble_eq_true rfl) (Nat.le_of_ble_eq_true rfl) ⟨(Nat.le_of_ble_eq_true rfl), (Nat.le_of_ble_eq_true rfl)⟩ ?_
      show K D Γ 0 0 _ _ [.int (nI (xtn t)), .int (nI j)] _
      refine k_icmp_ge G 25 dX14_word_7 (by decide) (fun c7 => absurd c7 (nI_ge (by omega) (by omega))) (fun _ => ?_)
      refine k_aload_n G dX14_word_10 rfl ?_
      refine k_aload_n G dX14_word_11 rfl ?_
      refine k_iload_n G dX14_word_12 rfl ?_
      refine kx_charAt G ht (nI_in (by omega) (by omega)) q714 dX14_word_13 (Nat.le_of_ble_eq_true rfl) (Nat.le_of_ble_eq_true rfl) ⟨(Nat.le_of_ble_eq_true rfl), (Nat.le_of_ble_eq_true rfl)⟩ ?_
      rw [nI_clamp (by omega)]
      refine k_callVXw G (As := [.int (xtc t j)]) (rest := []) (C := RX14) (rk_must _ hlt D T R tx kl n g W hn (by omega)) xr_must q750 rfl rfl (Nat.le_of_ble_eq_true rfl) (Nat.le_of_ble_eq_true rfl) ⟨(Nat.le_of_ble_eq_true rfl), (Nat.le_of_ble_eq_true rfl)⟩ ⟨0, 14, _, TX14, 5, rfl, rfl⟩ dX14_word_16 (fun v w hq => ?_) (fun E q w hq => ?_)
      · obtain ⟨rfl, h1, rfl⟩ := hq
        have hlt2 : cur < n := hereS_eq h1 (by
          have h3 : ∀ t, t < 4 → ∀ j, j < xtn t → xtc t j ≠ -1 := by decide
          exact h3 t ht j (by omega))
        rw [pWord, if_pos h1] at he
        refine k_iinc G [(2, .int (nI (j + 1))), (0, .ref R), (1, .ref (T.2.1 t))] dX14_word_19 rfl (v := (nI (j + 1))) (by first | decide | exact nI_1 _) (Nat.le_of_ble_eq_true rfl) rfl ?_
        refine k_goto G 2 dX14_word_22 (by decide) ?_
        exact ih (j + 1) (cur + 1) (by omega) (by omega) he
      · obtain ⟨h1, h2⟩ := hq
        exact kx_out G X htab (Nat.le_of_ble_eq_true rfl) (Nat.le_of_ble_eq_true rfl) ⟨cur, by rw [← he, pWord, if_neg h1], h2⟩
  refine k_iconst G (v := 0) dX14_word_0 (by decide) ?_
  refine k_istore_n G [(2, .int 0), (0, .ref R), (1, .ref (T.2.1 t))] dX14_word_1 rfl (Nat.le_of_ble_eq_true rfl) rfl ?_
  exact L (xtn t) 0 a (by omega) ha rfl
theorem rk_number (l : Launch) (hlt : l.stackTraces = false) (D : va_G) (T : xT) (R tx kl n : Nat) (g : Nat → Int32) {a : Nat} {x : Int32} (W : va_W) (hn : n ≤ 100) (ha : a ≤ n) : XMX l D T yX14_number cX14_number 3 (some .int) 11 1 7 [.ref R] (rdW T R tx kl g n (nI a) x ++ W) (fun v w => ∃ (e : Nat) (z : Int32), v = some (.int z) ∧ pNum g n a = .inr (e, z) ∧ w = (rdW T R tx kl g n (nI e) x ++ W)) (fun E q w => pNum g n a = .inl a ∧ rdX T R tx kl g n a W E q w) := by
  refine XMX.start (by decide +kernel) (Nat.le_of_ble_eq_true rfl) (fun Γ G X htab hl_ => ?_)
  subst hl_
  refine K.less [0] (lv' := [(0, .ref R)]) rfl ?_
  by_cases h1 : 48 ≤ hereS g n a ∧ hereS g n a ≤ 57
  rotate_left
  · refine k_aload_n G dX14_number_0 rfl ?_
    refine kk_here G hn (by omega) dX14_number_1 (Nat.le_of_ble_eq_true rfl) (Nat.le_of_ble_eq_true rfl) ⟨(Nat.le_of_ble_eq_true rfl), (Nat.le_of_ble_eq_true rfl)⟩ ?_
    refine k_bipush G (v := 48) dX14_number_4 (by decide) ?_
    refine k_bipush G (v := 57) dX14_number_6 (by decide) ?_
    refine k_inN G (k := fun r => r = 0) (q_F h1 rfl) (by decide +kernel) rfl (Nat.le_of_ble_eq_true rfl) (Nat.le_of_ble_eq_true rfl) ⟨(Nat.le_of_ble_eq_true rfl), (Nat.le_of_ble_eq_true rfl)⟩ dX14_number_8 (fun r9 h9 => ?_)
    subst h9
    refine k_if_ne G 19 dX14_number_11 (by decide) (fun c11 => absurd c11 (fun z => z rfl)) (fun _ => ?_)
    refine k_aload_n G dX14_number_14 rfl ?_
    refine kk_throw G hlt (Nat.le_of_ble_eq_true rfl) (Nat.le_of_ble_eq_true rfl) ⟨(Nat.le_of_ble_eq_true rfl), (Nat.le_of_ble_eq_true rfl)⟩ dX14_number_15 dX14_number_18 (fun b fs h6 => ?_)
    exact kx_out G X htab (Nat.le_of_ble_eq_true rfl) (Nat.le_of_ble_eq_true rfl) (And.intro (by unfold pNum; rw [if_neg (fun z => h1 (of_decide_eq_true z))]) ⟨rfl, nI a, _, [(b, .inr (15, fs))], fs, rfl, List.mem_cons_self, h6⟩)
  have e1 : isDig (hereS g n a) = true := decide_eq_true h1
  have l1 := hereS_dig e1
  have g1 : hereS g n a = g a := if_pos l1
  refine k_aload_n G dX14_number_0 rfl ?_
  refine kk_here G hn (by omega) dX14_number_1 (Nat.le_of_ble_eq_true rfl) (Nat.le_of_ble_eq_true rfl) ⟨(Nat.le_of_ble_eq_true rfl), (Nat.le_of_ble_eq_true rfl)⟩ ?_
  refine k_bipush G (v := 48) dX14_number_4 (by decide) ?_
  refine k_bipush G (v := 57) dX14_number_6 (by decide) ?_
  refine k_inN G (k := fun r => r = 1) (q_T h1 rfl) (by decide +kernel) rfl (Nat.le_of_ble_eq_true rfl) (Nat.le_of_ble_eq_true rfl) ⟨(Nat.le_of_ble_eq_true rfl), (Nat.le_of_ble_eq_true rfl)⟩ dX14_number_8 (fun r9 h9 => ?_)
  subst h9
  refine k_if_ne G 19 dX14_number_11 (by decide) (fun _ => ?_) (fun c11 => absurd c11 (by decide))
  refine k_iconst G (v := 0) dX14_number_19 (by decide) ?_
  refine k_istore_n G [(1, .int 0), (0, .ref R)] dX14_number_20 rfl (Nat.le_of_ble_eq_true rfl) rfl ?_
  refine k_iconst G (v := 0) dX14_number_21 (by decide) ?_
  refine k_istore_n G [(2, .int 0), (1, .int 0), (0, .ref R)] dX14_number_22 rfl (Nat.le_of_ble_eq_true rfl) rfl ?_
  refine k_iload_n G dX14_number_23 rfl ?_
  refine k_iconst G (v := 2) dX14_number_24 (by decide) ?_
  refine k_icmp_ge G 73 dX14_number_25 (by decide) (fun c25 => absurd c25 (by decide)) (fun _ => ?_)
  refine k_aload_n G dX14_number_28 rfl ?_
  refine kk_here G hn (by omega) dX14_number_29 (Nat.le_of_ble_eq_true rfl) (Nat.le_of_ble_eq_true rfl) ⟨(Nat.le_of_ble_eq_true rfl), (Nat.le_of_ble_eq_true rfl)⟩ ?_
  refine k_bipush G (v := 48) dX14_number_32 (by decide) ?_
  refine k_bipush G (v := 57) dX14_number_34 (by decide) ?_
  refine k_inN G (k := fun r => r = 1) (q_T h1 rfl) (by decide +kernel) rfl (Nat.le_of_ble_eq_true rfl) (Nat.le_of_ble_eq_true rfl) ⟨(Nat.le_of_ble_eq_true rfl), (Nat.le_of_ble_eq_true rfl)⟩ dX14_number_36 (fun r9 h9 => ?_)
  subst h9
  refine k_if_eq G 73 dX14_number_39 (by decide) (fun c39 => absurd c39 (by decide)) (fun _ => ?_)
  refine k_bipush G (v := 10) dX14_number_42 (by decide) ?_
  refine k_iload_n G dX14_number_44 rfl ?_
  refine k_imul G dX14_number_45 ?_
  refine k_aload_n G dX14_number_46 rfl ?_
  refine rg_text G dX14_number_47 ?_
  refine k_aload_n G dX14_number_50 rfl ?_
  refine k_dup G dX14_number_51 rfl ?_
  refine rg_at G dX14_number_52 ?_
  refine k_dup_x1 G dX14_number_55 rfl rfl ?_
  refine k_iconst G (v := 1) dX14_number_56 (by decide) ?_
  refine k_iadd G dX14_number_57 ?_
  rw [nI_1]
  refine rp_at G dX14_number_58 ?_
  refine k_bald G (p := 1) (n := 100) rfl (nI_in (by omega) (by omega)) dX14_number_61 ?_
  rw [nI_clamp (by omega)]
  refine k_iadd G dX14_number_62 ?_
  refine k_bipush G (v := 48) dX14_number_63 (by decide) ?_
  refine k_isub G dX14_number_65 ?_
  refine k_istore_n G [(1, .int (((((10 * 0)) + ((g a)))) - 48)), (2, .int 0), (0, .ref R)] dX14_number_66 rfl (Nat.le_of_ble_eq_true rfl) rfl ?_
  refine k_iinc G [(2, .int 1), (1, .int (((((10 * 0)) + ((g a)))) - 48)), (0, .ref R)] dX14_number_67 rfl (v := 1) (by first | decide | exact nI_1 _) (Nat.le_of_ble_eq_true rfl) rfl ?_
  refine k_goto G 23 dX14_number_70 (by decide) ?_
  refine k_iload_n G dX14_number_23 rfl ?_
  refine k_iconst G (v := 2) dX14_number_24 (by decide) ?_
  refine k_icmp_ge G 73 dX14_number_25 (by decide) (fun c25 => absurd c25 (by decide)) (fun _ => ?_)
  by_cases h2 : 48 ≤ hereS g n (a + 1) ∧ hereS g n (a + 1) ≤ 57
  rotate_left
  · refine k_aload_n G dX14_number_28 rfl ?_
    refine kk_here G hn (by omega) dX14_number_29 (Nat.le_of_ble_eq_true rfl) (Nat.le_of_ble_eq_true rfl) ⟨(Nat.le_of_ble_eq_true rfl), (Nat.le_of_ble_eq_true rfl)⟩ ?_
    refine k_bipush G (v := 48) dX14_number_32 (by decide) ?_
    refine k_bipush G (v := 57) dX14_number_34 (by decide) ?_
    refine k_inN G (k := fun r => r = 0) (q_F h2 rfl) (by decide +kernel) rfl (Nat.le_of_ble_eq_true rfl) (Nat.le_of_ble_eq_true rfl) ⟨(Nat.le_of_ble_eq_true rfl), (Nat.le_of_ble_eq_true rfl)⟩ dX14_number_36 (fun r9 h9 => ?_)
    subst h9
    refine k_if_eq G 73 dX14_number_39 (by decide) (fun _ => ?_) (fun c39 => absurd rfl c39)
    refine k_iload_n G dX14_number_73 rfl ?_
    exact kx_ret X (k_iret (xEr.G G) xEr.X dX14_number_74 (Nat.le_of_ble_eq_true rfl) (Nat.le_of_ble_eq_true rfl) ⟨a + 1, _, rfl, by unfold pNum; rw [if_pos e1, if_neg (fun z => h2 (of_decide_eq_true z)), g1, show (10 * 0 + g a : Int32) = g a by simp], rfl⟩)
  have e2 : isDig (hereS g n (a + 1)) = true := decide_eq_true h2
  have l2 := hereS_dig e2
  have g2 : hereS g n (a + 1) = g (a + 1) := if_pos l2
  refine k_aload_n G dX14_number_28 rfl ?_
  refine kk_here G hn (by omega) dX14_number_29 (Nat.le_of_ble_eq_true rfl) (Nat.le_of_ble_eq_true rfl) ⟨(Nat.le_of_ble_eq_true rfl), (Nat.le_of_ble_eq_true rfl)⟩ ?_
  refine k_bipush G (v := 48) dX14_number_32 (by decide) ?_
  refine k_bipush G (v := 57) dX14_number_34 (by decide) ?_
  refine k_inN G (k := fun r => r = 1) (q_T h2 rfl) (by decide +kernel) rfl (Nat.le_of_ble_eq_true rfl) (Nat.le_of_ble_eq_true rfl) ⟨(Nat.le_of_ble_eq_true rfl), (Nat.le_of_ble_eq_true rfl)⟩ dX14_number_36 (fun r9 h9 => ?_)
  subst h9
  refine k_if_eq G 73 dX14_number_39 (by decide) (fun c39 => absurd c39 (by decide)) (fun _ => ?_)
  refine k_bipush G (v := 10) dX14_number_42 (by decide) ?_
  refine k_iload_n G dX14_number_44 rfl ?_
  refine k_imul G dX14_number_45 ?_
  refine k_aload_n G dX14_number_46 rfl ?_
  refine rg_text G dX14_number_47 ?_
  refine k_aload_n G dX14_number_50 rfl ?_
  refine k_dup G dX14_number_51 rfl ?_
  refine rg_at G dX14_number_52 ?_
  refine k_dup_x1 G dX14_number_55 rfl rfl ?_
  refine k_iconst G (v := 1) dX14_number_56 (by decide) ?_
  refine k_iadd G dX14_number_57 ?_
  rw [nI_1]
  refine rp_at G dX14_number_58 ?_
  refine k_bald G (p := 1) (n := 100) rfl (nI_in (by omega) (by omega)) dX14_number_61 ?_
  rw [nI_clamp (by omega)]
  refine k_iadd G dX14_number_62 ?_
  refine k_bipush G (v := 48) dX14_number_63 (by decide) ?_
  refine k_isub G dX14_number_65 ?_
  refine k_istore_n G [(1, .int (((((10 * ((((((10 * 0)) + ((g a)))) - 48)))) + ((g (a + 1))))) - 48)), (2, .int 1), (0, .ref R)] dX14_number_66 rfl (Nat.le_of_ble_eq_true rfl) rfl ?_
  refine k_iinc G [(2, .int 2), (1, .int (((((10 * ((((((10 * 0)) + ((g a)))) - 48)))) + ((g (a + 1))))) - 48)), (0, .ref R)] dX14_number_67 rfl (v := 2) (by first | decide | exact nI_1 _) (Nat.le_of_ble_eq_true rfl) rfl ?_
  refine k_goto G 23 dX14_number_70 (by decide) ?_
  refine k_iload_n G dX14_number_23 rfl ?_
  refine k_iconst G (v := 2) dX14_number_24 (by decide) ?_
  refine k_icmp_ge G 73 dX14_number_25 (by decide) (fun _ => ?_) (fun c25 => absurd (by decide) c25)
  refine k_iload_n G dX14_number_73 rfl ?_
  exact kx_ret X (k_iret (xEr.G G) xEr.X dX14_number_74 (Nat.le_of_ble_eq_true rfl) (Nat.le_of_ble_eq_true rfl) ⟨a + 2, _, rfl, by unfold pNum; rw [if_pos e1, if_pos e2, g1, g2, show (10 * 0 + g a : Int32) = g a by simp], rfl⟩)
theorem rk_deeper (l : Launch) (hlt : l.stackTraces = false) (D : va_G) (T : xT) (R tx kl n : Nat) (g : Nat → Int32) {a dp : Nat} (W : va_W) (hdp : dp ≤ 4) : XMX l D T yX14_deeper cX14_deeper 1 none 11 1 7 [.ref R] (rdW T R tx kl g n (nI a) (nI dp) ++ W) (fun v w => v = none ∧ ¬ dp = 4 ∧ w = (rdW T R tx kl g n (nI (a + 1)) (nI (dp + 1)) ++ W)) (fun E q w => dp = 4 ∧ rdX T R tx kl g n a W E q w) := by
  refine XMX.start (by decide +kernel) (Nat.le_of_ble_eq_true rfl) (fun Γ G X htab hl_ => ?_)
  subst hl_
  refine K.less [0] (lv' := [(0, .ref R)]) rfl ?_
  refine k_aload_n G dX14_deeper_0 rfl ?_
  refine rg_deep G dX14_deeper_1 ?_
  refine k_iconst G (v := 4) dX14_deeper_4 (by decide) ?_
  refine k_icmp_ne G 13 dX14_deeper_5 (by decide) (fun c5 => ?_) (fun c5 => ?_)
  · have h9 : ¬ dp = 4 := fun z => c5 (by rw [z]; rfl)
    refine k_aload_n G dX14_deeper_13 rfl ?_
    refine k_dup G dX14_deeper_14 rfl ?_
    refine rg_deep G dX14_deeper_15 ?_
    refine k_iconst G (v := 1) dX14_deeper_18 (by decide) ?_
    refine k_iadd G dX14_deeper_19 ?_
    rw [nI_1]
    refine rp_deep G dX14_deeper_20 ?_
    refine k_aload_n G dX14_deeper_23 rfl ?_
    refine k_dup G dX14_deeper_24 rfl ?_
    refine rg_at G dX14_deeper_25 ?_
    refine k_iconst G (v := 1) dX14_deeper_28 (by decide) ?_
    refine k_iadd G dX14_deeper_29 ?_
    rw [nI_1]
    refine rp_at G dX14_deeper_30 ?_
    exact kx_ret X (k_vret (xEr.G G) xEr.X dX14_deeper_33 (Nat.le_of_ble_eq_true rfl) (Nat.le_of_ble_eq_true rfl) ⟨rfl, h9, rfl⟩)
  · have h9 : dp = 4 := (nI_eq (by omega) (by omega)).mp (show nI dp = nI 4 from c5)
    refine k_aload_n G dX14_deeper_8 rfl ?_
    refine kk_throw G hlt (Nat.le_of_ble_eq_true rfl) (Nat.le_of_ble_eq_true rfl) ⟨(Nat.le_of_ble_eq_true rfl), (Nat.le_of_ble_eq_true rfl)⟩ dX14_deeper_9 dX14_deeper_12 (fun b fs h6 => ?_)
    exact kx_out G X htab (Nat.le_of_ble_eq_true rfl) (Nat.le_of_ble_eq_true rfl) (And.intro h9 ⟨rfl, nI a, _, [(b, .inr (15, fs))], fs, rfl, List.mem_cons_self, h6⟩)
