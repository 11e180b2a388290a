/-! ArrayList.add -/
set_option maxRecDepth 100000
abbrev cJ12_newLength : ByteArray := prog_55_method_27_code
def yJ12_newLength : MethodName := ⟨RJ12, "newLength", "(III)I"⟩
def dkwJ12_newLength_1 : List UInt8 := [184, 0, 201, 172]
abbrev dktJ12_newLength_1 : List UInt8 := dkwJ12_newLength_1 ++ []
def dkwJ12_newLength_0 : List UInt8 := [26, 27, 28, 184, 0, 194, 96, 62, 3, 29, 162, 0, 11, 29, 18, 200, 163, 0, 5, 29, 172, 26, 27]
abbrev dktJ12_newLength_0 : List UInt8 := dkwJ12_newLength_0 ++ dktJ12_newLength_1
theorem dksJ12_newLength_0 : cJ12_newLength.data.toList.drop 0 = dktJ12_newLength_0 := by decide +kernel
theorem dksJ12_newLength_1 : cJ12_newLength.data.toList.drop 23 = dktJ12_newLength_1 := dk_seg dksJ12_newLength_0 23 rfl rfl
theorem dJ12_newLength_0 : decode cJ12_newLength 0 = .ok (.iload_n 0, 1) := dk_26 (dk_at dksJ12_newLength_0 0 rfl rfl)
theorem dJ12_newLength_1 : decode cJ12_newLength 1 = .ok (.iload_n 1, 1) := dk_27 (dk_at dksJ12_newLength_0 1 rfl rfl)
theorem dJ12_newLength_2 : decode cJ12_newLength 2 = .ok (.iload_n 2, 1) := dk_28 (dk_at dksJ12_newLength_0 2 rfl rfl)
theorem dJ12_newLength_3 : decode cJ12_newLength 3 = .ok (.invokestatic 194, 3) := dk_184 0 194 (dk_at dksJ12_newLength_0 3 rfl rfl)
theorem dJ12_newLength_6 : decode cJ12_newLength 6 = .ok (.iadd, 1) := dk_96 (dk_at dksJ12_newLength_0 6 rfl rfl)
theorem dJ12_newLength_7 : decode cJ12_newLength 7 = .ok (.istore_n 3, 1) := dk_62 (dk_at dksJ12_newLength_0 7 rfl rfl)
theorem dJ12_newLength_8 : decode cJ12_newLength 8 = .ok (.iconst 0, 1) := dk_3 (dk_at dksJ12_newLength_0 8 rfl rfl)
theorem dJ12_newLength_9 : decode cJ12_newLength 9 = .ok (.iload_n 3, 1) := dk_29 (dk_at dksJ12_newLength_0 9 rfl rfl)
theorem dJ12_newLength_10 : decode cJ12_newLength 10 = .ok (.if_icmp .ge 11, 3) := dk_162 0 11 (dk_at dksJ12_newLength_0 10 rfl rfl)
theorem dJ12_newLength_13 : decode cJ12_newLength 13 = .ok (.iload_n 3, 1) := dk_29 (dk_at dksJ12_newLength_0 13 rfl rfl)
theorem dJ12_newLength_14 : decode cJ12_newLength 14 = .ok (.ldc 200, 2) := dk_18 200 (dk_at dksJ12_newLength_0 14 rfl rfl)
theorem dJ12_newLength_16 : decode cJ12_newLength 16 = .ok (.if_icmp .gt 5, 3) := dk_163 0 5 (dk_at dksJ12_newLength_0 16 rfl rfl)
theorem dJ12_newLength_19 : decode cJ12_newLength 19 = .ok (.iload_n 3, 1) := dk_29 (dk_at dksJ12_newLength_0 19 rfl rfl)
theorem dJ12_newLength_20 : decode cJ12_newLength 20 = .ok (.ireturn, 1) := dk_172 (dk_at dksJ12_newLength_0 20 rfl rfl)
theorem dJ12_newLength_21 : decode cJ12_newLength 21 = .ok (.iload_n 0, 1) := dk_26 (dk_at dksJ12_newLength_0 21 rfl rfl)
theorem dJ12_newLength_22 : decode cJ12_newLength 22 = .ok (.iload_n 1, 1) := dk_27 (dk_at dksJ12_newLength_0 22 rfl rfl)
theorem dJ12_newLength_23 : decode cJ12_newLength 23 = .ok (.invokestatic 201, 3) := dk_184 0 201 (dk_at dksJ12_newLength_1 0 rfl rfl)
theorem dJ12_newLength_26 : decode cJ12_newLength 26 = .ok (.ireturn, 1) := dk_172 (dk_at dksJ12_newLength_1 3 rfl rfl)
abbrev cJ13_copyOf : ByteArray := prog_49_method_119_code
def yJ13_copyOf : MethodName := ⟨RJ13, "copyOf", "([Ljava/lang/Object;I)[Ljava/lang/Object;"⟩
def dkwJ13_copyOf_0 : List UInt8 := [42, 27, 42, 182, 0, 86, 184, 1, 44, 176]
abbrev dktJ13_copyOf_0 : List UInt8 := dkwJ13_copyOf_0 ++ []
theorem dksJ13_copyOf_0 : cJ13_copyOf.data.toList.drop 0 = dktJ13_copyOf_0 := by decide +kernel
theorem dJ13_copyOf_0 : decode cJ13_copyOf 0 = .ok (.aload_n 0, 1) := dk_42 (dk_at dksJ13_copyOf_0 0 rfl rfl)
theorem dJ13_copyOf_1 : decode cJ13_copyOf 1 = .ok (.iload_n 1, 1) := dk_27 (dk_at dksJ13_copyOf_0 1 rfl rfl)
theorem dJ13_copyOf_2 : decode cJ13_copyOf 2 = .ok (.aload_n 0, 1) := dk_42 (dk_at dksJ13_copyOf_0 2 rfl rfl)
theorem dJ13_copyOf_3 : decode cJ13_copyOf 3 = .ok (.invokevirtual 86, 3) := dk_182 0 86 (dk_at dksJ13_copyOf_0 3 rfl rfl)
theorem dJ13_copyOf_6 : decode cJ13_copyOf 6 = .ok (.invokestatic 300, 3) := dk_184 1 44 (dk_at dksJ13_copyOf_0 6 rfl rfl)
theorem dJ13_copyOf_9 : decode cJ13_copyOf 9 = .ok (.areturn, 1) := dk_176 (dk_at dksJ13_copyOf_0 9 rfl rfl)
abbrev cJ13_copyOf_2 : ByteArray := prog_49_method_120_code
def yJ13_copyOf_2 : MethodName := ⟨RJ13, "copyOf", "([Ljava/lang/Object;ILjava/lang/Class;)[Ljava/lang/Object;"⟩
def dkwJ13_copyOf_2_1 : List UInt8 := [78, 42, 3, 45, 3, 42, 190, 27, 184, 1, 48, 184, 0, 150, 45, 176]
abbrev dktJ13_copyOf_2_1 : List UInt8 := dkwJ13_copyOf_2_1 ++ []
def dkwJ13_copyOf_2_0 : List UInt8 := [44, 18, 110, 166, 0, 10, 27, 189, 0, 2, 167, 0, 14, 44, 182, 0, 90, 27, 184, 0, 95, 192, 0, 110]
abbrev dktJ13_copyOf_2_0 : List UInt8 := dkwJ13_copyOf_2_0 ++ dktJ13_copyOf_2_1
theorem dksJ13_copyOf_2_0 : cJ13_copyOf_2.data.toList.drop 0 = dktJ13_copyOf_2_0 := by decide +kernel
theorem dksJ13_copyOf_2_1 : cJ13_copyOf_2.data.toList.drop 24 = dktJ13_copyOf_2_1 := dk_seg dksJ13_copyOf_2_0 24 rfl rfl
theorem dJ13_copyOf_2_0 : decode cJ13_copyOf_2 0 = .ok (.aload_n 2, 1) := dk_44 (dk_at dksJ13_copyOf_2_0 0 rfl rfl)
theorem dJ13_copyOf_2_1 : decode cJ13_copyOf_2 1 = .ok (.ldc 110, 2) := dk_18 110 (dk_at dksJ13_copyOf_2_0 1 rfl rfl)
theorem dJ13_copyOf_2_3 : decode cJ13_copyOf_2 3 = .ok (.if_acmp .ne 10, 3) := dk_166 0 10 (dk_at dksJ13_copyOf_2_0 3 rfl rfl)
theorem dJ13_copyOf_2_6 : decode cJ13_copyOf_2 6 = .ok (.iload_n 1, 1) := dk_27 (dk_at dksJ13_copyOf_2_0 6 rfl rfl)
theorem dJ13_copyOf_2_7 : decode cJ13_copyOf_2 7 = .ok (.anewarray 2, 3) := dk_189 0 2 (dk_at dksJ13_copyOf_2_0 7 rfl rfl)
theorem dJ13_copyOf_2_10 : decode cJ13_copyOf_2 10 = .ok (.goto 14, 3) := dk_167 0 14 (dk_at dksJ13_copyOf_2_0 10 rfl rfl)
theorem dJ13_copyOf_2_13 : decode cJ13_copyOf_2 13 = .ok (.aload_n 2, 1) := dk_44 (dk_at dksJ13_copyOf_2_0 13 rfl rfl)
theorem dJ13_copyOf_2_14 : decode cJ13_copyOf_2 14 = .ok (.invokevirtual 90, 3) := dk_182 0 90 (dk_at dksJ13_copyOf_2_0 14 rfl rfl)
theorem dJ13_copyOf_2_17 : decode cJ13_copyOf_2 17 = .ok (.iload_n 1, 1) := dk_27 (dk_at dksJ13_copyOf_2_0 17 rfl rfl)
theorem dJ13_copyOf_2_18 : decode cJ13_copyOf_2 18 = .ok (.invokestatic 95, 3) := dk_184 0 95 (dk_at dksJ13_copyOf_2_0 18 rfl rfl)
theorem dJ13_copyOf_2_21 : decode cJ13_copyOf_2 21 = .ok (.checkcast 110, 3) := dk_192 0 110 (dk_at dksJ13_copyOf_2_0 21 rfl rfl)
theorem dJ13_copyOf_2_24 : decode cJ13_copyOf_2 24 = .ok (.astore_n 3, 1) := dk_78 (dk_at dksJ13_copyOf_2_1 0 rfl rfl)
theorem dJ13_copyOf_2_25 : decode cJ13_copyOf_2 25 = .ok (.aload_n 0, 1) := dk_42 (dk_at dksJ13_copyOf_2_1 1 rfl rfl)
theorem dJ13_copyOf_2_26 : decode cJ13_copyOf_2 26 = .ok (.iconst 0, 1) := dk_3 (dk_at dksJ13_copyOf_2_1 2 rfl rfl)
theorem dJ13_copyOf_2_27 : decode cJ13_copyOf_2 27 = .ok (.aload_n 3, 1) := dk_45 (dk_at dksJ13_copyOf_2_1 3 rfl rfl)
theorem dJ13_copyOf_2_28 : decode cJ13_copyOf_2 28 = .ok (.iconst 0, 1) := dk_3 (dk_at dksJ13_copyOf_2_1 4 rfl rfl)
theorem dJ13_copyOf_2_29 : decode cJ13_copyOf_2 29 = .ok (.aload_n 0, 1) := dk_42 (dk_at dksJ13_copyOf_2_1 5 rfl rfl)
theorem dJ13_copyOf_2_30 : decode cJ13_copyOf_2 30 = .ok (.arraylength, 1) := dk_190 (dk_at dksJ13_copyOf_2_1 6 rfl rfl)
theorem dJ13_copyOf_2_31 : decode cJ13_copyOf_2 31 = .ok (.iload_n 1, 1) := dk_27 (dk_at dksJ13_copyOf_2_1 7 rfl rfl)
theorem dJ13_copyOf_2_32 : decode cJ13_copyOf_2 32 = .ok (.invokestatic 304, 3) := dk_184 1 48 (dk_at dksJ13_copyOf_2_1 8 rfl rfl)
theorem dJ13_copyOf_2_35 : decode cJ13_copyOf_2 35 = .ok (.invokestatic 150, 3) := dk_184 0 150 (dk_at dksJ13_copyOf_2_1 11 rfl rfl)
theorem dJ13_copyOf_2_38 : decode cJ13_copyOf_2 38 = .ok (.aload_n 3, 1) := dk_45 (dk_at dksJ13_copyOf_2_1 14 rfl rfl)
theorem dJ13_copyOf_2_39 : decode cJ13_copyOf_2 39 = .ok (.areturn, 1) := dk_176 (dk_at dksJ13_copyOf_2_1 15 rfl rfl)
abbrev cJ2_grow_2 : ByteArray := prog_48_method_6_code
def yJ2_grow_2 : MethodName := ⟨RJ2, "grow", "(I)[Ljava/lang/Object;"⟩
def dkwJ2_grow_2_2 : List UInt8 := [27, 184, 0, 79, 189, 0, 7, 90, 181, 0, 9, 176]
abbrev dktJ2_grow_2_2 : List UInt8 := dkwJ2_grow_2_2 ++ []
def dkwJ2_grow_2_1 : List UInt8 := [28, 4, 122, 184, 0, 73, 62, 42, 42, 180, 0, 9, 29, 184, 0, 66, 90, 181, 0, 9, 176, 42, 16, 10]
abbrev dktJ2_grow_2_1 : List UInt8 := dkwJ2_grow_2_1 ++ dktJ2_grow_2_2
def dkwJ2_grow_2_0 : List UInt8 := [42, 180, 0, 9, 190, 61, 28, 157, 0, 13, 42, 180, 0, 9, 178, 0, 39, 165, 0, 28, 28, 27, 28, 100]
abbrev dktJ2_grow_2_0 : List UInt8 := dkwJ2_grow_2_0 ++ dktJ2_grow_2_1
theorem dksJ2_grow_2_0 : cJ2_grow_2.data.toList.drop 0 = dktJ2_grow_2_0 := by decide +kernel
theorem dksJ2_grow_2_1 : cJ2_grow_2.data.toList.drop 24 = dktJ2_grow_2_1 := dk_seg dksJ2_grow_2_0 24 rfl rfl
theorem dksJ2_grow_2_2 : cJ2_grow_2.data.toList.drop 48 = dktJ2_grow_2_2 := dk_seg dksJ2_grow_2_1 24 rfl rfl
theorem dJ2_grow_2_0 : decode cJ2_grow_2 0 = .ok (.aload_n 0, 1) := dk_42 (dk_at dksJ2_grow_2_0 0 rfl rfl)
theorem dJ2_grow_2_1 : decode cJ2_grow_2 1 = .ok (.getfield 9, 3) := dk_180 0 9 (dk_at dksJ2_grow_2_0 1 rfl rfl)
theorem dJ2_grow_2_4 : decode cJ2_grow_2 4 = .ok (.arraylength, 1) := dk_190 (dk_at dksJ2_grow_2_0 4 rfl rfl)
theorem dJ2_grow_2_5 : decode cJ2_grow_2 5 = .ok (.istore_n 2, 1) := dk_61 (dk_at dksJ2_grow_2_0 5 rfl rfl)
theorem dJ2_grow_2_6 : decode cJ2_grow_2 6 = .ok (.iload_n 2, 1) := dk_28 (dk_at dksJ2_grow_2_0 6 rfl rfl)
theorem dJ2_grow_2_7 : decode cJ2_grow_2 7 = .ok (.ifCond .gt 13, 3) := dk_157 0 13 (dk_at dksJ2_grow_2_0 7 rfl rfl)
theorem dJ2_grow_2_10 : decode cJ2_grow_2 10 = .ok (.aload_n 0, 1) := dk_42 (dk_at dksJ2_grow_2_0 10 rfl rfl)
theorem dJ2_grow_2_11 : decode cJ2_grow_2 11 = .ok (.getfield 9, 3) := dk_180 0 9 (dk_at dksJ2_grow_2_0 11 rfl rfl)
theorem dJ2_grow_2_14 : decode cJ2_grow_2 14 = .ok (.getstatic 39, 3) := dk_178 0 39 (dk_at dksJ2_grow_2_0 14 rfl rfl)
theorem dJ2_grow_2_17 : decode cJ2_grow_2 17 = .ok (.if_acmp .eq 28, 3) := dk_165 0 28 (dk_at dksJ2_grow_2_0 17 rfl rfl)
theorem dJ2_grow_2_20 : decode cJ2_grow_2 20 = .ok (.iload_n 2, 1) := dk_28 (dk_at dksJ2_grow_2_0 20 rfl rfl)
theorem dJ2_grow_2_21 : decode cJ2_grow_2 21 = .ok (.iload_n 1, 1) := dk_27 (dk_at dksJ2_grow_2_0 21 rfl rfl)
theorem dJ2_grow_2_22 : decode cJ2_grow_2 22 = .ok (.iload_n 2, 1) := dk_28 (dk_at dksJ2_grow_2_0 22 rfl rfl)
theorem dJ2_grow_2_23 : decode cJ2_grow_2 23 = .ok (.isub, 1) := dk_100 (dk_at dksJ2_grow_2_0 23 rfl rfl)
theorem dJ2_grow_2_24 : decode cJ2_grow_2 24 = .ok (.iload_n 2, 1) := dk_28 (dk_at dksJ2_grow_2_1 0 rfl rfl)
theorem dJ2_grow_2_25 : decode cJ2_grow_2 25 = .ok (.iconst 1, 1) := dk_4 (dk_at dksJ2_grow_2_1 1 rfl rfl)
theorem dJ2_grow_2_26 : decode cJ2_grow_2 26 = .ok (.ishr, 1) := dk_122 (dk_at dksJ2_grow_2_1 2 rfl rfl)
theorem dJ2_grow_2_27 : decode cJ2_grow_2 27 = .ok (.invokestatic 73, 3) := dk_184 0 73 (dk_at dksJ2_grow_2_1 3 rfl rfl)
theorem dJ2_grow_2_30 : decode cJ2_grow_2 30 = .ok (.istore_n 3, 1) := dk_62 (dk_at dksJ2_grow_2_1 6 rfl rfl)
theorem dJ2_grow_2_31 : decode cJ2_grow_2 31 = .ok (.aload_n 0, 1) := dk_42 (dk_at dksJ2_grow_2_1 7 rfl rfl)
theorem dJ2_grow_2_32 : decode cJ2_grow_2 32 = .ok (.aload_n 0, 1) := dk_42 (dk_at dksJ2_grow_2_1 8 rfl rfl)
theorem dJ2_grow_2_33 : decode cJ2_grow_2 33 = .ok (.getfield 9, 3) := dk_180 0 9 (dk_at dksJ2_grow_2_1 9 rfl rfl)
theorem dJ2_grow_2_36 : decode cJ2_grow_2 36 = .ok (.iload_n 3, 1) := dk_29 (dk_at dksJ2_grow_2_1 12 rfl rfl)
theorem dJ2_grow_2_37 : decode cJ2_grow_2 37 = .ok (.invokestatic 66, 3) := dk_184 0 66 (dk_at dksJ2_grow_2_1 13 rfl rfl)
theorem dJ2_grow_2_40 : decode cJ2_grow_2 40 = .ok (.dup_x1, 1) := dk_90 (dk_at dksJ2_grow_2_1 16 rfl rfl)
theorem dJ2_grow_2_41 : decode cJ2_grow_2 41 = .ok (.putfield 9, 3) := dk_181 0 9 (dk_at dksJ2_grow_2_1 17 rfl rfl)
theorem dJ2_grow_2_44 : decode cJ2_grow_2 44 = .ok (.areturn, 1) := dk_176 (dk_at dksJ2_grow_2_1 20 rfl rfl)
theorem dJ2_grow_2_45 : decode cJ2_grow_2 45 = .ok (.aload_n 0, 1) := dk_42 (dk_at dksJ2_grow_2_1 21 rfl rfl)
theorem dJ2_grow_2_46 : decode cJ2_grow_2 46 = .ok (.bipush 10, 2) := dk_16 10 (dk_at dksJ2_grow_2_1 22 rfl rfl)
theorem dJ2_grow_2_48 : decode cJ2_grow_2 48 = .ok (.iload_n 1, 1) := dk_27 (dk_at dksJ2_grow_2_2 0 rfl rfl)
theorem dJ2_grow_2_49 : decode cJ2_grow_2 49 = .ok (.invokestatic 79, 3) := dk_184 0 79 (dk_at dksJ2_grow_2_2 1 rfl rfl)
theorem dJ2_grow_2_52 : decode cJ2_grow_2 52 = .ok (.anewarray 7, 3) := dk_189 0 7 (dk_at dksJ2_grow_2_2 4 rfl rfl)
theorem dJ2_grow_2_55 : decode cJ2_grow_2 55 = .ok (.dup_x1, 1) := dk_90 (dk_at dksJ2_grow_2_2 7 rfl rfl)
theorem dJ2_grow_2_56 : decode cJ2_grow_2 56 = .ok (.putfield 9, 3) := dk_181 0 9 (dk_at dksJ2_grow_2_2 8 rfl rfl)
theorem dJ2_grow_2_59 : decode cJ2_grow_2 59 = .ok (.areturn, 1) := dk_176 (dk_at dksJ2_grow_2_2 11 rfl rfl)
abbrev cJ2_grow : ByteArray := prog_48_method_7_code
def yJ2_grow : MethodName := ⟨RJ2, "grow", "()[Ljava/lang/Object;"⟩
def dkwJ2_grow_0 : List UInt8 := [42, 42, 180, 0, 48, 4, 96, 182, 0, 69, 176]
abbrev dktJ2_grow_0 : List UInt8 := dkwJ2_grow_0 ++ []
theorem dksJ2_grow_0 : cJ2_grow.data.toList.drop 0 = dktJ2_grow_0 := by decide +kernel
theorem dJ2_grow_0 : decode cJ2_grow 0 = .ok (.aload_n 0, 1) := dk_42 (dk_at dksJ2_grow_0 0 rfl rfl)
theorem dJ2_grow_1 : decode cJ2_grow 1 = .ok (.aload_n 0, 1) := dk_42 (dk_at dksJ2_grow_0 1 rfl rfl)
theorem dJ2_grow_2 : decode cJ2_grow 2 = .ok (.getfield 48, 3) := dk_180 0 48 (dk_at dksJ2_grow_0 2 rfl rfl)
theorem dJ2_grow_5 : decode cJ2_grow 5 = .ok (.iconst 1, 1) := dk_4 (dk_at dksJ2_grow_0 5 rfl rfl)
theorem dJ2_grow_6 : decode cJ2_grow 6 = .ok (.iadd, 1) := dk_96 (dk_at dksJ2_grow_0 6 rfl rfl)
theorem dJ2_grow_7 : decode cJ2_grow 7 = .ok (.invokevirtual 69, 3) := dk_182 0 69 (dk_at dksJ2_grow_0 7 rfl rfl)
theorem dJ2_grow_10 : decode cJ2_grow 10 = .ok (.areturn, 1) := dk_176 (dk_at dksJ2_grow_0 10 rfl rfl)
abbrev cJ2_add_2 : ByteArray := prog_48_method_24_code
def yJ2_add_2 : MethodName := ⟨RJ2, "add", "(Ljava/lang/Object;[Ljava/lang/Object;I)V"⟩
def dkwJ2_add_2_0 : List UInt8 := [29, 44, 190, 160, 0, 8, 42, 182, 0, 129, 77, 44, 29, 43, 83, 42, 29, 4, 96, 181, 0, 48, 177]
abbrev dktJ2_add_2_0 : List UInt8 := dkwJ2_add_2_0 ++ []
theorem dksJ2_add_2_0 : cJ2_add_2.data.toList.drop 0 = dktJ2_add_2_0 := by decide +kernel
theorem dJ2_add_2_0 : decode cJ2_add_2 0 = .ok (.iload_n 3, 1) := dk_29 (dk_at dksJ2_add_2_0 0 rfl rfl)
theorem dJ2_add_2_1 : decode cJ2_add_2 1 = .ok (.aload_n 2, 1) := dk_44 (dk_at dksJ2_add_2_0 1 rfl rfl)
theorem dJ2_add_2_2 : decode cJ2_add_2 2 = .ok (.arraylength, 1) := dk_190 (dk_at dksJ2_add_2_0 2 rfl rfl)
theorem dJ2_add_2_3 : decode cJ2_add_2 3 = .ok (.if_icmp .ne 8, 3) := dk_160 0 8 (dk_at dksJ2_add_2_0 3 rfl rfl)
theorem dJ2_add_2_6 : decode cJ2_add_2 6 = .ok (.aload_n 0, 1) := dk_42 (dk_at dksJ2_add_2_0 6 rfl rfl)
theorem dJ2_add_2_7 : decode cJ2_add_2 7 = .ok (.invokevirtual 129, 3) := dk_182 0 129 (dk_at dksJ2_add_2_0 7 rfl rfl)
theorem dJ2_add_2_10 : decode cJ2_add_2 10 = .ok (.astore_n 2, 1) := dk_77 (dk_at dksJ2_add_2_0 10 rfl rfl)
theorem dJ2_add_2_11 : decode cJ2_add_2 11 = .ok (.aload_n 2, 1) := dk_44 (dk_at dksJ2_add_2_0 11 rfl rfl)
theorem dJ2_add_2_12 : decode cJ2_add_2 12 = .ok (.iload_n 3, 1) := dk_29 (dk_at dksJ2_add_2_0 12 rfl rfl)
theorem dJ2_add_2_13 : decode cJ2_add_2 13 = .ok (.aload_n 1, 1) := dk_43 (dk_at dksJ2_add_2_0 13 rfl rfl)
theorem dJ2_add_2_14 : decode cJ2_add_2 14 = .ok (.aastore, 1) := dk_83 (dk_at dksJ2_add_2_0 14 rfl rfl)
theorem dJ2_add_2_15 : decode cJ2_add_2 15 = .ok (.aload_n 0, 1) := dk_42 (dk_at dksJ2_add_2_0 15 rfl rfl)
theorem dJ2_add_2_16 : decode cJ2_add_2 16 = .ok (.iload_n 3, 1) := dk_29 (dk_at dksJ2_add_2_0 16 rfl rfl)
theorem dJ2_add_2_17 : decode cJ2_add_2 17 = .ok (.iconst 1, 1) := dk_4 (dk_at dksJ2_add_2_0 17 rfl rfl)
theorem dJ2_add_2_18 : decode cJ2_add_2 18 = .ok (.iadd, 1) := dk_96 (dk_at dksJ2_add_2_0 18 rfl rfl)
theorem dJ2_add_2_19 : decode cJ2_add_2 19 = .ok (.putfield 48, 3) := dk_181 0 48 (dk_at dksJ2_add_2_0 19 rfl rfl)
theorem dJ2_add_2_22 : decode cJ2_add_2 22 = .ok (.return_, 1) := dk_177 (dk_at dksJ2_add_2_0 22 rfl rfl)
abbrev cJ2_add : ByteArray := prog_48_method_25_code
def yJ2_add : MethodName := ⟨RJ2, "add", "(Ljava/lang/Object;)Z"⟩
def dkwJ2_add_1 : List UInt8 := [172]
abbrev dktJ2_add_1 : List UInt8 := dkwJ2_add_1 ++ []
def dkwJ2_add_0 : List UInt8 := [42, 89, 180, 0, 63, 4, 96, 181, 0, 63, 42, 43, 42, 180, 0, 9, 42, 180, 0, 48, 182, 0, 131, 4]
abbrev dktJ2_add_0 : List UInt8 := dkwJ2_add_0 ++ dktJ2_add_1
theorem dksJ2_add_0 : cJ2_add.data.toList.drop 0 = dktJ2_add_0 := by decide +kernel
theorem dksJ2_add_1 : cJ2_add.data.toList.drop 24 = dktJ2_add_1 := dk_seg dksJ2_add_0 24 rfl rfl
theorem dJ2_add_0 : decode cJ2_add 0 = .ok (.aload_n 0, 1) := dk_42 (dk_at dksJ2_add_0 0 rfl rfl)
theorem dJ2_add_1 : decode cJ2_add 1 = .ok (.dup, 1) := dk_89 (dk_at dksJ2_add_0 1 rfl rfl)
theorem dJ2_add_2 : decode cJ2_add 2 = .ok (.getfield 63, 3) := dk_180 0 63 (dk_at dksJ2_add_0 2 rfl rfl)
theorem dJ2_add_5 : decode cJ2_add 5 = .ok (.iconst 1, 1) := dk_4 (dk_at dksJ2_add_0 5 rfl rfl)
theorem dJ2_add_6 : decode cJ2_add 6 = .ok (.iadd, 1) := dk_96 (dk_at dksJ2_add_0 6 rfl rfl)
theorem dJ2_add_7 : decode cJ2_add 7 = .ok (.putfield 63, 3) := dk_181 0 63 (dk_at dksJ2_add_0 7 rfl rfl)
theorem dJ2_add_10 : decode cJ2_add 10 = .ok (.aload_n 0, 1) := dk_42 (dk_at dksJ2_add_0 10 rfl rfl)
theorem dJ2_add_11 : decode cJ2_add 11 = .ok (.aload_n 1, 1) := dk_43 (dk_at dksJ2_add_0 11 rfl rfl)
theorem dJ2_add_12 : decode cJ2_add 12 = .ok (.aload_n 0, 1) := dk_42 (dk_at dksJ2_add_0 12 rfl rfl)
theorem dJ2_add_13 : decode cJ2_add 13 = .ok (.getfield 9, 3) := dk_180 0 9 (dk_at dksJ2_add_0 13 rfl rfl)
theorem dJ2_add_16 : decode cJ2_add 16 = .ok (.aload_n 0, 1) := dk_42 (dk_at dksJ2_add_0 16 rfl rfl)
theorem dJ2_add_17 : decode cJ2_add 17 = .ok (.getfield 48, 3) := dk_180 0 48 (dk_at dksJ2_add_0 17 rfl rfl)
theorem dJ2_add_20 : decode cJ2_add 20 = .ok (.invokevirtual 131, 3) := dk_182 0 131 (dk_at dksJ2_add_0 20 rfl rfl)
theorem dJ2_add_23 : decode cJ2_add 23 = .ok (.iconst 1, 1) := dk_4 (dk_at dksJ2_add_0 23 rfl rfl)
theorem dJ2_add_24 : decode cJ2_add 24 = .ok (.ireturn, 1) := dk_172 (dk_at dksJ2_add_1 0 rfl rfl)
theorem xs_newLen : xS yJ12_newLength cJ12_newLength 4 (some .int) 3 := ⟨q927, q120, q928, ⟨by decide +kernel, by decide +kernel, by decide +kernel⟩, by decide⟩
theorem xs_copy2 : xS yJ13_copyOf cJ13_copyOf 2 (some (.array (.object "java/lang/Object"))) 2 := ⟨q935, q121, q936, ⟨by decide +kernel, by decide +kernel, by decide +kernel⟩, by decide⟩
theorem xs_copy3 : xS yJ13_copyOf_2 cJ13_copyOf_2 4 (some (.array (.object "java/lang/Object"))) 3 := ⟨q968, q121, q969, ⟨by decide +kernel, by decide +kernel, by decide +kernel⟩, by decide⟩
theorem xs_grow2 : xV yJ2_grow_2 "java/util/ArrayList" cJ2_grow_2 4 (some (.array (.object "java/lang/Object"))) 1 := ⟨q924, qs23, q92, q925, ⟨rfl, by decide +kernel, by decide +kernel, by decide +kernel⟩, by decide⟩
theorem xs_grow : xV yJ2_grow "java/util/ArrayList" cJ2_grow 1 (some (.array (.object "java/lang/Object"))) 0 := ⟨q920, qs22, q92, q921, ⟨rfl, by decide +kernel, by decide +kernel, by decide +kernel⟩, by decide⟩
theorem xs_add2 : xV yJ2_add_2 "java/util/ArrayList" cJ2_add_2 4 none 3 := ⟨q916, qs21, q92, q917, ⟨rfl, by decide +kernel, by decide +kernel, by decide +kernel⟩, by decide⟩
theorem xs_add : xV yJ2_add "java/util/ArrayList" cJ2_add 2 (some .boolean) 1 := ⟨q911, q912, q92, q913, ⟨rfl, by decide +kernel, by decide +kernel, by decide +kernel⟩, by decide⟩
/-- the list's array, and the rest of the world -/
def alT (T : xT) (arr : Nat) (xs : List Nat) (E w : va_W) : Prop := (arr = T.2.2.2 ∧ xs = [] ∧ w = E) ∨ ∃ (cap : Nat) (f : Nat → Option Nat), xs.length ≤ cap ∧ 10 ≤ cap ∧ cap ≤ 1000 ∧ (∀ i a, xs[i]? = some a → f i = some a) ∧ w = (arr, .inl (T.1 8, cap, .inr (.inr (.inr (.inr f))))) :: E
def alH (al : Nat) (m : Int32) (arr n : Nat) : Nat × va_E := (al, .inr (20, [.int m, .ref arr, .int (nI n)]))
/-- a list object al of the elements xs, before the rest E -/
def alW (T : xT) (al : Nat) (xs : List Nat) (E w : va_W) : Prop := ∃ (m : Int32) (arr : Nat) (w' : va_W), w = alH al m arr xs.length :: w' ∧ alT T arr xs E w'
theorem alT.more {T : xT} {arr : Nat} {xs : List Nat} {E w N : va_W} (h : alT T arr xs E w) : alT T arr xs (E ++ N) (w ++ N) := by
  rcases h with ⟨h1, h2, rfl⟩ | ⟨cap, f, h1, h2, h3, h4, rfl⟩
  · exact Or.inl ⟨h1, h2, rfl⟩
  · exact Or.inr ⟨cap, f, h1, h2, h3, h4, rfl⟩
theorem alW.more {T : xT} {al : Nat} {xs : List Nat} {E w N : va_W} (h : alW T al xs E w) : alW T al xs (E ++ N) (w ++ N) := by
  obtain ⟨m, arr, w', rfl, h⟩ := h
  exact ⟨m, arr, w' ++ N, rfl, h.more⟩
theorem alW.sub {T : xT} {al : Nat} {xs : List Nat} {E w : va_W} (h : alW T al xs E w) : ∀ x ∈ E, x ∈ w := by
  obtain ⟨m, arr, w', rfl, h⟩ := h
  intro x hx
  rcases h with ⟨-, -, rfl⟩ | ⟨cap, f, -, -, -, -, rfl⟩
  · exact List.mem_cons_of_mem _ hx
  · exact List.mem_cons_of_mem _ (List.mem_cons_of_mem _ hx)
theorem imax_n {n : Nat} (h : 1 ≤ n) (h2 : n ≤ 1000) : imax 1 (nI n) = nI n := by
  unfold imax
  by_cases c : n = 1
  · subst c; decide
  · rw [if_pos]
    rw [show (1 : Int32) = nI 1 from rfl]
    exact nI_lt (by omega) (by omega)
theorem imin_n {n m : Nat} (h : n ≤ m) (h2 : m ≤ 1000) : imin (nI n) (nI m) = nI n := by
  unfold imin
  rw [if_neg (nI_nlt h (by omega))]
theorem kd_newLen (l : Launch) (D : va_G) (T : xT) {n : Nat} (h : 10 ≤ n) (h2 : n ≤ 500) : XS0 l D T yJ12_newLength cJ12_newLength 4 (some .int) 2 [.int (nI n), .int 1, .int (nI (n / 2))] (.int (nI (n + n / 2))) := by
  refine XM.start (by decide +kernel) (Nat.le_of_ble_eq_true rfl) (fun Γ G X _ hl_ => ?_)
  subst hl_
  refine K.less [0, 1, 2] (lv' := [(0, .int (nI n)), (1, .int 1), (2, .int (nI (n / 2)))]) rfl ?_
  refine k_iload_n G dJ12_newLength_0 rfl ?_
  refine k_iload_n G dJ12_newLength_1 rfl ?_
  refine k_iload_n G dJ12_newLength_2 rfl ?_
  refine kx_max G q929 dJ12_newLength_3 (Nat.le_of_ble_eq_true rfl) (Nat.le_of_ble_eq_true rfl) ⟨(Nat.le_refl _), (Nat.le_refl _)⟩ ?_
  rw [imax_n (by omega) (by omega)]
  refine k_iadd G dJ12_newLength_6 ?_
  rw [nI_add]
  refine k_istore_n G [(3, .int (nI (n + n / 2))), (0, .int (nI n)), (1, .int 1), (2, .int (nI (n / 2)))] dJ12_newLength_7 rfl (Nat.le_of_ble_eq_true rfl) rfl ?_
  refine k_iconst G (v := 0) dJ12_newLength_8 (by decide) ?_
  refine k_iload_n G dJ12_newLength_9 rfl ?_
  refine k_icmp_ge G 21 dJ12_newLength_10 (by decide) (fun c10 => absurd c10 (nI_nle (by omega) (by omega))) (fun _ => ?_)
  refine k_iload_n G dJ12_newLength_13 rfl ?_
  refine k_ldc G (v := 2147483639) q930 dJ12_newLength_14 ?_
  refine k_icmp_gt G 21 dJ12_newLength_16 (by decide) (fun c16 => absurd c16 (by rw [show (2147483639 : Int32) = nI 2147483639 from rfl]; exact nI_nlt (by omega) (by omega))) (fun _ => ?_)
  refine k_iload_n G dJ12_newLength_19 rfl ?_
  exact k_iret G X dJ12_newLength_20 (Nat.le_refl _) (Nat.le_refl _) ⟨rfl, rfl⟩
theorem kd_copy3 (l : Launch) (D : va_G) (T : xT) {a0 n0 m : Nat} {f : Nat → Option Nat} {E : va_W} (hn : n0 ≤ m) (hm : m ≤ 1000) (hel : ∀ i, i < n0 → ∀ y, f i = some y → oElt E y) : XM l D T yJ13_copyOf_2 cJ13_copyOf_2 4 (some (.array (.object "java/lang/Object"))) 3 1 m [.ref a0, .int (nI m), .ref (T.2.1 7)] ((a0, .inl (T.1 8, n0, .inr (.inr (.inr (.inr f))))) :: E) (fun v w => ∃ b : Nat, v = some (.ref b) ∧ w = (b, .inl (T.1 8, m, .inr (.inr (.inr (.inr (va_cpy f (fun _ => none) 0 0 n0)))))) :: (a0, .inl (T.1 8, n0, .inr (.inr (.inr (.inr f))))) :: E) := by
  refine XM.start (by decide +kernel) (Nat.le_of_ble_eq_true rfl) (fun Γ G X _ hl_ => ?_)
  subst hl_
  refine K.less [0, 1, 2] (lv' := [(0, .ref a0), (1, .int (nI m)), (2, .ref (T.2.1 7))]) rfl ?_
  have c0 : (nI n0).toNatClampNeg = n0 := nI_clamp (by omega)
  refine k_aload_n G dJ13_copyOf_2_0 rfl ?_
  refine k_ldcM G q970 dJ13_copyOf_2_1 ?_
  refine k_acmpNe G (rx := some (T.2.1 7)) (ry := some (T.2.1 7)) 13 dJ13_copyOf_2_3 (by decide) (fun c => absurd rfl c) (fun _ => ?_)
  refine k_iload_n G dJ13_copyOf_2_6 rfl ?_
  refine k_newq G (t := 8) (C := "java/lang/Object") (N := m) q972 (by decide) rfl (nI_pos (by omega)) (nI_clamp (by omega)) (by omega) ⟨(Nat.le_of_ble_eq_true rfl), by omega⟩ dJ13_copyOf_2_7 (fun b => ?_)
  refine K.perm (ws' := (b, .inl (T.1 8, m, .inr (.inr (.inr (.inr (fun _ => none)))))) :: (a0, .inl (T.1 8, n0, .inr (.inr (.inr (.inr f))))) :: E) (pm (fun c f h0 h1 h2 => by simp only [h0, h1, h2, List.cons_append, List.nil_append, List.append_nil]; omega)) ?_
  refine k_goto G 24 dJ13_copyOf_2_10 (by decide) ?_
  refine k_astore_n G [(3, .ref b), (0, .ref a0), (1, .int (nI m)), (2, .ref (T.2.1 7))] dJ13_copyOf_2_24 rfl (Nat.le_of_ble_eq_true rfl) rfl ?_
  refine k_aload_n G dJ13_copyOf_2_25 rfl ?_
  refine k_iconst G (v := 0) dJ13_copyOf_2_26 (by decide) ?_
  refine k_aload_n G dJ13_copyOf_2_27 rfl ?_
  refine k_iconst G (v := 0) dJ13_copyOf_2_28 (by decide) ?_
  refine k_aload_n G dJ13_copyOf_2_29 rfl ?_
  refine k_alen G (p := 1) (t := 8) rfl rfl dJ13_copyOf_2_30 ?_
  refine k_iload_n G dJ13_copyOf_2_31 rfl ?_
  refine kx_min G q973 dJ13_copyOf_2_32 (Nat.le_of_ble_eq_true rfl) (Nat.le_of_ble_eq_true rfl) ⟨(Nat.le_of_ble_eq_true rfl), by omega⟩ ?_
  rw [imin_n hn hm]
  refine k_copyO G (p1 := 1) (p2 := 0) (n0 := n0) (n1 := m) (f := f) (g := fun _ => none) rfl rfl (by decide) (by decide) (nI_pos (by omega)) (by rw [c0]; show 0 + n0 ≤ n0; omega) (by rw [c0]; show 0 + n0 ≤ m; omega) (fun i hi y hy => (hel i (by rw [c0] at hi; exact hi) y (by rw [show ((0 : Int32).toNatClampNeg + i) = i from Nat.zero_add i] at hy; exact hy)).mono (fun x hx => List.mem_cons_of_mem _ (List.mem_cons_of_mem _ hx))) q974 (Nat.le_of_ble_eq_true rfl) (Nat.le_of_ble_eq_true rfl) dJ13_copyOf_2_35 ?_
  refine K.nf (ws' := (b, .inl (T.1 8, m, .inr (.inr (.inr (.inr (va_cpy f (fun _ => none) 0 0 n0)))))) :: (a0, .inl (T.1 8, n0, .inr (.inr (.inr (.inr f))))) :: E) rfl rfl rfl (by rw [c0]; rfl) ?_
  refine k_aload_n G dJ13_copyOf_2_38 rfl ?_
  exact k_aret G X (Or.inr ⟨_, rfl⟩) (r := some b) dJ13_copyOf_2_39 (Nat.le_of_ble_eq_true rfl) (by omega) ⟨b, rfl, rfl⟩
theorem kd_copy2 (l : Launch) (D : va_G) (T : xT) {a0 n0 m : Nat} {f : Nat → Option Nat} {E : va_W} (hn : n0 ≤ m) (hm : m ≤ 1000) (hel : ∀ i, i < n0 → ∀ y, f i = some y → oElt E y) : XM l D T yJ13_copyOf cJ13_copyOf 2 (some (.array (.object "java/lang/Object"))) 4 1 m [.ref a0, .int (nI m)] ((a0, .inl (T.1 8, n0, .inr (.inr (.inr (.inr f))))) :: E) (fun v w => ∃ b : Nat, v = some (.ref b) ∧ w = (b, .inl (T.1 8, m, .inr (.inr (.inr (.inr (va_cpy f (fun _ => none) 0 0 n0)))))) :: (a0, .inl (T.1 8, n0, .inr (.inr (.inr (.inr f))))) :: E) := by
  refine XM.start (by decide +kernel) (Nat.le_of_ble_eq_true rfl) (fun Γ G X _ hl_ => ?_)
  subst hl_
  refine K.less [0, 1] (lv' := [(0, .ref a0), (1, .int (nI m))]) rfl ?_
  refine k_aload_n G dJ13_copyOf_0 rfl ?_
  refine k_iload_n G dJ13_copyOf_1 rfl ?_
  refine k_aload_n G dJ13_copyOf_2 rfl ?_
  refine k_getC G (p := 0) rfl q937 (Nat.le_of_ble_eq_true rfl) (Nat.le_of_ble_eq_true rfl) dJ13_copyOf_3 ?_
  refine k_callSw G (As := [.ref a0, .int (nI m), .ref (T.2.1 7)]) (rest := []) (kd_copy3 _ D T hn hm hel) xs_copy3 q967 rfl rfl (Nat.le_of_ble_eq_true rfl) (Nat.le_of_ble_eq_true rfl) ⟨(Nat.le_of_ble_eq_true rfl), by omega⟩ dJ13_copyOf_6 (fun v w hq => ?_)
  obtain ⟨b, rfl, rfl⟩ := hq
  exact k_aret G X (Or.inr ⟨_, rfl⟩) (r := some b) dJ13_copyOf_9 (Nat.le_of_ble_eq_true rfl) (by omega) ⟨b, rfl, rfl⟩
def alF (T : xT) (arr : Nat) (xs : List Nat) (E w : va_W) : Prop := (arr = T.2.2.2 ∧ xs = [] ∧ w = E) ∨ ∃ f : Nat → Option Nat, 10 ≤ xs.length ∧ (∀ i a, xs[i]? = some a → f i = some a) ∧ w = (arr, .inl (T.1 8, xs.length, .inr (.inr (.inr (.inr f))))) :: E
/-- after growing -/
def alG (T : xT) (al : Nat) (m : Int32) (xs : List Nat) (E : va_W) (b : Nat) (w : va_W) : Prop := ∃ (cap : Nat) (f : Nat → Option Nat) (J : va_W), w = alH al m b xs.length :: (b, .inl (T.1 8, cap, .inr (.inr (.inr (.inr f))))) :: (E ++ J) ∧ xs.length < cap ∧ 10 ≤ cap ∧ cap ≤ 1000 ∧ ∀ i a, xs[i]? = some a → f i = some a
theorem kd_grow2 (l : Launch) (D : va_G) (T : xT) {al arr : Nat} {m : Int32} {xs : List Nat} {E w' : va_W} (hw : alF T arr xs E w') (hE : ∀ y ∈ xs, oElt E y) (hlen : xs.length ≤ 130) : XM l D T yJ2_grow_2 cJ2_grow_2 4 (some (.array (.object "java/lang/Object"))) 6 1 200 [.ref al, .int (nI (xs.length + 1))] (alH al m arr xs.length :: w') (fun v w => ∃ b : Nat, v = some (.ref b) ∧ alG T al m xs E b w) := by
  refine XM.start (by decide +kernel) (Nat.le_of_ble_eq_true rfl) (fun Γ G X _ hl_ => ?_)
  subst hl_
  refine K.less [0, 1] (lv' := [(0, .ref al), (1, .int (nI (xs.length + 1)))]) rfl ?_
  rcases hw with ⟨rfl, rfl, rfl⟩ | ⟨f, h10, hf, rfl⟩
  · refine k_aload_n G dJ2_grow_2_0 rfl ?_
    refine k_get G (p := 0) (k := 1) ci_J2 rfl (by decide) (Or.inl q176) (fun _ h => h) rfl dJ2_grow_2_1 ?_
    refine kx_elen G dJ2_grow_2_4 ?_
    refine k_istore_n G [(2, .int 0), (0, .ref al), (1, .int (nI (xs.length + 1)))] dJ2_grow_2_5 rfl (Nat.le_of_ble_eq_true rfl) rfl ?_
    refine k_iload_n G dJ2_grow_2_6 rfl ?_
    refine k_if_gt G 20 dJ2_grow_2_7 (by decide) (fun c7 => absurd c7 (by decide)) (fun _ => ?_)
    refine k_aload_n G dJ2_grow_2_10 rfl ?_
    refine k_get G (p := 0) (k := 1) ci_J2 rfl (by decide) (Or.inl q176) (fun _ h => h) rfl dJ2_grow_2_11 ?_
    refine kx_empty G q174 dJ2_grow_2_14 ?_
    refine k_acmpEq G (rx := some T.2.2.2) (ry := some T.2.2.2) 45 dJ2_grow_2_17 (by decide) (fun _ => ?_) (fun c => absurd rfl c)
    refine k_aload_n G dJ2_grow_2_45 rfl ?_
    refine k_bipush G (v := 10) dJ2_grow_2_46 (by decide) ?_
    refine k_iload_n G dJ2_grow_2_48 rfl ?_
    refine kx_max G q977 dJ2_grow_2_49 (Nat.le_of_ble_eq_true rfl) (Nat.le_of_ble_eq_true rfl) ⟨(Nat.le_of_ble_eq_true rfl), (Nat.le_of_ble_eq_true rfl)⟩ ?_
    rw [show imax 10 (nI (([] : List Nat).length + 1)) = 10 by decide]
    refine k_newq G (t := 8) (C := "java/lang/Object") (N := 10) q978 (by decide) rfl (by decide) rfl (Nat.le_of_ble_eq_true rfl) ⟨(Nat.le_of_ble_eq_true rfl), (Nat.le_of_ble_eq_true rfl)⟩ dJ2_grow_2_52 (fun b => ?_)
    refine k_dup_x1 G dJ2_grow_2_55 rfl rfl ?_
    refine k_put G (p := 0) (k := 1) ci_J2 rfl (by decide) (Or.inl q176) (fun _ h => h) rfl rfl rfl (Nat.le_of_ble_eq_true rfl) dJ2_grow_2_56 (fun _ _ _ => ?_)
    refine K.perm (ws' := alH al m b ([] : List Nat).length :: (b, .inl (T.1 8, 10, .inr (.inr (.inr (.inr (fun _ => none)))))) :: (w' ++ [])) (pm (fun c f h0 h1 h2 => by simp only [alH, List.set_cons_zero, List.set, h0, h1, h2, List.cons_append, List.nil_append, List.append_nil]; omega)) ?_
    exact k_aret G X (Or.inr ⟨_, rfl⟩) (r := some b) dJ2_grow_2_59 (Nat.le_of_ble_eq_true rfl) (Nat.le_of_ble_eq_true rfl) ⟨b, rfl, 10, _, [], rfl, by decide, by decide, by decide, fun i a z => by cases z⟩
  · refine k_aload_n G dJ2_grow_2_0 rfl ?_
    refine k_get G (p := 0) (k := 1) ci_J2 rfl (by decide) (Or.inl q176) (fun _ h => h) rfl dJ2_grow_2_1 ?_
    refine k_alen G (p := 1) (t := 8) rfl rfl dJ2_grow_2_4 ?_
    refine k_istore_n G [(2, .int (nI xs.length)), (0, .ref al), (1, .int (nI (xs.length + 1)))] dJ2_grow_2_5 rfl (Nat.le_of_ble_eq_true rfl) rfl ?_
    refine k_iload_n G dJ2_grow_2_6 rfl ?_
    refine k_if_gt G 20 dJ2_grow_2_7 (by decide) (fun _ => ?_) (fun c7 => absurd (show (0 : Int32) < nI xs.length by rw [← nI_0]; exact nI_lt (by omega) (by omega)) c7)
    refine k_iload_n G dJ2_grow_2_20 rfl ?_
    refine k_iload_n G dJ2_grow_2_21 rfl ?_
    refine k_iload_n G dJ2_grow_2_22 rfl ?_
    refine k_isub G dJ2_grow_2_23 ?_
    rw [pk_sub (Nat.le_succ _), Nat.add_sub_cancel_left]
    refine k_iload_n G dJ2_grow_2_24 rfl ?_
    refine k_iconst G (v := 1) dJ2_grow_2_25 (by decide) ?_
    refine k_ishr G dJ2_grow_2_26 ?_
    rw [pk_shrN (n := xs.length) (by omega) ((1 : Int32) &&& 31) 1 (by decide), Nat.pow_one]
    refine k_callSp G (As := [.int (nI xs.length), .int 1, .int (nI (xs.length / 2))]) (rest := []) (kd_newLen _ D T h10 (by omega)) xs_newLen q926 rfl rfl (Nat.le_of_ble_eq_true rfl) (Nat.le_of_ble_eq_true rfl) ⟨(Nat.le_of_ble_eq_true rfl), (Nat.le_of_ble_eq_true rfl)⟩ dJ2_grow_2_27 ?_
    refine k_istore_n G [(3, .int (nI (xs.length + xs.length / 2))), (2, .int (nI xs.length)), (0, .ref al), (1, .int (nI (xs.length + 1)))] dJ2_grow_2_30 rfl (Nat.le_of_ble_eq_true rfl) rfl ?_
    refine k_aload_n G dJ2_grow_2_31 rfl ?_
    refine k_aload_n G dJ2_grow_2_32 rfl ?_
    refine k_get G (p := 0) (k := 1) ci_J2 rfl (by decide) (Or.inl q176) (fun _ h => h) rfl dJ2_grow_2_33 ?_
    refine k_iload_n G dJ2_grow_2_36 rfl ?_
    refine k_callS G (wl := [alH al m arr xs.length]) (wc := (arr, .inl (T.1 8, xs.length, .inr (.inr (.inr (.inr f))))) :: E) (wr := []) (As := [.ref arr, .int (nI (xs.length + xs.length / 2))]) (rest := [.ref al]) (kd_copy2 _ D T (m := xs.length + xs.length / 2) (by omega) (by omega) (fun i hi y hy => hE y (by
      have h1 := hf i _ (List.getElem?_eq_getElem hi)
      rw [hy] at h1
      cases h1
      exact List.getElem_mem hi))) xs_copy2 q934 rfl rfl (Nat.le_of_ble_eq_true rfl) (Nat.le_of_ble_eq_true rfl) ⟨(Nat.le_of_ble_eq_true rfl), by omega⟩ dJ2_grow_2_37 (fun v w hq => ?_)
    obtain ⟨b, rfl, rfl⟩ := hq
    refine k_dup_x1 G dJ2_grow_2_40 rfl rfl ?_
    refine k_put G (p := 0) (k := 1) ci_J2 rfl (by decide) (Or.inl q176) (fun _ h => h) rfl rfl rfl (Nat.le_of_ble_eq_true rfl) dJ2_grow_2_41 (fun _ _ _ => ?_)
    refine K.perm (ws' := alH al m b xs.length :: (b, .inl (T.1 8, xs.length + xs.length / 2, .inr (.inr (.inr (.inr (va_cpy f (fun _ => none) 0 0 xs.length)))))) :: (E ++ [(arr, .inl (T.1 8, xs.length, .inr (.inr (.inr (.inr f)))))])) (pm (fun c f h0 h1 h2 => by simp only [alH, List.set_cons_zero, List.set, h0, h1, h2, List.cons_append, List.nil_append, List.append_nil]; omega)) ?_
    exact k_aret G X (Or.inr ⟨_, rfl⟩) (r := some b) dJ2_grow_2_44 (Nat.le_of_ble_eq_true rfl) (by omega) ⟨b, rfl, _, _, _, rfl, by omega, by omega, by omega, fun i a z => by
      have hi : i < xs.length := (List.getElem?_eq_some_iff.mp z).1
      rw [pk_cpy_in (by omega) (by omega)]
      show f (0 + (i - 0)) = _
      rw [Nat.zero_add, Nat.sub_zero]
      exact hf i a z⟩
theorem kd_grow (l : Launch) (D : va_G) (T : xT) {al arr : Nat} {m : Int32} {xs : List Nat} {E w' : va_W} (hw : alF T arr xs E w') (hE : ∀ y ∈ xs, oElt E y) (hlen : xs.length ≤ 130) : XM l D T yJ2_grow cJ2_grow 1 (some (.array (.object "java/lang/Object"))) 7 1 200 [.ref al] (alH al m arr xs.length :: w') (fun v w => ∃ b : Nat, v = some (.ref b) ∧ alG T al m xs E b w) := by
  refine XM.start (by decide +kernel) (Nat.le_of_ble_eq_true rfl) (fun Γ G X _ hl_ => ?_)
  subst hl_
  refine K.less [0] (lv' := [(0, .ref al)]) rfl ?_
  refine k_aload_n G dJ2_grow_0 rfl ?_
  refine k_aload_n G dJ2_grow_1 rfl ?_
  refine k_get G (p := 0) (k := 2) ci_J2 rfl (by decide) (Or.inl q177) (fun _ h => h) rfl dJ2_grow_2 ?_
  refine k_iconst G (v := 1) dJ2_grow_5 (by decide) ?_
  refine k_iadd G dJ2_grow_6 ?_
  rw [nI_1]
  refine k_callVw G (As := [.int (nI (xs.length + 1))]) (rest := []) (C := RJ2) (kd_grow2 _ D T hw hE hlen) xs_grow2 q922 rfl rfl (Nat.le_of_ble_eq_true rfl) (Nat.le_of_ble_eq_true rfl) ⟨(Nat.le_of_ble_eq_true rfl), (Nat.le_of_ble_eq_true rfl)⟩ ⟨0, 20, _, TJ2, 3, rfl, rfl⟩ dJ2_grow_7 (fun v w hq => ?_)
  obtain ⟨b, rfl, hq⟩ := hq
  exact k_aret G X (Or.inr ⟨_, rfl⟩) (r := some b) dJ2_grow_10 (Nat.le_of_ble_eq_true rfl) (Nat.le_of_ble_eq_true rfl) ⟨b, rfl, hq⟩
theorem kd_add2 (l : Launch) (D : va_G) (T : xT) {al arr x : Nat} {m : Int32} {xs : List Nat} {E w' : va_W} (hw : alT T arr xs E w') (hE : ∀ y ∈ xs, oElt E y) (hx : oElt E x) (hlen : xs.length ≤ 130) : XM l D T yJ2_add_2 cJ2_add_2 4 none 9 1 200 [.ref al, .ref x, .ref arr, .int (nI xs.length)] (alH al m arr xs.length :: w') (fun v w => v = none ∧ ∃ (b : Nat) (J w2 : va_W), w = alH al m b (xs ++ [x]).length :: w2 ∧ alT T b (xs ++ [x]) (E ++ J) w2) := by
  refine XM.start (by decide +kernel) (Nat.le_of_ble_eq_true rfl) (fun Γ G X _ hl_ => ?_)
  subst hl_
  refine K.less [0, 1, 2, 3] (lv' := [(0, .ref al), (1, .ref x), (2, .ref arr), (3, .int (nI xs.length))]) rfl ?_
  have fin : ∀ (b cap : Nat) (f : Nat → Option Nat) (J : va_W), xs.length < cap → 10 ≤ cap → cap ≤ 1000 → (∀ i a, xs[i]? = some a → f i = some a) → K D Γ 1 200 11 [(0, .ref al), (1, .ref x), (2, .ref b), (3, .int (nI xs.length))] [] (alH al m b xs.length :: (b, .inl (T.1 8, cap, .inr (.inr (.inr (.inr f))))) :: (E ++ J)) := by
    intro b cap f J hc h10 hm hf
    refine k_aload_n G dJ2_add_2_11 rfl ?_
    refine k_iload_n G dJ2_add_2_12 rfl ?_
    refine k_aload_n G dJ2_add_2_13 rfl ?_
    refine k_aastO G (p := 1) rfl (hx.mono (fun z hz => List.mem_cons_of_mem _ (List.mem_cons_of_mem _ (List.mem_append_left _ hz)))) (nI_in hc (by omega)) xs.length (nI_clamp (by omega)) dJ2_add_2_14 ?_
    refine k_aload_n G dJ2_add_2_15 rfl ?_
    refine k_iload_n G dJ2_add_2_16 rfl ?_
    refine k_iconst G (v := 1) dJ2_add_2_17 (by decide) ?_
    refine k_iadd G dJ2_add_2_18 ?_
    rw [nI_1]
    refine k_put G (p := 0) (k := 2) ci_J2 rfl (by decide) (Or.inl q177) (fun _ h => h) rfl rfl rfl (Nat.le_of_ble_eq_true rfl) dJ2_add_2_19 (fun _ _ _ => ?_)
    exact k_vret G X dJ2_add_2_22 (Nat.le_of_ble_eq_true rfl) (Nat.le_of_ble_eq_true rfl) ⟨rfl, b, J, _, by rw [List.length_append]; rfl, Or.inr ⟨cap, _, by rw [List.length_append]; exact hc, h10, hm, fun i a z => by
      rw [List.getElem?_append] at z
      by_cases c : i < xs.length
      · rw [if_pos c] at z
        unfold va_up
        rw [if_neg (by omega)]
        exact hf i a z
      · rw [if_neg c] at z
        have h0 : i - xs.length = 0 := by
          have := (List.getElem?_eq_some_iff.mp z).1
          simp at this
          omega
        rw [h0] at z
        cases z
        unfold va_up
        rw [if_pos (by omega)], rfl⟩⟩
  have big : alF T arr xs E w' → K D Γ 0 0 6 [(0, .ref al), (1, .ref x), (2, .ref arr), (3, .int (nI xs.length))] [] (alH al m arr xs.length :: w') := by
    intro hw2
    refine k_aload_n G dJ2_add_2_6 rfl ?_
    refine k_callVw G (As := []) (rest := []) (C := RJ2) (kd_grow _ D T hw2 hE hlen) xs_grow q918 rfl rfl (Nat.le_of_ble_eq_true rfl) (Nat.le_of_ble_eq_true rfl) ⟨(Nat.le_of_ble_eq_true rfl), (Nat.le_of_ble_eq_true rfl)⟩ ⟨0, 20, _, TJ2, 3, rfl, rfl⟩ dJ2_add_2_7 (fun v w hq => ?_)
    obtain ⟨b, rfl, cap, f, J, rfl, h1, h2, h3, h4⟩ := hq
    refine k_astore_n G [(2, .ref b), (0, .ref al), (1, .ref x), (3, .int (nI xs.length))] dJ2_add_2_10 rfl (Nat.le_of_ble_eq_true rfl) rfl ?_
    refine K.less [0, 1, 2, 3] rfl ?_
    exact fin b cap f J h1 h2 h3 h4
  rcases hw with ⟨rfl, rfl, rfl⟩ | ⟨cap, f, hcap, h10, hm, hf, rfl⟩
  · refine k_iload_n G dJ2_add_2_0 rfl ?_
    refine k_aload_n G dJ2_add_2_1 rfl ?_
    refine kx_elen G dJ2_add_2_2 ?_
    refine k_icmp_ne G 11 dJ2_add_2_3 (by decide) (fun c3 => absurd c3 (fun z => z rfl)) (fun _ => ?_)
    exact big (Or.inl ⟨rfl, rfl, rfl⟩)
  · refine k_iload_n G dJ2_add_2_0 rfl ?_
    refine k_aload_n G dJ2_add_2_1 rfl ?_
    refine k_alen G (p := 1) (t := 8) rfl rfl dJ2_add_2_2 ?_
    refine k_icmp_ne G 11 dJ2_add_2_3 (by decide) (fun c3 => ?_) (fun c3 => ?_)
    · have h9 : ¬ xs.length = cap := fun z => c3 (by rw [z])
      refine K.widen (Nat.zero_le 1) (Nat.zero_le 200) ?_
      have h8 := fin arr cap f [] (by omega) h10 hm hf
      rw [List.append_nil] at h8
      exact h8
    · have h9 : xs.length = cap := (nI_eq (by omega) (by omega)).mp c3
      subst h9
      exact big (Or.inr ⟨f, h10, hf, rfl⟩)
theorem kd_add (l : Launch) (D : va_G) (T : xT) {al x : Nat} {xs : List Nat} {E w0 : va_W} (hw : alW T al xs E w0) (hE : ∀ y ∈ xs, oElt E y) (hx : oElt E x) (hlen : xs.length ≤ 130) : XM l D T yJ2_add cJ2_add 2 (some .boolean) 10 1 200 [.ref al, .ref x] w0 (fun v w => v = some (.int 1) ∧ ∃ J : va_W, alW T al (xs ++ [x]) (E ++ J) w) := by
  refine XM.start (by decide +kernel) (Nat.le_of_ble_eq_true rfl) (fun Γ G X _ hl_ => ?_)
  subst hl_
  refine K.less [0, 1] (lv' := [(0, .ref al), (1, .ref x)]) rfl ?_
  obtain ⟨m, arr, w', rfl, hw⟩ := hw
  refine k_aload_n G dJ2_add_0 rfl ?_
  refine k_dup G dJ2_add_1 rfl ?_
  refine k_get G (p := 0) (k := 0) ci_J2 rfl (by decide) (Or.inl q179) (x_samef (G.2.2.2.2.2.2.1 _ q180)) rfl dJ2_add_2 ?_
  refine k_iconst G (v := 1) dJ2_add_5 (by decide) ?_
  refine k_iadd G dJ2_add_6 ?_
  refine k_put G (p := 0) (k := 0) ci_J2 rfl (by decide) (Or.inl q179) (x_samef (G.2.2.2.2.2.2.1 _ q180)) rfl rfl rfl (Nat.le_of_ble_eq_true rfl) dJ2_add_7 (fun _ _ _ => ?_)
  generalize hm1 : m + 1 = m1
  show K D Γ 0 0 10 _ _ (alH al m1 arr xs.length :: w')
  refine k_aload_n G dJ2_add_10 rfl ?_
  refine k_aload_n G dJ2_add_11 rfl ?_
  refine k_aload_n G dJ2_add_12 rfl ?_
  refine k_get G (p := 0) (k := 1) ci_J2 rfl (by decide) (Or.inl q176) (fun _ h => h) rfl dJ2_add_13 ?_
  refine k_aload_n G dJ2_add_16 rfl ?_
  refine k_get G (p := 0) (k := 2) ci_J2 rfl (by decide) (Or.inl q177) (fun _ h => h) rfl dJ2_add_17 ?_
  refine k_callVw G (As := [.ref x, .ref arr, .int (nI xs.length)]) (rest := []) (C := RJ2) (kd_add2 _ D T hw hE hx hlen) xs_add2 q914 rfl rfl (Nat.le_of_ble_eq_true rfl) (Nat.le_of_ble_eq_true rfl) ⟨(Nat.le_of_ble_eq_true rfl), (Nat.le_of_ble_eq_true rfl)⟩ ⟨0, 20, _, TJ2, 3, rfl, rfl⟩ dJ2_add_20 (fun v w hq => ?_)
  obtain ⟨rfl, b, J, w2, rfl, hq⟩ := hq
  refine k_iconst G (v := 1) dJ2_add_23 (by decide) ?_
  exact k_zret G X (Or.inr rfl) dJ2_add_24 (Nat.le_of_ble_eq_true rfl) (Nat.le_of_ble_eq_true rfl) ⟨rfl, J, m1, b, w2, rfl, hq⟩
