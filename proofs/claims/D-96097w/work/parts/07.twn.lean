set_option maxRecDepth 100000
/-! the twin: words, constants, names -/
theorem kc_b_m14 : (Int8.ofInt (-14)).toInt32 = (-14) := by decide +kernel
theorem kc_b_m13 : (Int8.ofInt (-13)).toInt32 = (-13) := by decide +kernel
theorem kc_b_m12 : (Int8.ofInt (-12)).toInt32 = (-12) := by decide +kernel
theorem kc_b_m11 : (Int8.ofInt (-11)).toInt32 = (-11) := by decide +kernel
theorem kc_b_m10 : (Int8.ofInt (-10)).toInt32 = (-10) := by decide +kernel
theorem kc_b_m5 : (Int8.ofInt (-5)).toInt32 = (-5) := by decide +kernel
theorem kc_b_m4 : (Int8.ofInt (-4)).toInt32 = (-4) := by decide +kernel
theorem kc_b_m3 : (Int8.ofInt (-3)).toInt32 = (-3) := by decide +kernel
theorem kc_b_m2 : (Int8.ofInt (-2)).toInt32 = (-2) := by decide +kernel
theorem kc_b_6 : (Int8.ofInt 6).toInt32 = 6 := by decide +kernel
theorem kc_b_7 : (Int8.ofInt 7).toInt32 = 7 := by decide +kernel
theorem kc_b_8 : (Int8.ofInt 8).toInt32 = 8 := by decide +kernel
theorem kc_b_9 : (Int8.ofInt 9).toInt32 = 9 := by decide +kernel
theorem kc_b_10 : (Int8.ofInt 10).toInt32 = 10 := by decide +kernel
theorem kc_b_11 : (Int8.ofInt 11).toInt32 = 11 := by decide +kernel
theorem kc_b_12 : (Int8.ofInt 12).toInt32 = 12 := by decide +kernel
theorem kc_b_20 : (Int8.ofInt 20).toInt32 = 20 := by decide +kernel
theorem kc_b_30 : (Int8.ofInt 30).toInt32 = 30 := by decide +kernel
theorem kc_b_32 : (Int8.ofInt 32).toInt32 = 32 := by decide +kernel
theorem kc_b_33 : (Int8.ofInt 33).toInt32 = 33 := by decide +kernel
theorem kc_b_38 : (Int8.ofInt 38).toInt32 = 38 := by decide +kernel
theorem kc_b_40 : (Int8.ofInt 40).toInt32 = 40 := by decide +kernel
theorem kc_b_41 : (Int8.ofInt 41).toInt32 = 41 := by decide +kernel
theorem kc_b_43 : (Int8.ofInt 43).toInt32 = 43 := by decide +kernel
theorem kc_b_48 : (Int8.ofInt 48).toInt32 = 48 := by decide +kernel
theorem kc_b_50 : (Int8.ofInt 50).toInt32 = 50 := by decide +kernel
theorem kc_b_51 : (Int8.ofInt 51).toInt32 = 51 := by decide +kernel
theorem kc_b_57 : (Int8.ofInt 57).toInt32 = 57 := by decide +kernel
theorem kc_b_59 : (Int8.ofInt 59).toInt32 = 59 := by decide +kernel
theorem kc_b_60 : (Int8.ofInt 60).toInt32 = 60 := by decide +kernel
theorem kc_b_61 : (Int8.ofInt 61).toInt32 = 61 := by decide +kernel
theorem kc_b_62 : (Int8.ofInt 62).toInt32 = 62 := by decide +kernel
theorem kc_b_68 : (Int8.ofInt 68).toInt32 = 68 := by decide +kernel
theorem kc_b_70 : (Int8.ofInt 70).toInt32 = 70 := by decide +kernel
theorem kc_b_71 : (Int8.ofInt 71).toInt32 = 71 := by decide +kernel
theorem kc_b_92 : (Int8.ofInt 92).toInt32 = 92 := by decide +kernel
theorem kc_b_99 : (Int8.ofInt 99).toInt32 = 99 := by decide +kernel
theorem kc_b_100 : (Int8.ofInt 100).toInt32 = 100 := by decide +kernel
theorem kc_b_102 : (Int8.ofInt 102).toInt32 = 102 := by decide +kernel
theorem kc_b_104 : (Int8.ofInt 104).toInt32 = 104 := by decide +kernel
theorem kc_b_107 : (Int8.ofInt 107).toInt32 = 107 := by decide +kernel
theorem kc_b_108 : (Int8.ofInt 108).toInt32 = 108 := by decide +kernel
theorem kc_b_109 : (Int8.ofInt 109).toInt32 = 109 := by decide +kernel
theorem kc_b_111 : (Int8.ofInt 111).toInt32 = 111 := by decide +kernel
theorem kc_b_116 : (Int8.ofInt 116).toInt32 = 116 := by decide +kernel
theorem kc_b_118 : (Int8.ofInt 118).toInt32 = 118 := by decide +kernel
theorem kc_b_124 : (Int8.ofInt 124).toInt32 = 124 := by decide +kernel
theorem kc_b_127 : (Int8.ofInt 127).toInt32 = 127 := by decide +kernel
theorem kc_i_m1 : Int32.ofInt (-1) = (-1) := by decide +kernel
theorem kc_i_0 : Int32.ofInt 0 = 0 := by decide +kernel
theorem kc_i_1 : Int32.ofInt 1 = 1 := by decide +kernel
theorem kc_i_2 : Int32.ofInt 2 = 2 := by decide +kernel
theorem kc_i_3 : Int32.ofInt 3 = 3 := by decide +kernel
theorem kc_i_4 : Int32.ofInt 4 = 4 := by decide +kernel
theorem kc_i_5 : Int32.ofInt 5 = 5 := by decide +kernel
theorem kc_l_0 : Int64.ofNat (0 : Fin 2) = 0 := by decide +kernel
theorem kc_l_1 : Int64.ofNat (1 : Fin 2) = 1 := by decide +kernel
theorem kc_s_999 : (Int16.ofInt 999).toInt32 = 999 := by decide +kernel
theorem kc_s_9999 : (Int16.ofInt 9999).toInt32 = 9999 := by decide +kernel
theorem tA_1 : tA 1 := Or.inl ⟨by decide, by decide⟩
theorem tA_2 : tA 2 := Or.inl ⟨by decide, by decide⟩
theorem tA_3 : tA 3 := Or.inl ⟨by decide, by decide⟩
theorem tA_4 : tA 4 := Or.inl ⟨by decide, by decide⟩
theorem tA_5 : tA 5 := Or.inl ⟨by decide, by decide⟩
theorem tA_6 : tA 6 := Or.inl ⟨by decide, by decide⟩
theorem tA_7 : tA 7 := Or.inl ⟨by decide, by decide⟩
theorem tA_8 : tA 8 := Or.inl ⟨by decide, by decide⟩
theorem tA_9 : tA 9 := Or.inl ⟨by decide, by decide⟩
theorem tA_10 : tA 10 := Or.inl ⟨by decide, by decide⟩
theorem tA_11 : tA 11 := Or.inl ⟨by decide, by decide⟩
theorem tA_13 : tA 13 := Or.inr rfl
abbrev cX6_isIn : ByteArray := prog_23_method_2_code
def yX6_isIn : MethodName := ⟨RX6, "isIn", "(III)Z"⟩
def dkwX6_isIn_0 : List UInt8 := [26, 27, 161, 0, 12, 26, 28, 163, 0, 7, 4, 167, 0, 4, 3, 172]
abbrev dktX6_isIn_0 : List UInt8 := dkwX6_isIn_0 ++ []
theorem dksX6_isIn_0 : cX6_isIn.data.toList.drop 0 = dktX6_isIn_0 := by decide +kernel
theorem dX6_isIn_0 : decode cX6_isIn 0 = .ok (.iload_n 0, 1) := dk_26 (dk_at dksX6_isIn_0 0 rfl rfl)
theorem dX6_isIn_1 : decode cX6_isIn 1 = .ok (.iload_n 1, 1) := dk_27 (dk_at dksX6_isIn_0 1 rfl rfl)
theorem dX6_isIn_2 : decode cX6_isIn 2 = .ok (.if_icmp .lt 12, 3) := dk_161 0 12 (dk_at dksX6_isIn_0 2 rfl rfl)
theorem dX6_isIn_5 : decode cX6_isIn 5 = .ok (.iload_n 0, 1) := dk_26 (dk_at dksX6_isIn_0 5 rfl rfl)
theorem dX6_isIn_6 : decode cX6_isIn 6 = .ok (.iload_n 2, 1) := dk_28 (dk_at dksX6_isIn_0 6 rfl rfl)
theorem dX6_isIn_7 : decode cX6_isIn 7 = .ok (.if_icmp .gt 7, 3) := dk_163 0 7 (dk_at dksX6_isIn_0 7 rfl rfl)
theorem dX6_isIn_10 : decode cX6_isIn 10 = .ok (.iconst 1, 1) := dk_4 (dk_at dksX6_isIn_0 10 rfl rfl)
theorem dX6_isIn_11 : decode cX6_isIn 11 = .ok (.goto 4, 3) := dk_167 0 4 (dk_at dksX6_isIn_0 11 rfl rfl)
theorem dX6_isIn_14 : decode cX6_isIn 14 = .ok (.iconst 0, 1) := dk_3 (dk_at dksX6_isIn_0 14 rfl rfl)
theorem dX6_isIn_15 : decode cX6_isIn 15 = .ok (.ireturn, 1) := dk_172 (dk_at dksX6_isIn_0 15 rfl rfl)
theorem cf_isIn : xS yX6_isIn cX6_isIn 3 (some .boolean) 3 := ⟨q1512, q96, q1513, ⟨by decide +kernel, by decide +kernel, by decide +kernel⟩, by decide⟩
abbrev cX6_isTaste : ByteArray := prog_23_method_3_code
def yX6_isTaste : MethodName := ⟨RX6, "isTaste", "(I)Z"⟩
def dkwX6_isTaste_0 : List UInt8 := [26, 3, 6, 184, 0, 52, 172]
abbrev dktX6_isTaste_0 : List UInt8 := dkwX6_isTaste_0 ++ []
theorem dksX6_isTaste_0 : cX6_isTaste.data.toList.drop 0 = dktX6_isTaste_0 := by decide +kernel
theorem dX6_isTaste_0 : decode cX6_isTaste 0 = .ok (.iload_n 0, 1) := dk_26 (dk_at dksX6_isTaste_0 0 rfl rfl)
theorem dX6_isTaste_1 : decode cX6_isTaste 1 = .ok (.iconst 0, 1) := dk_3 (dk_at dksX6_isTaste_0 1 rfl rfl)
theorem dX6_isTaste_2 : decode cX6_isTaste 2 = .ok (.iconst 3, 1) := dk_6 (dk_at dksX6_isTaste_0 2 rfl rfl)
theorem dX6_isTaste_3 : decode cX6_isTaste 3 = .ok (.invokestatic 52, 3) := dk_184 0 52 (dk_at dksX6_isTaste_0 3 rfl rfl)
theorem dX6_isTaste_6 : decode cX6_isTaste 6 = .ok (.ireturn, 1) := dk_172 (dk_at dksX6_isTaste_0 6 rfl rfl)
theorem cf_isTaste : xS yX6_isTaste cX6_isTaste 1 (some .boolean) 1 := ⟨q1600, q96, q1601, ⟨by decide +kernel, by decide +kernel, by decide +kernel⟩, by decide⟩
abbrev cX6_isLoaf : ByteArray := prog_23_method_4_code
def yX6_isLoaf : MethodName := ⟨RX6, "isLoaf", "(I)Z"⟩
def dkwX6_isLoaf_0 : List UInt8 := [27, 3, 42, 180, 0, 11, 8, 46, 4, 100, 184, 0, 52, 172]
abbrev dktX6_isLoaf_0 : List UInt8 := dkwX6_isLoaf_0 ++ []
theorem dksX6_isLoaf_0 : cX6_isLoaf.data.toList.drop 0 = dktX6_isLoaf_0 := by decide +kernel
theorem dX6_isLoaf_0 : decode cX6_isLoaf 0 = .ok (.iload_n 1, 1) := dk_27 (dk_at dksX6_isLoaf_0 0 rfl rfl)
theorem dX6_isLoaf_1 : decode cX6_isLoaf 1 = .ok (.iconst 0, 1) := dk_3 (dk_at dksX6_isLoaf_0 1 rfl rfl)
theorem dX6_isLoaf_2 : decode cX6_isLoaf 2 = .ok (.aload_n 0, 1) := dk_42 (dk_at dksX6_isLoaf_0 2 rfl rfl)
theorem dX6_isLoaf_3 : decode cX6_isLoaf 3 = .ok (.getfield 11, 3) := dk_180 0 11 (dk_at dksX6_isLoaf_0 3 rfl rfl)
theorem dX6_isLoaf_6 : decode cX6_isLoaf 6 = .ok (.iconst 5, 1) := dk_8 (dk_at dksX6_isLoaf_0 6 rfl rfl)
theorem dX6_isLoaf_7 : decode cX6_isLoaf 7 = .ok (.iaload, 1) := dk_46 (dk_at dksX6_isLoaf_0 7 rfl rfl)
theorem dX6_isLoaf_8 : decode cX6_isLoaf 8 = .ok (.iconst 1, 1) := dk_4 (dk_at dksX6_isLoaf_0 8 rfl rfl)
theorem dX6_isLoaf_9 : decode cX6_isLoaf 9 = .ok (.isub, 1) := dk_100 (dk_at dksX6_isLoaf_0 9 rfl rfl)
theorem dX6_isLoaf_10 : decode cX6_isLoaf 10 = .ok (.invokestatic 52, 3) := dk_184 0 52 (dk_at dksX6_isLoaf_0 10 rfl rfl)
theorem dX6_isLoaf_13 : decode cX6_isLoaf 13 = .ok (.ireturn, 1) := dk_172 (dk_at dksX6_isLoaf_0 13 rfl rfl)
theorem cf_isLoaf : xV yX6_isLoaf RX6 cX6_isLoaf 2 (some .boolean) 1 := ⟨q1597, qs58, q96, q1598, ⟨rfl, by decide +kernel, by decide +kernel, by decide +kernel⟩, by decide⟩
abbrev cX6_areLoaves : ByteArray := prog_23_method_5_code
def yX6_areLoaves : MethodName := ⟨RX6, "areLoaves", "(I)Z"⟩
def dkwX6_areLoaves_0 : List UInt8 := [27, 3, 4, 42, 180, 0, 11, 8, 46, 120, 4, 100, 184, 0, 52, 172]
abbrev dktX6_areLoaves_0 : List UInt8 := dkwX6_areLoaves_0 ++ []
theorem dksX6_areLoaves_0 : cX6_areLoaves.data.toList.drop 0 = dktX6_areLoaves_0 := by decide +kernel
theorem dX6_areLoaves_0 : decode cX6_areLoaves 0 = .ok (.iload_n 1, 1) := dk_27 (dk_at dksX6_areLoaves_0 0 rfl rfl)
theorem dX6_areLoaves_1 : decode cX6_areLoaves 1 = .ok (.iconst 0, 1) := dk_3 (dk_at dksX6_areLoaves_0 1 rfl rfl)
theorem dX6_areLoaves_2 : decode cX6_areLoaves 2 = .ok (.iconst 1, 1) := dk_4 (dk_at dksX6_areLoaves_0 2 rfl rfl)
theorem dX6_areLoaves_3 : decode cX6_areLoaves 3 = .ok (.aload_n 0, 1) := dk_42 (dk_at dksX6_areLoaves_0 3 rfl rfl)
theorem dX6_areLoaves_4 : decode cX6_areLoaves 4 = .ok (.getfield 11, 3) := dk_180 0 11 (dk_at dksX6_areLoaves_0 4 rfl rfl)
theorem dX6_areLoaves_7 : decode cX6_areLoaves 7 = .ok (.iconst 5, 1) := dk_8 (dk_at dksX6_areLoaves_0 7 rfl rfl)
theorem dX6_areLoaves_8 : decode cX6_areLoaves 8 = .ok (.iaload, 1) := dk_46 (dk_at dksX6_areLoaves_0 8 rfl rfl)
theorem dX6_areLoaves_9 : decode cX6_areLoaves 9 = .ok (.ishl, 1) := dk_120 (dk_at dksX6_areLoaves_0 9 rfl rfl)
theorem dX6_areLoaves_10 : decode cX6_areLoaves 10 = .ok (.iconst 1, 1) := dk_4 (dk_at dksX6_areLoaves_0 10 rfl rfl)
theorem dX6_areLoaves_11 : decode cX6_areLoaves 11 = .ok (.isub, 1) := dk_100 (dk_at dksX6_areLoaves_0 11 rfl rfl)
theorem dX6_areLoaves_12 : decode cX6_areLoaves 12 = .ok (.invokestatic 52, 3) := dk_184 0 52 (dk_at dksX6_areLoaves_0 12 rfl rfl)
theorem dX6_areLoaves_15 : decode cX6_areLoaves 15 = .ok (.ireturn, 1) := dk_172 (dk_at dksX6_areLoaves_0 15 rfl rfl)
theorem cf_areLoaves : xV yX6_areLoaves RX6 cX6_areLoaves 2 (some .boolean) 1 := ⟨q1683, qs71, q96, q1684, ⟨rfl, by decide +kernel, by decide +kernel, by decide +kernel⟩, by decide⟩
abbrev cX6_bits : ByteArray := prog_23_method_6_code
def yX6_bits : MethodName := ⟨RX6, "bits", "(I)I"⟩
def dkwX6_bits_0 : List UInt8 := [3, 60, 26, 61, 28, 158, 0, 16, 27, 28, 4, 126, 96, 60, 28, 4, 122, 61, 167, 255, 242, 27, 172]
abbrev dktX6_bits_0 : List UInt8 := dkwX6_bits_0 ++ []
theorem dksX6_bits_0 : cX6_bits.data.toList.drop 0 = dktX6_bits_0 := by decide +kernel
theorem dX6_bits_0 : decode cX6_bits 0 = .ok (.iconst 0, 1) := dk_3 (dk_at dksX6_bits_0 0 rfl rfl)
theorem dX6_bits_1 : decode cX6_bits 1 = .ok (.istore_n 1, 1) := dk_60 (dk_at dksX6_bits_0 1 rfl rfl)
theorem dX6_bits_2 : decode cX6_bits 2 = .ok (.iload_n 0, 1) := dk_26 (dk_at dksX6_bits_0 2 rfl rfl)
theorem dX6_bits_3 : decode cX6_bits 3 = .ok (.istore_n 2, 1) := dk_61 (dk_at dksX6_bits_0 3 rfl rfl)
theorem dX6_bits_4 : decode cX6_bits 4 = .ok (.iload_n 2, 1) := dk_28 (dk_at dksX6_bits_0 4 rfl rfl)
theorem dX6_bits_5 : decode cX6_bits 5 = .ok (.ifCond .le 16, 3) := dk_158 0 16 (dk_at dksX6_bits_0 5 rfl rfl)
theorem dX6_bits_8 : decode cX6_bits 8 = .ok (.iload_n 1, 1) := dk_27 (dk_at dksX6_bits_0 8 rfl rfl)
theorem dX6_bits_9 : decode cX6_bits 9 = .ok (.iload_n 2, 1) := dk_28 (dk_at dksX6_bits_0 9 rfl rfl)
theorem dX6_bits_10 : decode cX6_bits 10 = .ok (.iconst 1, 1) := dk_4 (dk_at dksX6_bits_0 10 rfl rfl)
theorem dX6_bits_11 : decode cX6_bits 11 = .ok (.iand, 1) := dk_126 (dk_at dksX6_bits_0 11 rfl rfl)
theorem dX6_bits_12 : decode cX6_bits 12 = .ok (.iadd, 1) := dk_96 (dk_at dksX6_bits_0 12 rfl rfl)
theorem dX6_bits_13 : decode cX6_bits 13 = .ok (.istore_n 1, 1) := dk_60 (dk_at dksX6_bits_0 13 rfl rfl)
theorem dX6_bits_14 : decode cX6_bits 14 = .ok (.iload_n 2, 1) := dk_28 (dk_at dksX6_bits_0 14 rfl rfl)
theorem dX6_bits_15 : decode cX6_bits 15 = .ok (.iconst 1, 1) := dk_4 (dk_at dksX6_bits_0 15 rfl rfl)
theorem dX6_bits_16 : decode cX6_bits 16 = .ok (.ishr, 1) := dk_122 (dk_at dksX6_bits_0 16 rfl rfl)
theorem dX6_bits_17 : decode cX6_bits 17 = .ok (.istore_n 2, 1) := dk_61 (dk_at dksX6_bits_0 17 rfl rfl)
theorem dX6_bits_18 : decode cX6_bits 18 = .ok (.goto (-14), 3) := dk_167 255 242 (dk_at dksX6_bits_0 18 rfl rfl)
theorem dX6_bits_21 : decode cX6_bits 21 = .ok (.iload_n 1, 1) := dk_27 (dk_at dksX6_bits_0 21 rfl rfl)
theorem dX6_bits_22 : decode cX6_bits 22 = .ok (.ireturn, 1) := dk_172 (dk_at dksX6_bits_0 22 rfl rfl)
theorem cf_bits : xS yX6_bits cX6_bits 3 (some .int) 1 := ⟨q1686, q96, q1687, ⟨by decide +kernel, by decide +kernel, by decide +kernel⟩, by decide⟩
abbrev cX6_lays : ByteArray := prog_23_method_7_code
def yX6_lays : MethodName := ⟨RX6, "lays", "([I[I)V"⟩
def dkwX6_lays_0 : List UInt8 := [3, 61, 28, 16, 92, 162, 0, 15, 43, 28, 42, 28, 46, 79, 132, 2, 1, 167, 255, 241, 177]
abbrev dktX6_lays_0 : List UInt8 := dkwX6_lays_0 ++ []
theorem dksX6_lays_0 : cX6_lays.data.toList.drop 0 = dktX6_lays_0 := by decide +kernel
theorem dX6_lays_0 : decode cX6_lays 0 = .ok (.iconst 0, 1) := dk_3 (dk_at dksX6_lays_0 0 rfl rfl)
theorem dX6_lays_1 : decode cX6_lays 1 = .ok (.istore_n 2, 1) := dk_61 (dk_at dksX6_lays_0 1 rfl rfl)
theorem dX6_lays_2 : decode cX6_lays 2 = .ok (.iload_n 2, 1) := dk_28 (dk_at dksX6_lays_0 2 rfl rfl)
theorem dX6_lays_3 : decode cX6_lays 3 = .ok (.bipush 92, 2) := dk_16 92 (dk_at dksX6_lays_0 3 rfl rfl)
theorem dX6_lays_5 : decode cX6_lays 5 = .ok (.if_icmp .ge 15, 3) := dk_162 0 15 (dk_at dksX6_lays_0 5 rfl rfl)
theorem dX6_lays_8 : decode cX6_lays 8 = .ok (.aload_n 1, 1) := dk_43 (dk_at dksX6_lays_0 8 rfl rfl)
theorem dX6_lays_9 : decode cX6_lays 9 = .ok (.iload_n 2, 1) := dk_28 (dk_at dksX6_lays_0 9 rfl rfl)
theorem dX6_lays_10 : decode cX6_lays 10 = .ok (.aload_n 0, 1) := dk_42 (dk_at dksX6_lays_0 10 rfl rfl)
theorem dX6_lays_11 : decode cX6_lays 11 = .ok (.iload_n 2, 1) := dk_28 (dk_at dksX6_lays_0 11 rfl rfl)
theorem dX6_lays_12 : decode cX6_lays 12 = .ok (.iaload, 1) := dk_46 (dk_at dksX6_lays_0 12 rfl rfl)
theorem dX6_lays_13 : decode cX6_lays 13 = .ok (.iastore, 1) := dk_79 (dk_at dksX6_lays_0 13 rfl rfl)
theorem dX6_lays_14 : decode cX6_lays 14 = .ok (.iinc 2 1, 3) := dk_132 2 1 (dk_at dksX6_lays_0 14 rfl rfl)
theorem dX6_lays_17 : decode cX6_lays 17 = .ok (.goto (-15), 3) := dk_167 255 241 (dk_at dksX6_lays_0 17 rfl rfl)
theorem dX6_lays_20 : decode cX6_lays 20 = .ok (.return_, 1) := dk_177 (dk_at dksX6_lays_0 20 rfl rfl)
theorem cf_lays : xS yX6_lays cX6_lays 3 none 2 := ⟨q1671, q96, q1672, ⟨by decide +kernel, by decide +kernel, by decide +kernel⟩, by decide⟩
abbrev cX6_begins : ByteArray := prog_23_method_8_code
def yX6_begins : MethodName := ⟨RX6, "begins", "()V"⟩
def dkwX6_begins_0 : List UInt8 := [42, 180, 0, 11, 42, 180, 0, 18, 184, 0, 56, 177]
abbrev dktX6_begins_0 : List UInt8 := dkwX6_begins_0 ++ []
theorem dksX6_begins_0 : cX6_begins.data.toList.drop 0 = dktX6_begins_0 := by decide +kernel
theorem dX6_begins_0 : decode cX6_begins 0 = .ok (.aload_n 0, 1) := dk_42 (dk_at dksX6_begins_0 0 rfl rfl)
theorem dX6_begins_1 : decode cX6_begins 1 = .ok (.getfield 11, 3) := dk_180 0 11 (dk_at dksX6_begins_0 1 rfl rfl)
theorem dX6_begins_4 : decode cX6_begins 4 = .ok (.aload_n 0, 1) := dk_42 (dk_at dksX6_begins_0 4 rfl rfl)
theorem dX6_begins_5 : decode cX6_begins 5 = .ok (.getfield 18, 3) := dk_180 0 18 (dk_at dksX6_begins_0 5 rfl rfl)
theorem dX6_begins_8 : decode cX6_begins 8 = .ok (.invokestatic 56, 3) := dk_184 0 56 (dk_at dksX6_begins_0 8 rfl rfl)
theorem dX6_begins_11 : decode cX6_begins 11 = .ok (.return_, 1) := dk_177 (dk_at dksX6_begins_0 11 rfl rfl)
theorem cf_begins : xV yX6_begins RX6 cX6_begins 1 none 0 := ⟨q1668, qs69, q96, q1669, ⟨rfl, by decide +kernel, by decide +kernel, by decide +kernel⟩, by decide⟩
abbrev cX6_ends : ByteArray := prog_23_method_9_code
def yX6_ends : MethodName := ⟨RX6, "ends", "()V"⟩
def dkwX6_ends_0 : List UInt8 := [42, 180, 0, 18, 42, 180, 0, 11, 184, 0, 56, 177]
abbrev dktX6_ends_0 : List UInt8 := dkwX6_ends_0 ++ []
theorem dksX6_ends_0 : cX6_ends.data.toList.drop 0 = dktX6_ends_0 := by decide +kernel
theorem dX6_ends_0 : decode cX6_ends 0 = .ok (.aload_n 0, 1) := dk_42 (dk_at dksX6_ends_0 0 rfl rfl)
theorem dX6_ends_1 : decode cX6_ends 1 = .ok (.getfield 18, 3) := dk_180 0 18 (dk_at dksX6_ends_0 1 rfl rfl)
theorem dX6_ends_4 : decode cX6_ends 4 = .ok (.aload_n 0, 1) := dk_42 (dk_at dksX6_ends_0 4 rfl rfl)
theorem dX6_ends_5 : decode cX6_ends 5 = .ok (.getfield 11, 3) := dk_180 0 11 (dk_at dksX6_ends_0 5 rfl rfl)
theorem dX6_ends_8 : decode cX6_ends 8 = .ok (.invokestatic 56, 3) := dk_184 0 56 (dk_at dksX6_ends_0 8 rfl rfl)
theorem dX6_ends_11 : decode cX6_ends 11 = .ok (.return_, 1) := dk_177 (dk_at dksX6_ends_0 11 rfl rfl)
theorem cf_ends : xV yX6_ends RX6 cX6_ends 1 none 0 := ⟨q1675, qs70, q96, q1676, ⟨rfl, by decide +kernel, by decide +kernel, by decide +kernel⟩, by decide⟩
abbrev cX6_get : ByteArray := prog_23_method_10_code
def yX6_get : MethodName := ⟨RX6, "get", "(II)I"⟩
def dkwX6_get_0 : List UInt8 := [42, 180, 0, 11, 16, 8, 16, 10, 27, 104, 96, 28, 96, 46, 172]
abbrev dktX6_get_0 : List UInt8 := dkwX6_get_0 ++ []
theorem dksX6_get_0 : cX6_get.data.toList.drop 0 = dktX6_get_0 := by decide +kernel
theorem dX6_get_0 : decode cX6_get 0 = .ok (.aload_n 0, 1) := dk_42 (dk_at dksX6_get_0 0 rfl rfl)
theorem dX6_get_1 : decode cX6_get 1 = .ok (.getfield 11, 3) := dk_180 0 11 (dk_at dksX6_get_0 1 rfl rfl)
theorem dX6_get_4 : decode cX6_get 4 = .ok (.bipush 8, 2) := dk_16 8 (dk_at dksX6_get_0 4 rfl rfl)
theorem dX6_get_6 : decode cX6_get 6 = .ok (.bipush 10, 2) := dk_16 10 (dk_at dksX6_get_0 6 rfl rfl)
theorem dX6_get_8 : decode cX6_get 8 = .ok (.iload_n 1, 1) := dk_27 (dk_at dksX6_get_0 8 rfl rfl)
theorem dX6_get_9 : decode cX6_get 9 = .ok (.imul, 1) := dk_104 (dk_at dksX6_get_0 9 rfl rfl)
theorem dX6_get_10 : decode cX6_get 10 = .ok (.iadd, 1) := dk_96 (dk_at dksX6_get_0 10 rfl rfl)
theorem dX6_get_11 : decode cX6_get 11 = .ok (.iload_n 2, 1) := dk_28 (dk_at dksX6_get_0 11 rfl rfl)
theorem dX6_get_12 : decode cX6_get 12 = .ok (.iadd, 1) := dk_96 (dk_at dksX6_get_0 12 rfl rfl)
theorem dX6_get_13 : decode cX6_get 13 = .ok (.iaload, 1) := dk_46 (dk_at dksX6_get_0 13 rfl rfl)
theorem dX6_get_14 : decode cX6_get 14 = .ok (.ireturn, 1) := dk_172 (dk_at dksX6_get_0 14 rfl rfl)
theorem cf_get : xV yX6_get RX6 cX6_get 3 (some .int) 2 := ⟨q1581, qs56, q96, q1582, ⟨rfl, by decide +kernel, by decide +kernel, by decide +kernel⟩, by decide⟩
abbrev cX6_kind : ByteArray := prog_23_method_11_code
def yX6_kind : MethodName := ⟨RX6, "kind", "(I)I"⟩
def dkwX6_kind_0 : List UInt8 := [42, 27, 3, 182, 0, 60, 172]
abbrev dktX6_kind_0 : List UInt8 := dkwX6_kind_0 ++ []
theorem dksX6_kind_0 : cX6_kind.data.toList.drop 0 = dktX6_kind_0 := by decide +kernel
theorem dX6_kind_0 : decode cX6_kind 0 = .ok (.aload_n 0, 1) := dk_42 (dk_at dksX6_kind_0 0 rfl rfl)
theorem dX6_kind_1 : decode cX6_kind 1 = .ok (.iload_n 1, 1) := dk_27 (dk_at dksX6_kind_0 1 rfl rfl)
theorem dX6_kind_2 : decode cX6_kind 2 = .ok (.iconst 0, 1) := dk_3 (dk_at dksX6_kind_0 2 rfl rfl)
theorem dX6_kind_3 : decode cX6_kind 3 = .ok (.invokevirtual 60, 3) := dk_182 0 60 (dk_at dksX6_kind_0 3 rfl rfl)
theorem dX6_kind_6 : decode cX6_kind 6 = .ok (.ireturn, 1) := dk_172 (dk_at dksX6_kind_0 6 rfl rfl)
theorem cf_kind : xV yX6_kind RX6 cX6_kind 2 (some .int) 1 := ⟨q1577, qs55, q96, q1578, ⟨rfl, by decide +kernel, by decide +kernel, by decide +kernel⟩, by decide⟩
abbrev cX6_number : ByteArray := prog_23_method_12_code
def yX6_number : MethodName := ⟨RX6, "number", "(I)I"⟩
def dkwX6_number_0 : List UInt8 := [42, 27, 4, 182, 0, 60, 172]
abbrev dktX6_number_0 : List UInt8 := dkwX6_number_0 ++ []
theorem dksX6_number_0 : cX6_number.data.toList.drop 0 = dktX6_number_0 := by decide +kernel
theorem dX6_number_0 : decode cX6_number 0 = .ok (.aload_n 0, 1) := dk_42 (dk_at dksX6_number_0 0 rfl rfl)
theorem dX6_number_1 : decode cX6_number 1 = .ok (.iload_n 1, 1) := dk_27 (dk_at dksX6_number_0 1 rfl rfl)
theorem dX6_number_2 : decode cX6_number 2 = .ok (.iconst 1, 1) := dk_4 (dk_at dksX6_number_0 2 rfl rfl)
theorem dX6_number_3 : decode cX6_number 3 = .ok (.invokevirtual 60, 3) := dk_182 0 60 (dk_at dksX6_number_0 3 rfl rfl)
theorem dX6_number_6 : decode cX6_number 6 = .ok (.ireturn, 1) := dk_172 (dk_at dksX6_number_0 6 rfl rfl)
theorem cf_number : xV yX6_number RX6 cX6_number 2 (some .int) 1 := ⟨q1585, qs57, q96, q1586, ⟨rfl, by decide +kernel, by decide +kernel, by decide +kernel⟩, by decide⟩
abbrev cX6_feed : ByteArray := prog_23_method_13_code
def yX6_feed : MethodName := ⟨RX6, "feed", "(I)I"⟩
def dkwX6_feed_2 : List UInt8 := [180, 0, 64, 172]
abbrev dktX6_feed_2 : List UInt8 := dkwX6_feed_2 ++ []
def dkwX6_feed_1 : List UInt8 := [172, 42, 180, 0, 21, 42, 180, 0, 64, 27, 79, 42, 89, 180, 0, 64, 4, 96, 181, 0, 64, 42]
abbrev dktX6_feed_1 : List UInt8 := dkwX6_feed_1 ++ dktX6_feed_2
def dkwX6_feed_0 : List UInt8 := [27, 3, 16, 127, 184, 0, 52, 154, 0, 6, 16, 254, 172, 42, 180, 0, 64, 16, 100, 160, 0, 6, 16, 252]
abbrev dktX6_feed_0 : List UInt8 := dkwX6_feed_0 ++ dktX6_feed_1
theorem dksX6_feed_0 : cX6_feed.data.toList.drop 0 = dktX6_feed_0 := by decide +kernel
theorem dksX6_feed_1 : cX6_feed.data.toList.drop 24 = dktX6_feed_1 := dk_seg dksX6_feed_0 24 rfl rfl
theorem dksX6_feed_2 : cX6_feed.data.toList.drop 46 = dktX6_feed_2 := dk_seg dksX6_feed_1 22 rfl rfl
theorem dX6_feed_0 : decode cX6_feed 0 = .ok (.iload_n 1, 1) := dk_27 (dk_at dksX6_feed_0 0 rfl rfl)
theorem dX6_feed_1 : decode cX6_feed 1 = .ok (.iconst 0, 1) := dk_3 (dk_at dksX6_feed_0 1 rfl rfl)
theorem dX6_feed_2 : decode cX6_feed 2 = .ok (.bipush 127, 2) := dk_16 127 (dk_at dksX6_feed_0 2 rfl rfl)
theorem dX6_feed_4 : decode cX6_feed 4 = .ok (.invokestatic 52, 3) := dk_184 0 52 (dk_at dksX6_feed_0 4 rfl rfl)
theorem dX6_feed_7 : decode cX6_feed 7 = .ok (.ifCond .ne 6, 3) := dk_154 0 6 (dk_at dksX6_feed_0 7 rfl rfl)
theorem dX6_feed_10 : decode cX6_feed 10 = .ok (.bipush (-2), 2) := dk_16 254 (dk_at dksX6_feed_0 10 rfl rfl)
theorem dX6_feed_12 : decode cX6_feed 12 = .ok (.ireturn, 1) := dk_172 (dk_at dksX6_feed_0 12 rfl rfl)
theorem dX6_feed_13 : decode cX6_feed 13 = .ok (.aload_n 0, 1) := dk_42 (dk_at dksX6_feed_0 13 rfl rfl)
theorem dX6_feed_14 : decode cX6_feed 14 = .ok (.getfield 64, 3) := dk_180 0 64 (dk_at dksX6_feed_0 14 rfl rfl)
theorem dX6_feed_17 : decode cX6_feed 17 = .ok (.bipush 100, 2) := dk_16 100 (dk_at dksX6_feed_0 17 rfl rfl)
theorem dX6_feed_19 : decode cX6_feed 19 = .ok (.if_icmp .ne 6, 3) := dk_160 0 6 (dk_at dksX6_feed_0 19 rfl rfl)
theorem dX6_feed_22 : decode cX6_feed 22 = .ok (.bipush (-4), 2) := dk_16 252 (dk_at dksX6_feed_0 22 rfl rfl)
theorem dX6_feed_24 : decode cX6_feed 24 = .ok (.ireturn, 1) := dk_172 (dk_at dksX6_feed_1 0 rfl rfl)
theorem dX6_feed_25 : decode cX6_feed 25 = .ok (.aload_n 0, 1) := dk_42 (dk_at dksX6_feed_1 1 rfl rfl)
theorem dX6_feed_26 : decode cX6_feed 26 = .ok (.getfield 21, 3) := dk_180 0 21 (dk_at dksX6_feed_1 2 rfl rfl)
theorem dX6_feed_29 : decode cX6_feed 29 = .ok (.aload_n 0, 1) := dk_42 (dk_at dksX6_feed_1 5 rfl rfl)
theorem dX6_feed_30 : decode cX6_feed 30 = .ok (.getfield 64, 3) := dk_180 0 64 (dk_at dksX6_feed_1 6 rfl rfl)
theorem dX6_feed_33 : decode cX6_feed 33 = .ok (.iload_n 1, 1) := dk_27 (dk_at dksX6_feed_1 9 rfl rfl)
theorem dX6_feed_34 : decode cX6_feed 34 = .ok (.iastore, 1) := dk_79 (dk_at dksX6_feed_1 10 rfl rfl)
theorem dX6_feed_35 : decode cX6_feed 35 = .ok (.aload_n 0, 1) := dk_42 (dk_at dksX6_feed_1 11 rfl rfl)
theorem dX6_feed_36 : decode cX6_feed 36 = .ok (.dup, 1) := dk_89 (dk_at dksX6_feed_1 12 rfl rfl)
theorem dX6_feed_37 : decode cX6_feed 37 = .ok (.getfield 64, 3) := dk_180 0 64 (dk_at dksX6_feed_1 13 rfl rfl)
theorem dX6_feed_40 : decode cX6_feed 40 = .ok (.iconst 1, 1) := dk_4 (dk_at dksX6_feed_1 16 rfl rfl)
theorem dX6_feed_41 : decode cX6_feed 41 = .ok (.iadd, 1) := dk_96 (dk_at dksX6_feed_1 17 rfl rfl)
theorem dX6_feed_42 : decode cX6_feed 42 = .ok (.putfield 64, 3) := dk_181 0 64 (dk_at dksX6_feed_1 18 rfl rfl)
theorem dX6_feed_45 : decode cX6_feed 45 = .ok (.aload_n 0, 1) := dk_42 (dk_at dksX6_feed_1 21 rfl rfl)
theorem dX6_feed_46 : decode cX6_feed 46 = .ok (.getfield 64, 3) := dk_180 0 64 (dk_at dksX6_feed_2 0 rfl rfl)
theorem dX6_feed_49 : decode cX6_feed 49 = .ok (.ireturn, 1) := dk_172 (dk_at dksX6_feed_2 3 rfl rfl)
theorem cf_feed : xV yX6_feed RX6 cX6_feed 2 (some .int) 1 := ⟨q1508, q1509, q96, q1510, ⟨rfl, by decide +kernel, by decide +kernel, by decide +kernel⟩, by decide⟩
abbrev cX6_here : ByteArray := prog_23_method_14_code
def yX6_here : MethodName := ⟨RX6, "here", "()I"⟩
def dkwX6_here_1 : List UInt8 := [46, 167, 0, 4, 2, 172]
abbrev dktX6_here_1 : List UInt8 := dkwX6_here_1 ++ []
def dkwX6_here_0 : List UInt8 := [42, 180, 0, 68, 42, 180, 0, 71, 162, 0, 20, 42, 180, 0, 24, 42, 180, 0, 74, 42, 180, 0, 68, 96]
abbrev dktX6_here_0 : List UInt8 := dkwX6_here_0 ++ dktX6_here_1
theorem dksX6_here_0 : cX6_here.data.toList.drop 0 = dktX6_here_0 := by decide +kernel
theorem dksX6_here_1 : cX6_here.data.toList.drop 24 = dktX6_here_1 := dk_seg dksX6_here_0 24 rfl rfl
theorem dX6_here_0 : decode cX6_here 0 = .ok (.aload_n 0, 1) := dk_42 (dk_at dksX6_here_0 0 rfl rfl)
theorem dX6_here_1 : decode cX6_here 1 = .ok (.getfield 68, 3) := dk_180 0 68 (dk_at dksX6_here_0 1 rfl rfl)
theorem dX6_here_4 : decode cX6_here 4 = .ok (.aload_n 0, 1) := dk_42 (dk_at dksX6_here_0 4 rfl rfl)
theorem dX6_here_5 : decode cX6_here 5 = .ok (.getfield 71, 3) := dk_180 0 71 (dk_at dksX6_here_0 5 rfl rfl)
theorem dX6_here_8 : decode cX6_here 8 = .ok (.if_icmp .ge 20, 3) := dk_162 0 20 (dk_at dksX6_here_0 8 rfl rfl)
theorem dX6_here_11 : decode cX6_here 11 = .ok (.aload_n 0, 1) := dk_42 (dk_at dksX6_here_0 11 rfl rfl)
theorem dX6_here_12 : decode cX6_here 12 = .ok (.getfield 24, 3) := dk_180 0 24 (dk_at dksX6_here_0 12 rfl rfl)
theorem dX6_here_15 : decode cX6_here 15 = .ok (.aload_n 0, 1) := dk_42 (dk_at dksX6_here_0 15 rfl rfl)
theorem dX6_here_16 : decode cX6_here 16 = .ok (.getfield 74, 3) := dk_180 0 74 (dk_at dksX6_here_0 16 rfl rfl)
theorem dX6_here_19 : decode cX6_here 19 = .ok (.aload_n 0, 1) := dk_42 (dk_at dksX6_here_0 19 rfl rfl)
theorem dX6_here_20 : decode cX6_here 20 = .ok (.getfield 68, 3) := dk_180 0 68 (dk_at dksX6_here_0 20 rfl rfl)
theorem dX6_here_23 : decode cX6_here 23 = .ok (.iadd, 1) := dk_96 (dk_at dksX6_here_0 23 rfl rfl)
theorem dX6_here_24 : decode cX6_here 24 = .ok (.iaload, 1) := dk_46 (dk_at dksX6_here_1 0 rfl rfl)
theorem dX6_here_25 : decode cX6_here 25 = .ok (.goto 4, 3) := dk_167 0 4 (dk_at dksX6_here_1 1 rfl rfl)
theorem dX6_here_28 : decode cX6_here 28 = .ok (.iconst (-1), 1) := dk_2 (dk_at dksX6_here_1 4 rfl rfl)
theorem dX6_here_29 : decode cX6_here 29 = .ok (.ireturn, 1) := dk_172 (dk_at dksX6_here_1 5 rfl rfl)
theorem cf_here : xV yX6_here RX6 cX6_here 1 (some .int) 0 := ⟨q1528, qs45, q96, q1529, ⟨rfl, by decide +kernel, by decide +kernel, by decide +kernel⟩, by decide⟩
abbrev cX6_takes : ByteArray := prog_23_method_15_code
def yX6_takes : MethodName := ⟨RX6, "takes", "(I)Z"⟩
def dkwX6_takes_1 : List UInt8 := [42, 89, 180, 0, 68, 4, 96, 181, 0, 68, 4, 172]
abbrev dktX6_takes_1 : List UInt8 := dkwX6_takes_1 ++ []
def dkwX6_takes_0 : List UInt8 := [42, 180, 0, 77, 153, 0, 5, 3, 172, 42, 182, 0, 81, 27, 159, 0, 10, 42, 4, 181, 0, 77, 3, 172]
abbrev dktX6_takes_0 : List UInt8 := dkwX6_takes_0 ++ dktX6_takes_1
theorem dksX6_takes_0 : cX6_takes.data.toList.drop 0 = dktX6_takes_0 := by decide +kernel
theorem dksX6_takes_1 : cX6_takes.data.toList.drop 24 = dktX6_takes_1 := dk_seg dksX6_takes_0 24 rfl rfl
theorem dX6_takes_0 : decode cX6_takes 0 = .ok (.aload_n 0, 1) := dk_42 (dk_at dksX6_takes_0 0 rfl rfl)
theorem dX6_takes_1 : decode cX6_takes 1 = .ok (.getfield 77, 3) := dk_180 0 77 (dk_at dksX6_takes_0 1 rfl rfl)
theorem dX6_takes_4 : decode cX6_takes 4 = .ok (.ifCond .eq 5, 3) := dk_153 0 5 (dk_at dksX6_takes_0 4 rfl rfl)
theorem dX6_takes_7 : decode cX6_takes 7 = .ok (.iconst 0, 1) := dk_3 (dk_at dksX6_takes_0 7 rfl rfl)
theorem dX6_takes_8 : decode cX6_takes 8 = .ok (.ireturn, 1) := dk_172 (dk_at dksX6_takes_0 8 rfl rfl)
theorem dX6_takes_9 : decode cX6_takes 9 = .ok (.aload_n 0, 1) := dk_42 (dk_at dksX6_takes_0 9 rfl rfl)
theorem dX6_takes_10 : decode cX6_takes 10 = .ok (.invokevirtual 81, 3) := dk_182 0 81 (dk_at dksX6_takes_0 10 rfl rfl)
theorem dX6_takes_13 : decode cX6_takes 13 = .ok (.iload_n 1, 1) := dk_27 (dk_at dksX6_takes_0 13 rfl rfl)
theorem dX6_takes_14 : decode cX6_takes 14 = .ok (.if_icmp .eq 10, 3) := dk_159 0 10 (dk_at dksX6_takes_0 14 rfl rfl)
theorem dX6_takes_17 : decode cX6_takes 17 = .ok (.aload_n 0, 1) := dk_42 (dk_at dksX6_takes_0 17 rfl rfl)
theorem dX6_takes_18 : decode cX6_takes 18 = .ok (.iconst 1, 1) := dk_4 (dk_at dksX6_takes_0 18 rfl rfl)
theorem dX6_takes_19 : decode cX6_takes 19 = .ok (.putfield 77, 3) := dk_181 0 77 (dk_at dksX6_takes_0 19 rfl rfl)
theorem dX6_takes_22 : decode cX6_takes 22 = .ok (.iconst 0, 1) := dk_3 (dk_at dksX6_takes_0 22 rfl rfl)
theorem dX6_takes_23 : decode cX6_takes 23 = .ok (.ireturn, 1) := dk_172 (dk_at dksX6_takes_0 23 rfl rfl)
theorem dX6_takes_24 : decode cX6_takes 24 = .ok (.aload_n 0, 1) := dk_42 (dk_at dksX6_takes_1 0 rfl rfl)
theorem dX6_takes_25 : decode cX6_takes 25 = .ok (.dup, 1) := dk_89 (dk_at dksX6_takes_1 1 rfl rfl)
theorem dX6_takes_26 : decode cX6_takes 26 = .ok (.getfield 68, 3) := dk_180 0 68 (dk_at dksX6_takes_1 2 rfl rfl)
theorem dX6_takes_29 : decode cX6_takes 29 = .ok (.iconst 1, 1) := dk_4 (dk_at dksX6_takes_1 5 rfl rfl)
theorem dX6_takes_30 : decode cX6_takes 30 = .ok (.iadd, 1) := dk_96 (dk_at dksX6_takes_1 6 rfl rfl)
theorem dX6_takes_31 : decode cX6_takes 31 = .ok (.putfield 68, 3) := dk_181 0 68 (dk_at dksX6_takes_1 7 rfl rfl)
theorem dX6_takes_34 : decode cX6_takes 34 = .ok (.iconst 1, 1) := dk_4 (dk_at dksX6_takes_1 10 rfl rfl)
theorem dX6_takes_35 : decode cX6_takes 35 = .ok (.ireturn, 1) := dk_172 (dk_at dksX6_takes_1 11 rfl rfl)
theorem cf_takes : xV yX6_takes RX6 cX6_takes 2 (some .boolean) 1 := ⟨q1542, qs47, q96, q1543, ⟨rfl, by decide +kernel, by decide +kernel, by decide +kernel⟩, by decide⟩
abbrev cX6_isDigit : ByteArray := prog_23_method_16_code
def yX6_isDigit : MethodName := ⟨RX6, "isDigit", "()Z"⟩
def dkwX6_isDigit_0 : List UInt8 := [42, 182, 0, 81, 16, 48, 16, 57, 184, 0, 52, 172]
abbrev dktX6_isDigit_0 : List UInt8 := dkwX6_isDigit_0 ++ []
theorem dksX6_isDigit_0 : cX6_isDigit.data.toList.drop 0 = dktX6_isDigit_0 := by decide +kernel
theorem dX6_isDigit_0 : decode cX6_isDigit 0 = .ok (.aload_n 0, 1) := dk_42 (dk_at dksX6_isDigit_0 0 rfl rfl)
theorem dX6_isDigit_1 : decode cX6_isDigit 1 = .ok (.invokevirtual 81, 3) := dk_182 0 81 (dk_at dksX6_isDigit_0 1 rfl rfl)
theorem dX6_isDigit_4 : decode cX6_isDigit 4 = .ok (.bipush 48, 2) := dk_16 48 (dk_at dksX6_isDigit_0 4 rfl rfl)
theorem dX6_isDigit_6 : decode cX6_isDigit 6 = .ok (.bipush 57, 2) := dk_16 57 (dk_at dksX6_isDigit_0 6 rfl rfl)
theorem dX6_isDigit_8 : decode cX6_isDigit 8 = .ok (.invokestatic 52, 3) := dk_184 0 52 (dk_at dksX6_isDigit_0 8 rfl rfl)
theorem dX6_isDigit_11 : decode cX6_isDigit 11 = .ok (.ireturn, 1) := dk_172 (dk_at dksX6_isDigit_0 11 rfl rfl)
theorem cf_isDigit : xV yX6_isDigit RX6 cX6_isDigit 1 (some .boolean) 0 := ⟨q1550, qs49, q96, q1551, ⟨rfl, by decide +kernel, by decide +kernel, by decide +kernel⟩, by decide⟩
abbrev cX6_readsNumber : ByteArray := prog_23_method_17_code
def yX6_readsNumber : MethodName := ⟨RX6, "readsNumber", "()I"⟩
def dkwX6_readsNumber_3 : List UInt8 := [172]
abbrev dktX6_readsNumber_3 : List UInt8 := dkwX6_readsNumber_3 ++ []
def dkwX6_readsNumber_2 : List UInt8 := [16, 10, 27, 104, 42, 182, 0, 81, 96, 16, 48, 100, 60, 42, 89, 180, 0, 68, 4, 96, 181, 0, 68, 27]
abbrev dktX6_readsNumber_2 : List UInt8 := dkwX6_readsNumber_2 ++ dktX6_readsNumber_3
def dkwX6_readsNumber_1 : List UInt8 := [182, 0, 81, 16, 48, 100, 60, 42, 89, 180, 0, 68, 4, 96, 181, 0, 68, 42, 182, 0, 85, 153, 0, 26]
abbrev dktX6_readsNumber_1 : List UInt8 := dkwX6_readsNumber_1 ++ dktX6_readsNumber_2
def dkwX6_readsNumber_0 : List UInt8 := [42, 180, 0, 77, 153, 0, 5, 3, 172, 42, 182, 0, 85, 154, 0, 10, 42, 4, 181, 0, 77, 3, 172, 42]
abbrev dktX6_readsNumber_0 : List UInt8 := dkwX6_readsNumber_0 ++ dktX6_readsNumber_1
theorem dksX6_readsNumber_0 : cX6_readsNumber.data.toList.drop 0 = dktX6_readsNumber_0 := by decide +kernel
theorem dksX6_readsNumber_1 : cX6_readsNumber.data.toList.drop 24 = dktX6_readsNumber_1 := dk_seg dksX6_readsNumber_0 24 rfl rfl
theorem dksX6_readsNumber_2 : cX6_readsNumber.data.toList.drop 48 = dktX6_readsNumber_2 := dk_seg dksX6_readsNumber_1 24 rfl rfl
theorem dksX6_readsNumber_3 : cX6_readsNumber.data.toList.drop 72 = dktX6_readsNumber_3 := dk_seg dksX6_readsNumber_2 24 rfl rfl
theorem dX6_readsNumber_0 : decode cX6_readsNumber 0 = .ok (.aload_n 0, 1) := dk_42 (dk_at dksX6_readsNumber_0 0 rfl rfl)
theorem dX6_readsNumber_1 : decode cX6_readsNumber 1 = .ok (.getfield 77, 3) := dk_180 0 77 (dk_at dksX6_readsNumber_0 1 rfl rfl)
theorem dX6_readsNumber_4 : decode cX6_readsNumber 4 = .ok (.ifCond .eq 5, 3) := dk_153 0 5 (dk_at dksX6_readsNumber_0 4 rfl rfl)
theorem dX6_readsNumber_7 : decode cX6_readsNumber 7 = .ok (.iconst 0, 1) := dk_3 (dk_at dksX6_readsNumber_0 7 rfl rfl)
theorem dX6_readsNumber_8 : decode cX6_readsNumber 8 = .ok (.ireturn, 1) := dk_172 (dk_at dksX6_readsNumber_0 8 rfl rfl)
theorem dX6_readsNumber_9 : decode cX6_readsNumber 9 = .ok (.aload_n 0, 1) := dk_42 (dk_at dksX6_readsNumber_0 9 rfl rfl)
theorem dX6_readsNumber_10 : decode cX6_readsNumber 10 = .ok (.invokevirtual 85, 3) := dk_182 0 85 (dk_at dksX6_readsNumber_0 10 rfl rfl)
theorem dX6_readsNumber_13 : decode cX6_readsNumber 13 = .ok (.ifCond .ne 10, 3) := dk_154 0 10 (dk_at dksX6_readsNumber_0 13 rfl rfl)
theorem dX6_readsNumber_16 : decode cX6_readsNumber 16 = .ok (.aload_n 0, 1) := dk_42 (dk_at dksX6_readsNumber_0 16 rfl rfl)
theorem dX6_readsNumber_17 : decode cX6_readsNumber 17 = .ok (.iconst 1, 1) := dk_4 (dk_at dksX6_readsNumber_0 17 rfl rfl)
theorem dX6_readsNumber_18 : decode cX6_readsNumber 18 = .ok (.putfield 77, 3) := dk_181 0 77 (dk_at dksX6_readsNumber_0 18 rfl rfl)
theorem dX6_readsNumber_21 : decode cX6_readsNumber 21 = .ok (.iconst 0, 1) := dk_3 (dk_at dksX6_readsNumber_0 21 rfl rfl)
theorem dX6_readsNumber_22 : decode cX6_readsNumber 22 = .ok (.ireturn, 1) := dk_172 (dk_at dksX6_readsNumber_0 22 rfl rfl)
theorem dX6_readsNumber_23 : decode cX6_readsNumber 23 = .ok (.aload_n 0, 1) := dk_42 (dk_at dksX6_readsNumber_0 23 rfl rfl)
theorem dX6_readsNumber_24 : decode cX6_readsNumber 24 = .ok (.invokevirtual 81, 3) := dk_182 0 81 (dk_at dksX6_readsNumber_1 0 rfl rfl)
theorem dX6_readsNumber_27 : decode cX6_readsNumber 27 = .ok (.bipush 48, 2) := dk_16 48 (dk_at dksX6_readsNumber_1 3 rfl rfl)
theorem dX6_readsNumber_29 : decode cX6_readsNumber 29 = .ok (.isub, 1) := dk_100 (dk_at dksX6_readsNumber_1 5 rfl rfl)
theorem dX6_readsNumber_30 : decode cX6_readsNumber 30 = .ok (.istore_n 1, 1) := dk_60 (dk_at dksX6_readsNumber_1 6 rfl rfl)
theorem dX6_readsNumber_31 : decode cX6_readsNumber 31 = .ok (.aload_n 0, 1) := dk_42 (dk_at dksX6_readsNumber_1 7 rfl rfl)
theorem dX6_readsNumber_32 : decode cX6_readsNumber 32 = .ok (.dup, 1) := dk_89 (dk_at dksX6_readsNumber_1 8 rfl rfl)
theorem dX6_readsNumber_33 : decode cX6_readsNumber 33 = .ok (.getfield 68, 3) := dk_180 0 68 (dk_at dksX6_readsNumber_1 9 rfl rfl)
theorem dX6_readsNumber_36 : decode cX6_readsNumber 36 = .ok (.iconst 1, 1) := dk_4 (dk_at dksX6_readsNumber_1 12 rfl rfl)
theorem dX6_readsNumber_37 : decode cX6_readsNumber 37 = .ok (.iadd, 1) := dk_96 (dk_at dksX6_readsNumber_1 13 rfl rfl)
theorem dX6_readsNumber_38 : decode cX6_readsNumber 38 = .ok (.putfield 68, 3) := dk_181 0 68 (dk_at dksX6_readsNumber_1 14 rfl rfl)
theorem dX6_readsNumber_41 : decode cX6_readsNumber 41 = .ok (.aload_n 0, 1) := dk_42 (dk_at dksX6_readsNumber_1 17 rfl rfl)
theorem dX6_readsNumber_42 : decode cX6_readsNumber 42 = .ok (.invokevirtual 85, 3) := dk_182 0 85 (dk_at dksX6_readsNumber_1 18 rfl rfl)
theorem dX6_readsNumber_45 : decode cX6_readsNumber 45 = .ok (.ifCond .eq 26, 3) := dk_153 0 26 (dk_at dksX6_readsNumber_1 21 rfl rfl)
theorem dX6_readsNumber_48 : decode cX6_readsNumber 48 = .ok (.bipush 10, 2) := dk_16 10 (dk_at dksX6_readsNumber_2 0 rfl rfl)
theorem dX6_readsNumber_50 : decode cX6_readsNumber 50 = .ok (.iload_n 1, 1) := dk_27 (dk_at dksX6_readsNumber_2 2 rfl rfl)
theorem dX6_readsNumber_51 : decode cX6_readsNumber 51 = .ok (.imul, 1) := dk_104 (dk_at dksX6_readsNumber_2 3 rfl rfl)
theorem dX6_readsNumber_52 : decode cX6_readsNumber 52 = .ok (.aload_n 0, 1) := dk_42 (dk_at dksX6_readsNumber_2 4 rfl rfl)
theorem dX6_readsNumber_53 : decode cX6_readsNumber 53 = .ok (.invokevirtual 81, 3) := dk_182 0 81 (dk_at dksX6_readsNumber_2 5 rfl rfl)
theorem dX6_readsNumber_56 : decode cX6_readsNumber 56 = .ok (.iadd, 1) := dk_96 (dk_at dksX6_readsNumber_2 8 rfl rfl)
theorem dX6_readsNumber_57 : decode cX6_readsNumber 57 = .ok (.bipush 48, 2) := dk_16 48 (dk_at dksX6_readsNumber_2 9 rfl rfl)
theorem dX6_readsNumber_59 : decode cX6_readsNumber 59 = .ok (.isub, 1) := dk_100 (dk_at dksX6_readsNumber_2 11 rfl rfl)
theorem dX6_readsNumber_60 : decode cX6_readsNumber 60 = .ok (.istore_n 1, 1) := dk_60 (dk_at dksX6_readsNumber_2 12 rfl rfl)
theorem dX6_readsNumber_61 : decode cX6_readsNumber 61 = .ok (.aload_n 0, 1) := dk_42 (dk_at dksX6_readsNumber_2 13 rfl rfl)
theorem dX6_readsNumber_62 : decode cX6_readsNumber 62 = .ok (.dup, 1) := dk_89 (dk_at dksX6_readsNumber_2 14 rfl rfl)
theorem dX6_readsNumber_63 : decode cX6_readsNumber 63 = .ok (.getfield 68, 3) := dk_180 0 68 (dk_at dksX6_readsNumber_2 15 rfl rfl)
theorem dX6_readsNumber_66 : decode cX6_readsNumber 66 = .ok (.iconst 1, 1) := dk_4 (dk_at dksX6_readsNumber_2 18 rfl rfl)
theorem dX6_readsNumber_67 : decode cX6_readsNumber 67 = .ok (.iadd, 1) := dk_96 (dk_at dksX6_readsNumber_2 19 rfl rfl)
theorem dX6_readsNumber_68 : decode cX6_readsNumber 68 = .ok (.putfield 68, 3) := dk_181 0 68 (dk_at dksX6_readsNumber_2 20 rfl rfl)
theorem dX6_readsNumber_71 : decode cX6_readsNumber 71 = .ok (.iload_n 1, 1) := dk_27 (dk_at dksX6_readsNumber_2 23 rfl rfl)
theorem dX6_readsNumber_72 : decode cX6_readsNumber 72 = .ok (.ireturn, 1) := dk_172 (dk_at dksX6_readsNumber_3 0 rfl rfl)
theorem cf_readsNumber : xV yX6_readsNumber RX6 cX6_readsNumber 2 (some .int) 0 := ⟨q1546, qs48, q96, q1547, ⟨rfl, by decide +kernel, by decide +kernel, by decide +kernel⟩, by decide⟩
abbrev cX6_valueOf : ByteArray := prog_23_method_18_code
def yX6_valueOf : MethodName := ⟨RX6, "valueOf", "(I)I"⟩
def dkwX6_valueOf_5 : List UInt8 := [46, 16, 10, 108, 172]
abbrev dktX6_valueOf_5 : List UInt8 := dkwX6_valueOf_5 ++ []
def dkwX6_valueOf_4 : List UInt8 := [16, 60, 112, 172, 42, 180, 0, 96, 153, 0, 8, 16, 99, 167, 0, 15, 42, 180, 0, 11, 42, 180, 0, 99]
abbrev dktX6_valueOf_4 : List UInt8 := dkwX6_valueOf_4 ++ dktX6_valueOf_5
def dkwX6_valueOf_3 : List UInt8 := [167, 0, 7, 42, 180, 0, 99, 172, 42, 42, 180, 0, 89, 182, 0, 102, 172, 42, 180, 0, 11, 7, 46]
abbrev dktX6_valueOf_3 : List UInt8 := dkwX6_valueOf_3 ++ dktX6_valueOf_4
def dkwX6_valueOf_2 : List UInt8 := [42, 180, 0, 89, 172, 42, 42, 180, 0, 89, 182, 0, 92, 172, 42, 180, 0, 96, 153, 0, 8, 16, 99]
abbrev dktX6_valueOf_2 : List UInt8 := dkwX6_valueOf_2 ++ dktX6_valueOf_3
def dkwX6_valueOf_1 : List UInt8 := [170, 0, 0, 0, 0, 0, 125, 0, 0, 0, 104, 0, 0, 0, 118, 0, 0, 0, 115, 0, 0, 0, 125, 0, 0, 0, 125, 0, 0, 0, 80, 0, 0, 0, 75, 0, 0, 0, 125, 0, 0, 0, 125, 0, 0, 0, 125, 0, 0, 0, 125, 0, 0, 0, 125, 0, 0, 0, 125, 0, 0, 0, 125, 0, 0, 0, 89, 0, 0, 0, 125, 0, 0, 0, 106]
abbrev dktX6_valueOf_1 : List UInt8 := dkwX6_valueOf_1 ++ dktX6_valueOf_2
def dkwX6_valueOf_0 : List UInt8 := [27]
abbrev dktX6_valueOf_0 : List UInt8 := dkwX6_valueOf_0 ++ dktX6_valueOf_1
theorem dksX6_valueOf_0 : cX6_valueOf.data.toList.drop 0 = dktX6_valueOf_0 := by decide +kernel
theorem dksX6_valueOf_1 : cX6_valueOf.data.toList.drop 1 = dktX6_valueOf_1 := dk_seg dksX6_valueOf_0 1 rfl rfl
theorem dksX6_valueOf_2 : cX6_valueOf.data.toList.drop 76 = dktX6_valueOf_2 := dk_seg dksX6_valueOf_1 75 rfl rfl
theorem dksX6_valueOf_3 : cX6_valueOf.data.toList.drop 99 = dktX6_valueOf_3 := dk_seg dksX6_valueOf_2 23 rfl rfl
theorem dksX6_valueOf_4 : cX6_valueOf.data.toList.drop 122 = dktX6_valueOf_4 := dk_seg dksX6_valueOf_3 23 rfl rfl
theorem dksX6_valueOf_5 : cX6_valueOf.data.toList.drop 146 = dktX6_valueOf_5 := dk_seg dksX6_valueOf_4 24 rfl rfl
theorem dX6_valueOf_0 : decode cX6_valueOf 0 = .ok (.iload_n 1, 1) := dk_27 (dk_at dksX6_valueOf_0 0 rfl rfl)
theorem dX6_valueOf_1 : decode cX6_valueOf 1 = .ok (.tableswitch 125 104 118 #[115, 125, 125, 80, 75, 125, 125, 125, 125, 125, 125, 125, 89, 125, 106], 75) := by decide +kernel
theorem dX6_valueOf_76 : decode cX6_valueOf 76 = .ok (.aload_n 0, 1) := dk_42 (dk_at dksX6_valueOf_2 0 rfl rfl)
theorem dX6_valueOf_77 : decode cX6_valueOf 77 = .ok (.getfield 89, 3) := dk_180 0 89 (dk_at dksX6_valueOf_2 1 rfl rfl)
theorem dX6_valueOf_80 : decode cX6_valueOf 80 = .ok (.ireturn, 1) := dk_172 (dk_at dksX6_valueOf_2 4 rfl rfl)
theorem dX6_valueOf_81 : decode cX6_valueOf 81 = .ok (.aload_n 0, 1) := dk_42 (dk_at dksX6_valueOf_2 5 rfl rfl)
theorem dX6_valueOf_82 : decode cX6_valueOf 82 = .ok (.aload_n 0, 1) := dk_42 (dk_at dksX6_valueOf_2 6 rfl rfl)
theorem dX6_valueOf_83 : decode cX6_valueOf 83 = .ok (.getfield 89, 3) := dk_180 0 89 (dk_at dksX6_valueOf_2 7 rfl rfl)
theorem dX6_valueOf_86 : decode cX6_valueOf 86 = .ok (.invokevirtual 92, 3) := dk_182 0 92 (dk_at dksX6_valueOf_2 10 rfl rfl)
theorem dX6_valueOf_89 : decode cX6_valueOf 89 = .ok (.ireturn, 1) := dk_172 (dk_at dksX6_valueOf_2 13 rfl rfl)
theorem dX6_valueOf_90 : decode cX6_valueOf 90 = .ok (.aload_n 0, 1) := dk_42 (dk_at dksX6_valueOf_2 14 rfl rfl)
theorem dX6_valueOf_91 : decode cX6_valueOf 91 = .ok (.getfield 96, 3) := dk_180 0 96 (dk_at dksX6_valueOf_2 15 rfl rfl)
theorem dX6_valueOf_94 : decode cX6_valueOf 94 = .ok (.ifCond .eq 8, 3) := dk_153 0 8 (dk_at dksX6_valueOf_2 18 rfl rfl)
theorem dX6_valueOf_97 : decode cX6_valueOf 97 = .ok (.bipush 99, 2) := dk_16 99 (dk_at dksX6_valueOf_2 21 rfl rfl)
theorem dX6_valueOf_99 : decode cX6_valueOf 99 = .ok (.goto 7, 3) := dk_167 0 7 (dk_at dksX6_valueOf_3 0 rfl rfl)
theorem dX6_valueOf_102 : decode cX6_valueOf 102 = .ok (.aload_n 0, 1) := dk_42 (dk_at dksX6_valueOf_3 3 rfl rfl)
theorem dX6_valueOf_103 : decode cX6_valueOf 103 = .ok (.getfield 99, 3) := dk_180 0 99 (dk_at dksX6_valueOf_3 4 rfl rfl)
theorem dX6_valueOf_106 : decode cX6_valueOf 106 = .ok (.ireturn, 1) := dk_172 (dk_at dksX6_valueOf_3 7 rfl rfl)
theorem dX6_valueOf_107 : decode cX6_valueOf 107 = .ok (.aload_n 0, 1) := dk_42 (dk_at dksX6_valueOf_3 8 rfl rfl)
theorem dX6_valueOf_108 : decode cX6_valueOf 108 = .ok (.aload_n 0, 1) := dk_42 (dk_at dksX6_valueOf_3 9 rfl rfl)
theorem dX6_valueOf_109 : decode cX6_valueOf 109 = .ok (.getfield 89, 3) := dk_180 0 89 (dk_at dksX6_valueOf_3 10 rfl rfl)
theorem dX6_valueOf_112 : decode cX6_valueOf 112 = .ok (.invokevirtual 102, 3) := dk_182 0 102 (dk_at dksX6_valueOf_3 13 rfl rfl)
theorem dX6_valueOf_115 : decode cX6_valueOf 115 = .ok (.ireturn, 1) := dk_172 (dk_at dksX6_valueOf_3 16 rfl rfl)
theorem dX6_valueOf_116 : decode cX6_valueOf 116 = .ok (.aload_n 0, 1) := dk_42 (dk_at dksX6_valueOf_3 17 rfl rfl)
theorem dX6_valueOf_117 : decode cX6_valueOf 117 = .ok (.getfield 11, 3) := dk_180 0 11 (dk_at dksX6_valueOf_3 18 rfl rfl)
theorem dX6_valueOf_120 : decode cX6_valueOf 120 = .ok (.iconst 4, 1) := dk_7 (dk_at dksX6_valueOf_3 21 rfl rfl)
theorem dX6_valueOf_121 : decode cX6_valueOf 121 = .ok (.iaload, 1) := dk_46 (dk_at dksX6_valueOf_3 22 rfl rfl)
theorem dX6_valueOf_122 : decode cX6_valueOf 122 = .ok (.bipush 60, 2) := dk_16 60 (dk_at dksX6_valueOf_4 0 rfl rfl)
theorem dX6_valueOf_124 : decode cX6_valueOf 124 = .ok (.irem, 1) := dk_112 (dk_at dksX6_valueOf_4 2 rfl rfl)
theorem dX6_valueOf_125 : decode cX6_valueOf 125 = .ok (.ireturn, 1) := dk_172 (dk_at dksX6_valueOf_4 3 rfl rfl)
theorem dX6_valueOf_126 : decode cX6_valueOf 126 = .ok (.aload_n 0, 1) := dk_42 (dk_at dksX6_valueOf_4 4 rfl rfl)
theorem dX6_valueOf_127 : decode cX6_valueOf 127 = .ok (.getfield 96, 3) := dk_180 0 96 (dk_at dksX6_valueOf_4 5 rfl rfl)
theorem dX6_valueOf_130 : decode cX6_valueOf 130 = .ok (.ifCond .eq 8, 3) := dk_153 0 8 (dk_at dksX6_valueOf_4 8 rfl rfl)
theorem dX6_valueOf_133 : decode cX6_valueOf 133 = .ok (.bipush 99, 2) := dk_16 99 (dk_at dksX6_valueOf_4 11 rfl rfl)
theorem dX6_valueOf_135 : decode cX6_valueOf 135 = .ok (.goto 15, 3) := dk_167 0 15 (dk_at dksX6_valueOf_4 13 rfl rfl)
theorem dX6_valueOf_138 : decode cX6_valueOf 138 = .ok (.aload_n 0, 1) := dk_42 (dk_at dksX6_valueOf_4 16 rfl rfl)
theorem dX6_valueOf_139 : decode cX6_valueOf 139 = .ok (.getfield 11, 3) := dk_180 0 11 (dk_at dksX6_valueOf_4 17 rfl rfl)
theorem dX6_valueOf_142 : decode cX6_valueOf 142 = .ok (.aload_n 0, 1) := dk_42 (dk_at dksX6_valueOf_4 20 rfl rfl)
theorem dX6_valueOf_143 : decode cX6_valueOf 143 = .ok (.getfield 99, 3) := dk_180 0 99 (dk_at dksX6_valueOf_4 21 rfl rfl)
theorem dX6_valueOf_146 : decode cX6_valueOf 146 = .ok (.iaload, 1) := dk_46 (dk_at dksX6_valueOf_5 0 rfl rfl)
theorem dX6_valueOf_147 : decode cX6_valueOf 147 = .ok (.bipush 10, 2) := dk_16 10 (dk_at dksX6_valueOf_5 1 rfl rfl)
theorem dX6_valueOf_149 : decode cX6_valueOf 149 = .ok (.idiv, 1) := dk_108 (dk_at dksX6_valueOf_5 3 rfl rfl)
theorem dX6_valueOf_150 : decode cX6_valueOf 150 = .ok (.ireturn, 1) := dk_172 (dk_at dksX6_valueOf_5 4 rfl rfl)
theorem cf_valueOf : xV yX6_valueOf RX6 cX6_valueOf 2 (some .int) 1 := ⟨q1573, qs54, q96, q1574, ⟨rfl, by decide +kernel, by decide +kernel, by decide +kernel⟩, by decide⟩
abbrev cX6_isLetter : ByteArray := prog_23_method_19_code
def yX6_isLetter : MethodName := ⟨RX6, "isLetter", "(I)Z"⟩
def dkwX6_isLetter_1 : List UInt8 := [26, 16, 104, 159, 0, 9, 26, 16, 111, 160, 0, 7, 4, 167, 0, 4, 3, 172]
abbrev dktX6_isLetter_1 : List UInt8 := dkwX6_isLetter_1 ++ []
def dkwX6_isLetter_0 : List UInt8 := [26, 16, 108, 159, 0, 33, 26, 16, 107, 159, 0, 27, 26, 16, 116, 159, 0, 21, 26, 16, 118, 159, 0, 15]
abbrev dktX6_isLetter_0 : List UInt8 := dkwX6_isLetter_0 ++ dktX6_isLetter_1
theorem dksX6_isLetter_0 : cX6_isLetter.data.toList.drop 0 = dktX6_isLetter_0 := by decide +kernel
theorem dksX6_isLetter_1 : cX6_isLetter.data.toList.drop 24 = dktX6_isLetter_1 := dk_seg dksX6_isLetter_0 24 rfl rfl
theorem dX6_isLetter_0 : decode cX6_isLetter 0 = .ok (.iload_n 0, 1) := dk_26 (dk_at dksX6_isLetter_0 0 rfl rfl)
theorem dX6_isLetter_1 : decode cX6_isLetter 1 = .ok (.bipush 108, 2) := dk_16 108 (dk_at dksX6_isLetter_0 1 rfl rfl)
theorem dX6_isLetter_3 : decode cX6_isLetter 3 = .ok (.if_icmp .eq 33, 3) := dk_159 0 33 (dk_at dksX6_isLetter_0 3 rfl rfl)
theorem dX6_isLetter_6 : decode cX6_isLetter 6 = .ok (.iload_n 0, 1) := dk_26 (dk_at dksX6_isLetter_0 6 rfl rfl)
theorem dX6_isLetter_7 : decode cX6_isLetter 7 = .ok (.bipush 107, 2) := dk_16 107 (dk_at dksX6_isLetter_0 7 rfl rfl)
theorem dX6_isLetter_9 : decode cX6_isLetter 9 = .ok (.if_icmp .eq 27, 3) := dk_159 0 27 (dk_at dksX6_isLetter_0 9 rfl rfl)
theorem dX6_isLetter_12 : decode cX6_isLetter 12 = .ok (.iload_n 0, 1) := dk_26 (dk_at dksX6_isLetter_0 12 rfl rfl)
theorem dX6_isLetter_13 : decode cX6_isLetter 13 = .ok (.bipush 116, 2) := dk_16 116 (dk_at dksX6_isLetter_0 13 rfl rfl)
theorem dX6_isLetter_15 : decode cX6_isLetter 15 = .ok (.if_icmp .eq 21, 3) := dk_159 0 21 (dk_at dksX6_isLetter_0 15 rfl rfl)
theorem dX6_isLetter_18 : decode cX6_isLetter 18 = .ok (.iload_n 0, 1) := dk_26 (dk_at dksX6_isLetter_0 18 rfl rfl)
theorem dX6_isLetter_19 : decode cX6_isLetter 19 = .ok (.bipush 118, 2) := dk_16 118 (dk_at dksX6_isLetter_0 19 rfl rfl)
theorem dX6_isLetter_21 : decode cX6_isLetter 21 = .ok (.if_icmp .eq 15, 3) := dk_159 0 15 (dk_at dksX6_isLetter_0 21 rfl rfl)
theorem dX6_isLetter_24 : decode cX6_isLetter 24 = .ok (.iload_n 0, 1) := dk_26 (dk_at dksX6_isLetter_1 0 rfl rfl)
theorem dX6_isLetter_25 : decode cX6_isLetter 25 = .ok (.bipush 104, 2) := dk_16 104 (dk_at dksX6_isLetter_1 1 rfl rfl)
theorem dX6_isLetter_27 : decode cX6_isLetter 27 = .ok (.if_icmp .eq 9, 3) := dk_159 0 9 (dk_at dksX6_isLetter_1 3 rfl rfl)
theorem dX6_isLetter_30 : decode cX6_isLetter 30 = .ok (.iload_n 0, 1) := dk_26 (dk_at dksX6_isLetter_1 6 rfl rfl)
theorem dX6_isLetter_31 : decode cX6_isLetter 31 = .ok (.bipush 111, 2) := dk_16 111 (dk_at dksX6_isLetter_1 7 rfl rfl)
theorem dX6_isLetter_33 : decode cX6_isLetter 33 = .ok (.if_icmp .ne 7, 3) := dk_160 0 7 (dk_at dksX6_isLetter_1 9 rfl rfl)
theorem dX6_isLetter_36 : decode cX6_isLetter 36 = .ok (.iconst 1, 1) := dk_4 (dk_at dksX6_isLetter_1 12 rfl rfl)
theorem dX6_isLetter_37 : decode cX6_isLetter 37 = .ok (.goto 4, 3) := dk_167 0 4 (dk_at dksX6_isLetter_1 13 rfl rfl)
theorem dX6_isLetter_40 : decode cX6_isLetter 40 = .ok (.iconst 0, 1) := dk_3 (dk_at dksX6_isLetter_1 16 rfl rfl)
theorem dX6_isLetter_41 : decode cX6_isLetter 41 = .ok (.ireturn, 1) := dk_172 (dk_at dksX6_isLetter_1 17 rfl rfl)
theorem cf_isLetter : xS yX6_isLetter cX6_isLetter 1 (some .boolean) 1 := ⟨q1569, q96, q1570, ⟨by decide +kernel, by decide +kernel, by decide +kernel⟩, by decide⟩
abbrev cX6_readsTest : ByteArray := prog_23_method_20_code
def yX6_readsTest : MethodName := ⟨RX6, "readsTest", "()Z"⟩
def dkwX6_readsTest_6 : List UInt8 := [21, 4, 29, 164, 0, 7, 4, 167, 0, 4, 3, 172]
abbrev dktX6_readsTest_6 : List UInt8 := dkwX6_readsTest_6 ++ []
def dkwX6_readsTest_5 : List UInt8 := [167, 0, 34, 28, 16, 61, 160, 0, 17, 21, 4, 29, 160, 0, 7, 4, 167, 0, 18, 3, 167, 0, 14]
abbrev dktX6_readsTest_5 : List UInt8 := dkwX6_readsTest_5 ++ dktX6_readsTest_6
def dkwX6_readsTest_4 : List UInt8 := [182, 0, 112, 54, 4, 28, 16, 60, 160, 0, 17, 21, 4, 29, 162, 0, 7, 4, 167, 0, 38, 3]
abbrev dktX6_readsTest_4 : List UInt8 := dkwX6_readsTest_4 ++ dktX6_readsTest_5
def dkwX6_readsTest_3 : List UInt8 := [182, 0, 109, 62, 42, 180, 0, 77, 154, 0, 12, 42, 180, 0, 11, 8, 46, 154, 0, 5, 3, 172, 42, 27]
abbrev dktX6_readsTest_3 : List UInt8 := dkwX6_readsTest_3 ++ dktX6_readsTest_4
def dkwX6_readsTest_2 : List UInt8 := [16, 62, 159, 0, 10, 42, 4, 181, 0, 77, 3, 172, 42, 89, 180, 0, 68, 4, 96, 181, 0, 68, 42]
abbrev dktX6_readsTest_2 : List UInt8 := dkwX6_readsTest_2 ++ dktX6_readsTest_3
def dkwX6_readsTest_1 : List UInt8 := [4, 96, 181, 0, 68, 42, 182, 0, 81, 61, 28, 16, 60, 159, 0, 22, 28, 16, 61, 159, 0, 16, 28]
abbrev dktX6_readsTest_1 : List UInt8 := dkwX6_readsTest_1 ++ dktX6_readsTest_2
def dkwX6_readsTest_0 : List UInt8 := [42, 182, 0, 81, 60, 27, 184, 0, 105, 154, 0, 10, 42, 4, 181, 0, 77, 3, 172, 42, 89, 180, 0, 68]
abbrev dktX6_readsTest_0 : List UInt8 := dkwX6_readsTest_0 ++ dktX6_readsTest_1
theorem dksX6_readsTest_0 : cX6_readsTest.data.toList.drop 0 = dktX6_readsTest_0 := by decide +kernel
theorem dksX6_readsTest_1 : cX6_readsTest.data.toList.drop 24 = dktX6_readsTest_1 := dk_seg dksX6_readsTest_0 24 rfl rfl
theorem dksX6_readsTest_2 : cX6_readsTest.data.toList.drop 47 = dktX6_readsTest_2 := dk_seg dksX6_readsTest_1 23 rfl rfl
theorem dksX6_readsTest_3 : cX6_readsTest.data.toList.drop 70 = dktX6_readsTest_3 := dk_seg dksX6_readsTest_2 23 rfl rfl
theorem dksX6_readsTest_4 : cX6_readsTest.data.toList.drop 94 = dktX6_readsTest_4 := dk_seg dksX6_readsTest_3 24 rfl rfl
theorem dksX6_readsTest_5 : cX6_readsTest.data.toList.drop 116 = dktX6_readsTest_5 := dk_seg dksX6_readsTest_4 22 rfl rfl
theorem dksX6_readsTest_6 : cX6_readsTest.data.toList.drop 139 = dktX6_readsTest_6 := dk_seg dksX6_readsTest_5 23 rfl rfl
theorem dX6_readsTest_0 : decode cX6_readsTest 0 = .ok (.aload_n 0, 1) := dk_42 (dk_at dksX6_readsTest_0 0 rfl rfl)
theorem dX6_readsTest_1 : decode cX6_readsTest 1 = .ok (.invokevirtual 81, 3) := dk_182 0 81 (dk_at dksX6_readsTest_0 1 rfl rfl)
theorem dX6_readsTest_4 : decode cX6_readsTest 4 = .ok (.istore_n 1, 1) := dk_60 (dk_at dksX6_readsTest_0 4 rfl rfl)
theorem dX6_readsTest_5 : decode cX6_readsTest 5 = .ok (.iload_n 1, 1) := dk_27 (dk_at dksX6_readsTest_0 5 rfl rfl)
theorem dX6_readsTest_6 : decode cX6_readsTest 6 = .ok (.invokestatic 105, 3) := dk_184 0 105 (dk_at dksX6_readsTest_0 6 rfl rfl)
theorem dX6_readsTest_9 : decode cX6_readsTest 9 = .ok (.ifCond .ne 10, 3) := dk_154 0 10 (dk_at dksX6_readsTest_0 9 rfl rfl)
theorem dX6_readsTest_12 : decode cX6_readsTest 12 = .ok (.aload_n 0, 1) := dk_42 (dk_at dksX6_readsTest_0 12 rfl rfl)
theorem dX6_readsTest_13 : decode cX6_readsTest 13 = .ok (.iconst 1, 1) := dk_4 (dk_at dksX6_readsTest_0 13 rfl rfl)
theorem dX6_readsTest_14 : decode cX6_readsTest 14 = .ok (.putfield 77, 3) := dk_181 0 77 (dk_at dksX6_readsTest_0 14 rfl rfl)
theorem dX6_readsTest_17 : decode cX6_readsTest 17 = .ok (.iconst 0, 1) := dk_3 (dk_at dksX6_readsTest_0 17 rfl rfl)
theorem dX6_readsTest_18 : decode cX6_readsTest 18 = .ok (.ireturn, 1) := dk_172 (dk_at dksX6_readsTest_0 18 rfl rfl)
theorem dX6_readsTest_19 : decode cX6_readsTest 19 = .ok (.aload_n 0, 1) := dk_42 (dk_at dksX6_readsTest_0 19 rfl rfl)
theorem dX6_readsTest_20 : decode cX6_readsTest 20 = .ok (.dup, 1) := dk_89 (dk_at dksX6_readsTest_0 20 rfl rfl)
theorem dX6_readsTest_21 : decode cX6_readsTest 21 = .ok (.getfield 68, 3) := dk_180 0 68 (dk_at dksX6_readsTest_0 21 rfl rfl)
theorem dX6_readsTest_24 : decode cX6_readsTest 24 = .ok (.iconst 1, 1) := dk_4 (dk_at dksX6_readsTest_1 0 rfl rfl)
theorem dX6_readsTest_25 : decode cX6_readsTest 25 = .ok (.iadd, 1) := dk_96 (dk_at dksX6_readsTest_1 1 rfl rfl)
theorem dX6_readsTest_26 : decode cX6_readsTest 26 = .ok (.putfield 68, 3) := dk_181 0 68 (dk_at dksX6_readsTest_1 2 rfl rfl)
theorem dX6_readsTest_29 : decode cX6_readsTest 29 = .ok (.aload_n 0, 1) := dk_42 (dk_at dksX6_readsTest_1 5 rfl rfl)
theorem dX6_readsTest_30 : decode cX6_readsTest 30 = .ok (.invokevirtual 81, 3) := dk_182 0 81 (dk_at dksX6_readsTest_1 6 rfl rfl)
theorem dX6_readsTest_33 : decode cX6_readsTest 33 = .ok (.istore_n 2, 1) := dk_61 (dk_at dksX6_readsTest_1 9 rfl rfl)
theorem dX6_readsTest_34 : decode cX6_readsTest 34 = .ok (.iload_n 2, 1) := dk_28 (dk_at dksX6_readsTest_1 10 rfl rfl)
theorem dX6_readsTest_35 : decode cX6_readsTest 35 = .ok (.bipush 60, 2) := dk_16 60 (dk_at dksX6_readsTest_1 11 rfl rfl)
theorem dX6_readsTest_37 : decode cX6_readsTest 37 = .ok (.if_icmp .eq 22, 3) := dk_159 0 22 (dk_at dksX6_readsTest_1 13 rfl rfl)
theorem dX6_readsTest_40 : decode cX6_readsTest 40 = .ok (.iload_n 2, 1) := dk_28 (dk_at dksX6_readsTest_1 16 rfl rfl)
theorem dX6_readsTest_41 : decode cX6_readsTest 41 = .ok (.bipush 61, 2) := dk_16 61 (dk_at dksX6_readsTest_1 17 rfl rfl)
theorem dX6_readsTest_43 : decode cX6_readsTest 43 = .ok (.if_icmp .eq 16, 3) := dk_159 0 16 (dk_at dksX6_readsTest_1 19 rfl rfl)
theorem dX6_readsTest_46 : decode cX6_readsTest 46 = .ok (.iload_n 2, 1) := dk_28 (dk_at dksX6_readsTest_1 22 rfl rfl)
theorem dX6_readsTest_47 : decode cX6_readsTest 47 = .ok (.bipush 62, 2) := dk_16 62 (dk_at dksX6_readsTest_2 0 rfl rfl)
theorem dX6_readsTest_49 : decode cX6_readsTest 49 = .ok (.if_icmp .eq 10, 3) := dk_159 0 10 (dk_at dksX6_readsTest_2 2 rfl rfl)
theorem dX6_readsTest_52 : decode cX6_readsTest 52 = .ok (.aload_n 0, 1) := dk_42 (dk_at dksX6_readsTest_2 5 rfl rfl)
theorem dX6_readsTest_53 : decode cX6_readsTest 53 = .ok (.iconst 1, 1) := dk_4 (dk_at dksX6_readsTest_2 6 rfl rfl)
theorem dX6_readsTest_54 : decode cX6_readsTest 54 = .ok (.putfield 77, 3) := dk_181 0 77 (dk_at dksX6_readsTest_2 7 rfl rfl)
theorem dX6_readsTest_57 : decode cX6_readsTest 57 = .ok (.iconst 0, 1) := dk_3 (dk_at dksX6_readsTest_2 10 rfl rfl)
theorem dX6_readsTest_58 : decode cX6_readsTest 58 = .ok (.ireturn, 1) := dk_172 (dk_at dksX6_readsTest_2 11 rfl rfl)
theorem dX6_readsTest_59 : decode cX6_readsTest 59 = .ok (.aload_n 0, 1) := dk_42 (dk_at dksX6_readsTest_2 12 rfl rfl)
theorem dX6_readsTest_60 : decode cX6_readsTest 60 = .ok (.dup, 1) := dk_89 (dk_at dksX6_readsTest_2 13 rfl rfl)
theorem dX6_readsTest_61 : decode cX6_readsTest 61 = .ok (.getfield 68, 3) := dk_180 0 68 (dk_at dksX6_readsTest_2 14 rfl rfl)
theorem dX6_readsTest_64 : decode cX6_readsTest 64 = .ok (.iconst 1, 1) := dk_4 (dk_at dksX6_readsTest_2 17 rfl rfl)
theorem dX6_readsTest_65 : decode cX6_readsTest 65 = .ok (.iadd, 1) := dk_96 (dk_at dksX6_readsTest_2 18 rfl rfl)
theorem dX6_readsTest_66 : decode cX6_readsTest 66 = .ok (.putfield 68, 3) := dk_181 0 68 (dk_at dksX6_readsTest_2 19 rfl rfl)
theorem dX6_readsTest_69 : decode cX6_readsTest 69 = .ok (.aload_n 0, 1) := dk_42 (dk_at dksX6_readsTest_2 22 rfl rfl)
theorem dX6_readsTest_70 : decode cX6_readsTest 70 = .ok (.invokevirtual 109, 3) := dk_182 0 109 (dk_at dksX6_readsTest_3 0 rfl rfl)
theorem dX6_readsTest_73 : decode cX6_readsTest 73 = .ok (.istore_n 3, 1) := dk_62 (dk_at dksX6_readsTest_3 3 rfl rfl)
theorem dX6_readsTest_74 : decode cX6_readsTest 74 = .ok (.aload_n 0, 1) := dk_42 (dk_at dksX6_readsTest_3 4 rfl rfl)
theorem dX6_readsTest_75 : decode cX6_readsTest 75 = .ok (.getfield 77, 3) := dk_180 0 77 (dk_at dksX6_readsTest_3 5 rfl rfl)
theorem dX6_readsTest_78 : decode cX6_readsTest 78 = .ok (.ifCond .ne 12, 3) := dk_154 0 12 (dk_at dksX6_readsTest_3 8 rfl rfl)
theorem dX6_readsTest_81 : decode cX6_readsTest 81 = .ok (.aload_n 0, 1) := dk_42 (dk_at dksX6_readsTest_3 11 rfl rfl)
theorem dX6_readsTest_82 : decode cX6_readsTest 82 = .ok (.getfield 11, 3) := dk_180 0 11 (dk_at dksX6_readsTest_3 12 rfl rfl)
theorem dX6_readsTest_85 : decode cX6_readsTest 85 = .ok (.iconst 5, 1) := dk_8 (dk_at dksX6_readsTest_3 15 rfl rfl)
theorem dX6_readsTest_86 : decode cX6_readsTest 86 = .ok (.iaload, 1) := dk_46 (dk_at dksX6_readsTest_3 16 rfl rfl)
theorem dX6_readsTest_87 : decode cX6_readsTest 87 = .ok (.ifCond .ne 5, 3) := dk_154 0 5 (dk_at dksX6_readsTest_3 17 rfl rfl)
theorem dX6_readsTest_90 : decode cX6_readsTest 90 = .ok (.iconst 0, 1) := dk_3 (dk_at dksX6_readsTest_3 20 rfl rfl)
theorem dX6_readsTest_91 : decode cX6_readsTest 91 = .ok (.ireturn, 1) := dk_172 (dk_at dksX6_readsTest_3 21 rfl rfl)
theorem dX6_readsTest_92 : decode cX6_readsTest 92 = .ok (.aload_n 0, 1) := dk_42 (dk_at dksX6_readsTest_3 22 rfl rfl)
theorem dX6_readsTest_93 : decode cX6_readsTest 93 = .ok (.iload_n 1, 1) := dk_27 (dk_at dksX6_readsTest_3 23 rfl rfl)
theorem dX6_readsTest_94 : decode cX6_readsTest 94 = .ok (.invokevirtual 112, 3) := dk_182 0 112 (dk_at dksX6_readsTest_4 0 rfl rfl)
theorem dX6_readsTest_97 : decode cX6_readsTest 97 = .ok (.istore 4, 2) := dk_54 4 (dk_at dksX6_readsTest_4 3 rfl rfl)
theorem dX6_readsTest_99 : decode cX6_readsTest 99 = .ok (.iload_n 2, 1) := dk_28 (dk_at dksX6_readsTest_4 5 rfl rfl)
theorem dX6_readsTest_100 : decode cX6_readsTest 100 = .ok (.bipush 60, 2) := dk_16 60 (dk_at dksX6_readsTest_4 6 rfl rfl)
theorem dX6_readsTest_102 : decode cX6_readsTest 102 = .ok (.if_icmp .ne 17, 3) := dk_160 0 17 (dk_at dksX6_readsTest_4 8 rfl rfl)
theorem dX6_readsTest_105 : decode cX6_readsTest 105 = .ok (.iload 4, 2) := dk_21 4 (dk_at dksX6_readsTest_4 11 rfl rfl)
theorem dX6_readsTest_107 : decode cX6_readsTest 107 = .ok (.iload_n 3, 1) := dk_29 (dk_at dksX6_readsTest_4 13 rfl rfl)
theorem dX6_readsTest_108 : decode cX6_readsTest 108 = .ok (.if_icmp .ge 7, 3) := dk_162 0 7 (dk_at dksX6_readsTest_4 14 rfl rfl)
theorem dX6_readsTest_111 : decode cX6_readsTest 111 = .ok (.iconst 1, 1) := dk_4 (dk_at dksX6_readsTest_4 17 rfl rfl)
theorem dX6_readsTest_112 : decode cX6_readsTest 112 = .ok (.goto 38, 3) := dk_167 0 38 (dk_at dksX6_readsTest_4 18 rfl rfl)
theorem dX6_readsTest_115 : decode cX6_readsTest 115 = .ok (.iconst 0, 1) := dk_3 (dk_at dksX6_readsTest_4 21 rfl rfl)
theorem dX6_readsTest_116 : decode cX6_readsTest 116 = .ok (.goto 34, 3) := dk_167 0 34 (dk_at dksX6_readsTest_5 0 rfl rfl)
theorem dX6_readsTest_119 : decode cX6_readsTest 119 = .ok (.iload_n 2, 1) := dk_28 (dk_at dksX6_readsTest_5 3 rfl rfl)
theorem dX6_readsTest_120 : decode cX6_readsTest 120 = .ok (.bipush 61, 2) := dk_16 61 (dk_at dksX6_readsTest_5 4 rfl rfl)
theorem dX6_readsTest_122 : decode cX6_readsTest 122 = .ok (.if_icmp .ne 17, 3) := dk_160 0 17 (dk_at dksX6_readsTest_5 6 rfl rfl)
theorem dX6_readsTest_125 : decode cX6_readsTest 125 = .ok (.iload 4, 2) := dk_21 4 (dk_at dksX6_readsTest_5 9 rfl rfl)
theorem dX6_readsTest_127 : decode cX6_readsTest 127 = .ok (.iload_n 3, 1) := dk_29 (dk_at dksX6_readsTest_5 11 rfl rfl)
theorem dX6_readsTest_128 : decode cX6_readsTest 128 = .ok (.if_icmp .ne 7, 3) := dk_160 0 7 (dk_at dksX6_readsTest_5 12 rfl rfl)
theorem dX6_readsTest_131 : decode cX6_readsTest 131 = .ok (.iconst 1, 1) := dk_4 (dk_at dksX6_readsTest_5 15 rfl rfl)
theorem dX6_readsTest_132 : decode cX6_readsTest 132 = .ok (.goto 18, 3) := dk_167 0 18 (dk_at dksX6_readsTest_5 16 rfl rfl)
theorem dX6_readsTest_135 : decode cX6_readsTest 135 = .ok (.iconst 0, 1) := dk_3 (dk_at dksX6_readsTest_5 19 rfl rfl)
theorem dX6_readsTest_136 : decode cX6_readsTest 136 = .ok (.goto 14, 3) := dk_167 0 14 (dk_at dksX6_readsTest_5 20 rfl rfl)
theorem dX6_readsTest_139 : decode cX6_readsTest 139 = .ok (.iload 4, 2) := dk_21 4 (dk_at dksX6_readsTest_6 0 rfl rfl)
theorem dX6_readsTest_141 : decode cX6_readsTest 141 = .ok (.iload_n 3, 1) := dk_29 (dk_at dksX6_readsTest_6 2 rfl rfl)
theorem dX6_readsTest_142 : decode cX6_readsTest 142 = .ok (.if_icmp .le 7, 3) := dk_164 0 7 (dk_at dksX6_readsTest_6 3 rfl rfl)
theorem dX6_readsTest_145 : decode cX6_readsTest 145 = .ok (.iconst 1, 1) := dk_4 (dk_at dksX6_readsTest_6 6 rfl rfl)
theorem dX6_readsTest_146 : decode cX6_readsTest 146 = .ok (.goto 4, 3) := dk_167 0 4 (dk_at dksX6_readsTest_6 7 rfl rfl)
theorem dX6_readsTest_149 : decode cX6_readsTest 149 = .ok (.iconst 0, 1) := dk_3 (dk_at dksX6_readsTest_6 10 rfl rfl)
theorem dX6_readsTest_150 : decode cX6_readsTest 150 = .ok (.ireturn, 1) := dk_172 (dk_at dksX6_readsTest_6 11 rfl rfl)
theorem cf_readsTest : xV yX6_readsTest RX6 cX6_readsTest 5 (some .boolean) 0 := ⟨q1566, qs53, q96, q1567, ⟨rfl, by decide +kernel, by decide +kernel, by decide +kernel⟩, by decide⟩
abbrev cX6_readsT : ByteArray := prog_23_method_22_code
def yX6_readsT : MethodName := ⟨RX6, "readsT", "(I)Z"⟩
def dkwX6_readsT_2 : List UInt8 := [167, 0, 4, 3, 61, 167, 255, 210, 28, 172]
abbrev dktX6_readsT_2 : List UInt8 := dkwX6_readsT_2 ++ []
def dkwX6_readsT_1 : List UInt8 := [180, 0, 68, 4, 96, 181, 0, 68, 42, 27, 182, 0, 118, 62, 28, 153, 0, 11, 29, 153, 0, 7, 4]
abbrev dktX6_readsT_1 : List UInt8 := dkwX6_readsT_1 ++ dktX6_readsT_2
def dkwX6_readsT_0 : List UInt8 := [42, 27, 182, 0, 118, 61, 42, 180, 0, 77, 154, 0, 45, 42, 182, 0, 81, 16, 38, 160, 0, 36, 42, 89]
abbrev dktX6_readsT_0 : List UInt8 := dkwX6_readsT_0 ++ dktX6_readsT_1
theorem dksX6_readsT_0 : cX6_readsT.data.toList.drop 0 = dktX6_readsT_0 := by decide +kernel
theorem dksX6_readsT_1 : cX6_readsT.data.toList.drop 24 = dktX6_readsT_1 := dk_seg dksX6_readsT_0 24 rfl rfl
theorem dksX6_readsT_2 : cX6_readsT.data.toList.drop 47 = dktX6_readsT_2 := dk_seg dksX6_readsT_1 23 rfl rfl
theorem dX6_readsT_0 : decode cX6_readsT 0 = .ok (.aload_n 0, 1) := dk_42 (dk_at dksX6_readsT_0 0 rfl rfl)
theorem dX6_readsT_1 : decode cX6_readsT 1 = .ok (.iload_n 1, 1) := dk_27 (dk_at dksX6_readsT_0 1 rfl rfl)
theorem dX6_readsT_2 : decode cX6_readsT 2 = .ok (.invokevirtual 118, 3) := dk_182 0 118 (dk_at dksX6_readsT_0 2 rfl rfl)
theorem dX6_readsT_5 : decode cX6_readsT 5 = .ok (.istore_n 2, 1) := dk_61 (dk_at dksX6_readsT_0 5 rfl rfl)
theorem dX6_readsT_6 : decode cX6_readsT 6 = .ok (.aload_n 0, 1) := dk_42 (dk_at dksX6_readsT_0 6 rfl rfl)
theorem dX6_readsT_7 : decode cX6_readsT 7 = .ok (.getfield 77, 3) := dk_180 0 77 (dk_at dksX6_readsT_0 7 rfl rfl)
theorem dX6_readsT_10 : decode cX6_readsT 10 = .ok (.ifCond .ne 45, 3) := dk_154 0 45 (dk_at dksX6_readsT_0 10 rfl rfl)
theorem dX6_readsT_13 : decode cX6_readsT 13 = .ok (.aload_n 0, 1) := dk_42 (dk_at dksX6_readsT_0 13 rfl rfl)
theorem dX6_readsT_14 : decode cX6_readsT 14 = .ok (.invokevirtual 81, 3) := dk_182 0 81 (dk_at dksX6_readsT_0 14 rfl rfl)
theorem dX6_readsT_17 : decode cX6_readsT 17 = .ok (.bipush 38, 2) := dk_16 38 (dk_at dksX6_readsT_0 17 rfl rfl)
theorem dX6_readsT_19 : decode cX6_readsT 19 = .ok (.if_icmp .ne 36, 3) := dk_160 0 36 (dk_at dksX6_readsT_0 19 rfl rfl)
theorem dX6_readsT_22 : decode cX6_readsT 22 = .ok (.aload_n 0, 1) := dk_42 (dk_at dksX6_readsT_0 22 rfl rfl)
theorem dX6_readsT_23 : decode cX6_readsT 23 = .ok (.dup, 1) := dk_89 (dk_at dksX6_readsT_0 23 rfl rfl)
theorem dX6_readsT_24 : decode cX6_readsT 24 = .ok (.getfield 68, 3) := dk_180 0 68 (dk_at dksX6_readsT_1 0 rfl rfl)
theorem dX6_readsT_27 : decode cX6_readsT 27 = .ok (.iconst 1, 1) := dk_4 (dk_at dksX6_readsT_1 3 rfl rfl)
theorem dX6_readsT_28 : decode cX6_readsT 28 = .ok (.iadd, 1) := dk_96 (dk_at dksX6_readsT_1 4 rfl rfl)
theorem dX6_readsT_29 : decode cX6_readsT 29 = .ok (.putfield 68, 3) := dk_181 0 68 (dk_at dksX6_readsT_1 5 rfl rfl)
theorem dX6_readsT_32 : decode cX6_readsT 32 = .ok (.aload_n 0, 1) := dk_42 (dk_at dksX6_readsT_1 8 rfl rfl)
theorem dX6_readsT_33 : decode cX6_readsT 33 = .ok (.iload_n 1, 1) := dk_27 (dk_at dksX6_readsT_1 9 rfl rfl)
theorem dX6_readsT_34 : decode cX6_readsT 34 = .ok (.invokevirtual 118, 3) := dk_182 0 118 (dk_at dksX6_readsT_1 10 rfl rfl)
theorem dX6_readsT_37 : decode cX6_readsT 37 = .ok (.istore_n 3, 1) := dk_62 (dk_at dksX6_readsT_1 13 rfl rfl)
theorem dX6_readsT_38 : decode cX6_readsT 38 = .ok (.iload_n 2, 1) := dk_28 (dk_at dksX6_readsT_1 14 rfl rfl)
theorem dX6_readsT_39 : decode cX6_readsT 39 = .ok (.ifCond .eq 11, 3) := dk_153 0 11 (dk_at dksX6_readsT_1 15 rfl rfl)
theorem dX6_readsT_42 : decode cX6_readsT 42 = .ok (.iload_n 3, 1) := dk_29 (dk_at dksX6_readsT_1 18 rfl rfl)
theorem dX6_readsT_43 : decode cX6_readsT 43 = .ok (.ifCond .eq 7, 3) := dk_153 0 7 (dk_at dksX6_readsT_1 19 rfl rfl)
theorem dX6_readsT_46 : decode cX6_readsT 46 = .ok (.iconst 1, 1) := dk_4 (dk_at dksX6_readsT_1 22 rfl rfl)
theorem dX6_readsT_47 : decode cX6_readsT 47 = .ok (.goto 4, 3) := dk_167 0 4 (dk_at dksX6_readsT_2 0 rfl rfl)
theorem dX6_readsT_50 : decode cX6_readsT 50 = .ok (.iconst 0, 1) := dk_3 (dk_at dksX6_readsT_2 3 rfl rfl)
theorem dX6_readsT_51 : decode cX6_readsT 51 = .ok (.istore_n 2, 1) := dk_61 (dk_at dksX6_readsT_2 4 rfl rfl)
theorem dX6_readsT_52 : decode cX6_readsT 52 = .ok (.goto (-46), 3) := dk_167 255 210 (dk_at dksX6_readsT_2 5 rfl rfl)
theorem dX6_readsT_55 : decode cX6_readsT 55 = .ok (.iload_n 2, 1) := dk_28 (dk_at dksX6_readsT_2 8 rfl rfl)
theorem dX6_readsT_56 : decode cX6_readsT 56 = .ok (.ireturn, 1) := dk_172 (dk_at dksX6_readsT_2 9 rfl rfl)
theorem cf_readsT : xV yX6_readsT RX6 cX6_readsT 4 (some .boolean) 1 := ⟨q1558, qs51, q96, q1559, ⟨rfl, by decide +kernel, by decide +kernel, by decide +kernel⟩, by decide⟩
abbrev cX6_readsE : ByteArray := prog_23_method_23_code
def yX6_readsE : MethodName := ⟨RX6, "readsE", "(I)Z"⟩
def dkwX6_readsE_2 : List UInt8 := [167, 0, 4, 3, 61, 167, 255, 210, 28, 172]
abbrev dktX6_readsE_2 : List UInt8 := dkwX6_readsE_2 ++ []
def dkwX6_readsE_1 : List UInt8 := [180, 0, 68, 4, 96, 181, 0, 68, 42, 27, 182, 0, 127, 62, 28, 154, 0, 7, 29, 153, 0, 7, 4]
abbrev dktX6_readsE_1 : List UInt8 := dkwX6_readsE_1 ++ dktX6_readsE_2
def dkwX6_readsE_0 : List UInt8 := [42, 27, 182, 0, 127, 61, 42, 180, 0, 77, 154, 0, 45, 42, 182, 0, 81, 16, 124, 160, 0, 36, 42, 89]
abbrev dktX6_readsE_0 : List UInt8 := dkwX6_readsE_0 ++ dktX6_readsE_1
theorem dksX6_readsE_0 : cX6_readsE.data.toList.drop 0 = dktX6_readsE_0 := by decide +kernel
theorem dksX6_readsE_1 : cX6_readsE.data.toList.drop 24 = dktX6_readsE_1 := dk_seg dksX6_readsE_0 24 rfl rfl
theorem dksX6_readsE_2 : cX6_readsE.data.toList.drop 47 = dktX6_readsE_2 := dk_seg dksX6_readsE_1 23 rfl rfl
theorem dX6_readsE_0 : decode cX6_readsE 0 = .ok (.aload_n 0, 1) := dk_42 (dk_at dksX6_readsE_0 0 rfl rfl)
theorem dX6_readsE_1 : decode cX6_readsE 1 = .ok (.iload_n 1, 1) := dk_27 (dk_at dksX6_readsE_0 1 rfl rfl)
theorem dX6_readsE_2 : decode cX6_readsE 2 = .ok (.invokevirtual 127, 3) := dk_182 0 127 (dk_at dksX6_readsE_0 2 rfl rfl)
theorem dX6_readsE_5 : decode cX6_readsE 5 = .ok (.istore_n 2, 1) := dk_61 (dk_at dksX6_readsE_0 5 rfl rfl)
theorem dX6_readsE_6 : decode cX6_readsE 6 = .ok (.aload_n 0, 1) := dk_42 (dk_at dksX6_readsE_0 6 rfl rfl)
theorem dX6_readsE_7 : decode cX6_readsE 7 = .ok (.getfield 77, 3) := dk_180 0 77 (dk_at dksX6_readsE_0 7 rfl rfl)
theorem dX6_readsE_10 : decode cX6_readsE 10 = .ok (.ifCond .ne 45, 3) := dk_154 0 45 (dk_at dksX6_readsE_0 10 rfl rfl)
theorem dX6_readsE_13 : decode cX6_readsE 13 = .ok (.aload_n 0, 1) := dk_42 (dk_at dksX6_readsE_0 13 rfl rfl)
theorem dX6_readsE_14 : decode cX6_readsE 14 = .ok (.invokevirtual 81, 3) := dk_182 0 81 (dk_at dksX6_readsE_0 14 rfl rfl)
theorem dX6_readsE_17 : decode cX6_readsE 17 = .ok (.bipush 124, 2) := dk_16 124 (dk_at dksX6_readsE_0 17 rfl rfl)
theorem dX6_readsE_19 : decode cX6_readsE 19 = .ok (.if_icmp .ne 36, 3) := dk_160 0 36 (dk_at dksX6_readsE_0 19 rfl rfl)
theorem dX6_readsE_22 : decode cX6_readsE 22 = .ok (.aload_n 0, 1) := dk_42 (dk_at dksX6_readsE_0 22 rfl rfl)
theorem dX6_readsE_23 : decode cX6_readsE 23 = .ok (.dup, 1) := dk_89 (dk_at dksX6_readsE_0 23 rfl rfl)
theorem dX6_readsE_24 : decode cX6_readsE 24 = .ok (.getfield 68, 3) := dk_180 0 68 (dk_at dksX6_readsE_1 0 rfl rfl)
theorem dX6_readsE_27 : decode cX6_readsE 27 = .ok (.iconst 1, 1) := dk_4 (dk_at dksX6_readsE_1 3 rfl rfl)
theorem dX6_readsE_28 : decode cX6_readsE 28 = .ok (.iadd, 1) := dk_96 (dk_at dksX6_readsE_1 4 rfl rfl)
theorem dX6_readsE_29 : decode cX6_readsE 29 = .ok (.putfield 68, 3) := dk_181 0 68 (dk_at dksX6_readsE_1 5 rfl rfl)
theorem dX6_readsE_32 : decode cX6_readsE 32 = .ok (.aload_n 0, 1) := dk_42 (dk_at dksX6_readsE_1 8 rfl rfl)
theorem dX6_readsE_33 : decode cX6_readsE 33 = .ok (.iload_n 1, 1) := dk_27 (dk_at dksX6_readsE_1 9 rfl rfl)
theorem dX6_readsE_34 : decode cX6_readsE 34 = .ok (.invokevirtual 127, 3) := dk_182 0 127 (dk_at dksX6_readsE_1 10 rfl rfl)
theorem dX6_readsE_37 : decode cX6_readsE 37 = .ok (.istore_n 3, 1) := dk_62 (dk_at dksX6_readsE_1 13 rfl rfl)
theorem dX6_readsE_38 : decode cX6_readsE 38 = .ok (.iload_n 2, 1) := dk_28 (dk_at dksX6_readsE_1 14 rfl rfl)
theorem dX6_readsE_39 : decode cX6_readsE 39 = .ok (.ifCond .ne 7, 3) := dk_154 0 7 (dk_at dksX6_readsE_1 15 rfl rfl)
theorem dX6_readsE_42 : decode cX6_readsE 42 = .ok (.iload_n 3, 1) := dk_29 (dk_at dksX6_readsE_1 18 rfl rfl)
theorem dX6_readsE_43 : decode cX6_readsE 43 = .ok (.ifCond .eq 7, 3) := dk_153 0 7 (dk_at dksX6_readsE_1 19 rfl rfl)
theorem dX6_readsE_46 : decode cX6_readsE 46 = .ok (.iconst 1, 1) := dk_4 (dk_at dksX6_readsE_1 22 rfl rfl)
theorem dX6_readsE_47 : decode cX6_readsE 47 = .ok (.goto 4, 3) := dk_167 0 4 (dk_at dksX6_readsE_2 0 rfl rfl)
theorem dX6_readsE_50 : decode cX6_readsE 50 = .ok (.iconst 0, 1) := dk_3 (dk_at dksX6_readsE_2 3 rfl rfl)
theorem dX6_readsE_51 : decode cX6_readsE 51 = .ok (.istore_n 2, 1) := dk_61 (dk_at dksX6_readsE_2 4 rfl rfl)
theorem dX6_readsE_52 : decode cX6_readsE 52 = .ok (.goto (-46), 3) := dk_167 255 210 (dk_at dksX6_readsE_2 5 rfl rfl)
theorem dX6_readsE_55 : decode cX6_readsE 55 = .ok (.iload_n 2, 1) := dk_28 (dk_at dksX6_readsE_2 8 rfl rfl)
theorem dX6_readsE_56 : decode cX6_readsE 56 = .ok (.ireturn, 1) := dk_172 (dk_at dksX6_readsE_2 9 rfl rfl)
theorem cf_readsE : xV yX6_readsE RX6 cX6_readsE 4 (some .boolean) 1 := ⟨q1554, qs50, q96, q1555, ⟨rfl, by decide +kernel, by decide +kernel, by decide +kernel⟩, by decide⟩
abbrev cX6_readsF : ByteArray := prog_23_method_21_code
def yX6_readsF : MethodName := ⟨RX6, "readsF", "(I)Z"⟩
def dkwX6_readsF_4 : List UInt8 := [153, 0, 7, 4, 167, 0, 4, 3, 172]
abbrev dktX6_readsF_4 : List UInt8 := dkwX6_readsF_4 ++ []
def dkwX6_readsF_3 : List UInt8 := [4, 167, 0, 4, 3, 172, 42, 27, 4, 96, 182, 0, 121, 62, 42, 16, 41, 182, 0, 124, 153, 0, 11, 29]
abbrev dktX6_readsF_3 : List UInt8 := dkwX6_readsF_3 ++ dktX6_readsF_4
def dkwX6_readsF_2 : List UInt8 := [180, 0, 68, 4, 96, 181, 0, 68, 28, 16, 33, 160, 0, 19, 42, 27, 4, 96, 182, 0, 118, 154, 0, 7]
abbrev dktX6_readsF_2 : List UInt8 := dkwX6_readsF_2 ++ dktX6_readsF_3
def dkwX6_readsF_1 : List UInt8 := [159, 0, 8, 42, 182, 0, 115, 172, 27, 7, 160, 0, 10, 42, 4, 181, 0, 77, 3, 172, 42, 89]
abbrev dktX6_readsF_1 : List UInt8 := dkwX6_readsF_1 ++ dktX6_readsF_2
def dkwX6_readsF_0 : List UInt8 := [42, 180, 0, 77, 153, 0, 5, 3, 172, 42, 182, 0, 81, 61, 28, 16, 33, 159, 0, 14, 28, 16, 40]
abbrev dktX6_readsF_0 : List UInt8 := dkwX6_readsF_0 ++ dktX6_readsF_1
theorem dksX6_readsF_0 : cX6_readsF.data.toList.drop 0 = dktX6_readsF_0 := by decide +kernel
theorem dksX6_readsF_1 : cX6_readsF.data.toList.drop 23 = dktX6_readsF_1 := dk_seg dksX6_readsF_0 23 rfl rfl
theorem dksX6_readsF_2 : cX6_readsF.data.toList.drop 45 = dktX6_readsF_2 := dk_seg dksX6_readsF_1 22 rfl rfl
theorem dksX6_readsF_3 : cX6_readsF.data.toList.drop 69 = dktX6_readsF_3 := dk_seg dksX6_readsF_2 24 rfl rfl
theorem dksX6_readsF_4 : cX6_readsF.data.toList.drop 93 = dktX6_readsF_4 := dk_seg dksX6_readsF_3 24 rfl rfl
theorem dX6_readsF_0 : decode cX6_readsF 0 = .ok (.aload_n 0, 1) := dk_42 (dk_at dksX6_readsF_0 0 rfl rfl)
theorem dX6_readsF_1 : decode cX6_readsF 1 = .ok (.getfield 77, 3) := dk_180 0 77 (dk_at dksX6_readsF_0 1 rfl rfl)
theorem dX6_readsF_4 : decode cX6_readsF 4 = .ok (.ifCond .eq 5, 3) := dk_153 0 5 (dk_at dksX6_readsF_0 4 rfl rfl)
theorem dX6_readsF_7 : decode cX6_readsF 7 = .ok (.iconst 0, 1) := dk_3 (dk_at dksX6_readsF_0 7 rfl rfl)
theorem dX6_readsF_8 : decode cX6_readsF 8 = .ok (.ireturn, 1) := dk_172 (dk_at dksX6_readsF_0 8 rfl rfl)
theorem dX6_readsF_9 : decode cX6_readsF 9 = .ok (.aload_n 0, 1) := dk_42 (dk_at dksX6_readsF_0 9 rfl rfl)
theorem dX6_readsF_10 : decode cX6_readsF 10 = .ok (.invokevirtual 81, 3) := dk_182 0 81 (dk_at dksX6_readsF_0 10 rfl rfl)
theorem dX6_readsF_13 : decode cX6_readsF 13 = .ok (.istore_n 2, 1) := dk_61 (dk_at dksX6_readsF_0 13 rfl rfl)
theorem dX6_readsF_14 : decode cX6_readsF 14 = .ok (.iload_n 2, 1) := dk_28 (dk_at dksX6_readsF_0 14 rfl rfl)
theorem dX6_readsF_15 : decode cX6_readsF 15 = .ok (.bipush 33, 2) := dk_16 33 (dk_at dksX6_readsF_0 15 rfl rfl)
theorem dX6_readsF_17 : decode cX6_readsF 17 = .ok (.if_icmp .eq 14, 3) := dk_159 0 14 (dk_at dksX6_readsF_0 17 rfl rfl)
theorem dX6_readsF_20 : decode cX6_readsF 20 = .ok (.iload_n 2, 1) := dk_28 (dk_at dksX6_readsF_0 20 rfl rfl)
theorem dX6_readsF_21 : decode cX6_readsF 21 = .ok (.bipush 40, 2) := dk_16 40 (dk_at dksX6_readsF_0 21 rfl rfl)
theorem dX6_readsF_23 : decode cX6_readsF 23 = .ok (.if_icmp .eq 8, 3) := dk_159 0 8 (dk_at dksX6_readsF_1 0 rfl rfl)
theorem dX6_readsF_26 : decode cX6_readsF 26 = .ok (.aload_n 0, 1) := dk_42 (dk_at dksX6_readsF_1 3 rfl rfl)
theorem dX6_readsF_27 : decode cX6_readsF 27 = .ok (.invokevirtual 115, 3) := dk_182 0 115 (dk_at dksX6_readsF_1 4 rfl rfl)
theorem dX6_readsF_30 : decode cX6_readsF 30 = .ok (.ireturn, 1) := dk_172 (dk_at dksX6_readsF_1 7 rfl rfl)
theorem dX6_readsF_31 : decode cX6_readsF 31 = .ok (.iload_n 1, 1) := dk_27 (dk_at dksX6_readsF_1 8 rfl rfl)
theorem dX6_readsF_32 : decode cX6_readsF 32 = .ok (.iconst 4, 1) := dk_7 (dk_at dksX6_readsF_1 9 rfl rfl)
theorem dX6_readsF_33 : decode cX6_readsF 33 = .ok (.if_icmp .ne 10, 3) := dk_160 0 10 (dk_at dksX6_readsF_1 10 rfl rfl)
theorem dX6_readsF_36 : decode cX6_readsF 36 = .ok (.aload_n 0, 1) := dk_42 (dk_at dksX6_readsF_1 13 rfl rfl)
theorem dX6_readsF_37 : decode cX6_readsF 37 = .ok (.iconst 1, 1) := dk_4 (dk_at dksX6_readsF_1 14 rfl rfl)
theorem dX6_readsF_38 : decode cX6_readsF 38 = .ok (.putfield 77, 3) := dk_181 0 77 (dk_at dksX6_readsF_1 15 rfl rfl)
theorem dX6_readsF_41 : decode cX6_readsF 41 = .ok (.iconst 0, 1) := dk_3 (dk_at dksX6_readsF_1 18 rfl rfl)
theorem dX6_readsF_42 : decode cX6_readsF 42 = .ok (.ireturn, 1) := dk_172 (dk_at dksX6_readsF_1 19 rfl rfl)
theorem dX6_readsF_43 : decode cX6_readsF 43 = .ok (.aload_n 0, 1) := dk_42 (dk_at dksX6_readsF_1 20 rfl rfl)
theorem dX6_readsF_44 : decode cX6_readsF 44 = .ok (.dup, 1) := dk_89 (dk_at dksX6_readsF_1 21 rfl rfl)
theorem dX6_readsF_45 : decode cX6_readsF 45 = .ok (.getfield 68, 3) := dk_180 0 68 (dk_at dksX6_readsF_2 0 rfl rfl)
theorem dX6_readsF_48 : decode cX6_readsF 48 = .ok (.iconst 1, 1) := dk_4 (dk_at dksX6_readsF_2 3 rfl rfl)
theorem dX6_readsF_49 : decode cX6_readsF 49 = .ok (.iadd, 1) := dk_96 (dk_at dksX6_readsF_2 4 rfl rfl)
theorem dX6_readsF_50 : decode cX6_readsF 50 = .ok (.putfield 68, 3) := dk_181 0 68 (dk_at dksX6_readsF_2 5 rfl rfl)
theorem dX6_readsF_53 : decode cX6_readsF 53 = .ok (.iload_n 2, 1) := dk_28 (dk_at dksX6_readsF_2 8 rfl rfl)
theorem dX6_readsF_54 : decode cX6_readsF 54 = .ok (.bipush 33, 2) := dk_16 33 (dk_at dksX6_readsF_2 9 rfl rfl)
theorem dX6_readsF_56 : decode cX6_readsF 56 = .ok (.if_icmp .ne 19, 3) := dk_160 0 19 (dk_at dksX6_readsF_2 11 rfl rfl)
theorem dX6_readsF_59 : decode cX6_readsF 59 = .ok (.aload_n 0, 1) := dk_42 (dk_at dksX6_readsF_2 14 rfl rfl)
theorem dX6_readsF_60 : decode cX6_readsF 60 = .ok (.iload_n 1, 1) := dk_27 (dk_at dksX6_readsF_2 15 rfl rfl)
theorem dX6_readsF_61 : decode cX6_readsF 61 = .ok (.iconst 1, 1) := dk_4 (dk_at dksX6_readsF_2 16 rfl rfl)
theorem dX6_readsF_62 : decode cX6_readsF 62 = .ok (.iadd, 1) := dk_96 (dk_at dksX6_readsF_2 17 rfl rfl)
theorem dX6_readsF_63 : decode cX6_readsF 63 = .ok (.invokevirtual 118, 3) := dk_182 0 118 (dk_at dksX6_readsF_2 18 rfl rfl)
theorem dX6_readsF_66 : decode cX6_readsF 66 = .ok (.ifCond .ne 7, 3) := dk_154 0 7 (dk_at dksX6_readsF_2 21 rfl rfl)
theorem dX6_readsF_69 : decode cX6_readsF 69 = .ok (.iconst 1, 1) := dk_4 (dk_at dksX6_readsF_3 0 rfl rfl)
theorem dX6_readsF_70 : decode cX6_readsF 70 = .ok (.goto 4, 3) := dk_167 0 4 (dk_at dksX6_readsF_3 1 rfl rfl)
theorem dX6_readsF_73 : decode cX6_readsF 73 = .ok (.iconst 0, 1) := dk_3 (dk_at dksX6_readsF_3 4 rfl rfl)
theorem dX6_readsF_74 : decode cX6_readsF 74 = .ok (.ireturn, 1) := dk_172 (dk_at dksX6_readsF_3 5 rfl rfl)
theorem dX6_readsF_75 : decode cX6_readsF 75 = .ok (.aload_n 0, 1) := dk_42 (dk_at dksX6_readsF_3 6 rfl rfl)
theorem dX6_readsF_76 : decode cX6_readsF 76 = .ok (.iload_n 1, 1) := dk_27 (dk_at dksX6_readsF_3 7 rfl rfl)
theorem dX6_readsF_77 : decode cX6_readsF 77 = .ok (.iconst 1, 1) := dk_4 (dk_at dksX6_readsF_3 8 rfl rfl)
theorem dX6_readsF_78 : decode cX6_readsF 78 = .ok (.iadd, 1) := dk_96 (dk_at dksX6_readsF_3 9 rfl rfl)
theorem dX6_readsF_79 : decode cX6_readsF 79 = .ok (.invokevirtual 121, 3) := dk_182 0 121 (dk_at dksX6_readsF_3 10 rfl rfl)
theorem dX6_readsF_82 : decode cX6_readsF 82 = .ok (.istore_n 3, 1) := dk_62 (dk_at dksX6_readsF_3 13 rfl rfl)
theorem dX6_readsF_83 : decode cX6_readsF 83 = .ok (.aload_n 0, 1) := dk_42 (dk_at dksX6_readsF_3 14 rfl rfl)
theorem dX6_readsF_84 : decode cX6_readsF 84 = .ok (.bipush 41, 2) := dk_16 41 (dk_at dksX6_readsF_3 15 rfl rfl)
theorem dX6_readsF_86 : decode cX6_readsF 86 = .ok (.invokevirtual 124, 3) := dk_182 0 124 (dk_at dksX6_readsF_3 17 rfl rfl)
theorem dX6_readsF_89 : decode cX6_readsF 89 = .ok (.ifCond .eq 11, 3) := dk_153 0 11 (dk_at dksX6_readsF_3 20 rfl rfl)
theorem dX6_readsF_92 : decode cX6_readsF 92 = .ok (.iload_n 3, 1) := dk_29 (dk_at dksX6_readsF_3 23 rfl rfl)
theorem dX6_readsF_93 : decode cX6_readsF 93 = .ok (.ifCond .eq 7, 3) := dk_153 0 7 (dk_at dksX6_readsF_4 0 rfl rfl)
theorem dX6_readsF_96 : decode cX6_readsF 96 = .ok (.iconst 1, 1) := dk_4 (dk_at dksX6_readsF_4 3 rfl rfl)
theorem dX6_readsF_97 : decode cX6_readsF 97 = .ok (.goto 4, 3) := dk_167 0 4 (dk_at dksX6_readsF_4 4 rfl rfl)
theorem dX6_readsF_100 : decode cX6_readsF 100 = .ok (.iconst 0, 1) := dk_3 (dk_at dksX6_readsF_4 7 rfl rfl)
theorem dX6_readsF_101 : decode cX6_readsF 101 = .ok (.ireturn, 1) := dk_172 (dk_at dksX6_readsF_4 8 rfl rfl)
theorem cf_readsF : xV yX6_readsF RX6 cX6_readsF 4 (some .boolean) 1 := ⟨q1562, qs52, q96, q1563, ⟨rfl, by decide +kernel, by decide +kernel, by decide +kernel⟩, by decide⟩
abbrev cX6_readsWord : ByteArray := prog_23_method_24_code
def yX6_readsWord : MethodName := ⟨RX6, "readsWord", "(Ljava/lang/String;)V"⟩
def dkwX6_readsWord_1 : List UInt8 := [132, 2, 1, 167, 255, 232, 177]
abbrev dktX6_readsWord_1 : List UInt8 := dkwX6_readsWord_1 ++ []
def dkwX6_readsWord_0 : List UInt8 := [4, 61, 28, 43, 182, 0, 130, 162, 0, 22, 42, 43, 28, 182, 0, 135, 182, 0, 124, 154, 0, 4, 177]
abbrev dktX6_readsWord_0 : List UInt8 := dkwX6_readsWord_0 ++ dktX6_readsWord_1
theorem dksX6_readsWord_0 : cX6_readsWord.data.toList.drop 0 = dktX6_readsWord_0 := by decide +kernel
theorem dksX6_readsWord_1 : cX6_readsWord.data.toList.drop 23 = dktX6_readsWord_1 := dk_seg dksX6_readsWord_0 23 rfl rfl
theorem dX6_readsWord_0 : decode cX6_readsWord 0 = .ok (.iconst 1, 1) := dk_4 (dk_at dksX6_readsWord_0 0 rfl rfl)
theorem dX6_readsWord_1 : decode cX6_readsWord 1 = .ok (.istore_n 2, 1) := dk_61 (dk_at dksX6_readsWord_0 1 rfl rfl)
theorem dX6_readsWord_2 : decode cX6_readsWord 2 = .ok (.iload_n 2, 1) := dk_28 (dk_at dksX6_readsWord_0 2 rfl rfl)
theorem dX6_readsWord_3 : decode cX6_readsWord 3 = .ok (.aload_n 1, 1) := dk_43 (dk_at dksX6_readsWord_0 3 rfl rfl)
theorem dX6_readsWord_4 : decode cX6_readsWord 4 = .ok (.invokevirtual 130, 3) := dk_182 0 130 (dk_at dksX6_readsWord_0 4 rfl rfl)
theorem dX6_readsWord_7 : decode cX6_readsWord 7 = .ok (.if_icmp .ge 22, 3) := dk_162 0 22 (dk_at dksX6_readsWord_0 7 rfl rfl)
theorem dX6_readsWord_10 : decode cX6_readsWord 10 = .ok (.aload_n 0, 1) := dk_42 (dk_at dksX6_readsWord_0 10 rfl rfl)
theorem dX6_readsWord_11 : decode cX6_readsWord 11 = .ok (.aload_n 1, 1) := dk_43 (dk_at dksX6_readsWord_0 11 rfl rfl)
theorem dX6_readsWord_12 : decode cX6_readsWord 12 = .ok (.iload_n 2, 1) := dk_28 (dk_at dksX6_readsWord_0 12 rfl rfl)
theorem dX6_readsWord_13 : decode cX6_readsWord 13 = .ok (.invokevirtual 135, 3) := dk_182 0 135 (dk_at dksX6_readsWord_0 13 rfl rfl)
theorem dX6_readsWord_16 : decode cX6_readsWord 16 = .ok (.invokevirtual 124, 3) := dk_182 0 124 (dk_at dksX6_readsWord_0 16 rfl rfl)
theorem dX6_readsWord_19 : decode cX6_readsWord 19 = .ok (.ifCond .ne 4, 3) := dk_154 0 4 (dk_at dksX6_readsWord_0 19 rfl rfl)
theorem dX6_readsWord_22 : decode cX6_readsWord 22 = .ok (.return_, 1) := dk_177 (dk_at dksX6_readsWord_0 22 rfl rfl)
theorem dX6_readsWord_23 : decode cX6_readsWord 23 = .ok (.iinc 2 1, 3) := dk_132 2 1 (dk_at dksX6_readsWord_1 0 rfl rfl)
theorem dX6_readsWord_26 : decode cX6_readsWord 26 = .ok (.goto (-24), 3) := dk_167 255 232 (dk_at dksX6_readsWord_1 3 rfl rfl)
theorem dX6_readsWord_29 : decode cX6_readsWord 29 = .ok (.return_, 1) := dk_177 (dk_at dksX6_readsWord_1 6 rfl rfl)
theorem cf_readsWord : xV yX6_readsWord RX6 cX6_readsWord 3 none 1 := ⟨q1536, qs46, q96, q1537, ⟨rfl, by decide +kernel, by decide +kernel, by decide +kernel⟩, by decide⟩
abbrev cX6_readsClause : ByteArray := prog_23_method_25_code
def yX6_readsClause : MethodName := ⟨RX6, "readsClause", "()V"⟩
def dkwX6_readsClause_9 : List UInt8 := [28, 167, 0, 4, 3, 96, 181, 0, 163, 177]
abbrev dktX6_readsClause_9 : List UInt8 := dkwX6_readsClause_9 ++ []
def dkwX6_readsClause_8 : List UInt8 := [28, 167, 0, 4, 3, 96, 181, 0, 160, 42, 89, 180, 0, 163, 27, 16, 102, 160, 0, 11, 29, 153, 0, 7]
abbrev dktX6_readsClause_8 : List UInt8 := dkwX6_readsClause_8 ++ dktX6_readsClause_9
def dkwX6_readsClause_7 : List UInt8 := [28, 167, 0, 4, 3, 96, 181, 0, 157, 42, 89, 180, 0, 160, 27, 16, 109, 160, 0, 11, 29, 153, 0, 7]
abbrev dktX6_readsClause_7 : List UInt8 := dkwX6_readsClause_7 ++ dktX6_readsClause_8
def dkwX6_readsClause_6 : List UInt8 := [4, 167, 0, 4, 3, 96, 181, 0, 154, 42, 89, 180, 0, 157, 27, 16, 116, 160, 0, 11, 29, 153, 0, 7]
abbrev dktX6_readsClause_6 : List UInt8 := dkwX6_readsClause_6 ++ dktX6_readsClause_7
def dkwX6_readsClause_5 : List UInt8 := [167, 0, 4, 3, 181, 0, 96, 42, 3, 182, 0, 121, 62, 42, 89, 180, 0, 154, 27, 16, 116, 160, 0, 7]
abbrev dktX6_readsClause_5 : List UInt8 := dkwX6_readsClause_5 ++ dktX6_readsClause_6
def dkwX6_readsClause_4 : List UInt8 := [42, 28, 181, 0, 151, 177, 42, 16, 32, 182, 0, 124, 154, 0, 4, 177, 42, 27, 16, 102, 160, 0, 7, 4]
abbrev dktX6_readsClause_4 : List UInt8 := dkwX6_readsClause_4 ++ dktX6_readsClause_5
def dkwX6_readsClause_3 : List UInt8 := [160, 0, 8, 18, 143, 167, 0, 5, 18, 145, 182, 0, 147, 42, 182, 0, 109, 61, 27, 16, 99, 160, 0, 9]
abbrev dktX6_readsClause_3 : List UInt8 := dkwX6_readsClause_3 ++ dktX6_readsClause_4
def dkwX6_readsClause_2 : List UInt8 := [16, 116, 160, 0, 8, 18, 139, 167, 0, 27, 27, 16, 109, 160, 0, 8, 18, 141, 167, 0, 16, 27, 16, 99]
abbrev dktX6_readsClause_2 : List UInt8 := dkwX6_readsClause_2 ++ dktX6_readsClause_3
def dkwX6_readsClause_1 : List UInt8 := [16, 102, 159, 0, 9, 42, 4, 181, 0, 77, 177, 42, 89, 180, 0, 68, 4, 96, 181, 0, 68, 42, 27]
abbrev dktX6_readsClause_1 : List UInt8 := dkwX6_readsClause_1 ++ dktX6_readsClause_2
def dkwX6_readsClause_0 : List UInt8 := [42, 182, 0, 81, 60, 27, 16, 116, 159, 0, 27, 27, 16, 109, 159, 0, 21, 27, 16, 99, 159, 0, 15, 27]
abbrev dktX6_readsClause_0 : List UInt8 := dkwX6_readsClause_0 ++ dktX6_readsClause_1
theorem dksX6_readsClause_0 : cX6_readsClause.data.toList.drop 0 = dktX6_readsClause_0 := by decide +kernel
theorem dksX6_readsClause_1 : cX6_readsClause.data.toList.drop 24 = dktX6_readsClause_1 := dk_seg dksX6_readsClause_0 24 rfl rfl
theorem dksX6_readsClause_2 : cX6_readsClause.data.toList.drop 47 = dktX6_readsClause_2 := dk_seg dksX6_readsClause_1 23 rfl rfl
theorem dksX6_readsClause_3 : cX6_readsClause.data.toList.drop 71 = dktX6_readsClause_3 := dk_seg dksX6_readsClause_2 24 rfl rfl
theorem dksX6_readsClause_4 : cX6_readsClause.data.toList.drop 95 = dktX6_readsClause_4 := dk_seg dksX6_readsClause_3 24 rfl rfl
theorem dksX6_readsClause_5 : cX6_readsClause.data.toList.drop 119 = dktX6_readsClause_5 := dk_seg dksX6_readsClause_4 24 rfl rfl
theorem dksX6_readsClause_6 : cX6_readsClause.data.toList.drop 143 = dktX6_readsClause_6 := dk_seg dksX6_readsClause_5 24 rfl rfl
theorem dksX6_readsClause_7 : cX6_readsClause.data.toList.drop 167 = dktX6_readsClause_7 := dk_seg dksX6_readsClause_6 24 rfl rfl
theorem dksX6_readsClause_8 : cX6_readsClause.data.toList.drop 191 = dktX6_readsClause_8 := dk_seg dksX6_readsClause_7 24 rfl rfl
theorem dksX6_readsClause_9 : cX6_readsClause.data.toList.drop 215 = dktX6_readsClause_9 := dk_seg dksX6_readsClause_8 24 rfl rfl
theorem dX6_readsClause_0 : decode cX6_readsClause 0 = .ok (.aload_n 0, 1) := dk_42 (dk_at dksX6_readsClause_0 0 rfl rfl)
theorem dX6_readsClause_1 : decode cX6_readsClause 1 = .ok (.invokevirtual 81, 3) := dk_182 0 81 (dk_at dksX6_readsClause_0 1 rfl rfl)
theorem dX6_readsClause_4 : decode cX6_readsClause 4 = .ok (.istore_n 1, 1) := dk_60 (dk_at dksX6_readsClause_0 4 rfl rfl)
theorem dX6_readsClause_5 : decode cX6_readsClause 5 = .ok (.iload_n 1, 1) := dk_27 (dk_at dksX6_readsClause_0 5 rfl rfl)
theorem dX6_readsClause_6 : decode cX6_readsClause 6 = .ok (.bipush 116, 2) := dk_16 116 (dk_at dksX6_readsClause_0 6 rfl rfl)
theorem dX6_readsClause_8 : decode cX6_readsClause 8 = .ok (.if_icmp .eq 27, 3) := dk_159 0 27 (dk_at dksX6_readsClause_0 8 rfl rfl)
theorem dX6_readsClause_11 : decode cX6_readsClause 11 = .ok (.iload_n 1, 1) := dk_27 (dk_at dksX6_readsClause_0 11 rfl rfl)
theorem dX6_readsClause_12 : decode cX6_readsClause 12 = .ok (.bipush 109, 2) := dk_16 109 (dk_at dksX6_readsClause_0 12 rfl rfl)
theorem dX6_readsClause_14 : decode cX6_readsClause 14 = .ok (.if_icmp .eq 21, 3) := dk_159 0 21 (dk_at dksX6_readsClause_0 14 rfl rfl)
theorem dX6_readsClause_17 : decode cX6_readsClause 17 = .ok (.iload_n 1, 1) := dk_27 (dk_at dksX6_readsClause_0 17 rfl rfl)
theorem dX6_readsClause_18 : decode cX6_readsClause 18 = .ok (.bipush 99, 2) := dk_16 99 (dk_at dksX6_readsClause_0 18 rfl rfl)
theorem dX6_readsClause_20 : decode cX6_readsClause 20 = .ok (.if_icmp .eq 15, 3) := dk_159 0 15 (dk_at dksX6_readsClause_0 20 rfl rfl)
theorem dX6_readsClause_23 : decode cX6_readsClause 23 = .ok (.iload_n 1, 1) := dk_27 (dk_at dksX6_readsClause_0 23 rfl rfl)
theorem dX6_readsClause_24 : decode cX6_readsClause 24 = .ok (.bipush 102, 2) := dk_16 102 (dk_at dksX6_readsClause_1 0 rfl rfl)
theorem dX6_readsClause_26 : decode cX6_readsClause 26 = .ok (.if_icmp .eq 9, 3) := dk_159 0 9 (dk_at dksX6_readsClause_1 2 rfl rfl)
theorem dX6_readsClause_29 : decode cX6_readsClause 29 = .ok (.aload_n 0, 1) := dk_42 (dk_at dksX6_readsClause_1 5 rfl rfl)
theorem dX6_readsClause_30 : decode cX6_readsClause 30 = .ok (.iconst 1, 1) := dk_4 (dk_at dksX6_readsClause_1 6 rfl rfl)
theorem dX6_readsClause_31 : decode cX6_readsClause 31 = .ok (.putfield 77, 3) := dk_181 0 77 (dk_at dksX6_readsClause_1 7 rfl rfl)
theorem dX6_readsClause_34 : decode cX6_readsClause 34 = .ok (.return_, 1) := dk_177 (dk_at dksX6_readsClause_1 10 rfl rfl)
theorem dX6_readsClause_35 : decode cX6_readsClause 35 = .ok (.aload_n 0, 1) := dk_42 (dk_at dksX6_readsClause_1 11 rfl rfl)
theorem dX6_readsClause_36 : decode cX6_readsClause 36 = .ok (.dup, 1) := dk_89 (dk_at dksX6_readsClause_1 12 rfl rfl)
theorem dX6_readsClause_37 : decode cX6_readsClause 37 = .ok (.getfield 68, 3) := dk_180 0 68 (dk_at dksX6_readsClause_1 13 rfl rfl)
theorem dX6_readsClause_40 : decode cX6_readsClause 40 = .ok (.iconst 1, 1) := dk_4 (dk_at dksX6_readsClause_1 16 rfl rfl)
theorem dX6_readsClause_41 : decode cX6_readsClause 41 = .ok (.iadd, 1) := dk_96 (dk_at dksX6_readsClause_1 17 rfl rfl)
theorem dX6_readsClause_42 : decode cX6_readsClause 42 = .ok (.putfield 68, 3) := dk_181 0 68 (dk_at dksX6_readsClause_1 18 rfl rfl)
theorem dX6_readsClause_45 : decode cX6_readsClause 45 = .ok (.aload_n 0, 1) := dk_42 (dk_at dksX6_readsClause_1 21 rfl rfl)
theorem dX6_readsClause_46 : decode cX6_readsClause 46 = .ok (.iload_n 1, 1) := dk_27 (dk_at dksX6_readsClause_1 22 rfl rfl)
theorem dX6_readsClause_47 : decode cX6_readsClause 47 = .ok (.bipush 116, 2) := dk_16 116 (dk_at dksX6_readsClause_2 0 rfl rfl)
theorem dX6_readsClause_49 : decode cX6_readsClause 49 = .ok (.if_icmp .ne 8, 3) := dk_160 0 8 (dk_at dksX6_readsClause_2 2 rfl rfl)
theorem dX6_readsClause_52 : decode cX6_readsClause 52 = .ok (.ldc 139, 2) := dk_18 139 (dk_at dksX6_readsClause_2 5 rfl rfl)
theorem dX6_readsClause_54 : decode cX6_readsClause 54 = .ok (.goto 27, 3) := dk_167 0 27 (dk_at dksX6_readsClause_2 7 rfl rfl)
theorem dX6_readsClause_57 : decode cX6_readsClause 57 = .ok (.iload_n 1, 1) := dk_27 (dk_at dksX6_readsClause_2 10 rfl rfl)
theorem dX6_readsClause_58 : decode cX6_readsClause 58 = .ok (.bipush 109, 2) := dk_16 109 (dk_at dksX6_readsClause_2 11 rfl rfl)
theorem dX6_readsClause_60 : decode cX6_readsClause 60 = .ok (.if_icmp .ne 8, 3) := dk_160 0 8 (dk_at dksX6_readsClause_2 13 rfl rfl)
theorem dX6_readsClause_63 : decode cX6_readsClause 63 = .ok (.ldc 141, 2) := dk_18 141 (dk_at dksX6_readsClause_2 16 rfl rfl)
theorem dX6_readsClause_65 : decode cX6_readsClause 65 = .ok (.goto 16, 3) := dk_167 0 16 (dk_at dksX6_readsClause_2 18 rfl rfl)
theorem dX6_readsClause_68 : decode cX6_readsClause 68 = .ok (.iload_n 1, 1) := dk_27 (dk_at dksX6_readsClause_2 21 rfl rfl)
theorem dX6_readsClause_69 : decode cX6_readsClause 69 = .ok (.bipush 99, 2) := dk_16 99 (dk_at dksX6_readsClause_2 22 rfl rfl)
theorem dX6_readsClause_71 : decode cX6_readsClause 71 = .ok (.if_icmp .ne 8, 3) := dk_160 0 8 (dk_at dksX6_readsClause_3 0 rfl rfl)
theorem dX6_readsClause_74 : decode cX6_readsClause 74 = .ok (.ldc 143, 2) := dk_18 143 (dk_at dksX6_readsClause_3 3 rfl rfl)
theorem dX6_readsClause_76 : decode cX6_readsClause 76 = .ok (.goto 5, 3) := dk_167 0 5 (dk_at dksX6_readsClause_3 5 rfl rfl)
theorem dX6_readsClause_79 : decode cX6_readsClause 79 = .ok (.ldc 145, 2) := dk_18 145 (dk_at dksX6_readsClause_3 8 rfl rfl)
theorem dX6_readsClause_81 : decode cX6_readsClause 81 = .ok (.invokevirtual 147, 3) := dk_182 0 147 (dk_at dksX6_readsClause_3 10 rfl rfl)
theorem dX6_readsClause_84 : decode cX6_readsClause 84 = .ok (.aload_n 0, 1) := dk_42 (dk_at dksX6_readsClause_3 13 rfl rfl)
theorem dX6_readsClause_85 : decode cX6_readsClause 85 = .ok (.invokevirtual 109, 3) := dk_182 0 109 (dk_at dksX6_readsClause_3 14 rfl rfl)
theorem dX6_readsClause_88 : decode cX6_readsClause 88 = .ok (.istore_n 2, 1) := dk_61 (dk_at dksX6_readsClause_3 17 rfl rfl)
theorem dX6_readsClause_89 : decode cX6_readsClause 89 = .ok (.iload_n 1, 1) := dk_27 (dk_at dksX6_readsClause_3 18 rfl rfl)
theorem dX6_readsClause_90 : decode cX6_readsClause 90 = .ok (.bipush 99, 2) := dk_16 99 (dk_at dksX6_readsClause_3 19 rfl rfl)
theorem dX6_readsClause_92 : decode cX6_readsClause 92 = .ok (.if_icmp .ne 9, 3) := dk_160 0 9 (dk_at dksX6_readsClause_3 21 rfl rfl)
theorem dX6_readsClause_95 : decode cX6_readsClause 95 = .ok (.aload_n 0, 1) := dk_42 (dk_at dksX6_readsClause_4 0 rfl rfl)
theorem dX6_readsClause_96 : decode cX6_readsClause 96 = .ok (.iload_n 2, 1) := dk_28 (dk_at dksX6_readsClause_4 1 rfl rfl)
theorem dX6_readsClause_97 : decode cX6_readsClause 97 = .ok (.putfield 151, 3) := dk_181 0 151 (dk_at dksX6_readsClause_4 2 rfl rfl)
theorem dX6_readsClause_100 : decode cX6_readsClause 100 = .ok (.return_, 1) := dk_177 (dk_at dksX6_readsClause_4 5 rfl rfl)
theorem dX6_readsClause_101 : decode cX6_readsClause 101 = .ok (.aload_n 0, 1) := dk_42 (dk_at dksX6_readsClause_4 6 rfl rfl)
theorem dX6_readsClause_102 : decode cX6_readsClause 102 = .ok (.bipush 32, 2) := dk_16 32 (dk_at dksX6_readsClause_4 7 rfl rfl)
theorem dX6_readsClause_104 : decode cX6_readsClause 104 = .ok (.invokevirtual 124, 3) := dk_182 0 124 (dk_at dksX6_readsClause_4 9 rfl rfl)
theorem dX6_readsClause_107 : decode cX6_readsClause 107 = .ok (.ifCond .ne 4, 3) := dk_154 0 4 (dk_at dksX6_readsClause_4 12 rfl rfl)
theorem dX6_readsClause_110 : decode cX6_readsClause 110 = .ok (.return_, 1) := dk_177 (dk_at dksX6_readsClause_4 15 rfl rfl)
theorem dX6_readsClause_111 : decode cX6_readsClause 111 = .ok (.aload_n 0, 1) := dk_42 (dk_at dksX6_readsClause_4 16 rfl rfl)
theorem dX6_readsClause_112 : decode cX6_readsClause 112 = .ok (.iload_n 1, 1) := dk_27 (dk_at dksX6_readsClause_4 17 rfl rfl)
theorem dX6_readsClause_113 : decode cX6_readsClause 113 = .ok (.bipush 102, 2) := dk_16 102 (dk_at dksX6_readsClause_4 18 rfl rfl)
theorem dX6_readsClause_115 : decode cX6_readsClause 115 = .ok (.if_icmp .ne 7, 3) := dk_160 0 7 (dk_at dksX6_readsClause_4 20 rfl rfl)
theorem dX6_readsClause_118 : decode cX6_readsClause 118 = .ok (.iconst 1, 1) := dk_4 (dk_at dksX6_readsClause_4 23 rfl rfl)
theorem dX6_readsClause_119 : decode cX6_readsClause 119 = .ok (.goto 4, 3) := dk_167 0 4 (dk_at dksX6_readsClause_5 0 rfl rfl)
theorem dX6_readsClause_122 : decode cX6_readsClause 122 = .ok (.iconst 0, 1) := dk_3 (dk_at dksX6_readsClause_5 3 rfl rfl)
theorem dX6_readsClause_123 : decode cX6_readsClause 123 = .ok (.putfield 96, 3) := dk_181 0 96 (dk_at dksX6_readsClause_5 4 rfl rfl)
theorem dX6_readsClause_126 : decode cX6_readsClause 126 = .ok (.aload_n 0, 1) := dk_42 (dk_at dksX6_readsClause_5 7 rfl rfl)
theorem dX6_readsClause_127 : decode cX6_readsClause 127 = .ok (.iconst 0, 1) := dk_3 (dk_at dksX6_readsClause_5 8 rfl rfl)
theorem dX6_readsClause_128 : decode cX6_readsClause 128 = .ok (.invokevirtual 121, 3) := dk_182 0 121 (dk_at dksX6_readsClause_5 9 rfl rfl)
theorem dX6_readsClause_131 : decode cX6_readsClause 131 = .ok (.istore_n 3, 1) := dk_62 (dk_at dksX6_readsClause_5 12 rfl rfl)
theorem dX6_readsClause_132 : decode cX6_readsClause 132 = .ok (.aload_n 0, 1) := dk_42 (dk_at dksX6_readsClause_5 13 rfl rfl)
theorem dX6_readsClause_133 : decode cX6_readsClause 133 = .ok (.dup, 1) := dk_89 (dk_at dksX6_readsClause_5 14 rfl rfl)
theorem dX6_readsClause_134 : decode cX6_readsClause 134 = .ok (.getfield 154, 3) := dk_180 0 154 (dk_at dksX6_readsClause_5 15 rfl rfl)
theorem dX6_readsClause_137 : decode cX6_readsClause 137 = .ok (.iload_n 1, 1) := dk_27 (dk_at dksX6_readsClause_5 18 rfl rfl)
theorem dX6_readsClause_138 : decode cX6_readsClause 138 = .ok (.bipush 116, 2) := dk_16 116 (dk_at dksX6_readsClause_5 19 rfl rfl)
theorem dX6_readsClause_140 : decode cX6_readsClause 140 = .ok (.if_icmp .ne 7, 3) := dk_160 0 7 (dk_at dksX6_readsClause_5 21 rfl rfl)
theorem dX6_readsClause_143 : decode cX6_readsClause 143 = .ok (.iconst 1, 1) := dk_4 (dk_at dksX6_readsClause_6 0 rfl rfl)
theorem dX6_readsClause_144 : decode cX6_readsClause 144 = .ok (.goto 4, 3) := dk_167 0 4 (dk_at dksX6_readsClause_6 1 rfl rfl)
theorem dX6_readsClause_147 : decode cX6_readsClause 147 = .ok (.iconst 0, 1) := dk_3 (dk_at dksX6_readsClause_6 4 rfl rfl)
theorem dX6_readsClause_148 : decode cX6_readsClause 148 = .ok (.iadd, 1) := dk_96 (dk_at dksX6_readsClause_6 5 rfl rfl)
theorem dX6_readsClause_149 : decode cX6_readsClause 149 = .ok (.putfield 154, 3) := dk_181 0 154 (dk_at dksX6_readsClause_6 6 rfl rfl)
theorem dX6_readsClause_152 : decode cX6_readsClause 152 = .ok (.aload_n 0, 1) := dk_42 (dk_at dksX6_readsClause_6 9 rfl rfl)
theorem dX6_readsClause_153 : decode cX6_readsClause 153 = .ok (.dup, 1) := dk_89 (dk_at dksX6_readsClause_6 10 rfl rfl)
theorem dX6_readsClause_154 : decode cX6_readsClause 154 = .ok (.getfield 157, 3) := dk_180 0 157 (dk_at dksX6_readsClause_6 11 rfl rfl)
theorem dX6_readsClause_157 : decode cX6_readsClause 157 = .ok (.iload_n 1, 1) := dk_27 (dk_at dksX6_readsClause_6 14 rfl rfl)
theorem dX6_readsClause_158 : decode cX6_readsClause 158 = .ok (.bipush 116, 2) := dk_16 116 (dk_at dksX6_readsClause_6 15 rfl rfl)
theorem dX6_readsClause_160 : decode cX6_readsClause 160 = .ok (.if_icmp .ne 11, 3) := dk_160 0 11 (dk_at dksX6_readsClause_6 17 rfl rfl)
theorem dX6_readsClause_163 : decode cX6_readsClause 163 = .ok (.iload_n 3, 1) := dk_29 (dk_at dksX6_readsClause_6 20 rfl rfl)
theorem dX6_readsClause_164 : decode cX6_readsClause 164 = .ok (.ifCond .eq 7, 3) := dk_153 0 7 (dk_at dksX6_readsClause_6 21 rfl rfl)
theorem dX6_readsClause_167 : decode cX6_readsClause 167 = .ok (.iload_n 2, 1) := dk_28 (dk_at dksX6_readsClause_7 0 rfl rfl)
theorem dX6_readsClause_168 : decode cX6_readsClause 168 = .ok (.goto 4, 3) := dk_167 0 4 (dk_at dksX6_readsClause_7 1 rfl rfl)
theorem dX6_readsClause_171 : decode cX6_readsClause 171 = .ok (.iconst 0, 1) := dk_3 (dk_at dksX6_readsClause_7 4 rfl rfl)
theorem dX6_readsClause_172 : decode cX6_readsClause 172 = .ok (.iadd, 1) := dk_96 (dk_at dksX6_readsClause_7 5 rfl rfl)
theorem dX6_readsClause_173 : decode cX6_readsClause 173 = .ok (.putfield 157, 3) := dk_181 0 157 (dk_at dksX6_readsClause_7 6 rfl rfl)
theorem dX6_readsClause_176 : decode cX6_readsClause 176 = .ok (.aload_n 0, 1) := dk_42 (dk_at dksX6_readsClause_7 9 rfl rfl)
theorem dX6_readsClause_177 : decode cX6_readsClause 177 = .ok (.dup, 1) := dk_89 (dk_at dksX6_readsClause_7 10 rfl rfl)
theorem dX6_readsClause_178 : decode cX6_readsClause 178 = .ok (.getfield 160, 3) := dk_180 0 160 (dk_at dksX6_readsClause_7 11 rfl rfl)
theorem dX6_readsClause_181 : decode cX6_readsClause 181 = .ok (.iload_n 1, 1) := dk_27 (dk_at dksX6_readsClause_7 14 rfl rfl)
theorem dX6_readsClause_182 : decode cX6_readsClause 182 = .ok (.bipush 109, 2) := dk_16 109 (dk_at dksX6_readsClause_7 15 rfl rfl)
theorem dX6_readsClause_184 : decode cX6_readsClause 184 = .ok (.if_icmp .ne 11, 3) := dk_160 0 11 (dk_at dksX6_readsClause_7 17 rfl rfl)
theorem dX6_readsClause_187 : decode cX6_readsClause 187 = .ok (.iload_n 3, 1) := dk_29 (dk_at dksX6_readsClause_7 20 rfl rfl)
theorem dX6_readsClause_188 : decode cX6_readsClause 188 = .ok (.ifCond .eq 7, 3) := dk_153 0 7 (dk_at dksX6_readsClause_7 21 rfl rfl)
theorem dX6_readsClause_191 : decode cX6_readsClause 191 = .ok (.iload_n 2, 1) := dk_28 (dk_at dksX6_readsClause_8 0 rfl rfl)
theorem dX6_readsClause_192 : decode cX6_readsClause 192 = .ok (.goto 4, 3) := dk_167 0 4 (dk_at dksX6_readsClause_8 1 rfl rfl)
theorem dX6_readsClause_195 : decode cX6_readsClause 195 = .ok (.iconst 0, 1) := dk_3 (dk_at dksX6_readsClause_8 4 rfl rfl)
theorem dX6_readsClause_196 : decode cX6_readsClause 196 = .ok (.iadd, 1) := dk_96 (dk_at dksX6_readsClause_8 5 rfl rfl)
theorem dX6_readsClause_197 : decode cX6_readsClause 197 = .ok (.putfield 160, 3) := dk_181 0 160 (dk_at dksX6_readsClause_8 6 rfl rfl)
theorem dX6_readsClause_200 : decode cX6_readsClause 200 = .ok (.aload_n 0, 1) := dk_42 (dk_at dksX6_readsClause_8 9 rfl rfl)
theorem dX6_readsClause_201 : decode cX6_readsClause 201 = .ok (.dup, 1) := dk_89 (dk_at dksX6_readsClause_8 10 rfl rfl)
theorem dX6_readsClause_202 : decode cX6_readsClause 202 = .ok (.getfield 163, 3) := dk_180 0 163 (dk_at dksX6_readsClause_8 11 rfl rfl)
theorem dX6_readsClause_205 : decode cX6_readsClause 205 = .ok (.iload_n 1, 1) := dk_27 (dk_at dksX6_readsClause_8 14 rfl rfl)
theorem dX6_readsClause_206 : decode cX6_readsClause 206 = .ok (.bipush 102, 2) := dk_16 102 (dk_at dksX6_readsClause_8 15 rfl rfl)
theorem dX6_readsClause_208 : decode cX6_readsClause 208 = .ok (.if_icmp .ne 11, 3) := dk_160 0 11 (dk_at dksX6_readsClause_8 17 rfl rfl)
theorem dX6_readsClause_211 : decode cX6_readsClause 211 = .ok (.iload_n 3, 1) := dk_29 (dk_at dksX6_readsClause_8 20 rfl rfl)
theorem dX6_readsClause_212 : decode cX6_readsClause 212 = .ok (.ifCond .eq 7, 3) := dk_153 0 7 (dk_at dksX6_readsClause_8 21 rfl rfl)
theorem dX6_readsClause_215 : decode cX6_readsClause 215 = .ok (.iload_n 2, 1) := dk_28 (dk_at dksX6_readsClause_9 0 rfl rfl)
theorem dX6_readsClause_216 : decode cX6_readsClause 216 = .ok (.goto 4, 3) := dk_167 0 4 (dk_at dksX6_readsClause_9 1 rfl rfl)
theorem dX6_readsClause_219 : decode cX6_readsClause 219 = .ok (.iconst 0, 1) := dk_3 (dk_at dksX6_readsClause_9 4 rfl rfl)
theorem dX6_readsClause_220 : decode cX6_readsClause 220 = .ok (.iadd, 1) := dk_96 (dk_at dksX6_readsClause_9 5 rfl rfl)
theorem dX6_readsClause_221 : decode cX6_readsClause 221 = .ok (.putfield 163, 3) := dk_181 0 163 (dk_at dksX6_readsClause_9 6 rfl rfl)
theorem dX6_readsClause_224 : decode cX6_readsClause 224 = .ok (.return_, 1) := dk_177 (dk_at dksX6_readsClause_9 9 rfl rfl)
theorem cf_readsClause : xV yX6_readsClause RX6 cX6_readsClause 4 none 0 := ⟨q1524, qs44, q96, q1525, ⟨rfl, by decide +kernel, by decide +kernel, by decide +kernel⟩, by decide⟩
abbrev cX6_reads : ByteArray := prog_23_method_26_code
def yX6_reads : MethodName := ⟨RX6, "reads", "(III)V"⟩
def dkwX6_reads_6 : List UInt8 := [167, 255, 198]
abbrev dktX6_reads_6 : List UInt8 := dkwX6_reads_6 ++ []
def dkwX6_reads_5 : List UInt8 := [159, 0, 9, 42, 4, 181, 0, 77, 177, 42, 89, 180, 0, 68, 4, 96, 181, 0, 68, 132, 4, 1]
abbrev dktX6_reads_5 : List UInt8 := dkwX6_reads_5 ++ dktX6_reads_6
def dkwX6_reads_4 : List UInt8 := [180, 0, 68, 42, 180, 0, 71, 160, 0, 4, 177, 21, 4, 16, 10, 159, 0, 12, 42, 182, 0, 81, 16, 59]
abbrev dktX6_reads_4 : List UInt8 := dkwX6_reads_4 ++ dktX6_reads_5
def dkwX6_reads_3 : List UInt8 := [181, 0, 163, 27, 156, 0, 4, 177, 4, 54, 4, 42, 182, 0, 166, 42, 180, 0, 77, 154, 0, 14, 42]
abbrev dktX6_reads_3 : List UInt8 := dkwX6_reads_3 ++ dktX6_reads_4
def dkwX6_reads_2 : List UInt8 := [3, 181, 0, 157, 42, 3, 181, 0, 154, 42, 3, 181, 0, 160, 42, 16, 50, 181, 0, 151, 42, 4]
abbrev dktX6_reads_2 : List UInt8 := dkwX6_reads_2 ++ dktX6_reads_3
def dkwX6_reads_1 : List UInt8 := [181, 0, 71, 42, 3, 181, 0, 68, 42, 28, 181, 0, 89, 42, 29, 181, 0, 99, 42, 3, 181, 0, 77, 42]
abbrev dktX6_reads_1 : List UInt8 := dkwX6_reads_1 ++ dktX6_reads_2
def dkwX6_reads_0 : List UInt8 := [42, 16, 100, 27, 104, 181, 0, 74, 42, 27, 156, 0, 7, 3, 167, 0, 9, 42, 180, 0, 27, 27, 46]
abbrev dktX6_reads_0 : List UInt8 := dkwX6_reads_0 ++ dktX6_reads_1
theorem dksX6_reads_0 : cX6_reads.data.toList.drop 0 = dktX6_reads_0 := by decide +kernel
theorem dksX6_reads_1 : cX6_reads.data.toList.drop 23 = dktX6_reads_1 := dk_seg dksX6_reads_0 23 rfl rfl
theorem dksX6_reads_2 : cX6_reads.data.toList.drop 47 = dktX6_reads_2 := dk_seg dksX6_reads_1 24 rfl rfl
theorem dksX6_reads_3 : cX6_reads.data.toList.drop 69 = dktX6_reads_3 := dk_seg dksX6_reads_2 22 rfl rfl
theorem dksX6_reads_4 : cX6_reads.data.toList.drop 92 = dktX6_reads_4 := dk_seg dksX6_reads_3 23 rfl rfl
theorem dksX6_reads_5 : cX6_reads.data.toList.drop 116 = dktX6_reads_5 := dk_seg dksX6_reads_4 24 rfl rfl
theorem dksX6_reads_6 : cX6_reads.data.toList.drop 138 = dktX6_reads_6 := dk_seg dksX6_reads_5 22 rfl rfl
theorem dX6_reads_0 : decode cX6_reads 0 = .ok (.aload_n 0, 1) := dk_42 (dk_at dksX6_reads_0 0 rfl rfl)
theorem dX6_reads_1 : decode cX6_reads 1 = .ok (.bipush 100, 2) := dk_16 100 (dk_at dksX6_reads_0 1 rfl rfl)
theorem dX6_reads_3 : decode cX6_reads 3 = .ok (.iload_n 1, 1) := dk_27 (dk_at dksX6_reads_0 3 rfl rfl)
theorem dX6_reads_4 : decode cX6_reads 4 = .ok (.imul, 1) := dk_104 (dk_at dksX6_reads_0 4 rfl rfl)
theorem dX6_reads_5 : decode cX6_reads 5 = .ok (.putfield 74, 3) := dk_181 0 74 (dk_at dksX6_reads_0 5 rfl rfl)
theorem dX6_reads_8 : decode cX6_reads 8 = .ok (.aload_n 0, 1) := dk_42 (dk_at dksX6_reads_0 8 rfl rfl)
theorem dX6_reads_9 : decode cX6_reads 9 = .ok (.iload_n 1, 1) := dk_27 (dk_at dksX6_reads_0 9 rfl rfl)
theorem dX6_reads_10 : decode cX6_reads 10 = .ok (.ifCond .ge 7, 3) := dk_156 0 7 (dk_at dksX6_reads_0 10 rfl rfl)
theorem dX6_reads_13 : decode cX6_reads 13 = .ok (.iconst 0, 1) := dk_3 (dk_at dksX6_reads_0 13 rfl rfl)
theorem dX6_reads_14 : decode cX6_reads 14 = .ok (.goto 9, 3) := dk_167 0 9 (dk_at dksX6_reads_0 14 rfl rfl)
theorem dX6_reads_17 : decode cX6_reads 17 = .ok (.aload_n 0, 1) := dk_42 (dk_at dksX6_reads_0 17 rfl rfl)
theorem dX6_reads_18 : decode cX6_reads 18 = .ok (.getfield 27, 3) := dk_180 0 27 (dk_at dksX6_reads_0 18 rfl rfl)
theorem dX6_reads_21 : decode cX6_reads 21 = .ok (.iload_n 1, 1) := dk_27 (dk_at dksX6_reads_0 21 rfl rfl)
theorem dX6_reads_22 : decode cX6_reads 22 = .ok (.iaload, 1) := dk_46 (dk_at dksX6_reads_0 22 rfl rfl)
theorem dX6_reads_23 : decode cX6_reads 23 = .ok (.putfield 71, 3) := dk_181 0 71 (dk_at dksX6_reads_1 0 rfl rfl)
theorem dX6_reads_26 : decode cX6_reads 26 = .ok (.aload_n 0, 1) := dk_42 (dk_at dksX6_reads_1 3 rfl rfl)
theorem dX6_reads_27 : decode cX6_reads 27 = .ok (.iconst 0, 1) := dk_3 (dk_at dksX6_reads_1 4 rfl rfl)
theorem dX6_reads_28 : decode cX6_reads 28 = .ok (.putfield 68, 3) := dk_181 0 68 (dk_at dksX6_reads_1 5 rfl rfl)
theorem dX6_reads_31 : decode cX6_reads 31 = .ok (.aload_n 0, 1) := dk_42 (dk_at dksX6_reads_1 8 rfl rfl)
theorem dX6_reads_32 : decode cX6_reads 32 = .ok (.iload_n 2, 1) := dk_28 (dk_at dksX6_reads_1 9 rfl rfl)
theorem dX6_reads_33 : decode cX6_reads 33 = .ok (.putfield 89, 3) := dk_181 0 89 (dk_at dksX6_reads_1 10 rfl rfl)
theorem dX6_reads_36 : decode cX6_reads 36 = .ok (.aload_n 0, 1) := dk_42 (dk_at dksX6_reads_1 13 rfl rfl)
theorem dX6_reads_37 : decode cX6_reads 37 = .ok (.iload_n 3, 1) := dk_29 (dk_at dksX6_reads_1 14 rfl rfl)
theorem dX6_reads_38 : decode cX6_reads 38 = .ok (.putfield 99, 3) := dk_181 0 99 (dk_at dksX6_reads_1 15 rfl rfl)
theorem dX6_reads_41 : decode cX6_reads 41 = .ok (.aload_n 0, 1) := dk_42 (dk_at dksX6_reads_1 18 rfl rfl)
theorem dX6_reads_42 : decode cX6_reads 42 = .ok (.iconst 0, 1) := dk_3 (dk_at dksX6_reads_1 19 rfl rfl)
theorem dX6_reads_43 : decode cX6_reads 43 = .ok (.putfield 77, 3) := dk_181 0 77 (dk_at dksX6_reads_1 20 rfl rfl)
theorem dX6_reads_46 : decode cX6_reads 46 = .ok (.aload_n 0, 1) := dk_42 (dk_at dksX6_reads_1 23 rfl rfl)
theorem dX6_reads_47 : decode cX6_reads 47 = .ok (.iconst 0, 1) := dk_3 (dk_at dksX6_reads_2 0 rfl rfl)
theorem dX6_reads_48 : decode cX6_reads 48 = .ok (.putfield 157, 3) := dk_181 0 157 (dk_at dksX6_reads_2 1 rfl rfl)
theorem dX6_reads_51 : decode cX6_reads 51 = .ok (.aload_n 0, 1) := dk_42 (dk_at dksX6_reads_2 4 rfl rfl)
theorem dX6_reads_52 : decode cX6_reads 52 = .ok (.iconst 0, 1) := dk_3 (dk_at dksX6_reads_2 5 rfl rfl)
theorem dX6_reads_53 : decode cX6_reads 53 = .ok (.putfield 154, 3) := dk_181 0 154 (dk_at dksX6_reads_2 6 rfl rfl)
theorem dX6_reads_56 : decode cX6_reads 56 = .ok (.aload_n 0, 1) := dk_42 (dk_at dksX6_reads_2 9 rfl rfl)
theorem dX6_reads_57 : decode cX6_reads 57 = .ok (.iconst 0, 1) := dk_3 (dk_at dksX6_reads_2 10 rfl rfl)
theorem dX6_reads_58 : decode cX6_reads 58 = .ok (.putfield 160, 3) := dk_181 0 160 (dk_at dksX6_reads_2 11 rfl rfl)
theorem dX6_reads_61 : decode cX6_reads 61 = .ok (.aload_n 0, 1) := dk_42 (dk_at dksX6_reads_2 14 rfl rfl)
theorem dX6_reads_62 : decode cX6_reads 62 = .ok (.bipush 50, 2) := dk_16 50 (dk_at dksX6_reads_2 15 rfl rfl)
theorem dX6_reads_64 : decode cX6_reads 64 = .ok (.putfield 151, 3) := dk_181 0 151 (dk_at dksX6_reads_2 17 rfl rfl)
theorem dX6_reads_67 : decode cX6_reads 67 = .ok (.aload_n 0, 1) := dk_42 (dk_at dksX6_reads_2 20 rfl rfl)
theorem dX6_reads_68 : decode cX6_reads 68 = .ok (.iconst 1, 1) := dk_4 (dk_at dksX6_reads_2 21 rfl rfl)
theorem dX6_reads_69 : decode cX6_reads 69 = .ok (.putfield 163, 3) := dk_181 0 163 (dk_at dksX6_reads_3 0 rfl rfl)
theorem dX6_reads_72 : decode cX6_reads 72 = .ok (.iload_n 1, 1) := dk_27 (dk_at dksX6_reads_3 3 rfl rfl)
theorem dX6_reads_73 : decode cX6_reads 73 = .ok (.ifCond .ge 4, 3) := dk_156 0 4 (dk_at dksX6_reads_3 4 rfl rfl)
theorem dX6_reads_76 : decode cX6_reads 76 = .ok (.return_, 1) := dk_177 (dk_at dksX6_reads_3 7 rfl rfl)
theorem dX6_reads_77 : decode cX6_reads 77 = .ok (.iconst 1, 1) := dk_4 (dk_at dksX6_reads_3 8 rfl rfl)
theorem dX6_reads_78 : decode cX6_reads 78 = .ok (.istore 4, 2) := dk_54 4 (dk_at dksX6_reads_3 9 rfl rfl)
theorem dX6_reads_80 : decode cX6_reads 80 = .ok (.aload_n 0, 1) := dk_42 (dk_at dksX6_reads_3 11 rfl rfl)
theorem dX6_reads_81 : decode cX6_reads 81 = .ok (.invokevirtual 166, 3) := dk_182 0 166 (dk_at dksX6_reads_3 12 rfl rfl)
theorem dX6_reads_84 : decode cX6_reads 84 = .ok (.aload_n 0, 1) := dk_42 (dk_at dksX6_reads_3 15 rfl rfl)
theorem dX6_reads_85 : decode cX6_reads 85 = .ok (.getfield 77, 3) := dk_180 0 77 (dk_at dksX6_reads_3 16 rfl rfl)
theorem dX6_reads_88 : decode cX6_reads 88 = .ok (.ifCond .ne 14, 3) := dk_154 0 14 (dk_at dksX6_reads_3 19 rfl rfl)
theorem dX6_reads_91 : decode cX6_reads 91 = .ok (.aload_n 0, 1) := dk_42 (dk_at dksX6_reads_3 22 rfl rfl)
theorem dX6_reads_92 : decode cX6_reads 92 = .ok (.getfield 68, 3) := dk_180 0 68 (dk_at dksX6_reads_4 0 rfl rfl)
theorem dX6_reads_95 : decode cX6_reads 95 = .ok (.aload_n 0, 1) := dk_42 (dk_at dksX6_reads_4 3 rfl rfl)
theorem dX6_reads_96 : decode cX6_reads 96 = .ok (.getfield 71, 3) := dk_180 0 71 (dk_at dksX6_reads_4 4 rfl rfl)
theorem dX6_reads_99 : decode cX6_reads 99 = .ok (.if_icmp .ne 4, 3) := dk_160 0 4 (dk_at dksX6_reads_4 7 rfl rfl)
theorem dX6_reads_102 : decode cX6_reads 102 = .ok (.return_, 1) := dk_177 (dk_at dksX6_reads_4 10 rfl rfl)
theorem dX6_reads_103 : decode cX6_reads 103 = .ok (.iload 4, 2) := dk_21 4 (dk_at dksX6_reads_4 11 rfl rfl)
theorem dX6_reads_105 : decode cX6_reads 105 = .ok (.bipush 10, 2) := dk_16 10 (dk_at dksX6_reads_4 13 rfl rfl)
theorem dX6_reads_107 : decode cX6_reads 107 = .ok (.if_icmp .eq 12, 3) := dk_159 0 12 (dk_at dksX6_reads_4 15 rfl rfl)
theorem dX6_reads_110 : decode cX6_reads 110 = .ok (.aload_n 0, 1) := dk_42 (dk_at dksX6_reads_4 18 rfl rfl)
theorem dX6_reads_111 : decode cX6_reads 111 = .ok (.invokevirtual 81, 3) := dk_182 0 81 (dk_at dksX6_reads_4 19 rfl rfl)
theorem dX6_reads_114 : decode cX6_reads 114 = .ok (.bipush 59, 2) := dk_16 59 (dk_at dksX6_reads_4 22 rfl rfl)
theorem dX6_reads_116 : decode cX6_reads 116 = .ok (.if_icmp .eq 9, 3) := dk_159 0 9 (dk_at dksX6_reads_5 0 rfl rfl)
theorem dX6_reads_119 : decode cX6_reads 119 = .ok (.aload_n 0, 1) := dk_42 (dk_at dksX6_reads_5 3 rfl rfl)
theorem dX6_reads_120 : decode cX6_reads 120 = .ok (.iconst 1, 1) := dk_4 (dk_at dksX6_reads_5 4 rfl rfl)
theorem dX6_reads_121 : decode cX6_reads 121 = .ok (.putfield 77, 3) := dk_181 0 77 (dk_at dksX6_reads_5 5 rfl rfl)
theorem dX6_reads_124 : decode cX6_reads 124 = .ok (.return_, 1) := dk_177 (dk_at dksX6_reads_5 8 rfl rfl)
theorem dX6_reads_125 : decode cX6_reads 125 = .ok (.aload_n 0, 1) := dk_42 (dk_at dksX6_reads_5 9 rfl rfl)
theorem dX6_reads_126 : decode cX6_reads 126 = .ok (.dup, 1) := dk_89 (dk_at dksX6_reads_5 10 rfl rfl)
theorem dX6_reads_127 : decode cX6_reads 127 = .ok (.getfield 68, 3) := dk_180 0 68 (dk_at dksX6_reads_5 11 rfl rfl)
theorem dX6_reads_130 : decode cX6_reads 130 = .ok (.iconst 1, 1) := dk_4 (dk_at dksX6_reads_5 14 rfl rfl)
theorem dX6_reads_131 : decode cX6_reads 131 = .ok (.iadd, 1) := dk_96 (dk_at dksX6_reads_5 15 rfl rfl)
theorem dX6_reads_132 : decode cX6_reads 132 = .ok (.putfield 68, 3) := dk_181 0 68 (dk_at dksX6_reads_5 16 rfl rfl)
theorem dX6_reads_135 : decode cX6_reads 135 = .ok (.iinc 4 1, 3) := dk_132 4 1 (dk_at dksX6_reads_5 19 rfl rfl)
theorem dX6_reads_138 : decode cX6_reads 138 = .ok (.goto (-58), 3) := dk_167 255 198 (dk_at dksX6_reads_6 0 rfl rfl)
theorem cf_reads : xV yX6_reads RX6 cX6_reads 5 none 3 := ⟨q1520, qs43, q96, q1521, ⟨rfl, by decide +kernel, by decide +kernel, by decide +kernel⟩, by decide⟩
abbrev cX6_readsNow : ByteArray := prog_23_method_27_code
def yX6_readsNow : MethodName := ⟨RX6, "readsNow", "(II)V"⟩
def dkwX6_readsNow_0 : List UInt8 := [42, 42, 180, 0, 11, 16, 6, 46, 4, 100, 27, 28, 182, 0, 169, 177]
abbrev dktX6_readsNow_0 : List UInt8 := dkwX6_readsNow_0 ++ []
theorem dksX6_readsNow_0 : cX6_readsNow.data.toList.drop 0 = dktX6_readsNow_0 := by decide +kernel
theorem dX6_readsNow_0 : decode cX6_readsNow 0 = .ok (.aload_n 0, 1) := dk_42 (dk_at dksX6_readsNow_0 0 rfl rfl)
theorem dX6_readsNow_1 : decode cX6_readsNow 1 = .ok (.aload_n 0, 1) := dk_42 (dk_at dksX6_readsNow_0 1 rfl rfl)
theorem dX6_readsNow_2 : decode cX6_readsNow 2 = .ok (.getfield 11, 3) := dk_180 0 11 (dk_at dksX6_readsNow_0 2 rfl rfl)
theorem dX6_readsNow_5 : decode cX6_readsNow 5 = .ok (.bipush 6, 2) := dk_16 6 (dk_at dksX6_readsNow_0 5 rfl rfl)
theorem dX6_readsNow_7 : decode cX6_readsNow 7 = .ok (.iaload, 1) := dk_46 (dk_at dksX6_readsNow_0 7 rfl rfl)
theorem dX6_readsNow_8 : decode cX6_readsNow 8 = .ok (.iconst 1, 1) := dk_4 (dk_at dksX6_readsNow_0 8 rfl rfl)
theorem dX6_readsNow_9 : decode cX6_readsNow 9 = .ok (.isub, 1) := dk_100 (dk_at dksX6_readsNow_0 9 rfl rfl)
theorem dX6_readsNow_10 : decode cX6_readsNow 10 = .ok (.iload_n 1, 1) := dk_27 (dk_at dksX6_readsNow_0 10 rfl rfl)
theorem dX6_readsNow_11 : decode cX6_readsNow 11 = .ok (.iload_n 2, 1) := dk_28 (dk_at dksX6_readsNow_0 11 rfl rfl)
theorem dX6_readsNow_12 : decode cX6_readsNow 12 = .ok (.invokevirtual 169, 3) := dk_182 0 169 (dk_at dksX6_readsNow_0 12 rfl rfl)
theorem dX6_readsNow_15 : decode cX6_readsNow 15 = .ok (.return_, 1) := dk_177 (dk_at dksX6_readsNow_0 15 rfl rfl)
theorem cf_readsNow : xV yX6_readsNow RX6 cX6_readsNow 3 none 2 := ⟨q1612, qs60, q96, q1613, ⟨rfl, by decide +kernel, by decide +kernel, by decide +kernel⟩, by decide⟩
abbrev cX6_kiln : ByteArray := prog_23_method_28_code
def yX6_kiln : MethodName := ⟨RX6, "kiln", "()I"⟩
def dkwX6_kiln_5 : List UInt8 := [4, 100, 172]
abbrev dktX6_kiln_5 : List UInt8 := dkwX6_kiln_5 ++ []
def dkwX6_kiln_4 : List UInt8 := [89, 180, 0, 173, 4, 96, 181, 0, 173, 42, 180, 0, 11, 16, 6, 42, 180, 0, 173, 79, 42, 180, 0, 173]
abbrev dktX6_kiln_4 : List UInt8 := dkwX6_kiln_4 ++ dktX6_kiln_5
def dkwX6_kiln_3 : List UInt8 := [180, 0, 173, 3, 3, 182, 0, 169, 42, 180, 0, 77, 153, 0, 11, 16, 246, 42, 180, 0, 68, 100, 172, 42]
abbrev dktX6_kiln_3 : List UInt8 := dkwX6_kiln_3 ++ dktX6_kiln_4
def dkwX6_kiln_2 : List UInt8 := [167, 255, 225, 42, 180, 0, 27, 42, 180, 0, 173, 42, 180, 0, 64, 79, 42, 3, 181, 0, 64, 42, 42]
abbrev dktX6_kiln_2 : List UInt8 := dkwX6_kiln_2 ++ dktX6_kiln_3
def dkwX6_kiln_1 : List UInt8 := [180, 0, 24, 16, 100, 42, 180, 0, 173, 104, 27, 96, 42, 180, 0, 21, 27, 46, 79, 132, 1, 1]
abbrev dktX6_kiln_1 : List UInt8 := dkwX6_kiln_1 ++ dktX6_kiln_2
def dkwX6_kiln_0 : List UInt8 := [42, 180, 0, 173, 16, 6, 160, 0, 6, 16, 252, 172, 3, 60, 27, 42, 180, 0, 64, 162, 0, 29, 42]
abbrev dktX6_kiln_0 : List UInt8 := dkwX6_kiln_0 ++ dktX6_kiln_1
theorem dksX6_kiln_0 : cX6_kiln.data.toList.drop 0 = dktX6_kiln_0 := by decide +kernel
theorem dksX6_kiln_1 : cX6_kiln.data.toList.drop 23 = dktX6_kiln_1 := dk_seg dksX6_kiln_0 23 rfl rfl
theorem dksX6_kiln_2 : cX6_kiln.data.toList.drop 45 = dktX6_kiln_2 := dk_seg dksX6_kiln_1 22 rfl rfl
theorem dksX6_kiln_3 : cX6_kiln.data.toList.drop 68 = dktX6_kiln_3 := dk_seg dksX6_kiln_2 23 rfl rfl
theorem dksX6_kiln_4 : cX6_kiln.data.toList.drop 92 = dktX6_kiln_4 := dk_seg dksX6_kiln_3 24 rfl rfl
theorem dksX6_kiln_5 : cX6_kiln.data.toList.drop 116 = dktX6_kiln_5 := dk_seg dksX6_kiln_4 24 rfl rfl
theorem dX6_kiln_0 : decode cX6_kiln 0 = .ok (.aload_n 0, 1) := dk_42 (dk_at dksX6_kiln_0 0 rfl rfl)
theorem dX6_kiln_1 : decode cX6_kiln 1 = .ok (.getfield 173, 3) := dk_180 0 173 (dk_at dksX6_kiln_0 1 rfl rfl)
theorem dX6_kiln_4 : decode cX6_kiln 4 = .ok (.bipush 6, 2) := dk_16 6 (dk_at dksX6_kiln_0 4 rfl rfl)
theorem dX6_kiln_6 : decode cX6_kiln 6 = .ok (.if_icmp .ne 6, 3) := dk_160 0 6 (dk_at dksX6_kiln_0 6 rfl rfl)
theorem dX6_kiln_9 : decode cX6_kiln 9 = .ok (.bipush (-4), 2) := dk_16 252 (dk_at dksX6_kiln_0 9 rfl rfl)
theorem dX6_kiln_11 : decode cX6_kiln 11 = .ok (.ireturn, 1) := dk_172 (dk_at dksX6_kiln_0 11 rfl rfl)
theorem dX6_kiln_12 : decode cX6_kiln 12 = .ok (.iconst 0, 1) := dk_3 (dk_at dksX6_kiln_0 12 rfl rfl)
theorem dX6_kiln_13 : decode cX6_kiln 13 = .ok (.istore_n 1, 1) := dk_60 (dk_at dksX6_kiln_0 13 rfl rfl)
theorem dX6_kiln_14 : decode cX6_kiln 14 = .ok (.iload_n 1, 1) := dk_27 (dk_at dksX6_kiln_0 14 rfl rfl)
theorem dX6_kiln_15 : decode cX6_kiln 15 = .ok (.aload_n 0, 1) := dk_42 (dk_at dksX6_kiln_0 15 rfl rfl)
theorem dX6_kiln_16 : decode cX6_kiln 16 = .ok (.getfield 64, 3) := dk_180 0 64 (dk_at dksX6_kiln_0 16 rfl rfl)
theorem dX6_kiln_19 : decode cX6_kiln 19 = .ok (.if_icmp .ge 29, 3) := dk_162 0 29 (dk_at dksX6_kiln_0 19 rfl rfl)
theorem dX6_kiln_22 : decode cX6_kiln 22 = .ok (.aload_n 0, 1) := dk_42 (dk_at dksX6_kiln_0 22 rfl rfl)
theorem dX6_kiln_23 : decode cX6_kiln 23 = .ok (.getfield 24, 3) := dk_180 0 24 (dk_at dksX6_kiln_1 0 rfl rfl)
theorem dX6_kiln_26 : decode cX6_kiln 26 = .ok (.bipush 100, 2) := dk_16 100 (dk_at dksX6_kiln_1 3 rfl rfl)
theorem dX6_kiln_28 : decode cX6_kiln 28 = .ok (.aload_n 0, 1) := dk_42 (dk_at dksX6_kiln_1 5 rfl rfl)
theorem dX6_kiln_29 : decode cX6_kiln 29 = .ok (.getfield 173, 3) := dk_180 0 173 (dk_at dksX6_kiln_1 6 rfl rfl)
theorem dX6_kiln_32 : decode cX6_kiln 32 = .ok (.imul, 1) := dk_104 (dk_at dksX6_kiln_1 9 rfl rfl)
theorem dX6_kiln_33 : decode cX6_kiln 33 = .ok (.iload_n 1, 1) := dk_27 (dk_at dksX6_kiln_1 10 rfl rfl)
theorem dX6_kiln_34 : decode cX6_kiln 34 = .ok (.iadd, 1) := dk_96 (dk_at dksX6_kiln_1 11 rfl rfl)
theorem dX6_kiln_35 : decode cX6_kiln 35 = .ok (.aload_n 0, 1) := dk_42 (dk_at dksX6_kiln_1 12 rfl rfl)
theorem dX6_kiln_36 : decode cX6_kiln 36 = .ok (.getfield 21, 3) := dk_180 0 21 (dk_at dksX6_kiln_1 13 rfl rfl)
theorem dX6_kiln_39 : decode cX6_kiln 39 = .ok (.iload_n 1, 1) := dk_27 (dk_at dksX6_kiln_1 16 rfl rfl)
theorem dX6_kiln_40 : decode cX6_kiln 40 = .ok (.iaload, 1) := dk_46 (dk_at dksX6_kiln_1 17 rfl rfl)
theorem dX6_kiln_41 : decode cX6_kiln 41 = .ok (.iastore, 1) := dk_79 (dk_at dksX6_kiln_1 18 rfl rfl)
theorem dX6_kiln_42 : decode cX6_kiln 42 = .ok (.iinc 1 1, 3) := dk_132 1 1 (dk_at dksX6_kiln_1 19 rfl rfl)
theorem dX6_kiln_45 : decode cX6_kiln 45 = .ok (.goto (-31), 3) := dk_167 255 225 (dk_at dksX6_kiln_2 0 rfl rfl)
theorem dX6_kiln_48 : decode cX6_kiln 48 = .ok (.aload_n 0, 1) := dk_42 (dk_at dksX6_kiln_2 3 rfl rfl)
theorem dX6_kiln_49 : decode cX6_kiln 49 = .ok (.getfield 27, 3) := dk_180 0 27 (dk_at dksX6_kiln_2 4 rfl rfl)
theorem dX6_kiln_52 : decode cX6_kiln 52 = .ok (.aload_n 0, 1) := dk_42 (dk_at dksX6_kiln_2 7 rfl rfl)
theorem dX6_kiln_53 : decode cX6_kiln 53 = .ok (.getfield 173, 3) := dk_180 0 173 (dk_at dksX6_kiln_2 8 rfl rfl)
theorem dX6_kiln_56 : decode cX6_kiln 56 = .ok (.aload_n 0, 1) := dk_42 (dk_at dksX6_kiln_2 11 rfl rfl)
theorem dX6_kiln_57 : decode cX6_kiln 57 = .ok (.getfield 64, 3) := dk_180 0 64 (dk_at dksX6_kiln_2 12 rfl rfl)
theorem dX6_kiln_60 : decode cX6_kiln 60 = .ok (.iastore, 1) := dk_79 (dk_at dksX6_kiln_2 15 rfl rfl)
theorem dX6_kiln_61 : decode cX6_kiln 61 = .ok (.aload_n 0, 1) := dk_42 (dk_at dksX6_kiln_2 16 rfl rfl)
theorem dX6_kiln_62 : decode cX6_kiln 62 = .ok (.iconst 0, 1) := dk_3 (dk_at dksX6_kiln_2 17 rfl rfl)
theorem dX6_kiln_63 : decode cX6_kiln 63 = .ok (.putfield 64, 3) := dk_181 0 64 (dk_at dksX6_kiln_2 18 rfl rfl)
theorem dX6_kiln_66 : decode cX6_kiln 66 = .ok (.aload_n 0, 1) := dk_42 (dk_at dksX6_kiln_2 21 rfl rfl)
theorem dX6_kiln_67 : decode cX6_kiln 67 = .ok (.aload_n 0, 1) := dk_42 (dk_at dksX6_kiln_2 22 rfl rfl)
theorem dX6_kiln_68 : decode cX6_kiln 68 = .ok (.getfield 173, 3) := dk_180 0 173 (dk_at dksX6_kiln_3 0 rfl rfl)
theorem dX6_kiln_71 : decode cX6_kiln 71 = .ok (.iconst 0, 1) := dk_3 (dk_at dksX6_kiln_3 3 rfl rfl)
theorem dX6_kiln_72 : decode cX6_kiln 72 = .ok (.iconst 0, 1) := dk_3 (dk_at dksX6_kiln_3 4 rfl rfl)
theorem dX6_kiln_73 : decode cX6_kiln 73 = .ok (.invokevirtual 169, 3) := dk_182 0 169 (dk_at dksX6_kiln_3 5 rfl rfl)
theorem dX6_kiln_76 : decode cX6_kiln 76 = .ok (.aload_n 0, 1) := dk_42 (dk_at dksX6_kiln_3 8 rfl rfl)
theorem dX6_kiln_77 : decode cX6_kiln 77 = .ok (.getfield 77, 3) := dk_180 0 77 (dk_at dksX6_kiln_3 9 rfl rfl)
theorem dX6_kiln_80 : decode cX6_kiln 80 = .ok (.ifCond .eq 11, 3) := dk_153 0 11 (dk_at dksX6_kiln_3 12 rfl rfl)
theorem dX6_kiln_83 : decode cX6_kiln 83 = .ok (.bipush (-10), 2) := dk_16 246 (dk_at dksX6_kiln_3 15 rfl rfl)
theorem dX6_kiln_85 : decode cX6_kiln 85 = .ok (.aload_n 0, 1) := dk_42 (dk_at dksX6_kiln_3 17 rfl rfl)
theorem dX6_kiln_86 : decode cX6_kiln 86 = .ok (.getfield 68, 3) := dk_180 0 68 (dk_at dksX6_kiln_3 18 rfl rfl)
theorem dX6_kiln_89 : decode cX6_kiln 89 = .ok (.isub, 1) := dk_100 (dk_at dksX6_kiln_3 21 rfl rfl)
theorem dX6_kiln_90 : decode cX6_kiln 90 = .ok (.ireturn, 1) := dk_172 (dk_at dksX6_kiln_3 22 rfl rfl)
theorem dX6_kiln_91 : decode cX6_kiln 91 = .ok (.aload_n 0, 1) := dk_42 (dk_at dksX6_kiln_3 23 rfl rfl)
theorem dX6_kiln_92 : decode cX6_kiln 92 = .ok (.dup, 1) := dk_89 (dk_at dksX6_kiln_4 0 rfl rfl)
theorem dX6_kiln_93 : decode cX6_kiln 93 = .ok (.getfield 173, 3) := dk_180 0 173 (dk_at dksX6_kiln_4 1 rfl rfl)
theorem dX6_kiln_96 : decode cX6_kiln 96 = .ok (.iconst 1, 1) := dk_4 (dk_at dksX6_kiln_4 4 rfl rfl)
theorem dX6_kiln_97 : decode cX6_kiln 97 = .ok (.iadd, 1) := dk_96 (dk_at dksX6_kiln_4 5 rfl rfl)
theorem dX6_kiln_98 : decode cX6_kiln 98 = .ok (.putfield 173, 3) := dk_181 0 173 (dk_at dksX6_kiln_4 6 rfl rfl)
theorem dX6_kiln_101 : decode cX6_kiln 101 = .ok (.aload_n 0, 1) := dk_42 (dk_at dksX6_kiln_4 9 rfl rfl)
theorem dX6_kiln_102 : decode cX6_kiln 102 = .ok (.getfield 11, 3) := dk_180 0 11 (dk_at dksX6_kiln_4 10 rfl rfl)
theorem dX6_kiln_105 : decode cX6_kiln 105 = .ok (.bipush 6, 2) := dk_16 6 (dk_at dksX6_kiln_4 13 rfl rfl)
theorem dX6_kiln_107 : decode cX6_kiln 107 = .ok (.aload_n 0, 1) := dk_42 (dk_at dksX6_kiln_4 15 rfl rfl)
theorem dX6_kiln_108 : decode cX6_kiln 108 = .ok (.getfield 173, 3) := dk_180 0 173 (dk_at dksX6_kiln_4 16 rfl rfl)
theorem dX6_kiln_111 : decode cX6_kiln 111 = .ok (.iastore, 1) := dk_79 (dk_at dksX6_kiln_4 19 rfl rfl)
theorem dX6_kiln_112 : decode cX6_kiln 112 = .ok (.aload_n 0, 1) := dk_42 (dk_at dksX6_kiln_4 20 rfl rfl)
theorem dX6_kiln_113 : decode cX6_kiln 113 = .ok (.getfield 173, 3) := dk_180 0 173 (dk_at dksX6_kiln_4 21 rfl rfl)
theorem dX6_kiln_116 : decode cX6_kiln 116 = .ok (.iconst 1, 1) := dk_4 (dk_at dksX6_kiln_5 0 rfl rfl)
theorem dX6_kiln_117 : decode cX6_kiln 117 = .ok (.isub, 1) := dk_100 (dk_at dksX6_kiln_5 1 rfl rfl)
theorem dX6_kiln_118 : decode cX6_kiln 118 = .ok (.ireturn, 1) := dk_172 (dk_at dksX6_kiln_5 2 rfl rfl)
theorem cf_kiln : xV yX6_kiln RX6 cX6_kiln 2 (some .int) 0 := ⟨q1515, q1516, q96, q1517, ⟨rfl, by decide +kernel, by decide +kernel, by decide +kernel⟩, by decide⟩
abbrev cX6_partOf : ByteArray := prog_23_method_29_code
def yX6_partOf : MethodName := ⟨RX6, "partOf", "(II)I"⟩
def dkwX6_partOf_0 : List UInt8 := [42, 27, 28, 182, 0, 176, 42, 180, 0, 154, 154, 0, 8, 16, 50, 167, 0, 7, 42, 180, 0, 157, 172]
abbrev dktX6_partOf_0 : List UInt8 := dkwX6_partOf_0 ++ []
theorem dksX6_partOf_0 : cX6_partOf.data.toList.drop 0 = dktX6_partOf_0 := by decide +kernel
theorem dX6_partOf_0 : decode cX6_partOf 0 = .ok (.aload_n 0, 1) := dk_42 (dk_at dksX6_partOf_0 0 rfl rfl)
theorem dX6_partOf_1 : decode cX6_partOf 1 = .ok (.iload_n 1, 1) := dk_27 (dk_at dksX6_partOf_0 1 rfl rfl)
theorem dX6_partOf_2 : decode cX6_partOf 2 = .ok (.iload_n 2, 1) := dk_28 (dk_at dksX6_partOf_0 2 rfl rfl)
theorem dX6_partOf_3 : decode cX6_partOf 3 = .ok (.invokevirtual 176, 3) := dk_182 0 176 (dk_at dksX6_partOf_0 3 rfl rfl)
theorem dX6_partOf_6 : decode cX6_partOf 6 = .ok (.aload_n 0, 1) := dk_42 (dk_at dksX6_partOf_0 6 rfl rfl)
theorem dX6_partOf_7 : decode cX6_partOf 7 = .ok (.getfield 154, 3) := dk_180 0 154 (dk_at dksX6_partOf_0 7 rfl rfl)
theorem dX6_partOf_10 : decode cX6_partOf 10 = .ok (.ifCond .ne 8, 3) := dk_154 0 8 (dk_at dksX6_partOf_0 10 rfl rfl)
theorem dX6_partOf_13 : decode cX6_partOf 13 = .ok (.bipush 50, 2) := dk_16 50 (dk_at dksX6_partOf_0 13 rfl rfl)
theorem dX6_partOf_15 : decode cX6_partOf 15 = .ok (.goto 7, 3) := dk_167 0 7 (dk_at dksX6_partOf_0 15 rfl rfl)
theorem dX6_partOf_18 : decode cX6_partOf 18 = .ok (.aload_n 0, 1) := dk_42 (dk_at dksX6_partOf_0 18 rfl rfl)
theorem dX6_partOf_19 : decode cX6_partOf 19 = .ok (.getfield 157, 3) := dk_180 0 157 (dk_at dksX6_partOf_0 19 rfl rfl)
theorem dX6_partOf_22 : decode cX6_partOf 22 = .ok (.ireturn, 1) := dk_172 (dk_at dksX6_partOf_0 22 rfl rfl)
theorem cf_partOf : xV yX6_partOf RX6 cX6_partOf 3 (some .int) 2 := ⟨q1624, qs63, q96, q1625, ⟨rfl, by decide +kernel, by decide +kernel, by decide +kernel⟩, by decide⟩
abbrev cX6_takesBy : ByteArray := prog_23_method_30_code
def yX6_takesBy : MethodName := ⟨RX6, "takesBy", "(IIII)I"⟩
def dkwX6_takesBy_6 : List UInt8 := [21, 4, 164, 0, 8, 21, 4, 167, 0, 14, 21, 7, 156, 0, 7, 3, 167, 0, 5, 21, 7, 172]
abbrev dktX6_takesBy_6 : List UInt8 := dkwX6_takesBy_6 ++ []
def dkwX6_takesBy_5 : List UInt8 := [21, 6, 5, 108, 54, 7, 167, 0, 16, 21, 4, 42, 27, 182, 0, 102, 100, 54, 7, 167, 0, 3, 21, 7]
abbrev dktX6_takesBy_5 : List UInt8 := dkwX6_takesBy_5 ++ dktX6_takesBy_6
def dkwX6_takesBy_4 : List UInt8 := [21, 5, 167, 0, 5, 21, 6, 54, 7, 167, 0, 37, 21, 5, 21, 6, 162, 0, 8, 21, 5, 167, 0, 5]
abbrev dktX6_takesBy_4 : List UInt8 := dkwX6_takesBy_4 ++ dktX6_takesBy_5
def dkwX6_takesBy_3 : List UInt8 := [21, 4, 54, 7, 167, 0, 65, 5, 21, 5, 104, 54, 7, 167, 0, 56, 21, 5, 21, 6, 162, 0, 8]
abbrev dktX6_takesBy_3 : List UInt8 := dkwX6_takesBy_3 ++ dktX6_takesBy_4
def dkwX6_takesBy_2 : List UInt8 := [170, 0, 0, 0, 0, 0, 108, 0, 0, 0, 1, 0, 0, 0, 6, 0, 0, 0, 39, 0, 0, 0, 46, 0, 0, 0, 55, 0, 0, 0, 95, 0, 0, 0, 46, 0, 0, 0, 74]
abbrev dktX6_takesBy_2 : List UInt8 := dkwX6_takesBy_2 ++ dktX6_takesBy_3
def dkwX6_takesBy_1 : List UInt8 := [42, 27, 182, 0, 92]
abbrev dktX6_takesBy_1 : List UInt8 := dkwX6_takesBy_1 ++ dktX6_takesBy_2
def dkwX6_takesBy_0 : List UInt8 := [29, 21, 4, 104, 16, 100, 108, 54, 5, 42, 27, 16, 6, 28, 96, 182, 0, 60, 54, 6, 21, 5, 54, 7]
abbrev dktX6_takesBy_0 : List UInt8 := dkwX6_takesBy_0 ++ dktX6_takesBy_1
theorem dksX6_takesBy_0 : cX6_takesBy.data.toList.drop 0 = dktX6_takesBy_0 := by decide +kernel
theorem dksX6_takesBy_1 : cX6_takesBy.data.toList.drop 24 = dktX6_takesBy_1 := dk_seg dksX6_takesBy_0 24 rfl rfl
theorem dksX6_takesBy_2 : cX6_takesBy.data.toList.drop 29 = dktX6_takesBy_2 := dk_seg dksX6_takesBy_1 5 rfl rfl
theorem dksX6_takesBy_3 : cX6_takesBy.data.toList.drop 68 = dktX6_takesBy_3 := dk_seg dksX6_takesBy_2 39 rfl rfl
theorem dksX6_takesBy_4 : cX6_takesBy.data.toList.drop 91 = dktX6_takesBy_4 := dk_seg dksX6_takesBy_3 23 rfl rfl
theorem dksX6_takesBy_5 : cX6_takesBy.data.toList.drop 115 = dktX6_takesBy_5 := dk_seg dksX6_takesBy_4 24 rfl rfl
theorem dksX6_takesBy_6 : cX6_takesBy.data.toList.drop 139 = dktX6_takesBy_6 := dk_seg dksX6_takesBy_5 24 rfl rfl
theorem dX6_takesBy_0 : decode cX6_takesBy 0 = .ok (.iload_n 3, 1) := dk_29 (dk_at dksX6_takesBy_0 0 rfl rfl)
theorem dX6_takesBy_1 : decode cX6_takesBy 1 = .ok (.iload 4, 2) := dk_21 4 (dk_at dksX6_takesBy_0 1 rfl rfl)
theorem dX6_takesBy_3 : decode cX6_takesBy 3 = .ok (.imul, 1) := dk_104 (dk_at dksX6_takesBy_0 3 rfl rfl)
theorem dX6_takesBy_4 : decode cX6_takesBy 4 = .ok (.bipush 100, 2) := dk_16 100 (dk_at dksX6_takesBy_0 4 rfl rfl)
theorem dX6_takesBy_6 : decode cX6_takesBy 6 = .ok (.idiv, 1) := dk_108 (dk_at dksX6_takesBy_0 6 rfl rfl)
theorem dX6_takesBy_7 : decode cX6_takesBy 7 = .ok (.istore 5, 2) := dk_54 5 (dk_at dksX6_takesBy_0 7 rfl rfl)
theorem dX6_takesBy_9 : decode cX6_takesBy 9 = .ok (.aload_n 0, 1) := dk_42 (dk_at dksX6_takesBy_0 9 rfl rfl)
theorem dX6_takesBy_10 : decode cX6_takesBy 10 = .ok (.iload_n 1, 1) := dk_27 (dk_at dksX6_takesBy_0 10 rfl rfl)
theorem dX6_takesBy_11 : decode cX6_takesBy 11 = .ok (.bipush 6, 2) := dk_16 6 (dk_at dksX6_takesBy_0 11 rfl rfl)
theorem dX6_takesBy_13 : decode cX6_takesBy 13 = .ok (.iload_n 2, 1) := dk_28 (dk_at dksX6_takesBy_0 13 rfl rfl)
theorem dX6_takesBy_14 : decode cX6_takesBy 14 = .ok (.iadd, 1) := dk_96 (dk_at dksX6_takesBy_0 14 rfl rfl)
theorem dX6_takesBy_15 : decode cX6_takesBy 15 = .ok (.invokevirtual 60, 3) := dk_182 0 60 (dk_at dksX6_takesBy_0 15 rfl rfl)
theorem dX6_takesBy_18 : decode cX6_takesBy 18 = .ok (.istore 6, 2) := dk_54 6 (dk_at dksX6_takesBy_0 18 rfl rfl)
theorem dX6_takesBy_20 : decode cX6_takesBy 20 = .ok (.iload 5, 2) := dk_21 5 (dk_at dksX6_takesBy_0 20 rfl rfl)
theorem dX6_takesBy_22 : decode cX6_takesBy 22 = .ok (.istore 7, 2) := dk_54 7 (dk_at dksX6_takesBy_0 22 rfl rfl)
theorem dX6_takesBy_24 : decode cX6_takesBy 24 = .ok (.aload_n 0, 1) := dk_42 (dk_at dksX6_takesBy_1 0 rfl rfl)
theorem dX6_takesBy_25 : decode cX6_takesBy 25 = .ok (.iload_n 1, 1) := dk_27 (dk_at dksX6_takesBy_1 1 rfl rfl)
theorem dX6_takesBy_26 : decode cX6_takesBy 26 = .ok (.invokevirtual 92, 3) := dk_182 0 92 (dk_at dksX6_takesBy_1 2 rfl rfl)
theorem dX6_takesBy_29 : decode cX6_takesBy 29 = .ok (.tableswitch 108 1 6 #[39, 46, 55, 95, 46, 74], 39) := by decide +kernel
theorem dX6_takesBy_68 : decode cX6_takesBy 68 = .ok (.iload 4, 2) := dk_21 4 (dk_at dksX6_takesBy_3 0 rfl rfl)
theorem dX6_takesBy_70 : decode cX6_takesBy 70 = .ok (.istore 7, 2) := dk_54 7 (dk_at dksX6_takesBy_3 2 rfl rfl)
theorem dX6_takesBy_72 : decode cX6_takesBy 72 = .ok (.goto 65, 3) := dk_167 0 65 (dk_at dksX6_takesBy_3 4 rfl rfl)
theorem dX6_takesBy_75 : decode cX6_takesBy 75 = .ok (.iconst 2, 1) := dk_5 (dk_at dksX6_takesBy_3 7 rfl rfl)
theorem dX6_takesBy_76 : decode cX6_takesBy 76 = .ok (.iload 5, 2) := dk_21 5 (dk_at dksX6_takesBy_3 8 rfl rfl)
theorem dX6_takesBy_78 : decode cX6_takesBy 78 = .ok (.imul, 1) := dk_104 (dk_at dksX6_takesBy_3 10 rfl rfl)
theorem dX6_takesBy_79 : decode cX6_takesBy 79 = .ok (.istore 7, 2) := dk_54 7 (dk_at dksX6_takesBy_3 11 rfl rfl)
theorem dX6_takesBy_81 : decode cX6_takesBy 81 = .ok (.goto 56, 3) := dk_167 0 56 (dk_at dksX6_takesBy_3 13 rfl rfl)
theorem dX6_takesBy_84 : decode cX6_takesBy 84 = .ok (.iload 5, 2) := dk_21 5 (dk_at dksX6_takesBy_3 16 rfl rfl)
theorem dX6_takesBy_86 : decode cX6_takesBy 86 = .ok (.iload 6, 2) := dk_21 6 (dk_at dksX6_takesBy_3 18 rfl rfl)
theorem dX6_takesBy_88 : decode cX6_takesBy 88 = .ok (.if_icmp .ge 8, 3) := dk_162 0 8 (dk_at dksX6_takesBy_3 20 rfl rfl)
theorem dX6_takesBy_91 : decode cX6_takesBy 91 = .ok (.iload 5, 2) := dk_21 5 (dk_at dksX6_takesBy_4 0 rfl rfl)
theorem dX6_takesBy_93 : decode cX6_takesBy 93 = .ok (.goto 5, 3) := dk_167 0 5 (dk_at dksX6_takesBy_4 2 rfl rfl)
theorem dX6_takesBy_96 : decode cX6_takesBy 96 = .ok (.iload 6, 2) := dk_21 6 (dk_at dksX6_takesBy_4 5 rfl rfl)
theorem dX6_takesBy_98 : decode cX6_takesBy 98 = .ok (.istore 7, 2) := dk_54 7 (dk_at dksX6_takesBy_4 7 rfl rfl)
theorem dX6_takesBy_100 : decode cX6_takesBy 100 = .ok (.goto 37, 3) := dk_167 0 37 (dk_at dksX6_takesBy_4 9 rfl rfl)
theorem dX6_takesBy_103 : decode cX6_takesBy 103 = .ok (.iload 5, 2) := dk_21 5 (dk_at dksX6_takesBy_4 12 rfl rfl)
theorem dX6_takesBy_105 : decode cX6_takesBy 105 = .ok (.iload 6, 2) := dk_21 6 (dk_at dksX6_takesBy_4 14 rfl rfl)
theorem dX6_takesBy_107 : decode cX6_takesBy 107 = .ok (.if_icmp .ge 8, 3) := dk_162 0 8 (dk_at dksX6_takesBy_4 16 rfl rfl)
theorem dX6_takesBy_110 : decode cX6_takesBy 110 = .ok (.iload 5, 2) := dk_21 5 (dk_at dksX6_takesBy_4 19 rfl rfl)
theorem dX6_takesBy_112 : decode cX6_takesBy 112 = .ok (.goto 5, 3) := dk_167 0 5 (dk_at dksX6_takesBy_4 21 rfl rfl)
theorem dX6_takesBy_115 : decode cX6_takesBy 115 = .ok (.iload 6, 2) := dk_21 6 (dk_at dksX6_takesBy_5 0 rfl rfl)
theorem dX6_takesBy_117 : decode cX6_takesBy 117 = .ok (.iconst 2, 1) := dk_5 (dk_at dksX6_takesBy_5 2 rfl rfl)
theorem dX6_takesBy_118 : decode cX6_takesBy 118 = .ok (.idiv, 1) := dk_108 (dk_at dksX6_takesBy_5 3 rfl rfl)
theorem dX6_takesBy_119 : decode cX6_takesBy 119 = .ok (.istore 7, 2) := dk_54 7 (dk_at dksX6_takesBy_5 4 rfl rfl)
theorem dX6_takesBy_121 : decode cX6_takesBy 121 = .ok (.goto 16, 3) := dk_167 0 16 (dk_at dksX6_takesBy_5 6 rfl rfl)
theorem dX6_takesBy_124 : decode cX6_takesBy 124 = .ok (.iload 4, 2) := dk_21 4 (dk_at dksX6_takesBy_5 9 rfl rfl)
theorem dX6_takesBy_126 : decode cX6_takesBy 126 = .ok (.aload_n 0, 1) := dk_42 (dk_at dksX6_takesBy_5 11 rfl rfl)
theorem dX6_takesBy_127 : decode cX6_takesBy 127 = .ok (.iload_n 1, 1) := dk_27 (dk_at dksX6_takesBy_5 12 rfl rfl)
theorem dX6_takesBy_128 : decode cX6_takesBy 128 = .ok (.invokevirtual 102, 3) := dk_182 0 102 (dk_at dksX6_takesBy_5 13 rfl rfl)
theorem dX6_takesBy_131 : decode cX6_takesBy 131 = .ok (.isub, 1) := dk_100 (dk_at dksX6_takesBy_5 16 rfl rfl)
theorem dX6_takesBy_132 : decode cX6_takesBy 132 = .ok (.istore 7, 2) := dk_54 7 (dk_at dksX6_takesBy_5 17 rfl rfl)
theorem dX6_takesBy_134 : decode cX6_takesBy 134 = .ok (.goto 3, 3) := dk_167 0 3 (dk_at dksX6_takesBy_5 19 rfl rfl)
theorem dX6_takesBy_137 : decode cX6_takesBy 137 = .ok (.iload 7, 2) := dk_21 7 (dk_at dksX6_takesBy_5 22 rfl rfl)
theorem dX6_takesBy_139 : decode cX6_takesBy 139 = .ok (.iload 4, 2) := dk_21 4 (dk_at dksX6_takesBy_6 0 rfl rfl)
theorem dX6_takesBy_141 : decode cX6_takesBy 141 = .ok (.if_icmp .le 8, 3) := dk_164 0 8 (dk_at dksX6_takesBy_6 2 rfl rfl)
theorem dX6_takesBy_144 : decode cX6_takesBy 144 = .ok (.iload 4, 2) := dk_21 4 (dk_at dksX6_takesBy_6 5 rfl rfl)
theorem dX6_takesBy_146 : decode cX6_takesBy 146 = .ok (.goto 14, 3) := dk_167 0 14 (dk_at dksX6_takesBy_6 7 rfl rfl)
theorem dX6_takesBy_149 : decode cX6_takesBy 149 = .ok (.iload 7, 2) := dk_21 7 (dk_at dksX6_takesBy_6 10 rfl rfl)
theorem dX6_takesBy_151 : decode cX6_takesBy 151 = .ok (.ifCond .ge 7, 3) := dk_156 0 7 (dk_at dksX6_takesBy_6 12 rfl rfl)
theorem dX6_takesBy_154 : decode cX6_takesBy 154 = .ok (.iconst 0, 1) := dk_3 (dk_at dksX6_takesBy_6 15 rfl rfl)
theorem dX6_takesBy_155 : decode cX6_takesBy 155 = .ok (.goto 5, 3) := dk_167 0 5 (dk_at dksX6_takesBy_6 16 rfl rfl)
theorem dX6_takesBy_158 : decode cX6_takesBy 158 = .ok (.iload 7, 2) := dk_21 7 (dk_at dksX6_takesBy_6 19 rfl rfl)
theorem dX6_takesBy_160 : decode cX6_takesBy 160 = .ok (.ireturn, 1) := dk_172 (dk_at dksX6_takesBy_6 21 rfl rfl)
theorem cf_takesBy : xV yX6_takesBy RX6 cX6_takesBy 8 (some .int) 4 := ⟨q1628, qs64, q96, q1629, ⟨rfl, by decide +kernel, by decide +kernel, by decide +kernel⟩, by decide⟩
abbrev cX6_takesOf : ByteArray := prog_23_method_31_code
def yX6_takesOf : MethodName := ⟨RX6, "takesOf", "(II)I"⟩
def dkwX6_takesOf_0 : List UInt8 := [42, 27, 28, 42, 27, 28, 182, 0, 180, 42, 180, 0, 11, 28, 46, 182, 0, 183, 172]
abbrev dktX6_takesOf_0 : List UInt8 := dkwX6_takesOf_0 ++ []
theorem dksX6_takesOf_0 : cX6_takesOf.data.toList.drop 0 = dktX6_takesOf_0 := by decide +kernel
theorem dX6_takesOf_0 : decode cX6_takesOf 0 = .ok (.aload_n 0, 1) := dk_42 (dk_at dksX6_takesOf_0 0 rfl rfl)
theorem dX6_takesOf_1 : decode cX6_takesOf 1 = .ok (.iload_n 1, 1) := dk_27 (dk_at dksX6_takesOf_0 1 rfl rfl)
theorem dX6_takesOf_2 : decode cX6_takesOf 2 = .ok (.iload_n 2, 1) := dk_28 (dk_at dksX6_takesOf_0 2 rfl rfl)
theorem dX6_takesOf_3 : decode cX6_takesOf 3 = .ok (.aload_n 0, 1) := dk_42 (dk_at dksX6_takesOf_0 3 rfl rfl)
theorem dX6_takesOf_4 : decode cX6_takesOf 4 = .ok (.iload_n 1, 1) := dk_27 (dk_at dksX6_takesOf_0 4 rfl rfl)
theorem dX6_takesOf_5 : decode cX6_takesOf 5 = .ok (.iload_n 2, 1) := dk_28 (dk_at dksX6_takesOf_0 5 rfl rfl)
theorem dX6_takesOf_6 : decode cX6_takesOf 6 = .ok (.invokevirtual 180, 3) := dk_182 0 180 (dk_at dksX6_takesOf_0 6 rfl rfl)
theorem dX6_takesOf_9 : decode cX6_takesOf 9 = .ok (.aload_n 0, 1) := dk_42 (dk_at dksX6_takesOf_0 9 rfl rfl)
theorem dX6_takesOf_10 : decode cX6_takesOf 10 = .ok (.getfield 11, 3) := dk_180 0 11 (dk_at dksX6_takesOf_0 10 rfl rfl)
theorem dX6_takesOf_13 : decode cX6_takesOf 13 = .ok (.iload_n 2, 1) := dk_28 (dk_at dksX6_takesOf_0 13 rfl rfl)
theorem dX6_takesOf_14 : decode cX6_takesOf 14 = .ok (.iaload, 1) := dk_46 (dk_at dksX6_takesOf_0 14 rfl rfl)
theorem dX6_takesOf_15 : decode cX6_takesOf 15 = .ok (.invokevirtual 183, 3) := dk_182 0 183 (dk_at dksX6_takesOf_0 15 rfl rfl)
theorem dX6_takesOf_18 : decode cX6_takesOf 18 = .ok (.ireturn, 1) := dk_172 (dk_at dksX6_takesOf_0 18 rfl rfl)
theorem cf_takesOf : xV yX6_takesOf RX6 cX6_takesOf 3 (some .int) 2 := ⟨q1620, qs62, q96, q1621, ⟨rfl, by decide +kernel, by decide +kernel, by decide +kernel⟩, by decide⟩
abbrev cX6_leavesOf : ByteArray := prog_23_method_32_code
def yX6_leavesOf : MethodName := ⟨RX6, "leavesOf", "(II)I"⟩
def dkwX6_leavesOf_3 : List UInt8 := [21, 4, 172]
abbrev dktX6_leavesOf_3 : List UInt8 := dkwX6_leavesOf_3 ++ []
def dkwX6_leavesOf_2 : List UInt8 := [108, 167, 0, 25, 29, 8, 160, 0, 18, 28, 154, 0, 14, 21, 4, 42, 27, 182, 0, 102, 96, 167, 0, 5]
abbrev dktX6_leavesOf_2 : List UInt8 := dkwX6_leavesOf_2 ++ dktX6_leavesOf_3
def dkwX6_leavesOf_1 : List UInt8 := [42, 27, 5, 28, 96, 182, 0, 60, 42, 180, 0, 160, 96, 54, 4, 29, 16, 6, 160, 0, 10, 21, 4, 5]
abbrev dktX6_leavesOf_1 : List UInt8 := dkwX6_leavesOf_1 ++ dktX6_leavesOf_2
def dkwX6_leavesOf_0 : List UInt8 := [42, 27, 182, 0, 92, 62, 29, 4, 159, 0, 8, 29, 7, 160, 0, 5, 3, 172, 42, 27, 28, 182, 0, 176]
abbrev dktX6_leavesOf_0 : List UInt8 := dkwX6_leavesOf_0 ++ dktX6_leavesOf_1
theorem dksX6_leavesOf_0 : cX6_leavesOf.data.toList.drop 0 = dktX6_leavesOf_0 := by decide +kernel
theorem dksX6_leavesOf_1 : cX6_leavesOf.data.toList.drop 24 = dktX6_leavesOf_1 := dk_seg dksX6_leavesOf_0 24 rfl rfl
theorem dksX6_leavesOf_2 : cX6_leavesOf.data.toList.drop 48 = dktX6_leavesOf_2 := dk_seg dksX6_leavesOf_1 24 rfl rfl
theorem dksX6_leavesOf_3 : cX6_leavesOf.data.toList.drop 72 = dktX6_leavesOf_3 := dk_seg dksX6_leavesOf_2 24 rfl rfl
theorem dX6_leavesOf_0 : decode cX6_leavesOf 0 = .ok (.aload_n 0, 1) := dk_42 (dk_at dksX6_leavesOf_0 0 rfl rfl)
theorem dX6_leavesOf_1 : decode cX6_leavesOf 1 = .ok (.iload_n 1, 1) := dk_27 (dk_at dksX6_leavesOf_0 1 rfl rfl)
theorem dX6_leavesOf_2 : decode cX6_leavesOf 2 = .ok (.invokevirtual 92, 3) := dk_182 0 92 (dk_at dksX6_leavesOf_0 2 rfl rfl)
theorem dX6_leavesOf_5 : decode cX6_leavesOf 5 = .ok (.istore_n 3, 1) := dk_62 (dk_at dksX6_leavesOf_0 5 rfl rfl)
theorem dX6_leavesOf_6 : decode cX6_leavesOf 6 = .ok (.iload_n 3, 1) := dk_29 (dk_at dksX6_leavesOf_0 6 rfl rfl)
theorem dX6_leavesOf_7 : decode cX6_leavesOf 7 = .ok (.iconst 1, 1) := dk_4 (dk_at dksX6_leavesOf_0 7 rfl rfl)
theorem dX6_leavesOf_8 : decode cX6_leavesOf 8 = .ok (.if_icmp .eq 8, 3) := dk_159 0 8 (dk_at dksX6_leavesOf_0 8 rfl rfl)
theorem dX6_leavesOf_11 : decode cX6_leavesOf 11 = .ok (.iload_n 3, 1) := dk_29 (dk_at dksX6_leavesOf_0 11 rfl rfl)
theorem dX6_leavesOf_12 : decode cX6_leavesOf 12 = .ok (.iconst 4, 1) := dk_7 (dk_at dksX6_leavesOf_0 12 rfl rfl)
theorem dX6_leavesOf_13 : decode cX6_leavesOf 13 = .ok (.if_icmp .ne 5, 3) := dk_160 0 5 (dk_at dksX6_leavesOf_0 13 rfl rfl)
theorem dX6_leavesOf_16 : decode cX6_leavesOf 16 = .ok (.iconst 0, 1) := dk_3 (dk_at dksX6_leavesOf_0 16 rfl rfl)
theorem dX6_leavesOf_17 : decode cX6_leavesOf 17 = .ok (.ireturn, 1) := dk_172 (dk_at dksX6_leavesOf_0 17 rfl rfl)
theorem dX6_leavesOf_18 : decode cX6_leavesOf 18 = .ok (.aload_n 0, 1) := dk_42 (dk_at dksX6_leavesOf_0 18 rfl rfl)
theorem dX6_leavesOf_19 : decode cX6_leavesOf 19 = .ok (.iload_n 1, 1) := dk_27 (dk_at dksX6_leavesOf_0 19 rfl rfl)
theorem dX6_leavesOf_20 : decode cX6_leavesOf 20 = .ok (.iload_n 2, 1) := dk_28 (dk_at dksX6_leavesOf_0 20 rfl rfl)
theorem dX6_leavesOf_21 : decode cX6_leavesOf 21 = .ok (.invokevirtual 176, 3) := dk_182 0 176 (dk_at dksX6_leavesOf_0 21 rfl rfl)
theorem dX6_leavesOf_24 : decode cX6_leavesOf 24 = .ok (.aload_n 0, 1) := dk_42 (dk_at dksX6_leavesOf_1 0 rfl rfl)
theorem dX6_leavesOf_25 : decode cX6_leavesOf 25 = .ok (.iload_n 1, 1) := dk_27 (dk_at dksX6_leavesOf_1 1 rfl rfl)
theorem dX6_leavesOf_26 : decode cX6_leavesOf 26 = .ok (.iconst 2, 1) := dk_5 (dk_at dksX6_leavesOf_1 2 rfl rfl)
theorem dX6_leavesOf_27 : decode cX6_leavesOf 27 = .ok (.iload_n 2, 1) := dk_28 (dk_at dksX6_leavesOf_1 3 rfl rfl)
theorem dX6_leavesOf_28 : decode cX6_leavesOf 28 = .ok (.iadd, 1) := dk_96 (dk_at dksX6_leavesOf_1 4 rfl rfl)
theorem dX6_leavesOf_29 : decode cX6_leavesOf 29 = .ok (.invokevirtual 60, 3) := dk_182 0 60 (dk_at dksX6_leavesOf_1 5 rfl rfl)
theorem dX6_leavesOf_32 : decode cX6_leavesOf 32 = .ok (.aload_n 0, 1) := dk_42 (dk_at dksX6_leavesOf_1 8 rfl rfl)
theorem dX6_leavesOf_33 : decode cX6_leavesOf 33 = .ok (.getfield 160, 3) := dk_180 0 160 (dk_at dksX6_leavesOf_1 9 rfl rfl)
theorem dX6_leavesOf_36 : decode cX6_leavesOf 36 = .ok (.iadd, 1) := dk_96 (dk_at dksX6_leavesOf_1 12 rfl rfl)
theorem dX6_leavesOf_37 : decode cX6_leavesOf 37 = .ok (.istore 4, 2) := dk_54 4 (dk_at dksX6_leavesOf_1 13 rfl rfl)
theorem dX6_leavesOf_39 : decode cX6_leavesOf 39 = .ok (.iload_n 3, 1) := dk_29 (dk_at dksX6_leavesOf_1 15 rfl rfl)
theorem dX6_leavesOf_40 : decode cX6_leavesOf 40 = .ok (.bipush 6, 2) := dk_16 6 (dk_at dksX6_leavesOf_1 16 rfl rfl)
theorem dX6_leavesOf_42 : decode cX6_leavesOf 42 = .ok (.if_icmp .ne 10, 3) := dk_160 0 10 (dk_at dksX6_leavesOf_1 18 rfl rfl)
theorem dX6_leavesOf_45 : decode cX6_leavesOf 45 = .ok (.iload 4, 2) := dk_21 4 (dk_at dksX6_leavesOf_1 21 rfl rfl)
theorem dX6_leavesOf_47 : decode cX6_leavesOf 47 = .ok (.iconst 2, 1) := dk_5 (dk_at dksX6_leavesOf_1 23 rfl rfl)
theorem dX6_leavesOf_48 : decode cX6_leavesOf 48 = .ok (.idiv, 1) := dk_108 (dk_at dksX6_leavesOf_2 0 rfl rfl)
theorem dX6_leavesOf_49 : decode cX6_leavesOf 49 = .ok (.goto 25, 3) := dk_167 0 25 (dk_at dksX6_leavesOf_2 1 rfl rfl)
theorem dX6_leavesOf_52 : decode cX6_leavesOf 52 = .ok (.iload_n 3, 1) := dk_29 (dk_at dksX6_leavesOf_2 4 rfl rfl)
theorem dX6_leavesOf_53 : decode cX6_leavesOf 53 = .ok (.iconst 5, 1) := dk_8 (dk_at dksX6_leavesOf_2 5 rfl rfl)
theorem dX6_leavesOf_54 : decode cX6_leavesOf 54 = .ok (.if_icmp .ne 18, 3) := dk_160 0 18 (dk_at dksX6_leavesOf_2 6 rfl rfl)
theorem dX6_leavesOf_57 : decode cX6_leavesOf 57 = .ok (.iload_n 2, 1) := dk_28 (dk_at dksX6_leavesOf_2 9 rfl rfl)
theorem dX6_leavesOf_58 : decode cX6_leavesOf 58 = .ok (.ifCond .ne 14, 3) := dk_154 0 14 (dk_at dksX6_leavesOf_2 10 rfl rfl)
theorem dX6_leavesOf_61 : decode cX6_leavesOf 61 = .ok (.iload 4, 2) := dk_21 4 (dk_at dksX6_leavesOf_2 13 rfl rfl)
theorem dX6_leavesOf_63 : decode cX6_leavesOf 63 = .ok (.aload_n 0, 1) := dk_42 (dk_at dksX6_leavesOf_2 15 rfl rfl)
theorem dX6_leavesOf_64 : decode cX6_leavesOf 64 = .ok (.iload_n 1, 1) := dk_27 (dk_at dksX6_leavesOf_2 16 rfl rfl)
theorem dX6_leavesOf_65 : decode cX6_leavesOf 65 = .ok (.invokevirtual 102, 3) := dk_182 0 102 (dk_at dksX6_leavesOf_2 17 rfl rfl)
theorem dX6_leavesOf_68 : decode cX6_leavesOf 68 = .ok (.iadd, 1) := dk_96 (dk_at dksX6_leavesOf_2 20 rfl rfl)
theorem dX6_leavesOf_69 : decode cX6_leavesOf 69 = .ok (.goto 5, 3) := dk_167 0 5 (dk_at dksX6_leavesOf_2 21 rfl rfl)
theorem dX6_leavesOf_72 : decode cX6_leavesOf 72 = .ok (.iload 4, 2) := dk_21 4 (dk_at dksX6_leavesOf_3 0 rfl rfl)
theorem dX6_leavesOf_74 : decode cX6_leavesOf 74 = .ok (.ireturn, 1) := dk_172 (dk_at dksX6_leavesOf_3 2 rfl rfl)
theorem cf_leavesOf : xV yX6_leavesOf RX6 cX6_leavesOf 5 (some .int) 2 := ⟨q1632, qs65, q96, q1633, ⟨rfl, by decide +kernel, by decide +kernel, by decide +kernel⟩, by decide⟩
abbrev cX6_allTakes : ByteArray := prog_23_method_33_code
def yX6_allTakes : MethodName := ⟨RX6, "allTakes", "(I)I"⟩
def dkwX6_allTakes_1 : List UInt8 := [28, 172]
abbrev dktX6_allTakes_1 : List UInt8 := dkwX6_allTakes_1 ++ []
def dkwX6_allTakes_0 : List UInt8 := [3, 61, 3, 62, 29, 7, 162, 0, 18, 28, 42, 27, 29, 182, 0, 187, 96, 61, 132, 3, 1, 167, 255, 239]
abbrev dktX6_allTakes_0 : List UInt8 := dkwX6_allTakes_0 ++ dktX6_allTakes_1
theorem dksX6_allTakes_0 : cX6_allTakes.data.toList.drop 0 = dktX6_allTakes_0 := by decide +kernel
theorem dksX6_allTakes_1 : cX6_allTakes.data.toList.drop 24 = dktX6_allTakes_1 := dk_seg dksX6_allTakes_0 24 rfl rfl
theorem dX6_allTakes_0 : decode cX6_allTakes 0 = .ok (.iconst 0, 1) := dk_3 (dk_at dksX6_allTakes_0 0 rfl rfl)
theorem dX6_allTakes_1 : decode cX6_allTakes 1 = .ok (.istore_n 2, 1) := dk_61 (dk_at dksX6_allTakes_0 1 rfl rfl)
theorem dX6_allTakes_2 : decode cX6_allTakes 2 = .ok (.iconst 0, 1) := dk_3 (dk_at dksX6_allTakes_0 2 rfl rfl)
theorem dX6_allTakes_3 : decode cX6_allTakes 3 = .ok (.istore_n 3, 1) := dk_62 (dk_at dksX6_allTakes_0 3 rfl rfl)
theorem dX6_allTakes_4 : decode cX6_allTakes 4 = .ok (.iload_n 3, 1) := dk_29 (dk_at dksX6_allTakes_0 4 rfl rfl)
theorem dX6_allTakes_5 : decode cX6_allTakes 5 = .ok (.iconst 4, 1) := dk_7 (dk_at dksX6_allTakes_0 5 rfl rfl)
theorem dX6_allTakes_6 : decode cX6_allTakes 6 = .ok (.if_icmp .ge 18, 3) := dk_162 0 18 (dk_at dksX6_allTakes_0 6 rfl rfl)
theorem dX6_allTakes_9 : decode cX6_allTakes 9 = .ok (.iload_n 2, 1) := dk_28 (dk_at dksX6_allTakes_0 9 rfl rfl)
theorem dX6_allTakes_10 : decode cX6_allTakes 10 = .ok (.aload_n 0, 1) := dk_42 (dk_at dksX6_allTakes_0 10 rfl rfl)
theorem dX6_allTakes_11 : decode cX6_allTakes 11 = .ok (.iload_n 1, 1) := dk_27 (dk_at dksX6_allTakes_0 11 rfl rfl)
theorem dX6_allTakes_12 : decode cX6_allTakes 12 = .ok (.iload_n 3, 1) := dk_29 (dk_at dksX6_allTakes_0 12 rfl rfl)
theorem dX6_allTakes_13 : decode cX6_allTakes 13 = .ok (.invokevirtual 187, 3) := dk_182 0 187 (dk_at dksX6_allTakes_0 13 rfl rfl)
theorem dX6_allTakes_16 : decode cX6_allTakes 16 = .ok (.iadd, 1) := dk_96 (dk_at dksX6_allTakes_0 16 rfl rfl)
theorem dX6_allTakes_17 : decode cX6_allTakes 17 = .ok (.istore_n 2, 1) := dk_61 (dk_at dksX6_allTakes_0 17 rfl rfl)
theorem dX6_allTakes_18 : decode cX6_allTakes 18 = .ok (.iinc 3 1, 3) := dk_132 3 1 (dk_at dksX6_allTakes_0 18 rfl rfl)
theorem dX6_allTakes_21 : decode cX6_allTakes 21 = .ok (.goto (-17), 3) := dk_167 255 239 (dk_at dksX6_allTakes_0 21 rfl rfl)
theorem dX6_allTakes_24 : decode cX6_allTakes 24 = .ok (.iload_n 2, 1) := dk_28 (dk_at dksX6_allTakes_1 0 rfl rfl)
theorem dX6_allTakes_25 : decode cX6_allTakes 25 = .ok (.ireturn, 1) := dk_172 (dk_at dksX6_allTakes_1 1 rfl rfl)
theorem cf_allTakes : xV yX6_allTakes RX6 cX6_allTakes 4 (some .int) 1 := ⟨q1717, qs76, q96, q1718, ⟨rfl, by decide +kernel, by decide +kernel, by decide +kernel⟩, by decide⟩
abbrev cX6_isSpoiled : ByteArray := prog_23_method_34_code
def yX6_isSpoiled : MethodName := ⟨RX6, "isSpoiled", "(I)Z"⟩
def dkwX6_isSpoiled_1 : List UInt8 := [164, 0, 5, 4, 172, 132, 2, 1, 167, 255, 228, 3, 172]
abbrev dktX6_isSpoiled_1 : List UInt8 := dkwX6_isSpoiled_1 ++ []
def dkwX6_isSpoiled_0 : List UInt8 := [3, 61, 28, 7, 162, 0, 29, 42, 27, 28, 182, 0, 187, 42, 27, 16, 6, 28, 96, 182, 0, 60]
abbrev dktX6_isSpoiled_0 : List UInt8 := dkwX6_isSpoiled_0 ++ dktX6_isSpoiled_1
theorem dksX6_isSpoiled_0 : cX6_isSpoiled.data.toList.drop 0 = dktX6_isSpoiled_0 := by decide +kernel
theorem dksX6_isSpoiled_1 : cX6_isSpoiled.data.toList.drop 22 = dktX6_isSpoiled_1 := dk_seg dksX6_isSpoiled_0 22 rfl rfl
theorem dX6_isSpoiled_0 : decode cX6_isSpoiled 0 = .ok (.iconst 0, 1) := dk_3 (dk_at dksX6_isSpoiled_0 0 rfl rfl)
theorem dX6_isSpoiled_1 : decode cX6_isSpoiled 1 = .ok (.istore_n 2, 1) := dk_61 (dk_at dksX6_isSpoiled_0 1 rfl rfl)
theorem dX6_isSpoiled_2 : decode cX6_isSpoiled 2 = .ok (.iload_n 2, 1) := dk_28 (dk_at dksX6_isSpoiled_0 2 rfl rfl)
theorem dX6_isSpoiled_3 : decode cX6_isSpoiled 3 = .ok (.iconst 4, 1) := dk_7 (dk_at dksX6_isSpoiled_0 3 rfl rfl)
theorem dX6_isSpoiled_4 : decode cX6_isSpoiled 4 = .ok (.if_icmp .ge 29, 3) := dk_162 0 29 (dk_at dksX6_isSpoiled_0 4 rfl rfl)
theorem dX6_isSpoiled_7 : decode cX6_isSpoiled 7 = .ok (.aload_n 0, 1) := dk_42 (dk_at dksX6_isSpoiled_0 7 rfl rfl)
theorem dX6_isSpoiled_8 : decode cX6_isSpoiled 8 = .ok (.iload_n 1, 1) := dk_27 (dk_at dksX6_isSpoiled_0 8 rfl rfl)
theorem dX6_isSpoiled_9 : decode cX6_isSpoiled 9 = .ok (.iload_n 2, 1) := dk_28 (dk_at dksX6_isSpoiled_0 9 rfl rfl)
theorem dX6_isSpoiled_10 : decode cX6_isSpoiled 10 = .ok (.invokevirtual 187, 3) := dk_182 0 187 (dk_at dksX6_isSpoiled_0 10 rfl rfl)
theorem dX6_isSpoiled_13 : decode cX6_isSpoiled 13 = .ok (.aload_n 0, 1) := dk_42 (dk_at dksX6_isSpoiled_0 13 rfl rfl)
theorem dX6_isSpoiled_14 : decode cX6_isSpoiled 14 = .ok (.iload_n 1, 1) := dk_27 (dk_at dksX6_isSpoiled_0 14 rfl rfl)
theorem dX6_isSpoiled_15 : decode cX6_isSpoiled 15 = .ok (.bipush 6, 2) := dk_16 6 (dk_at dksX6_isSpoiled_0 15 rfl rfl)
theorem dX6_isSpoiled_17 : decode cX6_isSpoiled 17 = .ok (.iload_n 2, 1) := dk_28 (dk_at dksX6_isSpoiled_0 17 rfl rfl)
theorem dX6_isSpoiled_18 : decode cX6_isSpoiled 18 = .ok (.iadd, 1) := dk_96 (dk_at dksX6_isSpoiled_0 18 rfl rfl)
theorem dX6_isSpoiled_19 : decode cX6_isSpoiled 19 = .ok (.invokevirtual 60, 3) := dk_182 0 60 (dk_at dksX6_isSpoiled_0 19 rfl rfl)
theorem dX6_isSpoiled_22 : decode cX6_isSpoiled 22 = .ok (.if_icmp .le 5, 3) := dk_164 0 5 (dk_at dksX6_isSpoiled_1 0 rfl rfl)
theorem dX6_isSpoiled_25 : decode cX6_isSpoiled 25 = .ok (.iconst 1, 1) := dk_4 (dk_at dksX6_isSpoiled_1 3 rfl rfl)
theorem dX6_isSpoiled_26 : decode cX6_isSpoiled 26 = .ok (.ireturn, 1) := dk_172 (dk_at dksX6_isSpoiled_1 4 rfl rfl)
theorem dX6_isSpoiled_27 : decode cX6_isSpoiled 27 = .ok (.iinc 2 1, 3) := dk_132 2 1 (dk_at dksX6_isSpoiled_1 5 rfl rfl)
theorem dX6_isSpoiled_30 : decode cX6_isSpoiled 30 = .ok (.goto (-28), 3) := dk_167 255 228 (dk_at dksX6_isSpoiled_1 8 rfl rfl)
theorem dX6_isSpoiled_33 : decode cX6_isSpoiled 33 = .ok (.iconst 0, 1) := dk_3 (dk_at dksX6_isSpoiled_1 11 rfl rfl)
theorem dX6_isSpoiled_34 : decode cX6_isSpoiled 34 = .ok (.ireturn, 1) := dk_172 (dk_at dksX6_isSpoiled_1 12 rfl rfl)
theorem cf_isSpoiled : xV yX6_isSpoiled RX6 cX6_isSpoiled 3 (some .boolean) 1 := ⟨q1616, qs61, q96, q1617, ⟨rfl, by decide +kernel, by decide +kernel, by decide +kernel⟩, by decide⟩
abbrev cX6_feeOf : ByteArray := prog_23_method_35_code
def yX6_feeOf : MethodName := ⟨RX6, "feeOf", "(I)I"⟩
def dkwX6_feeOf_0 : List UInt8 := [42, 27, 3, 182, 0, 176, 42, 180, 0, 163, 172]
abbrev dktX6_feeOf_0 : List UInt8 := dkwX6_feeOf_0 ++ []
theorem dksX6_feeOf_0 : cX6_feeOf.data.toList.drop 0 = dktX6_feeOf_0 := by decide +kernel
theorem dX6_feeOf_0 : decode cX6_feeOf 0 = .ok (.aload_n 0, 1) := dk_42 (dk_at dksX6_feeOf_0 0 rfl rfl)
theorem dX6_feeOf_1 : decode cX6_feeOf 1 = .ok (.iload_n 1, 1) := dk_27 (dk_at dksX6_feeOf_0 1 rfl rfl)
theorem dX6_feeOf_2 : decode cX6_feeOf 2 = .ok (.iconst 0, 1) := dk_3 (dk_at dksX6_feeOf_0 2 rfl rfl)
theorem dX6_feeOf_3 : decode cX6_feeOf 3 = .ok (.invokevirtual 176, 3) := dk_182 0 176 (dk_at dksX6_feeOf_0 3 rfl rfl)
theorem dX6_feeOf_6 : decode cX6_feeOf 6 = .ok (.aload_n 0, 1) := dk_42 (dk_at dksX6_feeOf_0 6 rfl rfl)
theorem dX6_feeOf_7 : decode cX6_feeOf 7 = .ok (.getfield 163, 3) := dk_180 0 163 (dk_at dksX6_feeOf_0 7 rfl rfl)
theorem dX6_feeOf_10 : decode cX6_feeOf 10 = .ok (.ireturn, 1) := dk_172 (dk_at dksX6_feeOf_0 10 rfl rfl)
theorem cf_feeOf : xV yX6_feeOf RX6 cX6_feeOf 2 (some .int) 1 := ⟨q1608, qs59, q96, q1609, ⟨rfl, by decide +kernel, by decide +kernel, by decide +kernel⟩, by decide⟩
abbrev cX6_ages : ByteArray := prog_23_method_36_code
def yX6_ages : MethodName := ⟨RX6, "ages", "()V"⟩
def dkwX6_ages_1 : List UInt8 := [96, 79, 177]
abbrev dktX6_ages_1 : List UInt8 := dkwX6_ages_1 ++ []
def dkwX6_ages_0 : List UInt8 := [42, 180, 0, 11, 7, 92, 46, 42, 180, 0, 11, 7, 46, 17, 39, 15, 162, 0, 7, 4, 167, 0, 4, 3]
abbrev dktX6_ages_0 : List UInt8 := dkwX6_ages_0 ++ dktX6_ages_1
theorem dksX6_ages_0 : cX6_ages.data.toList.drop 0 = dktX6_ages_0 := by decide +kernel
theorem dksX6_ages_1 : cX6_ages.data.toList.drop 24 = dktX6_ages_1 := dk_seg dksX6_ages_0 24 rfl rfl
theorem dX6_ages_0 : decode cX6_ages 0 = .ok (.aload_n 0, 1) := dk_42 (dk_at dksX6_ages_0 0 rfl rfl)
theorem dX6_ages_1 : decode cX6_ages 1 = .ok (.getfield 11, 3) := dk_180 0 11 (dk_at dksX6_ages_0 1 rfl rfl)
theorem dX6_ages_4 : decode cX6_ages 4 = .ok (.iconst 4, 1) := dk_7 (dk_at dksX6_ages_0 4 rfl rfl)
theorem dX6_ages_5 : decode cX6_ages 5 = .ok (.dup2, 1) := dk_92 (dk_at dksX6_ages_0 5 rfl rfl)
theorem dX6_ages_6 : decode cX6_ages 6 = .ok (.iaload, 1) := dk_46 (dk_at dksX6_ages_0 6 rfl rfl)
theorem dX6_ages_7 : decode cX6_ages 7 = .ok (.aload_n 0, 1) := dk_42 (dk_at dksX6_ages_0 7 rfl rfl)
theorem dX6_ages_8 : decode cX6_ages 8 = .ok (.getfield 11, 3) := dk_180 0 11 (dk_at dksX6_ages_0 8 rfl rfl)
theorem dX6_ages_11 : decode cX6_ages 11 = .ok (.iconst 4, 1) := dk_7 (dk_at dksX6_ages_0 11 rfl rfl)
theorem dX6_ages_12 : decode cX6_ages 12 = .ok (.iaload, 1) := dk_46 (dk_at dksX6_ages_0 12 rfl rfl)
theorem dX6_ages_13 : decode cX6_ages 13 = .ok (.sipush 9999, 3) := dk_17 39 15 (dk_at dksX6_ages_0 13 rfl rfl)
theorem dX6_ages_16 : decode cX6_ages 16 = .ok (.if_icmp .ge 7, 3) := dk_162 0 7 (dk_at dksX6_ages_0 16 rfl rfl)
theorem dX6_ages_19 : decode cX6_ages 19 = .ok (.iconst 1, 1) := dk_4 (dk_at dksX6_ages_0 19 rfl rfl)
theorem dX6_ages_20 : decode cX6_ages 20 = .ok (.goto 4, 3) := dk_167 0 4 (dk_at dksX6_ages_0 20 rfl rfl)
theorem dX6_ages_23 : decode cX6_ages 23 = .ok (.iconst 0, 1) := dk_3 (dk_at dksX6_ages_0 23 rfl rfl)
theorem dX6_ages_24 : decode cX6_ages 24 = .ok (.iadd, 1) := dk_96 (dk_at dksX6_ages_1 0 rfl rfl)
theorem dX6_ages_25 : decode cX6_ages 25 = .ok (.iastore, 1) := dk_79 (dk_at dksX6_ages_1 1 rfl rfl)
theorem dX6_ages_26 : decode cX6_ages 26 = .ok (.return_, 1) := dk_177 (dk_at dksX6_ages_1 2 rfl rfl)
theorem cf_ages : xV yX6_ages RX6 cX6_ages 1 none 0 := ⟨q1652, qs67, q96, q1653, ⟨rfl, by decide +kernel, by decide +kernel, by decide +kernel⟩, by decide⟩
abbrev cX6_bakes : ByteArray := prog_23_method_37_code
def yX6_bakes : MethodName := ⟨RX6, "bakes", "(I)Z"⟩
def dkwX6_bakes_4 : List UInt8 := [182, 0, 196, 28, 172]
abbrev dktX6_bakes_4 : List UInt8 := dkwX6_bakes_4 ++ []
def dkwX6_bakes_3 : List UInt8 := [162, 0, 21, 42, 180, 0, 11, 29, 42, 180, 0, 30, 29, 46, 79, 132, 3, 1, 167, 255, 236, 42]
abbrev dktX6_bakes_3 : List UInt8 := dkwX6_bakes_3 ++ dktX6_bakes_4
def dkwX6_bakes_2 : List UInt8 := [164, 0, 9, 17, 39, 15, 167, 0, 5, 21, 4, 79, 132, 3, 1, 167, 255, 204, 3, 62, 29, 7]
abbrev dktX6_bakes_2 : List UInt8 := dkwX6_bakes_2 ++ dktX6_bakes_3
def dkwX6_bakes_1 : List UInt8 := [182, 0, 187, 100, 42, 27, 29, 182, 0, 193, 96, 54, 4, 42, 180, 0, 30, 29, 21, 4, 17, 39, 15]
abbrev dktX6_bakes_1 : List UInt8 := dkwX6_bakes_1 ++ dktX6_bakes_2
def dkwX6_bakes_0 : List UInt8 := [42, 27, 182, 0, 190, 61, 3, 62, 29, 7, 162, 0, 53, 42, 180, 0, 11, 29, 46, 42, 27, 29]
abbrev dktX6_bakes_0 : List UInt8 := dkwX6_bakes_0 ++ dktX6_bakes_1
theorem dksX6_bakes_0 : cX6_bakes.data.toList.drop 0 = dktX6_bakes_0 := by decide +kernel
theorem dksX6_bakes_1 : cX6_bakes.data.toList.drop 22 = dktX6_bakes_1 := dk_seg dksX6_bakes_0 22 rfl rfl
theorem dksX6_bakes_2 : cX6_bakes.data.toList.drop 45 = dktX6_bakes_2 := dk_seg dksX6_bakes_1 23 rfl rfl
theorem dksX6_bakes_3 : cX6_bakes.data.toList.drop 67 = dktX6_bakes_3 := dk_seg dksX6_bakes_2 22 rfl rfl
theorem dksX6_bakes_4 : cX6_bakes.data.toList.drop 89 = dktX6_bakes_4 := dk_seg dksX6_bakes_3 22 rfl rfl
theorem dX6_bakes_0 : decode cX6_bakes 0 = .ok (.aload_n 0, 1) := dk_42 (dk_at dksX6_bakes_0 0 rfl rfl)
theorem dX6_bakes_1 : decode cX6_bakes 1 = .ok (.iload_n 1, 1) := dk_27 (dk_at dksX6_bakes_0 1 rfl rfl)
theorem dX6_bakes_2 : decode cX6_bakes 2 = .ok (.invokevirtual 190, 3) := dk_182 0 190 (dk_at dksX6_bakes_0 2 rfl rfl)
theorem dX6_bakes_5 : decode cX6_bakes 5 = .ok (.istore_n 2, 1) := dk_61 (dk_at dksX6_bakes_0 5 rfl rfl)
theorem dX6_bakes_6 : decode cX6_bakes 6 = .ok (.iconst 0, 1) := dk_3 (dk_at dksX6_bakes_0 6 rfl rfl)
theorem dX6_bakes_7 : decode cX6_bakes 7 = .ok (.istore_n 3, 1) := dk_62 (dk_at dksX6_bakes_0 7 rfl rfl)
theorem dX6_bakes_8 : decode cX6_bakes 8 = .ok (.iload_n 3, 1) := dk_29 (dk_at dksX6_bakes_0 8 rfl rfl)
theorem dX6_bakes_9 : decode cX6_bakes 9 = .ok (.iconst 4, 1) := dk_7 (dk_at dksX6_bakes_0 9 rfl rfl)
theorem dX6_bakes_10 : decode cX6_bakes 10 = .ok (.if_icmp .ge 53, 3) := dk_162 0 53 (dk_at dksX6_bakes_0 10 rfl rfl)
theorem dX6_bakes_13 : decode cX6_bakes 13 = .ok (.aload_n 0, 1) := dk_42 (dk_at dksX6_bakes_0 13 rfl rfl)
theorem dX6_bakes_14 : decode cX6_bakes 14 = .ok (.getfield 11, 3) := dk_180 0 11 (dk_at dksX6_bakes_0 14 rfl rfl)
theorem dX6_bakes_17 : decode cX6_bakes 17 = .ok (.iload_n 3, 1) := dk_29 (dk_at dksX6_bakes_0 17 rfl rfl)
theorem dX6_bakes_18 : decode cX6_bakes 18 = .ok (.iaload, 1) := dk_46 (dk_at dksX6_bakes_0 18 rfl rfl)
theorem dX6_bakes_19 : decode cX6_bakes 19 = .ok (.aload_n 0, 1) := dk_42 (dk_at dksX6_bakes_0 19 rfl rfl)
theorem dX6_bakes_20 : decode cX6_bakes 20 = .ok (.iload_n 1, 1) := dk_27 (dk_at dksX6_bakes_0 20 rfl rfl)
theorem dX6_bakes_21 : decode cX6_bakes 21 = .ok (.iload_n 3, 1) := dk_29 (dk_at dksX6_bakes_0 21 rfl rfl)
theorem dX6_bakes_22 : decode cX6_bakes 22 = .ok (.invokevirtual 187, 3) := dk_182 0 187 (dk_at dksX6_bakes_1 0 rfl rfl)
theorem dX6_bakes_25 : decode cX6_bakes 25 = .ok (.isub, 1) := dk_100 (dk_at dksX6_bakes_1 3 rfl rfl)
theorem dX6_bakes_26 : decode cX6_bakes 26 = .ok (.aload_n 0, 1) := dk_42 (dk_at dksX6_bakes_1 4 rfl rfl)
theorem dX6_bakes_27 : decode cX6_bakes 27 = .ok (.iload_n 1, 1) := dk_27 (dk_at dksX6_bakes_1 5 rfl rfl)
theorem dX6_bakes_28 : decode cX6_bakes 28 = .ok (.iload_n 3, 1) := dk_29 (dk_at dksX6_bakes_1 6 rfl rfl)
theorem dX6_bakes_29 : decode cX6_bakes 29 = .ok (.invokevirtual 193, 3) := dk_182 0 193 (dk_at dksX6_bakes_1 7 rfl rfl)
theorem dX6_bakes_32 : decode cX6_bakes 32 = .ok (.iadd, 1) := dk_96 (dk_at dksX6_bakes_1 10 rfl rfl)
theorem dX6_bakes_33 : decode cX6_bakes 33 = .ok (.istore 4, 2) := dk_54 4 (dk_at dksX6_bakes_1 11 rfl rfl)
theorem dX6_bakes_35 : decode cX6_bakes 35 = .ok (.aload_n 0, 1) := dk_42 (dk_at dksX6_bakes_1 13 rfl rfl)
theorem dX6_bakes_36 : decode cX6_bakes 36 = .ok (.getfield 30, 3) := dk_180 0 30 (dk_at dksX6_bakes_1 14 rfl rfl)
theorem dX6_bakes_39 : decode cX6_bakes 39 = .ok (.iload_n 3, 1) := dk_29 (dk_at dksX6_bakes_1 17 rfl rfl)
theorem dX6_bakes_40 : decode cX6_bakes 40 = .ok (.iload 4, 2) := dk_21 4 (dk_at dksX6_bakes_1 18 rfl rfl)
theorem dX6_bakes_42 : decode cX6_bakes 42 = .ok (.sipush 9999, 3) := dk_17 39 15 (dk_at dksX6_bakes_1 20 rfl rfl)
theorem dX6_bakes_45 : decode cX6_bakes 45 = .ok (.if_icmp .le 9, 3) := dk_164 0 9 (dk_at dksX6_bakes_2 0 rfl rfl)
theorem dX6_bakes_48 : decode cX6_bakes 48 = .ok (.sipush 9999, 3) := dk_17 39 15 (dk_at dksX6_bakes_2 3 rfl rfl)
theorem dX6_bakes_51 : decode cX6_bakes 51 = .ok (.goto 5, 3) := dk_167 0 5 (dk_at dksX6_bakes_2 6 rfl rfl)
theorem dX6_bakes_54 : decode cX6_bakes 54 = .ok (.iload 4, 2) := dk_21 4 (dk_at dksX6_bakes_2 9 rfl rfl)
theorem dX6_bakes_56 : decode cX6_bakes 56 = .ok (.iastore, 1) := dk_79 (dk_at dksX6_bakes_2 11 rfl rfl)
theorem dX6_bakes_57 : decode cX6_bakes 57 = .ok (.iinc 3 1, 3) := dk_132 3 1 (dk_at dksX6_bakes_2 12 rfl rfl)
theorem dX6_bakes_60 : decode cX6_bakes 60 = .ok (.goto (-52), 3) := dk_167 255 204 (dk_at dksX6_bakes_2 15 rfl rfl)
theorem dX6_bakes_63 : decode cX6_bakes 63 = .ok (.iconst 0, 1) := dk_3 (dk_at dksX6_bakes_2 18 rfl rfl)
theorem dX6_bakes_64 : decode cX6_bakes 64 = .ok (.istore_n 3, 1) := dk_62 (dk_at dksX6_bakes_2 19 rfl rfl)
theorem dX6_bakes_65 : decode cX6_bakes 65 = .ok (.iload_n 3, 1) := dk_29 (dk_at dksX6_bakes_2 20 rfl rfl)
theorem dX6_bakes_66 : decode cX6_bakes 66 = .ok (.iconst 4, 1) := dk_7 (dk_at dksX6_bakes_2 21 rfl rfl)
theorem dX6_bakes_67 : decode cX6_bakes 67 = .ok (.if_icmp .ge 21, 3) := dk_162 0 21 (dk_at dksX6_bakes_3 0 rfl rfl)
theorem dX6_bakes_70 : decode cX6_bakes 70 = .ok (.aload_n 0, 1) := dk_42 (dk_at dksX6_bakes_3 3 rfl rfl)
theorem dX6_bakes_71 : decode cX6_bakes 71 = .ok (.getfield 11, 3) := dk_180 0 11 (dk_at dksX6_bakes_3 4 rfl rfl)
theorem dX6_bakes_74 : decode cX6_bakes 74 = .ok (.iload_n 3, 1) := dk_29 (dk_at dksX6_bakes_3 7 rfl rfl)
theorem dX6_bakes_75 : decode cX6_bakes 75 = .ok (.aload_n 0, 1) := dk_42 (dk_at dksX6_bakes_3 8 rfl rfl)
theorem dX6_bakes_76 : decode cX6_bakes 76 = .ok (.getfield 30, 3) := dk_180 0 30 (dk_at dksX6_bakes_3 9 rfl rfl)
theorem dX6_bakes_79 : decode cX6_bakes 79 = .ok (.iload_n 3, 1) := dk_29 (dk_at dksX6_bakes_3 12 rfl rfl)
theorem dX6_bakes_80 : decode cX6_bakes 80 = .ok (.iaload, 1) := dk_46 (dk_at dksX6_bakes_3 13 rfl rfl)
theorem dX6_bakes_81 : decode cX6_bakes 81 = .ok (.iastore, 1) := dk_79 (dk_at dksX6_bakes_3 14 rfl rfl)
theorem dX6_bakes_82 : decode cX6_bakes 82 = .ok (.iinc 3 1, 3) := dk_132 3 1 (dk_at dksX6_bakes_3 15 rfl rfl)
theorem dX6_bakes_85 : decode cX6_bakes 85 = .ok (.goto (-20), 3) := dk_167 255 236 (dk_at dksX6_bakes_3 18 rfl rfl)
theorem dX6_bakes_88 : decode cX6_bakes 88 = .ok (.aload_n 0, 1) := dk_42 (dk_at dksX6_bakes_3 21 rfl rfl)
theorem dX6_bakes_89 : decode cX6_bakes 89 = .ok (.invokevirtual 196, 3) := dk_182 0 196 (dk_at dksX6_bakes_4 0 rfl rfl)
theorem dX6_bakes_92 : decode cX6_bakes 92 = .ok (.iload_n 2, 1) := dk_28 (dk_at dksX6_bakes_4 3 rfl rfl)
theorem dX6_bakes_93 : decode cX6_bakes 93 = .ok (.ireturn, 1) := dk_172 (dk_at dksX6_bakes_4 4 rfl rfl)
theorem cf_bakes : xV yX6_bakes RX6 cX6_bakes 5 (some .boolean) 1 := ⟨q1648, qs66, q96, q1649, ⟨rfl, by decide +kernel, by decide +kernel, by decide +kernel⟩, by decide⟩
abbrev cX6_cools : ByteArray := prog_23_method_38_code
def yX6_cools : MethodName := ⟨RX6, "cools", "()V"⟩
def dkwX6_cools_2 : List UInt8 := [29, 79, 132, 2, 1, 167, 255, 216, 42, 182, 0, 196, 177]
abbrev dktX6_cools_2 : List UInt8 := dkwX6_cools_2 ++ []
def dkwX6_cools_1 : List UInt8 := [46, 104, 16, 100, 108, 62, 42, 180, 0, 11, 28, 29, 17, 39, 15, 164, 0, 9, 17, 39, 15, 167, 0, 4]
abbrev dktX6_cools_1 : List UInt8 := dkwX6_cools_1 ++ dktX6_cools_2
def dkwX6_cools_0 : List UInt8 := [42, 3, 3, 182, 0, 176, 42, 180, 0, 151, 60, 3, 61, 28, 7, 162, 0, 41, 27, 42, 180, 0, 11, 28]
abbrev dktX6_cools_0 : List UInt8 := dkwX6_cools_0 ++ dktX6_cools_1
theorem dksX6_cools_0 : cX6_cools.data.toList.drop 0 = dktX6_cools_0 := by decide +kernel
theorem dksX6_cools_1 : cX6_cools.data.toList.drop 24 = dktX6_cools_1 := dk_seg dksX6_cools_0 24 rfl rfl
theorem dksX6_cools_2 : cX6_cools.data.toList.drop 48 = dktX6_cools_2 := dk_seg dksX6_cools_1 24 rfl rfl
theorem dX6_cools_0 : decode cX6_cools 0 = .ok (.aload_n 0, 1) := dk_42 (dk_at dksX6_cools_0 0 rfl rfl)
theorem dX6_cools_1 : decode cX6_cools 1 = .ok (.iconst 0, 1) := dk_3 (dk_at dksX6_cools_0 1 rfl rfl)
theorem dX6_cools_2 : decode cX6_cools 2 = .ok (.iconst 0, 1) := dk_3 (dk_at dksX6_cools_0 2 rfl rfl)
theorem dX6_cools_3 : decode cX6_cools 3 = .ok (.invokevirtual 176, 3) := dk_182 0 176 (dk_at dksX6_cools_0 3 rfl rfl)
theorem dX6_cools_6 : decode cX6_cools 6 = .ok (.aload_n 0, 1) := dk_42 (dk_at dksX6_cools_0 6 rfl rfl)
theorem dX6_cools_7 : decode cX6_cools 7 = .ok (.getfield 151, 3) := dk_180 0 151 (dk_at dksX6_cools_0 7 rfl rfl)
theorem dX6_cools_10 : decode cX6_cools 10 = .ok (.istore_n 1, 1) := dk_60 (dk_at dksX6_cools_0 10 rfl rfl)
theorem dX6_cools_11 : decode cX6_cools 11 = .ok (.iconst 0, 1) := dk_3 (dk_at dksX6_cools_0 11 rfl rfl)
theorem dX6_cools_12 : decode cX6_cools 12 = .ok (.istore_n 2, 1) := dk_61 (dk_at dksX6_cools_0 12 rfl rfl)
theorem dX6_cools_13 : decode cX6_cools 13 = .ok (.iload_n 2, 1) := dk_28 (dk_at dksX6_cools_0 13 rfl rfl)
theorem dX6_cools_14 : decode cX6_cools 14 = .ok (.iconst 4, 1) := dk_7 (dk_at dksX6_cools_0 14 rfl rfl)
theorem dX6_cools_15 : decode cX6_cools 15 = .ok (.if_icmp .ge 41, 3) := dk_162 0 41 (dk_at dksX6_cools_0 15 rfl rfl)
theorem dX6_cools_18 : decode cX6_cools 18 = .ok (.iload_n 1, 1) := dk_27 (dk_at dksX6_cools_0 18 rfl rfl)
theorem dX6_cools_19 : decode cX6_cools 19 = .ok (.aload_n 0, 1) := dk_42 (dk_at dksX6_cools_0 19 rfl rfl)
theorem dX6_cools_20 : decode cX6_cools 20 = .ok (.getfield 11, 3) := dk_180 0 11 (dk_at dksX6_cools_0 20 rfl rfl)
theorem dX6_cools_23 : decode cX6_cools 23 = .ok (.iload_n 2, 1) := dk_28 (dk_at dksX6_cools_0 23 rfl rfl)
theorem dX6_cools_24 : decode cX6_cools 24 = .ok (.iaload, 1) := dk_46 (dk_at dksX6_cools_1 0 rfl rfl)
theorem dX6_cools_25 : decode cX6_cools 25 = .ok (.imul, 1) := dk_104 (dk_at dksX6_cools_1 1 rfl rfl)
theorem dX6_cools_26 : decode cX6_cools 26 = .ok (.bipush 100, 2) := dk_16 100 (dk_at dksX6_cools_1 2 rfl rfl)
theorem dX6_cools_28 : decode cX6_cools 28 = .ok (.idiv, 1) := dk_108 (dk_at dksX6_cools_1 4 rfl rfl)
theorem dX6_cools_29 : decode cX6_cools 29 = .ok (.istore_n 3, 1) := dk_62 (dk_at dksX6_cools_1 5 rfl rfl)
theorem dX6_cools_30 : decode cX6_cools 30 = .ok (.aload_n 0, 1) := dk_42 (dk_at dksX6_cools_1 6 rfl rfl)
theorem dX6_cools_31 : decode cX6_cools 31 = .ok (.getfield 11, 3) := dk_180 0 11 (dk_at dksX6_cools_1 7 rfl rfl)
theorem dX6_cools_34 : decode cX6_cools 34 = .ok (.iload_n 2, 1) := dk_28 (dk_at dksX6_cools_1 10 rfl rfl)
theorem dX6_cools_35 : decode cX6_cools 35 = .ok (.iload_n 3, 1) := dk_29 (dk_at dksX6_cools_1 11 rfl rfl)
theorem dX6_cools_36 : decode cX6_cools 36 = .ok (.sipush 9999, 3) := dk_17 39 15 (dk_at dksX6_cools_1 12 rfl rfl)
theorem dX6_cools_39 : decode cX6_cools 39 = .ok (.if_icmp .le 9, 3) := dk_164 0 9 (dk_at dksX6_cools_1 15 rfl rfl)
theorem dX6_cools_42 : decode cX6_cools 42 = .ok (.sipush 9999, 3) := dk_17 39 15 (dk_at dksX6_cools_1 18 rfl rfl)
theorem dX6_cools_45 : decode cX6_cools 45 = .ok (.goto 4, 3) := dk_167 0 4 (dk_at dksX6_cools_1 21 rfl rfl)
theorem dX6_cools_48 : decode cX6_cools 48 = .ok (.iload_n 3, 1) := dk_29 (dk_at dksX6_cools_2 0 rfl rfl)
theorem dX6_cools_49 : decode cX6_cools 49 = .ok (.iastore, 1) := dk_79 (dk_at dksX6_cools_2 1 rfl rfl)
theorem dX6_cools_50 : decode cX6_cools 50 = .ok (.iinc 2 1, 3) := dk_132 2 1 (dk_at dksX6_cools_2 2 rfl rfl)
theorem dX6_cools_53 : decode cX6_cools 53 = .ok (.goto (-40), 3) := dk_167 255 216 (dk_at dksX6_cools_2 5 rfl rfl)
theorem dX6_cools_56 : decode cX6_cools 56 = .ok (.aload_n 0, 1) := dk_42 (dk_at dksX6_cools_2 8 rfl rfl)
theorem dX6_cools_57 : decode cX6_cools 57 = .ok (.invokevirtual 196, 3) := dk_182 0 196 (dk_at dksX6_cools_2 9 rfl rfl)
theorem dX6_cools_60 : decode cX6_cools 60 = .ok (.return_, 1) := dk_177 (dk_at dksX6_cools_2 12 rfl rfl)
theorem cf_cools : xV yX6_cools RX6 cX6_cools 4 none 0 := ⟨q1660, qs68, q96, q1661, ⟨rfl, by decide +kernel, by decide +kernel, by decide +kernel⟩, by decide⟩
abbrev cX6_loaf : ByteArray := prog_23_method_39_code
def yX6_loaf : MethodName := ⟨RX6, "loaf", "(II)I"⟩
def dkwX6_loaf_5 : List UInt8 := [16, 9, 79, 132, 4, 1, 167, 255, 209, 42, 180, 0, 11, 8, 92, 46, 4, 96, 79, 29, 172]
abbrev dktX6_loaf_5 : List UInt8 := dkwX6_loaf_5 ++ []
def dkwX6_loaf_4 : List UInt8 := [96, 21, 4, 96, 3, 79, 42, 180, 0, 11, 16, 8, 16, 10, 29, 104, 96, 16, 6, 96, 21, 4, 96]
abbrev dktX6_loaf_4 : List UInt8 := dkwX6_loaf_4 ++ dktX6_loaf_5
def dkwX6_loaf_3 : List UInt8 := [96, 28, 79, 3, 54, 4, 21, 4, 7, 162, 0, 47, 42, 180, 0, 11, 16, 8, 16, 10, 29, 104, 96, 5]
abbrev dktX6_loaf_3 : List UInt8 := dkwX6_loaf_3 ++ dktX6_loaf_4
def dkwX6_loaf_2 : List UInt8 := [180, 0, 11, 16, 8, 16, 10, 29, 104, 96, 27, 79, 42, 180, 0, 11, 16, 8, 16, 10, 29, 104, 96, 4]
abbrev dktX6_loaf_2 : List UInt8 := dkwX6_loaf_2 ++ dktX6_loaf_3
def dkwX6_loaf_1 : List UInt8 := [172, 42, 180, 0, 11, 8, 46, 16, 6, 160, 0, 6, 16, 252, 172, 42, 180, 0, 11, 8, 46, 62, 42]
abbrev dktX6_loaf_1 : List UInt8 := dkwX6_loaf_1 ++ dktX6_loaf_2
def dkwX6_loaf_0 : List UInt8 := [27, 3, 16, 6, 184, 0, 52, 154, 0, 5, 2, 172, 28, 3, 16, 9, 184, 0, 52, 154, 0, 6, 16, 254]
abbrev dktX6_loaf_0 : List UInt8 := dkwX6_loaf_0 ++ dktX6_loaf_1
theorem dksX6_loaf_0 : cX6_loaf.data.toList.drop 0 = dktX6_loaf_0 := by decide +kernel
theorem dksX6_loaf_1 : cX6_loaf.data.toList.drop 24 = dktX6_loaf_1 := dk_seg dksX6_loaf_0 24 rfl rfl
theorem dksX6_loaf_2 : cX6_loaf.data.toList.drop 47 = dktX6_loaf_2 := dk_seg dksX6_loaf_1 23 rfl rfl
theorem dksX6_loaf_3 : cX6_loaf.data.toList.drop 71 = dktX6_loaf_3 := dk_seg dksX6_loaf_2 24 rfl rfl
theorem dksX6_loaf_4 : cX6_loaf.data.toList.drop 95 = dktX6_loaf_4 := dk_seg dksX6_loaf_3 24 rfl rfl
theorem dksX6_loaf_5 : cX6_loaf.data.toList.drop 118 = dktX6_loaf_5 := dk_seg dksX6_loaf_4 23 rfl rfl
theorem dX6_loaf_0 : decode cX6_loaf 0 = .ok (.iload_n 1, 1) := dk_27 (dk_at dksX6_loaf_0 0 rfl rfl)
theorem dX6_loaf_1 : decode cX6_loaf 1 = .ok (.iconst 0, 1) := dk_3 (dk_at dksX6_loaf_0 1 rfl rfl)
theorem dX6_loaf_2 : decode cX6_loaf 2 = .ok (.bipush 6, 2) := dk_16 6 (dk_at dksX6_loaf_0 2 rfl rfl)
theorem dX6_loaf_4 : decode cX6_loaf 4 = .ok (.invokestatic 52, 3) := dk_184 0 52 (dk_at dksX6_loaf_0 4 rfl rfl)
theorem dX6_loaf_7 : decode cX6_loaf 7 = .ok (.ifCond .ne 5, 3) := dk_154 0 5 (dk_at dksX6_loaf_0 7 rfl rfl)
theorem dX6_loaf_10 : decode cX6_loaf 10 = .ok (.iconst (-1), 1) := dk_2 (dk_at dksX6_loaf_0 10 rfl rfl)
theorem dX6_loaf_11 : decode cX6_loaf 11 = .ok (.ireturn, 1) := dk_172 (dk_at dksX6_loaf_0 11 rfl rfl)
theorem dX6_loaf_12 : decode cX6_loaf 12 = .ok (.iload_n 2, 1) := dk_28 (dk_at dksX6_loaf_0 12 rfl rfl)
theorem dX6_loaf_13 : decode cX6_loaf 13 = .ok (.iconst 0, 1) := dk_3 (dk_at dksX6_loaf_0 13 rfl rfl)
theorem dX6_loaf_14 : decode cX6_loaf 14 = .ok (.bipush 9, 2) := dk_16 9 (dk_at dksX6_loaf_0 14 rfl rfl)
theorem dX6_loaf_16 : decode cX6_loaf 16 = .ok (.invokestatic 52, 3) := dk_184 0 52 (dk_at dksX6_loaf_0 16 rfl rfl)
theorem dX6_loaf_19 : decode cX6_loaf 19 = .ok (.ifCond .ne 6, 3) := dk_154 0 6 (dk_at dksX6_loaf_0 19 rfl rfl)
theorem dX6_loaf_22 : decode cX6_loaf 22 = .ok (.bipush (-2), 2) := dk_16 254 (dk_at dksX6_loaf_0 22 rfl rfl)
theorem dX6_loaf_24 : decode cX6_loaf 24 = .ok (.ireturn, 1) := dk_172 (dk_at dksX6_loaf_1 0 rfl rfl)
theorem dX6_loaf_25 : decode cX6_loaf 25 = .ok (.aload_n 0, 1) := dk_42 (dk_at dksX6_loaf_1 1 rfl rfl)
theorem dX6_loaf_26 : decode cX6_loaf 26 = .ok (.getfield 11, 3) := dk_180 0 11 (dk_at dksX6_loaf_1 2 rfl rfl)
theorem dX6_loaf_29 : decode cX6_loaf 29 = .ok (.iconst 5, 1) := dk_8 (dk_at dksX6_loaf_1 5 rfl rfl)
theorem dX6_loaf_30 : decode cX6_loaf 30 = .ok (.iaload, 1) := dk_46 (dk_at dksX6_loaf_1 6 rfl rfl)
theorem dX6_loaf_31 : decode cX6_loaf 31 = .ok (.bipush 6, 2) := dk_16 6 (dk_at dksX6_loaf_1 7 rfl rfl)
theorem dX6_loaf_33 : decode cX6_loaf 33 = .ok (.if_icmp .ne 6, 3) := dk_160 0 6 (dk_at dksX6_loaf_1 9 rfl rfl)
theorem dX6_loaf_36 : decode cX6_loaf 36 = .ok (.bipush (-4), 2) := dk_16 252 (dk_at dksX6_loaf_1 12 rfl rfl)
theorem dX6_loaf_38 : decode cX6_loaf 38 = .ok (.ireturn, 1) := dk_172 (dk_at dksX6_loaf_1 14 rfl rfl)
theorem dX6_loaf_39 : decode cX6_loaf 39 = .ok (.aload_n 0, 1) := dk_42 (dk_at dksX6_loaf_1 15 rfl rfl)
theorem dX6_loaf_40 : decode cX6_loaf 40 = .ok (.getfield 11, 3) := dk_180 0 11 (dk_at dksX6_loaf_1 16 rfl rfl)
theorem dX6_loaf_43 : decode cX6_loaf 43 = .ok (.iconst 5, 1) := dk_8 (dk_at dksX6_loaf_1 19 rfl rfl)
theorem dX6_loaf_44 : decode cX6_loaf 44 = .ok (.iaload, 1) := dk_46 (dk_at dksX6_loaf_1 20 rfl rfl)
theorem dX6_loaf_45 : decode cX6_loaf 45 = .ok (.istore_n 3, 1) := dk_62 (dk_at dksX6_loaf_1 21 rfl rfl)
theorem dX6_loaf_46 : decode cX6_loaf 46 = .ok (.aload_n 0, 1) := dk_42 (dk_at dksX6_loaf_1 22 rfl rfl)
theorem dX6_loaf_47 : decode cX6_loaf 47 = .ok (.getfield 11, 3) := dk_180 0 11 (dk_at dksX6_loaf_2 0 rfl rfl)
theorem dX6_loaf_50 : decode cX6_loaf 50 = .ok (.bipush 8, 2) := dk_16 8 (dk_at dksX6_loaf_2 3 rfl rfl)
theorem dX6_loaf_52 : decode cX6_loaf 52 = .ok (.bipush 10, 2) := dk_16 10 (dk_at dksX6_loaf_2 5 rfl rfl)
theorem dX6_loaf_54 : decode cX6_loaf 54 = .ok (.iload_n 3, 1) := dk_29 (dk_at dksX6_loaf_2 7 rfl rfl)
theorem dX6_loaf_55 : decode cX6_loaf 55 = .ok (.imul, 1) := dk_104 (dk_at dksX6_loaf_2 8 rfl rfl)
theorem dX6_loaf_56 : decode cX6_loaf 56 = .ok (.iadd, 1) := dk_96 (dk_at dksX6_loaf_2 9 rfl rfl)
theorem dX6_loaf_57 : decode cX6_loaf 57 = .ok (.iload_n 1, 1) := dk_27 (dk_at dksX6_loaf_2 10 rfl rfl)
theorem dX6_loaf_58 : decode cX6_loaf 58 = .ok (.iastore, 1) := dk_79 (dk_at dksX6_loaf_2 11 rfl rfl)
theorem dX6_loaf_59 : decode cX6_loaf 59 = .ok (.aload_n 0, 1) := dk_42 (dk_at dksX6_loaf_2 12 rfl rfl)
theorem dX6_loaf_60 : decode cX6_loaf 60 = .ok (.getfield 11, 3) := dk_180 0 11 (dk_at dksX6_loaf_2 13 rfl rfl)
theorem dX6_loaf_63 : decode cX6_loaf 63 = .ok (.bipush 8, 2) := dk_16 8 (dk_at dksX6_loaf_2 16 rfl rfl)
theorem dX6_loaf_65 : decode cX6_loaf 65 = .ok (.bipush 10, 2) := dk_16 10 (dk_at dksX6_loaf_2 18 rfl rfl)
theorem dX6_loaf_67 : decode cX6_loaf 67 = .ok (.iload_n 3, 1) := dk_29 (dk_at dksX6_loaf_2 20 rfl rfl)
theorem dX6_loaf_68 : decode cX6_loaf 68 = .ok (.imul, 1) := dk_104 (dk_at dksX6_loaf_2 21 rfl rfl)
theorem dX6_loaf_69 : decode cX6_loaf 69 = .ok (.iadd, 1) := dk_96 (dk_at dksX6_loaf_2 22 rfl rfl)
theorem dX6_loaf_70 : decode cX6_loaf 70 = .ok (.iconst 1, 1) := dk_4 (dk_at dksX6_loaf_2 23 rfl rfl)
theorem dX6_loaf_71 : decode cX6_loaf 71 = .ok (.iadd, 1) := dk_96 (dk_at dksX6_loaf_3 0 rfl rfl)
theorem dX6_loaf_72 : decode cX6_loaf 72 = .ok (.iload_n 2, 1) := dk_28 (dk_at dksX6_loaf_3 1 rfl rfl)
theorem dX6_loaf_73 : decode cX6_loaf 73 = .ok (.iastore, 1) := dk_79 (dk_at dksX6_loaf_3 2 rfl rfl)
theorem dX6_loaf_74 : decode cX6_loaf 74 = .ok (.iconst 0, 1) := dk_3 (dk_at dksX6_loaf_3 3 rfl rfl)
theorem dX6_loaf_75 : decode cX6_loaf 75 = .ok (.istore 4, 2) := dk_54 4 (dk_at dksX6_loaf_3 4 rfl rfl)
theorem dX6_loaf_77 : decode cX6_loaf 77 = .ok (.iload 4, 2) := dk_21 4 (dk_at dksX6_loaf_3 6 rfl rfl)
theorem dX6_loaf_79 : decode cX6_loaf 79 = .ok (.iconst 4, 1) := dk_7 (dk_at dksX6_loaf_3 8 rfl rfl)
theorem dX6_loaf_80 : decode cX6_loaf 80 = .ok (.if_icmp .ge 47, 3) := dk_162 0 47 (dk_at dksX6_loaf_3 9 rfl rfl)
theorem dX6_loaf_83 : decode cX6_loaf 83 = .ok (.aload_n 0, 1) := dk_42 (dk_at dksX6_loaf_3 12 rfl rfl)
theorem dX6_loaf_84 : decode cX6_loaf 84 = .ok (.getfield 11, 3) := dk_180 0 11 (dk_at dksX6_loaf_3 13 rfl rfl)
theorem dX6_loaf_87 : decode cX6_loaf 87 = .ok (.bipush 8, 2) := dk_16 8 (dk_at dksX6_loaf_3 16 rfl rfl)
theorem dX6_loaf_89 : decode cX6_loaf 89 = .ok (.bipush 10, 2) := dk_16 10 (dk_at dksX6_loaf_3 18 rfl rfl)
theorem dX6_loaf_91 : decode cX6_loaf 91 = .ok (.iload_n 3, 1) := dk_29 (dk_at dksX6_loaf_3 20 rfl rfl)
theorem dX6_loaf_92 : decode cX6_loaf 92 = .ok (.imul, 1) := dk_104 (dk_at dksX6_loaf_3 21 rfl rfl)
theorem dX6_loaf_93 : decode cX6_loaf 93 = .ok (.iadd, 1) := dk_96 (dk_at dksX6_loaf_3 22 rfl rfl)
theorem dX6_loaf_94 : decode cX6_loaf 94 = .ok (.iconst 2, 1) := dk_5 (dk_at dksX6_loaf_3 23 rfl rfl)
theorem dX6_loaf_95 : decode cX6_loaf 95 = .ok (.iadd, 1) := dk_96 (dk_at dksX6_loaf_4 0 rfl rfl)
theorem dX6_loaf_96 : decode cX6_loaf 96 = .ok (.iload 4, 2) := dk_21 4 (dk_at dksX6_loaf_4 1 rfl rfl)
theorem dX6_loaf_98 : decode cX6_loaf 98 = .ok (.iadd, 1) := dk_96 (dk_at dksX6_loaf_4 3 rfl rfl)
theorem dX6_loaf_99 : decode cX6_loaf 99 = .ok (.iconst 0, 1) := dk_3 (dk_at dksX6_loaf_4 4 rfl rfl)
theorem dX6_loaf_100 : decode cX6_loaf 100 = .ok (.iastore, 1) := dk_79 (dk_at dksX6_loaf_4 5 rfl rfl)
theorem dX6_loaf_101 : decode cX6_loaf 101 = .ok (.aload_n 0, 1) := dk_42 (dk_at dksX6_loaf_4 6 rfl rfl)
theorem dX6_loaf_102 : decode cX6_loaf 102 = .ok (.getfield 11, 3) := dk_180 0 11 (dk_at dksX6_loaf_4 7 rfl rfl)
theorem dX6_loaf_105 : decode cX6_loaf 105 = .ok (.bipush 8, 2) := dk_16 8 (dk_at dksX6_loaf_4 10 rfl rfl)
theorem dX6_loaf_107 : decode cX6_loaf 107 = .ok (.bipush 10, 2) := dk_16 10 (dk_at dksX6_loaf_4 12 rfl rfl)
theorem dX6_loaf_109 : decode cX6_loaf 109 = .ok (.iload_n 3, 1) := dk_29 (dk_at dksX6_loaf_4 14 rfl rfl)
theorem dX6_loaf_110 : decode cX6_loaf 110 = .ok (.imul, 1) := dk_104 (dk_at dksX6_loaf_4 15 rfl rfl)
theorem dX6_loaf_111 : decode cX6_loaf 111 = .ok (.iadd, 1) := dk_96 (dk_at dksX6_loaf_4 16 rfl rfl)
theorem dX6_loaf_112 : decode cX6_loaf 112 = .ok (.bipush 6, 2) := dk_16 6 (dk_at dksX6_loaf_4 17 rfl rfl)
theorem dX6_loaf_114 : decode cX6_loaf 114 = .ok (.iadd, 1) := dk_96 (dk_at dksX6_loaf_4 19 rfl rfl)
theorem dX6_loaf_115 : decode cX6_loaf 115 = .ok (.iload 4, 2) := dk_21 4 (dk_at dksX6_loaf_4 20 rfl rfl)
theorem dX6_loaf_117 : decode cX6_loaf 117 = .ok (.iadd, 1) := dk_96 (dk_at dksX6_loaf_4 22 rfl rfl)
theorem dX6_loaf_118 : decode cX6_loaf 118 = .ok (.bipush 9, 2) := dk_16 9 (dk_at dksX6_loaf_5 0 rfl rfl)
theorem dX6_loaf_120 : decode cX6_loaf 120 = .ok (.iastore, 1) := dk_79 (dk_at dksX6_loaf_5 2 rfl rfl)
theorem dX6_loaf_121 : decode cX6_loaf 121 = .ok (.iinc 4 1, 3) := dk_132 4 1 (dk_at dksX6_loaf_5 3 rfl rfl)
theorem dX6_loaf_124 : decode cX6_loaf 124 = .ok (.goto (-47), 3) := dk_167 255 209 (dk_at dksX6_loaf_5 6 rfl rfl)
theorem dX6_loaf_127 : decode cX6_loaf 127 = .ok (.aload_n 0, 1) := dk_42 (dk_at dksX6_loaf_5 9 rfl rfl)
theorem dX6_loaf_128 : decode cX6_loaf 128 = .ok (.getfield 11, 3) := dk_180 0 11 (dk_at dksX6_loaf_5 10 rfl rfl)
theorem dX6_loaf_131 : decode cX6_loaf 131 = .ok (.iconst 5, 1) := dk_8 (dk_at dksX6_loaf_5 13 rfl rfl)
theorem dX6_loaf_132 : decode cX6_loaf 132 = .ok (.dup2, 1) := dk_92 (dk_at dksX6_loaf_5 14 rfl rfl)
theorem dX6_loaf_133 : decode cX6_loaf 133 = .ok (.iaload, 1) := dk_46 (dk_at dksX6_loaf_5 15 rfl rfl)
theorem dX6_loaf_134 : decode cX6_loaf 134 = .ok (.iconst 1, 1) := dk_4 (dk_at dksX6_loaf_5 16 rfl rfl)
theorem dX6_loaf_135 : decode cX6_loaf 135 = .ok (.iadd, 1) := dk_96 (dk_at dksX6_loaf_5 17 rfl rfl)
theorem dX6_loaf_136 : decode cX6_loaf 136 = .ok (.iastore, 1) := dk_79 (dk_at dksX6_loaf_5 18 rfl rfl)
theorem dX6_loaf_137 : decode cX6_loaf 137 = .ok (.iload_n 3, 1) := dk_29 (dk_at dksX6_loaf_5 19 rfl rfl)
theorem dX6_loaf_138 : decode cX6_loaf 138 = .ok (.ireturn, 1) := dk_172 (dk_at dksX6_loaf_5 20 rfl rfl)
theorem cf_loaf : xV yX6_loaf RX6 cX6_loaf 5 (some .int) 2 := ⟨q1588, q1589, q96, q1590, ⟨rfl, by decide +kernel, by decide +kernel, by decide +kernel⟩, by decide⟩
abbrev cX6_set : ByteArray := prog_23_method_40_code
def yX6_set : MethodName := ⟨RX6, "set", "(IIII)I"⟩
def dkwX6_set_3 : List UInt8 := [180, 0, 11, 21, 5, 21, 4, 79, 21, 6, 172]
abbrev dktX6_set_3 : List UInt8 := dkwX6_set_3 ++ []
def dkwX6_set_2 : List UInt8 := [154, 0, 7, 5, 167, 0, 5, 16, 6, 96, 28, 96, 54, 5, 42, 180, 0, 11, 21, 5, 46, 54, 6, 42]
abbrev dktX6_set_2 : List UInt8 := dkwX6_set_2 ++ dktX6_set_3
def dkwX6_set_1 : List UInt8 := [2, 172, 21, 4, 3, 16, 99, 184, 0, 52, 154, 0, 6, 16, 254, 172, 16, 8, 16, 10, 27, 104, 96, 29]
abbrev dktX6_set_1 : List UInt8 := dkwX6_set_1 ++ dktX6_set_2
def dkwX6_set_0 : List UInt8 := [42, 27, 182, 0, 199, 153, 0, 19, 28, 184, 0, 202, 153, 0, 12, 29, 3, 4, 184, 0, 52, 154, 0, 5]
abbrev dktX6_set_0 : List UInt8 := dkwX6_set_0 ++ dktX6_set_1
theorem dksX6_set_0 : cX6_set.data.toList.drop 0 = dktX6_set_0 := by decide +kernel
theorem dksX6_set_1 : cX6_set.data.toList.drop 24 = dktX6_set_1 := dk_seg dksX6_set_0 24 rfl rfl
theorem dksX6_set_2 : cX6_set.data.toList.drop 48 = dktX6_set_2 := dk_seg dksX6_set_1 24 rfl rfl
theorem dksX6_set_3 : cX6_set.data.toList.drop 72 = dktX6_set_3 := dk_seg dksX6_set_2 24 rfl rfl
theorem dX6_set_0 : decode cX6_set 0 = .ok (.aload_n 0, 1) := dk_42 (dk_at dksX6_set_0 0 rfl rfl)
theorem dX6_set_1 : decode cX6_set 1 = .ok (.iload_n 1, 1) := dk_27 (dk_at dksX6_set_0 1 rfl rfl)
theorem dX6_set_2 : decode cX6_set 2 = .ok (.invokevirtual 199, 3) := dk_182 0 199 (dk_at dksX6_set_0 2 rfl rfl)
theorem dX6_set_5 : decode cX6_set 5 = .ok (.ifCond .eq 19, 3) := dk_153 0 19 (dk_at dksX6_set_0 5 rfl rfl)
theorem dX6_set_8 : decode cX6_set 8 = .ok (.iload_n 2, 1) := dk_28 (dk_at dksX6_set_0 8 rfl rfl)
theorem dX6_set_9 : decode cX6_set 9 = .ok (.invokestatic 202, 3) := dk_184 0 202 (dk_at dksX6_set_0 9 rfl rfl)
theorem dX6_set_12 : decode cX6_set 12 = .ok (.ifCond .eq 12, 3) := dk_153 0 12 (dk_at dksX6_set_0 12 rfl rfl)
theorem dX6_set_15 : decode cX6_set 15 = .ok (.iload_n 3, 1) := dk_29 (dk_at dksX6_set_0 15 rfl rfl)
theorem dX6_set_16 : decode cX6_set 16 = .ok (.iconst 0, 1) := dk_3 (dk_at dksX6_set_0 16 rfl rfl)
theorem dX6_set_17 : decode cX6_set 17 = .ok (.iconst 1, 1) := dk_4 (dk_at dksX6_set_0 17 rfl rfl)
theorem dX6_set_18 : decode cX6_set 18 = .ok (.invokestatic 52, 3) := dk_184 0 52 (dk_at dksX6_set_0 18 rfl rfl)
theorem dX6_set_21 : decode cX6_set 21 = .ok (.ifCond .ne 5, 3) := dk_154 0 5 (dk_at dksX6_set_0 21 rfl rfl)
theorem dX6_set_24 : decode cX6_set 24 = .ok (.iconst (-1), 1) := dk_2 (dk_at dksX6_set_1 0 rfl rfl)
theorem dX6_set_25 : decode cX6_set 25 = .ok (.ireturn, 1) := dk_172 (dk_at dksX6_set_1 1 rfl rfl)
theorem dX6_set_26 : decode cX6_set 26 = .ok (.iload 4, 2) := dk_21 4 (dk_at dksX6_set_1 2 rfl rfl)
theorem dX6_set_28 : decode cX6_set 28 = .ok (.iconst 0, 1) := dk_3 (dk_at dksX6_set_1 4 rfl rfl)
theorem dX6_set_29 : decode cX6_set 29 = .ok (.bipush 99, 2) := dk_16 99 (dk_at dksX6_set_1 5 rfl rfl)
theorem dX6_set_31 : decode cX6_set 31 = .ok (.invokestatic 52, 3) := dk_184 0 52 (dk_at dksX6_set_1 7 rfl rfl)
theorem dX6_set_34 : decode cX6_set 34 = .ok (.ifCond .ne 6, 3) := dk_154 0 6 (dk_at dksX6_set_1 10 rfl rfl)
theorem dX6_set_37 : decode cX6_set 37 = .ok (.bipush (-2), 2) := dk_16 254 (dk_at dksX6_set_1 13 rfl rfl)
theorem dX6_set_39 : decode cX6_set 39 = .ok (.ireturn, 1) := dk_172 (dk_at dksX6_set_1 15 rfl rfl)
theorem dX6_set_40 : decode cX6_set 40 = .ok (.bipush 8, 2) := dk_16 8 (dk_at dksX6_set_1 16 rfl rfl)
theorem dX6_set_42 : decode cX6_set 42 = .ok (.bipush 10, 2) := dk_16 10 (dk_at dksX6_set_1 18 rfl rfl)
theorem dX6_set_44 : decode cX6_set 44 = .ok (.iload_n 1, 1) := dk_27 (dk_at dksX6_set_1 20 rfl rfl)
theorem dX6_set_45 : decode cX6_set 45 = .ok (.imul, 1) := dk_104 (dk_at dksX6_set_1 21 rfl rfl)
theorem dX6_set_46 : decode cX6_set 46 = .ok (.iadd, 1) := dk_96 (dk_at dksX6_set_1 22 rfl rfl)
theorem dX6_set_47 : decode cX6_set 47 = .ok (.iload_n 3, 1) := dk_29 (dk_at dksX6_set_1 23 rfl rfl)
theorem dX6_set_48 : decode cX6_set 48 = .ok (.ifCond .ne 7, 3) := dk_154 0 7 (dk_at dksX6_set_2 0 rfl rfl)
theorem dX6_set_51 : decode cX6_set 51 = .ok (.iconst 2, 1) := dk_5 (dk_at dksX6_set_2 3 rfl rfl)
theorem dX6_set_52 : decode cX6_set 52 = .ok (.goto 5, 3) := dk_167 0 5 (dk_at dksX6_set_2 4 rfl rfl)
theorem dX6_set_55 : decode cX6_set 55 = .ok (.bipush 6, 2) := dk_16 6 (dk_at dksX6_set_2 7 rfl rfl)
theorem dX6_set_57 : decode cX6_set 57 = .ok (.iadd, 1) := dk_96 (dk_at dksX6_set_2 9 rfl rfl)
theorem dX6_set_58 : decode cX6_set 58 = .ok (.iload_n 2, 1) := dk_28 (dk_at dksX6_set_2 10 rfl rfl)
theorem dX6_set_59 : decode cX6_set 59 = .ok (.iadd, 1) := dk_96 (dk_at dksX6_set_2 11 rfl rfl)
theorem dX6_set_60 : decode cX6_set 60 = .ok (.istore 5, 2) := dk_54 5 (dk_at dksX6_set_2 12 rfl rfl)
theorem dX6_set_62 : decode cX6_set 62 = .ok (.aload_n 0, 1) := dk_42 (dk_at dksX6_set_2 14 rfl rfl)
theorem dX6_set_63 : decode cX6_set 63 = .ok (.getfield 11, 3) := dk_180 0 11 (dk_at dksX6_set_2 15 rfl rfl)
theorem dX6_set_66 : decode cX6_set 66 = .ok (.iload 5, 2) := dk_21 5 (dk_at dksX6_set_2 18 rfl rfl)
theorem dX6_set_68 : decode cX6_set 68 = .ok (.iaload, 1) := dk_46 (dk_at dksX6_set_2 20 rfl rfl)
theorem dX6_set_69 : decode cX6_set 69 = .ok (.istore 6, 2) := dk_54 6 (dk_at dksX6_set_2 21 rfl rfl)
theorem dX6_set_71 : decode cX6_set 71 = .ok (.aload_n 0, 1) := dk_42 (dk_at dksX6_set_2 23 rfl rfl)
theorem dX6_set_72 : decode cX6_set 72 = .ok (.getfield 11, 3) := dk_180 0 11 (dk_at dksX6_set_3 0 rfl rfl)
theorem dX6_set_75 : decode cX6_set 75 = .ok (.iload 5, 2) := dk_21 5 (dk_at dksX6_set_3 3 rfl rfl)
theorem dX6_set_77 : decode cX6_set 77 = .ok (.iload 4, 2) := dk_21 4 (dk_at dksX6_set_3 5 rfl rfl)
theorem dX6_set_79 : decode cX6_set 79 = .ok (.iastore, 1) := dk_79 (dk_at dksX6_set_3 7 rfl rfl)
theorem dX6_set_80 : decode cX6_set 80 = .ok (.iload 6, 2) := dk_21 6 (dk_at dksX6_set_3 8 rfl rfl)
theorem dX6_set_82 : decode cX6_set 82 = .ok (.ireturn, 1) := dk_172 (dk_at dksX6_set_3 10 rfl rfl)
theorem cf_set : xV yX6_set RX6 cX6_set 7 (some .int) 4 := ⟨q1592, q1593, q96, q1594, ⟨rfl, by decide +kernel, by decide +kernel, by decide +kernel⟩, by decide⟩
abbrev cX6_of : ByteArray := prog_23_method_41_code
def yX6_of : MethodName := ⟨RX6, "of", "(II)I"⟩
def dkwX6_of_6 : List UInt8 := [162, 0, 12, 42, 27, 29, 182, 0, 187, 167, 0, 9, 42, 27, 29, 182, 0, 193, 172]
abbrev dktX6_of_6 : List UInt8 := dkwX6_of_6 ++ []
def dkwX6_of_5 : List UInt8 := [167, 0, 42, 28, 16, 30, 162, 0, 15, 42, 27, 16, 6, 29, 96, 182, 0, 60, 167, 0, 24, 28, 16, 40]
abbrev dktX6_of_5 : List UInt8 := dkwX6_of_5 ++ dktX6_of_6
def dkwX6_of_4 : List UInt8 := [184, 0, 202, 154, 0, 5, 2, 172, 28, 16, 20, 162, 0, 14, 42, 27, 5, 29, 96, 182, 0, 60]
abbrev dktX6_of_4 : List UInt8 := dkwX6_of_4 ++ dktX6_of_5
def dkwX6_of_3 : List UInt8 := [153, 0, 7, 4, 167, 0, 4, 3, 172, 28, 16, 10, 161, 0, 16, 28, 16, 43, 163, 0, 10, 29]
abbrev dktX6_of_3 : List UInt8 := dkwX6_of_3 ++ dktX6_of_4
def dkwX6_of_2 : List UInt8 := [42, 27, 182, 0, 92, 172, 42, 27, 182, 0, 102, 172, 42, 27, 182, 0, 205, 172, 42, 27, 182, 0, 190]
abbrev dktX6_of_2 : List UInt8 := dkwX6_of_2 ++ dktX6_of_3
def dkwX6_of_1 : List UInt8 := [170, 0, 0, 0, 0, 0, 0, 64, 0, 0, 0, 0, 0, 0, 0, 3, 0, 0, 0, 32, 0, 0, 0, 38, 0, 0, 0, 44, 0, 0, 0, 50]
abbrev dktX6_of_1 : List UInt8 := dkwX6_of_1 ++ dktX6_of_2
def dkwX6_of_0 : List UInt8 := [42, 27, 182, 0, 199, 154, 0, 5, 2, 172, 28, 16, 10, 112, 62, 28]
abbrev dktX6_of_0 : List UInt8 := dkwX6_of_0 ++ dktX6_of_1
theorem dksX6_of_0 : cX6_of.data.toList.drop 0 = dktX6_of_0 := by decide +kernel
theorem dksX6_of_1 : cX6_of.data.toList.drop 16 = dktX6_of_1 := dk_seg dksX6_of_0 16 rfl rfl
theorem dksX6_of_2 : cX6_of.data.toList.drop 48 = dktX6_of_2 := dk_seg dksX6_of_1 32 rfl rfl
theorem dksX6_of_3 : cX6_of.data.toList.drop 71 = dktX6_of_3 := dk_seg dksX6_of_2 23 rfl rfl
theorem dksX6_of_4 : cX6_of.data.toList.drop 93 = dktX6_of_4 := dk_seg dksX6_of_3 22 rfl rfl
theorem dksX6_of_5 : cX6_of.data.toList.drop 115 = dktX6_of_5 := dk_seg dksX6_of_4 22 rfl rfl
theorem dksX6_of_6 : cX6_of.data.toList.drop 139 = dktX6_of_6 := dk_seg dksX6_of_5 24 rfl rfl
theorem dX6_of_0 : decode cX6_of 0 = .ok (.aload_n 0, 1) := dk_42 (dk_at dksX6_of_0 0 rfl rfl)
theorem dX6_of_1 : decode cX6_of 1 = .ok (.iload_n 1, 1) := dk_27 (dk_at dksX6_of_0 1 rfl rfl)
theorem dX6_of_2 : decode cX6_of 2 = .ok (.invokevirtual 199, 3) := dk_182 0 199 (dk_at dksX6_of_0 2 rfl rfl)
theorem dX6_of_5 : decode cX6_of 5 = .ok (.ifCond .ne 5, 3) := dk_154 0 5 (dk_at dksX6_of_0 5 rfl rfl)
theorem dX6_of_8 : decode cX6_of 8 = .ok (.iconst (-1), 1) := dk_2 (dk_at dksX6_of_0 8 rfl rfl)
theorem dX6_of_9 : decode cX6_of 9 = .ok (.ireturn, 1) := dk_172 (dk_at dksX6_of_0 9 rfl rfl)
theorem dX6_of_10 : decode cX6_of 10 = .ok (.iload_n 2, 1) := dk_28 (dk_at dksX6_of_0 10 rfl rfl)
theorem dX6_of_11 : decode cX6_of 11 = .ok (.bipush 10, 2) := dk_16 10 (dk_at dksX6_of_0 11 rfl rfl)
theorem dX6_of_13 : decode cX6_of 13 = .ok (.irem, 1) := dk_112 (dk_at dksX6_of_0 13 rfl rfl)
theorem dX6_of_14 : decode cX6_of 14 = .ok (.istore_n 3, 1) := dk_62 (dk_at dksX6_of_0 14 rfl rfl)
theorem dX6_of_15 : decode cX6_of 15 = .ok (.iload_n 2, 1) := dk_28 (dk_at dksX6_of_0 15 rfl rfl)
theorem dX6_of_16 : decode cX6_of 16 = .ok (.tableswitch 64 0 3 #[32, 38, 44, 50], 32) := by decide +kernel
theorem dX6_of_48 : decode cX6_of 48 = .ok (.aload_n 0, 1) := dk_42 (dk_at dksX6_of_2 0 rfl rfl)
theorem dX6_of_49 : decode cX6_of 49 = .ok (.iload_n 1, 1) := dk_27 (dk_at dksX6_of_2 1 rfl rfl)
theorem dX6_of_50 : decode cX6_of 50 = .ok (.invokevirtual 92, 3) := dk_182 0 92 (dk_at dksX6_of_2 2 rfl rfl)
theorem dX6_of_53 : decode cX6_of 53 = .ok (.ireturn, 1) := dk_172 (dk_at dksX6_of_2 5 rfl rfl)
theorem dX6_of_54 : decode cX6_of 54 = .ok (.aload_n 0, 1) := dk_42 (dk_at dksX6_of_2 6 rfl rfl)
theorem dX6_of_55 : decode cX6_of 55 = .ok (.iload_n 1, 1) := dk_27 (dk_at dksX6_of_2 7 rfl rfl)
theorem dX6_of_56 : decode cX6_of 56 = .ok (.invokevirtual 102, 3) := dk_182 0 102 (dk_at dksX6_of_2 8 rfl rfl)
theorem dX6_of_59 : decode cX6_of 59 = .ok (.ireturn, 1) := dk_172 (dk_at dksX6_of_2 11 rfl rfl)
theorem dX6_of_60 : decode cX6_of 60 = .ok (.aload_n 0, 1) := dk_42 (dk_at dksX6_of_2 12 rfl rfl)
theorem dX6_of_61 : decode cX6_of 61 = .ok (.iload_n 1, 1) := dk_27 (dk_at dksX6_of_2 13 rfl rfl)
theorem dX6_of_62 : decode cX6_of 62 = .ok (.invokevirtual 205, 3) := dk_182 0 205 (dk_at dksX6_of_2 14 rfl rfl)
theorem dX6_of_65 : decode cX6_of 65 = .ok (.ireturn, 1) := dk_172 (dk_at dksX6_of_2 17 rfl rfl)
theorem dX6_of_66 : decode cX6_of 66 = .ok (.aload_n 0, 1) := dk_42 (dk_at dksX6_of_2 18 rfl rfl)
theorem dX6_of_67 : decode cX6_of 67 = .ok (.iload_n 1, 1) := dk_27 (dk_at dksX6_of_2 19 rfl rfl)
theorem dX6_of_68 : decode cX6_of 68 = .ok (.invokevirtual 190, 3) := dk_182 0 190 (dk_at dksX6_of_2 20 rfl rfl)
theorem dX6_of_71 : decode cX6_of 71 = .ok (.ifCond .eq 7, 3) := dk_153 0 7 (dk_at dksX6_of_3 0 rfl rfl)
theorem dX6_of_74 : decode cX6_of 74 = .ok (.iconst 1, 1) := dk_4 (dk_at dksX6_of_3 3 rfl rfl)
theorem dX6_of_75 : decode cX6_of 75 = .ok (.goto 4, 3) := dk_167 0 4 (dk_at dksX6_of_3 4 rfl rfl)
theorem dX6_of_78 : decode cX6_of 78 = .ok (.iconst 0, 1) := dk_3 (dk_at dksX6_of_3 7 rfl rfl)
theorem dX6_of_79 : decode cX6_of 79 = .ok (.ireturn, 1) := dk_172 (dk_at dksX6_of_3 8 rfl rfl)
theorem dX6_of_80 : decode cX6_of 80 = .ok (.iload_n 2, 1) := dk_28 (dk_at dksX6_of_3 9 rfl rfl)
theorem dX6_of_81 : decode cX6_of 81 = .ok (.bipush 10, 2) := dk_16 10 (dk_at dksX6_of_3 10 rfl rfl)
theorem dX6_of_83 : decode cX6_of 83 = .ok (.if_icmp .lt 16, 3) := dk_161 0 16 (dk_at dksX6_of_3 12 rfl rfl)
theorem dX6_of_86 : decode cX6_of 86 = .ok (.iload_n 2, 1) := dk_28 (dk_at dksX6_of_3 15 rfl rfl)
theorem dX6_of_87 : decode cX6_of 87 = .ok (.bipush 43, 2) := dk_16 43 (dk_at dksX6_of_3 16 rfl rfl)
theorem dX6_of_89 : decode cX6_of 89 = .ok (.if_icmp .gt 10, 3) := dk_163 0 10 (dk_at dksX6_of_3 18 rfl rfl)
theorem dX6_of_92 : decode cX6_of 92 = .ok (.iload_n 3, 1) := dk_29 (dk_at dksX6_of_3 21 rfl rfl)
theorem dX6_of_93 : decode cX6_of 93 = .ok (.invokestatic 202, 3) := dk_184 0 202 (dk_at dksX6_of_4 0 rfl rfl)
theorem dX6_of_96 : decode cX6_of 96 = .ok (.ifCond .ne 5, 3) := dk_154 0 5 (dk_at dksX6_of_4 3 rfl rfl)
theorem dX6_of_99 : decode cX6_of 99 = .ok (.iconst (-1), 1) := dk_2 (dk_at dksX6_of_4 6 rfl rfl)
theorem dX6_of_100 : decode cX6_of 100 = .ok (.ireturn, 1) := dk_172 (dk_at dksX6_of_4 7 rfl rfl)
theorem dX6_of_101 : decode cX6_of 101 = .ok (.iload_n 2, 1) := dk_28 (dk_at dksX6_of_4 8 rfl rfl)
theorem dX6_of_102 : decode cX6_of 102 = .ok (.bipush 20, 2) := dk_16 20 (dk_at dksX6_of_4 9 rfl rfl)
theorem dX6_of_104 : decode cX6_of 104 = .ok (.if_icmp .ge 14, 3) := dk_162 0 14 (dk_at dksX6_of_4 11 rfl rfl)
theorem dX6_of_107 : decode cX6_of 107 = .ok (.aload_n 0, 1) := dk_42 (dk_at dksX6_of_4 14 rfl rfl)
theorem dX6_of_108 : decode cX6_of 108 = .ok (.iload_n 1, 1) := dk_27 (dk_at dksX6_of_4 15 rfl rfl)
theorem dX6_of_109 : decode cX6_of 109 = .ok (.iconst 2, 1) := dk_5 (dk_at dksX6_of_4 16 rfl rfl)
theorem dX6_of_110 : decode cX6_of 110 = .ok (.iload_n 3, 1) := dk_29 (dk_at dksX6_of_4 17 rfl rfl)
theorem dX6_of_111 : decode cX6_of 111 = .ok (.iadd, 1) := dk_96 (dk_at dksX6_of_4 18 rfl rfl)
theorem dX6_of_112 : decode cX6_of 112 = .ok (.invokevirtual 60, 3) := dk_182 0 60 (dk_at dksX6_of_4 19 rfl rfl)
theorem dX6_of_115 : decode cX6_of 115 = .ok (.goto 42, 3) := dk_167 0 42 (dk_at dksX6_of_5 0 rfl rfl)
theorem dX6_of_118 : decode cX6_of 118 = .ok (.iload_n 2, 1) := dk_28 (dk_at dksX6_of_5 3 rfl rfl)
theorem dX6_of_119 : decode cX6_of 119 = .ok (.bipush 30, 2) := dk_16 30 (dk_at dksX6_of_5 4 rfl rfl)
theorem dX6_of_121 : decode cX6_of 121 = .ok (.if_icmp .ge 15, 3) := dk_162 0 15 (dk_at dksX6_of_5 6 rfl rfl)
theorem dX6_of_124 : decode cX6_of 124 = .ok (.aload_n 0, 1) := dk_42 (dk_at dksX6_of_5 9 rfl rfl)
theorem dX6_of_125 : decode cX6_of 125 = .ok (.iload_n 1, 1) := dk_27 (dk_at dksX6_of_5 10 rfl rfl)
theorem dX6_of_126 : decode cX6_of 126 = .ok (.bipush 6, 2) := dk_16 6 (dk_at dksX6_of_5 11 rfl rfl)
theorem dX6_of_128 : decode cX6_of 128 = .ok (.iload_n 3, 1) := dk_29 (dk_at dksX6_of_5 13 rfl rfl)
theorem dX6_of_129 : decode cX6_of 129 = .ok (.iadd, 1) := dk_96 (dk_at dksX6_of_5 14 rfl rfl)
theorem dX6_of_130 : decode cX6_of 130 = .ok (.invokevirtual 60, 3) := dk_182 0 60 (dk_at dksX6_of_5 15 rfl rfl)
theorem dX6_of_133 : decode cX6_of 133 = .ok (.goto 24, 3) := dk_167 0 24 (dk_at dksX6_of_5 18 rfl rfl)
theorem dX6_of_136 : decode cX6_of 136 = .ok (.iload_n 2, 1) := dk_28 (dk_at dksX6_of_5 21 rfl rfl)
theorem dX6_of_137 : decode cX6_of 137 = .ok (.bipush 40, 2) := dk_16 40 (dk_at dksX6_of_5 22 rfl rfl)
theorem dX6_of_139 : decode cX6_of 139 = .ok (.if_icmp .ge 12, 3) := dk_162 0 12 (dk_at dksX6_of_6 0 rfl rfl)
theorem dX6_of_142 : decode cX6_of 142 = .ok (.aload_n 0, 1) := dk_42 (dk_at dksX6_of_6 3 rfl rfl)
theorem dX6_of_143 : decode cX6_of 143 = .ok (.iload_n 1, 1) := dk_27 (dk_at dksX6_of_6 4 rfl rfl)
theorem dX6_of_144 : decode cX6_of 144 = .ok (.iload_n 3, 1) := dk_29 (dk_at dksX6_of_6 5 rfl rfl)
theorem dX6_of_145 : decode cX6_of 145 = .ok (.invokevirtual 187, 3) := dk_182 0 187 (dk_at dksX6_of_6 6 rfl rfl)
theorem dX6_of_148 : decode cX6_of 148 = .ok (.goto 9, 3) := dk_167 0 9 (dk_at dksX6_of_6 9 rfl rfl)
theorem dX6_of_151 : decode cX6_of 151 = .ok (.aload_n 0, 1) := dk_42 (dk_at dksX6_of_6 12 rfl rfl)
theorem dX6_of_152 : decode cX6_of 152 = .ok (.iload_n 1, 1) := dk_27 (dk_at dksX6_of_6 13 rfl rfl)
theorem dX6_of_153 : decode cX6_of 153 = .ok (.iload_n 3, 1) := dk_29 (dk_at dksX6_of_6 14 rfl rfl)
theorem dX6_of_154 : decode cX6_of 154 = .ok (.invokevirtual 193, 3) := dk_182 0 193 (dk_at dksX6_of_6 15 rfl rfl)
theorem dX6_of_157 : decode cX6_of 157 = .ok (.ireturn, 1) := dk_172 (dk_at dksX6_of_6 18 rfl rfl)
theorem cf_of : xV yX6_of RX6 cX6_of 4 (some .int) 2 := ⟨q1603, q1604, q96, q1605, ⟨rfl, by decide +kernel, by decide +kernel, by decide +kernel⟩, by decide⟩
abbrev cX6_oven : ByteArray := prog_23_method_42_code
def yX6_oven : MethodName := ⟨RX6, "oven", "(II)I"⟩
def dkwX6_oven_1 : List UInt8 := [180, 0, 11, 27, 46, 62, 42, 180, 0, 11, 27, 28, 79, 29, 172]
abbrev dktX6_oven_1 : List UInt8 := dkwX6_oven_1 ++ []
def dkwX6_oven_0 : List UInt8 := [27, 184, 0, 202, 154, 0, 5, 2, 172, 28, 3, 17, 39, 15, 184, 0, 52, 154, 0, 6, 16, 254, 172, 42]
abbrev dktX6_oven_0 : List UInt8 := dkwX6_oven_0 ++ dktX6_oven_1
theorem dksX6_oven_0 : cX6_oven.data.toList.drop 0 = dktX6_oven_0 := by decide +kernel
theorem dksX6_oven_1 : cX6_oven.data.toList.drop 24 = dktX6_oven_1 := dk_seg dksX6_oven_0 24 rfl rfl
theorem dX6_oven_0 : decode cX6_oven 0 = .ok (.iload_n 1, 1) := dk_27 (dk_at dksX6_oven_0 0 rfl rfl)
theorem dX6_oven_1 : decode cX6_oven 1 = .ok (.invokestatic 202, 3) := dk_184 0 202 (dk_at dksX6_oven_0 1 rfl rfl)
theorem dX6_oven_4 : decode cX6_oven 4 = .ok (.ifCond .ne 5, 3) := dk_154 0 5 (dk_at dksX6_oven_0 4 rfl rfl)
theorem dX6_oven_7 : decode cX6_oven 7 = .ok (.iconst (-1), 1) := dk_2 (dk_at dksX6_oven_0 7 rfl rfl)
theorem dX6_oven_8 : decode cX6_oven 8 = .ok (.ireturn, 1) := dk_172 (dk_at dksX6_oven_0 8 rfl rfl)
theorem dX6_oven_9 : decode cX6_oven 9 = .ok (.iload_n 2, 1) := dk_28 (dk_at dksX6_oven_0 9 rfl rfl)
theorem dX6_oven_10 : decode cX6_oven 10 = .ok (.iconst 0, 1) := dk_3 (dk_at dksX6_oven_0 10 rfl rfl)
theorem dX6_oven_11 : decode cX6_oven 11 = .ok (.sipush 9999, 3) := dk_17 39 15 (dk_at dksX6_oven_0 11 rfl rfl)
theorem dX6_oven_14 : decode cX6_oven 14 = .ok (.invokestatic 52, 3) := dk_184 0 52 (dk_at dksX6_oven_0 14 rfl rfl)
theorem dX6_oven_17 : decode cX6_oven 17 = .ok (.ifCond .ne 6, 3) := dk_154 0 6 (dk_at dksX6_oven_0 17 rfl rfl)
theorem dX6_oven_20 : decode cX6_oven 20 = .ok (.bipush (-2), 2) := dk_16 254 (dk_at dksX6_oven_0 20 rfl rfl)
theorem dX6_oven_22 : decode cX6_oven 22 = .ok (.ireturn, 1) := dk_172 (dk_at dksX6_oven_0 22 rfl rfl)
theorem dX6_oven_23 : decode cX6_oven 23 = .ok (.aload_n 0, 1) := dk_42 (dk_at dksX6_oven_0 23 rfl rfl)
theorem dX6_oven_24 : decode cX6_oven 24 = .ok (.getfield 11, 3) := dk_180 0 11 (dk_at dksX6_oven_1 0 rfl rfl)
theorem dX6_oven_27 : decode cX6_oven 27 = .ok (.iload_n 1, 1) := dk_27 (dk_at dksX6_oven_1 3 rfl rfl)
theorem dX6_oven_28 : decode cX6_oven 28 = .ok (.iaload, 1) := dk_46 (dk_at dksX6_oven_1 4 rfl rfl)
theorem dX6_oven_29 : decode cX6_oven 29 = .ok (.istore_n 3, 1) := dk_62 (dk_at dksX6_oven_1 5 rfl rfl)
theorem dX6_oven_30 : decode cX6_oven 30 = .ok (.aload_n 0, 1) := dk_42 (dk_at dksX6_oven_1 6 rfl rfl)
theorem dX6_oven_31 : decode cX6_oven 31 = .ok (.getfield 11, 3) := dk_180 0 11 (dk_at dksX6_oven_1 7 rfl rfl)
theorem dX6_oven_34 : decode cX6_oven 34 = .ok (.iload_n 1, 1) := dk_27 (dk_at dksX6_oven_1 10 rfl rfl)
theorem dX6_oven_35 : decode cX6_oven 35 = .ok (.iload_n 2, 1) := dk_28 (dk_at dksX6_oven_1 11 rfl rfl)
theorem dX6_oven_36 : decode cX6_oven 36 = .ok (.iastore, 1) := dk_79 (dk_at dksX6_oven_1 12 rfl rfl)
theorem dX6_oven_37 : decode cX6_oven 37 = .ok (.iload_n 3, 1) := dk_29 (dk_at dksX6_oven_1 13 rfl rfl)
theorem dX6_oven_38 : decode cX6_oven 38 = .ok (.ireturn, 1) := dk_172 (dk_at dksX6_oven_1 14 rfl rfl)
theorem cf_oven : xV yX6_oven RX6 cX6_oven 4 (some .int) 2 := ⟨q1635, q1636, q96, q1637, ⟨rfl, by decide +kernel, by decide +kernel, by decide +kernel⟩, by decide⟩
abbrev cX6_told : ByteArray := prog_23_method_43_code
def yX6_told : MethodName := ⟨RX6, "told", "(I)I"⟩
def dkwX6_told_1 : List UInt8 := [180, 0, 151, 167, 0, 9, 42, 180, 0, 11, 27, 46, 172]
abbrev dktX6_told_1 : List UInt8 := dkwX6_told_1 ++ []
def dkwX6_told_0 : List UInt8 := [27, 3, 8, 184, 0, 52, 154, 0, 5, 2, 172, 42, 3, 3, 182, 0, 176, 27, 8, 160, 0, 10, 42]
abbrev dktX6_told_0 : List UInt8 := dkwX6_told_0 ++ dktX6_told_1
theorem dksX6_told_0 : cX6_told.data.toList.drop 0 = dktX6_told_0 := by decide +kernel
theorem dksX6_told_1 : cX6_told.data.toList.drop 23 = dktX6_told_1 := dk_seg dksX6_told_0 23 rfl rfl
theorem dX6_told_0 : decode cX6_told 0 = .ok (.iload_n 1, 1) := dk_27 (dk_at dksX6_told_0 0 rfl rfl)
theorem dX6_told_1 : decode cX6_told 1 = .ok (.iconst 0, 1) := dk_3 (dk_at dksX6_told_0 1 rfl rfl)
theorem dX6_told_2 : decode cX6_told 2 = .ok (.iconst 5, 1) := dk_8 (dk_at dksX6_told_0 2 rfl rfl)
theorem dX6_told_3 : decode cX6_told 3 = .ok (.invokestatic 52, 3) := dk_184 0 52 (dk_at dksX6_told_0 3 rfl rfl)
theorem dX6_told_6 : decode cX6_told 6 = .ok (.ifCond .ne 5, 3) := dk_154 0 5 (dk_at dksX6_told_0 6 rfl rfl)
theorem dX6_told_9 : decode cX6_told 9 = .ok (.iconst (-1), 1) := dk_2 (dk_at dksX6_told_0 9 rfl rfl)
theorem dX6_told_10 : decode cX6_told 10 = .ok (.ireturn, 1) := dk_172 (dk_at dksX6_told_0 10 rfl rfl)
theorem dX6_told_11 : decode cX6_told 11 = .ok (.aload_n 0, 1) := dk_42 (dk_at dksX6_told_0 11 rfl rfl)
theorem dX6_told_12 : decode cX6_told 12 = .ok (.iconst 0, 1) := dk_3 (dk_at dksX6_told_0 12 rfl rfl)
theorem dX6_told_13 : decode cX6_told 13 = .ok (.iconst 0, 1) := dk_3 (dk_at dksX6_told_0 13 rfl rfl)
theorem dX6_told_14 : decode cX6_told 14 = .ok (.invokevirtual 176, 3) := dk_182 0 176 (dk_at dksX6_told_0 14 rfl rfl)
theorem dX6_told_17 : decode cX6_told 17 = .ok (.iload_n 1, 1) := dk_27 (dk_at dksX6_told_0 17 rfl rfl)
theorem dX6_told_18 : decode cX6_told 18 = .ok (.iconst 5, 1) := dk_8 (dk_at dksX6_told_0 18 rfl rfl)
theorem dX6_told_19 : decode cX6_told 19 = .ok (.if_icmp .ne 10, 3) := dk_160 0 10 (dk_at dksX6_told_0 19 rfl rfl)
theorem dX6_told_22 : decode cX6_told 22 = .ok (.aload_n 0, 1) := dk_42 (dk_at dksX6_told_0 22 rfl rfl)
theorem dX6_told_23 : decode cX6_told 23 = .ok (.getfield 151, 3) := dk_180 0 151 (dk_at dksX6_told_1 0 rfl rfl)
theorem dX6_told_26 : decode cX6_told 26 = .ok (.goto 9, 3) := dk_167 0 9 (dk_at dksX6_told_1 3 rfl rfl)
theorem dX6_told_29 : decode cX6_told 29 = .ok (.aload_n 0, 1) := dk_42 (dk_at dksX6_told_1 6 rfl rfl)
theorem dX6_told_30 : decode cX6_told 30 = .ok (.getfield 11, 3) := dk_180 0 11 (dk_at dksX6_told_1 7 rfl rfl)
theorem dX6_told_33 : decode cX6_told 33 = .ok (.iload_n 1, 1) := dk_27 (dk_at dksX6_told_1 10 rfl rfl)
theorem dX6_told_34 : decode cX6_told 34 = .ok (.iaload, 1) := dk_46 (dk_at dksX6_told_1 11 rfl rfl)
theorem dX6_told_35 : decode cX6_told 35 = .ok (.ireturn, 1) := dk_172 (dk_at dksX6_told_1 12 rfl rfl)
theorem cf_told : xV yX6_told RX6 cX6_told 2 (some .int) 1 := ⟨q1639, q1640, q96, q1641, ⟨rfl, by decide +kernel, by decide +kernel, by decide +kernel⟩, by decide⟩
abbrev cX6_bake : ByteArray := prog_23_method_44_code
def yX6_bake : MethodName := ⟨RX6, "bake", "(I)I"⟩
def dkwX6_bake_1 : List UInt8 := [3, 172]
abbrev dktX6_bake_1 : List UInt8 := dkwX6_bake_1 ++ []
def dkwX6_bake_0 : List UInt8 := [42, 27, 182, 0, 199, 154, 0, 7, 2, 167, 0, 16, 42, 27, 182, 0, 208, 153, 0, 7, 4, 167, 0, 4]
abbrev dktX6_bake_0 : List UInt8 := dkwX6_bake_0 ++ dktX6_bake_1
theorem dksX6_bake_0 : cX6_bake.data.toList.drop 0 = dktX6_bake_0 := by decide +kernel
theorem dksX6_bake_1 : cX6_bake.data.toList.drop 24 = dktX6_bake_1 := dk_seg dksX6_bake_0 24 rfl rfl
theorem dX6_bake_0 : decode cX6_bake 0 = .ok (.aload_n 0, 1) := dk_42 (dk_at dksX6_bake_0 0 rfl rfl)
theorem dX6_bake_1 : decode cX6_bake 1 = .ok (.iload_n 1, 1) := dk_27 (dk_at dksX6_bake_0 1 rfl rfl)
theorem dX6_bake_2 : decode cX6_bake 2 = .ok (.invokevirtual 199, 3) := dk_182 0 199 (dk_at dksX6_bake_0 2 rfl rfl)
theorem dX6_bake_5 : decode cX6_bake 5 = .ok (.ifCond .ne 7, 3) := dk_154 0 7 (dk_at dksX6_bake_0 5 rfl rfl)
theorem dX6_bake_8 : decode cX6_bake 8 = .ok (.iconst (-1), 1) := dk_2 (dk_at dksX6_bake_0 8 rfl rfl)
theorem dX6_bake_9 : decode cX6_bake 9 = .ok (.goto 16, 3) := dk_167 0 16 (dk_at dksX6_bake_0 9 rfl rfl)
theorem dX6_bake_12 : decode cX6_bake 12 = .ok (.aload_n 0, 1) := dk_42 (dk_at dksX6_bake_0 12 rfl rfl)
theorem dX6_bake_13 : decode cX6_bake 13 = .ok (.iload_n 1, 1) := dk_27 (dk_at dksX6_bake_0 13 rfl rfl)
theorem dX6_bake_14 : decode cX6_bake 14 = .ok (.invokevirtual 208, 3) := dk_182 0 208 (dk_at dksX6_bake_0 14 rfl rfl)
theorem dX6_bake_17 : decode cX6_bake 17 = .ok (.ifCond .eq 7, 3) := dk_153 0 7 (dk_at dksX6_bake_0 17 rfl rfl)
theorem dX6_bake_20 : decode cX6_bake 20 = .ok (.iconst 1, 1) := dk_4 (dk_at dksX6_bake_0 20 rfl rfl)
theorem dX6_bake_21 : decode cX6_bake 21 = .ok (.goto 4, 3) := dk_167 0 4 (dk_at dksX6_bake_0 21 rfl rfl)
theorem dX6_bake_24 : decode cX6_bake 24 = .ok (.iconst 0, 1) := dk_3 (dk_at dksX6_bake_1 0 rfl rfl)
theorem dX6_bake_25 : decode cX6_bake 25 = .ok (.ireturn, 1) := dk_172 (dk_at dksX6_bake_1 1 rfl rfl)
theorem cf_bake : xV yX6_bake RX6 cX6_bake 2 (some .int) 1 := ⟨q1643, q1644, q96, q1645, ⟨rfl, by decide +kernel, by decide +kernel, by decide +kernel⟩, by decide⟩
abbrev cX6_cold : ByteArray := prog_23_method_45_code
def yX6_cold : MethodName := ⟨RX6, "cold", "()I"⟩
def dkwX6_cold_0 : List UInt8 := [42, 182, 0, 211, 42, 180, 0, 11, 7, 46, 172]
abbrev dktX6_cold_0 : List UInt8 := dkwX6_cold_0 ++ []
theorem dksX6_cold_0 : cX6_cold.data.toList.drop 0 = dktX6_cold_0 := by decide +kernel
theorem dX6_cold_0 : decode cX6_cold 0 = .ok (.aload_n 0, 1) := dk_42 (dk_at dksX6_cold_0 0 rfl rfl)
theorem dX6_cold_1 : decode cX6_cold 1 = .ok (.invokevirtual 211, 3) := dk_182 0 211 (dk_at dksX6_cold_0 1 rfl rfl)
theorem dX6_cold_4 : decode cX6_cold 4 = .ok (.aload_n 0, 1) := dk_42 (dk_at dksX6_cold_0 4 rfl rfl)
theorem dX6_cold_5 : decode cX6_cold 5 = .ok (.getfield 11, 3) := dk_180 0 11 (dk_at dksX6_cold_0 5 rfl rfl)
theorem dX6_cold_8 : decode cX6_cold 8 = .ok (.iconst 4, 1) := dk_7 (dk_at dksX6_cold_0 8 rfl rfl)
theorem dX6_cold_9 : decode cX6_cold 9 = .ok (.iaload, 1) := dk_46 (dk_at dksX6_cold_0 9 rfl rfl)
theorem dX6_cold_10 : decode cX6_cold 10 = .ok (.ireturn, 1) := dk_172 (dk_at dksX6_cold_0 10 rfl rfl)
theorem cf_cold : xV yX6_cold RX6 cX6_cold 1 (some .int) 0 := ⟨q1655, q1656, q96, q1657, ⟨rfl, by decide +kernel, by decide +kernel, by decide +kernel⟩, by decide⟩
abbrev cX6_would : ByteArray := prog_23_method_46_code
def yX6_would : MethodName := ⟨RX6, "would", "(III)I"⟩
def dkwX6_would_4 : List UInt8 := [182, 0, 217, 21, 5, 172]
abbrev dktX6_would_4 : List UInt8 := dkwX6_would_4 ++ []
def dkwX6_would_3 : List UInt8 := [182, 0, 187, 167, 0, 16, 42, 27, 182, 0, 190, 153, 0, 7, 4, 167, 0, 4, 3, 54, 5, 42]
abbrev dktX6_would_3 : List UInt8 := dkwX6_would_3 ++ dktX6_would_4
def dkwX6_would_2 : List UInt8 := [42, 28, 182, 0, 208, 153, 0, 7, 4, 167, 0, 4, 3, 54, 4, 29, 7, 162, 0, 12, 42, 27, 29]
abbrev dktX6_would_2 : List UInt8 := dkwX6_would_2 ++ dktX6_would_3
def dkwX6_would_1 : List UInt8 := [184, 0, 52, 154, 0, 5, 2, 172, 27, 28, 160, 0, 6, 16, 254, 172, 42, 182, 0, 214, 28, 155, 0, 15]
abbrev dktX6_would_1 : List UInt8 := dkwX6_would_1 ++ dktX6_would_2
def dkwX6_would_0 : List UInt8 := [42, 27, 182, 0, 199, 153, 0, 25, 28, 2, 159, 0, 11, 42, 28, 182, 0, 199, 153, 0, 12, 29, 3, 7]
abbrev dktX6_would_0 : List UInt8 := dkwX6_would_0 ++ dktX6_would_1
theorem dksX6_would_0 : cX6_would.data.toList.drop 0 = dktX6_would_0 := by decide +kernel
theorem dksX6_would_1 : cX6_would.data.toList.drop 24 = dktX6_would_1 := dk_seg dksX6_would_0 24 rfl rfl
theorem dksX6_would_2 : cX6_would.data.toList.drop 48 = dktX6_would_2 := dk_seg dksX6_would_1 24 rfl rfl
theorem dksX6_would_3 : cX6_would.data.toList.drop 71 = dktX6_would_3 := dk_seg dksX6_would_2 23 rfl rfl
theorem dksX6_would_4 : cX6_would.data.toList.drop 93 = dktX6_would_4 := dk_seg dksX6_would_3 22 rfl rfl
theorem dX6_would_0 : decode cX6_would 0 = .ok (.aload_n 0, 1) := dk_42 (dk_at dksX6_would_0 0 rfl rfl)
theorem dX6_would_1 : decode cX6_would 1 = .ok (.iload_n 1, 1) := dk_27 (dk_at dksX6_would_0 1 rfl rfl)
theorem dX6_would_2 : decode cX6_would 2 = .ok (.invokevirtual 199, 3) := dk_182 0 199 (dk_at dksX6_would_0 2 rfl rfl)
theorem dX6_would_5 : decode cX6_would 5 = .ok (.ifCond .eq 25, 3) := dk_153 0 25 (dk_at dksX6_would_0 5 rfl rfl)
theorem dX6_would_8 : decode cX6_would 8 = .ok (.iload_n 2, 1) := dk_28 (dk_at dksX6_would_0 8 rfl rfl)
theorem dX6_would_9 : decode cX6_would 9 = .ok (.iconst (-1), 1) := dk_2 (dk_at dksX6_would_0 9 rfl rfl)
theorem dX6_would_10 : decode cX6_would 10 = .ok (.if_icmp .eq 11, 3) := dk_159 0 11 (dk_at dksX6_would_0 10 rfl rfl)
theorem dX6_would_13 : decode cX6_would 13 = .ok (.aload_n 0, 1) := dk_42 (dk_at dksX6_would_0 13 rfl rfl)
theorem dX6_would_14 : decode cX6_would 14 = .ok (.iload_n 2, 1) := dk_28 (dk_at dksX6_would_0 14 rfl rfl)
theorem dX6_would_15 : decode cX6_would 15 = .ok (.invokevirtual 199, 3) := dk_182 0 199 (dk_at dksX6_would_0 15 rfl rfl)
theorem dX6_would_18 : decode cX6_would 18 = .ok (.ifCond .eq 12, 3) := dk_153 0 12 (dk_at dksX6_would_0 18 rfl rfl)
theorem dX6_would_21 : decode cX6_would 21 = .ok (.iload_n 3, 1) := dk_29 (dk_at dksX6_would_0 21 rfl rfl)
theorem dX6_would_22 : decode cX6_would 22 = .ok (.iconst 0, 1) := dk_3 (dk_at dksX6_would_0 22 rfl rfl)
theorem dX6_would_23 : decode cX6_would 23 = .ok (.iconst 4, 1) := dk_7 (dk_at dksX6_would_0 23 rfl rfl)
theorem dX6_would_24 : decode cX6_would 24 = .ok (.invokestatic 52, 3) := dk_184 0 52 (dk_at dksX6_would_1 0 rfl rfl)
theorem dX6_would_27 : decode cX6_would 27 = .ok (.ifCond .ne 5, 3) := dk_154 0 5 (dk_at dksX6_would_1 3 rfl rfl)
theorem dX6_would_30 : decode cX6_would 30 = .ok (.iconst (-1), 1) := dk_2 (dk_at dksX6_would_1 6 rfl rfl)
theorem dX6_would_31 : decode cX6_would 31 = .ok (.ireturn, 1) := dk_172 (dk_at dksX6_would_1 7 rfl rfl)
theorem dX6_would_32 : decode cX6_would 32 = .ok (.iload_n 1, 1) := dk_27 (dk_at dksX6_would_1 8 rfl rfl)
theorem dX6_would_33 : decode cX6_would 33 = .ok (.iload_n 2, 1) := dk_28 (dk_at dksX6_would_1 9 rfl rfl)
theorem dX6_would_34 : decode cX6_would 34 = .ok (.if_icmp .ne 6, 3) := dk_160 0 6 (dk_at dksX6_would_1 10 rfl rfl)
theorem dX6_would_37 : decode cX6_would 37 = .ok (.bipush (-2), 2) := dk_16 254 (dk_at dksX6_would_1 13 rfl rfl)
theorem dX6_would_39 : decode cX6_would 39 = .ok (.ireturn, 1) := dk_172 (dk_at dksX6_would_1 15 rfl rfl)
theorem dX6_would_40 : decode cX6_would 40 = .ok (.aload_n 0, 1) := dk_42 (dk_at dksX6_would_1 16 rfl rfl)
theorem dX6_would_41 : decode cX6_would 41 = .ok (.invokevirtual 214, 3) := dk_182 0 214 (dk_at dksX6_would_1 17 rfl rfl)
theorem dX6_would_44 : decode cX6_would 44 = .ok (.iload_n 2, 1) := dk_28 (dk_at dksX6_would_1 20 rfl rfl)
theorem dX6_would_45 : decode cX6_would 45 = .ok (.ifCond .lt 15, 3) := dk_155 0 15 (dk_at dksX6_would_1 21 rfl rfl)
theorem dX6_would_48 : decode cX6_would 48 = .ok (.aload_n 0, 1) := dk_42 (dk_at dksX6_would_2 0 rfl rfl)
theorem dX6_would_49 : decode cX6_would 49 = .ok (.iload_n 2, 1) := dk_28 (dk_at dksX6_would_2 1 rfl rfl)
theorem dX6_would_50 : decode cX6_would 50 = .ok (.invokevirtual 208, 3) := dk_182 0 208 (dk_at dksX6_would_2 2 rfl rfl)
theorem dX6_would_53 : decode cX6_would 53 = .ok (.ifCond .eq 7, 3) := dk_153 0 7 (dk_at dksX6_would_2 5 rfl rfl)
theorem dX6_would_56 : decode cX6_would 56 = .ok (.iconst 1, 1) := dk_4 (dk_at dksX6_would_2 8 rfl rfl)
theorem dX6_would_57 : decode cX6_would 57 = .ok (.goto 4, 3) := dk_167 0 4 (dk_at dksX6_would_2 9 rfl rfl)
theorem dX6_would_60 : decode cX6_would 60 = .ok (.iconst 0, 1) := dk_3 (dk_at dksX6_would_2 12 rfl rfl)
theorem dX6_would_61 : decode cX6_would 61 = .ok (.istore 4, 2) := dk_54 4 (dk_at dksX6_would_2 13 rfl rfl)
theorem dX6_would_63 : decode cX6_would 63 = .ok (.iload_n 3, 1) := dk_29 (dk_at dksX6_would_2 15 rfl rfl)
theorem dX6_would_64 : decode cX6_would 64 = .ok (.iconst 4, 1) := dk_7 (dk_at dksX6_would_2 16 rfl rfl)
theorem dX6_would_65 : decode cX6_would 65 = .ok (.if_icmp .ge 12, 3) := dk_162 0 12 (dk_at dksX6_would_2 17 rfl rfl)
theorem dX6_would_68 : decode cX6_would 68 = .ok (.aload_n 0, 1) := dk_42 (dk_at dksX6_would_2 20 rfl rfl)
theorem dX6_would_69 : decode cX6_would 69 = .ok (.iload_n 1, 1) := dk_27 (dk_at dksX6_would_2 21 rfl rfl)
theorem dX6_would_70 : decode cX6_would 70 = .ok (.iload_n 3, 1) := dk_29 (dk_at dksX6_would_2 22 rfl rfl)
theorem dX6_would_71 : decode cX6_would 71 = .ok (.invokevirtual 187, 3) := dk_182 0 187 (dk_at dksX6_would_3 0 rfl rfl)
theorem dX6_would_74 : decode cX6_would 74 = .ok (.goto 16, 3) := dk_167 0 16 (dk_at dksX6_would_3 3 rfl rfl)
theorem dX6_would_77 : decode cX6_would 77 = .ok (.aload_n 0, 1) := dk_42 (dk_at dksX6_would_3 6 rfl rfl)
theorem dX6_would_78 : decode cX6_would 78 = .ok (.iload_n 1, 1) := dk_27 (dk_at dksX6_would_3 7 rfl rfl)
theorem dX6_would_79 : decode cX6_would 79 = .ok (.invokevirtual 190, 3) := dk_182 0 190 (dk_at dksX6_would_3 8 rfl rfl)
theorem dX6_would_82 : decode cX6_would 82 = .ok (.ifCond .eq 7, 3) := dk_153 0 7 (dk_at dksX6_would_3 11 rfl rfl)
theorem dX6_would_85 : decode cX6_would 85 = .ok (.iconst 1, 1) := dk_4 (dk_at dksX6_would_3 14 rfl rfl)
theorem dX6_would_86 : decode cX6_would 86 = .ok (.goto 4, 3) := dk_167 0 4 (dk_at dksX6_would_3 15 rfl rfl)
theorem dX6_would_89 : decode cX6_would 89 = .ok (.iconst 0, 1) := dk_3 (dk_at dksX6_would_3 18 rfl rfl)
theorem dX6_would_90 : decode cX6_would 90 = .ok (.istore 5, 2) := dk_54 5 (dk_at dksX6_would_3 19 rfl rfl)
theorem dX6_would_92 : decode cX6_would 92 = .ok (.aload_n 0, 1) := dk_42 (dk_at dksX6_would_3 21 rfl rfl)
theorem dX6_would_93 : decode cX6_would 93 = .ok (.invokevirtual 217, 3) := dk_182 0 217 (dk_at dksX6_would_4 0 rfl rfl)
theorem dX6_would_96 : decode cX6_would 96 = .ok (.iload 5, 2) := dk_21 5 (dk_at dksX6_would_4 3 rfl rfl)
theorem dX6_would_98 : decode cX6_would 98 = .ok (.ireturn, 1) := dk_172 (dk_at dksX6_would_4 5 rfl rfl)
theorem cf_would : xV yX6_would RX6 cX6_would 6 (some .int) 3 := ⟨q1663, q1664, q96, q1665, ⟨rfl, by decide +kernel, by decide +kernel, by decide +kernel⟩, by decide⟩
abbrev cX6_spoiledBy : ByteArray := prog_23_method_47_code
def yX6_spoiledBy : MethodName := ⟨RX6, "spoiledBy", "(I)I"⟩
def dkwX6_spoiledBy_1 : List UInt8 := [153, 0, 7, 4, 167, 0, 4, 3, 96, 61, 132, 3, 1, 167, 255, 227, 42, 182, 0, 217, 28, 172]
abbrev dktX6_spoiledBy_1 : List UInt8 := dkwX6_spoiledBy_1 ++ []
def dkwX6_spoiledBy_0 : List UInt8 := [3, 61, 42, 182, 0, 214, 3, 62, 29, 27, 162, 0, 30, 28, 42, 42, 180, 0, 33, 29, 46, 182, 0, 208]
abbrev dktX6_spoiledBy_0 : List UInt8 := dkwX6_spoiledBy_0 ++ dktX6_spoiledBy_1
theorem dksX6_spoiledBy_0 : cX6_spoiledBy.data.toList.drop 0 = dktX6_spoiledBy_0 := by decide +kernel
theorem dksX6_spoiledBy_1 : cX6_spoiledBy.data.toList.drop 24 = dktX6_spoiledBy_1 := dk_seg dksX6_spoiledBy_0 24 rfl rfl
theorem dX6_spoiledBy_0 : decode cX6_spoiledBy 0 = .ok (.iconst 0, 1) := dk_3 (dk_at dksX6_spoiledBy_0 0 rfl rfl)
theorem dX6_spoiledBy_1 : decode cX6_spoiledBy 1 = .ok (.istore_n 2, 1) := dk_61 (dk_at dksX6_spoiledBy_0 1 rfl rfl)
theorem dX6_spoiledBy_2 : decode cX6_spoiledBy 2 = .ok (.aload_n 0, 1) := dk_42 (dk_at dksX6_spoiledBy_0 2 rfl rfl)
theorem dX6_spoiledBy_3 : decode cX6_spoiledBy 3 = .ok (.invokevirtual 214, 3) := dk_182 0 214 (dk_at dksX6_spoiledBy_0 3 rfl rfl)
theorem dX6_spoiledBy_6 : decode cX6_spoiledBy 6 = .ok (.iconst 0, 1) := dk_3 (dk_at dksX6_spoiledBy_0 6 rfl rfl)
theorem dX6_spoiledBy_7 : decode cX6_spoiledBy 7 = .ok (.istore_n 3, 1) := dk_62 (dk_at dksX6_spoiledBy_0 7 rfl rfl)
theorem dX6_spoiledBy_8 : decode cX6_spoiledBy 8 = .ok (.iload_n 3, 1) := dk_29 (dk_at dksX6_spoiledBy_0 8 rfl rfl)
theorem dX6_spoiledBy_9 : decode cX6_spoiledBy 9 = .ok (.iload_n 1, 1) := dk_27 (dk_at dksX6_spoiledBy_0 9 rfl rfl)
theorem dX6_spoiledBy_10 : decode cX6_spoiledBy 10 = .ok (.if_icmp .ge 30, 3) := dk_162 0 30 (dk_at dksX6_spoiledBy_0 10 rfl rfl)
theorem dX6_spoiledBy_13 : decode cX6_spoiledBy 13 = .ok (.iload_n 2, 1) := dk_28 (dk_at dksX6_spoiledBy_0 13 rfl rfl)
theorem dX6_spoiledBy_14 : decode cX6_spoiledBy 14 = .ok (.aload_n 0, 1) := dk_42 (dk_at dksX6_spoiledBy_0 14 rfl rfl)
theorem dX6_spoiledBy_15 : decode cX6_spoiledBy 15 = .ok (.aload_n 0, 1) := dk_42 (dk_at dksX6_spoiledBy_0 15 rfl rfl)
theorem dX6_spoiledBy_16 : decode cX6_spoiledBy 16 = .ok (.getfield 33, 3) := dk_180 0 33 (dk_at dksX6_spoiledBy_0 16 rfl rfl)
theorem dX6_spoiledBy_19 : decode cX6_spoiledBy 19 = .ok (.iload_n 3, 1) := dk_29 (dk_at dksX6_spoiledBy_0 19 rfl rfl)
theorem dX6_spoiledBy_20 : decode cX6_spoiledBy 20 = .ok (.iaload, 1) := dk_46 (dk_at dksX6_spoiledBy_0 20 rfl rfl)
theorem dX6_spoiledBy_21 : decode cX6_spoiledBy 21 = .ok (.invokevirtual 208, 3) := dk_182 0 208 (dk_at dksX6_spoiledBy_0 21 rfl rfl)
theorem dX6_spoiledBy_24 : decode cX6_spoiledBy 24 = .ok (.ifCond .eq 7, 3) := dk_153 0 7 (dk_at dksX6_spoiledBy_1 0 rfl rfl)
theorem dX6_spoiledBy_27 : decode cX6_spoiledBy 27 = .ok (.iconst 1, 1) := dk_4 (dk_at dksX6_spoiledBy_1 3 rfl rfl)
theorem dX6_spoiledBy_28 : decode cX6_spoiledBy 28 = .ok (.goto 4, 3) := dk_167 0 4 (dk_at dksX6_spoiledBy_1 4 rfl rfl)
theorem dX6_spoiledBy_31 : decode cX6_spoiledBy 31 = .ok (.iconst 0, 1) := dk_3 (dk_at dksX6_spoiledBy_1 7 rfl rfl)
theorem dX6_spoiledBy_32 : decode cX6_spoiledBy 32 = .ok (.iadd, 1) := dk_96 (dk_at dksX6_spoiledBy_1 8 rfl rfl)
theorem dX6_spoiledBy_33 : decode cX6_spoiledBy 33 = .ok (.istore_n 2, 1) := dk_61 (dk_at dksX6_spoiledBy_1 9 rfl rfl)
theorem dX6_spoiledBy_34 : decode cX6_spoiledBy 34 = .ok (.iinc 3 1, 3) := dk_132 3 1 (dk_at dksX6_spoiledBy_1 10 rfl rfl)
theorem dX6_spoiledBy_37 : decode cX6_spoiledBy 37 = .ok (.goto (-29), 3) := dk_167 255 227 (dk_at dksX6_spoiledBy_1 13 rfl rfl)
theorem dX6_spoiledBy_40 : decode cX6_spoiledBy 40 = .ok (.aload_n 0, 1) := dk_42 (dk_at dksX6_spoiledBy_1 16 rfl rfl)
theorem dX6_spoiledBy_41 : decode cX6_spoiledBy 41 = .ok (.invokevirtual 217, 3) := dk_182 0 217 (dk_at dksX6_spoiledBy_1 17 rfl rfl)
theorem dX6_spoiledBy_44 : decode cX6_spoiledBy 44 = .ok (.iload_n 2, 1) := dk_28 (dk_at dksX6_spoiledBy_1 20 rfl rfl)
theorem dX6_spoiledBy_45 : decode cX6_spoiledBy 45 = .ok (.ireturn, 1) := dk_172 (dk_at dksX6_spoiledBy_1 21 rfl rfl)
theorem cf_spoiledBy : xV yX6_spoiledBy RX6 cX6_spoiledBy 4 (some .int) 1 := ⟨q1694, qs73, q96, q1695, ⟨rfl, by decide +kernel, by decide +kernel, by decide +kernel⟩, by decide⟩
abbrev cX6_orders : ByteArray := prog_23_method_48_code
def yX6_orders : MethodName := ⟨RX6, "orders", "(III)V"⟩
def dkwX6_orders_5 : List UInt8 := [132, 4, 1, 167, 255, 206, 177]
abbrev dktX6_orders_5 : List UInt8 := dkwX6_orders_5 ++ []
def dkwX6_orders_4 : List UInt8 := [180, 0, 33, 28, 21, 4, 79, 42, 27, 4, 21, 4, 120, 2, 130, 126, 28, 4, 96, 29, 182, 0, 226]
abbrev dktX6_orders_4 : List UInt8 := dkwX6_orders_4 ++ dktX6_orders_5
def dkwX6_orders_3 : List UInt8 := [21, 4, 42, 180, 0, 11, 8, 46, 162, 0, 45, 27, 21, 4, 122, 4, 126, 154, 0, 6, 167, 0, 27, 42]
abbrev dktX6_orders_3 : List UInt8 := dkwX6_orders_3 ++ dktX6_orders_4
def dkwX6_orders_2 : List UInt8 := [180, 0, 36, 21, 5, 42, 180, 0, 33, 21, 5, 46, 79, 132, 5, 1, 167, 255, 233, 177, 3, 54, 4]
abbrev dktX6_orders_2 : List UInt8 := dkwX6_orders_2 ++ dktX6_orders_3
def dkwX6_orders_1 : List UInt8 := [180, 0, 223, 161, 0, 4, 177, 42, 21, 4, 181, 0, 223, 3, 54, 5, 21, 5, 28, 162, 0, 23, 42]
abbrev dktX6_orders_1 : List UInt8 := dkwX6_orders_1 ++ dktX6_orders_2
def dkwX6_orders_0 : List UInt8 := [28, 29, 160, 0, 63, 42, 28, 182, 0, 220, 54, 4, 42, 180, 0, 223, 155, 0, 13, 21, 4, 42]
abbrev dktX6_orders_0 : List UInt8 := dkwX6_orders_0 ++ dktX6_orders_1
theorem dksX6_orders_0 : cX6_orders.data.toList.drop 0 = dktX6_orders_0 := by decide +kernel
theorem dksX6_orders_1 : cX6_orders.data.toList.drop 22 = dktX6_orders_1 := dk_seg dksX6_orders_0 22 rfl rfl
theorem dksX6_orders_2 : cX6_orders.data.toList.drop 45 = dktX6_orders_2 := dk_seg dksX6_orders_1 23 rfl rfl
theorem dksX6_orders_3 : cX6_orders.data.toList.drop 68 = dktX6_orders_3 := dk_seg dksX6_orders_2 23 rfl rfl
theorem dksX6_orders_4 : cX6_orders.data.toList.drop 92 = dktX6_orders_4 := dk_seg dksX6_orders_3 24 rfl rfl
theorem dksX6_orders_5 : cX6_orders.data.toList.drop 115 = dktX6_orders_5 := dk_seg dksX6_orders_4 23 rfl rfl
theorem dX6_orders_0 : decode cX6_orders 0 = .ok (.iload_n 2, 1) := dk_28 (dk_at dksX6_orders_0 0 rfl rfl)
theorem dX6_orders_1 : decode cX6_orders 1 = .ok (.iload_n 3, 1) := dk_29 (dk_at dksX6_orders_0 1 rfl rfl)
theorem dX6_orders_2 : decode cX6_orders 2 = .ok (.if_icmp .ne 63, 3) := dk_160 0 63 (dk_at dksX6_orders_0 2 rfl rfl)
theorem dX6_orders_5 : decode cX6_orders 5 = .ok (.aload_n 0, 1) := dk_42 (dk_at dksX6_orders_0 5 rfl rfl)
theorem dX6_orders_6 : decode cX6_orders 6 = .ok (.iload_n 2, 1) := dk_28 (dk_at dksX6_orders_0 6 rfl rfl)
theorem dX6_orders_7 : decode cX6_orders 7 = .ok (.invokevirtual 220, 3) := dk_182 0 220 (dk_at dksX6_orders_0 7 rfl rfl)
theorem dX6_orders_10 : decode cX6_orders 10 = .ok (.istore 4, 2) := dk_54 4 (dk_at dksX6_orders_0 10 rfl rfl)
theorem dX6_orders_12 : decode cX6_orders 12 = .ok (.aload_n 0, 1) := dk_42 (dk_at dksX6_orders_0 12 rfl rfl)
theorem dX6_orders_13 : decode cX6_orders 13 = .ok (.getfield 223, 3) := dk_180 0 223 (dk_at dksX6_orders_0 13 rfl rfl)
theorem dX6_orders_16 : decode cX6_orders 16 = .ok (.ifCond .lt 13, 3) := dk_155 0 13 (dk_at dksX6_orders_0 16 rfl rfl)
theorem dX6_orders_19 : decode cX6_orders 19 = .ok (.iload 4, 2) := dk_21 4 (dk_at dksX6_orders_0 19 rfl rfl)
theorem dX6_orders_21 : decode cX6_orders 21 = .ok (.aload_n 0, 1) := dk_42 (dk_at dksX6_orders_0 21 rfl rfl)
theorem dX6_orders_22 : decode cX6_orders 22 = .ok (.getfield 223, 3) := dk_180 0 223 (dk_at dksX6_orders_1 0 rfl rfl)
theorem dX6_orders_25 : decode cX6_orders 25 = .ok (.if_icmp .lt 4, 3) := dk_161 0 4 (dk_at dksX6_orders_1 3 rfl rfl)
theorem dX6_orders_28 : decode cX6_orders 28 = .ok (.return_, 1) := dk_177 (dk_at dksX6_orders_1 6 rfl rfl)
theorem dX6_orders_29 : decode cX6_orders 29 = .ok (.aload_n 0, 1) := dk_42 (dk_at dksX6_orders_1 7 rfl rfl)
theorem dX6_orders_30 : decode cX6_orders 30 = .ok (.iload 4, 2) := dk_21 4 (dk_at dksX6_orders_1 8 rfl rfl)
theorem dX6_orders_32 : decode cX6_orders 32 = .ok (.putfield 223, 3) := dk_181 0 223 (dk_at dksX6_orders_1 10 rfl rfl)
theorem dX6_orders_35 : decode cX6_orders 35 = .ok (.iconst 0, 1) := dk_3 (dk_at dksX6_orders_1 13 rfl rfl)
theorem dX6_orders_36 : decode cX6_orders 36 = .ok (.istore 5, 2) := dk_54 5 (dk_at dksX6_orders_1 14 rfl rfl)
theorem dX6_orders_38 : decode cX6_orders 38 = .ok (.iload 5, 2) := dk_21 5 (dk_at dksX6_orders_1 16 rfl rfl)
theorem dX6_orders_40 : decode cX6_orders 40 = .ok (.iload_n 2, 1) := dk_28 (dk_at dksX6_orders_1 18 rfl rfl)
theorem dX6_orders_41 : decode cX6_orders 41 = .ok (.if_icmp .ge 23, 3) := dk_162 0 23 (dk_at dksX6_orders_1 19 rfl rfl)
theorem dX6_orders_44 : decode cX6_orders 44 = .ok (.aload_n 0, 1) := dk_42 (dk_at dksX6_orders_1 22 rfl rfl)
theorem dX6_orders_45 : decode cX6_orders 45 = .ok (.getfield 36, 3) := dk_180 0 36 (dk_at dksX6_orders_2 0 rfl rfl)
theorem dX6_orders_48 : decode cX6_orders 48 = .ok (.iload 5, 2) := dk_21 5 (dk_at dksX6_orders_2 3 rfl rfl)
theorem dX6_orders_50 : decode cX6_orders 50 = .ok (.aload_n 0, 1) := dk_42 (dk_at dksX6_orders_2 5 rfl rfl)
theorem dX6_orders_51 : decode cX6_orders 51 = .ok (.getfield 33, 3) := dk_180 0 33 (dk_at dksX6_orders_2 6 rfl rfl)
theorem dX6_orders_54 : decode cX6_orders 54 = .ok (.iload 5, 2) := dk_21 5 (dk_at dksX6_orders_2 9 rfl rfl)
theorem dX6_orders_56 : decode cX6_orders 56 = .ok (.iaload, 1) := dk_46 (dk_at dksX6_orders_2 11 rfl rfl)
theorem dX6_orders_57 : decode cX6_orders 57 = .ok (.iastore, 1) := dk_79 (dk_at dksX6_orders_2 12 rfl rfl)
theorem dX6_orders_58 : decode cX6_orders 58 = .ok (.iinc 5 1, 3) := dk_132 5 1 (dk_at dksX6_orders_2 13 rfl rfl)
theorem dX6_orders_61 : decode cX6_orders 61 = .ok (.goto (-23), 3) := dk_167 255 233 (dk_at dksX6_orders_2 16 rfl rfl)
theorem dX6_orders_64 : decode cX6_orders 64 = .ok (.return_, 1) := dk_177 (dk_at dksX6_orders_2 19 rfl rfl)
theorem dX6_orders_65 : decode cX6_orders 65 = .ok (.iconst 0, 1) := dk_3 (dk_at dksX6_orders_2 20 rfl rfl)
theorem dX6_orders_66 : decode cX6_orders 66 = .ok (.istore 4, 2) := dk_54 4 (dk_at dksX6_orders_2 21 rfl rfl)
theorem dX6_orders_68 : decode cX6_orders 68 = .ok (.iload 4, 2) := dk_21 4 (dk_at dksX6_orders_3 0 rfl rfl)
theorem dX6_orders_70 : decode cX6_orders 70 = .ok (.aload_n 0, 1) := dk_42 (dk_at dksX6_orders_3 2 rfl rfl)
theorem dX6_orders_71 : decode cX6_orders 71 = .ok (.getfield 11, 3) := dk_180 0 11 (dk_at dksX6_orders_3 3 rfl rfl)
theorem dX6_orders_74 : decode cX6_orders 74 = .ok (.iconst 5, 1) := dk_8 (dk_at dksX6_orders_3 6 rfl rfl)
theorem dX6_orders_75 : decode cX6_orders 75 = .ok (.iaload, 1) := dk_46 (dk_at dksX6_orders_3 7 rfl rfl)
theorem dX6_orders_76 : decode cX6_orders 76 = .ok (.if_icmp .ge 45, 3) := dk_162 0 45 (dk_at dksX6_orders_3 8 rfl rfl)
theorem dX6_orders_79 : decode cX6_orders 79 = .ok (.iload_n 1, 1) := dk_27 (dk_at dksX6_orders_3 11 rfl rfl)
theorem dX6_orders_80 : decode cX6_orders 80 = .ok (.iload 4, 2) := dk_21 4 (dk_at dksX6_orders_3 12 rfl rfl)
theorem dX6_orders_82 : decode cX6_orders 82 = .ok (.ishr, 1) := dk_122 (dk_at dksX6_orders_3 14 rfl rfl)
theorem dX6_orders_83 : decode cX6_orders 83 = .ok (.iconst 1, 1) := dk_4 (dk_at dksX6_orders_3 15 rfl rfl)
theorem dX6_orders_84 : decode cX6_orders 84 = .ok (.iand, 1) := dk_126 (dk_at dksX6_orders_3 16 rfl rfl)
theorem dX6_orders_85 : decode cX6_orders 85 = .ok (.ifCond .ne 6, 3) := dk_154 0 6 (dk_at dksX6_orders_3 17 rfl rfl)
theorem dX6_orders_88 : decode cX6_orders 88 = .ok (.goto 27, 3) := dk_167 0 27 (dk_at dksX6_orders_3 20 rfl rfl)
theorem dX6_orders_91 : decode cX6_orders 91 = .ok (.aload_n 0, 1) := dk_42 (dk_at dksX6_orders_3 23 rfl rfl)
theorem dX6_orders_92 : decode cX6_orders 92 = .ok (.getfield 33, 3) := dk_180 0 33 (dk_at dksX6_orders_4 0 rfl rfl)
theorem dX6_orders_95 : decode cX6_orders 95 = .ok (.iload_n 2, 1) := dk_28 (dk_at dksX6_orders_4 3 rfl rfl)
theorem dX6_orders_96 : decode cX6_orders 96 = .ok (.iload 4, 2) := dk_21 4 (dk_at dksX6_orders_4 4 rfl rfl)
theorem dX6_orders_98 : decode cX6_orders 98 = .ok (.iastore, 1) := dk_79 (dk_at dksX6_orders_4 6 rfl rfl)
theorem dX6_orders_99 : decode cX6_orders 99 = .ok (.aload_n 0, 1) := dk_42 (dk_at dksX6_orders_4 7 rfl rfl)
theorem dX6_orders_100 : decode cX6_orders 100 = .ok (.iload_n 1, 1) := dk_27 (dk_at dksX6_orders_4 8 rfl rfl)
theorem dX6_orders_101 : decode cX6_orders 101 = .ok (.iconst 1, 1) := dk_4 (dk_at dksX6_orders_4 9 rfl rfl)
theorem dX6_orders_102 : decode cX6_orders 102 = .ok (.iload 4, 2) := dk_21 4 (dk_at dksX6_orders_4 10 rfl rfl)
theorem dX6_orders_104 : decode cX6_orders 104 = .ok (.ishl, 1) := dk_120 (dk_at dksX6_orders_4 12 rfl rfl)
theorem dX6_orders_105 : decode cX6_orders 105 = .ok (.iconst (-1), 1) := dk_2 (dk_at dksX6_orders_4 13 rfl rfl)
theorem dX6_orders_106 : decode cX6_orders 106 = .ok (.ixor, 1) := dk_130 (dk_at dksX6_orders_4 14 rfl rfl)
theorem dX6_orders_107 : decode cX6_orders 107 = .ok (.iand, 1) := dk_126 (dk_at dksX6_orders_4 15 rfl rfl)
theorem dX6_orders_108 : decode cX6_orders 108 = .ok (.iload_n 2, 1) := dk_28 (dk_at dksX6_orders_4 16 rfl rfl)
theorem dX6_orders_109 : decode cX6_orders 109 = .ok (.iconst 1, 1) := dk_4 (dk_at dksX6_orders_4 17 rfl rfl)
theorem dX6_orders_110 : decode cX6_orders 110 = .ok (.iadd, 1) := dk_96 (dk_at dksX6_orders_4 18 rfl rfl)
theorem dX6_orders_111 : decode cX6_orders 111 = .ok (.iload_n 3, 1) := dk_29 (dk_at dksX6_orders_4 19 rfl rfl)
theorem dX6_orders_112 : decode cX6_orders 112 = .ok (.invokevirtual 226, 3) := dk_182 0 226 (dk_at dksX6_orders_4 20 rfl rfl)
theorem dX6_orders_115 : decode cX6_orders 115 = .ok (.iinc 4 1, 3) := dk_132 4 1 (dk_at dksX6_orders_5 0 rfl rfl)
theorem dX6_orders_118 : decode cX6_orders 118 = .ok (.goto (-50), 3) := dk_167 255 206 (dk_at dksX6_orders_5 3 rfl rfl)
theorem dX6_orders_121 : decode cX6_orders 121 = .ok (.return_, 1) := dk_177 (dk_at dksX6_orders_5 6 rfl rfl)
theorem cf_orders : xV yX6_orders RX6 cX6_orders 6 none 3 := ⟨q1690, qs72, q96, q1691, ⟨rfl, by decide +kernel, by decide +kernel, by decide +kernel⟩, by decide⟩
abbrev cX6_order : ByteArray := prog_23_method_49_code
def yX6_order : MethodName := ⟨RX6, "order", "(II)I"⟩
def dkwX6_order_3 : List UInt8 := [167, 0, 5, 16, 251, 172]
abbrev dktX6_order_3 : List UInt8 := dkwX6_order_3 ++ []
def dkwX6_order_2 : List UInt8 := [156, 0, 10, 42, 180, 0, 223, 167, 0, 22, 28, 27, 184, 0, 232, 162, 0, 12, 42, 180, 0, 36, 28, 46]
abbrev dktX6_order_2 : List UInt8 := dkwX6_order_2 ++ dktX6_order_3
def dkwX6_order_1 : List UInt8 := [164, 0, 6, 16, 254, 172, 42, 2, 181, 0, 223, 42, 27, 3, 27, 184, 0, 232, 182, 0, 226, 28]
abbrev dktX6_order_1 : List UInt8 := dkwX6_order_1 ++ dktX6_order_2
def dkwX6_order_0 : List UInt8 := [28, 2, 8, 184, 0, 52, 154, 0, 5, 2, 172, 42, 27, 182, 0, 229, 153, 0, 11, 27, 184, 0, 232, 8]
abbrev dktX6_order_0 : List UInt8 := dkwX6_order_0 ++ dktX6_order_1
theorem dksX6_order_0 : cX6_order.data.toList.drop 0 = dktX6_order_0 := by decide +kernel
theorem dksX6_order_1 : cX6_order.data.toList.drop 24 = dktX6_order_1 := dk_seg dksX6_order_0 24 rfl rfl
theorem dksX6_order_2 : cX6_order.data.toList.drop 46 = dktX6_order_2 := dk_seg dksX6_order_1 22 rfl rfl
theorem dksX6_order_3 : cX6_order.data.toList.drop 70 = dktX6_order_3 := dk_seg dksX6_order_2 24 rfl rfl
theorem dX6_order_0 : decode cX6_order 0 = .ok (.iload_n 2, 1) := dk_28 (dk_at dksX6_order_0 0 rfl rfl)
theorem dX6_order_1 : decode cX6_order 1 = .ok (.iconst (-1), 1) := dk_2 (dk_at dksX6_order_0 1 rfl rfl)
theorem dX6_order_2 : decode cX6_order 2 = .ok (.iconst 5, 1) := dk_8 (dk_at dksX6_order_0 2 rfl rfl)
theorem dX6_order_3 : decode cX6_order 3 = .ok (.invokestatic 52, 3) := dk_184 0 52 (dk_at dksX6_order_0 3 rfl rfl)
theorem dX6_order_6 : decode cX6_order 6 = .ok (.ifCond .ne 5, 3) := dk_154 0 5 (dk_at dksX6_order_0 6 rfl rfl)
theorem dX6_order_9 : decode cX6_order 9 = .ok (.iconst (-1), 1) := dk_2 (dk_at dksX6_order_0 9 rfl rfl)
theorem dX6_order_10 : decode cX6_order 10 = .ok (.ireturn, 1) := dk_172 (dk_at dksX6_order_0 10 rfl rfl)
theorem dX6_order_11 : decode cX6_order 11 = .ok (.aload_n 0, 1) := dk_42 (dk_at dksX6_order_0 11 rfl rfl)
theorem dX6_order_12 : decode cX6_order 12 = .ok (.iload_n 1, 1) := dk_27 (dk_at dksX6_order_0 12 rfl rfl)
theorem dX6_order_13 : decode cX6_order 13 = .ok (.invokevirtual 229, 3) := dk_182 0 229 (dk_at dksX6_order_0 13 rfl rfl)
theorem dX6_order_16 : decode cX6_order 16 = .ok (.ifCond .eq 11, 3) := dk_153 0 11 (dk_at dksX6_order_0 16 rfl rfl)
theorem dX6_order_19 : decode cX6_order 19 = .ok (.iload_n 1, 1) := dk_27 (dk_at dksX6_order_0 19 rfl rfl)
theorem dX6_order_20 : decode cX6_order 20 = .ok (.invokestatic 232, 3) := dk_184 0 232 (dk_at dksX6_order_0 20 rfl rfl)
theorem dX6_order_23 : decode cX6_order 23 = .ok (.iconst 5, 1) := dk_8 (dk_at dksX6_order_0 23 rfl rfl)
theorem dX6_order_24 : decode cX6_order 24 = .ok (.if_icmp .le 6, 3) := dk_164 0 6 (dk_at dksX6_order_1 0 rfl rfl)
theorem dX6_order_27 : decode cX6_order 27 = .ok (.bipush (-2), 2) := dk_16 254 (dk_at dksX6_order_1 3 rfl rfl)
theorem dX6_order_29 : decode cX6_order 29 = .ok (.ireturn, 1) := dk_172 (dk_at dksX6_order_1 5 rfl rfl)
theorem dX6_order_30 : decode cX6_order 30 = .ok (.aload_n 0, 1) := dk_42 (dk_at dksX6_order_1 6 rfl rfl)
theorem dX6_order_31 : decode cX6_order 31 = .ok (.iconst (-1), 1) := dk_2 (dk_at dksX6_order_1 7 rfl rfl)
theorem dX6_order_32 : decode cX6_order 32 = .ok (.putfield 223, 3) := dk_181 0 223 (dk_at dksX6_order_1 8 rfl rfl)
theorem dX6_order_35 : decode cX6_order 35 = .ok (.aload_n 0, 1) := dk_42 (dk_at dksX6_order_1 11 rfl rfl)
theorem dX6_order_36 : decode cX6_order 36 = .ok (.iload_n 1, 1) := dk_27 (dk_at dksX6_order_1 12 rfl rfl)
theorem dX6_order_37 : decode cX6_order 37 = .ok (.iconst 0, 1) := dk_3 (dk_at dksX6_order_1 13 rfl rfl)
theorem dX6_order_38 : decode cX6_order 38 = .ok (.iload_n 1, 1) := dk_27 (dk_at dksX6_order_1 14 rfl rfl)
theorem dX6_order_39 : decode cX6_order 39 = .ok (.invokestatic 232, 3) := dk_184 0 232 (dk_at dksX6_order_1 15 rfl rfl)
theorem dX6_order_42 : decode cX6_order 42 = .ok (.invokevirtual 226, 3) := dk_182 0 226 (dk_at dksX6_order_1 18 rfl rfl)
theorem dX6_order_45 : decode cX6_order 45 = .ok (.iload_n 2, 1) := dk_28 (dk_at dksX6_order_1 21 rfl rfl)
theorem dX6_order_46 : decode cX6_order 46 = .ok (.ifCond .ge 10, 3) := dk_156 0 10 (dk_at dksX6_order_2 0 rfl rfl)
theorem dX6_order_49 : decode cX6_order 49 = .ok (.aload_n 0, 1) := dk_42 (dk_at dksX6_order_2 3 rfl rfl)
theorem dX6_order_50 : decode cX6_order 50 = .ok (.getfield 223, 3) := dk_180 0 223 (dk_at dksX6_order_2 4 rfl rfl)
theorem dX6_order_53 : decode cX6_order 53 = .ok (.goto 22, 3) := dk_167 0 22 (dk_at dksX6_order_2 7 rfl rfl)
theorem dX6_order_56 : decode cX6_order 56 = .ok (.iload_n 2, 1) := dk_28 (dk_at dksX6_order_2 10 rfl rfl)
theorem dX6_order_57 : decode cX6_order 57 = .ok (.iload_n 1, 1) := dk_27 (dk_at dksX6_order_2 11 rfl rfl)
theorem dX6_order_58 : decode cX6_order 58 = .ok (.invokestatic 232, 3) := dk_184 0 232 (dk_at dksX6_order_2 12 rfl rfl)
theorem dX6_order_61 : decode cX6_order 61 = .ok (.if_icmp .ge 12, 3) := dk_162 0 12 (dk_at dksX6_order_2 15 rfl rfl)
theorem dX6_order_64 : decode cX6_order 64 = .ok (.aload_n 0, 1) := dk_42 (dk_at dksX6_order_2 18 rfl rfl)
theorem dX6_order_65 : decode cX6_order 65 = .ok (.getfield 36, 3) := dk_180 0 36 (dk_at dksX6_order_2 19 rfl rfl)
theorem dX6_order_68 : decode cX6_order 68 = .ok (.iload_n 2, 1) := dk_28 (dk_at dksX6_order_2 22 rfl rfl)
theorem dX6_order_69 : decode cX6_order 69 = .ok (.iaload, 1) := dk_46 (dk_at dksX6_order_2 23 rfl rfl)
theorem dX6_order_70 : decode cX6_order 70 = .ok (.goto 5, 3) := dk_167 0 5 (dk_at dksX6_order_3 0 rfl rfl)
theorem dX6_order_73 : decode cX6_order 73 = .ok (.bipush (-5), 2) := dk_16 251 (dk_at dksX6_order_3 3 rfl rfl)
theorem dX6_order_75 : decode cX6_order 75 = .ok (.ireturn, 1) := dk_172 (dk_at dksX6_order_3 5 rfl rfl)
theorem cf_order : xV yX6_order RX6 cX6_order 3 (some .int) 2 := ⟨q1678, q1679, q96, q1680, ⟨rfl, by decide +kernel, by decide +kernel, by decide +kernel⟩, by decide⟩
abbrev cX6_memberOf : ByteArray := prog_23_method_50_code
def yX6_memberOf : MethodName := ⟨RX6, "memberOf", "(II)I"⟩
def dkwX6_memberOf_1 : List UInt8 := [132, 3, 1, 167, 255, 233, 29, 172]
abbrev dktX6_memberOf_1 : List UInt8 := dkwX6_memberOf_1 ++ []
def dkwX6_memberOf_0 : List UInt8 := [27, 61, 3, 62, 26, 29, 122, 4, 126, 153, 0, 7, 28, 158, 0, 17, 28, 26, 29, 122, 4, 126, 100, 61]
abbrev dktX6_memberOf_0 : List UInt8 := dkwX6_memberOf_0 ++ dktX6_memberOf_1
theorem dksX6_memberOf_0 : cX6_memberOf.data.toList.drop 0 = dktX6_memberOf_0 := by decide +kernel
theorem dksX6_memberOf_1 : cX6_memberOf.data.toList.drop 24 = dktX6_memberOf_1 := dk_seg dksX6_memberOf_0 24 rfl rfl
theorem dX6_memberOf_0 : decode cX6_memberOf 0 = .ok (.iload_n 1, 1) := dk_27 (dk_at dksX6_memberOf_0 0 rfl rfl)
theorem dX6_memberOf_1 : decode cX6_memberOf 1 = .ok (.istore_n 2, 1) := dk_61 (dk_at dksX6_memberOf_0 1 rfl rfl)
theorem dX6_memberOf_2 : decode cX6_memberOf 2 = .ok (.iconst 0, 1) := dk_3 (dk_at dksX6_memberOf_0 2 rfl rfl)
theorem dX6_memberOf_3 : decode cX6_memberOf 3 = .ok (.istore_n 3, 1) := dk_62 (dk_at dksX6_memberOf_0 3 rfl rfl)
theorem dX6_memberOf_4 : decode cX6_memberOf 4 = .ok (.iload_n 0, 1) := dk_26 (dk_at dksX6_memberOf_0 4 rfl rfl)
theorem dX6_memberOf_5 : decode cX6_memberOf 5 = .ok (.iload_n 3, 1) := dk_29 (dk_at dksX6_memberOf_0 5 rfl rfl)
theorem dX6_memberOf_6 : decode cX6_memberOf 6 = .ok (.ishr, 1) := dk_122 (dk_at dksX6_memberOf_0 6 rfl rfl)
theorem dX6_memberOf_7 : decode cX6_memberOf 7 = .ok (.iconst 1, 1) := dk_4 (dk_at dksX6_memberOf_0 7 rfl rfl)
theorem dX6_memberOf_8 : decode cX6_memberOf 8 = .ok (.iand, 1) := dk_126 (dk_at dksX6_memberOf_0 8 rfl rfl)
theorem dX6_memberOf_9 : decode cX6_memberOf 9 = .ok (.ifCond .eq 7, 3) := dk_153 0 7 (dk_at dksX6_memberOf_0 9 rfl rfl)
theorem dX6_memberOf_12 : decode cX6_memberOf 12 = .ok (.iload_n 2, 1) := dk_28 (dk_at dksX6_memberOf_0 12 rfl rfl)
theorem dX6_memberOf_13 : decode cX6_memberOf 13 = .ok (.ifCond .le 17, 3) := dk_158 0 17 (dk_at dksX6_memberOf_0 13 rfl rfl)
theorem dX6_memberOf_16 : decode cX6_memberOf 16 = .ok (.iload_n 2, 1) := dk_28 (dk_at dksX6_memberOf_0 16 rfl rfl)
theorem dX6_memberOf_17 : decode cX6_memberOf 17 = .ok (.iload_n 0, 1) := dk_26 (dk_at dksX6_memberOf_0 17 rfl rfl)
theorem dX6_memberOf_18 : decode cX6_memberOf 18 = .ok (.iload_n 3, 1) := dk_29 (dk_at dksX6_memberOf_0 18 rfl rfl)
theorem dX6_memberOf_19 : decode cX6_memberOf 19 = .ok (.ishr, 1) := dk_122 (dk_at dksX6_memberOf_0 19 rfl rfl)
theorem dX6_memberOf_20 : decode cX6_memberOf 20 = .ok (.iconst 1, 1) := dk_4 (dk_at dksX6_memberOf_0 20 rfl rfl)
theorem dX6_memberOf_21 : decode cX6_memberOf 21 = .ok (.iand, 1) := dk_126 (dk_at dksX6_memberOf_0 21 rfl rfl)
theorem dX6_memberOf_22 : decode cX6_memberOf 22 = .ok (.isub, 1) := dk_100 (dk_at dksX6_memberOf_0 22 rfl rfl)
theorem dX6_memberOf_23 : decode cX6_memberOf 23 = .ok (.istore_n 2, 1) := dk_61 (dk_at dksX6_memberOf_0 23 rfl rfl)
theorem dX6_memberOf_24 : decode cX6_memberOf 24 = .ok (.iinc 3 1, 3) := dk_132 3 1 (dk_at dksX6_memberOf_1 0 rfl rfl)
theorem dX6_memberOf_27 : decode cX6_memberOf 27 = .ok (.goto (-23), 3) := dk_167 255 233 (dk_at dksX6_memberOf_1 3 rfl rfl)
theorem dX6_memberOf_30 : decode cX6_memberOf 30 = .ok (.iload_n 3, 1) := dk_29 (dk_at dksX6_memberOf_1 6 rfl rfl)
theorem dX6_memberOf_31 : decode cX6_memberOf 31 = .ok (.ireturn, 1) := dk_172 (dk_at dksX6_memberOf_1 7 rfl rfl)
theorem cf_memberOf : xS yX6_memberOf cX6_memberOf 4 (some .int) 2 := ⟨q1705, q96, q1706, ⟨by decide +kernel, by decide +kernel, by decide +kernel⟩, by decide⟩
abbrev cX6_isWellBy : ByteArray := prog_23_method_51_code
def yX6_isWellBy : MethodName := ⟨RX6, "isWellBy", "(III)Z"⟩
def dkwX6_isWellBy_3 : List UInt8 := [21, 5, 8, 108, 54, 5, 132, 6, 1, 167, 255, 190, 42, 182, 0, 217, 21, 4, 172]
abbrev dktX6_isWellBy_3 : List UInt8 := dkwX6_isWellBy_3 ++ []
def dkwX6_isWellBy_2 : List UInt8 := [167, 255, 244, 42, 27, 21, 6, 184, 0, 235, 182, 0, 208, 154, 0, 7, 4, 167, 0, 4, 3, 54, 4]
abbrev dktX6_isWellBy_2 : List UInt8 := dkwX6_isWellBy_2 ++ dktX6_isWellBy_3
def dkwX6_isWellBy_1 : List UInt8 := [153, 0, 58, 28, 21, 5, 108, 8, 112, 54, 7, 21, 7, 158, 0, 13, 42, 182, 0, 211, 132, 7, 255]
abbrev dktX6_isWellBy_1 : List UInt8 := dkwX6_isWellBy_1 ++ dktX6_isWellBy_2
def dkwX6_isWellBy_0 : List UInt8 := [4, 54, 4, 42, 182, 0, 214, 29, 54, 5, 3, 54, 6, 21, 6, 27, 184, 0, 232, 162, 0, 63, 21, 4]
abbrev dktX6_isWellBy_0 : List UInt8 := dkwX6_isWellBy_0 ++ dktX6_isWellBy_1
theorem dksX6_isWellBy_0 : cX6_isWellBy.data.toList.drop 0 = dktX6_isWellBy_0 := by decide +kernel
theorem dksX6_isWellBy_1 : cX6_isWellBy.data.toList.drop 24 = dktX6_isWellBy_1 := dk_seg dksX6_isWellBy_0 24 rfl rfl
theorem dksX6_isWellBy_2 : cX6_isWellBy.data.toList.drop 47 = dktX6_isWellBy_2 := dk_seg dksX6_isWellBy_1 23 rfl rfl
theorem dksX6_isWellBy_3 : cX6_isWellBy.data.toList.drop 70 = dktX6_isWellBy_3 := dk_seg dksX6_isWellBy_2 23 rfl rfl
theorem dX6_isWellBy_0 : decode cX6_isWellBy 0 = .ok (.iconst 1, 1) := dk_4 (dk_at dksX6_isWellBy_0 0 rfl rfl)
theorem dX6_isWellBy_1 : decode cX6_isWellBy 1 = .ok (.istore 4, 2) := dk_54 4 (dk_at dksX6_isWellBy_0 1 rfl rfl)
theorem dX6_isWellBy_3 : decode cX6_isWellBy 3 = .ok (.aload_n 0, 1) := dk_42 (dk_at dksX6_isWellBy_0 3 rfl rfl)
theorem dX6_isWellBy_4 : decode cX6_isWellBy 4 = .ok (.invokevirtual 214, 3) := dk_182 0 214 (dk_at dksX6_isWellBy_0 4 rfl rfl)
theorem dX6_isWellBy_7 : decode cX6_isWellBy 7 = .ok (.iload_n 3, 1) := dk_29 (dk_at dksX6_isWellBy_0 7 rfl rfl)
theorem dX6_isWellBy_8 : decode cX6_isWellBy 8 = .ok (.istore 5, 2) := dk_54 5 (dk_at dksX6_isWellBy_0 8 rfl rfl)
theorem dX6_isWellBy_10 : decode cX6_isWellBy 10 = .ok (.iconst 0, 1) := dk_3 (dk_at dksX6_isWellBy_0 10 rfl rfl)
theorem dX6_isWellBy_11 : decode cX6_isWellBy 11 = .ok (.istore 6, 2) := dk_54 6 (dk_at dksX6_isWellBy_0 11 rfl rfl)
theorem dX6_isWellBy_13 : decode cX6_isWellBy 13 = .ok (.iload 6, 2) := dk_21 6 (dk_at dksX6_isWellBy_0 13 rfl rfl)
theorem dX6_isWellBy_15 : decode cX6_isWellBy 15 = .ok (.iload_n 1, 1) := dk_27 (dk_at dksX6_isWellBy_0 15 rfl rfl)
theorem dX6_isWellBy_16 : decode cX6_isWellBy 16 = .ok (.invokestatic 232, 3) := dk_184 0 232 (dk_at dksX6_isWellBy_0 16 rfl rfl)
theorem dX6_isWellBy_19 : decode cX6_isWellBy 19 = .ok (.if_icmp .ge 63, 3) := dk_162 0 63 (dk_at dksX6_isWellBy_0 19 rfl rfl)
theorem dX6_isWellBy_22 : decode cX6_isWellBy 22 = .ok (.iload 4, 2) := dk_21 4 (dk_at dksX6_isWellBy_0 22 rfl rfl)
theorem dX6_isWellBy_24 : decode cX6_isWellBy 24 = .ok (.ifCond .eq 58, 3) := dk_153 0 58 (dk_at dksX6_isWellBy_1 0 rfl rfl)
theorem dX6_isWellBy_27 : decode cX6_isWellBy 27 = .ok (.iload_n 2, 1) := dk_28 (dk_at dksX6_isWellBy_1 3 rfl rfl)
theorem dX6_isWellBy_28 : decode cX6_isWellBy 28 = .ok (.iload 5, 2) := dk_21 5 (dk_at dksX6_isWellBy_1 4 rfl rfl)
theorem dX6_isWellBy_30 : decode cX6_isWellBy 30 = .ok (.idiv, 1) := dk_108 (dk_at dksX6_isWellBy_1 6 rfl rfl)
theorem dX6_isWellBy_31 : decode cX6_isWellBy 31 = .ok (.iconst 5, 1) := dk_8 (dk_at dksX6_isWellBy_1 7 rfl rfl)
theorem dX6_isWellBy_32 : decode cX6_isWellBy 32 = .ok (.irem, 1) := dk_112 (dk_at dksX6_isWellBy_1 8 rfl rfl)
theorem dX6_isWellBy_33 : decode cX6_isWellBy 33 = .ok (.istore 7, 2) := dk_54 7 (dk_at dksX6_isWellBy_1 9 rfl rfl)
theorem dX6_isWellBy_35 : decode cX6_isWellBy 35 = .ok (.iload 7, 2) := dk_21 7 (dk_at dksX6_isWellBy_1 11 rfl rfl)
theorem dX6_isWellBy_37 : decode cX6_isWellBy 37 = .ok (.ifCond .le 13, 3) := dk_158 0 13 (dk_at dksX6_isWellBy_1 13 rfl rfl)
theorem dX6_isWellBy_40 : decode cX6_isWellBy 40 = .ok (.aload_n 0, 1) := dk_42 (dk_at dksX6_isWellBy_1 16 rfl rfl)
theorem dX6_isWellBy_41 : decode cX6_isWellBy 41 = .ok (.invokevirtual 211, 3) := dk_182 0 211 (dk_at dksX6_isWellBy_1 17 rfl rfl)
theorem dX6_isWellBy_44 : decode cX6_isWellBy 44 = .ok (.iinc 7 (-1), 3) := dk_132 7 255 (dk_at dksX6_isWellBy_1 20 rfl rfl)
theorem dX6_isWellBy_47 : decode cX6_isWellBy 47 = .ok (.goto (-12), 3) := dk_167 255 244 (dk_at dksX6_isWellBy_2 0 rfl rfl)
theorem dX6_isWellBy_50 : decode cX6_isWellBy 50 = .ok (.aload_n 0, 1) := dk_42 (dk_at dksX6_isWellBy_2 3 rfl rfl)
theorem dX6_isWellBy_51 : decode cX6_isWellBy 51 = .ok (.iload_n 1, 1) := dk_27 (dk_at dksX6_isWellBy_2 4 rfl rfl)
theorem dX6_isWellBy_52 : decode cX6_isWellBy 52 = .ok (.iload 6, 2) := dk_21 6 (dk_at dksX6_isWellBy_2 5 rfl rfl)
theorem dX6_isWellBy_54 : decode cX6_isWellBy 54 = .ok (.invokestatic 235, 3) := dk_184 0 235 (dk_at dksX6_isWellBy_2 7 rfl rfl)
theorem dX6_isWellBy_57 : decode cX6_isWellBy 57 = .ok (.invokevirtual 208, 3) := dk_182 0 208 (dk_at dksX6_isWellBy_2 10 rfl rfl)
theorem dX6_isWellBy_60 : decode cX6_isWellBy 60 = .ok (.ifCond .ne 7, 3) := dk_154 0 7 (dk_at dksX6_isWellBy_2 13 rfl rfl)
theorem dX6_isWellBy_63 : decode cX6_isWellBy 63 = .ok (.iconst 1, 1) := dk_4 (dk_at dksX6_isWellBy_2 16 rfl rfl)
theorem dX6_isWellBy_64 : decode cX6_isWellBy 64 = .ok (.goto 4, 3) := dk_167 0 4 (dk_at dksX6_isWellBy_2 17 rfl rfl)
theorem dX6_isWellBy_67 : decode cX6_isWellBy 67 = .ok (.iconst 0, 1) := dk_3 (dk_at dksX6_isWellBy_2 20 rfl rfl)
theorem dX6_isWellBy_68 : decode cX6_isWellBy 68 = .ok (.istore 4, 2) := dk_54 4 (dk_at dksX6_isWellBy_2 21 rfl rfl)
theorem dX6_isWellBy_70 : decode cX6_isWellBy 70 = .ok (.iload 5, 2) := dk_21 5 (dk_at dksX6_isWellBy_3 0 rfl rfl)
theorem dX6_isWellBy_72 : decode cX6_isWellBy 72 = .ok (.iconst 5, 1) := dk_8 (dk_at dksX6_isWellBy_3 2 rfl rfl)
theorem dX6_isWellBy_73 : decode cX6_isWellBy 73 = .ok (.idiv, 1) := dk_108 (dk_at dksX6_isWellBy_3 3 rfl rfl)
theorem dX6_isWellBy_74 : decode cX6_isWellBy 74 = .ok (.istore 5, 2) := dk_54 5 (dk_at dksX6_isWellBy_3 4 rfl rfl)
theorem dX6_isWellBy_76 : decode cX6_isWellBy 76 = .ok (.iinc 6 1, 3) := dk_132 6 1 (dk_at dksX6_isWellBy_3 6 rfl rfl)
theorem dX6_isWellBy_79 : decode cX6_isWellBy 79 = .ok (.goto (-66), 3) := dk_167 255 190 (dk_at dksX6_isWellBy_3 9 rfl rfl)
theorem dX6_isWellBy_82 : decode cX6_isWellBy 82 = .ok (.aload_n 0, 1) := dk_42 (dk_at dksX6_isWellBy_3 12 rfl rfl)
theorem dX6_isWellBy_83 : decode cX6_isWellBy 83 = .ok (.invokevirtual 217, 3) := dk_182 0 217 (dk_at dksX6_isWellBy_3 13 rfl rfl)
theorem dX6_isWellBy_86 : decode cX6_isWellBy 86 = .ok (.iload 4, 2) := dk_21 4 (dk_at dksX6_isWellBy_3 16 rfl rfl)
theorem dX6_isWellBy_88 : decode cX6_isWellBy 88 = .ok (.ireturn, 1) := dk_172 (dk_at dksX6_isWellBy_3 18 rfl rfl)
theorem cf_isWellBy : xV yX6_isWellBy RX6 cX6_isWellBy 8 (some .boolean) 3 := ⟨q1702, qs74, q96, q1703, ⟨rfl, by decide +kernel, by decide +kernel, by decide +kernel⟩, by decide⟩
abbrev cX6_colds : ByteArray := prog_23_method_52_code
def yX6_colds : MethodName := ⟨RX6, "colds", "(II)I"⟩
def dkwX6_colds_8 : List UInt8 := [21, 4, 21, 6, 108, 8, 112, 172]
abbrev dktX6_colds_8 : List UInt8 := dkwX6_colds_8 ++ []
def dkwX6_colds_7 : List UInt8 := [108, 54, 6, 3, 54, 7, 21, 7, 28, 162, 0, 15, 21, 6, 8, 108, 54, 6, 132, 7, 1, 167, 255, 241]
abbrev dktX6_colds_7 : List UInt8 := dkwX6_colds_7 ++ dktX6_colds_8
def dkwX6_colds_6 : List UInt8 := [156, 0, 6, 21, 5, 172, 21, 4, 155, 0, 11, 28, 27, 184, 0, 232, 161, 0, 6, 16, 251, 172, 29, 8]
abbrev dktX6_colds_6 : List UInt8 := dkwX6_colds_6 ++ dktX6_colds_7
def dkwX6_colds_5 : List UInt8 := [182, 0, 238, 154, 0, 6, 167, 0, 11, 21, 6, 54, 4, 21, 7, 54, 5, 132, 6, 1, 167, 255, 181, 28]
abbrev dktX6_colds_5 : List UInt8 := dkwX6_colds_5 ++ dktX6_colds_6
def dkwX6_colds_4 : List UInt8 := [54, 8, 167, 255, 236, 21, 4, 155, 0, 10, 21, 7, 21, 5, 162, 0, 27, 42, 27, 21, 6, 29, 8, 108]
abbrev dktX6_colds_4 : List UInt8 := dkwX6_colds_4 ++ dktX6_colds_5
def dkwX6_colds_3 : List UInt8 := [54, 7, 21, 6, 54, 8, 21, 8, 158, 0, 21, 21, 7, 21, 8, 8, 112, 96, 54, 7, 21, 8, 8, 108]
abbrev dktX6_colds_3 : List UInt8 := dkwX6_colds_3 ++ dktX6_colds_4
def dkwX6_colds_2 : List UInt8 := [132, 4, 255, 167, 255, 244, 16, 251, 54, 4, 16, 251, 54, 5, 3, 54, 6, 21, 6, 29, 162, 0, 75, 3]
abbrev dktX6_colds_2 : List UInt8 := dkwX6_colds_2 ++ dktX6_colds_3
def dkwX6_colds_1 : List UInt8 := [164, 0, 6, 16, 254, 172, 4, 62, 27, 184, 0, 232, 54, 4, 21, 4, 158, 0, 13, 29, 8, 104, 62]
abbrev dktX6_colds_1 : List UInt8 := dkwX6_colds_1 ++ dktX6_colds_2
def dkwX6_colds_0 : List UInt8 := [28, 2, 8, 184, 0, 52, 154, 0, 5, 2, 172, 42, 27, 182, 0, 229, 153, 0, 11, 27, 184, 0, 232, 7]
abbrev dktX6_colds_0 : List UInt8 := dkwX6_colds_0 ++ dktX6_colds_1
theorem dksX6_colds_0 : cX6_colds.data.toList.drop 0 = dktX6_colds_0 := by decide +kernel
theorem dksX6_colds_1 : cX6_colds.data.toList.drop 24 = dktX6_colds_1 := dk_seg dksX6_colds_0 24 rfl rfl
theorem dksX6_colds_2 : cX6_colds.data.toList.drop 47 = dktX6_colds_2 := dk_seg dksX6_colds_1 23 rfl rfl
theorem dksX6_colds_3 : cX6_colds.data.toList.drop 71 = dktX6_colds_3 := dk_seg dksX6_colds_2 24 rfl rfl
theorem dksX6_colds_4 : cX6_colds.data.toList.drop 95 = dktX6_colds_4 := dk_seg dksX6_colds_3 24 rfl rfl
theorem dksX6_colds_5 : cX6_colds.data.toList.drop 119 = dktX6_colds_5 := dk_seg dksX6_colds_4 24 rfl rfl
theorem dksX6_colds_6 : cX6_colds.data.toList.drop 143 = dktX6_colds_6 := dk_seg dksX6_colds_5 24 rfl rfl
theorem dksX6_colds_7 : cX6_colds.data.toList.drop 167 = dktX6_colds_7 := dk_seg dksX6_colds_6 24 rfl rfl
theorem dksX6_colds_8 : cX6_colds.data.toList.drop 191 = dktX6_colds_8 := dk_seg dksX6_colds_7 24 rfl rfl
theorem dX6_colds_0 : decode cX6_colds 0 = .ok (.iload_n 2, 1) := dk_28 (dk_at dksX6_colds_0 0 rfl rfl)
theorem dX6_colds_1 : decode cX6_colds 1 = .ok (.iconst (-1), 1) := dk_2 (dk_at dksX6_colds_0 1 rfl rfl)
theorem dX6_colds_2 : decode cX6_colds 2 = .ok (.iconst 5, 1) := dk_8 (dk_at dksX6_colds_0 2 rfl rfl)
theorem dX6_colds_3 : decode cX6_colds 3 = .ok (.invokestatic 52, 3) := dk_184 0 52 (dk_at dksX6_colds_0 3 rfl rfl)
theorem dX6_colds_6 : decode cX6_colds 6 = .ok (.ifCond .ne 5, 3) := dk_154 0 5 (dk_at dksX6_colds_0 6 rfl rfl)
theorem dX6_colds_9 : decode cX6_colds 9 = .ok (.iconst (-1), 1) := dk_2 (dk_at dksX6_colds_0 9 rfl rfl)
theorem dX6_colds_10 : decode cX6_colds 10 = .ok (.ireturn, 1) := dk_172 (dk_at dksX6_colds_0 10 rfl rfl)
theorem dX6_colds_11 : decode cX6_colds 11 = .ok (.aload_n 0, 1) := dk_42 (dk_at dksX6_colds_0 11 rfl rfl)
theorem dX6_colds_12 : decode cX6_colds 12 = .ok (.iload_n 1, 1) := dk_27 (dk_at dksX6_colds_0 12 rfl rfl)
theorem dX6_colds_13 : decode cX6_colds 13 = .ok (.invokevirtual 229, 3) := dk_182 0 229 (dk_at dksX6_colds_0 13 rfl rfl)
theorem dX6_colds_16 : decode cX6_colds 16 = .ok (.ifCond .eq 11, 3) := dk_153 0 11 (dk_at dksX6_colds_0 16 rfl rfl)
theorem dX6_colds_19 : decode cX6_colds 19 = .ok (.iload_n 1, 1) := dk_27 (dk_at dksX6_colds_0 19 rfl rfl)
theorem dX6_colds_20 : decode cX6_colds 20 = .ok (.invokestatic 232, 3) := dk_184 0 232 (dk_at dksX6_colds_0 20 rfl rfl)
theorem dX6_colds_23 : decode cX6_colds 23 = .ok (.iconst 4, 1) := dk_7 (dk_at dksX6_colds_0 23 rfl rfl)
theorem dX6_colds_24 : decode cX6_colds 24 = .ok (.if_icmp .le 6, 3) := dk_164 0 6 (dk_at dksX6_colds_1 0 rfl rfl)
theorem dX6_colds_27 : decode cX6_colds 27 = .ok (.bipush (-2), 2) := dk_16 254 (dk_at dksX6_colds_1 3 rfl rfl)
theorem dX6_colds_29 : decode cX6_colds 29 = .ok (.ireturn, 1) := dk_172 (dk_at dksX6_colds_1 5 rfl rfl)
theorem dX6_colds_30 : decode cX6_colds 30 = .ok (.iconst 1, 1) := dk_4 (dk_at dksX6_colds_1 6 rfl rfl)
theorem dX6_colds_31 : decode cX6_colds 31 = .ok (.istore_n 3, 1) := dk_62 (dk_at dksX6_colds_1 7 rfl rfl)
theorem dX6_colds_32 : decode cX6_colds 32 = .ok (.iload_n 1, 1) := dk_27 (dk_at dksX6_colds_1 8 rfl rfl)
theorem dX6_colds_33 : decode cX6_colds 33 = .ok (.invokestatic 232, 3) := dk_184 0 232 (dk_at dksX6_colds_1 9 rfl rfl)
theorem dX6_colds_36 : decode cX6_colds 36 = .ok (.istore 4, 2) := dk_54 4 (dk_at dksX6_colds_1 12 rfl rfl)
theorem dX6_colds_38 : decode cX6_colds 38 = .ok (.iload 4, 2) := dk_21 4 (dk_at dksX6_colds_1 14 rfl rfl)
theorem dX6_colds_40 : decode cX6_colds 40 = .ok (.ifCond .le 13, 3) := dk_158 0 13 (dk_at dksX6_colds_1 16 rfl rfl)
theorem dX6_colds_43 : decode cX6_colds 43 = .ok (.iload_n 3, 1) := dk_29 (dk_at dksX6_colds_1 19 rfl rfl)
theorem dX6_colds_44 : decode cX6_colds 44 = .ok (.iconst 5, 1) := dk_8 (dk_at dksX6_colds_1 20 rfl rfl)
theorem dX6_colds_45 : decode cX6_colds 45 = .ok (.imul, 1) := dk_104 (dk_at dksX6_colds_1 21 rfl rfl)
theorem dX6_colds_46 : decode cX6_colds 46 = .ok (.istore_n 3, 1) := dk_62 (dk_at dksX6_colds_1 22 rfl rfl)
theorem dX6_colds_47 : decode cX6_colds 47 = .ok (.iinc 4 (-1), 3) := dk_132 4 255 (dk_at dksX6_colds_2 0 rfl rfl)
theorem dX6_colds_50 : decode cX6_colds 50 = .ok (.goto (-12), 3) := dk_167 255 244 (dk_at dksX6_colds_2 3 rfl rfl)
theorem dX6_colds_53 : decode cX6_colds 53 = .ok (.bipush (-5), 2) := dk_16 251 (dk_at dksX6_colds_2 6 rfl rfl)
theorem dX6_colds_55 : decode cX6_colds 55 = .ok (.istore 4, 2) := dk_54 4 (dk_at dksX6_colds_2 8 rfl rfl)
theorem dX6_colds_57 : decode cX6_colds 57 = .ok (.bipush (-5), 2) := dk_16 251 (dk_at dksX6_colds_2 10 rfl rfl)
theorem dX6_colds_59 : decode cX6_colds 59 = .ok (.istore 5, 2) := dk_54 5 (dk_at dksX6_colds_2 12 rfl rfl)
theorem dX6_colds_61 : decode cX6_colds 61 = .ok (.iconst 0, 1) := dk_3 (dk_at dksX6_colds_2 14 rfl rfl)
theorem dX6_colds_62 : decode cX6_colds 62 = .ok (.istore 6, 2) := dk_54 6 (dk_at dksX6_colds_2 15 rfl rfl)
theorem dX6_colds_64 : decode cX6_colds 64 = .ok (.iload 6, 2) := dk_21 6 (dk_at dksX6_colds_2 17 rfl rfl)
theorem dX6_colds_66 : decode cX6_colds 66 = .ok (.iload_n 3, 1) := dk_29 (dk_at dksX6_colds_2 19 rfl rfl)
theorem dX6_colds_67 : decode cX6_colds 67 = .ok (.if_icmp .ge 75, 3) := dk_162 0 75 (dk_at dksX6_colds_2 20 rfl rfl)
theorem dX6_colds_70 : decode cX6_colds 70 = .ok (.iconst 0, 1) := dk_3 (dk_at dksX6_colds_2 23 rfl rfl)
theorem dX6_colds_71 : decode cX6_colds 71 = .ok (.istore 7, 2) := dk_54 7 (dk_at dksX6_colds_3 0 rfl rfl)
theorem dX6_colds_73 : decode cX6_colds 73 = .ok (.iload 6, 2) := dk_21 6 (dk_at dksX6_colds_3 2 rfl rfl)
theorem dX6_colds_75 : decode cX6_colds 75 = .ok (.istore 8, 2) := dk_54 8 (dk_at dksX6_colds_3 4 rfl rfl)
theorem dX6_colds_77 : decode cX6_colds 77 = .ok (.iload 8, 2) := dk_21 8 (dk_at dksX6_colds_3 6 rfl rfl)
theorem dX6_colds_79 : decode cX6_colds 79 = .ok (.ifCond .le 21, 3) := dk_158 0 21 (dk_at dksX6_colds_3 8 rfl rfl)
theorem dX6_colds_82 : decode cX6_colds 82 = .ok (.iload 7, 2) := dk_21 7 (dk_at dksX6_colds_3 11 rfl rfl)
theorem dX6_colds_84 : decode cX6_colds 84 = .ok (.iload 8, 2) := dk_21 8 (dk_at dksX6_colds_3 13 rfl rfl)
theorem dX6_colds_86 : decode cX6_colds 86 = .ok (.iconst 5, 1) := dk_8 (dk_at dksX6_colds_3 15 rfl rfl)
theorem dX6_colds_87 : decode cX6_colds 87 = .ok (.irem, 1) := dk_112 (dk_at dksX6_colds_3 16 rfl rfl)
theorem dX6_colds_88 : decode cX6_colds 88 = .ok (.iadd, 1) := dk_96 (dk_at dksX6_colds_3 17 rfl rfl)
theorem dX6_colds_89 : decode cX6_colds 89 = .ok (.istore 7, 2) := dk_54 7 (dk_at dksX6_colds_3 18 rfl rfl)
theorem dX6_colds_91 : decode cX6_colds 91 = .ok (.iload 8, 2) := dk_21 8 (dk_at dksX6_colds_3 20 rfl rfl)
theorem dX6_colds_93 : decode cX6_colds 93 = .ok (.iconst 5, 1) := dk_8 (dk_at dksX6_colds_3 22 rfl rfl)
theorem dX6_colds_94 : decode cX6_colds 94 = .ok (.idiv, 1) := dk_108 (dk_at dksX6_colds_3 23 rfl rfl)
theorem dX6_colds_95 : decode cX6_colds 95 = .ok (.istore 8, 2) := dk_54 8 (dk_at dksX6_colds_4 0 rfl rfl)
theorem dX6_colds_97 : decode cX6_colds 97 = .ok (.goto (-20), 3) := dk_167 255 236 (dk_at dksX6_colds_4 2 rfl rfl)
theorem dX6_colds_100 : decode cX6_colds 100 = .ok (.iload 4, 2) := dk_21 4 (dk_at dksX6_colds_4 5 rfl rfl)
theorem dX6_colds_102 : decode cX6_colds 102 = .ok (.ifCond .lt 10, 3) := dk_155 0 10 (dk_at dksX6_colds_4 7 rfl rfl)
theorem dX6_colds_105 : decode cX6_colds 105 = .ok (.iload 7, 2) := dk_21 7 (dk_at dksX6_colds_4 10 rfl rfl)
theorem dX6_colds_107 : decode cX6_colds 107 = .ok (.iload 5, 2) := dk_21 5 (dk_at dksX6_colds_4 12 rfl rfl)
theorem dX6_colds_109 : decode cX6_colds 109 = .ok (.if_icmp .ge 27, 3) := dk_162 0 27 (dk_at dksX6_colds_4 14 rfl rfl)
theorem dX6_colds_112 : decode cX6_colds 112 = .ok (.aload_n 0, 1) := dk_42 (dk_at dksX6_colds_4 17 rfl rfl)
theorem dX6_colds_113 : decode cX6_colds 113 = .ok (.iload_n 1, 1) := dk_27 (dk_at dksX6_colds_4 18 rfl rfl)
theorem dX6_colds_114 : decode cX6_colds 114 = .ok (.iload 6, 2) := dk_21 6 (dk_at dksX6_colds_4 19 rfl rfl)
theorem dX6_colds_116 : decode cX6_colds 116 = .ok (.iload_n 3, 1) := dk_29 (dk_at dksX6_colds_4 21 rfl rfl)
theorem dX6_colds_117 : decode cX6_colds 117 = .ok (.iconst 5, 1) := dk_8 (dk_at dksX6_colds_4 22 rfl rfl)
theorem dX6_colds_118 : decode cX6_colds 118 = .ok (.idiv, 1) := dk_108 (dk_at dksX6_colds_4 23 rfl rfl)
theorem dX6_colds_119 : decode cX6_colds 119 = .ok (.invokevirtual 238, 3) := dk_182 0 238 (dk_at dksX6_colds_5 0 rfl rfl)
theorem dX6_colds_122 : decode cX6_colds 122 = .ok (.ifCond .ne 6, 3) := dk_154 0 6 (dk_at dksX6_colds_5 3 rfl rfl)
theorem dX6_colds_125 : decode cX6_colds 125 = .ok (.goto 11, 3) := dk_167 0 11 (dk_at dksX6_colds_5 6 rfl rfl)
theorem dX6_colds_128 : decode cX6_colds 128 = .ok (.iload 6, 2) := dk_21 6 (dk_at dksX6_colds_5 9 rfl rfl)
theorem dX6_colds_130 : decode cX6_colds 130 = .ok (.istore 4, 2) := dk_54 4 (dk_at dksX6_colds_5 11 rfl rfl)
theorem dX6_colds_132 : decode cX6_colds 132 = .ok (.iload 7, 2) := dk_21 7 (dk_at dksX6_colds_5 13 rfl rfl)
theorem dX6_colds_134 : decode cX6_colds 134 = .ok (.istore 5, 2) := dk_54 5 (dk_at dksX6_colds_5 15 rfl rfl)
theorem dX6_colds_136 : decode cX6_colds 136 = .ok (.iinc 6 1, 3) := dk_132 6 1 (dk_at dksX6_colds_5 17 rfl rfl)
theorem dX6_colds_139 : decode cX6_colds 139 = .ok (.goto (-75), 3) := dk_167 255 181 (dk_at dksX6_colds_5 20 rfl rfl)
theorem dX6_colds_142 : decode cX6_colds 142 = .ok (.iload_n 2, 1) := dk_28 (dk_at dksX6_colds_5 23 rfl rfl)
theorem dX6_colds_143 : decode cX6_colds 143 = .ok (.ifCond .ge 6, 3) := dk_156 0 6 (dk_at dksX6_colds_6 0 rfl rfl)
theorem dX6_colds_146 : decode cX6_colds 146 = .ok (.iload 5, 2) := dk_21 5 (dk_at dksX6_colds_6 3 rfl rfl)
theorem dX6_colds_148 : decode cX6_colds 148 = .ok (.ireturn, 1) := dk_172 (dk_at dksX6_colds_6 5 rfl rfl)
theorem dX6_colds_149 : decode cX6_colds 149 = .ok (.iload 4, 2) := dk_21 4 (dk_at dksX6_colds_6 6 rfl rfl)
theorem dX6_colds_151 : decode cX6_colds 151 = .ok (.ifCond .lt 11, 3) := dk_155 0 11 (dk_at dksX6_colds_6 8 rfl rfl)
theorem dX6_colds_154 : decode cX6_colds 154 = .ok (.iload_n 2, 1) := dk_28 (dk_at dksX6_colds_6 11 rfl rfl)
theorem dX6_colds_155 : decode cX6_colds 155 = .ok (.iload_n 1, 1) := dk_27 (dk_at dksX6_colds_6 12 rfl rfl)
theorem dX6_colds_156 : decode cX6_colds 156 = .ok (.invokestatic 232, 3) := dk_184 0 232 (dk_at dksX6_colds_6 13 rfl rfl)
theorem dX6_colds_159 : decode cX6_colds 159 = .ok (.if_icmp .lt 6, 3) := dk_161 0 6 (dk_at dksX6_colds_6 16 rfl rfl)
theorem dX6_colds_162 : decode cX6_colds 162 = .ok (.bipush (-5), 2) := dk_16 251 (dk_at dksX6_colds_6 19 rfl rfl)
theorem dX6_colds_164 : decode cX6_colds 164 = .ok (.ireturn, 1) := dk_172 (dk_at dksX6_colds_6 21 rfl rfl)
theorem dX6_colds_165 : decode cX6_colds 165 = .ok (.iload_n 3, 1) := dk_29 (dk_at dksX6_colds_6 22 rfl rfl)
theorem dX6_colds_166 : decode cX6_colds 166 = .ok (.iconst 5, 1) := dk_8 (dk_at dksX6_colds_6 23 rfl rfl)
theorem dX6_colds_167 : decode cX6_colds 167 = .ok (.idiv, 1) := dk_108 (dk_at dksX6_colds_7 0 rfl rfl)
theorem dX6_colds_168 : decode cX6_colds 168 = .ok (.istore 6, 2) := dk_54 6 (dk_at dksX6_colds_7 1 rfl rfl)
theorem dX6_colds_170 : decode cX6_colds 170 = .ok (.iconst 0, 1) := dk_3 (dk_at dksX6_colds_7 3 rfl rfl)
theorem dX6_colds_171 : decode cX6_colds 171 = .ok (.istore 7, 2) := dk_54 7 (dk_at dksX6_colds_7 4 rfl rfl)
theorem dX6_colds_173 : decode cX6_colds 173 = .ok (.iload 7, 2) := dk_21 7 (dk_at dksX6_colds_7 6 rfl rfl)
theorem dX6_colds_175 : decode cX6_colds 175 = .ok (.iload_n 2, 1) := dk_28 (dk_at dksX6_colds_7 8 rfl rfl)
theorem dX6_colds_176 : decode cX6_colds 176 = .ok (.if_icmp .ge 15, 3) := dk_162 0 15 (dk_at dksX6_colds_7 9 rfl rfl)
theorem dX6_colds_179 : decode cX6_colds 179 = .ok (.iload 6, 2) := dk_21 6 (dk_at dksX6_colds_7 12 rfl rfl)
theorem dX6_colds_181 : decode cX6_colds 181 = .ok (.iconst 5, 1) := dk_8 (dk_at dksX6_colds_7 14 rfl rfl)
theorem dX6_colds_182 : decode cX6_colds 182 = .ok (.idiv, 1) := dk_108 (dk_at dksX6_colds_7 15 rfl rfl)
theorem dX6_colds_183 : decode cX6_colds 183 = .ok (.istore 6, 2) := dk_54 6 (dk_at dksX6_colds_7 16 rfl rfl)
theorem dX6_colds_185 : decode cX6_colds 185 = .ok (.iinc 7 1, 3) := dk_132 7 1 (dk_at dksX6_colds_7 18 rfl rfl)
theorem dX6_colds_188 : decode cX6_colds 188 = .ok (.goto (-15), 3) := dk_167 255 241 (dk_at dksX6_colds_7 21 rfl rfl)
theorem dX6_colds_191 : decode cX6_colds 191 = .ok (.iload 4, 2) := dk_21 4 (dk_at dksX6_colds_8 0 rfl rfl)
theorem dX6_colds_193 : decode cX6_colds 193 = .ok (.iload 6, 2) := dk_21 6 (dk_at dksX6_colds_8 2 rfl rfl)
theorem dX6_colds_195 : decode cX6_colds 195 = .ok (.idiv, 1) := dk_108 (dk_at dksX6_colds_8 4 rfl rfl)
theorem dX6_colds_196 : decode cX6_colds 196 = .ok (.iconst 5, 1) := dk_8 (dk_at dksX6_colds_8 5 rfl rfl)
theorem dX6_colds_197 : decode cX6_colds 197 = .ok (.irem, 1) := dk_112 (dk_at dksX6_colds_8 6 rfl rfl)
theorem dX6_colds_198 : decode cX6_colds 198 = .ok (.ireturn, 1) := dk_172 (dk_at dksX6_colds_8 7 rfl rfl)
theorem cf_colds : xV yX6_colds RX6 cX6_colds 9 (some .int) 2 := ⟨q1697, q1698, q96, q1699, ⟨rfl, by decide +kernel, by decide +kernel, by decide +kernel⟩, by decide⟩
abbrev cX6_takesAt : ByteArray := prog_23_method_53_code
def yX6_takesAt : MethodName := ⟨RX6, "takesAt", "(II)I"⟩
def dkwX6_takesAt_2 : List UInt8 := [132, 4, 1, 167, 255, 217, 42, 27, 182, 0, 241, 54, 4, 42, 182, 0, 217, 21, 4, 172]
abbrev dktX6_takesAt_2 : List UInt8 := dkwX6_takesAt_2 ++ []
def dkwX6_takesAt_1 : List UInt8 := [162, 0, 29, 21, 4, 27, 160, 0, 6, 167, 0, 14, 42, 21, 4, 182, 0, 208, 54, 5, 132, 3, 1]
abbrev dktX6_takesAt_1 : List UInt8 := dkwX6_takesAt_1 ++ dktX6_takesAt_2
def dkwX6_takesAt_0 : List UInt8 := [42, 182, 0, 214, 3, 62, 3, 54, 4, 21, 4, 42, 180, 0, 11, 8, 46, 162, 0, 34, 29, 28]
abbrev dktX6_takesAt_0 : List UInt8 := dkwX6_takesAt_0 ++ dktX6_takesAt_1
theorem dksX6_takesAt_0 : cX6_takesAt.data.toList.drop 0 = dktX6_takesAt_0 := by decide +kernel
theorem dksX6_takesAt_1 : cX6_takesAt.data.toList.drop 22 = dktX6_takesAt_1 := dk_seg dksX6_takesAt_0 22 rfl rfl
theorem dksX6_takesAt_2 : cX6_takesAt.data.toList.drop 45 = dktX6_takesAt_2 := dk_seg dksX6_takesAt_1 23 rfl rfl
theorem dX6_takesAt_0 : decode cX6_takesAt 0 = .ok (.aload_n 0, 1) := dk_42 (dk_at dksX6_takesAt_0 0 rfl rfl)
theorem dX6_takesAt_1 : decode cX6_takesAt 1 = .ok (.invokevirtual 214, 3) := dk_182 0 214 (dk_at dksX6_takesAt_0 1 rfl rfl)
theorem dX6_takesAt_4 : decode cX6_takesAt 4 = .ok (.iconst 0, 1) := dk_3 (dk_at dksX6_takesAt_0 4 rfl rfl)
theorem dX6_takesAt_5 : decode cX6_takesAt 5 = .ok (.istore_n 3, 1) := dk_62 (dk_at dksX6_takesAt_0 5 rfl rfl)
theorem dX6_takesAt_6 : decode cX6_takesAt 6 = .ok (.iconst 0, 1) := dk_3 (dk_at dksX6_takesAt_0 6 rfl rfl)
theorem dX6_takesAt_7 : decode cX6_takesAt 7 = .ok (.istore 4, 2) := dk_54 4 (dk_at dksX6_takesAt_0 7 rfl rfl)
theorem dX6_takesAt_9 : decode cX6_takesAt 9 = .ok (.iload 4, 2) := dk_21 4 (dk_at dksX6_takesAt_0 9 rfl rfl)
theorem dX6_takesAt_11 : decode cX6_takesAt 11 = .ok (.aload_n 0, 1) := dk_42 (dk_at dksX6_takesAt_0 11 rfl rfl)
theorem dX6_takesAt_12 : decode cX6_takesAt 12 = .ok (.getfield 11, 3) := dk_180 0 11 (dk_at dksX6_takesAt_0 12 rfl rfl)
theorem dX6_takesAt_15 : decode cX6_takesAt 15 = .ok (.iconst 5, 1) := dk_8 (dk_at dksX6_takesAt_0 15 rfl rfl)
theorem dX6_takesAt_16 : decode cX6_takesAt 16 = .ok (.iaload, 1) := dk_46 (dk_at dksX6_takesAt_0 16 rfl rfl)
theorem dX6_takesAt_17 : decode cX6_takesAt 17 = .ok (.if_icmp .ge 34, 3) := dk_162 0 34 (dk_at dksX6_takesAt_0 17 rfl rfl)
theorem dX6_takesAt_20 : decode cX6_takesAt 20 = .ok (.iload_n 3, 1) := dk_29 (dk_at dksX6_takesAt_0 20 rfl rfl)
theorem dX6_takesAt_21 : decode cX6_takesAt 21 = .ok (.iload_n 2, 1) := dk_28 (dk_at dksX6_takesAt_0 21 rfl rfl)
theorem dX6_takesAt_22 : decode cX6_takesAt 22 = .ok (.if_icmp .ge 29, 3) := dk_162 0 29 (dk_at dksX6_takesAt_1 0 rfl rfl)
theorem dX6_takesAt_25 : decode cX6_takesAt 25 = .ok (.iload 4, 2) := dk_21 4 (dk_at dksX6_takesAt_1 3 rfl rfl)
theorem dX6_takesAt_27 : decode cX6_takesAt 27 = .ok (.iload_n 1, 1) := dk_27 (dk_at dksX6_takesAt_1 5 rfl rfl)
theorem dX6_takesAt_28 : decode cX6_takesAt 28 = .ok (.if_icmp .ne 6, 3) := dk_160 0 6 (dk_at dksX6_takesAt_1 6 rfl rfl)
theorem dX6_takesAt_31 : decode cX6_takesAt 31 = .ok (.goto 14, 3) := dk_167 0 14 (dk_at dksX6_takesAt_1 9 rfl rfl)
theorem dX6_takesAt_34 : decode cX6_takesAt 34 = .ok (.aload_n 0, 1) := dk_42 (dk_at dksX6_takesAt_1 12 rfl rfl)
theorem dX6_takesAt_35 : decode cX6_takesAt 35 = .ok (.iload 4, 2) := dk_21 4 (dk_at dksX6_takesAt_1 13 rfl rfl)
theorem dX6_takesAt_37 : decode cX6_takesAt 37 = .ok (.invokevirtual 208, 3) := dk_182 0 208 (dk_at dksX6_takesAt_1 15 rfl rfl)
theorem dX6_takesAt_40 : decode cX6_takesAt 40 = .ok (.istore 5, 2) := dk_54 5 (dk_at dksX6_takesAt_1 18 rfl rfl)
theorem dX6_takesAt_42 : decode cX6_takesAt 42 = .ok (.iinc 3 1, 3) := dk_132 3 1 (dk_at dksX6_takesAt_1 20 rfl rfl)
theorem dX6_takesAt_45 : decode cX6_takesAt 45 = .ok (.iinc 4 1, 3) := dk_132 4 1 (dk_at dksX6_takesAt_2 0 rfl rfl)
theorem dX6_takesAt_48 : decode cX6_takesAt 48 = .ok (.goto (-39), 3) := dk_167 255 217 (dk_at dksX6_takesAt_2 3 rfl rfl)
theorem dX6_takesAt_51 : decode cX6_takesAt 51 = .ok (.aload_n 0, 1) := dk_42 (dk_at dksX6_takesAt_2 6 rfl rfl)
theorem dX6_takesAt_52 : decode cX6_takesAt 52 = .ok (.iload_n 1, 1) := dk_27 (dk_at dksX6_takesAt_2 7 rfl rfl)
theorem dX6_takesAt_53 : decode cX6_takesAt 53 = .ok (.invokevirtual 241, 3) := dk_182 0 241 (dk_at dksX6_takesAt_2 8 rfl rfl)
theorem dX6_takesAt_56 : decode cX6_takesAt 56 = .ok (.istore 4, 2) := dk_54 4 (dk_at dksX6_takesAt_2 11 rfl rfl)
theorem dX6_takesAt_58 : decode cX6_takesAt 58 = .ok (.aload_n 0, 1) := dk_42 (dk_at dksX6_takesAt_2 13 rfl rfl)
theorem dX6_takesAt_59 : decode cX6_takesAt 59 = .ok (.invokevirtual 217, 3) := dk_182 0 217 (dk_at dksX6_takesAt_2 14 rfl rfl)
theorem dX6_takesAt_62 : decode cX6_takesAt 62 = .ok (.iload 4, 2) := dk_21 4 (dk_at dksX6_takesAt_2 17 rfl rfl)
theorem dX6_takesAt_64 : decode cX6_takesAt 64 = .ok (.ireturn, 1) := dk_172 (dk_at dksX6_takesAt_2 19 rfl rfl)
theorem cf_takesAt : xV yX6_takesAt RX6 cX6_takesAt 6 (some .int) 2 := ⟨q1713, qs75, q96, q1714, ⟨rfl, by decide +kernel, by decide +kernel, by decide +kernel⟩, by decide⟩
abbrev cX6_place : ByteArray := prog_23_method_54_code
def yX6_place : MethodName := ⟨RX6, "place", "(II)I"⟩
def dkwX6_place_3 : List UInt8 := [132, 5, 1, 167, 255, 216, 28, 154, 0, 7, 29, 167, 0, 5, 21, 4, 172]
abbrev dktX6_place_3 : List UInt8 := dkwX6_place_3 ++ []
def dkwX6_place_2 : List UInt8 := [182, 0, 244, 54, 6, 21, 6, 21, 4, 161, 0, 6, 167, 0, 10, 21, 5, 62, 21, 6, 54, 4]
abbrev dktX6_place_2 : List UInt8 := dkwX6_place_2 ++ dktX6_place_3
def dkwX6_place_1 : List UInt8 := [182, 0, 244, 54, 4, 4, 54, 5, 21, 5, 42, 180, 0, 11, 8, 46, 162, 0, 35, 42, 27, 21, 5]
abbrev dktX6_place_1 : List UInt8 := dkwX6_place_1 ++ dktX6_place_2
def dkwX6_place_0 : List UInt8 := [42, 27, 182, 0, 199, 153, 0, 12, 28, 3, 4, 184, 0, 52, 154, 0, 5, 2, 172, 3, 62, 42, 27, 3]
abbrev dktX6_place_0 : List UInt8 := dkwX6_place_0 ++ dktX6_place_1
theorem dksX6_place_0 : cX6_place.data.toList.drop 0 = dktX6_place_0 := by decide +kernel
theorem dksX6_place_1 : cX6_place.data.toList.drop 24 = dktX6_place_1 := dk_seg dksX6_place_0 24 rfl rfl
theorem dksX6_place_2 : cX6_place.data.toList.drop 47 = dktX6_place_2 := dk_seg dksX6_place_1 23 rfl rfl
theorem dksX6_place_3 : cX6_place.data.toList.drop 69 = dktX6_place_3 := dk_seg dksX6_place_2 22 rfl rfl
theorem dX6_place_0 : decode cX6_place 0 = .ok (.aload_n 0, 1) := dk_42 (dk_at dksX6_place_0 0 rfl rfl)
theorem dX6_place_1 : decode cX6_place 1 = .ok (.iload_n 1, 1) := dk_27 (dk_at dksX6_place_0 1 rfl rfl)
theorem dX6_place_2 : decode cX6_place 2 = .ok (.invokevirtual 199, 3) := dk_182 0 199 (dk_at dksX6_place_0 2 rfl rfl)
theorem dX6_place_5 : decode cX6_place 5 = .ok (.ifCond .eq 12, 3) := dk_153 0 12 (dk_at dksX6_place_0 5 rfl rfl)
theorem dX6_place_8 : decode cX6_place 8 = .ok (.iload_n 2, 1) := dk_28 (dk_at dksX6_place_0 8 rfl rfl)
theorem dX6_place_9 : decode cX6_place 9 = .ok (.iconst 0, 1) := dk_3 (dk_at dksX6_place_0 9 rfl rfl)
theorem dX6_place_10 : decode cX6_place 10 = .ok (.iconst 1, 1) := dk_4 (dk_at dksX6_place_0 10 rfl rfl)
theorem dX6_place_11 : decode cX6_place 11 = .ok (.invokestatic 52, 3) := dk_184 0 52 (dk_at dksX6_place_0 11 rfl rfl)
theorem dX6_place_14 : decode cX6_place 14 = .ok (.ifCond .ne 5, 3) := dk_154 0 5 (dk_at dksX6_place_0 14 rfl rfl)
theorem dX6_place_17 : decode cX6_place 17 = .ok (.iconst (-1), 1) := dk_2 (dk_at dksX6_place_0 17 rfl rfl)
theorem dX6_place_18 : decode cX6_place 18 = .ok (.ireturn, 1) := dk_172 (dk_at dksX6_place_0 18 rfl rfl)
theorem dX6_place_19 : decode cX6_place 19 = .ok (.iconst 0, 1) := dk_3 (dk_at dksX6_place_0 19 rfl rfl)
theorem dX6_place_20 : decode cX6_place 20 = .ok (.istore_n 3, 1) := dk_62 (dk_at dksX6_place_0 20 rfl rfl)
theorem dX6_place_21 : decode cX6_place 21 = .ok (.aload_n 0, 1) := dk_42 (dk_at dksX6_place_0 21 rfl rfl)
theorem dX6_place_22 : decode cX6_place 22 = .ok (.iload_n 1, 1) := dk_27 (dk_at dksX6_place_0 22 rfl rfl)
theorem dX6_place_23 : decode cX6_place 23 = .ok (.iconst 0, 1) := dk_3 (dk_at dksX6_place_0 23 rfl rfl)
theorem dX6_place_24 : decode cX6_place 24 = .ok (.invokevirtual 244, 3) := dk_182 0 244 (dk_at dksX6_place_1 0 rfl rfl)
theorem dX6_place_27 : decode cX6_place 27 = .ok (.istore 4, 2) := dk_54 4 (dk_at dksX6_place_1 3 rfl rfl)
theorem dX6_place_29 : decode cX6_place 29 = .ok (.iconst 1, 1) := dk_4 (dk_at dksX6_place_1 5 rfl rfl)
theorem dX6_place_30 : decode cX6_place 30 = .ok (.istore 5, 2) := dk_54 5 (dk_at dksX6_place_1 6 rfl rfl)
theorem dX6_place_32 : decode cX6_place 32 = .ok (.iload 5, 2) := dk_21 5 (dk_at dksX6_place_1 8 rfl rfl)
theorem dX6_place_34 : decode cX6_place 34 = .ok (.aload_n 0, 1) := dk_42 (dk_at dksX6_place_1 10 rfl rfl)
theorem dX6_place_35 : decode cX6_place 35 = .ok (.getfield 11, 3) := dk_180 0 11 (dk_at dksX6_place_1 11 rfl rfl)
theorem dX6_place_38 : decode cX6_place 38 = .ok (.iconst 5, 1) := dk_8 (dk_at dksX6_place_1 14 rfl rfl)
theorem dX6_place_39 : decode cX6_place 39 = .ok (.iaload, 1) := dk_46 (dk_at dksX6_place_1 15 rfl rfl)
theorem dX6_place_40 : decode cX6_place 40 = .ok (.if_icmp .ge 35, 3) := dk_162 0 35 (dk_at dksX6_place_1 16 rfl rfl)
theorem dX6_place_43 : decode cX6_place 43 = .ok (.aload_n 0, 1) := dk_42 (dk_at dksX6_place_1 19 rfl rfl)
theorem dX6_place_44 : decode cX6_place 44 = .ok (.iload_n 1, 1) := dk_27 (dk_at dksX6_place_1 20 rfl rfl)
theorem dX6_place_45 : decode cX6_place 45 = .ok (.iload 5, 2) := dk_21 5 (dk_at dksX6_place_1 21 rfl rfl)
theorem dX6_place_47 : decode cX6_place 47 = .ok (.invokevirtual 244, 3) := dk_182 0 244 (dk_at dksX6_place_2 0 rfl rfl)
theorem dX6_place_50 : decode cX6_place 50 = .ok (.istore 6, 2) := dk_54 6 (dk_at dksX6_place_2 3 rfl rfl)
theorem dX6_place_52 : decode cX6_place 52 = .ok (.iload 6, 2) := dk_21 6 (dk_at dksX6_place_2 5 rfl rfl)
theorem dX6_place_54 : decode cX6_place 54 = .ok (.iload 4, 2) := dk_21 4 (dk_at dksX6_place_2 7 rfl rfl)
theorem dX6_place_56 : decode cX6_place 56 = .ok (.if_icmp .lt 6, 3) := dk_161 0 6 (dk_at dksX6_place_2 9 rfl rfl)
theorem dX6_place_59 : decode cX6_place 59 = .ok (.goto 10, 3) := dk_167 0 10 (dk_at dksX6_place_2 12 rfl rfl)
theorem dX6_place_62 : decode cX6_place 62 = .ok (.iload 5, 2) := dk_21 5 (dk_at dksX6_place_2 15 rfl rfl)
theorem dX6_place_64 : decode cX6_place 64 = .ok (.istore_n 3, 1) := dk_62 (dk_at dksX6_place_2 17 rfl rfl)
theorem dX6_place_65 : decode cX6_place 65 = .ok (.iload 6, 2) := dk_21 6 (dk_at dksX6_place_2 18 rfl rfl)
theorem dX6_place_67 : decode cX6_place 67 = .ok (.istore 4, 2) := dk_54 4 (dk_at dksX6_place_2 20 rfl rfl)
theorem dX6_place_69 : decode cX6_place 69 = .ok (.iinc 5 1, 3) := dk_132 5 1 (dk_at dksX6_place_3 0 rfl rfl)
theorem dX6_place_72 : decode cX6_place 72 = .ok (.goto (-40), 3) := dk_167 255 216 (dk_at dksX6_place_3 3 rfl rfl)
theorem dX6_place_75 : decode cX6_place 75 = .ok (.iload_n 2, 1) := dk_28 (dk_at dksX6_place_3 6 rfl rfl)
theorem dX6_place_76 : decode cX6_place 76 = .ok (.ifCond .ne 7, 3) := dk_154 0 7 (dk_at dksX6_place_3 7 rfl rfl)
theorem dX6_place_79 : decode cX6_place 79 = .ok (.iload_n 3, 1) := dk_29 (dk_at dksX6_place_3 10 rfl rfl)
theorem dX6_place_80 : decode cX6_place 80 = .ok (.goto 5, 3) := dk_167 0 5 (dk_at dksX6_place_3 11 rfl rfl)
theorem dX6_place_83 : decode cX6_place 83 = .ok (.iload 4, 2) := dk_21 4 (dk_at dksX6_place_3 14 rfl rfl)
theorem dX6_place_85 : decode cX6_place 85 = .ok (.ireturn, 1) := dk_172 (dk_at dksX6_place_3 16 rfl rfl)
theorem cf_place : xV yX6_place RX6 cX6_place 7 (some .int) 2 := ⟨q1708, q1709, q96, q1710, ⟨rfl, by decide +kernel, by decide +kernel, by decide +kernel⟩, by decide⟩
abbrev cX6_isSpoiledBehind : ByteArray := prog_23_method_55_code
def yX6_isSpoiledBehind : MethodName := ⟨RX6, "isSpoiledBehind", "(II)Z"⟩
def dkwX6_isSpoiledBehind_2 : List UInt8 := [172]
abbrev dktX6_isSpoiledBehind_2 : List UInt8 := dkwX6_isSpoiledBehind_2 ++ []
def dkwX6_isSpoiledBehind_1 : List UInt8 := [4, 167, 0, 4, 3, 54, 4, 132, 3, 1, 167, 255, 228, 42, 27, 182, 0, 190, 62, 42, 182, 0, 217, 29]
abbrev dktX6_isSpoiledBehind_1 : List UInt8 := dkwX6_isSpoiledBehind_1 ++ dktX6_isSpoiledBehind_2
def dkwX6_isSpoiledBehind_0 : List UInt8 := [42, 182, 0, 214, 3, 62, 29, 27, 162, 0, 29, 29, 28, 159, 0, 15, 42, 29, 182, 0, 208, 153, 0, 7]
abbrev dktX6_isSpoiledBehind_0 : List UInt8 := dkwX6_isSpoiledBehind_0 ++ dktX6_isSpoiledBehind_1
theorem dksX6_isSpoiledBehind_0 : cX6_isSpoiledBehind.data.toList.drop 0 = dktX6_isSpoiledBehind_0 := by decide +kernel
theorem dksX6_isSpoiledBehind_1 : cX6_isSpoiledBehind.data.toList.drop 24 = dktX6_isSpoiledBehind_1 := dk_seg dksX6_isSpoiledBehind_0 24 rfl rfl
theorem dksX6_isSpoiledBehind_2 : cX6_isSpoiledBehind.data.toList.drop 48 = dktX6_isSpoiledBehind_2 := dk_seg dksX6_isSpoiledBehind_1 24 rfl rfl
theorem dX6_isSpoiledBehind_0 : decode cX6_isSpoiledBehind 0 = .ok (.aload_n 0, 1) := dk_42 (dk_at dksX6_isSpoiledBehind_0 0 rfl rfl)
theorem dX6_isSpoiledBehind_1 : decode cX6_isSpoiledBehind 1 = .ok (.invokevirtual 214, 3) := dk_182 0 214 (dk_at dksX6_isSpoiledBehind_0 1 rfl rfl)
theorem dX6_isSpoiledBehind_4 : decode cX6_isSpoiledBehind 4 = .ok (.iconst 0, 1) := dk_3 (dk_at dksX6_isSpoiledBehind_0 4 rfl rfl)
theorem dX6_isSpoiledBehind_5 : decode cX6_isSpoiledBehind 5 = .ok (.istore_n 3, 1) := dk_62 (dk_at dksX6_isSpoiledBehind_0 5 rfl rfl)
theorem dX6_isSpoiledBehind_6 : decode cX6_isSpoiledBehind 6 = .ok (.iload_n 3, 1) := dk_29 (dk_at dksX6_isSpoiledBehind_0 6 rfl rfl)
theorem dX6_isSpoiledBehind_7 : decode cX6_isSpoiledBehind 7 = .ok (.iload_n 1, 1) := dk_27 (dk_at dksX6_isSpoiledBehind_0 7 rfl rfl)
theorem dX6_isSpoiledBehind_8 : decode cX6_isSpoiledBehind 8 = .ok (.if_icmp .ge 29, 3) := dk_162 0 29 (dk_at dksX6_isSpoiledBehind_0 8 rfl rfl)
theorem dX6_isSpoiledBehind_11 : decode cX6_isSpoiledBehind 11 = .ok (.iload_n 3, 1) := dk_29 (dk_at dksX6_isSpoiledBehind_0 11 rfl rfl)
theorem dX6_isSpoiledBehind_12 : decode cX6_isSpoiledBehind 12 = .ok (.iload_n 2, 1) := dk_28 (dk_at dksX6_isSpoiledBehind_0 12 rfl rfl)
theorem dX6_isSpoiledBehind_13 : decode cX6_isSpoiledBehind 13 = .ok (.if_icmp .eq 15, 3) := dk_159 0 15 (dk_at dksX6_isSpoiledBehind_0 13 rfl rfl)
theorem dX6_isSpoiledBehind_16 : decode cX6_isSpoiledBehind 16 = .ok (.aload_n 0, 1) := dk_42 (dk_at dksX6_isSpoiledBehind_0 16 rfl rfl)
theorem dX6_isSpoiledBehind_17 : decode cX6_isSpoiledBehind 17 = .ok (.iload_n 3, 1) := dk_29 (dk_at dksX6_isSpoiledBehind_0 17 rfl rfl)
theorem dX6_isSpoiledBehind_18 : decode cX6_isSpoiledBehind 18 = .ok (.invokevirtual 208, 3) := dk_182 0 208 (dk_at dksX6_isSpoiledBehind_0 18 rfl rfl)
theorem dX6_isSpoiledBehind_21 : decode cX6_isSpoiledBehind 21 = .ok (.ifCond .eq 7, 3) := dk_153 0 7 (dk_at dksX6_isSpoiledBehind_0 21 rfl rfl)
theorem dX6_isSpoiledBehind_24 : decode cX6_isSpoiledBehind 24 = .ok (.iconst 1, 1) := dk_4 (dk_at dksX6_isSpoiledBehind_1 0 rfl rfl)
theorem dX6_isSpoiledBehind_25 : decode cX6_isSpoiledBehind 25 = .ok (.goto 4, 3) := dk_167 0 4 (dk_at dksX6_isSpoiledBehind_1 1 rfl rfl)
theorem dX6_isSpoiledBehind_28 : decode cX6_isSpoiledBehind 28 = .ok (.iconst 0, 1) := dk_3 (dk_at dksX6_isSpoiledBehind_1 4 rfl rfl)
theorem dX6_isSpoiledBehind_29 : decode cX6_isSpoiledBehind 29 = .ok (.istore 4, 2) := dk_54 4 (dk_at dksX6_isSpoiledBehind_1 5 rfl rfl)
theorem dX6_isSpoiledBehind_31 : decode cX6_isSpoiledBehind 31 = .ok (.iinc 3 1, 3) := dk_132 3 1 (dk_at dksX6_isSpoiledBehind_1 7 rfl rfl)
theorem dX6_isSpoiledBehind_34 : decode cX6_isSpoiledBehind 34 = .ok (.goto (-28), 3) := dk_167 255 228 (dk_at dksX6_isSpoiledBehind_1 10 rfl rfl)
theorem dX6_isSpoiledBehind_37 : decode cX6_isSpoiledBehind 37 = .ok (.aload_n 0, 1) := dk_42 (dk_at dksX6_isSpoiledBehind_1 13 rfl rfl)
theorem dX6_isSpoiledBehind_38 : decode cX6_isSpoiledBehind 38 = .ok (.iload_n 1, 1) := dk_27 (dk_at dksX6_isSpoiledBehind_1 14 rfl rfl)
theorem dX6_isSpoiledBehind_39 : decode cX6_isSpoiledBehind 39 = .ok (.invokevirtual 190, 3) := dk_182 0 190 (dk_at dksX6_isSpoiledBehind_1 15 rfl rfl)
theorem dX6_isSpoiledBehind_42 : decode cX6_isSpoiledBehind 42 = .ok (.istore_n 3, 1) := dk_62 (dk_at dksX6_isSpoiledBehind_1 18 rfl rfl)
theorem dX6_isSpoiledBehind_43 : decode cX6_isSpoiledBehind 43 = .ok (.aload_n 0, 1) := dk_42 (dk_at dksX6_isSpoiledBehind_1 19 rfl rfl)
theorem dX6_isSpoiledBehind_44 : decode cX6_isSpoiledBehind 44 = .ok (.invokevirtual 217, 3) := dk_182 0 217 (dk_at dksX6_isSpoiledBehind_1 20 rfl rfl)
theorem dX6_isSpoiledBehind_47 : decode cX6_isSpoiledBehind 47 = .ok (.iload_n 3, 1) := dk_29 (dk_at dksX6_isSpoiledBehind_1 23 rfl rfl)
theorem dX6_isSpoiledBehind_48 : decode cX6_isSpoiledBehind 48 = .ok (.ireturn, 1) := dk_172 (dk_at dksX6_isSpoiledBehind_2 0 rfl rfl)
theorem cf_isSpoiledBehind : xV yX6_isSpoiledBehind RX6 cX6_isSpoiledBehind 5 (some .boolean) 2 := ⟨q1725, qs77, q96, q1726, ⟨rfl, by decide +kernel, by decide +kernel, by decide +kernel⟩, by decide⟩
abbrev cX6_guilty : ByteArray := prog_23_method_56_code
def yX6_guilty : MethodName := ⟨RX6, "guilty", "(I)I"⟩
def dkwX6_guilty_2 : List UInt8 := [61, 132, 3, 1, 167, 255, 229, 28, 172]
abbrev dktX6_guilty_2 : List UInt8 := dkwX6_guilty_2 ++ []
def dkwX6_guilty_1 : List UInt8 := [62, 29, 27, 162, 0, 28, 28, 42, 27, 29, 182, 0, 247, 153, 0, 7, 3, 167, 0, 6, 4, 29, 120, 128]
abbrev dktX6_guilty_1 : List UInt8 := dkwX6_guilty_1 ++ dktX6_guilty_2
def dkwX6_guilty_0 : List UInt8 := [42, 27, 182, 0, 199, 154, 0, 5, 2, 172, 42, 27, 2, 182, 0, 247, 154, 0, 5, 3, 172, 3, 61, 3]
abbrev dktX6_guilty_0 : List UInt8 := dkwX6_guilty_0 ++ dktX6_guilty_1
theorem dksX6_guilty_0 : cX6_guilty.data.toList.drop 0 = dktX6_guilty_0 := by decide +kernel
theorem dksX6_guilty_1 : cX6_guilty.data.toList.drop 24 = dktX6_guilty_1 := dk_seg dksX6_guilty_0 24 rfl rfl
theorem dksX6_guilty_2 : cX6_guilty.data.toList.drop 48 = dktX6_guilty_2 := dk_seg dksX6_guilty_1 24 rfl rfl
theorem dX6_guilty_0 : decode cX6_guilty 0 = .ok (.aload_n 0, 1) := dk_42 (dk_at dksX6_guilty_0 0 rfl rfl)
theorem dX6_guilty_1 : decode cX6_guilty 1 = .ok (.iload_n 1, 1) := dk_27 (dk_at dksX6_guilty_0 1 rfl rfl)
theorem dX6_guilty_2 : decode cX6_guilty 2 = .ok (.invokevirtual 199, 3) := dk_182 0 199 (dk_at dksX6_guilty_0 2 rfl rfl)
theorem dX6_guilty_5 : decode cX6_guilty 5 = .ok (.ifCond .ne 5, 3) := dk_154 0 5 (dk_at dksX6_guilty_0 5 rfl rfl)
theorem dX6_guilty_8 : decode cX6_guilty 8 = .ok (.iconst (-1), 1) := dk_2 (dk_at dksX6_guilty_0 8 rfl rfl)
theorem dX6_guilty_9 : decode cX6_guilty 9 = .ok (.ireturn, 1) := dk_172 (dk_at dksX6_guilty_0 9 rfl rfl)
theorem dX6_guilty_10 : decode cX6_guilty 10 = .ok (.aload_n 0, 1) := dk_42 (dk_at dksX6_guilty_0 10 rfl rfl)
theorem dX6_guilty_11 : decode cX6_guilty 11 = .ok (.iload_n 1, 1) := dk_27 (dk_at dksX6_guilty_0 11 rfl rfl)
theorem dX6_guilty_12 : decode cX6_guilty 12 = .ok (.iconst (-1), 1) := dk_2 (dk_at dksX6_guilty_0 12 rfl rfl)
theorem dX6_guilty_13 : decode cX6_guilty 13 = .ok (.invokevirtual 247, 3) := dk_182 0 247 (dk_at dksX6_guilty_0 13 rfl rfl)
theorem dX6_guilty_16 : decode cX6_guilty 16 = .ok (.ifCond .ne 5, 3) := dk_154 0 5 (dk_at dksX6_guilty_0 16 rfl rfl)
theorem dX6_guilty_19 : decode cX6_guilty 19 = .ok (.iconst 0, 1) := dk_3 (dk_at dksX6_guilty_0 19 rfl rfl)
theorem dX6_guilty_20 : decode cX6_guilty 20 = .ok (.ireturn, 1) := dk_172 (dk_at dksX6_guilty_0 20 rfl rfl)
theorem dX6_guilty_21 : decode cX6_guilty 21 = .ok (.iconst 0, 1) := dk_3 (dk_at dksX6_guilty_0 21 rfl rfl)
theorem dX6_guilty_22 : decode cX6_guilty 22 = .ok (.istore_n 2, 1) := dk_61 (dk_at dksX6_guilty_0 22 rfl rfl)
theorem dX6_guilty_23 : decode cX6_guilty 23 = .ok (.iconst 0, 1) := dk_3 (dk_at dksX6_guilty_0 23 rfl rfl)
theorem dX6_guilty_24 : decode cX6_guilty 24 = .ok (.istore_n 3, 1) := dk_62 (dk_at dksX6_guilty_1 0 rfl rfl)
theorem dX6_guilty_25 : decode cX6_guilty 25 = .ok (.iload_n 3, 1) := dk_29 (dk_at dksX6_guilty_1 1 rfl rfl)
theorem dX6_guilty_26 : decode cX6_guilty 26 = .ok (.iload_n 1, 1) := dk_27 (dk_at dksX6_guilty_1 2 rfl rfl)
theorem dX6_guilty_27 : decode cX6_guilty 27 = .ok (.if_icmp .ge 28, 3) := dk_162 0 28 (dk_at dksX6_guilty_1 3 rfl rfl)
theorem dX6_guilty_30 : decode cX6_guilty 30 = .ok (.iload_n 2, 1) := dk_28 (dk_at dksX6_guilty_1 6 rfl rfl)
theorem dX6_guilty_31 : decode cX6_guilty 31 = .ok (.aload_n 0, 1) := dk_42 (dk_at dksX6_guilty_1 7 rfl rfl)
theorem dX6_guilty_32 : decode cX6_guilty 32 = .ok (.iload_n 1, 1) := dk_27 (dk_at dksX6_guilty_1 8 rfl rfl)
theorem dX6_guilty_33 : decode cX6_guilty 33 = .ok (.iload_n 3, 1) := dk_29 (dk_at dksX6_guilty_1 9 rfl rfl)
theorem dX6_guilty_34 : decode cX6_guilty 34 = .ok (.invokevirtual 247, 3) := dk_182 0 247 (dk_at dksX6_guilty_1 10 rfl rfl)
theorem dX6_guilty_37 : decode cX6_guilty 37 = .ok (.ifCond .eq 7, 3) := dk_153 0 7 (dk_at dksX6_guilty_1 13 rfl rfl)
theorem dX6_guilty_40 : decode cX6_guilty 40 = .ok (.iconst 0, 1) := dk_3 (dk_at dksX6_guilty_1 16 rfl rfl)
theorem dX6_guilty_41 : decode cX6_guilty 41 = .ok (.goto 6, 3) := dk_167 0 6 (dk_at dksX6_guilty_1 17 rfl rfl)
theorem dX6_guilty_44 : decode cX6_guilty 44 = .ok (.iconst 1, 1) := dk_4 (dk_at dksX6_guilty_1 20 rfl rfl)
theorem dX6_guilty_45 : decode cX6_guilty 45 = .ok (.iload_n 3, 1) := dk_29 (dk_at dksX6_guilty_1 21 rfl rfl)
theorem dX6_guilty_46 : decode cX6_guilty 46 = .ok (.ishl, 1) := dk_120 (dk_at dksX6_guilty_1 22 rfl rfl)
theorem dX6_guilty_47 : decode cX6_guilty 47 = .ok (.ior, 1) := dk_128 (dk_at dksX6_guilty_1 23 rfl rfl)
theorem dX6_guilty_48 : decode cX6_guilty 48 = .ok (.istore_n 2, 1) := dk_61 (dk_at dksX6_guilty_2 0 rfl rfl)
theorem dX6_guilty_49 : decode cX6_guilty 49 = .ok (.iinc 3 1, 3) := dk_132 3 1 (dk_at dksX6_guilty_2 1 rfl rfl)
theorem dX6_guilty_52 : decode cX6_guilty 52 = .ok (.goto (-27), 3) := dk_167 255 229 (dk_at dksX6_guilty_2 4 rfl rfl)
theorem dX6_guilty_55 : decode cX6_guilty 55 = .ok (.iload_n 2, 1) := dk_28 (dk_at dksX6_guilty_2 7 rfl rfl)
theorem dX6_guilty_56 : decode cX6_guilty 56 = .ok (.ireturn, 1) := dk_172 (dk_at dksX6_guilty_2 8 rfl rfl)
theorem cf_guilty : xV yX6_guilty RX6 cX6_guilty 4 (some .int) 1 := ⟨q1720, q1721, q96, q1722, ⟨rfl, by decide +kernel, by decide +kernel, by decide +kernel⟩, by decide⟩
abbrev cX6_spoiledIn : ByteArray := prog_23_method_57_code
def yX6_spoiledIn : MethodName := ⟨RX6, "spoiledIn", "(I)I"⟩
def dkwX6_spoiledIn_2 : List UInt8 := [172]
abbrev dktX6_spoiledIn_2 : List UInt8 := dkwX6_spoiledIn_2 ++ []
def dkwX6_spoiledIn_1 : List UInt8 := [167, 0, 13, 42, 180, 0, 33, 28, 29, 79, 132, 2, 1, 132, 3, 1, 167, 255, 222, 42, 28, 182, 0, 220]
abbrev dktX6_spoiledIn_1 : List UInt8 := dkwX6_spoiledIn_1 ++ dktX6_spoiledIn_2
def dkwX6_spoiledIn_0 : List UInt8 := [3, 61, 3, 62, 29, 42, 180, 0, 11, 8, 46, 162, 0, 30, 27, 29, 122, 4, 126, 154, 0, 6]
abbrev dktX6_spoiledIn_0 : List UInt8 := dkwX6_spoiledIn_0 ++ dktX6_spoiledIn_1
theorem dksX6_spoiledIn_0 : cX6_spoiledIn.data.toList.drop 0 = dktX6_spoiledIn_0 := by decide +kernel
theorem dksX6_spoiledIn_1 : cX6_spoiledIn.data.toList.drop 22 = dktX6_spoiledIn_1 := dk_seg dksX6_spoiledIn_0 22 rfl rfl
theorem dksX6_spoiledIn_2 : cX6_spoiledIn.data.toList.drop 46 = dktX6_spoiledIn_2 := dk_seg dksX6_spoiledIn_1 24 rfl rfl
theorem dX6_spoiledIn_0 : decode cX6_spoiledIn 0 = .ok (.iconst 0, 1) := dk_3 (dk_at dksX6_spoiledIn_0 0 rfl rfl)
theorem dX6_spoiledIn_1 : decode cX6_spoiledIn 1 = .ok (.istore_n 2, 1) := dk_61 (dk_at dksX6_spoiledIn_0 1 rfl rfl)
theorem dX6_spoiledIn_2 : decode cX6_spoiledIn 2 = .ok (.iconst 0, 1) := dk_3 (dk_at dksX6_spoiledIn_0 2 rfl rfl)
theorem dX6_spoiledIn_3 : decode cX6_spoiledIn 3 = .ok (.istore_n 3, 1) := dk_62 (dk_at dksX6_spoiledIn_0 3 rfl rfl)
theorem dX6_spoiledIn_4 : decode cX6_spoiledIn 4 = .ok (.iload_n 3, 1) := dk_29 (dk_at dksX6_spoiledIn_0 4 rfl rfl)
theorem dX6_spoiledIn_5 : decode cX6_spoiledIn 5 = .ok (.aload_n 0, 1) := dk_42 (dk_at dksX6_spoiledIn_0 5 rfl rfl)
theorem dX6_spoiledIn_6 : decode cX6_spoiledIn 6 = .ok (.getfield 11, 3) := dk_180 0 11 (dk_at dksX6_spoiledIn_0 6 rfl rfl)
theorem dX6_spoiledIn_9 : decode cX6_spoiledIn 9 = .ok (.iconst 5, 1) := dk_8 (dk_at dksX6_spoiledIn_0 9 rfl rfl)
theorem dX6_spoiledIn_10 : decode cX6_spoiledIn 10 = .ok (.iaload, 1) := dk_46 (dk_at dksX6_spoiledIn_0 10 rfl rfl)
theorem dX6_spoiledIn_11 : decode cX6_spoiledIn 11 = .ok (.if_icmp .ge 30, 3) := dk_162 0 30 (dk_at dksX6_spoiledIn_0 11 rfl rfl)
theorem dX6_spoiledIn_14 : decode cX6_spoiledIn 14 = .ok (.iload_n 1, 1) := dk_27 (dk_at dksX6_spoiledIn_0 14 rfl rfl)
theorem dX6_spoiledIn_15 : decode cX6_spoiledIn 15 = .ok (.iload_n 3, 1) := dk_29 (dk_at dksX6_spoiledIn_0 15 rfl rfl)
theorem dX6_spoiledIn_16 : decode cX6_spoiledIn 16 = .ok (.ishr, 1) := dk_122 (dk_at dksX6_spoiledIn_0 16 rfl rfl)
theorem dX6_spoiledIn_17 : decode cX6_spoiledIn 17 = .ok (.iconst 1, 1) := dk_4 (dk_at dksX6_spoiledIn_0 17 rfl rfl)
theorem dX6_spoiledIn_18 : decode cX6_spoiledIn 18 = .ok (.iand, 1) := dk_126 (dk_at dksX6_spoiledIn_0 18 rfl rfl)
theorem dX6_spoiledIn_19 : decode cX6_spoiledIn 19 = .ok (.ifCond .ne 6, 3) := dk_154 0 6 (dk_at dksX6_spoiledIn_0 19 rfl rfl)
theorem dX6_spoiledIn_22 : decode cX6_spoiledIn 22 = .ok (.goto 13, 3) := dk_167 0 13 (dk_at dksX6_spoiledIn_1 0 rfl rfl)
theorem dX6_spoiledIn_25 : decode cX6_spoiledIn 25 = .ok (.aload_n 0, 1) := dk_42 (dk_at dksX6_spoiledIn_1 3 rfl rfl)
theorem dX6_spoiledIn_26 : decode cX6_spoiledIn 26 = .ok (.getfield 33, 3) := dk_180 0 33 (dk_at dksX6_spoiledIn_1 4 rfl rfl)
theorem dX6_spoiledIn_29 : decode cX6_spoiledIn 29 = .ok (.iload_n 2, 1) := dk_28 (dk_at dksX6_spoiledIn_1 7 rfl rfl)
theorem dX6_spoiledIn_30 : decode cX6_spoiledIn 30 = .ok (.iload_n 3, 1) := dk_29 (dk_at dksX6_spoiledIn_1 8 rfl rfl)
theorem dX6_spoiledIn_31 : decode cX6_spoiledIn 31 = .ok (.iastore, 1) := dk_79 (dk_at dksX6_spoiledIn_1 9 rfl rfl)
theorem dX6_spoiledIn_32 : decode cX6_spoiledIn 32 = .ok (.iinc 2 1, 3) := dk_132 2 1 (dk_at dksX6_spoiledIn_1 10 rfl rfl)
theorem dX6_spoiledIn_35 : decode cX6_spoiledIn 35 = .ok (.iinc 3 1, 3) := dk_132 3 1 (dk_at dksX6_spoiledIn_1 13 rfl rfl)
theorem dX6_spoiledIn_38 : decode cX6_spoiledIn 38 = .ok (.goto (-34), 3) := dk_167 255 222 (dk_at dksX6_spoiledIn_1 16 rfl rfl)
theorem dX6_spoiledIn_41 : decode cX6_spoiledIn 41 = .ok (.aload_n 0, 1) := dk_42 (dk_at dksX6_spoiledIn_1 19 rfl rfl)
theorem dX6_spoiledIn_42 : decode cX6_spoiledIn 42 = .ok (.iload_n 2, 1) := dk_28 (dk_at dksX6_spoiledIn_1 20 rfl rfl)
theorem dX6_spoiledIn_43 : decode cX6_spoiledIn 43 = .ok (.invokevirtual 220, 3) := dk_182 0 220 (dk_at dksX6_spoiledIn_1 21 rfl rfl)
theorem dX6_spoiledIn_46 : decode cX6_spoiledIn 46 = .ok (.ireturn, 1) := dk_172 (dk_at dksX6_spoiledIn_2 0 rfl rfl)
theorem cf_spoiledIn : xV yX6_spoiledIn RX6 cX6_spoiledIn 4 (some .int) 1 := ⟨q1733, qs78, q96, q1734, ⟨rfl, by decide +kernel, by decide +kernel, by decide +kernel⟩, by decide⟩
abbrev cX6_two : ByteArray := prog_23_method_58_code
def yX6_two : MethodName := ⟨RX6, "two", "(I)I"⟩
def dkwX6_two_3 : List UInt8 := [62, 21, 6, 54, 4, 132, 5, 1, 167, 255, 206, 27, 154, 0, 8, 21, 4, 167, 0, 4, 29, 172]
abbrev dktX6_two_3 : List UInt8 := dkwX6_two_3 ++ []
def dkwX6_two_2 : List UInt8 := [126, 182, 0, 251, 96, 54, 6, 21, 4, 155, 0, 13, 21, 6, 21, 4, 161, 0, 6, 167, 0, 10, 21, 5]
abbrev dktX6_two_2 : List UInt8 := dkwX6_two_2 ++ dktX6_two_3
def dkwX6_two_1 : List UInt8 := [2, 54, 4, 3, 54, 5, 21, 5, 28, 163, 0, 50, 42, 21, 5, 182, 0, 251, 42, 28, 21, 5, 2, 130]
abbrev dktX6_two_1 : List UInt8 := dkwX6_two_1 ++ dktX6_two_2
def dkwX6_two_0 : List UInt8 := [27, 3, 4, 184, 0, 52, 154, 0, 5, 2, 172, 4, 42, 180, 0, 11, 8, 46, 120, 4, 100, 61, 3, 62]
abbrev dktX6_two_0 : List UInt8 := dkwX6_two_0 ++ dktX6_two_1
theorem dksX6_two_0 : cX6_two.data.toList.drop 0 = dktX6_two_0 := by decide +kernel
theorem dksX6_two_1 : cX6_two.data.toList.drop 24 = dktX6_two_1 := dk_seg dksX6_two_0 24 rfl rfl
theorem dksX6_two_2 : cX6_two.data.toList.drop 48 = dktX6_two_2 := dk_seg dksX6_two_1 24 rfl rfl
theorem dksX6_two_3 : cX6_two.data.toList.drop 72 = dktX6_two_3 := dk_seg dksX6_two_2 24 rfl rfl
theorem dX6_two_0 : decode cX6_two 0 = .ok (.iload_n 1, 1) := dk_27 (dk_at dksX6_two_0 0 rfl rfl)
theorem dX6_two_1 : decode cX6_two 1 = .ok (.iconst 0, 1) := dk_3 (dk_at dksX6_two_0 1 rfl rfl)
theorem dX6_two_2 : decode cX6_two 2 = .ok (.iconst 1, 1) := dk_4 (dk_at dksX6_two_0 2 rfl rfl)
theorem dX6_two_3 : decode cX6_two 3 = .ok (.invokestatic 52, 3) := dk_184 0 52 (dk_at dksX6_two_0 3 rfl rfl)
theorem dX6_two_6 : decode cX6_two 6 = .ok (.ifCond .ne 5, 3) := dk_154 0 5 (dk_at dksX6_two_0 6 rfl rfl)
theorem dX6_two_9 : decode cX6_two 9 = .ok (.iconst (-1), 1) := dk_2 (dk_at dksX6_two_0 9 rfl rfl)
theorem dX6_two_10 : decode cX6_two 10 = .ok (.ireturn, 1) := dk_172 (dk_at dksX6_two_0 10 rfl rfl)
theorem dX6_two_11 : decode cX6_two 11 = .ok (.iconst 1, 1) := dk_4 (dk_at dksX6_two_0 11 rfl rfl)
theorem dX6_two_12 : decode cX6_two 12 = .ok (.aload_n 0, 1) := dk_42 (dk_at dksX6_two_0 12 rfl rfl)
theorem dX6_two_13 : decode cX6_two 13 = .ok (.getfield 11, 3) := dk_180 0 11 (dk_at dksX6_two_0 13 rfl rfl)
theorem dX6_two_16 : decode cX6_two 16 = .ok (.iconst 5, 1) := dk_8 (dk_at dksX6_two_0 16 rfl rfl)
theorem dX6_two_17 : decode cX6_two 17 = .ok (.iaload, 1) := dk_46 (dk_at dksX6_two_0 17 rfl rfl)
theorem dX6_two_18 : decode cX6_two 18 = .ok (.ishl, 1) := dk_120 (dk_at dksX6_two_0 18 rfl rfl)
theorem dX6_two_19 : decode cX6_two 19 = .ok (.iconst 1, 1) := dk_4 (dk_at dksX6_two_0 19 rfl rfl)
theorem dX6_two_20 : decode cX6_two 20 = .ok (.isub, 1) := dk_100 (dk_at dksX6_two_0 20 rfl rfl)
theorem dX6_two_21 : decode cX6_two 21 = .ok (.istore_n 2, 1) := dk_61 (dk_at dksX6_two_0 21 rfl rfl)
theorem dX6_two_22 : decode cX6_two 22 = .ok (.iconst 0, 1) := dk_3 (dk_at dksX6_two_0 22 rfl rfl)
theorem dX6_two_23 : decode cX6_two 23 = .ok (.istore_n 3, 1) := dk_62 (dk_at dksX6_two_0 23 rfl rfl)
theorem dX6_two_24 : decode cX6_two 24 = .ok (.iconst (-1), 1) := dk_2 (dk_at dksX6_two_1 0 rfl rfl)
theorem dX6_two_25 : decode cX6_two 25 = .ok (.istore 4, 2) := dk_54 4 (dk_at dksX6_two_1 1 rfl rfl)
theorem dX6_two_27 : decode cX6_two 27 = .ok (.iconst 0, 1) := dk_3 (dk_at dksX6_two_1 3 rfl rfl)
theorem dX6_two_28 : decode cX6_two 28 = .ok (.istore 5, 2) := dk_54 5 (dk_at dksX6_two_1 4 rfl rfl)
theorem dX6_two_30 : decode cX6_two 30 = .ok (.iload 5, 2) := dk_21 5 (dk_at dksX6_two_1 6 rfl rfl)
theorem dX6_two_32 : decode cX6_two 32 = .ok (.iload_n 2, 1) := dk_28 (dk_at dksX6_two_1 8 rfl rfl)
theorem dX6_two_33 : decode cX6_two 33 = .ok (.if_icmp .gt 50, 3) := dk_163 0 50 (dk_at dksX6_two_1 9 rfl rfl)
theorem dX6_two_36 : decode cX6_two 36 = .ok (.aload_n 0, 1) := dk_42 (dk_at dksX6_two_1 12 rfl rfl)
theorem dX6_two_37 : decode cX6_two 37 = .ok (.iload 5, 2) := dk_21 5 (dk_at dksX6_two_1 13 rfl rfl)
theorem dX6_two_39 : decode cX6_two 39 = .ok (.invokevirtual 251, 3) := dk_182 0 251 (dk_at dksX6_two_1 15 rfl rfl)
theorem dX6_two_42 : decode cX6_two 42 = .ok (.aload_n 0, 1) := dk_42 (dk_at dksX6_two_1 18 rfl rfl)
theorem dX6_two_43 : decode cX6_two 43 = .ok (.iload_n 2, 1) := dk_28 (dk_at dksX6_two_1 19 rfl rfl)
theorem dX6_two_44 : decode cX6_two 44 = .ok (.iload 5, 2) := dk_21 5 (dk_at dksX6_two_1 20 rfl rfl)
theorem dX6_two_46 : decode cX6_two 46 = .ok (.iconst (-1), 1) := dk_2 (dk_at dksX6_two_1 22 rfl rfl)
theorem dX6_two_47 : decode cX6_two 47 = .ok (.ixor, 1) := dk_130 (dk_at dksX6_two_1 23 rfl rfl)
theorem dX6_two_48 : decode cX6_two 48 = .ok (.iand, 1) := dk_126 (dk_at dksX6_two_2 0 rfl rfl)
theorem dX6_two_49 : decode cX6_two 49 = .ok (.invokevirtual 251, 3) := dk_182 0 251 (dk_at dksX6_two_2 1 rfl rfl)
theorem dX6_two_52 : decode cX6_two 52 = .ok (.iadd, 1) := dk_96 (dk_at dksX6_two_2 4 rfl rfl)
theorem dX6_two_53 : decode cX6_two 53 = .ok (.istore 6, 2) := dk_54 6 (dk_at dksX6_two_2 5 rfl rfl)
theorem dX6_two_55 : decode cX6_two 55 = .ok (.iload 4, 2) := dk_21 4 (dk_at dksX6_two_2 7 rfl rfl)
theorem dX6_two_57 : decode cX6_two 57 = .ok (.ifCond .lt 13, 3) := dk_155 0 13 (dk_at dksX6_two_2 9 rfl rfl)
theorem dX6_two_60 : decode cX6_two 60 = .ok (.iload 6, 2) := dk_21 6 (dk_at dksX6_two_2 12 rfl rfl)
theorem dX6_two_62 : decode cX6_two 62 = .ok (.iload 4, 2) := dk_21 4 (dk_at dksX6_two_2 14 rfl rfl)
theorem dX6_two_64 : decode cX6_two 64 = .ok (.if_icmp .lt 6, 3) := dk_161 0 6 (dk_at dksX6_two_2 16 rfl rfl)
theorem dX6_two_67 : decode cX6_two 67 = .ok (.goto 10, 3) := dk_167 0 10 (dk_at dksX6_two_2 19 rfl rfl)
theorem dX6_two_70 : decode cX6_two 70 = .ok (.iload 5, 2) := dk_21 5 (dk_at dksX6_two_2 22 rfl rfl)
theorem dX6_two_72 : decode cX6_two 72 = .ok (.istore_n 3, 1) := dk_62 (dk_at dksX6_two_3 0 rfl rfl)
theorem dX6_two_73 : decode cX6_two 73 = .ok (.iload 6, 2) := dk_21 6 (dk_at dksX6_two_3 1 rfl rfl)
theorem dX6_two_75 : decode cX6_two 75 = .ok (.istore 4, 2) := dk_54 4 (dk_at dksX6_two_3 3 rfl rfl)
theorem dX6_two_77 : decode cX6_two 77 = .ok (.iinc 5 1, 3) := dk_132 5 1 (dk_at dksX6_two_3 5 rfl rfl)
theorem dX6_two_80 : decode cX6_two 80 = .ok (.goto (-50), 3) := dk_167 255 206 (dk_at dksX6_two_3 8 rfl rfl)
theorem dX6_two_83 : decode cX6_two 83 = .ok (.iload_n 1, 1) := dk_27 (dk_at dksX6_two_3 11 rfl rfl)
theorem dX6_two_84 : decode cX6_two 84 = .ok (.ifCond .ne 8, 3) := dk_154 0 8 (dk_at dksX6_two_3 12 rfl rfl)
theorem dX6_two_87 : decode cX6_two 87 = .ok (.iload 4, 2) := dk_21 4 (dk_at dksX6_two_3 15 rfl rfl)
theorem dX6_two_89 : decode cX6_two 89 = .ok (.goto 4, 3) := dk_167 0 4 (dk_at dksX6_two_3 17 rfl rfl)
theorem dX6_two_92 : decode cX6_two 92 = .ok (.iload_n 3, 1) := dk_29 (dk_at dksX6_two_3 20 rfl rfl)
theorem dX6_two_93 : decode cX6_two 93 = .ok (.ireturn, 1) := dk_172 (dk_at dksX6_two_3 21 rfl rfl)
theorem cf_two : xV yX6_two RX6 cX6_two 7 (some .int) 1 := ⟨q1728, q1729, q96, q1730, ⟨rfl, by decide +kernel, by decide +kernel, by decide +kernel⟩, by decide⟩
abbrev cX6_takesBehind : ByteArray := prog_23_method_59_code
def yX6_takesBehind : MethodName := ⟨RX6, "takesBehind", "(II)I"⟩
def dkwX6_takesBehind_0 : List UInt8 := [42, 182, 0, 214, 42, 28, 182, 0, 208, 62, 42, 27, 182, 0, 241, 54, 4, 42, 182, 0, 217, 21, 4, 172]
abbrev dktX6_takesBehind_0 : List UInt8 := dkwX6_takesBehind_0 ++ []
theorem dksX6_takesBehind_0 : cX6_takesBehind.data.toList.drop 0 = dktX6_takesBehind_0 := by decide +kernel
theorem dX6_takesBehind_0 : decode cX6_takesBehind 0 = .ok (.aload_n 0, 1) := dk_42 (dk_at dksX6_takesBehind_0 0 rfl rfl)
theorem dX6_takesBehind_1 : decode cX6_takesBehind 1 = .ok (.invokevirtual 214, 3) := dk_182 0 214 (dk_at dksX6_takesBehind_0 1 rfl rfl)
theorem dX6_takesBehind_4 : decode cX6_takesBehind 4 = .ok (.aload_n 0, 1) := dk_42 (dk_at dksX6_takesBehind_0 4 rfl rfl)
theorem dX6_takesBehind_5 : decode cX6_takesBehind 5 = .ok (.iload_n 2, 1) := dk_28 (dk_at dksX6_takesBehind_0 5 rfl rfl)
theorem dX6_takesBehind_6 : decode cX6_takesBehind 6 = .ok (.invokevirtual 208, 3) := dk_182 0 208 (dk_at dksX6_takesBehind_0 6 rfl rfl)
theorem dX6_takesBehind_9 : decode cX6_takesBehind 9 = .ok (.istore_n 3, 1) := dk_62 (dk_at dksX6_takesBehind_0 9 rfl rfl)
theorem dX6_takesBehind_10 : decode cX6_takesBehind 10 = .ok (.aload_n 0, 1) := dk_42 (dk_at dksX6_takesBehind_0 10 rfl rfl)
theorem dX6_takesBehind_11 : decode cX6_takesBehind 11 = .ok (.iload_n 1, 1) := dk_27 (dk_at dksX6_takesBehind_0 11 rfl rfl)
theorem dX6_takesBehind_12 : decode cX6_takesBehind 12 = .ok (.invokevirtual 241, 3) := dk_182 0 241 (dk_at dksX6_takesBehind_0 12 rfl rfl)
theorem dX6_takesBehind_15 : decode cX6_takesBehind 15 = .ok (.istore 4, 2) := dk_54 4 (dk_at dksX6_takesBehind_0 15 rfl rfl)
theorem dX6_takesBehind_17 : decode cX6_takesBehind 17 = .ok (.aload_n 0, 1) := dk_42 (dk_at dksX6_takesBehind_0 17 rfl rfl)
theorem dX6_takesBehind_18 : decode cX6_takesBehind 18 = .ok (.invokevirtual 217, 3) := dk_182 0 217 (dk_at dksX6_takesBehind_0 18 rfl rfl)
theorem dX6_takesBehind_21 : decode cX6_takesBehind 21 = .ok (.iload 4, 2) := dk_21 4 (dk_at dksX6_takesBehind_0 21 rfl rfl)
theorem dX6_takesBehind_23 : decode cX6_takesBehind 23 = .ok (.ireturn, 1) := dk_172 (dk_at dksX6_takesBehind_0 23 rfl rfl)
theorem cf_takesBehind : xV yX6_takesBehind RX6 cX6_takesBehind 5 (some .int) 2 := ⟨q1742, qs79, q96, q1743, ⟨rfl, by decide +kernel, by decide +kernel, by decide +kernel⟩, by decide⟩
abbrev cX6_has : ByteArray := prog_23_method_60_code
def yX6_has : MethodName := ⟨RX6, "has", "(I)I"⟩
def dkwX6_has_4 : List UInt8 := [21, 5, 116, 167, 0, 4, 3, 96, 61, 132, 3, 1, 167, 255, 166, 28, 172]
abbrev dktX6_has_4 : List UInt8 := dkwX6_has_4 ++ []
def dkwX6_has_3 : List UInt8 := [182, 0, 205, 116, 54, 5, 28, 27, 29, 160, 0, 8, 21, 5, 167, 0, 17, 27, 29, 4, 96, 160, 0, 9]
abbrev dktX6_has_3 : List UInt8 := dkwX6_has_3 ++ dktX6_has_4
def dkwX6_has_2 : List UInt8 := [167, 0, 4, 3, 54, 4, 21, 4, 153, 0, 11, 42, 29, 182, 0, 205, 167, 0, 11, 42, 29, 4, 96]
abbrev dktX6_has_2 : List UInt8 := dkwX6_has_2 ++ dktX6_has_3
def dkwX6_has_1 : List UInt8 := [162, 0, 84, 42, 29, 4, 96, 29, 182, 0, 255, 42, 29, 4, 96, 182, 0, 241, 162, 0, 7, 4]
abbrev dktX6_has_1 : List UInt8 := dkwX6_has_1 ++ dktX6_has_2
def dkwX6_has_0 : List UInt8 := [42, 27, 182, 0, 199, 154, 0, 6, 18, 254, 172, 3, 61, 3, 62, 29, 4, 96, 42, 180, 0, 11, 8, 46]
abbrev dktX6_has_0 : List UInt8 := dkwX6_has_0 ++ dktX6_has_1
theorem dksX6_has_0 : cX6_has.data.toList.drop 0 = dktX6_has_0 := by decide +kernel
theorem dksX6_has_1 : cX6_has.data.toList.drop 24 = dktX6_has_1 := dk_seg dksX6_has_0 24 rfl rfl
theorem dksX6_has_2 : cX6_has.data.toList.drop 46 = dktX6_has_2 := dk_seg dksX6_has_1 22 rfl rfl
theorem dksX6_has_3 : cX6_has.data.toList.drop 69 = dktX6_has_3 := dk_seg dksX6_has_2 23 rfl rfl
theorem dksX6_has_4 : cX6_has.data.toList.drop 93 = dktX6_has_4 := dk_seg dksX6_has_3 24 rfl rfl
theorem dX6_has_0 : decode cX6_has 0 = .ok (.aload_n 0, 1) := dk_42 (dk_at dksX6_has_0 0 rfl rfl)
theorem dX6_has_1 : decode cX6_has 1 = .ok (.iload_n 1, 1) := dk_27 (dk_at dksX6_has_0 1 rfl rfl)
theorem dX6_has_2 : decode cX6_has 2 = .ok (.invokevirtual 199, 3) := dk_182 0 199 (dk_at dksX6_has_0 2 rfl rfl)
theorem dX6_has_5 : decode cX6_has 5 = .ok (.ifCond .ne 6, 3) := dk_154 0 6 (dk_at dksX6_has_0 5 rfl rfl)
theorem dX6_has_8 : decode cX6_has 8 = .ok (.ldc 254, 2) := dk_18 254 (dk_at dksX6_has_0 8 rfl rfl)
theorem dX6_has_10 : decode cX6_has 10 = .ok (.ireturn, 1) := dk_172 (dk_at dksX6_has_0 10 rfl rfl)
theorem dX6_has_11 : decode cX6_has 11 = .ok (.iconst 0, 1) := dk_3 (dk_at dksX6_has_0 11 rfl rfl)
theorem dX6_has_12 : decode cX6_has 12 = .ok (.istore_n 2, 1) := dk_61 (dk_at dksX6_has_0 12 rfl rfl)
theorem dX6_has_13 : decode cX6_has 13 = .ok (.iconst 0, 1) := dk_3 (dk_at dksX6_has_0 13 rfl rfl)
theorem dX6_has_14 : decode cX6_has 14 = .ok (.istore_n 3, 1) := dk_62 (dk_at dksX6_has_0 14 rfl rfl)
theorem dX6_has_15 : decode cX6_has 15 = .ok (.iload_n 3, 1) := dk_29 (dk_at dksX6_has_0 15 rfl rfl)
theorem dX6_has_16 : decode cX6_has 16 = .ok (.iconst 1, 1) := dk_4 (dk_at dksX6_has_0 16 rfl rfl)
theorem dX6_has_17 : decode cX6_has 17 = .ok (.iadd, 1) := dk_96 (dk_at dksX6_has_0 17 rfl rfl)
theorem dX6_has_18 : decode cX6_has 18 = .ok (.aload_n 0, 1) := dk_42 (dk_at dksX6_has_0 18 rfl rfl)
theorem dX6_has_19 : decode cX6_has 19 = .ok (.getfield 11, 3) := dk_180 0 11 (dk_at dksX6_has_0 19 rfl rfl)
theorem dX6_has_22 : decode cX6_has 22 = .ok (.iconst 5, 1) := dk_8 (dk_at dksX6_has_0 22 rfl rfl)
theorem dX6_has_23 : decode cX6_has 23 = .ok (.iaload, 1) := dk_46 (dk_at dksX6_has_0 23 rfl rfl)
theorem dX6_has_24 : decode cX6_has 24 = .ok (.if_icmp .ge 84, 3) := dk_162 0 84 (dk_at dksX6_has_1 0 rfl rfl)
theorem dX6_has_27 : decode cX6_has 27 = .ok (.aload_n 0, 1) := dk_42 (dk_at dksX6_has_1 3 rfl rfl)
theorem dX6_has_28 : decode cX6_has 28 = .ok (.iload_n 3, 1) := dk_29 (dk_at dksX6_has_1 4 rfl rfl)
theorem dX6_has_29 : decode cX6_has 29 = .ok (.iconst 1, 1) := dk_4 (dk_at dksX6_has_1 5 rfl rfl)
theorem dX6_has_30 : decode cX6_has 30 = .ok (.iadd, 1) := dk_96 (dk_at dksX6_has_1 6 rfl rfl)
theorem dX6_has_31 : decode cX6_has 31 = .ok (.iload_n 3, 1) := dk_29 (dk_at dksX6_has_1 7 rfl rfl)
theorem dX6_has_32 : decode cX6_has 32 = .ok (.invokevirtual 255, 3) := dk_182 0 255 (dk_at dksX6_has_1 8 rfl rfl)
theorem dX6_has_35 : decode cX6_has 35 = .ok (.aload_n 0, 1) := dk_42 (dk_at dksX6_has_1 11 rfl rfl)
theorem dX6_has_36 : decode cX6_has 36 = .ok (.iload_n 3, 1) := dk_29 (dk_at dksX6_has_1 12 rfl rfl)
theorem dX6_has_37 : decode cX6_has 37 = .ok (.iconst 1, 1) := dk_4 (dk_at dksX6_has_1 13 rfl rfl)
theorem dX6_has_38 : decode cX6_has 38 = .ok (.iadd, 1) := dk_96 (dk_at dksX6_has_1 14 rfl rfl)
theorem dX6_has_39 : decode cX6_has 39 = .ok (.invokevirtual 241, 3) := dk_182 0 241 (dk_at dksX6_has_1 15 rfl rfl)
theorem dX6_has_42 : decode cX6_has 42 = .ok (.if_icmp .ge 7, 3) := dk_162 0 7 (dk_at dksX6_has_1 18 rfl rfl)
theorem dX6_has_45 : decode cX6_has 45 = .ok (.iconst 1, 1) := dk_4 (dk_at dksX6_has_1 21 rfl rfl)
theorem dX6_has_46 : decode cX6_has 46 = .ok (.goto 4, 3) := dk_167 0 4 (dk_at dksX6_has_2 0 rfl rfl)
theorem dX6_has_49 : decode cX6_has 49 = .ok (.iconst 0, 1) := dk_3 (dk_at dksX6_has_2 3 rfl rfl)
theorem dX6_has_50 : decode cX6_has 50 = .ok (.istore 4, 2) := dk_54 4 (dk_at dksX6_has_2 4 rfl rfl)
theorem dX6_has_52 : decode cX6_has 52 = .ok (.iload 4, 2) := dk_21 4 (dk_at dksX6_has_2 6 rfl rfl)
theorem dX6_has_54 : decode cX6_has 54 = .ok (.ifCond .eq 11, 3) := dk_153 0 11 (dk_at dksX6_has_2 8 rfl rfl)
theorem dX6_has_57 : decode cX6_has 57 = .ok (.aload_n 0, 1) := dk_42 (dk_at dksX6_has_2 11 rfl rfl)
theorem dX6_has_58 : decode cX6_has 58 = .ok (.iload_n 3, 1) := dk_29 (dk_at dksX6_has_2 12 rfl rfl)
theorem dX6_has_59 : decode cX6_has 59 = .ok (.invokevirtual 205, 3) := dk_182 0 205 (dk_at dksX6_has_2 13 rfl rfl)
theorem dX6_has_62 : decode cX6_has 62 = .ok (.goto 11, 3) := dk_167 0 11 (dk_at dksX6_has_2 16 rfl rfl)
theorem dX6_has_65 : decode cX6_has 65 = .ok (.aload_n 0, 1) := dk_42 (dk_at dksX6_has_2 19 rfl rfl)
theorem dX6_has_66 : decode cX6_has 66 = .ok (.iload_n 3, 1) := dk_29 (dk_at dksX6_has_2 20 rfl rfl)
theorem dX6_has_67 : decode cX6_has 67 = .ok (.iconst 1, 1) := dk_4 (dk_at dksX6_has_2 21 rfl rfl)
theorem dX6_has_68 : decode cX6_has 68 = .ok (.iadd, 1) := dk_96 (dk_at dksX6_has_2 22 rfl rfl)
theorem dX6_has_69 : decode cX6_has 69 = .ok (.invokevirtual 205, 3) := dk_182 0 205 (dk_at dksX6_has_3 0 rfl rfl)
theorem dX6_has_72 : decode cX6_has 72 = .ok (.ineg, 1) := dk_116 (dk_at dksX6_has_3 3 rfl rfl)
theorem dX6_has_73 : decode cX6_has 73 = .ok (.istore 5, 2) := dk_54 5 (dk_at dksX6_has_3 4 rfl rfl)
theorem dX6_has_75 : decode cX6_has 75 = .ok (.iload_n 2, 1) := dk_28 (dk_at dksX6_has_3 6 rfl rfl)
theorem dX6_has_76 : decode cX6_has 76 = .ok (.iload_n 1, 1) := dk_27 (dk_at dksX6_has_3 7 rfl rfl)
theorem dX6_has_77 : decode cX6_has 77 = .ok (.iload_n 3, 1) := dk_29 (dk_at dksX6_has_3 8 rfl rfl)
theorem dX6_has_78 : decode cX6_has 78 = .ok (.if_icmp .ne 8, 3) := dk_160 0 8 (dk_at dksX6_has_3 9 rfl rfl)
theorem dX6_has_81 : decode cX6_has 81 = .ok (.iload 5, 2) := dk_21 5 (dk_at dksX6_has_3 12 rfl rfl)
theorem dX6_has_83 : decode cX6_has 83 = .ok (.goto 17, 3) := dk_167 0 17 (dk_at dksX6_has_3 14 rfl rfl)
theorem dX6_has_86 : decode cX6_has 86 = .ok (.iload_n 1, 1) := dk_27 (dk_at dksX6_has_3 17 rfl rfl)
theorem dX6_has_87 : decode cX6_has 87 = .ok (.iload_n 3, 1) := dk_29 (dk_at dksX6_has_3 18 rfl rfl)
theorem dX6_has_88 : decode cX6_has 88 = .ok (.iconst 1, 1) := dk_4 (dk_at dksX6_has_3 19 rfl rfl)
theorem dX6_has_89 : decode cX6_has 89 = .ok (.iadd, 1) := dk_96 (dk_at dksX6_has_3 20 rfl rfl)
theorem dX6_has_90 : decode cX6_has 90 = .ok (.if_icmp .ne 9, 3) := dk_160 0 9 (dk_at dksX6_has_3 21 rfl rfl)
theorem dX6_has_93 : decode cX6_has 93 = .ok (.iload 5, 2) := dk_21 5 (dk_at dksX6_has_4 0 rfl rfl)
theorem dX6_has_95 : decode cX6_has 95 = .ok (.ineg, 1) := dk_116 (dk_at dksX6_has_4 2 rfl rfl)
theorem dX6_has_96 : decode cX6_has 96 = .ok (.goto 4, 3) := dk_167 0 4 (dk_at dksX6_has_4 3 rfl rfl)
theorem dX6_has_99 : decode cX6_has 99 = .ok (.iconst 0, 1) := dk_3 (dk_at dksX6_has_4 6 rfl rfl)
theorem dX6_has_100 : decode cX6_has 100 = .ok (.iadd, 1) := dk_96 (dk_at dksX6_has_4 7 rfl rfl)
theorem dX6_has_101 : decode cX6_has 101 = .ok (.istore_n 2, 1) := dk_61 (dk_at dksX6_has_4 8 rfl rfl)
theorem dX6_has_102 : decode cX6_has 102 = .ok (.iinc 3 1, 3) := dk_132 3 1 (dk_at dksX6_has_4 9 rfl rfl)
theorem dX6_has_105 : decode cX6_has 105 = .ok (.goto (-90), 3) := dk_167 255 166 (dk_at dksX6_has_4 12 rfl rfl)
theorem dX6_has_108 : decode cX6_has 108 = .ok (.iload_n 2, 1) := dk_28 (dk_at dksX6_has_4 15 rfl rfl)
theorem dX6_has_109 : decode cX6_has 109 = .ok (.ireturn, 1) := dk_172 (dk_at dksX6_has_4 16 rfl rfl)
theorem cf_has : xV yX6_has RX6 cX6_has 6 (some .int) 1 := ⟨q1736, q1737, q96, q1738, ⟨rfl, by decide +kernel, by decide +kernel, by decide +kernel⟩, by decide⟩
abbrev cX6_takesInRow : ByteArray := prog_23_method_61_code
def yX6_takesInRow : MethodName := ⟨RX6, "takesInRow", "(II)I"⟩
def dkwX6_takesInRow_3 : List UInt8 := [62, 42, 21, 5, 182, 0, 208, 54, 6, 132, 4, 1, 167, 255, 182, 42, 182, 0, 217, 29, 172]
abbrev dktX6_takesInRow_3 : List UInt8 := dkwX6_takesInRow_3 ++ []
def dkwX6_takesInRow_2 : List UInt8 := [4, 100, 167, 0, 5, 21, 4, 54, 5, 21, 5, 27, 160, 0, 11, 42, 27, 182, 0, 241, 167, 0, 4, 29]
abbrev dktX6_takesInRow_2 : List UInt8 := dkwX6_takesInRow_2 ++ dktX6_takesInRow_3
def dkwX6_takesInRow_1 : List UInt8 := [160, 0, 10, 21, 4, 4, 96, 167, 0, 24, 21, 4, 28, 4, 96, 160, 0, 14, 28, 155, 0, 10, 21, 4]
abbrev dktX6_takesInRow_1 : List UInt8 := dkwX6_takesInRow_1 ++ dktX6_takesInRow_2
def dkwX6_takesInRow_0 : List UInt8 := [42, 182, 0, 214, 3, 62, 3, 54, 4, 21, 4, 42, 180, 0, 11, 8, 46, 162, 0, 69, 21, 4, 28]
abbrev dktX6_takesInRow_0 : List UInt8 := dkwX6_takesInRow_0 ++ dktX6_takesInRow_1
theorem dksX6_takesInRow_0 : cX6_takesInRow.data.toList.drop 0 = dktX6_takesInRow_0 := by decide +kernel
theorem dksX6_takesInRow_1 : cX6_takesInRow.data.toList.drop 23 = dktX6_takesInRow_1 := dk_seg dksX6_takesInRow_0 23 rfl rfl
theorem dksX6_takesInRow_2 : cX6_takesInRow.data.toList.drop 47 = dktX6_takesInRow_2 := dk_seg dksX6_takesInRow_1 24 rfl rfl
theorem dksX6_takesInRow_3 : cX6_takesInRow.data.toList.drop 71 = dktX6_takesInRow_3 := dk_seg dksX6_takesInRow_2 24 rfl rfl
theorem dX6_takesInRow_0 : decode cX6_takesInRow 0 = .ok (.aload_n 0, 1) := dk_42 (dk_at dksX6_takesInRow_0 0 rfl rfl)
theorem dX6_takesInRow_1 : decode cX6_takesInRow 1 = .ok (.invokevirtual 214, 3) := dk_182 0 214 (dk_at dksX6_takesInRow_0 1 rfl rfl)
theorem dX6_takesInRow_4 : decode cX6_takesInRow 4 = .ok (.iconst 0, 1) := dk_3 (dk_at dksX6_takesInRow_0 4 rfl rfl)
theorem dX6_takesInRow_5 : decode cX6_takesInRow 5 = .ok (.istore_n 3, 1) := dk_62 (dk_at dksX6_takesInRow_0 5 rfl rfl)
theorem dX6_takesInRow_6 : decode cX6_takesInRow 6 = .ok (.iconst 0, 1) := dk_3 (dk_at dksX6_takesInRow_0 6 rfl rfl)
theorem dX6_takesInRow_7 : decode cX6_takesInRow 7 = .ok (.istore 4, 2) := dk_54 4 (dk_at dksX6_takesInRow_0 7 rfl rfl)
theorem dX6_takesInRow_9 : decode cX6_takesInRow 9 = .ok (.iload 4, 2) := dk_21 4 (dk_at dksX6_takesInRow_0 9 rfl rfl)
theorem dX6_takesInRow_11 : decode cX6_takesInRow 11 = .ok (.aload_n 0, 1) := dk_42 (dk_at dksX6_takesInRow_0 11 rfl rfl)
theorem dX6_takesInRow_12 : decode cX6_takesInRow 12 = .ok (.getfield 11, 3) := dk_180 0 11 (dk_at dksX6_takesInRow_0 12 rfl rfl)
theorem dX6_takesInRow_15 : decode cX6_takesInRow 15 = .ok (.iconst 5, 1) := dk_8 (dk_at dksX6_takesInRow_0 15 rfl rfl)
theorem dX6_takesInRow_16 : decode cX6_takesInRow 16 = .ok (.iaload, 1) := dk_46 (dk_at dksX6_takesInRow_0 16 rfl rfl)
theorem dX6_takesInRow_17 : decode cX6_takesInRow 17 = .ok (.if_icmp .ge 69, 3) := dk_162 0 69 (dk_at dksX6_takesInRow_0 17 rfl rfl)
theorem dX6_takesInRow_20 : decode cX6_takesInRow 20 = .ok (.iload 4, 2) := dk_21 4 (dk_at dksX6_takesInRow_0 20 rfl rfl)
theorem dX6_takesInRow_22 : decode cX6_takesInRow 22 = .ok (.iload_n 2, 1) := dk_28 (dk_at dksX6_takesInRow_0 22 rfl rfl)
theorem dX6_takesInRow_23 : decode cX6_takesInRow 23 = .ok (.if_icmp .ne 10, 3) := dk_160 0 10 (dk_at dksX6_takesInRow_1 0 rfl rfl)
theorem dX6_takesInRow_26 : decode cX6_takesInRow 26 = .ok (.iload 4, 2) := dk_21 4 (dk_at dksX6_takesInRow_1 3 rfl rfl)
theorem dX6_takesInRow_28 : decode cX6_takesInRow 28 = .ok (.iconst 1, 1) := dk_4 (dk_at dksX6_takesInRow_1 5 rfl rfl)
theorem dX6_takesInRow_29 : decode cX6_takesInRow 29 = .ok (.iadd, 1) := dk_96 (dk_at dksX6_takesInRow_1 6 rfl rfl)
theorem dX6_takesInRow_30 : decode cX6_takesInRow 30 = .ok (.goto 24, 3) := dk_167 0 24 (dk_at dksX6_takesInRow_1 7 rfl rfl)
theorem dX6_takesInRow_33 : decode cX6_takesInRow 33 = .ok (.iload 4, 2) := dk_21 4 (dk_at dksX6_takesInRow_1 10 rfl rfl)
theorem dX6_takesInRow_35 : decode cX6_takesInRow 35 = .ok (.iload_n 2, 1) := dk_28 (dk_at dksX6_takesInRow_1 12 rfl rfl)
theorem dX6_takesInRow_36 : decode cX6_takesInRow 36 = .ok (.iconst 1, 1) := dk_4 (dk_at dksX6_takesInRow_1 13 rfl rfl)
theorem dX6_takesInRow_37 : decode cX6_takesInRow 37 = .ok (.iadd, 1) := dk_96 (dk_at dksX6_takesInRow_1 14 rfl rfl)
theorem dX6_takesInRow_38 : decode cX6_takesInRow 38 = .ok (.if_icmp .ne 14, 3) := dk_160 0 14 (dk_at dksX6_takesInRow_1 15 rfl rfl)
theorem dX6_takesInRow_41 : decode cX6_takesInRow 41 = .ok (.iload_n 2, 1) := dk_28 (dk_at dksX6_takesInRow_1 18 rfl rfl)
theorem dX6_takesInRow_42 : decode cX6_takesInRow 42 = .ok (.ifCond .lt 10, 3) := dk_155 0 10 (dk_at dksX6_takesInRow_1 19 rfl rfl)
theorem dX6_takesInRow_45 : decode cX6_takesInRow 45 = .ok (.iload 4, 2) := dk_21 4 (dk_at dksX6_takesInRow_1 22 rfl rfl)
theorem dX6_takesInRow_47 : decode cX6_takesInRow 47 = .ok (.iconst 1, 1) := dk_4 (dk_at dksX6_takesInRow_2 0 rfl rfl)
theorem dX6_takesInRow_48 : decode cX6_takesInRow 48 = .ok (.isub, 1) := dk_100 (dk_at dksX6_takesInRow_2 1 rfl rfl)
theorem dX6_takesInRow_49 : decode cX6_takesInRow 49 = .ok (.goto 5, 3) := dk_167 0 5 (dk_at dksX6_takesInRow_2 2 rfl rfl)
theorem dX6_takesInRow_52 : decode cX6_takesInRow 52 = .ok (.iload 4, 2) := dk_21 4 (dk_at dksX6_takesInRow_2 5 rfl rfl)
theorem dX6_takesInRow_54 : decode cX6_takesInRow 54 = .ok (.istore 5, 2) := dk_54 5 (dk_at dksX6_takesInRow_2 7 rfl rfl)
theorem dX6_takesInRow_56 : decode cX6_takesInRow 56 = .ok (.iload 5, 2) := dk_21 5 (dk_at dksX6_takesInRow_2 9 rfl rfl)
theorem dX6_takesInRow_58 : decode cX6_takesInRow 58 = .ok (.iload_n 1, 1) := dk_27 (dk_at dksX6_takesInRow_2 11 rfl rfl)
theorem dX6_takesInRow_59 : decode cX6_takesInRow 59 = .ok (.if_icmp .ne 11, 3) := dk_160 0 11 (dk_at dksX6_takesInRow_2 12 rfl rfl)
theorem dX6_takesInRow_62 : decode cX6_takesInRow 62 = .ok (.aload_n 0, 1) := dk_42 (dk_at dksX6_takesInRow_2 15 rfl rfl)
theorem dX6_takesInRow_63 : decode cX6_takesInRow 63 = .ok (.iload_n 1, 1) := dk_27 (dk_at dksX6_takesInRow_2 16 rfl rfl)
theorem dX6_takesInRow_64 : decode cX6_takesInRow 64 = .ok (.invokevirtual 241, 3) := dk_182 0 241 (dk_at dksX6_takesInRow_2 17 rfl rfl)
theorem dX6_takesInRow_67 : decode cX6_takesInRow 67 = .ok (.goto 4, 3) := dk_167 0 4 (dk_at dksX6_takesInRow_2 20 rfl rfl)
theorem dX6_takesInRow_70 : decode cX6_takesInRow 70 = .ok (.iload_n 3, 1) := dk_29 (dk_at dksX6_takesInRow_2 23 rfl rfl)
theorem dX6_takesInRow_71 : decode cX6_takesInRow 71 = .ok (.istore_n 3, 1) := dk_62 (dk_at dksX6_takesInRow_3 0 rfl rfl)
theorem dX6_takesInRow_72 : decode cX6_takesInRow 72 = .ok (.aload_n 0, 1) := dk_42 (dk_at dksX6_takesInRow_3 1 rfl rfl)
theorem dX6_takesInRow_73 : decode cX6_takesInRow 73 = .ok (.iload 5, 2) := dk_21 5 (dk_at dksX6_takesInRow_3 2 rfl rfl)
theorem dX6_takesInRow_75 : decode cX6_takesInRow 75 = .ok (.invokevirtual 208, 3) := dk_182 0 208 (dk_at dksX6_takesInRow_3 4 rfl rfl)
theorem dX6_takesInRow_78 : decode cX6_takesInRow 78 = .ok (.istore 6, 2) := dk_54 6 (dk_at dksX6_takesInRow_3 7 rfl rfl)
theorem dX6_takesInRow_80 : decode cX6_takesInRow 80 = .ok (.iinc 4 1, 3) := dk_132 4 1 (dk_at dksX6_takesInRow_3 9 rfl rfl)
theorem dX6_takesInRow_83 : decode cX6_takesInRow 83 = .ok (.goto (-74), 3) := dk_167 255 182 (dk_at dksX6_takesInRow_3 12 rfl rfl)
theorem dX6_takesInRow_86 : decode cX6_takesInRow 86 = .ok (.aload_n 0, 1) := dk_42 (dk_at dksX6_takesInRow_3 15 rfl rfl)
theorem dX6_takesInRow_87 : decode cX6_takesInRow 87 = .ok (.invokevirtual 217, 3) := dk_182 0 217 (dk_at dksX6_takesInRow_3 16 rfl rfl)
theorem dX6_takesInRow_90 : decode cX6_takesInRow 90 = .ok (.iload_n 3, 1) := dk_29 (dk_at dksX6_takesInRow_3 19 rfl rfl)
theorem dX6_takesInRow_91 : decode cX6_takesInRow 91 = .ok (.ireturn, 1) := dk_172 (dk_at dksX6_takesInRow_3 20 rfl rfl)
theorem cf_takesInRow : xV yX6_takesInRow RX6 cX6_takesInRow 7 (some .int) 2 := ⟨q1750, qs80, q96, q1751, ⟨rfl, by decide +kernel, by decide +kernel, by decide +kernel⟩, by decide⟩
abbrev cX6_swaps : ByteArray := prog_23_method_62_code
def yX6_swaps : MethodName := ⟨RX6, "swaps", "(I)I"⟩
def dkwX6_swaps_3 : List UInt8 := [96, 28, 29, 96, 162, 0, 7, 4, 167, 0, 4, 3, 172]
abbrev dktX6_swaps_3 : List UInt8 := dkwX6_swaps_3 ++ []
def dkwX6_swaps_2 : List UInt8 := [4, 96, 27, 182, 1, 2, 54, 5, 21, 4, 28, 163, 0, 24, 21, 5, 29, 163, 0, 18, 21, 4, 21, 5]
abbrev dktX6_swaps_2 : List UInt8 := dkwX6_swaps_2 ++ dktX6_swaps_3
def dkwX6_swaps_1 : List UInt8 := [182, 1, 2, 61, 42, 27, 4, 96, 16, 251, 182, 1, 2, 62, 42, 27, 27, 182, 1, 2, 54, 4, 42, 27]
abbrev dktX6_swaps_1 : List UInt8 := dkwX6_swaps_1 ++ dktX6_swaps_2
def dkwX6_swaps_0 : List UInt8 := [42, 27, 182, 0, 199, 153, 0, 13, 42, 27, 4, 96, 182, 0, 199, 154, 0, 5, 2, 172, 42, 27, 16, 251]
abbrev dktX6_swaps_0 : List UInt8 := dkwX6_swaps_0 ++ dktX6_swaps_1
theorem dksX6_swaps_0 : cX6_swaps.data.toList.drop 0 = dktX6_swaps_0 := by decide +kernel
theorem dksX6_swaps_1 : cX6_swaps.data.toList.drop 24 = dktX6_swaps_1 := dk_seg dksX6_swaps_0 24 rfl rfl
theorem dksX6_swaps_2 : cX6_swaps.data.toList.drop 48 = dktX6_swaps_2 := dk_seg dksX6_swaps_1 24 rfl rfl
theorem dksX6_swaps_3 : cX6_swaps.data.toList.drop 72 = dktX6_swaps_3 := dk_seg dksX6_swaps_2 24 rfl rfl
theorem dX6_swaps_0 : decode cX6_swaps 0 = .ok (.aload_n 0, 1) := dk_42 (dk_at dksX6_swaps_0 0 rfl rfl)
theorem dX6_swaps_1 : decode cX6_swaps 1 = .ok (.iload_n 1, 1) := dk_27 (dk_at dksX6_swaps_0 1 rfl rfl)
theorem dX6_swaps_2 : decode cX6_swaps 2 = .ok (.invokevirtual 199, 3) := dk_182 0 199 (dk_at dksX6_swaps_0 2 rfl rfl)
theorem dX6_swaps_5 : decode cX6_swaps 5 = .ok (.ifCond .eq 13, 3) := dk_153 0 13 (dk_at dksX6_swaps_0 5 rfl rfl)
theorem dX6_swaps_8 : decode cX6_swaps 8 = .ok (.aload_n 0, 1) := dk_42 (dk_at dksX6_swaps_0 8 rfl rfl)
theorem dX6_swaps_9 : decode cX6_swaps 9 = .ok (.iload_n 1, 1) := dk_27 (dk_at dksX6_swaps_0 9 rfl rfl)
theorem dX6_swaps_10 : decode cX6_swaps 10 = .ok (.iconst 1, 1) := dk_4 (dk_at dksX6_swaps_0 10 rfl rfl)
theorem dX6_swaps_11 : decode cX6_swaps 11 = .ok (.iadd, 1) := dk_96 (dk_at dksX6_swaps_0 11 rfl rfl)
theorem dX6_swaps_12 : decode cX6_swaps 12 = .ok (.invokevirtual 199, 3) := dk_182 0 199 (dk_at dksX6_swaps_0 12 rfl rfl)
theorem dX6_swaps_15 : decode cX6_swaps 15 = .ok (.ifCond .ne 5, 3) := dk_154 0 5 (dk_at dksX6_swaps_0 15 rfl rfl)
theorem dX6_swaps_18 : decode cX6_swaps 18 = .ok (.iconst (-1), 1) := dk_2 (dk_at dksX6_swaps_0 18 rfl rfl)
theorem dX6_swaps_19 : decode cX6_swaps 19 = .ok (.ireturn, 1) := dk_172 (dk_at dksX6_swaps_0 19 rfl rfl)
theorem dX6_swaps_20 : decode cX6_swaps 20 = .ok (.aload_n 0, 1) := dk_42 (dk_at dksX6_swaps_0 20 rfl rfl)
theorem dX6_swaps_21 : decode cX6_swaps 21 = .ok (.iload_n 1, 1) := dk_27 (dk_at dksX6_swaps_0 21 rfl rfl)
theorem dX6_swaps_22 : decode cX6_swaps 22 = .ok (.bipush (-5), 2) := dk_16 251 (dk_at dksX6_swaps_0 22 rfl rfl)
theorem dX6_swaps_24 : decode cX6_swaps 24 = .ok (.invokevirtual 258, 3) := dk_182 1 2 (dk_at dksX6_swaps_1 0 rfl rfl)
theorem dX6_swaps_27 : decode cX6_swaps 27 = .ok (.istore_n 2, 1) := dk_61 (dk_at dksX6_swaps_1 3 rfl rfl)
theorem dX6_swaps_28 : decode cX6_swaps 28 = .ok (.aload_n 0, 1) := dk_42 (dk_at dksX6_swaps_1 4 rfl rfl)
theorem dX6_swaps_29 : decode cX6_swaps 29 = .ok (.iload_n 1, 1) := dk_27 (dk_at dksX6_swaps_1 5 rfl rfl)
theorem dX6_swaps_30 : decode cX6_swaps 30 = .ok (.iconst 1, 1) := dk_4 (dk_at dksX6_swaps_1 6 rfl rfl)
theorem dX6_swaps_31 : decode cX6_swaps 31 = .ok (.iadd, 1) := dk_96 (dk_at dksX6_swaps_1 7 rfl rfl)
theorem dX6_swaps_32 : decode cX6_swaps 32 = .ok (.bipush (-5), 2) := dk_16 251 (dk_at dksX6_swaps_1 8 rfl rfl)
theorem dX6_swaps_34 : decode cX6_swaps 34 = .ok (.invokevirtual 258, 3) := dk_182 1 2 (dk_at dksX6_swaps_1 10 rfl rfl)
theorem dX6_swaps_37 : decode cX6_swaps 37 = .ok (.istore_n 3, 1) := dk_62 (dk_at dksX6_swaps_1 13 rfl rfl)
theorem dX6_swaps_38 : decode cX6_swaps 38 = .ok (.aload_n 0, 1) := dk_42 (dk_at dksX6_swaps_1 14 rfl rfl)
theorem dX6_swaps_39 : decode cX6_swaps 39 = .ok (.iload_n 1, 1) := dk_27 (dk_at dksX6_swaps_1 15 rfl rfl)
theorem dX6_swaps_40 : decode cX6_swaps 40 = .ok (.iload_n 1, 1) := dk_27 (dk_at dksX6_swaps_1 16 rfl rfl)
theorem dX6_swaps_41 : decode cX6_swaps 41 = .ok (.invokevirtual 258, 3) := dk_182 1 2 (dk_at dksX6_swaps_1 17 rfl rfl)
theorem dX6_swaps_44 : decode cX6_swaps 44 = .ok (.istore 4, 2) := dk_54 4 (dk_at dksX6_swaps_1 20 rfl rfl)
theorem dX6_swaps_46 : decode cX6_swaps 46 = .ok (.aload_n 0, 1) := dk_42 (dk_at dksX6_swaps_1 22 rfl rfl)
theorem dX6_swaps_47 : decode cX6_swaps 47 = .ok (.iload_n 1, 1) := dk_27 (dk_at dksX6_swaps_1 23 rfl rfl)
theorem dX6_swaps_48 : decode cX6_swaps 48 = .ok (.iconst 1, 1) := dk_4 (dk_at dksX6_swaps_2 0 rfl rfl)
theorem dX6_swaps_49 : decode cX6_swaps 49 = .ok (.iadd, 1) := dk_96 (dk_at dksX6_swaps_2 1 rfl rfl)
theorem dX6_swaps_50 : decode cX6_swaps 50 = .ok (.iload_n 1, 1) := dk_27 (dk_at dksX6_swaps_2 2 rfl rfl)
theorem dX6_swaps_51 : decode cX6_swaps 51 = .ok (.invokevirtual 258, 3) := dk_182 1 2 (dk_at dksX6_swaps_2 3 rfl rfl)
theorem dX6_swaps_54 : decode cX6_swaps 54 = .ok (.istore 5, 2) := dk_54 5 (dk_at dksX6_swaps_2 6 rfl rfl)
theorem dX6_swaps_56 : decode cX6_swaps 56 = .ok (.iload 4, 2) := dk_21 4 (dk_at dksX6_swaps_2 8 rfl rfl)
theorem dX6_swaps_58 : decode cX6_swaps 58 = .ok (.iload_n 2, 1) := dk_28 (dk_at dksX6_swaps_2 10 rfl rfl)
theorem dX6_swaps_59 : decode cX6_swaps 59 = .ok (.if_icmp .gt 24, 3) := dk_163 0 24 (dk_at dksX6_swaps_2 11 rfl rfl)
theorem dX6_swaps_62 : decode cX6_swaps 62 = .ok (.iload 5, 2) := dk_21 5 (dk_at dksX6_swaps_2 14 rfl rfl)
theorem dX6_swaps_64 : decode cX6_swaps 64 = .ok (.iload_n 3, 1) := dk_29 (dk_at dksX6_swaps_2 16 rfl rfl)
theorem dX6_swaps_65 : decode cX6_swaps 65 = .ok (.if_icmp .gt 18, 3) := dk_163 0 18 (dk_at dksX6_swaps_2 17 rfl rfl)
theorem dX6_swaps_68 : decode cX6_swaps 68 = .ok (.iload 4, 2) := dk_21 4 (dk_at dksX6_swaps_2 20 rfl rfl)
theorem dX6_swaps_70 : decode cX6_swaps 70 = .ok (.iload 5, 2) := dk_21 5 (dk_at dksX6_swaps_2 22 rfl rfl)
theorem dX6_swaps_72 : decode cX6_swaps 72 = .ok (.iadd, 1) := dk_96 (dk_at dksX6_swaps_3 0 rfl rfl)
theorem dX6_swaps_73 : decode cX6_swaps 73 = .ok (.iload_n 2, 1) := dk_28 (dk_at dksX6_swaps_3 1 rfl rfl)
theorem dX6_swaps_74 : decode cX6_swaps 74 = .ok (.iload_n 3, 1) := dk_29 (dk_at dksX6_swaps_3 2 rfl rfl)
theorem dX6_swaps_75 : decode cX6_swaps 75 = .ok (.iadd, 1) := dk_96 (dk_at dksX6_swaps_3 3 rfl rfl)
theorem dX6_swaps_76 : decode cX6_swaps 76 = .ok (.if_icmp .ge 7, 3) := dk_162 0 7 (dk_at dksX6_swaps_3 4 rfl rfl)
theorem dX6_swaps_79 : decode cX6_swaps 79 = .ok (.iconst 1, 1) := dk_4 (dk_at dksX6_swaps_3 7 rfl rfl)
theorem dX6_swaps_80 : decode cX6_swaps 80 = .ok (.goto 4, 3) := dk_167 0 4 (dk_at dksX6_swaps_3 8 rfl rfl)
theorem dX6_swaps_83 : decode cX6_swaps 83 = .ok (.iconst 0, 1) := dk_3 (dk_at dksX6_swaps_3 11 rfl rfl)
theorem dX6_swaps_84 : decode cX6_swaps 84 = .ok (.ireturn, 1) := dk_172 (dk_at dksX6_swaps_3 12 rfl rfl)
theorem cf_swaps : xV yX6_swaps RX6 cX6_swaps 6 (some .int) 1 := ⟨q1745, q1746, q96, q1747, ⟨rfl, by decide +kernel, by decide +kernel, by decide +kernel⟩, by decide⟩
abbrev cX6_span : ByteArray := prog_23_method_63_code
def yX6_span : MethodName := ⟨RX6, "span", "(IIII)I"⟩
def dkwX6_span_7 : List UInt8 := [42, 180, 0, 11, 28, 21, 7, 79, 21, 4, 154, 0, 8, 21, 5, 167, 0, 5, 21, 6, 172]
abbrev dktX6_span_7 : List UInt8 := dkwX6_span_7 ++ []
def dkwX6_span_6 : List UInt8 := [54, 5, 16, 10, 21, 8, 104, 21, 10, 96, 54, 6, 132, 10, 1, 167, 255, 193, 132, 8, 1, 167, 255, 157]
abbrev dktX6_span_6 : List UInt8 := dkwX6_span_6 ++ dktX6_span_7
def dkwX6_span_5 : List UInt8 := [159, 0, 6, 167, 0, 33, 21, 5, 156, 0, 14, 16, 10, 21, 8, 104, 21, 10, 96, 167, 0, 5, 21, 5]
abbrev dktX6_span_5 : List UInt8 := dkwX6_span_5 ++ dktX6_span_6
def dkwX6_span_4 : List UInt8 := [16, 10, 162, 0, 62, 42, 27, 28, 21, 9, 16, 10, 21, 8, 104, 21, 10, 96, 182, 0, 183, 29]
abbrev dktX6_span_4 : List UInt8 := dkwX6_span_4 ++ dktX6_span_5
def dkwX6_span_3 : List UInt8 := [180, 0, 11, 28, 16, 10, 21, 8, 104, 79, 42, 27, 28, 182, 0, 180, 54, 9, 3, 54, 10, 21, 10]
abbrev dktX6_span_3 : List UInt8 := dkwX6_span_3 ++ dktX6_span_4
def dkwX6_span_2 : List UInt8 := [16, 251, 54, 6, 42, 180, 0, 11, 28, 46, 54, 7, 3, 54, 8, 21, 8, 17, 3, 231, 163, 0, 97, 42]
abbrev dktX6_span_2 : List UInt8 := dkwX6_span_2 ++ dktX6_span_3
def dkwX6_span_1 : List UInt8 := [154, 0, 5, 2, 172, 29, 3, 17, 39, 15, 184, 0, 52, 154, 0, 6, 16, 254, 172, 16, 251, 54, 5]
abbrev dktX6_span_1 : List UInt8 := dkwX6_span_1 ++ dktX6_span_2
def dkwX6_span_0 : List UInt8 := [42, 27, 182, 0, 199, 153, 0, 20, 28, 184, 0, 202, 153, 0, 13, 21, 4, 3, 4, 184, 0, 52]
abbrev dktX6_span_0 : List UInt8 := dkwX6_span_0 ++ dktX6_span_1
theorem dksX6_span_0 : cX6_span.data.toList.drop 0 = dktX6_span_0 := by decide +kernel
theorem dksX6_span_1 : cX6_span.data.toList.drop 22 = dktX6_span_1 := dk_seg dksX6_span_0 22 rfl rfl
theorem dksX6_span_2 : cX6_span.data.toList.drop 45 = dktX6_span_2 := dk_seg dksX6_span_1 23 rfl rfl
theorem dksX6_span_3 : cX6_span.data.toList.drop 69 = dktX6_span_3 := dk_seg dksX6_span_2 24 rfl rfl
theorem dksX6_span_4 : cX6_span.data.toList.drop 92 = dktX6_span_4 := dk_seg dksX6_span_3 23 rfl rfl
theorem dksX6_span_5 : cX6_span.data.toList.drop 114 = dktX6_span_5 := dk_seg dksX6_span_4 22 rfl rfl
theorem dksX6_span_6 : cX6_span.data.toList.drop 138 = dktX6_span_6 := dk_seg dksX6_span_5 24 rfl rfl
theorem dksX6_span_7 : cX6_span.data.toList.drop 162 = dktX6_span_7 := dk_seg dksX6_span_6 24 rfl rfl
theorem dX6_span_0 : decode cX6_span 0 = .ok (.aload_n 0, 1) := dk_42 (dk_at dksX6_span_0 0 rfl rfl)
theorem dX6_span_1 : decode cX6_span 1 = .ok (.iload_n 1, 1) := dk_27 (dk_at dksX6_span_0 1 rfl rfl)
theorem dX6_span_2 : decode cX6_span 2 = .ok (.invokevirtual 199, 3) := dk_182 0 199 (dk_at dksX6_span_0 2 rfl rfl)
theorem dX6_span_5 : decode cX6_span 5 = .ok (.ifCond .eq 20, 3) := dk_153 0 20 (dk_at dksX6_span_0 5 rfl rfl)
theorem dX6_span_8 : decode cX6_span 8 = .ok (.iload_n 2, 1) := dk_28 (dk_at dksX6_span_0 8 rfl rfl)
theorem dX6_span_9 : decode cX6_span 9 = .ok (.invokestatic 202, 3) := dk_184 0 202 (dk_at dksX6_span_0 9 rfl rfl)
theorem dX6_span_12 : decode cX6_span 12 = .ok (.ifCond .eq 13, 3) := dk_153 0 13 (dk_at dksX6_span_0 12 rfl rfl)
theorem dX6_span_15 : decode cX6_span 15 = .ok (.iload 4, 2) := dk_21 4 (dk_at dksX6_span_0 15 rfl rfl)
theorem dX6_span_17 : decode cX6_span 17 = .ok (.iconst 0, 1) := dk_3 (dk_at dksX6_span_0 17 rfl rfl)
theorem dX6_span_18 : decode cX6_span 18 = .ok (.iconst 1, 1) := dk_4 (dk_at dksX6_span_0 18 rfl rfl)
theorem dX6_span_19 : decode cX6_span 19 = .ok (.invokestatic 52, 3) := dk_184 0 52 (dk_at dksX6_span_0 19 rfl rfl)
theorem dX6_span_22 : decode cX6_span 22 = .ok (.ifCond .ne 5, 3) := dk_154 0 5 (dk_at dksX6_span_1 0 rfl rfl)
theorem dX6_span_25 : decode cX6_span 25 = .ok (.iconst (-1), 1) := dk_2 (dk_at dksX6_span_1 3 rfl rfl)
theorem dX6_span_26 : decode cX6_span 26 = .ok (.ireturn, 1) := dk_172 (dk_at dksX6_span_1 4 rfl rfl)
theorem dX6_span_27 : decode cX6_span 27 = .ok (.iload_n 3, 1) := dk_29 (dk_at dksX6_span_1 5 rfl rfl)
theorem dX6_span_28 : decode cX6_span 28 = .ok (.iconst 0, 1) := dk_3 (dk_at dksX6_span_1 6 rfl rfl)
theorem dX6_span_29 : decode cX6_span 29 = .ok (.sipush 9999, 3) := dk_17 39 15 (dk_at dksX6_span_1 7 rfl rfl)
theorem dX6_span_32 : decode cX6_span 32 = .ok (.invokestatic 52, 3) := dk_184 0 52 (dk_at dksX6_span_1 10 rfl rfl)
theorem dX6_span_35 : decode cX6_span 35 = .ok (.ifCond .ne 6, 3) := dk_154 0 6 (dk_at dksX6_span_1 13 rfl rfl)
theorem dX6_span_38 : decode cX6_span 38 = .ok (.bipush (-2), 2) := dk_16 254 (dk_at dksX6_span_1 16 rfl rfl)
theorem dX6_span_40 : decode cX6_span 40 = .ok (.ireturn, 1) := dk_172 (dk_at dksX6_span_1 18 rfl rfl)
theorem dX6_span_41 : decode cX6_span 41 = .ok (.bipush (-5), 2) := dk_16 251 (dk_at dksX6_span_1 19 rfl rfl)
theorem dX6_span_43 : decode cX6_span 43 = .ok (.istore 5, 2) := dk_54 5 (dk_at dksX6_span_1 21 rfl rfl)
theorem dX6_span_45 : decode cX6_span 45 = .ok (.bipush (-5), 2) := dk_16 251 (dk_at dksX6_span_2 0 rfl rfl)
theorem dX6_span_47 : decode cX6_span 47 = .ok (.istore 6, 2) := dk_54 6 (dk_at dksX6_span_2 2 rfl rfl)
theorem dX6_span_49 : decode cX6_span 49 = .ok (.aload_n 0, 1) := dk_42 (dk_at dksX6_span_2 4 rfl rfl)
theorem dX6_span_50 : decode cX6_span 50 = .ok (.getfield 11, 3) := dk_180 0 11 (dk_at dksX6_span_2 5 rfl rfl)
theorem dX6_span_53 : decode cX6_span 53 = .ok (.iload_n 2, 1) := dk_28 (dk_at dksX6_span_2 8 rfl rfl)
theorem dX6_span_54 : decode cX6_span 54 = .ok (.iaload, 1) := dk_46 (dk_at dksX6_span_2 9 rfl rfl)
theorem dX6_span_55 : decode cX6_span 55 = .ok (.istore 7, 2) := dk_54 7 (dk_at dksX6_span_2 10 rfl rfl)
theorem dX6_span_57 : decode cX6_span 57 = .ok (.iconst 0, 1) := dk_3 (dk_at dksX6_span_2 12 rfl rfl)
theorem dX6_span_58 : decode cX6_span 58 = .ok (.istore 8, 2) := dk_54 8 (dk_at dksX6_span_2 13 rfl rfl)
theorem dX6_span_60 : decode cX6_span 60 = .ok (.iload 8, 2) := dk_21 8 (dk_at dksX6_span_2 15 rfl rfl)
theorem dX6_span_62 : decode cX6_span 62 = .ok (.sipush 999, 3) := dk_17 3 231 (dk_at dksX6_span_2 17 rfl rfl)
theorem dX6_span_65 : decode cX6_span 65 = .ok (.if_icmp .gt 97, 3) := dk_163 0 97 (dk_at dksX6_span_2 20 rfl rfl)
theorem dX6_span_68 : decode cX6_span 68 = .ok (.aload_n 0, 1) := dk_42 (dk_at dksX6_span_2 23 rfl rfl)
theorem dX6_span_69 : decode cX6_span 69 = .ok (.getfield 11, 3) := dk_180 0 11 (dk_at dksX6_span_3 0 rfl rfl)
theorem dX6_span_72 : decode cX6_span 72 = .ok (.iload_n 2, 1) := dk_28 (dk_at dksX6_span_3 3 rfl rfl)
theorem dX6_span_73 : decode cX6_span 73 = .ok (.bipush 10, 2) := dk_16 10 (dk_at dksX6_span_3 4 rfl rfl)
theorem dX6_span_75 : decode cX6_span 75 = .ok (.iload 8, 2) := dk_21 8 (dk_at dksX6_span_3 6 rfl rfl)
theorem dX6_span_77 : decode cX6_span 77 = .ok (.imul, 1) := dk_104 (dk_at dksX6_span_3 8 rfl rfl)
theorem dX6_span_78 : decode cX6_span 78 = .ok (.iastore, 1) := dk_79 (dk_at dksX6_span_3 9 rfl rfl)
theorem dX6_span_79 : decode cX6_span 79 = .ok (.aload_n 0, 1) := dk_42 (dk_at dksX6_span_3 10 rfl rfl)
theorem dX6_span_80 : decode cX6_span 80 = .ok (.iload_n 1, 1) := dk_27 (dk_at dksX6_span_3 11 rfl rfl)
theorem dX6_span_81 : decode cX6_span 81 = .ok (.iload_n 2, 1) := dk_28 (dk_at dksX6_span_3 12 rfl rfl)
theorem dX6_span_82 : decode cX6_span 82 = .ok (.invokevirtual 180, 3) := dk_182 0 180 (dk_at dksX6_span_3 13 rfl rfl)
theorem dX6_span_85 : decode cX6_span 85 = .ok (.istore 9, 2) := dk_54 9 (dk_at dksX6_span_3 16 rfl rfl)
theorem dX6_span_87 : decode cX6_span 87 = .ok (.iconst 0, 1) := dk_3 (dk_at dksX6_span_3 18 rfl rfl)
theorem dX6_span_88 : decode cX6_span 88 = .ok (.istore 10, 2) := dk_54 10 (dk_at dksX6_span_3 19 rfl rfl)
theorem dX6_span_90 : decode cX6_span 90 = .ok (.iload 10, 2) := dk_21 10 (dk_at dksX6_span_3 21 rfl rfl)
theorem dX6_span_92 : decode cX6_span 92 = .ok (.bipush 10, 2) := dk_16 10 (dk_at dksX6_span_4 0 rfl rfl)
theorem dX6_span_94 : decode cX6_span 94 = .ok (.if_icmp .ge 62, 3) := dk_162 0 62 (dk_at dksX6_span_4 2 rfl rfl)
theorem dX6_span_97 : decode cX6_span 97 = .ok (.aload_n 0, 1) := dk_42 (dk_at dksX6_span_4 5 rfl rfl)
theorem dX6_span_98 : decode cX6_span 98 = .ok (.iload_n 1, 1) := dk_27 (dk_at dksX6_span_4 6 rfl rfl)
theorem dX6_span_99 : decode cX6_span 99 = .ok (.iload_n 2, 1) := dk_28 (dk_at dksX6_span_4 7 rfl rfl)
theorem dX6_span_100 : decode cX6_span 100 = .ok (.iload 9, 2) := dk_21 9 (dk_at dksX6_span_4 8 rfl rfl)
theorem dX6_span_102 : decode cX6_span 102 = .ok (.bipush 10, 2) := dk_16 10 (dk_at dksX6_span_4 10 rfl rfl)
theorem dX6_span_104 : decode cX6_span 104 = .ok (.iload 8, 2) := dk_21 8 (dk_at dksX6_span_4 12 rfl rfl)
theorem dX6_span_106 : decode cX6_span 106 = .ok (.imul, 1) := dk_104 (dk_at dksX6_span_4 14 rfl rfl)
theorem dX6_span_107 : decode cX6_span 107 = .ok (.iload 10, 2) := dk_21 10 (dk_at dksX6_span_4 15 rfl rfl)
theorem dX6_span_109 : decode cX6_span 109 = .ok (.iadd, 1) := dk_96 (dk_at dksX6_span_4 17 rfl rfl)
theorem dX6_span_110 : decode cX6_span 110 = .ok (.invokevirtual 183, 3) := dk_182 0 183 (dk_at dksX6_span_4 18 rfl rfl)
theorem dX6_span_113 : decode cX6_span 113 = .ok (.iload_n 3, 1) := dk_29 (dk_at dksX6_span_4 21 rfl rfl)
theorem dX6_span_114 : decode cX6_span 114 = .ok (.if_icmp .eq 6, 3) := dk_159 0 6 (dk_at dksX6_span_5 0 rfl rfl)
theorem dX6_span_117 : decode cX6_span 117 = .ok (.goto 33, 3) := dk_167 0 33 (dk_at dksX6_span_5 3 rfl rfl)
theorem dX6_span_120 : decode cX6_span 120 = .ok (.iload 5, 2) := dk_21 5 (dk_at dksX6_span_5 6 rfl rfl)
theorem dX6_span_122 : decode cX6_span 122 = .ok (.ifCond .ge 14, 3) := dk_156 0 14 (dk_at dksX6_span_5 8 rfl rfl)
theorem dX6_span_125 : decode cX6_span 125 = .ok (.bipush 10, 2) := dk_16 10 (dk_at dksX6_span_5 11 rfl rfl)
theorem dX6_span_127 : decode cX6_span 127 = .ok (.iload 8, 2) := dk_21 8 (dk_at dksX6_span_5 13 rfl rfl)
theorem dX6_span_129 : decode cX6_span 129 = .ok (.imul, 1) := dk_104 (dk_at dksX6_span_5 15 rfl rfl)
theorem dX6_span_130 : decode cX6_span 130 = .ok (.iload 10, 2) := dk_21 10 (dk_at dksX6_span_5 16 rfl rfl)
theorem dX6_span_132 : decode cX6_span 132 = .ok (.iadd, 1) := dk_96 (dk_at dksX6_span_5 18 rfl rfl)
theorem dX6_span_133 : decode cX6_span 133 = .ok (.goto 5, 3) := dk_167 0 5 (dk_at dksX6_span_5 19 rfl rfl)
theorem dX6_span_136 : decode cX6_span 136 = .ok (.iload 5, 2) := dk_21 5 (dk_at dksX6_span_5 22 rfl rfl)
theorem dX6_span_138 : decode cX6_span 138 = .ok (.istore 5, 2) := dk_54 5 (dk_at dksX6_span_6 0 rfl rfl)
theorem dX6_span_140 : decode cX6_span 140 = .ok (.bipush 10, 2) := dk_16 10 (dk_at dksX6_span_6 2 rfl rfl)
theorem dX6_span_142 : decode cX6_span 142 = .ok (.iload 8, 2) := dk_21 8 (dk_at dksX6_span_6 4 rfl rfl)
theorem dX6_span_144 : decode cX6_span 144 = .ok (.imul, 1) := dk_104 (dk_at dksX6_span_6 6 rfl rfl)
theorem dX6_span_145 : decode cX6_span 145 = .ok (.iload 10, 2) := dk_21 10 (dk_at dksX6_span_6 7 rfl rfl)
theorem dX6_span_147 : decode cX6_span 147 = .ok (.iadd, 1) := dk_96 (dk_at dksX6_span_6 9 rfl rfl)
theorem dX6_span_148 : decode cX6_span 148 = .ok (.istore 6, 2) := dk_54 6 (dk_at dksX6_span_6 10 rfl rfl)
theorem dX6_span_150 : decode cX6_span 150 = .ok (.iinc 10 1, 3) := dk_132 10 1 (dk_at dksX6_span_6 12 rfl rfl)
theorem dX6_span_153 : decode cX6_span 153 = .ok (.goto (-63), 3) := dk_167 255 193 (dk_at dksX6_span_6 15 rfl rfl)
theorem dX6_span_156 : decode cX6_span 156 = .ok (.iinc 8 1, 3) := dk_132 8 1 (dk_at dksX6_span_6 18 rfl rfl)
theorem dX6_span_159 : decode cX6_span 159 = .ok (.goto (-99), 3) := dk_167 255 157 (dk_at dksX6_span_6 21 rfl rfl)
theorem dX6_span_162 : decode cX6_span 162 = .ok (.aload_n 0, 1) := dk_42 (dk_at dksX6_span_7 0 rfl rfl)
theorem dX6_span_163 : decode cX6_span 163 = .ok (.getfield 11, 3) := dk_180 0 11 (dk_at dksX6_span_7 1 rfl rfl)
theorem dX6_span_166 : decode cX6_span 166 = .ok (.iload_n 2, 1) := dk_28 (dk_at dksX6_span_7 4 rfl rfl)
theorem dX6_span_167 : decode cX6_span 167 = .ok (.iload 7, 2) := dk_21 7 (dk_at dksX6_span_7 5 rfl rfl)
theorem dX6_span_169 : decode cX6_span 169 = .ok (.iastore, 1) := dk_79 (dk_at dksX6_span_7 7 rfl rfl)
theorem dX6_span_170 : decode cX6_span 170 = .ok (.iload 4, 2) := dk_21 4 (dk_at dksX6_span_7 8 rfl rfl)
theorem dX6_span_172 : decode cX6_span 172 = .ok (.ifCond .ne 8, 3) := dk_154 0 8 (dk_at dksX6_span_7 10 rfl rfl)
theorem dX6_span_175 : decode cX6_span 175 = .ok (.iload 5, 2) := dk_21 5 (dk_at dksX6_span_7 13 rfl rfl)
theorem dX6_span_177 : decode cX6_span 177 = .ok (.goto 5, 3) := dk_167 0 5 (dk_at dksX6_span_7 15 rfl rfl)
theorem dX6_span_180 : decode cX6_span 180 = .ok (.iload 6, 2) := dk_21 6 (dk_at dksX6_span_7 18 rfl rfl)
theorem dX6_span_182 : decode cX6_span 182 = .ok (.ireturn, 1) := dk_172 (dk_at dksX6_span_7 20 rfl rfl)
theorem cf_span : xV yX6_span RX6 cX6_span 11 (some .int) 4 := ⟨q1753, q1754, q96, q1755, ⟨rfl, by decide +kernel, by decide +kernel, by decide +kernel⟩, by decide⟩
abbrev cX6_year : ByteArray := prog_23_method_64_code
def yX6_year : MethodName := ⟨RX6, "year", "(III)I"⟩
def dkwX6_year_6 : List UInt8 := [182, 0, 217, 21, 6, 172]
abbrev dktX6_year_6 : List UInt8 := dkwX6_year_6 ++ []
def dkwX6_year_5 : List UInt8 := [167, 255, 200, 29, 7, 160, 0, 8, 21, 5, 167, 0, 9, 42, 180, 0, 11, 29, 46, 54, 6, 42]
abbrev dktX6_year_5 : List UInt8 := dkwX6_year_5 ++ dktX6_year_6
def dkwX6_year_4 : List UInt8 := [46, 112, 182, 0, 208, 153, 0, 7, 4, 167, 0, 4, 3, 96, 54, 5, 132, 4, 1, 132, 6, 1]
abbrev dktX6_year_4 : List UInt8 := dkwX6_year_4 ++ dktX6_year_5
def dkwX6_year_3 : List UInt8 := [7, 46, 28, 112, 154, 0, 10, 42, 182, 0, 211, 167, 0, 32, 21, 5, 42, 21, 4, 42, 180, 0, 11, 8]
abbrev dktX6_year_3 : List UInt8 := dkwX6_year_3 ++ dktX6_year_4
def dkwX6_year_2 : List UInt8 := [172, 42, 182, 0, 214, 3, 54, 4, 3, 54, 5, 3, 54, 6, 21, 6, 27, 162, 0, 56, 42, 180, 0, 11]
abbrev dktX6_year_2 : List UInt8 := dkwX6_year_2 ++ dktX6_year_3
def dkwX6_year_1 : List UInt8 := [16, 30, 184, 0, 52, 154, 0, 7, 19, 1, 5, 172, 42, 180, 0, 11, 8, 46, 154, 0, 7, 19, 1, 6]
abbrev dktX6_year_1 : List UInt8 := dkwX6_year_1 ++ dktX6_year_2
def dkwX6_year_0 : List UInt8 := [29, 3, 7, 184, 0, 52, 154, 0, 6, 18, 254, 172, 27, 3, 16, 60, 184, 0, 52, 153, 0, 13, 28, 5]
abbrev dktX6_year_0 : List UInt8 := dkwX6_year_0 ++ dktX6_year_1
theorem dksX6_year_0 : cX6_year.data.toList.drop 0 = dktX6_year_0 := by decide +kernel
theorem dksX6_year_1 : cX6_year.data.toList.drop 24 = dktX6_year_1 := dk_seg dksX6_year_0 24 rfl rfl
theorem dksX6_year_2 : cX6_year.data.toList.drop 48 = dktX6_year_2 := dk_seg dksX6_year_1 24 rfl rfl
theorem dksX6_year_3 : cX6_year.data.toList.drop 72 = dktX6_year_3 := dk_seg dksX6_year_2 24 rfl rfl
theorem dksX6_year_4 : cX6_year.data.toList.drop 96 = dktX6_year_4 := dk_seg dksX6_year_3 24 rfl rfl
theorem dksX6_year_5 : cX6_year.data.toList.drop 118 = dktX6_year_5 := dk_seg dksX6_year_4 22 rfl rfl
theorem dksX6_year_6 : cX6_year.data.toList.drop 140 = dktX6_year_6 := dk_seg dksX6_year_5 22 rfl rfl
theorem dX6_year_0 : decode cX6_year 0 = .ok (.iload_n 3, 1) := dk_29 (dk_at dksX6_year_0 0 rfl rfl)
theorem dX6_year_1 : decode cX6_year 1 = .ok (.iconst 0, 1) := dk_3 (dk_at dksX6_year_0 1 rfl rfl)
theorem dX6_year_2 : decode cX6_year 2 = .ok (.iconst 4, 1) := dk_7 (dk_at dksX6_year_0 2 rfl rfl)
theorem dX6_year_3 : decode cX6_year 3 = .ok (.invokestatic 52, 3) := dk_184 0 52 (dk_at dksX6_year_0 3 rfl rfl)
theorem dX6_year_6 : decode cX6_year 6 = .ok (.ifCond .ne 6, 3) := dk_154 0 6 (dk_at dksX6_year_0 6 rfl rfl)
theorem dX6_year_9 : decode cX6_year 9 = .ok (.ldc 254, 2) := dk_18 254 (dk_at dksX6_year_0 9 rfl rfl)
theorem dX6_year_11 : decode cX6_year 11 = .ok (.ireturn, 1) := dk_172 (dk_at dksX6_year_0 11 rfl rfl)
theorem dX6_year_12 : decode cX6_year 12 = .ok (.iload_n 1, 1) := dk_27 (dk_at dksX6_year_0 12 rfl rfl)
theorem dX6_year_13 : decode cX6_year 13 = .ok (.iconst 0, 1) := dk_3 (dk_at dksX6_year_0 13 rfl rfl)
theorem dX6_year_14 : decode cX6_year 14 = .ok (.bipush 60, 2) := dk_16 60 (dk_at dksX6_year_0 14 rfl rfl)
theorem dX6_year_16 : decode cX6_year 16 = .ok (.invokestatic 52, 3) := dk_184 0 52 (dk_at dksX6_year_0 16 rfl rfl)
theorem dX6_year_19 : decode cX6_year 19 = .ok (.ifCond .eq 13, 3) := dk_153 0 13 (dk_at dksX6_year_0 19 rfl rfl)
theorem dX6_year_22 : decode cX6_year 22 = .ok (.iload_n 2, 1) := dk_28 (dk_at dksX6_year_0 22 rfl rfl)
theorem dX6_year_23 : decode cX6_year 23 = .ok (.iconst 2, 1) := dk_5 (dk_at dksX6_year_0 23 rfl rfl)
theorem dX6_year_24 : decode cX6_year 24 = .ok (.bipush 30, 2) := dk_16 30 (dk_at dksX6_year_1 0 rfl rfl)
theorem dX6_year_26 : decode cX6_year 26 = .ok (.invokestatic 52, 3) := dk_184 0 52 (dk_at dksX6_year_1 2 rfl rfl)
theorem dX6_year_29 : decode cX6_year 29 = .ok (.ifCond .ne 7, 3) := dk_154 0 7 (dk_at dksX6_year_1 5 rfl rfl)
theorem dX6_year_32 : decode cX6_year 32 = .ok (.ldc_w 261, 3) := dk_19 1 5 (dk_at dksX6_year_1 8 rfl rfl)
theorem dX6_year_35 : decode cX6_year 35 = .ok (.ireturn, 1) := dk_172 (dk_at dksX6_year_1 11 rfl rfl)
theorem dX6_year_36 : decode cX6_year 36 = .ok (.aload_n 0, 1) := dk_42 (dk_at dksX6_year_1 12 rfl rfl)
theorem dX6_year_37 : decode cX6_year 37 = .ok (.getfield 11, 3) := dk_180 0 11 (dk_at dksX6_year_1 13 rfl rfl)
theorem dX6_year_40 : decode cX6_year 40 = .ok (.iconst 5, 1) := dk_8 (dk_at dksX6_year_1 16 rfl rfl)
theorem dX6_year_41 : decode cX6_year 41 = .ok (.iaload, 1) := dk_46 (dk_at dksX6_year_1 17 rfl rfl)
theorem dX6_year_42 : decode cX6_year 42 = .ok (.ifCond .ne 7, 3) := dk_154 0 7 (dk_at dksX6_year_1 18 rfl rfl)
theorem dX6_year_45 : decode cX6_year 45 = .ok (.ldc_w 262, 3) := dk_19 1 6 (dk_at dksX6_year_1 21 rfl rfl)
theorem dX6_year_48 : decode cX6_year 48 = .ok (.ireturn, 1) := dk_172 (dk_at dksX6_year_2 0 rfl rfl)
theorem dX6_year_49 : decode cX6_year 49 = .ok (.aload_n 0, 1) := dk_42 (dk_at dksX6_year_2 1 rfl rfl)
theorem dX6_year_50 : decode cX6_year 50 = .ok (.invokevirtual 214, 3) := dk_182 0 214 (dk_at dksX6_year_2 2 rfl rfl)
theorem dX6_year_53 : decode cX6_year 53 = .ok (.iconst 0, 1) := dk_3 (dk_at dksX6_year_2 5 rfl rfl)
theorem dX6_year_54 : decode cX6_year 54 = .ok (.istore 4, 2) := dk_54 4 (dk_at dksX6_year_2 6 rfl rfl)
theorem dX6_year_56 : decode cX6_year 56 = .ok (.iconst 0, 1) := dk_3 (dk_at dksX6_year_2 8 rfl rfl)
theorem dX6_year_57 : decode cX6_year 57 = .ok (.istore 5, 2) := dk_54 5 (dk_at dksX6_year_2 9 rfl rfl)
theorem dX6_year_59 : decode cX6_year 59 = .ok (.iconst 0, 1) := dk_3 (dk_at dksX6_year_2 11 rfl rfl)
theorem dX6_year_60 : decode cX6_year 60 = .ok (.istore 6, 2) := dk_54 6 (dk_at dksX6_year_2 12 rfl rfl)
theorem dX6_year_62 : decode cX6_year 62 = .ok (.iload 6, 2) := dk_21 6 (dk_at dksX6_year_2 14 rfl rfl)
theorem dX6_year_64 : decode cX6_year 64 = .ok (.iload_n 1, 1) := dk_27 (dk_at dksX6_year_2 16 rfl rfl)
theorem dX6_year_65 : decode cX6_year 65 = .ok (.if_icmp .ge 56, 3) := dk_162 0 56 (dk_at dksX6_year_2 17 rfl rfl)
theorem dX6_year_68 : decode cX6_year 68 = .ok (.aload_n 0, 1) := dk_42 (dk_at dksX6_year_2 20 rfl rfl)
theorem dX6_year_69 : decode cX6_year 69 = .ok (.getfield 11, 3) := dk_180 0 11 (dk_at dksX6_year_2 21 rfl rfl)
theorem dX6_year_72 : decode cX6_year 72 = .ok (.iconst 4, 1) := dk_7 (dk_at dksX6_year_3 0 rfl rfl)
theorem dX6_year_73 : decode cX6_year 73 = .ok (.iaload, 1) := dk_46 (dk_at dksX6_year_3 1 rfl rfl)
theorem dX6_year_74 : decode cX6_year 74 = .ok (.iload_n 2, 1) := dk_28 (dk_at dksX6_year_3 2 rfl rfl)
theorem dX6_year_75 : decode cX6_year 75 = .ok (.irem, 1) := dk_112 (dk_at dksX6_year_3 3 rfl rfl)
theorem dX6_year_76 : decode cX6_year 76 = .ok (.ifCond .ne 10, 3) := dk_154 0 10 (dk_at dksX6_year_3 4 rfl rfl)
theorem dX6_year_79 : decode cX6_year 79 = .ok (.aload_n 0, 1) := dk_42 (dk_at dksX6_year_3 7 rfl rfl)
theorem dX6_year_80 : decode cX6_year 80 = .ok (.invokevirtual 211, 3) := dk_182 0 211 (dk_at dksX6_year_3 8 rfl rfl)
theorem dX6_year_83 : decode cX6_year 83 = .ok (.goto 32, 3) := dk_167 0 32 (dk_at dksX6_year_3 11 rfl rfl)
theorem dX6_year_86 : decode cX6_year 86 = .ok (.iload 5, 2) := dk_21 5 (dk_at dksX6_year_3 14 rfl rfl)
theorem dX6_year_88 : decode cX6_year 88 = .ok (.aload_n 0, 1) := dk_42 (dk_at dksX6_year_3 16 rfl rfl)
theorem dX6_year_89 : decode cX6_year 89 = .ok (.iload 4, 2) := dk_21 4 (dk_at dksX6_year_3 17 rfl rfl)
theorem dX6_year_91 : decode cX6_year 91 = .ok (.aload_n 0, 1) := dk_42 (dk_at dksX6_year_3 19 rfl rfl)
theorem dX6_year_92 : decode cX6_year 92 = .ok (.getfield 11, 3) := dk_180 0 11 (dk_at dksX6_year_3 20 rfl rfl)
theorem dX6_year_95 : decode cX6_year 95 = .ok (.iconst 5, 1) := dk_8 (dk_at dksX6_year_3 23 rfl rfl)
theorem dX6_year_96 : decode cX6_year 96 = .ok (.iaload, 1) := dk_46 (dk_at dksX6_year_4 0 rfl rfl)
theorem dX6_year_97 : decode cX6_year 97 = .ok (.irem, 1) := dk_112 (dk_at dksX6_year_4 1 rfl rfl)
theorem dX6_year_98 : decode cX6_year 98 = .ok (.invokevirtual 208, 3) := dk_182 0 208 (dk_at dksX6_year_4 2 rfl rfl)
theorem dX6_year_101 : decode cX6_year 101 = .ok (.ifCond .eq 7, 3) := dk_153 0 7 (dk_at dksX6_year_4 5 rfl rfl)
theorem dX6_year_104 : decode cX6_year 104 = .ok (.iconst 1, 1) := dk_4 (dk_at dksX6_year_4 8 rfl rfl)
theorem dX6_year_105 : decode cX6_year 105 = .ok (.goto 4, 3) := dk_167 0 4 (dk_at dksX6_year_4 9 rfl rfl)
theorem dX6_year_108 : decode cX6_year 108 = .ok (.iconst 0, 1) := dk_3 (dk_at dksX6_year_4 12 rfl rfl)
theorem dX6_year_109 : decode cX6_year 109 = .ok (.iadd, 1) := dk_96 (dk_at dksX6_year_4 13 rfl rfl)
theorem dX6_year_110 : decode cX6_year 110 = .ok (.istore 5, 2) := dk_54 5 (dk_at dksX6_year_4 14 rfl rfl)
theorem dX6_year_112 : decode cX6_year 112 = .ok (.iinc 4 1, 3) := dk_132 4 1 (dk_at dksX6_year_4 16 rfl rfl)
theorem dX6_year_115 : decode cX6_year 115 = .ok (.iinc 6 1, 3) := dk_132 6 1 (dk_at dksX6_year_4 19 rfl rfl)
theorem dX6_year_118 : decode cX6_year 118 = .ok (.goto (-56), 3) := dk_167 255 200 (dk_at dksX6_year_5 0 rfl rfl)
theorem dX6_year_121 : decode cX6_year 121 = .ok (.iload_n 3, 1) := dk_29 (dk_at dksX6_year_5 3 rfl rfl)
theorem dX6_year_122 : decode cX6_year 122 = .ok (.iconst 4, 1) := dk_7 (dk_at dksX6_year_5 4 rfl rfl)
theorem dX6_year_123 : decode cX6_year 123 = .ok (.if_icmp .ne 8, 3) := dk_160 0 8 (dk_at dksX6_year_5 5 rfl rfl)
theorem dX6_year_126 : decode cX6_year 126 = .ok (.iload 5, 2) := dk_21 5 (dk_at dksX6_year_5 8 rfl rfl)
theorem dX6_year_128 : decode cX6_year 128 = .ok (.goto 9, 3) := dk_167 0 9 (dk_at dksX6_year_5 10 rfl rfl)
theorem dX6_year_131 : decode cX6_year 131 = .ok (.aload_n 0, 1) := dk_42 (dk_at dksX6_year_5 13 rfl rfl)
theorem dX6_year_132 : decode cX6_year 132 = .ok (.getfield 11, 3) := dk_180 0 11 (dk_at dksX6_year_5 14 rfl rfl)
theorem dX6_year_135 : decode cX6_year 135 = .ok (.iload_n 3, 1) := dk_29 (dk_at dksX6_year_5 17 rfl rfl)
theorem dX6_year_136 : decode cX6_year 136 = .ok (.iaload, 1) := dk_46 (dk_at dksX6_year_5 18 rfl rfl)
theorem dX6_year_137 : decode cX6_year 137 = .ok (.istore 6, 2) := dk_54 6 (dk_at dksX6_year_5 19 rfl rfl)
theorem dX6_year_139 : decode cX6_year 139 = .ok (.aload_n 0, 1) := dk_42 (dk_at dksX6_year_5 21 rfl rfl)
theorem dX6_year_140 : decode cX6_year 140 = .ok (.invokevirtual 217, 3) := dk_182 0 217 (dk_at dksX6_year_6 0 rfl rfl)
theorem dX6_year_143 : decode cX6_year 143 = .ok (.iload 6, 2) := dk_21 6 (dk_at dksX6_year_6 3 rfl rfl)
theorem dX6_year_145 : decode cX6_year 145 = .ok (.ireturn, 1) := dk_172 (dk_at dksX6_year_6 5 rfl rfl)
theorem cf_year : xV yX6_year RX6 cX6_year 7 (some .int) 3 := ⟨q1757, q1758, q96, q1759, ⟨rfl, by decide +kernel, by decide +kernel, by decide +kernel⟩, by decide⟩
abbrev cX6_common : ByteArray := prog_23_method_65_code
def yX6_common : MethodName := ⟨RX6, "common", "(II)I"⟩
def dkwX6_common_0 : List UInt8 := [27, 154, 0, 7, 26, 167, 0, 10, 27, 26, 27, 112, 184, 1, 7, 172]
abbrev dktX6_common_0 : List UInt8 := dkwX6_common_0 ++ []
theorem dksX6_common_0 : cX6_common.data.toList.drop 0 = dktX6_common_0 := by decide +kernel
theorem dX6_common_0 : decode cX6_common 0 = .ok (.iload_n 1, 1) := dk_27 (dk_at dksX6_common_0 0 rfl rfl)
theorem dX6_common_1 : decode cX6_common 1 = .ok (.ifCond .ne 7, 3) := dk_154 0 7 (dk_at dksX6_common_0 1 rfl rfl)
theorem dX6_common_4 : decode cX6_common 4 = .ok (.iload_n 0, 1) := dk_26 (dk_at dksX6_common_0 4 rfl rfl)
theorem dX6_common_5 : decode cX6_common 5 = .ok (.goto 10, 3) := dk_167 0 10 (dk_at dksX6_common_0 5 rfl rfl)
theorem dX6_common_8 : decode cX6_common 8 = .ok (.iload_n 1, 1) := dk_27 (dk_at dksX6_common_0 8 rfl rfl)
theorem dX6_common_9 : decode cX6_common 9 = .ok (.iload_n 0, 1) := dk_26 (dk_at dksX6_common_0 9 rfl rfl)
theorem dX6_common_10 : decode cX6_common 10 = .ok (.iload_n 1, 1) := dk_27 (dk_at dksX6_common_0 10 rfl rfl)
theorem dX6_common_11 : decode cX6_common 11 = .ok (.irem, 1) := dk_112 (dk_at dksX6_common_0 11 rfl rfl)
theorem dX6_common_12 : decode cX6_common 12 = .ok (.invokestatic 263, 3) := dk_184 1 7 (dk_at dksX6_common_0 12 rfl rfl)
theorem dX6_common_15 : decode cX6_common 15 = .ok (.ireturn, 1) := dk_172 (dk_at dksX6_common_0 15 rfl rfl)
theorem cf_common : xS yX6_common cX6_common 2 (some .int) 2 := ⟨q1771, q96, q1772, ⟨by decide +kernel, by decide +kernel, by decide +kernel⟩, by decide⟩
abbrev cX6_lowest : ByteArray := prog_23_method_66_code
def yX6_lowest : MethodName := ⟨RX6, "lowest", "(III)J"⟩
def dkwX6_lowest_0 : List UInt8 := [27, 26, 184, 1, 7, 62, 28, 154, 0, 10, 26, 29, 108, 133, 167, 0, 7, 27, 29, 108, 133, 173]
abbrev dktX6_lowest_0 : List UInt8 := dkwX6_lowest_0 ++ []
theorem dksX6_lowest_0 : cX6_lowest.data.toList.drop 0 = dktX6_lowest_0 := by decide +kernel
theorem dX6_lowest_0 : decode cX6_lowest 0 = .ok (.iload_n 1, 1) := dk_27 (dk_at dksX6_lowest_0 0 rfl rfl)
theorem dX6_lowest_1 : decode cX6_lowest 1 = .ok (.iload_n 0, 1) := dk_26 (dk_at dksX6_lowest_0 1 rfl rfl)
theorem dX6_lowest_2 : decode cX6_lowest 2 = .ok (.invokestatic 263, 3) := dk_184 1 7 (dk_at dksX6_lowest_0 2 rfl rfl)
theorem dX6_lowest_5 : decode cX6_lowest 5 = .ok (.istore_n 3, 1) := dk_62 (dk_at dksX6_lowest_0 5 rfl rfl)
theorem dX6_lowest_6 : decode cX6_lowest 6 = .ok (.iload_n 2, 1) := dk_28 (dk_at dksX6_lowest_0 6 rfl rfl)
theorem dX6_lowest_7 : decode cX6_lowest 7 = .ok (.ifCond .ne 10, 3) := dk_154 0 10 (dk_at dksX6_lowest_0 7 rfl rfl)
theorem dX6_lowest_10 : decode cX6_lowest 10 = .ok (.iload_n 0, 1) := dk_26 (dk_at dksX6_lowest_0 10 rfl rfl)
theorem dX6_lowest_11 : decode cX6_lowest 11 = .ok (.iload_n 3, 1) := dk_29 (dk_at dksX6_lowest_0 11 rfl rfl)
theorem dX6_lowest_12 : decode cX6_lowest 12 = .ok (.idiv, 1) := dk_108 (dk_at dksX6_lowest_0 12 rfl rfl)
theorem dX6_lowest_13 : decode cX6_lowest 13 = .ok (.i2l, 1) := dk_133 (dk_at dksX6_lowest_0 13 rfl rfl)
theorem dX6_lowest_14 : decode cX6_lowest 14 = .ok (.goto 7, 3) := dk_167 0 7 (dk_at dksX6_lowest_0 14 rfl rfl)
theorem dX6_lowest_17 : decode cX6_lowest 17 = .ok (.iload_n 1, 1) := dk_27 (dk_at dksX6_lowest_0 17 rfl rfl)
theorem dX6_lowest_18 : decode cX6_lowest 18 = .ok (.iload_n 3, 1) := dk_29 (dk_at dksX6_lowest_0 18 rfl rfl)
theorem dX6_lowest_19 : decode cX6_lowest 19 = .ok (.idiv, 1) := dk_108 (dk_at dksX6_lowest_0 19 rfl rfl)
theorem dX6_lowest_20 : decode cX6_lowest 20 = .ok (.i2l, 1) := dk_133 (dk_at dksX6_lowest_0 20 rfl rfl)
theorem dX6_lowest_21 : decode cX6_lowest 21 = .ok (.lreturn, 1) := dk_173 (dk_at dksX6_lowest_0 21 rfl rfl)
theorem cf_lowest : xS yX6_lowest cX6_lowest 4 (some .long) 3 := ⟨q1768, q96, q1769, ⟨by decide +kernel, by decide +kernel, by decide +kernel⟩, by decide⟩
abbrev cX6_odds : ByteArray := prog_23_method_67_code
def yX6_odds : MethodName := ⟨RX6, "odds", "(II)J"⟩
def dkwX6_odds_4 : List UInt8 := [42, 180, 0, 11, 8, 46, 4, 100, 28, 184, 1, 12, 173]
abbrev dktX6_odds_4 : List UInt8 := dkwX6_odds_4 ++ []
def dkwX6_odds_3 : List UInt8 := [182, 0, 190, 153, 0, 7, 4, 167, 0, 4, 3, 96, 62, 42, 182, 0, 217, 132, 4, 1, 167, 255, 201, 29]
abbrev dktX6_odds_3 : List UInt8 := dkwX6_odds_3 ++ dktX6_odds_4
def dkwX6_odds_2 : List UInt8 := [21, 4, 27, 160, 0, 6, 167, 0, 35, 42, 182, 0, 214, 42, 21, 4, 182, 0, 208, 54, 5, 29, 42, 27]
abbrev dktX6_odds_2 : List UInt8 := dkwX6_odds_2 ++ dktX6_odds_3
def dkwX6_odds_1 : List UInt8 := [160, 0, 7, 20, 1, 10, 173, 3, 62, 3, 54, 4, 21, 4, 42, 180, 0, 11, 8, 46, 162, 0, 50]
abbrev dktX6_odds_1 : List UInt8 := dkwX6_odds_1 ++ dktX6_odds_2
def dkwX6_odds_0 : List UInt8 := [42, 27, 182, 0, 199, 153, 0, 22, 28, 3, 4, 184, 0, 52, 153, 0, 13, 42, 180, 0, 11, 8, 46, 4]
abbrev dktX6_odds_0 : List UInt8 := dkwX6_odds_0 ++ dktX6_odds_1
theorem dksX6_odds_0 : cX6_odds.data.toList.drop 0 = dktX6_odds_0 := by decide +kernel
theorem dksX6_odds_1 : cX6_odds.data.toList.drop 24 = dktX6_odds_1 := dk_seg dksX6_odds_0 24 rfl rfl
theorem dksX6_odds_2 : cX6_odds.data.toList.drop 47 = dktX6_odds_2 := dk_seg dksX6_odds_1 23 rfl rfl
theorem dksX6_odds_3 : cX6_odds.data.toList.drop 71 = dktX6_odds_3 := dk_seg dksX6_odds_2 24 rfl rfl
theorem dksX6_odds_4 : cX6_odds.data.toList.drop 95 = dktX6_odds_4 := dk_seg dksX6_odds_3 24 rfl rfl
theorem dX6_odds_0 : decode cX6_odds 0 = .ok (.aload_n 0, 1) := dk_42 (dk_at dksX6_odds_0 0 rfl rfl)
theorem dX6_odds_1 : decode cX6_odds 1 = .ok (.iload_n 1, 1) := dk_27 (dk_at dksX6_odds_0 1 rfl rfl)
theorem dX6_odds_2 : decode cX6_odds 2 = .ok (.invokevirtual 199, 3) := dk_182 0 199 (dk_at dksX6_odds_0 2 rfl rfl)
theorem dX6_odds_5 : decode cX6_odds 5 = .ok (.ifCond .eq 22, 3) := dk_153 0 22 (dk_at dksX6_odds_0 5 rfl rfl)
theorem dX6_odds_8 : decode cX6_odds 8 = .ok (.iload_n 2, 1) := dk_28 (dk_at dksX6_odds_0 8 rfl rfl)
theorem dX6_odds_9 : decode cX6_odds 9 = .ok (.iconst 0, 1) := dk_3 (dk_at dksX6_odds_0 9 rfl rfl)
theorem dX6_odds_10 : decode cX6_odds 10 = .ok (.iconst 1, 1) := dk_4 (dk_at dksX6_odds_0 10 rfl rfl)
theorem dX6_odds_11 : decode cX6_odds 11 = .ok (.invokestatic 52, 3) := dk_184 0 52 (dk_at dksX6_odds_0 11 rfl rfl)
theorem dX6_odds_14 : decode cX6_odds 14 = .ok (.ifCond .eq 13, 3) := dk_153 0 13 (dk_at dksX6_odds_0 14 rfl rfl)
theorem dX6_odds_17 : decode cX6_odds 17 = .ok (.aload_n 0, 1) := dk_42 (dk_at dksX6_odds_0 17 rfl rfl)
theorem dX6_odds_18 : decode cX6_odds 18 = .ok (.getfield 11, 3) := dk_180 0 11 (dk_at dksX6_odds_0 18 rfl rfl)
theorem dX6_odds_21 : decode cX6_odds 21 = .ok (.iconst 5, 1) := dk_8 (dk_at dksX6_odds_0 21 rfl rfl)
theorem dX6_odds_22 : decode cX6_odds 22 = .ok (.iaload, 1) := dk_46 (dk_at dksX6_odds_0 22 rfl rfl)
theorem dX6_odds_23 : decode cX6_odds 23 = .ok (.iconst 1, 1) := dk_4 (dk_at dksX6_odds_0 23 rfl rfl)
theorem dX6_odds_24 : decode cX6_odds 24 = .ok (.if_icmp .ne 7, 3) := dk_160 0 7 (dk_at dksX6_odds_1 0 rfl rfl)
theorem dX6_odds_27 : decode cX6_odds 27 = .ok (.ldc2_w 266, 3) := dk_20 1 10 (dk_at dksX6_odds_1 3 rfl rfl)
theorem dX6_odds_30 : decode cX6_odds 30 = .ok (.lreturn, 1) := dk_173 (dk_at dksX6_odds_1 6 rfl rfl)
theorem dX6_odds_31 : decode cX6_odds 31 = .ok (.iconst 0, 1) := dk_3 (dk_at dksX6_odds_1 7 rfl rfl)
theorem dX6_odds_32 : decode cX6_odds 32 = .ok (.istore_n 3, 1) := dk_62 (dk_at dksX6_odds_1 8 rfl rfl)
theorem dX6_odds_33 : decode cX6_odds 33 = .ok (.iconst 0, 1) := dk_3 (dk_at dksX6_odds_1 9 rfl rfl)
theorem dX6_odds_34 : decode cX6_odds 34 = .ok (.istore 4, 2) := dk_54 4 (dk_at dksX6_odds_1 10 rfl rfl)
theorem dX6_odds_36 : decode cX6_odds 36 = .ok (.iload 4, 2) := dk_21 4 (dk_at dksX6_odds_1 12 rfl rfl)
theorem dX6_odds_38 : decode cX6_odds 38 = .ok (.aload_n 0, 1) := dk_42 (dk_at dksX6_odds_1 14 rfl rfl)
theorem dX6_odds_39 : decode cX6_odds 39 = .ok (.getfield 11, 3) := dk_180 0 11 (dk_at dksX6_odds_1 15 rfl rfl)
theorem dX6_odds_42 : decode cX6_odds 42 = .ok (.iconst 5, 1) := dk_8 (dk_at dksX6_odds_1 18 rfl rfl)
theorem dX6_odds_43 : decode cX6_odds 43 = .ok (.iaload, 1) := dk_46 (dk_at dksX6_odds_1 19 rfl rfl)
theorem dX6_odds_44 : decode cX6_odds 44 = .ok (.if_icmp .ge 50, 3) := dk_162 0 50 (dk_at dksX6_odds_1 20 rfl rfl)
theorem dX6_odds_47 : decode cX6_odds 47 = .ok (.iload 4, 2) := dk_21 4 (dk_at dksX6_odds_2 0 rfl rfl)
theorem dX6_odds_49 : decode cX6_odds 49 = .ok (.iload_n 1, 1) := dk_27 (dk_at dksX6_odds_2 2 rfl rfl)
theorem dX6_odds_50 : decode cX6_odds 50 = .ok (.if_icmp .ne 6, 3) := dk_160 0 6 (dk_at dksX6_odds_2 3 rfl rfl)
theorem dX6_odds_53 : decode cX6_odds 53 = .ok (.goto 35, 3) := dk_167 0 35 (dk_at dksX6_odds_2 6 rfl rfl)
theorem dX6_odds_56 : decode cX6_odds 56 = .ok (.aload_n 0, 1) := dk_42 (dk_at dksX6_odds_2 9 rfl rfl)
theorem dX6_odds_57 : decode cX6_odds 57 = .ok (.invokevirtual 214, 3) := dk_182 0 214 (dk_at dksX6_odds_2 10 rfl rfl)
theorem dX6_odds_60 : decode cX6_odds 60 = .ok (.aload_n 0, 1) := dk_42 (dk_at dksX6_odds_2 13 rfl rfl)
theorem dX6_odds_61 : decode cX6_odds 61 = .ok (.iload 4, 2) := dk_21 4 (dk_at dksX6_odds_2 14 rfl rfl)
theorem dX6_odds_63 : decode cX6_odds 63 = .ok (.invokevirtual 208, 3) := dk_182 0 208 (dk_at dksX6_odds_2 16 rfl rfl)
theorem dX6_odds_66 : decode cX6_odds 66 = .ok (.istore 5, 2) := dk_54 5 (dk_at dksX6_odds_2 19 rfl rfl)
theorem dX6_odds_68 : decode cX6_odds 68 = .ok (.iload_n 3, 1) := dk_29 (dk_at dksX6_odds_2 21 rfl rfl)
theorem dX6_odds_69 : decode cX6_odds 69 = .ok (.aload_n 0, 1) := dk_42 (dk_at dksX6_odds_2 22 rfl rfl)
theorem dX6_odds_70 : decode cX6_odds 70 = .ok (.iload_n 1, 1) := dk_27 (dk_at dksX6_odds_2 23 rfl rfl)
theorem dX6_odds_71 : decode cX6_odds 71 = .ok (.invokevirtual 190, 3) := dk_182 0 190 (dk_at dksX6_odds_3 0 rfl rfl)
theorem dX6_odds_74 : decode cX6_odds 74 = .ok (.ifCond .eq 7, 3) := dk_153 0 7 (dk_at dksX6_odds_3 3 rfl rfl)
theorem dX6_odds_77 : decode cX6_odds 77 = .ok (.iconst 1, 1) := dk_4 (dk_at dksX6_odds_3 6 rfl rfl)
theorem dX6_odds_78 : decode cX6_odds 78 = .ok (.goto 4, 3) := dk_167 0 4 (dk_at dksX6_odds_3 7 rfl rfl)
theorem dX6_odds_81 : decode cX6_odds 81 = .ok (.iconst 0, 1) := dk_3 (dk_at dksX6_odds_3 10 rfl rfl)
theorem dX6_odds_82 : decode cX6_odds 82 = .ok (.iadd, 1) := dk_96 (dk_at dksX6_odds_3 11 rfl rfl)
theorem dX6_odds_83 : decode cX6_odds 83 = .ok (.istore_n 3, 1) := dk_62 (dk_at dksX6_odds_3 12 rfl rfl)
theorem dX6_odds_84 : decode cX6_odds 84 = .ok (.aload_n 0, 1) := dk_42 (dk_at dksX6_odds_3 13 rfl rfl)
theorem dX6_odds_85 : decode cX6_odds 85 = .ok (.invokevirtual 217, 3) := dk_182 0 217 (dk_at dksX6_odds_3 14 rfl rfl)
theorem dX6_odds_88 : decode cX6_odds 88 = .ok (.iinc 4 1, 3) := dk_132 4 1 (dk_at dksX6_odds_3 17 rfl rfl)
theorem dX6_odds_91 : decode cX6_odds 91 = .ok (.goto (-55), 3) := dk_167 255 201 (dk_at dksX6_odds_3 20 rfl rfl)
theorem dX6_odds_94 : decode cX6_odds 94 = .ok (.iload_n 3, 1) := dk_29 (dk_at dksX6_odds_3 23 rfl rfl)
theorem dX6_odds_95 : decode cX6_odds 95 = .ok (.aload_n 0, 1) := dk_42 (dk_at dksX6_odds_4 0 rfl rfl)
theorem dX6_odds_96 : decode cX6_odds 96 = .ok (.getfield 11, 3) := dk_180 0 11 (dk_at dksX6_odds_4 1 rfl rfl)
theorem dX6_odds_99 : decode cX6_odds 99 = .ok (.iconst 5, 1) := dk_8 (dk_at dksX6_odds_4 4 rfl rfl)
theorem dX6_odds_100 : decode cX6_odds 100 = .ok (.iaload, 1) := dk_46 (dk_at dksX6_odds_4 5 rfl rfl)
theorem dX6_odds_101 : decode cX6_odds 101 = .ok (.iconst 1, 1) := dk_4 (dk_at dksX6_odds_4 6 rfl rfl)
theorem dX6_odds_102 : decode cX6_odds 102 = .ok (.isub, 1) := dk_100 (dk_at dksX6_odds_4 7 rfl rfl)
theorem dX6_odds_103 : decode cX6_odds 103 = .ok (.iload_n 2, 1) := dk_28 (dk_at dksX6_odds_4 8 rfl rfl)
theorem dX6_odds_104 : decode cX6_odds 104 = .ok (.invokestatic 268, 3) := dk_184 1 12 (dk_at dksX6_odds_4 9 rfl rfl)
theorem dX6_odds_107 : decode cX6_odds 107 = .ok (.lreturn, 1) := dk_173 (dk_at dksX6_odds_4 12 rfl rfl)
theorem cf_odds : xV yX6_odds RX6 cX6_odds 6 (some .long) 2 := ⟨q1763, q1764, q96, q1765, ⟨rfl, by decide +kernel, by decide +kernel, by decide +kernel⟩, by decide⟩
abbrev cX6_mean : ByteArray := prog_23_method_68_code
def yX6_mean : MethodName := ⟨RX6, "mean", "(II)J"⟩
def dkwX6_mean_3 : List UInt8 := [184, 1, 12, 173]
abbrev dktX6_mean_3 : List UInt8 := dkwX6_mean_3 ++ []
def dkwX6_mean_2 : List UInt8 := [42, 21, 4, 27, 182, 0, 187, 96, 62, 132, 4, 1, 167, 255, 232, 29, 42, 180, 0, 11, 8, 46, 28]
abbrev dktX6_mean_2 : List UInt8 := dkwX6_mean_2 ++ dktX6_mean_3
def dkwX6_mean_1 : List UInt8 := [154, 0, 7, 20, 1, 10, 173, 3, 62, 3, 54, 4, 21, 4, 42, 180, 0, 11, 8, 46, 162, 0, 19, 29]
abbrev dktX6_mean_1 : List UInt8 := dkwX6_mean_1 ++ dktX6_mean_2
def dkwX6_mean_0 : List UInt8 := [27, 184, 0, 202, 153, 0, 21, 28, 3, 4, 184, 0, 52, 153, 0, 12, 42, 180, 0, 11, 8, 46]
abbrev dktX6_mean_0 : List UInt8 := dkwX6_mean_0 ++ dktX6_mean_1
theorem dksX6_mean_0 : cX6_mean.data.toList.drop 0 = dktX6_mean_0 := by decide +kernel
theorem dksX6_mean_1 : cX6_mean.data.toList.drop 22 = dktX6_mean_1 := dk_seg dksX6_mean_0 22 rfl rfl
theorem dksX6_mean_2 : cX6_mean.data.toList.drop 46 = dktX6_mean_2 := dk_seg dksX6_mean_1 24 rfl rfl
theorem dksX6_mean_3 : cX6_mean.data.toList.drop 69 = dktX6_mean_3 := dk_seg dksX6_mean_2 23 rfl rfl
theorem dX6_mean_0 : decode cX6_mean 0 = .ok (.iload_n 1, 1) := dk_27 (dk_at dksX6_mean_0 0 rfl rfl)
theorem dX6_mean_1 : decode cX6_mean 1 = .ok (.invokestatic 202, 3) := dk_184 0 202 (dk_at dksX6_mean_0 1 rfl rfl)
theorem dX6_mean_4 : decode cX6_mean 4 = .ok (.ifCond .eq 21, 3) := dk_153 0 21 (dk_at dksX6_mean_0 4 rfl rfl)
theorem dX6_mean_7 : decode cX6_mean 7 = .ok (.iload_n 2, 1) := dk_28 (dk_at dksX6_mean_0 7 rfl rfl)
theorem dX6_mean_8 : decode cX6_mean 8 = .ok (.iconst 0, 1) := dk_3 (dk_at dksX6_mean_0 8 rfl rfl)
theorem dX6_mean_9 : decode cX6_mean 9 = .ok (.iconst 1, 1) := dk_4 (dk_at dksX6_mean_0 9 rfl rfl)
theorem dX6_mean_10 : decode cX6_mean 10 = .ok (.invokestatic 52, 3) := dk_184 0 52 (dk_at dksX6_mean_0 10 rfl rfl)
theorem dX6_mean_13 : decode cX6_mean 13 = .ok (.ifCond .eq 12, 3) := dk_153 0 12 (dk_at dksX6_mean_0 13 rfl rfl)
theorem dX6_mean_16 : decode cX6_mean 16 = .ok (.aload_n 0, 1) := dk_42 (dk_at dksX6_mean_0 16 rfl rfl)
theorem dX6_mean_17 : decode cX6_mean 17 = .ok (.getfield 11, 3) := dk_180 0 11 (dk_at dksX6_mean_0 17 rfl rfl)
theorem dX6_mean_20 : decode cX6_mean 20 = .ok (.iconst 5, 1) := dk_8 (dk_at dksX6_mean_0 20 rfl rfl)
theorem dX6_mean_21 : decode cX6_mean 21 = .ok (.iaload, 1) := dk_46 (dk_at dksX6_mean_0 21 rfl rfl)
theorem dX6_mean_22 : decode cX6_mean 22 = .ok (.ifCond .ne 7, 3) := dk_154 0 7 (dk_at dksX6_mean_1 0 rfl rfl)
theorem dX6_mean_25 : decode cX6_mean 25 = .ok (.ldc2_w 266, 3) := dk_20 1 10 (dk_at dksX6_mean_1 3 rfl rfl)
theorem dX6_mean_28 : decode cX6_mean 28 = .ok (.lreturn, 1) := dk_173 (dk_at dksX6_mean_1 6 rfl rfl)
theorem dX6_mean_29 : decode cX6_mean 29 = .ok (.iconst 0, 1) := dk_3 (dk_at dksX6_mean_1 7 rfl rfl)
theorem dX6_mean_30 : decode cX6_mean 30 = .ok (.istore_n 3, 1) := dk_62 (dk_at dksX6_mean_1 8 rfl rfl)
theorem dX6_mean_31 : decode cX6_mean 31 = .ok (.iconst 0, 1) := dk_3 (dk_at dksX6_mean_1 9 rfl rfl)
theorem dX6_mean_32 : decode cX6_mean 32 = .ok (.istore 4, 2) := dk_54 4 (dk_at dksX6_mean_1 10 rfl rfl)
theorem dX6_mean_34 : decode cX6_mean 34 = .ok (.iload 4, 2) := dk_21 4 (dk_at dksX6_mean_1 12 rfl rfl)
theorem dX6_mean_36 : decode cX6_mean 36 = .ok (.aload_n 0, 1) := dk_42 (dk_at dksX6_mean_1 14 rfl rfl)
theorem dX6_mean_37 : decode cX6_mean 37 = .ok (.getfield 11, 3) := dk_180 0 11 (dk_at dksX6_mean_1 15 rfl rfl)
theorem dX6_mean_40 : decode cX6_mean 40 = .ok (.iconst 5, 1) := dk_8 (dk_at dksX6_mean_1 18 rfl rfl)
theorem dX6_mean_41 : decode cX6_mean 41 = .ok (.iaload, 1) := dk_46 (dk_at dksX6_mean_1 19 rfl rfl)
theorem dX6_mean_42 : decode cX6_mean 42 = .ok (.if_icmp .ge 19, 3) := dk_162 0 19 (dk_at dksX6_mean_1 20 rfl rfl)
theorem dX6_mean_45 : decode cX6_mean 45 = .ok (.iload_n 3, 1) := dk_29 (dk_at dksX6_mean_1 23 rfl rfl)
theorem dX6_mean_46 : decode cX6_mean 46 = .ok (.aload_n 0, 1) := dk_42 (dk_at dksX6_mean_2 0 rfl rfl)
theorem dX6_mean_47 : decode cX6_mean 47 = .ok (.iload 4, 2) := dk_21 4 (dk_at dksX6_mean_2 1 rfl rfl)
theorem dX6_mean_49 : decode cX6_mean 49 = .ok (.iload_n 1, 1) := dk_27 (dk_at dksX6_mean_2 3 rfl rfl)
theorem dX6_mean_50 : decode cX6_mean 50 = .ok (.invokevirtual 187, 3) := dk_182 0 187 (dk_at dksX6_mean_2 4 rfl rfl)
theorem dX6_mean_53 : decode cX6_mean 53 = .ok (.iadd, 1) := dk_96 (dk_at dksX6_mean_2 7 rfl rfl)
theorem dX6_mean_54 : decode cX6_mean 54 = .ok (.istore_n 3, 1) := dk_62 (dk_at dksX6_mean_2 8 rfl rfl)
theorem dX6_mean_55 : decode cX6_mean 55 = .ok (.iinc 4 1, 3) := dk_132 4 1 (dk_at dksX6_mean_2 9 rfl rfl)
theorem dX6_mean_58 : decode cX6_mean 58 = .ok (.goto (-24), 3) := dk_167 255 232 (dk_at dksX6_mean_2 12 rfl rfl)
theorem dX6_mean_61 : decode cX6_mean 61 = .ok (.iload_n 3, 1) := dk_29 (dk_at dksX6_mean_2 15 rfl rfl)
theorem dX6_mean_62 : decode cX6_mean 62 = .ok (.aload_n 0, 1) := dk_42 (dk_at dksX6_mean_2 16 rfl rfl)
theorem dX6_mean_63 : decode cX6_mean 63 = .ok (.getfield 11, 3) := dk_180 0 11 (dk_at dksX6_mean_2 17 rfl rfl)
theorem dX6_mean_66 : decode cX6_mean 66 = .ok (.iconst 5, 1) := dk_8 (dk_at dksX6_mean_2 20 rfl rfl)
theorem dX6_mean_67 : decode cX6_mean 67 = .ok (.iaload, 1) := dk_46 (dk_at dksX6_mean_2 21 rfl rfl)
theorem dX6_mean_68 : decode cX6_mean 68 = .ok (.iload_n 2, 1) := dk_28 (dk_at dksX6_mean_2 22 rfl rfl)
theorem dX6_mean_69 : decode cX6_mean 69 = .ok (.invokestatic 268, 3) := dk_184 1 12 (dk_at dksX6_mean_3 0 rfl rfl)
theorem dX6_mean_72 : decode cX6_mean 72 = .ok (.lreturn, 1) := dk_173 (dk_at dksX6_mean_3 3 rfl rfl)
theorem cf_mean : xV yX6_mean RX6 cX6_mean 5 (some .long) 2 := ⟨q1774, q1775, q96, q1776, ⟨rfl, by decide +kernel, by decide +kernel, by decide +kernel⟩, by decide⟩
abbrev cX6_book : ByteArray := prog_23_method_69_code
def yX6_book : MethodName := ⟨RX6, "book", "(IZ)I"⟩
def dkwX6_book_4 : List UInt8 := [180, 0, 11, 16, 7, 92, 46, 4, 96, 79, 42, 180, 0, 11, 16, 7, 46, 172]
abbrev dktX6_book_4 : List UInt8 := dkwX6_book_4 ++ []
def dkwX6_book_3 : List UInt8 := [42, 180, 0, 11, 16, 7, 46, 104, 96, 4, 96, 28, 153, 0, 7, 4, 167, 0, 4, 3, 79, 42]
abbrev dktX6_book_3 : List UInt8 := dkwX6_book_3 ++ dktX6_book_4
def dkwX6_book_2 : List UInt8 := [180, 0, 11, 16, 68, 5, 42, 180, 0, 11, 16, 7, 46, 104, 96, 27, 79, 42, 180, 0, 11, 16, 68, 5]
abbrev dktX6_book_2 : List UInt8 := dkwX6_book_2 ++ dktX6_book_3
def dkwX6_book_1 : List UInt8 := [182, 0, 199, 154, 0, 5, 2, 172, 42, 180, 0, 11, 16, 7, 46, 16, 12, 160, 0, 6, 16, 252, 172, 42]
abbrev dktX6_book_1 : List UInt8 := dkwX6_book_1 ++ dktX6_book_2
def dkwX6_book_0 : List UInt8 := [27, 2, 160, 0, 13, 42, 180, 0, 11, 16, 7, 3, 79, 3, 172, 27, 16, 254, 159, 0, 13, 42, 27]
abbrev dktX6_book_0 : List UInt8 := dkwX6_book_0 ++ dktX6_book_1
theorem dksX6_book_0 : cX6_book.data.toList.drop 0 = dktX6_book_0 := by decide +kernel
theorem dksX6_book_1 : cX6_book.data.toList.drop 23 = dktX6_book_1 := dk_seg dksX6_book_0 23 rfl rfl
theorem dksX6_book_2 : cX6_book.data.toList.drop 47 = dktX6_book_2 := dk_seg dksX6_book_1 24 rfl rfl
theorem dksX6_book_3 : cX6_book.data.toList.drop 71 = dktX6_book_3 := dk_seg dksX6_book_2 24 rfl rfl
theorem dksX6_book_4 : cX6_book.data.toList.drop 93 = dktX6_book_4 := dk_seg dksX6_book_3 22 rfl rfl
theorem dX6_book_0 : decode cX6_book 0 = .ok (.iload_n 1, 1) := dk_27 (dk_at dksX6_book_0 0 rfl rfl)
theorem dX6_book_1 : decode cX6_book 1 = .ok (.iconst (-1), 1) := dk_2 (dk_at dksX6_book_0 1 rfl rfl)
theorem dX6_book_2 : decode cX6_book 2 = .ok (.if_icmp .ne 13, 3) := dk_160 0 13 (dk_at dksX6_book_0 2 rfl rfl)
theorem dX6_book_5 : decode cX6_book 5 = .ok (.aload_n 0, 1) := dk_42 (dk_at dksX6_book_0 5 rfl rfl)
theorem dX6_book_6 : decode cX6_book 6 = .ok (.getfield 11, 3) := dk_180 0 11 (dk_at dksX6_book_0 6 rfl rfl)
theorem dX6_book_9 : decode cX6_book 9 = .ok (.bipush 7, 2) := dk_16 7 (dk_at dksX6_book_0 9 rfl rfl)
theorem dX6_book_11 : decode cX6_book 11 = .ok (.iconst 0, 1) := dk_3 (dk_at dksX6_book_0 11 rfl rfl)
theorem dX6_book_12 : decode cX6_book 12 = .ok (.iastore, 1) := dk_79 (dk_at dksX6_book_0 12 rfl rfl)
theorem dX6_book_13 : decode cX6_book 13 = .ok (.iconst 0, 1) := dk_3 (dk_at dksX6_book_0 13 rfl rfl)
theorem dX6_book_14 : decode cX6_book 14 = .ok (.ireturn, 1) := dk_172 (dk_at dksX6_book_0 14 rfl rfl)
theorem dX6_book_15 : decode cX6_book 15 = .ok (.iload_n 1, 1) := dk_27 (dk_at dksX6_book_0 15 rfl rfl)
theorem dX6_book_16 : decode cX6_book 16 = .ok (.bipush (-2), 2) := dk_16 254 (dk_at dksX6_book_0 16 rfl rfl)
theorem dX6_book_18 : decode cX6_book 18 = .ok (.if_icmp .eq 13, 3) := dk_159 0 13 (dk_at dksX6_book_0 18 rfl rfl)
theorem dX6_book_21 : decode cX6_book 21 = .ok (.aload_n 0, 1) := dk_42 (dk_at dksX6_book_0 21 rfl rfl)
theorem dX6_book_22 : decode cX6_book 22 = .ok (.iload_n 1, 1) := dk_27 (dk_at dksX6_book_0 22 rfl rfl)
theorem dX6_book_23 : decode cX6_book 23 = .ok (.invokevirtual 199, 3) := dk_182 0 199 (dk_at dksX6_book_1 0 rfl rfl)
theorem dX6_book_26 : decode cX6_book 26 = .ok (.ifCond .ne 5, 3) := dk_154 0 5 (dk_at dksX6_book_1 3 rfl rfl)
theorem dX6_book_29 : decode cX6_book 29 = .ok (.iconst (-1), 1) := dk_2 (dk_at dksX6_book_1 6 rfl rfl)
theorem dX6_book_30 : decode cX6_book 30 = .ok (.ireturn, 1) := dk_172 (dk_at dksX6_book_1 7 rfl rfl)
theorem dX6_book_31 : decode cX6_book 31 = .ok (.aload_n 0, 1) := dk_42 (dk_at dksX6_book_1 8 rfl rfl)
theorem dX6_book_32 : decode cX6_book 32 = .ok (.getfield 11, 3) := dk_180 0 11 (dk_at dksX6_book_1 9 rfl rfl)
theorem dX6_book_35 : decode cX6_book 35 = .ok (.bipush 7, 2) := dk_16 7 (dk_at dksX6_book_1 12 rfl rfl)
theorem dX6_book_37 : decode cX6_book 37 = .ok (.iaload, 1) := dk_46 (dk_at dksX6_book_1 14 rfl rfl)
theorem dX6_book_38 : decode cX6_book 38 = .ok (.bipush 12, 2) := dk_16 12 (dk_at dksX6_book_1 15 rfl rfl)
theorem dX6_book_40 : decode cX6_book 40 = .ok (.if_icmp .ne 6, 3) := dk_160 0 6 (dk_at dksX6_book_1 17 rfl rfl)
theorem dX6_book_43 : decode cX6_book 43 = .ok (.bipush (-4), 2) := dk_16 252 (dk_at dksX6_book_1 20 rfl rfl)
theorem dX6_book_45 : decode cX6_book 45 = .ok (.ireturn, 1) := dk_172 (dk_at dksX6_book_1 22 rfl rfl)
theorem dX6_book_46 : decode cX6_book 46 = .ok (.aload_n 0, 1) := dk_42 (dk_at dksX6_book_1 23 rfl rfl)
theorem dX6_book_47 : decode cX6_book 47 = .ok (.getfield 11, 3) := dk_180 0 11 (dk_at dksX6_book_2 0 rfl rfl)
theorem dX6_book_50 : decode cX6_book 50 = .ok (.bipush 68, 2) := dk_16 68 (dk_at dksX6_book_2 3 rfl rfl)
theorem dX6_book_52 : decode cX6_book 52 = .ok (.iconst 2, 1) := dk_5 (dk_at dksX6_book_2 5 rfl rfl)
theorem dX6_book_53 : decode cX6_book 53 = .ok (.aload_n 0, 1) := dk_42 (dk_at dksX6_book_2 6 rfl rfl)
theorem dX6_book_54 : decode cX6_book 54 = .ok (.getfield 11, 3) := dk_180 0 11 (dk_at dksX6_book_2 7 rfl rfl)
theorem dX6_book_57 : decode cX6_book 57 = .ok (.bipush 7, 2) := dk_16 7 (dk_at dksX6_book_2 10 rfl rfl)
theorem dX6_book_59 : decode cX6_book 59 = .ok (.iaload, 1) := dk_46 (dk_at dksX6_book_2 12 rfl rfl)
theorem dX6_book_60 : decode cX6_book 60 = .ok (.imul, 1) := dk_104 (dk_at dksX6_book_2 13 rfl rfl)
theorem dX6_book_61 : decode cX6_book 61 = .ok (.iadd, 1) := dk_96 (dk_at dksX6_book_2 14 rfl rfl)
theorem dX6_book_62 : decode cX6_book 62 = .ok (.iload_n 1, 1) := dk_27 (dk_at dksX6_book_2 15 rfl rfl)
theorem dX6_book_63 : decode cX6_book 63 = .ok (.iastore, 1) := dk_79 (dk_at dksX6_book_2 16 rfl rfl)
theorem dX6_book_64 : decode cX6_book 64 = .ok (.aload_n 0, 1) := dk_42 (dk_at dksX6_book_2 17 rfl rfl)
theorem dX6_book_65 : decode cX6_book 65 = .ok (.getfield 11, 3) := dk_180 0 11 (dk_at dksX6_book_2 18 rfl rfl)
theorem dX6_book_68 : decode cX6_book 68 = .ok (.bipush 68, 2) := dk_16 68 (dk_at dksX6_book_2 21 rfl rfl)
theorem dX6_book_70 : decode cX6_book 70 = .ok (.iconst 2, 1) := dk_5 (dk_at dksX6_book_2 23 rfl rfl)
theorem dX6_book_71 : decode cX6_book 71 = .ok (.aload_n 0, 1) := dk_42 (dk_at dksX6_book_3 0 rfl rfl)
theorem dX6_book_72 : decode cX6_book 72 = .ok (.getfield 11, 3) := dk_180 0 11 (dk_at dksX6_book_3 1 rfl rfl)
theorem dX6_book_75 : decode cX6_book 75 = .ok (.bipush 7, 2) := dk_16 7 (dk_at dksX6_book_3 4 rfl rfl)
theorem dX6_book_77 : decode cX6_book 77 = .ok (.iaload, 1) := dk_46 (dk_at dksX6_book_3 6 rfl rfl)
theorem dX6_book_78 : decode cX6_book 78 = .ok (.imul, 1) := dk_104 (dk_at dksX6_book_3 7 rfl rfl)
theorem dX6_book_79 : decode cX6_book 79 = .ok (.iadd, 1) := dk_96 (dk_at dksX6_book_3 8 rfl rfl)
theorem dX6_book_80 : decode cX6_book 80 = .ok (.iconst 1, 1) := dk_4 (dk_at dksX6_book_3 9 rfl rfl)
theorem dX6_book_81 : decode cX6_book 81 = .ok (.iadd, 1) := dk_96 (dk_at dksX6_book_3 10 rfl rfl)
theorem dX6_book_82 : decode cX6_book 82 = .ok (.iload_n 2, 1) := dk_28 (dk_at dksX6_book_3 11 rfl rfl)
theorem dX6_book_83 : decode cX6_book 83 = .ok (.ifCond .eq 7, 3) := dk_153 0 7 (dk_at dksX6_book_3 12 rfl rfl)
theorem dX6_book_86 : decode cX6_book 86 = .ok (.iconst 1, 1) := dk_4 (dk_at dksX6_book_3 15 rfl rfl)
theorem dX6_book_87 : decode cX6_book 87 = .ok (.goto 4, 3) := dk_167 0 4 (dk_at dksX6_book_3 16 rfl rfl)
theorem dX6_book_90 : decode cX6_book 90 = .ok (.iconst 0, 1) := dk_3 (dk_at dksX6_book_3 19 rfl rfl)
theorem dX6_book_91 : decode cX6_book 91 = .ok (.iastore, 1) := dk_79 (dk_at dksX6_book_3 20 rfl rfl)
theorem dX6_book_92 : decode cX6_book 92 = .ok (.aload_n 0, 1) := dk_42 (dk_at dksX6_book_3 21 rfl rfl)
theorem dX6_book_93 : decode cX6_book 93 = .ok (.getfield 11, 3) := dk_180 0 11 (dk_at dksX6_book_4 0 rfl rfl)
theorem dX6_book_96 : decode cX6_book 96 = .ok (.bipush 7, 2) := dk_16 7 (dk_at dksX6_book_4 3 rfl rfl)
theorem dX6_book_98 : decode cX6_book 98 = .ok (.dup2, 1) := dk_92 (dk_at dksX6_book_4 5 rfl rfl)
theorem dX6_book_99 : decode cX6_book 99 = .ok (.iaload, 1) := dk_46 (dk_at dksX6_book_4 6 rfl rfl)
theorem dX6_book_100 : decode cX6_book 100 = .ok (.iconst 1, 1) := dk_4 (dk_at dksX6_book_4 7 rfl rfl)
theorem dX6_book_101 : decode cX6_book 101 = .ok (.iadd, 1) := dk_96 (dk_at dksX6_book_4 8 rfl rfl)
theorem dX6_book_102 : decode cX6_book 102 = .ok (.iastore, 1) := dk_79 (dk_at dksX6_book_4 9 rfl rfl)
theorem dX6_book_103 : decode cX6_book 103 = .ok (.aload_n 0, 1) := dk_42 (dk_at dksX6_book_4 10 rfl rfl)
theorem dX6_book_104 : decode cX6_book 104 = .ok (.getfield 11, 3) := dk_180 0 11 (dk_at dksX6_book_4 11 rfl rfl)
theorem dX6_book_107 : decode cX6_book 107 = .ok (.bipush 7, 2) := dk_16 7 (dk_at dksX6_book_4 14 rfl rfl)
theorem dX6_book_109 : decode cX6_book 109 = .ok (.iaload, 1) := dk_46 (dk_at dksX6_book_4 16 rfl rfl)
theorem dX6_book_110 : decode cX6_book 110 = .ok (.ireturn, 1) := dk_172 (dk_at dksX6_book_4 17 rfl rfl)
theorem cf_book : xV yX6_book RX6 cX6_book 3 (some .int) 2 := ⟨q1778, q1779, q96, q1780, ⟨rfl, by decide +kernel, by decide +kernel, by decide +kernel⟩, by decide⟩
abbrev cX6_isBookedSo : ByteArray := prog_23_method_70_code
def yX6_isBookedSo : MethodName := ⟨RX6, "isBookedSo", "(I)Z"⟩
def dkwX6_isBookedSo_2 : List UInt8 := [4, 167, 0, 4, 3, 172, 42, 182, 0, 211, 29, 154, 0, 7, 4, 167, 0, 4, 3, 172]
abbrev dktX6_isBookedSo_2 : List UInt8 := dkwX6_isBookedSo_2 ++ []
def dkwX6_isBookedSo_1 : List UInt8 := [46, 4, 160, 0, 7, 4, 167, 0, 4, 3, 62, 28, 155, 0, 18, 42, 28, 182, 0, 208, 29, 160, 0, 7]
abbrev dktX6_isBookedSo_1 : List UInt8 := dkwX6_isBookedSo_1 ++ dktX6_isBookedSo_2
def dkwX6_isBookedSo_0 : List UInt8 := [42, 180, 0, 11, 16, 68, 5, 27, 104, 96, 46, 61, 42, 180, 0, 11, 16, 68, 5, 27, 104, 96, 4, 96]
abbrev dktX6_isBookedSo_0 : List UInt8 := dkwX6_isBookedSo_0 ++ dktX6_isBookedSo_1
theorem dksX6_isBookedSo_0 : cX6_isBookedSo.data.toList.drop 0 = dktX6_isBookedSo_0 := by decide +kernel
theorem dksX6_isBookedSo_1 : cX6_isBookedSo.data.toList.drop 24 = dktX6_isBookedSo_1 := dk_seg dksX6_isBookedSo_0 24 rfl rfl
theorem dksX6_isBookedSo_2 : cX6_isBookedSo.data.toList.drop 48 = dktX6_isBookedSo_2 := dk_seg dksX6_isBookedSo_1 24 rfl rfl
theorem dX6_isBookedSo_0 : decode cX6_isBookedSo 0 = .ok (.aload_n 0, 1) := dk_42 (dk_at dksX6_isBookedSo_0 0 rfl rfl)
theorem dX6_isBookedSo_1 : decode cX6_isBookedSo 1 = .ok (.getfield 11, 3) := dk_180 0 11 (dk_at dksX6_isBookedSo_0 1 rfl rfl)
theorem dX6_isBookedSo_4 : decode cX6_isBookedSo 4 = .ok (.bipush 68, 2) := dk_16 68 (dk_at dksX6_isBookedSo_0 4 rfl rfl)
theorem dX6_isBookedSo_6 : decode cX6_isBookedSo 6 = .ok (.iconst 2, 1) := dk_5 (dk_at dksX6_isBookedSo_0 6 rfl rfl)
theorem dX6_isBookedSo_7 : decode cX6_isBookedSo 7 = .ok (.iload_n 1, 1) := dk_27 (dk_at dksX6_isBookedSo_0 7 rfl rfl)
theorem dX6_isBookedSo_8 : decode cX6_isBookedSo 8 = .ok (.imul, 1) := dk_104 (dk_at dksX6_isBookedSo_0 8 rfl rfl)
theorem dX6_isBookedSo_9 : decode cX6_isBookedSo 9 = .ok (.iadd, 1) := dk_96 (dk_at dksX6_isBookedSo_0 9 rfl rfl)
theorem dX6_isBookedSo_10 : decode cX6_isBookedSo 10 = .ok (.iaload, 1) := dk_46 (dk_at dksX6_isBookedSo_0 10 rfl rfl)
theorem dX6_isBookedSo_11 : decode cX6_isBookedSo 11 = .ok (.istore_n 2, 1) := dk_61 (dk_at dksX6_isBookedSo_0 11 rfl rfl)
theorem dX6_isBookedSo_12 : decode cX6_isBookedSo 12 = .ok (.aload_n 0, 1) := dk_42 (dk_at dksX6_isBookedSo_0 12 rfl rfl)
theorem dX6_isBookedSo_13 : decode cX6_isBookedSo 13 = .ok (.getfield 11, 3) := dk_180 0 11 (dk_at dksX6_isBookedSo_0 13 rfl rfl)
theorem dX6_isBookedSo_16 : decode cX6_isBookedSo 16 = .ok (.bipush 68, 2) := dk_16 68 (dk_at dksX6_isBookedSo_0 16 rfl rfl)
theorem dX6_isBookedSo_18 : decode cX6_isBookedSo 18 = .ok (.iconst 2, 1) := dk_5 (dk_at dksX6_isBookedSo_0 18 rfl rfl)
theorem dX6_isBookedSo_19 : decode cX6_isBookedSo 19 = .ok (.iload_n 1, 1) := dk_27 (dk_at dksX6_isBookedSo_0 19 rfl rfl)
theorem dX6_isBookedSo_20 : decode cX6_isBookedSo 20 = .ok (.imul, 1) := dk_104 (dk_at dksX6_isBookedSo_0 20 rfl rfl)
theorem dX6_isBookedSo_21 : decode cX6_isBookedSo 21 = .ok (.iadd, 1) := dk_96 (dk_at dksX6_isBookedSo_0 21 rfl rfl)
theorem dX6_isBookedSo_22 : decode cX6_isBookedSo 22 = .ok (.iconst 1, 1) := dk_4 (dk_at dksX6_isBookedSo_0 22 rfl rfl)
theorem dX6_isBookedSo_23 : decode cX6_isBookedSo 23 = .ok (.iadd, 1) := dk_96 (dk_at dksX6_isBookedSo_0 23 rfl rfl)
theorem dX6_isBookedSo_24 : decode cX6_isBookedSo 24 = .ok (.iaload, 1) := dk_46 (dk_at dksX6_isBookedSo_1 0 rfl rfl)
theorem dX6_isBookedSo_25 : decode cX6_isBookedSo 25 = .ok (.iconst 1, 1) := dk_4 (dk_at dksX6_isBookedSo_1 1 rfl rfl)
theorem dX6_isBookedSo_26 : decode cX6_isBookedSo 26 = .ok (.if_icmp .ne 7, 3) := dk_160 0 7 (dk_at dksX6_isBookedSo_1 2 rfl rfl)
theorem dX6_isBookedSo_29 : decode cX6_isBookedSo 29 = .ok (.iconst 1, 1) := dk_4 (dk_at dksX6_isBookedSo_1 5 rfl rfl)
theorem dX6_isBookedSo_30 : decode cX6_isBookedSo 30 = .ok (.goto 4, 3) := dk_167 0 4 (dk_at dksX6_isBookedSo_1 6 rfl rfl)
theorem dX6_isBookedSo_33 : decode cX6_isBookedSo 33 = .ok (.iconst 0, 1) := dk_3 (dk_at dksX6_isBookedSo_1 9 rfl rfl)
theorem dX6_isBookedSo_34 : decode cX6_isBookedSo 34 = .ok (.istore_n 3, 1) := dk_62 (dk_at dksX6_isBookedSo_1 10 rfl rfl)
theorem dX6_isBookedSo_35 : decode cX6_isBookedSo 35 = .ok (.iload_n 2, 1) := dk_28 (dk_at dksX6_isBookedSo_1 11 rfl rfl)
theorem dX6_isBookedSo_36 : decode cX6_isBookedSo 36 = .ok (.ifCond .lt 18, 3) := dk_155 0 18 (dk_at dksX6_isBookedSo_1 12 rfl rfl)
theorem dX6_isBookedSo_39 : decode cX6_isBookedSo 39 = .ok (.aload_n 0, 1) := dk_42 (dk_at dksX6_isBookedSo_1 15 rfl rfl)
theorem dX6_isBookedSo_40 : decode cX6_isBookedSo 40 = .ok (.iload_n 2, 1) := dk_28 (dk_at dksX6_isBookedSo_1 16 rfl rfl)
theorem dX6_isBookedSo_41 : decode cX6_isBookedSo 41 = .ok (.invokevirtual 208, 3) := dk_182 0 208 (dk_at dksX6_isBookedSo_1 17 rfl rfl)
theorem dX6_isBookedSo_44 : decode cX6_isBookedSo 44 = .ok (.iload_n 3, 1) := dk_29 (dk_at dksX6_isBookedSo_1 20 rfl rfl)
theorem dX6_isBookedSo_45 : decode cX6_isBookedSo 45 = .ok (.if_icmp .ne 7, 3) := dk_160 0 7 (dk_at dksX6_isBookedSo_1 21 rfl rfl)
theorem dX6_isBookedSo_48 : decode cX6_isBookedSo 48 = .ok (.iconst 1, 1) := dk_4 (dk_at dksX6_isBookedSo_2 0 rfl rfl)
theorem dX6_isBookedSo_49 : decode cX6_isBookedSo 49 = .ok (.goto 4, 3) := dk_167 0 4 (dk_at dksX6_isBookedSo_2 1 rfl rfl)
theorem dX6_isBookedSo_52 : decode cX6_isBookedSo 52 = .ok (.iconst 0, 1) := dk_3 (dk_at dksX6_isBookedSo_2 4 rfl rfl)
theorem dX6_isBookedSo_53 : decode cX6_isBookedSo 53 = .ok (.ireturn, 1) := dk_172 (dk_at dksX6_isBookedSo_2 5 rfl rfl)
theorem dX6_isBookedSo_54 : decode cX6_isBookedSo 54 = .ok (.aload_n 0, 1) := dk_42 (dk_at dksX6_isBookedSo_2 6 rfl rfl)
theorem dX6_isBookedSo_55 : decode cX6_isBookedSo 55 = .ok (.invokevirtual 211, 3) := dk_182 0 211 (dk_at dksX6_isBookedSo_2 7 rfl rfl)
theorem dX6_isBookedSo_58 : decode cX6_isBookedSo 58 = .ok (.iload_n 3, 1) := dk_29 (dk_at dksX6_isBookedSo_2 10 rfl rfl)
theorem dX6_isBookedSo_59 : decode cX6_isBookedSo 59 = .ok (.ifCond .ne 7, 3) := dk_154 0 7 (dk_at dksX6_isBookedSo_2 11 rfl rfl)
theorem dX6_isBookedSo_62 : decode cX6_isBookedSo 62 = .ok (.iconst 1, 1) := dk_4 (dk_at dksX6_isBookedSo_2 14 rfl rfl)
theorem dX6_isBookedSo_63 : decode cX6_isBookedSo 63 = .ok (.goto 4, 3) := dk_167 0 4 (dk_at dksX6_isBookedSo_2 15 rfl rfl)
theorem dX6_isBookedSo_66 : decode cX6_isBookedSo 66 = .ok (.iconst 0, 1) := dk_3 (dk_at dksX6_isBookedSo_2 18 rfl rfl)
theorem dX6_isBookedSo_67 : decode cX6_isBookedSo 67 = .ok (.ireturn, 1) := dk_172 (dk_at dksX6_isBookedSo_2 19 rfl rfl)
theorem cf_isBookedSo : xV yX6_isBookedSo RX6 cX6_isBookedSo 4 (some .boolean) 1 := ⟨q1787, qs81, q96, q1788, ⟨rfl, by decide +kernel, by decide +kernel, by decide +kernel⟩, by decide⟩
abbrev cX6_looked : ByteArray := prog_23_method_71_code
def yX6_looked : MethodName := ⟨RX6, "looked", "()I"⟩
def dkwX6_looked_2 : List UInt8 := [182, 0, 217, 27, 172]
abbrev dktX6_looked_2 : List UInt8 := dkwX6_looked_2 ++ []
def dkwX6_looked_1 : List UInt8 := [42, 28, 182, 1, 16, 153, 0, 8, 16, 251, 167, 0, 4, 28, 60, 132, 2, 1, 167, 255, 223, 42]
abbrev dktX6_looked_1 : List UInt8 := dkwX6_looked_1 ++ dktX6_looked_2
def dkwX6_looked_0 : List UInt8 := [16, 251, 60, 42, 182, 0, 214, 3, 61, 28, 42, 180, 0, 11, 16, 7, 46, 162, 0, 28, 27, 156, 0, 24]
abbrev dktX6_looked_0 : List UInt8 := dkwX6_looked_0 ++ dktX6_looked_1
theorem dksX6_looked_0 : cX6_looked.data.toList.drop 0 = dktX6_looked_0 := by decide +kernel
theorem dksX6_looked_1 : cX6_looked.data.toList.drop 24 = dktX6_looked_1 := dk_seg dksX6_looked_0 24 rfl rfl
theorem dksX6_looked_2 : cX6_looked.data.toList.drop 46 = dktX6_looked_2 := dk_seg dksX6_looked_1 22 rfl rfl
theorem dX6_looked_0 : decode cX6_looked 0 = .ok (.bipush (-5), 2) := dk_16 251 (dk_at dksX6_looked_0 0 rfl rfl)
theorem dX6_looked_2 : decode cX6_looked 2 = .ok (.istore_n 1, 1) := dk_60 (dk_at dksX6_looked_0 2 rfl rfl)
theorem dX6_looked_3 : decode cX6_looked 3 = .ok (.aload_n 0, 1) := dk_42 (dk_at dksX6_looked_0 3 rfl rfl)
theorem dX6_looked_4 : decode cX6_looked 4 = .ok (.invokevirtual 214, 3) := dk_182 0 214 (dk_at dksX6_looked_0 4 rfl rfl)
theorem dX6_looked_7 : decode cX6_looked 7 = .ok (.iconst 0, 1) := dk_3 (dk_at dksX6_looked_0 7 rfl rfl)
theorem dX6_looked_8 : decode cX6_looked 8 = .ok (.istore_n 2, 1) := dk_61 (dk_at dksX6_looked_0 8 rfl rfl)
theorem dX6_looked_9 : decode cX6_looked 9 = .ok (.iload_n 2, 1) := dk_28 (dk_at dksX6_looked_0 9 rfl rfl)
theorem dX6_looked_10 : decode cX6_looked 10 = .ok (.aload_n 0, 1) := dk_42 (dk_at dksX6_looked_0 10 rfl rfl)
theorem dX6_looked_11 : decode cX6_looked 11 = .ok (.getfield 11, 3) := dk_180 0 11 (dk_at dksX6_looked_0 11 rfl rfl)
theorem dX6_looked_14 : decode cX6_looked 14 = .ok (.bipush 7, 2) := dk_16 7 (dk_at dksX6_looked_0 14 rfl rfl)
theorem dX6_looked_16 : decode cX6_looked 16 = .ok (.iaload, 1) := dk_46 (dk_at dksX6_looked_0 16 rfl rfl)
theorem dX6_looked_17 : decode cX6_looked 17 = .ok (.if_icmp .ge 28, 3) := dk_162 0 28 (dk_at dksX6_looked_0 17 rfl rfl)
theorem dX6_looked_20 : decode cX6_looked 20 = .ok (.iload_n 1, 1) := dk_27 (dk_at dksX6_looked_0 20 rfl rfl)
theorem dX6_looked_21 : decode cX6_looked 21 = .ok (.ifCond .ge 24, 3) := dk_156 0 24 (dk_at dksX6_looked_0 21 rfl rfl)
theorem dX6_looked_24 : decode cX6_looked 24 = .ok (.aload_n 0, 1) := dk_42 (dk_at dksX6_looked_1 0 rfl rfl)
theorem dX6_looked_25 : decode cX6_looked 25 = .ok (.iload_n 2, 1) := dk_28 (dk_at dksX6_looked_1 1 rfl rfl)
theorem dX6_looked_26 : decode cX6_looked 26 = .ok (.invokevirtual 272, 3) := dk_182 1 16 (dk_at dksX6_looked_1 2 rfl rfl)
theorem dX6_looked_29 : decode cX6_looked 29 = .ok (.ifCond .eq 8, 3) := dk_153 0 8 (dk_at dksX6_looked_1 5 rfl rfl)
theorem dX6_looked_32 : decode cX6_looked 32 = .ok (.bipush (-5), 2) := dk_16 251 (dk_at dksX6_looked_1 8 rfl rfl)
theorem dX6_looked_34 : decode cX6_looked 34 = .ok (.goto 4, 3) := dk_167 0 4 (dk_at dksX6_looked_1 10 rfl rfl)
theorem dX6_looked_37 : decode cX6_looked 37 = .ok (.iload_n 2, 1) := dk_28 (dk_at dksX6_looked_1 13 rfl rfl)
theorem dX6_looked_38 : decode cX6_looked 38 = .ok (.istore_n 1, 1) := dk_60 (dk_at dksX6_looked_1 14 rfl rfl)
theorem dX6_looked_39 : decode cX6_looked 39 = .ok (.iinc 2 1, 3) := dk_132 2 1 (dk_at dksX6_looked_1 15 rfl rfl)
theorem dX6_looked_42 : decode cX6_looked 42 = .ok (.goto (-33), 3) := dk_167 255 223 (dk_at dksX6_looked_1 18 rfl rfl)
theorem dX6_looked_45 : decode cX6_looked 45 = .ok (.aload_n 0, 1) := dk_42 (dk_at dksX6_looked_1 21 rfl rfl)
theorem dX6_looked_46 : decode cX6_looked 46 = .ok (.invokevirtual 217, 3) := dk_182 0 217 (dk_at dksX6_looked_2 0 rfl rfl)
theorem dX6_looked_49 : decode cX6_looked 49 = .ok (.iload_n 1, 1) := dk_27 (dk_at dksX6_looked_2 3 rfl rfl)
theorem dX6_looked_50 : decode cX6_looked 50 = .ok (.ireturn, 1) := dk_172 (dk_at dksX6_looked_2 4 rfl rfl)
theorem cf_looked : xV yX6_looked RX6 cX6_looked 3 (some .int) 0 := ⟨q1782, q1783, q96, q1784, ⟨rfl, by decide +kernel, by decide +kernel, by decide +kernel⟩, by decide⟩
abbrev cX6_isTape : ByteArray := prog_23_method_72_code
def yX6_isTape : MethodName := ⟨RX6, "isTape", "(I)Z"⟩
def dkwX6_isTape_0 : List UInt8 := [26, 3, 8, 184, 0, 52, 172]
abbrev dktX6_isTape_0 : List UInt8 := dkwX6_isTape_0 ++ []
theorem dksX6_isTape_0 : cX6_isTape.data.toList.drop 0 = dktX6_isTape_0 := by decide +kernel
theorem dX6_isTape_0 : decode cX6_isTape 0 = .ok (.iload_n 0, 1) := dk_26 (dk_at dksX6_isTape_0 0 rfl rfl)
theorem dX6_isTape_1 : decode cX6_isTape 1 = .ok (.iconst 0, 1) := dk_3 (dk_at dksX6_isTape_0 1 rfl rfl)
theorem dX6_isTape_2 : decode cX6_isTape 2 = .ok (.iconst 5, 1) := dk_8 (dk_at dksX6_isTape_0 2 rfl rfl)
theorem dX6_isTape_3 : decode cX6_isTape 3 = .ok (.invokestatic 52, 3) := dk_184 0 52 (dk_at dksX6_isTape_0 3 rfl rfl)
theorem dX6_isTape_6 : decode cX6_isTape 6 = .ok (.ireturn, 1) := dk_172 (dk_at dksX6_isTape_0 6 rfl rfl)
theorem cf_isTape : xS yX6_isTape cX6_isTape 1 (some .boolean) 1 := ⟨q1794, q96, q1795, ⟨by decide +kernel, by decide +kernel, by decide +kernel⟩, by decide⟩
abbrev cX6_judge : ByteArray := prog_23_method_73_code
def yX6_judge : MethodName := ⟨RX6, "judge", "(II)I"⟩
def dkwX6_judge_4 : List UInt8 := [172, 132, 3, 1, 167, 255, 205, 16, 251, 172]
abbrev dktX6_judge_4 : List UInt8 := dkwX6_judge_4 ++ []
def dkwX6_judge_3 : List UInt8 := [180, 0, 45, 16, 60, 27, 104, 28, 96, 29, 96, 47, 42, 180, 0, 11, 29, 46, 133, 148, 153, 0, 5, 29]
abbrev dktX6_judge_3 : List UInt8 := dkwX6_judge_3 ++ dktX6_judge_4
def dkwX6_judge_2 : List UInt8 := [62, 29, 7, 162, 0, 52, 28, 42, 180, 0, 42, 27, 46, 29, 100, 161, 0, 8, 16, 100, 29, 96, 172, 42]
abbrev dktX6_judge_2 : List UInt8 := dkwX6_judge_2 ++ dktX6_judge_3
def dkwX6_judge_1 : List UInt8 := [4, 159, 0, 6, 16, 244, 172, 42, 180, 0, 39, 27, 46, 155, 0, 7, 28, 156, 0, 6, 16, 100, 172, 3]
abbrev dktX6_judge_1 : List UInt8 := dkwX6_judge_1 ++ dktX6_judge_2
def dkwX6_judge_0 : List UInt8 := [27, 184, 1, 19, 154, 0, 5, 2, 172, 42, 180, 0, 39, 27, 46, 155, 0, 16, 42, 180, 0, 39, 27, 46]
abbrev dktX6_judge_0 : List UInt8 := dkwX6_judge_0 ++ dktX6_judge_1
theorem dksX6_judge_0 : cX6_judge.data.toList.drop 0 = dktX6_judge_0 := by decide +kernel
theorem dksX6_judge_1 : cX6_judge.data.toList.drop 24 = dktX6_judge_1 := dk_seg dksX6_judge_0 24 rfl rfl
theorem dksX6_judge_2 : cX6_judge.data.toList.drop 48 = dktX6_judge_2 := dk_seg dksX6_judge_1 24 rfl rfl
theorem dksX6_judge_3 : cX6_judge.data.toList.drop 72 = dktX6_judge_3 := dk_seg dksX6_judge_2 24 rfl rfl
theorem dksX6_judge_4 : cX6_judge.data.toList.drop 96 = dktX6_judge_4 := dk_seg dksX6_judge_3 24 rfl rfl
theorem dX6_judge_0 : decode cX6_judge 0 = .ok (.iload_n 1, 1) := dk_27 (dk_at dksX6_judge_0 0 rfl rfl)
theorem dX6_judge_1 : decode cX6_judge 1 = .ok (.invokestatic 275, 3) := dk_184 1 19 (dk_at dksX6_judge_0 1 rfl rfl)
theorem dX6_judge_4 : decode cX6_judge 4 = .ok (.ifCond .ne 5, 3) := dk_154 0 5 (dk_at dksX6_judge_0 4 rfl rfl)
theorem dX6_judge_7 : decode cX6_judge 7 = .ok (.iconst (-1), 1) := dk_2 (dk_at dksX6_judge_0 7 rfl rfl)
theorem dX6_judge_8 : decode cX6_judge 8 = .ok (.ireturn, 1) := dk_172 (dk_at dksX6_judge_0 8 rfl rfl)
theorem dX6_judge_9 : decode cX6_judge 9 = .ok (.aload_n 0, 1) := dk_42 (dk_at dksX6_judge_0 9 rfl rfl)
theorem dX6_judge_10 : decode cX6_judge 10 = .ok (.getfield 39, 3) := dk_180 0 39 (dk_at dksX6_judge_0 10 rfl rfl)
theorem dX6_judge_13 : decode cX6_judge 13 = .ok (.iload_n 1, 1) := dk_27 (dk_at dksX6_judge_0 13 rfl rfl)
theorem dX6_judge_14 : decode cX6_judge 14 = .ok (.iaload, 1) := dk_46 (dk_at dksX6_judge_0 14 rfl rfl)
theorem dX6_judge_15 : decode cX6_judge 15 = .ok (.ifCond .lt 16, 3) := dk_155 0 16 (dk_at dksX6_judge_0 15 rfl rfl)
theorem dX6_judge_18 : decode cX6_judge 18 = .ok (.aload_n 0, 1) := dk_42 (dk_at dksX6_judge_0 18 rfl rfl)
theorem dX6_judge_19 : decode cX6_judge 19 = .ok (.getfield 39, 3) := dk_180 0 39 (dk_at dksX6_judge_0 19 rfl rfl)
theorem dX6_judge_22 : decode cX6_judge 22 = .ok (.iload_n 1, 1) := dk_27 (dk_at dksX6_judge_0 22 rfl rfl)
theorem dX6_judge_23 : decode cX6_judge 23 = .ok (.iaload, 1) := dk_46 (dk_at dksX6_judge_0 23 rfl rfl)
theorem dX6_judge_24 : decode cX6_judge 24 = .ok (.iconst 1, 1) := dk_4 (dk_at dksX6_judge_1 0 rfl rfl)
theorem dX6_judge_25 : decode cX6_judge 25 = .ok (.if_icmp .eq 6, 3) := dk_159 0 6 (dk_at dksX6_judge_1 1 rfl rfl)
theorem dX6_judge_28 : decode cX6_judge 28 = .ok (.bipush (-12), 2) := dk_16 244 (dk_at dksX6_judge_1 4 rfl rfl)
theorem dX6_judge_30 : decode cX6_judge 30 = .ok (.ireturn, 1) := dk_172 (dk_at dksX6_judge_1 6 rfl rfl)
theorem dX6_judge_31 : decode cX6_judge 31 = .ok (.aload_n 0, 1) := dk_42 (dk_at dksX6_judge_1 7 rfl rfl)
theorem dX6_judge_32 : decode cX6_judge 32 = .ok (.getfield 39, 3) := dk_180 0 39 (dk_at dksX6_judge_1 8 rfl rfl)
theorem dX6_judge_35 : decode cX6_judge 35 = .ok (.iload_n 1, 1) := dk_27 (dk_at dksX6_judge_1 11 rfl rfl)
theorem dX6_judge_36 : decode cX6_judge 36 = .ok (.iaload, 1) := dk_46 (dk_at dksX6_judge_1 12 rfl rfl)
theorem dX6_judge_37 : decode cX6_judge 37 = .ok (.ifCond .lt 7, 3) := dk_155 0 7 (dk_at dksX6_judge_1 13 rfl rfl)
theorem dX6_judge_40 : decode cX6_judge 40 = .ok (.iload_n 2, 1) := dk_28 (dk_at dksX6_judge_1 16 rfl rfl)
theorem dX6_judge_41 : decode cX6_judge 41 = .ok (.ifCond .ge 6, 3) := dk_156 0 6 (dk_at dksX6_judge_1 17 rfl rfl)
theorem dX6_judge_44 : decode cX6_judge 44 = .ok (.bipush 100, 2) := dk_16 100 (dk_at dksX6_judge_1 20 rfl rfl)
theorem dX6_judge_46 : decode cX6_judge 46 = .ok (.ireturn, 1) := dk_172 (dk_at dksX6_judge_1 22 rfl rfl)
theorem dX6_judge_47 : decode cX6_judge 47 = .ok (.iconst 0, 1) := dk_3 (dk_at dksX6_judge_1 23 rfl rfl)
theorem dX6_judge_48 : decode cX6_judge 48 = .ok (.istore_n 3, 1) := dk_62 (dk_at dksX6_judge_2 0 rfl rfl)
theorem dX6_judge_49 : decode cX6_judge 49 = .ok (.iload_n 3, 1) := dk_29 (dk_at dksX6_judge_2 1 rfl rfl)
theorem dX6_judge_50 : decode cX6_judge 50 = .ok (.iconst 4, 1) := dk_7 (dk_at dksX6_judge_2 2 rfl rfl)
theorem dX6_judge_51 : decode cX6_judge 51 = .ok (.if_icmp .ge 52, 3) := dk_162 0 52 (dk_at dksX6_judge_2 3 rfl rfl)
theorem dX6_judge_54 : decode cX6_judge 54 = .ok (.iload_n 2, 1) := dk_28 (dk_at dksX6_judge_2 6 rfl rfl)
theorem dX6_judge_55 : decode cX6_judge 55 = .ok (.aload_n 0, 1) := dk_42 (dk_at dksX6_judge_2 7 rfl rfl)
theorem dX6_judge_56 : decode cX6_judge 56 = .ok (.getfield 42, 3) := dk_180 0 42 (dk_at dksX6_judge_2 8 rfl rfl)
theorem dX6_judge_59 : decode cX6_judge 59 = .ok (.iload_n 1, 1) := dk_27 (dk_at dksX6_judge_2 11 rfl rfl)
theorem dX6_judge_60 : decode cX6_judge 60 = .ok (.iaload, 1) := dk_46 (dk_at dksX6_judge_2 12 rfl rfl)
theorem dX6_judge_61 : decode cX6_judge 61 = .ok (.iload_n 3, 1) := dk_29 (dk_at dksX6_judge_2 13 rfl rfl)
theorem dX6_judge_62 : decode cX6_judge 62 = .ok (.isub, 1) := dk_100 (dk_at dksX6_judge_2 14 rfl rfl)
theorem dX6_judge_63 : decode cX6_judge 63 = .ok (.if_icmp .lt 8, 3) := dk_161 0 8 (dk_at dksX6_judge_2 15 rfl rfl)
theorem dX6_judge_66 : decode cX6_judge 66 = .ok (.bipush 100, 2) := dk_16 100 (dk_at dksX6_judge_2 18 rfl rfl)
theorem dX6_judge_68 : decode cX6_judge 68 = .ok (.iload_n 3, 1) := dk_29 (dk_at dksX6_judge_2 20 rfl rfl)
theorem dX6_judge_69 : decode cX6_judge 69 = .ok (.iadd, 1) := dk_96 (dk_at dksX6_judge_2 21 rfl rfl)
theorem dX6_judge_70 : decode cX6_judge 70 = .ok (.ireturn, 1) := dk_172 (dk_at dksX6_judge_2 22 rfl rfl)
theorem dX6_judge_71 : decode cX6_judge 71 = .ok (.aload_n 0, 1) := dk_42 (dk_at dksX6_judge_2 23 rfl rfl)
theorem dX6_judge_72 : decode cX6_judge 72 = .ok (.getfield 45, 3) := dk_180 0 45 (dk_at dksX6_judge_3 0 rfl rfl)
theorem dX6_judge_75 : decode cX6_judge 75 = .ok (.bipush 60, 2) := dk_16 60 (dk_at dksX6_judge_3 3 rfl rfl)
theorem dX6_judge_77 : decode cX6_judge 77 = .ok (.iload_n 1, 1) := dk_27 (dk_at dksX6_judge_3 5 rfl rfl)
theorem dX6_judge_78 : decode cX6_judge 78 = .ok (.imul, 1) := dk_104 (dk_at dksX6_judge_3 6 rfl rfl)
theorem dX6_judge_79 : decode cX6_judge 79 = .ok (.iload_n 2, 1) := dk_28 (dk_at dksX6_judge_3 7 rfl rfl)
theorem dX6_judge_80 : decode cX6_judge 80 = .ok (.iadd, 1) := dk_96 (dk_at dksX6_judge_3 8 rfl rfl)
theorem dX6_judge_81 : decode cX6_judge 81 = .ok (.iload_n 3, 1) := dk_29 (dk_at dksX6_judge_3 9 rfl rfl)
theorem dX6_judge_82 : decode cX6_judge 82 = .ok (.iadd, 1) := dk_96 (dk_at dksX6_judge_3 10 rfl rfl)
theorem dX6_judge_83 : decode cX6_judge 83 = .ok (.laload, 1) := dk_47 (dk_at dksX6_judge_3 11 rfl rfl)
theorem dX6_judge_84 : decode cX6_judge 84 = .ok (.aload_n 0, 1) := dk_42 (dk_at dksX6_judge_3 12 rfl rfl)
theorem dX6_judge_85 : decode cX6_judge 85 = .ok (.getfield 11, 3) := dk_180 0 11 (dk_at dksX6_judge_3 13 rfl rfl)
theorem dX6_judge_88 : decode cX6_judge 88 = .ok (.iload_n 3, 1) := dk_29 (dk_at dksX6_judge_3 16 rfl rfl)
theorem dX6_judge_89 : decode cX6_judge 89 = .ok (.iaload, 1) := dk_46 (dk_at dksX6_judge_3 17 rfl rfl)
theorem dX6_judge_90 : decode cX6_judge 90 = .ok (.i2l, 1) := dk_133 (dk_at dksX6_judge_3 18 rfl rfl)
theorem dX6_judge_91 : decode cX6_judge 91 = .ok (.lcmp, 1) := dk_148 (dk_at dksX6_judge_3 19 rfl rfl)
theorem dX6_judge_92 : decode cX6_judge 92 = .ok (.ifCond .eq 5, 3) := dk_153 0 5 (dk_at dksX6_judge_3 20 rfl rfl)
theorem dX6_judge_95 : decode cX6_judge 95 = .ok (.iload_n 3, 1) := dk_29 (dk_at dksX6_judge_3 23 rfl rfl)
theorem dX6_judge_96 : decode cX6_judge 96 = .ok (.ireturn, 1) := dk_172 (dk_at dksX6_judge_4 0 rfl rfl)
theorem dX6_judge_97 : decode cX6_judge 97 = .ok (.iinc 3 1, 3) := dk_132 3 1 (dk_at dksX6_judge_4 1 rfl rfl)
theorem dX6_judge_100 : decode cX6_judge 100 = .ok (.goto (-51), 3) := dk_167 255 205 (dk_at dksX6_judge_4 4 rfl rfl)
theorem dX6_judge_103 : decode cX6_judge 103 = .ok (.bipush (-5), 2) := dk_16 251 (dk_at dksX6_judge_4 7 rfl rfl)
theorem dX6_judge_105 : decode cX6_judge 105 = .ok (.ireturn, 1) := dk_172 (dk_at dksX6_judge_4 9 rfl rfl)
theorem cf_judge : xV yX6_judge RX6 cX6_judge 4 (some .int) 2 := ⟨q1790, q1791, q96, q1792, ⟨rfl, by decide +kernel, by decide +kernel, by decide +kernel⟩, by decide⟩
abbrev cX6_image : ByteArray := prog_23_method_74_code
def yX6_image : MethodName := ⟨RX6, "image", "()I"⟩
def dkwX6_image_0 : List UInt8 := [42, 180, 0, 11, 42, 180, 0, 15, 184, 0, 56, 42, 4, 181, 1, 22, 42, 180, 0, 11, 8, 46, 172]
abbrev dktX6_image_0 : List UInt8 := dkwX6_image_0 ++ []
theorem dksX6_image_0 : cX6_image.data.toList.drop 0 = dktX6_image_0 := by decide +kernel
theorem dX6_image_0 : decode cX6_image 0 = .ok (.aload_n 0, 1) := dk_42 (dk_at dksX6_image_0 0 rfl rfl)
theorem dX6_image_1 : decode cX6_image 1 = .ok (.getfield 11, 3) := dk_180 0 11 (dk_at dksX6_image_0 1 rfl rfl)
theorem dX6_image_4 : decode cX6_image 4 = .ok (.aload_n 0, 1) := dk_42 (dk_at dksX6_image_0 4 rfl rfl)
theorem dX6_image_5 : decode cX6_image 5 = .ok (.getfield 15, 3) := dk_180 0 15 (dk_at dksX6_image_0 5 rfl rfl)
theorem dX6_image_8 : decode cX6_image 8 = .ok (.invokestatic 56, 3) := dk_184 0 56 (dk_at dksX6_image_0 8 rfl rfl)
theorem dX6_image_11 : decode cX6_image 11 = .ok (.aload_n 0, 1) := dk_42 (dk_at dksX6_image_0 11 rfl rfl)
theorem dX6_image_12 : decode cX6_image 12 = .ok (.iconst 1, 1) := dk_4 (dk_at dksX6_image_0 12 rfl rfl)
theorem dX6_image_13 : decode cX6_image 13 = .ok (.putfield 278, 3) := dk_181 1 22 (dk_at dksX6_image_0 13 rfl rfl)
theorem dX6_image_16 : decode cX6_image 16 = .ok (.aload_n 0, 1) := dk_42 (dk_at dksX6_image_0 16 rfl rfl)
theorem dX6_image_17 : decode cX6_image 17 = .ok (.getfield 11, 3) := dk_180 0 11 (dk_at dksX6_image_0 17 rfl rfl)
theorem dX6_image_20 : decode cX6_image 20 = .ok (.iconst 5, 1) := dk_8 (dk_at dksX6_image_0 20 rfl rfl)
theorem dX6_image_21 : decode cX6_image 21 = .ok (.iaload, 1) := dk_46 (dk_at dksX6_image_0 21 rfl rfl)
theorem dX6_image_22 : decode cX6_image 22 = .ok (.ireturn, 1) := dk_172 (dk_at dksX6_image_0 22 rfl rfl)
theorem cf_image : xV yX6_image RX6 cX6_image 1 (some .int) 0 := ⟨q1797, q1798, q96, q1799, ⟨rfl, by decide +kernel, by decide +kernel, by decide +kernel⟩, by decide⟩
abbrev cX6_undo : ByteArray := prog_23_method_75_code
def yX6_undo : MethodName := ⟨RX6, "undo", "()I"⟩
def dkwX6_undo_1 : List UInt8 := [180, 0, 11, 8, 46, 172]
abbrev dktX6_undo_1 : List UInt8 := dkwX6_undo_1 ++ []
def dkwX6_undo_0 : List UInt8 := [42, 180, 1, 22, 154, 0, 6, 16, 253, 172, 42, 180, 0, 15, 42, 180, 0, 11, 184, 0, 56, 42]
abbrev dktX6_undo_0 : List UInt8 := dkwX6_undo_0 ++ dktX6_undo_1
theorem dksX6_undo_0 : cX6_undo.data.toList.drop 0 = dktX6_undo_0 := by decide +kernel
theorem dksX6_undo_1 : cX6_undo.data.toList.drop 22 = dktX6_undo_1 := dk_seg dksX6_undo_0 22 rfl rfl
theorem dX6_undo_0 : decode cX6_undo 0 = .ok (.aload_n 0, 1) := dk_42 (dk_at dksX6_undo_0 0 rfl rfl)
theorem dX6_undo_1 : decode cX6_undo 1 = .ok (.getfield 278, 3) := dk_180 1 22 (dk_at dksX6_undo_0 1 rfl rfl)
theorem dX6_undo_4 : decode cX6_undo 4 = .ok (.ifCond .ne 6, 3) := dk_154 0 6 (dk_at dksX6_undo_0 4 rfl rfl)
theorem dX6_undo_7 : decode cX6_undo 7 = .ok (.bipush (-3), 2) := dk_16 253 (dk_at dksX6_undo_0 7 rfl rfl)
theorem dX6_undo_9 : decode cX6_undo 9 = .ok (.ireturn, 1) := dk_172 (dk_at dksX6_undo_0 9 rfl rfl)
theorem dX6_undo_10 : decode cX6_undo 10 = .ok (.aload_n 0, 1) := dk_42 (dk_at dksX6_undo_0 10 rfl rfl)
theorem dX6_undo_11 : decode cX6_undo 11 = .ok (.getfield 15, 3) := dk_180 0 15 (dk_at dksX6_undo_0 11 rfl rfl)
theorem dX6_undo_14 : decode cX6_undo 14 = .ok (.aload_n 0, 1) := dk_42 (dk_at dksX6_undo_0 14 rfl rfl)
theorem dX6_undo_15 : decode cX6_undo 15 = .ok (.getfield 11, 3) := dk_180 0 11 (dk_at dksX6_undo_0 15 rfl rfl)
theorem dX6_undo_18 : decode cX6_undo 18 = .ok (.invokestatic 56, 3) := dk_184 0 56 (dk_at dksX6_undo_0 18 rfl rfl)
theorem dX6_undo_21 : decode cX6_undo 21 = .ok (.aload_n 0, 1) := dk_42 (dk_at dksX6_undo_0 21 rfl rfl)
theorem dX6_undo_22 : decode cX6_undo 22 = .ok (.getfield 11, 3) := dk_180 0 11 (dk_at dksX6_undo_1 0 rfl rfl)
theorem dX6_undo_25 : decode cX6_undo 25 = .ok (.iconst 5, 1) := dk_8 (dk_at dksX6_undo_1 3 rfl rfl)
theorem dX6_undo_26 : decode cX6_undo 26 = .ok (.iaload, 1) := dk_46 (dk_at dksX6_undo_1 4 rfl rfl)
theorem dX6_undo_27 : decode cX6_undo 27 = .ok (.ireturn, 1) := dk_172 (dk_at dksX6_undo_1 5 rfl rfl)
theorem cf_undo : xV yX6_undo RX6 cX6_undo 1 (some .int) 0 := ⟨q1801, q1802, q96, q1803, ⟨rfl, by decide +kernel, by decide +kernel, by decide +kernel⟩, by decide⟩
abbrev cX6_runs : ByteArray := prog_23_method_76_code
def yX6_runs : MethodName := ⟨RX6, "runs", "(I)V"⟩
def dkwX6_runs_1 : List UInt8 := [4, 96, 181, 1, 25, 177]
abbrev dktX6_runs_1 : List UInt8 := dkwX6_runs_1 ++ []
def dkwX6_runs_0 : List UInt8 := [42, 180, 1, 25, 16, 20, 162, 0, 13, 42, 180, 0, 49, 42, 180, 1, 25, 27, 79, 42, 89, 180, 1, 25]
abbrev dktX6_runs_0 : List UInt8 := dkwX6_runs_0 ++ dktX6_runs_1
theorem dksX6_runs_0 : cX6_runs.data.toList.drop 0 = dktX6_runs_0 := by decide +kernel
theorem dksX6_runs_1 : cX6_runs.data.toList.drop 24 = dktX6_runs_1 := dk_seg dksX6_runs_0 24 rfl rfl
theorem dX6_runs_0 : decode cX6_runs 0 = .ok (.aload_n 0, 1) := dk_42 (dk_at dksX6_runs_0 0 rfl rfl)
theorem dX6_runs_1 : decode cX6_runs 1 = .ok (.getfield 281, 3) := dk_180 1 25 (dk_at dksX6_runs_0 1 rfl rfl)
theorem dX6_runs_4 : decode cX6_runs 4 = .ok (.bipush 20, 2) := dk_16 20 (dk_at dksX6_runs_0 4 rfl rfl)
theorem dX6_runs_6 : decode cX6_runs 6 = .ok (.if_icmp .ge 13, 3) := dk_162 0 13 (dk_at dksX6_runs_0 6 rfl rfl)
theorem dX6_runs_9 : decode cX6_runs 9 = .ok (.aload_n 0, 1) := dk_42 (dk_at dksX6_runs_0 9 rfl rfl)
theorem dX6_runs_10 : decode cX6_runs 10 = .ok (.getfield 49, 3) := dk_180 0 49 (dk_at dksX6_runs_0 10 rfl rfl)
theorem dX6_runs_13 : decode cX6_runs 13 = .ok (.aload_n 0, 1) := dk_42 (dk_at dksX6_runs_0 13 rfl rfl)
theorem dX6_runs_14 : decode cX6_runs 14 = .ok (.getfield 281, 3) := dk_180 1 25 (dk_at dksX6_runs_0 14 rfl rfl)
theorem dX6_runs_17 : decode cX6_runs 17 = .ok (.iload_n 1, 1) := dk_27 (dk_at dksX6_runs_0 17 rfl rfl)
theorem dX6_runs_18 : decode cX6_runs 18 = .ok (.iastore, 1) := dk_79 (dk_at dksX6_runs_0 18 rfl rfl)
theorem dX6_runs_19 : decode cX6_runs 19 = .ok (.aload_n 0, 1) := dk_42 (dk_at dksX6_runs_0 19 rfl rfl)
theorem dX6_runs_20 : decode cX6_runs 20 = .ok (.dup, 1) := dk_89 (dk_at dksX6_runs_0 20 rfl rfl)
theorem dX6_runs_21 : decode cX6_runs 21 = .ok (.getfield 281, 3) := dk_180 1 25 (dk_at dksX6_runs_0 21 rfl rfl)
theorem dX6_runs_24 : decode cX6_runs 24 = .ok (.iconst 1, 1) := dk_4 (dk_at dksX6_runs_1 0 rfl rfl)
theorem dX6_runs_25 : decode cX6_runs 25 = .ok (.iadd, 1) := dk_96 (dk_at dksX6_runs_1 1 rfl rfl)
theorem dX6_runs_26 : decode cX6_runs 26 = .ok (.putfield 281, 3) := dk_181 1 25 (dk_at dksX6_runs_1 2 rfl rfl)
theorem dX6_runs_29 : decode cX6_runs 29 = .ok (.return_, 1) := dk_177 (dk_at dksX6_runs_1 5 rfl rfl)
theorem cf_runs : xV yX6_runs RX6 cX6_runs 2 none 1 := ⟨q1814, qs83, q96, q1815, ⟨rfl, by decide +kernel, by decide +kernel, by decide +kernel⟩, by decide⟩
abbrev cX6_rises : ByteArray := prog_23_method_77_code
def yX6_rises : MethodName := ⟨RX6, "rises", "(II)I"⟩
def dkwX6_rises_4 : List UInt8 := [182, 1, 32, 172, 42, 16, 10, 182, 1, 28, 28, 42, 180, 1, 35, 96, 172]
abbrev dktX6_rises_4 : List UInt8 := dkwX6_rises_4 ++ []
def dkwX6_rises_3 : List UInt8 := [182, 1, 32, 42, 42, 180, 1, 35, 182, 0, 102, 130, 172, 42, 16, 30, 182, 1, 28, 42, 3, 28, 6, 104]
abbrev dktX6_rises_3 : List UInt8 := dkwX6_rises_3 ++ dktX6_rises_4
def dkwX6_rises_2 : List UInt8 := [42, 16, 50, 182, 1, 28, 42, 4, 28, 182, 1, 32, 116, 172, 42, 16, 71, 182, 1, 28, 42, 6, 28]
abbrev dktX6_rises_2 : List UInt8 := dkwX6_rises_2 ++ dktX6_rises_3
def dkwX6_rises_1 : List UInt8 := [170, 0, 0, 0, 0, 0, 86, 0, 0, 0, 2, 0, 0, 0, 6, 0, 0, 0, 71, 0, 0, 0, 86, 0, 0, 0, 35, 0, 0, 0, 71, 0, 0, 0, 49]
abbrev dktX6_rises_1 : List UInt8 := dkwX6_rises_1 ++ dktX6_rises_2
def dkwX6_rises_0 : List UInt8 := [27]
abbrev dktX6_rises_0 : List UInt8 := dkwX6_rises_0 ++ dktX6_rises_1
theorem dksX6_rises_0 : cX6_rises.data.toList.drop 0 = dktX6_rises_0 := by decide +kernel
theorem dksX6_rises_1 : cX6_rises.data.toList.drop 1 = dktX6_rises_1 := dk_seg dksX6_rises_0 1 rfl rfl
theorem dksX6_rises_2 : cX6_rises.data.toList.drop 36 = dktX6_rises_2 := dk_seg dksX6_rises_1 35 rfl rfl
theorem dksX6_rises_3 : cX6_rises.data.toList.drop 59 = dktX6_rises_3 := dk_seg dksX6_rises_2 23 rfl rfl
theorem dksX6_rises_4 : cX6_rises.data.toList.drop 83 = dktX6_rises_4 := dk_seg dksX6_rises_3 24 rfl rfl
theorem dX6_rises_0 : decode cX6_rises 0 = .ok (.iload_n 1, 1) := dk_27 (dk_at dksX6_rises_0 0 rfl rfl)
theorem dX6_rises_1 : decode cX6_rises 1 = .ok (.tableswitch 86 2 6 #[71, 86, 35, 71, 49], 35) := by decide +kernel
theorem dX6_rises_36 : decode cX6_rises 36 = .ok (.aload_n 0, 1) := dk_42 (dk_at dksX6_rises_2 0 rfl rfl)
theorem dX6_rises_37 : decode cX6_rises 37 = .ok (.bipush 50, 2) := dk_16 50 (dk_at dksX6_rises_2 1 rfl rfl)
theorem dX6_rises_39 : decode cX6_rises 39 = .ok (.invokevirtual 284, 3) := dk_182 1 28 (dk_at dksX6_rises_2 3 rfl rfl)
theorem dX6_rises_42 : decode cX6_rises 42 = .ok (.aload_n 0, 1) := dk_42 (dk_at dksX6_rises_2 6 rfl rfl)
theorem dX6_rises_43 : decode cX6_rises 43 = .ok (.iconst 1, 1) := dk_4 (dk_at dksX6_rises_2 7 rfl rfl)
theorem dX6_rises_44 : decode cX6_rises 44 = .ok (.iload_n 2, 1) := dk_28 (dk_at dksX6_rises_2 8 rfl rfl)
theorem dX6_rises_45 : decode cX6_rises 45 = .ok (.invokevirtual 288, 3) := dk_182 1 32 (dk_at dksX6_rises_2 9 rfl rfl)
theorem dX6_rises_48 : decode cX6_rises 48 = .ok (.ineg, 1) := dk_116 (dk_at dksX6_rises_2 12 rfl rfl)
theorem dX6_rises_49 : decode cX6_rises 49 = .ok (.ireturn, 1) := dk_172 (dk_at dksX6_rises_2 13 rfl rfl)
theorem dX6_rises_50 : decode cX6_rises 50 = .ok (.aload_n 0, 1) := dk_42 (dk_at dksX6_rises_2 14 rfl rfl)
theorem dX6_rises_51 : decode cX6_rises 51 = .ok (.bipush 71, 2) := dk_16 71 (dk_at dksX6_rises_2 15 rfl rfl)
theorem dX6_rises_53 : decode cX6_rises 53 = .ok (.invokevirtual 284, 3) := dk_182 1 28 (dk_at dksX6_rises_2 17 rfl rfl)
theorem dX6_rises_56 : decode cX6_rises 56 = .ok (.aload_n 0, 1) := dk_42 (dk_at dksX6_rises_2 20 rfl rfl)
theorem dX6_rises_57 : decode cX6_rises 57 = .ok (.iconst 3, 1) := dk_6 (dk_at dksX6_rises_2 21 rfl rfl)
theorem dX6_rises_58 : decode cX6_rises 58 = .ok (.iload_n 2, 1) := dk_28 (dk_at dksX6_rises_2 22 rfl rfl)
theorem dX6_rises_59 : decode cX6_rises 59 = .ok (.invokevirtual 288, 3) := dk_182 1 32 (dk_at dksX6_rises_3 0 rfl rfl)
theorem dX6_rises_62 : decode cX6_rises 62 = .ok (.aload_n 0, 1) := dk_42 (dk_at dksX6_rises_3 3 rfl rfl)
theorem dX6_rises_63 : decode cX6_rises 63 = .ok (.aload_n 0, 1) := dk_42 (dk_at dksX6_rises_3 4 rfl rfl)
theorem dX6_rises_64 : decode cX6_rises 64 = .ok (.getfield 291, 3) := dk_180 1 35 (dk_at dksX6_rises_3 5 rfl rfl)
theorem dX6_rises_67 : decode cX6_rises 67 = .ok (.invokevirtual 102, 3) := dk_182 0 102 (dk_at dksX6_rises_3 8 rfl rfl)
theorem dX6_rises_70 : decode cX6_rises 70 = .ok (.ixor, 1) := dk_130 (dk_at dksX6_rises_3 11 rfl rfl)
theorem dX6_rises_71 : decode cX6_rises 71 = .ok (.ireturn, 1) := dk_172 (dk_at dksX6_rises_3 12 rfl rfl)
theorem dX6_rises_72 : decode cX6_rises 72 = .ok (.aload_n 0, 1) := dk_42 (dk_at dksX6_rises_3 13 rfl rfl)
theorem dX6_rises_73 : decode cX6_rises 73 = .ok (.bipush 30, 2) := dk_16 30 (dk_at dksX6_rises_3 14 rfl rfl)
theorem dX6_rises_75 : decode cX6_rises 75 = .ok (.invokevirtual 284, 3) := dk_182 1 28 (dk_at dksX6_rises_3 16 rfl rfl)
theorem dX6_rises_78 : decode cX6_rises 78 = .ok (.aload_n 0, 1) := dk_42 (dk_at dksX6_rises_3 19 rfl rfl)
theorem dX6_rises_79 : decode cX6_rises 79 = .ok (.iconst 0, 1) := dk_3 (dk_at dksX6_rises_3 20 rfl rfl)
theorem dX6_rises_80 : decode cX6_rises 80 = .ok (.iload_n 2, 1) := dk_28 (dk_at dksX6_rises_3 21 rfl rfl)
theorem dX6_rises_81 : decode cX6_rises 81 = .ok (.iconst 3, 1) := dk_6 (dk_at dksX6_rises_3 22 rfl rfl)
theorem dX6_rises_82 : decode cX6_rises 82 = .ok (.imul, 1) := dk_104 (dk_at dksX6_rises_3 23 rfl rfl)
theorem dX6_rises_83 : decode cX6_rises 83 = .ok (.invokevirtual 288, 3) := dk_182 1 32 (dk_at dksX6_rises_4 0 rfl rfl)
theorem dX6_rises_86 : decode cX6_rises 86 = .ok (.ireturn, 1) := dk_172 (dk_at dksX6_rises_4 3 rfl rfl)
theorem dX6_rises_87 : decode cX6_rises 87 = .ok (.aload_n 0, 1) := dk_42 (dk_at dksX6_rises_4 4 rfl rfl)
theorem dX6_rises_88 : decode cX6_rises 88 = .ok (.bipush 10, 2) := dk_16 10 (dk_at dksX6_rises_4 5 rfl rfl)
theorem dX6_rises_90 : decode cX6_rises 90 = .ok (.invokevirtual 284, 3) := dk_182 1 28 (dk_at dksX6_rises_4 7 rfl rfl)
theorem dX6_rises_93 : decode cX6_rises 93 = .ok (.iload_n 2, 1) := dk_28 (dk_at dksX6_rises_4 10 rfl rfl)
theorem dX6_rises_94 : decode cX6_rises 94 = .ok (.aload_n 0, 1) := dk_42 (dk_at dksX6_rises_4 11 rfl rfl)
theorem dX6_rises_95 : decode cX6_rises 95 = .ok (.getfield 291, 3) := dk_180 1 35 (dk_at dksX6_rises_4 12 rfl rfl)
theorem dX6_rises_98 : decode cX6_rises 98 = .ok (.iadd, 1) := dk_96 (dk_at dksX6_rises_4 15 rfl rfl)
theorem dX6_rises_99 : decode cX6_rises 99 = .ok (.ireturn, 1) := dk_172 (dk_at dksX6_rises_4 16 rfl rfl)
theorem cf_rises : xV yX6_rises RX6 cX6_rises 3 (some .int) 2 := ⟨q1810, qs82, q96, q1811, ⟨rfl, by decide +kernel, by decide +kernel, by decide +kernel⟩, by decide⟩
abbrev cX6_bakesFrom : ByteArray := prog_23_method_78_code
def yX6_bakesFrom : MethodName := ⟨RX6, "bakesFrom", "(II)I"⟩
def dkwX6_bakesFrom_5 : List UInt8 := [42, 42, 180, 1, 35, 182, 0, 102, 100, 172]
abbrev dktX6_bakesFrom_5 : List UInt8 := dkwX6_bakesFrom_5 ++ []
def dkwX6_bakesFrom_4 : List UInt8 := [182, 1, 32, 96, 172, 42, 16, 11, 182, 1, 28, 42, 42, 42, 180, 1, 35, 182, 0, 92, 28, 182, 1, 32]
abbrev dktX6_bakesFrom_4 : List UInt8 := dkwX6_bakesFrom_4 ++ dktX6_bakesFrom_5
def dkwX6_bakesFrom_3 : List UInt8 := [182, 1, 38, 16, 6, 130, 172, 42, 16, 70, 182, 1, 28, 42, 6, 28, 182, 1, 38, 62, 29, 42, 6, 5]
abbrev dktX6_bakesFrom_3 : List UInt8 := dkwX6_bakesFrom_3 ++ dktX6_bakesFrom_4
def dkwX6_bakesFrom_2 : List UInt8 := [42, 16, 51, 182, 1, 28, 42, 4, 28, 4, 96, 182, 1, 38, 172, 42, 16, 20, 182, 1, 28, 42, 3, 28]
abbrev dktX6_bakesFrom_2 : List UInt8 := dkwX6_bakesFrom_2 ++ dktX6_bakesFrom_3
def dkwX6_bakesFrom_1 : List UInt8 := [171, 0, 0, 0, 0, 0, 88, 0, 0, 0, 3, 0, 0, 0, 1, 0, 0, 0, 50, 0, 0, 0, 4, 0, 0, 0, 35, 0, 0, 0, 6, 0, 0, 0, 66]
abbrev dktX6_bakesFrom_1 : List UInt8 := dkwX6_bakesFrom_1 ++ dktX6_bakesFrom_2
def dkwX6_bakesFrom_0 : List UInt8 := [27]
abbrev dktX6_bakesFrom_0 : List UInt8 := dkwX6_bakesFrom_0 ++ dktX6_bakesFrom_1
theorem dksX6_bakesFrom_0 : cX6_bakesFrom.data.toList.drop 0 = dktX6_bakesFrom_0 := by decide +kernel
theorem dksX6_bakesFrom_1 : cX6_bakesFrom.data.toList.drop 1 = dktX6_bakesFrom_1 := dk_seg dksX6_bakesFrom_0 1 rfl rfl
theorem dksX6_bakesFrom_2 : cX6_bakesFrom.data.toList.drop 36 = dktX6_bakesFrom_2 := dk_seg dksX6_bakesFrom_1 35 rfl rfl
theorem dksX6_bakesFrom_3 : cX6_bakesFrom.data.toList.drop 60 = dktX6_bakesFrom_3 := dk_seg dksX6_bakesFrom_2 24 rfl rfl
theorem dksX6_bakesFrom_4 : cX6_bakesFrom.data.toList.drop 84 = dktX6_bakesFrom_4 := dk_seg dksX6_bakesFrom_3 24 rfl rfl
theorem dksX6_bakesFrom_5 : cX6_bakesFrom.data.toList.drop 108 = dktX6_bakesFrom_5 := dk_seg dksX6_bakesFrom_4 24 rfl rfl
theorem dX6_bakesFrom_0 : decode cX6_bakesFrom 0 = .ok (.iload_n 1, 1) := dk_27 (dk_at dksX6_bakesFrom_0 0 rfl rfl)
theorem dX6_bakesFrom_1 : decode cX6_bakesFrom 1 = .ok (.lookupswitch 88 #[(1, 50), (4, 35), (6, 66)], 35) := by decide +kernel
theorem dX6_bakesFrom_36 : decode cX6_bakesFrom 36 = .ok (.aload_n 0, 1) := dk_42 (dk_at dksX6_bakesFrom_2 0 rfl rfl)
theorem dX6_bakesFrom_37 : decode cX6_bakesFrom 37 = .ok (.bipush 51, 2) := dk_16 51 (dk_at dksX6_bakesFrom_2 1 rfl rfl)
theorem dX6_bakesFrom_39 : decode cX6_bakesFrom 39 = .ok (.invokevirtual 284, 3) := dk_182 1 28 (dk_at dksX6_bakesFrom_2 3 rfl rfl)
theorem dX6_bakesFrom_42 : decode cX6_bakesFrom 42 = .ok (.aload_n 0, 1) := dk_42 (dk_at dksX6_bakesFrom_2 6 rfl rfl)
theorem dX6_bakesFrom_43 : decode cX6_bakesFrom 43 = .ok (.iconst 1, 1) := dk_4 (dk_at dksX6_bakesFrom_2 7 rfl rfl)
theorem dX6_bakesFrom_44 : decode cX6_bakesFrom 44 = .ok (.iload_n 2, 1) := dk_28 (dk_at dksX6_bakesFrom_2 8 rfl rfl)
theorem dX6_bakesFrom_45 : decode cX6_bakesFrom 45 = .ok (.iconst 1, 1) := dk_4 (dk_at dksX6_bakesFrom_2 9 rfl rfl)
theorem dX6_bakesFrom_46 : decode cX6_bakesFrom 46 = .ok (.iadd, 1) := dk_96 (dk_at dksX6_bakesFrom_2 10 rfl rfl)
theorem dX6_bakesFrom_47 : decode cX6_bakesFrom 47 = .ok (.invokevirtual 294, 3) := dk_182 1 38 (dk_at dksX6_bakesFrom_2 11 rfl rfl)
theorem dX6_bakesFrom_50 : decode cX6_bakesFrom 50 = .ok (.ireturn, 1) := dk_172 (dk_at dksX6_bakesFrom_2 14 rfl rfl)
theorem dX6_bakesFrom_51 : decode cX6_bakesFrom 51 = .ok (.aload_n 0, 1) := dk_42 (dk_at dksX6_bakesFrom_2 15 rfl rfl)
theorem dX6_bakesFrom_52 : decode cX6_bakesFrom 52 = .ok (.bipush 20, 2) := dk_16 20 (dk_at dksX6_bakesFrom_2 16 rfl rfl)
theorem dX6_bakesFrom_54 : decode cX6_bakesFrom 54 = .ok (.invokevirtual 284, 3) := dk_182 1 28 (dk_at dksX6_bakesFrom_2 18 rfl rfl)
theorem dX6_bakesFrom_57 : decode cX6_bakesFrom 57 = .ok (.aload_n 0, 1) := dk_42 (dk_at dksX6_bakesFrom_2 21 rfl rfl)
theorem dX6_bakesFrom_58 : decode cX6_bakesFrom 58 = .ok (.iconst 0, 1) := dk_3 (dk_at dksX6_bakesFrom_2 22 rfl rfl)
theorem dX6_bakesFrom_59 : decode cX6_bakesFrom 59 = .ok (.iload_n 2, 1) := dk_28 (dk_at dksX6_bakesFrom_2 23 rfl rfl)
theorem dX6_bakesFrom_60 : decode cX6_bakesFrom 60 = .ok (.invokevirtual 294, 3) := dk_182 1 38 (dk_at dksX6_bakesFrom_3 0 rfl rfl)
theorem dX6_bakesFrom_63 : decode cX6_bakesFrom 63 = .ok (.bipush 6, 2) := dk_16 6 (dk_at dksX6_bakesFrom_3 3 rfl rfl)
theorem dX6_bakesFrom_65 : decode cX6_bakesFrom 65 = .ok (.ixor, 1) := dk_130 (dk_at dksX6_bakesFrom_3 5 rfl rfl)
theorem dX6_bakesFrom_66 : decode cX6_bakesFrom 66 = .ok (.ireturn, 1) := dk_172 (dk_at dksX6_bakesFrom_3 6 rfl rfl)
theorem dX6_bakesFrom_67 : decode cX6_bakesFrom 67 = .ok (.aload_n 0, 1) := dk_42 (dk_at dksX6_bakesFrom_3 7 rfl rfl)
theorem dX6_bakesFrom_68 : decode cX6_bakesFrom 68 = .ok (.bipush 70, 2) := dk_16 70 (dk_at dksX6_bakesFrom_3 8 rfl rfl)
theorem dX6_bakesFrom_70 : decode cX6_bakesFrom 70 = .ok (.invokevirtual 284, 3) := dk_182 1 28 (dk_at dksX6_bakesFrom_3 10 rfl rfl)
theorem dX6_bakesFrom_73 : decode cX6_bakesFrom 73 = .ok (.aload_n 0, 1) := dk_42 (dk_at dksX6_bakesFrom_3 13 rfl rfl)
theorem dX6_bakesFrom_74 : decode cX6_bakesFrom 74 = .ok (.iconst 3, 1) := dk_6 (dk_at dksX6_bakesFrom_3 14 rfl rfl)
theorem dX6_bakesFrom_75 : decode cX6_bakesFrom 75 = .ok (.iload_n 2, 1) := dk_28 (dk_at dksX6_bakesFrom_3 15 rfl rfl)
theorem dX6_bakesFrom_76 : decode cX6_bakesFrom 76 = .ok (.invokevirtual 294, 3) := dk_182 1 38 (dk_at dksX6_bakesFrom_3 16 rfl rfl)
theorem dX6_bakesFrom_79 : decode cX6_bakesFrom 79 = .ok (.istore_n 3, 1) := dk_62 (dk_at dksX6_bakesFrom_3 19 rfl rfl)
theorem dX6_bakesFrom_80 : decode cX6_bakesFrom 80 = .ok (.iload_n 3, 1) := dk_29 (dk_at dksX6_bakesFrom_3 20 rfl rfl)
theorem dX6_bakesFrom_81 : decode cX6_bakesFrom 81 = .ok (.aload_n 0, 1) := dk_42 (dk_at dksX6_bakesFrom_3 21 rfl rfl)
theorem dX6_bakesFrom_82 : decode cX6_bakesFrom 82 = .ok (.iconst 3, 1) := dk_6 (dk_at dksX6_bakesFrom_3 22 rfl rfl)
theorem dX6_bakesFrom_83 : decode cX6_bakesFrom 83 = .ok (.iconst 2, 1) := dk_5 (dk_at dksX6_bakesFrom_3 23 rfl rfl)
theorem dX6_bakesFrom_84 : decode cX6_bakesFrom 84 = .ok (.invokevirtual 288, 3) := dk_182 1 32 (dk_at dksX6_bakesFrom_4 0 rfl rfl)
theorem dX6_bakesFrom_87 : decode cX6_bakesFrom 87 = .ok (.iadd, 1) := dk_96 (dk_at dksX6_bakesFrom_4 3 rfl rfl)
theorem dX6_bakesFrom_88 : decode cX6_bakesFrom 88 = .ok (.ireturn, 1) := dk_172 (dk_at dksX6_bakesFrom_4 4 rfl rfl)
theorem dX6_bakesFrom_89 : decode cX6_bakesFrom 89 = .ok (.aload_n 0, 1) := dk_42 (dk_at dksX6_bakesFrom_4 5 rfl rfl)
theorem dX6_bakesFrom_90 : decode cX6_bakesFrom 90 = .ok (.bipush 11, 2) := dk_16 11 (dk_at dksX6_bakesFrom_4 6 rfl rfl)
theorem dX6_bakesFrom_92 : decode cX6_bakesFrom 92 = .ok (.invokevirtual 284, 3) := dk_182 1 28 (dk_at dksX6_bakesFrom_4 8 rfl rfl)
theorem dX6_bakesFrom_95 : decode cX6_bakesFrom 95 = .ok (.aload_n 0, 1) := dk_42 (dk_at dksX6_bakesFrom_4 11 rfl rfl)
theorem dX6_bakesFrom_96 : decode cX6_bakesFrom 96 = .ok (.aload_n 0, 1) := dk_42 (dk_at dksX6_bakesFrom_4 12 rfl rfl)
theorem dX6_bakesFrom_97 : decode cX6_bakesFrom 97 = .ok (.aload_n 0, 1) := dk_42 (dk_at dksX6_bakesFrom_4 13 rfl rfl)
theorem dX6_bakesFrom_98 : decode cX6_bakesFrom 98 = .ok (.getfield 291, 3) := dk_180 1 35 (dk_at dksX6_bakesFrom_4 14 rfl rfl)
theorem dX6_bakesFrom_101 : decode cX6_bakesFrom 101 = .ok (.invokevirtual 92, 3) := dk_182 0 92 (dk_at dksX6_bakesFrom_4 17 rfl rfl)
theorem dX6_bakesFrom_104 : decode cX6_bakesFrom 104 = .ok (.iload_n 2, 1) := dk_28 (dk_at dksX6_bakesFrom_4 20 rfl rfl)
theorem dX6_bakesFrom_105 : decode cX6_bakesFrom 105 = .ok (.invokevirtual 288, 3) := dk_182 1 32 (dk_at dksX6_bakesFrom_4 21 rfl rfl)
theorem dX6_bakesFrom_108 : decode cX6_bakesFrom 108 = .ok (.aload_n 0, 1) := dk_42 (dk_at dksX6_bakesFrom_5 0 rfl rfl)
theorem dX6_bakesFrom_109 : decode cX6_bakesFrom 109 = .ok (.aload_n 0, 1) := dk_42 (dk_at dksX6_bakesFrom_5 1 rfl rfl)
theorem dX6_bakesFrom_110 : decode cX6_bakesFrom 110 = .ok (.getfield 291, 3) := dk_180 1 35 (dk_at dksX6_bakesFrom_5 2 rfl rfl)
theorem dX6_bakesFrom_113 : decode cX6_bakesFrom 113 = .ok (.invokevirtual 102, 3) := dk_182 0 102 (dk_at dksX6_bakesFrom_5 5 rfl rfl)
theorem dX6_bakesFrom_116 : decode cX6_bakesFrom 116 = .ok (.isub, 1) := dk_100 (dk_at dksX6_bakesFrom_5 8 rfl rfl)
theorem dX6_bakesFrom_117 : decode cX6_bakesFrom 117 = .ok (.ireturn, 1) := dk_172 (dk_at dksX6_bakesFrom_5 9 rfl rfl)
theorem cf_bakesFrom : xV yX6_bakesFrom RX6 cX6_bakesFrom 4 (some .int) 2 := ⟨q1818, qs84, q96, q1819, ⟨rfl, by decide +kernel, by decide +kernel, by decide +kernel⟩, by decide⟩
abbrev cX6_tells : ByteArray := prog_23_method_79_code
def yX6_tells : MethodName := ⟨RX6, "tells", "(II)I"⟩
def dkwX6_tells_4 : List UInt8 := [16, 12, 182, 1, 28, 42, 42, 42, 180, 1, 35, 182, 0, 92, 28, 182, 1, 38, 5, 104, 172]
abbrev dktX6_tells_4 : List UInt8 := dkwX6_tells_4 ++ []
def dkwX6_tells_3 : List UInt8 := [42, 3, 28, 182, 1, 41, 62, 29, 42, 42, 42, 180, 1, 35, 182, 0, 92, 4, 182, 1, 38, 96, 172, 42]
abbrev dktX6_tells_3 : List UInt8 := dkwX6_tells_3 ++ dktX6_tells_4
def dkwX6_tells_2 : List UInt8 := [42, 16, 60, 182, 1, 28, 42, 5, 28, 42, 180, 1, 35, 100, 182, 1, 41, 172, 42, 16, 40, 182, 1, 28]
abbrev dktX6_tells_2 : List UInt8 := dkwX6_tells_2 ++ dktX6_tells_3
def dkwX6_tells_1 : List UInt8 := [170, 0, 0, 0, 0, 0, 78, 0, 0, 0, 3, 0, 0, 0, 6, 0, 0, 0, 49, 0, 0, 0, 78, 0, 0, 0, 31, 0, 0, 0, 49]
abbrev dktX6_tells_1 : List UInt8 := dkwX6_tells_1 ++ dktX6_tells_2
def dkwX6_tells_0 : List UInt8 := [27]
abbrev dktX6_tells_0 : List UInt8 := dkwX6_tells_0 ++ dktX6_tells_1
theorem dksX6_tells_0 : cX6_tells.data.toList.drop 0 = dktX6_tells_0 := by decide +kernel
theorem dksX6_tells_1 : cX6_tells.data.toList.drop 1 = dktX6_tells_1 := dk_seg dksX6_tells_0 1 rfl rfl
theorem dksX6_tells_2 : cX6_tells.data.toList.drop 32 = dktX6_tells_2 := dk_seg dksX6_tells_1 31 rfl rfl
theorem dksX6_tells_3 : cX6_tells.data.toList.drop 56 = dktX6_tells_3 := dk_seg dksX6_tells_2 24 rfl rfl
theorem dksX6_tells_4 : cX6_tells.data.toList.drop 80 = dktX6_tells_4 := dk_seg dksX6_tells_3 24 rfl rfl
theorem dX6_tells_0 : decode cX6_tells 0 = .ok (.iload_n 1, 1) := dk_27 (dk_at dksX6_tells_0 0 rfl rfl)
theorem dX6_tells_1 : decode cX6_tells 1 = .ok (.tableswitch 78 3 6 #[49, 78, 31, 49], 31) := by decide +kernel
theorem dX6_tells_32 : decode cX6_tells 32 = .ok (.aload_n 0, 1) := dk_42 (dk_at dksX6_tells_2 0 rfl rfl)
theorem dX6_tells_33 : decode cX6_tells 33 = .ok (.bipush 60, 2) := dk_16 60 (dk_at dksX6_tells_2 1 rfl rfl)
theorem dX6_tells_35 : decode cX6_tells 35 = .ok (.invokevirtual 284, 3) := dk_182 1 28 (dk_at dksX6_tells_2 3 rfl rfl)
theorem dX6_tells_38 : decode cX6_tells 38 = .ok (.aload_n 0, 1) := dk_42 (dk_at dksX6_tells_2 6 rfl rfl)
theorem dX6_tells_39 : decode cX6_tells 39 = .ok (.iconst 2, 1) := dk_5 (dk_at dksX6_tells_2 7 rfl rfl)
theorem dX6_tells_40 : decode cX6_tells 40 = .ok (.iload_n 2, 1) := dk_28 (dk_at dksX6_tells_2 8 rfl rfl)
theorem dX6_tells_41 : decode cX6_tells 41 = .ok (.aload_n 0, 1) := dk_42 (dk_at dksX6_tells_2 9 rfl rfl)
theorem dX6_tells_42 : decode cX6_tells 42 = .ok (.getfield 291, 3) := dk_180 1 35 (dk_at dksX6_tells_2 10 rfl rfl)
theorem dX6_tells_45 : decode cX6_tells 45 = .ok (.isub, 1) := dk_100 (dk_at dksX6_tells_2 13 rfl rfl)
theorem dX6_tells_46 : decode cX6_tells 46 = .ok (.invokevirtual 297, 3) := dk_182 1 41 (dk_at dksX6_tells_2 14 rfl rfl)
theorem dX6_tells_49 : decode cX6_tells 49 = .ok (.ireturn, 1) := dk_172 (dk_at dksX6_tells_2 17 rfl rfl)
theorem dX6_tells_50 : decode cX6_tells 50 = .ok (.aload_n 0, 1) := dk_42 (dk_at dksX6_tells_2 18 rfl rfl)
theorem dX6_tells_51 : decode cX6_tells 51 = .ok (.bipush 40, 2) := dk_16 40 (dk_at dksX6_tells_2 19 rfl rfl)
theorem dX6_tells_53 : decode cX6_tells 53 = .ok (.invokevirtual 284, 3) := dk_182 1 28 (dk_at dksX6_tells_2 21 rfl rfl)
theorem dX6_tells_56 : decode cX6_tells 56 = .ok (.aload_n 0, 1) := dk_42 (dk_at dksX6_tells_3 0 rfl rfl)
theorem dX6_tells_57 : decode cX6_tells 57 = .ok (.iconst 0, 1) := dk_3 (dk_at dksX6_tells_3 1 rfl rfl)
theorem dX6_tells_58 : decode cX6_tells 58 = .ok (.iload_n 2, 1) := dk_28 (dk_at dksX6_tells_3 2 rfl rfl)
theorem dX6_tells_59 : decode cX6_tells 59 = .ok (.invokevirtual 297, 3) := dk_182 1 41 (dk_at dksX6_tells_3 3 rfl rfl)
theorem dX6_tells_62 : decode cX6_tells 62 = .ok (.istore_n 3, 1) := dk_62 (dk_at dksX6_tells_3 6 rfl rfl)
theorem dX6_tells_63 : decode cX6_tells 63 = .ok (.iload_n 3, 1) := dk_29 (dk_at dksX6_tells_3 7 rfl rfl)
theorem dX6_tells_64 : decode cX6_tells 64 = .ok (.aload_n 0, 1) := dk_42 (dk_at dksX6_tells_3 8 rfl rfl)
theorem dX6_tells_65 : decode cX6_tells 65 = .ok (.aload_n 0, 1) := dk_42 (dk_at dksX6_tells_3 9 rfl rfl)
theorem dX6_tells_66 : decode cX6_tells 66 = .ok (.aload_n 0, 1) := dk_42 (dk_at dksX6_tells_3 10 rfl rfl)
theorem dX6_tells_67 : decode cX6_tells 67 = .ok (.getfield 291, 3) := dk_180 1 35 (dk_at dksX6_tells_3 11 rfl rfl)
theorem dX6_tells_70 : decode cX6_tells 70 = .ok (.invokevirtual 92, 3) := dk_182 0 92 (dk_at dksX6_tells_3 14 rfl rfl)
theorem dX6_tells_73 : decode cX6_tells 73 = .ok (.iconst 1, 1) := dk_4 (dk_at dksX6_tells_3 17 rfl rfl)
theorem dX6_tells_74 : decode cX6_tells 74 = .ok (.invokevirtual 294, 3) := dk_182 1 38 (dk_at dksX6_tells_3 18 rfl rfl)
theorem dX6_tells_77 : decode cX6_tells 77 = .ok (.iadd, 1) := dk_96 (dk_at dksX6_tells_3 21 rfl rfl)
theorem dX6_tells_78 : decode cX6_tells 78 = .ok (.ireturn, 1) := dk_172 (dk_at dksX6_tells_3 22 rfl rfl)
theorem dX6_tells_79 : decode cX6_tells 79 = .ok (.aload_n 0, 1) := dk_42 (dk_at dksX6_tells_3 23 rfl rfl)
theorem dX6_tells_80 : decode cX6_tells 80 = .ok (.bipush 12, 2) := dk_16 12 (dk_at dksX6_tells_4 0 rfl rfl)
theorem dX6_tells_82 : decode cX6_tells 82 = .ok (.invokevirtual 284, 3) := dk_182 1 28 (dk_at dksX6_tells_4 2 rfl rfl)
theorem dX6_tells_85 : decode cX6_tells 85 = .ok (.aload_n 0, 1) := dk_42 (dk_at dksX6_tells_4 5 rfl rfl)
theorem dX6_tells_86 : decode cX6_tells 86 = .ok (.aload_n 0, 1) := dk_42 (dk_at dksX6_tells_4 6 rfl rfl)
theorem dX6_tells_87 : decode cX6_tells 87 = .ok (.aload_n 0, 1) := dk_42 (dk_at dksX6_tells_4 7 rfl rfl)
theorem dX6_tells_88 : decode cX6_tells 88 = .ok (.getfield 291, 3) := dk_180 1 35 (dk_at dksX6_tells_4 8 rfl rfl)
theorem dX6_tells_91 : decode cX6_tells 91 = .ok (.invokevirtual 92, 3) := dk_182 0 92 (dk_at dksX6_tells_4 11 rfl rfl)
theorem dX6_tells_94 : decode cX6_tells 94 = .ok (.iload_n 2, 1) := dk_28 (dk_at dksX6_tells_4 14 rfl rfl)
theorem dX6_tells_95 : decode cX6_tells 95 = .ok (.invokevirtual 294, 3) := dk_182 1 38 (dk_at dksX6_tells_4 15 rfl rfl)
theorem dX6_tells_98 : decode cX6_tells 98 = .ok (.iconst 2, 1) := dk_5 (dk_at dksX6_tells_4 18 rfl rfl)
theorem dX6_tells_99 : decode cX6_tells 99 = .ok (.imul, 1) := dk_104 (dk_at dksX6_tells_4 19 rfl rfl)
theorem dX6_tells_100 : decode cX6_tells 100 = .ok (.ireturn, 1) := dk_172 (dk_at dksX6_tells_4 20 rfl rfl)
theorem cf_tells : xV yX6_tells RX6 cX6_tells 4 (some .int) 2 := ⟨q1822, qs85, q96, q1823, ⟨rfl, by decide +kernel, by decide +kernel, by decide +kernel⟩, by decide⟩
abbrev cX6_act : ByteArray := prog_23_method_80_code
def yX6_act : MethodName := ⟨RX6, "act", "(III)I"⟩
def dkwX6_act_3 : List UInt8 := [182, 1, 41, 172]
abbrev dktX6_act_3 : List UInt8 := dkwX6_act_3 ++ []
def dkwX6_act_2 : List UInt8 := [167, 0, 25, 28, 4, 160, 0, 13, 42, 21, 4, 29, 182, 1, 38, 167, 0, 10, 42, 21, 4, 29]
abbrev dktX6_act_2 : List UInt8 := dkwX6_act_2 ++ dktX6_act_3
def dkwX6_act_1 : List UInt8 := [42, 27, 181, 1, 35, 42, 27, 182, 0, 92, 54, 4, 28, 154, 0, 13, 42, 21, 4, 29, 182, 1, 32]
abbrev dktX6_act_1 : List UInt8 := dkwX6_act_1 ++ dktX6_act_2
def dkwX6_act_0 : List UInt8 := [42, 3, 181, 1, 25, 42, 27, 182, 0, 199, 153, 0, 12, 28, 3, 5, 184, 0, 52, 154, 0, 5, 3, 172]
abbrev dktX6_act_0 : List UInt8 := dkwX6_act_0 ++ dktX6_act_1
theorem dksX6_act_0 : cX6_act.data.toList.drop 0 = dktX6_act_0 := by decide +kernel
theorem dksX6_act_1 : cX6_act.data.toList.drop 24 = dktX6_act_1 := dk_seg dksX6_act_0 24 rfl rfl
theorem dksX6_act_2 : cX6_act.data.toList.drop 47 = dktX6_act_2 := dk_seg dksX6_act_1 23 rfl rfl
theorem dksX6_act_3 : cX6_act.data.toList.drop 69 = dktX6_act_3 := dk_seg dksX6_act_2 22 rfl rfl
theorem dX6_act_0 : decode cX6_act 0 = .ok (.aload_n 0, 1) := dk_42 (dk_at dksX6_act_0 0 rfl rfl)
theorem dX6_act_1 : decode cX6_act 1 = .ok (.iconst 0, 1) := dk_3 (dk_at dksX6_act_0 1 rfl rfl)
theorem dX6_act_2 : decode cX6_act 2 = .ok (.putfield 281, 3) := dk_181 1 25 (dk_at dksX6_act_0 2 rfl rfl)
theorem dX6_act_5 : decode cX6_act 5 = .ok (.aload_n 0, 1) := dk_42 (dk_at dksX6_act_0 5 rfl rfl)
theorem dX6_act_6 : decode cX6_act 6 = .ok (.iload_n 1, 1) := dk_27 (dk_at dksX6_act_0 6 rfl rfl)
theorem dX6_act_7 : decode cX6_act 7 = .ok (.invokevirtual 199, 3) := dk_182 0 199 (dk_at dksX6_act_0 7 rfl rfl)
theorem dX6_act_10 : decode cX6_act 10 = .ok (.ifCond .eq 12, 3) := dk_153 0 12 (dk_at dksX6_act_0 10 rfl rfl)
theorem dX6_act_13 : decode cX6_act 13 = .ok (.iload_n 2, 1) := dk_28 (dk_at dksX6_act_0 13 rfl rfl)
theorem dX6_act_14 : decode cX6_act 14 = .ok (.iconst 0, 1) := dk_3 (dk_at dksX6_act_0 14 rfl rfl)
theorem dX6_act_15 : decode cX6_act 15 = .ok (.iconst 2, 1) := dk_5 (dk_at dksX6_act_0 15 rfl rfl)
theorem dX6_act_16 : decode cX6_act 16 = .ok (.invokestatic 52, 3) := dk_184 0 52 (dk_at dksX6_act_0 16 rfl rfl)
theorem dX6_act_19 : decode cX6_act 19 = .ok (.ifCond .ne 5, 3) := dk_154 0 5 (dk_at dksX6_act_0 19 rfl rfl)
theorem dX6_act_22 : decode cX6_act 22 = .ok (.iconst 0, 1) := dk_3 (dk_at dksX6_act_0 22 rfl rfl)
theorem dX6_act_23 : decode cX6_act 23 = .ok (.ireturn, 1) := dk_172 (dk_at dksX6_act_0 23 rfl rfl)
theorem dX6_act_24 : decode cX6_act 24 = .ok (.aload_n 0, 1) := dk_42 (dk_at dksX6_act_1 0 rfl rfl)
theorem dX6_act_25 : decode cX6_act 25 = .ok (.iload_n 1, 1) := dk_27 (dk_at dksX6_act_1 1 rfl rfl)
theorem dX6_act_26 : decode cX6_act 26 = .ok (.putfield 291, 3) := dk_181 1 35 (dk_at dksX6_act_1 2 rfl rfl)
theorem dX6_act_29 : decode cX6_act 29 = .ok (.aload_n 0, 1) := dk_42 (dk_at dksX6_act_1 5 rfl rfl)
theorem dX6_act_30 : decode cX6_act 30 = .ok (.iload_n 1, 1) := dk_27 (dk_at dksX6_act_1 6 rfl rfl)
theorem dX6_act_31 : decode cX6_act 31 = .ok (.invokevirtual 92, 3) := dk_182 0 92 (dk_at dksX6_act_1 7 rfl rfl)
theorem dX6_act_34 : decode cX6_act 34 = .ok (.istore 4, 2) := dk_54 4 (dk_at dksX6_act_1 10 rfl rfl)
theorem dX6_act_36 : decode cX6_act 36 = .ok (.iload_n 2, 1) := dk_28 (dk_at dksX6_act_1 12 rfl rfl)
theorem dX6_act_37 : decode cX6_act 37 = .ok (.ifCond .ne 13, 3) := dk_154 0 13 (dk_at dksX6_act_1 13 rfl rfl)
theorem dX6_act_40 : decode cX6_act 40 = .ok (.aload_n 0, 1) := dk_42 (dk_at dksX6_act_1 16 rfl rfl)
theorem dX6_act_41 : decode cX6_act 41 = .ok (.iload 4, 2) := dk_21 4 (dk_at dksX6_act_1 17 rfl rfl)
theorem dX6_act_43 : decode cX6_act 43 = .ok (.iload_n 3, 1) := dk_29 (dk_at dksX6_act_1 19 rfl rfl)
theorem dX6_act_44 : decode cX6_act 44 = .ok (.invokevirtual 288, 3) := dk_182 1 32 (dk_at dksX6_act_1 20 rfl rfl)
theorem dX6_act_47 : decode cX6_act 47 = .ok (.goto 25, 3) := dk_167 0 25 (dk_at dksX6_act_2 0 rfl rfl)
theorem dX6_act_50 : decode cX6_act 50 = .ok (.iload_n 2, 1) := dk_28 (dk_at dksX6_act_2 3 rfl rfl)
theorem dX6_act_51 : decode cX6_act 51 = .ok (.iconst 1, 1) := dk_4 (dk_at dksX6_act_2 4 rfl rfl)
theorem dX6_act_52 : decode cX6_act 52 = .ok (.if_icmp .ne 13, 3) := dk_160 0 13 (dk_at dksX6_act_2 5 rfl rfl)
theorem dX6_act_55 : decode cX6_act 55 = .ok (.aload_n 0, 1) := dk_42 (dk_at dksX6_act_2 8 rfl rfl)
theorem dX6_act_56 : decode cX6_act 56 = .ok (.iload 4, 2) := dk_21 4 (dk_at dksX6_act_2 9 rfl rfl)
theorem dX6_act_58 : decode cX6_act 58 = .ok (.iload_n 3, 1) := dk_29 (dk_at dksX6_act_2 11 rfl rfl)
theorem dX6_act_59 : decode cX6_act 59 = .ok (.invokevirtual 294, 3) := dk_182 1 38 (dk_at dksX6_act_2 12 rfl rfl)
theorem dX6_act_62 : decode cX6_act 62 = .ok (.goto 10, 3) := dk_167 0 10 (dk_at dksX6_act_2 15 rfl rfl)
theorem dX6_act_65 : decode cX6_act 65 = .ok (.aload_n 0, 1) := dk_42 (dk_at dksX6_act_2 18 rfl rfl)
theorem dX6_act_66 : decode cX6_act 66 = .ok (.iload 4, 2) := dk_21 4 (dk_at dksX6_act_2 19 rfl rfl)
theorem dX6_act_68 : decode cX6_act 68 = .ok (.iload_n 3, 1) := dk_29 (dk_at dksX6_act_2 21 rfl rfl)
theorem dX6_act_69 : decode cX6_act 69 = .ok (.invokevirtual 297, 3) := dk_182 1 41 (dk_at dksX6_act_3 0 rfl rfl)
theorem dX6_act_72 : decode cX6_act 72 = .ok (.ireturn, 1) := dk_172 (dk_at dksX6_act_3 3 rfl rfl)
theorem cf_act : xV yX6_act RX6 cX6_act 5 (some .int) 3 := ⟨q1805, q1806, q96, q1807, ⟨rfl, by decide +kernel, by decide +kernel, by decide +kernel⟩, by decide⟩
abbrev cX6_trace : ByteArray := prog_23_method_81_code
def yX6_trace : MethodName := ⟨RX6, "trace", "(I)I"⟩
def dkwX6_trace_1 : List UInt8 := [167, 0, 4, 2, 172]
abbrev dktX6_trace_1 : List UInt8 := dkwX6_trace_1 ++ []
def dkwX6_trace_0 : List UInt8 := [27, 155, 0, 26, 27, 42, 180, 1, 25, 162, 0, 18, 27, 16, 20, 162, 0, 12, 42, 180, 0, 49, 27, 46]
abbrev dktX6_trace_0 : List UInt8 := dkwX6_trace_0 ++ dktX6_trace_1
theorem dksX6_trace_0 : cX6_trace.data.toList.drop 0 = dktX6_trace_0 := by decide +kernel
theorem dksX6_trace_1 : cX6_trace.data.toList.drop 24 = dktX6_trace_1 := dk_seg dksX6_trace_0 24 rfl rfl
theorem dX6_trace_0 : decode cX6_trace 0 = .ok (.iload_n 1, 1) := dk_27 (dk_at dksX6_trace_0 0 rfl rfl)
theorem dX6_trace_1 : decode cX6_trace 1 = .ok (.ifCond .lt 26, 3) := dk_155 0 26 (dk_at dksX6_trace_0 1 rfl rfl)
theorem dX6_trace_4 : decode cX6_trace 4 = .ok (.iload_n 1, 1) := dk_27 (dk_at dksX6_trace_0 4 rfl rfl)
theorem dX6_trace_5 : decode cX6_trace 5 = .ok (.aload_n 0, 1) := dk_42 (dk_at dksX6_trace_0 5 rfl rfl)
theorem dX6_trace_6 : decode cX6_trace 6 = .ok (.getfield 281, 3) := dk_180 1 25 (dk_at dksX6_trace_0 6 rfl rfl)
theorem dX6_trace_9 : decode cX6_trace 9 = .ok (.if_icmp .ge 18, 3) := dk_162 0 18 (dk_at dksX6_trace_0 9 rfl rfl)
theorem dX6_trace_12 : decode cX6_trace 12 = .ok (.iload_n 1, 1) := dk_27 (dk_at dksX6_trace_0 12 rfl rfl)
theorem dX6_trace_13 : decode cX6_trace 13 = .ok (.bipush 20, 2) := dk_16 20 (dk_at dksX6_trace_0 13 rfl rfl)
theorem dX6_trace_15 : decode cX6_trace 15 = .ok (.if_icmp .ge 12, 3) := dk_162 0 12 (dk_at dksX6_trace_0 15 rfl rfl)
theorem dX6_trace_18 : decode cX6_trace 18 = .ok (.aload_n 0, 1) := dk_42 (dk_at dksX6_trace_0 18 rfl rfl)
theorem dX6_trace_19 : decode cX6_trace 19 = .ok (.getfield 49, 3) := dk_180 0 49 (dk_at dksX6_trace_0 19 rfl rfl)
theorem dX6_trace_22 : decode cX6_trace 22 = .ok (.iload_n 1, 1) := dk_27 (dk_at dksX6_trace_0 22 rfl rfl)
theorem dX6_trace_23 : decode cX6_trace 23 = .ok (.iaload, 1) := dk_46 (dk_at dksX6_trace_0 23 rfl rfl)
theorem dX6_trace_24 : decode cX6_trace 24 = .ok (.goto 4, 3) := dk_167 0 4 (dk_at dksX6_trace_1 0 rfl rfl)
theorem dX6_trace_27 : decode cX6_trace 27 = .ok (.iconst (-1), 1) := dk_2 (dk_at dksX6_trace_1 3 rfl rfl)
theorem dX6_trace_28 : decode cX6_trace 28 = .ok (.ireturn, 1) := dk_172 (dk_at dksX6_trace_1 4 rfl rfl)
theorem cf_trace : xV yX6_trace RX6 cX6_trace 2 (some .int) 1 := ⟨q1825, q1826, q96, q1827, ⟨rfl, by decide +kernel, by decide +kernel, by decide +kernel⟩, by decide⟩
abbrev cX6_above : ByteArray := prog_23_method_82_code
def yX6_above : MethodName := ⟨RX6, "above", "(I)I"⟩
def dkwX6_above_0 : List UInt8 := [26, 7, 161, 0, 9, 26, 6, 100, 167, 0, 4, 3, 172]
abbrev dktX6_above_0 : List UInt8 := dkwX6_above_0 ++ []
theorem dksX6_above_0 : cX6_above.data.toList.drop 0 = dktX6_above_0 := by decide +kernel
theorem dX6_above_0 : decode cX6_above 0 = .ok (.iload_n 0, 1) := dk_26 (dk_at dksX6_above_0 0 rfl rfl)
theorem dX6_above_1 : decode cX6_above 1 = .ok (.iconst 4, 1) := dk_7 (dk_at dksX6_above_0 1 rfl rfl)
theorem dX6_above_2 : decode cX6_above 2 = .ok (.if_icmp .lt 9, 3) := dk_161 0 9 (dk_at dksX6_above_0 2 rfl rfl)
theorem dX6_above_5 : decode cX6_above 5 = .ok (.iload_n 0, 1) := dk_26 (dk_at dksX6_above_0 5 rfl rfl)
theorem dX6_above_6 : decode cX6_above 6 = .ok (.iconst 3, 1) := dk_6 (dk_at dksX6_above_0 6 rfl rfl)
theorem dX6_above_7 : decode cX6_above 7 = .ok (.isub, 1) := dk_100 (dk_at dksX6_above_0 7 rfl rfl)
theorem dX6_above_8 : decode cX6_above 8 = .ok (.goto 4, 3) := dk_167 0 4 (dk_at dksX6_above_0 8 rfl rfl)
theorem dX6_above_11 : decode cX6_above 11 = .ok (.iconst 0, 1) := dk_3 (dk_at dksX6_above_0 11 rfl rfl)
theorem dX6_above_12 : decode cX6_above 12 = .ok (.ireturn, 1) := dk_172 (dk_at dksX6_above_0 12 rfl rfl)
theorem cf_above : xS yX6_above cX6_above 1 (some .int) 1 := ⟨q1833, q96, q1834, ⟨by decide +kernel, by decide +kernel, by decide +kernel⟩, by decide⟩
abbrev cX6_taken : ByteArray := prog_23_method_83_code
def yX6_taken : MethodName := ⟨RX6, "taken", "(II)I"⟩
def dkwX6_taken_2 : List UInt8 := [167, 0, 5, 16, 244, 172]
abbrev dktX6_taken_2 : List UInt8 := dkwX6_taken_2 ++ []
def dkwX6_taken_1 : List UInt8 := [42, 27, 182, 0, 92, 62, 29, 28, 159, 0, 15, 29, 184, 1, 44, 28, 159, 0, 7, 28, 154, 0, 7, 29]
abbrev dktX6_taken_1 : List UInt8 := dkwX6_taken_1 ++ dktX6_taken_2
def dkwX6_taken_0 : List UInt8 := [28, 3, 16, 6, 184, 0, 52, 154, 0, 6, 16, 254, 172, 42, 27, 182, 0, 199, 154, 0, 6, 16, 245, 172]
abbrev dktX6_taken_0 : List UInt8 := dkwX6_taken_0 ++ dktX6_taken_1
theorem dksX6_taken_0 : cX6_taken.data.toList.drop 0 = dktX6_taken_0 := by decide +kernel
theorem dksX6_taken_1 : cX6_taken.data.toList.drop 24 = dktX6_taken_1 := dk_seg dksX6_taken_0 24 rfl rfl
theorem dksX6_taken_2 : cX6_taken.data.toList.drop 48 = dktX6_taken_2 := dk_seg dksX6_taken_1 24 rfl rfl
theorem dX6_taken_0 : decode cX6_taken 0 = .ok (.iload_n 2, 1) := dk_28 (dk_at dksX6_taken_0 0 rfl rfl)
theorem dX6_taken_1 : decode cX6_taken 1 = .ok (.iconst 0, 1) := dk_3 (dk_at dksX6_taken_0 1 rfl rfl)
theorem dX6_taken_2 : decode cX6_taken 2 = .ok (.bipush 6, 2) := dk_16 6 (dk_at dksX6_taken_0 2 rfl rfl)
theorem dX6_taken_4 : decode cX6_taken 4 = .ok (.invokestatic 52, 3) := dk_184 0 52 (dk_at dksX6_taken_0 4 rfl rfl)
theorem dX6_taken_7 : decode cX6_taken 7 = .ok (.ifCond .ne 6, 3) := dk_154 0 6 (dk_at dksX6_taken_0 7 rfl rfl)
theorem dX6_taken_10 : decode cX6_taken 10 = .ok (.bipush (-2), 2) := dk_16 254 (dk_at dksX6_taken_0 10 rfl rfl)
theorem dX6_taken_12 : decode cX6_taken 12 = .ok (.ireturn, 1) := dk_172 (dk_at dksX6_taken_0 12 rfl rfl)
theorem dX6_taken_13 : decode cX6_taken 13 = .ok (.aload_n 0, 1) := dk_42 (dk_at dksX6_taken_0 13 rfl rfl)
theorem dX6_taken_14 : decode cX6_taken 14 = .ok (.iload_n 1, 1) := dk_27 (dk_at dksX6_taken_0 14 rfl rfl)
theorem dX6_taken_15 : decode cX6_taken 15 = .ok (.invokevirtual 199, 3) := dk_182 0 199 (dk_at dksX6_taken_0 15 rfl rfl)
theorem dX6_taken_18 : decode cX6_taken 18 = .ok (.ifCond .ne 6, 3) := dk_154 0 6 (dk_at dksX6_taken_0 18 rfl rfl)
theorem dX6_taken_21 : decode cX6_taken 21 = .ok (.bipush (-11), 2) := dk_16 245 (dk_at dksX6_taken_0 21 rfl rfl)
theorem dX6_taken_23 : decode cX6_taken 23 = .ok (.ireturn, 1) := dk_172 (dk_at dksX6_taken_0 23 rfl rfl)
theorem dX6_taken_24 : decode cX6_taken 24 = .ok (.aload_n 0, 1) := dk_42 (dk_at dksX6_taken_1 0 rfl rfl)
theorem dX6_taken_25 : decode cX6_taken 25 = .ok (.iload_n 1, 1) := dk_27 (dk_at dksX6_taken_1 1 rfl rfl)
theorem dX6_taken_26 : decode cX6_taken 26 = .ok (.invokevirtual 92, 3) := dk_182 0 92 (dk_at dksX6_taken_1 2 rfl rfl)
theorem dX6_taken_29 : decode cX6_taken 29 = .ok (.istore_n 3, 1) := dk_62 (dk_at dksX6_taken_1 5 rfl rfl)
theorem dX6_taken_30 : decode cX6_taken 30 = .ok (.iload_n 3, 1) := dk_29 (dk_at dksX6_taken_1 6 rfl rfl)
theorem dX6_taken_31 : decode cX6_taken 31 = .ok (.iload_n 2, 1) := dk_28 (dk_at dksX6_taken_1 7 rfl rfl)
theorem dX6_taken_32 : decode cX6_taken 32 = .ok (.if_icmp .eq 15, 3) := dk_159 0 15 (dk_at dksX6_taken_1 8 rfl rfl)
theorem dX6_taken_35 : decode cX6_taken 35 = .ok (.iload_n 3, 1) := dk_29 (dk_at dksX6_taken_1 11 rfl rfl)
theorem dX6_taken_36 : decode cX6_taken 36 = .ok (.invokestatic 300, 3) := dk_184 1 44 (dk_at dksX6_taken_1 12 rfl rfl)
theorem dX6_taken_39 : decode cX6_taken 39 = .ok (.iload_n 2, 1) := dk_28 (dk_at dksX6_taken_1 15 rfl rfl)
theorem dX6_taken_40 : decode cX6_taken 40 = .ok (.if_icmp .eq 7, 3) := dk_159 0 7 (dk_at dksX6_taken_1 16 rfl rfl)
theorem dX6_taken_43 : decode cX6_taken 43 = .ok (.iload_n 2, 1) := dk_28 (dk_at dksX6_taken_1 19 rfl rfl)
theorem dX6_taken_44 : decode cX6_taken 44 = .ok (.ifCond .ne 7, 3) := dk_154 0 7 (dk_at dksX6_taken_1 20 rfl rfl)
theorem dX6_taken_47 : decode cX6_taken 47 = .ok (.iload_n 3, 1) := dk_29 (dk_at dksX6_taken_1 23 rfl rfl)
theorem dX6_taken_48 : decode cX6_taken 48 = .ok (.goto 5, 3) := dk_167 0 5 (dk_at dksX6_taken_2 0 rfl rfl)
theorem dX6_taken_51 : decode cX6_taken 51 = .ok (.bipush (-12), 2) := dk_16 244 (dk_at dksX6_taken_2 3 rfl rfl)
theorem dX6_taken_53 : decode cX6_taken 53 = .ok (.ireturn, 1) := dk_172 (dk_at dksX6_taken_2 5 rfl rfl)
theorem cf_taken : xV yX6_taken RX6 cX6_taken 4 (some .int) 2 := ⟨q1829, q1830, q96, q1831, ⟨rfl, by decide +kernel, by decide +kernel, by decide +kernel⟩, by decide⟩
abbrev cX6_count : ByteArray := prog_23_method_84_code
def yX6_count : MethodName := ⟨RX6, "count", "(I)I"⟩
def dkwX6_count_3 : List UInt8 := [172, 42, 180, 1, 25, 172, 16, 254, 172]
abbrev dktX6_count_3 : List UInt8 := dkwX6_count_3 ++ []
def dkwX6_count_2 : List UInt8 := [42, 180, 0, 11, 8, 46, 172, 42, 180, 0, 173, 172, 42, 180, 0, 11, 16, 7, 46, 172, 42, 180, 0, 64]
abbrev dktX6_count_2 : List UInt8 := dkwX6_count_2 ++ dktX6_count_3
def dkwX6_count_1 : List UInt8 := [170, 0, 0, 0, 0, 0, 65, 0, 0, 0, 0, 0, 0, 0, 4, 0, 0, 0, 35, 0, 0, 0, 42, 0, 0, 0, 47, 0, 0, 0, 55, 0, 0, 0, 60]
abbrev dktX6_count_1 : List UInt8 := dkwX6_count_1 ++ dktX6_count_2
def dkwX6_count_0 : List UInt8 := [27]
abbrev dktX6_count_0 : List UInt8 := dkwX6_count_0 ++ dktX6_count_1
theorem dksX6_count_0 : cX6_count.data.toList.drop 0 = dktX6_count_0 := by decide +kernel
theorem dksX6_count_1 : cX6_count.data.toList.drop 1 = dktX6_count_1 := dk_seg dksX6_count_0 1 rfl rfl
theorem dksX6_count_2 : cX6_count.data.toList.drop 36 = dktX6_count_2 := dk_seg dksX6_count_1 35 rfl rfl
theorem dksX6_count_3 : cX6_count.data.toList.drop 60 = dktX6_count_3 := dk_seg dksX6_count_2 24 rfl rfl
theorem dX6_count_0 : decode cX6_count 0 = .ok (.iload_n 1, 1) := dk_27 (dk_at dksX6_count_0 0 rfl rfl)
theorem dX6_count_1 : decode cX6_count 1 = .ok (.tableswitch 65 0 4 #[35, 42, 47, 55, 60], 35) := by decide +kernel
theorem dX6_count_36 : decode cX6_count 36 = .ok (.aload_n 0, 1) := dk_42 (dk_at dksX6_count_2 0 rfl rfl)
theorem dX6_count_37 : decode cX6_count 37 = .ok (.getfield 11, 3) := dk_180 0 11 (dk_at dksX6_count_2 1 rfl rfl)
theorem dX6_count_40 : decode cX6_count 40 = .ok (.iconst 5, 1) := dk_8 (dk_at dksX6_count_2 4 rfl rfl)
theorem dX6_count_41 : decode cX6_count 41 = .ok (.iaload, 1) := dk_46 (dk_at dksX6_count_2 5 rfl rfl)
theorem dX6_count_42 : decode cX6_count 42 = .ok (.ireturn, 1) := dk_172 (dk_at dksX6_count_2 6 rfl rfl)
theorem dX6_count_43 : decode cX6_count 43 = .ok (.aload_n 0, 1) := dk_42 (dk_at dksX6_count_2 7 rfl rfl)
theorem dX6_count_44 : decode cX6_count 44 = .ok (.getfield 173, 3) := dk_180 0 173 (dk_at dksX6_count_2 8 rfl rfl)
theorem dX6_count_47 : decode cX6_count 47 = .ok (.ireturn, 1) := dk_172 (dk_at dksX6_count_2 11 rfl rfl)
theorem dX6_count_48 : decode cX6_count 48 = .ok (.aload_n 0, 1) := dk_42 (dk_at dksX6_count_2 12 rfl rfl)
theorem dX6_count_49 : decode cX6_count 49 = .ok (.getfield 11, 3) := dk_180 0 11 (dk_at dksX6_count_2 13 rfl rfl)
theorem dX6_count_52 : decode cX6_count 52 = .ok (.bipush 7, 2) := dk_16 7 (dk_at dksX6_count_2 16 rfl rfl)
theorem dX6_count_54 : decode cX6_count 54 = .ok (.iaload, 1) := dk_46 (dk_at dksX6_count_2 18 rfl rfl)
theorem dX6_count_55 : decode cX6_count 55 = .ok (.ireturn, 1) := dk_172 (dk_at dksX6_count_2 19 rfl rfl)
theorem dX6_count_56 : decode cX6_count 56 = .ok (.aload_n 0, 1) := dk_42 (dk_at dksX6_count_2 20 rfl rfl)
theorem dX6_count_57 : decode cX6_count 57 = .ok (.getfield 64, 3) := dk_180 0 64 (dk_at dksX6_count_2 21 rfl rfl)
theorem dX6_count_60 : decode cX6_count 60 = .ok (.ireturn, 1) := dk_172 (dk_at dksX6_count_3 0 rfl rfl)
theorem dX6_count_61 : decode cX6_count 61 = .ok (.aload_n 0, 1) := dk_42 (dk_at dksX6_count_3 1 rfl rfl)
theorem dX6_count_62 : decode cX6_count 62 = .ok (.getfield 281, 3) := dk_180 1 25 (dk_at dksX6_count_3 2 rfl rfl)
theorem dX6_count_65 : decode cX6_count 65 = .ok (.ireturn, 1) := dk_172 (dk_at dksX6_count_3 5 rfl rfl)
theorem dX6_count_66 : decode cX6_count 66 = .ok (.bipush (-2), 2) := dk_16 254 (dk_at dksX6_count_3 6 rfl rfl)
theorem dX6_count_68 : decode cX6_count 68 = .ok (.ireturn, 1) := dk_172 (dk_at dksX6_count_3 8 rfl rfl)
theorem cf_count : xV yX6_count RX6 cX6_count 2 (some .int) 1 := ⟨q1836, q1837, q96, q1838, ⟨rfl, by decide +kernel, by decide +kernel, by decide +kernel⟩, by decide⟩
abbrev cX6_tape : ByteArray := prog_23_method_85_code
def yX6_tape : MethodName := ⟨RX6, "tape", "(III)I"⟩
def dkwX6_tape_3 : List UInt8 := [162, 0, 22, 42, 180, 0, 45, 16, 60, 27, 104, 21, 4, 96, 9, 80, 132, 4, 1, 167, 255, 233, 4, 172]
abbrev dktX6_tape_3 : List UInt8 := dkwX6_tape_3 ++ []
def dkwX6_tape_2 : List UInt8 := [28, 79, 42, 180, 0, 42, 27, 28, 156, 0, 7, 3, 167, 0, 4, 29, 79, 3, 54, 4, 21, 4, 16, 60]
abbrev dktX6_tape_2 : List UInt8 := dkwX6_tape_2 ++ dktX6_tape_3
def dkwX6_tape_1 : List UInt8 := [16, 60, 164, 0, 6, 16, 254, 172, 28, 155, 0, 10, 29, 156, 0, 6, 16, 242, 172, 42, 180, 0, 39, 27]
abbrev dktX6_tape_1 : List UInt8 := dkwX6_tape_1 ++ dktX6_tape_2
def dkwX6_tape_0 : List UInt8 := [27, 184, 1, 19, 154, 0, 5, 2, 172, 28, 2, 7, 184, 0, 52, 153, 0, 13, 28, 155, 0, 12, 29]
abbrev dktX6_tape_0 : List UInt8 := dkwX6_tape_0 ++ dktX6_tape_1
theorem dksX6_tape_0 : cX6_tape.data.toList.drop 0 = dktX6_tape_0 := by decide +kernel
theorem dksX6_tape_1 : cX6_tape.data.toList.drop 23 = dktX6_tape_1 := dk_seg dksX6_tape_0 23 rfl rfl
theorem dksX6_tape_2 : cX6_tape.data.toList.drop 47 = dktX6_tape_2 := dk_seg dksX6_tape_1 24 rfl rfl
theorem dksX6_tape_3 : cX6_tape.data.toList.drop 71 = dktX6_tape_3 := dk_seg dksX6_tape_2 24 rfl rfl
theorem dX6_tape_0 : decode cX6_tape 0 = .ok (.iload_n 1, 1) := dk_27 (dk_at dksX6_tape_0 0 rfl rfl)
theorem dX6_tape_1 : decode cX6_tape 1 = .ok (.invokestatic 275, 3) := dk_184 1 19 (dk_at dksX6_tape_0 1 rfl rfl)
theorem dX6_tape_4 : decode cX6_tape 4 = .ok (.ifCond .ne 5, 3) := dk_154 0 5 (dk_at dksX6_tape_0 4 rfl rfl)
theorem dX6_tape_7 : decode cX6_tape 7 = .ok (.iconst (-1), 1) := dk_2 (dk_at dksX6_tape_0 7 rfl rfl)
theorem dX6_tape_8 : decode cX6_tape 8 = .ok (.ireturn, 1) := dk_172 (dk_at dksX6_tape_0 8 rfl rfl)
theorem dX6_tape_9 : decode cX6_tape 9 = .ok (.iload_n 2, 1) := dk_28 (dk_at dksX6_tape_0 9 rfl rfl)
theorem dX6_tape_10 : decode cX6_tape 10 = .ok (.iconst (-1), 1) := dk_2 (dk_at dksX6_tape_0 10 rfl rfl)
theorem dX6_tape_11 : decode cX6_tape 11 = .ok (.iconst 4, 1) := dk_7 (dk_at dksX6_tape_0 11 rfl rfl)
theorem dX6_tape_12 : decode cX6_tape 12 = .ok (.invokestatic 52, 3) := dk_184 0 52 (dk_at dksX6_tape_0 12 rfl rfl)
theorem dX6_tape_15 : decode cX6_tape 15 = .ok (.ifCond .eq 13, 3) := dk_153 0 13 (dk_at dksX6_tape_0 15 rfl rfl)
theorem dX6_tape_18 : decode cX6_tape 18 = .ok (.iload_n 2, 1) := dk_28 (dk_at dksX6_tape_0 18 rfl rfl)
theorem dX6_tape_19 : decode cX6_tape 19 = .ok (.ifCond .lt 12, 3) := dk_155 0 12 (dk_at dksX6_tape_0 19 rfl rfl)
theorem dX6_tape_22 : decode cX6_tape 22 = .ok (.iload_n 3, 1) := dk_29 (dk_at dksX6_tape_0 22 rfl rfl)
theorem dX6_tape_23 : decode cX6_tape 23 = .ok (.bipush 60, 2) := dk_16 60 (dk_at dksX6_tape_1 0 rfl rfl)
theorem dX6_tape_25 : decode cX6_tape 25 = .ok (.if_icmp .le 6, 3) := dk_164 0 6 (dk_at dksX6_tape_1 2 rfl rfl)
theorem dX6_tape_28 : decode cX6_tape 28 = .ok (.bipush (-2), 2) := dk_16 254 (dk_at dksX6_tape_1 5 rfl rfl)
theorem dX6_tape_30 : decode cX6_tape 30 = .ok (.ireturn, 1) := dk_172 (dk_at dksX6_tape_1 7 rfl rfl)
theorem dX6_tape_31 : decode cX6_tape 31 = .ok (.iload_n 2, 1) := dk_28 (dk_at dksX6_tape_1 8 rfl rfl)
theorem dX6_tape_32 : decode cX6_tape 32 = .ok (.ifCond .lt 10, 3) := dk_155 0 10 (dk_at dksX6_tape_1 9 rfl rfl)
theorem dX6_tape_35 : decode cX6_tape 35 = .ok (.iload_n 3, 1) := dk_29 (dk_at dksX6_tape_1 12 rfl rfl)
theorem dX6_tape_36 : decode cX6_tape 36 = .ok (.ifCond .ge 6, 3) := dk_156 0 6 (dk_at dksX6_tape_1 13 rfl rfl)
theorem dX6_tape_39 : decode cX6_tape 39 = .ok (.bipush (-14), 2) := dk_16 242 (dk_at dksX6_tape_1 16 rfl rfl)
theorem dX6_tape_41 : decode cX6_tape 41 = .ok (.ireturn, 1) := dk_172 (dk_at dksX6_tape_1 18 rfl rfl)
theorem dX6_tape_42 : decode cX6_tape 42 = .ok (.aload_n 0, 1) := dk_42 (dk_at dksX6_tape_1 19 rfl rfl)
theorem dX6_tape_43 : decode cX6_tape 43 = .ok (.getfield 39, 3) := dk_180 0 39 (dk_at dksX6_tape_1 20 rfl rfl)
theorem dX6_tape_46 : decode cX6_tape 46 = .ok (.iload_n 1, 1) := dk_27 (dk_at dksX6_tape_1 23 rfl rfl)
theorem dX6_tape_47 : decode cX6_tape 47 = .ok (.iload_n 2, 1) := dk_28 (dk_at dksX6_tape_2 0 rfl rfl)
theorem dX6_tape_48 : decode cX6_tape 48 = .ok (.iastore, 1) := dk_79 (dk_at dksX6_tape_2 1 rfl rfl)
theorem dX6_tape_49 : decode cX6_tape 49 = .ok (.aload_n 0, 1) := dk_42 (dk_at dksX6_tape_2 2 rfl rfl)
theorem dX6_tape_50 : decode cX6_tape 50 = .ok (.getfield 42, 3) := dk_180 0 42 (dk_at dksX6_tape_2 3 rfl rfl)
theorem dX6_tape_53 : decode cX6_tape 53 = .ok (.iload_n 1, 1) := dk_27 (dk_at dksX6_tape_2 6 rfl rfl)
theorem dX6_tape_54 : decode cX6_tape 54 = .ok (.iload_n 2, 1) := dk_28 (dk_at dksX6_tape_2 7 rfl rfl)
theorem dX6_tape_55 : decode cX6_tape 55 = .ok (.ifCond .ge 7, 3) := dk_156 0 7 (dk_at dksX6_tape_2 8 rfl rfl)
theorem dX6_tape_58 : decode cX6_tape 58 = .ok (.iconst 0, 1) := dk_3 (dk_at dksX6_tape_2 11 rfl rfl)
theorem dX6_tape_59 : decode cX6_tape 59 = .ok (.goto 4, 3) := dk_167 0 4 (dk_at dksX6_tape_2 12 rfl rfl)
theorem dX6_tape_62 : decode cX6_tape 62 = .ok (.iload_n 3, 1) := dk_29 (dk_at dksX6_tape_2 15 rfl rfl)
theorem dX6_tape_63 : decode cX6_tape 63 = .ok (.iastore, 1) := dk_79 (dk_at dksX6_tape_2 16 rfl rfl)
theorem dX6_tape_64 : decode cX6_tape 64 = .ok (.iconst 0, 1) := dk_3 (dk_at dksX6_tape_2 17 rfl rfl)
theorem dX6_tape_65 : decode cX6_tape 65 = .ok (.istore 4, 2) := dk_54 4 (dk_at dksX6_tape_2 18 rfl rfl)
theorem dX6_tape_67 : decode cX6_tape 67 = .ok (.iload 4, 2) := dk_21 4 (dk_at dksX6_tape_2 20 rfl rfl)
theorem dX6_tape_69 : decode cX6_tape 69 = .ok (.bipush 60, 2) := dk_16 60 (dk_at dksX6_tape_2 22 rfl rfl)
theorem dX6_tape_71 : decode cX6_tape 71 = .ok (.if_icmp .ge 22, 3) := dk_162 0 22 (dk_at dksX6_tape_3 0 rfl rfl)
theorem dX6_tape_74 : decode cX6_tape 74 = .ok (.aload_n 0, 1) := dk_42 (dk_at dksX6_tape_3 3 rfl rfl)
theorem dX6_tape_75 : decode cX6_tape 75 = .ok (.getfield 45, 3) := dk_180 0 45 (dk_at dksX6_tape_3 4 rfl rfl)
theorem dX6_tape_78 : decode cX6_tape 78 = .ok (.bipush 60, 2) := dk_16 60 (dk_at dksX6_tape_3 7 rfl rfl)
theorem dX6_tape_80 : decode cX6_tape 80 = .ok (.iload_n 1, 1) := dk_27 (dk_at dksX6_tape_3 9 rfl rfl)
theorem dX6_tape_81 : decode cX6_tape 81 = .ok (.imul, 1) := dk_104 (dk_at dksX6_tape_3 10 rfl rfl)
theorem dX6_tape_82 : decode cX6_tape 82 = .ok (.iload 4, 2) := dk_21 4 (dk_at dksX6_tape_3 11 rfl rfl)
theorem dX6_tape_84 : decode cX6_tape 84 = .ok (.iadd, 1) := dk_96 (dk_at dksX6_tape_3 13 rfl rfl)
theorem dX6_tape_85 : decode cX6_tape 85 = .ok (.lconst 0, 1) := dk_9 (dk_at dksX6_tape_3 14 rfl rfl)
theorem dX6_tape_86 : decode cX6_tape 86 = .ok (.lastore, 1) := dk_80 (dk_at dksX6_tape_3 15 rfl rfl)
theorem dX6_tape_87 : decode cX6_tape 87 = .ok (.iinc 4 1, 3) := dk_132 4 1 (dk_at dksX6_tape_3 16 rfl rfl)
theorem dX6_tape_90 : decode cX6_tape 90 = .ok (.goto (-23), 3) := dk_167 255 233 (dk_at dksX6_tape_3 19 rfl rfl)
theorem dX6_tape_93 : decode cX6_tape 93 = .ok (.iconst 1, 1) := dk_4 (dk_at dksX6_tape_3 22 rfl rfl)
theorem dX6_tape_94 : decode cX6_tape 94 = .ok (.ireturn, 1) := dk_172 (dk_at dksX6_tape_3 23 rfl rfl)
theorem cf_tape : xV yX6_tape RX6 cX6_tape 5 (some .int) 3 := ⟨q1840, q1841, q96, q1842, ⟨rfl, by decide +kernel, by decide +kernel, by decide +kernel⟩, by decide⟩
abbrev cX6_kept : ByteArray := prog_23_method_86_code
def yX6_kept : MethodName := ⟨RX6, "kept", "(IJ)J"⟩
def dkwX6_kept_3 : List UInt8 := [167, 0, 4, 9, 173]
abbrev dktX6_kept_3 : List UInt8 := dkwX6_kept_3 ++ []
def dkwX6_kept_2 : List UInt8 := [31, 136, 145, 133, 173, 31, 136, 147, 133, 173, 31, 136, 133, 173, 31, 173, 31, 9, 148, 153, 0, 7, 10]
abbrev dktX6_kept_2 : List UInt8 := dkwX6_kept_2 ++ dktX6_kept_3
def dkwX6_kept_1 : List UInt8 := [170, 0, 0, 0, 0, 0, 47, 0, 0, 0, 0, 0, 0, 0, 3, 0, 0, 0, 31, 0, 0, 0, 36, 0, 0, 0, 41, 0, 0, 0, 45]
abbrev dktX6_kept_1 : List UInt8 := dkwX6_kept_1 ++ dktX6_kept_2
def dkwX6_kept_0 : List UInt8 := [26]
abbrev dktX6_kept_0 : List UInt8 := dkwX6_kept_0 ++ dktX6_kept_1
theorem dksX6_kept_0 : cX6_kept.data.toList.drop 0 = dktX6_kept_0 := by decide +kernel
theorem dksX6_kept_1 : cX6_kept.data.toList.drop 1 = dktX6_kept_1 := dk_seg dksX6_kept_0 1 rfl rfl
theorem dksX6_kept_2 : cX6_kept.data.toList.drop 32 = dktX6_kept_2 := dk_seg dksX6_kept_1 31 rfl rfl
theorem dksX6_kept_3 : cX6_kept.data.toList.drop 55 = dktX6_kept_3 := dk_seg dksX6_kept_2 23 rfl rfl
theorem dX6_kept_0 : decode cX6_kept 0 = .ok (.iload_n 0, 1) := dk_26 (dk_at dksX6_kept_0 0 rfl rfl)
theorem dX6_kept_1 : decode cX6_kept 1 = .ok (.tableswitch 47 0 3 #[31, 36, 41, 45], 31) := by decide +kernel
theorem dX6_kept_32 : decode cX6_kept 32 = .ok (.lload_n 1, 1) := dk_31 (dk_at dksX6_kept_2 0 rfl rfl)
theorem dX6_kept_33 : decode cX6_kept 33 = .ok (.l2i, 1) := dk_136 (dk_at dksX6_kept_2 1 rfl rfl)
theorem dX6_kept_34 : decode cX6_kept 34 = .ok (.i2b, 1) := dk_145 (dk_at dksX6_kept_2 2 rfl rfl)
theorem dX6_kept_35 : decode cX6_kept 35 = .ok (.i2l, 1) := dk_133 (dk_at dksX6_kept_2 3 rfl rfl)
theorem dX6_kept_36 : decode cX6_kept 36 = .ok (.lreturn, 1) := dk_173 (dk_at dksX6_kept_2 4 rfl rfl)
theorem dX6_kept_37 : decode cX6_kept 37 = .ok (.lload_n 1, 1) := dk_31 (dk_at dksX6_kept_2 5 rfl rfl)
theorem dX6_kept_38 : decode cX6_kept 38 = .ok (.l2i, 1) := dk_136 (dk_at dksX6_kept_2 6 rfl rfl)
theorem dX6_kept_39 : decode cX6_kept 39 = .ok (.i2s, 1) := dk_147 (dk_at dksX6_kept_2 7 rfl rfl)
theorem dX6_kept_40 : decode cX6_kept 40 = .ok (.i2l, 1) := dk_133 (dk_at dksX6_kept_2 8 rfl rfl)
theorem dX6_kept_41 : decode cX6_kept 41 = .ok (.lreturn, 1) := dk_173 (dk_at dksX6_kept_2 9 rfl rfl)
theorem dX6_kept_42 : decode cX6_kept 42 = .ok (.lload_n 1, 1) := dk_31 (dk_at dksX6_kept_2 10 rfl rfl)
theorem dX6_kept_43 : decode cX6_kept 43 = .ok (.l2i, 1) := dk_136 (dk_at dksX6_kept_2 11 rfl rfl)
theorem dX6_kept_44 : decode cX6_kept 44 = .ok (.i2l, 1) := dk_133 (dk_at dksX6_kept_2 12 rfl rfl)
theorem dX6_kept_45 : decode cX6_kept 45 = .ok (.lreturn, 1) := dk_173 (dk_at dksX6_kept_2 13 rfl rfl)
theorem dX6_kept_46 : decode cX6_kept 46 = .ok (.lload_n 1, 1) := dk_31 (dk_at dksX6_kept_2 14 rfl rfl)
theorem dX6_kept_47 : decode cX6_kept 47 = .ok (.lreturn, 1) := dk_173 (dk_at dksX6_kept_2 15 rfl rfl)
theorem dX6_kept_48 : decode cX6_kept 48 = .ok (.lload_n 1, 1) := dk_31 (dk_at dksX6_kept_2 16 rfl rfl)
theorem dX6_kept_49 : decode cX6_kept 49 = .ok (.lconst 0, 1) := dk_9 (dk_at dksX6_kept_2 17 rfl rfl)
theorem dX6_kept_50 : decode cX6_kept 50 = .ok (.lcmp, 1) := dk_148 (dk_at dksX6_kept_2 18 rfl rfl)
theorem dX6_kept_51 : decode cX6_kept 51 = .ok (.ifCond .eq 7, 3) := dk_153 0 7 (dk_at dksX6_kept_2 19 rfl rfl)
theorem dX6_kept_54 : decode cX6_kept 54 = .ok (.lconst 1, 1) := dk_10 (dk_at dksX6_kept_2 22 rfl rfl)
theorem dX6_kept_55 : decode cX6_kept 55 = .ok (.goto 4, 3) := dk_167 0 4 (dk_at dksX6_kept_3 0 rfl rfl)
theorem dX6_kept_58 : decode cX6_kept 58 = .ok (.lconst 0, 1) := dk_9 (dk_at dksX6_kept_3 3 rfl rfl)
theorem dX6_kept_59 : decode cX6_kept 59 = .ok (.lreturn, 1) := dk_173 (dk_at dksX6_kept_3 4 rfl rfl)
theorem cf_kept : xS yX6_kept cX6_kept 3 (some .long) 2 := ⟨q1848, q96, q1849, ⟨by decide +kernel, by decide +kernel, by decide +kernel⟩, by decide⟩
abbrev cX6_item : ByteArray := prog_23_method_87_code
def yX6_item : MethodName := ⟨RX6, "item", "(IIJ)I"⟩
def dkwX6_item_2 : List UInt8 := [28, 96, 42, 180, 0, 39, 27, 46, 33, 184, 1, 47, 80, 4, 172]
abbrev dktX6_item_2 : List UInt8 := dkwX6_item_2 ++ []
def dkwX6_item_1 : List UInt8 := [180, 0, 42, 27, 46, 4, 100, 184, 0, 52, 154, 0, 6, 16, 243, 172, 42, 180, 0, 45, 16, 60, 27, 104]
abbrev dktX6_item_1 : List UInt8 := dkwX6_item_1 ++ dktX6_item_2
def dkwX6_item_0 : List UInt8 := [27, 184, 1, 19, 154, 0, 5, 2, 172, 42, 180, 0, 39, 27, 46, 156, 0, 6, 16, 245, 172, 28, 3, 42]
abbrev dktX6_item_0 : List UInt8 := dkwX6_item_0 ++ dktX6_item_1
theorem dksX6_item_0 : cX6_item.data.toList.drop 0 = dktX6_item_0 := by decide +kernel
theorem dksX6_item_1 : cX6_item.data.toList.drop 24 = dktX6_item_1 := dk_seg dksX6_item_0 24 rfl rfl
theorem dksX6_item_2 : cX6_item.data.toList.drop 48 = dktX6_item_2 := dk_seg dksX6_item_1 24 rfl rfl
theorem dX6_item_0 : decode cX6_item 0 = .ok (.iload_n 1, 1) := dk_27 (dk_at dksX6_item_0 0 rfl rfl)
theorem dX6_item_1 : decode cX6_item 1 = .ok (.invokestatic 275, 3) := dk_184 1 19 (dk_at dksX6_item_0 1 rfl rfl)
theorem dX6_item_4 : decode cX6_item 4 = .ok (.ifCond .ne 5, 3) := dk_154 0 5 (dk_at dksX6_item_0 4 rfl rfl)
theorem dX6_item_7 : decode cX6_item 7 = .ok (.iconst (-1), 1) := dk_2 (dk_at dksX6_item_0 7 rfl rfl)
theorem dX6_item_8 : decode cX6_item 8 = .ok (.ireturn, 1) := dk_172 (dk_at dksX6_item_0 8 rfl rfl)
theorem dX6_item_9 : decode cX6_item 9 = .ok (.aload_n 0, 1) := dk_42 (dk_at dksX6_item_0 9 rfl rfl)
theorem dX6_item_10 : decode cX6_item 10 = .ok (.getfield 39, 3) := dk_180 0 39 (dk_at dksX6_item_0 10 rfl rfl)
theorem dX6_item_13 : decode cX6_item 13 = .ok (.iload_n 1, 1) := dk_27 (dk_at dksX6_item_0 13 rfl rfl)
theorem dX6_item_14 : decode cX6_item 14 = .ok (.iaload, 1) := dk_46 (dk_at dksX6_item_0 14 rfl rfl)
theorem dX6_item_15 : decode cX6_item 15 = .ok (.ifCond .ge 6, 3) := dk_156 0 6 (dk_at dksX6_item_0 15 rfl rfl)
theorem dX6_item_18 : decode cX6_item 18 = .ok (.bipush (-11), 2) := dk_16 245 (dk_at dksX6_item_0 18 rfl rfl)
theorem dX6_item_20 : decode cX6_item 20 = .ok (.ireturn, 1) := dk_172 (dk_at dksX6_item_0 20 rfl rfl)
theorem dX6_item_21 : decode cX6_item 21 = .ok (.iload_n 2, 1) := dk_28 (dk_at dksX6_item_0 21 rfl rfl)
theorem dX6_item_22 : decode cX6_item 22 = .ok (.iconst 0, 1) := dk_3 (dk_at dksX6_item_0 22 rfl rfl)
theorem dX6_item_23 : decode cX6_item 23 = .ok (.aload_n 0, 1) := dk_42 (dk_at dksX6_item_0 23 rfl rfl)
theorem dX6_item_24 : decode cX6_item 24 = .ok (.getfield 42, 3) := dk_180 0 42 (dk_at dksX6_item_1 0 rfl rfl)
theorem dX6_item_27 : decode cX6_item 27 = .ok (.iload_n 1, 1) := dk_27 (dk_at dksX6_item_1 3 rfl rfl)
theorem dX6_item_28 : decode cX6_item 28 = .ok (.iaload, 1) := dk_46 (dk_at dksX6_item_1 4 rfl rfl)
theorem dX6_item_29 : decode cX6_item 29 = .ok (.iconst 1, 1) := dk_4 (dk_at dksX6_item_1 5 rfl rfl)
theorem dX6_item_30 : decode cX6_item 30 = .ok (.isub, 1) := dk_100 (dk_at dksX6_item_1 6 rfl rfl)
theorem dX6_item_31 : decode cX6_item 31 = .ok (.invokestatic 52, 3) := dk_184 0 52 (dk_at dksX6_item_1 7 rfl rfl)
theorem dX6_item_34 : decode cX6_item 34 = .ok (.ifCond .ne 6, 3) := dk_154 0 6 (dk_at dksX6_item_1 10 rfl rfl)
theorem dX6_item_37 : decode cX6_item 37 = .ok (.bipush (-13), 2) := dk_16 243 (dk_at dksX6_item_1 13 rfl rfl)
theorem dX6_item_39 : decode cX6_item 39 = .ok (.ireturn, 1) := dk_172 (dk_at dksX6_item_1 15 rfl rfl)
theorem dX6_item_40 : decode cX6_item 40 = .ok (.aload_n 0, 1) := dk_42 (dk_at dksX6_item_1 16 rfl rfl)
theorem dX6_item_41 : decode cX6_item 41 = .ok (.getfield 45, 3) := dk_180 0 45 (dk_at dksX6_item_1 17 rfl rfl)
theorem dX6_item_44 : decode cX6_item 44 = .ok (.bipush 60, 2) := dk_16 60 (dk_at dksX6_item_1 20 rfl rfl)
theorem dX6_item_46 : decode cX6_item 46 = .ok (.iload_n 1, 1) := dk_27 (dk_at dksX6_item_1 22 rfl rfl)
theorem dX6_item_47 : decode cX6_item 47 = .ok (.imul, 1) := dk_104 (dk_at dksX6_item_1 23 rfl rfl)
theorem dX6_item_48 : decode cX6_item 48 = .ok (.iload_n 2, 1) := dk_28 (dk_at dksX6_item_2 0 rfl rfl)
theorem dX6_item_49 : decode cX6_item 49 = .ok (.iadd, 1) := dk_96 (dk_at dksX6_item_2 1 rfl rfl)
theorem dX6_item_50 : decode cX6_item 50 = .ok (.aload_n 0, 1) := dk_42 (dk_at dksX6_item_2 2 rfl rfl)
theorem dX6_item_51 : decode cX6_item 51 = .ok (.getfield 39, 3) := dk_180 0 39 (dk_at dksX6_item_2 3 rfl rfl)
theorem dX6_item_54 : decode cX6_item 54 = .ok (.iload_n 1, 1) := dk_27 (dk_at dksX6_item_2 6 rfl rfl)
theorem dX6_item_55 : decode cX6_item 55 = .ok (.iaload, 1) := dk_46 (dk_at dksX6_item_2 7 rfl rfl)
theorem dX6_item_56 : decode cX6_item 56 = .ok (.lload_n 3, 1) := dk_33 (dk_at dksX6_item_2 8 rfl rfl)
theorem dX6_item_57 : decode cX6_item 57 = .ok (.invokestatic 303, 3) := dk_184 1 47 (dk_at dksX6_item_2 9 rfl rfl)
theorem dX6_item_60 : decode cX6_item 60 = .ok (.lastore, 1) := dk_80 (dk_at dksX6_item_2 12 rfl rfl)
theorem dX6_item_61 : decode cX6_item 61 = .ok (.iconst 1, 1) := dk_4 (dk_at dksX6_item_2 13 rfl rfl)
theorem dX6_item_62 : decode cX6_item 62 = .ok (.ireturn, 1) := dk_172 (dk_at dksX6_item_2 14 rfl rfl)
theorem cf_item : xV yX6_item RX6 cX6_item 5 (some .int) 3 := ⟨q1844, q1845, q96, q1846, ⟨rfl, by decide +kernel, by decide +kernel, by decide +kernel⟩, by decide⟩
abbrev cX6_read : ByteArray := prog_23_method_88_code
def yX6_read : MethodName := ⟨RX6, "read", "(II)J"⟩
def dkwX6_read_2 : List UInt8 := [20, 1, 10, 173]
abbrev dktX6_read_2 : List UInt8 := dkwX6_read_2 ++ []
def dkwX6_read_1 : List UInt8 := [4, 100, 184, 0, 52, 153, 0, 17, 42, 180, 0, 45, 16, 60, 27, 104, 28, 96, 47, 167, 0, 6]
abbrev dktX6_read_1 : List UInt8 := dkwX6_read_1 ++ dktX6_read_2
def dkwX6_read_0 : List UInt8 := [27, 184, 1, 19, 153, 0, 42, 42, 180, 0, 39, 27, 46, 155, 0, 33, 28, 3, 42, 180, 0, 42, 27, 46]
abbrev dktX6_read_0 : List UInt8 := dkwX6_read_0 ++ dktX6_read_1
theorem dksX6_read_0 : cX6_read.data.toList.drop 0 = dktX6_read_0 := by decide +kernel
theorem dksX6_read_1 : cX6_read.data.toList.drop 24 = dktX6_read_1 := dk_seg dksX6_read_0 24 rfl rfl
theorem dksX6_read_2 : cX6_read.data.toList.drop 46 = dktX6_read_2 := dk_seg dksX6_read_1 22 rfl rfl
theorem dX6_read_0 : decode cX6_read 0 = .ok (.iload_n 1, 1) := dk_27 (dk_at dksX6_read_0 0 rfl rfl)
theorem dX6_read_1 : decode cX6_read 1 = .ok (.invokestatic 275, 3) := dk_184 1 19 (dk_at dksX6_read_0 1 rfl rfl)
theorem dX6_read_4 : decode cX6_read 4 = .ok (.ifCond .eq 42, 3) := dk_153 0 42 (dk_at dksX6_read_0 4 rfl rfl)
theorem dX6_read_7 : decode cX6_read 7 = .ok (.aload_n 0, 1) := dk_42 (dk_at dksX6_read_0 7 rfl rfl)
theorem dX6_read_8 : decode cX6_read 8 = .ok (.getfield 39, 3) := dk_180 0 39 (dk_at dksX6_read_0 8 rfl rfl)
theorem dX6_read_11 : decode cX6_read 11 = .ok (.iload_n 1, 1) := dk_27 (dk_at dksX6_read_0 11 rfl rfl)
theorem dX6_read_12 : decode cX6_read 12 = .ok (.iaload, 1) := dk_46 (dk_at dksX6_read_0 12 rfl rfl)
theorem dX6_read_13 : decode cX6_read 13 = .ok (.ifCond .lt 33, 3) := dk_155 0 33 (dk_at dksX6_read_0 13 rfl rfl)
theorem dX6_read_16 : decode cX6_read 16 = .ok (.iload_n 2, 1) := dk_28 (dk_at dksX6_read_0 16 rfl rfl)
theorem dX6_read_17 : decode cX6_read 17 = .ok (.iconst 0, 1) := dk_3 (dk_at dksX6_read_0 17 rfl rfl)
theorem dX6_read_18 : decode cX6_read 18 = .ok (.aload_n 0, 1) := dk_42 (dk_at dksX6_read_0 18 rfl rfl)
theorem dX6_read_19 : decode cX6_read 19 = .ok (.getfield 42, 3) := dk_180 0 42 (dk_at dksX6_read_0 19 rfl rfl)
theorem dX6_read_22 : decode cX6_read 22 = .ok (.iload_n 1, 1) := dk_27 (dk_at dksX6_read_0 22 rfl rfl)
theorem dX6_read_23 : decode cX6_read 23 = .ok (.iaload, 1) := dk_46 (dk_at dksX6_read_0 23 rfl rfl)
theorem dX6_read_24 : decode cX6_read 24 = .ok (.iconst 1, 1) := dk_4 (dk_at dksX6_read_1 0 rfl rfl)
theorem dX6_read_25 : decode cX6_read 25 = .ok (.isub, 1) := dk_100 (dk_at dksX6_read_1 1 rfl rfl)
theorem dX6_read_26 : decode cX6_read 26 = .ok (.invokestatic 52, 3) := dk_184 0 52 (dk_at dksX6_read_1 2 rfl rfl)
theorem dX6_read_29 : decode cX6_read 29 = .ok (.ifCond .eq 17, 3) := dk_153 0 17 (dk_at dksX6_read_1 5 rfl rfl)
theorem dX6_read_32 : decode cX6_read 32 = .ok (.aload_n 0, 1) := dk_42 (dk_at dksX6_read_1 8 rfl rfl)
theorem dX6_read_33 : decode cX6_read 33 = .ok (.getfield 45, 3) := dk_180 0 45 (dk_at dksX6_read_1 9 rfl rfl)
theorem dX6_read_36 : decode cX6_read 36 = .ok (.bipush 60, 2) := dk_16 60 (dk_at dksX6_read_1 12 rfl rfl)
theorem dX6_read_38 : decode cX6_read 38 = .ok (.iload_n 1, 1) := dk_27 (dk_at dksX6_read_1 14 rfl rfl)
theorem dX6_read_39 : decode cX6_read 39 = .ok (.imul, 1) := dk_104 (dk_at dksX6_read_1 15 rfl rfl)
theorem dX6_read_40 : decode cX6_read 40 = .ok (.iload_n 2, 1) := dk_28 (dk_at dksX6_read_1 16 rfl rfl)
theorem dX6_read_41 : decode cX6_read 41 = .ok (.iadd, 1) := dk_96 (dk_at dksX6_read_1 17 rfl rfl)
theorem dX6_read_42 : decode cX6_read 42 = .ok (.laload, 1) := dk_47 (dk_at dksX6_read_1 18 rfl rfl)
theorem dX6_read_43 : decode cX6_read 43 = .ok (.goto 6, 3) := dk_167 0 6 (dk_at dksX6_read_1 19 rfl rfl)
theorem dX6_read_46 : decode cX6_read 46 = .ok (.ldc2_w 266, 3) := dk_20 1 10 (dk_at dksX6_read_2 0 rfl rfl)
theorem dX6_read_49 : decode cX6_read 49 = .ok (.lreturn, 1) := dk_173 (dk_at dksX6_read_2 3 rfl rfl)
theorem cf_read : xV yX6_read RX6 cX6_read 3 (some .long) 2 := ⟨q1851, q1852, q96, q1853, ⟨rfl, by decide +kernel, by decide +kernel, by decide +kernel⟩, by decide⟩
abbrev cX6_shift : ByteArray := prog_23_method_89_code
def yX6_shift : MethodName := ⟨RX6, "shift", "(IIIII)I"⟩
def dkwX6_shift_7 : List UInt8 := [132, 6, 1, 167, 255, 197, 21, 5, 172]
abbrev dktX6_shift_7 : List UInt8 := dkwX6_shift_7 ++ []
def dkwX6_shift_6 : List UInt8 := [104, 21, 4, 96, 21, 7, 96, 42, 180, 0, 45, 16, 60, 27, 104, 28, 96, 21, 7, 96, 47, 80]
abbrev dktX6_shift_6 : List UInt8 := dkwX6_shift_6 ++ dktX6_shift_7
def dkwX6_shift_5 : List UInt8 := [164, 0, 8, 21, 6, 167, 0, 10, 21, 5, 4, 100, 21, 6, 100, 54, 7, 42, 180, 0, 45, 16, 60, 29]
abbrev dktX6_shift_5 : List UInt8 := dkwX6_shift_5 ++ dktX6_shift_6
def dkwX6_shift_4 : List UInt8 := [21, 4, 100, 164, 0, 6, 16, 243, 172, 3, 54, 6, 21, 6, 21, 5, 162, 0, 58, 28, 21, 4]
abbrev dktX6_shift_4 : List UInt8 := dkwX6_shift_4 ++ dktX6_shift_5
def dkwX6_shift_3 : List UInt8 := [155, 0, 30, 21, 5, 42, 180, 0, 42, 27, 46, 28, 100, 163, 0, 17, 21, 5, 42, 180, 0, 42, 29, 46]
abbrev dktX6_shift_3 : List UInt8 := dkwX6_shift_3 ++ dktX6_shift_4
def dkwX6_shift_2 : List UInt8 := [180, 0, 39, 29, 46, 159, 0, 6, 16, 244, 172, 21, 5, 155, 0, 39, 28, 155, 0, 35, 21, 4]
abbrev dktX6_shift_2 : List UInt8 := dkwX6_shift_2 ++ dktX6_shift_3
def dkwX6_shift_1 : List UInt8 := [155, 0, 12, 42, 180, 0, 39, 29, 46, 156, 0, 6, 16, 245, 172, 42, 180, 0, 39, 27, 46, 42]
abbrev dktX6_shift_1 : List UInt8 := dkwX6_shift_1 ++ dktX6_shift_2
def dkwX6_shift_0 : List UInt8 := [27, 184, 1, 19, 153, 0, 10, 29, 184, 1, 19, 154, 0, 5, 2, 172, 42, 180, 0, 39, 27, 46]
abbrev dktX6_shift_0 : List UInt8 := dkwX6_shift_0 ++ dktX6_shift_1
theorem dksX6_shift_0 : cX6_shift.data.toList.drop 0 = dktX6_shift_0 := by decide +kernel
theorem dksX6_shift_1 : cX6_shift.data.toList.drop 22 = dktX6_shift_1 := dk_seg dksX6_shift_0 22 rfl rfl
theorem dksX6_shift_2 : cX6_shift.data.toList.drop 44 = dktX6_shift_2 := dk_seg dksX6_shift_1 22 rfl rfl
theorem dksX6_shift_3 : cX6_shift.data.toList.drop 66 = dktX6_shift_3 := dk_seg dksX6_shift_2 22 rfl rfl
theorem dksX6_shift_4 : cX6_shift.data.toList.drop 90 = dktX6_shift_4 := dk_seg dksX6_shift_3 24 rfl rfl
theorem dksX6_shift_5 : cX6_shift.data.toList.drop 112 = dktX6_shift_5 := dk_seg dksX6_shift_4 22 rfl rfl
theorem dksX6_shift_6 : cX6_shift.data.toList.drop 136 = dktX6_shift_6 := dk_seg dksX6_shift_5 24 rfl rfl
theorem dksX6_shift_7 : cX6_shift.data.toList.drop 158 = dktX6_shift_7 := dk_seg dksX6_shift_6 22 rfl rfl
theorem dX6_shift_0 : decode cX6_shift 0 = .ok (.iload_n 1, 1) := dk_27 (dk_at dksX6_shift_0 0 rfl rfl)
theorem dX6_shift_1 : decode cX6_shift 1 = .ok (.invokestatic 275, 3) := dk_184 1 19 (dk_at dksX6_shift_0 1 rfl rfl)
theorem dX6_shift_4 : decode cX6_shift 4 = .ok (.ifCond .eq 10, 3) := dk_153 0 10 (dk_at dksX6_shift_0 4 rfl rfl)
theorem dX6_shift_7 : decode cX6_shift 7 = .ok (.iload_n 3, 1) := dk_29 (dk_at dksX6_shift_0 7 rfl rfl)
theorem dX6_shift_8 : decode cX6_shift 8 = .ok (.invokestatic 275, 3) := dk_184 1 19 (dk_at dksX6_shift_0 8 rfl rfl)
theorem dX6_shift_11 : decode cX6_shift 11 = .ok (.ifCond .ne 5, 3) := dk_154 0 5 (dk_at dksX6_shift_0 11 rfl rfl)
theorem dX6_shift_14 : decode cX6_shift 14 = .ok (.iconst (-1), 1) := dk_2 (dk_at dksX6_shift_0 14 rfl rfl)
theorem dX6_shift_15 : decode cX6_shift 15 = .ok (.ireturn, 1) := dk_172 (dk_at dksX6_shift_0 15 rfl rfl)
theorem dX6_shift_16 : decode cX6_shift 16 = .ok (.aload_n 0, 1) := dk_42 (dk_at dksX6_shift_0 16 rfl rfl)
theorem dX6_shift_17 : decode cX6_shift 17 = .ok (.getfield 39, 3) := dk_180 0 39 (dk_at dksX6_shift_0 17 rfl rfl)
theorem dX6_shift_20 : decode cX6_shift 20 = .ok (.iload_n 1, 1) := dk_27 (dk_at dksX6_shift_0 20 rfl rfl)
theorem dX6_shift_21 : decode cX6_shift 21 = .ok (.iaload, 1) := dk_46 (dk_at dksX6_shift_0 21 rfl rfl)
theorem dX6_shift_22 : decode cX6_shift 22 = .ok (.ifCond .lt 12, 3) := dk_155 0 12 (dk_at dksX6_shift_1 0 rfl rfl)
theorem dX6_shift_25 : decode cX6_shift 25 = .ok (.aload_n 0, 1) := dk_42 (dk_at dksX6_shift_1 3 rfl rfl)
theorem dX6_shift_26 : decode cX6_shift 26 = .ok (.getfield 39, 3) := dk_180 0 39 (dk_at dksX6_shift_1 4 rfl rfl)
theorem dX6_shift_29 : decode cX6_shift 29 = .ok (.iload_n 3, 1) := dk_29 (dk_at dksX6_shift_1 7 rfl rfl)
theorem dX6_shift_30 : decode cX6_shift 30 = .ok (.iaload, 1) := dk_46 (dk_at dksX6_shift_1 8 rfl rfl)
theorem dX6_shift_31 : decode cX6_shift 31 = .ok (.ifCond .ge 6, 3) := dk_156 0 6 (dk_at dksX6_shift_1 9 rfl rfl)
theorem dX6_shift_34 : decode cX6_shift 34 = .ok (.bipush (-11), 2) := dk_16 245 (dk_at dksX6_shift_1 12 rfl rfl)
theorem dX6_shift_36 : decode cX6_shift 36 = .ok (.ireturn, 1) := dk_172 (dk_at dksX6_shift_1 14 rfl rfl)
theorem dX6_shift_37 : decode cX6_shift 37 = .ok (.aload_n 0, 1) := dk_42 (dk_at dksX6_shift_1 15 rfl rfl)
theorem dX6_shift_38 : decode cX6_shift 38 = .ok (.getfield 39, 3) := dk_180 0 39 (dk_at dksX6_shift_1 16 rfl rfl)
theorem dX6_shift_41 : decode cX6_shift 41 = .ok (.iload_n 1, 1) := dk_27 (dk_at dksX6_shift_1 19 rfl rfl)
theorem dX6_shift_42 : decode cX6_shift 42 = .ok (.iaload, 1) := dk_46 (dk_at dksX6_shift_1 20 rfl rfl)
theorem dX6_shift_43 : decode cX6_shift 43 = .ok (.aload_n 0, 1) := dk_42 (dk_at dksX6_shift_1 21 rfl rfl)
theorem dX6_shift_44 : decode cX6_shift 44 = .ok (.getfield 39, 3) := dk_180 0 39 (dk_at dksX6_shift_2 0 rfl rfl)
theorem dX6_shift_47 : decode cX6_shift 47 = .ok (.iload_n 3, 1) := dk_29 (dk_at dksX6_shift_2 3 rfl rfl)
theorem dX6_shift_48 : decode cX6_shift 48 = .ok (.iaload, 1) := dk_46 (dk_at dksX6_shift_2 4 rfl rfl)
theorem dX6_shift_49 : decode cX6_shift 49 = .ok (.if_icmp .eq 6, 3) := dk_159 0 6 (dk_at dksX6_shift_2 5 rfl rfl)
theorem dX6_shift_52 : decode cX6_shift 52 = .ok (.bipush (-12), 2) := dk_16 244 (dk_at dksX6_shift_2 8 rfl rfl)
theorem dX6_shift_54 : decode cX6_shift 54 = .ok (.ireturn, 1) := dk_172 (dk_at dksX6_shift_2 10 rfl rfl)
theorem dX6_shift_55 : decode cX6_shift 55 = .ok (.iload 5, 2) := dk_21 5 (dk_at dksX6_shift_2 11 rfl rfl)
theorem dX6_shift_57 : decode cX6_shift 57 = .ok (.ifCond .lt 39, 3) := dk_155 0 39 (dk_at dksX6_shift_2 13 rfl rfl)
theorem dX6_shift_60 : decode cX6_shift 60 = .ok (.iload_n 2, 1) := dk_28 (dk_at dksX6_shift_2 16 rfl rfl)
theorem dX6_shift_61 : decode cX6_shift 61 = .ok (.ifCond .lt 35, 3) := dk_155 0 35 (dk_at dksX6_shift_2 17 rfl rfl)
theorem dX6_shift_64 : decode cX6_shift 64 = .ok (.iload 4, 2) := dk_21 4 (dk_at dksX6_shift_2 20 rfl rfl)
theorem dX6_shift_66 : decode cX6_shift 66 = .ok (.ifCond .lt 30, 3) := dk_155 0 30 (dk_at dksX6_shift_3 0 rfl rfl)
theorem dX6_shift_69 : decode cX6_shift 69 = .ok (.iload 5, 2) := dk_21 5 (dk_at dksX6_shift_3 3 rfl rfl)
theorem dX6_shift_71 : decode cX6_shift 71 = .ok (.aload_n 0, 1) := dk_42 (dk_at dksX6_shift_3 5 rfl rfl)
theorem dX6_shift_72 : decode cX6_shift 72 = .ok (.getfield 42, 3) := dk_180 0 42 (dk_at dksX6_shift_3 6 rfl rfl)
theorem dX6_shift_75 : decode cX6_shift 75 = .ok (.iload_n 1, 1) := dk_27 (dk_at dksX6_shift_3 9 rfl rfl)
theorem dX6_shift_76 : decode cX6_shift 76 = .ok (.iaload, 1) := dk_46 (dk_at dksX6_shift_3 10 rfl rfl)
theorem dX6_shift_77 : decode cX6_shift 77 = .ok (.iload_n 2, 1) := dk_28 (dk_at dksX6_shift_3 11 rfl rfl)
theorem dX6_shift_78 : decode cX6_shift 78 = .ok (.isub, 1) := dk_100 (dk_at dksX6_shift_3 12 rfl rfl)
theorem dX6_shift_79 : decode cX6_shift 79 = .ok (.if_icmp .gt 17, 3) := dk_163 0 17 (dk_at dksX6_shift_3 13 rfl rfl)
theorem dX6_shift_82 : decode cX6_shift 82 = .ok (.iload 5, 2) := dk_21 5 (dk_at dksX6_shift_3 16 rfl rfl)
theorem dX6_shift_84 : decode cX6_shift 84 = .ok (.aload_n 0, 1) := dk_42 (dk_at dksX6_shift_3 18 rfl rfl)
theorem dX6_shift_85 : decode cX6_shift 85 = .ok (.getfield 42, 3) := dk_180 0 42 (dk_at dksX6_shift_3 19 rfl rfl)
theorem dX6_shift_88 : decode cX6_shift 88 = .ok (.iload_n 3, 1) := dk_29 (dk_at dksX6_shift_3 22 rfl rfl)
theorem dX6_shift_89 : decode cX6_shift 89 = .ok (.iaload, 1) := dk_46 (dk_at dksX6_shift_3 23 rfl rfl)
theorem dX6_shift_90 : decode cX6_shift 90 = .ok (.iload 4, 2) := dk_21 4 (dk_at dksX6_shift_4 0 rfl rfl)
theorem dX6_shift_92 : decode cX6_shift 92 = .ok (.isub, 1) := dk_100 (dk_at dksX6_shift_4 2 rfl rfl)
theorem dX6_shift_93 : decode cX6_shift 93 = .ok (.if_icmp .le 6, 3) := dk_164 0 6 (dk_at dksX6_shift_4 3 rfl rfl)
theorem dX6_shift_96 : decode cX6_shift 96 = .ok (.bipush (-13), 2) := dk_16 243 (dk_at dksX6_shift_4 6 rfl rfl)
theorem dX6_shift_98 : decode cX6_shift 98 = .ok (.ireturn, 1) := dk_172 (dk_at dksX6_shift_4 8 rfl rfl)
theorem dX6_shift_99 : decode cX6_shift 99 = .ok (.iconst 0, 1) := dk_3 (dk_at dksX6_shift_4 9 rfl rfl)
theorem dX6_shift_100 : decode cX6_shift 100 = .ok (.istore 6, 2) := dk_54 6 (dk_at dksX6_shift_4 10 rfl rfl)
theorem dX6_shift_102 : decode cX6_shift 102 = .ok (.iload 6, 2) := dk_21 6 (dk_at dksX6_shift_4 12 rfl rfl)
theorem dX6_shift_104 : decode cX6_shift 104 = .ok (.iload 5, 2) := dk_21 5 (dk_at dksX6_shift_4 14 rfl rfl)
theorem dX6_shift_106 : decode cX6_shift 106 = .ok (.if_icmp .ge 58, 3) := dk_162 0 58 (dk_at dksX6_shift_4 16 rfl rfl)
theorem dX6_shift_109 : decode cX6_shift 109 = .ok (.iload_n 2, 1) := dk_28 (dk_at dksX6_shift_4 19 rfl rfl)
theorem dX6_shift_110 : decode cX6_shift 110 = .ok (.iload 4, 2) := dk_21 4 (dk_at dksX6_shift_4 20 rfl rfl)
theorem dX6_shift_112 : decode cX6_shift 112 = .ok (.if_icmp .le 8, 3) := dk_164 0 8 (dk_at dksX6_shift_5 0 rfl rfl)
theorem dX6_shift_115 : decode cX6_shift 115 = .ok (.iload 6, 2) := dk_21 6 (dk_at dksX6_shift_5 3 rfl rfl)
theorem dX6_shift_117 : decode cX6_shift 117 = .ok (.goto 10, 3) := dk_167 0 10 (dk_at dksX6_shift_5 5 rfl rfl)
theorem dX6_shift_120 : decode cX6_shift 120 = .ok (.iload 5, 2) := dk_21 5 (dk_at dksX6_shift_5 8 rfl rfl)
theorem dX6_shift_122 : decode cX6_shift 122 = .ok (.iconst 1, 1) := dk_4 (dk_at dksX6_shift_5 10 rfl rfl)
theorem dX6_shift_123 : decode cX6_shift 123 = .ok (.isub, 1) := dk_100 (dk_at dksX6_shift_5 11 rfl rfl)
theorem dX6_shift_124 : decode cX6_shift 124 = .ok (.iload 6, 2) := dk_21 6 (dk_at dksX6_shift_5 12 rfl rfl)
theorem dX6_shift_126 : decode cX6_shift 126 = .ok (.isub, 1) := dk_100 (dk_at dksX6_shift_5 14 rfl rfl)
theorem dX6_shift_127 : decode cX6_shift 127 = .ok (.istore 7, 2) := dk_54 7 (dk_at dksX6_shift_5 15 rfl rfl)
theorem dX6_shift_129 : decode cX6_shift 129 = .ok (.aload_n 0, 1) := dk_42 (dk_at dksX6_shift_5 17 rfl rfl)
theorem dX6_shift_130 : decode cX6_shift 130 = .ok (.getfield 45, 3) := dk_180 0 45 (dk_at dksX6_shift_5 18 rfl rfl)
theorem dX6_shift_133 : decode cX6_shift 133 = .ok (.bipush 60, 2) := dk_16 60 (dk_at dksX6_shift_5 21 rfl rfl)
theorem dX6_shift_135 : decode cX6_shift 135 = .ok (.iload_n 3, 1) := dk_29 (dk_at dksX6_shift_5 23 rfl rfl)
theorem dX6_shift_136 : decode cX6_shift 136 = .ok (.imul, 1) := dk_104 (dk_at dksX6_shift_6 0 rfl rfl)
theorem dX6_shift_137 : decode cX6_shift 137 = .ok (.iload 4, 2) := dk_21 4 (dk_at dksX6_shift_6 1 rfl rfl)
theorem dX6_shift_139 : decode cX6_shift 139 = .ok (.iadd, 1) := dk_96 (dk_at dksX6_shift_6 3 rfl rfl)
theorem dX6_shift_140 : decode cX6_shift 140 = .ok (.iload 7, 2) := dk_21 7 (dk_at dksX6_shift_6 4 rfl rfl)
theorem dX6_shift_142 : decode cX6_shift 142 = .ok (.iadd, 1) := dk_96 (dk_at dksX6_shift_6 6 rfl rfl)
theorem dX6_shift_143 : decode cX6_shift 143 = .ok (.aload_n 0, 1) := dk_42 (dk_at dksX6_shift_6 7 rfl rfl)
theorem dX6_shift_144 : decode cX6_shift 144 = .ok (.getfield 45, 3) := dk_180 0 45 (dk_at dksX6_shift_6 8 rfl rfl)
theorem dX6_shift_147 : decode cX6_shift 147 = .ok (.bipush 60, 2) := dk_16 60 (dk_at dksX6_shift_6 11 rfl rfl)
theorem dX6_shift_149 : decode cX6_shift 149 = .ok (.iload_n 1, 1) := dk_27 (dk_at dksX6_shift_6 13 rfl rfl)
theorem dX6_shift_150 : decode cX6_shift 150 = .ok (.imul, 1) := dk_104 (dk_at dksX6_shift_6 14 rfl rfl)
theorem dX6_shift_151 : decode cX6_shift 151 = .ok (.iload_n 2, 1) := dk_28 (dk_at dksX6_shift_6 15 rfl rfl)
theorem dX6_shift_152 : decode cX6_shift 152 = .ok (.iadd, 1) := dk_96 (dk_at dksX6_shift_6 16 rfl rfl)
theorem dX6_shift_153 : decode cX6_shift 153 = .ok (.iload 7, 2) := dk_21 7 (dk_at dksX6_shift_6 17 rfl rfl)
theorem dX6_shift_155 : decode cX6_shift 155 = .ok (.iadd, 1) := dk_96 (dk_at dksX6_shift_6 19 rfl rfl)
theorem dX6_shift_156 : decode cX6_shift 156 = .ok (.laload, 1) := dk_47 (dk_at dksX6_shift_6 20 rfl rfl)
theorem dX6_shift_157 : decode cX6_shift 157 = .ok (.lastore, 1) := dk_80 (dk_at dksX6_shift_6 21 rfl rfl)
theorem dX6_shift_158 : decode cX6_shift 158 = .ok (.iinc 6 1, 3) := dk_132 6 1 (dk_at dksX6_shift_7 0 rfl rfl)
theorem dX6_shift_161 : decode cX6_shift 161 = .ok (.goto (-59), 3) := dk_167 255 197 (dk_at dksX6_shift_7 3 rfl rfl)
theorem dX6_shift_164 : decode cX6_shift 164 = .ok (.iload 5, 2) := dk_21 5 (dk_at dksX6_shift_7 6 rfl rfl)
theorem dX6_shift_166 : decode cX6_shift 166 = .ok (.ireturn, 1) := dk_172 (dk_at dksX6_shift_7 8 rfl rfl)
theorem cf_shift : xV yX6_shift RX6 cX6_shift 8 (some .int) 5 := ⟨q1855, q1856, q96, q1857, ⟨rfl, by decide +kernel, by decide +kernel, by decide +kernel⟩, by decide⟩
