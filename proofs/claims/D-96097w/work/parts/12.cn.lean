set_option maxRecDepth 100000
theorem kc_b_24 : (Int8.ofInt 24).toInt32 = 24 := by decide +kernel
theorem kc_b_49 : (Int8.ofInt 49).toInt32 = 49 := by decide +kernel
theorem cf_bears_21 : CF "BakedBefore" 2 21 := ⟨by decide, Or.inl q272, rfl⟩
theorem cf_bestRow_85 : CF "BakedBefore" 20 85 := ⟨by decide, Or.inl q290, rfl⟩
theorem cf_book_59 : CF "BakedBefore" 12 59 := ⟨by decide, Or.inl q282, rfl⟩
theorem cf_bookMany_322 : CF "BakedBefore" 14 322 := ⟨by decide, Or.inl q284, rfl⟩
theorem cp_bookMany_322 : CP "BakedBefore" 14 322 := ⟨cf_bookMany_322, rfl, rfl, fun _ _ _ _ => rfl⟩
theorem cf_bookSpoiled_62 : CF "BakedBefore" 13 62 := ⟨by decide, Or.inl q283, rfl⟩
theorem cf_fewest_255 : CF "BakedBefore" 21 255 := ⟨by decide, Or.inl q291, rfl⟩
theorem cp_fewest_255 : CP "BakedBefore" 21 255 := ⟨cf_fewest_255, rfl, rfl, fun _ _ _ _ => rfl⟩
theorem cf_gives_17 : CF "BakedBefore" 1 17 := ⟨by decide, Or.inl q271, rfl⟩
theorem cf_imageBears_97 : CF "BakedBefore" 25 97 := ⟨by decide, Or.inl q295, rfl⟩
theorem cf_imageBook_100 : CF "BakedBefore" 26 100 := ⟨by decide, Or.inl q296, rfl⟩
theorem cf_imageBooked_356 : CF "BakedBefore" 29 356 := ⟨by decide, Or.inl q299, rfl⟩
theorem cp_imageBooked_356 : CP "BakedBefore" 29 356 := ⟨cf_imageBooked_356, rfl, rfl, fun _ _ _ _ => rfl⟩
theorem cf_imageGives_94 : CF "BakedBefore" 24 94 := ⟨by decide, Or.inl q294, rfl⟩
theorem cf_imageKiln_359 : CF "BakedBefore" 30 359 := ⟨by decide, Or.inl q300, rfl⟩
theorem cp_imageKiln_359 : CPR "BakedBefore" 30 359 := ⟨cf_imageKiln_359, rfl, rfl, fun _ _ _ _ => rfl⟩
theorem cf_imageLoaves_91 : CF "BakedBefore" 23 91 := ⟨by decide, Or.inl q293, rfl⟩
theorem cf_imageMany_353 : CF "BakedBefore" 28 353 := ⟨by decide, Or.inl q298, rfl⟩
theorem cp_imageMany_353 : CP "BakedBefore" 28 353 := ⟨cf_imageMany_353, rfl, rfl, fun _ _ _ _ => rfl⟩
theorem cf_imageNow_88 : CF "BakedBefore" 22 88 := ⟨by decide, Or.inl q292, rfl⟩
theorem cf_imageSpoiled_103 : CF "BakedBefore" 27 103 := ⟨by decide, Or.inl q297, rfl⟩
theorem cf_kiln_41 : CF "BakedBefore" 9 41 := ⟨by decide, Or.inl q279, rfl⟩
theorem cp_kiln_41 : CPR "BakedBefore" 9 41 := ⟨cf_kiln_41, rfl, rfl, fun _ _ _ _ => rfl⟩
theorem cf_kilnMany_226 : CF "BakedBefore" 8 226 := ⟨by decide, Or.inl q278, rfl⟩
theorem cp_kilnMany_226 : CP "BakedBefore" 8 226 := ⟨cf_kilnMany_226, rfl, rfl, fun _ _ _ _ => rfl⟩
theorem cf_left_75 : CF "BakedBefore" 17 75 := ⟨by decide, Or.inl q287, rfl⟩
theorem cf_loaves_13 : CF "BakedBefore" 0 13 := ⟨by decide, Or.inl q270, rfl⟩
theorem cf_look_48 : CF "BakedBefore" 10 48 := ⟨by decide, Or.inl q280, rfl⟩
theorem cf_many_107 : CF "BakedBefore" 3 107 := ⟨by decide, Or.inl q273, rfl⟩
theorem cp_many_107 : CP "BakedBefore" 3 107 := ⟨cf_many_107, rfl, rfl, fun _ _ _ _ => rfl⟩
theorem cf_now_27 : CF "BakedBefore" 4 27 := ⟨by decide, Or.inl q274, rfl⟩
theorem cf_row_82 : CF "BakedBefore" 19 82 := ⟨by decide, Or.inl q289, rfl⟩
theorem cf_stages_78 : CF "BakedBefore" 18 78 := ⟨by decide, Or.inl q288, rfl⟩
theorem cf_text_34 : CF "BakedBefore" 6 34 := ⟨by decide, Or.inl q276, rfl⟩
theorem cf_texted_223 : CF "BakedBefore" 7 223 := ⟨by decide, Or.inl q277, rfl⟩
theorem cp_texted_223 : CP "BakedBefore" 7 223 := ⟨cf_texted_223, rfl, rfl, fun _ _ _ _ => rfl⟩
theorem cf_took_72 : CF "BakedBefore" 16 72 := ⟨by decide, Or.inl q286, rfl⟩
theorem cf_trace_55 : CF "BakedBefore" 11 55 := ⟨by decide, Or.inl q281, rfl⟩
theorem cf_tried_31 : CF "BakedBefore" 5 31 := ⟨by decide, Or.inl q275, rfl⟩
abbrev cX0_in : ByteArray := prog_1_method_1_code
def yX0_in : MethodName := ⟨RX0, "in", "(III)Z"⟩
def dkwX0_in_0 : List UInt8 := [26, 27, 161, 0, 12, 26, 28, 163, 0, 7, 4, 167, 0, 4, 3, 172]
abbrev dktX0_in_0 : List UInt8 := dkwX0_in_0 ++ []
theorem dksX0_in_0 : cX0_in.data.toList.drop 0 = dktX0_in_0 := by decide +kernel
theorem dX0_in_0 : decode cX0_in 0 = .ok (.iload_n 0, 1) := dk_26 (dk_at dksX0_in_0 0 rfl rfl)
theorem dX0_in_1 : decode cX0_in 1 = .ok (.iload_n 1, 1) := dk_27 (dk_at dksX0_in_0 1 rfl rfl)
theorem dX0_in_2 : decode cX0_in 2 = .ok (.if_icmp .lt 12, 3) := dk_161 0 12 (dk_at dksX0_in_0 2 rfl rfl)
theorem dX0_in_5 : decode cX0_in 5 = .ok (.iload_n 0, 1) := dk_26 (dk_at dksX0_in_0 5 rfl rfl)
theorem dX0_in_6 : decode cX0_in 6 = .ok (.iload_n 2, 1) := dk_28 (dk_at dksX0_in_0 6 rfl rfl)
theorem dX0_in_7 : decode cX0_in 7 = .ok (.if_icmp .gt 7, 3) := dk_163 0 7 (dk_at dksX0_in_0 7 rfl rfl)
theorem dX0_in_10 : decode cX0_in 10 = .ok (.iconst 1, 1) := dk_4 (dk_at dksX0_in_0 10 rfl rfl)
theorem dX0_in_11 : decode cX0_in 11 = .ok (.goto 4, 3) := dk_167 0 4 (dk_at dksX0_in_0 11 rfl rfl)
theorem dX0_in_14 : decode cX0_in 14 = .ok (.iconst 0, 1) := dk_3 (dk_at dksX0_in_0 14 rfl rfl)
theorem dX0_in_15 : decode cX0_in 15 = .ok (.ireturn, 1) := dk_172 (dk_at dksX0_in_0 15 rfl rfl)
theorem gf_in : xS yX0_in cX0_in 3 (some .boolean) 3 := ⟨q369, q87, q370, ⟨by decide +kernel, by decide +kernel, by decide +kernel⟩, by decide⟩
abbrev cX0_isLoaf : ByteArray := prog_1_method_3_code
def yX0_isLoaf : MethodName := ⟨RX0, "isLoaf", "(I)Z"⟩
def dkwX0_isLoaf_0 : List UInt8 := [27, 3, 42, 180, 0, 107, 4, 100, 184, 0, 111, 172]
abbrev dktX0_isLoaf_0 : List UInt8 := dkwX0_isLoaf_0 ++ []
theorem dksX0_isLoaf_0 : cX0_isLoaf.data.toList.drop 0 = dktX0_isLoaf_0 := by decide +kernel
theorem dX0_isLoaf_0 : decode cX0_isLoaf 0 = .ok (.iload_n 1, 1) := dk_27 (dk_at dksX0_isLoaf_0 0 rfl rfl)
theorem dX0_isLoaf_1 : decode cX0_isLoaf 1 = .ok (.iconst 0, 1) := dk_3 (dk_at dksX0_isLoaf_0 1 rfl rfl)
theorem dX0_isLoaf_2 : decode cX0_isLoaf 2 = .ok (.aload_n 0, 1) := dk_42 (dk_at dksX0_isLoaf_0 2 rfl rfl)
theorem dX0_isLoaf_3 : decode cX0_isLoaf 3 = .ok (.getfield 107, 3) := dk_180 0 107 (dk_at dksX0_isLoaf_0 3 rfl rfl)
theorem dX0_isLoaf_6 : decode cX0_isLoaf 6 = .ok (.iconst 1, 1) := dk_4 (dk_at dksX0_isLoaf_0 6 rfl rfl)
theorem dX0_isLoaf_7 : decode cX0_isLoaf 7 = .ok (.isub, 1) := dk_100 (dk_at dksX0_isLoaf_0 7 rfl rfl)
theorem dX0_isLoaf_8 : decode cX0_isLoaf 8 = .ok (.invokestatic 111, 3) := dk_184 0 111 (dk_at dksX0_isLoaf_0 8 rfl rfl)
theorem dX0_isLoaf_11 : decode cX0_isLoaf 11 = .ok (.ireturn, 1) := dk_172 (dk_at dksX0_isLoaf_0 11 rfl rfl)
theorem gf_isLoaf : xV yX0_isLoaf RX0 cX0_isLoaf 2 (some .boolean) 1 := ⟨q477, qs1, q87, q478, ⟨rfl, by decide +kernel, by decide +kernel, by decide +kernel⟩, by decide⟩
abbrev cX0_isTaste : ByteArray := prog_1_method_4_code
def yX0_isTaste : MethodName := ⟨RX0, "isTaste", "(I)Z"⟩
def dkwX0_isTaste_0 : List UInt8 := [26, 3, 6, 184, 0, 111, 172]
abbrev dktX0_isTaste_0 : List UInt8 := dkwX0_isTaste_0 ++ []
theorem dksX0_isTaste_0 : cX0_isTaste.data.toList.drop 0 = dktX0_isTaste_0 := by decide +kernel
theorem dX0_isTaste_0 : decode cX0_isTaste 0 = .ok (.iload_n 0, 1) := dk_26 (dk_at dksX0_isTaste_0 0 rfl rfl)
theorem dX0_isTaste_1 : decode cX0_isTaste 1 = .ok (.iconst 0, 1) := dk_3 (dk_at dksX0_isTaste_0 1 rfl rfl)
theorem dX0_isTaste_2 : decode cX0_isTaste 2 = .ok (.iconst 3, 1) := dk_6 (dk_at dksX0_isTaste_0 2 rfl rfl)
theorem dX0_isTaste_3 : decode cX0_isTaste 3 = .ok (.invokestatic 111, 3) := dk_184 0 111 (dk_at dksX0_isTaste_0 3 rfl rfl)
theorem dX0_isTaste_6 : decode cX0_isTaste 6 = .ok (.ireturn, 1) := dk_172 (dk_at dksX0_isTaste_0 6 rfl rfl)
theorem gf_isTaste : xS yX0_isTaste cX0_isTaste 1 (some .boolean) 1 := ⟨q480, q87, q481, ⟨by decide +kernel, by decide +kernel, by decide +kernel⟩, by decide⟩
abbrev cX0_loaf : ByteArray := prog_1_method_6_code
def yX0_loaf : MethodName := ⟨RX0, "loaf", "(II)I"⟩
def dkwX0_loaf_4 : List UInt8 := [180, 0, 107, 90, 4, 96, 181, 0, 107, 172]
abbrev dktX0_loaf_4 : List UInt8 := dkwX0_loaf_4 ++ []
def dkwX0_loaf_3 : List UInt8 := [79, 42, 180, 0, 21, 7, 42, 180, 0, 107, 104, 29, 96, 16, 9, 79, 132, 3, 1, 167, 255, 219, 42, 89]
abbrev dktX0_loaf_3 : List UInt8 := dkwX0_loaf_3 ++ dktX0_loaf_4
def dkwX0_loaf_2 : List UInt8 := [182, 0, 136, 83, 3, 62, 29, 7, 162, 0, 38, 42, 180, 0, 17, 7, 42, 180, 0, 107, 104, 29, 96, 3]
abbrev dktX0_loaf_2 : List UInt8 := dkwX0_loaf_2 ++ dktX0_loaf_3
def dkwX0_loaf_1 : List UInt8 := [172, 42, 180, 0, 107, 16, 6, 160, 0, 6, 16, 252, 172, 42, 180, 0, 13, 42, 180, 0, 107, 42, 27, 28]
abbrev dktX0_loaf_1 : List UInt8 := dkwX0_loaf_1 ++ dktX0_loaf_2
def dkwX0_loaf_0 : List UInt8 := [27, 3, 16, 6, 184, 0, 111, 154, 0, 5, 2, 172, 28, 3, 16, 9, 184, 0, 111, 154, 0, 6, 16, 254]
abbrev dktX0_loaf_0 : List UInt8 := dkwX0_loaf_0 ++ dktX0_loaf_1
theorem dksX0_loaf_0 : cX0_loaf.data.toList.drop 0 = dktX0_loaf_0 := by decide +kernel
theorem dksX0_loaf_1 : cX0_loaf.data.toList.drop 24 = dktX0_loaf_1 := dk_seg dksX0_loaf_0 24 rfl rfl
theorem dksX0_loaf_2 : cX0_loaf.data.toList.drop 48 = dktX0_loaf_2 := dk_seg dksX0_loaf_1 24 rfl rfl
theorem dksX0_loaf_3 : cX0_loaf.data.toList.drop 72 = dktX0_loaf_3 := dk_seg dksX0_loaf_2 24 rfl rfl
theorem dksX0_loaf_4 : cX0_loaf.data.toList.drop 96 = dktX0_loaf_4 := dk_seg dksX0_loaf_3 24 rfl rfl
theorem dX0_loaf_0 : decode cX0_loaf 0 = .ok (.iload_n 1, 1) := dk_27 (dk_at dksX0_loaf_0 0 rfl rfl)
theorem dX0_loaf_1 : decode cX0_loaf 1 = .ok (.iconst 0, 1) := dk_3 (dk_at dksX0_loaf_0 1 rfl rfl)
theorem dX0_loaf_2 : decode cX0_loaf 2 = .ok (.bipush 6, 2) := dk_16 6 (dk_at dksX0_loaf_0 2 rfl rfl)
theorem dX0_loaf_4 : decode cX0_loaf 4 = .ok (.invokestatic 111, 3) := dk_184 0 111 (dk_at dksX0_loaf_0 4 rfl rfl)
theorem dX0_loaf_7 : decode cX0_loaf 7 = .ok (.ifCond .ne 5, 3) := dk_154 0 5 (dk_at dksX0_loaf_0 7 rfl rfl)
theorem dX0_loaf_10 : decode cX0_loaf 10 = .ok (.iconst (-1), 1) := dk_2 (dk_at dksX0_loaf_0 10 rfl rfl)
theorem dX0_loaf_11 : decode cX0_loaf 11 = .ok (.ireturn, 1) := dk_172 (dk_at dksX0_loaf_0 11 rfl rfl)
theorem dX0_loaf_12 : decode cX0_loaf 12 = .ok (.iload_n 2, 1) := dk_28 (dk_at dksX0_loaf_0 12 rfl rfl)
theorem dX0_loaf_13 : decode cX0_loaf 13 = .ok (.iconst 0, 1) := dk_3 (dk_at dksX0_loaf_0 13 rfl rfl)
theorem dX0_loaf_14 : decode cX0_loaf 14 = .ok (.bipush 9, 2) := dk_16 9 (dk_at dksX0_loaf_0 14 rfl rfl)
theorem dX0_loaf_16 : decode cX0_loaf 16 = .ok (.invokestatic 111, 3) := dk_184 0 111 (dk_at dksX0_loaf_0 16 rfl rfl)
theorem dX0_loaf_19 : decode cX0_loaf 19 = .ok (.ifCond .ne 6, 3) := dk_154 0 6 (dk_at dksX0_loaf_0 19 rfl rfl)
theorem dX0_loaf_22 : decode cX0_loaf 22 = .ok (.bipush (-2), 2) := dk_16 254 (dk_at dksX0_loaf_0 22 rfl rfl)
theorem dX0_loaf_24 : decode cX0_loaf 24 = .ok (.ireturn, 1) := dk_172 (dk_at dksX0_loaf_1 0 rfl rfl)
theorem dX0_loaf_25 : decode cX0_loaf 25 = .ok (.aload_n 0, 1) := dk_42 (dk_at dksX0_loaf_1 1 rfl rfl)
theorem dX0_loaf_26 : decode cX0_loaf 26 = .ok (.getfield 107, 3) := dk_180 0 107 (dk_at dksX0_loaf_1 2 rfl rfl)
theorem dX0_loaf_29 : decode cX0_loaf 29 = .ok (.bipush 6, 2) := dk_16 6 (dk_at dksX0_loaf_1 5 rfl rfl)
theorem dX0_loaf_31 : decode cX0_loaf 31 = .ok (.if_icmp .ne 6, 3) := dk_160 0 6 (dk_at dksX0_loaf_1 7 rfl rfl)
theorem dX0_loaf_34 : decode cX0_loaf 34 = .ok (.bipush (-4), 2) := dk_16 252 (dk_at dksX0_loaf_1 10 rfl rfl)
theorem dX0_loaf_36 : decode cX0_loaf 36 = .ok (.ireturn, 1) := dk_172 (dk_at dksX0_loaf_1 12 rfl rfl)
theorem dX0_loaf_37 : decode cX0_loaf 37 = .ok (.aload_n 0, 1) := dk_42 (dk_at dksX0_loaf_1 13 rfl rfl)
theorem dX0_loaf_38 : decode cX0_loaf 38 = .ok (.getfield 13, 3) := dk_180 0 13 (dk_at dksX0_loaf_1 14 rfl rfl)
theorem dX0_loaf_41 : decode cX0_loaf 41 = .ok (.aload_n 0, 1) := dk_42 (dk_at dksX0_loaf_1 17 rfl rfl)
theorem dX0_loaf_42 : decode cX0_loaf 42 = .ok (.getfield 107, 3) := dk_180 0 107 (dk_at dksX0_loaf_1 18 rfl rfl)
theorem dX0_loaf_45 : decode cX0_loaf 45 = .ok (.aload_n 0, 1) := dk_42 (dk_at dksX0_loaf_1 21 rfl rfl)
theorem dX0_loaf_46 : decode cX0_loaf 46 = .ok (.iload_n 1, 1) := dk_27 (dk_at dksX0_loaf_1 22 rfl rfl)
theorem dX0_loaf_47 : decode cX0_loaf 47 = .ok (.iload_n 2, 1) := dk_28 (dk_at dksX0_loaf_1 23 rfl rfl)
theorem dX0_loaf_48 : decode cX0_loaf 48 = .ok (.invokevirtual 136, 3) := dk_182 0 136 (dk_at dksX0_loaf_2 0 rfl rfl)
theorem dX0_loaf_51 : decode cX0_loaf 51 = .ok (.aastore, 1) := dk_83 (dk_at dksX0_loaf_2 3 rfl rfl)
theorem dX0_loaf_52 : decode cX0_loaf 52 = .ok (.iconst 0, 1) := dk_3 (dk_at dksX0_loaf_2 4 rfl rfl)
theorem dX0_loaf_53 : decode cX0_loaf 53 = .ok (.istore_n 3, 1) := dk_62 (dk_at dksX0_loaf_2 5 rfl rfl)
theorem dX0_loaf_54 : decode cX0_loaf 54 = .ok (.iload_n 3, 1) := dk_29 (dk_at dksX0_loaf_2 6 rfl rfl)
theorem dX0_loaf_55 : decode cX0_loaf 55 = .ok (.iconst 4, 1) := dk_7 (dk_at dksX0_loaf_2 7 rfl rfl)
theorem dX0_loaf_56 : decode cX0_loaf 56 = .ok (.if_icmp .ge 38, 3) := dk_162 0 38 (dk_at dksX0_loaf_2 8 rfl rfl)
theorem dX0_loaf_59 : decode cX0_loaf 59 = .ok (.aload_n 0, 1) := dk_42 (dk_at dksX0_loaf_2 11 rfl rfl)
theorem dX0_loaf_60 : decode cX0_loaf 60 = .ok (.getfield 17, 3) := dk_180 0 17 (dk_at dksX0_loaf_2 12 rfl rfl)
theorem dX0_loaf_63 : decode cX0_loaf 63 = .ok (.iconst 4, 1) := dk_7 (dk_at dksX0_loaf_2 15 rfl rfl)
theorem dX0_loaf_64 : decode cX0_loaf 64 = .ok (.aload_n 0, 1) := dk_42 (dk_at dksX0_loaf_2 16 rfl rfl)
theorem dX0_loaf_65 : decode cX0_loaf 65 = .ok (.getfield 107, 3) := dk_180 0 107 (dk_at dksX0_loaf_2 17 rfl rfl)
theorem dX0_loaf_68 : decode cX0_loaf 68 = .ok (.imul, 1) := dk_104 (dk_at dksX0_loaf_2 20 rfl rfl)
theorem dX0_loaf_69 : decode cX0_loaf 69 = .ok (.iload_n 3, 1) := dk_29 (dk_at dksX0_loaf_2 21 rfl rfl)
theorem dX0_loaf_70 : decode cX0_loaf 70 = .ok (.iadd, 1) := dk_96 (dk_at dksX0_loaf_2 22 rfl rfl)
theorem dX0_loaf_71 : decode cX0_loaf 71 = .ok (.iconst 0, 1) := dk_3 (dk_at dksX0_loaf_2 23 rfl rfl)
theorem dX0_loaf_72 : decode cX0_loaf 72 = .ok (.iastore, 1) := dk_79 (dk_at dksX0_loaf_3 0 rfl rfl)
theorem dX0_loaf_73 : decode cX0_loaf 73 = .ok (.aload_n 0, 1) := dk_42 (dk_at dksX0_loaf_3 1 rfl rfl)
theorem dX0_loaf_74 : decode cX0_loaf 74 = .ok (.getfield 21, 3) := dk_180 0 21 (dk_at dksX0_loaf_3 2 rfl rfl)
theorem dX0_loaf_77 : decode cX0_loaf 77 = .ok (.iconst 4, 1) := dk_7 (dk_at dksX0_loaf_3 5 rfl rfl)
theorem dX0_loaf_78 : decode cX0_loaf 78 = .ok (.aload_n 0, 1) := dk_42 (dk_at dksX0_loaf_3 6 rfl rfl)
theorem dX0_loaf_79 : decode cX0_loaf 79 = .ok (.getfield 107, 3) := dk_180 0 107 (dk_at dksX0_loaf_3 7 rfl rfl)
theorem dX0_loaf_82 : decode cX0_loaf 82 = .ok (.imul, 1) := dk_104 (dk_at dksX0_loaf_3 10 rfl rfl)
theorem dX0_loaf_83 : decode cX0_loaf 83 = .ok (.iload_n 3, 1) := dk_29 (dk_at dksX0_loaf_3 11 rfl rfl)
theorem dX0_loaf_84 : decode cX0_loaf 84 = .ok (.iadd, 1) := dk_96 (dk_at dksX0_loaf_3 12 rfl rfl)
theorem dX0_loaf_85 : decode cX0_loaf 85 = .ok (.bipush 9, 2) := dk_16 9 (dk_at dksX0_loaf_3 13 rfl rfl)
theorem dX0_loaf_87 : decode cX0_loaf 87 = .ok (.iastore, 1) := dk_79 (dk_at dksX0_loaf_3 15 rfl rfl)
theorem dX0_loaf_88 : decode cX0_loaf 88 = .ok (.iinc 3 1, 3) := dk_132 3 1 (dk_at dksX0_loaf_3 16 rfl rfl)
theorem dX0_loaf_91 : decode cX0_loaf 91 = .ok (.goto (-37), 3) := dk_167 255 219 (dk_at dksX0_loaf_3 19 rfl rfl)
theorem dX0_loaf_94 : decode cX0_loaf 94 = .ok (.aload_n 0, 1) := dk_42 (dk_at dksX0_loaf_3 22 rfl rfl)
theorem dX0_loaf_95 : decode cX0_loaf 95 = .ok (.dup, 1) := dk_89 (dk_at dksX0_loaf_3 23 rfl rfl)
theorem dX0_loaf_96 : decode cX0_loaf 96 = .ok (.getfield 107, 3) := dk_180 0 107 (dk_at dksX0_loaf_4 0 rfl rfl)
theorem dX0_loaf_99 : decode cX0_loaf 99 = .ok (.dup_x1, 1) := dk_90 (dk_at dksX0_loaf_4 3 rfl rfl)
theorem dX0_loaf_100 : decode cX0_loaf 100 = .ok (.iconst 1, 1) := dk_4 (dk_at dksX0_loaf_4 4 rfl rfl)
theorem dX0_loaf_101 : decode cX0_loaf 101 = .ok (.iadd, 1) := dk_96 (dk_at dksX0_loaf_4 5 rfl rfl)
theorem dX0_loaf_102 : decode cX0_loaf 102 = .ok (.putfield 107, 3) := dk_181 0 107 (dk_at dksX0_loaf_4 6 rfl rfl)
theorem dX0_loaf_105 : decode cX0_loaf 105 = .ok (.ireturn, 1) := dk_172 (dk_at dksX0_loaf_4 9 rfl rfl)
theorem gf_loaf : xV yX0_loaf RX0 cX0_loaf 4 (some .int) 2 := ⟨q365, q366, q87, q367, ⟨rfl, by decide +kernel, by decide +kernel, by decide +kernel⟩, by decide⟩
abbrev cX0_set : ByteArray := prog_1_method_7_code
def yX0_set : MethodName := ⟨RX0, "set", "(IIII)I"⟩
def dkwX0_set_3 : List UInt8 := [28, 96, 21, 4, 79, 21, 6, 172]
abbrev dktX0_set_3 : List UInt8 := dkwX0_set_3 ++ []
def dkwX0_set_2 : List UInt8 := [167, 0, 7, 42, 180, 0, 21, 58, 5, 25, 5, 7, 27, 104, 28, 96, 46, 54, 6, 25, 5, 7, 27, 104]
abbrev dktX0_set_2 : List UInt8 := dkwX0_set_2 ++ dktX0_set_3
def dkwX0_set_1 : List UInt8 := [2, 172, 21, 4, 3, 16, 99, 184, 0, 111, 154, 0, 6, 16, 254, 172, 29, 154, 0, 10, 42, 180, 0, 17]
abbrev dktX0_set_1 : List UInt8 := dkwX0_set_1 ++ dktX0_set_2
def dkwX0_set_0 : List UInt8 := [42, 27, 182, 0, 140, 153, 0, 19, 28, 184, 0, 144, 153, 0, 12, 29, 3, 4, 184, 0, 111, 154, 0, 5]
abbrev dktX0_set_0 : List UInt8 := dkwX0_set_0 ++ dktX0_set_1
theorem dksX0_set_0 : cX0_set.data.toList.drop 0 = dktX0_set_0 := by decide +kernel
theorem dksX0_set_1 : cX0_set.data.toList.drop 24 = dktX0_set_1 := dk_seg dksX0_set_0 24 rfl rfl
theorem dksX0_set_2 : cX0_set.data.toList.drop 48 = dktX0_set_2 := dk_seg dksX0_set_1 24 rfl rfl
theorem dksX0_set_3 : cX0_set.data.toList.drop 72 = dktX0_set_3 := dk_seg dksX0_set_2 24 rfl rfl
theorem dX0_set_0 : decode cX0_set 0 = .ok (.aload_n 0, 1) := dk_42 (dk_at dksX0_set_0 0 rfl rfl)
theorem dX0_set_1 : decode cX0_set 1 = .ok (.iload_n 1, 1) := dk_27 (dk_at dksX0_set_0 1 rfl rfl)
theorem dX0_set_2 : decode cX0_set 2 = .ok (.invokevirtual 140, 3) := dk_182 0 140 (dk_at dksX0_set_0 2 rfl rfl)
theorem dX0_set_5 : decode cX0_set 5 = .ok (.ifCond .eq 19, 3) := dk_153 0 19 (dk_at dksX0_set_0 5 rfl rfl)
theorem dX0_set_8 : decode cX0_set 8 = .ok (.iload_n 2, 1) := dk_28 (dk_at dksX0_set_0 8 rfl rfl)
theorem dX0_set_9 : decode cX0_set 9 = .ok (.invokestatic 144, 3) := dk_184 0 144 (dk_at dksX0_set_0 9 rfl rfl)
theorem dX0_set_12 : decode cX0_set 12 = .ok (.ifCond .eq 12, 3) := dk_153 0 12 (dk_at dksX0_set_0 12 rfl rfl)
theorem dX0_set_15 : decode cX0_set 15 = .ok (.iload_n 3, 1) := dk_29 (dk_at dksX0_set_0 15 rfl rfl)
theorem dX0_set_16 : decode cX0_set 16 = .ok (.iconst 0, 1) := dk_3 (dk_at dksX0_set_0 16 rfl rfl)
theorem dX0_set_17 : decode cX0_set 17 = .ok (.iconst 1, 1) := dk_4 (dk_at dksX0_set_0 17 rfl rfl)
theorem dX0_set_18 : decode cX0_set 18 = .ok (.invokestatic 111, 3) := dk_184 0 111 (dk_at dksX0_set_0 18 rfl rfl)
theorem dX0_set_21 : decode cX0_set 21 = .ok (.ifCond .ne 5, 3) := dk_154 0 5 (dk_at dksX0_set_0 21 rfl rfl)
theorem dX0_set_24 : decode cX0_set 24 = .ok (.iconst (-1), 1) := dk_2 (dk_at dksX0_set_1 0 rfl rfl)
theorem dX0_set_25 : decode cX0_set 25 = .ok (.ireturn, 1) := dk_172 (dk_at dksX0_set_1 1 rfl rfl)
theorem dX0_set_26 : decode cX0_set 26 = .ok (.iload 4, 2) := dk_21 4 (dk_at dksX0_set_1 2 rfl rfl)
theorem dX0_set_28 : decode cX0_set 28 = .ok (.iconst 0, 1) := dk_3 (dk_at dksX0_set_1 4 rfl rfl)
theorem dX0_set_29 : decode cX0_set 29 = .ok (.bipush 99, 2) := dk_16 99 (dk_at dksX0_set_1 5 rfl rfl)
theorem dX0_set_31 : decode cX0_set 31 = .ok (.invokestatic 111, 3) := dk_184 0 111 (dk_at dksX0_set_1 7 rfl rfl)
theorem dX0_set_34 : decode cX0_set 34 = .ok (.ifCond .ne 6, 3) := dk_154 0 6 (dk_at dksX0_set_1 10 rfl rfl)
theorem dX0_set_37 : decode cX0_set 37 = .ok (.bipush (-2), 2) := dk_16 254 (dk_at dksX0_set_1 13 rfl rfl)
theorem dX0_set_39 : decode cX0_set 39 = .ok (.ireturn, 1) := dk_172 (dk_at dksX0_set_1 15 rfl rfl)
theorem dX0_set_40 : decode cX0_set 40 = .ok (.iload_n 3, 1) := dk_29 (dk_at dksX0_set_1 16 rfl rfl)
theorem dX0_set_41 : decode cX0_set 41 = .ok (.ifCond .ne 10, 3) := dk_154 0 10 (dk_at dksX0_set_1 17 rfl rfl)
theorem dX0_set_44 : decode cX0_set 44 = .ok (.aload_n 0, 1) := dk_42 (dk_at dksX0_set_1 20 rfl rfl)
theorem dX0_set_45 : decode cX0_set 45 = .ok (.getfield 17, 3) := dk_180 0 17 (dk_at dksX0_set_1 21 rfl rfl)
theorem dX0_set_48 : decode cX0_set 48 = .ok (.goto 7, 3) := dk_167 0 7 (dk_at dksX0_set_2 0 rfl rfl)
theorem dX0_set_51 : decode cX0_set 51 = .ok (.aload_n 0, 1) := dk_42 (dk_at dksX0_set_2 3 rfl rfl)
theorem dX0_set_52 : decode cX0_set 52 = .ok (.getfield 21, 3) := dk_180 0 21 (dk_at dksX0_set_2 4 rfl rfl)
theorem dX0_set_55 : decode cX0_set 55 = .ok (.astore 5, 2) := dk_58 5 (dk_at dksX0_set_2 7 rfl rfl)
theorem dX0_set_57 : decode cX0_set 57 = .ok (.aload 5, 2) := dk_25 5 (dk_at dksX0_set_2 9 rfl rfl)
theorem dX0_set_59 : decode cX0_set 59 = .ok (.iconst 4, 1) := dk_7 (dk_at dksX0_set_2 11 rfl rfl)
theorem dX0_set_60 : decode cX0_set 60 = .ok (.iload_n 1, 1) := dk_27 (dk_at dksX0_set_2 12 rfl rfl)
theorem dX0_set_61 : decode cX0_set 61 = .ok (.imul, 1) := dk_104 (dk_at dksX0_set_2 13 rfl rfl)
theorem dX0_set_62 : decode cX0_set 62 = .ok (.iload_n 2, 1) := dk_28 (dk_at dksX0_set_2 14 rfl rfl)
theorem dX0_set_63 : decode cX0_set 63 = .ok (.iadd, 1) := dk_96 (dk_at dksX0_set_2 15 rfl rfl)
theorem dX0_set_64 : decode cX0_set 64 = .ok (.iaload, 1) := dk_46 (dk_at dksX0_set_2 16 rfl rfl)
theorem dX0_set_65 : decode cX0_set 65 = .ok (.istore 6, 2) := dk_54 6 (dk_at dksX0_set_2 17 rfl rfl)
theorem dX0_set_67 : decode cX0_set 67 = .ok (.aload 5, 2) := dk_25 5 (dk_at dksX0_set_2 19 rfl rfl)
theorem dX0_set_69 : decode cX0_set 69 = .ok (.iconst 4, 1) := dk_7 (dk_at dksX0_set_2 21 rfl rfl)
theorem dX0_set_70 : decode cX0_set 70 = .ok (.iload_n 1, 1) := dk_27 (dk_at dksX0_set_2 22 rfl rfl)
theorem dX0_set_71 : decode cX0_set 71 = .ok (.imul, 1) := dk_104 (dk_at dksX0_set_2 23 rfl rfl)
theorem dX0_set_72 : decode cX0_set 72 = .ok (.iload_n 2, 1) := dk_28 (dk_at dksX0_set_3 0 rfl rfl)
theorem dX0_set_73 : decode cX0_set 73 = .ok (.iadd, 1) := dk_96 (dk_at dksX0_set_3 1 rfl rfl)
theorem dX0_set_74 : decode cX0_set 74 = .ok (.iload 4, 2) := dk_21 4 (dk_at dksX0_set_3 2 rfl rfl)
theorem dX0_set_76 : decode cX0_set 76 = .ok (.iastore, 1) := dk_79 (dk_at dksX0_set_3 4 rfl rfl)
theorem dX0_set_77 : decode cX0_set 77 = .ok (.iload 6, 2) := dk_21 6 (dk_at dksX0_set_3 5 rfl rfl)
theorem dX0_set_79 : decode cX0_set 79 = .ok (.ireturn, 1) := dk_172 (dk_at dksX0_set_3 7 rfl rfl)
theorem gf_set : xV yX0_set RX0 cX0_set 7 (some .int) 4 := ⟨q472, q473, q87, q474, ⟨rfl, by decide +kernel, by decide +kernel, by decide +kernel⟩, by decide⟩
abbrev cX0_looksAt : ByteArray := prog_1_method_8_code
def yX0_looksAt : MethodName := ⟨RX0, "looksAt", "(LBakedBefore$Time;III)V"⟩
def dkwX0_looksAt_3 : List UInt8 := [16, 99, 167, 0, 8, 21, 4, 16, 10, 108, 181, 0, 167, 177]
abbrev dktX0_looksAt_3 : List UInt8 := dkwX0_looksAt_3 ++ []
def dkwX0_looksAt_2 : List UInt8 := [42, 180, 0, 48, 43, 180, 0, 163, 16, 60, 112, 181, 0, 166, 42, 180, 0, 48, 29, 16, 99, 160, 0, 8]
abbrev dktX0_looksAt_2 : List UInt8 := dkwX0_looksAt_2 ++ dktX0_looksAt_3
def dkwX0_looksAt_1 : List UInt8 := [42, 180, 0, 48, 29, 181, 0, 156, 42, 180, 0, 48, 42, 180, 0, 13, 28, 50, 180, 0, 159, 181, 0, 162]
abbrev dktX0_looksAt_1 : List UInt8 := dkwX0_looksAt_1 ++ dktX0_looksAt_2
def dkwX0_looksAt_0 : List UInt8 := [42, 180, 0, 48, 28, 181, 0, 147, 42, 180, 0, 48, 42, 180, 0, 13, 28, 50, 182, 0, 150, 181, 0, 154]
abbrev dktX0_looksAt_0 : List UInt8 := dkwX0_looksAt_0 ++ dktX0_looksAt_1
theorem dksX0_looksAt_0 : cX0_looksAt.data.toList.drop 0 = dktX0_looksAt_0 := by decide +kernel
theorem dksX0_looksAt_1 : cX0_looksAt.data.toList.drop 24 = dktX0_looksAt_1 := dk_seg dksX0_looksAt_0 24 rfl rfl
theorem dksX0_looksAt_2 : cX0_looksAt.data.toList.drop 48 = dktX0_looksAt_2 := dk_seg dksX0_looksAt_1 24 rfl rfl
theorem dksX0_looksAt_3 : cX0_looksAt.data.toList.drop 72 = dktX0_looksAt_3 := dk_seg dksX0_looksAt_2 24 rfl rfl
theorem dX0_looksAt_0 : decode cX0_looksAt 0 = .ok (.aload_n 0, 1) := dk_42 (dk_at dksX0_looksAt_0 0 rfl rfl)
theorem dX0_looksAt_1 : decode cX0_looksAt 1 = .ok (.getfield 48, 3) := dk_180 0 48 (dk_at dksX0_looksAt_0 1 rfl rfl)
theorem dX0_looksAt_4 : decode cX0_looksAt 4 = .ok (.iload_n 2, 1) := dk_28 (dk_at dksX0_looksAt_0 4 rfl rfl)
theorem dX0_looksAt_5 : decode cX0_looksAt 5 = .ok (.putfield 147, 3) := dk_181 0 147 (dk_at dksX0_looksAt_0 5 rfl rfl)
theorem dX0_looksAt_8 : decode cX0_looksAt 8 = .ok (.aload_n 0, 1) := dk_42 (dk_at dksX0_looksAt_0 8 rfl rfl)
theorem dX0_looksAt_9 : decode cX0_looksAt 9 = .ok (.getfield 48, 3) := dk_180 0 48 (dk_at dksX0_looksAt_0 9 rfl rfl)
theorem dX0_looksAt_12 : decode cX0_looksAt 12 = .ok (.aload_n 0, 1) := dk_42 (dk_at dksX0_looksAt_0 12 rfl rfl)
theorem dX0_looksAt_13 : decode cX0_looksAt 13 = .ok (.getfield 13, 3) := dk_180 0 13 (dk_at dksX0_looksAt_0 13 rfl rfl)
theorem dX0_looksAt_16 : decode cX0_looksAt 16 = .ok (.iload_n 2, 1) := dk_28 (dk_at dksX0_looksAt_0 16 rfl rfl)
theorem dX0_looksAt_17 : decode cX0_looksAt 17 = .ok (.aaload, 1) := dk_50 (dk_at dksX0_looksAt_0 17 rfl rfl)
theorem dX0_looksAt_18 : decode cX0_looksAt 18 = .ok (.invokevirtual 150, 3) := dk_182 0 150 (dk_at dksX0_looksAt_0 18 rfl rfl)
theorem dX0_looksAt_21 : decode cX0_looksAt 21 = .ok (.putfield 154, 3) := dk_181 0 154 (dk_at dksX0_looksAt_0 21 rfl rfl)
theorem dX0_looksAt_24 : decode cX0_looksAt 24 = .ok (.aload_n 0, 1) := dk_42 (dk_at dksX0_looksAt_1 0 rfl rfl)
theorem dX0_looksAt_25 : decode cX0_looksAt 25 = .ok (.getfield 48, 3) := dk_180 0 48 (dk_at dksX0_looksAt_1 1 rfl rfl)
theorem dX0_looksAt_28 : decode cX0_looksAt 28 = .ok (.iload_n 3, 1) := dk_29 (dk_at dksX0_looksAt_1 4 rfl rfl)
theorem dX0_looksAt_29 : decode cX0_looksAt 29 = .ok (.putfield 156, 3) := dk_181 0 156 (dk_at dksX0_looksAt_1 5 rfl rfl)
theorem dX0_looksAt_32 : decode cX0_looksAt 32 = .ok (.aload_n 0, 1) := dk_42 (dk_at dksX0_looksAt_1 8 rfl rfl)
theorem dX0_looksAt_33 : decode cX0_looksAt 33 = .ok (.getfield 48, 3) := dk_180 0 48 (dk_at dksX0_looksAt_1 9 rfl rfl)
theorem dX0_looksAt_36 : decode cX0_looksAt 36 = .ok (.aload_n 0, 1) := dk_42 (dk_at dksX0_looksAt_1 12 rfl rfl)
theorem dX0_looksAt_37 : decode cX0_looksAt 37 = .ok (.getfield 13, 3) := dk_180 0 13 (dk_at dksX0_looksAt_1 13 rfl rfl)
theorem dX0_looksAt_40 : decode cX0_looksAt 40 = .ok (.iload_n 2, 1) := dk_28 (dk_at dksX0_looksAt_1 16 rfl rfl)
theorem dX0_looksAt_41 : decode cX0_looksAt 41 = .ok (.aaload, 1) := dk_50 (dk_at dksX0_looksAt_1 17 rfl rfl)
theorem dX0_looksAt_42 : decode cX0_looksAt 42 = .ok (.getfield 159, 3) := dk_180 0 159 (dk_at dksX0_looksAt_1 18 rfl rfl)
theorem dX0_looksAt_45 : decode cX0_looksAt 45 = .ok (.putfield 162, 3) := dk_181 0 162 (dk_at dksX0_looksAt_1 21 rfl rfl)
theorem dX0_looksAt_48 : decode cX0_looksAt 48 = .ok (.aload_n 0, 1) := dk_42 (dk_at dksX0_looksAt_2 0 rfl rfl)
theorem dX0_looksAt_49 : decode cX0_looksAt 49 = .ok (.getfield 48, 3) := dk_180 0 48 (dk_at dksX0_looksAt_2 1 rfl rfl)
theorem dX0_looksAt_52 : decode cX0_looksAt 52 = .ok (.aload_n 1, 1) := dk_43 (dk_at dksX0_looksAt_2 4 rfl rfl)
theorem dX0_looksAt_53 : decode cX0_looksAt 53 = .ok (.getfield 163, 3) := dk_180 0 163 (dk_at dksX0_looksAt_2 5 rfl rfl)
theorem dX0_looksAt_56 : decode cX0_looksAt 56 = .ok (.bipush 60, 2) := dk_16 60 (dk_at dksX0_looksAt_2 8 rfl rfl)
theorem dX0_looksAt_58 : decode cX0_looksAt 58 = .ok (.irem, 1) := dk_112 (dk_at dksX0_looksAt_2 10 rfl rfl)
theorem dX0_looksAt_59 : decode cX0_looksAt 59 = .ok (.putfield 166, 3) := dk_181 0 166 (dk_at dksX0_looksAt_2 11 rfl rfl)
theorem dX0_looksAt_62 : decode cX0_looksAt 62 = .ok (.aload_n 0, 1) := dk_42 (dk_at dksX0_looksAt_2 14 rfl rfl)
theorem dX0_looksAt_63 : decode cX0_looksAt 63 = .ok (.getfield 48, 3) := dk_180 0 48 (dk_at dksX0_looksAt_2 15 rfl rfl)
theorem dX0_looksAt_66 : decode cX0_looksAt 66 = .ok (.iload_n 3, 1) := dk_29 (dk_at dksX0_looksAt_2 18 rfl rfl)
theorem dX0_looksAt_67 : decode cX0_looksAt 67 = .ok (.bipush 99, 2) := dk_16 99 (dk_at dksX0_looksAt_2 19 rfl rfl)
theorem dX0_looksAt_69 : decode cX0_looksAt 69 = .ok (.if_icmp .ne 8, 3) := dk_160 0 8 (dk_at dksX0_looksAt_2 21 rfl rfl)
theorem dX0_looksAt_72 : decode cX0_looksAt 72 = .ok (.bipush 99, 2) := dk_16 99 (dk_at dksX0_looksAt_3 0 rfl rfl)
theorem dX0_looksAt_74 : decode cX0_looksAt 74 = .ok (.goto 8, 3) := dk_167 0 8 (dk_at dksX0_looksAt_3 2 rfl rfl)
theorem dX0_looksAt_77 : decode cX0_looksAt 77 = .ok (.iload 4, 2) := dk_21 4 (dk_at dksX0_looksAt_3 5 rfl rfl)
theorem dX0_looksAt_79 : decode cX0_looksAt 79 = .ok (.bipush 10, 2) := dk_16 10 (dk_at dksX0_looksAt_3 7 rfl rfl)
theorem dX0_looksAt_81 : decode cX0_looksAt 81 = .ok (.idiv, 1) := dk_108 (dk_at dksX0_looksAt_3 9 rfl rfl)
theorem dX0_looksAt_82 : decode cX0_looksAt 82 = .ok (.putfield 167, 3) := dk_181 0 167 (dk_at dksX0_looksAt_3 10 rfl rfl)
theorem dX0_looksAt_85 : decode cX0_looksAt 85 = .ok (.return_, 1) := dk_177 (dk_at dksX0_looksAt_3 13 rfl rfl)
theorem gf_looksAt : xV yX0_looksAt RX0 cX0_looksAt 5 none 4 := ⟨q515, qs3, q87, q516, ⟨rfl, by decide +kernel, by decide +kernel, by decide +kernel⟩, by decide⟩
abbrev cX0_takesBy : ByteArray := prog_1_method_10_code
def yX0_takesBy : MethodName := ⟨RX0, "takesBy", "(IIII)I"⟩
def dkwX0_takesBy_1 : List UInt8 := [184, 0, 186, 184, 0, 192, 172]
abbrev dktX0_takesBy_1 : List UInt8 := dkwX0_takesBy_1 ++ []
def dkwX0_takesBy_0 : List UInt8 := [3, 29, 42, 180, 0, 13, 27, 50, 29, 21, 4, 42, 180, 0, 21, 7, 27, 104, 28, 96, 46, 182, 0, 182]
abbrev dktX0_takesBy_0 : List UInt8 := dkwX0_takesBy_0 ++ dktX0_takesBy_1
theorem dksX0_takesBy_0 : cX0_takesBy.data.toList.drop 0 = dktX0_takesBy_0 := by decide +kernel
theorem dksX0_takesBy_1 : cX0_takesBy.data.toList.drop 24 = dktX0_takesBy_1 := dk_seg dksX0_takesBy_0 24 rfl rfl
theorem dX0_takesBy_0 : decode cX0_takesBy 0 = .ok (.iconst 0, 1) := dk_3 (dk_at dksX0_takesBy_0 0 rfl rfl)
theorem dX0_takesBy_1 : decode cX0_takesBy 1 = .ok (.iload_n 3, 1) := dk_29 (dk_at dksX0_takesBy_0 1 rfl rfl)
theorem dX0_takesBy_2 : decode cX0_takesBy 2 = .ok (.aload_n 0, 1) := dk_42 (dk_at dksX0_takesBy_0 2 rfl rfl)
theorem dX0_takesBy_3 : decode cX0_takesBy 3 = .ok (.getfield 13, 3) := dk_180 0 13 (dk_at dksX0_takesBy_0 3 rfl rfl)
theorem dX0_takesBy_6 : decode cX0_takesBy 6 = .ok (.iload_n 1, 1) := dk_27 (dk_at dksX0_takesBy_0 6 rfl rfl)
theorem dX0_takesBy_7 : decode cX0_takesBy 7 = .ok (.aaload, 1) := dk_50 (dk_at dksX0_takesBy_0 7 rfl rfl)
theorem dX0_takesBy_8 : decode cX0_takesBy 8 = .ok (.iload_n 3, 1) := dk_29 (dk_at dksX0_takesBy_0 8 rfl rfl)
theorem dX0_takesBy_9 : decode cX0_takesBy 9 = .ok (.iload 4, 2) := dk_21 4 (dk_at dksX0_takesBy_0 9 rfl rfl)
theorem dX0_takesBy_11 : decode cX0_takesBy 11 = .ok (.aload_n 0, 1) := dk_42 (dk_at dksX0_takesBy_0 11 rfl rfl)
theorem dX0_takesBy_12 : decode cX0_takesBy 12 = .ok (.getfield 21, 3) := dk_180 0 21 (dk_at dksX0_takesBy_0 12 rfl rfl)
theorem dX0_takesBy_15 : decode cX0_takesBy 15 = .ok (.iconst 4, 1) := dk_7 (dk_at dksX0_takesBy_0 15 rfl rfl)
theorem dX0_takesBy_16 : decode cX0_takesBy 16 = .ok (.iload_n 1, 1) := dk_27 (dk_at dksX0_takesBy_0 16 rfl rfl)
theorem dX0_takesBy_17 : decode cX0_takesBy 17 = .ok (.imul, 1) := dk_104 (dk_at dksX0_takesBy_0 17 rfl rfl)
theorem dX0_takesBy_18 : decode cX0_takesBy 18 = .ok (.iload_n 2, 1) := dk_28 (dk_at dksX0_takesBy_0 18 rfl rfl)
theorem dX0_takesBy_19 : decode cX0_takesBy 19 = .ok (.iadd, 1) := dk_96 (dk_at dksX0_takesBy_0 19 rfl rfl)
theorem dX0_takesBy_20 : decode cX0_takesBy 20 = .ok (.iaload, 1) := dk_46 (dk_at dksX0_takesBy_0 20 rfl rfl)
theorem dX0_takesBy_21 : decode cX0_takesBy 21 = .ok (.invokevirtual 182, 3) := dk_182 0 182 (dk_at dksX0_takesBy_0 21 rfl rfl)
theorem dX0_takesBy_24 : decode cX0_takesBy 24 = .ok (.invokestatic 186, 3) := dk_184 0 186 (dk_at dksX0_takesBy_1 0 rfl rfl)
theorem dX0_takesBy_27 : decode cX0_takesBy 27 = .ok (.invokestatic 192, 3) := dk_184 0 192 (dk_at dksX0_takesBy_1 3 rfl rfl)
theorem dX0_takesBy_30 : decode cX0_takesBy 30 = .ok (.ireturn, 1) := dk_172 (dk_at dksX0_takesBy_1 6 rfl rfl)
theorem gf_takesBy : xV yX0_takesBy RX0 cX0_takesBy 5 (some .int) 4 := ⟨q582, qs6, q87, q583, ⟨rfl, by decide +kernel, by decide +kernel, by decide +kernel⟩, by decide⟩
abbrev cX0_takesOf : ByteArray := prog_1_method_9_code
def yX0_takesOf : MethodName := ⟨RX0, "takesOf", "(LBakedBefore$Time;III)I"⟩
def dkwX0_takesOf_1 : List UInt8 := [182, 0, 174, 182, 0, 178, 172]
abbrev dktX0_takesOf_1 : List UInt8 := dkwX0_takesOf_1 ++ []
def dkwX0_takesOf_0 : List UInt8 := [42, 43, 28, 29, 21, 4, 182, 0, 170, 42, 28, 29, 21, 4, 42, 180, 0, 41, 42, 180, 0, 48]
abbrev dktX0_takesOf_0 : List UInt8 := dkwX0_takesOf_0 ++ dktX0_takesOf_1
theorem dksX0_takesOf_0 : cX0_takesOf.data.toList.drop 0 = dktX0_takesOf_0 := by decide +kernel
theorem dksX0_takesOf_1 : cX0_takesOf.data.toList.drop 22 = dktX0_takesOf_1 := dk_seg dksX0_takesOf_0 22 rfl rfl
theorem dX0_takesOf_0 : decode cX0_takesOf 0 = .ok (.aload_n 0, 1) := dk_42 (dk_at dksX0_takesOf_0 0 rfl rfl)
theorem dX0_takesOf_1 : decode cX0_takesOf 1 = .ok (.aload_n 1, 1) := dk_43 (dk_at dksX0_takesOf_0 1 rfl rfl)
theorem dX0_takesOf_2 : decode cX0_takesOf 2 = .ok (.iload_n 2, 1) := dk_28 (dk_at dksX0_takesOf_0 2 rfl rfl)
theorem dX0_takesOf_3 : decode cX0_takesOf 3 = .ok (.iload_n 3, 1) := dk_29 (dk_at dksX0_takesOf_0 3 rfl rfl)
theorem dX0_takesOf_4 : decode cX0_takesOf 4 = .ok (.iload 4, 2) := dk_21 4 (dk_at dksX0_takesOf_0 4 rfl rfl)
theorem dX0_takesOf_6 : decode cX0_takesOf 6 = .ok (.invokevirtual 170, 3) := dk_182 0 170 (dk_at dksX0_takesOf_0 6 rfl rfl)
theorem dX0_takesOf_9 : decode cX0_takesOf 9 = .ok (.aload_n 0, 1) := dk_42 (dk_at dksX0_takesOf_0 9 rfl rfl)
theorem dX0_takesOf_10 : decode cX0_takesOf 10 = .ok (.iload_n 2, 1) := dk_28 (dk_at dksX0_takesOf_0 10 rfl rfl)
theorem dX0_takesOf_11 : decode cX0_takesOf 11 = .ok (.iload_n 3, 1) := dk_29 (dk_at dksX0_takesOf_0 11 rfl rfl)
theorem dX0_takesOf_12 : decode cX0_takesOf 12 = .ok (.iload 4, 2) := dk_21 4 (dk_at dksX0_takesOf_0 12 rfl rfl)
theorem dX0_takesOf_14 : decode cX0_takesOf 14 = .ok (.aload_n 0, 1) := dk_42 (dk_at dksX0_takesOf_0 14 rfl rfl)
theorem dX0_takesOf_15 : decode cX0_takesOf 15 = .ok (.getfield 41, 3) := dk_180 0 41 (dk_at dksX0_takesOf_0 15 rfl rfl)
theorem dX0_takesOf_18 : decode cX0_takesOf 18 = .ok (.aload_n 0, 1) := dk_42 (dk_at dksX0_takesOf_0 18 rfl rfl)
theorem dX0_takesOf_19 : decode cX0_takesOf 19 = .ok (.getfield 48, 3) := dk_180 0 48 (dk_at dksX0_takesOf_0 19 rfl rfl)
theorem dX0_takesOf_22 : decode cX0_takesOf 22 = .ok (.invokevirtual 174, 3) := dk_182 0 174 (dk_at dksX0_takesOf_1 0 rfl rfl)
theorem dX0_takesOf_25 : decode cX0_takesOf 25 = .ok (.invokevirtual 178, 3) := dk_182 0 178 (dk_at dksX0_takesOf_1 3 rfl rfl)
theorem dX0_takesOf_28 : decode cX0_takesOf 28 = .ok (.ireturn, 1) := dk_172 (dk_at dksX0_takesOf_1 6 rfl rfl)
theorem gf_takesOf : xV yX0_takesOf RX0 cX0_takesOf 5 (some .int) 4 := ⟨q570, qs5, q87, q571, ⟨rfl, by decide +kernel, by decide +kernel, by decide +kernel⟩, by decide⟩
abbrev cX0_leavesOf : ByteArray := prog_1_method_11_code
def yX0_leavesOf : MethodName := ⟨RX0, "leavesOf", "(LBakedBefore$Time;II)I"⟩
def dkwX0_leavesOf_1 : List UInt8 := [28, 104, 29, 96, 46, 42, 180, 0, 41, 42, 180, 0, 48, 182, 0, 198, 96, 29, 182, 0, 201, 172]
abbrev dktX0_leavesOf_1 : List UInt8 := dkwX0_leavesOf_1 ++ []
def dkwX0_leavesOf_0 : List UInt8 := [42, 43, 28, 29, 43, 180, 0, 195, 29, 46, 182, 0, 170, 42, 180, 0, 13, 28, 50, 42, 180, 0, 17, 7]
abbrev dktX0_leavesOf_0 : List UInt8 := dkwX0_leavesOf_0 ++ dktX0_leavesOf_1
theorem dksX0_leavesOf_0 : cX0_leavesOf.data.toList.drop 0 = dktX0_leavesOf_0 := by decide +kernel
theorem dksX0_leavesOf_1 : cX0_leavesOf.data.toList.drop 24 = dktX0_leavesOf_1 := dk_seg dksX0_leavesOf_0 24 rfl rfl
theorem dX0_leavesOf_0 : decode cX0_leavesOf 0 = .ok (.aload_n 0, 1) := dk_42 (dk_at dksX0_leavesOf_0 0 rfl rfl)
theorem dX0_leavesOf_1 : decode cX0_leavesOf 1 = .ok (.aload_n 1, 1) := dk_43 (dk_at dksX0_leavesOf_0 1 rfl rfl)
theorem dX0_leavesOf_2 : decode cX0_leavesOf 2 = .ok (.iload_n 2, 1) := dk_28 (dk_at dksX0_leavesOf_0 2 rfl rfl)
theorem dX0_leavesOf_3 : decode cX0_leavesOf 3 = .ok (.iload_n 3, 1) := dk_29 (dk_at dksX0_leavesOf_0 3 rfl rfl)
theorem dX0_leavesOf_4 : decode cX0_leavesOf 4 = .ok (.aload_n 1, 1) := dk_43 (dk_at dksX0_leavesOf_0 4 rfl rfl)
theorem dX0_leavesOf_5 : decode cX0_leavesOf 5 = .ok (.getfield 195, 3) := dk_180 0 195 (dk_at dksX0_leavesOf_0 5 rfl rfl)
theorem dX0_leavesOf_8 : decode cX0_leavesOf 8 = .ok (.iload_n 3, 1) := dk_29 (dk_at dksX0_leavesOf_0 8 rfl rfl)
theorem dX0_leavesOf_9 : decode cX0_leavesOf 9 = .ok (.iaload, 1) := dk_46 (dk_at dksX0_leavesOf_0 9 rfl rfl)
theorem dX0_leavesOf_10 : decode cX0_leavesOf 10 = .ok (.invokevirtual 170, 3) := dk_182 0 170 (dk_at dksX0_leavesOf_0 10 rfl rfl)
theorem dX0_leavesOf_13 : decode cX0_leavesOf 13 = .ok (.aload_n 0, 1) := dk_42 (dk_at dksX0_leavesOf_0 13 rfl rfl)
theorem dX0_leavesOf_14 : decode cX0_leavesOf 14 = .ok (.getfield 13, 3) := dk_180 0 13 (dk_at dksX0_leavesOf_0 14 rfl rfl)
theorem dX0_leavesOf_17 : decode cX0_leavesOf 17 = .ok (.iload_n 2, 1) := dk_28 (dk_at dksX0_leavesOf_0 17 rfl rfl)
theorem dX0_leavesOf_18 : decode cX0_leavesOf 18 = .ok (.aaload, 1) := dk_50 (dk_at dksX0_leavesOf_0 18 rfl rfl)
theorem dX0_leavesOf_19 : decode cX0_leavesOf 19 = .ok (.aload_n 0, 1) := dk_42 (dk_at dksX0_leavesOf_0 19 rfl rfl)
theorem dX0_leavesOf_20 : decode cX0_leavesOf 20 = .ok (.getfield 17, 3) := dk_180 0 17 (dk_at dksX0_leavesOf_0 20 rfl rfl)
theorem dX0_leavesOf_23 : decode cX0_leavesOf 23 = .ok (.iconst 4, 1) := dk_7 (dk_at dksX0_leavesOf_0 23 rfl rfl)
theorem dX0_leavesOf_24 : decode cX0_leavesOf 24 = .ok (.iload_n 2, 1) := dk_28 (dk_at dksX0_leavesOf_1 0 rfl rfl)
theorem dX0_leavesOf_25 : decode cX0_leavesOf 25 = .ok (.imul, 1) := dk_104 (dk_at dksX0_leavesOf_1 1 rfl rfl)
theorem dX0_leavesOf_26 : decode cX0_leavesOf 26 = .ok (.iload_n 3, 1) := dk_29 (dk_at dksX0_leavesOf_1 2 rfl rfl)
theorem dX0_leavesOf_27 : decode cX0_leavesOf 27 = .ok (.iadd, 1) := dk_96 (dk_at dksX0_leavesOf_1 3 rfl rfl)
theorem dX0_leavesOf_28 : decode cX0_leavesOf 28 = .ok (.iaload, 1) := dk_46 (dk_at dksX0_leavesOf_1 4 rfl rfl)
theorem dX0_leavesOf_29 : decode cX0_leavesOf 29 = .ok (.aload_n 0, 1) := dk_42 (dk_at dksX0_leavesOf_1 5 rfl rfl)
theorem dX0_leavesOf_30 : decode cX0_leavesOf 30 = .ok (.getfield 41, 3) := dk_180 0 41 (dk_at dksX0_leavesOf_1 6 rfl rfl)
theorem dX0_leavesOf_33 : decode cX0_leavesOf 33 = .ok (.aload_n 0, 1) := dk_42 (dk_at dksX0_leavesOf_1 9 rfl rfl)
theorem dX0_leavesOf_34 : decode cX0_leavesOf 34 = .ok (.getfield 48, 3) := dk_180 0 48 (dk_at dksX0_leavesOf_1 10 rfl rfl)
theorem dX0_leavesOf_37 : decode cX0_leavesOf 37 = .ok (.invokevirtual 198, 3) := dk_182 0 198 (dk_at dksX0_leavesOf_1 13 rfl rfl)
theorem dX0_leavesOf_40 : decode cX0_leavesOf 40 = .ok (.iadd, 1) := dk_96 (dk_at dksX0_leavesOf_1 16 rfl rfl)
theorem dX0_leavesOf_41 : decode cX0_leavesOf 41 = .ok (.iload_n 3, 1) := dk_29 (dk_at dksX0_leavesOf_1 17 rfl rfl)
theorem dX0_leavesOf_42 : decode cX0_leavesOf 42 = .ok (.invokevirtual 201, 3) := dk_182 0 201 (dk_at dksX0_leavesOf_1 18 rfl rfl)
theorem dX0_leavesOf_45 : decode cX0_leavesOf 45 = .ok (.ireturn, 1) := dk_172 (dk_at dksX0_leavesOf_1 21 rfl rfl)
theorem gf_leavesOf : xV yX0_leavesOf RX0 cX0_leavesOf 4 (some .int) 3 := ⟨q618, qs7, q87, q619, ⟨rfl, by decide +kernel, by decide +kernel, by decide +kernel⟩, by decide⟩
abbrev cX0_feeOf : ByteArray := prog_1_method_12_code
def yX0_feeOf : MethodName := ⟨RX0, "feeOf", "(I)I"⟩
def dkwX0_feeOf_1 : List UInt8 := [172]
abbrev dktX0_feeOf_1 : List UInt8 := dkwX0_feeOf_1 ++ []
def dkwX0_feeOf_0 : List UInt8 := [42, 42, 180, 0, 27, 27, 16, 99, 16, 99, 182, 0, 170, 42, 180, 0, 41, 42, 180, 0, 48, 182, 0, 204]
abbrev dktX0_feeOf_0 : List UInt8 := dkwX0_feeOf_0 ++ dktX0_feeOf_1
theorem dksX0_feeOf_0 : cX0_feeOf.data.toList.drop 0 = dktX0_feeOf_0 := by decide +kernel
theorem dksX0_feeOf_1 : cX0_feeOf.data.toList.drop 24 = dktX0_feeOf_1 := dk_seg dksX0_feeOf_0 24 rfl rfl
theorem dX0_feeOf_0 : decode cX0_feeOf 0 = .ok (.aload_n 0, 1) := dk_42 (dk_at dksX0_feeOf_0 0 rfl rfl)
theorem dX0_feeOf_1 : decode cX0_feeOf 1 = .ok (.aload_n 0, 1) := dk_42 (dk_at dksX0_feeOf_0 1 rfl rfl)
theorem dX0_feeOf_2 : decode cX0_feeOf 2 = .ok (.getfield 27, 3) := dk_180 0 27 (dk_at dksX0_feeOf_0 2 rfl rfl)
theorem dX0_feeOf_5 : decode cX0_feeOf 5 = .ok (.iload_n 1, 1) := dk_27 (dk_at dksX0_feeOf_0 5 rfl rfl)
theorem dX0_feeOf_6 : decode cX0_feeOf 6 = .ok (.bipush 99, 2) := dk_16 99 (dk_at dksX0_feeOf_0 6 rfl rfl)
theorem dX0_feeOf_8 : decode cX0_feeOf 8 = .ok (.bipush 99, 2) := dk_16 99 (dk_at dksX0_feeOf_0 8 rfl rfl)
theorem dX0_feeOf_10 : decode cX0_feeOf 10 = .ok (.invokevirtual 170, 3) := dk_182 0 170 (dk_at dksX0_feeOf_0 10 rfl rfl)
theorem dX0_feeOf_13 : decode cX0_feeOf 13 = .ok (.aload_n 0, 1) := dk_42 (dk_at dksX0_feeOf_0 13 rfl rfl)
theorem dX0_feeOf_14 : decode cX0_feeOf 14 = .ok (.getfield 41, 3) := dk_180 0 41 (dk_at dksX0_feeOf_0 14 rfl rfl)
theorem dX0_feeOf_17 : decode cX0_feeOf 17 = .ok (.aload_n 0, 1) := dk_42 (dk_at dksX0_feeOf_0 17 rfl rfl)
theorem dX0_feeOf_18 : decode cX0_feeOf 18 = .ok (.getfield 48, 3) := dk_180 0 48 (dk_at dksX0_feeOf_0 18 rfl rfl)
theorem dX0_feeOf_21 : decode cX0_feeOf 21 = .ok (.invokevirtual 204, 3) := dk_182 0 204 (dk_at dksX0_feeOf_0 21 rfl rfl)
theorem dX0_feeOf_24 : decode cX0_feeOf 24 = .ok (.ireturn, 1) := dk_172 (dk_at dksX0_feeOf_1 0 rfl rfl)
theorem gf_feeOf : xV yX0_feeOf RX0 cX0_feeOf 2 (some .int) 1 := ⟨q511, qs2, q87, q512, ⟨rfl, by decide +kernel, by decide +kernel, by decide +kernel⟩, by decide⟩
abbrev cX0_takesAll : ByteArray := prog_1_method_13_code
def yX0_takesAll : MethodName := ⟨RX0, "takesAll", "(LBakedBefore$Time;I)I"⟩
def dkwX0_takesAll_1 : List UInt8 := [182, 0, 207, 96, 62, 132, 4, 1, 167, 255, 229, 29, 172]
abbrev dktX0_takesAll_1 : List UInt8 := dkwX0_takesAll_1 ++ []
def dkwX0_takesAll_0 : List UInt8 := [3, 62, 3, 54, 4, 21, 4, 7, 162, 0, 27, 29, 42, 43, 28, 21, 4, 43, 180, 0, 195, 21, 4, 46]
abbrev dktX0_takesAll_0 : List UInt8 := dkwX0_takesAll_0 ++ dktX0_takesAll_1
theorem dksX0_takesAll_0 : cX0_takesAll.data.toList.drop 0 = dktX0_takesAll_0 := by decide +kernel
theorem dksX0_takesAll_1 : cX0_takesAll.data.toList.drop 24 = dktX0_takesAll_1 := dk_seg dksX0_takesAll_0 24 rfl rfl
theorem dX0_takesAll_0 : decode cX0_takesAll 0 = .ok (.iconst 0, 1) := dk_3 (dk_at dksX0_takesAll_0 0 rfl rfl)
theorem dX0_takesAll_1 : decode cX0_takesAll 1 = .ok (.istore_n 3, 1) := dk_62 (dk_at dksX0_takesAll_0 1 rfl rfl)
theorem dX0_takesAll_2 : decode cX0_takesAll 2 = .ok (.iconst 0, 1) := dk_3 (dk_at dksX0_takesAll_0 2 rfl rfl)
theorem dX0_takesAll_3 : decode cX0_takesAll 3 = .ok (.istore 4, 2) := dk_54 4 (dk_at dksX0_takesAll_0 3 rfl rfl)
theorem dX0_takesAll_5 : decode cX0_takesAll 5 = .ok (.iload 4, 2) := dk_21 4 (dk_at dksX0_takesAll_0 5 rfl rfl)
theorem dX0_takesAll_7 : decode cX0_takesAll 7 = .ok (.iconst 4, 1) := dk_7 (dk_at dksX0_takesAll_0 7 rfl rfl)
theorem dX0_takesAll_8 : decode cX0_takesAll 8 = .ok (.if_icmp .ge 27, 3) := dk_162 0 27 (dk_at dksX0_takesAll_0 8 rfl rfl)
theorem dX0_takesAll_11 : decode cX0_takesAll 11 = .ok (.iload_n 3, 1) := dk_29 (dk_at dksX0_takesAll_0 11 rfl rfl)
theorem dX0_takesAll_12 : decode cX0_takesAll 12 = .ok (.aload_n 0, 1) := dk_42 (dk_at dksX0_takesAll_0 12 rfl rfl)
theorem dX0_takesAll_13 : decode cX0_takesAll 13 = .ok (.aload_n 1, 1) := dk_43 (dk_at dksX0_takesAll_0 13 rfl rfl)
theorem dX0_takesAll_14 : decode cX0_takesAll 14 = .ok (.iload_n 2, 1) := dk_28 (dk_at dksX0_takesAll_0 14 rfl rfl)
theorem dX0_takesAll_15 : decode cX0_takesAll 15 = .ok (.iload 4, 2) := dk_21 4 (dk_at dksX0_takesAll_0 15 rfl rfl)
theorem dX0_takesAll_17 : decode cX0_takesAll 17 = .ok (.aload_n 1, 1) := dk_43 (dk_at dksX0_takesAll_0 17 rfl rfl)
theorem dX0_takesAll_18 : decode cX0_takesAll 18 = .ok (.getfield 195, 3) := dk_180 0 195 (dk_at dksX0_takesAll_0 18 rfl rfl)
theorem dX0_takesAll_21 : decode cX0_takesAll 21 = .ok (.iload 4, 2) := dk_21 4 (dk_at dksX0_takesAll_0 21 rfl rfl)
theorem dX0_takesAll_23 : decode cX0_takesAll 23 = .ok (.iaload, 1) := dk_46 (dk_at dksX0_takesAll_0 23 rfl rfl)
theorem dX0_takesAll_24 : decode cX0_takesAll 24 = .ok (.invokevirtual 207, 3) := dk_182 0 207 (dk_at dksX0_takesAll_1 0 rfl rfl)
theorem dX0_takesAll_27 : decode cX0_takesAll 27 = .ok (.iadd, 1) := dk_96 (dk_at dksX0_takesAll_1 3 rfl rfl)
theorem dX0_takesAll_28 : decode cX0_takesAll 28 = .ok (.istore_n 3, 1) := dk_62 (dk_at dksX0_takesAll_1 4 rfl rfl)
theorem dX0_takesAll_29 : decode cX0_takesAll 29 = .ok (.iinc 4 1, 3) := dk_132 4 1 (dk_at dksX0_takesAll_1 5 rfl rfl)
theorem dX0_takesAll_32 : decode cX0_takesAll 32 = .ok (.goto (-27), 3) := dk_167 255 229 (dk_at dksX0_takesAll_1 8 rfl rfl)
theorem dX0_takesAll_35 : decode cX0_takesAll 35 = .ok (.iload_n 3, 1) := dk_29 (dk_at dksX0_takesAll_1 11 rfl rfl)
theorem dX0_takesAll_36 : decode cX0_takesAll 36 = .ok (.ireturn, 1) := dk_172 (dk_at dksX0_takesAll_1 12 rfl rfl)
theorem gf_takesAll : xV yX0_takesAll RX0 cX0_takesAll 5 (some .int) 2 := ⟨q1076, qs33, q87, q1077, ⟨rfl, by decide +kernel, by decide +kernel, by decide +kernel⟩, by decide⟩
abbrev cX0_isSpoiled : ByteArray := prog_1_method_14_code
def yX0_isSpoiled : MethodName := ⟨RX0, "isSpoiled", "(LBakedBefore$Time;I)Z"⟩
def dkwX0_isSpoiled_1 : List UInt8 := [7, 28, 104, 29, 96, 46, 164, 0, 5, 4, 172, 132, 3, 1, 167, 255, 220, 3, 172]
abbrev dktX0_isSpoiled_1 : List UInt8 := dkwX0_isSpoiled_1 ++ []
def dkwX0_isSpoiled_0 : List UInt8 := [3, 62, 29, 7, 162, 0, 37, 42, 43, 28, 29, 43, 180, 0, 195, 29, 46, 182, 0, 207, 42, 180, 0, 21]
abbrev dktX0_isSpoiled_0 : List UInt8 := dkwX0_isSpoiled_0 ++ dktX0_isSpoiled_1
theorem dksX0_isSpoiled_0 : cX0_isSpoiled.data.toList.drop 0 = dktX0_isSpoiled_0 := by decide +kernel
theorem dksX0_isSpoiled_1 : cX0_isSpoiled.data.toList.drop 24 = dktX0_isSpoiled_1 := dk_seg dksX0_isSpoiled_0 24 rfl rfl
theorem dX0_isSpoiled_0 : decode cX0_isSpoiled 0 = .ok (.iconst 0, 1) := dk_3 (dk_at dksX0_isSpoiled_0 0 rfl rfl)
theorem dX0_isSpoiled_1 : decode cX0_isSpoiled 1 = .ok (.istore_n 3, 1) := dk_62 (dk_at dksX0_isSpoiled_0 1 rfl rfl)
theorem dX0_isSpoiled_2 : decode cX0_isSpoiled 2 = .ok (.iload_n 3, 1) := dk_29 (dk_at dksX0_isSpoiled_0 2 rfl rfl)
theorem dX0_isSpoiled_3 : decode cX0_isSpoiled 3 = .ok (.iconst 4, 1) := dk_7 (dk_at dksX0_isSpoiled_0 3 rfl rfl)
theorem dX0_isSpoiled_4 : decode cX0_isSpoiled 4 = .ok (.if_icmp .ge 37, 3) := dk_162 0 37 (dk_at dksX0_isSpoiled_0 4 rfl rfl)
theorem dX0_isSpoiled_7 : decode cX0_isSpoiled 7 = .ok (.aload_n 0, 1) := dk_42 (dk_at dksX0_isSpoiled_0 7 rfl rfl)
theorem dX0_isSpoiled_8 : decode cX0_isSpoiled 8 = .ok (.aload_n 1, 1) := dk_43 (dk_at dksX0_isSpoiled_0 8 rfl rfl)
theorem dX0_isSpoiled_9 : decode cX0_isSpoiled 9 = .ok (.iload_n 2, 1) := dk_28 (dk_at dksX0_isSpoiled_0 9 rfl rfl)
theorem dX0_isSpoiled_10 : decode cX0_isSpoiled 10 = .ok (.iload_n 3, 1) := dk_29 (dk_at dksX0_isSpoiled_0 10 rfl rfl)
theorem dX0_isSpoiled_11 : decode cX0_isSpoiled 11 = .ok (.aload_n 1, 1) := dk_43 (dk_at dksX0_isSpoiled_0 11 rfl rfl)
theorem dX0_isSpoiled_12 : decode cX0_isSpoiled 12 = .ok (.getfield 195, 3) := dk_180 0 195 (dk_at dksX0_isSpoiled_0 12 rfl rfl)
theorem dX0_isSpoiled_15 : decode cX0_isSpoiled 15 = .ok (.iload_n 3, 1) := dk_29 (dk_at dksX0_isSpoiled_0 15 rfl rfl)
theorem dX0_isSpoiled_16 : decode cX0_isSpoiled 16 = .ok (.iaload, 1) := dk_46 (dk_at dksX0_isSpoiled_0 16 rfl rfl)
theorem dX0_isSpoiled_17 : decode cX0_isSpoiled 17 = .ok (.invokevirtual 207, 3) := dk_182 0 207 (dk_at dksX0_isSpoiled_0 17 rfl rfl)
theorem dX0_isSpoiled_20 : decode cX0_isSpoiled 20 = .ok (.aload_n 0, 1) := dk_42 (dk_at dksX0_isSpoiled_0 20 rfl rfl)
theorem dX0_isSpoiled_21 : decode cX0_isSpoiled 21 = .ok (.getfield 21, 3) := dk_180 0 21 (dk_at dksX0_isSpoiled_0 21 rfl rfl)
theorem dX0_isSpoiled_24 : decode cX0_isSpoiled 24 = .ok (.iconst 4, 1) := dk_7 (dk_at dksX0_isSpoiled_1 0 rfl rfl)
theorem dX0_isSpoiled_25 : decode cX0_isSpoiled 25 = .ok (.iload_n 2, 1) := dk_28 (dk_at dksX0_isSpoiled_1 1 rfl rfl)
theorem dX0_isSpoiled_26 : decode cX0_isSpoiled 26 = .ok (.imul, 1) := dk_104 (dk_at dksX0_isSpoiled_1 2 rfl rfl)
theorem dX0_isSpoiled_27 : decode cX0_isSpoiled 27 = .ok (.iload_n 3, 1) := dk_29 (dk_at dksX0_isSpoiled_1 3 rfl rfl)
theorem dX0_isSpoiled_28 : decode cX0_isSpoiled 28 = .ok (.iadd, 1) := dk_96 (dk_at dksX0_isSpoiled_1 4 rfl rfl)
theorem dX0_isSpoiled_29 : decode cX0_isSpoiled 29 = .ok (.iaload, 1) := dk_46 (dk_at dksX0_isSpoiled_1 5 rfl rfl)
theorem dX0_isSpoiled_30 : decode cX0_isSpoiled 30 = .ok (.if_icmp .le 5, 3) := dk_164 0 5 (dk_at dksX0_isSpoiled_1 6 rfl rfl)
theorem dX0_isSpoiled_33 : decode cX0_isSpoiled 33 = .ok (.iconst 1, 1) := dk_4 (dk_at dksX0_isSpoiled_1 9 rfl rfl)
theorem dX0_isSpoiled_34 : decode cX0_isSpoiled 34 = .ok (.ireturn, 1) := dk_172 (dk_at dksX0_isSpoiled_1 10 rfl rfl)
theorem dX0_isSpoiled_35 : decode cX0_isSpoiled 35 = .ok (.iinc 3 1, 3) := dk_132 3 1 (dk_at dksX0_isSpoiled_1 11 rfl rfl)
theorem dX0_isSpoiled_38 : decode cX0_isSpoiled 38 = .ok (.goto (-36), 3) := dk_167 255 220 (dk_at dksX0_isSpoiled_1 14 rfl rfl)
theorem dX0_isSpoiled_41 : decode cX0_isSpoiled 41 = .ok (.iconst 0, 1) := dk_3 (dk_at dksX0_isSpoiled_1 17 rfl rfl)
theorem dX0_isSpoiled_42 : decode cX0_isSpoiled 42 = .ok (.ireturn, 1) := dk_172 (dk_at dksX0_isSpoiled_1 18 rfl rfl)
theorem gf_isSpoiled : xV yX0_isSpoiled RX0 cX0_isSpoiled 4 (some .boolean) 2 := ⟨q566, qs4, q87, q567, ⟨rfl, by decide +kernel, by decide +kernel, by decide +kernel⟩, by decide⟩
abbrev cX0_of : ByteArray := prog_1_method_15_code
def yX0_of : MethodName := ⟨RX0, "of", "(II)I"⟩
def dkwX0_of_8 : List UInt8 := [180, 0, 27, 27, 29, 182, 0, 219, 172]
abbrev dktX0_of_8 : List UInt8 := dkwX0_of_8 ++ []
def dkwX0_of_7 : List UInt8 := [180, 0, 27, 27, 29, 42, 180, 0, 27, 180, 0, 195, 29, 46, 182, 0, 207, 167, 0, 13, 42, 42]
abbrev dktX0_of_7 : List UInt8 := dkwX0_of_7 ++ dktX0_of_8
def dkwX0_of_6 : List UInt8 := [162, 0, 16, 42, 180, 0, 21, 7, 27, 104, 29, 96, 46, 167, 0, 41, 28, 16, 40, 162, 0, 25, 42, 42]
abbrev dktX0_of_6 : List UInt8 := dkwX0_of_6 ++ dktX0_of_7
def dkwX0_of_5 : List UInt8 := [28, 16, 20, 162, 0, 16, 42, 180, 0, 17, 7, 27, 104, 29, 96, 46, 167, 0, 60, 28, 16, 30]
abbrev dktX0_of_5 : List UInt8 := dkwX0_of_5 ++ dktX0_of_6
def dkwX0_of_4 : List UInt8 := [16, 10, 112, 62, 28, 16, 10, 16, 49, 184, 0, 111, 153, 0, 10, 29, 184, 0, 144, 154, 0, 5, 2, 172]
abbrev dktX0_of_4 : List UInt8 := dkwX0_of_4 ++ dktX0_of_5
def dkwX0_of_3 : List UInt8 := [182, 0, 211, 172, 42, 42, 180, 0, 27, 27, 182, 0, 215, 153, 0, 7, 4, 167, 0, 4, 3, 172, 28]
abbrev dktX0_of_3 : List UInt8 := dkwX0_of_3 ++ dktX0_of_4
def dkwX0_of_2 : List UInt8 := [42, 180, 0, 13, 27, 50, 182, 0, 150, 172, 42, 180, 0, 13, 27, 50, 180, 0, 159, 172, 42, 27]
abbrev dktX0_of_2 : List UInt8 := dkwX0_of_2 ++ dktX0_of_3
def dkwX0_of_1 : List UInt8 := [170, 0, 0, 0, 73, 0, 0, 0, 0, 0, 0, 0, 3, 0, 0, 0, 29, 0, 0, 0, 39, 0, 0, 0, 49, 0, 0, 0, 55]
abbrev dktX0_of_1 : List UInt8 := dkwX0_of_1 ++ dktX0_of_2
def dkwX0_of_0 : List UInt8 := [42, 27, 182, 0, 140, 154, 0, 5, 2, 172, 28]
abbrev dktX0_of_0 : List UInt8 := dkwX0_of_0 ++ dktX0_of_1
theorem dksX0_of_0 : cX0_of.data.toList.drop 0 = dktX0_of_0 := by decide +kernel
theorem dksX0_of_1 : cX0_of.data.toList.drop 11 = dktX0_of_1 := dk_seg dksX0_of_0 11 rfl rfl
theorem dksX0_of_2 : cX0_of.data.toList.drop 40 = dktX0_of_2 := dk_seg dksX0_of_1 29 rfl rfl
theorem dksX0_of_3 : cX0_of.data.toList.drop 62 = dktX0_of_3 := dk_seg dksX0_of_2 22 rfl rfl
theorem dksX0_of_4 : cX0_of.data.toList.drop 85 = dktX0_of_4 := dk_seg dksX0_of_3 23 rfl rfl
theorem dksX0_of_5 : cX0_of.data.toList.drop 109 = dktX0_of_5 := dk_seg dksX0_of_4 24 rfl rfl
theorem dksX0_of_6 : cX0_of.data.toList.drop 131 = dktX0_of_6 := dk_seg dksX0_of_5 22 rfl rfl
theorem dksX0_of_7 : cX0_of.data.toList.drop 155 = dktX0_of_7 := dk_seg dksX0_of_6 24 rfl rfl
theorem dksX0_of_8 : cX0_of.data.toList.drop 177 = dktX0_of_8 := dk_seg dksX0_of_7 22 rfl rfl
theorem dX0_of_0 : decode cX0_of 0 = .ok (.aload_n 0, 1) := dk_42 (dk_at dksX0_of_0 0 rfl rfl)
theorem dX0_of_1 : decode cX0_of 1 = .ok (.iload_n 1, 1) := dk_27 (dk_at dksX0_of_0 1 rfl rfl)
theorem dX0_of_2 : decode cX0_of 2 = .ok (.invokevirtual 140, 3) := dk_182 0 140 (dk_at dksX0_of_0 2 rfl rfl)
theorem dX0_of_5 : decode cX0_of 5 = .ok (.ifCond .ne 5, 3) := dk_154 0 5 (dk_at dksX0_of_0 5 rfl rfl)
theorem dX0_of_8 : decode cX0_of 8 = .ok (.iconst (-1), 1) := dk_2 (dk_at dksX0_of_0 8 rfl rfl)
theorem dX0_of_9 : decode cX0_of 9 = .ok (.ireturn, 1) := dk_172 (dk_at dksX0_of_0 9 rfl rfl)
theorem dX0_of_10 : decode cX0_of 10 = .ok (.iload_n 2, 1) := dk_28 (dk_at dksX0_of_0 10 rfl rfl)
theorem dX0_of_11 : decode cX0_of 11 = .ok (.tableswitch 73 0 3 #[29, 39, 49, 55], 29) := by decide +kernel
theorem dX0_of_40 : decode cX0_of 40 = .ok (.aload_n 0, 1) := dk_42 (dk_at dksX0_of_2 0 rfl rfl)
theorem dX0_of_41 : decode cX0_of 41 = .ok (.getfield 13, 3) := dk_180 0 13 (dk_at dksX0_of_2 1 rfl rfl)
theorem dX0_of_44 : decode cX0_of 44 = .ok (.iload_n 1, 1) := dk_27 (dk_at dksX0_of_2 4 rfl rfl)
theorem dX0_of_45 : decode cX0_of 45 = .ok (.aaload, 1) := dk_50 (dk_at dksX0_of_2 5 rfl rfl)
theorem dX0_of_46 : decode cX0_of 46 = .ok (.invokevirtual 150, 3) := dk_182 0 150 (dk_at dksX0_of_2 6 rfl rfl)
theorem dX0_of_49 : decode cX0_of 49 = .ok (.ireturn, 1) := dk_172 (dk_at dksX0_of_2 9 rfl rfl)
theorem dX0_of_50 : decode cX0_of 50 = .ok (.aload_n 0, 1) := dk_42 (dk_at dksX0_of_2 10 rfl rfl)
theorem dX0_of_51 : decode cX0_of 51 = .ok (.getfield 13, 3) := dk_180 0 13 (dk_at dksX0_of_2 11 rfl rfl)
theorem dX0_of_54 : decode cX0_of 54 = .ok (.iload_n 1, 1) := dk_27 (dk_at dksX0_of_2 14 rfl rfl)
theorem dX0_of_55 : decode cX0_of 55 = .ok (.aaload, 1) := dk_50 (dk_at dksX0_of_2 15 rfl rfl)
theorem dX0_of_56 : decode cX0_of 56 = .ok (.getfield 159, 3) := dk_180 0 159 (dk_at dksX0_of_2 16 rfl rfl)
theorem dX0_of_59 : decode cX0_of 59 = .ok (.ireturn, 1) := dk_172 (dk_at dksX0_of_2 19 rfl rfl)
theorem dX0_of_60 : decode cX0_of 60 = .ok (.aload_n 0, 1) := dk_42 (dk_at dksX0_of_2 20 rfl rfl)
theorem dX0_of_61 : decode cX0_of 61 = .ok (.iload_n 1, 1) := dk_27 (dk_at dksX0_of_2 21 rfl rfl)
theorem dX0_of_62 : decode cX0_of 62 = .ok (.invokevirtual 211, 3) := dk_182 0 211 (dk_at dksX0_of_3 0 rfl rfl)
theorem dX0_of_65 : decode cX0_of 65 = .ok (.ireturn, 1) := dk_172 (dk_at dksX0_of_3 3 rfl rfl)
theorem dX0_of_66 : decode cX0_of 66 = .ok (.aload_n 0, 1) := dk_42 (dk_at dksX0_of_3 4 rfl rfl)
theorem dX0_of_67 : decode cX0_of 67 = .ok (.aload_n 0, 1) := dk_42 (dk_at dksX0_of_3 5 rfl rfl)
theorem dX0_of_68 : decode cX0_of 68 = .ok (.getfield 27, 3) := dk_180 0 27 (dk_at dksX0_of_3 6 rfl rfl)
theorem dX0_of_71 : decode cX0_of 71 = .ok (.iload_n 1, 1) := dk_27 (dk_at dksX0_of_3 9 rfl rfl)
theorem dX0_of_72 : decode cX0_of 72 = .ok (.invokevirtual 215, 3) := dk_182 0 215 (dk_at dksX0_of_3 10 rfl rfl)
theorem dX0_of_75 : decode cX0_of 75 = .ok (.ifCond .eq 7, 3) := dk_153 0 7 (dk_at dksX0_of_3 13 rfl rfl)
theorem dX0_of_78 : decode cX0_of 78 = .ok (.iconst 1, 1) := dk_4 (dk_at dksX0_of_3 16 rfl rfl)
theorem dX0_of_79 : decode cX0_of 79 = .ok (.goto 4, 3) := dk_167 0 4 (dk_at dksX0_of_3 17 rfl rfl)
theorem dX0_of_82 : decode cX0_of 82 = .ok (.iconst 0, 1) := dk_3 (dk_at dksX0_of_3 20 rfl rfl)
theorem dX0_of_83 : decode cX0_of 83 = .ok (.ireturn, 1) := dk_172 (dk_at dksX0_of_3 21 rfl rfl)
theorem dX0_of_84 : decode cX0_of 84 = .ok (.iload_n 2, 1) := dk_28 (dk_at dksX0_of_3 22 rfl rfl)
theorem dX0_of_85 : decode cX0_of 85 = .ok (.bipush 10, 2) := dk_16 10 (dk_at dksX0_of_4 0 rfl rfl)
theorem dX0_of_87 : decode cX0_of 87 = .ok (.irem, 1) := dk_112 (dk_at dksX0_of_4 2 rfl rfl)
theorem dX0_of_88 : decode cX0_of 88 = .ok (.istore_n 3, 1) := dk_62 (dk_at dksX0_of_4 3 rfl rfl)
theorem dX0_of_89 : decode cX0_of 89 = .ok (.iload_n 2, 1) := dk_28 (dk_at dksX0_of_4 4 rfl rfl)
theorem dX0_of_90 : decode cX0_of 90 = .ok (.bipush 10, 2) := dk_16 10 (dk_at dksX0_of_4 5 rfl rfl)
theorem dX0_of_92 : decode cX0_of 92 = .ok (.bipush 49, 2) := dk_16 49 (dk_at dksX0_of_4 7 rfl rfl)
theorem dX0_of_94 : decode cX0_of 94 = .ok (.invokestatic 111, 3) := dk_184 0 111 (dk_at dksX0_of_4 9 rfl rfl)
theorem dX0_of_97 : decode cX0_of 97 = .ok (.ifCond .eq 10, 3) := dk_153 0 10 (dk_at dksX0_of_4 12 rfl rfl)
theorem dX0_of_100 : decode cX0_of 100 = .ok (.iload_n 3, 1) := dk_29 (dk_at dksX0_of_4 15 rfl rfl)
theorem dX0_of_101 : decode cX0_of 101 = .ok (.invokestatic 144, 3) := dk_184 0 144 (dk_at dksX0_of_4 16 rfl rfl)
theorem dX0_of_104 : decode cX0_of 104 = .ok (.ifCond .ne 5, 3) := dk_154 0 5 (dk_at dksX0_of_4 19 rfl rfl)
theorem dX0_of_107 : decode cX0_of 107 = .ok (.iconst (-1), 1) := dk_2 (dk_at dksX0_of_4 22 rfl rfl)
theorem dX0_of_108 : decode cX0_of 108 = .ok (.ireturn, 1) := dk_172 (dk_at dksX0_of_4 23 rfl rfl)
theorem dX0_of_109 : decode cX0_of 109 = .ok (.iload_n 2, 1) := dk_28 (dk_at dksX0_of_5 0 rfl rfl)
theorem dX0_of_110 : decode cX0_of 110 = .ok (.bipush 20, 2) := dk_16 20 (dk_at dksX0_of_5 1 rfl rfl)
theorem dX0_of_112 : decode cX0_of 112 = .ok (.if_icmp .ge 16, 3) := dk_162 0 16 (dk_at dksX0_of_5 3 rfl rfl)
theorem dX0_of_115 : decode cX0_of 115 = .ok (.aload_n 0, 1) := dk_42 (dk_at dksX0_of_5 6 rfl rfl)
theorem dX0_of_116 : decode cX0_of 116 = .ok (.getfield 17, 3) := dk_180 0 17 (dk_at dksX0_of_5 7 rfl rfl)
theorem dX0_of_119 : decode cX0_of 119 = .ok (.iconst 4, 1) := dk_7 (dk_at dksX0_of_5 10 rfl rfl)
theorem dX0_of_120 : decode cX0_of 120 = .ok (.iload_n 1, 1) := dk_27 (dk_at dksX0_of_5 11 rfl rfl)
theorem dX0_of_121 : decode cX0_of 121 = .ok (.imul, 1) := dk_104 (dk_at dksX0_of_5 12 rfl rfl)
theorem dX0_of_122 : decode cX0_of 122 = .ok (.iload_n 3, 1) := dk_29 (dk_at dksX0_of_5 13 rfl rfl)
theorem dX0_of_123 : decode cX0_of 123 = .ok (.iadd, 1) := dk_96 (dk_at dksX0_of_5 14 rfl rfl)
theorem dX0_of_124 : decode cX0_of 124 = .ok (.iaload, 1) := dk_46 (dk_at dksX0_of_5 15 rfl rfl)
theorem dX0_of_125 : decode cX0_of 125 = .ok (.goto 60, 3) := dk_167 0 60 (dk_at dksX0_of_5 16 rfl rfl)
theorem dX0_of_128 : decode cX0_of 128 = .ok (.iload_n 2, 1) := dk_28 (dk_at dksX0_of_5 19 rfl rfl)
theorem dX0_of_129 : decode cX0_of 129 = .ok (.bipush 30, 2) := dk_16 30 (dk_at dksX0_of_5 20 rfl rfl)
theorem dX0_of_131 : decode cX0_of 131 = .ok (.if_icmp .ge 16, 3) := dk_162 0 16 (dk_at dksX0_of_6 0 rfl rfl)
theorem dX0_of_134 : decode cX0_of 134 = .ok (.aload_n 0, 1) := dk_42 (dk_at dksX0_of_6 3 rfl rfl)
theorem dX0_of_135 : decode cX0_of 135 = .ok (.getfield 21, 3) := dk_180 0 21 (dk_at dksX0_of_6 4 rfl rfl)
theorem dX0_of_138 : decode cX0_of 138 = .ok (.iconst 4, 1) := dk_7 (dk_at dksX0_of_6 7 rfl rfl)
theorem dX0_of_139 : decode cX0_of 139 = .ok (.iload_n 1, 1) := dk_27 (dk_at dksX0_of_6 8 rfl rfl)
theorem dX0_of_140 : decode cX0_of 140 = .ok (.imul, 1) := dk_104 (dk_at dksX0_of_6 9 rfl rfl)
theorem dX0_of_141 : decode cX0_of 141 = .ok (.iload_n 3, 1) := dk_29 (dk_at dksX0_of_6 10 rfl rfl)
theorem dX0_of_142 : decode cX0_of 142 = .ok (.iadd, 1) := dk_96 (dk_at dksX0_of_6 11 rfl rfl)
theorem dX0_of_143 : decode cX0_of 143 = .ok (.iaload, 1) := dk_46 (dk_at dksX0_of_6 12 rfl rfl)
theorem dX0_of_144 : decode cX0_of 144 = .ok (.goto 41, 3) := dk_167 0 41 (dk_at dksX0_of_6 13 rfl rfl)
theorem dX0_of_147 : decode cX0_of 147 = .ok (.iload_n 2, 1) := dk_28 (dk_at dksX0_of_6 16 rfl rfl)
theorem dX0_of_148 : decode cX0_of 148 = .ok (.bipush 40, 2) := dk_16 40 (dk_at dksX0_of_6 17 rfl rfl)
theorem dX0_of_150 : decode cX0_of 150 = .ok (.if_icmp .ge 25, 3) := dk_162 0 25 (dk_at dksX0_of_6 19 rfl rfl)
theorem dX0_of_153 : decode cX0_of 153 = .ok (.aload_n 0, 1) := dk_42 (dk_at dksX0_of_6 22 rfl rfl)
theorem dX0_of_154 : decode cX0_of 154 = .ok (.aload_n 0, 1) := dk_42 (dk_at dksX0_of_6 23 rfl rfl)
theorem dX0_of_155 : decode cX0_of 155 = .ok (.getfield 27, 3) := dk_180 0 27 (dk_at dksX0_of_7 0 rfl rfl)
theorem dX0_of_158 : decode cX0_of 158 = .ok (.iload_n 1, 1) := dk_27 (dk_at dksX0_of_7 3 rfl rfl)
theorem dX0_of_159 : decode cX0_of 159 = .ok (.iload_n 3, 1) := dk_29 (dk_at dksX0_of_7 4 rfl rfl)
theorem dX0_of_160 : decode cX0_of 160 = .ok (.aload_n 0, 1) := dk_42 (dk_at dksX0_of_7 5 rfl rfl)
theorem dX0_of_161 : decode cX0_of 161 = .ok (.getfield 27, 3) := dk_180 0 27 (dk_at dksX0_of_7 6 rfl rfl)
theorem dX0_of_164 : decode cX0_of 164 = .ok (.getfield 195, 3) := dk_180 0 195 (dk_at dksX0_of_7 9 rfl rfl)
theorem dX0_of_167 : decode cX0_of 167 = .ok (.iload_n 3, 1) := dk_29 (dk_at dksX0_of_7 12 rfl rfl)
theorem dX0_of_168 : decode cX0_of 168 = .ok (.iaload, 1) := dk_46 (dk_at dksX0_of_7 13 rfl rfl)
theorem dX0_of_169 : decode cX0_of 169 = .ok (.invokevirtual 207, 3) := dk_182 0 207 (dk_at dksX0_of_7 14 rfl rfl)
theorem dX0_of_172 : decode cX0_of 172 = .ok (.goto 13, 3) := dk_167 0 13 (dk_at dksX0_of_7 17 rfl rfl)
theorem dX0_of_175 : decode cX0_of 175 = .ok (.aload_n 0, 1) := dk_42 (dk_at dksX0_of_7 20 rfl rfl)
theorem dX0_of_176 : decode cX0_of 176 = .ok (.aload_n 0, 1) := dk_42 (dk_at dksX0_of_7 21 rfl rfl)
theorem dX0_of_177 : decode cX0_of 177 = .ok (.getfield 27, 3) := dk_180 0 27 (dk_at dksX0_of_8 0 rfl rfl)
theorem dX0_of_180 : decode cX0_of 180 = .ok (.iload_n 1, 1) := dk_27 (dk_at dksX0_of_8 3 rfl rfl)
theorem dX0_of_181 : decode cX0_of 181 = .ok (.iload_n 3, 1) := dk_29 (dk_at dksX0_of_8 4 rfl rfl)
theorem dX0_of_182 : decode cX0_of 182 = .ok (.invokevirtual 219, 3) := dk_182 0 219 (dk_at dksX0_of_8 5 rfl rfl)
theorem dX0_of_185 : decode cX0_of 185 = .ok (.ireturn, 1) := dk_172 (dk_at dksX0_of_8 8 rfl rfl)
theorem gf_of : xV yX0_of RX0 cX0_of 4 (some .int) 2 := ⟨q483, q484, q87, q485, ⟨rfl, by decide +kernel, by decide +kernel, by decide +kernel⟩, by decide⟩
abbrev cX0_oven : ByteArray := prog_1_method_16_code
def yX0_oven : MethodName := ⟨RX0, "oven", "(II)I"⟩
def dkwX0_oven_1 : List UInt8 := [180, 0, 27, 180, 0, 195, 27, 46, 62, 42, 180, 0, 27, 180, 0, 195, 27, 28, 79, 29, 172]
abbrev dktX0_oven_1 : List UInt8 := dkwX0_oven_1 ++ []
def dkwX0_oven_0 : List UInt8 := [27, 184, 0, 144, 154, 0, 5, 2, 172, 28, 3, 17, 39, 15, 184, 0, 111, 154, 0, 6, 16, 254, 172, 42]
abbrev dktX0_oven_0 : List UInt8 := dkwX0_oven_0 ++ dktX0_oven_1
theorem dksX0_oven_0 : cX0_oven.data.toList.drop 0 = dktX0_oven_0 := by decide +kernel
theorem dksX0_oven_1 : cX0_oven.data.toList.drop 24 = dktX0_oven_1 := dk_seg dksX0_oven_0 24 rfl rfl
theorem dX0_oven_0 : decode cX0_oven 0 = .ok (.iload_n 1, 1) := dk_27 (dk_at dksX0_oven_0 0 rfl rfl)
theorem dX0_oven_1 : decode cX0_oven 1 = .ok (.invokestatic 144, 3) := dk_184 0 144 (dk_at dksX0_oven_0 1 rfl rfl)
theorem dX0_oven_4 : decode cX0_oven 4 = .ok (.ifCond .ne 5, 3) := dk_154 0 5 (dk_at dksX0_oven_0 4 rfl rfl)
theorem dX0_oven_7 : decode cX0_oven 7 = .ok (.iconst (-1), 1) := dk_2 (dk_at dksX0_oven_0 7 rfl rfl)
theorem dX0_oven_8 : decode cX0_oven 8 = .ok (.ireturn, 1) := dk_172 (dk_at dksX0_oven_0 8 rfl rfl)
theorem dX0_oven_9 : decode cX0_oven 9 = .ok (.iload_n 2, 1) := dk_28 (dk_at dksX0_oven_0 9 rfl rfl)
theorem dX0_oven_10 : decode cX0_oven 10 = .ok (.iconst 0, 1) := dk_3 (dk_at dksX0_oven_0 10 rfl rfl)
theorem dX0_oven_11 : decode cX0_oven 11 = .ok (.sipush 9999, 3) := dk_17 39 15 (dk_at dksX0_oven_0 11 rfl rfl)
theorem dX0_oven_14 : decode cX0_oven 14 = .ok (.invokestatic 111, 3) := dk_184 0 111 (dk_at dksX0_oven_0 14 rfl rfl)
theorem dX0_oven_17 : decode cX0_oven 17 = .ok (.ifCond .ne 6, 3) := dk_154 0 6 (dk_at dksX0_oven_0 17 rfl rfl)
theorem dX0_oven_20 : decode cX0_oven 20 = .ok (.bipush (-2), 2) := dk_16 254 (dk_at dksX0_oven_0 20 rfl rfl)
theorem dX0_oven_22 : decode cX0_oven 22 = .ok (.ireturn, 1) := dk_172 (dk_at dksX0_oven_0 22 rfl rfl)
theorem dX0_oven_23 : decode cX0_oven 23 = .ok (.aload_n 0, 1) := dk_42 (dk_at dksX0_oven_0 23 rfl rfl)
theorem dX0_oven_24 : decode cX0_oven 24 = .ok (.getfield 27, 3) := dk_180 0 27 (dk_at dksX0_oven_1 0 rfl rfl)
theorem dX0_oven_27 : decode cX0_oven 27 = .ok (.getfield 195, 3) := dk_180 0 195 (dk_at dksX0_oven_1 3 rfl rfl)
theorem dX0_oven_30 : decode cX0_oven 30 = .ok (.iload_n 1, 1) := dk_27 (dk_at dksX0_oven_1 6 rfl rfl)
theorem dX0_oven_31 : decode cX0_oven 31 = .ok (.iaload, 1) := dk_46 (dk_at dksX0_oven_1 7 rfl rfl)
theorem dX0_oven_32 : decode cX0_oven 32 = .ok (.istore_n 3, 1) := dk_62 (dk_at dksX0_oven_1 8 rfl rfl)
theorem dX0_oven_33 : decode cX0_oven 33 = .ok (.aload_n 0, 1) := dk_42 (dk_at dksX0_oven_1 9 rfl rfl)
theorem dX0_oven_34 : decode cX0_oven 34 = .ok (.getfield 27, 3) := dk_180 0 27 (dk_at dksX0_oven_1 10 rfl rfl)
theorem dX0_oven_37 : decode cX0_oven 37 = .ok (.getfield 195, 3) := dk_180 0 195 (dk_at dksX0_oven_1 13 rfl rfl)
theorem dX0_oven_40 : decode cX0_oven 40 = .ok (.iload_n 1, 1) := dk_27 (dk_at dksX0_oven_1 16 rfl rfl)
theorem dX0_oven_41 : decode cX0_oven 41 = .ok (.iload_n 2, 1) := dk_28 (dk_at dksX0_oven_1 17 rfl rfl)
theorem dX0_oven_42 : decode cX0_oven 42 = .ok (.iastore, 1) := dk_79 (dk_at dksX0_oven_1 18 rfl rfl)
theorem dX0_oven_43 : decode cX0_oven 43 = .ok (.iload_n 3, 1) := dk_29 (dk_at dksX0_oven_1 19 rfl rfl)
theorem dX0_oven_44 : decode cX0_oven 44 = .ok (.ireturn, 1) := dk_172 (dk_at dksX0_oven_1 20 rfl rfl)
theorem gf_oven : xV yX0_oven RX0 cX0_oven 4 (some .int) 2 := ⟨q647, q648, q87, q649, ⟨rfl, by decide +kernel, by decide +kernel, by decide +kernel⟩, by decide⟩
abbrev cX0_feed : ByteArray := prog_1_method_17_code
def yX0_feed : MethodName := ⟨RX0, "feed", "(I)I"⟩
def dkwX0_feed_1 : List UInt8 := [172, 42, 180, 0, 34, 42, 89, 180, 0, 223, 90, 4, 96, 181, 0, 223, 27, 145, 84, 42, 180, 0, 223, 172]
abbrev dktX0_feed_1 : List UInt8 := dkwX0_feed_1 ++ []
def dkwX0_feed_0 : List UInt8 := [27, 3, 16, 127, 184, 0, 111, 154, 0, 6, 16, 254, 172, 42, 180, 0, 223, 16, 100, 160, 0, 6, 16, 252]
abbrev dktX0_feed_0 : List UInt8 := dkwX0_feed_0 ++ dktX0_feed_1
theorem dksX0_feed_0 : cX0_feed.data.toList.drop 0 = dktX0_feed_0 := by decide +kernel
theorem dksX0_feed_1 : cX0_feed.data.toList.drop 24 = dktX0_feed_1 := dk_seg dksX0_feed_0 24 rfl rfl
theorem dX0_feed_0 : decode cX0_feed 0 = .ok (.iload_n 1, 1) := dk_27 (dk_at dksX0_feed_0 0 rfl rfl)
theorem dX0_feed_1 : decode cX0_feed 1 = .ok (.iconst 0, 1) := dk_3 (dk_at dksX0_feed_0 1 rfl rfl)
theorem dX0_feed_2 : decode cX0_feed 2 = .ok (.bipush 127, 2) := dk_16 127 (dk_at dksX0_feed_0 2 rfl rfl)
theorem dX0_feed_4 : decode cX0_feed 4 = .ok (.invokestatic 111, 3) := dk_184 0 111 (dk_at dksX0_feed_0 4 rfl rfl)
theorem dX0_feed_7 : decode cX0_feed 7 = .ok (.ifCond .ne 6, 3) := dk_154 0 6 (dk_at dksX0_feed_0 7 rfl rfl)
theorem dX0_feed_10 : decode cX0_feed 10 = .ok (.bipush (-2), 2) := dk_16 254 (dk_at dksX0_feed_0 10 rfl rfl)
theorem dX0_feed_12 : decode cX0_feed 12 = .ok (.ireturn, 1) := dk_172 (dk_at dksX0_feed_0 12 rfl rfl)
theorem dX0_feed_13 : decode cX0_feed 13 = .ok (.aload_n 0, 1) := dk_42 (dk_at dksX0_feed_0 13 rfl rfl)
theorem dX0_feed_14 : decode cX0_feed 14 = .ok (.getfield 223, 3) := dk_180 0 223 (dk_at dksX0_feed_0 14 rfl rfl)
theorem dX0_feed_17 : decode cX0_feed 17 = .ok (.bipush 100, 2) := dk_16 100 (dk_at dksX0_feed_0 17 rfl rfl)
theorem dX0_feed_19 : decode cX0_feed 19 = .ok (.if_icmp .ne 6, 3) := dk_160 0 6 (dk_at dksX0_feed_0 19 rfl rfl)
theorem dX0_feed_22 : decode cX0_feed 22 = .ok (.bipush (-4), 2) := dk_16 252 (dk_at dksX0_feed_0 22 rfl rfl)
theorem dX0_feed_24 : decode cX0_feed 24 = .ok (.ireturn, 1) := dk_172 (dk_at dksX0_feed_1 0 rfl rfl)
theorem dX0_feed_25 : decode cX0_feed 25 = .ok (.aload_n 0, 1) := dk_42 (dk_at dksX0_feed_1 1 rfl rfl)
theorem dX0_feed_26 : decode cX0_feed 26 = .ok (.getfield 34, 3) := dk_180 0 34 (dk_at dksX0_feed_1 2 rfl rfl)
theorem dX0_feed_29 : decode cX0_feed 29 = .ok (.aload_n 0, 1) := dk_42 (dk_at dksX0_feed_1 5 rfl rfl)
theorem dX0_feed_30 : decode cX0_feed 30 = .ok (.dup, 1) := dk_89 (dk_at dksX0_feed_1 6 rfl rfl)
theorem dX0_feed_31 : decode cX0_feed 31 = .ok (.getfield 223, 3) := dk_180 0 223 (dk_at dksX0_feed_1 7 rfl rfl)
theorem dX0_feed_34 : decode cX0_feed 34 = .ok (.dup_x1, 1) := dk_90 (dk_at dksX0_feed_1 10 rfl rfl)
theorem dX0_feed_35 : decode cX0_feed 35 = .ok (.iconst 1, 1) := dk_4 (dk_at dksX0_feed_1 11 rfl rfl)
theorem dX0_feed_36 : decode cX0_feed 36 = .ok (.iadd, 1) := dk_96 (dk_at dksX0_feed_1 12 rfl rfl)
theorem dX0_feed_37 : decode cX0_feed 37 = .ok (.putfield 223, 3) := dk_181 0 223 (dk_at dksX0_feed_1 13 rfl rfl)
theorem dX0_feed_40 : decode cX0_feed 40 = .ok (.iload_n 1, 1) := dk_27 (dk_at dksX0_feed_1 16 rfl rfl)
theorem dX0_feed_41 : decode cX0_feed 41 = .ok (.i2b, 1) := dk_145 (dk_at dksX0_feed_1 17 rfl rfl)
theorem dX0_feed_42 : decode cX0_feed 42 = .ok (.bastore, 1) := dk_84 (dk_at dksX0_feed_1 18 rfl rfl)
theorem dX0_feed_43 : decode cX0_feed 43 = .ok (.aload_n 0, 1) := dk_42 (dk_at dksX0_feed_1 19 rfl rfl)
theorem dX0_feed_44 : decode cX0_feed 44 = .ok (.getfield 223, 3) := dk_180 0 223 (dk_at dksX0_feed_1 20 rfl rfl)
theorem dX0_feed_47 : decode cX0_feed 47 = .ok (.ireturn, 1) := dk_172 (dk_at dksX0_feed_1 23 rfl rfl)
theorem gf_feed : xV yX0_feed RX0 cX0_feed 2 (some .int) 1 := ⟨q651, q652, q87, q653, ⟨rfl, by decide +kernel, by decide +kernel, by decide +kernel⟩, by decide⟩
abbrev cX0_told : ByteArray := prog_1_method_19_code
def yX0_told : MethodName := ⟨RX0, "told", "(I)I"⟩
def dkwX0_told_2 : List UInt8 := [2, 172]
abbrev dktX0_told_2 : List UInt8 := dkwX0_told_2 ++ []
def dkwX0_told_1 : List UInt8 := [180, 0, 27, 180, 0, 163, 167, 0, 19, 27, 8, 160, 0, 13, 42, 180, 0, 41, 180, 0, 242, 167, 0, 4]
abbrev dktX0_told_1 : List UInt8 := dkwX0_told_1 ++ dktX0_told_2
def dkwX0_told_0 : List UInt8 := [27, 184, 0, 144, 153, 0, 13, 42, 180, 0, 27, 180, 0, 195, 27, 46, 172, 27, 7, 160, 0, 13, 42]
abbrev dktX0_told_0 : List UInt8 := dkwX0_told_0 ++ dktX0_told_1
theorem dksX0_told_0 : cX0_told.data.toList.drop 0 = dktX0_told_0 := by decide +kernel
theorem dksX0_told_1 : cX0_told.data.toList.drop 23 = dktX0_told_1 := dk_seg dksX0_told_0 23 rfl rfl
theorem dksX0_told_2 : cX0_told.data.toList.drop 47 = dktX0_told_2 := dk_seg dksX0_told_1 24 rfl rfl
theorem dX0_told_0 : decode cX0_told 0 = .ok (.iload_n 1, 1) := dk_27 (dk_at dksX0_told_0 0 rfl rfl)
theorem dX0_told_1 : decode cX0_told 1 = .ok (.invokestatic 144, 3) := dk_184 0 144 (dk_at dksX0_told_0 1 rfl rfl)
theorem dX0_told_4 : decode cX0_told 4 = .ok (.ifCond .eq 13, 3) := dk_153 0 13 (dk_at dksX0_told_0 4 rfl rfl)
theorem dX0_told_7 : decode cX0_told 7 = .ok (.aload_n 0, 1) := dk_42 (dk_at dksX0_told_0 7 rfl rfl)
theorem dX0_told_8 : decode cX0_told 8 = .ok (.getfield 27, 3) := dk_180 0 27 (dk_at dksX0_told_0 8 rfl rfl)
theorem dX0_told_11 : decode cX0_told 11 = .ok (.getfield 195, 3) := dk_180 0 195 (dk_at dksX0_told_0 11 rfl rfl)
theorem dX0_told_14 : decode cX0_told 14 = .ok (.iload_n 1, 1) := dk_27 (dk_at dksX0_told_0 14 rfl rfl)
theorem dX0_told_15 : decode cX0_told 15 = .ok (.iaload, 1) := dk_46 (dk_at dksX0_told_0 15 rfl rfl)
theorem dX0_told_16 : decode cX0_told 16 = .ok (.ireturn, 1) := dk_172 (dk_at dksX0_told_0 16 rfl rfl)
theorem dX0_told_17 : decode cX0_told 17 = .ok (.iload_n 1, 1) := dk_27 (dk_at dksX0_told_0 17 rfl rfl)
theorem dX0_told_18 : decode cX0_told 18 = .ok (.iconst 4, 1) := dk_7 (dk_at dksX0_told_0 18 rfl rfl)
theorem dX0_told_19 : decode cX0_told 19 = .ok (.if_icmp .ne 13, 3) := dk_160 0 13 (dk_at dksX0_told_0 19 rfl rfl)
theorem dX0_told_22 : decode cX0_told 22 = .ok (.aload_n 0, 1) := dk_42 (dk_at dksX0_told_0 22 rfl rfl)
theorem dX0_told_23 : decode cX0_told 23 = .ok (.getfield 27, 3) := dk_180 0 27 (dk_at dksX0_told_1 0 rfl rfl)
theorem dX0_told_26 : decode cX0_told 26 = .ok (.getfield 163, 3) := dk_180 0 163 (dk_at dksX0_told_1 3 rfl rfl)
theorem dX0_told_29 : decode cX0_told 29 = .ok (.goto 19, 3) := dk_167 0 19 (dk_at dksX0_told_1 6 rfl rfl)
theorem dX0_told_32 : decode cX0_told 32 = .ok (.iload_n 1, 1) := dk_27 (dk_at dksX0_told_1 9 rfl rfl)
theorem dX0_told_33 : decode cX0_told 33 = .ok (.iconst 5, 1) := dk_8 (dk_at dksX0_told_1 10 rfl rfl)
theorem dX0_told_34 : decode cX0_told 34 = .ok (.if_icmp .ne 13, 3) := dk_160 0 13 (dk_at dksX0_told_1 11 rfl rfl)
theorem dX0_told_37 : decode cX0_told 37 = .ok (.aload_n 0, 1) := dk_42 (dk_at dksX0_told_1 14 rfl rfl)
theorem dX0_told_38 : decode cX0_told 38 = .ok (.getfield 41, 3) := dk_180 0 41 (dk_at dksX0_told_1 15 rfl rfl)
theorem dX0_told_41 : decode cX0_told 41 = .ok (.getfield 242, 3) := dk_180 0 242 (dk_at dksX0_told_1 18 rfl rfl)
theorem dX0_told_44 : decode cX0_told 44 = .ok (.goto 4, 3) := dk_167 0 4 (dk_at dksX0_told_1 21 rfl rfl)
theorem dX0_told_47 : decode cX0_told 47 = .ok (.iconst (-1), 1) := dk_2 (dk_at dksX0_told_2 0 rfl rfl)
theorem dX0_told_48 : decode cX0_told 48 = .ok (.ireturn, 1) := dk_172 (dk_at dksX0_told_2 1 rfl rfl)
theorem gf_told : xV yX0_told RX0 cX0_told 2 (some .int) 1 := ⟨q996, q997, q87, q998, ⟨rfl, by decide +kernel, by decide +kernel, by decide +kernel⟩, by decide⟩
abbrev cX0_goes : ByteArray := prog_1_method_20_code
def yX0_goes : MethodName := ⟨RX0, "goes", "(LBakedBefore$Time;I)Z"⟩
def dkwX0_goes_6 : List UInt8 := [181, 0, 163, 29, 172]
abbrev dktX0_goes_6 : List UInt8 := dkwX0_goes_6 ++ []
def dkwX0_goes_5 : List UInt8 := [184, 0, 186, 79, 132, 4, 1, 167, 255, 211, 43, 17, 39, 15, 43, 180, 0, 163, 4, 96, 184, 0, 186]
abbrev dktX0_goes_5 : List UInt8 := dkwX0_goes_5 ++ dktX0_goes_6
def dkwX0_goes_4 : List UInt8 := [43, 180, 0, 195, 21, 4, 46, 42, 180, 0, 72, 21, 4, 46, 100, 42, 180, 0, 75, 21, 4, 46, 96]
abbrev dktX0_goes_4 : List UInt8 := dkwX0_goes_4 ++ dktX0_goes_5
def dkwX0_goes_3 : List UInt8 := [132, 4, 1, 167, 255, 187, 3, 54, 4, 21, 4, 7, 162, 0, 45, 43, 180, 0, 195, 21, 4, 17, 39, 15]
abbrev dktX0_goes_3 : List UInt8 := dkwX0_goes_3 ++ dktX0_goes_4
def dkwX0_goes_2 : List UInt8 := [79, 42, 180, 0, 72, 21, 4, 46, 42, 180, 0, 21, 7, 28, 104, 21, 4, 96, 46, 164, 0, 5, 4, 62]
abbrev dktX0_goes_2 : List UInt8 := dkwX0_goes_2 ++ dktX0_goes_3
def dkwX0_goes_1 : List UInt8 := [180, 0, 195, 21, 4, 46, 182, 0, 207, 79, 42, 180, 0, 75, 21, 4, 42, 43, 28, 21, 4, 182, 0, 219]
abbrev dktX0_goes_1 : List UInt8 := dkwX0_goes_1 ++ dktX0_goes_2
def dkwX0_goes_0 : List UInt8 := [3, 62, 3, 54, 4, 21, 4, 7, 162, 0, 69, 42, 180, 0, 72, 21, 4, 42, 43, 28, 21, 4, 43]
abbrev dktX0_goes_0 : List UInt8 := dkwX0_goes_0 ++ dktX0_goes_1
theorem dksX0_goes_0 : cX0_goes.data.toList.drop 0 = dktX0_goes_0 := by decide +kernel
theorem dksX0_goes_1 : cX0_goes.data.toList.drop 23 = dktX0_goes_1 := dk_seg dksX0_goes_0 23 rfl rfl
theorem dksX0_goes_2 : cX0_goes.data.toList.drop 47 = dktX0_goes_2 := dk_seg dksX0_goes_1 24 rfl rfl
theorem dksX0_goes_3 : cX0_goes.data.toList.drop 71 = dktX0_goes_3 := dk_seg dksX0_goes_2 24 rfl rfl
theorem dksX0_goes_4 : cX0_goes.data.toList.drop 95 = dktX0_goes_4 := dk_seg dksX0_goes_3 24 rfl rfl
theorem dksX0_goes_5 : cX0_goes.data.toList.drop 118 = dktX0_goes_5 := dk_seg dksX0_goes_4 23 rfl rfl
theorem dksX0_goes_6 : cX0_goes.data.toList.drop 141 = dktX0_goes_6 := dk_seg dksX0_goes_5 23 rfl rfl
theorem dX0_goes_0 : decode cX0_goes 0 = .ok (.iconst 0, 1) := dk_3 (dk_at dksX0_goes_0 0 rfl rfl)
theorem dX0_goes_1 : decode cX0_goes 1 = .ok (.istore_n 3, 1) := dk_62 (dk_at dksX0_goes_0 1 rfl rfl)
theorem dX0_goes_2 : decode cX0_goes 2 = .ok (.iconst 0, 1) := dk_3 (dk_at dksX0_goes_0 2 rfl rfl)
theorem dX0_goes_3 : decode cX0_goes 3 = .ok (.istore 4, 2) := dk_54 4 (dk_at dksX0_goes_0 3 rfl rfl)
theorem dX0_goes_5 : decode cX0_goes 5 = .ok (.iload 4, 2) := dk_21 4 (dk_at dksX0_goes_0 5 rfl rfl)
theorem dX0_goes_7 : decode cX0_goes 7 = .ok (.iconst 4, 1) := dk_7 (dk_at dksX0_goes_0 7 rfl rfl)
theorem dX0_goes_8 : decode cX0_goes 8 = .ok (.if_icmp .ge 69, 3) := dk_162 0 69 (dk_at dksX0_goes_0 8 rfl rfl)
theorem dX0_goes_11 : decode cX0_goes 11 = .ok (.aload_n 0, 1) := dk_42 (dk_at dksX0_goes_0 11 rfl rfl)
theorem dX0_goes_12 : decode cX0_goes 12 = .ok (.getfield 72, 3) := dk_180 0 72 (dk_at dksX0_goes_0 12 rfl rfl)
theorem dX0_goes_15 : decode cX0_goes 15 = .ok (.iload 4, 2) := dk_21 4 (dk_at dksX0_goes_0 15 rfl rfl)
theorem dX0_goes_17 : decode cX0_goes 17 = .ok (.aload_n 0, 1) := dk_42 (dk_at dksX0_goes_0 17 rfl rfl)
theorem dX0_goes_18 : decode cX0_goes 18 = .ok (.aload_n 1, 1) := dk_43 (dk_at dksX0_goes_0 18 rfl rfl)
theorem dX0_goes_19 : decode cX0_goes 19 = .ok (.iload_n 2, 1) := dk_28 (dk_at dksX0_goes_0 19 rfl rfl)
theorem dX0_goes_20 : decode cX0_goes 20 = .ok (.iload 4, 2) := dk_21 4 (dk_at dksX0_goes_0 20 rfl rfl)
theorem dX0_goes_22 : decode cX0_goes 22 = .ok (.aload_n 1, 1) := dk_43 (dk_at dksX0_goes_0 22 rfl rfl)
theorem dX0_goes_23 : decode cX0_goes 23 = .ok (.getfield 195, 3) := dk_180 0 195 (dk_at dksX0_goes_1 0 rfl rfl)
theorem dX0_goes_26 : decode cX0_goes 26 = .ok (.iload 4, 2) := dk_21 4 (dk_at dksX0_goes_1 3 rfl rfl)
theorem dX0_goes_28 : decode cX0_goes 28 = .ok (.iaload, 1) := dk_46 (dk_at dksX0_goes_1 5 rfl rfl)
theorem dX0_goes_29 : decode cX0_goes 29 = .ok (.invokevirtual 207, 3) := dk_182 0 207 (dk_at dksX0_goes_1 6 rfl rfl)
theorem dX0_goes_32 : decode cX0_goes 32 = .ok (.iastore, 1) := dk_79 (dk_at dksX0_goes_1 9 rfl rfl)
theorem dX0_goes_33 : decode cX0_goes 33 = .ok (.aload_n 0, 1) := dk_42 (dk_at dksX0_goes_1 10 rfl rfl)
theorem dX0_goes_34 : decode cX0_goes 34 = .ok (.getfield 75, 3) := dk_180 0 75 (dk_at dksX0_goes_1 11 rfl rfl)
theorem dX0_goes_37 : decode cX0_goes 37 = .ok (.iload 4, 2) := dk_21 4 (dk_at dksX0_goes_1 14 rfl rfl)
theorem dX0_goes_39 : decode cX0_goes 39 = .ok (.aload_n 0, 1) := dk_42 (dk_at dksX0_goes_1 16 rfl rfl)
theorem dX0_goes_40 : decode cX0_goes 40 = .ok (.aload_n 1, 1) := dk_43 (dk_at dksX0_goes_1 17 rfl rfl)
theorem dX0_goes_41 : decode cX0_goes 41 = .ok (.iload_n 2, 1) := dk_28 (dk_at dksX0_goes_1 18 rfl rfl)
theorem dX0_goes_42 : decode cX0_goes 42 = .ok (.iload 4, 2) := dk_21 4 (dk_at dksX0_goes_1 19 rfl rfl)
theorem dX0_goes_44 : decode cX0_goes 44 = .ok (.invokevirtual 219, 3) := dk_182 0 219 (dk_at dksX0_goes_1 21 rfl rfl)
theorem dX0_goes_47 : decode cX0_goes 47 = .ok (.iastore, 1) := dk_79 (dk_at dksX0_goes_2 0 rfl rfl)
theorem dX0_goes_48 : decode cX0_goes 48 = .ok (.aload_n 0, 1) := dk_42 (dk_at dksX0_goes_2 1 rfl rfl)
theorem dX0_goes_49 : decode cX0_goes 49 = .ok (.getfield 72, 3) := dk_180 0 72 (dk_at dksX0_goes_2 2 rfl rfl)
theorem dX0_goes_52 : decode cX0_goes 52 = .ok (.iload 4, 2) := dk_21 4 (dk_at dksX0_goes_2 5 rfl rfl)
theorem dX0_goes_54 : decode cX0_goes 54 = .ok (.iaload, 1) := dk_46 (dk_at dksX0_goes_2 7 rfl rfl)
theorem dX0_goes_55 : decode cX0_goes 55 = .ok (.aload_n 0, 1) := dk_42 (dk_at dksX0_goes_2 8 rfl rfl)
theorem dX0_goes_56 : decode cX0_goes 56 = .ok (.getfield 21, 3) := dk_180 0 21 (dk_at dksX0_goes_2 9 rfl rfl)
theorem dX0_goes_59 : decode cX0_goes 59 = .ok (.iconst 4, 1) := dk_7 (dk_at dksX0_goes_2 12 rfl rfl)
theorem dX0_goes_60 : decode cX0_goes 60 = .ok (.iload_n 2, 1) := dk_28 (dk_at dksX0_goes_2 13 rfl rfl)
theorem dX0_goes_61 : decode cX0_goes 61 = .ok (.imul, 1) := dk_104 (dk_at dksX0_goes_2 14 rfl rfl)
theorem dX0_goes_62 : decode cX0_goes 62 = .ok (.iload 4, 2) := dk_21 4 (dk_at dksX0_goes_2 15 rfl rfl)
theorem dX0_goes_64 : decode cX0_goes 64 = .ok (.iadd, 1) := dk_96 (dk_at dksX0_goes_2 17 rfl rfl)
theorem dX0_goes_65 : decode cX0_goes 65 = .ok (.iaload, 1) := dk_46 (dk_at dksX0_goes_2 18 rfl rfl)
theorem dX0_goes_66 : decode cX0_goes 66 = .ok (.if_icmp .le 5, 3) := dk_164 0 5 (dk_at dksX0_goes_2 19 rfl rfl)
theorem dX0_goes_69 : decode cX0_goes 69 = .ok (.iconst 1, 1) := dk_4 (dk_at dksX0_goes_2 22 rfl rfl)
theorem dX0_goes_70 : decode cX0_goes 70 = .ok (.istore_n 3, 1) := dk_62 (dk_at dksX0_goes_2 23 rfl rfl)
theorem dX0_goes_71 : decode cX0_goes 71 = .ok (.iinc 4 1, 3) := dk_132 4 1 (dk_at dksX0_goes_3 0 rfl rfl)
theorem dX0_goes_74 : decode cX0_goes 74 = .ok (.goto (-69), 3) := dk_167 255 187 (dk_at dksX0_goes_3 3 rfl rfl)
theorem dX0_goes_77 : decode cX0_goes 77 = .ok (.iconst 0, 1) := dk_3 (dk_at dksX0_goes_3 6 rfl rfl)
theorem dX0_goes_78 : decode cX0_goes 78 = .ok (.istore 4, 2) := dk_54 4 (dk_at dksX0_goes_3 7 rfl rfl)
theorem dX0_goes_80 : decode cX0_goes 80 = .ok (.iload 4, 2) := dk_21 4 (dk_at dksX0_goes_3 9 rfl rfl)
theorem dX0_goes_82 : decode cX0_goes 82 = .ok (.iconst 4, 1) := dk_7 (dk_at dksX0_goes_3 11 rfl rfl)
theorem dX0_goes_83 : decode cX0_goes 83 = .ok (.if_icmp .ge 45, 3) := dk_162 0 45 (dk_at dksX0_goes_3 12 rfl rfl)
theorem dX0_goes_86 : decode cX0_goes 86 = .ok (.aload_n 1, 1) := dk_43 (dk_at dksX0_goes_3 15 rfl rfl)
theorem dX0_goes_87 : decode cX0_goes 87 = .ok (.getfield 195, 3) := dk_180 0 195 (dk_at dksX0_goes_3 16 rfl rfl)
theorem dX0_goes_90 : decode cX0_goes 90 = .ok (.iload 4, 2) := dk_21 4 (dk_at dksX0_goes_3 19 rfl rfl)
theorem dX0_goes_92 : decode cX0_goes 92 = .ok (.sipush 9999, 3) := dk_17 39 15 (dk_at dksX0_goes_3 21 rfl rfl)
theorem dX0_goes_95 : decode cX0_goes 95 = .ok (.aload_n 1, 1) := dk_43 (dk_at dksX0_goes_4 0 rfl rfl)
theorem dX0_goes_96 : decode cX0_goes 96 = .ok (.getfield 195, 3) := dk_180 0 195 (dk_at dksX0_goes_4 1 rfl rfl)
theorem dX0_goes_99 : decode cX0_goes 99 = .ok (.iload 4, 2) := dk_21 4 (dk_at dksX0_goes_4 4 rfl rfl)
theorem dX0_goes_101 : decode cX0_goes 101 = .ok (.iaload, 1) := dk_46 (dk_at dksX0_goes_4 6 rfl rfl)
theorem dX0_goes_102 : decode cX0_goes 102 = .ok (.aload_n 0, 1) := dk_42 (dk_at dksX0_goes_4 7 rfl rfl)
theorem dX0_goes_103 : decode cX0_goes 103 = .ok (.getfield 72, 3) := dk_180 0 72 (dk_at dksX0_goes_4 8 rfl rfl)
theorem dX0_goes_106 : decode cX0_goes 106 = .ok (.iload 4, 2) := dk_21 4 (dk_at dksX0_goes_4 11 rfl rfl)
theorem dX0_goes_108 : decode cX0_goes 108 = .ok (.iaload, 1) := dk_46 (dk_at dksX0_goes_4 13 rfl rfl)
theorem dX0_goes_109 : decode cX0_goes 109 = .ok (.isub, 1) := dk_100 (dk_at dksX0_goes_4 14 rfl rfl)
theorem dX0_goes_110 : decode cX0_goes 110 = .ok (.aload_n 0, 1) := dk_42 (dk_at dksX0_goes_4 15 rfl rfl)
theorem dX0_goes_111 : decode cX0_goes 111 = .ok (.getfield 75, 3) := dk_180 0 75 (dk_at dksX0_goes_4 16 rfl rfl)
theorem dX0_goes_114 : decode cX0_goes 114 = .ok (.iload 4, 2) := dk_21 4 (dk_at dksX0_goes_4 19 rfl rfl)
theorem dX0_goes_116 : decode cX0_goes 116 = .ok (.iaload, 1) := dk_46 (dk_at dksX0_goes_4 21 rfl rfl)
theorem dX0_goes_117 : decode cX0_goes 117 = .ok (.iadd, 1) := dk_96 (dk_at dksX0_goes_4 22 rfl rfl)
theorem dX0_goes_118 : decode cX0_goes 118 = .ok (.invokestatic 186, 3) := dk_184 0 186 (dk_at dksX0_goes_5 0 rfl rfl)
theorem dX0_goes_121 : decode cX0_goes 121 = .ok (.iastore, 1) := dk_79 (dk_at dksX0_goes_5 3 rfl rfl)
theorem dX0_goes_122 : decode cX0_goes 122 = .ok (.iinc 4 1, 3) := dk_132 4 1 (dk_at dksX0_goes_5 4 rfl rfl)
theorem dX0_goes_125 : decode cX0_goes 125 = .ok (.goto (-45), 3) := dk_167 255 211 (dk_at dksX0_goes_5 7 rfl rfl)
theorem dX0_goes_128 : decode cX0_goes 128 = .ok (.aload_n 1, 1) := dk_43 (dk_at dksX0_goes_5 10 rfl rfl)
theorem dX0_goes_129 : decode cX0_goes 129 = .ok (.sipush 9999, 3) := dk_17 39 15 (dk_at dksX0_goes_5 11 rfl rfl)
theorem dX0_goes_132 : decode cX0_goes 132 = .ok (.aload_n 1, 1) := dk_43 (dk_at dksX0_goes_5 14 rfl rfl)
theorem dX0_goes_133 : decode cX0_goes 133 = .ok (.getfield 163, 3) := dk_180 0 163 (dk_at dksX0_goes_5 15 rfl rfl)
theorem dX0_goes_136 : decode cX0_goes 136 = .ok (.iconst 1, 1) := dk_4 (dk_at dksX0_goes_5 18 rfl rfl)
theorem dX0_goes_137 : decode cX0_goes 137 = .ok (.iadd, 1) := dk_96 (dk_at dksX0_goes_5 19 rfl rfl)
theorem dX0_goes_138 : decode cX0_goes 138 = .ok (.invokestatic 186, 3) := dk_184 0 186 (dk_at dksX0_goes_5 20 rfl rfl)
theorem dX0_goes_141 : decode cX0_goes 141 = .ok (.putfield 163, 3) := dk_181 0 163 (dk_at dksX0_goes_6 0 rfl rfl)
theorem dX0_goes_144 : decode cX0_goes 144 = .ok (.iload_n 3, 1) := dk_29 (dk_at dksX0_goes_6 3 rfl rfl)
theorem dX0_goes_145 : decode cX0_goes 145 = .ok (.ireturn, 1) := dk_172 (dk_at dksX0_goes_6 4 rfl rfl)
theorem gf_goes : xV yX0_goes RX0 cX0_goes 5 (some .boolean) 2 := ⟨q1005, qs24, q87, q1006, ⟨rfl, by decide +kernel, by decide +kernel, by decide +kernel⟩, by decide⟩
abbrev cX0_takenAll : ByteArray := prog_1_method_21_code
def yX0_takenAll : MethodName := ⟨RX0, "takenAll", "()I"⟩
def dkwX0_takenAll_1 : List UInt8 := [27, 172]
abbrev dktX0_takenAll_1 : List UInt8 := dkwX0_takenAll_1 ++ []
def dkwX0_takenAll_0 : List UInt8 := [3, 60, 3, 61, 28, 7, 162, 0, 18, 27, 42, 180, 0, 72, 28, 46, 96, 60, 132, 2, 1, 167, 255, 239]
abbrev dktX0_takenAll_0 : List UInt8 := dkwX0_takenAll_0 ++ dktX0_takenAll_1
theorem dksX0_takenAll_0 : cX0_takenAll.data.toList.drop 0 = dktX0_takenAll_0 := by decide +kernel
theorem dksX0_takenAll_1 : cX0_takenAll.data.toList.drop 24 = dktX0_takenAll_1 := dk_seg dksX0_takenAll_0 24 rfl rfl
theorem dX0_takenAll_0 : decode cX0_takenAll 0 = .ok (.iconst 0, 1) := dk_3 (dk_at dksX0_takenAll_0 0 rfl rfl)
theorem dX0_takenAll_1 : decode cX0_takenAll 1 = .ok (.istore_n 1, 1) := dk_60 (dk_at dksX0_takenAll_0 1 rfl rfl)
theorem dX0_takenAll_2 : decode cX0_takenAll 2 = .ok (.iconst 0, 1) := dk_3 (dk_at dksX0_takenAll_0 2 rfl rfl)
theorem dX0_takenAll_3 : decode cX0_takenAll 3 = .ok (.istore_n 2, 1) := dk_61 (dk_at dksX0_takenAll_0 3 rfl rfl)
theorem dX0_takenAll_4 : decode cX0_takenAll 4 = .ok (.iload_n 2, 1) := dk_28 (dk_at dksX0_takenAll_0 4 rfl rfl)
theorem dX0_takenAll_5 : decode cX0_takenAll 5 = .ok (.iconst 4, 1) := dk_7 (dk_at dksX0_takenAll_0 5 rfl rfl)
theorem dX0_takenAll_6 : decode cX0_takenAll 6 = .ok (.if_icmp .ge 18, 3) := dk_162 0 18 (dk_at dksX0_takenAll_0 6 rfl rfl)
theorem dX0_takenAll_9 : decode cX0_takenAll 9 = .ok (.iload_n 1, 1) := dk_27 (dk_at dksX0_takenAll_0 9 rfl rfl)
theorem dX0_takenAll_10 : decode cX0_takenAll 10 = .ok (.aload_n 0, 1) := dk_42 (dk_at dksX0_takenAll_0 10 rfl rfl)
theorem dX0_takenAll_11 : decode cX0_takenAll 11 = .ok (.getfield 72, 3) := dk_180 0 72 (dk_at dksX0_takenAll_0 11 rfl rfl)
theorem dX0_takenAll_14 : decode cX0_takenAll 14 = .ok (.iload_n 2, 1) := dk_28 (dk_at dksX0_takenAll_0 14 rfl rfl)
theorem dX0_takenAll_15 : decode cX0_takenAll 15 = .ok (.iaload, 1) := dk_46 (dk_at dksX0_takenAll_0 15 rfl rfl)
theorem dX0_takenAll_16 : decode cX0_takenAll 16 = .ok (.iadd, 1) := dk_96 (dk_at dksX0_takenAll_0 16 rfl rfl)
theorem dX0_takenAll_17 : decode cX0_takenAll 17 = .ok (.istore_n 1, 1) := dk_60 (dk_at dksX0_takenAll_0 17 rfl rfl)
theorem dX0_takenAll_18 : decode cX0_takenAll 18 = .ok (.iinc 2 1, 3) := dk_132 2 1 (dk_at dksX0_takenAll_0 18 rfl rfl)
theorem dX0_takenAll_21 : decode cX0_takenAll 21 = .ok (.goto (-17), 3) := dk_167 255 239 (dk_at dksX0_takenAll_0 21 rfl rfl)
theorem dX0_takenAll_24 : decode cX0_takenAll 24 = .ok (.iload_n 1, 1) := dk_27 (dk_at dksX0_takenAll_1 0 rfl rfl)
theorem dX0_takenAll_25 : decode cX0_takenAll 25 = .ok (.ireturn, 1) := dk_172 (dk_at dksX0_takenAll_1 1 rfl rfl)
theorem gf_takenAll : xV yX0_takenAll RX0 cX0_takenAll 3 (some .int) 0 := ⟨q1113, qs38, q87, q1114, ⟨rfl, by decide +kernel, by decide +kernel, by decide +kernel⟩, by decide⟩
abbrev cX0_cools : ByteArray := prog_1_method_22_code
def yX0_cools : MethodName := ⟨RX0, "cools", "(LBakedBefore$Time;)V"⟩
def dkwX0_cools_2 : List UInt8 := [184, 0, 186, 181, 0, 163, 177]
abbrev dktX0_cools_2 : List UInt8 := dkwX0_cools_2 ++ []
def dkwX0_cools_1 : List UInt8 := [180, 0, 242, 104, 16, 100, 108, 79, 132, 2, 1, 167, 255, 225, 43, 17, 39, 15, 43, 180, 0, 163, 4, 96]
abbrev dktX0_cools_1 : List UInt8 := dkwX0_cools_1 ++ dktX0_cools_2
def dkwX0_cools_0 : List UInt8 := [3, 61, 28, 7, 162, 0, 32, 43, 180, 0, 195, 28, 43, 180, 0, 195, 28, 46, 42, 180, 0, 41]
abbrev dktX0_cools_0 : List UInt8 := dkwX0_cools_0 ++ dktX0_cools_1
theorem dksX0_cools_0 : cX0_cools.data.toList.drop 0 = dktX0_cools_0 := by decide +kernel
theorem dksX0_cools_1 : cX0_cools.data.toList.drop 22 = dktX0_cools_1 := dk_seg dksX0_cools_0 22 rfl rfl
theorem dksX0_cools_2 : cX0_cools.data.toList.drop 46 = dktX0_cools_2 := dk_seg dksX0_cools_1 24 rfl rfl
theorem dX0_cools_0 : decode cX0_cools 0 = .ok (.iconst 0, 1) := dk_3 (dk_at dksX0_cools_0 0 rfl rfl)
theorem dX0_cools_1 : decode cX0_cools 1 = .ok (.istore_n 2, 1) := dk_61 (dk_at dksX0_cools_0 1 rfl rfl)
theorem dX0_cools_2 : decode cX0_cools 2 = .ok (.iload_n 2, 1) := dk_28 (dk_at dksX0_cools_0 2 rfl rfl)
theorem dX0_cools_3 : decode cX0_cools 3 = .ok (.iconst 4, 1) := dk_7 (dk_at dksX0_cools_0 3 rfl rfl)
theorem dX0_cools_4 : decode cX0_cools 4 = .ok (.if_icmp .ge 32, 3) := dk_162 0 32 (dk_at dksX0_cools_0 4 rfl rfl)
theorem dX0_cools_7 : decode cX0_cools 7 = .ok (.aload_n 1, 1) := dk_43 (dk_at dksX0_cools_0 7 rfl rfl)
theorem dX0_cools_8 : decode cX0_cools 8 = .ok (.getfield 195, 3) := dk_180 0 195 (dk_at dksX0_cools_0 8 rfl rfl)
theorem dX0_cools_11 : decode cX0_cools 11 = .ok (.iload_n 2, 1) := dk_28 (dk_at dksX0_cools_0 11 rfl rfl)
theorem dX0_cools_12 : decode cX0_cools 12 = .ok (.aload_n 1, 1) := dk_43 (dk_at dksX0_cools_0 12 rfl rfl)
theorem dX0_cools_13 : decode cX0_cools 13 = .ok (.getfield 195, 3) := dk_180 0 195 (dk_at dksX0_cools_0 13 rfl rfl)
theorem dX0_cools_16 : decode cX0_cools 16 = .ok (.iload_n 2, 1) := dk_28 (dk_at dksX0_cools_0 16 rfl rfl)
theorem dX0_cools_17 : decode cX0_cools 17 = .ok (.iaload, 1) := dk_46 (dk_at dksX0_cools_0 17 rfl rfl)
theorem dX0_cools_18 : decode cX0_cools 18 = .ok (.aload_n 0, 1) := dk_42 (dk_at dksX0_cools_0 18 rfl rfl)
theorem dX0_cools_19 : decode cX0_cools 19 = .ok (.getfield 41, 3) := dk_180 0 41 (dk_at dksX0_cools_0 19 rfl rfl)
theorem dX0_cools_22 : decode cX0_cools 22 = .ok (.getfield 242, 3) := dk_180 0 242 (dk_at dksX0_cools_1 0 rfl rfl)
theorem dX0_cools_25 : decode cX0_cools 25 = .ok (.imul, 1) := dk_104 (dk_at dksX0_cools_1 3 rfl rfl)
theorem dX0_cools_26 : decode cX0_cools 26 = .ok (.bipush 100, 2) := dk_16 100 (dk_at dksX0_cools_1 4 rfl rfl)
theorem dX0_cools_28 : decode cX0_cools 28 = .ok (.idiv, 1) := dk_108 (dk_at dksX0_cools_1 6 rfl rfl)
theorem dX0_cools_29 : decode cX0_cools 29 = .ok (.iastore, 1) := dk_79 (dk_at dksX0_cools_1 7 rfl rfl)
theorem dX0_cools_30 : decode cX0_cools 30 = .ok (.iinc 2 1, 3) := dk_132 2 1 (dk_at dksX0_cools_1 8 rfl rfl)
theorem dX0_cools_33 : decode cX0_cools 33 = .ok (.goto (-31), 3) := dk_167 255 225 (dk_at dksX0_cools_1 11 rfl rfl)
theorem dX0_cools_36 : decode cX0_cools 36 = .ok (.aload_n 1, 1) := dk_43 (dk_at dksX0_cools_1 14 rfl rfl)
theorem dX0_cools_37 : decode cX0_cools 37 = .ok (.sipush 9999, 3) := dk_17 39 15 (dk_at dksX0_cools_1 15 rfl rfl)
theorem dX0_cools_40 : decode cX0_cools 40 = .ok (.aload_n 1, 1) := dk_43 (dk_at dksX0_cools_1 18 rfl rfl)
theorem dX0_cools_41 : decode cX0_cools 41 = .ok (.getfield 163, 3) := dk_180 0 163 (dk_at dksX0_cools_1 19 rfl rfl)
theorem dX0_cools_44 : decode cX0_cools 44 = .ok (.iconst 1, 1) := dk_4 (dk_at dksX0_cools_1 22 rfl rfl)
theorem dX0_cools_45 : decode cX0_cools 45 = .ok (.iadd, 1) := dk_96 (dk_at dksX0_cools_1 23 rfl rfl)
theorem dX0_cools_46 : decode cX0_cools 46 = .ok (.invokestatic 186, 3) := dk_184 0 186 (dk_at dksX0_cools_2 0 rfl rfl)
theorem dX0_cools_49 : decode cX0_cools 49 = .ok (.putfield 163, 3) := dk_181 0 163 (dk_at dksX0_cools_2 3 rfl rfl)
theorem dX0_cools_52 : decode cX0_cools 52 = .ok (.return_, 1) := dk_177 (dk_at dksX0_cools_2 6 rfl rfl)
theorem gf_cools : xV yX0_cools RX0 cX0_cools 3 none 1 := ⟨q1013, qs25, q87, q1014, ⟨rfl, by decide +kernel, by decide +kernel, by decide +kernel⟩, by decide⟩
abbrev cX0_bake : ByteArray := prog_1_method_23_code
def yX0_bake : MethodName := ⟨RX0, "bake", "(I)I"⟩
def dkwX0_bake_1 : List UInt8 := [3, 167, 0, 4, 2, 172]
abbrev dktX0_bake_1 : List UInt8 := dkwX0_bake_1 ++ []
def dkwX0_bake_0 : List UInt8 := [42, 27, 182, 0, 140, 153, 0, 23, 42, 42, 180, 0, 27, 27, 182, 0, 245, 153, 0, 7, 4, 167, 0, 8]
abbrev dktX0_bake_0 : List UInt8 := dkwX0_bake_0 ++ dktX0_bake_1
theorem dksX0_bake_0 : cX0_bake.data.toList.drop 0 = dktX0_bake_0 := by decide +kernel
theorem dksX0_bake_1 : cX0_bake.data.toList.drop 24 = dktX0_bake_1 := dk_seg dksX0_bake_0 24 rfl rfl
theorem dX0_bake_0 : decode cX0_bake 0 = .ok (.aload_n 0, 1) := dk_42 (dk_at dksX0_bake_0 0 rfl rfl)
theorem dX0_bake_1 : decode cX0_bake 1 = .ok (.iload_n 1, 1) := dk_27 (dk_at dksX0_bake_0 1 rfl rfl)
theorem dX0_bake_2 : decode cX0_bake 2 = .ok (.invokevirtual 140, 3) := dk_182 0 140 (dk_at dksX0_bake_0 2 rfl rfl)
theorem dX0_bake_5 : decode cX0_bake 5 = .ok (.ifCond .eq 23, 3) := dk_153 0 23 (dk_at dksX0_bake_0 5 rfl rfl)
theorem dX0_bake_8 : decode cX0_bake 8 = .ok (.aload_n 0, 1) := dk_42 (dk_at dksX0_bake_0 8 rfl rfl)
theorem dX0_bake_9 : decode cX0_bake 9 = .ok (.aload_n 0, 1) := dk_42 (dk_at dksX0_bake_0 9 rfl rfl)
theorem dX0_bake_10 : decode cX0_bake 10 = .ok (.getfield 27, 3) := dk_180 0 27 (dk_at dksX0_bake_0 10 rfl rfl)
theorem dX0_bake_13 : decode cX0_bake 13 = .ok (.iload_n 1, 1) := dk_27 (dk_at dksX0_bake_0 13 rfl rfl)
theorem dX0_bake_14 : decode cX0_bake 14 = .ok (.invokevirtual 245, 3) := dk_182 0 245 (dk_at dksX0_bake_0 14 rfl rfl)
theorem dX0_bake_17 : decode cX0_bake 17 = .ok (.ifCond .eq 7, 3) := dk_153 0 7 (dk_at dksX0_bake_0 17 rfl rfl)
theorem dX0_bake_20 : decode cX0_bake 20 = .ok (.iconst 1, 1) := dk_4 (dk_at dksX0_bake_0 20 rfl rfl)
theorem dX0_bake_21 : decode cX0_bake 21 = .ok (.goto 8, 3) := dk_167 0 8 (dk_at dksX0_bake_0 21 rfl rfl)
theorem dX0_bake_24 : decode cX0_bake 24 = .ok (.iconst 0, 1) := dk_3 (dk_at dksX0_bake_1 0 rfl rfl)
theorem dX0_bake_25 : decode cX0_bake 25 = .ok (.goto 4, 3) := dk_167 0 4 (dk_at dksX0_bake_1 1 rfl rfl)
theorem dX0_bake_28 : decode cX0_bake 28 = .ok (.iconst (-1), 1) := dk_2 (dk_at dksX0_bake_1 4 rfl rfl)
theorem dX0_bake_29 : decode cX0_bake 29 = .ok (.ireturn, 1) := dk_172 (dk_at dksX0_bake_1 5 rfl rfl)
theorem gf_bake : xV yX0_bake RX0 cX0_bake 2 (some .int) 1 := ⟨q1000, q1001, q87, q1002, ⟨rfl, by decide +kernel, by decide +kernel, by decide +kernel⟩, by decide⟩
abbrev cX0_cold : ByteArray := prog_1_method_24_code
def yX0_cold : MethodName := ⟨RX0, "cold", "()I"⟩
def dkwX0_cold_0 : List UInt8 := [42, 42, 180, 0, 27, 182, 0, 248, 42, 180, 0, 27, 180, 0, 163, 172]
abbrev dktX0_cold_0 : List UInt8 := dkwX0_cold_0 ++ []
theorem dksX0_cold_0 : cX0_cold.data.toList.drop 0 = dktX0_cold_0 := by decide +kernel
theorem dX0_cold_0 : decode cX0_cold 0 = .ok (.aload_n 0, 1) := dk_42 (dk_at dksX0_cold_0 0 rfl rfl)
theorem dX0_cold_1 : decode cX0_cold 1 = .ok (.aload_n 0, 1) := dk_42 (dk_at dksX0_cold_0 1 rfl rfl)
theorem dX0_cold_2 : decode cX0_cold 2 = .ok (.getfield 27, 3) := dk_180 0 27 (dk_at dksX0_cold_0 2 rfl rfl)
theorem dX0_cold_5 : decode cX0_cold 5 = .ok (.invokevirtual 248, 3) := dk_182 0 248 (dk_at dksX0_cold_0 5 rfl rfl)
theorem dX0_cold_8 : decode cX0_cold 8 = .ok (.aload_n 0, 1) := dk_42 (dk_at dksX0_cold_0 8 rfl rfl)
theorem dX0_cold_9 : decode cX0_cold 9 = .ok (.getfield 27, 3) := dk_180 0 27 (dk_at dksX0_cold_0 9 rfl rfl)
theorem dX0_cold_12 : decode cX0_cold 12 = .ok (.getfield 163, 3) := dk_180 0 163 (dk_at dksX0_cold_0 12 rfl rfl)
theorem dX0_cold_15 : decode cX0_cold 15 = .ok (.ireturn, 1) := dk_172 (dk_at dksX0_cold_0 15 rfl rfl)
theorem gf_cold : xV yX0_cold RX0 cX0_cold 1 (some .int) 0 := ⟨q1008, q1009, q87, q1010, ⟨rfl, by decide +kernel, by decide +kernel, by decide +kernel⟩, by decide⟩
abbrev cX0_would : ByteArray := prog_1_method_25_code
def yX0_would : MethodName := ⟨RX0, "would", "(III)I"⟩
def dkwX0_would_4 : List UInt8 := [27, 29, 42, 180, 0, 31, 180, 0, 195, 29, 46, 182, 0, 207, 172]
abbrev dktX0_would_4 : List UInt8 := dkwX0_would_4 ++ []
def dkwX0_would_3 : List UInt8 := [42, 180, 0, 31, 27, 182, 0, 215, 153, 0, 7, 4, 167, 0, 26, 3, 167, 0, 22, 42, 42, 180, 0, 31]
abbrev dktX0_would_3 : List UInt8 := dkwX0_would_3 ++ dktX0_would_4
def dkwX0_would_2 : List UInt8 := [182, 0, 252, 28, 2, 159, 0, 13, 42, 42, 180, 0, 31, 28, 182, 0, 245, 87, 29, 7, 160, 0, 23, 42]
abbrev dktX0_would_2 : List UInt8 := dkwX0_would_2 ++ dktX0_would_3
def dkwX0_would_1 : List UInt8 := [184, 0, 111, 154, 0, 5, 2, 172, 27, 28, 160, 0, 6, 16, 254, 172, 42, 180, 0, 31, 42, 180, 0, 27]
abbrev dktX0_would_1 : List UInt8 := dkwX0_would_1 ++ dktX0_would_2
def dkwX0_would_0 : List UInt8 := [42, 27, 182, 0, 140, 153, 0, 25, 28, 2, 159, 0, 11, 42, 28, 182, 0, 140, 153, 0, 12, 29, 3, 7]
abbrev dktX0_would_0 : List UInt8 := dkwX0_would_0 ++ dktX0_would_1
theorem dksX0_would_0 : cX0_would.data.toList.drop 0 = dktX0_would_0 := by decide +kernel
theorem dksX0_would_1 : cX0_would.data.toList.drop 24 = dktX0_would_1 := dk_seg dksX0_would_0 24 rfl rfl
theorem dksX0_would_2 : cX0_would.data.toList.drop 48 = dktX0_would_2 := dk_seg dksX0_would_1 24 rfl rfl
theorem dksX0_would_3 : cX0_would.data.toList.drop 72 = dktX0_would_3 := dk_seg dksX0_would_2 24 rfl rfl
theorem dksX0_would_4 : cX0_would.data.toList.drop 96 = dktX0_would_4 := dk_seg dksX0_would_3 24 rfl rfl
theorem dX0_would_0 : decode cX0_would 0 = .ok (.aload_n 0, 1) := dk_42 (dk_at dksX0_would_0 0 rfl rfl)
theorem dX0_would_1 : decode cX0_would 1 = .ok (.iload_n 1, 1) := dk_27 (dk_at dksX0_would_0 1 rfl rfl)
theorem dX0_would_2 : decode cX0_would 2 = .ok (.invokevirtual 140, 3) := dk_182 0 140 (dk_at dksX0_would_0 2 rfl rfl)
theorem dX0_would_5 : decode cX0_would 5 = .ok (.ifCond .eq 25, 3) := dk_153 0 25 (dk_at dksX0_would_0 5 rfl rfl)
theorem dX0_would_8 : decode cX0_would 8 = .ok (.iload_n 2, 1) := dk_28 (dk_at dksX0_would_0 8 rfl rfl)
theorem dX0_would_9 : decode cX0_would 9 = .ok (.iconst (-1), 1) := dk_2 (dk_at dksX0_would_0 9 rfl rfl)
theorem dX0_would_10 : decode cX0_would 10 = .ok (.if_icmp .eq 11, 3) := dk_159 0 11 (dk_at dksX0_would_0 10 rfl rfl)
theorem dX0_would_13 : decode cX0_would 13 = .ok (.aload_n 0, 1) := dk_42 (dk_at dksX0_would_0 13 rfl rfl)
theorem dX0_would_14 : decode cX0_would 14 = .ok (.iload_n 2, 1) := dk_28 (dk_at dksX0_would_0 14 rfl rfl)
theorem dX0_would_15 : decode cX0_would 15 = .ok (.invokevirtual 140, 3) := dk_182 0 140 (dk_at dksX0_would_0 15 rfl rfl)
theorem dX0_would_18 : decode cX0_would 18 = .ok (.ifCond .eq 12, 3) := dk_153 0 12 (dk_at dksX0_would_0 18 rfl rfl)
theorem dX0_would_21 : decode cX0_would 21 = .ok (.iload_n 3, 1) := dk_29 (dk_at dksX0_would_0 21 rfl rfl)
theorem dX0_would_22 : decode cX0_would 22 = .ok (.iconst 0, 1) := dk_3 (dk_at dksX0_would_0 22 rfl rfl)
theorem dX0_would_23 : decode cX0_would 23 = .ok (.iconst 4, 1) := dk_7 (dk_at dksX0_would_0 23 rfl rfl)
theorem dX0_would_24 : decode cX0_would 24 = .ok (.invokestatic 111, 3) := dk_184 0 111 (dk_at dksX0_would_1 0 rfl rfl)
theorem dX0_would_27 : decode cX0_would 27 = .ok (.ifCond .ne 5, 3) := dk_154 0 5 (dk_at dksX0_would_1 3 rfl rfl)
theorem dX0_would_30 : decode cX0_would 30 = .ok (.iconst (-1), 1) := dk_2 (dk_at dksX0_would_1 6 rfl rfl)
theorem dX0_would_31 : decode cX0_would 31 = .ok (.ireturn, 1) := dk_172 (dk_at dksX0_would_1 7 rfl rfl)
theorem dX0_would_32 : decode cX0_would 32 = .ok (.iload_n 1, 1) := dk_27 (dk_at dksX0_would_1 8 rfl rfl)
theorem dX0_would_33 : decode cX0_would 33 = .ok (.iload_n 2, 1) := dk_28 (dk_at dksX0_would_1 9 rfl rfl)
theorem dX0_would_34 : decode cX0_would 34 = .ok (.if_icmp .ne 6, 3) := dk_160 0 6 (dk_at dksX0_would_1 10 rfl rfl)
theorem dX0_would_37 : decode cX0_would 37 = .ok (.bipush (-2), 2) := dk_16 254 (dk_at dksX0_would_1 13 rfl rfl)
theorem dX0_would_39 : decode cX0_would 39 = .ok (.ireturn, 1) := dk_172 (dk_at dksX0_would_1 15 rfl rfl)
theorem dX0_would_40 : decode cX0_would 40 = .ok (.aload_n 0, 1) := dk_42 (dk_at dksX0_would_1 16 rfl rfl)
theorem dX0_would_41 : decode cX0_would 41 = .ok (.getfield 31, 3) := dk_180 0 31 (dk_at dksX0_would_1 17 rfl rfl)
theorem dX0_would_44 : decode cX0_would 44 = .ok (.aload_n 0, 1) := dk_42 (dk_at dksX0_would_1 20 rfl rfl)
theorem dX0_would_45 : decode cX0_would 45 = .ok (.getfield 27, 3) := dk_180 0 27 (dk_at dksX0_would_1 21 rfl rfl)
theorem dX0_would_48 : decode cX0_would 48 = .ok (.invokevirtual 252, 3) := dk_182 0 252 (dk_at dksX0_would_2 0 rfl rfl)
theorem dX0_would_51 : decode cX0_would 51 = .ok (.iload_n 2, 1) := dk_28 (dk_at dksX0_would_2 3 rfl rfl)
theorem dX0_would_52 : decode cX0_would 52 = .ok (.iconst (-1), 1) := dk_2 (dk_at dksX0_would_2 4 rfl rfl)
theorem dX0_would_53 : decode cX0_would 53 = .ok (.if_icmp .eq 13, 3) := dk_159 0 13 (dk_at dksX0_would_2 5 rfl rfl)
theorem dX0_would_56 : decode cX0_would 56 = .ok (.aload_n 0, 1) := dk_42 (dk_at dksX0_would_2 8 rfl rfl)
theorem dX0_would_57 : decode cX0_would 57 = .ok (.aload_n 0, 1) := dk_42 (dk_at dksX0_would_2 9 rfl rfl)
theorem dX0_would_58 : decode cX0_would 58 = .ok (.getfield 31, 3) := dk_180 0 31 (dk_at dksX0_would_2 10 rfl rfl)
theorem dX0_would_61 : decode cX0_would 61 = .ok (.iload_n 2, 1) := dk_28 (dk_at dksX0_would_2 13 rfl rfl)
theorem dX0_would_62 : decode cX0_would 62 = .ok (.invokevirtual 245, 3) := dk_182 0 245 (dk_at dksX0_would_2 14 rfl rfl)
theorem dX0_would_65 : decode cX0_would 65 = .ok (.pop, 1) := dk_87 (dk_at dksX0_would_2 17 rfl rfl)
theorem dX0_would_66 : decode cX0_would 66 = .ok (.iload_n 3, 1) := dk_29 (dk_at dksX0_would_2 18 rfl rfl)
theorem dX0_would_67 : decode cX0_would 67 = .ok (.iconst 4, 1) := dk_7 (dk_at dksX0_would_2 19 rfl rfl)
theorem dX0_would_68 : decode cX0_would 68 = .ok (.if_icmp .ne 23, 3) := dk_160 0 23 (dk_at dksX0_would_2 20 rfl rfl)
theorem dX0_would_71 : decode cX0_would 71 = .ok (.aload_n 0, 1) := dk_42 (dk_at dksX0_would_2 23 rfl rfl)
theorem dX0_would_72 : decode cX0_would 72 = .ok (.aload_n 0, 1) := dk_42 (dk_at dksX0_would_3 0 rfl rfl)
theorem dX0_would_73 : decode cX0_would 73 = .ok (.getfield 31, 3) := dk_180 0 31 (dk_at dksX0_would_3 1 rfl rfl)
theorem dX0_would_76 : decode cX0_would 76 = .ok (.iload_n 1, 1) := dk_27 (dk_at dksX0_would_3 4 rfl rfl)
theorem dX0_would_77 : decode cX0_would 77 = .ok (.invokevirtual 215, 3) := dk_182 0 215 (dk_at dksX0_would_3 5 rfl rfl)
theorem dX0_would_80 : decode cX0_would 80 = .ok (.ifCond .eq 7, 3) := dk_153 0 7 (dk_at dksX0_would_3 8 rfl rfl)
theorem dX0_would_83 : decode cX0_would 83 = .ok (.iconst 1, 1) := dk_4 (dk_at dksX0_would_3 11 rfl rfl)
theorem dX0_would_84 : decode cX0_would 84 = .ok (.goto 26, 3) := dk_167 0 26 (dk_at dksX0_would_3 12 rfl rfl)
theorem dX0_would_87 : decode cX0_would 87 = .ok (.iconst 0, 1) := dk_3 (dk_at dksX0_would_3 15 rfl rfl)
theorem dX0_would_88 : decode cX0_would 88 = .ok (.goto 22, 3) := dk_167 0 22 (dk_at dksX0_would_3 16 rfl rfl)
theorem dX0_would_91 : decode cX0_would 91 = .ok (.aload_n 0, 1) := dk_42 (dk_at dksX0_would_3 19 rfl rfl)
theorem dX0_would_92 : decode cX0_would 92 = .ok (.aload_n 0, 1) := dk_42 (dk_at dksX0_would_3 20 rfl rfl)
theorem dX0_would_93 : decode cX0_would 93 = .ok (.getfield 31, 3) := dk_180 0 31 (dk_at dksX0_would_3 21 rfl rfl)
theorem dX0_would_96 : decode cX0_would 96 = .ok (.iload_n 1, 1) := dk_27 (dk_at dksX0_would_4 0 rfl rfl)
theorem dX0_would_97 : decode cX0_would 97 = .ok (.iload_n 3, 1) := dk_29 (dk_at dksX0_would_4 1 rfl rfl)
theorem dX0_would_98 : decode cX0_would 98 = .ok (.aload_n 0, 1) := dk_42 (dk_at dksX0_would_4 2 rfl rfl)
theorem dX0_would_99 : decode cX0_would 99 = .ok (.getfield 31, 3) := dk_180 0 31 (dk_at dksX0_would_4 3 rfl rfl)
theorem dX0_would_102 : decode cX0_would 102 = .ok (.getfield 195, 3) := dk_180 0 195 (dk_at dksX0_would_4 6 rfl rfl)
theorem dX0_would_105 : decode cX0_would 105 = .ok (.iload_n 3, 1) := dk_29 (dk_at dksX0_would_4 9 rfl rfl)
theorem dX0_would_106 : decode cX0_would 106 = .ok (.iaload, 1) := dk_46 (dk_at dksX0_would_4 10 rfl rfl)
theorem dX0_would_107 : decode cX0_would 107 = .ok (.invokevirtual 207, 3) := dk_182 0 207 (dk_at dksX0_would_4 11 rfl rfl)
theorem dX0_would_110 : decode cX0_would 110 = .ok (.ireturn, 1) := dk_172 (dk_at dksX0_would_4 14 rfl rfl)
theorem gf_would : xV yX0_would RX0 cX0_would 4 (some .int) 3 := ⟨q1016, q1017, q87, q1018, ⟨rfl, by decide +kernel, by decide +kernel, by decide +kernel⟩, by decide⟩
abbrev cX0_keepsRow : ByteArray := prog_1_method_26_code
def yX0_keepsRow : MethodName := ⟨RX0, "keepsRow", "(II)V"⟩
def dkwX0_keepsRow_1 : List UInt8 := [180, 0, 82, 29, 46, 167, 0, 5, 16, 251, 79, 132, 3, 1, 167, 255, 225, 177]
abbrev dktX0_keepsRow_1 : List UInt8 := dkwX0_keepsRow_1 ++ []
def dkwX0_keepsRow_0 : List UInt8 := [42, 28, 181, 0, 255, 3, 62, 29, 16, 6, 162, 0, 31, 42, 180, 0, 85, 29, 29, 27, 162, 0, 12, 42]
abbrev dktX0_keepsRow_0 : List UInt8 := dkwX0_keepsRow_0 ++ dktX0_keepsRow_1
theorem dksX0_keepsRow_0 : cX0_keepsRow.data.toList.drop 0 = dktX0_keepsRow_0 := by decide +kernel
theorem dksX0_keepsRow_1 : cX0_keepsRow.data.toList.drop 24 = dktX0_keepsRow_1 := dk_seg dksX0_keepsRow_0 24 rfl rfl
theorem dX0_keepsRow_0 : decode cX0_keepsRow 0 = .ok (.aload_n 0, 1) := dk_42 (dk_at dksX0_keepsRow_0 0 rfl rfl)
theorem dX0_keepsRow_1 : decode cX0_keepsRow 1 = .ok (.iload_n 2, 1) := dk_28 (dk_at dksX0_keepsRow_0 1 rfl rfl)
theorem dX0_keepsRow_2 : decode cX0_keepsRow 2 = .ok (.putfield 255, 3) := dk_181 0 255 (dk_at dksX0_keepsRow_0 2 rfl rfl)
theorem dX0_keepsRow_5 : decode cX0_keepsRow 5 = .ok (.iconst 0, 1) := dk_3 (dk_at dksX0_keepsRow_0 5 rfl rfl)
theorem dX0_keepsRow_6 : decode cX0_keepsRow 6 = .ok (.istore_n 3, 1) := dk_62 (dk_at dksX0_keepsRow_0 6 rfl rfl)
theorem dX0_keepsRow_7 : decode cX0_keepsRow 7 = .ok (.iload_n 3, 1) := dk_29 (dk_at dksX0_keepsRow_0 7 rfl rfl)
theorem dX0_keepsRow_8 : decode cX0_keepsRow 8 = .ok (.bipush 6, 2) := dk_16 6 (dk_at dksX0_keepsRow_0 8 rfl rfl)
theorem dX0_keepsRow_10 : decode cX0_keepsRow 10 = .ok (.if_icmp .ge 31, 3) := dk_162 0 31 (dk_at dksX0_keepsRow_0 10 rfl rfl)
theorem dX0_keepsRow_13 : decode cX0_keepsRow 13 = .ok (.aload_n 0, 1) := dk_42 (dk_at dksX0_keepsRow_0 13 rfl rfl)
theorem dX0_keepsRow_14 : decode cX0_keepsRow 14 = .ok (.getfield 85, 3) := dk_180 0 85 (dk_at dksX0_keepsRow_0 14 rfl rfl)
theorem dX0_keepsRow_17 : decode cX0_keepsRow 17 = .ok (.iload_n 3, 1) := dk_29 (dk_at dksX0_keepsRow_0 17 rfl rfl)
theorem dX0_keepsRow_18 : decode cX0_keepsRow 18 = .ok (.iload_n 3, 1) := dk_29 (dk_at dksX0_keepsRow_0 18 rfl rfl)
theorem dX0_keepsRow_19 : decode cX0_keepsRow 19 = .ok (.iload_n 1, 1) := dk_27 (dk_at dksX0_keepsRow_0 19 rfl rfl)
theorem dX0_keepsRow_20 : decode cX0_keepsRow 20 = .ok (.if_icmp .ge 12, 3) := dk_162 0 12 (dk_at dksX0_keepsRow_0 20 rfl rfl)
theorem dX0_keepsRow_23 : decode cX0_keepsRow 23 = .ok (.aload_n 0, 1) := dk_42 (dk_at dksX0_keepsRow_0 23 rfl rfl)
theorem dX0_keepsRow_24 : decode cX0_keepsRow 24 = .ok (.getfield 82, 3) := dk_180 0 82 (dk_at dksX0_keepsRow_1 0 rfl rfl)
theorem dX0_keepsRow_27 : decode cX0_keepsRow 27 = .ok (.iload_n 3, 1) := dk_29 (dk_at dksX0_keepsRow_1 3 rfl rfl)
theorem dX0_keepsRow_28 : decode cX0_keepsRow 28 = .ok (.iaload, 1) := dk_46 (dk_at dksX0_keepsRow_1 4 rfl rfl)
theorem dX0_keepsRow_29 : decode cX0_keepsRow 29 = .ok (.goto 5, 3) := dk_167 0 5 (dk_at dksX0_keepsRow_1 5 rfl rfl)
theorem dX0_keepsRow_32 : decode cX0_keepsRow 32 = .ok (.bipush (-5), 2) := dk_16 251 (dk_at dksX0_keepsRow_1 8 rfl rfl)
theorem dX0_keepsRow_34 : decode cX0_keepsRow 34 = .ok (.iastore, 1) := dk_79 (dk_at dksX0_keepsRow_1 10 rfl rfl)
theorem dX0_keepsRow_35 : decode cX0_keepsRow 35 = .ok (.iinc 3 1, 3) := dk_132 3 1 (dk_at dksX0_keepsRow_1 11 rfl rfl)
theorem dX0_keepsRow_38 : decode cX0_keepsRow 38 = .ok (.goto (-31), 3) := dk_167 255 225 (dk_at dksX0_keepsRow_1 14 rfl rfl)
theorem dX0_keepsRow_41 : decode cX0_keepsRow 41 = .ok (.return_, 1) := dk_177 (dk_at dksX0_keepsRow_1 17 rfl rfl)
theorem gf_keepsRow : xV yX0_keepsRow RX0 cX0_keepsRow 4 none 2 := ⟨q1052, qs30, q87, q1053, ⟨rfl, by decide +kernel, by decide +kernel, by decide +kernel⟩, by decide⟩
abbrev cX0_isFewer : ByteArray := prog_1_method_27_code
def yX0_isFewer : MethodName := ⟨RX0, "isFewer", "(I)Z"⟩
def dkwX0_isFewer_0 : List UInt8 := [42, 180, 0, 255, 16, 251, 159, 0, 11, 27, 42, 180, 0, 255, 162, 0, 7, 4, 167, 0, 4, 3, 172]
abbrev dktX0_isFewer_0 : List UInt8 := dkwX0_isFewer_0 ++ []
theorem dksX0_isFewer_0 : cX0_isFewer.data.toList.drop 0 = dktX0_isFewer_0 := by decide +kernel
theorem dX0_isFewer_0 : decode cX0_isFewer 0 = .ok (.aload_n 0, 1) := dk_42 (dk_at dksX0_isFewer_0 0 rfl rfl)
theorem dX0_isFewer_1 : decode cX0_isFewer 1 = .ok (.getfield 255, 3) := dk_180 0 255 (dk_at dksX0_isFewer_0 1 rfl rfl)
theorem dX0_isFewer_4 : decode cX0_isFewer 4 = .ok (.bipush (-5), 2) := dk_16 251 (dk_at dksX0_isFewer_0 4 rfl rfl)
theorem dX0_isFewer_6 : decode cX0_isFewer 6 = .ok (.if_icmp .eq 11, 3) := dk_159 0 11 (dk_at dksX0_isFewer_0 6 rfl rfl)
theorem dX0_isFewer_9 : decode cX0_isFewer 9 = .ok (.iload_n 1, 1) := dk_27 (dk_at dksX0_isFewer_0 9 rfl rfl)
theorem dX0_isFewer_10 : decode cX0_isFewer 10 = .ok (.aload_n 0, 1) := dk_42 (dk_at dksX0_isFewer_0 10 rfl rfl)
theorem dX0_isFewer_11 : decode cX0_isFewer 11 = .ok (.getfield 255, 3) := dk_180 0 255 (dk_at dksX0_isFewer_0 11 rfl rfl)
theorem dX0_isFewer_14 : decode cX0_isFewer 14 = .ok (.if_icmp .ge 7, 3) := dk_162 0 7 (dk_at dksX0_isFewer_0 14 rfl rfl)
theorem dX0_isFewer_17 : decode cX0_isFewer 17 = .ok (.iconst 1, 1) := dk_4 (dk_at dksX0_isFewer_0 17 rfl rfl)
theorem dX0_isFewer_18 : decode cX0_isFewer 18 = .ok (.goto 4, 3) := dk_167 0 4 (dk_at dksX0_isFewer_0 18 rfl rfl)
theorem dX0_isFewer_21 : decode cX0_isFewer 21 = .ok (.iconst 0, 1) := dk_3 (dk_at dksX0_isFewer_0 21 rfl rfl)
theorem dX0_isFewer_22 : decode cX0_isFewer 22 = .ok (.ireturn, 1) := dk_172 (dk_at dksX0_isFewer_0 22 rfl rfl)
theorem gf_isFewer : xV yX0_isFewer RX0 cX0_isFewer 2 (some .boolean) 1 := ⟨q1048, qs29, q87, q1049, ⟨rfl, by decide +kernel, by decide +kernel, by decide +kernel⟩, by decide⟩
abbrev cX0_ordersFrom : ByteArray := prog_1_method_28_code
def yX0_ordersFrom : MethodName := ⟨RX0, "ordersFrom", "(III)V"⟩
def dkwX0_ordersFrom_5 : List UInt8 := [167, 255, 164, 177]
abbrev dktX0_ordersFrom_5 : List UInt8 := dkwX0_ordersFrom_5 ++ []
def dkwX0_ordersFrom_4 : List UInt8 := [42, 27, 4, 21, 4, 120, 2, 130, 126, 28, 4, 96, 29, 21, 5, 96, 182, 1, 9, 132, 4, 1]
abbrev dktX0_ordersFrom_4 : List UInt8 := dkwX0_ordersFrom_4 ++ dktX0_ordersFrom_5
def dkwX0_ordersFrom_3 : List UInt8 := [42, 42, 180, 0, 78, 28, 4, 96, 50, 21, 4, 182, 0, 245, 153, 0, 7, 4, 167, 0, 4, 3, 54, 5]
abbrev dktX0_ordersFrom_3 : List UInt8 := dkwX0_ordersFrom_3 ++ dktX0_ordersFrom_4
def dkwX0_ordersFrom_2 : List UInt8 := [180, 0, 78, 28, 4, 96, 50, 42, 180, 0, 78, 28, 50, 182, 0, 252, 42, 180, 0, 82, 28, 21, 4, 79]
abbrev dktX0_ordersFrom_2 : List UInt8 := dkwX0_ordersFrom_2 ++ dktX0_ordersFrom_3
def dkwX0_ordersFrom_1 : List UInt8 := [21, 4, 42, 180, 0, 107, 162, 0, 89, 27, 21, 4, 122, 4, 126, 154, 0, 6, 167, 0, 71, 42]
abbrev dktX0_ordersFrom_1 : List UInt8 := dkwX0_ordersFrom_1 ++ dktX0_ordersFrom_2
def dkwX0_ordersFrom_0 : List UInt8 := [42, 29, 182, 1, 2, 154, 0, 4, 177, 27, 154, 0, 10, 42, 28, 29, 182, 1, 5, 177, 3, 54, 4]
abbrev dktX0_ordersFrom_0 : List UInt8 := dkwX0_ordersFrom_0 ++ dktX0_ordersFrom_1
theorem dksX0_ordersFrom_0 : cX0_ordersFrom.data.toList.drop 0 = dktX0_ordersFrom_0 := by decide +kernel
theorem dksX0_ordersFrom_1 : cX0_ordersFrom.data.toList.drop 23 = dktX0_ordersFrom_1 := dk_seg dksX0_ordersFrom_0 23 rfl rfl
theorem dksX0_ordersFrom_2 : cX0_ordersFrom.data.toList.drop 45 = dktX0_ordersFrom_2 := dk_seg dksX0_ordersFrom_1 22 rfl rfl
theorem dksX0_ordersFrom_3 : cX0_ordersFrom.data.toList.drop 69 = dktX0_ordersFrom_3 := dk_seg dksX0_ordersFrom_2 24 rfl rfl
theorem dksX0_ordersFrom_4 : cX0_ordersFrom.data.toList.drop 93 = dktX0_ordersFrom_4 := dk_seg dksX0_ordersFrom_3 24 rfl rfl
theorem dksX0_ordersFrom_5 : cX0_ordersFrom.data.toList.drop 115 = dktX0_ordersFrom_5 := dk_seg dksX0_ordersFrom_4 22 rfl rfl
theorem dX0_ordersFrom_0 : decode cX0_ordersFrom 0 = .ok (.aload_n 0, 1) := dk_42 (dk_at dksX0_ordersFrom_0 0 rfl rfl)
theorem dX0_ordersFrom_1 : decode cX0_ordersFrom 1 = .ok (.iload_n 3, 1) := dk_29 (dk_at dksX0_ordersFrom_0 1 rfl rfl)
theorem dX0_ordersFrom_2 : decode cX0_ordersFrom 2 = .ok (.invokevirtual 258, 3) := dk_182 1 2 (dk_at dksX0_ordersFrom_0 2 rfl rfl)
theorem dX0_ordersFrom_5 : decode cX0_ordersFrom 5 = .ok (.ifCond .ne 4, 3) := dk_154 0 4 (dk_at dksX0_ordersFrom_0 5 rfl rfl)
theorem dX0_ordersFrom_8 : decode cX0_ordersFrom 8 = .ok (.return_, 1) := dk_177 (dk_at dksX0_ordersFrom_0 8 rfl rfl)
theorem dX0_ordersFrom_9 : decode cX0_ordersFrom 9 = .ok (.iload_n 1, 1) := dk_27 (dk_at dksX0_ordersFrom_0 9 rfl rfl)
theorem dX0_ordersFrom_10 : decode cX0_ordersFrom 10 = .ok (.ifCond .ne 10, 3) := dk_154 0 10 (dk_at dksX0_ordersFrom_0 10 rfl rfl)
theorem dX0_ordersFrom_13 : decode cX0_ordersFrom 13 = .ok (.aload_n 0, 1) := dk_42 (dk_at dksX0_ordersFrom_0 13 rfl rfl)
theorem dX0_ordersFrom_14 : decode cX0_ordersFrom 14 = .ok (.iload_n 2, 1) := dk_28 (dk_at dksX0_ordersFrom_0 14 rfl rfl)
theorem dX0_ordersFrom_15 : decode cX0_ordersFrom 15 = .ok (.iload_n 3, 1) := dk_29 (dk_at dksX0_ordersFrom_0 15 rfl rfl)
theorem dX0_ordersFrom_16 : decode cX0_ordersFrom 16 = .ok (.invokevirtual 261, 3) := dk_182 1 5 (dk_at dksX0_ordersFrom_0 16 rfl rfl)
theorem dX0_ordersFrom_19 : decode cX0_ordersFrom 19 = .ok (.return_, 1) := dk_177 (dk_at dksX0_ordersFrom_0 19 rfl rfl)
theorem dX0_ordersFrom_20 : decode cX0_ordersFrom 20 = .ok (.iconst 0, 1) := dk_3 (dk_at dksX0_ordersFrom_0 20 rfl rfl)
theorem dX0_ordersFrom_21 : decode cX0_ordersFrom 21 = .ok (.istore 4, 2) := dk_54 4 (dk_at dksX0_ordersFrom_0 21 rfl rfl)
theorem dX0_ordersFrom_23 : decode cX0_ordersFrom 23 = .ok (.iload 4, 2) := dk_21 4 (dk_at dksX0_ordersFrom_1 0 rfl rfl)
theorem dX0_ordersFrom_25 : decode cX0_ordersFrom 25 = .ok (.aload_n 0, 1) := dk_42 (dk_at dksX0_ordersFrom_1 2 rfl rfl)
theorem dX0_ordersFrom_26 : decode cX0_ordersFrom 26 = .ok (.getfield 107, 3) := dk_180 0 107 (dk_at dksX0_ordersFrom_1 3 rfl rfl)
theorem dX0_ordersFrom_29 : decode cX0_ordersFrom 29 = .ok (.if_icmp .ge 89, 3) := dk_162 0 89 (dk_at dksX0_ordersFrom_1 6 rfl rfl)
theorem dX0_ordersFrom_32 : decode cX0_ordersFrom 32 = .ok (.iload_n 1, 1) := dk_27 (dk_at dksX0_ordersFrom_1 9 rfl rfl)
theorem dX0_ordersFrom_33 : decode cX0_ordersFrom 33 = .ok (.iload 4, 2) := dk_21 4 (dk_at dksX0_ordersFrom_1 10 rfl rfl)
theorem dX0_ordersFrom_35 : decode cX0_ordersFrom 35 = .ok (.ishr, 1) := dk_122 (dk_at dksX0_ordersFrom_1 12 rfl rfl)
theorem dX0_ordersFrom_36 : decode cX0_ordersFrom 36 = .ok (.iconst 1, 1) := dk_4 (dk_at dksX0_ordersFrom_1 13 rfl rfl)
theorem dX0_ordersFrom_37 : decode cX0_ordersFrom 37 = .ok (.iand, 1) := dk_126 (dk_at dksX0_ordersFrom_1 14 rfl rfl)
theorem dX0_ordersFrom_38 : decode cX0_ordersFrom 38 = .ok (.ifCond .ne 6, 3) := dk_154 0 6 (dk_at dksX0_ordersFrom_1 15 rfl rfl)
theorem dX0_ordersFrom_41 : decode cX0_ordersFrom 41 = .ok (.goto 71, 3) := dk_167 0 71 (dk_at dksX0_ordersFrom_1 18 rfl rfl)
theorem dX0_ordersFrom_44 : decode cX0_ordersFrom 44 = .ok (.aload_n 0, 1) := dk_42 (dk_at dksX0_ordersFrom_1 21 rfl rfl)
theorem dX0_ordersFrom_45 : decode cX0_ordersFrom 45 = .ok (.getfield 78, 3) := dk_180 0 78 (dk_at dksX0_ordersFrom_2 0 rfl rfl)
theorem dX0_ordersFrom_48 : decode cX0_ordersFrom 48 = .ok (.iload_n 2, 1) := dk_28 (dk_at dksX0_ordersFrom_2 3 rfl rfl)
theorem dX0_ordersFrom_49 : decode cX0_ordersFrom 49 = .ok (.iconst 1, 1) := dk_4 (dk_at dksX0_ordersFrom_2 4 rfl rfl)
theorem dX0_ordersFrom_50 : decode cX0_ordersFrom 50 = .ok (.iadd, 1) := dk_96 (dk_at dksX0_ordersFrom_2 5 rfl rfl)
theorem dX0_ordersFrom_51 : decode cX0_ordersFrom 51 = .ok (.aaload, 1) := dk_50 (dk_at dksX0_ordersFrom_2 6 rfl rfl)
theorem dX0_ordersFrom_52 : decode cX0_ordersFrom 52 = .ok (.aload_n 0, 1) := dk_42 (dk_at dksX0_ordersFrom_2 7 rfl rfl)
theorem dX0_ordersFrom_53 : decode cX0_ordersFrom 53 = .ok (.getfield 78, 3) := dk_180 0 78 (dk_at dksX0_ordersFrom_2 8 rfl rfl)
theorem dX0_ordersFrom_56 : decode cX0_ordersFrom 56 = .ok (.iload_n 2, 1) := dk_28 (dk_at dksX0_ordersFrom_2 11 rfl rfl)
theorem dX0_ordersFrom_57 : decode cX0_ordersFrom 57 = .ok (.aaload, 1) := dk_50 (dk_at dksX0_ordersFrom_2 12 rfl rfl)
theorem dX0_ordersFrom_58 : decode cX0_ordersFrom 58 = .ok (.invokevirtual 252, 3) := dk_182 0 252 (dk_at dksX0_ordersFrom_2 13 rfl rfl)
theorem dX0_ordersFrom_61 : decode cX0_ordersFrom 61 = .ok (.aload_n 0, 1) := dk_42 (dk_at dksX0_ordersFrom_2 16 rfl rfl)
theorem dX0_ordersFrom_62 : decode cX0_ordersFrom 62 = .ok (.getfield 82, 3) := dk_180 0 82 (dk_at dksX0_ordersFrom_2 17 rfl rfl)
theorem dX0_ordersFrom_65 : decode cX0_ordersFrom 65 = .ok (.iload_n 2, 1) := dk_28 (dk_at dksX0_ordersFrom_2 20 rfl rfl)
theorem dX0_ordersFrom_66 : decode cX0_ordersFrom 66 = .ok (.iload 4, 2) := dk_21 4 (dk_at dksX0_ordersFrom_2 21 rfl rfl)
theorem dX0_ordersFrom_68 : decode cX0_ordersFrom 68 = .ok (.iastore, 1) := dk_79 (dk_at dksX0_ordersFrom_2 23 rfl rfl)
theorem dX0_ordersFrom_69 : decode cX0_ordersFrom 69 = .ok (.aload_n 0, 1) := dk_42 (dk_at dksX0_ordersFrom_3 0 rfl rfl)
theorem dX0_ordersFrom_70 : decode cX0_ordersFrom 70 = .ok (.aload_n 0, 1) := dk_42 (dk_at dksX0_ordersFrom_3 1 rfl rfl)
theorem dX0_ordersFrom_71 : decode cX0_ordersFrom 71 = .ok (.getfield 78, 3) := dk_180 0 78 (dk_at dksX0_ordersFrom_3 2 rfl rfl)
theorem dX0_ordersFrom_74 : decode cX0_ordersFrom 74 = .ok (.iload_n 2, 1) := dk_28 (dk_at dksX0_ordersFrom_3 5 rfl rfl)
theorem dX0_ordersFrom_75 : decode cX0_ordersFrom 75 = .ok (.iconst 1, 1) := dk_4 (dk_at dksX0_ordersFrom_3 6 rfl rfl)
theorem dX0_ordersFrom_76 : decode cX0_ordersFrom 76 = .ok (.iadd, 1) := dk_96 (dk_at dksX0_ordersFrom_3 7 rfl rfl)
theorem dX0_ordersFrom_77 : decode cX0_ordersFrom 77 = .ok (.aaload, 1) := dk_50 (dk_at dksX0_ordersFrom_3 8 rfl rfl)
theorem dX0_ordersFrom_78 : decode cX0_ordersFrom 78 = .ok (.iload 4, 2) := dk_21 4 (dk_at dksX0_ordersFrom_3 9 rfl rfl)
theorem dX0_ordersFrom_80 : decode cX0_ordersFrom 80 = .ok (.invokevirtual 245, 3) := dk_182 0 245 (dk_at dksX0_ordersFrom_3 11 rfl rfl)
theorem dX0_ordersFrom_83 : decode cX0_ordersFrom 83 = .ok (.ifCond .eq 7, 3) := dk_153 0 7 (dk_at dksX0_ordersFrom_3 14 rfl rfl)
theorem dX0_ordersFrom_86 : decode cX0_ordersFrom 86 = .ok (.iconst 1, 1) := dk_4 (dk_at dksX0_ordersFrom_3 17 rfl rfl)
theorem dX0_ordersFrom_87 : decode cX0_ordersFrom 87 = .ok (.goto 4, 3) := dk_167 0 4 (dk_at dksX0_ordersFrom_3 18 rfl rfl)
theorem dX0_ordersFrom_90 : decode cX0_ordersFrom 90 = .ok (.iconst 0, 1) := dk_3 (dk_at dksX0_ordersFrom_3 21 rfl rfl)
theorem dX0_ordersFrom_91 : decode cX0_ordersFrom 91 = .ok (.istore 5, 2) := dk_54 5 (dk_at dksX0_ordersFrom_3 22 rfl rfl)
theorem dX0_ordersFrom_93 : decode cX0_ordersFrom 93 = .ok (.aload_n 0, 1) := dk_42 (dk_at dksX0_ordersFrom_4 0 rfl rfl)
theorem dX0_ordersFrom_94 : decode cX0_ordersFrom 94 = .ok (.iload_n 1, 1) := dk_27 (dk_at dksX0_ordersFrom_4 1 rfl rfl)
theorem dX0_ordersFrom_95 : decode cX0_ordersFrom 95 = .ok (.iconst 1, 1) := dk_4 (dk_at dksX0_ordersFrom_4 2 rfl rfl)
theorem dX0_ordersFrom_96 : decode cX0_ordersFrom 96 = .ok (.iload 4, 2) := dk_21 4 (dk_at dksX0_ordersFrom_4 3 rfl rfl)
theorem dX0_ordersFrom_98 : decode cX0_ordersFrom 98 = .ok (.ishl, 1) := dk_120 (dk_at dksX0_ordersFrom_4 5 rfl rfl)
theorem dX0_ordersFrom_99 : decode cX0_ordersFrom 99 = .ok (.iconst (-1), 1) := dk_2 (dk_at dksX0_ordersFrom_4 6 rfl rfl)
theorem dX0_ordersFrom_100 : decode cX0_ordersFrom 100 = .ok (.ixor, 1) := dk_130 (dk_at dksX0_ordersFrom_4 7 rfl rfl)
theorem dX0_ordersFrom_101 : decode cX0_ordersFrom 101 = .ok (.iand, 1) := dk_126 (dk_at dksX0_ordersFrom_4 8 rfl rfl)
theorem dX0_ordersFrom_102 : decode cX0_ordersFrom 102 = .ok (.iload_n 2, 1) := dk_28 (dk_at dksX0_ordersFrom_4 9 rfl rfl)
theorem dX0_ordersFrom_103 : decode cX0_ordersFrom 103 = .ok (.iconst 1, 1) := dk_4 (dk_at dksX0_ordersFrom_4 10 rfl rfl)
theorem dX0_ordersFrom_104 : decode cX0_ordersFrom 104 = .ok (.iadd, 1) := dk_96 (dk_at dksX0_ordersFrom_4 11 rfl rfl)
theorem dX0_ordersFrom_105 : decode cX0_ordersFrom 105 = .ok (.iload_n 3, 1) := dk_29 (dk_at dksX0_ordersFrom_4 12 rfl rfl)
theorem dX0_ordersFrom_106 : decode cX0_ordersFrom 106 = .ok (.iload 5, 2) := dk_21 5 (dk_at dksX0_ordersFrom_4 13 rfl rfl)
theorem dX0_ordersFrom_108 : decode cX0_ordersFrom 108 = .ok (.iadd, 1) := dk_96 (dk_at dksX0_ordersFrom_4 15 rfl rfl)
theorem dX0_ordersFrom_109 : decode cX0_ordersFrom 109 = .ok (.invokevirtual 265, 3) := dk_182 1 9 (dk_at dksX0_ordersFrom_4 16 rfl rfl)
theorem dX0_ordersFrom_112 : decode cX0_ordersFrom 112 = .ok (.iinc 4 1, 3) := dk_132 4 1 (dk_at dksX0_ordersFrom_4 19 rfl rfl)
theorem dX0_ordersFrom_115 : decode cX0_ordersFrom 115 = .ok (.goto (-92), 3) := dk_167 255 164 (dk_at dksX0_ordersFrom_5 0 rfl rfl)
theorem dX0_ordersFrom_118 : decode cX0_ordersFrom 118 = .ok (.return_, 1) := dk_177 (dk_at dksX0_ordersFrom_5 3 rfl rfl)
theorem gf_ordersFrom : xV yX0_ordersFrom RX0 cX0_ordersFrom 6 none 3 := ⟨q1044, qs28, q87, q1045, ⟨rfl, by decide +kernel, by decide +kernel, by decide +kernel⟩, by decide⟩
abbrev cX0_isSet : ByteArray := prog_1_method_29_code
def yX0_isSet : MethodName := ⟨RX0, "isSet", "(I)Z"⟩
def dkwX0_isSet_0 : List UInt8 := [27, 155, 0, 16, 27, 42, 180, 0, 107, 122, 154, 0, 7, 4, 167, 0, 4, 3, 172]
abbrev dktX0_isSet_0 : List UInt8 := dkwX0_isSet_0 ++ []
theorem dksX0_isSet_0 : cX0_isSet.data.toList.drop 0 = dktX0_isSet_0 := by decide +kernel
theorem dX0_isSet_0 : decode cX0_isSet 0 = .ok (.iload_n 1, 1) := dk_27 (dk_at dksX0_isSet_0 0 rfl rfl)
theorem dX0_isSet_1 : decode cX0_isSet 1 = .ok (.ifCond .lt 16, 3) := dk_155 0 16 (dk_at dksX0_isSet_0 1 rfl rfl)
theorem dX0_isSet_4 : decode cX0_isSet 4 = .ok (.iload_n 1, 1) := dk_27 (dk_at dksX0_isSet_0 4 rfl rfl)
theorem dX0_isSet_5 : decode cX0_isSet 5 = .ok (.aload_n 0, 1) := dk_42 (dk_at dksX0_isSet_0 5 rfl rfl)
theorem dX0_isSet_6 : decode cX0_isSet 6 = .ok (.getfield 107, 3) := dk_180 0 107 (dk_at dksX0_isSet_0 6 rfl rfl)
theorem dX0_isSet_9 : decode cX0_isSet 9 = .ok (.ishr, 1) := dk_122 (dk_at dksX0_isSet_0 9 rfl rfl)
theorem dX0_isSet_10 : decode cX0_isSet 10 = .ok (.ifCond .ne 7, 3) := dk_154 0 7 (dk_at dksX0_isSet_0 10 rfl rfl)
theorem dX0_isSet_13 : decode cX0_isSet 13 = .ok (.iconst 1, 1) := dk_4 (dk_at dksX0_isSet_0 13 rfl rfl)
theorem dX0_isSet_14 : decode cX0_isSet 14 = .ok (.goto 4, 3) := dk_167 0 4 (dk_at dksX0_isSet_0 14 rfl rfl)
theorem dX0_isSet_17 : decode cX0_isSet 17 = .ok (.iconst 0, 1) := dk_3 (dk_at dksX0_isSet_0 17 rfl rfl)
theorem dX0_isSet_18 : decode cX0_isSet 18 = .ok (.ireturn, 1) := dk_172 (dk_at dksX0_isSet_0 18 rfl rfl)
theorem gf_isSet : xV yX0_isSet RX0 cX0_isSet 2 (some .boolean) 1 := ⟨q1030, qs26, q87, q1031, ⟨rfl, by decide +kernel, by decide +kernel, by decide +kernel⟩, by decide⟩
abbrev cX0_begins : ByteArray := prog_1_method_30_code
def yX0_begins : MethodName := ⟨RX0, "begins", "()V"⟩
def dkwX0_begins_1 : List UInt8 := [162, 0, 17, 42, 180, 0, 85, 27, 16, 251, 79, 132, 1, 1, 167, 255, 239, 177]
abbrev dktX0_begins_1 : List UInt8 := dkwX0_begins_1 ++ []
def dkwX0_begins_0 : List UInt8 := [42, 180, 0, 78, 3, 50, 42, 180, 0, 27, 182, 0, 252, 42, 16, 251, 181, 0, 255, 3, 60, 27, 16, 6]
abbrev dktX0_begins_0 : List UInt8 := dkwX0_begins_0 ++ dktX0_begins_1
theorem dksX0_begins_0 : cX0_begins.data.toList.drop 0 = dktX0_begins_0 := by decide +kernel
theorem dksX0_begins_1 : cX0_begins.data.toList.drop 24 = dktX0_begins_1 := dk_seg dksX0_begins_0 24 rfl rfl
theorem dX0_begins_0 : decode cX0_begins 0 = .ok (.aload_n 0, 1) := dk_42 (dk_at dksX0_begins_0 0 rfl rfl)
theorem dX0_begins_1 : decode cX0_begins 1 = .ok (.getfield 78, 3) := dk_180 0 78 (dk_at dksX0_begins_0 1 rfl rfl)
theorem dX0_begins_4 : decode cX0_begins 4 = .ok (.iconst 0, 1) := dk_3 (dk_at dksX0_begins_0 4 rfl rfl)
theorem dX0_begins_5 : decode cX0_begins 5 = .ok (.aaload, 1) := dk_50 (dk_at dksX0_begins_0 5 rfl rfl)
theorem dX0_begins_6 : decode cX0_begins 6 = .ok (.aload_n 0, 1) := dk_42 (dk_at dksX0_begins_0 6 rfl rfl)
theorem dX0_begins_7 : decode cX0_begins 7 = .ok (.getfield 27, 3) := dk_180 0 27 (dk_at dksX0_begins_0 7 rfl rfl)
theorem dX0_begins_10 : decode cX0_begins 10 = .ok (.invokevirtual 252, 3) := dk_182 0 252 (dk_at dksX0_begins_0 10 rfl rfl)
theorem dX0_begins_13 : decode cX0_begins 13 = .ok (.aload_n 0, 1) := dk_42 (dk_at dksX0_begins_0 13 rfl rfl)
theorem dX0_begins_14 : decode cX0_begins 14 = .ok (.bipush (-5), 2) := dk_16 251 (dk_at dksX0_begins_0 14 rfl rfl)
theorem dX0_begins_16 : decode cX0_begins 16 = .ok (.putfield 255, 3) := dk_181 0 255 (dk_at dksX0_begins_0 16 rfl rfl)
theorem dX0_begins_19 : decode cX0_begins 19 = .ok (.iconst 0, 1) := dk_3 (dk_at dksX0_begins_0 19 rfl rfl)
theorem dX0_begins_20 : decode cX0_begins 20 = .ok (.istore_n 1, 1) := dk_60 (dk_at dksX0_begins_0 20 rfl rfl)
theorem dX0_begins_21 : decode cX0_begins 21 = .ok (.iload_n 1, 1) := dk_27 (dk_at dksX0_begins_0 21 rfl rfl)
theorem dX0_begins_22 : decode cX0_begins 22 = .ok (.bipush 6, 2) := dk_16 6 (dk_at dksX0_begins_0 22 rfl rfl)
theorem dX0_begins_24 : decode cX0_begins 24 = .ok (.if_icmp .ge 17, 3) := dk_162 0 17 (dk_at dksX0_begins_1 0 rfl rfl)
theorem dX0_begins_27 : decode cX0_begins 27 = .ok (.aload_n 0, 1) := dk_42 (dk_at dksX0_begins_1 3 rfl rfl)
theorem dX0_begins_28 : decode cX0_begins 28 = .ok (.getfield 85, 3) := dk_180 0 85 (dk_at dksX0_begins_1 4 rfl rfl)
theorem dX0_begins_31 : decode cX0_begins 31 = .ok (.iload_n 1, 1) := dk_27 (dk_at dksX0_begins_1 7 rfl rfl)
theorem dX0_begins_32 : decode cX0_begins 32 = .ok (.bipush (-5), 2) := dk_16 251 (dk_at dksX0_begins_1 8 rfl rfl)
theorem dX0_begins_34 : decode cX0_begins 34 = .ok (.iastore, 1) := dk_79 (dk_at dksX0_begins_1 10 rfl rfl)
theorem dX0_begins_35 : decode cX0_begins 35 = .ok (.iinc 1 1, 3) := dk_132 1 1 (dk_at dksX0_begins_1 11 rfl rfl)
theorem dX0_begins_38 : decode cX0_begins 38 = .ok (.goto (-17), 3) := dk_167 255 239 (dk_at dksX0_begins_1 14 rfl rfl)
theorem dX0_begins_41 : decode cX0_begins 41 = .ok (.return_, 1) := dk_177 (dk_at dksX0_begins_1 17 rfl rfl)
theorem gf_begins : xV yX0_begins RX0 cX0_begins 2 none 0 := ⟨q1040, qs27, q87, q1041, ⟨rfl, by decide +kernel, by decide +kernel, by decide +kernel⟩, by decide⟩
abbrev cX0_order : ByteArray := prog_1_method_31_code
def yX0_order : MethodName := ⟨RX0, "order", "(II)I"⟩
def dkwX0_order_2 : List UInt8 := [180, 0, 255, 167, 0, 9, 42, 180, 0, 85, 28, 46, 172]
abbrev dktX0_order_2 : List UInt8 := dkwX0_order_2 ++ []
def dkwX0_order_1 : List UInt8 := [164, 0, 6, 16, 254, 172, 42, 182, 1, 21, 42, 27, 3, 3, 182, 1, 9, 28, 2, 160, 0, 10, 42]
abbrev dktX0_order_1 : List UInt8 := dkwX0_order_1 ++ dktX0_order_2
def dkwX0_order_0 : List UInt8 := [28, 2, 8, 184, 0, 111, 154, 0, 5, 2, 172, 42, 27, 182, 1, 13, 153, 0, 11, 27, 184, 1, 16, 8]
abbrev dktX0_order_0 : List UInt8 := dkwX0_order_0 ++ dktX0_order_1
theorem dksX0_order_0 : cX0_order.data.toList.drop 0 = dktX0_order_0 := by decide +kernel
theorem dksX0_order_1 : cX0_order.data.toList.drop 24 = dktX0_order_1 := dk_seg dksX0_order_0 24 rfl rfl
theorem dksX0_order_2 : cX0_order.data.toList.drop 47 = dktX0_order_2 := dk_seg dksX0_order_1 23 rfl rfl
theorem dX0_order_0 : decode cX0_order 0 = .ok (.iload_n 2, 1) := dk_28 (dk_at dksX0_order_0 0 rfl rfl)
theorem dX0_order_1 : decode cX0_order 1 = .ok (.iconst (-1), 1) := dk_2 (dk_at dksX0_order_0 1 rfl rfl)
theorem dX0_order_2 : decode cX0_order 2 = .ok (.iconst 5, 1) := dk_8 (dk_at dksX0_order_0 2 rfl rfl)
theorem dX0_order_3 : decode cX0_order 3 = .ok (.invokestatic 111, 3) := dk_184 0 111 (dk_at dksX0_order_0 3 rfl rfl)
theorem dX0_order_6 : decode cX0_order 6 = .ok (.ifCond .ne 5, 3) := dk_154 0 5 (dk_at dksX0_order_0 6 rfl rfl)
theorem dX0_order_9 : decode cX0_order 9 = .ok (.iconst (-1), 1) := dk_2 (dk_at dksX0_order_0 9 rfl rfl)
theorem dX0_order_10 : decode cX0_order 10 = .ok (.ireturn, 1) := dk_172 (dk_at dksX0_order_0 10 rfl rfl)
theorem dX0_order_11 : decode cX0_order 11 = .ok (.aload_n 0, 1) := dk_42 (dk_at dksX0_order_0 11 rfl rfl)
theorem dX0_order_12 : decode cX0_order 12 = .ok (.iload_n 1, 1) := dk_27 (dk_at dksX0_order_0 12 rfl rfl)
theorem dX0_order_13 : decode cX0_order 13 = .ok (.invokevirtual 269, 3) := dk_182 1 13 (dk_at dksX0_order_0 13 rfl rfl)
theorem dX0_order_16 : decode cX0_order 16 = .ok (.ifCond .eq 11, 3) := dk_153 0 11 (dk_at dksX0_order_0 16 rfl rfl)
theorem dX0_order_19 : decode cX0_order 19 = .ok (.iload_n 1, 1) := dk_27 (dk_at dksX0_order_0 19 rfl rfl)
theorem dX0_order_20 : decode cX0_order 20 = .ok (.invokestatic 272, 3) := dk_184 1 16 (dk_at dksX0_order_0 20 rfl rfl)
theorem dX0_order_23 : decode cX0_order 23 = .ok (.iconst 5, 1) := dk_8 (dk_at dksX0_order_0 23 rfl rfl)
theorem dX0_order_24 : decode cX0_order 24 = .ok (.if_icmp .le 6, 3) := dk_164 0 6 (dk_at dksX0_order_1 0 rfl rfl)
theorem dX0_order_27 : decode cX0_order 27 = .ok (.bipush (-2), 2) := dk_16 254 (dk_at dksX0_order_1 3 rfl rfl)
theorem dX0_order_29 : decode cX0_order 29 = .ok (.ireturn, 1) := dk_172 (dk_at dksX0_order_1 5 rfl rfl)
theorem dX0_order_30 : decode cX0_order 30 = .ok (.aload_n 0, 1) := dk_42 (dk_at dksX0_order_1 6 rfl rfl)
theorem dX0_order_31 : decode cX0_order 31 = .ok (.invokevirtual 277, 3) := dk_182 1 21 (dk_at dksX0_order_1 7 rfl rfl)
theorem dX0_order_34 : decode cX0_order 34 = .ok (.aload_n 0, 1) := dk_42 (dk_at dksX0_order_1 10 rfl rfl)
theorem dX0_order_35 : decode cX0_order 35 = .ok (.iload_n 1, 1) := dk_27 (dk_at dksX0_order_1 11 rfl rfl)
theorem dX0_order_36 : decode cX0_order 36 = .ok (.iconst 0, 1) := dk_3 (dk_at dksX0_order_1 12 rfl rfl)
theorem dX0_order_37 : decode cX0_order 37 = .ok (.iconst 0, 1) := dk_3 (dk_at dksX0_order_1 13 rfl rfl)
theorem dX0_order_38 : decode cX0_order 38 = .ok (.invokevirtual 265, 3) := dk_182 1 9 (dk_at dksX0_order_1 14 rfl rfl)
theorem dX0_order_41 : decode cX0_order 41 = .ok (.iload_n 2, 1) := dk_28 (dk_at dksX0_order_1 17 rfl rfl)
theorem dX0_order_42 : decode cX0_order 42 = .ok (.iconst (-1), 1) := dk_2 (dk_at dksX0_order_1 18 rfl rfl)
theorem dX0_order_43 : decode cX0_order 43 = .ok (.if_icmp .ne 10, 3) := dk_160 0 10 (dk_at dksX0_order_1 19 rfl rfl)
theorem dX0_order_46 : decode cX0_order 46 = .ok (.aload_n 0, 1) := dk_42 (dk_at dksX0_order_1 22 rfl rfl)
theorem dX0_order_47 : decode cX0_order 47 = .ok (.getfield 255, 3) := dk_180 0 255 (dk_at dksX0_order_2 0 rfl rfl)
theorem dX0_order_50 : decode cX0_order 50 = .ok (.goto 9, 3) := dk_167 0 9 (dk_at dksX0_order_2 3 rfl rfl)
theorem dX0_order_53 : decode cX0_order 53 = .ok (.aload_n 0, 1) := dk_42 (dk_at dksX0_order_2 6 rfl rfl)
theorem dX0_order_54 : decode cX0_order 54 = .ok (.getfield 85, 3) := dk_180 0 85 (dk_at dksX0_order_2 7 rfl rfl)
theorem dX0_order_57 : decode cX0_order 57 = .ok (.iload_n 2, 1) := dk_28 (dk_at dksX0_order_2 10 rfl rfl)
theorem dX0_order_58 : decode cX0_order 58 = .ok (.iaload, 1) := dk_46 (dk_at dksX0_order_2 11 rfl rfl)
theorem dX0_order_59 : decode cX0_order 59 = .ok (.ireturn, 1) := dk_172 (dk_at dksX0_order_2 12 rfl rfl)
theorem gf_order : xV yX0_order RX0 cX0_order 3 (some .int) 2 := ⟨q1025, q1026, q87, q1027, ⟨rfl, by decide +kernel, by decide +kernel, by decide +kernel⟩, by decide⟩
abbrev cX0_coldsFrom : ByteArray := prog_1_method_32_code
def yX0_coldsFrom : MethodName := ⟨RX0, "coldsFrom", "(III)V"⟩
def dkwX0_coldsFrom_5 : List UInt8 := [182, 1, 27, 132, 5, 1, 167, 255, 161, 177]
abbrev dktX0_coldsFrom_5 : List UInt8 := dkwX0_coldsFrom_5 ++ []
def dkwX0_coldsFrom_4 : List UInt8 := [96, 50, 21, 4, 182, 0, 245, 154, 0, 19, 42, 27, 27, 4, 100, 126, 28, 4, 96, 29, 21, 5, 96]
abbrev dktX0_coldsFrom_4 : List UInt8 := dkwX0_coldsFrom_4 ++ dktX0_coldsFrom_5
def dkwX0_coldsFrom_3 : List UInt8 := [182, 0, 248, 132, 6, 1, 167, 255, 234, 42, 180, 0, 82, 28, 21, 5, 79, 42, 42, 180, 0, 78, 28, 4]
abbrev dktX0_coldsFrom_3 : List UInt8 := dkwX0_coldsFrom_3 ++ dktX0_coldsFrom_4
def dkwX0_coldsFrom_2 : List UInt8 := [50, 182, 0, 252, 3, 54, 6, 21, 6, 21, 5, 162, 0, 21, 42, 42, 180, 0, 78, 28, 4, 96, 50]
abbrev dktX0_coldsFrom_2 : List UInt8 := dkwX0_coldsFrom_2 ++ dktX0_coldsFrom_3
def dkwX0_coldsFrom_1 : List UInt8 := [54, 4, 3, 54, 5, 21, 5, 7, 163, 0, 95, 42, 180, 0, 78, 28, 4, 96, 50, 42, 180, 0, 78, 28]
abbrev dktX0_coldsFrom_1 : List UInt8 := dkwX0_coldsFrom_1 ++ dktX0_coldsFrom_2
def dkwX0_coldsFrom_0 : List UInt8 := [42, 29, 182, 1, 2, 154, 0, 4, 177, 27, 154, 0, 10, 42, 28, 29, 182, 1, 5, 177, 27, 184, 1, 24]
abbrev dktX0_coldsFrom_0 : List UInt8 := dkwX0_coldsFrom_0 ++ dktX0_coldsFrom_1
theorem dksX0_coldsFrom_0 : cX0_coldsFrom.data.toList.drop 0 = dktX0_coldsFrom_0 := by decide +kernel
theorem dksX0_coldsFrom_1 : cX0_coldsFrom.data.toList.drop 24 = dktX0_coldsFrom_1 := dk_seg dksX0_coldsFrom_0 24 rfl rfl
theorem dksX0_coldsFrom_2 : cX0_coldsFrom.data.toList.drop 48 = dktX0_coldsFrom_2 := dk_seg dksX0_coldsFrom_1 24 rfl rfl
theorem dksX0_coldsFrom_3 : cX0_coldsFrom.data.toList.drop 71 = dktX0_coldsFrom_3 := dk_seg dksX0_coldsFrom_2 23 rfl rfl
theorem dksX0_coldsFrom_4 : cX0_coldsFrom.data.toList.drop 95 = dktX0_coldsFrom_4 := dk_seg dksX0_coldsFrom_3 24 rfl rfl
theorem dksX0_coldsFrom_5 : cX0_coldsFrom.data.toList.drop 118 = dktX0_coldsFrom_5 := dk_seg dksX0_coldsFrom_4 23 rfl rfl
theorem dX0_coldsFrom_0 : decode cX0_coldsFrom 0 = .ok (.aload_n 0, 1) := dk_42 (dk_at dksX0_coldsFrom_0 0 rfl rfl)
theorem dX0_coldsFrom_1 : decode cX0_coldsFrom 1 = .ok (.iload_n 3, 1) := dk_29 (dk_at dksX0_coldsFrom_0 1 rfl rfl)
theorem dX0_coldsFrom_2 : decode cX0_coldsFrom 2 = .ok (.invokevirtual 258, 3) := dk_182 1 2 (dk_at dksX0_coldsFrom_0 2 rfl rfl)
theorem dX0_coldsFrom_5 : decode cX0_coldsFrom 5 = .ok (.ifCond .ne 4, 3) := dk_154 0 4 (dk_at dksX0_coldsFrom_0 5 rfl rfl)
theorem dX0_coldsFrom_8 : decode cX0_coldsFrom 8 = .ok (.return_, 1) := dk_177 (dk_at dksX0_coldsFrom_0 8 rfl rfl)
theorem dX0_coldsFrom_9 : decode cX0_coldsFrom 9 = .ok (.iload_n 1, 1) := dk_27 (dk_at dksX0_coldsFrom_0 9 rfl rfl)
theorem dX0_coldsFrom_10 : decode cX0_coldsFrom 10 = .ok (.ifCond .ne 10, 3) := dk_154 0 10 (dk_at dksX0_coldsFrom_0 10 rfl rfl)
theorem dX0_coldsFrom_13 : decode cX0_coldsFrom 13 = .ok (.aload_n 0, 1) := dk_42 (dk_at dksX0_coldsFrom_0 13 rfl rfl)
theorem dX0_coldsFrom_14 : decode cX0_coldsFrom 14 = .ok (.iload_n 2, 1) := dk_28 (dk_at dksX0_coldsFrom_0 14 rfl rfl)
theorem dX0_coldsFrom_15 : decode cX0_coldsFrom 15 = .ok (.iload_n 3, 1) := dk_29 (dk_at dksX0_coldsFrom_0 15 rfl rfl)
theorem dX0_coldsFrom_16 : decode cX0_coldsFrom 16 = .ok (.invokevirtual 261, 3) := dk_182 1 5 (dk_at dksX0_coldsFrom_0 16 rfl rfl)
theorem dX0_coldsFrom_19 : decode cX0_coldsFrom 19 = .ok (.return_, 1) := dk_177 (dk_at dksX0_coldsFrom_0 19 rfl rfl)
theorem dX0_coldsFrom_20 : decode cX0_coldsFrom 20 = .ok (.iload_n 1, 1) := dk_27 (dk_at dksX0_coldsFrom_0 20 rfl rfl)
theorem dX0_coldsFrom_21 : decode cX0_coldsFrom 21 = .ok (.invokestatic 280, 3) := dk_184 1 24 (dk_at dksX0_coldsFrom_0 21 rfl rfl)
theorem dX0_coldsFrom_24 : decode cX0_coldsFrom 24 = .ok (.istore 4, 2) := dk_54 4 (dk_at dksX0_coldsFrom_1 0 rfl rfl)
theorem dX0_coldsFrom_26 : decode cX0_coldsFrom 26 = .ok (.iconst 0, 1) := dk_3 (dk_at dksX0_coldsFrom_1 2 rfl rfl)
theorem dX0_coldsFrom_27 : decode cX0_coldsFrom 27 = .ok (.istore 5, 2) := dk_54 5 (dk_at dksX0_coldsFrom_1 3 rfl rfl)
theorem dX0_coldsFrom_29 : decode cX0_coldsFrom 29 = .ok (.iload 5, 2) := dk_21 5 (dk_at dksX0_coldsFrom_1 5 rfl rfl)
theorem dX0_coldsFrom_31 : decode cX0_coldsFrom 31 = .ok (.iconst 4, 1) := dk_7 (dk_at dksX0_coldsFrom_1 7 rfl rfl)
theorem dX0_coldsFrom_32 : decode cX0_coldsFrom 32 = .ok (.if_icmp .gt 95, 3) := dk_163 0 95 (dk_at dksX0_coldsFrom_1 8 rfl rfl)
theorem dX0_coldsFrom_35 : decode cX0_coldsFrom 35 = .ok (.aload_n 0, 1) := dk_42 (dk_at dksX0_coldsFrom_1 11 rfl rfl)
theorem dX0_coldsFrom_36 : decode cX0_coldsFrom 36 = .ok (.getfield 78, 3) := dk_180 0 78 (dk_at dksX0_coldsFrom_1 12 rfl rfl)
theorem dX0_coldsFrom_39 : decode cX0_coldsFrom 39 = .ok (.iload_n 2, 1) := dk_28 (dk_at dksX0_coldsFrom_1 15 rfl rfl)
theorem dX0_coldsFrom_40 : decode cX0_coldsFrom 40 = .ok (.iconst 1, 1) := dk_4 (dk_at dksX0_coldsFrom_1 16 rfl rfl)
theorem dX0_coldsFrom_41 : decode cX0_coldsFrom 41 = .ok (.iadd, 1) := dk_96 (dk_at dksX0_coldsFrom_1 17 rfl rfl)
theorem dX0_coldsFrom_42 : decode cX0_coldsFrom 42 = .ok (.aaload, 1) := dk_50 (dk_at dksX0_coldsFrom_1 18 rfl rfl)
theorem dX0_coldsFrom_43 : decode cX0_coldsFrom 43 = .ok (.aload_n 0, 1) := dk_42 (dk_at dksX0_coldsFrom_1 19 rfl rfl)
theorem dX0_coldsFrom_44 : decode cX0_coldsFrom 44 = .ok (.getfield 78, 3) := dk_180 0 78 (dk_at dksX0_coldsFrom_1 20 rfl rfl)
theorem dX0_coldsFrom_47 : decode cX0_coldsFrom 47 = .ok (.iload_n 2, 1) := dk_28 (dk_at dksX0_coldsFrom_1 23 rfl rfl)
theorem dX0_coldsFrom_48 : decode cX0_coldsFrom 48 = .ok (.aaload, 1) := dk_50 (dk_at dksX0_coldsFrom_2 0 rfl rfl)
theorem dX0_coldsFrom_49 : decode cX0_coldsFrom 49 = .ok (.invokevirtual 252, 3) := dk_182 0 252 (dk_at dksX0_coldsFrom_2 1 rfl rfl)
theorem dX0_coldsFrom_52 : decode cX0_coldsFrom 52 = .ok (.iconst 0, 1) := dk_3 (dk_at dksX0_coldsFrom_2 4 rfl rfl)
theorem dX0_coldsFrom_53 : decode cX0_coldsFrom 53 = .ok (.istore 6, 2) := dk_54 6 (dk_at dksX0_coldsFrom_2 5 rfl rfl)
theorem dX0_coldsFrom_55 : decode cX0_coldsFrom 55 = .ok (.iload 6, 2) := dk_21 6 (dk_at dksX0_coldsFrom_2 7 rfl rfl)
theorem dX0_coldsFrom_57 : decode cX0_coldsFrom 57 = .ok (.iload 5, 2) := dk_21 5 (dk_at dksX0_coldsFrom_2 9 rfl rfl)
theorem dX0_coldsFrom_59 : decode cX0_coldsFrom 59 = .ok (.if_icmp .ge 21, 3) := dk_162 0 21 (dk_at dksX0_coldsFrom_2 11 rfl rfl)
theorem dX0_coldsFrom_62 : decode cX0_coldsFrom 62 = .ok (.aload_n 0, 1) := dk_42 (dk_at dksX0_coldsFrom_2 14 rfl rfl)
theorem dX0_coldsFrom_63 : decode cX0_coldsFrom 63 = .ok (.aload_n 0, 1) := dk_42 (dk_at dksX0_coldsFrom_2 15 rfl rfl)
theorem dX0_coldsFrom_64 : decode cX0_coldsFrom 64 = .ok (.getfield 78, 3) := dk_180 0 78 (dk_at dksX0_coldsFrom_2 16 rfl rfl)
theorem dX0_coldsFrom_67 : decode cX0_coldsFrom 67 = .ok (.iload_n 2, 1) := dk_28 (dk_at dksX0_coldsFrom_2 19 rfl rfl)
theorem dX0_coldsFrom_68 : decode cX0_coldsFrom 68 = .ok (.iconst 1, 1) := dk_4 (dk_at dksX0_coldsFrom_2 20 rfl rfl)
theorem dX0_coldsFrom_69 : decode cX0_coldsFrom 69 = .ok (.iadd, 1) := dk_96 (dk_at dksX0_coldsFrom_2 21 rfl rfl)
theorem dX0_coldsFrom_70 : decode cX0_coldsFrom 70 = .ok (.aaload, 1) := dk_50 (dk_at dksX0_coldsFrom_2 22 rfl rfl)
theorem dX0_coldsFrom_71 : decode cX0_coldsFrom 71 = .ok (.invokevirtual 248, 3) := dk_182 0 248 (dk_at dksX0_coldsFrom_3 0 rfl rfl)
theorem dX0_coldsFrom_74 : decode cX0_coldsFrom 74 = .ok (.iinc 6 1, 3) := dk_132 6 1 (dk_at dksX0_coldsFrom_3 3 rfl rfl)
theorem dX0_coldsFrom_77 : decode cX0_coldsFrom 77 = .ok (.goto (-22), 3) := dk_167 255 234 (dk_at dksX0_coldsFrom_3 6 rfl rfl)
theorem dX0_coldsFrom_80 : decode cX0_coldsFrom 80 = .ok (.aload_n 0, 1) := dk_42 (dk_at dksX0_coldsFrom_3 9 rfl rfl)
theorem dX0_coldsFrom_81 : decode cX0_coldsFrom 81 = .ok (.getfield 82, 3) := dk_180 0 82 (dk_at dksX0_coldsFrom_3 10 rfl rfl)
theorem dX0_coldsFrom_84 : decode cX0_coldsFrom 84 = .ok (.iload_n 2, 1) := dk_28 (dk_at dksX0_coldsFrom_3 13 rfl rfl)
theorem dX0_coldsFrom_85 : decode cX0_coldsFrom 85 = .ok (.iload 5, 2) := dk_21 5 (dk_at dksX0_coldsFrom_3 14 rfl rfl)
theorem dX0_coldsFrom_87 : decode cX0_coldsFrom 87 = .ok (.iastore, 1) := dk_79 (dk_at dksX0_coldsFrom_3 16 rfl rfl)
theorem dX0_coldsFrom_88 : decode cX0_coldsFrom 88 = .ok (.aload_n 0, 1) := dk_42 (dk_at dksX0_coldsFrom_3 17 rfl rfl)
theorem dX0_coldsFrom_89 : decode cX0_coldsFrom 89 = .ok (.aload_n 0, 1) := dk_42 (dk_at dksX0_coldsFrom_3 18 rfl rfl)
theorem dX0_coldsFrom_90 : decode cX0_coldsFrom 90 = .ok (.getfield 78, 3) := dk_180 0 78 (dk_at dksX0_coldsFrom_3 19 rfl rfl)
theorem dX0_coldsFrom_93 : decode cX0_coldsFrom 93 = .ok (.iload_n 2, 1) := dk_28 (dk_at dksX0_coldsFrom_3 22 rfl rfl)
theorem dX0_coldsFrom_94 : decode cX0_coldsFrom 94 = .ok (.iconst 1, 1) := dk_4 (dk_at dksX0_coldsFrom_3 23 rfl rfl)
theorem dX0_coldsFrom_95 : decode cX0_coldsFrom 95 = .ok (.iadd, 1) := dk_96 (dk_at dksX0_coldsFrom_4 0 rfl rfl)
theorem dX0_coldsFrom_96 : decode cX0_coldsFrom 96 = .ok (.aaload, 1) := dk_50 (dk_at dksX0_coldsFrom_4 1 rfl rfl)
theorem dX0_coldsFrom_97 : decode cX0_coldsFrom 97 = .ok (.iload 4, 2) := dk_21 4 (dk_at dksX0_coldsFrom_4 2 rfl rfl)
theorem dX0_coldsFrom_99 : decode cX0_coldsFrom 99 = .ok (.invokevirtual 245, 3) := dk_182 0 245 (dk_at dksX0_coldsFrom_4 4 rfl rfl)
theorem dX0_coldsFrom_102 : decode cX0_coldsFrom 102 = .ok (.ifCond .ne 19, 3) := dk_154 0 19 (dk_at dksX0_coldsFrom_4 7 rfl rfl)
theorem dX0_coldsFrom_105 : decode cX0_coldsFrom 105 = .ok (.aload_n 0, 1) := dk_42 (dk_at dksX0_coldsFrom_4 10 rfl rfl)
theorem dX0_coldsFrom_106 : decode cX0_coldsFrom 106 = .ok (.iload_n 1, 1) := dk_27 (dk_at dksX0_coldsFrom_4 11 rfl rfl)
theorem dX0_coldsFrom_107 : decode cX0_coldsFrom 107 = .ok (.iload_n 1, 1) := dk_27 (dk_at dksX0_coldsFrom_4 12 rfl rfl)
theorem dX0_coldsFrom_108 : decode cX0_coldsFrom 108 = .ok (.iconst 1, 1) := dk_4 (dk_at dksX0_coldsFrom_4 13 rfl rfl)
theorem dX0_coldsFrom_109 : decode cX0_coldsFrom 109 = .ok (.isub, 1) := dk_100 (dk_at dksX0_coldsFrom_4 14 rfl rfl)
theorem dX0_coldsFrom_110 : decode cX0_coldsFrom 110 = .ok (.iand, 1) := dk_126 (dk_at dksX0_coldsFrom_4 15 rfl rfl)
theorem dX0_coldsFrom_111 : decode cX0_coldsFrom 111 = .ok (.iload_n 2, 1) := dk_28 (dk_at dksX0_coldsFrom_4 16 rfl rfl)
theorem dX0_coldsFrom_112 : decode cX0_coldsFrom 112 = .ok (.iconst 1, 1) := dk_4 (dk_at dksX0_coldsFrom_4 17 rfl rfl)
theorem dX0_coldsFrom_113 : decode cX0_coldsFrom 113 = .ok (.iadd, 1) := dk_96 (dk_at dksX0_coldsFrom_4 18 rfl rfl)
theorem dX0_coldsFrom_114 : decode cX0_coldsFrom 114 = .ok (.iload_n 3, 1) := dk_29 (dk_at dksX0_coldsFrom_4 19 rfl rfl)
theorem dX0_coldsFrom_115 : decode cX0_coldsFrom 115 = .ok (.iload 5, 2) := dk_21 5 (dk_at dksX0_coldsFrom_4 20 rfl rfl)
theorem dX0_coldsFrom_117 : decode cX0_coldsFrom 117 = .ok (.iadd, 1) := dk_96 (dk_at dksX0_coldsFrom_4 22 rfl rfl)
theorem dX0_coldsFrom_118 : decode cX0_coldsFrom 118 = .ok (.invokevirtual 283, 3) := dk_182 1 27 (dk_at dksX0_coldsFrom_5 0 rfl rfl)
theorem dX0_coldsFrom_121 : decode cX0_coldsFrom 121 = .ok (.iinc 5 1, 3) := dk_132 5 1 (dk_at dksX0_coldsFrom_5 3 rfl rfl)
theorem dX0_coldsFrom_124 : decode cX0_coldsFrom 124 = .ok (.goto (-95), 3) := dk_167 255 161 (dk_at dksX0_coldsFrom_5 6 rfl rfl)
theorem dX0_coldsFrom_127 : decode cX0_coldsFrom 127 = .ok (.return_, 1) := dk_177 (dk_at dksX0_coldsFrom_5 9 rfl rfl)
theorem gf_coldsFrom : xV yX0_coldsFrom RX0 cX0_coldsFrom 7 none 3 := ⟨q1060, qs31, q87, q1061, ⟨rfl, by decide +kernel, by decide +kernel, by decide +kernel⟩, by decide⟩
abbrev cX0_colds : ByteArray := prog_1_method_33_code
def yX0_colds : MethodName := ⟨RX0, "colds", "(II)I"⟩
def dkwX0_colds_2 : List UInt8 := [180, 0, 255, 167, 0, 9, 42, 180, 0, 85, 28, 46, 172]
abbrev dktX0_colds_2 : List UInt8 := dkwX0_colds_2 ++ []
def dkwX0_colds_1 : List UInt8 := [164, 0, 6, 16, 254, 172, 42, 182, 1, 21, 42, 27, 3, 3, 182, 1, 27, 28, 2, 160, 0, 10, 42]
abbrev dktX0_colds_1 : List UInt8 := dkwX0_colds_1 ++ dktX0_colds_2
def dkwX0_colds_0 : List UInt8 := [28, 2, 8, 184, 0, 111, 154, 0, 5, 2, 172, 42, 27, 182, 1, 13, 153, 0, 11, 27, 184, 1, 16, 7]
abbrev dktX0_colds_0 : List UInt8 := dkwX0_colds_0 ++ dktX0_colds_1
theorem dksX0_colds_0 : cX0_colds.data.toList.drop 0 = dktX0_colds_0 := by decide +kernel
theorem dksX0_colds_1 : cX0_colds.data.toList.drop 24 = dktX0_colds_1 := dk_seg dksX0_colds_0 24 rfl rfl
theorem dksX0_colds_2 : cX0_colds.data.toList.drop 47 = dktX0_colds_2 := dk_seg dksX0_colds_1 23 rfl rfl
theorem dX0_colds_0 : decode cX0_colds 0 = .ok (.iload_n 2, 1) := dk_28 (dk_at dksX0_colds_0 0 rfl rfl)
theorem dX0_colds_1 : decode cX0_colds 1 = .ok (.iconst (-1), 1) := dk_2 (dk_at dksX0_colds_0 1 rfl rfl)
theorem dX0_colds_2 : decode cX0_colds 2 = .ok (.iconst 5, 1) := dk_8 (dk_at dksX0_colds_0 2 rfl rfl)
theorem dX0_colds_3 : decode cX0_colds 3 = .ok (.invokestatic 111, 3) := dk_184 0 111 (dk_at dksX0_colds_0 3 rfl rfl)
theorem dX0_colds_6 : decode cX0_colds 6 = .ok (.ifCond .ne 5, 3) := dk_154 0 5 (dk_at dksX0_colds_0 6 rfl rfl)
theorem dX0_colds_9 : decode cX0_colds 9 = .ok (.iconst (-1), 1) := dk_2 (dk_at dksX0_colds_0 9 rfl rfl)
theorem dX0_colds_10 : decode cX0_colds 10 = .ok (.ireturn, 1) := dk_172 (dk_at dksX0_colds_0 10 rfl rfl)
theorem dX0_colds_11 : decode cX0_colds 11 = .ok (.aload_n 0, 1) := dk_42 (dk_at dksX0_colds_0 11 rfl rfl)
theorem dX0_colds_12 : decode cX0_colds 12 = .ok (.iload_n 1, 1) := dk_27 (dk_at dksX0_colds_0 12 rfl rfl)
theorem dX0_colds_13 : decode cX0_colds 13 = .ok (.invokevirtual 269, 3) := dk_182 1 13 (dk_at dksX0_colds_0 13 rfl rfl)
theorem dX0_colds_16 : decode cX0_colds 16 = .ok (.ifCond .eq 11, 3) := dk_153 0 11 (dk_at dksX0_colds_0 16 rfl rfl)
theorem dX0_colds_19 : decode cX0_colds 19 = .ok (.iload_n 1, 1) := dk_27 (dk_at dksX0_colds_0 19 rfl rfl)
theorem dX0_colds_20 : decode cX0_colds 20 = .ok (.invokestatic 272, 3) := dk_184 1 16 (dk_at dksX0_colds_0 20 rfl rfl)
theorem dX0_colds_23 : decode cX0_colds 23 = .ok (.iconst 4, 1) := dk_7 (dk_at dksX0_colds_0 23 rfl rfl)
theorem dX0_colds_24 : decode cX0_colds 24 = .ok (.if_icmp .le 6, 3) := dk_164 0 6 (dk_at dksX0_colds_1 0 rfl rfl)
theorem dX0_colds_27 : decode cX0_colds 27 = .ok (.bipush (-2), 2) := dk_16 254 (dk_at dksX0_colds_1 3 rfl rfl)
theorem dX0_colds_29 : decode cX0_colds 29 = .ok (.ireturn, 1) := dk_172 (dk_at dksX0_colds_1 5 rfl rfl)
theorem dX0_colds_30 : decode cX0_colds 30 = .ok (.aload_n 0, 1) := dk_42 (dk_at dksX0_colds_1 6 rfl rfl)
theorem dX0_colds_31 : decode cX0_colds 31 = .ok (.invokevirtual 277, 3) := dk_182 1 21 (dk_at dksX0_colds_1 7 rfl rfl)
theorem dX0_colds_34 : decode cX0_colds 34 = .ok (.aload_n 0, 1) := dk_42 (dk_at dksX0_colds_1 10 rfl rfl)
theorem dX0_colds_35 : decode cX0_colds 35 = .ok (.iload_n 1, 1) := dk_27 (dk_at dksX0_colds_1 11 rfl rfl)
theorem dX0_colds_36 : decode cX0_colds 36 = .ok (.iconst 0, 1) := dk_3 (dk_at dksX0_colds_1 12 rfl rfl)
theorem dX0_colds_37 : decode cX0_colds 37 = .ok (.iconst 0, 1) := dk_3 (dk_at dksX0_colds_1 13 rfl rfl)
theorem dX0_colds_38 : decode cX0_colds 38 = .ok (.invokevirtual 283, 3) := dk_182 1 27 (dk_at dksX0_colds_1 14 rfl rfl)
theorem dX0_colds_41 : decode cX0_colds 41 = .ok (.iload_n 2, 1) := dk_28 (dk_at dksX0_colds_1 17 rfl rfl)
theorem dX0_colds_42 : decode cX0_colds 42 = .ok (.iconst (-1), 1) := dk_2 (dk_at dksX0_colds_1 18 rfl rfl)
theorem dX0_colds_43 : decode cX0_colds 43 = .ok (.if_icmp .ne 10, 3) := dk_160 0 10 (dk_at dksX0_colds_1 19 rfl rfl)
theorem dX0_colds_46 : decode cX0_colds 46 = .ok (.aload_n 0, 1) := dk_42 (dk_at dksX0_colds_1 22 rfl rfl)
theorem dX0_colds_47 : decode cX0_colds 47 = .ok (.getfield 255, 3) := dk_180 0 255 (dk_at dksX0_colds_2 0 rfl rfl)
theorem dX0_colds_50 : decode cX0_colds 50 = .ok (.goto 9, 3) := dk_167 0 9 (dk_at dksX0_colds_2 3 rfl rfl)
theorem dX0_colds_53 : decode cX0_colds 53 = .ok (.aload_n 0, 1) := dk_42 (dk_at dksX0_colds_2 6 rfl rfl)
theorem dX0_colds_54 : decode cX0_colds 54 = .ok (.getfield 85, 3) := dk_180 0 85 (dk_at dksX0_colds_2 7 rfl rfl)
theorem dX0_colds_57 : decode cX0_colds 57 = .ok (.iload_n 2, 1) := dk_28 (dk_at dksX0_colds_2 10 rfl rfl)
theorem dX0_colds_58 : decode cX0_colds 58 = .ok (.iaload, 1) := dk_46 (dk_at dksX0_colds_2 11 rfl rfl)
theorem dX0_colds_59 : decode cX0_colds 59 = .ok (.ireturn, 1) := dk_172 (dk_at dksX0_colds_2 12 rfl rfl)
theorem gf_colds : xV yX0_colds RX0 cX0_colds 3 (some .int) 2 := ⟨q1055, q1056, q87, q1057, ⟨rfl, by decide +kernel, by decide +kernel, by decide +kernel⟩, by decide⟩
abbrev cX0_takesAt : ByteArray := prog_1_method_34_code
def yX0_takesAt : MethodName := ⟨RX0, "takesAt", "(II)I"⟩
def dkwX0_takesAt_3 : List UInt8 := [167, 255, 206, 42, 42, 180, 0, 31, 27, 182, 1, 30, 172]
abbrev dktX0_takesAt_3 : List UInt8 := dkwX0_takesAt_3 ++ []
def dkwX0_takesAt_2 : List UInt8 := [180, 0, 31, 27, 182, 1, 30, 172, 42, 42, 180, 0, 31, 21, 4, 182, 0, 245, 87, 132, 4, 1]
abbrev dktX0_takesAt_2 : List UInt8 := dkwX0_takesAt_2 ++ dktX0_takesAt_3
def dkwX0_takesAt_1 : List UInt8 := [162, 0, 47, 21, 4, 27, 160, 0, 6, 167, 0, 32, 29, 132, 3, 1, 28, 160, 0, 13, 42, 42]
abbrev dktX0_takesAt_1 : List UInt8 := dkwX0_takesAt_1 ++ dktX0_takesAt_2
def dkwX0_takesAt_0 : List UInt8 := [42, 180, 0, 31, 42, 180, 0, 27, 182, 0, 252, 3, 62, 3, 54, 4, 21, 4, 42, 180, 0, 107]
abbrev dktX0_takesAt_0 : List UInt8 := dkwX0_takesAt_0 ++ dktX0_takesAt_1
theorem dksX0_takesAt_0 : cX0_takesAt.data.toList.drop 0 = dktX0_takesAt_0 := by decide +kernel
theorem dksX0_takesAt_1 : cX0_takesAt.data.toList.drop 22 = dktX0_takesAt_1 := dk_seg dksX0_takesAt_0 22 rfl rfl
theorem dksX0_takesAt_2 : cX0_takesAt.data.toList.drop 44 = dktX0_takesAt_2 := dk_seg dksX0_takesAt_1 22 rfl rfl
theorem dksX0_takesAt_3 : cX0_takesAt.data.toList.drop 66 = dktX0_takesAt_3 := dk_seg dksX0_takesAt_2 22 rfl rfl
theorem dX0_takesAt_0 : decode cX0_takesAt 0 = .ok (.aload_n 0, 1) := dk_42 (dk_at dksX0_takesAt_0 0 rfl rfl)
theorem dX0_takesAt_1 : decode cX0_takesAt 1 = .ok (.getfield 31, 3) := dk_180 0 31 (dk_at dksX0_takesAt_0 1 rfl rfl)
theorem dX0_takesAt_4 : decode cX0_takesAt 4 = .ok (.aload_n 0, 1) := dk_42 (dk_at dksX0_takesAt_0 4 rfl rfl)
theorem dX0_takesAt_5 : decode cX0_takesAt 5 = .ok (.getfield 27, 3) := dk_180 0 27 (dk_at dksX0_takesAt_0 5 rfl rfl)
theorem dX0_takesAt_8 : decode cX0_takesAt 8 = .ok (.invokevirtual 252, 3) := dk_182 0 252 (dk_at dksX0_takesAt_0 8 rfl rfl)
theorem dX0_takesAt_11 : decode cX0_takesAt 11 = .ok (.iconst 0, 1) := dk_3 (dk_at dksX0_takesAt_0 11 rfl rfl)
theorem dX0_takesAt_12 : decode cX0_takesAt 12 = .ok (.istore_n 3, 1) := dk_62 (dk_at dksX0_takesAt_0 12 rfl rfl)
theorem dX0_takesAt_13 : decode cX0_takesAt 13 = .ok (.iconst 0, 1) := dk_3 (dk_at dksX0_takesAt_0 13 rfl rfl)
theorem dX0_takesAt_14 : decode cX0_takesAt 14 = .ok (.istore 4, 2) := dk_54 4 (dk_at dksX0_takesAt_0 14 rfl rfl)
theorem dX0_takesAt_16 : decode cX0_takesAt 16 = .ok (.iload 4, 2) := dk_21 4 (dk_at dksX0_takesAt_0 16 rfl rfl)
theorem dX0_takesAt_18 : decode cX0_takesAt 18 = .ok (.aload_n 0, 1) := dk_42 (dk_at dksX0_takesAt_0 18 rfl rfl)
theorem dX0_takesAt_19 : decode cX0_takesAt 19 = .ok (.getfield 107, 3) := dk_180 0 107 (dk_at dksX0_takesAt_0 19 rfl rfl)
theorem dX0_takesAt_22 : decode cX0_takesAt 22 = .ok (.if_icmp .ge 47, 3) := dk_162 0 47 (dk_at dksX0_takesAt_1 0 rfl rfl)
theorem dX0_takesAt_25 : decode cX0_takesAt 25 = .ok (.iload 4, 2) := dk_21 4 (dk_at dksX0_takesAt_1 3 rfl rfl)
theorem dX0_takesAt_27 : decode cX0_takesAt 27 = .ok (.iload_n 1, 1) := dk_27 (dk_at dksX0_takesAt_1 5 rfl rfl)
theorem dX0_takesAt_28 : decode cX0_takesAt 28 = .ok (.if_icmp .ne 6, 3) := dk_160 0 6 (dk_at dksX0_takesAt_1 6 rfl rfl)
theorem dX0_takesAt_31 : decode cX0_takesAt 31 = .ok (.goto 32, 3) := dk_167 0 32 (dk_at dksX0_takesAt_1 9 rfl rfl)
theorem dX0_takesAt_34 : decode cX0_takesAt 34 = .ok (.iload_n 3, 1) := dk_29 (dk_at dksX0_takesAt_1 12 rfl rfl)
theorem dX0_takesAt_35 : decode cX0_takesAt 35 = .ok (.iinc 3 1, 3) := dk_132 3 1 (dk_at dksX0_takesAt_1 13 rfl rfl)
theorem dX0_takesAt_38 : decode cX0_takesAt 38 = .ok (.iload_n 2, 1) := dk_28 (dk_at dksX0_takesAt_1 16 rfl rfl)
theorem dX0_takesAt_39 : decode cX0_takesAt 39 = .ok (.if_icmp .ne 13, 3) := dk_160 0 13 (dk_at dksX0_takesAt_1 17 rfl rfl)
theorem dX0_takesAt_42 : decode cX0_takesAt 42 = .ok (.aload_n 0, 1) := dk_42 (dk_at dksX0_takesAt_1 20 rfl rfl)
theorem dX0_takesAt_43 : decode cX0_takesAt 43 = .ok (.aload_n 0, 1) := dk_42 (dk_at dksX0_takesAt_1 21 rfl rfl)
theorem dX0_takesAt_44 : decode cX0_takesAt 44 = .ok (.getfield 31, 3) := dk_180 0 31 (dk_at dksX0_takesAt_2 0 rfl rfl)
theorem dX0_takesAt_47 : decode cX0_takesAt 47 = .ok (.iload_n 1, 1) := dk_27 (dk_at dksX0_takesAt_2 3 rfl rfl)
theorem dX0_takesAt_48 : decode cX0_takesAt 48 = .ok (.invokevirtual 286, 3) := dk_182 1 30 (dk_at dksX0_takesAt_2 4 rfl rfl)
theorem dX0_takesAt_51 : decode cX0_takesAt 51 = .ok (.ireturn, 1) := dk_172 (dk_at dksX0_takesAt_2 7 rfl rfl)
theorem dX0_takesAt_52 : decode cX0_takesAt 52 = .ok (.aload_n 0, 1) := dk_42 (dk_at dksX0_takesAt_2 8 rfl rfl)
theorem dX0_takesAt_53 : decode cX0_takesAt 53 = .ok (.aload_n 0, 1) := dk_42 (dk_at dksX0_takesAt_2 9 rfl rfl)
theorem dX0_takesAt_54 : decode cX0_takesAt 54 = .ok (.getfield 31, 3) := dk_180 0 31 (dk_at dksX0_takesAt_2 10 rfl rfl)
theorem dX0_takesAt_57 : decode cX0_takesAt 57 = .ok (.iload 4, 2) := dk_21 4 (dk_at dksX0_takesAt_2 13 rfl rfl)
theorem dX0_takesAt_59 : decode cX0_takesAt 59 = .ok (.invokevirtual 245, 3) := dk_182 0 245 (dk_at dksX0_takesAt_2 15 rfl rfl)
theorem dX0_takesAt_62 : decode cX0_takesAt 62 = .ok (.pop, 1) := dk_87 (dk_at dksX0_takesAt_2 18 rfl rfl)
theorem dX0_takesAt_63 : decode cX0_takesAt 63 = .ok (.iinc 4 1, 3) := dk_132 4 1 (dk_at dksX0_takesAt_2 19 rfl rfl)
theorem dX0_takesAt_66 : decode cX0_takesAt 66 = .ok (.goto (-50), 3) := dk_167 255 206 (dk_at dksX0_takesAt_3 0 rfl rfl)
theorem dX0_takesAt_69 : decode cX0_takesAt 69 = .ok (.aload_n 0, 1) := dk_42 (dk_at dksX0_takesAt_3 3 rfl rfl)
theorem dX0_takesAt_70 : decode cX0_takesAt 70 = .ok (.aload_n 0, 1) := dk_42 (dk_at dksX0_takesAt_3 4 rfl rfl)
theorem dX0_takesAt_71 : decode cX0_takesAt 71 = .ok (.getfield 31, 3) := dk_180 0 31 (dk_at dksX0_takesAt_3 5 rfl rfl)
theorem dX0_takesAt_74 : decode cX0_takesAt 74 = .ok (.iload_n 1, 1) := dk_27 (dk_at dksX0_takesAt_3 8 rfl rfl)
theorem dX0_takesAt_75 : decode cX0_takesAt 75 = .ok (.invokevirtual 286, 3) := dk_182 1 30 (dk_at dksX0_takesAt_3 9 rfl rfl)
theorem dX0_takesAt_78 : decode cX0_takesAt 78 = .ok (.ireturn, 1) := dk_172 (dk_at dksX0_takesAt_3 12 rfl rfl)
theorem gf_takesAt : xV yX0_takesAt RX0 cX0_takesAt 5 (some .int) 2 := ⟨q1072, qs32, q87, q1073, ⟨rfl, by decide +kernel, by decide +kernel, by decide +kernel⟩, by decide⟩
abbrev cX0_place : ByteArray := prog_1_method_35_code
def yX0_place : MethodName := ⟨RX0, "place", "(II)I"⟩
def dkwX0_place_3 : List UInt8 := [167, 255, 213, 28, 154, 0, 7, 29, 167, 0, 5, 21, 4, 172]
abbrev dktX0_place_3 : List UInt8 := dkwX0_place_3 ++ []
def dkwX0_place_2 : List UInt8 := [158, 0, 13, 21, 6, 21, 4, 161, 0, 6, 167, 0, 10, 21, 6, 54, 4, 21, 5, 62, 132, 5, 1]
abbrev dktX0_place_2 : List UInt8 := dkwX0_place_2 ++ dktX0_place_3
def dkwX0_place_1 : List UInt8 := [3, 54, 5, 21, 5, 42, 180, 0, 107, 162, 0, 40, 42, 27, 21, 5, 182, 1, 34, 54, 6, 21, 5]
abbrev dktX0_place_1 : List UInt8 := dkwX0_place_1 ++ dktX0_place_2
def dkwX0_place_0 : List UInt8 := [42, 27, 182, 0, 140, 153, 0, 12, 28, 3, 4, 184, 0, 111, 154, 0, 5, 2, 172, 3, 62, 3, 54, 4]
abbrev dktX0_place_0 : List UInt8 := dkwX0_place_0 ++ dktX0_place_1
theorem dksX0_place_0 : cX0_place.data.toList.drop 0 = dktX0_place_0 := by decide +kernel
theorem dksX0_place_1 : cX0_place.data.toList.drop 24 = dktX0_place_1 := dk_seg dksX0_place_0 24 rfl rfl
theorem dksX0_place_2 : cX0_place.data.toList.drop 47 = dktX0_place_2 := dk_seg dksX0_place_1 23 rfl rfl
theorem dksX0_place_3 : cX0_place.data.toList.drop 70 = dktX0_place_3 := dk_seg dksX0_place_2 23 rfl rfl
theorem dX0_place_0 : decode cX0_place 0 = .ok (.aload_n 0, 1) := dk_42 (dk_at dksX0_place_0 0 rfl rfl)
theorem dX0_place_1 : decode cX0_place 1 = .ok (.iload_n 1, 1) := dk_27 (dk_at dksX0_place_0 1 rfl rfl)
theorem dX0_place_2 : decode cX0_place 2 = .ok (.invokevirtual 140, 3) := dk_182 0 140 (dk_at dksX0_place_0 2 rfl rfl)
theorem dX0_place_5 : decode cX0_place 5 = .ok (.ifCond .eq 12, 3) := dk_153 0 12 (dk_at dksX0_place_0 5 rfl rfl)
theorem dX0_place_8 : decode cX0_place 8 = .ok (.iload_n 2, 1) := dk_28 (dk_at dksX0_place_0 8 rfl rfl)
theorem dX0_place_9 : decode cX0_place 9 = .ok (.iconst 0, 1) := dk_3 (dk_at dksX0_place_0 9 rfl rfl)
theorem dX0_place_10 : decode cX0_place 10 = .ok (.iconst 1, 1) := dk_4 (dk_at dksX0_place_0 10 rfl rfl)
theorem dX0_place_11 : decode cX0_place 11 = .ok (.invokestatic 111, 3) := dk_184 0 111 (dk_at dksX0_place_0 11 rfl rfl)
theorem dX0_place_14 : decode cX0_place 14 = .ok (.ifCond .ne 5, 3) := dk_154 0 5 (dk_at dksX0_place_0 14 rfl rfl)
theorem dX0_place_17 : decode cX0_place 17 = .ok (.iconst (-1), 1) := dk_2 (dk_at dksX0_place_0 17 rfl rfl)
theorem dX0_place_18 : decode cX0_place 18 = .ok (.ireturn, 1) := dk_172 (dk_at dksX0_place_0 18 rfl rfl)
theorem dX0_place_19 : decode cX0_place 19 = .ok (.iconst 0, 1) := dk_3 (dk_at dksX0_place_0 19 rfl rfl)
theorem dX0_place_20 : decode cX0_place 20 = .ok (.istore_n 3, 1) := dk_62 (dk_at dksX0_place_0 20 rfl rfl)
theorem dX0_place_21 : decode cX0_place 21 = .ok (.iconst 0, 1) := dk_3 (dk_at dksX0_place_0 21 rfl rfl)
theorem dX0_place_22 : decode cX0_place 22 = .ok (.istore 4, 2) := dk_54 4 (dk_at dksX0_place_0 22 rfl rfl)
theorem dX0_place_24 : decode cX0_place 24 = .ok (.iconst 0, 1) := dk_3 (dk_at dksX0_place_1 0 rfl rfl)
theorem dX0_place_25 : decode cX0_place 25 = .ok (.istore 5, 2) := dk_54 5 (dk_at dksX0_place_1 1 rfl rfl)
theorem dX0_place_27 : decode cX0_place 27 = .ok (.iload 5, 2) := dk_21 5 (dk_at dksX0_place_1 3 rfl rfl)
theorem dX0_place_29 : decode cX0_place 29 = .ok (.aload_n 0, 1) := dk_42 (dk_at dksX0_place_1 5 rfl rfl)
theorem dX0_place_30 : decode cX0_place 30 = .ok (.getfield 107, 3) := dk_180 0 107 (dk_at dksX0_place_1 6 rfl rfl)
theorem dX0_place_33 : decode cX0_place 33 = .ok (.if_icmp .ge 40, 3) := dk_162 0 40 (dk_at dksX0_place_1 9 rfl rfl)
theorem dX0_place_36 : decode cX0_place 36 = .ok (.aload_n 0, 1) := dk_42 (dk_at dksX0_place_1 12 rfl rfl)
theorem dX0_place_37 : decode cX0_place 37 = .ok (.iload_n 1, 1) := dk_27 (dk_at dksX0_place_1 13 rfl rfl)
theorem dX0_place_38 : decode cX0_place 38 = .ok (.iload 5, 2) := dk_21 5 (dk_at dksX0_place_1 14 rfl rfl)
theorem dX0_place_40 : decode cX0_place 40 = .ok (.invokevirtual 290, 3) := dk_182 1 34 (dk_at dksX0_place_1 16 rfl rfl)
theorem dX0_place_43 : decode cX0_place 43 = .ok (.istore 6, 2) := dk_54 6 (dk_at dksX0_place_1 19 rfl rfl)
theorem dX0_place_45 : decode cX0_place 45 = .ok (.iload 5, 2) := dk_21 5 (dk_at dksX0_place_1 21 rfl rfl)
theorem dX0_place_47 : decode cX0_place 47 = .ok (.ifCond .le 13, 3) := dk_158 0 13 (dk_at dksX0_place_2 0 rfl rfl)
theorem dX0_place_50 : decode cX0_place 50 = .ok (.iload 6, 2) := dk_21 6 (dk_at dksX0_place_2 3 rfl rfl)
theorem dX0_place_52 : decode cX0_place 52 = .ok (.iload 4, 2) := dk_21 4 (dk_at dksX0_place_2 5 rfl rfl)
theorem dX0_place_54 : decode cX0_place 54 = .ok (.if_icmp .lt 6, 3) := dk_161 0 6 (dk_at dksX0_place_2 7 rfl rfl)
theorem dX0_place_57 : decode cX0_place 57 = .ok (.goto 10, 3) := dk_167 0 10 (dk_at dksX0_place_2 10 rfl rfl)
theorem dX0_place_60 : decode cX0_place 60 = .ok (.iload 6, 2) := dk_21 6 (dk_at dksX0_place_2 13 rfl rfl)
theorem dX0_place_62 : decode cX0_place 62 = .ok (.istore 4, 2) := dk_54 4 (dk_at dksX0_place_2 15 rfl rfl)
theorem dX0_place_64 : decode cX0_place 64 = .ok (.iload 5, 2) := dk_21 5 (dk_at dksX0_place_2 17 rfl rfl)
theorem dX0_place_66 : decode cX0_place 66 = .ok (.istore_n 3, 1) := dk_62 (dk_at dksX0_place_2 19 rfl rfl)
theorem dX0_place_67 : decode cX0_place 67 = .ok (.iinc 5 1, 3) := dk_132 5 1 (dk_at dksX0_place_2 20 rfl rfl)
theorem dX0_place_70 : decode cX0_place 70 = .ok (.goto (-43), 3) := dk_167 255 213 (dk_at dksX0_place_3 0 rfl rfl)
theorem dX0_place_73 : decode cX0_place 73 = .ok (.iload_n 2, 1) := dk_28 (dk_at dksX0_place_3 3 rfl rfl)
theorem dX0_place_74 : decode cX0_place 74 = .ok (.ifCond .ne 7, 3) := dk_154 0 7 (dk_at dksX0_place_3 4 rfl rfl)
theorem dX0_place_77 : decode cX0_place 77 = .ok (.iload_n 3, 1) := dk_29 (dk_at dksX0_place_3 7 rfl rfl)
theorem dX0_place_78 : decode cX0_place 78 = .ok (.goto 5, 3) := dk_167 0 5 (dk_at dksX0_place_3 8 rfl rfl)
theorem dX0_place_81 : decode cX0_place 81 = .ok (.iload 4, 2) := dk_21 4 (dk_at dksX0_place_3 11 rfl rfl)
theorem dX0_place_83 : decode cX0_place 83 = .ok (.ireturn, 1) := dk_172 (dk_at dksX0_place_3 13 rfl rfl)
theorem gf_place : xV yX0_place RX0 cX0_place 7 (some .int) 2 := ⟨q1067, q1068, q87, q1069, ⟨rfl, by decide +kernel, by decide +kernel, by decide +kernel⟩, by decide⟩
abbrev cX0_isSpoiledBut : ByteArray := prog_1_method_36_code
def yX0_isSpoiledBut : MethodName := ⟨RX0, "isSpoiledBut", "(II)Z"⟩
def dkwX0_isSpoiledBut_2 : List UInt8 := [172]
abbrev dktX0_isSpoiledBut_2 : List UInt8 := dkwX0_isSpoiledBut_2 ++ []
def dkwX0_isSpoiledBut_1 : List UInt8 := [42, 180, 0, 31, 29, 182, 0, 245, 87, 132, 3, 1, 167, 255, 233, 42, 42, 180, 0, 31, 27, 182, 0, 215]
abbrev dktX0_isSpoiledBut_1 : List UInt8 := dkwX0_isSpoiledBut_1 ++ dktX0_isSpoiledBut_2
def dkwX0_isSpoiledBut_0 : List UInt8 := [42, 180, 0, 31, 42, 180, 0, 27, 182, 0, 252, 3, 62, 29, 27, 162, 0, 24, 29, 28, 159, 0, 13, 42]
abbrev dktX0_isSpoiledBut_0 : List UInt8 := dkwX0_isSpoiledBut_0 ++ dktX0_isSpoiledBut_1
theorem dksX0_isSpoiledBut_0 : cX0_isSpoiledBut.data.toList.drop 0 = dktX0_isSpoiledBut_0 := by decide +kernel
theorem dksX0_isSpoiledBut_1 : cX0_isSpoiledBut.data.toList.drop 24 = dktX0_isSpoiledBut_1 := dk_seg dksX0_isSpoiledBut_0 24 rfl rfl
theorem dksX0_isSpoiledBut_2 : cX0_isSpoiledBut.data.toList.drop 48 = dktX0_isSpoiledBut_2 := dk_seg dksX0_isSpoiledBut_1 24 rfl rfl
theorem dX0_isSpoiledBut_0 : decode cX0_isSpoiledBut 0 = .ok (.aload_n 0, 1) := dk_42 (dk_at dksX0_isSpoiledBut_0 0 rfl rfl)
theorem dX0_isSpoiledBut_1 : decode cX0_isSpoiledBut 1 = .ok (.getfield 31, 3) := dk_180 0 31 (dk_at dksX0_isSpoiledBut_0 1 rfl rfl)
theorem dX0_isSpoiledBut_4 : decode cX0_isSpoiledBut 4 = .ok (.aload_n 0, 1) := dk_42 (dk_at dksX0_isSpoiledBut_0 4 rfl rfl)
theorem dX0_isSpoiledBut_5 : decode cX0_isSpoiledBut 5 = .ok (.getfield 27, 3) := dk_180 0 27 (dk_at dksX0_isSpoiledBut_0 5 rfl rfl)
theorem dX0_isSpoiledBut_8 : decode cX0_isSpoiledBut 8 = .ok (.invokevirtual 252, 3) := dk_182 0 252 (dk_at dksX0_isSpoiledBut_0 8 rfl rfl)
theorem dX0_isSpoiledBut_11 : decode cX0_isSpoiledBut 11 = .ok (.iconst 0, 1) := dk_3 (dk_at dksX0_isSpoiledBut_0 11 rfl rfl)
theorem dX0_isSpoiledBut_12 : decode cX0_isSpoiledBut 12 = .ok (.istore_n 3, 1) := dk_62 (dk_at dksX0_isSpoiledBut_0 12 rfl rfl)
theorem dX0_isSpoiledBut_13 : decode cX0_isSpoiledBut 13 = .ok (.iload_n 3, 1) := dk_29 (dk_at dksX0_isSpoiledBut_0 13 rfl rfl)
theorem dX0_isSpoiledBut_14 : decode cX0_isSpoiledBut 14 = .ok (.iload_n 1, 1) := dk_27 (dk_at dksX0_isSpoiledBut_0 14 rfl rfl)
theorem dX0_isSpoiledBut_15 : decode cX0_isSpoiledBut 15 = .ok (.if_icmp .ge 24, 3) := dk_162 0 24 (dk_at dksX0_isSpoiledBut_0 15 rfl rfl)
theorem dX0_isSpoiledBut_18 : decode cX0_isSpoiledBut 18 = .ok (.iload_n 3, 1) := dk_29 (dk_at dksX0_isSpoiledBut_0 18 rfl rfl)
theorem dX0_isSpoiledBut_19 : decode cX0_isSpoiledBut 19 = .ok (.iload_n 2, 1) := dk_28 (dk_at dksX0_isSpoiledBut_0 19 rfl rfl)
theorem dX0_isSpoiledBut_20 : decode cX0_isSpoiledBut 20 = .ok (.if_icmp .eq 13, 3) := dk_159 0 13 (dk_at dksX0_isSpoiledBut_0 20 rfl rfl)
theorem dX0_isSpoiledBut_23 : decode cX0_isSpoiledBut 23 = .ok (.aload_n 0, 1) := dk_42 (dk_at dksX0_isSpoiledBut_0 23 rfl rfl)
theorem dX0_isSpoiledBut_24 : decode cX0_isSpoiledBut 24 = .ok (.aload_n 0, 1) := dk_42 (dk_at dksX0_isSpoiledBut_1 0 rfl rfl)
theorem dX0_isSpoiledBut_25 : decode cX0_isSpoiledBut 25 = .ok (.getfield 31, 3) := dk_180 0 31 (dk_at dksX0_isSpoiledBut_1 1 rfl rfl)
theorem dX0_isSpoiledBut_28 : decode cX0_isSpoiledBut 28 = .ok (.iload_n 3, 1) := dk_29 (dk_at dksX0_isSpoiledBut_1 4 rfl rfl)
theorem dX0_isSpoiledBut_29 : decode cX0_isSpoiledBut 29 = .ok (.invokevirtual 245, 3) := dk_182 0 245 (dk_at dksX0_isSpoiledBut_1 5 rfl rfl)
theorem dX0_isSpoiledBut_32 : decode cX0_isSpoiledBut 32 = .ok (.pop, 1) := dk_87 (dk_at dksX0_isSpoiledBut_1 8 rfl rfl)
theorem dX0_isSpoiledBut_33 : decode cX0_isSpoiledBut 33 = .ok (.iinc 3 1, 3) := dk_132 3 1 (dk_at dksX0_isSpoiledBut_1 9 rfl rfl)
theorem dX0_isSpoiledBut_36 : decode cX0_isSpoiledBut 36 = .ok (.goto (-23), 3) := dk_167 255 233 (dk_at dksX0_isSpoiledBut_1 12 rfl rfl)
theorem dX0_isSpoiledBut_39 : decode cX0_isSpoiledBut 39 = .ok (.aload_n 0, 1) := dk_42 (dk_at dksX0_isSpoiledBut_1 15 rfl rfl)
theorem dX0_isSpoiledBut_40 : decode cX0_isSpoiledBut 40 = .ok (.aload_n 0, 1) := dk_42 (dk_at dksX0_isSpoiledBut_1 16 rfl rfl)
theorem dX0_isSpoiledBut_41 : decode cX0_isSpoiledBut 41 = .ok (.getfield 31, 3) := dk_180 0 31 (dk_at dksX0_isSpoiledBut_1 17 rfl rfl)
theorem dX0_isSpoiledBut_44 : decode cX0_isSpoiledBut 44 = .ok (.iload_n 1, 1) := dk_27 (dk_at dksX0_isSpoiledBut_1 20 rfl rfl)
theorem dX0_isSpoiledBut_45 : decode cX0_isSpoiledBut 45 = .ok (.invokevirtual 215, 3) := dk_182 0 215 (dk_at dksX0_isSpoiledBut_1 21 rfl rfl)
theorem dX0_isSpoiledBut_48 : decode cX0_isSpoiledBut 48 = .ok (.ireturn, 1) := dk_172 (dk_at dksX0_isSpoiledBut_2 0 rfl rfl)
theorem gf_isSpoiledBut : xV yX0_isSpoiledBut RX0 cX0_isSpoiledBut 4 (some .boolean) 2 := ⟨q1084, qs34, q87, q1085, ⟨rfl, by decide +kernel, by decide +kernel, by decide +kernel⟩, by decide⟩
abbrev cX0_guilty : ByteArray := prog_1_method_37_code
def yX0_guilty : MethodName := ⟨RX0, "guilty", "(I)I"⟩
def dkwX0_guilty_2 : List UInt8 := [167, 255, 224, 28, 172]
abbrev dktX0_guilty_2 : List UInt8 := dkwX0_guilty_2 ++ []
def dkwX0_guilty_1 : List UInt8 := [182, 1, 37, 153, 0, 24, 42, 27, 29, 182, 1, 37, 154, 0, 9, 28, 4, 29, 120, 128, 61, 132, 3, 1]
abbrev dktX0_guilty_1 : List UInt8 := dkwX0_guilty_1 ++ dktX0_guilty_2
def dkwX0_guilty_0 : List UInt8 := [42, 27, 182, 0, 140, 154, 0, 5, 2, 172, 3, 61, 3, 62, 29, 27, 162, 0, 33, 42, 27, 2]
abbrev dktX0_guilty_0 : List UInt8 := dkwX0_guilty_0 ++ dktX0_guilty_1
theorem dksX0_guilty_0 : cX0_guilty.data.toList.drop 0 = dktX0_guilty_0 := by decide +kernel
theorem dksX0_guilty_1 : cX0_guilty.data.toList.drop 22 = dktX0_guilty_1 := dk_seg dksX0_guilty_0 22 rfl rfl
theorem dksX0_guilty_2 : cX0_guilty.data.toList.drop 46 = dktX0_guilty_2 := dk_seg dksX0_guilty_1 24 rfl rfl
theorem dX0_guilty_0 : decode cX0_guilty 0 = .ok (.aload_n 0, 1) := dk_42 (dk_at dksX0_guilty_0 0 rfl rfl)
theorem dX0_guilty_1 : decode cX0_guilty 1 = .ok (.iload_n 1, 1) := dk_27 (dk_at dksX0_guilty_0 1 rfl rfl)
theorem dX0_guilty_2 : decode cX0_guilty 2 = .ok (.invokevirtual 140, 3) := dk_182 0 140 (dk_at dksX0_guilty_0 2 rfl rfl)
theorem dX0_guilty_5 : decode cX0_guilty 5 = .ok (.ifCond .ne 5, 3) := dk_154 0 5 (dk_at dksX0_guilty_0 5 rfl rfl)
theorem dX0_guilty_8 : decode cX0_guilty 8 = .ok (.iconst (-1), 1) := dk_2 (dk_at dksX0_guilty_0 8 rfl rfl)
theorem dX0_guilty_9 : decode cX0_guilty 9 = .ok (.ireturn, 1) := dk_172 (dk_at dksX0_guilty_0 9 rfl rfl)
theorem dX0_guilty_10 : decode cX0_guilty 10 = .ok (.iconst 0, 1) := dk_3 (dk_at dksX0_guilty_0 10 rfl rfl)
theorem dX0_guilty_11 : decode cX0_guilty 11 = .ok (.istore_n 2, 1) := dk_61 (dk_at dksX0_guilty_0 11 rfl rfl)
theorem dX0_guilty_12 : decode cX0_guilty 12 = .ok (.iconst 0, 1) := dk_3 (dk_at dksX0_guilty_0 12 rfl rfl)
theorem dX0_guilty_13 : decode cX0_guilty 13 = .ok (.istore_n 3, 1) := dk_62 (dk_at dksX0_guilty_0 13 rfl rfl)
theorem dX0_guilty_14 : decode cX0_guilty 14 = .ok (.iload_n 3, 1) := dk_29 (dk_at dksX0_guilty_0 14 rfl rfl)
theorem dX0_guilty_15 : decode cX0_guilty 15 = .ok (.iload_n 1, 1) := dk_27 (dk_at dksX0_guilty_0 15 rfl rfl)
theorem dX0_guilty_16 : decode cX0_guilty 16 = .ok (.if_icmp .ge 33, 3) := dk_162 0 33 (dk_at dksX0_guilty_0 16 rfl rfl)
theorem dX0_guilty_19 : decode cX0_guilty 19 = .ok (.aload_n 0, 1) := dk_42 (dk_at dksX0_guilty_0 19 rfl rfl)
theorem dX0_guilty_20 : decode cX0_guilty 20 = .ok (.iload_n 1, 1) := dk_27 (dk_at dksX0_guilty_0 20 rfl rfl)
theorem dX0_guilty_21 : decode cX0_guilty 21 = .ok (.iconst (-1), 1) := dk_2 (dk_at dksX0_guilty_0 21 rfl rfl)
theorem dX0_guilty_22 : decode cX0_guilty 22 = .ok (.invokevirtual 293, 3) := dk_182 1 37 (dk_at dksX0_guilty_1 0 rfl rfl)
theorem dX0_guilty_25 : decode cX0_guilty 25 = .ok (.ifCond .eq 24, 3) := dk_153 0 24 (dk_at dksX0_guilty_1 3 rfl rfl)
theorem dX0_guilty_28 : decode cX0_guilty 28 = .ok (.aload_n 0, 1) := dk_42 (dk_at dksX0_guilty_1 6 rfl rfl)
theorem dX0_guilty_29 : decode cX0_guilty 29 = .ok (.iload_n 1, 1) := dk_27 (dk_at dksX0_guilty_1 7 rfl rfl)
theorem dX0_guilty_30 : decode cX0_guilty 30 = .ok (.iload_n 3, 1) := dk_29 (dk_at dksX0_guilty_1 8 rfl rfl)
theorem dX0_guilty_31 : decode cX0_guilty 31 = .ok (.invokevirtual 293, 3) := dk_182 1 37 (dk_at dksX0_guilty_1 9 rfl rfl)
theorem dX0_guilty_34 : decode cX0_guilty 34 = .ok (.ifCond .ne 9, 3) := dk_154 0 9 (dk_at dksX0_guilty_1 12 rfl rfl)
theorem dX0_guilty_37 : decode cX0_guilty 37 = .ok (.iload_n 2, 1) := dk_28 (dk_at dksX0_guilty_1 15 rfl rfl)
theorem dX0_guilty_38 : decode cX0_guilty 38 = .ok (.iconst 1, 1) := dk_4 (dk_at dksX0_guilty_1 16 rfl rfl)
theorem dX0_guilty_39 : decode cX0_guilty 39 = .ok (.iload_n 3, 1) := dk_29 (dk_at dksX0_guilty_1 17 rfl rfl)
theorem dX0_guilty_40 : decode cX0_guilty 40 = .ok (.ishl, 1) := dk_120 (dk_at dksX0_guilty_1 18 rfl rfl)
theorem dX0_guilty_41 : decode cX0_guilty 41 = .ok (.ior, 1) := dk_128 (dk_at dksX0_guilty_1 19 rfl rfl)
theorem dX0_guilty_42 : decode cX0_guilty 42 = .ok (.istore_n 2, 1) := dk_61 (dk_at dksX0_guilty_1 20 rfl rfl)
theorem dX0_guilty_43 : decode cX0_guilty 43 = .ok (.iinc 3 1, 3) := dk_132 3 1 (dk_at dksX0_guilty_1 21 rfl rfl)
theorem dX0_guilty_46 : decode cX0_guilty 46 = .ok (.goto (-32), 3) := dk_167 255 224 (dk_at dksX0_guilty_2 0 rfl rfl)
theorem dX0_guilty_49 : decode cX0_guilty 49 = .ok (.iload_n 2, 1) := dk_28 (dk_at dksX0_guilty_2 3 rfl rfl)
theorem dX0_guilty_50 : decode cX0_guilty 50 = .ok (.ireturn, 1) := dk_172 (dk_at dksX0_guilty_2 4 rfl rfl)
theorem gf_guilty : xV yX0_guilty RX0 cX0_guilty 4 (some .int) 1 := ⟨q1079, q1080, q87, q1081, ⟨rfl, by decide +kernel, by decide +kernel, by decide +kernel⟩, by decide⟩
abbrev cX0_spoiledBy : ByteArray := prog_1_method_38_code
def yX0_spoiledBy : MethodName := ⟨RX0, "spoiledBy", "(I)I"⟩
def dkwX0_spoiledBy_2 : List UInt8 := [132, 3, 1, 167, 255, 221, 28, 172]
abbrev dktX0_spoiledBy_2 : List UInt8 := dkwX0_spoiledBy_2 ++ []
def dkwX0_spoiledBy_1 : List UInt8 := [29, 122, 4, 126, 4, 160, 0, 18, 42, 42, 180, 0, 31, 29, 182, 0, 245, 153, 0, 6, 132, 2, 1]
abbrev dktX0_spoiledBy_1 : List UInt8 := dkwX0_spoiledBy_1 ++ dktX0_spoiledBy_2
def dkwX0_spoiledBy_0 : List UInt8 := [42, 180, 0, 31, 42, 180, 0, 27, 182, 0, 252, 3, 61, 3, 62, 29, 42, 180, 0, 107, 162, 0, 33, 27]
abbrev dktX0_spoiledBy_0 : List UInt8 := dkwX0_spoiledBy_0 ++ dktX0_spoiledBy_1
theorem dksX0_spoiledBy_0 : cX0_spoiledBy.data.toList.drop 0 = dktX0_spoiledBy_0 := by decide +kernel
theorem dksX0_spoiledBy_1 : cX0_spoiledBy.data.toList.drop 24 = dktX0_spoiledBy_1 := dk_seg dksX0_spoiledBy_0 24 rfl rfl
theorem dksX0_spoiledBy_2 : cX0_spoiledBy.data.toList.drop 47 = dktX0_spoiledBy_2 := dk_seg dksX0_spoiledBy_1 23 rfl rfl
theorem dX0_spoiledBy_0 : decode cX0_spoiledBy 0 = .ok (.aload_n 0, 1) := dk_42 (dk_at dksX0_spoiledBy_0 0 rfl rfl)
theorem dX0_spoiledBy_1 : decode cX0_spoiledBy 1 = .ok (.getfield 31, 3) := dk_180 0 31 (dk_at dksX0_spoiledBy_0 1 rfl rfl)
theorem dX0_spoiledBy_4 : decode cX0_spoiledBy 4 = .ok (.aload_n 0, 1) := dk_42 (dk_at dksX0_spoiledBy_0 4 rfl rfl)
theorem dX0_spoiledBy_5 : decode cX0_spoiledBy 5 = .ok (.getfield 27, 3) := dk_180 0 27 (dk_at dksX0_spoiledBy_0 5 rfl rfl)
theorem dX0_spoiledBy_8 : decode cX0_spoiledBy 8 = .ok (.invokevirtual 252, 3) := dk_182 0 252 (dk_at dksX0_spoiledBy_0 8 rfl rfl)
theorem dX0_spoiledBy_11 : decode cX0_spoiledBy 11 = .ok (.iconst 0, 1) := dk_3 (dk_at dksX0_spoiledBy_0 11 rfl rfl)
theorem dX0_spoiledBy_12 : decode cX0_spoiledBy 12 = .ok (.istore_n 2, 1) := dk_61 (dk_at dksX0_spoiledBy_0 12 rfl rfl)
theorem dX0_spoiledBy_13 : decode cX0_spoiledBy 13 = .ok (.iconst 0, 1) := dk_3 (dk_at dksX0_spoiledBy_0 13 rfl rfl)
theorem dX0_spoiledBy_14 : decode cX0_spoiledBy 14 = .ok (.istore_n 3, 1) := dk_62 (dk_at dksX0_spoiledBy_0 14 rfl rfl)
theorem dX0_spoiledBy_15 : decode cX0_spoiledBy 15 = .ok (.iload_n 3, 1) := dk_29 (dk_at dksX0_spoiledBy_0 15 rfl rfl)
theorem dX0_spoiledBy_16 : decode cX0_spoiledBy 16 = .ok (.aload_n 0, 1) := dk_42 (dk_at dksX0_spoiledBy_0 16 rfl rfl)
theorem dX0_spoiledBy_17 : decode cX0_spoiledBy 17 = .ok (.getfield 107, 3) := dk_180 0 107 (dk_at dksX0_spoiledBy_0 17 rfl rfl)
theorem dX0_spoiledBy_20 : decode cX0_spoiledBy 20 = .ok (.if_icmp .ge 33, 3) := dk_162 0 33 (dk_at dksX0_spoiledBy_0 20 rfl rfl)
theorem dX0_spoiledBy_23 : decode cX0_spoiledBy 23 = .ok (.iload_n 1, 1) := dk_27 (dk_at dksX0_spoiledBy_0 23 rfl rfl)
theorem dX0_spoiledBy_24 : decode cX0_spoiledBy 24 = .ok (.iload_n 3, 1) := dk_29 (dk_at dksX0_spoiledBy_1 0 rfl rfl)
theorem dX0_spoiledBy_25 : decode cX0_spoiledBy 25 = .ok (.ishr, 1) := dk_122 (dk_at dksX0_spoiledBy_1 1 rfl rfl)
theorem dX0_spoiledBy_26 : decode cX0_spoiledBy 26 = .ok (.iconst 1, 1) := dk_4 (dk_at dksX0_spoiledBy_1 2 rfl rfl)
theorem dX0_spoiledBy_27 : decode cX0_spoiledBy 27 = .ok (.iand, 1) := dk_126 (dk_at dksX0_spoiledBy_1 3 rfl rfl)
theorem dX0_spoiledBy_28 : decode cX0_spoiledBy 28 = .ok (.iconst 1, 1) := dk_4 (dk_at dksX0_spoiledBy_1 4 rfl rfl)
theorem dX0_spoiledBy_29 : decode cX0_spoiledBy 29 = .ok (.if_icmp .ne 18, 3) := dk_160 0 18 (dk_at dksX0_spoiledBy_1 5 rfl rfl)
theorem dX0_spoiledBy_32 : decode cX0_spoiledBy 32 = .ok (.aload_n 0, 1) := dk_42 (dk_at dksX0_spoiledBy_1 8 rfl rfl)
theorem dX0_spoiledBy_33 : decode cX0_spoiledBy 33 = .ok (.aload_n 0, 1) := dk_42 (dk_at dksX0_spoiledBy_1 9 rfl rfl)
theorem dX0_spoiledBy_34 : decode cX0_spoiledBy 34 = .ok (.getfield 31, 3) := dk_180 0 31 (dk_at dksX0_spoiledBy_1 10 rfl rfl)
theorem dX0_spoiledBy_37 : decode cX0_spoiledBy 37 = .ok (.iload_n 3, 1) := dk_29 (dk_at dksX0_spoiledBy_1 13 rfl rfl)
theorem dX0_spoiledBy_38 : decode cX0_spoiledBy 38 = .ok (.invokevirtual 245, 3) := dk_182 0 245 (dk_at dksX0_spoiledBy_1 14 rfl rfl)
theorem dX0_spoiledBy_41 : decode cX0_spoiledBy 41 = .ok (.ifCond .eq 6, 3) := dk_153 0 6 (dk_at dksX0_spoiledBy_1 17 rfl rfl)
theorem dX0_spoiledBy_44 : decode cX0_spoiledBy 44 = .ok (.iinc 2 1, 3) := dk_132 2 1 (dk_at dksX0_spoiledBy_1 20 rfl rfl)
theorem dX0_spoiledBy_47 : decode cX0_spoiledBy 47 = .ok (.iinc 3 1, 3) := dk_132 3 1 (dk_at dksX0_spoiledBy_2 0 rfl rfl)
theorem dX0_spoiledBy_50 : decode cX0_spoiledBy 50 = .ok (.goto (-35), 3) := dk_167 255 221 (dk_at dksX0_spoiledBy_2 3 rfl rfl)
theorem dX0_spoiledBy_53 : decode cX0_spoiledBy 53 = .ok (.iload_n 2, 1) := dk_28 (dk_at dksX0_spoiledBy_2 6 rfl rfl)
theorem dX0_spoiledBy_54 : decode cX0_spoiledBy 54 = .ok (.ireturn, 1) := dk_172 (dk_at dksX0_spoiledBy_2 7 rfl rfl)
theorem gf_spoiledBy : xV yX0_spoiledBy RX0 cX0_spoiledBy 4 (some .int) 1 := ⟨q1092, qs35, q87, q1093, ⟨rfl, by decide +kernel, by decide +kernel, by decide +kernel⟩, by decide⟩
abbrev cX0_two : ByteArray := prog_1_method_39_code
def yX0_two : MethodName := ⟨RX0, "two", "(I)I"⟩
def dkwX0_two_3 : List UInt8 := [54, 4, 21, 5, 62, 132, 5, 1, 167, 255, 206, 27, 154, 0, 8, 21, 4, 167, 0, 4, 29, 172]
abbrev dktX0_two_3 : List UInt8 := dkwX0_two_3 ++ []
def dkwX0_two_2 : List UInt8 := [182, 1, 41, 96, 54, 6, 21, 5, 158, 0, 13, 21, 6, 21, 4, 161, 0, 6, 167, 0, 10, 21, 6]
abbrev dktX0_two_2 : List UInt8 := dkwX0_two_2 ++ dktX0_two_3
def dkwX0_two_1 : List UInt8 := [54, 4, 3, 54, 5, 21, 5, 28, 163, 0, 50, 42, 21, 5, 182, 1, 41, 42, 28, 21, 5, 2, 130, 126]
abbrev dktX0_two_1 : List UInt8 := dkwX0_two_1 ++ dktX0_two_2
def dkwX0_two_0 : List UInt8 := [27, 3, 4, 184, 0, 111, 154, 0, 5, 2, 172, 4, 42, 180, 0, 107, 120, 4, 100, 61, 3, 62, 3]
abbrev dktX0_two_0 : List UInt8 := dkwX0_two_0 ++ dktX0_two_1
theorem dksX0_two_0 : cX0_two.data.toList.drop 0 = dktX0_two_0 := by decide +kernel
theorem dksX0_two_1 : cX0_two.data.toList.drop 23 = dktX0_two_1 := dk_seg dksX0_two_0 23 rfl rfl
theorem dksX0_two_2 : cX0_two.data.toList.drop 47 = dktX0_two_2 := dk_seg dksX0_two_1 24 rfl rfl
theorem dksX0_two_3 : cX0_two.data.toList.drop 70 = dktX0_two_3 := dk_seg dksX0_two_2 23 rfl rfl
theorem dX0_two_0 : decode cX0_two 0 = .ok (.iload_n 1, 1) := dk_27 (dk_at dksX0_two_0 0 rfl rfl)
theorem dX0_two_1 : decode cX0_two 1 = .ok (.iconst 0, 1) := dk_3 (dk_at dksX0_two_0 1 rfl rfl)
theorem dX0_two_2 : decode cX0_two 2 = .ok (.iconst 1, 1) := dk_4 (dk_at dksX0_two_0 2 rfl rfl)
theorem dX0_two_3 : decode cX0_two 3 = .ok (.invokestatic 111, 3) := dk_184 0 111 (dk_at dksX0_two_0 3 rfl rfl)
theorem dX0_two_6 : decode cX0_two 6 = .ok (.ifCond .ne 5, 3) := dk_154 0 5 (dk_at dksX0_two_0 6 rfl rfl)
theorem dX0_two_9 : decode cX0_two 9 = .ok (.iconst (-1), 1) := dk_2 (dk_at dksX0_two_0 9 rfl rfl)
theorem dX0_two_10 : decode cX0_two 10 = .ok (.ireturn, 1) := dk_172 (dk_at dksX0_two_0 10 rfl rfl)
theorem dX0_two_11 : decode cX0_two 11 = .ok (.iconst 1, 1) := dk_4 (dk_at dksX0_two_0 11 rfl rfl)
theorem dX0_two_12 : decode cX0_two 12 = .ok (.aload_n 0, 1) := dk_42 (dk_at dksX0_two_0 12 rfl rfl)
theorem dX0_two_13 : decode cX0_two 13 = .ok (.getfield 107, 3) := dk_180 0 107 (dk_at dksX0_two_0 13 rfl rfl)
theorem dX0_two_16 : decode cX0_two 16 = .ok (.ishl, 1) := dk_120 (dk_at dksX0_two_0 16 rfl rfl)
theorem dX0_two_17 : decode cX0_two 17 = .ok (.iconst 1, 1) := dk_4 (dk_at dksX0_two_0 17 rfl rfl)
theorem dX0_two_18 : decode cX0_two 18 = .ok (.isub, 1) := dk_100 (dk_at dksX0_two_0 18 rfl rfl)
theorem dX0_two_19 : decode cX0_two 19 = .ok (.istore_n 2, 1) := dk_61 (dk_at dksX0_two_0 19 rfl rfl)
theorem dX0_two_20 : decode cX0_two 20 = .ok (.iconst 0, 1) := dk_3 (dk_at dksX0_two_0 20 rfl rfl)
theorem dX0_two_21 : decode cX0_two 21 = .ok (.istore_n 3, 1) := dk_62 (dk_at dksX0_two_0 21 rfl rfl)
theorem dX0_two_22 : decode cX0_two 22 = .ok (.iconst 0, 1) := dk_3 (dk_at dksX0_two_0 22 rfl rfl)
theorem dX0_two_23 : decode cX0_two 23 = .ok (.istore 4, 2) := dk_54 4 (dk_at dksX0_two_1 0 rfl rfl)
theorem dX0_two_25 : decode cX0_two 25 = .ok (.iconst 0, 1) := dk_3 (dk_at dksX0_two_1 2 rfl rfl)
theorem dX0_two_26 : decode cX0_two 26 = .ok (.istore 5, 2) := dk_54 5 (dk_at dksX0_two_1 3 rfl rfl)
theorem dX0_two_28 : decode cX0_two 28 = .ok (.iload 5, 2) := dk_21 5 (dk_at dksX0_two_1 5 rfl rfl)
theorem dX0_two_30 : decode cX0_two 30 = .ok (.iload_n 2, 1) := dk_28 (dk_at dksX0_two_1 7 rfl rfl)
theorem dX0_two_31 : decode cX0_two 31 = .ok (.if_icmp .gt 50, 3) := dk_163 0 50 (dk_at dksX0_two_1 8 rfl rfl)
theorem dX0_two_34 : decode cX0_two 34 = .ok (.aload_n 0, 1) := dk_42 (dk_at dksX0_two_1 11 rfl rfl)
theorem dX0_two_35 : decode cX0_two 35 = .ok (.iload 5, 2) := dk_21 5 (dk_at dksX0_two_1 12 rfl rfl)
theorem dX0_two_37 : decode cX0_two 37 = .ok (.invokevirtual 297, 3) := dk_182 1 41 (dk_at dksX0_two_1 14 rfl rfl)
theorem dX0_two_40 : decode cX0_two 40 = .ok (.aload_n 0, 1) := dk_42 (dk_at dksX0_two_1 17 rfl rfl)
theorem dX0_two_41 : decode cX0_two 41 = .ok (.iload_n 2, 1) := dk_28 (dk_at dksX0_two_1 18 rfl rfl)
theorem dX0_two_42 : decode cX0_two 42 = .ok (.iload 5, 2) := dk_21 5 (dk_at dksX0_two_1 19 rfl rfl)
theorem dX0_two_44 : decode cX0_two 44 = .ok (.iconst (-1), 1) := dk_2 (dk_at dksX0_two_1 21 rfl rfl)
theorem dX0_two_45 : decode cX0_two 45 = .ok (.ixor, 1) := dk_130 (dk_at dksX0_two_1 22 rfl rfl)
theorem dX0_two_46 : decode cX0_two 46 = .ok (.iand, 1) := dk_126 (dk_at dksX0_two_1 23 rfl rfl)
theorem dX0_two_47 : decode cX0_two 47 = .ok (.invokevirtual 297, 3) := dk_182 1 41 (dk_at dksX0_two_2 0 rfl rfl)
theorem dX0_two_50 : decode cX0_two 50 = .ok (.iadd, 1) := dk_96 (dk_at dksX0_two_2 3 rfl rfl)
theorem dX0_two_51 : decode cX0_two 51 = .ok (.istore 6, 2) := dk_54 6 (dk_at dksX0_two_2 4 rfl rfl)
theorem dX0_two_53 : decode cX0_two 53 = .ok (.iload 5, 2) := dk_21 5 (dk_at dksX0_two_2 6 rfl rfl)
theorem dX0_two_55 : decode cX0_two 55 = .ok (.ifCond .le 13, 3) := dk_158 0 13 (dk_at dksX0_two_2 8 rfl rfl)
theorem dX0_two_58 : decode cX0_two 58 = .ok (.iload 6, 2) := dk_21 6 (dk_at dksX0_two_2 11 rfl rfl)
theorem dX0_two_60 : decode cX0_two 60 = .ok (.iload 4, 2) := dk_21 4 (dk_at dksX0_two_2 13 rfl rfl)
theorem dX0_two_62 : decode cX0_two 62 = .ok (.if_icmp .lt 6, 3) := dk_161 0 6 (dk_at dksX0_two_2 15 rfl rfl)
theorem dX0_two_65 : decode cX0_two 65 = .ok (.goto 10, 3) := dk_167 0 10 (dk_at dksX0_two_2 18 rfl rfl)
theorem dX0_two_68 : decode cX0_two 68 = .ok (.iload 6, 2) := dk_21 6 (dk_at dksX0_two_2 21 rfl rfl)
theorem dX0_two_70 : decode cX0_two 70 = .ok (.istore 4, 2) := dk_54 4 (dk_at dksX0_two_3 0 rfl rfl)
theorem dX0_two_72 : decode cX0_two 72 = .ok (.iload 5, 2) := dk_21 5 (dk_at dksX0_two_3 2 rfl rfl)
theorem dX0_two_74 : decode cX0_two 74 = .ok (.istore_n 3, 1) := dk_62 (dk_at dksX0_two_3 4 rfl rfl)
theorem dX0_two_75 : decode cX0_two 75 = .ok (.iinc 5 1, 3) := dk_132 5 1 (dk_at dksX0_two_3 5 rfl rfl)
theorem dX0_two_78 : decode cX0_two 78 = .ok (.goto (-50), 3) := dk_167 255 206 (dk_at dksX0_two_3 8 rfl rfl)
theorem dX0_two_81 : decode cX0_two 81 = .ok (.iload_n 1, 1) := dk_27 (dk_at dksX0_two_3 11 rfl rfl)
theorem dX0_two_82 : decode cX0_two 82 = .ok (.ifCond .ne 8, 3) := dk_154 0 8 (dk_at dksX0_two_3 12 rfl rfl)
theorem dX0_two_85 : decode cX0_two 85 = .ok (.iload 4, 2) := dk_21 4 (dk_at dksX0_two_3 15 rfl rfl)
theorem dX0_two_87 : decode cX0_two 87 = .ok (.goto 4, 3) := dk_167 0 4 (dk_at dksX0_two_3 17 rfl rfl)
theorem dX0_two_90 : decode cX0_two 90 = .ok (.iload_n 3, 1) := dk_29 (dk_at dksX0_two_3 20 rfl rfl)
theorem dX0_two_91 : decode cX0_two 91 = .ok (.ireturn, 1) := dk_172 (dk_at dksX0_two_3 21 rfl rfl)
theorem gf_two : xV yX0_two RX0 cX0_two 7 (some .int) 1 := ⟨q1087, q1088, q87, q1089, ⟨rfl, by decide +kernel, by decide +kernel, by decide +kernel⟩, by decide⟩
abbrev cX0_pays : ByteArray := prog_1_method_40_code
def yX0_pays : MethodName := ⟨RX0, "pays", "(I)I"⟩
def dkwX0_pays_2 : List UInt8 := [162, 0, 11, 42, 27, 182, 0, 211, 167, 0, 9, 42, 28, 182, 0, 211, 116, 172]
abbrev dktX0_pays_2 : List UInt8 := dkwX0_pays_2 ++ []
def dkwX0_pays_1 : List UInt8 := [182, 0, 252, 42, 42, 180, 0, 31, 27, 182, 0, 245, 87, 42, 42, 180, 0, 31, 28, 182, 1, 30, 29]
abbrev dktX0_pays_1 : List UInt8 := dkwX0_pays_1 ++ dktX0_pays_2
def dkwX0_pays_0 : List UInt8 := [27, 4, 96, 61, 42, 42, 180, 0, 27, 28, 182, 1, 30, 62, 42, 180, 0, 31, 42, 180, 0, 27]
abbrev dktX0_pays_0 : List UInt8 := dkwX0_pays_0 ++ dktX0_pays_1
theorem dksX0_pays_0 : cX0_pays.data.toList.drop 0 = dktX0_pays_0 := by decide +kernel
theorem dksX0_pays_1 : cX0_pays.data.toList.drop 22 = dktX0_pays_1 := dk_seg dksX0_pays_0 22 rfl rfl
theorem dksX0_pays_2 : cX0_pays.data.toList.drop 45 = dktX0_pays_2 := dk_seg dksX0_pays_1 23 rfl rfl
theorem dX0_pays_0 : decode cX0_pays 0 = .ok (.iload_n 1, 1) := dk_27 (dk_at dksX0_pays_0 0 rfl rfl)
theorem dX0_pays_1 : decode cX0_pays 1 = .ok (.iconst 1, 1) := dk_4 (dk_at dksX0_pays_0 1 rfl rfl)
theorem dX0_pays_2 : decode cX0_pays 2 = .ok (.iadd, 1) := dk_96 (dk_at dksX0_pays_0 2 rfl rfl)
theorem dX0_pays_3 : decode cX0_pays 3 = .ok (.istore_n 2, 1) := dk_61 (dk_at dksX0_pays_0 3 rfl rfl)
theorem dX0_pays_4 : decode cX0_pays 4 = .ok (.aload_n 0, 1) := dk_42 (dk_at dksX0_pays_0 4 rfl rfl)
theorem dX0_pays_5 : decode cX0_pays 5 = .ok (.aload_n 0, 1) := dk_42 (dk_at dksX0_pays_0 5 rfl rfl)
theorem dX0_pays_6 : decode cX0_pays 6 = .ok (.getfield 27, 3) := dk_180 0 27 (dk_at dksX0_pays_0 6 rfl rfl)
theorem dX0_pays_9 : decode cX0_pays 9 = .ok (.iload_n 2, 1) := dk_28 (dk_at dksX0_pays_0 9 rfl rfl)
theorem dX0_pays_10 : decode cX0_pays 10 = .ok (.invokevirtual 286, 3) := dk_182 1 30 (dk_at dksX0_pays_0 10 rfl rfl)
theorem dX0_pays_13 : decode cX0_pays 13 = .ok (.istore_n 3, 1) := dk_62 (dk_at dksX0_pays_0 13 rfl rfl)
theorem dX0_pays_14 : decode cX0_pays 14 = .ok (.aload_n 0, 1) := dk_42 (dk_at dksX0_pays_0 14 rfl rfl)
theorem dX0_pays_15 : decode cX0_pays 15 = .ok (.getfield 31, 3) := dk_180 0 31 (dk_at dksX0_pays_0 15 rfl rfl)
theorem dX0_pays_18 : decode cX0_pays 18 = .ok (.aload_n 0, 1) := dk_42 (dk_at dksX0_pays_0 18 rfl rfl)
theorem dX0_pays_19 : decode cX0_pays 19 = .ok (.getfield 27, 3) := dk_180 0 27 (dk_at dksX0_pays_0 19 rfl rfl)
theorem dX0_pays_22 : decode cX0_pays 22 = .ok (.invokevirtual 252, 3) := dk_182 0 252 (dk_at dksX0_pays_1 0 rfl rfl)
theorem dX0_pays_25 : decode cX0_pays 25 = .ok (.aload_n 0, 1) := dk_42 (dk_at dksX0_pays_1 3 rfl rfl)
theorem dX0_pays_26 : decode cX0_pays 26 = .ok (.aload_n 0, 1) := dk_42 (dk_at dksX0_pays_1 4 rfl rfl)
theorem dX0_pays_27 : decode cX0_pays 27 = .ok (.getfield 31, 3) := dk_180 0 31 (dk_at dksX0_pays_1 5 rfl rfl)
theorem dX0_pays_30 : decode cX0_pays 30 = .ok (.iload_n 1, 1) := dk_27 (dk_at dksX0_pays_1 8 rfl rfl)
theorem dX0_pays_31 : decode cX0_pays 31 = .ok (.invokevirtual 245, 3) := dk_182 0 245 (dk_at dksX0_pays_1 9 rfl rfl)
theorem dX0_pays_34 : decode cX0_pays 34 = .ok (.pop, 1) := dk_87 (dk_at dksX0_pays_1 12 rfl rfl)
theorem dX0_pays_35 : decode cX0_pays 35 = .ok (.aload_n 0, 1) := dk_42 (dk_at dksX0_pays_1 13 rfl rfl)
theorem dX0_pays_36 : decode cX0_pays 36 = .ok (.aload_n 0, 1) := dk_42 (dk_at dksX0_pays_1 14 rfl rfl)
theorem dX0_pays_37 : decode cX0_pays 37 = .ok (.getfield 31, 3) := dk_180 0 31 (dk_at dksX0_pays_1 15 rfl rfl)
theorem dX0_pays_40 : decode cX0_pays 40 = .ok (.iload_n 2, 1) := dk_28 (dk_at dksX0_pays_1 18 rfl rfl)
theorem dX0_pays_41 : decode cX0_pays 41 = .ok (.invokevirtual 286, 3) := dk_182 1 30 (dk_at dksX0_pays_1 19 rfl rfl)
theorem dX0_pays_44 : decode cX0_pays 44 = .ok (.iload_n 3, 1) := dk_29 (dk_at dksX0_pays_1 22 rfl rfl)
theorem dX0_pays_45 : decode cX0_pays 45 = .ok (.if_icmp .ge 11, 3) := dk_162 0 11 (dk_at dksX0_pays_2 0 rfl rfl)
theorem dX0_pays_48 : decode cX0_pays 48 = .ok (.aload_n 0, 1) := dk_42 (dk_at dksX0_pays_2 3 rfl rfl)
theorem dX0_pays_49 : decode cX0_pays 49 = .ok (.iload_n 1, 1) := dk_27 (dk_at dksX0_pays_2 4 rfl rfl)
theorem dX0_pays_50 : decode cX0_pays 50 = .ok (.invokevirtual 211, 3) := dk_182 0 211 (dk_at dksX0_pays_2 5 rfl rfl)
theorem dX0_pays_53 : decode cX0_pays 53 = .ok (.goto 9, 3) := dk_167 0 9 (dk_at dksX0_pays_2 8 rfl rfl)
theorem dX0_pays_56 : decode cX0_pays 56 = .ok (.aload_n 0, 1) := dk_42 (dk_at dksX0_pays_2 11 rfl rfl)
theorem dX0_pays_57 : decode cX0_pays 57 = .ok (.iload_n 2, 1) := dk_28 (dk_at dksX0_pays_2 12 rfl rfl)
theorem dX0_pays_58 : decode cX0_pays 58 = .ok (.invokevirtual 211, 3) := dk_182 0 211 (dk_at dksX0_pays_2 13 rfl rfl)
theorem dX0_pays_61 : decode cX0_pays 61 = .ok (.ineg, 1) := dk_116 (dk_at dksX0_pays_2 16 rfl rfl)
theorem dX0_pays_62 : decode cX0_pays 62 = .ok (.ireturn, 1) := dk_172 (dk_at dksX0_pays_2 17 rfl rfl)
theorem gf_pays : xV yX0_pays RX0 cX0_pays 4 (some .int) 1 := ⟨q1101, qs36, q87, q1102, ⟨rfl, by decide +kernel, by decide +kernel, by decide +kernel⟩, by decide⟩
abbrev cX0_has : ByteArray := prog_1_method_41_code
def yX0_has : MethodName := ⟨RX0, "has", "(I)I"⟩
def dkwX0_has_1 : List UInt8 := [182, 1, 45, 167, 0, 4, 3, 27, 158, 0, 13, 42, 27, 4, 100, 182, 1, 45, 167, 0, 4, 3, 100, 172]
abbrev dktX0_has_1 : List UInt8 := dkwX0_has_1 ++ []
def dkwX0_has_0 : List UInt8 := [42, 27, 182, 0, 140, 154, 0, 7, 19, 1, 44, 172, 27, 4, 96, 42, 180, 0, 107, 162, 0, 11, 42, 27]
abbrev dktX0_has_0 : List UInt8 := dkwX0_has_0 ++ dktX0_has_1
theorem dksX0_has_0 : cX0_has.data.toList.drop 0 = dktX0_has_0 := by decide +kernel
theorem dksX0_has_1 : cX0_has.data.toList.drop 24 = dktX0_has_1 := dk_seg dksX0_has_0 24 rfl rfl
theorem dX0_has_0 : decode cX0_has 0 = .ok (.aload_n 0, 1) := dk_42 (dk_at dksX0_has_0 0 rfl rfl)
theorem dX0_has_1 : decode cX0_has 1 = .ok (.iload_n 1, 1) := dk_27 (dk_at dksX0_has_0 1 rfl rfl)
theorem dX0_has_2 : decode cX0_has 2 = .ok (.invokevirtual 140, 3) := dk_182 0 140 (dk_at dksX0_has_0 2 rfl rfl)
theorem dX0_has_5 : decode cX0_has 5 = .ok (.ifCond .ne 7, 3) := dk_154 0 7 (dk_at dksX0_has_0 5 rfl rfl)
theorem dX0_has_8 : decode cX0_has 8 = .ok (.ldc_w 300, 3) := dk_19 1 44 (dk_at dksX0_has_0 8 rfl rfl)
theorem dX0_has_11 : decode cX0_has 11 = .ok (.ireturn, 1) := dk_172 (dk_at dksX0_has_0 11 rfl rfl)
theorem dX0_has_12 : decode cX0_has 12 = .ok (.iload_n 1, 1) := dk_27 (dk_at dksX0_has_0 12 rfl rfl)
theorem dX0_has_13 : decode cX0_has 13 = .ok (.iconst 1, 1) := dk_4 (dk_at dksX0_has_0 13 rfl rfl)
theorem dX0_has_14 : decode cX0_has 14 = .ok (.iadd, 1) := dk_96 (dk_at dksX0_has_0 14 rfl rfl)
theorem dX0_has_15 : decode cX0_has 15 = .ok (.aload_n 0, 1) := dk_42 (dk_at dksX0_has_0 15 rfl rfl)
theorem dX0_has_16 : decode cX0_has 16 = .ok (.getfield 107, 3) := dk_180 0 107 (dk_at dksX0_has_0 16 rfl rfl)
theorem dX0_has_19 : decode cX0_has 19 = .ok (.if_icmp .ge 11, 3) := dk_162 0 11 (dk_at dksX0_has_0 19 rfl rfl)
theorem dX0_has_22 : decode cX0_has 22 = .ok (.aload_n 0, 1) := dk_42 (dk_at dksX0_has_0 22 rfl rfl)
theorem dX0_has_23 : decode cX0_has 23 = .ok (.iload_n 1, 1) := dk_27 (dk_at dksX0_has_0 23 rfl rfl)
theorem dX0_has_24 : decode cX0_has 24 = .ok (.invokevirtual 301, 3) := dk_182 1 45 (dk_at dksX0_has_1 0 rfl rfl)
theorem dX0_has_27 : decode cX0_has 27 = .ok (.goto 4, 3) := dk_167 0 4 (dk_at dksX0_has_1 3 rfl rfl)
theorem dX0_has_30 : decode cX0_has 30 = .ok (.iconst 0, 1) := dk_3 (dk_at dksX0_has_1 6 rfl rfl)
theorem dX0_has_31 : decode cX0_has 31 = .ok (.iload_n 1, 1) := dk_27 (dk_at dksX0_has_1 7 rfl rfl)
theorem dX0_has_32 : decode cX0_has 32 = .ok (.ifCond .le 13, 3) := dk_158 0 13 (dk_at dksX0_has_1 8 rfl rfl)
theorem dX0_has_35 : decode cX0_has 35 = .ok (.aload_n 0, 1) := dk_42 (dk_at dksX0_has_1 11 rfl rfl)
theorem dX0_has_36 : decode cX0_has 36 = .ok (.iload_n 1, 1) := dk_27 (dk_at dksX0_has_1 12 rfl rfl)
theorem dX0_has_37 : decode cX0_has 37 = .ok (.iconst 1, 1) := dk_4 (dk_at dksX0_has_1 13 rfl rfl)
theorem dX0_has_38 : decode cX0_has 38 = .ok (.isub, 1) := dk_100 (dk_at dksX0_has_1 14 rfl rfl)
theorem dX0_has_39 : decode cX0_has 39 = .ok (.invokevirtual 301, 3) := dk_182 1 45 (dk_at dksX0_has_1 15 rfl rfl)
theorem dX0_has_42 : decode cX0_has 42 = .ok (.goto 4, 3) := dk_167 0 4 (dk_at dksX0_has_1 18 rfl rfl)
theorem dX0_has_45 : decode cX0_has 45 = .ok (.iconst 0, 1) := dk_3 (dk_at dksX0_has_1 21 rfl rfl)
theorem dX0_has_46 : decode cX0_has 46 = .ok (.isub, 1) := dk_100 (dk_at dksX0_has_1 22 rfl rfl)
theorem dX0_has_47 : decode cX0_has 47 = .ok (.ireturn, 1) := dk_172 (dk_at dksX0_has_1 23 rfl rfl)
theorem gf_has : xV yX0_has RX0 cX0_has 2 (some .int) 1 := ⟨q1095, q1096, q87, q1097, ⟨rfl, by decide +kernel, by decide +kernel, by decide +kernel⟩, by decide⟩
abbrev cX0_takesChanged : ByteArray := prog_1_method_42_code
def yX0_takesChanged : MethodName := ⟨RX0, "takesChanged", "(II)I"⟩
def dkwX0_takesChanged_3 : List UInt8 := [21, 4, 27, 160, 0, 8, 42, 182, 1, 48, 172, 132, 3, 1, 167, 255, 187, 3, 172]
abbrev dktX0_takesChanged_3 : List UInt8 := dkwX0_takesChanged_3 ++ []
def dkwX0_takesChanged_2 : List UInt8 := [160, 0, 9, 29, 4, 100, 167, 0, 4, 29, 54, 4, 42, 42, 180, 0, 31, 21, 4, 182, 0, 245, 87]
abbrev dktX0_takesChanged_2 : List UInt8 := dkwX0_takesChanged_2 ++ dktX0_takesChanged_3
def dkwX0_takesChanged_1 : List UInt8 := [160, 0, 7, 29, 167, 0, 28, 29, 28, 160, 0, 9, 29, 4, 96, 167, 0, 17, 29, 28, 4, 96]
abbrev dktX0_takesChanged_1 : List UInt8 := dkwX0_takesChanged_1 ++ dktX0_takesChanged_2
def dkwX0_takesChanged_0 : List UInt8 := [42, 180, 0, 31, 42, 180, 0, 27, 182, 0, 252, 3, 62, 29, 42, 180, 0, 107, 162, 0, 67, 28, 2]
abbrev dktX0_takesChanged_0 : List UInt8 := dkwX0_takesChanged_0 ++ dktX0_takesChanged_1
theorem dksX0_takesChanged_0 : cX0_takesChanged.data.toList.drop 0 = dktX0_takesChanged_0 := by decide +kernel
theorem dksX0_takesChanged_1 : cX0_takesChanged.data.toList.drop 23 = dktX0_takesChanged_1 := dk_seg dksX0_takesChanged_0 23 rfl rfl
theorem dksX0_takesChanged_2 : cX0_takesChanged.data.toList.drop 45 = dktX0_takesChanged_2 := dk_seg dksX0_takesChanged_1 22 rfl rfl
theorem dksX0_takesChanged_3 : cX0_takesChanged.data.toList.drop 68 = dktX0_takesChanged_3 := dk_seg dksX0_takesChanged_2 23 rfl rfl
theorem dX0_takesChanged_0 : decode cX0_takesChanged 0 = .ok (.aload_n 0, 1) := dk_42 (dk_at dksX0_takesChanged_0 0 rfl rfl)
theorem dX0_takesChanged_1 : decode cX0_takesChanged 1 = .ok (.getfield 31, 3) := dk_180 0 31 (dk_at dksX0_takesChanged_0 1 rfl rfl)
theorem dX0_takesChanged_4 : decode cX0_takesChanged 4 = .ok (.aload_n 0, 1) := dk_42 (dk_at dksX0_takesChanged_0 4 rfl rfl)
theorem dX0_takesChanged_5 : decode cX0_takesChanged 5 = .ok (.getfield 27, 3) := dk_180 0 27 (dk_at dksX0_takesChanged_0 5 rfl rfl)
theorem dX0_takesChanged_8 : decode cX0_takesChanged 8 = .ok (.invokevirtual 252, 3) := dk_182 0 252 (dk_at dksX0_takesChanged_0 8 rfl rfl)
theorem dX0_takesChanged_11 : decode cX0_takesChanged 11 = .ok (.iconst 0, 1) := dk_3 (dk_at dksX0_takesChanged_0 11 rfl rfl)
theorem dX0_takesChanged_12 : decode cX0_takesChanged 12 = .ok (.istore_n 3, 1) := dk_62 (dk_at dksX0_takesChanged_0 12 rfl rfl)
theorem dX0_takesChanged_13 : decode cX0_takesChanged 13 = .ok (.iload_n 3, 1) := dk_29 (dk_at dksX0_takesChanged_0 13 rfl rfl)
theorem dX0_takesChanged_14 : decode cX0_takesChanged 14 = .ok (.aload_n 0, 1) := dk_42 (dk_at dksX0_takesChanged_0 14 rfl rfl)
theorem dX0_takesChanged_15 : decode cX0_takesChanged 15 = .ok (.getfield 107, 3) := dk_180 0 107 (dk_at dksX0_takesChanged_0 15 rfl rfl)
theorem dX0_takesChanged_18 : decode cX0_takesChanged 18 = .ok (.if_icmp .ge 67, 3) := dk_162 0 67 (dk_at dksX0_takesChanged_0 18 rfl rfl)
theorem dX0_takesChanged_21 : decode cX0_takesChanged 21 = .ok (.iload_n 2, 1) := dk_28 (dk_at dksX0_takesChanged_0 21 rfl rfl)
theorem dX0_takesChanged_22 : decode cX0_takesChanged 22 = .ok (.iconst (-1), 1) := dk_2 (dk_at dksX0_takesChanged_0 22 rfl rfl)
theorem dX0_takesChanged_23 : decode cX0_takesChanged 23 = .ok (.if_icmp .ne 7, 3) := dk_160 0 7 (dk_at dksX0_takesChanged_1 0 rfl rfl)
theorem dX0_takesChanged_26 : decode cX0_takesChanged 26 = .ok (.iload_n 3, 1) := dk_29 (dk_at dksX0_takesChanged_1 3 rfl rfl)
theorem dX0_takesChanged_27 : decode cX0_takesChanged 27 = .ok (.goto 28, 3) := dk_167 0 28 (dk_at dksX0_takesChanged_1 4 rfl rfl)
theorem dX0_takesChanged_30 : decode cX0_takesChanged 30 = .ok (.iload_n 3, 1) := dk_29 (dk_at dksX0_takesChanged_1 7 rfl rfl)
theorem dX0_takesChanged_31 : decode cX0_takesChanged 31 = .ok (.iload_n 2, 1) := dk_28 (dk_at dksX0_takesChanged_1 8 rfl rfl)
theorem dX0_takesChanged_32 : decode cX0_takesChanged 32 = .ok (.if_icmp .ne 9, 3) := dk_160 0 9 (dk_at dksX0_takesChanged_1 9 rfl rfl)
theorem dX0_takesChanged_35 : decode cX0_takesChanged 35 = .ok (.iload_n 3, 1) := dk_29 (dk_at dksX0_takesChanged_1 12 rfl rfl)
theorem dX0_takesChanged_36 : decode cX0_takesChanged 36 = .ok (.iconst 1, 1) := dk_4 (dk_at dksX0_takesChanged_1 13 rfl rfl)
theorem dX0_takesChanged_37 : decode cX0_takesChanged 37 = .ok (.iadd, 1) := dk_96 (dk_at dksX0_takesChanged_1 14 rfl rfl)
theorem dX0_takesChanged_38 : decode cX0_takesChanged 38 = .ok (.goto 17, 3) := dk_167 0 17 (dk_at dksX0_takesChanged_1 15 rfl rfl)
theorem dX0_takesChanged_41 : decode cX0_takesChanged 41 = .ok (.iload_n 3, 1) := dk_29 (dk_at dksX0_takesChanged_1 18 rfl rfl)
theorem dX0_takesChanged_42 : decode cX0_takesChanged 42 = .ok (.iload_n 2, 1) := dk_28 (dk_at dksX0_takesChanged_1 19 rfl rfl)
theorem dX0_takesChanged_43 : decode cX0_takesChanged 43 = .ok (.iconst 1, 1) := dk_4 (dk_at dksX0_takesChanged_1 20 rfl rfl)
theorem dX0_takesChanged_44 : decode cX0_takesChanged 44 = .ok (.iadd, 1) := dk_96 (dk_at dksX0_takesChanged_1 21 rfl rfl)
theorem dX0_takesChanged_45 : decode cX0_takesChanged 45 = .ok (.if_icmp .ne 9, 3) := dk_160 0 9 (dk_at dksX0_takesChanged_2 0 rfl rfl)
theorem dX0_takesChanged_48 : decode cX0_takesChanged 48 = .ok (.iload_n 3, 1) := dk_29 (dk_at dksX0_takesChanged_2 3 rfl rfl)
theorem dX0_takesChanged_49 : decode cX0_takesChanged 49 = .ok (.iconst 1, 1) := dk_4 (dk_at dksX0_takesChanged_2 4 rfl rfl)
theorem dX0_takesChanged_50 : decode cX0_takesChanged 50 = .ok (.isub, 1) := dk_100 (dk_at dksX0_takesChanged_2 5 rfl rfl)
theorem dX0_takesChanged_51 : decode cX0_takesChanged 51 = .ok (.goto 4, 3) := dk_167 0 4 (dk_at dksX0_takesChanged_2 6 rfl rfl)
theorem dX0_takesChanged_54 : decode cX0_takesChanged 54 = .ok (.iload_n 3, 1) := dk_29 (dk_at dksX0_takesChanged_2 9 rfl rfl)
theorem dX0_takesChanged_55 : decode cX0_takesChanged 55 = .ok (.istore 4, 2) := dk_54 4 (dk_at dksX0_takesChanged_2 10 rfl rfl)
theorem dX0_takesChanged_57 : decode cX0_takesChanged 57 = .ok (.aload_n 0, 1) := dk_42 (dk_at dksX0_takesChanged_2 12 rfl rfl)
theorem dX0_takesChanged_58 : decode cX0_takesChanged 58 = .ok (.aload_n 0, 1) := dk_42 (dk_at dksX0_takesChanged_2 13 rfl rfl)
theorem dX0_takesChanged_59 : decode cX0_takesChanged 59 = .ok (.getfield 31, 3) := dk_180 0 31 (dk_at dksX0_takesChanged_2 14 rfl rfl)
theorem dX0_takesChanged_62 : decode cX0_takesChanged 62 = .ok (.iload 4, 2) := dk_21 4 (dk_at dksX0_takesChanged_2 17 rfl rfl)
theorem dX0_takesChanged_64 : decode cX0_takesChanged 64 = .ok (.invokevirtual 245, 3) := dk_182 0 245 (dk_at dksX0_takesChanged_2 19 rfl rfl)
theorem dX0_takesChanged_67 : decode cX0_takesChanged 67 = .ok (.pop, 1) := dk_87 (dk_at dksX0_takesChanged_2 22 rfl rfl)
theorem dX0_takesChanged_68 : decode cX0_takesChanged 68 = .ok (.iload 4, 2) := dk_21 4 (dk_at dksX0_takesChanged_3 0 rfl rfl)
theorem dX0_takesChanged_70 : decode cX0_takesChanged 70 = .ok (.iload_n 1, 1) := dk_27 (dk_at dksX0_takesChanged_3 2 rfl rfl)
theorem dX0_takesChanged_71 : decode cX0_takesChanged 71 = .ok (.if_icmp .ne 8, 3) := dk_160 0 8 (dk_at dksX0_takesChanged_3 3 rfl rfl)
theorem dX0_takesChanged_74 : decode cX0_takesChanged 74 = .ok (.aload_n 0, 1) := dk_42 (dk_at dksX0_takesChanged_3 6 rfl rfl)
theorem dX0_takesChanged_75 : decode cX0_takesChanged 75 = .ok (.invokevirtual 304, 3) := dk_182 1 48 (dk_at dksX0_takesChanged_3 7 rfl rfl)
theorem dX0_takesChanged_78 : decode cX0_takesChanged 78 = .ok (.ireturn, 1) := dk_172 (dk_at dksX0_takesChanged_3 10 rfl rfl)
theorem dX0_takesChanged_79 : decode cX0_takesChanged 79 = .ok (.iinc 3 1, 3) := dk_132 3 1 (dk_at dksX0_takesChanged_3 11 rfl rfl)
theorem dX0_takesChanged_82 : decode cX0_takesChanged 82 = .ok (.goto (-69), 3) := dk_167 255 187 (dk_at dksX0_takesChanged_3 14 rfl rfl)
theorem dX0_takesChanged_85 : decode cX0_takesChanged 85 = .ok (.iconst 0, 1) := dk_3 (dk_at dksX0_takesChanged_3 17 rfl rfl)
theorem dX0_takesChanged_86 : decode cX0_takesChanged 86 = .ok (.ireturn, 1) := dk_172 (dk_at dksX0_takesChanged_3 18 rfl rfl)
theorem gf_takesChanged : xV yX0_takesChanged RX0 cX0_takesChanged 5 (some .int) 2 := ⟨q1109, qs37, q87, q1110, ⟨rfl, by decide +kernel, by decide +kernel, by decide +kernel⟩, by decide⟩
abbrev cX0_swaps : ByteArray := prog_1_method_43_code
def yX0_swaps : MethodName := ⟨RX0, "swaps", "(I)I"⟩
def dkwX0_swaps_3 : List UInt8 := [172]
abbrev dktX0_swaps_3 : List UInt8 := dkwX0_swaps_3 ++ []
def dkwX0_swaps_2 : List UInt8 := [182, 1, 51, 100, 62, 28, 157, 0, 17, 29, 157, 0, 13, 28, 29, 96, 156, 0, 7, 4, 167, 0, 4, 3]
abbrev dktX0_swaps_2 : List UInt8 := dkwX0_swaps_2 ++ dktX0_swaps_3
def dkwX0_swaps_1 : List UInt8 := [182, 1, 51, 42, 27, 2, 182, 1, 51, 100, 61, 42, 27, 4, 96, 27, 182, 1, 51, 42, 27, 4, 96, 2]
abbrev dktX0_swaps_1 : List UInt8 := dkwX0_swaps_1 ++ dktX0_swaps_2
def dkwX0_swaps_0 : List UInt8 := [42, 27, 182, 0, 140, 153, 0, 13, 27, 42, 180, 0, 107, 4, 100, 160, 0, 5, 2, 172, 42, 27, 27]
abbrev dktX0_swaps_0 : List UInt8 := dkwX0_swaps_0 ++ dktX0_swaps_1
theorem dksX0_swaps_0 : cX0_swaps.data.toList.drop 0 = dktX0_swaps_0 := by decide +kernel
theorem dksX0_swaps_1 : cX0_swaps.data.toList.drop 23 = dktX0_swaps_1 := dk_seg dksX0_swaps_0 23 rfl rfl
theorem dksX0_swaps_2 : cX0_swaps.data.toList.drop 47 = dktX0_swaps_2 := dk_seg dksX0_swaps_1 24 rfl rfl
theorem dksX0_swaps_3 : cX0_swaps.data.toList.drop 71 = dktX0_swaps_3 := dk_seg dksX0_swaps_2 24 rfl rfl
theorem dX0_swaps_0 : decode cX0_swaps 0 = .ok (.aload_n 0, 1) := dk_42 (dk_at dksX0_swaps_0 0 rfl rfl)
theorem dX0_swaps_1 : decode cX0_swaps 1 = .ok (.iload_n 1, 1) := dk_27 (dk_at dksX0_swaps_0 1 rfl rfl)
theorem dX0_swaps_2 : decode cX0_swaps 2 = .ok (.invokevirtual 140, 3) := dk_182 0 140 (dk_at dksX0_swaps_0 2 rfl rfl)
theorem dX0_swaps_5 : decode cX0_swaps 5 = .ok (.ifCond .eq 13, 3) := dk_153 0 13 (dk_at dksX0_swaps_0 5 rfl rfl)
theorem dX0_swaps_8 : decode cX0_swaps 8 = .ok (.iload_n 1, 1) := dk_27 (dk_at dksX0_swaps_0 8 rfl rfl)
theorem dX0_swaps_9 : decode cX0_swaps 9 = .ok (.aload_n 0, 1) := dk_42 (dk_at dksX0_swaps_0 9 rfl rfl)
theorem dX0_swaps_10 : decode cX0_swaps 10 = .ok (.getfield 107, 3) := dk_180 0 107 (dk_at dksX0_swaps_0 10 rfl rfl)
theorem dX0_swaps_13 : decode cX0_swaps 13 = .ok (.iconst 1, 1) := dk_4 (dk_at dksX0_swaps_0 13 rfl rfl)
theorem dX0_swaps_14 : decode cX0_swaps 14 = .ok (.isub, 1) := dk_100 (dk_at dksX0_swaps_0 14 rfl rfl)
theorem dX0_swaps_15 : decode cX0_swaps 15 = .ok (.if_icmp .ne 5, 3) := dk_160 0 5 (dk_at dksX0_swaps_0 15 rfl rfl)
theorem dX0_swaps_18 : decode cX0_swaps 18 = .ok (.iconst (-1), 1) := dk_2 (dk_at dksX0_swaps_0 18 rfl rfl)
theorem dX0_swaps_19 : decode cX0_swaps 19 = .ok (.ireturn, 1) := dk_172 (dk_at dksX0_swaps_0 19 rfl rfl)
theorem dX0_swaps_20 : decode cX0_swaps 20 = .ok (.aload_n 0, 1) := dk_42 (dk_at dksX0_swaps_0 20 rfl rfl)
theorem dX0_swaps_21 : decode cX0_swaps 21 = .ok (.iload_n 1, 1) := dk_27 (dk_at dksX0_swaps_0 21 rfl rfl)
theorem dX0_swaps_22 : decode cX0_swaps 22 = .ok (.iload_n 1, 1) := dk_27 (dk_at dksX0_swaps_0 22 rfl rfl)
theorem dX0_swaps_23 : decode cX0_swaps 23 = .ok (.invokevirtual 307, 3) := dk_182 1 51 (dk_at dksX0_swaps_1 0 rfl rfl)
theorem dX0_swaps_26 : decode cX0_swaps 26 = .ok (.aload_n 0, 1) := dk_42 (dk_at dksX0_swaps_1 3 rfl rfl)
theorem dX0_swaps_27 : decode cX0_swaps 27 = .ok (.iload_n 1, 1) := dk_27 (dk_at dksX0_swaps_1 4 rfl rfl)
theorem dX0_swaps_28 : decode cX0_swaps 28 = .ok (.iconst (-1), 1) := dk_2 (dk_at dksX0_swaps_1 5 rfl rfl)
theorem dX0_swaps_29 : decode cX0_swaps 29 = .ok (.invokevirtual 307, 3) := dk_182 1 51 (dk_at dksX0_swaps_1 6 rfl rfl)
theorem dX0_swaps_32 : decode cX0_swaps 32 = .ok (.isub, 1) := dk_100 (dk_at dksX0_swaps_1 9 rfl rfl)
theorem dX0_swaps_33 : decode cX0_swaps 33 = .ok (.istore_n 2, 1) := dk_61 (dk_at dksX0_swaps_1 10 rfl rfl)
theorem dX0_swaps_34 : decode cX0_swaps 34 = .ok (.aload_n 0, 1) := dk_42 (dk_at dksX0_swaps_1 11 rfl rfl)
theorem dX0_swaps_35 : decode cX0_swaps 35 = .ok (.iload_n 1, 1) := dk_27 (dk_at dksX0_swaps_1 12 rfl rfl)
theorem dX0_swaps_36 : decode cX0_swaps 36 = .ok (.iconst 1, 1) := dk_4 (dk_at dksX0_swaps_1 13 rfl rfl)
theorem dX0_swaps_37 : decode cX0_swaps 37 = .ok (.iadd, 1) := dk_96 (dk_at dksX0_swaps_1 14 rfl rfl)
theorem dX0_swaps_38 : decode cX0_swaps 38 = .ok (.iload_n 1, 1) := dk_27 (dk_at dksX0_swaps_1 15 rfl rfl)
theorem dX0_swaps_39 : decode cX0_swaps 39 = .ok (.invokevirtual 307, 3) := dk_182 1 51 (dk_at dksX0_swaps_1 16 rfl rfl)
theorem dX0_swaps_42 : decode cX0_swaps 42 = .ok (.aload_n 0, 1) := dk_42 (dk_at dksX0_swaps_1 19 rfl rfl)
theorem dX0_swaps_43 : decode cX0_swaps 43 = .ok (.iload_n 1, 1) := dk_27 (dk_at dksX0_swaps_1 20 rfl rfl)
theorem dX0_swaps_44 : decode cX0_swaps 44 = .ok (.iconst 1, 1) := dk_4 (dk_at dksX0_swaps_1 21 rfl rfl)
theorem dX0_swaps_45 : decode cX0_swaps 45 = .ok (.iadd, 1) := dk_96 (dk_at dksX0_swaps_1 22 rfl rfl)
theorem dX0_swaps_46 : decode cX0_swaps 46 = .ok (.iconst (-1), 1) := dk_2 (dk_at dksX0_swaps_1 23 rfl rfl)
theorem dX0_swaps_47 : decode cX0_swaps 47 = .ok (.invokevirtual 307, 3) := dk_182 1 51 (dk_at dksX0_swaps_2 0 rfl rfl)
theorem dX0_swaps_50 : decode cX0_swaps 50 = .ok (.isub, 1) := dk_100 (dk_at dksX0_swaps_2 3 rfl rfl)
theorem dX0_swaps_51 : decode cX0_swaps 51 = .ok (.istore_n 3, 1) := dk_62 (dk_at dksX0_swaps_2 4 rfl rfl)
theorem dX0_swaps_52 : decode cX0_swaps 52 = .ok (.iload_n 2, 1) := dk_28 (dk_at dksX0_swaps_2 5 rfl rfl)
theorem dX0_swaps_53 : decode cX0_swaps 53 = .ok (.ifCond .gt 17, 3) := dk_157 0 17 (dk_at dksX0_swaps_2 6 rfl rfl)
theorem dX0_swaps_56 : decode cX0_swaps 56 = .ok (.iload_n 3, 1) := dk_29 (dk_at dksX0_swaps_2 9 rfl rfl)
theorem dX0_swaps_57 : decode cX0_swaps 57 = .ok (.ifCond .gt 13, 3) := dk_157 0 13 (dk_at dksX0_swaps_2 10 rfl rfl)
theorem dX0_swaps_60 : decode cX0_swaps 60 = .ok (.iload_n 2, 1) := dk_28 (dk_at dksX0_swaps_2 13 rfl rfl)
theorem dX0_swaps_61 : decode cX0_swaps 61 = .ok (.iload_n 3, 1) := dk_29 (dk_at dksX0_swaps_2 14 rfl rfl)
theorem dX0_swaps_62 : decode cX0_swaps 62 = .ok (.iadd, 1) := dk_96 (dk_at dksX0_swaps_2 15 rfl rfl)
theorem dX0_swaps_63 : decode cX0_swaps 63 = .ok (.ifCond .ge 7, 3) := dk_156 0 7 (dk_at dksX0_swaps_2 16 rfl rfl)
theorem dX0_swaps_66 : decode cX0_swaps 66 = .ok (.iconst 1, 1) := dk_4 (dk_at dksX0_swaps_2 19 rfl rfl)
theorem dX0_swaps_67 : decode cX0_swaps 67 = .ok (.goto 4, 3) := dk_167 0 4 (dk_at dksX0_swaps_2 20 rfl rfl)
theorem dX0_swaps_70 : decode cX0_swaps 70 = .ok (.iconst 0, 1) := dk_3 (dk_at dksX0_swaps_2 23 rfl rfl)
theorem dX0_swaps_71 : decode cX0_swaps 71 = .ok (.ireturn, 1) := dk_172 (dk_at dksX0_swaps_3 0 rfl rfl)
theorem gf_swaps : xV yX0_swaps RX0 cX0_swaps 4 (some .int) 1 := ⟨q1104, q1105, q87, q1106, ⟨rfl, by decide +kernel, by decide +kernel, by decide +kernel⟩, by decide⟩
abbrev cX0_span : ByteArray := prog_1_method_44_code
def yX0_span : MethodName := ⟨RX0, "span", "(IIII)I"⟩
def dkwX0_span_5 : List UInt8 := [160, 0, 7, 21, 7, 54, 5, 132, 7, 1, 167, 255, 181, 21, 5, 172]
abbrev dktX0_span_5 : List UInt8 := dkwX0_span_5 ++ []
def dkwX0_span_4 : List UInt8 := [21, 5, 16, 251, 159, 0, 9, 21, 4, 4, 160, 0, 21, 42, 27, 28, 21, 7, 21, 6, 182, 0, 178, 29]
abbrev dktX0_span_4 : List UInt8 := dkwX0_span_4 ++ dktX0_span_5
def dkwX0_span_3 : List UInt8 := [180, 0, 27, 27, 28, 21, 7, 182, 0, 170, 42, 180, 0, 41, 42, 180, 0, 48, 182, 0, 174, 54, 6]
abbrev dktX0_span_3 : List UInt8 := dkwX0_span_3 ++ dktX0_span_4
def dkwX0_span_2 : List UInt8 := [54, 6, 3, 54, 7, 21, 7, 17, 39, 15, 163, 0, 73, 21, 7, 16, 10, 112, 154, 0, 28, 42, 42]
abbrev dktX0_span_2 : List UInt8 := dkwX0_span_2 ++ dktX0_span_3
def dkwX0_span_1 : List UInt8 := [154, 0, 5, 2, 172, 29, 3, 17, 39, 15, 184, 0, 111, 154, 0, 6, 16, 254, 172, 16, 251, 54, 5, 3]
abbrev dktX0_span_1 : List UInt8 := dkwX0_span_1 ++ dktX0_span_2
def dkwX0_span_0 : List UInt8 := [42, 27, 182, 0, 140, 153, 0, 20, 28, 184, 0, 144, 153, 0, 13, 21, 4, 3, 4, 184, 0, 111]
abbrev dktX0_span_0 : List UInt8 := dkwX0_span_0 ++ dktX0_span_1
theorem dksX0_span_0 : cX0_span.data.toList.drop 0 = dktX0_span_0 := by decide +kernel
theorem dksX0_span_1 : cX0_span.data.toList.drop 22 = dktX0_span_1 := dk_seg dksX0_span_0 22 rfl rfl
theorem dksX0_span_2 : cX0_span.data.toList.drop 46 = dktX0_span_2 := dk_seg dksX0_span_1 24 rfl rfl
theorem dksX0_span_3 : cX0_span.data.toList.drop 69 = dktX0_span_3 := dk_seg dksX0_span_2 23 rfl rfl
theorem dksX0_span_4 : cX0_span.data.toList.drop 92 = dktX0_span_4 := dk_seg dksX0_span_3 23 rfl rfl
theorem dksX0_span_5 : cX0_span.data.toList.drop 116 = dktX0_span_5 := dk_seg dksX0_span_4 24 rfl rfl
theorem dX0_span_0 : decode cX0_span 0 = .ok (.aload_n 0, 1) := dk_42 (dk_at dksX0_span_0 0 rfl rfl)
theorem dX0_span_1 : decode cX0_span 1 = .ok (.iload_n 1, 1) := dk_27 (dk_at dksX0_span_0 1 rfl rfl)
theorem dX0_span_2 : decode cX0_span 2 = .ok (.invokevirtual 140, 3) := dk_182 0 140 (dk_at dksX0_span_0 2 rfl rfl)
theorem dX0_span_5 : decode cX0_span 5 = .ok (.ifCond .eq 20, 3) := dk_153 0 20 (dk_at dksX0_span_0 5 rfl rfl)
theorem dX0_span_8 : decode cX0_span 8 = .ok (.iload_n 2, 1) := dk_28 (dk_at dksX0_span_0 8 rfl rfl)
theorem dX0_span_9 : decode cX0_span 9 = .ok (.invokestatic 144, 3) := dk_184 0 144 (dk_at dksX0_span_0 9 rfl rfl)
theorem dX0_span_12 : decode cX0_span 12 = .ok (.ifCond .eq 13, 3) := dk_153 0 13 (dk_at dksX0_span_0 12 rfl rfl)
theorem dX0_span_15 : decode cX0_span 15 = .ok (.iload 4, 2) := dk_21 4 (dk_at dksX0_span_0 15 rfl rfl)
theorem dX0_span_17 : decode cX0_span 17 = .ok (.iconst 0, 1) := dk_3 (dk_at dksX0_span_0 17 rfl rfl)
theorem dX0_span_18 : decode cX0_span 18 = .ok (.iconst 1, 1) := dk_4 (dk_at dksX0_span_0 18 rfl rfl)
theorem dX0_span_19 : decode cX0_span 19 = .ok (.invokestatic 111, 3) := dk_184 0 111 (dk_at dksX0_span_0 19 rfl rfl)
theorem dX0_span_22 : decode cX0_span 22 = .ok (.ifCond .ne 5, 3) := dk_154 0 5 (dk_at dksX0_span_1 0 rfl rfl)
theorem dX0_span_25 : decode cX0_span 25 = .ok (.iconst (-1), 1) := dk_2 (dk_at dksX0_span_1 3 rfl rfl)
theorem dX0_span_26 : decode cX0_span 26 = .ok (.ireturn, 1) := dk_172 (dk_at dksX0_span_1 4 rfl rfl)
theorem dX0_span_27 : decode cX0_span 27 = .ok (.iload_n 3, 1) := dk_29 (dk_at dksX0_span_1 5 rfl rfl)
theorem dX0_span_28 : decode cX0_span 28 = .ok (.iconst 0, 1) := dk_3 (dk_at dksX0_span_1 6 rfl rfl)
theorem dX0_span_29 : decode cX0_span 29 = .ok (.sipush 9999, 3) := dk_17 39 15 (dk_at dksX0_span_1 7 rfl rfl)
theorem dX0_span_32 : decode cX0_span 32 = .ok (.invokestatic 111, 3) := dk_184 0 111 (dk_at dksX0_span_1 10 rfl rfl)
theorem dX0_span_35 : decode cX0_span 35 = .ok (.ifCond .ne 6, 3) := dk_154 0 6 (dk_at dksX0_span_1 13 rfl rfl)
theorem dX0_span_38 : decode cX0_span 38 = .ok (.bipush (-2), 2) := dk_16 254 (dk_at dksX0_span_1 16 rfl rfl)
theorem dX0_span_40 : decode cX0_span 40 = .ok (.ireturn, 1) := dk_172 (dk_at dksX0_span_1 18 rfl rfl)
theorem dX0_span_41 : decode cX0_span 41 = .ok (.bipush (-5), 2) := dk_16 251 (dk_at dksX0_span_1 19 rfl rfl)
theorem dX0_span_43 : decode cX0_span 43 = .ok (.istore 5, 2) := dk_54 5 (dk_at dksX0_span_1 21 rfl rfl)
theorem dX0_span_45 : decode cX0_span 45 = .ok (.iconst 0, 1) := dk_3 (dk_at dksX0_span_1 23 rfl rfl)
theorem dX0_span_46 : decode cX0_span 46 = .ok (.istore 6, 2) := dk_54 6 (dk_at dksX0_span_2 0 rfl rfl)
theorem dX0_span_48 : decode cX0_span 48 = .ok (.iconst 0, 1) := dk_3 (dk_at dksX0_span_2 2 rfl rfl)
theorem dX0_span_49 : decode cX0_span 49 = .ok (.istore 7, 2) := dk_54 7 (dk_at dksX0_span_2 3 rfl rfl)
theorem dX0_span_51 : decode cX0_span 51 = .ok (.iload 7, 2) := dk_21 7 (dk_at dksX0_span_2 5 rfl rfl)
theorem dX0_span_53 : decode cX0_span 53 = .ok (.sipush 9999, 3) := dk_17 39 15 (dk_at dksX0_span_2 7 rfl rfl)
theorem dX0_span_56 : decode cX0_span 56 = .ok (.if_icmp .gt 73, 3) := dk_163 0 73 (dk_at dksX0_span_2 10 rfl rfl)
theorem dX0_span_59 : decode cX0_span 59 = .ok (.iload 7, 2) := dk_21 7 (dk_at dksX0_span_2 13 rfl rfl)
theorem dX0_span_61 : decode cX0_span 61 = .ok (.bipush 10, 2) := dk_16 10 (dk_at dksX0_span_2 15 rfl rfl)
theorem dX0_span_63 : decode cX0_span 63 = .ok (.irem, 1) := dk_112 (dk_at dksX0_span_2 17 rfl rfl)
theorem dX0_span_64 : decode cX0_span 64 = .ok (.ifCond .ne 28, 3) := dk_154 0 28 (dk_at dksX0_span_2 18 rfl rfl)
theorem dX0_span_67 : decode cX0_span 67 = .ok (.aload_n 0, 1) := dk_42 (dk_at dksX0_span_2 21 rfl rfl)
theorem dX0_span_68 : decode cX0_span 68 = .ok (.aload_n 0, 1) := dk_42 (dk_at dksX0_span_2 22 rfl rfl)
theorem dX0_span_69 : decode cX0_span 69 = .ok (.getfield 27, 3) := dk_180 0 27 (dk_at dksX0_span_3 0 rfl rfl)
theorem dX0_span_72 : decode cX0_span 72 = .ok (.iload_n 1, 1) := dk_27 (dk_at dksX0_span_3 3 rfl rfl)
theorem dX0_span_73 : decode cX0_span 73 = .ok (.iload_n 2, 1) := dk_28 (dk_at dksX0_span_3 4 rfl rfl)
theorem dX0_span_74 : decode cX0_span 74 = .ok (.iload 7, 2) := dk_21 7 (dk_at dksX0_span_3 5 rfl rfl)
theorem dX0_span_76 : decode cX0_span 76 = .ok (.invokevirtual 170, 3) := dk_182 0 170 (dk_at dksX0_span_3 7 rfl rfl)
theorem dX0_span_79 : decode cX0_span 79 = .ok (.aload_n 0, 1) := dk_42 (dk_at dksX0_span_3 10 rfl rfl)
theorem dX0_span_80 : decode cX0_span 80 = .ok (.getfield 41, 3) := dk_180 0 41 (dk_at dksX0_span_3 11 rfl rfl)
theorem dX0_span_83 : decode cX0_span 83 = .ok (.aload_n 0, 1) := dk_42 (dk_at dksX0_span_3 14 rfl rfl)
theorem dX0_span_84 : decode cX0_span 84 = .ok (.getfield 48, 3) := dk_180 0 48 (dk_at dksX0_span_3 15 rfl rfl)
theorem dX0_span_87 : decode cX0_span 87 = .ok (.invokevirtual 174, 3) := dk_182 0 174 (dk_at dksX0_span_3 18 rfl rfl)
theorem dX0_span_90 : decode cX0_span 90 = .ok (.istore 6, 2) := dk_54 6 (dk_at dksX0_span_3 21 rfl rfl)
theorem dX0_span_92 : decode cX0_span 92 = .ok (.iload 5, 2) := dk_21 5 (dk_at dksX0_span_4 0 rfl rfl)
theorem dX0_span_94 : decode cX0_span 94 = .ok (.bipush (-5), 2) := dk_16 251 (dk_at dksX0_span_4 2 rfl rfl)
theorem dX0_span_96 : decode cX0_span 96 = .ok (.if_icmp .eq 9, 3) := dk_159 0 9 (dk_at dksX0_span_4 4 rfl rfl)
theorem dX0_span_99 : decode cX0_span 99 = .ok (.iload 4, 2) := dk_21 4 (dk_at dksX0_span_4 7 rfl rfl)
theorem dX0_span_101 : decode cX0_span 101 = .ok (.iconst 1, 1) := dk_4 (dk_at dksX0_span_4 9 rfl rfl)
theorem dX0_span_102 : decode cX0_span 102 = .ok (.if_icmp .ne 21, 3) := dk_160 0 21 (dk_at dksX0_span_4 10 rfl rfl)
theorem dX0_span_105 : decode cX0_span 105 = .ok (.aload_n 0, 1) := dk_42 (dk_at dksX0_span_4 13 rfl rfl)
theorem dX0_span_106 : decode cX0_span 106 = .ok (.iload_n 1, 1) := dk_27 (dk_at dksX0_span_4 14 rfl rfl)
theorem dX0_span_107 : decode cX0_span 107 = .ok (.iload_n 2, 1) := dk_28 (dk_at dksX0_span_4 15 rfl rfl)
theorem dX0_span_108 : decode cX0_span 108 = .ok (.iload 7, 2) := dk_21 7 (dk_at dksX0_span_4 16 rfl rfl)
theorem dX0_span_110 : decode cX0_span 110 = .ok (.iload 6, 2) := dk_21 6 (dk_at dksX0_span_4 18 rfl rfl)
theorem dX0_span_112 : decode cX0_span 112 = .ok (.invokevirtual 178, 3) := dk_182 0 178 (dk_at dksX0_span_4 20 rfl rfl)
theorem dX0_span_115 : decode cX0_span 115 = .ok (.iload_n 3, 1) := dk_29 (dk_at dksX0_span_4 23 rfl rfl)
theorem dX0_span_116 : decode cX0_span 116 = .ok (.if_icmp .ne 7, 3) := dk_160 0 7 (dk_at dksX0_span_5 0 rfl rfl)
theorem dX0_span_119 : decode cX0_span 119 = .ok (.iload 7, 2) := dk_21 7 (dk_at dksX0_span_5 3 rfl rfl)
theorem dX0_span_121 : decode cX0_span 121 = .ok (.istore 5, 2) := dk_54 5 (dk_at dksX0_span_5 5 rfl rfl)
theorem dX0_span_123 : decode cX0_span 123 = .ok (.iinc 7 1, 3) := dk_132 7 1 (dk_at dksX0_span_5 7 rfl rfl)
theorem dX0_span_126 : decode cX0_span 126 = .ok (.goto (-75), 3) := dk_167 255 181 (dk_at dksX0_span_5 10 rfl rfl)
theorem dX0_span_129 : decode cX0_span 129 = .ok (.iload 5, 2) := dk_21 5 (dk_at dksX0_span_5 13 rfl rfl)
theorem dX0_span_131 : decode cX0_span 131 = .ok (.ireturn, 1) := dk_172 (dk_at dksX0_span_5 15 rfl rfl)
theorem gf_span : xV yX0_span RX0 cX0_span 8 (some .int) 4 := ⟨q1116, q1117, q87, q1118, ⟨rfl, by decide +kernel, by decide +kernel, by decide +kernel⟩, by decide⟩
abbrev cX0_year : ByteArray := prog_1_method_45_code
def yX0_year : MethodName := ⟨RX0, "year", "(III)I"⟩
def dkwX0_year_6 : List UInt8 := [180, 0, 195, 29, 46, 172]
abbrev dktX0_year_6 : List UInt8 := dkwX0_year_6 ++ []
def dkwX0_year_5 : List UInt8 := [132, 5, 1, 132, 6, 1, 167, 255, 200, 29, 7, 160, 0, 8, 21, 5, 167, 0, 12, 42, 180, 0, 31]
abbrev dktX0_year_5 : List UInt8 := dkwX0_year_5 ++ dktX0_year_6
def dkwX0_year_4 : List UInt8 := [167, 0, 27, 42, 42, 180, 0, 31, 21, 4, 132, 4, 1, 42, 180, 0, 107, 112, 182, 0, 245, 153, 0, 6]
abbrev dktX0_year_4 : List UInt8 := dkwX0_year_4 ++ dktX0_year_5
def dkwX0_year_3 : List UInt8 := [162, 0, 56, 42, 180, 0, 31, 180, 0, 163, 28, 112, 154, 0, 14, 42, 42, 180, 0, 31, 182, 0, 248]
abbrev dktX0_year_3 : List UInt8 := dkwX0_year_3 ++ dktX0_year_4
def dkwX0_year_2 : List UInt8 := [42, 180, 0, 31, 42, 180, 0, 27, 182, 0, 252, 3, 54, 4, 3, 54, 5, 3, 54, 6, 21, 6, 27]
abbrev dktX0_year_2 : List UInt8 := dkwX0_year_2 ++ dktX0_year_3
def dkwX0_year_1 : List UInt8 := [5, 16, 30, 184, 0, 111, 154, 0, 7, 19, 1, 54, 172, 42, 180, 0, 107, 154, 0, 7, 19, 1, 55, 172]
abbrev dktX0_year_1 : List UInt8 := dkwX0_year_1 ++ dktX0_year_2
def dkwX0_year_0 : List UInt8 := [29, 3, 7, 184, 0, 111, 154, 0, 7, 19, 1, 44, 172, 27, 3, 16, 60, 184, 0, 111, 153, 0, 13, 28]
abbrev dktX0_year_0 : List UInt8 := dkwX0_year_0 ++ dktX0_year_1
theorem dksX0_year_0 : cX0_year.data.toList.drop 0 = dktX0_year_0 := by decide +kernel
theorem dksX0_year_1 : cX0_year.data.toList.drop 24 = dktX0_year_1 := dk_seg dksX0_year_0 24 rfl rfl
theorem dksX0_year_2 : cX0_year.data.toList.drop 48 = dktX0_year_2 := dk_seg dksX0_year_1 24 rfl rfl
theorem dksX0_year_3 : cX0_year.data.toList.drop 71 = dktX0_year_3 := dk_seg dksX0_year_2 23 rfl rfl
theorem dksX0_year_4 : cX0_year.data.toList.drop 94 = dktX0_year_4 := dk_seg dksX0_year_3 23 rfl rfl
theorem dksX0_year_5 : cX0_year.data.toList.drop 118 = dktX0_year_5 := dk_seg dksX0_year_4 24 rfl rfl
theorem dksX0_year_6 : cX0_year.data.toList.drop 141 = dktX0_year_6 := dk_seg dksX0_year_5 23 rfl rfl
theorem dX0_year_0 : decode cX0_year 0 = .ok (.iload_n 3, 1) := dk_29 (dk_at dksX0_year_0 0 rfl rfl)
theorem dX0_year_1 : decode cX0_year 1 = .ok (.iconst 0, 1) := dk_3 (dk_at dksX0_year_0 1 rfl rfl)
theorem dX0_year_2 : decode cX0_year 2 = .ok (.iconst 4, 1) := dk_7 (dk_at dksX0_year_0 2 rfl rfl)
theorem dX0_year_3 : decode cX0_year 3 = .ok (.invokestatic 111, 3) := dk_184 0 111 (dk_at dksX0_year_0 3 rfl rfl)
theorem dX0_year_6 : decode cX0_year 6 = .ok (.ifCond .ne 7, 3) := dk_154 0 7 (dk_at dksX0_year_0 6 rfl rfl)
theorem dX0_year_9 : decode cX0_year 9 = .ok (.ldc_w 300, 3) := dk_19 1 44 (dk_at dksX0_year_0 9 rfl rfl)
theorem dX0_year_12 : decode cX0_year 12 = .ok (.ireturn, 1) := dk_172 (dk_at dksX0_year_0 12 rfl rfl)
theorem dX0_year_13 : decode cX0_year 13 = .ok (.iload_n 1, 1) := dk_27 (dk_at dksX0_year_0 13 rfl rfl)
theorem dX0_year_14 : decode cX0_year 14 = .ok (.iconst 0, 1) := dk_3 (dk_at dksX0_year_0 14 rfl rfl)
theorem dX0_year_15 : decode cX0_year 15 = .ok (.bipush 60, 2) := dk_16 60 (dk_at dksX0_year_0 15 rfl rfl)
theorem dX0_year_17 : decode cX0_year 17 = .ok (.invokestatic 111, 3) := dk_184 0 111 (dk_at dksX0_year_0 17 rfl rfl)
theorem dX0_year_20 : decode cX0_year 20 = .ok (.ifCond .eq 13, 3) := dk_153 0 13 (dk_at dksX0_year_0 20 rfl rfl)
theorem dX0_year_23 : decode cX0_year 23 = .ok (.iload_n 2, 1) := dk_28 (dk_at dksX0_year_0 23 rfl rfl)
theorem dX0_year_24 : decode cX0_year 24 = .ok (.iconst 2, 1) := dk_5 (dk_at dksX0_year_1 0 rfl rfl)
theorem dX0_year_25 : decode cX0_year 25 = .ok (.bipush 30, 2) := dk_16 30 (dk_at dksX0_year_1 1 rfl rfl)
theorem dX0_year_27 : decode cX0_year 27 = .ok (.invokestatic 111, 3) := dk_184 0 111 (dk_at dksX0_year_1 3 rfl rfl)
theorem dX0_year_30 : decode cX0_year 30 = .ok (.ifCond .ne 7, 3) := dk_154 0 7 (dk_at dksX0_year_1 6 rfl rfl)
theorem dX0_year_33 : decode cX0_year 33 = .ok (.ldc_w 310, 3) := dk_19 1 54 (dk_at dksX0_year_1 9 rfl rfl)
theorem dX0_year_36 : decode cX0_year 36 = .ok (.ireturn, 1) := dk_172 (dk_at dksX0_year_1 12 rfl rfl)
theorem dX0_year_37 : decode cX0_year 37 = .ok (.aload_n 0, 1) := dk_42 (dk_at dksX0_year_1 13 rfl rfl)
theorem dX0_year_38 : decode cX0_year 38 = .ok (.getfield 107, 3) := dk_180 0 107 (dk_at dksX0_year_1 14 rfl rfl)
theorem dX0_year_41 : decode cX0_year 41 = .ok (.ifCond .ne 7, 3) := dk_154 0 7 (dk_at dksX0_year_1 17 rfl rfl)
theorem dX0_year_44 : decode cX0_year 44 = .ok (.ldc_w 311, 3) := dk_19 1 55 (dk_at dksX0_year_1 20 rfl rfl)
theorem dX0_year_47 : decode cX0_year 47 = .ok (.ireturn, 1) := dk_172 (dk_at dksX0_year_1 23 rfl rfl)
theorem dX0_year_48 : decode cX0_year 48 = .ok (.aload_n 0, 1) := dk_42 (dk_at dksX0_year_2 0 rfl rfl)
theorem dX0_year_49 : decode cX0_year 49 = .ok (.getfield 31, 3) := dk_180 0 31 (dk_at dksX0_year_2 1 rfl rfl)
theorem dX0_year_52 : decode cX0_year 52 = .ok (.aload_n 0, 1) := dk_42 (dk_at dksX0_year_2 4 rfl rfl)
theorem dX0_year_53 : decode cX0_year 53 = .ok (.getfield 27, 3) := dk_180 0 27 (dk_at dksX0_year_2 5 rfl rfl)
theorem dX0_year_56 : decode cX0_year 56 = .ok (.invokevirtual 252, 3) := dk_182 0 252 (dk_at dksX0_year_2 8 rfl rfl)
theorem dX0_year_59 : decode cX0_year 59 = .ok (.iconst 0, 1) := dk_3 (dk_at dksX0_year_2 11 rfl rfl)
theorem dX0_year_60 : decode cX0_year 60 = .ok (.istore 4, 2) := dk_54 4 (dk_at dksX0_year_2 12 rfl rfl)
theorem dX0_year_62 : decode cX0_year 62 = .ok (.iconst 0, 1) := dk_3 (dk_at dksX0_year_2 14 rfl rfl)
theorem dX0_year_63 : decode cX0_year 63 = .ok (.istore 5, 2) := dk_54 5 (dk_at dksX0_year_2 15 rfl rfl)
theorem dX0_year_65 : decode cX0_year 65 = .ok (.iconst 0, 1) := dk_3 (dk_at dksX0_year_2 17 rfl rfl)
theorem dX0_year_66 : decode cX0_year 66 = .ok (.istore 6, 2) := dk_54 6 (dk_at dksX0_year_2 18 rfl rfl)
theorem dX0_year_68 : decode cX0_year 68 = .ok (.iload 6, 2) := dk_21 6 (dk_at dksX0_year_2 20 rfl rfl)
theorem dX0_year_70 : decode cX0_year 70 = .ok (.iload_n 1, 1) := dk_27 (dk_at dksX0_year_2 22 rfl rfl)
theorem dX0_year_71 : decode cX0_year 71 = .ok (.if_icmp .ge 56, 3) := dk_162 0 56 (dk_at dksX0_year_3 0 rfl rfl)
theorem dX0_year_74 : decode cX0_year 74 = .ok (.aload_n 0, 1) := dk_42 (dk_at dksX0_year_3 3 rfl rfl)
theorem dX0_year_75 : decode cX0_year 75 = .ok (.getfield 31, 3) := dk_180 0 31 (dk_at dksX0_year_3 4 rfl rfl)
theorem dX0_year_78 : decode cX0_year 78 = .ok (.getfield 163, 3) := dk_180 0 163 (dk_at dksX0_year_3 7 rfl rfl)
theorem dX0_year_81 : decode cX0_year 81 = .ok (.iload_n 2, 1) := dk_28 (dk_at dksX0_year_3 10 rfl rfl)
theorem dX0_year_82 : decode cX0_year 82 = .ok (.irem, 1) := dk_112 (dk_at dksX0_year_3 11 rfl rfl)
theorem dX0_year_83 : decode cX0_year 83 = .ok (.ifCond .ne 14, 3) := dk_154 0 14 (dk_at dksX0_year_3 12 rfl rfl)
theorem dX0_year_86 : decode cX0_year 86 = .ok (.aload_n 0, 1) := dk_42 (dk_at dksX0_year_3 15 rfl rfl)
theorem dX0_year_87 : decode cX0_year 87 = .ok (.aload_n 0, 1) := dk_42 (dk_at dksX0_year_3 16 rfl rfl)
theorem dX0_year_88 : decode cX0_year 88 = .ok (.getfield 31, 3) := dk_180 0 31 (dk_at dksX0_year_3 17 rfl rfl)
theorem dX0_year_91 : decode cX0_year 91 = .ok (.invokevirtual 248, 3) := dk_182 0 248 (dk_at dksX0_year_3 20 rfl rfl)
theorem dX0_year_94 : decode cX0_year 94 = .ok (.goto 27, 3) := dk_167 0 27 (dk_at dksX0_year_4 0 rfl rfl)
theorem dX0_year_97 : decode cX0_year 97 = .ok (.aload_n 0, 1) := dk_42 (dk_at dksX0_year_4 3 rfl rfl)
theorem dX0_year_98 : decode cX0_year 98 = .ok (.aload_n 0, 1) := dk_42 (dk_at dksX0_year_4 4 rfl rfl)
theorem dX0_year_99 : decode cX0_year 99 = .ok (.getfield 31, 3) := dk_180 0 31 (dk_at dksX0_year_4 5 rfl rfl)
theorem dX0_year_102 : decode cX0_year 102 = .ok (.iload 4, 2) := dk_21 4 (dk_at dksX0_year_4 8 rfl rfl)
theorem dX0_year_104 : decode cX0_year 104 = .ok (.iinc 4 1, 3) := dk_132 4 1 (dk_at dksX0_year_4 10 rfl rfl)
theorem dX0_year_107 : decode cX0_year 107 = .ok (.aload_n 0, 1) := dk_42 (dk_at dksX0_year_4 13 rfl rfl)
theorem dX0_year_108 : decode cX0_year 108 = .ok (.getfield 107, 3) := dk_180 0 107 (dk_at dksX0_year_4 14 rfl rfl)
theorem dX0_year_111 : decode cX0_year 111 = .ok (.irem, 1) := dk_112 (dk_at dksX0_year_4 17 rfl rfl)
theorem dX0_year_112 : decode cX0_year 112 = .ok (.invokevirtual 245, 3) := dk_182 0 245 (dk_at dksX0_year_4 18 rfl rfl)
theorem dX0_year_115 : decode cX0_year 115 = .ok (.ifCond .eq 6, 3) := dk_153 0 6 (dk_at dksX0_year_4 21 rfl rfl)
theorem dX0_year_118 : decode cX0_year 118 = .ok (.iinc 5 1, 3) := dk_132 5 1 (dk_at dksX0_year_5 0 rfl rfl)
theorem dX0_year_121 : decode cX0_year 121 = .ok (.iinc 6 1, 3) := dk_132 6 1 (dk_at dksX0_year_5 3 rfl rfl)
theorem dX0_year_124 : decode cX0_year 124 = .ok (.goto (-56), 3) := dk_167 255 200 (dk_at dksX0_year_5 6 rfl rfl)
theorem dX0_year_127 : decode cX0_year 127 = .ok (.iload_n 3, 1) := dk_29 (dk_at dksX0_year_5 9 rfl rfl)
theorem dX0_year_128 : decode cX0_year 128 = .ok (.iconst 4, 1) := dk_7 (dk_at dksX0_year_5 10 rfl rfl)
theorem dX0_year_129 : decode cX0_year 129 = .ok (.if_icmp .ne 8, 3) := dk_160 0 8 (dk_at dksX0_year_5 11 rfl rfl)
theorem dX0_year_132 : decode cX0_year 132 = .ok (.iload 5, 2) := dk_21 5 (dk_at dksX0_year_5 14 rfl rfl)
theorem dX0_year_134 : decode cX0_year 134 = .ok (.goto 12, 3) := dk_167 0 12 (dk_at dksX0_year_5 16 rfl rfl)
theorem dX0_year_137 : decode cX0_year 137 = .ok (.aload_n 0, 1) := dk_42 (dk_at dksX0_year_5 19 rfl rfl)
theorem dX0_year_138 : decode cX0_year 138 = .ok (.getfield 31, 3) := dk_180 0 31 (dk_at dksX0_year_5 20 rfl rfl)
theorem dX0_year_141 : decode cX0_year 141 = .ok (.getfield 195, 3) := dk_180 0 195 (dk_at dksX0_year_6 0 rfl rfl)
theorem dX0_year_144 : decode cX0_year 144 = .ok (.iload_n 3, 1) := dk_29 (dk_at dksX0_year_6 3 rfl rfl)
theorem dX0_year_145 : decode cX0_year 145 = .ok (.iaload, 1) := dk_46 (dk_at dksX0_year_6 4 rfl rfl)
theorem dX0_year_146 : decode cX0_year 146 = .ok (.ireturn, 1) := dk_172 (dk_at dksX0_year_6 5 rfl rfl)
theorem gf_year : xV yX0_year RX0 cX0_year 7 (some .int) 3 := ⟨q1120, q1121, q87, q1122, ⟨rfl, by decide +kernel, by decide +kernel, by decide +kernel⟩, by decide⟩
abbrev cX0_divisor : ByteArray := prog_1_method_46_code
def yX0_divisor : MethodName := ⟨RX0, "divisor", "(JJ)J"⟩
def dkwX0_divisor_1 : List UInt8 := [22, 4, 173]
abbrev dktX0_divisor_1 : List UInt8 := dkwX0_divisor_1 ++ []
def dkwX0_divisor_0 : List UInt8 := [30, 55, 4, 32, 9, 148, 153, 0, 18, 22, 4, 32, 113, 55, 6, 32, 55, 4, 22, 6, 65, 167, 255, 238]
abbrev dktX0_divisor_0 : List UInt8 := dkwX0_divisor_0 ++ dktX0_divisor_1
theorem dksX0_divisor_0 : cX0_divisor.data.toList.drop 0 = dktX0_divisor_0 := by decide +kernel
theorem dksX0_divisor_1 : cX0_divisor.data.toList.drop 24 = dktX0_divisor_1 := dk_seg dksX0_divisor_0 24 rfl rfl
theorem dX0_divisor_0 : decode cX0_divisor 0 = .ok (.lload_n 0, 1) := dk_30 (dk_at dksX0_divisor_0 0 rfl rfl)
theorem dX0_divisor_1 : decode cX0_divisor 1 = .ok (.lstore 4, 2) := dk_55 4 (dk_at dksX0_divisor_0 1 rfl rfl)
theorem dX0_divisor_3 : decode cX0_divisor 3 = .ok (.lload_n 2, 1) := dk_32 (dk_at dksX0_divisor_0 3 rfl rfl)
theorem dX0_divisor_4 : decode cX0_divisor 4 = .ok (.lconst 0, 1) := dk_9 (dk_at dksX0_divisor_0 4 rfl rfl)
theorem dX0_divisor_5 : decode cX0_divisor 5 = .ok (.lcmp, 1) := dk_148 (dk_at dksX0_divisor_0 5 rfl rfl)
theorem dX0_divisor_6 : decode cX0_divisor 6 = .ok (.ifCond .eq 18, 3) := dk_153 0 18 (dk_at dksX0_divisor_0 6 rfl rfl)
theorem dX0_divisor_9 : decode cX0_divisor 9 = .ok (.lload 4, 2) := dk_22 4 (dk_at dksX0_divisor_0 9 rfl rfl)
theorem dX0_divisor_11 : decode cX0_divisor 11 = .ok (.lload_n 2, 1) := dk_32 (dk_at dksX0_divisor_0 11 rfl rfl)
theorem dX0_divisor_12 : decode cX0_divisor 12 = .ok (.lrem, 1) := dk_113 (dk_at dksX0_divisor_0 12 rfl rfl)
theorem dX0_divisor_13 : decode cX0_divisor 13 = .ok (.lstore 6, 2) := dk_55 6 (dk_at dksX0_divisor_0 13 rfl rfl)
theorem dX0_divisor_15 : decode cX0_divisor 15 = .ok (.lload_n 2, 1) := dk_32 (dk_at dksX0_divisor_0 15 rfl rfl)
theorem dX0_divisor_16 : decode cX0_divisor 16 = .ok (.lstore 4, 2) := dk_55 4 (dk_at dksX0_divisor_0 16 rfl rfl)
theorem dX0_divisor_18 : decode cX0_divisor 18 = .ok (.lload 6, 2) := dk_22 6 (dk_at dksX0_divisor_0 18 rfl rfl)
theorem dX0_divisor_20 : decode cX0_divisor 20 = .ok (.lstore_n 2, 1) := dk_65 (dk_at dksX0_divisor_0 20 rfl rfl)
theorem dX0_divisor_21 : decode cX0_divisor 21 = .ok (.goto (-18), 3) := dk_167 255 238 (dk_at dksX0_divisor_0 21 rfl rfl)
theorem dX0_divisor_24 : decode cX0_divisor 24 = .ok (.lload 4, 2) := dk_22 4 (dk_at dksX0_divisor_1 0 rfl rfl)
theorem dX0_divisor_26 : decode cX0_divisor 26 = .ok (.lreturn, 1) := dk_173 (dk_at dksX0_divisor_1 2 rfl rfl)
theorem gf_divisor : xS yX0_divisor cX0_divisor 8 (some .long) 2 := ⟨q1134, q87, q1135, ⟨by decide +kernel, by decide +kernel, by decide +kernel⟩, by decide⟩
abbrev cX0_lowest : ByteArray := prog_1_method_47_code
def yX0_lowest : MethodName := ⟨RX0, "lowest", "(JJI)J"⟩
def dkwX0_lowest_0 : List UInt8 := [21, 4, 154, 0, 7, 30, 167, 0, 4, 32, 30, 32, 184, 1, 56, 109, 173]
abbrev dktX0_lowest_0 : List UInt8 := dkwX0_lowest_0 ++ []
theorem dksX0_lowest_0 : cX0_lowest.data.toList.drop 0 = dktX0_lowest_0 := by decide +kernel
theorem dX0_lowest_0 : decode cX0_lowest 0 = .ok (.iload 4, 2) := dk_21 4 (dk_at dksX0_lowest_0 0 rfl rfl)
theorem dX0_lowest_2 : decode cX0_lowest 2 = .ok (.ifCond .ne 7, 3) := dk_154 0 7 (dk_at dksX0_lowest_0 2 rfl rfl)
theorem dX0_lowest_5 : decode cX0_lowest 5 = .ok (.lload_n 0, 1) := dk_30 (dk_at dksX0_lowest_0 5 rfl rfl)
theorem dX0_lowest_6 : decode cX0_lowest 6 = .ok (.goto 4, 3) := dk_167 0 4 (dk_at dksX0_lowest_0 6 rfl rfl)
theorem dX0_lowest_9 : decode cX0_lowest 9 = .ok (.lload_n 2, 1) := dk_32 (dk_at dksX0_lowest_0 9 rfl rfl)
theorem dX0_lowest_10 : decode cX0_lowest 10 = .ok (.lload_n 0, 1) := dk_30 (dk_at dksX0_lowest_0 10 rfl rfl)
theorem dX0_lowest_11 : decode cX0_lowest 11 = .ok (.lload_n 2, 1) := dk_32 (dk_at dksX0_lowest_0 11 rfl rfl)
theorem dX0_lowest_12 : decode cX0_lowest 12 = .ok (.invokestatic 312, 3) := dk_184 1 56 (dk_at dksX0_lowest_0 12 rfl rfl)
theorem dX0_lowest_15 : decode cX0_lowest 15 = .ok (.ldiv, 1) := dk_109 (dk_at dksX0_lowest_0 15 rfl rfl)
theorem dX0_lowest_16 : decode cX0_lowest 16 = .ok (.lreturn, 1) := dk_173 (dk_at dksX0_lowest_0 16 rfl rfl)
theorem gf_lowest : xS yX0_lowest cX0_lowest 5 (some .long) 3 := ⟨q1131, q87, q1132, ⟨by decide +kernel, by decide +kernel, by decide +kernel⟩, by decide⟩
abbrev cX0_odds : ByteArray := prog_1_method_48_code
def yX0_odds : MethodName := ⟨RX0, "odds", "(II)J"⟩
def dkwX0_odds_4 : List UInt8 := [167, 255, 197, 33, 42, 180, 0, 107, 133, 10, 101, 28, 184, 1, 62, 173]
abbrev dktX0_odds_4 : List UInt8 := dkwX0_odds_4 ++ []
def dkwX0_odds_3 : List UInt8 := [182, 0, 245, 87, 42, 42, 180, 0, 31, 27, 182, 0, 215, 153, 0, 7, 33, 10, 97, 66, 132, 5, 1]
abbrev dktX0_odds_3 : List UInt8 := dkwX0_odds_3 ++ dktX0_odds_4
def dkwX0_odds_2 : List UInt8 := [160, 0, 6, 167, 0, 41, 42, 180, 0, 31, 42, 180, 0, 27, 182, 0, 252, 42, 42, 180, 0, 31, 21, 5]
abbrev dktX0_odds_2 : List UInt8 := dkwX0_odds_2 ++ dktX0_odds_3
def dkwX0_odds_1 : List UInt8 := [160, 0, 7, 20, 1, 60, 173, 9, 66, 3, 54, 5, 21, 5, 42, 180, 0, 107, 162, 0, 56, 21, 5, 27]
abbrev dktX0_odds_1 : List UInt8 := dkwX0_odds_1 ++ dktX0_odds_2
def dkwX0_odds_0 : List UInt8 := [42, 27, 182, 0, 140, 153, 0, 20, 28, 3, 4, 184, 0, 111, 153, 0, 11, 42, 180, 0, 107, 4]
abbrev dktX0_odds_0 : List UInt8 := dkwX0_odds_0 ++ dktX0_odds_1
theorem dksX0_odds_0 : cX0_odds.data.toList.drop 0 = dktX0_odds_0 := by decide +kernel
theorem dksX0_odds_1 : cX0_odds.data.toList.drop 22 = dktX0_odds_1 := dk_seg dksX0_odds_0 22 rfl rfl
theorem dksX0_odds_2 : cX0_odds.data.toList.drop 46 = dktX0_odds_2 := dk_seg dksX0_odds_1 24 rfl rfl
theorem dksX0_odds_3 : cX0_odds.data.toList.drop 70 = dktX0_odds_3 := dk_seg dksX0_odds_2 24 rfl rfl
theorem dksX0_odds_4 : cX0_odds.data.toList.drop 93 = dktX0_odds_4 := dk_seg dksX0_odds_3 23 rfl rfl
theorem dX0_odds_0 : decode cX0_odds 0 = .ok (.aload_n 0, 1) := dk_42 (dk_at dksX0_odds_0 0 rfl rfl)
theorem dX0_odds_1 : decode cX0_odds 1 = .ok (.iload_n 1, 1) := dk_27 (dk_at dksX0_odds_0 1 rfl rfl)
theorem dX0_odds_2 : decode cX0_odds 2 = .ok (.invokevirtual 140, 3) := dk_182 0 140 (dk_at dksX0_odds_0 2 rfl rfl)
theorem dX0_odds_5 : decode cX0_odds 5 = .ok (.ifCond .eq 20, 3) := dk_153 0 20 (dk_at dksX0_odds_0 5 rfl rfl)
theorem dX0_odds_8 : decode cX0_odds 8 = .ok (.iload_n 2, 1) := dk_28 (dk_at dksX0_odds_0 8 rfl rfl)
theorem dX0_odds_9 : decode cX0_odds 9 = .ok (.iconst 0, 1) := dk_3 (dk_at dksX0_odds_0 9 rfl rfl)
theorem dX0_odds_10 : decode cX0_odds 10 = .ok (.iconst 1, 1) := dk_4 (dk_at dksX0_odds_0 10 rfl rfl)
theorem dX0_odds_11 : decode cX0_odds 11 = .ok (.invokestatic 111, 3) := dk_184 0 111 (dk_at dksX0_odds_0 11 rfl rfl)
theorem dX0_odds_14 : decode cX0_odds 14 = .ok (.ifCond .eq 11, 3) := dk_153 0 11 (dk_at dksX0_odds_0 14 rfl rfl)
theorem dX0_odds_17 : decode cX0_odds 17 = .ok (.aload_n 0, 1) := dk_42 (dk_at dksX0_odds_0 17 rfl rfl)
theorem dX0_odds_18 : decode cX0_odds 18 = .ok (.getfield 107, 3) := dk_180 0 107 (dk_at dksX0_odds_0 18 rfl rfl)
theorem dX0_odds_21 : decode cX0_odds 21 = .ok (.iconst 1, 1) := dk_4 (dk_at dksX0_odds_0 21 rfl rfl)
theorem dX0_odds_22 : decode cX0_odds 22 = .ok (.if_icmp .ne 7, 3) := dk_160 0 7 (dk_at dksX0_odds_1 0 rfl rfl)
theorem dX0_odds_25 : decode cX0_odds 25 = .ok (.ldc2_w 316, 3) := dk_20 1 60 (dk_at dksX0_odds_1 3 rfl rfl)
theorem dX0_odds_28 : decode cX0_odds 28 = .ok (.lreturn, 1) := dk_173 (dk_at dksX0_odds_1 6 rfl rfl)
theorem dX0_odds_29 : decode cX0_odds 29 = .ok (.lconst 0, 1) := dk_9 (dk_at dksX0_odds_1 7 rfl rfl)
theorem dX0_odds_30 : decode cX0_odds 30 = .ok (.lstore_n 3, 1) := dk_66 (dk_at dksX0_odds_1 8 rfl rfl)
theorem dX0_odds_31 : decode cX0_odds 31 = .ok (.iconst 0, 1) := dk_3 (dk_at dksX0_odds_1 9 rfl rfl)
theorem dX0_odds_32 : decode cX0_odds 32 = .ok (.istore 5, 2) := dk_54 5 (dk_at dksX0_odds_1 10 rfl rfl)
theorem dX0_odds_34 : decode cX0_odds 34 = .ok (.iload 5, 2) := dk_21 5 (dk_at dksX0_odds_1 12 rfl rfl)
theorem dX0_odds_36 : decode cX0_odds 36 = .ok (.aload_n 0, 1) := dk_42 (dk_at dksX0_odds_1 14 rfl rfl)
theorem dX0_odds_37 : decode cX0_odds 37 = .ok (.getfield 107, 3) := dk_180 0 107 (dk_at dksX0_odds_1 15 rfl rfl)
theorem dX0_odds_40 : decode cX0_odds 40 = .ok (.if_icmp .ge 56, 3) := dk_162 0 56 (dk_at dksX0_odds_1 18 rfl rfl)
theorem dX0_odds_43 : decode cX0_odds 43 = .ok (.iload 5, 2) := dk_21 5 (dk_at dksX0_odds_1 21 rfl rfl)
theorem dX0_odds_45 : decode cX0_odds 45 = .ok (.iload_n 1, 1) := dk_27 (dk_at dksX0_odds_1 23 rfl rfl)
theorem dX0_odds_46 : decode cX0_odds 46 = .ok (.if_icmp .ne 6, 3) := dk_160 0 6 (dk_at dksX0_odds_2 0 rfl rfl)
theorem dX0_odds_49 : decode cX0_odds 49 = .ok (.goto 41, 3) := dk_167 0 41 (dk_at dksX0_odds_2 3 rfl rfl)
theorem dX0_odds_52 : decode cX0_odds 52 = .ok (.aload_n 0, 1) := dk_42 (dk_at dksX0_odds_2 6 rfl rfl)
theorem dX0_odds_53 : decode cX0_odds 53 = .ok (.getfield 31, 3) := dk_180 0 31 (dk_at dksX0_odds_2 7 rfl rfl)
theorem dX0_odds_56 : decode cX0_odds 56 = .ok (.aload_n 0, 1) := dk_42 (dk_at dksX0_odds_2 10 rfl rfl)
theorem dX0_odds_57 : decode cX0_odds 57 = .ok (.getfield 27, 3) := dk_180 0 27 (dk_at dksX0_odds_2 11 rfl rfl)
theorem dX0_odds_60 : decode cX0_odds 60 = .ok (.invokevirtual 252, 3) := dk_182 0 252 (dk_at dksX0_odds_2 14 rfl rfl)
theorem dX0_odds_63 : decode cX0_odds 63 = .ok (.aload_n 0, 1) := dk_42 (dk_at dksX0_odds_2 17 rfl rfl)
theorem dX0_odds_64 : decode cX0_odds 64 = .ok (.aload_n 0, 1) := dk_42 (dk_at dksX0_odds_2 18 rfl rfl)
theorem dX0_odds_65 : decode cX0_odds 65 = .ok (.getfield 31, 3) := dk_180 0 31 (dk_at dksX0_odds_2 19 rfl rfl)
theorem dX0_odds_68 : decode cX0_odds 68 = .ok (.iload 5, 2) := dk_21 5 (dk_at dksX0_odds_2 22 rfl rfl)
theorem dX0_odds_70 : decode cX0_odds 70 = .ok (.invokevirtual 245, 3) := dk_182 0 245 (dk_at dksX0_odds_3 0 rfl rfl)
theorem dX0_odds_73 : decode cX0_odds 73 = .ok (.pop, 1) := dk_87 (dk_at dksX0_odds_3 3 rfl rfl)
theorem dX0_odds_74 : decode cX0_odds 74 = .ok (.aload_n 0, 1) := dk_42 (dk_at dksX0_odds_3 4 rfl rfl)
theorem dX0_odds_75 : decode cX0_odds 75 = .ok (.aload_n 0, 1) := dk_42 (dk_at dksX0_odds_3 5 rfl rfl)
theorem dX0_odds_76 : decode cX0_odds 76 = .ok (.getfield 31, 3) := dk_180 0 31 (dk_at dksX0_odds_3 6 rfl rfl)
theorem dX0_odds_79 : decode cX0_odds 79 = .ok (.iload_n 1, 1) := dk_27 (dk_at dksX0_odds_3 9 rfl rfl)
theorem dX0_odds_80 : decode cX0_odds 80 = .ok (.invokevirtual 215, 3) := dk_182 0 215 (dk_at dksX0_odds_3 10 rfl rfl)
theorem dX0_odds_83 : decode cX0_odds 83 = .ok (.ifCond .eq 7, 3) := dk_153 0 7 (dk_at dksX0_odds_3 13 rfl rfl)
theorem dX0_odds_86 : decode cX0_odds 86 = .ok (.lload_n 3, 1) := dk_33 (dk_at dksX0_odds_3 16 rfl rfl)
theorem dX0_odds_87 : decode cX0_odds 87 = .ok (.lconst 1, 1) := dk_10 (dk_at dksX0_odds_3 17 rfl rfl)
theorem dX0_odds_88 : decode cX0_odds 88 = .ok (.ladd, 1) := dk_97 (dk_at dksX0_odds_3 18 rfl rfl)
theorem dX0_odds_89 : decode cX0_odds 89 = .ok (.lstore_n 3, 1) := dk_66 (dk_at dksX0_odds_3 19 rfl rfl)
theorem dX0_odds_90 : decode cX0_odds 90 = .ok (.iinc 5 1, 3) := dk_132 5 1 (dk_at dksX0_odds_3 20 rfl rfl)
theorem dX0_odds_93 : decode cX0_odds 93 = .ok (.goto (-59), 3) := dk_167 255 197 (dk_at dksX0_odds_4 0 rfl rfl)
theorem dX0_odds_96 : decode cX0_odds 96 = .ok (.lload_n 3, 1) := dk_33 (dk_at dksX0_odds_4 3 rfl rfl)
theorem dX0_odds_97 : decode cX0_odds 97 = .ok (.aload_n 0, 1) := dk_42 (dk_at dksX0_odds_4 4 rfl rfl)
theorem dX0_odds_98 : decode cX0_odds 98 = .ok (.getfield 107, 3) := dk_180 0 107 (dk_at dksX0_odds_4 5 rfl rfl)
theorem dX0_odds_101 : decode cX0_odds 101 = .ok (.i2l, 1) := dk_133 (dk_at dksX0_odds_4 8 rfl rfl)
theorem dX0_odds_102 : decode cX0_odds 102 = .ok (.lconst 1, 1) := dk_10 (dk_at dksX0_odds_4 9 rfl rfl)
theorem dX0_odds_103 : decode cX0_odds 103 = .ok (.lsub, 1) := dk_101 (dk_at dksX0_odds_4 10 rfl rfl)
theorem dX0_odds_104 : decode cX0_odds 104 = .ok (.iload_n 2, 1) := dk_28 (dk_at dksX0_odds_4 11 rfl rfl)
theorem dX0_odds_105 : decode cX0_odds 105 = .ok (.invokestatic 318, 3) := dk_184 1 62 (dk_at dksX0_odds_4 12 rfl rfl)
theorem dX0_odds_108 : decode cX0_odds 108 = .ok (.lreturn, 1) := dk_173 (dk_at dksX0_odds_4 15 rfl rfl)
theorem gf_odds : xV yX0_odds RX0 cX0_odds 6 (some .long) 2 := ⟨q1126, q1127, q87, q1128, ⟨rfl, by decide +kernel, by decide +kernel, by decide +kernel⟩, by decide⟩
abbrev cX0_mean : ByteArray := prog_1_method_49_code
def yX0_mean : MethodName := ⟨RX0, "mean", "(II)J"⟩
def dkwX0_mean_3 : List UInt8 := [33, 42, 180, 0, 107, 133, 28, 184, 1, 62, 173]
abbrev dktX0_mean_3 : List UInt8 := dkwX0_mean_3 ++ []
def dkwX0_mean_2 : List UInt8 := [21, 5, 27, 42, 180, 0, 27, 180, 0, 195, 27, 46, 182, 0, 207, 133, 97, 66, 132, 5, 1, 167, 255, 220]
abbrev dktX0_mean_2 : List UInt8 := dkwX0_mean_2 ++ dktX0_mean_3
def dkwX0_mean_1 : List UInt8 := [20, 1, 60, 173, 9, 66, 3, 54, 5, 21, 5, 42, 180, 0, 107, 162, 0, 33, 33, 42, 42, 180, 0, 27]
abbrev dktX0_mean_1 : List UInt8 := dkwX0_mean_1 ++ dktX0_mean_2
def dkwX0_mean_0 : List UInt8 := [27, 184, 0, 144, 153, 0, 19, 28, 3, 4, 184, 0, 111, 153, 0, 10, 42, 180, 0, 107, 154, 0, 7]
abbrev dktX0_mean_0 : List UInt8 := dkwX0_mean_0 ++ dktX0_mean_1
theorem dksX0_mean_0 : cX0_mean.data.toList.drop 0 = dktX0_mean_0 := by decide +kernel
theorem dksX0_mean_1 : cX0_mean.data.toList.drop 23 = dktX0_mean_1 := dk_seg dksX0_mean_0 23 rfl rfl
theorem dksX0_mean_2 : cX0_mean.data.toList.drop 47 = dktX0_mean_2 := dk_seg dksX0_mean_1 24 rfl rfl
theorem dksX0_mean_3 : cX0_mean.data.toList.drop 71 = dktX0_mean_3 := dk_seg dksX0_mean_2 24 rfl rfl
theorem dX0_mean_0 : decode cX0_mean 0 = .ok (.iload_n 1, 1) := dk_27 (dk_at dksX0_mean_0 0 rfl rfl)
theorem dX0_mean_1 : decode cX0_mean 1 = .ok (.invokestatic 144, 3) := dk_184 0 144 (dk_at dksX0_mean_0 1 rfl rfl)
theorem dX0_mean_4 : decode cX0_mean 4 = .ok (.ifCond .eq 19, 3) := dk_153 0 19 (dk_at dksX0_mean_0 4 rfl rfl)
theorem dX0_mean_7 : decode cX0_mean 7 = .ok (.iload_n 2, 1) := dk_28 (dk_at dksX0_mean_0 7 rfl rfl)
theorem dX0_mean_8 : decode cX0_mean 8 = .ok (.iconst 0, 1) := dk_3 (dk_at dksX0_mean_0 8 rfl rfl)
theorem dX0_mean_9 : decode cX0_mean 9 = .ok (.iconst 1, 1) := dk_4 (dk_at dksX0_mean_0 9 rfl rfl)
theorem dX0_mean_10 : decode cX0_mean 10 = .ok (.invokestatic 111, 3) := dk_184 0 111 (dk_at dksX0_mean_0 10 rfl rfl)
theorem dX0_mean_13 : decode cX0_mean 13 = .ok (.ifCond .eq 10, 3) := dk_153 0 10 (dk_at dksX0_mean_0 13 rfl rfl)
theorem dX0_mean_16 : decode cX0_mean 16 = .ok (.aload_n 0, 1) := dk_42 (dk_at dksX0_mean_0 16 rfl rfl)
theorem dX0_mean_17 : decode cX0_mean 17 = .ok (.getfield 107, 3) := dk_180 0 107 (dk_at dksX0_mean_0 17 rfl rfl)
theorem dX0_mean_20 : decode cX0_mean 20 = .ok (.ifCond .ne 7, 3) := dk_154 0 7 (dk_at dksX0_mean_0 20 rfl rfl)
theorem dX0_mean_23 : decode cX0_mean 23 = .ok (.ldc2_w 316, 3) := dk_20 1 60 (dk_at dksX0_mean_1 0 rfl rfl)
theorem dX0_mean_26 : decode cX0_mean 26 = .ok (.lreturn, 1) := dk_173 (dk_at dksX0_mean_1 3 rfl rfl)
theorem dX0_mean_27 : decode cX0_mean 27 = .ok (.lconst 0, 1) := dk_9 (dk_at dksX0_mean_1 4 rfl rfl)
theorem dX0_mean_28 : decode cX0_mean 28 = .ok (.lstore_n 3, 1) := dk_66 (dk_at dksX0_mean_1 5 rfl rfl)
theorem dX0_mean_29 : decode cX0_mean 29 = .ok (.iconst 0, 1) := dk_3 (dk_at dksX0_mean_1 6 rfl rfl)
theorem dX0_mean_30 : decode cX0_mean 30 = .ok (.istore 5, 2) := dk_54 5 (dk_at dksX0_mean_1 7 rfl rfl)
theorem dX0_mean_32 : decode cX0_mean 32 = .ok (.iload 5, 2) := dk_21 5 (dk_at dksX0_mean_1 9 rfl rfl)
theorem dX0_mean_34 : decode cX0_mean 34 = .ok (.aload_n 0, 1) := dk_42 (dk_at dksX0_mean_1 11 rfl rfl)
theorem dX0_mean_35 : decode cX0_mean 35 = .ok (.getfield 107, 3) := dk_180 0 107 (dk_at dksX0_mean_1 12 rfl rfl)
theorem dX0_mean_38 : decode cX0_mean 38 = .ok (.if_icmp .ge 33, 3) := dk_162 0 33 (dk_at dksX0_mean_1 15 rfl rfl)
theorem dX0_mean_41 : decode cX0_mean 41 = .ok (.lload_n 3, 1) := dk_33 (dk_at dksX0_mean_1 18 rfl rfl)
theorem dX0_mean_42 : decode cX0_mean 42 = .ok (.aload_n 0, 1) := dk_42 (dk_at dksX0_mean_1 19 rfl rfl)
theorem dX0_mean_43 : decode cX0_mean 43 = .ok (.aload_n 0, 1) := dk_42 (dk_at dksX0_mean_1 20 rfl rfl)
theorem dX0_mean_44 : decode cX0_mean 44 = .ok (.getfield 27, 3) := dk_180 0 27 (dk_at dksX0_mean_1 21 rfl rfl)
theorem dX0_mean_47 : decode cX0_mean 47 = .ok (.iload 5, 2) := dk_21 5 (dk_at dksX0_mean_2 0 rfl rfl)
theorem dX0_mean_49 : decode cX0_mean 49 = .ok (.iload_n 1, 1) := dk_27 (dk_at dksX0_mean_2 2 rfl rfl)
theorem dX0_mean_50 : decode cX0_mean 50 = .ok (.aload_n 0, 1) := dk_42 (dk_at dksX0_mean_2 3 rfl rfl)
theorem dX0_mean_51 : decode cX0_mean 51 = .ok (.getfield 27, 3) := dk_180 0 27 (dk_at dksX0_mean_2 4 rfl rfl)
theorem dX0_mean_54 : decode cX0_mean 54 = .ok (.getfield 195, 3) := dk_180 0 195 (dk_at dksX0_mean_2 7 rfl rfl)
theorem dX0_mean_57 : decode cX0_mean 57 = .ok (.iload_n 1, 1) := dk_27 (dk_at dksX0_mean_2 10 rfl rfl)
theorem dX0_mean_58 : decode cX0_mean 58 = .ok (.iaload, 1) := dk_46 (dk_at dksX0_mean_2 11 rfl rfl)
theorem dX0_mean_59 : decode cX0_mean 59 = .ok (.invokevirtual 207, 3) := dk_182 0 207 (dk_at dksX0_mean_2 12 rfl rfl)
theorem dX0_mean_62 : decode cX0_mean 62 = .ok (.i2l, 1) := dk_133 (dk_at dksX0_mean_2 15 rfl rfl)
theorem dX0_mean_63 : decode cX0_mean 63 = .ok (.ladd, 1) := dk_97 (dk_at dksX0_mean_2 16 rfl rfl)
theorem dX0_mean_64 : decode cX0_mean 64 = .ok (.lstore_n 3, 1) := dk_66 (dk_at dksX0_mean_2 17 rfl rfl)
theorem dX0_mean_65 : decode cX0_mean 65 = .ok (.iinc 5 1, 3) := dk_132 5 1 (dk_at dksX0_mean_2 18 rfl rfl)
theorem dX0_mean_68 : decode cX0_mean 68 = .ok (.goto (-36), 3) := dk_167 255 220 (dk_at dksX0_mean_2 21 rfl rfl)
theorem dX0_mean_71 : decode cX0_mean 71 = .ok (.lload_n 3, 1) := dk_33 (dk_at dksX0_mean_3 0 rfl rfl)
theorem dX0_mean_72 : decode cX0_mean 72 = .ok (.aload_n 0, 1) := dk_42 (dk_at dksX0_mean_3 1 rfl rfl)
theorem dX0_mean_73 : decode cX0_mean 73 = .ok (.getfield 107, 3) := dk_180 0 107 (dk_at dksX0_mean_3 2 rfl rfl)
theorem dX0_mean_76 : decode cX0_mean 76 = .ok (.i2l, 1) := dk_133 (dk_at dksX0_mean_3 5 rfl rfl)
theorem dX0_mean_77 : decode cX0_mean 77 = .ok (.iload_n 2, 1) := dk_28 (dk_at dksX0_mean_3 6 rfl rfl)
theorem dX0_mean_78 : decode cX0_mean 78 = .ok (.invokestatic 318, 3) := dk_184 1 62 (dk_at dksX0_mean_3 7 rfl rfl)
theorem dX0_mean_81 : decode cX0_mean 81 = .ok (.lreturn, 1) := dk_173 (dk_at dksX0_mean_3 10 rfl rfl)
theorem gf_mean : xV yX0_mean RX0 cX0_mean 6 (some .long) 2 := ⟨q1137, q1138, q87, q1139, ⟨rfl, by decide +kernel, by decide +kernel, by decide +kernel⟩, by decide⟩
abbrev cX0_book : ByteArray := prog_1_method_50_code
def yX0_book : MethodName := ⟨RX0, "book", "(IZ)I"⟩
def dkwX0_book_3 : List UInt8 := [180, 1, 66, 172]
abbrev dktX0_book_3 : List UInt8 := dkwX0_book_3 ++ []
def dkwX0_book_2 : List UInt8 := [180, 1, 66, 27, 145, 84, 42, 180, 0, 62, 42, 89, 180, 1, 66, 90, 4, 96, 181, 1, 66, 28, 84, 42]
abbrev dktX0_book_2 : List UInt8 := dkwX0_book_2 ++ dktX0_book_3
def dkwX0_book_1 : List UInt8 := [154, 0, 5, 2, 172, 42, 180, 1, 66, 16, 12, 160, 0, 6, 16, 252, 172, 42, 180, 0, 59, 42]
abbrev dktX0_book_1 : List UInt8 := dkwX0_book_1 ++ dktX0_book_2
def dkwX0_book_0 : List UInt8 := [27, 2, 160, 0, 10, 42, 3, 181, 1, 66, 3, 172, 27, 16, 254, 159, 0, 13, 42, 27, 182, 0, 140]
abbrev dktX0_book_0 : List UInt8 := dkwX0_book_0 ++ dktX0_book_1
theorem dksX0_book_0 : cX0_book.data.toList.drop 0 = dktX0_book_0 := by decide +kernel
theorem dksX0_book_1 : cX0_book.data.toList.drop 23 = dktX0_book_1 := dk_seg dksX0_book_0 23 rfl rfl
theorem dksX0_book_2 : cX0_book.data.toList.drop 45 = dktX0_book_2 := dk_seg dksX0_book_1 22 rfl rfl
theorem dksX0_book_3 : cX0_book.data.toList.drop 69 = dktX0_book_3 := dk_seg dksX0_book_2 24 rfl rfl
theorem dX0_book_0 : decode cX0_book 0 = .ok (.iload_n 1, 1) := dk_27 (dk_at dksX0_book_0 0 rfl rfl)
theorem dX0_book_1 : decode cX0_book 1 = .ok (.iconst (-1), 1) := dk_2 (dk_at dksX0_book_0 1 rfl rfl)
theorem dX0_book_2 : decode cX0_book 2 = .ok (.if_icmp .ne 10, 3) := dk_160 0 10 (dk_at dksX0_book_0 2 rfl rfl)
theorem dX0_book_5 : decode cX0_book 5 = .ok (.aload_n 0, 1) := dk_42 (dk_at dksX0_book_0 5 rfl rfl)
theorem dX0_book_6 : decode cX0_book 6 = .ok (.iconst 0, 1) := dk_3 (dk_at dksX0_book_0 6 rfl rfl)
theorem dX0_book_7 : decode cX0_book 7 = .ok (.putfield 322, 3) := dk_181 1 66 (dk_at dksX0_book_0 7 rfl rfl)
theorem dX0_book_10 : decode cX0_book 10 = .ok (.iconst 0, 1) := dk_3 (dk_at dksX0_book_0 10 rfl rfl)
theorem dX0_book_11 : decode cX0_book 11 = .ok (.ireturn, 1) := dk_172 (dk_at dksX0_book_0 11 rfl rfl)
theorem dX0_book_12 : decode cX0_book 12 = .ok (.iload_n 1, 1) := dk_27 (dk_at dksX0_book_0 12 rfl rfl)
theorem dX0_book_13 : decode cX0_book 13 = .ok (.bipush (-2), 2) := dk_16 254 (dk_at dksX0_book_0 13 rfl rfl)
theorem dX0_book_15 : decode cX0_book 15 = .ok (.if_icmp .eq 13, 3) := dk_159 0 13 (dk_at dksX0_book_0 15 rfl rfl)
theorem dX0_book_18 : decode cX0_book 18 = .ok (.aload_n 0, 1) := dk_42 (dk_at dksX0_book_0 18 rfl rfl)
theorem dX0_book_19 : decode cX0_book 19 = .ok (.iload_n 1, 1) := dk_27 (dk_at dksX0_book_0 19 rfl rfl)
theorem dX0_book_20 : decode cX0_book 20 = .ok (.invokevirtual 140, 3) := dk_182 0 140 (dk_at dksX0_book_0 20 rfl rfl)
theorem dX0_book_23 : decode cX0_book 23 = .ok (.ifCond .ne 5, 3) := dk_154 0 5 (dk_at dksX0_book_1 0 rfl rfl)
theorem dX0_book_26 : decode cX0_book 26 = .ok (.iconst (-1), 1) := dk_2 (dk_at dksX0_book_1 3 rfl rfl)
theorem dX0_book_27 : decode cX0_book 27 = .ok (.ireturn, 1) := dk_172 (dk_at dksX0_book_1 4 rfl rfl)
theorem dX0_book_28 : decode cX0_book 28 = .ok (.aload_n 0, 1) := dk_42 (dk_at dksX0_book_1 5 rfl rfl)
theorem dX0_book_29 : decode cX0_book 29 = .ok (.getfield 322, 3) := dk_180 1 66 (dk_at dksX0_book_1 6 rfl rfl)
theorem dX0_book_32 : decode cX0_book 32 = .ok (.bipush 12, 2) := dk_16 12 (dk_at dksX0_book_1 9 rfl rfl)
theorem dX0_book_34 : decode cX0_book 34 = .ok (.if_icmp .ne 6, 3) := dk_160 0 6 (dk_at dksX0_book_1 11 rfl rfl)
theorem dX0_book_37 : decode cX0_book 37 = .ok (.bipush (-4), 2) := dk_16 252 (dk_at dksX0_book_1 14 rfl rfl)
theorem dX0_book_39 : decode cX0_book 39 = .ok (.ireturn, 1) := dk_172 (dk_at dksX0_book_1 16 rfl rfl)
theorem dX0_book_40 : decode cX0_book 40 = .ok (.aload_n 0, 1) := dk_42 (dk_at dksX0_book_1 17 rfl rfl)
theorem dX0_book_41 : decode cX0_book 41 = .ok (.getfield 59, 3) := dk_180 0 59 (dk_at dksX0_book_1 18 rfl rfl)
theorem dX0_book_44 : decode cX0_book 44 = .ok (.aload_n 0, 1) := dk_42 (dk_at dksX0_book_1 21 rfl rfl)
theorem dX0_book_45 : decode cX0_book 45 = .ok (.getfield 322, 3) := dk_180 1 66 (dk_at dksX0_book_2 0 rfl rfl)
theorem dX0_book_48 : decode cX0_book 48 = .ok (.iload_n 1, 1) := dk_27 (dk_at dksX0_book_2 3 rfl rfl)
theorem dX0_book_49 : decode cX0_book 49 = .ok (.i2b, 1) := dk_145 (dk_at dksX0_book_2 4 rfl rfl)
theorem dX0_book_50 : decode cX0_book 50 = .ok (.bastore, 1) := dk_84 (dk_at dksX0_book_2 5 rfl rfl)
theorem dX0_book_51 : decode cX0_book 51 = .ok (.aload_n 0, 1) := dk_42 (dk_at dksX0_book_2 6 rfl rfl)
theorem dX0_book_52 : decode cX0_book 52 = .ok (.getfield 62, 3) := dk_180 0 62 (dk_at dksX0_book_2 7 rfl rfl)
theorem dX0_book_55 : decode cX0_book 55 = .ok (.aload_n 0, 1) := dk_42 (dk_at dksX0_book_2 10 rfl rfl)
theorem dX0_book_56 : decode cX0_book 56 = .ok (.dup, 1) := dk_89 (dk_at dksX0_book_2 11 rfl rfl)
theorem dX0_book_57 : decode cX0_book 57 = .ok (.getfield 322, 3) := dk_180 1 66 (dk_at dksX0_book_2 12 rfl rfl)
theorem dX0_book_60 : decode cX0_book 60 = .ok (.dup_x1, 1) := dk_90 (dk_at dksX0_book_2 15 rfl rfl)
theorem dX0_book_61 : decode cX0_book 61 = .ok (.iconst 1, 1) := dk_4 (dk_at dksX0_book_2 16 rfl rfl)
theorem dX0_book_62 : decode cX0_book 62 = .ok (.iadd, 1) := dk_96 (dk_at dksX0_book_2 17 rfl rfl)
theorem dX0_book_63 : decode cX0_book 63 = .ok (.putfield 322, 3) := dk_181 1 66 (dk_at dksX0_book_2 18 rfl rfl)
theorem dX0_book_66 : decode cX0_book 66 = .ok (.iload_n 2, 1) := dk_28 (dk_at dksX0_book_2 21 rfl rfl)
theorem dX0_book_67 : decode cX0_book 67 = .ok (.bastore, 1) := dk_84 (dk_at dksX0_book_2 22 rfl rfl)
theorem dX0_book_68 : decode cX0_book 68 = .ok (.aload_n 0, 1) := dk_42 (dk_at dksX0_book_2 23 rfl rfl)
theorem dX0_book_69 : decode cX0_book 69 = .ok (.getfield 322, 3) := dk_180 1 66 (dk_at dksX0_book_3 0 rfl rfl)
theorem dX0_book_72 : decode cX0_book 72 = .ok (.ireturn, 1) := dk_172 (dk_at dksX0_book_3 3 rfl rfl)
theorem gf_book : xV yX0_book RX0 cX0_book 3 (some .int) 2 := ⟨q1141, q1142, q87, q1143, ⟨rfl, by decide +kernel, by decide +kernel, by decide +kernel⟩, by decide⟩
abbrev cX0_isSpoiledNext : ByteArray := prog_1_method_51_code
def yX0_isSpoiledNext : MethodName := ⟨RX0, "isSpoiledNext", "(I)Z"⟩
def dkwX0_isSpoiledNext_1 : List UInt8 := [3, 172]
abbrev dktX0_isSpoiledNext_1 : List UInt8 := dkwX0_isSpoiledNext_1 ++ []
def dkwX0_isSpoiledNext_0 : List UInt8 := [27, 16, 254, 159, 0, 13, 42, 42, 180, 0, 31, 27, 182, 0, 245, 172, 42, 42, 180, 0, 31, 182, 0, 248]
abbrev dktX0_isSpoiledNext_0 : List UInt8 := dkwX0_isSpoiledNext_0 ++ dktX0_isSpoiledNext_1
theorem dksX0_isSpoiledNext_0 : cX0_isSpoiledNext.data.toList.drop 0 = dktX0_isSpoiledNext_0 := by decide +kernel
theorem dksX0_isSpoiledNext_1 : cX0_isSpoiledNext.data.toList.drop 24 = dktX0_isSpoiledNext_1 := dk_seg dksX0_isSpoiledNext_0 24 rfl rfl
theorem dX0_isSpoiledNext_0 : decode cX0_isSpoiledNext 0 = .ok (.iload_n 1, 1) := dk_27 (dk_at dksX0_isSpoiledNext_0 0 rfl rfl)
theorem dX0_isSpoiledNext_1 : decode cX0_isSpoiledNext 1 = .ok (.bipush (-2), 2) := dk_16 254 (dk_at dksX0_isSpoiledNext_0 1 rfl rfl)
theorem dX0_isSpoiledNext_3 : decode cX0_isSpoiledNext 3 = .ok (.if_icmp .eq 13, 3) := dk_159 0 13 (dk_at dksX0_isSpoiledNext_0 3 rfl rfl)
theorem dX0_isSpoiledNext_6 : decode cX0_isSpoiledNext 6 = .ok (.aload_n 0, 1) := dk_42 (dk_at dksX0_isSpoiledNext_0 6 rfl rfl)
theorem dX0_isSpoiledNext_7 : decode cX0_isSpoiledNext 7 = .ok (.aload_n 0, 1) := dk_42 (dk_at dksX0_isSpoiledNext_0 7 rfl rfl)
theorem dX0_isSpoiledNext_8 : decode cX0_isSpoiledNext 8 = .ok (.getfield 31, 3) := dk_180 0 31 (dk_at dksX0_isSpoiledNext_0 8 rfl rfl)
theorem dX0_isSpoiledNext_11 : decode cX0_isSpoiledNext 11 = .ok (.iload_n 1, 1) := dk_27 (dk_at dksX0_isSpoiledNext_0 11 rfl rfl)
theorem dX0_isSpoiledNext_12 : decode cX0_isSpoiledNext 12 = .ok (.invokevirtual 245, 3) := dk_182 0 245 (dk_at dksX0_isSpoiledNext_0 12 rfl rfl)
theorem dX0_isSpoiledNext_15 : decode cX0_isSpoiledNext 15 = .ok (.ireturn, 1) := dk_172 (dk_at dksX0_isSpoiledNext_0 15 rfl rfl)
theorem dX0_isSpoiledNext_16 : decode cX0_isSpoiledNext 16 = .ok (.aload_n 0, 1) := dk_42 (dk_at dksX0_isSpoiledNext_0 16 rfl rfl)
theorem dX0_isSpoiledNext_17 : decode cX0_isSpoiledNext 17 = .ok (.aload_n 0, 1) := dk_42 (dk_at dksX0_isSpoiledNext_0 17 rfl rfl)
theorem dX0_isSpoiledNext_18 : decode cX0_isSpoiledNext 18 = .ok (.getfield 31, 3) := dk_180 0 31 (dk_at dksX0_isSpoiledNext_0 18 rfl rfl)
theorem dX0_isSpoiledNext_21 : decode cX0_isSpoiledNext 21 = .ok (.invokevirtual 248, 3) := dk_182 0 248 (dk_at dksX0_isSpoiledNext_0 21 rfl rfl)
theorem dX0_isSpoiledNext_24 : decode cX0_isSpoiledNext 24 = .ok (.iconst 0, 1) := dk_3 (dk_at dksX0_isSpoiledNext_1 0 rfl rfl)
theorem dX0_isSpoiledNext_25 : decode cX0_isSpoiledNext 25 = .ok (.ireturn, 1) := dk_172 (dk_at dksX0_isSpoiledNext_1 1 rfl rfl)
theorem gf_isSpoiledNext : xV yX0_isSpoiledNext RX0 cX0_isSpoiledNext 2 (some .boolean) 1 := ⟨q1150, qs39, q87, q1151, ⟨rfl, by decide +kernel, by decide +kernel, by decide +kernel⟩, by decide⟩
abbrev cX0_looked : ByteArray := prog_1_method_52_code
def yX0_looked : MethodName := ⟨RX0, "looked", "()I"⟩
def dkwX0_looked_2 : List UInt8 := [167, 255, 224, 16, 251, 172]
abbrev dktX0_looked_2 : List UInt8 := dkwX0_looked_2 ++ []
def dkwX0_looked_1 : List UInt8 := [180, 0, 59, 27, 51, 182, 1, 69, 42, 180, 0, 62, 27, 51, 159, 0, 5, 27, 172, 132, 1, 1]
abbrev dktX0_looked_1 : List UInt8 := dkwX0_looked_1 ++ dktX0_looked_2
def dkwX0_looked_0 : List UInt8 := [42, 180, 0, 31, 42, 180, 0, 27, 182, 0, 252, 3, 60, 27, 42, 180, 1, 66, 162, 0, 30, 42, 42]
abbrev dktX0_looked_0 : List UInt8 := dkwX0_looked_0 ++ dktX0_looked_1
theorem dksX0_looked_0 : cX0_looked.data.toList.drop 0 = dktX0_looked_0 := by decide +kernel
theorem dksX0_looked_1 : cX0_looked.data.toList.drop 23 = dktX0_looked_1 := dk_seg dksX0_looked_0 23 rfl rfl
theorem dksX0_looked_2 : cX0_looked.data.toList.drop 45 = dktX0_looked_2 := dk_seg dksX0_looked_1 22 rfl rfl
theorem dX0_looked_0 : decode cX0_looked 0 = .ok (.aload_n 0, 1) := dk_42 (dk_at dksX0_looked_0 0 rfl rfl)
theorem dX0_looked_1 : decode cX0_looked 1 = .ok (.getfield 31, 3) := dk_180 0 31 (dk_at dksX0_looked_0 1 rfl rfl)
theorem dX0_looked_4 : decode cX0_looked 4 = .ok (.aload_n 0, 1) := dk_42 (dk_at dksX0_looked_0 4 rfl rfl)
theorem dX0_looked_5 : decode cX0_looked 5 = .ok (.getfield 27, 3) := dk_180 0 27 (dk_at dksX0_looked_0 5 rfl rfl)
theorem dX0_looked_8 : decode cX0_looked 8 = .ok (.invokevirtual 252, 3) := dk_182 0 252 (dk_at dksX0_looked_0 8 rfl rfl)
theorem dX0_looked_11 : decode cX0_looked 11 = .ok (.iconst 0, 1) := dk_3 (dk_at dksX0_looked_0 11 rfl rfl)
theorem dX0_looked_12 : decode cX0_looked 12 = .ok (.istore_n 1, 1) := dk_60 (dk_at dksX0_looked_0 12 rfl rfl)
theorem dX0_looked_13 : decode cX0_looked 13 = .ok (.iload_n 1, 1) := dk_27 (dk_at dksX0_looked_0 13 rfl rfl)
theorem dX0_looked_14 : decode cX0_looked 14 = .ok (.aload_n 0, 1) := dk_42 (dk_at dksX0_looked_0 14 rfl rfl)
theorem dX0_looked_15 : decode cX0_looked 15 = .ok (.getfield 322, 3) := dk_180 1 66 (dk_at dksX0_looked_0 15 rfl rfl)
theorem dX0_looked_18 : decode cX0_looked 18 = .ok (.if_icmp .ge 30, 3) := dk_162 0 30 (dk_at dksX0_looked_0 18 rfl rfl)
theorem dX0_looked_21 : decode cX0_looked 21 = .ok (.aload_n 0, 1) := dk_42 (dk_at dksX0_looked_0 21 rfl rfl)
theorem dX0_looked_22 : decode cX0_looked 22 = .ok (.aload_n 0, 1) := dk_42 (dk_at dksX0_looked_0 22 rfl rfl)
theorem dX0_looked_23 : decode cX0_looked 23 = .ok (.getfield 59, 3) := dk_180 0 59 (dk_at dksX0_looked_1 0 rfl rfl)
theorem dX0_looked_26 : decode cX0_looked 26 = .ok (.iload_n 1, 1) := dk_27 (dk_at dksX0_looked_1 3 rfl rfl)
theorem dX0_looked_27 : decode cX0_looked 27 = .ok (.baload, 1) := dk_51 (dk_at dksX0_looked_1 4 rfl rfl)
theorem dX0_looked_28 : decode cX0_looked 28 = .ok (.invokevirtual 325, 3) := dk_182 1 69 (dk_at dksX0_looked_1 5 rfl rfl)
theorem dX0_looked_31 : decode cX0_looked 31 = .ok (.aload_n 0, 1) := dk_42 (dk_at dksX0_looked_1 8 rfl rfl)
theorem dX0_looked_32 : decode cX0_looked 32 = .ok (.getfield 62, 3) := dk_180 0 62 (dk_at dksX0_looked_1 9 rfl rfl)
theorem dX0_looked_35 : decode cX0_looked 35 = .ok (.iload_n 1, 1) := dk_27 (dk_at dksX0_looked_1 12 rfl rfl)
theorem dX0_looked_36 : decode cX0_looked 36 = .ok (.baload, 1) := dk_51 (dk_at dksX0_looked_1 13 rfl rfl)
theorem dX0_looked_37 : decode cX0_looked 37 = .ok (.if_icmp .eq 5, 3) := dk_159 0 5 (dk_at dksX0_looked_1 14 rfl rfl)
theorem dX0_looked_40 : decode cX0_looked 40 = .ok (.iload_n 1, 1) := dk_27 (dk_at dksX0_looked_1 17 rfl rfl)
theorem dX0_looked_41 : decode cX0_looked 41 = .ok (.ireturn, 1) := dk_172 (dk_at dksX0_looked_1 18 rfl rfl)
theorem dX0_looked_42 : decode cX0_looked 42 = .ok (.iinc 1 1, 3) := dk_132 1 1 (dk_at dksX0_looked_1 19 rfl rfl)
theorem dX0_looked_45 : decode cX0_looked 45 = .ok (.goto (-32), 3) := dk_167 255 224 (dk_at dksX0_looked_2 0 rfl rfl)
theorem dX0_looked_48 : decode cX0_looked 48 = .ok (.bipush (-5), 2) := dk_16 251 (dk_at dksX0_looked_2 3 rfl rfl)
theorem dX0_looked_50 : decode cX0_looked 50 = .ok (.ireturn, 1) := dk_172 (dk_at dksX0_looked_2 5 rfl rfl)
theorem gf_looked : xV yX0_looked RX0 cX0_looked 2 (some .int) 0 := ⟨q1145, q1146, q87, q1147, ⟨rfl, by decide +kernel, by decide +kernel, by decide +kernel⟩, by decide⟩
abbrev cX0_image : ByteArray := prog_1_method_55_code
def yX0_image : MethodName := ⟨RX0, "image", "()I"⟩
def dkwX0_image_4 : List UInt8 := [42, 180, 1, 66, 181, 1, 100, 42, 42, 180, 0, 41, 181, 1, 103, 42, 180, 0, 107, 172]
abbrev dktX0_image_4 : List UInt8 := dkwX0_image_4 ++ []
def dkwX0_image_3 : List UInt8 := [42, 180, 0, 62, 3, 42, 180, 0, 103, 3, 16, 12, 184, 1, 91, 42, 42, 180, 0, 107, 181, 1, 97, 42]
abbrev dktX0_image_3 : List UInt8 := dkwX0_image_3 ++ dktX0_image_4
def dkwX0_image_2 : List UInt8 := [180, 0, 97, 3, 16, 24, 184, 1, 91, 42, 180, 0, 59, 3, 42, 180, 0, 100, 3, 16, 12, 184, 1, 91]
abbrev dktX0_image_2 : List UInt8 := dkwX0_image_2 ++ dktX0_image_3
def dkwX0_image_1 : List UInt8 := [184, 1, 91, 42, 180, 0, 17, 3, 42, 180, 0, 94, 3, 16, 24, 184, 1, 91, 42, 180, 0, 21, 3, 42]
abbrev dktX0_image_1 : List UInt8 := dkwX0_image_1 ++ dktX0_image_2
def dkwX0_image_0 : List UInt8 := [42, 180, 0, 88, 42, 180, 0, 27, 182, 0, 252, 42, 180, 0, 13, 3, 42, 180, 0, 91, 3, 16, 6]
abbrev dktX0_image_0 : List UInt8 := dkwX0_image_0 ++ dktX0_image_1
theorem dksX0_image_0 : cX0_image.data.toList.drop 0 = dktX0_image_0 := by decide +kernel
theorem dksX0_image_1 : cX0_image.data.toList.drop 23 = dktX0_image_1 := dk_seg dksX0_image_0 23 rfl rfl
theorem dksX0_image_2 : cX0_image.data.toList.drop 47 = dktX0_image_2 := dk_seg dksX0_image_1 24 rfl rfl
theorem dksX0_image_3 : cX0_image.data.toList.drop 71 = dktX0_image_3 := dk_seg dksX0_image_2 24 rfl rfl
theorem dksX0_image_4 : cX0_image.data.toList.drop 95 = dktX0_image_4 := dk_seg dksX0_image_3 24 rfl rfl
theorem dX0_image_0 : decode cX0_image 0 = .ok (.aload_n 0, 1) := dk_42 (dk_at dksX0_image_0 0 rfl rfl)
theorem dX0_image_1 : decode cX0_image 1 = .ok (.getfield 88, 3) := dk_180 0 88 (dk_at dksX0_image_0 1 rfl rfl)
theorem dX0_image_4 : decode cX0_image 4 = .ok (.aload_n 0, 1) := dk_42 (dk_at dksX0_image_0 4 rfl rfl)
theorem dX0_image_5 : decode cX0_image 5 = .ok (.getfield 27, 3) := dk_180 0 27 (dk_at dksX0_image_0 5 rfl rfl)
theorem dX0_image_8 : decode cX0_image 8 = .ok (.invokevirtual 252, 3) := dk_182 0 252 (dk_at dksX0_image_0 8 rfl rfl)
theorem dX0_image_11 : decode cX0_image 11 = .ok (.aload_n 0, 1) := dk_42 (dk_at dksX0_image_0 11 rfl rfl)
theorem dX0_image_12 : decode cX0_image 12 = .ok (.getfield 13, 3) := dk_180 0 13 (dk_at dksX0_image_0 12 rfl rfl)
theorem dX0_image_15 : decode cX0_image 15 = .ok (.iconst 0, 1) := dk_3 (dk_at dksX0_image_0 15 rfl rfl)
theorem dX0_image_16 : decode cX0_image 16 = .ok (.aload_n 0, 1) := dk_42 (dk_at dksX0_image_0 16 rfl rfl)
theorem dX0_image_17 : decode cX0_image 17 = .ok (.getfield 91, 3) := dk_180 0 91 (dk_at dksX0_image_0 17 rfl rfl)
theorem dX0_image_20 : decode cX0_image 20 = .ok (.iconst 0, 1) := dk_3 (dk_at dksX0_image_0 20 rfl rfl)
theorem dX0_image_21 : decode cX0_image 21 = .ok (.bipush 6, 2) := dk_16 6 (dk_at dksX0_image_0 21 rfl rfl)
theorem dX0_image_23 : decode cX0_image 23 = .ok (.invokestatic 347, 3) := dk_184 1 91 (dk_at dksX0_image_1 0 rfl rfl)
theorem dX0_image_26 : decode cX0_image 26 = .ok (.aload_n 0, 1) := dk_42 (dk_at dksX0_image_1 3 rfl rfl)
theorem dX0_image_27 : decode cX0_image 27 = .ok (.getfield 17, 3) := dk_180 0 17 (dk_at dksX0_image_1 4 rfl rfl)
theorem dX0_image_30 : decode cX0_image 30 = .ok (.iconst 0, 1) := dk_3 (dk_at dksX0_image_1 7 rfl rfl)
theorem dX0_image_31 : decode cX0_image 31 = .ok (.aload_n 0, 1) := dk_42 (dk_at dksX0_image_1 8 rfl rfl)
theorem dX0_image_32 : decode cX0_image 32 = .ok (.getfield 94, 3) := dk_180 0 94 (dk_at dksX0_image_1 9 rfl rfl)
theorem dX0_image_35 : decode cX0_image 35 = .ok (.iconst 0, 1) := dk_3 (dk_at dksX0_image_1 12 rfl rfl)
theorem dX0_image_36 : decode cX0_image 36 = .ok (.bipush 24, 2) := dk_16 24 (dk_at dksX0_image_1 13 rfl rfl)
theorem dX0_image_38 : decode cX0_image 38 = .ok (.invokestatic 347, 3) := dk_184 1 91 (dk_at dksX0_image_1 15 rfl rfl)
theorem dX0_image_41 : decode cX0_image 41 = .ok (.aload_n 0, 1) := dk_42 (dk_at dksX0_image_1 18 rfl rfl)
theorem dX0_image_42 : decode cX0_image 42 = .ok (.getfield 21, 3) := dk_180 0 21 (dk_at dksX0_image_1 19 rfl rfl)
theorem dX0_image_45 : decode cX0_image 45 = .ok (.iconst 0, 1) := dk_3 (dk_at dksX0_image_1 22 rfl rfl)
theorem dX0_image_46 : decode cX0_image 46 = .ok (.aload_n 0, 1) := dk_42 (dk_at dksX0_image_1 23 rfl rfl)
theorem dX0_image_47 : decode cX0_image 47 = .ok (.getfield 97, 3) := dk_180 0 97 (dk_at dksX0_image_2 0 rfl rfl)
theorem dX0_image_50 : decode cX0_image 50 = .ok (.iconst 0, 1) := dk_3 (dk_at dksX0_image_2 3 rfl rfl)
theorem dX0_image_51 : decode cX0_image 51 = .ok (.bipush 24, 2) := dk_16 24 (dk_at dksX0_image_2 4 rfl rfl)
theorem dX0_image_53 : decode cX0_image 53 = .ok (.invokestatic 347, 3) := dk_184 1 91 (dk_at dksX0_image_2 6 rfl rfl)
theorem dX0_image_56 : decode cX0_image 56 = .ok (.aload_n 0, 1) := dk_42 (dk_at dksX0_image_2 9 rfl rfl)
theorem dX0_image_57 : decode cX0_image 57 = .ok (.getfield 59, 3) := dk_180 0 59 (dk_at dksX0_image_2 10 rfl rfl)
theorem dX0_image_60 : decode cX0_image 60 = .ok (.iconst 0, 1) := dk_3 (dk_at dksX0_image_2 13 rfl rfl)
theorem dX0_image_61 : decode cX0_image 61 = .ok (.aload_n 0, 1) := dk_42 (dk_at dksX0_image_2 14 rfl rfl)
theorem dX0_image_62 : decode cX0_image 62 = .ok (.getfield 100, 3) := dk_180 0 100 (dk_at dksX0_image_2 15 rfl rfl)
theorem dX0_image_65 : decode cX0_image 65 = .ok (.iconst 0, 1) := dk_3 (dk_at dksX0_image_2 18 rfl rfl)
theorem dX0_image_66 : decode cX0_image 66 = .ok (.bipush 12, 2) := dk_16 12 (dk_at dksX0_image_2 19 rfl rfl)
theorem dX0_image_68 : decode cX0_image 68 = .ok (.invokestatic 347, 3) := dk_184 1 91 (dk_at dksX0_image_2 21 rfl rfl)
theorem dX0_image_71 : decode cX0_image 71 = .ok (.aload_n 0, 1) := dk_42 (dk_at dksX0_image_3 0 rfl rfl)
theorem dX0_image_72 : decode cX0_image 72 = .ok (.getfield 62, 3) := dk_180 0 62 (dk_at dksX0_image_3 1 rfl rfl)
theorem dX0_image_75 : decode cX0_image 75 = .ok (.iconst 0, 1) := dk_3 (dk_at dksX0_image_3 4 rfl rfl)
theorem dX0_image_76 : decode cX0_image 76 = .ok (.aload_n 0, 1) := dk_42 (dk_at dksX0_image_3 5 rfl rfl)
theorem dX0_image_77 : decode cX0_image 77 = .ok (.getfield 103, 3) := dk_180 0 103 (dk_at dksX0_image_3 6 rfl rfl)
theorem dX0_image_80 : decode cX0_image 80 = .ok (.iconst 0, 1) := dk_3 (dk_at dksX0_image_3 9 rfl rfl)
theorem dX0_image_81 : decode cX0_image 81 = .ok (.bipush 12, 2) := dk_16 12 (dk_at dksX0_image_3 10 rfl rfl)
theorem dX0_image_83 : decode cX0_image 83 = .ok (.invokestatic 347, 3) := dk_184 1 91 (dk_at dksX0_image_3 12 rfl rfl)
theorem dX0_image_86 : decode cX0_image 86 = .ok (.aload_n 0, 1) := dk_42 (dk_at dksX0_image_3 15 rfl rfl)
theorem dX0_image_87 : decode cX0_image 87 = .ok (.aload_n 0, 1) := dk_42 (dk_at dksX0_image_3 16 rfl rfl)
theorem dX0_image_88 : decode cX0_image 88 = .ok (.getfield 107, 3) := dk_180 0 107 (dk_at dksX0_image_3 17 rfl rfl)
theorem dX0_image_91 : decode cX0_image 91 = .ok (.putfield 353, 3) := dk_181 1 97 (dk_at dksX0_image_3 20 rfl rfl)
theorem dX0_image_94 : decode cX0_image 94 = .ok (.aload_n 0, 1) := dk_42 (dk_at dksX0_image_3 23 rfl rfl)
theorem dX0_image_95 : decode cX0_image 95 = .ok (.aload_n 0, 1) := dk_42 (dk_at dksX0_image_4 0 rfl rfl)
theorem dX0_image_96 : decode cX0_image 96 = .ok (.getfield 322, 3) := dk_180 1 66 (dk_at dksX0_image_4 1 rfl rfl)
theorem dX0_image_99 : decode cX0_image 99 = .ok (.putfield 356, 3) := dk_181 1 100 (dk_at dksX0_image_4 4 rfl rfl)
theorem dX0_image_102 : decode cX0_image 102 = .ok (.aload_n 0, 1) := dk_42 (dk_at dksX0_image_4 7 rfl rfl)
theorem dX0_image_103 : decode cX0_image 103 = .ok (.aload_n 0, 1) := dk_42 (dk_at dksX0_image_4 8 rfl rfl)
theorem dX0_image_104 : decode cX0_image 104 = .ok (.getfield 41, 3) := dk_180 0 41 (dk_at dksX0_image_4 9 rfl rfl)
theorem dX0_image_107 : decode cX0_image 107 = .ok (.putfield 359, 3) := dk_181 1 103 (dk_at dksX0_image_4 12 rfl rfl)
theorem dX0_image_110 : decode cX0_image 110 = .ok (.aload_n 0, 1) := dk_42 (dk_at dksX0_image_4 15 rfl rfl)
theorem dX0_image_111 : decode cX0_image 111 = .ok (.getfield 107, 3) := dk_180 0 107 (dk_at dksX0_image_4 16 rfl rfl)
theorem dX0_image_114 : decode cX0_image 114 = .ok (.ireturn, 1) := dk_172 (dk_at dksX0_image_4 19 rfl rfl)
theorem gf_image : xV yX0_image RX0 cX0_image 1 (some .int) 0 := ⟨q1212, q1213, q87, q1214, ⟨rfl, by decide +kernel, by decide +kernel, by decide +kernel⟩, by decide⟩
abbrev cX0_undo : ByteArray := prog_1_method_56_code
def yX0_undo : MethodName := ⟨RX0, "undo", "()I"⟩
def dkwX0_undo_5 : List UInt8 := [181, 0, 41, 42, 180, 0, 107, 172]
abbrev dktX0_undo_5 : List UInt8 := dkwX0_undo_5 ++ []
def dkwX0_undo_4 : List UInt8 := [184, 1, 91, 42, 42, 180, 1, 97, 181, 0, 107, 42, 42, 180, 1, 100, 181, 1, 66, 42, 42, 180, 1, 103]
abbrev dktX0_undo_4 : List UInt8 := dkwX0_undo_4 ++ dktX0_undo_5
def dkwX0_undo_3 : List UInt8 := [3, 42, 180, 0, 59, 3, 16, 12, 184, 1, 91, 42, 180, 0, 103, 3, 42, 180, 0, 62, 3, 16, 12]
abbrev dktX0_undo_3 : List UInt8 := dkwX0_undo_3 ++ dktX0_undo_4
def dkwX0_undo_2 : List UInt8 := [16, 24, 184, 1, 91, 42, 180, 0, 97, 3, 42, 180, 0, 21, 3, 16, 24, 184, 1, 91, 42, 180, 0, 100]
abbrev dktX0_undo_2 : List UInt8 := dkwX0_undo_2 ++ dktX0_undo_3
def dkwX0_undo_1 : List UInt8 := [180, 0, 91, 3, 42, 180, 0, 13, 3, 16, 6, 184, 1, 91, 42, 180, 0, 94, 3, 42, 180, 0, 17, 3]
abbrev dktX0_undo_1 : List UInt8 := dkwX0_undo_1 ++ dktX0_undo_2
def dkwX0_undo_0 : List UInt8 := [42, 180, 1, 103, 199, 0, 6, 16, 253, 172, 42, 180, 0, 27, 42, 180, 0, 88, 182, 0, 252, 42]
abbrev dktX0_undo_0 : List UInt8 := dkwX0_undo_0 ++ dktX0_undo_1
theorem dksX0_undo_0 : cX0_undo.data.toList.drop 0 = dktX0_undo_0 := by decide +kernel
theorem dksX0_undo_1 : cX0_undo.data.toList.drop 22 = dktX0_undo_1 := dk_seg dksX0_undo_0 22 rfl rfl
theorem dksX0_undo_2 : cX0_undo.data.toList.drop 46 = dktX0_undo_2 := dk_seg dksX0_undo_1 24 rfl rfl
theorem dksX0_undo_3 : cX0_undo.data.toList.drop 70 = dktX0_undo_3 := dk_seg dksX0_undo_2 24 rfl rfl
theorem dksX0_undo_4 : cX0_undo.data.toList.drop 93 = dktX0_undo_4 := dk_seg dksX0_undo_3 23 rfl rfl
theorem dksX0_undo_5 : cX0_undo.data.toList.drop 117 = dktX0_undo_5 := dk_seg dksX0_undo_4 24 rfl rfl
theorem dX0_undo_0 : decode cX0_undo 0 = .ok (.aload_n 0, 1) := dk_42 (dk_at dksX0_undo_0 0 rfl rfl)
theorem dX0_undo_1 : decode cX0_undo 1 = .ok (.getfield 359, 3) := dk_180 1 103 (dk_at dksX0_undo_0 1 rfl rfl)
theorem dX0_undo_4 : decode cX0_undo 4 = .ok (.ifnonnull 6, 3) := dk_199 0 6 (dk_at dksX0_undo_0 4 rfl rfl)
theorem dX0_undo_7 : decode cX0_undo 7 = .ok (.bipush (-3), 2) := dk_16 253 (dk_at dksX0_undo_0 7 rfl rfl)
theorem dX0_undo_9 : decode cX0_undo 9 = .ok (.ireturn, 1) := dk_172 (dk_at dksX0_undo_0 9 rfl rfl)
theorem dX0_undo_10 : decode cX0_undo 10 = .ok (.aload_n 0, 1) := dk_42 (dk_at dksX0_undo_0 10 rfl rfl)
theorem dX0_undo_11 : decode cX0_undo 11 = .ok (.getfield 27, 3) := dk_180 0 27 (dk_at dksX0_undo_0 11 rfl rfl)
theorem dX0_undo_14 : decode cX0_undo 14 = .ok (.aload_n 0, 1) := dk_42 (dk_at dksX0_undo_0 14 rfl rfl)
theorem dX0_undo_15 : decode cX0_undo 15 = .ok (.getfield 88, 3) := dk_180 0 88 (dk_at dksX0_undo_0 15 rfl rfl)
theorem dX0_undo_18 : decode cX0_undo 18 = .ok (.invokevirtual 252, 3) := dk_182 0 252 (dk_at dksX0_undo_0 18 rfl rfl)
theorem dX0_undo_21 : decode cX0_undo 21 = .ok (.aload_n 0, 1) := dk_42 (dk_at dksX0_undo_0 21 rfl rfl)
theorem dX0_undo_22 : decode cX0_undo 22 = .ok (.getfield 91, 3) := dk_180 0 91 (dk_at dksX0_undo_1 0 rfl rfl)
theorem dX0_undo_25 : decode cX0_undo 25 = .ok (.iconst 0, 1) := dk_3 (dk_at dksX0_undo_1 3 rfl rfl)
theorem dX0_undo_26 : decode cX0_undo 26 = .ok (.aload_n 0, 1) := dk_42 (dk_at dksX0_undo_1 4 rfl rfl)
theorem dX0_undo_27 : decode cX0_undo 27 = .ok (.getfield 13, 3) := dk_180 0 13 (dk_at dksX0_undo_1 5 rfl rfl)
theorem dX0_undo_30 : decode cX0_undo 30 = .ok (.iconst 0, 1) := dk_3 (dk_at dksX0_undo_1 8 rfl rfl)
theorem dX0_undo_31 : decode cX0_undo 31 = .ok (.bipush 6, 2) := dk_16 6 (dk_at dksX0_undo_1 9 rfl rfl)
theorem dX0_undo_33 : decode cX0_undo 33 = .ok (.invokestatic 347, 3) := dk_184 1 91 (dk_at dksX0_undo_1 11 rfl rfl)
theorem dX0_undo_36 : decode cX0_undo 36 = .ok (.aload_n 0, 1) := dk_42 (dk_at dksX0_undo_1 14 rfl rfl)
theorem dX0_undo_37 : decode cX0_undo 37 = .ok (.getfield 94, 3) := dk_180 0 94 (dk_at dksX0_undo_1 15 rfl rfl)
theorem dX0_undo_40 : decode cX0_undo 40 = .ok (.iconst 0, 1) := dk_3 (dk_at dksX0_undo_1 18 rfl rfl)
theorem dX0_undo_41 : decode cX0_undo 41 = .ok (.aload_n 0, 1) := dk_42 (dk_at dksX0_undo_1 19 rfl rfl)
theorem dX0_undo_42 : decode cX0_undo 42 = .ok (.getfield 17, 3) := dk_180 0 17 (dk_at dksX0_undo_1 20 rfl rfl)
theorem dX0_undo_45 : decode cX0_undo 45 = .ok (.iconst 0, 1) := dk_3 (dk_at dksX0_undo_1 23 rfl rfl)
theorem dX0_undo_46 : decode cX0_undo 46 = .ok (.bipush 24, 2) := dk_16 24 (dk_at dksX0_undo_2 0 rfl rfl)
theorem dX0_undo_48 : decode cX0_undo 48 = .ok (.invokestatic 347, 3) := dk_184 1 91 (dk_at dksX0_undo_2 2 rfl rfl)
theorem dX0_undo_51 : decode cX0_undo 51 = .ok (.aload_n 0, 1) := dk_42 (dk_at dksX0_undo_2 5 rfl rfl)
theorem dX0_undo_52 : decode cX0_undo 52 = .ok (.getfield 97, 3) := dk_180 0 97 (dk_at dksX0_undo_2 6 rfl rfl)
theorem dX0_undo_55 : decode cX0_undo 55 = .ok (.iconst 0, 1) := dk_3 (dk_at dksX0_undo_2 9 rfl rfl)
theorem dX0_undo_56 : decode cX0_undo 56 = .ok (.aload_n 0, 1) := dk_42 (dk_at dksX0_undo_2 10 rfl rfl)
theorem dX0_undo_57 : decode cX0_undo 57 = .ok (.getfield 21, 3) := dk_180 0 21 (dk_at dksX0_undo_2 11 rfl rfl)
theorem dX0_undo_60 : decode cX0_undo 60 = .ok (.iconst 0, 1) := dk_3 (dk_at dksX0_undo_2 14 rfl rfl)
theorem dX0_undo_61 : decode cX0_undo 61 = .ok (.bipush 24, 2) := dk_16 24 (dk_at dksX0_undo_2 15 rfl rfl)
theorem dX0_undo_63 : decode cX0_undo 63 = .ok (.invokestatic 347, 3) := dk_184 1 91 (dk_at dksX0_undo_2 17 rfl rfl)
theorem dX0_undo_66 : decode cX0_undo 66 = .ok (.aload_n 0, 1) := dk_42 (dk_at dksX0_undo_2 20 rfl rfl)
theorem dX0_undo_67 : decode cX0_undo 67 = .ok (.getfield 100, 3) := dk_180 0 100 (dk_at dksX0_undo_2 21 rfl rfl)
theorem dX0_undo_70 : decode cX0_undo 70 = .ok (.iconst 0, 1) := dk_3 (dk_at dksX0_undo_3 0 rfl rfl)
theorem dX0_undo_71 : decode cX0_undo 71 = .ok (.aload_n 0, 1) := dk_42 (dk_at dksX0_undo_3 1 rfl rfl)
theorem dX0_undo_72 : decode cX0_undo 72 = .ok (.getfield 59, 3) := dk_180 0 59 (dk_at dksX0_undo_3 2 rfl rfl)
theorem dX0_undo_75 : decode cX0_undo 75 = .ok (.iconst 0, 1) := dk_3 (dk_at dksX0_undo_3 5 rfl rfl)
theorem dX0_undo_76 : decode cX0_undo 76 = .ok (.bipush 12, 2) := dk_16 12 (dk_at dksX0_undo_3 6 rfl rfl)
theorem dX0_undo_78 : decode cX0_undo 78 = .ok (.invokestatic 347, 3) := dk_184 1 91 (dk_at dksX0_undo_3 8 rfl rfl)
theorem dX0_undo_81 : decode cX0_undo 81 = .ok (.aload_n 0, 1) := dk_42 (dk_at dksX0_undo_3 11 rfl rfl)
theorem dX0_undo_82 : decode cX0_undo 82 = .ok (.getfield 103, 3) := dk_180 0 103 (dk_at dksX0_undo_3 12 rfl rfl)
theorem dX0_undo_85 : decode cX0_undo 85 = .ok (.iconst 0, 1) := dk_3 (dk_at dksX0_undo_3 15 rfl rfl)
theorem dX0_undo_86 : decode cX0_undo 86 = .ok (.aload_n 0, 1) := dk_42 (dk_at dksX0_undo_3 16 rfl rfl)
theorem dX0_undo_87 : decode cX0_undo 87 = .ok (.getfield 62, 3) := dk_180 0 62 (dk_at dksX0_undo_3 17 rfl rfl)
theorem dX0_undo_90 : decode cX0_undo 90 = .ok (.iconst 0, 1) := dk_3 (dk_at dksX0_undo_3 20 rfl rfl)
theorem dX0_undo_91 : decode cX0_undo 91 = .ok (.bipush 12, 2) := dk_16 12 (dk_at dksX0_undo_3 21 rfl rfl)
theorem dX0_undo_93 : decode cX0_undo 93 = .ok (.invokestatic 347, 3) := dk_184 1 91 (dk_at dksX0_undo_4 0 rfl rfl)
theorem dX0_undo_96 : decode cX0_undo 96 = .ok (.aload_n 0, 1) := dk_42 (dk_at dksX0_undo_4 3 rfl rfl)
theorem dX0_undo_97 : decode cX0_undo 97 = .ok (.aload_n 0, 1) := dk_42 (dk_at dksX0_undo_4 4 rfl rfl)
theorem dX0_undo_98 : decode cX0_undo 98 = .ok (.getfield 353, 3) := dk_180 1 97 (dk_at dksX0_undo_4 5 rfl rfl)
theorem dX0_undo_101 : decode cX0_undo 101 = .ok (.putfield 107, 3) := dk_181 0 107 (dk_at dksX0_undo_4 8 rfl rfl)
theorem dX0_undo_104 : decode cX0_undo 104 = .ok (.aload_n 0, 1) := dk_42 (dk_at dksX0_undo_4 11 rfl rfl)
theorem dX0_undo_105 : decode cX0_undo 105 = .ok (.aload_n 0, 1) := dk_42 (dk_at dksX0_undo_4 12 rfl rfl)
theorem dX0_undo_106 : decode cX0_undo 106 = .ok (.getfield 356, 3) := dk_180 1 100 (dk_at dksX0_undo_4 13 rfl rfl)
theorem dX0_undo_109 : decode cX0_undo 109 = .ok (.putfield 322, 3) := dk_181 1 66 (dk_at dksX0_undo_4 16 rfl rfl)
theorem dX0_undo_112 : decode cX0_undo 112 = .ok (.aload_n 0, 1) := dk_42 (dk_at dksX0_undo_4 19 rfl rfl)
theorem dX0_undo_113 : decode cX0_undo 113 = .ok (.aload_n 0, 1) := dk_42 (dk_at dksX0_undo_4 20 rfl rfl)
theorem dX0_undo_114 : decode cX0_undo 114 = .ok (.getfield 359, 3) := dk_180 1 103 (dk_at dksX0_undo_4 21 rfl rfl)
theorem dX0_undo_117 : decode cX0_undo 117 = .ok (.putfield 41, 3) := dk_181 0 41 (dk_at dksX0_undo_5 0 rfl rfl)
theorem dX0_undo_120 : decode cX0_undo 120 = .ok (.aload_n 0, 1) := dk_42 (dk_at dksX0_undo_5 3 rfl rfl)
theorem dX0_undo_121 : decode cX0_undo 121 = .ok (.getfield 107, 3) := dk_180 0 107 (dk_at dksX0_undo_5 4 rfl rfl)
theorem dX0_undo_124 : decode cX0_undo 124 = .ok (.ireturn, 1) := dk_172 (dk_at dksX0_undo_5 7 rfl rfl)
theorem gf_undo : xV yX0_undo RX0 cX0_undo 1 (some .int) 0 := ⟨q1217, q1218, q87, q1219, ⟨rfl, by decide +kernel, by decide +kernel, by decide +kernel⟩, by decide⟩
abbrev cX0_act : ByteArray := prog_1_method_57_code
def yX0_act : MethodName := ⟨RX0, "act", "(III)I"⟩
def dkwX0_act_2 : List UInt8 := [167, 0, 23, 28, 4, 160, 0, 12, 25, 4, 29, 182, 1, 112, 167, 0, 9, 25, 4, 29, 182, 1, 115, 172]
abbrev dktX0_act_2 : List UInt8 := dkwX0_act_2 ++ []
def dkwX0_act_1 : List UInt8 := [154, 0, 5, 3, 172, 42, 180, 0, 13, 27, 50, 58, 4, 28, 154, 0, 12, 25, 4, 29, 182, 1, 109]
abbrev dktX0_act_1 : List UInt8 := dkwX0_act_1 ++ dktX0_act_2
def dkwX0_act_0 : List UInt8 := [42, 180, 0, 55, 3, 181, 1, 106, 42, 27, 182, 0, 140, 153, 0, 12, 28, 3, 5, 184, 0, 111]
abbrev dktX0_act_0 : List UInt8 := dkwX0_act_0 ++ dktX0_act_1
theorem dksX0_act_0 : cX0_act.data.toList.drop 0 = dktX0_act_0 := by decide +kernel
theorem dksX0_act_1 : cX0_act.data.toList.drop 22 = dktX0_act_1 := dk_seg dksX0_act_0 22 rfl rfl
theorem dksX0_act_2 : cX0_act.data.toList.drop 45 = dktX0_act_2 := dk_seg dksX0_act_1 23 rfl rfl
theorem dX0_act_0 : decode cX0_act 0 = .ok (.aload_n 0, 1) := dk_42 (dk_at dksX0_act_0 0 rfl rfl)
theorem dX0_act_1 : decode cX0_act 1 = .ok (.getfield 55, 3) := dk_180 0 55 (dk_at dksX0_act_0 1 rfl rfl)
theorem dX0_act_4 : decode cX0_act 4 = .ok (.iconst 0, 1) := dk_3 (dk_at dksX0_act_0 4 rfl rfl)
theorem dX0_act_5 : decode cX0_act 5 = .ok (.putfield 362, 3) := dk_181 1 106 (dk_at dksX0_act_0 5 rfl rfl)
theorem dX0_act_8 : decode cX0_act 8 = .ok (.aload_n 0, 1) := dk_42 (dk_at dksX0_act_0 8 rfl rfl)
theorem dX0_act_9 : decode cX0_act 9 = .ok (.iload_n 1, 1) := dk_27 (dk_at dksX0_act_0 9 rfl rfl)
theorem dX0_act_10 : decode cX0_act 10 = .ok (.invokevirtual 140, 3) := dk_182 0 140 (dk_at dksX0_act_0 10 rfl rfl)
theorem dX0_act_13 : decode cX0_act 13 = .ok (.ifCond .eq 12, 3) := dk_153 0 12 (dk_at dksX0_act_0 13 rfl rfl)
theorem dX0_act_16 : decode cX0_act 16 = .ok (.iload_n 2, 1) := dk_28 (dk_at dksX0_act_0 16 rfl rfl)
theorem dX0_act_17 : decode cX0_act 17 = .ok (.iconst 0, 1) := dk_3 (dk_at dksX0_act_0 17 rfl rfl)
theorem dX0_act_18 : decode cX0_act 18 = .ok (.iconst 2, 1) := dk_5 (dk_at dksX0_act_0 18 rfl rfl)
theorem dX0_act_19 : decode cX0_act 19 = .ok (.invokestatic 111, 3) := dk_184 0 111 (dk_at dksX0_act_0 19 rfl rfl)
theorem dX0_act_22 : decode cX0_act 22 = .ok (.ifCond .ne 5, 3) := dk_154 0 5 (dk_at dksX0_act_1 0 rfl rfl)
theorem dX0_act_25 : decode cX0_act 25 = .ok (.iconst 0, 1) := dk_3 (dk_at dksX0_act_1 3 rfl rfl)
theorem dX0_act_26 : decode cX0_act 26 = .ok (.ireturn, 1) := dk_172 (dk_at dksX0_act_1 4 rfl rfl)
theorem dX0_act_27 : decode cX0_act 27 = .ok (.aload_n 0, 1) := dk_42 (dk_at dksX0_act_1 5 rfl rfl)
theorem dX0_act_28 : decode cX0_act 28 = .ok (.getfield 13, 3) := dk_180 0 13 (dk_at dksX0_act_1 6 rfl rfl)
theorem dX0_act_31 : decode cX0_act 31 = .ok (.iload_n 1, 1) := dk_27 (dk_at dksX0_act_1 9 rfl rfl)
theorem dX0_act_32 : decode cX0_act 32 = .ok (.aaload, 1) := dk_50 (dk_at dksX0_act_1 10 rfl rfl)
theorem dX0_act_33 : decode cX0_act 33 = .ok (.astore 4, 2) := dk_58 4 (dk_at dksX0_act_1 11 rfl rfl)
theorem dX0_act_35 : decode cX0_act 35 = .ok (.iload_n 2, 1) := dk_28 (dk_at dksX0_act_1 13 rfl rfl)
theorem dX0_act_36 : decode cX0_act 36 = .ok (.ifCond .ne 12, 3) := dk_154 0 12 (dk_at dksX0_act_1 14 rfl rfl)
theorem dX0_act_39 : decode cX0_act 39 = .ok (.aload 4, 2) := dk_25 4 (dk_at dksX0_act_1 17 rfl rfl)
theorem dX0_act_41 : decode cX0_act 41 = .ok (.iload_n 3, 1) := dk_29 (dk_at dksX0_act_1 19 rfl rfl)
theorem dX0_act_42 : decode cX0_act 42 = .ok (.invokevirtual 365, 3) := dk_182 1 109 (dk_at dksX0_act_1 20 rfl rfl)
theorem dX0_act_45 : decode cX0_act 45 = .ok (.goto 23, 3) := dk_167 0 23 (dk_at dksX0_act_2 0 rfl rfl)
theorem dX0_act_48 : decode cX0_act 48 = .ok (.iload_n 2, 1) := dk_28 (dk_at dksX0_act_2 3 rfl rfl)
theorem dX0_act_49 : decode cX0_act 49 = .ok (.iconst 1, 1) := dk_4 (dk_at dksX0_act_2 4 rfl rfl)
theorem dX0_act_50 : decode cX0_act 50 = .ok (.if_icmp .ne 12, 3) := dk_160 0 12 (dk_at dksX0_act_2 5 rfl rfl)
theorem dX0_act_53 : decode cX0_act 53 = .ok (.aload 4, 2) := dk_25 4 (dk_at dksX0_act_2 8 rfl rfl)
theorem dX0_act_55 : decode cX0_act 55 = .ok (.iload_n 3, 1) := dk_29 (dk_at dksX0_act_2 10 rfl rfl)
theorem dX0_act_56 : decode cX0_act 56 = .ok (.invokevirtual 368, 3) := dk_182 1 112 (dk_at dksX0_act_2 11 rfl rfl)
theorem dX0_act_59 : decode cX0_act 59 = .ok (.goto 9, 3) := dk_167 0 9 (dk_at dksX0_act_2 14 rfl rfl)
theorem dX0_act_62 : decode cX0_act 62 = .ok (.aload 4, 2) := dk_25 4 (dk_at dksX0_act_2 17 rfl rfl)
theorem dX0_act_64 : decode cX0_act 64 = .ok (.iload_n 3, 1) := dk_29 (dk_at dksX0_act_2 19 rfl rfl)
theorem dX0_act_65 : decode cX0_act 65 = .ok (.invokevirtual 371, 3) := dk_182 1 115 (dk_at dksX0_act_2 20 rfl rfl)
theorem dX0_act_68 : decode cX0_act 68 = .ok (.ireturn, 1) := dk_172 (dk_at dksX0_act_2 23 rfl rfl)
theorem gf_act : xV yX0_act RX0 cX0_act 5 (some .int) 3 := ⟨q1221, q1222, q87, q1223, ⟨rfl, by decide +kernel, by decide +kernel, by decide +kernel⟩, by decide⟩
abbrev cX0_trace : ByteArray := prog_1_method_58_code
def yX0_trace : MethodName := ⟨RX0, "trace", "(I)I"⟩
def dkwX0_trace_1 : List UInt8 := [180, 0, 55, 180, 1, 118, 27, 46, 167, 0, 4, 2, 172]
abbrev dktX0_trace_1 : List UInt8 := dkwX0_trace_1 ++ []
def dkwX0_trace_0 : List UInt8 := [27, 3, 42, 180, 0, 55, 180, 1, 106, 16, 20, 184, 0, 186, 4, 100, 184, 0, 111, 153, 0, 15, 42]
abbrev dktX0_trace_0 : List UInt8 := dkwX0_trace_0 ++ dktX0_trace_1
theorem dksX0_trace_0 : cX0_trace.data.toList.drop 0 = dktX0_trace_0 := by decide +kernel
theorem dksX0_trace_1 : cX0_trace.data.toList.drop 23 = dktX0_trace_1 := dk_seg dksX0_trace_0 23 rfl rfl
theorem dX0_trace_0 : decode cX0_trace 0 = .ok (.iload_n 1, 1) := dk_27 (dk_at dksX0_trace_0 0 rfl rfl)
theorem dX0_trace_1 : decode cX0_trace 1 = .ok (.iconst 0, 1) := dk_3 (dk_at dksX0_trace_0 1 rfl rfl)
theorem dX0_trace_2 : decode cX0_trace 2 = .ok (.aload_n 0, 1) := dk_42 (dk_at dksX0_trace_0 2 rfl rfl)
theorem dX0_trace_3 : decode cX0_trace 3 = .ok (.getfield 55, 3) := dk_180 0 55 (dk_at dksX0_trace_0 3 rfl rfl)
theorem dX0_trace_6 : decode cX0_trace 6 = .ok (.getfield 362, 3) := dk_180 1 106 (dk_at dksX0_trace_0 6 rfl rfl)
theorem dX0_trace_9 : decode cX0_trace 9 = .ok (.bipush 20, 2) := dk_16 20 (dk_at dksX0_trace_0 9 rfl rfl)
theorem dX0_trace_11 : decode cX0_trace 11 = .ok (.invokestatic 186, 3) := dk_184 0 186 (dk_at dksX0_trace_0 11 rfl rfl)
theorem dX0_trace_14 : decode cX0_trace 14 = .ok (.iconst 1, 1) := dk_4 (dk_at dksX0_trace_0 14 rfl rfl)
theorem dX0_trace_15 : decode cX0_trace 15 = .ok (.isub, 1) := dk_100 (dk_at dksX0_trace_0 15 rfl rfl)
theorem dX0_trace_16 : decode cX0_trace 16 = .ok (.invokestatic 111, 3) := dk_184 0 111 (dk_at dksX0_trace_0 16 rfl rfl)
theorem dX0_trace_19 : decode cX0_trace 19 = .ok (.ifCond .eq 15, 3) := dk_153 0 15 (dk_at dksX0_trace_0 19 rfl rfl)
theorem dX0_trace_22 : decode cX0_trace 22 = .ok (.aload_n 0, 1) := dk_42 (dk_at dksX0_trace_0 22 rfl rfl)
theorem dX0_trace_23 : decode cX0_trace 23 = .ok (.getfield 55, 3) := dk_180 0 55 (dk_at dksX0_trace_1 0 rfl rfl)
theorem dX0_trace_26 : decode cX0_trace 26 = .ok (.getfield 374, 3) := dk_180 1 118 (dk_at dksX0_trace_1 3 rfl rfl)
theorem dX0_trace_29 : decode cX0_trace 29 = .ok (.iload_n 1, 1) := dk_27 (dk_at dksX0_trace_1 6 rfl rfl)
theorem dX0_trace_30 : decode cX0_trace 30 = .ok (.iaload, 1) := dk_46 (dk_at dksX0_trace_1 7 rfl rfl)
theorem dX0_trace_31 : decode cX0_trace 31 = .ok (.goto 4, 3) := dk_167 0 4 (dk_at dksX0_trace_1 8 rfl rfl)
theorem dX0_trace_34 : decode cX0_trace 34 = .ok (.iconst (-1), 1) := dk_2 (dk_at dksX0_trace_1 11 rfl rfl)
theorem dX0_trace_35 : decode cX0_trace 35 = .ok (.ireturn, 1) := dk_172 (dk_at dksX0_trace_1 12 rfl rfl)
theorem gf_trace : xV yX0_trace RX0 cX0_trace 2 (some .int) 1 := ⟨q1304, q1305, q87, q1306, ⟨rfl, by decide +kernel, by decide +kernel, by decide +kernel⟩, by decide⟩
abbrev cX0_count : ByteArray := prog_1_method_61_code
def yX0_count : MethodName := ⟨RX0, "count", "(I)I"⟩
def dkwX0_count_3 : List UInt8 := [180, 1, 106, 172, 16, 254, 172]
abbrev dktX0_count_3 : List UInt8 := dkwX0_count_3 ++ []
def dkwX0_count_2 : List UInt8 := [42, 180, 0, 107, 172, 42, 180, 0, 226, 172, 42, 180, 1, 66, 172, 42, 180, 0, 223, 172, 42, 180, 0, 55]
abbrev dktX0_count_2 : List UInt8 := dkwX0_count_2 ++ dktX0_count_3
def dkwX0_count_1 : List UInt8 := [170, 0, 0, 0, 0, 0, 63, 0, 0, 0, 0, 0, 0, 0, 4, 0, 0, 0, 35, 0, 0, 0, 40, 0, 0, 0, 45, 0, 0, 0, 50, 0, 0, 0, 55]
abbrev dktX0_count_1 : List UInt8 := dkwX0_count_1 ++ dktX0_count_2
def dkwX0_count_0 : List UInt8 := [27]
abbrev dktX0_count_0 : List UInt8 := dkwX0_count_0 ++ dktX0_count_1
theorem dksX0_count_0 : cX0_count.data.toList.drop 0 = dktX0_count_0 := by decide +kernel
theorem dksX0_count_1 : cX0_count.data.toList.drop 1 = dktX0_count_1 := dk_seg dksX0_count_0 1 rfl rfl
theorem dksX0_count_2 : cX0_count.data.toList.drop 36 = dktX0_count_2 := dk_seg dksX0_count_1 35 rfl rfl
theorem dksX0_count_3 : cX0_count.data.toList.drop 60 = dktX0_count_3 := dk_seg dksX0_count_2 24 rfl rfl
theorem dX0_count_0 : decode cX0_count 0 = .ok (.iload_n 1, 1) := dk_27 (dk_at dksX0_count_0 0 rfl rfl)
theorem dX0_count_1 : decode cX0_count 1 = .ok (.tableswitch 63 0 4 #[35, 40, 45, 50, 55], 35) := by decide +kernel
theorem dX0_count_36 : decode cX0_count 36 = .ok (.aload_n 0, 1) := dk_42 (dk_at dksX0_count_2 0 rfl rfl)
theorem dX0_count_37 : decode cX0_count 37 = .ok (.getfield 107, 3) := dk_180 0 107 (dk_at dksX0_count_2 1 rfl rfl)
theorem dX0_count_40 : decode cX0_count 40 = .ok (.ireturn, 1) := dk_172 (dk_at dksX0_count_2 4 rfl rfl)
theorem dX0_count_41 : decode cX0_count 41 = .ok (.aload_n 0, 1) := dk_42 (dk_at dksX0_count_2 5 rfl rfl)
theorem dX0_count_42 : decode cX0_count 42 = .ok (.getfield 226, 3) := dk_180 0 226 (dk_at dksX0_count_2 6 rfl rfl)
theorem dX0_count_45 : decode cX0_count 45 = .ok (.ireturn, 1) := dk_172 (dk_at dksX0_count_2 9 rfl rfl)
theorem dX0_count_46 : decode cX0_count 46 = .ok (.aload_n 0, 1) := dk_42 (dk_at dksX0_count_2 10 rfl rfl)
theorem dX0_count_47 : decode cX0_count 47 = .ok (.getfield 322, 3) := dk_180 1 66 (dk_at dksX0_count_2 11 rfl rfl)
theorem dX0_count_50 : decode cX0_count 50 = .ok (.ireturn, 1) := dk_172 (dk_at dksX0_count_2 14 rfl rfl)
theorem dX0_count_51 : decode cX0_count 51 = .ok (.aload_n 0, 1) := dk_42 (dk_at dksX0_count_2 15 rfl rfl)
theorem dX0_count_52 : decode cX0_count 52 = .ok (.getfield 223, 3) := dk_180 0 223 (dk_at dksX0_count_2 16 rfl rfl)
theorem dX0_count_55 : decode cX0_count 55 = .ok (.ireturn, 1) := dk_172 (dk_at dksX0_count_2 19 rfl rfl)
theorem dX0_count_56 : decode cX0_count 56 = .ok (.aload_n 0, 1) := dk_42 (dk_at dksX0_count_2 20 rfl rfl)
theorem dX0_count_57 : decode cX0_count 57 = .ok (.getfield 55, 3) := dk_180 0 55 (dk_at dksX0_count_2 21 rfl rfl)
theorem dX0_count_60 : decode cX0_count 60 = .ok (.getfield 362, 3) := dk_180 1 106 (dk_at dksX0_count_3 0 rfl rfl)
theorem dX0_count_63 : decode cX0_count 63 = .ok (.ireturn, 1) := dk_172 (dk_at dksX0_count_3 3 rfl rfl)
theorem dX0_count_64 : decode cX0_count 64 = .ok (.bipush (-2), 2) := dk_16 254 (dk_at dksX0_count_3 4 rfl rfl)
theorem dX0_count_66 : decode cX0_count 66 = .ok (.ireturn, 1) := dk_172 (dk_at dksX0_count_3 6 rfl rfl)
theorem gf_count : xV yX0_count RX0 cX0_count 2 (some .int) 1 := ⟨q1315, q1316, q87, q1317, ⟨rfl, by decide +kernel, by decide +kernel, by decide +kernel⟩, by decide⟩
abbrev cX0_isTape : ByteArray := prog_1_method_63_code
def yX0_isTape : MethodName := ⟨RX0, "isTape", "(I)Z"⟩
def dkwX0_isTape_0 : List UInt8 := [26, 3, 8, 184, 0, 111, 172]
abbrev dktX0_isTape_0 : List UInt8 := dkwX0_isTape_0 ++ []
theorem dksX0_isTape_0 : cX0_isTape.data.toList.drop 0 = dktX0_isTape_0 := by decide +kernel
theorem dX0_isTape_0 : decode cX0_isTape 0 = .ok (.iload_n 0, 1) := dk_26 (dk_at dksX0_isTape_0 0 rfl rfl)
theorem dX0_isTape_1 : decode cX0_isTape 1 = .ok (.iconst 0, 1) := dk_3 (dk_at dksX0_isTape_0 1 rfl rfl)
theorem dX0_isTape_2 : decode cX0_isTape 2 = .ok (.iconst 5, 1) := dk_8 (dk_at dksX0_isTape_0 2 rfl rfl)
theorem dX0_isTape_3 : decode cX0_isTape 3 = .ok (.invokestatic 111, 3) := dk_184 0 111 (dk_at dksX0_isTape_0 3 rfl rfl)
theorem dX0_isTape_6 : decode cX0_isTape 6 = .ok (.ireturn, 1) := dk_172 (dk_at dksX0_isTape_0 6 rfl rfl)
theorem gf_isTape : xS yX0_isTape cX0_isTape 1 (some .boolean) 1 := ⟨q1184, q87, q1185, ⟨by decide +kernel, by decide +kernel, by decide +kernel⟩, by decide⟩
