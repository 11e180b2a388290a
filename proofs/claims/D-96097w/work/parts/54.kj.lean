/-! firstOther, judge -/
set_option maxRecDepth 100000
abbrev cX0_firstOther : ByteArray := prog_1_method_53_code
def yX0_firstOther : MethodName := ⟨RX0, "firstOther", "([SI)I"⟩
def dkwX0_firstOther_3 : List UInt8 := [29, 16, 100, 96, 172, 58, 4, 29, 16, 100, 96, 172]
abbrev dktX0_firstOther_3 : List UInt8 := dkwX0_firstOther_3 ++ []
def dkwX0_firstOther_2 : List UInt8 := [180, 0, 27, 180, 0, 195, 29, 46, 159, 0, 5, 29, 172, 132, 3, 1, 167, 255, 196, 16, 251, 172, 58, 4]
abbrev dktX0_firstOther_2 : List UInt8 := dkwX0_firstOther_2 ++ dktX0_firstOther_3
def dkwX0_firstOther_1 : List UInt8 := [22, 4, 9, 148, 156, 0, 13, 187, 0, 237, 89, 16, 243, 183, 1, 72, 191, 43, 22, 4, 136, 53, 42]
abbrev dktX0_firstOther_1 : List UInt8 := dkwX0_firstOther_1 ++ dktX0_firstOther_2
def dkwX0_firstOther_0 : List UInt8 := [3, 62, 29, 7, 162, 0, 61, 28, 133, 29, 133, 97, 55, 4, 22, 4, 43, 190, 133, 148, 156, 0, 10]
abbrev dktX0_firstOther_0 : List UInt8 := dkwX0_firstOther_0 ++ dktX0_firstOther_1
theorem dksX0_firstOther_0 : cX0_firstOther.data.toList.drop 0 = dktX0_firstOther_0 := by decide +kernel
theorem dksX0_firstOther_1 : cX0_firstOther.data.toList.drop 23 = dktX0_firstOther_1 := dk_seg dksX0_firstOther_0 23 rfl rfl
theorem dksX0_firstOther_2 : cX0_firstOther.data.toList.drop 46 = dktX0_firstOther_2 := dk_seg dksX0_firstOther_1 23 rfl rfl
theorem dksX0_firstOther_3 : cX0_firstOther.data.toList.drop 70 = dktX0_firstOther_3 := dk_seg dksX0_firstOther_2 24 rfl rfl
theorem dX0_firstOther_0 : decode cX0_firstOther 0 = .ok (.iconst 0, 1) := dk_3 (dk_at dksX0_firstOther_0 0 rfl rfl)
theorem dX0_firstOther_1 : decode cX0_firstOther 1 = .ok (.istore_n 3, 1) := dk_62 (dk_at dksX0_firstOther_0 1 rfl rfl)
theorem dX0_firstOther_2 : decode cX0_firstOther 2 = .ok (.iload_n 3, 1) := dk_29 (dk_at dksX0_firstOther_0 2 rfl rfl)
theorem dX0_firstOther_3 : decode cX0_firstOther 3 = .ok (.iconst 4, 1) := dk_7 (dk_at dksX0_firstOther_0 3 rfl rfl)
theorem dX0_firstOther_4 : decode cX0_firstOther 4 = .ok (.if_icmp .ge 61, 3) := dk_162 0 61 (dk_at dksX0_firstOther_0 4 rfl rfl)
theorem dX0_firstOther_7 : decode cX0_firstOther 7 = .ok (.iload_n 2, 1) := dk_28 (dk_at dksX0_firstOther_0 7 rfl rfl)
theorem dX0_firstOther_8 : decode cX0_firstOther 8 = .ok (.i2l, 1) := dk_133 (dk_at dksX0_firstOther_0 8 rfl rfl)
theorem dX0_firstOther_9 : decode cX0_firstOther 9 = .ok (.iload_n 3, 1) := dk_29 (dk_at dksX0_firstOther_0 9 rfl rfl)
theorem dX0_firstOther_10 : decode cX0_firstOther 10 = .ok (.i2l, 1) := dk_133 (dk_at dksX0_firstOther_0 10 rfl rfl)
theorem dX0_firstOther_11 : decode cX0_firstOther 11 = .ok (.ladd, 1) := dk_97 (dk_at dksX0_firstOther_0 11 rfl rfl)
theorem dX0_firstOther_12 : decode cX0_firstOther 12 = .ok (.lstore 4, 2) := dk_55 4 (dk_at dksX0_firstOther_0 12 rfl rfl)
theorem dX0_firstOther_14 : decode cX0_firstOther 14 = .ok (.lload 4, 2) := dk_22 4 (dk_at dksX0_firstOther_0 14 rfl rfl)
theorem dX0_firstOther_16 : decode cX0_firstOther 16 = .ok (.aload_n 1, 1) := dk_43 (dk_at dksX0_firstOther_0 16 rfl rfl)
theorem dX0_firstOther_17 : decode cX0_firstOther 17 = .ok (.arraylength, 1) := dk_190 (dk_at dksX0_firstOther_0 17 rfl rfl)
theorem dX0_firstOther_18 : decode cX0_firstOther 18 = .ok (.i2l, 1) := dk_133 (dk_at dksX0_firstOther_0 18 rfl rfl)
theorem dX0_firstOther_19 : decode cX0_firstOther 19 = .ok (.lcmp, 1) := dk_148 (dk_at dksX0_firstOther_0 19 rfl rfl)
theorem dX0_firstOther_20 : decode cX0_firstOther 20 = .ok (.ifCond .ge 10, 3) := dk_156 0 10 (dk_at dksX0_firstOther_0 20 rfl rfl)
theorem dX0_firstOther_23 : decode cX0_firstOther 23 = .ok (.lload 4, 2) := dk_22 4 (dk_at dksX0_firstOther_1 0 rfl rfl)
theorem dX0_firstOther_25 : decode cX0_firstOther 25 = .ok (.lconst 0, 1) := dk_9 (dk_at dksX0_firstOther_1 2 rfl rfl)
theorem dX0_firstOther_26 : decode cX0_firstOther 26 = .ok (.lcmp, 1) := dk_148 (dk_at dksX0_firstOther_1 3 rfl rfl)
theorem dX0_firstOther_27 : decode cX0_firstOther 27 = .ok (.ifCond .ge 13, 3) := dk_156 0 13 (dk_at dksX0_firstOther_1 4 rfl rfl)
theorem dX0_firstOther_30 : decode cX0_firstOther 30 = .ok (.new 237, 3) := dk_187 0 237 (dk_at dksX0_firstOther_1 7 rfl rfl)
theorem dX0_firstOther_33 : decode cX0_firstOther 33 = .ok (.dup, 1) := dk_89 (dk_at dksX0_firstOther_1 10 rfl rfl)
theorem dX0_firstOther_34 : decode cX0_firstOther 34 = .ok (.bipush (-13), 2) := dk_16 243 (dk_at dksX0_firstOther_1 11 rfl rfl)
theorem dX0_firstOther_36 : decode cX0_firstOther 36 = .ok (.invokespecial 328, 3) := dk_183 1 72 (dk_at dksX0_firstOther_1 13 rfl rfl)
theorem dX0_firstOther_39 : decode cX0_firstOther 39 = .ok (.athrow, 1) := dk_191 (dk_at dksX0_firstOther_1 16 rfl rfl)
theorem dX0_firstOther_40 : decode cX0_firstOther 40 = .ok (.aload_n 1, 1) := dk_43 (dk_at dksX0_firstOther_1 17 rfl rfl)
theorem dX0_firstOther_41 : decode cX0_firstOther 41 = .ok (.lload 4, 2) := dk_22 4 (dk_at dksX0_firstOther_1 18 rfl rfl)
theorem dX0_firstOther_43 : decode cX0_firstOther 43 = .ok (.l2i, 1) := dk_136 (dk_at dksX0_firstOther_1 20 rfl rfl)
theorem dX0_firstOther_44 : decode cX0_firstOther 44 = .ok (.saload, 1) := dk_53 (dk_at dksX0_firstOther_1 21 rfl rfl)
theorem dX0_firstOther_45 : decode cX0_firstOther 45 = .ok (.aload_n 0, 1) := dk_42 (dk_at dksX0_firstOther_1 22 rfl rfl)
theorem dX0_firstOther_46 : decode cX0_firstOther 46 = .ok (.getfield 27, 3) := dk_180 0 27 (dk_at dksX0_firstOther_2 0 rfl rfl)
theorem dX0_firstOther_49 : decode cX0_firstOther 49 = .ok (.getfield 195, 3) := dk_180 0 195 (dk_at dksX0_firstOther_2 3 rfl rfl)
theorem dX0_firstOther_52 : decode cX0_firstOther 52 = .ok (.iload_n 3, 1) := dk_29 (dk_at dksX0_firstOther_2 6 rfl rfl)
theorem dX0_firstOther_53 : decode cX0_firstOther 53 = .ok (.iaload, 1) := dk_46 (dk_at dksX0_firstOther_2 7 rfl rfl)
theorem dX0_firstOther_54 : decode cX0_firstOther 54 = .ok (.if_icmp .eq 5, 3) := dk_159 0 5 (dk_at dksX0_firstOther_2 8 rfl rfl)
theorem dX0_firstOther_57 : decode cX0_firstOther 57 = .ok (.iload_n 3, 1) := dk_29 (dk_at dksX0_firstOther_2 11 rfl rfl)
theorem dX0_firstOther_58 : decode cX0_firstOther 58 = .ok (.ireturn, 1) := dk_172 (dk_at dksX0_firstOther_2 12 rfl rfl)
theorem dX0_firstOther_59 : decode cX0_firstOther 59 = .ok (.iinc 3 1, 3) := dk_132 3 1 (dk_at dksX0_firstOther_2 13 rfl rfl)
theorem dX0_firstOther_62 : decode cX0_firstOther 62 = .ok (.goto (-60), 3) := dk_167 255 196 (dk_at dksX0_firstOther_2 16 rfl rfl)
theorem dX0_firstOther_65 : decode cX0_firstOther 65 = .ok (.bipush (-5), 2) := dk_16 251 (dk_at dksX0_firstOther_2 19 rfl rfl)
theorem dX0_firstOther_67 : decode cX0_firstOther 67 = .ok (.ireturn, 1) := dk_172 (dk_at dksX0_firstOther_2 21 rfl rfl)
theorem dX0_firstOther_68 : decode cX0_firstOther 68 = .ok (.astore 4, 2) := dk_58 4 (dk_at dksX0_firstOther_2 22 rfl rfl)
theorem dX0_firstOther_70 : decode cX0_firstOther 70 = .ok (.iload_n 3, 1) := dk_29 (dk_at dksX0_firstOther_3 0 rfl rfl)
theorem dX0_firstOther_71 : decode cX0_firstOther 71 = .ok (.bipush 100, 2) := dk_16 100 (dk_at dksX0_firstOther_3 1 rfl rfl)
theorem dX0_firstOther_73 : decode cX0_firstOther 73 = .ok (.iadd, 1) := dk_96 (dk_at dksX0_firstOther_3 3 rfl rfl)
theorem dX0_firstOther_74 : decode cX0_firstOther 74 = .ok (.ireturn, 1) := dk_172 (dk_at dksX0_firstOther_3 4 rfl rfl)
theorem dX0_firstOther_75 : decode cX0_firstOther 75 = .ok (.astore 4, 2) := dk_58 4 (dk_at dksX0_firstOther_3 5 rfl rfl)
theorem dX0_firstOther_77 : decode cX0_firstOther 77 = .ok (.iload_n 3, 1) := dk_29 (dk_at dksX0_firstOther_3 7 rfl rfl)
theorem dX0_firstOther_78 : decode cX0_firstOther 78 = .ok (.bipush 100, 2) := dk_16 100 (dk_at dksX0_firstOther_3 8 rfl rfl)
theorem dX0_firstOther_80 : decode cX0_firstOther 80 = .ok (.iadd, 1) := dk_96 (dk_at dksX0_firstOther_3 10 rfl rfl)
theorem dX0_firstOther_81 : decode cX0_firstOther 81 = .ok (.ireturn, 1) := dk_172 (dk_at dksX0_firstOther_3 11 rfl rfl)
abbrev cX0_judge : ByteArray := prog_1_method_54_code
def yX0_judge : MethodName := ⟨RX0, "judge", "(II)I"⟩
def dkwX0_judge_1 : List UInt8 := [182, 1, 85, 172, 78, 16, 244, 172]
abbrev dktX0_judge_1 : List UInt8 := dkwX0_judge_1 ++ []
def dkwX0_judge_0 : List UInt8 := [27, 184, 1, 77, 154, 0, 5, 2, 172, 42, 42, 180, 0, 68, 27, 50, 180, 1, 80, 192, 1, 83, 28]
abbrev dktX0_judge_0 : List UInt8 := dkwX0_judge_0 ++ dktX0_judge_1
theorem dksX0_judge_0 : cX0_judge.data.toList.drop 0 = dktX0_judge_0 := by decide +kernel
theorem dksX0_judge_1 : cX0_judge.data.toList.drop 23 = dktX0_judge_1 := dk_seg dksX0_judge_0 23 rfl rfl
theorem dX0_judge_0 : decode cX0_judge 0 = .ok (.iload_n 1, 1) := dk_27 (dk_at dksX0_judge_0 0 rfl rfl)
theorem dX0_judge_1 : decode cX0_judge 1 = .ok (.invokestatic 333, 3) := dk_184 1 77 (dk_at dksX0_judge_0 1 rfl rfl)
theorem dX0_judge_4 : decode cX0_judge 4 = .ok (.ifCond .ne 5, 3) := dk_154 0 5 (dk_at dksX0_judge_0 4 rfl rfl)
theorem dX0_judge_7 : decode cX0_judge 7 = .ok (.iconst (-1), 1) := dk_2 (dk_at dksX0_judge_0 7 rfl rfl)
theorem dX0_judge_8 : decode cX0_judge 8 = .ok (.ireturn, 1) := dk_172 (dk_at dksX0_judge_0 8 rfl rfl)
theorem dX0_judge_9 : decode cX0_judge 9 = .ok (.aload_n 0, 1) := dk_42 (dk_at dksX0_judge_0 9 rfl rfl)
theorem dX0_judge_10 : decode cX0_judge 10 = .ok (.aload_n 0, 1) := dk_42 (dk_at dksX0_judge_0 10 rfl rfl)
theorem dX0_judge_11 : decode cX0_judge 11 = .ok (.getfield 68, 3) := dk_180 0 68 (dk_at dksX0_judge_0 11 rfl rfl)
theorem dX0_judge_14 : decode cX0_judge 14 = .ok (.iload_n 1, 1) := dk_27 (dk_at dksX0_judge_0 14 rfl rfl)
theorem dX0_judge_15 : decode cX0_judge 15 = .ok (.aaload, 1) := dk_50 (dk_at dksX0_judge_0 15 rfl rfl)
theorem dX0_judge_16 : decode cX0_judge 16 = .ok (.getfield 336, 3) := dk_180 1 80 (dk_at dksX0_judge_0 16 rfl rfl)
theorem dX0_judge_19 : decode cX0_judge 19 = .ok (.checkcast 339, 3) := dk_192 1 83 (dk_at dksX0_judge_0 19 rfl rfl)
theorem dX0_judge_22 : decode cX0_judge 22 = .ok (.iload_n 2, 1) := dk_28 (dk_at dksX0_judge_0 22 rfl rfl)
theorem dX0_judge_23 : decode cX0_judge 23 = .ok (.invokevirtual 341, 3) := dk_182 1 85 (dk_at dksX0_judge_1 0 rfl rfl)
theorem dX0_judge_26 : decode cX0_judge 26 = .ok (.ireturn, 1) := dk_172 (dk_at dksX0_judge_1 3 rfl rfl)
theorem dX0_judge_27 : decode cX0_judge 27 = .ok (.astore_n 3, 1) := dk_78 (dk_at dksX0_judge_1 4 rfl rfl)
theorem dX0_judge_28 : decode cX0_judge 28 = .ok (.bipush (-12), 2) := dk_16 244 (dk_at dksX0_judge_1 5 rfl rfl)
theorem dX0_judge_30 : decode cX0_judge 30 = .ok (.ireturn, 1) := dk_172 (dk_at dksX0_judge_1 7 rfl rfl)
theorem xs_firstOther : xVW yX0_firstOther "BakedBefore" cX0_firstOther 6 (some .int) [(2, 58, 68, 331), (59, 67, 68, 331), (2, 58, 75, 237), (59, 67, 75, 237)] 2 := ⟨q1189, qs40, q87, q1190, ⟨rfl, by decide +kernel, by decide +kernel, by decide +kernel⟩, by decide⟩
theorem xs_judge : xVW yX0_judge "BakedBefore" cX0_judge 4 (some .int) [(9, 26, 27, 345)] 2 := ⟨q1153, q1154, q87, q1155, ⟨rfl, by decide +kernel, by decide +kernel, by decide +kernel⟩, by decide⟩
/-- the place of the first that is other, from j on -/
def foV (told : Option (Nat × (Nat → Int32))) (h : Nat → Int32) (at0 : Int32) : Nat → Nat → Int32
  | 0, _ => -5
  | d + 1, j => match told with
    | none => nI j + 100
    | some (n, f) => if 0 ≤ at0.toInt + (j : Int) ∧ at0.toInt + (j : Int) < (n : Int) then (if f (at0.toInt + (j : Int)).toNat = h j then foV (some (n, f)) h at0 d (j + 1) else nI j) else nI j + 100
theorem foS {n : Nat} {f h : Nat → Int32} {at0 : Int32} {d j : Nat} : foV (some (n, f)) h at0 (d + 1) j = if 0 ≤ at0.toInt + (j : Int) ∧ at0.toInt + (j : Int) < (n : Int) then (if f (at0.toInt + (j : Int)).toNat = h j then foV (some (n, f)) h at0 d (j + 1) else nI j) else nI j + 100 := rfl
theorem lg_ge {x y : Int64} : 0 ≤ lg_cmp x y ↔ ¬ x < y := by
  have e1 : x > y ↔ y.toInt < x.toInt := Int64.lt_iff_toInt_lt
  have e2 : x < y ↔ x.toInt < y.toInt := Int64.lt_iff_toInt_lt
  have e3 : x = y ↔ x.toInt = y.toInt := Int64.toInt_inj.symm
  unfold lg_cmp
  rw [e2]
  split
  · rename_i g
    have := e1.mp g
    exact ⟨fun _ => by omega, fun _ => by decide⟩
  · split
    · rename_i g
      have := e3.mp g
      exact ⟨fun _ => by omega, fun _ => by decide⟩
    · rename_i g1 g2
      refine ⟨fun h => absurd h (by decide), fun h => ?_⟩
      have h1 : ¬ y.toInt < x.toInt := fun z => g1 (e1.mpr z)
      have h2 : ¬ x.toInt = y.toInt := fun z => g2 (e3.mpr z)
      omega
theorem jJ {at0 : Int32} {j : Nat} (hj : j < 4) : (at0.toInt64 + (nI j).toInt64).toInt = at0.toInt + (j : Int) := by
  have h1 := Int32.toInt_lt at0
  have h2 := Int32.le_toInt at0
  rw [Int64.toInt_add, Int32.toInt_toInt64, Int32.toInt_toInt64, xnI_toInt (by omega)]
  exact Int.bmod_eq_of_le (by omega) (by omega)
theorem nn64 {n : Nat} (h : n ≤ 60) : (nI n).toInt64.toInt = (n : Int) := by
  rw [Int32.toInt_toInt64, xnI_toInt (by omega)]
theorem l2i_of {J : Int64} {n : Nat} (hn : n ≤ 60) (h0 : 0 ≤ J.toInt) (h1 : J.toInt < (n : Int)) : vp_in J.toInt32 n ∧ J.toInt32.toNatClampNeg = J.toInt.toNat := by
  have e : J.toInt32.toInt = J.toInt := by
    rw [Int64.toInt_toInt32]
    exact Int.bmod_eq_of_le (by omega) (by omega)
  have e2 : J.toInt32.toNatClampNeg = J.toInt.toNat := by show J.toInt32.toInt.toNat = _; rw [e]
  refine ⟨fun z => ?_, e2⟩
  rcases z with z | z
  · have := Int32.lt_iff_toInt_lt.mp z
    rw [e] at this
    exact absurd h0 (Int.not_le.mpr this)
  · rw [e2] at z
    omega
theorem j4 {j : Nat} (hj : j < 4) : ¬ (4 : Int32) ≤ nI j ∧ vp_in (nI j) 4 ∧ (nI j).toNatClampNeg = j := by
  match j, hj with
  | 0, _ => exact ⟨by decide, by unfold vp_in; decide, by decide⟩
  | 1, _ => exact ⟨by decide, by unfold vp_in; decide, by decide⟩
  | 2, _ => exact ⟨by decide, by unfold vp_in; decide, by decide⟩
  | 3, _ => exact ⟨by decide, by unfold vp_in; decide, by decide⟩
theorem nI_s (j : Nat) (hj : j < 4) : nI j + 1 = nI (j + 1) := by
  match j, hj with
  | 0, _ => rfl
  | 1, _ => rfl
  | 2, _ => rfl
  | 3, _ => rfl
theorem ks_fo0 (l : Launch) (hlt : l.stackTraces = false) (D : va_G) (T : xT) (q : Nat → Nat) (ω : CS) (at0 : Int32) : XMW l D T yX0_firstOther cX0_firstOther 6 (some .int) [(2, 58, 68, 331), (59, 67, 68, 331), (2, 58, 75, 237), (59, 67, 75, 237)] 170 1 8 [.ref (q 0), va_rf none, .int at0] (cw T q ω) (fun z w => z = some (.int (foV none (ω.1.1 5) at0 4 0)) ∧ w = cw T q ω) := by
  refine XMW.start (by decide +kernel) (Nat.le_of_ble_eq_true rfl) (fun Γ G X htab hl_ => ?_)
  subst hl_
  refine K.less [0, 1, 2] (lv' := [(0, .ref (q 0)), (1, .null), (2, .int at0)]) rfl ?_
  have hL : ∀ d j : Nat, d + j = 4 → foV none (ω.1.1 5) at0 4 0 = foV none (ω.1.1 5) at0 d j → K D Γ 0 0 2 [(0, .ref (q 0)), (1, .null), (2, .int at0), (3, .int (nI j))] [] (cw T q ω) := by
    intro d
    induction d with
    | zero =>
      intro j hj hv
      obtain rfl : j = 4 := by omega
      refine k_iload_n G dX0_firstOther_2 rfl ?_
      refine k_iconst G (v := 4) dX0_firstOther_3 (by decide) ?_
      refine k_icmp_ge G 65 dX0_firstOther_4 (by decide) (fun _ => ?_) (fun c4 => absurd (by decide) c4)
      refine k_bipush G (v := -5) dX0_firstOther_65 (by decide) ?_
      exact k_iret G X dX0_firstOther_67 (Nat.le_of_ble_eq_true rfl) (Nat.le_of_ble_eq_true rfl) ⟨by rw [hv]; rfl, rfl⟩
    | succ d ih =>
      intro j hj hv
      have hj4 : j < 4 := by omega
      have hJ := jJ (at0 := at0) hj4
      refine k_iload_n G dX0_firstOther_2 rfl ?_
      refine k_iconst G (v := 4) dX0_firstOther_3 (by decide) ?_
      refine k_icmp_ge G 65 dX0_firstOther_4 (by decide) (fun c4 => absurd c4 (j4 hj4).1) (fun _ => ?_)
      refine k_iload_n G dX0_firstOther_7 rfl ?_
      refine k_i2l G dX0_firstOther_8 ?_
      refine k_iload_n G dX0_firstOther_9 rfl ?_
      refine k_i2l G dX0_firstOther_10 ?_
      refine k_ladd G dX0_firstOther_11 ?_
      refine k_lstore G [(4, .long (at0.toInt64 + (nI j).toInt64)), (0, .ref (q 0)), (1, .null), (2, .int at0), (3, .int (nI j))] dX0_firstOther_12 (Nat.le_of_ble_eq_true rfl) rfl ?_
      refine k_lload G dX0_firstOther_14 rfl ?_
      refine k_aload_nN G dX0_firstOther_16 rfl ?_
      refine kx_lenN G hlt (Nat.le_refl _) (Nat.le_of_ble_eq_true rfl) ⟨Nat.le_of_ble_eq_true rfl, Nat.le_of_ble_eq_true rfl⟩ dX0_firstOther_17 (fun q9 => ?_)
      refine kx_catch G (name := "java/lang/NullPointerException") [] ⟨2, 58, 68, 331⟩ [⟨59, 67, 68, 331⟩, ⟨2, 58, 75, 237⟩, ⟨59, 67, 75, 237⟩] (by rw [htab]; rfl) (fun z hz => nomatch hz) rfl (by decide) q1191 (by decide +kernel) rfl ?_
      refine k_astore G [(4, .ref q9), (0, .ref (q 0)), (1, .null), (2, .int at0), (3, .int (nI j))] dX0_firstOther_68 (Nat.le_of_ble_eq_true rfl) rfl ?_
      refine k_iload_n G dX0_firstOther_70 rfl ?_
      refine k_bipush G (v := 100) dX0_firstOther_71 (by decide) ?_
      refine k_iadd G dX0_firstOther_73 ?_
      exact k_iret G X dX0_firstOther_74 (Nat.le_of_ble_eq_true rfl) (Nat.le_of_ble_eq_true rfl) ⟨by rw [hv]; rfl, rfl⟩
  refine k_iconst G (v := 0) dX0_firstOther_0 (by decide) ?_
  refine k_istore_n G [(3, .int 0), (0, .ref (q 0)), (1, .null), (2, .int at0)] dX0_firstOther_1 rfl (Nat.le_of_ble_eq_true rfl) rfl ?_
  refine K.less [1, 2, 3, 0] (lv' := [(0, .ref (q 0)), (1, .null), (2, .int at0), (3, .int (nI 0))]) rfl ?_
  exact hL 4 0 rfl rfl
theorem ks_fo (l : Launch) (hlt : l.stackTraces = false) (D : va_G) (T : xT) (q : Nat → Nat) (ω : CS) {a n : Nat} {f : Nat → Int32} (h : rowE T ω 1 a (n, .inl f)) (hx : n ≤ 60) (at0 : Int32) : XMW l D T yX0_firstOther cX0_firstOther 6 (some .int) [(2, 58, 68, 331), (59, 67, 68, 331), (2, 58, 75, 237), (59, 67, 75, 237)] 170 1 8 [.ref (q 0), .ref a, .int at0] (cw T q ω) (fun z w => z = some (.int (foV (some (n, f)) (ω.1.1 5) at0 4 0)) ∧ w = cw T q ω) := by
  refine XMW.start (by decide +kernel) (Nat.le_of_ble_eq_true rfl) (fun Γ G X htab hl_ => ?_)
  subst hl_
  refine K.less [0, 1, 2] (lv' := [(0, .ref (q 0)), (1, .ref a), (2, .int at0)]) rfl ?_
  have hL : ∀ d j : Nat, d + j = 4 → foV (some (n, f)) (ω.1.1 5) at0 4 0 = foV (some (n, f)) (ω.1.1 5) at0 d j → K D Γ 0 0 2 [(0, .ref (q 0)), (1, .ref a), (2, .int at0), (3, .int (nI j))] [] (cw T q ω) := by
    intro d
    induction d with
    | zero =>
      intro j hj hv
      obtain rfl : j = 4 := by omega
      refine k_iload_n G dX0_firstOther_2 rfl ?_
      refine k_iconst G (v := 4) dX0_firstOther_3 (by decide) ?_
      refine k_icmp_ge G 65 dX0_firstOther_4 (by decide) (fun _ => ?_) (fun c4 => absurd (by decide) c4)
      refine k_bipush G (v := -5) dX0_firstOther_65 (by decide) ?_
      exact k_iret G X dX0_firstOther_67 (Nat.le_of_ble_eq_true rfl) (Nat.le_of_ble_eq_true rfl) ⟨by rw [hv]; rfl, rfl⟩
    | succ d ih =>
      intro j hj hv
      have hj4 : j < 4 := by omega
      have hJ := jJ (at0 := at0) hj4
      refine k_iload_n G dX0_firstOther_2 rfl ?_
      refine k_iconst G (v := 4) dX0_firstOther_3 (by decide) ?_
      refine k_icmp_ge G 65 dX0_firstOther_4 (by decide) (fun c4 => absurd c4 (j4 hj4).1) (fun _ => ?_)
      refine k_iload_n G dX0_firstOther_7 rfl ?_
      refine k_i2l G dX0_firstOther_8 ?_
      refine k_iload_n G dX0_firstOther_9 rfl ?_
      refine k_i2l G dX0_firstOther_10 ?_
      refine k_ladd G dX0_firstOther_11 ?_
      refine k_lstore G [(4, .long (at0.toInt64 + (nI j).toInt64)), (0, .ref (q 0)), (1, .ref a), (2, .int at0), (3, .int (nI j))] dX0_firstOther_12 (Nat.le_of_ble_eq_true rfl) rfl ?_
      refine k_lload G dX0_firstOther_14 rfl ?_
      refine k_aload_n G dX0_firstOther_16 rfl ?_
      refine kr_len G h dX0_firstOther_17 ?_
      refine k_i2l G dX0_firstOther_18 ?_
      refine k_lcmp G dX0_firstOther_19 ?_
      refine k_if_ge G 30 dX0_firstOther_20 (by decide) (fun c20 => ?_) (fun c20 => ?_)
      · have hb : ¬ (0 ≤ at0.toInt + (j : Int) ∧ at0.toInt + (j : Int) < (n : Int)) := fun z => lg_ge.mp c20 (Int64.lt_iff_toInt_lt.mpr (by rw [hJ, nn64 hx]; exact z.2))
        refine k_newOff G hlt (ik := 237) (ic := 328) (L := 2) (x := (-13)) q658 q1210 (Nat.le_of_ble_eq_true rfl) (Nat.le_of_ble_eq_true rfl) ⟨Nat.le_of_ble_eq_true rfl, Nat.le_of_ble_eq_true rfl⟩ dX0_firstOther_30 dX0_firstOther_33 (fun b H locs ls hP hl kk => lv_bipush G.1 G.2.1 dX0_firstOther_34 (by decide) kk) dX0_firstOther_36 (fun b fs h6 => ?_)
        refine kx_athrow G (p := (cw T q ω).length) (ci := 15) (fs := fs) (TT := TX15) (N := 7) (by simp) rfl dX0_firstOther_39 ?_
        refine kx_catch G (name := "BakedBefore$Off") [⟨2, 58, 68, 331⟩, ⟨59, 67, 68, 331⟩] ⟨2, 58, 75, 237⟩ [⟨59, 67, 75, 237⟩] (by rw [htab]; rfl) (fun z hz => by
          simp only [List.mem_cons, List.not_mem_nil, or_false] at hz
          rcases hz with rfl | rfl
          · exact (Or.inr ⟨by decide, "java/lang/NullPointerException", q1191, by decide +kernel⟩)
          · exact (Or.inl rfl)) rfl (by decide) q658 (by decide +kernel) rfl ?_
        refine k_astore G [(4, .ref b), (0, .ref (q 0)), (1, .ref a), (2, .int at0), (3, .int (nI j))] dX0_firstOther_75 (Nat.le_of_ble_eq_true rfl) rfl ?_
        refine k_iload_n G dX0_firstOther_77 rfl ?_
        refine k_bipush G (v := 100) dX0_firstOther_78 (by decide) ?_
        refine k_iadd G dX0_firstOther_80 ?_
        refine K.drop ?_
        exact k_iret G X dX0_firstOther_81 (Nat.le_of_ble_eq_true rfl) (Nat.le_of_ble_eq_true rfl) ⟨by rw [hv]; rw [foS, if_neg hb], rfl⟩
      · have h1 : at0.toInt + (j : Int) < (n : Int) := by have z := Classical.not_not.mp (fun z => c20 (lg_ge.mpr z)); have z2 := Int64.lt_iff_toInt_lt.mp z; rw [hJ, nn64 hx] at z2; exact z2
        refine k_lload G dX0_firstOther_23 rfl ?_
        refine k_lconst G (v := 0) dX0_firstOther_25 (by decide) ?_
        refine k_lcmp G dX0_firstOther_26 ?_
        refine k_if_ge G 40 dX0_firstOther_27 (by decide) (fun c27 => ?_) (fun c27 => ?_)
        · have h0 : 0 ≤ at0.toInt + (j : Int) := by have z := lg_ge.mp c27; rw [← hJ]; exact Int.not_lt.mp (fun z2 => z (Int64.lt_iff_toInt_lt.mpr z2))
          obtain ⟨hin, hix⟩ := l2i_of (J := (at0.toInt64 + (nI j).toInt64)) hx (by rw [hJ]; exact h0) (by rw [hJ]; exact h1)
          rw [hJ] at hix
          refine k_aload_n G dX0_firstOther_40 rfl ?_
          refine k_lload G dX0_firstOther_41 rfl ?_
          refine k_l2i G dX0_firstOther_43 ?_
          refine kr_sald G h dX0_firstOther_44 hin ?_
          rw [hix]
          refine k_aload_n G dX0_firstOther_45 rfl ?_
          refine kc_this G (show CF "BakedBefore" 4 27 from ⟨by decide, Or.inl q274, rfl⟩) dX0_firstOther_46 rfl ?_
          refine kc_held G (t := 0) (by decide) (Or.inr (by decide +kernel)) dX0_firstOther_49 ?_
          refine k_iload_n G dX0_firstOther_52 rfl ?_
          refine kc_iald G cI_5 dX0_firstOther_53 (j4 hj4).2.1 ?_
          rw [(j4 hj4).2.2]
          refine k_icmp_eq G 59 dX0_firstOther_54 (by decide) (fun c54 => ?_) (fun c54 => ?_)
          · refine k_iinc G [(3, .int (nI j + 1)), (4, .long (at0.toInt64 + (nI j).toInt64)), (0, .ref (q 0)), (1, .ref a), (2, .int at0)] dX0_firstOther_59 rfl rfl (Nat.le_of_ble_eq_true rfl) rfl ?_
            refine k_goto G 2 dX0_firstOther_62 (by decide) ?_
            refine K.less [2, 3, 4, 0] (lv' := [(0, .ref (q 0)), (1, .ref a), (2, .int at0), (3, .int (nI j + 1))]) rfl ?_
            rw [nI_s j hj4]
            exact ih (j + 1) (by omega) (by rw [hv, foS, if_pos ⟨h0, h1⟩, if_pos c54])
          · refine k_iload_n G dX0_firstOther_57 rfl ?_
            exact k_iret G X dX0_firstOther_58 (Nat.le_of_ble_eq_true rfl) (Nat.le_of_ble_eq_true rfl) ⟨by rw [hv, foS, if_pos ⟨h0, h1⟩, if_neg c54], rfl⟩
        · have hb : ¬ (0 ≤ at0.toInt + (j : Int) ∧ at0.toInt + (j : Int) < (n : Int)) := fun z => c27 (lg_ge.mpr (fun z2 => by have z3 := Int64.lt_iff_toInt_lt.mp z2; rw [hJ] at z3; exact absurd z.1 (Int.not_le.mpr z3)))
          refine k_newOff G hlt (ik := 237) (ic := 328) (L := 2) (x := (-13)) q658 q1210 (Nat.le_of_ble_eq_true rfl) (Nat.le_of_ble_eq_true rfl) ⟨Nat.le_of_ble_eq_true rfl, Nat.le_of_ble_eq_true rfl⟩ dX0_firstOther_30 dX0_firstOther_33 (fun b H locs ls hP hl kk => lv_bipush G.1 G.2.1 dX0_firstOther_34 (by decide) kk) dX0_firstOther_36 (fun b fs h6 => ?_)
          refine kx_athrow G (p := (cw T q ω).length) (ci := 15) (fs := fs) (TT := TX15) (N := 7) (by simp) rfl dX0_firstOther_39 ?_
          refine kx_catch G (name := "BakedBefore$Off") [⟨2, 58, 68, 331⟩, ⟨59, 67, 68, 331⟩] ⟨2, 58, 75, 237⟩ [⟨59, 67, 75, 237⟩] (by rw [htab]; rfl) (fun z hz => by
            simp only [List.mem_cons, List.not_mem_nil, or_false] at hz
            rcases hz with rfl | rfl
            · exact (Or.inr ⟨by decide, "java/lang/NullPointerException", q1191, by decide +kernel⟩)
            · exact (Or.inl rfl)) rfl (by decide) q658 (by decide +kernel) rfl ?_
          refine k_astore G [(4, .ref b), (0, .ref (q 0)), (1, .ref a), (2, .int at0), (3, .int (nI j))] dX0_firstOther_75 (Nat.le_of_ble_eq_true rfl) rfl ?_
          refine k_iload_n G dX0_firstOther_77 rfl ?_
          refine k_bipush G (v := 100) dX0_firstOther_78 (by decide) ?_
          refine k_iadd G dX0_firstOther_80 ?_
          refine K.drop ?_
          exact k_iret G X dX0_firstOther_81 (Nat.le_of_ble_eq_true rfl) (Nat.le_of_ble_eq_true rfl) ⟨by rw [hv]; rw [foS, if_neg hb], rfl⟩
  refine k_iconst G (v := 0) dX0_firstOther_0 (by decide) ?_
  refine k_istore_n G [(3, .int 0), (0, .ref (q 0)), (1, .ref a), (2, .int at0)] dX0_firstOther_1 rfl (Nat.le_of_ble_eq_true rfl) rfl ?_
  refine K.less [1, 2, 3, 0] (lv' := [(0, .ref (q 0)), (1, .ref a), (2, .int at0), (3, .int (nI 0))]) rfl ?_
  exact hL 4 0 rfl rfl
/-- what judge answers -/
def judgeO (T : xT) (ω : CS) (t at0 r : Int32) : Prop := (¬ (0 ≤ t ∧ t ≤ 5) ∧ r = -1) ∨ ((0 ≤ t ∧ t ≤ 5) ∧ ω.1.2 (31 + t.toNatClampNeg) 0 = none ∧ r = foV none (ω.1.1 5) at0 4 0) ∨ ((0 ≤ t ∧ t ≤ 5) ∧ ∃ (s a : Nat) (x : vp_A), ω.1.2 (31 + t.toNatClampNeg) 0 = some a ∧ rowE T ω s a x ∧ ((¬ s = 1 ∧ r = -12) ∨ (s = 1 ∧ ∃ (n : Nat) (f : Nat → Int32), x = (n, .inl f) ∧ r = foV (some (n, f)) (ω.1.1 5) at0 4 0)))
theorem ks_judge (l : Launch) (hlt : l.stackTraces = false) (D : va_G) (T : xT) (q : Nat → Nat) (ω : CS) (t at0 : Int32) (hb : (0 ≤ t ∧ t ≤ 5) → tapeH T ω t) : XMW l D T yX0_judge cX0_judge 4 (some .int) [(9, 26, 27, 345)] 201 3 1000 [.ref (q 0), .int t, .int at0] (cw T q ω) (fun z w => ∃ r : Int32, z = some (.int r) ∧ w = cw T q ω ∧ judgeO T ω t at0 r) := by
  refine XMW.start (by decide +kernel) (Nat.le_of_ble_eq_true rfl) (fun Γ G X htab hl_ => ?_)
  subst hl_
  refine K.less [0, 1, 2] (lv' := [(0, .ref (q 0)), (1, .int t), (2, .int at0)]) rfl ?_
  by_cases ht : 0 ≤ t ∧ t ≤ 5
  rotate_left
  · refine k_iload_n G dX0_judge_0 rfl ?_
    refine k_callPI G (vk_isTape _ D T t (fun r => r = 0) (q_F ht ⟨Or.inl rfl, rfl⟩)) gf_isTape q1183 dX0_judge_1 rfl rfl (Nat.le_of_ble_eq_true rfl) (Nat.le_of_ble_eq_true rfl) ⟨Nat.zero_le _, Nat.zero_le _⟩ (fun r h9 => ?_)
    subst h9
    refine k_if_ne G 9 dX0_judge_4 (by decide) (fun c4 => absurd c4 (fun z => z rfl)) (fun _ => ?_)
    refine k_iconst G (v := -1) dX0_judge_7 (by decide) ?_
    exact k_iret G X dX0_judge_8 (Nat.le_of_ble_eq_true rfl) (Nat.le_of_ble_eq_true rfl) ⟨_, rfl, rfl, Or.inl ⟨ht, rfl⟩⟩
  have hi := (tp_in ht).2
  rcases hb ht with hr | ⟨s, a, x, hr, h, hx, hsh⟩
  · refine k_iload_n G dX0_judge_0 rfl ?_
    refine k_callPI G (vk_isTape _ D T t (fun r => r = 1) (q_T ht ⟨Or.inr rfl, rfl⟩)) gf_isTape q1183 dX0_judge_1 rfl rfl (Nat.le_of_ble_eq_true rfl) (Nat.le_of_ble_eq_true rfl) ⟨Nat.zero_le _, Nat.zero_le _⟩ (fun r h9 => ?_)
    subst h9
    refine k_if_ne G 9 dX0_judge_4 (by decide) (fun _ => ?_) (fun c4 => absurd c4 (by decide))
    refine k_aload_n G dX0_judge_9 rfl ?_
    refine k_aload_n G dX0_judge_10 rfl ?_
    refine kc_this G (show CF "BakedBefore" 15 68 from ⟨by decide, Or.inl q285, rfl⟩) dX0_judge_11 rfl ?_
    refine k_iload_n G dX0_judge_14 rfl ?_
    refine kc_aaldB G dX0_judge_15 (tp_in ht).1 ?_
    refine kc_row G hi (Or.inr (by decide +kernel)) dX0_judge_16 ?_
    rw [hr]
    refine k_castNull G dX0_judge_19 ?_
    refine k_iload_n G dX0_judge_22 rfl ?_
    refine k_callVW G (As := [va_rf none, .int at0]) (rest := []) (C := RX0) (ks_fo0 _ hlt D T q ω at0) xs_firstOther q1187 rfl rfl (Nat.le_of_ble_eq_true rfl) (Nat.le_of_ble_eq_true rfl) ⟨Nat.le_of_ble_eq_true rfl, Nat.le_of_ble_eq_true rfl⟩ ⟨0, 0, _, TX0, 31, cw_at (p := 0) rfl, rfl⟩ dX0_judge_23 (fun v9 w9 h9 => ?_)
    obtain ⟨rfl, rfl⟩ := h9
    exact k_iret G X dX0_judge_26 (Nat.le_of_ble_eq_true rfl) (Nat.le_of_ble_eq_true rfl) ⟨_, rfl, rfl, Or.inr (Or.inl ⟨ht, hr, rfl⟩)⟩
  match s, h.1, h, hsh with
  | 0, _, h, hsh =>
    refine k_iload_n G dX0_judge_0 rfl ?_
    refine k_callPI G (vk_isTape _ D T t (fun r => r = 1) (q_T ht ⟨Or.inr rfl, rfl⟩)) gf_isTape q1183 dX0_judge_1 rfl rfl (Nat.le_of_ble_eq_true rfl) (Nat.le_of_ble_eq_true rfl) ⟨Nat.zero_le _, Nat.zero_le _⟩ (fun r h9 => ?_)
    subst h9
    refine k_if_ne G 9 dX0_judge_4 (by decide) (fun _ => ?_) (fun c4 => absurd c4 (by decide))
    refine k_aload_n G dX0_judge_9 rfl ?_
    refine k_aload_n G dX0_judge_10 rfl ?_
    refine kc_this G (show CF "BakedBefore" 15 68 from ⟨by decide, Or.inl q285, rfl⟩) dX0_judge_11 rfl ?_
    refine k_iload_n G dX0_judge_14 rfl ?_
    refine kc_aaldB G dX0_judge_15 (tp_in ht).1 ?_
    refine kc_row G hi (Or.inr (by decide +kernel)) dX0_judge_16 ?_
    rw [hr]
    refine kr_castNo G hlt (by decide) h q1186 (by decide +kernel) our_aB our_aS (Nat.le_of_ble_eq_true rfl) ⟨Nat.le_of_ble_eq_true rfl, Nat.le_of_ble_eq_true rfl⟩ dX0_judge_19 (fun q9 => ?_)
    refine kx_catch G (name := "java/lang/ClassCastException") [] ⟨9, 26, 27, 345⟩ [] (by rw [htab]; rfl) (fun z hz => nomatch hz) rfl (by decide) q1156 (by decide +kernel) rfl ?_
    refine k_astore_n G [(3, .ref q9), (0, .ref (q 0)), (1, .int t), (2, .int at0)] dX0_judge_27 rfl (Nat.le_of_ble_eq_true rfl) rfl ?_
    refine k_bipush G (v := -12) dX0_judge_28 (by decide) ?_
    exact k_iret G X dX0_judge_30 (Nat.le_of_ble_eq_true rfl) (Nat.le_of_ble_eq_true rfl) ⟨_, rfl, rfl, Or.inr (Or.inr ⟨ht, 0, a, x, hr, h, Or.inl ⟨by decide, rfl⟩⟩)⟩
  | 1, _, h, hsh =>
    rcases hsh with ⟨z, -⟩ | ⟨-, n, f, rfl⟩
    · exact absurd z (by decide)
    refine k_iload_n G dX0_judge_0 rfl ?_
    refine k_callPI G (vk_isTape _ D T t (fun r => r = 1) (q_T ht ⟨Or.inr rfl, rfl⟩)) gf_isTape q1183 dX0_judge_1 rfl rfl (Nat.le_of_ble_eq_true rfl) (Nat.le_of_ble_eq_true rfl) ⟨Nat.zero_le _, Nat.zero_le _⟩ (fun r h9 => ?_)
    subst h9
    refine k_if_ne G 9 dX0_judge_4 (by decide) (fun _ => ?_) (fun c4 => absurd c4 (by decide))
    refine k_aload_n G dX0_judge_9 rfl ?_
    refine k_aload_n G dX0_judge_10 rfl ?_
    refine kc_this G (show CF "BakedBefore" 15 68 from ⟨by decide, Or.inl q285, rfl⟩) dX0_judge_11 rfl ?_
    refine k_iload_n G dX0_judge_14 rfl ?_
    refine kc_aaldB G dX0_judge_15 (tp_in ht).1 ?_
    refine kc_row G hi (Or.inr (by decide +kernel)) dX0_judge_16 ?_
    rw [hr]
    refine kr_cast G h q1186 dX0_judge_19 ?_
    refine k_iload_n G dX0_judge_22 rfl ?_
    refine k_callVW G (As := [.ref a, .int at0]) (rest := []) (C := RX0) (ks_fo _ hlt D T q ω h hx at0) xs_firstOther q1187 rfl rfl (Nat.le_of_ble_eq_true rfl) (Nat.le_of_ble_eq_true rfl) ⟨Nat.le_of_ble_eq_true rfl, Nat.le_of_ble_eq_true rfl⟩ ⟨0, 0, _, TX0, 31, cw_at (p := 0) rfl, rfl⟩ dX0_judge_23 (fun v9 w9 h9 => ?_)
    obtain ⟨rfl, rfl⟩ := h9
    exact k_iret G X dX0_judge_26 (Nat.le_of_ble_eq_true rfl) (Nat.le_of_ble_eq_true rfl) ⟨_, rfl, rfl, Or.inr (Or.inr ⟨ht, 1, a, _, hr, h, Or.inr ⟨rfl, n, f, rfl, rfl⟩⟩)⟩
  | 2, _, h, hsh =>
    refine k_iload_n G dX0_judge_0 rfl ?_
    refine k_callPI G (vk_isTape _ D T t (fun r => r = 1) (q_T ht ⟨Or.inr rfl, rfl⟩)) gf_isTape q1183 dX0_judge_1 rfl rfl (Nat.le_of_ble_eq_true rfl) (Nat.le_of_ble_eq_true rfl) ⟨Nat.zero_le _, Nat.zero_le _⟩ (fun r h9 => ?_)
    subst h9
    refine k_if_ne G 9 dX0_judge_4 (by decide) (fun _ => ?_) (fun c4 => absurd c4 (by decide))
    refine k_aload_n G dX0_judge_9 rfl ?_
    refine k_aload_n G dX0_judge_10 rfl ?_
    refine kc_this G (show CF "BakedBefore" 15 68 from ⟨by decide, Or.inl q285, rfl⟩) dX0_judge_11 rfl ?_
    refine k_iload_n G dX0_judge_14 rfl ?_
    refine kc_aaldB G dX0_judge_15 (tp_in ht).1 ?_
    refine kc_row G hi (Or.inr (by decide +kernel)) dX0_judge_16 ?_
    rw [hr]
    refine kr_castNo G hlt (by decide) h q1186 (by decide +kernel) our_aI our_aS (Nat.le_of_ble_eq_true rfl) ⟨Nat.le_of_ble_eq_true rfl, Nat.le_of_ble_eq_true rfl⟩ dX0_judge_19 (fun q9 => ?_)
    refine kx_catch G (name := "java/lang/ClassCastException") [] ⟨9, 26, 27, 345⟩ [] (by rw [htab]; rfl) (fun z hz => nomatch hz) rfl (by decide) q1156 (by decide +kernel) rfl ?_
    refine k_astore_n G [(3, .ref q9), (0, .ref (q 0)), (1, .int t), (2, .int at0)] dX0_judge_27 rfl (Nat.le_of_ble_eq_true rfl) rfl ?_
    refine k_bipush G (v := -12) dX0_judge_28 (by decide) ?_
    exact k_iret G X dX0_judge_30 (Nat.le_of_ble_eq_true rfl) (Nat.le_of_ble_eq_true rfl) ⟨_, rfl, rfl, Or.inr (Or.inr ⟨ht, 2, a, x, hr, h, Or.inl ⟨by decide, rfl⟩⟩)⟩
  | 3, _, h, hsh =>
    refine k_iload_n G dX0_judge_0 rfl ?_
    refine k_callPI G (vk_isTape _ D T t (fun r => r = 1) (q_T ht ⟨Or.inr rfl, rfl⟩)) gf_isTape q1183 dX0_judge_1 rfl rfl (Nat.le_of_ble_eq_true rfl) (Nat.le_of_ble_eq_true rfl) ⟨Nat.zero_le _, Nat.zero_le _⟩ (fun r h9 => ?_)
    subst h9
    refine k_if_ne G 9 dX0_judge_4 (by decide) (fun _ => ?_) (fun c4 => absurd c4 (by decide))
    refine k_aload_n G dX0_judge_9 rfl ?_
    refine k_aload_n G dX0_judge_10 rfl ?_
    refine kc_this G (show CF "BakedBefore" 15 68 from ⟨by decide, Or.inl q285, rfl⟩) dX0_judge_11 rfl ?_
    refine k_iload_n G dX0_judge_14 rfl ?_
    refine kc_aaldB G dX0_judge_15 (tp_in ht).1 ?_
    refine kc_row G hi (Or.inr (by decide +kernel)) dX0_judge_16 ?_
    rw [hr]
    refine kr_castNo G hlt (by decide) h q1186 (by decide +kernel) our_aJ our_aS (Nat.le_of_ble_eq_true rfl) ⟨Nat.le_of_ble_eq_true rfl, Nat.le_of_ble_eq_true rfl⟩ dX0_judge_19 (fun q9 => ?_)
    refine kx_catch G (name := "java/lang/ClassCastException") [] ⟨9, 26, 27, 345⟩ [] (by rw [htab]; rfl) (fun z hz => nomatch hz) rfl (by decide) q1156 (by decide +kernel) rfl ?_
    refine k_astore_n G [(3, .ref q9), (0, .ref (q 0)), (1, .int t), (2, .int at0)] dX0_judge_27 rfl (Nat.le_of_ble_eq_true rfl) rfl ?_
    refine k_bipush G (v := -12) dX0_judge_28 (by decide) ?_
    exact k_iret G X dX0_judge_30 (Nat.le_of_ble_eq_true rfl) (Nat.le_of_ble_eq_true rfl) ⟨_, rfl, rfl, Or.inr (Or.inr ⟨ht, 3, a, x, hr, h, Or.inl ⟨by decide, rfl⟩⟩)⟩
  | 4, _, h, hsh =>
    refine k_iload_n G dX0_judge_0 rfl ?_
    refine k_callPI G (vk_isTape _ D T t (fun r => r = 1) (q_T ht ⟨Or.inr rfl, rfl⟩)) gf_isTape q1183 dX0_judge_1 rfl rfl (Nat.le_of_ble_eq_true rfl) (Nat.le_of_ble_eq_true rfl) ⟨Nat.zero_le _, Nat.zero_le _⟩ (fun r h9 => ?_)
    subst h9
    refine k_if_ne G 9 dX0_judge_4 (by decide) (fun _ => ?_) (fun c4 => absurd c4 (by decide))
    refine k_aload_n G dX0_judge_9 rfl ?_
    refine k_aload_n G dX0_judge_10 rfl ?_
    refine kc_this G (show CF "BakedBefore" 15 68 from ⟨by decide, Or.inl q285, rfl⟩) dX0_judge_11 rfl ?_
    refine k_iload_n G dX0_judge_14 rfl ?_
    refine kc_aaldB G dX0_judge_15 (tp_in ht).1 ?_
    refine kc_row G hi (Or.inr (by decide +kernel)) dX0_judge_16 ?_
    rw [hr]
    refine kr_castNo G hlt (by decide) h q1186 (by decide +kernel) our_aZ our_aS (Nat.le_of_ble_eq_true rfl) ⟨Nat.le_of_ble_eq_true rfl, Nat.le_of_ble_eq_true rfl⟩ dX0_judge_19 (fun q9 => ?_)
    refine kx_catch G (name := "java/lang/ClassCastException") [] ⟨9, 26, 27, 345⟩ [] (by rw [htab]; rfl) (fun z hz => nomatch hz) rfl (by decide) q1156 (by decide +kernel) rfl ?_
    refine k_astore_n G [(3, .ref q9), (0, .ref (q 0)), (1, .int t), (2, .int at0)] dX0_judge_27 rfl (Nat.le_of_ble_eq_true rfl) rfl ?_
    refine k_bipush G (v := -12) dX0_judge_28 (by decide) ?_
    exact k_iret G X dX0_judge_30 (Nat.le_of_ble_eq_true rfl) (Nat.le_of_ble_eq_true rfl) ⟨_, rfl, rfl, Or.inr (Or.inr ⟨ht, 4, a, x, hr, h, Or.inl ⟨by decide, rfl⟩⟩)⟩
