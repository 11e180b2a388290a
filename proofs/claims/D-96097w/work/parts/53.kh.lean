/-! Tape.has, item -/
set_option maxRecDepth 100000
/-- what has finds wrong -/
def hasO (T : xT) (ω : CS) (i : Nat) (k : Int32) (r : Option Int32) : Prop := (ω.1.2 (31 + i) 0 = none ∧ r = some (-11)) ∨ ∃ (s a : Nat) (x : vp_A), ω.1.2 (31 + i) 0 = some a ∧ rowE T ω s a x ∧ ((¬ (0 ≤ k ∧ k ≤ nI x.1 - 1) ∧ r = some (-13)) ∨ ((0 ≤ k ∧ k ≤ nI x.1 - 1) ∧ r = none))
theorem rng_in {k : Int32} {n : Nat} (hn : n ≤ 60) (h : 0 ≤ k ∧ k ≤ nI n - 1) : vp_in k n ∧ k.toNatClampNeg < n := by
  have h1 : (0 : Int) ≤ k.toInt := Int32.le_iff_toInt_le.mp h.1
  have h2 : k.toInt ≤ (nI n - 1).toInt := Int32.le_iff_toInt_le.mp h.2
  have h3 : (nI n - 1).toInt = (n : Int) - 1 := by
    have h0 : nI n - 1 = Int32.ofInt ((n : Int) - 1) := by
      rw [show nI n = Int32.ofInt (n : Int) from rfl, show (1 : Int32) = Int32.ofInt 1 from rfl, ← Int32.ofInt_sub]
    rw [h0, Int32.toInt_ofInt_of_le (by omega) (by omega)]
  have h4 : k.toNatClampNeg < n := by show k.toInt.toNat < n; omega
  exact ⟨fun z => z.elim (fun z => absurd h.1 (Int32.not_le.mpr z)) (fun z => absurd h4 (Nat.not_lt.mpr z)), h4⟩
abbrev cX5_has : ByteArray := prog_17_method_3_code
def yX5_has : MethodName := ⟨RX5, "has", "(I)V"⟩
def dkwX5_has_1 : List UInt8 := [100, 184, 0, 34, 154, 0, 13, 187, 0, 25, 89, 16, 243, 183, 0, 27, 191, 177]
abbrev dktX5_has_1 : List UInt8 := dkwX5_has_1 ++ []
def dkwX5_has_0 : List UInt8 := [42, 180, 0, 9, 199, 0, 13, 187, 0, 25, 89, 16, 245, 183, 0, 27, 191, 27, 3, 42, 182, 0, 30, 4]
abbrev dktX5_has_0 : List UInt8 := dkwX5_has_0 ++ dktX5_has_1
theorem dksX5_has_0 : cX5_has.data.toList.drop 0 = dktX5_has_0 := by decide +kernel
theorem dksX5_has_1 : cX5_has.data.toList.drop 24 = dktX5_has_1 := dk_seg dksX5_has_0 24 rfl rfl
theorem dX5_has_0 : decode cX5_has 0 = .ok (.aload_n 0, 1) := dk_42 (dk_at dksX5_has_0 0 rfl rfl)
theorem dX5_has_1 : decode cX5_has 1 = .ok (.getfield 9, 3) := dk_180 0 9 (dk_at dksX5_has_0 1 rfl rfl)
theorem dX5_has_4 : decode cX5_has 4 = .ok (.ifnonnull 13, 3) := dk_199 0 13 (dk_at dksX5_has_0 4 rfl rfl)
theorem dX5_has_7 : decode cX5_has 7 = .ok (.new 25, 3) := dk_187 0 25 (dk_at dksX5_has_0 7 rfl rfl)
theorem dX5_has_10 : decode cX5_has 10 = .ok (.dup, 1) := dk_89 (dk_at dksX5_has_0 10 rfl rfl)
theorem dX5_has_11 : decode cX5_has 11 = .ok (.bipush (-11), 2) := dk_16 245 (dk_at dksX5_has_0 11 rfl rfl)
theorem dX5_has_13 : decode cX5_has 13 = .ok (.invokespecial 27, 3) := dk_183 0 27 (dk_at dksX5_has_0 13 rfl rfl)
theorem dX5_has_16 : decode cX5_has 16 = .ok (.athrow, 1) := dk_191 (dk_at dksX5_has_0 16 rfl rfl)
theorem dX5_has_17 : decode cX5_has 17 = .ok (.iload_n 1, 1) := dk_27 (dk_at dksX5_has_0 17 rfl rfl)
theorem dX5_has_18 : decode cX5_has 18 = .ok (.iconst 0, 1) := dk_3 (dk_at dksX5_has_0 18 rfl rfl)
theorem dX5_has_19 : decode cX5_has 19 = .ok (.aload_n 0, 1) := dk_42 (dk_at dksX5_has_0 19 rfl rfl)
theorem dX5_has_20 : decode cX5_has 20 = .ok (.invokevirtual 30, 3) := dk_182 0 30 (dk_at dksX5_has_0 20 rfl rfl)
theorem dX5_has_23 : decode cX5_has 23 = .ok (.iconst 1, 1) := dk_4 (dk_at dksX5_has_0 23 rfl rfl)
theorem dX5_has_24 : decode cX5_has 24 = .ok (.isub, 1) := dk_100 (dk_at dksX5_has_1 0 rfl rfl)
theorem dX5_has_25 : decode cX5_has 25 = .ok (.invokestatic 34, 3) := dk_184 0 34 (dk_at dksX5_has_1 1 rfl rfl)
theorem dX5_has_28 : decode cX5_has 28 = .ok (.ifCond .ne 13, 3) := dk_154 0 13 (dk_at dksX5_has_1 4 rfl rfl)
theorem dX5_has_31 : decode cX5_has 31 = .ok (.new 25, 3) := dk_187 0 25 (dk_at dksX5_has_1 7 rfl rfl)
theorem dX5_has_34 : decode cX5_has 34 = .ok (.dup, 1) := dk_89 (dk_at dksX5_has_1 10 rfl rfl)
theorem dX5_has_35 : decode cX5_has 35 = .ok (.bipush (-13), 2) := dk_16 243 (dk_at dksX5_has_1 11 rfl rfl)
theorem dX5_has_37 : decode cX5_has 37 = .ok (.invokespecial 27, 3) := dk_183 0 27 (dk_at dksX5_has_1 13 rfl rfl)
theorem dX5_has_40 : decode cX5_has 40 = .ok (.athrow, 1) := dk_191 (dk_at dksX5_has_1 16 rfl rfl)
theorem dX5_has_41 : decode cX5_has 41 = .ok (.return_, 1) := dk_177 (dk_at dksX5_has_1 17 rfl rfl)
theorem xs_has : xV yX5_has "BakedBefore$Tape" cX5_has 2 none 1 := ⟨q1347, qs41, q95, q1348, ⟨rfl, by decide +kernel, by decide +kernel, by decide +kernel⟩, by decide⟩
theorem ks_has (l : Launch) (hlt : l.stackTraces = false) (D : va_G) (T : xT) (q : Nat → Nat) (ω : CS) {i : Nat} (hi : i < 6) {k : Int32} {r : Option Int32} (h : hasO T ω i k r) : XMX l D T yX5_has cX5_has 2 none 10 1 7 [.ref (q (31 + i)), .int k] (cw T q ω) (fun v w => r = none ∧ v = none ∧ w = cw T q ω) (fun E b w => ∃ (p : Int32) (fs : List Value), r = some p ∧ E = "BakedBefore$Off" ∧ w = cw T q ω ++ [(b, .inr (15, fs))] ∧ fs[6]? = some (.int p)) := by
  refine XMX.start (by decide +kernel) (Nat.le_of_ble_eq_true rfl) (fun Γ G X htab hl_ => ?_)
  subst hl_
  refine K.less [0, 1] (lv' := [(0, .ref (q (31 + i))), (1, .int k)]) rfl ?_
  rcases h with ⟨hr, rfl⟩ | ⟨s, a, x, hr, h, ⟨hn, rfl⟩ | ⟨hn, rfl⟩⟩
  · refine k_aload_n G dX5_has_0 rfl ?_
    refine kc_row G hi (Or.inl q264) dX5_has_1 ?_
    rw [hr]
    refine k_ifnonnullN G dX5_has_4 ?_
    refine k_newOff G hlt (ik := 25) (ic := 27) (L := 2) (x := (-11)) q1349 q1350 (Nat.le_of_ble_eq_true rfl) (Nat.le_of_ble_eq_true rfl) ⟨Nat.le_of_ble_eq_true rfl, Nat.le_of_ble_eq_true rfl⟩ dX5_has_7 dX5_has_10 (fun b H locs ls hP hl kk => lv_bipush G.1 G.2.1 dX5_has_11 (by decide) kk) dX5_has_13 (fun b fs h6 => ?_)
    refine kx_athrow G (p := (cw T q ω).length) (ci := 15) (fs := fs) (TT := TX15) (N := 7) (by simp) rfl dX5_has_16 ?_
    exact kx_out G X htab (Nat.le_of_ble_eq_true rfl) (Nat.le_of_ble_eq_true rfl) ⟨_, fs, rfl, rfl, rfl, h6⟩
  · refine k_aload_n G dX5_has_0 rfl ?_
    refine kc_row G hi (Or.inl q264) dX5_has_1 ?_
    rw [hr]
    refine k_ifnonnull G 17 dX5_has_4 (by decide) ?_
    refine k_iload_n G dX5_has_17 rfl ?_
    refine k_iconst G (v := 0) dX5_has_18 (by decide) ?_
    refine k_aload_n G dX5_has_19 rfl ?_
    refine k_callVw G (As := []) (rest := [.int 0, .int k]) (C := RX5) (ks_tsize _ D T q ω hi hr h) xs_tsize q1351 rfl rfl (Nat.le_of_ble_eq_true rfl) (Nat.le_of_ble_eq_true rfl) ⟨Nat.le_of_ble_eq_true rfl, Nat.le_of_ble_eq_true rfl⟩ ⟨31 + i, 5, _, TX5, 1, cw_at (cB_at hi T q ω.1), rfl⟩ dX5_has_20 (fun v9 w9 h9 => ?_)
    obtain ⟨rfl, rfl⟩ := h9
    refine k_iconst G (v := 1) dX5_has_23 (by decide) ?_
    refine k_isub G dX5_has_24 ?_
    refine k_inN G (k := fun r => r = 0) (q_F hn rfl) (by decide +kernel) rfl (Nat.le_of_ble_eq_true rfl) (by decide) ⟨Nat.le_of_ble_eq_true rfl, Nat.le_of_ble_eq_true rfl⟩ dX5_has_25 (fun r9 h9 => ?_)
    subst h9
    refine k_if_ne G 41 dX5_has_28 (by decide) (fun c28 => absurd c28 (fun z => z rfl)) (fun _ => ?_)
    refine k_newOff G hlt (ik := 25) (ic := 27) (L := 2) (x := (-13)) q1349 q1350 (Nat.le_of_ble_eq_true rfl) (Nat.le_of_ble_eq_true rfl) ⟨Nat.le_of_ble_eq_true rfl, Nat.le_of_ble_eq_true rfl⟩ dX5_has_31 dX5_has_34 (fun b H locs ls hP hl kk => lv_bipush G.1 G.2.1 dX5_has_35 (by decide) kk) dX5_has_37 (fun b fs h6 => ?_)
    refine kx_athrow G (p := (cw T q ω).length) (ci := 15) (fs := fs) (TT := TX15) (N := 7) (by simp) rfl dX5_has_40 ?_
    exact kx_out G X htab (Nat.le_of_ble_eq_true rfl) (Nat.le_of_ble_eq_true rfl) ⟨_, fs, rfl, rfl, rfl, h6⟩
  · refine k_aload_n G dX5_has_0 rfl ?_
    refine kc_row G hi (Or.inl q264) dX5_has_1 ?_
    rw [hr]
    refine k_ifnonnull G 17 dX5_has_4 (by decide) ?_
    refine k_iload_n G dX5_has_17 rfl ?_
    refine k_iconst G (v := 0) dX5_has_18 (by decide) ?_
    refine k_aload_n G dX5_has_19 rfl ?_
    refine k_callVw G (As := []) (rest := [.int 0, .int k]) (C := RX5) (ks_tsize _ D T q ω hi hr h) xs_tsize q1351 rfl rfl (Nat.le_of_ble_eq_true rfl) (Nat.le_of_ble_eq_true rfl) ⟨Nat.le_of_ble_eq_true rfl, Nat.le_of_ble_eq_true rfl⟩ ⟨31 + i, 5, _, TX5, 1, cw_at (cB_at hi T q ω.1), rfl⟩ dX5_has_20 (fun v9 w9 h9 => ?_)
    obtain ⟨rfl, rfl⟩ := h9
    refine k_iconst G (v := 1) dX5_has_23 (by decide) ?_
    refine k_isub G dX5_has_24 ?_
    refine k_inN G (k := fun r => r = 1) (q_T hn rfl) (by decide +kernel) rfl (Nat.le_of_ble_eq_true rfl) (by decide) ⟨Nat.le_of_ble_eq_true rfl, Nat.le_of_ble_eq_true rfl⟩ dX5_has_25 (fun r9 h9 => ?_)
    subst h9
    refine k_if_ne G 41 dX5_has_28 (by decide) (fun _ => ?_) (fun c28 => absurd c28 (by decide))
    exact kx_ret X (k_vret (xEr.G G) xEr.X dX5_has_41 (Nat.le_of_ble_eq_true rfl) (Nat.le_of_ble_eq_true rfl) ⟨rfl, rfl, rfl⟩)
abbrev cX0_item : ByteArray := prog_1_method_65_code
def yX0_item : MethodName := ⟨RX0, "item", "(IIJ)I"⟩
def dkwX0_item_7 : List UInt8 := [180, 1, 80, 192, 1, 138, 28, 33, 9, 148, 153, 0, 7, 4, 167, 0, 4, 3, 84, 4, 172]
abbrev dktX0_item_7 : List UInt8 := dkwX0_item_7 ++ []
def dkwX0_item_6 : List UInt8 := [193, 1, 136, 153, 0, 18, 25, 10, 192, 1, 136, 58, 9, 25, 9, 28, 33, 80, 167, 0, 24, 25, 5]
abbrev dktX0_item_6 : List UInt8 := dkwX0_item_6 ++ dktX0_item_7
def dkwX0_item_5 : List UInt8 := [192, 1, 135, 58, 8, 25, 8, 28, 33, 136, 79, 167, 0, 54, 25, 5, 180, 1, 80, 58, 10, 25, 10]
abbrev dktX0_item_5 : List UInt8 := dkwX0_item_5 ++ dktX0_item_6
def dkwX0_item_4 : List UInt8 := [136, 147, 86, 167, 0, 85, 25, 5, 180, 1, 80, 58, 10, 25, 10, 193, 1, 135, 153, 0, 19, 25, 10]
abbrev dktX0_item_4 : List UInt8 := dkwX0_item_4 ++ dktX0_item_5
def dkwX0_item_3 : List UInt8 := [180, 1, 80, 58, 10, 25, 10, 193, 1, 83, 153, 0, 20, 25, 10, 192, 1, 83, 58, 7, 25, 7, 28, 33]
abbrev dktX0_item_3 : List UInt8 := dkwX0_item_3 ++ dktX0_item_4
def dkwX0_item_2 : List UInt8 := [153, 0, 20, 25, 10, 192, 1, 134, 58, 6, 25, 6, 28, 33, 136, 145, 84, 167, 0, 117, 25, 5]
abbrev dktX0_item_2 : List UInt8 := dkwX0_item_2 ++ dktX0_item_3
def dkwX0_item_1 : List UInt8 := [167, 0, 11, 58, 6, 25, 6, 180, 0, 239, 172, 25, 5, 180, 1, 80, 58, 10, 25, 10, 193, 1, 134]
abbrev dktX0_item_1 : List UInt8 := dkwX0_item_1 ++ dktX0_item_2
def dkwX0_item_0 : List UInt8 := [27, 184, 1, 77, 154, 0, 5, 2, 172, 42, 180, 0, 68, 27, 50, 58, 5, 25, 5, 28, 182, 1, 131]
abbrev dktX0_item_0 : List UInt8 := dkwX0_item_0 ++ dktX0_item_1
theorem dksX0_item_0 : cX0_item.data.toList.drop 0 = dktX0_item_0 := by decide +kernel
theorem dksX0_item_1 : cX0_item.data.toList.drop 23 = dktX0_item_1 := dk_seg dksX0_item_0 23 rfl rfl
theorem dksX0_item_2 : cX0_item.data.toList.drop 46 = dktX0_item_2 := dk_seg dksX0_item_1 23 rfl rfl
theorem dksX0_item_3 : cX0_item.data.toList.drop 68 = dktX0_item_3 := dk_seg dksX0_item_2 22 rfl rfl
theorem dksX0_item_4 : cX0_item.data.toList.drop 92 = dktX0_item_4 := dk_seg dksX0_item_3 24 rfl rfl
theorem dksX0_item_5 : cX0_item.data.toList.drop 115 = dktX0_item_5 := dk_seg dksX0_item_4 23 rfl rfl
theorem dksX0_item_6 : cX0_item.data.toList.drop 138 = dktX0_item_6 := dk_seg dksX0_item_5 23 rfl rfl
theorem dksX0_item_7 : cX0_item.data.toList.drop 161 = dktX0_item_7 := dk_seg dksX0_item_6 23 rfl rfl
theorem dX0_item_0 : decode cX0_item 0 = .ok (.iload_n 1, 1) := dk_27 (dk_at dksX0_item_0 0 rfl rfl)
theorem dX0_item_1 : decode cX0_item 1 = .ok (.invokestatic 333, 3) := dk_184 1 77 (dk_at dksX0_item_0 1 rfl rfl)
theorem dX0_item_4 : decode cX0_item 4 = .ok (.ifCond .ne 5, 3) := dk_154 0 5 (dk_at dksX0_item_0 4 rfl rfl)
theorem dX0_item_7 : decode cX0_item 7 = .ok (.iconst (-1), 1) := dk_2 (dk_at dksX0_item_0 7 rfl rfl)
theorem dX0_item_8 : decode cX0_item 8 = .ok (.ireturn, 1) := dk_172 (dk_at dksX0_item_0 8 rfl rfl)
theorem dX0_item_9 : decode cX0_item 9 = .ok (.aload_n 0, 1) := dk_42 (dk_at dksX0_item_0 9 rfl rfl)
theorem dX0_item_10 : decode cX0_item 10 = .ok (.getfield 68, 3) := dk_180 0 68 (dk_at dksX0_item_0 10 rfl rfl)
theorem dX0_item_13 : decode cX0_item 13 = .ok (.iload_n 1, 1) := dk_27 (dk_at dksX0_item_0 13 rfl rfl)
theorem dX0_item_14 : decode cX0_item 14 = .ok (.aaload, 1) := dk_50 (dk_at dksX0_item_0 14 rfl rfl)
theorem dX0_item_15 : decode cX0_item 15 = .ok (.astore 5, 2) := dk_58 5 (dk_at dksX0_item_0 15 rfl rfl)
theorem dX0_item_17 : decode cX0_item 17 = .ok (.aload 5, 2) := dk_25 5 (dk_at dksX0_item_0 17 rfl rfl)
theorem dX0_item_19 : decode cX0_item 19 = .ok (.iload_n 2, 1) := dk_28 (dk_at dksX0_item_0 19 rfl rfl)
theorem dX0_item_20 : decode cX0_item 20 = .ok (.invokevirtual 387, 3) := dk_182 1 131 (dk_at dksX0_item_0 20 rfl rfl)
theorem dX0_item_23 : decode cX0_item 23 = .ok (.goto 11, 3) := dk_167 0 11 (dk_at dksX0_item_1 0 rfl rfl)
theorem dX0_item_26 : decode cX0_item 26 = .ok (.astore 6, 2) := dk_58 6 (dk_at dksX0_item_1 3 rfl rfl)
theorem dX0_item_28 : decode cX0_item 28 = .ok (.aload 6, 2) := dk_25 6 (dk_at dksX0_item_1 5 rfl rfl)
theorem dX0_item_30 : decode cX0_item 30 = .ok (.getfield 239, 3) := dk_180 0 239 (dk_at dksX0_item_1 7 rfl rfl)
theorem dX0_item_33 : decode cX0_item 33 = .ok (.ireturn, 1) := dk_172 (dk_at dksX0_item_1 10 rfl rfl)
theorem dX0_item_34 : decode cX0_item 34 = .ok (.aload 5, 2) := dk_25 5 (dk_at dksX0_item_1 11 rfl rfl)
theorem dX0_item_36 : decode cX0_item 36 = .ok (.getfield 336, 3) := dk_180 1 80 (dk_at dksX0_item_1 13 rfl rfl)
theorem dX0_item_39 : decode cX0_item 39 = .ok (.astore 10, 2) := dk_58 10 (dk_at dksX0_item_1 16 rfl rfl)
theorem dX0_item_41 : decode cX0_item 41 = .ok (.aload 10, 2) := dk_25 10 (dk_at dksX0_item_1 18 rfl rfl)
theorem dX0_item_43 : decode cX0_item 43 = .ok (.instanceof 390, 3) := dk_193 1 134 (dk_at dksX0_item_1 20 rfl rfl)
theorem dX0_item_46 : decode cX0_item 46 = .ok (.ifCond .eq 20, 3) := dk_153 0 20 (dk_at dksX0_item_2 0 rfl rfl)
theorem dX0_item_49 : decode cX0_item 49 = .ok (.aload 10, 2) := dk_25 10 (dk_at dksX0_item_2 3 rfl rfl)
theorem dX0_item_51 : decode cX0_item 51 = .ok (.checkcast 390, 3) := dk_192 1 134 (dk_at dksX0_item_2 5 rfl rfl)
theorem dX0_item_54 : decode cX0_item 54 = .ok (.astore 6, 2) := dk_58 6 (dk_at dksX0_item_2 8 rfl rfl)
theorem dX0_item_56 : decode cX0_item 56 = .ok (.aload 6, 2) := dk_25 6 (dk_at dksX0_item_2 10 rfl rfl)
theorem dX0_item_58 : decode cX0_item 58 = .ok (.iload_n 2, 1) := dk_28 (dk_at dksX0_item_2 12 rfl rfl)
theorem dX0_item_59 : decode cX0_item 59 = .ok (.lload_n 3, 1) := dk_33 (dk_at dksX0_item_2 13 rfl rfl)
theorem dX0_item_60 : decode cX0_item 60 = .ok (.l2i, 1) := dk_136 (dk_at dksX0_item_2 14 rfl rfl)
theorem dX0_item_61 : decode cX0_item 61 = .ok (.i2b, 1) := dk_145 (dk_at dksX0_item_2 15 rfl rfl)
theorem dX0_item_62 : decode cX0_item 62 = .ok (.bastore, 1) := dk_84 (dk_at dksX0_item_2 16 rfl rfl)
theorem dX0_item_63 : decode cX0_item 63 = .ok (.goto 117, 3) := dk_167 0 117 (dk_at dksX0_item_2 17 rfl rfl)
theorem dX0_item_66 : decode cX0_item 66 = .ok (.aload 5, 2) := dk_25 5 (dk_at dksX0_item_2 20 rfl rfl)
theorem dX0_item_68 : decode cX0_item 68 = .ok (.getfield 336, 3) := dk_180 1 80 (dk_at dksX0_item_3 0 rfl rfl)
theorem dX0_item_71 : decode cX0_item 71 = .ok (.astore 10, 2) := dk_58 10 (dk_at dksX0_item_3 3 rfl rfl)
theorem dX0_item_73 : decode cX0_item 73 = .ok (.aload 10, 2) := dk_25 10 (dk_at dksX0_item_3 5 rfl rfl)
theorem dX0_item_75 : decode cX0_item 75 = .ok (.instanceof 339, 3) := dk_193 1 83 (dk_at dksX0_item_3 7 rfl rfl)
theorem dX0_item_78 : decode cX0_item 78 = .ok (.ifCond .eq 20, 3) := dk_153 0 20 (dk_at dksX0_item_3 10 rfl rfl)
theorem dX0_item_81 : decode cX0_item 81 = .ok (.aload 10, 2) := dk_25 10 (dk_at dksX0_item_3 13 rfl rfl)
theorem dX0_item_83 : decode cX0_item 83 = .ok (.checkcast 339, 3) := dk_192 1 83 (dk_at dksX0_item_3 15 rfl rfl)
theorem dX0_item_86 : decode cX0_item 86 = .ok (.astore 7, 2) := dk_58 7 (dk_at dksX0_item_3 18 rfl rfl)
theorem dX0_item_88 : decode cX0_item 88 = .ok (.aload 7, 2) := dk_25 7 (dk_at dksX0_item_3 20 rfl rfl)
theorem dX0_item_90 : decode cX0_item 90 = .ok (.iload_n 2, 1) := dk_28 (dk_at dksX0_item_3 22 rfl rfl)
theorem dX0_item_91 : decode cX0_item 91 = .ok (.lload_n 3, 1) := dk_33 (dk_at dksX0_item_3 23 rfl rfl)
theorem dX0_item_92 : decode cX0_item 92 = .ok (.l2i, 1) := dk_136 (dk_at dksX0_item_4 0 rfl rfl)
theorem dX0_item_93 : decode cX0_item 93 = .ok (.i2s, 1) := dk_147 (dk_at dksX0_item_4 1 rfl rfl)
theorem dX0_item_94 : decode cX0_item 94 = .ok (.sastore, 1) := dk_86 (dk_at dksX0_item_4 2 rfl rfl)
theorem dX0_item_95 : decode cX0_item 95 = .ok (.goto 85, 3) := dk_167 0 85 (dk_at dksX0_item_4 3 rfl rfl)
theorem dX0_item_98 : decode cX0_item 98 = .ok (.aload 5, 2) := dk_25 5 (dk_at dksX0_item_4 6 rfl rfl)
theorem dX0_item_100 : decode cX0_item 100 = .ok (.getfield 336, 3) := dk_180 1 80 (dk_at dksX0_item_4 8 rfl rfl)
theorem dX0_item_103 : decode cX0_item 103 = .ok (.astore 10, 2) := dk_58 10 (dk_at dksX0_item_4 11 rfl rfl)
theorem dX0_item_105 : decode cX0_item 105 = .ok (.aload 10, 2) := dk_25 10 (dk_at dksX0_item_4 13 rfl rfl)
theorem dX0_item_107 : decode cX0_item 107 = .ok (.instanceof 391, 3) := dk_193 1 135 (dk_at dksX0_item_4 15 rfl rfl)
theorem dX0_item_110 : decode cX0_item 110 = .ok (.ifCond .eq 19, 3) := dk_153 0 19 (dk_at dksX0_item_4 18 rfl rfl)
theorem dX0_item_113 : decode cX0_item 113 = .ok (.aload 10, 2) := dk_25 10 (dk_at dksX0_item_4 21 rfl rfl)
theorem dX0_item_115 : decode cX0_item 115 = .ok (.checkcast 391, 3) := dk_192 1 135 (dk_at dksX0_item_5 0 rfl rfl)
theorem dX0_item_118 : decode cX0_item 118 = .ok (.astore 8, 2) := dk_58 8 (dk_at dksX0_item_5 3 rfl rfl)
theorem dX0_item_120 : decode cX0_item 120 = .ok (.aload 8, 2) := dk_25 8 (dk_at dksX0_item_5 5 rfl rfl)
theorem dX0_item_122 : decode cX0_item 122 = .ok (.iload_n 2, 1) := dk_28 (dk_at dksX0_item_5 7 rfl rfl)
theorem dX0_item_123 : decode cX0_item 123 = .ok (.lload_n 3, 1) := dk_33 (dk_at dksX0_item_5 8 rfl rfl)
theorem dX0_item_124 : decode cX0_item 124 = .ok (.l2i, 1) := dk_136 (dk_at dksX0_item_5 9 rfl rfl)
theorem dX0_item_125 : decode cX0_item 125 = .ok (.iastore, 1) := dk_79 (dk_at dksX0_item_5 10 rfl rfl)
theorem dX0_item_126 : decode cX0_item 126 = .ok (.goto 54, 3) := dk_167 0 54 (dk_at dksX0_item_5 11 rfl rfl)
theorem dX0_item_129 : decode cX0_item 129 = .ok (.aload 5, 2) := dk_25 5 (dk_at dksX0_item_5 14 rfl rfl)
theorem dX0_item_131 : decode cX0_item 131 = .ok (.getfield 336, 3) := dk_180 1 80 (dk_at dksX0_item_5 16 rfl rfl)
theorem dX0_item_134 : decode cX0_item 134 = .ok (.astore 10, 2) := dk_58 10 (dk_at dksX0_item_5 19 rfl rfl)
theorem dX0_item_136 : decode cX0_item 136 = .ok (.aload 10, 2) := dk_25 10 (dk_at dksX0_item_5 21 rfl rfl)
theorem dX0_item_138 : decode cX0_item 138 = .ok (.instanceof 392, 3) := dk_193 1 136 (dk_at dksX0_item_6 0 rfl rfl)
theorem dX0_item_141 : decode cX0_item 141 = .ok (.ifCond .eq 18, 3) := dk_153 0 18 (dk_at dksX0_item_6 3 rfl rfl)
theorem dX0_item_144 : decode cX0_item 144 = .ok (.aload 10, 2) := dk_25 10 (dk_at dksX0_item_6 6 rfl rfl)
theorem dX0_item_146 : decode cX0_item 146 = .ok (.checkcast 392, 3) := dk_192 1 136 (dk_at dksX0_item_6 8 rfl rfl)
theorem dX0_item_149 : decode cX0_item 149 = .ok (.astore 9, 2) := dk_58 9 (dk_at dksX0_item_6 11 rfl rfl)
theorem dX0_item_151 : decode cX0_item 151 = .ok (.aload 9, 2) := dk_25 9 (dk_at dksX0_item_6 13 rfl rfl)
theorem dX0_item_153 : decode cX0_item 153 = .ok (.iload_n 2, 1) := dk_28 (dk_at dksX0_item_6 15 rfl rfl)
theorem dX0_item_154 : decode cX0_item 154 = .ok (.lload_n 3, 1) := dk_33 (dk_at dksX0_item_6 16 rfl rfl)
theorem dX0_item_155 : decode cX0_item 155 = .ok (.lastore, 1) := dk_80 (dk_at dksX0_item_6 17 rfl rfl)
theorem dX0_item_156 : decode cX0_item 156 = .ok (.goto 24, 3) := dk_167 0 24 (dk_at dksX0_item_6 18 rfl rfl)
theorem dX0_item_159 : decode cX0_item 159 = .ok (.aload 5, 2) := dk_25 5 (dk_at dksX0_item_6 21 rfl rfl)
theorem dX0_item_161 : decode cX0_item 161 = .ok (.getfield 336, 3) := dk_180 1 80 (dk_at dksX0_item_7 0 rfl rfl)
theorem dX0_item_164 : decode cX0_item 164 = .ok (.checkcast 394, 3) := dk_192 1 138 (dk_at dksX0_item_7 3 rfl rfl)
theorem dX0_item_167 : decode cX0_item 167 = .ok (.iload_n 2, 1) := dk_28 (dk_at dksX0_item_7 6 rfl rfl)
theorem dX0_item_168 : decode cX0_item 168 = .ok (.lload_n 3, 1) := dk_33 (dk_at dksX0_item_7 7 rfl rfl)
theorem dX0_item_169 : decode cX0_item 169 = .ok (.lconst 0, 1) := dk_9 (dk_at dksX0_item_7 8 rfl rfl)
theorem dX0_item_170 : decode cX0_item 170 = .ok (.lcmp, 1) := dk_148 (dk_at dksX0_item_7 9 rfl rfl)
theorem dX0_item_171 : decode cX0_item 171 = .ok (.ifCond .eq 7, 3) := dk_153 0 7 (dk_at dksX0_item_7 10 rfl rfl)
theorem dX0_item_174 : decode cX0_item 174 = .ok (.iconst 1, 1) := dk_4 (dk_at dksX0_item_7 13 rfl rfl)
theorem dX0_item_175 : decode cX0_item 175 = .ok (.goto 4, 3) := dk_167 0 4 (dk_at dksX0_item_7 14 rfl rfl)
theorem dX0_item_178 : decode cX0_item 178 = .ok (.iconst 0, 1) := dk_3 (dk_at dksX0_item_7 17 rfl rfl)
theorem dX0_item_179 : decode cX0_item 179 = .ok (.bastore, 1) := dk_84 (dk_at dksX0_item_7 18 rfl rfl)
theorem dX0_item_180 : decode cX0_item 180 = .ok (.iconst 1, 1) := dk_4 (dk_at dksX0_item_7 19 rfl rfl)
theorem dX0_item_181 : decode cX0_item 181 = .ok (.ireturn, 1) := dk_172 (dk_at dksX0_item_7 20 rfl rfl)
theorem xs_item : xVW yX0_item "BakedBefore" cX0_item 11 (some .int) [(17, 23, 26, 237)] 3 := ⟨q1342, q1343, q87, q1344, ⟨rfl, by decide +kernel, by decide +kernel, by decide +kernel⟩, by decide⟩
def shp (s : Nat) (x : vp_A) : Prop := (s = 3 ∧ ∃ (n : Nat) (g : Nat → Int64), x = (n, .inr (.inl g))) ∨ (¬ s = 3 ∧ ∃ (n : Nat) (f : Nat → Int32), x = (n, .inl f))
/-- a tape's row is of a sort, and short -/
def tapeH (T : xT) (ω : CS) (t : Int32) : Prop := ω.1.2 (31 + t.toNatClampNeg) 0 = none ∨ ∃ (s a : Nat) (x : vp_A), ω.1.2 (31 + t.toNatClampNeg) 0 = some a ∧ rowE T ω s a x ∧ x.1 ≤ 60 ∧ shp s x
def storeR (s : Nat) (x : vp_A) (k : Nat) (v : Int64) (x' : vp_A) : Prop := (s = 0 ∧ ∃ (n : Nat) (f : Nat → Int32), x = (n, .inl f) ∧ x' = (n, .inl (upd f k (vp_nar .byte v.toInt32.toInt8.toInt32)))) ∨ (s = 1 ∧ ∃ (n : Nat) (f : Nat → Int32), x = (n, .inl f) ∧ x' = (n, .inl (upd f k (vp_nar .short v.toInt32.toInt16.toInt32)))) ∨ (s = 2 ∧ ∃ (n : Nat) (f : Nat → Int32), x = (n, .inl f) ∧ x' = (n, .inl (upd f k v.toInt32))) ∨ (s = 3 ∧ ∃ (n : Nat) (g : Nat → Int64), x = (n, .inr (.inl g)) ∧ x' = (n, .inr (.inl (vp_updL g k v)))) ∨ (s = 4 ∧ ∃ (n : Nat) (f : Nat → Int32), x = (n, .inl f) ∧ x' = (n, .inl (upd f k (vp_nar .boolean (if v = 0 then 0 else 1)))))
/-- what item does -/
def itemO (T : xT) (ω : CS) (t k : Int32) (v : Int64) (r : Int32) (ω' : CS) : Prop := (¬ (0 ≤ t ∧ t ≤ 5) ∧ r = -1 ∧ ω' = ω) ∨ ((0 ≤ t ∧ t ≤ 5) ∧ ω.1.2 (31 + t.toNatClampNeg) 0 = none ∧ r = -11 ∧ ω' = ω) ∨ ((0 ≤ t ∧ t ≤ 5) ∧ ∃ (s a : Nat) (x : vp_A), ω.1.2 (31 + t.toNatClampNeg) 0 = some a ∧ rowE T ω s a x ∧ ((¬ (0 ≤ k ∧ k ≤ nI x.1 - 1) ∧ r = -13 ∧ ω' = ω) ∨ ((0 ≤ k ∧ k ≤ nI x.1 - 1) ∧ r = 1 ∧ ∃ x' : vp_A, storeR s x k.toNatClampNeg v x' ∧ ω' = cRow ω a (.inl (T.1 (sortT s), x')))))
theorem cmp_eq {x y : Int64} : lg_cmp x y = 0 ↔ x = y := by
  unfold lg_cmp
  constructor
  · intro h
    split at h
    · cases h
    · split at h
      · assumption
      · cases h
  · intro h
    subst h
    simp
theorem ks_item (l : Launch) (hlt : l.stackTraces = false) (D : va_G) (T : xT) (q : Nat → Nat) (ω : CS) (t k : Int32) (v : Int64) (hb : (0 ≤ t ∧ t ≤ 5) → tapeH T ω t) : XMW l D T yX0_item cX0_item 11 (some .int) [(17, 23, 26, 237)] 11 1 7 [.ref (q 0), .int t, .int k, .long v] (cw T q ω) (fun z w => ∃ (r : Int32) (ω' : CS), z = some (.int r) ∧ w = cw T q ω' ∧ itemO T ω t k v r ω') := by
  refine XMW.start (by decide +kernel) (Nat.le_of_ble_eq_true rfl) (fun Γ G X htab hl_ => ?_)
  subst hl_
  refine K.less [0, 1, 2, 3] (lv' := [(0, .ref (q 0)), (1, .int t), (2, .int k), (3, .long v)]) rfl ?_
  by_cases ht : 0 ≤ t ∧ t ≤ 5
  rotate_left
  · refine k_iload_n G dX0_item_0 rfl ?_
    refine k_callPI G (vk_isTape _ D T t (fun r => r = 0) (q_F ht ⟨Or.inl rfl, rfl⟩)) gf_isTape q1183 dX0_item_1 rfl rfl (Nat.le_of_ble_eq_true rfl) (Nat.le_of_ble_eq_true rfl) ⟨Nat.zero_le _, Nat.zero_le _⟩ (fun r h9 => ?_)
    subst h9
    refine k_if_ne G 9 dX0_item_4 (by decide) (fun c4 => absurd c4 (fun z => z rfl)) (fun _ => ?_)
    refine k_iconst G (v := -1) dX0_item_7 (by decide) ?_
    exact k_iret G X dX0_item_8 (Nat.le_of_ble_eq_true rfl) (Nat.le_of_ble_eq_true rfl) ⟨_, _, rfl, rfl, Or.inl ⟨ht, rfl, rfl⟩⟩
  have hi := (tp_in ht).2
  rcases hb ht with hr | ⟨s, a, x, hr, h, hx, hsh⟩
  · refine k_iload_n G dX0_item_0 rfl ?_
    refine k_callPI G (vk_isTape _ D T t (fun r => r = 1) (q_T ht ⟨Or.inr rfl, rfl⟩)) gf_isTape q1183 dX0_item_1 rfl rfl (Nat.le_of_ble_eq_true rfl) (Nat.le_of_ble_eq_true rfl) ⟨Nat.zero_le _, Nat.zero_le _⟩ (fun r h9 => ?_)
    subst h9
    refine k_if_ne G 9 dX0_item_4 (by decide) (fun _ => ?_) (fun c4 => absurd c4 (by decide))
    refine k_aload_n G dX0_item_9 rfl ?_
    refine kc_this G (show CF "BakedBefore" 15 68 from ⟨by decide, Or.inl q285, rfl⟩) dX0_item_10 rfl ?_
    refine k_iload_n G dX0_item_13 rfl ?_
    refine kc_aaldB G dX0_item_14 (tp_in ht).1 ?_
    refine k_astore G [(5, .ref (q (31 + t.toNatClampNeg))), (0, .ref (q 0)), (1, .int t), (2, .int k), (3, .long v)] dX0_item_15 (Nat.le_of_ble_eq_true rfl) rfl ?_
    refine k_aload G dX0_item_17 rfl ?_
    refine k_iload_n G dX0_item_19 rfl ?_
    refine k_callVNXw G (As := [.int k]) (rest := []) (C := RX5) (ks_has _ hlt D T q ω hi (Or.inl ⟨hr, rfl⟩)) xs_has (by decide +kernel) rfl rfl (Nat.le_of_ble_eq_true rfl) (Nat.le_of_ble_eq_true rfl) ⟨Nat.le_refl _, Nat.le_refl _⟩ ⟨31 + t.toNatClampNeg, 5, _, TX5, 1, cw_at (cB_at hi T q ω.1), rfl⟩ dX0_item_20 (fun v9 w9 hp => ?_) (fun E q9 w9 hp => ?_)
    · cases hp.1
    · obtain ⟨p, fs, e9, rfl, rfl, h6⟩ := hp
      cases e9
      refine kx_catch G (name := "BakedBefore$Off") [] ⟨17, 23, 26, 237⟩ [] (by rw [htab]; rfl) (fun z hz => nomatch hz) rfl (by decide) q658 (by decide +kernel) rfl ?_
      refine k_astore G [(6, .ref q9), (5, .ref (q (31 + t.toNatClampNeg))), (0, .ref (q 0)), (1, .int t), (2, .int k), (3, .long v)] dX0_item_26 (Nat.le_of_ble_eq_true rfl) rfl ?_
      refine k_aload G dX0_item_28 rfl ?_
      refine k_get G (p := (cw T q ω).length) (k := 6) ci_X15 (by simp) (by decide) (Or.inr (by decide +kernel)) (fun _ h => h) h6 dX0_item_30 ?_
      refine K.drop ?_
      exact k_iret G X dX0_item_33 (Nat.le_of_ble_eq_true rfl) (Nat.le_of_ble_eq_true rfl) ⟨_, _, rfl, rfl, Or.inr (Or.inl ⟨ht, hr, rfl, rfl⟩)⟩
  by_cases hn : 0 ≤ k ∧ k ≤ nI x.1 - 1
  rotate_left
  · refine k_iload_n G dX0_item_0 rfl ?_
    refine k_callPI G (vk_isTape _ D T t (fun r => r = 1) (q_T ht ⟨Or.inr rfl, rfl⟩)) gf_isTape q1183 dX0_item_1 rfl rfl (Nat.le_of_ble_eq_true rfl) (Nat.le_of_ble_eq_true rfl) ⟨Nat.zero_le _, Nat.zero_le _⟩ (fun r h9 => ?_)
    subst h9
    refine k_if_ne G 9 dX0_item_4 (by decide) (fun _ => ?_) (fun c4 => absurd c4 (by decide))
    refine k_aload_n G dX0_item_9 rfl ?_
    refine kc_this G (show CF "BakedBefore" 15 68 from ⟨by decide, Or.inl q285, rfl⟩) dX0_item_10 rfl ?_
    refine k_iload_n G dX0_item_13 rfl ?_
    refine kc_aaldB G dX0_item_14 (tp_in ht).1 ?_
    refine k_astore G [(5, .ref (q (31 + t.toNatClampNeg))), (0, .ref (q 0)), (1, .int t), (2, .int k), (3, .long v)] dX0_item_15 (Nat.le_of_ble_eq_true rfl) rfl ?_
    refine k_aload G dX0_item_17 rfl ?_
    refine k_iload_n G dX0_item_19 rfl ?_
    refine k_callVNXw G (As := [.int k]) (rest := []) (C := RX5) (ks_has _ hlt D T q ω hi (Or.inr ⟨s, a, x, hr, h, Or.inl ⟨hn, rfl⟩⟩)) xs_has (by decide +kernel) rfl rfl (Nat.le_of_ble_eq_true rfl) (Nat.le_of_ble_eq_true rfl) ⟨Nat.le_refl _, Nat.le_refl _⟩ ⟨31 + t.toNatClampNeg, 5, _, TX5, 1, cw_at (cB_at hi T q ω.1), rfl⟩ dX0_item_20 (fun v9 w9 hp => ?_) (fun E q9 w9 hp => ?_)
    · cases hp.1
    · obtain ⟨p, fs, e9, rfl, rfl, h6⟩ := hp
      cases e9
      refine kx_catch G (name := "BakedBefore$Off") [] ⟨17, 23, 26, 237⟩ [] (by rw [htab]; rfl) (fun z hz => nomatch hz) rfl (by decide) q658 (by decide +kernel) rfl ?_
      refine k_astore G [(6, .ref q9), (5, .ref (q (31 + t.toNatClampNeg))), (0, .ref (q 0)), (1, .int t), (2, .int k), (3, .long v)] dX0_item_26 (Nat.le_of_ble_eq_true rfl) rfl ?_
      refine k_aload G dX0_item_28 rfl ?_
      refine k_get G (p := (cw T q ω).length) (k := 6) ci_X15 (by simp) (by decide) (Or.inr (by decide +kernel)) (fun _ h => h) h6 dX0_item_30 ?_
      refine K.drop ?_
      exact k_iret G X dX0_item_33 (Nat.le_of_ble_eq_true rfl) (Nat.le_of_ble_eq_true rfl) ⟨_, _, rfl, rfl, Or.inr (Or.inr ⟨ht, s, a, x, hr, h, Or.inl ⟨hn, rfl, rfl⟩⟩)⟩
  have hin := (rng_in hx hn).1
  refine k_iload_n G dX0_item_0 rfl ?_
  refine k_callPI G (vk_isTape _ D T t (fun r => r = 1) (q_T ht ⟨Or.inr rfl, rfl⟩)) gf_isTape q1183 dX0_item_1 rfl rfl (Nat.le_of_ble_eq_true rfl) (Nat.le_of_ble_eq_true rfl) ⟨Nat.zero_le _, Nat.zero_le _⟩ (fun r h9 => ?_)
  subst h9
  refine k_if_ne G 9 dX0_item_4 (by decide) (fun _ => ?_) (fun c4 => absurd c4 (by decide))
  refine k_aload_n G dX0_item_9 rfl ?_
  refine kc_this G (show CF "BakedBefore" 15 68 from ⟨by decide, Or.inl q285, rfl⟩) dX0_item_10 rfl ?_
  refine k_iload_n G dX0_item_13 rfl ?_
  refine kc_aaldB G dX0_item_14 (tp_in ht).1 ?_
  refine k_astore G [(5, .ref (q (31 + t.toNatClampNeg))), (0, .ref (q 0)), (1, .int t), (2, .int k), (3, .long v)] dX0_item_15 (Nat.le_of_ble_eq_true rfl) rfl ?_
  refine k_aload G dX0_item_17 rfl ?_
  refine k_iload_n G dX0_item_19 rfl ?_
  refine k_callVNXw G (As := [.int k]) (rest := []) (C := RX5) (ks_has _ hlt D T q ω hi (Or.inr ⟨s, a, x, hr, h, Or.inr ⟨hn, rfl⟩⟩)) xs_has (by decide +kernel) rfl rfl (Nat.le_of_ble_eq_true rfl) (Nat.le_of_ble_eq_true rfl) ⟨Nat.le_refl _, Nat.le_refl _⟩ ⟨31 + t.toNatClampNeg, 5, _, TX5, 1, cw_at (cB_at hi T q ω.1), rfl⟩ dX0_item_20 (fun v9 w9 hp => ?_) (fun E q9 w9 hp => ?_)
  rotate_left
  · obtain ⟨p, fs, e9, -⟩ := hp
    cases e9
  obtain ⟨-, rfl, rfl⟩ := hp
  refine k_goto G 34 dX0_item_23 (by decide) ?_
  refine k_aload G dX0_item_34 rfl ?_
  match s, h.1, h, hsh with
  | 0, _, h, hsh =>
    rcases hsh with ⟨z, -⟩ | ⟨-, n, f, rfl⟩
    · exact absurd z (by decide)
    refine kc_row G hi (Or.inr (by decide +kernel)) dX0_item_36 ?_
    rw [hr]
    refine k_astore G [(10, .ref a), (5, .ref (q (31 + t.toNatClampNeg))), (0, .ref (q 0)), (1, .int t), (2, .int k), (3, .long v)] dX0_item_39 (Nat.le_of_ble_eq_true rfl) rfl ?_
    refine k_aload G dX0_item_41 rfl ?_
    refine kr_instY G h q1361 dX0_item_43 ?_
    refine k_if_eq G 66 dX0_item_46 (by decide) (fun c46 => absurd c46 (by decide)) (fun _ => ?_)
    refine k_aload G dX0_item_49 rfl ?_
    refine kr_cast G h q1361 dX0_item_51 ?_
    refine k_astore G [(6, .ref a), (10, .ref a), (5, .ref (q (31 + t.toNatClampNeg))), (0, .ref (q 0)), (1, .int t), (2, .int k), (3, .long v)] dX0_item_54 (Nat.le_of_ble_eq_true rfl) rfl ?_
    refine k_aload G dX0_item_56 rfl ?_
    refine k_iload_n G dX0_item_58 rfl ?_
    refine k_lload_n G dX0_item_59 rfl ?_
    refine k_l2i G dX0_item_60 ?_
    refine k_i2b G dX0_item_61 ?_
    refine kr_bast G h dX0_item_62 hin ?_
    refine k_goto G 180 dX0_item_63 (by decide) ?_
    refine k_iconst G (v := 1) dX0_item_180 (by decide) ?_
    exact k_iret G X dX0_item_181 (Nat.le_of_ble_eq_true rfl) (Nat.le_of_ble_eq_true rfl) ⟨_, _, rfl, rfl, Or.inr (Or.inr ⟨ht, 0, a, _, hr, h, Or.inr ⟨hn, rfl, _, Or.inl ⟨rfl, n, f, rfl, rfl⟩, rfl⟩⟩)⟩
  | 1, _, h, hsh =>
    rcases hsh with ⟨z, -⟩ | ⟨-, n, f, rfl⟩
    · exact absurd z (by decide)
    refine kc_row G hi (Or.inr (by decide +kernel)) dX0_item_36 ?_
    rw [hr]
    refine k_astore G [(10, .ref a), (5, .ref (q (31 + t.toNatClampNeg))), (0, .ref (q 0)), (1, .int t), (2, .int k), (3, .long v)] dX0_item_39 (Nat.le_of_ble_eq_true rfl) rfl ?_
    refine k_aload G dX0_item_41 rfl ?_
    refine kr_instN G h q1361 (by decide +kernel) dX0_item_43 ?_
    refine k_if_eq G 66 dX0_item_46 (by decide) (fun _ => ?_) (fun c46 => absurd rfl c46)
    refine k_aload G dX0_item_66 rfl ?_
    refine kc_row G hi (Or.inr (by decide +kernel)) dX0_item_68 ?_
    rw [hr]
    refine k_astore G [(10, .ref a), (5, .ref (q (31 + t.toNatClampNeg))), (0, .ref (q 0)), (1, .int t), (2, .int k), (3, .long v)] dX0_item_71 (Nat.le_of_ble_eq_true rfl) rfl ?_
    refine k_aload G dX0_item_73 rfl ?_
    refine kr_instY G h q1186 dX0_item_75 ?_
    refine k_if_eq G 98 dX0_item_78 (by decide) (fun c78 => absurd c78 (by decide)) (fun _ => ?_)
    refine k_aload G dX0_item_81 rfl ?_
    refine kr_cast G h q1186 dX0_item_83 ?_
    refine k_astore G [(7, .ref a), (10, .ref a), (5, .ref (q (31 + t.toNatClampNeg))), (0, .ref (q 0)), (1, .int t), (2, .int k), (3, .long v)] dX0_item_86 (Nat.le_of_ble_eq_true rfl) rfl ?_
    refine k_aload G dX0_item_88 rfl ?_
    refine k_iload_n G dX0_item_90 rfl ?_
    refine k_lload_n G dX0_item_91 rfl ?_
    refine k_l2i G dX0_item_92 ?_
    refine k_i2s G dX0_item_93 ?_
    refine kr_sast G h dX0_item_94 hin ?_
    refine k_goto G 180 dX0_item_95 (by decide) ?_
    refine k_iconst G (v := 1) dX0_item_180 (by decide) ?_
    exact k_iret G X dX0_item_181 (Nat.le_of_ble_eq_true rfl) (Nat.le_of_ble_eq_true rfl) ⟨_, _, rfl, rfl, Or.inr (Or.inr ⟨ht, 1, a, _, hr, h, Or.inr ⟨hn, rfl, _, Or.inr (Or.inl ⟨rfl, n, f, rfl, rfl⟩), rfl⟩⟩)⟩
  | 2, _, h, hsh =>
    rcases hsh with ⟨z, -⟩ | ⟨-, n, f, rfl⟩
    · exact absurd z (by decide)
    refine kc_row G hi (Or.inr (by decide +kernel)) dX0_item_36 ?_
    rw [hr]
    refine k_astore G [(10, .ref a), (5, .ref (q (31 + t.toNatClampNeg))), (0, .ref (q 0)), (1, .int t), (2, .int k), (3, .long v)] dX0_item_39 (Nat.le_of_ble_eq_true rfl) rfl ?_
    refine k_aload G dX0_item_41 rfl ?_
    refine kr_instN G h q1361 (by decide +kernel) dX0_item_43 ?_
    refine k_if_eq G 66 dX0_item_46 (by decide) (fun _ => ?_) (fun c46 => absurd rfl c46)
    refine k_aload G dX0_item_66 rfl ?_
    refine kc_row G hi (Or.inr (by decide +kernel)) dX0_item_68 ?_
    rw [hr]
    refine k_astore G [(10, .ref a), (5, .ref (q (31 + t.toNatClampNeg))), (0, .ref (q 0)), (1, .int t), (2, .int k), (3, .long v)] dX0_item_71 (Nat.le_of_ble_eq_true rfl) rfl ?_
    refine k_aload G dX0_item_73 rfl ?_
    refine kr_instN G h q1186 (by decide +kernel) dX0_item_75 ?_
    refine k_if_eq G 98 dX0_item_78 (by decide) (fun _ => ?_) (fun c78 => absurd rfl c78)
    refine k_aload G dX0_item_98 rfl ?_
    refine kc_row G hi (Or.inr (by decide +kernel)) dX0_item_100 ?_
    rw [hr]
    refine k_astore G [(10, .ref a), (5, .ref (q (31 + t.toNatClampNeg))), (0, .ref (q 0)), (1, .int t), (2, .int k), (3, .long v)] dX0_item_103 (Nat.le_of_ble_eq_true rfl) rfl ?_
    refine k_aload G dX0_item_105 rfl ?_
    refine kr_instY G h q1362 dX0_item_107 ?_
    refine k_if_eq G 129 dX0_item_110 (by decide) (fun c110 => absurd c110 (by decide)) (fun _ => ?_)
    refine k_aload G dX0_item_113 rfl ?_
    refine kr_cast G h q1362 dX0_item_115 ?_
    refine k_astore G [(8, .ref a), (10, .ref a), (5, .ref (q (31 + t.toNatClampNeg))), (0, .ref (q 0)), (1, .int t), (2, .int k), (3, .long v)] dX0_item_118 (Nat.le_of_ble_eq_true rfl) rfl ?_
    refine k_aload G dX0_item_120 rfl ?_
    refine k_iload_n G dX0_item_122 rfl ?_
    refine k_lload_n G dX0_item_123 rfl ?_
    refine k_l2i G dX0_item_124 ?_
    refine kr_iast G h dX0_item_125 hin ?_
    refine k_goto G 180 dX0_item_126 (by decide) ?_
    refine k_iconst G (v := 1) dX0_item_180 (by decide) ?_
    exact k_iret G X dX0_item_181 (Nat.le_of_ble_eq_true rfl) (Nat.le_of_ble_eq_true rfl) ⟨_, _, rfl, rfl, Or.inr (Or.inr ⟨ht, 2, a, _, hr, h, Or.inr ⟨hn, rfl, _, Or.inr (Or.inr (Or.inl ⟨rfl, n, f, rfl, rfl⟩)), rfl⟩⟩)⟩
  | 3, _, h, hsh =>
    rcases hsh with ⟨-, n, f, rfl⟩ | ⟨z, -⟩
    rotate_left
    · exact absurd rfl z
    refine kc_row G hi (Or.inr (by decide +kernel)) dX0_item_36 ?_
    rw [hr]
    refine k_astore G [(10, .ref a), (5, .ref (q (31 + t.toNatClampNeg))), (0, .ref (q 0)), (1, .int t), (2, .int k), (3, .long v)] dX0_item_39 (Nat.le_of_ble_eq_true rfl) rfl ?_
    refine k_aload G dX0_item_41 rfl ?_
    refine kr_instN G h q1361 (by decide +kernel) dX0_item_43 ?_
    refine k_if_eq G 66 dX0_item_46 (by decide) (fun _ => ?_) (fun c46 => absurd rfl c46)
    refine k_aload G dX0_item_66 rfl ?_
    refine kc_row G hi (Or.inr (by decide +kernel)) dX0_item_68 ?_
    rw [hr]
    refine k_astore G [(10, .ref a), (5, .ref (q (31 + t.toNatClampNeg))), (0, .ref (q 0)), (1, .int t), (2, .int k), (3, .long v)] dX0_item_71 (Nat.le_of_ble_eq_true rfl) rfl ?_
    refine k_aload G dX0_item_73 rfl ?_
    refine kr_instN G h q1186 (by decide +kernel) dX0_item_75 ?_
    refine k_if_eq G 98 dX0_item_78 (by decide) (fun _ => ?_) (fun c78 => absurd rfl c78)
    refine k_aload G dX0_item_98 rfl ?_
    refine kc_row G hi (Or.inr (by decide +kernel)) dX0_item_100 ?_
    rw [hr]
    refine k_astore G [(10, .ref a), (5, .ref (q (31 + t.toNatClampNeg))), (0, .ref (q 0)), (1, .int t), (2, .int k), (3, .long v)] dX0_item_103 (Nat.le_of_ble_eq_true rfl) rfl ?_
    refine k_aload G dX0_item_105 rfl ?_
    refine kr_instN G h q1362 (by decide +kernel) dX0_item_107 ?_
    refine k_if_eq G 129 dX0_item_110 (by decide) (fun _ => ?_) (fun c110 => absurd rfl c110)
    refine k_aload G dX0_item_129 rfl ?_
    refine kc_row G hi (Or.inr (by decide +kernel)) dX0_item_131 ?_
    rw [hr]
    refine k_astore G [(10, .ref a), (5, .ref (q (31 + t.toNatClampNeg))), (0, .ref (q 0)), (1, .int t), (2, .int k), (3, .long v)] dX0_item_134 (Nat.le_of_ble_eq_true rfl) rfl ?_
    refine k_aload G dX0_item_136 rfl ?_
    refine kr_instY G h q1363 dX0_item_138 ?_
    refine k_if_eq G 159 dX0_item_141 (by decide) (fun c141 => absurd c141 (by decide)) (fun _ => ?_)
    refine k_aload G dX0_item_144 rfl ?_
    refine kr_cast G h q1363 dX0_item_146 ?_
    refine k_astore G [(9, .ref a), (10, .ref a), (5, .ref (q (31 + t.toNatClampNeg))), (0, .ref (q 0)), (1, .int t), (2, .int k), (3, .long v)] dX0_item_149 (Nat.le_of_ble_eq_true rfl) rfl ?_
    refine k_aload G dX0_item_151 rfl ?_
    refine k_iload_n G dX0_item_153 rfl ?_
    refine k_lload_n G dX0_item_154 rfl ?_
    refine kr_last G h dX0_item_155 hin ?_
    refine k_goto G 180 dX0_item_156 (by decide) ?_
    refine k_iconst G (v := 1) dX0_item_180 (by decide) ?_
    exact k_iret G X dX0_item_181 (Nat.le_of_ble_eq_true rfl) (Nat.le_of_ble_eq_true rfl) ⟨_, _, rfl, rfl, Or.inr (Or.inr ⟨ht, 3, a, _, hr, h, Or.inr ⟨hn, rfl, _, Or.inr (Or.inr (Or.inr (Or.inl ⟨rfl, n, f, rfl, rfl⟩))), rfl⟩⟩)⟩
  | 4, _, h, hsh =>
    rcases hsh with ⟨z, -⟩ | ⟨-, n, f, rfl⟩
    · exact absurd z (by decide)
    refine kc_row G hi (Or.inr (by decide +kernel)) dX0_item_36 ?_
    rw [hr]
    refine k_astore G [(10, .ref a), (5, .ref (q (31 + t.toNatClampNeg))), (0, .ref (q 0)), (1, .int t), (2, .int k), (3, .long v)] dX0_item_39 (Nat.le_of_ble_eq_true rfl) rfl ?_
    refine k_aload G dX0_item_41 rfl ?_
    refine kr_instN G h q1361 (by decide +kernel) dX0_item_43 ?_
    refine k_if_eq G 66 dX0_item_46 (by decide) (fun _ => ?_) (fun c46 => absurd rfl c46)
    refine k_aload G dX0_item_66 rfl ?_
    refine kc_row G hi (Or.inr (by decide +kernel)) dX0_item_68 ?_
    rw [hr]
    refine k_astore G [(10, .ref a), (5, .ref (q (31 + t.toNatClampNeg))), (0, .ref (q 0)), (1, .int t), (2, .int k), (3, .long v)] dX0_item_71 (Nat.le_of_ble_eq_true rfl) rfl ?_
    refine k_aload G dX0_item_73 rfl ?_
    refine kr_instN G h q1186 (by decide +kernel) dX0_item_75 ?_
    refine k_if_eq G 98 dX0_item_78 (by decide) (fun _ => ?_) (fun c78 => absurd rfl c78)
    refine k_aload G dX0_item_98 rfl ?_
    refine kc_row G hi (Or.inr (by decide +kernel)) dX0_item_100 ?_
    rw [hr]
    refine k_astore G [(10, .ref a), (5, .ref (q (31 + t.toNatClampNeg))), (0, .ref (q 0)), (1, .int t), (2, .int k), (3, .long v)] dX0_item_103 (Nat.le_of_ble_eq_true rfl) rfl ?_
    refine k_aload G dX0_item_105 rfl ?_
    refine kr_instN G h q1362 (by decide +kernel) dX0_item_107 ?_
    refine k_if_eq G 129 dX0_item_110 (by decide) (fun _ => ?_) (fun c110 => absurd rfl c110)
    refine k_aload G dX0_item_129 rfl ?_
    refine kc_row G hi (Or.inr (by decide +kernel)) dX0_item_131 ?_
    rw [hr]
    refine k_astore G [(10, .ref a), (5, .ref (q (31 + t.toNatClampNeg))), (0, .ref (q 0)), (1, .int t), (2, .int k), (3, .long v)] dX0_item_134 (Nat.le_of_ble_eq_true rfl) rfl ?_
    refine k_aload G dX0_item_136 rfl ?_
    refine kr_instN G h q1363 (by decide +kernel) dX0_item_138 ?_
    refine k_if_eq G 159 dX0_item_141 (by decide) (fun _ => ?_) (fun c141 => absurd rfl c141)
    refine k_aload G dX0_item_159 rfl ?_
    refine kc_row G hi (Or.inr (by decide +kernel)) dX0_item_161 ?_
    rw [hr]
    refine kr_cast G h q1364 dX0_item_164 ?_
    refine k_iload_n G dX0_item_167 rfl ?_
    refine k_lload_n G dX0_item_168 rfl ?_
    refine k_lconst G (v := 0) dX0_item_169 (by decide) ?_
    refine k_lcmp G dX0_item_170 ?_
    refine k_if_eq G 178 dX0_item_171 (by decide) (fun c171 => ?_) (fun c171 => ?_)
    · have e0 : (0 : Int32) = (if v = 0 then 0 else 1) := by rw [if_pos (cmp_eq.mp c171)]
      refine k_iconst G (v := 0) dX0_item_178 (by decide) ?_
      rw [e0]
      refine kr_zast G h dX0_item_179 hin ?_
      refine k_iconst G (v := 1) dX0_item_180 (by decide) ?_
      exact k_iret G X dX0_item_181 (Nat.le_of_ble_eq_true rfl) (Nat.le_of_ble_eq_true rfl) ⟨_, _, rfl, rfl, Or.inr (Or.inr ⟨ht, 4, a, _, hr, h, Or.inr ⟨hn, rfl, _, Or.inr (Or.inr (Or.inr (Or.inr ⟨rfl, n, f, rfl, rfl⟩))), rfl⟩⟩)⟩
    · have e0 : (1 : Int32) = (if v = 0 then 0 else 1) := by rw [if_neg (fun z => c171 (cmp_eq.mpr z))]
      refine k_iconst G (v := 1) dX0_item_174 (by decide) ?_
      refine k_goto G 179 dX0_item_175 (by decide) ?_
      rw [e0]
      refine kr_zast G h dX0_item_179 hin ?_
      refine k_iconst G (v := 1) dX0_item_180 (by decide) ?_
      exact k_iret G X dX0_item_181 (Nat.le_of_ble_eq_true rfl) (Nat.le_of_ble_eq_true rfl) ⟨_, _, rfl, rfl, Or.inr (Or.inr ⟨ht, 4, a, _, hr, h, Or.inr ⟨hn, rfl, _, Or.inr (Or.inr (Or.inr (Or.inr ⟨rfl, n, f, rfl, rfl⟩))), rfl⟩⟩)⟩
