/-! shift -/
set_option maxRecDepth 100000
abbrev cX0_shift : ByteArray := prog_1_method_67_code
def yX0_shift : MethodName := ⟨RX0, "shift", "(IIIII)I"⟩
def dkwX0_shift_2 : List UInt8 := [58, 6, 16, 245, 172, 58, 6, 16, 244, 172, 58, 6, 16, 243, 172]
abbrev dktX0_shift_2 : List UInt8 := dkwX0_shift_2 ++ []
def dkwX0_shift_1 : List UInt8 := [180, 1, 80, 28, 42, 180, 0, 68, 29, 50, 180, 1, 80, 21, 4, 21, 5, 184, 1, 91, 21, 5, 172]
abbrev dktX0_shift_1 : List UInt8 := dkwX0_shift_1 ++ dktX0_shift_2
def dkwX0_shift_0 : List UInt8 := [27, 184, 1, 77, 153, 0, 10, 29, 184, 1, 77, 154, 0, 5, 2, 172, 42, 180, 0, 68, 27, 50]
abbrev dktX0_shift_0 : List UInt8 := dkwX0_shift_0 ++ dktX0_shift_1
theorem dksX0_shift_0 : cX0_shift.data.toList.drop 0 = dktX0_shift_0 := by decide +kernel
theorem dksX0_shift_1 : cX0_shift.data.toList.drop 22 = dktX0_shift_1 := dk_seg dksX0_shift_0 22 rfl rfl
theorem dksX0_shift_2 : cX0_shift.data.toList.drop 45 = dktX0_shift_2 := dk_seg dksX0_shift_1 23 rfl rfl
theorem dX0_shift_0 : decode cX0_shift 0 = .ok (.iload_n 1, 1) := dk_27 (dk_at dksX0_shift_0 0 rfl rfl)
theorem dX0_shift_1 : decode cX0_shift 1 = .ok (.invokestatic 333, 3) := dk_184 1 77 (dk_at dksX0_shift_0 1 rfl rfl)
theorem dX0_shift_4 : decode cX0_shift 4 = .ok (.ifCond .eq 10, 3) := dk_153 0 10 (dk_at dksX0_shift_0 4 rfl rfl)
theorem dX0_shift_7 : decode cX0_shift 7 = .ok (.iload_n 3, 1) := dk_29 (dk_at dksX0_shift_0 7 rfl rfl)
theorem dX0_shift_8 : decode cX0_shift 8 = .ok (.invokestatic 333, 3) := dk_184 1 77 (dk_at dksX0_shift_0 8 rfl rfl)
theorem dX0_shift_11 : decode cX0_shift 11 = .ok (.ifCond .ne 5, 3) := dk_154 0 5 (dk_at dksX0_shift_0 11 rfl rfl)
theorem dX0_shift_14 : decode cX0_shift 14 = .ok (.iconst (-1), 1) := dk_2 (dk_at dksX0_shift_0 14 rfl rfl)
theorem dX0_shift_15 : decode cX0_shift 15 = .ok (.ireturn, 1) := dk_172 (dk_at dksX0_shift_0 15 rfl rfl)
theorem dX0_shift_16 : decode cX0_shift 16 = .ok (.aload_n 0, 1) := dk_42 (dk_at dksX0_shift_0 16 rfl rfl)
theorem dX0_shift_17 : decode cX0_shift 17 = .ok (.getfield 68, 3) := dk_180 0 68 (dk_at dksX0_shift_0 17 rfl rfl)
theorem dX0_shift_20 : decode cX0_shift 20 = .ok (.iload_n 1, 1) := dk_27 (dk_at dksX0_shift_0 20 rfl rfl)
theorem dX0_shift_21 : decode cX0_shift 21 = .ok (.aaload, 1) := dk_50 (dk_at dksX0_shift_0 21 rfl rfl)
theorem dX0_shift_22 : decode cX0_shift 22 = .ok (.getfield 336, 3) := dk_180 1 80 (dk_at dksX0_shift_1 0 rfl rfl)
theorem dX0_shift_25 : decode cX0_shift 25 = .ok (.iload_n 2, 1) := dk_28 (dk_at dksX0_shift_1 3 rfl rfl)
theorem dX0_shift_26 : decode cX0_shift 26 = .ok (.aload_n 0, 1) := dk_42 (dk_at dksX0_shift_1 4 rfl rfl)
theorem dX0_shift_27 : decode cX0_shift 27 = .ok (.getfield 68, 3) := dk_180 0 68 (dk_at dksX0_shift_1 5 rfl rfl)
theorem dX0_shift_30 : decode cX0_shift 30 = .ok (.iload_n 3, 1) := dk_29 (dk_at dksX0_shift_1 8 rfl rfl)
theorem dX0_shift_31 : decode cX0_shift 31 = .ok (.aaload, 1) := dk_50 (dk_at dksX0_shift_1 9 rfl rfl)
theorem dX0_shift_32 : decode cX0_shift 32 = .ok (.getfield 336, 3) := dk_180 1 80 (dk_at dksX0_shift_1 10 rfl rfl)
theorem dX0_shift_35 : decode cX0_shift 35 = .ok (.iload 4, 2) := dk_21 4 (dk_at dksX0_shift_1 13 rfl rfl)
theorem dX0_shift_37 : decode cX0_shift 37 = .ok (.iload 5, 2) := dk_21 5 (dk_at dksX0_shift_1 15 rfl rfl)
theorem dX0_shift_39 : decode cX0_shift 39 = .ok (.invokestatic 347, 3) := dk_184 1 91 (dk_at dksX0_shift_1 17 rfl rfl)
theorem dX0_shift_42 : decode cX0_shift 42 = .ok (.iload 5, 2) := dk_21 5 (dk_at dksX0_shift_1 20 rfl rfl)
theorem dX0_shift_44 : decode cX0_shift 44 = .ok (.ireturn, 1) := dk_172 (dk_at dksX0_shift_1 22 rfl rfl)
theorem dX0_shift_45 : decode cX0_shift 45 = .ok (.astore 6, 2) := dk_58 6 (dk_at dksX0_shift_2 0 rfl rfl)
theorem dX0_shift_47 : decode cX0_shift 47 = .ok (.bipush (-11), 2) := dk_16 245 (dk_at dksX0_shift_2 2 rfl rfl)
theorem dX0_shift_49 : decode cX0_shift 49 = .ok (.ireturn, 1) := dk_172 (dk_at dksX0_shift_2 4 rfl rfl)
theorem dX0_shift_50 : decode cX0_shift 50 = .ok (.astore 6, 2) := dk_58 6 (dk_at dksX0_shift_2 5 rfl rfl)
theorem dX0_shift_52 : decode cX0_shift 52 = .ok (.bipush (-12), 2) := dk_16 244 (dk_at dksX0_shift_2 7 rfl rfl)
theorem dX0_shift_54 : decode cX0_shift 54 = .ok (.ireturn, 1) := dk_172 (dk_at dksX0_shift_2 9 rfl rfl)
theorem dX0_shift_55 : decode cX0_shift 55 = .ok (.astore 6, 2) := dk_58 6 (dk_at dksX0_shift_2 10 rfl rfl)
theorem dX0_shift_57 : decode cX0_shift 57 = .ok (.bipush (-13), 2) := dk_16 243 (dk_at dksX0_shift_2 12 rfl rfl)
theorem dX0_shift_59 : decode cX0_shift 59 = .ok (.ireturn, 1) := dk_172 (dk_at dksX0_shift_2 14 rfl rfl)
theorem xs_shift : xVW yX0_shift "BakedBefore" cX0_shift 7 (some .int) [(16, 44, 45, 331), (16, 44, 50, 398), (16, 44, 55, 400)] 5 := ⟨q1371, q1372, q87, q1373, ⟨rfl, by decide +kernel, by decide +kernel, by decide +kernel⟩, by decide⟩
theorem fine_in {i j n : Int32} {n0 n1 : Nat} (h : shFine i j n n0 n1) : ¬ i < 0 ∧ ¬ j < 0 ∧ ¬ n < 0 ∧ i.toNatClampNeg + n.toNatClampNeg ≤ n0 ∧ j.toNatClampNeg + n.toNatClampNeg ≤ n1 := by
  obtain ⟨h1, h2, h3, h4, h5⟩ := h
  have e : ∀ z : Int32, 0 ≤ z.toInt → ¬ z < 0 := fun z hz c => by
    have := Int32.lt_iff_toInt_lt.mp c
    exact absurd hz (Int.not_le.mpr this)
  refine ⟨e i h1, e j h2, e n h3, ?_, ?_⟩
  · show i.toInt.toNat + n.toInt.toNat ≤ n0
    omega
  · show j.toInt.toNat + n.toInt.toNat ≤ n1
    omega
theorem ks_shift (l : Launch) (hlt : l.stackTraces = false) (D : va_G) (T : xT) (q : Nat → Nat) (ω : CS) (t i u j n : Int32) (hb : ∀ t : Int32, (0 ≤ t ∧ t ≤ 5) → tapeH T ω t) (hfi : ∀ (t : Int32) (s a : Nat) (x : vp_A), (0 ≤ t ∧ t ≤ 5) → ω.1.2 (31 + t.toNatClampNeg) 0 = some a → rowE T ω s a x → fitR s x) : XMW l D T yX0_shift cX0_shift 7 (some .int) [(16, 44, 45, 331), (16, 44, 50, 398), (16, 44, 55, 400)] 201 4 1010 [.ref (q 0), .int t, .int i, .int u, .int j, .int n] (cw T q ω) (fun z w => ∃ (r : Int32) (ω' : CS), z = some (.int r) ∧ w = cw T q ω' ∧ shiftO T ω t i u j n r ω') := by
  refine XMW.start (by decide +kernel) (Nat.le_of_ble_eq_true rfl) (fun Γ G X htab hl_ => ?_)
  subst hl_
  refine K.less [0, 1, 2, 3, 4, 5] (lv' := [(0, .ref (q 0)), (1, .int t), (2, .int i), (3, .int u), (4, .int j), (5, .int n)]) rfl ?_
  by_cases ht : 0 ≤ t ∧ t ≤ 5
  rotate_left
  · refine k_iload_n G dX0_shift_0 rfl ?_
    refine k_callPI G (vk_isTape _ D T t (fun r => r = 0) (q_F ht ⟨Or.inl rfl, rfl⟩)) gf_isTape q1183 dX0_shift_1 rfl rfl (Nat.le_of_ble_eq_true rfl) (Nat.le_of_ble_eq_true rfl) ⟨Nat.zero_le _, Nat.zero_le _⟩ (fun r h9 => ?_)
    subst h9
    refine k_if_eq G 14 dX0_shift_4 (by decide) (fun _ => ?_) (fun c4 => absurd rfl c4)
    refine k_iconst G (v := -1) dX0_shift_14 (by decide) ?_
    exact k_iret G X dX0_shift_15 (Nat.le_of_ble_eq_true rfl) (Nat.le_of_ble_eq_true rfl) ⟨_, _, rfl, rfl, Or.inl ⟨fun z => ht z.1, rfl, rfl⟩⟩
  by_cases hu : 0 ≤ u ∧ u ≤ 5
  rotate_left
  · refine k_iload_n G dX0_shift_0 rfl ?_
    refine k_callPI G (vk_isTape _ D T t (fun r => r = 1) (q_T ht ⟨Or.inr rfl, rfl⟩)) gf_isTape q1183 dX0_shift_1 rfl rfl (Nat.le_of_ble_eq_true rfl) (Nat.le_of_ble_eq_true rfl) ⟨Nat.zero_le _, Nat.zero_le _⟩ (fun r h9 => ?_)
    subst h9
    refine k_if_eq G 14 dX0_shift_4 (by decide) (fun c4 => absurd c4 (by decide)) (fun _ => ?_)
    refine k_iload_n G dX0_shift_7 rfl ?_
    refine k_callPI G (vk_isTape _ D T u (fun r => r = 0) (q_F hu ⟨Or.inl rfl, rfl⟩)) gf_isTape q1183 dX0_shift_8 rfl rfl (Nat.le_of_ble_eq_true rfl) (Nat.le_of_ble_eq_true rfl) ⟨Nat.zero_le _, Nat.zero_le _⟩ (fun r h9 => ?_)
    subst h9
    refine k_if_ne G 16 dX0_shift_11 (by decide) (fun c11 => absurd c11 (fun z => z rfl)) (fun _ => ?_)
    refine k_iconst G (v := -1) dX0_shift_14 (by decide) ?_
    exact k_iret G X dX0_shift_15 (Nat.le_of_ble_eq_true rfl) (Nat.le_of_ble_eq_true rfl) ⟨_, _, rfl, rfl, Or.inl ⟨fun z => hu z.2, rfl, rfl⟩⟩
  rcases hb t ht with hr | ⟨s, a, x, hr, h, hx, hsh⟩
  · rcases hb u hu with hr2 | ⟨s2, a2, y, hr2, h2, hx2, hsh2⟩
    · refine k_iload_n G dX0_shift_0 rfl ?_
      refine k_callPI G (vk_isTape _ D T t (fun r => r = 1) (q_T ht ⟨Or.inr rfl, rfl⟩)) gf_isTape q1183 dX0_shift_1 rfl rfl (Nat.le_of_ble_eq_true rfl) (Nat.le_of_ble_eq_true rfl) ⟨Nat.zero_le _, Nat.zero_le _⟩ (fun r h9 => ?_)
      subst h9
      refine k_if_eq G 14 dX0_shift_4 (by decide) (fun c4 => absurd c4 (by decide)) (fun _ => ?_)
      refine k_iload_n G dX0_shift_7 rfl ?_
      refine k_callPI G (vk_isTape _ D T u (fun r => r = 1) (q_T hu ⟨Or.inr rfl, rfl⟩)) gf_isTape q1183 dX0_shift_8 rfl rfl (Nat.le_of_ble_eq_true rfl) (Nat.le_of_ble_eq_true rfl) ⟨Nat.zero_le _, Nat.zero_le _⟩ (fun r h9 => ?_)
      subst h9
      refine k_if_ne G 16 dX0_shift_11 (by decide) (fun _ => ?_) (fun c11 => absurd c11 (by decide))
      refine k_aload_n G dX0_shift_16 rfl ?_
      refine kc_this G (show CF "BakedBefore" 15 68 from ⟨by decide, Or.inl q285, rfl⟩) dX0_shift_17 rfl ?_
      refine k_iload_n G dX0_shift_20 rfl ?_
      refine kc_aaldB G dX0_shift_21 (tp_in ht).1 ?_
      refine kc_row G (tp_in ht).2 (Or.inr (by decide +kernel)) dX0_shift_22 ?_
      rw [hr]
      refine k_iload_n G dX0_shift_25 rfl ?_
      refine k_aload_n G dX0_shift_26 rfl ?_
      refine kc_this G (show CF "BakedBefore" 15 68 from ⟨by decide, Or.inl q285, rfl⟩) dX0_shift_27 rfl ?_
      refine k_iload_n G dX0_shift_30 rfl ?_
      refine kc_aaldB G dX0_shift_31 (tp_in hu).1 ?_
      refine kc_row G (tp_in hu).2 (Or.inr (by decide +kernel)) dX0_shift_32 ?_
      rw [hr2]
      refine k_iload G dX0_shift_35 rfl ?_
      refine k_iload G dX0_shift_37 rfl ?_
      refine kx_acN G hlt (by decide) (Or.inl rfl) rfl q1215 q976 q975 q122 (Nat.le_of_ble_eq_true rfl) ⟨(Nat.le_of_ble_eq_true rfl), (Nat.le_of_ble_eq_true rfl)⟩ dX0_shift_39 (fun q9 => ?_)
      refine kx_catch G (name := "java/lang/NullPointerException") [] ⟨16, 44, 45, 331⟩ [⟨16, 44, 50, 398⟩, ⟨16, 44, 55, 400⟩] (by rw [htab]; rfl) (fun z hz => nomatch hz) rfl (by decide) q1191 (by decide +kernel) rfl ?_
      refine k_astore G [(6, .ref q9), (0, .ref (q 0)), (1, .int t), (2, .int i), (3, .int u), (4, .int j), (5, .int n)] dX0_shift_45 (Nat.le_of_ble_eq_true rfl) rfl ?_
      refine k_bipush G (v := -11) dX0_shift_47 (by decide) ?_
      exact k_iret G X dX0_shift_49 (Nat.le_of_ble_eq_true rfl) (Nat.le_of_ble_eq_true rfl) ⟨_, _, rfl, rfl, Or.inr (Or.inl ⟨⟨ht, hu⟩, Or.inl hr, rfl, rfl⟩)⟩
    · refine k_iload_n G dX0_shift_0 rfl ?_
      refine k_callPI G (vk_isTape _ D T t (fun r => r = 1) (q_T ht ⟨Or.inr rfl, rfl⟩)) gf_isTape q1183 dX0_shift_1 rfl rfl (Nat.le_of_ble_eq_true rfl) (Nat.le_of_ble_eq_true rfl) ⟨Nat.zero_le _, Nat.zero_le _⟩ (fun r h9 => ?_)
      subst h9
      refine k_if_eq G 14 dX0_shift_4 (by decide) (fun c4 => absurd c4 (by decide)) (fun _ => ?_)
      refine k_iload_n G dX0_shift_7 rfl ?_
      refine k_callPI G (vk_isTape _ D T u (fun r => r = 1) (q_T hu ⟨Or.inr rfl, rfl⟩)) gf_isTape q1183 dX0_shift_8 rfl rfl (Nat.le_of_ble_eq_true rfl) (Nat.le_of_ble_eq_true rfl) ⟨Nat.zero_le _, Nat.zero_le _⟩ (fun r h9 => ?_)
      subst h9
      refine k_if_ne G 16 dX0_shift_11 (by decide) (fun _ => ?_) (fun c11 => absurd c11 (by decide))
      refine k_aload_n G dX0_shift_16 rfl ?_
      refine kc_this G (show CF "BakedBefore" 15 68 from ⟨by decide, Or.inl q285, rfl⟩) dX0_shift_17 rfl ?_
      refine k_iload_n G dX0_shift_20 rfl ?_
      refine kc_aaldB G dX0_shift_21 (tp_in ht).1 ?_
      refine kc_row G (tp_in ht).2 (Or.inr (by decide +kernel)) dX0_shift_22 ?_
      rw [hr]
      refine k_iload_n G dX0_shift_25 rfl ?_
      refine k_aload_n G dX0_shift_26 rfl ?_
      refine kc_this G (show CF "BakedBefore" 15 68 from ⟨by decide, Or.inl q285, rfl⟩) dX0_shift_27 rfl ?_
      refine k_iload_n G dX0_shift_30 rfl ?_
      refine kc_aaldB G dX0_shift_31 (tp_in hu).1 ?_
      refine kc_row G (tp_in hu).2 (Or.inr (by decide +kernel)) dX0_shift_32 ?_
      rw [hr2]
      refine k_iload G dX0_shift_35 rfl ?_
      refine k_iload G dX0_shift_37 rfl ?_
      refine kx_acN G hlt (by decide) (Or.inl rfl) rfl q1215 q976 q975 q122 (Nat.le_of_ble_eq_true rfl) ⟨(Nat.le_of_ble_eq_true rfl), (Nat.le_of_ble_eq_true rfl)⟩ dX0_shift_39 (fun q9 => ?_)
      refine kx_catch G (name := "java/lang/NullPointerException") [] ⟨16, 44, 45, 331⟩ [⟨16, 44, 50, 398⟩, ⟨16, 44, 55, 400⟩] (by rw [htab]; rfl) (fun z hz => nomatch hz) rfl (by decide) q1191 (by decide +kernel) rfl ?_
      refine k_astore G [(6, .ref q9), (0, .ref (q 0)), (1, .int t), (2, .int i), (3, .int u), (4, .int j), (5, .int n)] dX0_shift_45 (Nat.le_of_ble_eq_true rfl) rfl ?_
      refine k_bipush G (v := -11) dX0_shift_47 (by decide) ?_
      exact k_iret G X dX0_shift_49 (Nat.le_of_ble_eq_true rfl) (Nat.le_of_ble_eq_true rfl) ⟨_, _, rfl, rfl, Or.inr (Or.inl ⟨⟨ht, hu⟩, Or.inl hr, rfl, rfl⟩)⟩
  rcases hb u hu with hr2 | ⟨s2, a2, y, hr2, h2, hx2, hsh2⟩
  · refine k_iload_n G dX0_shift_0 rfl ?_
    refine k_callPI G (vk_isTape _ D T t (fun r => r = 1) (q_T ht ⟨Or.inr rfl, rfl⟩)) gf_isTape q1183 dX0_shift_1 rfl rfl (Nat.le_of_ble_eq_true rfl) (Nat.le_of_ble_eq_true rfl) ⟨Nat.zero_le _, Nat.zero_le _⟩ (fun r h9 => ?_)
    subst h9
    refine k_if_eq G 14 dX0_shift_4 (by decide) (fun c4 => absurd c4 (by decide)) (fun _ => ?_)
    refine k_iload_n G dX0_shift_7 rfl ?_
    refine k_callPI G (vk_isTape _ D T u (fun r => r = 1) (q_T hu ⟨Or.inr rfl, rfl⟩)) gf_isTape q1183 dX0_shift_8 rfl rfl (Nat.le_of_ble_eq_true rfl) (Nat.le_of_ble_eq_true rfl) ⟨Nat.zero_le _, Nat.zero_le _⟩ (fun r h9 => ?_)
    subst h9
    refine k_if_ne G 16 dX0_shift_11 (by decide) (fun _ => ?_) (fun c11 => absurd c11 (by decide))
    refine k_aload_n G dX0_shift_16 rfl ?_
    refine kc_this G (show CF "BakedBefore" 15 68 from ⟨by decide, Or.inl q285, rfl⟩) dX0_shift_17 rfl ?_
    refine k_iload_n G dX0_shift_20 rfl ?_
    refine kc_aaldB G dX0_shift_21 (tp_in ht).1 ?_
    refine kc_row G (tp_in ht).2 (Or.inr (by decide +kernel)) dX0_shift_22 ?_
    rw [hr]
    refine k_iload_n G dX0_shift_25 rfl ?_
    refine k_aload_n G dX0_shift_26 rfl ?_
    refine kc_this G (show CF "BakedBefore" 15 68 from ⟨by decide, Or.inl q285, rfl⟩) dX0_shift_27 rfl ?_
    refine k_iload_n G dX0_shift_30 rfl ?_
    refine kc_aaldB G dX0_shift_31 (tp_in hu).1 ?_
    refine kc_row G (tp_in hu).2 (Or.inr (by decide +kernel)) dX0_shift_32 ?_
    rw [hr2]
    refine k_iload G dX0_shift_35 rfl ?_
    refine k_iload G dX0_shift_37 rfl ?_
    refine kx_acN G hlt (by decide) (Or.inr ⟨⟨_, rfl⟩, rfl⟩) rfl q1215 q976 q975 q122 (Nat.le_of_ble_eq_true rfl) ⟨(Nat.le_of_ble_eq_true rfl), (Nat.le_of_ble_eq_true rfl)⟩ dX0_shift_39 (fun q9 => ?_)
    refine kx_catch G (name := "java/lang/NullPointerException") [] ⟨16, 44, 45, 331⟩ [⟨16, 44, 50, 398⟩, ⟨16, 44, 55, 400⟩] (by rw [htab]; rfl) (fun z hz => nomatch hz) rfl (by decide) q1191 (by decide +kernel) rfl ?_
    refine k_astore G [(6, .ref q9), (0, .ref (q 0)), (1, .int t), (2, .int i), (3, .int u), (4, .int j), (5, .int n)] dX0_shift_45 (Nat.le_of_ble_eq_true rfl) rfl ?_
    refine k_bipush G (v := -11) dX0_shift_47 (by decide) ?_
    exact k_iret G X dX0_shift_49 (Nat.le_of_ble_eq_true rfl) (Nat.le_of_ble_eq_true rfl) ⟨_, _, rfl, rfl, Or.inr (Or.inl ⟨⟨ht, hu⟩, Or.inr hr2, rfl, rfl⟩)⟩
  by_cases hss : s = s2
  rotate_left
  · refine k_iload_n G dX0_shift_0 rfl ?_
    refine k_callPI G (vk_isTape _ D T t (fun r => r = 1) (q_T ht ⟨Or.inr rfl, rfl⟩)) gf_isTape q1183 dX0_shift_1 rfl rfl (Nat.le_of_ble_eq_true rfl) (Nat.le_of_ble_eq_true rfl) ⟨Nat.zero_le _, Nat.zero_le _⟩ (fun r h9 => ?_)
    subst h9
    refine k_if_eq G 14 dX0_shift_4 (by decide) (fun c4 => absurd c4 (by decide)) (fun _ => ?_)
    refine k_iload_n G dX0_shift_7 rfl ?_
    refine k_callPI G (vk_isTape _ D T u (fun r => r = 1) (q_T hu ⟨Or.inr rfl, rfl⟩)) gf_isTape q1183 dX0_shift_8 rfl rfl (Nat.le_of_ble_eq_true rfl) (Nat.le_of_ble_eq_true rfl) ⟨Nat.zero_le _, Nat.zero_le _⟩ (fun r h9 => ?_)
    subst h9
    refine k_if_ne G 16 dX0_shift_11 (by decide) (fun _ => ?_) (fun c11 => absurd c11 (by decide))
    refine k_aload_n G dX0_shift_16 rfl ?_
    refine kc_this G (show CF "BakedBefore" 15 68 from ⟨by decide, Or.inl q285, rfl⟩) dX0_shift_17 rfl ?_
    refine k_iload_n G dX0_shift_20 rfl ?_
    refine kc_aaldB G dX0_shift_21 (tp_in ht).1 ?_
    refine kc_row G (tp_in ht).2 (Or.inr (by decide +kernel)) dX0_shift_22 ?_
    rw [hr]
    refine k_iload_n G dX0_shift_25 rfl ?_
    refine k_aload_n G dX0_shift_26 rfl ?_
    refine kc_this G (show CF "BakedBefore" 15 68 from ⟨by decide, Or.inl q285, rfl⟩) dX0_shift_27 rfl ?_
    refine k_iload_n G dX0_shift_30 rfl ?_
    refine kc_aaldB G dX0_shift_31 (tp_in hu).1 ?_
    refine kc_row G (tp_in hu).2 (Or.inr (by decide +kernel)) dX0_shift_32 ?_
    rw [hr2]
    refine k_iload G dX0_shift_35 rfl ?_
    refine k_iload G dX0_shift_37 rfl ?_
    refine kx_acT G hlt (by decide) h h2 hss q1215 q976 q975 q122 (Nat.le_of_ble_eq_true rfl) ⟨(Nat.le_of_ble_eq_true rfl), (Nat.le_of_ble_eq_true rfl)⟩ dX0_shift_39 (fun q9 => ?_)
    refine kx_catch G (name := "java/lang/ArrayStoreException") [⟨16, 44, 45, 331⟩] ⟨16, 44, 50, 398⟩ [⟨16, 44, 55, 400⟩] (by rw [htab]; rfl) (fun z hz => by
      simp only [List.mem_cons, List.not_mem_nil, or_false] at hz
      rcases hz with rfl
      · exact (Or.inr ⟨by decide, "java/lang/NullPointerException", q1191, by decide +kernel⟩)) rfl (by decide) q1374 (by decide +kernel) rfl ?_
    refine k_astore G [(6, .ref q9), (0, .ref (q 0)), (1, .int t), (2, .int i), (3, .int u), (4, .int j), (5, .int n)] dX0_shift_50 (Nat.le_of_ble_eq_true rfl) rfl ?_
    refine k_bipush G (v := -12) dX0_shift_52 (by decide) ?_
    exact k_iret G X dX0_shift_54 (Nat.le_of_ble_eq_true rfl) (Nat.le_of_ble_eq_true rfl) ⟨_, _, rfl, rfl, Or.inr (Or.inr ⟨⟨ht, hu⟩, s, a, s2, a2, x, y, hr, h, hr2, h2, Or.inl ⟨hss, rfl, rfl⟩⟩)⟩
  subst hss
  by_cases hf : shFine i j n x.1 y.1
  rotate_left
  · refine k_iload_n G dX0_shift_0 rfl ?_
    refine k_callPI G (vk_isTape _ D T t (fun r => r = 1) (q_T ht ⟨Or.inr rfl, rfl⟩)) gf_isTape q1183 dX0_shift_1 rfl rfl (Nat.le_of_ble_eq_true rfl) (Nat.le_of_ble_eq_true rfl) ⟨Nat.zero_le _, Nat.zero_le _⟩ (fun r h9 => ?_)
    subst h9
    refine k_if_eq G 14 dX0_shift_4 (by decide) (fun c4 => absurd c4 (by decide)) (fun _ => ?_)
    refine k_iload_n G dX0_shift_7 rfl ?_
    refine k_callPI G (vk_isTape _ D T u (fun r => r = 1) (q_T hu ⟨Or.inr rfl, rfl⟩)) gf_isTape q1183 dX0_shift_8 rfl rfl (Nat.le_of_ble_eq_true rfl) (Nat.le_of_ble_eq_true rfl) ⟨Nat.zero_le _, Nat.zero_le _⟩ (fun r h9 => ?_)
    subst h9
    refine k_if_ne G 16 dX0_shift_11 (by decide) (fun _ => ?_) (fun c11 => absurd c11 (by decide))
    refine k_aload_n G dX0_shift_16 rfl ?_
    refine kc_this G (show CF "BakedBefore" 15 68 from ⟨by decide, Or.inl q285, rfl⟩) dX0_shift_17 rfl ?_
    refine k_iload_n G dX0_shift_20 rfl ?_
    refine kc_aaldB G dX0_shift_21 (tp_in ht).1 ?_
    refine kc_row G (tp_in ht).2 (Or.inr (by decide +kernel)) dX0_shift_22 ?_
    rw [hr]
    refine k_iload_n G dX0_shift_25 rfl ?_
    refine k_aload_n G dX0_shift_26 rfl ?_
    refine kc_this G (show CF "BakedBefore" 15 68 from ⟨by decide, Or.inl q285, rfl⟩) dX0_shift_27 rfl ?_
    refine k_iload_n G dX0_shift_30 rfl ?_
    refine kc_aaldB G dX0_shift_31 (tp_in hu).1 ?_
    refine kc_row G (tp_in hu).2 (Or.inr (by decide +kernel)) dX0_shift_32 ?_
    rw [hr2]
    refine k_iload G dX0_shift_35 rfl ?_
    refine k_iload G dX0_shift_37 rfl ?_
    refine kx_acB G hlt (by decide) h h2 hx hx2 hf q1215 q976 q975 q122 (Nat.le_of_ble_eq_true rfl) ⟨(Nat.le_of_ble_eq_true rfl), (Nat.le_of_ble_eq_true rfl)⟩ dX0_shift_39 (fun q9 => ?_)
    refine kx_catch G (name := "java/lang/IndexOutOfBoundsException") [⟨16, 44, 45, 331⟩, ⟨16, 44, 50, 398⟩] ⟨16, 44, 55, 400⟩ [] (by rw [htab]; rfl) (fun z hz => by
      simp only [List.mem_cons, List.not_mem_nil, or_false] at hz
      rcases hz with rfl | rfl
      · exact (Or.inr ⟨by decide, "java/lang/NullPointerException", q1191, by decide +kernel⟩)
      · exact (Or.inr ⟨by decide, "java/lang/ArrayStoreException", q1374, by decide +kernel⟩)) rfl (by decide) q1388 (by decide +kernel) rfl ?_
    refine k_astore G [(6, .ref q9), (0, .ref (q 0)), (1, .int t), (2, .int i), (3, .int u), (4, .int j), (5, .int n)] dX0_shift_55 (Nat.le_of_ble_eq_true rfl) rfl ?_
    refine k_bipush G (v := -13) dX0_shift_57 (by decide) ?_
    exact k_iret G X dX0_shift_59 (Nat.le_of_ble_eq_true rfl) (Nat.le_of_ble_eq_true rfl) ⟨_, _, rfl, rfl, Or.inr (Or.inr ⟨⟨ht, hu⟩, s, a, s, a2, x, y, hr, h, hr2, h2, Or.inr (Or.inl ⟨rfl, hf, rfl, rfl⟩)⟩)⟩
  obtain ⟨f1, f2, f3, f4, f5⟩ := fine_in hf
  have hfx := hfi t s a x ht hr h
  rcases hsh with ⟨rfl, n0, g, rfl⟩ | ⟨h3, n0, g, rfl⟩
  · rcases hsh2 with ⟨-, n1, g2, rfl⟩ | ⟨z, -⟩
    rotate_left
    · exact absurd rfl z
    refine k_iload_n G dX0_shift_0 rfl ?_
    refine k_callPI G (vk_isTape _ D T t (fun r => r = 1) (q_T ht ⟨Or.inr rfl, rfl⟩)) gf_isTape q1183 dX0_shift_1 rfl rfl (Nat.le_of_ble_eq_true rfl) (Nat.le_of_ble_eq_true rfl) ⟨Nat.zero_le _, Nat.zero_le _⟩ (fun r h9 => ?_)
    subst h9
    refine k_if_eq G 14 dX0_shift_4 (by decide) (fun c4 => absurd c4 (by decide)) (fun _ => ?_)
    refine k_iload_n G dX0_shift_7 rfl ?_
    refine k_callPI G (vk_isTape _ D T u (fun r => r = 1) (q_T hu ⟨Or.inr rfl, rfl⟩)) gf_isTape q1183 dX0_shift_8 rfl rfl (Nat.le_of_ble_eq_true rfl) (Nat.le_of_ble_eq_true rfl) ⟨Nat.zero_le _, Nat.zero_le _⟩ (fun r h9 => ?_)
    subst h9
    refine k_if_ne G 16 dX0_shift_11 (by decide) (fun _ => ?_) (fun c11 => absurd c11 (by decide))
    refine k_aload_n G dX0_shift_16 rfl ?_
    refine kc_this G (show CF "BakedBefore" 15 68 from ⟨by decide, Or.inl q285, rfl⟩) dX0_shift_17 rfl ?_
    refine k_iload_n G dX0_shift_20 rfl ?_
    refine kc_aaldB G dX0_shift_21 (tp_in ht).1 ?_
    refine kc_row G (tp_in ht).2 (Or.inr (by decide +kernel)) dX0_shift_22 ?_
    rw [hr]
    refine k_iload_n G dX0_shift_25 rfl ?_
    refine k_aload_n G dX0_shift_26 rfl ?_
    refine kc_this G (show CF "BakedBefore" 15 68 from ⟨by decide, Or.inl q285, rfl⟩) dX0_shift_27 rfl ?_
    refine k_iload_n G dX0_shift_30 rfl ?_
    refine kc_aaldB G dX0_shift_31 (tp_in hu).1 ?_
    refine kc_row G (tp_in hu).2 (Or.inr (by decide +kernel)) dX0_shift_32 ?_
    rw [hr2]
    refine k_iload G dX0_shift_35 rfl ?_
    refine k_iload G dX0_shift_37 rfl ?_
    refine kr_copyL G (by decide) h h2 f1 f2 f3 f4 f5 q1215 q976 q975 q122 (Nat.le_of_ble_eq_true rfl) dX0_shift_39 ?_
    refine k_iload G dX0_shift_42 rfl ?_
    exact k_iret G X dX0_shift_44 (Nat.le_of_ble_eq_true rfl) (Nat.le_of_ble_eq_true rfl) ⟨_, _, rfl, rfl, Or.inr (Or.inr ⟨⟨ht, hu⟩, _, a, _, a2, _, _, hr, h, hr2, h2, Or.inr (Or.inr ⟨rfl, hf, rfl, _, Or.inr ⟨_, _, _, _, rfl, rfl, rfl⟩, rfl⟩)⟩)⟩
  · rcases hsh2 with ⟨z, -⟩ | ⟨-, n1, g2, rfl⟩
    · exact absurd z h3
    refine k_iload_n G dX0_shift_0 rfl ?_
    refine k_callPI G (vk_isTape _ D T t (fun r => r = 1) (q_T ht ⟨Or.inr rfl, rfl⟩)) gf_isTape q1183 dX0_shift_1 rfl rfl (Nat.le_of_ble_eq_true rfl) (Nat.le_of_ble_eq_true rfl) ⟨Nat.zero_le _, Nat.zero_le _⟩ (fun r h9 => ?_)
    subst h9
    refine k_if_eq G 14 dX0_shift_4 (by decide) (fun c4 => absurd c4 (by decide)) (fun _ => ?_)
    refine k_iload_n G dX0_shift_7 rfl ?_
    refine k_callPI G (vk_isTape _ D T u (fun r => r = 1) (q_T hu ⟨Or.inr rfl, rfl⟩)) gf_isTape q1183 dX0_shift_8 rfl rfl (Nat.le_of_ble_eq_true rfl) (Nat.le_of_ble_eq_true rfl) ⟨Nat.zero_le _, Nat.zero_le _⟩ (fun r h9 => ?_)
    subst h9
    refine k_if_ne G 16 dX0_shift_11 (by decide) (fun _ => ?_) (fun c11 => absurd c11 (by decide))
    refine k_aload_n G dX0_shift_16 rfl ?_
    refine kc_this G (show CF "BakedBefore" 15 68 from ⟨by decide, Or.inl q285, rfl⟩) dX0_shift_17 rfl ?_
    refine k_iload_n G dX0_shift_20 rfl ?_
    refine kc_aaldB G dX0_shift_21 (tp_in ht).1 ?_
    refine kc_row G (tp_in ht).2 (Or.inr (by decide +kernel)) dX0_shift_22 ?_
    rw [hr]
    refine k_iload_n G dX0_shift_25 rfl ?_
    refine k_aload_n G dX0_shift_26 rfl ?_
    refine kc_this G (show CF "BakedBefore" 15 68 from ⟨by decide, Or.inl q285, rfl⟩) dX0_shift_27 rfl ?_
    refine k_iload_n G dX0_shift_30 rfl ?_
    refine kc_aaldB G dX0_shift_31 (tp_in hu).1 ?_
    refine kc_row G (tp_in hu).2 (Or.inr (by decide +kernel)) dX0_shift_32 ?_
    rw [hr2]
    refine k_iload G dX0_shift_35 rfl ?_
    refine k_iload G dX0_shift_37 rfl ?_
    refine kr_copyI G (by decide) h h2 f1 f2 f3 f4 f5 (fun k hk => hfx _ _ rfl _ (Nat.lt_of_lt_of_le (Nat.add_lt_add_left hk _) f4)) q1215 q976 q975 q122 (Nat.le_of_ble_eq_true rfl) dX0_shift_39 ?_
    refine k_iload G dX0_shift_42 rfl ?_
    exact k_iret G X dX0_shift_44 (Nat.le_of_ble_eq_true rfl) (Nat.le_of_ble_eq_true rfl) ⟨_, _, rfl, rfl, Or.inr (Or.inr ⟨⟨ht, hu⟩, _, a, _, a2, _, _, hr, h, hr2, h2, Or.inr (Or.inr ⟨rfl, hf, rfl, _, Or.inl ⟨_, _, _, _, rfl, rfl, rfl⟩, rfl⟩)⟩)⟩
