set_option maxRecDepth 100000
def qw_in (x0 : Int32) (x1 : Int32) (x2 : Int32) (k : Int32 → Prop) : Prop := (x0 < x1 → k 0) ∧ (¬ x0 < x1 → (x2 < x0 → k 0) ∧ (¬ x2 < x0 → k 1))
set_option maxHeartbeats 4000000 in
theorem vk_in (l : Launch) (D : va_G) (T : xT) (x0 : Int32) (x1 : Int32) (x2 : Int32) (k : Int32 → Prop) (h : qw_in x0 x1 x2 k) : XM l D T yX0_in cX0_in 3 (some .boolean) 1 0 0 [.int x0, .int x1, .int x2] [] (ppostI k) := by
  refine XM.start (by decide +kernel) (Nat.le_of_ble_eq_true rfl) (fun Γ G X _ hl_ => ?_)
  subst hl_
  refine K.less [0, 1, 2] (lv' := [(0, .int x0), (1, .int x1), (2, .int x2)]) rfl ?_
  unfold qw_in at h
  refine k_iload_n G dX0_in_0 rfl ?_
  refine k_iload_n G dX0_in_1 rfl ?_
  obtain ⟨hA, hB⟩ := h
  refine k_icmp_lt G 14 dX0_in_2 (by decide) (fun c2 => ?_) (fun c2 => ?_)
  · have h := hA c2
    clear hA hB
    refine k_iconst G dX0_in_14 kc_i_0 ?_
    exact k_zret G X (Or.inl rfl) dX0_in_15 (Nat.le_of_ble_eq_true rfl) (Nat.le_of_ble_eq_true rfl) ⟨_, rfl, rfl, h⟩
  · have h := hB c2
    clear hA hB
    refine k_iload_n G dX0_in_5 rfl ?_
    refine k_iload_n G dX0_in_6 rfl ?_
    obtain ⟨hA, hB⟩ := h
    refine k_icmp_gt G 14 dX0_in_7 (by decide) (fun c7 => ?_) (fun c7 => ?_)
    · have h := hA c7
      clear hA hB
      refine k_iconst G dX0_in_14 kc_i_0 ?_
      exact k_zret G X (Or.inl rfl) dX0_in_15 (Nat.le_of_ble_eq_true rfl) (Nat.le_of_ble_eq_true rfl) ⟨_, rfl, rfl, h⟩
    · have h := hB c7
      clear hA hB
      refine k_iconst G dX0_in_10 kc_i_1 ?_
      refine k_goto G 15 dX0_in_11 (by decide) ?_
      exact k_zret G X (Or.inr rfl) dX0_in_15 (Nat.le_of_ble_eq_true rfl) (Nat.le_of_ble_eq_true rfl) ⟨_, rfl, rfl, h⟩
def cw_isLoaf (T : xT) (q : Nat → Nat) (s : CS) (x1 : Int32) (k : Int32 → CS → Prop) : Prop := qw_in x1 0 (((s.1.1 0 3) - 1)) (fun r8 => (r8 = 0 ∨ r8 = 1) ∧ k r8 s)
set_option maxHeartbeats 4000000 in
theorem vk_isLoaf (l : Launch) (D : va_G) (T : xT) (q : Nat → Nat) (s : CS) (x1 : Int32) (k : Int32 → CS → Prop) (h : cw_isLoaf T q s x1 k) : XM l D T yX0_isLoaf cX0_isLoaf 2 (some .boolean) 3 0 0 [.ref (q 0), .int x1] (cw T q s) (cpostI T q k) := by
  refine XM.start (by decide +kernel) (Nat.le_of_ble_eq_true rfl) (fun Γ G X _ hl_ => ?_)
  subst hl_
  refine K.less [0, 1] (lv' := [(0, .ref (q 0)), (1, .int x1)]) rfl ?_
  unfold cw_isLoaf at h
  refine k_iload_n G dX0_isLoaf_0 rfl ?_
  refine k_iconst G dX0_isLoaf_1 kc_i_0 ?_
  refine k_aload_n G dX0_isLoaf_2 rfl ?_
  refine kc_this G cf_many_107 dX0_isLoaf_3 rfl ?_
  refine k_iconst G dX0_isLoaf_6 kc_i_1 ?_
  refine k_isub G dX0_isLoaf_7 ?_
  refine k_callPI G (vk_in _ D T _ _ _ _ h) gf_in q368 dX0_isLoaf_8 rfl rfl (Nat.le_of_ble_eq_true rfl) (Nat.le_of_ble_eq_true rfl) ⟨Nat.le_of_ble_eq_true rfl, Nat.le_of_ble_eq_true rfl⟩ (fun r8 h => ?_)
  obtain ⟨hz, h⟩ := h
  exact k_zret G X hz dX0_isLoaf_11 (Nat.le_of_ble_eq_true rfl) (Nat.le_of_ble_eq_true rfl) ⟨_, _, rfl, rfl, h⟩
def qw_isTaste (x0 : Int32) (k : Int32 → Prop) : Prop := qw_in x0 0 3 (fun r3 => (r3 = 0 ∨ r3 = 1) ∧ k r3)
set_option maxHeartbeats 4000000 in
theorem vk_isTaste (l : Launch) (D : va_G) (T : xT) (x0 : Int32) (k : Int32 → Prop) (h : qw_isTaste x0 k) : XM l D T yX0_isTaste cX0_isTaste 1 (some .boolean) 3 0 0 [.int x0] [] (ppostI k) := by
  refine XM.start (by decide +kernel) (Nat.le_of_ble_eq_true rfl) (fun Γ G X _ hl_ => ?_)
  subst hl_
  refine K.less [0] (lv' := [(0, .int x0)]) rfl ?_
  unfold qw_isTaste at h
  refine k_iload_n G dX0_isTaste_0 rfl ?_
  refine k_iconst G dX0_isTaste_1 kc_i_0 ?_
  refine k_iconst G dX0_isTaste_2 kc_i_3 ?_
  refine k_callPI G (vk_in _ D T _ _ _ _ h) gf_in q368 dX0_isTaste_3 rfl rfl (Nat.le_of_ble_eq_true rfl) (Nat.le_of_ble_eq_true rfl) ⟨Nat.le_of_ble_eq_true rfl, Nat.le_of_ble_eq_true rfl⟩ (fun r3 h => ?_)
  obtain ⟨hz, h⟩ := h
  exact k_zret G X hz dX0_isTaste_6 (Nat.le_of_ble_eq_true rfl) (Nat.le_of_ble_eq_true rfl) ⟨_, rfl, rfl, h⟩
def cw_loaf_L54 (T : xT) (q : Nat → Nat) (k : Int32 → CS → Prop) : Nat → Int32 → CS → Prop
  | 0, _, _ => False
  | n + 1, x3, s => (4 ≤ x3 → ∀ x99 : Int32, x99 = (s.1.1 0 3) → k x99 ((cA s 0 3 (x99 + 1)))) ∧ (¬ 4 ≤ x3 → vp_in ((4 * (s.1.1 0 3)) + x3) 24 ∧ ∀ w79 : CS, w79 = (cA s 2 (((4 * (s.1.1 0 3)) + x3) : Int32).toNatClampNeg 0) → vp_in ((4 * (w79.1.1 0 3)) + x3) 24 ∧ ∀ x88 : Int32, x88 = x3 + 1 → cw_loaf_L54 T q k n x88 ((cA w79 3 (((4 * (w79.1.1 0 3)) + x3) : Int32).toNatClampNeg 9)))
def cw_loaf (T : xT) (q : Nat → Nat) (s : CS) (x1 : Int32) (x2 : Int32) (k : Int32 → CS → Prop) : Prop := qw_in x1 0 6 (fun r4 => (¬ r4 = 0 → qw_in x2 0 9 (fun r16 => (¬ r16 = 0 → (¬ (s.1.1 0 3) = 6 → ∀ a48 : Nat, a48 ∉ s.2.1 → ∀ w51 : CS, w51 = (cNew s a48 (.inr (lofK x1, [.ref (q 26), .int (s.1.1 0 3), .int x2]))) → vp_in (s.1.1 0 3) 6 ∧ ∃ (kd51 : Nat) (n51 v51 : Int32), lofR q w51 a48 kd51 n51 v51 ∧ ∃ n54 : Nat, cw_loaf_L54 T q k n54 0 ((cR w51 1 ((s.1.1 0 3) : Int32).toNatClampNeg (some a48)))) ∧ ((s.1.1 0 3) = 6 → k (-4) s)) ∧ (r16 = 0 → k (-2) s))) ∧ (r4 = 0 → k (-1) s))
set_option maxHeartbeats 4000000 in
theorem vk_loaf (l : Launch) (D : va_G) (T : xT) (q : Nat → Nat) (s : CS) (x1 : Int32) (x2 : Int32) (k : Int32 → CS → Prop) (h : cw_loaf T q s x1 x2 k) : XM l D T yX0_loaf cX0_loaf 4 (some .int) 9 1 3 [.ref (q 0), .int x1, .int x2] (cw T q s) (cpostI T q k) := by
  refine XM.start (by decide +kernel) (Nat.le_of_ble_eq_true rfl) (fun Γ G X _ hl_ => ?_)
  subst hl_
  have hL54 : ∀ n : Nat, ∀ (x3 : Int32) (s : CS), (cw_loaf_L54 T q k n) x3 s → K D Γ 1 3 54 [(0, .ref (q 0)), (3, .int x3)] [] (cw T q s) := by
    intro n
    induction n with
    | zero =>
      intro _ _ h
      exact h.elim
    | succ n ih54 =>
      intro x3 s h
      unfold cw_loaf_L54 at h
      refine k_iload_n G dX0_loaf_54 rfl ?_
      refine k_iconst G dX0_loaf_55 kc_i_4 ?_
      obtain ⟨hA, hB⟩ := h
      refine k_icmp_ge G 94 dX0_loaf_56 (by decide) (fun c56 => ?_) (fun c56 => ?_)
      · have h := hA c56
        clear hA hB
        refine k_aload_n G dX0_loaf_94 rfl ?_
        refine k_dup G dX0_loaf_95 rfl ?_
        refine kc_this G cf_many_107 dX0_loaf_96 rfl ?_
        refine k_nmI (fun x99 e99 => ?_)
        have h := h x99 e99
        refine k_dup_x1 G dX0_loaf_99 rfl rfl ?_
        refine k_iconst G dX0_loaf_100 kc_i_1 ?_
        refine k_iadd G dX0_loaf_101 ?_
        refine kc_put G cp_many_107 dX0_loaf_102 ?_
        exact k_iret G X dX0_loaf_105 (Nat.le_of_ble_eq_true rfl) (Nat.le_of_ble_eq_true rfl) ⟨_, _, rfl, rfl, h⟩
      · have h := hB c56
        clear hA hB
        refine k_aload_n G dX0_loaf_59 rfl ?_
        refine kc_this G cf_gives_17 dX0_loaf_60 rfl ?_
        refine k_iconst G dX0_loaf_63 kc_i_4 ?_
        refine k_aload_n G dX0_loaf_64 rfl ?_
        refine kc_this G cf_many_107 dX0_loaf_65 rfl ?_
        refine k_imul G dX0_loaf_68 ?_
        refine k_iload_n G dX0_loaf_69 rfl ?_
        refine k_iadd G dX0_loaf_70 ?_
        refine k_iconst G dX0_loaf_71 kc_i_0 ?_
        obtain ⟨h1, h⟩ := h
        refine kc_iast G cI_2 dX0_loaf_72 h1 ?_
        refine k_aload_n G dX0_loaf_73 rfl ?_
        refine kc_this G cf_bears_21 dX0_loaf_74 rfl ?_
        refine k_iconst G dX0_loaf_77 kc_i_4 ?_
        refine k_aload_n G dX0_loaf_78 rfl ?_
        refine kc_nmW (fun w79 ew79 => ?_)
        have h := h w79 ew79
        refine kc_this G cf_many_107 dX0_loaf_79 rfl ?_
        refine k_imul G dX0_loaf_82 ?_
        refine k_iload_n G dX0_loaf_83 rfl ?_
        refine k_iadd G dX0_loaf_84 ?_
        refine k_bipush G dX0_loaf_85 kc_b_9 ?_
        obtain ⟨h1, h⟩ := h
        refine kc_iast G cI_3 dX0_loaf_87 h1 ?_
        obtain ⟨x88, e88⟩ : ∃ y : Int32, y = x3 + 1 := ⟨_, rfl⟩
        have h := h x88 e88
        refine k_iinc G [(3, .int x88), (0, .ref (q 0))] dX0_loaf_88 rfl (v := x88) (by rw [e88, kc_i_1]) (Nat.le_of_ble_eq_true rfl) rfl ?_
        refine k_goto G 54 dX0_loaf_91 (by decide) ?_
        refine K.less [1, 0] rfl ?_
        exact ih54 _ _ h
  refine K.less [0, 1, 2] (lv' := [(0, .ref (q 0)), (1, .int x1), (2, .int x2)]) rfl ?_
  unfold cw_loaf at h
  refine k_iload_n G dX0_loaf_0 rfl ?_
  refine k_iconst G dX0_loaf_1 kc_i_0 ?_
  refine k_bipush G dX0_loaf_2 kc_b_6 ?_
  refine k_callPI G (vk_in _ D T _ _ _ _ h) gf_in q368 dX0_loaf_4 rfl rfl (Nat.le_of_ble_eq_true rfl) (Nat.le_of_ble_eq_true rfl) ⟨Nat.le_of_ble_eq_true rfl, Nat.le_of_ble_eq_true rfl⟩ (fun r4 h => ?_)
  obtain ⟨hA, hB⟩ := h
  refine k_if_ne G 12 dX0_loaf_7 (by decide) (fun c7 => ?_) (fun c7 => ?_)
  · have h := hA c7
    clear hA hB
    refine k_iload_n G dX0_loaf_12 rfl ?_
    refine k_iconst G dX0_loaf_13 kc_i_0 ?_
    refine k_bipush G dX0_loaf_14 kc_b_9 ?_
    refine k_callPI G (vk_in _ D T _ _ _ _ h) gf_in q368 dX0_loaf_16 rfl rfl (Nat.le_of_ble_eq_true rfl) (Nat.le_of_ble_eq_true rfl) ⟨Nat.le_of_ble_eq_true rfl, Nat.le_of_ble_eq_true rfl⟩ (fun r16 h => ?_)
    obtain ⟨hA, hB⟩ := h
    refine k_if_ne G 25 dX0_loaf_19 (by decide) (fun c19 => ?_) (fun c19 => ?_)
    · have h := hA c19
      clear hA hB
      refine k_aload_n G dX0_loaf_25 rfl ?_
      refine kc_this G cf_many_107 dX0_loaf_26 rfl ?_
      refine k_bipush G dX0_loaf_29 kc_b_6 ?_
      obtain ⟨hA, hB⟩ := h
      refine k_icmp_ne G 37 dX0_loaf_31 (by decide) (fun c31 => ?_) (fun c31 => ?_)
      · have h := hA c31
        clear hA hB
        refine k_aload_n G dX0_loaf_37 rfl ?_
        refine kc_this G cf_loaves_13 dX0_loaf_38 rfl ?_
        refine k_aload_n G dX0_loaf_41 rfl ?_
        refine kc_this G cf_many_107 dX0_loaf_42 rfl ?_
        refine k_aload_n G dX0_loaf_45 rfl ?_
        refine k_iload_n G dX0_loaf_46 rfl ?_
        refine k_iload_n G dX0_loaf_47 rfl ?_
        refine kl_loafOf G q371 dX0_loaf_48 (Nat.le_of_ble_eq_true rfl) (Nat.le_of_ble_eq_true rfl) ⟨Nat.le_of_ble_eq_true rfl, Nat.le_of_ble_eq_true rfl⟩ (fun a48 hna => ?_)
        have h := h a48 hna
        refine kc_nmW (fun w51 ew51 => ?_)
        have h := h w51 ew51
        obtain ⟨h1, h⟩ := h
        obtain ⟨kd51, n51, v51, hl, h⟩ := h
        refine kc_aastL G cJ_1 hl dX0_loaf_51 h1 ?_
        refine k_iconst G dX0_loaf_52 kc_i_0 ?_
        refine k_istore_n G [(3, .int 0), (0, .ref (q 0)), (1, .int x1), (2, .int x2)] dX0_loaf_53 rfl (Nat.le_of_ble_eq_true rfl) rfl ?_
        obtain ⟨n54, h⟩ := h
        refine K.less [1, 0] rfl ?_
        exact hL54 n54 _ _ h
      · have h := hB c31
        clear hA hB
        refine k_bipush G dX0_loaf_34 kc_b_m4 ?_
        exact k_iret G X dX0_loaf_36 (Nat.le_of_ble_eq_true rfl) (Nat.le_of_ble_eq_true rfl) ⟨_, _, rfl, rfl, h⟩
    · have h := hB c19
      clear hA hB
      refine k_bipush G dX0_loaf_22 kc_b_m2 ?_
      exact k_iret G X dX0_loaf_24 (Nat.le_of_ble_eq_true rfl) (Nat.le_of_ble_eq_true rfl) ⟨_, _, rfl, rfl, h⟩
  · have h := hB c7
    clear hA hB
    refine k_iconst G dX0_loaf_10 kc_i_m1 ?_
    exact k_iret G X dX0_loaf_11 (Nat.le_of_ble_eq_true rfl) (Nat.le_of_ble_eq_true rfl) ⟨_, _, rfl, rfl, h⟩
def cw_set_J55 (T : xT) (q : Nat → Nat) (k : Int32 → CS → Prop) (x1 : Int32) (x2 : Int32) (x4 : Int32) (y0 : Nat) (s : CS) : Prop := (y0 = 2 ∨ y0 = 3) ∧ vp_in ((4 * x1) + x2) 24 ∧ ∀ x65 : Int32, x65 = (s.1.1 (y0) (((4 * x1) + x2) : Int32).toNatClampNeg) → (y0 = 2 ∨ y0 = 3) ∧ vp_in ((4 * x1) + x2) 24 ∧ k x65 ((cA s (y0) (((4 * x1) + x2) : Int32).toNatClampNeg x4))
def cw_set (T : xT) (q : Nat → Nat) (s : CS) (x1 : Int32) (x2 : Int32) (x3 : Int32) (x4 : Int32) (k : Int32 → CS → Prop) : Prop := cw_isLoaf T q s x1 (fun r2 s2 => (r2 = 0 → k (-1) s2) ∧ (¬ r2 = 0 → qw_isTaste x2 (fun r9 => (r9 = 0 → k (-1) s2) ∧ (¬ r9 = 0 → qw_in x3 0 1 (fun r18 => (¬ r18 = 0 → qw_in x4 0 99 (fun r31 => (¬ r31 = 0 → (¬ x3 = 0 → cw_set_J55 T q k x1 x2 x4 3 s2) ∧ (x3 = 0 → cw_set_J55 T q k x1 x2 x4 2 s2)) ∧ (r31 = 0 → k (-2) s2))) ∧ (r18 = 0 → k (-1) s2))))))
set_option maxHeartbeats 4000000 in
theorem vk_set (l : Launch) (D : va_G) (T : xT) (q : Nat → Nat) (s : CS) (x1 : Int32) (x2 : Int32) (x3 : Int32) (x4 : Int32) (k : Int32 → CS → Prop) (h : cw_set T q s x1 x2 x3 x4 k) : XM l D T yX0_set cX0_set 7 (some .int) 5 0 0 [.ref (q 0), .int x1, .int x2, .int x3, .int x4] (cw T q s) (cpostI T q k) := by
  refine XM.start (by decide +kernel) (Nat.le_of_ble_eq_true rfl) (fun Γ G X _ hl_ => ?_)
  subst hl_
  have hJ55 : ∀ (x1 : Int32) (x2 : Int32) (x4 : Int32) (y0 : Nat) (s : CS), cw_set_J55 T q k x1 x2 x4 y0 s → K D Γ 0 0 55 [(1, .int x1), (2, .int x2), (4, .int x4)] [.ref (q y0)] (cw T q s) := by
    intro x1 x2 x4 y0 s h
    unfold cw_set_J55 at h
    refine k_astore G [(5, .ref (q y0)), (1, .int x1), (2, .int x2), (4, .int x4)] dX0_set_55 (Nat.le_of_ble_eq_true rfl) rfl ?_
    refine k_aload G dX0_set_57 rfl ?_
    refine k_iconst G dX0_set_59 kc_i_4 ?_
    refine k_iload_n G dX0_set_60 rfl ?_
    refine k_imul G dX0_set_61 ?_
    refine k_iload_n G dX0_set_62 rfl ?_
    refine k_iadd G dX0_set_63 ?_
    obtain ⟨hD, h⟩ := h
    obtain ⟨h1, h⟩ := h
    refine kc_iald G (cI_or hD) dX0_set_64 h1 ?_
    refine k_nmI (fun x65 e65 => ?_)
    have h := h x65 e65
    refine k_istore G [(6, .int x65), (5, .ref (q y0)), (1, .int x1), (2, .int x2), (4, .int x4)] dX0_set_65 (Nat.le_of_ble_eq_true rfl) rfl ?_
    refine k_aload G dX0_set_67 rfl ?_
    refine k_iconst G dX0_set_69 kc_i_4 ?_
    refine k_iload_n G dX0_set_70 rfl ?_
    refine k_imul G dX0_set_71 ?_
    refine k_iload_n G dX0_set_72 rfl ?_
    refine k_iadd G dX0_set_73 ?_
    refine k_iload G dX0_set_74 rfl ?_
    obtain ⟨hD, h⟩ := h
    obtain ⟨h1, h⟩ := h
    refine kc_iast G (cI_or hD) dX0_set_76 h1 ?_
    refine k_iload G dX0_set_77 rfl ?_
    exact k_iret G X dX0_set_79 (Nat.le_of_ble_eq_true rfl) (Nat.le_of_ble_eq_true rfl) ⟨_, _, rfl, rfl, h⟩
  refine K.less [0, 1, 2, 3, 4] (lv' := [(0, .ref (q 0)), (1, .int x1), (2, .int x2), (3, .int x3), (4, .int x4)]) rfl ?_
  unfold cw_set at h
  refine k_aload_n G dX0_set_0 rfl ?_
  refine k_iload_n G dX0_set_1 rfl ?_
  refine kc_callI G (vk_isLoaf _ D T q _ _ _ h) gf_isLoaf q475 dX0_set_2 rfl rfl (Nat.le_of_ble_eq_true rfl) (Nat.le_of_ble_eq_true rfl) ⟨Nat.le_of_ble_eq_true rfl, Nat.le_of_ble_eq_true rfl⟩ (fun r2 s2 h => ?_)
  obtain ⟨hA, hB⟩ := h
  refine k_if_eq G 24 dX0_set_5 (by decide) (fun c5 => ?_) (fun c5 => ?_)
  · have h := hA c5
    clear hA hB
    refine k_iconst G dX0_set_24 kc_i_m1 ?_
    exact k_iret G X dX0_set_25 (Nat.le_of_ble_eq_true rfl) (Nat.le_of_ble_eq_true rfl) ⟨_, _, rfl, rfl, h⟩
  · have h := hB c5
    clear hA hB
    refine k_iload_n G dX0_set_8 rfl ?_
    refine k_callPI G (vk_isTaste _ D T _ _ h) gf_isTaste q479 dX0_set_9 rfl rfl (Nat.le_of_ble_eq_true rfl) (Nat.le_of_ble_eq_true rfl) ⟨Nat.le_of_ble_eq_true rfl, Nat.le_of_ble_eq_true rfl⟩ (fun r9 h => ?_)
    obtain ⟨hA, hB⟩ := h
    refine k_if_eq G 24 dX0_set_12 (by decide) (fun c12 => ?_) (fun c12 => ?_)
    · have h := hA c12
      clear hA hB
      refine k_iconst G dX0_set_24 kc_i_m1 ?_
      exact k_iret G X dX0_set_25 (Nat.le_of_ble_eq_true rfl) (Nat.le_of_ble_eq_true rfl) ⟨_, _, rfl, rfl, h⟩
    · have h := hB c12
      clear hA hB
      refine k_iload_n G dX0_set_15 rfl ?_
      refine k_iconst G dX0_set_16 kc_i_0 ?_
      refine k_iconst G dX0_set_17 kc_i_1 ?_
      refine k_callPI G (vk_in _ D T _ _ _ _ h) gf_in q368 dX0_set_18 rfl rfl (Nat.le_of_ble_eq_true rfl) (Nat.le_of_ble_eq_true rfl) ⟨Nat.le_of_ble_eq_true rfl, Nat.le_of_ble_eq_true rfl⟩ (fun r18 h => ?_)
      obtain ⟨hA, hB⟩ := h
      refine k_if_ne G 26 dX0_set_21 (by decide) (fun c21 => ?_) (fun c21 => ?_)
      · have h := hA c21
        clear hA hB
        refine k_iload G dX0_set_26 rfl ?_
        refine k_iconst G dX0_set_28 kc_i_0 ?_
        refine k_bipush G dX0_set_29 kc_b_99 ?_
        refine k_callPI G (vk_in _ D T _ _ _ _ h) gf_in q368 dX0_set_31 rfl rfl (Nat.le_of_ble_eq_true rfl) (Nat.le_of_ble_eq_true rfl) ⟨Nat.le_of_ble_eq_true rfl, Nat.le_of_ble_eq_true rfl⟩ (fun r31 h => ?_)
        obtain ⟨hA, hB⟩ := h
        refine k_if_ne G 40 dX0_set_34 (by decide) (fun c34 => ?_) (fun c34 => ?_)
        · have h := hA c34
          clear hA hB
          refine k_iload_n G dX0_set_40 rfl ?_
          obtain ⟨hA, hB⟩ := h
          refine k_if_ne G 51 dX0_set_41 (by decide) (fun c41 => ?_) (fun c41 => ?_)
          · have h := hA c41
            clear hA hB
            refine k_aload_n G dX0_set_51 rfl ?_
            refine kc_this G cf_bears_21 dX0_set_52 rfl ?_
            refine K.less [1, 2, 4] rfl ?_
            exact hJ55 _ _ _ _ _ h
          · have h := hB c41
            clear hA hB
            refine k_aload_n G dX0_set_44 rfl ?_
            refine kc_this G cf_gives_17 dX0_set_45 rfl ?_
            refine k_goto G 55 dX0_set_48 (by decide) ?_
            refine K.less [1, 2, 4] rfl ?_
            exact hJ55 _ _ _ _ _ h
        · have h := hB c34
          clear hA hB
          refine k_bipush G dX0_set_37 kc_b_m2 ?_
          exact k_iret G X dX0_set_39 (Nat.le_of_ble_eq_true rfl) (Nat.le_of_ble_eq_true rfl) ⟨_, _, rfl, rfl, h⟩
      · have h := hB c21
        clear hA hB
        refine k_iconst G dX0_set_24 kc_i_m1 ?_
        exact k_iret G X dX0_set_25 (Nat.le_of_ble_eq_true rfl) (Nat.le_of_ble_eq_true rfl) ⟨_, _, rfl, rfl, h⟩
def cw_looksAt_J82 (T : xT) (q : Nat → Nat) (t1 : Nat) (k : CS → Prop) (y0 : Int32) (s : CS) : Prop := k ((cA s 25 5 y0))
def cw_looksAt (T : xT) (q : Nat → Nat) (s : CS) (t1 : Nat) (x2 : Int32) (x3 : Int32) (x4 : Int32) (k : CS → Prop) : Prop := ∀ w17 : CS, w17 = (cA s 25 0 x2) → vp_in x2 6 ∧ ∃ a17 : Nat, w17.1.2 1 (x2 : Int32).toNatClampNeg = some a17 ∧ ∃ (kd18 : Nat) (n18 v18 : Int32), lofR q w17 a17 kd18 n18 v18 ∧ ∀ w29 : CS, w29 = (cA w17 25 1 (nI kd18)) → ∀ w41 : CS, w41 = (cA w29 25 2 x3) → vp_in x2 6 ∧ ∃ a41 : Nat, w41.1.2 1 (x2 : Int32).toNatClampNeg = some a41 ∧ ∃ (kd42 : Nat) (n42 v42 : Int32), lofR q w41 a41 kd42 n42 v42 ∧ ∀ w53 : CS, w53 = (cA w41 25 3 v42) → t1 < 10 ∧ (¬ x3 = 99 → cw_looksAt_J82 T q t1 k ((x4 / 10)) ((cA w53 25 4 ((w53.1.1 (4 + 2 * t1) 1) - (w53.1.1 (4 + 2 * t1) 1) / 60 * 60)))) ∧ (x3 = 99 → cw_looksAt_J82 T q t1 k 99 ((cA w53 25 4 ((w53.1.1 (4 + 2 * t1) 1) - (w53.1.1 (4 + 2 * t1) 1) / 60 * 60))))
set_option maxHeartbeats 4000000 in
theorem vk_looksAt (l : Launch) (D : va_G) (T : xT) (q : Nat → Nat) (s : CS) (t1 : Nat) (x2 : Int32) (x3 : Int32) (x4 : Int32) (k : CS → Prop) (h : cw_looksAt T q s t1 x2 x3 x4 k) : XM l D T yX0_looksAt cX0_looksAt 5 none 7 0 0 [.ref (q 0), .ref (q (4 + 2 * t1)), .int x2, .int x3, .int x4] (cw T q s) (cpostV T q k) := by
  refine XM.start (by decide +kernel) (Nat.le_of_ble_eq_true rfl) (fun Γ G X _ hl_ => ?_)
  subst hl_
  have hJ82 : ∀ (y0 : Int32) (s : CS), cw_looksAt_J82 T q t1 k y0 s → K D Γ 0 0 82 [] [.int y0, .ref (q 25)] (cw T q s) := by
    intro y0 s h
    unfold cw_looksAt_J82 at h
    refine kc_putLook G cl_5 (Or.inr (List.mem_of_getElem? (i := 13) rfl)) dX0_looksAt_82 ?_
    exact k_vret G X dX0_looksAt_85 (Nat.le_of_ble_eq_true rfl) (Nat.le_of_ble_eq_true rfl) ⟨_, rfl, rfl, h⟩
  refine K.less [0, 1, 2, 3, 4] (lv' := [(0, .ref (q 0)), (1, .ref (q (4 + 2 * t1))), (2, .int x2), (3, .int x3), (4, .int x4)]) rfl ?_
  unfold cw_looksAt at h
  refine k_aload_n G dX0_looksAt_0 rfl ?_
  refine kc_this G cf_look_48 dX0_looksAt_1 rfl ?_
  refine k_iload_n G dX0_looksAt_4 rfl ?_
  refine kc_putLook G cl_0 (Or.inr (List.mem_of_getElem? (i := 8) rfl)) dX0_looksAt_5 ?_
  refine k_aload_n G dX0_looksAt_8 rfl ?_
  refine kc_this G cf_look_48 dX0_looksAt_9 rfl ?_
  refine k_aload_n G dX0_looksAt_12 rfl ?_
  refine kc_this G cf_loaves_13 dX0_looksAt_13 rfl ?_
  refine k_iload_n G dX0_looksAt_16 rfl ?_
  refine kc_nmW (fun w17 ew17 => ?_)
  have h := h w17 ew17
  obtain ⟨h1, h⟩ := h
  obtain ⟨a17, ha, h⟩ := h
  refine kc_aaldL G cJ_1 dX0_looksAt_17 h1 ha ?_
  obtain ⟨kd18, n18, v18, hl, h⟩ := h
  refine kl_kind G hl q486 dX0_looksAt_18 (Nat.le_of_ble_eq_true rfl) (Nat.le_of_ble_eq_true rfl) ⟨Nat.le_of_ble_eq_true rfl, Nat.le_of_ble_eq_true rfl⟩ ?_
  refine kc_putLook G cl_1 (Or.inr (List.mem_of_getElem? (i := 9) rfl)) dX0_looksAt_21 ?_
  refine k_aload_n G dX0_looksAt_24 rfl ?_
  refine kc_this G cf_look_48 dX0_looksAt_25 rfl ?_
  refine k_iload_n G dX0_looksAt_28 rfl ?_
  refine kc_nmW (fun w29 ew29 => ?_)
  have h := h w29 ew29
  refine kc_putLook G cl_2 (Or.inr (List.mem_of_getElem? (i := 10) rfl)) dX0_looksAt_29 ?_
  refine k_aload_n G dX0_looksAt_32 rfl ?_
  refine kc_this G cf_look_48 dX0_looksAt_33 rfl ?_
  refine k_aload_n G dX0_looksAt_36 rfl ?_
  refine kc_this G cf_loaves_13 dX0_looksAt_37 rfl ?_
  refine k_iload_n G dX0_looksAt_40 rfl ?_
  refine kc_nmW (fun w41 ew41 => ?_)
  have h := h w41 ew41
  obtain ⟨h1, h⟩ := h
  obtain ⟨a41, ha, h⟩ := h
  refine kc_aaldL G cJ_1 dX0_looksAt_41 h1 ha ?_
  obtain ⟨kd42, n42, v42, hl, h⟩ := h
  refine kl_v G hl q407 dX0_looksAt_42 ?_
  refine kc_putLook G cl_3 (Or.inr (List.mem_of_getElem? (i := 11) rfl)) dX0_looksAt_45 ?_
  refine k_aload_n G dX0_looksAt_48 rfl ?_
  refine kc_this G cf_look_48 dX0_looksAt_49 rfl ?_
  refine k_aload_n G dX0_looksAt_52 rfl ?_
  refine kc_nmW (fun w53 ew53 => ?_)
  have h := h w53 ew53
  obtain ⟨h0, h⟩ := h
  refine kc_hour G h0 (Or.inr (List.mem_of_getElem? (i := 1) rfl)) dX0_looksAt_53 ?_
  refine k_bipush G dX0_looksAt_56 kc_b_60 ?_
  refine k_irem G dX0_looksAt_58 (by decide) ?_
  refine kc_putLook G cl_4 (Or.inr (List.mem_of_getElem? (i := 12) rfl)) dX0_looksAt_59 ?_
  refine k_aload_n G dX0_looksAt_62 rfl ?_
  refine kc_this G cf_look_48 dX0_looksAt_63 rfl ?_
  refine k_iload_n G dX0_looksAt_66 rfl ?_
  refine k_bipush G dX0_looksAt_67 kc_b_99 ?_
  obtain ⟨hA, hB⟩ := h
  refine k_icmp_ne G 77 dX0_looksAt_69 (by decide) (fun c69 => ?_) (fun c69 => ?_)
  · have h := hA c69
    clear hA hB
    refine k_iload G dX0_looksAt_77 rfl ?_
    refine k_bipush G dX0_looksAt_79 kc_b_10 ?_
    refine k_idiv G dX0_looksAt_81 (by decide) ?_
    refine K.less [] rfl ?_
    exact hJ82 _ _ h
  · have h := hB c69
    clear hA hB
    refine k_bipush G dX0_looksAt_72 kc_b_99 ?_
    refine k_goto G 82 dX0_looksAt_74 (by decide) ?_
    refine K.less [] rfl ?_
    exact hJ82 _ _ h
def cw_takesBy (T : xT) (q : Nat → Nat) (s : CS) (x1 : Int32) (x2 : Int32) (x3 : Int32) (x4 : Int32) (k : Int32 → CS → Prop) : Prop := vp_in x1 6 ∧ ∃ a7 : Nat, s.1.2 1 (x1 : Int32).toNatClampNeg = some a7 ∧ vp_in ((4 * x1) + x2) 24 ∧ ∃ (kd21 : Nat) (n21 v21 : Int32), lofR q s a7 kd21 n21 v21 ∧ k ((imax 0 (imin x3 (lTake kd21 v21 x3 x4 (s.1.1 3 (((4 * x1) + x2) : Int32).toNatClampNeg))))) s
set_option maxHeartbeats 4000000 in
theorem vk_takesBy (l : Launch) (D : va_G) (T : xT) (q : Nat → Nat) (s : CS) (x1 : Int32) (x2 : Int32) (x3 : Int32) (x4 : Int32) (k : Int32 → CS → Prop) (h : cw_takesBy T q s x1 x2 x3 x4 k) : XM l D T yX0_takesBy cX0_takesBy 5 (some .int) 7 0 0 [.ref (q 0), .int x1, .int x2, .int x3, .int x4] (cw T q s) (cpostI T q k) := by
  refine XM.start (by decide +kernel) (Nat.le_of_ble_eq_true rfl) (fun Γ G X _ hl_ => ?_)
  subst hl_
  refine K.less [0, 1, 2, 3, 4] (lv' := [(0, .ref (q 0)), (1, .int x1), (2, .int x2), (3, .int x3), (4, .int x4)]) rfl ?_
  unfold cw_takesBy at h
  refine k_iconst G dX0_takesBy_0 kc_i_0 ?_
  refine k_iload_n G dX0_takesBy_1 rfl ?_
  refine k_aload_n G dX0_takesBy_2 rfl ?_
  refine kc_this G cf_loaves_13 dX0_takesBy_3 rfl ?_
  refine k_iload_n G dX0_takesBy_6 rfl ?_
  obtain ⟨h1, h⟩ := h
  obtain ⟨a7, ha, h⟩ := h
  refine kc_aaldL G cJ_1 dX0_takesBy_7 h1 ha ?_
  refine k_iload_n G dX0_takesBy_8 rfl ?_
  refine k_iload G dX0_takesBy_9 rfl ?_
  refine k_aload_n G dX0_takesBy_11 rfl ?_
  refine kc_this G cf_bears_21 dX0_takesBy_12 rfl ?_
  refine k_iconst G dX0_takesBy_15 kc_i_4 ?_
  refine k_iload_n G dX0_takesBy_16 rfl ?_
  refine k_imul G dX0_takesBy_17 ?_
  refine k_iload_n G dX0_takesBy_18 rfl ?_
  refine k_iadd G dX0_takesBy_19 ?_
  obtain ⟨h1, h⟩ := h
  refine kc_iald G cI_3 dX0_takesBy_20 h1 ?_
  obtain ⟨kd21, n21, v21, hl, h⟩ := h
  refine kl_taking G hl q584 dX0_takesBy_21 (Nat.le_of_ble_eq_true rfl) (Nat.le_of_ble_eq_true rfl) ⟨Nat.le_of_ble_eq_true rfl, Nat.le_of_ble_eq_true rfl⟩ ?_
  refine kx_min G q612 dX0_takesBy_24 (Nat.le_of_ble_eq_true rfl) (Nat.le_of_ble_eq_true rfl) ⟨Nat.le_of_ble_eq_true rfl, Nat.le_of_ble_eq_true rfl⟩ ?_
  refine kx_max G q613 dX0_takesBy_27 (Nat.le_of_ble_eq_true rfl) (Nat.le_of_ble_eq_true rfl) ⟨Nat.le_of_ble_eq_true rfl, Nat.le_of_ble_eq_true rfl⟩ ?_
  exact k_iret G X dX0_takesBy_30 (Nat.le_of_ble_eq_true rfl) (Nat.le_of_ble_eq_true rfl) ⟨_, _, rfl, rfl, h⟩
def cw_takesOf (T : xT) (q : Nat → Nat) (s : CS) (t1 : Nat) (x2 : Int32) (x3 : Int32) (x4 : Int32) (k : Int32 → CS → Prop) : Prop := cw_looksAt T q s t1 x2 x3 x4 (fun s6 => ∃ κ22 : KD, kilR T s6 (s6.1.2 0 9) κ22 ∧ cw_takesBy T q s6 x2 x3 x4 ((kPart κ22 (s6.1.1 25))) (fun r25 s25 => k r25 s25))
set_option maxHeartbeats 4000000 in
theorem vk_takesOf (l : Launch) (D : va_G) (T : xT) (q : Nat → Nat) (s : CS) (t1 : Nat) (x2 : Int32) (x3 : Int32) (x4 : Int32) (k : Int32 → CS → Prop) (h : cw_takesOf T q s t1 x2 x3 x4 k) : XM l D T yX0_takesOf cX0_takesOf 5 (some .int) 61 0 0 [.ref (q 0), .ref (q (4 + 2 * t1)), .int x2, .int x3, .int x4] (cw T q s) (cpostI T q k) := by
  refine XM.start (by decide +kernel) (Nat.le_of_ble_eq_true rfl) (fun Γ G X _ hl_ => ?_)
  subst hl_
  refine K.less [0, 1, 2, 3, 4] (lv' := [(0, .ref (q 0)), (1, .ref (q (4 + 2 * t1))), (2, .int x2), (3, .int x3), (4, .int x4)]) rfl ?_
  unfold cw_takesOf at h
  refine k_aload_n G dX0_takesOf_0 rfl ?_
  refine k_aload_n G dX0_takesOf_1 rfl ?_
  refine k_iload_n G dX0_takesOf_2 rfl ?_
  refine k_iload_n G dX0_takesOf_3 rfl ?_
  refine k_iload G dX0_takesOf_4 rfl ?_
  refine kc_callV G (vk_looksAt _ D T q _ _ _ _ _ _ h) gf_looksAt q513 dX0_takesOf_6 rfl rfl (Nat.le_of_ble_eq_true rfl) (Nat.le_of_ble_eq_true rfl) ⟨Nat.le_of_ble_eq_true rfl, Nat.le_of_ble_eq_true rfl⟩ (fun s6 h => ?_)
  refine k_aload_n G dX0_takesOf_9 rfl ?_
  refine k_iload_n G dX0_takesOf_10 rfl ?_
  refine k_iload_n G dX0_takesOf_11 rfl ?_
  refine k_iload G dX0_takesOf_12 rfl ?_
  refine k_aload_n G dX0_takesOf_14 rfl ?_
  refine kc_this G cf_kiln_41 dX0_takesOf_15 rfl ?_
  refine k_aload_n G dX0_takesOf_18 rfl ?_
  refine kc_this G cf_look_48 dX0_takesOf_19 rfl ?_
  obtain ⟨κ22, hk, h⟩ := h
  refine kl_part G hk q572 dX0_takesOf_22 (Nat.le_of_ble_eq_true rfl) (Nat.le_of_ble_eq_true rfl) ⟨Nat.le_of_ble_eq_true rfl, Nat.le_of_ble_eq_true rfl⟩ ?_
  refine kc_callI G (vk_takesBy _ D T q _ _ _ _ _ _ h) gf_takesBy q580 dX0_takesOf_25 rfl rfl (Nat.le_of_ble_eq_true rfl) (Nat.le_of_ble_eq_true rfl) ⟨Nat.le_of_ble_eq_true rfl, Nat.le_of_ble_eq_true rfl⟩ (fun r25 s25 h => ?_)
  exact k_iret G X dX0_takesOf_28 (Nat.le_of_ble_eq_true rfl) (Nat.le_of_ble_eq_true rfl) ⟨_, _, rfl, rfl, h⟩
def cw_leavesOf (T : xT) (q : Nat → Nat) (s : CS) (t1 : Nat) (x2 : Int32) (x3 : Int32) (k : Int32 → CS → Prop) : Prop := t1 < 10 ∧ t1 < 10 ∧ vp_in x3 4 ∧ cw_looksAt T q s t1 x2 x3 ((s.1.1 (5 + 2 * t1) (x3 : Int32).toNatClampNeg)) (fun s10 => vp_in x2 6 ∧ ∃ a18 : Nat, s10.1.2 1 (x2 : Int32).toNatClampNeg = some a18 ∧ vp_in ((4 * x2) + x3) 24 ∧ ∃ κ37 : KD, kilR T s10 (s10.1.2 0 9) κ37 ∧ ∃ (kd42 : Nat) (n42 v42 : Int32), lofR q s10 a18 kd42 n42 v42 ∧ k ((lLeave kd42 v42 ((s10.1.1 2 (((4 * x2) + x3) : Int32).toNatClampNeg) + (kMore κ37 (s10.1.1 25))) x3)) s10)
set_option maxHeartbeats 4000000 in
theorem vk_leavesOf (l : Launch) (D : va_G) (T : xT) (q : Nat → Nat) (s : CS) (t1 : Nat) (x2 : Int32) (x3 : Int32) (k : Int32 → CS → Prop) (h : cw_leavesOf T q s t1 x2 x3 k) : XM l D T yX0_leavesOf cX0_leavesOf 4 (some .int) 61 0 0 [.ref (q 0), .ref (q (4 + 2 * t1)), .int x2, .int x3] (cw T q s) (cpostI T q k) := by
  refine XM.start (by decide +kernel) (Nat.le_of_ble_eq_true rfl) (fun Γ G X _ hl_ => ?_)
  subst hl_
  refine K.less [0, 1, 2, 3] (lv' := [(0, .ref (q 0)), (1, .ref (q (4 + 2 * t1))), (2, .int x2), (3, .int x3)]) rfl ?_
  unfold cw_leavesOf at h
  refine k_aload_n G dX0_leavesOf_0 rfl ?_
  refine k_aload_n G dX0_leavesOf_1 rfl ?_
  refine k_iload_n G dX0_leavesOf_2 rfl ?_
  refine k_iload_n G dX0_leavesOf_3 rfl ?_
  refine k_aload_n G dX0_leavesOf_4 rfl ?_
  obtain ⟨h0, h⟩ := h
  refine kc_held G h0 (Or.inr (List.mem_of_getElem? (i := 0) rfl)) dX0_leavesOf_5 ?_
  refine k_iload_n G dX0_leavesOf_8 rfl ?_
  obtain ⟨h0, h⟩ := h
  obtain ⟨h1, h⟩ := h
  refine kc_iald G (cI_time h0) dX0_leavesOf_9 h1 ?_
  refine kc_callV G (vk_looksAt _ D T q _ _ _ _ _ _ h) gf_looksAt q513 dX0_leavesOf_10 rfl rfl (Nat.le_of_ble_eq_true rfl) (Nat.le_of_ble_eq_true rfl) ⟨Nat.le_of_ble_eq_true rfl, Nat.le_of_ble_eq_true rfl⟩ (fun s10 h => ?_)
  refine k_aload_n G dX0_leavesOf_13 rfl ?_
  refine kc_this G cf_loaves_13 dX0_leavesOf_14 rfl ?_
  refine k_iload_n G dX0_leavesOf_17 rfl ?_
  obtain ⟨h1, h⟩ := h
  obtain ⟨a18, ha, h⟩ := h
  refine kc_aaldL G cJ_1 dX0_leavesOf_18 h1 ha ?_
  refine k_aload_n G dX0_leavesOf_19 rfl ?_
  refine kc_this G cf_gives_17 dX0_leavesOf_20 rfl ?_
  refine k_iconst G dX0_leavesOf_23 kc_i_4 ?_
  refine k_iload_n G dX0_leavesOf_24 rfl ?_
  refine k_imul G dX0_leavesOf_25 ?_
  refine k_iload_n G dX0_leavesOf_26 rfl ?_
  refine k_iadd G dX0_leavesOf_27 ?_
  obtain ⟨h1, h⟩ := h
  refine kc_iald G cI_2 dX0_leavesOf_28 h1 ?_
  refine k_aload_n G dX0_leavesOf_29 rfl ?_
  refine kc_this G cf_kiln_41 dX0_leavesOf_30 rfl ?_
  refine k_aload_n G dX0_leavesOf_33 rfl ?_
  refine kc_this G cf_look_48 dX0_leavesOf_34 rfl ?_
  obtain ⟨κ37, hk, h⟩ := h
  refine kl_more G hk q620 dX0_leavesOf_37 (Nat.le_of_ble_eq_true rfl) (Nat.le_of_ble_eq_true rfl) ⟨Nat.le_of_ble_eq_true rfl, Nat.le_of_ble_eq_true rfl⟩ ?_
  refine k_iadd G dX0_leavesOf_40 ?_
  refine k_iload_n G dX0_leavesOf_41 rfl ?_
  obtain ⟨kd42, n42, v42, hl, h⟩ := h
  refine kl_leaving G hl q624 dX0_leavesOf_42 (Nat.le_of_ble_eq_true rfl) (Nat.le_of_ble_eq_true rfl) ⟨Nat.le_of_ble_eq_true rfl, Nat.le_of_ble_eq_true rfl⟩ ?_
  exact k_iret G X dX0_leavesOf_45 (Nat.le_of_ble_eq_true rfl) (Nat.le_of_ble_eq_true rfl) ⟨_, _, rfl, rfl, h⟩
def cw_feeOf (T : xT) (q : Nat → Nat) (s : CS) (x1 : Int32) (k : Int32 → CS → Prop) : Prop := cw_looksAt T q s 0 x1 99 99 (fun s10 => ∃ κ21 : KD, kilR T s10 (s10.1.2 0 9) κ21 ∧ k ((kFee κ21 (s10.1.1 25))) s10)
set_option maxHeartbeats 4000000 in
theorem vk_feeOf (l : Launch) (D : va_G) (T : xT) (q : Nat → Nat) (s : CS) (x1 : Int32) (k : Int32 → CS → Prop) (h : cw_feeOf T q s x1 k) : XM l D T yX0_feeOf cX0_feeOf 2 (some .int) 61 0 0 [.ref (q 0), .int x1] (cw T q s) (cpostI T q k) := by
  refine XM.start (by decide +kernel) (Nat.le_of_ble_eq_true rfl) (fun Γ G X _ hl_ => ?_)
  subst hl_
  refine K.less [0, 1] (lv' := [(0, .ref (q 0)), (1, .int x1)]) rfl ?_
  unfold cw_feeOf at h
  refine k_aload_n G dX0_feeOf_0 rfl ?_
  refine k_aload_n G dX0_feeOf_1 rfl ?_
  refine kc_this G cf_now_27 dX0_feeOf_2 rfl ?_
  refine k_iload_n G dX0_feeOf_5 rfl ?_
  refine k_bipush G dX0_feeOf_6 kc_b_99 ?_
  refine k_bipush G dX0_feeOf_8 kc_b_99 ?_
  refine kc_callV G (vk_looksAt _ D T q _ _ _ _ _ _ h) gf_looksAt q513 dX0_feeOf_10 rfl rfl (Nat.le_of_ble_eq_true rfl) (Nat.le_of_ble_eq_true rfl) ⟨Nat.le_of_ble_eq_true rfl, Nat.le_of_ble_eq_true rfl⟩ (fun s10 h => ?_)
  refine k_aload_n G dX0_feeOf_13 rfl ?_
  refine kc_this G cf_kiln_41 dX0_feeOf_14 rfl ?_
  refine k_aload_n G dX0_feeOf_17 rfl ?_
  refine kc_this G cf_look_48 dX0_feeOf_18 rfl ?_
  obtain ⟨κ21, hk, h⟩ := h
  refine kl_fee G hk q517 dX0_feeOf_21 (Nat.le_of_ble_eq_true rfl) (Nat.le_of_ble_eq_true rfl) ⟨Nat.le_of_ble_eq_true rfl, Nat.le_of_ble_eq_true rfl⟩ ?_
  exact k_iret G X dX0_feeOf_24 (Nat.le_of_ble_eq_true rfl) (Nat.le_of_ble_eq_true rfl) ⟨_, _, rfl, rfl, h⟩
def cw_takesAll_L5 (T : xT) (q : Nat → Nat) (t1 : Nat) (k : Int32 → CS → Prop) : Nat → Int32 → Int32 → Int32 → CS → Prop
  | 0, _, _, _, _ => False
  | n + 1, x2, x3, x4, s => (4 ≤ x4 → k x3 s) ∧ (¬ 4 ≤ x4 → t1 < 10 ∧ t1 < 10 ∧ vp_in x4 4 ∧ cw_takesOf T q s t1 x2 x4 ((s.1.1 (5 + 2 * t1) (x4 : Int32).toNatClampNeg)) (fun r24 s24 => ∀ x28 : Int32, x28 = (x3 + r24) → ∀ x29 : Int32, x29 = x4 + 1 → cw_takesAll_L5 T q t1 k n x2 x28 x29 s24))
def cw_takesAll (T : xT) (q : Nat → Nat) (s : CS) (t1 : Nat) (x2 : Int32) (k : Int32 → CS → Prop) : Prop := ∃ n5 : Nat, cw_takesAll_L5 T q t1 k n5 x2 0 0 s
set_option maxHeartbeats 4000000 in
theorem vk_takesAll (l : Launch) (D : va_G) (T : xT) (q : Nat → Nat) (s : CS) (t1 : Nat) (x2 : Int32) (k : Int32 → CS → Prop) (h : cw_takesAll T q s t1 x2 k) : XM l D T yX0_takesAll cX0_takesAll 5 (some .int) 63 0 0 [.ref (q 0), .ref (q (4 + 2 * t1)), .int x2] (cw T q s) (cpostI T q k) := by
  refine XM.start (by decide +kernel) (Nat.le_of_ble_eq_true rfl) (fun Γ G X _ hl_ => ?_)
  subst hl_
  have hL5 : ∀ n : Nat, ∀ (x2 : Int32) (x3 : Int32) (x4 : Int32) (s : CS), (cw_takesAll_L5 T q t1 k n) x2 x3 x4 s → K D Γ 0 0 5 [(0, .ref (q 0)), (1, .ref (q (4 + 2 * t1))), (2, .int x2), (3, .int x3), (4, .int x4)] [] (cw T q s) := by
    intro n
    induction n with
    | zero =>
      intro _ _ _ _ h
      exact h.elim
    | succ n ih5 =>
      intro x2 x3 x4 s h
      unfold cw_takesAll_L5 at h
      refine k_iload G dX0_takesAll_5 rfl ?_
      refine k_iconst G dX0_takesAll_7 kc_i_4 ?_
      obtain ⟨hA, hB⟩ := h
      refine k_icmp_ge G 35 dX0_takesAll_8 (by decide) (fun c8 => ?_) (fun c8 => ?_)
      · have h := hA c8
        clear hA hB
        refine k_iload_n G dX0_takesAll_35 rfl ?_
        exact k_iret G X dX0_takesAll_36 (Nat.le_of_ble_eq_true rfl) (Nat.le_of_ble_eq_true rfl) ⟨_, _, rfl, rfl, h⟩
      · have h := hB c8
        clear hA hB
        refine k_iload_n G dX0_takesAll_11 rfl ?_
        refine k_aload_n G dX0_takesAll_12 rfl ?_
        refine k_aload_n G dX0_takesAll_13 rfl ?_
        refine k_iload_n G dX0_takesAll_14 rfl ?_
        refine k_iload G dX0_takesAll_15 rfl ?_
        refine k_aload_n G dX0_takesAll_17 rfl ?_
        obtain ⟨h0, h⟩ := h
        refine kc_held G h0 (Or.inr (List.mem_of_getElem? (i := 0) rfl)) dX0_takesAll_18 ?_
        refine k_iload G dX0_takesAll_21 rfl ?_
        obtain ⟨h0, h⟩ := h
        obtain ⟨h1, h⟩ := h
        refine kc_iald G (cI_time h0) dX0_takesAll_23 h1 ?_
        refine kc_callI G (vk_takesOf _ D T q _ _ _ _ _ _ h) gf_takesOf q568 dX0_takesAll_24 rfl rfl (Nat.le_of_ble_eq_true rfl) (Nat.le_of_ble_eq_true rfl) ⟨Nat.le_of_ble_eq_true rfl, Nat.le_of_ble_eq_true rfl⟩ (fun r24 s24 h => ?_)
        refine k_iadd G dX0_takesAll_27 ?_
        refine k_nmI (fun x28 e28 => ?_)
        have h := h x28 e28
        refine k_istore_n G [(3, .int x28), (0, .ref (q 0)), (1, .ref (q (4 + 2 * t1))), (2, .int x2), (4, .int x4)] dX0_takesAll_28 rfl (Nat.le_of_ble_eq_true rfl) rfl ?_
        obtain ⟨x29, e29⟩ : ∃ y : Int32, y = x4 + 1 := ⟨_, rfl⟩
        have h := h x29 e29
        refine k_iinc G [(4, .int x29), (3, .int x28), (0, .ref (q 0)), (1, .ref (q (4 + 2 * t1))), (2, .int x2)] dX0_takesAll_29 rfl (v := x29) (by rw [e29, kc_i_1]) (Nat.le_of_ble_eq_true rfl) rfl ?_
        refine k_goto G 5 dX0_takesAll_32 (by decide) ?_
        refine K.less [2, 3, 4, 1, 0] rfl ?_
        exact ih5 _ _ _ _ h
  refine K.less [0, 1, 2] (lv' := [(0, .ref (q 0)), (1, .ref (q (4 + 2 * t1))), (2, .int x2)]) rfl ?_
  unfold cw_takesAll at h
  refine k_iconst G dX0_takesAll_0 kc_i_0 ?_
  refine k_istore_n G [(3, .int 0), (0, .ref (q 0)), (1, .ref (q (4 + 2 * t1))), (2, .int x2)] dX0_takesAll_1 rfl (Nat.le_of_ble_eq_true rfl) rfl ?_
  refine k_iconst G dX0_takesAll_2 kc_i_0 ?_
  refine k_istore G [(4, .int 0), (3, .int 0), (0, .ref (q 0)), (1, .ref (q (4 + 2 * t1))), (2, .int x2)] dX0_takesAll_3 (Nat.le_of_ble_eq_true rfl) rfl ?_
  obtain ⟨n5, h⟩ := h
  refine K.less [2, 3, 4, 1, 0] rfl ?_
  exact hL5 n5 _ _ _ _ h
def cw_isSpoiled_L2 (T : xT) (q : Nat → Nat) (t1 : Nat) (k : Int32 → CS → Prop) : Nat → Int32 → Int32 → CS → Prop
  | 0, _, _, _ => False
  | n + 1, x2, x3, s => (4 ≤ x3 → k 0 s) ∧ (¬ 4 ≤ x3 → t1 < 10 ∧ t1 < 10 ∧ vp_in x3 4 ∧ cw_takesOf T q s t1 x2 x3 ((s.1.1 (5 + 2 * t1) (x3 : Int32).toNatClampNeg)) (fun r17 s17 => vp_in ((4 * x2) + x3) 24 ∧ (r17 ≤ (s17.1.1 3 (((4 * x2) + x3) : Int32).toNatClampNeg) → ∀ x35 : Int32, x35 = x3 + 1 → cw_isSpoiled_L2 T q t1 k n x2 x35 s17) ∧ (¬ r17 ≤ (s17.1.1 3 (((4 * x2) + x3) : Int32).toNatClampNeg) → k 1 s17)))
def cw_isSpoiled (T : xT) (q : Nat → Nat) (s : CS) (t1 : Nat) (x2 : Int32) (k : Int32 → CS → Prop) : Prop := ∃ n2 : Nat, cw_isSpoiled_L2 T q t1 k n2 x2 0 s
set_option maxHeartbeats 4000000 in
theorem vk_isSpoiled (l : Launch) (D : va_G) (T : xT) (q : Nat → Nat) (s : CS) (t1 : Nat) (x2 : Int32) (k : Int32 → CS → Prop) (h : cw_isSpoiled T q s t1 x2 k) : XM l D T yX0_isSpoiled cX0_isSpoiled 4 (some .boolean) 63 0 0 [.ref (q 0), .ref (q (4 + 2 * t1)), .int x2] (cw T q s) (cpostI T q k) := by
  refine XM.start (by decide +kernel) (Nat.le_of_ble_eq_true rfl) (fun Γ G X _ hl_ => ?_)
  subst hl_
  have hL2 : ∀ n : Nat, ∀ (x2 : Int32) (x3 : Int32) (s : CS), (cw_isSpoiled_L2 T q t1 k n) x2 x3 s → K D Γ 0 0 2 [(0, .ref (q 0)), (1, .ref (q (4 + 2 * t1))), (2, .int x2), (3, .int x3)] [] (cw T q s) := by
    intro n
    induction n with
    | zero =>
      intro _ _ _ h
      exact h.elim
    | succ n ih2 =>
      intro x2 x3 s h
      unfold cw_isSpoiled_L2 at h
      refine k_iload_n G dX0_isSpoiled_2 rfl ?_
      refine k_iconst G dX0_isSpoiled_3 kc_i_4 ?_
      obtain ⟨hA, hB⟩ := h
      refine k_icmp_ge G 41 dX0_isSpoiled_4 (by decide) (fun c4 => ?_) (fun c4 => ?_)
      · have h := hA c4
        clear hA hB
        refine k_iconst G dX0_isSpoiled_41 kc_i_0 ?_
        exact k_zret G X (Or.inl rfl) dX0_isSpoiled_42 (Nat.le_of_ble_eq_true rfl) (Nat.le_of_ble_eq_true rfl) ⟨_, _, rfl, rfl, h⟩
      · have h := hB c4
        clear hA hB
        refine k_aload_n G dX0_isSpoiled_7 rfl ?_
        refine k_aload_n G dX0_isSpoiled_8 rfl ?_
        refine k_iload_n G dX0_isSpoiled_9 rfl ?_
        refine k_iload_n G dX0_isSpoiled_10 rfl ?_
        refine k_aload_n G dX0_isSpoiled_11 rfl ?_
        obtain ⟨h0, h⟩ := h
        refine kc_held G h0 (Or.inr (List.mem_of_getElem? (i := 0) rfl)) dX0_isSpoiled_12 ?_
        refine k_iload_n G dX0_isSpoiled_15 rfl ?_
        obtain ⟨h0, h⟩ := h
        obtain ⟨h1, h⟩ := h
        refine kc_iald G (cI_time h0) dX0_isSpoiled_16 h1 ?_
        refine kc_callI G (vk_takesOf _ D T q _ _ _ _ _ _ h) gf_takesOf q568 dX0_isSpoiled_17 rfl rfl (Nat.le_of_ble_eq_true rfl) (Nat.le_of_ble_eq_true rfl) ⟨Nat.le_of_ble_eq_true rfl, Nat.le_of_ble_eq_true rfl⟩ (fun r17 s17 h => ?_)
        refine k_aload_n G dX0_isSpoiled_20 rfl ?_
        refine kc_this G cf_bears_21 dX0_isSpoiled_21 rfl ?_
        refine k_iconst G dX0_isSpoiled_24 kc_i_4 ?_
        refine k_iload_n G dX0_isSpoiled_25 rfl ?_
        refine k_imul G dX0_isSpoiled_26 ?_
        refine k_iload_n G dX0_isSpoiled_27 rfl ?_
        refine k_iadd G dX0_isSpoiled_28 ?_
        obtain ⟨h1, h⟩ := h
        refine kc_iald G cI_3 dX0_isSpoiled_29 h1 ?_
        obtain ⟨hA, hB⟩ := h
        refine k_icmp_le G 35 dX0_isSpoiled_30 (by decide) (fun c30 => ?_) (fun c30 => ?_)
        · have h := hA c30
          clear hA hB
          obtain ⟨x35, e35⟩ : ∃ y : Int32, y = x3 + 1 := ⟨_, rfl⟩
          have h := h x35 e35
          refine k_iinc G [(3, .int x35), (0, .ref (q 0)), (1, .ref (q (4 + 2 * t1))), (2, .int x2)] dX0_isSpoiled_35 rfl (v := x35) (by rw [e35, kc_i_1]) (Nat.le_of_ble_eq_true rfl) rfl ?_
          refine k_goto G 2 dX0_isSpoiled_38 (by decide) ?_
          refine K.less [1, 2, 3, 0] rfl ?_
          exact ih2 _ _ _ h
        · have h := hB c30
          clear hA hB
          refine k_iconst G dX0_isSpoiled_33 kc_i_1 ?_
          exact k_zret G X (Or.inr rfl) dX0_isSpoiled_34 (Nat.le_of_ble_eq_true rfl) (Nat.le_of_ble_eq_true rfl) ⟨_, _, rfl, rfl, h⟩
  refine K.less [0, 1, 2] (lv' := [(0, .ref (q 0)), (1, .ref (q (4 + 2 * t1))), (2, .int x2)]) rfl ?_
  unfold cw_isSpoiled at h
  refine k_iconst G dX0_isSpoiled_0 kc_i_0 ?_
  refine k_istore_n G [(3, .int 0), (0, .ref (q 0)), (1, .ref (q (4 + 2 * t1))), (2, .int x2)] dX0_isSpoiled_1 rfl (Nat.le_of_ble_eq_true rfl) rfl ?_
  obtain ⟨n2, h⟩ := h
  refine K.less [1, 2, 3, 0] rfl ?_
  exact hL2 n2 _ _ _ h
def cw_of (T : xT) (q : Nat → Nat) (s : CS) (x1 : Int32) (x2 : Int32) (k : Int32 → CS → Prop) : Prop := cw_isLoaf T q s x1 (fun r2 s2 => (¬ r2 = 0 → (x2 = 0 → vp_in x1 6 ∧ ∃ a45 : Nat, s2.1.2 1 (x1 : Int32).toNatClampNeg = some a45 ∧ ∃ (kd46 : Nat) (n46 v46 : Int32), lofR q s2 a45 kd46 n46 v46 ∧ k ((nI kd46)) s2) ∧ (x2 = 1 → vp_in x1 6 ∧ ∃ a55 : Nat, s2.1.2 1 (x1 : Int32).toNatClampNeg = some a55 ∧ ∃ (kd56 : Nat) (n56 v56 : Int32), lofR q s2 a55 kd56 n56 v56 ∧ k v56 s2) ∧ (x2 = 2 → cw_feeOf T q s2 x1 (fun r62 s62 => k r62 s62)) ∧ (x2 = 3 → cw_isSpoiled T q s2 0 x1 (fun r72 s72 => (r72 = 0 → k 0 s72) ∧ (¬ r72 = 0 → k 1 s72))) ∧ (¬ x2 = 0 → ¬ x2 = 1 → ¬ x2 = 2 → ¬ x2 = 3 → ∀ x88 : Int32, x88 = (x2 - x2 / 10 * 10) → qw_in x2 10 49 (fun r94 => (r94 = 0 → k (-1) s2) ∧ (¬ r94 = 0 → qw_isTaste x88 (fun r101 => (¬ r101 = 0 → (20 ≤ x2 → (30 ≤ x2 → (40 ≤ x2 → cw_leavesOf T q s2 0 x1 x88 (fun r182 s182 => k r182 s182)) ∧ (¬ 40 ≤ x2 → vp_in x88 4 ∧ cw_takesOf T q s2 0 x1 x88 ((s2.1.1 5 (x88 : Int32).toNatClampNeg)) (fun r169 s169 => k r169 s169))) ∧ (¬ 30 ≤ x2 → vp_in ((4 * x1) + x88) 24 ∧ k ((s2.1.1 3 (((4 * x1) + x88) : Int32).toNatClampNeg)) s2)) ∧ (¬ 20 ≤ x2 → vp_in ((4 * x1) + x88) 24 ∧ k ((s2.1.1 2 (((4 * x1) + x88) : Int32).toNatClampNeg)) s2)) ∧ (r101 = 0 → k (-1) s2)))))) ∧ (r2 = 0 → k (-1) s2))
set_option maxHeartbeats 4000000 in
theorem vk_of (l : Launch) (D : va_G) (T : xT) (q : Nat → Nat) (s : CS) (x1 : Int32) (x2 : Int32) (k : Int32 → CS → Prop) (h : cw_of T q s x1 x2 k) : XM l D T yX0_of cX0_of 4 (some .int) 65 0 0 [.ref (q 0), .int x1, .int x2] (cw T q s) (cpostI T q k) := by
  refine XM.start (by decide +kernel) (Nat.le_of_ble_eq_true rfl) (fun Γ G X _ hl_ => ?_)
  subst hl_
  refine K.less [0, 1, 2] (lv' := [(0, .ref (q 0)), (1, .int x1), (2, .int x2)]) rfl ?_
  unfold cw_of at h
  refine k_aload_n G dX0_of_0 rfl ?_
  refine k_iload_n G dX0_of_1 rfl ?_
  refine kc_callI G (vk_isLoaf _ D T q _ _ _ h) gf_isLoaf q475 dX0_of_2 rfl rfl (Nat.le_of_ble_eq_true rfl) (Nat.le_of_ble_eq_true rfl) ⟨Nat.le_of_ble_eq_true rfl, Nat.le_of_ble_eq_true rfl⟩ (fun r2 s2 h => ?_)
  obtain ⟨hA, hB⟩ := h
  refine k_if_ne G 10 dX0_of_5 (by decide) (fun c5 => ?_) (fun c5 => ?_)
  · have h := hA c5
    clear hA hB
    refine k_iload_n G dX0_of_10 rfl ?_
    obtain ⟨h0_, h1_, h2_, h3_, hD_⟩ := h
    by_cases c11_0 : x2 = 0
    · refine k_tswIn G 0 c11_0 40 dX0_of_11 (by decide +kernel) (by decide +kernel) rfl (by decide) ?_
      have h := h0_ c11_0
      clear h0_ h1_ h2_ h3_ hD_
      refine k_aload_n G dX0_of_40 rfl ?_
      refine kc_this G cf_loaves_13 dX0_of_41 rfl ?_
      refine k_iload_n G dX0_of_44 rfl ?_
      obtain ⟨h1, h⟩ := h
      obtain ⟨a45, ha, h⟩ := h
      refine kc_aaldL G cJ_1 dX0_of_45 h1 ha ?_
      obtain ⟨kd46, n46, v46, hl, h⟩ := h
      refine kl_kind G hl q486 dX0_of_46 (Nat.le_of_ble_eq_true rfl) (Nat.le_of_ble_eq_true rfl) ⟨Nat.le_of_ble_eq_true rfl, Nat.le_of_ble_eq_true rfl⟩ ?_
      exact k_iret G X dX0_of_49 (Nat.le_of_ble_eq_true rfl) (Nat.le_of_ble_eq_true rfl) ⟨_, _, rfl, rfl, h⟩
    by_cases c11_1 : x2 = 1
    · refine k_tswIn G 1 c11_1 50 dX0_of_11 (by decide +kernel) (by decide +kernel) rfl (by decide) ?_
      have h := h1_ c11_1
      clear h0_ h1_ h2_ h3_ hD_
      refine k_aload_n G dX0_of_50 rfl ?_
      refine kc_this G cf_loaves_13 dX0_of_51 rfl ?_
      refine k_iload_n G dX0_of_54 rfl ?_
      obtain ⟨h1, h⟩ := h
      obtain ⟨a55, ha, h⟩ := h
      refine kc_aaldL G cJ_1 dX0_of_55 h1 ha ?_
      obtain ⟨kd56, n56, v56, hl, h⟩ := h
      refine kl_v G hl q407 dX0_of_56 ?_
      exact k_iret G X dX0_of_59 (Nat.le_of_ble_eq_true rfl) (Nat.le_of_ble_eq_true rfl) ⟨_, _, rfl, rfl, h⟩
    by_cases c11_2 : x2 = 2
    · refine k_tswIn G 2 c11_2 60 dX0_of_11 (by decide +kernel) (by decide +kernel) rfl (by decide) ?_
      have h := h2_ c11_2
      clear h0_ h1_ h2_ h3_ hD_
      refine k_aload_n G dX0_of_60 rfl ?_
      refine k_iload_n G dX0_of_61 rfl ?_
      refine kc_callI G (vk_feeOf _ D T q _ _ _ h) gf_feeOf q509 dX0_of_62 rfl rfl (Nat.le_of_ble_eq_true rfl) (Nat.le_of_ble_eq_true rfl) ⟨Nat.le_of_ble_eq_true rfl, Nat.le_of_ble_eq_true rfl⟩ (fun r62 s62 h => ?_)
      exact k_iret G X dX0_of_65 (Nat.le_of_ble_eq_true rfl) (Nat.le_of_ble_eq_true rfl) ⟨_, _, rfl, rfl, h⟩
    by_cases c11_3 : x2 = 3
    · refine k_tswIn G 3 c11_3 66 dX0_of_11 (by decide +kernel) (by decide +kernel) rfl (by decide) ?_
      have h := h3_ c11_3
      clear h0_ h1_ h2_ h3_ hD_
      refine k_aload_n G dX0_of_66 rfl ?_
      refine k_aload_n G dX0_of_67 rfl ?_
      refine kc_this G cf_now_27 dX0_of_68 rfl ?_
      refine k_iload_n G dX0_of_71 rfl ?_
      refine kc_callI G (vk_isSpoiled _ D T q _ _ _ _ h) gf_isSpoiled q564 dX0_of_72 rfl rfl (Nat.le_of_ble_eq_true rfl) (Nat.le_of_ble_eq_true rfl) ⟨Nat.le_of_ble_eq_true rfl, Nat.le_of_ble_eq_true rfl⟩ (fun r72 s72 h => ?_)
      obtain ⟨hA, hB⟩ := h
      refine k_if_eq G 82 dX0_of_75 (by decide) (fun c75 => ?_) (fun c75 => ?_)
      · have h := hA c75
        clear hA hB
        refine k_iconst G dX0_of_82 kc_i_0 ?_
        exact k_iret G X dX0_of_83 (Nat.le_of_ble_eq_true rfl) (Nat.le_of_ble_eq_true rfl) ⟨_, _, rfl, rfl, h⟩
      · have h := hB c75
        clear hA hB
        refine k_iconst G dX0_of_78 kc_i_1 ?_
        refine k_goto G 83 dX0_of_79 (by decide) ?_
        exact k_iret G X dX0_of_83 (Nat.le_of_ble_eq_true rfl) (Nat.le_of_ble_eq_true rfl) ⟨_, _, rfl, rfl, h⟩
    refine k_tswD G [0, 1, 2, 3] 84 dX0_of_11 (by decide +kernel) (by decide +kernel) (List.forall_mem_cons.mpr ⟨c11_0, List.forall_mem_cons.mpr ⟨c11_1, List.forall_mem_cons.mpr ⟨c11_2, List.forall_mem_cons.mpr ⟨c11_3, fun _ h => absurd h List.not_mem_nil⟩⟩⟩⟩) (by decide) ?_
    have h := hD_ c11_0 c11_1 c11_2 c11_3
    clear h0_ h1_ h2_ h3_ hD_
    refine k_iload_n G dX0_of_84 rfl ?_
    refine k_bipush G dX0_of_85 kc_b_10 ?_
    refine k_irem G dX0_of_87 (by decide) ?_
    refine k_nmI (fun x88 e88 => ?_)
    have h := h x88 e88
    refine k_istore_n G [(3, .int x88), (0, .ref (q 0)), (1, .int x1), (2, .int x2)] dX0_of_88 rfl (Nat.le_of_ble_eq_true rfl) rfl ?_
    refine k_iload_n G dX0_of_89 rfl ?_
    refine k_bipush G dX0_of_90 kc_b_10 ?_
    refine k_bipush G dX0_of_92 kc_b_49 ?_
    refine k_callPI G (vk_in _ D T _ _ _ _ h) gf_in q368 dX0_of_94 rfl rfl (Nat.le_of_ble_eq_true rfl) (Nat.le_of_ble_eq_true rfl) ⟨Nat.le_of_ble_eq_true rfl, Nat.le_of_ble_eq_true rfl⟩ (fun r94 h => ?_)
    obtain ⟨hA, hB⟩ := h
    refine k_if_eq G 107 dX0_of_97 (by decide) (fun c97 => ?_) (fun c97 => ?_)
    · have h := hA c97
      clear hA hB
      refine k_iconst G dX0_of_107 kc_i_m1 ?_
      exact k_iret G X dX0_of_108 (Nat.le_of_ble_eq_true rfl) (Nat.le_of_ble_eq_true rfl) ⟨_, _, rfl, rfl, h⟩
    · have h := hB c97
      clear hA hB
      refine k_iload_n G dX0_of_100 rfl ?_
      refine k_callPI G (vk_isTaste _ D T _ _ h) gf_isTaste q479 dX0_of_101 rfl rfl (Nat.le_of_ble_eq_true rfl) (Nat.le_of_ble_eq_true rfl) ⟨Nat.le_of_ble_eq_true rfl, Nat.le_of_ble_eq_true rfl⟩ (fun r101 h => ?_)
      obtain ⟨hA, hB⟩ := h
      refine k_if_ne G 109 dX0_of_104 (by decide) (fun c104 => ?_) (fun c104 => ?_)
      · have h := hA c104
        clear hA hB
        refine k_iload_n G dX0_of_109 rfl ?_
        refine k_bipush G dX0_of_110 kc_b_20 ?_
        obtain ⟨hA, hB⟩ := h
        refine k_icmp_ge G 128 dX0_of_112 (by decide) (fun c112 => ?_) (fun c112 => ?_)
        · have h := hA c112
          clear hA hB
          refine k_iload_n G dX0_of_128 rfl ?_
          refine k_bipush G dX0_of_129 kc_b_30 ?_
          obtain ⟨hA, hB⟩ := h
          refine k_icmp_ge G 147 dX0_of_131 (by decide) (fun c131 => ?_) (fun c131 => ?_)
          · have h := hA c131
            clear hA hB
            refine k_iload_n G dX0_of_147 rfl ?_
            refine k_bipush G dX0_of_148 kc_b_40 ?_
            obtain ⟨hA, hB⟩ := h
            refine k_icmp_ge G 175 dX0_of_150 (by decide) (fun c150 => ?_) (fun c150 => ?_)
            · have h := hA c150
              clear hA hB
              refine k_aload_n G dX0_of_175 rfl ?_
              refine k_aload_n G dX0_of_176 rfl ?_
              refine kc_this G cf_now_27 dX0_of_177 rfl ?_
              refine k_iload_n G dX0_of_180 rfl ?_
              refine k_iload_n G dX0_of_181 rfl ?_
              refine kc_callI G (vk_leavesOf _ D T q _ _ _ _ _ h) gf_leavesOf q616 dX0_of_182 rfl rfl (Nat.le_of_ble_eq_true rfl) (Nat.le_of_ble_eq_true rfl) ⟨Nat.le_of_ble_eq_true rfl, Nat.le_of_ble_eq_true rfl⟩ (fun r182 s182 h => ?_)
              exact k_iret G X dX0_of_185 (Nat.le_of_ble_eq_true rfl) (Nat.le_of_ble_eq_true rfl) ⟨_, _, rfl, rfl, h⟩
            · have h := hB c150
              clear hA hB
              refine k_aload_n G dX0_of_153 rfl ?_
              refine k_aload_n G dX0_of_154 rfl ?_
              refine kc_this G cf_now_27 dX0_of_155 rfl ?_
              refine k_iload_n G dX0_of_158 rfl ?_
              refine k_iload_n G dX0_of_159 rfl ?_
              refine k_aload_n G dX0_of_160 rfl ?_
              refine kc_this G cf_now_27 dX0_of_161 rfl ?_
              refine kc_held G (t := 0) (by decide) (Or.inr (List.mem_of_getElem? (i := 0) rfl)) dX0_of_164 ?_
              refine k_iload_n G dX0_of_167 rfl ?_
              obtain ⟨h1, h⟩ := h
              refine kc_iald G cI_5 dX0_of_168 h1 ?_
              refine kc_callI G (vk_takesOf _ D T q _ _ _ _ _ _ h) gf_takesOf q568 dX0_of_169 rfl rfl (Nat.le_of_ble_eq_true rfl) (Nat.le_of_ble_eq_true rfl) ⟨Nat.le_of_ble_eq_true rfl, Nat.le_of_ble_eq_true rfl⟩ (fun r169 s169 h => ?_)
              refine k_goto G 185 dX0_of_172 (by decide) ?_
              exact k_iret G X dX0_of_185 (Nat.le_of_ble_eq_true rfl) (Nat.le_of_ble_eq_true rfl) ⟨_, _, rfl, rfl, h⟩
          · have h := hB c131
            clear hA hB
            refine k_aload_n G dX0_of_134 rfl ?_
            refine kc_this G cf_bears_21 dX0_of_135 rfl ?_
            refine k_iconst G dX0_of_138 kc_i_4 ?_
            refine k_iload_n G dX0_of_139 rfl ?_
            refine k_imul G dX0_of_140 ?_
            refine k_iload_n G dX0_of_141 rfl ?_
            refine k_iadd G dX0_of_142 ?_
            obtain ⟨h1, h⟩ := h
            refine kc_iald G cI_3 dX0_of_143 h1 ?_
            refine k_goto G 185 dX0_of_144 (by decide) ?_
            exact k_iret G X dX0_of_185 (Nat.le_of_ble_eq_true rfl) (Nat.le_of_ble_eq_true rfl) ⟨_, _, rfl, rfl, h⟩
        · have h := hB c112
          clear hA hB
          refine k_aload_n G dX0_of_115 rfl ?_
          refine kc_this G cf_gives_17 dX0_of_116 rfl ?_
          refine k_iconst G dX0_of_119 kc_i_4 ?_
          refine k_iload_n G dX0_of_120 rfl ?_
          refine k_imul G dX0_of_121 ?_
          refine k_iload_n G dX0_of_122 rfl ?_
          refine k_iadd G dX0_of_123 ?_
          obtain ⟨h1, h⟩ := h
          refine kc_iald G cI_2 dX0_of_124 h1 ?_
          refine k_goto G 185 dX0_of_125 (by decide) ?_
          exact k_iret G X dX0_of_185 (Nat.le_of_ble_eq_true rfl) (Nat.le_of_ble_eq_true rfl) ⟨_, _, rfl, rfl, h⟩
      · have h := hB c104
        clear hA hB
        refine k_iconst G dX0_of_107 kc_i_m1 ?_
        exact k_iret G X dX0_of_108 (Nat.le_of_ble_eq_true rfl) (Nat.le_of_ble_eq_true rfl) ⟨_, _, rfl, rfl, h⟩
  · have h := hB c5
    clear hA hB
    refine k_iconst G dX0_of_8 kc_i_m1 ?_
    exact k_iret G X dX0_of_9 (Nat.le_of_ble_eq_true rfl) (Nat.le_of_ble_eq_true rfl) ⟨_, _, rfl, rfl, h⟩
def cw_oven (T : xT) (q : Nat → Nat) (s : CS) (x1 : Int32) (x2 : Int32) (k : Int32 → CS → Prop) : Prop := qw_isTaste x1 (fun r1 => (¬ r1 = 0 → qw_in x2 0 9999 (fun r14 => (¬ r14 = 0 → vp_in x1 4 ∧ ∀ x32 : Int32, x32 = (s.1.1 5 (x1 : Int32).toNatClampNeg) → vp_in x1 4 ∧ k x32 ((cA s 5 (x1 : Int32).toNatClampNeg x2))) ∧ (r14 = 0 → k (-2) s))) ∧ (r1 = 0 → k (-1) s))
set_option maxHeartbeats 4000000 in
theorem vk_oven (l : Launch) (D : va_G) (T : xT) (q : Nat → Nat) (s : CS) (x1 : Int32) (x2 : Int32) (k : Int32 → CS → Prop) (h : cw_oven T q s x1 x2 k) : XM l D T yX0_oven cX0_oven 4 (some .int) 5 0 0 [.ref (q 0), .int x1, .int x2] (cw T q s) (cpostI T q k) := by
  refine XM.start (by decide +kernel) (Nat.le_of_ble_eq_true rfl) (fun Γ G X _ hl_ => ?_)
  subst hl_
  refine K.less [0, 1, 2] (lv' := [(0, .ref (q 0)), (1, .int x1), (2, .int x2)]) rfl ?_
  unfold cw_oven at h
  refine k_iload_n G dX0_oven_0 rfl ?_
  refine k_callPI G (vk_isTaste _ D T _ _ h) gf_isTaste q479 dX0_oven_1 rfl rfl (Nat.le_of_ble_eq_true rfl) (Nat.le_of_ble_eq_true rfl) ⟨Nat.le_of_ble_eq_true rfl, Nat.le_of_ble_eq_true rfl⟩ (fun r1 h => ?_)
  obtain ⟨hA, hB⟩ := h
  refine k_if_ne G 9 dX0_oven_4 (by decide) (fun c4 => ?_) (fun c4 => ?_)
  · have h := hA c4
    clear hA hB
    refine k_iload_n G dX0_oven_9 rfl ?_
    refine k_iconst G dX0_oven_10 kc_i_0 ?_
    refine k_sipush G dX0_oven_11 kc_s_9999 ?_
    refine k_callPI G (vk_in _ D T _ _ _ _ h) gf_in q368 dX0_oven_14 rfl rfl (Nat.le_of_ble_eq_true rfl) (Nat.le_of_ble_eq_true rfl) ⟨Nat.le_of_ble_eq_true rfl, Nat.le_of_ble_eq_true rfl⟩ (fun r14 h => ?_)
    obtain ⟨hA, hB⟩ := h
    refine k_if_ne G 23 dX0_oven_17 (by decide) (fun c17 => ?_) (fun c17 => ?_)
    · have h := hA c17
      clear hA hB
      refine k_aload_n G dX0_oven_23 rfl ?_
      refine kc_this G cf_now_27 dX0_oven_24 rfl ?_
      refine kc_held G (t := 0) (by decide) (Or.inr (List.mem_of_getElem? (i := 0) rfl)) dX0_oven_27 ?_
      refine k_iload_n G dX0_oven_30 rfl ?_
      obtain ⟨h1, h⟩ := h
      refine kc_iald G cI_5 dX0_oven_31 h1 ?_
      refine k_nmI (fun x32 e32 => ?_)
      have h := h x32 e32
      refine k_istore_n G [(3, .int x32), (0, .ref (q 0)), (1, .int x1), (2, .int x2)] dX0_oven_32 rfl (Nat.le_of_ble_eq_true rfl) rfl ?_
      refine k_aload_n G dX0_oven_33 rfl ?_
      refine kc_this G cf_now_27 dX0_oven_34 rfl ?_
      refine kc_held G (t := 0) (by decide) (Or.inr (List.mem_of_getElem? (i := 0) rfl)) dX0_oven_37 ?_
      refine k_iload_n G dX0_oven_40 rfl ?_
      refine k_iload_n G dX0_oven_41 rfl ?_
      obtain ⟨h1, h⟩ := h
      refine kc_iast G cI_5 dX0_oven_42 h1 ?_
      refine k_iload_n G dX0_oven_43 rfl ?_
      exact k_iret G X dX0_oven_44 (Nat.le_of_ble_eq_true rfl) (Nat.le_of_ble_eq_true rfl) ⟨_, _, rfl, rfl, h⟩
    · have h := hB c17
      clear hA hB
      refine k_bipush G dX0_oven_20 kc_b_m2 ?_
      exact k_iret G X dX0_oven_22 (Nat.le_of_ble_eq_true rfl) (Nat.le_of_ble_eq_true rfl) ⟨_, _, rfl, rfl, h⟩
  · have h := hB c4
    clear hA hB
    refine k_iconst G dX0_oven_7 kc_i_m1 ?_
    exact k_iret G X dX0_oven_8 (Nat.le_of_ble_eq_true rfl) (Nat.le_of_ble_eq_true rfl) ⟨_, _, rfl, rfl, h⟩
def cw_feed (T : xT) (q : Nat → Nat) (s : CS) (x1 : Int32) (k : Int32 → CS → Prop) : Prop := qw_in x1 0 127 (fun r4 => (¬ r4 = 0 → (¬ (s.1.1 0 7) = 100 → ∀ x34 : Int32, x34 = (s.1.1 0 7) → ∀ w42 : CS, w42 = (cA s 0 7 (x34 + 1)) → vp_in x34 100 ∧ ∀ w44 : CS, w44 = (cA w42 24 (x34 : Int32).toNatClampNeg (vp_nar .byte (x1 : Int32).toInt8.toInt32)) → k ((w44.1.1 0 7)) w44) ∧ ((s.1.1 0 7) = 100 → k (-4) s)) ∧ (r4 = 0 → k (-2) s))
set_option maxHeartbeats 4000000 in
theorem vk_feed (l : Launch) (D : va_G) (T : xT) (q : Nat → Nat) (s : CS) (x1 : Int32) (k : Int32 → CS → Prop) (h : cw_feed T q s x1 k) : XM l D T yX0_feed cX0_feed 2 (some .int) 3 0 0 [.ref (q 0), .int x1] (cw T q s) (cpostI T q k) := by
  refine XM.start (by decide +kernel) (Nat.le_of_ble_eq_true rfl) (fun Γ G X _ hl_ => ?_)
  subst hl_
  refine K.less [0, 1] (lv' := [(0, .ref (q 0)), (1, .int x1)]) rfl ?_
  unfold cw_feed at h
  refine k_iload_n G dX0_feed_0 rfl ?_
  refine k_iconst G dX0_feed_1 kc_i_0 ?_
  refine k_bipush G dX0_feed_2 kc_b_127 ?_
  refine k_callPI G (vk_in _ D T _ _ _ _ h) gf_in q368 dX0_feed_4 rfl rfl (Nat.le_of_ble_eq_true rfl) (Nat.le_of_ble_eq_true rfl) ⟨Nat.le_of_ble_eq_true rfl, Nat.le_of_ble_eq_true rfl⟩ (fun r4 h => ?_)
  obtain ⟨hA, hB⟩ := h
  refine k_if_ne G 13 dX0_feed_7 (by decide) (fun c7 => ?_) (fun c7 => ?_)
  · have h := hA c7
    clear hA hB
    refine k_aload_n G dX0_feed_13 rfl ?_
    refine kc_this G cf_texted_223 dX0_feed_14 rfl ?_
    refine k_bipush G dX0_feed_17 kc_b_100 ?_
    obtain ⟨hA, hB⟩ := h
    refine k_icmp_ne G 25 dX0_feed_19 (by decide) (fun c19 => ?_) (fun c19 => ?_)
    · have h := hA c19
      clear hA hB
      refine k_aload_n G dX0_feed_25 rfl ?_
      refine kc_this G cf_text_34 dX0_feed_26 rfl ?_
      refine k_aload_n G dX0_feed_29 rfl ?_
      refine k_dup G dX0_feed_30 rfl ?_
      refine kc_this G cf_texted_223 dX0_feed_31 rfl ?_
      refine k_nmI (fun x34 e34 => ?_)
      have h := h x34 e34
      refine k_dup_x1 G dX0_feed_34 rfl rfl ?_
      refine k_iconst G dX0_feed_35 kc_i_1 ?_
      refine k_iadd G dX0_feed_36 ?_
      refine kc_put G cp_texted_223 dX0_feed_37 ?_
      refine k_iload_n G dX0_feed_40 rfl ?_
      refine k_i2b G dX0_feed_41 ?_
      refine kc_nmW (fun w42 ew42 => ?_)
      have h := h w42 ew42
      obtain ⟨h1, h⟩ := h
      refine kc_bast G cI_24 dX0_feed_42 h1 ?_
      refine k_aload_n G dX0_feed_43 rfl ?_
      refine kc_nmW (fun w44 ew44 => ?_)
      have h := h w44 ew44
      refine kc_this G cf_texted_223 dX0_feed_44 rfl ?_
      exact k_iret G X dX0_feed_47 (Nat.le_of_ble_eq_true rfl) (Nat.le_of_ble_eq_true rfl) ⟨_, _, rfl, rfl, h⟩
    · have h := hB c19
      clear hA hB
      refine k_bipush G dX0_feed_22 kc_b_m4 ?_
      exact k_iret G X dX0_feed_24 (Nat.le_of_ble_eq_true rfl) (Nat.le_of_ble_eq_true rfl) ⟨_, _, rfl, rfl, h⟩
  · have h := hB c7
    clear hA hB
    refine k_bipush G dX0_feed_10 kc_b_m2 ?_
    exact k_iret G X dX0_feed_12 (Nat.le_of_ble_eq_true rfl) (Nat.le_of_ble_eq_true rfl) ⟨_, _, rfl, rfl, h⟩
def cw_told (T : xT) (q : Nat → Nat) (s : CS) (x1 : Int32) (k : Int32 → CS → Prop) : Prop := qw_isTaste x1 (fun r1 => (r1 = 0 → (¬ x1 = 4 → (¬ x1 = 5 → k (-1) s) ∧ (x1 = 5 → ∃ κ41 : KD, kilR T s (s.1.2 0 9) κ41 ∧ k (κ41.2.2.2) s)) ∧ (x1 = 4 → k ((s.1.1 4 1)) s)) ∧ (¬ r1 = 0 → vp_in x1 4 ∧ k ((s.1.1 5 (x1 : Int32).toNatClampNeg)) s))
set_option maxHeartbeats 4000000 in
theorem vk_told (l : Launch) (D : va_G) (T : xT) (q : Nat → Nat) (s : CS) (x1 : Int32) (k : Int32 → CS → Prop) (h : cw_told T q s x1 k) : XM l D T yX0_told cX0_told 2 (some .int) 5 0 0 [.ref (q 0), .int x1] (cw T q s) (cpostI T q k) := by
  refine XM.start (by decide +kernel) (Nat.le_of_ble_eq_true rfl) (fun Γ G X _ hl_ => ?_)
  subst hl_
  refine K.less [0, 1] (lv' := [(0, .ref (q 0)), (1, .int x1)]) rfl ?_
  unfold cw_told at h
  refine k_iload_n G dX0_told_0 rfl ?_
  refine k_callPI G (vk_isTaste _ D T _ _ h) gf_isTaste q479 dX0_told_1 rfl rfl (Nat.le_of_ble_eq_true rfl) (Nat.le_of_ble_eq_true rfl) ⟨Nat.le_of_ble_eq_true rfl, Nat.le_of_ble_eq_true rfl⟩ (fun r1 h => ?_)
  obtain ⟨hA, hB⟩ := h
  refine k_if_eq G 17 dX0_told_4 (by decide) (fun c4 => ?_) (fun c4 => ?_)
  · have h := hA c4
    clear hA hB
    refine k_iload_n G dX0_told_17 rfl ?_
    refine k_iconst G dX0_told_18 kc_i_4 ?_
    obtain ⟨hA, hB⟩ := h
    refine k_icmp_ne G 32 dX0_told_19 (by decide) (fun c19 => ?_) (fun c19 => ?_)
    · have h := hA c19
      clear hA hB
      refine k_iload_n G dX0_told_32 rfl ?_
      refine k_iconst G dX0_told_33 kc_i_5 ?_
      obtain ⟨hA, hB⟩ := h
      refine k_icmp_ne G 47 dX0_told_34 (by decide) (fun c34 => ?_) (fun c34 => ?_)
      · have h := hA c34
        clear hA hB
        refine k_iconst G dX0_told_47 kc_i_m1 ?_
        exact k_iret G X dX0_told_48 (Nat.le_of_ble_eq_true rfl) (Nat.le_of_ble_eq_true rfl) ⟨_, _, rfl, rfl, h⟩
      · have h := hB c34
        clear hA hB
        refine k_aload_n G dX0_told_37 rfl ?_
        refine kc_this G cf_kiln_41 dX0_told_38 rfl ?_
        obtain ⟨κ41, hk, h⟩ := h
        refine kl_cold G hk (Or.inr (List.mem_of_getElem? (i := 7) rfl)) dX0_told_41 ?_
        refine k_goto G 48 dX0_told_44 (by decide) ?_
        exact k_iret G X dX0_told_48 (Nat.le_of_ble_eq_true rfl) (Nat.le_of_ble_eq_true rfl) ⟨_, _, rfl, rfl, h⟩
    · have h := hB c19
      clear hA hB
      refine k_aload_n G dX0_told_22 rfl ?_
      refine kc_this G cf_now_27 dX0_told_23 rfl ?_
      refine kc_hour G (t := 0) (by decide) (Or.inr (List.mem_of_getElem? (i := 1) rfl)) dX0_told_26 ?_
      refine k_goto G 48 dX0_told_29 (by decide) ?_
      exact k_iret G X dX0_told_48 (Nat.le_of_ble_eq_true rfl) (Nat.le_of_ble_eq_true rfl) ⟨_, _, rfl, rfl, h⟩
  · have h := hB c4
    clear hA hB
    refine k_aload_n G dX0_told_7 rfl ?_
    refine kc_this G cf_now_27 dX0_told_8 rfl ?_
    refine kc_held G (t := 0) (by decide) (Or.inr (List.mem_of_getElem? (i := 0) rfl)) dX0_told_11 ?_
    refine k_iload_n G dX0_told_14 rfl ?_
    obtain ⟨h1, h⟩ := h
    refine kc_iald G cI_5 dX0_told_15 h1 ?_
    exact k_iret G X dX0_told_16 (Nat.le_of_ble_eq_true rfl) (Nat.le_of_ble_eq_true rfl) ⟨_, _, rfl, rfl, h⟩
def cw_goes_L80 (T : xT) (q : Nat → Nat) (t1 : Nat) (k : Int32 → CS → Prop) : Nat → Int32 → Int32 → CS → Prop
  | 0, _, _, _ => False
  | n + 1, x3, x4, s => (4 ≤ x4 → t1 < 10 ∧ t1 < 10 ∧ (x3 = 0 ∨ x3 = 1) ∧ k x3 ((cA s (4 + 2 * t1) 1 (imin 9999 ((s.1.1 (4 + 2 * t1) 1) + 1))))) ∧ (¬ 4 ≤ x4 → t1 < 10 ∧ t1 < 10 ∧ t1 < 10 ∧ vp_in x4 4 ∧ vp_in x4 4 ∧ vp_in x4 4 ∧ t1 < 10 ∧ vp_in x4 4 ∧ ∀ x122 : Int32, x122 = x4 + 1 → cw_goes_L80 T q t1 k n x3 x122 ((cA s (5 + 2 * t1) (x4 : Int32).toNatClampNeg (imin 9999 (((s.1.1 (5 + 2 * t1) (x4 : Int32).toNatClampNeg) - (s.1.1 37 (x4 : Int32).toNatClampNeg)) + (s.1.1 38 (x4 : Int32).toNatClampNeg))))))
def cw_goes_J71 (T : xT) (q : Nat → Nat) (t1 : Nat) (kL5 : Int32 → Int32 → Int32 → CS → Prop) (k : Int32 → CS → Prop) (x2 : Int32) (x3 : Int32) (x4 : Int32) (s : CS) : Prop := ∀ x71 : Int32, x71 = x4 + 1 → kL5 x2 x3 x71 s
def cw_goes_L5 (T : xT) (q : Nat → Nat) (t1 : Nat) (k : Int32 → CS → Prop) : Nat → Int32 → Int32 → Int32 → CS → Prop
  | 0, _, _, _, _ => False
  | n + 1, x2, x3, x4, s => (4 ≤ x4 → ∃ n80 : Nat, cw_goes_L80 T q t1 k n80 x3 0 s) ∧ (¬ 4 ≤ x4 → t1 < 10 ∧ t1 < 10 ∧ vp_in x4 4 ∧ cw_takesOf T q s t1 x2 x4 ((s.1.1 (5 + 2 * t1) (x4 : Int32).toNatClampNeg)) (fun r29 s29 => vp_in x4 4 ∧ ∀ w44 : CS, w44 = (cA s29 37 (x4 : Int32).toNatClampNeg r29) → cw_leavesOf T q w44 t1 x2 x4 (fun r44 s44 => vp_in x4 4 ∧ ∀ w54 : CS, w54 = (cA s44 38 (x4 : Int32).toNatClampNeg r44) → vp_in x4 4 ∧ vp_in ((4 * x2) + x4) 24 ∧ ((w54.1.1 37 (x4 : Int32).toNatClampNeg) ≤ (w54.1.1 3 (((4 * x2) + x4) : Int32).toNatClampNeg) → cw_goes_J71 T q t1 (fun x2 x3 x4 s => cw_goes_L5 T q t1 k n x2 x3 x4 s) k x2 x3 x4 w54) ∧ (¬ (w54.1.1 37 (x4 : Int32).toNatClampNeg) ≤ (w54.1.1 3 (((4 * x2) + x4) : Int32).toNatClampNeg) → cw_goes_J71 T q t1 (fun x2 x3 x4 s => cw_goes_L5 T q t1 k n x2 x3 x4 s) k x2 1 x4 w54))))
def cw_goes (T : xT) (q : Nat → Nat) (s : CS) (t1 : Nat) (x2 : Int32) (k : Int32 → CS → Prop) : Prop := ∃ n5 : Nat, cw_goes_L5 T q t1 k n5 x2 0 0 s
set_option maxHeartbeats 4000000 in
theorem vk_goes (l : Launch) (D : va_G) (T : xT) (q : Nat → Nat) (s : CS) (t1 : Nat) (x2 : Int32) (k : Int32 → CS → Prop) (h : cw_goes T q s t1 x2 k) : XM l D T yX0_goes cX0_goes 5 (some .boolean) 63 0 0 [.ref (q 0), .ref (q (4 + 2 * t1)), .int x2] (cw T q s) (cpostI T q k) := by
  refine XM.start (by decide +kernel) (Nat.le_of_ble_eq_true rfl) (fun Γ G X _ hl_ => ?_)
  subst hl_
  have hL80 : ∀ n : Nat, ∀ (x3 : Int32) (x4 : Int32) (s : CS), (cw_goes_L80 T q t1 k n) x3 x4 s → K D Γ 0 0 80 [(0, .ref (q 0)), (1, .ref (q (4 + 2 * t1))), (3, .int x3), (4, .int x4)] [] (cw T q s) := by
    intro n
    induction n with
    | zero =>
      intro _ _ _ h
      exact h.elim
    | succ n ih80 =>
      intro x3 x4 s h
      unfold cw_goes_L80 at h
      refine k_iload G dX0_goes_80 rfl ?_
      refine k_iconst G dX0_goes_82 kc_i_4 ?_
      obtain ⟨hA, hB⟩ := h
      refine k_icmp_ge G 128 dX0_goes_83 (by decide) (fun c83 => ?_) (fun c83 => ?_)
      · have h := hA c83
        clear hA hB
        refine k_aload_n G dX0_goes_128 rfl ?_
        refine k_sipush G dX0_goes_129 kc_s_9999 ?_
        refine k_aload_n G dX0_goes_132 rfl ?_
        obtain ⟨h0, h⟩ := h
        refine kc_hour G h0 (Or.inr (List.mem_of_getElem? (i := 1) rfl)) dX0_goes_133 ?_
        refine k_iconst G dX0_goes_136 kc_i_1 ?_
        refine k_iadd G dX0_goes_137 ?_
        refine kx_min G q612 dX0_goes_138 (Nat.le_of_ble_eq_true rfl) (Nat.le_of_ble_eq_true rfl) ⟨Nat.le_of_ble_eq_true rfl, Nat.le_of_ble_eq_true rfl⟩ ?_
        obtain ⟨h0, h⟩ := h
        refine kc_putHour G h0 (Or.inr (List.mem_of_getElem? (i := 1) rfl)) dX0_goes_141 ?_
        refine k_iload_n G dX0_goes_144 rfl ?_
        obtain ⟨hz, h⟩ := h
        exact k_zret G X hz dX0_goes_145 (Nat.le_of_ble_eq_true rfl) (Nat.le_of_ble_eq_true rfl) ⟨_, _, rfl, rfl, h⟩
      · have h := hB c83
        clear hA hB
        refine k_aload_n G dX0_goes_86 rfl ?_
        obtain ⟨h0, h⟩ := h
        refine kc_held G h0 (Or.inr (List.mem_of_getElem? (i := 0) rfl)) dX0_goes_87 ?_
        refine k_iload G dX0_goes_90 rfl ?_
        refine k_sipush G dX0_goes_92 kc_s_9999 ?_
        refine k_aload_n G dX0_goes_95 rfl ?_
        obtain ⟨h0, h⟩ := h
        refine kc_held G h0 (Or.inr (List.mem_of_getElem? (i := 0) rfl)) dX0_goes_96 ?_
        refine k_iload G dX0_goes_99 rfl ?_
        obtain ⟨h0, h⟩ := h
        obtain ⟨h1, h⟩ := h
        refine kc_iald G (cI_time h0) dX0_goes_101 h1 ?_
        refine k_aload_n G dX0_goes_102 rfl ?_
        refine kc_this G cf_took_72 dX0_goes_103 rfl ?_
        refine k_iload G dX0_goes_106 rfl ?_
        obtain ⟨h1, h⟩ := h
        refine kc_iald G cI_37 dX0_goes_108 h1 ?_
        refine k_isub G dX0_goes_109 ?_
        refine k_aload_n G dX0_goes_110 rfl ?_
        refine kc_this G cf_left_75 dX0_goes_111 rfl ?_
        refine k_iload G dX0_goes_114 rfl ?_
        obtain ⟨h1, h⟩ := h
        refine kc_iald G cI_38 dX0_goes_116 h1 ?_
        refine k_iadd G dX0_goes_117 ?_
        refine kx_min G q612 dX0_goes_118 (Nat.le_of_ble_eq_true rfl) (Nat.le_of_ble_eq_true rfl) ⟨Nat.le_of_ble_eq_true rfl, Nat.le_of_ble_eq_true rfl⟩ ?_
        obtain ⟨h0, h⟩ := h
        obtain ⟨h1, h⟩ := h
        refine kc_iast G (cI_time h0) dX0_goes_121 h1 ?_
        obtain ⟨x122, e122⟩ : ∃ y : Int32, y = x4 + 1 := ⟨_, rfl⟩
        have h := h x122 e122
        refine k_iinc G [(4, .int x122), (0, .ref (q 0)), (1, .ref (q (4 + 2 * t1))), (3, .int x3)] dX0_goes_122 rfl (v := x122) (by rw [e122, kc_i_1]) (Nat.le_of_ble_eq_true rfl) rfl ?_
        refine k_goto G 80 dX0_goes_125 (by decide) ?_
        refine K.less [1, 2, 3, 0] rfl ?_
        exact ih80 _ _ _ h
  have hJ71 : ∀ (kL5 : Int32 → Int32 → Int32 → CS → Prop) (ih5 : ∀ (x2 : Int32) (x3 : Int32) (x4 : Int32) (s : CS), kL5 x2 x3 x4 s → K D Γ 0 0 5 [(0, .ref (q 0)), (1, .ref (q (4 + 2 * t1))), (2, .int x2), (3, .int x3), (4, .int x4)] [] (cw T q s)) (x2 : Int32) (x3 : Int32) (x4 : Int32) (s : CS), cw_goes_J71 T q t1 kL5 k x2 x3 x4 s → K D Γ 0 0 71 [(0, .ref (q 0)), (1, .ref (q (4 + 2 * t1))), (2, .int x2), (3, .int x3), (4, .int x4)] [] (cw T q s) := by
    intro kL5 ih5 x2 x3 x4 s h
    unfold cw_goes_J71 at h
    obtain ⟨x71, e71⟩ : ∃ y : Int32, y = x4 + 1 := ⟨_, rfl⟩
    have h := h x71 e71
    refine k_iinc G [(4, .int x71), (0, .ref (q 0)), (1, .ref (q (4 + 2 * t1))), (2, .int x2), (3, .int x3)] dX0_goes_71 rfl (v := x71) (by rw [e71, kc_i_1]) (Nat.le_of_ble_eq_true rfl) rfl ?_
    refine k_goto G 5 dX0_goes_74 (by decide) ?_
    refine K.less [1, 2, 3, 4, 0] rfl ?_
    exact ih5 _ _ _ _ h
  have hL5 : ∀ n : Nat, ∀ (x2 : Int32) (x3 : Int32) (x4 : Int32) (s : CS), (cw_goes_L5 T q t1 k n) x2 x3 x4 s → K D Γ 0 0 5 [(0, .ref (q 0)), (1, .ref (q (4 + 2 * t1))), (2, .int x2), (3, .int x3), (4, .int x4)] [] (cw T q s) := by
    intro n
    induction n with
    | zero =>
      intro _ _ _ _ h
      exact h.elim
    | succ n ih5 =>
      intro x2 x3 x4 s h
      unfold cw_goes_L5 at h
      refine k_iload G dX0_goes_5 rfl ?_
      refine k_iconst G dX0_goes_7 kc_i_4 ?_
      obtain ⟨hA, hB⟩ := h
      refine k_icmp_ge G 77 dX0_goes_8 (by decide) (fun c8 => ?_) (fun c8 => ?_)
      · have h := hA c8
        clear hA hB
        refine k_iconst G dX0_goes_77 kc_i_0 ?_
        refine k_istore G [(4, .int 0), (0, .ref (q 0)), (1, .ref (q (4 + 2 * t1))), (2, .int x2), (3, .int x3)] dX0_goes_78 (Nat.le_of_ble_eq_true rfl) rfl ?_
        obtain ⟨n80, h⟩ := h
        refine K.less [1, 2, 4, 0] rfl ?_
        exact hL80 n80 _ _ _ h
      · have h := hB c8
        clear hA hB
        refine k_aload_n G dX0_goes_11 rfl ?_
        refine kc_this G cf_took_72 dX0_goes_12 rfl ?_
        refine k_iload G dX0_goes_15 rfl ?_
        refine k_aload_n G dX0_goes_17 rfl ?_
        refine k_aload_n G dX0_goes_18 rfl ?_
        refine k_iload_n G dX0_goes_19 rfl ?_
        refine k_iload G dX0_goes_20 rfl ?_
        refine k_aload_n G dX0_goes_22 rfl ?_
        obtain ⟨h0, h⟩ := h
        refine kc_held G h0 (Or.inr (List.mem_of_getElem? (i := 0) rfl)) dX0_goes_23 ?_
        refine k_iload G dX0_goes_26 rfl ?_
        obtain ⟨h0, h⟩ := h
        obtain ⟨h1, h⟩ := h
        refine kc_iald G (cI_time h0) dX0_goes_28 h1 ?_
        refine kc_callI G (vk_takesOf _ D T q _ _ _ _ _ _ h) gf_takesOf q568 dX0_goes_29 rfl rfl (Nat.le_of_ble_eq_true rfl) (Nat.le_of_ble_eq_true rfl) ⟨Nat.le_of_ble_eq_true rfl, Nat.le_of_ble_eq_true rfl⟩ (fun r29 s29 h => ?_)
        obtain ⟨h1, h⟩ := h
        refine kc_iast G cI_37 dX0_goes_32 h1 ?_
        refine k_aload_n G dX0_goes_33 rfl ?_
        refine kc_this G cf_left_75 dX0_goes_34 rfl ?_
        refine k_iload G dX0_goes_37 rfl ?_
        refine k_aload_n G dX0_goes_39 rfl ?_
        refine k_aload_n G dX0_goes_40 rfl ?_
        refine k_iload_n G dX0_goes_41 rfl ?_
        refine k_iload G dX0_goes_42 rfl ?_
        refine kc_nmW (fun w44 ew44 => ?_)
        have h := h w44 ew44
        refine kc_callI G (vk_leavesOf _ D T q _ _ _ _ _ h) gf_leavesOf q616 dX0_goes_44 rfl rfl (Nat.le_of_ble_eq_true rfl) (Nat.le_of_ble_eq_true rfl) ⟨Nat.le_of_ble_eq_true rfl, Nat.le_of_ble_eq_true rfl⟩ (fun r44 s44 h => ?_)
        obtain ⟨h1, h⟩ := h
        refine kc_iast G cI_38 dX0_goes_47 h1 ?_
        refine k_aload_n G dX0_goes_48 rfl ?_
        refine kc_this G cf_took_72 dX0_goes_49 rfl ?_
        refine k_iload G dX0_goes_52 rfl ?_
        refine kc_nmW (fun w54 ew54 => ?_)
        have h := h w54 ew54
        obtain ⟨h1, h⟩ := h
        refine kc_iald G cI_37 dX0_goes_54 h1 ?_
        refine k_aload_n G dX0_goes_55 rfl ?_
        refine kc_this G cf_bears_21 dX0_goes_56 rfl ?_
        refine k_iconst G dX0_goes_59 kc_i_4 ?_
        refine k_iload_n G dX0_goes_60 rfl ?_
        refine k_imul G dX0_goes_61 ?_
        refine k_iload G dX0_goes_62 rfl ?_
        refine k_iadd G dX0_goes_64 ?_
        obtain ⟨h1, h⟩ := h
        refine kc_iald G cI_3 dX0_goes_65 h1 ?_
        obtain ⟨hA, hB⟩ := h
        refine k_icmp_le G 71 dX0_goes_66 (by decide) (fun c66 => ?_) (fun c66 => ?_)
        · have h := hA c66
          clear hA hB
          exact hJ71 _ ih5 _ _ _ _ h
        · have h := hB c66
          clear hA hB
          refine k_iconst G dX0_goes_69 kc_i_1 ?_
          refine k_istore_n G [(3, .int 1), (0, .ref (q 0)), (1, .ref (q (4 + 2 * t1))), (2, .int x2), (4, .int x4)] dX0_goes_70 rfl (Nat.le_of_ble_eq_true rfl) rfl ?_
          refine K.less [1, 2, 3, 0, 4] rfl ?_
          exact hJ71 _ ih5 _ _ _ _ h
  refine K.less [0, 1, 2] (lv' := [(0, .ref (q 0)), (1, .ref (q (4 + 2 * t1))), (2, .int x2)]) rfl ?_
  unfold cw_goes at h
  refine k_iconst G dX0_goes_0 kc_i_0 ?_
  refine k_istore_n G [(3, .int 0), (0, .ref (q 0)), (1, .ref (q (4 + 2 * t1))), (2, .int x2)] dX0_goes_1 rfl (Nat.le_of_ble_eq_true rfl) rfl ?_
  refine k_iconst G dX0_goes_2 kc_i_0 ?_
  refine k_istore G [(4, .int 0), (3, .int 0), (0, .ref (q 0)), (1, .ref (q (4 + 2 * t1))), (2, .int x2)] dX0_goes_3 (Nat.le_of_ble_eq_true rfl) rfl ?_
  obtain ⟨n5, h⟩ := h
  refine K.less [2, 3, 4, 1, 0] rfl ?_
  exact hL5 n5 _ _ _ _ h
def cw_takenAll_L4 (T : xT) (q : Nat → Nat) (k : Int32 → CS → Prop) : Nat → Int32 → Int32 → CS → Prop
  | 0, _, _, _ => False
  | n + 1, x1, x2, s => (4 ≤ x2 → k x1 s) ∧ (¬ 4 ≤ x2 → vp_in x2 4 ∧ ∀ x17 : Int32, x17 = (x1 + (s.1.1 37 (x2 : Int32).toNatClampNeg)) → ∀ x18 : Int32, x18 = x2 + 1 → cw_takenAll_L4 T q k n x17 x18 s)
def cw_takenAll (T : xT) (q : Nat → Nat) (s : CS) (k : Int32 → CS → Prop) : Prop := ∃ n4 : Nat, cw_takenAll_L4 T q k n4 0 0 s
set_option maxHeartbeats 4000000 in
theorem vk_takenAll (l : Launch) (D : va_G) (T : xT) (q : Nat → Nat) (s : CS) (k : Int32 → CS → Prop) (h : cw_takenAll T q s k) : XM l D T yX0_takenAll cX0_takenAll 3 (some .int) 1 0 0 [.ref (q 0)] (cw T q s) (cpostI T q k) := by
  refine XM.start (by decide +kernel) (Nat.le_of_ble_eq_true rfl) (fun Γ G X _ hl_ => ?_)
  subst hl_
  have hL4 : ∀ n : Nat, ∀ (x1 : Int32) (x2 : Int32) (s : CS), (cw_takenAll_L4 T q k n) x1 x2 s → K D Γ 0 0 4 [(0, .ref (q 0)), (1, .int x1), (2, .int x2)] [] (cw T q s) := by
    intro n
    induction n with
    | zero =>
      intro _ _ _ h
      exact h.elim
    | succ n ih4 =>
      intro x1 x2 s h
      unfold cw_takenAll_L4 at h
      refine k_iload_n G dX0_takenAll_4 rfl ?_
      refine k_iconst G dX0_takenAll_5 kc_i_4 ?_
      obtain ⟨hA, hB⟩ := h
      refine k_icmp_ge G 24 dX0_takenAll_6 (by decide) (fun c6 => ?_) (fun c6 => ?_)
      · have h := hA c6
        clear hA hB
        refine k_iload_n G dX0_takenAll_24 rfl ?_
        exact k_iret G X dX0_takenAll_25 (Nat.le_of_ble_eq_true rfl) (Nat.le_of_ble_eq_true rfl) ⟨_, _, rfl, rfl, h⟩
      · have h := hB c6
        clear hA hB
        refine k_iload_n G dX0_takenAll_9 rfl ?_
        refine k_aload_n G dX0_takenAll_10 rfl ?_
        refine kc_this G cf_took_72 dX0_takenAll_11 rfl ?_
        refine k_iload_n G dX0_takenAll_14 rfl ?_
        obtain ⟨h1, h⟩ := h
        refine kc_iald G cI_37 dX0_takenAll_15 h1 ?_
        refine k_iadd G dX0_takenAll_16 ?_
        refine k_nmI (fun x17 e17 => ?_)
        have h := h x17 e17
        refine k_istore_n G [(1, .int x17), (0, .ref (q 0)), (2, .int x2)] dX0_takenAll_17 rfl (Nat.le_of_ble_eq_true rfl) rfl ?_
        obtain ⟨x18, e18⟩ : ∃ y : Int32, y = x2 + 1 := ⟨_, rfl⟩
        have h := h x18 e18
        refine k_iinc G [(2, .int x18), (1, .int x17), (0, .ref (q 0))] dX0_takenAll_18 rfl (v := x18) (by rw [e18, kc_i_1]) (Nat.le_of_ble_eq_true rfl) rfl ?_
        refine k_goto G 4 dX0_takenAll_21 (by decide) ?_
        refine K.less [2, 1, 0] rfl ?_
        exact ih4 _ _ _ h
  refine K.less [0] (lv' := [(0, .ref (q 0))]) rfl ?_
  unfold cw_takenAll at h
  refine k_iconst G dX0_takenAll_0 kc_i_0 ?_
  refine k_istore_n G [(1, .int 0), (0, .ref (q 0))] dX0_takenAll_1 rfl (Nat.le_of_ble_eq_true rfl) rfl ?_
  refine k_iconst G dX0_takenAll_2 kc_i_0 ?_
  refine k_istore_n G [(2, .int 0), (1, .int 0), (0, .ref (q 0))] dX0_takenAll_3 rfl (Nat.le_of_ble_eq_true rfl) rfl ?_
  obtain ⟨n4, h⟩ := h
  refine K.less [2, 1, 0] rfl ?_
  exact hL4 n4 _ _ _ h
def cw_cools_L2 (T : xT) (q : Nat → Nat) (t1 : Nat) (k : CS → Prop) : Nat → Int32 → CS → Prop
  | 0, _, _ => False
  | n + 1, x2, s => (4 ≤ x2 → t1 < 10 ∧ t1 < 10 ∧ k ((cA s (4 + 2 * t1) 1 (imin 9999 ((s.1.1 (4 + 2 * t1) 1) + 1))))) ∧ (¬ 4 ≤ x2 → t1 < 10 ∧ t1 < 10 ∧ t1 < 10 ∧ vp_in x2 4 ∧ ∃ κ22 : KD, kilR T s (s.1.2 0 9) κ22 ∧ t1 < 10 ∧ vp_in x2 4 ∧ ∀ x30 : Int32, x30 = x2 + 1 → cw_cools_L2 T q t1 k n x30 ((cA s (5 + 2 * t1) (x2 : Int32).toNatClampNeg (((s.1.1 (5 + 2 * t1) (x2 : Int32).toNatClampNeg) * κ22.2.2.2) / 100))))
def cw_cools (T : xT) (q : Nat → Nat) (s : CS) (t1 : Nat) (k : CS → Prop) : Prop := ∃ n2 : Nat, cw_cools_L2 T q t1 k n2 0 s
set_option maxHeartbeats 4000000 in
theorem vk_cools (l : Launch) (D : va_G) (T : xT) (q : Nat → Nat) (s : CS) (t1 : Nat) (k : CS → Prop) (h : cw_cools T q s t1 k) : XM l D T yX0_cools cX0_cools 3 none 2 0 0 [.ref (q 0), .ref (q (4 + 2 * t1))] (cw T q s) (cpostV T q k) := by
  refine XM.start (by decide +kernel) (Nat.le_of_ble_eq_true rfl) (fun Γ G X _ hl_ => ?_)
  subst hl_
  have hL2 : ∀ n : Nat, ∀ (x2 : Int32) (s : CS), (cw_cools_L2 T q t1 k n) x2 s → K D Γ 0 0 2 [(0, .ref (q 0)), (1, .ref (q (4 + 2 * t1))), (2, .int x2)] [] (cw T q s) := by
    intro n
    induction n with
    | zero =>
      intro _ _ h
      exact h.elim
    | succ n ih2 =>
      intro x2 s h
      unfold cw_cools_L2 at h
      refine k_iload_n G dX0_cools_2 rfl ?_
      refine k_iconst G dX0_cools_3 kc_i_4 ?_
      obtain ⟨hA, hB⟩ := h
      refine k_icmp_ge G 36 dX0_cools_4 (by decide) (fun c4 => ?_) (fun c4 => ?_)
      · have h := hA c4
        clear hA hB
        refine k_aload_n G dX0_cools_36 rfl ?_
        refine k_sipush G dX0_cools_37 kc_s_9999 ?_
        refine k_aload_n G dX0_cools_40 rfl ?_
        obtain ⟨h0, h⟩ := h
        refine kc_hour G h0 (Or.inr (List.mem_of_getElem? (i := 1) rfl)) dX0_cools_41 ?_
        refine k_iconst G dX0_cools_44 kc_i_1 ?_
        refine k_iadd G dX0_cools_45 ?_
        refine kx_min G q612 dX0_cools_46 (Nat.le_of_ble_eq_true rfl) (Nat.le_of_ble_eq_true rfl) ⟨Nat.le_of_ble_eq_true rfl, Nat.le_of_ble_eq_true rfl⟩ ?_
        obtain ⟨h0, h⟩ := h
        refine kc_putHour G h0 (Or.inr (List.mem_of_getElem? (i := 1) rfl)) dX0_cools_49 ?_
        exact k_vret G X dX0_cools_52 (Nat.le_of_ble_eq_true rfl) (Nat.le_of_ble_eq_true rfl) ⟨_, rfl, rfl, h⟩
      · have h := hB c4
        clear hA hB
        refine k_aload_n G dX0_cools_7 rfl ?_
        obtain ⟨h0, h⟩ := h
        refine kc_held G h0 (Or.inr (List.mem_of_getElem? (i := 0) rfl)) dX0_cools_8 ?_
        refine k_iload_n G dX0_cools_11 rfl ?_
        refine k_aload_n G dX0_cools_12 rfl ?_
        obtain ⟨h0, h⟩ := h
        refine kc_held G h0 (Or.inr (List.mem_of_getElem? (i := 0) rfl)) dX0_cools_13 ?_
        refine k_iload_n G dX0_cools_16 rfl ?_
        obtain ⟨h0, h⟩ := h
        obtain ⟨h1, h⟩ := h
        refine kc_iald G (cI_time h0) dX0_cools_17 h1 ?_
        refine k_aload_n G dX0_cools_18 rfl ?_
        refine kc_this G cf_kiln_41 dX0_cools_19 rfl ?_
        obtain ⟨κ22, hk, h⟩ := h
        refine kl_cold G hk (Or.inr (List.mem_of_getElem? (i := 7) rfl)) dX0_cools_22 ?_
        refine k_imul G dX0_cools_25 ?_
        refine k_bipush G dX0_cools_26 kc_b_100 ?_
        refine k_idiv G dX0_cools_28 (by decide) ?_
        obtain ⟨h0, h⟩ := h
        obtain ⟨h1, h⟩ := h
        refine kc_iast G (cI_time h0) dX0_cools_29 h1 ?_
        obtain ⟨x30, e30⟩ : ∃ y : Int32, y = x2 + 1 := ⟨_, rfl⟩
        have h := h x30 e30
        refine k_iinc G [(2, .int x30), (0, .ref (q 0)), (1, .ref (q (4 + 2 * t1)))] dX0_cools_30 rfl (v := x30) (by rw [e30, kc_i_1]) (Nat.le_of_ble_eq_true rfl) rfl ?_
        refine k_goto G 2 dX0_cools_33 (by decide) ?_
        refine K.less [1, 2, 0] rfl ?_
        exact ih2 _ _ h
  refine K.less [0, 1] (lv' := [(0, .ref (q 0)), (1, .ref (q (4 + 2 * t1)))]) rfl ?_
  unfold cw_cools at h
  refine k_iconst G dX0_cools_0 kc_i_0 ?_
  refine k_istore_n G [(2, .int 0), (0, .ref (q 0)), (1, .ref (q (4 + 2 * t1)))] dX0_cools_1 rfl (Nat.le_of_ble_eq_true rfl) rfl ?_
  obtain ⟨n2, h⟩ := h
  refine K.less [1, 2, 0] rfl ?_
  exact hL2 n2 _ _ h
def cw_bake (T : xT) (q : Nat → Nat) (s : CS) (x1 : Int32) (k : Int32 → CS → Prop) : Prop := cw_isLoaf T q s x1 (fun r2 s2 => (r2 = 0 → k (-1) s2) ∧ (¬ r2 = 0 → cw_goes T q s2 0 x1 (fun r14 s14 => (r14 = 0 → k 0 s14) ∧ (¬ r14 = 0 → k 1 s14))))
set_option maxHeartbeats 4000000 in
theorem vk_bake (l : Launch) (D : va_G) (T : xT) (q : Nat → Nat) (s : CS) (x1 : Int32) (k : Int32 → CS → Prop) (h : cw_bake T q s x1 k) : XM l D T yX0_bake cX0_bake 2 (some .int) 65 0 0 [.ref (q 0), .int x1] (cw T q s) (cpostI T q k) := by
  refine XM.start (by decide +kernel) (Nat.le_of_ble_eq_true rfl) (fun Γ G X _ hl_ => ?_)
  subst hl_
  refine K.less [0, 1] (lv' := [(0, .ref (q 0)), (1, .int x1)]) rfl ?_
  unfold cw_bake at h
  refine k_aload_n G dX0_bake_0 rfl ?_
  refine k_iload_n G dX0_bake_1 rfl ?_
  refine kc_callI G (vk_isLoaf _ D T q _ _ _ h) gf_isLoaf q475 dX0_bake_2 rfl rfl (Nat.le_of_ble_eq_true rfl) (Nat.le_of_ble_eq_true rfl) ⟨Nat.le_of_ble_eq_true rfl, Nat.le_of_ble_eq_true rfl⟩ (fun r2 s2 h => ?_)
  obtain ⟨hA, hB⟩ := h
  refine k_if_eq G 28 dX0_bake_5 (by decide) (fun c5 => ?_) (fun c5 => ?_)
  · have h := hA c5
    clear hA hB
    refine k_iconst G dX0_bake_28 kc_i_m1 ?_
    exact k_iret G X dX0_bake_29 (Nat.le_of_ble_eq_true rfl) (Nat.le_of_ble_eq_true rfl) ⟨_, _, rfl, rfl, h⟩
  · have h := hB c5
    clear hA hB
    refine k_aload_n G dX0_bake_8 rfl ?_
    refine k_aload_n G dX0_bake_9 rfl ?_
    refine kc_this G cf_now_27 dX0_bake_10 rfl ?_
    refine k_iload_n G dX0_bake_13 rfl ?_
    refine kc_callI G (vk_goes _ D T q _ _ _ _ h) gf_goes q1003 dX0_bake_14 rfl rfl (Nat.le_of_ble_eq_true rfl) (Nat.le_of_ble_eq_true rfl) ⟨Nat.le_of_ble_eq_true rfl, Nat.le_of_ble_eq_true rfl⟩ (fun r14 s14 h => ?_)
    obtain ⟨hA, hB⟩ := h
    refine k_if_eq G 24 dX0_bake_17 (by decide) (fun c17 => ?_) (fun c17 => ?_)
    · have h := hA c17
      clear hA hB
      refine k_iconst G dX0_bake_24 kc_i_0 ?_
      refine k_goto G 29 dX0_bake_25 (by decide) ?_
      exact k_iret G X dX0_bake_29 (Nat.le_of_ble_eq_true rfl) (Nat.le_of_ble_eq_true rfl) ⟨_, _, rfl, rfl, h⟩
    · have h := hB c17
      clear hA hB
      refine k_iconst G dX0_bake_20 kc_i_1 ?_
      refine k_goto G 29 dX0_bake_21 (by decide) ?_
      exact k_iret G X dX0_bake_29 (Nat.le_of_ble_eq_true rfl) (Nat.le_of_ble_eq_true rfl) ⟨_, _, rfl, rfl, h⟩
def cw_cold (T : xT) (q : Nat → Nat) (s : CS) (k : Int32 → CS → Prop) : Prop := cw_cools T q s 0 (fun s5 => k ((s5.1.1 4 1)) s5)
set_option maxHeartbeats 4000000 in
theorem vk_cold (l : Launch) (D : va_G) (T : xT) (q : Nat → Nat) (s : CS) (k : Int32 → CS → Prop) (h : cw_cold T q s k) : XM l D T yX0_cold cX0_cold 1 (some .int) 4 0 0 [.ref (q 0)] (cw T q s) (cpostI T q k) := by
  refine XM.start (by decide +kernel) (Nat.le_of_ble_eq_true rfl) (fun Γ G X _ hl_ => ?_)
  subst hl_
  refine K.less [0] (lv' := [(0, .ref (q 0))]) rfl ?_
  unfold cw_cold at h
  refine k_aload_n G dX0_cold_0 rfl ?_
  refine k_aload_n G dX0_cold_1 rfl ?_
  refine kc_this G cf_now_27 dX0_cold_2 rfl ?_
  refine kc_callV G (vk_cools _ D T q _ _ _ h) gf_cools q1011 dX0_cold_5 rfl rfl (Nat.le_of_ble_eq_true rfl) (Nat.le_of_ble_eq_true rfl) ⟨Nat.le_of_ble_eq_true rfl, Nat.le_of_ble_eq_true rfl⟩ (fun s5 h => ?_)
  refine k_aload_n G dX0_cold_8 rfl ?_
  refine kc_this G cf_now_27 dX0_cold_9 rfl ?_
  refine kc_hour G (t := 0) (by decide) (Or.inr (List.mem_of_getElem? (i := 1) rfl)) dX0_cold_12 ?_
  exact k_iret G X dX0_cold_15 (Nat.le_of_ble_eq_true rfl) (Nat.le_of_ble_eq_true rfl) ⟨_, _, rfl, rfl, h⟩
def cw_would_J66 (T : xT) (q : Nat → Nat) (k : Int32 → CS → Prop) (x1 : Int32) (x3 : Int32) (s : CS) : Prop := (¬ x3 = 4 → vp_in x3 4 ∧ cw_takesOf T q s 1 x1 x3 ((s.1.1 7 (x3 : Int32).toNatClampNeg)) (fun r107 s107 => k r107 s107)) ∧ (x3 = 4 → cw_isSpoiled T q s 1 x1 (fun r77 s77 => (r77 = 0 → k 0 s77) ∧ (¬ r77 = 0 → k 1 s77)))
def cw_would_J21 (T : xT) (q : Nat → Nat) (k : Int32 → CS → Prop) (x1 : Int32) (x2 : Int32) (x3 : Int32) (s : CS) : Prop := qw_in x3 0 4 (fun r24 => (¬ r24 = 0 → (¬ x1 = x2 → (x2 = (-1) → cw_would_J66 T q k x1 x3 ((cTk s 1 0))) ∧ (¬ x2 = (-1) → ∀ w62 : CS, w62 = (cTk s 1 0) → cw_goes T q w62 1 x2 (fun r62 s62 => cw_would_J66 T q k x1 x3 s62))) ∧ (x1 = x2 → k (-2) s)) ∧ (r24 = 0 → k (-1) s))
def cw_would (T : xT) (q : Nat → Nat) (s : CS) (x1 : Int32) (x2 : Int32) (x3 : Int32) (k : Int32 → CS → Prop) : Prop := cw_isLoaf T q s x1 (fun r2 s2 => (r2 = 0 → k (-1) s2) ∧ (¬ r2 = 0 → (x2 = (-1) → cw_would_J21 T q k x1 x2 x3 s2) ∧ (¬ x2 = (-1) → cw_isLoaf T q s2 x2 (fun r15 s15 => (r15 = 0 → k (-1) s15) ∧ (¬ r15 = 0 → cw_would_J21 T q k x1 x2 x3 s15)))))
set_option maxHeartbeats 4000000 in
theorem vk_would (l : Launch) (D : va_G) (T : xT) (q : Nat → Nat) (s : CS) (x1 : Int32) (x2 : Int32) (x3 : Int32) (k : Int32 → CS → Prop) (h : cw_would T q s x1 x2 x3 k) : XM l D T yX0_would cX0_would 4 (some .int) 65 0 0 [.ref (q 0), .int x1, .int x2, .int x3] (cw T q s) (cpostI T q k) := by
  refine XM.start (by decide +kernel) (Nat.le_of_ble_eq_true rfl) (fun Γ G X _ hl_ => ?_)
  subst hl_
  have hJ66 : ∀ (x1 : Int32) (x3 : Int32) (s : CS), cw_would_J66 T q k x1 x3 s → K D Γ 0 0 66 [(0, .ref (q 0)), (1, .int x1), (3, .int x3)] [] (cw T q s) := by
    intro x1 x3 s h
    unfold cw_would_J66 at h
    refine k_iload_n G dX0_would_66 rfl ?_
    refine k_iconst G dX0_would_67 kc_i_4 ?_
    obtain ⟨hA, hB⟩ := h
    refine k_icmp_ne G 91 dX0_would_68 (by decide) (fun c68 => ?_) (fun c68 => ?_)
    · have h := hA c68
      clear hA hB
      refine k_aload_n G dX0_would_91 rfl ?_
      refine k_aload_n G dX0_would_92 rfl ?_
      refine kc_this G cf_tried_31 dX0_would_93 rfl ?_
      refine k_iload_n G dX0_would_96 rfl ?_
      refine k_iload_n G dX0_would_97 rfl ?_
      refine k_aload_n G dX0_would_98 rfl ?_
      refine kc_this G cf_tried_31 dX0_would_99 rfl ?_
      refine kc_held G (t := 1) (by decide) (Or.inr (List.mem_of_getElem? (i := 0) rfl)) dX0_would_102 ?_
      refine k_iload_n G dX0_would_105 rfl ?_
      obtain ⟨h1, h⟩ := h
      refine kc_iald G cI_7 dX0_would_106 h1 ?_
      refine kc_callI G (vk_takesOf _ D T q _ _ _ _ _ _ h) gf_takesOf q568 dX0_would_107 rfl rfl (Nat.le_of_ble_eq_true rfl) (Nat.le_of_ble_eq_true rfl) ⟨Nat.le_of_ble_eq_true rfl, Nat.le_of_ble_eq_true rfl⟩ (fun r107 s107 h => ?_)
      exact k_iret G X dX0_would_110 (Nat.le_of_ble_eq_true rfl) (Nat.le_of_ble_eq_true rfl) ⟨_, _, rfl, rfl, h⟩
    · have h := hB c68
      clear hA hB
      refine k_aload_n G dX0_would_71 rfl ?_
      refine k_aload_n G dX0_would_72 rfl ?_
      refine kc_this G cf_tried_31 dX0_would_73 rfl ?_
      refine k_iload_n G dX0_would_76 rfl ?_
      refine kc_callI G (vk_isSpoiled _ D T q _ _ _ _ h) gf_isSpoiled q564 dX0_would_77 rfl rfl (Nat.le_of_ble_eq_true rfl) (Nat.le_of_ble_eq_true rfl) ⟨Nat.le_of_ble_eq_true rfl, Nat.le_of_ble_eq_true rfl⟩ (fun r77 s77 h => ?_)
      obtain ⟨hA, hB⟩ := h
      refine k_if_eq G 87 dX0_would_80 (by decide) (fun c80 => ?_) (fun c80 => ?_)
      · have h := hA c80
        clear hA hB
        refine k_iconst G dX0_would_87 kc_i_0 ?_
        refine k_goto G 110 dX0_would_88 (by decide) ?_
        exact k_iret G X dX0_would_110 (Nat.le_of_ble_eq_true rfl) (Nat.le_of_ble_eq_true rfl) ⟨_, _, rfl, rfl, h⟩
      · have h := hB c80
        clear hA hB
        refine k_iconst G dX0_would_83 kc_i_1 ?_
        refine k_goto G 110 dX0_would_84 (by decide) ?_
        exact k_iret G X dX0_would_110 (Nat.le_of_ble_eq_true rfl) (Nat.le_of_ble_eq_true rfl) ⟨_, _, rfl, rfl, h⟩
  have hJ21 : ∀ (x1 : Int32) (x2 : Int32) (x3 : Int32) (s : CS), cw_would_J21 T q k x1 x2 x3 s → K D Γ 0 0 21 [(0, .ref (q 0)), (1, .int x1), (2, .int x2), (3, .int x3)] [] (cw T q s) := by
    intro x1 x2 x3 s h
    unfold cw_would_J21 at h
    refine k_iload_n G dX0_would_21 rfl ?_
    refine k_iconst G dX0_would_22 kc_i_0 ?_
    refine k_iconst G dX0_would_23 kc_i_4 ?_
    refine k_callPI G (vk_in _ D T _ _ _ _ h) gf_in q368 dX0_would_24 rfl rfl (Nat.le_of_ble_eq_true rfl) (Nat.le_of_ble_eq_true rfl) ⟨Nat.le_of_ble_eq_true rfl, Nat.le_of_ble_eq_true rfl⟩ (fun r24 h => ?_)
    obtain ⟨hA, hB⟩ := h
    refine k_if_ne G 32 dX0_would_27 (by decide) (fun c27 => ?_) (fun c27 => ?_)
    · have h := hA c27
      clear hA hB
      refine k_iload_n G dX0_would_32 rfl ?_
      refine k_iload_n G dX0_would_33 rfl ?_
      obtain ⟨hA, hB⟩ := h
      refine k_icmp_ne G 40 dX0_would_34 (by decide) (fun c34 => ?_) (fun c34 => ?_)
      · have h := hA c34
        clear hA hB
        refine k_aload_n G dX0_would_40 rfl ?_
        refine kc_this G cf_tried_31 dX0_would_41 rfl ?_
        refine k_aload_n G dX0_would_44 rfl ?_
        refine kc_this G cf_now_27 dX0_would_45 rfl ?_
        refine kl_takes G (a := 1) (b := 0) (by decide) (by decide) q1019 dX0_would_48 (Nat.le_of_ble_eq_true rfl) (Nat.le_of_ble_eq_true rfl) ⟨Nat.le_of_ble_eq_true rfl, Nat.le_of_ble_eq_true rfl⟩ ?_
        refine k_iload_n G dX0_would_51 rfl ?_
        refine k_iconst G dX0_would_52 kc_i_m1 ?_
        obtain ⟨hA, hB⟩ := h
        refine k_icmp_eq G 66 dX0_would_53 (by decide) (fun c53 => ?_) (fun c53 => ?_)
        · have h := hA c53
          clear hA hB
          refine K.less [0, 1, 3] rfl ?_
          exact hJ66 _ _ _ h
        · have h := hB c53
          clear hA hB
          refine k_aload_n G dX0_would_56 rfl ?_
          refine k_aload_n G dX0_would_57 rfl ?_
          refine kc_this G cf_tried_31 dX0_would_58 rfl ?_
          refine k_iload_n G dX0_would_61 rfl ?_
          refine kc_nmW (fun w62 ew62 => ?_)
          have h := h w62 ew62
          refine kc_callI G (vk_goes _ D T q _ _ _ _ h) gf_goes q1003 dX0_would_62 rfl rfl (Nat.le_of_ble_eq_true rfl) (Nat.le_of_ble_eq_true rfl) ⟨Nat.le_of_ble_eq_true rfl, Nat.le_of_ble_eq_true rfl⟩ (fun r62 s62 h => ?_)
          refine k_pop G dX0_would_65 rfl ?_
          refine K.less [0, 1, 3] rfl ?_
          exact hJ66 _ _ _ h
      · have h := hB c34
        clear hA hB
        refine k_bipush G dX0_would_37 kc_b_m2 ?_
        exact k_iret G X dX0_would_39 (Nat.le_of_ble_eq_true rfl) (Nat.le_of_ble_eq_true rfl) ⟨_, _, rfl, rfl, h⟩
    · have h := hB c27
      clear hA hB
      refine k_iconst G dX0_would_30 kc_i_m1 ?_
      exact k_iret G X dX0_would_31 (Nat.le_of_ble_eq_true rfl) (Nat.le_of_ble_eq_true rfl) ⟨_, _, rfl, rfl, h⟩
  refine K.less [0, 1, 2, 3] (lv' := [(0, .ref (q 0)), (1, .int x1), (2, .int x2), (3, .int x3)]) rfl ?_
  unfold cw_would at h
  refine k_aload_n G dX0_would_0 rfl ?_
  refine k_iload_n G dX0_would_1 rfl ?_
  refine kc_callI G (vk_isLoaf _ D T q _ _ _ h) gf_isLoaf q475 dX0_would_2 rfl rfl (Nat.le_of_ble_eq_true rfl) (Nat.le_of_ble_eq_true rfl) ⟨Nat.le_of_ble_eq_true rfl, Nat.le_of_ble_eq_true rfl⟩ (fun r2 s2 h => ?_)
  obtain ⟨hA, hB⟩ := h
  refine k_if_eq G 30 dX0_would_5 (by decide) (fun c5 => ?_) (fun c5 => ?_)
  · have h := hA c5
    clear hA hB
    refine k_iconst G dX0_would_30 kc_i_m1 ?_
    exact k_iret G X dX0_would_31 (Nat.le_of_ble_eq_true rfl) (Nat.le_of_ble_eq_true rfl) ⟨_, _, rfl, rfl, h⟩
  · have h := hB c5
    clear hA hB
    refine k_iload_n G dX0_would_8 rfl ?_
    refine k_iconst G dX0_would_9 kc_i_m1 ?_
    obtain ⟨hA, hB⟩ := h
    refine k_icmp_eq G 21 dX0_would_10 (by decide) (fun c10 => ?_) (fun c10 => ?_)
    · have h := hA c10
      clear hA hB
      exact hJ21 _ _ _ _ h
    · have h := hB c10
      clear hA hB
      refine k_aload_n G dX0_would_13 rfl ?_
      refine k_iload_n G dX0_would_14 rfl ?_
      refine kc_callI G (vk_isLoaf _ D T q _ _ _ h) gf_isLoaf q475 dX0_would_15 rfl rfl (Nat.le_of_ble_eq_true rfl) (Nat.le_of_ble_eq_true rfl) ⟨Nat.le_of_ble_eq_true rfl, Nat.le_of_ble_eq_true rfl⟩ (fun r15 s15 h => ?_)
      obtain ⟨hA, hB⟩ := h
      refine k_if_eq G 30 dX0_would_18 (by decide) (fun c18 => ?_) (fun c18 => ?_)
      · have h := hA c18
        clear hA hB
        refine k_iconst G dX0_would_30 kc_i_m1 ?_
        exact k_iret G X dX0_would_31 (Nat.le_of_ble_eq_true rfl) (Nat.le_of_ble_eq_true rfl) ⟨_, _, rfl, rfl, h⟩
      · have h := hB c18
        clear hA hB
        exact hJ21 _ _ _ _ h
def cw_keepsRow_J34 (T : xT) (q : Nat → Nat) (kL7 : Int32 → Int32 → CS → Prop) (k : CS → Prop) (x1 : Int32) (x3 : Int32) (y0 : Int32) (y1 : Int32) (s : CS) : Prop := vp_in y1 6 ∧ ∀ x35 : Int32, x35 = x3 + 1 → kL7 x1 x35 ((cA s 41 (y1 : Int32).toNatClampNeg y0))
def cw_keepsRow_L7 (T : xT) (q : Nat → Nat) (k : CS → Prop) : Nat → Int32 → Int32 → CS → Prop
  | 0, _, _, _ => False
  | n + 1, x1, x3, s => (6 ≤ x3 → k s) ∧ (¬ 6 ≤ x3 → (x1 ≤ x3 → cw_keepsRow_J34 T q (fun x1 x3 s => cw_keepsRow_L7 T q k n x1 x3 s) k x1 x3 (-5) x3 s) ∧ (¬ x1 ≤ x3 → vp_in x3 6 ∧ cw_keepsRow_J34 T q (fun x1 x3 s => cw_keepsRow_L7 T q k n x1 x3 s) k x1 x3 ((s.1.1 40 (x3 : Int32).toNatClampNeg)) x3 s))
def cw_keepsRow (T : xT) (q : Nat → Nat) (s : CS) (x1 : Int32) (x2 : Int32) (k : CS → Prop) : Prop := ∃ n7 : Nat, cw_keepsRow_L7 T q k n7 x1 0 ((cA s 0 21 x2))
set_option maxHeartbeats 4000000 in
theorem vk_keepsRow (l : Launch) (D : va_G) (T : xT) (q : Nat → Nat) (s : CS) (x1 : Int32) (x2 : Int32) (k : CS → Prop) (h : cw_keepsRow T q s x1 x2 k) : XM l D T yX0_keepsRow cX0_keepsRow 4 none 1 0 0 [.ref (q 0), .int x1, .int x2] (cw T q s) (cpostV T q k) := by
  refine XM.start (by decide +kernel) (Nat.le_of_ble_eq_true rfl) (fun Γ G X _ hl_ => ?_)
  subst hl_
  have hJ34 : ∀ (kL7 : Int32 → Int32 → CS → Prop) (ih7 : ∀ (x1 : Int32) (x3 : Int32) (s : CS), kL7 x1 x3 s → K D Γ 0 0 7 [(0, .ref (q 0)), (1, .int x1), (3, .int x3)] [] (cw T q s)) (x1 : Int32) (x3 : Int32) (y0 : Int32) (y1 : Int32) (s : CS), cw_keepsRow_J34 T q kL7 k x1 x3 y0 y1 s → K D Γ 0 0 34 [(0, .ref (q 0)), (1, .int x1), (3, .int x3)] [.int y0, .int y1, .ref (q 41)] (cw T q s) := by
    intro kL7 ih7 x1 x3 y0 y1 s h
    unfold cw_keepsRow_J34 at h
    obtain ⟨h1, h⟩ := h
    refine kc_iast G cI_41 dX0_keepsRow_34 h1 ?_
    obtain ⟨x35, e35⟩ : ∃ y : Int32, y = x3 + 1 := ⟨_, rfl⟩
    have h := h x35 e35
    refine k_iinc G [(3, .int x35), (0, .ref (q 0)), (1, .int x1)] dX0_keepsRow_35 rfl (v := x35) (by rw [e35, kc_i_1]) (Nat.le_of_ble_eq_true rfl) rfl ?_
    refine k_goto G 7 dX0_keepsRow_38 (by decide) ?_
    refine K.less [1, 2, 0] rfl ?_
    exact ih7 _ _ _ h
  have hL7 : ∀ n : Nat, ∀ (x1 : Int32) (x3 : Int32) (s : CS), (cw_keepsRow_L7 T q k n) x1 x3 s → K D Γ 0 0 7 [(0, .ref (q 0)), (1, .int x1), (3, .int x3)] [] (cw T q s) := by
    intro n
    induction n with
    | zero =>
      intro _ _ _ h
      exact h.elim
    | succ n ih7 =>
      intro x1 x3 s h
      unfold cw_keepsRow_L7 at h
      refine k_iload_n G dX0_keepsRow_7 rfl ?_
      refine k_bipush G dX0_keepsRow_8 kc_b_6 ?_
      obtain ⟨hA, hB⟩ := h
      refine k_icmp_ge G 41 dX0_keepsRow_10 (by decide) (fun c10 => ?_) (fun c10 => ?_)
      · have h := hA c10
        clear hA hB
        exact k_vret G X dX0_keepsRow_41 (Nat.le_of_ble_eq_true rfl) (Nat.le_of_ble_eq_true rfl) ⟨_, rfl, rfl, h⟩
      · have h := hB c10
        clear hA hB
        refine k_aload_n G dX0_keepsRow_13 rfl ?_
        refine kc_this G cf_bestRow_85 dX0_keepsRow_14 rfl ?_
        refine k_iload_n G dX0_keepsRow_17 rfl ?_
        refine k_iload_n G dX0_keepsRow_18 rfl ?_
        refine k_iload_n G dX0_keepsRow_19 rfl ?_
        obtain ⟨hA, hB⟩ := h
        refine k_icmp_ge G 32 dX0_keepsRow_20 (by decide) (fun c20 => ?_) (fun c20 => ?_)
        · have h := hA c20
          clear hA hB
          refine k_bipush G dX0_keepsRow_32 kc_b_m5 ?_
          exact hJ34 _ ih7 _ _ _ _ _ h
        · have h := hB c20
          clear hA hB
          refine k_aload_n G dX0_keepsRow_23 rfl ?_
          refine kc_this G cf_row_82 dX0_keepsRow_24 rfl ?_
          refine k_iload_n G dX0_keepsRow_27 rfl ?_
          obtain ⟨h1, h⟩ := h
          refine kc_iald G cI_40 dX0_keepsRow_28 h1 ?_
          refine k_goto G 34 dX0_keepsRow_29 (by decide) ?_
          exact hJ34 _ ih7 _ _ _ _ _ h
  refine K.less [0, 1, 2] (lv' := [(0, .ref (q 0)), (1, .int x1), (2, .int x2)]) rfl ?_
  unfold cw_keepsRow at h
  refine k_aload_n G dX0_keepsRow_0 rfl ?_
  refine k_iload_n G dX0_keepsRow_1 rfl ?_
  refine kc_put G cp_fewest_255 dX0_keepsRow_2 ?_
  refine k_iconst G dX0_keepsRow_5 kc_i_0 ?_
  refine k_istore_n G [(3, .int 0), (0, .ref (q 0)), (1, .int x1), (2, .int x2)] dX0_keepsRow_6 rfl (Nat.le_of_ble_eq_true rfl) rfl ?_
  obtain ⟨n7, h⟩ := h
  refine K.less [1, 2, 0] rfl ?_
  exact hL7 n7 _ _ _ h
def cw_isFewer_J17 (T : xT) (q : Nat → Nat) (k : Int32 → CS → Prop) (s : CS) : Prop := k 1 s
def cw_isFewer (T : xT) (q : Nat → Nat) (s : CS) (x1 : Int32) (k : Int32 → CS → Prop) : Prop := ((s.1.1 0 21) = (-5) → cw_isFewer_J17 T q k s) ∧ (¬ (s.1.1 0 21) = (-5) → ((s.1.1 0 21) ≤ x1 → k 0 s) ∧ (¬ (s.1.1 0 21) ≤ x1 → cw_isFewer_J17 T q k s))
set_option maxHeartbeats 4000000 in
theorem vk_isFewer (l : Launch) (D : va_G) (T : xT) (q : Nat → Nat) (s : CS) (x1 : Int32) (k : Int32 → CS → Prop) (h : cw_isFewer T q s x1 k) : XM l D T yX0_isFewer cX0_isFewer 2 (some .boolean) 1 0 0 [.ref (q 0), .int x1] (cw T q s) (cpostI T q k) := by
  refine XM.start (by decide +kernel) (Nat.le_of_ble_eq_true rfl) (fun Γ G X _ hl_ => ?_)
  subst hl_
  have hJ17 : ∀ (s : CS), cw_isFewer_J17 T q k s → K D Γ 0 0 17 [] [] (cw T q s) := by
    intro s h
    unfold cw_isFewer_J17 at h
    refine k_iconst G dX0_isFewer_17 kc_i_1 ?_
    refine k_goto G 22 dX0_isFewer_18 (by decide) ?_
    exact k_zret G X (Or.inr rfl) dX0_isFewer_22 (Nat.le_of_ble_eq_true rfl) (Nat.le_of_ble_eq_true rfl) ⟨_, _, rfl, rfl, h⟩
  refine K.less [0, 1] (lv' := [(0, .ref (q 0)), (1, .int x1)]) rfl ?_
  unfold cw_isFewer at h
  refine k_aload_n G dX0_isFewer_0 rfl ?_
  refine kc_this G cf_fewest_255 dX0_isFewer_1 rfl ?_
  refine k_bipush G dX0_isFewer_4 kc_b_m5 ?_
  obtain ⟨hA, hB⟩ := h
  refine k_icmp_eq G 17 dX0_isFewer_6 (by decide) (fun c6 => ?_) (fun c6 => ?_)
  · have h := hA c6
    clear hA hB
    refine K.less [] rfl ?_
    exact hJ17 _ h
  · have h := hB c6
    clear hA hB
    refine k_iload_n G dX0_isFewer_9 rfl ?_
    refine k_aload_n G dX0_isFewer_10 rfl ?_
    refine kc_this G cf_fewest_255 dX0_isFewer_11 rfl ?_
    obtain ⟨hA, hB⟩ := h
    refine k_icmp_ge G 21 dX0_isFewer_14 (by decide) (fun c14 => ?_) (fun c14 => ?_)
    · have h := hA c14
      clear hA hB
      refine k_iconst G dX0_isFewer_21 kc_i_0 ?_
      exact k_zret G X (Or.inl rfl) dX0_isFewer_22 (Nat.le_of_ble_eq_true rfl) (Nat.le_of_ble_eq_true rfl) ⟨_, _, rfl, rfl, h⟩
    · have h := hB c14
      clear hA hB
      refine K.less [] rfl ?_
      exact hJ17 _ h
def cb_ordersFrom_J112 (T : xT) (q : Nat → Nat) (c_ordersFrom : CS → Int32 → Int32 → Int32 → (CS → Prop) → Prop) (kL23 : Int32 → Int32 → Int32 → Int32 → CS → Prop) (k : CS → Prop) (x1 : Int32) (x2 : Int32) (x3 : Int32) (x4 : Int32) (s : CS) : Prop := ∀ x112 : Int32, x112 = x4 + 1 → kL23 x1 x2 x3 x112 s
def cb_ordersFrom_J91 (T : xT) (q : Nat → Nat) (c_ordersFrom : CS → Int32 → Int32 → Int32 → (CS → Prop) → Prop) (kL23 : Int32 → Int32 → Int32 → Int32 → CS → Prop) (k : CS → Prop) (x1 : Int32) (x2 : Int32) (x3 : Int32) (x4 : Int32) (y0 : Int32) (s : CS) : Prop := c_ordersFrom s ((x1 &&& ((1 <<< (x4 &&& 31)) ^^^ (-1)))) ((x2 + 1)) ((x3 + y0)) (fun s109 => cb_ordersFrom_J112 T q c_ordersFrom kL23 k x1 x2 x3 x4 s109)
def cb_ordersFrom_L23 (T : xT) (q : Nat → Nat) (c_ordersFrom : CS → Int32 → Int32 → Int32 → (CS → Prop) → Prop) (k : CS → Prop) : Nat → Int32 → Int32 → Int32 → Int32 → CS → Prop
  | 0, _, _, _, _, _ => False
  | n + 1, x1, x2, x3, x4, s => ((s.1.1 0 3) ≤ x4 → k s) ∧ (¬ (s.1.1 0 3) ≤ x4 → (¬ ((x1 >>> (x4 &&& 31)) &&& 1) = 0 → vp_in (x2 + 1) 7 ∧ vp_in x2 7 ∧ (2 + ((x2 + 1) : Int32).toNatClampNeg) < 10 ∧ (2 + (x2 : Int32).toNatClampNeg) < 10 ∧ ∀ w68 : CS, w68 = (cTk s (2 + ((x2 + 1) : Int32).toNatClampNeg) (2 + (x2 : Int32).toNatClampNeg)) → vp_in x2 6 ∧ ∀ w77 : CS, w77 = (cA w68 40 (x2 : Int32).toNatClampNeg x4) → vp_in (x2 + 1) 7 ∧ cw_goes T q w77 ((2 + ((x2 + 1) : Int32).toNatClampNeg)) x4 (fun r80 s80 => (r80 = 0 → cb_ordersFrom_J91 T q c_ordersFrom (fun x1 x2 x3 x4 s => cb_ordersFrom_L23 T q c_ordersFrom k n x1 x2 x3 x4 s) k x1 x2 x3 x4 0 s80) ∧ (¬ r80 = 0 → cb_ordersFrom_J91 T q c_ordersFrom (fun x1 x2 x3 x4 s => cb_ordersFrom_L23 T q c_ordersFrom k n x1 x2 x3 x4 s) k x1 x2 x3 x4 1 s80))) ∧ (((x1 >>> (x4 &&& 31)) &&& 1) = 0 → cb_ordersFrom_J112 T q c_ordersFrom (fun x1 x2 x3 x4 s => cb_ordersFrom_L23 T q c_ordersFrom k n x1 x2 x3 x4 s) k x1 x2 x3 x4 s))
def cb_ordersFrom (T : xT) (q : Nat → Nat) (c_ordersFrom : CS → Int32 → Int32 → Int32 → (CS → Prop) → Prop) (s : CS) (x1 : Int32) (x2 : Int32) (x3 : Int32) (k : CS → Prop) : Prop := cw_isFewer T q s x3 (fun r2 s2 => (¬ r2 = 0 → (¬ x1 = 0 → ∃ n23 : Nat, cb_ordersFrom_L23 T q c_ordersFrom k n23 x1 x2 x3 0 s2) ∧ (x1 = 0 → cw_keepsRow T q s2 x2 x3 (fun s16 => k s16))) ∧ (r2 = 0 → k s2))
set_option maxHeartbeats 4000000 in
theorem vb_ordersFrom (l : Launch) (D : va_G) (T : xT) (q : Nat → Nat) (lev : Nat) (c_ordersFrom : CS → Int32 → Int32 → Int32 → (CS → Prop) → Prop) (l_ordersFrom : Nat) (hl_ordersFrom : l_ordersFrom + 1 ≤ lev) (w_ordersFrom : ∀ (s : CS) (x1 : Int32) (x2 : Int32) (x3 : Int32) (k : CS → Prop), c_ordersFrom s x1 x2 x3 k → XM l D T yX0_ordersFrom cX0_ordersFrom 6 none l_ordersFrom 0 0 [.ref (q 0), .int x1, .int x2, .int x3] (cw T q s) (cpostV T q k)) (hlev : 65 ≤ lev) (s : CS) (x1 : Int32) (x2 : Int32) (x3 : Int32) (k : CS → Prop) (h : cb_ordersFrom T q c_ordersFrom s x1 x2 x3 k) : XM l D T yX0_ordersFrom cX0_ordersFrom 6 none lev 0 0 [.ref (q 0), .int x1, .int x2, .int x3] (cw T q s) (cpostV T q k) := by
  refine XM.start (by decide +kernel) (Nat.le_of_ble_eq_true rfl) (fun Γ G X _ hl_ => ?_)
  subst hl_
  have hJ112 : ∀ (kL23 : Int32 → Int32 → Int32 → Int32 → CS → Prop) (ih23 : ∀ (x1 : Int32) (x2 : Int32) (x3 : Int32) (x4 : Int32) (s : CS), kL23 x1 x2 x3 x4 s → K D Γ 0 0 23 [(0, .ref (q 0)), (1, .int x1), (2, .int x2), (3, .int x3), (4, .int x4)] [] (cw T q s)) (x1 : Int32) (x2 : Int32) (x3 : Int32) (x4 : Int32) (s : CS), cb_ordersFrom_J112 T q c_ordersFrom kL23 k x1 x2 x3 x4 s → K D Γ 0 0 112 [(0, .ref (q 0)), (1, .int x1), (2, .int x2), (3, .int x3), (4, .int x4)] [] (cw T q s) := by
    intro kL23 ih23 x1 x2 x3 x4 s h
    unfold cb_ordersFrom_J112 at h
    obtain ⟨x112, e112⟩ : ∃ y : Int32, y = x4 + 1 := ⟨_, rfl⟩
    have h := h x112 e112
    refine k_iinc G [(4, .int x112), (0, .ref (q 0)), (1, .int x1), (2, .int x2), (3, .int x3)] dX0_ordersFrom_112 rfl (v := x112) (by rw [e112, kc_i_1]) (Nat.le_of_ble_eq_true rfl) rfl ?_
    refine k_goto G 23 dX0_ordersFrom_115 (by decide) ?_
    refine K.less [1, 2, 3, 4, 0] rfl ?_
    exact ih23 _ _ _ _ _ h
  have hJ91 : ∀ (kL23 : Int32 → Int32 → Int32 → Int32 → CS → Prop) (ih23 : ∀ (x1 : Int32) (x2 : Int32) (x3 : Int32) (x4 : Int32) (s : CS), kL23 x1 x2 x3 x4 s → K D Γ 0 0 23 [(0, .ref (q 0)), (1, .int x1), (2, .int x2), (3, .int x3), (4, .int x4)] [] (cw T q s)) (x1 : Int32) (x2 : Int32) (x3 : Int32) (x4 : Int32) (y0 : Int32) (s : CS), cb_ordersFrom_J91 T q c_ordersFrom kL23 k x1 x2 x3 x4 y0 s → K D Γ 0 0 91 [(0, .ref (q 0)), (1, .int x1), (2, .int x2), (3, .int x3), (4, .int x4)] [.int y0] (cw T q s) := by
    intro kL23 ih23 x1 x2 x3 x4 y0 s h
    unfold cb_ordersFrom_J91 at h
    refine k_istore G [(5, .int y0), (0, .ref (q 0)), (1, .int x1), (2, .int x2), (3, .int x3), (4, .int x4)] dX0_ordersFrom_91 (Nat.le_of_ble_eq_true rfl) rfl ?_
    refine k_aload_n G dX0_ordersFrom_93 rfl ?_
    refine k_iload_n G dX0_ordersFrom_94 rfl ?_
    refine k_iconst G dX0_ordersFrom_95 kc_i_1 ?_
    refine k_iload G dX0_ordersFrom_96 rfl ?_
    refine k_ishl G dX0_ordersFrom_98 ?_
    refine k_iconst G dX0_ordersFrom_99 kc_i_m1 ?_
    refine k_ixor G dX0_ordersFrom_100 ?_
    refine k_iand G dX0_ordersFrom_101 ?_
    refine k_iload_n G dX0_ordersFrom_102 rfl ?_
    refine k_iconst G dX0_ordersFrom_103 kc_i_1 ?_
    refine k_iadd G dX0_ordersFrom_104 ?_
    refine k_iload_n G dX0_ordersFrom_105 rfl ?_
    refine k_iload G dX0_ordersFrom_106 rfl ?_
    refine k_iadd G dX0_ordersFrom_108 ?_
    refine kc_callV G (w_ordersFrom _ _ _ _ _ h) gf_ordersFrom q1042 dX0_ordersFrom_109 rfl rfl (Nat.le_of_ble_eq_true rfl) hl_ordersFrom ⟨Nat.le_of_ble_eq_true rfl, Nat.le_of_ble_eq_true rfl⟩ (fun s109 h => ?_)
    refine K.less [1, 2, 3, 4, 5] rfl ?_
    exact hJ112 _ ih23 _ _ _ _ _ h
  have hL23 : ∀ n : Nat, ∀ (x1 : Int32) (x2 : Int32) (x3 : Int32) (x4 : Int32) (s : CS), (cb_ordersFrom_L23 T q c_ordersFrom k n) x1 x2 x3 x4 s → K D Γ 0 0 23 [(0, .ref (q 0)), (1, .int x1), (2, .int x2), (3, .int x3), (4, .int x4)] [] (cw T q s) := by
    intro n
    induction n with
    | zero =>
      intro _ _ _ _ _ h
      exact h.elim
    | succ n ih23 =>
      intro x1 x2 x3 x4 s h
      unfold cb_ordersFrom_L23 at h
      refine k_iload G dX0_ordersFrom_23 rfl ?_
      refine k_aload_n G dX0_ordersFrom_25 rfl ?_
      refine kc_this G cf_many_107 dX0_ordersFrom_26 rfl ?_
      obtain ⟨hA, hB⟩ := h
      refine k_icmp_ge G 118 dX0_ordersFrom_29 (by decide) (fun c29 => ?_) (fun c29 => ?_)
      · have h := hA c29
        clear hA hB
        exact k_vret G X dX0_ordersFrom_118 (Nat.le_of_ble_eq_true rfl) (Nat.le_of_ble_eq_true rfl) ⟨_, rfl, rfl, h⟩
      · have h := hB c29
        clear hA hB
        refine k_iload_n G dX0_ordersFrom_32 rfl ?_
        refine k_iload G dX0_ordersFrom_33 rfl ?_
        refine k_ishr G dX0_ordersFrom_35 ?_
        refine k_iconst G dX0_ordersFrom_36 kc_i_1 ?_
        refine k_iand G dX0_ordersFrom_37 ?_
        obtain ⟨hA, hB⟩ := h
        refine k_if_ne G 44 dX0_ordersFrom_38 (by decide) (fun c38 => ?_) (fun c38 => ?_)
        · have h := hA c38
          clear hA hB
          refine k_aload_n G dX0_ordersFrom_44 rfl ?_
          refine kc_this G cf_stages_78 dX0_ordersFrom_45 rfl ?_
          refine k_iload_n G dX0_ordersFrom_48 rfl ?_
          refine k_iconst G dX0_ordersFrom_49 kc_i_1 ?_
          refine k_iadd G dX0_ordersFrom_50 ?_
          obtain ⟨h1, h⟩ := h
          refine kc_aaldM G dX0_ordersFrom_51 h1 ?_
          refine k_aload_n G dX0_ordersFrom_52 rfl ?_
          refine kc_this G cf_stages_78 dX0_ordersFrom_53 rfl ?_
          refine k_iload_n G dX0_ordersFrom_56 rfl ?_
          obtain ⟨h1, h⟩ := h
          refine kc_aaldM G dX0_ordersFrom_57 h1 ?_
          obtain ⟨h1, h⟩ := h
          obtain ⟨h2, h⟩ := h
          refine kl_takes G h1 h2 q1019 dX0_ordersFrom_58 (Nat.le_of_ble_eq_true rfl) (Nat.le_trans (Nat.le_of_ble_eq_true rfl) hlev) ⟨Nat.le_of_ble_eq_true rfl, Nat.le_of_ble_eq_true rfl⟩ ?_
          refine k_aload_n G dX0_ordersFrom_61 rfl ?_
          refine kc_this G cf_row_82 dX0_ordersFrom_62 rfl ?_
          refine k_iload_n G dX0_ordersFrom_65 rfl ?_
          refine k_iload G dX0_ordersFrom_66 rfl ?_
          refine kc_nmW (fun w68 ew68 => ?_)
          have h := h w68 ew68
          obtain ⟨h1, h⟩ := h
          refine kc_iast G cI_40 dX0_ordersFrom_68 h1 ?_
          refine k_aload_n G dX0_ordersFrom_69 rfl ?_
          refine k_aload_n G dX0_ordersFrom_70 rfl ?_
          refine kc_this G cf_stages_78 dX0_ordersFrom_71 rfl ?_
          refine k_iload_n G dX0_ordersFrom_74 rfl ?_
          refine k_iconst G dX0_ordersFrom_75 kc_i_1 ?_
          refine k_iadd G dX0_ordersFrom_76 ?_
          refine kc_nmW (fun w77 ew77 => ?_)
          have h := h w77 ew77
          obtain ⟨h1, h⟩ := h
          refine kc_aaldM G dX0_ordersFrom_77 h1 ?_
          refine k_iload G dX0_ordersFrom_78 rfl ?_
          refine kc_callI G (vk_goes _ D T q _ _ _ _ h) gf_goes q1003 dX0_ordersFrom_80 rfl rfl (Nat.le_of_ble_eq_true rfl) (Nat.le_trans (Nat.le_of_ble_eq_true rfl) hlev) ⟨Nat.le_of_ble_eq_true rfl, Nat.le_of_ble_eq_true rfl⟩ (fun r80 s80 h => ?_)
          obtain ⟨hA, hB⟩ := h
          refine k_if_eq G 90 dX0_ordersFrom_83 (by decide) (fun c83 => ?_) (fun c83 => ?_)
          · have h := hA c83
            clear hA hB
            refine k_iconst G dX0_ordersFrom_90 kc_i_0 ?_
            exact hJ91 _ ih23 _ _ _ _ _ _ h
          · have h := hB c83
            clear hA hB
            refine k_iconst G dX0_ordersFrom_86 kc_i_1 ?_
            refine k_goto G 91 dX0_ordersFrom_87 (by decide) ?_
            exact hJ91 _ ih23 _ _ _ _ _ _ h
        · have h := hB c38
          clear hA hB
          refine k_goto G 112 dX0_ordersFrom_41 (by decide) ?_
          exact hJ112 _ ih23 _ _ _ _ _ h
  refine K.less [0, 1, 2, 3] (lv' := [(0, .ref (q 0)), (1, .int x1), (2, .int x2), (3, .int x3)]) rfl ?_
  unfold cb_ordersFrom at h
  refine k_aload_n G dX0_ordersFrom_0 rfl ?_
  refine k_iload_n G dX0_ordersFrom_1 rfl ?_
  refine kc_callI G (vk_isFewer _ D T q _ _ _ h) gf_isFewer q1046 dX0_ordersFrom_2 rfl rfl (Nat.le_of_ble_eq_true rfl) (Nat.le_trans (Nat.le_of_ble_eq_true rfl) hlev) ⟨Nat.le_of_ble_eq_true rfl, Nat.le_of_ble_eq_true rfl⟩ (fun r2 s2 h => ?_)
  obtain ⟨hA, hB⟩ := h
  refine k_if_ne G 9 dX0_ordersFrom_5 (by decide) (fun c5 => ?_) (fun c5 => ?_)
  · have h := hA c5
    clear hA hB
    refine k_iload_n G dX0_ordersFrom_9 rfl ?_
    obtain ⟨hA, hB⟩ := h
    refine k_if_ne G 20 dX0_ordersFrom_10 (by decide) (fun c10 => ?_) (fun c10 => ?_)
    · have h := hA c10
      clear hA hB
      refine k_iconst G dX0_ordersFrom_20 kc_i_0 ?_
      refine k_istore G [(4, .int 0), (0, .ref (q 0)), (1, .int x1), (2, .int x2), (3, .int x3)] dX0_ordersFrom_21 (Nat.le_of_ble_eq_true rfl) rfl ?_
      obtain ⟨n23, h⟩ := h
      refine K.less [1, 2, 3, 4, 0] rfl ?_
      exact hL23 n23 _ _ _ _ _ h
    · have h := hB c10
      clear hA hB
      refine k_aload_n G dX0_ordersFrom_13 rfl ?_
      refine k_iload_n G dX0_ordersFrom_14 rfl ?_
      refine k_iload_n G dX0_ordersFrom_15 rfl ?_
      refine kc_callV G (vk_keepsRow _ D T q _ _ _ _ h) gf_keepsRow q1050 dX0_ordersFrom_16 rfl rfl (Nat.le_of_ble_eq_true rfl) (Nat.le_trans (Nat.le_of_ble_eq_true rfl) hlev) ⟨Nat.le_of_ble_eq_true rfl, Nat.le_of_ble_eq_true rfl⟩ (fun s16 h => ?_)
      exact k_vret G X dX0_ordersFrom_19 (Nat.le_of_ble_eq_true rfl) (Nat.le_of_ble_eq_true rfl) ⟨_, rfl, rfl, h⟩
  · have h := hB c5
    clear hA hB
    exact k_vret G X dX0_ordersFrom_8 (Nat.le_of_ble_eq_true rfl) (Nat.le_of_ble_eq_true rfl) ⟨_, rfl, rfl, h⟩
def cf_ordersFrom (T : xT) (q : Nat → Nat) : Nat → CS → Int32 → Int32 → Int32 → (CS → Prop) → Prop
  | 0, _, _, _, _, _ => False
  | n + 1, s, x1, x2, x3, k => cb_ordersFrom T q (cf_ordersFrom T q n) s x1 x2 x3 k
theorem vf_ordersFrom (l : Launch) (D : va_G) (T : xT) (q : Nat → Nat) : ∀ (n : Nat) (s : CS) (x1 : Int32) (x2 : Int32) (x3 : Int32) (k : CS → Prop), cf_ordersFrom T q n s x1 x2 x3 k → XM l D T yX0_ordersFrom cX0_ordersFrom 6 none (65 + n) 0 0 [.ref (q 0), .int x1, .int x2, .int x3] (cw T q s) (cpostV T q k) := by
  intro n
  induction n with
  | zero =>
    intro _ _ _ _ _ h
    exact h.elim
  | succ n ih =>
    intro s x1 x2 x3 k h
    exact vb_ordersFrom l D T q (65 + (n + 1)) (cf_ordersFrom T q n) (65 + n) (by omega) ih (by omega) s x1 x2 x3 k h
def cw_ordersFrom (T : xT) (q : Nat → Nat) (s : CS) (x1 : Int32) (x2 : Int32) (x3 : Int32) (k : CS → Prop) : Prop := cf_ordersFrom T q 8 s x1 x2 x3 k
theorem vk_ordersFrom (l : Launch) (D : va_G) (T : xT) (q : Nat → Nat) (s : CS) (x1 : Int32) (x2 : Int32) (x3 : Int32) (k : CS → Prop) (h : cw_ordersFrom T q s x1 x2 x3 k) : XM l D T yX0_ordersFrom cX0_ordersFrom 6 none 73 0 0 [.ref (q 0), .int x1, .int x2, .int x3] (cw T q s) (cpostV T q k) := vf_ordersFrom l D T q 8 s x1 x2 x3 k h
def cw_isSet (T : xT) (q : Nat → Nat) (s : CS) (x1 : Int32) (k : Int32 → CS → Prop) : Prop := (x1 < 0 → k 0 s) ∧ (¬ x1 < 0 → (¬ (x1 >>> ((s.1.1 0 3) &&& 31)) = 0 → k 0 s) ∧ ((x1 >>> ((s.1.1 0 3) &&& 31)) = 0 → k 1 s))
set_option maxHeartbeats 4000000 in
theorem vk_isSet (l : Launch) (D : va_G) (T : xT) (q : Nat → Nat) (s : CS) (x1 : Int32) (k : Int32 → CS → Prop) (h : cw_isSet T q s x1 k) : XM l D T yX0_isSet cX0_isSet 2 (some .boolean) 1 0 0 [.ref (q 0), .int x1] (cw T q s) (cpostI T q k) := by
  refine XM.start (by decide +kernel) (Nat.le_of_ble_eq_true rfl) (fun Γ G X _ hl_ => ?_)
  subst hl_
  refine K.less [0, 1] (lv' := [(0, .ref (q 0)), (1, .int x1)]) rfl ?_
  unfold cw_isSet at h
  refine k_iload_n G dX0_isSet_0 rfl ?_
  obtain ⟨hA, hB⟩ := h
  refine k_if_lt G 17 dX0_isSet_1 (by decide) (fun c1 => ?_) (fun c1 => ?_)
  · have h := hA c1
    clear hA hB
    refine k_iconst G dX0_isSet_17 kc_i_0 ?_
    exact k_zret G X (Or.inl rfl) dX0_isSet_18 (Nat.le_of_ble_eq_true rfl) (Nat.le_of_ble_eq_true rfl) ⟨_, _, rfl, rfl, h⟩
  · have h := hB c1
    clear hA hB
    refine k_iload_n G dX0_isSet_4 rfl ?_
    refine k_aload_n G dX0_isSet_5 rfl ?_
    refine kc_this G cf_many_107 dX0_isSet_6 rfl ?_
    refine k_ishr G dX0_isSet_9 ?_
    obtain ⟨hA, hB⟩ := h
    refine k_if_ne G 17 dX0_isSet_10 (by decide) (fun c10 => ?_) (fun c10 => ?_)
    · have h := hA c10
      clear hA hB
      refine k_iconst G dX0_isSet_17 kc_i_0 ?_
      exact k_zret G X (Or.inl rfl) dX0_isSet_18 (Nat.le_of_ble_eq_true rfl) (Nat.le_of_ble_eq_true rfl) ⟨_, _, rfl, rfl, h⟩
    · have h := hB c10
      clear hA hB
      refine k_iconst G dX0_isSet_13 kc_i_1 ?_
      refine k_goto G 18 dX0_isSet_14 (by decide) ?_
      exact k_zret G X (Or.inr rfl) dX0_isSet_18 (Nat.le_of_ble_eq_true rfl) (Nat.le_of_ble_eq_true rfl) ⟨_, _, rfl, rfl, h⟩
def cw_begins_L21 (T : xT) (q : Nat → Nat) (k : CS → Prop) : Nat → Int32 → CS → Prop
  | 0, _, _ => False
  | n + 1, x1, s => (6 ≤ x1 → k s) ∧ (¬ 6 ≤ x1 → vp_in x1 6 ∧ ∀ x35 : Int32, x35 = x1 + 1 → cw_begins_L21 T q k n x35 ((cA s 41 (x1 : Int32).toNatClampNeg (-5))))
def cw_begins (T : xT) (q : Nat → Nat) (s : CS) (k : CS → Prop) : Prop := vp_in 0 7 ∧ (2 + (0 : Int32).toNatClampNeg) < 10 ∧ ∀ w16 : CS, w16 = (cTk s (2 + (0 : Int32).toNatClampNeg) 0) → ∃ n21 : Nat, cw_begins_L21 T q k n21 0 ((cA w16 0 21 (-5)))
set_option maxHeartbeats 4000000 in
theorem vk_begins (l : Launch) (D : va_G) (T : xT) (q : Nat → Nat) (s : CS) (k : CS → Prop) (h : cw_begins T q s k) : XM l D T yX0_begins cX0_begins 2 none 5 0 0 [.ref (q 0)] (cw T q s) (cpostV T q k) := by
  refine XM.start (by decide +kernel) (Nat.le_of_ble_eq_true rfl) (fun Γ G X _ hl_ => ?_)
  subst hl_
  have hL21 : ∀ n : Nat, ∀ (x1 : Int32) (s : CS), (cw_begins_L21 T q k n) x1 s → K D Γ 0 0 21 [(0, .ref (q 0)), (1, .int x1)] [] (cw T q s) := by
    intro n
    induction n with
    | zero =>
      intro _ _ h
      exact h.elim
    | succ n ih21 =>
      intro x1 s h
      unfold cw_begins_L21 at h
      refine k_iload_n G dX0_begins_21 rfl ?_
      refine k_bipush G dX0_begins_22 kc_b_6 ?_
      obtain ⟨hA, hB⟩ := h
      refine k_icmp_ge G 41 dX0_begins_24 (by decide) (fun c24 => ?_) (fun c24 => ?_)
      · have h := hA c24
        clear hA hB
        exact k_vret G X dX0_begins_41 (Nat.le_of_ble_eq_true rfl) (Nat.le_of_ble_eq_true rfl) ⟨_, rfl, rfl, h⟩
      · have h := hB c24
        clear hA hB
        refine k_aload_n G dX0_begins_27 rfl ?_
        refine kc_this G cf_bestRow_85 dX0_begins_28 rfl ?_
        refine k_iload_n G dX0_begins_31 rfl ?_
        refine k_bipush G dX0_begins_32 kc_b_m5 ?_
        obtain ⟨h1, h⟩ := h
        refine kc_iast G cI_41 dX0_begins_34 h1 ?_
        obtain ⟨x35, e35⟩ : ∃ y : Int32, y = x1 + 1 := ⟨_, rfl⟩
        have h := h x35 e35
        refine k_iinc G [(1, .int x35), (0, .ref (q 0))] dX0_begins_35 rfl (v := x35) (by rw [e35, kc_i_1]) (Nat.le_of_ble_eq_true rfl) rfl ?_
        refine k_goto G 21 dX0_begins_38 (by decide) ?_
        refine K.less [1, 0] rfl ?_
        exact ih21 _ _ h
  refine K.less [0] (lv' := [(0, .ref (q 0))]) rfl ?_
  unfold cw_begins at h
  refine k_aload_n G dX0_begins_0 rfl ?_
  refine kc_this G cf_stages_78 dX0_begins_1 rfl ?_
  refine k_iconst G dX0_begins_4 kc_i_0 ?_
  obtain ⟨h1, h⟩ := h
  refine kc_aaldM G dX0_begins_5 h1 ?_
  refine k_aload_n G dX0_begins_6 rfl ?_
  refine kc_this G cf_now_27 dX0_begins_7 rfl ?_
  obtain ⟨h1, h⟩ := h
  refine kl_takes G (b := 0) h1 (by decide) q1019 dX0_begins_10 (Nat.le_of_ble_eq_true rfl) (Nat.le_of_ble_eq_true rfl) ⟨Nat.le_of_ble_eq_true rfl, Nat.le_of_ble_eq_true rfl⟩ ?_
  refine k_aload_n G dX0_begins_13 rfl ?_
  refine k_bipush G dX0_begins_14 kc_b_m5 ?_
  refine kc_nmW (fun w16 ew16 => ?_)
  have h := h w16 ew16
  refine kc_put G cp_fewest_255 dX0_begins_16 ?_
  refine k_iconst G dX0_begins_19 kc_i_0 ?_
  refine k_istore_n G [(1, .int 0), (0, .ref (q 0))] dX0_begins_20 rfl (Nat.le_of_ble_eq_true rfl) rfl ?_
  obtain ⟨n21, h⟩ := h
  refine K.less [1, 0] rfl ?_
  exact hL21 n21 _ _ h
def cw_order (T : xT) (q : Nat → Nat) (s : CS) (x1 : Int32) (x2 : Int32) (k : Int32 → CS → Prop) : Prop := qw_in x2 (-1) 5 (fun r3 => (¬ r3 = 0 → cw_isSet T q s x1 (fun r13 s13 => (r13 = 0 → k (-2) s13) ∧ (¬ r13 = 0 → jw_bitCount x1 (fun r20 => (r20 ≤ 5 → cw_begins T q s13 (fun s31 => cw_ordersFrom T q s31 x1 0 0 (fun s38 => (¬ x2 = (-1) → vp_in x2 6 ∧ k ((s38.1.1 41 (x2 : Int32).toNatClampNeg)) s38) ∧ (x2 = (-1) → k ((s38.1.1 0 21)) s38)))) ∧ (¬ r20 ≤ 5 → k (-2) s13))))) ∧ (r3 = 0 → k (-1) s))
set_option maxHeartbeats 4000000 in
theorem vk_order (l : Launch) (D : va_G) (T : xT) (q : Nat → Nat) (s : CS) (x1 : Int32) (x2 : Int32) (k : Int32 → CS → Prop) (h : cw_order T q s x1 x2 k) : XM l D T yX0_order cX0_order 3 (some .int) 75 0 0 [.ref (q 0), .int x1, .int x2] (cw T q s) (cpostI T q k) := by
  refine XM.start (by decide +kernel) (Nat.le_of_ble_eq_true rfl) (fun Γ G X _ hl_ => ?_)
  subst hl_
  refine K.less [0, 1, 2] (lv' := [(0, .ref (q 0)), (1, .int x1), (2, .int x2)]) rfl ?_
  unfold cw_order at h
  refine k_iload_n G dX0_order_0 rfl ?_
  refine k_iconst G dX0_order_1 kc_i_m1 ?_
  refine k_iconst G dX0_order_2 kc_i_5 ?_
  refine k_callPI G (vk_in _ D T _ _ _ _ h) gf_in q368 dX0_order_3 rfl rfl (Nat.le_of_ble_eq_true rfl) (Nat.le_of_ble_eq_true rfl) ⟨Nat.le_of_ble_eq_true rfl, Nat.le_of_ble_eq_true rfl⟩ (fun r3 h => ?_)
  obtain ⟨hA, hB⟩ := h
  refine k_if_ne G 11 dX0_order_6 (by decide) (fun c6 => ?_) (fun c6 => ?_)
  · have h := hA c6
    clear hA hB
    refine k_aload_n G dX0_order_11 rfl ?_
    refine k_iload_n G dX0_order_12 rfl ?_
    refine kc_callI G (vk_isSet _ D T q _ _ _ h) gf_isSet q1028 dX0_order_13 rfl rfl (Nat.le_of_ble_eq_true rfl) (Nat.le_of_ble_eq_true rfl) ⟨Nat.le_of_ble_eq_true rfl, Nat.le_of_ble_eq_true rfl⟩ (fun r13 s13 h => ?_)
    obtain ⟨hA, hB⟩ := h
    refine k_if_eq G 27 dX0_order_16 (by decide) (fun c16 => ?_) (fun c16 => ?_)
    · have h := hA c16
      clear hA hB
      refine k_bipush G dX0_order_27 kc_b_m2 ?_
      exact k_iret G X dX0_order_29 (Nat.le_of_ble_eq_true rfl) (Nat.le_of_ble_eq_true rfl) ⟨_, _, rfl, rfl, h⟩
    · have h := hB c16
      clear hA hB
      refine k_iload_n G dX0_order_19 rfl ?_
      refine k_callPI G (jk_bitCount _ D T _ _ h) jf_bitCount q1032 dX0_order_20 rfl rfl (Nat.le_of_ble_eq_true rfl) (Nat.le_of_ble_eq_true rfl) ⟨Nat.le_of_ble_eq_true rfl, Nat.le_of_ble_eq_true rfl⟩ (fun r20 h => ?_)
      refine k_iconst G dX0_order_23 kc_i_5 ?_
      obtain ⟨hA, hB⟩ := h
      refine k_icmp_le G 30 dX0_order_24 (by decide) (fun c24 => ?_) (fun c24 => ?_)
      · have h := hA c24
        clear hA hB
        refine k_aload_n G dX0_order_30 rfl ?_
        refine kc_callV G (vk_begins _ D T q _ _ h) gf_begins q1038 dX0_order_31 rfl rfl (Nat.le_of_ble_eq_true rfl) (Nat.le_of_ble_eq_true rfl) ⟨Nat.le_of_ble_eq_true rfl, Nat.le_of_ble_eq_true rfl⟩ (fun s31 h => ?_)
        refine k_aload_n G dX0_order_34 rfl ?_
        refine k_iload_n G dX0_order_35 rfl ?_
        refine k_iconst G dX0_order_36 kc_i_0 ?_
        refine k_iconst G dX0_order_37 kc_i_0 ?_
        refine kc_callV G (vk_ordersFrom _ D T q _ _ _ _ _ h) gf_ordersFrom q1042 dX0_order_38 rfl rfl (Nat.le_of_ble_eq_true rfl) (Nat.le_of_ble_eq_true rfl) ⟨Nat.le_of_ble_eq_true rfl, Nat.le_of_ble_eq_true rfl⟩ (fun s38 h => ?_)
        refine k_iload_n G dX0_order_41 rfl ?_
        refine k_iconst G dX0_order_42 kc_i_m1 ?_
        obtain ⟨hA, hB⟩ := h
        refine k_icmp_ne G 53 dX0_order_43 (by decide) (fun c43 => ?_) (fun c43 => ?_)
        · have h := hA c43
          clear hA hB
          refine k_aload_n G dX0_order_53 rfl ?_
          refine kc_this G cf_bestRow_85 dX0_order_54 rfl ?_
          refine k_iload_n G dX0_order_57 rfl ?_
          obtain ⟨h1, h⟩ := h
          refine kc_iald G cI_41 dX0_order_58 h1 ?_
          exact k_iret G X dX0_order_59 (Nat.le_of_ble_eq_true rfl) (Nat.le_of_ble_eq_true rfl) ⟨_, _, rfl, rfl, h⟩
        · have h := hB c43
          clear hA hB
          refine k_aload_n G dX0_order_46 rfl ?_
          refine kc_this G cf_fewest_255 dX0_order_47 rfl ?_
          refine k_goto G 59 dX0_order_50 (by decide) ?_
          exact k_iret G X dX0_order_59 (Nat.le_of_ble_eq_true rfl) (Nat.le_of_ble_eq_true rfl) ⟨_, _, rfl, rfl, h⟩
      · have h := hB c24
        clear hA hB
        refine k_bipush G dX0_order_27 kc_b_m2 ?_
        exact k_iret G X dX0_order_29 (Nat.le_of_ble_eq_true rfl) (Nat.le_of_ble_eq_true rfl) ⟨_, _, rfl, rfl, h⟩
  · have h := hB c6
    clear hA hB
    refine k_iconst G dX0_order_9 kc_i_m1 ?_
    exact k_iret G X dX0_order_10 (Nat.le_of_ble_eq_true rfl) (Nat.le_of_ble_eq_true rfl) ⟨_, _, rfl, rfl, h⟩
def cb_coldsFrom_J121 (T : xT) (q : Nat → Nat) (c_coldsFrom : CS → Int32 → Int32 → Int32 → (CS → Prop) → Prop) (kL29 : Int32 → Int32 → Int32 → Int32 → Int32 → CS → Prop) (k : CS → Prop) (x1 : Int32) (x2 : Int32) (x3 : Int32) (x4 : Int32) (x5 : Int32) (s : CS) : Prop := ∀ x121 : Int32, x121 = x5 + 1 → kL29 x1 x2 x3 x4 x121 s
def cb_coldsFrom_L55 (T : xT) (q : Nat → Nat) (c_coldsFrom : CS → Int32 → Int32 → Int32 → (CS → Prop) → Prop) (kL29 : Int32 → Int32 → Int32 → Int32 → Int32 → CS → Prop) (k : CS → Prop) : Nat → Int32 → Int32 → Int32 → Int32 → Int32 → Int32 → CS → Prop
  | 0, _, _, _, _, _, _, _ => False
  | n + 1, x1, x2, x3, x4, x5, x6, s => (x5 ≤ x6 → vp_in x2 6 ∧ ∀ w96 : CS, w96 = (cA s 40 (x2 : Int32).toNatClampNeg x5) → vp_in (x2 + 1) 7 ∧ cw_goes T q w96 ((2 + ((x2 + 1) : Int32).toNatClampNeg)) x4 (fun r99 s99 => (¬ r99 = 0 → cb_coldsFrom_J121 T q c_coldsFrom kL29 k x1 x2 x3 x4 x5 s99) ∧ (r99 = 0 → c_coldsFrom s99 ((x1 &&& (x1 - 1))) ((x2 + 1)) ((x3 + x5)) (fun s118 => cb_coldsFrom_J121 T q c_coldsFrom kL29 k x1 x2 x3 x4 x5 s118)))) ∧ (¬ x5 ≤ x6 → vp_in (x2 + 1) 7 ∧ cw_cools T q s ((2 + ((x2 + 1) : Int32).toNatClampNeg)) (fun s71 => ∀ x74 : Int32, x74 = x6 + 1 → cb_coldsFrom_L55 T q c_coldsFrom kL29 k n x1 x2 x3 x4 x5 x74 s71))
def cb_coldsFrom_L29 (T : xT) (q : Nat → Nat) (c_coldsFrom : CS → Int32 → Int32 → Int32 → (CS → Prop) → Prop) (k : CS → Prop) : Nat → Int32 → Int32 → Int32 → Int32 → Int32 → CS → Prop
  | 0, _, _, _, _, _, _ => False
  | n + 1, x1, x2, x3, x4, x5, s => (4 < x5 → k s) ∧ (¬ 4 < x5 → vp_in (x2 + 1) 7 ∧ vp_in x2 7 ∧ (2 + ((x2 + 1) : Int32).toNatClampNeg) < 10 ∧ (2 + (x2 : Int32).toNatClampNeg) < 10 ∧ ∃ n55 : Nat, cb_coldsFrom_L55 T q c_coldsFrom (fun x1 x2 x3 x4 x5 s => cb_coldsFrom_L29 T q c_coldsFrom k n x1 x2 x3 x4 x5 s) k n55 x1 x2 x3 x4 x5 0 ((cTk s (2 + ((x2 + 1) : Int32).toNatClampNeg) (2 + (x2 : Int32).toNatClampNeg))))
def cb_coldsFrom (T : xT) (q : Nat → Nat) (c_coldsFrom : CS → Int32 → Int32 → Int32 → (CS → Prop) → Prop) (s : CS) (x1 : Int32) (x2 : Int32) (x3 : Int32) (k : CS → Prop) : Prop := cw_isFewer T q s x3 (fun r2 s2 => (¬ r2 = 0 → (¬ x1 = 0 → jw_numberOfTrailingZeros x1 (fun r21 => ∃ n29 : Nat, cb_coldsFrom_L29 T q c_coldsFrom k n29 x1 x2 x3 r21 0 s2)) ∧ (x1 = 0 → cw_keepsRow T q s2 x2 x3 (fun s16 => k s16))) ∧ (r2 = 0 → k s2))
set_option maxHeartbeats 4000000 in
theorem vb_coldsFrom (l : Launch) (D : va_G) (T : xT) (q : Nat → Nat) (lev : Nat) (c_coldsFrom : CS → Int32 → Int32 → Int32 → (CS → Prop) → Prop) (l_coldsFrom : Nat) (hl_coldsFrom : l_coldsFrom + 1 ≤ lev) (w_coldsFrom : ∀ (s : CS) (x1 : Int32) (x2 : Int32) (x3 : Int32) (k : CS → Prop), c_coldsFrom s x1 x2 x3 k → XM l D T yX0_coldsFrom cX0_coldsFrom 7 none l_coldsFrom 0 0 [.ref (q 0), .int x1, .int x2, .int x3] (cw T q s) (cpostV T q k)) (hlev : 65 ≤ lev) (s : CS) (x1 : Int32) (x2 : Int32) (x3 : Int32) (k : CS → Prop) (h : cb_coldsFrom T q c_coldsFrom s x1 x2 x3 k) : XM l D T yX0_coldsFrom cX0_coldsFrom 7 none lev 0 0 [.ref (q 0), .int x1, .int x2, .int x3] (cw T q s) (cpostV T q k) := by
  refine XM.start (by decide +kernel) (Nat.le_of_ble_eq_true rfl) (fun Γ G X _ hl_ => ?_)
  subst hl_
  have hJ121 : ∀ (kL29 : Int32 → Int32 → Int32 → Int32 → Int32 → CS → Prop) (ih29 : ∀ (x1 : Int32) (x2 : Int32) (x3 : Int32) (x4 : Int32) (x5 : Int32) (s : CS), kL29 x1 x2 x3 x4 x5 s → K D Γ 0 0 29 [(0, .ref (q 0)), (1, .int x1), (2, .int x2), (3, .int x3), (4, .int x4), (5, .int x5)] [] (cw T q s)) (x1 : Int32) (x2 : Int32) (x3 : Int32) (x4 : Int32) (x5 : Int32) (s : CS), cb_coldsFrom_J121 T q c_coldsFrom kL29 k x1 x2 x3 x4 x5 s → K D Γ 0 0 121 [(0, .ref (q 0)), (1, .int x1), (2, .int x2), (3, .int x3), (4, .int x4), (5, .int x5)] [] (cw T q s) := by
    intro kL29 ih29 x1 x2 x3 x4 x5 s h
    unfold cb_coldsFrom_J121 at h
    obtain ⟨x121, e121⟩ : ∃ y : Int32, y = x5 + 1 := ⟨_, rfl⟩
    have h := h x121 e121
    refine k_iinc G [(5, .int x121), (0, .ref (q 0)), (1, .int x1), (2, .int x2), (3, .int x3), (4, .int x4)] dX0_coldsFrom_121 rfl (v := x121) (by rw [e121, kc_i_1]) (Nat.le_of_ble_eq_true rfl) rfl ?_
    refine k_goto G 29 dX0_coldsFrom_124 (by decide) ?_
    refine K.less [1, 2, 3, 4, 5, 0] rfl ?_
    exact ih29 _ _ _ _ _ _ h
  have hL55 : ∀ (kL29 : Int32 → Int32 → Int32 → Int32 → Int32 → CS → Prop) (ih29 : ∀ (x1 : Int32) (x2 : Int32) (x3 : Int32) (x4 : Int32) (x5 : Int32) (s : CS), kL29 x1 x2 x3 x4 x5 s → K D Γ 0 0 29 [(0, .ref (q 0)), (1, .int x1), (2, .int x2), (3, .int x3), (4, .int x4), (5, .int x5)] [] (cw T q s)), ∀ n : Nat, ∀ (x1 : Int32) (x2 : Int32) (x3 : Int32) (x4 : Int32) (x5 : Int32) (x6 : Int32) (s : CS), (cb_coldsFrom_L55 T q c_coldsFrom kL29 k n) x1 x2 x3 x4 x5 x6 s → K D Γ 0 0 55 [(0, .ref (q 0)), (1, .int x1), (2, .int x2), (3, .int x3), (4, .int x4), (5, .int x5), (6, .int x6)] [] (cw T q s) := by
    intro kL29 ih29 n
    induction n with
    | zero =>
      intro _ _ _ _ _ _ _ h
      exact h.elim
    | succ n ih55 =>
      intro x1 x2 x3 x4 x5 x6 s h
      unfold cb_coldsFrom_L55 at h
      refine k_iload G dX0_coldsFrom_55 rfl ?_
      refine k_iload G dX0_coldsFrom_57 rfl ?_
      obtain ⟨hA, hB⟩ := h
      refine k_icmp_ge G 80 dX0_coldsFrom_59 (by decide) (fun c59 => ?_) (fun c59 => ?_)
      · have h := hA c59
        clear hA hB
        refine k_aload_n G dX0_coldsFrom_80 rfl ?_
        refine kc_this G cf_row_82 dX0_coldsFrom_81 rfl ?_
        refine k_iload_n G dX0_coldsFrom_84 rfl ?_
        refine k_iload G dX0_coldsFrom_85 rfl ?_
        obtain ⟨h1, h⟩ := h
        refine kc_iast G cI_40 dX0_coldsFrom_87 h1 ?_
        refine k_aload_n G dX0_coldsFrom_88 rfl ?_
        refine k_aload_n G dX0_coldsFrom_89 rfl ?_
        refine kc_this G cf_stages_78 dX0_coldsFrom_90 rfl ?_
        refine k_iload_n G dX0_coldsFrom_93 rfl ?_
        refine k_iconst G dX0_coldsFrom_94 kc_i_1 ?_
        refine k_iadd G dX0_coldsFrom_95 ?_
        refine kc_nmW (fun w96 ew96 => ?_)
        have h := h w96 ew96
        obtain ⟨h1, h⟩ := h
        refine kc_aaldM G dX0_coldsFrom_96 h1 ?_
        refine k_iload G dX0_coldsFrom_97 rfl ?_
        refine kc_callI G (vk_goes _ D T q _ _ _ _ h) gf_goes q1003 dX0_coldsFrom_99 rfl rfl (Nat.le_of_ble_eq_true rfl) (Nat.le_trans (Nat.le_of_ble_eq_true rfl) hlev) ⟨Nat.le_of_ble_eq_true rfl, Nat.le_of_ble_eq_true rfl⟩ (fun r99 s99 h => ?_)
        obtain ⟨hA, hB⟩ := h
        refine k_if_ne G 121 dX0_coldsFrom_102 (by decide) (fun c102 => ?_) (fun c102 => ?_)
        · have h := hA c102
          clear hA hB
          refine K.less [0, 1, 2, 3, 4, 5] rfl ?_
          exact hJ121 _ ih29 _ _ _ _ _ _ h
        · have h := hB c102
          clear hA hB
          refine k_aload_n G dX0_coldsFrom_105 rfl ?_
          refine k_iload_n G dX0_coldsFrom_106 rfl ?_
          refine k_iload_n G dX0_coldsFrom_107 rfl ?_
          refine k_iconst G dX0_coldsFrom_108 kc_i_1 ?_
          refine k_isub G dX0_coldsFrom_109 ?_
          refine k_iand G dX0_coldsFrom_110 ?_
          refine k_iload_n G dX0_coldsFrom_111 rfl ?_
          refine k_iconst G dX0_coldsFrom_112 kc_i_1 ?_
          refine k_iadd G dX0_coldsFrom_113 ?_
          refine k_iload_n G dX0_coldsFrom_114 rfl ?_
          refine k_iload G dX0_coldsFrom_115 rfl ?_
          refine k_iadd G dX0_coldsFrom_117 ?_
          refine kc_callV G (w_coldsFrom _ _ _ _ _ h) gf_coldsFrom q1058 dX0_coldsFrom_118 rfl rfl (Nat.le_of_ble_eq_true rfl) hl_coldsFrom ⟨Nat.le_of_ble_eq_true rfl, Nat.le_of_ble_eq_true rfl⟩ (fun s118 h => ?_)
          refine K.less [0, 1, 2, 3, 4, 5] rfl ?_
          exact hJ121 _ ih29 _ _ _ _ _ _ h
      · have h := hB c59
        clear hA hB
        refine k_aload_n G dX0_coldsFrom_62 rfl ?_
        refine k_aload_n G dX0_coldsFrom_63 rfl ?_
        refine kc_this G cf_stages_78 dX0_coldsFrom_64 rfl ?_
        refine k_iload_n G dX0_coldsFrom_67 rfl ?_
        refine k_iconst G dX0_coldsFrom_68 kc_i_1 ?_
        refine k_iadd G dX0_coldsFrom_69 ?_
        obtain ⟨h1, h⟩ := h
        refine kc_aaldM G dX0_coldsFrom_70 h1 ?_
        refine kc_callV G (vk_cools _ D T q _ _ _ h) gf_cools q1011 dX0_coldsFrom_71 rfl rfl (Nat.le_of_ble_eq_true rfl) (Nat.le_trans (Nat.le_of_ble_eq_true rfl) hlev) ⟨Nat.le_of_ble_eq_true rfl, Nat.le_of_ble_eq_true rfl⟩ (fun s71 h => ?_)
        obtain ⟨x74, e74⟩ : ∃ y : Int32, y = x6 + 1 := ⟨_, rfl⟩
        have h := h x74 e74
        refine k_iinc G [(6, .int x74), (0, .ref (q 0)), (1, .int x1), (2, .int x2), (3, .int x3), (4, .int x4), (5, .int x5)] dX0_coldsFrom_74 rfl (v := x74) (by rw [e74, kc_i_1]) (Nat.le_of_ble_eq_true rfl) rfl ?_
        refine k_goto G 55 dX0_coldsFrom_77 (by decide) ?_
        refine K.less [1, 2, 3, 4, 5, 6, 0] rfl ?_
        exact ih55 _ _ _ _ _ _ _ h
  have hL29 : ∀ n : Nat, ∀ (x1 : Int32) (x2 : Int32) (x3 : Int32) (x4 : Int32) (x5 : Int32) (s : CS), (cb_coldsFrom_L29 T q c_coldsFrom k n) x1 x2 x3 x4 x5 s → K D Γ 0 0 29 [(0, .ref (q 0)), (1, .int x1), (2, .int x2), (3, .int x3), (4, .int x4), (5, .int x5)] [] (cw T q s) := by
    intro n
    induction n with
    | zero =>
      intro _ _ _ _ _ _ h
      exact h.elim
    | succ n ih29 =>
      intro x1 x2 x3 x4 x5 s h
      unfold cb_coldsFrom_L29 at h
      refine k_iload G dX0_coldsFrom_29 rfl ?_
      refine k_iconst G dX0_coldsFrom_31 kc_i_4 ?_
      obtain ⟨hA, hB⟩ := h
      refine k_icmp_gt G 127 dX0_coldsFrom_32 (by decide) (fun c32 => ?_) (fun c32 => ?_)
      · have h := hA c32
        clear hA hB
        exact k_vret G X dX0_coldsFrom_127 (Nat.le_of_ble_eq_true rfl) (Nat.le_of_ble_eq_true rfl) ⟨_, rfl, rfl, h⟩
      · have h := hB c32
        clear hA hB
        refine k_aload_n G dX0_coldsFrom_35 rfl ?_
        refine kc_this G cf_stages_78 dX0_coldsFrom_36 rfl ?_
        refine k_iload_n G dX0_coldsFrom_39 rfl ?_
        refine k_iconst G dX0_coldsFrom_40 kc_i_1 ?_
        refine k_iadd G dX0_coldsFrom_41 ?_
        obtain ⟨h1, h⟩ := h
        refine kc_aaldM G dX0_coldsFrom_42 h1 ?_
        refine k_aload_n G dX0_coldsFrom_43 rfl ?_
        refine kc_this G cf_stages_78 dX0_coldsFrom_44 rfl ?_
        refine k_iload_n G dX0_coldsFrom_47 rfl ?_
        obtain ⟨h1, h⟩ := h
        refine kc_aaldM G dX0_coldsFrom_48 h1 ?_
        obtain ⟨h1, h⟩ := h
        obtain ⟨h2, h⟩ := h
        refine kl_takes G h1 h2 q1019 dX0_coldsFrom_49 (Nat.le_of_ble_eq_true rfl) (Nat.le_trans (Nat.le_of_ble_eq_true rfl) hlev) ⟨Nat.le_of_ble_eq_true rfl, Nat.le_of_ble_eq_true rfl⟩ ?_
        refine k_iconst G dX0_coldsFrom_52 kc_i_0 ?_
        refine k_istore G [(6, .int 0), (0, .ref (q 0)), (1, .int x1), (2, .int x2), (3, .int x3), (4, .int x4), (5, .int x5)] dX0_coldsFrom_53 (Nat.le_of_ble_eq_true rfl) rfl ?_
        obtain ⟨n55, h⟩ := h
        refine K.less [1, 2, 3, 4, 5, 6, 0] rfl ?_
        exact hL55 _ ih29 n55 _ _ _ _ _ _ _ h
  refine K.less [0, 1, 2, 3] (lv' := [(0, .ref (q 0)), (1, .int x1), (2, .int x2), (3, .int x3)]) rfl ?_
  unfold cb_coldsFrom at h
  refine k_aload_n G dX0_coldsFrom_0 rfl ?_
  refine k_iload_n G dX0_coldsFrom_1 rfl ?_
  refine kc_callI G (vk_isFewer _ D T q _ _ _ h) gf_isFewer q1046 dX0_coldsFrom_2 rfl rfl (Nat.le_of_ble_eq_true rfl) (Nat.le_trans (Nat.le_of_ble_eq_true rfl) hlev) ⟨Nat.le_of_ble_eq_true rfl, Nat.le_of_ble_eq_true rfl⟩ (fun r2 s2 h => ?_)
  obtain ⟨hA, hB⟩ := h
  refine k_if_ne G 9 dX0_coldsFrom_5 (by decide) (fun c5 => ?_) (fun c5 => ?_)
  · have h := hA c5
    clear hA hB
    refine k_iload_n G dX0_coldsFrom_9 rfl ?_
    obtain ⟨hA, hB⟩ := h
    refine k_if_ne G 20 dX0_coldsFrom_10 (by decide) (fun c10 => ?_) (fun c10 => ?_)
    · have h := hA c10
      clear hA hB
      refine k_iload_n G dX0_coldsFrom_20 rfl ?_
      refine k_callPI G (jk_numberOfTrailingZeros _ D T _ _ h) jf_numberOfTrailingZeros q1062 dX0_coldsFrom_21 rfl rfl (Nat.le_of_ble_eq_true rfl) (Nat.le_trans (Nat.le_of_ble_eq_true rfl) hlev) ⟨Nat.le_of_ble_eq_true rfl, Nat.le_of_ble_eq_true rfl⟩ (fun r21 h => ?_)
      refine k_istore G [(4, .int r21), (0, .ref (q 0)), (1, .int x1), (2, .int x2), (3, .int x3)] dX0_coldsFrom_24 (Nat.le_of_ble_eq_true rfl) rfl ?_
      refine k_iconst G dX0_coldsFrom_26 kc_i_0 ?_
      refine k_istore G [(5, .int 0), (4, .int r21), (0, .ref (q 0)), (1, .int x1), (2, .int x2), (3, .int x3)] dX0_coldsFrom_27 (Nat.le_of_ble_eq_true rfl) rfl ?_
      obtain ⟨n29, h⟩ := h
      refine K.less [2, 3, 4, 5, 1, 0] rfl ?_
      exact hL29 n29 _ _ _ _ _ _ h
    · have h := hB c10
      clear hA hB
      refine k_aload_n G dX0_coldsFrom_13 rfl ?_
      refine k_iload_n G dX0_coldsFrom_14 rfl ?_
      refine k_iload_n G dX0_coldsFrom_15 rfl ?_
      refine kc_callV G (vk_keepsRow _ D T q _ _ _ _ h) gf_keepsRow q1050 dX0_coldsFrom_16 rfl rfl (Nat.le_of_ble_eq_true rfl) (Nat.le_trans (Nat.le_of_ble_eq_true rfl) hlev) ⟨Nat.le_of_ble_eq_true rfl, Nat.le_of_ble_eq_true rfl⟩ (fun s16 h => ?_)
      exact k_vret G X dX0_coldsFrom_19 (Nat.le_of_ble_eq_true rfl) (Nat.le_of_ble_eq_true rfl) ⟨_, rfl, rfl, h⟩
  · have h := hB c5
    clear hA hB
    exact k_vret G X dX0_coldsFrom_8 (Nat.le_of_ble_eq_true rfl) (Nat.le_of_ble_eq_true rfl) ⟨_, rfl, rfl, h⟩
def cf_coldsFrom (T : xT) (q : Nat → Nat) : Nat → CS → Int32 → Int32 → Int32 → (CS → Prop) → Prop
  | 0, _, _, _, _, _ => False
  | n + 1, s, x1, x2, x3, k => cb_coldsFrom T q (cf_coldsFrom T q n) s x1 x2 x3 k
theorem vf_coldsFrom (l : Launch) (D : va_G) (T : xT) (q : Nat → Nat) : ∀ (n : Nat) (s : CS) (x1 : Int32) (x2 : Int32) (x3 : Int32) (k : CS → Prop), cf_coldsFrom T q n s x1 x2 x3 k → XM l D T yX0_coldsFrom cX0_coldsFrom 7 none (65 + n) 0 0 [.ref (q 0), .int x1, .int x2, .int x3] (cw T q s) (cpostV T q k) := by
  intro n
  induction n with
  | zero =>
    intro _ _ _ _ _ h
    exact h.elim
  | succ n ih =>
    intro s x1 x2 x3 k h
    exact vb_coldsFrom l D T q (65 + (n + 1)) (cf_coldsFrom T q n) (65 + n) (by omega) ih (by omega) s x1 x2 x3 k h
def cw_coldsFrom (T : xT) (q : Nat → Nat) (s : CS) (x1 : Int32) (x2 : Int32) (x3 : Int32) (k : CS → Prop) : Prop := cf_coldsFrom T q 8 s x1 x2 x3 k
theorem vk_coldsFrom (l : Launch) (D : va_G) (T : xT) (q : Nat → Nat) (s : CS) (x1 : Int32) (x2 : Int32) (x3 : Int32) (k : CS → Prop) (h : cw_coldsFrom T q s x1 x2 x3 k) : XM l D T yX0_coldsFrom cX0_coldsFrom 7 none 73 0 0 [.ref (q 0), .int x1, .int x2, .int x3] (cw T q s) (cpostV T q k) := vf_coldsFrom l D T q 8 s x1 x2 x3 k h
def cw_colds (T : xT) (q : Nat → Nat) (s : CS) (x1 : Int32) (x2 : Int32) (k : Int32 → CS → Prop) : Prop := qw_in x2 (-1) 5 (fun r3 => (¬ r3 = 0 → cw_isSet T q s x1 (fun r13 s13 => (r13 = 0 → k (-2) s13) ∧ (¬ r13 = 0 → jw_bitCount x1 (fun r20 => (r20 ≤ 4 → cw_begins T q s13 (fun s31 => cw_coldsFrom T q s31 x1 0 0 (fun s38 => (¬ x2 = (-1) → vp_in x2 6 ∧ k ((s38.1.1 41 (x2 : Int32).toNatClampNeg)) s38) ∧ (x2 = (-1) → k ((s38.1.1 0 21)) s38)))) ∧ (¬ r20 ≤ 4 → k (-2) s13))))) ∧ (r3 = 0 → k (-1) s))
set_option maxHeartbeats 4000000 in
theorem vk_colds (l : Launch) (D : va_G) (T : xT) (q : Nat → Nat) (s : CS) (x1 : Int32) (x2 : Int32) (k : Int32 → CS → Prop) (h : cw_colds T q s x1 x2 k) : XM l D T yX0_colds cX0_colds 3 (some .int) 75 0 0 [.ref (q 0), .int x1, .int x2] (cw T q s) (cpostI T q k) := by
  refine XM.start (by decide +kernel) (Nat.le_of_ble_eq_true rfl) (fun Γ G X _ hl_ => ?_)
  subst hl_
  refine K.less [0, 1, 2] (lv' := [(0, .ref (q 0)), (1, .int x1), (2, .int x2)]) rfl ?_
  unfold cw_colds at h
  refine k_iload_n G dX0_colds_0 rfl ?_
  refine k_iconst G dX0_colds_1 kc_i_m1 ?_
  refine k_iconst G dX0_colds_2 kc_i_5 ?_
  refine k_callPI G (vk_in _ D T _ _ _ _ h) gf_in q368 dX0_colds_3 rfl rfl (Nat.le_of_ble_eq_true rfl) (Nat.le_of_ble_eq_true rfl) ⟨Nat.le_of_ble_eq_true rfl, Nat.le_of_ble_eq_true rfl⟩ (fun r3 h => ?_)
  obtain ⟨hA, hB⟩ := h
  refine k_if_ne G 11 dX0_colds_6 (by decide) (fun c6 => ?_) (fun c6 => ?_)
  · have h := hA c6
    clear hA hB
    refine k_aload_n G dX0_colds_11 rfl ?_
    refine k_iload_n G dX0_colds_12 rfl ?_
    refine kc_callI G (vk_isSet _ D T q _ _ _ h) gf_isSet q1028 dX0_colds_13 rfl rfl (Nat.le_of_ble_eq_true rfl) (Nat.le_of_ble_eq_true rfl) ⟨Nat.le_of_ble_eq_true rfl, Nat.le_of_ble_eq_true rfl⟩ (fun r13 s13 h => ?_)
    obtain ⟨hA, hB⟩ := h
    refine k_if_eq G 27 dX0_colds_16 (by decide) (fun c16 => ?_) (fun c16 => ?_)
    · have h := hA c16
      clear hA hB
      refine k_bipush G dX0_colds_27 kc_b_m2 ?_
      exact k_iret G X dX0_colds_29 (Nat.le_of_ble_eq_true rfl) (Nat.le_of_ble_eq_true rfl) ⟨_, _, rfl, rfl, h⟩
    · have h := hB c16
      clear hA hB
      refine k_iload_n G dX0_colds_19 rfl ?_
      refine k_callPI G (jk_bitCount _ D T _ _ h) jf_bitCount q1032 dX0_colds_20 rfl rfl (Nat.le_of_ble_eq_true rfl) (Nat.le_of_ble_eq_true rfl) ⟨Nat.le_of_ble_eq_true rfl, Nat.le_of_ble_eq_true rfl⟩ (fun r20 h => ?_)
      refine k_iconst G dX0_colds_23 kc_i_4 ?_
      obtain ⟨hA, hB⟩ := h
      refine k_icmp_le G 30 dX0_colds_24 (by decide) (fun c24 => ?_) (fun c24 => ?_)
      · have h := hA c24
        clear hA hB
        refine k_aload_n G dX0_colds_30 rfl ?_
        refine kc_callV G (vk_begins _ D T q _ _ h) gf_begins q1038 dX0_colds_31 rfl rfl (Nat.le_of_ble_eq_true rfl) (Nat.le_of_ble_eq_true rfl) ⟨Nat.le_of_ble_eq_true rfl, Nat.le_of_ble_eq_true rfl⟩ (fun s31 h => ?_)
        refine k_aload_n G dX0_colds_34 rfl ?_
        refine k_iload_n G dX0_colds_35 rfl ?_
        refine k_iconst G dX0_colds_36 kc_i_0 ?_
        refine k_iconst G dX0_colds_37 kc_i_0 ?_
        refine kc_callV G (vk_coldsFrom _ D T q _ _ _ _ _ h) gf_coldsFrom q1058 dX0_colds_38 rfl rfl (Nat.le_of_ble_eq_true rfl) (Nat.le_of_ble_eq_true rfl) ⟨Nat.le_of_ble_eq_true rfl, Nat.le_of_ble_eq_true rfl⟩ (fun s38 h => ?_)
        refine k_iload_n G dX0_colds_41 rfl ?_
        refine k_iconst G dX0_colds_42 kc_i_m1 ?_
        obtain ⟨hA, hB⟩ := h
        refine k_icmp_ne G 53 dX0_colds_43 (by decide) (fun c43 => ?_) (fun c43 => ?_)
        · have h := hA c43
          clear hA hB
          refine k_aload_n G dX0_colds_53 rfl ?_
          refine kc_this G cf_bestRow_85 dX0_colds_54 rfl ?_
          refine k_iload_n G dX0_colds_57 rfl ?_
          obtain ⟨h1, h⟩ := h
          refine kc_iald G cI_41 dX0_colds_58 h1 ?_
          exact k_iret G X dX0_colds_59 (Nat.le_of_ble_eq_true rfl) (Nat.le_of_ble_eq_true rfl) ⟨_, _, rfl, rfl, h⟩
        · have h := hB c43
          clear hA hB
          refine k_aload_n G dX0_colds_46 rfl ?_
          refine kc_this G cf_fewest_255 dX0_colds_47 rfl ?_
          refine k_goto G 59 dX0_colds_50 (by decide) ?_
          exact k_iret G X dX0_colds_59 (Nat.le_of_ble_eq_true rfl) (Nat.le_of_ble_eq_true rfl) ⟨_, _, rfl, rfl, h⟩
      · have h := hB c24
        clear hA hB
        refine k_bipush G dX0_colds_27 kc_b_m2 ?_
        exact k_iret G X dX0_colds_29 (Nat.le_of_ble_eq_true rfl) (Nat.le_of_ble_eq_true rfl) ⟨_, _, rfl, rfl, h⟩
  · have h := hB c6
    clear hA hB
    refine k_iconst G dX0_colds_9 kc_i_m1 ?_
    exact k_iret G X dX0_colds_10 (Nat.le_of_ble_eq_true rfl) (Nat.le_of_ble_eq_true rfl) ⟨_, _, rfl, rfl, h⟩
def cw_takesAt_J63 (T : xT) (q : Nat → Nat) (kL16 : Int32 → Int32 → Int32 → Int32 → CS → Prop) (k : Int32 → CS → Prop) (x1 : Int32) (x2 : Int32) (x3 : Int32) (x4 : Int32) (s : CS) : Prop := ∀ x63 : Int32, x63 = x4 + 1 → kL16 x1 x2 x3 x63 s
def cw_takesAt_L16 (T : xT) (q : Nat → Nat) (k : Int32 → CS → Prop) : Nat → Int32 → Int32 → Int32 → Int32 → CS → Prop
  | 0, _, _, _, _, _ => False
  | n + 1, x1, x2, x3, x4, s => ((s.1.1 0 3) ≤ x4 → cw_takesAll T q s 1 x1 (fun r75 s75 => k r75 s75)) ∧ (¬ (s.1.1 0 3) ≤ x4 → (¬ x4 = x1 → ∀ x35 : Int32, x35 = x3 + 1 → (¬ x3 = x2 → cw_goes T q s 1 x4 (fun r59 s59 => cw_takesAt_J63 T q (fun x1 x2 x3 x4 s => cw_takesAt_L16 T q k n x1 x2 x3 x4 s) k x1 x2 x35 x4 s59)) ∧ (x3 = x2 → cw_takesAll T q s 1 x1 (fun r48 s48 => k r48 s48))) ∧ (x4 = x1 → cw_takesAt_J63 T q (fun x1 x2 x3 x4 s => cw_takesAt_L16 T q k n x1 x2 x3 x4 s) k x1 x2 x3 x4 s))
def cw_takesAt (T : xT) (q : Nat → Nat) (s : CS) (x1 : Int32) (x2 : Int32) (k : Int32 → CS → Prop) : Prop := ∃ n16 : Nat, cw_takesAt_L16 T q k n16 x1 x2 0 0 ((cTk s 1 0))
set_option maxHeartbeats 4000000 in
theorem vk_takesAt (l : Launch) (D : va_G) (T : xT) (q : Nat → Nat) (s : CS) (x1 : Int32) (x2 : Int32) (k : Int32 → CS → Prop) (h : cw_takesAt T q s x1 x2 k) : XM l D T yX0_takesAt cX0_takesAt 5 (some .int) 65 0 0 [.ref (q 0), .int x1, .int x2] (cw T q s) (cpostI T q k) := by
  refine XM.start (by decide +kernel) (Nat.le_of_ble_eq_true rfl) (fun Γ G X _ hl_ => ?_)
  subst hl_
  have hJ63 : ∀ (kL16 : Int32 → Int32 → Int32 → Int32 → CS → Prop) (ih16 : ∀ (x1 : Int32) (x2 : Int32) (x3 : Int32) (x4 : Int32) (s : CS), kL16 x1 x2 x3 x4 s → K D Γ 0 0 16 [(0, .ref (q 0)), (1, .int x1), (2, .int x2), (3, .int x3), (4, .int x4)] [] (cw T q s)) (x1 : Int32) (x2 : Int32) (x3 : Int32) (x4 : Int32) (s : CS), cw_takesAt_J63 T q kL16 k x1 x2 x3 x4 s → K D Γ 0 0 63 [(0, .ref (q 0)), (1, .int x1), (2, .int x2), (3, .int x3), (4, .int x4)] [] (cw T q s) := by
    intro kL16 ih16 x1 x2 x3 x4 s h
    unfold cw_takesAt_J63 at h
    obtain ⟨x63, e63⟩ : ∃ y : Int32, y = x4 + 1 := ⟨_, rfl⟩
    have h := h x63 e63
    refine k_iinc G [(4, .int x63), (0, .ref (q 0)), (1, .int x1), (2, .int x2), (3, .int x3)] dX0_takesAt_63 rfl (v := x63) (by rw [e63, kc_i_1]) (Nat.le_of_ble_eq_true rfl) rfl ?_
    refine k_goto G 16 dX0_takesAt_66 (by decide) ?_
    refine K.less [1, 2, 3, 4, 0] rfl ?_
    exact ih16 _ _ _ _ _ h
  have hL16 : ∀ n : Nat, ∀ (x1 : Int32) (x2 : Int32) (x3 : Int32) (x4 : Int32) (s : CS), (cw_takesAt_L16 T q k n) x1 x2 x3 x4 s → K D Γ 0 0 16 [(0, .ref (q 0)), (1, .int x1), (2, .int x2), (3, .int x3), (4, .int x4)] [] (cw T q s) := by
    intro n
    induction n with
    | zero =>
      intro _ _ _ _ _ h
      exact h.elim
    | succ n ih16 =>
      intro x1 x2 x3 x4 s h
      unfold cw_takesAt_L16 at h
      refine k_iload G dX0_takesAt_16 rfl ?_
      refine k_aload_n G dX0_takesAt_18 rfl ?_
      refine kc_this G cf_many_107 dX0_takesAt_19 rfl ?_
      obtain ⟨hA, hB⟩ := h
      refine k_icmp_ge G 69 dX0_takesAt_22 (by decide) (fun c22 => ?_) (fun c22 => ?_)
      · have h := hA c22
        clear hA hB
        refine k_aload_n G dX0_takesAt_69 rfl ?_
        refine k_aload_n G dX0_takesAt_70 rfl ?_
        refine kc_this G cf_tried_31 dX0_takesAt_71 rfl ?_
        refine k_iload_n G dX0_takesAt_74 rfl ?_
        refine kc_callI G (vk_takesAll _ D T q _ _ _ _ h) gf_takesAll q1074 dX0_takesAt_75 rfl rfl (Nat.le_of_ble_eq_true rfl) (Nat.le_of_ble_eq_true rfl) ⟨Nat.le_of_ble_eq_true rfl, Nat.le_of_ble_eq_true rfl⟩ (fun r75 s75 h => ?_)
        exact k_iret G X dX0_takesAt_78 (Nat.le_of_ble_eq_true rfl) (Nat.le_of_ble_eq_true rfl) ⟨_, _, rfl, rfl, h⟩
      · have h := hB c22
        clear hA hB
        refine k_iload G dX0_takesAt_25 rfl ?_
        refine k_iload_n G dX0_takesAt_27 rfl ?_
        obtain ⟨hA, hB⟩ := h
        refine k_icmp_ne G 34 dX0_takesAt_28 (by decide) (fun c28 => ?_) (fun c28 => ?_)
        · have h := hA c28
          clear hA hB
          refine k_iload_n G dX0_takesAt_34 rfl ?_
          obtain ⟨x35, e35⟩ : ∃ y : Int32, y = x3 + 1 := ⟨_, rfl⟩
          have h := h x35 e35
          refine k_iinc G [(3, .int x35), (0, .ref (q 0)), (1, .int x1), (2, .int x2), (4, .int x4)] dX0_takesAt_35 rfl (v := x35) (by rw [e35, kc_i_1]) (Nat.le_of_ble_eq_true rfl) rfl ?_
          refine k_iload_n G dX0_takesAt_38 rfl ?_
          obtain ⟨hA, hB⟩ := h
          refine k_icmp_ne G 52 dX0_takesAt_39 (by decide) (fun c39 => ?_) (fun c39 => ?_)
          · have h := hA c39
            clear hA hB
            refine k_aload_n G dX0_takesAt_52 rfl ?_
            refine k_aload_n G dX0_takesAt_53 rfl ?_
            refine kc_this G cf_tried_31 dX0_takesAt_54 rfl ?_
            refine k_iload G dX0_takesAt_57 rfl ?_
            refine kc_callI G (vk_goes _ D T q _ _ _ _ h) gf_goes q1003 dX0_takesAt_59 rfl rfl (Nat.le_of_ble_eq_true rfl) (Nat.le_of_ble_eq_true rfl) ⟨Nat.le_of_ble_eq_true rfl, Nat.le_of_ble_eq_true rfl⟩ (fun r59 s59 h => ?_)
            refine k_pop G dX0_takesAt_62 rfl ?_
            refine K.less [1, 2, 3, 0, 4] rfl ?_
            exact hJ63 _ ih16 _ _ _ _ _ h
          · have h := hB c39
            clear hA hB
            refine k_aload_n G dX0_takesAt_42 rfl ?_
            refine k_aload_n G dX0_takesAt_43 rfl ?_
            refine kc_this G cf_tried_31 dX0_takesAt_44 rfl ?_
            refine k_iload_n G dX0_takesAt_47 rfl ?_
            refine kc_callI G (vk_takesAll _ D T q _ _ _ _ h) gf_takesAll q1074 dX0_takesAt_48 rfl rfl (Nat.le_of_ble_eq_true rfl) (Nat.le_of_ble_eq_true rfl) ⟨Nat.le_of_ble_eq_true rfl, Nat.le_of_ble_eq_true rfl⟩ (fun r48 s48 h => ?_)
            exact k_iret G X dX0_takesAt_51 (Nat.le_of_ble_eq_true rfl) (Nat.le_of_ble_eq_true rfl) ⟨_, _, rfl, rfl, h⟩
        · have h := hB c28
          clear hA hB
          refine k_goto G 63 dX0_takesAt_31 (by decide) ?_
          exact hJ63 _ ih16 _ _ _ _ _ h
  refine K.less [0, 1, 2] (lv' := [(0, .ref (q 0)), (1, .int x1), (2, .int x2)]) rfl ?_
  unfold cw_takesAt at h
  refine k_aload_n G dX0_takesAt_0 rfl ?_
  refine kc_this G cf_tried_31 dX0_takesAt_1 rfl ?_
  refine k_aload_n G dX0_takesAt_4 rfl ?_
  refine kc_this G cf_now_27 dX0_takesAt_5 rfl ?_
  refine kl_takes G (a := 1) (b := 0) (by decide) (by decide) q1019 dX0_takesAt_8 (Nat.le_of_ble_eq_true rfl) (Nat.le_of_ble_eq_true rfl) ⟨Nat.le_of_ble_eq_true rfl, Nat.le_of_ble_eq_true rfl⟩ ?_
  refine k_iconst G dX0_takesAt_11 kc_i_0 ?_
  refine k_istore_n G [(3, .int 0), (0, .ref (q 0)), (1, .int x1), (2, .int x2)] dX0_takesAt_12 rfl (Nat.le_of_ble_eq_true rfl) rfl ?_
  refine k_iconst G dX0_takesAt_13 kc_i_0 ?_
  refine k_istore G [(4, .int 0), (3, .int 0), (0, .ref (q 0)), (1, .int x1), (2, .int x2)] dX0_takesAt_14 (Nat.le_of_ble_eq_true rfl) rfl ?_
  obtain ⟨n16, h⟩ := h
  refine K.less [2, 3, 4, 1, 0] rfl ?_
  exact hL16 n16 _ _ _ _ _ h
def cw_place_J67 (T : xT) (q : Nat → Nat) (kL27 : Int32 → Int32 → Int32 → Int32 → Int32 → CS → Prop) (k : Int32 → CS → Prop) (x1 : Int32) (x2 : Int32) (x3 : Int32) (x4 : Int32) (x5 : Int32) (s : CS) : Prop := ∀ x67 : Int32, x67 = x5 + 1 → kL27 x1 x2 x3 x4 x67 s
def cw_place_J60 (T : xT) (q : Nat → Nat) (kL27 : Int32 → Int32 → Int32 → Int32 → Int32 → CS → Prop) (k : Int32 → CS → Prop) (x1 : Int32) (x2 : Int32) (x5 : Int32) (x6 : Int32) (s : CS) : Prop := cw_place_J67 T q kL27 k x1 x2 x5 x6 x5 s
def cw_place_L27 (T : xT) (q : Nat → Nat) (k : Int32 → CS → Prop) : Nat → Int32 → Int32 → Int32 → Int32 → Int32 → CS → Prop
  | 0, _, _, _, _, _, _ => False
  | n + 1, x1, x2, x3, x4, x5, s => ((s.1.1 0 3) ≤ x5 → (¬ x2 = 0 → k x4 s) ∧ (x2 = 0 → k x3 s)) ∧ (¬ (s.1.1 0 3) ≤ x5 → cw_takesAt T q s x1 x5 (fun r40 s40 => (x5 ≤ 0 → cw_place_J60 T q (fun x1 x2 x3 x4 x5 s => cw_place_L27 T q k n x1 x2 x3 x4 x5 s) k x1 x2 x5 r40 s40) ∧ (¬ x5 ≤ 0 → (r40 < x4 → cw_place_J60 T q (fun x1 x2 x3 x4 x5 s => cw_place_L27 T q k n x1 x2 x3 x4 x5 s) k x1 x2 x5 r40 s40) ∧ (¬ r40 < x4 → cw_place_J67 T q (fun x1 x2 x3 x4 x5 s => cw_place_L27 T q k n x1 x2 x3 x4 x5 s) k x1 x2 x3 x4 x5 s40))))
def cw_place (T : xT) (q : Nat → Nat) (s : CS) (x1 : Int32) (x2 : Int32) (k : Int32 → CS → Prop) : Prop := cw_isLoaf T q s x1 (fun r2 s2 => (r2 = 0 → k (-1) s2) ∧ (¬ r2 = 0 → qw_in x2 0 1 (fun r11 => (¬ r11 = 0 → ∃ n27 : Nat, cw_place_L27 T q k n27 x1 x2 0 0 0 s2) ∧ (r11 = 0 → k (-1) s2))))
set_option maxHeartbeats 4000000 in
theorem vk_place (l : Launch) (D : va_G) (T : xT) (q : Nat → Nat) (s : CS) (x1 : Int32) (x2 : Int32) (k : Int32 → CS → Prop) (h : cw_place T q s x1 x2 k) : XM l D T yX0_place cX0_place 7 (some .int) 67 0 0 [.ref (q 0), .int x1, .int x2] (cw T q s) (cpostI T q k) := by
  refine XM.start (by decide +kernel) (Nat.le_of_ble_eq_true rfl) (fun Γ G X _ hl_ => ?_)
  subst hl_
  have hJ67 : ∀ (kL27 : Int32 → Int32 → Int32 → Int32 → Int32 → CS → Prop) (ih27 : ∀ (x1 : Int32) (x2 : Int32) (x3 : Int32) (x4 : Int32) (x5 : Int32) (s : CS), kL27 x1 x2 x3 x4 x5 s → K D Γ 0 0 27 [(0, .ref (q 0)), (1, .int x1), (2, .int x2), (3, .int x3), (4, .int x4), (5, .int x5)] [] (cw T q s)) (x1 : Int32) (x2 : Int32) (x3 : Int32) (x4 : Int32) (x5 : Int32) (s : CS), cw_place_J67 T q kL27 k x1 x2 x3 x4 x5 s → K D Γ 0 0 67 [(0, .ref (q 0)), (1, .int x1), (2, .int x2), (3, .int x3), (4, .int x4), (5, .int x5)] [] (cw T q s) := by
    intro kL27 ih27 x1 x2 x3 x4 x5 s h
    unfold cw_place_J67 at h
    obtain ⟨x67, e67⟩ : ∃ y : Int32, y = x5 + 1 := ⟨_, rfl⟩
    have h := h x67 e67
    refine k_iinc G [(5, .int x67), (0, .ref (q 0)), (1, .int x1), (2, .int x2), (3, .int x3), (4, .int x4)] dX0_place_67 rfl (v := x67) (by rw [e67, kc_i_1]) (Nat.le_of_ble_eq_true rfl) rfl ?_
    refine k_goto G 27 dX0_place_70 (by decide) ?_
    refine K.less [1, 2, 3, 4, 5, 0] rfl ?_
    exact ih27 _ _ _ _ _ _ h
  have hJ60 : ∀ (kL27 : Int32 → Int32 → Int32 → Int32 → Int32 → CS → Prop) (ih27 : ∀ (x1 : Int32) (x2 : Int32) (x3 : Int32) (x4 : Int32) (x5 : Int32) (s : CS), kL27 x1 x2 x3 x4 x5 s → K D Γ 0 0 27 [(0, .ref (q 0)), (1, .int x1), (2, .int x2), (3, .int x3), (4, .int x4), (5, .int x5)] [] (cw T q s)) (x1 : Int32) (x2 : Int32) (x5 : Int32) (x6 : Int32) (s : CS), cw_place_J60 T q kL27 k x1 x2 x5 x6 s → K D Γ 0 0 60 [(0, .ref (q 0)), (1, .int x1), (2, .int x2), (5, .int x5), (6, .int x6)] [] (cw T q s) := by
    intro kL27 ih27 x1 x2 x5 x6 s h
    unfold cw_place_J60 at h
    refine k_iload G dX0_place_60 rfl ?_
    refine k_istore G [(4, .int x6), (0, .ref (q 0)), (1, .int x1), (2, .int x2), (5, .int x5), (6, .int x6)] dX0_place_62 (Nat.le_of_ble_eq_true rfl) rfl ?_
    refine k_iload G dX0_place_64 rfl ?_
    refine k_istore_n G [(3, .int x5), (4, .int x6), (0, .ref (q 0)), (1, .int x1), (2, .int x2), (5, .int x5), (6, .int x6)] dX0_place_66 rfl (Nat.le_of_ble_eq_true rfl) rfl ?_
    refine K.less [2, 3, 4, 0, 1, 5] rfl ?_
    exact hJ67 _ ih27 _ _ _ _ _ _ h
  have hL27 : ∀ n : Nat, ∀ (x1 : Int32) (x2 : Int32) (x3 : Int32) (x4 : Int32) (x5 : Int32) (s : CS), (cw_place_L27 T q k n) x1 x2 x3 x4 x5 s → K D Γ 0 0 27 [(0, .ref (q 0)), (1, .int x1), (2, .int x2), (3, .int x3), (4, .int x4), (5, .int x5)] [] (cw T q s) := by
    intro n
    induction n with
    | zero =>
      intro _ _ _ _ _ _ h
      exact h.elim
    | succ n ih27 =>
      intro x1 x2 x3 x4 x5 s h
      unfold cw_place_L27 at h
      refine k_iload G dX0_place_27 rfl ?_
      refine k_aload_n G dX0_place_29 rfl ?_
      refine kc_this G cf_many_107 dX0_place_30 rfl ?_
      obtain ⟨hA, hB⟩ := h
      refine k_icmp_ge G 73 dX0_place_33 (by decide) (fun c33 => ?_) (fun c33 => ?_)
      · have h := hA c33
        clear hA hB
        refine k_iload_n G dX0_place_73 rfl ?_
        obtain ⟨hA, hB⟩ := h
        refine k_if_ne G 81 dX0_place_74 (by decide) (fun c74 => ?_) (fun c74 => ?_)
        · have h := hA c74
          clear hA hB
          refine k_iload G dX0_place_81 rfl ?_
          exact k_iret G X dX0_place_83 (Nat.le_of_ble_eq_true rfl) (Nat.le_of_ble_eq_true rfl) ⟨_, _, rfl, rfl, h⟩
        · have h := hB c74
          clear hA hB
          refine k_iload_n G dX0_place_77 rfl ?_
          refine k_goto G 83 dX0_place_78 (by decide) ?_
          exact k_iret G X dX0_place_83 (Nat.le_of_ble_eq_true rfl) (Nat.le_of_ble_eq_true rfl) ⟨_, _, rfl, rfl, h⟩
      · have h := hB c33
        clear hA hB
        refine k_aload_n G dX0_place_36 rfl ?_
        refine k_iload_n G dX0_place_37 rfl ?_
        refine k_iload G dX0_place_38 rfl ?_
        refine kc_callI G (vk_takesAt _ D T q _ _ _ _ h) gf_takesAt q1070 dX0_place_40 rfl rfl (Nat.le_of_ble_eq_true rfl) (Nat.le_of_ble_eq_true rfl) ⟨Nat.le_of_ble_eq_true rfl, Nat.le_of_ble_eq_true rfl⟩ (fun r40 s40 h => ?_)
        refine k_istore G [(6, .int r40), (0, .ref (q 0)), (1, .int x1), (2, .int x2), (3, .int x3), (4, .int x4), (5, .int x5)] dX0_place_43 (Nat.le_of_ble_eq_true rfl) rfl ?_
        refine k_iload G dX0_place_45 rfl ?_
        obtain ⟨hA, hB⟩ := h
        refine k_if_le G 60 dX0_place_47 (by decide) (fun c47 => ?_) (fun c47 => ?_)
        · have h := hA c47
          clear hA hB
          refine K.less [1, 2, 3, 6, 0] rfl ?_
          exact hJ60 _ ih27 _ _ _ _ _ h
        · have h := hB c47
          clear hA hB
          refine k_iload G dX0_place_50 rfl ?_
          refine k_iload G dX0_place_52 rfl ?_
          obtain ⟨hA, hB⟩ := h
          refine k_icmp_lt G 60 dX0_place_54 (by decide) (fun c54 => ?_) (fun c54 => ?_)
          · have h := hA c54
            clear hA hB
            refine K.less [1, 2, 3, 6, 0] rfl ?_
            exact hJ60 _ ih27 _ _ _ _ _ h
          · have h := hB c54
            clear hA hB
            refine k_goto G 67 dX0_place_57 (by decide) ?_
            refine K.less [1, 2, 3, 4, 5, 6] rfl ?_
            exact hJ67 _ ih27 _ _ _ _ _ _ h
  refine K.less [0, 1, 2] (lv' := [(0, .ref (q 0)), (1, .int x1), (2, .int x2)]) rfl ?_
  unfold cw_place at h
  refine k_aload_n G dX0_place_0 rfl ?_
  refine k_iload_n G dX0_place_1 rfl ?_
  refine kc_callI G (vk_isLoaf _ D T q _ _ _ h) gf_isLoaf q475 dX0_place_2 rfl rfl (Nat.le_of_ble_eq_true rfl) (Nat.le_of_ble_eq_true rfl) ⟨Nat.le_of_ble_eq_true rfl, Nat.le_of_ble_eq_true rfl⟩ (fun r2 s2 h => ?_)
  obtain ⟨hA, hB⟩ := h
  refine k_if_eq G 17 dX0_place_5 (by decide) (fun c5 => ?_) (fun c5 => ?_)
  · have h := hA c5
    clear hA hB
    refine k_iconst G dX0_place_17 kc_i_m1 ?_
    exact k_iret G X dX0_place_18 (Nat.le_of_ble_eq_true rfl) (Nat.le_of_ble_eq_true rfl) ⟨_, _, rfl, rfl, h⟩
  · have h := hB c5
    clear hA hB
    refine k_iload_n G dX0_place_8 rfl ?_
    refine k_iconst G dX0_place_9 kc_i_0 ?_
    refine k_iconst G dX0_place_10 kc_i_1 ?_
    refine k_callPI G (vk_in _ D T _ _ _ _ h) gf_in q368 dX0_place_11 rfl rfl (Nat.le_of_ble_eq_true rfl) (Nat.le_of_ble_eq_true rfl) ⟨Nat.le_of_ble_eq_true rfl, Nat.le_of_ble_eq_true rfl⟩ (fun r11 h => ?_)
    obtain ⟨hA, hB⟩ := h
    refine k_if_ne G 19 dX0_place_14 (by decide) (fun c14 => ?_) (fun c14 => ?_)
    · have h := hA c14
      clear hA hB
      refine k_iconst G dX0_place_19 kc_i_0 ?_
      refine k_istore_n G [(3, .int 0), (0, .ref (q 0)), (1, .int x1), (2, .int x2)] dX0_place_20 rfl (Nat.le_of_ble_eq_true rfl) rfl ?_
      refine k_iconst G dX0_place_21 kc_i_0 ?_
      refine k_istore G [(4, .int 0), (3, .int 0), (0, .ref (q 0)), (1, .int x1), (2, .int x2)] dX0_place_22 (Nat.le_of_ble_eq_true rfl) rfl ?_
      refine k_iconst G dX0_place_24 kc_i_0 ?_
      refine k_istore G [(5, .int 0), (4, .int 0), (3, .int 0), (0, .ref (q 0)), (1, .int x1), (2, .int x2)] dX0_place_25 (Nat.le_of_ble_eq_true rfl) rfl ?_
      obtain ⟨n27, h⟩ := h
      refine K.less [3, 4, 5, 2, 1, 0] rfl ?_
      exact hL27 n27 _ _ _ _ _ _ h
    · have h := hB c14
      clear hA hB
      refine k_iconst G dX0_place_17 kc_i_m1 ?_
      exact k_iret G X dX0_place_18 (Nat.le_of_ble_eq_true rfl) (Nat.le_of_ble_eq_true rfl) ⟨_, _, rfl, rfl, h⟩
def cw_isSpoiledBut_J33 (T : xT) (q : Nat → Nat) (kL13 : Int32 → Int32 → Int32 → CS → Prop) (k : Int32 → CS → Prop) (x1 : Int32) (x2 : Int32) (x3 : Int32) (s : CS) : Prop := ∀ x33 : Int32, x33 = x3 + 1 → kL13 x1 x2 x33 s
def cw_isSpoiledBut_L13 (T : xT) (q : Nat → Nat) (k : Int32 → CS → Prop) : Nat → Int32 → Int32 → Int32 → CS → Prop
  | 0, _, _, _, _ => False
  | n + 1, x1, x2, x3, s => (x1 ≤ x3 → cw_isSpoiled T q s 1 x1 (fun r45 s45 => (r45 = 0 ∨ r45 = 1) ∧ k r45 s45)) ∧ (¬ x1 ≤ x3 → (x3 = x2 → cw_isSpoiledBut_J33 T q (fun x1 x2 x3 s => cw_isSpoiledBut_L13 T q k n x1 x2 x3 s) k x1 x2 x3 s) ∧ (¬ x3 = x2 → cw_goes T q s 1 x3 (fun r29 s29 => cw_isSpoiledBut_J33 T q (fun x1 x2 x3 s => cw_isSpoiledBut_L13 T q k n x1 x2 x3 s) k x1 x2 x3 s29)))
def cw_isSpoiledBut (T : xT) (q : Nat → Nat) (s : CS) (x1 : Int32) (x2 : Int32) (k : Int32 → CS → Prop) : Prop := ∃ n13 : Nat, cw_isSpoiledBut_L13 T q k n13 x1 x2 0 ((cTk s 1 0))
set_option maxHeartbeats 4000000 in
theorem vk_isSpoiledBut (l : Launch) (D : va_G) (T : xT) (q : Nat → Nat) (s : CS) (x1 : Int32) (x2 : Int32) (k : Int32 → CS → Prop) (h : cw_isSpoiledBut T q s x1 x2 k) : XM l D T yX0_isSpoiledBut cX0_isSpoiledBut 4 (some .boolean) 65 0 0 [.ref (q 0), .int x1, .int x2] (cw T q s) (cpostI T q k) := by
  refine XM.start (by decide +kernel) (Nat.le_of_ble_eq_true rfl) (fun Γ G X _ hl_ => ?_)
  subst hl_
  have hJ33 : ∀ (kL13 : Int32 → Int32 → Int32 → CS → Prop) (ih13 : ∀ (x1 : Int32) (x2 : Int32) (x3 : Int32) (s : CS), kL13 x1 x2 x3 s → K D Γ 0 0 13 [(0, .ref (q 0)), (1, .int x1), (2, .int x2), (3, .int x3)] [] (cw T q s)) (x1 : Int32) (x2 : Int32) (x3 : Int32) (s : CS), cw_isSpoiledBut_J33 T q kL13 k x1 x2 x3 s → K D Γ 0 0 33 [(0, .ref (q 0)), (1, .int x1), (2, .int x2), (3, .int x3)] [] (cw T q s) := by
    intro kL13 ih13 x1 x2 x3 s h
    unfold cw_isSpoiledBut_J33 at h
    obtain ⟨x33, e33⟩ : ∃ y : Int32, y = x3 + 1 := ⟨_, rfl⟩
    have h := h x33 e33
    refine k_iinc G [(3, .int x33), (0, .ref (q 0)), (1, .int x1), (2, .int x2)] dX0_isSpoiledBut_33 rfl (v := x33) (by rw [e33, kc_i_1]) (Nat.le_of_ble_eq_true rfl) rfl ?_
    refine k_goto G 13 dX0_isSpoiledBut_36 (by decide) ?_
    refine K.less [1, 2, 3, 0] rfl ?_
    exact ih13 _ _ _ _ h
  have hL13 : ∀ n : Nat, ∀ (x1 : Int32) (x2 : Int32) (x3 : Int32) (s : CS), (cw_isSpoiledBut_L13 T q k n) x1 x2 x3 s → K D Γ 0 0 13 [(0, .ref (q 0)), (1, .int x1), (2, .int x2), (3, .int x3)] [] (cw T q s) := by
    intro n
    induction n with
    | zero =>
      intro _ _ _ _ h
      exact h.elim
    | succ n ih13 =>
      intro x1 x2 x3 s h
      unfold cw_isSpoiledBut_L13 at h
      refine k_iload_n G dX0_isSpoiledBut_13 rfl ?_
      refine k_iload_n G dX0_isSpoiledBut_14 rfl ?_
      obtain ⟨hA, hB⟩ := h
      refine k_icmp_ge G 39 dX0_isSpoiledBut_15 (by decide) (fun c15 => ?_) (fun c15 => ?_)
      · have h := hA c15
        clear hA hB
        refine k_aload_n G dX0_isSpoiledBut_39 rfl ?_
        refine k_aload_n G dX0_isSpoiledBut_40 rfl ?_
        refine kc_this G cf_tried_31 dX0_isSpoiledBut_41 rfl ?_
        refine k_iload_n G dX0_isSpoiledBut_44 rfl ?_
        refine kc_callI G (vk_isSpoiled _ D T q _ _ _ _ h) gf_isSpoiled q564 dX0_isSpoiledBut_45 rfl rfl (Nat.le_of_ble_eq_true rfl) (Nat.le_of_ble_eq_true rfl) ⟨Nat.le_of_ble_eq_true rfl, Nat.le_of_ble_eq_true rfl⟩ (fun r45 s45 h => ?_)
        obtain ⟨hz, h⟩ := h
        exact k_zret G X hz dX0_isSpoiledBut_48 (Nat.le_of_ble_eq_true rfl) (Nat.le_of_ble_eq_true rfl) ⟨_, _, rfl, rfl, h⟩
      · have h := hB c15
        clear hA hB
        refine k_iload_n G dX0_isSpoiledBut_18 rfl ?_
        refine k_iload_n G dX0_isSpoiledBut_19 rfl ?_
        obtain ⟨hA, hB⟩ := h
        refine k_icmp_eq G 33 dX0_isSpoiledBut_20 (by decide) (fun c20 => ?_) (fun c20 => ?_)
        · have h := hA c20
          clear hA hB
          exact hJ33 _ ih13 _ _ _ _ h
        · have h := hB c20
          clear hA hB
          refine k_aload_n G dX0_isSpoiledBut_23 rfl ?_
          refine k_aload_n G dX0_isSpoiledBut_24 rfl ?_
          refine kc_this G cf_tried_31 dX0_isSpoiledBut_25 rfl ?_
          refine k_iload_n G dX0_isSpoiledBut_28 rfl ?_
          refine kc_callI G (vk_goes _ D T q _ _ _ _ h) gf_goes q1003 dX0_isSpoiledBut_29 rfl rfl (Nat.le_of_ble_eq_true rfl) (Nat.le_of_ble_eq_true rfl) ⟨Nat.le_of_ble_eq_true rfl, Nat.le_of_ble_eq_true rfl⟩ (fun r29 s29 h => ?_)
          refine k_pop G dX0_isSpoiledBut_32 rfl ?_
          exact hJ33 _ ih13 _ _ _ _ h
  refine K.less [0, 1, 2] (lv' := [(0, .ref (q 0)), (1, .int x1), (2, .int x2)]) rfl ?_
  unfold cw_isSpoiledBut at h
  refine k_aload_n G dX0_isSpoiledBut_0 rfl ?_
  refine kc_this G cf_tried_31 dX0_isSpoiledBut_1 rfl ?_
  refine k_aload_n G dX0_isSpoiledBut_4 rfl ?_
  refine kc_this G cf_now_27 dX0_isSpoiledBut_5 rfl ?_
  refine kl_takes G (a := 1) (b := 0) (by decide) (by decide) q1019 dX0_isSpoiledBut_8 (Nat.le_of_ble_eq_true rfl) (Nat.le_of_ble_eq_true rfl) ⟨Nat.le_of_ble_eq_true rfl, Nat.le_of_ble_eq_true rfl⟩ ?_
  refine k_iconst G dX0_isSpoiledBut_11 kc_i_0 ?_
  refine k_istore_n G [(3, .int 0), (0, .ref (q 0)), (1, .int x1), (2, .int x2)] dX0_isSpoiledBut_12 rfl (Nat.le_of_ble_eq_true rfl) rfl ?_
  obtain ⟨n13, h⟩ := h
  refine K.less [1, 2, 3, 0] rfl ?_
  exact hL13 n13 _ _ _ _ h
def cw_guilty_J43 (T : xT) (q : Nat → Nat) (kL14 : Int32 → Int32 → Int32 → CS → Prop) (k : Int32 → CS → Prop) (x1 : Int32) (x2 : Int32) (x3 : Int32) (s : CS) : Prop := ∀ x43 : Int32, x43 = x3 + 1 → kL14 x1 x2 x43 s
def cw_guilty_L14 (T : xT) (q : Nat → Nat) (k : Int32 → CS → Prop) : Nat → Int32 → Int32 → Int32 → CS → Prop
  | 0, _, _, _, _ => False
  | n + 1, x1, x2, x3, s => (x1 ≤ x3 → k x2 s) ∧ (¬ x1 ≤ x3 → cw_isSpoiledBut T q s x1 (-1) (fun r22 s22 => (r22 = 0 → k x2 s22) ∧ (¬ r22 = 0 → cw_isSpoiledBut T q s22 x1 x3 (fun r31 s31 => (¬ r31 = 0 → cw_guilty_J43 T q (fun x1 x2 x3 s => cw_guilty_L14 T q k n x1 x2 x3 s) k x1 x2 x3 s31) ∧ (r31 = 0 → ∀ x42 : Int32, x42 = (x2 ||| (1 <<< (x3 &&& 31))) → cw_guilty_J43 T q (fun x1 x2 x3 s => cw_guilty_L14 T q k n x1 x2 x3 s) k x1 x42 x3 s31)))))
def cw_guilty (T : xT) (q : Nat → Nat) (s : CS) (x1 : Int32) (k : Int32 → CS → Prop) : Prop := cw_isLoaf T q s x1 (fun r2 s2 => (¬ r2 = 0 → ∃ n14 : Nat, cw_guilty_L14 T q k n14 x1 0 0 s2) ∧ (r2 = 0 → k (-1) s2))
set_option maxHeartbeats 4000000 in
theorem vk_guilty (l : Launch) (D : va_G) (T : xT) (q : Nat → Nat) (s : CS) (x1 : Int32) (k : Int32 → CS → Prop) (h : cw_guilty T q s x1 k) : XM l D T yX0_guilty cX0_guilty 4 (some .int) 67 0 0 [.ref (q 0), .int x1] (cw T q s) (cpostI T q k) := by
  refine XM.start (by decide +kernel) (Nat.le_of_ble_eq_true rfl) (fun Γ G X _ hl_ => ?_)
  subst hl_
  have hJ43 : ∀ (kL14 : Int32 → Int32 → Int32 → CS → Prop) (ih14 : ∀ (x1 : Int32) (x2 : Int32) (x3 : Int32) (s : CS), kL14 x1 x2 x3 s → K D Γ 0 0 14 [(0, .ref (q 0)), (1, .int x1), (2, .int x2), (3, .int x3)] [] (cw T q s)) (x1 : Int32) (x2 : Int32) (x3 : Int32) (s : CS), cw_guilty_J43 T q kL14 k x1 x2 x3 s → K D Γ 0 0 43 [(0, .ref (q 0)), (1, .int x1), (2, .int x2), (3, .int x3)] [] (cw T q s) := by
    intro kL14 ih14 x1 x2 x3 s h
    unfold cw_guilty_J43 at h
    obtain ⟨x43, e43⟩ : ∃ y : Int32, y = x3 + 1 := ⟨_, rfl⟩
    have h := h x43 e43
    refine k_iinc G [(3, .int x43), (0, .ref (q 0)), (1, .int x1), (2, .int x2)] dX0_guilty_43 rfl (v := x43) (by rw [e43, kc_i_1]) (Nat.le_of_ble_eq_true rfl) rfl ?_
    refine k_goto G 14 dX0_guilty_46 (by decide) ?_
    refine K.less [1, 2, 3, 0] rfl ?_
    exact ih14 _ _ _ _ h
  have hL14 : ∀ n : Nat, ∀ (x1 : Int32) (x2 : Int32) (x3 : Int32) (s : CS), (cw_guilty_L14 T q k n) x1 x2 x3 s → K D Γ 0 0 14 [(0, .ref (q 0)), (1, .int x1), (2, .int x2), (3, .int x3)] [] (cw T q s) := by
    intro n
    induction n with
    | zero =>
      intro _ _ _ _ h
      exact h.elim
    | succ n ih14 =>
      intro x1 x2 x3 s h
      unfold cw_guilty_L14 at h
      refine k_iload_n G dX0_guilty_14 rfl ?_
      refine k_iload_n G dX0_guilty_15 rfl ?_
      obtain ⟨hA, hB⟩ := h
      refine k_icmp_ge G 49 dX0_guilty_16 (by decide) (fun c16 => ?_) (fun c16 => ?_)
      · have h := hA c16
        clear hA hB
        refine k_iload_n G dX0_guilty_49 rfl ?_
        exact k_iret G X dX0_guilty_50 (Nat.le_of_ble_eq_true rfl) (Nat.le_of_ble_eq_true rfl) ⟨_, _, rfl, rfl, h⟩
      · have h := hB c16
        clear hA hB
        refine k_aload_n G dX0_guilty_19 rfl ?_
        refine k_iload_n G dX0_guilty_20 rfl ?_
        refine k_iconst G dX0_guilty_21 kc_i_m1 ?_
        refine kc_callI G (vk_isSpoiledBut _ D T q _ _ _ _ h) gf_isSpoiledBut q1082 dX0_guilty_22 rfl rfl (Nat.le_of_ble_eq_true rfl) (Nat.le_of_ble_eq_true rfl) ⟨Nat.le_of_ble_eq_true rfl, Nat.le_of_ble_eq_true rfl⟩ (fun r22 s22 h => ?_)
        obtain ⟨hA, hB⟩ := h
        refine k_if_eq G 49 dX0_guilty_25 (by decide) (fun c25 => ?_) (fun c25 => ?_)
        · have h := hA c25
          clear hA hB
          refine k_iload_n G dX0_guilty_49 rfl ?_
          exact k_iret G X dX0_guilty_50 (Nat.le_of_ble_eq_true rfl) (Nat.le_of_ble_eq_true rfl) ⟨_, _, rfl, rfl, h⟩
        · have h := hB c25
          clear hA hB
          refine k_aload_n G dX0_guilty_28 rfl ?_
          refine k_iload_n G dX0_guilty_29 rfl ?_
          refine k_iload_n G dX0_guilty_30 rfl ?_
          refine kc_callI G (vk_isSpoiledBut _ D T q _ _ _ _ h) gf_isSpoiledBut q1082 dX0_guilty_31 rfl rfl (Nat.le_of_ble_eq_true rfl) (Nat.le_of_ble_eq_true rfl) ⟨Nat.le_of_ble_eq_true rfl, Nat.le_of_ble_eq_true rfl⟩ (fun r31 s31 h => ?_)
          obtain ⟨hA, hB⟩ := h
          refine k_if_ne G 43 dX0_guilty_34 (by decide) (fun c34 => ?_) (fun c34 => ?_)
          · have h := hA c34
            clear hA hB
            exact hJ43 _ ih14 _ _ _ _ h
          · have h := hB c34
            clear hA hB
            refine k_iload_n G dX0_guilty_37 rfl ?_
            refine k_iconst G dX0_guilty_38 kc_i_1 ?_
            refine k_iload_n G dX0_guilty_39 rfl ?_
            refine k_ishl G dX0_guilty_40 ?_
            refine k_ior G dX0_guilty_41 ?_
            refine k_nmI (fun x42 e42 => ?_)
            have h := h x42 e42
            refine k_istore_n G [(2, .int x42), (0, .ref (q 0)), (1, .int x1), (3, .int x3)] dX0_guilty_42 rfl (Nat.le_of_ble_eq_true rfl) rfl ?_
            refine K.less [1, 2, 0, 3] rfl ?_
            exact hJ43 _ ih14 _ _ _ _ h
  refine K.less [0, 1] (lv' := [(0, .ref (q 0)), (1, .int x1)]) rfl ?_
  unfold cw_guilty at h
  refine k_aload_n G dX0_guilty_0 rfl ?_
  refine k_iload_n G dX0_guilty_1 rfl ?_
  refine kc_callI G (vk_isLoaf _ D T q _ _ _ h) gf_isLoaf q475 dX0_guilty_2 rfl rfl (Nat.le_of_ble_eq_true rfl) (Nat.le_of_ble_eq_true rfl) ⟨Nat.le_of_ble_eq_true rfl, Nat.le_of_ble_eq_true rfl⟩ (fun r2 s2 h => ?_)
  obtain ⟨hA, hB⟩ := h
  refine k_if_ne G 10 dX0_guilty_5 (by decide) (fun c5 => ?_) (fun c5 => ?_)
  · have h := hA c5
    clear hA hB
    refine k_iconst G dX0_guilty_10 kc_i_0 ?_
    refine k_istore_n G [(2, .int 0), (0, .ref (q 0)), (1, .int x1)] dX0_guilty_11 rfl (Nat.le_of_ble_eq_true rfl) rfl ?_
    refine k_iconst G dX0_guilty_12 kc_i_0 ?_
    refine k_istore_n G [(3, .int 0), (2, .int 0), (0, .ref (q 0)), (1, .int x1)] dX0_guilty_13 rfl (Nat.le_of_ble_eq_true rfl) rfl ?_
    obtain ⟨n14, h⟩ := h
    refine K.less [2, 3, 1, 0] rfl ?_
    exact hL14 n14 _ _ _ _ h
  · have h := hB c5
    clear hA hB
    refine k_iconst G dX0_guilty_8 kc_i_m1 ?_
    exact k_iret G X dX0_guilty_9 (Nat.le_of_ble_eq_true rfl) (Nat.le_of_ble_eq_true rfl) ⟨_, _, rfl, rfl, h⟩
def cw_spoiledBy_J47 (T : xT) (q : Nat → Nat) (kL15 : Int32 → Int32 → Int32 → CS → Prop) (k : Int32 → CS → Prop) (x1 : Int32) (x2 : Int32) (x3 : Int32) (s : CS) : Prop := ∀ x47 : Int32, x47 = x3 + 1 → kL15 x1 x2 x47 s
def cw_spoiledBy_L15 (T : xT) (q : Nat → Nat) (k : Int32 → CS → Prop) : Nat → Int32 → Int32 → Int32 → CS → Prop
  | 0, _, _, _, _ => False
  | n + 1, x1, x2, x3, s => ((s.1.1 0 3) ≤ x3 → k x2 s) ∧ (¬ (s.1.1 0 3) ≤ x3 → (¬ ((x1 >>> (x3 &&& 31)) &&& 1) = 1 → cw_spoiledBy_J47 T q (fun x1 x2 x3 s => cw_spoiledBy_L15 T q k n x1 x2 x3 s) k x1 x2 x3 s) ∧ (((x1 >>> (x3 &&& 31)) &&& 1) = 1 → cw_goes T q s 1 x3 (fun r38 s38 => (r38 = 0 → cw_spoiledBy_J47 T q (fun x1 x2 x3 s => cw_spoiledBy_L15 T q k n x1 x2 x3 s) k x1 x2 x3 s38) ∧ (¬ r38 = 0 → ∀ x44 : Int32, x44 = x2 + 1 → cw_spoiledBy_J47 T q (fun x1 x2 x3 s => cw_spoiledBy_L15 T q k n x1 x2 x3 s) k x1 x44 x3 s38))))
def cw_spoiledBy (T : xT) (q : Nat → Nat) (s : CS) (x1 : Int32) (k : Int32 → CS → Prop) : Prop := ∃ n15 : Nat, cw_spoiledBy_L15 T q k n15 x1 0 0 ((cTk s 1 0))
set_option maxHeartbeats 4000000 in
theorem vk_spoiledBy (l : Launch) (D : va_G) (T : xT) (q : Nat → Nat) (s : CS) (x1 : Int32) (k : Int32 → CS → Prop) (h : cw_spoiledBy T q s x1 k) : XM l D T yX0_spoiledBy cX0_spoiledBy 4 (some .int) 65 0 0 [.ref (q 0), .int x1] (cw T q s) (cpostI T q k) := by
  refine XM.start (by decide +kernel) (Nat.le_of_ble_eq_true rfl) (fun Γ G X _ hl_ => ?_)
  subst hl_
  have hJ47 : ∀ (kL15 : Int32 → Int32 → Int32 → CS → Prop) (ih15 : ∀ (x1 : Int32) (x2 : Int32) (x3 : Int32) (s : CS), kL15 x1 x2 x3 s → K D Γ 0 0 15 [(0, .ref (q 0)), (1, .int x1), (2, .int x2), (3, .int x3)] [] (cw T q s)) (x1 : Int32) (x2 : Int32) (x3 : Int32) (s : CS), cw_spoiledBy_J47 T q kL15 k x1 x2 x3 s → K D Γ 0 0 47 [(0, .ref (q 0)), (1, .int x1), (2, .int x2), (3, .int x3)] [] (cw T q s) := by
    intro kL15 ih15 x1 x2 x3 s h
    unfold cw_spoiledBy_J47 at h
    obtain ⟨x47, e47⟩ : ∃ y : Int32, y = x3 + 1 := ⟨_, rfl⟩
    have h := h x47 e47
    refine k_iinc G [(3, .int x47), (0, .ref (q 0)), (1, .int x1), (2, .int x2)] dX0_spoiledBy_47 rfl (v := x47) (by rw [e47, kc_i_1]) (Nat.le_of_ble_eq_true rfl) rfl ?_
    refine k_goto G 15 dX0_spoiledBy_50 (by decide) ?_
    refine K.less [1, 2, 3, 0] rfl ?_
    exact ih15 _ _ _ _ h
  have hL15 : ∀ n : Nat, ∀ (x1 : Int32) (x2 : Int32) (x3 : Int32) (s : CS), (cw_spoiledBy_L15 T q k n) x1 x2 x3 s → K D Γ 0 0 15 [(0, .ref (q 0)), (1, .int x1), (2, .int x2), (3, .int x3)] [] (cw T q s) := by
    intro n
    induction n with
    | zero =>
      intro _ _ _ _ h
      exact h.elim
    | succ n ih15 =>
      intro x1 x2 x3 s h
      unfold cw_spoiledBy_L15 at h
      refine k_iload_n G dX0_spoiledBy_15 rfl ?_
      refine k_aload_n G dX0_spoiledBy_16 rfl ?_
      refine kc_this G cf_many_107 dX0_spoiledBy_17 rfl ?_
      obtain ⟨hA, hB⟩ := h
      refine k_icmp_ge G 53 dX0_spoiledBy_20 (by decide) (fun c20 => ?_) (fun c20 => ?_)
      · have h := hA c20
        clear hA hB
        refine k_iload_n G dX0_spoiledBy_53 rfl ?_
        exact k_iret G X dX0_spoiledBy_54 (Nat.le_of_ble_eq_true rfl) (Nat.le_of_ble_eq_true rfl) ⟨_, _, rfl, rfl, h⟩
      · have h := hB c20
        clear hA hB
        refine k_iload_n G dX0_spoiledBy_23 rfl ?_
        refine k_iload_n G dX0_spoiledBy_24 rfl ?_
        refine k_ishr G dX0_spoiledBy_25 ?_
        refine k_iconst G dX0_spoiledBy_26 kc_i_1 ?_
        refine k_iand G dX0_spoiledBy_27 ?_
        refine k_iconst G dX0_spoiledBy_28 kc_i_1 ?_
        obtain ⟨hA, hB⟩ := h
        refine k_icmp_ne G 47 dX0_spoiledBy_29 (by decide) (fun c29 => ?_) (fun c29 => ?_)
        · have h := hA c29
          clear hA hB
          exact hJ47 _ ih15 _ _ _ _ h
        · have h := hB c29
          clear hA hB
          refine k_aload_n G dX0_spoiledBy_32 rfl ?_
          refine k_aload_n G dX0_spoiledBy_33 rfl ?_
          refine kc_this G cf_tried_31 dX0_spoiledBy_34 rfl ?_
          refine k_iload_n G dX0_spoiledBy_37 rfl ?_
          refine kc_callI G (vk_goes _ D T q _ _ _ _ h) gf_goes q1003 dX0_spoiledBy_38 rfl rfl (Nat.le_of_ble_eq_true rfl) (Nat.le_of_ble_eq_true rfl) ⟨Nat.le_of_ble_eq_true rfl, Nat.le_of_ble_eq_true rfl⟩ (fun r38 s38 h => ?_)
          obtain ⟨hA, hB⟩ := h
          refine k_if_eq G 47 dX0_spoiledBy_41 (by decide) (fun c41 => ?_) (fun c41 => ?_)
          · have h := hA c41
            clear hA hB
            exact hJ47 _ ih15 _ _ _ _ h
          · have h := hB c41
            clear hA hB
            obtain ⟨x44, e44⟩ : ∃ y : Int32, y = x2 + 1 := ⟨_, rfl⟩
            have h := h x44 e44
            refine k_iinc G [(2, .int x44), (0, .ref (q 0)), (1, .int x1), (3, .int x3)] dX0_spoiledBy_44 rfl (v := x44) (by rw [e44, kc_i_1]) (Nat.le_of_ble_eq_true rfl) rfl ?_
            refine K.less [1, 2, 0, 3] rfl ?_
            exact hJ47 _ ih15 _ _ _ _ h
  refine K.less [0, 1] (lv' := [(0, .ref (q 0)), (1, .int x1)]) rfl ?_
  unfold cw_spoiledBy at h
  refine k_aload_n G dX0_spoiledBy_0 rfl ?_
  refine kc_this G cf_tried_31 dX0_spoiledBy_1 rfl ?_
  refine k_aload_n G dX0_spoiledBy_4 rfl ?_
  refine kc_this G cf_now_27 dX0_spoiledBy_5 rfl ?_
  refine kl_takes G (a := 1) (b := 0) (by decide) (by decide) q1019 dX0_spoiledBy_8 (Nat.le_of_ble_eq_true rfl) (Nat.le_of_ble_eq_true rfl) ⟨Nat.le_of_ble_eq_true rfl, Nat.le_of_ble_eq_true rfl⟩ ?_
  refine k_iconst G dX0_spoiledBy_11 kc_i_0 ?_
  refine k_istore_n G [(2, .int 0), (0, .ref (q 0)), (1, .int x1)] dX0_spoiledBy_12 rfl (Nat.le_of_ble_eq_true rfl) rfl ?_
  refine k_iconst G dX0_spoiledBy_13 kc_i_0 ?_
  refine k_istore_n G [(3, .int 0), (2, .int 0), (0, .ref (q 0)), (1, .int x1)] dX0_spoiledBy_14 rfl (Nat.le_of_ble_eq_true rfl) rfl ?_
  obtain ⟨n15, h⟩ := h
  refine K.less [2, 3, 1, 0] rfl ?_
  exact hL15 n15 _ _ _ _ h
def cw_two_J75 (T : xT) (q : Nat → Nat) (kL28 : Int32 → Int32 → Int32 → Int32 → Int32 → CS → Prop) (k : Int32 → CS → Prop) (x1 : Int32) (x2 : Int32) (x3 : Int32) (x4 : Int32) (x5 : Int32) (s : CS) : Prop := ∀ x75 : Int32, x75 = x5 + 1 → kL28 x1 x2 x3 x4 x75 s
def cw_two_J68 (T : xT) (q : Nat → Nat) (kL28 : Int32 → Int32 → Int32 → Int32 → Int32 → CS → Prop) (k : Int32 → CS → Prop) (x1 : Int32) (x2 : Int32) (x5 : Int32) (x6 : Int32) (s : CS) : Prop := cw_two_J75 T q kL28 k x1 x2 x5 x6 x5 s
def cw_two_L28 (T : xT) (q : Nat → Nat) (k : Int32 → CS → Prop) : Nat → Int32 → Int32 → Int32 → Int32 → Int32 → CS → Prop
  | 0, _, _, _, _, _, _ => False
  | n + 1, x1, x2, x3, x4, x5, s => (x2 < x5 → (¬ x1 = 0 → k x3 s) ∧ (x1 = 0 → k x4 s)) ∧ (¬ x2 < x5 → cw_spoiledBy T q s x5 (fun r37 s37 => cw_spoiledBy T q s37 ((x2 &&& (x5 ^^^ (-1)))) (fun r47 s47 => ∀ x51 : Int32, x51 = (r37 + r47) → (x5 ≤ 0 → cw_two_J68 T q (fun x1 x2 x3 x4 x5 s => cw_two_L28 T q k n x1 x2 x3 x4 x5 s) k x1 x2 x5 x51 s47) ∧ (¬ x5 ≤ 0 → (x51 < x4 → cw_two_J68 T q (fun x1 x2 x3 x4 x5 s => cw_two_L28 T q k n x1 x2 x3 x4 x5 s) k x1 x2 x5 x51 s47) ∧ (¬ x51 < x4 → cw_two_J75 T q (fun x1 x2 x3 x4 x5 s => cw_two_L28 T q k n x1 x2 x3 x4 x5 s) k x1 x2 x3 x4 x5 s47)))))
def cw_two (T : xT) (q : Nat → Nat) (s : CS) (x1 : Int32) (k : Int32 → CS → Prop) : Prop := qw_in x1 0 1 (fun r3 => (¬ r3 = 0 → ∀ x19 : Int32, x19 = ((1 <<< ((s.1.1 0 3) &&& 31)) - 1) → ∃ n28 : Nat, cw_two_L28 T q k n28 x1 x19 0 0 0 s) ∧ (r3 = 0 → k (-1) s))
set_option maxHeartbeats 4000000 in
theorem vk_two (l : Launch) (D : va_G) (T : xT) (q : Nat → Nat) (s : CS) (x1 : Int32) (k : Int32 → CS → Prop) (h : cw_two T q s x1 k) : XM l D T yX0_two cX0_two 7 (some .int) 67 0 0 [.ref (q 0), .int x1] (cw T q s) (cpostI T q k) := by
  refine XM.start (by decide +kernel) (Nat.le_of_ble_eq_true rfl) (fun Γ G X _ hl_ => ?_)
  subst hl_
  have hJ75 : ∀ (kL28 : Int32 → Int32 → Int32 → Int32 → Int32 → CS → Prop) (ih28 : ∀ (x1 : Int32) (x2 : Int32) (x3 : Int32) (x4 : Int32) (x5 : Int32) (s : CS), kL28 x1 x2 x3 x4 x5 s → K D Γ 0 0 28 [(0, .ref (q 0)), (1, .int x1), (2, .int x2), (3, .int x3), (4, .int x4), (5, .int x5)] [] (cw T q s)) (x1 : Int32) (x2 : Int32) (x3 : Int32) (x4 : Int32) (x5 : Int32) (s : CS), cw_two_J75 T q kL28 k x1 x2 x3 x4 x5 s → K D Γ 0 0 75 [(0, .ref (q 0)), (1, .int x1), (2, .int x2), (3, .int x3), (4, .int x4), (5, .int x5)] [] (cw T q s) := by
    intro kL28 ih28 x1 x2 x3 x4 x5 s h
    unfold cw_two_J75 at h
    obtain ⟨x75, e75⟩ : ∃ y : Int32, y = x5 + 1 := ⟨_, rfl⟩
    have h := h x75 e75
    refine k_iinc G [(5, .int x75), (0, .ref (q 0)), (1, .int x1), (2, .int x2), (3, .int x3), (4, .int x4)] dX0_two_75 rfl (v := x75) (by rw [e75, kc_i_1]) (Nat.le_of_ble_eq_true rfl) rfl ?_
    refine k_goto G 28 dX0_two_78 (by decide) ?_
    refine K.less [1, 2, 3, 4, 5, 0] rfl ?_
    exact ih28 _ _ _ _ _ _ h
  have hJ68 : ∀ (kL28 : Int32 → Int32 → Int32 → Int32 → Int32 → CS → Prop) (ih28 : ∀ (x1 : Int32) (x2 : Int32) (x3 : Int32) (x4 : Int32) (x5 : Int32) (s : CS), kL28 x1 x2 x3 x4 x5 s → K D Γ 0 0 28 [(0, .ref (q 0)), (1, .int x1), (2, .int x2), (3, .int x3), (4, .int x4), (5, .int x5)] [] (cw T q s)) (x1 : Int32) (x2 : Int32) (x5 : Int32) (x6 : Int32) (s : CS), cw_two_J68 T q kL28 k x1 x2 x5 x6 s → K D Γ 0 0 68 [(0, .ref (q 0)), (1, .int x1), (2, .int x2), (5, .int x5), (6, .int x6)] [] (cw T q s) := by
    intro kL28 ih28 x1 x2 x5 x6 s h
    unfold cw_two_J68 at h
    refine k_iload G dX0_two_68 rfl ?_
    refine k_istore G [(4, .int x6), (0, .ref (q 0)), (1, .int x1), (2, .int x2), (5, .int x5), (6, .int x6)] dX0_two_70 (Nat.le_of_ble_eq_true rfl) rfl ?_
    refine k_iload G dX0_two_72 rfl ?_
    refine k_istore_n G [(3, .int x5), (4, .int x6), (0, .ref (q 0)), (1, .int x1), (2, .int x2), (5, .int x5), (6, .int x6)] dX0_two_74 rfl (Nat.le_of_ble_eq_true rfl) rfl ?_
    refine K.less [2, 3, 4, 0, 1, 5] rfl ?_
    exact hJ75 _ ih28 _ _ _ _ _ _ h
  have hL28 : ∀ n : Nat, ∀ (x1 : Int32) (x2 : Int32) (x3 : Int32) (x4 : Int32) (x5 : Int32) (s : CS), (cw_two_L28 T q k n) x1 x2 x3 x4 x5 s → K D Γ 0 0 28 [(0, .ref (q 0)), (1, .int x1), (2, .int x2), (3, .int x3), (4, .int x4), (5, .int x5)] [] (cw T q s) := by
    intro n
    induction n with
    | zero =>
      intro _ _ _ _ _ _ h
      exact h.elim
    | succ n ih28 =>
      intro x1 x2 x3 x4 x5 s h
      unfold cw_two_L28 at h
      refine k_iload G dX0_two_28 rfl ?_
      refine k_iload_n G dX0_two_30 rfl ?_
      obtain ⟨hA, hB⟩ := h
      refine k_icmp_gt G 81 dX0_two_31 (by decide) (fun c31 => ?_) (fun c31 => ?_)
      · have h := hA c31
        clear hA hB
        refine k_iload_n G dX0_two_81 rfl ?_
        obtain ⟨hA, hB⟩ := h
        refine k_if_ne G 90 dX0_two_82 (by decide) (fun c82 => ?_) (fun c82 => ?_)
        · have h := hA c82
          clear hA hB
          refine k_iload_n G dX0_two_90 rfl ?_
          exact k_iret G X dX0_two_91 (Nat.le_of_ble_eq_true rfl) (Nat.le_of_ble_eq_true rfl) ⟨_, _, rfl, rfl, h⟩
        · have h := hB c82
          clear hA hB
          refine k_iload G dX0_two_85 rfl ?_
          refine k_goto G 91 dX0_two_87 (by decide) ?_
          exact k_iret G X dX0_two_91 (Nat.le_of_ble_eq_true rfl) (Nat.le_of_ble_eq_true rfl) ⟨_, _, rfl, rfl, h⟩
      · have h := hB c31
        clear hA hB
        refine k_aload_n G dX0_two_34 rfl ?_
        refine k_iload G dX0_two_35 rfl ?_
        refine kc_callI G (vk_spoiledBy _ D T q _ _ _ h) gf_spoiledBy q1090 dX0_two_37 rfl rfl (Nat.le_of_ble_eq_true rfl) (Nat.le_of_ble_eq_true rfl) ⟨Nat.le_of_ble_eq_true rfl, Nat.le_of_ble_eq_true rfl⟩ (fun r37 s37 h => ?_)
        refine k_aload_n G dX0_two_40 rfl ?_
        refine k_iload_n G dX0_two_41 rfl ?_
        refine k_iload G dX0_two_42 rfl ?_
        refine k_iconst G dX0_two_44 kc_i_m1 ?_
        refine k_ixor G dX0_two_45 ?_
        refine k_iand G dX0_two_46 ?_
        refine kc_callI G (vk_spoiledBy _ D T q _ _ _ h) gf_spoiledBy q1090 dX0_two_47 rfl rfl (Nat.le_of_ble_eq_true rfl) (Nat.le_of_ble_eq_true rfl) ⟨Nat.le_of_ble_eq_true rfl, Nat.le_of_ble_eq_true rfl⟩ (fun r47 s47 h => ?_)
        refine k_iadd G dX0_two_50 ?_
        refine k_nmI (fun x51 e51 => ?_)
        have h := h x51 e51
        refine k_istore G [(6, .int x51), (0, .ref (q 0)), (1, .int x1), (2, .int x2), (3, .int x3), (4, .int x4), (5, .int x5)] dX0_two_51 (Nat.le_of_ble_eq_true rfl) rfl ?_
        refine k_iload G dX0_two_53 rfl ?_
        obtain ⟨hA, hB⟩ := h
        refine k_if_le G 68 dX0_two_55 (by decide) (fun c55 => ?_) (fun c55 => ?_)
        · have h := hA c55
          clear hA hB
          refine K.less [1, 2, 3, 6, 0] rfl ?_
          exact hJ68 _ ih28 _ _ _ _ _ h
        · have h := hB c55
          clear hA hB
          refine k_iload G dX0_two_58 rfl ?_
          refine k_iload G dX0_two_60 rfl ?_
          obtain ⟨hA, hB⟩ := h
          refine k_icmp_lt G 68 dX0_two_62 (by decide) (fun c62 => ?_) (fun c62 => ?_)
          · have h := hA c62
            clear hA hB
            refine K.less [1, 2, 3, 6, 0] rfl ?_
            exact hJ68 _ ih28 _ _ _ _ _ h
          · have h := hB c62
            clear hA hB
            refine k_goto G 75 dX0_two_65 (by decide) ?_
            refine K.less [1, 2, 3, 4, 5, 6] rfl ?_
            exact hJ75 _ ih28 _ _ _ _ _ _ h
  refine K.less [0, 1] (lv' := [(0, .ref (q 0)), (1, .int x1)]) rfl ?_
  unfold cw_two at h
  refine k_iload_n G dX0_two_0 rfl ?_
  refine k_iconst G dX0_two_1 kc_i_0 ?_
  refine k_iconst G dX0_two_2 kc_i_1 ?_
  refine k_callPI G (vk_in _ D T _ _ _ _ h) gf_in q368 dX0_two_3 rfl rfl (Nat.le_of_ble_eq_true rfl) (Nat.le_of_ble_eq_true rfl) ⟨Nat.le_of_ble_eq_true rfl, Nat.le_of_ble_eq_true rfl⟩ (fun r3 h => ?_)
  obtain ⟨hA, hB⟩ := h
  refine k_if_ne G 11 dX0_two_6 (by decide) (fun c6 => ?_) (fun c6 => ?_)
  · have h := hA c6
    clear hA hB
    refine k_iconst G dX0_two_11 kc_i_1 ?_
    refine k_aload_n G dX0_two_12 rfl ?_
    refine kc_this G cf_many_107 dX0_two_13 rfl ?_
    refine k_ishl G dX0_two_16 ?_
    refine k_iconst G dX0_two_17 kc_i_1 ?_
    refine k_isub G dX0_two_18 ?_
    refine k_nmI (fun x19 e19 => ?_)
    have h := h x19 e19
    refine k_istore_n G [(2, .int x19), (0, .ref (q 0)), (1, .int x1)] dX0_two_19 rfl (Nat.le_of_ble_eq_true rfl) rfl ?_
    refine k_iconst G dX0_two_20 kc_i_0 ?_
    refine k_istore_n G [(3, .int 0), (2, .int x19), (0, .ref (q 0)), (1, .int x1)] dX0_two_21 rfl (Nat.le_of_ble_eq_true rfl) rfl ?_
    refine k_iconst G dX0_two_22 kc_i_0 ?_
    refine k_istore G [(4, .int 0), (3, .int 0), (2, .int x19), (0, .ref (q 0)), (1, .int x1)] dX0_two_23 (Nat.le_of_ble_eq_true rfl) rfl ?_
    refine k_iconst G dX0_two_25 kc_i_0 ?_
    refine k_istore G [(5, .int 0), (4, .int 0), (3, .int 0), (2, .int x19), (0, .ref (q 0)), (1, .int x1)] dX0_two_26 (Nat.le_of_ble_eq_true rfl) rfl ?_
    obtain ⟨n28, h⟩ := h
    refine K.less [4, 5, 3, 2, 1, 0] rfl ?_
    exact hL28 n28 _ _ _ _ _ _ h
  · have h := hB c6
    clear hA hB
    refine k_iconst G dX0_two_9 kc_i_m1 ?_
    exact k_iret G X dX0_two_10 (Nat.le_of_ble_eq_true rfl) (Nat.le_of_ble_eq_true rfl) ⟨_, _, rfl, rfl, h⟩
def cw_pays (T : xT) (q : Nat → Nat) (s : CS) (x1 : Int32) (k : Int32 → CS → Prop) : Prop := ∀ x3 : Int32, x3 = (x1 + 1) → cw_takesAll T q s 0 x3 (fun r10 s10 => ∀ w31 : CS, w31 = (cTk s10 1 0) → cw_goes T q w31 1 x1 (fun r31 s31 => cw_takesAll T q s31 1 x3 (fun r41 s41 => (r10 ≤ r41 → cw_feeOf T q s41 x3 (fun r58 s58 => k ((-r58)) s58)) ∧ (¬ r10 ≤ r41 → cw_feeOf T q s41 x1 (fun r50 s50 => k r50 s50)))))
set_option maxHeartbeats 4000000 in
theorem vk_pays (l : Launch) (D : va_G) (T : xT) (q : Nat → Nat) (s : CS) (x1 : Int32) (k : Int32 → CS → Prop) (h : cw_pays T q s x1 k) : XM l D T yX0_pays cX0_pays 4 (some .int) 65 0 0 [.ref (q 0), .int x1] (cw T q s) (cpostI T q k) := by
  refine XM.start (by decide +kernel) (Nat.le_of_ble_eq_true rfl) (fun Γ G X _ hl_ => ?_)
  subst hl_
  refine K.less [0, 1] (lv' := [(0, .ref (q 0)), (1, .int x1)]) rfl ?_
  unfold cw_pays at h
  refine k_iload_n G dX0_pays_0 rfl ?_
  refine k_iconst G dX0_pays_1 kc_i_1 ?_
  refine k_iadd G dX0_pays_2 ?_
  refine k_nmI (fun x3 e3 => ?_)
  have h := h x3 e3
  refine k_istore_n G [(2, .int x3), (0, .ref (q 0)), (1, .int x1)] dX0_pays_3 rfl (Nat.le_of_ble_eq_true rfl) rfl ?_
  refine k_aload_n G dX0_pays_4 rfl ?_
  refine k_aload_n G dX0_pays_5 rfl ?_
  refine kc_this G cf_now_27 dX0_pays_6 rfl ?_
  refine k_iload_n G dX0_pays_9 rfl ?_
  refine kc_callI G (vk_takesAll _ D T q _ _ _ _ h) gf_takesAll q1074 dX0_pays_10 rfl rfl (Nat.le_of_ble_eq_true rfl) (Nat.le_of_ble_eq_true rfl) ⟨Nat.le_of_ble_eq_true rfl, Nat.le_of_ble_eq_true rfl⟩ (fun r10 s10 h => ?_)
  refine k_istore_n G [(3, .int r10), (2, .int x3), (0, .ref (q 0)), (1, .int x1)] dX0_pays_13 rfl (Nat.le_of_ble_eq_true rfl) rfl ?_
  refine k_aload_n G dX0_pays_14 rfl ?_
  refine kc_this G cf_tried_31 dX0_pays_15 rfl ?_
  refine k_aload_n G dX0_pays_18 rfl ?_
  refine kc_this G cf_now_27 dX0_pays_19 rfl ?_
  refine kl_takes G (a := 1) (b := 0) (by decide) (by decide) q1019 dX0_pays_22 (Nat.le_of_ble_eq_true rfl) (Nat.le_of_ble_eq_true rfl) ⟨Nat.le_of_ble_eq_true rfl, Nat.le_of_ble_eq_true rfl⟩ ?_
  refine k_aload_n G dX0_pays_25 rfl ?_
  refine k_aload_n G dX0_pays_26 rfl ?_
  refine kc_this G cf_tried_31 dX0_pays_27 rfl ?_
  refine k_iload_n G dX0_pays_30 rfl ?_
  refine kc_nmW (fun w31 ew31 => ?_)
  have h := h w31 ew31
  refine kc_callI G (vk_goes _ D T q _ _ _ _ h) gf_goes q1003 dX0_pays_31 rfl rfl (Nat.le_of_ble_eq_true rfl) (Nat.le_of_ble_eq_true rfl) ⟨Nat.le_of_ble_eq_true rfl, Nat.le_of_ble_eq_true rfl⟩ (fun r31 s31 h => ?_)
  refine k_pop G dX0_pays_34 rfl ?_
  refine k_aload_n G dX0_pays_35 rfl ?_
  refine k_aload_n G dX0_pays_36 rfl ?_
  refine kc_this G cf_tried_31 dX0_pays_37 rfl ?_
  refine k_iload_n G dX0_pays_40 rfl ?_
  refine kc_callI G (vk_takesAll _ D T q _ _ _ _ h) gf_takesAll q1074 dX0_pays_41 rfl rfl (Nat.le_of_ble_eq_true rfl) (Nat.le_of_ble_eq_true rfl) ⟨Nat.le_of_ble_eq_true rfl, Nat.le_of_ble_eq_true rfl⟩ (fun r41 s41 h => ?_)
  refine k_iload_n G dX0_pays_44 rfl ?_
  obtain ⟨hA, hB⟩ := h
  refine k_icmp_ge G 56 dX0_pays_45 (by decide) (fun c45 => ?_) (fun c45 => ?_)
  · have h := hA c45
    clear hA hB
    refine k_aload_n G dX0_pays_56 rfl ?_
    refine k_iload_n G dX0_pays_57 rfl ?_
    refine kc_callI G (vk_feeOf _ D T q _ _ _ h) gf_feeOf q509 dX0_pays_58 rfl rfl (Nat.le_of_ble_eq_true rfl) (Nat.le_of_ble_eq_true rfl) ⟨Nat.le_of_ble_eq_true rfl, Nat.le_of_ble_eq_true rfl⟩ (fun r58 s58 h => ?_)
    refine k_ineg G dX0_pays_61 ?_
    exact k_iret G X dX0_pays_62 (Nat.le_of_ble_eq_true rfl) (Nat.le_of_ble_eq_true rfl) ⟨_, _, rfl, rfl, h⟩
  · have h := hB c45
    clear hA hB
    refine k_aload_n G dX0_pays_48 rfl ?_
    refine k_iload_n G dX0_pays_49 rfl ?_
    refine kc_callI G (vk_feeOf _ D T q _ _ _ h) gf_feeOf q509 dX0_pays_50 rfl rfl (Nat.le_of_ble_eq_true rfl) (Nat.le_of_ble_eq_true rfl) ⟨Nat.le_of_ble_eq_true rfl, Nat.le_of_ble_eq_true rfl⟩ (fun r50 s50 h => ?_)
    refine k_goto G 62 dX0_pays_53 (by decide) ?_
    exact k_iret G X dX0_pays_62 (Nat.le_of_ble_eq_true rfl) (Nat.le_of_ble_eq_true rfl) ⟨_, _, rfl, rfl, h⟩
def cw_has_J31 (T : xT) (q : Nat → Nat) (k : Int32 → CS → Prop) (x1 : Int32) (y0 : Int32) (s : CS) : Prop := (x1 ≤ 0 → k ((y0 - 0)) s) ∧ (¬ x1 ≤ 0 → cw_pays T q s ((x1 - 1)) (fun r39 s39 => k ((y0 - r39)) s39))
def cw_has (T : xT) (q : Nat → Nat) (s : CS) (x1 : Int32) (k : Int32 → CS → Prop) : Prop := cw_isLoaf T q s x1 (fun r2 s2 => (¬ r2 = 0 → ((s2.1.1 0 3) ≤ (x1 + 1) → cw_has_J31 T q k x1 0 s2) ∧ (¬ (s2.1.1 0 3) ≤ (x1 + 1) → cw_pays T q s2 x1 (fun r24 s24 => cw_has_J31 T q k x1 r24 s24))) ∧ (r2 = 0 → k (-100001) s2))
set_option maxHeartbeats 4000000 in
theorem vk_has (l : Launch) (D : va_G) (T : xT) (q : Nat → Nat) (s : CS) (x1 : Int32) (k : Int32 → CS → Prop) (h : cw_has T q s x1 k) : XM l D T yX0_has cX0_has 2 (some .int) 67 0 0 [.ref (q 0), .int x1] (cw T q s) (cpostI T q k) := by
  refine XM.start (by decide +kernel) (Nat.le_of_ble_eq_true rfl) (fun Γ G X _ hl_ => ?_)
  subst hl_
  have hJ31 : ∀ (x1 : Int32) (y0 : Int32) (s : CS), cw_has_J31 T q k x1 y0 s → K D Γ 0 0 31 [(0, .ref (q 0)), (1, .int x1)] [.int y0] (cw T q s) := by
    intro x1 y0 s h
    unfold cw_has_J31 at h
    refine k_iload_n G dX0_has_31 rfl ?_
    obtain ⟨hA, hB⟩ := h
    refine k_if_le G 45 dX0_has_32 (by decide) (fun c32 => ?_) (fun c32 => ?_)
    · have h := hA c32
      clear hA hB
      refine k_iconst G dX0_has_45 kc_i_0 ?_
      refine k_isub G dX0_has_46 ?_
      exact k_iret G X dX0_has_47 (Nat.le_of_ble_eq_true rfl) (Nat.le_of_ble_eq_true rfl) ⟨_, _, rfl, rfl, h⟩
    · have h := hB c32
      clear hA hB
      refine k_aload_n G dX0_has_35 rfl ?_
      refine k_iload_n G dX0_has_36 rfl ?_
      refine k_iconst G dX0_has_37 kc_i_1 ?_
      refine k_isub G dX0_has_38 ?_
      refine kc_callI G (vk_pays _ D T q _ _ _ h) gf_pays q1099 dX0_has_39 rfl rfl (Nat.le_of_ble_eq_true rfl) (Nat.le_of_ble_eq_true rfl) ⟨Nat.le_of_ble_eq_true rfl, Nat.le_of_ble_eq_true rfl⟩ (fun r39 s39 h => ?_)
      refine k_goto G 46 dX0_has_42 (by decide) ?_
      refine k_isub G dX0_has_46 ?_
      exact k_iret G X dX0_has_47 (Nat.le_of_ble_eq_true rfl) (Nat.le_of_ble_eq_true rfl) ⟨_, _, rfl, rfl, h⟩
  refine K.less [0, 1] (lv' := [(0, .ref (q 0)), (1, .int x1)]) rfl ?_
  unfold cw_has at h
  refine k_aload_n G dX0_has_0 rfl ?_
  refine k_iload_n G dX0_has_1 rfl ?_
  refine kc_callI G (vk_isLoaf _ D T q _ _ _ h) gf_isLoaf q475 dX0_has_2 rfl rfl (Nat.le_of_ble_eq_true rfl) (Nat.le_of_ble_eq_true rfl) ⟨Nat.le_of_ble_eq_true rfl, Nat.le_of_ble_eq_true rfl⟩ (fun r2 s2 h => ?_)
  obtain ⟨hA, hB⟩ := h
  refine k_if_ne G 12 dX0_has_5 (by decide) (fun c5 => ?_) (fun c5 => ?_)
  · have h := hA c5
    clear hA hB
    refine k_iload_n G dX0_has_12 rfl ?_
    refine k_iconst G dX0_has_13 kc_i_1 ?_
    refine k_iadd G dX0_has_14 ?_
    refine k_aload_n G dX0_has_15 rfl ?_
    refine kc_this G cf_many_107 dX0_has_16 rfl ?_
    obtain ⟨hA, hB⟩ := h
    refine k_icmp_ge G 30 dX0_has_19 (by decide) (fun c19 => ?_) (fun c19 => ?_)
    · have h := hA c19
      clear hA hB
      refine k_iconst G dX0_has_30 kc_i_0 ?_
      exact hJ31 _ _ _ h
    · have h := hB c19
      clear hA hB
      refine k_aload_n G dX0_has_22 rfl ?_
      refine k_iload_n G dX0_has_23 rfl ?_
      refine kc_callI G (vk_pays _ D T q _ _ _ h) gf_pays q1099 dX0_has_24 rfl rfl (Nat.le_of_ble_eq_true rfl) (Nat.le_of_ble_eq_true rfl) ⟨Nat.le_of_ble_eq_true rfl, Nat.le_of_ble_eq_true rfl⟩ (fun r24 s24 h => ?_)
      refine k_goto G 31 dX0_has_27 (by decide) ?_
      exact hJ31 _ _ _ h
  · have h := hB c5
    clear hA hB
    refine k_ldc_w G q1098 dX0_has_8 ?_
    exact k_iret G X dX0_has_11 (Nat.le_of_ble_eq_true rfl) (Nat.le_of_ble_eq_true rfl) ⟨_, _, rfl, rfl, h⟩
def cw_takesChanged_J55 (T : xT) (q : Nat → Nat) (kL13 : Int32 → Int32 → Int32 → CS → Prop) (k : Int32 → CS → Prop) (x1 : Int32) (x2 : Int32) (x3 : Int32) (y0 : Int32) (s : CS) : Prop := cw_goes T q s 1 y0 (fun r64 s64 => (¬ y0 = x1 → ∀ x79 : Int32, x79 = x3 + 1 → kL13 x1 x2 x79 s64) ∧ (y0 = x1 → cw_takenAll T q s64 (fun r75 s75 => k r75 s75)))
def cw_takesChanged_L13 (T : xT) (q : Nat → Nat) (k : Int32 → CS → Prop) : Nat → Int32 → Int32 → Int32 → CS → Prop
  | 0, _, _, _, _ => False
  | n + 1, x1, x2, x3, s => ((s.1.1 0 3) ≤ x3 → k 0 s) ∧ (¬ (s.1.1 0 3) ≤ x3 → (¬ x2 = (-1) → (¬ x3 = x2 → (¬ x3 = (x2 + 1) → cw_takesChanged_J55 T q (fun x1 x2 x3 s => cw_takesChanged_L13 T q k n x1 x2 x3 s) k x1 x2 x3 x3 s) ∧ (x3 = (x2 + 1) → cw_takesChanged_J55 T q (fun x1 x2 x3 s => cw_takesChanged_L13 T q k n x1 x2 x3 s) k x1 x2 x3 ((x3 - 1)) s)) ∧ (x3 = x2 → cw_takesChanged_J55 T q (fun x1 x2 x3 s => cw_takesChanged_L13 T q k n x1 x2 x3 s) k x1 x2 x3 ((x3 + 1)) s)) ∧ (x2 = (-1) → cw_takesChanged_J55 T q (fun x1 x2 x3 s => cw_takesChanged_L13 T q k n x1 x2 x3 s) k x1 x2 x3 x3 s))
def cw_takesChanged (T : xT) (q : Nat → Nat) (s : CS) (x1 : Int32) (x2 : Int32) (k : Int32 → CS → Prop) : Prop := ∃ n13 : Nat, cw_takesChanged_L13 T q k n13 x1 x2 0 ((cTk s 1 0))
set_option maxHeartbeats 4000000 in
theorem vk_takesChanged (l : Launch) (D : va_G) (T : xT) (q : Nat → Nat) (s : CS) (x1 : Int32) (x2 : Int32) (k : Int32 → CS → Prop) (h : cw_takesChanged T q s x1 x2 k) : XM l D T yX0_takesChanged cX0_takesChanged 5 (some .int) 65 0 0 [.ref (q 0), .int x1, .int x2] (cw T q s) (cpostI T q k) := by
  refine XM.start (by decide +kernel) (Nat.le_of_ble_eq_true rfl) (fun Γ G X _ hl_ => ?_)
  subst hl_
  have hJ55 : ∀ (kL13 : Int32 → Int32 → Int32 → CS → Prop) (ih13 : ∀ (x1 : Int32) (x2 : Int32) (x3 : Int32) (s : CS), kL13 x1 x2 x3 s → K D Γ 0 0 13 [(0, .ref (q 0)), (1, .int x1), (2, .int x2), (3, .int x3)] [] (cw T q s)) (x1 : Int32) (x2 : Int32) (x3 : Int32) (y0 : Int32) (s : CS), cw_takesChanged_J55 T q kL13 k x1 x2 x3 y0 s → K D Γ 0 0 55 [(0, .ref (q 0)), (1, .int x1), (2, .int x2), (3, .int x3)] [.int y0] (cw T q s) := by
    intro kL13 ih13 x1 x2 x3 y0 s h
    unfold cw_takesChanged_J55 at h
    refine k_istore G [(4, .int y0), (0, .ref (q 0)), (1, .int x1), (2, .int x2), (3, .int x3)] dX0_takesChanged_55 (Nat.le_of_ble_eq_true rfl) rfl ?_
    refine k_aload_n G dX0_takesChanged_57 rfl ?_
    refine k_aload_n G dX0_takesChanged_58 rfl ?_
    refine kc_this G cf_tried_31 dX0_takesChanged_59 rfl ?_
    refine k_iload G dX0_takesChanged_62 rfl ?_
    refine kc_callI G (vk_goes _ D T q _ _ _ _ h) gf_goes q1003 dX0_takesChanged_64 rfl rfl (Nat.le_of_ble_eq_true rfl) (Nat.le_of_ble_eq_true rfl) ⟨Nat.le_of_ble_eq_true rfl, Nat.le_of_ble_eq_true rfl⟩ (fun r64 s64 h => ?_)
    refine k_pop G dX0_takesChanged_67 rfl ?_
    refine k_iload G dX0_takesChanged_68 rfl ?_
    refine k_iload_n G dX0_takesChanged_70 rfl ?_
    obtain ⟨hA, hB⟩ := h
    refine k_icmp_ne G 79 dX0_takesChanged_71 (by decide) (fun c71 => ?_) (fun c71 => ?_)
    · have h := hA c71
      clear hA hB
      obtain ⟨x79, e79⟩ : ∃ y : Int32, y = x3 + 1 := ⟨_, rfl⟩
      have h := h x79 e79
      refine k_iinc G [(3, .int x79), (4, .int y0), (0, .ref (q 0)), (1, .int x1), (2, .int x2)] dX0_takesChanged_79 rfl (v := x79) (by rw [e79, kc_i_1]) (Nat.le_of_ble_eq_true rfl) rfl ?_
      refine k_goto G 13 dX0_takesChanged_82 (by decide) ?_
      refine K.less [2, 3, 4, 0] rfl ?_
      exact ih13 _ _ _ _ h
    · have h := hB c71
      clear hA hB
      refine k_aload_n G dX0_takesChanged_74 rfl ?_
      refine kc_callI G (vk_takenAll _ D T q _ _ h) gf_takenAll q1111 dX0_takesChanged_75 rfl rfl (Nat.le_of_ble_eq_true rfl) (Nat.le_of_ble_eq_true rfl) ⟨Nat.le_of_ble_eq_true rfl, Nat.le_of_ble_eq_true rfl⟩ (fun r75 s75 h => ?_)
      exact k_iret G X dX0_takesChanged_78 (Nat.le_of_ble_eq_true rfl) (Nat.le_of_ble_eq_true rfl) ⟨_, _, rfl, rfl, h⟩
  have hL13 : ∀ n : Nat, ∀ (x1 : Int32) (x2 : Int32) (x3 : Int32) (s : CS), (cw_takesChanged_L13 T q k n) x1 x2 x3 s → K D Γ 0 0 13 [(0, .ref (q 0)), (1, .int x1), (2, .int x2), (3, .int x3)] [] (cw T q s) := by
    intro n
    induction n with
    | zero =>
      intro _ _ _ _ h
      exact h.elim
    | succ n ih13 =>
      intro x1 x2 x3 s h
      unfold cw_takesChanged_L13 at h
      refine k_iload_n G dX0_takesChanged_13 rfl ?_
      refine k_aload_n G dX0_takesChanged_14 rfl ?_
      refine kc_this G cf_many_107 dX0_takesChanged_15 rfl ?_
      obtain ⟨hA, hB⟩ := h
      refine k_icmp_ge G 85 dX0_takesChanged_18 (by decide) (fun c18 => ?_) (fun c18 => ?_)
      · have h := hA c18
        clear hA hB
        refine k_iconst G dX0_takesChanged_85 kc_i_0 ?_
        exact k_iret G X dX0_takesChanged_86 (Nat.le_of_ble_eq_true rfl) (Nat.le_of_ble_eq_true rfl) ⟨_, _, rfl, rfl, h⟩
      · have h := hB c18
        clear hA hB
        refine k_iload_n G dX0_takesChanged_21 rfl ?_
        refine k_iconst G dX0_takesChanged_22 kc_i_m1 ?_
        obtain ⟨hA, hB⟩ := h
        refine k_icmp_ne G 30 dX0_takesChanged_23 (by decide) (fun c23 => ?_) (fun c23 => ?_)
        · have h := hA c23
          clear hA hB
          refine k_iload_n G dX0_takesChanged_30 rfl ?_
          refine k_iload_n G dX0_takesChanged_31 rfl ?_
          obtain ⟨hA, hB⟩ := h
          refine k_icmp_ne G 41 dX0_takesChanged_32 (by decide) (fun c32 => ?_) (fun c32 => ?_)
          · have h := hA c32
            clear hA hB
            refine k_iload_n G dX0_takesChanged_41 rfl ?_
            refine k_iload_n G dX0_takesChanged_42 rfl ?_
            refine k_iconst G dX0_takesChanged_43 kc_i_1 ?_
            refine k_iadd G dX0_takesChanged_44 ?_
            obtain ⟨hA, hB⟩ := h
            refine k_icmp_ne G 54 dX0_takesChanged_45 (by decide) (fun c45 => ?_) (fun c45 => ?_)
            · have h := hA c45
              clear hA hB
              refine k_iload_n G dX0_takesChanged_54 rfl ?_
              exact hJ55 _ ih13 _ _ _ _ _ h
            · have h := hB c45
              clear hA hB
              refine k_iload_n G dX0_takesChanged_48 rfl ?_
              refine k_iconst G dX0_takesChanged_49 kc_i_1 ?_
              refine k_isub G dX0_takesChanged_50 ?_
              refine k_goto G 55 dX0_takesChanged_51 (by decide) ?_
              exact hJ55 _ ih13 _ _ _ _ _ h
          · have h := hB c32
            clear hA hB
            refine k_iload_n G dX0_takesChanged_35 rfl ?_
            refine k_iconst G dX0_takesChanged_36 kc_i_1 ?_
            refine k_iadd G dX0_takesChanged_37 ?_
            refine k_goto G 55 dX0_takesChanged_38 (by decide) ?_
            exact hJ55 _ ih13 _ _ _ _ _ h
        · have h := hB c23
          clear hA hB
          refine k_iload_n G dX0_takesChanged_26 rfl ?_
          refine k_goto G 55 dX0_takesChanged_27 (by decide) ?_
          exact hJ55 _ ih13 _ _ _ _ _ h
  refine K.less [0, 1, 2] (lv' := [(0, .ref (q 0)), (1, .int x1), (2, .int x2)]) rfl ?_
  unfold cw_takesChanged at h
  refine k_aload_n G dX0_takesChanged_0 rfl ?_
  refine kc_this G cf_tried_31 dX0_takesChanged_1 rfl ?_
  refine k_aload_n G dX0_takesChanged_4 rfl ?_
  refine kc_this G cf_now_27 dX0_takesChanged_5 rfl ?_
  refine kl_takes G (a := 1) (b := 0) (by decide) (by decide) q1019 dX0_takesChanged_8 (Nat.le_of_ble_eq_true rfl) (Nat.le_of_ble_eq_true rfl) ⟨Nat.le_of_ble_eq_true rfl, Nat.le_of_ble_eq_true rfl⟩ ?_
  refine k_iconst G dX0_takesChanged_11 kc_i_0 ?_
  refine k_istore_n G [(3, .int 0), (0, .ref (q 0)), (1, .int x1), (2, .int x2)] dX0_takesChanged_12 rfl (Nat.le_of_ble_eq_true rfl) rfl ?_
  obtain ⟨n13, h⟩ := h
  refine K.less [1, 2, 3, 0] rfl ?_
  exact hL13 n13 _ _ _ _ h
def cw_swaps (T : xT) (q : Nat → Nat) (s : CS) (x1 : Int32) (k : Int32 → CS → Prop) : Prop := cw_isLoaf T q s x1 (fun r2 s2 => (r2 = 0 → k (-1) s2) ∧ (¬ r2 = 0 → (¬ x1 = ((s2.1.1 0 3) - 1) → cw_takesChanged T q s2 x1 x1 (fun r23 s23 => cw_takesChanged T q s23 x1 (-1) (fun r29 s29 => ∀ x33 : Int32, x33 = (r23 - r29) → cw_takesChanged T q s29 ((x1 + 1)) x1 (fun r39 s39 => cw_takesChanged T q s39 ((x1 + 1)) (-1) (fun r47 s47 => ∀ x51 : Int32, x51 = (r39 - r47) → (0 < x33 → k 0 s47) ∧ (¬ 0 < x33 → (0 < x51 → k 0 s47) ∧ (¬ 0 < x51 → (0 ≤ (x33 + x51) → k 0 s47) ∧ (¬ 0 ≤ (x33 + x51) → k 1 s47)))))))) ∧ (x1 = ((s2.1.1 0 3) - 1) → k (-1) s2)))
set_option maxHeartbeats 4000000 in
theorem vk_swaps (l : Launch) (D : va_G) (T : xT) (q : Nat → Nat) (s : CS) (x1 : Int32) (k : Int32 → CS → Prop) (h : cw_swaps T q s x1 k) : XM l D T yX0_swaps cX0_swaps 4 (some .int) 67 0 0 [.ref (q 0), .int x1] (cw T q s) (cpostI T q k) := by
  refine XM.start (by decide +kernel) (Nat.le_of_ble_eq_true rfl) (fun Γ G X _ hl_ => ?_)
  subst hl_
  refine K.less [0, 1] (lv' := [(0, .ref (q 0)), (1, .int x1)]) rfl ?_
  unfold cw_swaps at h
  refine k_aload_n G dX0_swaps_0 rfl ?_
  refine k_iload_n G dX0_swaps_1 rfl ?_
  refine kc_callI G (vk_isLoaf _ D T q _ _ _ h) gf_isLoaf q475 dX0_swaps_2 rfl rfl (Nat.le_of_ble_eq_true rfl) (Nat.le_of_ble_eq_true rfl) ⟨Nat.le_of_ble_eq_true rfl, Nat.le_of_ble_eq_true rfl⟩ (fun r2 s2 h => ?_)
  obtain ⟨hA, hB⟩ := h
  refine k_if_eq G 18 dX0_swaps_5 (by decide) (fun c5 => ?_) (fun c5 => ?_)
  · have h := hA c5
    clear hA hB
    refine k_iconst G dX0_swaps_18 kc_i_m1 ?_
    exact k_iret G X dX0_swaps_19 (Nat.le_of_ble_eq_true rfl) (Nat.le_of_ble_eq_true rfl) ⟨_, _, rfl, rfl, h⟩
  · have h := hB c5
    clear hA hB
    refine k_iload_n G dX0_swaps_8 rfl ?_
    refine k_aload_n G dX0_swaps_9 rfl ?_
    refine kc_this G cf_many_107 dX0_swaps_10 rfl ?_
    refine k_iconst G dX0_swaps_13 kc_i_1 ?_
    refine k_isub G dX0_swaps_14 ?_
    obtain ⟨hA, hB⟩ := h
    refine k_icmp_ne G 20 dX0_swaps_15 (by decide) (fun c15 => ?_) (fun c15 => ?_)
    · have h := hA c15
      clear hA hB
      refine k_aload_n G dX0_swaps_20 rfl ?_
      refine k_iload_n G dX0_swaps_21 rfl ?_
      refine k_iload_n G dX0_swaps_22 rfl ?_
      refine kc_callI G (vk_takesChanged _ D T q _ _ _ _ h) gf_takesChanged q1107 dX0_swaps_23 rfl rfl (Nat.le_of_ble_eq_true rfl) (Nat.le_of_ble_eq_true rfl) ⟨Nat.le_of_ble_eq_true rfl, Nat.le_of_ble_eq_true rfl⟩ (fun r23 s23 h => ?_)
      refine k_aload_n G dX0_swaps_26 rfl ?_
      refine k_iload_n G dX0_swaps_27 rfl ?_
      refine k_iconst G dX0_swaps_28 kc_i_m1 ?_
      refine kc_callI G (vk_takesChanged _ D T q _ _ _ _ h) gf_takesChanged q1107 dX0_swaps_29 rfl rfl (Nat.le_of_ble_eq_true rfl) (Nat.le_of_ble_eq_true rfl) ⟨Nat.le_of_ble_eq_true rfl, Nat.le_of_ble_eq_true rfl⟩ (fun r29 s29 h => ?_)
      refine k_isub G dX0_swaps_32 ?_
      refine k_nmI (fun x33 e33 => ?_)
      have h := h x33 e33
      refine k_istore_n G [(2, .int x33), (0, .ref (q 0)), (1, .int x1)] dX0_swaps_33 rfl (Nat.le_of_ble_eq_true rfl) rfl ?_
      refine k_aload_n G dX0_swaps_34 rfl ?_
      refine k_iload_n G dX0_swaps_35 rfl ?_
      refine k_iconst G dX0_swaps_36 kc_i_1 ?_
      refine k_iadd G dX0_swaps_37 ?_
      refine k_iload_n G dX0_swaps_38 rfl ?_
      refine kc_callI G (vk_takesChanged _ D T q _ _ _ _ h) gf_takesChanged q1107 dX0_swaps_39 rfl rfl (Nat.le_of_ble_eq_true rfl) (Nat.le_of_ble_eq_true rfl) ⟨Nat.le_of_ble_eq_true rfl, Nat.le_of_ble_eq_true rfl⟩ (fun r39 s39 h => ?_)
      refine k_aload_n G dX0_swaps_42 rfl ?_
      refine k_iload_n G dX0_swaps_43 rfl ?_
      refine k_iconst G dX0_swaps_44 kc_i_1 ?_
      refine k_iadd G dX0_swaps_45 ?_
      refine k_iconst G dX0_swaps_46 kc_i_m1 ?_
      refine kc_callI G (vk_takesChanged _ D T q _ _ _ _ h) gf_takesChanged q1107 dX0_swaps_47 rfl rfl (Nat.le_of_ble_eq_true rfl) (Nat.le_of_ble_eq_true rfl) ⟨Nat.le_of_ble_eq_true rfl, Nat.le_of_ble_eq_true rfl⟩ (fun r47 s47 h => ?_)
      refine k_isub G dX0_swaps_50 ?_
      refine k_nmI (fun x51 e51 => ?_)
      have h := h x51 e51
      refine k_istore_n G [(3, .int x51), (2, .int x33), (0, .ref (q 0)), (1, .int x1)] dX0_swaps_51 rfl (Nat.le_of_ble_eq_true rfl) rfl ?_
      refine k_iload_n G dX0_swaps_52 rfl ?_
      obtain ⟨hA, hB⟩ := h
      refine k_if_gt G 70 dX0_swaps_53 (by decide) (fun c53 => ?_) (fun c53 => ?_)
      · have h := hA c53
        clear hA hB
        refine k_iconst G dX0_swaps_70 kc_i_0 ?_
        exact k_iret G X dX0_swaps_71 (Nat.le_of_ble_eq_true rfl) (Nat.le_of_ble_eq_true rfl) ⟨_, _, rfl, rfl, h⟩
      · have h := hB c53
        clear hA hB
        refine k_iload_n G dX0_swaps_56 rfl ?_
        obtain ⟨hA, hB⟩ := h
        refine k_if_gt G 70 dX0_swaps_57 (by decide) (fun c57 => ?_) (fun c57 => ?_)
        · have h := hA c57
          clear hA hB
          refine k_iconst G dX0_swaps_70 kc_i_0 ?_
          exact k_iret G X dX0_swaps_71 (Nat.le_of_ble_eq_true rfl) (Nat.le_of_ble_eq_true rfl) ⟨_, _, rfl, rfl, h⟩
        · have h := hB c57
          clear hA hB
          refine k_iload_n G dX0_swaps_60 rfl ?_
          refine k_iload_n G dX0_swaps_61 rfl ?_
          refine k_iadd G dX0_swaps_62 ?_
          obtain ⟨hA, hB⟩ := h
          refine k_if_ge G 70 dX0_swaps_63 (by decide) (fun c63 => ?_) (fun c63 => ?_)
          · have h := hA c63
            clear hA hB
            refine k_iconst G dX0_swaps_70 kc_i_0 ?_
            exact k_iret G X dX0_swaps_71 (Nat.le_of_ble_eq_true rfl) (Nat.le_of_ble_eq_true rfl) ⟨_, _, rfl, rfl, h⟩
          · have h := hB c63
            clear hA hB
            refine k_iconst G dX0_swaps_66 kc_i_1 ?_
            refine k_goto G 71 dX0_swaps_67 (by decide) ?_
            exact k_iret G X dX0_swaps_71 (Nat.le_of_ble_eq_true rfl) (Nat.le_of_ble_eq_true rfl) ⟨_, _, rfl, rfl, h⟩
    · have h := hB c15
      clear hA hB
      refine k_iconst G dX0_swaps_18 kc_i_m1 ?_
      exact k_iret G X dX0_swaps_19 (Nat.le_of_ble_eq_true rfl) (Nat.le_of_ble_eq_true rfl) ⟨_, _, rfl, rfl, h⟩
def cw_span_J123 (T : xT) (q : Nat → Nat) (kL51 : Int32 → Int32 → Int32 → Int32 → Int32 → Int32 → Int32 → CS → Prop) (k : Int32 → CS → Prop) (x1 : Int32) (x2 : Int32) (x3 : Int32) (x4 : Int32) (x5 : Int32) (x6 : Int32) (x7 : Int32) (s : CS) : Prop := ∀ x123 : Int32, x123 = x7 + 1 → kL51 x1 x2 x3 x4 x5 x6 x123 s
def cw_span_J105 (T : xT) (q : Nat → Nat) (kL51 : Int32 → Int32 → Int32 → Int32 → Int32 → Int32 → Int32 → CS → Prop) (k : Int32 → CS → Prop) (x1 : Int32) (x2 : Int32) (x3 : Int32) (x4 : Int32) (x5 : Int32) (x6 : Int32) (x7 : Int32) (s : CS) : Prop := cw_takesBy T q s x1 x2 x7 x6 (fun r112 s112 => (¬ r112 = x3 → cw_span_J123 T q kL51 k x1 x2 x3 x4 x5 x6 x7 s112) ∧ (r112 = x3 → cw_span_J123 T q kL51 k x1 x2 x3 x4 x7 x6 x7 s112))
def cw_span_J92 (T : xT) (q : Nat → Nat) (kL51 : Int32 → Int32 → Int32 → Int32 → Int32 → Int32 → Int32 → CS → Prop) (k : Int32 → CS → Prop) (x1 : Int32) (x2 : Int32) (x3 : Int32) (x4 : Int32) (x5 : Int32) (x6 : Int32) (x7 : Int32) (s : CS) : Prop := (x5 = (-5) → cw_span_J105 T q kL51 k x1 x2 x3 x4 x5 x6 x7 s) ∧ (¬ x5 = (-5) → (¬ x4 = 1 → cw_span_J123 T q kL51 k x1 x2 x3 x4 x5 x6 x7 s) ∧ (x4 = 1 → cw_span_J105 T q kL51 k x1 x2 x3 x4 x5 x6 x7 s))
def cw_span_L51 (T : xT) (q : Nat → Nat) (k : Int32 → CS → Prop) : Nat → Int32 → Int32 → Int32 → Int32 → Int32 → Int32 → Int32 → CS → Prop
  | 0, _, _, _, _, _, _, _, _ => False
  | n + 1, x1, x2, x3, x4, x5, x6, x7, s => (9999 < x7 → k x5 s) ∧ (¬ 9999 < x7 → (¬ (x7 - x7 / 10 * 10) = 0 → cw_span_J92 T q (fun x1 x2 x3 x4 x5 x6 x7 s => cw_span_L51 T q k n x1 x2 x3 x4 x5 x6 x7 s) k x1 x2 x3 x4 x5 x6 x7 s) ∧ ((x7 - x7 / 10 * 10) = 0 → cw_looksAt T q s 0 x1 x2 x7 (fun s76 => ∃ κ87 : KD, kilR T s76 (s76.1.2 0 9) κ87 ∧ ∀ x90 : Int32, x90 = (kPart κ87 (s76.1.1 25)) → cw_span_J92 T q (fun x1 x2 x3 x4 x5 x6 x7 s => cw_span_L51 T q k n x1 x2 x3 x4 x5 x6 x7 s) k x1 x2 x3 x4 x5 x90 x7 s76)))
def cw_span (T : xT) (q : Nat → Nat) (s : CS) (x1 : Int32) (x2 : Int32) (x3 : Int32) (x4 : Int32) (k : Int32 → CS → Prop) : Prop := cw_isLoaf T q s x1 (fun r2 s2 => (r2 = 0 → k (-1) s2) ∧ (¬ r2 = 0 → qw_isTaste x2 (fun r9 => (r9 = 0 → k (-1) s2) ∧ (¬ r9 = 0 → qw_in x4 0 1 (fun r19 => (¬ r19 = 0 → qw_in x3 0 9999 (fun r32 => (¬ r32 = 0 → ∃ n51 : Nat, cw_span_L51 T q k n51 x1 x2 x3 x4 (-5) 0 0 s2) ∧ (r32 = 0 → k (-2) s2))) ∧ (r19 = 0 → k (-1) s2))))))
set_option maxHeartbeats 4000000 in
theorem vk_span (l : Launch) (D : va_G) (T : xT) (q : Nat → Nat) (s : CS) (x1 : Int32) (x2 : Int32) (x3 : Int32) (x4 : Int32) (k : Int32 → CS → Prop) (h : cw_span T q s x1 x2 x3 x4 k) : XM l D T yX0_span cX0_span 8 (some .int) 61 0 0 [.ref (q 0), .int x1, .int x2, .int x3, .int x4] (cw T q s) (cpostI T q k) := by
  refine XM.start (by decide +kernel) (Nat.le_of_ble_eq_true rfl) (fun Γ G X _ hl_ => ?_)
  subst hl_
  have hJ123 : ∀ (kL51 : Int32 → Int32 → Int32 → Int32 → Int32 → Int32 → Int32 → CS → Prop) (ih51 : ∀ (x1 : Int32) (x2 : Int32) (x3 : Int32) (x4 : Int32) (x5 : Int32) (x6 : Int32) (x7 : Int32) (s : CS), kL51 x1 x2 x3 x4 x5 x6 x7 s → K D Γ 0 0 51 [(0, .ref (q 0)), (1, .int x1), (2, .int x2), (3, .int x3), (4, .int x4), (5, .int x5), (6, .int x6), (7, .int x7)] [] (cw T q s)) (x1 : Int32) (x2 : Int32) (x3 : Int32) (x4 : Int32) (x5 : Int32) (x6 : Int32) (x7 : Int32) (s : CS), cw_span_J123 T q kL51 k x1 x2 x3 x4 x5 x6 x7 s → K D Γ 0 0 123 [(0, .ref (q 0)), (1, .int x1), (2, .int x2), (3, .int x3), (4, .int x4), (5, .int x5), (6, .int x6), (7, .int x7)] [] (cw T q s) := by
    intro kL51 ih51 x1 x2 x3 x4 x5 x6 x7 s h
    unfold cw_span_J123 at h
    obtain ⟨x123, e123⟩ : ∃ y : Int32, y = x7 + 1 := ⟨_, rfl⟩
    have h := h x123 e123
    refine k_iinc G [(7, .int x123), (0, .ref (q 0)), (1, .int x1), (2, .int x2), (3, .int x3), (4, .int x4), (5, .int x5), (6, .int x6)] dX0_span_123 rfl (v := x123) (by rw [e123, kc_i_1]) (Nat.le_of_ble_eq_true rfl) rfl ?_
    refine k_goto G 51 dX0_span_126 (by decide) ?_
    refine K.less [1, 2, 3, 4, 5, 6, 7, 0] rfl ?_
    exact ih51 _ _ _ _ _ _ _ _ h
  have hJ105 : ∀ (kL51 : Int32 → Int32 → Int32 → Int32 → Int32 → Int32 → Int32 → CS → Prop) (ih51 : ∀ (x1 : Int32) (x2 : Int32) (x3 : Int32) (x4 : Int32) (x5 : Int32) (x6 : Int32) (x7 : Int32) (s : CS), kL51 x1 x2 x3 x4 x5 x6 x7 s → K D Γ 0 0 51 [(0, .ref (q 0)), (1, .int x1), (2, .int x2), (3, .int x3), (4, .int x4), (5, .int x5), (6, .int x6), (7, .int x7)] [] (cw T q s)) (x1 : Int32) (x2 : Int32) (x3 : Int32) (x4 : Int32) (x5 : Int32) (x6 : Int32) (x7 : Int32) (s : CS), cw_span_J105 T q kL51 k x1 x2 x3 x4 x5 x6 x7 s → K D Γ 0 0 105 [(0, .ref (q 0)), (1, .int x1), (2, .int x2), (3, .int x3), (4, .int x4), (5, .int x5), (6, .int x6), (7, .int x7)] [] (cw T q s) := by
    intro kL51 ih51 x1 x2 x3 x4 x5 x6 x7 s h
    unfold cw_span_J105 at h
    refine k_aload_n G dX0_span_105 rfl ?_
    refine k_iload_n G dX0_span_106 rfl ?_
    refine k_iload_n G dX0_span_107 rfl ?_
    refine k_iload G dX0_span_108 rfl ?_
    refine k_iload G dX0_span_110 rfl ?_
    refine kc_callI G (vk_takesBy _ D T q _ _ _ _ _ _ h) gf_takesBy q580 dX0_span_112 rfl rfl (Nat.le_of_ble_eq_true rfl) (Nat.le_of_ble_eq_true rfl) ⟨Nat.le_of_ble_eq_true rfl, Nat.le_of_ble_eq_true rfl⟩ (fun r112 s112 h => ?_)
    refine k_iload_n G dX0_span_115 rfl ?_
    obtain ⟨hA, hB⟩ := h
    refine k_icmp_ne G 123 dX0_span_116 (by decide) (fun c116 => ?_) (fun c116 => ?_)
    · have h := hA c116
      clear hA hB
      exact hJ123 _ ih51 _ _ _ _ _ _ _ _ h
    · have h := hB c116
      clear hA hB
      refine k_iload G dX0_span_119 rfl ?_
      refine k_istore G [(5, .int x7), (0, .ref (q 0)), (1, .int x1), (2, .int x2), (3, .int x3), (4, .int x4), (6, .int x6), (7, .int x7)] dX0_span_121 (Nat.le_of_ble_eq_true rfl) rfl ?_
      refine K.less [1, 2, 3, 4, 5, 0, 6, 7] rfl ?_
      exact hJ123 _ ih51 _ _ _ _ _ _ _ _ h
  have hJ92 : ∀ (kL51 : Int32 → Int32 → Int32 → Int32 → Int32 → Int32 → Int32 → CS → Prop) (ih51 : ∀ (x1 : Int32) (x2 : Int32) (x3 : Int32) (x4 : Int32) (x5 : Int32) (x6 : Int32) (x7 : Int32) (s : CS), kL51 x1 x2 x3 x4 x5 x6 x7 s → K D Γ 0 0 51 [(0, .ref (q 0)), (1, .int x1), (2, .int x2), (3, .int x3), (4, .int x4), (5, .int x5), (6, .int x6), (7, .int x7)] [] (cw T q s)) (x1 : Int32) (x2 : Int32) (x3 : Int32) (x4 : Int32) (x5 : Int32) (x6 : Int32) (x7 : Int32) (s : CS), cw_span_J92 T q kL51 k x1 x2 x3 x4 x5 x6 x7 s → K D Γ 0 0 92 [(0, .ref (q 0)), (1, .int x1), (2, .int x2), (3, .int x3), (4, .int x4), (5, .int x5), (6, .int x6), (7, .int x7)] [] (cw T q s) := by
    intro kL51 ih51 x1 x2 x3 x4 x5 x6 x7 s h
    unfold cw_span_J92 at h
    refine k_iload G dX0_span_92 rfl ?_
    refine k_bipush G dX0_span_94 kc_b_m5 ?_
    obtain ⟨hA, hB⟩ := h
    refine k_icmp_eq G 105 dX0_span_96 (by decide) (fun c96 => ?_) (fun c96 => ?_)
    · have h := hA c96
      clear hA hB
      exact hJ105 _ ih51 _ _ _ _ _ _ _ _ h
    · have h := hB c96
      clear hA hB
      refine k_iload G dX0_span_99 rfl ?_
      refine k_iconst G dX0_span_101 kc_i_1 ?_
      obtain ⟨hA, hB⟩ := h
      refine k_icmp_ne G 123 dX0_span_102 (by decide) (fun c102 => ?_) (fun c102 => ?_)
      · have h := hA c102
        clear hA hB
        exact hJ123 _ ih51 _ _ _ _ _ _ _ _ h
      · have h := hB c102
        clear hA hB
        exact hJ105 _ ih51 _ _ _ _ _ _ _ _ h
  have hL51 : ∀ n : Nat, ∀ (x1 : Int32) (x2 : Int32) (x3 : Int32) (x4 : Int32) (x5 : Int32) (x6 : Int32) (x7 : Int32) (s : CS), (cw_span_L51 T q k n) x1 x2 x3 x4 x5 x6 x7 s → K D Γ 0 0 51 [(0, .ref (q 0)), (1, .int x1), (2, .int x2), (3, .int x3), (4, .int x4), (5, .int x5), (6, .int x6), (7, .int x7)] [] (cw T q s) := by
    intro n
    induction n with
    | zero =>
      intro _ _ _ _ _ _ _ _ h
      exact h.elim
    | succ n ih51 =>
      intro x1 x2 x3 x4 x5 x6 x7 s h
      unfold cw_span_L51 at h
      refine k_iload G dX0_span_51 rfl ?_
      refine k_sipush G dX0_span_53 kc_s_9999 ?_
      obtain ⟨hA, hB⟩ := h
      refine k_icmp_gt G 129 dX0_span_56 (by decide) (fun c56 => ?_) (fun c56 => ?_)
      · have h := hA c56
        clear hA hB
        refine k_iload G dX0_span_129 rfl ?_
        exact k_iret G X dX0_span_131 (Nat.le_of_ble_eq_true rfl) (Nat.le_of_ble_eq_true rfl) ⟨_, _, rfl, rfl, h⟩
      · have h := hB c56
        clear hA hB
        refine k_iload G dX0_span_59 rfl ?_
        refine k_bipush G dX0_span_61 kc_b_10 ?_
        refine k_irem G dX0_span_63 (by decide) ?_
        obtain ⟨hA, hB⟩ := h
        refine k_if_ne G 92 dX0_span_64 (by decide) (fun c64 => ?_) (fun c64 => ?_)
        · have h := hA c64
          clear hA hB
          exact hJ92 _ ih51 _ _ _ _ _ _ _ _ h
        · have h := hB c64
          clear hA hB
          refine k_aload_n G dX0_span_67 rfl ?_
          refine k_aload_n G dX0_span_68 rfl ?_
          refine kc_this G cf_now_27 dX0_span_69 rfl ?_
          refine k_iload_n G dX0_span_72 rfl ?_
          refine k_iload_n G dX0_span_73 rfl ?_
          refine k_iload G dX0_span_74 rfl ?_
          refine kc_callV G (vk_looksAt _ D T q _ _ _ _ _ _ h) gf_looksAt q513 dX0_span_76 rfl rfl (Nat.le_of_ble_eq_true rfl) (Nat.le_of_ble_eq_true rfl) ⟨Nat.le_of_ble_eq_true rfl, Nat.le_of_ble_eq_true rfl⟩ (fun s76 h => ?_)
          refine k_aload_n G dX0_span_79 rfl ?_
          refine kc_this G cf_kiln_41 dX0_span_80 rfl ?_
          refine k_aload_n G dX0_span_83 rfl ?_
          refine kc_this G cf_look_48 dX0_span_84 rfl ?_
          obtain ⟨κ87, hk, h⟩ := h
          refine kl_part G hk q572 dX0_span_87 (Nat.le_of_ble_eq_true rfl) (Nat.le_of_ble_eq_true rfl) ⟨Nat.le_of_ble_eq_true rfl, Nat.le_of_ble_eq_true rfl⟩ ?_
          refine k_nmI (fun x90 e90 => ?_)
          have h := h x90 e90
          refine k_istore G [(6, .int x90), (0, .ref (q 0)), (1, .int x1), (2, .int x2), (3, .int x3), (4, .int x4), (5, .int x5), (7, .int x7)] dX0_span_90 (Nat.le_of_ble_eq_true rfl) rfl ?_
          refine K.less [1, 2, 3, 4, 5, 6, 0, 7] rfl ?_
          exact hJ92 _ ih51 _ _ _ _ _ _ _ _ h
  refine K.less [0, 1, 2, 3, 4] (lv' := [(0, .ref (q 0)), (1, .int x1), (2, .int x2), (3, .int x3), (4, .int x4)]) rfl ?_
  unfold cw_span at h
  refine k_aload_n G dX0_span_0 rfl ?_
  refine k_iload_n G dX0_span_1 rfl ?_
  refine kc_callI G (vk_isLoaf _ D T q _ _ _ h) gf_isLoaf q475 dX0_span_2 rfl rfl (Nat.le_of_ble_eq_true rfl) (Nat.le_of_ble_eq_true rfl) ⟨Nat.le_of_ble_eq_true rfl, Nat.le_of_ble_eq_true rfl⟩ (fun r2 s2 h => ?_)
  obtain ⟨hA, hB⟩ := h
  refine k_if_eq G 25 dX0_span_5 (by decide) (fun c5 => ?_) (fun c5 => ?_)
  · have h := hA c5
    clear hA hB
    refine k_iconst G dX0_span_25 kc_i_m1 ?_
    exact k_iret G X dX0_span_26 (Nat.le_of_ble_eq_true rfl) (Nat.le_of_ble_eq_true rfl) ⟨_, _, rfl, rfl, h⟩
  · have h := hB c5
    clear hA hB
    refine k_iload_n G dX0_span_8 rfl ?_
    refine k_callPI G (vk_isTaste _ D T _ _ h) gf_isTaste q479 dX0_span_9 rfl rfl (Nat.le_of_ble_eq_true rfl) (Nat.le_of_ble_eq_true rfl) ⟨Nat.le_of_ble_eq_true rfl, Nat.le_of_ble_eq_true rfl⟩ (fun r9 h => ?_)
    obtain ⟨hA, hB⟩ := h
    refine k_if_eq G 25 dX0_span_12 (by decide) (fun c12 => ?_) (fun c12 => ?_)
    · have h := hA c12
      clear hA hB
      refine k_iconst G dX0_span_25 kc_i_m1 ?_
      exact k_iret G X dX0_span_26 (Nat.le_of_ble_eq_true rfl) (Nat.le_of_ble_eq_true rfl) ⟨_, _, rfl, rfl, h⟩
    · have h := hB c12
      clear hA hB
      refine k_iload G dX0_span_15 rfl ?_
      refine k_iconst G dX0_span_17 kc_i_0 ?_
      refine k_iconst G dX0_span_18 kc_i_1 ?_
      refine k_callPI G (vk_in _ D T _ _ _ _ h) gf_in q368 dX0_span_19 rfl rfl (Nat.le_of_ble_eq_true rfl) (Nat.le_of_ble_eq_true rfl) ⟨Nat.le_of_ble_eq_true rfl, Nat.le_of_ble_eq_true rfl⟩ (fun r19 h => ?_)
      obtain ⟨hA, hB⟩ := h
      refine k_if_ne G 27 dX0_span_22 (by decide) (fun c22 => ?_) (fun c22 => ?_)
      · have h := hA c22
        clear hA hB
        refine k_iload_n G dX0_span_27 rfl ?_
        refine k_iconst G dX0_span_28 kc_i_0 ?_
        refine k_sipush G dX0_span_29 kc_s_9999 ?_
        refine k_callPI G (vk_in _ D T _ _ _ _ h) gf_in q368 dX0_span_32 rfl rfl (Nat.le_of_ble_eq_true rfl) (Nat.le_of_ble_eq_true rfl) ⟨Nat.le_of_ble_eq_true rfl, Nat.le_of_ble_eq_true rfl⟩ (fun r32 h => ?_)
        obtain ⟨hA, hB⟩ := h
        refine k_if_ne G 41 dX0_span_35 (by decide) (fun c35 => ?_) (fun c35 => ?_)
        · have h := hA c35
          clear hA hB
          refine k_bipush G dX0_span_41 kc_b_m5 ?_
          refine k_istore G [(5, .int (-5)), (0, .ref (q 0)), (1, .int x1), (2, .int x2), (3, .int x3), (4, .int x4)] dX0_span_43 (Nat.le_of_ble_eq_true rfl) rfl ?_
          refine k_iconst G dX0_span_45 kc_i_0 ?_
          refine k_istore G [(6, .int 0), (5, .int (-5)), (0, .ref (q 0)), (1, .int x1), (2, .int x2), (3, .int x3), (4, .int x4)] dX0_span_46 (Nat.le_of_ble_eq_true rfl) rfl ?_
          refine k_iconst G dX0_span_48 kc_i_0 ?_
          refine k_istore G [(7, .int 0), (6, .int 0), (5, .int (-5)), (0, .ref (q 0)), (1, .int x1), (2, .int x2), (3, .int x3), (4, .int x4)] dX0_span_49 (Nat.le_of_ble_eq_true rfl) rfl ?_
          obtain ⟨n51, h⟩ := h
          refine K.less [3, 4, 5, 6, 7, 2, 1, 0] rfl ?_
          exact hL51 n51 _ _ _ _ _ _ _ _ h
        · have h := hB c35
          clear hA hB
          refine k_bipush G dX0_span_38 kc_b_m2 ?_
          exact k_iret G X dX0_span_40 (Nat.le_of_ble_eq_true rfl) (Nat.le_of_ble_eq_true rfl) ⟨_, _, rfl, rfl, h⟩
      · have h := hB c22
        clear hA hB
        refine k_iconst G dX0_span_25 kc_i_m1 ?_
        exact k_iret G X dX0_span_26 (Nat.le_of_ble_eq_true rfl) (Nat.le_of_ble_eq_true rfl) ⟨_, _, rfl, rfl, h⟩
def cw_year_J121 (T : xT) (q : Nat → Nat) (kL68 : Int32 → Int32 → Int32 → Int32 → Int32 → Int32 → CS → Prop) (k : Int32 → CS → Prop) (x1 : Int32) (x2 : Int32) (x3 : Int32) (x4 : Int32) (x5 : Int32) (x6 : Int32) (s : CS) : Prop := ∀ x121 : Int32, x121 = x6 + 1 → kL68 x1 x2 x3 x4 x5 x121 s
def cw_year_L68 (T : xT) (q : Nat → Nat) (k : Int32 → CS → Prop) : Nat → Int32 → Int32 → Int32 → Int32 → Int32 → Int32 → CS → Prop
  | 0, _, _, _, _, _, _, _ => False
  | n + 1, x1, x2, x3, x4, x5, x6, s => (x1 ≤ x6 → (¬ x3 = 4 → vp_in x3 4 ∧ k ((s.1.1 7 (x3 : Int32).toNatClampNeg)) s) ∧ (x3 = 4 → k x5 s)) ∧ (¬ x1 ≤ x6 → ¬ x2 = 0 ∧ (¬ ((s.1.1 6 1) - (s.1.1 6 1) / x2 * x2) = 0 → ∀ x104 : Int32, x104 = x4 + 1 → ¬ (s.1.1 0 3) = 0 ∧ cw_goes T q s 1 ((x4 - x4 / (s.1.1 0 3) * (s.1.1 0 3))) (fun r112 s112 => (r112 = 0 → cw_year_J121 T q (fun x1 x2 x3 x4 x5 x6 s => cw_year_L68 T q k n x1 x2 x3 x4 x5 x6 s) k x1 x2 x3 x104 x5 x6 s112) ∧ (¬ r112 = 0 → ∀ x118 : Int32, x118 = x5 + 1 → cw_year_J121 T q (fun x1 x2 x3 x4 x5 x6 s => cw_year_L68 T q k n x1 x2 x3 x4 x5 x6 s) k x1 x2 x3 x104 x118 x6 s112))) ∧ (((s.1.1 6 1) - (s.1.1 6 1) / x2 * x2) = 0 → cw_cools T q s 1 (fun s91 => cw_year_J121 T q (fun x1 x2 x3 x4 x5 x6 s => cw_year_L68 T q k n x1 x2 x3 x4 x5 x6 s) k x1 x2 x3 x4 x5 x6 s91)))
def cw_year_J33 (T : xT) (q : Nat → Nat) (k : Int32 → CS → Prop) (s : CS) : Prop := k (-100002) s
def cw_year (T : xT) (q : Nat → Nat) (s : CS) (x1 : Int32) (x2 : Int32) (x3 : Int32) (k : Int32 → CS → Prop) : Prop := qw_in x3 0 4 (fun r3 => (¬ r3 = 0 → qw_in x1 0 60 (fun r17 => (r17 = 0 → cw_year_J33 T q k s) ∧ (¬ r17 = 0 → qw_in x2 2 30 (fun r27 => (¬ r27 = 0 → (¬ (s.1.1 0 3) = 0 → ∃ n68 : Nat, cw_year_L68 T q k n68 x1 x2 x3 0 0 0 ((cTk s 1 0))) ∧ ((s.1.1 0 3) = 0 → k (-100003) s)) ∧ (r27 = 0 → cw_year_J33 T q k s))))) ∧ (r3 = 0 → k (-100001) s))
set_option maxHeartbeats 4000000 in
theorem vk_year (l : Launch) (D : va_G) (T : xT) (q : Nat → Nat) (s : CS) (x1 : Int32) (x2 : Int32) (x3 : Int32) (k : Int32 → CS → Prop) (h : cw_year T q s x1 x2 x3 k) : XM l D T yX0_year cX0_year 7 (some .int) 65 0 0 [.ref (q 0), .int x1, .int x2, .int x3] (cw T q s) (cpostI T q k) := by
  refine XM.start (by decide +kernel) (Nat.le_of_ble_eq_true rfl) (fun Γ G X _ hl_ => ?_)
  subst hl_
  have hJ121 : ∀ (kL68 : Int32 → Int32 → Int32 → Int32 → Int32 → Int32 → CS → Prop) (ih68 : ∀ (x1 : Int32) (x2 : Int32) (x3 : Int32) (x4 : Int32) (x5 : Int32) (x6 : Int32) (s : CS), kL68 x1 x2 x3 x4 x5 x6 s → K D Γ 0 0 68 [(0, .ref (q 0)), (1, .int x1), (2, .int x2), (3, .int x3), (4, .int x4), (5, .int x5), (6, .int x6)] [] (cw T q s)) (x1 : Int32) (x2 : Int32) (x3 : Int32) (x4 : Int32) (x5 : Int32) (x6 : Int32) (s : CS), cw_year_J121 T q kL68 k x1 x2 x3 x4 x5 x6 s → K D Γ 0 0 121 [(0, .ref (q 0)), (1, .int x1), (2, .int x2), (3, .int x3), (4, .int x4), (5, .int x5), (6, .int x6)] [] (cw T q s) := by
    intro kL68 ih68 x1 x2 x3 x4 x5 x6 s h
    unfold cw_year_J121 at h
    obtain ⟨x121, e121⟩ : ∃ y : Int32, y = x6 + 1 := ⟨_, rfl⟩
    have h := h x121 e121
    refine k_iinc G [(6, .int x121), (0, .ref (q 0)), (1, .int x1), (2, .int x2), (3, .int x3), (4, .int x4), (5, .int x5)] dX0_year_121 rfl (v := x121) (by rw [e121, kc_i_1]) (Nat.le_of_ble_eq_true rfl) rfl ?_
    refine k_goto G 68 dX0_year_124 (by decide) ?_
    refine K.less [1, 2, 3, 4, 5, 6, 0] rfl ?_
    exact ih68 _ _ _ _ _ _ _ h
  have hL68 : ∀ n : Nat, ∀ (x1 : Int32) (x2 : Int32) (x3 : Int32) (x4 : Int32) (x5 : Int32) (x6 : Int32) (s : CS), (cw_year_L68 T q k n) x1 x2 x3 x4 x5 x6 s → K D Γ 0 0 68 [(0, .ref (q 0)), (1, .int x1), (2, .int x2), (3, .int x3), (4, .int x4), (5, .int x5), (6, .int x6)] [] (cw T q s) := by
    intro n
    induction n with
    | zero =>
      intro _ _ _ _ _ _ _ h
      exact h.elim
    | succ n ih68 =>
      intro x1 x2 x3 x4 x5 x6 s h
      unfold cw_year_L68 at h
      refine k_iload G dX0_year_68 rfl ?_
      refine k_iload_n G dX0_year_70 rfl ?_
      obtain ⟨hA, hB⟩ := h
      refine k_icmp_ge G 127 dX0_year_71 (by decide) (fun c71 => ?_) (fun c71 => ?_)
      · have h := hA c71
        clear hA hB
        refine k_iload_n G dX0_year_127 rfl ?_
        refine k_iconst G dX0_year_128 kc_i_4 ?_
        obtain ⟨hA, hB⟩ := h
        refine k_icmp_ne G 137 dX0_year_129 (by decide) (fun c129 => ?_) (fun c129 => ?_)
        · have h := hA c129
          clear hA hB
          refine k_aload_n G dX0_year_137 rfl ?_
          refine kc_this G cf_tried_31 dX0_year_138 rfl ?_
          refine kc_held G (t := 1) (by decide) (Or.inr (List.mem_of_getElem? (i := 0) rfl)) dX0_year_141 ?_
          refine k_iload_n G dX0_year_144 rfl ?_
          obtain ⟨h1, h⟩ := h
          refine kc_iald G cI_7 dX0_year_145 h1 ?_
          exact k_iret G X dX0_year_146 (Nat.le_of_ble_eq_true rfl) (Nat.le_of_ble_eq_true rfl) ⟨_, _, rfl, rfl, h⟩
        · have h := hB c129
          clear hA hB
          refine k_iload G dX0_year_132 rfl ?_
          refine k_goto G 146 dX0_year_134 (by decide) ?_
          exact k_iret G X dX0_year_146 (Nat.le_of_ble_eq_true rfl) (Nat.le_of_ble_eq_true rfl) ⟨_, _, rfl, rfl, h⟩
      · have h := hB c71
        clear hA hB
        refine k_aload_n G dX0_year_74 rfl ?_
        refine kc_this G cf_tried_31 dX0_year_75 rfl ?_
        refine kc_hour G (t := 1) (by decide) (Or.inr (List.mem_of_getElem? (i := 1) rfl)) dX0_year_78 ?_
        refine k_iload_n G dX0_year_81 rfl ?_
        obtain ⟨h0, h⟩ := h
        refine k_irem G dX0_year_82 h0 ?_
        obtain ⟨hA, hB⟩ := h
        refine k_if_ne G 97 dX0_year_83 (by decide) (fun c83 => ?_) (fun c83 => ?_)
        · have h := hA c83
          clear hA hB
          refine k_aload_n G dX0_year_97 rfl ?_
          refine k_aload_n G dX0_year_98 rfl ?_
          refine kc_this G cf_tried_31 dX0_year_99 rfl ?_
          refine k_iload G dX0_year_102 rfl ?_
          obtain ⟨x104, e104⟩ : ∃ y : Int32, y = x4 + 1 := ⟨_, rfl⟩
          have h := h x104 e104
          refine k_iinc G [(4, .int x104), (0, .ref (q 0)), (1, .int x1), (2, .int x2), (3, .int x3), (5, .int x5), (6, .int x6)] dX0_year_104 rfl (v := x104) (by rw [e104, kc_i_1]) (Nat.le_of_ble_eq_true rfl) rfl ?_
          refine k_aload_n G dX0_year_107 rfl ?_
          refine kc_this G cf_many_107 dX0_year_108 rfl ?_
          obtain ⟨h0, h⟩ := h
          refine k_irem G dX0_year_111 h0 ?_
          refine kc_callI G (vk_goes _ D T q _ _ _ _ h) gf_goes q1003 dX0_year_112 rfl rfl (Nat.le_of_ble_eq_true rfl) (Nat.le_of_ble_eq_true rfl) ⟨Nat.le_of_ble_eq_true rfl, Nat.le_of_ble_eq_true rfl⟩ (fun r112 s112 h => ?_)
          obtain ⟨hA, hB⟩ := h
          refine k_if_eq G 121 dX0_year_115 (by decide) (fun c115 => ?_) (fun c115 => ?_)
          · have h := hA c115
            clear hA hB
            refine K.less [1, 2, 3, 4, 0, 5, 6] rfl ?_
            exact hJ121 _ ih68 _ _ _ _ _ _ _ h
          · have h := hB c115
            clear hA hB
            obtain ⟨x118, e118⟩ : ∃ y : Int32, y = x5 + 1 := ⟨_, rfl⟩
            have h := h x118 e118
            refine k_iinc G [(5, .int x118), (4, .int x104), (0, .ref (q 0)), (1, .int x1), (2, .int x2), (3, .int x3), (6, .int x6)] dX0_year_118 rfl (v := x118) (by rw [e118, kc_i_1]) (Nat.le_of_ble_eq_true rfl) rfl ?_
            refine K.less [2, 3, 4, 5, 1, 0, 6] rfl ?_
            exact hJ121 _ ih68 _ _ _ _ _ _ _ h
        · have h := hB c83
          clear hA hB
          refine k_aload_n G dX0_year_86 rfl ?_
          refine k_aload_n G dX0_year_87 rfl ?_
          refine kc_this G cf_tried_31 dX0_year_88 rfl ?_
          refine kc_callV G (vk_cools _ D T q _ _ _ h) gf_cools q1011 dX0_year_91 rfl rfl (Nat.le_of_ble_eq_true rfl) (Nat.le_of_ble_eq_true rfl) ⟨Nat.le_of_ble_eq_true rfl, Nat.le_of_ble_eq_true rfl⟩ (fun s91 h => ?_)
          refine k_goto G 121 dX0_year_94 (by decide) ?_
          exact hJ121 _ ih68 _ _ _ _ _ _ _ h
  have hJ33 : ∀ (s : CS), cw_year_J33 T q k s → K D Γ 0 0 33 [] [] (cw T q s) := by
    intro s h
    unfold cw_year_J33 at h
    refine k_ldc_w G q1123 dX0_year_33 ?_
    exact k_iret G X dX0_year_36 (Nat.le_of_ble_eq_true rfl) (Nat.le_of_ble_eq_true rfl) ⟨_, _, rfl, rfl, h⟩
  refine K.less [0, 1, 2, 3] (lv' := [(0, .ref (q 0)), (1, .int x1), (2, .int x2), (3, .int x3)]) rfl ?_
  unfold cw_year at h
  refine k_iload_n G dX0_year_0 rfl ?_
  refine k_iconst G dX0_year_1 kc_i_0 ?_
  refine k_iconst G dX0_year_2 kc_i_4 ?_
  refine k_callPI G (vk_in _ D T _ _ _ _ h) gf_in q368 dX0_year_3 rfl rfl (Nat.le_of_ble_eq_true rfl) (Nat.le_of_ble_eq_true rfl) ⟨Nat.le_of_ble_eq_true rfl, Nat.le_of_ble_eq_true rfl⟩ (fun r3 h => ?_)
  obtain ⟨hA, hB⟩ := h
  refine k_if_ne G 13 dX0_year_6 (by decide) (fun c6 => ?_) (fun c6 => ?_)
  · have h := hA c6
    clear hA hB
    refine k_iload_n G dX0_year_13 rfl ?_
    refine k_iconst G dX0_year_14 kc_i_0 ?_
    refine k_bipush G dX0_year_15 kc_b_60 ?_
    refine k_callPI G (vk_in _ D T _ _ _ _ h) gf_in q368 dX0_year_17 rfl rfl (Nat.le_of_ble_eq_true rfl) (Nat.le_of_ble_eq_true rfl) ⟨Nat.le_of_ble_eq_true rfl, Nat.le_of_ble_eq_true rfl⟩ (fun r17 h => ?_)
    obtain ⟨hA, hB⟩ := h
    refine k_if_eq G 33 dX0_year_20 (by decide) (fun c20 => ?_) (fun c20 => ?_)
    · have h := hA c20
      clear hA hB
      refine K.less [] rfl ?_
      exact hJ33 _ h
    · have h := hB c20
      clear hA hB
      refine k_iload_n G dX0_year_23 rfl ?_
      refine k_iconst G dX0_year_24 kc_i_2 ?_
      refine k_bipush G dX0_year_25 kc_b_30 ?_
      refine k_callPI G (vk_in _ D T _ _ _ _ h) gf_in q368 dX0_year_27 rfl rfl (Nat.le_of_ble_eq_true rfl) (Nat.le_of_ble_eq_true rfl) ⟨Nat.le_of_ble_eq_true rfl, Nat.le_of_ble_eq_true rfl⟩ (fun r27 h => ?_)
      obtain ⟨hA, hB⟩ := h
      refine k_if_ne G 37 dX0_year_30 (by decide) (fun c30 => ?_) (fun c30 => ?_)
      · have h := hA c30
        clear hA hB
        refine k_aload_n G dX0_year_37 rfl ?_
        refine kc_this G cf_many_107 dX0_year_38 rfl ?_
        obtain ⟨hA, hB⟩ := h
        refine k_if_ne G 48 dX0_year_41 (by decide) (fun c41 => ?_) (fun c41 => ?_)
        · have h := hA c41
          clear hA hB
          refine k_aload_n G dX0_year_48 rfl ?_
          refine kc_this G cf_tried_31 dX0_year_49 rfl ?_
          refine k_aload_n G dX0_year_52 rfl ?_
          refine kc_this G cf_now_27 dX0_year_53 rfl ?_
          refine kl_takes G (a := 1) (b := 0) (by decide) (by decide) q1019 dX0_year_56 (Nat.le_of_ble_eq_true rfl) (Nat.le_of_ble_eq_true rfl) ⟨Nat.le_of_ble_eq_true rfl, Nat.le_of_ble_eq_true rfl⟩ ?_
          refine k_iconst G dX0_year_59 kc_i_0 ?_
          refine k_istore G [(4, .int 0), (0, .ref (q 0)), (1, .int x1), (2, .int x2), (3, .int x3)] dX0_year_60 (Nat.le_of_ble_eq_true rfl) rfl ?_
          refine k_iconst G dX0_year_62 kc_i_0 ?_
          refine k_istore G [(5, .int 0), (4, .int 0), (0, .ref (q 0)), (1, .int x1), (2, .int x2), (3, .int x3)] dX0_year_63 (Nat.le_of_ble_eq_true rfl) rfl ?_
          refine k_iconst G dX0_year_65 kc_i_0 ?_
          refine k_istore G [(6, .int 0), (5, .int 0), (4, .int 0), (0, .ref (q 0)), (1, .int x1), (2, .int x2), (3, .int x3)] dX0_year_66 (Nat.le_of_ble_eq_true rfl) rfl ?_
          obtain ⟨n68, h⟩ := h
          refine K.less [3, 4, 5, 6, 2, 1, 0] rfl ?_
          exact hL68 n68 _ _ _ _ _ _ _ h
        · have h := hB c41
          clear hA hB
          refine k_ldc_w G q1124 dX0_year_44 ?_
          exact k_iret G X dX0_year_47 (Nat.le_of_ble_eq_true rfl) (Nat.le_of_ble_eq_true rfl) ⟨_, _, rfl, rfl, h⟩
      · have h := hB c30
        clear hA hB
        refine K.less [] rfl ?_
        exact hJ33 _ h
  · have h := hB c6
    clear hA hB
    refine k_ldc_w G q1098 dX0_year_9 ?_
    exact k_iret G X dX0_year_12 (Nat.le_of_ble_eq_true rfl) (Nat.le_of_ble_eq_true rfl) ⟨_, _, rfl, rfl, h⟩
def qw_divisor_L3 (k : Int64 → Prop) : Nat → Int64 → Int64 → Prop
  | 0, _, _ => False
  | n + 1, x2, x4 => ((lg_cmp x2 0) = 0 → k x4) ∧ (¬ (lg_cmp x2 0) = 0 → ¬ x2 = 0 ∧ ∀ x13 : Int64, x13 = (x4 - x4 / x2 * x2) → qw_divisor_L3 k n x13 x2)
def qw_divisor (x0 : Int64) (x2 : Int64) (k : Int64 → Prop) : Prop := ∃ n3 : Nat, qw_divisor_L3 k n3 x2 x0
set_option maxHeartbeats 4000000 in
theorem vk_divisor (l : Launch) (D : va_G) (T : xT) (x0 : Int64) (x2 : Int64) (k : Int64 → Prop) (h : qw_divisor x0 x2 k) : XM l D T yX0_divisor cX0_divisor 8 (some .long) 1 0 0 [.long x0, .long x2] [] (ppostL k) := by
  refine XM.start (by decide +kernel) (Nat.le_of_ble_eq_true rfl) (fun Γ G X _ hl_ => ?_)
  subst hl_
  have hL3 : ∀ n : Nat, ∀ (x2 : Int64) (x4 : Int64), (qw_divisor_L3 k n) x2 x4 → K D Γ 0 0 3 [(2, .long x2), (4, .long x4)] [] [] := by
    intro n
    induction n with
    | zero =>
      intro _ _ h
      exact h.elim
    | succ n ih3 =>
      intro x2 x4 h
      unfold qw_divisor_L3 at h
      refine k_lload_n G dX0_divisor_3 rfl ?_
      refine k_lconst G dX0_divisor_4 kc_l_0 ?_
      refine k_lcmp G dX0_divisor_5 ?_
      obtain ⟨hA, hB⟩ := h
      refine k_if_eq G 24 dX0_divisor_6 (by decide) (fun c6 => ?_) (fun c6 => ?_)
      · have h := hA c6
        clear hA hB
        refine k_lload G dX0_divisor_24 rfl ?_
        exact k_lret G X dX0_divisor_26 (Nat.le_of_ble_eq_true rfl) (Nat.le_of_ble_eq_true rfl) ⟨_, rfl, rfl, h⟩
      · have h := hB c6
        clear hA hB
        refine k_lload G dX0_divisor_9 rfl ?_
        refine k_lload_n G dX0_divisor_11 rfl ?_
        obtain ⟨h0, h⟩ := h
        refine k_lrem G dX0_divisor_12 h0 ?_
        refine k_nmL (fun x13 e13 => ?_)
        have h := h x13 e13
        refine k_lstore G [(6, .long x13), (2, .long x2), (4, .long x4)] dX0_divisor_13 (Nat.le_of_ble_eq_true rfl) rfl ?_
        refine k_lload_n G dX0_divisor_15 rfl ?_
        refine k_lstore G [(4, .long x2), (6, .long x13), (2, .long x2)] dX0_divisor_16 (Nat.le_of_ble_eq_true rfl) rfl ?_
        refine k_lload G dX0_divisor_18 rfl ?_
        refine k_lstore_n G [(2, .long x13), (4, .long x2), (6, .long x13)] dX0_divisor_20 rfl (Nat.le_of_ble_eq_true rfl) rfl ?_
        refine k_goto G 3 dX0_divisor_21 (by decide) ?_
        refine K.less [0, 1] rfl ?_
        exact ih3 _ _ h
  refine K.less [0, 1] (lv' := [(0, .long x0), (2, .long x2)]) rfl ?_
  unfold qw_divisor at h
  refine k_lload_n G dX0_divisor_0 rfl ?_
  refine k_lstore G [(4, .long x0), (0, .long x0), (2, .long x2)] dX0_divisor_1 (Nat.le_of_ble_eq_true rfl) rfl ?_
  obtain ⟨n3, h⟩ := h
  refine K.less [2, 0] rfl ?_
  exact hL3 n3 _ _ h
def qw_lowest_J10 (k : Int64 → Prop) (x0 : Int64) (x2 : Int64) (y0 : Int64) : Prop := qw_divisor x0 x2 (fun r12 => ¬ r12 = 0 ∧ k ((y0 / r12)))
def qw_lowest (x0 : Int64) (x2 : Int64) (x4 : Int32) (k : Int64 → Prop) : Prop := (¬ x4 = 0 → qw_lowest_J10 k x0 x2 x2) ∧ (x4 = 0 → qw_lowest_J10 k x0 x2 x0)
set_option maxHeartbeats 4000000 in
theorem vk_lowest (l : Launch) (D : va_G) (T : xT) (x0 : Int64) (x2 : Int64) (x4 : Int32) (k : Int64 → Prop) (h : qw_lowest x0 x2 x4 k) : XM l D T yX0_lowest cX0_lowest 5 (some .long) 3 0 0 [.long x0, .long x2, .int x4] [] (ppostL k) := by
  refine XM.start (by decide +kernel) (Nat.le_of_ble_eq_true rfl) (fun Γ G X _ hl_ => ?_)
  subst hl_
  have hJ10 : ∀ (x0 : Int64) (x2 : Int64) (y0 : Int64), qw_lowest_J10 k x0 x2 y0 → K D Γ 0 0 10 [(0, .long x0), (2, .long x2)] [.long y0] [] := by
    intro x0 x2 y0 h
    unfold qw_lowest_J10 at h
    refine k_lload_n G dX0_lowest_10 rfl ?_
    refine k_lload_n G dX0_lowest_11 rfl ?_
    refine k_callPL G (vk_divisor _ D T _ _ _ h) gf_divisor q1133 dX0_lowest_12 rfl rfl (Nat.le_of_ble_eq_true rfl) (Nat.le_of_ble_eq_true rfl) ⟨Nat.le_of_ble_eq_true rfl, Nat.le_of_ble_eq_true rfl⟩ (fun r12 h => ?_)
    obtain ⟨h0, h⟩ := h
    refine k_ldiv G dX0_lowest_15 h0 ?_
    exact k_lret G X dX0_lowest_16 (Nat.le_of_ble_eq_true rfl) (Nat.le_of_ble_eq_true rfl) ⟨_, rfl, rfl, h⟩
  refine K.less [0, 1, 2] (lv' := [(0, .long x0), (2, .long x2), (4, .int x4)]) rfl ?_
  unfold qw_lowest at h
  refine k_iload G dX0_lowest_0 rfl ?_
  obtain ⟨hA, hB⟩ := h
  refine k_if_ne G 9 dX0_lowest_2 (by decide) (fun c2 => ?_) (fun c2 => ?_)
  · have h := hA c2
    clear hA hB
    refine k_lload_n G dX0_lowest_9 rfl ?_
    refine K.less [0, 1] rfl ?_
    exact hJ10 _ _ _ h
  · have h := hB c2
    clear hA hB
    refine k_lload_n G dX0_lowest_5 rfl ?_
    refine k_goto G 10 dX0_lowest_6 (by decide) ?_
    refine K.less [0, 1] rfl ?_
    exact hJ10 _ _ _ h
def cw_odds_J90 (T : xT) (q : Nat → Nat) (kL34 : Int32 → Int32 → Int64 → Int32 → CS → Prop) (k : Int64 → CS → Prop) (x1 : Int32) (x2 : Int32) (x3 : Int64) (x5 : Int32) (s : CS) : Prop := ∀ x90 : Int32, x90 = x5 + 1 → kL34 x1 x2 x3 x90 s
def cw_odds_L34 (T : xT) (q : Nat → Nat) (k : Int64 → CS → Prop) : Nat → Int32 → Int32 → Int64 → Int32 → CS → Prop
  | 0, _, _, _, _, _ => False
  | n + 1, x1, x2, x3, x5, s => ((s.1.1 0 3) ≤ x5 → qw_lowest x3 ((((s.1.1 0 3) : Int32).toInt64 - 1)) x2 (fun r105 => k r105 s)) ∧ (¬ (s.1.1 0 3) ≤ x5 → (¬ x5 = x1 → ∀ w70 : CS, w70 = (cTk s 1 0) → cw_goes T q w70 1 x5 (fun r70 s70 => cw_isSpoiled T q s70 1 x1 (fun r80 s80 => (r80 = 0 → cw_odds_J90 T q (fun x1 x2 x3 x5 s => cw_odds_L34 T q k n x1 x2 x3 x5 s) k x1 x2 x3 x5 s80) ∧ (¬ r80 = 0 → ∀ x89 : Int64, x89 = (x3 + 1) → cw_odds_J90 T q (fun x1 x2 x3 x5 s => cw_odds_L34 T q k n x1 x2 x3 x5 s) k x1 x2 x89 x5 s80)))) ∧ (x5 = x1 → cw_odds_J90 T q (fun x1 x2 x3 x5 s => cw_odds_L34 T q k n x1 x2 x3 x5 s) k x1 x2 x3 x5 s))
def cw_odds_J25 (T : xT) (q : Nat → Nat) (k : Int64 → CS → Prop) (s : CS) : Prop := k (-9223372036854775808) s
def cw_odds (T : xT) (q : Nat → Nat) (s : CS) (x1 : Int32) (x2 : Int32) (k : Int64 → CS → Prop) : Prop := cw_isLoaf T q s x1 (fun r2 s2 => (r2 = 0 → cw_odds_J25 T q k s2) ∧ (¬ r2 = 0 → qw_in x2 0 1 (fun r11 => (r11 = 0 → cw_odds_J25 T q k s2) ∧ (¬ r11 = 0 → (¬ (s2.1.1 0 3) = 1 → ∃ n34 : Nat, cw_odds_L34 T q k n34 x1 x2 0 0 s2) ∧ ((s2.1.1 0 3) = 1 → cw_odds_J25 T q k s2)))))
set_option maxHeartbeats 4000000 in
theorem vk_odds (l : Launch) (D : va_G) (T : xT) (q : Nat → Nat) (s : CS) (x1 : Int32) (x2 : Int32) (k : Int64 → CS → Prop) (h : cw_odds T q s x1 x2 k) : XM l D T yX0_odds cX0_odds 6 (some .long) 65 0 0 [.ref (q 0), .int x1, .int x2] (cw T q s) (cpostL T q k) := by
  refine XM.start (by decide +kernel) (Nat.le_of_ble_eq_true rfl) (fun Γ G X _ hl_ => ?_)
  subst hl_
  have hJ90 : ∀ (kL34 : Int32 → Int32 → Int64 → Int32 → CS → Prop) (ih34 : ∀ (x1 : Int32) (x2 : Int32) (x3 : Int64) (x5 : Int32) (s : CS), kL34 x1 x2 x3 x5 s → K D Γ 0 0 34 [(0, .ref (q 0)), (1, .int x1), (2, .int x2), (3, .long x3), (5, .int x5)] [] (cw T q s)) (x1 : Int32) (x2 : Int32) (x3 : Int64) (x5 : Int32) (s : CS), cw_odds_J90 T q kL34 k x1 x2 x3 x5 s → K D Γ 0 0 90 [(0, .ref (q 0)), (1, .int x1), (2, .int x2), (3, .long x3), (5, .int x5)] [] (cw T q s) := by
    intro kL34 ih34 x1 x2 x3 x5 s h
    unfold cw_odds_J90 at h
    obtain ⟨x90, e90⟩ : ∃ y : Int32, y = x5 + 1 := ⟨_, rfl⟩
    have h := h x90 e90
    refine k_iinc G [(5, .int x90), (0, .ref (q 0)), (1, .int x1), (2, .int x2), (3, .long x3)] dX0_odds_90 rfl (v := x90) (by rw [e90, kc_i_1]) (Nat.le_of_ble_eq_true rfl) rfl ?_
    refine k_goto G 34 dX0_odds_93 (by decide) ?_
    refine K.less [1, 2, 3, 4, 0] rfl ?_
    exact ih34 _ _ _ _ _ h
  have hL34 : ∀ n : Nat, ∀ (x1 : Int32) (x2 : Int32) (x3 : Int64) (x5 : Int32) (s : CS), (cw_odds_L34 T q k n) x1 x2 x3 x5 s → K D Γ 0 0 34 [(0, .ref (q 0)), (1, .int x1), (2, .int x2), (3, .long x3), (5, .int x5)] [] (cw T q s) := by
    intro n
    induction n with
    | zero =>
      intro _ _ _ _ _ h
      exact h.elim
    | succ n ih34 =>
      intro x1 x2 x3 x5 s h
      unfold cw_odds_L34 at h
      refine k_iload G dX0_odds_34 rfl ?_
      refine k_aload_n G dX0_odds_36 rfl ?_
      refine kc_this G cf_many_107 dX0_odds_37 rfl ?_
      obtain ⟨hA, hB⟩ := h
      refine k_icmp_ge G 96 dX0_odds_40 (by decide) (fun c40 => ?_) (fun c40 => ?_)
      · have h := hA c40
        clear hA hB
        refine k_lload_n G dX0_odds_96 rfl ?_
        refine k_aload_n G dX0_odds_97 rfl ?_
        refine kc_this G cf_many_107 dX0_odds_98 rfl ?_
        refine k_i2l G dX0_odds_101 ?_
        refine k_lconst G dX0_odds_102 kc_l_1 ?_
        refine k_lsub G dX0_odds_103 ?_
        refine k_iload_n G dX0_odds_104 rfl ?_
        refine k_callPL G (vk_lowest _ D T _ _ _ _ h) gf_lowest q1130 dX0_odds_105 rfl rfl (Nat.le_of_ble_eq_true rfl) (Nat.le_of_ble_eq_true rfl) ⟨Nat.le_of_ble_eq_true rfl, Nat.le_of_ble_eq_true rfl⟩ (fun r105 h => ?_)
        exact k_lret G X dX0_odds_108 (Nat.le_of_ble_eq_true rfl) (Nat.le_of_ble_eq_true rfl) ⟨_, _, rfl, rfl, h⟩
      · have h := hB c40
        clear hA hB
        refine k_iload G dX0_odds_43 rfl ?_
        refine k_iload_n G dX0_odds_45 rfl ?_
        obtain ⟨hA, hB⟩ := h
        refine k_icmp_ne G 52 dX0_odds_46 (by decide) (fun c46 => ?_) (fun c46 => ?_)
        · have h := hA c46
          clear hA hB
          refine k_aload_n G dX0_odds_52 rfl ?_
          refine kc_this G cf_tried_31 dX0_odds_53 rfl ?_
          refine k_aload_n G dX0_odds_56 rfl ?_
          refine kc_this G cf_now_27 dX0_odds_57 rfl ?_
          refine kl_takes G (a := 1) (b := 0) (by decide) (by decide) q1019 dX0_odds_60 (Nat.le_of_ble_eq_true rfl) (Nat.le_of_ble_eq_true rfl) ⟨Nat.le_of_ble_eq_true rfl, Nat.le_of_ble_eq_true rfl⟩ ?_
          refine k_aload_n G dX0_odds_63 rfl ?_
          refine k_aload_n G dX0_odds_64 rfl ?_
          refine kc_this G cf_tried_31 dX0_odds_65 rfl ?_
          refine k_iload G dX0_odds_68 rfl ?_
          refine kc_nmW (fun w70 ew70 => ?_)
          have h := h w70 ew70
          refine kc_callI G (vk_goes _ D T q _ _ _ _ h) gf_goes q1003 dX0_odds_70 rfl rfl (Nat.le_of_ble_eq_true rfl) (Nat.le_of_ble_eq_true rfl) ⟨Nat.le_of_ble_eq_true rfl, Nat.le_of_ble_eq_true rfl⟩ (fun r70 s70 h => ?_)
          refine k_pop G dX0_odds_73 rfl ?_
          refine k_aload_n G dX0_odds_74 rfl ?_
          refine k_aload_n G dX0_odds_75 rfl ?_
          refine kc_this G cf_tried_31 dX0_odds_76 rfl ?_
          refine k_iload_n G dX0_odds_79 rfl ?_
          refine kc_callI G (vk_isSpoiled _ D T q _ _ _ _ h) gf_isSpoiled q564 dX0_odds_80 rfl rfl (Nat.le_of_ble_eq_true rfl) (Nat.le_of_ble_eq_true rfl) ⟨Nat.le_of_ble_eq_true rfl, Nat.le_of_ble_eq_true rfl⟩ (fun r80 s80 h => ?_)
          obtain ⟨hA, hB⟩ := h
          refine k_if_eq G 90 dX0_odds_83 (by decide) (fun c83 => ?_) (fun c83 => ?_)
          · have h := hA c83
            clear hA hB
            exact hJ90 _ ih34 _ _ _ _ _ h
          · have h := hB c83
            clear hA hB
            refine k_lload_n G dX0_odds_86 rfl ?_
            refine k_lconst G dX0_odds_87 kc_l_1 ?_
            refine k_ladd G dX0_odds_88 ?_
            refine k_nmL (fun x89 e89 => ?_)
            have h := h x89 e89
            refine k_lstore_n G [(3, .long x89), (0, .ref (q 0)), (1, .int x1), (2, .int x2), (5, .int x5)] dX0_odds_89 rfl (Nat.le_of_ble_eq_true rfl) rfl ?_
            refine K.less [1, 2, 3, 0, 4] rfl ?_
            exact hJ90 _ ih34 _ _ _ _ _ h
        · have h := hB c46
          clear hA hB
          refine k_goto G 90 dX0_odds_49 (by decide) ?_
          exact hJ90 _ ih34 _ _ _ _ _ h
  have hJ25 : ∀ (s : CS), cw_odds_J25 T q k s → K D Γ 0 0 25 [] [] (cw T q s) := by
    intro s h
    unfold cw_odds_J25 at h
    refine k_ldc2 G q1129 dX0_odds_25 ?_
    exact k_lret G X dX0_odds_28 (Nat.le_of_ble_eq_true rfl) (Nat.le_of_ble_eq_true rfl) ⟨_, _, rfl, rfl, h⟩
  refine K.less [0, 1, 2] (lv' := [(0, .ref (q 0)), (1, .int x1), (2, .int x2)]) rfl ?_
  unfold cw_odds at h
  refine k_aload_n G dX0_odds_0 rfl ?_
  refine k_iload_n G dX0_odds_1 rfl ?_
  refine kc_callI G (vk_isLoaf _ D T q _ _ _ h) gf_isLoaf q475 dX0_odds_2 rfl rfl (Nat.le_of_ble_eq_true rfl) (Nat.le_of_ble_eq_true rfl) ⟨Nat.le_of_ble_eq_true rfl, Nat.le_of_ble_eq_true rfl⟩ (fun r2 s2 h => ?_)
  obtain ⟨hA, hB⟩ := h
  refine k_if_eq G 25 dX0_odds_5 (by decide) (fun c5 => ?_) (fun c5 => ?_)
  · have h := hA c5
    clear hA hB
    refine K.less [] rfl ?_
    exact hJ25 _ h
  · have h := hB c5
    clear hA hB
    refine k_iload_n G dX0_odds_8 rfl ?_
    refine k_iconst G dX0_odds_9 kc_i_0 ?_
    refine k_iconst G dX0_odds_10 kc_i_1 ?_
    refine k_callPI G (vk_in _ D T _ _ _ _ h) gf_in q368 dX0_odds_11 rfl rfl (Nat.le_of_ble_eq_true rfl) (Nat.le_of_ble_eq_true rfl) ⟨Nat.le_of_ble_eq_true rfl, Nat.le_of_ble_eq_true rfl⟩ (fun r11 h => ?_)
    obtain ⟨hA, hB⟩ := h
    refine k_if_eq G 25 dX0_odds_14 (by decide) (fun c14 => ?_) (fun c14 => ?_)
    · have h := hA c14
      clear hA hB
      refine K.less [] rfl ?_
      exact hJ25 _ h
    · have h := hB c14
      clear hA hB
      refine k_aload_n G dX0_odds_17 rfl ?_
      refine kc_this G cf_many_107 dX0_odds_18 rfl ?_
      refine k_iconst G dX0_odds_21 kc_i_1 ?_
      obtain ⟨hA, hB⟩ := h
      refine k_icmp_ne G 29 dX0_odds_22 (by decide) (fun c22 => ?_) (fun c22 => ?_)
      · have h := hA c22
        clear hA hB
        refine k_lconst G dX0_odds_29 kc_l_0 ?_
        refine k_lstore_n G [(3, .long 0), (0, .ref (q 0)), (1, .int x1), (2, .int x2)] dX0_odds_30 rfl (Nat.le_of_ble_eq_true rfl) rfl ?_
        refine k_iconst G dX0_odds_31 kc_i_0 ?_
        refine k_istore G [(5, .int 0), (3, .long 0), (0, .ref (q 0)), (1, .int x1), (2, .int x2)] dX0_odds_32 (Nat.le_of_ble_eq_true rfl) rfl ?_
        obtain ⟨n34, h⟩ := h
        refine K.less [2, 3, 4, 1, 0] rfl ?_
        exact hL34 n34 _ _ _ _ _ h
      · have h := hB c22
        clear hA hB
        refine K.less [] rfl ?_
        exact hJ25 _ h
def cw_mean_L32 (T : xT) (q : Nat → Nat) (k : Int64 → CS → Prop) : Nat → Int32 → Int32 → Int64 → Int32 → CS → Prop
  | 0, _, _, _, _, _ => False
  | n + 1, x1, x2, x3, x5, s => ((s.1.1 0 3) ≤ x5 → qw_lowest x3 (((s.1.1 0 3) : Int32).toInt64) x2 (fun r78 => k r78 s)) ∧ (¬ (s.1.1 0 3) ≤ x5 → vp_in x1 4 ∧ cw_takesOf T q s 0 x5 x1 ((s.1.1 5 (x1 : Int32).toNatClampNeg)) (fun r59 s59 => ∀ x64 : Int64, x64 = (x3 + (r59 : Int32).toInt64) → ∀ x65 : Int32, x65 = x5 + 1 → cw_mean_L32 T q k n x1 x2 x64 x65 s59))
def cw_mean_J23 (T : xT) (q : Nat → Nat) (k : Int64 → CS → Prop) (s : CS) : Prop := k (-9223372036854775808) s
def cw_mean (T : xT) (q : Nat → Nat) (s : CS) (x1 : Int32) (x2 : Int32) (k : Int64 → CS → Prop) : Prop := qw_isTaste x1 (fun r1 => (r1 = 0 → cw_mean_J23 T q k s) ∧ (¬ r1 = 0 → qw_in x2 0 1 (fun r10 => (r10 = 0 → cw_mean_J23 T q k s) ∧ (¬ r10 = 0 → (¬ (s.1.1 0 3) = 0 → ∃ n32 : Nat, cw_mean_L32 T q k n32 x1 x2 0 0 s) ∧ ((s.1.1 0 3) = 0 → cw_mean_J23 T q k s)))))
set_option maxHeartbeats 4000000 in
theorem vk_mean (l : Launch) (D : va_G) (T : xT) (q : Nat → Nat) (s : CS) (x1 : Int32) (x2 : Int32) (k : Int64 → CS → Prop) (h : cw_mean T q s x1 x2 k) : XM l D T yX0_mean cX0_mean 6 (some .long) 63 0 0 [.ref (q 0), .int x1, .int x2] (cw T q s) (cpostL T q k) := by
  refine XM.start (by decide +kernel) (Nat.le_of_ble_eq_true rfl) (fun Γ G X _ hl_ => ?_)
  subst hl_
  have hL32 : ∀ n : Nat, ∀ (x1 : Int32) (x2 : Int32) (x3 : Int64) (x5 : Int32) (s : CS), (cw_mean_L32 T q k n) x1 x2 x3 x5 s → K D Γ 0 0 32 [(0, .ref (q 0)), (1, .int x1), (2, .int x2), (3, .long x3), (5, .int x5)] [] (cw T q s) := by
    intro n
    induction n with
    | zero =>
      intro _ _ _ _ _ h
      exact h.elim
    | succ n ih32 =>
      intro x1 x2 x3 x5 s h
      unfold cw_mean_L32 at h
      refine k_iload G dX0_mean_32 rfl ?_
      refine k_aload_n G dX0_mean_34 rfl ?_
      refine kc_this G cf_many_107 dX0_mean_35 rfl ?_
      obtain ⟨hA, hB⟩ := h
      refine k_icmp_ge G 71 dX0_mean_38 (by decide) (fun c38 => ?_) (fun c38 => ?_)
      · have h := hA c38
        clear hA hB
        refine k_lload_n G dX0_mean_71 rfl ?_
        refine k_aload_n G dX0_mean_72 rfl ?_
        refine kc_this G cf_many_107 dX0_mean_73 rfl ?_
        refine k_i2l G dX0_mean_76 ?_
        refine k_iload_n G dX0_mean_77 rfl ?_
        refine k_callPL G (vk_lowest _ D T _ _ _ _ h) gf_lowest q1130 dX0_mean_78 rfl rfl (Nat.le_of_ble_eq_true rfl) (Nat.le_of_ble_eq_true rfl) ⟨Nat.le_of_ble_eq_true rfl, Nat.le_of_ble_eq_true rfl⟩ (fun r78 h => ?_)
        exact k_lret G X dX0_mean_81 (Nat.le_of_ble_eq_true rfl) (Nat.le_of_ble_eq_true rfl) ⟨_, _, rfl, rfl, h⟩
      · have h := hB c38
        clear hA hB
        refine k_lload_n G dX0_mean_41 rfl ?_
        refine k_aload_n G dX0_mean_42 rfl ?_
        refine k_aload_n G dX0_mean_43 rfl ?_
        refine kc_this G cf_now_27 dX0_mean_44 rfl ?_
        refine k_iload G dX0_mean_47 rfl ?_
        refine k_iload_n G dX0_mean_49 rfl ?_
        refine k_aload_n G dX0_mean_50 rfl ?_
        refine kc_this G cf_now_27 dX0_mean_51 rfl ?_
        refine kc_held G (t := 0) (by decide) (Or.inr (List.mem_of_getElem? (i := 0) rfl)) dX0_mean_54 ?_
        refine k_iload_n G dX0_mean_57 rfl ?_
        obtain ⟨h1, h⟩ := h
        refine kc_iald G cI_5 dX0_mean_58 h1 ?_
        refine kc_callI G (vk_takesOf _ D T q _ _ _ _ _ _ h) gf_takesOf q568 dX0_mean_59 rfl rfl (Nat.le_of_ble_eq_true rfl) (Nat.le_of_ble_eq_true rfl) ⟨Nat.le_of_ble_eq_true rfl, Nat.le_of_ble_eq_true rfl⟩ (fun r59 s59 h => ?_)
        refine k_i2l G dX0_mean_62 ?_
        refine k_ladd G dX0_mean_63 ?_
        refine k_nmL (fun x64 e64 => ?_)
        have h := h x64 e64
        refine k_lstore_n G [(3, .long x64), (0, .ref (q 0)), (1, .int x1), (2, .int x2), (5, .int x5)] dX0_mean_64 rfl (Nat.le_of_ble_eq_true rfl) rfl ?_
        obtain ⟨x65, e65⟩ : ∃ y : Int32, y = x5 + 1 := ⟨_, rfl⟩
        have h := h x65 e65
        refine k_iinc G [(5, .int x65), (3, .long x64), (0, .ref (q 0)), (1, .int x1), (2, .int x2)] dX0_mean_65 rfl (v := x65) (by rw [e65, kc_i_1]) (Nat.le_of_ble_eq_true rfl) rfl ?_
        refine k_goto G 32 dX0_mean_68 (by decide) ?_
        refine K.less [2, 3, 4, 1, 0] rfl ?_
        exact ih32 _ _ _ _ _ h
  have hJ23 : ∀ (s : CS), cw_mean_J23 T q k s → K D Γ 0 0 23 [] [] (cw T q s) := by
    intro s h
    unfold cw_mean_J23 at h
    refine k_ldc2 G q1129 dX0_mean_23 ?_
    exact k_lret G X dX0_mean_26 (Nat.le_of_ble_eq_true rfl) (Nat.le_of_ble_eq_true rfl) ⟨_, _, rfl, rfl, h⟩
  refine K.less [0, 1, 2] (lv' := [(0, .ref (q 0)), (1, .int x1), (2, .int x2)]) rfl ?_
  unfold cw_mean at h
  refine k_iload_n G dX0_mean_0 rfl ?_
  refine k_callPI G (vk_isTaste _ D T _ _ h) gf_isTaste q479 dX0_mean_1 rfl rfl (Nat.le_of_ble_eq_true rfl) (Nat.le_of_ble_eq_true rfl) ⟨Nat.le_of_ble_eq_true rfl, Nat.le_of_ble_eq_true rfl⟩ (fun r1 h => ?_)
  obtain ⟨hA, hB⟩ := h
  refine k_if_eq G 23 dX0_mean_4 (by decide) (fun c4 => ?_) (fun c4 => ?_)
  · have h := hA c4
    clear hA hB
    refine K.less [] rfl ?_
    exact hJ23 _ h
  · have h := hB c4
    clear hA hB
    refine k_iload_n G dX0_mean_7 rfl ?_
    refine k_iconst G dX0_mean_8 kc_i_0 ?_
    refine k_iconst G dX0_mean_9 kc_i_1 ?_
    refine k_callPI G (vk_in _ D T _ _ _ _ h) gf_in q368 dX0_mean_10 rfl rfl (Nat.le_of_ble_eq_true rfl) (Nat.le_of_ble_eq_true rfl) ⟨Nat.le_of_ble_eq_true rfl, Nat.le_of_ble_eq_true rfl⟩ (fun r10 h => ?_)
    obtain ⟨hA, hB⟩ := h
    refine k_if_eq G 23 dX0_mean_13 (by decide) (fun c13 => ?_) (fun c13 => ?_)
    · have h := hA c13
      clear hA hB
      refine K.less [] rfl ?_
      exact hJ23 _ h
    · have h := hB c13
      clear hA hB
      refine k_aload_n G dX0_mean_16 rfl ?_
      refine kc_this G cf_many_107 dX0_mean_17 rfl ?_
      obtain ⟨hA, hB⟩ := h
      refine k_if_ne G 27 dX0_mean_20 (by decide) (fun c20 => ?_) (fun c20 => ?_)
      · have h := hA c20
        clear hA hB
        refine k_lconst G dX0_mean_27 kc_l_0 ?_
        refine k_lstore_n G [(3, .long 0), (0, .ref (q 0)), (1, .int x1), (2, .int x2)] dX0_mean_28 rfl (Nat.le_of_ble_eq_true rfl) rfl ?_
        refine k_iconst G dX0_mean_29 kc_i_0 ?_
        refine k_istore G [(5, .int 0), (3, .long 0), (0, .ref (q 0)), (1, .int x1), (2, .int x2)] dX0_mean_30 (Nat.le_of_ble_eq_true rfl) rfl ?_
        obtain ⟨n32, h⟩ := h
        refine K.less [2, 3, 4, 1, 0] rfl ?_
        exact hL32 n32 _ _ _ _ _ h
      · have h := hB c20
        clear hA hB
        refine K.less [] rfl ?_
        exact hJ23 _ h
def cw_book_J28 (T : xT) (q : Nat → Nat) (k : Int32 → CS → Prop) (x1 : Int32) (x2 : Int32) (s : CS) : Prop := (¬ (s.1.1 0 14) = 12 → vp_in (s.1.1 0 14) 12 ∧ ∀ w57 : CS, w57 = (cA s 28 ((s.1.1 0 14) : Int32).toNatClampNeg (vp_nar .byte (x1 : Int32).toInt8.toInt32)) → ∀ x60 : Int32, x60 = (w57.1.1 0 14) → ∀ w67 : CS, w67 = (cA w57 0 14 (x60 + 1)) → vp_in x60 12 ∧ ∀ w69 : CS, w69 = (cA w67 29 (x60 : Int32).toNatClampNeg (vp_nar .boolean x2)) → k ((w69.1.1 0 14)) w69) ∧ ((s.1.1 0 14) = 12 → k (-4) s)
def cw_book (T : xT) (q : Nat → Nat) (s : CS) (x1 : Int32) (x2 : Int32) (k : Int32 → CS → Prop) : Prop := (¬ x1 = (-1) → (x1 = (-2) → cw_book_J28 T q k x1 x2 s) ∧ (¬ x1 = (-2) → cw_isLoaf T q s x1 (fun r20 s20 => (¬ r20 = 0 → cw_book_J28 T q k x1 x2 s20) ∧ (r20 = 0 → k (-1) s20)))) ∧ (x1 = (-1) → k 0 ((cA s 0 14 0)))
set_option maxHeartbeats 4000000 in
theorem vk_book (l : Launch) (D : va_G) (T : xT) (q : Nat → Nat) (s : CS) (x1 : Int32) (x2 : Int32) (k : Int32 → CS → Prop) (h : cw_book T q s x1 x2 k) : XM l D T yX0_book cX0_book 3 (some .int) 5 0 0 [.ref (q 0), .int x1, .int x2] (cw T q s) (cpostI T q k) := by
  refine XM.start (by decide +kernel) (Nat.le_of_ble_eq_true rfl) (fun Γ G X _ hl_ => ?_)
  subst hl_
  have hJ28 : ∀ (x1 : Int32) (x2 : Int32) (s : CS), cw_book_J28 T q k x1 x2 s → K D Γ 0 0 28 [(0, .ref (q 0)), (1, .int x1), (2, .int x2)] [] (cw T q s) := by
    intro x1 x2 s h
    unfold cw_book_J28 at h
    refine k_aload_n G dX0_book_28 rfl ?_
    refine kc_this G cf_bookMany_322 dX0_book_29 rfl ?_
    refine k_bipush G dX0_book_32 kc_b_12 ?_
    obtain ⟨hA, hB⟩ := h
    refine k_icmp_ne G 40 dX0_book_34 (by decide) (fun c34 => ?_) (fun c34 => ?_)
    · have h := hA c34
      clear hA hB
      refine k_aload_n G dX0_book_40 rfl ?_
      refine kc_this G cf_book_59 dX0_book_41 rfl ?_
      refine k_aload_n G dX0_book_44 rfl ?_
      refine kc_this G cf_bookMany_322 dX0_book_45 rfl ?_
      refine k_iload_n G dX0_book_48 rfl ?_
      refine k_i2b G dX0_book_49 ?_
      obtain ⟨h1, h⟩ := h
      refine kc_bast G cI_28 dX0_book_50 h1 ?_
      refine k_aload_n G dX0_book_51 rfl ?_
      refine kc_this G cf_bookSpoiled_62 dX0_book_52 rfl ?_
      refine k_aload_n G dX0_book_55 rfl ?_
      refine k_dup G dX0_book_56 rfl ?_
      refine kc_nmW (fun w57 ew57 => ?_)
      have h := h w57 ew57
      refine kc_this G cf_bookMany_322 dX0_book_57 rfl ?_
      refine k_nmI (fun x60 e60 => ?_)
      have h := h x60 e60
      refine k_dup_x1 G dX0_book_60 rfl rfl ?_
      refine k_iconst G dX0_book_61 kc_i_1 ?_
      refine k_iadd G dX0_book_62 ?_
      refine kc_put G cp_bookMany_322 dX0_book_63 ?_
      refine k_iload_n G dX0_book_66 rfl ?_
      refine kc_nmW (fun w67 ew67 => ?_)
      have h := h w67 ew67
      obtain ⟨h1, h⟩ := h
      refine kc_zast G cI_29 dX0_book_67 h1 ?_
      refine k_aload_n G dX0_book_68 rfl ?_
      refine kc_nmW (fun w69 ew69 => ?_)
      have h := h w69 ew69
      refine kc_this G cf_bookMany_322 dX0_book_69 rfl ?_
      exact k_iret G X dX0_book_72 (Nat.le_of_ble_eq_true rfl) (Nat.le_of_ble_eq_true rfl) ⟨_, _, rfl, rfl, h⟩
    · have h := hB c34
      clear hA hB
      refine k_bipush G dX0_book_37 kc_b_m4 ?_
      exact k_iret G X dX0_book_39 (Nat.le_of_ble_eq_true rfl) (Nat.le_of_ble_eq_true rfl) ⟨_, _, rfl, rfl, h⟩
  refine K.less [0, 1, 2] (lv' := [(0, .ref (q 0)), (1, .int x1), (2, .int x2)]) rfl ?_
  unfold cw_book at h
  refine k_iload_n G dX0_book_0 rfl ?_
  refine k_iconst G dX0_book_1 kc_i_m1 ?_
  obtain ⟨hA, hB⟩ := h
  refine k_icmp_ne G 12 dX0_book_2 (by decide) (fun c2 => ?_) (fun c2 => ?_)
  · have h := hA c2
    clear hA hB
    refine k_iload_n G dX0_book_12 rfl ?_
    refine k_bipush G dX0_book_13 kc_b_m2 ?_
    obtain ⟨hA, hB⟩ := h
    refine k_icmp_eq G 28 dX0_book_15 (by decide) (fun c15 => ?_) (fun c15 => ?_)
    · have h := hA c15
      clear hA hB
      exact hJ28 _ _ _ h
    · have h := hB c15
      clear hA hB
      refine k_aload_n G dX0_book_18 rfl ?_
      refine k_iload_n G dX0_book_19 rfl ?_
      refine kc_callI G (vk_isLoaf _ D T q _ _ _ h) gf_isLoaf q475 dX0_book_20 rfl rfl (Nat.le_of_ble_eq_true rfl) (Nat.le_of_ble_eq_true rfl) ⟨Nat.le_of_ble_eq_true rfl, Nat.le_of_ble_eq_true rfl⟩ (fun r20 s20 h => ?_)
      obtain ⟨hA, hB⟩ := h
      refine k_if_ne G 28 dX0_book_23 (by decide) (fun c23 => ?_) (fun c23 => ?_)
      · have h := hA c23
        clear hA hB
        exact hJ28 _ _ _ h
      · have h := hB c23
        clear hA hB
        refine k_iconst G dX0_book_26 kc_i_m1 ?_
        exact k_iret G X dX0_book_27 (Nat.le_of_ble_eq_true rfl) (Nat.le_of_ble_eq_true rfl) ⟨_, _, rfl, rfl, h⟩
  · have h := hB c2
    clear hA hB
    refine k_aload_n G dX0_book_5 rfl ?_
    refine k_iconst G dX0_book_6 kc_i_0 ?_
    refine kc_put G cp_bookMany_322 dX0_book_7 ?_
    refine k_iconst G dX0_book_10 kc_i_0 ?_
    exact k_iret G X dX0_book_11 (Nat.le_of_ble_eq_true rfl) (Nat.le_of_ble_eq_true rfl) ⟨_, _, rfl, rfl, h⟩
def cw_isSpoiledNext (T : xT) (q : Nat → Nat) (s : CS) (x1 : Int32) (k : Int32 → CS → Prop) : Prop := (x1 = (-2) → cw_cools T q s 1 (fun s21 => k 0 s21)) ∧ (¬ x1 = (-2) → cw_goes T q s 1 x1 (fun r12 s12 => (r12 = 0 ∨ r12 = 1) ∧ k r12 s12))
set_option maxHeartbeats 4000000 in
theorem vk_isSpoiledNext (l : Launch) (D : va_G) (T : xT) (q : Nat → Nat) (s : CS) (x1 : Int32) (k : Int32 → CS → Prop) (h : cw_isSpoiledNext T q s x1 k) : XM l D T yX0_isSpoiledNext cX0_isSpoiledNext 2 (some .boolean) 65 0 0 [.ref (q 0), .int x1] (cw T q s) (cpostI T q k) := by
  refine XM.start (by decide +kernel) (Nat.le_of_ble_eq_true rfl) (fun Γ G X _ hl_ => ?_)
  subst hl_
  refine K.less [0, 1] (lv' := [(0, .ref (q 0)), (1, .int x1)]) rfl ?_
  unfold cw_isSpoiledNext at h
  refine k_iload_n G dX0_isSpoiledNext_0 rfl ?_
  refine k_bipush G dX0_isSpoiledNext_1 kc_b_m2 ?_
  obtain ⟨hA, hB⟩ := h
  refine k_icmp_eq G 16 dX0_isSpoiledNext_3 (by decide) (fun c3 => ?_) (fun c3 => ?_)
  · have h := hA c3
    clear hA hB
    refine k_aload_n G dX0_isSpoiledNext_16 rfl ?_
    refine k_aload_n G dX0_isSpoiledNext_17 rfl ?_
    refine kc_this G cf_tried_31 dX0_isSpoiledNext_18 rfl ?_
    refine kc_callV G (vk_cools _ D T q _ _ _ h) gf_cools q1011 dX0_isSpoiledNext_21 rfl rfl (Nat.le_of_ble_eq_true rfl) (Nat.le_of_ble_eq_true rfl) ⟨Nat.le_of_ble_eq_true rfl, Nat.le_of_ble_eq_true rfl⟩ (fun s21 h => ?_)
    refine k_iconst G dX0_isSpoiledNext_24 kc_i_0 ?_
    exact k_zret G X (Or.inl rfl) dX0_isSpoiledNext_25 (Nat.le_of_ble_eq_true rfl) (Nat.le_of_ble_eq_true rfl) ⟨_, _, rfl, rfl, h⟩
  · have h := hB c3
    clear hA hB
    refine k_aload_n G dX0_isSpoiledNext_6 rfl ?_
    refine k_aload_n G dX0_isSpoiledNext_7 rfl ?_
    refine kc_this G cf_tried_31 dX0_isSpoiledNext_8 rfl ?_
    refine k_iload_n G dX0_isSpoiledNext_11 rfl ?_
    refine kc_callI G (vk_goes _ D T q _ _ _ _ h) gf_goes q1003 dX0_isSpoiledNext_12 rfl rfl (Nat.le_of_ble_eq_true rfl) (Nat.le_of_ble_eq_true rfl) ⟨Nat.le_of_ble_eq_true rfl, Nat.le_of_ble_eq_true rfl⟩ (fun r12 s12 h => ?_)
    obtain ⟨hz, h⟩ := h
    exact k_zret G X hz dX0_isSpoiledNext_15 (Nat.le_of_ble_eq_true rfl) (Nat.le_of_ble_eq_true rfl) ⟨_, _, rfl, rfl, h⟩
def cw_looked_L13 (T : xT) (q : Nat → Nat) (k : Int32 → CS → Prop) : Nat → Int32 → CS → Prop
  | 0, _, _ => False
  | n + 1, x1, s => ((s.1.1 0 14) ≤ x1 → k (-5) s) ∧ (¬ (s.1.1 0 14) ≤ x1 → vp_in x1 12 ∧ cw_isSpoiledNext T q s ((s.1.1 28 (x1 : Int32).toNatClampNeg)) (fun r28 s28 => vp_in x1 12 ∧ (r28 = (s28.1.1 29 (x1 : Int32).toNatClampNeg) → ∀ x42 : Int32, x42 = x1 + 1 → cw_looked_L13 T q k n x42 s28) ∧ (¬ r28 = (s28.1.1 29 (x1 : Int32).toNatClampNeg) → k x1 s28)))
def cw_looked (T : xT) (q : Nat → Nat) (s : CS) (k : Int32 → CS → Prop) : Prop := ∃ n13 : Nat, cw_looked_L13 T q k n13 0 ((cTk s 1 0))
set_option maxHeartbeats 4000000 in
theorem vk_looked (l : Launch) (D : va_G) (T : xT) (q : Nat → Nat) (s : CS) (k : Int32 → CS → Prop) (h : cw_looked T q s k) : XM l D T yX0_looked cX0_looked 2 (some .int) 67 0 0 [.ref (q 0)] (cw T q s) (cpostI T q k) := by
  refine XM.start (by decide +kernel) (Nat.le_of_ble_eq_true rfl) (fun Γ G X _ hl_ => ?_)
  subst hl_
  have hL13 : ∀ n : Nat, ∀ (x1 : Int32) (s : CS), (cw_looked_L13 T q k n) x1 s → K D Γ 0 0 13 [(0, .ref (q 0)), (1, .int x1)] [] (cw T q s) := by
    intro n
    induction n with
    | zero =>
      intro _ _ h
      exact h.elim
    | succ n ih13 =>
      intro x1 s h
      unfold cw_looked_L13 at h
      refine k_iload_n G dX0_looked_13 rfl ?_
      refine k_aload_n G dX0_looked_14 rfl ?_
      refine kc_this G cf_bookMany_322 dX0_looked_15 rfl ?_
      obtain ⟨hA, hB⟩ := h
      refine k_icmp_ge G 48 dX0_looked_18 (by decide) (fun c18 => ?_) (fun c18 => ?_)
      · have h := hA c18
        clear hA hB
        refine k_bipush G dX0_looked_48 kc_b_m5 ?_
        exact k_iret G X dX0_looked_50 (Nat.le_of_ble_eq_true rfl) (Nat.le_of_ble_eq_true rfl) ⟨_, _, rfl, rfl, h⟩
      · have h := hB c18
        clear hA hB
        refine k_aload_n G dX0_looked_21 rfl ?_
        refine k_aload_n G dX0_looked_22 rfl ?_
        refine kc_this G cf_book_59 dX0_looked_23 rfl ?_
        refine k_iload_n G dX0_looked_26 rfl ?_
        obtain ⟨h1, h⟩ := h
        refine kc_bald G cI_28 dX0_looked_27 h1 ?_
        refine kc_callI G (vk_isSpoiledNext _ D T q _ _ _ h) gf_isSpoiledNext q1148 dX0_looked_28 rfl rfl (Nat.le_of_ble_eq_true rfl) (Nat.le_of_ble_eq_true rfl) ⟨Nat.le_of_ble_eq_true rfl, Nat.le_of_ble_eq_true rfl⟩ (fun r28 s28 h => ?_)
        refine k_aload_n G dX0_looked_31 rfl ?_
        refine kc_this G cf_bookSpoiled_62 dX0_looked_32 rfl ?_
        refine k_iload_n G dX0_looked_35 rfl ?_
        obtain ⟨h1, h⟩ := h
        refine kc_zald G cI_29 dX0_looked_36 h1 ?_
        obtain ⟨hA, hB⟩ := h
        refine k_icmp_eq G 42 dX0_looked_37 (by decide) (fun c37 => ?_) (fun c37 => ?_)
        · have h := hA c37
          clear hA hB
          obtain ⟨x42, e42⟩ : ∃ y : Int32, y = x1 + 1 := ⟨_, rfl⟩
          have h := h x42 e42
          refine k_iinc G [(1, .int x42), (0, .ref (q 0))] dX0_looked_42 rfl (v := x42) (by rw [e42, kc_i_1]) (Nat.le_of_ble_eq_true rfl) rfl ?_
          refine k_goto G 13 dX0_looked_45 (by decide) ?_
          refine K.less [1, 0] rfl ?_
          exact ih13 _ _ h
        · have h := hB c37
          clear hA hB
          refine k_iload_n G dX0_looked_40 rfl ?_
          exact k_iret G X dX0_looked_41 (Nat.le_of_ble_eq_true rfl) (Nat.le_of_ble_eq_true rfl) ⟨_, _, rfl, rfl, h⟩
  refine K.less [0] (lv' := [(0, .ref (q 0))]) rfl ?_
  unfold cw_looked at h
  refine k_aload_n G dX0_looked_0 rfl ?_
  refine kc_this G cf_tried_31 dX0_looked_1 rfl ?_
  refine k_aload_n G dX0_looked_4 rfl ?_
  refine kc_this G cf_now_27 dX0_looked_5 rfl ?_
  refine kl_takes G (a := 1) (b := 0) (by decide) (by decide) q1019 dX0_looked_8 (Nat.le_of_ble_eq_true rfl) (Nat.le_of_ble_eq_true rfl) ⟨Nat.le_of_ble_eq_true rfl, Nat.le_of_ble_eq_true rfl⟩ ?_
  refine k_iconst G dX0_looked_11 kc_i_0 ?_
  refine k_istore_n G [(1, .int 0), (0, .ref (q 0))] dX0_looked_12 rfl (Nat.le_of_ble_eq_true rfl) rfl ?_
  obtain ⟨n13, h⟩ := h
  refine K.less [1, 0] rfl ?_
  exact hL13 n13 _ _ h
def cw_image (T : xT) (q : Nat → Nat) (s : CS) (k : Int32 → CS → Prop) : Prop := ∀ w23 : CS, w23 = (cTk s 9 0) → (∀ i : Nat, i < (6 : Int32).toNatClampNeg → ∀ a : Nat, w23.1.2 1 ((0 : Int32).toNatClampNeg + i) = some a → ∃ kd ln lvv, lofR q w23 a kd ln lvv) ∧ ∀ w38 : CS, w38 = (cQ w23 42 (va_cpy (w23.1.2 1) (w23.1.2 42) (0 : Int32).toNatClampNeg (0 : Int32).toNatClampNeg (6 : Int32).toNatClampNeg)) → ∀ w53 : CS, w53 = (cC w38 43 (va_cpy (w38.1.1 2) (w38.1.1 43) (0 : Int32).toNatClampNeg (0 : Int32).toNatClampNeg (24 : Int32).toNatClampNeg)) → ∀ w68 : CS, w68 = (cC w53 44 (va_cpy (w53.1.1 3) (w53.1.1 44) (0 : Int32).toNatClampNeg (0 : Int32).toNatClampNeg (24 : Int32).toNatClampNeg)) → (∀ i : Nat, i < (12 : Int32).toNatClampNeg → fits .byte (.int (w68.1.1 28 ((0 : Int32).toNatClampNeg + i))) = true) ∧ ∀ w83 : CS, w83 = (cC w68 45 (va_cpy (w68.1.1 28) (w68.1.1 45) (0 : Int32).toNatClampNeg (0 : Int32).toNatClampNeg (12 : Int32).toNatClampNeg)) → (∀ i : Nat, i < (12 : Int32).toNatClampNeg → fits .boolean (.int (w83.1.1 29 ((0 : Int32).toNatClampNeg + i))) = true) ∧ ∀ w88 : CS, w88 = (cC w83 46 (va_cpy (w83.1.1 29) (w83.1.1 46) (0 : Int32).toNatClampNeg (0 : Int32).toNatClampNeg (12 : Int32).toNatClampNeg)) → ∀ w96 : CS, w96 = (cA w88 0 28 (w88.1.1 0 3)) → ∀ w104 : CS, w104 = (cA w96 0 29 (w96.1.1 0 14)) → ∀ w111 : CS, w111 = (cR w104 0 30 (w104.1.2 0 9)) → k ((w111.1.1 0 3)) w111
set_option maxHeartbeats 4000000 in
theorem vk_image (l : Launch) (D : va_G) (T : xT) (q : Nat → Nat) (s : CS) (k : Int32 → CS → Prop) (h : cw_image T q s k) : XM l D T yX0_image cX0_image 1 (some .int) 5 0 0 [.ref (q 0)] (cw T q s) (cpostI T q k) := by
  refine XM.start (by decide +kernel) (Nat.le_of_ble_eq_true rfl) (fun Γ G X _ hl_ => ?_)
  subst hl_
  refine K.less [0] (lv' := [(0, .ref (q 0))]) rfl ?_
  unfold cw_image at h
  refine k_aload_n G dX0_image_0 rfl ?_
  refine kc_this G cf_imageNow_88 dX0_image_1 rfl ?_
  refine k_aload_n G dX0_image_4 rfl ?_
  refine kc_this G cf_now_27 dX0_image_5 rfl ?_
  refine kl_takes G (a := 9) (b := 0) (by decide) (by decide) q1019 dX0_image_8 (Nat.le_of_ble_eq_true rfl) (Nat.le_of_ble_eq_true rfl) ⟨Nat.le_of_ble_eq_true rfl, Nat.le_of_ble_eq_true rfl⟩ ?_
  refine k_aload_n G dX0_image_11 rfl ?_
  refine kc_this G cf_loaves_13 dX0_image_12 rfl ?_
  refine k_iconst G dX0_image_15 kc_i_0 ?_
  refine k_aload_n G dX0_image_16 rfl ?_
  refine kc_this G cf_imageLoaves_91 dX0_image_17 rfl ?_
  refine k_iconst G dX0_image_20 kc_i_0 ?_
  refine k_bipush G dX0_image_21 kc_b_6 ?_
  refine kc_nmW (fun w23 ew23 => ?_)
  have h := h w23 ew23
  obtain ⟨h1, h⟩ := h
  refine kc_copyL G cJ_1 cJ_42 q1215 dX0_image_23 (by decide +kernel) h1 (Nat.le_of_ble_eq_true rfl) (Nat.le_of_ble_eq_true rfl) ?_
  refine k_aload_n G dX0_image_26 rfl ?_
  refine kc_this G cf_gives_17 dX0_image_27 rfl ?_
  refine k_iconst G dX0_image_30 kc_i_0 ?_
  refine k_aload_n G dX0_image_31 rfl ?_
  refine kc_this G cf_imageGives_94 dX0_image_32 rfl ?_
  refine k_iconst G dX0_image_35 kc_i_0 ?_
  refine k_bipush G dX0_image_36 kc_b_24 ?_
  refine kc_nmW (fun w38 ew38 => ?_)
  have h := h w38 ew38
  refine kc_copyI G (ty := .int) cI_2 cI_43 rfl rfl q1215 dX0_image_38 (by decide +kernel) (fun _ _ => rfl) (Nat.le_of_ble_eq_true rfl) (Nat.le_of_ble_eq_true rfl) ?_
  refine k_aload_n G dX0_image_41 rfl ?_
  refine kc_this G cf_bears_21 dX0_image_42 rfl ?_
  refine k_iconst G dX0_image_45 kc_i_0 ?_
  refine k_aload_n G dX0_image_46 rfl ?_
  refine kc_this G cf_imageBears_97 dX0_image_47 rfl ?_
  refine k_iconst G dX0_image_50 kc_i_0 ?_
  refine k_bipush G dX0_image_51 kc_b_24 ?_
  refine kc_nmW (fun w53 ew53 => ?_)
  have h := h w53 ew53
  refine kc_copyI G (ty := .int) cI_3 cI_44 rfl rfl q1215 dX0_image_53 (by decide +kernel) (fun _ _ => rfl) (Nat.le_of_ble_eq_true rfl) (Nat.le_of_ble_eq_true rfl) ?_
  refine k_aload_n G dX0_image_56 rfl ?_
  refine kc_this G cf_book_59 dX0_image_57 rfl ?_
  refine k_iconst G dX0_image_60 kc_i_0 ?_
  refine k_aload_n G dX0_image_61 rfl ?_
  refine kc_this G cf_imageBook_100 dX0_image_62 rfl ?_
  refine k_iconst G dX0_image_65 kc_i_0 ?_
  refine k_bipush G dX0_image_66 kc_b_12 ?_
  refine kc_nmW (fun w68 ew68 => ?_)
  have h := h w68 ew68
  obtain ⟨h1, h⟩ := h
  refine kc_copyI G (ty := .byte) cI_28 cI_45 rfl rfl q1215 dX0_image_68 (by decide +kernel) h1 (Nat.le_of_ble_eq_true rfl) (Nat.le_of_ble_eq_true rfl) ?_
  refine k_aload_n G dX0_image_71 rfl ?_
  refine kc_this G cf_bookSpoiled_62 dX0_image_72 rfl ?_
  refine k_iconst G dX0_image_75 kc_i_0 ?_
  refine k_aload_n G dX0_image_76 rfl ?_
  refine kc_this G cf_imageSpoiled_103 dX0_image_77 rfl ?_
  refine k_iconst G dX0_image_80 kc_i_0 ?_
  refine k_bipush G dX0_image_81 kc_b_12 ?_
  refine kc_nmW (fun w83 ew83 => ?_)
  have h := h w83 ew83
  obtain ⟨h1, h⟩ := h
  refine kc_copyI G (ty := .boolean) cI_29 cI_46 rfl rfl q1215 dX0_image_83 (by decide +kernel) h1 (Nat.le_of_ble_eq_true rfl) (Nat.le_of_ble_eq_true rfl) ?_
  refine k_aload_n G dX0_image_86 rfl ?_
  refine k_aload_n G dX0_image_87 rfl ?_
  refine kc_nmW (fun w88 ew88 => ?_)
  have h := h w88 ew88
  refine kc_this G cf_many_107 dX0_image_88 rfl ?_
  refine kc_put G cp_imageMany_353 dX0_image_91 ?_
  refine k_aload_n G dX0_image_94 rfl ?_
  refine k_aload_n G dX0_image_95 rfl ?_
  refine kc_nmW (fun w96 ew96 => ?_)
  have h := h w96 ew96
  refine kc_this G cf_bookMany_322 dX0_image_96 rfl ?_
  refine kc_put G cp_imageBooked_356 dX0_image_99 ?_
  refine k_aload_n G dX0_image_102 rfl ?_
  refine k_aload_n G dX0_image_103 rfl ?_
  refine kc_nmW (fun w104 ew104 => ?_)
  have h := h w104 ew104
  refine kc_this G cf_kiln_41 dX0_image_104 rfl ?_
  refine kc_putR G cp_imageKiln_359 dX0_image_107 ?_
  refine k_aload_n G dX0_image_110 rfl ?_
  refine kc_nmW (fun w111 ew111 => ?_)
  have h := h w111 ew111
  refine kc_this G cf_many_107 dX0_image_111 rfl ?_
  exact k_iret G X dX0_image_114 (Nat.le_of_ble_eq_true rfl) (Nat.le_of_ble_eq_true rfl) ⟨_, _, rfl, rfl, h⟩
def cw_undo (T : xT) (q : Nat → Nat) (s : CS) (k : Int32 → CS → Prop) : Prop := ((s.1.2 0 30) = none → k (-3) s) ∧ (∀ a4 : Nat, (s.1.2 0 30) = some a4 → ∀ w33 : CS, w33 = (cTk s 0 9) → (∀ i : Nat, i < (6 : Int32).toNatClampNeg → ∀ a : Nat, w33.1.2 42 ((0 : Int32).toNatClampNeg + i) = some a → ∃ kd ln lvv, lofR q w33 a kd ln lvv) ∧ ∀ w48 : CS, w48 = (cQ w33 1 (va_cpy (w33.1.2 42) (w33.1.2 1) (0 : Int32).toNatClampNeg (0 : Int32).toNatClampNeg (6 : Int32).toNatClampNeg)) → ∀ w63 : CS, w63 = (cC w48 2 (va_cpy (w48.1.1 43) (w48.1.1 2) (0 : Int32).toNatClampNeg (0 : Int32).toNatClampNeg (24 : Int32).toNatClampNeg)) → ∀ w78 : CS, w78 = (cC w63 3 (va_cpy (w63.1.1 44) (w63.1.1 3) (0 : Int32).toNatClampNeg (0 : Int32).toNatClampNeg (24 : Int32).toNatClampNeg)) → (∀ i : Nat, i < (12 : Int32).toNatClampNeg → fits .byte (.int (w78.1.1 45 ((0 : Int32).toNatClampNeg + i))) = true) ∧ ∀ w93 : CS, w93 = (cC w78 28 (va_cpy (w78.1.1 45) (w78.1.1 28) (0 : Int32).toNatClampNeg (0 : Int32).toNatClampNeg (12 : Int32).toNatClampNeg)) → (∀ i : Nat, i < (12 : Int32).toNatClampNeg → fits .boolean (.int (w93.1.1 46 ((0 : Int32).toNatClampNeg + i))) = true) ∧ ∀ w98 : CS, w98 = (cC w93 29 (va_cpy (w93.1.1 46) (w93.1.1 29) (0 : Int32).toNatClampNeg (0 : Int32).toNatClampNeg (12 : Int32).toNatClampNeg)) → ∀ w106 : CS, w106 = (cA w98 0 3 (w98.1.1 0 28)) → ∀ w114 : CS, w114 = (cA w106 0 14 (w106.1.1 0 29)) → ∀ w121 : CS, w121 = (cR w114 0 9 (w114.1.2 0 30)) → k ((w121.1.1 0 3)) w121)
set_option maxHeartbeats 4000000 in
theorem vk_undo (l : Launch) (D : va_G) (T : xT) (q : Nat → Nat) (s : CS) (k : Int32 → CS → Prop) (h : cw_undo T q s k) : XM l D T yX0_undo cX0_undo 1 (some .int) 5 0 0 [.ref (q 0)] (cw T q s) (cpostI T q k) := by
  refine XM.start (by decide +kernel) (Nat.le_of_ble_eq_true rfl) (fun Γ G X _ hl_ => ?_)
  subst hl_
  refine K.less [0] (lv' := [(0, .ref (q 0))]) rfl ?_
  unfold cw_undo at h
  refine k_aload_n G dX0_undo_0 rfl ?_
  refine kc_this G cf_imageKiln_359 dX0_undo_1 rfl ?_
  obtain ⟨hA, hB⟩ := h
  refine k_rnonnull G 10 dX0_undo_4 (by decide) (fun c4 => ?_) (fun a4 c4 => ?_)
  · have h := hA c4
    clear hA hB
    refine k_bipush G dX0_undo_7 kc_b_m3 ?_
    exact k_iret G X dX0_undo_9 (Nat.le_of_ble_eq_true rfl) (Nat.le_of_ble_eq_true rfl) ⟨_, _, rfl, rfl, h⟩
  · have h := hB a4 c4
    clear hA hB
    refine k_aload_n G dX0_undo_10 rfl ?_
    refine kc_this G cf_now_27 dX0_undo_11 rfl ?_
    refine k_aload_n G dX0_undo_14 rfl ?_
    refine kc_this G cf_imageNow_88 dX0_undo_15 rfl ?_
    refine kl_takes G (a := 0) (b := 9) (by decide) (by decide) q1019 dX0_undo_18 (Nat.le_of_ble_eq_true rfl) (Nat.le_of_ble_eq_true rfl) ⟨Nat.le_of_ble_eq_true rfl, Nat.le_of_ble_eq_true rfl⟩ ?_
    refine k_aload_n G dX0_undo_21 rfl ?_
    refine kc_this G cf_imageLoaves_91 dX0_undo_22 rfl ?_
    refine k_iconst G dX0_undo_25 kc_i_0 ?_
    refine k_aload_n G dX0_undo_26 rfl ?_
    refine kc_this G cf_loaves_13 dX0_undo_27 rfl ?_
    refine k_iconst G dX0_undo_30 kc_i_0 ?_
    refine k_bipush G dX0_undo_31 kc_b_6 ?_
    refine kc_nmW (fun w33 ew33 => ?_)
    have h := h w33 ew33
    obtain ⟨h1, h⟩ := h
    refine kc_copyL G cJ_42 cJ_1 q1215 dX0_undo_33 (by decide +kernel) h1 (Nat.le_of_ble_eq_true rfl) (Nat.le_of_ble_eq_true rfl) ?_
    refine k_aload_n G dX0_undo_36 rfl ?_
    refine kc_this G cf_imageGives_94 dX0_undo_37 rfl ?_
    refine k_iconst G dX0_undo_40 kc_i_0 ?_
    refine k_aload_n G dX0_undo_41 rfl ?_
    refine kc_this G cf_gives_17 dX0_undo_42 rfl ?_
    refine k_iconst G dX0_undo_45 kc_i_0 ?_
    refine k_bipush G dX0_undo_46 kc_b_24 ?_
    refine kc_nmW (fun w48 ew48 => ?_)
    have h := h w48 ew48
    refine kc_copyI G (ty := .int) cI_43 cI_2 rfl rfl q1215 dX0_undo_48 (by decide +kernel) (fun _ _ => rfl) (Nat.le_of_ble_eq_true rfl) (Nat.le_of_ble_eq_true rfl) ?_
    refine k_aload_n G dX0_undo_51 rfl ?_
    refine kc_this G cf_imageBears_97 dX0_undo_52 rfl ?_
    refine k_iconst G dX0_undo_55 kc_i_0 ?_
    refine k_aload_n G dX0_undo_56 rfl ?_
    refine kc_this G cf_bears_21 dX0_undo_57 rfl ?_
    refine k_iconst G dX0_undo_60 kc_i_0 ?_
    refine k_bipush G dX0_undo_61 kc_b_24 ?_
    refine kc_nmW (fun w63 ew63 => ?_)
    have h := h w63 ew63
    refine kc_copyI G (ty := .int) cI_44 cI_3 rfl rfl q1215 dX0_undo_63 (by decide +kernel) (fun _ _ => rfl) (Nat.le_of_ble_eq_true rfl) (Nat.le_of_ble_eq_true rfl) ?_
    refine k_aload_n G dX0_undo_66 rfl ?_
    refine kc_this G cf_imageBook_100 dX0_undo_67 rfl ?_
    refine k_iconst G dX0_undo_70 kc_i_0 ?_
    refine k_aload_n G dX0_undo_71 rfl ?_
    refine kc_this G cf_book_59 dX0_undo_72 rfl ?_
    refine k_iconst G dX0_undo_75 kc_i_0 ?_
    refine k_bipush G dX0_undo_76 kc_b_12 ?_
    refine kc_nmW (fun w78 ew78 => ?_)
    have h := h w78 ew78
    obtain ⟨h1, h⟩ := h
    refine kc_copyI G (ty := .byte) cI_45 cI_28 rfl rfl q1215 dX0_undo_78 (by decide +kernel) h1 (Nat.le_of_ble_eq_true rfl) (Nat.le_of_ble_eq_true rfl) ?_
    refine k_aload_n G dX0_undo_81 rfl ?_
    refine kc_this G cf_imageSpoiled_103 dX0_undo_82 rfl ?_
    refine k_iconst G dX0_undo_85 kc_i_0 ?_
    refine k_aload_n G dX0_undo_86 rfl ?_
    refine kc_this G cf_bookSpoiled_62 dX0_undo_87 rfl ?_
    refine k_iconst G dX0_undo_90 kc_i_0 ?_
    refine k_bipush G dX0_undo_91 kc_b_12 ?_
    refine kc_nmW (fun w93 ew93 => ?_)
    have h := h w93 ew93
    obtain ⟨h1, h⟩ := h
    refine kc_copyI G (ty := .boolean) cI_46 cI_29 rfl rfl q1215 dX0_undo_93 (by decide +kernel) h1 (Nat.le_of_ble_eq_true rfl) (Nat.le_of_ble_eq_true rfl) ?_
    refine k_aload_n G dX0_undo_96 rfl ?_
    refine k_aload_n G dX0_undo_97 rfl ?_
    refine kc_nmW (fun w98 ew98 => ?_)
    have h := h w98 ew98
    refine kc_this G cf_imageMany_353 dX0_undo_98 rfl ?_
    refine kc_put G cp_many_107 dX0_undo_101 ?_
    refine k_aload_n G dX0_undo_104 rfl ?_
    refine k_aload_n G dX0_undo_105 rfl ?_
    refine kc_nmW (fun w106 ew106 => ?_)
    have h := h w106 ew106
    refine kc_this G cf_imageBooked_356 dX0_undo_106 rfl ?_
    refine kc_put G cp_bookMany_322 dX0_undo_109 ?_
    refine k_aload_n G dX0_undo_112 rfl ?_
    refine k_aload_n G dX0_undo_113 rfl ?_
    refine kc_nmW (fun w114 ew114 => ?_)
    have h := h w114 ew114
    refine kc_this G cf_imageKiln_359 dX0_undo_114 rfl ?_
    refine kc_putR G cp_kiln_41 dX0_undo_117 ?_
    refine k_aload_n G dX0_undo_120 rfl ?_
    refine kc_nmW (fun w121 ew121 => ?_)
    have h := h w121 ew121
    refine kc_this G cf_many_107 dX0_undo_121 rfl ?_
    exact k_iret G X dX0_undo_124 (Nat.le_of_ble_eq_true rfl) (Nat.le_of_ble_eq_true rfl) ⟨_, _, rfl, rfl, h⟩
def cw_act (T : xT) (q : Nat → Nat) (s : CS) (x1 : Int32) (x2 : Int32) (x3 : Int32) (k : Int32 → CS → Prop) : Prop := ∀ w10 : CS, w10 = (cA s 26 1 0) → cw_isLoaf T q w10 x1 (fun r10 s10 => (r10 = 0 → k 0 s10) ∧ (¬ r10 = 0 → qw_in x2 0 2 (fun r19 => (¬ r19 = 0 → vp_in x1 6 ∧ ∃ a32 : Nat, s10.1.2 1 (x1 : Int32).toNatClampNeg = some a32 ∧ (¬ x2 = 0 → (¬ x2 = 1 → ∃ (kd65 : Nat) (n65 v65 : Int32), lofR q s10 a32 kd65 n65 v65 ∧ lw_tells T q kd65 a32 n65 v65 s10 x3 (fun r65 s65 => k r65 s65)) ∧ (x2 = 1 → ∃ (kd56 : Nat) (n56 v56 : Int32), lofR q s10 a32 kd56 n56 v56 ∧ lw_bakes T q kd56 a32 n56 v56 s10 x3 (fun r56 s56 => k r56 s56))) ∧ (x2 = 0 → ∃ (kd42 : Nat) (n42 v42 : Int32), lofR q s10 a32 kd42 n42 v42 ∧ lw_rises T q kd42 a32 n42 v42 s10 x3 (fun r42 s42 => k r42 s42))) ∧ (r19 = 0 → k 0 s10))))
set_option maxHeartbeats 4000000 in
theorem vk_act (l : Launch) (D : va_G) (T : xT) (q : Nat → Nat) (s : CS) (x1 : Int32) (x2 : Int32) (x3 : Int32) (k : Int32 → CS → Prop) (h : cw_act T q s x1 x2 x3 k) : XM l D T yX0_act cX0_act 5 (some .int) 17 0 0 [.ref (q 0), .int x1, .int x2, .int x3] (cw T q s) (cpostI T q k) := by
  refine XM.start (by decide +kernel) (Nat.le_of_ble_eq_true rfl) (fun Γ G X _ hl_ => ?_)
  subst hl_
  refine K.less [0, 1, 2, 3] (lv' := [(0, .ref (q 0)), (1, .int x1), (2, .int x2), (3, .int x3)]) rfl ?_
  unfold cw_act at h
  refine k_aload_n G dX0_act_0 rfl ?_
  refine kc_this G cf_trace_55 dX0_act_1 rfl ?_
  refine k_iconst G dX0_act_4 kc_i_0 ?_
  refine kc_putCount G (Or.inr (List.mem_of_getElem? (i := 15) rfl)) dX0_act_5 ?_
  refine k_aload_n G dX0_act_8 rfl ?_
  refine k_iload_n G dX0_act_9 rfl ?_
  refine kc_nmW (fun w10 ew10 => ?_)
  have h := h w10 ew10
  refine kc_callI G (vk_isLoaf _ D T q _ _ _ h) gf_isLoaf q475 dX0_act_10 rfl rfl (Nat.le_of_ble_eq_true rfl) (Nat.le_of_ble_eq_true rfl) ⟨Nat.le_of_ble_eq_true rfl, Nat.le_of_ble_eq_true rfl⟩ (fun r10 s10 h => ?_)
  obtain ⟨hA, hB⟩ := h
  refine k_if_eq G 25 dX0_act_13 (by decide) (fun c13 => ?_) (fun c13 => ?_)
  · have h := hA c13
    clear hA hB
    refine k_iconst G dX0_act_25 kc_i_0 ?_
    exact k_iret G X dX0_act_26 (Nat.le_of_ble_eq_true rfl) (Nat.le_of_ble_eq_true rfl) ⟨_, _, rfl, rfl, h⟩
  · have h := hB c13
    clear hA hB
    refine k_iload_n G dX0_act_16 rfl ?_
    refine k_iconst G dX0_act_17 kc_i_0 ?_
    refine k_iconst G dX0_act_18 kc_i_2 ?_
    refine k_callPI G (vk_in _ D T _ _ _ _ h) gf_in q368 dX0_act_19 rfl rfl (Nat.le_of_ble_eq_true rfl) (Nat.le_of_ble_eq_true rfl) ⟨Nat.le_of_ble_eq_true rfl, Nat.le_of_ble_eq_true rfl⟩ (fun r19 h => ?_)
    obtain ⟨hA, hB⟩ := h
    refine k_if_ne G 27 dX0_act_22 (by decide) (fun c22 => ?_) (fun c22 => ?_)
    · have h := hA c22
      clear hA hB
      refine k_aload_n G dX0_act_27 rfl ?_
      refine kc_this G cf_loaves_13 dX0_act_28 rfl ?_
      refine k_iload_n G dX0_act_31 rfl ?_
      obtain ⟨h1, h⟩ := h
      obtain ⟨a32, ha, h⟩ := h
      refine kc_aaldL G cJ_1 dX0_act_32 h1 ha ?_
      refine k_astore G [(4, .ref a32), (0, .ref (q 0)), (1, .int x1), (2, .int x2), (3, .int x3)] dX0_act_33 (Nat.le_of_ble_eq_true rfl) rfl ?_
      refine k_iload_n G dX0_act_35 rfl ?_
      obtain ⟨hA, hB⟩ := h
      refine k_if_ne G 48 dX0_act_36 (by decide) (fun c36 => ?_) (fun c36 => ?_)
      · have h := hA c36
        clear hA hB
        refine k_iload_n G dX0_act_48 rfl ?_
        refine k_iconst G dX0_act_49 kc_i_1 ?_
        obtain ⟨hA, hB⟩ := h
        refine k_icmp_ne G 62 dX0_act_50 (by decide) (fun c50 => ?_) (fun c50 => ?_)
        · have h := hA c50
          clear hA hB
          refine k_aload G dX0_act_62 rfl ?_
          refine k_iload_n G dX0_act_64 rfl ?_
          obtain ⟨kd65, n65, v65, hl, h⟩ := h
          refine kl_tells G hl h q1278 dX0_act_65 (Nat.le_of_ble_eq_true rfl) (Nat.le_of_ble_eq_true rfl) ⟨Nat.le_of_ble_eq_true rfl, Nat.le_of_ble_eq_true rfl⟩ (fun r65 s65 h => ?_)
          exact k_iret G X dX0_act_68 (Nat.le_of_ble_eq_true rfl) (Nat.le_of_ble_eq_true rfl) ⟨_, _, rfl, rfl, h⟩
        · have h := hB c50
          clear hA hB
          refine k_aload G dX0_act_53 rfl ?_
          refine k_iload_n G dX0_act_55 rfl ?_
          obtain ⟨kd56, n56, v56, hl, h⟩ := h
          refine kl_bakes G hl h q1254 dX0_act_56 (Nat.le_of_ble_eq_true rfl) (Nat.le_of_ble_eq_true rfl) ⟨Nat.le_of_ble_eq_true rfl, Nat.le_of_ble_eq_true rfl⟩ (fun r56 s56 h => ?_)
          refine k_goto G 68 dX0_act_59 (by decide) ?_
          exact k_iret G X dX0_act_68 (Nat.le_of_ble_eq_true rfl) (Nat.le_of_ble_eq_true rfl) ⟨_, _, rfl, rfl, h⟩
      · have h := hB c36
        clear hA hB
        refine k_aload G dX0_act_39 rfl ?_
        refine k_iload_n G dX0_act_41 rfl ?_
        obtain ⟨kd42, n42, v42, hl, h⟩ := h
        refine kl_rises G hl h q1224 dX0_act_42 (Nat.le_of_ble_eq_true rfl) (Nat.le_of_ble_eq_true rfl) ⟨Nat.le_of_ble_eq_true rfl, Nat.le_of_ble_eq_true rfl⟩ (fun r42 s42 h => ?_)
        refine k_goto G 68 dX0_act_45 (by decide) ?_
        exact k_iret G X dX0_act_68 (Nat.le_of_ble_eq_true rfl) (Nat.le_of_ble_eq_true rfl) ⟨_, _, rfl, rfl, h⟩
    · have h := hB c22
      clear hA hB
      refine k_iconst G dX0_act_25 kc_i_0 ?_
      exact k_iret G X dX0_act_26 (Nat.le_of_ble_eq_true rfl) (Nat.le_of_ble_eq_true rfl) ⟨_, _, rfl, rfl, h⟩
def cw_trace (T : xT) (q : Nat → Nat) (s : CS) (x1 : Int32) (k : Int32 → CS → Prop) : Prop := qw_in x1 0 (((imin (s.1.1 26 1) 20) - 1)) (fun r16 => (r16 = 0 → k (-1) s) ∧ (¬ r16 = 0 → vp_in x1 20 ∧ k ((s.1.1 27 (x1 : Int32).toNatClampNeg)) s))
set_option maxHeartbeats 4000000 in
theorem vk_trace (l : Launch) (D : va_G) (T : xT) (q : Nat → Nat) (s : CS) (x1 : Int32) (k : Int32 → CS → Prop) (h : cw_trace T q s x1 k) : XM l D T yX0_trace cX0_trace 2 (some .int) 3 0 0 [.ref (q 0), .int x1] (cw T q s) (cpostI T q k) := by
  refine XM.start (by decide +kernel) (Nat.le_of_ble_eq_true rfl) (fun Γ G X _ hl_ => ?_)
  subst hl_
  refine K.less [0, 1] (lv' := [(0, .ref (q 0)), (1, .int x1)]) rfl ?_
  unfold cw_trace at h
  refine k_iload_n G dX0_trace_0 rfl ?_
  refine k_iconst G dX0_trace_1 kc_i_0 ?_
  refine k_aload_n G dX0_trace_2 rfl ?_
  refine kc_this G cf_trace_55 dX0_trace_3 rfl ?_
  refine kc_count G (Or.inr (List.mem_of_getElem? (i := 15) rfl)) dX0_trace_6 ?_
  refine k_bipush G dX0_trace_9 kc_b_20 ?_
  refine kx_min G q612 dX0_trace_11 (Nat.le_of_ble_eq_true rfl) (Nat.le_of_ble_eq_true rfl) ⟨Nat.le_of_ble_eq_true rfl, Nat.le_of_ble_eq_true rfl⟩ ?_
  refine k_iconst G dX0_trace_14 kc_i_1 ?_
  refine k_isub G dX0_trace_15 ?_
  refine k_callPI G (vk_in _ D T _ _ _ _ h) gf_in q368 dX0_trace_16 rfl rfl (Nat.le_of_ble_eq_true rfl) (Nat.le_of_ble_eq_true rfl) ⟨Nat.le_of_ble_eq_true rfl, Nat.le_of_ble_eq_true rfl⟩ (fun r16 h => ?_)
  obtain ⟨hA, hB⟩ := h
  refine k_if_eq G 34 dX0_trace_19 (by decide) (fun c19 => ?_) (fun c19 => ?_)
  · have h := hA c19
    clear hA hB
    refine k_iconst G dX0_trace_34 kc_i_m1 ?_
    exact k_iret G X dX0_trace_35 (Nat.le_of_ble_eq_true rfl) (Nat.le_of_ble_eq_true rfl) ⟨_, _, rfl, rfl, h⟩
  · have h := hB c19
    clear hA hB
    refine k_aload_n G dX0_trace_22 rfl ?_
    refine kc_this G cf_trace_55 dX0_trace_23 rfl ?_
    refine kc_bodies G (Or.inr (List.mem_of_getElem? (i := 14) rfl)) dX0_trace_26 ?_
    refine k_iload_n G dX0_trace_29 rfl ?_
    obtain ⟨h1, h⟩ := h
    refine kc_iald G cI_27 dX0_trace_30 h1 ?_
    refine k_goto G 35 dX0_trace_31 (by decide) ?_
    exact k_iret G X dX0_trace_35 (Nat.le_of_ble_eq_true rfl) (Nat.le_of_ble_eq_true rfl) ⟨_, _, rfl, rfl, h⟩
def cw_count (T : xT) (q : Nat → Nat) (s : CS) (x1 : Int32) (k : Int32 → CS → Prop) : Prop := (x1 = 0 → k ((s.1.1 0 3)) s) ∧ (x1 = 1 → k ((s.1.1 0 8)) s) ∧ (x1 = 2 → k ((s.1.1 0 14)) s) ∧ (x1 = 3 → k ((s.1.1 0 7)) s) ∧ (x1 = 4 → k ((s.1.1 26 1)) s) ∧ (¬ x1 = 0 → ¬ x1 = 1 → ¬ x1 = 2 → ¬ x1 = 3 → ¬ x1 = 4 → k (-2) s)
set_option maxHeartbeats 4000000 in
theorem vk_count (l : Launch) (D : va_G) (T : xT) (q : Nat → Nat) (s : CS) (x1 : Int32) (k : Int32 → CS → Prop) (h : cw_count T q s x1 k) : XM l D T yX0_count cX0_count 2 (some .int) 1 0 0 [.ref (q 0), .int x1] (cw T q s) (cpostI T q k) := by
  refine XM.start (by decide +kernel) (Nat.le_of_ble_eq_true rfl) (fun Γ G X _ hl_ => ?_)
  subst hl_
  refine K.less [0, 1] (lv' := [(0, .ref (q 0)), (1, .int x1)]) rfl ?_
  unfold cw_count at h
  refine k_iload_n G dX0_count_0 rfl ?_
  obtain ⟨h0_, h1_, h2_, h3_, h4_, hD_⟩ := h
  by_cases c1_0 : x1 = 0
  · refine k_tswIn G 0 c1_0 36 dX0_count_1 (by decide +kernel) (by decide +kernel) rfl (by decide) ?_
    have h := h0_ c1_0
    clear h0_ h1_ h2_ h3_ h4_ hD_
    refine k_aload_n G dX0_count_36 rfl ?_
    refine kc_this G cf_many_107 dX0_count_37 rfl ?_
    exact k_iret G X dX0_count_40 (Nat.le_of_ble_eq_true rfl) (Nat.le_of_ble_eq_true rfl) ⟨_, _, rfl, rfl, h⟩
  by_cases c1_1 : x1 = 1
  · refine k_tswIn G 1 c1_1 41 dX0_count_1 (by decide +kernel) (by decide +kernel) rfl (by decide) ?_
    have h := h1_ c1_1
    clear h0_ h1_ h2_ h3_ h4_ hD_
    refine k_aload_n G dX0_count_41 rfl ?_
    refine kc_this G cf_kilnMany_226 dX0_count_42 rfl ?_
    exact k_iret G X dX0_count_45 (Nat.le_of_ble_eq_true rfl) (Nat.le_of_ble_eq_true rfl) ⟨_, _, rfl, rfl, h⟩
  by_cases c1_2 : x1 = 2
  · refine k_tswIn G 2 c1_2 46 dX0_count_1 (by decide +kernel) (by decide +kernel) rfl (by decide) ?_
    have h := h2_ c1_2
    clear h0_ h1_ h2_ h3_ h4_ hD_
    refine k_aload_n G dX0_count_46 rfl ?_
    refine kc_this G cf_bookMany_322 dX0_count_47 rfl ?_
    exact k_iret G X dX0_count_50 (Nat.le_of_ble_eq_true rfl) (Nat.le_of_ble_eq_true rfl) ⟨_, _, rfl, rfl, h⟩
  by_cases c1_3 : x1 = 3
  · refine k_tswIn G 3 c1_3 51 dX0_count_1 (by decide +kernel) (by decide +kernel) rfl (by decide) ?_
    have h := h3_ c1_3
    clear h0_ h1_ h2_ h3_ h4_ hD_
    refine k_aload_n G dX0_count_51 rfl ?_
    refine kc_this G cf_texted_223 dX0_count_52 rfl ?_
    exact k_iret G X dX0_count_55 (Nat.le_of_ble_eq_true rfl) (Nat.le_of_ble_eq_true rfl) ⟨_, _, rfl, rfl, h⟩
  by_cases c1_4 : x1 = 4
  · refine k_tswIn G 4 c1_4 56 dX0_count_1 (by decide +kernel) (by decide +kernel) rfl (by decide) ?_
    have h := h4_ c1_4
    clear h0_ h1_ h2_ h3_ h4_ hD_
    refine k_aload_n G dX0_count_56 rfl ?_
    refine kc_this G cf_trace_55 dX0_count_57 rfl ?_
    refine kc_count G (Or.inr (List.mem_of_getElem? (i := 15) rfl)) dX0_count_60 ?_
    exact k_iret G X dX0_count_63 (Nat.le_of_ble_eq_true rfl) (Nat.le_of_ble_eq_true rfl) ⟨_, _, rfl, rfl, h⟩
  refine k_tswD G [0, 1, 2, 3, 4] 64 dX0_count_1 (by decide +kernel) (by decide +kernel) (List.forall_mem_cons.mpr ⟨c1_0, List.forall_mem_cons.mpr ⟨c1_1, List.forall_mem_cons.mpr ⟨c1_2, List.forall_mem_cons.mpr ⟨c1_3, List.forall_mem_cons.mpr ⟨c1_4, fun _ h => absurd h List.not_mem_nil⟩⟩⟩⟩⟩) (by decide) ?_
  have h := hD_ c1_0 c1_1 c1_2 c1_3 c1_4
  clear h0_ h1_ h2_ h3_ h4_ hD_
  refine k_bipush G dX0_count_64 kc_b_m2 ?_
  exact k_iret G X dX0_count_66 (Nat.le_of_ble_eq_true rfl) (Nat.le_of_ble_eq_true rfl) ⟨_, _, rfl, rfl, h⟩
def qw_isTape (x0 : Int32) (k : Int32 → Prop) : Prop := qw_in x0 0 5 (fun r3 => (r3 = 0 ∨ r3 = 1) ∧ k r3)
set_option maxHeartbeats 4000000 in
theorem vk_isTape (l : Launch) (D : va_G) (T : xT) (x0 : Int32) (k : Int32 → Prop) (h : qw_isTape x0 k) : XM l D T yX0_isTape cX0_isTape 1 (some .boolean) 3 0 0 [.int x0] [] (ppostI k) := by
  refine XM.start (by decide +kernel) (Nat.le_of_ble_eq_true rfl) (fun Γ G X _ hl_ => ?_)
  subst hl_
  refine K.less [0] (lv' := [(0, .int x0)]) rfl ?_
  unfold qw_isTape at h
  refine k_iload_n G dX0_isTape_0 rfl ?_
  refine k_iconst G dX0_isTape_1 kc_i_0 ?_
  refine k_iconst G dX0_isTape_2 kc_i_5 ?_
  refine k_callPI G (vk_in _ D T _ _ _ _ h) gf_in q368 dX0_isTape_3 rfl rfl (Nat.le_of_ble_eq_true rfl) (Nat.le_of_ble_eq_true rfl) ⟨Nat.le_of_ble_eq_true rfl, Nat.le_of_ble_eq_true rfl⟩ (fun r3 h => ?_)
  obtain ⟨hz, h⟩ := h
  exact k_zret G X hz dX0_isTape_6 (Nat.le_of_ble_eq_true rfl) (Nat.le_of_ble_eq_true rfl) ⟨_, rfl, rfl, h⟩
