set_option maxRecDepth 100000
def pw_isIn (x0 : Int32) (x1 : Int32) (x2 : Int32) (k : Int32 → Prop) : Prop := (x0 < x1 → k 0) ∧ (¬ x0 < x1 → (x2 < x0 → k 0) ∧ (¬ x2 < x0 → k 1))
set_option maxHeartbeats 4000000 in
theorem wk_isIn (l : Launch) (D : va_G) (T : xT) (x0 : Int32) (x1 : Int32) (x2 : Int32) (k : Int32 → Prop) (h : pw_isIn x0 x1 x2 k) : XM l D T yX6_isIn cX6_isIn 3 (some .boolean) 1 0 0 [.int x0, .int x1, .int x2] [] (ppostI k) := by
  refine XM.start (by decide +kernel) (Nat.le_of_ble_eq_true rfl) (fun Γ G X _ hl_ => ?_)
  subst hl_
  refine K.less [0, 1, 2] (lv' := [(0, .int x0), (1, .int x1), (2, .int x2)]) rfl ?_
  unfold pw_isIn at h
  refine k_iload_n G dX6_isIn_0 rfl ?_
  refine k_iload_n G dX6_isIn_1 rfl ?_
  obtain ⟨hA, hB⟩ := h
  refine k_icmp_lt G 14 dX6_isIn_2 (by decide) (fun c2 => ?_) (fun c2 => ?_)
  · have h := hA c2
    clear hA hB
    refine k_iconst G dX6_isIn_14 kc_i_0 ?_
    exact k_zret G X (Or.inl rfl) dX6_isIn_15 (Nat.le_refl _) (Nat.le_refl _) ⟨_, rfl, rfl, h⟩
  · have h := hB c2
    clear hA hB
    refine k_iload_n G dX6_isIn_5 rfl ?_
    refine k_iload_n G dX6_isIn_6 rfl ?_
    obtain ⟨hA, hB⟩ := h
    refine k_icmp_gt G 14 dX6_isIn_7 (by decide) (fun c7 => ?_) (fun c7 => ?_)
    · have h := hA c7
      clear hA hB
      refine k_iconst G dX6_isIn_14 kc_i_0 ?_
      exact k_zret G X (Or.inl rfl) dX6_isIn_15 (Nat.le_refl _) (Nat.le_refl _) ⟨_, rfl, rfl, h⟩
    · have h := hB c7
      clear hA hB
      refine k_iconst G dX6_isIn_10 kc_i_1 ?_
      refine k_goto G 15 dX6_isIn_11 (by decide) ?_
      exact k_zret G X (Or.inr rfl) dX6_isIn_15 (Nat.le_refl _) (Nat.le_refl _) ⟨_, rfl, rfl, h⟩
def pw_isTaste (x0 : Int32) (k : Int32 → Prop) : Prop := pw_isIn x0 0 3 (fun r3 => (r3 = 0 ∨ r3 = 1) ∧ k r3)
set_option maxHeartbeats 4000000 in
theorem wk_isTaste (l : Launch) (D : va_G) (T : xT) (x0 : Int32) (k : Int32 → Prop) (h : pw_isTaste x0 k) : XM l D T yX6_isTaste cX6_isTaste 1 (some .boolean) 2 0 0 [.int x0] [] (ppostI k) := by
  refine XM.start (by decide +kernel) (Nat.le_of_ble_eq_true rfl) (fun Γ G X _ hl_ => ?_)
  subst hl_
  refine K.less [0] (lv' := [(0, .int x0)]) rfl ?_
  unfold pw_isTaste at h
  refine k_iload_n G dX6_isTaste_0 rfl ?_
  refine k_iconst G dX6_isTaste_1 kc_i_0 ?_
  refine k_iconst G dX6_isTaste_2 kc_i_3 ?_
  refine k_callPI G (wk_isIn _ D T _ _ _ _ h) cf_isIn q1511 dX6_isTaste_3 rfl rfl (Nat.le_of_ble_eq_true rfl) (Nat.le_of_ble_eq_true rfl) ⟨Nat.zero_le _, Nat.zero_le _⟩ (fun r3 h => ?_)
  obtain ⟨hz, h⟩ := h
  exact k_zret G X hz dX6_isTaste_6 (Nat.le_refl _) (Nat.le_refl _) ⟨_, rfl, rfl, h⟩
def tw_isLoaf (s : TS) (x1 : Int32) (k : Int32 → TS → Prop) : Prop := vp_in 5 92 ∧ pw_isIn x1 0 (((s.1 1 (5 : Int32).toNatClampNeg) - 1)) (fun r10 => (r10 = 0 ∨ r10 = 1) ∧ k r10 s)
set_option maxHeartbeats 4000000 in
theorem wk_isLoaf (l : Launch) (D : va_G) (T : xT) (q : Nat → Nat) (s : TS) (x1 : Int32) (k : Int32 → TS → Prop) (h : tw_isLoaf s x1 k) : XM l D T yX6_isLoaf cX6_isLoaf 2 (some .boolean) 2 0 0 [.ref (q 0), .int x1] (tw T q s) (tpostI T q k) := by
  refine XM.start (by decide +kernel) (Nat.le_of_ble_eq_true rfl) (fun Γ G X _ hl_ => ?_)
  subst hl_
  refine K.less [0, 1] (lv' := [(0, .ref (q 0)), (1, .int x1)]) rfl ?_
  unfold tw_isLoaf at h
  refine k_iload_n G dX6_isLoaf_0 rfl ?_
  refine k_iconst G dX6_isLoaf_1 kc_i_0 ?_
  refine k_aload_n G dX6_isLoaf_2 rfl ?_
  refine kt_get G tf_s rfl dX6_isLoaf_3 rfl ?_
  refine k_iconst G dX6_isLoaf_6 kc_i_5 ?_
  obtain ⟨h1, h⟩ := h
  refine kt_iald G tA_1 dX6_isLoaf_7 h1 ?_
  refine k_iconst G dX6_isLoaf_8 kc_i_1 ?_
  refine k_isub G dX6_isLoaf_9 ?_
  refine k_callPI G (wk_isIn _ D T _ _ _ _ h) cf_isIn q1511 dX6_isLoaf_10 rfl rfl (Nat.le_of_ble_eq_true rfl) (Nat.le_of_ble_eq_true rfl) ⟨Nat.zero_le _, Nat.zero_le _⟩ (fun r10 h => ?_)
  obtain ⟨hz, h⟩ := h
  exact k_zret G X hz dX6_isLoaf_13 (Nat.le_refl _) (Nat.le_refl _) ⟨_, _, rfl, rfl, h⟩
def tw_areLoaves (s : TS) (x1 : Int32) (k : Int32 → TS → Prop) : Prop := vp_in 5 92 ∧ pw_isIn x1 0 (((1 <<< ((s.1 1 (5 : Int32).toNatClampNeg) &&& 31)) - 1)) (fun r12 => (r12 = 0 ∨ r12 = 1) ∧ k r12 s)
set_option maxHeartbeats 4000000 in
theorem wk_areLoaves (l : Launch) (D : va_G) (T : xT) (q : Nat → Nat) (s : TS) (x1 : Int32) (k : Int32 → TS → Prop) (h : tw_areLoaves s x1 k) : XM l D T yX6_areLoaves cX6_areLoaves 2 (some .boolean) 2 0 0 [.ref (q 0), .int x1] (tw T q s) (tpostI T q k) := by
  refine XM.start (by decide +kernel) (Nat.le_of_ble_eq_true rfl) (fun Γ G X _ hl_ => ?_)
  subst hl_
  refine K.less [0, 1] (lv' := [(0, .ref (q 0)), (1, .int x1)]) rfl ?_
  unfold tw_areLoaves at h
  refine k_iload_n G dX6_areLoaves_0 rfl ?_
  refine k_iconst G dX6_areLoaves_1 kc_i_0 ?_
  refine k_iconst G dX6_areLoaves_2 kc_i_1 ?_
  refine k_aload_n G dX6_areLoaves_3 rfl ?_
  refine kt_get G tf_s rfl dX6_areLoaves_4 rfl ?_
  refine k_iconst G dX6_areLoaves_7 kc_i_5 ?_
  obtain ⟨h1, h⟩ := h
  refine kt_iald G tA_1 dX6_areLoaves_8 h1 ?_
  refine k_ishl G dX6_areLoaves_9 ?_
  refine k_iconst G dX6_areLoaves_10 kc_i_1 ?_
  refine k_isub G dX6_areLoaves_11 ?_
  refine k_callPI G (wk_isIn _ D T _ _ _ _ h) cf_isIn q1511 dX6_areLoaves_12 rfl rfl (Nat.le_of_ble_eq_true rfl) (Nat.le_of_ble_eq_true rfl) ⟨Nat.zero_le _, Nat.zero_le _⟩ (fun r12 h => ?_)
  obtain ⟨hz, h⟩ := h
  exact k_zret G X hz dX6_areLoaves_15 (Nat.le_refl _) (Nat.le_refl _) ⟨_, _, rfl, rfl, h⟩
def pw_bits_L4 (k : Int32 → Prop) : Nat → Int32 → Int32 → Prop
  | 0, _, _ => False
  | n + 1, x1, x2 => (x2 ≤ 0 → k x1) ∧ (¬ x2 ≤ 0 → ∀ x13 : Int32, x13 = (x1 + (x2 &&& 1)) → ∀ x17 : Int32, x17 = (x2 >>> (1 &&& 31)) → pw_bits_L4 k n x13 x17)
def pw_bits (x0 : Int32) (k : Int32 → Prop) : Prop := ∃ n4 : Nat, pw_bits_L4 k n4 0 x0
set_option maxHeartbeats 4000000 in
theorem wk_bits (l : Launch) (D : va_G) (T : xT) (x0 : Int32) (k : Int32 → Prop) (h : pw_bits x0 k) : XM l D T yX6_bits cX6_bits 3 (some .int) 1 0 0 [.int x0] [] (ppostI k) := by
  refine XM.start (by decide +kernel) (Nat.le_of_ble_eq_true rfl) (fun Γ G X _ hl_ => ?_)
  subst hl_
  have hL4 : ∀ n : Nat, ∀ (x1 : Int32) (x2 : Int32), (pw_bits_L4 k n) x1 x2 → K D Γ 0 0 4 [(1, .int x1), (2, .int x2)] [] [] := by
    intro n
    induction n with
    | zero =>
      intro _ _ h
      exact h.elim
    | succ n ih4 =>
      intro x1 x2 h
      unfold pw_bits_L4 at h
      refine k_iload_n G dX6_bits_4 rfl ?_
      obtain ⟨hA, hB⟩ := h
      refine k_if_le G 21 dX6_bits_5 (by decide) (fun c5 => ?_) (fun c5 => ?_)
      · have h := hA c5
        clear hA hB
        refine k_iload_n G dX6_bits_21 rfl ?_
        exact k_iret G X dX6_bits_22 (Nat.le_refl _) (Nat.le_refl _) ⟨_, rfl, rfl, h⟩
      · have h := hB c5
        clear hA hB
        refine k_iload_n G dX6_bits_8 rfl ?_
        refine k_iload_n G dX6_bits_9 rfl ?_
        refine k_iconst G dX6_bits_10 kc_i_1 ?_
        refine k_iand G dX6_bits_11 ?_
        refine k_iadd G dX6_bits_12 ?_
        refine k_nmI (fun x13 e13 => ?_)
        have h := h x13 e13
        refine k_istore_n G [(1, .int x13), (2, .int x2)] dX6_bits_13 rfl (Nat.le_of_ble_eq_true rfl) rfl ?_
        refine k_iload_n G dX6_bits_14 rfl ?_
        refine k_iconst G dX6_bits_15 kc_i_1 ?_
        refine k_ishr G dX6_bits_16 ?_
        refine k_nmI (fun x17 e17 => ?_)
        have h := h x17 e17
        refine k_istore_n G [(2, .int x17), (1, .int x13)] dX6_bits_17 rfl (Nat.le_of_ble_eq_true rfl) rfl ?_
        refine k_goto G 4 dX6_bits_18 (by decide) ?_
        refine K.less [1, 0] rfl ?_
        exact ih4 _ _ h
  refine K.less [0] (lv' := [(0, .int x0)]) rfl ?_
  unfold pw_bits at h
  refine k_iconst G dX6_bits_0 kc_i_0 ?_
  refine k_istore_n G [(1, .int 0), (0, .int x0)] dX6_bits_1 rfl (Nat.le_of_ble_eq_true rfl) rfl ?_
  refine k_iload_n G dX6_bits_2 rfl ?_
  refine k_istore_n G [(2, .int x0), (1, .int 0), (0, .int x0)] dX6_bits_3 rfl (Nat.le_of_ble_eq_true rfl) rfl ?_
  obtain ⟨n4, h⟩ := h
  refine K.less [1, 0] rfl ?_
  exact hL4 n4 _ _ h
def tw_lays_L2 (c0 : Nat) (c1 : Nat) (k : TS → Prop) : Nat → Int32 → TS → Prop
  | 0, _, _ => False
  | n + 1, x2, s => (92 ≤ x2 → k s) ∧ (¬ 92 ≤ x2 → vp_in x2 (tlen c0) ∧ vp_in x2 (tlen c1) ∧ ∀ x14 : Int32, x14 = x2 + 1 → tw_lays_L2 c0 c1 k n x14 ((sA s c1 (x2 : Int32).toNatClampNeg (s.1 c0 (x2 : Int32).toNatClampNeg))))
def tw_lays (s : TS) (c0 : Nat) (c1 : Nat) (k : TS → Prop) : Prop := ∃ n2 : Nat, tw_lays_L2 c0 c1 k n2 0 s
set_option maxHeartbeats 4000000 in
theorem wk_lays (l : Launch) (D : va_G) (T : xT) (q : Nat → Nat) (s : TS) (c0 : Nat) (c1 : Nat) (k : TS → Prop) (tA_c0 : tA c0) (tA_c1 : tA c1) (h : tw_lays s c0 c1 k) : XM l D T yX6_lays cX6_lays 3 none 1 0 0 [.ref (q c0), .ref (q c1)] (tw T q s) (tpostV T q k) := by
  refine XM.start (by decide +kernel) (Nat.le_of_ble_eq_true rfl) (fun Γ G X _ hl_ => ?_)
  subst hl_
  have hL2 : ∀ n : Nat, ∀ (x2 : Int32) (s : TS), (tw_lays_L2 c0 c1 k n) x2 s → K D Γ 0 0 2 [(0, .ref (q c0)), (1, .ref (q c1)), (2, .int x2)] [] (tw T q s) := by
    intro n
    induction n with
    | zero =>
      intro _ _ h
      exact h.elim
    | succ n ih2 =>
      intro x2 s h
      unfold tw_lays_L2 at h
      refine k_iload_n G dX6_lays_2 rfl ?_
      refine k_bipush G dX6_lays_3 kc_b_92 ?_
      obtain ⟨hA, hB⟩ := h
      refine k_icmp_ge G 20 dX6_lays_5 (by decide) (fun c5 => ?_) (fun c5 => ?_)
      · have h := hA c5
        clear hA hB
        exact k_vret G X dX6_lays_20 (Nat.le_refl _) (Nat.le_refl _) ⟨_, rfl, rfl, h⟩
      · have h := hB c5
        clear hA hB
        refine k_aload_n G dX6_lays_8 rfl ?_
        refine k_iload_n G dX6_lays_9 rfl ?_
        refine k_aload_n G dX6_lays_10 rfl ?_
        refine k_iload_n G dX6_lays_11 rfl ?_
        obtain ⟨h1, h⟩ := h
        refine kt_iald G tA_c0 dX6_lays_12 h1 ?_
        obtain ⟨h1, h⟩ := h
        refine kt_iast G tA_c1 dX6_lays_13 h1 ?_
        obtain ⟨x14, e14⟩ : ∃ y : Int32, y = x2 + 1 := ⟨_, rfl⟩
        have h := h x14 e14
        refine k_iinc G [(2, .int x14), (0, .ref (q c0)), (1, .ref (q c1))] dX6_lays_14 rfl (v := x14) (by rw [e14, kc_i_1]) (Nat.le_of_ble_eq_true rfl) rfl ?_
        refine k_goto G 2 dX6_lays_17 (by decide) ?_
        refine K.less [1, 2, 0] rfl ?_
        exact ih2 _ _ h
  refine K.less [0, 1] (lv' := [(0, .ref (q c0)), (1, .ref (q c1))]) rfl ?_
  unfold tw_lays at h
  refine k_iconst G dX6_lays_0 kc_i_0 ?_
  refine k_istore_n G [(2, .int 0), (0, .ref (q c0)), (1, .ref (q c1))] dX6_lays_1 rfl (Nat.le_of_ble_eq_true rfl) rfl ?_
  obtain ⟨n2, h⟩ := h
  refine K.less [1, 2, 0] rfl ?_
  exact hL2 n2 _ _ h
def tw_begins (s : TS) (k : TS → Prop) : Prop := tw_lays s 1 3 (fun s8 => k s8)
set_option maxHeartbeats 4000000 in
theorem wk_begins (l : Launch) (D : va_G) (T : xT) (q : Nat → Nat) (s : TS) (k : TS → Prop) (h : tw_begins s k) : XM l D T yX6_begins cX6_begins 1 none 2 0 0 [.ref (q 0)] (tw T q s) (tpostV T q k) := by
  refine XM.start (by decide +kernel) (Nat.le_of_ble_eq_true rfl) (fun Γ G X _ hl_ => ?_)
  subst hl_
  refine K.less [0] (lv' := [(0, .ref (q 0))]) rfl ?_
  unfold tw_begins at h
  refine k_aload_n G dX6_begins_0 rfl ?_
  refine kt_get G tf_s rfl dX6_begins_1 rfl ?_
  refine k_aload_n G dX6_begins_4 rfl ?_
  refine kt_get G tf_mind rfl dX6_begins_5 rfl ?_
  refine kt_callsV G (wk_lays _ D T q _ _ _ _ tA_1 tA_3 h) cf_lays q1670 dX6_begins_8 rfl rfl (Nat.le_of_ble_eq_true rfl) (Nat.le_of_ble_eq_true rfl) (fun s8 h => ?_)
  exact k_vret G X dX6_begins_11 (Nat.le_refl _) (Nat.le_refl _) ⟨_, rfl, rfl, h⟩
def tw_ends (s : TS) (k : TS → Prop) : Prop := tw_lays s 3 1 (fun s8 => k s8)
set_option maxHeartbeats 4000000 in
theorem wk_ends (l : Launch) (D : va_G) (T : xT) (q : Nat → Nat) (s : TS) (k : TS → Prop) (h : tw_ends s k) : XM l D T yX6_ends cX6_ends 1 none 2 0 0 [.ref (q 0)] (tw T q s) (tpostV T q k) := by
  refine XM.start (by decide +kernel) (Nat.le_of_ble_eq_true rfl) (fun Γ G X _ hl_ => ?_)
  subst hl_
  refine K.less [0] (lv' := [(0, .ref (q 0))]) rfl ?_
  unfold tw_ends at h
  refine k_aload_n G dX6_ends_0 rfl ?_
  refine kt_get G tf_mind rfl dX6_ends_1 rfl ?_
  refine k_aload_n G dX6_ends_4 rfl ?_
  refine kt_get G tf_s rfl dX6_ends_5 rfl ?_
  refine kt_callsV G (wk_lays _ D T q _ _ _ _ tA_3 tA_1 h) cf_lays q1670 dX6_ends_8 rfl rfl (Nat.le_of_ble_eq_true rfl) (Nat.le_of_ble_eq_true rfl) (fun s8 h => ?_)
  exact k_vret G X dX6_ends_11 (Nat.le_refl _) (Nat.le_refl _) ⟨_, rfl, rfl, h⟩
def tw_get (s : TS) (x1 : Int32) (x2 : Int32) (k : Int32 → TS → Prop) : Prop := vp_in ((8 + (10 * x1)) + x2) 92 ∧ k ((s.1 1 (((8 + (10 * x1)) + x2) : Int32).toNatClampNeg)) s
set_option maxHeartbeats 4000000 in
theorem wk_get (l : Launch) (D : va_G) (T : xT) (q : Nat → Nat) (s : TS) (x1 : Int32) (x2 : Int32) (k : Int32 → TS → Prop) (h : tw_get s x1 x2 k) : XM l D T yX6_get cX6_get 3 (some .int) 1 0 0 [.ref (q 0), .int x1, .int x2] (tw T q s) (tpostI T q k) := by
  refine XM.start (by decide +kernel) (Nat.le_of_ble_eq_true rfl) (fun Γ G X _ hl_ => ?_)
  subst hl_
  refine K.less [0, 1, 2] (lv' := [(0, .ref (q 0)), (1, .int x1), (2, .int x2)]) rfl ?_
  unfold tw_get at h
  refine k_aload_n G dX6_get_0 rfl ?_
  refine kt_get G tf_s rfl dX6_get_1 rfl ?_
  refine k_bipush G dX6_get_4 kc_b_8 ?_
  refine k_bipush G dX6_get_6 kc_b_10 ?_
  refine k_iload_n G dX6_get_8 rfl ?_
  refine k_imul G dX6_get_9 ?_
  refine k_iadd G dX6_get_10 ?_
  refine k_iload_n G dX6_get_11 rfl ?_
  refine k_iadd G dX6_get_12 ?_
  obtain ⟨h1, h⟩ := h
  refine kt_iald G tA_1 dX6_get_13 h1 ?_
  exact k_iret G X dX6_get_14 (Nat.le_refl _) (Nat.le_refl _) ⟨_, _, rfl, rfl, h⟩
def tw_kind (s : TS) (x1 : Int32) (k : Int32 → TS → Prop) : Prop := tw_get s x1 0 (fun r3 s3 => k r3 s3)
set_option maxHeartbeats 4000000 in
theorem wk_kind (l : Launch) (D : va_G) (T : xT) (q : Nat → Nat) (s : TS) (x1 : Int32) (k : Int32 → TS → Prop) (h : tw_kind s x1 k) : XM l D T yX6_kind cX6_kind 2 (some .int) 2 0 0 [.ref (q 0), .int x1] (tw T q s) (tpostI T q k) := by
  refine XM.start (by decide +kernel) (Nat.le_of_ble_eq_true rfl) (fun Γ G X _ hl_ => ?_)
  subst hl_
  refine K.less [0, 1] (lv' := [(0, .ref (q 0)), (1, .int x1)]) rfl ?_
  unfold tw_kind at h
  refine k_aload_n G dX6_kind_0 rfl ?_
  refine k_iload_n G dX6_kind_1 rfl ?_
  refine k_iconst G dX6_kind_2 kc_i_0 ?_
  refine kt_callI G (wk_get _ D T q _ _ _ _ h) cf_get q1579 dX6_kind_3 rfl rfl (Nat.le_of_ble_eq_true rfl) (Nat.le_of_ble_eq_true rfl) (fun r3 s3 h => ?_)
  exact k_iret G X dX6_kind_6 (Nat.le_refl _) (Nat.le_refl _) ⟨_, _, rfl, rfl, h⟩
def tw_number (s : TS) (x1 : Int32) (k : Int32 → TS → Prop) : Prop := tw_get s x1 1 (fun r3 s3 => k r3 s3)
set_option maxHeartbeats 4000000 in
theorem wk_number (l : Launch) (D : va_G) (T : xT) (q : Nat → Nat) (s : TS) (x1 : Int32) (k : Int32 → TS → Prop) (h : tw_number s x1 k) : XM l D T yX6_number cX6_number 2 (some .int) 2 0 0 [.ref (q 0), .int x1] (tw T q s) (tpostI T q k) := by
  refine XM.start (by decide +kernel) (Nat.le_of_ble_eq_true rfl) (fun Γ G X _ hl_ => ?_)
  subst hl_
  refine K.less [0, 1] (lv' := [(0, .ref (q 0)), (1, .int x1)]) rfl ?_
  unfold tw_number at h
  refine k_aload_n G dX6_number_0 rfl ?_
  refine k_iload_n G dX6_number_1 rfl ?_
  refine k_iconst G dX6_number_2 kc_i_1 ?_
  refine kt_callI G (wk_get _ D T q _ _ _ _ h) cf_get q1579 dX6_number_3 rfl rfl (Nat.le_of_ble_eq_true rfl) (Nat.le_of_ble_eq_true rfl) (fun r3 s3 h => ?_)
  exact k_iret G X dX6_number_6 (Nat.le_refl _) (Nat.le_refl _) ⟨_, _, rfl, rfl, h⟩
def tw_feed (s : TS) (x1 : Int32) (k : Int32 → TS → Prop) : Prop := pw_isIn x1 0 127 (fun r4 => (¬ r4 = 0 → (¬ (s.1 0 7) = 100 → vp_in (s.1 0 7) 100 ∧ ∀ w37 : TS, w37 = (sA s 4 ((s.1 0 7) : Int32).toNatClampNeg x1) → ∀ w46 : TS, w46 = (sA w37 0 7 ((w37.1 0 7) + 1)) → k ((w46.1 0 7)) w46) ∧ ((s.1 0 7) = 100 → k (-4) s)) ∧ (r4 = 0 → k (-2) s))
set_option maxHeartbeats 4000000 in
theorem wk_feed (l : Launch) (D : va_G) (T : xT) (q : Nat → Nat) (s : TS) (x1 : Int32) (k : Int32 → TS → Prop) (h : tw_feed s x1 k) : XM l D T yX6_feed cX6_feed 2 (some .int) 2 0 0 [.ref (q 0), .int x1] (tw T q s) (tpostI T q k) := by
  refine XM.start (by decide +kernel) (Nat.le_of_ble_eq_true rfl) (fun Γ G X _ hl_ => ?_)
  subst hl_
  refine K.less [0, 1] (lv' := [(0, .ref (q 0)), (1, .int x1)]) rfl ?_
  unfold tw_feed at h
  refine k_iload_n G dX6_feed_0 rfl ?_
  refine k_iconst G dX6_feed_1 kc_i_0 ?_
  refine k_bipush G dX6_feed_2 kc_b_127 ?_
  refine k_callPI G (wk_isIn _ D T _ _ _ _ h) cf_isIn q1511 dX6_feed_4 rfl rfl (Nat.le_of_ble_eq_true rfl) (Nat.le_of_ble_eq_true rfl) ⟨Nat.zero_le _, Nat.zero_le _⟩ (fun r4 h => ?_)
  obtain ⟨hA, hB⟩ := h
  refine k_if_ne G 13 dX6_feed_7 (by decide) (fun c7 => ?_) (fun c7 => ?_)
  · have h := hA c7
    clear hA hB
    refine k_aload_n G dX6_feed_13 rfl ?_
    refine kt_get G tf_texted rfl dX6_feed_14 rfl ?_
    refine k_bipush G dX6_feed_17 kc_b_100 ?_
    obtain ⟨hA, hB⟩ := h
    refine k_icmp_ne G 25 dX6_feed_19 (by decide) (fun c19 => ?_) (fun c19 => ?_)
    · have h := hA c19
      clear hA hB
      refine k_aload_n G dX6_feed_25 rfl ?_
      refine kt_get G tf_text rfl dX6_feed_26 rfl ?_
      refine k_aload_n G dX6_feed_29 rfl ?_
      refine kt_get G tf_texted rfl dX6_feed_30 rfl ?_
      refine k_iload_n G dX6_feed_33 rfl ?_
      obtain ⟨h1, h⟩ := h
      refine kt_iast G tA_4 dX6_feed_34 h1 ?_
      refine k_aload_n G dX6_feed_35 rfl ?_
      refine k_dup G dX6_feed_36 rfl ?_
      refine kt_nmW (fun w37 ew37 => ?_)
      have h := h w37 ew37
      refine kt_get G tf_texted rfl dX6_feed_37 rfl ?_
      refine k_iconst G dX6_feed_40 kc_i_1 ?_
      refine k_iadd G dX6_feed_41 ?_
      refine kt_put G tp_texted rfl dX6_feed_42 ?_
      refine k_aload_n G dX6_feed_45 rfl ?_
      refine kt_nmW (fun w46 ew46 => ?_)
      have h := h w46 ew46
      refine kt_get G tf_texted rfl dX6_feed_46 rfl ?_
      exact k_iret G X dX6_feed_49 (Nat.le_refl _) (Nat.le_refl _) ⟨_, _, rfl, rfl, h⟩
    · have h := hB c19
      clear hA hB
      refine k_bipush G dX6_feed_22 kc_b_m4 ?_
      exact k_iret G X dX6_feed_24 (Nat.le_refl _) (Nat.le_refl _) ⟨_, _, rfl, rfl, h⟩
  · have h := hB c7
    clear hA hB
    refine k_bipush G dX6_feed_10 kc_b_m2 ?_
    exact k_iret G X dX6_feed_12 (Nat.le_refl _) (Nat.le_refl _) ⟨_, _, rfl, rfl, h⟩
def tw_here (s : TS) (k : Int32 → TS → Prop) : Prop := ((s.1 0 10) ≤ (s.1 0 11) → k (-1) s) ∧ (¬ (s.1 0 10) ≤ (s.1 0 11) → vp_in ((s.1 0 9) + (s.1 0 11)) 600 ∧ k ((s.1 5 (((s.1 0 9) + (s.1 0 11)) : Int32).toNatClampNeg)) s)
set_option maxHeartbeats 4000000 in
theorem wk_here (l : Launch) (D : va_G) (T : xT) (q : Nat → Nat) (s : TS) (k : Int32 → TS → Prop) (h : tw_here s k) : XM l D T yX6_here cX6_here 1 (some .int) 1 0 0 [.ref (q 0)] (tw T q s) (tpostI T q k) := by
  refine XM.start (by decide +kernel) (Nat.le_of_ble_eq_true rfl) (fun Γ G X _ hl_ => ?_)
  subst hl_
  refine K.less [0] (lv' := [(0, .ref (q 0))]) rfl ?_
  unfold tw_here at h
  refine k_aload_n G dX6_here_0 rfl ?_
  refine kt_get G tf_at rfl dX6_here_1 rfl ?_
  refine k_aload_n G dX6_here_4 rfl ?_
  refine kt_get G tf_end rfl dX6_here_5 rfl ?_
  obtain ⟨hA, hB⟩ := h
  refine k_icmp_ge G 28 dX6_here_8 (by decide) (fun c8 => ?_) (fun c8 => ?_)
  · have h := hA c8
    clear hA hB
    refine k_iconst G dX6_here_28 kc_i_m1 ?_
    exact k_iret G X dX6_here_29 (Nat.le_refl _) (Nat.le_refl _) ⟨_, _, rfl, rfl, h⟩
  · have h := hB c8
    clear hA hB
    refine k_aload_n G dX6_here_11 rfl ?_
    refine kt_get G tf_kilnText rfl dX6_here_12 rfl ?_
    refine k_aload_n G dX6_here_15 rfl ?_
    refine kt_get G tf_base rfl dX6_here_16 rfl ?_
    refine k_aload_n G dX6_here_19 rfl ?_
    refine kt_get G tf_at rfl dX6_here_20 rfl ?_
    refine k_iadd G dX6_here_23 ?_
    obtain ⟨h1, h⟩ := h
    refine kt_iald G tA_5 dX6_here_24 h1 ?_
    refine k_goto G 29 dX6_here_25 (by decide) ?_
    exact k_iret G X dX6_here_29 (Nat.le_refl _) (Nat.le_refl _) ⟨_, _, rfl, rfl, h⟩
def tw_takes (s : TS) (x1 : Int32) (k : Int32 → TS → Prop) : Prop := ((s.1 0 14) = 0 → tw_here s (fun r10 s10 => (r10 = x1 → k 1 ((sA s10 0 11 ((s10.1 0 11) + 1)))) ∧ (¬ r10 = x1 → k 0 ((sA s10 0 14 1))))) ∧ (¬ (s.1 0 14) = 0 → k 0 s)
set_option maxHeartbeats 4000000 in
theorem wk_takes (l : Launch) (D : va_G) (T : xT) (q : Nat → Nat) (s : TS) (x1 : Int32) (k : Int32 → TS → Prop) (h : tw_takes s x1 k) : XM l D T yX6_takes cX6_takes 2 (some .boolean) 2 0 0 [.ref (q 0), .int x1] (tw T q s) (tpostI T q k) := by
  refine XM.start (by decide +kernel) (Nat.le_of_ble_eq_true rfl) (fun Γ G X _ hl_ => ?_)
  subst hl_
  refine K.less [0, 1] (lv' := [(0, .ref (q 0)), (1, .int x1)]) rfl ?_
  unfold tw_takes at h
  refine k_aload_n G dX6_takes_0 rfl ?_
  refine kt_get G tf_wrong rfl dX6_takes_1 rfl ?_
  obtain ⟨hA, hB⟩ := h
  refine k_if_eq G 9 dX6_takes_4 (by decide) (fun c4 => ?_) (fun c4 => ?_)
  · have h := hA c4
    clear hA hB
    refine k_aload_n G dX6_takes_9 rfl ?_
    refine kt_callI G (wk_here _ D T q _ _ h) cf_here q1526 dX6_takes_10 rfl rfl (Nat.le_of_ble_eq_true rfl) (Nat.le_of_ble_eq_true rfl) (fun r10 s10 h => ?_)
    refine k_iload_n G dX6_takes_13 rfl ?_
    obtain ⟨hA, hB⟩ := h
    refine k_icmp_eq G 24 dX6_takes_14 (by decide) (fun c14 => ?_) (fun c14 => ?_)
    · have h := hA c14
      clear hA hB
      refine k_aload_n G dX6_takes_24 rfl ?_
      refine k_dup G dX6_takes_25 rfl ?_
      refine kt_get G tf_at rfl dX6_takes_26 rfl ?_
      refine k_iconst G dX6_takes_29 kc_i_1 ?_
      refine k_iadd G dX6_takes_30 ?_
      refine kt_put G tp_at rfl dX6_takes_31 ?_
      refine k_iconst G dX6_takes_34 kc_i_1 ?_
      exact k_zret G X (Or.inr rfl) dX6_takes_35 (Nat.le_refl _) (Nat.le_refl _) ⟨_, _, rfl, rfl, h⟩
    · have h := hB c14
      clear hA hB
      refine k_aload_n G dX6_takes_17 rfl ?_
      refine k_iconst G dX6_takes_18 kc_i_1 ?_
      refine kt_putZ G tp_wrong rfl (Or.inr rfl) dX6_takes_19 ?_
      refine k_iconst G dX6_takes_22 kc_i_0 ?_
      exact k_zret G X (Or.inl rfl) dX6_takes_23 (Nat.le_refl _) (Nat.le_refl _) ⟨_, _, rfl, rfl, h⟩
  · have h := hB c4
    clear hA hB
    refine k_iconst G dX6_takes_7 kc_i_0 ?_
    exact k_zret G X (Or.inl rfl) dX6_takes_8 (Nat.le_refl _) (Nat.le_refl _) ⟨_, _, rfl, rfl, h⟩
def tw_isDigit (s : TS) (k : Int32 → TS → Prop) : Prop := tw_here s (fun r1 s1 => pw_isIn r1 48 57 (fun r8 => (r8 = 0 ∨ r8 = 1) ∧ k r8 s1))
set_option maxHeartbeats 4000000 in
theorem wk_isDigit (l : Launch) (D : va_G) (T : xT) (q : Nat → Nat) (s : TS) (k : Int32 → TS → Prop) (h : tw_isDigit s k) : XM l D T yX6_isDigit cX6_isDigit 1 (some .boolean) 2 0 0 [.ref (q 0)] (tw T q s) (tpostI T q k) := by
  refine XM.start (by decide +kernel) (Nat.le_of_ble_eq_true rfl) (fun Γ G X _ hl_ => ?_)
  subst hl_
  refine K.less [0] (lv' := [(0, .ref (q 0))]) rfl ?_
  unfold tw_isDigit at h
  refine k_aload_n G dX6_isDigit_0 rfl ?_
  refine kt_callI G (wk_here _ D T q _ _ h) cf_here q1526 dX6_isDigit_1 rfl rfl (Nat.le_of_ble_eq_true rfl) (Nat.le_of_ble_eq_true rfl) (fun r1 s1 h => ?_)
  refine k_bipush G dX6_isDigit_4 kc_b_48 ?_
  refine k_bipush G dX6_isDigit_6 kc_b_57 ?_
  refine k_callPI G (wk_isIn _ D T _ _ _ _ h) cf_isIn q1511 dX6_isDigit_8 rfl rfl (Nat.le_of_ble_eq_true rfl) (Nat.le_of_ble_eq_true rfl) ⟨Nat.zero_le _, Nat.zero_le _⟩ (fun r8 h => ?_)
  obtain ⟨hz, h⟩ := h
  exact k_zret G X hz dX6_isDigit_11 (Nat.le_refl _) (Nat.le_refl _) ⟨_, _, rfl, rfl, h⟩
def tw_readsNumber (s : TS) (k : Int32 → TS → Prop) : Prop := ((s.1 0 14) = 0 → tw_isDigit s (fun r10 s10 => (¬ r10 = 0 → tw_here s10 (fun r24 s24 => ∀ x30 : Int32, x30 = (r24 - 48) → ∀ w42 : TS, w42 = (sA s24 0 11 ((s24.1 0 11) + 1)) → tw_isDigit w42 (fun r42 s42 => (r42 = 0 → k x30 s42) ∧ (¬ r42 = 0 → tw_here s42 (fun r53 s53 => ∀ x60 : Int32, x60 = (((10 * x30) + r53) - 48) → k x60 ((sA s53 0 11 ((s53.1 0 11) + 1)))))))) ∧ (r10 = 0 → k 0 ((sA s10 0 14 1))))) ∧ (¬ (s.1 0 14) = 0 → k 0 s)
set_option maxHeartbeats 4000000 in
theorem wk_readsNumber (l : Launch) (D : va_G) (T : xT) (q : Nat → Nat) (s : TS) (k : Int32 → TS → Prop) (h : tw_readsNumber s k) : XM l D T yX6_readsNumber cX6_readsNumber 2 (some .int) 3 0 0 [.ref (q 0)] (tw T q s) (tpostI T q k) := by
  refine XM.start (by decide +kernel) (Nat.le_of_ble_eq_true rfl) (fun Γ G X _ hl_ => ?_)
  subst hl_
  refine K.less [0] (lv' := [(0, .ref (q 0))]) rfl ?_
  unfold tw_readsNumber at h
  refine k_aload_n G dX6_readsNumber_0 rfl ?_
  refine kt_get G tf_wrong rfl dX6_readsNumber_1 rfl ?_
  obtain ⟨hA, hB⟩ := h
  refine k_if_eq G 9 dX6_readsNumber_4 (by decide) (fun c4 => ?_) (fun c4 => ?_)
  · have h := hA c4
    clear hA hB
    refine k_aload_n G dX6_readsNumber_9 rfl ?_
    refine kt_callI G (wk_isDigit _ D T q _ _ h) cf_isDigit q1548 dX6_readsNumber_10 rfl rfl (Nat.le_of_ble_eq_true rfl) (Nat.le_of_ble_eq_true rfl) (fun r10 s10 h => ?_)
    obtain ⟨hA, hB⟩ := h
    refine k_if_ne G 23 dX6_readsNumber_13 (by decide) (fun c13 => ?_) (fun c13 => ?_)
    · have h := hA c13
      clear hA hB
      refine k_aload_n G dX6_readsNumber_23 rfl ?_
      refine kt_callI G (wk_here _ D T q _ _ h) cf_here q1526 dX6_readsNumber_24 rfl rfl (Nat.le_of_ble_eq_true rfl) (Nat.le_of_ble_eq_true rfl) (fun r24 s24 h => ?_)
      refine k_bipush G dX6_readsNumber_27 kc_b_48 ?_
      refine k_isub G dX6_readsNumber_29 ?_
      refine k_nmI (fun x30 e30 => ?_)
      have h := h x30 e30
      refine k_istore_n G [(1, .int x30), (0, .ref (q 0))] dX6_readsNumber_30 rfl (Nat.le_of_ble_eq_true rfl) rfl ?_
      refine k_aload_n G dX6_readsNumber_31 rfl ?_
      refine k_dup G dX6_readsNumber_32 rfl ?_
      refine kt_get G tf_at rfl dX6_readsNumber_33 rfl ?_
      refine k_iconst G dX6_readsNumber_36 kc_i_1 ?_
      refine k_iadd G dX6_readsNumber_37 ?_
      refine kt_put G tp_at rfl dX6_readsNumber_38 ?_
      refine k_aload_n G dX6_readsNumber_41 rfl ?_
      refine kt_nmW (fun w42 ew42 => ?_)
      have h := h w42 ew42
      refine kt_callI G (wk_isDigit _ D T q _ _ h) cf_isDigit q1548 dX6_readsNumber_42 rfl rfl (Nat.le_of_ble_eq_true rfl) (Nat.le_of_ble_eq_true rfl) (fun r42 s42 h => ?_)
      obtain ⟨hA, hB⟩ := h
      refine k_if_eq G 71 dX6_readsNumber_45 (by decide) (fun c45 => ?_) (fun c45 => ?_)
      · have h := hA c45
        clear hA hB
        refine k_iload_n G dX6_readsNumber_71 rfl ?_
        exact k_iret G X dX6_readsNumber_72 (Nat.le_refl _) (Nat.le_refl _) ⟨_, _, rfl, rfl, h⟩
      · have h := hB c45
        clear hA hB
        refine k_bipush G dX6_readsNumber_48 kc_b_10 ?_
        refine k_iload_n G dX6_readsNumber_50 rfl ?_
        refine k_imul G dX6_readsNumber_51 ?_
        refine k_aload_n G dX6_readsNumber_52 rfl ?_
        refine kt_callI G (wk_here _ D T q _ _ h) cf_here q1526 dX6_readsNumber_53 rfl rfl (Nat.le_of_ble_eq_true rfl) (Nat.le_of_ble_eq_true rfl) (fun r53 s53 h => ?_)
        refine k_iadd G dX6_readsNumber_56 ?_
        refine k_bipush G dX6_readsNumber_57 kc_b_48 ?_
        refine k_isub G dX6_readsNumber_59 ?_
        refine k_nmI (fun x60 e60 => ?_)
        have h := h x60 e60
        refine k_istore_n G [(1, .int x60), (0, .ref (q 0))] dX6_readsNumber_60 rfl (Nat.le_of_ble_eq_true rfl) rfl ?_
        refine k_aload_n G dX6_readsNumber_61 rfl ?_
        refine k_dup G dX6_readsNumber_62 rfl ?_
        refine kt_get G tf_at rfl dX6_readsNumber_63 rfl ?_
        refine k_iconst G dX6_readsNumber_66 kc_i_1 ?_
        refine k_iadd G dX6_readsNumber_67 ?_
        refine kt_put G tp_at rfl dX6_readsNumber_68 ?_
        refine k_iload_n G dX6_readsNumber_71 rfl ?_
        exact k_iret G X dX6_readsNumber_72 (Nat.le_refl _) (Nat.le_refl _) ⟨_, _, rfl, rfl, h⟩
    · have h := hB c13
      clear hA hB
      refine k_aload_n G dX6_readsNumber_16 rfl ?_
      refine k_iconst G dX6_readsNumber_17 kc_i_1 ?_
      refine kt_putZ G tp_wrong rfl (Or.inr rfl) dX6_readsNumber_18 ?_
      refine k_iconst G dX6_readsNumber_21 kc_i_0 ?_
      exact k_iret G X dX6_readsNumber_22 (Nat.le_refl _) (Nat.le_refl _) ⟨_, _, rfl, rfl, h⟩
  · have h := hB c4
    clear hA hB
    refine k_iconst G dX6_readsNumber_7 kc_i_0 ?_
    exact k_iret G X dX6_readsNumber_8 (Nat.le_refl _) (Nat.le_refl _) ⟨_, _, rfl, rfl, h⟩
def tw_valueOf (s : TS) (x1 : Int32) (k : Int32 → TS → Prop) : Prop := (x1 = 104 → vp_in 4 92 ∧ k (((s.1 1 (4 : Int32).toNatClampNeg) - (s.1 1 (4 : Int32).toNatClampNeg) / 60 * 60)) s) ∧ (x1 = 107 → tw_kind s ((s.1 0 12)) (fun r86 s86 => k r86 s86)) ∧ (x1 = 108 → k ((s.1 0 12)) s) ∧ (x1 = 116 → ((s.1 0 15) = 0 → k ((s.1 0 13)) s) ∧ (¬ (s.1 0 15) = 0 → k 99 s)) ∧ (x1 = 118 → tw_number s ((s.1 0 12)) (fun r112 s112 => k r112 s112)) ∧ (¬ x1 = 104 → ¬ x1 = 107 → ¬ x1 = 108 → ¬ x1 = 116 → ¬ x1 = 118 → ((s.1 0 15) = 0 → vp_in (s.1 0 13) 92 ∧ k (((s.1 1 ((s.1 0 13) : Int32).toNatClampNeg) / 10)) s) ∧ (¬ (s.1 0 15) = 0 → k 99 s))
set_option maxHeartbeats 4000000 in
theorem wk_valueOf (l : Launch) (D : va_G) (T : xT) (q : Nat → Nat) (s : TS) (x1 : Int32) (k : Int32 → TS → Prop) (h : tw_valueOf s x1 k) : XM l D T yX6_valueOf cX6_valueOf 2 (some .int) 3 0 0 [.ref (q 0), .int x1] (tw T q s) (tpostI T q k) := by
  refine XM.start (by decide +kernel) (Nat.le_of_ble_eq_true rfl) (fun Γ G X _ hl_ => ?_)
  subst hl_
  refine K.less [0, 1] (lv' := [(0, .ref (q 0)), (1, .int x1)]) rfl ?_
  unfold tw_valueOf at h
  refine k_iload_n G dX6_valueOf_0 rfl ?_
  obtain ⟨h0_, h1_, h2_, h3_, h4_, hD_⟩ := h
  by_cases c1_0 : x1 = 104
  · refine k_tswIn G 104 c1_0 116 dX6_valueOf_1 (by decide +kernel) (by decide +kernel) rfl (by decide) ?_
    have h := h0_ c1_0
    clear h0_ h1_ h2_ h3_ h4_ hD_
    refine k_aload_n G dX6_valueOf_116 rfl ?_
    refine kt_get G tf_s rfl dX6_valueOf_117 rfl ?_
    refine k_iconst G dX6_valueOf_120 kc_i_4 ?_
    obtain ⟨h1, h⟩ := h
    refine kt_iald G tA_1 dX6_valueOf_121 h1 ?_
    refine k_bipush G dX6_valueOf_122 kc_b_60 ?_
    refine k_irem G dX6_valueOf_124 (by decide) ?_
    exact k_iret G X dX6_valueOf_125 (Nat.le_refl _) (Nat.le_refl _) ⟨_, _, rfl, rfl, h⟩
  by_cases c1_1 : x1 = 107
  · refine k_tswIn G 107 c1_1 81 dX6_valueOf_1 (by decide +kernel) (by decide +kernel) rfl (by decide) ?_
    have h := h1_ c1_1
    clear h0_ h1_ h2_ h3_ h4_ hD_
    refine k_aload_n G dX6_valueOf_81 rfl ?_
    refine k_aload_n G dX6_valueOf_82 rfl ?_
    refine kt_get G tf_loaf rfl dX6_valueOf_83 rfl ?_
    refine kt_callI G (wk_kind _ D T q _ _ _ h) cf_kind q1575 dX6_valueOf_86 rfl rfl (Nat.le_of_ble_eq_true rfl) (Nat.le_of_ble_eq_true rfl) (fun r86 s86 h => ?_)
    exact k_iret G X dX6_valueOf_89 (Nat.le_refl _) (Nat.le_refl _) ⟨_, _, rfl, rfl, h⟩
  by_cases c1_2 : x1 = 108
  · refine k_tswIn G 108 c1_2 76 dX6_valueOf_1 (by decide +kernel) (by decide +kernel) rfl (by decide) ?_
    have h := h2_ c1_2
    clear h0_ h1_ h2_ h3_ h4_ hD_
    refine k_aload_n G dX6_valueOf_76 rfl ?_
    refine kt_get G tf_loaf rfl dX6_valueOf_77 rfl ?_
    exact k_iret G X dX6_valueOf_80 (Nat.le_refl _) (Nat.le_refl _) ⟨_, _, rfl, rfl, h⟩
  by_cases c1_3 : x1 = 116
  · refine k_tswIn G 116 c1_3 90 dX6_valueOf_1 (by decide +kernel) (by decide +kernel) rfl (by decide) ?_
    have h := h3_ c1_3
    clear h0_ h1_ h2_ h3_ h4_ hD_
    refine k_aload_n G dX6_valueOf_90 rfl ?_
    refine kt_get G tf_isFee rfl dX6_valueOf_91 rfl ?_
    obtain ⟨hA, hB⟩ := h
    refine k_if_eq G 102 dX6_valueOf_94 (by decide) (fun c94 => ?_) (fun c94 => ?_)
    · have h := hA c94
      clear hA hB
      refine k_aload_n G dX6_valueOf_102 rfl ?_
      refine kt_get G tf_taste rfl dX6_valueOf_103 rfl ?_
      exact k_iret G X dX6_valueOf_106 (Nat.le_refl _) (Nat.le_refl _) ⟨_, _, rfl, rfl, h⟩
    · have h := hB c94
      clear hA hB
      refine k_bipush G dX6_valueOf_97 kc_b_99 ?_
      refine k_goto G 106 dX6_valueOf_99 (by decide) ?_
      exact k_iret G X dX6_valueOf_106 (Nat.le_refl _) (Nat.le_refl _) ⟨_, _, rfl, rfl, h⟩
  by_cases c1_4 : x1 = 118
  · refine k_tswIn G 118 c1_4 107 dX6_valueOf_1 (by decide +kernel) (by decide +kernel) rfl (by decide) ?_
    have h := h4_ c1_4
    clear h0_ h1_ h2_ h3_ h4_ hD_
    refine k_aload_n G dX6_valueOf_107 rfl ?_
    refine k_aload_n G dX6_valueOf_108 rfl ?_
    refine kt_get G tf_loaf rfl dX6_valueOf_109 rfl ?_
    refine kt_callI G (wk_number _ D T q _ _ _ h) cf_number q1583 dX6_valueOf_112 rfl rfl (Nat.le_of_ble_eq_true rfl) (Nat.le_of_ble_eq_true rfl) (fun r112 s112 h => ?_)
    exact k_iret G X dX6_valueOf_115 (Nat.le_refl _) (Nat.le_refl _) ⟨_, _, rfl, rfl, h⟩
  refine k_tswD G [104, 107, 108, 116, 118] 126 dX6_valueOf_1 (by decide +kernel) (by decide +kernel) (List.forall_mem_cons.mpr ⟨c1_0, List.forall_mem_cons.mpr ⟨c1_1, List.forall_mem_cons.mpr ⟨c1_2, List.forall_mem_cons.mpr ⟨c1_3, List.forall_mem_cons.mpr ⟨c1_4, fun _ h => absurd h List.not_mem_nil⟩⟩⟩⟩⟩) (by decide) ?_
  have h := hD_ c1_0 c1_1 c1_2 c1_3 c1_4
  clear h0_ h1_ h2_ h3_ h4_ hD_
  refine k_aload_n G dX6_valueOf_126 rfl ?_
  refine kt_get G tf_isFee rfl dX6_valueOf_127 rfl ?_
  obtain ⟨hA, hB⟩ := h
  refine k_if_eq G 138 dX6_valueOf_130 (by decide) (fun c130 => ?_) (fun c130 => ?_)
  · have h := hA c130
    clear hA hB
    refine k_aload_n G dX6_valueOf_138 rfl ?_
    refine kt_get G tf_s rfl dX6_valueOf_139 rfl ?_
    refine k_aload_n G dX6_valueOf_142 rfl ?_
    refine kt_get G tf_taste rfl dX6_valueOf_143 rfl ?_
    obtain ⟨h1, h⟩ := h
    refine kt_iald G tA_1 dX6_valueOf_146 h1 ?_
    refine k_bipush G dX6_valueOf_147 kc_b_10 ?_
    refine k_idiv G dX6_valueOf_149 (by decide) ?_
    exact k_iret G X dX6_valueOf_150 (Nat.le_refl _) (Nat.le_refl _) ⟨_, _, rfl, rfl, h⟩
  · have h := hB c130
    clear hA hB
    refine k_bipush G dX6_valueOf_133 kc_b_99 ?_
    refine k_goto G 150 dX6_valueOf_135 (by decide) ?_
    exact k_iret G X dX6_valueOf_150 (Nat.le_refl _) (Nat.le_refl _) ⟨_, _, rfl, rfl, h⟩
def pw_isLetter_J36 (k : Int32 → Prop) : Prop := k 1
def pw_isLetter (x0 : Int32) (k : Int32 → Prop) : Prop := (x0 = 108 → pw_isLetter_J36 k) ∧ (¬ x0 = 108 → (x0 = 107 → pw_isLetter_J36 k) ∧ (¬ x0 = 107 → (x0 = 116 → pw_isLetter_J36 k) ∧ (¬ x0 = 116 → (x0 = 118 → pw_isLetter_J36 k) ∧ (¬ x0 = 118 → (x0 = 104 → pw_isLetter_J36 k) ∧ (¬ x0 = 104 → (¬ x0 = 111 → k 0) ∧ (x0 = 111 → pw_isLetter_J36 k))))))
set_option maxHeartbeats 4000000 in
theorem wk_isLetter (l : Launch) (D : va_G) (T : xT) (x0 : Int32) (k : Int32 → Prop) (h : pw_isLetter x0 k) : XM l D T yX6_isLetter cX6_isLetter 1 (some .boolean) 1 0 0 [.int x0] [] (ppostI k) := by
  refine XM.start (by decide +kernel) (Nat.le_of_ble_eq_true rfl) (fun Γ G X _ hl_ => ?_)
  subst hl_
  have hJ36 : pw_isLetter_J36 k → K D Γ 0 0 36 [] [] [] := by
    intro h
    unfold pw_isLetter_J36 at h
    refine k_iconst G dX6_isLetter_36 kc_i_1 ?_
    refine k_goto G 41 dX6_isLetter_37 (by decide) ?_
    exact k_zret G X (Or.inr rfl) dX6_isLetter_41 (Nat.le_refl _) (Nat.le_refl _) ⟨_, rfl, rfl, h⟩
  refine K.less [0] (lv' := [(0, .int x0)]) rfl ?_
  unfold pw_isLetter at h
  refine k_iload_n G dX6_isLetter_0 rfl ?_
  refine k_bipush G dX6_isLetter_1 kc_b_108 ?_
  obtain ⟨hA, hB⟩ := h
  refine k_icmp_eq G 36 dX6_isLetter_3 (by decide) (fun c3 => ?_) (fun c3 => ?_)
  · have h := hA c3
    clear hA hB
    refine K.less [] rfl ?_
    exact hJ36 h
  · have h := hB c3
    clear hA hB
    refine k_iload_n G dX6_isLetter_6 rfl ?_
    refine k_bipush G dX6_isLetter_7 kc_b_107 ?_
    obtain ⟨hA, hB⟩ := h
    refine k_icmp_eq G 36 dX6_isLetter_9 (by decide) (fun c9 => ?_) (fun c9 => ?_)
    · have h := hA c9
      clear hA hB
      refine K.less [] rfl ?_
      exact hJ36 h
    · have h := hB c9
      clear hA hB
      refine k_iload_n G dX6_isLetter_12 rfl ?_
      refine k_bipush G dX6_isLetter_13 kc_b_116 ?_
      obtain ⟨hA, hB⟩ := h
      refine k_icmp_eq G 36 dX6_isLetter_15 (by decide) (fun c15 => ?_) (fun c15 => ?_)
      · have h := hA c15
        clear hA hB
        refine K.less [] rfl ?_
        exact hJ36 h
      · have h := hB c15
        clear hA hB
        refine k_iload_n G dX6_isLetter_18 rfl ?_
        refine k_bipush G dX6_isLetter_19 kc_b_118 ?_
        obtain ⟨hA, hB⟩ := h
        refine k_icmp_eq G 36 dX6_isLetter_21 (by decide) (fun c21 => ?_) (fun c21 => ?_)
        · have h := hA c21
          clear hA hB
          refine K.less [] rfl ?_
          exact hJ36 h
        · have h := hB c21
          clear hA hB
          refine k_iload_n G dX6_isLetter_24 rfl ?_
          refine k_bipush G dX6_isLetter_25 kc_b_104 ?_
          obtain ⟨hA, hB⟩ := h
          refine k_icmp_eq G 36 dX6_isLetter_27 (by decide) (fun c27 => ?_) (fun c27 => ?_)
          · have h := hA c27
            clear hA hB
            refine K.less [] rfl ?_
            exact hJ36 h
          · have h := hB c27
            clear hA hB
            refine k_iload_n G dX6_isLetter_30 rfl ?_
            refine k_bipush G dX6_isLetter_31 kc_b_111 ?_
            obtain ⟨hA, hB⟩ := h
            refine k_icmp_ne G 40 dX6_isLetter_33 (by decide) (fun c33 => ?_) (fun c33 => ?_)
            · have h := hA c33
              clear hA hB
              refine k_iconst G dX6_isLetter_40 kc_i_0 ?_
              exact k_zret G X (Or.inl rfl) dX6_isLetter_41 (Nat.le_refl _) (Nat.le_refl _) ⟨_, rfl, rfl, h⟩
            · have h := hB c33
              clear hA hB
              refine K.less [] rfl ?_
              exact hJ36 h
def tw_readsTest_J59 (k : Int32 → TS → Prop) (x1 : Int32) (x2 : Int32) (s : TS) : Prop := ∀ w70 : TS, w70 = (sA s 0 11 ((s.1 0 11) + 1)) → tw_readsNumber w70 (fun r70 s70 => (¬ (s70.1 0 14) = 0 → k 0 s70) ∧ ((s70.1 0 14) = 0 → vp_in 5 92 ∧ (¬ (s70.1 1 (5 : Int32).toNatClampNeg) = 0 → tw_valueOf s70 x1 (fun r94 s94 => (¬ x2 = 60 → (¬ x2 = 61 → (r94 ≤ r70 → k 0 s94) ∧ (¬ r94 ≤ r70 → k 1 s94)) ∧ (x2 = 61 → (¬ r94 = r70 → k 0 s94) ∧ (r94 = r70 → k 1 s94))) ∧ (x2 = 60 → (r70 ≤ r94 → k 0 s94) ∧ (¬ r70 ≤ r94 → k 1 s94)))) ∧ ((s70.1 1 (5 : Int32).toNatClampNeg) = 0 → k 0 s70)))
def tw_readsTest (s : TS) (k : Int32 → TS → Prop) : Prop := tw_here s (fun r1 s1 => pw_isLetter r1 (fun r6 => (¬ r6 = 0 → ∀ w30 : TS, w30 = (sA s1 0 11 ((s1.1 0 11) + 1)) → tw_here w30 (fun r30 s30 => (r30 = 60 → tw_readsTest_J59 k r1 r30 s30) ∧ (¬ r30 = 60 → (r30 = 61 → tw_readsTest_J59 k r1 r30 s30) ∧ (¬ r30 = 61 → (r30 = 62 → tw_readsTest_J59 k r1 r30 s30) ∧ (¬ r30 = 62 → k 0 ((sA s30 0 14 1))))))) ∧ (r6 = 0 → k 0 ((sA s1 0 14 1)))))
set_option maxHeartbeats 4000000 in
theorem wk_readsTest (l : Launch) (D : va_G) (T : xT) (q : Nat → Nat) (s : TS) (k : Int32 → TS → Prop) (h : tw_readsTest s k) : XM l D T yX6_readsTest cX6_readsTest 5 (some .boolean) 4 0 0 [.ref (q 0)] (tw T q s) (tpostI T q k) := by
  refine XM.start (by decide +kernel) (Nat.le_of_ble_eq_true rfl) (fun Γ G X _ hl_ => ?_)
  subst hl_
  have hJ59 : ∀ (x1 : Int32) (x2 : Int32) (s : TS), tw_readsTest_J59 k x1 x2 s → K D Γ 0 0 59 [(0, .ref (q 0)), (1, .int x1), (2, .int x2)] [] (tw T q s) := by
    intro x1 x2 s h
    unfold tw_readsTest_J59 at h
    refine k_aload_n G dX6_readsTest_59 rfl ?_
    refine k_dup G dX6_readsTest_60 rfl ?_
    refine kt_get G tf_at rfl dX6_readsTest_61 rfl ?_
    refine k_iconst G dX6_readsTest_64 kc_i_1 ?_
    refine k_iadd G dX6_readsTest_65 ?_
    refine kt_put G tp_at rfl dX6_readsTest_66 ?_
    refine k_aload_n G dX6_readsTest_69 rfl ?_
    refine kt_nmW (fun w70 ew70 => ?_)
    have h := h w70 ew70
    refine kt_callI G (wk_readsNumber _ D T q _ _ h) cf_readsNumber q1544 dX6_readsTest_70 rfl rfl (Nat.le_of_ble_eq_true rfl) (Nat.le_of_ble_eq_true rfl) (fun r70 s70 h => ?_)
    refine k_istore_n G [(3, .int r70), (0, .ref (q 0)), (1, .int x1), (2, .int x2)] dX6_readsTest_73 rfl (Nat.le_of_ble_eq_true rfl) rfl ?_
    refine k_aload_n G dX6_readsTest_74 rfl ?_
    refine kt_get G tf_wrong rfl dX6_readsTest_75 rfl ?_
    obtain ⟨hA, hB⟩ := h
    refine k_if_ne G 90 dX6_readsTest_78 (by decide) (fun c78 => ?_) (fun c78 => ?_)
    · have h := hA c78
      clear hA hB
      refine k_iconst G dX6_readsTest_90 kc_i_0 ?_
      exact k_zret G X (Or.inl rfl) dX6_readsTest_91 (Nat.le_refl _) (Nat.le_refl _) ⟨_, _, rfl, rfl, h⟩
    · have h := hB c78
      clear hA hB
      refine k_aload_n G dX6_readsTest_81 rfl ?_
      refine kt_get G tf_s rfl dX6_readsTest_82 rfl ?_
      refine k_iconst G dX6_readsTest_85 kc_i_5 ?_
      obtain ⟨h1, h⟩ := h
      refine kt_iald G tA_1 dX6_readsTest_86 h1 ?_
      obtain ⟨hA, hB⟩ := h
      refine k_if_ne G 92 dX6_readsTest_87 (by decide) (fun c87 => ?_) (fun c87 => ?_)
      · have h := hA c87
        clear hA hB
        refine k_aload_n G dX6_readsTest_92 rfl ?_
        refine k_iload_n G dX6_readsTest_93 rfl ?_
        refine kt_callI G (wk_valueOf _ D T q _ _ _ h) cf_valueOf q1571 dX6_readsTest_94 rfl rfl (Nat.le_of_ble_eq_true rfl) (Nat.le_of_ble_eq_true rfl) (fun r94 s94 h => ?_)
        refine k_istore G [(4, .int r94), (3, .int r70), (0, .ref (q 0)), (1, .int x1), (2, .int x2)] dX6_readsTest_97 (Nat.le_of_ble_eq_true rfl) rfl ?_
        refine k_iload_n G dX6_readsTest_99 rfl ?_
        refine k_bipush G dX6_readsTest_100 kc_b_60 ?_
        obtain ⟨hA, hB⟩ := h
        refine k_icmp_ne G 119 dX6_readsTest_102 (by decide) (fun c102 => ?_) (fun c102 => ?_)
        · have h := hA c102
          clear hA hB
          refine k_iload_n G dX6_readsTest_119 rfl ?_
          refine k_bipush G dX6_readsTest_120 kc_b_61 ?_
          obtain ⟨hA, hB⟩ := h
          refine k_icmp_ne G 139 dX6_readsTest_122 (by decide) (fun c122 => ?_) (fun c122 => ?_)
          · have h := hA c122
            clear hA hB
            refine k_iload G dX6_readsTest_139 rfl ?_
            refine k_iload_n G dX6_readsTest_141 rfl ?_
            obtain ⟨hA, hB⟩ := h
            refine k_icmp_le G 149 dX6_readsTest_142 (by decide) (fun c142 => ?_) (fun c142 => ?_)
            · have h := hA c142
              clear hA hB
              refine k_iconst G dX6_readsTest_149 kc_i_0 ?_
              exact k_zret G X (Or.inl rfl) dX6_readsTest_150 (Nat.le_refl _) (Nat.le_refl _) ⟨_, _, rfl, rfl, h⟩
            · have h := hB c142
              clear hA hB
              refine k_iconst G dX6_readsTest_145 kc_i_1 ?_
              refine k_goto G 150 dX6_readsTest_146 (by decide) ?_
              exact k_zret G X (Or.inr rfl) dX6_readsTest_150 (Nat.le_refl _) (Nat.le_refl _) ⟨_, _, rfl, rfl, h⟩
          · have h := hB c122
            clear hA hB
            refine k_iload G dX6_readsTest_125 rfl ?_
            refine k_iload_n G dX6_readsTest_127 rfl ?_
            obtain ⟨hA, hB⟩ := h
            refine k_icmp_ne G 135 dX6_readsTest_128 (by decide) (fun c128 => ?_) (fun c128 => ?_)
            · have h := hA c128
              clear hA hB
              refine k_iconst G dX6_readsTest_135 kc_i_0 ?_
              refine k_goto G 150 dX6_readsTest_136 (by decide) ?_
              exact k_zret G X (Or.inl rfl) dX6_readsTest_150 (Nat.le_refl _) (Nat.le_refl _) ⟨_, _, rfl, rfl, h⟩
            · have h := hB c128
              clear hA hB
              refine k_iconst G dX6_readsTest_131 kc_i_1 ?_
              refine k_goto G 150 dX6_readsTest_132 (by decide) ?_
              exact k_zret G X (Or.inr rfl) dX6_readsTest_150 (Nat.le_refl _) (Nat.le_refl _) ⟨_, _, rfl, rfl, h⟩
        · have h := hB c102
          clear hA hB
          refine k_iload G dX6_readsTest_105 rfl ?_
          refine k_iload_n G dX6_readsTest_107 rfl ?_
          obtain ⟨hA, hB⟩ := h
          refine k_icmp_ge G 115 dX6_readsTest_108 (by decide) (fun c108 => ?_) (fun c108 => ?_)
          · have h := hA c108
            clear hA hB
            refine k_iconst G dX6_readsTest_115 kc_i_0 ?_
            refine k_goto G 150 dX6_readsTest_116 (by decide) ?_
            exact k_zret G X (Or.inl rfl) dX6_readsTest_150 (Nat.le_refl _) (Nat.le_refl _) ⟨_, _, rfl, rfl, h⟩
          · have h := hB c108
            clear hA hB
            refine k_iconst G dX6_readsTest_111 kc_i_1 ?_
            refine k_goto G 150 dX6_readsTest_112 (by decide) ?_
            exact k_zret G X (Or.inr rfl) dX6_readsTest_150 (Nat.le_refl _) (Nat.le_refl _) ⟨_, _, rfl, rfl, h⟩
      · have h := hB c87
        clear hA hB
        refine k_iconst G dX6_readsTest_90 kc_i_0 ?_
        exact k_zret G X (Or.inl rfl) dX6_readsTest_91 (Nat.le_refl _) (Nat.le_refl _) ⟨_, _, rfl, rfl, h⟩
  refine K.less [0] (lv' := [(0, .ref (q 0))]) rfl ?_
  unfold tw_readsTest at h
  refine k_aload_n G dX6_readsTest_0 rfl ?_
  refine kt_callI G (wk_here _ D T q _ _ h) cf_here q1526 dX6_readsTest_1 rfl rfl (Nat.le_of_ble_eq_true rfl) (Nat.le_of_ble_eq_true rfl) (fun r1 s1 h => ?_)
  refine k_istore_n G [(1, .int r1), (0, .ref (q 0))] dX6_readsTest_4 rfl (Nat.le_of_ble_eq_true rfl) rfl ?_
  refine k_iload_n G dX6_readsTest_5 rfl ?_
  refine k_callPI G (wk_isLetter _ D T _ _ h) cf_isLetter q1568 dX6_readsTest_6 rfl rfl (Nat.le_of_ble_eq_true rfl) (Nat.le_of_ble_eq_true rfl) ⟨Nat.zero_le _, Nat.zero_le _⟩ (fun r6 h => ?_)
  obtain ⟨hA, hB⟩ := h
  refine k_if_ne G 19 dX6_readsTest_9 (by decide) (fun c9 => ?_) (fun c9 => ?_)
  · have h := hA c9
    clear hA hB
    refine k_aload_n G dX6_readsTest_19 rfl ?_
    refine k_dup G dX6_readsTest_20 rfl ?_
    refine kt_get G tf_at rfl dX6_readsTest_21 rfl ?_
    refine k_iconst G dX6_readsTest_24 kc_i_1 ?_
    refine k_iadd G dX6_readsTest_25 ?_
    refine kt_put G tp_at rfl dX6_readsTest_26 ?_
    refine k_aload_n G dX6_readsTest_29 rfl ?_
    refine kt_nmW (fun w30 ew30 => ?_)
    have h := h w30 ew30
    refine kt_callI G (wk_here _ D T q _ _ h) cf_here q1526 dX6_readsTest_30 rfl rfl (Nat.le_of_ble_eq_true rfl) (Nat.le_of_ble_eq_true rfl) (fun r30 s30 h => ?_)
    refine k_istore_n G [(2, .int r30), (1, .int r1), (0, .ref (q 0))] dX6_readsTest_33 rfl (Nat.le_of_ble_eq_true rfl) rfl ?_
    refine k_iload_n G dX6_readsTest_34 rfl ?_
    refine k_bipush G dX6_readsTest_35 kc_b_60 ?_
    obtain ⟨hA, hB⟩ := h
    refine k_icmp_eq G 59 dX6_readsTest_37 (by decide) (fun c37 => ?_) (fun c37 => ?_)
    · have h := hA c37
      clear hA hB
      refine K.less [2, 1, 0] rfl ?_
      exact hJ59 _ _ _ h
    · have h := hB c37
      clear hA hB
      refine k_iload_n G dX6_readsTest_40 rfl ?_
      refine k_bipush G dX6_readsTest_41 kc_b_61 ?_
      obtain ⟨hA, hB⟩ := h
      refine k_icmp_eq G 59 dX6_readsTest_43 (by decide) (fun c43 => ?_) (fun c43 => ?_)
      · have h := hA c43
        clear hA hB
        refine K.less [2, 1, 0] rfl ?_
        exact hJ59 _ _ _ h
      · have h := hB c43
        clear hA hB
        refine k_iload_n G dX6_readsTest_46 rfl ?_
        refine k_bipush G dX6_readsTest_47 kc_b_62 ?_
        obtain ⟨hA, hB⟩ := h
        refine k_icmp_eq G 59 dX6_readsTest_49 (by decide) (fun c49 => ?_) (fun c49 => ?_)
        · have h := hA c49
          clear hA hB
          refine K.less [2, 1, 0] rfl ?_
          exact hJ59 _ _ _ h
        · have h := hB c49
          clear hA hB
          refine k_aload_n G dX6_readsTest_52 rfl ?_
          refine k_iconst G dX6_readsTest_53 kc_i_1 ?_
          refine kt_putZ G tp_wrong rfl (Or.inr rfl) dX6_readsTest_54 ?_
          refine k_iconst G dX6_readsTest_57 kc_i_0 ?_
          exact k_zret G X (Or.inl rfl) dX6_readsTest_58 (Nat.le_refl _) (Nat.le_refl _) ⟨_, _, rfl, rfl, h⟩
  · have h := hB c9
    clear hA hB
    refine k_aload_n G dX6_readsTest_12 rfl ?_
    refine k_iconst G dX6_readsTest_13 kc_i_1 ?_
    refine kt_putZ G tp_wrong rfl (Or.inr rfl) dX6_readsTest_14 ?_
    refine k_iconst G dX6_readsTest_17 kc_i_0 ?_
    exact k_zret G X (Or.inl rfl) dX6_readsTest_18 (Nat.le_refl _) (Nat.le_refl _) ⟨_, _, rfl, rfl, h⟩
def tb_readsT_J51 (c_readsF : TS → Int32 → (Int32 → TS → Prop) → Prop) (kL6 : Int32 → Int32 → TS → Prop) (k : Int32 → TS → Prop) (x1 : Int32) (y0 : Int32) (s : TS) : Prop := kL6 x1 y0 s
def tb_readsT_J50 (c_readsF : TS → Int32 → (Int32 → TS → Prop) → Prop) (kL6 : Int32 → Int32 → TS → Prop) (k : Int32 → TS → Prop) (x1 : Int32) (s : TS) : Prop := tb_readsT_J51 c_readsF kL6 k x1 0 s
def tb_readsT_L6 (c_readsF : TS → Int32 → (Int32 → TS → Prop) → Prop) (k : Int32 → TS → Prop) : Nat → Int32 → Int32 → TS → Prop
  | 0, _, _, _ => False
  | n + 1, x1, x2, s => (¬ (s.1 0 14) = 0 → (x2 = 0 ∨ x2 = 1) ∧ k x2 s) ∧ ((s.1 0 14) = 0 → tw_here s (fun r14 s14 => (¬ r14 = 38 → (x2 = 0 ∨ x2 = 1) ∧ k x2 s14) ∧ (r14 = 38 → ∀ w34 : TS, w34 = (sA s14 0 11 ((s14.1 0 11) + 1)) → c_readsF w34 x1 (fun r34 s34 => (x2 = 0 → tb_readsT_J50 c_readsF (fun x1 x2 s => tb_readsT_L6 c_readsF k n x1 x2 s) k x1 s34) ∧ (¬ x2 = 0 → (r34 = 0 → tb_readsT_J50 c_readsF (fun x1 x2 s => tb_readsT_L6 c_readsF k n x1 x2 s) k x1 s34) ∧ (¬ r34 = 0 → tb_readsT_J51 c_readsF (fun x1 x2 s => tb_readsT_L6 c_readsF k n x1 x2 s) k x1 1 s34))))))
def tb_readsT (c_readsF : TS → Int32 → (Int32 → TS → Prop) → Prop) (s : TS) (x1 : Int32) (k : Int32 → TS → Prop) : Prop := c_readsF s x1 (fun r2 s2 => ∃ n6 : Nat, tb_readsT_L6 c_readsF k n6 x1 r2 s2)
set_option maxHeartbeats 4000000 in
theorem wb_readsT (l : Launch) (D : va_G) (T : xT) (q : Nat → Nat) (lev : Nat) (c_readsF : TS → Int32 → (Int32 → TS → Prop) → Prop) (l_readsF : Nat) (hl_readsF : l_readsF + 1 ≤ lev) (w_readsF : ∀ (s : TS) (x1 : Int32) (k : Int32 → TS → Prop), c_readsF s x1 k → XM l D T yX6_readsF cX6_readsF 4 (some .boolean) l_readsF 0 0 [.ref (q 0), .int x1] (tw T q s) (tpostI T q k)) (hlev : 2 ≤ lev) (s : TS) (x1 : Int32) (k : Int32 → TS → Prop) (h : tb_readsT c_readsF s x1 k) : XM l D T yX6_readsT cX6_readsT 4 (some .boolean) lev 0 0 [.ref (q 0), .int x1] (tw T q s) (tpostI T q k) := by
  refine XM.start (by decide +kernel) (Nat.le_of_ble_eq_true rfl) (fun Γ G X _ hl_ => ?_)
  subst hl_
  have hJ51 : ∀ (kL6 : Int32 → Int32 → TS → Prop) (ih6 : ∀ (x1 : Int32) (x2 : Int32) (s : TS), kL6 x1 x2 s → K D Γ 0 0 6 [(0, .ref (q 0)), (1, .int x1), (2, .int x2)] [] (tw T q s)) (x1 : Int32) (y0 : Int32) (s : TS), tb_readsT_J51 c_readsF kL6 k x1 y0 s → K D Γ 0 0 51 [(0, .ref (q 0)), (1, .int x1)] [.int y0] (tw T q s) := by
    intro kL6 ih6 x1 y0 s h
    unfold tb_readsT_J51 at h
    refine k_istore_n G [(2, .int y0), (0, .ref (q 0)), (1, .int x1)] dX6_readsT_51 rfl (Nat.le_of_ble_eq_true rfl) rfl ?_
    refine k_goto G 6 dX6_readsT_52 (by decide) ?_
    refine K.less [1, 2, 0] rfl ?_
    exact ih6 _ _ _ h
  have hJ50 : ∀ (kL6 : Int32 → Int32 → TS → Prop) (ih6 : ∀ (x1 : Int32) (x2 : Int32) (s : TS), kL6 x1 x2 s → K D Γ 0 0 6 [(0, .ref (q 0)), (1, .int x1), (2, .int x2)] [] (tw T q s)) (x1 : Int32) (s : TS), tb_readsT_J50 c_readsF kL6 k x1 s → K D Γ 0 0 50 [(0, .ref (q 0)), (1, .int x1)] [] (tw T q s) := by
    intro kL6 ih6 x1 s h
    unfold tb_readsT_J50 at h
    refine k_iconst G dX6_readsT_50 kc_i_0 ?_
    exact hJ51 _ ih6 _ _ _ h
  have hL6 : ∀ n : Nat, ∀ (x1 : Int32) (x2 : Int32) (s : TS), (tb_readsT_L6 c_readsF k n) x1 x2 s → K D Γ 0 0 6 [(0, .ref (q 0)), (1, .int x1), (2, .int x2)] [] (tw T q s) := by
    intro n
    induction n with
    | zero =>
      intro _ _ _ h
      exact h.elim
    | succ n ih6 =>
      intro x1 x2 s h
      unfold tb_readsT_L6 at h
      refine k_aload_n G dX6_readsT_6 rfl ?_
      refine kt_get G tf_wrong rfl dX6_readsT_7 rfl ?_
      obtain ⟨hA, hB⟩ := h
      refine k_if_ne G 55 dX6_readsT_10 (by decide) (fun c10 => ?_) (fun c10 => ?_)
      · have h := hA c10
        clear hA hB
        refine k_iload_n G dX6_readsT_55 rfl ?_
        obtain ⟨hz, h⟩ := h
        exact k_zret G X hz dX6_readsT_56 (Nat.le_refl _) (Nat.le_refl _) ⟨_, _, rfl, rfl, h⟩
      · have h := hB c10
        clear hA hB
        refine k_aload_n G dX6_readsT_13 rfl ?_
        refine kt_callI G (wk_here _ D T q _ _ h) cf_here q1526 dX6_readsT_14 rfl rfl (Nat.le_of_ble_eq_true rfl) (Nat.le_trans (Nat.le_of_ble_eq_true rfl) hlev) (fun r14 s14 h => ?_)
        refine k_bipush G dX6_readsT_17 kc_b_38 ?_
        obtain ⟨hA, hB⟩ := h
        refine k_icmp_ne G 55 dX6_readsT_19 (by decide) (fun c19 => ?_) (fun c19 => ?_)
        · have h := hA c19
          clear hA hB
          refine k_iload_n G dX6_readsT_55 rfl ?_
          obtain ⟨hz, h⟩ := h
          exact k_zret G X hz dX6_readsT_56 (Nat.le_refl _) (Nat.le_refl _) ⟨_, _, rfl, rfl, h⟩
        · have h := hB c19
          clear hA hB
          refine k_aload_n G dX6_readsT_22 rfl ?_
          refine k_dup G dX6_readsT_23 rfl ?_
          refine kt_get G tf_at rfl dX6_readsT_24 rfl ?_
          refine k_iconst G dX6_readsT_27 kc_i_1 ?_
          refine k_iadd G dX6_readsT_28 ?_
          refine kt_put G tp_at rfl dX6_readsT_29 ?_
          refine k_aload_n G dX6_readsT_32 rfl ?_
          refine k_iload_n G dX6_readsT_33 rfl ?_
          refine kt_nmW (fun w34 ew34 => ?_)
          have h := h w34 ew34
          refine kt_callI G (w_readsF _ _ _ h) cf_readsF q1560 dX6_readsT_34 rfl rfl (Nat.le_of_ble_eq_true rfl) hl_readsF (fun r34 s34 h => ?_)
          refine k_istore_n G [(3, .int r34), (0, .ref (q 0)), (1, .int x1), (2, .int x2)] dX6_readsT_37 rfl (Nat.le_of_ble_eq_true rfl) rfl ?_
          refine k_iload_n G dX6_readsT_38 rfl ?_
          obtain ⟨hA, hB⟩ := h
          refine k_if_eq G 50 dX6_readsT_39 (by decide) (fun c39 => ?_) (fun c39 => ?_)
          · have h := hA c39
            clear hA hB
            refine K.less [1, 2] rfl ?_
            exact hJ50 _ ih6 _ _ h
          · have h := hB c39
            clear hA hB
            refine k_iload_n G dX6_readsT_42 rfl ?_
            obtain ⟨hA, hB⟩ := h
            refine k_if_eq G 50 dX6_readsT_43 (by decide) (fun c43 => ?_) (fun c43 => ?_)
            · have h := hA c43
              clear hA hB
              refine K.less [1, 2] rfl ?_
              exact hJ50 _ ih6 _ _ h
            · have h := hB c43
              clear hA hB
              refine k_iconst G dX6_readsT_46 kc_i_1 ?_
              refine k_goto G 51 dX6_readsT_47 (by decide) ?_
              refine K.less [1, 2] rfl ?_
              exact hJ51 _ ih6 _ _ _ h
  refine K.less [0, 1] (lv' := [(0, .ref (q 0)), (1, .int x1)]) rfl ?_
  unfold tb_readsT at h
  refine k_aload_n G dX6_readsT_0 rfl ?_
  refine k_iload_n G dX6_readsT_1 rfl ?_
  refine kt_callI G (w_readsF _ _ _ h) cf_readsF q1560 dX6_readsT_2 rfl rfl (Nat.le_of_ble_eq_true rfl) hl_readsF (fun r2 s2 h => ?_)
  refine k_istore_n G [(2, .int r2), (0, .ref (q 0)), (1, .int x1)] dX6_readsT_5 rfl (Nat.le_of_ble_eq_true rfl) rfl ?_
  obtain ⟨n6, h⟩ := h
  refine K.less [1, 2, 0] rfl ?_
  exact hL6 n6 _ _ _ h

def tb_readsE_J51 (c_readsT : TS → Int32 → (Int32 → TS → Prop) → Prop) (kL6 : Int32 → Int32 → TS → Prop) (k : Int32 → TS → Prop) (x1 : Int32) (y0 : Int32) (s : TS) : Prop := kL6 x1 y0 s
def tb_readsE_J46 (c_readsT : TS → Int32 → (Int32 → TS → Prop) → Prop) (kL6 : Int32 → Int32 → TS → Prop) (k : Int32 → TS → Prop) (x1 : Int32) (s : TS) : Prop := tb_readsE_J51 c_readsT kL6 k x1 1 s
def tb_readsE_L6 (c_readsT : TS → Int32 → (Int32 → TS → Prop) → Prop) (k : Int32 → TS → Prop) : Nat → Int32 → Int32 → TS → Prop
  | 0, _, _, _ => False
  | n + 1, x1, x2, s => (¬ (s.1 0 14) = 0 → (x2 = 0 ∨ x2 = 1) ∧ k x2 s) ∧ ((s.1 0 14) = 0 → tw_here s (fun r14 s14 => (¬ r14 = 124 → (x2 = 0 ∨ x2 = 1) ∧ k x2 s14) ∧ (r14 = 124 → ∀ w34 : TS, w34 = (sA s14 0 11 ((s14.1 0 11) + 1)) → c_readsT w34 x1 (fun r34 s34 => (¬ x2 = 0 → tb_readsE_J46 c_readsT (fun x1 x2 s => tb_readsE_L6 c_readsT k n x1 x2 s) k x1 s34) ∧ (x2 = 0 → (r34 = 0 → tb_readsE_J51 c_readsT (fun x1 x2 s => tb_readsE_L6 c_readsT k n x1 x2 s) k x1 0 s34) ∧ (¬ r34 = 0 → tb_readsE_J46 c_readsT (fun x1 x2 s => tb_readsE_L6 c_readsT k n x1 x2 s) k x1 s34))))))
def tb_readsE (c_readsT : TS → Int32 → (Int32 → TS → Prop) → Prop) (s : TS) (x1 : Int32) (k : Int32 → TS → Prop) : Prop := c_readsT s x1 (fun r2 s2 => ∃ n6 : Nat, tb_readsE_L6 c_readsT k n6 x1 r2 s2)
set_option maxHeartbeats 4000000 in
theorem wb_readsE (l : Launch) (D : va_G) (T : xT) (q : Nat → Nat) (lev : Nat) (c_readsT : TS → Int32 → (Int32 → TS → Prop) → Prop) (l_readsT : Nat) (hl_readsT : l_readsT + 1 ≤ lev) (w_readsT : ∀ (s : TS) (x1 : Int32) (k : Int32 → TS → Prop), c_readsT s x1 k → XM l D T yX6_readsT cX6_readsT 4 (some .boolean) l_readsT 0 0 [.ref (q 0), .int x1] (tw T q s) (tpostI T q k)) (hlev : 2 ≤ lev) (s : TS) (x1 : Int32) (k : Int32 → TS → Prop) (h : tb_readsE c_readsT s x1 k) : XM l D T yX6_readsE cX6_readsE 4 (some .boolean) lev 0 0 [.ref (q 0), .int x1] (tw T q s) (tpostI T q k) := by
  refine XM.start (by decide +kernel) (Nat.le_of_ble_eq_true rfl) (fun Γ G X _ hl_ => ?_)
  subst hl_
  have hJ51 : ∀ (kL6 : Int32 → Int32 → TS → Prop) (ih6 : ∀ (x1 : Int32) (x2 : Int32) (s : TS), kL6 x1 x2 s → K D Γ 0 0 6 [(0, .ref (q 0)), (1, .int x1), (2, .int x2)] [] (tw T q s)) (x1 : Int32) (y0 : Int32) (s : TS), tb_readsE_J51 c_readsT kL6 k x1 y0 s → K D Γ 0 0 51 [(0, .ref (q 0)), (1, .int x1)] [.int y0] (tw T q s) := by
    intro kL6 ih6 x1 y0 s h
    unfold tb_readsE_J51 at h
    refine k_istore_n G [(2, .int y0), (0, .ref (q 0)), (1, .int x1)] dX6_readsE_51 rfl (Nat.le_of_ble_eq_true rfl) rfl ?_
    refine k_goto G 6 dX6_readsE_52 (by decide) ?_
    refine K.less [1, 2, 0] rfl ?_
    exact ih6 _ _ _ h
  have hJ46 : ∀ (kL6 : Int32 → Int32 → TS → Prop) (ih6 : ∀ (x1 : Int32) (x2 : Int32) (s : TS), kL6 x1 x2 s → K D Γ 0 0 6 [(0, .ref (q 0)), (1, .int x1), (2, .int x2)] [] (tw T q s)) (x1 : Int32) (s : TS), tb_readsE_J46 c_readsT kL6 k x1 s → K D Γ 0 0 46 [(0, .ref (q 0)), (1, .int x1)] [] (tw T q s) := by
    intro kL6 ih6 x1 s h
    unfold tb_readsE_J46 at h
    refine k_iconst G dX6_readsE_46 kc_i_1 ?_
    refine k_goto G 51 dX6_readsE_47 (by decide) ?_
    exact hJ51 _ ih6 _ _ _ h
  have hL6 : ∀ n : Nat, ∀ (x1 : Int32) (x2 : Int32) (s : TS), (tb_readsE_L6 c_readsT k n) x1 x2 s → K D Γ 0 0 6 [(0, .ref (q 0)), (1, .int x1), (2, .int x2)] [] (tw T q s) := by
    intro n
    induction n with
    | zero =>
      intro _ _ _ h
      exact h.elim
    | succ n ih6 =>
      intro x1 x2 s h
      unfold tb_readsE_L6 at h
      refine k_aload_n G dX6_readsE_6 rfl ?_
      refine kt_get G tf_wrong rfl dX6_readsE_7 rfl ?_
      obtain ⟨hA, hB⟩ := h
      refine k_if_ne G 55 dX6_readsE_10 (by decide) (fun c10 => ?_) (fun c10 => ?_)
      · have h := hA c10
        clear hA hB
        refine k_iload_n G dX6_readsE_55 rfl ?_
        obtain ⟨hz, h⟩ := h
        exact k_zret G X hz dX6_readsE_56 (Nat.le_refl _) (Nat.le_refl _) ⟨_, _, rfl, rfl, h⟩
      · have h := hB c10
        clear hA hB
        refine k_aload_n G dX6_readsE_13 rfl ?_
        refine kt_callI G (wk_here _ D T q _ _ h) cf_here q1526 dX6_readsE_14 rfl rfl (Nat.le_of_ble_eq_true rfl) (Nat.le_trans (Nat.le_of_ble_eq_true rfl) hlev) (fun r14 s14 h => ?_)
        refine k_bipush G dX6_readsE_17 kc_b_124 ?_
        obtain ⟨hA, hB⟩ := h
        refine k_icmp_ne G 55 dX6_readsE_19 (by decide) (fun c19 => ?_) (fun c19 => ?_)
        · have h := hA c19
          clear hA hB
          refine k_iload_n G dX6_readsE_55 rfl ?_
          obtain ⟨hz, h⟩ := h
          exact k_zret G X hz dX6_readsE_56 (Nat.le_refl _) (Nat.le_refl _) ⟨_, _, rfl, rfl, h⟩
        · have h := hB c19
          clear hA hB
          refine k_aload_n G dX6_readsE_22 rfl ?_
          refine k_dup G dX6_readsE_23 rfl ?_
          refine kt_get G tf_at rfl dX6_readsE_24 rfl ?_
          refine k_iconst G dX6_readsE_27 kc_i_1 ?_
          refine k_iadd G dX6_readsE_28 ?_
          refine kt_put G tp_at rfl dX6_readsE_29 ?_
          refine k_aload_n G dX6_readsE_32 rfl ?_
          refine k_iload_n G dX6_readsE_33 rfl ?_
          refine kt_nmW (fun w34 ew34 => ?_)
          have h := h w34 ew34
          refine kt_callI G (w_readsT _ _ _ h) cf_readsT q1556 dX6_readsE_34 rfl rfl (Nat.le_of_ble_eq_true rfl) hl_readsT (fun r34 s34 h => ?_)
          refine k_istore_n G [(3, .int r34), (0, .ref (q 0)), (1, .int x1), (2, .int x2)] dX6_readsE_37 rfl (Nat.le_of_ble_eq_true rfl) rfl ?_
          refine k_iload_n G dX6_readsE_38 rfl ?_
          obtain ⟨hA, hB⟩ := h
          refine k_if_ne G 46 dX6_readsE_39 (by decide) (fun c39 => ?_) (fun c39 => ?_)
          · have h := hA c39
            clear hA hB
            refine K.less [1, 2] rfl ?_
            exact hJ46 _ ih6 _ _ h
          · have h := hB c39
            clear hA hB
            refine k_iload_n G dX6_readsE_42 rfl ?_
            obtain ⟨hA, hB⟩ := h
            refine k_if_eq G 50 dX6_readsE_43 (by decide) (fun c43 => ?_) (fun c43 => ?_)
            · have h := hA c43
              clear hA hB
              refine k_iconst G dX6_readsE_50 kc_i_0 ?_
              refine K.less [1, 2] rfl ?_
              exact hJ51 _ ih6 _ _ _ h
            · have h := hB c43
              clear hA hB
              refine K.less [1, 2] rfl ?_
              exact hJ46 _ ih6 _ _ h
  refine K.less [0, 1] (lv' := [(0, .ref (q 0)), (1, .int x1)]) rfl ?_
  unfold tb_readsE at h
  refine k_aload_n G dX6_readsE_0 rfl ?_
  refine k_iload_n G dX6_readsE_1 rfl ?_
  refine kt_callI G (w_readsT _ _ _ h) cf_readsT q1556 dX6_readsE_2 rfl rfl (Nat.le_of_ble_eq_true rfl) hl_readsT (fun r2 s2 h => ?_)
  refine k_istore_n G [(2, .int r2), (0, .ref (q 0)), (1, .int x1)] dX6_readsE_5 rfl (Nat.le_of_ble_eq_true rfl) rfl ?_
  obtain ⟨n6, h⟩ := h
  refine K.less [1, 2, 0] rfl ?_
  exact hL6 n6 _ _ _ h

def tb_readsF_J31 (c_readsF : TS → Int32 → (Int32 → TS → Prop) → Prop) (c_readsE : TS → Int32 → (Int32 → TS → Prop) → Prop) (k : Int32 → TS → Prop) (x1 : Int32) (x2 : Int32) (s : TS) : Prop := (¬ x1 = 4 → (¬ x2 = 33 → ∀ w79 : TS, w79 = (sA s 0 11 ((s.1 0 11) + 1)) → c_readsE w79 ((x1 + 1)) (fun r79 s79 => tw_takes s79 41 (fun r86 s86 => (r86 = 0 → k 0 s86) ∧ (¬ r86 = 0 → (r79 = 0 → k 0 s86) ∧ (¬ r79 = 0 → k 1 s86))))) ∧ (x2 = 33 → ∀ w63 : TS, w63 = (sA s 0 11 ((s.1 0 11) + 1)) → c_readsF w63 ((x1 + 1)) (fun r63 s63 => (¬ r63 = 0 → k 0 s63) ∧ (r63 = 0 → k 1 s63)))) ∧ (x1 = 4 → k 0 ((sA s 0 14 1)))
def tb_readsF (c_readsF : TS → Int32 → (Int32 → TS → Prop) → Prop) (c_readsE : TS → Int32 → (Int32 → TS → Prop) → Prop) (s : TS) (x1 : Int32) (k : Int32 → TS → Prop) : Prop := ((s.1 0 14) = 0 → tw_here s (fun r10 s10 => (r10 = 33 → tb_readsF_J31 c_readsF c_readsE k x1 r10 s10) ∧ (¬ r10 = 33 → (r10 = 40 → tb_readsF_J31 c_readsF c_readsE k x1 r10 s10) ∧ (¬ r10 = 40 → tw_readsTest s10 (fun r27 s27 => (r27 = 0 ∨ r27 = 1) ∧ k r27 s27))))) ∧ (¬ (s.1 0 14) = 0 → k 0 s)
set_option maxHeartbeats 4000000 in
theorem wb_readsF (l : Launch) (D : va_G) (T : xT) (q : Nat → Nat) (lev : Nat) (c_readsF : TS → Int32 → (Int32 → TS → Prop) → Prop) (l_readsF : Nat) (hl_readsF : l_readsF + 1 ≤ lev) (w_readsF : ∀ (s : TS) (x1 : Int32) (k : Int32 → TS → Prop), c_readsF s x1 k → XM l D T yX6_readsF cX6_readsF 4 (some .boolean) l_readsF 0 0 [.ref (q 0), .int x1] (tw T q s) (tpostI T q k)) (c_readsE : TS → Int32 → (Int32 → TS → Prop) → Prop) (l_readsE : Nat) (hl_readsE : l_readsE + 1 ≤ lev) (w_readsE : ∀ (s : TS) (x1 : Int32) (k : Int32 → TS → Prop), c_readsE s x1 k → XM l D T yX6_readsE cX6_readsE 4 (some .boolean) l_readsE 0 0 [.ref (q 0), .int x1] (tw T q s) (tpostI T q k)) (hlev : 5 ≤ lev) (s : TS) (x1 : Int32) (k : Int32 → TS → Prop) (h : tb_readsF c_readsF c_readsE s x1 k) : XM l D T yX6_readsF cX6_readsF 4 (some .boolean) lev 0 0 [.ref (q 0), .int x1] (tw T q s) (tpostI T q k) := by
  refine XM.start (by decide +kernel) (Nat.le_of_ble_eq_true rfl) (fun Γ G X _ hl_ => ?_)
  subst hl_
  have hJ31 : ∀ (x1 : Int32) (x2 : Int32) (s : TS), tb_readsF_J31 c_readsF c_readsE k x1 x2 s → K D Γ 0 0 31 [(0, .ref (q 0)), (1, .int x1), (2, .int x2)] [] (tw T q s) := by
    intro x1 x2 s h
    unfold tb_readsF_J31 at h
    refine k_iload_n G dX6_readsF_31 rfl ?_
    refine k_iconst G dX6_readsF_32 kc_i_4 ?_
    obtain ⟨hA, hB⟩ := h
    refine k_icmp_ne G 43 dX6_readsF_33 (by decide) (fun c33 => ?_) (fun c33 => ?_)
    · have h := hA c33
      clear hA hB
      refine k_aload_n G dX6_readsF_43 rfl ?_
      refine k_dup G dX6_readsF_44 rfl ?_
      refine kt_get G tf_at rfl dX6_readsF_45 rfl ?_
      refine k_iconst G dX6_readsF_48 kc_i_1 ?_
      refine k_iadd G dX6_readsF_49 ?_
      refine kt_put G tp_at rfl dX6_readsF_50 ?_
      refine k_iload_n G dX6_readsF_53 rfl ?_
      refine k_bipush G dX6_readsF_54 kc_b_33 ?_
      obtain ⟨hA, hB⟩ := h
      refine k_icmp_ne G 75 dX6_readsF_56 (by decide) (fun c56 => ?_) (fun c56 => ?_)
      · have h := hA c56
        clear hA hB
        refine k_aload_n G dX6_readsF_75 rfl ?_
        refine k_iload_n G dX6_readsF_76 rfl ?_
        refine k_iconst G dX6_readsF_77 kc_i_1 ?_
        refine k_iadd G dX6_readsF_78 ?_
        refine kt_nmW (fun w79 ew79 => ?_)
        have h := h w79 ew79
        refine kt_callI G (w_readsE _ _ _ h) cf_readsE q1552 dX6_readsF_79 rfl rfl (Nat.le_of_ble_eq_true rfl) hl_readsE (fun r79 s79 h => ?_)
        refine k_istore_n G [(3, .int r79), (0, .ref (q 0)), (1, .int x1), (2, .int x2)] dX6_readsF_82 rfl (Nat.le_of_ble_eq_true rfl) rfl ?_
        refine k_aload_n G dX6_readsF_83 rfl ?_
        refine k_bipush G dX6_readsF_84 kc_b_41 ?_
        refine kt_callI G (wk_takes _ D T q _ _ _ h) cf_takes q1540 dX6_readsF_86 rfl rfl (Nat.le_of_ble_eq_true rfl) (Nat.le_trans (Nat.le_of_ble_eq_true rfl) hlev) (fun r86 s86 h => ?_)
        obtain ⟨hA, hB⟩ := h
        refine k_if_eq G 100 dX6_readsF_89 (by decide) (fun c89 => ?_) (fun c89 => ?_)
        · have h := hA c89
          clear hA hB
          refine k_iconst G dX6_readsF_100 kc_i_0 ?_
          exact k_zret G X (Or.inl rfl) dX6_readsF_101 (Nat.le_refl _) (Nat.le_refl _) ⟨_, _, rfl, rfl, h⟩
        · have h := hB c89
          clear hA hB
          refine k_iload_n G dX6_readsF_92 rfl ?_
          obtain ⟨hA, hB⟩ := h
          refine k_if_eq G 100 dX6_readsF_93 (by decide) (fun c93 => ?_) (fun c93 => ?_)
          · have h := hA c93
            clear hA hB
            refine k_iconst G dX6_readsF_100 kc_i_0 ?_
            exact k_zret G X (Or.inl rfl) dX6_readsF_101 (Nat.le_refl _) (Nat.le_refl _) ⟨_, _, rfl, rfl, h⟩
          · have h := hB c93
            clear hA hB
            refine k_iconst G dX6_readsF_96 kc_i_1 ?_
            refine k_goto G 101 dX6_readsF_97 (by decide) ?_
            exact k_zret G X (Or.inr rfl) dX6_readsF_101 (Nat.le_refl _) (Nat.le_refl _) ⟨_, _, rfl, rfl, h⟩
      · have h := hB c56
        clear hA hB
        refine k_aload_n G dX6_readsF_59 rfl ?_
        refine k_iload_n G dX6_readsF_60 rfl ?_
        refine k_iconst G dX6_readsF_61 kc_i_1 ?_
        refine k_iadd G dX6_readsF_62 ?_
        refine kt_nmW (fun w63 ew63 => ?_)
        have h := h w63 ew63
        refine kt_callI G (w_readsF _ _ _ h) cf_readsF q1560 dX6_readsF_63 rfl rfl (Nat.le_of_ble_eq_true rfl) hl_readsF (fun r63 s63 h => ?_)
        obtain ⟨hA, hB⟩ := h
        refine k_if_ne G 73 dX6_readsF_66 (by decide) (fun c66 => ?_) (fun c66 => ?_)
        · have h := hA c66
          clear hA hB
          refine k_iconst G dX6_readsF_73 kc_i_0 ?_
          exact k_zret G X (Or.inl rfl) dX6_readsF_74 (Nat.le_refl _) (Nat.le_refl _) ⟨_, _, rfl, rfl, h⟩
        · have h := hB c66
          clear hA hB
          refine k_iconst G dX6_readsF_69 kc_i_1 ?_
          refine k_goto G 74 dX6_readsF_70 (by decide) ?_
          exact k_zret G X (Or.inr rfl) dX6_readsF_74 (Nat.le_refl _) (Nat.le_refl _) ⟨_, _, rfl, rfl, h⟩
    · have h := hB c33
      clear hA hB
      refine k_aload_n G dX6_readsF_36 rfl ?_
      refine k_iconst G dX6_readsF_37 kc_i_1 ?_
      refine kt_putZ G tp_wrong rfl (Or.inr rfl) dX6_readsF_38 ?_
      refine k_iconst G dX6_readsF_41 kc_i_0 ?_
      exact k_zret G X (Or.inl rfl) dX6_readsF_42 (Nat.le_refl _) (Nat.le_refl _) ⟨_, _, rfl, rfl, h⟩
  refine K.less [0, 1] (lv' := [(0, .ref (q 0)), (1, .int x1)]) rfl ?_
  unfold tb_readsF at h
  refine k_aload_n G dX6_readsF_0 rfl ?_
  refine kt_get G tf_wrong rfl dX6_readsF_1 rfl ?_
  obtain ⟨hA, hB⟩ := h
  refine k_if_eq G 9 dX6_readsF_4 (by decide) (fun c4 => ?_) (fun c4 => ?_)
  · have h := hA c4
    clear hA hB
    refine k_aload_n G dX6_readsF_9 rfl ?_
    refine kt_callI G (wk_here _ D T q _ _ h) cf_here q1526 dX6_readsF_10 rfl rfl (Nat.le_of_ble_eq_true rfl) (Nat.le_trans (Nat.le_of_ble_eq_true rfl) hlev) (fun r10 s10 h => ?_)
    refine k_istore_n G [(2, .int r10), (0, .ref (q 0)), (1, .int x1)] dX6_readsF_13 rfl (Nat.le_of_ble_eq_true rfl) rfl ?_
    refine k_iload_n G dX6_readsF_14 rfl ?_
    refine k_bipush G dX6_readsF_15 kc_b_33 ?_
    obtain ⟨hA, hB⟩ := h
    refine k_icmp_eq G 31 dX6_readsF_17 (by decide) (fun c17 => ?_) (fun c17 => ?_)
    · have h := hA c17
      clear hA hB
      refine K.less [1, 2, 0] rfl ?_
      exact hJ31 _ _ _ h
    · have h := hB c17
      clear hA hB
      refine k_iload_n G dX6_readsF_20 rfl ?_
      refine k_bipush G dX6_readsF_21 kc_b_40 ?_
      obtain ⟨hA, hB⟩ := h
      refine k_icmp_eq G 31 dX6_readsF_23 (by decide) (fun c23 => ?_) (fun c23 => ?_)
      · have h := hA c23
        clear hA hB
        refine K.less [1, 2, 0] rfl ?_
        exact hJ31 _ _ _ h
      · have h := hB c23
        clear hA hB
        refine k_aload_n G dX6_readsF_26 rfl ?_
        refine kt_callI G (wk_readsTest _ D T q _ _ h) cf_readsTest q1564 dX6_readsF_27 rfl rfl (Nat.le_of_ble_eq_true rfl) (Nat.le_trans (Nat.le_of_ble_eq_true rfl) hlev) (fun r27 s27 h => ?_)
        obtain ⟨hz, h⟩ := h
        exact k_zret G X hz dX6_readsF_30 (Nat.le_refl _) (Nat.le_refl _) ⟨_, _, rfl, rfl, h⟩
  · have h := hB c4
    clear hA hB
    refine k_iconst G dX6_readsF_7 kc_i_0 ?_
    exact k_zret G X (Or.inl rfl) dX6_readsF_8 (Nat.le_refl _) (Nat.le_refl _) ⟨_, _, rfl, rfl, h⟩
def tf_readsF : Nat → TS → Int32 → (Int32 → TS → Prop) → Prop
  | 0, _, _, _ => False
  | n + 1, s, x1, k => tb_readsF (tf_readsF n) (tb_readsE (tb_readsT (tf_readsF n))) s x1 k
theorem wf_readsE (l : Launch) (D : va_G) (T : xT) (q : Nat → Nat) (n : Nat) (ih : ∀ (s : TS) (x1 : Int32) (k : Int32 → TS → Prop), tf_readsF n s x1 k → XM l D T yX6_readsF cX6_readsF 4 (some .boolean) (4 + 3 * n) 0 0 [.ref (q 0), .int x1] (tw T q s) (tpostI T q k)) (s : TS) (x1 : Int32) (k : Int32 → TS → Prop) (h : tb_readsE (tb_readsT (tf_readsF n)) s x1 k) : XM l D T yX6_readsE cX6_readsE 4 (some .boolean) (4 + 3 * n + 2) 0 0 [.ref (q 0), .int x1] (tw T q s) (tpostI T q k) :=
  wb_readsE l D T q (4 + 3 * n + 2) (tb_readsT (tf_readsF n)) (4 + 3 * n + 1) (by omega) (fun s x1 k h => wb_readsT l D T q (4 + 3 * n + 1) (tf_readsF n) (4 + 3 * n) (by omega) ih (by omega) s x1 k h) (by omega) s x1 k h
theorem wf_readsF (l : Launch) (D : va_G) (T : xT) (q : Nat → Nat) : ∀ (n : Nat) (s : TS) (x1 : Int32) (k : Int32 → TS → Prop), tf_readsF n s x1 k → XM l D T yX6_readsF cX6_readsF 4 (some .boolean) (4 + 3 * n) 0 0 [.ref (q 0), .int x1] (tw T q s) (tpostI T q k) := by
  intro n
  induction n with
  | zero =>
    intro _ _ _ h
    exact h.elim
  | succ n ih =>
    intro s x1 k h
    exact wb_readsF l D T q (4 + 3 * (n + 1)) (tf_readsF n) (4 + 3 * n) (by omega) ih (tb_readsE (tb_readsT (tf_readsF n))) (4 + 3 * n + 2) (by omega) (fun s x1 k h => wf_readsE l D T q n ih s x1 k h) (by omega) s x1 k h
def tw_readsE (s : TS) (x1 : Int32) (k : Int32 → TS → Prop) : Prop := tb_readsE (tb_readsT (tf_readsF 5)) s x1 k
theorem wk_readsE (l : Launch) (D : va_G) (T : xT) (q : Nat → Nat) (s : TS) (x1 : Int32) (k : Int32 → TS → Prop) (h : tw_readsE s x1 k) : XM l D T yX6_readsE cX6_readsE 4 (some .boolean) 21 0 0 [.ref (q 0), .int x1] (tw T q s) (tpostI T q k) := wf_readsE l D T q 5 (wf_readsF l D T q 5) s x1 k h
def tw_readsWord_L2 (c1 : Nat) (k : TS → Prop) : Nat → Nat → Int32 → TS → Prop
  | 0, _, _, _ => False
  | n + 1, x1, x2, s => x1 < 4 ∧ ((xtl x1) ≤ x2 → k s) ∧ (¬ (xtl x1) ≤ x2 → x1 < 4 ∧ vp_in x2 (xtn x1) ∧ tw_takes s ((xtc x1 (x2 : Int32).toNatClampNeg)) (fun r16 s16 => (¬ r16 = 0 → ∀ x23 : Int32, x23 = x2 + 1 → tw_readsWord_L2 c1 k n x1 x23 s16) ∧ (r16 = 0 → k s16)))
def tw_readsWord (s : TS) (c1 : Nat) (k : TS → Prop) : Prop := ∃ n2 : Nat, tw_readsWord_L2 c1 k n2 c1 1 s
set_option maxHeartbeats 4000000 in
theorem wk_readsWord (l : Launch) (D : va_G) (T : xT) (q : Nat → Nat) (s : TS) (c1 : Nat) (k : TS → Prop) (h : tw_readsWord s c1 k) : XM l D T yX6_readsWord cX6_readsWord 3 none 9 0 0 [.ref (q 0), .ref (T.2.1 c1)] (tw T q s) (tpostV T q k) := by
  refine XM.start (by decide +kernel) (Nat.le_of_ble_eq_true rfl) (fun Γ G X _ hl_ => ?_)
  subst hl_
  have hL2 : ∀ n : Nat, ∀ (x1 : Nat) (x2 : Int32) (s : TS), (tw_readsWord_L2 c1 k n) x1 x2 s → K D Γ 0 0 2 [(0, .ref (q 0)), (1, .ref (T.2.1 x1)), (2, .int x2)] [] (tw T q s) := by
    intro n
    induction n with
    | zero =>
      intro _ _ _ h
      exact h.elim
    | succ n ih2 =>
      intro x1 x2 s h
      unfold tw_readsWord_L2 at h
      refine k_iload_n G dX6_readsWord_2 rfl ?_
      refine k_aload_n G dX6_readsWord_3 rfl ?_
      obtain ⟨h1, h⟩ := h
      refine kx_length G h1 q1538 dX6_readsWord_4 (Nat.le_of_ble_eq_true rfl) (Nat.le_of_ble_eq_true rfl) ⟨Nat.zero_le _, Nat.zero_le _⟩ ?_
      obtain ⟨hA, hB⟩ := h
      refine k_icmp_ge G 29 dX6_readsWord_7 (by decide) (fun c7 => ?_) (fun c7 => ?_)
      · have h := hA c7
        clear hA hB
        exact k_vret G X dX6_readsWord_29 (Nat.le_refl _) (Nat.le_refl _) ⟨_, rfl, rfl, h⟩
      · have h := hB c7
        clear hA hB
        refine k_aload_n G dX6_readsWord_10 rfl ?_
        refine k_aload_n G dX6_readsWord_11 rfl ?_
        refine k_iload_n G dX6_readsWord_12 rfl ?_
        obtain ⟨h1, h2, h⟩ := h
        refine kx_charAt G h1 h2 q1539 dX6_readsWord_13 (Nat.le_of_ble_eq_true rfl) (Nat.le_of_ble_eq_true rfl) ⟨Nat.zero_le _, Nat.zero_le _⟩ ?_
        refine kt_callI G (wk_takes _ D T q _ _ _ h) cf_takes q1540 dX6_readsWord_16 rfl rfl (Nat.le_of_ble_eq_true rfl) (Nat.le_of_ble_eq_true rfl) (fun r16 s16 h => ?_)
        obtain ⟨hA, hB⟩ := h
        refine k_if_ne G 23 dX6_readsWord_19 (by decide) (fun c19 => ?_) (fun c19 => ?_)
        · have h := hA c19
          clear hA hB
          obtain ⟨x23, e23⟩ : ∃ y : Int32, y = x2 + 1 := ⟨_, rfl⟩
          have h := h x23 e23
          refine k_iinc G [(2, .int x23), (0, .ref (q 0)), (1, .ref (T.2.1 x1))] dX6_readsWord_23 rfl (v := x23) (by rw [e23, kc_i_1]) (Nat.le_of_ble_eq_true rfl) rfl ?_
          refine k_goto G 2 dX6_readsWord_26 (by decide) ?_
          refine K.less [1, 2, 0] rfl ?_
          exact ih2 _ _ _ h
        · have h := hB c19
          clear hA hB
          exact k_vret G X dX6_readsWord_22 (Nat.le_refl _) (Nat.le_refl _) ⟨_, rfl, rfl, h⟩
  refine K.less [0, 1] (lv' := [(0, .ref (q 0)), (1, .ref (T.2.1 c1))]) rfl ?_
  unfold tw_readsWord at h
  refine k_iconst G dX6_readsWord_0 kc_i_1 ?_
  refine k_istore_n G [(2, .int 1), (0, .ref (q 0)), (1, .ref (T.2.1 c1))] dX6_readsWord_1 rfl (Nat.le_of_ble_eq_true rfl) rfl ?_
  obtain ⟨n2, h⟩ := h
  refine K.less [1, 2, 0] rfl ?_
  exact hL2 n2 _ _ _ h
def tw_readsClause_J220 (k : TS → Prop) (y0 : Int32) (y1 : Int32) (s : TS) : Prop := k ((sA s 0 20 (y1 + y0)))
def tw_readsClause_J219 (k : TS → Prop) (y0 : Int32) (s : TS) : Prop := tw_readsClause_J220 k 0 y0 s
def tw_readsClause_J196 (k : TS → Prop) (x1 : Int32) (x2 : Int32) (x3 : Int32) (y0 : Int32) (y1 : Int32) (s : TS) : Prop := ∀ w202 : TS, w202 = (sA s 0 18 (y1 + y0)) → (¬ x1 = 102 → tw_readsClause_J219 k ((w202.1 0 20)) w202) ∧ (x1 = 102 → (x3 = 0 → tw_readsClause_J219 k ((w202.1 0 20)) w202) ∧ (¬ x3 = 0 → tw_readsClause_J220 k x2 ((w202.1 0 20)) w202))
def tw_readsClause_J195 (k : TS → Prop) (x1 : Int32) (x2 : Int32) (x3 : Int32) (y0 : Int32) (s : TS) : Prop := tw_readsClause_J196 k x1 x2 x3 0 y0 s
def tw_readsClause_J172 (k : TS → Prop) (x1 : Int32) (x2 : Int32) (x3 : Int32) (y0 : Int32) (y1 : Int32) (s : TS) : Prop := ∀ w178 : TS, w178 = (sA s 0 16 (y1 + y0)) → (¬ x1 = 109 → tw_readsClause_J195 k x1 x2 x3 ((w178.1 0 18)) w178) ∧ (x1 = 109 → (x3 = 0 → tw_readsClause_J195 k x1 x2 x3 ((w178.1 0 18)) w178) ∧ (¬ x3 = 0 → tw_readsClause_J196 k x1 x2 x3 x2 ((w178.1 0 18)) w178))
def tw_readsClause_J171 (k : TS → Prop) (x1 : Int32) (x2 : Int32) (x3 : Int32) (y0 : Int32) (s : TS) : Prop := tw_readsClause_J172 k x1 x2 x3 0 y0 s
def tw_readsClause_J148 (k : TS → Prop) (x1 : Int32) (x2 : Int32) (x3 : Int32) (y0 : Int32) (y1 : Int32) (s : TS) : Prop := ∀ w154 : TS, w154 = (sA s 0 17 (y1 + y0)) → (¬ x1 = 116 → tw_readsClause_J171 k x1 x2 x3 ((w154.1 0 16)) w154) ∧ (x1 = 116 → (x3 = 0 → tw_readsClause_J171 k x1 x2 x3 ((w154.1 0 16)) w154) ∧ (¬ x3 = 0 → tw_readsClause_J172 k x1 x2 x3 x2 ((w154.1 0 16)) w154))
def tw_readsClause_J123 (k : TS → Prop) (x1 : Int32) (x2 : Int32) (y0 : Int32) (s : TS) : Prop := (y0 = 0 ∨ y0 = 1) ∧ ∀ w128 : TS, w128 = (sA s 0 15 y0) → tw_readsE w128 0 (fun r128 s128 => (¬ x1 = 116 → tw_readsClause_J148 k x1 x2 r128 0 ((s128.1 0 17)) s128) ∧ (x1 = 116 → tw_readsClause_J148 k x1 x2 r128 1 ((s128.1 0 17)) s128))
def tw_readsClause_J81 (k : TS → Prop) (x1 : Int32) (y0 : Nat) (s : TS) : Prop := tw_readsWord s y0 (fun s81 => tw_readsNumber s81 (fun r85 s85 => (¬ x1 = 99 → tw_takes s85 32 (fun r104 s104 => (¬ r104 = 0 → (¬ x1 = 102 → tw_readsClause_J123 k x1 r85 0 s104) ∧ (x1 = 102 → tw_readsClause_J123 k x1 r85 1 s104)) ∧ (r104 = 0 → k s104))) ∧ (x1 = 99 → k ((sA s85 0 19 r85)))))
def tw_readsClause_J35 (k : TS → Prop) (x1 : Int32) (s : TS) : Prop := (¬ x1 = 116 → (¬ x1 = 109 → (¬ x1 = 99 → tw_readsClause_J81 k x1 3 ((sA s 0 11 ((s.1 0 11) + 1)))) ∧ (x1 = 99 → tw_readsClause_J81 k x1 2 ((sA s 0 11 ((s.1 0 11) + 1))))) ∧ (x1 = 109 → tw_readsClause_J81 k x1 1 ((sA s 0 11 ((s.1 0 11) + 1))))) ∧ (x1 = 116 → tw_readsClause_J81 k x1 0 ((sA s 0 11 ((s.1 0 11) + 1))))
def tw_readsClause (s : TS) (k : TS → Prop) : Prop := tw_here s (fun r1 s1 => (r1 = 116 → tw_readsClause_J35 k r1 s1) ∧ (¬ r1 = 116 → (r1 = 109 → tw_readsClause_J35 k r1 s1) ∧ (¬ r1 = 109 → (r1 = 99 → tw_readsClause_J35 k r1 s1) ∧ (¬ r1 = 99 → (r1 = 102 → tw_readsClause_J35 k r1 s1) ∧ (¬ r1 = 102 → k ((sA s1 0 14 1)))))))
set_option maxHeartbeats 4000000 in
theorem wk_readsClause (l : Launch) (D : va_G) (T : xT) (q : Nat → Nat) (s : TS) (k : TS → Prop) (h : tw_readsClause s k) : XM l D T yX6_readsClause cX6_readsClause 4 none 22 0 0 [.ref (q 0)] (tw T q s) (tpostV T q k) := by
  refine XM.start (by decide +kernel) (Nat.le_of_ble_eq_true rfl) (fun Γ G X _ hl_ => ?_)
  subst hl_
  have hJ220 : ∀ (y0 : Int32) (y1 : Int32) (s : TS), tw_readsClause_J220 k y0 y1 s → K D Γ 0 0 220 [] [.int y0, .int y1, .ref (q 0)] (tw T q s) := by
    intro y0 y1 s h
    unfold tw_readsClause_J220 at h
    refine k_iadd G dX6_readsClause_220 ?_
    refine kt_put G tp_fee rfl dX6_readsClause_221 ?_
    exact k_vret G X dX6_readsClause_224 (Nat.le_refl _) (Nat.le_refl _) ⟨_, rfl, rfl, h⟩
  have hJ219 : ∀ (y0 : Int32) (s : TS), tw_readsClause_J219 k y0 s → K D Γ 0 0 219 [] [.int y0, .ref (q 0)] (tw T q s) := by
    intro y0 s h
    unfold tw_readsClause_J219 at h
    refine k_iconst G dX6_readsClause_219 kc_i_0 ?_
    exact hJ220 _ _ _ h
  have hJ196 : ∀ (x1 : Int32) (x2 : Int32) (x3 : Int32) (y0 : Int32) (y1 : Int32) (s : TS), tw_readsClause_J196 k x1 x2 x3 y0 y1 s → K D Γ 0 0 196 [(0, .ref (q 0)), (1, .int x1), (2, .int x2), (3, .int x3)] [.int y0, .int y1, .ref (q 0)] (tw T q s) := by
    intro x1 x2 x3 y0 y1 s h
    unfold tw_readsClause_J196 at h
    refine k_iadd G dX6_readsClause_196 ?_
    refine kt_put G tp_more rfl dX6_readsClause_197 ?_
    refine k_aload_n G dX6_readsClause_200 rfl ?_
    refine k_dup G dX6_readsClause_201 rfl ?_
    refine kt_nmW (fun w202 ew202 => ?_)
    have h := h w202 ew202
    refine kt_get G tf_fee rfl dX6_readsClause_202 rfl ?_
    refine k_iload_n G dX6_readsClause_205 rfl ?_
    refine k_bipush G dX6_readsClause_206 kc_b_102 ?_
    obtain ⟨hA, hB⟩ := h
    refine k_icmp_ne G 219 dX6_readsClause_208 (by decide) (fun c208 => ?_) (fun c208 => ?_)
    · have h := hA c208
      clear hA hB
      refine K.less [] rfl ?_
      exact hJ219 _ _ h
    · have h := hB c208
      clear hA hB
      refine k_iload_n G dX6_readsClause_211 rfl ?_
      obtain ⟨hA, hB⟩ := h
      refine k_if_eq G 219 dX6_readsClause_212 (by decide) (fun c212 => ?_) (fun c212 => ?_)
      · have h := hA c212
        clear hA hB
        refine K.less [] rfl ?_
        exact hJ219 _ _ h
      · have h := hB c212
        clear hA hB
        refine k_iload_n G dX6_readsClause_215 rfl ?_
        refine k_goto G 220 dX6_readsClause_216 (by decide) ?_
        refine K.less [] rfl ?_
        exact hJ220 _ _ _ h
  have hJ195 : ∀ (x1 : Int32) (x2 : Int32) (x3 : Int32) (y0 : Int32) (s : TS), tw_readsClause_J195 k x1 x2 x3 y0 s → K D Γ 0 0 195 [(0, .ref (q 0)), (1, .int x1), (2, .int x2), (3, .int x3)] [.int y0, .ref (q 0)] (tw T q s) := by
    intro x1 x2 x3 y0 s h
    unfold tw_readsClause_J195 at h
    refine k_iconst G dX6_readsClause_195 kc_i_0 ?_
    exact hJ196 _ _ _ _ _ _ h
  have hJ172 : ∀ (x1 : Int32) (x2 : Int32) (x3 : Int32) (y0 : Int32) (y1 : Int32) (s : TS), tw_readsClause_J172 k x1 x2 x3 y0 y1 s → K D Γ 0 0 172 [(0, .ref (q 0)), (1, .int x1), (2, .int x2), (3, .int x3)] [.int y0, .int y1, .ref (q 0)] (tw T q s) := by
    intro x1 x2 x3 y0 y1 s h
    unfold tw_readsClause_J172 at h
    refine k_iadd G dX6_readsClause_172 ?_
    refine kt_put G tp_part rfl dX6_readsClause_173 ?_
    refine k_aload_n G dX6_readsClause_176 rfl ?_
    refine k_dup G dX6_readsClause_177 rfl ?_
    refine kt_nmW (fun w178 ew178 => ?_)
    have h := h w178 ew178
    refine kt_get G tf_more rfl dX6_readsClause_178 rfl ?_
    refine k_iload_n G dX6_readsClause_181 rfl ?_
    refine k_bipush G dX6_readsClause_182 kc_b_109 ?_
    obtain ⟨hA, hB⟩ := h
    refine k_icmp_ne G 195 dX6_readsClause_184 (by decide) (fun c184 => ?_) (fun c184 => ?_)
    · have h := hA c184
      clear hA hB
      exact hJ195 _ _ _ _ _ h
    · have h := hB c184
      clear hA hB
      refine k_iload_n G dX6_readsClause_187 rfl ?_
      obtain ⟨hA, hB⟩ := h
      refine k_if_eq G 195 dX6_readsClause_188 (by decide) (fun c188 => ?_) (fun c188 => ?_)
      · have h := hA c188
        clear hA hB
        exact hJ195 _ _ _ _ _ h
      · have h := hB c188
        clear hA hB
        refine k_iload_n G dX6_readsClause_191 rfl ?_
        refine k_goto G 196 dX6_readsClause_192 (by decide) ?_
        exact hJ196 _ _ _ _ _ _ h
  have hJ171 : ∀ (x1 : Int32) (x2 : Int32) (x3 : Int32) (y0 : Int32) (s : TS), tw_readsClause_J171 k x1 x2 x3 y0 s → K D Γ 0 0 171 [(0, .ref (q 0)), (1, .int x1), (2, .int x2), (3, .int x3)] [.int y0, .ref (q 0)] (tw T q s) := by
    intro x1 x2 x3 y0 s h
    unfold tw_readsClause_J171 at h
    refine k_iconst G dX6_readsClause_171 kc_i_0 ?_
    exact hJ172 _ _ _ _ _ _ h
  have hJ148 : ∀ (x1 : Int32) (x2 : Int32) (x3 : Int32) (y0 : Int32) (y1 : Int32) (s : TS), tw_readsClause_J148 k x1 x2 x3 y0 y1 s → K D Γ 0 0 148 [(0, .ref (q 0)), (1, .int x1), (2, .int x2), (3, .int x3)] [.int y0, .int y1, .ref (q 0)] (tw T q s) := by
    intro x1 x2 x3 y0 y1 s h
    unfold tw_readsClause_J148 at h
    refine k_iadd G dX6_readsClause_148 ?_
    refine kt_put G tp_parts rfl dX6_readsClause_149 ?_
    refine k_aload_n G dX6_readsClause_152 rfl ?_
    refine k_dup G dX6_readsClause_153 rfl ?_
    refine kt_nmW (fun w154 ew154 => ?_)
    have h := h w154 ew154
    refine kt_get G tf_part rfl dX6_readsClause_154 rfl ?_
    refine k_iload_n G dX6_readsClause_157 rfl ?_
    refine k_bipush G dX6_readsClause_158 kc_b_116 ?_
    obtain ⟨hA, hB⟩ := h
    refine k_icmp_ne G 171 dX6_readsClause_160 (by decide) (fun c160 => ?_) (fun c160 => ?_)
    · have h := hA c160
      clear hA hB
      exact hJ171 _ _ _ _ _ h
    · have h := hB c160
      clear hA hB
      refine k_iload_n G dX6_readsClause_163 rfl ?_
      obtain ⟨hA, hB⟩ := h
      refine k_if_eq G 171 dX6_readsClause_164 (by decide) (fun c164 => ?_) (fun c164 => ?_)
      · have h := hA c164
        clear hA hB
        exact hJ171 _ _ _ _ _ h
      · have h := hB c164
        clear hA hB
        refine k_iload_n G dX6_readsClause_167 rfl ?_
        refine k_goto G 172 dX6_readsClause_168 (by decide) ?_
        exact hJ172 _ _ _ _ _ _ h
  have hJ123 : ∀ (x1 : Int32) (x2 : Int32) (y0 : Int32) (s : TS), tw_readsClause_J123 k x1 x2 y0 s → K D Γ 0 0 123 [(0, .ref (q 0)), (1, .int x1), (2, .int x2)] [.int y0, .ref (q 0)] (tw T q s) := by
    intro x1 x2 y0 s h
    unfold tw_readsClause_J123 at h
    obtain ⟨hz, h⟩ := h
    refine kt_putZ G tp_isFee rfl hz dX6_readsClause_123 ?_
    refine k_aload_n G dX6_readsClause_126 rfl ?_
    refine k_iconst G dX6_readsClause_127 kc_i_0 ?_
    refine kt_nmW (fun w128 ew128 => ?_)
    have h := h w128 ew128
    refine kt_callI G (wk_readsE _ D T q _ _ _ h) cf_readsE q1552 dX6_readsClause_128 rfl rfl (Nat.le_of_ble_eq_true rfl) (Nat.le_of_ble_eq_true rfl) (fun r128 s128 h => ?_)
    refine k_istore_n G [(3, .int r128), (0, .ref (q 0)), (1, .int x1), (2, .int x2)] dX6_readsClause_131 rfl (Nat.le_of_ble_eq_true rfl) rfl ?_
    refine k_aload_n G dX6_readsClause_132 rfl ?_
    refine k_dup G dX6_readsClause_133 rfl ?_
    refine kt_get G tf_parts rfl dX6_readsClause_134 rfl ?_
    refine k_iload_n G dX6_readsClause_137 rfl ?_
    refine k_bipush G dX6_readsClause_138 kc_b_116 ?_
    obtain ⟨hA, hB⟩ := h
    refine k_icmp_ne G 147 dX6_readsClause_140 (by decide) (fun c140 => ?_) (fun c140 => ?_)
    · have h := hA c140
      clear hA hB
      refine k_iconst G dX6_readsClause_147 kc_i_0 ?_
      refine K.less [1, 2, 3, 0] rfl ?_
      exact hJ148 _ _ _ _ _ _ h
    · have h := hB c140
      clear hA hB
      refine k_iconst G dX6_readsClause_143 kc_i_1 ?_
      refine k_goto G 148 dX6_readsClause_144 (by decide) ?_
      refine K.less [1, 2, 3, 0] rfl ?_
      exact hJ148 _ _ _ _ _ _ h
  have hJ81 : ∀ (x1 : Int32) (y0 : Nat) (s : TS), tw_readsClause_J81 k x1 y0 s → K D Γ 0 0 81 [(0, .ref (q 0)), (1, .int x1)] [.ref (T.2.1 y0), .ref (q 0)] (tw T q s) := by
    intro x1 y0 s h
    unfold tw_readsClause_J81 at h
    refine kt_callV G (wk_readsWord _ D T q _ _ _ h) cf_readsWord q1534 dX6_readsClause_81 rfl rfl (Nat.le_of_ble_eq_true rfl) (Nat.le_of_ble_eq_true rfl) (fun s81 h => ?_)
    refine k_aload_n G dX6_readsClause_84 rfl ?_
    refine kt_callI G (wk_readsNumber _ D T q _ _ h) cf_readsNumber q1544 dX6_readsClause_85 rfl rfl (Nat.le_of_ble_eq_true rfl) (Nat.le_of_ble_eq_true rfl) (fun r85 s85 h => ?_)
    refine k_istore_n G [(2, .int r85), (0, .ref (q 0)), (1, .int x1)] dX6_readsClause_88 rfl (Nat.le_of_ble_eq_true rfl) rfl ?_
    refine k_iload_n G dX6_readsClause_89 rfl ?_
    refine k_bipush G dX6_readsClause_90 kc_b_99 ?_
    obtain ⟨hA, hB⟩ := h
    refine k_icmp_ne G 101 dX6_readsClause_92 (by decide) (fun c92 => ?_) (fun c92 => ?_)
    · have h := hA c92
      clear hA hB
      refine k_aload_n G dX6_readsClause_101 rfl ?_
      refine k_bipush G dX6_readsClause_102 kc_b_32 ?_
      refine kt_callI G (wk_takes _ D T q _ _ _ h) cf_takes q1540 dX6_readsClause_104 rfl rfl (Nat.le_of_ble_eq_true rfl) (Nat.le_of_ble_eq_true rfl) (fun r104 s104 h => ?_)
      obtain ⟨hA, hB⟩ := h
      refine k_if_ne G 111 dX6_readsClause_107 (by decide) (fun c107 => ?_) (fun c107 => ?_)
      · have h := hA c107
        clear hA hB
        refine k_aload_n G dX6_readsClause_111 rfl ?_
        refine k_iload_n G dX6_readsClause_112 rfl ?_
        refine k_bipush G dX6_readsClause_113 kc_b_102 ?_
        obtain ⟨hA, hB⟩ := h
        refine k_icmp_ne G 122 dX6_readsClause_115 (by decide) (fun c115 => ?_) (fun c115 => ?_)
        · have h := hA c115
          clear hA hB
          refine k_iconst G dX6_readsClause_122 kc_i_0 ?_
          refine K.less [1, 2, 0] rfl ?_
          exact hJ123 _ _ _ _ h
        · have h := hB c115
          clear hA hB
          refine k_iconst G dX6_readsClause_118 kc_i_1 ?_
          refine k_goto G 123 dX6_readsClause_119 (by decide) ?_
          refine K.less [1, 2, 0] rfl ?_
          exact hJ123 _ _ _ _ h
      · have h := hB c107
        clear hA hB
        exact k_vret G X dX6_readsClause_110 (Nat.le_refl _) (Nat.le_refl _) ⟨_, rfl, rfl, h⟩
    · have h := hB c92
      clear hA hB
      refine k_aload_n G dX6_readsClause_95 rfl ?_
      refine k_iload_n G dX6_readsClause_96 rfl ?_
      refine kt_put G tp_cold rfl dX6_readsClause_97 ?_
      exact k_vret G X dX6_readsClause_100 (Nat.le_refl _) (Nat.le_refl _) ⟨_, rfl, rfl, h⟩
  have hJ35 : ∀ (x1 : Int32) (s : TS), tw_readsClause_J35 k x1 s → K D Γ 0 0 35 [(0, .ref (q 0)), (1, .int x1)] [] (tw T q s) := by
    intro x1 s h
    unfold tw_readsClause_J35 at h
    refine k_aload_n G dX6_readsClause_35 rfl ?_
    refine k_dup G dX6_readsClause_36 rfl ?_
    refine kt_get G tf_at rfl dX6_readsClause_37 rfl ?_
    refine k_iconst G dX6_readsClause_40 kc_i_1 ?_
    refine k_iadd G dX6_readsClause_41 ?_
    refine kt_put G tp_at rfl dX6_readsClause_42 ?_
    refine k_aload_n G dX6_readsClause_45 rfl ?_
    refine k_iload_n G dX6_readsClause_46 rfl ?_
    refine k_bipush G dX6_readsClause_47 kc_b_116 ?_
    obtain ⟨hA, hB⟩ := h
    refine k_icmp_ne G 57 dX6_readsClause_49 (by decide) (fun c49 => ?_) (fun c49 => ?_)
    · have h := hA c49
      clear hA hB
      refine k_iload_n G dX6_readsClause_57 rfl ?_
      refine k_bipush G dX6_readsClause_58 kc_b_109 ?_
      obtain ⟨hA, hB⟩ := h
      refine k_icmp_ne G 68 dX6_readsClause_60 (by decide) (fun c60 => ?_) (fun c60 => ?_)
      · have h := hA c60
        clear hA hB
        refine k_iload_n G dX6_readsClause_68 rfl ?_
        refine k_bipush G dX6_readsClause_69 kc_b_99 ?_
        obtain ⟨hA, hB⟩ := h
        refine k_icmp_ne G 79 dX6_readsClause_71 (by decide) (fun c71 => ?_) (fun c71 => ?_)
        · have h := hA c71
          clear hA hB
          refine kx_ldc G (j := 7) (i := 3) rfl dX6_readsClause_79 ?_
          exact hJ81 _ _ _ h
        · have h := hB c71
          clear hA hB
          refine kx_ldc G (j := 6) (i := 2) rfl dX6_readsClause_74 ?_
          refine k_goto G 81 dX6_readsClause_76 (by decide) ?_
          exact hJ81 _ _ _ h
      · have h := hB c60
        clear hA hB
        refine kx_ldc G (j := 5) (i := 1) rfl dX6_readsClause_63 ?_
        refine k_goto G 81 dX6_readsClause_65 (by decide) ?_
        exact hJ81 _ _ _ h
    · have h := hB c49
      clear hA hB
      refine kx_ldc G (j := 4) (i := 0) rfl dX6_readsClause_52 ?_
      refine k_goto G 81 dX6_readsClause_54 (by decide) ?_
      exact hJ81 _ _ _ h
  refine K.less [0] (lv' := [(0, .ref (q 0))]) rfl ?_
  unfold tw_readsClause at h
  refine k_aload_n G dX6_readsClause_0 rfl ?_
  refine kt_callI G (wk_here _ D T q _ _ h) cf_here q1526 dX6_readsClause_1 rfl rfl (Nat.le_of_ble_eq_true rfl) (Nat.le_of_ble_eq_true rfl) (fun r1 s1 h => ?_)
  refine k_istore_n G [(1, .int r1), (0, .ref (q 0))] dX6_readsClause_4 rfl (Nat.le_of_ble_eq_true rfl) rfl ?_
  refine k_iload_n G dX6_readsClause_5 rfl ?_
  refine k_bipush G dX6_readsClause_6 kc_b_116 ?_
  obtain ⟨hA, hB⟩ := h
  refine k_icmp_eq G 35 dX6_readsClause_8 (by decide) (fun c8 => ?_) (fun c8 => ?_)
  · have h := hA c8
    clear hA hB
    refine K.less [1, 0] rfl ?_
    exact hJ35 _ _ h
  · have h := hB c8
    clear hA hB
    refine k_iload_n G dX6_readsClause_11 rfl ?_
    refine k_bipush G dX6_readsClause_12 kc_b_109 ?_
    obtain ⟨hA, hB⟩ := h
    refine k_icmp_eq G 35 dX6_readsClause_14 (by decide) (fun c14 => ?_) (fun c14 => ?_)
    · have h := hA c14
      clear hA hB
      refine K.less [1, 0] rfl ?_
      exact hJ35 _ _ h
    · have h := hB c14
      clear hA hB
      refine k_iload_n G dX6_readsClause_17 rfl ?_
      refine k_bipush G dX6_readsClause_18 kc_b_99 ?_
      obtain ⟨hA, hB⟩ := h
      refine k_icmp_eq G 35 dX6_readsClause_20 (by decide) (fun c20 => ?_) (fun c20 => ?_)
      · have h := hA c20
        clear hA hB
        refine K.less [1, 0] rfl ?_
        exact hJ35 _ _ h
      · have h := hB c20
        clear hA hB
        refine k_iload_n G dX6_readsClause_23 rfl ?_
        refine k_bipush G dX6_readsClause_24 kc_b_102 ?_
        obtain ⟨hA, hB⟩ := h
        refine k_icmp_eq G 35 dX6_readsClause_26 (by decide) (fun c26 => ?_) (fun c26 => ?_)
        · have h := hA c26
          clear hA hB
          refine K.less [1, 0] rfl ?_
          exact hJ35 _ _ h
        · have h := hB c26
          clear hA hB
          refine k_aload_n G dX6_readsClause_29 rfl ?_
          refine k_iconst G dX6_readsClause_30 kc_i_1 ?_
          refine kt_putZ G tp_wrong rfl (Or.inr rfl) dX6_readsClause_31 ?_
          exact k_vret G X dX6_readsClause_34 (Nat.le_refl _) (Nat.le_refl _) ⟨_, rfl, rfl, h⟩
def tw_reads_J119 (kL80 : Int32 → TS → Prop) (k : TS → Prop) (s : TS) : Prop := k ((sA s 0 14 1))
def tw_reads_L80 (k : TS → Prop) : Nat → Int32 → TS → Prop
  | 0, _, _ => False
  | n + 1, x4, s => tw_readsClause s (fun s81 => (¬ (s81.1 0 14) = 0 → k s81) ∧ ((s81.1 0 14) = 0 → (¬ (s81.1 0 11) = (s81.1 0 10) → (x4 = 10 → tw_reads_J119 (fun x4 s => tw_reads_L80 k n x4 s) k s81) ∧ (¬ x4 = 10 → tw_here s81 (fun r111 s111 => (r111 = 59 → ∀ x135 : Int32, x135 = x4 + 1 → tw_reads_L80 k n x135 ((sA s111 0 11 ((s111.1 0 11) + 1)))) ∧ (¬ r111 = 59 → tw_reads_J119 (fun x4 s => tw_reads_L80 k n x4 s) k s111)))) ∧ ((s81.1 0 11) = (s81.1 0 10) → k s81)))
def tw_reads_J23 (k : TS → Prop) (x1 : Int32) (x2 : Int32) (x3 : Int32) (y0 : Int32) (s : TS) : Prop := ∀ w28 : TS, w28 = (sA s 0 10 y0) → ∀ w33 : TS, w33 = (sA w28 0 11 0) → ∀ w38 : TS, w38 = (sA w33 0 12 x2) → ∀ w43 : TS, w43 = (sA w38 0 13 x3) → ∀ w48 : TS, w48 = (sA w43 0 14 0) → ∀ w53 : TS, w53 = (sA w48 0 16 0) → ∀ w58 : TS, w58 = (sA w53 0 17 0) → ∀ w64 : TS, w64 = (sA w58 0 18 0) → ∀ w69 : TS, w69 = (sA w64 0 19 50) → (0 ≤ x1 → ∃ n80 : Nat, tw_reads_L80 k n80 1 ((sA w69 0 20 1))) ∧ (¬ 0 ≤ x1 → k ((sA w69 0 20 1)))
def tw_reads (s : TS) (x1 : Int32) (x2 : Int32) (x3 : Int32) (k : TS → Prop) : Prop := (0 ≤ x1 → ∀ w22 : TS, w22 = (sA s 0 9 (100 * x1)) → vp_in x1 6 ∧ tw_reads_J23 k x1 x2 x3 ((w22.1 6 (x1 : Int32).toNatClampNeg)) w22) ∧ (¬ 0 ≤ x1 → tw_reads_J23 k x1 x2 x3 0 ((sA s 0 9 (100 * x1))))
set_option maxHeartbeats 4000000 in
theorem wk_reads (l : Launch) (D : va_G) (T : xT) (q : Nat → Nat) (s : TS) (x1 : Int32) (x2 : Int32) (x3 : Int32) (k : TS → Prop) (h : tw_reads s x1 x2 x3 k) : XM l D T yX6_reads cX6_reads 5 none 23 0 0 [.ref (q 0), .int x1, .int x2, .int x3] (tw T q s) (tpostV T q k) := by
  refine XM.start (by decide +kernel) (Nat.le_of_ble_eq_true rfl) (fun Γ G X _ hl_ => ?_)
  subst hl_
  have hJ119 : ∀ (kL80 : Int32 → TS → Prop) (ih80 : ∀ (x4 : Int32) (s : TS), kL80 x4 s → K D Γ 0 0 80 [(0, .ref (q 0)), (4, .int x4)] [] (tw T q s)) (s : TS), tw_reads_J119 kL80 k s → K D Γ 0 0 119 [(0, .ref (q 0))] [] (tw T q s) := by
    intro kL80 ih80 s h
    unfold tw_reads_J119 at h
    refine k_aload_n G dX6_reads_119 rfl ?_
    refine k_iconst G dX6_reads_120 kc_i_1 ?_
    refine kt_putZ G tp_wrong rfl (Or.inr rfl) dX6_reads_121 ?_
    exact k_vret G X dX6_reads_124 (Nat.le_refl _) (Nat.le_refl _) ⟨_, rfl, rfl, h⟩
  have hL80 : ∀ n : Nat, ∀ (x4 : Int32) (s : TS), (tw_reads_L80 k n) x4 s → K D Γ 0 0 80 [(0, .ref (q 0)), (4, .int x4)] [] (tw T q s) := by
    intro n
    induction n with
    | zero =>
      intro _ _ h
      exact h.elim
    | succ n ih80 =>
      intro x4 s h
      unfold tw_reads_L80 at h
      refine k_aload_n G dX6_reads_80 rfl ?_
      refine kt_callV G (wk_readsClause _ D T q _ _ h) cf_readsClause q1522 dX6_reads_81 rfl rfl (Nat.le_of_ble_eq_true rfl) (Nat.le_of_ble_eq_true rfl) (fun s81 h => ?_)
      refine k_aload_n G dX6_reads_84 rfl ?_
      refine kt_get G tf_wrong rfl dX6_reads_85 rfl ?_
      obtain ⟨hA, hB⟩ := h
      refine k_if_ne G 102 dX6_reads_88 (by decide) (fun c88 => ?_) (fun c88 => ?_)
      · have h := hA c88
        clear hA hB
        exact k_vret G X dX6_reads_102 (Nat.le_refl _) (Nat.le_refl _) ⟨_, rfl, rfl, h⟩
      · have h := hB c88
        clear hA hB
        refine k_aload_n G dX6_reads_91 rfl ?_
        refine kt_get G tf_at rfl dX6_reads_92 rfl ?_
        refine k_aload_n G dX6_reads_95 rfl ?_
        refine kt_get G tf_end rfl dX6_reads_96 rfl ?_
        obtain ⟨hA, hB⟩ := h
        refine k_icmp_ne G 103 dX6_reads_99 (by decide) (fun c99 => ?_) (fun c99 => ?_)
        · have h := hA c99
          clear hA hB
          refine k_iload G dX6_reads_103 rfl ?_
          refine k_bipush G dX6_reads_105 kc_b_10 ?_
          obtain ⟨hA, hB⟩ := h
          refine k_icmp_eq G 119 dX6_reads_107 (by decide) (fun c107 => ?_) (fun c107 => ?_)
          · have h := hA c107
            clear hA hB
            refine K.less [0] rfl ?_
            exact hJ119 _ ih80 _ h
          · have h := hB c107
            clear hA hB
            refine k_aload_n G dX6_reads_110 rfl ?_
            refine kt_callI G (wk_here _ D T q _ _ h) cf_here q1526 dX6_reads_111 rfl rfl (Nat.le_of_ble_eq_true rfl) (Nat.le_of_ble_eq_true rfl) (fun r111 s111 h => ?_)
            refine k_bipush G dX6_reads_114 kc_b_59 ?_
            obtain ⟨hA, hB⟩ := h
            refine k_icmp_eq G 125 dX6_reads_116 (by decide) (fun c116 => ?_) (fun c116 => ?_)
            · have h := hA c116
              clear hA hB
              refine k_aload_n G dX6_reads_125 rfl ?_
              refine k_dup G dX6_reads_126 rfl ?_
              refine kt_get G tf_at rfl dX6_reads_127 rfl ?_
              refine k_iconst G dX6_reads_130 kc_i_1 ?_
              refine k_iadd G dX6_reads_131 ?_
              refine kt_put G tp_at rfl dX6_reads_132 ?_
              obtain ⟨x135, e135⟩ : ∃ y : Int32, y = x4 + 1 := ⟨_, rfl⟩
              have h := h x135 e135
              refine k_iinc G [(4, .int x135), (0, .ref (q 0))] dX6_reads_135 rfl (v := x135) (by rw [e135, kc_i_1]) (Nat.le_of_ble_eq_true rfl) rfl ?_
              refine k_goto G 80 dX6_reads_138 (by decide) ?_
              refine K.less [1, 0] rfl ?_
              exact ih80 _ _ h
            · have h := hB c116
              clear hA hB
              refine K.less [0] rfl ?_
              exact hJ119 _ ih80 _ h
        · have h := hB c99
          clear hA hB
          exact k_vret G X dX6_reads_102 (Nat.le_refl _) (Nat.le_refl _) ⟨_, rfl, rfl, h⟩
  have hJ23 : ∀ (x1 : Int32) (x2 : Int32) (x3 : Int32) (y0 : Int32) (s : TS), tw_reads_J23 k x1 x2 x3 y0 s → K D Γ 0 0 23 [(0, .ref (q 0)), (1, .int x1), (2, .int x2), (3, .int x3)] [.int y0, .ref (q 0)] (tw T q s) := by
    intro x1 x2 x3 y0 s h
    unfold tw_reads_J23 at h
    refine kt_put G tp_end rfl dX6_reads_23 ?_
    refine k_aload_n G dX6_reads_26 rfl ?_
    refine k_iconst G dX6_reads_27 kc_i_0 ?_
    refine kt_nmW (fun w28 ew28 => ?_)
    have h := h w28 ew28
    refine kt_put G tp_at rfl dX6_reads_28 ?_
    refine k_aload_n G dX6_reads_31 rfl ?_
    refine k_iload_n G dX6_reads_32 rfl ?_
    refine kt_nmW (fun w33 ew33 => ?_)
    have h := h w33 ew33
    refine kt_put G tp_loaf rfl dX6_reads_33 ?_
    refine k_aload_n G dX6_reads_36 rfl ?_
    refine k_iload_n G dX6_reads_37 rfl ?_
    refine kt_nmW (fun w38 ew38 => ?_)
    have h := h w38 ew38
    refine kt_put G tp_taste rfl dX6_reads_38 ?_
    refine k_aload_n G dX6_reads_41 rfl ?_
    refine k_iconst G dX6_reads_42 kc_i_0 ?_
    refine kt_nmW (fun w43 ew43 => ?_)
    have h := h w43 ew43
    refine kt_putZ G tp_wrong rfl (Or.inl rfl) dX6_reads_43 ?_
    refine k_aload_n G dX6_reads_46 rfl ?_
    refine k_iconst G dX6_reads_47 kc_i_0 ?_
    refine kt_nmW (fun w48 ew48 => ?_)
    have h := h w48 ew48
    refine kt_put G tp_part rfl dX6_reads_48 ?_
    refine k_aload_n G dX6_reads_51 rfl ?_
    refine k_iconst G dX6_reads_52 kc_i_0 ?_
    refine kt_nmW (fun w53 ew53 => ?_)
    have h := h w53 ew53
    refine kt_put G tp_parts rfl dX6_reads_53 ?_
    refine k_aload_n G dX6_reads_56 rfl ?_
    refine k_iconst G dX6_reads_57 kc_i_0 ?_
    refine kt_nmW (fun w58 ew58 => ?_)
    have h := h w58 ew58
    refine kt_put G tp_more rfl dX6_reads_58 ?_
    refine k_aload_n G dX6_reads_61 rfl ?_
    refine k_bipush G dX6_reads_62 kc_b_50 ?_
    refine kt_nmW (fun w64 ew64 => ?_)
    have h := h w64 ew64
    refine kt_put G tp_cold rfl dX6_reads_64 ?_
    refine k_aload_n G dX6_reads_67 rfl ?_
    refine k_iconst G dX6_reads_68 kc_i_1 ?_
    refine kt_nmW (fun w69 ew69 => ?_)
    have h := h w69 ew69
    refine kt_put G tp_fee rfl dX6_reads_69 ?_
    refine k_iload_n G dX6_reads_72 rfl ?_
    obtain ⟨hA, hB⟩ := h
    refine k_if_ge G 77 dX6_reads_73 (by decide) (fun c73 => ?_) (fun c73 => ?_)
    · have h := hA c73
      clear hA hB
      refine k_iconst G dX6_reads_77 kc_i_1 ?_
      refine k_istore G [(4, .int 1), (0, .ref (q 0)), (1, .int x1), (2, .int x2), (3, .int x3)] dX6_reads_78 (Nat.le_of_ble_eq_true rfl) rfl ?_
      obtain ⟨n80, h⟩ := h
      refine K.less [1, 0] rfl ?_
      exact hL80 n80 _ _ h
    · have h := hB c73
      clear hA hB
      exact k_vret G X dX6_reads_76 (Nat.le_refl _) (Nat.le_refl _) ⟨_, rfl, rfl, h⟩
  refine K.less [0, 1, 2, 3] (lv' := [(0, .ref (q 0)), (1, .int x1), (2, .int x2), (3, .int x3)]) rfl ?_
  unfold tw_reads at h
  refine k_aload_n G dX6_reads_0 rfl ?_
  refine k_bipush G dX6_reads_1 kc_b_100 ?_
  refine k_iload_n G dX6_reads_3 rfl ?_
  refine k_imul G dX6_reads_4 ?_
  refine kt_put G tp_base rfl dX6_reads_5 ?_
  refine k_aload_n G dX6_reads_8 rfl ?_
  refine k_iload_n G dX6_reads_9 rfl ?_
  obtain ⟨hA, hB⟩ := h
  refine k_if_ge G 17 dX6_reads_10 (by decide) (fun c10 => ?_) (fun c10 => ?_)
  · have h := hA c10
    clear hA hB
    refine k_aload_n G dX6_reads_17 rfl ?_
    refine kt_get G tf_kilnLong rfl dX6_reads_18 rfl ?_
    refine k_iload_n G dX6_reads_21 rfl ?_
    refine kt_nmW (fun w22 ew22 => ?_)
    have h := h w22 ew22
    obtain ⟨h1, h⟩ := h
    refine kt_iald G tA_6 dX6_reads_22 h1 ?_
    exact hJ23 _ _ _ _ _ h
  · have h := hB c10
    clear hA hB
    refine k_iconst G dX6_reads_13 kc_i_0 ?_
    refine k_goto G 23 dX6_reads_14 (by decide) ?_
    exact hJ23 _ _ _ _ _ h
def tw_readsNow (s : TS) (x1 : Int32) (x2 : Int32) (k : TS → Prop) : Prop := vp_in 6 92 ∧ tw_reads s (((s.1 1 (6 : Int32).toNatClampNeg) - 1)) x1 x2 (fun s12 => k s12)
set_option maxHeartbeats 4000000 in
theorem wk_readsNow (l : Launch) (D : va_G) (T : xT) (q : Nat → Nat) (s : TS) (x1 : Int32) (x2 : Int32) (k : TS → Prop) (h : tw_readsNow s x1 x2 k) : XM l D T yX6_readsNow cX6_readsNow 3 none 24 0 0 [.ref (q 0), .int x1, .int x2] (tw T q s) (tpostV T q k) := by
  refine XM.start (by decide +kernel) (Nat.le_of_ble_eq_true rfl) (fun Γ G X _ hl_ => ?_)
  subst hl_
  refine K.less [0, 1, 2] (lv' := [(0, .ref (q 0)), (1, .int x1), (2, .int x2)]) rfl ?_
  unfold tw_readsNow at h
  refine k_aload_n G dX6_readsNow_0 rfl ?_
  refine k_aload_n G dX6_readsNow_1 rfl ?_
  refine kt_get G tf_s rfl dX6_readsNow_2 rfl ?_
  refine k_bipush G dX6_readsNow_5 kc_b_6 ?_
  obtain ⟨h1, h⟩ := h
  refine kt_iald G tA_1 dX6_readsNow_7 h1 ?_
  refine k_iconst G dX6_readsNow_8 kc_i_1 ?_
  refine k_isub G dX6_readsNow_9 ?_
  refine k_iload_n G dX6_readsNow_10 rfl ?_
  refine k_iload_n G dX6_readsNow_11 rfl ?_
  refine kt_callV G (wk_reads _ D T q _ _ _ _ _ h) cf_reads q1518 dX6_readsNow_12 rfl rfl (Nat.le_of_ble_eq_true rfl) (Nat.le_of_ble_eq_true rfl) (fun s12 h => ?_)
  exact k_vret G X dX6_readsNow_15 (Nat.le_refl _) (Nat.le_refl _) ⟨_, rfl, rfl, h⟩
def tw_kiln_L14 (k : Int32 → TS → Prop) : Nat → Int32 → TS → Prop
  | 0, _, _ => False
  | n + 1, x1, s => ((s.1 0 7) ≤ x1 → vp_in (s.1 0 8) 6 ∧ ∀ w63 : TS, w63 = (sA s 6 ((s.1 0 8) : Int32).toNatClampNeg (s.1 0 7)) → ∀ w68 : TS, w68 = (sA w63 0 7 0) → tw_reads w68 ((w68.1 0 8)) 0 0 (fun s73 => ((s73.1 0 14) = 0 → ∀ w108 : TS, w108 = (sA s73 0 8 ((s73.1 0 8) + 1)) → vp_in 6 92 ∧ ∀ w113 : TS, w113 = (sA w108 1 (6 : Int32).toNatClampNeg (w108.1 0 8)) → k (((w113.1 0 8) - 1)) w113) ∧ (¬ (s73.1 0 14) = 0 → k (((-10) - (s73.1 0 11))) s73))) ∧ (¬ (s.1 0 7) ≤ x1 → vp_in x1 100 ∧ vp_in ((100 * (s.1 0 8)) + x1) 600 ∧ ∀ x42 : Int32, x42 = x1 + 1 → tw_kiln_L14 k n x42 ((sA s 5 (((100 * (s.1 0 8)) + x1) : Int32).toNatClampNeg (s.1 4 (x1 : Int32).toNatClampNeg))))
def tw_kiln (s : TS) (k : Int32 → TS → Prop) : Prop := (¬ (s.1 0 8) = 6 → ∃ n14 : Nat, tw_kiln_L14 k n14 0 s) ∧ ((s.1 0 8) = 6 → k (-4) s)
set_option maxHeartbeats 4000000 in
theorem wk_kiln (l : Launch) (D : va_G) (T : xT) (q : Nat → Nat) (s : TS) (k : Int32 → TS → Prop) (h : tw_kiln s k) : XM l D T yX6_kiln cX6_kiln 2 (some .int) 24 0 0 [.ref (q 0)] (tw T q s) (tpostI T q k) := by
  refine XM.start (by decide +kernel) (Nat.le_of_ble_eq_true rfl) (fun Γ G X _ hl_ => ?_)
  subst hl_
  have hL14 : ∀ n : Nat, ∀ (x1 : Int32) (s : TS), (tw_kiln_L14 k n) x1 s → K D Γ 0 0 14 [(0, .ref (q 0)), (1, .int x1)] [] (tw T q s) := by
    intro n
    induction n with
    | zero =>
      intro _ _ h
      exact h.elim
    | succ n ih14 =>
      intro x1 s h
      unfold tw_kiln_L14 at h
      refine k_iload_n G dX6_kiln_14 rfl ?_
      refine k_aload_n G dX6_kiln_15 rfl ?_
      refine kt_get G tf_texted rfl dX6_kiln_16 rfl ?_
      obtain ⟨hA, hB⟩ := h
      refine k_icmp_ge G 48 dX6_kiln_19 (by decide) (fun c19 => ?_) (fun c19 => ?_)
      · have h := hA c19
        clear hA hB
        refine k_aload_n G dX6_kiln_48 rfl ?_
        refine kt_get G tf_kilnLong rfl dX6_kiln_49 rfl ?_
        refine k_aload_n G dX6_kiln_52 rfl ?_
        refine kt_get G tf_kilns rfl dX6_kiln_53 rfl ?_
        refine k_aload_n G dX6_kiln_56 rfl ?_
        refine kt_get G tf_texted rfl dX6_kiln_57 rfl ?_
        obtain ⟨h1, h⟩ := h
        refine kt_iast G tA_6 dX6_kiln_60 h1 ?_
        refine k_aload_n G dX6_kiln_61 rfl ?_
        refine k_iconst G dX6_kiln_62 kc_i_0 ?_
        refine kt_nmW (fun w63 ew63 => ?_)
        have h := h w63 ew63
        refine kt_put G tp_texted rfl dX6_kiln_63 ?_
        refine k_aload_n G dX6_kiln_66 rfl ?_
        refine k_aload_n G dX6_kiln_67 rfl ?_
        refine kt_nmW (fun w68 ew68 => ?_)
        have h := h w68 ew68
        refine kt_get G tf_kilns rfl dX6_kiln_68 rfl ?_
        refine k_iconst G dX6_kiln_71 kc_i_0 ?_
        refine k_iconst G dX6_kiln_72 kc_i_0 ?_
        refine kt_callV G (wk_reads _ D T q _ _ _ _ _ h) cf_reads q1518 dX6_kiln_73 rfl rfl (Nat.le_of_ble_eq_true rfl) (Nat.le_of_ble_eq_true rfl) (fun s73 h => ?_)
        refine k_aload_n G dX6_kiln_76 rfl ?_
        refine kt_get G tf_wrong rfl dX6_kiln_77 rfl ?_
        obtain ⟨hA, hB⟩ := h
        refine k_if_eq G 91 dX6_kiln_80 (by decide) (fun c80 => ?_) (fun c80 => ?_)
        · have h := hA c80
          clear hA hB
          refine k_aload_n G dX6_kiln_91 rfl ?_
          refine k_dup G dX6_kiln_92 rfl ?_
          refine kt_get G tf_kilns rfl dX6_kiln_93 rfl ?_
          refine k_iconst G dX6_kiln_96 kc_i_1 ?_
          refine k_iadd G dX6_kiln_97 ?_
          refine kt_put G tp_kilns rfl dX6_kiln_98 ?_
          refine k_aload_n G dX6_kiln_101 rfl ?_
          refine kt_get G tf_s rfl dX6_kiln_102 rfl ?_
          refine k_bipush G dX6_kiln_105 kc_b_6 ?_
          refine k_aload_n G dX6_kiln_107 rfl ?_
          refine kt_nmW (fun w108 ew108 => ?_)
          have h := h w108 ew108
          refine kt_get G tf_kilns rfl dX6_kiln_108 rfl ?_
          obtain ⟨h1, h⟩ := h
          refine kt_iast G tA_1 dX6_kiln_111 h1 ?_
          refine k_aload_n G dX6_kiln_112 rfl ?_
          refine kt_nmW (fun w113 ew113 => ?_)
          have h := h w113 ew113
          refine kt_get G tf_kilns rfl dX6_kiln_113 rfl ?_
          refine k_iconst G dX6_kiln_116 kc_i_1 ?_
          refine k_isub G dX6_kiln_117 ?_
          exact k_iret G X dX6_kiln_118 (Nat.le_refl _) (Nat.le_refl _) ⟨_, _, rfl, rfl, h⟩
        · have h := hB c80
          clear hA hB
          refine k_bipush G dX6_kiln_83 kc_b_m10 ?_
          refine k_aload_n G dX6_kiln_85 rfl ?_
          refine kt_get G tf_at rfl dX6_kiln_86 rfl ?_
          refine k_isub G dX6_kiln_89 ?_
          exact k_iret G X dX6_kiln_90 (Nat.le_refl _) (Nat.le_refl _) ⟨_, _, rfl, rfl, h⟩
      · have h := hB c19
        clear hA hB
        refine k_aload_n G dX6_kiln_22 rfl ?_
        refine kt_get G tf_kilnText rfl dX6_kiln_23 rfl ?_
        refine k_bipush G dX6_kiln_26 kc_b_100 ?_
        refine k_aload_n G dX6_kiln_28 rfl ?_
        refine kt_get G tf_kilns rfl dX6_kiln_29 rfl ?_
        refine k_imul G dX6_kiln_32 ?_
        refine k_iload_n G dX6_kiln_33 rfl ?_
        refine k_iadd G dX6_kiln_34 ?_
        refine k_aload_n G dX6_kiln_35 rfl ?_
        refine kt_get G tf_text rfl dX6_kiln_36 rfl ?_
        refine k_iload_n G dX6_kiln_39 rfl ?_
        obtain ⟨h1, h⟩ := h
        refine kt_iald G tA_4 dX6_kiln_40 h1 ?_
        obtain ⟨h1, h⟩ := h
        refine kt_iast G tA_5 dX6_kiln_41 h1 ?_
        obtain ⟨x42, e42⟩ : ∃ y : Int32, y = x1 + 1 := ⟨_, rfl⟩
        have h := h x42 e42
        refine k_iinc G [(1, .int x42), (0, .ref (q 0))] dX6_kiln_42 rfl (v := x42) (by rw [e42, kc_i_1]) (Nat.le_of_ble_eq_true rfl) rfl ?_
        refine k_goto G 14 dX6_kiln_45 (by decide) ?_
        refine K.less [1, 0] rfl ?_
        exact ih14 _ _ h
  refine K.less [0] (lv' := [(0, .ref (q 0))]) rfl ?_
  unfold tw_kiln at h
  refine k_aload_n G dX6_kiln_0 rfl ?_
  refine kt_get G tf_kilns rfl dX6_kiln_1 rfl ?_
  refine k_bipush G dX6_kiln_4 kc_b_6 ?_
  obtain ⟨hA, hB⟩ := h
  refine k_icmp_ne G 12 dX6_kiln_6 (by decide) (fun c6 => ?_) (fun c6 => ?_)
  · have h := hA c6
    clear hA hB
    refine k_iconst G dX6_kiln_12 kc_i_0 ?_
    refine k_istore_n G [(1, .int 0), (0, .ref (q 0))] dX6_kiln_13 rfl (Nat.le_of_ble_eq_true rfl) rfl ?_
    obtain ⟨n14, h⟩ := h
    refine K.less [1, 0] rfl ?_
    exact hL14 n14 _ _ h
  · have h := hB c6
    clear hA hB
    refine k_bipush G dX6_kiln_9 kc_b_m4 ?_
    exact k_iret G X dX6_kiln_11 (Nat.le_refl _) (Nat.le_refl _) ⟨_, _, rfl, rfl, h⟩
def tw_partOf (s : TS) (x1 : Int32) (x2 : Int32) (k : Int32 → TS → Prop) : Prop := tw_readsNow s x1 x2 (fun s3 => (¬ (s3.1 0 17) = 0 → k ((s3.1 0 16)) s3) ∧ ((s3.1 0 17) = 0 → k 50 s3))
set_option maxHeartbeats 4000000 in
theorem wk_partOf (l : Launch) (D : va_G) (T : xT) (q : Nat → Nat) (s : TS) (x1 : Int32) (x2 : Int32) (k : Int32 → TS → Prop) (h : tw_partOf s x1 x2 k) : XM l D T yX6_partOf cX6_partOf 3 (some .int) 25 0 0 [.ref (q 0), .int x1, .int x2] (tw T q s) (tpostI T q k) := by
  refine XM.start (by decide +kernel) (Nat.le_of_ble_eq_true rfl) (fun Γ G X _ hl_ => ?_)
  subst hl_
  refine K.less [0, 1, 2] (lv' := [(0, .ref (q 0)), (1, .int x1), (2, .int x2)]) rfl ?_
  unfold tw_partOf at h
  refine k_aload_n G dX6_partOf_0 rfl ?_
  refine k_iload_n G dX6_partOf_1 rfl ?_
  refine k_iload_n G dX6_partOf_2 rfl ?_
  refine kt_callV G (wk_readsNow _ D T q _ _ _ _ h) cf_readsNow q1610 dX6_partOf_3 rfl rfl (Nat.le_of_ble_eq_true rfl) (Nat.le_of_ble_eq_true rfl) (fun s3 h => ?_)
  refine k_aload_n G dX6_partOf_6 rfl ?_
  refine kt_get G tf_parts rfl dX6_partOf_7 rfl ?_
  obtain ⟨hA, hB⟩ := h
  refine k_if_ne G 18 dX6_partOf_10 (by decide) (fun c10 => ?_) (fun c10 => ?_)
  · have h := hA c10
    clear hA hB
    refine k_aload_n G dX6_partOf_18 rfl ?_
    refine kt_get G tf_part rfl dX6_partOf_19 rfl ?_
    exact k_iret G X dX6_partOf_22 (Nat.le_refl _) (Nat.le_refl _) ⟨_, _, rfl, rfl, h⟩
  · have h := hB c10
    clear hA hB
    refine k_bipush G dX6_partOf_13 kc_b_50 ?_
    refine k_goto G 22 dX6_partOf_15 (by decide) ?_
    exact k_iret G X dX6_partOf_22 (Nat.le_refl _) (Nat.le_refl _) ⟨_, _, rfl, rfl, h⟩
def tw_takesBy_J137 (k : Int32 → TS → Prop) (x4 : Int32) (x7 : Int32) (s : TS) : Prop := (x7 ≤ x4 → (0 ≤ x7 → k x7 s) ∧ (¬ 0 ≤ x7 → k 0 s)) ∧ (¬ x7 ≤ x4 → k x4 s)
def tw_takesBy_J117 (k : Int32 → TS → Prop) (x4 : Int32) (y0 : Int32) (s : TS) : Prop := ∀ x119 : Int32, x119 = (y0 / 2) → tw_takesBy_J137 k x4 x119 s
def tw_takesBy_J98 (k : Int32 → TS → Prop) (x4 : Int32) (y0 : Int32) (s : TS) : Prop := tw_takesBy_J137 k x4 y0 s
def tw_takesBy_J75 (k : Int32 → TS → Prop) (x4 : Int32) (x5 : Int32) (s : TS) : Prop := ∀ x79 : Int32, x79 = (2 * x5) → tw_takesBy_J137 k x4 x79 s
def tw_takesBy (s : TS) (x1 : Int32) (x2 : Int32) (x3 : Int32) (x4 : Int32) (k : Int32 → TS → Prop) : Prop := ∀ x7 : Int32, x7 = ((x3 * x4) / 100) → tw_get s x1 ((6 + x2)) (fun r15 s15 => tw_kind s15 x1 (fun r26 s26 => (r26 = 1 → tw_takesBy_J137 k x4 x4 s26) ∧ (r26 = 2 → tw_takesBy_J75 k x4 x7 s26) ∧ (r26 = 3 → (r15 ≤ x7 → tw_takesBy_J98 k x4 r15 s26) ∧ (¬ r15 ≤ x7 → tw_takesBy_J98 k x4 x7 s26)) ∧ (r26 = 4 → tw_number s26 x1 (fun r128 s128 => ∀ x132 : Int32, x132 = (x4 - r128) → tw_takesBy_J137 k x4 x132 s128)) ∧ (r26 = 5 → tw_takesBy_J75 k x4 x7 s26) ∧ (r26 = 6 → (r15 ≤ x7 → tw_takesBy_J117 k x4 r15 s26) ∧ (¬ r15 ≤ x7 → tw_takesBy_J117 k x4 x7 s26)) ∧ (¬ r26 = 1 → ¬ r26 = 2 → ¬ r26 = 3 → ¬ r26 = 4 → ¬ r26 = 5 → ¬ r26 = 6 → tw_takesBy_J137 k x4 x7 s26)))
set_option maxHeartbeats 4000000 in
theorem wk_takesBy (l : Launch) (D : va_G) (T : xT) (q : Nat → Nat) (s : TS) (x1 : Int32) (x2 : Int32) (x3 : Int32) (x4 : Int32) (k : Int32 → TS → Prop) (h : tw_takesBy s x1 x2 x3 x4 k) : XM l D T yX6_takesBy cX6_takesBy 8 (some .int) 3 0 0 [.ref (q 0), .int x1, .int x2, .int x3, .int x4] (tw T q s) (tpostI T q k) := by
  refine XM.start (by decide +kernel) (Nat.le_of_ble_eq_true rfl) (fun Γ G X _ hl_ => ?_)
  subst hl_
  have hJ137 : ∀ (x4 : Int32) (x7 : Int32) (s : TS), tw_takesBy_J137 k x4 x7 s → K D Γ 0 0 137 [(4, .int x4), (7, .int x7)] [] (tw T q s) := by
    intro x4 x7 s h
    unfold tw_takesBy_J137 at h
    refine k_iload G dX6_takesBy_137 rfl ?_
    refine k_iload G dX6_takesBy_139 rfl ?_
    obtain ⟨hA, hB⟩ := h
    refine k_icmp_le G 149 dX6_takesBy_141 (by decide) (fun c141 => ?_) (fun c141 => ?_)
    · have h := hA c141
      clear hA hB
      refine k_iload G dX6_takesBy_149 rfl ?_
      obtain ⟨hA, hB⟩ := h
      refine k_if_ge G 158 dX6_takesBy_151 (by decide) (fun c151 => ?_) (fun c151 => ?_)
      · have h := hA c151
        clear hA hB
        refine k_iload G dX6_takesBy_158 rfl ?_
        exact k_iret G X dX6_takesBy_160 (Nat.le_refl _) (Nat.le_refl _) ⟨_, _, rfl, rfl, h⟩
      · have h := hB c151
        clear hA hB
        refine k_iconst G dX6_takesBy_154 kc_i_0 ?_
        refine k_goto G 160 dX6_takesBy_155 (by decide) ?_
        exact k_iret G X dX6_takesBy_160 (Nat.le_refl _) (Nat.le_refl _) ⟨_, _, rfl, rfl, h⟩
    · have h := hB c141
      clear hA hB
      refine k_iload G dX6_takesBy_144 rfl ?_
      refine k_goto G 160 dX6_takesBy_146 (by decide) ?_
      exact k_iret G X dX6_takesBy_160 (Nat.le_refl _) (Nat.le_refl _) ⟨_, _, rfl, rfl, h⟩
  have hJ117 : ∀ (x4 : Int32) (y0 : Int32) (s : TS), tw_takesBy_J117 k x4 y0 s → K D Γ 0 0 117 [(4, .int x4)] [.int y0] (tw T q s) := by
    intro x4 y0 s h
    unfold tw_takesBy_J117 at h
    refine k_iconst G dX6_takesBy_117 kc_i_2 ?_
    refine k_idiv G dX6_takesBy_118 (by decide) ?_
    refine k_nmI (fun x119 e119 => ?_)
    have h := h x119 e119
    refine k_istore G [(7, .int x119), (4, .int x4)] dX6_takesBy_119 (Nat.le_of_ble_eq_true rfl) rfl ?_
    refine k_goto G 137 dX6_takesBy_121 (by decide) ?_
    refine K.less [1, 0] rfl ?_
    exact hJ137 _ _ _ h
  have hJ98 : ∀ (x4 : Int32) (y0 : Int32) (s : TS), tw_takesBy_J98 k x4 y0 s → K D Γ 0 0 98 [(4, .int x4)] [.int y0] (tw T q s) := by
    intro x4 y0 s h
    unfold tw_takesBy_J98 at h
    refine k_istore G [(7, .int y0), (4, .int x4)] dX6_takesBy_98 (Nat.le_of_ble_eq_true rfl) rfl ?_
    refine k_goto G 137 dX6_takesBy_100 (by decide) ?_
    refine K.less [1, 0] rfl ?_
    exact hJ137 _ _ _ h
  have hJ75 : ∀ (x4 : Int32) (x5 : Int32) (s : TS), tw_takesBy_J75 k x4 x5 s → K D Γ 0 0 75 [(4, .int x4), (5, .int x5)] [] (tw T q s) := by
    intro x4 x5 s h
    unfold tw_takesBy_J75 at h
    refine k_iconst G dX6_takesBy_75 kc_i_2 ?_
    refine k_iload G dX6_takesBy_76 rfl ?_
    refine k_imul G dX6_takesBy_78 ?_
    refine k_nmI (fun x79 e79 => ?_)
    have h := h x79 e79
    refine k_istore G [(7, .int x79), (4, .int x4), (5, .int x5)] dX6_takesBy_79 (Nat.le_of_ble_eq_true rfl) rfl ?_
    refine k_goto G 137 dX6_takesBy_81 (by decide) ?_
    refine K.less [1, 0] rfl ?_
    exact hJ137 _ _ _ h
  refine K.less [0, 1, 2, 3, 4] (lv' := [(0, .ref (q 0)), (1, .int x1), (2, .int x2), (3, .int x3), (4, .int x4)]) rfl ?_
  unfold tw_takesBy at h
  refine k_iload_n G dX6_takesBy_0 rfl ?_
  refine k_iload G dX6_takesBy_1 rfl ?_
  refine k_imul G dX6_takesBy_3 ?_
  refine k_bipush G dX6_takesBy_4 kc_b_100 ?_
  refine k_idiv G dX6_takesBy_6 (by decide) ?_
  refine k_nmI (fun x7 e7 => ?_)
  have h := h x7 e7
  refine k_istore G [(5, .int x7), (0, .ref (q 0)), (1, .int x1), (2, .int x2), (3, .int x3), (4, .int x4)] dX6_takesBy_7 (Nat.le_of_ble_eq_true rfl) rfl ?_
  refine k_aload_n G dX6_takesBy_9 rfl ?_
  refine k_iload_n G dX6_takesBy_10 rfl ?_
  refine k_bipush G dX6_takesBy_11 kc_b_6 ?_
  refine k_iload_n G dX6_takesBy_13 rfl ?_
  refine k_iadd G dX6_takesBy_14 ?_
  refine kt_callI G (wk_get _ D T q _ _ _ _ h) cf_get q1579 dX6_takesBy_15 rfl rfl (Nat.le_of_ble_eq_true rfl) (Nat.le_of_ble_eq_true rfl) (fun r15 s15 h => ?_)
  refine k_istore G [(6, .int r15), (5, .int x7), (0, .ref (q 0)), (1, .int x1), (2, .int x2), (3, .int x3), (4, .int x4)] dX6_takesBy_18 (Nat.le_of_ble_eq_true rfl) rfl ?_
  refine k_iload G dX6_takesBy_20 rfl ?_
  refine k_istore G [(7, .int x7), (6, .int r15), (5, .int x7), (0, .ref (q 0)), (1, .int x1), (2, .int x2), (3, .int x3), (4, .int x4)] dX6_takesBy_22 (Nat.le_of_ble_eq_true rfl) rfl ?_
  refine k_aload_n G dX6_takesBy_24 rfl ?_
  refine k_iload_n G dX6_takesBy_25 rfl ?_
  refine kt_callI G (wk_kind _ D T q _ _ _ h) cf_kind q1575 dX6_takesBy_26 rfl rfl (Nat.le_of_ble_eq_true rfl) (Nat.le_of_ble_eq_true rfl) (fun r26 s26 h => ?_)
  obtain ⟨h0_, h1_, h2_, h3_, h4_, h5_, hD_⟩ := h
  by_cases c29_0 : r26 = 1
  · refine k_tswIn G 1 c29_0 68 dX6_takesBy_29 (by decide +kernel) (by decide +kernel) rfl (by decide) ?_
    have h := h0_ c29_0
    clear h0_ h1_ h2_ h3_ h4_ h5_ hD_
    refine k_iload G dX6_takesBy_68 rfl ?_
    refine k_istore G [(7, .int x4), (6, .int r15), (5, .int x7), (0, .ref (q 0)), (1, .int x1), (2, .int x2), (3, .int x3), (4, .int x4)] dX6_takesBy_70 (Nat.le_of_ble_eq_true rfl) rfl ?_
    refine k_goto G 137 dX6_takesBy_72 (by decide) ?_
    refine K.less [7, 0] rfl ?_
    exact hJ137 _ _ _ h
  by_cases c29_1 : r26 = 2
  · refine k_tswIn G 2 c29_1 75 dX6_takesBy_29 (by decide +kernel) (by decide +kernel) rfl (by decide) ?_
    have h := h1_ c29_1
    clear h0_ h1_ h2_ h3_ h4_ h5_ hD_
    refine K.less [7, 2] rfl ?_
    exact hJ75 _ _ _ h
  by_cases c29_2 : r26 = 3
  · refine k_tswIn G 3 c29_2 84 dX6_takesBy_29 (by decide +kernel) (by decide +kernel) rfl (by decide) ?_
    have h := h2_ c29_2
    clear h0_ h1_ h2_ h3_ h4_ h5_ hD_
    refine k_iload G dX6_takesBy_84 rfl ?_
    refine k_iload G dX6_takesBy_86 rfl ?_
    obtain ⟨hA, hB⟩ := h
    refine k_icmp_ge G 96 dX6_takesBy_88 (by decide) (fun c88 => ?_) (fun c88 => ?_)
    · have h := hA c88
      clear hA hB
      refine k_iload G dX6_takesBy_96 rfl ?_
      refine K.less [7] rfl ?_
      exact hJ98 _ _ _ h
    · have h := hB c88
      clear hA hB
      refine k_iload G dX6_takesBy_91 rfl ?_
      refine k_goto G 98 dX6_takesBy_93 (by decide) ?_
      refine K.less [7] rfl ?_
      exact hJ98 _ _ _ h
  by_cases c29_3 : r26 = 4
  · refine k_tswIn G 4 c29_3 124 dX6_takesBy_29 (by decide +kernel) (by decide +kernel) rfl (by decide) ?_
    have h := h3_ c29_3
    clear h0_ h1_ h2_ h3_ h4_ h5_ hD_
    refine k_iload G dX6_takesBy_124 rfl ?_
    refine k_aload_n G dX6_takesBy_126 rfl ?_
    refine k_iload_n G dX6_takesBy_127 rfl ?_
    refine kt_callI G (wk_number _ D T q _ _ _ h) cf_number q1583 dX6_takesBy_128 rfl rfl (Nat.le_of_ble_eq_true rfl) (Nat.le_of_ble_eq_true rfl) (fun r128 s128 h => ?_)
    refine k_isub G dX6_takesBy_131 ?_
    refine k_nmI (fun x132 e132 => ?_)
    have h := h x132 e132
    refine k_istore G [(7, .int x132), (6, .int r15), (5, .int x7), (0, .ref (q 0)), (1, .int x1), (2, .int x2), (3, .int x3), (4, .int x4)] dX6_takesBy_132 (Nat.le_of_ble_eq_true rfl) rfl ?_
    refine k_goto G 137 dX6_takesBy_134 (by decide) ?_
    refine K.less [7, 0] rfl ?_
    exact hJ137 _ _ _ h
  by_cases c29_4 : r26 = 5
  · refine k_tswIn G 5 c29_4 75 dX6_takesBy_29 (by decide +kernel) (by decide +kernel) rfl (by decide) ?_
    have h := h4_ c29_4
    clear h0_ h1_ h2_ h3_ h4_ h5_ hD_
    refine K.less [7, 2] rfl ?_
    exact hJ75 _ _ _ h
  by_cases c29_5 : r26 = 6
  · refine k_tswIn G 6 c29_5 103 dX6_takesBy_29 (by decide +kernel) (by decide +kernel) rfl (by decide) ?_
    have h := h5_ c29_5
    clear h0_ h1_ h2_ h3_ h4_ h5_ hD_
    refine k_iload G dX6_takesBy_103 rfl ?_
    refine k_iload G dX6_takesBy_105 rfl ?_
    obtain ⟨hA, hB⟩ := h
    refine k_icmp_ge G 115 dX6_takesBy_107 (by decide) (fun c107 => ?_) (fun c107 => ?_)
    · have h := hA c107
      clear hA hB
      refine k_iload G dX6_takesBy_115 rfl ?_
      refine K.less [7] rfl ?_
      exact hJ117 _ _ _ h
    · have h := hB c107
      clear hA hB
      refine k_iload G dX6_takesBy_110 rfl ?_
      refine k_goto G 117 dX6_takesBy_112 (by decide) ?_
      refine K.less [7] rfl ?_
      exact hJ117 _ _ _ h
  refine k_tswD G [1, 2, 3, 4, 5, 6] 137 dX6_takesBy_29 (by decide +kernel) (by decide +kernel) (List.forall_mem_cons.mpr ⟨c29_0, List.forall_mem_cons.mpr ⟨c29_1, List.forall_mem_cons.mpr ⟨c29_2, List.forall_mem_cons.mpr ⟨c29_3, List.forall_mem_cons.mpr ⟨c29_4, List.forall_mem_cons.mpr ⟨c29_5, fun _ h => absurd h List.not_mem_nil⟩⟩⟩⟩⟩⟩) (by decide) ?_
  have h := hD_ c29_0 c29_1 c29_2 c29_3 c29_4 c29_5
  clear h0_ h1_ h2_ h3_ h4_ h5_ hD_
  refine K.less [7, 0] rfl ?_
  exact hJ137 _ _ _ h
def tw_takesOf (s : TS) (x1 : Int32) (x2 : Int32) (k : Int32 → TS → Prop) : Prop := tw_partOf s x1 x2 (fun r6 s6 => vp_in x2 92 ∧ tw_takesBy s6 x1 x2 r6 ((s6.1 1 (x2 : Int32).toNatClampNeg)) (fun r15 s15 => k r15 s15))
set_option maxHeartbeats 4000000 in
theorem wk_takesOf (l : Launch) (D : va_G) (T : xT) (q : Nat → Nat) (s : TS) (x1 : Int32) (x2 : Int32) (k : Int32 → TS → Prop) (h : tw_takesOf s x1 x2 k) : XM l D T yX6_takesOf cX6_takesOf 3 (some .int) 26 0 0 [.ref (q 0), .int x1, .int x2] (tw T q s) (tpostI T q k) := by
  refine XM.start (by decide +kernel) (Nat.le_of_ble_eq_true rfl) (fun Γ G X _ hl_ => ?_)
  subst hl_
  refine K.less [0, 1, 2] (lv' := [(0, .ref (q 0)), (1, .int x1), (2, .int x2)]) rfl ?_
  unfold tw_takesOf at h
  refine k_aload_n G dX6_takesOf_0 rfl ?_
  refine k_iload_n G dX6_takesOf_1 rfl ?_
  refine k_iload_n G dX6_takesOf_2 rfl ?_
  refine k_aload_n G dX6_takesOf_3 rfl ?_
  refine k_iload_n G dX6_takesOf_4 rfl ?_
  refine k_iload_n G dX6_takesOf_5 rfl ?_
  refine kt_callI G (wk_partOf _ D T q _ _ _ _ h) cf_partOf q1622 dX6_takesOf_6 rfl rfl (Nat.le_of_ble_eq_true rfl) (Nat.le_of_ble_eq_true rfl) (fun r6 s6 h => ?_)
  refine k_aload_n G dX6_takesOf_9 rfl ?_
  refine kt_get G tf_s rfl dX6_takesOf_10 rfl ?_
  refine k_iload_n G dX6_takesOf_13 rfl ?_
  obtain ⟨h1, h⟩ := h
  refine kt_iald G tA_1 dX6_takesOf_14 h1 ?_
  refine kt_callI G (wk_takesBy _ D T q _ _ _ _ _ _ h) cf_takesBy q1626 dX6_takesOf_15 rfl rfl (Nat.le_of_ble_eq_true rfl) (Nat.le_of_ble_eq_true rfl) (fun r15 s15 h => ?_)
  exact k_iret G X dX6_takesOf_18 (Nat.le_refl _) (Nat.le_refl _) ⟨_, _, rfl, rfl, h⟩
def tw_leavesOf (s : TS) (x1 : Int32) (x2 : Int32) (k : Int32 → TS → Prop) : Prop := tw_kind s x1 (fun r2 s2 => (r2 = 1 → k 0 s2) ∧ (¬ r2 = 1 → (¬ r2 = 4 → tw_readsNow s2 x1 x2 (fun s21 => tw_get s21 x1 ((2 + x2)) (fun r29 s29 => ∀ x37 : Int32, x37 = (r29 + (s29.1 0 18)) → (¬ r2 = 6 → (¬ r2 = 5 → k x37 s29) ∧ (r2 = 5 → (¬ x2 = 0 → k x37 s29) ∧ (x2 = 0 → tw_number s29 x1 (fun r65 s65 => k ((x37 + r65)) s65)))) ∧ (r2 = 6 → k ((x37 / 2)) s29)))) ∧ (r2 = 4 → k 0 s2)))
set_option maxHeartbeats 4000000 in
theorem wk_leavesOf (l : Launch) (D : va_G) (T : xT) (q : Nat → Nat) (s : TS) (x1 : Int32) (x2 : Int32) (k : Int32 → TS → Prop) (h : tw_leavesOf s x1 x2 k) : XM l D T yX6_leavesOf cX6_leavesOf 5 (some .int) 25 0 0 [.ref (q 0), .int x1, .int x2] (tw T q s) (tpostI T q k) := by
  refine XM.start (by decide +kernel) (Nat.le_of_ble_eq_true rfl) (fun Γ G X _ hl_ => ?_)
  subst hl_
  refine K.less [0, 1, 2] (lv' := [(0, .ref (q 0)), (1, .int x1), (2, .int x2)]) rfl ?_
  unfold tw_leavesOf at h
  refine k_aload_n G dX6_leavesOf_0 rfl ?_
  refine k_iload_n G dX6_leavesOf_1 rfl ?_
  refine kt_callI G (wk_kind _ D T q _ _ _ h) cf_kind q1575 dX6_leavesOf_2 rfl rfl (Nat.le_of_ble_eq_true rfl) (Nat.le_of_ble_eq_true rfl) (fun r2 s2 h => ?_)
  refine k_istore_n G [(3, .int r2), (0, .ref (q 0)), (1, .int x1), (2, .int x2)] dX6_leavesOf_5 rfl (Nat.le_of_ble_eq_true rfl) rfl ?_
  refine k_iload_n G dX6_leavesOf_6 rfl ?_
  refine k_iconst G dX6_leavesOf_7 kc_i_1 ?_
  obtain ⟨hA, hB⟩ := h
  refine k_icmp_eq G 16 dX6_leavesOf_8 (by decide) (fun c8 => ?_) (fun c8 => ?_)
  · have h := hA c8
    clear hA hB
    refine k_iconst G dX6_leavesOf_16 kc_i_0 ?_
    exact k_iret G X dX6_leavesOf_17 (Nat.le_refl _) (Nat.le_refl _) ⟨_, _, rfl, rfl, h⟩
  · have h := hB c8
    clear hA hB
    refine k_iload_n G dX6_leavesOf_11 rfl ?_
    refine k_iconst G dX6_leavesOf_12 kc_i_4 ?_
    obtain ⟨hA, hB⟩ := h
    refine k_icmp_ne G 18 dX6_leavesOf_13 (by decide) (fun c13 => ?_) (fun c13 => ?_)
    · have h := hA c13
      clear hA hB
      refine k_aload_n G dX6_leavesOf_18 rfl ?_
      refine k_iload_n G dX6_leavesOf_19 rfl ?_
      refine k_iload_n G dX6_leavesOf_20 rfl ?_
      refine kt_callV G (wk_readsNow _ D T q _ _ _ _ h) cf_readsNow q1610 dX6_leavesOf_21 rfl rfl (Nat.le_of_ble_eq_true rfl) (Nat.le_of_ble_eq_true rfl) (fun s21 h => ?_)
      refine k_aload_n G dX6_leavesOf_24 rfl ?_
      refine k_iload_n G dX6_leavesOf_25 rfl ?_
      refine k_iconst G dX6_leavesOf_26 kc_i_2 ?_
      refine k_iload_n G dX6_leavesOf_27 rfl ?_
      refine k_iadd G dX6_leavesOf_28 ?_
      refine kt_callI G (wk_get _ D T q _ _ _ _ h) cf_get q1579 dX6_leavesOf_29 rfl rfl (Nat.le_of_ble_eq_true rfl) (Nat.le_of_ble_eq_true rfl) (fun r29 s29 h => ?_)
      refine k_aload_n G dX6_leavesOf_32 rfl ?_
      refine kt_get G tf_more rfl dX6_leavesOf_33 rfl ?_
      refine k_iadd G dX6_leavesOf_36 ?_
      refine k_nmI (fun x37 e37 => ?_)
      have h := h x37 e37
      refine k_istore G [(4, .int x37), (3, .int r2), (0, .ref (q 0)), (1, .int x1), (2, .int x2)] dX6_leavesOf_37 (Nat.le_of_ble_eq_true rfl) rfl ?_
      refine k_iload_n G dX6_leavesOf_39 rfl ?_
      refine k_bipush G dX6_leavesOf_40 kc_b_6 ?_
      obtain ⟨hA, hB⟩ := h
      refine k_icmp_ne G 52 dX6_leavesOf_42 (by decide) (fun c42 => ?_) (fun c42 => ?_)
      · have h := hA c42
        clear hA hB
        refine k_iload_n G dX6_leavesOf_52 rfl ?_
        refine k_iconst G dX6_leavesOf_53 kc_i_5 ?_
        obtain ⟨hA, hB⟩ := h
        refine k_icmp_ne G 72 dX6_leavesOf_54 (by decide) (fun c54 => ?_) (fun c54 => ?_)
        · have h := hA c54
          clear hA hB
          refine k_iload G dX6_leavesOf_72 rfl ?_
          exact k_iret G X dX6_leavesOf_74 (Nat.le_refl _) (Nat.le_refl _) ⟨_, _, rfl, rfl, h⟩
        · have h := hB c54
          clear hA hB
          refine k_iload_n G dX6_leavesOf_57 rfl ?_
          obtain ⟨hA, hB⟩ := h
          refine k_if_ne G 72 dX6_leavesOf_58 (by decide) (fun c58 => ?_) (fun c58 => ?_)
          · have h := hA c58
            clear hA hB
            refine k_iload G dX6_leavesOf_72 rfl ?_
            exact k_iret G X dX6_leavesOf_74 (Nat.le_refl _) (Nat.le_refl _) ⟨_, _, rfl, rfl, h⟩
          · have h := hB c58
            clear hA hB
            refine k_iload G dX6_leavesOf_61 rfl ?_
            refine k_aload_n G dX6_leavesOf_63 rfl ?_
            refine k_iload_n G dX6_leavesOf_64 rfl ?_
            refine kt_callI G (wk_number _ D T q _ _ _ h) cf_number q1583 dX6_leavesOf_65 rfl rfl (Nat.le_of_ble_eq_true rfl) (Nat.le_of_ble_eq_true rfl) (fun r65 s65 h => ?_)
            refine k_iadd G dX6_leavesOf_68 ?_
            refine k_goto G 74 dX6_leavesOf_69 (by decide) ?_
            exact k_iret G X dX6_leavesOf_74 (Nat.le_refl _) (Nat.le_refl _) ⟨_, _, rfl, rfl, h⟩
      · have h := hB c42
        clear hA hB
        refine k_iload G dX6_leavesOf_45 rfl ?_
        refine k_iconst G dX6_leavesOf_47 kc_i_2 ?_
        refine k_idiv G dX6_leavesOf_48 (by decide) ?_
        refine k_goto G 74 dX6_leavesOf_49 (by decide) ?_
        exact k_iret G X dX6_leavesOf_74 (Nat.le_refl _) (Nat.le_refl _) ⟨_, _, rfl, rfl, h⟩
    · have h := hB c13
      clear hA hB
      refine k_iconst G dX6_leavesOf_16 kc_i_0 ?_
      exact k_iret G X dX6_leavesOf_17 (Nat.le_refl _) (Nat.le_refl _) ⟨_, _, rfl, rfl, h⟩
def tw_allTakes_L4 (k : Int32 → TS → Prop) : Nat → Int32 → Int32 → Int32 → TS → Prop
  | 0, _, _, _, _ => False
  | n + 1, x1, x2, x3, s => (4 ≤ x3 → k x2 s) ∧ (¬ 4 ≤ x3 → tw_takesOf s x1 x3 (fun r13 s13 => ∀ x17 : Int32, x17 = (x2 + r13) → ∀ x18 : Int32, x18 = x3 + 1 → tw_allTakes_L4 k n x1 x17 x18 s13))
def tw_allTakes (s : TS) (x1 : Int32) (k : Int32 → TS → Prop) : Prop := ∃ n4 : Nat, tw_allTakes_L4 k n4 x1 0 0 s
set_option maxHeartbeats 4000000 in
theorem wk_allTakes (l : Launch) (D : va_G) (T : xT) (q : Nat → Nat) (s : TS) (x1 : Int32) (k : Int32 → TS → Prop) (h : tw_allTakes s x1 k) : XM l D T yX6_allTakes cX6_allTakes 4 (some .int) 27 0 0 [.ref (q 0), .int x1] (tw T q s) (tpostI T q k) := by
  refine XM.start (by decide +kernel) (Nat.le_of_ble_eq_true rfl) (fun Γ G X _ hl_ => ?_)
  subst hl_
  have hL4 : ∀ n : Nat, ∀ (x1 : Int32) (x2 : Int32) (x3 : Int32) (s : TS), (tw_allTakes_L4 k n) x1 x2 x3 s → K D Γ 0 0 4 [(0, .ref (q 0)), (1, .int x1), (2, .int x2), (3, .int x3)] [] (tw T q s) := by
    intro n
    induction n with
    | zero =>
      intro _ _ _ _ h
      exact h.elim
    | succ n ih4 =>
      intro x1 x2 x3 s h
      unfold tw_allTakes_L4 at h
      refine k_iload_n G dX6_allTakes_4 rfl ?_
      refine k_iconst G dX6_allTakes_5 kc_i_4 ?_
      obtain ⟨hA, hB⟩ := h
      refine k_icmp_ge G 24 dX6_allTakes_6 (by decide) (fun c6 => ?_) (fun c6 => ?_)
      · have h := hA c6
        clear hA hB
        refine k_iload_n G dX6_allTakes_24 rfl ?_
        exact k_iret G X dX6_allTakes_25 (Nat.le_refl _) (Nat.le_refl _) ⟨_, _, rfl, rfl, h⟩
      · have h := hB c6
        clear hA hB
        refine k_iload_n G dX6_allTakes_9 rfl ?_
        refine k_aload_n G dX6_allTakes_10 rfl ?_
        refine k_iload_n G dX6_allTakes_11 rfl ?_
        refine k_iload_n G dX6_allTakes_12 rfl ?_
        refine kt_callI G (wk_takesOf _ D T q _ _ _ _ h) cf_takesOf q1618 dX6_allTakes_13 rfl rfl (Nat.le_of_ble_eq_true rfl) (Nat.le_of_ble_eq_true rfl) (fun r13 s13 h => ?_)
        refine k_iadd G dX6_allTakes_16 ?_
        refine k_nmI (fun x17 e17 => ?_)
        have h := h x17 e17
        refine k_istore_n G [(2, .int x17), (0, .ref (q 0)), (1, .int x1), (3, .int x3)] dX6_allTakes_17 rfl (Nat.le_of_ble_eq_true rfl) rfl ?_
        obtain ⟨x18, e18⟩ : ∃ y : Int32, y = x3 + 1 := ⟨_, rfl⟩
        have h := h x18 e18
        refine k_iinc G [(3, .int x18), (2, .int x17), (0, .ref (q 0)), (1, .int x1)] dX6_allTakes_18 rfl (v := x18) (by rw [e18, kc_i_1]) (Nat.le_of_ble_eq_true rfl) rfl ?_
        refine k_goto G 4 dX6_allTakes_21 (by decide) ?_
        refine K.less [2, 3, 1, 0] rfl ?_
        exact ih4 _ _ _ _ h
  refine K.less [0, 1] (lv' := [(0, .ref (q 0)), (1, .int x1)]) rfl ?_
  unfold tw_allTakes at h
  refine k_iconst G dX6_allTakes_0 kc_i_0 ?_
  refine k_istore_n G [(2, .int 0), (0, .ref (q 0)), (1, .int x1)] dX6_allTakes_1 rfl (Nat.le_of_ble_eq_true rfl) rfl ?_
  refine k_iconst G dX6_allTakes_2 kc_i_0 ?_
  refine k_istore_n G [(3, .int 0), (2, .int 0), (0, .ref (q 0)), (1, .int x1)] dX6_allTakes_3 rfl (Nat.le_of_ble_eq_true rfl) rfl ?_
  obtain ⟨n4, h⟩ := h
  refine K.less [2, 3, 1, 0] rfl ?_
  exact hL4 n4 _ _ _ _ h
def tw_isSpoiled_L2 (k : Int32 → TS → Prop) : Nat → Int32 → Int32 → TS → Prop
  | 0, _, _, _ => False
  | n + 1, x1, x2, s => (4 ≤ x2 → k 0 s) ∧ (¬ 4 ≤ x2 → tw_takesOf s x1 x2 (fun r10 s10 => tw_get s10 x1 ((6 + x2)) (fun r19 s19 => (r10 ≤ r19 → ∀ x27 : Int32, x27 = x2 + 1 → tw_isSpoiled_L2 k n x1 x27 s19) ∧ (¬ r10 ≤ r19 → k 1 s19))))
def tw_isSpoiled (s : TS) (x1 : Int32) (k : Int32 → TS → Prop) : Prop := ∃ n2 : Nat, tw_isSpoiled_L2 k n2 x1 0 s
set_option maxHeartbeats 4000000 in
theorem wk_isSpoiled (l : Launch) (D : va_G) (T : xT) (q : Nat → Nat) (s : TS) (x1 : Int32) (k : Int32 → TS → Prop) (h : tw_isSpoiled s x1 k) : XM l D T yX6_isSpoiled cX6_isSpoiled 3 (some .boolean) 27 0 0 [.ref (q 0), .int x1] (tw T q s) (tpostI T q k) := by
  refine XM.start (by decide +kernel) (Nat.le_of_ble_eq_true rfl) (fun Γ G X _ hl_ => ?_)
  subst hl_
  have hL2 : ∀ n : Nat, ∀ (x1 : Int32) (x2 : Int32) (s : TS), (tw_isSpoiled_L2 k n) x1 x2 s → K D Γ 0 0 2 [(0, .ref (q 0)), (1, .int x1), (2, .int x2)] [] (tw T q s) := by
    intro n
    induction n with
    | zero =>
      intro _ _ _ h
      exact h.elim
    | succ n ih2 =>
      intro x1 x2 s h
      unfold tw_isSpoiled_L2 at h
      refine k_iload_n G dX6_isSpoiled_2 rfl ?_
      refine k_iconst G dX6_isSpoiled_3 kc_i_4 ?_
      obtain ⟨hA, hB⟩ := h
      refine k_icmp_ge G 33 dX6_isSpoiled_4 (by decide) (fun c4 => ?_) (fun c4 => ?_)
      · have h := hA c4
        clear hA hB
        refine k_iconst G dX6_isSpoiled_33 kc_i_0 ?_
        exact k_zret G X (Or.inl rfl) dX6_isSpoiled_34 (Nat.le_refl _) (Nat.le_refl _) ⟨_, _, rfl, rfl, h⟩
      · have h := hB c4
        clear hA hB
        refine k_aload_n G dX6_isSpoiled_7 rfl ?_
        refine k_iload_n G dX6_isSpoiled_8 rfl ?_
        refine k_iload_n G dX6_isSpoiled_9 rfl ?_
        refine kt_callI G (wk_takesOf _ D T q _ _ _ _ h) cf_takesOf q1618 dX6_isSpoiled_10 rfl rfl (Nat.le_of_ble_eq_true rfl) (Nat.le_of_ble_eq_true rfl) (fun r10 s10 h => ?_)
        refine k_aload_n G dX6_isSpoiled_13 rfl ?_
        refine k_iload_n G dX6_isSpoiled_14 rfl ?_
        refine k_bipush G dX6_isSpoiled_15 kc_b_6 ?_
        refine k_iload_n G dX6_isSpoiled_17 rfl ?_
        refine k_iadd G dX6_isSpoiled_18 ?_
        refine kt_callI G (wk_get _ D T q _ _ _ _ h) cf_get q1579 dX6_isSpoiled_19 rfl rfl (Nat.le_of_ble_eq_true rfl) (Nat.le_of_ble_eq_true rfl) (fun r19 s19 h => ?_)
        obtain ⟨hA, hB⟩ := h
        refine k_icmp_le G 27 dX6_isSpoiled_22 (by decide) (fun c22 => ?_) (fun c22 => ?_)
        · have h := hA c22
          clear hA hB
          obtain ⟨x27, e27⟩ : ∃ y : Int32, y = x2 + 1 := ⟨_, rfl⟩
          have h := h x27 e27
          refine k_iinc G [(2, .int x27), (0, .ref (q 0)), (1, .int x1)] dX6_isSpoiled_27 rfl (v := x27) (by rw [e27, kc_i_1]) (Nat.le_of_ble_eq_true rfl) rfl ?_
          refine k_goto G 2 dX6_isSpoiled_30 (by decide) ?_
          refine K.less [1, 2, 0] rfl ?_
          exact ih2 _ _ _ h
        · have h := hB c22
          clear hA hB
          refine k_iconst G dX6_isSpoiled_25 kc_i_1 ?_
          exact k_zret G X (Or.inr rfl) dX6_isSpoiled_26 (Nat.le_refl _) (Nat.le_refl _) ⟨_, _, rfl, rfl, h⟩
  refine K.less [0, 1] (lv' := [(0, .ref (q 0)), (1, .int x1)]) rfl ?_
  unfold tw_isSpoiled at h
  refine k_iconst G dX6_isSpoiled_0 kc_i_0 ?_
  refine k_istore_n G [(2, .int 0), (0, .ref (q 0)), (1, .int x1)] dX6_isSpoiled_1 rfl (Nat.le_of_ble_eq_true rfl) rfl ?_
  obtain ⟨n2, h⟩ := h
  refine K.less [1, 2, 0] rfl ?_
  exact hL2 n2 _ _ _ h
def tw_feeOf (s : TS) (x1 : Int32) (k : Int32 → TS → Prop) : Prop := tw_readsNow s x1 0 (fun s3 => k ((s3.1 0 20)) s3)
set_option maxHeartbeats 4000000 in
theorem wk_feeOf (l : Launch) (D : va_G) (T : xT) (q : Nat → Nat) (s : TS) (x1 : Int32) (k : Int32 → TS → Prop) (h : tw_feeOf s x1 k) : XM l D T yX6_feeOf cX6_feeOf 2 (some .int) 25 0 0 [.ref (q 0), .int x1] (tw T q s) (tpostI T q k) := by
  refine XM.start (by decide +kernel) (Nat.le_of_ble_eq_true rfl) (fun Γ G X _ hl_ => ?_)
  subst hl_
  refine K.less [0, 1] (lv' := [(0, .ref (q 0)), (1, .int x1)]) rfl ?_
  unfold tw_feeOf at h
  refine k_aload_n G dX6_feeOf_0 rfl ?_
  refine k_iload_n G dX6_feeOf_1 rfl ?_
  refine k_iconst G dX6_feeOf_2 kc_i_0 ?_
  refine kt_callV G (wk_readsNow _ D T q _ _ _ _ h) cf_readsNow q1610 dX6_feeOf_3 rfl rfl (Nat.le_of_ble_eq_true rfl) (Nat.le_of_ble_eq_true rfl) (fun s3 h => ?_)
  refine k_aload_n G dX6_feeOf_6 rfl ?_
  refine kt_get G tf_fee rfl dX6_feeOf_7 rfl ?_
  exact k_iret G X dX6_feeOf_10 (Nat.le_refl _) (Nat.le_refl _) ⟨_, _, rfl, rfl, h⟩
def tw_ages_J24 (k : TS → Prop) (y0 : Int32) (y1 : Int32) (y2 : Int32) (s : TS) : Prop := vp_in y2 92 ∧ k ((sA s 1 (y2 : Int32).toNatClampNeg (y1 + y0)))
def tw_ages (s : TS) (k : TS → Prop) : Prop := vp_in 4 92 ∧ vp_in 4 92 ∧ (9999 ≤ (s.1 1 (4 : Int32).toNatClampNeg) → tw_ages_J24 k 0 ((s.1 1 (4 : Int32).toNatClampNeg)) 4 s) ∧ (¬ 9999 ≤ (s.1 1 (4 : Int32).toNatClampNeg) → tw_ages_J24 k 1 ((s.1 1 (4 : Int32).toNatClampNeg)) 4 s)
set_option maxHeartbeats 4000000 in
theorem wk_ages (l : Launch) (D : va_G) (T : xT) (q : Nat → Nat) (s : TS) (k : TS → Prop) (h : tw_ages s k) : XM l D T yX6_ages cX6_ages 1 none 1 0 0 [.ref (q 0)] (tw T q s) (tpostV T q k) := by
  refine XM.start (by decide +kernel) (Nat.le_of_ble_eq_true rfl) (fun Γ G X _ hl_ => ?_)
  subst hl_
  have hJ24 : ∀ (y0 : Int32) (y1 : Int32) (y2 : Int32) (s : TS), tw_ages_J24 k y0 y1 y2 s → K D Γ 0 0 24 [] [.int y0, .int y1, .int y2, .ref (q 1)] (tw T q s) := by
    intro y0 y1 y2 s h
    unfold tw_ages_J24 at h
    refine k_iadd G dX6_ages_24 ?_
    obtain ⟨h1, h⟩ := h
    refine kt_iast G tA_1 dX6_ages_25 h1 ?_
    exact k_vret G X dX6_ages_26 (Nat.le_refl _) (Nat.le_refl _) ⟨_, rfl, rfl, h⟩
  refine K.less [0] (lv' := [(0, .ref (q 0))]) rfl ?_
  unfold tw_ages at h
  refine k_aload_n G dX6_ages_0 rfl ?_
  refine kt_get G tf_s rfl dX6_ages_1 rfl ?_
  refine k_iconst G dX6_ages_4 kc_i_4 ?_
  refine k_dup2 G dX6_ages_5 rfl rfl ?_
  obtain ⟨h1, h⟩ := h
  refine kt_iald G tA_1 dX6_ages_6 h1 ?_
  refine k_aload_n G dX6_ages_7 rfl ?_
  refine kt_get G tf_s rfl dX6_ages_8 rfl ?_
  refine k_iconst G dX6_ages_11 kc_i_4 ?_
  obtain ⟨h1, h⟩ := h
  refine kt_iald G tA_1 dX6_ages_12 h1 ?_
  refine k_sipush G dX6_ages_13 kc_s_9999 ?_
  obtain ⟨hA, hB⟩ := h
  refine k_icmp_ge G 23 dX6_ages_16 (by decide) (fun c16 => ?_) (fun c16 => ?_)
  · have h := hA c16
    clear hA hB
    refine k_iconst G dX6_ages_23 kc_i_0 ?_
    refine K.less [] rfl ?_
    exact hJ24 _ _ _ _ h
  · have h := hB c16
    clear hA hB
    refine k_iconst G dX6_ages_19 kc_i_1 ?_
    refine k_goto G 24 dX6_ages_20 (by decide) ?_
    refine K.less [] rfl ?_
    exact hJ24 _ _ _ _ h
def tw_bakes_L65 (k : Int32 → TS → Prop) : Nat → Int32 → Int32 → TS → Prop
  | 0, _, _, _ => False
  | n + 1, x2, x3, s => (4 ≤ x3 → tw_ages s (fun s89 => (x2 = 0 ∨ x2 = 1) ∧ k x2 s89)) ∧ (¬ 4 ≤ x3 → vp_in x3 4 ∧ vp_in x3 92 ∧ ∀ x82 : Int32, x82 = x3 + 1 → tw_bakes_L65 k n x2 x82 ((sA s 1 (x3 : Int32).toNatClampNeg (s.1 7 (x3 : Int32).toNatClampNeg))))
def tw_bakes_J56 (kL8 : Int32 → Int32 → Int32 → TS → Prop) (k : Int32 → TS → Prop) (x1 : Int32) (x2 : Int32) (x3 : Int32) (y0 : Int32) (y1 : Int32) (s : TS) : Prop := vp_in y1 4 ∧ ∀ x57 : Int32, x57 = x3 + 1 → kL8 x1 x2 x57 ((sA s 7 (y1 : Int32).toNatClampNeg y0))
def tw_bakes_L8 (k : Int32 → TS → Prop) : Nat → Int32 → Int32 → Int32 → TS → Prop
  | 0, _, _, _, _ => False
  | n + 1, x1, x2, x3, s => (4 ≤ x3 → ∃ n65 : Nat, tw_bakes_L65 k n65 x2 0 s) ∧ (¬ 4 ≤ x3 → vp_in x3 92 ∧ tw_takesOf s x1 x3 (fun r22 s22 => tw_leavesOf s22 x1 x3 (fun r29 s29 => ∀ x33 : Int32, x33 = (((s.1 1 (x3 : Int32).toNatClampNeg) - r22) + r29) → (x33 ≤ 9999 → tw_bakes_J56 (fun x1 x2 x3 s => tw_bakes_L8 k n x1 x2 x3 s) k x1 x2 x3 x33 x3 s29) ∧ (¬ x33 ≤ 9999 → tw_bakes_J56 (fun x1 x2 x3 s => tw_bakes_L8 k n x1 x2 x3 s) k x1 x2 x3 9999 x3 s29))))
def tw_bakes (s : TS) (x1 : Int32) (k : Int32 → TS → Prop) : Prop := tw_isSpoiled s x1 (fun r2 s2 => ∃ n8 : Nat, tw_bakes_L8 k n8 x1 r2 0 s2)
set_option maxHeartbeats 4000000 in
theorem wk_bakes (l : Launch) (D : va_G) (T : xT) (q : Nat → Nat) (s : TS) (x1 : Int32) (k : Int32 → TS → Prop) (h : tw_bakes s x1 k) : XM l D T yX6_bakes cX6_bakes 5 (some .boolean) 28 0 0 [.ref (q 0), .int x1] (tw T q s) (tpostI T q k) := by
  refine XM.start (by decide +kernel) (Nat.le_of_ble_eq_true rfl) (fun Γ G X _ hl_ => ?_)
  subst hl_
  have hL65 : ∀ n : Nat, ∀ (x2 : Int32) (x3 : Int32) (s : TS), (tw_bakes_L65 k n) x2 x3 s → K D Γ 0 0 65 [(0, .ref (q 0)), (2, .int x2), (3, .int x3)] [] (tw T q s) := by
    intro n
    induction n with
    | zero =>
      intro _ _ _ h
      exact h.elim
    | succ n ih65 =>
      intro x2 x3 s h
      unfold tw_bakes_L65 at h
      refine k_iload_n G dX6_bakes_65 rfl ?_
      refine k_iconst G dX6_bakes_66 kc_i_4 ?_
      obtain ⟨hA, hB⟩ := h
      refine k_icmp_ge G 88 dX6_bakes_67 (by decide) (fun c67 => ?_) (fun c67 => ?_)
      · have h := hA c67
        clear hA hB
        refine k_aload_n G dX6_bakes_88 rfl ?_
        refine kt_callV G (wk_ages _ D T q _ _ h) cf_ages q1650 dX6_bakes_89 rfl rfl (Nat.le_of_ble_eq_true rfl) (Nat.le_of_ble_eq_true rfl) (fun s89 h => ?_)
        refine k_iload_n G dX6_bakes_92 rfl ?_
        obtain ⟨hz, h⟩ := h
        exact k_zret G X hz dX6_bakes_93 (Nat.le_refl _) (Nat.le_refl _) ⟨_, _, rfl, rfl, h⟩
      · have h := hB c67
        clear hA hB
        refine k_aload_n G dX6_bakes_70 rfl ?_
        refine kt_get G tf_s rfl dX6_bakes_71 rfl ?_
        refine k_iload_n G dX6_bakes_74 rfl ?_
        refine k_aload_n G dX6_bakes_75 rfl ?_
        refine kt_get G tf_held rfl dX6_bakes_76 rfl ?_
        refine k_iload_n G dX6_bakes_79 rfl ?_
        obtain ⟨h1, h⟩ := h
        refine kt_iald G tA_7 dX6_bakes_80 h1 ?_
        obtain ⟨h1, h⟩ := h
        refine kt_iast G tA_1 dX6_bakes_81 h1 ?_
        obtain ⟨x82, e82⟩ : ∃ y : Int32, y = x3 + 1 := ⟨_, rfl⟩
        have h := h x82 e82
        refine k_iinc G [(3, .int x82), (0, .ref (q 0)), (2, .int x2)] dX6_bakes_82 rfl (v := x82) (by rw [e82, kc_i_1]) (Nat.le_of_ble_eq_true rfl) rfl ?_
        refine k_goto G 65 dX6_bakes_85 (by decide) ?_
        refine K.less [1, 2, 0] rfl ?_
        exact ih65 _ _ _ h
  have hJ56 : ∀ (kL8 : Int32 → Int32 → Int32 → TS → Prop) (ih8 : ∀ (x1 : Int32) (x2 : Int32) (x3 : Int32) (s : TS), kL8 x1 x2 x3 s → K D Γ 0 0 8 [(0, .ref (q 0)), (1, .int x1), (2, .int x2), (3, .int x3)] [] (tw T q s)) (x1 : Int32) (x2 : Int32) (x3 : Int32) (y0 : Int32) (y1 : Int32) (s : TS), tw_bakes_J56 kL8 k x1 x2 x3 y0 y1 s → K D Γ 0 0 56 [(0, .ref (q 0)), (1, .int x1), (2, .int x2), (3, .int x3)] [.int y0, .int y1, .ref (q 7)] (tw T q s) := by
    intro kL8 ih8 x1 x2 x3 y0 y1 s h
    unfold tw_bakes_J56 at h
    obtain ⟨h1, h⟩ := h
    refine kt_iast G tA_7 dX6_bakes_56 h1 ?_
    obtain ⟨x57, e57⟩ : ∃ y : Int32, y = x3 + 1 := ⟨_, rfl⟩
    have h := h x57 e57
    refine k_iinc G [(3, .int x57), (0, .ref (q 0)), (1, .int x1), (2, .int x2)] dX6_bakes_57 rfl (v := x57) (by rw [e57, kc_i_1]) (Nat.le_of_ble_eq_true rfl) rfl ?_
    refine k_goto G 8 dX6_bakes_60 (by decide) ?_
    refine K.less [1, 2, 3, 0] rfl ?_
    exact ih8 _ _ _ _ h
  have hL8 : ∀ n : Nat, ∀ (x1 : Int32) (x2 : Int32) (x3 : Int32) (s : TS), (tw_bakes_L8 k n) x1 x2 x3 s → K D Γ 0 0 8 [(0, .ref (q 0)), (1, .int x1), (2, .int x2), (3, .int x3)] [] (tw T q s) := by
    intro n
    induction n with
    | zero =>
      intro _ _ _ _ h
      exact h.elim
    | succ n ih8 =>
      intro x1 x2 x3 s h
      unfold tw_bakes_L8 at h
      refine k_iload_n G dX6_bakes_8 rfl ?_
      refine k_iconst G dX6_bakes_9 kc_i_4 ?_
      obtain ⟨hA, hB⟩ := h
      refine k_icmp_ge G 63 dX6_bakes_10 (by decide) (fun c10 => ?_) (fun c10 => ?_)
      · have h := hA c10
        clear hA hB
        refine k_iconst G dX6_bakes_63 kc_i_0 ?_
        refine k_istore_n G [(3, .int 0), (0, .ref (q 0)), (1, .int x1), (2, .int x2)] dX6_bakes_64 rfl (Nat.le_of_ble_eq_true rfl) rfl ?_
        obtain ⟨n65, h⟩ := h
        refine K.less [1, 3, 0] rfl ?_
        exact hL65 n65 _ _ _ h
      · have h := hB c10
        clear hA hB
        refine k_aload_n G dX6_bakes_13 rfl ?_
        refine kt_get G tf_s rfl dX6_bakes_14 rfl ?_
        refine k_iload_n G dX6_bakes_17 rfl ?_
        obtain ⟨h1, h⟩ := h
        refine kt_iald G tA_1 dX6_bakes_18 h1 ?_
        refine k_aload_n G dX6_bakes_19 rfl ?_
        refine k_iload_n G dX6_bakes_20 rfl ?_
        refine k_iload_n G dX6_bakes_21 rfl ?_
        refine kt_callI G (wk_takesOf _ D T q _ _ _ _ h) cf_takesOf q1618 dX6_bakes_22 rfl rfl (Nat.le_of_ble_eq_true rfl) (Nat.le_of_ble_eq_true rfl) (fun r22 s22 h => ?_)
        refine k_isub G dX6_bakes_25 ?_
        refine k_aload_n G dX6_bakes_26 rfl ?_
        refine k_iload_n G dX6_bakes_27 rfl ?_
        refine k_iload_n G dX6_bakes_28 rfl ?_
        refine kt_callI G (wk_leavesOf _ D T q _ _ _ _ h) cf_leavesOf q1630 dX6_bakes_29 rfl rfl (Nat.le_of_ble_eq_true rfl) (Nat.le_of_ble_eq_true rfl) (fun r29 s29 h => ?_)
        refine k_iadd G dX6_bakes_32 ?_
        refine k_nmI (fun x33 e33 => ?_)
        have h := h x33 e33
        refine k_istore G [(4, .int x33), (0, .ref (q 0)), (1, .int x1), (2, .int x2), (3, .int x3)] dX6_bakes_33 (Nat.le_of_ble_eq_true rfl) rfl ?_
        refine k_aload_n G dX6_bakes_35 rfl ?_
        refine kt_get G tf_held rfl dX6_bakes_36 rfl ?_
        refine k_iload_n G dX6_bakes_39 rfl ?_
        refine k_iload G dX6_bakes_40 rfl ?_
        refine k_sipush G dX6_bakes_42 kc_s_9999 ?_
        obtain ⟨hA, hB⟩ := h
        refine k_icmp_le G 54 dX6_bakes_45 (by decide) (fun c45 => ?_) (fun c45 => ?_)
        · have h := hA c45
          clear hA hB
          refine k_iload G dX6_bakes_54 rfl ?_
          refine K.less [1, 2, 3, 4] rfl ?_
          exact hJ56 _ ih8 _ _ _ _ _ _ h
        · have h := hB c45
          clear hA hB
          refine k_sipush G dX6_bakes_48 kc_s_9999 ?_
          refine k_goto G 56 dX6_bakes_51 (by decide) ?_
          refine K.less [1, 2, 3, 4] rfl ?_
          exact hJ56 _ ih8 _ _ _ _ _ _ h
  refine K.less [0, 1] (lv' := [(0, .ref (q 0)), (1, .int x1)]) rfl ?_
  unfold tw_bakes at h
  refine k_aload_n G dX6_bakes_0 rfl ?_
  refine k_iload_n G dX6_bakes_1 rfl ?_
  refine kt_callI G (wk_isSpoiled _ D T q _ _ _ h) cf_isSpoiled q1614 dX6_bakes_2 rfl rfl (Nat.le_of_ble_eq_true rfl) (Nat.le_of_ble_eq_true rfl) (fun r2 s2 h => ?_)
  refine k_istore_n G [(2, .int r2), (0, .ref (q 0)), (1, .int x1)] dX6_bakes_5 rfl (Nat.le_of_ble_eq_true rfl) rfl ?_
  refine k_iconst G dX6_bakes_6 kc_i_0 ?_
  refine k_istore_n G [(3, .int 0), (2, .int r2), (0, .ref (q 0)), (1, .int x1)] dX6_bakes_7 rfl (Nat.le_of_ble_eq_true rfl) rfl ?_
  obtain ⟨n8, h⟩ := h
  refine K.less [2, 3, 1, 0] rfl ?_
  exact hL8 n8 _ _ _ _ h
def tw_cools_J49 (kL13 : Int32 → Int32 → TS → Prop) (k : TS → Prop) (x1 : Int32) (x2 : Int32) (y0 : Int32) (y1 : Int32) (s : TS) : Prop := vp_in y1 92 ∧ ∀ x50 : Int32, x50 = x2 + 1 → kL13 x1 x50 ((sA s 1 (y1 : Int32).toNatClampNeg y0))
def tw_cools_L13 (k : TS → Prop) : Nat → Int32 → Int32 → TS → Prop
  | 0, _, _, _ => False
  | n + 1, x1, x2, s => (4 ≤ x2 → tw_ages s (fun s57 => k s57)) ∧ (¬ 4 ≤ x2 → vp_in x2 92 ∧ ∀ x29 : Int32, x29 = ((x1 * (s.1 1 (x2 : Int32).toNatClampNeg)) / 100) → (x29 ≤ 9999 → tw_cools_J49 (fun x1 x2 s => tw_cools_L13 k n x1 x2 s) k x1 x2 x29 x2 s) ∧ (¬ x29 ≤ 9999 → tw_cools_J49 (fun x1 x2 s => tw_cools_L13 k n x1 x2 s) k x1 x2 9999 x2 s))
def tw_cools (s : TS) (k : TS → Prop) : Prop := tw_readsNow s 0 0 (fun s3 => ∀ x10 : Int32, x10 = (s3.1 0 19) → ∃ n13 : Nat, tw_cools_L13 k n13 x10 0 s3)
set_option maxHeartbeats 4000000 in
theorem wk_cools (l : Launch) (D : va_G) (T : xT) (q : Nat → Nat) (s : TS) (k : TS → Prop) (h : tw_cools s k) : XM l D T yX6_cools cX6_cools 4 none 25 0 0 [.ref (q 0)] (tw T q s) (tpostV T q k) := by
  refine XM.start (by decide +kernel) (Nat.le_of_ble_eq_true rfl) (fun Γ G X _ hl_ => ?_)
  subst hl_
  have hJ49 : ∀ (kL13 : Int32 → Int32 → TS → Prop) (ih13 : ∀ (x1 : Int32) (x2 : Int32) (s : TS), kL13 x1 x2 s → K D Γ 0 0 13 [(0, .ref (q 0)), (1, .int x1), (2, .int x2)] [] (tw T q s)) (x1 : Int32) (x2 : Int32) (y0 : Int32) (y1 : Int32) (s : TS), tw_cools_J49 kL13 k x1 x2 y0 y1 s → K D Γ 0 0 49 [(0, .ref (q 0)), (1, .int x1), (2, .int x2)] [.int y0, .int y1, .ref (q 1)] (tw T q s) := by
    intro kL13 ih13 x1 x2 y0 y1 s h
    unfold tw_cools_J49 at h
    obtain ⟨h1, h⟩ := h
    refine kt_iast G tA_1 dX6_cools_49 h1 ?_
    obtain ⟨x50, e50⟩ : ∃ y : Int32, y = x2 + 1 := ⟨_, rfl⟩
    have h := h x50 e50
    refine k_iinc G [(2, .int x50), (0, .ref (q 0)), (1, .int x1)] dX6_cools_50 rfl (v := x50) (by rw [e50, kc_i_1]) (Nat.le_of_ble_eq_true rfl) rfl ?_
    refine k_goto G 13 dX6_cools_53 (by decide) ?_
    refine K.less [1, 2, 0] rfl ?_
    exact ih13 _ _ _ h
  have hL13 : ∀ n : Nat, ∀ (x1 : Int32) (x2 : Int32) (s : TS), (tw_cools_L13 k n) x1 x2 s → K D Γ 0 0 13 [(0, .ref (q 0)), (1, .int x1), (2, .int x2)] [] (tw T q s) := by
    intro n
    induction n with
    | zero =>
      intro _ _ _ h
      exact h.elim
    | succ n ih13 =>
      intro x1 x2 s h
      unfold tw_cools_L13 at h
      refine k_iload_n G dX6_cools_13 rfl ?_
      refine k_iconst G dX6_cools_14 kc_i_4 ?_
      obtain ⟨hA, hB⟩ := h
      refine k_icmp_ge G 56 dX6_cools_15 (by decide) (fun c15 => ?_) (fun c15 => ?_)
      · have h := hA c15
        clear hA hB
        refine k_aload_n G dX6_cools_56 rfl ?_
        refine kt_callV G (wk_ages _ D T q _ _ h) cf_ages q1650 dX6_cools_57 rfl rfl (Nat.le_of_ble_eq_true rfl) (Nat.le_of_ble_eq_true rfl) (fun s57 h => ?_)
        exact k_vret G X dX6_cools_60 (Nat.le_refl _) (Nat.le_refl _) ⟨_, rfl, rfl, h⟩
      · have h := hB c15
        clear hA hB
        refine k_iload_n G dX6_cools_18 rfl ?_
        refine k_aload_n G dX6_cools_19 rfl ?_
        refine kt_get G tf_s rfl dX6_cools_20 rfl ?_
        refine k_iload_n G dX6_cools_23 rfl ?_
        obtain ⟨h1, h⟩ := h
        refine kt_iald G tA_1 dX6_cools_24 h1 ?_
        refine k_imul G dX6_cools_25 ?_
        refine k_bipush G dX6_cools_26 kc_b_100 ?_
        refine k_idiv G dX6_cools_28 (by decide) ?_
        refine k_nmI (fun x29 e29 => ?_)
        have h := h x29 e29
        refine k_istore_n G [(3, .int x29), (0, .ref (q 0)), (1, .int x1), (2, .int x2)] dX6_cools_29 rfl (Nat.le_of_ble_eq_true rfl) rfl ?_
        refine k_aload_n G dX6_cools_30 rfl ?_
        refine kt_get G tf_s rfl dX6_cools_31 rfl ?_
        refine k_iload_n G dX6_cools_34 rfl ?_
        refine k_iload_n G dX6_cools_35 rfl ?_
        refine k_sipush G dX6_cools_36 kc_s_9999 ?_
        obtain ⟨hA, hB⟩ := h
        refine k_icmp_le G 48 dX6_cools_39 (by decide) (fun c39 => ?_) (fun c39 => ?_)
        · have h := hA c39
          clear hA hB
          refine k_iload_n G dX6_cools_48 rfl ?_
          refine K.less [1, 2, 3] rfl ?_
          exact hJ49 _ ih13 _ _ _ _ _ h
        · have h := hB c39
          clear hA hB
          refine k_sipush G dX6_cools_42 kc_s_9999 ?_
          refine k_goto G 49 dX6_cools_45 (by decide) ?_
          refine K.less [1, 2, 3] rfl ?_
          exact hJ49 _ ih13 _ _ _ _ _ h
  refine K.less [0] (lv' := [(0, .ref (q 0))]) rfl ?_
  unfold tw_cools at h
  refine k_aload_n G dX6_cools_0 rfl ?_
  refine k_iconst G dX6_cools_1 kc_i_0 ?_
  refine k_iconst G dX6_cools_2 kc_i_0 ?_
  refine kt_callV G (wk_readsNow _ D T q _ _ _ _ h) cf_readsNow q1610 dX6_cools_3 rfl rfl (Nat.le_of_ble_eq_true rfl) (Nat.le_of_ble_eq_true rfl) (fun s3 h => ?_)
  refine k_aload_n G dX6_cools_6 rfl ?_
  refine kt_get G tf_cold rfl dX6_cools_7 rfl ?_
  refine k_nmI (fun x10 e10 => ?_)
  have h := h x10 e10
  refine k_istore_n G [(1, .int x10), (0, .ref (q 0))] dX6_cools_10 rfl (Nat.le_of_ble_eq_true rfl) rfl ?_
  refine k_iconst G dX6_cools_11 kc_i_0 ?_
  refine k_istore_n G [(2, .int 0), (1, .int x10), (0, .ref (q 0))] dX6_cools_12 rfl (Nat.le_of_ble_eq_true rfl) rfl ?_
  obtain ⟨n13, h⟩ := h
  refine K.less [2, 1, 0] rfl ?_
  exact hL13 n13 _ _ _ h
def tw_loaf_L77 (k : Int32 → TS → Prop) : Nat → Int32 → Int32 → TS → Prop
  | 0, _, _, _ => False
  | n + 1, x3, x4, s => (4 ≤ x4 → vp_in 5 92 ∧ vp_in 5 92 ∧ k x3 ((sA s 1 (5 : Int32).toNatClampNeg ((s.1 1 (5 : Int32).toNatClampNeg) + 1)))) ∧ (¬ 4 ≤ x4 → vp_in (((8 + (10 * x3)) + 2) + x4) 92 ∧ ∀ w120 : TS, w120 = (sA s 1 ((((8 + (10 * x3)) + 2) + x4) : Int32).toNatClampNeg 0) → vp_in (((8 + (10 * x3)) + 6) + x4) 92 ∧ ∀ x121 : Int32, x121 = x4 + 1 → tw_loaf_L77 k n x3 x121 ((sA w120 1 ((((8 + (10 * x3)) + 6) + x4) : Int32).toNatClampNeg 9)))
def tw_loaf (s : TS) (x1 : Int32) (x2 : Int32) (k : Int32 → TS → Prop) : Prop := pw_isIn x1 0 6 (fun r4 => (¬ r4 = 0 → pw_isIn x2 0 9 (fun r16 => (¬ r16 = 0 → vp_in 5 92 ∧ (¬ (s.1 1 (5 : Int32).toNatClampNeg) = 6 → vp_in 5 92 ∧ ∀ x45 : Int32, x45 = (s.1 1 (5 : Int32).toNatClampNeg) → vp_in (8 + (10 * x45)) 92 ∧ ∀ w73 : TS, w73 = (sA s 1 ((8 + (10 * x45)) : Int32).toNatClampNeg x1) → vp_in ((8 + (10 * x45)) + 1) 92 ∧ ∃ n77 : Nat, tw_loaf_L77 k n77 x45 0 ((sA w73 1 (((8 + (10 * x45)) + 1) : Int32).toNatClampNeg x2))) ∧ ((s.1 1 (5 : Int32).toNatClampNeg) = 6 → k (-4) s)) ∧ (r16 = 0 → k (-2) s))) ∧ (r4 = 0 → k (-1) s))
set_option maxHeartbeats 4000000 in
theorem wk_loaf (l : Launch) (D : va_G) (T : xT) (q : Nat → Nat) (s : TS) (x1 : Int32) (x2 : Int32) (k : Int32 → TS → Prop) (h : tw_loaf s x1 x2 k) : XM l D T yX6_loaf cX6_loaf 5 (some .int) 2 0 0 [.ref (q 0), .int x1, .int x2] (tw T q s) (tpostI T q k) := by
  refine XM.start (by decide +kernel) (Nat.le_of_ble_eq_true rfl) (fun Γ G X _ hl_ => ?_)
  subst hl_
  have hL77 : ∀ n : Nat, ∀ (x3 : Int32) (x4 : Int32) (s : TS), (tw_loaf_L77 k n) x3 x4 s → K D Γ 0 0 77 [(0, .ref (q 0)), (3, .int x3), (4, .int x4)] [] (tw T q s) := by
    intro n
    induction n with
    | zero =>
      intro _ _ _ h
      exact h.elim
    | succ n ih77 =>
      intro x3 x4 s h
      unfold tw_loaf_L77 at h
      refine k_iload G dX6_loaf_77 rfl ?_
      refine k_iconst G dX6_loaf_79 kc_i_4 ?_
      obtain ⟨hA, hB⟩ := h
      refine k_icmp_ge G 127 dX6_loaf_80 (by decide) (fun c80 => ?_) (fun c80 => ?_)
      · have h := hA c80
        clear hA hB
        refine k_aload_n G dX6_loaf_127 rfl ?_
        refine kt_get G tf_s rfl dX6_loaf_128 rfl ?_
        refine k_iconst G dX6_loaf_131 kc_i_5 ?_
        refine k_dup2 G dX6_loaf_132 rfl rfl ?_
        obtain ⟨h1, h⟩ := h
        refine kt_iald G tA_1 dX6_loaf_133 h1 ?_
        refine k_iconst G dX6_loaf_134 kc_i_1 ?_
        refine k_iadd G dX6_loaf_135 ?_
        obtain ⟨h1, h⟩ := h
        refine kt_iast G tA_1 dX6_loaf_136 h1 ?_
        refine k_iload_n G dX6_loaf_137 rfl ?_
        exact k_iret G X dX6_loaf_138 (Nat.le_refl _) (Nat.le_refl _) ⟨_, _, rfl, rfl, h⟩
      · have h := hB c80
        clear hA hB
        refine k_aload_n G dX6_loaf_83 rfl ?_
        refine kt_get G tf_s rfl dX6_loaf_84 rfl ?_
        refine k_bipush G dX6_loaf_87 kc_b_8 ?_
        refine k_bipush G dX6_loaf_89 kc_b_10 ?_
        refine k_iload_n G dX6_loaf_91 rfl ?_
        refine k_imul G dX6_loaf_92 ?_
        refine k_iadd G dX6_loaf_93 ?_
        refine k_iconst G dX6_loaf_94 kc_i_2 ?_
        refine k_iadd G dX6_loaf_95 ?_
        refine k_iload G dX6_loaf_96 rfl ?_
        refine k_iadd G dX6_loaf_98 ?_
        refine k_iconst G dX6_loaf_99 kc_i_0 ?_
        obtain ⟨h1, h⟩ := h
        refine kt_iast G tA_1 dX6_loaf_100 h1 ?_
        refine k_aload_n G dX6_loaf_101 rfl ?_
        refine kt_get G tf_s rfl dX6_loaf_102 rfl ?_
        refine k_bipush G dX6_loaf_105 kc_b_8 ?_
        refine k_bipush G dX6_loaf_107 kc_b_10 ?_
        refine k_iload_n G dX6_loaf_109 rfl ?_
        refine k_imul G dX6_loaf_110 ?_
        refine k_iadd G dX6_loaf_111 ?_
        refine k_bipush G dX6_loaf_112 kc_b_6 ?_
        refine k_iadd G dX6_loaf_114 ?_
        refine k_iload G dX6_loaf_115 rfl ?_
        refine k_iadd G dX6_loaf_117 ?_
        refine k_bipush G dX6_loaf_118 kc_b_9 ?_
        refine kt_nmW (fun w120 ew120 => ?_)
        have h := h w120 ew120
        obtain ⟨h1, h⟩ := h
        refine kt_iast G tA_1 dX6_loaf_120 h1 ?_
        obtain ⟨x121, e121⟩ : ∃ y : Int32, y = x4 + 1 := ⟨_, rfl⟩
        have h := h x121 e121
        refine k_iinc G [(4, .int x121), (0, .ref (q 0)), (3, .int x3)] dX6_loaf_121 rfl (v := x121) (by rw [e121, kc_i_1]) (Nat.le_of_ble_eq_true rfl) rfl ?_
        refine k_goto G 77 dX6_loaf_124 (by decide) ?_
        refine K.less [1, 2, 0] rfl ?_
        exact ih77 _ _ _ h
  refine K.less [0, 1, 2] (lv' := [(0, .ref (q 0)), (1, .int x1), (2, .int x2)]) rfl ?_
  unfold tw_loaf at h
  refine k_iload_n G dX6_loaf_0 rfl ?_
  refine k_iconst G dX6_loaf_1 kc_i_0 ?_
  refine k_bipush G dX6_loaf_2 kc_b_6 ?_
  refine k_callPI G (wk_isIn _ D T _ _ _ _ h) cf_isIn q1511 dX6_loaf_4 rfl rfl (Nat.le_of_ble_eq_true rfl) (Nat.le_of_ble_eq_true rfl) ⟨Nat.zero_le _, Nat.zero_le _⟩ (fun r4 h => ?_)
  obtain ⟨hA, hB⟩ := h
  refine k_if_ne G 12 dX6_loaf_7 (by decide) (fun c7 => ?_) (fun c7 => ?_)
  · have h := hA c7
    clear hA hB
    refine k_iload_n G dX6_loaf_12 rfl ?_
    refine k_iconst G dX6_loaf_13 kc_i_0 ?_
    refine k_bipush G dX6_loaf_14 kc_b_9 ?_
    refine k_callPI G (wk_isIn _ D T _ _ _ _ h) cf_isIn q1511 dX6_loaf_16 rfl rfl (Nat.le_of_ble_eq_true rfl) (Nat.le_of_ble_eq_true rfl) ⟨Nat.zero_le _, Nat.zero_le _⟩ (fun r16 h => ?_)
    obtain ⟨hA, hB⟩ := h
    refine k_if_ne G 25 dX6_loaf_19 (by decide) (fun c19 => ?_) (fun c19 => ?_)
    · have h := hA c19
      clear hA hB
      refine k_aload_n G dX6_loaf_25 rfl ?_
      refine kt_get G tf_s rfl dX6_loaf_26 rfl ?_
      refine k_iconst G dX6_loaf_29 kc_i_5 ?_
      obtain ⟨h1, h⟩ := h
      refine kt_iald G tA_1 dX6_loaf_30 h1 ?_
      refine k_bipush G dX6_loaf_31 kc_b_6 ?_
      obtain ⟨hA, hB⟩ := h
      refine k_icmp_ne G 39 dX6_loaf_33 (by decide) (fun c33 => ?_) (fun c33 => ?_)
      · have h := hA c33
        clear hA hB
        refine k_aload_n G dX6_loaf_39 rfl ?_
        refine kt_get G tf_s rfl dX6_loaf_40 rfl ?_
        refine k_iconst G dX6_loaf_43 kc_i_5 ?_
        obtain ⟨h1, h⟩ := h
        refine kt_iald G tA_1 dX6_loaf_44 h1 ?_
        refine k_nmI (fun x45 e45 => ?_)
        have h := h x45 e45
        refine k_istore_n G [(3, .int x45), (0, .ref (q 0)), (1, .int x1), (2, .int x2)] dX6_loaf_45 rfl (Nat.le_of_ble_eq_true rfl) rfl ?_
        refine k_aload_n G dX6_loaf_46 rfl ?_
        refine kt_get G tf_s rfl dX6_loaf_47 rfl ?_
        refine k_bipush G dX6_loaf_50 kc_b_8 ?_
        refine k_bipush G dX6_loaf_52 kc_b_10 ?_
        refine k_iload_n G dX6_loaf_54 rfl ?_
        refine k_imul G dX6_loaf_55 ?_
        refine k_iadd G dX6_loaf_56 ?_
        refine k_iload_n G dX6_loaf_57 rfl ?_
        obtain ⟨h1, h⟩ := h
        refine kt_iast G tA_1 dX6_loaf_58 h1 ?_
        refine k_aload_n G dX6_loaf_59 rfl ?_
        refine kt_get G tf_s rfl dX6_loaf_60 rfl ?_
        refine k_bipush G dX6_loaf_63 kc_b_8 ?_
        refine k_bipush G dX6_loaf_65 kc_b_10 ?_
        refine k_iload_n G dX6_loaf_67 rfl ?_
        refine k_imul G dX6_loaf_68 ?_
        refine k_iadd G dX6_loaf_69 ?_
        refine k_iconst G dX6_loaf_70 kc_i_1 ?_
        refine k_iadd G dX6_loaf_71 ?_
        refine k_iload_n G dX6_loaf_72 rfl ?_
        refine kt_nmW (fun w73 ew73 => ?_)
        have h := h w73 ew73
        obtain ⟨h1, h⟩ := h
        refine kt_iast G tA_1 dX6_loaf_73 h1 ?_
        refine k_iconst G dX6_loaf_74 kc_i_0 ?_
        refine k_istore G [(4, .int 0), (3, .int x45), (0, .ref (q 0)), (1, .int x1), (2, .int x2)] dX6_loaf_75 (Nat.le_of_ble_eq_true rfl) rfl ?_
        obtain ⟨n77, h⟩ := h
        refine K.less [2, 1, 0] rfl ?_
        exact hL77 n77 _ _ _ h
      · have h := hB c33
        clear hA hB
        refine k_bipush G dX6_loaf_36 kc_b_m4 ?_
        exact k_iret G X dX6_loaf_38 (Nat.le_refl _) (Nat.le_refl _) ⟨_, _, rfl, rfl, h⟩
    · have h := hB c19
      clear hA hB
      refine k_bipush G dX6_loaf_22 kc_b_m2 ?_
      exact k_iret G X dX6_loaf_24 (Nat.le_refl _) (Nat.le_refl _) ⟨_, _, rfl, rfl, h⟩
  · have h := hB c7
    clear hA hB
    refine k_iconst G dX6_loaf_10 kc_i_m1 ?_
    exact k_iret G X dX6_loaf_11 (Nat.le_refl _) (Nat.le_refl _) ⟨_, _, rfl, rfl, h⟩
def tw_set_J57 (k : Int32 → TS → Prop) (x2 : Int32) (x4 : Int32) (y0 : Int32) (y1 : Int32) (s : TS) : Prop := ∀ x60 : Int32, x60 = ((y1 + y0) + x2) → vp_in x60 92 ∧ ∀ x69 : Int32, x69 = (s.1 1 (x60 : Int32).toNatClampNeg) → vp_in x60 92 ∧ k x69 ((sA s 1 (x60 : Int32).toNatClampNeg x4))
def tw_set (s : TS) (x1 : Int32) (x2 : Int32) (x3 : Int32) (x4 : Int32) (k : Int32 → TS → Prop) : Prop := tw_isLoaf s x1 (fun r2 s2 => (r2 = 0 → k (-1) s2) ∧ (¬ r2 = 0 → pw_isTaste x2 (fun r9 => (r9 = 0 → k (-1) s2) ∧ (¬ r9 = 0 → pw_isIn x3 0 1 (fun r18 => (¬ r18 = 0 → pw_isIn x4 0 99 (fun r31 => (¬ r31 = 0 → (¬ x3 = 0 → tw_set_J57 k x2 x4 6 ((8 + (10 * x1))) s2) ∧ (x3 = 0 → tw_set_J57 k x2 x4 2 ((8 + (10 * x1))) s2)) ∧ (r31 = 0 → k (-2) s2))) ∧ (r18 = 0 → k (-1) s2))))))
set_option maxHeartbeats 4000000 in
theorem wk_set (l : Launch) (D : va_G) (T : xT) (q : Nat → Nat) (s : TS) (x1 : Int32) (x2 : Int32) (x3 : Int32) (x4 : Int32) (k : Int32 → TS → Prop) (h : tw_set s x1 x2 x3 x4 k) : XM l D T yX6_set cX6_set 7 (some .int) 3 0 0 [.ref (q 0), .int x1, .int x2, .int x3, .int x4] (tw T q s) (tpostI T q k) := by
  refine XM.start (by decide +kernel) (Nat.le_of_ble_eq_true rfl) (fun Γ G X _ hl_ => ?_)
  subst hl_
  have hJ57 : ∀ (x2 : Int32) (x4 : Int32) (y0 : Int32) (y1 : Int32) (s : TS), tw_set_J57 k x2 x4 y0 y1 s → K D Γ 0 0 57 [(0, .ref (q 0)), (2, .int x2), (4, .int x4)] [.int y0, .int y1] (tw T q s) := by
    intro x2 x4 y0 y1 s h
    unfold tw_set_J57 at h
    refine k_iadd G dX6_set_57 ?_
    refine k_iload_n G dX6_set_58 rfl ?_
    refine k_iadd G dX6_set_59 ?_
    refine k_nmI (fun x60 e60 => ?_)
    have h := h x60 e60
    refine k_istore G [(5, .int x60), (0, .ref (q 0)), (2, .int x2), (4, .int x4)] dX6_set_60 (Nat.le_of_ble_eq_true rfl) rfl ?_
    refine k_aload_n G dX6_set_62 rfl ?_
    refine kt_get G tf_s rfl dX6_set_63 rfl ?_
    refine k_iload G dX6_set_66 rfl ?_
    obtain ⟨h1, h⟩ := h
    refine kt_iald G tA_1 dX6_set_68 h1 ?_
    refine k_nmI (fun x69 e69 => ?_)
    have h := h x69 e69
    refine k_istore G [(6, .int x69), (5, .int x60), (0, .ref (q 0)), (2, .int x2), (4, .int x4)] dX6_set_69 (Nat.le_of_ble_eq_true rfl) rfl ?_
    refine k_aload_n G dX6_set_71 rfl ?_
    refine kt_get G tf_s rfl dX6_set_72 rfl ?_
    refine k_iload G dX6_set_75 rfl ?_
    refine k_iload G dX6_set_77 rfl ?_
    obtain ⟨h1, h⟩ := h
    refine kt_iast G tA_1 dX6_set_79 h1 ?_
    refine k_iload G dX6_set_80 rfl ?_
    exact k_iret G X dX6_set_82 (Nat.le_refl _) (Nat.le_refl _) ⟨_, _, rfl, rfl, h⟩
  refine K.less [0, 1, 2, 3, 4] (lv' := [(0, .ref (q 0)), (1, .int x1), (2, .int x2), (3, .int x3), (4, .int x4)]) rfl ?_
  unfold tw_set at h
  refine k_aload_n G dX6_set_0 rfl ?_
  refine k_iload_n G dX6_set_1 rfl ?_
  refine kt_callI G (wk_isLoaf _ D T q _ _ _ h) cf_isLoaf q1595 dX6_set_2 rfl rfl (Nat.le_of_ble_eq_true rfl) (Nat.le_of_ble_eq_true rfl) (fun r2 s2 h => ?_)
  obtain ⟨hA, hB⟩ := h
  refine k_if_eq G 24 dX6_set_5 (by decide) (fun c5 => ?_) (fun c5 => ?_)
  · have h := hA c5
    clear hA hB
    refine k_iconst G dX6_set_24 kc_i_m1 ?_
    exact k_iret G X dX6_set_25 (Nat.le_refl _) (Nat.le_refl _) ⟨_, _, rfl, rfl, h⟩
  · have h := hB c5
    clear hA hB
    refine k_iload_n G dX6_set_8 rfl ?_
    refine k_callPI G (wk_isTaste _ D T _ _ h) cf_isTaste q1599 dX6_set_9 rfl rfl (Nat.le_of_ble_eq_true rfl) (Nat.le_of_ble_eq_true rfl) ⟨Nat.zero_le _, Nat.zero_le _⟩ (fun r9 h => ?_)
    obtain ⟨hA, hB⟩ := h
    refine k_if_eq G 24 dX6_set_12 (by decide) (fun c12 => ?_) (fun c12 => ?_)
    · have h := hA c12
      clear hA hB
      refine k_iconst G dX6_set_24 kc_i_m1 ?_
      exact k_iret G X dX6_set_25 (Nat.le_refl _) (Nat.le_refl _) ⟨_, _, rfl, rfl, h⟩
    · have h := hB c12
      clear hA hB
      refine k_iload_n G dX6_set_15 rfl ?_
      refine k_iconst G dX6_set_16 kc_i_0 ?_
      refine k_iconst G dX6_set_17 kc_i_1 ?_
      refine k_callPI G (wk_isIn _ D T _ _ _ _ h) cf_isIn q1511 dX6_set_18 rfl rfl (Nat.le_of_ble_eq_true rfl) (Nat.le_of_ble_eq_true rfl) ⟨Nat.zero_le _, Nat.zero_le _⟩ (fun r18 h => ?_)
      obtain ⟨hA, hB⟩ := h
      refine k_if_ne G 26 dX6_set_21 (by decide) (fun c21 => ?_) (fun c21 => ?_)
      · have h := hA c21
        clear hA hB
        refine k_iload G dX6_set_26 rfl ?_
        refine k_iconst G dX6_set_28 kc_i_0 ?_
        refine k_bipush G dX6_set_29 kc_b_99 ?_
        refine k_callPI G (wk_isIn _ D T _ _ _ _ h) cf_isIn q1511 dX6_set_31 rfl rfl (Nat.le_of_ble_eq_true rfl) (Nat.le_of_ble_eq_true rfl) ⟨Nat.zero_le _, Nat.zero_le _⟩ (fun r31 h => ?_)
        obtain ⟨hA, hB⟩ := h
        refine k_if_ne G 40 dX6_set_34 (by decide) (fun c34 => ?_) (fun c34 => ?_)
        · have h := hA c34
          clear hA hB
          refine k_bipush G dX6_set_40 kc_b_8 ?_
          refine k_bipush G dX6_set_42 kc_b_10 ?_
          refine k_iload_n G dX6_set_44 rfl ?_
          refine k_imul G dX6_set_45 ?_
          refine k_iadd G dX6_set_46 ?_
          refine k_iload_n G dX6_set_47 rfl ?_
          obtain ⟨hA, hB⟩ := h
          refine k_if_ne G 55 dX6_set_48 (by decide) (fun c48 => ?_) (fun c48 => ?_)
          · have h := hA c48
            clear hA hB
            refine k_bipush G dX6_set_55 kc_b_6 ?_
            refine K.less [0, 2, 4] rfl ?_
            exact hJ57 _ _ _ _ _ h
          · have h := hB c48
            clear hA hB
            refine k_iconst G dX6_set_51 kc_i_2 ?_
            refine k_goto G 57 dX6_set_52 (by decide) ?_
            refine K.less [0, 2, 4] rfl ?_
            exact hJ57 _ _ _ _ _ h
        · have h := hB c34
          clear hA hB
          refine k_bipush G dX6_set_37 kc_b_m2 ?_
          exact k_iret G X dX6_set_39 (Nat.le_refl _) (Nat.le_refl _) ⟨_, _, rfl, rfl, h⟩
      · have h := hB c21
        clear hA hB
        refine k_iconst G dX6_set_24 kc_i_m1 ?_
        exact k_iret G X dX6_set_25 (Nat.le_refl _) (Nat.le_refl _) ⟨_, _, rfl, rfl, h⟩
def tw_of (s : TS) (x1 : Int32) (x2 : Int32) (k : Int32 → TS → Prop) : Prop := tw_isLoaf s x1 (fun r2 s2 => (¬ r2 = 0 → ∀ x14 : Int32, x14 = (x2 - x2 / 10 * 10) → (x2 = 0 → tw_kind s2 x1 (fun r50 s50 => k r50 s50)) ∧ (x2 = 1 → tw_number s2 x1 (fun r56 s56 => k r56 s56)) ∧ (x2 = 2 → tw_feeOf s2 x1 (fun r62 s62 => k r62 s62)) ∧ (x2 = 3 → tw_isSpoiled s2 x1 (fun r68 s68 => (r68 = 0 → k 0 s68) ∧ (¬ r68 = 0 → k 1 s68))) ∧ (¬ x2 = 0 → ¬ x2 = 1 → ¬ x2 = 2 → ¬ x2 = 3 → (x2 < 10 → k (-1) s2) ∧ (¬ x2 < 10 → (43 < x2 → k (-1) s2) ∧ (¬ 43 < x2 → pw_isTaste x14 (fun r93 => (¬ r93 = 0 → (20 ≤ x2 → (30 ≤ x2 → (40 ≤ x2 → tw_leavesOf s2 x1 x14 (fun r154 s154 => k r154 s154)) ∧ (¬ 40 ≤ x2 → tw_takesOf s2 x1 x14 (fun r145 s145 => k r145 s145))) ∧ (¬ 30 ≤ x2 → tw_get s2 x1 ((6 + x14)) (fun r130 s130 => k r130 s130))) ∧ (¬ 20 ≤ x2 → tw_get s2 x1 ((2 + x14)) (fun r112 s112 => k r112 s112))) ∧ (r93 = 0 → k (-1) s2)))))) ∧ (r2 = 0 → k (-1) s2))
set_option maxHeartbeats 4000000 in
theorem wk_of (l : Launch) (D : va_G) (T : xT) (q : Nat → Nat) (s : TS) (x1 : Int32) (x2 : Int32) (k : Int32 → TS → Prop) (h : tw_of s x1 x2 k) : XM l D T yX6_of cX6_of 4 (some .int) 28 0 0 [.ref (q 0), .int x1, .int x2] (tw T q s) (tpostI T q k) := by
  refine XM.start (by decide +kernel) (Nat.le_of_ble_eq_true rfl) (fun Γ G X _ hl_ => ?_)
  subst hl_
  refine K.less [0, 1, 2] (lv' := [(0, .ref (q 0)), (1, .int x1), (2, .int x2)]) rfl ?_
  unfold tw_of at h
  refine k_aload_n G dX6_of_0 rfl ?_
  refine k_iload_n G dX6_of_1 rfl ?_
  refine kt_callI G (wk_isLoaf _ D T q _ _ _ h) cf_isLoaf q1595 dX6_of_2 rfl rfl (Nat.le_of_ble_eq_true rfl) (Nat.le_of_ble_eq_true rfl) (fun r2 s2 h => ?_)
  obtain ⟨hA, hB⟩ := h
  refine k_if_ne G 10 dX6_of_5 (by decide) (fun c5 => ?_) (fun c5 => ?_)
  · have h := hA c5
    clear hA hB
    refine k_iload_n G dX6_of_10 rfl ?_
    refine k_bipush G dX6_of_11 kc_b_10 ?_
    refine k_irem G dX6_of_13 (by decide) ?_
    refine k_nmI (fun x14 e14 => ?_)
    have h := h x14 e14
    refine k_istore_n G [(3, .int x14), (0, .ref (q 0)), (1, .int x1), (2, .int x2)] dX6_of_14 rfl (Nat.le_of_ble_eq_true rfl) rfl ?_
    refine k_iload_n G dX6_of_15 rfl ?_
    obtain ⟨h0_, h1_, h2_, h3_, hD_⟩ := h
    by_cases c16_0 : x2 = 0
    · refine k_tswIn G 0 c16_0 48 dX6_of_16 (by decide +kernel) (by decide +kernel) rfl (by decide) ?_
      have h := h0_ c16_0
      clear h0_ h1_ h2_ h3_ hD_
      refine k_aload_n G dX6_of_48 rfl ?_
      refine k_iload_n G dX6_of_49 rfl ?_
      refine kt_callI G (wk_kind _ D T q _ _ _ h) cf_kind q1575 dX6_of_50 rfl rfl (Nat.le_of_ble_eq_true rfl) (Nat.le_of_ble_eq_true rfl) (fun r50 s50 h => ?_)
      exact k_iret G X dX6_of_53 (Nat.le_refl _) (Nat.le_refl _) ⟨_, _, rfl, rfl, h⟩
    by_cases c16_1 : x2 = 1
    · refine k_tswIn G 1 c16_1 54 dX6_of_16 (by decide +kernel) (by decide +kernel) rfl (by decide) ?_
      have h := h1_ c16_1
      clear h0_ h1_ h2_ h3_ hD_
      refine k_aload_n G dX6_of_54 rfl ?_
      refine k_iload_n G dX6_of_55 rfl ?_
      refine kt_callI G (wk_number _ D T q _ _ _ h) cf_number q1583 dX6_of_56 rfl rfl (Nat.le_of_ble_eq_true rfl) (Nat.le_of_ble_eq_true rfl) (fun r56 s56 h => ?_)
      exact k_iret G X dX6_of_59 (Nat.le_refl _) (Nat.le_refl _) ⟨_, _, rfl, rfl, h⟩
    by_cases c16_2 : x2 = 2
    · refine k_tswIn G 2 c16_2 60 dX6_of_16 (by decide +kernel) (by decide +kernel) rfl (by decide) ?_
      have h := h2_ c16_2
      clear h0_ h1_ h2_ h3_ hD_
      refine k_aload_n G dX6_of_60 rfl ?_
      refine k_iload_n G dX6_of_61 rfl ?_
      refine kt_callI G (wk_feeOf _ D T q _ _ _ h) cf_feeOf q1606 dX6_of_62 rfl rfl (Nat.le_of_ble_eq_true rfl) (Nat.le_of_ble_eq_true rfl) (fun r62 s62 h => ?_)
      exact k_iret G X dX6_of_65 (Nat.le_refl _) (Nat.le_refl _) ⟨_, _, rfl, rfl, h⟩
    by_cases c16_3 : x2 = 3
    · refine k_tswIn G 3 c16_3 66 dX6_of_16 (by decide +kernel) (by decide +kernel) rfl (by decide) ?_
      have h := h3_ c16_3
      clear h0_ h1_ h2_ h3_ hD_
      refine k_aload_n G dX6_of_66 rfl ?_
      refine k_iload_n G dX6_of_67 rfl ?_
      refine kt_callI G (wk_isSpoiled _ D T q _ _ _ h) cf_isSpoiled q1614 dX6_of_68 rfl rfl (Nat.le_of_ble_eq_true rfl) (Nat.le_of_ble_eq_true rfl) (fun r68 s68 h => ?_)
      obtain ⟨hA, hB⟩ := h
      refine k_if_eq G 78 dX6_of_71 (by decide) (fun c71 => ?_) (fun c71 => ?_)
      · have h := hA c71
        clear hA hB
        refine k_iconst G dX6_of_78 kc_i_0 ?_
        exact k_iret G X dX6_of_79 (Nat.le_refl _) (Nat.le_refl _) ⟨_, _, rfl, rfl, h⟩
      · have h := hB c71
        clear hA hB
        refine k_iconst G dX6_of_74 kc_i_1 ?_
        refine k_goto G 79 dX6_of_75 (by decide) ?_
        exact k_iret G X dX6_of_79 (Nat.le_refl _) (Nat.le_refl _) ⟨_, _, rfl, rfl, h⟩
    refine k_tswD G [0, 1, 2, 3] 80 dX6_of_16 (by decide +kernel) (by decide +kernel) (List.forall_mem_cons.mpr ⟨c16_0, List.forall_mem_cons.mpr ⟨c16_1, List.forall_mem_cons.mpr ⟨c16_2, List.forall_mem_cons.mpr ⟨c16_3, fun _ h => absurd h List.not_mem_nil⟩⟩⟩⟩) (by decide) ?_
    have h := hD_ c16_0 c16_1 c16_2 c16_3
    clear h0_ h1_ h2_ h3_ hD_
    refine k_iload_n G dX6_of_80 rfl ?_
    refine k_bipush G dX6_of_81 kc_b_10 ?_
    obtain ⟨hA, hB⟩ := h
    refine k_icmp_lt G 99 dX6_of_83 (by decide) (fun c83 => ?_) (fun c83 => ?_)
    · have h := hA c83
      clear hA hB
      refine k_iconst G dX6_of_99 kc_i_m1 ?_
      exact k_iret G X dX6_of_100 (Nat.le_refl _) (Nat.le_refl _) ⟨_, _, rfl, rfl, h⟩
    · have h := hB c83
      clear hA hB
      refine k_iload_n G dX6_of_86 rfl ?_
      refine k_bipush G dX6_of_87 kc_b_43 ?_
      obtain ⟨hA, hB⟩ := h
      refine k_icmp_gt G 99 dX6_of_89 (by decide) (fun c89 => ?_) (fun c89 => ?_)
      · have h := hA c89
        clear hA hB
        refine k_iconst G dX6_of_99 kc_i_m1 ?_
        exact k_iret G X dX6_of_100 (Nat.le_refl _) (Nat.le_refl _) ⟨_, _, rfl, rfl, h⟩
      · have h := hB c89
        clear hA hB
        refine k_iload_n G dX6_of_92 rfl ?_
        refine k_callPI G (wk_isTaste _ D T _ _ h) cf_isTaste q1599 dX6_of_93 rfl rfl (Nat.le_of_ble_eq_true rfl) (Nat.le_of_ble_eq_true rfl) ⟨Nat.zero_le _, Nat.zero_le _⟩ (fun r93 h => ?_)
        obtain ⟨hA, hB⟩ := h
        refine k_if_ne G 101 dX6_of_96 (by decide) (fun c96 => ?_) (fun c96 => ?_)
        · have h := hA c96
          clear hA hB
          refine k_iload_n G dX6_of_101 rfl ?_
          refine k_bipush G dX6_of_102 kc_b_20 ?_
          obtain ⟨hA, hB⟩ := h
          refine k_icmp_ge G 118 dX6_of_104 (by decide) (fun c104 => ?_) (fun c104 => ?_)
          · have h := hA c104
            clear hA hB
            refine k_iload_n G dX6_of_118 rfl ?_
            refine k_bipush G dX6_of_119 kc_b_30 ?_
            obtain ⟨hA, hB⟩ := h
            refine k_icmp_ge G 136 dX6_of_121 (by decide) (fun c121 => ?_) (fun c121 => ?_)
            · have h := hA c121
              clear hA hB
              refine k_iload_n G dX6_of_136 rfl ?_
              refine k_bipush G dX6_of_137 kc_b_40 ?_
              obtain ⟨hA, hB⟩ := h
              refine k_icmp_ge G 151 dX6_of_139 (by decide) (fun c139 => ?_) (fun c139 => ?_)
              · have h := hA c139
                clear hA hB
                refine k_aload_n G dX6_of_151 rfl ?_
                refine k_iload_n G dX6_of_152 rfl ?_
                refine k_iload_n G dX6_of_153 rfl ?_
                refine kt_callI G (wk_leavesOf _ D T q _ _ _ _ h) cf_leavesOf q1630 dX6_of_154 rfl rfl (Nat.le_of_ble_eq_true rfl) (Nat.le_of_ble_eq_true rfl) (fun r154 s154 h => ?_)
                exact k_iret G X dX6_of_157 (Nat.le_refl _) (Nat.le_refl _) ⟨_, _, rfl, rfl, h⟩
              · have h := hB c139
                clear hA hB
                refine k_aload_n G dX6_of_142 rfl ?_
                refine k_iload_n G dX6_of_143 rfl ?_
                refine k_iload_n G dX6_of_144 rfl ?_
                refine kt_callI G (wk_takesOf _ D T q _ _ _ _ h) cf_takesOf q1618 dX6_of_145 rfl rfl (Nat.le_of_ble_eq_true rfl) (Nat.le_of_ble_eq_true rfl) (fun r145 s145 h => ?_)
                refine k_goto G 157 dX6_of_148 (by decide) ?_
                exact k_iret G X dX6_of_157 (Nat.le_refl _) (Nat.le_refl _) ⟨_, _, rfl, rfl, h⟩
            · have h := hB c121
              clear hA hB
              refine k_aload_n G dX6_of_124 rfl ?_
              refine k_iload_n G dX6_of_125 rfl ?_
              refine k_bipush G dX6_of_126 kc_b_6 ?_
              refine k_iload_n G dX6_of_128 rfl ?_
              refine k_iadd G dX6_of_129 ?_
              refine kt_callI G (wk_get _ D T q _ _ _ _ h) cf_get q1579 dX6_of_130 rfl rfl (Nat.le_of_ble_eq_true rfl) (Nat.le_of_ble_eq_true rfl) (fun r130 s130 h => ?_)
              refine k_goto G 157 dX6_of_133 (by decide) ?_
              exact k_iret G X dX6_of_157 (Nat.le_refl _) (Nat.le_refl _) ⟨_, _, rfl, rfl, h⟩
          · have h := hB c104
            clear hA hB
            refine k_aload_n G dX6_of_107 rfl ?_
            refine k_iload_n G dX6_of_108 rfl ?_
            refine k_iconst G dX6_of_109 kc_i_2 ?_
            refine k_iload_n G dX6_of_110 rfl ?_
            refine k_iadd G dX6_of_111 ?_
            refine kt_callI G (wk_get _ D T q _ _ _ _ h) cf_get q1579 dX6_of_112 rfl rfl (Nat.le_of_ble_eq_true rfl) (Nat.le_of_ble_eq_true rfl) (fun r112 s112 h => ?_)
            refine k_goto G 157 dX6_of_115 (by decide) ?_
            exact k_iret G X dX6_of_157 (Nat.le_refl _) (Nat.le_refl _) ⟨_, _, rfl, rfl, h⟩
        · have h := hB c96
          clear hA hB
          refine k_iconst G dX6_of_99 kc_i_m1 ?_
          exact k_iret G X dX6_of_100 (Nat.le_refl _) (Nat.le_refl _) ⟨_, _, rfl, rfl, h⟩
  · have h := hB c5
    clear hA hB
    refine k_iconst G dX6_of_8 kc_i_m1 ?_
    exact k_iret G X dX6_of_9 (Nat.le_refl _) (Nat.le_refl _) ⟨_, _, rfl, rfl, h⟩
def tw_oven (s : TS) (x1 : Int32) (x2 : Int32) (k : Int32 → TS → Prop) : Prop := pw_isTaste x1 (fun r1 => (¬ r1 = 0 → pw_isIn x2 0 9999 (fun r14 => (¬ r14 = 0 → vp_in x1 92 ∧ ∀ x29 : Int32, x29 = (s.1 1 (x1 : Int32).toNatClampNeg) → vp_in x1 92 ∧ k x29 ((sA s 1 (x1 : Int32).toNatClampNeg x2))) ∧ (r14 = 0 → k (-2) s))) ∧ (r1 = 0 → k (-1) s))
set_option maxHeartbeats 4000000 in
theorem wk_oven (l : Launch) (D : va_G) (T : xT) (q : Nat → Nat) (s : TS) (x1 : Int32) (x2 : Int32) (k : Int32 → TS → Prop) (h : tw_oven s x1 x2 k) : XM l D T yX6_oven cX6_oven 4 (some .int) 3 0 0 [.ref (q 0), .int x1, .int x2] (tw T q s) (tpostI T q k) := by
  refine XM.start (by decide +kernel) (Nat.le_of_ble_eq_true rfl) (fun Γ G X _ hl_ => ?_)
  subst hl_
  refine K.less [0, 1, 2] (lv' := [(0, .ref (q 0)), (1, .int x1), (2, .int x2)]) rfl ?_
  unfold tw_oven at h
  refine k_iload_n G dX6_oven_0 rfl ?_
  refine k_callPI G (wk_isTaste _ D T _ _ h) cf_isTaste q1599 dX6_oven_1 rfl rfl (Nat.le_of_ble_eq_true rfl) (Nat.le_of_ble_eq_true rfl) ⟨Nat.zero_le _, Nat.zero_le _⟩ (fun r1 h => ?_)
  obtain ⟨hA, hB⟩ := h
  refine k_if_ne G 9 dX6_oven_4 (by decide) (fun c4 => ?_) (fun c4 => ?_)
  · have h := hA c4
    clear hA hB
    refine k_iload_n G dX6_oven_9 rfl ?_
    refine k_iconst G dX6_oven_10 kc_i_0 ?_
    refine k_sipush G dX6_oven_11 kc_s_9999 ?_
    refine k_callPI G (wk_isIn _ D T _ _ _ _ h) cf_isIn q1511 dX6_oven_14 rfl rfl (Nat.le_of_ble_eq_true rfl) (Nat.le_of_ble_eq_true rfl) ⟨Nat.zero_le _, Nat.zero_le _⟩ (fun r14 h => ?_)
    obtain ⟨hA, hB⟩ := h
    refine k_if_ne G 23 dX6_oven_17 (by decide) (fun c17 => ?_) (fun c17 => ?_)
    · have h := hA c17
      clear hA hB
      refine k_aload_n G dX6_oven_23 rfl ?_
      refine kt_get G tf_s rfl dX6_oven_24 rfl ?_
      refine k_iload_n G dX6_oven_27 rfl ?_
      obtain ⟨h1, h⟩ := h
      refine kt_iald G tA_1 dX6_oven_28 h1 ?_
      refine k_nmI (fun x29 e29 => ?_)
      have h := h x29 e29
      refine k_istore_n G [(3, .int x29), (0, .ref (q 0)), (1, .int x1), (2, .int x2)] dX6_oven_29 rfl (Nat.le_of_ble_eq_true rfl) rfl ?_
      refine k_aload_n G dX6_oven_30 rfl ?_
      refine kt_get G tf_s rfl dX6_oven_31 rfl ?_
      refine k_iload_n G dX6_oven_34 rfl ?_
      refine k_iload_n G dX6_oven_35 rfl ?_
      obtain ⟨h1, h⟩ := h
      refine kt_iast G tA_1 dX6_oven_36 h1 ?_
      refine k_iload_n G dX6_oven_37 rfl ?_
      exact k_iret G X dX6_oven_38 (Nat.le_refl _) (Nat.le_refl _) ⟨_, _, rfl, rfl, h⟩
    · have h := hB c17
      clear hA hB
      refine k_bipush G dX6_oven_20 kc_b_m2 ?_
      exact k_iret G X dX6_oven_22 (Nat.le_refl _) (Nat.le_refl _) ⟨_, _, rfl, rfl, h⟩
  · have h := hB c4
    clear hA hB
    refine k_iconst G dX6_oven_7 kc_i_m1 ?_
    exact k_iret G X dX6_oven_8 (Nat.le_refl _) (Nat.le_refl _) ⟨_, _, rfl, rfl, h⟩
def tw_told (s : TS) (x1 : Int32) (k : Int32 → TS → Prop) : Prop := pw_isIn x1 0 5 (fun r3 => (¬ r3 = 0 → tw_readsNow s 0 0 (fun s14 => (¬ x1 = 5 → vp_in x1 92 ∧ k ((s14.1 1 (x1 : Int32).toNatClampNeg)) s14) ∧ (x1 = 5 → k ((s14.1 0 19)) s14))) ∧ (r3 = 0 → k (-1) s))
set_option maxHeartbeats 4000000 in
theorem wk_told (l : Launch) (D : va_G) (T : xT) (q : Nat → Nat) (s : TS) (x1 : Int32) (k : Int32 → TS → Prop) (h : tw_told s x1 k) : XM l D T yX6_told cX6_told 2 (some .int) 25 0 0 [.ref (q 0), .int x1] (tw T q s) (tpostI T q k) := by
  refine XM.start (by decide +kernel) (Nat.le_of_ble_eq_true rfl) (fun Γ G X _ hl_ => ?_)
  subst hl_
  refine K.less [0, 1] (lv' := [(0, .ref (q 0)), (1, .int x1)]) rfl ?_
  unfold tw_told at h
  refine k_iload_n G dX6_told_0 rfl ?_
  refine k_iconst G dX6_told_1 kc_i_0 ?_
  refine k_iconst G dX6_told_2 kc_i_5 ?_
  refine k_callPI G (wk_isIn _ D T _ _ _ _ h) cf_isIn q1511 dX6_told_3 rfl rfl (Nat.le_of_ble_eq_true rfl) (Nat.le_of_ble_eq_true rfl) ⟨Nat.zero_le _, Nat.zero_le _⟩ (fun r3 h => ?_)
  obtain ⟨hA, hB⟩ := h
  refine k_if_ne G 11 dX6_told_6 (by decide) (fun c6 => ?_) (fun c6 => ?_)
  · have h := hA c6
    clear hA hB
    refine k_aload_n G dX6_told_11 rfl ?_
    refine k_iconst G dX6_told_12 kc_i_0 ?_
    refine k_iconst G dX6_told_13 kc_i_0 ?_
    refine kt_callV G (wk_readsNow _ D T q _ _ _ _ h) cf_readsNow q1610 dX6_told_14 rfl rfl (Nat.le_of_ble_eq_true rfl) (Nat.le_of_ble_eq_true rfl) (fun s14 h => ?_)
    refine k_iload_n G dX6_told_17 rfl ?_
    refine k_iconst G dX6_told_18 kc_i_5 ?_
    obtain ⟨hA, hB⟩ := h
    refine k_icmp_ne G 29 dX6_told_19 (by decide) (fun c19 => ?_) (fun c19 => ?_)
    · have h := hA c19
      clear hA hB
      refine k_aload_n G dX6_told_29 rfl ?_
      refine kt_get G tf_s rfl dX6_told_30 rfl ?_
      refine k_iload_n G dX6_told_33 rfl ?_
      obtain ⟨h1, h⟩ := h
      refine kt_iald G tA_1 dX6_told_34 h1 ?_
      exact k_iret G X dX6_told_35 (Nat.le_refl _) (Nat.le_refl _) ⟨_, _, rfl, rfl, h⟩
    · have h := hB c19
      clear hA hB
      refine k_aload_n G dX6_told_22 rfl ?_
      refine kt_get G tf_cold rfl dX6_told_23 rfl ?_
      refine k_goto G 35 dX6_told_26 (by decide) ?_
      exact k_iret G X dX6_told_35 (Nat.le_refl _) (Nat.le_refl _) ⟨_, _, rfl, rfl, h⟩
  · have h := hB c6
    clear hA hB
    refine k_iconst G dX6_told_9 kc_i_m1 ?_
    exact k_iret G X dX6_told_10 (Nat.le_refl _) (Nat.le_refl _) ⟨_, _, rfl, rfl, h⟩
def tw_bake (s : TS) (x1 : Int32) (k : Int32 → TS → Prop) : Prop := tw_isLoaf s x1 (fun r2 s2 => (¬ r2 = 0 → tw_bakes s2 x1 (fun r14 s14 => (r14 = 0 → k 0 s14) ∧ (¬ r14 = 0 → k 1 s14))) ∧ (r2 = 0 → k (-1) s2))
set_option maxHeartbeats 4000000 in
theorem wk_bake (l : Launch) (D : va_G) (T : xT) (q : Nat → Nat) (s : TS) (x1 : Int32) (k : Int32 → TS → Prop) (h : tw_bake s x1 k) : XM l D T yX6_bake cX6_bake 2 (some .int) 29 0 0 [.ref (q 0), .int x1] (tw T q s) (tpostI T q k) := by
  refine XM.start (by decide +kernel) (Nat.le_of_ble_eq_true rfl) (fun Γ G X _ hl_ => ?_)
  subst hl_
  refine K.less [0, 1] (lv' := [(0, .ref (q 0)), (1, .int x1)]) rfl ?_
  unfold tw_bake at h
  refine k_aload_n G dX6_bake_0 rfl ?_
  refine k_iload_n G dX6_bake_1 rfl ?_
  refine kt_callI G (wk_isLoaf _ D T q _ _ _ h) cf_isLoaf q1595 dX6_bake_2 rfl rfl (Nat.le_of_ble_eq_true rfl) (Nat.le_of_ble_eq_true rfl) (fun r2 s2 h => ?_)
  obtain ⟨hA, hB⟩ := h
  refine k_if_ne G 12 dX6_bake_5 (by decide) (fun c5 => ?_) (fun c5 => ?_)
  · have h := hA c5
    clear hA hB
    refine k_aload_n G dX6_bake_12 rfl ?_
    refine k_iload_n G dX6_bake_13 rfl ?_
    refine kt_callI G (wk_bakes _ D T q _ _ _ h) cf_bakes q1646 dX6_bake_14 rfl rfl (Nat.le_of_ble_eq_true rfl) (Nat.le_of_ble_eq_true rfl) (fun r14 s14 h => ?_)
    obtain ⟨hA, hB⟩ := h
    refine k_if_eq G 24 dX6_bake_17 (by decide) (fun c17 => ?_) (fun c17 => ?_)
    · have h := hA c17
      clear hA hB
      refine k_iconst G dX6_bake_24 kc_i_0 ?_
      exact k_iret G X dX6_bake_25 (Nat.le_refl _) (Nat.le_refl _) ⟨_, _, rfl, rfl, h⟩
    · have h := hB c17
      clear hA hB
      refine k_iconst G dX6_bake_20 kc_i_1 ?_
      refine k_goto G 25 dX6_bake_21 (by decide) ?_
      exact k_iret G X dX6_bake_25 (Nat.le_refl _) (Nat.le_refl _) ⟨_, _, rfl, rfl, h⟩
  · have h := hB c5
    clear hA hB
    refine k_iconst G dX6_bake_8 kc_i_m1 ?_
    refine k_goto G 25 dX6_bake_9 (by decide) ?_
    exact k_iret G X dX6_bake_25 (Nat.le_refl _) (Nat.le_refl _) ⟨_, _, rfl, rfl, h⟩
def tw_cold (s : TS) (k : Int32 → TS → Prop) : Prop := tw_cools s (fun s1 => vp_in 4 92 ∧ k ((s1.1 1 (4 : Int32).toNatClampNeg)) s1)
set_option maxHeartbeats 4000000 in
theorem wk_cold (l : Launch) (D : va_G) (T : xT) (q : Nat → Nat) (s : TS) (k : Int32 → TS → Prop) (h : tw_cold s k) : XM l D T yX6_cold cX6_cold 1 (some .int) 26 0 0 [.ref (q 0)] (tw T q s) (tpostI T q k) := by
  refine XM.start (by decide +kernel) (Nat.le_of_ble_eq_true rfl) (fun Γ G X _ hl_ => ?_)
  subst hl_
  refine K.less [0] (lv' := [(0, .ref (q 0))]) rfl ?_
  unfold tw_cold at h
  refine k_aload_n G dX6_cold_0 rfl ?_
  refine kt_callV G (wk_cools _ D T q _ _ h) cf_cools q1658 dX6_cold_1 rfl rfl (Nat.le_of_ble_eq_true rfl) (Nat.le_of_ble_eq_true rfl) (fun s1 h => ?_)
  refine k_aload_n G dX6_cold_4 rfl ?_
  refine kt_get G tf_s rfl dX6_cold_5 rfl ?_
  refine k_iconst G dX6_cold_8 kc_i_4 ?_
  obtain ⟨h1, h⟩ := h
  refine kt_iald G tA_1 dX6_cold_9 h1 ?_
  exact k_iret G X dX6_cold_10 (Nat.le_refl _) (Nat.le_refl _) ⟨_, _, rfl, rfl, h⟩
def tw_would_J90 (k : Int32 → TS → Prop) (y0 : Int32) (s : TS) : Prop := tw_ends s (fun s93 => k y0 s93)
def tw_would_J61 (k : Int32 → TS → Prop) (x1 : Int32) (x3 : Int32) (y0 : Int32) (s : TS) : Prop := (4 ≤ x3 → tw_isSpoiled s x1 (fun r79 s79 => (r79 = 0 → tw_would_J90 k 0 s79) ∧ (¬ r79 = 0 → tw_would_J90 k 1 s79))) ∧ (¬ 4 ≤ x3 → tw_takesOf s x1 x3 (fun r71 s71 => tw_would_J90 k r71 s71))
def tw_would_J60 (k : Int32 → TS → Prop) (x1 : Int32) (x3 : Int32) (s : TS) : Prop := tw_would_J61 k x1 x3 0 s
def tw_would_J21 (k : Int32 → TS → Prop) (x1 : Int32) (x2 : Int32) (x3 : Int32) (s : TS) : Prop := pw_isIn x3 0 4 (fun r24 => (¬ r24 = 0 → (¬ x1 = x2 → tw_begins s (fun s41 => (x2 < 0 → tw_would_J60 k x1 x3 s41) ∧ (¬ x2 < 0 → tw_bakes s41 x2 (fun r50 s50 => (r50 = 0 → tw_would_J60 k x1 x3 s50) ∧ (¬ r50 = 0 → tw_would_J61 k x1 x3 1 s50))))) ∧ (x1 = x2 → k (-2) s)) ∧ (r24 = 0 → k (-1) s))
def tw_would (s : TS) (x1 : Int32) (x2 : Int32) (x3 : Int32) (k : Int32 → TS → Prop) : Prop := tw_isLoaf s x1 (fun r2 s2 => (r2 = 0 → k (-1) s2) ∧ (¬ r2 = 0 → (x2 = (-1) → tw_would_J21 k x1 x2 x3 s2) ∧ (¬ x2 = (-1) → tw_isLoaf s2 x2 (fun r15 s15 => (r15 = 0 → k (-1) s15) ∧ (¬ r15 = 0 → tw_would_J21 k x1 x2 x3 s15)))))
set_option maxHeartbeats 4000000 in
theorem wk_would (l : Launch) (D : va_G) (T : xT) (q : Nat → Nat) (s : TS) (x1 : Int32) (x2 : Int32) (x3 : Int32) (k : Int32 → TS → Prop) (h : tw_would s x1 x2 x3 k) : XM l D T yX6_would cX6_would 6 (some .int) 29 0 0 [.ref (q 0), .int x1, .int x2, .int x3] (tw T q s) (tpostI T q k) := by
  refine XM.start (by decide +kernel) (Nat.le_of_ble_eq_true rfl) (fun Γ G X _ hl_ => ?_)
  subst hl_
  have hJ90 : ∀ (y0 : Int32) (s : TS), tw_would_J90 k y0 s → K D Γ 0 0 90 [(0, .ref (q 0))] [.int y0] (tw T q s) := by
    intro y0 s h
    unfold tw_would_J90 at h
    refine k_istore G [(5, .int y0), (0, .ref (q 0))] dX6_would_90 (Nat.le_of_ble_eq_true rfl) rfl ?_
    refine k_aload_n G dX6_would_92 rfl ?_
    refine kt_callV G (wk_ends _ D T q _ _ h) cf_ends q1673 dX6_would_93 rfl rfl (Nat.le_of_ble_eq_true rfl) (Nat.le_of_ble_eq_true rfl) (fun s93 h => ?_)
    refine k_iload G dX6_would_96 rfl ?_
    exact k_iret G X dX6_would_98 (Nat.le_refl _) (Nat.le_refl _) ⟨_, _, rfl, rfl, h⟩
  have hJ61 : ∀ (x1 : Int32) (x3 : Int32) (y0 : Int32) (s : TS), tw_would_J61 k x1 x3 y0 s → K D Γ 0 0 61 [(0, .ref (q 0)), (1, .int x1), (3, .int x3)] [.int y0] (tw T q s) := by
    intro x1 x3 y0 s h
    unfold tw_would_J61 at h
    refine k_istore G [(4, .int y0), (0, .ref (q 0)), (1, .int x1), (3, .int x3)] dX6_would_61 (Nat.le_of_ble_eq_true rfl) rfl ?_
    refine k_iload_n G dX6_would_63 rfl ?_
    refine k_iconst G dX6_would_64 kc_i_4 ?_
    obtain ⟨hA, hB⟩ := h
    refine k_icmp_ge G 77 dX6_would_65 (by decide) (fun c65 => ?_) (fun c65 => ?_)
    · have h := hA c65
      clear hA hB
      refine k_aload_n G dX6_would_77 rfl ?_
      refine k_iload_n G dX6_would_78 rfl ?_
      refine kt_callI G (wk_isSpoiled _ D T q _ _ _ h) cf_isSpoiled q1614 dX6_would_79 rfl rfl (Nat.le_of_ble_eq_true rfl) (Nat.le_of_ble_eq_true rfl) (fun r79 s79 h => ?_)
      obtain ⟨hA, hB⟩ := h
      refine k_if_eq G 89 dX6_would_82 (by decide) (fun c82 => ?_) (fun c82 => ?_)
      · have h := hA c82
        clear hA hB
        refine k_iconst G dX6_would_89 kc_i_0 ?_
        refine K.less [1] rfl ?_
        exact hJ90 _ _ h
      · have h := hB c82
        clear hA hB
        refine k_iconst G dX6_would_85 kc_i_1 ?_
        refine k_goto G 90 dX6_would_86 (by decide) ?_
        refine K.less [1] rfl ?_
        exact hJ90 _ _ h
    · have h := hB c65
      clear hA hB
      refine k_aload_n G dX6_would_68 rfl ?_
      refine k_iload_n G dX6_would_69 rfl ?_
      refine k_iload_n G dX6_would_70 rfl ?_
      refine kt_callI G (wk_takesOf _ D T q _ _ _ _ h) cf_takesOf q1618 dX6_would_71 rfl rfl (Nat.le_of_ble_eq_true rfl) (Nat.le_of_ble_eq_true rfl) (fun r71 s71 h => ?_)
      refine k_goto G 90 dX6_would_74 (by decide) ?_
      refine K.less [1] rfl ?_
      exact hJ90 _ _ h
  have hJ60 : ∀ (x1 : Int32) (x3 : Int32) (s : TS), tw_would_J60 k x1 x3 s → K D Γ 0 0 60 [(0, .ref (q 0)), (1, .int x1), (3, .int x3)] [] (tw T q s) := by
    intro x1 x3 s h
    unfold tw_would_J60 at h
    refine k_iconst G dX6_would_60 kc_i_0 ?_
    exact hJ61 _ _ _ _ h
  have hJ21 : ∀ (x1 : Int32) (x2 : Int32) (x3 : Int32) (s : TS), tw_would_J21 k x1 x2 x3 s → K D Γ 0 0 21 [(0, .ref (q 0)), (1, .int x1), (2, .int x2), (3, .int x3)] [] (tw T q s) := by
    intro x1 x2 x3 s h
    unfold tw_would_J21 at h
    refine k_iload_n G dX6_would_21 rfl ?_
    refine k_iconst G dX6_would_22 kc_i_0 ?_
    refine k_iconst G dX6_would_23 kc_i_4 ?_
    refine k_callPI G (wk_isIn _ D T _ _ _ _ h) cf_isIn q1511 dX6_would_24 rfl rfl (Nat.le_of_ble_eq_true rfl) (Nat.le_of_ble_eq_true rfl) ⟨Nat.zero_le _, Nat.zero_le _⟩ (fun r24 h => ?_)
    obtain ⟨hA, hB⟩ := h
    refine k_if_ne G 32 dX6_would_27 (by decide) (fun c27 => ?_) (fun c27 => ?_)
    · have h := hA c27
      clear hA hB
      refine k_iload_n G dX6_would_32 rfl ?_
      refine k_iload_n G dX6_would_33 rfl ?_
      obtain ⟨hA, hB⟩ := h
      refine k_icmp_ne G 40 dX6_would_34 (by decide) (fun c34 => ?_) (fun c34 => ?_)
      · have h := hA c34
        clear hA hB
        refine k_aload_n G dX6_would_40 rfl ?_
        refine kt_callV G (wk_begins _ D T q _ _ h) cf_begins q1666 dX6_would_41 rfl rfl (Nat.le_of_ble_eq_true rfl) (Nat.le_of_ble_eq_true rfl) (fun s41 h => ?_)
        refine k_iload_n G dX6_would_44 rfl ?_
        obtain ⟨hA, hB⟩ := h
        refine k_if_lt G 60 dX6_would_45 (by decide) (fun c45 => ?_) (fun c45 => ?_)
        · have h := hA c45
          clear hA hB
          refine K.less [0, 1, 3] rfl ?_
          exact hJ60 _ _ _ h
        · have h := hB c45
          clear hA hB
          refine k_aload_n G dX6_would_48 rfl ?_
          refine k_iload_n G dX6_would_49 rfl ?_
          refine kt_callI G (wk_bakes _ D T q _ _ _ h) cf_bakes q1646 dX6_would_50 rfl rfl (Nat.le_of_ble_eq_true rfl) (Nat.le_of_ble_eq_true rfl) (fun r50 s50 h => ?_)
          obtain ⟨hA, hB⟩ := h
          refine k_if_eq G 60 dX6_would_53 (by decide) (fun c53 => ?_) (fun c53 => ?_)
          · have h := hA c53
            clear hA hB
            refine K.less [0, 1, 3] rfl ?_
            exact hJ60 _ _ _ h
          · have h := hB c53
            clear hA hB
            refine k_iconst G dX6_would_56 kc_i_1 ?_
            refine k_goto G 61 dX6_would_57 (by decide) ?_
            refine K.less [0, 1, 3] rfl ?_
            exact hJ61 _ _ _ _ h
      · have h := hB c34
        clear hA hB
        refine k_bipush G dX6_would_37 kc_b_m2 ?_
        exact k_iret G X dX6_would_39 (Nat.le_refl _) (Nat.le_refl _) ⟨_, _, rfl, rfl, h⟩
    · have h := hB c27
      clear hA hB
      refine k_iconst G dX6_would_30 kc_i_m1 ?_
      exact k_iret G X dX6_would_31 (Nat.le_refl _) (Nat.le_refl _) ⟨_, _, rfl, rfl, h⟩
  refine K.less [0, 1, 2, 3] (lv' := [(0, .ref (q 0)), (1, .int x1), (2, .int x2), (3, .int x3)]) rfl ?_
  unfold tw_would at h
  refine k_aload_n G dX6_would_0 rfl ?_
  refine k_iload_n G dX6_would_1 rfl ?_
  refine kt_callI G (wk_isLoaf _ D T q _ _ _ h) cf_isLoaf q1595 dX6_would_2 rfl rfl (Nat.le_of_ble_eq_true rfl) (Nat.le_of_ble_eq_true rfl) (fun r2 s2 h => ?_)
  obtain ⟨hA, hB⟩ := h
  refine k_if_eq G 30 dX6_would_5 (by decide) (fun c5 => ?_) (fun c5 => ?_)
  · have h := hA c5
    clear hA hB
    refine k_iconst G dX6_would_30 kc_i_m1 ?_
    exact k_iret G X dX6_would_31 (Nat.le_refl _) (Nat.le_refl _) ⟨_, _, rfl, rfl, h⟩
  · have h := hB c5
    clear hA hB
    refine k_iload_n G dX6_would_8 rfl ?_
    refine k_iconst G dX6_would_9 kc_i_m1 ?_
    obtain ⟨hA, hB⟩ := h
    refine k_icmp_eq G 21 dX6_would_10 (by decide) (fun c10 => ?_) (fun c10 => ?_)
    · have h := hA c10
      clear hA hB
      exact hJ21 _ _ _ _ h
    · have h := hB c10
      clear hA hB
      refine k_aload_n G dX6_would_13 rfl ?_
      refine k_iload_n G dX6_would_14 rfl ?_
      refine kt_callI G (wk_isLoaf _ D T q _ _ _ h) cf_isLoaf q1595 dX6_would_15 rfl rfl (Nat.le_of_ble_eq_true rfl) (Nat.le_of_ble_eq_true rfl) (fun r15 s15 h => ?_)
      obtain ⟨hA, hB⟩ := h
      refine k_if_eq G 30 dX6_would_18 (by decide) (fun c18 => ?_) (fun c18 => ?_)
      · have h := hA c18
        clear hA hB
        refine k_iconst G dX6_would_30 kc_i_m1 ?_
        exact k_iret G X dX6_would_31 (Nat.le_refl _) (Nat.le_refl _) ⟨_, _, rfl, rfl, h⟩
      · have h := hB c18
        clear hA hB
        exact hJ21 _ _ _ _ h
def tw_spoiledBy_J32 (kL8 : Int32 → Int32 → Int32 → TS → Prop) (k : Int32 → TS → Prop) (x1 : Int32) (x3 : Int32) (y0 : Int32) (y1 : Int32) (s : TS) : Prop := ∀ x33 : Int32, x33 = (y1 + y0) → ∀ x34 : Int32, x34 = x3 + 1 → kL8 x1 x33 x34 s
def tw_spoiledBy_L8 (k : Int32 → TS → Prop) : Nat → Int32 → Int32 → Int32 → TS → Prop
  | 0, _, _, _, _ => False
  | n + 1, x1, x2, x3, s => (x1 ≤ x3 → tw_ends s (fun s41 => k x2 s41)) ∧ (¬ x1 ≤ x3 → vp_in x3 6 ∧ tw_bakes s ((s.1 8 (x3 : Int32).toNatClampNeg)) (fun r21 s21 => (r21 = 0 → tw_spoiledBy_J32 (fun x1 x2 x3 s => tw_spoiledBy_L8 k n x1 x2 x3 s) k x1 x3 0 x2 s21) ∧ (¬ r21 = 0 → tw_spoiledBy_J32 (fun x1 x2 x3 s => tw_spoiledBy_L8 k n x1 x2 x3 s) k x1 x3 1 x2 s21)))
def tw_spoiledBy (s : TS) (x1 : Int32) (k : Int32 → TS → Prop) : Prop := tw_begins s (fun s3 => ∃ n8 : Nat, tw_spoiledBy_L8 k n8 x1 0 0 s3)
set_option maxHeartbeats 4000000 in
theorem wk_spoiledBy (l : Launch) (D : va_G) (T : xT) (q : Nat → Nat) (s : TS) (x1 : Int32) (k : Int32 → TS → Prop) (h : tw_spoiledBy s x1 k) : XM l D T yX6_spoiledBy cX6_spoiledBy 4 (some .int) 29 0 0 [.ref (q 0), .int x1] (tw T q s) (tpostI T q k) := by
  refine XM.start (by decide +kernel) (Nat.le_of_ble_eq_true rfl) (fun Γ G X _ hl_ => ?_)
  subst hl_
  have hJ32 : ∀ (kL8 : Int32 → Int32 → Int32 → TS → Prop) (ih8 : ∀ (x1 : Int32) (x2 : Int32) (x3 : Int32) (s : TS), kL8 x1 x2 x3 s → K D Γ 0 0 8 [(0, .ref (q 0)), (1, .int x1), (2, .int x2), (3, .int x3)] [] (tw T q s)) (x1 : Int32) (x3 : Int32) (y0 : Int32) (y1 : Int32) (s : TS), tw_spoiledBy_J32 kL8 k x1 x3 y0 y1 s → K D Γ 0 0 32 [(0, .ref (q 0)), (1, .int x1), (3, .int x3)] [.int y0, .int y1] (tw T q s) := by
    intro kL8 ih8 x1 x3 y0 y1 s h
    unfold tw_spoiledBy_J32 at h
    refine k_iadd G dX6_spoiledBy_32 ?_
    refine k_nmI (fun x33 e33 => ?_)
    have h := h x33 e33
    refine k_istore_n G [(2, .int x33), (0, .ref (q 0)), (1, .int x1), (3, .int x3)] dX6_spoiledBy_33 rfl (Nat.le_of_ble_eq_true rfl) rfl ?_
    obtain ⟨x34, e34⟩ : ∃ y : Int32, y = x3 + 1 := ⟨_, rfl⟩
    have h := h x34 e34
    refine k_iinc G [(3, .int x34), (2, .int x33), (0, .ref (q 0)), (1, .int x1)] dX6_spoiledBy_34 rfl (v := x34) (by rw [e34, kc_i_1]) (Nat.le_of_ble_eq_true rfl) rfl ?_
    refine k_goto G 8 dX6_spoiledBy_37 (by decide) ?_
    refine K.less [2, 3, 1, 0] rfl ?_
    exact ih8 _ _ _ _ h
  have hL8 : ∀ n : Nat, ∀ (x1 : Int32) (x2 : Int32) (x3 : Int32) (s : TS), (tw_spoiledBy_L8 k n) x1 x2 x3 s → K D Γ 0 0 8 [(0, .ref (q 0)), (1, .int x1), (2, .int x2), (3, .int x3)] [] (tw T q s) := by
    intro n
    induction n with
    | zero =>
      intro _ _ _ _ h
      exact h.elim
    | succ n ih8 =>
      intro x1 x2 x3 s h
      unfold tw_spoiledBy_L8 at h
      refine k_iload_n G dX6_spoiledBy_8 rfl ?_
      refine k_iload_n G dX6_spoiledBy_9 rfl ?_
      obtain ⟨hA, hB⟩ := h
      refine k_icmp_ge G 40 dX6_spoiledBy_10 (by decide) (fun c10 => ?_) (fun c10 => ?_)
      · have h := hA c10
        clear hA hB
        refine k_aload_n G dX6_spoiledBy_40 rfl ?_
        refine kt_callV G (wk_ends _ D T q _ _ h) cf_ends q1673 dX6_spoiledBy_41 rfl rfl (Nat.le_of_ble_eq_true rfl) (Nat.le_of_ble_eq_true rfl) (fun s41 h => ?_)
        refine k_iload_n G dX6_spoiledBy_44 rfl ?_
        exact k_iret G X dX6_spoiledBy_45 (Nat.le_refl _) (Nat.le_refl _) ⟨_, _, rfl, rfl, h⟩
      · have h := hB c10
        clear hA hB
        refine k_iload_n G dX6_spoiledBy_13 rfl ?_
        refine k_aload_n G dX6_spoiledBy_14 rfl ?_
        refine k_aload_n G dX6_spoiledBy_15 rfl ?_
        refine kt_get G tf_line rfl dX6_spoiledBy_16 rfl ?_
        refine k_iload_n G dX6_spoiledBy_19 rfl ?_
        obtain ⟨h1, h⟩ := h
        refine kt_iald G tA_8 dX6_spoiledBy_20 h1 ?_
        refine kt_callI G (wk_bakes _ D T q _ _ _ h) cf_bakes q1646 dX6_spoiledBy_21 rfl rfl (Nat.le_of_ble_eq_true rfl) (Nat.le_of_ble_eq_true rfl) (fun r21 s21 h => ?_)
        obtain ⟨hA, hB⟩ := h
        refine k_if_eq G 31 dX6_spoiledBy_24 (by decide) (fun c24 => ?_) (fun c24 => ?_)
        · have h := hA c24
          clear hA hB
          refine k_iconst G dX6_spoiledBy_31 kc_i_0 ?_
          refine K.less [0, 1, 3] rfl ?_
          exact hJ32 _ ih8 _ _ _ _ _ h
        · have h := hB c24
          clear hA hB
          refine k_iconst G dX6_spoiledBy_27 kc_i_1 ?_
          refine k_goto G 32 dX6_spoiledBy_28 (by decide) ?_
          refine K.less [0, 1, 3] rfl ?_
          exact hJ32 _ ih8 _ _ _ _ _ h
  refine K.less [0, 1] (lv' := [(0, .ref (q 0)), (1, .int x1)]) rfl ?_
  unfold tw_spoiledBy at h
  refine k_iconst G dX6_spoiledBy_0 kc_i_0 ?_
  refine k_istore_n G [(2, .int 0), (0, .ref (q 0)), (1, .int x1)] dX6_spoiledBy_1 rfl (Nat.le_of_ble_eq_true rfl) rfl ?_
  refine k_aload_n G dX6_spoiledBy_2 rfl ?_
  refine kt_callV G (wk_begins _ D T q _ _ h) cf_begins q1666 dX6_spoiledBy_3 rfl rfl (Nat.le_of_ble_eq_true rfl) (Nat.le_of_ble_eq_true rfl) (fun s3 h => ?_)
  refine k_iconst G dX6_spoiledBy_6 kc_i_0 ?_
  refine k_istore_n G [(3, .int 0), (2, .int 0), (0, .ref (q 0)), (1, .int x1)] dX6_spoiledBy_7 rfl (Nat.le_of_ble_eq_true rfl) rfl ?_
  obtain ⟨n8, h⟩ := h
  refine K.less [2, 3, 1, 0] rfl ?_
  exact hL8 n8 _ _ _ _ h
def tb_orders_J115 (c_orders : TS → Int32 → Int32 → Int32 → (TS → Prop) → Prop) (kL68 : Int32 → Int32 → Int32 → Int32 → TS → Prop) (k : TS → Prop) (x1 : Int32) (x2 : Int32) (x3 : Int32) (x4 : Int32) (s : TS) : Prop := ∀ x115 : Int32, x115 = x4 + 1 → kL68 x1 x2 x3 x115 s
def tb_orders_L68 (c_orders : TS → Int32 → Int32 → Int32 → (TS → Prop) → Prop) (k : TS → Prop) : Nat → Int32 → Int32 → Int32 → Int32 → TS → Prop
  | 0, _, _, _, _, _ => False
  | n + 1, x1, x2, x3, x4, s => vp_in 5 92 ∧ ((s.1 1 (5 : Int32).toNatClampNeg) ≤ x4 → k s) ∧ (¬ (s.1 1 (5 : Int32).toNatClampNeg) ≤ x4 → (¬ ((x1 >>> (x4 &&& 31)) &&& 1) = 0 → vp_in x2 6 ∧ ∀ w112 : TS, w112 = (sA s 8 (x2 : Int32).toNatClampNeg x4) → c_orders w112 ((x1 &&& ((1 <<< (x4 &&& 31)) ^^^ (-1)))) ((x2 + 1)) x3 (fun s112 => tb_orders_J115 c_orders (fun x1 x2 x3 x4 s => tb_orders_L68 c_orders k n x1 x2 x3 x4 s) k x1 x2 x3 x4 s112)) ∧ (((x1 >>> (x4 &&& 31)) &&& 1) = 0 → tb_orders_J115 c_orders (fun x1 x2 x3 x4 s => tb_orders_L68 c_orders k n x1 x2 x3 x4 s) k x1 x2 x3 x4 s))
def tb_orders_L38 (c_orders : TS → Int32 → Int32 → Int32 → (TS → Prop) → Prop) (k : TS → Prop) : Nat → Int32 → Int32 → TS → Prop
  | 0, _, _, _ => False
  | n + 1, x2, x5, s => (x2 ≤ x5 → k s) ∧ (¬ x2 ≤ x5 → vp_in x5 6 ∧ vp_in x5 6 ∧ ∀ x58 : Int32, x58 = x5 + 1 → tb_orders_L38 c_orders k n x2 x58 ((sA s 9 (x5 : Int32).toNatClampNeg (s.1 8 (x5 : Int32).toNatClampNeg))))
def tb_orders_J29 (c_orders : TS → Int32 → Int32 → Int32 → (TS → Prop) → Prop) (k : TS → Prop) (x2 : Int32) (x4 : Int32) (s : TS) : Prop := ∃ n38 : Nat, tb_orders_L38 c_orders k n38 x2 0 ((sA s 0 24 x4))
def tb_orders (c_orders : TS → Int32 → Int32 → Int32 → (TS → Prop) → Prop) (s : TS) (x1 : Int32) (x2 : Int32) (x3 : Int32) (k : TS → Prop) : Prop := (¬ x2 = x3 → ∃ n68 : Nat, tb_orders_L68 c_orders k n68 x1 x2 x3 0 s) ∧ (x2 = x3 → tw_spoiledBy s x2 (fun r7 s7 => ((s7.1 0 24) < 0 → tb_orders_J29 c_orders k x2 r7 s7) ∧ (¬ (s7.1 0 24) < 0 → (r7 < (s7.1 0 24) → tb_orders_J29 c_orders k x2 r7 s7) ∧ (¬ r7 < (s7.1 0 24) → k s7))))
set_option maxHeartbeats 4000000 in
theorem wb_orders (l : Launch) (D : va_G) (T : xT) (q : Nat → Nat) (lev : Nat) (c_orders : TS → Int32 → Int32 → Int32 → (TS → Prop) → Prop) (l_orders : Nat) (hl_orders : l_orders + 1 ≤ lev) (w_orders : ∀ (s : TS) (x1 : Int32) (x2 : Int32) (x3 : Int32) (k : TS → Prop), c_orders s x1 x2 x3 k → XM l D T yX6_orders cX6_orders 6 none l_orders 0 0 [.ref (q 0), .int x1, .int x2, .int x3] (tw T q s) (tpostV T q k)) (hlev : 30 ≤ lev) (s : TS) (x1 : Int32) (x2 : Int32) (x3 : Int32) (k : TS → Prop) (h : tb_orders c_orders s x1 x2 x3 k) : XM l D T yX6_orders cX6_orders 6 none lev 0 0 [.ref (q 0), .int x1, .int x2, .int x3] (tw T q s) (tpostV T q k) := by
  refine XM.start (by decide +kernel) (Nat.le_of_ble_eq_true rfl) (fun Γ G X _ hl_ => ?_)
  subst hl_
  have hJ115 : ∀ (kL68 : Int32 → Int32 → Int32 → Int32 → TS → Prop) (ih68 : ∀ (x1 : Int32) (x2 : Int32) (x3 : Int32) (x4 : Int32) (s : TS), kL68 x1 x2 x3 x4 s → K D Γ 0 0 68 [(0, .ref (q 0)), (1, .int x1), (2, .int x2), (3, .int x3), (4, .int x4)] [] (tw T q s)) (x1 : Int32) (x2 : Int32) (x3 : Int32) (x4 : Int32) (s : TS), tb_orders_J115 c_orders kL68 k x1 x2 x3 x4 s → K D Γ 0 0 115 [(0, .ref (q 0)), (1, .int x1), (2, .int x2), (3, .int x3), (4, .int x4)] [] (tw T q s) := by
    intro kL68 ih68 x1 x2 x3 x4 s h
    unfold tb_orders_J115 at h
    obtain ⟨x115, e115⟩ : ∃ y : Int32, y = x4 + 1 := ⟨_, rfl⟩
    have h := h x115 e115
    refine k_iinc G [(4, .int x115), (0, .ref (q 0)), (1, .int x1), (2, .int x2), (3, .int x3)] dX6_orders_115 rfl (v := x115) (by rw [e115, kc_i_1]) (Nat.le_of_ble_eq_true rfl) rfl ?_
    refine k_goto G 68 dX6_orders_118 (by decide) ?_
    refine K.less [1, 2, 3, 4, 0] rfl ?_
    exact ih68 _ _ _ _ _ h
  have hL68 : ∀ n : Nat, ∀ (x1 : Int32) (x2 : Int32) (x3 : Int32) (x4 : Int32) (s : TS), (tb_orders_L68 c_orders k n) x1 x2 x3 x4 s → K D Γ 0 0 68 [(0, .ref (q 0)), (1, .int x1), (2, .int x2), (3, .int x3), (4, .int x4)] [] (tw T q s) := by
    intro n
    induction n with
    | zero =>
      intro _ _ _ _ _ h
      exact h.elim
    | succ n ih68 =>
      intro x1 x2 x3 x4 s h
      unfold tb_orders_L68 at h
      refine k_iload G dX6_orders_68 rfl ?_
      refine k_aload_n G dX6_orders_70 rfl ?_
      refine kt_get G tf_s rfl dX6_orders_71 rfl ?_
      refine k_iconst G dX6_orders_74 kc_i_5 ?_
      obtain ⟨h1, h⟩ := h
      refine kt_iald G tA_1 dX6_orders_75 h1 ?_
      obtain ⟨hA, hB⟩ := h
      refine k_icmp_ge G 121 dX6_orders_76 (by decide) (fun c76 => ?_) (fun c76 => ?_)
      · have h := hA c76
        clear hA hB
        exact k_vret G X dX6_orders_121 (Nat.le_refl _) (Nat.le_refl _) ⟨_, rfl, rfl, h⟩
      · have h := hB c76
        clear hA hB
        refine k_iload_n G dX6_orders_79 rfl ?_
        refine k_iload G dX6_orders_80 rfl ?_
        refine k_ishr G dX6_orders_82 ?_
        refine k_iconst G dX6_orders_83 kc_i_1 ?_
        refine k_iand G dX6_orders_84 ?_
        obtain ⟨hA, hB⟩ := h
        refine k_if_ne G 91 dX6_orders_85 (by decide) (fun c85 => ?_) (fun c85 => ?_)
        · have h := hA c85
          clear hA hB
          refine k_aload_n G dX6_orders_91 rfl ?_
          refine kt_get G tf_line rfl dX6_orders_92 rfl ?_
          refine k_iload_n G dX6_orders_95 rfl ?_
          refine k_iload G dX6_orders_96 rfl ?_
          obtain ⟨h1, h⟩ := h
          refine kt_iast G tA_8 dX6_orders_98 h1 ?_
          refine k_aload_n G dX6_orders_99 rfl ?_
          refine k_iload_n G dX6_orders_100 rfl ?_
          refine k_iconst G dX6_orders_101 kc_i_1 ?_
          refine k_iload G dX6_orders_102 rfl ?_
          refine k_ishl G dX6_orders_104 ?_
          refine k_iconst G dX6_orders_105 kc_i_m1 ?_
          refine k_ixor G dX6_orders_106 ?_
          refine k_iand G dX6_orders_107 ?_
          refine k_iload_n G dX6_orders_108 rfl ?_
          refine k_iconst G dX6_orders_109 kc_i_1 ?_
          refine k_iadd G dX6_orders_110 ?_
          refine k_iload_n G dX6_orders_111 rfl ?_
          refine kt_nmW (fun w112 ew112 => ?_)
          have h := h w112 ew112
          refine kt_callV G (w_orders _ _ _ _ _ h) cf_orders q1688 dX6_orders_112 rfl rfl (Nat.le_of_ble_eq_true rfl) hl_orders (fun s112 h => ?_)
          exact hJ115 _ ih68 _ _ _ _ _ h
        · have h := hB c85
          clear hA hB
          refine k_goto G 115 dX6_orders_88 (by decide) ?_
          exact hJ115 _ ih68 _ _ _ _ _ h
  have hL38 : ∀ n : Nat, ∀ (x2 : Int32) (x5 : Int32) (s : TS), (tb_orders_L38 c_orders k n) x2 x5 s → K D Γ 0 0 38 [(0, .ref (q 0)), (2, .int x2), (5, .int x5)] [] (tw T q s) := by
    intro n
    induction n with
    | zero =>
      intro _ _ _ h
      exact h.elim
    | succ n ih38 =>
      intro x2 x5 s h
      unfold tb_orders_L38 at h
      refine k_iload G dX6_orders_38 rfl ?_
      refine k_iload_n G dX6_orders_40 rfl ?_
      obtain ⟨hA, hB⟩ := h
      refine k_icmp_ge G 64 dX6_orders_41 (by decide) (fun c41 => ?_) (fun c41 => ?_)
      · have h := hA c41
        clear hA hB
        exact k_vret G X dX6_orders_64 (Nat.le_refl _) (Nat.le_refl _) ⟨_, rfl, rfl, h⟩
      · have h := hB c41
        clear hA hB
        refine k_aload_n G dX6_orders_44 rfl ?_
        refine kt_get G tf_best rfl dX6_orders_45 rfl ?_
        refine k_iload G dX6_orders_48 rfl ?_
        refine k_aload_n G dX6_orders_50 rfl ?_
        refine kt_get G tf_line rfl dX6_orders_51 rfl ?_
        refine k_iload G dX6_orders_54 rfl ?_
        obtain ⟨h1, h⟩ := h
        refine kt_iald G tA_8 dX6_orders_56 h1 ?_
        obtain ⟨h1, h⟩ := h
        refine kt_iast G tA_9 dX6_orders_57 h1 ?_
        obtain ⟨x58, e58⟩ : ∃ y : Int32, y = x5 + 1 := ⟨_, rfl⟩
        have h := h x58 e58
        refine k_iinc G [(5, .int x58), (0, .ref (q 0)), (2, .int x2)] dX6_orders_58 rfl (v := x58) (by rw [e58, kc_i_1]) (Nat.le_of_ble_eq_true rfl) rfl ?_
        refine k_goto G 38 dX6_orders_61 (by decide) ?_
        refine K.less [1, 2, 0] rfl ?_
        exact ih38 _ _ _ h
  have hJ29 : ∀ (x2 : Int32) (x4 : Int32) (s : TS), tb_orders_J29 c_orders k x2 x4 s → K D Γ 0 0 29 [(0, .ref (q 0)), (2, .int x2), (4, .int x4)] [] (tw T q s) := by
    intro x2 x4 s h
    unfold tb_orders_J29 at h
    refine k_aload_n G dX6_orders_29 rfl ?_
    refine k_iload G dX6_orders_30 rfl ?_
    refine kt_put G tp_fewest rfl dX6_orders_32 ?_
    refine k_iconst G dX6_orders_35 kc_i_0 ?_
    refine k_istore G [(5, .int 0), (0, .ref (q 0)), (2, .int x2), (4, .int x4)] dX6_orders_36 (Nat.le_of_ble_eq_true rfl) rfl ?_
    obtain ⟨n38, h⟩ := h
    refine K.less [1, 2, 0] rfl ?_
    exact hL38 n38 _ _ _ h
  refine K.less [0, 1, 2, 3] (lv' := [(0, .ref (q 0)), (1, .int x1), (2, .int x2), (3, .int x3)]) rfl ?_
  unfold tb_orders at h
  refine k_iload_n G dX6_orders_0 rfl ?_
  refine k_iload_n G dX6_orders_1 rfl ?_
  obtain ⟨hA, hB⟩ := h
  refine k_icmp_ne G 65 dX6_orders_2 (by decide) (fun c2 => ?_) (fun c2 => ?_)
  · have h := hA c2
    clear hA hB
    refine k_iconst G dX6_orders_65 kc_i_0 ?_
    refine k_istore G [(4, .int 0), (0, .ref (q 0)), (1, .int x1), (2, .int x2), (3, .int x3)] dX6_orders_66 (Nat.le_of_ble_eq_true rfl) rfl ?_
    obtain ⟨n68, h⟩ := h
    refine K.less [1, 2, 3, 4, 0] rfl ?_
    exact hL68 n68 _ _ _ _ _ h
  · have h := hB c2
    clear hA hB
    refine k_aload_n G dX6_orders_5 rfl ?_
    refine k_iload_n G dX6_orders_6 rfl ?_
    refine kt_callI G (wk_spoiledBy _ D T q _ _ _ h) cf_spoiledBy q1692 dX6_orders_7 rfl rfl (Nat.le_of_ble_eq_true rfl) (Nat.le_trans (Nat.le_of_ble_eq_true rfl) hlev) (fun r7 s7 h => ?_)
    refine k_istore G [(4, .int r7), (0, .ref (q 0)), (1, .int x1), (2, .int x2), (3, .int x3)] dX6_orders_10 (Nat.le_of_ble_eq_true rfl) rfl ?_
    refine k_aload_n G dX6_orders_12 rfl ?_
    refine kt_get G tf_fewest rfl dX6_orders_13 rfl ?_
    obtain ⟨hA, hB⟩ := h
    refine k_if_lt G 29 dX6_orders_16 (by decide) (fun c16 => ?_) (fun c16 => ?_)
    · have h := hA c16
      clear hA hB
      refine K.less [1, 3, 0] rfl ?_
      exact hJ29 _ _ _ h
    · have h := hB c16
      clear hA hB
      refine k_iload G dX6_orders_19 rfl ?_
      refine k_aload_n G dX6_orders_21 rfl ?_
      refine kt_get G tf_fewest rfl dX6_orders_22 rfl ?_
      obtain ⟨hA, hB⟩ := h
      refine k_icmp_lt G 29 dX6_orders_25 (by decide) (fun c25 => ?_) (fun c25 => ?_)
      · have h := hA c25
        clear hA hB
        refine K.less [1, 3, 0] rfl ?_
        exact hJ29 _ _ _ h
      · have h := hB c25
        clear hA hB
        exact k_vret G X dX6_orders_28 (Nat.le_refl _) (Nat.le_refl _) ⟨_, rfl, rfl, h⟩
def tf_orders : Nat → TS → Int32 → Int32 → Int32 → (TS → Prop) → Prop
  | 0, _, _, _, _, _ => False
  | n + 1, s, x1, x2, x3, k => tb_orders (tf_orders n) s x1 x2 x3 k
theorem wf_orders (l : Launch) (D : va_G) (T : xT) (q : Nat → Nat) : ∀ (n : Nat) (s : TS) (x1 : Int32) (x2 : Int32) (x3 : Int32) (k : TS → Prop), tf_orders n s x1 x2 x3 k → XM l D T yX6_orders cX6_orders 6 none (29 + n) 0 0 [.ref (q 0), .int x1, .int x2, .int x3] (tw T q s) (tpostV T q k) := by
  intro n
  induction n with
  | zero =>
    intro _ _ _ _ _ h
    exact h.elim
  | succ n ih =>
    intro s x1 x2 x3 k h
    exact wb_orders l D T q (29 + (n + 1)) (tf_orders n) (29 + n) (by omega) ih (by omega) s x1 x2 x3 k h
def tw_orders (s : TS) (x1 : Int32) (x2 : Int32) (x3 : Int32) (k : TS → Prop) : Prop := tf_orders 8 s x1 x2 x3 k
theorem wk_orders (l : Launch) (D : va_G) (T : xT) (q : Nat → Nat) (s : TS) (x1 : Int32) (x2 : Int32) (x3 : Int32) (k : TS → Prop) (h : tw_orders s x1 x2 x3 k) : XM l D T yX6_orders cX6_orders 6 none 37 0 0 [.ref (q 0), .int x1, .int x2, .int x3] (tw T q s) (tpostV T q k) := wf_orders l D T q 8 s x1 x2 x3 k h
def tw_order (s : TS) (x1 : Int32) (x2 : Int32) (k : Int32 → TS → Prop) : Prop := pw_isIn x2 (-1) 5 (fun r3 => (¬ r3 = 0 → tw_areLoaves s x1 (fun r13 s13 => (r13 = 0 → k (-2) s13) ∧ (¬ r13 = 0 → pw_bits x1 (fun r20 => (r20 ≤ 5 → pw_bits x1 (fun r39 => ∀ w42 : TS, w42 = (sA s13 0 24 (-1)) → tw_orders w42 x1 0 r39 (fun s42 => (0 ≤ x2 → pw_bits x1 (fun r58 => (r58 ≤ x2 → k (-5) s42) ∧ (¬ r58 ≤ x2 → vp_in x2 6 ∧ k ((s42.1 9 (x2 : Int32).toNatClampNeg)) s42))) ∧ (¬ 0 ≤ x2 → k ((s42.1 0 24)) s42)))) ∧ (¬ r20 ≤ 5 → k (-2) s13))))) ∧ (r3 = 0 → k (-1) s))
set_option maxHeartbeats 4000000 in
theorem wk_order (l : Launch) (D : va_G) (T : xT) (q : Nat → Nat) (s : TS) (x1 : Int32) (x2 : Int32) (k : Int32 → TS → Prop) (h : tw_order s x1 x2 k) : XM l D T yX6_order cX6_order 3 (some .int) 38 0 0 [.ref (q 0), .int x1, .int x2] (tw T q s) (tpostI T q k) := by
  refine XM.start (by decide +kernel) (Nat.le_of_ble_eq_true rfl) (fun Γ G X _ hl_ => ?_)
  subst hl_
  refine K.less [0, 1, 2] (lv' := [(0, .ref (q 0)), (1, .int x1), (2, .int x2)]) rfl ?_
  unfold tw_order at h
  refine k_iload_n G dX6_order_0 rfl ?_
  refine k_iconst G dX6_order_1 kc_i_m1 ?_
  refine k_iconst G dX6_order_2 kc_i_5 ?_
  refine k_callPI G (wk_isIn _ D T _ _ _ _ h) cf_isIn q1511 dX6_order_3 rfl rfl (Nat.le_of_ble_eq_true rfl) (Nat.le_of_ble_eq_true rfl) ⟨Nat.zero_le _, Nat.zero_le _⟩ (fun r3 h => ?_)
  obtain ⟨hA, hB⟩ := h
  refine k_if_ne G 11 dX6_order_6 (by decide) (fun c6 => ?_) (fun c6 => ?_)
  · have h := hA c6
    clear hA hB
    refine k_aload_n G dX6_order_11 rfl ?_
    refine k_iload_n G dX6_order_12 rfl ?_
    refine kt_callI G (wk_areLoaves _ D T q _ _ _ h) cf_areLoaves q1681 dX6_order_13 rfl rfl (Nat.le_of_ble_eq_true rfl) (Nat.le_of_ble_eq_true rfl) (fun r13 s13 h => ?_)
    obtain ⟨hA, hB⟩ := h
    refine k_if_eq G 27 dX6_order_16 (by decide) (fun c16 => ?_) (fun c16 => ?_)
    · have h := hA c16
      clear hA hB
      refine k_bipush G dX6_order_27 kc_b_m2 ?_
      exact k_iret G X dX6_order_29 (Nat.le_refl _) (Nat.le_refl _) ⟨_, _, rfl, rfl, h⟩
    · have h := hB c16
      clear hA hB
      refine k_iload_n G dX6_order_19 rfl ?_
      refine k_callPI G (wk_bits _ D T _ _ h) cf_bits q1685 dX6_order_20 rfl rfl (Nat.le_of_ble_eq_true rfl) (Nat.le_of_ble_eq_true rfl) ⟨Nat.zero_le _, Nat.zero_le _⟩ (fun r20 h => ?_)
      refine k_iconst G dX6_order_23 kc_i_5 ?_
      obtain ⟨hA, hB⟩ := h
      refine k_icmp_le G 30 dX6_order_24 (by decide) (fun c24 => ?_) (fun c24 => ?_)
      · have h := hA c24
        clear hA hB
        refine k_aload_n G dX6_order_30 rfl ?_
        refine k_iconst G dX6_order_31 kc_i_m1 ?_
        refine kt_put G tp_fewest rfl dX6_order_32 ?_
        refine k_aload_n G dX6_order_35 rfl ?_
        refine k_iload_n G dX6_order_36 rfl ?_
        refine k_iconst G dX6_order_37 kc_i_0 ?_
        refine k_iload_n G dX6_order_38 rfl ?_
        refine k_callPI G (wk_bits _ D T _ _ h) cf_bits q1685 dX6_order_39 rfl rfl (Nat.le_of_ble_eq_true rfl) (Nat.le_of_ble_eq_true rfl) ⟨Nat.zero_le _, Nat.zero_le _⟩ (fun r39 h => ?_)
        refine kt_nmW (fun w42 ew42 => ?_)
        have h := h w42 ew42
        refine kt_callV G (wk_orders _ D T q _ _ _ _ _ h) cf_orders q1688 dX6_order_42 rfl rfl (Nat.le_of_ble_eq_true rfl) (Nat.le_of_ble_eq_true rfl) (fun s42 h => ?_)
        refine k_iload_n G dX6_order_45 rfl ?_
        obtain ⟨hA, hB⟩ := h
        refine k_if_ge G 56 dX6_order_46 (by decide) (fun c46 => ?_) (fun c46 => ?_)
        · have h := hA c46
          clear hA hB
          refine k_iload_n G dX6_order_56 rfl ?_
          refine k_iload_n G dX6_order_57 rfl ?_
          refine k_callPI G (wk_bits _ D T _ _ h) cf_bits q1685 dX6_order_58 rfl rfl (Nat.le_of_ble_eq_true rfl) (Nat.le_of_ble_eq_true rfl) ⟨Nat.zero_le _, Nat.zero_le _⟩ (fun r58 h => ?_)
          obtain ⟨hA, hB⟩ := h
          refine k_icmp_ge G 73 dX6_order_61 (by decide) (fun c61 => ?_) (fun c61 => ?_)
          · have h := hA c61
            clear hA hB
            refine k_bipush G dX6_order_73 kc_b_m5 ?_
            exact k_iret G X dX6_order_75 (Nat.le_refl _) (Nat.le_refl _) ⟨_, _, rfl, rfl, h⟩
          · have h := hB c61
            clear hA hB
            refine k_aload_n G dX6_order_64 rfl ?_
            refine kt_get G tf_best rfl dX6_order_65 rfl ?_
            refine k_iload_n G dX6_order_68 rfl ?_
            obtain ⟨h1, h⟩ := h
            refine kt_iald G tA_9 dX6_order_69 h1 ?_
            refine k_goto G 75 dX6_order_70 (by decide) ?_
            exact k_iret G X dX6_order_75 (Nat.le_refl _) (Nat.le_refl _) ⟨_, _, rfl, rfl, h⟩
        · have h := hB c46
          clear hA hB
          refine k_aload_n G dX6_order_49 rfl ?_
          refine kt_get G tf_fewest rfl dX6_order_50 rfl ?_
          refine k_goto G 75 dX6_order_53 (by decide) ?_
          exact k_iret G X dX6_order_75 (Nat.le_refl _) (Nat.le_refl _) ⟨_, _, rfl, rfl, h⟩
      · have h := hB c24
        clear hA hB
        refine k_bipush G dX6_order_27 kc_b_m2 ?_
        exact k_iret G X dX6_order_29 (Nat.le_refl _) (Nat.le_refl _) ⟨_, _, rfl, rfl, h⟩
  · have h := hB c6
    clear hA hB
    refine k_iconst G dX6_order_9 kc_i_m1 ?_
    exact k_iret G X dX6_order_10 (Nat.le_refl _) (Nat.le_refl _) ⟨_, _, rfl, rfl, h⟩
def pw_memberOf_J16 (kL4 : Int32 → Int32 → Int32 → Prop) (k : Int32 → Prop) (x0 : Int32) (x2 : Int32) (x3 : Int32) : Prop := ∀ x23 : Int32, x23 = (x2 - ((x0 >>> (x3 &&& 31)) &&& 1)) → ∀ x24 : Int32, x24 = x3 + 1 → kL4 x0 x23 x24
def pw_memberOf_L4 (k : Int32 → Prop) : Nat → Int32 → Int32 → Int32 → Prop
  | 0, _, _, _ => False
  | n + 1, x0, x2, x3 => (((x0 >>> (x3 &&& 31)) &&& 1) = 0 → pw_memberOf_J16 (fun x0 x2 x3 => pw_memberOf_L4 k n x0 x2 x3) k x0 x2 x3) ∧ (¬ ((x0 >>> (x3 &&& 31)) &&& 1) = 0 → (x2 ≤ 0 → k x3) ∧ (¬ x2 ≤ 0 → pw_memberOf_J16 (fun x0 x2 x3 => pw_memberOf_L4 k n x0 x2 x3) k x0 x2 x3))
def pw_memberOf (x0 : Int32) (x1 : Int32) (k : Int32 → Prop) : Prop := ∃ n4 : Nat, pw_memberOf_L4 k n4 x0 x1 0
set_option maxHeartbeats 4000000 in
theorem wk_memberOf (l : Launch) (D : va_G) (T : xT) (x0 : Int32) (x1 : Int32) (k : Int32 → Prop) (h : pw_memberOf x0 x1 k) : XM l D T yX6_memberOf cX6_memberOf 4 (some .int) 1 0 0 [.int x0, .int x1] [] (ppostI k) := by
  refine XM.start (by decide +kernel) (Nat.le_of_ble_eq_true rfl) (fun Γ G X _ hl_ => ?_)
  subst hl_
  have hJ16 : ∀ (kL4 : Int32 → Int32 → Int32 → Prop) (ih4 : ∀ (x0 : Int32) (x2 : Int32) (x3 : Int32), kL4 x0 x2 x3 → K D Γ 0 0 4 [(0, .int x0), (2, .int x2), (3, .int x3)] [] []) (x0 : Int32) (x2 : Int32) (x3 : Int32), pw_memberOf_J16 kL4 k x0 x2 x3 → K D Γ 0 0 16 [(0, .int x0), (2, .int x2), (3, .int x3)] [] [] := by
    intro kL4 ih4 x0 x2 x3 h
    unfold pw_memberOf_J16 at h
    refine k_iload_n G dX6_memberOf_16 rfl ?_
    refine k_iload_n G dX6_memberOf_17 rfl ?_
    refine k_iload_n G dX6_memberOf_18 rfl ?_
    refine k_ishr G dX6_memberOf_19 ?_
    refine k_iconst G dX6_memberOf_20 kc_i_1 ?_
    refine k_iand G dX6_memberOf_21 ?_
    refine k_isub G dX6_memberOf_22 ?_
    refine k_nmI (fun x23 e23 => ?_)
    have h := h x23 e23
    refine k_istore_n G [(2, .int x23), (0, .int x0), (3, .int x3)] dX6_memberOf_23 rfl (Nat.le_of_ble_eq_true rfl) rfl ?_
    obtain ⟨x24, e24⟩ : ∃ y : Int32, y = x3 + 1 := ⟨_, rfl⟩
    have h := h x24 e24
    refine k_iinc G [(3, .int x24), (2, .int x23), (0, .int x0)] dX6_memberOf_24 rfl (v := x24) (by rw [e24, kc_i_1]) (Nat.le_of_ble_eq_true rfl) rfl ?_
    refine k_goto G 4 dX6_memberOf_27 (by decide) ?_
    refine K.less [2, 1, 0] rfl ?_
    exact ih4 _ _ _ h
  have hL4 : ∀ n : Nat, ∀ (x0 : Int32) (x2 : Int32) (x3 : Int32), (pw_memberOf_L4 k n) x0 x2 x3 → K D Γ 0 0 4 [(0, .int x0), (2, .int x2), (3, .int x3)] [] [] := by
    intro n
    induction n with
    | zero =>
      intro _ _ _ h
      exact h.elim
    | succ n ih4 =>
      intro x0 x2 x3 h
      unfold pw_memberOf_L4 at h
      refine k_iload_n G dX6_memberOf_4 rfl ?_
      refine k_iload_n G dX6_memberOf_5 rfl ?_
      refine k_ishr G dX6_memberOf_6 ?_
      refine k_iconst G dX6_memberOf_7 kc_i_1 ?_
      refine k_iand G dX6_memberOf_8 ?_
      obtain ⟨hA, hB⟩ := h
      refine k_if_eq G 16 dX6_memberOf_9 (by decide) (fun c9 => ?_) (fun c9 => ?_)
      · have h := hA c9
        clear hA hB
        exact hJ16 _ ih4 _ _ _ h
      · have h := hB c9
        clear hA hB
        refine k_iload_n G dX6_memberOf_12 rfl ?_
        obtain ⟨hA, hB⟩ := h
        refine k_if_le G 30 dX6_memberOf_13 (by decide) (fun c13 => ?_) (fun c13 => ?_)
        · have h := hA c13
          clear hA hB
          refine k_iload_n G dX6_memberOf_30 rfl ?_
          exact k_iret G X dX6_memberOf_31 (Nat.le_refl _) (Nat.le_refl _) ⟨_, rfl, rfl, h⟩
        · have h := hB c13
          clear hA hB
          exact hJ16 _ ih4 _ _ _ h
  refine K.less [0, 1] (lv' := [(0, .int x0), (1, .int x1)]) rfl ?_
  unfold pw_memberOf at h
  refine k_iload_n G dX6_memberOf_0 rfl ?_
  refine k_istore_n G [(2, .int x1), (0, .int x0), (1, .int x1)] dX6_memberOf_1 rfl (Nat.le_of_ble_eq_true rfl) rfl ?_
  refine k_iconst G dX6_memberOf_2 kc_i_0 ?_
  refine k_istore_n G [(3, .int 0), (2, .int x1), (0, .int x0), (1, .int x1)] dX6_memberOf_3 rfl (Nat.le_of_ble_eq_true rfl) rfl ?_
  obtain ⟨n4, h⟩ := h
  refine K.less [2, 1, 0] rfl ?_
  exact hL4 n4 _ _ _ h
def tw_isWellBy_J82 (k : Int32 → TS → Prop) (x4 : Int32) (s : TS) : Prop := tw_ends s (fun s83 => (x4 = 0 ∨ x4 = 1) ∧ k x4 s83)
def tw_isWellBy_J68 (kL13 : Int32 → Int32 → Int32 → Int32 → Int32 → TS → Prop) (k : Int32 → TS → Prop) (x1 : Int32) (x2 : Int32) (x5 : Int32) (x6 : Int32) (y0 : Int32) (s : TS) : Prop := ∀ x74 : Int32, x74 = (x5 / 5) → ∀ x76 : Int32, x76 = x6 + 1 → kL13 x1 x2 y0 x74 x76 s
def tw_isWellBy_L35 (kL13 : Int32 → Int32 → Int32 → Int32 → Int32 → TS → Prop) (k : Int32 → TS → Prop) : Nat → Int32 → Int32 → Int32 → Int32 → Int32 → TS → Prop
  | 0, _, _, _, _, _, _ => False
  | n + 1, x1, x2, x5, x6, x7, s => (x7 ≤ 0 → pw_memberOf x1 x6 (fun r54 => tw_bakes s r54 (fun r57 s57 => (¬ r57 = 0 → tw_isWellBy_J68 kL13 k x1 x2 x5 x6 0 s57) ∧ (r57 = 0 → tw_isWellBy_J68 kL13 k x1 x2 x5 x6 1 s57)))) ∧ (¬ x7 ≤ 0 → tw_cools s (fun s41 => ∀ x44 : Int32, x44 = x7 + (-1) → tw_isWellBy_L35 kL13 k n x1 x2 x5 x6 x44 s41))
def tw_isWellBy_L13 (k : Int32 → TS → Prop) : Nat → Int32 → Int32 → Int32 → Int32 → Int32 → TS → Prop
  | 0, _, _, _, _, _, _ => False
  | n + 1, x1, x2, x4, x5, x6, s => pw_bits x1 (fun r16 => (r16 ≤ x6 → tw_isWellBy_J82 k x4 s) ∧ (¬ r16 ≤ x6 → (x4 = 0 → tw_isWellBy_J82 k x4 s) ∧ (¬ x4 = 0 → ¬ x5 = 0 ∧ ∀ x33 : Int32, x33 = ((x2 / x5) - (x2 / x5) / 5 * 5) → ∃ n35 : Nat, tw_isWellBy_L35 (fun x1 x2 x4 x5 x6 s => tw_isWellBy_L13 k n x1 x2 x4 x5 x6 s) k n35 x1 x2 x5 x6 x33 s)))
def tw_isWellBy (s : TS) (x1 : Int32) (x2 : Int32) (x3 : Int32) (k : Int32 → TS → Prop) : Prop := tw_begins s (fun s4 => ∃ n13 : Nat, tw_isWellBy_L13 k n13 x1 x2 1 x3 0 s4)
set_option maxHeartbeats 4000000 in
theorem wk_isWellBy (l : Launch) (D : va_G) (T : xT) (q : Nat → Nat) (s : TS) (x1 : Int32) (x2 : Int32) (x3 : Int32) (k : Int32 → TS → Prop) (h : tw_isWellBy s x1 x2 x3 k) : XM l D T yX6_isWellBy cX6_isWellBy 8 (some .boolean) 29 0 0 [.ref (q 0), .int x1, .int x2, .int x3] (tw T q s) (tpostI T q k) := by
  refine XM.start (by decide +kernel) (Nat.le_of_ble_eq_true rfl) (fun Γ G X _ hl_ => ?_)
  subst hl_
  have hJ82 : ∀ (x4 : Int32) (s : TS), tw_isWellBy_J82 k x4 s → K D Γ 0 0 82 [(0, .ref (q 0)), (4, .int x4)] [] (tw T q s) := by
    intro x4 s h
    unfold tw_isWellBy_J82 at h
    refine k_aload_n G dX6_isWellBy_82 rfl ?_
    refine kt_callV G (wk_ends _ D T q _ _ h) cf_ends q1673 dX6_isWellBy_83 rfl rfl (Nat.le_of_ble_eq_true rfl) (Nat.le_of_ble_eq_true rfl) (fun s83 h => ?_)
    refine k_iload G dX6_isWellBy_86 rfl ?_
    obtain ⟨hz, h⟩ := h
    exact k_zret G X hz dX6_isWellBy_88 (Nat.le_refl _) (Nat.le_refl _) ⟨_, _, rfl, rfl, h⟩
  have hJ68 : ∀ (kL13 : Int32 → Int32 → Int32 → Int32 → Int32 → TS → Prop) (ih13 : ∀ (x1 : Int32) (x2 : Int32) (x4 : Int32) (x5 : Int32) (x6 : Int32) (s : TS), kL13 x1 x2 x4 x5 x6 s → K D Γ 0 0 13 [(0, .ref (q 0)), (1, .int x1), (2, .int x2), (4, .int x4), (5, .int x5), (6, .int x6)] [] (tw T q s)) (x1 : Int32) (x2 : Int32) (x5 : Int32) (x6 : Int32) (y0 : Int32) (s : TS), tw_isWellBy_J68 kL13 k x1 x2 x5 x6 y0 s → K D Γ 0 0 68 [(0, .ref (q 0)), (1, .int x1), (2, .int x2), (5, .int x5), (6, .int x6)] [.int y0] (tw T q s) := by
    intro kL13 ih13 x1 x2 x5 x6 y0 s h
    unfold tw_isWellBy_J68 at h
    refine k_istore G [(4, .int y0), (0, .ref (q 0)), (1, .int x1), (2, .int x2), (5, .int x5), (6, .int x6)] dX6_isWellBy_68 (Nat.le_of_ble_eq_true rfl) rfl ?_
    refine k_iload G dX6_isWellBy_70 rfl ?_
    refine k_iconst G dX6_isWellBy_72 kc_i_5 ?_
    refine k_idiv G dX6_isWellBy_73 (by decide) ?_
    refine k_nmI (fun x74 e74 => ?_)
    have h := h x74 e74
    refine k_istore G [(5, .int x74), (4, .int y0), (0, .ref (q 0)), (1, .int x1), (2, .int x2), (6, .int x6)] dX6_isWellBy_74 (Nat.le_of_ble_eq_true rfl) rfl ?_
    obtain ⟨x76, e76⟩ : ∃ y : Int32, y = x6 + 1 := ⟨_, rfl⟩
    have h := h x76 e76
    refine k_iinc G [(6, .int x76), (5, .int x74), (4, .int y0), (0, .ref (q 0)), (1, .int x1), (2, .int x2)] dX6_isWellBy_76 rfl (v := x76) (by rw [e76, kc_i_1]) (Nat.le_of_ble_eq_true rfl) rfl ?_
    refine k_goto G 13 dX6_isWellBy_79 (by decide) ?_
    refine K.less [3, 4, 5, 2, 1, 0] rfl ?_
    exact ih13 _ _ _ _ _ _ h
  have hL35 : ∀ (kL13 : Int32 → Int32 → Int32 → Int32 → Int32 → TS → Prop) (ih13 : ∀ (x1 : Int32) (x2 : Int32) (x4 : Int32) (x5 : Int32) (x6 : Int32) (s : TS), kL13 x1 x2 x4 x5 x6 s → K D Γ 0 0 13 [(0, .ref (q 0)), (1, .int x1), (2, .int x2), (4, .int x4), (5, .int x5), (6, .int x6)] [] (tw T q s)), ∀ n : Nat, ∀ (x1 : Int32) (x2 : Int32) (x5 : Int32) (x6 : Int32) (x7 : Int32) (s : TS), (tw_isWellBy_L35 kL13 k n) x1 x2 x5 x6 x7 s → K D Γ 0 0 35 [(0, .ref (q 0)), (1, .int x1), (2, .int x2), (5, .int x5), (6, .int x6), (7, .int x7)] [] (tw T q s) := by
    intro kL13 ih13 n
    induction n with
    | zero =>
      intro _ _ _ _ _ _ h
      exact h.elim
    | succ n ih35 =>
      intro x1 x2 x5 x6 x7 s h
      unfold tw_isWellBy_L35 at h
      refine k_iload G dX6_isWellBy_35 rfl ?_
      obtain ⟨hA, hB⟩ := h
      refine k_if_le G 50 dX6_isWellBy_37 (by decide) (fun c37 => ?_) (fun c37 => ?_)
      · have h := hA c37
        clear hA hB
        refine k_aload_n G dX6_isWellBy_50 rfl ?_
        refine k_iload_n G dX6_isWellBy_51 rfl ?_
        refine k_iload G dX6_isWellBy_52 rfl ?_
        refine k_callPI G (wk_memberOf _ D T _ _ _ h) cf_memberOf q1704 dX6_isWellBy_54 rfl rfl (Nat.le_of_ble_eq_true rfl) (Nat.le_of_ble_eq_true rfl) ⟨Nat.zero_le _, Nat.zero_le _⟩ (fun r54 h => ?_)
        refine kt_callI G (wk_bakes _ D T q _ _ _ h) cf_bakes q1646 dX6_isWellBy_57 rfl rfl (Nat.le_of_ble_eq_true rfl) (Nat.le_of_ble_eq_true rfl) (fun r57 s57 h => ?_)
        obtain ⟨hA, hB⟩ := h
        refine k_if_ne G 67 dX6_isWellBy_60 (by decide) (fun c60 => ?_) (fun c60 => ?_)
        · have h := hA c60
          clear hA hB
          refine k_iconst G dX6_isWellBy_67 kc_i_0 ?_
          refine K.less [0, 1, 2, 3, 4] rfl ?_
          exact hJ68 _ ih13 _ _ _ _ _ _ h
        · have h := hB c60
          clear hA hB
          refine k_iconst G dX6_isWellBy_63 kc_i_1 ?_
          refine k_goto G 68 dX6_isWellBy_64 (by decide) ?_
          refine K.less [0, 1, 2, 3, 4] rfl ?_
          exact hJ68 _ ih13 _ _ _ _ _ _ h
      · have h := hB c37
        clear hA hB
        refine k_aload_n G dX6_isWellBy_40 rfl ?_
        refine kt_callV G (wk_cools _ D T q _ _ h) cf_cools q1658 dX6_isWellBy_41 rfl rfl (Nat.le_of_ble_eq_true rfl) (Nat.le_of_ble_eq_true rfl) (fun s41 h => ?_)
        obtain ⟨x44, e44⟩ : ∃ y : Int32, y = x7 + (-1) := ⟨_, rfl⟩
        have h := h x44 e44
        refine k_iinc G [(7, .int x44), (0, .ref (q 0)), (1, .int x1), (2, .int x2), (5, .int x5), (6, .int x6)] dX6_isWellBy_44 rfl (v := x44) (by rw [e44, kc_i_m1]) (Nat.le_of_ble_eq_true rfl) rfl ?_
        refine k_goto G 35 dX6_isWellBy_47 (by decide) ?_
        refine K.less [1, 2, 3, 4, 5, 0] rfl ?_
        exact ih35 _ _ _ _ _ _ h
  have hL13 : ∀ n : Nat, ∀ (x1 : Int32) (x2 : Int32) (x4 : Int32) (x5 : Int32) (x6 : Int32) (s : TS), (tw_isWellBy_L13 k n) x1 x2 x4 x5 x6 s → K D Γ 0 0 13 [(0, .ref (q 0)), (1, .int x1), (2, .int x2), (4, .int x4), (5, .int x5), (6, .int x6)] [] (tw T q s) := by
    intro n
    induction n with
    | zero =>
      intro _ _ _ _ _ _ h
      exact h.elim
    | succ n ih13 =>
      intro x1 x2 x4 x5 x6 s h
      unfold tw_isWellBy_L13 at h
      refine k_iload G dX6_isWellBy_13 rfl ?_
      refine k_iload_n G dX6_isWellBy_15 rfl ?_
      refine k_callPI G (wk_bits _ D T _ _ h) cf_bits q1685 dX6_isWellBy_16 rfl rfl (Nat.le_of_ble_eq_true rfl) (Nat.le_of_ble_eq_true rfl) ⟨Nat.zero_le _, Nat.zero_le _⟩ (fun r16 h => ?_)
      obtain ⟨hA, hB⟩ := h
      refine k_icmp_ge G 82 dX6_isWellBy_19 (by decide) (fun c19 => ?_) (fun c19 => ?_)
      · have h := hA c19
        clear hA hB
        refine K.less [0, 3] rfl ?_
        exact hJ82 _ _ h
      · have h := hB c19
        clear hA hB
        refine k_iload G dX6_isWellBy_22 rfl ?_
        obtain ⟨hA, hB⟩ := h
        refine k_if_eq G 82 dX6_isWellBy_24 (by decide) (fun c24 => ?_) (fun c24 => ?_)
        · have h := hA c24
          clear hA hB
          refine K.less [0, 3] rfl ?_
          exact hJ82 _ _ h
        · have h := hB c24
          clear hA hB
          refine k_iload_n G dX6_isWellBy_27 rfl ?_
          refine k_iload G dX6_isWellBy_28 rfl ?_
          obtain ⟨h0, h⟩ := h
          refine k_idiv G dX6_isWellBy_30 h0 ?_
          refine k_iconst G dX6_isWellBy_31 kc_i_5 ?_
          refine k_irem G dX6_isWellBy_32 (by decide) ?_
          refine k_nmI (fun x33 e33 => ?_)
          have h := h x33 e33
          refine k_istore G [(7, .int x33), (0, .ref (q 0)), (1, .int x1), (2, .int x2), (4, .int x4), (5, .int x5), (6, .int x6)] dX6_isWellBy_33 (Nat.le_of_ble_eq_true rfl) rfl ?_
          obtain ⟨n35, h⟩ := h
          refine K.less [1, 2, 3, 5, 6, 0] rfl ?_
          exact hL35 _ ih13 n35 _ _ _ _ _ _ h
  refine K.less [0, 1, 2, 3] (lv' := [(0, .ref (q 0)), (1, .int x1), (2, .int x2), (3, .int x3)]) rfl ?_
  unfold tw_isWellBy at h
  refine k_iconst G dX6_isWellBy_0 kc_i_1 ?_
  refine k_istore G [(4, .int 1), (0, .ref (q 0)), (1, .int x1), (2, .int x2), (3, .int x3)] dX6_isWellBy_1 (Nat.le_of_ble_eq_true rfl) rfl ?_
  refine k_aload_n G dX6_isWellBy_3 rfl ?_
  refine kt_callV G (wk_begins _ D T q _ _ h) cf_begins q1666 dX6_isWellBy_4 rfl rfl (Nat.le_of_ble_eq_true rfl) (Nat.le_of_ble_eq_true rfl) (fun s4 h => ?_)
  refine k_iload_n G dX6_isWellBy_7 rfl ?_
  refine k_istore G [(5, .int x3), (4, .int 1), (0, .ref (q 0)), (1, .int x1), (2, .int x2), (3, .int x3)] dX6_isWellBy_8 (Nat.le_of_ble_eq_true rfl) rfl ?_
  refine k_iconst G dX6_isWellBy_10 kc_i_0 ?_
  refine k_istore G [(6, .int 0), (5, .int x3), (4, .int 1), (0, .ref (q 0)), (1, .int x1), (2, .int x2), (3, .int x3)] dX6_isWellBy_11 (Nat.le_of_ble_eq_true rfl) rfl ?_
  obtain ⟨n13, h⟩ := h
  refine K.less [3, 4, 5, 2, 1, 0] rfl ?_
  exact hL13 n13 _ _ _ _ _ _ h
def tw_colds_L173 (k : Int32 → TS → Prop) : Nat → Int32 → Int32 → Int32 → Int32 → TS → Prop
  | 0, _, _, _, _, _ => False
  | n + 1, x2, x4, x6, x7, s => (x2 ≤ x7 → ¬ x6 = 0 ∧ k (((x4 / x6) - (x4 / x6) / 5 * 5)) s) ∧ (¬ x2 ≤ x7 → ∀ x183 : Int32, x183 = (x6 / 5) → ∀ x185 : Int32, x185 = x7 + 1 → tw_colds_L173 k n x2 x4 x183 x185 s)
def tw_colds_J136 (kL64 : Int32 → Int32 → Int32 → Int32 → Int32 → Int32 → TS → Prop) (k : Int32 → TS → Prop) (x1 : Int32) (x2 : Int32) (x3 : Int32) (x4 : Int32) (x5 : Int32) (x6 : Int32) (s : TS) : Prop := ∀ x136 : Int32, x136 = x6 + 1 → kL64 x1 x2 x3 x4 x5 x136 s
def tw_colds_J112 (kL64 : Int32 → Int32 → Int32 → Int32 → Int32 → Int32 → TS → Prop) (k : Int32 → TS → Prop) (x1 : Int32) (x2 : Int32) (x3 : Int32) (x4 : Int32) (x5 : Int32) (x6 : Int32) (x7 : Int32) (s : TS) : Prop := tw_isWellBy s x1 x6 ((x3 / 5)) (fun r119 s119 => (¬ r119 = 0 → tw_colds_J136 kL64 k x1 x2 x3 x6 x7 x6 s119) ∧ (r119 = 0 → tw_colds_J136 kL64 k x1 x2 x3 x4 x5 x6 s119))
def tw_colds_L77 (kL64 : Int32 → Int32 → Int32 → Int32 → Int32 → Int32 → TS → Prop) (k : Int32 → TS → Prop) : Nat → Int32 → Int32 → Int32 → Int32 → Int32 → Int32 → Int32 → Int32 → TS → Prop
  | 0, _, _, _, _, _, _, _, _, _ => False
  | n + 1, x1, x2, x3, x4, x5, x6, x7, x8, s => (x8 ≤ 0 → (x4 < 0 → tw_colds_J112 kL64 k x1 x2 x3 x4 x5 x6 x7 s) ∧ (¬ x4 < 0 → (x5 ≤ x7 → tw_colds_J136 kL64 k x1 x2 x3 x4 x5 x6 s) ∧ (¬ x5 ≤ x7 → tw_colds_J112 kL64 k x1 x2 x3 x4 x5 x6 x7 s))) ∧ (¬ x8 ≤ 0 → ∀ x89 : Int32, x89 = (x7 + (x8 - x8 / 5 * 5)) → ∀ x95 : Int32, x95 = (x8 / 5) → tw_colds_L77 kL64 k n x1 x2 x3 x4 x5 x6 x89 x95 s)
def tw_colds_L64 (k : Int32 → TS → Prop) : Nat → Int32 → Int32 → Int32 → Int32 → Int32 → Int32 → TS → Prop
  | 0, _, _, _, _, _, _, _ => False
  | n + 1, x1, x2, x3, x4, x5, x6, s => (x3 ≤ x6 → (0 ≤ x2 → (x4 < 0 → k (-5) s) ∧ (¬ x4 < 0 → pw_bits x1 (fun r156 => (x2 < r156 → ∀ x168 : Int32, x168 = (x3 / 5) → ∃ n173 : Nat, tw_colds_L173 k n173 x2 x4 x168 0 s) ∧ (¬ x2 < r156 → k (-5) s)))) ∧ (¬ 0 ≤ x2 → k x5 s)) ∧ (¬ x3 ≤ x6 → ∃ n77 : Nat, tw_colds_L77 (fun x1 x2 x3 x4 x5 x6 s => tw_colds_L64 k n x1 x2 x3 x4 x5 x6 s) k n77 x1 x2 x3 x4 x5 x6 0 x6 s)
def tw_colds_L38 (k : Int32 → TS → Prop) : Nat → Int32 → Int32 → Int32 → Int32 → TS → Prop
  | 0, _, _, _, _, _ => False
  | n + 1, x1, x2, x3, x4, s => (x4 ≤ 0 → ∃ n64 : Nat, tw_colds_L64 k n64 x1 x2 x3 (-5) (-5) 0 s) ∧ (¬ x4 ≤ 0 → ∀ x46 : Int32, x46 = (x3 * 5) → ∀ x47 : Int32, x47 = x4 + (-1) → tw_colds_L38 k n x1 x2 x46 x47 s)
def tw_colds (s : TS) (x1 : Int32) (x2 : Int32) (k : Int32 → TS → Prop) : Prop := pw_isIn x2 (-1) 5 (fun r3 => (¬ r3 = 0 → tw_areLoaves s x1 (fun r13 s13 => (r13 = 0 → k (-2) s13) ∧ (¬ r13 = 0 → pw_bits x1 (fun r20 => (r20 ≤ 4 → pw_bits x1 (fun r33 => ∃ n38 : Nat, tw_colds_L38 k n38 x1 x2 1 r33 s13)) ∧ (¬ r20 ≤ 4 → k (-2) s13))))) ∧ (r3 = 0 → k (-1) s))
set_option maxHeartbeats 4000000 in
theorem wk_colds (l : Launch) (D : va_G) (T : xT) (q : Nat → Nat) (s : TS) (x1 : Int32) (x2 : Int32) (k : Int32 → TS → Prop) (h : tw_colds s x1 x2 k) : XM l D T yX6_colds cX6_colds 9 (some .int) 30 0 0 [.ref (q 0), .int x1, .int x2] (tw T q s) (tpostI T q k) := by
  refine XM.start (by decide +kernel) (Nat.le_of_ble_eq_true rfl) (fun Γ G X _ hl_ => ?_)
  subst hl_
  have hL173 : ∀ n : Nat, ∀ (x2 : Int32) (x4 : Int32) (x6 : Int32) (x7 : Int32) (s : TS), (tw_colds_L173 k n) x2 x4 x6 x7 s → K D Γ 0 0 173 [(2, .int x2), (4, .int x4), (6, .int x6), (7, .int x7)] [] (tw T q s) := by
    intro n
    induction n with
    | zero =>
      intro _ _ _ _ _ h
      exact h.elim
    | succ n ih173 =>
      intro x2 x4 x6 x7 s h
      unfold tw_colds_L173 at h
      refine k_iload G dX6_colds_173 rfl ?_
      refine k_iload_n G dX6_colds_175 rfl ?_
      obtain ⟨hA, hB⟩ := h
      refine k_icmp_ge G 191 dX6_colds_176 (by decide) (fun c176 => ?_) (fun c176 => ?_)
      · have h := hA c176
        clear hA hB
        refine k_iload G dX6_colds_191 rfl ?_
        refine k_iload G dX6_colds_193 rfl ?_
        obtain ⟨h0, h⟩ := h
        refine k_idiv G dX6_colds_195 h0 ?_
        refine k_iconst G dX6_colds_196 kc_i_5 ?_
        refine k_irem G dX6_colds_197 (by decide) ?_
        exact k_iret G X dX6_colds_198 (Nat.le_refl _) (Nat.le_refl _) ⟨_, _, rfl, rfl, h⟩
      · have h := hB c176
        clear hA hB
        refine k_iload G dX6_colds_179 rfl ?_
        refine k_iconst G dX6_colds_181 kc_i_5 ?_
        refine k_idiv G dX6_colds_182 (by decide) ?_
        refine k_nmI (fun x183 e183 => ?_)
        have h := h x183 e183
        refine k_istore G [(6, .int x183), (2, .int x2), (4, .int x4), (7, .int x7)] dX6_colds_183 (Nat.le_of_ble_eq_true rfl) rfl ?_
        obtain ⟨x185, e185⟩ : ∃ y : Int32, y = x7 + 1 := ⟨_, rfl⟩
        have h := h x185 e185
        refine k_iinc G [(7, .int x185), (6, .int x183), (2, .int x2), (4, .int x4)] dX6_colds_185 rfl (v := x185) (by rw [e185, kc_i_1]) (Nat.le_of_ble_eq_true rfl) rfl ?_
        refine k_goto G 173 dX6_colds_188 (by decide) ?_
        refine K.less [2, 3, 1, 0] rfl ?_
        exact ih173 _ _ _ _ _ h
  have hJ136 : ∀ (kL64 : Int32 → Int32 → Int32 → Int32 → Int32 → Int32 → TS → Prop) (ih64 : ∀ (x1 : Int32) (x2 : Int32) (x3 : Int32) (x4 : Int32) (x5 : Int32) (x6 : Int32) (s : TS), kL64 x1 x2 x3 x4 x5 x6 s → K D Γ 0 0 64 [(0, .ref (q 0)), (1, .int x1), (2, .int x2), (3, .int x3), (4, .int x4), (5, .int x5), (6, .int x6)] [] (tw T q s)) (x1 : Int32) (x2 : Int32) (x3 : Int32) (x4 : Int32) (x5 : Int32) (x6 : Int32) (s : TS), tw_colds_J136 kL64 k x1 x2 x3 x4 x5 x6 s → K D Γ 0 0 136 [(0, .ref (q 0)), (1, .int x1), (2, .int x2), (3, .int x3), (4, .int x4), (5, .int x5), (6, .int x6)] [] (tw T q s) := by
    intro kL64 ih64 x1 x2 x3 x4 x5 x6 s h
    unfold tw_colds_J136 at h
    obtain ⟨x136, e136⟩ : ∃ y : Int32, y = x6 + 1 := ⟨_, rfl⟩
    have h := h x136 e136
    refine k_iinc G [(6, .int x136), (0, .ref (q 0)), (1, .int x1), (2, .int x2), (3, .int x3), (4, .int x4), (5, .int x5)] dX6_colds_136 rfl (v := x136) (by rw [e136, kc_i_1]) (Nat.le_of_ble_eq_true rfl) rfl ?_
    refine k_goto G 64 dX6_colds_139 (by decide) ?_
    refine K.less [1, 2, 3, 4, 5, 6, 0] rfl ?_
    exact ih64 _ _ _ _ _ _ _ h
  have hJ112 : ∀ (kL64 : Int32 → Int32 → Int32 → Int32 → Int32 → Int32 → TS → Prop) (ih64 : ∀ (x1 : Int32) (x2 : Int32) (x3 : Int32) (x4 : Int32) (x5 : Int32) (x6 : Int32) (s : TS), kL64 x1 x2 x3 x4 x5 x6 s → K D Γ 0 0 64 [(0, .ref (q 0)), (1, .int x1), (2, .int x2), (3, .int x3), (4, .int x4), (5, .int x5), (6, .int x6)] [] (tw T q s)) (x1 : Int32) (x2 : Int32) (x3 : Int32) (x4 : Int32) (x5 : Int32) (x6 : Int32) (x7 : Int32) (s : TS), tw_colds_J112 kL64 k x1 x2 x3 x4 x5 x6 x7 s → K D Γ 0 0 112 [(0, .ref (q 0)), (1, .int x1), (2, .int x2), (3, .int x3), (4, .int x4), (5, .int x5), (6, .int x6), (7, .int x7)] [] (tw T q s) := by
    intro kL64 ih64 x1 x2 x3 x4 x5 x6 x7 s h
    unfold tw_colds_J112 at h
    refine k_aload_n G dX6_colds_112 rfl ?_
    refine k_iload_n G dX6_colds_113 rfl ?_
    refine k_iload G dX6_colds_114 rfl ?_
    refine k_iload_n G dX6_colds_116 rfl ?_
    refine k_iconst G dX6_colds_117 kc_i_5 ?_
    refine k_idiv G dX6_colds_118 (by decide) ?_
    refine kt_callI G (wk_isWellBy _ D T q _ _ _ _ _ h) cf_isWellBy q1700 dX6_colds_119 rfl rfl (Nat.le_of_ble_eq_true rfl) (Nat.le_of_ble_eq_true rfl) (fun r119 s119 h => ?_)
    obtain ⟨hA, hB⟩ := h
    refine k_if_ne G 128 dX6_colds_122 (by decide) (fun c122 => ?_) (fun c122 => ?_)
    · have h := hA c122
      clear hA hB
      refine k_iload G dX6_colds_128 rfl ?_
      refine k_istore G [(4, .int x6), (0, .ref (q 0)), (1, .int x1), (2, .int x2), (3, .int x3), (5, .int x5), (6, .int x6), (7, .int x7)] dX6_colds_130 (Nat.le_of_ble_eq_true rfl) rfl ?_
      refine k_iload G dX6_colds_132 rfl ?_
      refine k_istore G [(5, .int x7), (4, .int x6), (0, .ref (q 0)), (1, .int x1), (2, .int x2), (3, .int x3), (6, .int x6), (7, .int x7)] dX6_colds_134 (Nat.le_of_ble_eq_true rfl) rfl ?_
      refine K.less [2, 3, 4, 5, 1, 0, 6] rfl ?_
      exact hJ136 _ ih64 _ _ _ _ _ _ _ h
    · have h := hB c122
      clear hA hB
      refine k_goto G 136 dX6_colds_125 (by decide) ?_
      refine K.less [0, 1, 2, 3, 4, 5, 6] rfl ?_
      exact hJ136 _ ih64 _ _ _ _ _ _ _ h
  have hL77 : ∀ (kL64 : Int32 → Int32 → Int32 → Int32 → Int32 → Int32 → TS → Prop) (ih64 : ∀ (x1 : Int32) (x2 : Int32) (x3 : Int32) (x4 : Int32) (x5 : Int32) (x6 : Int32) (s : TS), kL64 x1 x2 x3 x4 x5 x6 s → K D Γ 0 0 64 [(0, .ref (q 0)), (1, .int x1), (2, .int x2), (3, .int x3), (4, .int x4), (5, .int x5), (6, .int x6)] [] (tw T q s)), ∀ n : Nat, ∀ (x1 : Int32) (x2 : Int32) (x3 : Int32) (x4 : Int32) (x5 : Int32) (x6 : Int32) (x7 : Int32) (x8 : Int32) (s : TS), (tw_colds_L77 kL64 k n) x1 x2 x3 x4 x5 x6 x7 x8 s → K D Γ 0 0 77 [(0, .ref (q 0)), (1, .int x1), (2, .int x2), (3, .int x3), (4, .int x4), (5, .int x5), (6, .int x6), (7, .int x7), (8, .int x8)] [] (tw T q s) := by
    intro kL64 ih64 n
    induction n with
    | zero =>
      intro _ _ _ _ _ _ _ _ _ h
      exact h.elim
    | succ n ih77 =>
      intro x1 x2 x3 x4 x5 x6 x7 x8 s h
      unfold tw_colds_L77 at h
      refine k_iload G dX6_colds_77 rfl ?_
      obtain ⟨hA, hB⟩ := h
      refine k_if_le G 100 dX6_colds_79 (by decide) (fun c79 => ?_) (fun c79 => ?_)
      · have h := hA c79
        clear hA hB
        refine k_iload G dX6_colds_100 rfl ?_
        obtain ⟨hA, hB⟩ := h
        refine k_if_lt G 112 dX6_colds_102 (by decide) (fun c102 => ?_) (fun c102 => ?_)
        · have h := hA c102
          clear hA hB
          refine K.less [0, 1, 2, 3, 4, 5, 6, 7] rfl ?_
          exact hJ112 _ ih64 _ _ _ _ _ _ _ _ h
        · have h := hB c102
          clear hA hB
          refine k_iload G dX6_colds_105 rfl ?_
          refine k_iload G dX6_colds_107 rfl ?_
          obtain ⟨hA, hB⟩ := h
          refine k_icmp_ge G 136 dX6_colds_109 (by decide) (fun c109 => ?_) (fun c109 => ?_)
          · have h := hA c109
            clear hA hB
            refine K.less [0, 1, 2, 3, 4, 5, 6] rfl ?_
            exact hJ136 _ ih64 _ _ _ _ _ _ _ h
          · have h := hB c109
            clear hA hB
            refine K.less [0, 1, 2, 3, 4, 5, 6, 7] rfl ?_
            exact hJ112 _ ih64 _ _ _ _ _ _ _ _ h
      · have h := hB c79
        clear hA hB
        refine k_iload G dX6_colds_82 rfl ?_
        refine k_iload G dX6_colds_84 rfl ?_
        refine k_iconst G dX6_colds_86 kc_i_5 ?_
        refine k_irem G dX6_colds_87 (by decide) ?_
        refine k_iadd G dX6_colds_88 ?_
        refine k_nmI (fun x89 e89 => ?_)
        have h := h x89 e89
        refine k_istore G [(7, .int x89), (0, .ref (q 0)), (1, .int x1), (2, .int x2), (3, .int x3), (4, .int x4), (5, .int x5), (6, .int x6), (8, .int x8)] dX6_colds_89 (Nat.le_of_ble_eq_true rfl) rfl ?_
        refine k_iload G dX6_colds_91 rfl ?_
        refine k_iconst G dX6_colds_93 kc_i_5 ?_
        refine k_idiv G dX6_colds_94 (by decide) ?_
        refine k_nmI (fun x95 e95 => ?_)
        have h := h x95 e95
        refine k_istore G [(8, .int x95), (7, .int x89), (0, .ref (q 0)), (1, .int x1), (2, .int x2), (3, .int x3), (4, .int x4), (5, .int x5), (6, .int x6)] dX6_colds_95 (Nat.le_of_ble_eq_true rfl) rfl ?_
        refine k_goto G 77 dX6_colds_97 (by decide) ?_
        refine K.less [2, 3, 4, 5, 6, 7, 8, 1, 0] rfl ?_
        exact ih77 _ _ _ _ _ _ _ _ _ h
  have hL64 : ∀ n : Nat, ∀ (x1 : Int32) (x2 : Int32) (x3 : Int32) (x4 : Int32) (x5 : Int32) (x6 : Int32) (s : TS), (tw_colds_L64 k n) x1 x2 x3 x4 x5 x6 s → K D Γ 0 0 64 [(0, .ref (q 0)), (1, .int x1), (2, .int x2), (3, .int x3), (4, .int x4), (5, .int x5), (6, .int x6)] [] (tw T q s) := by
    intro n
    induction n with
    | zero =>
      intro _ _ _ _ _ _ _ h
      exact h.elim
    | succ n ih64 =>
      intro x1 x2 x3 x4 x5 x6 s h
      unfold tw_colds_L64 at h
      refine k_iload G dX6_colds_64 rfl ?_
      refine k_iload_n G dX6_colds_66 rfl ?_
      obtain ⟨hA, hB⟩ := h
      refine k_icmp_ge G 142 dX6_colds_67 (by decide) (fun c67 => ?_) (fun c67 => ?_)
      · have h := hA c67
        clear hA hB
        refine k_iload_n G dX6_colds_142 rfl ?_
        obtain ⟨hA, hB⟩ := h
        refine k_if_ge G 149 dX6_colds_143 (by decide) (fun c143 => ?_) (fun c143 => ?_)
        · have h := hA c143
          clear hA hB
          refine k_iload G dX6_colds_149 rfl ?_
          obtain ⟨hA, hB⟩ := h
          refine k_if_lt G 162 dX6_colds_151 (by decide) (fun c151 => ?_) (fun c151 => ?_)
          · have h := hA c151
            clear hA hB
            refine k_bipush G dX6_colds_162 kc_b_m5 ?_
            exact k_iret G X dX6_colds_164 (Nat.le_refl _) (Nat.le_refl _) ⟨_, _, rfl, rfl, h⟩
          · have h := hB c151
            clear hA hB
            refine k_iload_n G dX6_colds_154 rfl ?_
            refine k_iload_n G dX6_colds_155 rfl ?_
            refine k_callPI G (wk_bits _ D T _ _ h) cf_bits q1685 dX6_colds_156 rfl rfl (Nat.le_of_ble_eq_true rfl) (Nat.le_of_ble_eq_true rfl) ⟨Nat.zero_le _, Nat.zero_le _⟩ (fun r156 h => ?_)
            obtain ⟨hA, hB⟩ := h
            refine k_icmp_lt G 165 dX6_colds_159 (by decide) (fun c159 => ?_) (fun c159 => ?_)
            · have h := hA c159
              clear hA hB
              refine k_iload_n G dX6_colds_165 rfl ?_
              refine k_iconst G dX6_colds_166 kc_i_5 ?_
              refine k_idiv G dX6_colds_167 (by decide) ?_
              refine k_nmI (fun x168 e168 => ?_)
              have h := h x168 e168
              refine k_istore G [(6, .int x168), (0, .ref (q 0)), (1, .int x1), (2, .int x2), (3, .int x3), (4, .int x4), (5, .int x5)] dX6_colds_168 (Nat.le_of_ble_eq_true rfl) rfl ?_
              refine k_iconst G dX6_colds_170 kc_i_0 ?_
              refine k_istore G [(7, .int 0), (6, .int x168), (0, .ref (q 0)), (1, .int x1), (2, .int x2), (3, .int x3), (4, .int x4), (5, .int x5)] dX6_colds_171 (Nat.le_of_ble_eq_true rfl) rfl ?_
              obtain ⟨n173, h⟩ := h
              refine K.less [4, 6, 1, 0] rfl ?_
              exact hL173 n173 _ _ _ _ _ h
            · have h := hB c159
              clear hA hB
              refine k_bipush G dX6_colds_162 kc_b_m5 ?_
              exact k_iret G X dX6_colds_164 (Nat.le_refl _) (Nat.le_refl _) ⟨_, _, rfl, rfl, h⟩
        · have h := hB c143
          clear hA hB
          refine k_iload G dX6_colds_146 rfl ?_
          exact k_iret G X dX6_colds_148 (Nat.le_refl _) (Nat.le_refl _) ⟨_, _, rfl, rfl, h⟩
      · have h := hB c67
        clear hA hB
        refine k_iconst G dX6_colds_70 kc_i_0 ?_
        refine k_istore G [(7, .int 0), (0, .ref (q 0)), (1, .int x1), (2, .int x2), (3, .int x3), (4, .int x4), (5, .int x5), (6, .int x6)] dX6_colds_71 (Nat.le_of_ble_eq_true rfl) rfl ?_
        refine k_iload G dX6_colds_73 rfl ?_
        refine k_istore G [(8, .int x6), (7, .int 0), (0, .ref (q 0)), (1, .int x1), (2, .int x2), (3, .int x3), (4, .int x4), (5, .int x5), (6, .int x6)] dX6_colds_75 (Nat.le_of_ble_eq_true rfl) rfl ?_
        obtain ⟨n77, h⟩ := h
        refine K.less [2, 3, 4, 5, 6, 7, 8, 1, 0] rfl ?_
        exact hL77 _ ih64 n77 _ _ _ _ _ _ _ _ _ h
  have hL38 : ∀ n : Nat, ∀ (x1 : Int32) (x2 : Int32) (x3 : Int32) (x4 : Int32) (s : TS), (tw_colds_L38 k n) x1 x2 x3 x4 s → K D Γ 0 0 38 [(0, .ref (q 0)), (1, .int x1), (2, .int x2), (3, .int x3), (4, .int x4)] [] (tw T q s) := by
    intro n
    induction n with
    | zero =>
      intro _ _ _ _ _ h
      exact h.elim
    | succ n ih38 =>
      intro x1 x2 x3 x4 s h
      unfold tw_colds_L38 at h
      refine k_iload G dX6_colds_38 rfl ?_
      obtain ⟨hA, hB⟩ := h
      refine k_if_le G 53 dX6_colds_40 (by decide) (fun c40 => ?_) (fun c40 => ?_)
      · have h := hA c40
        clear hA hB
        refine k_bipush G dX6_colds_53 kc_b_m5 ?_
        refine k_istore G [(4, .int (-5)), (0, .ref (q 0)), (1, .int x1), (2, .int x2), (3, .int x3)] dX6_colds_55 (Nat.le_of_ble_eq_true rfl) rfl ?_
        refine k_bipush G dX6_colds_57 kc_b_m5 ?_
        refine k_istore G [(5, .int (-5)), (4, .int (-5)), (0, .ref (q 0)), (1, .int x1), (2, .int x2), (3, .int x3)] dX6_colds_59 (Nat.le_of_ble_eq_true rfl) rfl ?_
        refine k_iconst G dX6_colds_61 kc_i_0 ?_
        refine k_istore G [(6, .int 0), (5, .int (-5)), (4, .int (-5)), (0, .ref (q 0)), (1, .int x1), (2, .int x2), (3, .int x3)] dX6_colds_62 (Nat.le_of_ble_eq_true rfl) rfl ?_
        obtain ⟨n64, h⟩ := h
        refine K.less [3, 4, 5, 6, 2, 1, 0] rfl ?_
        exact hL64 n64 _ _ _ _ _ _ _ h
      · have h := hB c40
        clear hA hB
        refine k_iload_n G dX6_colds_43 rfl ?_
        refine k_iconst G dX6_colds_44 kc_i_5 ?_
        refine k_imul G dX6_colds_45 ?_
        refine k_nmI (fun x46 e46 => ?_)
        have h := h x46 e46
        refine k_istore_n G [(3, .int x46), (0, .ref (q 0)), (1, .int x1), (2, .int x2), (4, .int x4)] dX6_colds_46 rfl (Nat.le_of_ble_eq_true rfl) rfl ?_
        obtain ⟨x47, e47⟩ : ∃ y : Int32, y = x4 + (-1) := ⟨_, rfl⟩
        have h := h x47 e47
        refine k_iinc G [(4, .int x47), (3, .int x46), (0, .ref (q 0)), (1, .int x1), (2, .int x2)] dX6_colds_47 rfl (v := x47) (by rw [e47, kc_i_m1]) (Nat.le_of_ble_eq_true rfl) rfl ?_
        refine k_goto G 38 dX6_colds_50 (by decide) ?_
        refine K.less [2, 3, 4, 1, 0] rfl ?_
        exact ih38 _ _ _ _ _ h
  refine K.less [0, 1, 2] (lv' := [(0, .ref (q 0)), (1, .int x1), (2, .int x2)]) rfl ?_
  unfold tw_colds at h
  refine k_iload_n G dX6_colds_0 rfl ?_
  refine k_iconst G dX6_colds_1 kc_i_m1 ?_
  refine k_iconst G dX6_colds_2 kc_i_5 ?_
  refine k_callPI G (wk_isIn _ D T _ _ _ _ h) cf_isIn q1511 dX6_colds_3 rfl rfl (Nat.le_of_ble_eq_true rfl) (Nat.le_of_ble_eq_true rfl) ⟨Nat.zero_le _, Nat.zero_le _⟩ (fun r3 h => ?_)
  obtain ⟨hA, hB⟩ := h
  refine k_if_ne G 11 dX6_colds_6 (by decide) (fun c6 => ?_) (fun c6 => ?_)
  · have h := hA c6
    clear hA hB
    refine k_aload_n G dX6_colds_11 rfl ?_
    refine k_iload_n G dX6_colds_12 rfl ?_
    refine kt_callI G (wk_areLoaves _ D T q _ _ _ h) cf_areLoaves q1681 dX6_colds_13 rfl rfl (Nat.le_of_ble_eq_true rfl) (Nat.le_of_ble_eq_true rfl) (fun r13 s13 h => ?_)
    obtain ⟨hA, hB⟩ := h
    refine k_if_eq G 27 dX6_colds_16 (by decide) (fun c16 => ?_) (fun c16 => ?_)
    · have h := hA c16
      clear hA hB
      refine k_bipush G dX6_colds_27 kc_b_m2 ?_
      exact k_iret G X dX6_colds_29 (Nat.le_refl _) (Nat.le_refl _) ⟨_, _, rfl, rfl, h⟩
    · have h := hB c16
      clear hA hB
      refine k_iload_n G dX6_colds_19 rfl ?_
      refine k_callPI G (wk_bits _ D T _ _ h) cf_bits q1685 dX6_colds_20 rfl rfl (Nat.le_of_ble_eq_true rfl) (Nat.le_of_ble_eq_true rfl) ⟨Nat.zero_le _, Nat.zero_le _⟩ (fun r20 h => ?_)
      refine k_iconst G dX6_colds_23 kc_i_4 ?_
      obtain ⟨hA, hB⟩ := h
      refine k_icmp_le G 30 dX6_colds_24 (by decide) (fun c24 => ?_) (fun c24 => ?_)
      · have h := hA c24
        clear hA hB
        refine k_iconst G dX6_colds_30 kc_i_1 ?_
        refine k_istore_n G [(3, .int 1), (0, .ref (q 0)), (1, .int x1), (2, .int x2)] dX6_colds_31 rfl (Nat.le_of_ble_eq_true rfl) rfl ?_
        refine k_iload_n G dX6_colds_32 rfl ?_
        refine k_callPI G (wk_bits _ D T _ _ h) cf_bits q1685 dX6_colds_33 rfl rfl (Nat.le_of_ble_eq_true rfl) (Nat.le_of_ble_eq_true rfl) ⟨Nat.zero_le _, Nat.zero_le _⟩ (fun r33 h => ?_)
        refine k_istore G [(4, .int r33), (3, .int 1), (0, .ref (q 0)), (1, .int x1), (2, .int x2)] dX6_colds_36 (Nat.le_of_ble_eq_true rfl) rfl ?_
        obtain ⟨n38, h⟩ := h
        refine K.less [2, 3, 4, 1, 0] rfl ?_
        exact hL38 n38 _ _ _ _ _ h
      · have h := hB c24
        clear hA hB
        refine k_bipush G dX6_colds_27 kc_b_m2 ?_
        exact k_iret G X dX6_colds_29 (Nat.le_refl _) (Nat.le_refl _) ⟨_, _, rfl, rfl, h⟩
  · have h := hB c6
    clear hA hB
    refine k_iconst G dX6_colds_9 kc_i_m1 ?_
    exact k_iret G X dX6_colds_10 (Nat.le_refl _) (Nat.le_refl _) ⟨_, _, rfl, rfl, h⟩
def tw_takesAt_J51 (k : Int32 → TS → Prop) (x1 : Int32) (s : TS) : Prop := tw_allTakes s x1 (fun r53 s53 => tw_ends s53 (fun s59 => k r53 s59))
def tw_takesAt_J45 (kL9 : Int32 → Int32 → Int32 → Int32 → TS → Prop) (k : Int32 → TS → Prop) (x1 : Int32) (x2 : Int32) (x3 : Int32) (x4 : Int32) (s : TS) : Prop := ∀ x45 : Int32, x45 = x4 + 1 → kL9 x1 x2 x3 x45 s
def tw_takesAt_L9 (k : Int32 → TS → Prop) : Nat → Int32 → Int32 → Int32 → Int32 → TS → Prop
  | 0, _, _, _, _, _ => False
  | n + 1, x1, x2, x3, x4, s => vp_in 5 92 ∧ ((s.1 1 (5 : Int32).toNatClampNeg) ≤ x4 → tw_takesAt_J51 k x1 s) ∧ (¬ (s.1 1 (5 : Int32).toNatClampNeg) ≤ x4 → (x2 ≤ x3 → tw_takesAt_J51 k x1 s) ∧ (¬ x2 ≤ x3 → (¬ x4 = x1 → tw_bakes s x4 (fun r37 s37 => ∀ x42 : Int32, x42 = x3 + 1 → tw_takesAt_J45 (fun x1 x2 x3 x4 s => tw_takesAt_L9 k n x1 x2 x3 x4 s) k x1 x2 x42 x4 s37)) ∧ (x4 = x1 → tw_takesAt_J45 (fun x1 x2 x3 x4 s => tw_takesAt_L9 k n x1 x2 x3 x4 s) k x1 x2 x3 x4 s)))
def tw_takesAt (s : TS) (x1 : Int32) (x2 : Int32) (k : Int32 → TS → Prop) : Prop := tw_begins s (fun s1 => ∃ n9 : Nat, tw_takesAt_L9 k n9 x1 x2 0 0 s1)
set_option maxHeartbeats 4000000 in
theorem wk_takesAt (l : Launch) (D : va_G) (T : xT) (q : Nat → Nat) (s : TS) (x1 : Int32) (x2 : Int32) (k : Int32 → TS → Prop) (h : tw_takesAt s x1 x2 k) : XM l D T yX6_takesAt cX6_takesAt 6 (some .int) 29 0 0 [.ref (q 0), .int x1, .int x2] (tw T q s) (tpostI T q k) := by
  refine XM.start (by decide +kernel) (Nat.le_of_ble_eq_true rfl) (fun Γ G X _ hl_ => ?_)
  subst hl_
  have hJ51 : ∀ (x1 : Int32) (s : TS), tw_takesAt_J51 k x1 s → K D Γ 0 0 51 [(0, .ref (q 0)), (1, .int x1)] [] (tw T q s) := by
    intro x1 s h
    unfold tw_takesAt_J51 at h
    refine k_aload_n G dX6_takesAt_51 rfl ?_
    refine k_iload_n G dX6_takesAt_52 rfl ?_
    refine kt_callI G (wk_allTakes _ D T q _ _ _ h) cf_allTakes q1715 dX6_takesAt_53 rfl rfl (Nat.le_of_ble_eq_true rfl) (Nat.le_of_ble_eq_true rfl) (fun r53 s53 h => ?_)
    refine k_istore G [(4, .int r53), (0, .ref (q 0)), (1, .int x1)] dX6_takesAt_56 (Nat.le_of_ble_eq_true rfl) rfl ?_
    refine k_aload_n G dX6_takesAt_58 rfl ?_
    refine kt_callV G (wk_ends _ D T q _ _ h) cf_ends q1673 dX6_takesAt_59 rfl rfl (Nat.le_of_ble_eq_true rfl) (Nat.le_of_ble_eq_true rfl) (fun s59 h => ?_)
    refine k_iload G dX6_takesAt_62 rfl ?_
    exact k_iret G X dX6_takesAt_64 (Nat.le_refl _) (Nat.le_refl _) ⟨_, _, rfl, rfl, h⟩
  have hJ45 : ∀ (kL9 : Int32 → Int32 → Int32 → Int32 → TS → Prop) (ih9 : ∀ (x1 : Int32) (x2 : Int32) (x3 : Int32) (x4 : Int32) (s : TS), kL9 x1 x2 x3 x4 s → K D Γ 0 0 9 [(0, .ref (q 0)), (1, .int x1), (2, .int x2), (3, .int x3), (4, .int x4)] [] (tw T q s)) (x1 : Int32) (x2 : Int32) (x3 : Int32) (x4 : Int32) (s : TS), tw_takesAt_J45 kL9 k x1 x2 x3 x4 s → K D Γ 0 0 45 [(0, .ref (q 0)), (1, .int x1), (2, .int x2), (3, .int x3), (4, .int x4)] [] (tw T q s) := by
    intro kL9 ih9 x1 x2 x3 x4 s h
    unfold tw_takesAt_J45 at h
    obtain ⟨x45, e45⟩ : ∃ y : Int32, y = x4 + 1 := ⟨_, rfl⟩
    have h := h x45 e45
    refine k_iinc G [(4, .int x45), (0, .ref (q 0)), (1, .int x1), (2, .int x2), (3, .int x3)] dX6_takesAt_45 rfl (v := x45) (by rw [e45, kc_i_1]) (Nat.le_of_ble_eq_true rfl) rfl ?_
    refine k_goto G 9 dX6_takesAt_48 (by decide) ?_
    refine K.less [1, 2, 3, 4, 0] rfl ?_
    exact ih9 _ _ _ _ _ h
  have hL9 : ∀ n : Nat, ∀ (x1 : Int32) (x2 : Int32) (x3 : Int32) (x4 : Int32) (s : TS), (tw_takesAt_L9 k n) x1 x2 x3 x4 s → K D Γ 0 0 9 [(0, .ref (q 0)), (1, .int x1), (2, .int x2), (3, .int x3), (4, .int x4)] [] (tw T q s) := by
    intro n
    induction n with
    | zero =>
      intro _ _ _ _ _ h
      exact h.elim
    | succ n ih9 =>
      intro x1 x2 x3 x4 s h
      unfold tw_takesAt_L9 at h
      refine k_iload G dX6_takesAt_9 rfl ?_
      refine k_aload_n G dX6_takesAt_11 rfl ?_
      refine kt_get G tf_s rfl dX6_takesAt_12 rfl ?_
      refine k_iconst G dX6_takesAt_15 kc_i_5 ?_
      obtain ⟨h1, h⟩ := h
      refine kt_iald G tA_1 dX6_takesAt_16 h1 ?_
      obtain ⟨hA, hB⟩ := h
      refine k_icmp_ge G 51 dX6_takesAt_17 (by decide) (fun c17 => ?_) (fun c17 => ?_)
      · have h := hA c17
        clear hA hB
        refine K.less [0, 1] rfl ?_
        exact hJ51 _ _ h
      · have h := hB c17
        clear hA hB
        refine k_iload_n G dX6_takesAt_20 rfl ?_
        refine k_iload_n G dX6_takesAt_21 rfl ?_
        obtain ⟨hA, hB⟩ := h
        refine k_icmp_ge G 51 dX6_takesAt_22 (by decide) (fun c22 => ?_) (fun c22 => ?_)
        · have h := hA c22
          clear hA hB
          refine K.less [0, 1] rfl ?_
          exact hJ51 _ _ h
        · have h := hB c22
          clear hA hB
          refine k_iload G dX6_takesAt_25 rfl ?_
          refine k_iload_n G dX6_takesAt_27 rfl ?_
          obtain ⟨hA, hB⟩ := h
          refine k_icmp_ne G 34 dX6_takesAt_28 (by decide) (fun c28 => ?_) (fun c28 => ?_)
          · have h := hA c28
            clear hA hB
            refine k_aload_n G dX6_takesAt_34 rfl ?_
            refine k_iload G dX6_takesAt_35 rfl ?_
            refine kt_callI G (wk_bakes _ D T q _ _ _ h) cf_bakes q1646 dX6_takesAt_37 rfl rfl (Nat.le_of_ble_eq_true rfl) (Nat.le_of_ble_eq_true rfl) (fun r37 s37 h => ?_)
            refine k_istore G [(5, .int r37), (0, .ref (q 0)), (1, .int x1), (2, .int x2), (3, .int x3), (4, .int x4)] dX6_takesAt_40 (Nat.le_of_ble_eq_true rfl) rfl ?_
            obtain ⟨x42, e42⟩ : ∃ y : Int32, y = x3 + 1 := ⟨_, rfl⟩
            have h := h x42 e42
            refine k_iinc G [(3, .int x42), (5, .int r37), (0, .ref (q 0)), (1, .int x1), (2, .int x2), (4, .int x4)] dX6_takesAt_42 rfl (v := x42) (by rw [e42, kc_i_1]) (Nat.le_of_ble_eq_true rfl) rfl ?_
            refine K.less [2, 3, 4, 0, 5] rfl ?_
            exact hJ45 _ ih9 _ _ _ _ _ h
          · have h := hB c28
            clear hA hB
            refine k_goto G 45 dX6_takesAt_31 (by decide) ?_
            exact hJ45 _ ih9 _ _ _ _ _ h
  refine K.less [0, 1, 2] (lv' := [(0, .ref (q 0)), (1, .int x1), (2, .int x2)]) rfl ?_
  unfold tw_takesAt at h
  refine k_aload_n G dX6_takesAt_0 rfl ?_
  refine kt_callV G (wk_begins _ D T q _ _ h) cf_begins q1666 dX6_takesAt_1 rfl rfl (Nat.le_of_ble_eq_true rfl) (Nat.le_of_ble_eq_true rfl) (fun s1 h => ?_)
  refine k_iconst G dX6_takesAt_4 kc_i_0 ?_
  refine k_istore_n G [(3, .int 0), (0, .ref (q 0)), (1, .int x1), (2, .int x2)] dX6_takesAt_5 rfl (Nat.le_of_ble_eq_true rfl) rfl ?_
  refine k_iconst G dX6_takesAt_6 kc_i_0 ?_
  refine k_istore G [(4, .int 0), (3, .int 0), (0, .ref (q 0)), (1, .int x1), (2, .int x2)] dX6_takesAt_7 (Nat.le_of_ble_eq_true rfl) rfl ?_
  obtain ⟨n9, h⟩ := h
  refine K.less [2, 3, 4, 1, 0] rfl ?_
  exact hL9 n9 _ _ _ _ _ h
def tw_place_J69 (kL32 : Int32 → Int32 → Int32 → Int32 → Int32 → TS → Prop) (k : Int32 → TS → Prop) (x1 : Int32) (x2 : Int32) (x3 : Int32) (x4 : Int32) (x5 : Int32) (s : TS) : Prop := ∀ x69 : Int32, x69 = x5 + 1 → kL32 x1 x2 x3 x4 x69 s
def tw_place_L32 (k : Int32 → TS → Prop) : Nat → Int32 → Int32 → Int32 → Int32 → Int32 → TS → Prop
  | 0, _, _, _, _, _, _ => False
  | n + 1, x1, x2, x3, x4, x5, s => vp_in 5 92 ∧ ((s.1 1 (5 : Int32).toNatClampNeg) ≤ x5 → (¬ x2 = 0 → k x4 s) ∧ (x2 = 0 → k x3 s)) ∧ (¬ (s.1 1 (5 : Int32).toNatClampNeg) ≤ x5 → tw_takesAt s x1 x5 (fun r47 s47 => (r47 < x4 → tw_place_J69 (fun x1 x2 x3 x4 x5 s => tw_place_L32 k n x1 x2 x3 x4 x5 s) k x1 x2 x5 r47 x5 s47) ∧ (¬ r47 < x4 → tw_place_J69 (fun x1 x2 x3 x4 x5 s => tw_place_L32 k n x1 x2 x3 x4 x5 s) k x1 x2 x3 x4 x5 s47)))
def tw_place (s : TS) (x1 : Int32) (x2 : Int32) (k : Int32 → TS → Prop) : Prop := tw_isLoaf s x1 (fun r2 s2 => (r2 = 0 → k (-1) s2) ∧ (¬ r2 = 0 → pw_isIn x2 0 1 (fun r11 => (¬ r11 = 0 → tw_takesAt s2 x1 0 (fun r24 s24 => ∃ n32 : Nat, tw_place_L32 k n32 x1 x2 0 r24 1 s24)) ∧ (r11 = 0 → k (-1) s2))))
set_option maxHeartbeats 4000000 in
theorem wk_place (l : Launch) (D : va_G) (T : xT) (q : Nat → Nat) (s : TS) (x1 : Int32) (x2 : Int32) (k : Int32 → TS → Prop) (h : tw_place s x1 x2 k) : XM l D T yX6_place cX6_place 7 (some .int) 30 0 0 [.ref (q 0), .int x1, .int x2] (tw T q s) (tpostI T q k) := by
  refine XM.start (by decide +kernel) (Nat.le_of_ble_eq_true rfl) (fun Γ G X _ hl_ => ?_)
  subst hl_
  have hJ69 : ∀ (kL32 : Int32 → Int32 → Int32 → Int32 → Int32 → TS → Prop) (ih32 : ∀ (x1 : Int32) (x2 : Int32) (x3 : Int32) (x4 : Int32) (x5 : Int32) (s : TS), kL32 x1 x2 x3 x4 x5 s → K D Γ 0 0 32 [(0, .ref (q 0)), (1, .int x1), (2, .int x2), (3, .int x3), (4, .int x4), (5, .int x5)] [] (tw T q s)) (x1 : Int32) (x2 : Int32) (x3 : Int32) (x4 : Int32) (x5 : Int32) (s : TS), tw_place_J69 kL32 k x1 x2 x3 x4 x5 s → K D Γ 0 0 69 [(0, .ref (q 0)), (1, .int x1), (2, .int x2), (3, .int x3), (4, .int x4), (5, .int x5)] [] (tw T q s) := by
    intro kL32 ih32 x1 x2 x3 x4 x5 s h
    unfold tw_place_J69 at h
    obtain ⟨x69, e69⟩ : ∃ y : Int32, y = x5 + 1 := ⟨_, rfl⟩
    have h := h x69 e69
    refine k_iinc G [(5, .int x69), (0, .ref (q 0)), (1, .int x1), (2, .int x2), (3, .int x3), (4, .int x4)] dX6_place_69 rfl (v := x69) (by rw [e69, kc_i_1]) (Nat.le_of_ble_eq_true rfl) rfl ?_
    refine k_goto G 32 dX6_place_72 (by decide) ?_
    refine K.less [1, 2, 3, 4, 5, 0] rfl ?_
    exact ih32 _ _ _ _ _ _ h
  have hL32 : ∀ n : Nat, ∀ (x1 : Int32) (x2 : Int32) (x3 : Int32) (x4 : Int32) (x5 : Int32) (s : TS), (tw_place_L32 k n) x1 x2 x3 x4 x5 s → K D Γ 0 0 32 [(0, .ref (q 0)), (1, .int x1), (2, .int x2), (3, .int x3), (4, .int x4), (5, .int x5)] [] (tw T q s) := by
    intro n
    induction n with
    | zero =>
      intro _ _ _ _ _ _ h
      exact h.elim
    | succ n ih32 =>
      intro x1 x2 x3 x4 x5 s h
      unfold tw_place_L32 at h
      refine k_iload G dX6_place_32 rfl ?_
      refine k_aload_n G dX6_place_34 rfl ?_
      refine kt_get G tf_s rfl dX6_place_35 rfl ?_
      refine k_iconst G dX6_place_38 kc_i_5 ?_
      obtain ⟨h1, h⟩ := h
      refine kt_iald G tA_1 dX6_place_39 h1 ?_
      obtain ⟨hA, hB⟩ := h
      refine k_icmp_ge G 75 dX6_place_40 (by decide) (fun c40 => ?_) (fun c40 => ?_)
      · have h := hA c40
        clear hA hB
        refine k_iload_n G dX6_place_75 rfl ?_
        obtain ⟨hA, hB⟩ := h
        refine k_if_ne G 83 dX6_place_76 (by decide) (fun c76 => ?_) (fun c76 => ?_)
        · have h := hA c76
          clear hA hB
          refine k_iload G dX6_place_83 rfl ?_
          exact k_iret G X dX6_place_85 (Nat.le_refl _) (Nat.le_refl _) ⟨_, _, rfl, rfl, h⟩
        · have h := hB c76
          clear hA hB
          refine k_iload_n G dX6_place_79 rfl ?_
          refine k_goto G 85 dX6_place_80 (by decide) ?_
          exact k_iret G X dX6_place_85 (Nat.le_refl _) (Nat.le_refl _) ⟨_, _, rfl, rfl, h⟩
      · have h := hB c40
        clear hA hB
        refine k_aload_n G dX6_place_43 rfl ?_
        refine k_iload_n G dX6_place_44 rfl ?_
        refine k_iload G dX6_place_45 rfl ?_
        refine kt_callI G (wk_takesAt _ D T q _ _ _ _ h) cf_takesAt q1711 dX6_place_47 rfl rfl (Nat.le_of_ble_eq_true rfl) (Nat.le_of_ble_eq_true rfl) (fun r47 s47 h => ?_)
        refine k_istore G [(6, .int r47), (0, .ref (q 0)), (1, .int x1), (2, .int x2), (3, .int x3), (4, .int x4), (5, .int x5)] dX6_place_50 (Nat.le_of_ble_eq_true rfl) rfl ?_
        refine k_iload G dX6_place_52 rfl ?_
        refine k_iload G dX6_place_54 rfl ?_
        obtain ⟨hA, hB⟩ := h
        refine k_icmp_lt G 62 dX6_place_56 (by decide) (fun c56 => ?_) (fun c56 => ?_)
        · have h := hA c56
          clear hA hB
          refine k_iload G dX6_place_62 rfl ?_
          refine k_istore_n G [(3, .int x5), (6, .int r47), (0, .ref (q 0)), (1, .int x1), (2, .int x2), (4, .int x4), (5, .int x5)] dX6_place_64 rfl (Nat.le_of_ble_eq_true rfl) rfl ?_
          refine k_iload G dX6_place_65 rfl ?_
          refine k_istore G [(4, .int r47), (3, .int x5), (6, .int r47), (0, .ref (q 0)), (1, .int x1), (2, .int x2), (5, .int x5)] dX6_place_67 (Nat.le_of_ble_eq_true rfl) rfl ?_
          refine K.less [3, 4, 5, 1, 0, 6] rfl ?_
          exact hJ69 _ ih32 _ _ _ _ _ _ h
        · have h := hB c56
          clear hA hB
          refine k_goto G 69 dX6_place_59 (by decide) ?_
          refine K.less [1, 2, 3, 4, 5, 6] rfl ?_
          exact hJ69 _ ih32 _ _ _ _ _ _ h
  refine K.less [0, 1, 2] (lv' := [(0, .ref (q 0)), (1, .int x1), (2, .int x2)]) rfl ?_
  unfold tw_place at h
  refine k_aload_n G dX6_place_0 rfl ?_
  refine k_iload_n G dX6_place_1 rfl ?_
  refine kt_callI G (wk_isLoaf _ D T q _ _ _ h) cf_isLoaf q1595 dX6_place_2 rfl rfl (Nat.le_of_ble_eq_true rfl) (Nat.le_of_ble_eq_true rfl) (fun r2 s2 h => ?_)
  obtain ⟨hA, hB⟩ := h
  refine k_if_eq G 17 dX6_place_5 (by decide) (fun c5 => ?_) (fun c5 => ?_)
  · have h := hA c5
    clear hA hB
    refine k_iconst G dX6_place_17 kc_i_m1 ?_
    exact k_iret G X dX6_place_18 (Nat.le_refl _) (Nat.le_refl _) ⟨_, _, rfl, rfl, h⟩
  · have h := hB c5
    clear hA hB
    refine k_iload_n G dX6_place_8 rfl ?_
    refine k_iconst G dX6_place_9 kc_i_0 ?_
    refine k_iconst G dX6_place_10 kc_i_1 ?_
    refine k_callPI G (wk_isIn _ D T _ _ _ _ h) cf_isIn q1511 dX6_place_11 rfl rfl (Nat.le_of_ble_eq_true rfl) (Nat.le_of_ble_eq_true rfl) ⟨Nat.zero_le _, Nat.zero_le _⟩ (fun r11 h => ?_)
    obtain ⟨hA, hB⟩ := h
    refine k_if_ne G 19 dX6_place_14 (by decide) (fun c14 => ?_) (fun c14 => ?_)
    · have h := hA c14
      clear hA hB
      refine k_iconst G dX6_place_19 kc_i_0 ?_
      refine k_istore_n G [(3, .int 0), (0, .ref (q 0)), (1, .int x1), (2, .int x2)] dX6_place_20 rfl (Nat.le_of_ble_eq_true rfl) rfl ?_
      refine k_aload_n G dX6_place_21 rfl ?_
      refine k_iload_n G dX6_place_22 rfl ?_
      refine k_iconst G dX6_place_23 kc_i_0 ?_
      refine kt_callI G (wk_takesAt _ D T q _ _ _ _ h) cf_takesAt q1711 dX6_place_24 rfl rfl (Nat.le_of_ble_eq_true rfl) (Nat.le_of_ble_eq_true rfl) (fun r24 s24 h => ?_)
      refine k_istore G [(4, .int r24), (3, .int 0), (0, .ref (q 0)), (1, .int x1), (2, .int x2)] dX6_place_27 (Nat.le_of_ble_eq_true rfl) rfl ?_
      refine k_iconst G dX6_place_29 kc_i_1 ?_
      refine k_istore G [(5, .int 1), (4, .int r24), (3, .int 0), (0, .ref (q 0)), (1, .int x1), (2, .int x2)] dX6_place_30 (Nat.le_of_ble_eq_true rfl) rfl ?_
      obtain ⟨n32, h⟩ := h
      refine K.less [3, 4, 5, 2, 1, 0] rfl ?_
      exact hL32 n32 _ _ _ _ _ _ h
    · have h := hB c14
      clear hA hB
      refine k_iconst G dX6_place_17 kc_i_m1 ?_
      exact k_iret G X dX6_place_18 (Nat.le_refl _) (Nat.le_refl _) ⟨_, _, rfl, rfl, h⟩
def tw_isSpoiledBehind_J29 (kL6 : Int32 → Int32 → Int32 → TS → Prop) (k : Int32 → TS → Prop) (x1 : Int32) (x2 : Int32) (x3 : Int32) (y0 : Int32) (s : TS) : Prop := ∀ x31 : Int32, x31 = x3 + 1 → kL6 x1 x2 x31 s
def tw_isSpoiledBehind_J28 (kL6 : Int32 → Int32 → Int32 → TS → Prop) (k : Int32 → TS → Prop) (x1 : Int32) (x2 : Int32) (x3 : Int32) (s : TS) : Prop := tw_isSpoiledBehind_J29 kL6 k x1 x2 x3 0 s
def tw_isSpoiledBehind_L6 (k : Int32 → TS → Prop) : Nat → Int32 → Int32 → Int32 → TS → Prop
  | 0, _, _, _, _ => False
  | n + 1, x1, x2, x3, s => (x1 ≤ x3 → tw_isSpoiled s x1 (fun r39 s39 => tw_ends s39 (fun s44 => (r39 = 0 ∨ r39 = 1) ∧ k r39 s44))) ∧ (¬ x1 ≤ x3 → (x3 = x2 → tw_isSpoiledBehind_J28 (fun x1 x2 x3 s => tw_isSpoiledBehind_L6 k n x1 x2 x3 s) k x1 x2 x3 s) ∧ (¬ x3 = x2 → tw_bakes s x3 (fun r18 s18 => (r18 = 0 → tw_isSpoiledBehind_J28 (fun x1 x2 x3 s => tw_isSpoiledBehind_L6 k n x1 x2 x3 s) k x1 x2 x3 s18) ∧ (¬ r18 = 0 → tw_isSpoiledBehind_J29 (fun x1 x2 x3 s => tw_isSpoiledBehind_L6 k n x1 x2 x3 s) k x1 x2 x3 1 s18))))
def tw_isSpoiledBehind (s : TS) (x1 : Int32) (x2 : Int32) (k : Int32 → TS → Prop) : Prop := tw_begins s (fun s1 => ∃ n6 : Nat, tw_isSpoiledBehind_L6 k n6 x1 x2 0 s1)
set_option maxHeartbeats 4000000 in
theorem wk_isSpoiledBehind (l : Launch) (D : va_G) (T : xT) (q : Nat → Nat) (s : TS) (x1 : Int32) (x2 : Int32) (k : Int32 → TS → Prop) (h : tw_isSpoiledBehind s x1 x2 k) : XM l D T yX6_isSpoiledBehind cX6_isSpoiledBehind 5 (some .boolean) 29 0 0 [.ref (q 0), .int x1, .int x2] (tw T q s) (tpostI T q k) := by
  refine XM.start (by decide +kernel) (Nat.le_of_ble_eq_true rfl) (fun Γ G X _ hl_ => ?_)
  subst hl_
  have hJ29 : ∀ (kL6 : Int32 → Int32 → Int32 → TS → Prop) (ih6 : ∀ (x1 : Int32) (x2 : Int32) (x3 : Int32) (s : TS), kL6 x1 x2 x3 s → K D Γ 0 0 6 [(0, .ref (q 0)), (1, .int x1), (2, .int x2), (3, .int x3)] [] (tw T q s)) (x1 : Int32) (x2 : Int32) (x3 : Int32) (y0 : Int32) (s : TS), tw_isSpoiledBehind_J29 kL6 k x1 x2 x3 y0 s → K D Γ 0 0 29 [(0, .ref (q 0)), (1, .int x1), (2, .int x2), (3, .int x3)] [.int y0] (tw T q s) := by
    intro kL6 ih6 x1 x2 x3 y0 s h
    unfold tw_isSpoiledBehind_J29 at h
    refine k_istore G [(4, .int y0), (0, .ref (q 0)), (1, .int x1), (2, .int x2), (3, .int x3)] dX6_isSpoiledBehind_29 (Nat.le_of_ble_eq_true rfl) rfl ?_
    obtain ⟨x31, e31⟩ : ∃ y : Int32, y = x3 + 1 := ⟨_, rfl⟩
    have h := h x31 e31
    refine k_iinc G [(3, .int x31), (4, .int y0), (0, .ref (q 0)), (1, .int x1), (2, .int x2)] dX6_isSpoiledBehind_31 rfl (v := x31) (by rw [e31, kc_i_1]) (Nat.le_of_ble_eq_true rfl) rfl ?_
    refine k_goto G 6 dX6_isSpoiledBehind_34 (by decide) ?_
    refine K.less [2, 3, 4, 0] rfl ?_
    exact ih6 _ _ _ _ h
  have hJ28 : ∀ (kL6 : Int32 → Int32 → Int32 → TS → Prop) (ih6 : ∀ (x1 : Int32) (x2 : Int32) (x3 : Int32) (s : TS), kL6 x1 x2 x3 s → K D Γ 0 0 6 [(0, .ref (q 0)), (1, .int x1), (2, .int x2), (3, .int x3)] [] (tw T q s)) (x1 : Int32) (x2 : Int32) (x3 : Int32) (s : TS), tw_isSpoiledBehind_J28 kL6 k x1 x2 x3 s → K D Γ 0 0 28 [(0, .ref (q 0)), (1, .int x1), (2, .int x2), (3, .int x3)] [] (tw T q s) := by
    intro kL6 ih6 x1 x2 x3 s h
    unfold tw_isSpoiledBehind_J28 at h
    refine k_iconst G dX6_isSpoiledBehind_28 kc_i_0 ?_
    exact hJ29 _ ih6 _ _ _ _ _ h
  have hL6 : ∀ n : Nat, ∀ (x1 : Int32) (x2 : Int32) (x3 : Int32) (s : TS), (tw_isSpoiledBehind_L6 k n) x1 x2 x3 s → K D Γ 0 0 6 [(0, .ref (q 0)), (1, .int x1), (2, .int x2), (3, .int x3)] [] (tw T q s) := by
    intro n
    induction n with
    | zero =>
      intro _ _ _ _ h
      exact h.elim
    | succ n ih6 =>
      intro x1 x2 x3 s h
      unfold tw_isSpoiledBehind_L6 at h
      refine k_iload_n G dX6_isSpoiledBehind_6 rfl ?_
      refine k_iload_n G dX6_isSpoiledBehind_7 rfl ?_
      obtain ⟨hA, hB⟩ := h
      refine k_icmp_ge G 37 dX6_isSpoiledBehind_8 (by decide) (fun c8 => ?_) (fun c8 => ?_)
      · have h := hA c8
        clear hA hB
        refine k_aload_n G dX6_isSpoiledBehind_37 rfl ?_
        refine k_iload_n G dX6_isSpoiledBehind_38 rfl ?_
        refine kt_callI G (wk_isSpoiled _ D T q _ _ _ h) cf_isSpoiled q1614 dX6_isSpoiledBehind_39 rfl rfl (Nat.le_of_ble_eq_true rfl) (Nat.le_of_ble_eq_true rfl) (fun r39 s39 h => ?_)
        refine k_istore_n G [(3, .int r39), (0, .ref (q 0)), (1, .int x1), (2, .int x2)] dX6_isSpoiledBehind_42 rfl (Nat.le_of_ble_eq_true rfl) rfl ?_
        refine k_aload_n G dX6_isSpoiledBehind_43 rfl ?_
        refine kt_callV G (wk_ends _ D T q _ _ h) cf_ends q1673 dX6_isSpoiledBehind_44 rfl rfl (Nat.le_of_ble_eq_true rfl) (Nat.le_of_ble_eq_true rfl) (fun s44 h => ?_)
        refine k_iload_n G dX6_isSpoiledBehind_47 rfl ?_
        obtain ⟨hz, h⟩ := h
        exact k_zret G X hz dX6_isSpoiledBehind_48 (Nat.le_refl _) (Nat.le_refl _) ⟨_, _, rfl, rfl, h⟩
      · have h := hB c8
        clear hA hB
        refine k_iload_n G dX6_isSpoiledBehind_11 rfl ?_
        refine k_iload_n G dX6_isSpoiledBehind_12 rfl ?_
        obtain ⟨hA, hB⟩ := h
        refine k_icmp_eq G 28 dX6_isSpoiledBehind_13 (by decide) (fun c13 => ?_) (fun c13 => ?_)
        · have h := hA c13
          clear hA hB
          exact hJ28 _ ih6 _ _ _ _ h
        · have h := hB c13
          clear hA hB
          refine k_aload_n G dX6_isSpoiledBehind_16 rfl ?_
          refine k_iload_n G dX6_isSpoiledBehind_17 rfl ?_
          refine kt_callI G (wk_bakes _ D T q _ _ _ h) cf_bakes q1646 dX6_isSpoiledBehind_18 rfl rfl (Nat.le_of_ble_eq_true rfl) (Nat.le_of_ble_eq_true rfl) (fun r18 s18 h => ?_)
          obtain ⟨hA, hB⟩ := h
          refine k_if_eq G 28 dX6_isSpoiledBehind_21 (by decide) (fun c21 => ?_) (fun c21 => ?_)
          · have h := hA c21
            clear hA hB
            exact hJ28 _ ih6 _ _ _ _ h
          · have h := hB c21
            clear hA hB
            refine k_iconst G dX6_isSpoiledBehind_24 kc_i_1 ?_
            refine k_goto G 29 dX6_isSpoiledBehind_25 (by decide) ?_
            exact hJ29 _ ih6 _ _ _ _ _ h
  refine K.less [0, 1, 2] (lv' := [(0, .ref (q 0)), (1, .int x1), (2, .int x2)]) rfl ?_
  unfold tw_isSpoiledBehind at h
  refine k_aload_n G dX6_isSpoiledBehind_0 rfl ?_
  refine kt_callV G (wk_begins _ D T q _ _ h) cf_begins q1666 dX6_isSpoiledBehind_1 rfl rfl (Nat.le_of_ble_eq_true rfl) (Nat.le_of_ble_eq_true rfl) (fun s1 h => ?_)
  refine k_iconst G dX6_isSpoiledBehind_4 kc_i_0 ?_
  refine k_istore_n G [(3, .int 0), (0, .ref (q 0)), (1, .int x1), (2, .int x2)] dX6_isSpoiledBehind_5 rfl (Nat.le_of_ble_eq_true rfl) rfl ?_
  obtain ⟨n6, h⟩ := h
  refine K.less [1, 2, 3, 0] rfl ?_
  exact hL6 n6 _ _ _ _ h
def tw_guilty_J47 (kL25 : Int32 → Int32 → Int32 → TS → Prop) (k : Int32 → TS → Prop) (x1 : Int32) (x3 : Int32) (y0 : Int32) (y1 : Int32) (s : TS) : Prop := ∀ x48 : Int32, x48 = (y1 ||| y0) → ∀ x49 : Int32, x49 = x3 + 1 → kL25 x1 x48 x49 s
def tw_guilty_L25 (k : Int32 → TS → Prop) : Nat → Int32 → Int32 → Int32 → TS → Prop
  | 0, _, _, _, _ => False
  | n + 1, x1, x2, x3, s => (x1 ≤ x3 → k x2 s) ∧ (¬ x1 ≤ x3 → tw_isSpoiledBehind s x1 x3 (fun r34 s34 => (r34 = 0 → tw_guilty_J47 (fun x1 x2 x3 s => tw_guilty_L25 k n x1 x2 x3 s) k x1 x3 ((1 <<< (x3 &&& 31))) x2 s34) ∧ (¬ r34 = 0 → tw_guilty_J47 (fun x1 x2 x3 s => tw_guilty_L25 k n x1 x2 x3 s) k x1 x3 0 x2 s34)))
def tw_guilty (s : TS) (x1 : Int32) (k : Int32 → TS → Prop) : Prop := tw_isLoaf s x1 (fun r2 s2 => (¬ r2 = 0 → tw_isSpoiledBehind s2 x1 (-1) (fun r13 s13 => (¬ r13 = 0 → ∃ n25 : Nat, tw_guilty_L25 k n25 x1 0 0 s13) ∧ (r13 = 0 → k 0 s13))) ∧ (r2 = 0 → k (-1) s2))
set_option maxHeartbeats 4000000 in
theorem wk_guilty (l : Launch) (D : va_G) (T : xT) (q : Nat → Nat) (s : TS) (x1 : Int32) (k : Int32 → TS → Prop) (h : tw_guilty s x1 k) : XM l D T yX6_guilty cX6_guilty 4 (some .int) 30 0 0 [.ref (q 0), .int x1] (tw T q s) (tpostI T q k) := by
  refine XM.start (by decide +kernel) (Nat.le_of_ble_eq_true rfl) (fun Γ G X _ hl_ => ?_)
  subst hl_
  have hJ47 : ∀ (kL25 : Int32 → Int32 → Int32 → TS → Prop) (ih25 : ∀ (x1 : Int32) (x2 : Int32) (x3 : Int32) (s : TS), kL25 x1 x2 x3 s → K D Γ 0 0 25 [(0, .ref (q 0)), (1, .int x1), (2, .int x2), (3, .int x3)] [] (tw T q s)) (x1 : Int32) (x3 : Int32) (y0 : Int32) (y1 : Int32) (s : TS), tw_guilty_J47 kL25 k x1 x3 y0 y1 s → K D Γ 0 0 47 [(0, .ref (q 0)), (1, .int x1), (3, .int x3)] [.int y0, .int y1] (tw T q s) := by
    intro kL25 ih25 x1 x3 y0 y1 s h
    unfold tw_guilty_J47 at h
    refine k_ior G dX6_guilty_47 ?_
    refine k_nmI (fun x48 e48 => ?_)
    have h := h x48 e48
    refine k_istore_n G [(2, .int x48), (0, .ref (q 0)), (1, .int x1), (3, .int x3)] dX6_guilty_48 rfl (Nat.le_of_ble_eq_true rfl) rfl ?_
    obtain ⟨x49, e49⟩ : ∃ y : Int32, y = x3 + 1 := ⟨_, rfl⟩
    have h := h x49 e49
    refine k_iinc G [(3, .int x49), (2, .int x48), (0, .ref (q 0)), (1, .int x1)] dX6_guilty_49 rfl (v := x49) (by rw [e49, kc_i_1]) (Nat.le_of_ble_eq_true rfl) rfl ?_
    refine k_goto G 25 dX6_guilty_52 (by decide) ?_
    refine K.less [2, 3, 1, 0] rfl ?_
    exact ih25 _ _ _ _ h
  have hL25 : ∀ n : Nat, ∀ (x1 : Int32) (x2 : Int32) (x3 : Int32) (s : TS), (tw_guilty_L25 k n) x1 x2 x3 s → K D Γ 0 0 25 [(0, .ref (q 0)), (1, .int x1), (2, .int x2), (3, .int x3)] [] (tw T q s) := by
    intro n
    induction n with
    | zero =>
      intro _ _ _ _ h
      exact h.elim
    | succ n ih25 =>
      intro x1 x2 x3 s h
      unfold tw_guilty_L25 at h
      refine k_iload_n G dX6_guilty_25 rfl ?_
      refine k_iload_n G dX6_guilty_26 rfl ?_
      obtain ⟨hA, hB⟩ := h
      refine k_icmp_ge G 55 dX6_guilty_27 (by decide) (fun c27 => ?_) (fun c27 => ?_)
      · have h := hA c27
        clear hA hB
        refine k_iload_n G dX6_guilty_55 rfl ?_
        exact k_iret G X dX6_guilty_56 (Nat.le_refl _) (Nat.le_refl _) ⟨_, _, rfl, rfl, h⟩
      · have h := hB c27
        clear hA hB
        refine k_iload_n G dX6_guilty_30 rfl ?_
        refine k_aload_n G dX6_guilty_31 rfl ?_
        refine k_iload_n G dX6_guilty_32 rfl ?_
        refine k_iload_n G dX6_guilty_33 rfl ?_
        refine kt_callI G (wk_isSpoiledBehind _ D T q _ _ _ _ h) cf_isSpoiledBehind q1723 dX6_guilty_34 rfl rfl (Nat.le_of_ble_eq_true rfl) (Nat.le_of_ble_eq_true rfl) (fun r34 s34 h => ?_)
        obtain ⟨hA, hB⟩ := h
        refine k_if_eq G 44 dX6_guilty_37 (by decide) (fun c37 => ?_) (fun c37 => ?_)
        · have h := hA c37
          clear hA hB
          refine k_iconst G dX6_guilty_44 kc_i_1 ?_
          refine k_iload_n G dX6_guilty_45 rfl ?_
          refine k_ishl G dX6_guilty_46 ?_
          refine K.less [0, 1, 3] rfl ?_
          exact hJ47 _ ih25 _ _ _ _ _ h
        · have h := hB c37
          clear hA hB
          refine k_iconst G dX6_guilty_40 kc_i_0 ?_
          refine k_goto G 47 dX6_guilty_41 (by decide) ?_
          refine K.less [0, 1, 3] rfl ?_
          exact hJ47 _ ih25 _ _ _ _ _ h
  refine K.less [0, 1] (lv' := [(0, .ref (q 0)), (1, .int x1)]) rfl ?_
  unfold tw_guilty at h
  refine k_aload_n G dX6_guilty_0 rfl ?_
  refine k_iload_n G dX6_guilty_1 rfl ?_
  refine kt_callI G (wk_isLoaf _ D T q _ _ _ h) cf_isLoaf q1595 dX6_guilty_2 rfl rfl (Nat.le_of_ble_eq_true rfl) (Nat.le_of_ble_eq_true rfl) (fun r2 s2 h => ?_)
  obtain ⟨hA, hB⟩ := h
  refine k_if_ne G 10 dX6_guilty_5 (by decide) (fun c5 => ?_) (fun c5 => ?_)
  · have h := hA c5
    clear hA hB
    refine k_aload_n G dX6_guilty_10 rfl ?_
    refine k_iload_n G dX6_guilty_11 rfl ?_
    refine k_iconst G dX6_guilty_12 kc_i_m1 ?_
    refine kt_callI G (wk_isSpoiledBehind _ D T q _ _ _ _ h) cf_isSpoiledBehind q1723 dX6_guilty_13 rfl rfl (Nat.le_of_ble_eq_true rfl) (Nat.le_of_ble_eq_true rfl) (fun r13 s13 h => ?_)
    obtain ⟨hA, hB⟩ := h
    refine k_if_ne G 21 dX6_guilty_16 (by decide) (fun c16 => ?_) (fun c16 => ?_)
    · have h := hA c16
      clear hA hB
      refine k_iconst G dX6_guilty_21 kc_i_0 ?_
      refine k_istore_n G [(2, .int 0), (0, .ref (q 0)), (1, .int x1)] dX6_guilty_22 rfl (Nat.le_of_ble_eq_true rfl) rfl ?_
      refine k_iconst G dX6_guilty_23 kc_i_0 ?_
      refine k_istore_n G [(3, .int 0), (2, .int 0), (0, .ref (q 0)), (1, .int x1)] dX6_guilty_24 rfl (Nat.le_of_ble_eq_true rfl) rfl ?_
      obtain ⟨n25, h⟩ := h
      refine K.less [2, 3, 1, 0] rfl ?_
      exact hL25 n25 _ _ _ _ h
    · have h := hB c16
      clear hA hB
      refine k_iconst G dX6_guilty_19 kc_i_0 ?_
      exact k_iret G X dX6_guilty_20 (Nat.le_refl _) (Nat.le_refl _) ⟨_, _, rfl, rfl, h⟩
  · have h := hB c5
    clear hA hB
    refine k_iconst G dX6_guilty_8 kc_i_m1 ?_
    exact k_iret G X dX6_guilty_9 (Nat.le_refl _) (Nat.le_refl _) ⟨_, _, rfl, rfl, h⟩
def tw_spoiledIn_J35 (kL4 : Int32 → Int32 → Int32 → TS → Prop) (k : Int32 → TS → Prop) (x1 : Int32) (x2 : Int32) (x3 : Int32) (s : TS) : Prop := ∀ x35 : Int32, x35 = x3 + 1 → kL4 x1 x2 x35 s
def tw_spoiledIn_L4 (k : Int32 → TS → Prop) : Nat → Int32 → Int32 → Int32 → TS → Prop
  | 0, _, _, _, _ => False
  | n + 1, x1, x2, x3, s => vp_in 5 92 ∧ ((s.1 1 (5 : Int32).toNatClampNeg) ≤ x3 → tw_spoiledBy s x2 (fun r43 s43 => k r43 s43)) ∧ (¬ (s.1 1 (5 : Int32).toNatClampNeg) ≤ x3 → (¬ ((x1 >>> (x3 &&& 31)) &&& 1) = 0 → vp_in x2 6 ∧ ∀ x32 : Int32, x32 = x2 + 1 → tw_spoiledIn_J35 (fun x1 x2 x3 s => tw_spoiledIn_L4 k n x1 x2 x3 s) k x1 x32 x3 ((sA s 8 (x2 : Int32).toNatClampNeg x3))) ∧ (((x1 >>> (x3 &&& 31)) &&& 1) = 0 → tw_spoiledIn_J35 (fun x1 x2 x3 s => tw_spoiledIn_L4 k n x1 x2 x3 s) k x1 x2 x3 s))
def tw_spoiledIn (s : TS) (x1 : Int32) (k : Int32 → TS → Prop) : Prop := ∃ n4 : Nat, tw_spoiledIn_L4 k n4 x1 0 0 s
set_option maxHeartbeats 4000000 in
theorem wk_spoiledIn (l : Launch) (D : va_G) (T : xT) (q : Nat → Nat) (s : TS) (x1 : Int32) (k : Int32 → TS → Prop) (h : tw_spoiledIn s x1 k) : XM l D T yX6_spoiledIn cX6_spoiledIn 4 (some .int) 30 0 0 [.ref (q 0), .int x1] (tw T q s) (tpostI T q k) := by
  refine XM.start (by decide +kernel) (Nat.le_of_ble_eq_true rfl) (fun Γ G X _ hl_ => ?_)
  subst hl_
  have hJ35 : ∀ (kL4 : Int32 → Int32 → Int32 → TS → Prop) (ih4 : ∀ (x1 : Int32) (x2 : Int32) (x3 : Int32) (s : TS), kL4 x1 x2 x3 s → K D Γ 0 0 4 [(0, .ref (q 0)), (1, .int x1), (2, .int x2), (3, .int x3)] [] (tw T q s)) (x1 : Int32) (x2 : Int32) (x3 : Int32) (s : TS), tw_spoiledIn_J35 kL4 k x1 x2 x3 s → K D Γ 0 0 35 [(0, .ref (q 0)), (1, .int x1), (2, .int x2), (3, .int x3)] [] (tw T q s) := by
    intro kL4 ih4 x1 x2 x3 s h
    unfold tw_spoiledIn_J35 at h
    obtain ⟨x35, e35⟩ : ∃ y : Int32, y = x3 + 1 := ⟨_, rfl⟩
    have h := h x35 e35
    refine k_iinc G [(3, .int x35), (0, .ref (q 0)), (1, .int x1), (2, .int x2)] dX6_spoiledIn_35 rfl (v := x35) (by rw [e35, kc_i_1]) (Nat.le_of_ble_eq_true rfl) rfl ?_
    refine k_goto G 4 dX6_spoiledIn_38 (by decide) ?_
    refine K.less [1, 2, 3, 0] rfl ?_
    exact ih4 _ _ _ _ h
  have hL4 : ∀ n : Nat, ∀ (x1 : Int32) (x2 : Int32) (x3 : Int32) (s : TS), (tw_spoiledIn_L4 k n) x1 x2 x3 s → K D Γ 0 0 4 [(0, .ref (q 0)), (1, .int x1), (2, .int x2), (3, .int x3)] [] (tw T q s) := by
    intro n
    induction n with
    | zero =>
      intro _ _ _ _ h
      exact h.elim
    | succ n ih4 =>
      intro x1 x2 x3 s h
      unfold tw_spoiledIn_L4 at h
      refine k_iload_n G dX6_spoiledIn_4 rfl ?_
      refine k_aload_n G dX6_spoiledIn_5 rfl ?_
      refine kt_get G tf_s rfl dX6_spoiledIn_6 rfl ?_
      refine k_iconst G dX6_spoiledIn_9 kc_i_5 ?_
      obtain ⟨h1, h⟩ := h
      refine kt_iald G tA_1 dX6_spoiledIn_10 h1 ?_
      obtain ⟨hA, hB⟩ := h
      refine k_icmp_ge G 41 dX6_spoiledIn_11 (by decide) (fun c11 => ?_) (fun c11 => ?_)
      · have h := hA c11
        clear hA hB
        refine k_aload_n G dX6_spoiledIn_41 rfl ?_
        refine k_iload_n G dX6_spoiledIn_42 rfl ?_
        refine kt_callI G (wk_spoiledBy _ D T q _ _ _ h) cf_spoiledBy q1692 dX6_spoiledIn_43 rfl rfl (Nat.le_of_ble_eq_true rfl) (Nat.le_of_ble_eq_true rfl) (fun r43 s43 h => ?_)
        exact k_iret G X dX6_spoiledIn_46 (Nat.le_refl _) (Nat.le_refl _) ⟨_, _, rfl, rfl, h⟩
      · have h := hB c11
        clear hA hB
        refine k_iload_n G dX6_spoiledIn_14 rfl ?_
        refine k_iload_n G dX6_spoiledIn_15 rfl ?_
        refine k_ishr G dX6_spoiledIn_16 ?_
        refine k_iconst G dX6_spoiledIn_17 kc_i_1 ?_
        refine k_iand G dX6_spoiledIn_18 ?_
        obtain ⟨hA, hB⟩ := h
        refine k_if_ne G 25 dX6_spoiledIn_19 (by decide) (fun c19 => ?_) (fun c19 => ?_)
        · have h := hA c19
          clear hA hB
          refine k_aload_n G dX6_spoiledIn_25 rfl ?_
          refine kt_get G tf_line rfl dX6_spoiledIn_26 rfl ?_
          refine k_iload_n G dX6_spoiledIn_29 rfl ?_
          refine k_iload_n G dX6_spoiledIn_30 rfl ?_
          obtain ⟨h1, h⟩ := h
          refine kt_iast G tA_8 dX6_spoiledIn_31 h1 ?_
          obtain ⟨x32, e32⟩ : ∃ y : Int32, y = x2 + 1 := ⟨_, rfl⟩
          have h := h x32 e32
          refine k_iinc G [(2, .int x32), (0, .ref (q 0)), (1, .int x1), (3, .int x3)] dX6_spoiledIn_32 rfl (v := x32) (by rw [e32, kc_i_1]) (Nat.le_of_ble_eq_true rfl) rfl ?_
          refine K.less [1, 2, 0, 3] rfl ?_
          exact hJ35 _ ih4 _ _ _ _ h
        · have h := hB c19
          clear hA hB
          refine k_goto G 35 dX6_spoiledIn_22 (by decide) ?_
          exact hJ35 _ ih4 _ _ _ _ h
  refine K.less [0, 1] (lv' := [(0, .ref (q 0)), (1, .int x1)]) rfl ?_
  unfold tw_spoiledIn at h
  refine k_iconst G dX6_spoiledIn_0 kc_i_0 ?_
  refine k_istore_n G [(2, .int 0), (0, .ref (q 0)), (1, .int x1)] dX6_spoiledIn_1 rfl (Nat.le_of_ble_eq_true rfl) rfl ?_
  refine k_iconst G dX6_spoiledIn_2 kc_i_0 ?_
  refine k_istore_n G [(3, .int 0), (2, .int 0), (0, .ref (q 0)), (1, .int x1)] dX6_spoiledIn_3 rfl (Nat.le_of_ble_eq_true rfl) rfl ?_
  obtain ⟨n4, h⟩ := h
  refine K.less [2, 3, 1, 0] rfl ?_
  exact hL4 n4 _ _ _ _ h
def tw_two_J77 (kL30 : Int32 → Int32 → Int32 → Int32 → Int32 → TS → Prop) (k : Int32 → TS → Prop) (x1 : Int32) (x2 : Int32) (x3 : Int32) (x4 : Int32) (x5 : Int32) (s : TS) : Prop := ∀ x77 : Int32, x77 = x5 + 1 → kL30 x1 x2 x3 x4 x77 s
def tw_two_J70 (kL30 : Int32 → Int32 → Int32 → Int32 → Int32 → TS → Prop) (k : Int32 → TS → Prop) (x1 : Int32) (x2 : Int32) (x5 : Int32) (x6 : Int32) (s : TS) : Prop := tw_two_J77 kL30 k x1 x2 x5 x6 x5 s
def tw_two_L30 (k : Int32 → TS → Prop) : Nat → Int32 → Int32 → Int32 → Int32 → Int32 → TS → Prop
  | 0, _, _, _, _, _, _ => False
  | n + 1, x1, x2, x3, x4, x5, s => (x2 < x5 → (¬ x1 = 0 → k x3 s) ∧ (x1 = 0 → k x4 s)) ∧ (¬ x2 < x5 → tw_spoiledIn s x5 (fun r39 s39 => tw_spoiledIn s39 ((x2 &&& (x5 ^^^ (-1)))) (fun r49 s49 => ∀ x53 : Int32, x53 = (r39 + r49) → (x4 < 0 → tw_two_J70 (fun x1 x2 x3 x4 x5 s => tw_two_L30 k n x1 x2 x3 x4 x5 s) k x1 x2 x5 x53 s49) ∧ (¬ x4 < 0 → (x53 < x4 → tw_two_J70 (fun x1 x2 x3 x4 x5 s => tw_two_L30 k n x1 x2 x3 x4 x5 s) k x1 x2 x5 x53 s49) ∧ (¬ x53 < x4 → tw_two_J77 (fun x1 x2 x3 x4 x5 s => tw_two_L30 k n x1 x2 x3 x4 x5 s) k x1 x2 x3 x4 x5 s49)))))
def tw_two (s : TS) (x1 : Int32) (k : Int32 → TS → Prop) : Prop := pw_isIn x1 0 1 (fun r3 => (¬ r3 = 0 → vp_in 5 92 ∧ ∀ x21 : Int32, x21 = ((1 <<< ((s.1 1 (5 : Int32).toNatClampNeg) &&& 31)) - 1) → ∃ n30 : Nat, tw_two_L30 k n30 x1 x21 0 (-1) 0 s) ∧ (r3 = 0 → k (-1) s))
set_option maxHeartbeats 4000000 in
theorem wk_two (l : Launch) (D : va_G) (T : xT) (q : Nat → Nat) (s : TS) (x1 : Int32) (k : Int32 → TS → Prop) (h : tw_two s x1 k) : XM l D T yX6_two cX6_two 7 (some .int) 31 0 0 [.ref (q 0), .int x1] (tw T q s) (tpostI T q k) := by
  refine XM.start (by decide +kernel) (Nat.le_of_ble_eq_true rfl) (fun Γ G X _ hl_ => ?_)
  subst hl_
  have hJ77 : ∀ (kL30 : Int32 → Int32 → Int32 → Int32 → Int32 → TS → Prop) (ih30 : ∀ (x1 : Int32) (x2 : Int32) (x3 : Int32) (x4 : Int32) (x5 : Int32) (s : TS), kL30 x1 x2 x3 x4 x5 s → K D Γ 0 0 30 [(0, .ref (q 0)), (1, .int x1), (2, .int x2), (3, .int x3), (4, .int x4), (5, .int x5)] [] (tw T q s)) (x1 : Int32) (x2 : Int32) (x3 : Int32) (x4 : Int32) (x5 : Int32) (s : TS), tw_two_J77 kL30 k x1 x2 x3 x4 x5 s → K D Γ 0 0 77 [(0, .ref (q 0)), (1, .int x1), (2, .int x2), (3, .int x3), (4, .int x4), (5, .int x5)] [] (tw T q s) := by
    intro kL30 ih30 x1 x2 x3 x4 x5 s h
    unfold tw_two_J77 at h
    obtain ⟨x77, e77⟩ : ∃ y : Int32, y = x5 + 1 := ⟨_, rfl⟩
    have h := h x77 e77
    refine k_iinc G [(5, .int x77), (0, .ref (q 0)), (1, .int x1), (2, .int x2), (3, .int x3), (4, .int x4)] dX6_two_77 rfl (v := x77) (by rw [e77, kc_i_1]) (Nat.le_of_ble_eq_true rfl) rfl ?_
    refine k_goto G 30 dX6_two_80 (by decide) ?_
    refine K.less [1, 2, 3, 4, 5, 0] rfl ?_
    exact ih30 _ _ _ _ _ _ h
  have hJ70 : ∀ (kL30 : Int32 → Int32 → Int32 → Int32 → Int32 → TS → Prop) (ih30 : ∀ (x1 : Int32) (x2 : Int32) (x3 : Int32) (x4 : Int32) (x5 : Int32) (s : TS), kL30 x1 x2 x3 x4 x5 s → K D Γ 0 0 30 [(0, .ref (q 0)), (1, .int x1), (2, .int x2), (3, .int x3), (4, .int x4), (5, .int x5)] [] (tw T q s)) (x1 : Int32) (x2 : Int32) (x5 : Int32) (x6 : Int32) (s : TS), tw_two_J70 kL30 k x1 x2 x5 x6 s → K D Γ 0 0 70 [(0, .ref (q 0)), (1, .int x1), (2, .int x2), (5, .int x5), (6, .int x6)] [] (tw T q s) := by
    intro kL30 ih30 x1 x2 x5 x6 s h
    unfold tw_two_J70 at h
    refine k_iload G dX6_two_70 rfl ?_
    refine k_istore_n G [(3, .int x5), (0, .ref (q 0)), (1, .int x1), (2, .int x2), (5, .int x5), (6, .int x6)] dX6_two_72 rfl (Nat.le_of_ble_eq_true rfl) rfl ?_
    refine k_iload G dX6_two_73 rfl ?_
    refine k_istore G [(4, .int x6), (3, .int x5), (0, .ref (q 0)), (1, .int x1), (2, .int x2), (5, .int x5), (6, .int x6)] dX6_two_75 (Nat.le_of_ble_eq_true rfl) rfl ?_
    refine K.less [2, 3, 4, 1, 0, 5] rfl ?_
    exact hJ77 _ ih30 _ _ _ _ _ _ h
  have hL30 : ∀ n : Nat, ∀ (x1 : Int32) (x2 : Int32) (x3 : Int32) (x4 : Int32) (x5 : Int32) (s : TS), (tw_two_L30 k n) x1 x2 x3 x4 x5 s → K D Γ 0 0 30 [(0, .ref (q 0)), (1, .int x1), (2, .int x2), (3, .int x3), (4, .int x4), (5, .int x5)] [] (tw T q s) := by
    intro n
    induction n with
    | zero =>
      intro _ _ _ _ _ _ h
      exact h.elim
    | succ n ih30 =>
      intro x1 x2 x3 x4 x5 s h
      unfold tw_two_L30 at h
      refine k_iload G dX6_two_30 rfl ?_
      refine k_iload_n G dX6_two_32 rfl ?_
      obtain ⟨hA, hB⟩ := h
      refine k_icmp_gt G 83 dX6_two_33 (by decide) (fun c33 => ?_) (fun c33 => ?_)
      · have h := hA c33
        clear hA hB
        refine k_iload_n G dX6_two_83 rfl ?_
        obtain ⟨hA, hB⟩ := h
        refine k_if_ne G 92 dX6_two_84 (by decide) (fun c84 => ?_) (fun c84 => ?_)
        · have h := hA c84
          clear hA hB
          refine k_iload_n G dX6_two_92 rfl ?_
          exact k_iret G X dX6_two_93 (Nat.le_refl _) (Nat.le_refl _) ⟨_, _, rfl, rfl, h⟩
        · have h := hB c84
          clear hA hB
          refine k_iload G dX6_two_87 rfl ?_
          refine k_goto G 93 dX6_two_89 (by decide) ?_
          exact k_iret G X dX6_two_93 (Nat.le_refl _) (Nat.le_refl _) ⟨_, _, rfl, rfl, h⟩
      · have h := hB c33
        clear hA hB
        refine k_aload_n G dX6_two_36 rfl ?_
        refine k_iload G dX6_two_37 rfl ?_
        refine kt_callI G (wk_spoiledIn _ D T q _ _ _ h) cf_spoiledIn q1731 dX6_two_39 rfl rfl (Nat.le_of_ble_eq_true rfl) (Nat.le_of_ble_eq_true rfl) (fun r39 s39 h => ?_)
        refine k_aload_n G dX6_two_42 rfl ?_
        refine k_iload_n G dX6_two_43 rfl ?_
        refine k_iload G dX6_two_44 rfl ?_
        refine k_iconst G dX6_two_46 kc_i_m1 ?_
        refine k_ixor G dX6_two_47 ?_
        refine k_iand G dX6_two_48 ?_
        refine kt_callI G (wk_spoiledIn _ D T q _ _ _ h) cf_spoiledIn q1731 dX6_two_49 rfl rfl (Nat.le_of_ble_eq_true rfl) (Nat.le_of_ble_eq_true rfl) (fun r49 s49 h => ?_)
        refine k_iadd G dX6_two_52 ?_
        refine k_nmI (fun x53 e53 => ?_)
        have h := h x53 e53
        refine k_istore G [(6, .int x53), (0, .ref (q 0)), (1, .int x1), (2, .int x2), (3, .int x3), (4, .int x4), (5, .int x5)] dX6_two_53 (Nat.le_of_ble_eq_true rfl) rfl ?_
        refine k_iload G dX6_two_55 rfl ?_
        obtain ⟨hA, hB⟩ := h
        refine k_if_lt G 70 dX6_two_57 (by decide) (fun c57 => ?_) (fun c57 => ?_)
        · have h := hA c57
          clear hA hB
          refine K.less [1, 2, 3, 6, 0] rfl ?_
          exact hJ70 _ ih30 _ _ _ _ _ h
        · have h := hB c57
          clear hA hB
          refine k_iload G dX6_two_60 rfl ?_
          refine k_iload G dX6_two_62 rfl ?_
          obtain ⟨hA, hB⟩ := h
          refine k_icmp_lt G 70 dX6_two_64 (by decide) (fun c64 => ?_) (fun c64 => ?_)
          · have h := hA c64
            clear hA hB
            refine K.less [1, 2, 3, 6, 0] rfl ?_
            exact hJ70 _ ih30 _ _ _ _ _ h
          · have h := hB c64
            clear hA hB
            refine k_goto G 77 dX6_two_67 (by decide) ?_
            refine K.less [1, 2, 3, 4, 5, 6] rfl ?_
            exact hJ77 _ ih30 _ _ _ _ _ _ h
  refine K.less [0, 1] (lv' := [(0, .ref (q 0)), (1, .int x1)]) rfl ?_
  unfold tw_two at h
  refine k_iload_n G dX6_two_0 rfl ?_
  refine k_iconst G dX6_two_1 kc_i_0 ?_
  refine k_iconst G dX6_two_2 kc_i_1 ?_
  refine k_callPI G (wk_isIn _ D T _ _ _ _ h) cf_isIn q1511 dX6_two_3 rfl rfl (Nat.le_of_ble_eq_true rfl) (Nat.le_of_ble_eq_true rfl) ⟨Nat.zero_le _, Nat.zero_le _⟩ (fun r3 h => ?_)
  obtain ⟨hA, hB⟩ := h
  refine k_if_ne G 11 dX6_two_6 (by decide) (fun c6 => ?_) (fun c6 => ?_)
  · have h := hA c6
    clear hA hB
    refine k_iconst G dX6_two_11 kc_i_1 ?_
    refine k_aload_n G dX6_two_12 rfl ?_
    refine kt_get G tf_s rfl dX6_two_13 rfl ?_
    refine k_iconst G dX6_two_16 kc_i_5 ?_
    obtain ⟨h1, h⟩ := h
    refine kt_iald G tA_1 dX6_two_17 h1 ?_
    refine k_ishl G dX6_two_18 ?_
    refine k_iconst G dX6_two_19 kc_i_1 ?_
    refine k_isub G dX6_two_20 ?_
    refine k_nmI (fun x21 e21 => ?_)
    have h := h x21 e21
    refine k_istore_n G [(2, .int x21), (0, .ref (q 0)), (1, .int x1)] dX6_two_21 rfl (Nat.le_of_ble_eq_true rfl) rfl ?_
    refine k_iconst G dX6_two_22 kc_i_0 ?_
    refine k_istore_n G [(3, .int 0), (2, .int x21), (0, .ref (q 0)), (1, .int x1)] dX6_two_23 rfl (Nat.le_of_ble_eq_true rfl) rfl ?_
    refine k_iconst G dX6_two_24 kc_i_m1 ?_
    refine k_istore G [(4, .int (-1)), (3, .int 0), (2, .int x21), (0, .ref (q 0)), (1, .int x1)] dX6_two_25 (Nat.le_of_ble_eq_true rfl) rfl ?_
    refine k_iconst G dX6_two_27 kc_i_0 ?_
    refine k_istore G [(5, .int 0), (4, .int (-1)), (3, .int 0), (2, .int x21), (0, .ref (q 0)), (1, .int x1)] dX6_two_28 (Nat.le_of_ble_eq_true rfl) rfl ?_
    obtain ⟨n30, h⟩ := h
    refine K.less [4, 5, 3, 2, 1, 0] rfl ?_
    exact hL30 n30 _ _ _ _ _ _ h
  · have h := hB c6
    clear hA hB
    refine k_iconst G dX6_two_9 kc_i_m1 ?_
    exact k_iret G X dX6_two_10 (Nat.le_refl _) (Nat.le_refl _) ⟨_, _, rfl, rfl, h⟩
def tw_takesBehind (s : TS) (x1 : Int32) (x2 : Int32) (k : Int32 → TS → Prop) : Prop := tw_begins s (fun s1 => tw_bakes s1 x2 (fun r6 s6 => tw_allTakes s6 x1 (fun r12 s12 => tw_ends s12 (fun s18 => k r12 s18))))
set_option maxHeartbeats 4000000 in
theorem wk_takesBehind (l : Launch) (D : va_G) (T : xT) (q : Nat → Nat) (s : TS) (x1 : Int32) (x2 : Int32) (k : Int32 → TS → Prop) (h : tw_takesBehind s x1 x2 k) : XM l D T yX6_takesBehind cX6_takesBehind 5 (some .int) 29 0 0 [.ref (q 0), .int x1, .int x2] (tw T q s) (tpostI T q k) := by
  refine XM.start (by decide +kernel) (Nat.le_of_ble_eq_true rfl) (fun Γ G X _ hl_ => ?_)
  subst hl_
  refine K.less [0, 1, 2] (lv' := [(0, .ref (q 0)), (1, .int x1), (2, .int x2)]) rfl ?_
  unfold tw_takesBehind at h
  refine k_aload_n G dX6_takesBehind_0 rfl ?_
  refine kt_callV G (wk_begins _ D T q _ _ h) cf_begins q1666 dX6_takesBehind_1 rfl rfl (Nat.le_of_ble_eq_true rfl) (Nat.le_of_ble_eq_true rfl) (fun s1 h => ?_)
  refine k_aload_n G dX6_takesBehind_4 rfl ?_
  refine k_iload_n G dX6_takesBehind_5 rfl ?_
  refine kt_callI G (wk_bakes _ D T q _ _ _ h) cf_bakes q1646 dX6_takesBehind_6 rfl rfl (Nat.le_of_ble_eq_true rfl) (Nat.le_of_ble_eq_true rfl) (fun r6 s6 h => ?_)
  refine k_istore_n G [(3, .int r6), (0, .ref (q 0)), (1, .int x1), (2, .int x2)] dX6_takesBehind_9 rfl (Nat.le_of_ble_eq_true rfl) rfl ?_
  refine k_aload_n G dX6_takesBehind_10 rfl ?_
  refine k_iload_n G dX6_takesBehind_11 rfl ?_
  refine kt_callI G (wk_allTakes _ D T q _ _ _ h) cf_allTakes q1715 dX6_takesBehind_12 rfl rfl (Nat.le_of_ble_eq_true rfl) (Nat.le_of_ble_eq_true rfl) (fun r12 s12 h => ?_)
  refine k_istore G [(4, .int r12), (3, .int r6), (0, .ref (q 0)), (1, .int x1), (2, .int x2)] dX6_takesBehind_15 (Nat.le_of_ble_eq_true rfl) rfl ?_
  refine k_aload_n G dX6_takesBehind_17 rfl ?_
  refine kt_callV G (wk_ends _ D T q _ _ h) cf_ends q1673 dX6_takesBehind_18 rfl rfl (Nat.le_of_ble_eq_true rfl) (Nat.le_of_ble_eq_true rfl) (fun s18 h => ?_)
  refine k_iload G dX6_takesBehind_21 rfl ?_
  exact k_iret G X dX6_takesBehind_23 (Nat.le_refl _) (Nat.le_refl _) ⟨_, _, rfl, rfl, h⟩
def tw_has_J100 (kL15 : Int32 → Int32 → Int32 → TS → Prop) (k : Int32 → TS → Prop) (x1 : Int32) (x3 : Int32) (y0 : Int32) (y1 : Int32) (s : TS) : Prop := ∀ x101 : Int32, x101 = (y1 + y0) → ∀ x102 : Int32, x102 = x3 + 1 → kL15 x1 x101 x102 s
def tw_has_J73 (kL15 : Int32 → Int32 → Int32 → TS → Prop) (k : Int32 → TS → Prop) (x1 : Int32) (x2 : Int32) (x3 : Int32) (y0 : Int32) (s : TS) : Prop := (¬ x1 = x3 → (¬ x1 = (x3 + 1) → tw_has_J100 kL15 k x1 x3 0 x2 s) ∧ (x1 = (x3 + 1) → tw_has_J100 kL15 k x1 x3 ((-y0)) x2 s)) ∧ (x1 = x3 → tw_has_J100 kL15 k x1 x3 y0 x2 s)
def tw_has_J50 (kL15 : Int32 → Int32 → Int32 → TS → Prop) (k : Int32 → TS → Prop) (x1 : Int32) (x2 : Int32) (x3 : Int32) (y0 : Int32) (s : TS) : Prop := (y0 = 0 → tw_feeOf s ((x3 + 1)) (fun r69 s69 => tw_has_J73 kL15 k x1 x2 x3 ((-r69)) s69)) ∧ (¬ y0 = 0 → tw_feeOf s x3 (fun r59 s59 => tw_has_J73 kL15 k x1 x2 x3 r59 s59))
def tw_has_L15 (k : Int32 → TS → Prop) : Nat → Int32 → Int32 → Int32 → TS → Prop
  | 0, _, _, _, _ => False
  | n + 1, x1, x2, x3, s => vp_in 5 92 ∧ ((s.1 1 (5 : Int32).toNatClampNeg) ≤ (x3 + 1) → k x2 s) ∧ (¬ (s.1 1 (5 : Int32).toNatClampNeg) ≤ (x3 + 1) → tw_takesBehind s ((x3 + 1)) x3 (fun r32 s32 => tw_allTakes s32 ((x3 + 1)) (fun r39 s39 => (r39 ≤ r32 → tw_has_J50 (fun x1 x2 x3 s => tw_has_L15 k n x1 x2 x3 s) k x1 x2 x3 0 s39) ∧ (¬ r39 ≤ r32 → tw_has_J50 (fun x1 x2 x3 s => tw_has_L15 k n x1 x2 x3 s) k x1 x2 x3 1 s39))))
def tw_has (s : TS) (x1 : Int32) (k : Int32 → TS → Prop) : Prop := tw_isLoaf s x1 (fun r2 s2 => (¬ r2 = 0 → ∃ n15 : Nat, tw_has_L15 k n15 x1 0 0 s2) ∧ (r2 = 0 → k (-100001) s2))
set_option maxHeartbeats 4000000 in
theorem wk_has (l : Launch) (D : va_G) (T : xT) (q : Nat → Nat) (s : TS) (x1 : Int32) (k : Int32 → TS → Prop) (h : tw_has s x1 k) : XM l D T yX6_has cX6_has 6 (some .int) 30 0 0 [.ref (q 0), .int x1] (tw T q s) (tpostI T q k) := by
  refine XM.start (by decide +kernel) (Nat.le_of_ble_eq_true rfl) (fun Γ G X _ hl_ => ?_)
  subst hl_
  have hJ100 : ∀ (kL15 : Int32 → Int32 → Int32 → TS → Prop) (ih15 : ∀ (x1 : Int32) (x2 : Int32) (x3 : Int32) (s : TS), kL15 x1 x2 x3 s → K D Γ 0 0 15 [(0, .ref (q 0)), (1, .int x1), (2, .int x2), (3, .int x3)] [] (tw T q s)) (x1 : Int32) (x3 : Int32) (y0 : Int32) (y1 : Int32) (s : TS), tw_has_J100 kL15 k x1 x3 y0 y1 s → K D Γ 0 0 100 [(0, .ref (q 0)), (1, .int x1), (3, .int x3)] [.int y0, .int y1] (tw T q s) := by
    intro kL15 ih15 x1 x3 y0 y1 s h
    unfold tw_has_J100 at h
    refine k_iadd G dX6_has_100 ?_
    refine k_nmI (fun x101 e101 => ?_)
    have h := h x101 e101
    refine k_istore_n G [(2, .int x101), (0, .ref (q 0)), (1, .int x1), (3, .int x3)] dX6_has_101 rfl (Nat.le_of_ble_eq_true rfl) rfl ?_
    obtain ⟨x102, e102⟩ : ∃ y : Int32, y = x3 + 1 := ⟨_, rfl⟩
    have h := h x102 e102
    refine k_iinc G [(3, .int x102), (2, .int x101), (0, .ref (q 0)), (1, .int x1)] dX6_has_102 rfl (v := x102) (by rw [e102, kc_i_1]) (Nat.le_of_ble_eq_true rfl) rfl ?_
    refine k_goto G 15 dX6_has_105 (by decide) ?_
    refine K.less [2, 3, 1, 0] rfl ?_
    exact ih15 _ _ _ _ h
  have hJ73 : ∀ (kL15 : Int32 → Int32 → Int32 → TS → Prop) (ih15 : ∀ (x1 : Int32) (x2 : Int32) (x3 : Int32) (s : TS), kL15 x1 x2 x3 s → K D Γ 0 0 15 [(0, .ref (q 0)), (1, .int x1), (2, .int x2), (3, .int x3)] [] (tw T q s)) (x1 : Int32) (x2 : Int32) (x3 : Int32) (y0 : Int32) (s : TS), tw_has_J73 kL15 k x1 x2 x3 y0 s → K D Γ 0 0 73 [(0, .ref (q 0)), (1, .int x1), (2, .int x2), (3, .int x3)] [.int y0] (tw T q s) := by
    intro kL15 ih15 x1 x2 x3 y0 s h
    unfold tw_has_J73 at h
    refine k_istore G [(5, .int y0), (0, .ref (q 0)), (1, .int x1), (2, .int x2), (3, .int x3)] dX6_has_73 (Nat.le_of_ble_eq_true rfl) rfl ?_
    refine k_iload_n G dX6_has_75 rfl ?_
    refine k_iload_n G dX6_has_76 rfl ?_
    refine k_iload_n G dX6_has_77 rfl ?_
    obtain ⟨hA, hB⟩ := h
    refine k_icmp_ne G 86 dX6_has_78 (by decide) (fun c78 => ?_) (fun c78 => ?_)
    · have h := hA c78
      clear hA hB
      refine k_iload_n G dX6_has_86 rfl ?_
      refine k_iload_n G dX6_has_87 rfl ?_
      refine k_iconst G dX6_has_88 kc_i_1 ?_
      refine k_iadd G dX6_has_89 ?_
      obtain ⟨hA, hB⟩ := h
      refine k_icmp_ne G 99 dX6_has_90 (by decide) (fun c90 => ?_) (fun c90 => ?_)
      · have h := hA c90
        clear hA hB
        refine k_iconst G dX6_has_99 kc_i_0 ?_
        refine K.less [1, 2, 4] rfl ?_
        exact hJ100 _ ih15 _ _ _ _ _ h
      · have h := hB c90
        clear hA hB
        refine k_iload G dX6_has_93 rfl ?_
        refine k_ineg G dX6_has_95 ?_
        refine k_goto G 100 dX6_has_96 (by decide) ?_
        refine K.less [1, 2, 4] rfl ?_
        exact hJ100 _ ih15 _ _ _ _ _ h
    · have h := hB c78
      clear hA hB
      refine k_iload G dX6_has_81 rfl ?_
      refine k_goto G 100 dX6_has_83 (by decide) ?_
      refine K.less [1, 2, 4] rfl ?_
      exact hJ100 _ ih15 _ _ _ _ _ h
  have hJ50 : ∀ (kL15 : Int32 → Int32 → Int32 → TS → Prop) (ih15 : ∀ (x1 : Int32) (x2 : Int32) (x3 : Int32) (s : TS), kL15 x1 x2 x3 s → K D Γ 0 0 15 [(0, .ref (q 0)), (1, .int x1), (2, .int x2), (3, .int x3)] [] (tw T q s)) (x1 : Int32) (x2 : Int32) (x3 : Int32) (y0 : Int32) (s : TS), tw_has_J50 kL15 k x1 x2 x3 y0 s → K D Γ 0 0 50 [(0, .ref (q 0)), (1, .int x1), (2, .int x2), (3, .int x3)] [.int y0] (tw T q s) := by
    intro kL15 ih15 x1 x2 x3 y0 s h
    unfold tw_has_J50 at h
    refine k_istore G [(4, .int y0), (0, .ref (q 0)), (1, .int x1), (2, .int x2), (3, .int x3)] dX6_has_50 (Nat.le_of_ble_eq_true rfl) rfl ?_
    refine k_iload G dX6_has_52 rfl ?_
    obtain ⟨hA, hB⟩ := h
    refine k_if_eq G 65 dX6_has_54 (by decide) (fun c54 => ?_) (fun c54 => ?_)
    · have h := hA c54
      clear hA hB
      refine k_aload_n G dX6_has_65 rfl ?_
      refine k_iload_n G dX6_has_66 rfl ?_
      refine k_iconst G dX6_has_67 kc_i_1 ?_
      refine k_iadd G dX6_has_68 ?_
      refine kt_callI G (wk_feeOf _ D T q _ _ _ h) cf_feeOf q1606 dX6_has_69 rfl rfl (Nat.le_of_ble_eq_true rfl) (Nat.le_of_ble_eq_true rfl) (fun r69 s69 h => ?_)
      refine k_ineg G dX6_has_72 ?_
      refine K.less [1, 2, 3, 4] rfl ?_
      exact hJ73 _ ih15 _ _ _ _ _ h
    · have h := hB c54
      clear hA hB
      refine k_aload_n G dX6_has_57 rfl ?_
      refine k_iload_n G dX6_has_58 rfl ?_
      refine kt_callI G (wk_feeOf _ D T q _ _ _ h) cf_feeOf q1606 dX6_has_59 rfl rfl (Nat.le_of_ble_eq_true rfl) (Nat.le_of_ble_eq_true rfl) (fun r59 s59 h => ?_)
      refine k_goto G 73 dX6_has_62 (by decide) ?_
      refine K.less [1, 2, 3, 4] rfl ?_
      exact hJ73 _ ih15 _ _ _ _ _ h
  have hL15 : ∀ n : Nat, ∀ (x1 : Int32) (x2 : Int32) (x3 : Int32) (s : TS), (tw_has_L15 k n) x1 x2 x3 s → K D Γ 0 0 15 [(0, .ref (q 0)), (1, .int x1), (2, .int x2), (3, .int x3)] [] (tw T q s) := by
    intro n
    induction n with
    | zero =>
      intro _ _ _ _ h
      exact h.elim
    | succ n ih15 =>
      intro x1 x2 x3 s h
      unfold tw_has_L15 at h
      refine k_iload_n G dX6_has_15 rfl ?_
      refine k_iconst G dX6_has_16 kc_i_1 ?_
      refine k_iadd G dX6_has_17 ?_
      refine k_aload_n G dX6_has_18 rfl ?_
      refine kt_get G tf_s rfl dX6_has_19 rfl ?_
      refine k_iconst G dX6_has_22 kc_i_5 ?_
      obtain ⟨h1, h⟩ := h
      refine kt_iald G tA_1 dX6_has_23 h1 ?_
      obtain ⟨hA, hB⟩ := h
      refine k_icmp_ge G 108 dX6_has_24 (by decide) (fun c24 => ?_) (fun c24 => ?_)
      · have h := hA c24
        clear hA hB
        refine k_iload_n G dX6_has_108 rfl ?_
        exact k_iret G X dX6_has_109 (Nat.le_refl _) (Nat.le_refl _) ⟨_, _, rfl, rfl, h⟩
      · have h := hB c24
        clear hA hB
        refine k_aload_n G dX6_has_27 rfl ?_
        refine k_iload_n G dX6_has_28 rfl ?_
        refine k_iconst G dX6_has_29 kc_i_1 ?_
        refine k_iadd G dX6_has_30 ?_
        refine k_iload_n G dX6_has_31 rfl ?_
        refine kt_callI G (wk_takesBehind _ D T q _ _ _ _ h) cf_takesBehind q1740 dX6_has_32 rfl rfl (Nat.le_of_ble_eq_true rfl) (Nat.le_of_ble_eq_true rfl) (fun r32 s32 h => ?_)
        refine k_aload_n G dX6_has_35 rfl ?_
        refine k_iload_n G dX6_has_36 rfl ?_
        refine k_iconst G dX6_has_37 kc_i_1 ?_
        refine k_iadd G dX6_has_38 ?_
        refine kt_callI G (wk_allTakes _ D T q _ _ _ h) cf_allTakes q1715 dX6_has_39 rfl rfl (Nat.le_of_ble_eq_true rfl) (Nat.le_of_ble_eq_true rfl) (fun r39 s39 h => ?_)
        obtain ⟨hA, hB⟩ := h
        refine k_icmp_ge G 49 dX6_has_42 (by decide) (fun c42 => ?_) (fun c42 => ?_)
        · have h := hA c42
          clear hA hB
          refine k_iconst G dX6_has_49 kc_i_0 ?_
          exact hJ50 _ ih15 _ _ _ _ _ h
        · have h := hB c42
          clear hA hB
          refine k_iconst G dX6_has_45 kc_i_1 ?_
          refine k_goto G 50 dX6_has_46 (by decide) ?_
          exact hJ50 _ ih15 _ _ _ _ _ h
  refine K.less [0, 1] (lv' := [(0, .ref (q 0)), (1, .int x1)]) rfl ?_
  unfold tw_has at h
  refine k_aload_n G dX6_has_0 rfl ?_
  refine k_iload_n G dX6_has_1 rfl ?_
  refine kt_callI G (wk_isLoaf _ D T q _ _ _ h) cf_isLoaf q1595 dX6_has_2 rfl rfl (Nat.le_of_ble_eq_true rfl) (Nat.le_of_ble_eq_true rfl) (fun r2 s2 h => ?_)
  obtain ⟨hA, hB⟩ := h
  refine k_if_ne G 11 dX6_has_5 (by decide) (fun c5 => ?_) (fun c5 => ?_)
  · have h := hA c5
    clear hA hB
    refine k_iconst G dX6_has_11 kc_i_0 ?_
    refine k_istore_n G [(2, .int 0), (0, .ref (q 0)), (1, .int x1)] dX6_has_12 rfl (Nat.le_of_ble_eq_true rfl) rfl ?_
    refine k_iconst G dX6_has_13 kc_i_0 ?_
    refine k_istore_n G [(3, .int 0), (2, .int 0), (0, .ref (q 0)), (1, .int x1)] dX6_has_14 rfl (Nat.le_of_ble_eq_true rfl) rfl ?_
    obtain ⟨n15, h⟩ := h
    refine K.less [2, 3, 1, 0] rfl ?_
    exact hL15 n15 _ _ _ _ h
  · have h := hB c5
    clear hA hB
    refine k_ldc G q1739 dX6_has_8 ?_
    exact k_iret G X dX6_has_10 (Nat.le_refl _) (Nat.le_refl _) ⟨_, _, rfl, rfl, h⟩
def tw_takesInRow_J71 (kL9 : Int32 → Int32 → Int32 → Int32 → TS → Prop) (k : Int32 → TS → Prop) (x1 : Int32) (x2 : Int32) (x4 : Int32) (x5 : Int32) (y0 : Int32) (s : TS) : Prop := tw_bakes s x5 (fun r75 s75 => ∀ x80 : Int32, x80 = x4 + 1 → kL9 x1 x2 y0 x80 s75)
def tw_takesInRow_J54 (kL9 : Int32 → Int32 → Int32 → Int32 → TS → Prop) (k : Int32 → TS → Prop) (x1 : Int32) (x2 : Int32) (x3 : Int32) (x4 : Int32) (y0 : Int32) (s : TS) : Prop := (¬ y0 = x1 → tw_takesInRow_J71 kL9 k x1 x2 x4 y0 x3 s) ∧ (y0 = x1 → tw_allTakes s x1 (fun r64 s64 => tw_takesInRow_J71 kL9 k x1 x2 x4 y0 r64 s64))
def tw_takesInRow_J52 (kL9 : Int32 → Int32 → Int32 → Int32 → TS → Prop) (k : Int32 → TS → Prop) (x1 : Int32) (x2 : Int32) (x3 : Int32) (x4 : Int32) (s : TS) : Prop := tw_takesInRow_J54 kL9 k x1 x2 x3 x4 x4 s
def tw_takesInRow_L9 (k : Int32 → TS → Prop) : Nat → Int32 → Int32 → Int32 → Int32 → TS → Prop
  | 0, _, _, _, _, _ => False
  | n + 1, x1, x2, x3, x4, s => vp_in 5 92 ∧ ((s.1 1 (5 : Int32).toNatClampNeg) ≤ x4 → tw_ends s (fun s87 => k x3 s87)) ∧ (¬ (s.1 1 (5 : Int32).toNatClampNeg) ≤ x4 → (¬ x4 = x2 → (¬ x4 = (x2 + 1) → tw_takesInRow_J52 (fun x1 x2 x3 x4 s => tw_takesInRow_L9 k n x1 x2 x3 x4 s) k x1 x2 x3 x4 s) ∧ (x4 = (x2 + 1) → (x2 < 0 → tw_takesInRow_J52 (fun x1 x2 x3 x4 s => tw_takesInRow_L9 k n x1 x2 x3 x4 s) k x1 x2 x3 x4 s) ∧ (¬ x2 < 0 → tw_takesInRow_J54 (fun x1 x2 x3 x4 s => tw_takesInRow_L9 k n x1 x2 x3 x4 s) k x1 x2 x3 x4 ((x4 - 1)) s))) ∧ (x4 = x2 → tw_takesInRow_J54 (fun x1 x2 x3 x4 s => tw_takesInRow_L9 k n x1 x2 x3 x4 s) k x1 x2 x3 x4 ((x4 + 1)) s))
def tw_takesInRow (s : TS) (x1 : Int32) (x2 : Int32) (k : Int32 → TS → Prop) : Prop := tw_begins s (fun s1 => ∃ n9 : Nat, tw_takesInRow_L9 k n9 x1 x2 0 0 s1)
set_option maxHeartbeats 4000000 in
theorem wk_takesInRow (l : Launch) (D : va_G) (T : xT) (q : Nat → Nat) (s : TS) (x1 : Int32) (x2 : Int32) (k : Int32 → TS → Prop) (h : tw_takesInRow s x1 x2 k) : XM l D T yX6_takesInRow cX6_takesInRow 7 (some .int) 29 0 0 [.ref (q 0), .int x1, .int x2] (tw T q s) (tpostI T q k) := by
  refine XM.start (by decide +kernel) (Nat.le_of_ble_eq_true rfl) (fun Γ G X _ hl_ => ?_)
  subst hl_
  have hJ71 : ∀ (kL9 : Int32 → Int32 → Int32 → Int32 → TS → Prop) (ih9 : ∀ (x1 : Int32) (x2 : Int32) (x3 : Int32) (x4 : Int32) (s : TS), kL9 x1 x2 x3 x4 s → K D Γ 0 0 9 [(0, .ref (q 0)), (1, .int x1), (2, .int x2), (3, .int x3), (4, .int x4)] [] (tw T q s)) (x1 : Int32) (x2 : Int32) (x4 : Int32) (x5 : Int32) (y0 : Int32) (s : TS), tw_takesInRow_J71 kL9 k x1 x2 x4 x5 y0 s → K D Γ 0 0 71 [(0, .ref (q 0)), (1, .int x1), (2, .int x2), (4, .int x4), (5, .int x5)] [.int y0] (tw T q s) := by
    intro kL9 ih9 x1 x2 x4 x5 y0 s h
    unfold tw_takesInRow_J71 at h
    refine k_istore_n G [(3, .int y0), (0, .ref (q 0)), (1, .int x1), (2, .int x2), (4, .int x4), (5, .int x5)] dX6_takesInRow_71 rfl (Nat.le_of_ble_eq_true rfl) rfl ?_
    refine k_aload_n G dX6_takesInRow_72 rfl ?_
    refine k_iload G dX6_takesInRow_73 rfl ?_
    refine kt_callI G (wk_bakes _ D T q _ _ _ h) cf_bakes q1646 dX6_takesInRow_75 rfl rfl (Nat.le_of_ble_eq_true rfl) (Nat.le_of_ble_eq_true rfl) (fun r75 s75 h => ?_)
    refine k_istore G [(6, .int r75), (3, .int y0), (0, .ref (q 0)), (1, .int x1), (2, .int x2), (4, .int x4), (5, .int x5)] dX6_takesInRow_78 (Nat.le_of_ble_eq_true rfl) rfl ?_
    obtain ⟨x80, e80⟩ : ∃ y : Int32, y = x4 + 1 := ⟨_, rfl⟩
    have h := h x80 e80
    refine k_iinc G [(4, .int x80), (6, .int r75), (3, .int y0), (0, .ref (q 0)), (1, .int x1), (2, .int x2), (5, .int x5)] dX6_takesInRow_80 rfl (v := x80) (by rw [e80, kc_i_1]) (Nat.le_of_ble_eq_true rfl) rfl ?_
    refine k_goto G 9 dX6_takesInRow_83 (by decide) ?_
    refine K.less [3, 4, 5, 2, 0] rfl ?_
    exact ih9 _ _ _ _ _ h
  have hJ54 : ∀ (kL9 : Int32 → Int32 → Int32 → Int32 → TS → Prop) (ih9 : ∀ (x1 : Int32) (x2 : Int32) (x3 : Int32) (x4 : Int32) (s : TS), kL9 x1 x2 x3 x4 s → K D Γ 0 0 9 [(0, .ref (q 0)), (1, .int x1), (2, .int x2), (3, .int x3), (4, .int x4)] [] (tw T q s)) (x1 : Int32) (x2 : Int32) (x3 : Int32) (x4 : Int32) (y0 : Int32) (s : TS), tw_takesInRow_J54 kL9 k x1 x2 x3 x4 y0 s → K D Γ 0 0 54 [(0, .ref (q 0)), (1, .int x1), (2, .int x2), (3, .int x3), (4, .int x4)] [.int y0] (tw T q s) := by
    intro kL9 ih9 x1 x2 x3 x4 y0 s h
    unfold tw_takesInRow_J54 at h
    refine k_istore G [(5, .int y0), (0, .ref (q 0)), (1, .int x1), (2, .int x2), (3, .int x3), (4, .int x4)] dX6_takesInRow_54 (Nat.le_of_ble_eq_true rfl) rfl ?_
    refine k_iload G dX6_takesInRow_56 rfl ?_
    refine k_iload_n G dX6_takesInRow_58 rfl ?_
    obtain ⟨hA, hB⟩ := h
    refine k_icmp_ne G 70 dX6_takesInRow_59 (by decide) (fun c59 => ?_) (fun c59 => ?_)
    · have h := hA c59
      clear hA hB
      refine k_iload_n G dX6_takesInRow_70 rfl ?_
      refine K.less [1, 2, 3, 5, 0] rfl ?_
      exact hJ71 _ ih9 _ _ _ _ _ _ h
    · have h := hB c59
      clear hA hB
      refine k_aload_n G dX6_takesInRow_62 rfl ?_
      refine k_iload_n G dX6_takesInRow_63 rfl ?_
      refine kt_callI G (wk_allTakes _ D T q _ _ _ h) cf_allTakes q1715 dX6_takesInRow_64 rfl rfl (Nat.le_of_ble_eq_true rfl) (Nat.le_of_ble_eq_true rfl) (fun r64 s64 h => ?_)
      refine k_goto G 71 dX6_takesInRow_67 (by decide) ?_
      refine K.less [1, 2, 3, 5, 0] rfl ?_
      exact hJ71 _ ih9 _ _ _ _ _ _ h
  have hJ52 : ∀ (kL9 : Int32 → Int32 → Int32 → Int32 → TS → Prop) (ih9 : ∀ (x1 : Int32) (x2 : Int32) (x3 : Int32) (x4 : Int32) (s : TS), kL9 x1 x2 x3 x4 s → K D Γ 0 0 9 [(0, .ref (q 0)), (1, .int x1), (2, .int x2), (3, .int x3), (4, .int x4)] [] (tw T q s)) (x1 : Int32) (x2 : Int32) (x3 : Int32) (x4 : Int32) (s : TS), tw_takesInRow_J52 kL9 k x1 x2 x3 x4 s → K D Γ 0 0 52 [(0, .ref (q 0)), (1, .int x1), (2, .int x2), (3, .int x3), (4, .int x4)] [] (tw T q s) := by
    intro kL9 ih9 x1 x2 x3 x4 s h
    unfold tw_takesInRow_J52 at h
    refine k_iload G dX6_takesInRow_52 rfl ?_
    exact hJ54 _ ih9 _ _ _ _ _ _ h
  have hL9 : ∀ n : Nat, ∀ (x1 : Int32) (x2 : Int32) (x3 : Int32) (x4 : Int32) (s : TS), (tw_takesInRow_L9 k n) x1 x2 x3 x4 s → K D Γ 0 0 9 [(0, .ref (q 0)), (1, .int x1), (2, .int x2), (3, .int x3), (4, .int x4)] [] (tw T q s) := by
    intro n
    induction n with
    | zero =>
      intro _ _ _ _ _ h
      exact h.elim
    | succ n ih9 =>
      intro x1 x2 x3 x4 s h
      unfold tw_takesInRow_L9 at h
      refine k_iload G dX6_takesInRow_9 rfl ?_
      refine k_aload_n G dX6_takesInRow_11 rfl ?_
      refine kt_get G tf_s rfl dX6_takesInRow_12 rfl ?_
      refine k_iconst G dX6_takesInRow_15 kc_i_5 ?_
      obtain ⟨h1, h⟩ := h
      refine kt_iald G tA_1 dX6_takesInRow_16 h1 ?_
      obtain ⟨hA, hB⟩ := h
      refine k_icmp_ge G 86 dX6_takesInRow_17 (by decide) (fun c17 => ?_) (fun c17 => ?_)
      · have h := hA c17
        clear hA hB
        refine k_aload_n G dX6_takesInRow_86 rfl ?_
        refine kt_callV G (wk_ends _ D T q _ _ h) cf_ends q1673 dX6_takesInRow_87 rfl rfl (Nat.le_of_ble_eq_true rfl) (Nat.le_of_ble_eq_true rfl) (fun s87 h => ?_)
        refine k_iload_n G dX6_takesInRow_90 rfl ?_
        exact k_iret G X dX6_takesInRow_91 (Nat.le_refl _) (Nat.le_refl _) ⟨_, _, rfl, rfl, h⟩
      · have h := hB c17
        clear hA hB
        refine k_iload G dX6_takesInRow_20 rfl ?_
        refine k_iload_n G dX6_takesInRow_22 rfl ?_
        obtain ⟨hA, hB⟩ := h
        refine k_icmp_ne G 33 dX6_takesInRow_23 (by decide) (fun c23 => ?_) (fun c23 => ?_)
        · have h := hA c23
          clear hA hB
          refine k_iload G dX6_takesInRow_33 rfl ?_
          refine k_iload_n G dX6_takesInRow_35 rfl ?_
          refine k_iconst G dX6_takesInRow_36 kc_i_1 ?_
          refine k_iadd G dX6_takesInRow_37 ?_
          obtain ⟨hA, hB⟩ := h
          refine k_icmp_ne G 52 dX6_takesInRow_38 (by decide) (fun c38 => ?_) (fun c38 => ?_)
          · have h := hA c38
            clear hA hB
            exact hJ52 _ ih9 _ _ _ _ _ h
          · have h := hB c38
            clear hA hB
            refine k_iload_n G dX6_takesInRow_41 rfl ?_
            obtain ⟨hA, hB⟩ := h
            refine k_if_lt G 52 dX6_takesInRow_42 (by decide) (fun c42 => ?_) (fun c42 => ?_)
            · have h := hA c42
              clear hA hB
              exact hJ52 _ ih9 _ _ _ _ _ h
            · have h := hB c42
              clear hA hB
              refine k_iload G dX6_takesInRow_45 rfl ?_
              refine k_iconst G dX6_takesInRow_47 kc_i_1 ?_
              refine k_isub G dX6_takesInRow_48 ?_
              refine k_goto G 54 dX6_takesInRow_49 (by decide) ?_
              exact hJ54 _ ih9 _ _ _ _ _ _ h
        · have h := hB c23
          clear hA hB
          refine k_iload G dX6_takesInRow_26 rfl ?_
          refine k_iconst G dX6_takesInRow_28 kc_i_1 ?_
          refine k_iadd G dX6_takesInRow_29 ?_
          refine k_goto G 54 dX6_takesInRow_30 (by decide) ?_
          exact hJ54 _ ih9 _ _ _ _ _ _ h
  refine K.less [0, 1, 2] (lv' := [(0, .ref (q 0)), (1, .int x1), (2, .int x2)]) rfl ?_
  unfold tw_takesInRow at h
  refine k_aload_n G dX6_takesInRow_0 rfl ?_
  refine kt_callV G (wk_begins _ D T q _ _ h) cf_begins q1666 dX6_takesInRow_1 rfl rfl (Nat.le_of_ble_eq_true rfl) (Nat.le_of_ble_eq_true rfl) (fun s1 h => ?_)
  refine k_iconst G dX6_takesInRow_4 kc_i_0 ?_
  refine k_istore_n G [(3, .int 0), (0, .ref (q 0)), (1, .int x1), (2, .int x2)] dX6_takesInRow_5 rfl (Nat.le_of_ble_eq_true rfl) rfl ?_
  refine k_iconst G dX6_takesInRow_6 kc_i_0 ?_
  refine k_istore G [(4, .int 0), (3, .int 0), (0, .ref (q 0)), (1, .int x1), (2, .int x2)] dX6_takesInRow_7 (Nat.le_of_ble_eq_true rfl) rfl ?_
  obtain ⟨n9, h⟩ := h
  refine K.less [2, 3, 4, 1, 0] rfl ?_
  exact hL9 n9 _ _ _ _ _ h
def tw_swaps (s : TS) (x1 : Int32) (k : Int32 → TS → Prop) : Prop := tw_isLoaf s x1 (fun r2 s2 => (r2 = 0 → k (-1) s2) ∧ (¬ r2 = 0 → tw_isLoaf s2 ((x1 + 1)) (fun r12 s12 => (¬ r12 = 0 → tw_takesInRow s12 x1 (-5) (fun r24 s24 => tw_takesInRow s24 ((x1 + 1)) (-5) (fun r34 s34 => tw_takesInRow s34 x1 x1 (fun r41 s41 => tw_takesInRow s41 ((x1 + 1)) x1 (fun r51 s51 => (r24 < r41 → k 0 s51) ∧ (¬ r24 < r41 → (r34 < r51 → k 0 s51) ∧ (¬ r34 < r51 → ((r24 + r34) ≤ (r41 + r51) → k 0 s51) ∧ (¬ (r24 + r34) ≤ (r41 + r51) → k 1 s51)))))))) ∧ (r12 = 0 → k (-1) s12))))
set_option maxHeartbeats 4000000 in
theorem wk_swaps (l : Launch) (D : va_G) (T : xT) (q : Nat → Nat) (s : TS) (x1 : Int32) (k : Int32 → TS → Prop) (h : tw_swaps s x1 k) : XM l D T yX6_swaps cX6_swaps 6 (some .int) 30 0 0 [.ref (q 0), .int x1] (tw T q s) (tpostI T q k) := by
  refine XM.start (by decide +kernel) (Nat.le_of_ble_eq_true rfl) (fun Γ G X _ hl_ => ?_)
  subst hl_
  refine K.less [0, 1] (lv' := [(0, .ref (q 0)), (1, .int x1)]) rfl ?_
  unfold tw_swaps at h
  refine k_aload_n G dX6_swaps_0 rfl ?_
  refine k_iload_n G dX6_swaps_1 rfl ?_
  refine kt_callI G (wk_isLoaf _ D T q _ _ _ h) cf_isLoaf q1595 dX6_swaps_2 rfl rfl (Nat.le_of_ble_eq_true rfl) (Nat.le_of_ble_eq_true rfl) (fun r2 s2 h => ?_)
  obtain ⟨hA, hB⟩ := h
  refine k_if_eq G 18 dX6_swaps_5 (by decide) (fun c5 => ?_) (fun c5 => ?_)
  · have h := hA c5
    clear hA hB
    refine k_iconst G dX6_swaps_18 kc_i_m1 ?_
    exact k_iret G X dX6_swaps_19 (Nat.le_refl _) (Nat.le_refl _) ⟨_, _, rfl, rfl, h⟩
  · have h := hB c5
    clear hA hB
    refine k_aload_n G dX6_swaps_8 rfl ?_
    refine k_iload_n G dX6_swaps_9 rfl ?_
    refine k_iconst G dX6_swaps_10 kc_i_1 ?_
    refine k_iadd G dX6_swaps_11 ?_
    refine kt_callI G (wk_isLoaf _ D T q _ _ _ h) cf_isLoaf q1595 dX6_swaps_12 rfl rfl (Nat.le_of_ble_eq_true rfl) (Nat.le_of_ble_eq_true rfl) (fun r12 s12 h => ?_)
    obtain ⟨hA, hB⟩ := h
    refine k_if_ne G 20 dX6_swaps_15 (by decide) (fun c15 => ?_) (fun c15 => ?_)
    · have h := hA c15
      clear hA hB
      refine k_aload_n G dX6_swaps_20 rfl ?_
      refine k_iload_n G dX6_swaps_21 rfl ?_
      refine k_bipush G dX6_swaps_22 kc_b_m5 ?_
      refine kt_callI G (wk_takesInRow _ D T q _ _ _ _ h) cf_takesInRow q1748 dX6_swaps_24 rfl rfl (Nat.le_of_ble_eq_true rfl) (Nat.le_of_ble_eq_true rfl) (fun r24 s24 h => ?_)
      refine k_istore_n G [(2, .int r24), (0, .ref (q 0)), (1, .int x1)] dX6_swaps_27 rfl (Nat.le_of_ble_eq_true rfl) rfl ?_
      refine k_aload_n G dX6_swaps_28 rfl ?_
      refine k_iload_n G dX6_swaps_29 rfl ?_
      refine k_iconst G dX6_swaps_30 kc_i_1 ?_
      refine k_iadd G dX6_swaps_31 ?_
      refine k_bipush G dX6_swaps_32 kc_b_m5 ?_
      refine kt_callI G (wk_takesInRow _ D T q _ _ _ _ h) cf_takesInRow q1748 dX6_swaps_34 rfl rfl (Nat.le_of_ble_eq_true rfl) (Nat.le_of_ble_eq_true rfl) (fun r34 s34 h => ?_)
      refine k_istore_n G [(3, .int r34), (2, .int r24), (0, .ref (q 0)), (1, .int x1)] dX6_swaps_37 rfl (Nat.le_of_ble_eq_true rfl) rfl ?_
      refine k_aload_n G dX6_swaps_38 rfl ?_
      refine k_iload_n G dX6_swaps_39 rfl ?_
      refine k_iload_n G dX6_swaps_40 rfl ?_
      refine kt_callI G (wk_takesInRow _ D T q _ _ _ _ h) cf_takesInRow q1748 dX6_swaps_41 rfl rfl (Nat.le_of_ble_eq_true rfl) (Nat.le_of_ble_eq_true rfl) (fun r41 s41 h => ?_)
      refine k_istore G [(4, .int r41), (3, .int r34), (2, .int r24), (0, .ref (q 0)), (1, .int x1)] dX6_swaps_44 (Nat.le_of_ble_eq_true rfl) rfl ?_
      refine k_aload_n G dX6_swaps_46 rfl ?_
      refine k_iload_n G dX6_swaps_47 rfl ?_
      refine k_iconst G dX6_swaps_48 kc_i_1 ?_
      refine k_iadd G dX6_swaps_49 ?_
      refine k_iload_n G dX6_swaps_50 rfl ?_
      refine kt_callI G (wk_takesInRow _ D T q _ _ _ _ h) cf_takesInRow q1748 dX6_swaps_51 rfl rfl (Nat.le_of_ble_eq_true rfl) (Nat.le_of_ble_eq_true rfl) (fun r51 s51 h => ?_)
      refine k_istore G [(5, .int r51), (4, .int r41), (3, .int r34), (2, .int r24), (0, .ref (q 0)), (1, .int x1)] dX6_swaps_54 (Nat.le_of_ble_eq_true rfl) rfl ?_
      refine k_iload G dX6_swaps_56 rfl ?_
      refine k_iload_n G dX6_swaps_58 rfl ?_
      obtain ⟨hA, hB⟩ := h
      refine k_icmp_gt G 83 dX6_swaps_59 (by decide) (fun c59 => ?_) (fun c59 => ?_)
      · have h := hA c59
        clear hA hB
        refine k_iconst G dX6_swaps_83 kc_i_0 ?_
        exact k_iret G X dX6_swaps_84 (Nat.le_refl _) (Nat.le_refl _) ⟨_, _, rfl, rfl, h⟩
      · have h := hB c59
        clear hA hB
        refine k_iload G dX6_swaps_62 rfl ?_
        refine k_iload_n G dX6_swaps_64 rfl ?_
        obtain ⟨hA, hB⟩ := h
        refine k_icmp_gt G 83 dX6_swaps_65 (by decide) (fun c65 => ?_) (fun c65 => ?_)
        · have h := hA c65
          clear hA hB
          refine k_iconst G dX6_swaps_83 kc_i_0 ?_
          exact k_iret G X dX6_swaps_84 (Nat.le_refl _) (Nat.le_refl _) ⟨_, _, rfl, rfl, h⟩
        · have h := hB c65
          clear hA hB
          refine k_iload G dX6_swaps_68 rfl ?_
          refine k_iload G dX6_swaps_70 rfl ?_
          refine k_iadd G dX6_swaps_72 ?_
          refine k_iload_n G dX6_swaps_73 rfl ?_
          refine k_iload_n G dX6_swaps_74 rfl ?_
          refine k_iadd G dX6_swaps_75 ?_
          obtain ⟨hA, hB⟩ := h
          refine k_icmp_ge G 83 dX6_swaps_76 (by decide) (fun c76 => ?_) (fun c76 => ?_)
          · have h := hA c76
            clear hA hB
            refine k_iconst G dX6_swaps_83 kc_i_0 ?_
            exact k_iret G X dX6_swaps_84 (Nat.le_refl _) (Nat.le_refl _) ⟨_, _, rfl, rfl, h⟩
          · have h := hB c76
            clear hA hB
            refine k_iconst G dX6_swaps_79 kc_i_1 ?_
            refine k_goto G 84 dX6_swaps_80 (by decide) ?_
            exact k_iret G X dX6_swaps_84 (Nat.le_refl _) (Nat.le_refl _) ⟨_, _, rfl, rfl, h⟩
    · have h := hB c15
      clear hA hB
      refine k_iconst G dX6_swaps_18 kc_i_m1 ?_
      exact k_iret G X dX6_swaps_19 (Nat.le_refl _) (Nat.le_refl _) ⟨_, _, rfl, rfl, h⟩
def tw_span_J150 (kL60 : Int32 → Int32 → Int32 → Int32 → Int32 → Int32 → Int32 → Int32 → TS → Prop) (kL90 : Int32 → Int32 → Int32 → Int32 → Int32 → Int32 → Int32 → Int32 → Int32 → Int32 → TS → Prop) (k : Int32 → TS → Prop) (x1 : Int32) (x2 : Int32) (x3 : Int32) (x4 : Int32) (x5 : Int32) (x6 : Int32) (x7 : Int32) (x8 : Int32) (x9 : Int32) (x10 : Int32) (s : TS) : Prop := ∀ x150 : Int32, x150 = x10 + 1 → kL90 x1 x2 x3 x4 x5 x6 x7 x8 x9 x150 s
def tw_span_J138 (kL60 : Int32 → Int32 → Int32 → Int32 → Int32 → Int32 → Int32 → Int32 → TS → Prop) (kL90 : Int32 → Int32 → Int32 → Int32 → Int32 → Int32 → Int32 → Int32 → Int32 → Int32 → TS → Prop) (k : Int32 → TS → Prop) (x1 : Int32) (x2 : Int32) (x3 : Int32) (x4 : Int32) (x7 : Int32) (x8 : Int32) (x9 : Int32) (x10 : Int32) (y0 : Int32) (s : TS) : Prop := ∀ x148 : Int32, x148 = ((10 * x8) + x10) → tw_span_J150 kL60 kL90 k x1 x2 x3 x4 y0 x148 x7 x8 x9 x10 s
def tw_span_L90 (kL60 : Int32 → Int32 → Int32 → Int32 → Int32 → Int32 → Int32 → Int32 → TS → Prop) (k : Int32 → TS → Prop) : Nat → Int32 → Int32 → Int32 → Int32 → Int32 → Int32 → Int32 → Int32 → Int32 → Int32 → TS → Prop
  | 0, _, _, _, _, _, _, _, _, _, _, _ => False
  | n + 1, x1, x2, x3, x4, x5, x6, x7, x8, x9, x10, s => (10 ≤ x10 → ∀ x156 : Int32, x156 = x8 + 1 → kL60 x1 x2 x3 x4 x5 x6 x7 x156 s) ∧ (¬ 10 ≤ x10 → tw_takesBy s x1 x2 x9 (((10 * x8) + x10)) (fun r110 s110 => (r110 = x3 → (0 ≤ x5 → tw_span_J138 kL60 (fun x1 x2 x3 x4 x5 x6 x7 x8 x9 x10 s => tw_span_L90 kL60 k n x1 x2 x3 x4 x5 x6 x7 x8 x9 x10 s) k x1 x2 x3 x4 x7 x8 x9 x10 x5 s110) ∧ (¬ 0 ≤ x5 → tw_span_J138 kL60 (fun x1 x2 x3 x4 x5 x6 x7 x8 x9 x10 s => tw_span_L90 kL60 k n x1 x2 x3 x4 x5 x6 x7 x8 x9 x10 s) k x1 x2 x3 x4 x7 x8 x9 x10 (((10 * x8) + x10)) s110)) ∧ (¬ r110 = x3 → tw_span_J150 kL60 (fun x1 x2 x3 x4 x5 x6 x7 x8 x9 x10 s => tw_span_L90 kL60 k n x1 x2 x3 x4 x5 x6 x7 x8 x9 x10 s) k x1 x2 x3 x4 x5 x6 x7 x8 x9 x10 s110)))
def tw_span_L60 (k : Int32 → TS → Prop) : Nat → Int32 → Int32 → Int32 → Int32 → Int32 → Int32 → Int32 → Int32 → TS → Prop
  | 0, _, _, _, _, _, _, _, _, _ => False
  | n + 1, x1, x2, x3, x4, x5, x6, x7, x8, s => (999 < x8 → vp_in x2 92 ∧ (¬ x4 = 0 → k x6 ((sA s 1 (x2 : Int32).toNatClampNeg x7))) ∧ (x4 = 0 → k x5 ((sA s 1 (x2 : Int32).toNatClampNeg x7)))) ∧ (¬ 999 < x8 → vp_in x2 92 ∧ ∀ w82 : TS, w82 = (sA s 1 (x2 : Int32).toNatClampNeg (10 * x8)) → tw_partOf w82 x1 x2 (fun r82 s82 => ∃ n90 : Nat, tw_span_L90 (fun x1 x2 x3 x4 x5 x6 x7 x8 s => tw_span_L60 k n x1 x2 x3 x4 x5 x6 x7 x8 s) k n90 x1 x2 x3 x4 x5 x6 x7 x8 r82 0 s82))
def tw_span (s : TS) (x1 : Int32) (x2 : Int32) (x3 : Int32) (x4 : Int32) (k : Int32 → TS → Prop) : Prop := tw_isLoaf s x1 (fun r2 s2 => (r2 = 0 → k (-1) s2) ∧ (¬ r2 = 0 → pw_isTaste x2 (fun r9 => (r9 = 0 → k (-1) s2) ∧ (¬ r9 = 0 → pw_isIn x4 0 1 (fun r19 => (¬ r19 = 0 → pw_isIn x3 0 9999 (fun r32 => (¬ r32 = 0 → vp_in x2 92 ∧ ∀ x55 : Int32, x55 = (s2.1 1 (x2 : Int32).toNatClampNeg) → ∃ n60 : Nat, tw_span_L60 k n60 x1 x2 x3 x4 (-5) (-5) x55 0 s2) ∧ (r32 = 0 → k (-2) s2))) ∧ (r19 = 0 → k (-1) s2))))))
set_option maxHeartbeats 4000000 in
theorem wk_span (l : Launch) (D : va_G) (T : xT) (q : Nat → Nat) (s : TS) (x1 : Int32) (x2 : Int32) (x3 : Int32) (x4 : Int32) (k : Int32 → TS → Prop) (h : tw_span s x1 x2 x3 x4 k) : XM l D T yX6_span cX6_span 11 (some .int) 26 0 0 [.ref (q 0), .int x1, .int x2, .int x3, .int x4] (tw T q s) (tpostI T q k) := by
  refine XM.start (by decide +kernel) (Nat.le_of_ble_eq_true rfl) (fun Γ G X _ hl_ => ?_)
  subst hl_
  have hJ150 : ∀ (kL60 : Int32 → Int32 → Int32 → Int32 → Int32 → Int32 → Int32 → Int32 → TS → Prop) (ih60 : ∀ (x1 : Int32) (x2 : Int32) (x3 : Int32) (x4 : Int32) (x5 : Int32) (x6 : Int32) (x7 : Int32) (x8 : Int32) (s : TS), kL60 x1 x2 x3 x4 x5 x6 x7 x8 s → K D Γ 0 0 60 [(0, .ref (q 0)), (1, .int x1), (2, .int x2), (3, .int x3), (4, .int x4), (5, .int x5), (6, .int x6), (7, .int x7), (8, .int x8)] [] (tw T q s)) (kL90 : Int32 → Int32 → Int32 → Int32 → Int32 → Int32 → Int32 → Int32 → Int32 → Int32 → TS → Prop) (ih90 : ∀ (x1 : Int32) (x2 : Int32) (x3 : Int32) (x4 : Int32) (x5 : Int32) (x6 : Int32) (x7 : Int32) (x8 : Int32) (x9 : Int32) (x10 : Int32) (s : TS), kL90 x1 x2 x3 x4 x5 x6 x7 x8 x9 x10 s → K D Γ 0 0 90 [(0, .ref (q 0)), (1, .int x1), (2, .int x2), (3, .int x3), (4, .int x4), (5, .int x5), (6, .int x6), (7, .int x7), (8, .int x8), (9, .int x9), (10, .int x10)] [] (tw T q s)) (x1 : Int32) (x2 : Int32) (x3 : Int32) (x4 : Int32) (x5 : Int32) (x6 : Int32) (x7 : Int32) (x8 : Int32) (x9 : Int32) (x10 : Int32) (s : TS), tw_span_J150 kL60 kL90 k x1 x2 x3 x4 x5 x6 x7 x8 x9 x10 s → K D Γ 0 0 150 [(0, .ref (q 0)), (1, .int x1), (2, .int x2), (3, .int x3), (4, .int x4), (5, .int x5), (6, .int x6), (7, .int x7), (8, .int x8), (9, .int x9), (10, .int x10)] [] (tw T q s) := by
    intro kL60 ih60 kL90 ih90 x1 x2 x3 x4 x5 x6 x7 x8 x9 x10 s h
    unfold tw_span_J150 at h
    obtain ⟨x150, e150⟩ : ∃ y : Int32, y = x10 + 1 := ⟨_, rfl⟩
    have h := h x150 e150
    refine k_iinc G [(10, .int x150), (0, .ref (q 0)), (1, .int x1), (2, .int x2), (3, .int x3), (4, .int x4), (5, .int x5), (6, .int x6), (7, .int x7), (8, .int x8), (9, .int x9)] dX6_span_150 rfl (v := x150) (by rw [e150, kc_i_1]) (Nat.le_of_ble_eq_true rfl) rfl ?_
    refine k_goto G 90 dX6_span_153 (by decide) ?_
    refine K.less [1, 2, 3, 4, 5, 6, 7, 8, 9, 10, 0] rfl ?_
    exact ih90 _ _ _ _ _ _ _ _ _ _ _ h
  have hJ138 : ∀ (kL60 : Int32 → Int32 → Int32 → Int32 → Int32 → Int32 → Int32 → Int32 → TS → Prop) (ih60 : ∀ (x1 : Int32) (x2 : Int32) (x3 : Int32) (x4 : Int32) (x5 : Int32) (x6 : Int32) (x7 : Int32) (x8 : Int32) (s : TS), kL60 x1 x2 x3 x4 x5 x6 x7 x8 s → K D Γ 0 0 60 [(0, .ref (q 0)), (1, .int x1), (2, .int x2), (3, .int x3), (4, .int x4), (5, .int x5), (6, .int x6), (7, .int x7), (8, .int x8)] [] (tw T q s)) (kL90 : Int32 → Int32 → Int32 → Int32 → Int32 → Int32 → Int32 → Int32 → Int32 → Int32 → TS → Prop) (ih90 : ∀ (x1 : Int32) (x2 : Int32) (x3 : Int32) (x4 : Int32) (x5 : Int32) (x6 : Int32) (x7 : Int32) (x8 : Int32) (x9 : Int32) (x10 : Int32) (s : TS), kL90 x1 x2 x3 x4 x5 x6 x7 x8 x9 x10 s → K D Γ 0 0 90 [(0, .ref (q 0)), (1, .int x1), (2, .int x2), (3, .int x3), (4, .int x4), (5, .int x5), (6, .int x6), (7, .int x7), (8, .int x8), (9, .int x9), (10, .int x10)] [] (tw T q s)) (x1 : Int32) (x2 : Int32) (x3 : Int32) (x4 : Int32) (x7 : Int32) (x8 : Int32) (x9 : Int32) (x10 : Int32) (y0 : Int32) (s : TS), tw_span_J138 kL60 kL90 k x1 x2 x3 x4 x7 x8 x9 x10 y0 s → K D Γ 0 0 138 [(0, .ref (q 0)), (1, .int x1), (2, .int x2), (3, .int x3), (4, .int x4), (7, .int x7), (8, .int x8), (9, .int x9), (10, .int x10)] [.int y0] (tw T q s) := by
    intro kL60 ih60 kL90 ih90 x1 x2 x3 x4 x7 x8 x9 x10 y0 s h
    unfold tw_span_J138 at h
    refine k_istore G [(5, .int y0), (0, .ref (q 0)), (1, .int x1), (2, .int x2), (3, .int x3), (4, .int x4), (7, .int x7), (8, .int x8), (9, .int x9), (10, .int x10)] dX6_span_138 (Nat.le_of_ble_eq_true rfl) rfl ?_
    refine k_bipush G dX6_span_140 kc_b_10 ?_
    refine k_iload G dX6_span_142 rfl ?_
    refine k_imul G dX6_span_144 ?_
    refine k_iload G dX6_span_145 rfl ?_
    refine k_iadd G dX6_span_147 ?_
    refine k_nmI (fun x148 e148 => ?_)
    have h := h x148 e148
    refine k_istore G [(6, .int x148), (5, .int y0), (0, .ref (q 0)), (1, .int x1), (2, .int x2), (3, .int x3), (4, .int x4), (7, .int x7), (8, .int x8), (9, .int x9), (10, .int x10)] dX6_span_148 (Nat.le_of_ble_eq_true rfl) rfl ?_
    refine K.less [2, 3, 4, 5, 6, 1, 0, 7, 8, 9, 10] rfl ?_
    exact hJ150 _ ih60 _ ih90 _ _ _ _ _ _ _ _ _ _ _ h
  have hL90 : ∀ (kL60 : Int32 → Int32 → Int32 → Int32 → Int32 → Int32 → Int32 → Int32 → TS → Prop) (ih60 : ∀ (x1 : Int32) (x2 : Int32) (x3 : Int32) (x4 : Int32) (x5 : Int32) (x6 : Int32) (x7 : Int32) (x8 : Int32) (s : TS), kL60 x1 x2 x3 x4 x5 x6 x7 x8 s → K D Γ 0 0 60 [(0, .ref (q 0)), (1, .int x1), (2, .int x2), (3, .int x3), (4, .int x4), (5, .int x5), (6, .int x6), (7, .int x7), (8, .int x8)] [] (tw T q s)), ∀ n : Nat, ∀ (x1 : Int32) (x2 : Int32) (x3 : Int32) (x4 : Int32) (x5 : Int32) (x6 : Int32) (x7 : Int32) (x8 : Int32) (x9 : Int32) (x10 : Int32) (s : TS), (tw_span_L90 kL60 k n) x1 x2 x3 x4 x5 x6 x7 x8 x9 x10 s → K D Γ 0 0 90 [(0, .ref (q 0)), (1, .int x1), (2, .int x2), (3, .int x3), (4, .int x4), (5, .int x5), (6, .int x6), (7, .int x7), (8, .int x8), (9, .int x9), (10, .int x10)] [] (tw T q s) := by
    intro kL60 ih60 n
    induction n with
    | zero =>
      intro _ _ _ _ _ _ _ _ _ _ _ h
      exact h.elim
    | succ n ih90 =>
      intro x1 x2 x3 x4 x5 x6 x7 x8 x9 x10 s h
      unfold tw_span_L90 at h
      refine k_iload G dX6_span_90 rfl ?_
      refine k_bipush G dX6_span_92 kc_b_10 ?_
      obtain ⟨hA, hB⟩ := h
      refine k_icmp_ge G 156 dX6_span_94 (by decide) (fun c94 => ?_) (fun c94 => ?_)
      · have h := hA c94
        clear hA hB
        obtain ⟨x156, e156⟩ : ∃ y : Int32, y = x8 + 1 := ⟨_, rfl⟩
        have h := h x156 e156
        refine k_iinc G [(8, .int x156), (0, .ref (q 0)), (1, .int x1), (2, .int x2), (3, .int x3), (4, .int x4), (5, .int x5), (6, .int x6), (7, .int x7), (9, .int x9), (10, .int x10)] dX6_span_156 rfl (v := x156) (by rw [e156, kc_i_1]) (Nat.le_of_ble_eq_true rfl) rfl ?_
        refine k_goto G 60 dX6_span_159 (by decide) ?_
        refine K.less [1, 2, 3, 4, 5, 6, 7, 8, 0] rfl ?_
        exact ih60 _ _ _ _ _ _ _ _ _ h
      · have h := hB c94
        clear hA hB
        refine k_aload_n G dX6_span_97 rfl ?_
        refine k_iload_n G dX6_span_98 rfl ?_
        refine k_iload_n G dX6_span_99 rfl ?_
        refine k_iload G dX6_span_100 rfl ?_
        refine k_bipush G dX6_span_102 kc_b_10 ?_
        refine k_iload G dX6_span_104 rfl ?_
        refine k_imul G dX6_span_106 ?_
        refine k_iload G dX6_span_107 rfl ?_
        refine k_iadd G dX6_span_109 ?_
        refine kt_callI G (wk_takesBy _ D T q _ _ _ _ _ _ h) cf_takesBy q1626 dX6_span_110 rfl rfl (Nat.le_of_ble_eq_true rfl) (Nat.le_of_ble_eq_true rfl) (fun r110 s110 h => ?_)
        refine k_iload_n G dX6_span_113 rfl ?_
        obtain ⟨hA, hB⟩ := h
        refine k_icmp_eq G 120 dX6_span_114 (by decide) (fun c114 => ?_) (fun c114 => ?_)
        · have h := hA c114
          clear hA hB
          refine k_iload G dX6_span_120 rfl ?_
          obtain ⟨hA, hB⟩ := h
          refine k_if_ge G 136 dX6_span_122 (by decide) (fun c122 => ?_) (fun c122 => ?_)
          · have h := hA c122
            clear hA hB
            refine k_iload G dX6_span_136 rfl ?_
            refine K.less [0, 1, 2, 3, 4, 7, 8, 9, 10] rfl ?_
            exact hJ138 _ ih60 _ ih90 _ _ _ _ _ _ _ _ _ _ h
          · have h := hB c122
            clear hA hB
            refine k_bipush G dX6_span_125 kc_b_10 ?_
            refine k_iload G dX6_span_127 rfl ?_
            refine k_imul G dX6_span_129 ?_
            refine k_iload G dX6_span_130 rfl ?_
            refine k_iadd G dX6_span_132 ?_
            refine k_goto G 138 dX6_span_133 (by decide) ?_
            refine K.less [0, 1, 2, 3, 4, 7, 8, 9, 10] rfl ?_
            exact hJ138 _ ih60 _ ih90 _ _ _ _ _ _ _ _ _ _ h
        · have h := hB c114
          clear hA hB
          refine k_goto G 150 dX6_span_117 (by decide) ?_
          exact hJ150 _ ih60 _ ih90 _ _ _ _ _ _ _ _ _ _ _ h
  have hL60 : ∀ n : Nat, ∀ (x1 : Int32) (x2 : Int32) (x3 : Int32) (x4 : Int32) (x5 : Int32) (x6 : Int32) (x7 : Int32) (x8 : Int32) (s : TS), (tw_span_L60 k n) x1 x2 x3 x4 x5 x6 x7 x8 s → K D Γ 0 0 60 [(0, .ref (q 0)), (1, .int x1), (2, .int x2), (3, .int x3), (4, .int x4), (5, .int x5), (6, .int x6), (7, .int x7), (8, .int x8)] [] (tw T q s) := by
    intro n
    induction n with
    | zero =>
      intro _ _ _ _ _ _ _ _ _ h
      exact h.elim
    | succ n ih60 =>
      intro x1 x2 x3 x4 x5 x6 x7 x8 s h
      unfold tw_span_L60 at h
      refine k_iload G dX6_span_60 rfl ?_
      refine k_sipush G dX6_span_62 kc_s_999 ?_
      obtain ⟨hA, hB⟩ := h
      refine k_icmp_gt G 162 dX6_span_65 (by decide) (fun c65 => ?_) (fun c65 => ?_)
      · have h := hA c65
        clear hA hB
        refine k_aload_n G dX6_span_162 rfl ?_
        refine kt_get G tf_s rfl dX6_span_163 rfl ?_
        refine k_iload_n G dX6_span_166 rfl ?_
        refine k_iload G dX6_span_167 rfl ?_
        obtain ⟨h1, h⟩ := h
        refine kt_iast G tA_1 dX6_span_169 h1 ?_
        refine k_iload G dX6_span_170 rfl ?_
        obtain ⟨hA, hB⟩ := h
        refine k_if_ne G 180 dX6_span_172 (by decide) (fun c172 => ?_) (fun c172 => ?_)
        · have h := hA c172
          clear hA hB
          refine k_iload G dX6_span_180 rfl ?_
          exact k_iret G X dX6_span_182 (Nat.le_refl _) (Nat.le_refl _) ⟨_, _, rfl, rfl, h⟩
        · have h := hB c172
          clear hA hB
          refine k_iload G dX6_span_175 rfl ?_
          refine k_goto G 182 dX6_span_177 (by decide) ?_
          exact k_iret G X dX6_span_182 (Nat.le_refl _) (Nat.le_refl _) ⟨_, _, rfl, rfl, h⟩
      · have h := hB c65
        clear hA hB
        refine k_aload_n G dX6_span_68 rfl ?_
        refine kt_get G tf_s rfl dX6_span_69 rfl ?_
        refine k_iload_n G dX6_span_72 rfl ?_
        refine k_bipush G dX6_span_73 kc_b_10 ?_
        refine k_iload G dX6_span_75 rfl ?_
        refine k_imul G dX6_span_77 ?_
        obtain ⟨h1, h⟩ := h
        refine kt_iast G tA_1 dX6_span_78 h1 ?_
        refine k_aload_n G dX6_span_79 rfl ?_
        refine k_iload_n G dX6_span_80 rfl ?_
        refine k_iload_n G dX6_span_81 rfl ?_
        refine kt_nmW (fun w82 ew82 => ?_)
        have h := h w82 ew82
        refine kt_callI G (wk_partOf _ D T q _ _ _ _ h) cf_partOf q1622 dX6_span_82 rfl rfl (Nat.le_of_ble_eq_true rfl) (Nat.le_of_ble_eq_true rfl) (fun r82 s82 h => ?_)
        refine k_istore G [(9, .int r82), (0, .ref (q 0)), (1, .int x1), (2, .int x2), (3, .int x3), (4, .int x4), (5, .int x5), (6, .int x6), (7, .int x7), (8, .int x8)] dX6_span_85 (Nat.le_of_ble_eq_true rfl) rfl ?_
        refine k_iconst G dX6_span_87 kc_i_0 ?_
        refine k_istore G [(10, .int 0), (9, .int r82), (0, .ref (q 0)), (1, .int x1), (2, .int x2), (3, .int x3), (4, .int x4), (5, .int x5), (6, .int x6), (7, .int x7), (8, .int x8)] dX6_span_88 (Nat.le_of_ble_eq_true rfl) rfl ?_
        obtain ⟨n90, h⟩ := h
        refine K.less [2, 3, 4, 5, 6, 7, 8, 9, 10, 1, 0] rfl ?_
        exact hL90 _ ih60 n90 _ _ _ _ _ _ _ _ _ _ _ h
  refine K.less [0, 1, 2, 3, 4] (lv' := [(0, .ref (q 0)), (1, .int x1), (2, .int x2), (3, .int x3), (4, .int x4)]) rfl ?_
  unfold tw_span at h
  refine k_aload_n G dX6_span_0 rfl ?_
  refine k_iload_n G dX6_span_1 rfl ?_
  refine kt_callI G (wk_isLoaf _ D T q _ _ _ h) cf_isLoaf q1595 dX6_span_2 rfl rfl (Nat.le_of_ble_eq_true rfl) (Nat.le_of_ble_eq_true rfl) (fun r2 s2 h => ?_)
  obtain ⟨hA, hB⟩ := h
  refine k_if_eq G 25 dX6_span_5 (by decide) (fun c5 => ?_) (fun c5 => ?_)
  · have h := hA c5
    clear hA hB
    refine k_iconst G dX6_span_25 kc_i_m1 ?_
    exact k_iret G X dX6_span_26 (Nat.le_refl _) (Nat.le_refl _) ⟨_, _, rfl, rfl, h⟩
  · have h := hB c5
    clear hA hB
    refine k_iload_n G dX6_span_8 rfl ?_
    refine k_callPI G (wk_isTaste _ D T _ _ h) cf_isTaste q1599 dX6_span_9 rfl rfl (Nat.le_of_ble_eq_true rfl) (Nat.le_of_ble_eq_true rfl) ⟨Nat.zero_le _, Nat.zero_le _⟩ (fun r9 h => ?_)
    obtain ⟨hA, hB⟩ := h
    refine k_if_eq G 25 dX6_span_12 (by decide) (fun c12 => ?_) (fun c12 => ?_)
    · have h := hA c12
      clear hA hB
      refine k_iconst G dX6_span_25 kc_i_m1 ?_
      exact k_iret G X dX6_span_26 (Nat.le_refl _) (Nat.le_refl _) ⟨_, _, rfl, rfl, h⟩
    · have h := hB c12
      clear hA hB
      refine k_iload G dX6_span_15 rfl ?_
      refine k_iconst G dX6_span_17 kc_i_0 ?_
      refine k_iconst G dX6_span_18 kc_i_1 ?_
      refine k_callPI G (wk_isIn _ D T _ _ _ _ h) cf_isIn q1511 dX6_span_19 rfl rfl (Nat.le_of_ble_eq_true rfl) (Nat.le_of_ble_eq_true rfl) ⟨Nat.zero_le _, Nat.zero_le _⟩ (fun r19 h => ?_)
      obtain ⟨hA, hB⟩ := h
      refine k_if_ne G 27 dX6_span_22 (by decide) (fun c22 => ?_) (fun c22 => ?_)
      · have h := hA c22
        clear hA hB
        refine k_iload_n G dX6_span_27 rfl ?_
        refine k_iconst G dX6_span_28 kc_i_0 ?_
        refine k_sipush G dX6_span_29 kc_s_9999 ?_
        refine k_callPI G (wk_isIn _ D T _ _ _ _ h) cf_isIn q1511 dX6_span_32 rfl rfl (Nat.le_of_ble_eq_true rfl) (Nat.le_of_ble_eq_true rfl) ⟨Nat.zero_le _, Nat.zero_le _⟩ (fun r32 h => ?_)
        obtain ⟨hA, hB⟩ := h
        refine k_if_ne G 41 dX6_span_35 (by decide) (fun c35 => ?_) (fun c35 => ?_)
        · have h := hA c35
          clear hA hB
          refine k_bipush G dX6_span_41 kc_b_m5 ?_
          refine k_istore G [(5, .int (-5)), (0, .ref (q 0)), (1, .int x1), (2, .int x2), (3, .int x3), (4, .int x4)] dX6_span_43 (Nat.le_of_ble_eq_true rfl) rfl ?_
          refine k_bipush G dX6_span_45 kc_b_m5 ?_
          refine k_istore G [(6, .int (-5)), (5, .int (-5)), (0, .ref (q 0)), (1, .int x1), (2, .int x2), (3, .int x3), (4, .int x4)] dX6_span_47 (Nat.le_of_ble_eq_true rfl) rfl ?_
          refine k_aload_n G dX6_span_49 rfl ?_
          refine kt_get G tf_s rfl dX6_span_50 rfl ?_
          refine k_iload_n G dX6_span_53 rfl ?_
          obtain ⟨h1, h⟩ := h
          refine kt_iald G tA_1 dX6_span_54 h1 ?_
          refine k_nmI (fun x55 e55 => ?_)
          have h := h x55 e55
          refine k_istore G [(7, .int x55), (6, .int (-5)), (5, .int (-5)), (0, .ref (q 0)), (1, .int x1), (2, .int x2), (3, .int x3), (4, .int x4)] dX6_span_55 (Nat.le_of_ble_eq_true rfl) rfl ?_
          refine k_iconst G dX6_span_57 kc_i_0 ?_
          refine k_istore G [(8, .int 0), (7, .int x55), (6, .int (-5)), (5, .int (-5)), (0, .ref (q 0)), (1, .int x1), (2, .int x2), (3, .int x3), (4, .int x4)] dX6_span_58 (Nat.le_of_ble_eq_true rfl) rfl ?_
          obtain ⟨n60, h⟩ := h
          refine K.less [4, 5, 6, 7, 8, 3, 2, 1, 0] rfl ?_
          exact hL60 n60 _ _ _ _ _ _ _ _ _ h
        · have h := hB c35
          clear hA hB
          refine k_bipush G dX6_span_38 kc_b_m2 ?_
          exact k_iret G X dX6_span_40 (Nat.le_refl _) (Nat.le_refl _) ⟨_, _, rfl, rfl, h⟩
      · have h := hB c22
        clear hA hB
        refine k_iconst G dX6_span_25 kc_i_m1 ?_
        exact k_iret G X dX6_span_26 (Nat.le_refl _) (Nat.le_refl _) ⟨_, _, rfl, rfl, h⟩
def tw_year_J137 (k : Int32 → TS → Prop) (y0 : Int32) (s : TS) : Prop := tw_ends s (fun s140 => k y0 s140)
def tw_year_J115 (kL62 : Int32 → Int32 → Int32 → Int32 → Int32 → Int32 → TS → Prop) (k : Int32 → TS → Prop) (x1 : Int32) (x2 : Int32) (x3 : Int32) (x4 : Int32) (x5 : Int32) (x6 : Int32) (s : TS) : Prop := ∀ x115 : Int32, x115 = x6 + 1 → kL62 x1 x2 x3 x4 x5 x115 s
def tw_year_J109 (kL62 : Int32 → Int32 → Int32 → Int32 → Int32 → Int32 → TS → Prop) (k : Int32 → TS → Prop) (x1 : Int32) (x2 : Int32) (x3 : Int32) (x4 : Int32) (x6 : Int32) (y0 : Int32) (y1 : Int32) (s : TS) : Prop := ∀ x110 : Int32, x110 = (y1 + y0) → ∀ x112 : Int32, x112 = x4 + 1 → tw_year_J115 kL62 k x1 x2 x3 x112 x110 x6 s
def tw_year_L62 (k : Int32 → TS → Prop) : Nat → Int32 → Int32 → Int32 → Int32 → Int32 → Int32 → TS → Prop
  | 0, _, _, _, _, _, _, _ => False
  | n + 1, x1, x2, x3, x4, x5, x6, s => (x1 ≤ x6 → (¬ x3 = 4 → vp_in x3 92 ∧ tw_year_J137 k ((s.1 1 (x3 : Int32).toNatClampNeg)) s) ∧ (x3 = 4 → tw_year_J137 k x5 s)) ∧ (¬ x1 ≤ x6 → vp_in 4 92 ∧ ¬ x2 = 0 ∧ (¬ ((s.1 1 (4 : Int32).toNatClampNeg) - (s.1 1 (4 : Int32).toNatClampNeg) / x2 * x2) = 0 → vp_in 5 92 ∧ ¬ (s.1 1 (5 : Int32).toNatClampNeg) = 0 ∧ tw_bakes s ((x4 - x4 / (s.1 1 (5 : Int32).toNatClampNeg) * (s.1 1 (5 : Int32).toNatClampNeg))) (fun r98 s98 => (r98 = 0 → tw_year_J109 (fun x1 x2 x3 x4 x5 x6 s => tw_year_L62 k n x1 x2 x3 x4 x5 x6 s) k x1 x2 x3 x4 x6 0 x5 s98) ∧ (¬ r98 = 0 → tw_year_J109 (fun x1 x2 x3 x4 x5 x6 s => tw_year_L62 k n x1 x2 x3 x4 x5 x6 s) k x1 x2 x3 x4 x6 1 x5 s98))) ∧ (((s.1 1 (4 : Int32).toNatClampNeg) - (s.1 1 (4 : Int32).toNatClampNeg) / x2 * x2) = 0 → tw_cools s (fun s80 => tw_year_J115 (fun x1 x2 x3 x4 x5 x6 s => tw_year_L62 k n x1 x2 x3 x4 x5 x6 s) k x1 x2 x3 x4 x5 x6 s80)))
def tw_year_J32 (k : Int32 → TS → Prop) (s : TS) : Prop := k (-100002) s
def tw_year (s : TS) (x1 : Int32) (x2 : Int32) (x3 : Int32) (k : Int32 → TS → Prop) : Prop := pw_isIn x3 0 4 (fun r3 => (¬ r3 = 0 → pw_isIn x1 0 60 (fun r16 => (r16 = 0 → tw_year_J32 k s) ∧ (¬ r16 = 0 → pw_isIn x2 2 30 (fun r26 => (¬ r26 = 0 → vp_in 5 92 ∧ (¬ (s.1 1 (5 : Int32).toNatClampNeg) = 0 → tw_begins s (fun s50 => ∃ n62 : Nat, tw_year_L62 k n62 x1 x2 x3 0 0 0 s50)) ∧ ((s.1 1 (5 : Int32).toNatClampNeg) = 0 → k (-100003) s)) ∧ (r26 = 0 → tw_year_J32 k s))))) ∧ (r3 = 0 → k (-100001) s))
set_option maxHeartbeats 4000000 in
theorem wk_year (l : Launch) (D : va_G) (T : xT) (q : Nat → Nat) (s : TS) (x1 : Int32) (x2 : Int32) (x3 : Int32) (k : Int32 → TS → Prop) (h : tw_year s x1 x2 x3 k) : XM l D T yX6_year cX6_year 7 (some .int) 29 0 0 [.ref (q 0), .int x1, .int x2, .int x3] (tw T q s) (tpostI T q k) := by
  refine XM.start (by decide +kernel) (Nat.le_of_ble_eq_true rfl) (fun Γ G X _ hl_ => ?_)
  subst hl_
  have hJ137 : ∀ (y0 : Int32) (s : TS), tw_year_J137 k y0 s → K D Γ 0 0 137 [(0, .ref (q 0))] [.int y0] (tw T q s) := by
    intro y0 s h
    unfold tw_year_J137 at h
    refine k_istore G [(6, .int y0), (0, .ref (q 0))] dX6_year_137 (Nat.le_of_ble_eq_true rfl) rfl ?_
    refine k_aload_n G dX6_year_139 rfl ?_
    refine kt_callV G (wk_ends _ D T q _ _ h) cf_ends q1673 dX6_year_140 rfl rfl (Nat.le_of_ble_eq_true rfl) (Nat.le_of_ble_eq_true rfl) (fun s140 h => ?_)
    refine k_iload G dX6_year_143 rfl ?_
    exact k_iret G X dX6_year_145 (Nat.le_refl _) (Nat.le_refl _) ⟨_, _, rfl, rfl, h⟩
  have hJ115 : ∀ (kL62 : Int32 → Int32 → Int32 → Int32 → Int32 → Int32 → TS → Prop) (ih62 : ∀ (x1 : Int32) (x2 : Int32) (x3 : Int32) (x4 : Int32) (x5 : Int32) (x6 : Int32) (s : TS), kL62 x1 x2 x3 x4 x5 x6 s → K D Γ 0 0 62 [(0, .ref (q 0)), (1, .int x1), (2, .int x2), (3, .int x3), (4, .int x4), (5, .int x5), (6, .int x6)] [] (tw T q s)) (x1 : Int32) (x2 : Int32) (x3 : Int32) (x4 : Int32) (x5 : Int32) (x6 : Int32) (s : TS), tw_year_J115 kL62 k x1 x2 x3 x4 x5 x6 s → K D Γ 0 0 115 [(0, .ref (q 0)), (1, .int x1), (2, .int x2), (3, .int x3), (4, .int x4), (5, .int x5), (6, .int x6)] [] (tw T q s) := by
    intro kL62 ih62 x1 x2 x3 x4 x5 x6 s h
    unfold tw_year_J115 at h
    obtain ⟨x115, e115⟩ : ∃ y : Int32, y = x6 + 1 := ⟨_, rfl⟩
    have h := h x115 e115
    refine k_iinc G [(6, .int x115), (0, .ref (q 0)), (1, .int x1), (2, .int x2), (3, .int x3), (4, .int x4), (5, .int x5)] dX6_year_115 rfl (v := x115) (by rw [e115, kc_i_1]) (Nat.le_of_ble_eq_true rfl) rfl ?_
    refine k_goto G 62 dX6_year_118 (by decide) ?_
    refine K.less [1, 2, 3, 4, 5, 6, 0] rfl ?_
    exact ih62 _ _ _ _ _ _ _ h
  have hJ109 : ∀ (kL62 : Int32 → Int32 → Int32 → Int32 → Int32 → Int32 → TS → Prop) (ih62 : ∀ (x1 : Int32) (x2 : Int32) (x3 : Int32) (x4 : Int32) (x5 : Int32) (x6 : Int32) (s : TS), kL62 x1 x2 x3 x4 x5 x6 s → K D Γ 0 0 62 [(0, .ref (q 0)), (1, .int x1), (2, .int x2), (3, .int x3), (4, .int x4), (5, .int x5), (6, .int x6)] [] (tw T q s)) (x1 : Int32) (x2 : Int32) (x3 : Int32) (x4 : Int32) (x6 : Int32) (y0 : Int32) (y1 : Int32) (s : TS), tw_year_J109 kL62 k x1 x2 x3 x4 x6 y0 y1 s → K D Γ 0 0 109 [(0, .ref (q 0)), (1, .int x1), (2, .int x2), (3, .int x3), (4, .int x4), (6, .int x6)] [.int y0, .int y1] (tw T q s) := by
    intro kL62 ih62 x1 x2 x3 x4 x6 y0 y1 s h
    unfold tw_year_J109 at h
    refine k_iadd G dX6_year_109 ?_
    refine k_nmI (fun x110 e110 => ?_)
    have h := h x110 e110
    refine k_istore G [(5, .int x110), (0, .ref (q 0)), (1, .int x1), (2, .int x2), (3, .int x3), (4, .int x4), (6, .int x6)] dX6_year_110 (Nat.le_of_ble_eq_true rfl) rfl ?_
    obtain ⟨x112, e112⟩ : ∃ y : Int32, y = x4 + 1 := ⟨_, rfl⟩
    have h := h x112 e112
    refine k_iinc G [(4, .int x112), (5, .int x110), (0, .ref (q 0)), (1, .int x1), (2, .int x2), (3, .int x3), (6, .int x6)] dX6_year_112 rfl (v := x112) (by rw [e112, kc_i_1]) (Nat.le_of_ble_eq_true rfl) rfl ?_
    refine K.less [2, 3, 4, 5, 0, 1, 6] rfl ?_
    exact hJ115 _ ih62 _ _ _ _ _ _ _ h
  have hL62 : ∀ n : Nat, ∀ (x1 : Int32) (x2 : Int32) (x3 : Int32) (x4 : Int32) (x5 : Int32) (x6 : Int32) (s : TS), (tw_year_L62 k n) x1 x2 x3 x4 x5 x6 s → K D Γ 0 0 62 [(0, .ref (q 0)), (1, .int x1), (2, .int x2), (3, .int x3), (4, .int x4), (5, .int x5), (6, .int x6)] [] (tw T q s) := by
    intro n
    induction n with
    | zero =>
      intro _ _ _ _ _ _ _ h
      exact h.elim
    | succ n ih62 =>
      intro x1 x2 x3 x4 x5 x6 s h
      unfold tw_year_L62 at h
      refine k_iload G dX6_year_62 rfl ?_
      refine k_iload_n G dX6_year_64 rfl ?_
      obtain ⟨hA, hB⟩ := h
      refine k_icmp_ge G 121 dX6_year_65 (by decide) (fun c65 => ?_) (fun c65 => ?_)
      · have h := hA c65
        clear hA hB
        refine k_iload_n G dX6_year_121 rfl ?_
        refine k_iconst G dX6_year_122 kc_i_4 ?_
        obtain ⟨hA, hB⟩ := h
        refine k_icmp_ne G 131 dX6_year_123 (by decide) (fun c123 => ?_) (fun c123 => ?_)
        · have h := hA c123
          clear hA hB
          refine k_aload_n G dX6_year_131 rfl ?_
          refine kt_get G tf_s rfl dX6_year_132 rfl ?_
          refine k_iload_n G dX6_year_135 rfl ?_
          obtain ⟨h1, h⟩ := h
          refine kt_iald G tA_1 dX6_year_136 h1 ?_
          refine K.less [0] rfl ?_
          exact hJ137 _ _ h
        · have h := hB c123
          clear hA hB
          refine k_iload G dX6_year_126 rfl ?_
          refine k_goto G 137 dX6_year_128 (by decide) ?_
          refine K.less [0] rfl ?_
          exact hJ137 _ _ h
      · have h := hB c65
        clear hA hB
        refine k_aload_n G dX6_year_68 rfl ?_
        refine kt_get G tf_s rfl dX6_year_69 rfl ?_
        refine k_iconst G dX6_year_72 kc_i_4 ?_
        obtain ⟨h1, h⟩ := h
        refine kt_iald G tA_1 dX6_year_73 h1 ?_
        refine k_iload_n G dX6_year_74 rfl ?_
        obtain ⟨h0, h⟩ := h
        refine k_irem G dX6_year_75 h0 ?_
        obtain ⟨hA, hB⟩ := h
        refine k_if_ne G 86 dX6_year_76 (by decide) (fun c76 => ?_) (fun c76 => ?_)
        · have h := hA c76
          clear hA hB
          refine k_iload G dX6_year_86 rfl ?_
          refine k_aload_n G dX6_year_88 rfl ?_
          refine k_iload G dX6_year_89 rfl ?_
          refine k_aload_n G dX6_year_91 rfl ?_
          refine kt_get G tf_s rfl dX6_year_92 rfl ?_
          refine k_iconst G dX6_year_95 kc_i_5 ?_
          obtain ⟨h1, h⟩ := h
          refine kt_iald G tA_1 dX6_year_96 h1 ?_
          obtain ⟨h0, h⟩ := h
          refine k_irem G dX6_year_97 h0 ?_
          refine kt_callI G (wk_bakes _ D T q _ _ _ h) cf_bakes q1646 dX6_year_98 rfl rfl (Nat.le_of_ble_eq_true rfl) (Nat.le_of_ble_eq_true rfl) (fun r98 s98 h => ?_)
          obtain ⟨hA, hB⟩ := h
          refine k_if_eq G 108 dX6_year_101 (by decide) (fun c101 => ?_) (fun c101 => ?_)
          · have h := hA c101
            clear hA hB
            refine k_iconst G dX6_year_108 kc_i_0 ?_
            refine K.less [0, 1, 2, 3, 4, 6] rfl ?_
            exact hJ109 _ ih62 _ _ _ _ _ _ _ _ h
          · have h := hB c101
            clear hA hB
            refine k_iconst G dX6_year_104 kc_i_1 ?_
            refine k_goto G 109 dX6_year_105 (by decide) ?_
            refine K.less [0, 1, 2, 3, 4, 6] rfl ?_
            exact hJ109 _ ih62 _ _ _ _ _ _ _ _ h
        · have h := hB c76
          clear hA hB
          refine k_aload_n G dX6_year_79 rfl ?_
          refine kt_callV G (wk_cools _ D T q _ _ h) cf_cools q1658 dX6_year_80 rfl rfl (Nat.le_of_ble_eq_true rfl) (Nat.le_of_ble_eq_true rfl) (fun s80 h => ?_)
          refine k_goto G 115 dX6_year_83 (by decide) ?_
          exact hJ115 _ ih62 _ _ _ _ _ _ _ h
  have hJ32 : ∀ (s : TS), tw_year_J32 k s → K D Γ 0 0 32 [] [] (tw T q s) := by
    intro s h
    unfold tw_year_J32 at h
    refine k_ldc_w G q1760 dX6_year_32 ?_
    exact k_iret G X dX6_year_35 (Nat.le_refl _) (Nat.le_refl _) ⟨_, _, rfl, rfl, h⟩
  refine K.less [0, 1, 2, 3] (lv' := [(0, .ref (q 0)), (1, .int x1), (2, .int x2), (3, .int x3)]) rfl ?_
  unfold tw_year at h
  refine k_iload_n G dX6_year_0 rfl ?_
  refine k_iconst G dX6_year_1 kc_i_0 ?_
  refine k_iconst G dX6_year_2 kc_i_4 ?_
  refine k_callPI G (wk_isIn _ D T _ _ _ _ h) cf_isIn q1511 dX6_year_3 rfl rfl (Nat.le_of_ble_eq_true rfl) (Nat.le_of_ble_eq_true rfl) ⟨Nat.zero_le _, Nat.zero_le _⟩ (fun r3 h => ?_)
  obtain ⟨hA, hB⟩ := h
  refine k_if_ne G 12 dX6_year_6 (by decide) (fun c6 => ?_) (fun c6 => ?_)
  · have h := hA c6
    clear hA hB
    refine k_iload_n G dX6_year_12 rfl ?_
    refine k_iconst G dX6_year_13 kc_i_0 ?_
    refine k_bipush G dX6_year_14 kc_b_60 ?_
    refine k_callPI G (wk_isIn _ D T _ _ _ _ h) cf_isIn q1511 dX6_year_16 rfl rfl (Nat.le_of_ble_eq_true rfl) (Nat.le_of_ble_eq_true rfl) ⟨Nat.zero_le _, Nat.zero_le _⟩ (fun r16 h => ?_)
    obtain ⟨hA, hB⟩ := h
    refine k_if_eq G 32 dX6_year_19 (by decide) (fun c19 => ?_) (fun c19 => ?_)
    · have h := hA c19
      clear hA hB
      refine K.less [] rfl ?_
      exact hJ32 _ h
    · have h := hB c19
      clear hA hB
      refine k_iload_n G dX6_year_22 rfl ?_
      refine k_iconst G dX6_year_23 kc_i_2 ?_
      refine k_bipush G dX6_year_24 kc_b_30 ?_
      refine k_callPI G (wk_isIn _ D T _ _ _ _ h) cf_isIn q1511 dX6_year_26 rfl rfl (Nat.le_of_ble_eq_true rfl) (Nat.le_of_ble_eq_true rfl) ⟨Nat.zero_le _, Nat.zero_le _⟩ (fun r26 h => ?_)
      obtain ⟨hA, hB⟩ := h
      refine k_if_ne G 36 dX6_year_29 (by decide) (fun c29 => ?_) (fun c29 => ?_)
      · have h := hA c29
        clear hA hB
        refine k_aload_n G dX6_year_36 rfl ?_
        refine kt_get G tf_s rfl dX6_year_37 rfl ?_
        refine k_iconst G dX6_year_40 kc_i_5 ?_
        obtain ⟨h1, h⟩ := h
        refine kt_iald G tA_1 dX6_year_41 h1 ?_
        obtain ⟨hA, hB⟩ := h
        refine k_if_ne G 49 dX6_year_42 (by decide) (fun c42 => ?_) (fun c42 => ?_)
        · have h := hA c42
          clear hA hB
          refine k_aload_n G dX6_year_49 rfl ?_
          refine kt_callV G (wk_begins _ D T q _ _ h) cf_begins q1666 dX6_year_50 rfl rfl (Nat.le_of_ble_eq_true rfl) (Nat.le_of_ble_eq_true rfl) (fun s50 h => ?_)
          refine k_iconst G dX6_year_53 kc_i_0 ?_
          refine k_istore G [(4, .int 0), (0, .ref (q 0)), (1, .int x1), (2, .int x2), (3, .int x3)] dX6_year_54 (Nat.le_of_ble_eq_true rfl) rfl ?_
          refine k_iconst G dX6_year_56 kc_i_0 ?_
          refine k_istore G [(5, .int 0), (4, .int 0), (0, .ref (q 0)), (1, .int x1), (2, .int x2), (3, .int x3)] dX6_year_57 (Nat.le_of_ble_eq_true rfl) rfl ?_
          refine k_iconst G dX6_year_59 kc_i_0 ?_
          refine k_istore G [(6, .int 0), (5, .int 0), (4, .int 0), (0, .ref (q 0)), (1, .int x1), (2, .int x2), (3, .int x3)] dX6_year_60 (Nat.le_of_ble_eq_true rfl) rfl ?_
          obtain ⟨n62, h⟩ := h
          refine K.less [3, 4, 5, 6, 2, 1, 0] rfl ?_
          exact hL62 n62 _ _ _ _ _ _ _ h
        · have h := hB c42
          clear hA hB
          refine k_ldc_w G q1761 dX6_year_45 ?_
          exact k_iret G X dX6_year_48 (Nat.le_refl _) (Nat.le_refl _) ⟨_, _, rfl, rfl, h⟩
      · have h := hB c29
        clear hA hB
        refine K.less [] rfl ?_
        exact hJ32 _ h
  · have h := hB c6
    clear hA hB
    refine k_ldc G q1739 dX6_year_9 ?_
    exact k_iret G X dX6_year_11 (Nat.le_refl _) (Nat.le_refl _) ⟨_, _, rfl, rfl, h⟩
def pb_common (c_common : Int32 → Int32 → (Int32 → Prop) → Prop) (x0 : Int32) (x1 : Int32) (k : Int32 → Prop) : Prop := (¬ x1 = 0 → ¬ x1 = 0 ∧ c_common x1 ((x0 - x0 / x1 * x1)) (fun r12 => k r12)) ∧ (x1 = 0 → k x0)
set_option maxHeartbeats 4000000 in
theorem wb_common (l : Launch) (D : va_G) (T : xT) (lev : Nat) (c_common : Int32 → Int32 → (Int32 → Prop) → Prop) (l_common : Nat) (hl_common : l_common + 1 ≤ lev) (w_common : ∀ (x0 : Int32) (x1 : Int32) (k : Int32 → Prop), c_common x0 x1 k → XM l D T yX6_common cX6_common 2 (some .int) l_common 0 0 [.int x0, .int x1] [] (ppostI k)) (x0 : Int32) (x1 : Int32) (k : Int32 → Prop) (h : pb_common c_common x0 x1 k) : XM l D T yX6_common cX6_common 2 (some .int) lev 0 0 [.int x0, .int x1] [] (ppostI k) := by
  refine XM.start (by decide +kernel) (Nat.le_of_ble_eq_true rfl) (fun Γ G X _ hl_ => ?_)
  subst hl_
  refine K.less [0, 1] (lv' := [(0, .int x0), (1, .int x1)]) rfl ?_
  unfold pb_common at h
  refine k_iload_n G dX6_common_0 rfl ?_
  obtain ⟨hA, hB⟩ := h
  refine k_if_ne G 8 dX6_common_1 (by decide) (fun c1 => ?_) (fun c1 => ?_)
  · have h := hA c1
    clear hA hB
    refine k_iload_n G dX6_common_8 rfl ?_
    refine k_iload_n G dX6_common_9 rfl ?_
    refine k_iload_n G dX6_common_10 rfl ?_
    obtain ⟨h0, h⟩ := h
    refine k_irem G dX6_common_11 h0 ?_
    refine k_callPI G (w_common _ _ _ h) cf_common q1770 dX6_common_12 rfl rfl (Nat.le_of_ble_eq_true rfl) hl_common ⟨Nat.zero_le _, Nat.zero_le _⟩ (fun r12 h => ?_)
    exact k_iret G X dX6_common_15 (Nat.le_refl _) (Nat.le_refl _) ⟨_, rfl, rfl, h⟩
  · have h := hB c1
    clear hA hB
    refine k_iload_n G dX6_common_4 rfl ?_
    refine k_goto G 15 dX6_common_5 (by decide) ?_
    exact k_iret G X dX6_common_15 (Nat.le_refl _) (Nat.le_refl _) ⟨_, rfl, rfl, h⟩
def pf_common : Nat → Int32 → Int32 → (Int32 → Prop) → Prop
  | 0, _, _, _ => False
  | n + 1, x0, x1, k => pb_common (pf_common n) x0 x1 k
theorem wf_common (l : Launch) (D : va_G) (T : xT) : ∀ (n : Nat) (x0 : Int32) (x1 : Int32) (k : Int32 → Prop), pf_common n x0 x1 k → XM l D T yX6_common cX6_common 2 (some .int) (0 + n) 0 0 [.int x0, .int x1] [] (ppostI k) := by
  intro n
  induction n with
  | zero =>
    intro _ _ _ h
    exact h.elim
  | succ n ih =>
    intro x0 x1 k h
    exact wb_common l D T (0 + (n + 1)) (pf_common n) (0 + n) (by omega) ih x0 x1 k h
def pw_common (x0 : Int32) (x1 : Int32) (k : Int32 → Prop) : Prop := pf_common 12 x0 x1 k
theorem wk_common (l : Launch) (D : va_G) (T : xT) (x0 : Int32) (x1 : Int32) (k : Int32 → Prop) (h : pw_common x0 x1 k) : XM l D T yX6_common cX6_common 2 (some .int) 12 0 0 [.int x0, .int x1] [] (ppostI k) := wf_common l D T 12 x0 x1 k h
def pw_lowest (x0 : Int32) (x1 : Int32) (x2 : Int32) (k : Int64 → Prop) : Prop := pw_common x1 x0 (fun r2 => (¬ x2 = 0 → ¬ r2 = 0 ∧ k (((x1 / r2) : Int32).toInt64)) ∧ (x2 = 0 → ¬ r2 = 0 ∧ k (((x0 / r2) : Int32).toInt64)))
set_option maxHeartbeats 4000000 in
theorem wk_lowest (l : Launch) (D : va_G) (T : xT) (x0 : Int32) (x1 : Int32) (x2 : Int32) (k : Int64 → Prop) (h : pw_lowest x0 x1 x2 k) : XM l D T yX6_lowest cX6_lowest 4 (some .long) 13 0 0 [.int x0, .int x1, .int x2] [] (ppostL k) := by
  refine XM.start (by decide +kernel) (Nat.le_of_ble_eq_true rfl) (fun Γ G X _ hl_ => ?_)
  subst hl_
  refine K.less [0, 1, 2] (lv' := [(0, .int x0), (1, .int x1), (2, .int x2)]) rfl ?_
  unfold pw_lowest at h
  refine k_iload_n G dX6_lowest_0 rfl ?_
  refine k_iload_n G dX6_lowest_1 rfl ?_
  refine k_callPI G (wk_common _ D T _ _ _ h) cf_common q1770 dX6_lowest_2 rfl rfl (Nat.le_of_ble_eq_true rfl) (Nat.le_of_ble_eq_true rfl) ⟨Nat.zero_le _, Nat.zero_le _⟩ (fun r2 h => ?_)
  refine k_istore_n G [(3, .int r2), (0, .int x0), (1, .int x1), (2, .int x2)] dX6_lowest_5 rfl (Nat.le_of_ble_eq_true rfl) rfl ?_
  refine k_iload_n G dX6_lowest_6 rfl ?_
  obtain ⟨hA, hB⟩ := h
  refine k_if_ne G 17 dX6_lowest_7 (by decide) (fun c7 => ?_) (fun c7 => ?_)
  · have h := hA c7
    clear hA hB
    refine k_iload_n G dX6_lowest_17 rfl ?_
    refine k_iload_n G dX6_lowest_18 rfl ?_
    obtain ⟨h0, h⟩ := h
    refine k_idiv G dX6_lowest_19 h0 ?_
    refine k_i2l G dX6_lowest_20 ?_
    exact k_lret G X dX6_lowest_21 (Nat.le_refl _) (Nat.le_refl _) ⟨_, rfl, rfl, h⟩
  · have h := hB c7
    clear hA hB
    refine k_iload_n G dX6_lowest_10 rfl ?_
    refine k_iload_n G dX6_lowest_11 rfl ?_
    obtain ⟨h0, h⟩ := h
    refine k_idiv G dX6_lowest_12 h0 ?_
    refine k_i2l G dX6_lowest_13 ?_
    refine k_goto G 21 dX6_lowest_14 (by decide) ?_
    exact k_lret G X dX6_lowest_21 (Nat.le_refl _) (Nat.le_refl _) ⟨_, rfl, rfl, h⟩
def tw_odds_J88 (kL36 : Int32 → Int32 → Int32 → Int32 → TS → Prop) (k : Int64 → TS → Prop) (x1 : Int32) (x2 : Int32) (x3 : Int32) (x4 : Int32) (s : TS) : Prop := ∀ x88 : Int32, x88 = x4 + 1 → kL36 x1 x2 x3 x88 s
def tw_odds_J82 (kL36 : Int32 → Int32 → Int32 → Int32 → TS → Prop) (k : Int64 → TS → Prop) (x1 : Int32) (x2 : Int32) (x4 : Int32) (y0 : Int32) (y1 : Int32) (s : TS) : Prop := ∀ x83 : Int32, x83 = (y1 + y0) → tw_ends s (fun s85 => tw_odds_J88 kL36 k x1 x2 x83 x4 s85)
def tw_odds_L36 (k : Int64 → TS → Prop) : Nat → Int32 → Int32 → Int32 → Int32 → TS → Prop
  | 0, _, _, _, _, _ => False
  | n + 1, x1, x2, x3, x4, s => vp_in 5 92 ∧ ((s.1 1 (5 : Int32).toNatClampNeg) ≤ x4 → vp_in 5 92 ∧ pw_lowest x3 (((s.1 1 (5 : Int32).toNatClampNeg) - 1)) x2 (fun r104 => k r104 s)) ∧ (¬ (s.1 1 (5 : Int32).toNatClampNeg) ≤ x4 → (¬ x4 = x1 → tw_begins s (fun s57 => tw_bakes s57 x4 (fun r63 s63 => tw_isSpoiled s63 x1 (fun r71 s71 => (r71 = 0 → tw_odds_J82 (fun x1 x2 x3 x4 s => tw_odds_L36 k n x1 x2 x3 x4 s) k x1 x2 x4 0 x3 s71) ∧ (¬ r71 = 0 → tw_odds_J82 (fun x1 x2 x3 x4 s => tw_odds_L36 k n x1 x2 x3 x4 s) k x1 x2 x4 1 x3 s71))))) ∧ (x4 = x1 → tw_odds_J88 (fun x1 x2 x3 x4 s => tw_odds_L36 k n x1 x2 x3 x4 s) k x1 x2 x3 x4 s))
def tw_odds_J27 (k : Int64 → TS → Prop) (s : TS) : Prop := k (-9223372036854775808) s
def tw_odds (s : TS) (x1 : Int32) (x2 : Int32) (k : Int64 → TS → Prop) : Prop := tw_isLoaf s x1 (fun r2 s2 => (r2 = 0 → tw_odds_J27 k s2) ∧ (¬ r2 = 0 → pw_isIn x2 0 1 (fun r11 => (r11 = 0 → tw_odds_J27 k s2) ∧ (¬ r11 = 0 → vp_in 5 92 ∧ (¬ (s2.1 1 (5 : Int32).toNatClampNeg) = 1 → ∃ n36 : Nat, tw_odds_L36 k n36 x1 x2 0 0 s2) ∧ ((s2.1 1 (5 : Int32).toNatClampNeg) = 1 → tw_odds_J27 k s2)))))
set_option maxHeartbeats 4000000 in
theorem wk_odds (l : Launch) (D : va_G) (T : xT) (q : Nat → Nat) (s : TS) (x1 : Int32) (x2 : Int32) (k : Int64 → TS → Prop) (h : tw_odds s x1 x2 k) : XM l D T yX6_odds cX6_odds 6 (some .long) 29 0 0 [.ref (q 0), .int x1, .int x2] (tw T q s) (tpostL T q k) := by
  refine XM.start (by decide +kernel) (Nat.le_of_ble_eq_true rfl) (fun Γ G X _ hl_ => ?_)
  subst hl_
  have hJ88 : ∀ (kL36 : Int32 → Int32 → Int32 → Int32 → TS → Prop) (ih36 : ∀ (x1 : Int32) (x2 : Int32) (x3 : Int32) (x4 : Int32) (s : TS), kL36 x1 x2 x3 x4 s → K D Γ 0 0 36 [(0, .ref (q 0)), (1, .int x1), (2, .int x2), (3, .int x3), (4, .int x4)] [] (tw T q s)) (x1 : Int32) (x2 : Int32) (x3 : Int32) (x4 : Int32) (s : TS), tw_odds_J88 kL36 k x1 x2 x3 x4 s → K D Γ 0 0 88 [(0, .ref (q 0)), (1, .int x1), (2, .int x2), (3, .int x3), (4, .int x4)] [] (tw T q s) := by
    intro kL36 ih36 x1 x2 x3 x4 s h
    unfold tw_odds_J88 at h
    obtain ⟨x88, e88⟩ : ∃ y : Int32, y = x4 + 1 := ⟨_, rfl⟩
    have h := h x88 e88
    refine k_iinc G [(4, .int x88), (0, .ref (q 0)), (1, .int x1), (2, .int x2), (3, .int x3)] dX6_odds_88 rfl (v := x88) (by rw [e88, kc_i_1]) (Nat.le_of_ble_eq_true rfl) rfl ?_
    refine k_goto G 36 dX6_odds_91 (by decide) ?_
    refine K.less [1, 2, 3, 4, 0] rfl ?_
    exact ih36 _ _ _ _ _ h
  have hJ82 : ∀ (kL36 : Int32 → Int32 → Int32 → Int32 → TS → Prop) (ih36 : ∀ (x1 : Int32) (x2 : Int32) (x3 : Int32) (x4 : Int32) (s : TS), kL36 x1 x2 x3 x4 s → K D Γ 0 0 36 [(0, .ref (q 0)), (1, .int x1), (2, .int x2), (3, .int x3), (4, .int x4)] [] (tw T q s)) (x1 : Int32) (x2 : Int32) (x4 : Int32) (y0 : Int32) (y1 : Int32) (s : TS), tw_odds_J82 kL36 k x1 x2 x4 y0 y1 s → K D Γ 0 0 82 [(0, .ref (q 0)), (1, .int x1), (2, .int x2), (4, .int x4)] [.int y0, .int y1] (tw T q s) := by
    intro kL36 ih36 x1 x2 x4 y0 y1 s h
    unfold tw_odds_J82 at h
    refine k_iadd G dX6_odds_82 ?_
    refine k_nmI (fun x83 e83 => ?_)
    have h := h x83 e83
    refine k_istore_n G [(3, .int x83), (0, .ref (q 0)), (1, .int x1), (2, .int x2), (4, .int x4)] dX6_odds_83 rfl (Nat.le_of_ble_eq_true rfl) rfl ?_
    refine k_aload_n G dX6_odds_84 rfl ?_
    refine kt_callV G (wk_ends _ D T q _ _ h) cf_ends q1673 dX6_odds_85 rfl rfl (Nat.le_of_ble_eq_true rfl) (Nat.le_of_ble_eq_true rfl) (fun s85 h => ?_)
    refine K.less [1, 2, 3, 0, 4] rfl ?_
    exact hJ88 _ ih36 _ _ _ _ _ h
  have hL36 : ∀ n : Nat, ∀ (x1 : Int32) (x2 : Int32) (x3 : Int32) (x4 : Int32) (s : TS), (tw_odds_L36 k n) x1 x2 x3 x4 s → K D Γ 0 0 36 [(0, .ref (q 0)), (1, .int x1), (2, .int x2), (3, .int x3), (4, .int x4)] [] (tw T q s) := by
    intro n
    induction n with
    | zero =>
      intro _ _ _ _ _ h
      exact h.elim
    | succ n ih36 =>
      intro x1 x2 x3 x4 s h
      unfold tw_odds_L36 at h
      refine k_iload G dX6_odds_36 rfl ?_
      refine k_aload_n G dX6_odds_38 rfl ?_
      refine kt_get G tf_s rfl dX6_odds_39 rfl ?_
      refine k_iconst G dX6_odds_42 kc_i_5 ?_
      obtain ⟨h1, h⟩ := h
      refine kt_iald G tA_1 dX6_odds_43 h1 ?_
      obtain ⟨hA, hB⟩ := h
      refine k_icmp_ge G 94 dX6_odds_44 (by decide) (fun c44 => ?_) (fun c44 => ?_)
      · have h := hA c44
        clear hA hB
        refine k_iload_n G dX6_odds_94 rfl ?_
        refine k_aload_n G dX6_odds_95 rfl ?_
        refine kt_get G tf_s rfl dX6_odds_96 rfl ?_
        refine k_iconst G dX6_odds_99 kc_i_5 ?_
        obtain ⟨h1, h⟩ := h
        refine kt_iald G tA_1 dX6_odds_100 h1 ?_
        refine k_iconst G dX6_odds_101 kc_i_1 ?_
        refine k_isub G dX6_odds_102 ?_
        refine k_iload_n G dX6_odds_103 rfl ?_
        refine k_callPL G (wk_lowest _ D T _ _ _ _ h) cf_lowest q1767 dX6_odds_104 rfl rfl (Nat.le_of_ble_eq_true rfl) (Nat.le_of_ble_eq_true rfl) ⟨Nat.zero_le _, Nat.zero_le _⟩ (fun r104 h => ?_)
        exact k_lret G X dX6_odds_107 (Nat.le_refl _) (Nat.le_refl _) ⟨_, _, rfl, rfl, h⟩
      · have h := hB c44
        clear hA hB
        refine k_iload G dX6_odds_47 rfl ?_
        refine k_iload_n G dX6_odds_49 rfl ?_
        obtain ⟨hA, hB⟩ := h
        refine k_icmp_ne G 56 dX6_odds_50 (by decide) (fun c50 => ?_) (fun c50 => ?_)
        · have h := hA c50
          clear hA hB
          refine k_aload_n G dX6_odds_56 rfl ?_
          refine kt_callV G (wk_begins _ D T q _ _ h) cf_begins q1666 dX6_odds_57 rfl rfl (Nat.le_of_ble_eq_true rfl) (Nat.le_of_ble_eq_true rfl) (fun s57 h => ?_)
          refine k_aload_n G dX6_odds_60 rfl ?_
          refine k_iload G dX6_odds_61 rfl ?_
          refine kt_callI G (wk_bakes _ D T q _ _ _ h) cf_bakes q1646 dX6_odds_63 rfl rfl (Nat.le_of_ble_eq_true rfl) (Nat.le_of_ble_eq_true rfl) (fun r63 s63 h => ?_)
          refine k_istore G [(5, .int r63), (0, .ref (q 0)), (1, .int x1), (2, .int x2), (3, .int x3), (4, .int x4)] dX6_odds_66 (Nat.le_of_ble_eq_true rfl) rfl ?_
          refine k_iload_n G dX6_odds_68 rfl ?_
          refine k_aload_n G dX6_odds_69 rfl ?_
          refine k_iload_n G dX6_odds_70 rfl ?_
          refine kt_callI G (wk_isSpoiled _ D T q _ _ _ h) cf_isSpoiled q1614 dX6_odds_71 rfl rfl (Nat.le_of_ble_eq_true rfl) (Nat.le_of_ble_eq_true rfl) (fun r71 s71 h => ?_)
          obtain ⟨hA, hB⟩ := h
          refine k_if_eq G 81 dX6_odds_74 (by decide) (fun c74 => ?_) (fun c74 => ?_)
          · have h := hA c74
            clear hA hB
            refine k_iconst G dX6_odds_81 kc_i_0 ?_
            refine K.less [1, 2, 3, 5] rfl ?_
            exact hJ82 _ ih36 _ _ _ _ _ _ h
          · have h := hB c74
            clear hA hB
            refine k_iconst G dX6_odds_77 kc_i_1 ?_
            refine k_goto G 82 dX6_odds_78 (by decide) ?_
            refine K.less [1, 2, 3, 5] rfl ?_
            exact hJ82 _ ih36 _ _ _ _ _ _ h
        · have h := hB c50
          clear hA hB
          refine k_goto G 88 dX6_odds_53 (by decide) ?_
          exact hJ88 _ ih36 _ _ _ _ _ h
  have hJ27 : ∀ (s : TS), tw_odds_J27 k s → K D Γ 0 0 27 [] [] (tw T q s) := by
    intro s h
    unfold tw_odds_J27 at h
    refine k_ldc2 G q1766 dX6_odds_27 ?_
    exact k_lret G X dX6_odds_30 (Nat.le_refl _) (Nat.le_refl _) ⟨_, _, rfl, rfl, h⟩
  refine K.less [0, 1, 2] (lv' := [(0, .ref (q 0)), (1, .int x1), (2, .int x2)]) rfl ?_
  unfold tw_odds at h
  refine k_aload_n G dX6_odds_0 rfl ?_
  refine k_iload_n G dX6_odds_1 rfl ?_
  refine kt_callI G (wk_isLoaf _ D T q _ _ _ h) cf_isLoaf q1595 dX6_odds_2 rfl rfl (Nat.le_of_ble_eq_true rfl) (Nat.le_of_ble_eq_true rfl) (fun r2 s2 h => ?_)
  obtain ⟨hA, hB⟩ := h
  refine k_if_eq G 27 dX6_odds_5 (by decide) (fun c5 => ?_) (fun c5 => ?_)
  · have h := hA c5
    clear hA hB
    refine K.less [] rfl ?_
    exact hJ27 _ h
  · have h := hB c5
    clear hA hB
    refine k_iload_n G dX6_odds_8 rfl ?_
    refine k_iconst G dX6_odds_9 kc_i_0 ?_
    refine k_iconst G dX6_odds_10 kc_i_1 ?_
    refine k_callPI G (wk_isIn _ D T _ _ _ _ h) cf_isIn q1511 dX6_odds_11 rfl rfl (Nat.le_of_ble_eq_true rfl) (Nat.le_of_ble_eq_true rfl) ⟨Nat.zero_le _, Nat.zero_le _⟩ (fun r11 h => ?_)
    obtain ⟨hA, hB⟩ := h
    refine k_if_eq G 27 dX6_odds_14 (by decide) (fun c14 => ?_) (fun c14 => ?_)
    · have h := hA c14
      clear hA hB
      refine K.less [] rfl ?_
      exact hJ27 _ h
    · have h := hB c14
      clear hA hB
      refine k_aload_n G dX6_odds_17 rfl ?_
      refine kt_get G tf_s rfl dX6_odds_18 rfl ?_
      refine k_iconst G dX6_odds_21 kc_i_5 ?_
      obtain ⟨h1, h⟩ := h
      refine kt_iald G tA_1 dX6_odds_22 h1 ?_
      refine k_iconst G dX6_odds_23 kc_i_1 ?_
      obtain ⟨hA, hB⟩ := h
      refine k_icmp_ne G 31 dX6_odds_24 (by decide) (fun c24 => ?_) (fun c24 => ?_)
      · have h := hA c24
        clear hA hB
        refine k_iconst G dX6_odds_31 kc_i_0 ?_
        refine k_istore_n G [(3, .int 0), (0, .ref (q 0)), (1, .int x1), (2, .int x2)] dX6_odds_32 rfl (Nat.le_of_ble_eq_true rfl) rfl ?_
        refine k_iconst G dX6_odds_33 kc_i_0 ?_
        refine k_istore G [(4, .int 0), (3, .int 0), (0, .ref (q 0)), (1, .int x1), (2, .int x2)] dX6_odds_34 (Nat.le_of_ble_eq_true rfl) rfl ?_
        obtain ⟨n36, h⟩ := h
        refine K.less [2, 3, 4, 1, 0] rfl ?_
        exact hL36 n36 _ _ _ _ _ h
      · have h := hB c24
        clear hA hB
        refine K.less [] rfl ?_
        exact hJ27 _ h
def tw_mean_L34 (k : Int64 → TS → Prop) : Nat → Int32 → Int32 → Int32 → Int32 → TS → Prop
  | 0, _, _, _, _, _ => False
  | n + 1, x1, x2, x3, x4, s => vp_in 5 92 ∧ ((s.1 1 (5 : Int32).toNatClampNeg) ≤ x4 → vp_in 5 92 ∧ pw_lowest x3 ((s.1 1 (5 : Int32).toNatClampNeg)) x2 (fun r69 => k r69 s)) ∧ (¬ (s.1 1 (5 : Int32).toNatClampNeg) ≤ x4 → tw_takesOf s x4 x1 (fun r50 s50 => ∀ x54 : Int32, x54 = (x3 + r50) → ∀ x55 : Int32, x55 = x4 + 1 → tw_mean_L34 k n x1 x2 x54 x55 s50))
def tw_mean_J25 (k : Int64 → TS → Prop) (s : TS) : Prop := k (-9223372036854775808) s
def tw_mean (s : TS) (x1 : Int32) (x2 : Int32) (k : Int64 → TS → Prop) : Prop := pw_isTaste x1 (fun r1 => (r1 = 0 → tw_mean_J25 k s) ∧ (¬ r1 = 0 → pw_isIn x2 0 1 (fun r10 => (r10 = 0 → tw_mean_J25 k s) ∧ (¬ r10 = 0 → vp_in 5 92 ∧ (¬ (s.1 1 (5 : Int32).toNatClampNeg) = 0 → ∃ n34 : Nat, tw_mean_L34 k n34 x1 x2 0 0 s) ∧ ((s.1 1 (5 : Int32).toNatClampNeg) = 0 → tw_mean_J25 k s)))))
set_option maxHeartbeats 4000000 in
theorem wk_mean (l : Launch) (D : va_G) (T : xT) (q : Nat → Nat) (s : TS) (x1 : Int32) (x2 : Int32) (k : Int64 → TS → Prop) (h : tw_mean s x1 x2 k) : XM l D T yX6_mean cX6_mean 5 (some .long) 27 0 0 [.ref (q 0), .int x1, .int x2] (tw T q s) (tpostL T q k) := by
  refine XM.start (by decide +kernel) (Nat.le_of_ble_eq_true rfl) (fun Γ G X _ hl_ => ?_)
  subst hl_
  have hL34 : ∀ n : Nat, ∀ (x1 : Int32) (x2 : Int32) (x3 : Int32) (x4 : Int32) (s : TS), (tw_mean_L34 k n) x1 x2 x3 x4 s → K D Γ 0 0 34 [(0, .ref (q 0)), (1, .int x1), (2, .int x2), (3, .int x3), (4, .int x4)] [] (tw T q s) := by
    intro n
    induction n with
    | zero =>
      intro _ _ _ _ _ h
      exact h.elim
    | succ n ih34 =>
      intro x1 x2 x3 x4 s h
      unfold tw_mean_L34 at h
      refine k_iload G dX6_mean_34 rfl ?_
      refine k_aload_n G dX6_mean_36 rfl ?_
      refine kt_get G tf_s rfl dX6_mean_37 rfl ?_
      refine k_iconst G dX6_mean_40 kc_i_5 ?_
      obtain ⟨h1, h⟩ := h
      refine kt_iald G tA_1 dX6_mean_41 h1 ?_
      obtain ⟨hA, hB⟩ := h
      refine k_icmp_ge G 61 dX6_mean_42 (by decide) (fun c42 => ?_) (fun c42 => ?_)
      · have h := hA c42
        clear hA hB
        refine k_iload_n G dX6_mean_61 rfl ?_
        refine k_aload_n G dX6_mean_62 rfl ?_
        refine kt_get G tf_s rfl dX6_mean_63 rfl ?_
        refine k_iconst G dX6_mean_66 kc_i_5 ?_
        obtain ⟨h1, h⟩ := h
        refine kt_iald G tA_1 dX6_mean_67 h1 ?_
        refine k_iload_n G dX6_mean_68 rfl ?_
        refine k_callPL G (wk_lowest _ D T _ _ _ _ h) cf_lowest q1767 dX6_mean_69 rfl rfl (Nat.le_of_ble_eq_true rfl) (Nat.le_of_ble_eq_true rfl) ⟨Nat.zero_le _, Nat.zero_le _⟩ (fun r69 h => ?_)
        exact k_lret G X dX6_mean_72 (Nat.le_refl _) (Nat.le_refl _) ⟨_, _, rfl, rfl, h⟩
      · have h := hB c42
        clear hA hB
        refine k_iload_n G dX6_mean_45 rfl ?_
        refine k_aload_n G dX6_mean_46 rfl ?_
        refine k_iload G dX6_mean_47 rfl ?_
        refine k_iload_n G dX6_mean_49 rfl ?_
        refine kt_callI G (wk_takesOf _ D T q _ _ _ _ h) cf_takesOf q1618 dX6_mean_50 rfl rfl (Nat.le_of_ble_eq_true rfl) (Nat.le_of_ble_eq_true rfl) (fun r50 s50 h => ?_)
        refine k_iadd G dX6_mean_53 ?_
        refine k_nmI (fun x54 e54 => ?_)
        have h := h x54 e54
        refine k_istore_n G [(3, .int x54), (0, .ref (q 0)), (1, .int x1), (2, .int x2), (4, .int x4)] dX6_mean_54 rfl (Nat.le_of_ble_eq_true rfl) rfl ?_
        obtain ⟨x55, e55⟩ : ∃ y : Int32, y = x4 + 1 := ⟨_, rfl⟩
        have h := h x55 e55
        refine k_iinc G [(4, .int x55), (3, .int x54), (0, .ref (q 0)), (1, .int x1), (2, .int x2)] dX6_mean_55 rfl (v := x55) (by rw [e55, kc_i_1]) (Nat.le_of_ble_eq_true rfl) rfl ?_
        refine k_goto G 34 dX6_mean_58 (by decide) ?_
        refine K.less [2, 3, 4, 1, 0] rfl ?_
        exact ih34 _ _ _ _ _ h
  have hJ25 : ∀ (s : TS), tw_mean_J25 k s → K D Γ 0 0 25 [] [] (tw T q s) := by
    intro s h
    unfold tw_mean_J25 at h
    refine k_ldc2 G q1766 dX6_mean_25 ?_
    exact k_lret G X dX6_mean_28 (Nat.le_refl _) (Nat.le_refl _) ⟨_, _, rfl, rfl, h⟩
  refine K.less [0, 1, 2] (lv' := [(0, .ref (q 0)), (1, .int x1), (2, .int x2)]) rfl ?_
  unfold tw_mean at h
  refine k_iload_n G dX6_mean_0 rfl ?_
  refine k_callPI G (wk_isTaste _ D T _ _ h) cf_isTaste q1599 dX6_mean_1 rfl rfl (Nat.le_of_ble_eq_true rfl) (Nat.le_of_ble_eq_true rfl) ⟨Nat.zero_le _, Nat.zero_le _⟩ (fun r1 h => ?_)
  obtain ⟨hA, hB⟩ := h
  refine k_if_eq G 25 dX6_mean_4 (by decide) (fun c4 => ?_) (fun c4 => ?_)
  · have h := hA c4
    clear hA hB
    refine K.less [] rfl ?_
    exact hJ25 _ h
  · have h := hB c4
    clear hA hB
    refine k_iload_n G dX6_mean_7 rfl ?_
    refine k_iconst G dX6_mean_8 kc_i_0 ?_
    refine k_iconst G dX6_mean_9 kc_i_1 ?_
    refine k_callPI G (wk_isIn _ D T _ _ _ _ h) cf_isIn q1511 dX6_mean_10 rfl rfl (Nat.le_of_ble_eq_true rfl) (Nat.le_of_ble_eq_true rfl) ⟨Nat.zero_le _, Nat.zero_le _⟩ (fun r10 h => ?_)
    obtain ⟨hA, hB⟩ := h
    refine k_if_eq G 25 dX6_mean_13 (by decide) (fun c13 => ?_) (fun c13 => ?_)
    · have h := hA c13
      clear hA hB
      refine K.less [] rfl ?_
      exact hJ25 _ h
    · have h := hB c13
      clear hA hB
      refine k_aload_n G dX6_mean_16 rfl ?_
      refine kt_get G tf_s rfl dX6_mean_17 rfl ?_
      refine k_iconst G dX6_mean_20 kc_i_5 ?_
      obtain ⟨h1, h⟩ := h
      refine kt_iald G tA_1 dX6_mean_21 h1 ?_
      obtain ⟨hA, hB⟩ := h
      refine k_if_ne G 29 dX6_mean_22 (by decide) (fun c22 => ?_) (fun c22 => ?_)
      · have h := hA c22
        clear hA hB
        refine k_iconst G dX6_mean_29 kc_i_0 ?_
        refine k_istore_n G [(3, .int 0), (0, .ref (q 0)), (1, .int x1), (2, .int x2)] dX6_mean_30 rfl (Nat.le_of_ble_eq_true rfl) rfl ?_
        refine k_iconst G dX6_mean_31 kc_i_0 ?_
        refine k_istore G [(4, .int 0), (3, .int 0), (0, .ref (q 0)), (1, .int x1), (2, .int x2)] dX6_mean_32 (Nat.le_of_ble_eq_true rfl) rfl ?_
        obtain ⟨n34, h⟩ := h
        refine K.less [2, 3, 4, 1, 0] rfl ?_
        exact hL34 n34 _ _ _ _ _ h
      · have h := hB c22
        clear hA hB
        refine K.less [] rfl ?_
        exact hJ25 _ h
def tw_book_J91 (k : Int32 → TS → Prop) (y0 : Int32) (y1 : Int32) (s : TS) : Prop := vp_in y1 92 ∧ ∀ w99 : TS, w99 = (sA s 1 (y1 : Int32).toNatClampNeg y0) → vp_in 7 92 ∧ vp_in 7 92 ∧ ∀ w109 : TS, w109 = (sA w99 1 (7 : Int32).toNatClampNeg ((w99.1 1 (7 : Int32).toNatClampNeg) + 1)) → vp_in 7 92 ∧ k ((w109.1 1 (7 : Int32).toNatClampNeg)) w109
def tw_book_J31 (k : Int32 → TS → Prop) (x1 : Int32) (x2 : Int32) (s : TS) : Prop := vp_in 7 92 ∧ (¬ (s.1 1 (7 : Int32).toNatClampNeg) = 12 → vp_in 7 92 ∧ vp_in (68 + (2 * (s.1 1 (7 : Int32).toNatClampNeg))) 92 ∧ ∀ w77 : TS, w77 = (sA s 1 ((68 + (2 * (s.1 1 (7 : Int32).toNatClampNeg))) : Int32).toNatClampNeg x1) → vp_in 7 92 ∧ (x2 = 0 → tw_book_J91 k 0 (((68 + (2 * (w77.1 1 (7 : Int32).toNatClampNeg))) + 1)) w77) ∧ (¬ x2 = 0 → tw_book_J91 k 1 (((68 + (2 * (w77.1 1 (7 : Int32).toNatClampNeg))) + 1)) w77)) ∧ ((s.1 1 (7 : Int32).toNatClampNeg) = 12 → k (-4) s)
def tw_book (s : TS) (x1 : Int32) (x2 : Int32) (k : Int32 → TS → Prop) : Prop := (¬ x1 = (-1) → (x1 = (-2) → tw_book_J31 k x1 x2 s) ∧ (¬ x1 = (-2) → tw_isLoaf s x1 (fun r23 s23 => (¬ r23 = 0 → tw_book_J31 k x1 x2 s23) ∧ (r23 = 0 → k (-1) s23)))) ∧ (x1 = (-1) → vp_in 7 92 ∧ k 0 ((sA s 1 (7 : Int32).toNatClampNeg 0)))
set_option maxHeartbeats 4000000 in
theorem wk_book (l : Launch) (D : va_G) (T : xT) (q : Nat → Nat) (s : TS) (x1 : Int32) (x2 : Int32) (k : Int32 → TS → Prop) (h : tw_book s x1 x2 k) : XM l D T yX6_book cX6_book 3 (some .int) 3 0 0 [.ref (q 0), .int x1, .int x2] (tw T q s) (tpostI T q k) := by
  refine XM.start (by decide +kernel) (Nat.le_of_ble_eq_true rfl) (fun Γ G X _ hl_ => ?_)
  subst hl_
  have hJ91 : ∀ (y0 : Int32) (y1 : Int32) (s : TS), tw_book_J91 k y0 y1 s → K D Γ 0 0 91 [(0, .ref (q 0))] [.int y0, .int y1, .ref (q 1)] (tw T q s) := by
    intro y0 y1 s h
    unfold tw_book_J91 at h
    obtain ⟨h1, h⟩ := h
    refine kt_iast G tA_1 dX6_book_91 h1 ?_
    refine k_aload_n G dX6_book_92 rfl ?_
    refine kt_get G tf_s rfl dX6_book_93 rfl ?_
    refine k_bipush G dX6_book_96 kc_b_7 ?_
    refine k_dup2 G dX6_book_98 rfl rfl ?_
    refine kt_nmW (fun w99 ew99 => ?_)
    have h := h w99 ew99
    obtain ⟨h1, h⟩ := h
    refine kt_iald G tA_1 dX6_book_99 h1 ?_
    refine k_iconst G dX6_book_100 kc_i_1 ?_
    refine k_iadd G dX6_book_101 ?_
    obtain ⟨h1, h⟩ := h
    refine kt_iast G tA_1 dX6_book_102 h1 ?_
    refine k_aload_n G dX6_book_103 rfl ?_
    refine kt_get G tf_s rfl dX6_book_104 rfl ?_
    refine k_bipush G dX6_book_107 kc_b_7 ?_
    refine kt_nmW (fun w109 ew109 => ?_)
    have h := h w109 ew109
    obtain ⟨h1, h⟩ := h
    refine kt_iald G tA_1 dX6_book_109 h1 ?_
    exact k_iret G X dX6_book_110 (Nat.le_refl _) (Nat.le_refl _) ⟨_, _, rfl, rfl, h⟩
  have hJ31 : ∀ (x1 : Int32) (x2 : Int32) (s : TS), tw_book_J31 k x1 x2 s → K D Γ 0 0 31 [(0, .ref (q 0)), (1, .int x1), (2, .int x2)] [] (tw T q s) := by
    intro x1 x2 s h
    unfold tw_book_J31 at h
    refine k_aload_n G dX6_book_31 rfl ?_
    refine kt_get G tf_s rfl dX6_book_32 rfl ?_
    refine k_bipush G dX6_book_35 kc_b_7 ?_
    obtain ⟨h1, h⟩ := h
    refine kt_iald G tA_1 dX6_book_37 h1 ?_
    refine k_bipush G dX6_book_38 kc_b_12 ?_
    obtain ⟨hA, hB⟩ := h
    refine k_icmp_ne G 46 dX6_book_40 (by decide) (fun c40 => ?_) (fun c40 => ?_)
    · have h := hA c40
      clear hA hB
      refine k_aload_n G dX6_book_46 rfl ?_
      refine kt_get G tf_s rfl dX6_book_47 rfl ?_
      refine k_bipush G dX6_book_50 kc_b_68 ?_
      refine k_iconst G dX6_book_52 kc_i_2 ?_
      refine k_aload_n G dX6_book_53 rfl ?_
      refine kt_get G tf_s rfl dX6_book_54 rfl ?_
      refine k_bipush G dX6_book_57 kc_b_7 ?_
      obtain ⟨h1, h⟩ := h
      refine kt_iald G tA_1 dX6_book_59 h1 ?_
      refine k_imul G dX6_book_60 ?_
      refine k_iadd G dX6_book_61 ?_
      refine k_iload_n G dX6_book_62 rfl ?_
      obtain ⟨h1, h⟩ := h
      refine kt_iast G tA_1 dX6_book_63 h1 ?_
      refine k_aload_n G dX6_book_64 rfl ?_
      refine kt_get G tf_s rfl dX6_book_65 rfl ?_
      refine k_bipush G dX6_book_68 kc_b_68 ?_
      refine k_iconst G dX6_book_70 kc_i_2 ?_
      refine k_aload_n G dX6_book_71 rfl ?_
      refine kt_get G tf_s rfl dX6_book_72 rfl ?_
      refine k_bipush G dX6_book_75 kc_b_7 ?_
      refine kt_nmW (fun w77 ew77 => ?_)
      have h := h w77 ew77
      obtain ⟨h1, h⟩ := h
      refine kt_iald G tA_1 dX6_book_77 h1 ?_
      refine k_imul G dX6_book_78 ?_
      refine k_iadd G dX6_book_79 ?_
      refine k_iconst G dX6_book_80 kc_i_1 ?_
      refine k_iadd G dX6_book_81 ?_
      refine k_iload_n G dX6_book_82 rfl ?_
      obtain ⟨hA, hB⟩ := h
      refine k_if_eq G 90 dX6_book_83 (by decide) (fun c83 => ?_) (fun c83 => ?_)
      · have h := hA c83
        clear hA hB
        refine k_iconst G dX6_book_90 kc_i_0 ?_
        refine K.less [0] rfl ?_
        exact hJ91 _ _ _ h
      · have h := hB c83
        clear hA hB
        refine k_iconst G dX6_book_86 kc_i_1 ?_
        refine k_goto G 91 dX6_book_87 (by decide) ?_
        refine K.less [0] rfl ?_
        exact hJ91 _ _ _ h
    · have h := hB c40
      clear hA hB
      refine k_bipush G dX6_book_43 kc_b_m4 ?_
      exact k_iret G X dX6_book_45 (Nat.le_refl _) (Nat.le_refl _) ⟨_, _, rfl, rfl, h⟩
  refine K.less [0, 1, 2] (lv' := [(0, .ref (q 0)), (1, .int x1), (2, .int x2)]) rfl ?_
  unfold tw_book at h
  refine k_iload_n G dX6_book_0 rfl ?_
  refine k_iconst G dX6_book_1 kc_i_m1 ?_
  obtain ⟨hA, hB⟩ := h
  refine k_icmp_ne G 15 dX6_book_2 (by decide) (fun c2 => ?_) (fun c2 => ?_)
  · have h := hA c2
    clear hA hB
    refine k_iload_n G dX6_book_15 rfl ?_
    refine k_bipush G dX6_book_16 kc_b_m2 ?_
    obtain ⟨hA, hB⟩ := h
    refine k_icmp_eq G 31 dX6_book_18 (by decide) (fun c18 => ?_) (fun c18 => ?_)
    · have h := hA c18
      clear hA hB
      exact hJ31 _ _ _ h
    · have h := hB c18
      clear hA hB
      refine k_aload_n G dX6_book_21 rfl ?_
      refine k_iload_n G dX6_book_22 rfl ?_
      refine kt_callI G (wk_isLoaf _ D T q _ _ _ h) cf_isLoaf q1595 dX6_book_23 rfl rfl (Nat.le_of_ble_eq_true rfl) (Nat.le_of_ble_eq_true rfl) (fun r23 s23 h => ?_)
      obtain ⟨hA, hB⟩ := h
      refine k_if_ne G 31 dX6_book_26 (by decide) (fun c26 => ?_) (fun c26 => ?_)
      · have h := hA c26
        clear hA hB
        exact hJ31 _ _ _ h
      · have h := hB c26
        clear hA hB
        refine k_iconst G dX6_book_29 kc_i_m1 ?_
        exact k_iret G X dX6_book_30 (Nat.le_refl _) (Nat.le_refl _) ⟨_, _, rfl, rfl, h⟩
  · have h := hB c2
    clear hA hB
    refine k_aload_n G dX6_book_5 rfl ?_
    refine kt_get G tf_s rfl dX6_book_6 rfl ?_
    refine k_bipush G dX6_book_9 kc_b_7 ?_
    refine k_iconst G dX6_book_11 kc_i_0 ?_
    obtain ⟨h1, h⟩ := h
    refine kt_iast G tA_1 dX6_book_12 h1 ?_
    refine k_iconst G dX6_book_13 kc_i_0 ?_
    exact k_iret G X dX6_book_14 (Nat.le_refl _) (Nat.le_refl _) ⟨_, _, rfl, rfl, h⟩
def tw_isBookedSo_J34 (k : Int32 → TS → Prop) (x2 : Int32) (y0 : Int32) (s : TS) : Prop := (x2 < 0 → tw_cools s (fun s55 => (¬ y0 = 0 → k 0 s55) ∧ (y0 = 0 → k 1 s55))) ∧ (¬ x2 < 0 → tw_bakes s x2 (fun r41 s41 => (¬ r41 = y0 → k 0 s41) ∧ (r41 = y0 → k 1 s41)))
def tw_isBookedSo (s : TS) (x1 : Int32) (k : Int32 → TS → Prop) : Prop := vp_in (68 + (2 * x1)) 92 ∧ ∀ x11 : Int32, x11 = (s.1 1 ((68 + (2 * x1)) : Int32).toNatClampNeg) → vp_in ((68 + (2 * x1)) + 1) 92 ∧ (¬ (s.1 1 (((68 + (2 * x1)) + 1) : Int32).toNatClampNeg) = 1 → tw_isBookedSo_J34 k x11 0 s) ∧ ((s.1 1 (((68 + (2 * x1)) + 1) : Int32).toNatClampNeg) = 1 → tw_isBookedSo_J34 k x11 1 s)
set_option maxHeartbeats 4000000 in
theorem wk_isBookedSo (l : Launch) (D : va_G) (T : xT) (q : Nat → Nat) (s : TS) (x1 : Int32) (k : Int32 → TS → Prop) (h : tw_isBookedSo s x1 k) : XM l D T yX6_isBookedSo cX6_isBookedSo 4 (some .boolean) 29 0 0 [.ref (q 0), .int x1] (tw T q s) (tpostI T q k) := by
  refine XM.start (by decide +kernel) (Nat.le_of_ble_eq_true rfl) (fun Γ G X _ hl_ => ?_)
  subst hl_
  have hJ34 : ∀ (x2 : Int32) (y0 : Int32) (s : TS), tw_isBookedSo_J34 k x2 y0 s → K D Γ 0 0 34 [(0, .ref (q 0)), (2, .int x2)] [.int y0] (tw T q s) := by
    intro x2 y0 s h
    unfold tw_isBookedSo_J34 at h
    refine k_istore_n G [(3, .int y0), (0, .ref (q 0)), (2, .int x2)] dX6_isBookedSo_34 rfl (Nat.le_of_ble_eq_true rfl) rfl ?_
    refine k_iload_n G dX6_isBookedSo_35 rfl ?_
    obtain ⟨hA, hB⟩ := h
    refine k_if_lt G 54 dX6_isBookedSo_36 (by decide) (fun c36 => ?_) (fun c36 => ?_)
    · have h := hA c36
      clear hA hB
      refine k_aload_n G dX6_isBookedSo_54 rfl ?_
      refine kt_callV G (wk_cools _ D T q _ _ h) cf_cools q1658 dX6_isBookedSo_55 rfl rfl (Nat.le_of_ble_eq_true rfl) (Nat.le_of_ble_eq_true rfl) (fun s55 h => ?_)
      refine k_iload_n G dX6_isBookedSo_58 rfl ?_
      obtain ⟨hA, hB⟩ := h
      refine k_if_ne G 66 dX6_isBookedSo_59 (by decide) (fun c59 => ?_) (fun c59 => ?_)
      · have h := hA c59
        clear hA hB
        refine k_iconst G dX6_isBookedSo_66 kc_i_0 ?_
        exact k_zret G X (Or.inl rfl) dX6_isBookedSo_67 (Nat.le_refl _) (Nat.le_refl _) ⟨_, _, rfl, rfl, h⟩
      · have h := hB c59
        clear hA hB
        refine k_iconst G dX6_isBookedSo_62 kc_i_1 ?_
        refine k_goto G 67 dX6_isBookedSo_63 (by decide) ?_
        exact k_zret G X (Or.inr rfl) dX6_isBookedSo_67 (Nat.le_refl _) (Nat.le_refl _) ⟨_, _, rfl, rfl, h⟩
    · have h := hB c36
      clear hA hB
      refine k_aload_n G dX6_isBookedSo_39 rfl ?_
      refine k_iload_n G dX6_isBookedSo_40 rfl ?_
      refine kt_callI G (wk_bakes _ D T q _ _ _ h) cf_bakes q1646 dX6_isBookedSo_41 rfl rfl (Nat.le_of_ble_eq_true rfl) (Nat.le_of_ble_eq_true rfl) (fun r41 s41 h => ?_)
      refine k_iload_n G dX6_isBookedSo_44 rfl ?_
      obtain ⟨hA, hB⟩ := h
      refine k_icmp_ne G 52 dX6_isBookedSo_45 (by decide) (fun c45 => ?_) (fun c45 => ?_)
      · have h := hA c45
        clear hA hB
        refine k_iconst G dX6_isBookedSo_52 kc_i_0 ?_
        exact k_zret G X (Or.inl rfl) dX6_isBookedSo_53 (Nat.le_refl _) (Nat.le_refl _) ⟨_, _, rfl, rfl, h⟩
      · have h := hB c45
        clear hA hB
        refine k_iconst G dX6_isBookedSo_48 kc_i_1 ?_
        refine k_goto G 53 dX6_isBookedSo_49 (by decide) ?_
        exact k_zret G X (Or.inr rfl) dX6_isBookedSo_53 (Nat.le_refl _) (Nat.le_refl _) ⟨_, _, rfl, rfl, h⟩
  refine K.less [0, 1] (lv' := [(0, .ref (q 0)), (1, .int x1)]) rfl ?_
  unfold tw_isBookedSo at h
  refine k_aload_n G dX6_isBookedSo_0 rfl ?_
  refine kt_get G tf_s rfl dX6_isBookedSo_1 rfl ?_
  refine k_bipush G dX6_isBookedSo_4 kc_b_68 ?_
  refine k_iconst G dX6_isBookedSo_6 kc_i_2 ?_
  refine k_iload_n G dX6_isBookedSo_7 rfl ?_
  refine k_imul G dX6_isBookedSo_8 ?_
  refine k_iadd G dX6_isBookedSo_9 ?_
  obtain ⟨h1, h⟩ := h
  refine kt_iald G tA_1 dX6_isBookedSo_10 h1 ?_
  refine k_nmI (fun x11 e11 => ?_)
  have h := h x11 e11
  refine k_istore_n G [(2, .int x11), (0, .ref (q 0)), (1, .int x1)] dX6_isBookedSo_11 rfl (Nat.le_of_ble_eq_true rfl) rfl ?_
  refine k_aload_n G dX6_isBookedSo_12 rfl ?_
  refine kt_get G tf_s rfl dX6_isBookedSo_13 rfl ?_
  refine k_bipush G dX6_isBookedSo_16 kc_b_68 ?_
  refine k_iconst G dX6_isBookedSo_18 kc_i_2 ?_
  refine k_iload_n G dX6_isBookedSo_19 rfl ?_
  refine k_imul G dX6_isBookedSo_20 ?_
  refine k_iadd G dX6_isBookedSo_21 ?_
  refine k_iconst G dX6_isBookedSo_22 kc_i_1 ?_
  refine k_iadd G dX6_isBookedSo_23 ?_
  obtain ⟨h1, h⟩ := h
  refine kt_iald G tA_1 dX6_isBookedSo_24 h1 ?_
  refine k_iconst G dX6_isBookedSo_25 kc_i_1 ?_
  obtain ⟨hA, hB⟩ := h
  refine k_icmp_ne G 33 dX6_isBookedSo_26 (by decide) (fun c26 => ?_) (fun c26 => ?_)
  · have h := hA c26
    clear hA hB
    refine k_iconst G dX6_isBookedSo_33 kc_i_0 ?_
    refine K.less [1, 0] rfl ?_
    exact hJ34 _ _ _ h
  · have h := hB c26
    clear hA hB
    refine k_iconst G dX6_isBookedSo_29 kc_i_1 ?_
    refine k_goto G 34 dX6_isBookedSo_30 (by decide) ?_
    refine K.less [1, 0] rfl ?_
    exact hJ34 _ _ _ h
def tw_looked_J45 (k : Int32 → TS → Prop) (x1 : Int32) (s : TS) : Prop := tw_ends s (fun s46 => k x1 s46)
def tw_looked_J38 (kL9 : Int32 → Int32 → TS → Prop) (k : Int32 → TS → Prop) (x2 : Int32) (y0 : Int32) (s : TS) : Prop := ∀ x39 : Int32, x39 = x2 + 1 → kL9 y0 x39 s
def tw_looked_L9 (k : Int32 → TS → Prop) : Nat → Int32 → Int32 → TS → Prop
  | 0, _, _, _ => False
  | n + 1, x1, x2, s => vp_in 7 92 ∧ ((s.1 1 (7 : Int32).toNatClampNeg) ≤ x2 → tw_looked_J45 k x1 s) ∧ (¬ (s.1 1 (7 : Int32).toNatClampNeg) ≤ x2 → (0 ≤ x1 → tw_looked_J45 k x1 s) ∧ (¬ 0 ≤ x1 → tw_isBookedSo s x2 (fun r26 s26 => (r26 = 0 → tw_looked_J38 (fun x1 x2 s => tw_looked_L9 k n x1 x2 s) k x2 x2 s26) ∧ (¬ r26 = 0 → tw_looked_J38 (fun x1 x2 s => tw_looked_L9 k n x1 x2 s) k x2 (-5) s26))))
def tw_looked (s : TS) (k : Int32 → TS → Prop) : Prop := tw_begins s (fun s4 => ∃ n9 : Nat, tw_looked_L9 k n9 (-5) 0 s4)
set_option maxHeartbeats 4000000 in
theorem wk_looked (l : Launch) (D : va_G) (T : xT) (q : Nat → Nat) (s : TS) (k : Int32 → TS → Prop) (h : tw_looked s k) : XM l D T yX6_looked cX6_looked 3 (some .int) 30 0 0 [.ref (q 0)] (tw T q s) (tpostI T q k) := by
  refine XM.start (by decide +kernel) (Nat.le_of_ble_eq_true rfl) (fun Γ G X _ hl_ => ?_)
  subst hl_
  have hJ45 : ∀ (x1 : Int32) (s : TS), tw_looked_J45 k x1 s → K D Γ 0 0 45 [(0, .ref (q 0)), (1, .int x1)] [] (tw T q s) := by
    intro x1 s h
    unfold tw_looked_J45 at h
    refine k_aload_n G dX6_looked_45 rfl ?_
    refine kt_callV G (wk_ends _ D T q _ _ h) cf_ends q1673 dX6_looked_46 rfl rfl (Nat.le_of_ble_eq_true rfl) (Nat.le_of_ble_eq_true rfl) (fun s46 h => ?_)
    refine k_iload_n G dX6_looked_49 rfl ?_
    exact k_iret G X dX6_looked_50 (Nat.le_refl _) (Nat.le_refl _) ⟨_, _, rfl, rfl, h⟩
  have hJ38 : ∀ (kL9 : Int32 → Int32 → TS → Prop) (ih9 : ∀ (x1 : Int32) (x2 : Int32) (s : TS), kL9 x1 x2 s → K D Γ 0 0 9 [(0, .ref (q 0)), (1, .int x1), (2, .int x2)] [] (tw T q s)) (x2 : Int32) (y0 : Int32) (s : TS), tw_looked_J38 kL9 k x2 y0 s → K D Γ 0 0 38 [(0, .ref (q 0)), (2, .int x2)] [.int y0] (tw T q s) := by
    intro kL9 ih9 x2 y0 s h
    unfold tw_looked_J38 at h
    refine k_istore_n G [(1, .int y0), (0, .ref (q 0)), (2, .int x2)] dX6_looked_38 rfl (Nat.le_of_ble_eq_true rfl) rfl ?_
    obtain ⟨x39, e39⟩ : ∃ y : Int32, y = x2 + 1 := ⟨_, rfl⟩
    have h := h x39 e39
    refine k_iinc G [(2, .int x39), (1, .int y0), (0, .ref (q 0))] dX6_looked_39 rfl (v := x39) (by rw [e39, kc_i_1]) (Nat.le_of_ble_eq_true rfl) rfl ?_
    refine k_goto G 9 dX6_looked_42 (by decide) ?_
    refine K.less [2, 1, 0] rfl ?_
    exact ih9 _ _ _ h
  have hL9 : ∀ n : Nat, ∀ (x1 : Int32) (x2 : Int32) (s : TS), (tw_looked_L9 k n) x1 x2 s → K D Γ 0 0 9 [(0, .ref (q 0)), (1, .int x1), (2, .int x2)] [] (tw T q s) := by
    intro n
    induction n with
    | zero =>
      intro _ _ _ h
      exact h.elim
    | succ n ih9 =>
      intro x1 x2 s h
      unfold tw_looked_L9 at h
      refine k_iload_n G dX6_looked_9 rfl ?_
      refine k_aload_n G dX6_looked_10 rfl ?_
      refine kt_get G tf_s rfl dX6_looked_11 rfl ?_
      refine k_bipush G dX6_looked_14 kc_b_7 ?_
      obtain ⟨h1, h⟩ := h
      refine kt_iald G tA_1 dX6_looked_16 h1 ?_
      obtain ⟨hA, hB⟩ := h
      refine k_icmp_ge G 45 dX6_looked_17 (by decide) (fun c17 => ?_) (fun c17 => ?_)
      · have h := hA c17
        clear hA hB
        refine K.less [0, 1] rfl ?_
        exact hJ45 _ _ h
      · have h := hB c17
        clear hA hB
        refine k_iload_n G dX6_looked_20 rfl ?_
        obtain ⟨hA, hB⟩ := h
        refine k_if_ge G 45 dX6_looked_21 (by decide) (fun c21 => ?_) (fun c21 => ?_)
        · have h := hA c21
          clear hA hB
          refine K.less [0, 1] rfl ?_
          exact hJ45 _ _ h
        · have h := hB c21
          clear hA hB
          refine k_aload_n G dX6_looked_24 rfl ?_
          refine k_iload_n G dX6_looked_25 rfl ?_
          refine kt_callI G (wk_isBookedSo _ D T q _ _ _ h) cf_isBookedSo q1785 dX6_looked_26 rfl rfl (Nat.le_of_ble_eq_true rfl) (Nat.le_of_ble_eq_true rfl) (fun r26 s26 h => ?_)
          obtain ⟨hA, hB⟩ := h
          refine k_if_eq G 37 dX6_looked_29 (by decide) (fun c29 => ?_) (fun c29 => ?_)
          · have h := hA c29
            clear hA hB
            refine k_iload_n G dX6_looked_37 rfl ?_
            refine K.less [0, 2] rfl ?_
            exact hJ38 _ ih9 _ _ _ h
          · have h := hB c29
            clear hA hB
            refine k_bipush G dX6_looked_32 kc_b_m5 ?_
            refine k_goto G 38 dX6_looked_34 (by decide) ?_
            refine K.less [0, 2] rfl ?_
            exact hJ38 _ ih9 _ _ _ h
  refine K.less [0] (lv' := [(0, .ref (q 0))]) rfl ?_
  unfold tw_looked at h
  refine k_bipush G dX6_looked_0 kc_b_m5 ?_
  refine k_istore_n G [(1, .int (-5)), (0, .ref (q 0))] dX6_looked_2 rfl (Nat.le_of_ble_eq_true rfl) rfl ?_
  refine k_aload_n G dX6_looked_3 rfl ?_
  refine kt_callV G (wk_begins _ D T q _ _ h) cf_begins q1666 dX6_looked_4 rfl rfl (Nat.le_of_ble_eq_true rfl) (Nat.le_of_ble_eq_true rfl) (fun s4 h => ?_)
  refine k_iconst G dX6_looked_7 kc_i_0 ?_
  refine k_istore_n G [(2, .int 0), (1, .int (-5)), (0, .ref (q 0))] dX6_looked_8 rfl (Nat.le_of_ble_eq_true rfl) rfl ?_
  obtain ⟨n9, h⟩ := h
  refine K.less [2, 1, 0] rfl ?_
  exact hL9 n9 _ _ _ h
def pw_isTape (x0 : Int32) (k : Int32 → Prop) : Prop := pw_isIn x0 0 5 (fun r3 => (r3 = 0 ∨ r3 = 1) ∧ k r3)
set_option maxHeartbeats 4000000 in
theorem wk_isTape (l : Launch) (D : va_G) (T : xT) (x0 : Int32) (k : Int32 → Prop) (h : pw_isTape x0 k) : XM l D T yX6_isTape cX6_isTape 1 (some .boolean) 2 0 0 [.int x0] [] (ppostI k) := by
  refine XM.start (by decide +kernel) (Nat.le_of_ble_eq_true rfl) (fun Γ G X _ hl_ => ?_)
  subst hl_
  refine K.less [0] (lv' := [(0, .int x0)]) rfl ?_
  unfold pw_isTape at h
  refine k_iload_n G dX6_isTape_0 rfl ?_
  refine k_iconst G dX6_isTape_1 kc_i_0 ?_
  refine k_iconst G dX6_isTape_2 kc_i_5 ?_
  refine k_callPI G (wk_isIn _ D T _ _ _ _ h) cf_isIn q1511 dX6_isTape_3 rfl rfl (Nat.le_of_ble_eq_true rfl) (Nat.le_of_ble_eq_true rfl) ⟨Nat.zero_le _, Nat.zero_le _⟩ (fun r3 h => ?_)
  obtain ⟨hz, h⟩ := h
  exact k_zret G X hz dX6_isTape_6 (Nat.le_refl _) (Nat.le_refl _) ⟨_, rfl, rfl, h⟩
def tw_judge_L49 (k : Int32 → TS → Prop) : Nat → Int32 → Int32 → Int32 → TS → Prop
  | 0, _, _, _, _ => False
  | n + 1, x1, x2, x3, s => (4 ≤ x3 → k (-5) s) ∧ (¬ 4 ≤ x3 → vp_in x1 6 ∧ (x2 < ((s.1 11 (x1 : Int32).toNatClampNeg) - x3) → vp_in (((60 * x1) + x2) + x3) 360 ∧ vp_in x3 92 ∧ ((lg_cmp (s.2 ((((60 * x1) + x2) + x3) : Int32).toNatClampNeg) ((s.1 1 (x3 : Int32).toNatClampNeg) : Int32).toInt64) = 0 → ∀ x97 : Int32, x97 = x3 + 1 → tw_judge_L49 k n x1 x2 x97 s) ∧ (¬ (lg_cmp (s.2 ((((60 * x1) + x2) + x3) : Int32).toNatClampNeg) ((s.1 1 (x3 : Int32).toNatClampNeg) : Int32).toInt64) = 0 → k x3 s)) ∧ (¬ x2 < ((s.1 11 (x1 : Int32).toNatClampNeg) - x3) → k ((100 + x3)) s))
def tw_judge_J31 (k : Int32 → TS → Prop) (x1 : Int32) (x2 : Int32) (s : TS) : Prop := vp_in x1 6 ∧ ((s.1 10 (x1 : Int32).toNatClampNeg) < 0 → k 100 s) ∧ (¬ (s.1 10 (x1 : Int32).toNatClampNeg) < 0 → (0 ≤ x2 → ∃ n49 : Nat, tw_judge_L49 k n49 x1 x2 0 s) ∧ (¬ 0 ≤ x2 → k 100 s))
def tw_judge (s : TS) (x1 : Int32) (x2 : Int32) (k : Int32 → TS → Prop) : Prop := pw_isTape x1 (fun r1 => (¬ r1 = 0 → vp_in x1 6 ∧ ((s.1 10 (x1 : Int32).toNatClampNeg) < 0 → tw_judge_J31 k x1 x2 s) ∧ (¬ (s.1 10 (x1 : Int32).toNatClampNeg) < 0 → vp_in x1 6 ∧ ((s.1 10 (x1 : Int32).toNatClampNeg) = 1 → tw_judge_J31 k x1 x2 s) ∧ (¬ (s.1 10 (x1 : Int32).toNatClampNeg) = 1 → k (-12) s))) ∧ (r1 = 0 → k (-1) s))
set_option maxHeartbeats 4000000 in
theorem wk_judge (l : Launch) (D : va_G) (T : xT) (q : Nat → Nat) (s : TS) (x1 : Int32) (x2 : Int32) (k : Int32 → TS → Prop) (h : tw_judge s x1 x2 k) : XM l D T yX6_judge cX6_judge 4 (some .int) 3 0 0 [.ref (q 0), .int x1, .int x2] (tw T q s) (tpostI T q k) := by
  refine XM.start (by decide +kernel) (Nat.le_of_ble_eq_true rfl) (fun Γ G X _ hl_ => ?_)
  subst hl_
  have hL49 : ∀ n : Nat, ∀ (x1 : Int32) (x2 : Int32) (x3 : Int32) (s : TS), (tw_judge_L49 k n) x1 x2 x3 s → K D Γ 0 0 49 [(0, .ref (q 0)), (1, .int x1), (2, .int x2), (3, .int x3)] [] (tw T q s) := by
    intro n
    induction n with
    | zero =>
      intro _ _ _ _ h
      exact h.elim
    | succ n ih49 =>
      intro x1 x2 x3 s h
      unfold tw_judge_L49 at h
      refine k_iload_n G dX6_judge_49 rfl ?_
      refine k_iconst G dX6_judge_50 kc_i_4 ?_
      obtain ⟨hA, hB⟩ := h
      refine k_icmp_ge G 103 dX6_judge_51 (by decide) (fun c51 => ?_) (fun c51 => ?_)
      · have h := hA c51
        clear hA hB
        refine k_bipush G dX6_judge_103 kc_b_m5 ?_
        exact k_iret G X dX6_judge_105 (Nat.le_refl _) (Nat.le_refl _) ⟨_, _, rfl, rfl, h⟩
      · have h := hB c51
        clear hA hB
        refine k_iload_n G dX6_judge_54 rfl ?_
        refine k_aload_n G dX6_judge_55 rfl ?_
        refine kt_get G tf_tapeLong rfl dX6_judge_56 rfl ?_
        refine k_iload_n G dX6_judge_59 rfl ?_
        obtain ⟨h1, h⟩ := h
        refine kt_iald G tA_11 dX6_judge_60 h1 ?_
        refine k_iload_n G dX6_judge_61 rfl ?_
        refine k_isub G dX6_judge_62 ?_
        obtain ⟨hA, hB⟩ := h
        refine k_icmp_lt G 71 dX6_judge_63 (by decide) (fun c63 => ?_) (fun c63 => ?_)
        · have h := hA c63
          clear hA hB
          refine k_aload_n G dX6_judge_71 rfl ?_
          refine kt_get G tf_item rfl dX6_judge_72 rfl ?_
          refine k_bipush G dX6_judge_75 kc_b_60 ?_
          refine k_iload_n G dX6_judge_77 rfl ?_
          refine k_imul G dX6_judge_78 ?_
          refine k_iload_n G dX6_judge_79 rfl ?_
          refine k_iadd G dX6_judge_80 ?_
          refine k_iload_n G dX6_judge_81 rfl ?_
          refine k_iadd G dX6_judge_82 ?_
          obtain ⟨h1, h⟩ := h
          refine kt_lald G dX6_judge_83 h1 ?_
          refine k_aload_n G dX6_judge_84 rfl ?_
          refine kt_get G tf_s rfl dX6_judge_85 rfl ?_
          refine k_iload_n G dX6_judge_88 rfl ?_
          obtain ⟨h1, h⟩ := h
          refine kt_iald G tA_1 dX6_judge_89 h1 ?_
          refine k_i2l G dX6_judge_90 ?_
          refine k_lcmp G dX6_judge_91 ?_
          obtain ⟨hA, hB⟩ := h
          refine k_if_eq G 97 dX6_judge_92 (by decide) (fun c92 => ?_) (fun c92 => ?_)
          · have h := hA c92
            clear hA hB
            obtain ⟨x97, e97⟩ : ∃ y : Int32, y = x3 + 1 := ⟨_, rfl⟩
            have h := h x97 e97
            refine k_iinc G [(3, .int x97), (0, .ref (q 0)), (1, .int x1), (2, .int x2)] dX6_judge_97 rfl (v := x97) (by rw [e97, kc_i_1]) (Nat.le_of_ble_eq_true rfl) rfl ?_
            refine k_goto G 49 dX6_judge_100 (by decide) ?_
            refine K.less [1, 2, 3, 0] rfl ?_
            exact ih49 _ _ _ _ h
          · have h := hB c92
            clear hA hB
            refine k_iload_n G dX6_judge_95 rfl ?_
            exact k_iret G X dX6_judge_96 (Nat.le_refl _) (Nat.le_refl _) ⟨_, _, rfl, rfl, h⟩
        · have h := hB c63
          clear hA hB
          refine k_bipush G dX6_judge_66 kc_b_100 ?_
          refine k_iload_n G dX6_judge_68 rfl ?_
          refine k_iadd G dX6_judge_69 ?_
          exact k_iret G X dX6_judge_70 (Nat.le_refl _) (Nat.le_refl _) ⟨_, _, rfl, rfl, h⟩
  have hJ31 : ∀ (x1 : Int32) (x2 : Int32) (s : TS), tw_judge_J31 k x1 x2 s → K D Γ 0 0 31 [(0, .ref (q 0)), (1, .int x1), (2, .int x2)] [] (tw T q s) := by
    intro x1 x2 s h
    unfold tw_judge_J31 at h
    refine k_aload_n G dX6_judge_31 rfl ?_
    refine kt_get G tf_tapeSort rfl dX6_judge_32 rfl ?_
    refine k_iload_n G dX6_judge_35 rfl ?_
    obtain ⟨h1, h⟩ := h
    refine kt_iald G tA_10 dX6_judge_36 h1 ?_
    obtain ⟨hA, hB⟩ := h
    refine k_if_lt G 44 dX6_judge_37 (by decide) (fun c37 => ?_) (fun c37 => ?_)
    · have h := hA c37
      clear hA hB
      refine k_bipush G dX6_judge_44 kc_b_100 ?_
      exact k_iret G X dX6_judge_46 (Nat.le_refl _) (Nat.le_refl _) ⟨_, _, rfl, rfl, h⟩
    · have h := hB c37
      clear hA hB
      refine k_iload_n G dX6_judge_40 rfl ?_
      obtain ⟨hA, hB⟩ := h
      refine k_if_ge G 47 dX6_judge_41 (by decide) (fun c41 => ?_) (fun c41 => ?_)
      · have h := hA c41
        clear hA hB
        refine k_iconst G dX6_judge_47 kc_i_0 ?_
        refine k_istore_n G [(3, .int 0), (0, .ref (q 0)), (1, .int x1), (2, .int x2)] dX6_judge_48 rfl (Nat.le_of_ble_eq_true rfl) rfl ?_
        obtain ⟨n49, h⟩ := h
        refine K.less [1, 2, 3, 0] rfl ?_
        exact hL49 n49 _ _ _ _ h
      · have h := hB c41
        clear hA hB
        refine k_bipush G dX6_judge_44 kc_b_100 ?_
        exact k_iret G X dX6_judge_46 (Nat.le_refl _) (Nat.le_refl _) ⟨_, _, rfl, rfl, h⟩
  refine K.less [0, 1, 2] (lv' := [(0, .ref (q 0)), (1, .int x1), (2, .int x2)]) rfl ?_
  unfold tw_judge at h
  refine k_iload_n G dX6_judge_0 rfl ?_
  refine k_callPI G (wk_isTape _ D T _ _ h) cf_isTape q1793 dX6_judge_1 rfl rfl (Nat.le_of_ble_eq_true rfl) (Nat.le_of_ble_eq_true rfl) ⟨Nat.zero_le _, Nat.zero_le _⟩ (fun r1 h => ?_)
  obtain ⟨hA, hB⟩ := h
  refine k_if_ne G 9 dX6_judge_4 (by decide) (fun c4 => ?_) (fun c4 => ?_)
  · have h := hA c4
    clear hA hB
    refine k_aload_n G dX6_judge_9 rfl ?_
    refine kt_get G tf_tapeSort rfl dX6_judge_10 rfl ?_
    refine k_iload_n G dX6_judge_13 rfl ?_
    obtain ⟨h1, h⟩ := h
    refine kt_iald G tA_10 dX6_judge_14 h1 ?_
    obtain ⟨hA, hB⟩ := h
    refine k_if_lt G 31 dX6_judge_15 (by decide) (fun c15 => ?_) (fun c15 => ?_)
    · have h := hA c15
      clear hA hB
      exact hJ31 _ _ _ h
    · have h := hB c15
      clear hA hB
      refine k_aload_n G dX6_judge_18 rfl ?_
      refine kt_get G tf_tapeSort rfl dX6_judge_19 rfl ?_
      refine k_iload_n G dX6_judge_22 rfl ?_
      obtain ⟨h1, h⟩ := h
      refine kt_iald G tA_10 dX6_judge_23 h1 ?_
      refine k_iconst G dX6_judge_24 kc_i_1 ?_
      obtain ⟨hA, hB⟩ := h
      refine k_icmp_eq G 31 dX6_judge_25 (by decide) (fun c25 => ?_) (fun c25 => ?_)
      · have h := hA c25
        clear hA hB
        exact hJ31 _ _ _ h
      · have h := hB c25
        clear hA hB
        refine k_bipush G dX6_judge_28 kc_b_m12 ?_
        exact k_iret G X dX6_judge_30 (Nat.le_refl _) (Nat.le_refl _) ⟨_, _, rfl, rfl, h⟩
  · have h := hB c4
    clear hA hB
    refine k_iconst G dX6_judge_7 kc_i_m1 ?_
    exact k_iret G X dX6_judge_8 (Nat.le_refl _) (Nat.le_refl _) ⟨_, _, rfl, rfl, h⟩
def tw_image (s : TS) (k : Int32 → TS → Prop) : Prop := tw_lays s 1 2 (fun s8 => ∀ w21 : TS, w21 = (sA s8 0 3 1) → vp_in 5 92 ∧ k ((w21.1 1 (5 : Int32).toNatClampNeg)) w21)
set_option maxHeartbeats 4000000 in
theorem wk_image (l : Launch) (D : va_G) (T : xT) (q : Nat → Nat) (s : TS) (k : Int32 → TS → Prop) (h : tw_image s k) : XM l D T yX6_image cX6_image 1 (some .int) 2 0 0 [.ref (q 0)] (tw T q s) (tpostI T q k) := by
  refine XM.start (by decide +kernel) (Nat.le_of_ble_eq_true rfl) (fun Γ G X _ hl_ => ?_)
  subst hl_
  refine K.less [0] (lv' := [(0, .ref (q 0))]) rfl ?_
  unfold tw_image at h
  refine k_aload_n G dX6_image_0 rfl ?_
  refine kt_get G tf_s rfl dX6_image_1 rfl ?_
  refine k_aload_n G dX6_image_4 rfl ?_
  refine kt_get G tf_image rfl dX6_image_5 rfl ?_
  refine kt_callsV G (wk_lays _ D T q _ _ _ _ tA_1 tA_2 h) cf_lays q1670 dX6_image_8 rfl rfl (Nat.le_of_ble_eq_true rfl) (Nat.le_of_ble_eq_true rfl) (fun s8 h => ?_)
  refine k_aload_n G dX6_image_11 rfl ?_
  refine k_iconst G dX6_image_12 kc_i_1 ?_
  refine kt_putZ G tp_hasImage rfl (Or.inr rfl) dX6_image_13 ?_
  refine k_aload_n G dX6_image_16 rfl ?_
  refine kt_get G tf_s rfl dX6_image_17 rfl ?_
  refine k_iconst G dX6_image_20 kc_i_5 ?_
  refine kt_nmW (fun w21 ew21 => ?_)
  have h := h w21 ew21
  obtain ⟨h1, h⟩ := h
  refine kt_iald G tA_1 dX6_image_21 h1 ?_
  exact k_iret G X dX6_image_22 (Nat.le_refl _) (Nat.le_refl _) ⟨_, _, rfl, rfl, h⟩
def tw_undo (s : TS) (k : Int32 → TS → Prop) : Prop := (¬ (s.1 0 3) = 0 → tw_lays s 2 1 (fun s18 => vp_in 5 92 ∧ k ((s18.1 1 (5 : Int32).toNatClampNeg)) s18)) ∧ ((s.1 0 3) = 0 → k (-3) s)
set_option maxHeartbeats 4000000 in
theorem wk_undo (l : Launch) (D : va_G) (T : xT) (q : Nat → Nat) (s : TS) (k : Int32 → TS → Prop) (h : tw_undo s k) : XM l D T yX6_undo cX6_undo 1 (some .int) 2 0 0 [.ref (q 0)] (tw T q s) (tpostI T q k) := by
  refine XM.start (by decide +kernel) (Nat.le_of_ble_eq_true rfl) (fun Γ G X _ hl_ => ?_)
  subst hl_
  refine K.less [0] (lv' := [(0, .ref (q 0))]) rfl ?_
  unfold tw_undo at h
  refine k_aload_n G dX6_undo_0 rfl ?_
  refine kt_get G tf_hasImage rfl dX6_undo_1 rfl ?_
  obtain ⟨hA, hB⟩ := h
  refine k_if_ne G 10 dX6_undo_4 (by decide) (fun c4 => ?_) (fun c4 => ?_)
  · have h := hA c4
    clear hA hB
    refine k_aload_n G dX6_undo_10 rfl ?_
    refine kt_get G tf_image rfl dX6_undo_11 rfl ?_
    refine k_aload_n G dX6_undo_14 rfl ?_
    refine kt_get G tf_s rfl dX6_undo_15 rfl ?_
    refine kt_callsV G (wk_lays _ D T q _ _ _ _ tA_2 tA_1 h) cf_lays q1670 dX6_undo_18 rfl rfl (Nat.le_of_ble_eq_true rfl) (Nat.le_of_ble_eq_true rfl) (fun s18 h => ?_)
    refine k_aload_n G dX6_undo_21 rfl ?_
    refine kt_get G tf_s rfl dX6_undo_22 rfl ?_
    refine k_iconst G dX6_undo_25 kc_i_5 ?_
    obtain ⟨h1, h⟩ := h
    refine kt_iald G tA_1 dX6_undo_26 h1 ?_
    exact k_iret G X dX6_undo_27 (Nat.le_refl _) (Nat.le_refl _) ⟨_, _, rfl, rfl, h⟩
  · have h := hB c4
    clear hA hB
    refine k_bipush G dX6_undo_7 kc_b_m3 ?_
    exact k_iret G X dX6_undo_9 (Nat.le_refl _) (Nat.le_refl _) ⟨_, _, rfl, rfl, h⟩
def tw_runs_J19 (k : TS → Prop) (s : TS) : Prop := k ((sA s 0 29 ((s.1 0 29) + 1)))
def tw_runs (s : TS) (x1 : Int32) (k : TS → Prop) : Prop := (20 ≤ (s.1 0 29) → tw_runs_J19 k s) ∧ (¬ 20 ≤ (s.1 0 29) → vp_in (s.1 0 29) 20 ∧ tw_runs_J19 k ((sA s 13 ((s.1 0 29) : Int32).toNatClampNeg x1)))
set_option maxHeartbeats 4000000 in
theorem wk_runs (l : Launch) (D : va_G) (T : xT) (q : Nat → Nat) (s : TS) (x1 : Int32) (k : TS → Prop) (h : tw_runs s x1 k) : XM l D T yX6_runs cX6_runs 2 none 1 0 0 [.ref (q 0), .int x1] (tw T q s) (tpostV T q k) := by
  refine XM.start (by decide +kernel) (Nat.le_of_ble_eq_true rfl) (fun Γ G X _ hl_ => ?_)
  subst hl_
  have hJ19 : ∀ (s : TS), tw_runs_J19 k s → K D Γ 0 0 19 [(0, .ref (q 0))] [] (tw T q s) := by
    intro s h
    unfold tw_runs_J19 at h
    refine k_aload_n G dX6_runs_19 rfl ?_
    refine k_dup G dX6_runs_20 rfl ?_
    refine kt_get G tf_ran rfl dX6_runs_21 rfl ?_
    refine k_iconst G dX6_runs_24 kc_i_1 ?_
    refine k_iadd G dX6_runs_25 ?_
    refine kt_put G tp_ran rfl dX6_runs_26 ?_
    exact k_vret G X dX6_runs_29 (Nat.le_refl _) (Nat.le_refl _) ⟨_, rfl, rfl, h⟩
  refine K.less [0, 1] (lv' := [(0, .ref (q 0)), (1, .int x1)]) rfl ?_
  unfold tw_runs at h
  refine k_aload_n G dX6_runs_0 rfl ?_
  refine kt_get G tf_ran rfl dX6_runs_1 rfl ?_
  refine k_bipush G dX6_runs_4 kc_b_20 ?_
  obtain ⟨hA, hB⟩ := h
  refine k_icmp_ge G 19 dX6_runs_6 (by decide) (fun c6 => ?_) (fun c6 => ?_)
  · have h := hA c6
    clear hA hB
    refine K.less [0] rfl ?_
    exact hJ19 _ h
  · have h := hB c6
    clear hA hB
    refine k_aload_n G dX6_runs_9 rfl ?_
    refine kt_get G tf_trace rfl dX6_runs_10 rfl ?_
    refine k_aload_n G dX6_runs_13 rfl ?_
    refine kt_get G tf_ran rfl dX6_runs_14 rfl ?_
    refine k_iload_n G dX6_runs_17 rfl ?_
    obtain ⟨h1, h⟩ := h
    refine kt_iast G tA_13 dX6_runs_18 h1 ?_
    refine K.less [0] rfl ?_
    exact hJ19 _ h
def tb_rises_J72 (c_rises : TS → Int32 → Int32 → (Int32 → TS → Prop) → Prop) (k : Int32 → TS → Prop) (x2 : Int32) (s : TS) : Prop := tw_runs s 30 (fun s75 => c_rises s75 0 ((x2 * 3)) (fun r83 s83 => k r83 s83))
def tb_rises (c_rises : TS → Int32 → Int32 → (Int32 → TS → Prop) → Prop) (s : TS) (x1 : Int32) (x2 : Int32) (k : Int32 → TS → Prop) : Prop := (x1 = 2 → tb_rises_J72 c_rises k x2 s) ∧ (x1 = 4 → tw_runs s 50 (fun s39 => c_rises s39 1 x2 (fun r45 s45 => k ((-r45)) s45))) ∧ (x1 = 5 → tb_rises_J72 c_rises k x2 s) ∧ (x1 = 6 → tw_runs s 71 (fun s53 => c_rises s53 3 x2 (fun r59 s59 => tw_number s59 ((s59.1 0 30)) (fun r67 s67 => k ((r59 ^^^ r67)) s67)))) ∧ (¬ x1 = 2 → ¬ x1 = 4 → ¬ x1 = 5 → ¬ x1 = 6 → tw_runs s 10 (fun s90 => k ((x2 + (s90.1 0 30))) s90))
set_option maxHeartbeats 4000000 in
theorem wb_rises (l : Launch) (D : va_G) (T : xT) (q : Nat → Nat) (lev : Nat) (c_rises : TS → Int32 → Int32 → (Int32 → TS → Prop) → Prop) (l_rises : Nat) (hl_rises : l_rises + 1 ≤ lev) (w_rises : ∀ (s : TS) (x1 : Int32) (x2 : Int32) (k : Int32 → TS → Prop), c_rises s x1 x2 k → XM l D T yX6_rises cX6_rises 3 (some .int) l_rises 0 0 [.ref (q 0), .int x1, .int x2] (tw T q s) (tpostI T q k)) (hlev : 3 ≤ lev) (s : TS) (x1 : Int32) (x2 : Int32) (k : Int32 → TS → Prop) (h : tb_rises c_rises s x1 x2 k) : XM l D T yX6_rises cX6_rises 3 (some .int) lev 0 0 [.ref (q 0), .int x1, .int x2] (tw T q s) (tpostI T q k) := by
  refine XM.start (by decide +kernel) (Nat.le_of_ble_eq_true rfl) (fun Γ G X _ hl_ => ?_)
  subst hl_
  have hJ72 : ∀ (x2 : Int32) (s : TS), tb_rises_J72 c_rises k x2 s → K D Γ 0 0 72 [(0, .ref (q 0)), (2, .int x2)] [] (tw T q s) := by
    intro x2 s h
    unfold tb_rises_J72 at h
    refine k_aload_n G dX6_rises_72 rfl ?_
    refine k_bipush G dX6_rises_73 kc_b_30 ?_
    refine kt_callV G (wk_runs _ D T q _ _ _ h) cf_runs q1812 dX6_rises_75 rfl rfl (Nat.le_of_ble_eq_true rfl) (Nat.le_trans (Nat.le_of_ble_eq_true rfl) hlev) (fun s75 h => ?_)
    refine k_aload_n G dX6_rises_78 rfl ?_
    refine k_iconst G dX6_rises_79 kc_i_0 ?_
    refine k_iload_n G dX6_rises_80 rfl ?_
    refine k_iconst G dX6_rises_81 kc_i_3 ?_
    refine k_imul G dX6_rises_82 ?_
    refine kt_callI G (w_rises _ _ _ _ h) cf_rises q1808 dX6_rises_83 rfl rfl (Nat.le_of_ble_eq_true rfl) hl_rises (fun r83 s83 h => ?_)
    exact k_iret G X dX6_rises_86 (Nat.le_refl _) (Nat.le_refl _) ⟨_, _, rfl, rfl, h⟩
  refine K.less [0, 1, 2] (lv' := [(0, .ref (q 0)), (1, .int x1), (2, .int x2)]) rfl ?_
  unfold tb_rises at h
  refine k_iload_n G dX6_rises_0 rfl ?_
  obtain ⟨h0_, h1_, h2_, h3_, hD_⟩ := h
  by_cases c1_0 : x1 = 2
  · refine k_tswIn G 2 c1_0 72 dX6_rises_1 (by decide +kernel) (by decide +kernel) rfl (by decide) ?_
    have h := h0_ c1_0
    clear h0_ h1_ h2_ h3_ hD_
    refine K.less [0, 2] rfl ?_
    exact hJ72 _ _ h
  by_cases c1_1 : x1 = 4
  · refine k_tswIn G 4 c1_1 36 dX6_rises_1 (by decide +kernel) (by decide +kernel) rfl (by decide) ?_
    have h := h1_ c1_1
    clear h0_ h1_ h2_ h3_ hD_
    refine k_aload_n G dX6_rises_36 rfl ?_
    refine k_bipush G dX6_rises_37 kc_b_50 ?_
    refine kt_callV G (wk_runs _ D T q _ _ _ h) cf_runs q1812 dX6_rises_39 rfl rfl (Nat.le_of_ble_eq_true rfl) (Nat.le_trans (Nat.le_of_ble_eq_true rfl) hlev) (fun s39 h => ?_)
    refine k_aload_n G dX6_rises_42 rfl ?_
    refine k_iconst G dX6_rises_43 kc_i_1 ?_
    refine k_iload_n G dX6_rises_44 rfl ?_
    refine kt_callI G (w_rises _ _ _ _ h) cf_rises q1808 dX6_rises_45 rfl rfl (Nat.le_of_ble_eq_true rfl) hl_rises (fun r45 s45 h => ?_)
    refine k_ineg G dX6_rises_48 ?_
    exact k_iret G X dX6_rises_49 (Nat.le_refl _) (Nat.le_refl _) ⟨_, _, rfl, rfl, h⟩
  by_cases c1_2 : x1 = 5
  · refine k_tswIn G 5 c1_2 72 dX6_rises_1 (by decide +kernel) (by decide +kernel) rfl (by decide) ?_
    have h := h2_ c1_2
    clear h0_ h1_ h2_ h3_ hD_
    refine K.less [0, 2] rfl ?_
    exact hJ72 _ _ h
  by_cases c1_3 : x1 = 6
  · refine k_tswIn G 6 c1_3 50 dX6_rises_1 (by decide +kernel) (by decide +kernel) rfl (by decide) ?_
    have h := h3_ c1_3
    clear h0_ h1_ h2_ h3_ hD_
    refine k_aload_n G dX6_rises_50 rfl ?_
    refine k_bipush G dX6_rises_51 kc_b_71 ?_
    refine kt_callV G (wk_runs _ D T q _ _ _ h) cf_runs q1812 dX6_rises_53 rfl rfl (Nat.le_of_ble_eq_true rfl) (Nat.le_trans (Nat.le_of_ble_eq_true rfl) hlev) (fun s53 h => ?_)
    refine k_aload_n G dX6_rises_56 rfl ?_
    refine k_iconst G dX6_rises_57 kc_i_3 ?_
    refine k_iload_n G dX6_rises_58 rfl ?_
    refine kt_callI G (w_rises _ _ _ _ h) cf_rises q1808 dX6_rises_59 rfl rfl (Nat.le_of_ble_eq_true rfl) hl_rises (fun r59 s59 h => ?_)
    refine k_aload_n G dX6_rises_62 rfl ?_
    refine k_aload_n G dX6_rises_63 rfl ?_
    refine kt_get G tf_own rfl dX6_rises_64 rfl ?_
    refine kt_callI G (wk_number _ D T q _ _ _ h) cf_number q1583 dX6_rises_67 rfl rfl (Nat.le_of_ble_eq_true rfl) (Nat.le_trans (Nat.le_of_ble_eq_true rfl) hlev) (fun r67 s67 h => ?_)
    refine k_ixor G dX6_rises_70 ?_
    exact k_iret G X dX6_rises_71 (Nat.le_refl _) (Nat.le_refl _) ⟨_, _, rfl, rfl, h⟩
  refine k_tswD G [2, 4, 5, 6] 87 dX6_rises_1 (by decide +kernel) (by decide +kernel) (List.forall_mem_cons.mpr ⟨c1_0, List.forall_mem_cons.mpr ⟨c1_1, List.forall_mem_cons.mpr ⟨c1_2, List.forall_mem_cons.mpr ⟨c1_3, fun _ h => absurd h List.not_mem_nil⟩⟩⟩⟩) (by decide) ?_
  have h := hD_ c1_0 c1_1 c1_2 c1_3
  clear h0_ h1_ h2_ h3_ hD_
  refine k_aload_n G dX6_rises_87 rfl ?_
  refine k_bipush G dX6_rises_88 kc_b_10 ?_
  refine kt_callV G (wk_runs _ D T q _ _ _ h) cf_runs q1812 dX6_rises_90 rfl rfl (Nat.le_of_ble_eq_true rfl) (Nat.le_trans (Nat.le_of_ble_eq_true rfl) hlev) (fun s90 h => ?_)
  refine k_iload_n G dX6_rises_93 rfl ?_
  refine k_aload_n G dX6_rises_94 rfl ?_
  refine kt_get G tf_own rfl dX6_rises_95 rfl ?_
  refine k_iadd G dX6_rises_98 ?_
  exact k_iret G X dX6_rises_99 (Nat.le_refl _) (Nat.le_refl _) ⟨_, _, rfl, rfl, h⟩
def tf_rises : Nat → TS → Int32 → Int32 → (Int32 → TS → Prop) → Prop
  | 0, _, _, _, _ => False
  | n + 1, s, x1, x2, k => tb_rises (tf_rises n) s x1 x2 k
theorem wf_rises (l : Launch) (D : va_G) (T : xT) (q : Nat → Nat) : ∀ (n : Nat) (s : TS) (x1 : Int32) (x2 : Int32) (k : Int32 → TS → Prop), tf_rises n s x1 x2 k → XM l D T yX6_rises cX6_rises 3 (some .int) (2 + n) 0 0 [.ref (q 0), .int x1, .int x2] (tw T q s) (tpostI T q k) := by
  intro n
  induction n with
  | zero =>
    intro _ _ _ _ h
    exact h.elim
  | succ n ih =>
    intro s x1 x2 k h
    exact wb_rises l D T q (2 + (n + 1)) (tf_rises n) (2 + n) (by omega) ih (by omega) s x1 x2 k h
def tw_rises (s : TS) (x1 : Int32) (x2 : Int32) (k : Int32 → TS → Prop) : Prop := tf_rises 4 s x1 x2 k
theorem wk_rises (l : Launch) (D : va_G) (T : xT) (q : Nat → Nat) (s : TS) (x1 : Int32) (x2 : Int32) (k : Int32 → TS → Prop) (h : tw_rises s x1 x2 k) : XM l D T yX6_rises cX6_rises 3 (some .int) 6 0 0 [.ref (q 0), .int x1, .int x2] (tw T q s) (tpostI T q k) := wf_rises l D T q 4 s x1 x2 k h
def tb_bakesFrom (c_bakesFrom : TS → Int32 → Int32 → (Int32 → TS → Prop) → Prop) (s : TS) (x1 : Int32) (x2 : Int32) (k : Int32 → TS → Prop) : Prop := (x1 = 1 → tw_runs s 20 (fun s54 => c_bakesFrom s54 0 x2 (fun r60 s60 => k ((r60 ^^^ 6)) s60))) ∧ (x1 = 4 → tw_runs s 51 (fun s39 => c_bakesFrom s39 1 ((x2 + 1)) (fun r47 s47 => k r47 s47))) ∧ (x1 = 6 → tw_runs s 70 (fun s70 => c_bakesFrom s70 3 x2 (fun r76 s76 => tw_rises s76 3 2 (fun r84 s84 => k ((r76 + r84)) s84)))) ∧ (¬ x1 = 1 → ¬ x1 = 4 → ¬ x1 = 6 → tw_runs s 11 (fun s92 => tw_kind s92 ((s92.1 0 30)) (fun r101 s101 => tw_rises s101 r101 x2 (fun r105 s105 => tw_number s105 ((s105.1 0 30)) (fun r113 s113 => k ((r105 - r113)) s113)))))
set_option maxHeartbeats 4000000 in
theorem wb_bakesFrom (l : Launch) (D : va_G) (T : xT) (q : Nat → Nat) (lev : Nat) (c_bakesFrom : TS → Int32 → Int32 → (Int32 → TS → Prop) → Prop) (l_bakesFrom : Nat) (hl_bakesFrom : l_bakesFrom + 1 ≤ lev) (w_bakesFrom : ∀ (s : TS) (x1 : Int32) (x2 : Int32) (k : Int32 → TS → Prop), c_bakesFrom s x1 x2 k → XM l D T yX6_bakesFrom cX6_bakesFrom 4 (some .int) l_bakesFrom 0 0 [.ref (q 0), .int x1, .int x2] (tw T q s) (tpostI T q k)) (hlev : 7 ≤ lev) (s : TS) (x1 : Int32) (x2 : Int32) (k : Int32 → TS → Prop) (h : tb_bakesFrom c_bakesFrom s x1 x2 k) : XM l D T yX6_bakesFrom cX6_bakesFrom 4 (some .int) lev 0 0 [.ref (q 0), .int x1, .int x2] (tw T q s) (tpostI T q k) := by
  refine XM.start (by decide +kernel) (Nat.le_of_ble_eq_true rfl) (fun Γ G X _ hl_ => ?_)
  subst hl_
  refine K.less [0, 1, 2] (lv' := [(0, .ref (q 0)), (1, .int x1), (2, .int x2)]) rfl ?_
  unfold tb_bakesFrom at h
  refine k_iload_n G dX6_bakesFrom_0 rfl ?_
  obtain ⟨h0_, h1_, h2_, hD_⟩ := h
  by_cases c1_0 : x1 = 1
  · refine k_lswIn G 1 c1_0 51 dX6_bakesFrom_1 (by decide +kernel) rfl (by decide) ?_
    have h := h0_ c1_0
    clear h0_ h1_ h2_ hD_
    refine k_aload_n G dX6_bakesFrom_51 rfl ?_
    refine k_bipush G dX6_bakesFrom_52 kc_b_20 ?_
    refine kt_callV G (wk_runs _ D T q _ _ _ h) cf_runs q1812 dX6_bakesFrom_54 rfl rfl (Nat.le_of_ble_eq_true rfl) (Nat.le_trans (Nat.le_of_ble_eq_true rfl) hlev) (fun s54 h => ?_)
    refine k_aload_n G dX6_bakesFrom_57 rfl ?_
    refine k_iconst G dX6_bakesFrom_58 kc_i_0 ?_
    refine k_iload_n G dX6_bakesFrom_59 rfl ?_
    refine kt_callI G (w_bakesFrom _ _ _ _ h) cf_bakesFrom q1816 dX6_bakesFrom_60 rfl rfl (Nat.le_of_ble_eq_true rfl) hl_bakesFrom (fun r60 s60 h => ?_)
    refine k_bipush G dX6_bakesFrom_63 kc_b_6 ?_
    refine k_ixor G dX6_bakesFrom_65 ?_
    exact k_iret G X dX6_bakesFrom_66 (Nat.le_refl _) (Nat.le_refl _) ⟨_, _, rfl, rfl, h⟩
  by_cases c1_1 : x1 = 4
  · refine k_lswIn G 4 c1_1 36 dX6_bakesFrom_1 (by decide +kernel) rfl (by decide) ?_
    have h := h1_ c1_1
    clear h0_ h1_ h2_ hD_
    refine k_aload_n G dX6_bakesFrom_36 rfl ?_
    refine k_bipush G dX6_bakesFrom_37 kc_b_51 ?_
    refine kt_callV G (wk_runs _ D T q _ _ _ h) cf_runs q1812 dX6_bakesFrom_39 rfl rfl (Nat.le_of_ble_eq_true rfl) (Nat.le_trans (Nat.le_of_ble_eq_true rfl) hlev) (fun s39 h => ?_)
    refine k_aload_n G dX6_bakesFrom_42 rfl ?_
    refine k_iconst G dX6_bakesFrom_43 kc_i_1 ?_
    refine k_iload_n G dX6_bakesFrom_44 rfl ?_
    refine k_iconst G dX6_bakesFrom_45 kc_i_1 ?_
    refine k_iadd G dX6_bakesFrom_46 ?_
    refine kt_callI G (w_bakesFrom _ _ _ _ h) cf_bakesFrom q1816 dX6_bakesFrom_47 rfl rfl (Nat.le_of_ble_eq_true rfl) hl_bakesFrom (fun r47 s47 h => ?_)
    exact k_iret G X dX6_bakesFrom_50 (Nat.le_refl _) (Nat.le_refl _) ⟨_, _, rfl, rfl, h⟩
  by_cases c1_2 : x1 = 6
  · refine k_lswIn G 6 c1_2 67 dX6_bakesFrom_1 (by decide +kernel) rfl (by decide) ?_
    have h := h2_ c1_2
    clear h0_ h1_ h2_ hD_
    refine k_aload_n G dX6_bakesFrom_67 rfl ?_
    refine k_bipush G dX6_bakesFrom_68 kc_b_70 ?_
    refine kt_callV G (wk_runs _ D T q _ _ _ h) cf_runs q1812 dX6_bakesFrom_70 rfl rfl (Nat.le_of_ble_eq_true rfl) (Nat.le_trans (Nat.le_of_ble_eq_true rfl) hlev) (fun s70 h => ?_)
    refine k_aload_n G dX6_bakesFrom_73 rfl ?_
    refine k_iconst G dX6_bakesFrom_74 kc_i_3 ?_
    refine k_iload_n G dX6_bakesFrom_75 rfl ?_
    refine kt_callI G (w_bakesFrom _ _ _ _ h) cf_bakesFrom q1816 dX6_bakesFrom_76 rfl rfl (Nat.le_of_ble_eq_true rfl) hl_bakesFrom (fun r76 s76 h => ?_)
    refine k_istore_n G [(3, .int r76), (0, .ref (q 0)), (1, .int x1), (2, .int x2)] dX6_bakesFrom_79 rfl (Nat.le_of_ble_eq_true rfl) rfl ?_
    refine k_iload_n G dX6_bakesFrom_80 rfl ?_
    refine k_aload_n G dX6_bakesFrom_81 rfl ?_
    refine k_iconst G dX6_bakesFrom_82 kc_i_3 ?_
    refine k_iconst G dX6_bakesFrom_83 kc_i_2 ?_
    refine kt_callI G (wk_rises _ D T q _ _ _ _ h) cf_rises q1808 dX6_bakesFrom_84 rfl rfl (Nat.le_of_ble_eq_true rfl) (Nat.le_trans (Nat.le_of_ble_eq_true rfl) hlev) (fun r84 s84 h => ?_)
    refine k_iadd G dX6_bakesFrom_87 ?_
    exact k_iret G X dX6_bakesFrom_88 (Nat.le_refl _) (Nat.le_refl _) ⟨_, _, rfl, rfl, h⟩
  refine k_lswD G [1, 4, 6] 89 dX6_bakesFrom_1 (by decide +kernel) (by decide +kernel) (List.forall_mem_cons.mpr ⟨c1_0, List.forall_mem_cons.mpr ⟨c1_1, List.forall_mem_cons.mpr ⟨c1_2, fun _ h => absurd h List.not_mem_nil⟩⟩⟩) (by decide) ?_
  have h := hD_ c1_0 c1_1 c1_2
  clear h0_ h1_ h2_ hD_
  refine k_aload_n G dX6_bakesFrom_89 rfl ?_
  refine k_bipush G dX6_bakesFrom_90 kc_b_11 ?_
  refine kt_callV G (wk_runs _ D T q _ _ _ h) cf_runs q1812 dX6_bakesFrom_92 rfl rfl (Nat.le_of_ble_eq_true rfl) (Nat.le_trans (Nat.le_of_ble_eq_true rfl) hlev) (fun s92 h => ?_)
  refine k_aload_n G dX6_bakesFrom_95 rfl ?_
  refine k_aload_n G dX6_bakesFrom_96 rfl ?_
  refine k_aload_n G dX6_bakesFrom_97 rfl ?_
  refine kt_get G tf_own rfl dX6_bakesFrom_98 rfl ?_
  refine kt_callI G (wk_kind _ D T q _ _ _ h) cf_kind q1575 dX6_bakesFrom_101 rfl rfl (Nat.le_of_ble_eq_true rfl) (Nat.le_trans (Nat.le_of_ble_eq_true rfl) hlev) (fun r101 s101 h => ?_)
  refine k_iload_n G dX6_bakesFrom_104 rfl ?_
  refine kt_callI G (wk_rises _ D T q _ _ _ _ h) cf_rises q1808 dX6_bakesFrom_105 rfl rfl (Nat.le_of_ble_eq_true rfl) (Nat.le_trans (Nat.le_of_ble_eq_true rfl) hlev) (fun r105 s105 h => ?_)
  refine k_aload_n G dX6_bakesFrom_108 rfl ?_
  refine k_aload_n G dX6_bakesFrom_109 rfl ?_
  refine kt_get G tf_own rfl dX6_bakesFrom_110 rfl ?_
  refine kt_callI G (wk_number _ D T q _ _ _ h) cf_number q1583 dX6_bakesFrom_113 rfl rfl (Nat.le_of_ble_eq_true rfl) (Nat.le_trans (Nat.le_of_ble_eq_true rfl) hlev) (fun r113 s113 h => ?_)
  refine k_isub G dX6_bakesFrom_116 ?_
  exact k_iret G X dX6_bakesFrom_117 (Nat.le_refl _) (Nat.le_refl _) ⟨_, _, rfl, rfl, h⟩
def tf_bakesFrom : Nat → TS → Int32 → Int32 → (Int32 → TS → Prop) → Prop
  | 0, _, _, _, _ => False
  | n + 1, s, x1, x2, k => tb_bakesFrom (tf_bakesFrom n) s x1 x2 k
theorem wf_bakesFrom (l : Launch) (D : va_G) (T : xT) (q : Nat → Nat) : ∀ (n : Nat) (s : TS) (x1 : Int32) (x2 : Int32) (k : Int32 → TS → Prop), tf_bakesFrom n s x1 x2 k → XM l D T yX6_bakesFrom cX6_bakesFrom 4 (some .int) (6 + n) 0 0 [.ref (q 0), .int x1, .int x2] (tw T q s) (tpostI T q k) := by
  intro n
  induction n with
  | zero =>
    intro _ _ _ _ h
    exact h.elim
  | succ n ih =>
    intro s x1 x2 k h
    exact wb_bakesFrom l D T q (6 + (n + 1)) (tf_bakesFrom n) (6 + n) (by omega) ih (by omega) s x1 x2 k h
def tw_bakesFrom (s : TS) (x1 : Int32) (x2 : Int32) (k : Int32 → TS → Prop) : Prop := tf_bakesFrom 5 s x1 x2 k
theorem wk_bakesFrom (l : Launch) (D : va_G) (T : xT) (q : Nat → Nat) (s : TS) (x1 : Int32) (x2 : Int32) (k : Int32 → TS → Prop) (h : tw_bakesFrom s x1 x2 k) : XM l D T yX6_bakesFrom cX6_bakesFrom 4 (some .int) 11 0 0 [.ref (q 0), .int x1, .int x2] (tw T q s) (tpostI T q k) := wf_bakesFrom l D T q 5 s x1 x2 k h
def tb_tells_J50 (c_tells : TS → Int32 → Int32 → (Int32 → TS → Prop) → Prop) (k : Int32 → TS → Prop) (x2 : Int32) (s : TS) : Prop := tw_runs s 40 (fun s53 => c_tells s53 0 x2 (fun r59 s59 => tw_kind s59 ((s59.1 0 30)) (fun r70 s70 => tw_bakesFrom s70 r70 1 (fun r74 s74 => k ((r59 + r74)) s74))))
def tb_tells (c_tells : TS → Int32 → Int32 → (Int32 → TS → Prop) → Prop) (s : TS) (x1 : Int32) (x2 : Int32) (k : Int32 → TS → Prop) : Prop := (x1 = 3 → tb_tells_J50 c_tells k x2 s) ∧ (x1 = 5 → tw_runs s 60 (fun s35 => c_tells s35 2 ((x2 - (s35.1 0 30))) (fun r46 s46 => k r46 s46))) ∧ (x1 = 6 → tb_tells_J50 c_tells k x2 s) ∧ (¬ x1 = 3 → ¬ x1 = 5 → ¬ x1 = 6 → tw_runs s 12 (fun s82 => tw_kind s82 ((s82.1 0 30)) (fun r91 s91 => tw_bakesFrom s91 r91 x2 (fun r95 s95 => k ((r95 * 2)) s95))))
set_option maxHeartbeats 4000000 in
theorem wb_tells (l : Launch) (D : va_G) (T : xT) (q : Nat → Nat) (lev : Nat) (c_tells : TS → Int32 → Int32 → (Int32 → TS → Prop) → Prop) (l_tells : Nat) (hl_tells : l_tells + 1 ≤ lev) (w_tells : ∀ (s : TS) (x1 : Int32) (x2 : Int32) (k : Int32 → TS → Prop), c_tells s x1 x2 k → XM l D T yX6_tells cX6_tells 4 (some .int) l_tells 0 0 [.ref (q 0), .int x1, .int x2] (tw T q s) (tpostI T q k)) (hlev : 12 ≤ lev) (s : TS) (x1 : Int32) (x2 : Int32) (k : Int32 → TS → Prop) (h : tb_tells c_tells s x1 x2 k) : XM l D T yX6_tells cX6_tells 4 (some .int) lev 0 0 [.ref (q 0), .int x1, .int x2] (tw T q s) (tpostI T q k) := by
  refine XM.start (by decide +kernel) (Nat.le_of_ble_eq_true rfl) (fun Γ G X _ hl_ => ?_)
  subst hl_
  have hJ50 : ∀ (x2 : Int32) (s : TS), tb_tells_J50 c_tells k x2 s → K D Γ 0 0 50 [(0, .ref (q 0)), (2, .int x2)] [] (tw T q s) := by
    intro x2 s h
    unfold tb_tells_J50 at h
    refine k_aload_n G dX6_tells_50 rfl ?_
    refine k_bipush G dX6_tells_51 kc_b_40 ?_
    refine kt_callV G (wk_runs _ D T q _ _ _ h) cf_runs q1812 dX6_tells_53 rfl rfl (Nat.le_of_ble_eq_true rfl) (Nat.le_trans (Nat.le_of_ble_eq_true rfl) hlev) (fun s53 h => ?_)
    refine k_aload_n G dX6_tells_56 rfl ?_
    refine k_iconst G dX6_tells_57 kc_i_0 ?_
    refine k_iload_n G dX6_tells_58 rfl ?_
    refine kt_callI G (w_tells _ _ _ _ h) cf_tells q1820 dX6_tells_59 rfl rfl (Nat.le_of_ble_eq_true rfl) hl_tells (fun r59 s59 h => ?_)
    refine k_istore_n G [(3, .int r59), (0, .ref (q 0)), (2, .int x2)] dX6_tells_62 rfl (Nat.le_of_ble_eq_true rfl) rfl ?_
    refine k_iload_n G dX6_tells_63 rfl ?_
    refine k_aload_n G dX6_tells_64 rfl ?_
    refine k_aload_n G dX6_tells_65 rfl ?_
    refine k_aload_n G dX6_tells_66 rfl ?_
    refine kt_get G tf_own rfl dX6_tells_67 rfl ?_
    refine kt_callI G (wk_kind _ D T q _ _ _ h) cf_kind q1575 dX6_tells_70 rfl rfl (Nat.le_of_ble_eq_true rfl) (Nat.le_trans (Nat.le_of_ble_eq_true rfl) hlev) (fun r70 s70 h => ?_)
    refine k_iconst G dX6_tells_73 kc_i_1 ?_
    refine kt_callI G (wk_bakesFrom _ D T q _ _ _ _ h) cf_bakesFrom q1816 dX6_tells_74 rfl rfl (Nat.le_of_ble_eq_true rfl) (Nat.le_trans (Nat.le_of_ble_eq_true rfl) hlev) (fun r74 s74 h => ?_)
    refine k_iadd G dX6_tells_77 ?_
    exact k_iret G X dX6_tells_78 (Nat.le_refl _) (Nat.le_refl _) ⟨_, _, rfl, rfl, h⟩
  refine K.less [0, 1, 2] (lv' := [(0, .ref (q 0)), (1, .int x1), (2, .int x2)]) rfl ?_
  unfold tb_tells at h
  refine k_iload_n G dX6_tells_0 rfl ?_
  obtain ⟨h0_, h1_, h2_, hD_⟩ := h
  by_cases c1_0 : x1 = 3
  · refine k_tswIn G 3 c1_0 50 dX6_tells_1 (by decide +kernel) (by decide +kernel) rfl (by decide) ?_
    have h := h0_ c1_0
    clear h0_ h1_ h2_ hD_
    refine K.less [0, 2] rfl ?_
    exact hJ50 _ _ h
  by_cases c1_1 : x1 = 5
  · refine k_tswIn G 5 c1_1 32 dX6_tells_1 (by decide +kernel) (by decide +kernel) rfl (by decide) ?_
    have h := h1_ c1_1
    clear h0_ h1_ h2_ hD_
    refine k_aload_n G dX6_tells_32 rfl ?_
    refine k_bipush G dX6_tells_33 kc_b_60 ?_
    refine kt_callV G (wk_runs _ D T q _ _ _ h) cf_runs q1812 dX6_tells_35 rfl rfl (Nat.le_of_ble_eq_true rfl) (Nat.le_trans (Nat.le_of_ble_eq_true rfl) hlev) (fun s35 h => ?_)
    refine k_aload_n G dX6_tells_38 rfl ?_
    refine k_iconst G dX6_tells_39 kc_i_2 ?_
    refine k_iload_n G dX6_tells_40 rfl ?_
    refine k_aload_n G dX6_tells_41 rfl ?_
    refine kt_get G tf_own rfl dX6_tells_42 rfl ?_
    refine k_isub G dX6_tells_45 ?_
    refine kt_callI G (w_tells _ _ _ _ h) cf_tells q1820 dX6_tells_46 rfl rfl (Nat.le_of_ble_eq_true rfl) hl_tells (fun r46 s46 h => ?_)
    exact k_iret G X dX6_tells_49 (Nat.le_refl _) (Nat.le_refl _) ⟨_, _, rfl, rfl, h⟩
  by_cases c1_2 : x1 = 6
  · refine k_tswIn G 6 c1_2 50 dX6_tells_1 (by decide +kernel) (by decide +kernel) rfl (by decide) ?_
    have h := h2_ c1_2
    clear h0_ h1_ h2_ hD_
    refine K.less [0, 2] rfl ?_
    exact hJ50 _ _ h
  refine k_tswD G [3, 5, 6] 79 dX6_tells_1 (by decide +kernel) (by decide +kernel) (List.forall_mem_cons.mpr ⟨c1_0, List.forall_mem_cons.mpr ⟨c1_1, List.forall_mem_cons.mpr ⟨c1_2, fun _ h => absurd h List.not_mem_nil⟩⟩⟩) (by decide) ?_
  have h := hD_ c1_0 c1_1 c1_2
  clear h0_ h1_ h2_ hD_
  refine k_aload_n G dX6_tells_79 rfl ?_
  refine k_bipush G dX6_tells_80 kc_b_12 ?_
  refine kt_callV G (wk_runs _ D T q _ _ _ h) cf_runs q1812 dX6_tells_82 rfl rfl (Nat.le_of_ble_eq_true rfl) (Nat.le_trans (Nat.le_of_ble_eq_true rfl) hlev) (fun s82 h => ?_)
  refine k_aload_n G dX6_tells_85 rfl ?_
  refine k_aload_n G dX6_tells_86 rfl ?_
  refine k_aload_n G dX6_tells_87 rfl ?_
  refine kt_get G tf_own rfl dX6_tells_88 rfl ?_
  refine kt_callI G (wk_kind _ D T q _ _ _ h) cf_kind q1575 dX6_tells_91 rfl rfl (Nat.le_of_ble_eq_true rfl) (Nat.le_trans (Nat.le_of_ble_eq_true rfl) hlev) (fun r91 s91 h => ?_)
  refine k_iload_n G dX6_tells_94 rfl ?_
  refine kt_callI G (wk_bakesFrom _ D T q _ _ _ _ h) cf_bakesFrom q1816 dX6_tells_95 rfl rfl (Nat.le_of_ble_eq_true rfl) (Nat.le_trans (Nat.le_of_ble_eq_true rfl) hlev) (fun r95 s95 h => ?_)
  refine k_iconst G dX6_tells_98 kc_i_2 ?_
  refine k_imul G dX6_tells_99 ?_
  exact k_iret G X dX6_tells_100 (Nat.le_refl _) (Nat.le_refl _) ⟨_, _, rfl, rfl, h⟩
def tf_tells : Nat → TS → Int32 → Int32 → (Int32 → TS → Prop) → Prop
  | 0, _, _, _, _ => False
  | n + 1, s, x1, x2, k => tb_tells (tf_tells n) s x1 x2 k
theorem wf_tells (l : Launch) (D : va_G) (T : xT) (q : Nat → Nat) : ∀ (n : Nat) (s : TS) (x1 : Int32) (x2 : Int32) (k : Int32 → TS → Prop), tf_tells n s x1 x2 k → XM l D T yX6_tells cX6_tells 4 (some .int) (11 + n) 0 0 [.ref (q 0), .int x1, .int x2] (tw T q s) (tpostI T q k) := by
  intro n
  induction n with
  | zero =>
    intro _ _ _ _ h
    exact h.elim
  | succ n ih =>
    intro s x1 x2 k h
    exact wb_tells l D T q (11 + (n + 1)) (tf_tells n) (11 + n) (by omega) ih (by omega) s x1 x2 k h
def tw_tells (s : TS) (x1 : Int32) (x2 : Int32) (k : Int32 → TS → Prop) : Prop := tf_tells 4 s x1 x2 k
theorem wk_tells (l : Launch) (D : va_G) (T : xT) (q : Nat → Nat) (s : TS) (x1 : Int32) (x2 : Int32) (k : Int32 → TS → Prop) (h : tw_tells s x1 x2 k) : XM l D T yX6_tells cX6_tells 4 (some .int) 15 0 0 [.ref (q 0), .int x1, .int x2] (tw T q s) (tpostI T q k) := wf_tells l D T q 4 s x1 x2 k h
def tw_act (s : TS) (x1 : Int32) (x2 : Int32) (x3 : Int32) (k : Int32 → TS → Prop) : Prop := ∀ w7 : TS, w7 = (sA s 0 29 0) → tw_isLoaf w7 x1 (fun r7 s7 => (r7 = 0 → k 0 s7) ∧ (¬ r7 = 0 → pw_isIn x2 0 2 (fun r16 => (¬ r16 = 0 → ∀ w31 : TS, w31 = (sA s7 0 30 x1) → tw_kind w31 x1 (fun r31 s31 => (¬ x2 = 0 → (¬ x2 = 1 → tw_tells s31 r31 x3 (fun r69 s69 => k r69 s69)) ∧ (x2 = 1 → tw_bakesFrom s31 r31 x3 (fun r59 s59 => k r59 s59))) ∧ (x2 = 0 → tw_rises s31 r31 x3 (fun r44 s44 => k r44 s44)))) ∧ (r16 = 0 → k 0 s7))))
set_option maxHeartbeats 4000000 in
theorem wk_act (l : Launch) (D : va_G) (T : xT) (q : Nat → Nat) (s : TS) (x1 : Int32) (x2 : Int32) (x3 : Int32) (k : Int32 → TS → Prop) (h : tw_act s x1 x2 x3 k) : XM l D T yX6_act cX6_act 5 (some .int) 16 0 0 [.ref (q 0), .int x1, .int x2, .int x3] (tw T q s) (tpostI T q k) := by
  refine XM.start (by decide +kernel) (Nat.le_of_ble_eq_true rfl) (fun Γ G X _ hl_ => ?_)
  subst hl_
  refine K.less [0, 1, 2, 3] (lv' := [(0, .ref (q 0)), (1, .int x1), (2, .int x2), (3, .int x3)]) rfl ?_
  unfold tw_act at h
  refine k_aload_n G dX6_act_0 rfl ?_
  refine k_iconst G dX6_act_1 kc_i_0 ?_
  refine kt_put G tp_ran rfl dX6_act_2 ?_
  refine k_aload_n G dX6_act_5 rfl ?_
  refine k_iload_n G dX6_act_6 rfl ?_
  refine kt_nmW (fun w7 ew7 => ?_)
  have h := h w7 ew7
  refine kt_callI G (wk_isLoaf _ D T q _ _ _ h) cf_isLoaf q1595 dX6_act_7 rfl rfl (Nat.le_of_ble_eq_true rfl) (Nat.le_of_ble_eq_true rfl) (fun r7 s7 h => ?_)
  obtain ⟨hA, hB⟩ := h
  refine k_if_eq G 22 dX6_act_10 (by decide) (fun c10 => ?_) (fun c10 => ?_)
  · have h := hA c10
    clear hA hB
    refine k_iconst G dX6_act_22 kc_i_0 ?_
    exact k_iret G X dX6_act_23 (Nat.le_refl _) (Nat.le_refl _) ⟨_, _, rfl, rfl, h⟩
  · have h := hB c10
    clear hA hB
    refine k_iload_n G dX6_act_13 rfl ?_
    refine k_iconst G dX6_act_14 kc_i_0 ?_
    refine k_iconst G dX6_act_15 kc_i_2 ?_
    refine k_callPI G (wk_isIn _ D T _ _ _ _ h) cf_isIn q1511 dX6_act_16 rfl rfl (Nat.le_of_ble_eq_true rfl) (Nat.le_of_ble_eq_true rfl) ⟨Nat.zero_le _, Nat.zero_le _⟩ (fun r16 h => ?_)
    obtain ⟨hA, hB⟩ := h
    refine k_if_ne G 24 dX6_act_19 (by decide) (fun c19 => ?_) (fun c19 => ?_)
    · have h := hA c19
      clear hA hB
      refine k_aload_n G dX6_act_24 rfl ?_
      refine k_iload_n G dX6_act_25 rfl ?_
      refine kt_put G tp_own rfl dX6_act_26 ?_
      refine k_aload_n G dX6_act_29 rfl ?_
      refine k_iload_n G dX6_act_30 rfl ?_
      refine kt_nmW (fun w31 ew31 => ?_)
      have h := h w31 ew31
      refine kt_callI G (wk_kind _ D T q _ _ _ h) cf_kind q1575 dX6_act_31 rfl rfl (Nat.le_of_ble_eq_true rfl) (Nat.le_of_ble_eq_true rfl) (fun r31 s31 h => ?_)
      refine k_istore G [(4, .int r31), (0, .ref (q 0)), (1, .int x1), (2, .int x2), (3, .int x3)] dX6_act_34 (Nat.le_of_ble_eq_true rfl) rfl ?_
      refine k_iload_n G dX6_act_36 rfl ?_
      obtain ⟨hA, hB⟩ := h
      refine k_if_ne G 50 dX6_act_37 (by decide) (fun c37 => ?_) (fun c37 => ?_)
      · have h := hA c37
        clear hA hB
        refine k_iload_n G dX6_act_50 rfl ?_
        refine k_iconst G dX6_act_51 kc_i_1 ?_
        obtain ⟨hA, hB⟩ := h
        refine k_icmp_ne G 65 dX6_act_52 (by decide) (fun c52 => ?_) (fun c52 => ?_)
        · have h := hA c52
          clear hA hB
          refine k_aload_n G dX6_act_65 rfl ?_
          refine k_iload G dX6_act_66 rfl ?_
          refine k_iload_n G dX6_act_68 rfl ?_
          refine kt_callI G (wk_tells _ D T q _ _ _ _ h) cf_tells q1820 dX6_act_69 rfl rfl (Nat.le_of_ble_eq_true rfl) (Nat.le_of_ble_eq_true rfl) (fun r69 s69 h => ?_)
          exact k_iret G X dX6_act_72 (Nat.le_refl _) (Nat.le_refl _) ⟨_, _, rfl, rfl, h⟩
        · have h := hB c52
          clear hA hB
          refine k_aload_n G dX6_act_55 rfl ?_
          refine k_iload G dX6_act_56 rfl ?_
          refine k_iload_n G dX6_act_58 rfl ?_
          refine kt_callI G (wk_bakesFrom _ D T q _ _ _ _ h) cf_bakesFrom q1816 dX6_act_59 rfl rfl (Nat.le_of_ble_eq_true rfl) (Nat.le_of_ble_eq_true rfl) (fun r59 s59 h => ?_)
          refine k_goto G 72 dX6_act_62 (by decide) ?_
          exact k_iret G X dX6_act_72 (Nat.le_refl _) (Nat.le_refl _) ⟨_, _, rfl, rfl, h⟩
      · have h := hB c37
        clear hA hB
        refine k_aload_n G dX6_act_40 rfl ?_
        refine k_iload G dX6_act_41 rfl ?_
        refine k_iload_n G dX6_act_43 rfl ?_
        refine kt_callI G (wk_rises _ D T q _ _ _ _ h) cf_rises q1808 dX6_act_44 rfl rfl (Nat.le_of_ble_eq_true rfl) (Nat.le_of_ble_eq_true rfl) (fun r44 s44 h => ?_)
        refine k_goto G 72 dX6_act_47 (by decide) ?_
        exact k_iret G X dX6_act_72 (Nat.le_refl _) (Nat.le_refl _) ⟨_, _, rfl, rfl, h⟩
    · have h := hB c19
      clear hA hB
      refine k_iconst G dX6_act_22 kc_i_0 ?_
      exact k_iret G X dX6_act_23 (Nat.le_refl _) (Nat.le_refl _) ⟨_, _, rfl, rfl, h⟩
def tw_trace (s : TS) (x1 : Int32) (k : Int32 → TS → Prop) : Prop := (x1 < 0 → k (-1) s) ∧ (¬ x1 < 0 → ((s.1 0 29) ≤ x1 → k (-1) s) ∧ (¬ (s.1 0 29) ≤ x1 → (20 ≤ x1 → k (-1) s) ∧ (¬ 20 ≤ x1 → vp_in x1 20 ∧ k ((s.1 13 (x1 : Int32).toNatClampNeg)) s)))
set_option maxHeartbeats 4000000 in
theorem wk_trace (l : Launch) (D : va_G) (T : xT) (q : Nat → Nat) (s : TS) (x1 : Int32) (k : Int32 → TS → Prop) (h : tw_trace s x1 k) : XM l D T yX6_trace cX6_trace 2 (some .int) 1 0 0 [.ref (q 0), .int x1] (tw T q s) (tpostI T q k) := by
  refine XM.start (by decide +kernel) (Nat.le_of_ble_eq_true rfl) (fun Γ G X _ hl_ => ?_)
  subst hl_
  refine K.less [0, 1] (lv' := [(0, .ref (q 0)), (1, .int x1)]) rfl ?_
  unfold tw_trace at h
  refine k_iload_n G dX6_trace_0 rfl ?_
  obtain ⟨hA, hB⟩ := h
  refine k_if_lt G 27 dX6_trace_1 (by decide) (fun c1 => ?_) (fun c1 => ?_)
  · have h := hA c1
    clear hA hB
    refine k_iconst G dX6_trace_27 kc_i_m1 ?_
    exact k_iret G X dX6_trace_28 (Nat.le_refl _) (Nat.le_refl _) ⟨_, _, rfl, rfl, h⟩
  · have h := hB c1
    clear hA hB
    refine k_iload_n G dX6_trace_4 rfl ?_
    refine k_aload_n G dX6_trace_5 rfl ?_
    refine kt_get G tf_ran rfl dX6_trace_6 rfl ?_
    obtain ⟨hA, hB⟩ := h
    refine k_icmp_ge G 27 dX6_trace_9 (by decide) (fun c9 => ?_) (fun c9 => ?_)
    · have h := hA c9
      clear hA hB
      refine k_iconst G dX6_trace_27 kc_i_m1 ?_
      exact k_iret G X dX6_trace_28 (Nat.le_refl _) (Nat.le_refl _) ⟨_, _, rfl, rfl, h⟩
    · have h := hB c9
      clear hA hB
      refine k_iload_n G dX6_trace_12 rfl ?_
      refine k_bipush G dX6_trace_13 kc_b_20 ?_
      obtain ⟨hA, hB⟩ := h
      refine k_icmp_ge G 27 dX6_trace_15 (by decide) (fun c15 => ?_) (fun c15 => ?_)
      · have h := hA c15
        clear hA hB
        refine k_iconst G dX6_trace_27 kc_i_m1 ?_
        exact k_iret G X dX6_trace_28 (Nat.le_refl _) (Nat.le_refl _) ⟨_, _, rfl, rfl, h⟩
      · have h := hB c15
        clear hA hB
        refine k_aload_n G dX6_trace_18 rfl ?_
        refine kt_get G tf_trace rfl dX6_trace_19 rfl ?_
        refine k_iload_n G dX6_trace_22 rfl ?_
        obtain ⟨h1, h⟩ := h
        refine kt_iald G tA_13 dX6_trace_23 h1 ?_
        refine k_goto G 28 dX6_trace_24 (by decide) ?_
        exact k_iret G X dX6_trace_28 (Nat.le_refl _) (Nat.le_refl _) ⟨_, _, rfl, rfl, h⟩
def pw_above (x0 : Int32) (k : Int32 → Prop) : Prop := (x0 < 4 → k 0) ∧ (¬ x0 < 4 → k ((x0 - 3)))
set_option maxHeartbeats 4000000 in
theorem wk_above (l : Launch) (D : va_G) (T : xT) (x0 : Int32) (k : Int32 → Prop) (h : pw_above x0 k) : XM l D T yX6_above cX6_above 1 (some .int) 1 0 0 [.int x0] [] (ppostI k) := by
  refine XM.start (by decide +kernel) (Nat.le_of_ble_eq_true rfl) (fun Γ G X _ hl_ => ?_)
  subst hl_
  refine K.less [0] (lv' := [(0, .int x0)]) rfl ?_
  unfold pw_above at h
  refine k_iload_n G dX6_above_0 rfl ?_
  refine k_iconst G dX6_above_1 kc_i_4 ?_
  obtain ⟨hA, hB⟩ := h
  refine k_icmp_lt G 11 dX6_above_2 (by decide) (fun c2 => ?_) (fun c2 => ?_)
  · have h := hA c2
    clear hA hB
    refine k_iconst G dX6_above_11 kc_i_0 ?_
    exact k_iret G X dX6_above_12 (Nat.le_refl _) (Nat.le_refl _) ⟨_, rfl, rfl, h⟩
  · have h := hB c2
    clear hA hB
    refine k_iload_n G dX6_above_5 rfl ?_
    refine k_iconst G dX6_above_6 kc_i_3 ?_
    refine k_isub G dX6_above_7 ?_
    refine k_goto G 12 dX6_above_8 (by decide) ?_
    exact k_iret G X dX6_above_12 (Nat.le_refl _) (Nat.le_refl _) ⟨_, rfl, rfl, h⟩
def tw_taken_J47 (k : Int32 → TS → Prop) (x3 : Int32) (s : TS) : Prop := k x3 s
def tw_taken (s : TS) (x1 : Int32) (x2 : Int32) (k : Int32 → TS → Prop) : Prop := pw_isIn x2 0 6 (fun r4 => (¬ r4 = 0 → tw_isLoaf s x1 (fun r15 s15 => (¬ r15 = 0 → tw_kind s15 x1 (fun r26 s26 => (r26 = x2 → tw_taken_J47 k r26 s26) ∧ (¬ r26 = x2 → pw_above r26 (fun r36 => (r36 = x2 → tw_taken_J47 k r26 s26) ∧ (¬ r36 = x2 → (¬ x2 = 0 → k (-12) s26) ∧ (x2 = 0 → tw_taken_J47 k r26 s26)))))) ∧ (r15 = 0 → k (-11) s15))) ∧ (r4 = 0 → k (-2) s))
set_option maxHeartbeats 4000000 in
theorem wk_taken (l : Launch) (D : va_G) (T : xT) (q : Nat → Nat) (s : TS) (x1 : Int32) (x2 : Int32) (k : Int32 → TS → Prop) (h : tw_taken s x1 x2 k) : XM l D T yX6_taken cX6_taken 4 (some .int) 3 0 0 [.ref (q 0), .int x1, .int x2] (tw T q s) (tpostI T q k) := by
  refine XM.start (by decide +kernel) (Nat.le_of_ble_eq_true rfl) (fun Γ G X _ hl_ => ?_)
  subst hl_
  have hJ47 : ∀ (x3 : Int32) (s : TS), tw_taken_J47 k x3 s → K D Γ 0 0 47 [(3, .int x3)] [] (tw T q s) := by
    intro x3 s h
    unfold tw_taken_J47 at h
    refine k_iload_n G dX6_taken_47 rfl ?_
    refine k_goto G 53 dX6_taken_48 (by decide) ?_
    exact k_iret G X dX6_taken_53 (Nat.le_refl _) (Nat.le_refl _) ⟨_, _, rfl, rfl, h⟩
  refine K.less [0, 1, 2] (lv' := [(0, .ref (q 0)), (1, .int x1), (2, .int x2)]) rfl ?_
  unfold tw_taken at h
  refine k_iload_n G dX6_taken_0 rfl ?_
  refine k_iconst G dX6_taken_1 kc_i_0 ?_
  refine k_bipush G dX6_taken_2 kc_b_6 ?_
  refine k_callPI G (wk_isIn _ D T _ _ _ _ h) cf_isIn q1511 dX6_taken_4 rfl rfl (Nat.le_of_ble_eq_true rfl) (Nat.le_of_ble_eq_true rfl) ⟨Nat.zero_le _, Nat.zero_le _⟩ (fun r4 h => ?_)
  obtain ⟨hA, hB⟩ := h
  refine k_if_ne G 13 dX6_taken_7 (by decide) (fun c7 => ?_) (fun c7 => ?_)
  · have h := hA c7
    clear hA hB
    refine k_aload_n G dX6_taken_13 rfl ?_
    refine k_iload_n G dX6_taken_14 rfl ?_
    refine kt_callI G (wk_isLoaf _ D T q _ _ _ h) cf_isLoaf q1595 dX6_taken_15 rfl rfl (Nat.le_of_ble_eq_true rfl) (Nat.le_of_ble_eq_true rfl) (fun r15 s15 h => ?_)
    obtain ⟨hA, hB⟩ := h
    refine k_if_ne G 24 dX6_taken_18 (by decide) (fun c18 => ?_) (fun c18 => ?_)
    · have h := hA c18
      clear hA hB
      refine k_aload_n G dX6_taken_24 rfl ?_
      refine k_iload_n G dX6_taken_25 rfl ?_
      refine kt_callI G (wk_kind _ D T q _ _ _ h) cf_kind q1575 dX6_taken_26 rfl rfl (Nat.le_of_ble_eq_true rfl) (Nat.le_of_ble_eq_true rfl) (fun r26 s26 h => ?_)
      refine k_istore_n G [(3, .int r26), (0, .ref (q 0)), (1, .int x1), (2, .int x2)] dX6_taken_29 rfl (Nat.le_of_ble_eq_true rfl) rfl ?_
      refine k_iload_n G dX6_taken_30 rfl ?_
      refine k_iload_n G dX6_taken_31 rfl ?_
      obtain ⟨hA, hB⟩ := h
      refine k_icmp_eq G 47 dX6_taken_32 (by decide) (fun c32 => ?_) (fun c32 => ?_)
      · have h := hA c32
        clear hA hB
        refine K.less [0] rfl ?_
        exact hJ47 _ _ h
      · have h := hB c32
        clear hA hB
        refine k_iload_n G dX6_taken_35 rfl ?_
        refine k_callPI G (wk_above _ D T _ _ h) cf_above q1832 dX6_taken_36 rfl rfl (Nat.le_of_ble_eq_true rfl) (Nat.le_of_ble_eq_true rfl) ⟨Nat.zero_le _, Nat.zero_le _⟩ (fun r36 h => ?_)
        refine k_iload_n G dX6_taken_39 rfl ?_
        obtain ⟨hA, hB⟩ := h
        refine k_icmp_eq G 47 dX6_taken_40 (by decide) (fun c40 => ?_) (fun c40 => ?_)
        · have h := hA c40
          clear hA hB
          refine K.less [0] rfl ?_
          exact hJ47 _ _ h
        · have h := hB c40
          clear hA hB
          refine k_iload_n G dX6_taken_43 rfl ?_
          obtain ⟨hA, hB⟩ := h
          refine k_if_ne G 51 dX6_taken_44 (by decide) (fun c44 => ?_) (fun c44 => ?_)
          · have h := hA c44
            clear hA hB
            refine k_bipush G dX6_taken_51 kc_b_m12 ?_
            exact k_iret G X dX6_taken_53 (Nat.le_refl _) (Nat.le_refl _) ⟨_, _, rfl, rfl, h⟩
          · have h := hB c44
            clear hA hB
            refine K.less [0] rfl ?_
            exact hJ47 _ _ h
    · have h := hB c18
      clear hA hB
      refine k_bipush G dX6_taken_21 kc_b_m11 ?_
      exact k_iret G X dX6_taken_23 (Nat.le_refl _) (Nat.le_refl _) ⟨_, _, rfl, rfl, h⟩
  · have h := hB c7
    clear hA hB
    refine k_bipush G dX6_taken_10 kc_b_m2 ?_
    exact k_iret G X dX6_taken_12 (Nat.le_refl _) (Nat.le_refl _) ⟨_, _, rfl, rfl, h⟩
def tw_count (s : TS) (x1 : Int32) (k : Int32 → TS → Prop) : Prop := (x1 = 0 → vp_in 5 92 ∧ k ((s.1 1 (5 : Int32).toNatClampNeg)) s) ∧ (x1 = 1 → k ((s.1 0 8)) s) ∧ (x1 = 2 → vp_in 7 92 ∧ k ((s.1 1 (7 : Int32).toNatClampNeg)) s) ∧ (x1 = 3 → k ((s.1 0 7)) s) ∧ (x1 = 4 → k ((s.1 0 29)) s) ∧ (¬ x1 = 0 → ¬ x1 = 1 → ¬ x1 = 2 → ¬ x1 = 3 → ¬ x1 = 4 → k (-2) s)
set_option maxHeartbeats 4000000 in
theorem wk_count (l : Launch) (D : va_G) (T : xT) (q : Nat → Nat) (s : TS) (x1 : Int32) (k : Int32 → TS → Prop) (h : tw_count s x1 k) : XM l D T yX6_count cX6_count 2 (some .int) 1 0 0 [.ref (q 0), .int x1] (tw T q s) (tpostI T q k) := by
  refine XM.start (by decide +kernel) (Nat.le_of_ble_eq_true rfl) (fun Γ G X _ hl_ => ?_)
  subst hl_
  refine K.less [0, 1] (lv' := [(0, .ref (q 0)), (1, .int x1)]) rfl ?_
  unfold tw_count at h
  refine k_iload_n G dX6_count_0 rfl ?_
  obtain ⟨h0_, h1_, h2_, h3_, h4_, hD_⟩ := h
  by_cases c1_0 : x1 = 0
  · refine k_tswIn G 0 c1_0 36 dX6_count_1 (by decide +kernel) (by decide +kernel) rfl (by decide) ?_
    have h := h0_ c1_0
    clear h0_ h1_ h2_ h3_ h4_ hD_
    refine k_aload_n G dX6_count_36 rfl ?_
    refine kt_get G tf_s rfl dX6_count_37 rfl ?_
    refine k_iconst G dX6_count_40 kc_i_5 ?_
    obtain ⟨h1, h⟩ := h
    refine kt_iald G tA_1 dX6_count_41 h1 ?_
    exact k_iret G X dX6_count_42 (Nat.le_refl _) (Nat.le_refl _) ⟨_, _, rfl, rfl, h⟩
  by_cases c1_1 : x1 = 1
  · refine k_tswIn G 1 c1_1 43 dX6_count_1 (by decide +kernel) (by decide +kernel) rfl (by decide) ?_
    have h := h1_ c1_1
    clear h0_ h1_ h2_ h3_ h4_ hD_
    refine k_aload_n G dX6_count_43 rfl ?_
    refine kt_get G tf_kilns rfl dX6_count_44 rfl ?_
    exact k_iret G X dX6_count_47 (Nat.le_refl _) (Nat.le_refl _) ⟨_, _, rfl, rfl, h⟩
  by_cases c1_2 : x1 = 2
  · refine k_tswIn G 2 c1_2 48 dX6_count_1 (by decide +kernel) (by decide +kernel) rfl (by decide) ?_
    have h := h2_ c1_2
    clear h0_ h1_ h2_ h3_ h4_ hD_
    refine k_aload_n G dX6_count_48 rfl ?_
    refine kt_get G tf_s rfl dX6_count_49 rfl ?_
    refine k_bipush G dX6_count_52 kc_b_7 ?_
    obtain ⟨h1, h⟩ := h
    refine kt_iald G tA_1 dX6_count_54 h1 ?_
    exact k_iret G X dX6_count_55 (Nat.le_refl _) (Nat.le_refl _) ⟨_, _, rfl, rfl, h⟩
  by_cases c1_3 : x1 = 3
  · refine k_tswIn G 3 c1_3 56 dX6_count_1 (by decide +kernel) (by decide +kernel) rfl (by decide) ?_
    have h := h3_ c1_3
    clear h0_ h1_ h2_ h3_ h4_ hD_
    refine k_aload_n G dX6_count_56 rfl ?_
    refine kt_get G tf_texted rfl dX6_count_57 rfl ?_
    exact k_iret G X dX6_count_60 (Nat.le_refl _) (Nat.le_refl _) ⟨_, _, rfl, rfl, h⟩
  by_cases c1_4 : x1 = 4
  · refine k_tswIn G 4 c1_4 61 dX6_count_1 (by decide +kernel) (by decide +kernel) rfl (by decide) ?_
    have h := h4_ c1_4
    clear h0_ h1_ h2_ h3_ h4_ hD_
    refine k_aload_n G dX6_count_61 rfl ?_
    refine kt_get G tf_ran rfl dX6_count_62 rfl ?_
    exact k_iret G X dX6_count_65 (Nat.le_refl _) (Nat.le_refl _) ⟨_, _, rfl, rfl, h⟩
  refine k_tswD G [0, 1, 2, 3, 4] 66 dX6_count_1 (by decide +kernel) (by decide +kernel) (List.forall_mem_cons.mpr ⟨c1_0, List.forall_mem_cons.mpr ⟨c1_1, List.forall_mem_cons.mpr ⟨c1_2, List.forall_mem_cons.mpr ⟨c1_3, List.forall_mem_cons.mpr ⟨c1_4, fun _ h => absurd h List.not_mem_nil⟩⟩⟩⟩⟩) (by decide) ?_
  have h := hD_ c1_0 c1_1 c1_2 c1_3 c1_4
  clear h0_ h1_ h2_ h3_ h4_ hD_
  refine k_bipush G dX6_count_66 kc_b_m2 ?_
  exact k_iret G X dX6_count_68 (Nat.le_refl _) (Nat.le_refl _) ⟨_, _, rfl, rfl, h⟩
def tw_tape_L67 (k : Int32 → TS → Prop) : Nat → Int32 → Int32 → TS → Prop
  | 0, _, _, _ => False
  | n + 1, x1, x4, s => (60 ≤ x4 → k 1 s) ∧ (¬ 60 ≤ x4 → vp_in ((60 * x1) + x4) 360 ∧ ∀ x87 : Int32, x87 = x4 + 1 → tw_tape_L67 k n x1 x87 ((sL s (((60 * x1) + x4) : Int32).toNatClampNeg 0)))
def tw_tape_J63 (k : Int32 → TS → Prop) (x1 : Int32) (y0 : Int32) (y1 : Int32) (s : TS) : Prop := vp_in y1 6 ∧ ∃ n67 : Nat, tw_tape_L67 k n67 x1 0 ((sA s 11 (y1 : Int32).toNatClampNeg y0))
def tw_tape_J42 (k : Int32 → TS → Prop) (x1 : Int32) (x2 : Int32) (x3 : Int32) (s : TS) : Prop := vp_in x1 6 ∧ (0 ≤ x2 → tw_tape_J63 k x1 x3 x1 ((sA s 10 (x1 : Int32).toNatClampNeg x2))) ∧ (¬ 0 ≤ x2 → tw_tape_J63 k x1 0 x1 ((sA s 10 (x1 : Int32).toNatClampNeg x2)))
def tw_tape_J31 (k : Int32 → TS → Prop) (x1 : Int32) (x2 : Int32) (x3 : Int32) (s : TS) : Prop := (x2 < 0 → tw_tape_J42 k x1 x2 x3 s) ∧ (¬ x2 < 0 → (0 ≤ x3 → tw_tape_J42 k x1 x2 x3 s) ∧ (¬ 0 ≤ x3 → k (-14) s))
def tw_tape (s : TS) (x1 : Int32) (x2 : Int32) (x3 : Int32) (k : Int32 → TS → Prop) : Prop := pw_isTape x1 (fun r1 => (¬ r1 = 0 → pw_isIn x2 (-1) 4 (fun r12 => (r12 = 0 → k (-2) s) ∧ (¬ r12 = 0 → (x2 < 0 → tw_tape_J31 k x1 x2 x3 s) ∧ (¬ x2 < 0 → (x3 ≤ 60 → tw_tape_J31 k x1 x2 x3 s) ∧ (¬ x3 ≤ 60 → k (-2) s))))) ∧ (r1 = 0 → k (-1) s))
set_option maxHeartbeats 4000000 in
theorem wk_tape (l : Launch) (D : va_G) (T : xT) (q : Nat → Nat) (s : TS) (x1 : Int32) (x2 : Int32) (x3 : Int32) (k : Int32 → TS → Prop) (h : tw_tape s x1 x2 x3 k) : XM l D T yX6_tape cX6_tape 5 (some .int) 3 0 0 [.ref (q 0), .int x1, .int x2, .int x3] (tw T q s) (tpostI T q k) := by
  refine XM.start (by decide +kernel) (Nat.le_of_ble_eq_true rfl) (fun Γ G X _ hl_ => ?_)
  subst hl_
  have hL67 : ∀ n : Nat, ∀ (x1 : Int32) (x4 : Int32) (s : TS), (tw_tape_L67 k n) x1 x4 s → K D Γ 0 0 67 [(0, .ref (q 0)), (1, .int x1), (4, .int x4)] [] (tw T q s) := by
    intro n
    induction n with
    | zero =>
      intro _ _ _ h
      exact h.elim
    | succ n ih67 =>
      intro x1 x4 s h
      unfold tw_tape_L67 at h
      refine k_iload G dX6_tape_67 rfl ?_
      refine k_bipush G dX6_tape_69 kc_b_60 ?_
      obtain ⟨hA, hB⟩ := h
      refine k_icmp_ge G 93 dX6_tape_71 (by decide) (fun c71 => ?_) (fun c71 => ?_)
      · have h := hA c71
        clear hA hB
        refine k_iconst G dX6_tape_93 kc_i_1 ?_
        exact k_iret G X dX6_tape_94 (Nat.le_refl _) (Nat.le_refl _) ⟨_, _, rfl, rfl, h⟩
      · have h := hB c71
        clear hA hB
        refine k_aload_n G dX6_tape_74 rfl ?_
        refine kt_get G tf_item rfl dX6_tape_75 rfl ?_
        refine k_bipush G dX6_tape_78 kc_b_60 ?_
        refine k_iload_n G dX6_tape_80 rfl ?_
        refine k_imul G dX6_tape_81 ?_
        refine k_iload G dX6_tape_82 rfl ?_
        refine k_iadd G dX6_tape_84 ?_
        refine k_lconst G dX6_tape_85 kc_l_0 ?_
        obtain ⟨h1, h⟩ := h
        refine kt_last G dX6_tape_86 h1 ?_
        obtain ⟨x87, e87⟩ : ∃ y : Int32, y = x4 + 1 := ⟨_, rfl⟩
        have h := h x87 e87
        refine k_iinc G [(4, .int x87), (0, .ref (q 0)), (1, .int x1)] dX6_tape_87 rfl (v := x87) (by rw [e87, kc_i_1]) (Nat.le_of_ble_eq_true rfl) rfl ?_
        refine k_goto G 67 dX6_tape_90 (by decide) ?_
        refine K.less [1, 2, 0] rfl ?_
        exact ih67 _ _ _ h
  have hJ63 : ∀ (x1 : Int32) (y0 : Int32) (y1 : Int32) (s : TS), tw_tape_J63 k x1 y0 y1 s → K D Γ 0 0 63 [(0, .ref (q 0)), (1, .int x1)] [.int y0, .int y1, .ref (q 11)] (tw T q s) := by
    intro x1 y0 y1 s h
    unfold tw_tape_J63 at h
    obtain ⟨h1, h⟩ := h
    refine kt_iast G tA_11 dX6_tape_63 h1 ?_
    refine k_iconst G dX6_tape_64 kc_i_0 ?_
    refine k_istore G [(4, .int 0), (0, .ref (q 0)), (1, .int x1)] dX6_tape_65 (Nat.le_of_ble_eq_true rfl) rfl ?_
    obtain ⟨n67, h⟩ := h
    refine K.less [1, 2, 0] rfl ?_
    exact hL67 n67 _ _ _ h
  have hJ42 : ∀ (x1 : Int32) (x2 : Int32) (x3 : Int32) (s : TS), tw_tape_J42 k x1 x2 x3 s → K D Γ 0 0 42 [(0, .ref (q 0)), (1, .int x1), (2, .int x2), (3, .int x3)] [] (tw T q s) := by
    intro x1 x2 x3 s h
    unfold tw_tape_J42 at h
    refine k_aload_n G dX6_tape_42 rfl ?_
    refine kt_get G tf_tapeSort rfl dX6_tape_43 rfl ?_
    refine k_iload_n G dX6_tape_46 rfl ?_
    refine k_iload_n G dX6_tape_47 rfl ?_
    obtain ⟨h1, h⟩ := h
    refine kt_iast G tA_10 dX6_tape_48 h1 ?_
    refine k_aload_n G dX6_tape_49 rfl ?_
    refine kt_get G tf_tapeLong rfl dX6_tape_50 rfl ?_
    refine k_iload_n G dX6_tape_53 rfl ?_
    refine k_iload_n G dX6_tape_54 rfl ?_
    obtain ⟨hA, hB⟩ := h
    refine k_if_ge G 62 dX6_tape_55 (by decide) (fun c55 => ?_) (fun c55 => ?_)
    · have h := hA c55
      clear hA hB
      refine k_iload_n G dX6_tape_62 rfl ?_
      refine K.less [0, 1] rfl ?_
      exact hJ63 _ _ _ _ h
    · have h := hB c55
      clear hA hB
      refine k_iconst G dX6_tape_58 kc_i_0 ?_
      refine k_goto G 63 dX6_tape_59 (by decide) ?_
      refine K.less [0, 1] rfl ?_
      exact hJ63 _ _ _ _ h
  have hJ31 : ∀ (x1 : Int32) (x2 : Int32) (x3 : Int32) (s : TS), tw_tape_J31 k x1 x2 x3 s → K D Γ 0 0 31 [(0, .ref (q 0)), (1, .int x1), (2, .int x2), (3, .int x3)] [] (tw T q s) := by
    intro x1 x2 x3 s h
    unfold tw_tape_J31 at h
    refine k_iload_n G dX6_tape_31 rfl ?_
    obtain ⟨hA, hB⟩ := h
    refine k_if_lt G 42 dX6_tape_32 (by decide) (fun c32 => ?_) (fun c32 => ?_)
    · have h := hA c32
      clear hA hB
      exact hJ42 _ _ _ _ h
    · have h := hB c32
      clear hA hB
      refine k_iload_n G dX6_tape_35 rfl ?_
      obtain ⟨hA, hB⟩ := h
      refine k_if_ge G 42 dX6_tape_36 (by decide) (fun c36 => ?_) (fun c36 => ?_)
      · have h := hA c36
        clear hA hB
        exact hJ42 _ _ _ _ h
      · have h := hB c36
        clear hA hB
        refine k_bipush G dX6_tape_39 kc_b_m14 ?_
        exact k_iret G X dX6_tape_41 (Nat.le_refl _) (Nat.le_refl _) ⟨_, _, rfl, rfl, h⟩
  refine K.less [0, 1, 2, 3] (lv' := [(0, .ref (q 0)), (1, .int x1), (2, .int x2), (3, .int x3)]) rfl ?_
  unfold tw_tape at h
  refine k_iload_n G dX6_tape_0 rfl ?_
  refine k_callPI G (wk_isTape _ D T _ _ h) cf_isTape q1793 dX6_tape_1 rfl rfl (Nat.le_of_ble_eq_true rfl) (Nat.le_of_ble_eq_true rfl) ⟨Nat.zero_le _, Nat.zero_le _⟩ (fun r1 h => ?_)
  obtain ⟨hA, hB⟩ := h
  refine k_if_ne G 9 dX6_tape_4 (by decide) (fun c4 => ?_) (fun c4 => ?_)
  · have h := hA c4
    clear hA hB
    refine k_iload_n G dX6_tape_9 rfl ?_
    refine k_iconst G dX6_tape_10 kc_i_m1 ?_
    refine k_iconst G dX6_tape_11 kc_i_4 ?_
    refine k_callPI G (wk_isIn _ D T _ _ _ _ h) cf_isIn q1511 dX6_tape_12 rfl rfl (Nat.le_of_ble_eq_true rfl) (Nat.le_of_ble_eq_true rfl) ⟨Nat.zero_le _, Nat.zero_le _⟩ (fun r12 h => ?_)
    obtain ⟨hA, hB⟩ := h
    refine k_if_eq G 28 dX6_tape_15 (by decide) (fun c15 => ?_) (fun c15 => ?_)
    · have h := hA c15
      clear hA hB
      refine k_bipush G dX6_tape_28 kc_b_m2 ?_
      exact k_iret G X dX6_tape_30 (Nat.le_refl _) (Nat.le_refl _) ⟨_, _, rfl, rfl, h⟩
    · have h := hB c15
      clear hA hB
      refine k_iload_n G dX6_tape_18 rfl ?_
      obtain ⟨hA, hB⟩ := h
      refine k_if_lt G 31 dX6_tape_19 (by decide) (fun c19 => ?_) (fun c19 => ?_)
      · have h := hA c19
        clear hA hB
        exact hJ31 _ _ _ _ h
      · have h := hB c19
        clear hA hB
        refine k_iload_n G dX6_tape_22 rfl ?_
        refine k_bipush G dX6_tape_23 kc_b_60 ?_
        obtain ⟨hA, hB⟩ := h
        refine k_icmp_le G 31 dX6_tape_25 (by decide) (fun c25 => ?_) (fun c25 => ?_)
        · have h := hA c25
          clear hA hB
          exact hJ31 _ _ _ _ h
        · have h := hB c25
          clear hA hB
          refine k_bipush G dX6_tape_28 kc_b_m2 ?_
          exact k_iret G X dX6_tape_30 (Nat.le_refl _) (Nat.le_refl _) ⟨_, _, rfl, rfl, h⟩
  · have h := hB c4
    clear hA hB
    refine k_iconst G dX6_tape_7 kc_i_m1 ?_
    exact k_iret G X dX6_tape_8 (Nat.le_refl _) (Nat.le_refl _) ⟨_, _, rfl, rfl, h⟩
def pw_kept (x0 : Int32) (x1 : Int64) (k : Int64 → Prop) : Prop := (x0 = 0 → k ((((x1 : Int64).toInt32 : Int32).toInt8.toInt32 : Int32).toInt64)) ∧ (x0 = 1 → k ((((x1 : Int64).toInt32 : Int32).toInt16.toInt32 : Int32).toInt64)) ∧ (x0 = 2 → k (((x1 : Int64).toInt32 : Int32).toInt64)) ∧ (x0 = 3 → k x1) ∧ (¬ x0 = 0 → ¬ x0 = 1 → ¬ x0 = 2 → ¬ x0 = 3 → ((lg_cmp x1 0) = 0 → k 0) ∧ (¬ (lg_cmp x1 0) = 0 → k 1))
set_option maxHeartbeats 4000000 in
theorem wk_kept (l : Launch) (D : va_G) (T : xT) (x0 : Int32) (x1 : Int64) (k : Int64 → Prop) (h : pw_kept x0 x1 k) : XM l D T yX6_kept cX6_kept 3 (some .long) 1 0 0 [.int x0, .long x1] [] (ppostL k) := by
  refine XM.start (by decide +kernel) (Nat.le_of_ble_eq_true rfl) (fun Γ G X _ hl_ => ?_)
  subst hl_
  refine K.less [0, 1] (lv' := [(0, .int x0), (1, .long x1)]) rfl ?_
  unfold pw_kept at h
  refine k_iload_n G dX6_kept_0 rfl ?_
  obtain ⟨h0_, h1_, h2_, h3_, hD_⟩ := h
  by_cases c1_0 : x0 = 0
  · refine k_tswIn G 0 c1_0 32 dX6_kept_1 (by decide +kernel) (by decide +kernel) rfl (by decide) ?_
    have h := h0_ c1_0
    clear h0_ h1_ h2_ h3_ hD_
    refine k_lload_n G dX6_kept_32 rfl ?_
    refine k_l2i G dX6_kept_33 ?_
    refine k_i2b G dX6_kept_34 ?_
    refine k_i2l G dX6_kept_35 ?_
    exact k_lret G X dX6_kept_36 (Nat.le_refl _) (Nat.le_refl _) ⟨_, rfl, rfl, h⟩
  by_cases c1_1 : x0 = 1
  · refine k_tswIn G 1 c1_1 37 dX6_kept_1 (by decide +kernel) (by decide +kernel) rfl (by decide) ?_
    have h := h1_ c1_1
    clear h0_ h1_ h2_ h3_ hD_
    refine k_lload_n G dX6_kept_37 rfl ?_
    refine k_l2i G dX6_kept_38 ?_
    refine k_i2s G dX6_kept_39 ?_
    refine k_i2l G dX6_kept_40 ?_
    exact k_lret G X dX6_kept_41 (Nat.le_refl _) (Nat.le_refl _) ⟨_, rfl, rfl, h⟩
  by_cases c1_2 : x0 = 2
  · refine k_tswIn G 2 c1_2 42 dX6_kept_1 (by decide +kernel) (by decide +kernel) rfl (by decide) ?_
    have h := h2_ c1_2
    clear h0_ h1_ h2_ h3_ hD_
    refine k_lload_n G dX6_kept_42 rfl ?_
    refine k_l2i G dX6_kept_43 ?_
    refine k_i2l G dX6_kept_44 ?_
    exact k_lret G X dX6_kept_45 (Nat.le_refl _) (Nat.le_refl _) ⟨_, rfl, rfl, h⟩
  by_cases c1_3 : x0 = 3
  · refine k_tswIn G 3 c1_3 46 dX6_kept_1 (by decide +kernel) (by decide +kernel) rfl (by decide) ?_
    have h := h3_ c1_3
    clear h0_ h1_ h2_ h3_ hD_
    refine k_lload_n G dX6_kept_46 rfl ?_
    exact k_lret G X dX6_kept_47 (Nat.le_refl _) (Nat.le_refl _) ⟨_, rfl, rfl, h⟩
  refine k_tswD G [0, 1, 2, 3] 48 dX6_kept_1 (by decide +kernel) (by decide +kernel) (List.forall_mem_cons.mpr ⟨c1_0, List.forall_mem_cons.mpr ⟨c1_1, List.forall_mem_cons.mpr ⟨c1_2, List.forall_mem_cons.mpr ⟨c1_3, fun _ h => absurd h List.not_mem_nil⟩⟩⟩⟩) (by decide) ?_
  have h := hD_ c1_0 c1_1 c1_2 c1_3
  clear h0_ h1_ h2_ h3_ hD_
  refine k_lload_n G dX6_kept_48 rfl ?_
  refine k_lconst G dX6_kept_49 kc_l_0 ?_
  refine k_lcmp G dX6_kept_50 ?_
  obtain ⟨hA, hB⟩ := h
  refine k_if_eq G 58 dX6_kept_51 (by decide) (fun c51 => ?_) (fun c51 => ?_)
  · have h := hA c51
    clear hA hB
    refine k_lconst G dX6_kept_58 kc_l_0 ?_
    exact k_lret G X dX6_kept_59 (Nat.le_refl _) (Nat.le_refl _) ⟨_, rfl, rfl, h⟩
  · have h := hB c51
    clear hA hB
    refine k_lconst G dX6_kept_54 kc_l_1 ?_
    refine k_goto G 59 dX6_kept_55 (by decide) ?_
    exact k_lret G X dX6_kept_59 (Nat.le_refl _) (Nat.le_refl _) ⟨_, rfl, rfl, h⟩
def tw_item (s : TS) (x1 : Int32) (x2 : Int32) (x3 : Int64) (k : Int32 → TS → Prop) : Prop := pw_isTape x1 (fun r1 => (¬ r1 = 0 → vp_in x1 6 ∧ (0 ≤ (s.1 10 (x1 : Int32).toNatClampNeg) → vp_in x1 6 ∧ pw_isIn x2 0 (((s.1 11 (x1 : Int32).toNatClampNeg) - 1)) (fun r31 => (¬ r31 = 0 → vp_in x1 6 ∧ pw_kept ((s.1 10 (x1 : Int32).toNatClampNeg)) x3 (fun r57 => vp_in ((60 * x1) + x2) 360 ∧ k 1 ((sL s (((60 * x1) + x2) : Int32).toNatClampNeg r57)))) ∧ (r31 = 0 → k (-13) s))) ∧ (¬ 0 ≤ (s.1 10 (x1 : Int32).toNatClampNeg) → k (-11) s)) ∧ (r1 = 0 → k (-1) s))
set_option maxHeartbeats 4000000 in
theorem wk_item (l : Launch) (D : va_G) (T : xT) (q : Nat → Nat) (s : TS) (x1 : Int32) (x2 : Int32) (x3 : Int64) (k : Int32 → TS → Prop) (h : tw_item s x1 x2 x3 k) : XM l D T yX6_item cX6_item 5 (some .int) 3 0 0 [.ref (q 0), .int x1, .int x2, .long x3] (tw T q s) (tpostI T q k) := by
  refine XM.start (by decide +kernel) (Nat.le_of_ble_eq_true rfl) (fun Γ G X _ hl_ => ?_)
  subst hl_
  refine K.less [0, 1, 2, 3] (lv' := [(0, .ref (q 0)), (1, .int x1), (2, .int x2), (3, .long x3)]) rfl ?_
  unfold tw_item at h
  refine k_iload_n G dX6_item_0 rfl ?_
  refine k_callPI G (wk_isTape _ D T _ _ h) cf_isTape q1793 dX6_item_1 rfl rfl (Nat.le_of_ble_eq_true rfl) (Nat.le_of_ble_eq_true rfl) ⟨Nat.zero_le _, Nat.zero_le _⟩ (fun r1 h => ?_)
  obtain ⟨hA, hB⟩ := h
  refine k_if_ne G 9 dX6_item_4 (by decide) (fun c4 => ?_) (fun c4 => ?_)
  · have h := hA c4
    clear hA hB
    refine k_aload_n G dX6_item_9 rfl ?_
    refine kt_get G tf_tapeSort rfl dX6_item_10 rfl ?_
    refine k_iload_n G dX6_item_13 rfl ?_
    obtain ⟨h1, h⟩ := h
    refine kt_iald G tA_10 dX6_item_14 h1 ?_
    obtain ⟨hA, hB⟩ := h
    refine k_if_ge G 21 dX6_item_15 (by decide) (fun c15 => ?_) (fun c15 => ?_)
    · have h := hA c15
      clear hA hB
      refine k_iload_n G dX6_item_21 rfl ?_
      refine k_iconst G dX6_item_22 kc_i_0 ?_
      refine k_aload_n G dX6_item_23 rfl ?_
      refine kt_get G tf_tapeLong rfl dX6_item_24 rfl ?_
      refine k_iload_n G dX6_item_27 rfl ?_
      obtain ⟨h1, h⟩ := h
      refine kt_iald G tA_11 dX6_item_28 h1 ?_
      refine k_iconst G dX6_item_29 kc_i_1 ?_
      refine k_isub G dX6_item_30 ?_
      refine k_callPI G (wk_isIn _ D T _ _ _ _ h) cf_isIn q1511 dX6_item_31 rfl rfl (Nat.le_of_ble_eq_true rfl) (Nat.le_of_ble_eq_true rfl) ⟨Nat.zero_le _, Nat.zero_le _⟩ (fun r31 h => ?_)
      obtain ⟨hA, hB⟩ := h
      refine k_if_ne G 40 dX6_item_34 (by decide) (fun c34 => ?_) (fun c34 => ?_)
      · have h := hA c34
        clear hA hB
        refine k_aload_n G dX6_item_40 rfl ?_
        refine kt_get G tf_item rfl dX6_item_41 rfl ?_
        refine k_bipush G dX6_item_44 kc_b_60 ?_
        refine k_iload_n G dX6_item_46 rfl ?_
        refine k_imul G dX6_item_47 ?_
        refine k_iload_n G dX6_item_48 rfl ?_
        refine k_iadd G dX6_item_49 ?_
        refine k_aload_n G dX6_item_50 rfl ?_
        refine kt_get G tf_tapeSort rfl dX6_item_51 rfl ?_
        refine k_iload_n G dX6_item_54 rfl ?_
        obtain ⟨h1, h⟩ := h
        refine kt_iald G tA_10 dX6_item_55 h1 ?_
        refine k_lload_n G dX6_item_56 rfl ?_
        refine k_callPL G (wk_kept _ D T _ _ _ h) cf_kept q1847 dX6_item_57 rfl rfl (Nat.le_of_ble_eq_true rfl) (Nat.le_of_ble_eq_true rfl) ⟨Nat.zero_le _, Nat.zero_le _⟩ (fun r57 h => ?_)
        obtain ⟨h1, h⟩ := h
        refine kt_last G dX6_item_60 h1 ?_
        refine k_iconst G dX6_item_61 kc_i_1 ?_
        exact k_iret G X dX6_item_62 (Nat.le_refl _) (Nat.le_refl _) ⟨_, _, rfl, rfl, h⟩
      · have h := hB c34
        clear hA hB
        refine k_bipush G dX6_item_37 kc_b_m13 ?_
        exact k_iret G X dX6_item_39 (Nat.le_refl _) (Nat.le_refl _) ⟨_, _, rfl, rfl, h⟩
    · have h := hB c15
      clear hA hB
      refine k_bipush G dX6_item_18 kc_b_m11 ?_
      exact k_iret G X dX6_item_20 (Nat.le_refl _) (Nat.le_refl _) ⟨_, _, rfl, rfl, h⟩
  · have h := hB c4
    clear hA hB
    refine k_iconst G dX6_item_7 kc_i_m1 ?_
    exact k_iret G X dX6_item_8 (Nat.le_refl _) (Nat.le_refl _) ⟨_, _, rfl, rfl, h⟩
def tw_read_J46 (k : Int64 → TS → Prop) (s : TS) : Prop := k (-9223372036854775808) s
def tw_read (s : TS) (x1 : Int32) (x2 : Int32) (k : Int64 → TS → Prop) : Prop := pw_isTape x1 (fun r1 => (r1 = 0 → tw_read_J46 k s) ∧ (¬ r1 = 0 → vp_in x1 6 ∧ ((s.1 10 (x1 : Int32).toNatClampNeg) < 0 → tw_read_J46 k s) ∧ (¬ (s.1 10 (x1 : Int32).toNatClampNeg) < 0 → vp_in x1 6 ∧ pw_isIn x2 0 (((s.1 11 (x1 : Int32).toNatClampNeg) - 1)) (fun r26 => (r26 = 0 → tw_read_J46 k s) ∧ (¬ r26 = 0 → vp_in ((60 * x1) + x2) 360 ∧ k ((s.2 (((60 * x1) + x2) : Int32).toNatClampNeg)) s)))))
set_option maxHeartbeats 4000000 in
theorem wk_read (l : Launch) (D : va_G) (T : xT) (q : Nat → Nat) (s : TS) (x1 : Int32) (x2 : Int32) (k : Int64 → TS → Prop) (h : tw_read s x1 x2 k) : XM l D T yX6_read cX6_read 3 (some .long) 3 0 0 [.ref (q 0), .int x1, .int x2] (tw T q s) (tpostL T q k) := by
  refine XM.start (by decide +kernel) (Nat.le_of_ble_eq_true rfl) (fun Γ G X _ hl_ => ?_)
  subst hl_
  have hJ46 : ∀ (s : TS), tw_read_J46 k s → K D Γ 0 0 46 [] [] (tw T q s) := by
    intro s h
    unfold tw_read_J46 at h
    refine k_ldc2 G q1766 dX6_read_46 ?_
    exact k_lret G X dX6_read_49 (Nat.le_refl _) (Nat.le_refl _) ⟨_, _, rfl, rfl, h⟩
  refine K.less [0, 1, 2] (lv' := [(0, .ref (q 0)), (1, .int x1), (2, .int x2)]) rfl ?_
  unfold tw_read at h
  refine k_iload_n G dX6_read_0 rfl ?_
  refine k_callPI G (wk_isTape _ D T _ _ h) cf_isTape q1793 dX6_read_1 rfl rfl (Nat.le_of_ble_eq_true rfl) (Nat.le_of_ble_eq_true rfl) ⟨Nat.zero_le _, Nat.zero_le _⟩ (fun r1 h => ?_)
  obtain ⟨hA, hB⟩ := h
  refine k_if_eq G 46 dX6_read_4 (by decide) (fun c4 => ?_) (fun c4 => ?_)
  · have h := hA c4
    clear hA hB
    refine K.less [] rfl ?_
    exact hJ46 _ h
  · have h := hB c4
    clear hA hB
    refine k_aload_n G dX6_read_7 rfl ?_
    refine kt_get G tf_tapeSort rfl dX6_read_8 rfl ?_
    refine k_iload_n G dX6_read_11 rfl ?_
    obtain ⟨h1, h⟩ := h
    refine kt_iald G tA_10 dX6_read_12 h1 ?_
    obtain ⟨hA, hB⟩ := h
    refine k_if_lt G 46 dX6_read_13 (by decide) (fun c13 => ?_) (fun c13 => ?_)
    · have h := hA c13
      clear hA hB
      refine K.less [] rfl ?_
      exact hJ46 _ h
    · have h := hB c13
      clear hA hB
      refine k_iload_n G dX6_read_16 rfl ?_
      refine k_iconst G dX6_read_17 kc_i_0 ?_
      refine k_aload_n G dX6_read_18 rfl ?_
      refine kt_get G tf_tapeLong rfl dX6_read_19 rfl ?_
      refine k_iload_n G dX6_read_22 rfl ?_
      obtain ⟨h1, h⟩ := h
      refine kt_iald G tA_11 dX6_read_23 h1 ?_
      refine k_iconst G dX6_read_24 kc_i_1 ?_
      refine k_isub G dX6_read_25 ?_
      refine k_callPI G (wk_isIn _ D T _ _ _ _ h) cf_isIn q1511 dX6_read_26 rfl rfl (Nat.le_of_ble_eq_true rfl) (Nat.le_of_ble_eq_true rfl) ⟨Nat.zero_le _, Nat.zero_le _⟩ (fun r26 h => ?_)
      obtain ⟨hA, hB⟩ := h
      refine k_if_eq G 46 dX6_read_29 (by decide) (fun c29 => ?_) (fun c29 => ?_)
      · have h := hA c29
        clear hA hB
        refine K.less [] rfl ?_
        exact hJ46 _ h
      · have h := hB c29
        clear hA hB
        refine k_aload_n G dX6_read_32 rfl ?_
        refine kt_get G tf_item rfl dX6_read_33 rfl ?_
        refine k_bipush G dX6_read_36 kc_b_60 ?_
        refine k_iload_n G dX6_read_38 rfl ?_
        refine k_imul G dX6_read_39 ?_
        refine k_iload_n G dX6_read_40 rfl ?_
        refine k_iadd G dX6_read_41 ?_
        obtain ⟨h1, h⟩ := h
        refine kt_lald G dX6_read_42 h1 ?_
        refine k_goto G 49 dX6_read_43 (by decide) ?_
        exact k_lret G X dX6_read_49 (Nat.le_refl _) (Nat.le_refl _) ⟨_, _, rfl, rfl, h⟩
def tw_shift_J127 (kL102 : Int32 → Int32 → Int32 → Int32 → Int32 → Int32 → TS → Prop) (k : Int32 → TS → Prop) (x1 : Int32) (x2 : Int32) (x3 : Int32) (x4 : Int32) (x5 : Int32) (x6 : Int32) (y0 : Int32) (s : TS) : Prop := vp_in (((60 * x1) + x2) + y0) 360 ∧ vp_in (((60 * x3) + x4) + y0) 360 ∧ ∀ x158 : Int32, x158 = x6 + 1 → kL102 x1 x2 x3 x4 x5 x158 ((sL s ((((60 * x3) + x4) + y0) : Int32).toNatClampNeg (s.2 ((((60 * x1) + x2) + y0) : Int32).toNatClampNeg)))
def tw_shift_L102 (k : Int32 → TS → Prop) : Nat → Int32 → Int32 → Int32 → Int32 → Int32 → Int32 → TS → Prop
  | 0, _, _, _, _, _, _, _ => False
  | n + 1, x1, x2, x3, x4, x5, x6, s => (x5 ≤ x6 → k x5 s) ∧ (¬ x5 ≤ x6 → (x2 ≤ x4 → tw_shift_J127 (fun x1 x2 x3 x4 x5 x6 s => tw_shift_L102 k n x1 x2 x3 x4 x5 x6 s) k x1 x2 x3 x4 x5 x6 (((x5 - 1) - x6)) s) ∧ (¬ x2 ≤ x4 → tw_shift_J127 (fun x1 x2 x3 x4 x5 x6 s => tw_shift_L102 k n x1 x2 x3 x4 x5 x6 s) k x1 x2 x3 x4 x5 x6 x6 s))
def tw_shift (s : TS) (x1 : Int32) (x2 : Int32) (x3 : Int32) (x4 : Int32) (x5 : Int32) (k : Int32 → TS → Prop) : Prop := pw_isTape x1 (fun r1 => (r1 = 0 → k (-1) s) ∧ (¬ r1 = 0 → pw_isTape x3 (fun r8 => (¬ r8 = 0 → vp_in x1 6 ∧ ((s.1 10 (x1 : Int32).toNatClampNeg) < 0 → k (-11) s) ∧ (¬ (s.1 10 (x1 : Int32).toNatClampNeg) < 0 → vp_in x3 6 ∧ (0 ≤ (s.1 10 (x3 : Int32).toNatClampNeg) → vp_in x1 6 ∧ vp_in x3 6 ∧ ((s.1 10 (x1 : Int32).toNatClampNeg) = (s.1 10 (x3 : Int32).toNatClampNeg) → (x5 < 0 → k (-13) s) ∧ (¬ x5 < 0 → (x2 < 0 → k (-13) s) ∧ (¬ x2 < 0 → (x4 < 0 → k (-13) s) ∧ (¬ x4 < 0 → vp_in x1 6 ∧ (((s.1 11 (x1 : Int32).toNatClampNeg) - x2) < x5 → k (-13) s) ∧ (¬ ((s.1 11 (x1 : Int32).toNatClampNeg) - x2) < x5 → vp_in x3 6 ∧ (x5 ≤ ((s.1 11 (x3 : Int32).toNatClampNeg) - x4) → ∃ n102 : Nat, tw_shift_L102 k n102 x1 x2 x3 x4 x5 0 s) ∧ (¬ x5 ≤ ((s.1 11 (x3 : Int32).toNatClampNeg) - x4) → k (-13) s)))))) ∧ (¬ (s.1 10 (x1 : Int32).toNatClampNeg) = (s.1 10 (x3 : Int32).toNatClampNeg) → k (-12) s)) ∧ (¬ 0 ≤ (s.1 10 (x3 : Int32).toNatClampNeg) → k (-11) s))) ∧ (r8 = 0 → k (-1) s))))
set_option maxHeartbeats 4000000 in
theorem wk_shift (l : Launch) (D : va_G) (T : xT) (q : Nat → Nat) (s : TS) (x1 : Int32) (x2 : Int32) (x3 : Int32) (x4 : Int32) (x5 : Int32) (k : Int32 → TS → Prop) (h : tw_shift s x1 x2 x3 x4 x5 k) : XM l D T yX6_shift cX6_shift 8 (some .int) 3 0 0 [.ref (q 0), .int x1, .int x2, .int x3, .int x4, .int x5] (tw T q s) (tpostI T q k) := by
  refine XM.start (by decide +kernel) (Nat.le_of_ble_eq_true rfl) (fun Γ G X _ hl_ => ?_)
  subst hl_
  have hJ127 : ∀ (kL102 : Int32 → Int32 → Int32 → Int32 → Int32 → Int32 → TS → Prop) (ih102 : ∀ (x1 : Int32) (x2 : Int32) (x3 : Int32) (x4 : Int32) (x5 : Int32) (x6 : Int32) (s : TS), kL102 x1 x2 x3 x4 x5 x6 s → K D Γ 0 0 102 [(0, .ref (q 0)), (1, .int x1), (2, .int x2), (3, .int x3), (4, .int x4), (5, .int x5), (6, .int x6)] [] (tw T q s)) (x1 : Int32) (x2 : Int32) (x3 : Int32) (x4 : Int32) (x5 : Int32) (x6 : Int32) (y0 : Int32) (s : TS), tw_shift_J127 kL102 k x1 x2 x3 x4 x5 x6 y0 s → K D Γ 0 0 127 [(0, .ref (q 0)), (1, .int x1), (2, .int x2), (3, .int x3), (4, .int x4), (5, .int x5), (6, .int x6)] [.int y0] (tw T q s) := by
    intro kL102 ih102 x1 x2 x3 x4 x5 x6 y0 s h
    unfold tw_shift_J127 at h
    refine k_istore G [(7, .int y0), (0, .ref (q 0)), (1, .int x1), (2, .int x2), (3, .int x3), (4, .int x4), (5, .int x5), (6, .int x6)] dX6_shift_127 (Nat.le_of_ble_eq_true rfl) rfl ?_
    refine k_aload_n G dX6_shift_129 rfl ?_
    refine kt_get G tf_item rfl dX6_shift_130 rfl ?_
    refine k_bipush G dX6_shift_133 kc_b_60 ?_
    refine k_iload_n G dX6_shift_135 rfl ?_
    refine k_imul G dX6_shift_136 ?_
    refine k_iload G dX6_shift_137 rfl ?_
    refine k_iadd G dX6_shift_139 ?_
    refine k_iload G dX6_shift_140 rfl ?_
    refine k_iadd G dX6_shift_142 ?_
    refine k_aload_n G dX6_shift_143 rfl ?_
    refine kt_get G tf_item rfl dX6_shift_144 rfl ?_
    refine k_bipush G dX6_shift_147 kc_b_60 ?_
    refine k_iload_n G dX6_shift_149 rfl ?_
    refine k_imul G dX6_shift_150 ?_
    refine k_iload_n G dX6_shift_151 rfl ?_
    refine k_iadd G dX6_shift_152 ?_
    refine k_iload G dX6_shift_153 rfl ?_
    refine k_iadd G dX6_shift_155 ?_
    obtain ⟨h1, h⟩ := h
    refine kt_lald G dX6_shift_156 h1 ?_
    obtain ⟨h1, h⟩ := h
    refine kt_last G dX6_shift_157 h1 ?_
    obtain ⟨x158, e158⟩ : ∃ y : Int32, y = x6 + 1 := ⟨_, rfl⟩
    have h := h x158 e158
    refine k_iinc G [(6, .int x158), (7, .int y0), (0, .ref (q 0)), (1, .int x1), (2, .int x2), (3, .int x3), (4, .int x4), (5, .int x5)] dX6_shift_158 rfl (v := x158) (by rw [e158, kc_i_1]) (Nat.le_of_ble_eq_true rfl) rfl ?_
    refine k_goto G 102 dX6_shift_161 (by decide) ?_
    refine K.less [2, 3, 4, 5, 6, 7, 0] rfl ?_
    exact ih102 _ _ _ _ _ _ _ h
  have hL102 : ∀ n : Nat, ∀ (x1 : Int32) (x2 : Int32) (x3 : Int32) (x4 : Int32) (x5 : Int32) (x6 : Int32) (s : TS), (tw_shift_L102 k n) x1 x2 x3 x4 x5 x6 s → K D Γ 0 0 102 [(0, .ref (q 0)), (1, .int x1), (2, .int x2), (3, .int x3), (4, .int x4), (5, .int x5), (6, .int x6)] [] (tw T q s) := by
    intro n
    induction n with
    | zero =>
      intro _ _ _ _ _ _ _ h
      exact h.elim
    | succ n ih102 =>
      intro x1 x2 x3 x4 x5 x6 s h
      unfold tw_shift_L102 at h
      refine k_iload G dX6_shift_102 rfl ?_
      refine k_iload G dX6_shift_104 rfl ?_
      obtain ⟨hA, hB⟩ := h
      refine k_icmp_ge G 164 dX6_shift_106 (by decide) (fun c106 => ?_) (fun c106 => ?_)
      · have h := hA c106
        clear hA hB
        refine k_iload G dX6_shift_164 rfl ?_
        exact k_iret G X dX6_shift_166 (Nat.le_refl _) (Nat.le_refl _) ⟨_, _, rfl, rfl, h⟩
      · have h := hB c106
        clear hA hB
        refine k_iload_n G dX6_shift_109 rfl ?_
        refine k_iload G dX6_shift_110 rfl ?_
        obtain ⟨hA, hB⟩ := h
        refine k_icmp_le G 120 dX6_shift_112 (by decide) (fun c112 => ?_) (fun c112 => ?_)
        · have h := hA c112
          clear hA hB
          refine k_iload G dX6_shift_120 rfl ?_
          refine k_iconst G dX6_shift_122 kc_i_1 ?_
          refine k_isub G dX6_shift_123 ?_
          refine k_iload G dX6_shift_124 rfl ?_
          refine k_isub G dX6_shift_126 ?_
          exact hJ127 _ ih102 _ _ _ _ _ _ _ _ h
        · have h := hB c112
          clear hA hB
          refine k_iload G dX6_shift_115 rfl ?_
          refine k_goto G 127 dX6_shift_117 (by decide) ?_
          exact hJ127 _ ih102 _ _ _ _ _ _ _ _ h
  refine K.less [0, 1, 2, 3, 4, 5] (lv' := [(0, .ref (q 0)), (1, .int x1), (2, .int x2), (3, .int x3), (4, .int x4), (5, .int x5)]) rfl ?_
  unfold tw_shift at h
  refine k_iload_n G dX6_shift_0 rfl ?_
  refine k_callPI G (wk_isTape _ D T _ _ h) cf_isTape q1793 dX6_shift_1 rfl rfl (Nat.le_of_ble_eq_true rfl) (Nat.le_of_ble_eq_true rfl) ⟨Nat.zero_le _, Nat.zero_le _⟩ (fun r1 h => ?_)
  obtain ⟨hA, hB⟩ := h
  refine k_if_eq G 14 dX6_shift_4 (by decide) (fun c4 => ?_) (fun c4 => ?_)
  · have h := hA c4
    clear hA hB
    refine k_iconst G dX6_shift_14 kc_i_m1 ?_
    exact k_iret G X dX6_shift_15 (Nat.le_refl _) (Nat.le_refl _) ⟨_, _, rfl, rfl, h⟩
  · have h := hB c4
    clear hA hB
    refine k_iload_n G dX6_shift_7 rfl ?_
    refine k_callPI G (wk_isTape _ D T _ _ h) cf_isTape q1793 dX6_shift_8 rfl rfl (Nat.le_of_ble_eq_true rfl) (Nat.le_of_ble_eq_true rfl) ⟨Nat.zero_le _, Nat.zero_le _⟩ (fun r8 h => ?_)
    obtain ⟨hA, hB⟩ := h
    refine k_if_ne G 16 dX6_shift_11 (by decide) (fun c11 => ?_) (fun c11 => ?_)
    · have h := hA c11
      clear hA hB
      refine k_aload_n G dX6_shift_16 rfl ?_
      refine kt_get G tf_tapeSort rfl dX6_shift_17 rfl ?_
      refine k_iload_n G dX6_shift_20 rfl ?_
      obtain ⟨h1, h⟩ := h
      refine kt_iald G tA_10 dX6_shift_21 h1 ?_
      obtain ⟨hA, hB⟩ := h
      refine k_if_lt G 34 dX6_shift_22 (by decide) (fun c22 => ?_) (fun c22 => ?_)
      · have h := hA c22
        clear hA hB
        refine k_bipush G dX6_shift_34 kc_b_m11 ?_
        exact k_iret G X dX6_shift_36 (Nat.le_refl _) (Nat.le_refl _) ⟨_, _, rfl, rfl, h⟩
      · have h := hB c22
        clear hA hB
        refine k_aload_n G dX6_shift_25 rfl ?_
        refine kt_get G tf_tapeSort rfl dX6_shift_26 rfl ?_
        refine k_iload_n G dX6_shift_29 rfl ?_
        obtain ⟨h1, h⟩ := h
        refine kt_iald G tA_10 dX6_shift_30 h1 ?_
        obtain ⟨hA, hB⟩ := h
        refine k_if_ge G 37 dX6_shift_31 (by decide) (fun c31 => ?_) (fun c31 => ?_)
        · have h := hA c31
          clear hA hB
          refine k_aload_n G dX6_shift_37 rfl ?_
          refine kt_get G tf_tapeSort rfl dX6_shift_38 rfl ?_
          refine k_iload_n G dX6_shift_41 rfl ?_
          obtain ⟨h1, h⟩ := h
          refine kt_iald G tA_10 dX6_shift_42 h1 ?_
          refine k_aload_n G dX6_shift_43 rfl ?_
          refine kt_get G tf_tapeSort rfl dX6_shift_44 rfl ?_
          refine k_iload_n G dX6_shift_47 rfl ?_
          obtain ⟨h1, h⟩ := h
          refine kt_iald G tA_10 dX6_shift_48 h1 ?_
          obtain ⟨hA, hB⟩ := h
          refine k_icmp_eq G 55 dX6_shift_49 (by decide) (fun c49 => ?_) (fun c49 => ?_)
          · have h := hA c49
            clear hA hB
            refine k_iload G dX6_shift_55 rfl ?_
            obtain ⟨hA, hB⟩ := h
            refine k_if_lt G 96 dX6_shift_57 (by decide) (fun c57 => ?_) (fun c57 => ?_)
            · have h := hA c57
              clear hA hB
              refine k_bipush G dX6_shift_96 kc_b_m13 ?_
              exact k_iret G X dX6_shift_98 (Nat.le_refl _) (Nat.le_refl _) ⟨_, _, rfl, rfl, h⟩
            · have h := hB c57
              clear hA hB
              refine k_iload_n G dX6_shift_60 rfl ?_
              obtain ⟨hA, hB⟩ := h
              refine k_if_lt G 96 dX6_shift_61 (by decide) (fun c61 => ?_) (fun c61 => ?_)
              · have h := hA c61
                clear hA hB
                refine k_bipush G dX6_shift_96 kc_b_m13 ?_
                exact k_iret G X dX6_shift_98 (Nat.le_refl _) (Nat.le_refl _) ⟨_, _, rfl, rfl, h⟩
              · have h := hB c61
                clear hA hB
                refine k_iload G dX6_shift_64 rfl ?_
                obtain ⟨hA, hB⟩ := h
                refine k_if_lt G 96 dX6_shift_66 (by decide) (fun c66 => ?_) (fun c66 => ?_)
                · have h := hA c66
                  clear hA hB
                  refine k_bipush G dX6_shift_96 kc_b_m13 ?_
                  exact k_iret G X dX6_shift_98 (Nat.le_refl _) (Nat.le_refl _) ⟨_, _, rfl, rfl, h⟩
                · have h := hB c66
                  clear hA hB
                  refine k_iload G dX6_shift_69 rfl ?_
                  refine k_aload_n G dX6_shift_71 rfl ?_
                  refine kt_get G tf_tapeLong rfl dX6_shift_72 rfl ?_
                  refine k_iload_n G dX6_shift_75 rfl ?_
                  obtain ⟨h1, h⟩ := h
                  refine kt_iald G tA_11 dX6_shift_76 h1 ?_
                  refine k_iload_n G dX6_shift_77 rfl ?_
                  refine k_isub G dX6_shift_78 ?_
                  obtain ⟨hA, hB⟩ := h
                  refine k_icmp_gt G 96 dX6_shift_79 (by decide) (fun c79 => ?_) (fun c79 => ?_)
                  · have h := hA c79
                    clear hA hB
                    refine k_bipush G dX6_shift_96 kc_b_m13 ?_
                    exact k_iret G X dX6_shift_98 (Nat.le_refl _) (Nat.le_refl _) ⟨_, _, rfl, rfl, h⟩
                  · have h := hB c79
                    clear hA hB
                    refine k_iload G dX6_shift_82 rfl ?_
                    refine k_aload_n G dX6_shift_84 rfl ?_
                    refine kt_get G tf_tapeLong rfl dX6_shift_85 rfl ?_
                    refine k_iload_n G dX6_shift_88 rfl ?_
                    obtain ⟨h1, h⟩ := h
                    refine kt_iald G tA_11 dX6_shift_89 h1 ?_
                    refine k_iload G dX6_shift_90 rfl ?_
                    refine k_isub G dX6_shift_92 ?_
                    obtain ⟨hA, hB⟩ := h
                    refine k_icmp_le G 99 dX6_shift_93 (by decide) (fun c93 => ?_) (fun c93 => ?_)
                    · have h := hA c93
                      clear hA hB
                      refine k_iconst G dX6_shift_99 kc_i_0 ?_
                      refine k_istore G [(6, .int 0), (0, .ref (q 0)), (1, .int x1), (2, .int x2), (3, .int x3), (4, .int x4), (5, .int x5)] dX6_shift_100 (Nat.le_of_ble_eq_true rfl) rfl ?_
                      obtain ⟨n102, h⟩ := h
                      refine K.less [1, 2, 3, 4, 5, 6, 0] rfl ?_
                      exact hL102 n102 _ _ _ _ _ _ _ h
                    · have h := hB c93
                      clear hA hB
                      refine k_bipush G dX6_shift_96 kc_b_m13 ?_
                      exact k_iret G X dX6_shift_98 (Nat.le_refl _) (Nat.le_refl _) ⟨_, _, rfl, rfl, h⟩
          · have h := hB c49
            clear hA hB
            refine k_bipush G dX6_shift_52 kc_b_m12 ?_
            exact k_iret G X dX6_shift_54 (Nat.le_refl _) (Nat.le_refl _) ⟨_, _, rfl, rfl, h⟩
        · have h := hB c31
          clear hA hB
          refine k_bipush G dX6_shift_34 kc_b_m11 ?_
          exact k_iret G X dX6_shift_36 (Nat.le_refl _) (Nat.le_refl _) ⟨_, _, rfl, rfl, h⟩
    · have h := hB c11
      clear hA hB
      refine k_iconst G dX6_shift_14 kc_i_m1 ?_
      exact k_iret G X dX6_shift_15 (Nat.le_refl _) (Nat.le_refl _) ⟨_, _, rfl, rfl, h⟩
