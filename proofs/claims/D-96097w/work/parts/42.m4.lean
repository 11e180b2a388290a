/-! PLAIN: what changes: image, undo -/
set_option maxRecDepth 100000
theorem cQ_c {ω : CS} {c : Nat} {f : Nat → Option Nat} : (cQ ω c f).1.2 c = f := if_pos rfl
theorem cQ_ne {ω : CS} {c c' : Nat} {f : Nat → Option Nat} (h : c' ≠ c) : (cQ ω c f).1.2 c' = ω.1.2 c' := if_neg h
theorem cC_2 {ω : CS} {c : Nat} {f : SS} : (cC ω c f).1.2 = ω.1.2 := rfl
theorem cC_3 {ω : CS} {c : Nat} {f : SS} : (cC ω c f).2 = ω.2 := rfl
theorem cQ_1 {ω : CS} {c : Nat} {f : Nat → Option Nat} : (cQ ω c f).1.1 = ω.1.1 := rfl
theorem cQ_3 {ω : CS} {c : Nat} {f : Nat → Option Nat} : (cQ ω c f).2 = ω.2 := rfl
theorem tc12 : (12 : Int32).toNatClampNeg = 12 := nI_clamp (n := 12) (by decide)
theorem tc24 : (24 : Int32).toNatClampNeg = 24 := nI_clamp (n := 24) (by decide)
theorem cpy0 {α : Type} (f g : Nat → α) {n i : Nat} (h : i < n) : va_cpy f g 0 0 n i = f i := by
  rw [pk_cpy_in (by omega) (by omega), Nat.sub_zero, Nat.zero_add]
section Q
variable {T : xT} {q : Nat → Nat} {ω : CS} {σ : TS} {κ κi : KD}
/-- a bank laid over another: the component's copy -/
theorem copy_bank {ω' : CS} {pl pg pb pk ps t pl' pg' pb' pk' ps' t' : Nat} {x : SS} (h : cBank q ω pl pg pb pk ps t x) (z : cZ ω ω') (hx : okS x)
    (e0 : ∀ l, l < 6 → ω'.1.2 pl' l = ω.1.2 pl l) (e1 : ∀ i, i < 24 → ω'.1.1 pg' i = ω.1.1 pg i) (e2 : ∀ i, i < 24 → ω'.1.1 pb' i = ω.1.1 pb i) (e3 : ∀ k, k < 12 → ω'.1.1 pk' k = ω.1.1 pk k) (e4 : ∀ k, k < 12 → ω'.1.1 ps' k = ω.1.1 ps k) (A : cAt ω' t' x) : cBank q ω' pl' pg' pb' pk' ps' t' x := by
  obtain ⟨h1, h2, h3, h4, h5, h6⟩ := h
  have hm := (mOf_le hx).1
  refine ⟨fun l hl => ?_, fun l hl => by rw [e0 l (by omega)]; exact h2 l hl, fun l hl u hu => by rw [e1 _ (by omega), e2 _ (by omega)]; exact h3 l hl u hu, fun k hk => by rw [e3 k hk, e4 k hk]; exact h4 k hk, h5, A⟩
  rw [e0 l hl]
  exact (h1 l hl).imp id (fun ⟨a, z1, z2⟩ => ⟨a, z1, z2.z z⟩)
theorem fit_b {x : SS} {pl pg pb pk ps t : Nat} (h : cBank q ω pl pg pb pk ps t x) : ∀ k, k < 12 → fits .byte (.int (ω.1.1 pk k)) = true ∧ fits .boolean (.int (ω.1.1 ps k)) = true := by
  intro k hk
  obtain ⟨a1, a2, a3, a4⟩ := h.2.2.2.1 k hk
  rw [a1, a2]
  refine ⟨?_, ?_⟩
  · rcases a3 with e | ⟨j, hj, e⟩
    · rw [e]; decide +kernel
    · rw [e]
      have key : ∀ j : Fin 6, fits .byte (.int (nI j.val)) = true := by decide +kernel
      exact key ⟨j, by omega⟩
  · rcases a4 with e | e <;> rw [e] <;> decide +kernel
theorem J_image (H : Rel T q ω σ κ κi) : JM T q ω σ (tw_image σ) (cw_image T q ω) := by
  obtain ⟨h1, h2, h3, h4, h5, h6⟩ := Rel.iff.mp H
  obtain ⟨n1, n2, n3, n4, n5, n6, n7, n8⟩ := h1
  have HC := H.1.c
  unfold tw_image cw_image
  refine ⟨σ.1 1 5, fun σ' => σ'.1 2 = σ.1 1 ∧ (∀ c, 1 ≤ c → c ≠ 2 → σ'.1 c = σ.1 c) ∧ σ'.2 = σ.2 ∧ σ'.1 0 3 = 1 ∧ ∀ i, i ≠ 3 → σ'.1 0 i = σ.1 0 i, fun ω' => ω'.2 = ω.2 ∧ (∀ c, c ≠ 0 → c ≠ 42 → ω'.1.2 c = ω.1.2 c) ∧ (∀ l, l < 6 → ω'.1.2 42 l = ω.1.2 1 l) ∧ (∀ i, i ≠ 30 → ω'.1.2 0 i = ω.1.2 0 i) ∧ ω'.1.2 0 30 = ω.1.2 0 9 ∧ (∀ c, 1 ≤ c → (c < 22 ∨ 23 < c) → (c < 43 ∨ 46 < c) → ω'.1.1 c = ω.1.1 c) ∧ (∀ i, i < 24 → ω'.1.1 43 i = ω.1.1 2 i ∧ ω'.1.1 44 i = ω.1.1 3 i) ∧ (∀ k, k < 12 → ω'.1.1 45 k = ω.1.1 28 k ∧ ω'.1.1 46 k = ω.1.1 29 k) ∧ cAt ω' 9 (σ.1 1) ∧ (∀ i, i ≠ 28 → i ≠ 29 → ω'.1.1 0 i = ω.1.1 0 i) ∧ ω'.1.1 0 28 = ω.1.1 0 3 ∧ ω'.1.1 0 29 = ω.1.1 0 14, fun k h => ?_, fun k h => ?_, ?_⟩
  · refine l_lays rfl rfl (by omega) n1 h2.1 (fun σ' e1 ec e2 => ?_)
    intro w hw
    rw [tc5]
    have e5 : w.1 1 5 = σ.1 1 5 := by rw [hw, sA_ne (by omega), ec 1 (by omega)]
    rw [e5]
    refine ⟨vi5, h w ⟨by rw [hw, sA_ne (by omega)]; exact e1, fun c a1 a2 => by rw [hw, sA_ne (by omega)]; exact ec c a2, by rw [hw]; exact e2, by rw [hw]; exact sA_v, fun i hi => by rw [hw, sA_w hi, ec 0 (by omega)]⟩⟩
  · intro w1 h1'
    have g1 := (c_Tk (a := 9) HC.2.1 (by omega)).1
    have a1 := (c_Tk (a := 9) HC.2.1 (by omega)).2
    rw [← h1'] at g1 a1
    rw [tc6, tc0, tc24, tc12]
    refine ⟨fun i hi a ha => ?_, ?_⟩
    · rw [Nat.zero_add, g1.1] at ha
      rcases n6.1 i hi with z | ⟨b, z1, z2⟩
      · rw [z] at ha; cases ha
      · rw [z1] at ha; cases ha
        exact ⟨_, _, _, lofR_mv g1.2.1 z2⟩
    intro w2 h2' w3 h3' w4 h4'
    have p4 : ∀ c, c ≠ 43 → c ≠ 44 → w4.1.1 c = w1.1.1 c := fun c a b => by rw [h4', cC_ne b, h3', cC_ne a, h2', cQ_1]
    have P : ∀ c, c ≠ 25 → c ≠ 37 → c ≠ 38 → c ≠ 22 → c ≠ 23 → w1.1.1 c = ω.1.1 c := fun c a b c' d e => g1.2.2 c a b c' (by omega) (by omega)
    -- cTk changes the two cells of its Time alone
    have P' : ∀ c, c ≠ 22 → c ≠ 23 → w1.1.1 c = ω.1.1 c := fun c a b => by
      rw [h1']
      unfold cTk
      rw [cA_ne (by omega), cC_ne (by omega)]
    refine ⟨fun i hi => ?_, ?_⟩
    · rw [Nat.zero_add, p4 28 (by omega) (by omega), P' 28 (by omega) (by omega)]
      exact (fit_b n6 i hi).1
    intro w5 h5'
    have p5 : ∀ c, c ≠ 43 → c ≠ 44 → c ≠ 45 → w5.1.1 c = w1.1.1 c := fun c a b d => by rw [h5', cC_ne d]; exact p4 c a b
    refine ⟨fun i hi => ?_, ?_⟩
    · rw [Nat.zero_add, p5 29 (by omega) (by omega) (by omega), P' 29 (by omega) (by omega)]
      exact (fit_b n6 i hi).2
    intro w6 h6' w7 h7' w8 h8' w9 h9'
    have p6 : ∀ c, c ≠ 43 → c ≠ 44 → c ≠ 45 → c ≠ 46 → w6.1.1 c = w1.1.1 c := fun c a b d e => by rw [h6', cC_ne e]; exact p5 c a b d
    have p9 : ∀ c, c ≠ 0 → w9.1.1 c = w6.1.1 c := fun c a => by rw [h9', cQ_1, h8', cA_ne a, h7', cA_ne a]
    have q9 : ∀ i, i ≠ 28 → i ≠ 29 → w9.1.1 0 i = w6.1.1 0 i := fun i a b => by rw [h9', cQ_1, h8', cA_w b, h7', cA_w a]
    have r9 : ∀ c, c ≠ 0 → c ≠ 42 → w9.1.2 c = ω.1.2 c := fun c a b => by
      rw [h9', cQ_ne a, h8', h7', h6', h5', h4', h3']
      show w2.1.2 c = _
      rw [h2', cQ_ne b, g1.1]
    have k43 : w6.1.1 43 = w3.1.1 43 := by rw [h6', cC_ne (by omega), h5', cC_ne (by omega), h4', cC_ne (by omega)]
    have k44 : w6.1.1 44 = w4.1.1 44 := by rw [h6', cC_ne (by omega), h5', cC_ne (by omega)]
    have k45 : w6.1.1 45 = w5.1.1 45 := by rw [h6', cC_ne (by omega)]
    have e3 : w9.1.1 0 3 = σ.1 1 5 := by rw [q9 3 (by omega) (by omega), p6 0 (by omega) (by omega) (by omega) (by omega), P' 0 (by omega) (by omega)]; exact n7
    rw [e3]
    refine h w9 ⟨?_, r9, fun l hl => ?_, fun i hi => ?_, ?_, fun c a b d => ?_, fun i hi => ⟨?_, ?_⟩, fun k hk => ⟨?_, ?_⟩, ?_, fun i a b => ?_, ?_, ?_⟩
    · rw [h9', h8', h7', h6', h5', h4', h3', h2']; exact g1.2.1
    · rw [h9', cQ_ne (by omega), h8', h7', h6', h5', h4', h3']
      show w2.1.2 42 l = _
      rw [h2', cQ_c, cpy0 _ _ hl, g1.1]
    · rw [h9', cQ_c, va_up_ne _ _ hi, h8', h7', h6', h5', h4', h3']
      show w2.1.2 0 i = _
      rw [h2', cQ_ne (by omega), g1.1]
    · rw [h9', cQ_c, va_up_self, h8', h7', h6', h5', h4', h3']
      show w2.1.2 0 9 = _
      rw [h2', cQ_ne (by omega), g1.1]
    · rw [p9 c (by omega), p6 c (by omega) (by omega) (by omega) (by omega)]
      exact P' c (by omega) (by omega)
    · rw [p9 43 (by omega), k43, h3', cC_c, cpy0 _ _ hi, h2', cQ_1, P' 2 (by omega) (by omega)]
    · rw [p9 44 (by omega), k44, h4', cC_c, cpy0 _ _ hi, h3', cC_ne (by omega), h2', cQ_1, P' 3 (by omega) (by omega)]
    · rw [p9 45 (by omega), k45, h5', cC_c, cpy0 _ _ hk, p4 28 (by omega) (by omega), P' 28 (by omega) (by omega)]
    · rw [p9 46 (by omega), h6', cC_c, cpy0 _ _ hk, p5 29 (by omega) (by omega) (by omega), P' 29 (by omega) (by omega)]
    · unfold cAt
      rw [p9 _ (by omega), p9 _ (by omega), p6 _ (by omega) (by omega) (by omega) (by omega), p6 _ (by omega) (by omega) (by omega) (by omega)]
      exact a1
    · rw [q9 i a b, p6 0 (by omega) (by omega) (by omega) (by omega), P' 0 (by omega) (by omega)]
    · rw [h9', cQ_1, h8', cA_w (by omega), h7', cA_v, p6 0 (by omega) (by omega) (by omega) (by omega), P' 0 (by omega) (by omega)]
    · rw [h9', cQ_1, h8', cA_v, h7', cA_w (by omega), p6 0 (by omega) (by omega) (by omega) (by omega), P' 0 (by omega) (by omega)]
  · rintro σ' ω' ⟨t1, t2, t3, t4, t5⟩ ⟨g1, g2, g3, g4, g5, g6, g7, g8, g9, g10, g11, g12⟩
    have z : cZ ω ω' := cZ.of g1
    refine ⟨κ, κ, Rel.iff.mpr ⟨?_, ?_, ?_, ?_, ?_, ?_⟩⟩
    · exact RNo.mv ⟨n1, n2, n3, n4, n5, n6, n7, n8⟩ z (t2 1 (by omega) (by omega)) (t2 3 (by omega) (by omega)) (t2 5 (by omega) (by omega)) (t2 6 (by omega) (by omega)) (g4 9 (by omega)) (g2 1 (by omega) (by omega)) (fun c hc => g6 c (by omega) (by omega) (by omega)) (g10 3 (by omega) (by omega)) (g10 14 (by omega) (by omega))
    · unfold RIm
      rw [t1, t4, g5, g11, g12]
      refine ⟨n1, Or.inr ⟨rfl, n5.z z, ?_, n7, n8, n3.mv (t2 5 (by omega) (by omega)) (t2 6 (by omega) (by omega)), n4⟩⟩
      exact copy_bank n6 z n4 g3 (fun i hi => (g7 i hi).1) (fun i hi => (g7 i hi).2) (fun k hk => (g8 k hk).1) (fun k hk => (g8 k hk).2) g9
    · intro l hl
      rw [g3 l hl]
      rcases n6.1 l hl with e | ⟨b, z1, z2⟩
      · exact Or.inl e
      · exact Or.inr ⟨b, _, _, _, z1, z2.z z⟩
    · obtain ⟨tx, kn, hh, hi, c1, c2, c3, c4, c5, c6, c7, c8, c9, c10, c11⟩ := h4
      refine ⟨tx, kn, hh, hh, c1, c2, by rw [t5 7 (by omega)]; exact c3, by rw [g10 7 (by omega) (by omega)]; exact c4, by rw [t5 8 (by omega)]; exact c5, by rw [g10 8 (by omega) (by omega)]; exact c6, ?_, by rw [t2 1 (by omega) (by omega)]; exact c8, c9, by rw [t1]; exact c8, c9⟩
      rw [g6 24 (by omega) (by omega) (by omega), t2 4 (by omega) (by omega)]
      exact c7
    · exact h5.mv (t5 29 (by omega)) (t2 13 (by omega) (by omega)) (by rw [g6 26 (by omega) (by omega) (by omega)]) (g6 27 (by omega) (by omega) (by omega))
    · exact h6.mv (t2 10 (by omega) (by omega)) (t2 11 (by omega) (by omega)) t3 (fun i hi => by rw [g2 _ (by omega) (by omega)]) (fun i a hi e => by rw [g1]; exact ⟨h6.of i a hi e, rfl⟩)
theorem J_undo (H : Rel T q ω σ κ κi) : JM T q ω σ (tw_undo σ) (cw_undo T q ω) := by
  obtain ⟨h1, h2, h3, h4, h5, h6⟩ := Rel.iff.mp H
  obtain ⟨n1, n2, n3, n4, n5, n6, n7, n8⟩ := h1
  unfold tw_undo cw_undo
  obtain ⟨i1, ⟨i2, i3⟩ | ⟨i2, i3, i4, i5, i6, i7, i8⟩⟩ := h2
  · refine JM.no H (-3) (fun k h => ?_) (fun k h => ⟨fun _ => h, fun a e => ?_⟩)
    · rw [i2]; exact bn0 rfl h
    · rw [i3] at e; cases e
  · have hA : cAt ω 9 (σ.1 2) := i4.2.2.2.2.2
    refine ⟨σ.1 2 5, fun σ' => σ'.1 1 = σ.1 2 ∧ (∀ c, c ≠ 1 → σ'.1 c = σ.1 c) ∧ σ'.2 = σ.2, fun ω' => ω'.2 = ω.2 ∧ (∀ c, c ≠ 0 → c ≠ 1 → ω'.1.2 c = ω.1.2 c) ∧ (∀ l, l < 6 → ω'.1.2 1 l = ω.1.2 42 l) ∧ (∀ i, i ≠ 9 → ω'.1.2 0 i = ω.1.2 0 i) ∧ ω'.1.2 0 9 = ω.1.2 0 30 ∧ (∀ c, c ≠ 0 → c ≠ 2 → c ≠ 3 → c ≠ 4 → c ≠ 5 → c ≠ 28 → c ≠ 29 → ω'.1.1 c = ω.1.1 c) ∧ (∀ i, i < 24 → ω'.1.1 2 i = ω.1.1 43 i ∧ ω'.1.1 3 i = ω.1.1 44 i) ∧ (∀ k, k < 12 → ω'.1.1 28 k = ω.1.1 45 k ∧ ω'.1.1 29 k = ω.1.1 46 k) ∧ cAt ω' 0 (σ.1 2) ∧ (∀ i, i ≠ 3 → i ≠ 14 → ω'.1.1 0 i = ω.1.1 0 i) ∧ ω'.1.1 0 3 = ω.1.1 0 28 ∧ ω'.1.1 0 14 = ω.1.1 0 29, fun k h => ?_, fun k h => ⟨fun e => ?_, fun a ha => ?_⟩, ?_⟩
    · rw [i2]
      refine bn1 (by decide) (l_lays rfl rfl (by omega) i1 n1 (fun σ' e1 ec e2 => ?_))
      rw [tc5, e1]
      exact ⟨vi5, h σ' ⟨e1, ec, e2⟩⟩
    · obtain ⟨b, e2, -⟩ := i3
      rw [e2] at e; cases e
    · intro w1 h1'
      have g1 := (c_Tk (a := 0) hA (by omega)).1
      have a1 := (c_Tk (a := 0) hA (by omega)).2
      rw [← h1'] at g1 a1
      rw [tc6, tc0, tc24, tc12]
      refine ⟨fun i hi a ha => ?_, ?_⟩
      · rw [Nat.zero_add, g1.1] at ha
        rcases h3 i hi with z | ⟨b, kd, n, v, z1, z2⟩
        · rw [z] at ha; cases ha
        · rw [z1] at ha; cases ha
          exact ⟨_, _, _, lofR_mv g1.2.1 z2⟩
      intro w2 h2' w3 h3' w4 h4'
      have p4 : ∀ c, c ≠ 2 → c ≠ 3 → w4.1.1 c = w1.1.1 c := fun c a b => by rw [h4', cC_ne b, h3', cC_ne a, h2', cQ_1]
      have P' : ∀ c, c ≠ 4 → c ≠ 5 → w1.1.1 c = ω.1.1 c := fun c a b => by
        rw [h1']
        unfold cTk
        rw [cA_ne (by omega), cC_ne (by omega)]
      refine ⟨fun i hi => ?_, ?_⟩
      · rw [Nat.zero_add, p4 45 (by omega) (by omega), P' 45 (by omega) (by omega)]
        exact (fit_b i4 i hi).1
      intro w5 h5'
      have p5 : ∀ c, c ≠ 2 → c ≠ 3 → c ≠ 28 → w5.1.1 c = w1.1.1 c := fun c a b d => by rw [h5', cC_ne d]; exact p4 c a b
      refine ⟨fun i hi => ?_, ?_⟩
      · rw [Nat.zero_add, p5 46 (by omega) (by omega) (by omega), P' 46 (by omega) (by omega)]
        exact (fit_b i4 i hi).2
      intro w6 h6' w7 h7' w8 h8' w9 h9'
      have p6 : ∀ c, c ≠ 2 → c ≠ 3 → c ≠ 28 → c ≠ 29 → w6.1.1 c = w1.1.1 c := fun c a b d e => by rw [h6', cC_ne e]; exact p5 c a b d
      have p9 : ∀ c, c ≠ 0 → w9.1.1 c = w6.1.1 c := fun c a => by rw [h9', cQ_1, h8', cA_ne a, h7', cA_ne a]
      have q9 : ∀ i, i ≠ 3 → i ≠ 14 → w9.1.1 0 i = w6.1.1 0 i := fun i a b => by rw [h9', cQ_1, h8', cA_w b, h7', cA_w a]
      have e3 : w9.1.1 0 3 = ω.1.1 0 28 := by rw [h9', cQ_1, h8', cA_w (by omega), h7', cA_v, p6 0 (by omega) (by omega) (by omega) (by omega), P' 0 (by omega) (by omega)]
      have k2 : w6.1.1 2 = w3.1.1 2 := by rw [h6', cC_ne (by omega), h5', cC_ne (by omega), h4', cC_ne (by omega)]
      have k3 : w6.1.1 3 = w4.1.1 3 := by rw [h6', cC_ne (by omega), h5', cC_ne (by omega)]
      have k28 : w6.1.1 28 = w5.1.1 28 := by rw [h6', cC_ne (by omega)]
      have e5 : w9.1.1 0 3 = σ.1 2 5 := by rw [e3]; exact i5
      rw [e5]
      refine h w9 ⟨?_, fun c a b => ?_, fun l hl => ?_, fun i hi => ?_, ?_, fun c a0 a2 a3 a4 a5 a28 a29 => ?_, fun i hi => ⟨?_, ?_⟩, fun k hk => ⟨?_, ?_⟩, ?_, fun i a b => ?_, e3, ?_⟩
      · rw [h9', h8', h7', h6', h5', h4', h3', h2']; exact g1.2.1
      · rw [h9', cQ_ne a, h8', h7', h6', h5', h4', h3']
        show w2.1.2 c = _
        rw [h2', cQ_ne b, g1.1]
      · rw [h9', cQ_ne (by omega), h8', h7', h6', h5', h4', h3']
        show w2.1.2 1 l = _
        rw [h2', cQ_c, cpy0 _ _ hl, g1.1]
      · rw [h9', cQ_c, va_up_ne _ _ hi, h8', h7', h6', h5', h4', h3']
        show w2.1.2 0 i = _
        rw [h2', cQ_ne (by omega), g1.1]
      · rw [h9', cQ_c, va_up_self, h8', h7', h6', h5', h4', h3']
        show w2.1.2 0 30 = _
        rw [h2', cQ_ne (by omega), g1.1]
      · rw [p9 c a0, p6 c a2 a3 a28 a29]
        exact P' c a4 a5
      · rw [p9 2 (by omega), k2, h3', cC_c, cpy0 _ _ hi, h2', cQ_1, P' 43 (by omega) (by omega)]
      · rw [p9 3 (by omega), k3, h4', cC_c, cpy0 _ _ hi, h3', cC_ne (by omega), h2', cQ_1, P' 44 (by omega) (by omega)]
      · rw [p9 28 (by omega), k28, h5', cC_c, cpy0 _ _ hk, p4 45 (by omega) (by omega), P' 45 (by omega) (by omega)]
      · rw [p9 29 (by omega), h6', cC_c, cpy0 _ _ hk, p5 46 (by omega) (by omega) (by omega), P' 46 (by omega) (by omega)]
      · unfold cAt
        rw [p9 _ (by omega), p9 _ (by omega), p6 _ (by omega) (by omega) (by omega) (by omega), p6 _ (by omega) (by omega) (by omega) (by omega)]
        exact a1
      · rw [q9 i a b, p6 0 (by omega) (by omega) (by omega) (by omega), P' 0 (by omega) (by omega)]
      · rw [h9', cQ_1, h8', cA_v, h7', cA_w (by omega), p6 0 (by omega) (by omega) (by omega) (by omega), P' 0 (by omega) (by omega)]
    · rintro σ' ω' ⟨t1, t2, t3⟩ ⟨g1, g2, g3, g4, g5, g6, g7, g8, g9, g10, g11, g12⟩
      have z : cZ ω ω' := cZ.of g1
      have t0 : ∀ i, σ'.1 0 i = σ.1 0 i := fun i => by rw [t2 0 (by omega)]
      refine ⟨κi, κi, Rel.iff.mpr ⟨?_, ?_, ?_, ?_, ?_, ?_⟩⟩
      · unfold RNo
        rw [t1, t2 3 (by omega), g5, g11, g12]
        exact ⟨i1, n2, i7.mv (t2 5 (by omega)) (t2 6 (by omega)), i8, i3.z z, copy_bank i4 z i8 g3 (fun i hi => (g7 i hi).1) (fun i hi => (g7 i hi).2) (fun k hk => (g8 k hk).1) (fun k hk => (g8 k hk).2) g9, i5, i6⟩
      · exact RIm.mv ⟨i1, Or.inr ⟨i2, i3, i4, i5, i6, i7, i8⟩⟩ z (t2 2 (by omega)) (t2 5 (by omega)) (t2 6 (by omega)) (t0 3) (g4 30 (by omega)) (g2 42 (by omega) (by omega)) (fun c hc => g6 c (by omega) (by omega) (by omega) (by omega) (by omega) (by omega) (by omega)) (g10 28 (by omega) (by omega)) (g10 29 (by omega) (by omega))
      · exact h3.mv z (g2 42 (by omega) (by omega))
      · obtain ⟨tx, kn, hh, hi, c1, c2, c3, c4, c5, c6, c7, c8, c9, c10, c11⟩ := h4
        refine ⟨tx, kn, hi, hi, c1, c2, by rw [t0]; exact c3, by rw [g10 7 (by omega) (by omega)]; exact c4, by rw [t0]; exact c5, by rw [g10 8 (by omega) (by omega)]; exact c6, ?_, by rw [t1]; exact c10, c11, by rw [t2 2 (by omega)]; exact c10, c11⟩
        rw [g6 24 (by omega) (by omega) (by omega) (by omega) (by omega) (by omega) (by omega), t2 4 (by omega)]
        exact c7
      · exact h5.mv (t0 29) (t2 13 (by omega)) (by rw [g6 26 (by omega) (by omega) (by omega) (by omega) (by omega) (by omega) (by omega)]) (g6 27 (by omega) (by omega) (by omega) (by omega) (by omega) (by omega) (by omega))
      · exact h6.mv (t2 10 (by omega)) (t2 11 (by omega)) t3 (fun i hi => by rw [g2 _ (by omega) (by omega)]) (fun i a hi e => by rw [g1]; exact ⟨h6.of i a hi e, rfl⟩)
end Q
