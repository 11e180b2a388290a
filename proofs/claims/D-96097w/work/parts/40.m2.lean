/-! PLAIN: what changes: set, book, loaf -/
set_option maxRecDepth 100000
section Q
variable {T : xT} {q : Nat → Nat} {ω : CS} {σ : TS} {κ κi : KD}
/-- the row changes from place 5 on; the component's own row alike -/
theorem Rel.row {ω' : CS} {σ' : TS} {y : SS} (H : Rel T q ω σ κ κi) (t : tB σ σ' y) (z : cZ ω ω') (hp : ∀ i a, i < 6 → ω.1.2 (31 + i) 0 = some a → a ∈ ω'.2.1 ∧ ω'.2.2 a = ω.2.2 a)
    (r9 : ω'.1.2 0 9 = ω.1.2 0 9) (r30 : ω'.1.2 0 30 = ω.1.2 0 30) (r42 : ω'.1.2 42 = ω.1.2 42) (rt : ∀ i, i < 6 → ω'.1.2 (31 + i) 0 = ω.1.2 (31 + i) 0)
    (g : ∀ c, (c = 43 ∨ c = 44 ∨ c = 45 ∨ c = 46 ∨ c = 22 ∨ c = 23 ∨ c = 24 ∨ c = 27) → ω'.1.1 c = ω.1.1 c) (g26 : ω'.1.1 26 1 = ω.1.1 26 1) (g0 : ∀ i, (i = 28 ∨ i = 29 ∨ i = 7 ∨ i = 8) → ω'.1.1 0 i = ω.1.1 0 i)
    (z1 : tZ y) (e6 : y 6 = σ.1 1 6) (hy : okS y) (B : cBank q ω' 1 2 3 28 29 0 y) (e3 : ω'.1.1 0 3 = y 5) (e14 : ω'.1.1 0 14 = y 7) : Rel T q ω' σ' κ κi := by
  obtain ⟨h1, h2, h3, h4, h5, h6⟩ := Rel.iff.mp H
  have T_ : ∀ c, 2 ≤ c → c ≠ 7 → σ'.1 c = σ.1 c := t.2.1
  have t_ : ∀ i, (i < 9 ∨ 20 < i) → σ'.1 0 i = σ.1 0 i := t.2.2.2
  refine Rel.iff.mpr ⟨?_, ?_, ?_, ?_, ?_, ?_⟩
  · obtain ⟨n1, n2, n3, n4, n5, n6, n7, n8⟩ := h1
    unfold RNo
    rw [t.1, T_ 3 (by omega) (by omega), r9, e3, e14, e6]
    exact ⟨z1, n2, n3.mv (T_ 5 (by omega) (by omega)) (T_ 6 (by omega) (by omega)), hy, n5.z z, B, rfl, rfl⟩
  · exact h2.mv z (T_ 2 (by omega) (by omega)) (T_ 5 (by omega) (by omega)) (T_ 6 (by omega) (by omega)) (t_ 3 (by omega)) r30 r42 (fun c hc => g c (by omega)) (g0 28 (by omega)) (g0 29 (by omega))
  · exact h3.mv z r42
  · exact h4.mv (t_ 7 (by omega)) (t_ 8 (by omega)) (T_ 4 (by omega) (by omega)) (by rw [t.1]; exact e6) (by rw [T_ 2 (by omega) (by omega)]) (g0 7 (by omega)) (g0 8 (by omega)) (g 24 (by omega))
  · exact h5.mv (t_ 29 (by omega)) (T_ 13 (by omega) (by omega)) g26 (g 27 (by omega))
  · exact h6.mv (T_ 10 (by omega) (by omega)) (T_ 11 (by omega) (by omega)) t.2.2.1 rt hp
theorem upd_tZ {x : SS} {i : Nat} {v : Int32} (h : tZ x) (hi : i < 92) : tZ (upd x i v) := fun j hj => by rw [pk_un (by omega)]; exact h j hj
/-- one number of a loaf changes: a give (j = 2), a bear (j = 6) -/
theorem set_bank {x : SS} {l t j c n : Nat} (hx : okS x) (hl : l < 6) (ht : t < 4) (hj : (j = 2 ∧ c = 2) ∨ (j = 6 ∧ c = 3)) (hn : n ≤ 99) (B : cBank q ω 1 2 3 28 29 0 x) : okS (upd x (8 + 10 * l + (j + t)) (nI n)) ∧ cBank q (cA ω c (4 * l + t) (nI n)) 1 2 3 28 29 0 (upd x (8 + 10 * l + (j + t)) (nI n)) := by
  have U : ∀ i, i ≠ 8 + 10 * l + (j + t) → upd x (8 + 10 * l + (j + t)) (nI n) i = x i := fun i hi => pk_un hi
  have Us : upd x (8 + 10 * l + (j + t)) (nI n) (8 + 10 * l + (j + t)) = nI n := pk_us
  generalize hy : upd x (8 + 10 * l + (j + t)) (nI n) = y at U Us
  have G : ∀ c', c' ≠ c → (cA ω c (4 * l + t) (nI n)).1.1 c' = ω.1.1 c' := fun c' h => cA_ne h
  obtain ⟨o1, o2, o3, o4⟩ := hx
  obtain ⟨b1, b2, b3, b4, b5, b6⟩ := B
  have em : mOf y = mOf x := by unfold mOf; rw [U 5 (by omega)]
  have eb : bkOf y = bkOf x := by unfold bkOf; rw [U 7 (by omega)]
  refine ⟨⟨fun u hu => by rw [U u (by omega)]; exact o1 u hu, by rw [U 4 (by omega)]; exact o2, by rw [U 5 (by omega)]; exact o3, fun l' hl' => ⟨by rw [U _ (by omega)]; exact (o4 l' hl').1, by rw [U _ (by omega)]; exact (o4 l' hl').2.1, fun t' ht' => ⟨?_, ?_⟩⟩⟩, fun l' hl' => ?_, fun l' hl' => b2 l' (by rw [em] at hl'; exact hl'), fun l' hl' t' ht' => ⟨?_, ?_⟩, fun k hk => ?_, ?_, ?_⟩
  · by_cases e : 8 + 10 * l' + (2 + t') = 8 + 10 * l + (j + t)
    · rw [e, Us]; exact ⟨n, hn, rfl⟩
    · rw [U _ e]; exact ((o4 l' hl').2.2 t' ht').1
  · by_cases e : 8 + 10 * l' + (6 + t') = 8 + 10 * l + (j + t)
    · rw [e, Us]; exact ⟨n, hn, rfl⟩
    · rw [U _ e]; exact ((o4 l' hl').2.2 t' ht').2
  · unfold aKd
    rw [U _ (by omega), U _ (by omega)]
    exact b1 l' hl'
  · by_cases e : 8 + 10 * l' + (2 + t') = 8 + 10 * l + (j + t)
    · have hc : c = 2 := by omega
      subst hc
      rw [e, Us, show 4 * l' + t' = 4 * l + t by omega]
      exact cA_v
    · rw [U _ e]
      by_cases hc : c = 2
      · subst hc
        rw [cA_w (by omega)]
        exact (b3 l' hl' t' ht').1
      · rw [G 2 (by omega)]
        exact (b3 l' hl' t' ht').1
  · by_cases e : 8 + 10 * l' + (6 + t') = 8 + 10 * l + (j + t)
    · have hc : c = 3 := by omega
      subst hc
      rw [e, Us, show 4 * l' + t' = 4 * l + t by omega]
      exact cA_v
    · rw [U _ e]
      by_cases hc : c = 3
      · subst hc
        rw [cA_w (by omega)]
        exact (b3 l' hl' t' ht').2
      · rw [G 3 (by omega)]
        exact (b3 l' hl' t' ht').2
  · rw [U _ (by omega), U _ (by omega), G 28 (by omega), G 29 (by omega)]
    exact b4 k hk
  · rw [eb, em, U 7 (by omega)]
    refine ⟨b5.1, b5.2.1, fun k hk => ?_⟩
    rw [U _ (by omega)]
    exact b5.2.2 k hk
  · unfold cAt
    rw [G _ (by omega), G _ (by omega), U 4 (by omega)]
    exact ⟨fun i hi => by rw [U i (by omega)]; exact b6.1 i hi, b6.2⟩
theorem J_set (H : Rel T q ω σ κ κi) (x1 x2 x3 x4 : Int32) : JM T q ω σ (tw_set σ x1 x2 x3 x4) (cw_set T q ω x1 x2 x3 x4) := by
  have hx := H.1.ok
  have HC := H.1.c
  have B := H.2.1
  unfold tw_set cw_set
  by_cases hl : ∃ l : Nat, l < mOf (σ.1 1) ∧ x1 = nI l
  · obtain ⟨l, hl, rfl⟩ := hl
    have hl6 : l < 6 := by have := (mOf_le hx).1; omega
    by_cases ht : ∃ t : Nat, t < 4 ∧ x2 = nI t
    · obtain ⟨t, ht, rfl⟩ := ht
      by_cases hw : 0 ≤ x3 ∧ x3 ≤ 1
      · by_cases hn : 0 ≤ x4 ∧ x4 ≤ 99
        · obtain ⟨n, hn', rfl⟩ := (i_rng (n := 99) (by omega)).mp hn
          have main : ∀ j c : Nat, (j = 2 ∧ c = 2) ∨ (j = 6 ∧ c = 3) → JM T q ω σ (fun k => tw_set_J57 k (nI t) (nI n) (nI j) ((8 + (10 * nI l))) σ) (fun k => cw_set_J55 T q k (nI l) (nI t) (nI n) c ω) := by
            intro j c hj
            obtain ⟨ok', B'⟩ := set_bank hx hl6 ht hj hn' B
            refine ⟨σ.1 1 (8 + 10 * l + (j + t)), fun σ' => σ' = sA σ 1 (8 + 10 * l + (j + t)) (nI n), fun ω' => ω' = cA ω c (4 * l + t) (nI n), fun k h => ?_, fun k h => ?_, fun σ' ω' t' g' => ⟨κ, κi, ?_⟩⟩
            · intro v hv
              have ev : ((8 + (10 * nI l)) + nI j) + nI t = nI (8 + 10 * l + (j + t)) := by rw [ix_get, nI_add, show 8 + 10 * l + j + t = 8 + 10 * l + (j + t) by omega]
              rw [ev] at hv
              subst hv
              refine ⟨vp_in_nI (by omega) (by omega), ?_⟩
              intro u hu
              rw [nI_clamp (by omega)] at hu ⊢
              subst hu
              exact ⟨vp_in_nI (by omega) (by omega), h _ rfl⟩
            · have hc23 : c = 2 ∨ c = 3 := by omega
              refine ⟨hc23, ?_⟩
              rw [cx_4, nI_clamp (by omega)]
              refine ⟨vp_in_nI (by omega) (by omega), ?_⟩
              intro u hu
              have e : ω.1.1 c (4 * l + t) = σ.1 1 (8 + 10 * l + (j + t)) := by
                rcases hj with ⟨rfl, rfl⟩ | ⟨rfl, rfl⟩
                · exact (B.2.2.1 l hl6 t ht).1
                · exact (B.2.2.1 l hl6 t ht).2
              rw [e] at hu
              subst hu
              exact ⟨hc23, vp_in_nI (by omega) (by omega), h _ rfl⟩
            · subst t' g'
              have G : ∀ c', c' ≠ 2 → c' ≠ 3 → (cA ω c (4 * l + t) (nI n)).1.1 c' = ω.1.1 c' := fun c' a1 a2 => cA_ne (by omega)
              have g0 : (cA ω c (4 * l + t) (nI n)).1.1 0 = ω.1.1 0 := G 0 (by omega) (by omega)
              refine H.row tB_1 (cZ.of rfl) (fun i a hi e => ⟨(Rel.iff.mp H).2.2.2.2.2.of i a hi e, rfl⟩) rfl rfl rfl (fun _ _ => rfl) (fun c' hc => G c' (by omega) (by omega)) (by rw [G 26 (by omega) (by omega)]) (fun i _ => by rw [g0]) (upd_tZ H.1.2.2.1 (by omega)) (pk_un (by omega)) ok' B' (by rw [g0, pk_un (by omega)]; exact HC.1.1) (by rw [g0, pk_un (by omega)]; exact H.2.2.1)
          by_cases h0 : x3 = 0
          · obtain ⟨v, P, C, m1, m2, m3⟩ := main 2 2 (Or.inl ⟨rfl, rfl⟩)
            exact ⟨v, P, C, fun k h => l_loafT hx hl (br0 (by decide) (l_tasteT ht (br0 (by decide) (p_T hw (bn1 (by decide) (p_T hn (bn1 (by decide) (bn0 h0 (m1 k h))))))))), fun k h => c_loafT hx HC.1.1 hl (br0 (by decide) (c_tasteT ht (br0 (by decide) (q_T hw (bn1 (by decide) (q_T hn (bn1 (by decide) (bn0 h0 (m2 k h))))))))), m3⟩
          · obtain ⟨v, P, C, m1, m2, m3⟩ := main 6 3 (Or.inr ⟨rfl, rfl⟩)
            exact ⟨v, P, C, fun k h => l_loafT hx hl (br0 (by decide) (l_tasteT ht (br0 (by decide) (p_T hw (bn1 (by decide) (p_T hn (bn1 (by decide) (bn1 h0 (m1 k h))))))))), fun k h => c_loafT hx HC.1.1 hl (br0 (by decide) (c_tasteT ht (br0 (by decide) (q_T hw (bn1 (by decide) (q_T hn (bn1 (by decide) (bn1 h0 (m2 k h))))))))), m3⟩
        · exact JM.no H (-2) (fun k h => l_loafT hx hl (br0 (by decide) (l_tasteT ht (br0 (by decide) (p_T hw (bn1 (by decide) (p_F hn (bn0 rfl h)))))))) (fun k h => c_loafT hx HC.1.1 hl (br0 (by decide) (c_tasteT ht (br0 (by decide) (q_T hw (bn1 (by decide) (q_F hn (bn0 rfl h))))))))
      · exact JM.no H (-1) (fun k h => l_loafT hx hl (br0 (by decide) (l_tasteT ht (br0 (by decide) (p_F hw (bn0 rfl h)))))) (fun k h => c_loafT hx HC.1.1 hl (br0 (by decide) (c_tasteT ht (br0 (by decide) (q_F hw (bn0 rfl h))))))
    · exact JM.no H (-1) (fun k h => l_loafT hx hl (br0 (by decide) (l_tasteF ht (br1 rfl h)))) (fun k h => c_loafT hx HC.1.1 hl (br0 (by decide) (c_tasteF ht (br1 rfl h))))
  · exact JM.no H (-1) (fun k h => l_loafF hx hl (br1 rfl h)) (fun k h => c_loafF hx HC.1.1 hl (br1 rfl h))
/-- one more in the book -/
theorem J_bookAdd (H : Rel T q ω σ κ κi) (x1 x2 : Int32) (hb : x2 = 0 ∨ x2 = 1) (hv : x1 = -2 ∨ ∃ l, l < mOf (σ.1 1) ∧ x1 = nI l) : JM T q ω σ (fun k => tw_book_J31 k x1 x2 σ) (fun k => cw_book_J28 T q k x1 x2 ω) := by
  have hx := H.1.ok
  have HC := H.1.c
  have B := H.2.1
  have e14 := H.2.2.1
  obtain ⟨b1, b2, b3, b4, ⟨b5, b6, b7⟩, bA⟩ := B
  have h6 := (mOf_le hx).1
  unfold tw_book_J31 cw_book_J28
  generalize hbk : bkOf (σ.1 1) = b at b5 b6 b7
  rw [tc7, b6, e14, b6]
  by_cases hf : b = 12
  · subst hf
    exact JM.no H (-4) (fun k h => ⟨vi7, bn0 rfl h⟩) (fun k h => bn0 rfl h)
  · have hne : ¬ nI b = 12 := fun c => hf ((nI_eq (b := 12) (by omega) (by omega)).mp c)
    have ix : (68 : Int32) + 2 * nI b = nI (68 + 2 * b) := by rw [show (68 : Int32) = nI 68 from rfl, show (2 : Int32) = nI 2 from rfl, pk_mul, nI_add]
    refine ⟨nI (b + 1), fun σ' => σ' = sA (sA (sA σ 1 (68 + 2 * b) x1) 1 (68 + 2 * b + 1) x2) 1 7 (nI (b + 1)), fun ω' => ω' = cA (cA (cA ω 28 b x1) 0 14 (nI (b + 1))) 29 b x2, fun k h => ⟨vi7, bn1 hne ⟨vi7, ?_⟩⟩, fun k h => bn1 hne ⟨vp_in_nI (by omega) (by omega), ?_⟩, fun σ' ω' t' g' => ⟨κ, κi, ?_⟩⟩
    · rw [ix]
      refine ⟨vp_in_nI (by omega) (by omega), ?_⟩
      intro w hw
      rw [nI_clamp (by omega)] at hw
      have w7 : w.1 1 7 = nI b := by rw [hw, sA_w (by omega)]; exact b6
      rw [w7, ix, nI_1]
      have fin : tw_book_J91 k x2 (nI (68 + 2 * b + 1)) w := by
        unfold tw_book_J91
        refine ⟨vp_in_nI (by omega) (by omega), ?_⟩
        intro w2 hw2
        rw [nI_clamp (by omega)] at hw2
        refine ⟨vi7, vi7, ?_⟩
        intro w3 hw3
        have w27 : w2.1 1 7 = nI b := by rw [hw2, sA_w (by omega)]; exact w7
        rw [tc7, w27, nI_1] at hw3
        rw [tc7]
        have w37 : w3.1 1 7 = nI (b + 1) := by rw [hw3]; exact sA_v
        rw [w37]
        refine ⟨vi7, h w3 ?_⟩
        rw [hw3, hw2, hw]
      refine ⟨vi7, fun c => ?_, fun c => ?_⟩
      · rw [c] at fin; exact fin
      · rw [hb.resolve_left c] at fin; exact fin
    · intro w hw v hv' w2 hw2
      rw [nI_clamp (by omega), pk_vb] at hw
      have w14 : w.1.1 0 14 = nI b := by rw [hw, cA_ne (by omega), e14]; exact b6
      rw [w14] at hv'
      subst hv'
      rw [nI_1] at hw2
      refine ⟨vp_in_nI (by omega) (by omega), ?_⟩
      intro w3 hw3
      have eb : x1.toInt8.toInt32 = x1 := by
        rcases hv with rfl | ⟨l, hl, rfl⟩
        · decide
        · have key : ∀ j : Fin 128, (nI j.val).toInt8.toInt32 = nI j.val := by decide +kernel
          exact key ⟨l, by omega⟩
      have eb2 : vp_nar .boolean x2 = x2 := by rcases hb with rfl | rfl <;> rfl
      rw [nI_clamp (by omega), eb2] at hw3
      have w314 : w3.1.1 0 14 = nI (b + 1) := by rw [hw3, cA_ne (by omega), hw2]; exact cA_v
      rw [w314]
      refine h w3 ?_
      rw [hw3, hw2, hw, eb]
    · subst t' g'
      have tb : tB σ (sA (sA (sA σ 1 (68 + 2 * b) x1) 1 (68 + 2 * b + 1) x2) 1 7 (nI (b + 1))) (upd (upd (upd (σ.1 1) (68 + 2 * b) x1) (68 + 2 * b + 1) x2) 7 (nI (b + 1))) := by
        have := ((tB_1 (σ := σ) (i := 68 + 2 * b) (v := x1)).tr (tB_1 (i := 68 + 2 * b + 1) (v := x2))).tr (tB_1 (i := 7) (v := nI (b + 1)))
        rw [sA_c, sA_c] at this
        exact this
      have U : ∀ i, i ≠ 68 + 2 * b → i ≠ 68 + 2 * b + 1 → i ≠ 7 → upd (upd (upd (σ.1 1) (68 + 2 * b) x1) (68 + 2 * b + 1) x2) 7 (nI (b + 1)) i = σ.1 1 i := fun i h1 h2 h3 => by rw [pk_un h3, pk_un h2, pk_un h1]
      have U1 : upd (upd (upd (σ.1 1) (68 + 2 * b) x1) (68 + 2 * b + 1) x2) 7 (nI (b + 1)) (68 + 2 * b) = x1 := by rw [pk_un (by omega), pk_un (by omega), pk_us]
      have U2 : upd (upd (upd (σ.1 1) (68 + 2 * b) x1) (68 + 2 * b + 1) x2) 7 (nI (b + 1)) (68 + 2 * b + 1) = x2 := by rw [pk_un (by omega), pk_us]
      have U3 : upd (upd (upd (σ.1 1) (68 + 2 * b) x1) (68 + 2 * b + 1) x2) 7 (nI (b + 1)) 7 = nI (b + 1) := pk_us
      have zz : tZ (upd (upd (upd (σ.1 1) (68 + 2 * b) x1) (68 + 2 * b + 1) x2) 7 (nI (b + 1))) := upd_tZ (upd_tZ (upd_tZ H.1.2.2.1 (by omega)) (by omega)) (by omega)
      generalize upd (upd (upd (σ.1 1) (68 + 2 * b) x1) (68 + 2 * b + 1) x2) 7 (nI (b + 1)) = y at tb U U1 U2 U3 zz
      have em : mOf y = mOf (σ.1 1) := by unfold mOf; rw [U 5 (by omega) (by omega) (by omega)]
      have eb : bkOf y = b + 1 := by unfold bkOf; rw [U3, nI_clamp (by omega)]
      have G : ∀ c, c ≠ 28 → c ≠ 0 → c ≠ 29 → (cA (cA (cA ω 28 b x1) 0 14 (nI (b + 1))) 29 b x2).1.1 c = ω.1.1 c := fun c h1 h2 h3 => by rw [cA_ne h3, cA_ne h2, cA_ne h1]
      have g0 : ∀ i, i ≠ 14 → (cA (cA (cA ω 28 b x1) 0 14 (nI (b + 1))) 29 b x2).1.1 0 i = ω.1.1 0 i := fun i h => by rw [cA_ne (by omega), cA_w h, cA_ne (by omega)]
      have g14 : (cA (cA (cA ω 28 b x1) 0 14 (nI (b + 1))) 29 b x2).1.1 0 14 = nI (b + 1) := by rw [cA_ne (by omega)]; exact cA_v
      have g28 : (cA (cA (cA ω 28 b x1) 0 14 (nI (b + 1))) 29 b x2).1.1 28 = upd (ω.1.1 28) b x1 := by rw [cA_ne (by omega), cA_ne (by omega), cA_c]
      have g29 : (cA (cA (cA ω 28 b x1) 0 14 (nI (b + 1))) 29 b x2).1.1 29 = upd (ω.1.1 29) b x2 := by rw [cA_c, cA_ne (by omega), cA_ne (by omega)]
      obtain ⟨o1, o2, o3, o4⟩ := hx
      refine H.row tb (cZ.of rfl) (fun i a hi e => ⟨(Rel.iff.mp H).2.2.2.2.2.of i a hi e, rfl⟩) rfl rfl rfl (fun _ _ => rfl) (fun c hc => G c (by omega) (by omega) (by omega)) (by rw [G 26 (by omega) (by omega) (by omega)]) (fun i hi => g0 i (by omega)) zz (U 6 (by omega) (by omega) (by omega)) ?_ ?_ (by rw [g0 3 (by omega), U 5 (by omega) (by omega) (by omega)]; exact HC.1.1) (by rw [g14, U3])
      · refine ⟨fun t ht => by rw [U t (by omega) (by omega) (by omega)]; exact o1 t ht, by rw [U 4 (by omega) (by omega) (by omega)]; exact o2, by rw [U 5 (by omega) (by omega) (by omega)]; exact o3, fun l hl => ⟨by rw [U _ (by omega) (by omega) (by omega)]; exact (o4 l hl).1, by rw [U _ (by omega) (by omega) (by omega)]; exact (o4 l hl).2.1, fun t ht => by rw [U _ (by omega) (by omega) (by omega), U _ (by omega) (by omega) (by omega)]; exact (o4 l hl).2.2 t ht⟩⟩
      · refine ⟨fun l hl => ?_, fun l hl => b2 l (by rw [em] at hl; exact hl), fun l hl t ht => ?_, fun k hk => ?_, ?_, ?_⟩
        · unfold aKd
          rw [U _ (by omega) (by omega) (by omega), U _ (by omega) (by omega) (by omega)]
          exact b1 l hl
        · rw [U _ (by omega) (by omega) (by omega), U _ (by omega) (by omega) (by omega), G 2 (by omega) (by omega) (by omega), G 3 (by omega) (by omega) (by omega)]
          exact b3 l hl t ht
        · rw [g28, g29]
          by_cases e : k = b
          · subst e
            rw [U1, U2, pk_us, pk_us]
            refine ⟨rfl, rfl, ?_, hb⟩
            rcases hv with h | ⟨l, hl, h⟩
            · exact Or.inl h
            · exact Or.inr ⟨l, by omega, h⟩
          · rw [pk_un e, pk_un e, U _ (by omega) (by omega) (by omega), U _ (by omega) (by omega) (by omega)]
            exact b4 k hk
        · rw [eb, em, U3]
          refine ⟨by omega, rfl, fun k hk => ?_⟩
          by_cases e : k = b
          · subst e
            rw [U1]
            exact hv
          · rw [U _ (by omega) (by omega) (by omega)]
            exact b7 k (by omega)
        · unfold cAt
          rw [G _ (by omega) (by omega) (by omega), G _ (by omega) (by omega) (by omega), U 4 (by omega) (by omega) (by omega)]
          exact ⟨fun i hi => by rw [U i (by omega) (by omega) (by omega)]; exact bA.1 i hi, bA.2⟩
theorem J_book (H : Rel T q ω σ κ κi) (x1 x2 : Int32) (hb : x2 = 0 ∨ x2 = 1) : JM T q ω σ (tw_book σ x1 x2) (cw_book T q ω x1 x2) := by
  have hx := H.1.ok
  have HC := H.1.c
  have B := H.2.1
  unfold tw_book cw_book
  by_cases h1 : x1 = -1
  · refine ⟨0, fun σ' => σ' = sA σ 1 7 0, fun ω' => ω' = cA ω 0 14 0, fun k h => bn0 h1 ⟨vi7, ?_⟩, fun k h => bn0 h1 (h _ rfl), fun σ' ω' t' g' => ⟨κ, κi, ?_⟩⟩
    · rw [tc7]; exact h _ rfl
    · subst t' g'
      obtain ⟨b1, b2, b3, b4, b5, bA⟩ := B
      have U : ∀ i, i ≠ 7 → upd (σ.1 1) 7 0 i = σ.1 1 i := fun i h => pk_un h
      have G : ∀ c, c ≠ 0 → (cA ω 0 14 0).1.1 c = ω.1.1 c := fun c h => cA_ne h
      have g0 : ∀ i, i ≠ 14 → (cA ω 0 14 0).1.1 0 i = ω.1.1 0 i := fun i h => cA_w h
      have em : mOf (upd (σ.1 1) 7 0) = mOf (σ.1 1) := by unfold mOf; rw [U 5 (by omega)]
      have eb : bkOf (upd (σ.1 1) 7 0) = 0 := by unfold bkOf; rw [pk_us]; exact tc0
      obtain ⟨o1, o2, o3, o4⟩ := hx
      refine H.row tB_1 (cZ.of rfl) (fun i a hi e => ⟨(Rel.iff.mp H).2.2.2.2.2.of i a hi e, rfl⟩) rfl rfl rfl (fun _ _ => rfl) (fun c hc => G c (by omega)) (by rw [G 26 (by omega)]) (fun i hi => g0 i (by omega)) (upd_tZ H.1.2.2.1 (by omega)) (U 6 (by omega)) ?_ ?_ (by rw [g0 3 (by omega), U 5 (by omega)]; exact HC.1.1) (by rw [pk_us]; exact cA_v)
      · refine ⟨fun t ht => by rw [U t (by omega)]; exact o1 t ht, by rw [U 4 (by omega)]; exact o2, by rw [U 5 (by omega)]; exact o3, fun l hl => ⟨by rw [U _ (by omega)]; exact (o4 l hl).1, by rw [U _ (by omega)]; exact (o4 l hl).2.1, fun t ht => by rw [U _ (by omega), U _ (by omega)]; exact (o4 l hl).2.2 t ht⟩⟩
      · refine ⟨fun l hl => ?_, fun l hl => b2 l (by rw [em] at hl; exact hl), fun l hl t ht => ?_, fun k hk => ?_, ?_, ?_⟩
        · unfold aKd
          rw [U _ (by omega), U _ (by omega)]
          exact b1 l hl
        · rw [U _ (by omega), U _ (by omega), G 2 (by omega), G 3 (by omega)]
          exact b3 l hl t ht
        · rw [U _ (by omega), U _ (by omega), G 28 (by omega), G 29 (by omega)]
          exact b4 k hk
        · rw [eb, pk_us]
          exact ⟨by omega, rfl, fun k hk => absurd hk (by omega)⟩
        · unfold cAt
          rw [G _ (by omega), G _ (by omega), U 4 (by omega)]
          exact ⟨fun i hi => by rw [U i (by omega)]; exact bA.1 i hi, bA.2⟩
  · by_cases h2 : x1 = -2
    · obtain ⟨v, P, C, m1, m2, m3⟩ := J_bookAdd H x1 x2 hb (Or.inl h2)
      exact ⟨v, P, C, fun k h => bn1 h1 (br1 h2 (m1 k h)), fun k h => bn1 h1 (br1 h2 (m2 k h)), m3⟩
    · by_cases hl : ∃ l : Nat, l < mOf (σ.1 1) ∧ x1 = nI l
      · obtain ⟨v, P, C, m1, m2, m3⟩ := J_bookAdd H x1 x2 hb (Or.inr hl)
        obtain ⟨l, hl, rfl⟩ := hl
        exact ⟨v, P, C, fun k h => bn1 h1 (br0 h2 (l_loafT hx hl (bn1 (by decide) (m1 k h)))), fun k h => bn1 h1 (br0 h2 (c_loafT hx HC.1.1 hl (bn1 (by decide) (m2 k h)))), m3⟩
      · exact JM.no H (-1) (fun k h => bn1 h1 (br0 h2 (l_loafF hx hl (bn0 rfl h)))) (fun k h => bn1 h1 (br0 h2 (c_loafF hx HC.1.1 hl (bn0 rfl h))))
end Q
