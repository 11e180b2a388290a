/-! PLAIN: what changes: set, oven, feed, bake, cold -/
set_option maxRecDepth 100000
theorem cBank.ge {q : Nat → Nat} {ω : CS} {pl pg pb pk ps t : Nat} {x y : SS} (h : cBank q ω pl pg pb pk ps t x) (e : ∀ i, 5 ≤ i → y i = x i) (A : cAt ω t y) : cBank q ω pl pg pb pk ps t y := by
  obtain ⟨h1, h2, h3, h4, h5, -⟩ := h
  have em : mOf y = mOf x := by unfold mOf; rw [e 5 (by omega)]
  have eb : bkOf y = bkOf x := by unfold bkOf; rw [e 7 (by omega)]
  refine ⟨fun l hl => ?_, fun l hl => h2 l (by rw [em] at hl; exact hl), fun l hl t ht => ?_, fun k hk => ?_, ?_, A⟩
  · unfold aKd
    rw [e _ (by omega), e _ (by omega)]
    exact h1 l hl
  · rw [e _ (by omega), e _ (by omega)]
    exact h3 l hl t ht
  · rw [e _ (by omega), e _ (by omega)]
    exact h4 k hk
  · rw [eb, em, e 7 (by omega)]
    refine ⟨h5.1, h5.2.1, fun k hk => ?_⟩
    rw [e _ (by omega)]
    exact h5.2.2 k hk
/-- the present oven and the hour change -/
theorem RNo.time {T : xT} {q : Nat → Nat} {ω ω' : CS} {σ σ' : TS} {κ : KD} {y : SS} (h : RNo T q ω σ κ) (z : cZ ω ω') (t1 : σ'.1 1 = y) (e : ∀ i, 5 ≤ i → y i = σ.1 1 i) (hy : okS y) (t3 : σ'.1 3 = σ.1 3) (t5 : σ'.1 5 = σ.1 5) (t6 : σ'.1 6 = σ.1 6) (r9 : ω'.1.2 0 9 = ω.1.2 0 9) (r1 : ω'.1.2 1 = ω.1.2 1) (c : ∀ c, (c = 2 ∨ c = 3 ∨ c = 28 ∨ c = 29) → ω'.1.1 c = ω.1.1 c) (c3 : ω'.1.1 0 3 = ω.1.1 0 3) (c14 : ω'.1.1 0 14 = ω.1.1 0 14) (A : cAt ω' 0 y) : RNo T q ω' σ' κ := by
  obtain ⟨n1, n2, n3, n4, n5, n6, n7, n8⟩ := h
  unfold RNo
  rw [t1, t3, r9, c3, c14, e 6 (by omega), e 5 (by omega), e 7 (by omega)]
  refine ⟨fun i hi => by rw [e i (by omega)]; exact n1 i hi, n2, n3.mv t5 t6, hy, n5.z z, ?_, n7, n8⟩
  obtain ⟨h1, h2, h3, h4, h5, h6⟩ := n6
  have B : cBank q ω' 1 2 3 28 29 0 (σ.1 1) → cBank q ω' 1 2 3 28 29 0 y := fun B => B.ge e A
  obtain ⟨m1, m2, m3, m4, m5, -⟩ := (⟨h1, h2, h3, h4, h5, h6⟩ : cBank q ω 1 2 3 28 29 0 (σ.1 1))
  have em : mOf y = mOf (σ.1 1) := by unfold mOf; rw [e 5 (by omega)]
  have eb : bkOf y = bkOf (σ.1 1) := by unfold bkOf; rw [e 7 (by omega)]
  refine ⟨fun l hl => ?_, fun l hl => by rw [r1]; exact m2 l (by rw [em] at hl; exact hl), fun l hl t ht => ?_, fun k hk => ?_, ?_, A⟩
  · unfold aKd
    rw [e _ (by omega), e _ (by omega), r1]
    exact (m1 l hl).imp id (fun ⟨a, z1, z2⟩ => ⟨a, z1, z2.z z⟩)
  · rw [e _ (by omega), e _ (by omega), c 2 (by omega), c 3 (by omega)]
    exact m3 l hl t ht
  · rw [e _ (by omega), e _ (by omega), c 28 (by omega), c 29 (by omega)]
    exact m4 k hk
  · rw [eb, em, e 7 (by omega)]
    refine ⟨m5.1, m5.2.1, fun k hk => ?_⟩
    rw [e _ (by omega)]
    exact m5.2.2 k hk
theorem RTp.of {T : xT} {ω : CS} {σ : TS} (h : RTp T ω σ) : ∀ i a, i < 6 → ω.1.2 (31 + i) 0 = some a → a ∈ ω.2.1 := fun i a hi e => by
  rcases h.1 i hi with z | ⟨a', s, n, z1, z2, z3, z4, z5⟩
  · rw [z.1] at e; cases e
  · rw [e] at z1; cases z1; exact z5.1
section Q
variable {T : xT} {q : Nat → Nat} {ω : CS} {σ : TS} {κ κi : KD}
/-- all but the present oven kept, on both sides -/
theorem Rel.time {ω' : CS} {σ' : TS} {y : SS} (H : Rel T q ω σ κ κi) (t : tB σ σ' y) (g : cG 0 ω ω') (e : ∀ i, 5 ≤ i → y i = σ.1 1 i) (hy : okS y) (A : cAt ω' 0 y) : Rel T q ω' σ' κ κi := by
  obtain ⟨h1, h2, h3, h4, h5, h6⟩ := Rel.iff.mp H
  have T_ : ∀ c, 2 ≤ c → c ≠ 7 → σ'.1 c = σ.1 c := t.2.1
  have t_ : ∀ i, (i < 9 ∨ 20 < i) → σ'.1 0 i = σ.1 0 i := t.2.2.2
  have G : ∀ c, c ≠ 25 → c ≠ 37 → c ≠ 38 → c ≠ 4 → c ≠ 5 → ω'.1.1 c = ω.1.1 c := fun c a1 a2 a3 a4 a5 => g.2.2 c a1 a2 a3 (by omega) (by omega)
  have g0 : ω'.1.1 0 = ω.1.1 0 := G 0 (by omega) (by omega) (by omega) (by omega) (by omega)
  have z := cZ.of g.2.1
  refine Rel.iff.mpr ⟨?_, ?_, ?_, ?_, ?_, ?_⟩
  · exact h1.time z t.1 e hy (T_ 3 (by omega) (by omega)) (T_ 5 (by omega) (by omega)) (T_ 6 (by omega) (by omega)) (by rw [g.1]) (by rw [g.1]) (fun c hc => G c (by omega) (by omega) (by omega) (by omega) (by omega)) (by rw [g0]) (by rw [g0]) A
  · exact h2.mv z (T_ 2 (by omega) (by omega)) (T_ 5 (by omega) (by omega)) (T_ 6 (by omega) (by omega)) (t_ 3 (by omega)) (by rw [g.1]) (by rw [g.1]) (fun c hc => G c (by omega) (by omega) (by omega) (by omega) (by omega)) (by rw [g0]) (by rw [g0])
  · exact h3.mv z (by rw [g.1])
  · exact h4.mv (t_ 7 (by omega)) (t_ 8 (by omega)) (T_ 4 (by omega) (by omega)) (by rw [t.1]; exact e 6 (by omega)) (by rw [T_ 2 (by omega) (by omega)]) (by rw [g0]) (by rw [g0]) (G 24 (by omega) (by omega) (by omega) (by omega) (by omega))
  · exact h5.mv (t_ 29 (by omega)) (T_ 13 (by omega) (by omega)) (by rw [G 26 (by omega) (by omega) (by omega) (by omega) (by omega)]) (G 27 (by omega) (by omega) (by omega) (by omega) (by omega))
  · exact h6.mv (T_ 10 (by omega) (by omega)) (T_ 11 (by omega) (by omega)) t.2.2.1 (fun i _ => by rw [g.1]) (fun i a hi e => by rw [g.2.1]; exact ⟨h6.of i a hi e, rfl⟩)
theorem J_bake (H : Rel T q ω σ κ κi) (x1 : Int32) : JM T q ω σ (tw_bake σ x1) (cw_bake T q ω x1) := by
  have hx := H.1.ok
  have HT := H.1.t
  have HC := H.1.c
  unfold tw_bake cw_bake
  by_cases hl : ∃ l : Nat, l < mOf (σ.1 1) ∧ x1 = nI l
  · obtain ⟨l, hl, rfl⟩ := hl
    have hl6 : l < 6 := by have := (mOf_le hx).1; omega
    refine ⟨b2I (aSp κ (σ.1 1) l), fun σ' => tB σ σ' (aGo κ (σ.1 1) l), fun ω' => cG 0 ω ω' ∧ cAt ω' 0 (aGo κ (σ.1 1) l), fun k h => l_loafT hx hl (bn1 (by decide) (l_bakes HT.2.1 (m_ne hx hl) hl6 (fun σ' t => ?_))), fun k h => c_loafT hx HC.1.1 hl (br0 (by decide) (c_goes HC.1 hx HC.2.1 (by omega) hl (fun ω' g A _ => ?_))), fun σ' ω' t g => ⟨κ, κi, H.time t g.1 (fun i hi => aGo_ge hi) (aGo_ok H.1.kd (by omega) hx hl6) g.2⟩⟩
    · have hh := h σ' t
      cases hb : aSp κ (σ.1 1) l with
      | false => rw [hb] at hh; exact br1 rfl hh
      | true => rw [hb] at hh; exact br0 (by decide) hh
    · have hh := h ω' ⟨g, A⟩
      cases hb : aSp κ (σ.1 1) l with
      | false => rw [hb] at hh; exact br1 rfl hh
      | true => rw [hb] at hh; exact br0 (by decide) hh
  · exact JM.no H (-1) (fun k h => l_loafF hx hl (bn0 rfl h)) (fun k h => c_loafF hx HC.1.1 hl (br1 rfl h))
theorem J_cold (H : Rel T q ω σ κ κi) : JM T q ω σ (tw_cold σ) (cw_cold T q ω) := by
  have hx := H.1.ok
  have HT := H.1.t
  have HC := H.1.c
  unfold tw_cold cw_cold
  refine ⟨aCool κ (σ.1 1) 4, fun σ' => tB σ σ' (aCool κ (σ.1 1)), fun ω' => cG 0 ω ω' ∧ cAt ω' 0 (aCool κ (σ.1 1)), fun k h => l_cools HT.2.1 (fun σ' t => ⟨vi4, ?_⟩), fun k h => c_cools HC.1 hx HC.2.1 (by omega) (fun ω' g A => ?_), fun σ' ω' t g => ⟨κ, κi, H.time t g.1 (fun i hi => aCool_ge hi) (aCool_ok H.1.kd hx) g.2⟩⟩
  · rw [tc4, t.1]
    exact h σ' t
  · rw [show ω'.1.1 4 1 = aCool κ (σ.1 1) 4 from A.2]
    exact h ω' ⟨g, A⟩
theorem J_oven (H : Rel T q ω σ κ κi) (x1 x2 : Int32) : JM T q ω σ (tw_oven σ x1 x2) (cw_oven T q ω x1 x2) := by
  have hx := H.1.ok
  have HC := H.1.c
  unfold tw_oven cw_oven
  by_cases ht : ∃ t : Nat, t < 4 ∧ x1 = nI t
  · obtain ⟨t, ht, rfl⟩ := ht
    by_cases hn : 0 ≤ x2 ∧ x2 ≤ 9999
    · obtain ⟨n, hn', rfl⟩ := (i_rng (n := 9999) (by omega)).mp hn
      refine ⟨σ.1 1 t, fun σ' => σ' = sA σ 1 t (nI n), fun ω' => ω' = cA ω 5 t (nI n), fun k h => l_tasteT ht (bn1 (by decide) (p_T hn (bn1 (by decide) ⟨vp_in_nI (by omega) (by omega), ?_⟩))), fun k h => c_tasteT ht (bn1 (by decide) (q_T hn (bn1 (by decide) ⟨vp_in_nI (by omega) (by omega), ?_⟩))), fun σ' ω' t' g' => ⟨κ, κi, ?_⟩⟩
      · intro v hv
        rw [nI_clamp (by omega)] at hv ⊢
        subst hv
        exact ⟨vp_in_nI (by omega) (by omega), h _ rfl⟩
      · intro v hv
        rw [nI_clamp (by omega)] at hv ⊢
        have A := HC.2.1.1 t ht
        have A : ω.1.1 5 t = σ.1 1 t := A
        rw [A] at hv
        subst hv
        exact ⟨vp_in_nI (by omega) (by omega), h _ rfl⟩
      · subst t' g'
        refine H.time (tB_1) ⟨rfl, rfl, fun c _ _ _ h4 h5 => cA_ne (by omega)⟩ (fun i hi => pk_un (by omega)) (upd_ok hx ht ⟨n, hn', rfl⟩) ⟨fun i hi => ?_, ?_⟩
        · show (cA ω 5 t (nI n)).1.1 5 i = _
          rw [cA_c]
          by_cases e : i = t
          · subst e; rw [pk_us, pk_us]
          · rw [pk_un e, pk_un e]; exact HC.2.1.1 i hi
        · show (cA ω 5 t (nI n)).1.1 4 1 = _
          rw [cA_ne (by omega), pk_un (by omega)]
          exact HC.2.1.2
    · exact JM.no H (-2) (fun k h => l_tasteT ht (bn1 (by decide) (p_F hn (bn0 rfl h)))) (fun k h => c_tasteT ht (bn1 (by decide) (q_F hn (bn0 rfl h))))
  · exact JM.no H (-1) (fun k h => l_tasteF ht (bn0 rfl h)) (fun k h => c_tasteF ht (bn0 rfl h))
theorem J_feed (H : Rel T q ω σ κ κi) (x1 : Int32) : JM T q ω σ (tw_feed σ x1) (cw_feed T q ω x1) := by
  obtain ⟨h1, h2, h3, ⟨tx, kn, hh, hi, c1, c2, c3, c4, c5, c6, c7, c8, c9, c10, c11⟩, h5, h6⟩ := Rel.iff.mp H
  unfold tw_feed cw_feed
  by_cases hs : 0 ≤ x1 ∧ x1 ≤ 127
  · obtain ⟨s, hs', rfl⟩ := (i_rng (n := 127) (by omega)).mp hs
    by_cases hf : tx = 100
    · subst hf
      exact JM.no H (-4) (fun k h => p_T hs (bn1 (by decide) (by rw [c3]; exact bn0 rfl h))) (fun k h => q_T hs (bn1 (by decide) (by rw [c4]; exact bn0 rfl h)))
    · have hne : ¬ nI tx = 100 := fun c => hf ((nI_eq (b := 100) (by omega) (by omega)).mp c)
      refine ⟨nI (tx + 1), fun σ' => σ' = sA (sA σ 4 tx (nI s)) 0 7 (nI (tx + 1)), fun ω' => ω' = cA (cA ω 0 7 (nI (tx + 1))) 24 tx (nI s), fun k h => p_T hs (bn1 (by decide) ?_), fun k h => q_T hs (bn1 (by decide) ?_), fun σ' ω' t' g' => ⟨κ, κi, ?_⟩⟩
      · rw [c3]
        refine bn1 hne ⟨vp_in_nI (by omega) (by omega), ?_⟩
        intro w hw w2 hw2
        rw [nI_clamp (by omega)] at hw
        have e7 : w.1 0 7 = nI tx := by rw [hw, sA_ne (by omega)]; exact c3
        rw [e7, nI_1] at hw2
        rw [hw] at hw2
        have : w2.1 0 7 = nI (tx + 1) := by rw [hw2]; exact sA_v
        rw [this]
        exact h w2 hw2
      · rw [c4]
        refine bn1 hne ?_
        intro v hv w hw
        subst hv
        rw [nI_1] at hw
        refine ⟨vp_in_nI (by omega) (by omega), ?_⟩
        intro w2 hw2
        rw [nI_clamp (by omega), pk_vb] at hw2
        have eb : (nI s).toInt8.toInt32 = nI s := by
          have key : ∀ j : Fin 128, (nI j.val).toInt8.toInt32 = nI j.val := by decide +kernel
          exact key ⟨s, by omega⟩
        rw [eb, hw] at hw2
        have : w2.1.1 0 7 = nI (tx + 1) := by rw [hw2, cA_ne (by omega)]; exact cA_v
        rw [this]
        exact h w2 hw2
      · subst t' g'
        have z : cZ ω (cA (cA ω 0 7 (nI (tx + 1))) 24 tx (nI s)) := cZ.of rfl
        have T_ : ∀ c, 1 ≤ c → c ≠ 4 → (sA (sA σ 4 tx (nI s)) 0 7 (nI (tx + 1))).1 c = σ.1 c := fun c a1 a2 => by rw [sA_ne (by omega), sA_ne a2]
        have t_ : ∀ i, i ≠ 7 → (sA (sA σ 4 tx (nI s)) 0 7 (nI (tx + 1))).1 0 i = σ.1 0 i := fun i a => by rw [sA_w a, sA_ne (by omega)]
        have G : ∀ c, 1 ≤ c → c ≠ 24 → (cA (cA ω 0 7 (nI (tx + 1))) 24 tx (nI s)).1.1 c = ω.1.1 c := fun c a1 a2 => by rw [cA_ne a2, cA_ne (by omega)]
        have g_ : ∀ i, i ≠ 7 → (cA (cA ω 0 7 (nI (tx + 1))) 24 tx (nI s)).1.1 0 i = ω.1.1 0 i := fun i a => by rw [cA_ne (by omega), cA_w a]
        refine Rel.iff.mpr ⟨?_, ?_, ?_, ?_, ?_, ?_⟩
        · exact h1.mv z (T_ 1 (by omega) (by omega)) (T_ 3 (by omega) (by omega)) (T_ 5 (by omega) (by omega)) (T_ 6 (by omega) (by omega)) rfl rfl (fun c hc => G c (by omega) (by omega)) (g_ 3 (by omega)) (g_ 14 (by omega))
        · exact h2.mv z (T_ 2 (by omega) (by omega)) (T_ 5 (by omega) (by omega)) (T_ 6 (by omega) (by omega)) (t_ 3 (by omega)) rfl rfl (fun c hc => G c (by omega) (by omega)) (g_ 28 (by omega)) (g_ 29 (by omega))
        · exact h3.mv z rfl
        · refine ⟨tx + 1, kn, hh, hi, by omega, c2, sA_v, by rw [cA_ne (by omega)]; exact cA_v, by rw [t_ 8 (by omega)]; exact c5, by rw [g_ 8 (by omega)]; exact c6, fun i hi => ?_, by rw [T_ 1 (by omega) (by omega)]; exact c8, c9, by rw [T_ 2 (by omega) (by omega)]; exact c10, c11⟩
          rw [cA_c, sA_ne (by omega), sA_c, cA_ne (by omega)]
          by_cases e : i = tx
          · subst e
            rw [pk_us, pk_us]
            exact ⟨rfl, s, hs', rfl⟩
          · rw [pk_un e, pk_un e]
            exact c7 i (by omega)
        · exact h5.mv (t_ 29 (by omega)) (T_ 13 (by omega) (by omega)) (by rw [G 26 (by omega) (by omega)]) (G 27 (by omega) (by omega))
        · exact h6.mv (T_ 10 (by omega) (by omega)) (T_ 11 (by omega) (by omega)) rfl (fun i _ => rfl) (fun i a hi e => ⟨h6.of i a hi e, rfl⟩)
  · exact JM.no H (-2) (fun k h => p_F hs (bn0 rfl h)) (fun k h => q_F hs (bn0 rfl h))
end Q
