/-! PLAIN: the twin: clauses, a kiln's reading, what is taken and left, a bake -/
set_option maxRecDepth 100000
/-- a clause: places 11, 14 to 20 of the object change -/
def tC (σ σ' : TS) : Prop := (∀ c, 1 ≤ c → σ'.1 c = σ.1 c) ∧ σ'.2 = σ.2 ∧ ∀ i, (i < 11 ∨ i = 12 ∨ i = 13 ∨ 20 < i) → σ'.1 0 i = σ.1 0 i
theorem tP.c {σ σ' : TS} (h : tP σ σ') : tC σ σ' := ⟨h.1, h.2.1, fun i hi => h.2.2 i (by omega) (by omega)⟩
theorem tC.tr {σ σ1 σ2 : TS} (h : tC σ σ1) (h' : tC σ1 σ2) : tC σ σ2 := ⟨fun c hc => (h'.1 c hc).trans (h.1 c hc), h'.2.1.trans h.2.1, fun i hi => (h'.2.2 i hi).trans (h.2.2 i hi)⟩
theorem tC_put {σ : TS} {i : Nat} {v : Int32} (h : i = 11 ∨ (14 ≤ i ∧ i ≤ 20)) : tC σ (sA σ 0 i v) := ⟨fun c hc => sA_ne (by omega), rfl, fun j hj => sA_w (by omega)⟩
theorem pS.mc {σ σ' : TS} {b n : Nat} {f : SS} (h : pS σ b n f) (t : tC σ σ') : pS σ' b n f := ⟨by rw [t.2.2 9 (by omega)]; exact h.1, by rw [t.2.2 10 (by omega)]; exact h.2.1, h.2.2.1, h.2.2.2.1, fun i hi => by rw [t.1 5 (by omega)]; exact h.2.2.2.2 i hi⟩
theorem tLk.mc {σ σ' : TS} {l t : Nat} (h : tLk σ l t) (p : tC σ σ') : tLk σ' l t := ⟨by rw [p.2.2 12 (by omega)]; exact h.1, h.2.1, by rw [p.2.2 13 (by omega)]; exact h.2.2.1, h.2.2.2⟩
/-- what the clauses read so far tell -/
def tSum (σ : TS) (κ : KD) (l t : Nat) : Prop := (¬ σ.1 1 5 = 0 → σ.1 0 16 = clSum κ.1 (lkS (σ.1 1) l t) ∧ σ.1 0 18 = clSum κ.2.1 (lkS (σ.1 1) l t) ∧ σ.1 0 20 = 1 + clSum κ.2.2.1 (lkF (σ.1 1) l)) ∧ σ.1 0 17 = nI κ.1.length ∧ σ.1 0 19 = κ.2.2.2
theorem l_J148 {σ : TS} {x1 x2 x3 y0 y1 : Int32} {k : TS → Prop} (h : ∀ σ', tC σ σ' → (∀ i, i ≤ 15 → σ'.1 0 i = σ.1 0 i) → σ'.1 0 19 = σ.1 0 19 → σ'.1 0 17 = y1 + y0 → σ'.1 0 16 = σ.1 0 16 + (if x1 = 116 ∧ ¬ x3 = 0 then x2 else 0) → σ'.1 0 18 = σ.1 0 18 + (if x1 = 109 ∧ ¬ x3 = 0 then x2 else 0) → σ'.1 0 20 = σ.1 0 20 + (if x1 = 102 ∧ ¬ x3 = 0 then x2 else 0) → k σ') : tw_readsClause_J148 k x1 x2 x3 y0 y1 σ := by
  have A : ∀ (σ1 : TS) (z1 : Int32), z1 = σ1.1 0 18 → tC σ σ1 → (∀ i, i ≤ 15 → σ1.1 0 i = σ.1 0 i) → σ1.1 0 19 = σ.1 0 19 → σ1.1 0 17 = y1 + y0 → σ1.1 0 16 = σ.1 0 16 + (if x1 = 116 ∧ ¬ x3 = 0 then x2 else 0) → σ1.1 0 20 = σ.1 0 20 → ∀ z0 : Int32, z1 + z0 = σ.1 0 18 + (if x1 = 109 ∧ ¬ x3 = 0 then x2 else 0) → tw_readsClause_J196 k x1 x2 x3 z0 z1 σ1 := by
    intro σ1 z1 hz t1 f1 f19 f17 f16 f20 z0 e
    unfold tw_readsClause_J196
    intro w hw
    subst hw
    have t2 : tC σ (sA σ1 0 18 (z1 + z0)) := t1.tr (tC_put (by omega))
    have g1 : ∀ i, i ≤ 15 → (sA σ1 0 18 (z1 + z0)).1 0 i = σ.1 0 i := fun i hi => by rw [sA_w (by omega)]; exact f1 i hi
    have g19 : (sA σ1 0 18 (z1 + z0)).1 0 19 = σ.1 0 19 := by rw [sA_w (by omega)]; exact f19
    have g17 : (sA σ1 0 18 (z1 + z0)).1 0 17 = y1 + y0 := by rw [sA_w (by omega)]; exact f17
    have g16 : (sA σ1 0 18 (z1 + z0)).1 0 16 = σ.1 0 16 + (if x1 = 116 ∧ ¬ x3 = 0 then x2 else 0) := by rw [sA_w (by omega)]; exact f16
    have g20 : (sA σ1 0 18 (z1 + z0)).1 0 20 = σ.1 0 20 := by rw [sA_w (by omega)]; exact f20
    have g18 : (sA σ1 0 18 (z1 + z0)).1 0 18 = σ.1 0 18 + (if x1 = 109 ∧ ¬ x3 = 0 then x2 else 0) := by rw [sA_v]; exact e
    generalize sA σ1 0 18 (z1 + z0) = σ2 at t2 g1 g19 g17 g16 g20 g18
    have F : ∀ z : Int32, z = (if x1 = 102 ∧ ¬ x3 = 0 then x2 else 0) → k (sA σ2 0 20 (σ2.1 0 20 + z)) := by
      intro z hz
      refine h _ (t2.tr (tC_put (by omega))) (fun i hi => by rw [sA_w (by omega)]; exact g1 i hi) (by rw [sA_w (by omega)]; exact g19) (by rw [sA_w (by omega)]; exact g17) (by rw [sA_w (by omega)]; exact g16) (by rw [sA_w (by omega)]; exact g18) ?_
      rw [sA_v, g20, hz]
    refine ⟨fun h1 => F 0 (by rw [if_neg (fun c => h1 c.1)]), fun h1 => ⟨fun h2 => F 0 (by rw [if_neg (fun c => c.2 h2)]), fun h2 => F x2 (by rw [if_pos ⟨h1, h2⟩])⟩⟩
  have B : ∀ (σ1 : TS) (z1 : Int32), z1 = σ.1 0 16 → tC σ σ1 → (∀ i, i ≤ 15 → σ1.1 0 i = σ.1 0 i) → σ1.1 0 19 = σ.1 0 19 → σ1.1 0 17 = y1 + y0 → σ1.1 0 18 = σ.1 0 18 → σ1.1 0 20 = σ.1 0 20 → ∀ z0 : Int32, z0 = (if x1 = 116 ∧ ¬ x3 = 0 then x2 else 0) → tw_readsClause_J172 k x1 x2 x3 z0 z1 σ1 := by
    intro σ1 z1 hz t1 f1 f19 f17 f18 f20 z0 e
    unfold tw_readsClause_J172
    intro w hw
    subst hw
    have t2 : tC σ (sA σ1 0 16 (z1 + z0)) := t1.tr (tC_put (by omega))
    have g1 : ∀ i, i ≤ 15 → (sA σ1 0 16 (z1 + z0)).1 0 i = σ.1 0 i := fun i hi => by rw [sA_w (by omega)]; exact f1 i hi
    have g19 : (sA σ1 0 16 (z1 + z0)).1 0 19 = σ.1 0 19 := by rw [sA_w (by omega)]; exact f19
    have g17 : (sA σ1 0 16 (z1 + z0)).1 0 17 = y1 + y0 := by rw [sA_w (by omega)]; exact f17
    have g18 : (sA σ1 0 16 (z1 + z0)).1 0 18 = σ.1 0 18 := by rw [sA_w (by omega)]; exact f18
    have g20 : (sA σ1 0 16 (z1 + z0)).1 0 20 = σ.1 0 20 := by rw [sA_w (by omega)]; exact f20
    have g16 : (sA σ1 0 16 (z1 + z0)).1 0 16 = σ.1 0 16 + (if x1 = 116 ∧ ¬ x3 = 0 then x2 else 0) := by rw [sA_v, hz, e]
    generalize sA σ1 0 16 (z1 + z0) = σ2 at t2 g1 g19 g17 g16 g20 g18
    refine ⟨fun h1 => ?_, fun h1 => ⟨fun h2 => ?_, fun h2 => ?_⟩⟩
    · exact A σ2 _ rfl t2 g1 g19 g17 g16 g20 0 (by rw [g18, if_neg (fun c => h1 c.1)])
    · exact A σ2 _ rfl t2 g1 g19 g17 g16 g20 0 (by rw [g18, if_neg (fun c => c.2 h2)])
    · exact A σ2 _ rfl t2 g1 g19 g17 g16 g20 x2 (by rw [g18, if_pos ⟨h1, h2⟩])
  unfold tw_readsClause_J148
  intro w hw
  subst hw
  have t2 : tC σ (sA σ 0 17 (y1 + y0)) := tC_put (by omega)
  have g : ∀ i, i ≠ 17 → (sA σ 0 17 (y1 + y0)).1 0 i = σ.1 0 i := fun i hi => sA_w hi
  have g17 : (sA σ 0 17 (y1 + y0)).1 0 17 = y1 + y0 := sA_v
  generalize sA σ 0 17 (y1 + y0) = σ2 at t2 g g17
  refine ⟨fun h1 => ?_, fun h1 => ⟨fun h2 => ?_, fun h2 => ?_⟩⟩
  · exact B σ2 _ (g 16 (by omega)) t2 (fun i hi => g i (by omega)) (g 19 (by omega)) g17 (g 18 (by omega)) (g 20 (by omega)) 0 (by rw [if_neg (fun c => h1 c.1)])
  · exact B σ2 _ (g 16 (by omega)) t2 (fun i hi => g i (by omega)) (g 19 (by omega)) g17 (g 18 (by omega)) (g 20 (by omega)) 0 (by rw [if_neg (fun c => c.2 h2)])
  · exact B σ2 _ (g 16 (by omega)) t2 (fun i hi => g i (by omega)) (g 19 (by omega)) g17 (g 18 (by omega)) (g 20 (by omega)) x2 (by rw [if_pos ⟨h1, h2⟩])
theorem lkT_0 {σ : TS} {l t : Nat} (h : σ.1 0 15 = 0) : lkT σ l t = lkS (σ.1 1) l t := by
  funext i
  match i with
  | 0 => rfl
  | 1 => rfl
  | 2 => exact if_pos h
  | 3 => rfl
  | 4 => rfl
  | _ + 5 => exact if_pos h
theorem lkT_1 {σ : TS} {l t : Nat} (h : σ.1 0 15 = 1) : lkT σ l t = lkF (σ.1 1) l := by
  have h' : ¬ σ.1 0 15 = 0 := by rw [h]; decide
  funext i
  match i with
  | 0 => rfl
  | 1 => rfl
  | 2 => exact if_neg h'
  | 3 => rfl
  | 4 => rfl
  | _ + 5 => exact if_neg h'
/-- the clause's first letter -/
def clL (c1 : Nat) : Int32 := match c1 with
  | 0 => 116
  | 1 => 109
  | 2 => 99
  | _ => 102
/-- behind its first letter, a clause of tests -/
theorem l_J81 {σ : TS} {f : SS} {b n a c1 l t : Nat} {κ : KD} {k : TS → Prop} (hc : c1 = 0 ∨ c1 = 1 ∨ c1 = 3) (hP : pS σ b n f) (ha : σ.1 0 11 = nI a) (han : a ≤ n) (hw : σ.1 0 14 = 0) (hL : tLk σ l t) (hS : tSum σ κ l t)
    (hI : ∀ p σ', pTested f n (xws c1) a = .inl p → tC σ σ' → σ'.1 0 14 = 1 → σ'.1 0 11 = nI p → k σ')
    (hR : ∀ q σ', pTested f n (xws c1) a = .inr q → tC σ σ' → σ'.1 0 14 = 0 → σ'.1 0 11 = nI q.1 → tSum σ' (if c1 = 0 then (κ.1 ++ [q.2], κ.2.1, κ.2.2.1, κ.2.2.2) else if c1 = 1 then (κ.1, κ.2.1 ++ [q.2], κ.2.2.1, κ.2.2.2) else (κ.1, κ.2.1, κ.2.2.1 ++ [q.2], κ.2.2.2)) l t → k σ') : tw_readsClause_J81 k (clL c1) c1 σ := by
  have hc4 : c1 < 4 := by omega
  have h99 : ¬ clL c1 = 99 := by rcases hc with rfl | rfl | rfl <;> decide
  unfold tw_readsClause_J81
  refine l_word hc4 hP ha han hw (fun p σ1 e t1 w1 p1 => ?_) (fun q σ1 e t1 w1 p1 => ?_)
  · refine l_numW w1 (bn1 h99 (l_takesW w1 (bn0 rfl ?_)))
    exact hI p σ1 (by unfold pTested; rw [e]) t1.c w1 p1
  · obtain ⟨b1, b2⟩ := pWord_bd _ (xws_ok c1 hc4).1 a han q e
    have eT : pTested f n (xws c1) a = pNT f n q.1 := by unfold pTested; rw [e]
    rw [eT] at hI hR
    refine l_num (hP.mv t1) p1 b2 w1 (fun p σ2 e2 t2 w2 p2 => ?_) (fun z σ2 e2 t2 w2 p2 => ?_)
    · refine bn1 h99 (l_takesW w2 (bn0 rfl ?_))
      exact hI p σ2 (by unfold pNT; rw [e2]) (t1.tr t2).c w2 p2
    · obtain ⟨c1', c2'⟩ := pNum_bd z e2
      have eN : pNT f n q.1 = (if hereS f n z.1 = 32 then (match pE f n (z.1 + 1) with
        | .inl p => .inl p
        | .inr y => .inr (y.1, (z.2, y.2))) else .inl z.1) := by unfold pNT; rw [e2]; rfl
      rw [eN] at hI hR
      refine bn1 h99 (l_takes ((hP.mv t1).mv t2) p2 c2' w2 (fun σ3 h32 t3 w3 p3 => ?_) (fun σ3 h32 t3 w3 p3 => ?_))
      · rw [if_pos h32] at hI hR
        have hT3 := (t1.tr t2).tr t3
        have hP3 := ((hP.mv t1).mv t2).mv t3
        have hL3 := ((hL.mv t1).mv t2).mv t3
        have h1lt := hereS_eq h32 (by decide)
        have main : ∀ y0 : Int32, y0 = (if c1 = 3 then 1 else 0) → tw_readsClause_J123 k (clL c1) z.2 y0 σ3 := by
          intro y0 hy
          unfold tw_readsClause_J123
          refine ⟨by rw [hy]; by_cases h : c1 = 3 <;> simp [h], ?_⟩
          intro w hw4
          subst hw4
          have t4 : tC σ (sA σ3 0 15 y0) := hT3.c.tr (tC_put (by omega))
          have g : ∀ i, i ≠ 15 → (sA σ3 0 15 y0).1 0 i = σ3.1 0 i := fun i hi => sA_w hi
          have g15 : (sA σ3 0 15 y0).1 0 15 = y0 := sA_v
          have g1 : (sA σ3 0 15 y0).1 1 = σ.1 1 := t4.1 1 (by omega)
          have hP4 : pS (sA σ3 0 15 y0) b n f := hP3.mc (tC_put (by omega))
          have hL4 : tLk (sA σ3 0 15 y0) l t := hL3.mc (tC_put (by omega))
          generalize sA σ3 0 15 y0 = σ4 at t4 g g15 g1 hP4 hL4
          have eLk : lkT σ4 l t = if c1 = 3 then lkF (σ.1 1) l else lkS (σ.1 1) l t := by
            by_cases h3 : c1 = 3
            · rw [if_pos h3, lkT_1 (by rw [g15, hy, if_pos h3]), g1]
            · rw [if_neg h3, lkT_0 (by rw [g15, hy, if_neg h3]), g1]
          refine l_readsE σ4 _ (z.1 + 1) hP4 (by rw [g 11 (by omega)]; exact p3) (by omega) (by rw [g 14 (by omega)]; exact w3) hL4 (fun p σ5 v e5 t5 w5 p5 h5 => ?_) (fun y σ5 v e5 t5 w5 p5 h5 hv5 => ?_)
          · have hk : ∀ σ', tC σ σ' → (∀ i, i ≤ 15 → σ'.1 0 i = σ5.1 0 i) → k σ' := fun σ' ht hi => hI p σ' (by rw [e5]) ht (by rw [hi 14 (by omega)]; exact w5) (by rw [hi 11 (by omega)]; exact p5)
            have t45 := t4.tr t5.c
            exact ⟨fun _ => l_J148 (fun σ' h1 h2 _ _ _ _ _ => hk σ' (t45.tr h1) h2), fun _ => l_J148 (fun σ' h1 h2 _ _ _ _ _ => hk σ' (t45.tr h1) h2)⟩
          · have t45 := t4.tr t5.c
            have hM : σ4.1 1 5 = σ.1 1 5 := by rw [g1]
            rw [hM, eLk] at hv5
            obtain ⟨s1, s2, s3⟩ := hS
            have gg : ∀ i, 16 ≤ i → σ5.1 0 i = σ.1 0 i := fun i hi => by rw [t5.2.2 i (by omega) (by omega), g i (by omega), hT3.2.2 i (by omega) (by omega)]
            have hk : ∀ σ', tC σ5 σ' → (∀ i, i ≤ 15 → σ'.1 0 i = σ5.1 0 i) → tSum σ' (if c1 = 0 then (κ.1 ++ [(z.2, y.2)], κ.2.1, κ.2.2.1, κ.2.2.2) else if c1 = 1 then (κ.1, κ.2.1 ++ [(z.2, y.2)], κ.2.2.1, κ.2.2.2) else (κ.1, κ.2.1, κ.2.2.1 ++ [(z.2, y.2)], κ.2.2.2)) l t → k σ' := fun σ' ht hi hs => hR (y.1, (z.2, y.2)) σ' (by rw [e5]) (t45.tr ht) (by rw [hi 14 (by omega)]; exact w5) (by rw [hi 11 (by omega)]; exact p5) hs
            have e1 : ∀ σ', tC σ5 σ' → σ'.1 1 = σ.1 1 := fun σ' ht => (t45.tr ht).1 1 (by omega)
            rcases hc with rfl | rfl | rfl
            · refine bn0 rfl (l_J148 (fun σ' h1 h2 h19 h17 h16 h18 h20 => hk σ' h1 h2 ?_))
              unfold tSum
              rw [e1 σ' h1]
              rw [gg 16 (by omega)] at h16
              rw [gg 18 (by omega)] at h18
              rw [gg 20 (by omega)] at h20
              rw [gg 17 (by omega)] at h17
              rw [gg 19 (by omega)] at h19
              refine ⟨fun hm => ?_, ?_, by rw [h19]; exact s3⟩
              · obtain ⟨a1, a2, a3⟩ := s1 hm
                have hv := hv5 hm
                refine ⟨?_, ?_, ?_⟩
                · show σ'.1 0 16 = clSum (κ.1 ++ [(z.2, y.2)]) (lkS (σ.1 1) l t)
                  rw [clSum_app, h16, a1]
                  have hv' : v = b2I (y.2 (lkS (σ.1 1) l t)) := hv
                  by_cases hb : y.2 (lkS (σ.1 1) l t) = true
                  · rw [if_pos ⟨rfl, by rw [hv', hb]; decide⟩, if_pos hb]
                  · rw [if_neg (fun c => c.2 (by rw [hv', Bool.eq_false_iff.mpr hb]; rfl)), if_neg hb, i_add0]
                · show σ'.1 0 18 = clSum κ.2.1 (lkS (σ.1 1) l t)
                  rw [h18, a2, if_neg (fun c => absurd c.1 (by decide)), i_add0]
                · show σ'.1 0 20 = 1 + clSum κ.2.2.1 (lkF (σ.1 1) l)
                  rw [h20, a3, if_neg (fun c => absurd c.1 (by decide)), i_add0]
              · show σ'.1 0 17 = nI (κ.1 ++ [(z.2, y.2)]).length
                rw [h17, s2, List.length_append, nI_1]; rfl
            · refine bn1 (by decide) (l_J148 (fun σ' h1 h2 h19 h17 h16 h18 h20 => hk σ' h1 h2 ?_))
              unfold tSum
              rw [e1 σ' h1]
              rw [gg 16 (by omega)] at h16
              rw [gg 18 (by omega)] at h18
              rw [gg 20 (by omega)] at h20
              rw [gg 17 (by omega)] at h17
              rw [gg 19 (by omega)] at h19
              refine ⟨fun hm => ?_, ?_, by rw [h19]; exact s3⟩
              · obtain ⟨a1, a2, a3⟩ := s1 hm
                have hv := hv5 hm
                refine ⟨?_, ?_, ?_⟩
                · show σ'.1 0 16 = clSum κ.1 (lkS (σ.1 1) l t)
                  rw [h16, a1, if_neg (fun c => absurd c.1 (by decide)), i_add0]
                · show σ'.1 0 18 = clSum (κ.2.1 ++ [(z.2, y.2)]) (lkS (σ.1 1) l t)
                  rw [clSum_app, h18, a2]
                  have hv' : v = b2I (y.2 (lkS (σ.1 1) l t)) := hv
                  by_cases hb : y.2 (lkS (σ.1 1) l t) = true
                  · rw [if_pos ⟨rfl, by rw [hv', hb]; decide⟩, if_pos hb]
                  · rw [if_neg (fun c => c.2 (by rw [hv', Bool.eq_false_iff.mpr hb]; rfl)), if_neg hb, i_add0]
                · show σ'.1 0 20 = 1 + clSum κ.2.2.1 (lkF (σ.1 1) l)
                  rw [h20, a3, if_neg (fun c => absurd c.1 (by decide)), i_add0]
              · show σ'.1 0 17 = nI κ.1.length
                rw [h17, s2, i_add0]
            · refine bn1 (by decide) (l_J148 (fun σ' h1 h2 h19 h17 h16 h18 h20 => hk σ' h1 h2 ?_))
              unfold tSum
              rw [e1 σ' h1]
              rw [gg 16 (by omega)] at h16
              rw [gg 18 (by omega)] at h18
              rw [gg 20 (by omega)] at h20
              rw [gg 17 (by omega)] at h17
              rw [gg 19 (by omega)] at h19
              refine ⟨fun hm => ?_, ?_, by rw [h19]; exact s3⟩
              · obtain ⟨a1, a2, a3⟩ := s1 hm
                have hv := hv5 hm
                refine ⟨?_, ?_, ?_⟩
                · show σ'.1 0 16 = clSum κ.1 (lkS (σ.1 1) l t)
                  rw [h16, a1, if_neg (fun c => absurd c.1 (by decide)), i_add0]
                · show σ'.1 0 18 = clSum κ.2.1 (lkS (σ.1 1) l t)
                  rw [h18, a2, if_neg (fun c => absurd c.1 (by decide)), i_add0]
                · show σ'.1 0 20 = 1 + clSum (κ.2.2.1 ++ [(z.2, y.2)]) (lkF (σ.1 1) l)
                  rw [clSum_app, h20, a3]
                  have hv' : v = b2I (y.2 (lkF (σ.1 1) l)) := hv
                  by_cases hb : y.2 (lkF (σ.1 1) l) = true
                  · rw [if_pos ⟨rfl, by rw [hv', hb]; decide⟩, if_pos hb, Int32.add_assoc]
                  · rw [if_neg (fun c => c.2 (by rw [hv', Bool.eq_false_iff.mpr hb]; rfl)), if_neg hb, i_add0]
              · show σ'.1 0 17 = nI κ.1.length
                rw [h17, s2, i_add0]
        refine bn1 (by decide) ?_
        rcases hc with rfl | rfl | rfl
        · exact bn1 (by decide) (main 0 rfl)
        · exact bn1 (by decide) (main 0 rfl)
        · exact bn0 rfl (main 1 rfl)
      · rw [if_neg h32] at hI
        refine bn0 rfl ?_
        exact hI z.1 σ3 rfl ((t1.tr t2).tr t3).c w3 p3
/-- behind its first letter, a clause of cold -/
theorem l_J81c {σ : TS} {f : SS} {b n a l t : Nat} {κ : KD} {k : TS → Prop} (hP : pS σ b n f) (ha : σ.1 0 11 = nI a) (han : a ≤ n) (hw : σ.1 0 14 = 0) (hS : tSum σ κ l t)
    (hI : ∀ p σ', (match pWord f n (xws 2) a with
      | .inl p => (.inl p : PR Int32)
      | .inr q => pNum f n q.1) = .inl p → tC σ σ' → σ'.1 0 14 = 1 → σ'.1 0 11 = nI p → k σ')
    (hR : ∀ q σ', (match pWord f n (xws 2) a with
      | .inl p => (.inl p : PR Int32)
      | .inr q => pNum f n q.1) = .inr q → tC σ σ' → σ'.1 0 14 = 0 → σ'.1 0 11 = nI q.1 → tSum σ' (κ.1, κ.2.1, κ.2.2.1, q.2) l t → k σ') : tw_readsClause_J81 k 99 2 σ := by
  unfold tw_readsClause_J81
  refine l_word (by omega) hP ha han hw (fun p σ1 e t1 w1 p1 => ?_) (fun q σ1 e t1 w1 p1 => ?_)
  · refine l_numW w1 (bn0 rfl ?_)
    exact hI p _ (by rw [e]) (t1.c.tr (tC_put (by omega))) (by rw [sA_w (by omega)]; exact w1) (by rw [sA_w (by omega)]; exact p1)
  · obtain ⟨b1, b2⟩ := pWord_bd _ (xws_ok 2 (by omega)).1 a han q e
    rw [e] at hI hR
    refine l_num (hP.mv t1) p1 b2 w1 (fun p σ2 e2 t2 w2 p2 => bn0 rfl ?_) (fun z σ2 e2 t2 w2 p2 => bn0 rfl ?_)
    · exact hI p _ e2 ((t1.tr t2).c.tr (tC_put (by omega))) (by rw [sA_w (by omega)]; exact w2) (by rw [sA_w (by omega)]; exact p2)
    · have ht : tC σ (sA σ2 0 19 z.2) := (t1.tr t2).c.tr (tC_put (by omega))
      have hT := t1.tr t2
      refine hR z _ e2 ht (by rw [sA_w (by omega)]; exact w2) (by rw [sA_w (by omega)]; exact p2) ?_
      obtain ⟨s1, s2, s3⟩ := hS
      unfold tSum
      rw [ht.1 1 (by omega), sA_w (by omega), sA_w (by omega), sA_w (by omega), sA_w (by omega), sA_v, hT.2.2 16 (by omega) (by omega), hT.2.2 17 (by omega) (by omega), hT.2.2 18 (by omega) (by omega), hT.2.2 20 (by omega) (by omega)]
      exact ⟨s1, s2, rfl⟩
theorem pTested_c {f : SS} {n a : Nat} {w : Int32} {ws : List Int32} (h : hereS f n a = w) : pTested f n (w :: ws) a = pTested f n ws (a + 1) := by
  unfold pTested
  rw [pWord, if_pos h]
theorem l_clause {σ : TS} {f : SS} {b n a l t : Nat} {κ : KD} {k : TS → Prop} (hP : pS σ b n f) (ha : σ.1 0 11 = nI a) (han : a ≤ n) (hw : σ.1 0 14 = 0) (hL : tLk σ l t) (hS : tSum σ κ l t)
    (hI : ∀ p σ', pClause f n a κ = .inl p → tC σ σ' → σ'.1 0 14 = 1 → σ'.1 0 11 = nI p → k σ')
    (hR : ∀ q σ', pClause f n a κ = .inr q → tC σ σ' → σ'.1 0 14 = 0 → σ'.1 0 11 = nI q.1 → tSum σ' q.2 l t → k σ') : tw_readsClause σ k := by
  unfold tw_readsClause
  refine l_here hP ha han ?_
  have T : ∀ c1, (c1 = 0 ∨ c1 = 1 ∨ c1 = 3) → hereS f n a = clL c1 → pClause f n a κ = pPut (pTested f n (clL c1 :: xws c1) a) (fun c => if c1 = 0 then (κ.1 ++ [c], κ.2.1, κ.2.2.1, κ.2.2.2) else if c1 = 1 then (κ.1, κ.2.1 ++ [c], κ.2.2.1, κ.2.2.2) else (κ.1, κ.2.1, κ.2.2.1 ++ [c], κ.2.2.2)) → tw_readsClause_J81 k (clL c1) c1 (sA σ 0 11 (σ.1 0 11 + 1)) := by
    intro c1 hc hh hcl
    rw [hcl, pTested_c hh] at hI hR
    have hne : hereS f n a ≠ -1 := by rw [hh]; rcases hc with rfl | rfl | rfl <;> decide
    have hlt := hereS_in hne
    have t1 : tP σ (sA σ 0 11 (σ.1 0 11 + 1)) := tP_11
    have hS1 : tSum (sA σ 0 11 (σ.1 0 11 + 1)) κ l t := by
      unfold tSum
      rw [t1.1 1 (by omega), t1.2.2 16 (by omega) (by omega), t1.2.2 17 (by omega) (by omega), t1.2.2 18 (by omega) (by omega), t1.2.2 19 (by omega) (by omega), t1.2.2 20 (by omega) (by omega)]
      exact hS
    refine l_J81 hc (hP.mv t1) (by rw [sA_v, ha, nI_1]) (by omega) (by rw [sA_w (by omega)]; exact hw) (hL.mv t1) hS1 (fun p σ' e t' w' p' => ?_) (fun q σ' e t' w' p' s' => ?_)
    · exact hI p σ' (by rw [e]; rfl) (t1.c.tr t') w' p'
    · exact hR (q.1, _) σ' (by rw [e]; rfl) (t1.c.tr t') w' p' s'
  have hC : hereS f n a = 99 → tw_readsClause_J81 k 99 2 (sA σ 0 11 (σ.1 0 11 + 1)) := by
    intro hh
    have hlt := hereS_eq hh (by decide)
    have ecl : pClause f n a κ = pPut (match pWord f n (xws 2) (a + 1) with
        | .inl p => (.inl p : PR Int32)
        | .inr q => pNum f n q.1) (fun c => (κ.1, κ.2.1, κ.2.2.1, c)) := by
      unfold pClause
      rw [if_neg (by rw [hh]; decide), if_neg (by rw [hh]; decide), if_pos hh]
      unfold pCold
      rw [pWord, if_pos hh]
      rfl
    rw [ecl] at hI hR
    have t1 : tP σ (sA σ 0 11 (σ.1 0 11 + 1)) := tP_11
    have hS1 : tSum (sA σ 0 11 (σ.1 0 11 + 1)) κ l t := by
      unfold tSum
      rw [t1.1 1 (by omega), t1.2.2 16 (by omega) (by omega), t1.2.2 17 (by omega) (by omega), t1.2.2 18 (by omega) (by omega), t1.2.2 19 (by omega) (by omega), t1.2.2 20 (by omega) (by omega)]
      exact hS
    refine l_J81c (hP.mv t1) (by rw [sA_v, ha, nI_1]) (by omega) (by rw [sA_w (by omega)]; exact hw) hS1 (fun p σ' e t' w' p' => ?_) (fun q σ' e t' w' p' s' => ?_)
    · exact hI p σ' (by rw [e]; rfl) (t1.c.tr t') w' p'
    · exact hR (q.1, _) σ' (by rw [e]; rfl) (t1.c.tr t') w' p' s'
  have J : (hereS f n a = 116 ∨ hereS f n a = 109 ∨ hereS f n a = 99 ∨ hereS f n a = 102) → tw_readsClause_J35 k (hereS f n a) σ := by
    intro h
    unfold tw_readsClause_J35
    rcases h with h | h | h | h
    · have := T 0 (by omega) h (by unfold pClause; rw [if_pos h]; rfl)
      rw [h]
      exact bn0 rfl this
    · have := T 1 (by omega) h (by unfold pClause; rw [if_neg (by rw [h]; decide), if_pos h]; rfl)
      rw [h]
      exact bn1 (by decide) (bn0 rfl this)
    · have := hC h
      rw [h]
      exact bn1 (by decide) (bn1 (by decide) (bn0 rfl this))
    · have := T 3 (by omega) h (by unfold pClause; rw [if_neg (by rw [h]; decide), if_neg (by rw [h]; decide), if_neg (by rw [h]; decide), if_pos h]; rfl)
      rw [h]
      exact bn1 (by decide) (bn1 (by decide) (bn1 (by decide) this))
  refine ⟨fun h => J (Or.inl h), fun h1 => ⟨fun h => J (Or.inr (Or.inl h)), fun h2 => ⟨fun h => J (Or.inr (Or.inr (Or.inl h))), fun h3 => ⟨fun h => J (Or.inr (Or.inr (Or.inr h))), fun h4 => ?_⟩⟩⟩⟩
  refine hI a _ ?_ (tC_put (by omega)) sA_v (by rw [sA_w (by omega)]; exact ha)
  unfold pClause
  rw [if_neg h1, if_neg h2, if_neg h3, if_neg h4]
/-! ===== a kiln read whole ===== -/
theorem l_readsL {f : SS} {b n l t : Nat} {k : TS → Prop} (σ : TS) : ∀ (r a : Nat) (κ : KD) (σ1 : TS), r ≤ 9 → pS σ1 b n f → tC σ σ1 → σ1.1 0 11 = nI a → a ≤ n → σ1.1 0 14 = 0 → tLk σ1 l t → tSum σ1 κ l t →
    (∀ p σ', pKil f n r a κ = .inl p → tC σ σ' → σ'.1 0 14 = 1 → σ'.1 0 11 = nI p → k σ') →
    (∀ q σ', pKil f n r a κ = .inr q → tC σ σ' → σ'.1 0 14 = 0 → σ'.1 0 11 = nI q.1 → tSum σ' q.2 l t → k σ') → tw_reads_L80 k (r + 1) (nI (10 - r)) σ1 := by
  intro r
  induction r with
  | zero =>
    intro a κ σ1 hr hP hT ha han hw hL hS hI hR
    rw [tw_reads_L80]
    refine l_clause hP ha han hw hL hS (fun p σ2 e t2 w2 p2 => ?_) (fun q σ2 e t2 w2 p2 s2 => ?_)
    · exact bn1 (by rw [w2]; decide) (hI p σ2 (by unfold pKil; rw [e]) (hT.tr t2) w2 p2)
    · obtain ⟨b1, b2⟩ := pClause_bd han q e
      have hP2 := hP.mc t2
      have ek : pKil f n 0 a κ = if q.1 = n then .inr q else .inl q.1 := by unfold pKil; rw [e]
      rw [ek] at hI hR
      refine bn0 w2 ?_
      rw [p2, hP2.2.1]
      have hnl := hP2.2.2.1
      refine ⟨fun hne => ?_, fun he => ?_⟩
      · have hne' : ¬ q.1 = n := fun c => hne (by rw [c])
        rw [if_neg hne'] at hI
        refine br1 rfl ?_
        exact hI q.1 _ rfl (hT.tr (t2.tr (tC_put (by omega)))) sA_v (by rw [sA_w (by omega)]; exact p2)
      · have he' : q.1 = n := (nI_eq (by omega) (by omega)).mp he
        rw [if_pos he'] at hR
        exact hR q σ2 rfl (hT.tr t2) w2 p2 s2
  | succ r ih =>
    intro a κ σ1 hr hP hT ha han hw hL hS hI hR
    rw [tw_reads_L80]
    refine l_clause hP ha han hw hL hS (fun p σ2 e t2 w2 p2 => ?_) (fun q σ2 e t2 w2 p2 s2 => ?_)
    · exact bn1 (by rw [w2]; decide) (hI p σ2 (by unfold pKil; rw [e]) (hT.tr t2) w2 p2)
    · obtain ⟨b1, b2⟩ := pClause_bd han q e
      have hP2 := hP.mc t2
      have ek : pKil f n (r + 1) a κ = if q.1 = n then .inr q else if hereS f n q.1 = 59 then pKil f n r (q.1 + 1) q.2 else .inl q.1 := by rw [pKil, e]
      rw [ek] at hI hR
      refine bn0 w2 ?_
      have hnl := hP2.2.2.1
      have e10 : σ2.1 0 10 = nI n := hP2.2.1
      rw [e10]
      refine ⟨fun hne => ?_, fun he => ?_⟩
      · have hne' : ¬ q.1 = n := fun c => hne (by rw [p2, c])
        rw [if_neg hne'] at hI hR
        refine br0 (fun c => ?_) ?_
        · have := (nI_eq (a := 10 - (r + 1)) (b := 10) (by omega) (by omega)).mp c
          omega
        · refine l_here hP2 p2 b2 ⟨fun h59 => ?_, fun h59 => ?_⟩
          · intro x hx
            subst hx
            rw [if_pos h59] at hI hR
            have hlt := hereS_eq h59 (by decide)
            have t3 : tP σ2 (sA σ2 0 11 (σ2.1 0 11 + 1)) := tP_11
            rw [nI_1, show 10 - (r + 1) + 1 = 10 - r by omega]
            refine ih (q.1 + 1) q.2 _ (by omega) (hP2.mv t3) (hT.tr (t2.tr t3.c)) (by rw [sA_v, p2, nI_1]) (by omega) (by rw [sA_w (by omega)]; exact w2) ((hL.mc t2).mv t3) ?_ hI hR
            unfold tSum
            rw [t3.1 1 (by omega), t3.2.2 16 (by omega) (by omega), t3.2.2 17 (by omega) (by omega), t3.2.2 18 (by omega) (by omega), t3.2.2 19 (by omega) (by omega), t3.2.2 20 (by omega) (by omega)]
            exact s2
          · rw [if_neg h59] at hI
            exact hI q.1 _ rfl (hT.tr (t2.tr (tC_put (by omega)))) sA_v (by rw [sA_w (by omega)]; exact p2)
      · have he' : q.1 = n := (nI_eq (by omega) (by omega)).mp (p2.symm.trans he)
        rw [if_pos he'] at hR
        exact hR q σ2 rfl (hT.tr t2) w2 p2 s2
/-- the frame of a reading: the object's places 9 to 20 change -/
def tR (σ σ' : TS) : Prop := (∀ c, 1 ≤ c → σ'.1 c = σ.1 c) ∧ σ'.2 = σ.2 ∧ ∀ i, (i < 9 ∨ 20 < i) → σ'.1 0 i = σ.1 0 i
theorem tC.r {σ σ' : TS} (h : tC σ σ') : tR σ σ' := ⟨h.1, h.2.1, fun i hi => h.2.2 i (by omega)⟩
theorem tR.tr {σ σ1 σ2 : TS} (h : tR σ σ1) (h' : tR σ1 σ2) : tR σ σ2 := ⟨fun c hc => (h'.1 c hc).trans (h.1 c hc), h'.2.1.trans h.2.1, fun i hi => (h'.2.2 i hi).trans (h.2.2 i hi)⟩
theorem tR_put {σ : TS} {i : Nat} {v : Int32} (h : 9 ≤ i ∧ i ≤ 20) : tR σ (sA σ 0 i v) := ⟨fun c hc => sA_ne (by omega), rfl, fun j hj => sA_w (by omega)⟩
theorem tSum_0 {σ : TS} {l t : Nat} (h16 : σ.1 0 16 = 0) (h17 : σ.1 0 17 = 0) (h18 : σ.1 0 18 = 0) (h19 : σ.1 0 19 = 50) (h20 : σ.1 0 20 = 1) : tSum σ κ0 l t := ⟨fun _ => ⟨h16, h18, h20⟩, h17, h19⟩
/-- behind base: what is laid ahead of a reading -/
theorem l_J23 {σ : TS} {l t n : Nat} {x1 : Int32} {k : TS → Prop} (hl : l < 6) (ht : t < 4)
    (h : ∀ σ', tR σ σ' → σ'.1 0 9 = σ.1 0 9 → σ'.1 0 10 = nI n → σ'.1 0 11 = nI 0 → σ'.1 0 14 = 0 → tLk σ' l t → tSum σ' κ0 l t → (0 ≤ x1 → ∃ n80 : Nat, tw_reads_L80 k n80 1 σ') ∧ (¬ 0 ≤ x1 → k σ')) : tw_reads_J23 k x1 (nI l) (nI t) (nI n) σ := by
  unfold tw_reads_J23
  intro w1 e1 w2 e2 w3 e3 w4 e4 w5 e5 w6 e6 w7 e7 w8 e8 w9 e9
  have r1 : tR σ w1 := by rw [e1]; exact tR_put (by omega)
  have r2 : tR σ w2 := by rw [e2]; exact r1.tr (tR_put (by omega))
  have r3 : tR σ w3 := by rw [e3]; exact r2.tr (tR_put (by omega))
  have r4 : tR σ w4 := by rw [e4]; exact r3.tr (tR_put (by omega))
  have r5 : tR σ w5 := by rw [e5]; exact r4.tr (tR_put (by omega))
  have r6 : tR σ w6 := by rw [e6]; exact r5.tr (tR_put (by omega))
  have r7 : tR σ w7 := by rw [e7]; exact r6.tr (tR_put (by omega))
  have r8 : tR σ w8 := by rw [e8]; exact r7.tr (tR_put (by omega))
  have r9 : tR σ w9 := by rw [e9]; exact r8.tr (tR_put (by omega))
  have key : ∀ i, (sA w9 0 20 1).1 0 i = if i = 20 then 1 else if i = 19 then 50 else if i = 18 then 0 else if i = 17 then 0 else if i = 16 then 0 else if i = 14 then 0 else if i = 13 then nI t else if i = 12 then nI l else if i = 11 then 0 else if i = 10 then nI n else σ.1 0 i := by
    intro i
    subst e1 e2 e3 e4 e5 e6 e7 e8 e9
    simp only [sA, upd, if_true]
  refine h _ (r9.tr (tR_put (by omega))) ?_ ?_ ?_ ?_ ⟨?_, hl, ?_, ht⟩ (tSum_0 ?_ ?_ ?_ ?_ ?_) <;> rw [key] <;> rfl
/-- kiln h holds (0: the first, of no text) and denotes κ -/
def tKil (σ : TS) (h : Int32) (κ : KD) : Prop := (h = 0 ∧ κ = κ0) ∨ ∃ (j n : Nat) (f : SS), j < 6 ∧ h = nI (j + 1) ∧ n ≤ 100 ∧ σ.1 6 j = nI n ∧ (∀ i, i < n → σ.1 5 (100 * j + i) = f i) ∧ pKil f n 9 0 κ0 = .inr (n, κ)
theorem tKil.small {σ : TS} {h : Int32} {κ : KD} (hk : tKil σ h κ) : kdB κ 10 := by
  rcases hk with ⟨-, rfl⟩ | ⟨j, n, f, -, -, -, -, -, e⟩
  · obtain ⟨a1, a2, a3, a4, a5⟩ := kdB_0
    exact ⟨a1, a2, a3, by omega, a5⟩
  · exact (pKil_small 9 0 0 κ0 kdB_0 (n, κ) e).1
theorem tKil.mv {σ σ' : TS} {h : Int32} {κ : KD} (hk : tKil σ h κ) (h5 : σ'.1 5 = σ.1 5) (h6 : σ'.1 6 = σ.1 6) : tKil σ' h κ := by
  unfold tKil
  rw [h5, h6]
  exact hk
theorem l_reads {σ : TS} {l t j n : Nat} {f : SS} {k : TS → Prop} (hl : l < 6) (ht : t < 4) (hj : j < 6) (hn : n ≤ 100) (hN : σ.1 6 j = nI n) (hf : ∀ i, i < n → σ.1 5 (100 * j + i) = f i)
    (hI : ∀ p σ', pKil f n 9 0 κ0 = .inl p → tR σ σ' → σ'.1 0 14 = 1 → σ'.1 0 11 = nI p → k σ')
    (hR : ∀ q σ', pKil f n 9 0 κ0 = .inr q → tR σ σ' → σ'.1 0 14 = 0 → σ'.1 0 11 = nI q.1 → tSum σ' q.2 l t → k σ') : tw_reads σ (nI j) (nI l) (nI t) k := by
  unfold tw_reads
  refine br1 (nI_pos' (by omega)) ?_
  intro w hw
  have e100 : (100 * nI j : Int32) = nI (100 * j) := pk_mul 100 j
  rw [e100] at hw
  have r1 : tR σ w := by rw [hw]; exact tR_put (by omega)
  have g9 : w.1 0 9 = nI (100 * j) := by rw [hw]; exact sA_v
  rw [nI_clamp (by omega), r1.1 6 (by omega), hN]
  refine ⟨vp_in_nI hj (by omega), l_J23 hl ht (fun σ' r' h9 h10 h11 h14 hL hS => br1 (nI_pos' (by omega)) ⟨10, ?_⟩)⟩
  have hP : pS σ' (100 * j) n f := ⟨by rw [h9, g9], h10, hn, by omega, fun i hi => by rw [r'.1 5 (by omega), r1.1 5 (by omega)]; exact hf i hi⟩
  have rr := r1.tr r'
  exact l_readsL σ' 9 0 κ0 σ' (by omega) hP (tP.rf).c h11 (by omega) h14 hL hS (fun p σ2 e t2 w2 p2 => hI p σ2 e (rr.tr t2.r) w2 p2) (fun q σ2 e t2 w2 p2 s2 => hR q σ2 e (rr.tr t2.r) w2 p2 s2)
theorem l_readsNow {σ : TS} {κ : KD} {l t : Nat} {k : TS → Prop} (hk : tKil σ (σ.1 1 6) κ) (hl : l < 6) (ht : t < 4) (h : ∀ σ', tR σ σ' → tSum σ' κ l t → k σ') : tw_readsNow σ (nI l) (nI t) k := by
  unfold tw_readsNow
  rw [tc6]
  refine ⟨vi6, ?_⟩
  rcases hk with ⟨h0, rfl⟩ | ⟨j, n, f, hj, hh, hn, hN, hf, e⟩
  · rw [h0]
    unfold tw_reads
    refine br0 (by decide) ?_
    have r1 : tR σ (sA σ 0 9 (100 * (0 - 1))) := tR_put (by omega)
    exact l_J23 (n := 0) hl ht (fun σ' r' _ _ _ _ _ hS => br0 (by decide) (h σ' (r1.tr r') hS))
  · rw [hh, nI_pred]
    refine l_reads hl ht hj hn hN hf (fun p σ' e' => ?_) (fun q σ' e' r' _ _ s' => ?_)
    · rw [e] at e'; cases e'
    · rw [e] at e'; cases e'
      exact h σ' r' s'
