/-! PLAIN: questions: has, swaps, year, looked -/
set_option maxRecDepth 100000
theorem i_neg_add (a b : Int32) : -a + b = b - a := by rw [Int32.sub_eq_add_neg, Int32.add_comm]
theorem i_sub0 (a : Int32) : a - 0 = a := by simp
section Q
variable {T : xT} {q : Nat → Nat} {ω : CS} {σ : TS} {κ : KD} {x : SS}
/-! what a second pays to the first -/
def aPay (κ : KD) (x : SS) (i : Nat) : Int32 := if aSum κ (aGo κ x i) (i + 1) < aSum κ x (i + 1) then kFee κ (lkF x i) else - kFee κ (lkF x (i + 1))
theorem c_pays {i : Nat} {k : Int32 → CS → Prop} (H : cQq T q ω κ x) (hi : i + 1 < mOf x) (h : ∀ ω', cE1 ω ω' → k (aPay κ x i) ω') : cw_pays T q ω (nI i) k := by
  have h6 := (mOf_le H.2.2).1
  unfold cw_pays
  intro z hz
  rw [nI_1] at hz
  subst hz
  refine c_takesAll H.1 H.2.2 H.2.1 (by omega) hi (fun ω1 g1 => ?_)
  intro w hw
  subst hw
  have H1 := H.e1 g1.e1
  obtain ⟨t0, r0⟩ := c_begin H1
  refine c_go H1 t0 r0 (by omega) (fun ω2 t2 r2 _ => c_all H1 t2 r2 hi (fun ω3 t3 => ?_))
  have H3 := H1.e1 t3.1
  unfold aPay at h
  refine ⟨fun c => ?_, fun c => ?_⟩
  · rw [if_neg (i_lt_le.mpr c)] at h
    exact c_feeOf H3.1 H3.2.2 H3.2.1 hi (fun ω4 g4 => h ω4 ((g1.e1.tr t3.1).tr g4.e1))
  · rw [if_pos (i_le_lt.mp c)] at h
    exact c_feeOf H3.1 H3.2.2 H3.2.1 (by omega) (fun ω4 g4 => h ω4 ((g1.e1.tr t3.1).tr g4.e1))
/-- what the loaf l has paid, of the neighbours up to i -/
def aHas (κ : KD) (x : SS) (l i : Nat) : Int32 := (if 0 < l ∧ l ≤ i then - aPay κ x (l - 1) else 0) + (if l < i then aPay κ x l else 0)
theorem l_pair {i : Nat} {k : Int32 → TS → Prop} (H : tQ σ κ x) (hi : i + 1 < mOf x) (h : ∀ σ', tE1 σ σ' → k (aPay κ x i) σ') (J : Int32 → Int32 → TS → Prop) (hJ : ∀ v σ', k v σ' → J v v σ') :
    tw_takesBehind σ ((nI i + 1)) (nI i) (fun r32 s32 => tw_allTakes s32 ((nI i + 1)) (fun r39 s39 => (r39 ≤ r32 → (fun s => tw_feeOf s ((nI i + 1)) (fun r69 s69 => J (-r69) (-r69) s69)) s39) ∧ (¬ r39 ≤ r32 → (fun s => tw_feeOf s (nI i) (fun r59 s59 => J r59 r59 s59)) s39))) := by
  have h6 := (mOf_le H.ok).1
  rw [nI_1]
  unfold tw_takesBehind
  refine t_begin H (fun σ1 t1 r1 => t_go H t1 r1 (by omega) (fun σ2 t2 r2 => t_all H t2 r2 hi (fun σ3 t3 => t_end H t3 r2 (fun σ4 t4 => ?_))))
  have H4 := H.e1 t4
  have hm4 : ¬ σ4.1 1 5 = 0 := by rw [H4.1]; exact m_ne H.ok hi
  refine l_allTakes H4.2.1 hm4 (by omega) (fun σ5 r5 => ?_)
  have H5 := H4.e1 r5.e1
  have hm5 : ¬ σ5.1 1 5 = 0 := by rw [H5.1]; exact m_ne H.ok hi
  rw [H4.1]
  unfold aPay at h
  refine ⟨fun c => ?_, fun c => ?_⟩
  · rw [if_neg (i_lt_le.mpr c)] at h
    refine l_feeOf H5.2.1 hm5 (by omega) (fun σ6 r6 => hJ _ _ ?_)
    rw [H5.1]
    exact h σ6 ((t4.tr r5.e1).tr r6.e1)
  · rw [if_pos (i_le_lt.mp c)] at h
    refine l_feeOf H5.2.1 hm5 (by omega) (fun σ6 r6 => hJ _ _ ?_)
    rw [H5.1]
    exact h σ6 ((t4.tr r5.e1).tr r6.e1)
theorem J_has (H : Qc T q ω σ κ x) (x1 : Int32) : JQ ω σ (tw_has σ x1) (cw_has T q ω x1) := by
  have hx := H.ok
  have HT := H.t
  have HC := H.c
  have e1 := H.1
  have h6 := (mOf_le hx).1
  unfold tw_has cw_has
  by_cases hl : ∃ l : Nat, l < mOf x ∧ x1 = nI l
  · obtain ⟨l, hl, rfl⟩ := hl
    refine ⟨aHas κ x l (mOf x - 1), fun k h => l_loafT (by rw [e1]; exact hx) (by rw [e1]; exact hl) (bn1 (by decide) ⟨mOf x, ?_⟩), fun k h => c_loafT hx HC.1.1 hl (bn1 (by decide) ?_)⟩
    · have L : ∀ (r i : Nat) (σ1 : TS), i + r + 1 = mOf x → tE1 σ σ1 → tw_has_L15 k (r + 1) (nI l) (aHas κ x l i) (nI i) σ1 := by
        intro r
        induction r with
        | zero =>
          intro i σ1 hi t
          rw [tw_has_L15, tc5, (HT.e1 t).1, (mOf_le hx).2, nI_1]
          refine ⟨vi5, br1 ((nI_leI (by omega) (by omega)).mpr (by omega)) ?_⟩
          rw [show mOf x - 1 = i by omega] at h
          exact h σ1 t
        | succ r ih =>
          intro i σ1 hi t
          rw [tw_has_L15, tc5, (HT.e1 t).1, (mOf_le hx).2]
          refine ⟨vi5, br0 (fun c => ?_) ?_⟩
          · rw [nI_1] at c
            have := (nI_leI (by omega) (by omega)).mp c
            omega
          · -- the sum of this pair
            have fin : ∀ (v : Int32) (σ2 : TS), v = aPay κ x i → tE1 σ σ2 → tw_has_J73 (fun x1 x2 x3 s => tw_has_L15 k (r + 1) x1 x2 x3 s) k (nI l) (aHas κ x l i) (nI i) v σ2 := by
              intro v σ2 hv t2
              have nx : ∀ u : Int32, aHas κ x l i + u = aHas κ x l (i + 1) → tw_has_J100 (fun x1 x2 x3 s => tw_has_L15 k (r + 1) x1 x2 x3 s) k (nI l) (nI i) u (aHas κ x l i) σ2 := by
                intro u hu
                intro a ha b hb
                subst ha
                subst hb
                rw [nI_1, hu]
                exact ih (i + 1) σ2 (by omega) t2
              unfold tw_has_J73
              refine ⟨fun hne => ⟨fun hne2 => nx 0 ?_, fun he2 => nx (-v) ?_⟩, fun he => nx v ?_⟩
              · have n1 : ¬ l = i := fun z => hne (by rw [z])
                have n2 : ¬ l = i + 1 := fun z => hne2 (by rw [z, nI_1])
                unfold aHas
                rw [i_add0]
                by_cases c1 : l < i
                · rw [if_pos c1, if_pos (show l < i + 1 by omega)]
                  by_cases c2 : 0 < l
                  · rw [if_pos ⟨c2, by omega⟩, if_pos ⟨c2, by omega⟩]
                  · rw [if_neg (fun c => c2 c.1), if_neg (fun c => c2 c.1)]
                · rw [if_neg c1, if_neg (show ¬ l < i + 1 by omega), if_neg (fun c => by omega), if_neg (fun c => by omega)]
              · rw [nI_1] at he2
                have n2 : l = i + 1 := (nI_eq (by omega) (by omega)).mp he2
                unfold aHas
                rw [if_neg (show ¬ l < i by omega), if_neg (show ¬ l < i + 1 by omega), if_neg (fun c => by omega), if_pos ⟨by omega, by omega⟩, hv, show l - 1 = i by omega]
                simp
              · have n1 : l = i := (nI_eq (by omega) (by omega)).mp he
                subst n1
                unfold aHas
                rw [if_neg (show ¬ l < l by omega), if_pos (show l < l + 1 by omega), hv, i_add0]
                by_cases c2 : 0 < l
                · rw [if_pos ⟨c2, by omega⟩, if_pos ⟨c2, by omega⟩]
                · rw [if_neg (fun c => c2 c.1), if_neg (fun c => c2 c.1)]
            have base := l_pair (HT.e1 t) (i := i) (by omega) (k := fun v σ2 => v = aPay κ x i ∧ tE1 σ σ2) (fun σ' t' => ⟨rfl, t.tr t'⟩) (fun v _ σ2 => tw_has_J73 (fun x1 x2 x3 s => tw_has_L15 k (r + 1) x1 x2 x3 s) k (nI l) (aHas κ x l i) (nI i) v σ2) (fun v σ2 c => fin v σ2 c.1 c.2)
            have conv : ∀ (a b : Int32) (s : TS), (fun s => tw_feeOf s ((nI i + 1)) (fun r69 s69 => tw_has_J73 (fun x1 x2 x3 s => tw_has_L15 k (r + 1) x1 x2 x3 s) k (nI l) (aHas κ x l i) (nI i) (-r69) s69)) s → tw_has_J50 (fun x1 x2 x3 s => tw_has_L15 k (r + 1) x1 x2 x3 s) k (nI l) (aHas κ x l i) (nI i) 0 s := fun _ _ s hh => br1 rfl hh
            have conv1 : ∀ (s : TS), (fun s => tw_feeOf s (nI i) (fun r59 s59 => tw_has_J73 (fun x1 x2 x3 s => tw_has_L15 k (r + 1) x1 x2 x3 s) k (nI l) (aHas κ x l i) (nI i) r59 s59)) s → tw_has_J50 (fun x1 x2 x3 s => tw_has_L15 k (r + 1) x1 x2 x3 s) k (nI l) (aHas κ x l i) (nI i) 1 s := fun s hh => br0 (by decide) hh
            -- the same reading, with the joins
            have h6' := h6
            rw [nI_1]
            unfold tw_takesBehind
            refine t_begin (HT.e1 t) (fun σ1' t1 r1 => t_go (HT.e1 t) t1 r1 (by omega) (fun σ2 t2 r2 => t_all (HT.e1 t) t2 r2 (by omega) (fun σ3 t3 => t_end (HT.e1 t) t3 r2 (fun σ4 t4 => ?_))))
            have H4 := (HT.e1 t).e1 t4
            have hm4 : ¬ σ4.1 1 5 = 0 := by rw [H4.1]; exact m_ne hx hl
            refine l_allTakes H4.2.1 hm4 (by omega) (fun σ5 r5 => ?_)
            have H5 := H4.e1 r5.e1
            have hm5 : ¬ σ5.1 1 5 = 0 := by rw [H5.1]; exact m_ne hx hl
            rw [H4.1]
            have ep : aPay κ x i = if aSum κ (aGo κ x i) (i + 1) < aSum κ x (i + 1) then kFee κ (lkF x i) else - kFee κ (lkF x (i + 1)) := rfl
            refine ⟨fun c => ?_, fun c => ?_⟩
            · rw [if_neg (i_lt_le.mpr c)] at ep
              unfold tw_has_J50
              refine br1 rfl ?_
              rw [nI_1]
              refine l_feeOf H5.2.1 hm5 (by omega) (fun σ6 r6 => fin _ σ6 ?_ (((t.tr t4).tr r5.e1).tr r6.e1))
              rw [H5.1, ep]
            · rw [if_pos (i_le_lt.mp c)] at ep
              unfold tw_has_J50
              refine br0 (by decide) ?_
              refine l_feeOf H5.2.1 hm5 (by omega) (fun σ6 r6 => fin _ σ6 ?_ (((t.tr t4).tr r5.e1).tr r6.e1))
              rw [H5.1, ep]
      have e0 : aHas κ x l 0 = 0 := by
        unfold aHas
        rw [if_neg (fun c => by omega), if_neg (by omega)]
        rfl
      have := L (mOf x - 1) 0 σ (by omega) tE1.rf
      rw [show mOf x - 1 + 1 = mOf x by omega, e0] at this
      exact this
    · have fin : ∀ (v : Int32) (ω1 : CS), v = (if l + 1 < mOf x then aPay κ x l else 0) → cE1 ω ω1 → cw_has_J31 T q k (nI l) v ω1 := by
        intro v ω1 hv t
        unfold cw_has_J31
        have e : aHas κ x l (mOf x - 1) = (if 0 < l then - aPay κ x (l - 1) else 0) + v := by
          unfold aHas
          rw [hv]
          by_cases c1 : l + 1 < mOf x
          · rw [if_pos c1, if_pos (show l < mOf x - 1 by omega)]
            by_cases c2 : 0 < l
            · rw [if_pos c2, if_pos ⟨c2, by omega⟩]
            · rw [if_neg c2, if_neg (fun c => c2 c.1)]
          · rw [if_neg c1, if_neg (show ¬ l < mOf x - 1 by omega)]
            by_cases c2 : 0 < l
            · rw [if_pos c2, if_pos ⟨c2, by omega⟩]
            · rw [if_neg c2, if_neg (fun c => c2 c.1)]
        refine ⟨fun c => ?_, fun c => ?_⟩
        · have h0 : ¬ 0 < l := fun z => nI_ge (a := 0) (b := l) z (by omega) c
          rw [if_neg h0, i_0add] at e
          rw [i_sub0, ← e]
          exact h ω1 t
        · have h0 : 0 < l := by
            rcases Nat.eq_zero_or_pos l with z | z
            · subst z; exact absurd (show nI 0 ≤ 0 by decide) c
            · exact z
          rw [if_pos h0, i_neg_add] at e
          have ep : nI l - 1 = nI (l - 1) := by
            have := nI_pred (l - 1)
            rw [show l - 1 + 1 = l by omega] at this
            exact this
          rw [ep]
          refine c_pays (HC.e1 t) (by omega) (fun ω2 t2 => ?_)
          rw [← e]
          exact h ω2 (t.tr t2)
      rw [HC.1.1, (mOf_le hx).2, nI_1]
      refine ⟨fun c => ?_, fun c => ?_⟩
      · have : mOf x ≤ l + 1 := (nI_leI (by omega) (by omega)).mp c
        exact fin 0 ω (by rw [if_neg (by omega)]) cE1.rf
      · have : ¬ mOf x ≤ l + 1 := fun z => c ((nI_leI (by omega) (by omega)).mpr z)
        refine c_pays HC (by omega) (fun ω2 t2 => fin _ ω2 ?_ t2)
        rw [if_pos (by omega)]
  · exact ⟨-100001, fun k h => l_loafF (by rw [e1]; exact hx) (by rw [e1]; exact hl) (bn0 rfl (h σ tE1.rf)), fun k h => c_loafF hx HC.1.1 hl (bn0 rfl (h ω cE1.rf))⟩
end Q
