/-! PLAIN: questions: span -/
set_option maxRecDepth 100000
section Q
variable {T : xT} {q : Nat → Nat} {ω : CS} {σ σ0 : TS} {κ : KD} {x y : SS}
/-- the twin while a span is sought: its row has w at the taste -/
def tS (t : Nat) (σ σ1 : TS) : Prop := (∃ w, σ1.1 1 = upd (σ.1 1) t w) ∧ (∀ c, 2 ≤ c → σ1.1 c = σ.1 c) ∧ σ1.2 = σ.2 ∧ ∀ i, (i < 9 ∨ 20 < i) → σ1.1 0 i = σ.1 0 i
theorem upd_twice (f : SS) (i : Nat) (a b : Int32) : upd (upd f i a) i b = upd f i b := by
  funext k
  by_cases e : k = i
  · subst e; rw [pk_us, pk_us]
  · rw [pk_un e, pk_un e, pk_un e]
theorem upd_id (f : SS) (i : Nat) : upd f i (f i) = f := by
  funext k
  by_cases e : k = i
  · subst e; rw [pk_us]
  · rw [pk_un e]
theorem tS.put {t : Nat} {σ σ1 : TS} {w : Int32} (h : tS t σ σ1) : tS t σ (sA σ1 1 t w) ∧ (sA σ1 1 t w).1 1 = upd (σ.1 1) t w := by
  obtain ⟨⟨w0, e0⟩, h2, h3, h4⟩ := h
  have e : (sA σ1 1 t w).1 1 = upd (σ.1 1) t w := by rw [sA_c, e0, upd_twice]
  exact ⟨⟨⟨w, e⟩, fun c hc => by rw [sA_ne (by omega)]; exact h2 c hc, h3, fun i hi => by rw [sA_ne (by omega)]; exact h4 i hi⟩, e⟩
theorem tS.r {t : Nat} {σ σ1 σ2 : TS} (h : tS t σ σ1) (r : tR σ1 σ2) : tS t σ σ2 := ⟨by rw [r.1 1 (by omega)]; exact h.1, fun c hc => by rw [r.1 c (by omega)]; exact h.2.1 c hc, r.2.1.trans h.2.2.1, fun i hi => (r.2.2 i hi).trans (h.2.2.2 i hi)⟩
def spOk (a : Int32) : Prop := a = -5 ∨ ∃ h : Nat, h < 10000 ∧ a = nI h
theorem spOk.lt {a : Int32} (h : spOk a) : (a = -5 → ¬ 0 ≤ a) ∧ (¬ a = -5 → 0 ≤ a) := by
  rcases h with rfl | ⟨j, hj, rfl⟩
  · exact ⟨fun _ => by decide, fun c => absurd rfl c⟩
  · have := nI_pos' (n := j) (by omega)
    exact ⟨fun c => by rw [c] at this; exact absurd this (by decide), fun _ => this⟩
theorem J_span (H : Qc T q ω σ κ x) (x1 x2 x3 x4 : Int32) : JQ ω σ (tw_span σ x1 x2 x3 x4) (cw_span T q ω x1 x2 x3 x4) := by
  have hx := H.ok
  have HT := H.t
  have HC := H.c
  have e1 := H.1
  obtain ⟨h6, e5⟩ := mOf_le hx
  unfold tw_span cw_span
  by_cases hl : ∃ l : Nat, l < mOf x ∧ x1 = nI l
  · obtain ⟨l, hl, rfl⟩ := hl
    have hl6 : l < 6 := by omega
    by_cases ht : ∃ t : Nat, t < 4 ∧ x2 = nI t
    · obtain ⟨t, ht, rfl⟩ := ht
      by_cases hw : 0 ≤ x4 ∧ x4 ≤ 1
      · by_cases hk : 0 ≤ x3 ∧ x3 ≤ 9999
        · have main : ∀ R : Int32 × Int32, R = aSpn (aVh κ x l t) x3 10000 0 (-5) (-5) → JQ ω σ (fun k => ∃ n60 : Nat, tw_span_L60 k n60 (nI l) (nI t) x3 x4 (-5) (-5) (x t) 0 σ) (fun k => ∃ n51 : Nat, cw_span_L51 T q k n51 (nI l) (nI t) x3 x4 (-5) 0 0 ω) := by
            intro R hR
            refine ⟨if x4 = 0 then R.1 else R.2, fun k h => ⟨1001, ?_⟩, fun k h => ⟨10001, ?_⟩⟩
            · have L : ∀ (r d : Nat) (σ1 : TS) (a b : Int32), d + r = 1000 → tS t σ σ1 → aSpn (aVh κ x l t) x3 (10 * r) (10 * d) a b = R → tw_span_L60 k (r + 1) (nI l) (nI t) x3 x4 a b (x t) (nI d) σ1 := by
                intro r
                induction r with
                | zero =>
                  intro d σ1 a b hd s e
                  rw [tw_span_L60, nI_clamp (by omega)]
                  have e' : (a, b) = R := e
                  rw [← e'] at h
                  have P := s.put (w := x t)
                  have fin : ∀ v, (∀ σ', tE1 σ σ' → k v σ') → k v (sA σ1 1 t (x t)) := fun v hv => hv _ (by
                    have e2 : (sA σ1 1 t (x t)).1 1 = σ.1 1 := by rw [P.2, e1, upd_id]
                    refine ⟨fun c a1 _ _ _ _ => ?_, P.1.2.2.1, fun i a1 _ => P.1.2.2.2 i a1, fun z => by rw [P.1.2.1 3 (by omega)]; exact z⟩
                    by_cases hc : c = 1
                    · subst hc; exact e2
                    · exact P.1.2.1 c (by omega))
                  refine br1 ((nI_ltI (a := 999) (by omega) (by omega)).mpr (by omega)) ⟨vp_in_nI (by omega) (by omega), fun c => ?_, fun c => ?_⟩
                  · rw [if_neg c] at h; exact fin _ h
                  · rw [if_pos c] at h; exact fin _ h
                | succ r ih =>
                  intro d σ1 a b hd s e
                  rw [tw_span_L60, nI_clamp (by omega)]
                  refine br0 (fun c => by have := (nI_ltI (a := 999) (by omega) (by omega)).mp c; omega) ⟨vp_in_nI (by omega) (by omega), ?_⟩
                  intro w hw1
                  have e10 : (10 : Int32) * nI d = nI (10 * d) := pk_mul 10 d
                  rw [e10] at hw1
                  have P := s.put (w := nI (10 * d))
                  rw [← hw1, e1] at P
                  have ok2 : okS (w.1 1) := by rw [P.2]; exact upd_ok hx ht ⟨10 * d, by omega, rfl⟩
                  have tk2 : tOK w κ := by
                    refine ⟨?_, ok2⟩
                    rw [P.2, pk_un (by omega), ← e1]
                    exact HT.2.1.1.mv (P.1.2.1 5 (by omega)) (P.1.2.1 6 (by omega))
                  have hm2 : ¬ w.1 1 5 = 0 := by rw [P.2, pk_un (by omega)]; exact m_ne hx hl
                  refine l_partOf tk2 hm2 hl6 ht (fun σ2 r2 => ⟨11, ?_⟩)
                  have ep : kPart κ (lkS (w.1 1) l t) = aPd κ x l t d := by rw [P.2]; rfl
                  rw [ep]
                  have S2 : tS t σ σ2 := P.1.r r2
                  have e2 : σ2.1 1 = upd x t (nI (10 * d)) := by rw [r2.1 1 (by omega)]; exact P.2
                  have ok3 : okS (σ2.1 1) := by rw [e2]; exact upd_ok hx ht ⟨10 * d, by omega, rfl⟩
                  have L2 : ∀ (r2 j : Nat) (a b : Int32), j + r2 = 10 → aSpn (aVh κ x l t) x3 (10 * r + r2) (10 * d + j) a b = R → tw_span_L90 (fun x1 x2 x3 x4 x5 x6 x7 x8 s => tw_span_L60 k (r + 1) x1 x2 x3 x4 x5 x6 x7 x8 s) k (r2 + 1) (nI l) (nI t) x3 x4 a b (x t) (nI d) (aPd κ x l t d) (nI j) σ2 := by
                    intro r2
                    induction r2 with
                    | zero =>
                      intro j a b hj e
                      rw [tw_span_L90]
                      refine br1 ((nI_leI (a := 10) (by omega) (by omega)).mpr (by omega)) ?_
                      intro v hv
                      subst hv
                      rw [nI_1]
                      exact ih (d + 1) σ2 a b (by omega) S2 (by rw [show 10 * (d + 1) = 10 * d + j by omega]; exact e)
                    | succ r2 ih2 =>
                      intro j a b hj e
                      rw [tw_span_L90, e10, nI_add]
                      rw [show 10 * r + (r2 + 1) = (10 * r + r2) + 1 by omega, aSpn] at e
                      refine br0 (fun c => by have := (nI_leI (a := 10) (by omega) (by omega)).mp c; omega) (l_takesBy ok3 hl6 ht ?_)
                      have ev : aTakeBy (σ2.1 1) l t (aPd κ x l t d) (nI (10 * d + j)) = aVh κ x l t (10 * d + j) := by
                        rw [e2, aTakeBy_upd ht]
                        unfold aVh
                        rw [show (10 * d + j) / 10 = d by omega]
                      rw [ev]
                      refine ⟨fun c => ?_, fun c => ?_⟩
                      · rw [if_pos c] at e
                        refine ⟨fun g => ?_, fun g => ?_⟩
                        · rw [if_pos g] at e
                          intro u hu v hv
                          rw [e10, nI_add] at hu
                          subst hu
                          subst hv
                          rw [nI_1]
                          exact ih2 (j + 1) _ _ (by omega) e
                        · rw [if_neg g] at e
                          intro u hu v hv
                          rw [e10, nI_add] at hu
                          subst hu
                          subst hv
                          rw [nI_1]
                          exact ih2 (j + 1) _ _ (by omega) e
                      · rw [if_neg c] at e
                        intro v hv
                        subst hv
                        rw [nI_1]
                        exact ih2 (j + 1) _ _ (by omega) e
                  exact L2 10 0 a b (by omega) (by rw [show 10 * r + 10 = 10 * (r + 1) by omega]; exact e)
              exact L 1000 0 σ (-5) (-5) (by omega) ⟨⟨σ.1 1 t, (upd_id _ _).symm⟩, fun _ _ => rfl, rfl, fun _ _ => rfl⟩ hR.symm
            · have L : ∀ (r h0 : Nat) (ω1 : CS) (a b p : Int32), h0 + r = 10000 → cE1 ω ω1 → spOk a → (h0 % 10 ≠ 0 → p = aPd κ x l t (h0 / 10)) → aSpn (aVh κ x l t) x3 r h0 a b = R → cw_span_L51 T q k (r + 1) (nI l) (nI t) x3 x4 (if x4 = 0 then a else b) p (nI h0) ω1 := by
                intro r
                induction r with
                | zero =>
                  intro h0 ω1 a b p hh g ha hp e
                  rw [cw_span_L51]
                  have e' : (a, b) = R := e
                  rw [← e'] at h
                  exact br1 ((nI_ltI (a := 9999) (by omega) (by omega)).mpr (by omega)) (h ω1 g)
                | succ r ih =>
                  intro h0 ω1 a b p hh g ha hp e
                  rw [cw_span_L51]
                  rw [aSpn] at e
                  have H1 := HC.e1 g
                  have er : nI h0 - nI h0 / 10 * 10 = nI (h0 % 10) := pk_rem (d := 10) (by omega) (by omega) (by omega)
                  rw [er]
                  -- behind the part
                  have fin : ∀ ω2 : CS, cE1 ω ω2 → cw_span_J92 T q (fun x1 x2 x3 x4 x5 x6 x7 s => cw_span_L51 T q k (r + 1) x1 x2 x3 x4 x5 x6 x7 s) k (nI l) (nI t) x3 x4 (if x4 = 0 then a else b) (aPd κ x l t (h0 / 10)) (nI h0) ω2 := by
                    intro ω2 g2
                    have H2 := HC.e1 g2
                    have nx : ∀ (a' b' : Int32), spOk a' → aSpn (aVh κ x l t) x3 r (h0 + 1) a' b' = R → cw_span_J123 T q (fun x1 x2 x3 x4 x5 x6 x7 s => cw_span_L51 T q k (r + 1) x1 x2 x3 x4 x5 x6 x7 s) k (nI l) (nI t) x3 x4 (if x4 = 0 then a' else b') (aPd κ x l t (h0 / 10)) (nI h0) ω2 := by
                      intro a' b' ha' e'
                      intro v hv
                      subst hv
                      rw [nI_1]
                      exact ih (h0 + 1) ω2 a' b' _ (by omega) g2 ha' (fun hne => by rw [show (h0 + 1) / 10 = h0 / 10 by omega]) e'
                    have tk : ∀ z : Int32, (aVh κ x l t h0 = x3 → z = nI h0) → (x4 = 0 → 0 ≤ a → False) → cw_span_J105 T q (fun x1 x2 x3 x4 x5 x6 x7 s => cw_span_L51 T q k (r + 1) x1 x2 x3 x4 x5 x6 x7 s) k (nI l) (nI t) x3 x4 (if x4 = 0 then a else b) (aPd κ x l t (h0 / 10)) (nI h0) ω2 := by
                      intro z hz hz2
                      unfold cw_span_J105
                      refine c_takesBy H2.1 hl hl6 ht (nI_pos' (by omega)) ?_
                      have ev : aTakeBy x l t (aPd κ x l t (h0 / 10)) (nI h0) = aVh κ x l t h0 := rfl
                      rw [ev]
                      refine ⟨fun c => ?_, fun c => ?_⟩
                      · rw [if_neg c] at e
                        exact nx a b ha e
                      · rw [if_pos c] at e
                        have := nx (if 0 ≤ a then a else nI h0) (nI h0) (by
                          by_cases g0 : 0 ≤ a
                          · rw [if_pos g0]; exact ha
                          · rw [if_neg g0]; exact Or.inr ⟨h0, by omega, rfl⟩) e
                        by_cases c0 : x4 = 0
                        · rw [if_pos c0, if_neg (fun g0 => hz2 c0 g0)] at this
                          exact this
                        · rw [if_neg c0] at this
                          exact this
                    unfold cw_span_J92
                    by_cases c0 : x4 = 0
                    · have tk0 := tk (nI h0) (fun _ => rfl)
                      refine ⟨fun c5 => tk0 (fun _ g0 => ?_), fun c5 => bn1 (by rw [c0]; decide) ?_⟩
                      · rw [if_pos c0] at c5
                        exact ha.lt.1 c5 g0
                      · rw [if_pos c0] at c5
                        have g0 := ha.lt.2 c5
                        rw [if_pos g0] at e
                        by_cases ct : aVh κ x l t h0 = x3
                        · rw [if_pos ct] at e
                          have := nx a (nI h0) ha e
                          rw [if_pos c0] at this ⊢
                          exact this
                        · rw [if_neg ct] at e
                          exact nx a b ha e
                    · have c1 : x4 = 1 := by
                        obtain ⟨j, hj, ej⟩ := (i_rng (n := 1) (by omega)).mp hw
                        have : j = 1 := by
                          rcases (show j = 0 ∨ j = 1 by omega) with z | z
                          · exact absurd (by rw [ej, z]; rfl) c0
                          · exact z
                        rw [ej, this]; rfl
                      have tk0 := tk (nI h0) (fun _ => rfl) (fun z _ => c0 z)
                      exact ⟨fun _ => tk0, fun _ => bn0 c1 tk0⟩
                  refine br0 (fun c => by have := (nI_ltI (a := 9999) (by omega) (by omega)).mp c; omega) ⟨fun c => ?_, fun c => ?_⟩
                  · have hne : h0 % 10 ≠ 0 := fun z => c (by rw [z]; rfl)
                    rw [hp hne]
                    exact fin ω1 g
                  · have h00 : h0 % 10 = 0 := (nI_eq (b := 0) (by omega) (by omega)).mp c
                    refine c_looksAt H1.1 H1.2.1 (by omega) hl hl6 (hx.2.2.2 l hl6).1 (fun ω2 g2 f0 f1 f2 f3 f4 f5 => ?_)
                    have H2 := H1.e1 g2.e1
                    refine ⟨κ, H2.1.2.1, ?_⟩
                    intro v hv
                    rw [if_neg (lk_99 ht)] at f5
                    have ek : kPart κ (ω2.1.1 25) = aPd κ x l t (h0 / 10) := (kil_loc H2.1.2.1 (fun i hi => by
                      rcases (show i = 0 ∨ i = 1 ∨ i = 2 ∨ i = 3 ∨ i = 4 ∨ i = 5 by omega) with rfl | rfl | rfl | rfl | rfl | rfl
                      · exact f0
                      · show ω2.1.1 25 1 = upd x t _ (8 + 10 * l)
                        rw [pk_un (by omega)]; exact f1
                      · exact f2
                      · show ω2.1.1 25 3 = upd x t _ (8 + 10 * l + 1)
                        rw [pk_un (by omega)]; exact f3
                      · show ω2.1.1 25 4 = upd x t _ 4 - upd x t _ 4 / 60 * 60
                        rw [pk_un (by omega)]; exact f4
                      · show ω2.1.1 25 5 = upd x t (nI (10 * (h0 / 10))) t / 10
                        rw [pk_us, show 10 * (h0 / 10) = h0 by omega]; exact f5)).1
                    rw [ek] at hv
                    subst hv
                    exact fin ω2 (g.tr g2.e1)
              have := L 10000 0 ω (-5) (-5) 0 (by omega) cE1.rf (Or.inl rfl) (fun c => absurd rfl c) hR.symm
              rw [show (if x4 = 0 then (-5 : Int32) else -5) = -5 by split <;> rfl] at this
              exact this
          obtain ⟨v, m1, m2⟩ := main _ rfl
          refine ⟨v, fun k h => l_loafT (by rw [e1]; exact hx) (by rw [e1]; exact hl) (br0 (by decide) (l_tasteT ht (br0 (by decide) (p_T hw (bn1 (by decide) (p_T hk (bn1 (by decide) ⟨vp_in_nI (by omega) (by omega), ?_⟩))))))), fun k h => c_loafT hx HC.1.1 hl (br0 (by decide) (c_tasteT ht (br0 (by decide) (q_T hw (bn1 (by decide) (q_T hk (bn1 (by decide) (m2 k h))))))))⟩
          intro z hz
          rw [nI_clamp (by omega), e1] at hz
          subst hz
          exact m1 k h
        · exact ⟨-2, fun k h => l_loafT (by rw [e1]; exact hx) (by rw [e1]; exact hl) (br0 (by decide) (l_tasteT ht (br0 (by decide) (p_T hw (bn1 (by decide) (p_F hk (bn0 rfl (h σ tE1.rf)))))))), fun k h => c_loafT hx HC.1.1 hl (br0 (by decide) (c_tasteT ht (br0 (by decide) (q_T hw (bn1 (by decide) (q_F hk (bn0 rfl (h ω cE1.rf))))))))⟩
      · exact ⟨-1, fun k h => l_loafT (by rw [e1]; exact hx) (by rw [e1]; exact hl) (br0 (by decide) (l_tasteT ht (br0 (by decide) (p_F hw (bn0 rfl (h σ tE1.rf)))))), fun k h => c_loafT hx HC.1.1 hl (br0 (by decide) (c_tasteT ht (br0 (by decide) (q_F hw (bn0 rfl (h ω cE1.rf))))))⟩
    · exact ⟨-1, fun k h => l_loafT (by rw [e1]; exact hx) (by rw [e1]; exact hl) (br0 (by decide) (l_tasteF ht (br1 rfl (h σ tE1.rf)))), fun k h => c_loafT hx HC.1.1 hl (br0 (by decide) (c_tasteF ht (br1 rfl (h ω cE1.rf))))⟩
  · exact ⟨-1, fun k h => l_loafF (by rw [e1]; exact hx) (by rw [e1]; exact hl) (br1 rfl (h σ tE1.rf)), fun k h => c_loafF hx HC.1.1 hl (br1 rfl (h ω cE1.rf))⟩
end Q
