/-! PLAIN: questions: told, would, guilty, place, has -/
set_option maxRecDepth 100000
/-- the twin ahead of a question; the component -/
def tQ (σ : TS) (κ : KD) (x : SS) : Prop := σ.1 1 = x ∧ tOK σ κ ∧ tZ x ∧ tZ (σ.1 3)
def cQq (T : xT) (q : Nat → Nat) (ω : CS) (κ : KD) (x : SS) : Prop := cSt T q ω κ x ∧ cAt ω 0 x ∧ okS x
theorem Qc.t {T : xT} {q : Nat → Nat} {ω : CS} {σ : TS} {κ : KD} {x : SS} (h : Qc T q ω σ κ x) : tQ σ κ x := ⟨h.1, h.2.1, h.2.2.1, h.2.2.2.1⟩
theorem Qc.c {T : xT} {q : Nat → Nat} {ω : CS} {σ : TS} {κ : KD} {x : SS} (h : Qc T q ω σ κ x) : cQq T q ω κ x := ⟨h.2.2.2.2.1, h.2.2.2.2.2, h.ok⟩
theorem tQ.e1 {σ σ' : TS} {κ : KD} {x : SS} (h : tQ σ κ x) (t : tE1 σ σ') : tQ σ' κ x := ⟨by rw [t.1 1 (by omega) (by omega) (by omega) (by omega) (by omega)]; exact h.1, h.2.1.e1 t, h.2.2.1, t.2.2.2 h.2.2.2⟩
theorem cQq.e1 {T : xT} {q : Nat → Nat} {ω ω' : CS} {κ : KD} {x : SS} (h : cQq T q ω κ x) (g : cE1 ω ω') : cQq T q ω' κ x := ⟨h.1.e1 g, h.2.1.e1 g, h.2.2⟩
theorem tQ.ok {σ : TS} {κ : KD} {x : SS} (h : tQ σ κ x) : okS x := by rw [← h.1]; exact h.2.1.2
/-- inside: the component's try -/
def cIn (ω ω1 : CS) (y : SS) : Prop := cE1 ω ω1 ∧ cAt ω1 1 y
section IN
variable {T : xT} {q : Nat → Nat} {ω ω1 : CS} {σ0 σ : TS} {κ : KD} {x y : SS}
theorem t_begin {k : TS → Prop} (H : tQ σ0 κ x) (h : ∀ σ, tI σ0 σ x → aR x x → k σ) : tw_begins σ0 k := by
  have hx := H.ok
  obtain ⟨rfl, hk, zx, z3⟩ := H
  exact l_beg zx z3 (fun σ' t => h σ' t (aR.rf hx))
theorem t_end {k : TS → Prop} (H : tQ σ0 κ x) (t : tI σ0 σ y) (r : aR x y) (h : ∀ σ', tE1 σ0 σ' → k σ') : tw_ends σ k := l_end t (r.z H.2.2.1) (by rw [H.1]; exact H.2.2.1) h
theorem t_ok (H : tQ σ0 κ x) (t : tI σ0 σ y) (r : aR x y) : tOK σ κ ∧ σ.1 1 = y := ⟨H.2.1.i t (by rw [H.1]; exact r), t.1⟩
theorem t_go {l : Nat} {k : Int32 → TS → Prop} (H : tQ σ0 κ x) (t : tI σ0 σ y) (r : aR x y) (hl : l < mOf x) (h : ∀ σ', tI σ0 σ' (aGo κ y l) → aR x (aGo κ y l) → k (b2I (aSp κ y l)) σ') : tw_bakes σ (nI l) k := by
  obtain ⟨hk, e⟩ := t_ok H t r
  have hl6 : l < 6 := by have := (mOf_le H.ok).1; omega
  have hm : ¬ σ.1 1 5 = 0 := by rw [e]; exact m_ne r.1 (by rw [r.m]; exact hl)
  refine l_bakes hk hm hl6 (fun σ' t' => ?_)
  rw [e] at t' ⊢
  exact h σ' (t.b t') (r.go H.2.1.1.small hl6)
theorem t_cool {k : TS → Prop} (H : tQ σ0 κ x) (t : tI σ0 σ y) (r : aR x y) (h : ∀ σ', tI σ0 σ' (aCool κ y) → aR x (aCool κ y) → k σ') : tw_cools σ k := by
  obtain ⟨hk, e⟩ := t_ok H t r
  refine l_cools hk (fun σ' t' => ?_)
  rw [e] at t'
  exact h σ' (t.b t') (r.cool H.2.1.1.small)
theorem t_sp {l : Nat} {k : Int32 → TS → Prop} (H : tQ σ0 κ x) (t : tI σ0 σ y) (r : aR x y) (hl : l < mOf x) (h : ∀ σ', tI σ0 σ' y → k (b2I (aSp κ y l)) σ') : tw_isSpoiled σ (nI l) k := by
  obtain ⟨hk, e⟩ := t_ok H t r
  have hl6 : l < 6 := by have := (mOf_le H.ok).1; omega
  have hm : ¬ σ.1 1 5 = 0 := by rw [e]; exact m_ne r.1 (by rw [r.m]; exact hl)
  refine l_isSpoiled hk hm hl6 (fun σ' t' => ?_)
  rw [e]
  exact h σ' (t.r t')
theorem t_take {l u : Nat} {k : Int32 → TS → Prop} (H : tQ σ0 κ x) (t : tI σ0 σ y) (r : aR x y) (hl : l < mOf x) (hu : u < 4) (h : ∀ σ', tI σ0 σ' y → k (aTake κ y l u) σ') : tw_takesOf σ (nI l) (nI u) k := by
  obtain ⟨hk, e⟩ := t_ok H t r
  have hl6 : l < 6 := by have := (mOf_le H.ok).1; omega
  have hm : ¬ σ.1 1 5 = 0 := by rw [e]; exact m_ne r.1 (by rw [r.m]; exact hl)
  refine l_takesOf hk hm hl6 hu (fun σ' t' => ?_)
  rw [e]
  exact h σ' (t.r t')
theorem t_all {l : Nat} {k : Int32 → TS → Prop} (H : tQ σ0 κ x) (t : tI σ0 σ y) (r : aR x y) (hl : l < mOf x) (h : ∀ σ', tI σ0 σ' y → k (aSum κ y l) σ') : tw_allTakes σ (nI l) k := by
  obtain ⟨hk, e⟩ := t_ok H t r
  have hl6 : l < 6 := by have := (mOf_le H.ok).1; omega
  have hm : ¬ σ.1 1 5 = 0 := by rw [e]; exact m_ne r.1 (by rw [r.m]; exact hl)
  refine l_allTakes hk hm hl6 (fun σ' t' => ?_)
  rw [e]
  exact h σ' (t.r t')
theorem c_begin (H : cQq T q ω κ x) : cIn ω (cTk ω 1 0) x ∧ aR x x := ⟨⟨(c_Tk H.2.1 (by omega)).1.e1 (by omega) (by omega), (c_Tk H.2.1 (by omega)).2⟩, aR.rf H.2.2⟩
theorem c_go {l : Nat} {k : Int32 → CS → Prop} (H : cQq T q ω κ x) (t : cIn ω ω1 y) (r : aR x y) (hl : l < mOf x) (h : ∀ ω', cIn ω ω' (aGo κ y l) → aR x (aGo κ y l) → (∀ t, t < 4 → ω'.1.1 37 t = aTake κ y l t) → k (b2I (aSp κ y l)) ω') : cw_goes T q ω1 1 (nI l) k := by
  have hl6 : l < 6 := by have := (mOf_le H.2.2).1; omega
  exact c_goes ((H.1.e1 t.1).ge r.2) r.1 t.2 (by omega) (by rw [r.m]; exact hl) (fun ω' g a b => h ω' ⟨t.1.tr (g.e1 (by omega) (by omega)), a⟩ (r.go H.1.2.2.1 hl6) b)
theorem c_cool {k : CS → Prop} (H : cQq T q ω κ x) (t : cIn ω ω1 y) (r : aR x y) (h : ∀ ω', cIn ω ω' (aCool κ y) → aR x (aCool κ y) → k ω') : cw_cools T q ω1 1 k :=
  c_cools ((H.1.e1 t.1).ge r.2) r.1 t.2 (by omega) (fun ω' g a => h ω' ⟨t.1.tr (g.e1 (by omega) (by omega)), a⟩ (r.cool H.1.2.2.1))
theorem cIn.l0 {ω' : CS} (t : cIn ω ω1 y) (g : cL0 ω1 ω') : cIn ω ω' y := ⟨t.1.tr g.e1, t.2.h (by omega) g.h⟩
theorem c_sp {l : Nat} {k : Int32 → CS → Prop} (H : cQq T q ω κ x) (t : cIn ω ω1 y) (r : aR x y) (hl : l < mOf x) (h : ∀ ω', cIn ω ω' y → k (b2I (aSp κ y l)) ω') : cw_isSpoiled T q ω1 1 (nI l) k :=
  c_isSpoiled ((H.1.e1 t.1).ge r.2) r.1 t.2 (by omega) (by rw [r.m]; exact hl) (fun ω' g => h ω' (t.l0 g))
theorem c_take {l u : Nat} {k : Int32 → CS → Prop} (H : cQq T q ω κ x) (t : cIn ω ω1 y) (r : aR x y) (hl : l < mOf x) (hu : u < 4) (h : ∀ ω', cIn ω ω' y → k (aTake κ y l u) ω') : cw_takesOf T q ω1 1 (nI l) (nI u) (ω1.1.1 7 u) k := by
  rw [show ω1.1.1 7 u = y u from t.2.1 u hu]
  exact c_takesOf ((H.1.e1 t.1).ge r.2) r.1 t.2 (by omega) (by rw [r.m]; exact hl) hu (fun ω' g => h ω' (t.l0 g))
theorem c_all {l : Nat} {k : Int32 → CS → Prop} (H : cQq T q ω κ x) (t : cIn ω ω1 y) (r : aR x y) (hl : l < mOf x) (h : ∀ ω', cIn ω ω' y → k (aSum κ y l) ω') : cw_takesAll T q ω1 1 (nI l) k :=
  c_takesAll ((H.1.e1 t.1).ge r.2) r.1 t.2 (by omega) (by rw [r.m]; exact hl) (fun ω' g => h ω' (t.l0 g))
theorem c_many (H : cQq T q ω κ x) (t : cIn ω ω1 y) : ω1.1.1 0 3 = nI (mOf x) := by
  rw [t.1.2.2.2 3 (by omega), H.1.1]
  exact (mOf_le H.2.2).2
theorem t_many (H : tQ σ0 κ x) (t : tI σ0 σ y) (r : aR x y) : σ.1 1 5 = nI (mOf x) := by
  rw [t.1, r.2 5 (by omega)]
  exact (mOf_le H.ok).2
end IN
section Q
variable {T : xT} {q : Nat → Nat} {ω : CS} {σ : TS} {κ : KD} {x : SS}
theorem nI_eqI {a b : Nat} (ha : a < 2 ^ 31) (hb : b < 2 ^ 31) : nI a = nI b ↔ a = b := nI_eq ha hb
theorem J_told (H : Qc T q ω σ κ x) (x1 : Int32) : JQ ω σ (tw_told σ x1) (cw_told T q ω x1) := by
  have hx := H.ok
  obtain ⟨rfl, hk, zx, z3, hS, hA⟩ := H
  unfold tw_told cw_told
  by_cases h5 : 0 ≤ x1 ∧ x1 ≤ 5
  · obtain ⟨j, hj, rfl⟩ := (i_rng (n := 5) (by omega)).mp h5
    by_cases e5 : j = 5
    · subst e5
      refine ⟨κ.2.2.2, fun k h => p_T h5 (bn1 (by decide) (l_readsNow (l := 0) (t := 0) hk.1 (by omega) (by omega) (fun σ' r s => bn0 rfl ?_))), fun k h => c_tasteF ?_ (br1 rfl (bn1 (by decide) (bn0 rfl ⟨κ, hS.2.1, h ω cE1.rf⟩)))⟩
      · rw [s.2.2]; exact h σ' r.e1
      · rintro ⟨t, ht, e⟩
        have := (nI_eq (by omega) (by omega)).mp e
        omega
    · refine ⟨σ.1 1 j, fun k h => p_T h5 (bn1 (by decide) (l_readsNow (l := 0) (t := 0) hk.1 (by omega) (by omega) (fun σ' r s => bn1 (fun c => ?_) ?_))), fun k h => ?_⟩
      · have := (nI_eq (b := 5) (by omega) (by omega)).mp c
        omega
      · rw [nI_clamp (by omega), r.1 1 (by omega)]
        exact ⟨vp_in_nI (by omega) (by omega), h σ' r.e1⟩
      · by_cases e4 : j = 4
        · subst e4
          refine c_tasteF ?_ (br1 rfl (bn0 rfl ?_))
          · rintro ⟨t, ht, e⟩
            have := (nI_eq (by omega) (by omega)).mp e
            omega
          · have := hA.2
            rw [show ω.1.1 4 1 = σ.1 1 4 from this]
            exact h ω cE1.rf
        · refine c_tasteT (by omega) (br0 (by decide) ⟨vp_in_nI (by omega) (by omega), ?_⟩)
          rw [nI_clamp (by omega), show ω.1.1 5 j = σ.1 1 j from hA.1 j (by omega)]
          exact h ω cE1.rf
  · have hne : ∀ j : Nat, j ≤ 5 → ¬ x1 = nI j := fun j hj e => h5 ((i_rng (n := 5) (by omega)).mpr ⟨j, hj, e⟩)
    refine ⟨-1, fun k h => p_F h5 (bn0 rfl (h σ tE1.rf)), fun k h => c_tasteF ?_ (br1 rfl (bn1 (hne 4 (by omega)) (bn1 (hne 5 (by omega)) (h ω cE1.rf))))⟩
    rintro ⟨t, ht, e⟩
    exact hne t (by omega) e
theorem J_would (H : Qc T q ω σ κ x) (x1 x2 x3 : Int32) : JQ ω σ (tw_would σ x1 x2 x3) (cw_would T q ω x1 x2 x3) := by
  have hx := H.ok
  have HT := H.t
  have HC := H.c
  obtain ⟨rfl, hk, zx, z3, hS, hA⟩ := H
  unfold tw_would cw_would
  by_cases hl : ∃ l : Nat, l < mOf (σ.1 1) ∧ x1 = nI l
  · obtain ⟨l, hl, rfl⟩ := hl
    have hl6 : l < 6 := by have := (mOf_le hx).1; omega
    -- behind the check of the other
    have main : ∀ (o : Option Nat), x2 = (match o with | none => -1 | some j => nI j) → (∀ j, o = some j → j < mOf (σ.1 1)) → JQ ω σ (tw_would_J21 · (nI l) x2 x3 σ) (cw_would_J21 T q · (nI l) x2 x3 ω) := by
      intro o e2 ho
      unfold tw_would_J21 cw_would_J21
      by_cases h4 : 0 ≤ x3 ∧ x3 ≤ 4
      · by_cases hne : nI l = x2
        · exact ⟨-2, fun k h => p_T h4 (bn1 (by decide) (bn0 hne (h σ tE1.rf))), fun k h => q_T h4 (bn1 (by decide) (bn0 hne (h ω cE1.rf)))⟩
        · obtain ⟨w, hw, rfl⟩ := (i_rng (n := 4) (by omega)).mp h4
          -- the row behind the other's bake
          have fin : ∀ y : SS, aR (σ.1 1) y → ∃ v : Int32, (∀ (k : Int32 → TS → Prop) (σ1 : TS) (u : Int32), (∀ σ', tE1 σ σ' → k v σ') → tI σ σ1 y → tw_would_J61 k (nI l) (nI w) u σ1) ∧ (∀ (k : Int32 → CS → Prop) (ω1 : CS), (∀ ω', cE1 ω ω' → k v ω') → cIn ω ω1 y → cw_would_J66 T q k (nI l) (nI w) ω1) := by
            intro y r
            unfold tw_would_J61 cw_would_J66 tw_would_J90
            by_cases e4 : w = 4
            · subst e4
              refine ⟨b2I (aSp κ y l), fun k σ1 u h t => br1 (by decide) (t_sp HT t r hl (fun σ2 t2 => ?_)), fun k ω1 h t => bn0 rfl (c_sp HC t r hl (fun ω2 t2 => ?_))⟩
              · cases hb : aSp κ y l
                · rw [hb] at h; exact br1 rfl (t_end HT t2 r h)
                · rw [hb] at h; exact br0 (by decide) (t_end HT t2 r h)
              · cases hb : aSp κ y l
                · rw [hb] at h; exact br1 rfl (h ω2 t2.1)
                · rw [hb] at h; exact br0 (by decide) (h ω2 t2.1)
            · have hw4 : w < 4 := by omega
              refine ⟨aTake κ y l w, fun k σ1 u h t => br0 (lt4 hw4) (t_take HT t r hl hw4 (fun σ2 t2 => t_end HT t2 r h)), fun k ω1 h t => bn1 (fun c => ?_) ⟨vp_in_nI hw4 (by omega), ?_⟩⟩
              · have := (nI_eq (b := 4) (by omega) (by omega)).mp c
                omega
              · rw [nI_clamp (by omega)]
                exact c_take HC t r hl hw4 (fun ω2 t2 => h ω2 t2.1)
          obtain ⟨t0, r0⟩ := c_begin HC
          cases o with
          | none =>
            have e2 : x2 = -1 := e2
            obtain ⟨v, f1, f2⟩ := fin _ (aR.rf hx)
            refine ⟨v, fun k h => p_T h4 (bn1 (by decide) (bn1 hne (t_begin HT (fun σ1 t1 r1 => br1 (by rw [e2]; decide) (f1 k σ1 0 h t1))))), fun k h => q_T h4 (bn1 (by decide) (bn1 hne (br1 e2 (f2 k _ h t0))))⟩
          | some j =>
            have e2 : x2 = nI j := e2
            subst e2
            have hj := ho j rfl
            have hj6 : j < 6 := by have := (mOf_le hx).1; omega
            obtain ⟨v, f1, f2⟩ := fin _ ((aR.rf hx).go hk.1.small hj6)
            refine ⟨v, fun k h => p_T h4 (bn1 (by decide) (bn1 hne (t_begin HT (fun σ1 t1 r1 => br0 (nI_pos (by omega)) (t_go HT t1 r1 hj (fun σ2 t2 r2 => ?_)))))), fun k h => q_T h4 (bn1 (by decide) (bn1 hne (br0 (fun c => ?_) ?_)))⟩
            · exact ⟨fun _ => f1 k σ2 0 h t2, fun _ => f1 k σ2 1 h t2⟩
            · exact nI_pos (n := j) (by omega) (by rw [c]; decide)
            · intro w1 e1
              subst e1
              exact c_go HC t0 r0 hj (fun ω2 t2 r2 _ => f2 k ω2 h t2)
      · exact ⟨-1, fun k h => p_F h4 (bn0 rfl (h σ tE1.rf)), fun k h => q_F h4 (bn0 rfl (h ω cE1.rf))⟩
    by_cases h1 : x2 = -1
    · obtain ⟨v, m1, m2⟩ := main none h1 (fun j e => by cases e)
      exact ⟨v, fun k h => l_loafT hx hl (br0 (by decide) (br1 h1 (m1 k h))), fun k h => c_loafT hx hS.1 hl (br0 (by decide) (br1 h1 (m2 k h)))⟩
    · by_cases ho : ∃ j : Nat, j < mOf (σ.1 1) ∧ x2 = nI j
      · obtain ⟨j, hj, e2⟩ := ho
        obtain ⟨v, m1, m2⟩ := main (some j) e2 (fun i e => by cases e; exact hj)
        subst e2
        exact ⟨v, fun k h => l_loafT hx hl (br0 (by decide) (br0 h1 (l_loafT hx hj (br0 (by decide) (m1 k h))))), fun k h => c_loafT hx hS.1 hl (br0 (by decide) (br0 h1 (c_loafT hx hS.1 hj (br0 (by decide) (m2 k h)))))⟩
      · exact ⟨-1, fun k h => l_loafT hx hl (br0 (by decide) (br0 h1 (l_loafF hx ho (br1 rfl (h σ tE1.rf))))), fun k h => c_loafT hx hS.1 hl (br0 (by decide) (br0 h1 (c_loafF hx hS.1 ho (br1 rfl (h ω cE1.rf)))))⟩
  · exact ⟨-1, fun k h => l_loafF hx hl (br1 rfl (h σ tE1.rf)), fun k h => c_loafF hx hS.1 hl (br1 rfl (h ω cE1.rf))⟩
end Q
