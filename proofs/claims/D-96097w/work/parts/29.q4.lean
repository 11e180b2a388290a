/-! PLAIN: questions: swaps, year -/
set_option maxRecDepth 100000
/-- places k, k + 1 changed (c: the first of them; 99: none) -/
def pm (c k : Nat) : Nat := if k = c then k + 1 else if k = c + 1 then k - 1 else k
theorem pm_inj {c i j : Nat} (h : pm c i = pm c j) : i = j := by
  unfold pm at h
  by_cases a : i = c <;> by_cases b : i = c + 1 <;> by_cases d : j = c <;> by_cases e : j = c + 1 <;> simp [a, b, d, e] at h <;> omega
/-- what l takes in the row; acc ahead of its place -/
def aRow (κ : KD) (c l : Nat) : Nat → Nat → SS → Int32 → Int32
  | 0, _, _, acc => acc
  | r + 1, k, y, acc => aRow κ c l r (k + 1) (aGo κ y (pm c k)) (if pm c k = l then aSum κ y l else acc)
theorem aRow_skip (κ : KD) (c l : Nat) : ∀ (r k : Nat) (y : SS) (acc : Int32), (∀ i, k ≤ i → pm c i ≠ l) → aRow κ c l r k y acc = acc
  | 0, _, _, _, _ => rfl
  | r + 1, k, y, acc, h => by
    rw [aRow, if_neg (h k (Nat.le_refl k))]
    exact aRow_skip κ c l r (k + 1) _ acc (fun i hi => h i (by omega))
theorem aSum_small {κ : KD} {x : SS} {l : Nat} (h : ∀ t, t < 4 → smallN (x t) 9999) : smallN (aSum κ x l) 39996 := by
  obtain ⟨i0, j0, -, e0, a0, b0⟩ := aTake_small (κ := κ) (l := l) (h 0 (by omega))
  obtain ⟨i1, j1, -, e1, a1, b1⟩ := aTake_small (κ := κ) (l := l) (h 1 (by omega))
  obtain ⟨i2, j2, -, e2, a2, b2⟩ := aTake_small (κ := κ) (l := l) (h 2 (by omega))
  obtain ⟨i3, j3, -, e3, a3, b3⟩ := aTake_small (κ := κ) (l := l) (h 3 (by omega))
  unfold aSum
  rw [e0, e1, e2, e3, i_0add, nI_add, nI_add, nI_add]
  exact ⟨_, by omega, rfl⟩
theorem aRow_small {κ : KD} (hκ : kdB κ 10) {x : SS} {c l : Nat} : ∀ (r k : Nat) (y : SS) (acc : Int32), aR x y → (∀ i, k ≤ i → i < k + r → pm c i < 6) → smallN acc 39996 → smallN (aRow κ c l r k y acc) 39996
  | 0, _, _, _, _, _, h => h
  | r + 1, k, y, acc, hr, hp, h => by
    rw [aRow]
    refine aRow_small hκ r (k + 1) _ _ (hr.go hκ (hp k (by omega) (by omega))) (fun i h1 h2 => hp i (by omega) (by omega)) ?_
    by_cases e : pm c k = l
    · rw [if_pos e]; exact aSum_small hr.1.1
    · rw [if_neg e]; exact h
section Q
variable {T : xT} {q : Nat → Nat} {ω : CS} {σ : TS} {κ : KD} {x : SS}
def aRw (κ : KD) (x : SS) (c l : Nat) : Int32 := aRow κ c l (mOf x) 0 x 0
/-- a change as the twin is told it, as the component is -/
def isCh (c m : Nat) : Prop := c = 99 ∨ c + 1 < m
theorem pm_lt {c m k : Nat} (hc : isCh c m) (hk : k < m) (hm : m ≤ 6) : pm c k < m := by
  unfold pm
  rcases hc with rfl | hc
  · rw [if_neg (by omega), if_neg (by omega)]; exact hk
  · by_cases a : k = c
    · rw [if_pos a]; omega
    · rw [if_neg a]
      by_cases b : k = c + 1
      · rw [if_pos b]; omega
      · rw [if_neg b]; exact hk
theorem l_row {l c : Nat} {v : Int32} {k : Int32 → TS → Prop} (H : tQ σ κ x) (hl : l < mOf x) (hc : isCh c (mOf x)) (hv : v = if c = 99 then -5 else nI c) (h : ∀ σ', tE1 σ σ' → k (aRw κ x c l) σ') : tw_takesInRow σ (nI l) v k := by
  have h6 := (mOf_le H.ok).1
  have L : ∀ (r j : Nat) (σ1 : TS) (y : SS) (acc : Int32), j + r = mOf x → tI σ σ1 y → aR x y → aRow κ c l r j y acc = aRw κ x c l → tw_takesInRow_L9 k (r + 1) (nI l) v acc (nI j) σ1 := by
    intro r
    induction r with
    | zero =>
      intro j σ1 y acc hj t r0 e
      rw [tw_takesInRow_L9, tc5, t_many H t r0]
      refine ⟨vi5, br1 ((nI_leI (by omega) (by omega)).mpr (by omega)) (t_end H t r0 (fun σ2 t2 => ?_))⟩
      have e' : acc = aRw κ x c l := e
      rw [e']
      exact h σ2 t2
    | succ r ih =>
      intro j σ1 y acc hj t r0 e
      rw [tw_takesInRow_L9, tc5, t_many H t r0]
      rw [aRow] at e
      have hp := pm_lt hc (k := j) (by omega) h6
      have go : ∀ o : Int32, o = nI (pm c j) → tw_takesInRow_J54 (fun x1 x2 x3 x4 s => tw_takesInRow_L9 k (r + 1) x1 x2 x3 x4 s) k (nI l) v acc (nI j) o σ1 := by
        intro o ho
        subst ho
        have bk : ∀ (w : Int32) (σ2 : TS), tI σ σ2 y → w = (if pm c j = l then aSum κ y l else acc) → tw_takesInRow_J71 (fun x1 x2 x3 x4 s => tw_takesInRow_L9 k (r + 1) x1 x2 x3 x4 s) k (nI l) v (nI j) (nI (pm c j)) w σ2 := by
          intro w σ2 t2 hw
          unfold tw_takesInRow_J71
          refine t_go H t2 r0 hp (fun σ3 t3 r3 => ?_)
          intro z hz
          subst hz
          rw [nI_1]
          exact ih (j + 1) σ3 _ w (by omega) t3 r3 (by rw [hw]; exact e)
        unfold tw_takesInRow_J54
        refine ⟨fun hne => bk acc σ1 t ?_, fun he => t_all H t r0 hl (fun σ2 t2 => bk _ σ2 t2 ?_)⟩
        · rw [if_neg (fun z => hne (by rw [z]))]
        · rw [if_pos ((nI_eq (by omega) (by omega)).mp he)]
      refine ⟨vi5, br0 (nlt (by omega) (by omega)) ?_⟩
      by_cases h99 : c = 99
      · rw [if_pos h99] at hv
        have hpj : pm c j = j := by unfold pm; rw [if_neg (by omega), if_neg (by omega)]
        have n1 : ¬ nI j = v := fun z => by
          have h0 := nI_pos (n := j) (by omega)
          rw [z, hv] at h0
          exact h0 (by decide)
        refine bn1 n1 ⟨fun _ => go _ (by rw [hpj]), fun _ => br1 (by rw [hv]; decide) (go _ (by rw [hpj]))⟩
      · rw [if_neg h99] at hv
        have hc' : c + 1 < mOf x := hc.resolve_left h99
        subst hv
        by_cases a : j = c
        · subst a
          refine bn0 rfl (go _ ?_)
          unfold pm
          rw [if_pos rfl, nI_1]
        · have n1 : ¬ nI j = nI c := fun z => a ((nI_eq (by omega) (by omega)).mp z)
          refine bn1 n1 ?_
          rw [nI_1]
          by_cases b : j = c + 1
          · subst b
            refine bn0 rfl (br0 (nI_pos (by omega)) (go _ ?_))
            unfold pm
            rw [if_neg (by omega), if_pos rfl, nI_pred]
            rfl
          · have n2 : ¬ nI j = nI (c + 1) := fun z => b ((nI_eq (by omega) (by omega)).mp z)
            refine bn1 n2 (go _ ?_)
            unfold pm
            rw [if_neg a, if_neg b]
  unfold tw_takesInRow
  exact t_begin H (fun σ1 t1 r1 => ⟨mOf x + 1, L (mOf x) 0 σ1 x 0 (by omega) t1 r1 rfl⟩)
theorem c_row {l c : Nat} {v : Int32} {k : Int32 → CS → Prop} (H : cQq T q ω κ x) (hl : l < mOf x) (hc : isCh c (mOf x)) (hv : v = if c = 99 then -1 else nI c) (h : ∀ ω', cE1 ω ω' → k (aRw κ x c l) ω') : cw_takesChanged T q ω (nI l) v k := by
  have h6 := (mOf_le H.2.2).1
  have L : ∀ (r j : Nat) (ω1 : CS) (y : SS), j + r = mOf x → cIn ω ω1 y → aR x y → aRow κ c l r j y 0 = aRw κ x c l → cw_takesChanged_L13 T q k (r + 1) (nI l) v (nI j) ω1 := by
    intro r
    induction r with
    | zero =>
      intro j ω1 y hj t r0 e
      rw [cw_takesChanged_L13, c_many H t]
      refine br1 ((nI_leI (by omega) (by omega)).mpr (by omega)) ?_
      have e' : 0 = aRw κ x c l := e
      rw [e']
      exact h ω1 t.1
    | succ r ih =>
      intro j ω1 y hj t r0 e
      rw [cw_takesChanged_L13, c_many H t]
      rw [aRow] at e
      have hp := pm_lt hc (k := j) (by omega) h6
      have go : ∀ o : Int32, o = nI (pm c j) → cw_takesChanged_J55 T q (fun x1 x2 x3 s => cw_takesChanged_L13 T q k (r + 1) x1 x2 x3 s) k (nI l) v (nI j) o ω1 := by
        intro o ho
        subst ho
        unfold cw_takesChanged_J55
        refine c_go H t r0 hp (fun ω2 t2 r2 hk => ⟨fun hne => ?_, fun he => ?_⟩)
        · rw [if_neg (fun z => hne (by rw [z]))] at e
          intro z hz
          subst hz
          rw [nI_1]
          exact ih (j + 1) ω2 _ (by omega) t2 r2 e
        · have hpl : pm c j = l := (nI_eq (by omega) (by omega)).mp he
          rw [if_pos hpl, aRow_skip κ c l r (j + 1) _ _ (fun i hi z => by
            have := pm_inj (z.trans hpl.symm)
            omega)] at e
          rw [hpl] at hk
          refine c_takenAll hk ?_
          rw [e]
          exact h ω2 t2.1
      refine br0 (nlt (by omega) (by omega)) ?_
      by_cases h99 : c = 99
      · rw [if_pos h99] at hv
        have hpj : pm c j = j := by unfold pm; rw [if_neg (by omega), if_neg (by omega)]
        exact bn0 hv (go _ (by rw [hpj]))
      · rw [if_neg h99] at hv
        have hc' : c + 1 < mOf x := hc.resolve_left h99
        subst hv
        refine bn1 (fun z => ?_) ?_
        · have h0 := nI_pos (n := c) (by omega)
          rw [z] at h0
          exact h0 (by decide)
        by_cases a : j = c
        · subst a
          refine bn0 rfl (go _ ?_)
          unfold pm
          rw [if_pos rfl, nI_1]
        · have n1 : ¬ nI j = nI c := fun z => a ((nI_eq (by omega) (by omega)).mp z)
          refine bn1 n1 ?_
          rw [nI_1]
          by_cases b : j = c + 1
          · subst b
            refine bn0 rfl (go _ ?_)
            unfold pm
            rw [if_neg (by omega), if_pos rfl, nI_pred]
            rfl
          · have n2 : ¬ nI j = nI (c + 1) := fun z => b ((nI_eq (by omega) (by omega)).mp z)
            refine bn1 n2 (go _ ?_)
            unfold pm
            rw [if_neg a, if_neg b]
  obtain ⟨t0, r0⟩ := c_begin H
  exact ⟨mOf x + 1, L (mOf x) 0 _ x (by omega) t0 r0 rfl⟩
theorem aRw_small (H : tQ σ κ x) {l c : Nat} (hc : isCh c (mOf x)) : smallN (aRw κ x c l) 39996 := by
  have h6 := (mOf_le H.ok).1
  exact aRow_small H.2.1.1.small (mOf x) 0 x 0 (aR.rf H.ok) (fun i _ h2 => by have := pm_lt hc (k := i) (by omega) h6; omega) ⟨0, by omega, rfl⟩
theorem sub_pos {a b : Nat} (ha : a < 2 ^ 30) (hb : b < 2 ^ 30) : 0 < nI a - nI b ↔ nI b < nI a := by
  rw [Int32.lt_iff_toInt_lt, Int32.lt_iff_toInt_lt, pk_sub_toInt ha hb, nI_toInt (by omega), nI_toInt (by omega)]
  have e2 : (0 : Int32).toInt = 0 := by decide
  omega
theorem sub2_le {a b c d : Nat} (ha : a < 2 ^ 20) (hb : b < 2 ^ 20) (hc : c < 2 ^ 20) (hd : d < 2 ^ 20) : 0 ≤ (nI a - nI b) + (nI c - nI d) ↔ nI b + nI d ≤ nI a + nI c := by
  have e : (nI a - nI b) + (nI c - nI d) = nI (a + c) - nI (b + d) := by
    rw [← nI_add, ← nI_add]
    simp only [Int32.sub_eq_add_neg, Int32.neg_add]
    ac_rfl
  rw [e, nI_add, nI_add, Int32.le_iff_toInt_le, Int32.le_iff_toInt_le, pk_sub_toInt (by omega) (by omega), nI_toInt (by omega), nI_toInt (by omega)]
  have e2 : (0 : Int32).toInt = 0 := by decide
  omega
theorem J_swaps (H : Qc T q ω σ κ x) (x1 : Int32) : JQ ω σ (tw_swaps σ x1) (cw_swaps T q ω x1) := by
  have hx := H.ok
  have HT := H.t
  have HC := H.c
  have e1 := H.1
  have h6 := (mOf_le hx).1
  unfold tw_swaps cw_swaps
  by_cases hl : ∃ l : Nat, l < mOf x ∧ x1 = nI l
  · obtain ⟨l, hl, rfl⟩ := hl
    have ex : x 5 - 1 = nI (mOf x - 1) := by
      rw [(mOf_le hx).2]
      have := nI_pred (mOf x - 1)
      rw [show mOf x - 1 + 1 = mOf x by omega] at this
      exact this
    by_cases hl2 : l + 1 < mOf x
    · obtain ⟨a, ha, ea⟩ := aRw_small HT (l := l) (c := 99) (Or.inl rfl)
      obtain ⟨b, hb, eb⟩ := aRw_small HT (l := l + 1) (c := 99) (Or.inl rfl)
      obtain ⟨ta, hta, eta⟩ := aRw_small HT (l := l) (c := l) (Or.inr hl2)
      obtain ⟨tb, htb, etb⟩ := aRw_small HT (l := l + 1) (c := l) (Or.inr hl2)
      have hn99 : ¬ l = 99 := by omega
      refine ⟨if nI a < nI ta then 0 else if nI b < nI tb then 0 else if nI a + nI b ≤ nI ta + nI tb then 0 else 1, fun k h => l_loafT (by rw [e1]; exact hx) (by rw [e1]; exact hl) (br0 (by decide) ?_), fun k h => c_loafT hx HC.1.1 hl (br0 (by decide) (bn1 ?_ ?_))⟩
      · rw [nI_1]
        refine l_loafT (by rw [e1]; exact hx) (by rw [e1]; exact hl2) (bn1 (by decide) ?_)
        refine l_row (c := 99) HT hl (Or.inl rfl) rfl (fun σ1 t1 => l_row (c := 99) (HT.e1 t1) hl2 (Or.inl rfl) rfl (fun σ2 t2 => l_row (c := l) ((HT.e1 t1).e1 t2) hl (Or.inr hl2) (by rw [if_neg hn99]) (fun σ3 t3 => l_row (c := l) (((HT.e1 t1).e1 t2).e1 t3) hl2 (Or.inr hl2) (by rw [if_neg hn99]) (fun σ4 t4 => ?_))))
        have T4 := ((t1.tr t2).tr t3).tr t4
        rw [ea, eb, eta, etb]
        have hh := h σ4 T4
        refine ⟨fun c1 => ?_, fun c1 => ⟨fun c2 => ?_, fun c2 => ⟨fun c3 => ?_, fun c3 => ?_⟩⟩⟩
        · rw [if_pos c1] at hh; exact hh
        · rw [if_neg c1, if_pos c2] at hh; exact hh
        · rw [if_neg c1, if_neg c2, if_pos c3] at hh; exact hh
        · rw [if_neg c1, if_neg c2, if_neg c3] at hh; exact hh
      · rw [HC.1.1, ex]
        intro c
        have := (nI_eq (by omega) (by omega)).mp c
        omega
      · rw [nI_1]
        refine c_row (c := l) HC hl (Or.inr hl2) (by rw [if_neg hn99]) (fun ω1 t1 => c_row (c := 99) (HC.e1 t1) hl (Or.inl rfl) rfl (fun ω2 t2 => ?_))
        intro u hu
        refine c_row (c := l) ((HC.e1 t1).e1 t2) hl2 (Or.inr hl2) (by rw [if_neg hn99]) (fun ω3 t3 => c_row (c := 99) (((HC.e1 t1).e1 t2).e1 t3) hl2 (Or.inl rfl) rfl (fun ω4 t4 => ?_))
        intro w hw
        have T4 := ((t1.tr t2).tr t3).tr t4
        rw [ea, eta] at hu
        rw [eb, etb] at hw
        subst hu
        subst hw
        have hh := h ω4 T4
        rw [sub_pos (by omega) (by omega), sub_pos (by omega) (by omega), sub2_le (by omega) (by omega) (by omega) (by omega)]
        refine ⟨fun c1 => ?_, fun c1 => ⟨fun c2 => ?_, fun c2 => ⟨fun c3 => ?_, fun c3 => ?_⟩⟩⟩
        · rw [if_pos c1] at hh; exact hh
        · rw [if_neg c1, if_pos c2] at hh; exact hh
        · rw [if_neg c1, if_neg c2, if_pos c3] at hh; exact hh
        · rw [if_neg c1, if_neg c2, if_neg c3] at hh; exact hh
    · refine ⟨-1, fun k h => l_loafT (by rw [e1]; exact hx) (by rw [e1]; exact hl) (br0 (by decide) ?_), fun k h => c_loafT hx HC.1.1 hl (br0 (by decide) (bn0 ?_ (h ω cE1.rf)))⟩
      · rw [nI_1]
        refine l_loafF (by rw [e1]; exact hx) (fun c => ?_) (bn0 rfl (h σ tE1.rf))
        obtain ⟨j, hj, e⟩ := c
        rw [e1] at hj
        have := (nI_eq (by omega) (by omega)).mp e
        omega
      · rw [HC.1.1, ex]
        congr 1
        omega
  · exact ⟨-1, fun k h => l_loafF (by rw [e1]; exact hx) (by rw [e1]; exact hl) (br1 rfl (h σ tE1.rf)), fun k h => c_loafF hx HC.1.1 hl (br1 rfl (h ω cE1.rf))⟩
/-! a year: nights, bakes one by one -/
def aYr (κ : KD) (f : Int32) (m : Nat) : Nat → Nat → Nat → SS → Nat × SS
  | 0, _, s, y => (s, y)
  | r + 1, b, s, y => if y 4 - y 4 / f * f = 0 then aYr κ f m r b s (aCool κ y) else aYr κ f m r (b + 1) (if aSp κ y (b % m) then s + 1 else s) (aGo κ y (b % m))
theorem J_year (H : Qc T q ω σ κ x) (x1 x2 x3 : Int32) : JQ ω σ (tw_year σ x1 x2 x3) (cw_year T q ω x1 x2 x3) := by
  have hx := H.ok
  have HT := H.t
  have HC := H.c
  have e1 := H.1
  obtain ⟨h6, e5⟩ := mOf_le hx
  unfold tw_year cw_year
  by_cases hw : 0 ≤ x3 ∧ x3 ≤ 4
  · by_cases hn : 0 ≤ x1 ∧ x1 ≤ 60
    · by_cases hf : 2 ≤ x2 ∧ x2 ≤ 30
      · by_cases hm : mOf x = 0
        · refine ⟨-100003, fun k h => p_T hw (bn1 (by decide) (p_T hn (br0 (by decide) (p_T hf (bn1 (by decide) ⟨vi5, ?_⟩))))), fun k h => q_T hw (bn1 (by decide) (q_T hn (br0 (by decide) (q_T hf (bn1 (by decide) ?_)))))⟩
          · rw [tc5, e1, e5, hm]
            exact bn0 rfl (h σ tE1.rf)
          · rw [HC.1.1, e5, hm]
            exact bn0 rfl (h ω cE1.rf)
        · have hm0 : ¬ nI (mOf x) = 0 := nI_ne0 (by omega) (by omega)
          have hf0 : ¬ x2 = 0 := fun c => by rw [c] at hf; exact absurd hf.1 (by decide)
          obtain ⟨w, hw', rfl⟩ := (i_rng (n := 4) (by omega)).mp hw
          obtain ⟨n, hn', rfl⟩ := (i_rng (n := 60) (by omega)).mp hn
          have rem : ∀ b : Nat, b < 2 ^ 31 → nI b - nI b / nI (mOf x) * nI (mOf x) = nI (b % mOf x) := fun b hb => pk_rem hb (by omega) (by omega)
          have main : ∀ R : Nat × SS, R = aYr κ x2 (mOf x) n 0 0 x → JQ ω σ (fun k => tw_begins σ (fun s50 => ∃ n62 : Nat, tw_year_L62 k n62 (nI n) x2 (nI w) 0 0 0 s50)) (fun k => ∃ n68 : Nat, cw_year_L68 T q k n68 (nI n) x2 (nI w) 0 0 0 ((cTk ω 1 0))) := by
            intro R hR
            refine ⟨if w = 4 then nI R.1 else R.2 w, fun k h => t_begin HT (fun σ1 t1 r1 => ⟨n + 1, ?_⟩), fun k h => ⟨n + 1, ?_⟩⟩
            · have L : ∀ (r j b s : Nat) (σ1 : TS) (y : SS), j + r = n → b ≤ j → tI σ σ1 y → aR x y → aYr κ x2 (mOf x) r b s y = R → tw_year_L62 k (r + 1) (nI n) x2 (nI w) (nI b) (nI s) (nI j) σ1 := by
                intro r
                induction r with
                | zero =>
                  intro j b s σ1 y hj hb t r0 e
                  rw [tw_year_L62]
                  refine br1 ((nI_leI (by omega) (by omega)).mpr (by omega)) ?_
                  have e' : (s, y) = R := e
                  rw [← e'] at h
                  refine ⟨fun c => ?_, fun c => ?_⟩
                  · have hw4 : ¬ w = 4 := fun z => c (by rw [z]; rfl)
                    rw [if_neg hw4] at h
                    rw [nI_clamp (by omega), t.1]
                    exact ⟨vp_in_nI (by omega) (by omega), t_end HT t r0 h⟩
                  · have hw4 : w = 4 := (nI_eq (b := 4) (by omega) (by omega)).mp c
                    rw [if_pos hw4] at h
                    exact t_end HT t r0 h
                | succ r ih =>
                  intro j b s σ1 y hj hb t r0 e
                  rw [tw_year_L62, tc4, tc5, t_many HT t r0, t.1]
                  rw [aYr] at e
                  refine br0 (nlt (by omega) (by omega)) ⟨vi4, hf0, fun c => ?_, fun c => ?_⟩
                  · rw [if_neg c] at e
                    rw [rem b (by omega)]
                    refine ⟨vi5, hm0, t_go HT t r0 (Nat.mod_lt _ (by omega)) (fun σ2 t2 r2 => ?_)⟩
                    cases hb : aSp κ y (b % mOf x) with
                    | false =>
                      rw [hb] at e
                      refine br1 rfl ?_
                      intro u hu v hv z hz
                      subst hu
                      subst hv
                      subst hz
                      rw [nI_1, nI_1, i_add0]
                      exact ih (j + 1) (b + 1) s σ2 _ (by omega) (by omega) t2 r2 e
                    | true =>
                      rw [hb] at e
                      refine br0 (by decide) ?_
                      intro u hu v hv z hz
                      subst hu
                      subst hv
                      subst hz
                      rw [nI_1, nI_1, nI_1]
                      exact ih (j + 1) (b + 1) (s + 1) σ2 _ (by omega) (by omega) t2 r2 e
                  · rw [if_pos c] at e
                    refine t_cool HT t r0 (fun σ2 t2 r2 => ?_)
                    intro z hz
                    subst hz
                    rw [nI_1]
                    exact ih (j + 1) b s σ2 _ (by omega) (by omega) t2 r2 e
              exact L n 0 0 0 σ1 x (by omega) (by omega) t1 r1 hR.symm
            · have L : ∀ (r j b s : Nat) (ω1 : CS) (y : SS), j + r = n → b ≤ j → cIn ω ω1 y → aR x y → aYr κ x2 (mOf x) r b s y = R → cw_year_L68 T q k (r + 1) (nI n) x2 (nI w) (nI b) (nI s) (nI j) ω1 := by
                intro r
                induction r with
                | zero =>
                  intro j b s ω1 y hj hb t r0 e
                  rw [cw_year_L68]
                  refine br1 ((nI_leI (by omega) (by omega)).mpr (by omega)) ?_
                  have e' : (s, y) = R := e
                  rw [← e'] at h
                  refine ⟨fun c => ?_, fun c => ?_⟩
                  · have hw4 : ¬ w = 4 := fun z => c (by rw [z]; rfl)
                    rw [if_neg hw4] at h
                    rw [nI_clamp (by omega), show ω1.1.1 7 w = y w from t.2.1 w (by omega)]
                    exact ⟨vp_in_nI (by omega) (by omega), h ω1 t.1⟩
                  · have hw4 : w = 4 := (nI_eq (b := 4) (by omega) (by omega)).mp c
                    rw [if_pos hw4] at h
                    exact h ω1 t.1
                | succ r ih =>
                  intro j b s ω1 y hj hb t r0 e
                  rw [cw_year_L68, c_many HC t, show ω1.1.1 6 1 = y 4 from t.2.2]
                  rw [aYr] at e
                  refine br0 (nlt (by omega) (by omega)) ⟨hf0, fun c => ?_, fun c => ?_⟩
                  · rw [if_neg c] at e
                    intro u hu
                    subst hu
                    rw [nI_1, rem b (by omega)]
                    refine ⟨hm0, c_go HC t r0 (Nat.mod_lt _ (by omega)) (fun ω2 t2 r2 _ => ?_)⟩
                    cases hb : aSp κ y (b % mOf x) with
                    | false =>
                      rw [hb] at e
                      refine br1 rfl ?_
                      intro z hz
                      subst hz
                      rw [nI_1]
                      exact ih (j + 1) (b + 1) s ω2 _ (by omega) (by omega) t2 r2 e
                    | true =>
                      rw [hb] at e
                      refine br0 (by decide) ?_
                      intro v hv z hz
                      subst hv
                      subst hz
                      rw [nI_1, nI_1]
                      exact ih (j + 1) (b + 1) (s + 1) ω2 _ (by omega) (by omega) t2 r2 e
                  · rw [if_pos c] at e
                    refine c_cool HC t r0 (fun ω2 t2 r2 => ?_)
                    intro z hz
                    subst hz
                    rw [nI_1]
                    exact ih (j + 1) b s ω2 _ (by omega) (by omega) t2 r2 e
              obtain ⟨t0, r0⟩ := c_begin HC
              exact L n 0 0 0 _ x (by omega) (by omega) t0 r0 hR.symm
          obtain ⟨v, m1, m2⟩ := main _ rfl
          refine ⟨v, fun k h => p_T hw (bn1 (by decide) (p_T hn (br0 (by decide) (p_T hf (bn1 (by decide) ⟨vi5, ?_⟩))))), fun k h => q_T hw (bn1 (by decide) (q_T hn (br0 (by decide) (q_T hf (bn1 (by decide) ?_)))))⟩
          · rw [tc5, e1, e5]
            exact bn1 hm0 (m1 k h)
          · rw [HC.1.1, e5]
            exact bn1 hm0 (m2 k h)
      · exact ⟨-100002, fun k h => p_T hw (bn1 (by decide) (p_T hn (br0 (by decide) (p_F hf (bn0 rfl (h σ tE1.rf)))))), fun k h => q_T hw (bn1 (by decide) (q_T hn (br0 (by decide) (q_F hf (bn0 rfl (h ω cE1.rf))))))⟩
    · exact ⟨-100002, fun k h => p_T hw (bn1 (by decide) (p_F hn (br1 rfl (h σ tE1.rf)))), fun k h => q_T hw (bn1 (by decide) (q_F hn (br1 rfl (h ω cE1.rf))))⟩
  · exact ⟨-100001, fun k h => p_F hw (bn0 rfl (h σ tE1.rf)), fun k h => q_F hw (bn0 rfl (h ω cE1.rf))⟩
end Q
