/-! PLAIN: questions: odds, mean, two, span -/
set_option maxRecDepth 100000
theorem gcd_step (a b : Nat) : Nat.gcd b (a % b) = Nat.gcd a b := by
  rw [Nat.gcd_comm b, ← Nat.gcd_rec, Nat.gcd_comm]
theorem l_common {k : Int32 → Prop} : ∀ (n a b : Nat), b < n → a < 2 ^ 31 → b < 2 ^ 31 → k (nI (Nat.gcd a b)) → pf_common n (nI a) (nI b) k
  | 0, _, _, h, _, _, _ => absurd h (Nat.not_lt_zero _)
  | n + 1, a, b, h, ha, hb, hk => by
    rw [pf_common]
    unfold pb_common
    by_cases e : b = 0
    · subst e
      rw [Nat.gcd_zero_right] at hk
      exact bn0 rfl hk
    · have hne : ¬ nI b = 0 := nI_ne0 (by omega) hb
      have hlt : a % b < b := Nat.mod_lt _ (by omega)
      refine bn1 hne ⟨hne, ?_⟩
      rw [pk_rem ha (by omega) hb]
      exact l_common n b (a % b) (by omega) hb (by omega) (by rw [gcd_step]; exact hk)
theorem c_common {k : Int64 → Prop} : ∀ (n a b : Nat), b < n → a < 2 ^ 31 → b < 2 ^ 31 → k (lN (Nat.gcd a b)) → qw_divisor_L3 k n (lN b) (lN a)
  | 0, _, _, h, _, _, _ => absurd h (Nat.not_lt_zero _)
  | n + 1, a, b, h, ha, hb, hk => by
    rw [qw_divisor_L3]
    have e0 : (0 : Int64) = lN 0 := rfl
    by_cases e : b = 0
    · subst e
      rw [Nat.gcd_zero_right] at hk
      exact br1 ((lg_cmp_eq _ _).mpr rfl) hk
    · have hne : ¬ lN b = 0 := fun c => by rw [e0] at c; have := (lN_eq hb (by omega)).mp c; omega
      have hlt : a % b < b := Nat.mod_lt _ (by omega)
      refine br0 (fun c => hne ((lg_cmp_eq _ _).mp c)) ⟨hne, ?_⟩
      intro z hz
      rw [pk_lRem (by omega) (by omega) (by omega)] at hz
      subst hz
      exact c_common n b (a % b) (by omega) hb (by omega) (by rw [gcd_step]; exact hk)
def aLow (a b : Nat) (part : Int32) : Int64 := if part = 0 then lN (a / Nat.gcd a b) else lN (b / Nat.gcd a b)
theorem l_lowest {a b : Nat} {p : Int32} {k : Int64 → Prop} (ha : a < 2 ^ 31) (hb0 : 0 < b) (hb : b ≤ 6) (hk : k (aLow a b p)) : pw_lowest (nI a) (nI b) p k := by
  unfold pw_lowest pw_common
  have hg : 0 < Nat.gcd a b := Nat.gcd_pos_of_pos_right a hb0
  have hgb : Nat.gcd a b ≤ b := Nat.gcd_le_right a hb0
  have fin : (fun r2 => (¬ p = 0 → ¬ r2 = 0 ∧ k (((nI b / r2) : Int32).toInt64)) ∧ (p = 0 → ¬ r2 = 0 ∧ k (((nI a / r2) : Int32).toInt64))) (nI (Nat.gcd a b)) := by
    have hne : ¬ nI (Nat.gcd a b) = 0 := nI_ne0 hg (by omega)
    unfold aLow at hk
    refine ⟨fun c => ⟨hne, ?_⟩, fun c => ⟨hne, ?_⟩⟩
    · rw [if_neg c] at hk
      rw [pk_div (by omega) hg (by omega), nI_l (Nat.lt_of_le_of_lt (Nat.div_le_self _ _) (by omega))]
      exact hk
    · rw [if_pos c] at hk
      rw [pk_div (by omega) hg (by omega), nI_l (Nat.lt_of_le_of_lt (Nat.div_le_self _ _) (by omega))]
      exact hk
  rw [pf_common]
  unfold pb_common
  by_cases e : a = 0
  · subst e
    rw [Nat.gcd_zero_left] at fin
    exact bn0 rfl fin
  · have hne : ¬ nI a = 0 := nI_ne0 (by omega) ha
    refine bn1 hne ⟨hne, ?_⟩
    rw [pk_rem (by omega) (by omega) ha]
    have hle : b % a ≤ b := Nat.mod_le b a
    refine l_common 11 a (b % a) (by omega) ha (by omega) ?_
    rw [gcd_step, Nat.gcd_comm]
    exact fin
theorem c_lowest {a b : Nat} {p : Int32} {k : Int64 → Prop} (ha : a < 2 ^ 31) (hb0 : 0 < b) (hb : b ≤ 6) (hk : k (aLow a b p)) : qw_lowest (lN a) (lN b) p k := by
  have hg : 0 < Nat.gcd a b := Nat.gcd_pos_of_pos_right a hb0
  have hgb : Nat.gcd a b ≤ b := Nat.gcd_le_right a hb0
  have hne : ¬ lN (Nat.gcd a b) = 0 := fun c => by
    have := (lN_eq (a := Nat.gcd a b) (b := 0) (by omega) (by omega)).mp c
    omega
  unfold aLow at hk
  unfold qw_lowest qw_lowest_J10
  refine ⟨fun c => ⟨7, c_common 7 a b (by omega) ha (by omega) ⟨hne, ?_⟩⟩, fun c => ⟨7, c_common 7 a b (by omega) ha (by omega) ⟨hne, ?_⟩⟩⟩
  · rw [if_neg c] at hk
    rw [pk_lDiv (by omega) hg (by omega)]
    exact hk
  · rw [if_pos c] at hk
    rw [pk_lDiv (by omega) hg (by omega)]
    exact hk
section Q
variable {T : xT} {q : Nat → Nat} {ω : CS} {σ : TS} {κ : KD} {x : SS}
theorem m_pred {x : SS} (hx : okS x) (h : 0 < mOf x) : x 5 - 1 = nI (mOf x - 1) := by
  rw [(mOf_le hx).2]
  have := nI_pred (mOf x - 1)
  rw [show mOf x - 1 + 1 = mOf x by omega] at this
  exact this
/-- by how many of the others l is spoiled -/
def aOd (κ : KD) (x : SS) (l : Nat) : Nat → Nat → Nat → Nat
  | 0, _, n => n
  | r + 1, j, n => aOd κ x l r (j + 1) (if j = l then n else if aSp κ (aGo κ x j) l then n + 1 else n)
theorem J_odds (H : Qc T q ω σ κ x) (x1 x2 : Int32) : JQL ω σ (tw_odds σ x1 x2) (cw_odds T q ω x1 x2) := by
  have hx := H.ok
  have HT := H.t
  have HC := H.c
  have e1 := H.1
  obtain ⟨h6, e5⟩ := mOf_le hx
  unfold tw_odds cw_odds
  by_cases hl : ∃ l : Nat, l < mOf x ∧ x1 = nI l
  · obtain ⟨l, hl, rfl⟩ := hl
    by_cases hw : 0 ≤ x2 ∧ x2 ≤ 1
    · by_cases hm : mOf x = 1
      · refine ⟨-9223372036854775808, fun k h => l_loafT (by rw [e1]; exact hx) (by rw [e1]; exact hl) (br0 (by decide) (p_T hw (br0 (by decide) ⟨vi5, ?_⟩))), fun k h => c_loafT hx HC.1.1 hl (br0 (by decide) (q_T hw (br0 (by decide) ?_)))⟩
        · rw [tc5, e1, e5, hm]
          exact bn0 rfl (h σ tE1.rf)
        · rw [HC.1.1, e5, hm]
          exact bn0 rfl (h ω cE1.rf)
      · have hm1 : ¬ nI (mOf x) = 1 := fun c => hm ((nI_eq (b := 1) (by omega) (by omega)).mp c)
        refine ⟨aLow (aOd κ x l (mOf x) 0 0) (mOf x - 1) x2, fun k h => l_loafT (by rw [e1]; exact hx) (by rw [e1]; exact hl) (br0 (by decide) (p_T hw (br0 (by decide) ⟨vi5, ?_⟩))), fun k h => c_loafT hx HC.1.1 hl (br0 (by decide) (q_T hw (br0 (by decide) ?_)))⟩
        · rw [tc5, e1, e5]
          refine bn1 hm1 ⟨mOf x + 1, ?_⟩
          have L : ∀ (r j n : Nat) (σ1 : TS), j + r = mOf x → n ≤ j → tE1 σ σ1 → aOd κ x l r j n = aOd κ x l (mOf x) 0 0 → tw_odds_L36 k (r + 1) (nI l) x2 (nI n) (nI j) σ1 := by
            intro r
            induction r with
            | zero =>
              intro j n σ1 hj hn t e
              rw [tw_odds_L36, tc5, (HT.e1 t).1]
              refine ⟨vi5, br1 (by rw [e5]; exact (nI_leI (by omega) (by omega)).mpr (by omega)) ⟨vi5, ?_⟩⟩
              rw [m_pred hx (by omega)]
              refine l_lowest (by omega) (by omega) (by omega) ?_
              have e' : n = aOd κ x l (mOf x) 0 0 := e
              rw [e']
              exact h σ1 t
            | succ r ih =>
              intro j n σ1 hj hn t e
              rw [tw_odds_L36, tc5, (HT.e1 t).1, e5]
              rw [aOd] at e
              refine ⟨vi5, br0 (nlt (by omega) (by omega)) ⟨fun hne => ?_, fun he => ?_⟩⟩
              · rw [if_neg (fun z => hne (by rw [z]))] at e
                refine t_begin (HT.e1 t) (fun σ2 t2 r2 => t_go (HT.e1 t) t2 r2 (by omega) (fun σ3 t3 r3 => t_sp (HT.e1 t) t3 r3 hl (fun σ4 t4 => ?_)))
                have fin : ∀ u w : Int32, nI n + u = w → w = nI (if aSp κ (aGo κ x j) l then n + 1 else n) → tw_odds_J82 (fun x1 x2 x3 x4 s => tw_odds_L36 k (r + 1) x1 x2 x3 x4 s) k (nI l) x2 (nI j) u (nI n) σ4 := by
                  intro u w hu hw2
                  unfold tw_odds_J82
                  intro z hz
                  refine t_end (HT.e1 t) t4 r3 (fun σ5 t5 => ?_)
                  intro y hy
                  subst hy
                  rw [nI_1, hz, hu, hw2]
                  refine ih (j + 1) _ σ5 (by omega) ?_ (t.tr t5) e
                  split <;> omega
                cases hb : aSp κ (aGo κ x j) l with
                | false => rw [hb] at fin; exact br1 rfl (fin 0 _ rfl (by rw [i_add0]; rfl))
                | true => rw [hb] at fin; exact br0 (by decide) (fin 1 _ rfl (by rw [nI_1]; rfl))
              · rw [if_pos ((nI_eq (by omega) (by omega)).mp he)] at e
                intro y hy
                subst hy
                rw [nI_1]
                exact ih (j + 1) n σ1 (by omega) (by omega) t e
          exact L (mOf x) 0 0 σ (by omega) (by omega) tE1.rf rfl
        · rw [HC.1.1, e5]
          refine bn1 hm1 ⟨mOf x + 1, ?_⟩
          have L : ∀ (r j n : Nat) (ω1 : CS), j + r = mOf x → n ≤ j → cE1 ω ω1 → aOd κ x l r j n = aOd κ x l (mOf x) 0 0 → cw_odds_L34 T q k (r + 1) (nI l) x2 (lN n) (nI j) ω1 := by
            intro r
            induction r with
            | zero =>
              intro j n ω1 hj hn t e
              rw [cw_odds_L34, (HC.e1 t).1.1, e5]
              refine br1 ((nI_leI (by omega) (by omega)).mpr (by omega)) ?_
              have em : (nI (mOf x)).toInt64 - 1 = lN (mOf x - 1) := by
                rw [nI_l (by omega)]
                apply Int64.toInt_inj.mp
                have e2 : (lN (mOf x) - 1).toInt = (mOf x : Int) - 1 := by
                  rw [show (1 : Int64) = lN 1 from rfl, Int64.toInt_sub, lN_toInt (by omega), lN_toInt (by omega)]
                  apply Int.bmod_eq_of_le <;> omega
                rw [e2, lN_toInt (by omega)]
                omega
              rw [em]
              refine c_lowest (by omega) (by omega) (by omega) ?_
              have e' : n = aOd κ x l (mOf x) 0 0 := e
              rw [e']
              exact h ω1 t
            | succ r ih =>
              intro j n ω1 hj hn t e
              rw [cw_odds_L34, (HC.e1 t).1.1, e5]
              rw [aOd] at e
              refine br0 (nlt (by omega) (by omega)) ⟨fun hne => ?_, fun he => ?_⟩
              · rw [if_neg (fun z => hne (by rw [z]))] at e
                intro w hw2
                subst hw2
                obtain ⟨t0, r0⟩ := c_begin (HC.e1 t)
                refine c_go (HC.e1 t) t0 r0 (by omega) (fun ω2 t2 r2 _ => c_sp (HC.e1 t) t2 r2 hl (fun ω3 t3 => ?_))
                cases hb : aSp κ (aGo κ x j) l with
                | false =>
                  rw [hb] at e
                  refine br1 rfl ?_
                  intro y hy
                  subst hy
                  rw [nI_1]
                  exact ih (j + 1) n ω3 (by omega) (by omega) (t.tr t3.1) e
                | true =>
                  rw [hb] at e
                  refine br0 (by decide) ?_
                  intro u hu y hy
                  subst hu
                  subst hy
                  rw [nI_1, lN_1]
                  exact ih (j + 1) (n + 1) ω3 (by omega) (by omega) (t.tr t3.1) e
              · rw [if_pos ((nI_eq (by omega) (by omega)).mp he)] at e
                intro y hy
                subst hy
                rw [nI_1]
                exact ih (j + 1) n ω1 (by omega) (by omega) t e
          exact L (mOf x) 0 0 ω (by omega) (by omega) cE1.rf rfl
    · exact ⟨-9223372036854775808, fun k h => l_loafT (by rw [e1]; exact hx) (by rw [e1]; exact hl) (br0 (by decide) (p_F hw (br1 rfl (h σ tE1.rf)))), fun k h => c_loafT hx HC.1.1 hl (br0 (by decide) (q_F hw (br1 rfl (h ω cE1.rf))))⟩
  · exact ⟨-9223372036854775808, fun k h => l_loafF (by rw [e1]; exact hx) (by rw [e1]; exact hl) (br1 rfl (h σ tE1.rf)), fun k h => c_loafF hx HC.1.1 hl (br1 rfl (h ω cE1.rf))⟩
/-- the sum of what all take of a taste -/
def aMe (κ : KD) (x : SS) (t : Nat) : Nat → Nat → Nat → Nat
  | 0, _, n => n
  | r + 1, j, n => aMe κ x t r (j + 1) (n + (aTake κ x j t).toNatClampNeg)
theorem aTake_n {κ : KD} {x : SS} {l t : Nat} (h : smallN (x t) 9999) : aTake κ x l t = nI (aTake κ x l t).toNatClampNeg ∧ (aTake κ x l t).toNatClampNeg ≤ 9999 := by
  obtain ⟨i, j, -, e, h1, h2⟩ := aTake_small (κ := κ) (l := l) h
  rw [e, nI_clamp (by omega)]
  exact ⟨rfl, by omega⟩
theorem J_mean (H : Qc T q ω σ κ x) (x1 x2 : Int32) : JQL ω σ (tw_mean σ x1 x2) (cw_mean T q ω x1 x2) := by
  have hx := H.ok
  have HT := H.t
  have HC := H.c
  have e1 := H.1
  obtain ⟨h6, e5⟩ := mOf_le hx
  unfold tw_mean cw_mean
  by_cases ht : ∃ t : Nat, t < 4 ∧ x1 = nI t
  · obtain ⟨u, hu, rfl⟩ := ht
    by_cases hw : 0 ≤ x2 ∧ x2 ≤ 1
    · by_cases hm : mOf x = 0
      · refine ⟨-9223372036854775808, fun k h => l_tasteT hu (br0 (by decide) (p_T hw (br0 (by decide) ⟨vi5, ?_⟩))), fun k h => c_tasteT hu (br0 (by decide) (q_T hw (br0 (by decide) ?_)))⟩
        · rw [tc5, e1, e5, hm]
          exact bn0 rfl (h σ tE1.rf)
        · rw [HC.1.1, e5, hm]
          exact bn0 rfl (h ω cE1.rf)
      · have hm1 : ¬ nI (mOf x) = 0 := nI_ne0 (by omega) (by omega)
        refine ⟨aLow (aMe κ x u (mOf x) 0 0) (mOf x) x2, fun k h => l_tasteT hu (br0 (by decide) (p_T hw (br0 (by decide) ⟨vi5, ?_⟩))), fun k h => c_tasteT hu (br0 (by decide) (q_T hw (br0 (by decide) ?_)))⟩
        · rw [tc5, e1, e5]
          refine bn1 hm1 ⟨mOf x + 1, ?_⟩
          have L : ∀ (r j n : Nat) (σ1 : TS), j + r = mOf x → n ≤ 9999 * j → tE1 σ σ1 → aMe κ x u r j n = aMe κ x u (mOf x) 0 0 → tw_mean_L34 k (r + 1) (nI u) x2 (nI n) (nI j) σ1 := by
            intro r
            induction r with
            | zero =>
              intro j n σ1 hj hn t e
              rw [tw_mean_L34, tc5, (HT.e1 t).1, e5]
              refine ⟨vi5, br1 ((nI_leI (by omega) (by omega)).mpr (by omega)) ⟨vi5, l_lowest (by omega) (by omega) (by omega) ?_⟩⟩
              have e' : n = aMe κ x u (mOf x) 0 0 := e
              rw [e']
              exact h σ1 t
            | succ r ih =>
              intro j n σ1 hj hn t e
              rw [tw_mean_L34, tc5, (HT.e1 t).1, e5]
              rw [aMe] at e
              have Ht := HT.e1 t
              refine ⟨vi5, br0 (nlt (by omega) (by omega)) (l_takesOf Ht.2.1 (by rw [Ht.1]; exact m_ne hx (show j < mOf x by omega)) (by omega) hu (fun σ2 r2 => ?_))⟩
              rw [Ht.1]
              obtain ⟨b1, b2⟩ := aTake_n (κ := κ) (l := j) (hx.1 u hu)
              intro a ha b hb
              rw [b1, nI_add] at ha
              subst ha
              subst hb
              rw [nI_1]
              exact ih (j + 1) _ σ2 (by omega) (by omega) (t.tr r2.e1) e
          exact L (mOf x) 0 0 σ (by omega) (by omega) tE1.rf rfl
        · rw [HC.1.1, e5]
          refine bn1 hm1 ⟨mOf x + 1, ?_⟩
          have L : ∀ (r j n : Nat) (ω1 : CS), j + r = mOf x → n ≤ 9999 * j → cE1 ω ω1 → aMe κ x u r j n = aMe κ x u (mOf x) 0 0 → cw_mean_L32 T q k (r + 1) (nI u) x2 (lN n) (nI j) ω1 := by
            intro r
            induction r with
            | zero =>
              intro j n ω1 hj hn t e
              rw [cw_mean_L32, (HC.e1 t).1.1, e5]
              refine br1 ((nI_leI (by omega) (by omega)).mpr (by omega)) ?_
              rw [nI_l (by omega)]
              refine c_lowest (by omega) (by omega) (by omega) ?_
              have e' : n = aMe κ x u (mOf x) 0 0 := e
              rw [e']
              exact h ω1 t
            | succ r ih =>
              intro j n ω1 hj hn t e
              rw [cw_mean_L32, (HC.e1 t).1.1, e5]
              rw [aMe] at e
              have Ht := HC.e1 t
              refine br0 (nlt (by omega) (by omega)) ⟨vp_in_nI hu (by omega), ?_⟩
              rw [nI_clamp (by omega), show ω1.1.1 5 u = x u from Ht.2.1.1 u hu]
              refine c_takesOf Ht.1 hx Ht.2.1 (by omega) (by omega) hu (fun ω2 g2 => ?_)
              obtain ⟨b1, b2⟩ := aTake_n (κ := κ) (l := j) (hx.1 u hu)
              intro a ha b hb
              rw [b1, nI_l (by omega), lN_add] at ha
              subst ha
              subst hb
              rw [nI_1]
              exact ih (j + 1) _ ω2 (by omega) (by omega) (t.tr g2.e1) e
          exact L (mOf x) 0 0 ω (by omega) (by omega) cE1.rf rfl
    · exact ⟨-9223372036854775808, fun k h => l_tasteT hu (br0 (by decide) (p_F hw (br1 rfl (h σ tE1.rf)))), fun k h => c_tasteT hu (br0 (by decide) (q_F hw (br1 rfl (h ω cE1.rf))))⟩
  · exact ⟨-9223372036854775808, fun k h => l_tasteF ht (br1 rfl (h σ tE1.rf)), fun k h => c_tasteF ht (br1 rfl (h ω cE1.rf))⟩
end Q
