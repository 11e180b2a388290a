/-! PLAIN: questions: guilty, place, has, swaps -/
set_option maxRecDepth 100000
theorem nlt {a b : Nat} (h : a < b) (hb : b < 2 ^ 31) : ¬ nI b ≤ nI a := nI_ge h hb
section Q
variable {T : xT} {q : Nat → Nat} {ω : CS} {σ : TS} {κ : KD} {x : SS}
/-! spoiled behind all but one -/
def aSk (κ : KD) (b : Int32) : Nat → Nat → SS → SS
  | 0, _, y => y
  | r + 1, j, y => aSk κ b r (j + 1) (if nI j = b then y else aGo κ y j)
def aBut (κ : KD) (x : SS) (l : Nat) (b : Int32) : Bool := aSp κ (aSk κ b l 0 x) l
theorem l_behind {l : Nat} {b : Int32} {k : Int32 → TS → Prop} (H : tQ σ κ x) (hl : l < mOf x) (h : ∀ σ', tE1 σ σ' → k (b2I (aBut κ x l b)) σ') : tw_isSpoiledBehind σ (nI l) b k := by
  have hl6 : l < 6 := by have := (mOf_le H.ok).1; omega
  have L : ∀ (r j : Nat) (σ1 : TS) (y : SS), j + r = l → tI σ σ1 y → aR x y → aSp κ (aSk κ b r j y) l = aBut κ x l b → tw_isSpoiledBehind_L6 k (r + 1) (nI l) b (nI j) σ1 := by
    intro r
    induction r with
    | zero =>
      intro j σ1 y hj t r0 e
      rw [tw_isSpoiledBehind_L6]
      refine br1 ((nI_leI (by omega) (by omega)).mpr (by omega)) (t_sp H t r0 hl (fun σ2 t2 => t_end H t2 r0 (fun σ3 t3 => ⟨b2I_or _, ?_⟩)))
      have e' : aSp κ y l = aBut κ x l b := e
      rw [e']
      exact h σ3 t3
    | succ r ih =>
      intro j σ1 y hj t r0 e
      rw [tw_isSpoiledBehind_L6]
      rw [aSk] at e
      refine br0 (nlt (by omega) (by omega)) ⟨fun hb => ?_, fun hb => ?_⟩
      · rw [if_pos hb] at e
        intro z hz
        subst hz
        rw [nI_1]
        exact ih (j + 1) σ1 y (by omega) t r0 e
      · rw [if_neg hb] at e
        refine t_go H t r0 (by omega) (fun σ2 t2 r2 => ?_)
        have fin : tw_isSpoiledBehind_L6 k (r + 1) (nI l) b (nI (j + 1)) σ2 := ih (j + 1) σ2 _ (by omega) t2 r2 e
        refine ⟨fun _ => ?_, fun _ => ?_⟩
        · intro z hz
          subst hz
          rw [nI_1]
          exact fin
        · intro z hz
          subst hz
          rw [nI_1]
          exact fin
  unfold tw_isSpoiledBehind
  exact t_begin H (fun σ1 t1 r1 => ⟨l + 1, L l 0 σ1 x (by omega) t1 r1 rfl⟩)
theorem c_but {l : Nat} {b : Int32} {k : Int32 → CS → Prop} (H : cQq T q ω κ x) (hl : l < mOf x) (h : ∀ ω', cE1 ω ω' → k (b2I (aBut κ x l b)) ω') : cw_isSpoiledBut T q ω (nI l) b k := by
  have hl6 : l < 6 := by have := (mOf_le H.2.2).1; omega
  have L : ∀ (r j : Nat) (ω1 : CS) (y : SS), j + r = l → cIn ω ω1 y → aR x y → aSp κ (aSk κ b r j y) l = aBut κ x l b → cw_isSpoiledBut_L13 T q k (r + 1) (nI l) b (nI j) ω1 := by
    intro r
    induction r with
    | zero =>
      intro j ω1 y hj t r0 e
      rw [cw_isSpoiledBut_L13]
      refine br1 ((nI_leI (by omega) (by omega)).mpr (by omega)) (c_sp H t r0 hl (fun ω2 t2 => ⟨b2I_or _, ?_⟩))
      have e' : aSp κ y l = aBut κ x l b := e
      rw [e']
      exact h ω2 t2.1
    | succ r ih =>
      intro j ω1 y hj t r0 e
      rw [cw_isSpoiledBut_L13]
      rw [aSk] at e
      refine br0 (nlt (by omega) (by omega)) ⟨fun hb => ?_, fun hb => ?_⟩
      · rw [if_pos hb] at e
        intro z hz
        subst hz
        rw [nI_1]
        exact ih (j + 1) ω1 y (by omega) t r0 e
      · rw [if_neg hb] at e
        refine c_go H t r0 (by omega) (fun ω2 t2 r2 _ => ?_)
        intro z hz
        subst hz
        rw [nI_1]
        exact ih (j + 1) ω2 _ (by omega) t2 r2 e
  obtain ⟨t0, r0⟩ := c_begin H
  exact ⟨l + 1, L l 0 _ x (by omega) t0 r0 rfl⟩
/-- the set of the guilty -/
def aGui (κ : KD) (x : SS) (l : Nat) : Nat → Nat → Int32 → Int32
  | 0, _, s => s
  | r + 1, j, s => aGui κ x l r (j + 1) (if aBut κ x l (nI j) then s else s ||| (1 <<< (nI j &&& 31)))
theorem i_or0 (a : Int32) : a ||| 0 = a := by simp
theorem J_guilty (H : Qc T q ω σ κ x) (x1 : Int32) : JQ ω σ (tw_guilty σ x1) (cw_guilty T q ω x1) := by
  have hx := H.ok
  have HT := H.t
  have HC := H.c
  have e1 := H.1
  unfold tw_guilty cw_guilty
  by_cases hl : ∃ l : Nat, l < mOf x ∧ x1 = nI l
  · obtain ⟨l, hl, rfl⟩ := hl
    have hl6 : l < 6 := by have := (mOf_le hx).1; omega
    cases hb : aBut κ x l (-1) with
    | false =>
      refine ⟨0, fun k h => l_loafT (by rw [e1]; exact hx) (by rw [e1]; exact hl) (bn1 (by decide) (l_behind HT hl (fun σ1 t1 => ?_))), fun k h => c_loafT hx HC.1.1 hl (bn1 (by decide) ?_)⟩
      · rw [hb]
        exact bn0 rfl (h σ1 t1)
      · by_cases h0 : l = 0
        · subst h0
          refine ⟨1, ?_⟩
          rw [cw_guilty_L14]
          exact br1 (by decide) (h ω cE1.rf)
        · refine ⟨1, ?_⟩
          rw [cw_guilty_L14]
          refine br0 (fun c => ?_) (c_but HC hl (fun ω1 t1 => ?_))
          · exact nI_ge (a := 0) (b := l) (by omega) (by omega) c
          · rw [hb]
            exact br1 rfl (h ω1 t1)
    | true =>
      refine ⟨aGui κ x l l 0 0, fun k h => l_loafT (by rw [e1]; exact hx) (by rw [e1]; exact hl) (bn1 (by decide) (l_behind HT hl (fun σ1 t1 => ?_))), fun k h => c_loafT hx HC.1.1 hl (bn1 (by decide) ?_)⟩
      · rw [hb]
        refine bn1 (by decide) ⟨l + 1, ?_⟩
        have L : ∀ (r j : Nat) (σ1 : TS) (s : Int32), j + r = l → tE1 σ σ1 → aGui κ x l r j s = aGui κ x l l 0 0 → tw_guilty_L25 k (r + 1) (nI l) s (nI j) σ1 := by
          intro r
          induction r with
          | zero =>
            intro j σ1 s hj t e
            rw [tw_guilty_L25]
            refine br1 ((nI_leI (by omega) (by omega)).mpr (by omega)) ?_
            have e' : s = aGui κ x l l 0 0 := e
            rw [e']
            exact h σ1 t
          | succ r ih =>
            intro j σ1 s hj t e
            rw [tw_guilty_L25]
            rw [aGui] at e
            refine br0 (nlt (by omega) (by omega)) (l_behind (HT.e1 t) hl (fun σ2 t2 => ?_))
            cases hg : aBut κ x l (nI j) with
            | false =>
              rw [hg] at e
              refine br1 rfl ?_
              intro u hu z hz
              subst hu
              subst hz
              rw [nI_1]
              exact ih (j + 1) σ2 _ (by omega) (t.tr t2) e
            | true =>
              rw [hg] at e
              refine br0 (by decide) ?_
              intro u hu z hz
              subst hu
              subst hz
              rw [nI_1, i_or0]
              exact ih (j + 1) σ2 _ (by omega) (t.tr t2) e
        exact L l 0 σ1 0 (by omega) t1 rfl
      · refine ⟨l + 1, ?_⟩
        have L : ∀ (r j : Nat) (ω1 : CS) (s : Int32), j + r = l → cE1 ω ω1 → aGui κ x l r j s = aGui κ x l l 0 0 → cw_guilty_L14 T q k (r + 1) (nI l) s (nI j) ω1 := by
          intro r
          induction r with
          | zero =>
            intro j ω1 s hj t e
            rw [cw_guilty_L14]
            refine br1 ((nI_leI (by omega) (by omega)).mpr (by omega)) ?_
            have e' : s = aGui κ x l l 0 0 := e
            rw [e']
            exact h ω1 t
          | succ r ih =>
            intro j ω1 s hj t e
            rw [cw_guilty_L14]
            rw [aGui] at e
            refine br0 (nlt (by omega) (by omega)) (c_but (HC.e1 t) hl (fun ω2 t2 => ?_))
            rw [hb]
            refine br0 (by decide) (c_but ((HC.e1 t).e1 t2) hl (fun ω3 t3 => ?_))
            cases hg : aBut κ x l (nI j) with
            | false =>
              rw [hg] at e
              refine bn0 rfl ?_
              intro u hu z hz
              subst hu
              subst hz
              rw [nI_1]
              exact ih (j + 1) ω3 _ (by omega) ((t.tr t2).tr t3) e
            | true =>
              rw [hg] at e
              refine bn1 (by decide) ?_
              intro z hz
              subst hz
              rw [nI_1]
              exact ih (j + 1) ω3 _ (by omega) ((t.tr t2).tr t3) e
        exact L l 0 ω 0 (by omega) cE1.rf rfl
  · exact ⟨-1, fun k h => l_loafF (by rw [e1]; exact hx) (by rw [e1]; exact hl) (bn0 rfl (h σ tE1.rf)), fun k h => c_loafF hx HC.1.1 hl (bn0 rfl (h ω cE1.rf))⟩
/-! ahead of the c-th of the others -/
def aPl (κ : KD) (l : Nat) : Nat → Nat → Nat → SS → SS
  | 0, _, _, y => y
  | r + 1, j, c, y => if c = 0 then y else if j = l then aPl κ l r (j + 1) c y else aPl κ l r (j + 1) (c - 1) (aGo κ y j)
theorem aPl_0 (κ : KD) (l r j : Nat) (y : SS) : aPl κ l r j 0 y = y := by
  cases r with
  | zero => rfl
  | succ r => rw [aPl, if_pos rfl]
def aAt (κ : KD) (x : SS) (l c : Nat) : Int32 := aSum κ (aPl κ l (mOf x) 0 c x) l
theorem l_takesAt {l c : Nat} {k : Int32 → TS → Prop} (H : tQ σ κ x) (hl : l < mOf x) (hc : c ≤ 6) (h : ∀ σ', tE1 σ σ' → k (aAt κ x l c) σ') : tw_takesAt σ (nI l) (nI c) k := by
  have h6 := (mOf_le H.ok).1
  have fin : ∀ (σ1 : TS) (y : SS), tI σ σ1 y → aR x y → aSum κ y l = aAt κ x l c → tw_takesAt_J51 k (nI l) σ1 := by
    intro σ1 y t r0 e
    unfold tw_takesAt_J51
    refine t_all H t r0 hl (fun σ2 t2 => t_end H t2 r0 (fun σ3 t3 => ?_))
    rw [e]
    exact h σ3 t3
  have L : ∀ (r j n : Nat) (σ1 : TS) (y : SS), j + r = mOf x → n ≤ c → tI σ σ1 y → aR x y → aSum κ (aPl κ l r j (c - n) y) l = aAt κ x l c → tw_takesAt_L9 k (r + 1) (nI l) (nI c) (nI n) (nI j) σ1 := by
    intro r
    induction r with
    | zero =>
      intro j n σ1 y hj hn t r0 e
      rw [tw_takesAt_L9, tc5, t_many H t r0]
      exact ⟨vi5, br1 ((nI_leI (by omega) (by omega)).mpr (by omega)) (fin σ1 y t r0 e)⟩
    | succ r ih =>
      intro j n σ1 y hj hn t r0 e
      rw [tw_takesAt_L9, tc5, t_many H t r0]
      refine ⟨vi5, br0 (nlt (by omega) (by omega)) ⟨fun hle => ?_, fun hle => ?_⟩⟩
      · have : c ≤ n := (nI_leI (by omega) (by omega)).mp hle
        rw [show c - n = 0 by omega, aPl_0] at e
        exact fin σ1 y t r0 e
      · have hcn : ¬ c - n = 0 := fun z => hle ((nI_leI (by omega) (by omega)).mpr (by omega))
        rw [aPl, if_neg hcn] at e
        refine ⟨fun hne => ?_, fun he => ?_⟩
        · have hjl : ¬ j = l := fun z => hne (by rw [z])
          rw [if_neg hjl] at e
          refine t_go H t r0 (by omega) (fun σ2 t2 r2 => ?_)
          intro u hu z hz
          subst hu
          subst hz
          rw [nI_1, nI_1]
          exact ih (j + 1) (n + 1) σ2 _ (by omega) (by omega) t2 r2 (by rw [show c - (n + 1) = c - n - 1 by omega]; exact e)
        · have hjl : j = l := (nI_eq (by omega) (by omega)).mp he
          rw [if_pos hjl] at e
          intro z hz
          subst hz
          rw [nI_1]
          exact ih (j + 1) n σ1 y (by omega) hn t r0 e
  unfold tw_takesAt
  exact t_begin H (fun σ1 t1 r1 => ⟨mOf x + 1, L (mOf x) 0 0 σ1 x (by omega) (by omega) t1 r1 rfl⟩)
theorem c_takesAt {l c : Nat} {k : Int32 → CS → Prop} (H : cQq T q ω κ x) (hl : l < mOf x) (hc : c ≤ 6) (h : ∀ ω', cE1 ω ω' → k (aAt κ x l c) ω') : cw_takesAt T q ω (nI l) (nI c) k := by
  have h6 := (mOf_le H.2.2).1
  have L : ∀ (r j n : Nat) (ω1 : CS) (y : SS), j + r = mOf x → n ≤ c → cIn ω ω1 y → aR x y → aSum κ (aPl κ l r j (c - n) y) l = aAt κ x l c → cw_takesAt_L16 T q k (r + 1) (nI l) (nI c) (nI n) (nI j) ω1 := by
    intro r
    induction r with
    | zero =>
      intro j n ω1 y hj hn t r0 e
      rw [cw_takesAt_L16, c_many H t]
      refine br1 ((nI_leI (by omega) (by omega)).mpr (by omega)) (c_all H t r0 hl (fun ω2 t2 => ?_))
      have e' : aSum κ y l = aAt κ x l c := e
      rw [e']
      exact h ω2 t2.1
    | succ r ih =>
      intro j n ω1 y hj hn t r0 e
      rw [cw_takesAt_L16, c_many H t]
      refine br0 (nlt (by omega) (by omega)) ⟨fun hne => ?_, fun he => ?_⟩
      · have hjl : ¬ j = l := fun z => hne (by rw [z])
        intro u hu
        subst hu
        rw [nI_1]
        refine ⟨fun hnc => ?_, fun hnc => ?_⟩
        · have hcn : ¬ c - n = 0 := fun z => hnc (by rw [show n = c by omega])
          rw [aPl, if_neg hcn, if_neg hjl] at e
          refine c_go H t r0 (by omega) (fun ω2 t2 r2 _ => ?_)
          intro z hz
          subst hz
          rw [nI_1]
          exact ih (j + 1) (n + 1) ω2 _ (by omega) (by omega) t2 r2 (by rw [show c - (n + 1) = c - n - 1 by omega]; exact e)
        · have hcn : n = c := (nI_eq (by omega) (by omega)).mp hnc
          rw [show c - n = 0 by omega, aPl_0] at e
          refine c_all H t r0 hl (fun ω2 t2 => ?_)
          rw [e]
          exact h ω2 t2.1
      · have hjl : j = l := (nI_eq (by omega) (by omega)).mp he
        intro z hz
        subst hz
        rw [nI_1]
        refine ih (j + 1) n ω1 y (by omega) hn t r0 ?_
        by_cases hcn : c - n = 0
        · rw [hcn, aPl_0] at e ⊢
          exact e
        · rw [aPl, if_neg hcn, if_pos hjl] at e
          exact e
  obtain ⟨t0, r0⟩ := c_begin H
  exact ⟨mOf x + 1, L (mOf x) 0 0 _ x (by omega) (by omega) t0 r0 rfl⟩
/-- the first least of v from k on -/
def aLeast (v : Nat → Int32) : Nat → Nat → Int32 → Int32 → Int32 × Int32
  | 0, _, f, w => (f, w)
  | r + 1, k, f, w => if v k < w then aLeast v r (k + 1) (nI k) (v k) else aLeast v r (k + 1) f w
theorem J_place (H : Qc T q ω σ κ x) (x1 x2 : Int32) : JQ ω σ (tw_place σ x1 x2) (cw_place T q ω x1 x2) := by
  have hx := H.ok
  have HT := H.t
  have HC := H.c
  have e1 := H.1
  have h6 := (mOf_le hx).1
  unfold tw_place cw_place
  by_cases hl : ∃ l : Nat, l < mOf x ∧ x1 = nI l
  · obtain ⟨l, hl, rfl⟩ := hl
    by_cases hw : 0 ≤ x2 ∧ x2 ≤ 1
    · have main : ∀ R : Int32 × Int32, R = aLeast (aAt κ x l) (mOf x - 1) 1 0 (aAt κ x l 0) → JQ ω σ (fun k => tw_isLoaf σ (nI l) (fun r2 s2 => (r2 = 0 → k (-1) s2) ∧ (¬ r2 = 0 → pw_isIn x2 0 1 (fun r11 => (¬ r11 = 0 → tw_takesAt s2 (nI l) 0 (fun r24 s24 => ∃ n32 : Nat, tw_place_L32 k n32 (nI l) x2 0 r24 1 s24)) ∧ (r11 = 0 → k (-1) s2))))) (fun k => cw_isLoaf T q ω (nI l) (fun r2 s2 => (r2 = 0 → k (-1) s2) ∧ (¬ r2 = 0 → qw_in x2 0 1 (fun r11 => (¬ r11 = 0 → ∃ n27 : Nat, cw_place_L27 T q k n27 (nI l) x2 0 0 0 s2) ∧ (r11 = 0 → k (-1) s2))))) := by
        intro R hR
        refine ⟨if x2 = 0 then R.1 else R.2, fun k h => l_loafT (by rw [e1]; exact hx) (by rw [e1]; exact hl) (br0 (by decide) (p_T hw (bn1 (by decide) ?_))), fun k h => c_loafT hx HC.1.1 hl (br0 (by decide) (q_T hw (bn1 (by decide) ?_)))⟩
        · refine l_takesAt (c := 0) HT hl (by omega) (fun σ1 t1 => ⟨mOf x, ?_⟩)
          have L : ∀ (r j : Nat) (σ1 : TS) (f w : Int32), j + r = mOf x → tE1 σ σ1 → aLeast (aAt κ x l) r j f w = R → tw_place_L32 k (r + 1) (nI l) x2 f w (nI j) σ1 := by
            intro r
            induction r with
            | zero =>
              intro j σ1 f w hj t e
              rw [tw_place_L32, tc5, (HT.e1 t).1, (mOf_le hx).2]
              refine ⟨vi5, br1 ((nI_leI (by omega) (by omega)).mpr (by omega)) ?_⟩
              have e' : (f, w) = R := e
              rw [← e'] at h
              refine ⟨fun c => ?_, fun c => ?_⟩
              · rw [if_neg c] at h; exact h σ1 t
              · rw [if_pos c] at h; exact h σ1 t
            | succ r ih =>
              intro j σ1 f w hj t e
              rw [tw_place_L32, tc5, (HT.e1 t).1, (mOf_le hx).2]
              refine ⟨vi5, br0 (nlt (by omega) (by omega)) (l_takesAt (HT.e1 t) hl (by omega) (fun σ2 t2 => ?_))⟩
              rw [aLeast] at e
              refine ⟨fun c => ?_, fun c => ?_⟩
              · rw [if_pos c] at e
                intro z hz
                subst hz
                rw [nI_1]
                exact ih (j + 1) σ2 _ _ (by omega) (t.tr t2) e
              · rw [if_neg c] at e
                intro z hz
                subst hz
                rw [nI_1]
                exact ih (j + 1) σ2 _ _ (by omega) (t.tr t2) e
          rw [show mOf x = (mOf x - 1) + 1 by omega]
          exact L (mOf x - 1) 1 σ1 0 _ (by omega) t1 hR.symm
        · refine ⟨mOf x + 1, ?_⟩
          have L : ∀ (r j : Nat) (ω1 : CS) (f w : Int32), 1 ≤ j → j + r = mOf x → cE1 ω ω1 → aLeast (aAt κ x l) r j f w = R → cw_place_L27 T q k (r + 1) (nI l) x2 f w (nI j) ω1 := by
            intro r
            induction r with
            | zero =>
              intro j ω1 f w h1 hj t e
              rw [cw_place_L27, (HC.e1 t).1.1, (mOf_le hx).2]
              refine br1 ((nI_leI (by omega) (by omega)).mpr (by omega)) ?_
              have e' : (f, w) = R := e
              rw [← e'] at h
              refine ⟨fun c => ?_, fun c => ?_⟩
              · rw [if_neg c] at h; exact h ω1 t
              · rw [if_pos c] at h; exact h ω1 t
            | succ r ih =>
              intro j ω1 f w h1 hj t e
              rw [cw_place_L27, (HC.e1 t).1.1, (mOf_le hx).2]
              refine br0 (nlt (by omega) (by omega)) (c_takesAt (HC.e1 t) hl (by omega) (fun ω2 t2 => ?_))
              rw [aLeast] at e
              refine br0 (fun c => nI_ge (a := 0) (b := j) (by omega) (by omega) c) ⟨fun c => ?_, fun c => ?_⟩
              · rw [if_pos c] at e
                intro z hz
                subst hz
                rw [nI_1]
                exact ih (j + 1) ω2 _ _ (by omega) (by omega) (t.tr t2) e
              · rw [if_neg c] at e
                intro z hz
                subst hz
                rw [nI_1]
                exact ih (j + 1) ω2 _ _ (by omega) (by omega) (t.tr t2) e
          rw [cw_place_L27, HC.1.1, (mOf_le hx).2]
          refine br0 (nlt (a := 0) (by omega) (by omega)) (c_takesAt (c := 0) HC hl (by omega) (fun ω2 t2 => br1 (by decide) ?_))
          intro z hz
          have hz : z = nI 1 := hz
          subst hz
          rw [show mOf x = (mOf x - 1) + 1 by omega]
          exact L (mOf x - 1) 1 ω2 0 _ (by omega) (by omega) t2 hR.symm
      exact main _ rfl
    · exact ⟨-1, fun k h => l_loafT (by rw [e1]; exact hx) (by rw [e1]; exact hl) (br0 (by decide) (p_F hw (bn0 rfl (h σ tE1.rf)))), fun k h => c_loafT hx HC.1.1 hl (br0 (by decide) (q_F hw (bn0 rfl (h ω cE1.rf))))⟩
  · exact ⟨-1, fun k h => l_loafF (by rw [e1]; exact hx) (by rw [e1]; exact hl) (br1 rfl (h σ tE1.rf)), fun k h => c_loafF hx HC.1.1 hl (br1 rfl (h ω cE1.rf))⟩
end Q
