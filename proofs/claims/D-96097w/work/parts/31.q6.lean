/-! PLAIN: questions: two, span -/
set_option maxRecDepth 100000
/-! sets of loaves, as numbers -/
theorem bitI {s l : Nat} (hs : s < 64) (hl : l < 6) : ((nI s >>> (nI l &&& 31)) &&& 1) = nI (s / 2 ^ l % 2) := by
  have key : ∀ s : Fin 64, ∀ l : Fin 6, ((nI s.val >>> (nI l.val &&& 31)) &&& 1) = nI (s.val / 2 ^ l.val % 2) := by decide +kernel
  exact key ⟨s, hs⟩ ⟨l, hl⟩
theorem allI {m : Nat} (hm : m ≤ 6) : ((1 : Int32) <<< (nI m &&& 31)) - 1 = nI (2 ^ m - 1) := by
  have key : ∀ m : Fin 7, ((1 : Int32) <<< (nI m.val &&& 31)) - 1 = nI (2 ^ m.val - 1) := by decide +kernel
  exact key ⟨m, by omega⟩
theorem cplI {m s : Nat} (hm : m ≤ 6) (hs : s < 2 ^ m) : (nI (2 ^ m - 1) &&& (nI s ^^^ (-1))) = nI (2 ^ m - 1 - s) := by
  have key : ∀ m : Fin 7, ∀ s : Fin 64, s.val < 2 ^ m.val → (nI (2 ^ m.val - 1) &&& (nI s.val ^^^ (-1))) = nI (2 ^ m.val - 1 - s.val) := by decide +kernel
  have h64 : s < 64 := Nat.lt_of_lt_of_le hs (show 2 ^ m ≤ 2 ^ 6 from Nat.pow_le_pow_right (by omega) hm)
  exact key ⟨m, by omega⟩ ⟨s, h64⟩ hs
/-- the members of a set from l on -/
def mems (s : Nat) : Nat → Nat → List Nat
  | 0, _ => []
  | r + 1, l => if s / 2 ^ l % 2 = 1 then l :: mems s r (l + 1) else mems s r (l + 1)
theorem mems_lt {s : Nat} : ∀ (r l : Nat), ∀ j ∈ mems s r l, l ≤ j ∧ j < l + r
  | 0, _, _, h => by cases h
  | r + 1, l, j, h => by
    rw [mems] at h
    by_cases e : s / 2 ^ l % 2 = 1
    · rw [if_pos e] at h
      rcases List.mem_cons.mp h with h1 | h1
      · omega
      · have := mems_lt r (l + 1) j h1
        omega
    · rw [if_neg e] at h
      have := mems_lt r (l + 1) j h
      omega
theorem mems_len {s : Nat} : ∀ (r l : Nat), (mems s r l).length ≤ r
  | 0, _ => Nat.le_refl 0
  | r + 1, l => by
    rw [mems]
    have := mems_len (s := s) r (l + 1)
    by_cases e : s / 2 ^ l % 2 = 1
    · rw [if_pos e, List.length_cons]; omega
    · rw [if_neg e]; omega
/-- how many are spoiled, baked one behind another -/
def aCntL (κ : KD) : List Nat → Nat → SS → Nat
  | [], n, _ => n
  | l :: ls, n, y => aCntL κ ls (if aSp κ y l then n + 1 else n) (aGo κ y l)
theorem aCntL_le (κ : KD) : ∀ (L : List Nat) (n : Nat) (y : SS), aCntL κ L n y ≤ n + L.length
  | [], n, _ => Nat.le_refl n
  | l :: ls, n, y => by
    rw [aCntL, List.length_cons]
    have := aCntL_le κ ls (if aSp κ y l then n + 1 else n) (aGo κ y l)
    have h2 : (if aSp κ y l then n + 1 else n) ≤ n + 1 := by split <;> omega
    omega
/-! the twin: a row of loaves baked; the row itself is kept -/
def tI2 (σ0 σ : TS) (Y : SS) : Prop := tI σ0 σ Y ∧ σ.1 8 = σ0.1 8 ∧ σ.1 9 = σ0.1 9 ∧ σ.1 0 24 = σ0.1 0 24
def tE2 (σ σ' : TS) : Prop := tE1 σ σ' ∧ σ'.1 8 = σ.1 8 ∧ σ'.1 9 = σ.1 9 ∧ σ'.1 0 24 = σ.1 0 24
section Q
variable {T : xT} {q : Nat → Nat} {ω : CS} {σ σ0 : TS} {κ : KD} {x y : SS}
theorem tI2.b {σ' : TS} {X : SS} (h : tI2 σ0 σ y) (t : tB σ σ' X) : tI2 σ0 σ' X := ⟨h.1.b t, by rw [t.2.1 8 (by omega) (by omega)]; exact h.2.1, by rw [t.2.1 9 (by omega) (by omega)]; exact h.2.2.1, by rw [t.2.2.2 24 (by omega)]; exact h.2.2.2⟩
theorem t_begin2 {k : TS → Prop} (H : tQ σ0 κ x) (h : ∀ σ, tI2 σ0 σ x → aR x x → k σ) : tw_begins σ0 k := by
  have hx := H.ok
  obtain ⟨rfl, hk, zx, z3⟩ := H
  exact l_begins zx z3 (fun σ' e3 ec e2 => h σ' ⟨⟨ec 1 (by omega), e3, fun c _ a2 _ _ _ => ec c a2, e2, fun i _ _ => by rw [ec 0 (by omega)]⟩, ec 8 (by omega), ec 9 (by omega), by rw [ec 0 (by omega)]⟩ (aR.rf hx))
theorem t_end2 {k : TS → Prop} (H : tQ σ0 κ x) (t : tI2 σ0 σ y) (r : aR x y) (h : ∀ σ', tE2 σ0 σ' → k σ') : tw_ends σ k := by
  have z0 : tZ (σ0.1 1) := by rw [H.1]; exact H.2.2.1
  have zY : tZ y := r.z H.2.2.1
  obtain ⟨t, t8, t9, t24⟩ := t
  exact l_ends (by rw [t.1]; exact zY) (by rw [t.2.1]; exact z0) (fun σ' e1 ec e2 => h σ' ⟨⟨fun c a1 a2 a3 a4 a5 => by
    by_cases hc : c = 1
    · subst hc; rw [e1]; exact t.2.1
    · rw [ec c hc]; exact t.2.2.1 c (by omega) a2 a3 a4 a5, e2.trans t.2.2.2.1, fun i a1 a2 => by rw [ec 0 (by omega)]; exact t.2.2.2.2 i a1 a2, fun _ => by rw [ec 3 (by omega), t.2.1]; exact z0⟩, by rw [ec 8 (by omega)]; exact t8, by rw [ec 9 (by omega)]; exact t9, by rw [ec 0 (by omega)]; exact t24⟩)
theorem t_go2 {l : Nat} {k : Int32 → TS → Prop} (H : tQ σ0 κ x) (t : tI2 σ0 σ y) (r : aR x y) (hl : l < mOf x) (h : ∀ σ', tI2 σ0 σ' (aGo κ y l) → aR x (aGo κ y l) → k (b2I (aSp κ y l)) σ') : tw_bakes σ (nI l) k := by
  obtain ⟨hk, e⟩ := t_ok H t.1 r
  have hl6 : l < 6 := by have := (mOf_le H.ok).1; omega
  have hm : ¬ σ.1 1 5 = 0 := by rw [e]; exact m_ne r.1 (by rw [r.m]; exact hl)
  refine l_bakes hk hm hl6 (fun σ' t' => ?_)
  rw [e] at t' ⊢
  exact h σ' (t.b t') (r.go H.2.1.1.small hl6)
theorem l_spBy {L : List Nat} {k : Int32 → TS → Prop} (H : tQ σ κ x) (hL : L.length ≤ 6) (hm : ∀ l ∈ L, l < mOf x) (hline : ∀ i l, L[i]? = some l → σ.1 8 i = nI l) (h : ∀ σ', tE2 σ σ' → k (nI (aCntL κ L 0 x)) σ') : tw_spoiledBy σ (nI L.length) k := by
  have F : ∀ (r j n : Nat) (σ1 : TS) (y : SS), j + r = L.length → tI2 σ σ1 y → aR x y → aCntL κ (L.drop j) n y = aCntL κ L 0 x → tw_spoiledBy_L8 k (r + 1) (nI L.length) (nI n) (nI j) σ1 := by
    intro r
    induction r with
    | zero =>
      intro j n σ1 y hj t r0 e
      rw [tw_spoiledBy_L8]
      rw [List.drop_of_length_le (by omega), aCntL] at e
      refine br1 ((nI_leI (by omega) (by omega)).mpr (by omega)) (t_end2 H t r0 (fun σ2 t2 => ?_))
      rw [e]
      exact h σ2 t2
    | succ r ih =>
      intro j n σ1 y hj t r0 e
      rw [tw_spoiledBy_L8]
      have hjl : j < L.length := by omega
      rw [List.drop_eq_getElem_cons hjl, aCntL] at e
      have hl := hm L[j] (List.getElem_mem hjl)
      rw [nI_clamp (by omega), t.2.1, hline j L[j] (List.getElem?_eq_getElem hjl)]
      refine br0 (nlt (by omega) (by omega)) ⟨vp_in_nI (by omega) (by omega), t_go2 H t r0 hl (fun σ2 t2 r2 => ?_)⟩
      cases hb : aSp κ y L[j] with
      | false =>
        rw [hb] at e
        refine br1 rfl ?_
        intro u hu v hv
        subst hu
        subst hv
        rw [i_add0, nI_1]
        exact ih (j + 1) n σ2 _ (by omega) t2 r2 e
      | true =>
        rw [hb] at e
        refine br0 (by decide) ?_
        intro u hu v hv
        subst hu
        subst hv
        rw [nI_1, nI_1]
        exact ih (j + 1) (n + 1) σ2 _ (by omega) t2 r2 e
  unfold tw_spoiledBy
  exact t_begin2 H (fun σ1 t1 r1 => ⟨L.length + 1, F L.length 0 0 σ1 x (by omega) t1 r1 (by rw [List.drop_zero])⟩)
theorem tE1_8 {σ : TS} {i : Nat} {v : Int32} : tE1 σ (sA σ 8 i v) := ⟨fun c _ _ _ h8 _ => sA_ne h8, rfl, fun i _ _ => by rw [sA_ne (by omega)], fun z => by rw [sA_ne (by omega)]; exact z⟩
theorem l_spIn {s : Nat} {k : Int32 → TS → Prop} (H : tQ σ κ x) (hs : s < 64) (h : ∀ σ', tE1 σ σ' → k (nI (aCntL κ (mems s (mOf x) 0) 0 x)) σ') : tw_spoiledIn σ (nI s) k := by
  obtain ⟨h6, e5⟩ := mOf_le H.ok
  have F : ∀ (r j : Nat) (D : List Nat) (σ1 : TS), j + r = mOf x → D.length ≤ j → tE1 σ σ1 → D ++ mems s r j = mems s (mOf x) 0 → (∀ l ∈ D, l < mOf x) → (∀ i l, D[i]? = some l → σ1.1 8 i = nI l) → tw_spoiledIn_L4 k (r + 1) (nI s) (nI D.length) (nI j) σ1 := by
    intro r
    induction r with
    | zero =>
      intro j D σ1 hj hD t e hm hl
      rw [tw_spoiledIn_L4, tc5, (H.e1 t).1, e5]
      have e' : D = mems s (mOf x) 0 := by rw [mems, List.append_nil] at e; exact e
      refine ⟨vi5, br1 ((nI_leI (by omega) (by omega)).mpr (by omega)) (l_spBy (H.e1 t) (by omega) hm hl (fun σ2 t2 => ?_))⟩
      rw [e']
      exact h σ2 (t.tr t2.1)
    | succ r ih =>
      intro j D σ1 hj hD t e hm hl
      rw [tw_spoiledIn_L4, tc5, (H.e1 t).1, e5, bitI hs (by omega)]
      rw [mems] at e
      refine ⟨vi5, br0 (nlt (by omega) (by omega)) ?_⟩
      by_cases hb : s / 2 ^ j % 2 = 1
      · rw [if_pos hb] at e
        rw [hb]
        refine bn1 (by decide) ⟨vp_in_nI (by omega) (by omega), ?_⟩
        intro u hu v hv
        subst hu
        subst hv
        rw [nI_1, nI_1, nI_clamp (by omega)]
        have := ih (j + 1) (D ++ [j]) (sA σ1 8 D.length (nI j)) (by omega) (by rw [List.length_append, List.length_singleton]; omega) (t.tr tE1_8) (by rw [List.append_assoc]; exact e) (fun l hl' => by
          rcases List.mem_append.mp hl' with h1 | h1
          · exact hm l h1
          · rw [List.mem_singleton.mp h1]; omega) (fun i l hi => by
          by_cases hi2 : i = D.length
          · subst hi2
            rw [sA_v]
            rw [List.getElem?_append_right (Nat.le_refl _), Nat.sub_self] at hi
            cases hi
            rfl
          · rw [sA_w hi2]
            have hlt : i < (D ++ [j]).length := (List.getElem?_eq_some_iff.mp hi).1
            rw [List.length_append, List.length_singleton] at hlt
            rw [List.getElem?_append_left (by omega)] at hi
            exact hl i l hi)
        rw [List.length_append, List.length_singleton] at this
        exact this
      · rw [if_neg hb] at e
        have h0 : s / 2 ^ j % 2 = 0 := by omega
        rw [h0]
        refine bn0 rfl ?_
        intro v hv
        subst hv
        rw [nI_1]
        exact ih (j + 1) D σ1 (by omega) (by omega) t e hm hl
  exact ⟨mOf x + 1, F (mOf x) 0 [] σ (by omega) (Nat.le_refl 0) tE1.rf rfl (fun l hl => by cases hl) (fun i l hi => by cases hi)⟩
theorem c_spBy {s : Nat} {k : Int32 → CS → Prop} (H : cQq T q ω κ x) (hs : s < 64) (h : ∀ ω', cE1 ω ω' → k (nI (aCntL κ (mems s (mOf x) 0) 0 x)) ω') : cw_spoiledBy T q ω (nI s) k := by
  obtain ⟨h6, e5⟩ := mOf_le H.2.2
  have F : ∀ (r j n : Nat) (ω1 : CS) (y : SS), j + r = mOf x → cIn ω ω1 y → aR x y → aCntL κ (mems s r j) n y = aCntL κ (mems s (mOf x) 0) 0 x → cw_spoiledBy_L15 T q k (r + 1) (nI s) (nI n) (nI j) ω1 := by
    intro r
    induction r with
    | zero =>
      intro j n ω1 y hj t r0 e
      rw [cw_spoiledBy_L15, c_many H t]
      refine br1 ((nI_leI (by omega) (by omega)).mpr (by omega)) ?_
      have e' : n = aCntL κ (mems s (mOf x) 0) 0 x := e
      rw [e']
      exact h ω1 t.1
    | succ r ih =>
      intro j n ω1 y hj t r0 e
      rw [cw_spoiledBy_L15, c_many H t, bitI hs (by omega)]
      rw [mems] at e
      refine br0 (nlt (by omega) (by omega)) ?_
      by_cases hb : s / 2 ^ j % 2 = 1
      · rw [if_pos hb, aCntL] at e
        rw [hb]
        refine bn0 rfl (c_go H t r0 (by omega) (fun ω2 t2 r2 _ => ?_))
        cases hc : aSp κ y j with
        | false =>
          rw [hc] at e
          refine br1 rfl ?_
          intro v hv
          subst hv
          rw [nI_1]
          exact ih (j + 1) n ω2 _ (by omega) t2 r2 e
        | true =>
          rw [hc] at e
          refine br0 (by decide) ?_
          intro u hu v hv
          subst hu
          subst hv
          rw [nI_1, nI_1]
          exact ih (j + 1) (n + 1) ω2 _ (by omega) t2 r2 e
      · rw [if_neg hb] at e
        have h0 : s / 2 ^ j % 2 = 0 := by omega
        rw [h0]
        refine bn1 (by decide) ?_
        intro v hv
        subst hv
        rw [nI_1]
        exact ih (j + 1) n ω1 y (by omega) t r0 e
  obtain ⟨t0, r0⟩ := c_begin H
  exact ⟨mOf x + 1, F (mOf x) 0 0 _ x (by omega) t0 r0 rfl⟩
/-- in two ovens: those of the set s in one -/
def aTwoN (κ : KD) (x : SS) (s : Nat) : Nat := aCntL κ (mems s (mOf x) 0) 0 x + aCntL κ (mems (2 ^ mOf x - 1 - s) (mOf x) 0) 0 x
theorem J_two (H : Qc T q ω σ κ x) (x1 : Int32) : JQ ω σ (tw_two σ x1) (cw_two T q ω x1) := by
  have hx := H.ok
  have HT := H.t
  have HC := H.c
  have e1 := H.1
  obtain ⟨h6, e5⟩ := mOf_le hx
  have hp : 2 ^ mOf x ≤ 64 := show 2 ^ mOf x ≤ 2 ^ 6 from Nat.pow_le_pow_right (by omega) h6
  have hp0 : 0 < 2 ^ mOf x := Nat.two_pow_pos _
  unfold tw_two cw_two
  by_cases hw : 0 ≤ x1 ∧ x1 ≤ 1
  · have main : ∀ R : Int32 × Int32, R = aLeast (fun s => nI (aTwoN κ x s)) (2 ^ mOf x - 1) 1 0 (nI (aTwoN κ x 0)) → JQ ω σ (fun k => ∃ n30 : Nat, tw_two_L30 k n30 x1 (nI (2 ^ mOf x - 1)) 0 (-1) 0 σ) (fun k => ∃ n28 : Nat, cw_two_L28 T q k n28 x1 (nI (2 ^ mOf x - 1)) 0 0 0 ω) := by
      intro R hR
      have hbd : ∀ s, aTwoN κ x s ≤ 12 := fun s => by
        unfold aTwoN
        have a1 := aCntL_le κ (mems s (mOf x) 0) 0 x
        have a2 := aCntL_le κ (mems (2 ^ mOf x - 1 - s) (mOf x) 0) 0 x
        have b1 := mems_len (s := s) (mOf x) 0
        have b2 := mems_len (s := 2 ^ mOf x - 1 - s) (mOf x) 0
        omega
      refine ⟨if x1 = 0 then R.2 else R.1, fun k h => ⟨2 ^ mOf x + 1, ?_⟩, fun k h => ⟨2 ^ mOf x + 1, ?_⟩⟩
      · have L : ∀ (r s : Nat) (σ1 : TS) (f : Int32) (w : Nat), s + r = 2 ^ mOf x → w ≤ 12 → tE1 σ σ1 → aLeast (fun s => nI (aTwoN κ x s)) r s f (nI w) = R → tw_two_L30 k (r + 1) x1 (nI (2 ^ mOf x - 1)) f (nI w) (nI s) σ1 := by
          intro r
          induction r with
          | zero =>
            intro s σ1 f w hs hw2 t e
            rw [tw_two_L30]
            refine br1 ((nI_ltI (by omega) (by omega)).mpr (by omega)) ?_
            have e' : (f, nI w) = R := e
            rw [← e'] at h
            refine ⟨fun c => ?_, fun c => ?_⟩
            · rw [if_neg c] at h; exact h σ1 t
            · rw [if_pos c] at h; exact h σ1 t
          | succ r ih =>
            intro s σ1 f w hs hw2 t e
            rw [tw_two_L30, cplI h6 (by omega)]
            rw [aLeast] at e
            refine br0 (fun c => by have := (nI_ltI (by omega) (by omega)).mp c; omega) (l_spIn (HT.e1 t) (by omega) (fun σ2 t2 => l_spIn ((HT.e1 t).e1 t2) (by omega) (fun σ3 t3 => ?_)))
            intro z hz
            rw [nI_add] at hz
            have hz : z = nI (aTwoN κ x s) := hz
            subst hz
            refine br0 (nI_pos (by omega)) ⟨fun c => ?_, fun c => ?_⟩
            · rw [if_pos c] at e
              intro v hv
              subst hv
              rw [nI_1]
              exact ih (s + 1) σ3 _ _ (by omega) (hbd s) ((t.tr t2).tr t3) e
            · rw [if_neg c] at e
              intro v hv
              subst hv
              rw [nI_1]
              exact ih (s + 1) σ3 _ _ (by omega) hw2 ((t.tr t2).tr t3) e
        rw [tw_two_L30]
        refine br0 (fun c => by have := (nI_ltI (b := 0) (by omega) (by omega)).mp c; omega) (l_spIn (s := 0) HT (by omega) (fun σ2 t2 => ?_))
        have e0 := cplI (s := 0) h6 hp0
        have e0' : nI (2 ^ mOf x - 1) &&& ((0 : Int32) ^^^ -1) = nI (2 ^ mOf x - 1 - 0) := e0
        rw [e0']
        refine l_spIn (HT.e1 t2) (by omega) (fun σ3 t3 => ?_)
        intro z hz
        rw [nI_add] at hz
        have hz : z = nI (aTwoN κ x 0) := hz
        subst hz
        refine br1 (by decide) ?_
        intro v hv
        have hv : v = nI 1 := hv
        subst hv
        have := L (2 ^ mOf x - 1) 1 σ3 0 (aTwoN κ x 0) (by omega) (hbd 0) (t2.tr t3) hR.symm
        rw [show 2 ^ mOf x - 1 + 1 = 2 ^ mOf x by omega] at this
        exact this
      · have L : ∀ (r s : Nat) (ω1 : CS) (f : Int32) (w : Int32), s + r = 2 ^ mOf x → 1 ≤ s → cE1 ω ω1 → aLeast (fun s => nI (aTwoN κ x s)) r s f w = R → cw_two_L28 T q k (r + 1) x1 (nI (2 ^ mOf x - 1)) f w (nI s) ω1 := by
          intro r
          induction r with
          | zero =>
            intro s ω1 f w hs h1 t e
            rw [cw_two_L28]
            refine br1 ((nI_ltI (by omega) (by omega)).mpr (by omega)) ?_
            have e' : (f, w) = R := e
            rw [← e'] at h
            refine ⟨fun c => ?_, fun c => ?_⟩
            · rw [if_neg c] at h; exact h ω1 t
            · rw [if_pos c] at h; exact h ω1 t
          | succ r ih =>
            intro s ω1 f w hs h1 t e
            rw [cw_two_L28, cplI h6 (by omega)]
            rw [aLeast] at e
            refine br0 (fun c => by have := (nI_ltI (by omega) (by omega)).mp c; omega) (c_spBy (HC.e1 t) (by omega) (fun ω2 t2 => c_spBy ((HC.e1 t).e1 t2) (by omega) (fun ω3 t3 => ?_)))
            intro z hz
            rw [nI_add] at hz
            have hz : z = nI (aTwoN κ x s) := hz
            subst hz
            refine br0 (fun c => nI_ge (a := 0) (b := s) (by omega) (by omega) c) ⟨fun c => ?_, fun c => ?_⟩
            · rw [if_pos c] at e
              intro v hv
              subst hv
              rw [nI_1]
              exact ih (s + 1) ω3 _ _ (by omega) (by omega) ((t.tr t2).tr t3) e
            · rw [if_neg c] at e
              intro v hv
              subst hv
              rw [nI_1]
              exact ih (s + 1) ω3 _ _ (by omega) (by omega) ((t.tr t2).tr t3) e
        rw [cw_two_L28]
        refine br0 (fun c => by have := (nI_ltI (b := 0) (by omega) (by omega)).mp c; omega) (c_spBy (s := 0) HC (by omega) (fun ω2 t2 => ?_))
        have e0 := cplI (s := 0) h6 hp0
        have e0' : nI (2 ^ mOf x - 1) &&& ((0 : Int32) ^^^ -1) = nI (2 ^ mOf x - 1 - 0) := e0
        rw [e0']
        refine c_spBy (HC.e1 t2) (by omega) (fun ω3 t3 => ?_)
        intro z hz
        rw [nI_add] at hz
        have hz : z = nI (aTwoN κ x 0) := hz
        subst hz
        refine br1 (by decide) ?_
        intro v hv
        have hv : v = nI 1 := hv
        subst hv
        have := L (2 ^ mOf x - 1) 1 ω3 0 (nI (aTwoN κ x 0)) (by omega) (by omega) (t2.tr t3) hR.symm
        rw [show 2 ^ mOf x - 1 + 1 = 2 ^ mOf x by omega] at this
        exact this
    obtain ⟨v, m1, m2⟩ := main _ rfl
    refine ⟨v, fun k h => p_T hw (bn1 (by decide) ⟨vi5, ?_⟩), fun k h => q_T hw (bn1 (by decide) ?_)⟩
    · intro z hz
      rw [tc5, e1, e5, allI h6] at hz
      subst hz
      exact m1 k h
    · intro z hz
      rw [HC.1.1, e5, allI h6] at hz
      subst hz
      exact m2 k h
  · exact ⟨-1, fun k h => p_F hw (bn0 rfl (h σ tE1.rf)), fun k h => q_F hw (bn0 rfl (h ω cE1.rf))⟩
/-! the span of what is held -/
def aSpn (v : Nat → Int32) (took : Int32) : Nat → Nat → Int32 → Int32 → Int32 × Int32
  | 0, _, a, b => (a, b)
  | r + 1, h, a, b => if v h = took then aSpn v took r (h + 1) (if 0 ≤ a then a else nI h) (nI h) else aSpn v took r (h + 1) a b
def aPd (κ : KD) (x : SS) (l t d : Nat) : Int32 := kPart κ (lkS (upd x t (nI (10 * d))) l t)
def aVh (κ : KD) (x : SS) (l t h : Nat) : Int32 := aTakeBy x l t (aPd κ x l t (h / 10)) (nI h)
theorem upd_ok {x : SS} {t : Nat} {v : Int32} (hx : okS x) (ht : t < 4) (hv : smallN v 9999) : okS (upd x t v) := by
  refine okS_time hx (fun u hu => ?_) ?_ (fun i hi => pk_un (by omega))
  · by_cases e : u = t
    · subst e; rw [pk_us]; exact hv
    · rw [pk_un e]; exact hx.1 u hu
  · rw [pk_un (by omega)]; exact hx.2.1
theorem aTakeBy_upd {x : SS} {l t u : Nat} {p h w : Int32} (hu : u < 4) : aTakeBy (upd x u w) l t p h = aTakeBy x l t p h := by
  unfold aTakeBy aKd
  rw [pk_un (by omega), pk_un (by omega), pk_un (by omega)]
end Q
