/-! PLAIN: questions: colds itself -/
set_option maxRecDepth 100000
def dsN : Nat → Nat → Nat
  | 0, _ => 0
  | n + 1, u => if u = 0 then 0 else u % 5 + dsN n (u / 5)
theorem ds_ok {M c : Nat} (hM : M ≤ 4) (hc : c < 5 ^ M) : dsN 4 c = (dig M c).sum ∧ (dig M c).sum ≤ 16 := by
  have key : ∀ M : Fin 5, ∀ c : Fin 625, c.val < 5 ^ M.val → dsN 4 c.val = (dig M.val c.val).sum ∧ (dig M.val c.val).sum ≤ 16 := by decide +kernel
  have h625 : c < 625 := Nat.lt_of_lt_of_le hc (show 5 ^ M ≤ 5 ^ 4 from Nat.pow_le_pow_right (by omega) hM)
  exact key ⟨M, by omega⟩ ⟨c, h625⟩ hc
/-- the twin's best -/
def tcR (M : Nat) (f w : Int32) (b : BB) : Prop := match b with
  | none => f = -5 ∧ w = -5
  | some p => ∃ c, c < 5 ^ M ∧ f = nI c ∧ w = nI p.1 ∧ p.2 = dig M c ∧ p.1 ≤ 16
section Q
variable {T : xT} {q : Nat → Nat} {ω : CS} {σ σ0 : TS} {κ κi : KD} {x y : SS}
theorem l_coldsL {s M : Nat} {x2 : Int32} {k : Int32 → TS → Prop} (H : tQ σ κ x) (hs : s < 64) (hL : (mems s 6 0).length = M) (hM : M ≤ 4) (hm : ∀ l ∈ mems s 6 0, l < mOf x) {B : BB} (hB : aCold κ (mems s 6 0) x [] 0 none = B)
    (h : ∀ σ' f w, tE1 σ σ' → tcR M f w B → (0 ≤ x2 → (f < 0 → k (-5) σ') ∧ (¬ f < 0 → pw_bits (nI s) (fun r156 => (x2 < r156 → ∀ x168 : Int32, x168 = (nI (5 ^ M) / 5) → ∃ n173 : Nat, tw_colds_L173 k n173 x2 f x168 0 σ') ∧ (¬ x2 < r156 → k (-5) σ')))) ∧ (¬ 0 ≤ x2 → k w σ')) : tw_colds_L64 k (5 ^ M + 1) (nI s) x2 (nI (5 ^ M)) (-5) (-5) 0 σ := by
  have h625 : 5 ^ M ≤ 625 := show 5 ^ M ≤ 5 ^ 4 from Nat.pow_le_pow_right (by omega) hM
  have hB' : ((List.range' 0 (5 ^ M)).map (dig M)).foldl (lfB κ (mems s 6 0) x [] 0) none = B := by
    rw [← List.range_eq_range', ← digs_code hM, ← hL, ← aCold_digs]
    exact hB
  have F : ∀ (r c : Nat) (f w : Int32) (b : BB) (σ1 : TS), c + r = 5 ^ M → tE1 σ σ1 → tcR M f w b → ((List.range' c r).map (dig M)).foldl (lfB κ (mems s 6 0) x [] 0) b = B → tw_colds_L64 k (r + 1) (nI s) x2 (nI (5 ^ M)) f w (nI c) σ1 := by
    intro r
    induction r with
    | zero =>
      intro c f w b σ1 hc t hb e
      rw [tw_colds_L64]
      have e' : b = B := e
      subst e'
      exact br1 ((nI_leI (by omega) (by omega)).mpr (by omega)) (h σ1 f w t hb)
    | succ r ih =>
      intro c f w b σ1 hc t hb e
      rw [tw_colds_L64]
      rw [List.range'_succ, List.map_cons, List.foldl_cons] at e
      obtain ⟨d1, d2⟩ := ds_ok hM (show c < 5 ^ M by omega)
      refine br0 (nlt (by omega) (by omega)) ⟨5, ?_⟩
      -- on with the next code
      have nx : ∀ (f' w' : Int32) (b' : BB) (σ2 : TS), tE1 σ σ2 → tcR M f' w' b' → b' = lfB κ (mems s 6 0) x [] 0 b (dig M c) → tw_colds_J136 (fun x1 x2 x3 x4 x5 x6 s => tw_colds_L64 k (r + 1) x1 x2 x3 x4 x5 x6 s) k (nI s) x2 (nI (5 ^ M)) f' w' (nI c) σ2 := by
        intro f' w' b' σ2 t2 hb' eb
        intro v hv
        subst hv
        rw [nI_1]
        exact ih (c + 1) f' w' b' σ2 (by omega) t2 hb' (by rw [eb]; exact e)
      -- the trial
      have tr : (∀ p, b = some p → (dig M c).sum < p.1) → tw_colds_J112 (fun x1 x2 x3 x4 x5 x6 s => tw_colds_L64 k (r + 1) x1 x2 x3 x4 x5 x6 s) k (nI s) x2 (nI (5 ^ M)) f w (nI c) (nI (dig M c).sum) σ1 := by
        intro hlt
        unfold tw_colds_J112
        have e5 : nI (5 ^ M) / 5 = nI (5 ^ M / 5) := pk_div (d := 5) (by omega) (by omega) (by omega)
        rw [e5]
        refine l_well (H.e1 t) hs hL hM hm (by omega) (fun σ2 t2 => ?_)
        cases hw : wellF κ (mems s 6 0) (dig M c) x with
        | true =>
          refine bn1 (by decide) (nx _ _ (some ((dig M c).sum, dig M c)) σ2 (t.tr t2) ⟨c, by omega, rfl, rfl, rfl, d2⟩ ?_)
          unfold lfB
          rw [hw, if_pos rfl, Nat.zero_add, List.nil_append]
          unfold updB
          cases b with
          | none => rfl
          | some p => exact (if_pos (hlt p rfl)).symm
        | false =>
          refine bn0 rfl (nx _ _ b σ2 (t.tr t2) hb ?_)
          unfold lfB
          rw [hw]
          rfl
      have G : ∀ (n u a : Nat), u < 5 ^ n → n ≤ 4 → a + dsN n u = (dig M c).sum → tw_colds_L77 (fun x1 x2 x3 x4 x5 x6 s => tw_colds_L64 k (r + 1) x1 x2 x3 x4 x5 x6 s) k (n + 1) (nI s) x2 (nI (5 ^ M)) f w (nI c) (nI a) (nI u) σ1 := by
        intro n
        have stop : ∀ (n a : Nat), a = (dig M c).sum → tw_colds_L77 (fun x1 x2 x3 x4 x5 x6 s => tw_colds_L64 k (r + 1) x1 x2 x3 x4 x5 x6 s) k (n + 1) (nI s) x2 (nI (5 ^ M)) f w (nI c) (nI a) (nI 0) σ1 := by
          intro n a ha
          subst ha
          rw [tw_colds_L77]
          refine br1 (by decide) ?_
          cases b with
          | none =>
            have hf : f = -5 := hb.1
            rw [hf] at tr ⊢
            exact br1 (by decide) (tr (fun p e => by cases e))
          | some p =>
            obtain ⟨c0, z1, z2, z3, z4, z5⟩ := hb
            have hf : ¬ f < 0 := by rw [z2]; exact nI_pos (by omega)
            refine br0 hf ⟨fun g => ?_, fun g => tr (fun p' e => ?_)⟩
            · rw [z3] at g
              have g' : p.1 ≤ (dig M c).sum := (nI_leI (by omega) (by omega)).mp g
              refine nx f w (some p) σ1 t ⟨c0, z1, z2, z3, z4, z5⟩ ?_
              unfold lfB
              split
              · unfold updB
                exact (if_neg (by rw [Nat.zero_add]; omega)).symm
              · rfl
            · cases e
              rw [z3] at g
              by_cases q' : p.1 ≤ (dig M c).sum
              · exact absurd ((nI_leI (by omega) (by omega)).mpr q') g
              · omega
        induction n with
        | zero =>
          intro u a hu hn ha
          have : u = 0 := by have : 5 ^ 0 = 1 := rfl; omega
          subst this
          exact stop 0 a ha
        | succ n ihn =>
          intro u a hu hn ha
          rw [dsN] at ha
          by_cases e0 : u = 0
          · subst e0
            rw [if_pos rfl] at ha
            exact stop (n + 1) a ha
          · rw [if_neg e0] at ha
            have hu6 : u < 625 := Nat.lt_of_lt_of_le hu (show 5 ^ (n + 1) ≤ 5 ^ 4 from Nat.pow_le_pow_right (by omega) hn)
            rw [tw_colds_L77]
            refine br0 (fun z => nI_ge (a := 0) (b := u) (by omega) (by omega) z) ?_
            intro v hv w' hw'
            have e1 : nI u - nI u / 5 * 5 = nI (u % 5) := pk_rem (d := 5) (by omega) (by omega) (by omega)
            have e2 : nI u / 5 = nI (u / 5) := pk_div (d := 5) (by omega) (by omega) (by omega)
            rw [e1, nI_add] at hv
            rw [e2] at hw'
            subst hv
            subst hw'
            exact ihn (u / 5) (a + u % 5) (by rw [Nat.pow_succ] at hu; omega) (by omega) (by omega)
      exact G 4 c 0 (by show c < 625; omega) (Nat.le_refl 4) (by rw [Nat.zero_add]; exact d1)
  exact F (5 ^ M) 0 (-5) (-5) none σ (by omega) tE1.rf ⟨rfl, rfl⟩ hB'
theorem J_colds (H : Qc T q ω σ κ x) (x1 x2 : Int32) : JQ ω σ (tw_colds σ x1 x2) (cw_colds T q ω x1 x2) := by
  have hx := H.ok
  have HT := H.t
  have HC := H.c
  obtain ⟨h6, e5⟩ := mOf_le hx
  have hp : 2 ^ mOf x ≤ 64 := show 2 ^ mOf x ≤ 2 ^ 6 from Nat.pow_le_pow_right (by omega) h6
  unfold tw_colds cw_colds
  by_cases hw : -1 ≤ x2 ∧ x2 ≤ 5
  · by_cases hs : ∃ s, s < 2 ^ mOf x ∧ x1 = nI s
    · obtain ⟨s, hs, rfl⟩ := hs
      have same : ∀ s' : Nat, s' < 2 ^ mOf x → nI s = nI s' → s' = s := fun s' h1 h2 => ((nI_eq (by omega) (by omega)).mp h2).symm
      by_cases h5 : cnt s ≤ 4
      · have c5 : nI (cnt s) ≤ 4 := (nI_leI (b := 4) (by omega) (by omega)).mpr h5
        have hm := mems_m h6 hs
        generalize hB : aCold κ (mems s 6 0) x [] 0 none = B
        have m1 : ¬ 0 ≤ x2 → x2 = -1 := fun c => by
          apply Int32.toInt_inj.mp
          have g1 := hw.1
          rw [Int32.le_iff_toInt_le] at c g1
          have e1 : (-1 : Int32).toInt = -1 := by decide
          have e2 : (0 : Int32).toInt = 0 := by decide
          omega
        have m2 : 0 ≤ x2 → ¬ x2 = -1 := fun c e => by rw [e] at c; exact absurd c (by decide)
        refine ⟨if x2 = -1 then (match B with
            | none => -5
            | some p => nI p.1) else (match B with
            | none => -5
            | some p => (match p.2[x2.toNatClampNeg]? with
              | some l => nI l
              | none => -5)), fun k h => p_T hw (bn1 (by decide) (l_areLoaves HT (fun s' hs' e' => br0 (by decide) ?_) (fun c => absurd rfl (c s hs)))), fun k h => q_T hw (bn1 (by decide) (c_isSet HC (fun s' hs' e' => br0 (by decide) ?_) (fun c => absurd rfl (c s hs))))⟩
        · refine l_bits (by omega) (br1 c5 (l_bits (by omega) ⟨cnt s + 1, ?_⟩))
          have P : ∀ (r i : Nat), i + r = cnt s → tw_colds_L38 k (r + 1) (nI s) x2 (nI (5 ^ i)) (nI r) σ := by
            intro r
            induction r with
            | zero =>
              intro i hi
              rw [tw_colds_L38]
              have hi : i = cnt s := by omega
              subst hi
              refine br1 (by decide) ⟨5 ^ cnt s + 1, l_coldsL HT (by omega) rfl h5 hm hB (fun σ' f w t' hb' => ⟨fun c => ?_, fun c => ?_⟩)⟩
              · rw [if_neg (m2 c)] at h
                obtain ⟨j, hj, rfl⟩ := (i_rng (n := 5) (by omega)).mp ⟨c, hw.2⟩
                rw [nI_clamp (by omega)] at h
                cases B with
                | none =>
                  have hf : f = -5 := hb'.1
                  rw [hf]
                  exact br1 (by decide) (h σ' t')
                | some p =>
                  obtain ⟨c0, z1, z2, z3, z4, z5⟩ := hb'
                  have h625 : 5 ^ cnt s ≤ 625 := show 5 ^ cnt s ≤ 5 ^ 4 from Nat.pow_le_pow_right (by omega) h5
                  have hf : ¬ f < 0 := by rw [z2]; exact nI_pos (by omega)
                  have h' : ∀ σ', tE1 σ σ' → k (match p.2[j]? with
                    | some l => nI l
                    | none => -5) σ' := h
                  rw [z4] at h'
                  refine br0 hf (l_bits (by omega) ⟨fun g => ?_, fun g => ?_⟩)
                  · have hjc : j < cnt s := (nI_ltI (by omega) (by omega)).mp g
                    rw [dig_at _ _ _ hjc] at h'
                    intro v hv
                    have e5' : nI (5 ^ cnt s) / 5 = nI (5 ^ cnt s / 5) := pk_div (d := 5) (by omega) (by omega) (by omega)
                    rw [e5'] at hv
                    have ep : 5 ^ cnt s / 5 = 5 ^ (cnt s - 1 - 0) := by
                      rw [show cnt s = (cnt s - 1) + 1 by omega, Nat.pow_succ]
                      simp
                    rw [ep] at hv
                    subst hv
                    refine ⟨j + 1, ?_⟩
                    have L : ∀ (r i : Nat), i + r = j → tw_colds_L173 k (r + 1) (nI j) f (nI (5 ^ (cnt s - 1 - i))) (nI i) σ' := by
                      intro r
                      induction r with
                      | zero =>
                        intro i hi
                        have hi : i = j := by omega
                        subst hi
                        rw [tw_colds_L173]
                        have pp : 5 ^ (cnt s - 1 - i) ≤ 625 := show _ ≤ 5 ^ 4 from Nat.pow_le_pow_right (by omega) (by omega)
                        have pq : 0 < 5 ^ (cnt s - 1 - i) := Nat.pow_pos (by omega)
                        refine br1 ((nI_leI (by omega) (by omega)).mpr (by omega)) ⟨nI_ne0 pq (by omega), ?_⟩
                        have ed : nI c0 / nI (5 ^ (cnt s - 1 - i)) = nI (c0 / 5 ^ (cnt s - 1 - i)) := pk_div (by omega) pq (by omega)
                        have hq : c0 / 5 ^ (cnt s - 1 - i) ≤ c0 := Nat.div_le_self _ _
                        have er : nI (c0 / 5 ^ (cnt s - 1 - i)) - nI (c0 / 5 ^ (cnt s - 1 - i)) / 5 * 5 = nI (c0 / 5 ^ (cnt s - 1 - i) % 5) := pk_rem (d := 5) (by omega) (by omega) (by omega)
                        rw [z2, ed, er]
                        exact h' σ' t'
                      | succ r ih =>
                        intro i hi
                        rw [tw_colds_L173]
                        refine br0 (nlt (by omega) (by omega)) ?_
                        intro v hv w' hw'
                        have pp : 5 ^ (cnt s - 1 - i) ≤ 625 := show _ ≤ 5 ^ 4 from Nat.pow_le_pow_right (by omega) (by omega)
                        have e5'' : nI (5 ^ (cnt s - 1 - i)) / 5 = nI (5 ^ (cnt s - 1 - i) / 5) := pk_div (d := 5) (by omega) (by omega) (by omega)
                        rw [e5''] at hv
                        have ep2 : 5 ^ (cnt s - 1 - i) / 5 = 5 ^ (cnt s - 1 - (i + 1)) := by
                          rw [show cnt s - 1 - i = (cnt s - 1 - (i + 1)) + 1 by omega, Nat.pow_succ]
                          simp
                        rw [ep2] at hv
                        subst hv
                        subst hw'
                        rw [nI_1]
                        exact ih (i + 1) (by omega)
                    exact L j 0 (by omega)
                  · have hjc : ¬ j < cnt s := fun z => g ((nI_ltI (by omega) (by omega)).mpr z)
                    rw [List.getElem?_eq_none (by rw [dig_len]; omega)] at h'
                    exact h' σ' t'
              · rw [if_pos (m1 c)] at h
                cases B with
                | none =>
                  rw [show w = -5 from hb'.2]
                  exact h σ' t'
                | some p =>
                  obtain ⟨c0, z1, z2, z3, z4, z5⟩ := hb'
                  rw [z3]
                  exact h σ' t'
            | succ r ih =>
              intro i hi
              rw [tw_colds_L38]
              refine br0 (fun z => nI_ge (a := 0) (b := r + 1) (by omega) (by omega) z) ?_
              intro v hv w hw2
              have e5' : nI (5 ^ i) * 5 = nI (5 ^ (i + 1)) := by
                rw [Nat.pow_succ]
                exact pk_mul (5 ^ i) 5
              rw [e5'] at hv
              rw [pk_m1] at hw2
              subst hv
              subst hw2
              exact ih (i + 1) (by omega)
          exact P (cnt s) 0 (by omega)
        · refine c_bits (by omega) (br1 c5 (c_beginS HC (fun ω1 t1 a1 b1 => ?_)))
          refine c_colds HC (mems s 6 0) 7 s x [] 0 none ω1 (fun s38 => (¬ x2 = (-1) → vp_in x2 6 ∧ k ((s38.1.1 41 (x2 : Int32).toNatClampNeg)) s38) ∧ (x2 = (-1) → k ((s38.1.1 0 21)) s38)) (by unfold cnt at h5; omega) rfl (by omega) hm (by unfold cnt at h5; simp; omega) (by simp) t1 a1 (aR.rf hx) (fun j l hj => by simp at hj) b1 (fun ω' o' hb' => ?_)
          rw [hB] at hb'
          refine ⟨fun c => ?_, fun c => ?_⟩
          · rw [if_neg c] at h
            have g0 : 0 ≤ x2 := by
              by_cases z : 0 ≤ x2
              · exact z
              · exact absurd (m1 z) c
            obtain ⟨j, hj, rfl⟩ := (i_rng (n := 5) (by omega)).mp ⟨g0, hw.2⟩
            rw [nI_clamp (by omega)] at h
            rw [nI_clamp (by omega)]
            refine ⟨vp_in_nI (by omega) (by omega), ?_⟩
            cases B with
            | none =>
              rw [hb'.2 j (by omega)]
              exact h ω' (t1.tr o'.e1)
            | some p =>
              obtain ⟨z1, z2, z3, z4⟩ := hb'
              rw [z4 j (by omega)]
              exact h ω' (t1.tr o'.e1)
          · rw [if_pos c] at h
            cases B with
            | none =>
              rw [hb'.1]
              exact h ω' (t1.tr o'.e1)
            | some p =>
              obtain ⟨z1, z2, z3, z4⟩ := hb'
              rw [z1]
              exact h ω' (t1.tr o'.e1)
      · have c5 : ¬ nI (cnt s) ≤ 4 := fun c => h5 ((nI_leI (b := 4) (by have := mems_len (s := s) 6 0; unfold cnt; omega) (by omega)).mp c)
        exact ⟨-2, fun k h => p_T hw (bn1 (by decide) (l_areLoaves HT (fun s' hs' e' => br0 (by decide) (l_bits (by omega) (br0 c5 (h σ tE1.rf)))) (fun c => absurd rfl (c s hs)))), fun k h => q_T hw (bn1 (by decide) (c_isSet HC (fun s' hs' e' => br0 (by decide) (c_bits (by omega) (br0 c5 (h ω cE1.rf)))) (fun c => absurd rfl (c s hs))))⟩
    · exact ⟨-2, fun k h => p_T hw (bn1 (by decide) (l_areLoaves HT (fun s' h1 h2 => absurd ⟨s', h1, h2⟩ hs) (fun c => br1 rfl (h σ tE1.rf)))), fun k h => q_T hw (bn1 (by decide) (c_isSet HC (fun s' h1 h2 => absurd ⟨s', h1, h2⟩ hs) (fun c => br1 rfl (h ω cE1.rf))))⟩
  · exact ⟨-1, fun k h => p_F hw (bn0 rfl (h σ tE1.rf)), fun k h => q_F hw (bn0 rfl (h ω cE1.rf))⟩
end Q
