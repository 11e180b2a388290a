/-! PLAIN: taken, judge -/
set_option maxRecDepth 100000
section
variable {T : xT} {q : Nat → Nat} {ω : CS} {σ : TS} {κ κi : KD}
/-- the rows' classes differ -/
def xTI (T : xT) : Prop := ∀ s s2 : Nat, s ≤ 4 → s2 ≤ 4 → T.1 (sortT s) = T.1 (sortT s2) → s = s2
theorem row_same (hT : xTI T) {s s2 a : Nat} {x x2 : vp_A} (h : rowE T ω s a x) (h2 : rowE T ω s2 a x2) : s = s2 ∧ x = x2 := by
  have e := h.2.2.symm.trans h2.2.2
  injection e with e
  exact ⟨hT s s2 h.1 h2.1 (Prod.mk.inj e).1, (Prod.mk.inj e).2⟩
theorem i64_inj {a b : Int32} (h : a.toInt64 = b.toInt64) : a = b := by
  have h1 := congrArg Int64.toInt h
  rw [Int32.toInt_toInt64, Int32.toInt_toInt64] at h1
  exact Int32.toInt_inj.mp h1
theorem cast_law : ∀ kd, kd < 7 → ∀ j, j < 7 → castOK kd j = decide (nI kd = nI j ∨ (if nI kd < 4 then (0 : Int32) else nI kd - 3) = nI j ∨ nI j = 0) := by decide
theorem tk_law {kd j : Nat} (hkd : kd < 7) (hj : j < 7) {K : Int32 → Prop} (h : K (if castOK kd j = true then nI kd else -12)) : (nI kd = nI j → K (nI kd)) ∧ (¬ nI kd = nI j → pw_above (nI kd) (fun r => (r = nI j → K (nI kd)) ∧ (¬ r = nI j → (¬ nI j = 0 → K (-12)) ∧ (nI j = 0 → K (nI kd))))) := by
  have e := cast_law kd hkd j hj
  have ht : (nI kd = nI j ∨ (if nI kd < 4 then (0 : Int32) else nI kd - 3) = nI j ∨ nI j = 0) → K (nI kd) := fun z => by
    rw [decide_eq_true z] at e
    rw [if_pos e] at h
    exact h
  have hf : ¬ (nI kd = nI j ∨ (if nI kd < 4 then (0 : Int32) else nI kd - 3) = nI j ∨ nI j = 0) → K (-12) := fun z => by
    rw [decide_eq_false z] at e
    rw [if_neg (by rw [e]; decide)] at h
    exact h
  refine ⟨fun z => ht (Or.inl z), fun n1 => ⟨fun g => ⟨fun z => ht (Or.inr (Or.inl (by rw [if_pos g]; exact z))), fun n2 => ⟨fun n3 => hf ?_, fun z => ht (Or.inr (Or.inr z))⟩⟩, fun g => ⟨fun z => ht (Or.inr (Or.inl (by rw [if_neg g]; exact z))), fun n2 => ⟨fun n3 => hf ?_, fun z => ht (Or.inr (Or.inr z))⟩⟩⟩⟩
  · rintro (z | z | z)
    · exact n1 z
    · rw [if_pos g] at z; exact n2 z
    · exact n3 z
  · rintro (z | z | z)
    · exact n1 z
    · rw [if_neg g] at z; exact n2 z
    · exact n3 z
theorem Rel.loaf (H : Rel T q ω σ κ κi) {x : Int32} (hx : 0 ≤ x ∧ x ≤ ω.1.1 0 3 - 1) : vp_in x 6 ∧ ∃ (a kd : Nat) (n v0 : Int32), ω.1.2 1 x.toNatClampNeg = some a ∧ lofR q ω a kd n v0 := by
  have ho := H.1.ok
  obtain ⟨h6, e5⟩ := mOf_le ho
  rw [H.1.2.2.2.2.1.1, e5] at hx
  obtain ⟨l, hl, rfl⟩ := (loaf_iff h6).mp hx
  obtain ⟨a, h1, h2⟩ := H.1.2.2.2.2.1.2.2.2.1 l hl
  exact ⟨vp_in_nI (by omega) (by omega), a, _, _, _, by rw [nI_clamp (by omega)]; exact h1, h2⟩
theorem J_taken (H : Rel T q ω σ κ κi) (x k : Int32) : JQ ω σ (tw_taken σ x k) (fun K => ∀ r : Int32, takenO q ω x k r → K r ω) := by
  have ho := H.1.ok
  obtain ⟨h6, e5⟩ := mOf_le ho
  have hli : (0 ≤ x ∧ x ≤ ω.1.1 0 3 - 1) ↔ ∃ l : Nat, l < mOf (σ.1 1) ∧ x = nI l := by
    rw [H.1.2.2.2.2.1.1, e5]
    exact loaf_iff h6
  unfold tw_taken
  by_cases hk : 0 ≤ k ∧ k ≤ 6
  · obtain ⟨hj, ej⟩ := kind_of hk
    by_cases hl : ∃ l : Nat, l < mOf (σ.1 1) ∧ x = nI l
    · have hx := hli.mpr hl
      obtain ⟨l, hl, rfl⟩ := hl
      obtain ⟨a, h1, h2⟩ := H.1.2.2.2.2.1.2.2.2.1 l hl
      have hl6 : l < 6 := by omega
      obtain ⟨j0, hj0, ek⟩ := (ho.2.2.2 l hl6).1
      have ekd : σ.1 1 (8 + 10 * l) = nI (aKd (σ.1 1) l) := by
        unfold aKd
        rw [ek, nI_clamp (by omega)]
      refine ⟨if castOK (aKd (σ.1 1) l) k.toNatClampNeg = true then nI (aKd (σ.1 1) l) else -12, fun K h => p_T hk (bn1 (by decide) (l_loafT ho hl (bn1 (by decide) (l_kind hl6 ?_)))), fun K h r hr => ?_⟩
      · rw [ekd]
        have z := tk_law (kd := aKd (σ.1 1) l) (j := k.toNatClampNeg) (by have := h2.1; omega) (by omega) (K := fun r => K r σ) (h σ tE1.rf)
        rw [← ej] at z
        exact z
      · have z := h ω cE1.rf
        rcases hr with ⟨g, -⟩ | ⟨-, g, -⟩ | ⟨-, -, a2, kd2, n2, v2, g1, g2, g3⟩
        · exact absurd hk g
        · exact absurd hx g
        · rw [nI_clamp (by omega), h1] at g1
          cases g1
          have e := lof_kd h2 g2
          rw [e] at z
          rcases g3 with ⟨g, rfl⟩ | ⟨g, rfl⟩
          · rw [if_pos g] at z; exact z
          · rw [if_neg (by rw [g]; decide)] at z; exact z
    · refine ⟨-11, fun K h => p_T hk (bn1 (by decide) (l_loafF ho hl (bn0 rfl (h σ tE1.rf)))), fun K h r hr => ?_⟩
      rcases hr with ⟨g, -⟩ | ⟨-, -, rfl⟩ | ⟨-, g, -⟩
      · exact absurd hk g
      · exact h ω cE1.rf
      · exact absurd (hli.mp g) hl
  · refine ⟨-2, fun K h => p_F hk (bn0 rfl (h σ tE1.rf)), fun K h r hr => ?_⟩
    rcases hr with ⟨-, rfl⟩ | ⟨g, -⟩ | ⟨g, -⟩
    · exact h ω cE1.rf
    · exact absurd g hk
    · exact absurd g hk
theorem l_jl {i n : Nat} {f : Nat → Int32} {h : Nat → Int32} {x2 : Int32} (hi : i < 6) (hn : n ≤ 60) (h0 : 0 ≤ x2) (e11 : σ.1 11 i = nI n) (hv : ∀ k, k < n → σ.2 (60 * i + k) = (f k).toInt64) (hh : ∀ j, j < 4 → h j = σ.1 1 j) {K : Int32 → TS → Prop} : ∀ d j : Nat, d + j = 4 → K (foV (some (n, f)) h x2 d j) σ → tw_judge_L49 K (d + 1) (nI i) x2 (nI j) σ := by
  have ei : (nI i).toNatClampNeg = i := nI_clamp (by omega)
  obtain ⟨a0, ha0, rfl⟩ := nI_of (Int32.not_lt.mpr h0)
  intro d
  induction d with
  | zero =>
    intro j hj hk
    obtain rfl : j = 4 := by omega
    exact ⟨fun _ => hk, fun z => absurd (show (4 : Int32) ≤ nI 4 by decide) z⟩
  | succ d ih =>
    intro j hj hk
    have hj4 : j < 4 := by omega
    rw [foS] at hk
    rw [nI_toInt ha0] at hk
    refine br0 (j4 hj4).1 ⟨vp_in_nI hi (by omega), ?_⟩
    rw [ei, e11]
    have hs : (nI n - nI j).toInt = (n : Int) - (j : Int) := by
      rw [Int32.toInt_sub, nI_toInt (by omega), nI_toInt (by omega)]
      exact Int.bmod_eq_of_le (by omega) (by omega)
    have hlt : nI a0 < nI n - nI j ↔ (a0 : Int) + (j : Int) < (n : Int) := by
      rw [Int32.lt_iff_toInt_lt, nI_toInt ha0, hs]
      omega
    by_cases c : (a0 : Int) + (j : Int) < (n : Int)
    · rw [if_pos ⟨by omega, c⟩, show ((a0 : Int) + (j : Int)).toNat = a0 + j by omega] at hk
      refine br1 (hlt.mpr c) ?_
      rw [show (60 : Int32) = nI 60 from rfl, pk_mul, nI_add, nI_add, (j4 hj4).2.2, nI_clamp (by omega), show 60 * i + a0 + j = 60 * i + (a0 + j) by omega, hv _ (by omega)]
      refine ⟨vp_in_nI (by omega) (by omega), vp_in_nI (by omega) (by omega), ?_⟩
      rw [hh j hj4] at hk
      by_cases c2 : f (a0 + j) = σ.1 1 j
      · rw [if_pos c2] at hk
        refine br1 (cmp_eq.mpr (by rw [c2])) (fun x97 e => ?_)
        subst e
        rw [nI_s j hj4]
        exact ih (j + 1) (by omega) hk
      · rw [if_neg c2] at hk
        exact br0 (fun z => c2 (i64_inj (cmp_eq.mp z))) hk
    · rw [if_neg (fun z => c z.2)] at hk
      refine br0 (fun z => c (hlt.mp z)) ?_
      rw [Int32.add_comm]
      exact hk
theorem J_judge (hT : xTI T) (H : Rel T q ω σ κ κi) (x1 x2 : Int32) : JQ ω σ (tw_judge σ x1 x2) (fun K => ∀ r : Int32, judgeO T ω x1 x2 r → K r ω) := by
  unfold tw_judge
  have hh : ∀ j, j < 4 → ω.1.1 5 j = σ.1 1 j := H.1.2.2.2.2.2.1
  by_cases ht : 0 ≤ x1 ∧ x1 ≤ 5
  · obtain ⟨i, hi, rfl⟩ := tp_ex.mp ht
    have ei : (nI i).toNatClampNeg = i := nI_clamp (by omega)
    rcases H.tape hi with ⟨r0, s0⟩ | ⟨a, s, n, r1, hs, e10, e11, hrow⟩
    · refine ⟨100, fun K h => p_T ht ⟨Or.inr rfl, bn1 (by decide) ⟨vp_in_nI hi (by omega), br1 (by rw [ei, s0]; decide) ⟨vp_in_nI hi (by omega), br1 (by rw [ei, s0]; decide) (h σ tE1.rf)⟩⟩⟩, fun K h r hr => ?_⟩
      rcases hr with ⟨g, -⟩ | ⟨-, -, rfl⟩ | ⟨-, s, a, x, g, -⟩
      · exact absurd ht g
      · exact h ω cE1.rf
      · rw [ei, r0] at g
        cases g
    · obtain ⟨x, hx, hxn, hn, hsh, hv⟩ := hrow.E hs
      have e9 : ¬ nI s < 0 := nI_pos (by omega)
      have same : ∀ s2 a2 x2', ω.1.2 (31 + (nI i).toNatClampNeg) 0 = some a2 → rowE T ω s2 a2 x2' → a2 = a := fun s2 a2 x2' g _ => by
        rw [ei, r1] at g
        cases g
        rfl
      by_cases c1 : s = 1
      · subst c1
        rcases hsh with ⟨z, -⟩ | ⟨-, n', f, rfl⟩
        · exact absurd z (by decide)
        obtain rfl : n' = n := hxn
        have hv' : ∀ k, k < n' → σ.2 (60 * i + k) = (f k).toInt64 := fun k hk => by
          rcases hv k hk with ⟨-, n2, f2, e, z⟩ | ⟨z, -⟩ | ⟨z, -⟩
          · cases e; exact z
          · exact absurd z (by decide)
          · exact absurd z (by decide)
        refine ⟨foV (some (n', f)) (ω.1.1 5) x2 4 0, fun K h => p_T ht ⟨Or.inr rfl, bn1 (by decide) ⟨vp_in_nI hi (by omega), br0 (by rw [ei, e10]; exact e9) ⟨vp_in_nI hi (by omega), br1 (by rw [ei, e10]; rfl) ⟨vp_in_nI hi (by omega), br0 (by rw [ei, e10]; exact e9) ⟨fun c => ⟨5, ?_⟩, fun c => ?_⟩⟩⟩⟩⟩, fun K h r hr => ?_⟩
        · exact l_jl hi hn c e11 hv' hh 4 0 rfl (h σ tE1.rf)
        · have z := h σ tE1.rf
          rw [foS, if_neg (fun y => c (Int32.le_iff_toInt_le.mpr (by have := y.1; simpa using this)))] at z
          exact z
        · rcases hr with ⟨g, -⟩ | ⟨-, g, -⟩ | ⟨-, s2, a2, x9, g, g1, g2⟩
          · exact absurd ht g
          · rw [ei, r1] at g; cases g
          · have ea := same s2 a2 x9 g g1
            subst ea
            obtain ⟨es, ex⟩ := row_same hT g1 hx
            subst es
            subst ex
            rcases g2 with ⟨g3, -⟩ | ⟨-, n2, f2, e, rfl⟩
            · exact absurd rfl g3
            · cases e
              exact h ω cE1.rf
      · have c1' : ¬ nI s = 1 := fun z => c1 ((nI_eqI (b := 1) (by omega) (by omega)).mp z)
        refine ⟨-12, fun K h => p_T ht ⟨Or.inr rfl, bn1 (by decide) ⟨vp_in_nI hi (by omega), br0 (by rw [ei, e10]; exact e9) ⟨vp_in_nI hi (by omega), br0 (by rw [ei, e10]; exact c1') (h σ tE1.rf)⟩⟩⟩, fun K h r hr => ?_⟩
        rcases hr with ⟨g, -⟩ | ⟨-, g, -⟩ | ⟨-, s2, a2, x9, g, g1, g2⟩
        · exact absurd ht g
        · rw [ei, r1] at g; cases g
        · have ea := same s2 a2 x9 g g1
          subst ea
          obtain ⟨es, ex⟩ := row_same hT g1 hx
          subst es
          rcases g2 with ⟨-, rfl⟩ | ⟨g3, -⟩
          · exact h ω cE1.rf
          · exact absurd g3 c1
  · refine ⟨-1, fun K h => p_F ht ⟨Or.inl rfl, bn0 rfl (h σ tE1.rf)⟩, fun K h r hr => ?_⟩
    rcases hr with ⟨-, rfl⟩ | ⟨g, -⟩ | ⟨g, -⟩
    · exact h ω cE1.rf
    · exact absurd g ht
    · exact absurd g ht
end
