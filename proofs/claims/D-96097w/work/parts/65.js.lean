/-! PLAIN: shift, its law -/
set_option maxRecDepth 100000
section
variable {T : xT} {q : Nat → Nat} {ω : CS} {σ : TS} {κ κi : KD}
theorem sub_toInt {n : Nat} {x : Int32} (hn : n ≤ 60) (hx : 0 ≤ x.toInt) : (nI n - x).toInt = (n : Int) - x.toInt := by
  have h1 := Int32.toInt_lt x
  rw [Int32.toInt_sub, nI_toInt (by omega)]
  exact Int.bmod_eq_of_le (by omega) (by omega)
theorem ge_toInt {x : Int32} (h : ¬ x < 0) : 0 ≤ x.toInt := Int32.le_iff_toInt_le.mp (Int32.not_lt.mp h)
theorem J_shift (hT : xTI T) (H : Rel T q ω σ κ κi) (x1 x2 x3 x4 x5 : Int32) : JM T q ω σ (tw_shift σ x1 x2 x3 x4 x5) (fun K => ∀ (r : Int32) (ω' : CS), shiftO T ω x1 x2 x3 x4 x5 r ω' → K r ω') := by
  unfold tw_shift
  have no : ∀ (r0 : Int32) (tk : (Int32 → TS → Prop) → Prop) (ck : (Int32 → CS → Prop) → Prop), (∀ K : Int32 → TS → Prop, K r0 σ → tk K) → (∀ K : Int32 → CS → Prop, K r0 ω → ck K) → JM T q ω σ tk ck := fun r0 tk ck h1 h2 => ⟨r0, fun σ' => σ' = σ, fun ω' => ω' = ω, fun K h => h1 K (h σ rfl), fun K h => h2 K (h ω rfl), fun σ' ω' e1 e2 => by subst e1; subst e2; exact ⟨κ, κi, H⟩⟩
  by_cases h1 : 0 ≤ x1 ∧ x1 ≤ 5
  rotate_left
  · refine no (-1) _ _ (fun K h => p_F h1 ⟨Or.inl rfl, br1 rfl h⟩) (fun K h r ω' ho => ?_)
    rcases ho with ⟨-, rfl, rfl⟩ | ⟨g, -⟩ | ⟨g, -⟩
    · exact h
    · exact absurd g.1 h1
    · exact absurd g.1 h1
  by_cases h3 : 0 ≤ x3 ∧ x3 ≤ 5
  rotate_left
  · refine no (-1) _ _ (fun K h => p_T h1 ⟨Or.inr rfl, br0 (by decide) (p_F h3 ⟨Or.inl rfl, bn0 rfl h⟩)⟩) (fun K h r ω' ho => ?_)
    rcases ho with ⟨-, rfl, rfl⟩ | ⟨g, -⟩ | ⟨g, -⟩
    · exact h
    · exact absurd g.2 h3
    · exact absurd g.2 h3
  obtain ⟨p, hp, rfl⟩ := tp_ex.mp h1
  obtain ⟨r, hr, rfl⟩ := tp_ex.mp h3
  have ep : (nI p).toNatClampNeg = p := nI_clamp (by omega)
  have er : (nI r).toNatClampNeg = r := nI_clamp (by omega)
  rcases H.tape hp with ⟨r0, s0⟩ | ⟨a, s, n0, r1, hs, e10, e11, hrow⟩
  · refine no (-11) _ _ (fun K h => p_T h1 ⟨Or.inr rfl, br0 (by decide) (p_T h3 ⟨Or.inr rfl, bn1 (by decide) ⟨vp_in_nI hp (by omega), br1 (by rw [ep, s0]; decide) h⟩⟩)⟩) (fun K h r9 ω' ho => ?_)
    rcases ho with ⟨g, -⟩ | ⟨-, -, rfl, rfl⟩ | ⟨-, s, a, s2, a2, x, y, g, -⟩
    · exact absurd ⟨h1, h3⟩ g
    · exact h
    · rw [ep, r0] at g; cases g
  have e9 : ¬ nI s < 0 := nI_pos (by omega)
  rcases H.tape hr with ⟨q0, s0⟩ | ⟨a2, s2, n1, q1, hs2, g10, g11, hrow2⟩
  · refine no (-11) _ _ (fun K h => p_T h1 ⟨Or.inr rfl, br0 (by decide) (p_T h3 ⟨Or.inr rfl, bn1 (by decide) ⟨vp_in_nI hp (by omega), br0 (by rw [ep, e10]; exact e9) ⟨vp_in_nI hr (by omega), br0 (by rw [er, s0]; decide) h⟩⟩⟩)⟩) (fun K h r9 ω' ho => ?_)
    rcases ho with ⟨g, -⟩ | ⟨-, -, rfl, rfl⟩ | ⟨-, s, a, s2, a2, x, y, -, -, g, -⟩
    · exact absurd ⟨h1, h3⟩ g
    · exact h
    · rw [er, q0] at g; cases g
  have e92 : 0 ≤ nI s2 := nI_pos' (by omega)
  obtain ⟨x, hx, hxn, hn, hsh, -⟩ := hrow.E hs
  obtain ⟨y, hy, hyn, hn1, hsh2, -⟩ := hrow2.E hs2
  have same : ∀ s' a' s2' a2' x' y', ω.1.2 (31 + (nI p).toNatClampNeg) 0 = some a' → rowE T ω s' a' x' → ω.1.2 (31 + (nI r).toNatClampNeg) 0 = some a2' → rowE T ω s2' a2' y' → a2' = a2 ∧ s' = s ∧ x' = x ∧ s2' = s2 ∧ y' = y := fun s' a' s2' a2' x' y' g g1 k k1 => by
    rw [ep, r1] at g
    rw [er, q1] at k
    cases g
    cases k
    exact ⟨rfl, (row_same hT g1 hx).1, (row_same hT g1 hx).2, (row_same hT k1 hy).1, (row_same hT k1 hy).2⟩
  by_cases hss : s = s2
  rotate_left
  · refine no (-12) _ _ (fun K h => p_T h1 ⟨Or.inr rfl, br0 (by decide) (p_T h3 ⟨Or.inr rfl, bn1 (by decide) ⟨vp_in_nI hp (by omega), br0 (by rw [ep, e10]; exact e9) ⟨vp_in_nI hr (by omega), br1 (by rw [er, g10]; exact e92) ⟨vp_in_nI hp (by omega), vp_in_nI hr (by omega), br0 (by rw [ep, er, e10, g10]; exact fun z => hss ((nI_eqI (by omega) (by omega)).mp z)) h⟩⟩⟩⟩)⟩) (fun K h r9 ω' ho => ?_)
    rcases ho with ⟨g, -⟩ | ⟨-, g, -⟩ | ⟨-, s', a', s2', a2', x', y', g, g1, k, k1, g2⟩
    · exact absurd ⟨h1, h3⟩ g
    · rw [ep, er, r1, q1] at g
      rcases g with g | g <;> cases g
    · obtain ⟨rfl, rfl, rfl, rfl, rfl⟩ := same s' a' s2' a2' x' y' g g1 k k1
      rcases g2 with ⟨-, rfl, rfl⟩ | ⟨z, -⟩ | ⟨z, -⟩
      · exact h
      · exact absurd z hss
      · exact absurd z hss
  subst hss
  have pre : ∀ K : Int32 → TS → Prop, ((x5 < 0 → K (-13) σ) ∧ (¬ x5 < 0 → (x2 < 0 → K (-13) σ) ∧ (¬ x2 < 0 → (x4 < 0 → K (-13) σ) ∧ (¬ x4 < 0 → vp_in (nI p) 6 ∧ (nI n0 - x2 < x5 → K (-13) σ) ∧ (¬ nI n0 - x2 < x5 → vp_in (nI r) 6 ∧ (x5 ≤ nI n1 - x4 → ∃ n102 : Nat, tw_shift_L102 K n102 (nI p) x2 (nI r) x4 x5 0 σ) ∧ (¬ x5 ≤ nI n1 - x4 → K (-13) σ)))))) → tw_shift σ (nI p) x2 (nI r) x4 x5 K := fun K h => by
    unfold tw_shift
    refine p_T h1 ⟨Or.inr rfl, br0 (by decide) (p_T h3 ⟨Or.inr rfl, bn1 (by decide) ⟨vp_in_nI hp (by omega), br0 (by rw [ep, e10]; exact e9) ⟨vp_in_nI hr (by omega), br1 (by rw [er, g10]; exact e92) ⟨vp_in_nI hp (by omega), vp_in_nI hr (by omega), br1 (by rw [ep, er, e10, g10]) ?_⟩⟩⟩⟩)⟩
    rw [ep, er, e11, g11]
    exact h
  by_cases hf : shFine x2 x4 x5 n0 n1
  · obtain ⟨f1, f2, f3, f4, f5⟩ := hf
    obtain ⟨i, hi, rfl⟩ := nI_of (x := x2) (fun z => by have := Int32.lt_iff_toInt_lt.mp z; exact absurd f1 (Int.not_le.mpr this))
    obtain ⟨j, hj, rfl⟩ := nI_of (x := x4) (fun z => by have := Int32.lt_iff_toInt_lt.mp z; exact absurd f2 (Int.not_le.mpr this))
    obtain ⟨n, hnn, rfl⟩ := nI_of (x := x5) (fun z => by have := Int32.lt_iff_toInt_lt.mp z; exact absurd f3 (Int.not_le.mpr this))
    have hf' : shFine (nI i) (nI j) (nI n) n0 n1 := ⟨f1, f2, f3, f4, f5⟩
    rw [nI_toInt hi, nI_toInt hnn] at f4
    rw [nI_toInt hj, nI_toInt hnn] at f5
    refine ⟨nI n, fun σ' => σ' = mU σ (60 * p + i) (60 * r + j) n, fun ω' => ∃ x' : vp_A, copyR x y i j n x' ∧ ω' = cRow ω a2 (.inl (T.1 (sortT s), x')), fun K h => pre K ?_, fun K h r9 ω' ho => ?_, fun σ' ω' e1 e2 => ?_⟩
    · refine br0 (nI_pos hnn) (br0 (nI_pos hi) (br0 (nI_pos hj) ⟨vp_in_nI hp (by omega), ?_⟩))
      rw [nI_subN (a := n0) (b := i) (by omega), nI_subN (a := n1) (b := j) (by omega)]
      refine br0 (fun z => by have := (nI_ltI (by omega) hnn).mp z; omega) ⟨vp_in_nI hr (by omega), br1 ((nI_leI hnn (by omega)).mpr (by omega)) ⟨n + 1, ?_⟩⟩
      by_cases c : nI i ≤ nI j
      · have hij : i ≤ j := (nI_leI hi hj).mp c
        have z := l_down (σ := σ) (p := p) (i := i) (r := r) (j := j) (n := n) (K := K) (by omega) (by omega) c (by omega) (h _ rfl) n 0 rfl
        rw [mD_0] at z
        exact z
      · have hij : j < i := by
          by_cases e : i ≤ j
          · exact absurd ((nI_leI hi hj).mpr e) c
          · omega
        have z := l_up (σ := σ) (p := p) (i := i) (r := r) (j := j) (n := n) (K := K) (by omega) (by omega) c (by omega) (h _ rfl) n 0 rfl
        rw [mU_0] at z
        exact z
    · rcases ho with ⟨g, -⟩ | ⟨-, g, -⟩ | ⟨-, s', a', s2', a2', x', y', g, g1, k, k1, g2⟩
      · exact absurd ⟨h1, h3⟩ g
      · rw [ep, er, r1, q1] at g
        rcases g with g | g <;> cases g
      · obtain ⟨rfl, rfl, rfl, rfl, rfl⟩ := same s' a' s2' a2' x' y' g g1 k k1
        rcases g2 with ⟨z, -⟩ | ⟨-, z, -⟩ | ⟨-, -, rfl, x9, z1, rfl⟩
        · exact absurd rfl z
        · rw [hxn, hyn] at z; exact absurd hf' z
        · rw [nI_clamp hi, nI_clamp hj, nI_clamp hnn] at z1
          exact h _ ⟨x9, z1, rfl⟩
    · subst e1
      obtain ⟨x', g, rfl⟩ := e2
      exact ⟨κ, κi, H.shift hr q1 hs g10 g11 hrow hrow2 hx hy hsh2 (by omega) (by omega) g⟩
  · refine no (-13) _ _ (fun K h => pre K ⟨fun _ => h, fun c1 => ⟨fun _ => h, fun c2 => ⟨fun _ => h, fun c3 => ⟨vp_in_nI hp (by omega), fun _ => h, fun c4 => ⟨vp_in_nI hr (by omega), fun c5 => ?_, fun _ => h⟩⟩⟩⟩⟩) (fun K h r9 ω' ho => ?_)
    · exfalso
      have b1 := ge_toInt c1
      have b2 := ge_toInt c2
      have b3 := ge_toInt c3
      have b4 := Int32.le_iff_toInt_le.mp (Int32.not_lt.mp c4)
      have b5 := Int32.le_iff_toInt_le.mp c5
      rw [sub_toInt hn b2] at b4
      rw [sub_toInt hn1 b3] at b5
      exact hf ⟨b2, b3, b1, by omega, by omega⟩
    · rcases ho with ⟨g, -⟩ | ⟨-, g, -⟩ | ⟨-, s', a', s2', a2', x', y', g, g1, k, k1, g2⟩
      · exact absurd ⟨h1, h3⟩ g
      · rw [ep, er, r1, q1] at g
        rcases g with g | g <;> cases g
      · obtain ⟨rfl, rfl, rfl, rfl, rfl⟩ := same s' a' s2' a2' x' y' g g1 k k1
        rcases g2 with ⟨z, -⟩ | ⟨-, -, rfl, rfl⟩ | ⟨-, z, -⟩
        · exact absurd rfl z
        · exact h
        · rw [hxn, hyn] at z; exact absurd z hf
end
