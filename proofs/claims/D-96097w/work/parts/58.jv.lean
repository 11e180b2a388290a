/-! PLAIN: tape -/
set_option maxRecDepth 100000
section
variable {T : xT} {q : Nat → Nat} {ω : CS} {σ : TS} {κ κi : KD}
/-- the first t items of the tape i are nought -/
def zL (σ : TS) (i t : Nat) : TS := (σ.1, fun m => if 60 * i ≤ m ∧ m < 60 * i + t then 0 else σ.2 m)
theorem zL_0 (σ : TS) (i : Nat) : zL σ i 0 = σ := by
  unfold zL
  refine Prod.ext rfl (funext fun m => ?_)
  exact if_neg (by omega)
theorem zL_s (σ : TS) (i t : Nat) : sL (zL σ i t) (60 * i + t) 0 = zL σ i (t + 1) := by
  unfold zL sL
  refine Prod.ext rfl (funext fun m => ?_)
  show vp_updL _ (60 * i + t) 0 m = if 60 * i ≤ m ∧ m < 60 * i + (t + 1) then 0 else σ.2 m
  by_cases c : m = 60 * i + t
  · subst c
    rw [updL_same, if_pos (by omega)]
  · rw [updL_ne c]
    show (if 60 * i ≤ m ∧ m < 60 * i + t then (0 : Int64) else σ.2 m) = _
    by_cases c2 : 60 * i ≤ m ∧ m < 60 * i + t
    · rw [if_pos c2, if_pos (by omega)]
    · rw [if_neg c2, if_neg (by omega)]
theorem l_L67 {i : Nat} (hi : i < 6) {K : Int32 → TS → Prop} (hk : K 1 (zL σ i 60)) : ∀ d t : Nat, d + t = 60 → tw_tape_L67 K (d + 1) (nI i) (nI t) (zL σ i t) := by
  intro d
  induction d with
  | zero =>
    intro t ht
    obtain rfl : t = 60 := by omega
    exact br1 (by decide) hk
  | succ d ih =>
    intro t ht
    refine br0 (nlt (a := t) (b := 60) (by omega) (by omega)) ?_
    rw [show (60 : Int32) = nI 60 from rfl, pk_mul, nI_add]
    refine ⟨vp_in_nI (by omega) (by omega), fun x87 e => ?_⟩
    subst e
    rw [nI_clamp (by omega), zL_s, show nI t + 1 = nI (t + 1) from nI_add t 1]
    exact ih (t + 1) (by omega)
theorem l_J42 {i : Nat} (hi : i < 6) {x2 x3 : Int32} {K : Int32 → TS → Prop} (hk : K 1 (zL (sA (sA σ 10 i x2) 11 i (if 0 ≤ x2 then x3 else 0)) i 60)) : tw_tape_J42 K (nI i) x2 x3 σ := by
  have ei : (nI i).toNatClampNeg = i := nI_clamp (by omega)
  refine ⟨vp_in_nI hi (by omega), fun c => ⟨vp_in_nI hi (by omega), 61, ?_⟩, fun c => ⟨vp_in_nI hi (by omega), 61, ?_⟩⟩
  · rw [if_pos c] at hk
    rw [ei]
    have z := l_L67 hi hk 60 0 rfl
    rw [zL_0] at z
    exact z
  · rw [if_neg c] at hk
    rw [ei]
    have z := l_L67 hi hk 60 0 rfl
    rw [zL_0] at z
    exact z
theorem rowR.kp {ω' : CS} {it : Nat → Int64} {b s n a : Nat} (h : rowR T ω it b s n a) (h1 : a ∈ ω'.2.1 ∧ ω'.2.2 a = ω.2.2 a) : rowR T ω' it b s n a := by
  obtain ⟨ha, hn, h⟩ := h
  refine ⟨h1.1, hn, ?_⟩
  rw [h1.2]
  exact h
/-- a tape gets a new row, or none -/
theorem Rel.tput (H : Rel T q ω σ κ κi) {ω1 : CS} {i : Nat} {r : Option Nat} {s0 n0 : Int32} (hi : i < 6) (e1 : ω1.1 = ω.1) (hk : ∀ b ∈ ω.2.1, b ∈ ω1.2.1 ∧ ω1.2.2 b = ω.2.2 b) (hr : ∀ a, r = some a → a ∉ ω.2.1) (hnew : tapeR T (cR ω1 (31 + i) 0 r) (zL (sA (sA σ 10 i s0) 11 i n0) i 60) i) : Rel T q (cR ω1 (31 + i) 0 r) (zL (sA (sA σ 10 i s0) 11 i n0) i 60) κ κi := by
  obtain ⟨h1, h2, h3, h4, h5, h6⟩ := Rel.iff.mp H
  have z : cZ ω (cR ω1 (31 + i) 0 r) := fun b hb _ => hk b hb
  have rn : ∀ c, c ≠ 31 + i → (cR ω1 (31 + i) 0 r).1.2 c = ω.1.2 c := fun c hc => by
    show (if c = 31 + i then _ else ω1.1.2 c) = _
    rw [if_neg hc, e1]
  have in_ : (cR ω1 (31 + i) 0 r).1.1 = ω.1.1 := by show ω1.1.1 = _; rw [e1]
  have re : (cR ω1 (31 + i) 0 r).1.2 (31 + i) 0 = r := by
    show (if 31 + i = 31 + i then va_up (ω1.1.2 (31 + i)) 0 r else _) 0 = _
    rw [if_pos rfl, va_up_self]
  have sn : ∀ i2, i2 ≠ i → (zL (sA (sA σ 10 i s0) 11 i n0) i 60).1 10 i2 = σ.1 10 i2 ∧ (zL (sA (sA σ 10 i s0) 11 i n0) i 60).1 11 i2 = σ.1 11 i2 := fun i2 hne => by
    constructor
    · show upd (σ.1 10) i s0 i2 = _
      simp [upd, hne]
    · show upd (σ.1 11) i n0 i2 = _
      simp [upd, hne]
  refine Rel.iff.mpr ⟨h1.mv z rfl rfl rfl rfl (congrFun (rn 0 (by omega)) 9) (rn 1 (by omega)) (fun c _ => by rw [in_]) (by rw [in_]) (by rw [in_]), h2.mv z rfl rfl rfl rfl (congrFun (rn 0 (by omega)) 30) (rn 42 (by omega)) (fun c _ => by rw [in_]) (by rw [in_]) (by rw [in_]), h3.mv z (rn 42 (by omega)), h4.mv rfl rfl rfl rfl rfl (by rw [in_]) (by rw [in_]) (by rw [in_]), h5.mv rfl rfl (by rw [in_]) (by rw [in_]), fun i2 hi2 => ?_, fun i2 j2 a hi2 hj2 g1 g2 => ?_⟩
  · by_cases c : i2 = i
    · subst c
      exact hnew
    · have g0 := rn (31 + i2) (by omega)
      rcases h6.1 i2 hi2 with ⟨g, g'⟩ | ⟨a2, s2, n2, g1, g2, g3, g4, g5⟩
      · exact Or.inl ⟨by rw [g0]; exact g, by rw [(sn i2 c).1]; exact g'⟩
      · refine Or.inr ⟨a2, s2, n2, by rw [g0]; exact g1, g2, by rw [(sn i2 c).1]; exact g3, by rw [(sn i2 c).2]; exact g4, (g5.it (fun k hk => ?_)).kp (hk a2 g5.1)⟩
        exact if_neg (by omega)
  · by_cases c1 : i2 = i
    · by_cases c2 : j2 = i
      · rw [c1, c2]
      · rw [c1, re] at g1
        rw [rn (31 + j2) (by omega)] at g2
        rcases h6.1 j2 hj2 with ⟨g, -⟩ | ⟨a2, s2, n2, y1, -, -, -, y5⟩
        · rw [g] at g2; cases g2
        · rw [y1] at g2
          cases g2
          exact absurd y5.1 (hr _ g1)
    · by_cases c2 : j2 = i
      · rw [c2, re] at g2
        rw [rn (31 + i2) (by omega)] at g1
        rcases h6.1 i2 hi2 with ⟨g, -⟩ | ⟨a2, s2, n2, y1, -, -, -, y5⟩
        · rw [g] at g1; cases g1
        · rw [y1] at g1
          cases g1
          exact absurd y5.1 (hr _ g2)
      · rw [rn (31 + i2) (by omega)] at g1
        rw [rn (31 + j2) (by omega)] at g2
        exact h6.2 i2 j2 a hi2 hj2 g1 g2
theorem row_zero {ω' : CS} {it : Nat → Int64} {b s n a : Nat} (ha : a ∈ ω'.2.1) (hs : s ≤ 4) (hn : n ≤ 60) (he : ω'.2.2 a = .inl (T.1 (sortT s), zeroV s n)) (hz : ∀ k, k < 60 → it (b + k) = 0) : rowR T ω' it b s n a := by
  refine ⟨ha, hn, ?_⟩
  match s, hs, he with
  | 0, _, he => exact Or.inr ⟨by omega, fun _ => 0, he, fun k hk => by rw [hz k (by omega)]; rfl, fun _ k _ => ⟨0, rfl⟩, fun _ k _ => ⟨0, rfl⟩, fun _ k _ => Or.inl rfl⟩
  | 1, _, he => exact Or.inr ⟨by omega, fun _ => 0, he, fun k hk => by rw [hz k (by omega)]; rfl, fun _ k _ => ⟨0, rfl⟩, fun _ k _ => ⟨0, rfl⟩, fun _ k _ => Or.inl rfl⟩
  | 2, _, he => exact Or.inr ⟨by omega, fun _ => 0, he, fun k hk => by rw [hz k (by omega)]; rfl, fun _ k _ => ⟨0, rfl⟩, fun _ k _ => ⟨0, rfl⟩, fun _ k _ => Or.inl rfl⟩
  | 3, _, he => exact Or.inl ⟨rfl, fun _ => 0, he, fun k hk => hz k (by omega)⟩
  | 4, _, he => exact Or.inr ⟨by omega, fun _ => 0, he, fun k hk => by rw [hz k (by omega)]; rfl, fun _ k _ => ⟨0, rfl⟩, fun _ k _ => ⟨0, rfl⟩, fun _ k _ => Or.inl rfl⟩
theorem sort_rng {j : Nat} (hj : j ≤ 4) : (-1 ≤ nI j ∧ nI j ≤ 4) ∧ ¬ nI j = -1 ∧ 0 ≤ nI j := by
  match j, hj with
  | 0, _ => decide
  | 1, _ => decide
  | 2, _ => decide
  | 3, _ => decide
  | 4, _ => decide
theorem J_tape (H : Rel T q ω σ κ κi) (x1 x2 x3 : Int32) : JM T q ω σ (tw_tape σ x1 x2 x3) (fun K => ∀ (r : Int32) (ω' : CS), tapeO T ω x1 x2 x3 r ω' → K r ω') := by
  unfold tw_tape
  have no : ∀ (r0 : Int32) (tk : (Int32 → TS → Prop) → Prop) (ck : (Int32 → CS → Prop) → Prop), (∀ K : Int32 → TS → Prop, K r0 σ → tk K) → (∀ K : Int32 → CS → Prop, K r0 ω → ck K) → JM T q ω σ tk ck := fun r0 tk ck h1 h2 => ⟨r0, fun σ' => σ' = σ, fun ω' => ω' = ω, fun K h => h1 K (h σ rfl), fun K h => h2 K (h ω rfl), fun σ' ω' e1 e2 => by subst e1; subst e2; exact ⟨κ, κi, H⟩⟩
  by_cases ht : 0 ≤ x1 ∧ x1 ≤ 5
  · obtain ⟨i, hi, rfl⟩ := tp_ex.mp ht
    have ei : (nI i).toNatClampNeg = i := nI_clamp (by omega)
    by_cases hs : -1 ≤ x2 ∧ x2 ≤ 4
    · by_cases h1 : x2 = -1
      · subst h1
        refine ⟨1, fun σ' => σ' = zL (sA (sA σ 10 i (-1)) 11 i 0) i 60, fun ω' => ω' = cR ω (31 + i) 0 none, fun K h => p_T ht ⟨Or.inr rfl, bn1 (by decide) (p_T hs (br0 (by decide) (br1 (by decide) (br1 (by decide) (l_J42 hi ?_)))))⟩, fun K h r ω' ho => ?_, fun σ' ω' e1 e2 => ?_⟩
        · exact h _ rfl
        · rcases ho with ⟨g, -⟩ | ⟨-, g, -⟩ | ⟨-, -, rfl, rfl⟩ | ⟨-, ⟨j, hj, g⟩, -⟩ | ⟨-, -, -, -, j, a, hj, g, -⟩
          · exact absurd ht g
          · exact (g.elim (fun g => absurd hs g) (fun g => absurd rfl g.1))
          · rw [ei]; exact h _ rfl
          · exact absurd g.symm (sort_rng hj).2.1
          · exact absurd g.symm (sort_rng hj).2.1
        · subst e1
          subst e2
          refine ⟨κ, κi, H.tput hi rfl (fun b hb => ⟨hb, rfl⟩) (fun a z => nomatch z) (Or.inl ⟨?_, ?_⟩)⟩
          · show (if 31 + i = 31 + i then va_up (ω.1.2 (31 + i)) 0 none else _) 0 = _
            rw [if_pos rfl, va_up_self]
          · show upd (σ.1 10) i (-1) i = -1
            simp [upd]
      · obtain ⟨j, hj, rfl⟩ := sort_of hs h1
        obtain ⟨-, -, hj0⟩ := sort_rng hj
        have hj1 : ¬ nI j < 0 := nI_pos (by omega)
        by_cases h60 : x3 ≤ 60
        · by_cases h0 : x3 < 0
          · refine no (-14) _ _ (fun K h => p_T ht ⟨Or.inr rfl, bn1 (by decide) (p_T hs (br0 (by decide) (br0 hj1 (br1 h60 (br0 hj1 (br0 (Int32.not_le.mpr h0) h))))))⟩) (fun K h r ω' ho => ?_)
            rcases ho with ⟨g, -⟩ | ⟨-, g, -⟩ | ⟨-, g, -⟩ | ⟨-, -, -, -, rfl, rfl⟩ | ⟨-, -, g, -⟩
            · exact absurd ht g
            · exact (g.elim (fun g => absurd hs g) (fun g => absurd h60 g.2))
            · exact absurd g h1
            · exact h
            · exact absurd h0 (Int32.not_lt.mpr g)
          · obtain ⟨n, hn, rfl⟩ := nI_of h0
            have hn60 : n ≤ 60 := (nI_leI (b := 60) hn (by omega)).mp h60
            refine ⟨1, fun σ' => σ' = zL (sA (sA σ 10 i (nI j)) 11 i (nI n)) i 60, fun ω' => ∃ a : Nat, a ∉ ω.2.1 ∧ ω' = cR (cNew ω a (.inl (T.1 (sortT j), zeroV j n))) (31 + i) 0 (some a), fun K h => p_T ht ⟨Or.inr rfl, bn1 (by decide) (p_T hs (br0 (by decide) (br0 hj1 (br1 h60 (br0 hj1 (br1 (Int32.not_lt.mp h0) (l_J42 hi ?_)))))))⟩, fun K h r ω' ho => ?_, fun σ' ω' e1 e2 => ?_⟩
            · rw [if_pos hj0]; exact h _ rfl
            · rcases ho with ⟨g, -⟩ | ⟨-, g, -⟩ | ⟨-, g, -⟩ | ⟨-, -, -, g, -⟩ | ⟨-, -, -, rfl, j2, a, hj2, g, hna, rfl⟩
              · exact absurd ht g
              · exact (g.elim (fun g => absurd hs g) (fun g => absurd h60 g.2))
              · exact absurd g h1
              · exact absurd g h0
              · have ej : j = j2 := (nI_eqI (by omega) (by omega)).mp g
                subst ej
                rw [ei, nI_clamp hn]
                exact h _ ⟨a, hna, rfl⟩
            · subst e1
              obtain ⟨a, hna, rfl⟩ := e2
              refine ⟨κ, κi, H.tput hi rfl (fun b hb => ⟨List.mem_append_left _ hb, va_up_ne _ _ (fun z => hna (z ▸ hb))⟩) (fun a2 z => by cases z; exact hna) (Or.inr ⟨a, j, n, ?_, hj, ?_, ?_, row_zero (new_at (ω := ω)).1 hj hn60 (new_at (ω := ω)).2 (fun k hk => if_pos (by omega))⟩)⟩
              · show (if 31 + i = 31 + i then va_up _ 0 (some a) else _) 0 = _
                rw [if_pos rfl, va_up_self]
              · show upd (σ.1 10) i (nI j) i = nI j
                simp [upd]
              · show upd (σ.1 11) i (nI n) i = nI n
                simp [upd]
        · refine no (-2) _ _ (fun K h => p_T ht ⟨Or.inr rfl, bn1 (by decide) (p_T hs (br0 (by decide) (br0 hj1 (br0 h60 h))))⟩) (fun K h r ω' ho => ?_)
          rcases ho with ⟨g, -⟩ | ⟨-, -, rfl, rfl⟩ | ⟨-, g, -⟩ | ⟨-, -, g, -⟩ | ⟨-, g, -⟩
          · exact absurd ht g
          · exact h
          · exact absurd g h1
          · exact absurd g h60
          · exact absurd g h60
    · refine no (-2) _ _ (fun K h => p_T ht ⟨Or.inr rfl, bn1 (by decide) (p_F hs (br1 rfl h))⟩) (fun K h r ω' ho => ?_)
      rcases ho with ⟨g, -⟩ | ⟨-, -, rfl, rfl⟩ | ⟨-, rfl, -⟩ | ⟨-, ⟨j, hj, rfl⟩, -⟩ | ⟨-, -, -, -, j, a, hj, rfl, -⟩
      · exact absurd ht g
      · exact h
      · exact absurd (by decide) hs
      · exact absurd (sort_rng hj).1 hs
      · exact absurd (sort_rng hj).1 hs
  · refine no (-1) _ _ (fun K h => p_F ht ⟨Or.inl rfl, bn0 rfl h⟩) (fun K h r ω' ho => ?_)
    rcases ho with ⟨-, rfl, rfl⟩ | ⟨g, -⟩ | ⟨g, -⟩ | ⟨g, -⟩ | ⟨g, -⟩
    · exact h
    · exact absurd g ht
    · exact absurd g ht
    · exact absurd g ht
    · exact absurd g ht
end
