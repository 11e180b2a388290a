/-! PLAIN: the relation of component and twin; looked, trace, count -/
set_option maxRecDepth 100000
def bkOf (x : SS) : Nat := (x 7).toNatClampNeg
/-- loaves, gives, bears, the book, a time: all of it but how many -/
def cBank (q : Nat → Nat) (ω : CS) (pl pg pb pk ps t : Nat) (x : SS) : Prop :=
  (∀ l, l < 6 → ω.1.2 pl l = none ∨ ∃ a, ω.1.2 pl l = some a ∧ lofR q ω a (aKd x l) (nI l) (x (8 + 10 * l + 1))) ∧
  (∀ l, l < mOf x → ω.1.2 pl l ≠ none) ∧
  (∀ l, l < 6 → ∀ t, t < 4 → ω.1.1 pg (4 * l + t) = x (8 + 10 * l + (2 + t)) ∧ ω.1.1 pb (4 * l + t) = x (8 + 10 * l + (6 + t))) ∧
  (∀ k, k < 12 → ω.1.1 pk k = x (68 + 2 * k) ∧ ω.1.1 ps k = x (68 + 2 * k + 1) ∧ (x (68 + 2 * k) = -2 ∨ smallN (x (68 + 2 * k)) 5) ∧ (x (68 + 2 * k + 1) = 0 ∨ x (68 + 2 * k + 1) = 1)) ∧
  (bkOf x ≤ 12 ∧ x 7 = nI (bkOf x) ∧ ∀ k, k < bkOf x → x (68 + 2 * k) = -2 ∨ ∃ l, l < mOf x ∧ x (68 + 2 * k) = nI l) ∧ cAt ω t x
/-- the kinds of a row, as the machine types arrays: by its sort -/
def sortT (s : Nat) : Nat := match s with
  | 0 => 2
  | 1 => 3
  | 2 => 0
  | 3 => 1
  | _ => 4
/-- the row at a holds what the twin's items say (n of them, from b on) -/
def rowR (T : xT) (ω : CS) (it : Nat → Int64) (b s n a : Nat) : Prop := a ∈ ω.2.1 ∧ n ≤ 60 ∧
  ((s = 3 ∧ ∃ g : Nat → Int64, ω.2.2 a = .inl (T.1 1, n, .inr (.inl g)) ∧ ∀ k, k < n → it (b + k) = g k) ∨
   ((s = 0 ∨ s = 1 ∨ s = 2 ∨ s = 4) ∧ ∃ f : Nat → Int32, ω.2.2 a = .inl (T.1 (sortT s), n, .inl f) ∧ (∀ k, k < n → it (b + k) = (f k).toInt64) ∧ (s = 0 → ∀ k, k < n → ∃ z : Int32, f k = z.toInt8.toInt32) ∧ (s = 1 → ∀ k, k < n → ∃ z : Int32, f k = z.toInt16.toInt32) ∧ (s = 4 → ∀ k, k < n → f k = 0 ∨ f k = 1)))
def tapeR (T : xT) (ω : CS) (σ : TS) (i : Nat) : Prop := (ω.1.2 (31 + i) 0 = none ∧ σ.1 10 i = -1) ∨ ∃ (a s n : Nat), ω.1.2 (31 + i) 0 = some a ∧ s ≤ 4 ∧ σ.1 10 i = nI s ∧ σ.1 11 i = nI n ∧ rowR T ω σ.2 (60 * i) s n a
def Rel (T : xT) (q : Nat → Nat) (ω : CS) (σ : TS) (κ κi : KD) : Prop :=
  Qc T q ω σ κ (σ.1 1) ∧ cBank q ω 1 2 3 28 29 0 (σ.1 1) ∧ ω.1.1 0 14 = σ.1 1 7 ∧
  -- the image
  (tZ (σ.1 2) ∧ ((σ.1 0 3 = 0 ∧ ω.1.2 0 30 = none) ∨ (σ.1 0 3 = 1 ∧ kilR T ω (ω.1.2 0 30) κi ∧ cBank q ω 42 43 44 45 46 9 (σ.1 2) ∧ ω.1.1 0 28 = σ.1 2 5 ∧ ω.1.1 0 29 = σ.1 2 7 ∧ tKil σ (σ.1 2 6) κi ∧ okS (σ.1 2)))) ∧
  (∀ l, l < 6 → ω.1.2 42 l = none ∨ ∃ a kd n v, ω.1.2 42 l = some a ∧ lofR q ω a kd n v) ∧
  -- text, kilns
  (∃ tx kn h hi : Nat, tx ≤ 100 ∧ kn ≤ 6 ∧ σ.1 0 7 = nI tx ∧ ω.1.1 0 7 = nI tx ∧ σ.1 0 8 = nI kn ∧ ω.1.1 0 8 = nI kn ∧ (∀ i, i < tx → ω.1.1 24 i = σ.1 4 i ∧ smallN (σ.1 4 i) 127) ∧ σ.1 1 6 = nI h ∧ h ≤ kn ∧ σ.1 2 6 = nI hi ∧ hi ≤ kn) ∧
  -- the trace
  (∃ c : Nat, c ≤ 1000 ∧ σ.1 0 29 = nI c ∧ ω.1.1 26 1 = nI c ∧ ∀ i, i < c → i < 20 → ω.1.1 27 i = σ.1 13 i) ∧
  -- tapes
  (∀ i, i < 6 → tapeR T ω σ i) ∧ (∀ i j a, i < 6 → j < 6 → ω.1.2 (31 + i) 0 = some a → ω.1.2 (31 + j) 0 = some a → i = j)
theorem cBank.e1 {q : Nat → Nat} {ω ω' : CS} {pl pg pb pk ps t : Nat} {x : SS} (h : cBank q ω pl pg pb pk ps t x) (g : cE1 ω ω') (hc : (pg = 2 ∧ pb = 3 ∧ pk = 28 ∧ ps = 29 ∧ t = 0) ∨ (pg = 43 ∧ pb = 44 ∧ pk = 45 ∧ ps = 46 ∧ t = 9)) : cBank q ω' pl pg pb pk ps t x := by
  obtain ⟨h1, h2, h3, h4, h5, h6⟩ := h
  obtain ⟨g1, g2, g3, g4⟩ := g
  have e : ω'.1.1 pg = ω.1.1 pg ∧ ω'.1.1 pb = ω.1.1 pb ∧ ω'.1.1 pk = ω.1.1 pk ∧ ω'.1.1 ps = ω.1.1 ps ∧ ω'.1.1 (5 + 2 * t) = ω.1.1 (5 + 2 * t) ∧ ω'.1.1 (4 + 2 * t) = ω.1.1 (4 + 2 * t) := by
    rcases hc with ⟨rfl, rfl, rfl, rfl, rfl⟩ | ⟨rfl, rfl, rfl, rfl, rfl⟩ <;> refine ⟨?_, ?_, ?_, ?_, ?_, ?_⟩ <;> refine g3 _ ?_ ?_ ?_ ?_ ?_ ?_ ?_ <;> omega
  obtain ⟨a1, a2, a3, a4, a5, a6⟩ := e
  refine ⟨fun l hl => ?_, fun l hl => by rw [g1]; exact h2 l hl, by rw [a1, a2]; exact h3, by rw [a3, a4]; exact h4, h5, ?_⟩
  · rw [g1]
    rcases h1 l hl with z | ⟨a, z1, z2⟩
    · exact Or.inl z
    · exact Or.inr ⟨a, z1, lofR_mv g2 z2⟩
  · unfold cAt
    rw [a5, a6]
    exact h6
theorem rowR.mv {T : xT} {ω ω' : CS} {it : Nat → Int64} {b s n a : Nat} (h : rowR T ω it b s n a) (e : ω'.2 = ω.2) : rowR T ω' it b s n a := by
  unfold rowR
  rw [e]
  exact h
theorem Rel.e1 {T : xT} {q : Nat → Nat} {ω ω' : CS} {σ σ' : TS} {κ κi : KD} (h : Rel T q ω σ κ κi) (g : cE1 ω ω') (t : tE1 σ σ') : Rel T q ω' σ' κ κi := by
  obtain ⟨h1, h2, h3, ⟨z4, h4⟩, h5, ⟨tx, kn, hh, hi, c1, c2, c3, c4, c5, c6, c7, c8, c9, c10, c11⟩, ⟨c, d1, d2, d3, d4⟩, h8, h9⟩ := h
  have T1 : σ'.1 1 = σ.1 1 := t.1 1 (by omega) (by omega) (by omega) (by omega) (by omega)
  have T2 : σ'.1 2 = σ.1 2 := t.1 2 (by omega) (by omega) (by omega) (by omega) (by omega)
  have T4 : σ'.1 4 = σ.1 4 := t.1 4 (by omega) (by omega) (by omega) (by omega) (by omega)
  have T5 : σ'.1 5 = σ.1 5 := t.1 5 (by omega) (by omega) (by omega) (by omega) (by omega)
  have T6 : σ'.1 6 = σ.1 6 := t.1 6 (by omega) (by omega) (by omega) (by omega) (by omega)
  have T10 : σ'.1 10 = σ.1 10 := t.1 10 (by omega) (by omega) (by omega) (by omega) (by omega)
  have T11 : σ'.1 11 = σ.1 11 := t.1 11 (by omega) (by omega) (by omega) (by omega) (by omega)
  have T13 : σ'.1 13 = σ.1 13 := t.1 13 (by omega) (by omega) (by omega) (by omega) (by omega)
  have t3 : σ'.1 0 3 = σ.1 0 3 := t.2.2.1 3 (by omega) (by omega)
  have t7 : σ'.1 0 7 = σ.1 0 7 := t.2.2.1 7 (by omega) (by omega)
  have t8 : σ'.1 0 8 = σ.1 0 8 := t.2.2.1 8 (by omega) (by omega)
  have t29 : σ'.1 0 29 = σ.1 0 29 := t.2.2.1 29 (by omega) (by omega)
  have G : ∀ c, 1 ≤ c → c ≠ 25 → c ≠ 37 → c ≠ 38 → (c < 6 ∨ 21 < c) → c ≠ 40 → c ≠ 41 → ω'.1.1 c = ω.1.1 c := g.2.2.1
  refine ⟨?_, ?_, ?_, ?_, ?_, ?_, ?_, ?_, ?_⟩
  · rw [T1]
    obtain ⟨q1, q2, q3, q4, q5, q6⟩ := h1
    exact ⟨T1, q2.e1 t, q3, t.2.2.2 q4, q5.e1 g, q6.e1 g⟩
  · rw [T1]; exact h2.e1 g (Or.inl ⟨rfl, rfl, rfl, rfl, rfl⟩)
  · rw [T1, g.2.2.2 14 (by omega)]; exact h3
  · rw [T2, t3]
    refine ⟨z4, h4.imp (fun z => ⟨z.1, by rw [g.1]; exact z.2⟩) (fun z => ?_)⟩
    obtain ⟨z1, z2, z3, z4, z5, z6, z7⟩ := z
    exact ⟨z1, by rw [g.1]; exact kilR_mv g.2.1 z2, z3.e1 g (Or.inr ⟨rfl, rfl, rfl, rfl, rfl⟩), by rw [g.2.2.2 28 (by omega)]; exact z4, by rw [g.2.2.2 29 (by omega)]; exact z5, z6.mv T5 T6, z7⟩
  · intro l hl
    rw [g.1]
    rcases h5 l hl with z | ⟨a, kd, n, v, z1, z2⟩
    · exact Or.inl z
    · exact Or.inr ⟨a, kd, n, v, z1, lofR_mv g.2.1 z2⟩
  · refine ⟨tx, kn, hh, hi, c1, c2, by rw [t7]; exact c3, by rw [g.2.2.2 7 (by omega)]; exact c4, by rw [t8]; exact c5, by rw [g.2.2.2 8 (by omega)]; exact c6, ?_, by rw [T1]; exact c8, c9, by rw [T2]; exact c10, c11⟩
    rw [T4, G 24 (by omega) (by omega) (by omega) (by omega) (by omega) (by omega) (by omega)]
    exact c7
  · refine ⟨c, d1, by rw [t29]; exact d2, by rw [G 26 (by omega) (by omega) (by omega) (by omega) (by omega) (by omega) (by omega)]; exact d3, ?_⟩
    rw [T13, G 27 (by omega) (by omega) (by omega) (by omega) (by omega) (by omega) (by omega)]
    exact d4
  · intro i hi'
    unfold tapeR
    rw [g.1, T10, T11, t.2.1]
    rcases h8 i hi' with z | ⟨a, s, n, z1, z2, z3, z4, z5⟩
    · exact Or.inl z
    · exact Or.inr ⟨a, s, n, z1, z2, z3, z4, z5.mv g.2.1⟩
  · rw [g.1]; exact h9
section Q
variable {T : xT} {q : Nat → Nat} {ω : CS} {σ : TS} {κ κi : KD}
theorem J_count (H : Rel T q ω σ κ κi) (x1 : Int32) : JQ ω σ (tw_count σ x1) (cw_count T q ω x1) := by
  obtain ⟨h1, h2, h3, h4, h5, ⟨tx, kn, hh, hi, c1, c2, c3, c4, c5, c6, c7, c8, c9, c10, c11⟩, ⟨c, d1, d2, d3, d4⟩, h8, h9⟩ := H
  have hS := h1.2.2.2.2.1.1
  unfold tw_count cw_count
  rw [tc5, tc7, hS, c6, h3, c4, d3, c3, c5, d2]
  by_cases e0 : x1 = 0
  · subst e0
    exact ⟨σ.1 1 5, fun k h => ⟨fun _ => ⟨vi5, h σ tE1.rf⟩, fun z => absurd z (by decide), fun z => absurd z (by decide), fun z => absurd z (by decide), fun z => absurd z (by decide), fun z => absurd rfl z⟩, fun k h => ⟨fun _ => h ω cE1.rf, fun z => absurd z (by decide), fun z => absurd z (by decide), fun z => absurd z (by decide), fun z => absurd z (by decide), fun z => absurd rfl z⟩⟩
  by_cases e1 : x1 = 1
  · subst e1
    exact ⟨nI kn, fun k h => ⟨fun z => absurd z (by decide), fun _ => h σ tE1.rf, fun z => absurd z (by decide), fun z => absurd z (by decide), fun z => absurd z (by decide), fun _ z => absurd rfl z⟩, fun k h => ⟨fun z => absurd z (by decide), fun _ => h ω cE1.rf, fun z => absurd z (by decide), fun z => absurd z (by decide), fun z => absurd z (by decide), fun _ z => absurd rfl z⟩⟩
  by_cases e2 : x1 = 2
  · subst e2
    exact ⟨σ.1 1 7, fun k h => ⟨fun z => absurd z (by decide), fun z => absurd z (by decide), fun _ => ⟨vi7, h σ tE1.rf⟩, fun z => absurd z (by decide), fun z => absurd z (by decide), fun _ _ z => absurd rfl z⟩, fun k h => ⟨fun z => absurd z (by decide), fun z => absurd z (by decide), fun _ => h ω cE1.rf, fun z => absurd z (by decide), fun z => absurd z (by decide), fun _ _ z => absurd rfl z⟩⟩
  by_cases e3 : x1 = 3
  · subst e3
    exact ⟨nI tx, fun k h => ⟨fun z => absurd z (by decide), fun z => absurd z (by decide), fun z => absurd z (by decide), fun _ => h σ tE1.rf, fun z => absurd z (by decide), fun _ _ _ z => absurd rfl z⟩, fun k h => ⟨fun z => absurd z (by decide), fun z => absurd z (by decide), fun z => absurd z (by decide), fun _ => h ω cE1.rf, fun z => absurd z (by decide), fun _ _ _ z => absurd rfl z⟩⟩
  by_cases e4 : x1 = 4
  · subst e4
    exact ⟨nI c, fun k h => ⟨fun z => absurd z (by decide), fun z => absurd z (by decide), fun z => absurd z (by decide), fun z => absurd z (by decide), fun _ => h σ tE1.rf, fun _ _ _ _ z => absurd rfl z⟩, fun k h => ⟨fun z => absurd z (by decide), fun z => absurd z (by decide), fun z => absurd z (by decide), fun z => absurd z (by decide), fun _ => h ω cE1.rf, fun _ _ _ _ z => absurd rfl z⟩⟩
  exact ⟨-2, fun k h => ⟨fun z => absurd z e0, fun z => absurd z e1, fun z => absurd z e2, fun z => absurd z e3, fun z => absurd z e4, fun _ _ _ _ _ => h σ tE1.rf⟩, fun k h => ⟨fun z => absurd z e0, fun z => absurd z e1, fun z => absurd z e2, fun z => absurd z e3, fun z => absurd z e4, fun _ _ _ _ _ => h ω cE1.rf⟩⟩
theorem imin_n {a b : Nat} (ha : a < 2 ^ 31) (hb : b < 2 ^ 31) : imin (nI a) (nI b) = nI (if b < a then b else a) := by
  unfold imin
  by_cases h : b < a
  · rw [if_pos h, if_pos (nI_lt h ha)]
  · rw [if_neg h, if_neg (fun c => h ((nI_ltI hb ha).mp c))]
theorem J_trace (H : Rel T q ω σ κ κi) (x1 : Int32) : JQ ω σ (tw_trace σ x1) (cw_trace T q ω x1) := by
  obtain ⟨h1, h2, h3, h4, h5, h6, ⟨c, d1, d2, d3, d4⟩, h8, h9⟩ := H
  unfold tw_trace cw_trace
  rw [d2, d3, show (20 : Int32) = nI 20 from rfl, imin_n (by omega) (by omega)]
  by_cases hx : ∃ j : Nat, j < (if 20 < c then 20 else c) ∧ x1 = nI j
  · obtain ⟨j, hj, rfl⟩ := hx
    have hjc : j < c ∧ j < 20 := by split at hj <;> omega
    have hr : (0 : Int32) ≤ nI j ∧ nI j ≤ nI (if 20 < c then 20 else c) - 1 := by
      have : nI (if 20 < c then 20 else c) - 1 = nI ((if 20 < c then 20 else c) - 1) := by
        have := nI_pred ((if 20 < c then 20 else c) - 1)
        rw [show (if 20 < c then 20 else c) - 1 + 1 = (if 20 < c then 20 else c) by omega] at this
        exact this
      rw [this]
      exact (i_rng (by split <;> omega)).mpr ⟨j, by omega, rfl⟩
    refine ⟨σ.1 13 j, fun k h => br0 (nI_pos (by omega)) (br0 (nlt hjc.1 (by omega)) (br0 (nlt hjc.2 (by omega)) ⟨vp_in_nI hjc.2 (by omega), ?_⟩)), fun k h => q_T hr (br0 (by decide) ⟨vp_in_nI hjc.2 (by omega), ?_⟩)⟩
    · rw [nI_clamp (by omega)]; exact h σ tE1.rf
    · rw [nI_clamp (by omega), d4 j hjc.1 hjc.2]; exact h ω cE1.rf
  · refine ⟨-1, fun k h => ⟨fun _ => h σ tE1.rf, fun g1 => ⟨fun _ => h σ tE1.rf, fun g2 => ⟨fun _ => h σ tE1.rf, fun g3 => ?_⟩⟩⟩, fun k h => q_F (fun z => ?_) (br1 rfl (h ω cE1.rf))⟩
    · exfalso
      obtain ⟨j, hj, rfl⟩ := nI_of g1
      apply hx
      have a1 : j < c := by
        by_cases e : c ≤ j
        · exact absurd ((nI_leI (by omega) hj).mpr e) g2
        · omega
      have a2 : j < 20 := by
        by_cases e : 20 ≤ j
        · exact absurd ((nI_leI (by omega) hj).mpr e) g3
        · omega
      exact ⟨j, by split <;> omega, rfl⟩
    · apply hx
      by_cases e : (if 20 < c then 20 else c) = 0
      · rw [e] at z
        exfalso
        have e2 : nI 0 - 1 = -1 := by decide
        rw [e2] at z
        have z1 := z.1
        have z2 := z.2
        rw [Int32.le_iff_toInt_le] at z1 z2
        have e3 : (-1 : Int32).toInt = -1 := by decide
        have e4 : (0 : Int32).toInt = 0 := by decide
        omega
      · have e3 : nI (if 20 < c then 20 else c) - 1 = nI ((if 20 < c then 20 else c) - 1) := by
          have := nI_pred ((if 20 < c then 20 else c) - 1)
          rw [show (if 20 < c then 20 else c) - 1 + 1 = (if 20 < c then 20 else c) by omega] at this
          exact this
        rw [e3] at z
        obtain ⟨j, hj, ej⟩ := (i_rng (by split <;> omega)).mp z
        exact ⟨j, by omega, ej⟩
/-! the book looked through -/
def aLk (κ : KD) (x : SS) : Nat → Nat → SS → Int32
  | 0, _, _ => -5
  | r + 1, k, y => if x (68 + 2 * k) = -2 then (if x (68 + 2 * k + 1) = 0 then aLk κ x r (k + 1) (aCool κ y) else nI k) else (if b2I (aSp κ y (x (68 + 2 * k)).toNatClampNeg) = x (68 + 2 * k + 1) then aLk κ x r (k + 1) (aGo κ y (x (68 + 2 * k)).toNatClampNeg) else nI k)
theorem J_looked (H : Rel T q ω σ κ κi) : JQ ω σ (tw_looked σ) (cw_looked T q ω) := by
  obtain ⟨h1, h2, h3, -⟩ := H
  have HT := h1.t
  have HC := h1.c
  have hx := h1.ok
  generalize hxx : σ.1 1 = x at h1 h2 h3 HT HC hx
  obtain ⟨-, -, -, b4, ⟨b5, b6, b7⟩, -⟩ := h2
  refine ⟨aLk κ x (bkOf x) 0 x, fun k h => t_begin HT (fun σ1 t1 r1 => ⟨bkOf x + 2, ?_⟩), fun k h => ⟨bkOf x + 1, ?_⟩⟩
  · -- once found, the next round ends
    have done : ∀ (j i : Nat) (σ1 : TS) (y : SS), j < 12 → i ≤ 12 → tI σ σ1 y → aR x y → nI j = aLk κ x (bkOf x) 0 x → ∀ n, tw_looked_L9 k (n + 1) (nI j) (nI i) σ1 := by
      intro j i σ1 y hj hi t r e n
      rw [tw_looked_L9, tc7]
      have fin : tw_looked_J45 k (nI j) σ1 := by
        unfold tw_looked_J45
        refine t_end HT t r (fun σ2 t2 => ?_)
        rw [e]
        exact h σ2 t2
      exact ⟨vi7, fun _ => fin, fun _ => ⟨fun _ => fin, fun c => absurd (nI_pos' (by omega)) c⟩⟩
    have L : ∀ (r i : Nat) (σ1 : TS) (y : SS), i + r = bkOf x → tI σ σ1 y → aR x y → aLk κ x r i y = aLk κ x (bkOf x) 0 x → tw_looked_L9 k (r + 2) (-5) (nI i) σ1 := by
      intro r
      induction r with
      | zero =>
        intro i σ1 y hi t r0 e
        rw [tw_looked_L9, tc7, t.1, r0.2 7 (by omega), b6]
        refine ⟨vi7, br1 ((nI_leI (by omega) (by omega)).mpr (by omega)) ?_⟩
        unfold tw_looked_J45
        refine t_end HT t r0 (fun σ2 t2 => ?_)
        have e' : -5 = aLk κ x (bkOf x) 0 x := e
        rw [e']
        exact h σ2 t2
      | succ r ih =>
        intro i σ1 y hi t r0 e
        rw [tw_looked_L9, tc7, t.1, r0.2 7 (by omega), b6]
        rw [aLk] at e
        refine ⟨vi7, br0 (nlt (by omega) (by omega)) (br0 (by decide) ?_)⟩
        have e2 : (68 : Int32) + 2 * nI i = nI (68 + 2 * i) := by
          rw [show (68 : Int32) = nI 68 from rfl, show (2 : Int32) = nI 2 from rfl, pk_mul, nI_add]
        unfold tw_isBookedSo
        rw [e2, nI_1, nI_clamp (by omega), nI_clamp (by omega), t.1, r0.2 _ (by omega), r0.2 _ (by omega)]
        refine ⟨vp_in_nI (by omega) (by omega), ?_⟩
        intro lv hlv
        subst hlv
        obtain ⟨-, -, -, b01⟩ := b4 i (by omega)
        -- the twin's answer: whether it is so
        have J : ∀ told : Int32, told = x (68 + 2 * i + 1) → tw_isBookedSo_J34 (fun r26 s26 => (r26 = 0 → tw_looked_J38 (fun x1 x2 s => tw_looked_L9 k (r + 2) x1 x2 s) k (nI i) (nI i) s26) ∧ (¬ r26 = 0 → tw_looked_J38 (fun x1 x2 s => tw_looked_L9 k (r + 2) x1 x2 s) k (nI i) (-5) s26)) (x (68 + 2 * i)) told σ1 := by
          intro told ht
          have yes : ∀ (σ2 : TS) (y2 : SS), tI σ σ2 y2 → aR x y2 → aLk κ x r (i + 1) y2 = aLk κ x (bkOf x) 0 x → tw_looked_J38 (fun x1 x2 s => tw_looked_L9 k (r + 2) x1 x2 s) k (nI i) (-5) σ2 := by
            intro σ2 y2 t2 r2 e2
            intro v hv
            subst hv
            rw [nI_1]
            exact ih (i + 1) σ2 y2 (by omega) t2 r2 e2
          have no : ∀ (σ2 : TS) (y2 : SS), tI σ σ2 y2 → aR x y2 → nI i = aLk κ x (bkOf x) 0 x → tw_looked_J38 (fun x1 x2 s => tw_looked_L9 k (r + 2) x1 x2 s) k (nI i) (nI i) σ2 := by
            intro σ2 y2 t2 r2 e2
            intro v hv
            subst hv
            rw [nI_1]
            exact done i (i + 1) σ2 y2 (by omega) (by omega) t2 r2 e2 (r + 1)
          unfold tw_isBookedSo_J34
          rcases b7 i (by omega) with hc | ⟨l, hl, hl2⟩
          · rw [if_pos hc] at e
            rw [hc]
            refine br1 (by decide) (t_cool HT t r0 (fun σ2 t2 r2 => ⟨fun c => ?_, fun c => ?_⟩))
            · rw [ht] at c
              rw [if_neg c] at e
              exact br1 rfl (no σ2 _ t2 r2 e)
            · rw [ht] at c
              rw [if_pos c] at e
              exact br0 (by decide) (yes σ2 _ t2 r2 e)
          · have hne : ¬ x (68 + 2 * i) = -2 := fun c => by
              have h0 := nI_pos (n := l) (by have := (mOf_le hx).1; omega)
              rw [← hl2, c] at h0
              exact h0 (by decide)
            rw [if_neg hne, hl2, nI_clamp (by have := (mOf_le hx).1; omega)] at e
            rw [hl2]
            refine br0 (nI_pos (by have := (mOf_le hx).1; omega)) (t_go HT t r0 hl (fun σ2 t2 r2 => ⟨fun c => ?_, fun c => ?_⟩))
            · rw [ht] at c
              rw [if_neg c] at e
              exact br1 rfl (no σ2 _ t2 r2 e)
            · rw [ht] at c
              rw [if_pos c] at e
              exact br0 (by decide) (yes σ2 _ t2 r2 e)
        refine ⟨vp_in_nI (by omega) (by omega), fun c => J 0 ?_, fun c => J 1 c.symm⟩
        exact (b01.resolve_right c).symm
    exact L (bkOf x) 0 σ1 x (by omega) t1 r1 rfl
  · have L : ∀ (r i : Nat) (ω1 : CS) (y : SS), i + r = bkOf x → cIn ω ω1 y → aR x y → aLk κ x r i y = aLk κ x (bkOf x) 0 x → cw_looked_L13 T q k (r + 1) (nI i) ω1 := by
      intro r
      induction r with
      | zero =>
        intro i ω1 y hi t r0 e
        rw [cw_looked_L13, t.1.2.2.2 14 (by omega), h3, b6]
        refine br1 ((nI_leI (by omega) (by omega)).mpr (by omega)) ?_
        have e' : -5 = aLk κ x (bkOf x) 0 x := e
        rw [e']
        exact h ω1 t.1
      | succ r ih =>
        intro i ω1 y hi t r0 e
        rw [cw_looked_L13, t.1.2.2.2 14 (by omega), h3, b6, nI_clamp (by omega)]
        rw [aLk] at e
        obtain ⟨b1, b2, -, b01⟩ := b4 i (by omega)
        have g28 : ω1.1.1 28 i = x (68 + 2 * i) := by rw [t.1.2.2.1 28 (by omega) (by omega) (by omega) (by omega) (by omega) (by omega) (by omega)]; exact b1
        have fin : ∀ (v : Int32) (ω2 : CS) (y2 : SS), cIn ω ω2 y2 → aR x y2 → (if v = x (68 + 2 * i + 1) then aLk κ x r (i + 1) y2 else nI i) = aLk κ x (bkOf x) 0 x → (fun r28 (s28 : CS) => vp_in (nI i) 12 ∧ (r28 = (s28.1.1 29 i) → ∀ x42 : Int32, x42 = nI i + 1 → cw_looked_L13 T q k (r + 1) x42 s28) ∧ (¬ r28 = (s28.1.1 29 i) → k (nI i) s28)) v ω2 := by
          intro v ω2 y2 t2 r2 e2
          have g29 : ω2.1.1 29 i = x (68 + 2 * i + 1) := by rw [t2.1.2.2.1 29 (by omega) (by omega) (by omega) (by omega) (by omega) (by omega) (by omega)]; exact b2
          refine ⟨vp_in_nI (by omega) (by omega), ?_⟩
          show (v = ω2.1.1 29 i → _) ∧ (¬ v = ω2.1.1 29 i → _)
          rw [g29]
          refine ⟨fun c => ?_, fun c => ?_⟩
          · rw [if_pos c] at e2
            intro z hz
            subst hz
            rw [nI_1]
            exact ih (i + 1) ω2 y2 (by omega) t2 r2 e2
          · rw [if_neg c] at e2
            rw [e2]
            exact h ω2 t2.1
        refine br0 (nlt (by omega) (by omega)) ⟨vp_in_nI (by omega) (by omega), ?_⟩
        rw [g28]
        unfold cw_isSpoiledNext
        rcases b7 i (by omega) with hc | ⟨l, hl, hl2⟩
        · rw [if_pos hc] at e
          refine br1 hc (c_cool HC t r0 (fun ω2 t2 r2 => fin 0 ω2 _ t2 r2 ?_))
          by_cases c : x (68 + 2 * i + 1) = 0
          · rw [if_pos c] at e
            rw [if_pos c.symm]
            exact e
          · rw [if_neg c] at e
            rw [if_neg (fun z => c z.symm)]
            exact e
        · have hne : ¬ x (68 + 2 * i) = -2 := fun c => by
            have h0 := nI_pos (n := l) (by have := (mOf_le hx).1; omega)
            rw [← hl2, c] at h0
            exact h0 (by decide)
          rw [if_neg hne, hl2, nI_clamp (by have := (mOf_le hx).1; omega)] at e
          refine br0 hne ?_
          rw [hl2]
          exact c_go HC t r0 hl (fun ω2 t2 r2 _ => ⟨b2I_or _, fin _ ω2 _ t2 r2 e⟩)
    obtain ⟨t0, r0⟩ := c_begin HC
    exact L (bkOf x) 0 _ x (by omega) t0 r0 rfl
end Q
