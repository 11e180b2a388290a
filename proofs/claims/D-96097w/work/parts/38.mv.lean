/-! PLAIN: the relation, part by part: what each needs kept -/
set_option maxRecDepth 100000
/-- an object, an array of references -/
def hv (e : va_E) : Prop := (∃ p, e = .inr p) ∨ ∃ c n f, e = .inl (c, n, .inr (.inr (.inr (.inr f))))
/-- objects and arrays of references are kept -/
def cZ (ω ω' : CS) : Prop := ∀ b ∈ ω.2.1, hv (ω.2.2 b) → b ∈ ω'.2.1 ∧ ω'.2.2 b = ω.2.2 b
theorem cZ.of {ω ω' : CS} (h : ω'.2 = ω.2) : cZ ω ω' := fun b hb _ => by rw [h]; exact ⟨hb, rfl⟩
theorem cZ.tr {ω ω1 ω2 : CS} (h : cZ ω ω1) (h' : cZ ω1 ω2) : cZ ω ω2 := fun b hb hh => by
  obtain ⟨a1, a2⟩ := h b hb hh
  obtain ⟨b1, b2⟩ := h' b a1 (by rw [a2]; exact hh)
  exact ⟨b1, b2.trans a2⟩
theorem lofR.z {q : Nat → Nat} {ω ω' : CS} {a kd : Nat} {n v : Int32} (h : lofR q ω a kd n v) (z : cZ ω ω') : lofR q ω' a kd n v := by
  obtain ⟨h1, h2, h3⟩ := h
  obtain ⟨z1, z2⟩ := z a h2 (Or.inl ⟨_, h3⟩)
  exact ⟨h1, z1, by rw [z2]; exact h3⟩
theorem alR.z {T : xT} {ω ω' : CS} {al : Nat} {xs : List Nat} (h : alR T ω.2.1 ω.2.2 al xs) (z : cZ ω ω') : alR T ω'.2.1 ω'.2.2 al xs := by
  obtain ⟨h1, arr, mc, h2, h3, h4⟩ := h
  obtain ⟨z1, z2⟩ := z al h1 (Or.inl ⟨_, h2⟩)
  refine ⟨z1, arr, mc, by rw [z2]; exact h2, h3, h4.imp id (fun ⟨p1, cap, f, p2, p3⟩ => ?_)⟩
  obtain ⟨y1, y2⟩ := z arr p1 (Or.inr ⟨_, _, _, p2⟩)
  exact ⟨y1, cap, f, by rw [y2]; exact p2, p3⟩
theorem tstR.z {T : xT} {ω ω' : CS} (z : cZ ω ω') : ∀ (d a : Nat) (φ : TF1), tstR T ω.2.1 ω.2.2 d a φ → tstR T ω'.2.1 ω'.2.2 d a φ
  | 0, _, _, h => by cases h
  | d + 1, a, φ, h => by
    obtain ⟨h0, h⟩ := h
    rcases h with ⟨b, φ', h1, h2, h3⟩ | ⟨c, s, n, h1, h2⟩ | ⟨isAll, al, xs, φs, h1, h2, h3, h4, h5⟩
    · obtain ⟨z1, z2⟩ := z a h0 (Or.inl ⟨_, h1⟩)
      exact ⟨z1, Or.inl ⟨b, φ', by rw [z2]; exact h1, tstR.z z d b φ' h2, h3⟩⟩
    · obtain ⟨z1, z2⟩ := z a h0 (Or.inl ⟨_, h1⟩)
      exact ⟨z1, Or.inr (Or.inl ⟨c, s, n, by rw [z2]; exact h1, h2⟩)⟩
    · obtain ⟨z1, z2⟩ := z a h0 (Or.inl ⟨_, h1⟩)
      exact ⟨z1, Or.inr (Or.inr ⟨isAll, al, xs, φs, by rw [z2]; exact h1, h2.z z, h3, fun i x ψ hx hψ => tstR.z z d x ψ (h4 i x ψ hx hψ), h5⟩)⟩
theorem clR.z {T : xT} {ω ω' : CS} {al : Nat} {cs : CL1} (h : clR T ω.2.1 ω.2.2 al cs) (z : cZ ω ω') : clR T ω'.2.1 ω'.2.2 al cs := by
  obtain ⟨xs, h1, h2, h3⟩ := h
  refine ⟨xs, h1.z z, h2, fun i x c hx hc => ?_⟩
  obtain ⟨p1, t, p2, p3⟩ := h3 i x c hx hc
  obtain ⟨z1, z2⟩ := z x p1 (Or.inl ⟨_, p2⟩)
  exact ⟨z1, t, by rw [z2]; exact p2, tstR.z z 20 t c.2 p3⟩
theorem kilR.z {T : xT} {ω ω' : CS} {r : Option Nat} {κ : KD} (h : kilR T ω r κ) (z : cZ ω ω') : kilR T ω' r κ := by
  obtain ⟨a, h1, h2, tk, mo, fe, many, h3, h4, h5, h6⟩ := h
  obtain ⟨z1, z2⟩ := z a h2 (Or.inl ⟨_, h3⟩)
  exact ⟨a, h1, z1, tk, mo, fe, many, by rw [z2]; exact h3, h4.z z, h5.z z, h6.z z⟩
theorem cBank.z {q : Nat → Nat} {ω ω' : CS} {pl pg pb pk ps t : Nat} {x : SS} (h : cBank q ω pl pg pb pk ps t x) (z : cZ ω ω') (e0 : ω'.1.2 pl = ω.1.2 pl) (e1 : ω'.1.1 pg = ω.1.1 pg) (e2 : ω'.1.1 pb = ω.1.1 pb) (e3 : ω'.1.1 pk = ω.1.1 pk) (e4 : ω'.1.1 ps = ω.1.1 ps) (e5 : ω'.1.1 (5 + 2 * t) = ω.1.1 (5 + 2 * t)) (e6 : ω'.1.1 (4 + 2 * t) = ω.1.1 (4 + 2 * t)) : cBank q ω' pl pg pb pk ps t x := by
  obtain ⟨h1, h2, h3, h4, h5, h6⟩ := h
  refine ⟨fun l hl => ?_, fun l hl => by rw [e0]; exact h2 l hl, by rw [e1, e2]; exact h3, by rw [e3, e4]; exact h4, h5, ?_⟩
  · rw [e0]
    exact (h1 l hl).imp id (fun ⟨a, z1, z2⟩ => ⟨a, z1, z2.z z⟩)
  · unfold cAt
    rw [e5, e6]
    exact h6
/-- the static part out of a bank -/
theorem cBank.st {T : xT} {q : Nat → Nat} {ω : CS} {κ : KD} {x : SS} (h : cBank q ω 1 2 3 28 29 0 x) (hx : okS x) (e : ω.1.1 0 3 = x 5) (hk : kilR T ω (ω.1.2 0 9) κ) (hd : kdB κ 10) : cSt T q ω κ x := by
  obtain ⟨h1, h2, h3, -⟩ := h
  refine ⟨e, hk, hd, fun l hl => ?_, h3⟩
  have := (mOf_le hx).1
  rcases h1 l (by omega) with z | z
  · exact absurd z (h2 l hl)
  · exact z
/-- the parts of the relation -/
def RIm (T : xT) (q : Nat → Nat) (ω : CS) (σ : TS) (κi : KD) : Prop := tZ (σ.1 2) ∧ ((σ.1 0 3 = 0 ∧ ω.1.2 0 30 = none) ∨ (σ.1 0 3 = 1 ∧ kilR T ω (ω.1.2 0 30) κi ∧ cBank q ω 42 43 44 45 46 9 (σ.1 2) ∧ ω.1.1 0 28 = σ.1 2 5 ∧ ω.1.1 0 29 = σ.1 2 7 ∧ tKil σ (σ.1 2 6) κi ∧ okS (σ.1 2)))
def RIl (q : Nat → Nat) (ω : CS) : Prop := ∀ l, l < 6 → ω.1.2 42 l = none ∨ ∃ a kd n v, ω.1.2 42 l = some a ∧ lofR q ω a kd n v
def RTx (ω : CS) (σ : TS) : Prop := ∃ tx kn h hi : Nat, tx ≤ 100 ∧ kn ≤ 6 ∧ σ.1 0 7 = nI tx ∧ ω.1.1 0 7 = nI tx ∧ σ.1 0 8 = nI kn ∧ ω.1.1 0 8 = nI kn ∧ (∀ i, i < tx → ω.1.1 24 i = σ.1 4 i ∧ smallN (σ.1 4 i) 127) ∧ σ.1 1 6 = nI h ∧ h ≤ kn ∧ σ.1 2 6 = nI hi ∧ hi ≤ kn
def RTr (ω : CS) (σ : TS) : Prop := ∃ c : Nat, c ≤ 1000 ∧ σ.1 0 29 = nI c ∧ ω.1.1 26 1 = nI c ∧ ∀ i, i < c → i < 20 → ω.1.1 27 i = σ.1 13 i
def RTp (T : xT) (ω : CS) (σ : TS) : Prop := (∀ i, i < 6 → tapeR T ω σ i) ∧ ∀ i j a, i < 6 → j < 6 → ω.1.2 (31 + i) 0 = some a → ω.1.2 (31 + j) 0 = some a → i = j
def RNo (T : xT) (q : Nat → Nat) (ω : CS) (σ : TS) (κ : KD) : Prop := tZ (σ.1 1) ∧ tZ (σ.1 3) ∧ tKil σ (σ.1 1 6) κ ∧ okS (σ.1 1) ∧ kilR T ω (ω.1.2 0 9) κ ∧ cBank q ω 1 2 3 28 29 0 (σ.1 1) ∧ ω.1.1 0 3 = σ.1 1 5 ∧ ω.1.1 0 14 = σ.1 1 7
theorem Rel.iff {T : xT} {q : Nat → Nat} {ω : CS} {σ : TS} {κ κi : KD} : Rel T q ω σ κ κi ↔ RNo T q ω σ κ ∧ RIm T q ω σ κi ∧ RIl q ω ∧ RTx ω σ ∧ RTr ω σ ∧ RTp T ω σ := by
  constructor
  · rintro ⟨⟨-, q2, q3, q4, q5, q6⟩, h2, h3, h4, h5, h6, h7, h8, h9⟩
    exact ⟨⟨q3, q4, q2.1, q2.2, q5.2.1, h2, q5.1, h3⟩, h4, h5, h6, h7, h8, h9⟩
  · rintro ⟨⟨n1, n2, n3, n4, n5, n6, n7, n8⟩, h4, h5, h6, h7, h8, h9⟩
    exact ⟨⟨rfl, ⟨n3, n4⟩, n1, n2, n6.st n4 n7 n5 n3.small, n6.2.2.2.2.2⟩, n6, n8, h4, h5, h6, h7, h8, h9⟩
theorem RIm.mv {T : xT} {q : Nat → Nat} {ω ω' : CS} {σ σ' : TS} {κi : KD} (h : RIm T q ω σ κi) (z : cZ ω ω') (t2 : σ'.1 2 = σ.1 2) (t5 : σ'.1 5 = σ.1 5) (t6 : σ'.1 6 = σ.1 6) (t3 : σ'.1 0 3 = σ.1 0 3) (r30 : ω'.1.2 0 30 = ω.1.2 0 30) (r42 : ω'.1.2 42 = ω.1.2 42) (c : ∀ c, (c = 43 ∨ c = 44 ∨ c = 45 ∨ c = 46 ∨ c = 22 ∨ c = 23) → ω'.1.1 c = ω.1.1 c) (c28 : ω'.1.1 0 28 = ω.1.1 0 28) (c29 : ω'.1.1 0 29 = ω.1.1 0 29) : RIm T q ω' σ' κi := by
  unfold RIm
  rw [t2, t3, r30, c28, c29]
  refine ⟨h.1, h.2.imp id (fun ⟨z1, z2, z3, z4, z5, z6, z7⟩ => ⟨z1, z2.z z, z3.z z r42 (c 43 (by omega)) (c 44 (by omega)) (c 45 (by omega)) (c 46 (by omega)) (c 23 (by omega)) (c 22 (by omega)), z4, z5, z6.mv t5 t6, z7⟩)⟩
theorem RIl.mv {q : Nat → Nat} {ω ω' : CS} (h : RIl q ω) (z : cZ ω ω') (r42 : ω'.1.2 42 = ω.1.2 42) : RIl q ω' := by
  unfold RIl
  rw [r42]
  exact fun l hl => (h l hl).imp id (fun ⟨a, kd, n, v, z1, z2⟩ => ⟨a, kd, n, v, z1, z2.z z⟩)
theorem RTx.mv {ω ω' : CS} {σ σ' : TS} (h : RTx ω σ) (t7 : σ'.1 0 7 = σ.1 0 7) (t8 : σ'.1 0 8 = σ.1 0 8) (t4 : σ'.1 4 = σ.1 4) (t16 : σ'.1 1 6 = σ.1 1 6) (t26 : σ'.1 2 6 = σ.1 2 6) (c7 : ω'.1.1 0 7 = ω.1.1 0 7) (c8 : ω'.1.1 0 8 = ω.1.1 0 8) (c24 : ω'.1.1 24 = ω.1.1 24) : RTx ω' σ' := by
  unfold RTx
  rw [t7, t8, t4, t16, t26, c7, c8, c24]
  exact h
theorem RTr.mv {ω ω' : CS} {σ σ' : TS} (h : RTr ω σ) (t29 : σ'.1 0 29 = σ.1 0 29) (t13 : σ'.1 13 = σ.1 13) (c26 : ω'.1.1 26 1 = ω.1.1 26 1) (c27 : ω'.1.1 27 = ω.1.1 27) : RTr ω' σ' := by
  unfold RTr
  rw [t29, t13, c26, c27]
  exact h
theorem RTp.mv {T : xT} {ω ω' : CS} {σ σ' : TS} (h : RTp T ω σ) (t10 : σ'.1 10 = σ.1 10) (t11 : σ'.1 11 = σ.1 11) (t2 : σ'.2 = σ.2) (r : ∀ i, i < 6 → ω'.1.2 (31 + i) 0 = ω.1.2 (31 + i) 0) (hp : ∀ i a, i < 6 → ω.1.2 (31 + i) 0 = some a → a ∈ ω'.2.1 ∧ ω'.2.2 a = ω.2.2 a) : RTp T ω' σ' := by
  refine ⟨fun i hi => ?_, fun i j a hi hj h1 h2 => h.2 i j a hi hj (by rw [← r i hi]; exact h1) (by rw [← r j hj]; exact h2)⟩
  unfold tapeR
  rw [r i hi, t10, t11, t2]
  rcases h.1 i hi with z | ⟨a, s, n, z1, z2, z3, z4, z5⟩
  · exact Or.inl z
  · obtain ⟨p1, p2⟩ := hp i a hi z1
    refine Or.inr ⟨a, s, n, z1, z2, z3, z4, p1, ?_⟩
    rw [p2]
    exact z5.2
theorem RNo.mv {T : xT} {q : Nat → Nat} {ω ω' : CS} {σ σ' : TS} {κ : KD} (h : RNo T q ω σ κ) (z : cZ ω ω') (t1 : σ'.1 1 = σ.1 1) (t3 : σ'.1 3 = σ.1 3) (t5 : σ'.1 5 = σ.1 5) (t6 : σ'.1 6 = σ.1 6) (r9 : ω'.1.2 0 9 = ω.1.2 0 9) (r1 : ω'.1.2 1 = ω.1.2 1) (c : ∀ c, (c = 2 ∨ c = 3 ∨ c = 28 ∨ c = 29 ∨ c = 4 ∨ c = 5) → ω'.1.1 c = ω.1.1 c) (c3 : ω'.1.1 0 3 = ω.1.1 0 3) (c14 : ω'.1.1 0 14 = ω.1.1 0 14) : RNo T q ω' σ' κ := by
  obtain ⟨n1, n2, n3, n4, n5, n6, n7, n8⟩ := h
  unfold RNo
  rw [t1, t3, r9, c3, c14]
  exact ⟨n1, n2, n3.mv t5 t6, n4, n5.z z, n6.z z r1 (c 2 (by omega)) (c 3 (by omega)) (c 28 (by omega)) (c 29 (by omega)) (c 5 (by omega)) (c 4 (by omega)), n7, n8⟩
/-- answered alike, and the relation stands -/
def JM (T : xT) (q : Nat → Nat) (ω : CS) (σ : TS) (tk : (Int32 → TS → Prop) → Prop) (ck : (Int32 → CS → Prop) → Prop) : Prop := ∃ (v : Int32) (P : TS → Prop) (C : CS → Prop), (∀ k : Int32 → TS → Prop, (∀ σ', P σ' → k v σ') → tk k) ∧ (∀ k : Int32 → CS → Prop, (∀ ω', C ω' → k v ω') → ck k) ∧ ∀ σ' ω', P σ' → C ω' → ∃ κ κi, Rel T q ω' σ' κ κi
def JML (T : xT) (q : Nat → Nat) (ω : CS) (σ : TS) (tk : (Int64 → TS → Prop) → Prop) (ck : (Int64 → CS → Prop) → Prop) : Prop := ∃ (v : Int64) (P : TS → Prop) (C : CS → Prop), (∀ k : Int64 → TS → Prop, (∀ σ', P σ' → k v σ') → tk k) ∧ (∀ k : Int64 → CS → Prop, (∀ ω', C ω' → k v ω') → ck k) ∧ ∀ σ' ω', P σ' → C ω' → ∃ κ κi, Rel T q ω' σ' κ κi
theorem JQ.m {T : xT} {q : Nat → Nat} {ω : CS} {σ : TS} {κ κi : KD} {tk : (Int32 → TS → Prop) → Prop} {ck : (Int32 → CS → Prop) → Prop} (H : Rel T q ω σ κ κi) (h : JQ ω σ tk ck) : JM T q ω σ tk ck := by
  obtain ⟨v, h1, h2⟩ := h
  exact ⟨v, tE1 σ, cE1 ω, h1, h2, fun σ' ω' t g => ⟨κ, κi, H.e1 g t⟩⟩
theorem JQL.m {T : xT} {q : Nat → Nat} {ω : CS} {σ : TS} {κ κi : KD} {tk : (Int64 → TS → Prop) → Prop} {ck : (Int64 → CS → Prop) → Prop} (H : Rel T q ω σ κ κi) (h : JQL ω σ tk ck) : JML T q ω σ tk ck := by
  obtain ⟨v, h1, h2⟩ := h
  exact ⟨v, tE1 σ, cE1 ω, h1, h2, fun σ' ω' t g => ⟨κ, κi, H.e1 g t⟩⟩
/-- answered alike, nothing done -/
theorem JM.no {T : xT} {q : Nat → Nat} {ω : CS} {σ : TS} {κ κi : KD} {tk : (Int32 → TS → Prop) → Prop} {ck : (Int32 → CS → Prop) → Prop} (H : Rel T q ω σ κ κi) (v : Int32) (h1 : ∀ k : Int32 → TS → Prop, k v σ → tk k) (h2 : ∀ k : Int32 → CS → Prop, k v ω → ck k) : JM T q ω σ tk ck := ⟨v, fun σ' => σ' = σ, fun ω' => ω' = ω, fun k h => h1 k (h σ rfl), fun k h => h2 k (h ω rfl), fun σ' ω' e1 e2 => ⟨κ, κi, by rw [e1, e2]; exact H⟩⟩
