/-! PLAIN: questions answered alike: frames, and the simple ones -/
set_option maxRecDepth 100000
/-- the twin behind a question -/
def tE1 (σ σ' : TS) : Prop := (∀ c, 1 ≤ c → c ≠ 3 → c ≠ 7 → c ≠ 8 → c ≠ 9 → σ'.1 c = σ.1 c) ∧ σ'.2 = σ.2 ∧ (∀ i, (i < 9 ∨ 20 < i) → i ≠ 24 → σ'.1 0 i = σ.1 0 i) ∧ (tZ (σ.1 3) → tZ (σ'.1 3))
theorem tE1.rf {σ : TS} : tE1 σ σ := ⟨fun _ _ _ _ _ _ => rfl, rfl, fun _ _ _ => rfl, fun h => h⟩
theorem tE1.tr {σ σ1 σ2 : TS} (h : tE1 σ σ1) (h' : tE1 σ1 σ2) : tE1 σ σ2 := ⟨fun c a1 a2 a3 a4 a5 => (h'.1 c a1 a2 a3 a4 a5).trans (h.1 c a1 a2 a3 a4 a5), h'.2.1.trans h.2.1, fun i a1 a2 => (h'.2.2.1 i a1 a2).trans (h.2.2.1 i a1 a2), fun z => h'.2.2.2 (h.2.2.2 z)⟩
theorem tR.e1 {σ σ' : TS} (h : tR σ σ') : tE1 σ σ' := ⟨fun c a1 _ _ _ _ => h.1 c a1, h.2.1, fun i a1 _ => h.2.2 i a1, fun z => by rw [h.1 3 (by omega)]; exact z⟩
/-- the twin between begins and ends: its row is Y, that of the start lies in mind -/
def tI (σ0 σ : TS) (Y : SS) : Prop := σ.1 1 = Y ∧ σ.1 3 = σ0.1 1 ∧ (∀ c, 2 ≤ c → c ≠ 3 → c ≠ 7 → c ≠ 8 → c ≠ 9 → σ.1 c = σ0.1 c) ∧ σ.2 = σ0.2 ∧ ∀ i, (i < 9 ∨ 20 < i) → i ≠ 24 → σ.1 0 i = σ0.1 0 i
theorem tI.b {σ0 σ σ' : TS} {Y X : SS} (h : tI σ0 σ Y) (t : tB σ σ' X) : tI σ0 σ' X := ⟨t.1, by rw [t.2.1 3 (by omega) (by omega)]; exact h.2.1, fun c a1 a2 a3 a4 a5 => by rw [t.2.1 c a1 a3]; exact h.2.2.1 c a1 a2 a3 a4 a5, t.2.2.1.trans h.2.2.2.1, fun i a1 a2 => by rw [t.2.2.2 i a1]; exact h.2.2.2.2 i a1 a2⟩
theorem tI.r {σ0 σ σ' : TS} {Y : SS} (h : tI σ0 σ Y) (t : tR σ σ') : tI σ0 σ' Y := by
  have := h.b t.b
  rw [h.1] at this
  exact this
theorem l_beg {σ : TS} {k : TS → Prop} (z1 : tZ (σ.1 1)) (z3 : tZ (σ.1 3)) (h : ∀ σ', tI σ σ' (σ.1 1) → k σ') : tw_begins σ k := l_begins z1 z3 (fun σ' e3 ec e2 => h σ' ⟨ec 1 (by omega), e3, fun c _ a2 _ _ _ => ec c a2, e2, fun i _ _ => by rw [ec 0 (by omega)]⟩)
theorem l_end {σ0 σ : TS} {Y : SS} {k : TS → Prop} (t : tI σ0 σ Y) (zY : tZ Y) (z0 : tZ (σ0.1 1)) (h : ∀ σ', tE1 σ0 σ' → k σ') : tw_ends σ k := l_ends (by rw [t.1]; exact zY) (by rw [t.2.1]; exact z0) (fun σ' e1 ec e2 => h σ' ⟨fun c a1 a2 a3 a4 a5 => by
    by_cases hc : c = 1
    · subst hc; rw [e1]; exact t.2.1
    · rw [ec c hc]; exact t.2.2.1 c (by omega) a2 a3 a4 a5, e2.trans t.2.2.2.1, fun i a1 a2 => by rw [ec 0 (by omega)]; exact t.2.2.2.2 i a1 a2, fun _ => by rw [ec 3 (by omega), t.2.1]; exact z0⟩)
/-- rows that bakes and cold hours lead to -/
def aR (x y : SS) : Prop := okS y ∧ ∀ i, 5 ≤ i → y i = x i
theorem aR.rf {x : SS} (h : okS x) : aR x x := ⟨h, fun _ _ => rfl⟩
theorem aR.go {κ : KD} {x y : SS} {l : Nat} (h : aR x y) (hκ : kdB κ 10) (hl : l < 6) : aR x (aGo κ y l) := ⟨aGo_ok hκ (by omega) h.1 hl, fun i hi => (aGo_ge hi).trans (h.2 i hi)⟩
theorem aR.cool {κ : KD} {x y : SS} (h : aR x y) (hκ : kdB κ 10) : aR x (aCool κ y) := ⟨aCool_ok hκ h.1, fun i hi => (aCool_ge hi).trans (h.2 i hi)⟩
theorem aR.z {x y : SS} (h : aR x y) (z : tZ x) : tZ y := fun i hi => by rw [h.2 i (by omega)]; exact z i hi
theorem aR.m {x y : SS} (h : aR x y) : mOf y = mOf x := by unfold mOf; rw [h.2 5 (by omega)]
theorem tOK.i {σ0 σ : TS} {κ : KD} {Y : SS} (h : tOK σ0 κ) (t : tI σ0 σ Y) (r : aR (σ0.1 1) Y) : tOK σ κ := by
  unfold tOK
  rw [t.1, r.2 6 (by omega)]
  exact ⟨h.1.mv (t.2.2.1 5 (by omega) (by omega) (by omega) (by omega) (by omega)) (t.2.2.1 6 (by omega) (by omega) (by omega) (by omega) (by omega)), r.1⟩
theorem tOK.e1 {σ σ' : TS} {κ : KD} (h : tOK σ κ) (t : tE1 σ σ') : tOK σ' κ := h.mv (t.1 1 (by omega) (by omega) (by omega) (by omega) (by omega)) (t.1 5 (by omega) (by omega) (by omega) (by omega) (by omega)) (t.1 6 (by omega) (by omega) (by omega) (by omega) (by omega))
/-- the component behind a question -/
def cE1 (ω ω' : CS) : Prop := ω'.1.2 = ω.1.2 ∧ ω'.2 = ω.2 ∧ (∀ c, 1 ≤ c → c ≠ 25 → c ≠ 37 → c ≠ 38 → (c < 6 ∨ 21 < c) → c ≠ 40 → c ≠ 41 → ω'.1.1 c = ω.1.1 c) ∧ ∀ i, i ≠ 21 → ω'.1.1 0 i = ω.1.1 0 i
theorem cE1.rf {ω : CS} : cE1 ω ω := ⟨rfl, rfl, fun _ _ _ _ _ _ _ _ => rfl, fun _ _ => rfl⟩
theorem cE1.tr {ω ω1 ω2 : CS} (h : cE1 ω ω1) (h' : cE1 ω1 ω2) : cE1 ω ω2 := ⟨h'.1.trans h.1, h'.2.1.trans h.2.1, fun c a1 a2 a3 a4 a5 a6 a7 => (h'.2.2.1 c a1 a2 a3 a4 a5 a6 a7).trans (h.2.2.1 c a1 a2 a3 a4 a5 a6 a7), fun i hi => (h'.2.2.2 i hi).trans (h.2.2.2 i hi)⟩
theorem cG.e1 {t : Nat} {ω ω' : CS} (h : cG t ω ω') (h1 : 1 ≤ t) (h2 : t ≤ 8) : cE1 ω ω' := ⟨h.1, h.2.1, fun c a1 a2 a3 a4 a5 _ _ => h.2.2 c a2 a3 a4 (by omega) (by omega), fun i _ => by rw [h.2.2 0 (by omega) (by omega) (by omega) (by omega) (by omega)]⟩
theorem cL0.e1 {ω ω' : CS} (h : cL0 ω ω') : cE1 ω ω' := (h.g (t := 1)).e1 (by omega) (by omega)
theorem cSt.e1 {T : xT} {q : Nat → Nat} {ω ω' : CS} {κ : KD} {x : SS} (h : cSt T q ω κ x) (g : cE1 ω ω') : cSt T q ω' κ x := h.mv g.1 g.2.1 (g.2.2.2 3 (by omega)) (g.2.2.1 2 (by omega) (by omega) (by omega) (by omega) (by omega) (by omega) (by omega)) (g.2.2.1 3 (by omega) (by omega) (by omega) (by omega) (by omega) (by omega) (by omega))
theorem cAt.e1 {ω ω' : CS} {x : SS} (h : cAt ω 0 x) (g : cE1 ω ω') : cAt ω' 0 x := by
  unfold cAt
  rw [g.2.2.1 (5 + 2 * 0) (by omega) (by omega) (by omega) (by omega) (by omega) (by omega) (by omega), g.2.2.1 (4 + 2 * 0) (by omega) (by omega) (by omega) (by omega) (by omega) (by omega) (by omega)]
  exact h
/-- what every question rests on -/
def Qc (T : xT) (q : Nat → Nat) (ω : CS) (σ : TS) (κ : KD) (x : SS) : Prop := σ.1 1 = x ∧ tOK σ κ ∧ tZ x ∧ tZ (σ.1 3) ∧ cSt T q ω κ x ∧ cAt ω 0 x
theorem Qc.ok {T : xT} {q : Nat → Nat} {ω : CS} {σ : TS} {κ : KD} {x : SS} (h : Qc T q ω σ κ x) : okS x := by
  obtain ⟨e, h1, -⟩ := h
  rw [← e]
  exact h1.2
theorem Qc.kd {T : xT} {q : Nat → Nat} {ω : CS} {σ : TS} {κ : KD} {x : SS} (h : Qc T q ω σ κ x) : kdB κ 10 := h.2.2.2.2.1.2.2.1
/-- answered alike, nothing kept changed -/
def JQ (ω : CS) (σ : TS) (tk : (Int32 → TS → Prop) → Prop) (ck : (Int32 → CS → Prop) → Prop) : Prop := ∃ v : Int32, (∀ k : Int32 → TS → Prop, (∀ σ', tE1 σ σ' → k v σ') → tk k) ∧ ∀ k : Int32 → CS → Prop, (∀ ω', cE1 ω ω' → k v ω') → ck k
def JQL (ω : CS) (σ : TS) (tk : (Int64 → TS → Prop) → Prop) (ck : (Int64 → CS → Prop) → Prop) : Prop := ∃ v : Int64, (∀ k : Int64 → TS → Prop, (∀ σ', tE1 σ σ' → k v σ') → tk k) ∧ ∀ k : Int64 → CS → Prop, (∀ ω', cE1 ω ω' → k v ω') → ck k
/-! the questions' own checks -/
theorem p_T {x a b : Int32} {k : Int32 → Prop} (h : a ≤ x ∧ x ≤ b) (hk : k 1) : pw_isIn x a b k := l_isIn (fun _ _ => hk) (fun n => absurd h n)
theorem p_F {x a b : Int32} {k : Int32 → Prop} (h : ¬ (a ≤ x ∧ x ≤ b)) (hk : k 0) : pw_isIn x a b k := l_isIn (fun h1 h2 => absurd ⟨h1, h2⟩ h) (fun _ => hk)
theorem q_T {x a b : Int32} {k : Int32 → Prop} (h : a ≤ x ∧ x ≤ b) (hk : k 1) : qw_in x a b k := k_in (fun _ _ => hk) (fun n => absurd h n)
theorem q_F {x a b : Int32} {k : Int32 → Prop} (h : ¬ (a ≤ x ∧ x ≤ b)) (hk : k 0) : qw_in x a b k := k_in (fun h1 h2 => absurd ⟨h1, h2⟩ h) (fun _ => hk)
theorem tst_iff {x : Int32} : (0 ≤ x ∧ x ≤ 3) ↔ ∃ t : Nat, t < 4 ∧ x = nI t := by
  constructor
  · intro h
    obtain ⟨j, hj, e⟩ := (i_rng (n := 3) (by omega)).mp h
    exact ⟨j, by omega, e⟩
  · rintro ⟨t, ht, rfl⟩
    exact (i_rng (n := 3) (by omega)).mpr ⟨t, by omega, rfl⟩
theorem l_tasteT {t : Nat} {k : Int32 → Prop} (ht : t < 4) (hk : k 1) : pw_isTaste (nI t) k := p_T (tst_iff.mpr ⟨t, ht, rfl⟩) ⟨Or.inr rfl, hk⟩
theorem l_tasteF {x : Int32} {k : Int32 → Prop} (h : ¬ ∃ t : Nat, t < 4 ∧ x = nI t) (hk : k 0) : pw_isTaste x k := p_F (fun c => h (tst_iff.mp c)) ⟨Or.inl rfl, hk⟩
theorem c_tasteT {t : Nat} {k : Int32 → Prop} (ht : t < 4) (hk : k 1) : qw_isTaste (nI t) k := q_T (tst_iff.mpr ⟨t, ht, rfl⟩) ⟨Or.inr rfl, hk⟩
theorem c_tasteF {x : Int32} {k : Int32 → Prop} (h : ¬ ∃ t : Nat, t < 4 ∧ x = nI t) (hk : k 0) : qw_isTaste x k := q_F (fun c => h (tst_iff.mp c)) ⟨Or.inl rfl, hk⟩
theorem loaf_iff {x : Int32} {m : Nat} (hm : m ≤ 6) : (0 ≤ x ∧ x ≤ nI m - 1) ↔ ∃ l : Nat, l < m ∧ x = nI l := by
  cases m with
  | zero =>
    constructor
    · rintro ⟨h1, h2⟩
      exfalso
      have e : nI 0 - 1 = -1 := by decide
      rw [e] at h2
      rw [Int32.le_iff_toInt_le] at h1 h2
      have e1 : (-1 : Int32).toInt = -1 := by decide
      have e2 : (0 : Int32).toInt = 0 := by decide
      omega
    · rintro ⟨l, hl, -⟩
      omega
  | succ m =>
    rw [nI_pred]
    constructor
    · intro h
      obtain ⟨j, hj, e⟩ := (i_rng (n := m) (by omega)).mp h
      exact ⟨j, by omega, e⟩
    · rintro ⟨t, ht, rfl⟩
      exact (i_rng (n := m) (by omega)).mpr ⟨t, by omega, rfl⟩
theorem l_loafT {σ : TS} {l : Nat} {k : Int32 → TS → Prop} (hx : okS (σ.1 1)) (hl : l < mOf (σ.1 1)) (hk : k 1 σ) : tw_isLoaf σ (nI l) k := by
  obtain ⟨h6, e5⟩ := mOf_le hx
  unfold tw_isLoaf
  rw [tc5, e5]
  exact ⟨vi5, p_T ((loaf_iff h6).mpr ⟨l, hl, rfl⟩) ⟨Or.inr rfl, hk⟩⟩
theorem l_loafF {σ : TS} {x : Int32} {k : Int32 → TS → Prop} (hx : okS (σ.1 1)) (h : ¬ ∃ l : Nat, l < mOf (σ.1 1) ∧ x = nI l) (hk : k 0 σ) : tw_isLoaf σ x k := by
  obtain ⟨h6, e5⟩ := mOf_le hx
  unfold tw_isLoaf
  rw [tc5, e5]
  exact ⟨vi5, p_F (fun c => h ((loaf_iff h6).mp c)) ⟨Or.inl rfl, hk⟩⟩
theorem c_loafT {T : xT} {q : Nat → Nat} {ω : CS} {x : SS} {l : Nat} {k : Int32 → CS → Prop} (hx : okS x) (e3 : ω.1.1 0 3 = x 5) (hl : l < mOf x) (hk : k 1 ω) : cw_isLoaf T q ω (nI l) k := by
  obtain ⟨h6, e5⟩ := mOf_le hx
  unfold cw_isLoaf
  rw [e3, e5]
  exact q_T ((loaf_iff h6).mpr ⟨l, hl, rfl⟩) ⟨Or.inr rfl, hk⟩
theorem c_loafF {T : xT} {q : Nat → Nat} {ω : CS} {x : SS} {v : Int32} {k : Int32 → CS → Prop} (hx : okS x) (e3 : ω.1.1 0 3 = x 5) (h : ¬ ∃ l : Nat, l < mOf x ∧ v = nI l) (hk : k 0 ω) : cw_isLoaf T q ω v k := by
  obtain ⟨h6, e5⟩ := mOf_le hx
  unfold cw_isLoaf
  rw [e3, e5]
  exact q_F (fun c => h ((loaf_iff h6).mp c)) ⟨Or.inl rfl, hk⟩
theorem m_ne {x : SS} {l : Nat} (hx : okS x) (hl : l < mOf x) : ¬ x 5 = 0 := by
  obtain ⟨h6, e5⟩ := mOf_le hx
  rw [e5]
  exact nI_ne0 (by omega) (by omega)
section Q
variable {T : xT} {q : Nat → Nat} {ω : CS} {σ : TS} {κ : KD} {x : SS}
theorem nI_rem10 {j : Nat} (h : j < 100) : nI j - nI j / 10 * 10 = nI (j % 10) := pk_rem (d := 10) (by omega) (by omega) (by omega)
theorem J_of (H : Qc T q ω σ κ x) (x1 x2 : Int32) : JQ ω σ (tw_of σ x1 x2) (cw_of T q ω x1 x2) := by
  have hx := H.ok
  obtain ⟨rfl, hk, zx, z3, hS, hA⟩ := H
  have h6 := (mOf_le hx).1
  unfold tw_of cw_of
  by_cases hl : ∃ l : Nat, l < mOf (σ.1 1) ∧ x1 = nI l
  · obtain ⟨l, hl, rfl⟩ := hl
    have hl6 : l < 6 := by omega
    have hm := m_ne hx hl
    obtain ⟨a, ha, hlof⟩ := hS.2.2.2.1 l hl
    by_cases h0 : x2 = 0
    · subst h0
      refine ⟨σ.1 1 (8 + 10 * l), fun k h => ?_, fun k h => ?_⟩
      · refine l_loafT hx hl (bn1 (by decide) ?_)
        intro y hy
        exact ⟨fun _ => l_kind hl6 (h σ tE1.rf), fun c => absurd c (by decide), fun c => absurd c (by decide), fun c => absurd c (by decide), fun c => absurd rfl c⟩
      · refine c_loafT hx hS.1 hl (bn1 (by decide) ⟨fun _ => ?_, fun c => absurd c (by decide), fun c => absurd c (by decide), fun c => absurd c (by decide), fun c => absurd rfl c⟩)
        rw [nI_clamp (by omega)]
        refine ⟨vp_in_nI hl6 (by omega), a, ha, _, _, _, hlof, ?_⟩
        obtain ⟨j, hj, ej⟩ := (hx.2.2.2 l hl6).1
        have e : nI (aKd (σ.1 1) l) = σ.1 1 (8 + 10 * l) := by unfold aKd; rw [ej, nI_clamp (by omega)]
        rw [e]
        exact h ω cE1.rf
    by_cases h1 : x2 = 1
    · subst h1
      refine ⟨σ.1 1 (8 + 10 * l + 1), fun k h => ?_, fun k h => ?_⟩
      · refine l_loafT hx hl (bn1 (by decide) ?_)
        intro y hy
        exact ⟨fun c => absurd c (by decide), fun _ => l_number hl6 (h σ tE1.rf), fun c => absurd c (by decide), fun c => absurd c (by decide), fun _ c => absurd rfl c⟩
      · refine c_loafT hx hS.1 hl (bn1 (by decide) ⟨fun c => absurd c (by decide), fun _ => ?_, fun c => absurd c (by decide), fun c => absurd c (by decide), fun _ c => absurd rfl c⟩)
        rw [nI_clamp (by omega)]
        exact ⟨vp_in_nI hl6 (by omega), a, ha, _, _, _, hlof, h ω cE1.rf⟩
    by_cases h2 : x2 = 2
    · subst h2
      refine ⟨kFee κ (lkF (σ.1 1) l), fun k h => ?_, fun k h => ?_⟩
      · refine l_loafT hx hl (bn1 (by decide) ?_)
        intro y hy
        exact ⟨fun c => absurd c (by decide), fun c => absurd c (by decide), fun _ => l_feeOf hk hm hl6 (fun σ' r => h σ' r.e1), fun c => absurd c (by decide), fun _ _ c => absurd rfl c⟩
      · refine c_loafT hx hS.1 hl (bn1 (by decide) ⟨fun c => absurd c (by decide), fun c => absurd c (by decide), fun _ => c_feeOf hS hx hA hl (fun ω' g => h ω' g.e1), fun c => absurd c (by decide), fun _ _ c => absurd rfl c⟩)
    by_cases h3 : x2 = 3
    · subst h3
      refine ⟨b2I (aSp κ (σ.1 1) l), fun k h => ?_, fun k h => ?_⟩
      · refine l_loafT hx hl (bn1 (by decide) ?_)
        intro y hy
        refine ⟨fun c => absurd c (by decide), fun c => absurd c (by decide), fun c => absurd c (by decide), fun _ => l_isSpoiled hk hm hl6 (fun σ' r => ?_), fun _ _ _ c => absurd rfl c⟩
        have hh := h σ' r.e1
        cases hb : aSp κ (σ.1 1) l
        · rw [hb] at hh; exact br1 rfl hh
        · rw [hb] at hh; exact br0 (by decide) hh
      · refine c_loafT hx hS.1 hl (bn1 (by decide) ⟨fun c => absurd c (by decide), fun c => absurd c (by decide), fun c => absurd c (by decide), fun _ => c_isSpoiled hS hx hA (by omega) hl (fun ω' g => ?_), fun _ _ _ c => absurd rfl c⟩)
        have hh := h ω' g.e1
        cases hb : aSp κ (σ.1 1) l
        · rw [hb] at hh; exact br1 rfl hh
        · rw [hb] at hh; exact br0 (by decide) hh
    -- the rest
    have TT : ∀ (v : Int32) (A : (Int32 → TS → Prop) → Prop) (B : (Int32 → CS → Prop) → Prop), True := fun _ _ _ => trivial
    by_cases hr : 10 ≤ x2 ∧ x2 ≤ 49
    · have h0' : (0 : Int32) ≤ x2 := by
        have := hr.1
        rw [Int32.le_iff_toInt_le] at *
        have e1 : (10 : Int32).toInt = 10 := by decide
        have e2 : (0 : Int32).toInt = 0 := by decide
        omega
      obtain ⟨j, hj, rfl⟩ := (i_rng (n := 49) (by omega)).mp ⟨h0', hr.2⟩
      have hj10 : 10 ≤ j := (nI_leI (a := 10) (by omega) (by omega)).mp hr.1
      have L : ∀ c : Nat, c < 100 → (nI c ≤ nI j ↔ c ≤ j) := fun c hc => nI_leI (by omega) (by omega)
      by_cases h4 : j % 10 < 4
      · -- a taste
        have hj43 : j ≤ 43 := by omega
        have t1 : ¬ nI j < 10 := i_lt_le.mpr ((L 10 (by omega)).mpr hj10)
        have t2 : ¬ 43 < nI j := fun c => by have := (nI_ltI (a := 43) (b := j) (by omega) (by omega)).mp c; omega
        have e6 : (6 : Int32) + nI (j % 10) = nI (6 + j % 10) := nI_add 6 _
        have e2 : (2 : Int32) + nI (j % 10) = nI (2 + j % 10) := nI_add 2 _
        by_cases g20 : 20 ≤ j
        · by_cases g30 : 30 ≤ j
          · by_cases g40 : 40 ≤ j
            · refine ⟨aLeave κ (σ.1 1) l (j % 10), fun k h => ?_, fun k h => ?_⟩
              · refine l_loafT hx hl (bn1 (by decide) ?_)
                intro y hy
                rw [nI_rem10 (by omega)] at hy
                subst hy
                refine ⟨fun c => absurd c h0, fun c => absurd c h1, fun c => absurd c h2, fun c => absurd c h3, fun _ _ _ _ => br0 t1 (br0 t2 (l_tasteT h4 (bn1 (by decide) (br1 ((L 20 (by omega)).mpr g20) (br1 ((L 30 (by omega)).mpr g30) (br1 ((L 40 (by omega)).mpr g40) (l_leavesOf hk hm hl6 h4 (fun σ' r => h σ' r.e1)))))))) ⟩
              · refine c_loafT hx hS.1 hl (bn1 (by decide) ⟨fun c => absurd c h0, fun c => absurd c h1, fun c => absurd c h2, fun c => absurd c h3, fun _ _ _ _ => ?_⟩)
                intro y hy
                rw [nI_rem10 (by omega)] at hy
                subst hy
                exact q_T hr (br0 (by decide) (c_tasteT h4 (bn1 (by decide) (br1 ((L 20 (by omega)).mpr g20) (br1 ((L 30 (by omega)).mpr g30) (br1 ((L 40 (by omega)).mpr g40) (c_leavesOf hS hx hA (by omega) hl h4 (fun ω' g => h ω' g.e1))))))))
            · refine ⟨aTake κ (σ.1 1) l (j % 10), fun k h => ?_, fun k h => ?_⟩
              · refine l_loafT hx hl (bn1 (by decide) ?_)
                intro y hy
                rw [nI_rem10 (by omega)] at hy
                subst hy
                refine ⟨fun c => absurd c h0, fun c => absurd c h1, fun c => absurd c h2, fun c => absurd c h3, fun _ _ _ _ => br0 t1 (br0 t2 (l_tasteT h4 (bn1 (by decide) (br1 ((L 20 (by omega)).mpr g20) (br1 ((L 30 (by omega)).mpr g30) (br0 (fun c => g40 ((L 40 (by omega)).mp c)) (l_takesOf hk hm hl6 h4 (fun σ' r => h σ' r.e1)))))))) ⟩
              · refine c_loafT hx hS.1 hl (bn1 (by decide) ⟨fun c => absurd c h0, fun c => absurd c h1, fun c => absurd c h2, fun c => absurd c h3, fun _ _ _ _ => ?_⟩)
                intro y hy
                rw [nI_rem10 (by omega)] at hy
                subst hy
                refine q_T hr (br0 (by decide) (c_tasteT h4 (bn1 (by decide) (br1 ((L 20 (by omega)).mpr g20) (br1 ((L 30 (by omega)).mpr g30) (br0 (fun c => g40 ((L 40 (by omega)).mp c)) ⟨vp_in_nI h4 (by omega), ?_⟩))))))
                rw [nI_clamp (by omega), hA.1 _ h4]
                exact c_takesOf hS hx hA (by omega) hl h4 (fun ω' g => h ω' g.e1)
          · refine ⟨σ.1 1 (8 + 10 * l + (6 + j % 10)), fun k h => ?_, fun k h => ?_⟩
            · refine l_loafT hx hl (bn1 (by decide) ?_)
              intro y hy
              rw [nI_rem10 (by omega)] at hy
              subst hy
              rw [e6]
              refine ⟨fun c => absurd c h0, fun c => absurd c h1, fun c => absurd c h2, fun c => absurd c h3, fun _ _ _ _ => br0 t1 (br0 t2 (l_tasteT h4 (bn1 (by decide) (br1 ((L 20 (by omega)).mpr g20) (br0 (fun c => g30 ((L 30 (by omega)).mp c)) (l_get hl6 (by omega) (h σ tE1.rf)))))))⟩
            · refine c_loafT hx hS.1 hl (bn1 (by decide) ⟨fun c => absurd c h0, fun c => absurd c h1, fun c => absurd c h2, fun c => absurd c h3, fun _ _ _ _ => ?_⟩)
              intro y hy
              rw [nI_rem10 (by omega)] at hy
              subst hy
              refine q_T hr (br0 (by decide) (c_tasteT h4 (bn1 (by decide) (br1 ((L 20 (by omega)).mpr g20) (br0 (fun c => g30 ((L 30 (by omega)).mp c)) ?_)))))
              rw [cx_4, nI_clamp (by omega), (hS.2.2.2.2 l hl6 _ h4).2]
              exact ⟨vp_in_nI (by omega) (by omega), h ω cE1.rf⟩
        · refine ⟨σ.1 1 (8 + 10 * l + (2 + j % 10)), fun k h => ?_, fun k h => ?_⟩
          · refine l_loafT hx hl (bn1 (by decide) ?_)
            intro y hy
            rw [nI_rem10 (by omega)] at hy
            subst hy
            rw [e2]
            refine ⟨fun c => absurd c h0, fun c => absurd c h1, fun c => absurd c h2, fun c => absurd c h3, fun _ _ _ _ => br0 t1 (br0 t2 (l_tasteT h4 (bn1 (by decide) (br0 (fun c => g20 ((L 20 (by omega)).mp c)) (l_get hl6 (by omega) (h σ tE1.rf))))))⟩
          · refine c_loafT hx hS.1 hl (bn1 (by decide) ⟨fun c => absurd c h0, fun c => absurd c h1, fun c => absurd c h2, fun c => absurd c h3, fun _ _ _ _ => ?_⟩)
            intro y hy
            rw [nI_rem10 (by omega)] at hy
            subst hy
            refine q_T hr (br0 (by decide) (c_tasteT h4 (bn1 (by decide) (br0 (fun c => g20 ((L 20 (by omega)).mp c)) ?_))))
            rw [cx_4, nI_clamp (by omega), (hS.2.2.2.2 l hl6 _ h4).1]
            exact ⟨vp_in_nI (by omega) (by omega), h ω cE1.rf⟩
      · have hnt : ¬ ∃ t : Nat, t < 4 ∧ nI (j % 10) = nI t := by
          rintro ⟨t, ht, e⟩
          have := (nI_eq (by omega) (by omega)).mp e
          omega
        refine ⟨-1, fun k h => ?_, fun k h => ?_⟩
        · refine l_loafT hx hl (bn1 (by decide) ?_)
          intro y hy
          rw [nI_rem10 (by omega)] at hy
          subst hy
          refine ⟨fun c => absurd c h0, fun c => absurd c h1, fun c => absurd c h2, fun c => absurd c h3, fun _ _ _ _ => ⟨fun _ => h σ tE1.rf, fun _ => ⟨fun _ => h σ tE1.rf, fun _ => l_tasteF hnt (bn0 rfl (h σ tE1.rf))⟩⟩⟩
        · refine c_loafT hx hS.1 hl (bn1 (by decide) ⟨fun c => absurd c h0, fun c => absurd c h1, fun c => absurd c h2, fun c => absurd c h3, fun _ _ _ _ => ?_⟩)
          intro y hy
          rw [nI_rem10 (by omega)] at hy
          subst hy
          exact q_T hr (br0 (by decide) (c_tasteF hnt (bn0 rfl (h ω cE1.rf))))
    · refine ⟨-1, fun k h => ?_, fun k h => ?_⟩
      · refine l_loafT hx hl (bn1 (by decide) ?_)
        intro y hy
        refine ⟨fun c => absurd c h0, fun c => absurd c h1, fun c => absurd c h2, fun c => absurd c h3, fun _ _ _ _ => ⟨fun _ => h σ tE1.rf, fun g1 => ⟨fun _ => h σ tE1.rf, fun g2 => ?_⟩⟩⟩
        exfalso
        apply hr
        refine ⟨i_lt_le.mp g1, ?_⟩
        have g2' := i_lt_le.mp g2
        rw [Int32.le_iff_toInt_le] at *
        have e1 : (43 : Int32).toInt = 43 := by decide
        have e2 : (49 : Int32).toInt = 49 := by decide
        omega
      · refine c_loafT hx hS.1 hl (bn1 (by decide) ⟨fun c => absurd c h0, fun c => absurd c h1, fun c => absurd c h2, fun c => absurd c h3, fun _ _ _ _ => ?_⟩)
        intro y hy
        exact q_F hr (br1 rfl (h ω cE1.rf))
  · exact ⟨-1, fun k h => l_loafF hx hl (bn0 rfl (h σ tE1.rf)), fun k h => c_loafF hx hS.1 hl (bn0 rfl (h ω cE1.rf))⟩
end Q
