/-! PLAIN: where a reading ends; tests in a piece of world -/
set_option maxRecDepth 100000
def endP {α : Type} (r : PR α) : Nat := match r with
  | .inl p => p
  | .inr q => q.1
/-- it ends behind a, and not behind n -/
abbrev pEn {α : Type} (n a : Nat) (r : PR α) : Prop := a ≤ endP r ∧ (a ≤ n → endP r ≤ n)
theorem pNum_en {f : SS} {n a : Nat} : pEn n a (pNum f n a) := by
  unfold pNum
  by_cases h1 : isDig (hereS f n a) = true
  · have l1 := hereS_dig h1
    rw [if_pos h1]
    by_cases h2 : isDig (hereS f n (a + 1)) = true
    · have l2 := hereS_dig h2
      rw [if_pos h2]
      exact ⟨by show a ≤ a + 2; omega, fun _ => by show a + 2 ≤ n; omega⟩
    · rw [if_neg h2]
      exact ⟨by show a ≤ a + 1; omega, fun _ => by show a + 1 ≤ n; omega⟩
  · rw [if_neg h1]
    exact ⟨Nat.le_refl a, fun h => h⟩
theorem hereS_sg {f : SS} {n a : Nat} (h : hereS f n a = 60 ∨ hereS f n a = 61 ∨ hereS f n a = 62) : a < n := by
  rcases h with h | h | h <;> exact hereS_eq h (by decide)
theorem pTest_en {f : SS} {n a : Nat} : pEn n a (pTest f n a) := by
  unfold pTest
  by_cases h1 : isLet (hereS f n a) = true
  · have l1 := hereS_let h1
    rw [if_pos h1]
    by_cases h2 : hereS f n (a + 1) = 60 ∨ hereS f n (a + 1) = 61 ∨ hereS f n (a + 1) = 62
    · have l2 := hereS_sg h2
      rw [if_pos h2]
      have hb := pNum_en (f := f) (n := n) (a := a + 2)
      cases hn : pNum f n (a + 2) with
      | inl p => rw [hn] at hb; exact ⟨by have := hb.1; show a ≤ p; change a + 2 ≤ p at this; omega, fun _ => hb.2 (by omega)⟩
      | inr z => rw [hn] at hb; exact ⟨by have := hb.1; show a ≤ z.1; change a + 2 ≤ z.1 at this; omega, fun _ => hb.2 (by omega)⟩
    · rw [if_neg h2]
      exact ⟨by show a ≤ a + 1; omega, fun _ => by show a + 1 ≤ n; omega⟩
  · rw [if_neg h1]
    exact ⟨Nat.le_refl a, fun h => h⟩
theorem pLoop_en {F : Nat → PR TF1} {f : SS} {n : Nat} {sep : Int32} (hs : sep ≠ -1) (hF : ∀ a, pEn n a (F a)) : ∀ (r a : Nat) (φs : List TF1), pEn n a (pLoop F f n sep r a φs)
  | 0, a, φs => ⟨Nat.le_refl a, fun h => h⟩
  | r + 1, a, φs => by
    unfold pLoop
    by_cases h1 : hereS f n a = sep
    · rw [if_pos h1]
      have hlt := hereS_eq h1 hs
      have hb := hF (a + 1)
      cases hn : F (a + 1) with
      | inl p => rw [hn] at hb; exact ⟨by have := hb.1; show a ≤ p; change a + 1 ≤ p at this; omega, fun _ => hb.2 (by omega)⟩
      | inr z =>
        rw [hn] at hb
        have hc := pLoop_en hs hF r z.1 (φs ++ [z.2])
        have h3 := hb.1
        have h4 := hb.2 (by omega)
        change a + 1 ≤ z.1 at h3
        change z.1 ≤ n at h4
        refine ⟨?_, fun _ => hc.2 h4⟩
        have := hc.1
        show a ≤ endP (pLoop F f n sep r z.1 (φs ++ [z.2]))
        omega
    · rw [if_neg h1]
      exact ⟨Nat.le_refl a, fun h => h⟩
theorem pJ_en {all : Bool} {F : Nat → PR TF1} {f : SS} {n : Nat} {sep : Int32} (hs : sep ≠ -1) (hF : ∀ a, pEn n a (F a)) (a : Nat) : pEn n a (pJ all f n sep F a) := by
  unfold pJ
  have hb := hF a
  cases hn : F a with
  | inl p => rw [hn] at hb; exact hb
  | inr z =>
    rw [hn] at hb
    have hc := pLoop_en hs hF n z.1 [z.2]
    show pEn n a (match pLoop F f n sep n z.1 [z.2] with
      | .inl p => (.inl p : PR TF1)
      | .inr z => .inr (z.1, jn all z.2))
    have h3 := hb.1
    change a ≤ z.1 at h3
    cases hm : pLoop F f n sep n z.1 [z.2] with
    | inl p => rw [hm] at hc; exact ⟨Nat.le_trans h3 hc.1, fun h => hc.2 (hb.2 h)⟩
    | inr y => rw [hm] at hc; exact ⟨Nat.le_trans h3 hc.1, fun h => hc.2 (hb.2 h)⟩
theorem pEof_en {F : Nat → PR TF1} {f : SS} {n : Nat} (hF : ∀ a, pEn n a (F a)) (a : Nat) : pEn n a (pEof f n F a) := pJ_en (by decide) (fun a => pJ_en (by decide) hF a) a
theorem pF_en {f : SS} {n : Nat} : ∀ r a, pEn n a (pF f n r a)
  | 0, a => by
    unfold pF
    by_cases h1 : hereS f n a = 33
    · rw [if_pos h1]; exact ⟨Nat.le_refl a, fun h => h⟩
    rw [if_neg h1]
    by_cases h2 : hereS f n a = 40
    · rw [if_pos h2]; exact ⟨Nat.le_refl a, fun h => h⟩
    rw [if_neg h2]
    exact pTest_en
  | r + 1, a => by
    unfold pF
    by_cases h1 : hereS f n a = 33
    · rw [if_pos h1]
      have hlt := hereS_eq h1 (by decide)
      have hb := pF_en (f := f) (n := n) r (a + 1)
      have h3 := hb.1
      cases hn : pF f n r (a + 1) with
      | inl p => rw [hn] at hb h3; exact ⟨by show a ≤ p; change a + 1 ≤ p at h3; omega, fun _ => hb.2 (by omega)⟩
      | inr z => rw [hn] at hb h3; exact ⟨by show a ≤ z.1; change a + 1 ≤ z.1 at h3; omega, fun _ => hb.2 (by omega)⟩
    rw [if_neg h1]
    by_cases h2 : hereS f n a = 40
    · rw [if_pos h2]
      have hlt := hereS_eq h2 (by decide)
      have hb := pEof_en (pF_en (f := f) (n := n) r) (a + 1)
      have h3 := hb.1
      cases hn : pEof f n (pF f n r) (a + 1) with
      | inl p => rw [hn] at hb h3; exact ⟨by show a ≤ p; change a + 1 ≤ p at h3; omega, fun _ => hb.2 (by omega)⟩
      | inr z =>
        rw [hn] at hb h3
        have h4 := hb.2 (by omega)
        change a + 1 ≤ z.1 at h3
        change z.1 ≤ n at h4
        show pEn n a (if hereS f n z.1 = 41 then (.inr (z.1 + 1, z.2) : PR TF1) else .inl z.1)
        by_cases h5 : hereS f n z.1 = 41
        · have l5 := hereS_eq h5 (by decide)
          rw [if_pos h5]; exact ⟨by show a ≤ z.1 + 1; omega, fun _ => by show z.1 + 1 ≤ n; omega⟩
        · rw [if_neg h5]; exact ⟨by show a ≤ z.1; omega, fun _ => by show z.1 ≤ n; omega⟩
    rw [if_neg h2]
    exact pTest_en
theorem pWord_en {f : SS} {n : Nat} : ∀ (ws : List Int32), (∀ w ∈ ws, w ≠ -1) → ∀ a, pEn n a (pWord f n ws a)
  | [], _, a => ⟨Nat.le_refl a, fun h => h⟩
  | w :: ws, hw, a => by
    unfold pWord
    by_cases h1 : hereS f n a = w
    · rw [if_pos h1]
      have := hereS_eq h1 (hw w List.mem_cons_self)
      have hb := pWord_en ws (fun v hv => hw v (List.mem_cons_of_mem _ hv)) (a + 1)
      exact ⟨by have := hb.1; omega, fun _ => hb.2 (by omega)⟩
    · rw [if_neg h1]; exact ⟨Nat.le_refl a, fun h => h⟩
theorem pNT_en {f : SS} {n a : Nat} : pEn n a (pNT f n a) := by
  unfold pNT
  have hb := pNum_en (f := f) (n := n) (a := a)
  cases hn : pNum f n a with
  | inl p => rw [hn] at hb; exact hb
  | inr z =>
    rw [hn] at hb
    have h3 := hb.1
    change a ≤ z.1 at h3
    show pEn n a (if hereS f n z.1 = 32 then (match pE f n (z.1 + 1) with
      | .inl p => (.inl p : PR (Int32 × TF1))
      | .inr y => .inr (y.1, (z.2, y.2))) else .inl z.1)
    by_cases h1 : hereS f n z.1 = 32
    · have l1 := hereS_eq h1 (by decide)
      rw [if_pos h1]
      have hc := pEof_en (pF_en (f := f) (n := n) 4) (z.1 + 1)
      have h4 := hc.1
      have h5 := hc.2 (by omega)
      change _ ≤ endP (pE f n (z.1 + 1)) at h4
      change endP (pE f n (z.1 + 1)) ≤ n at h5
      cases hm : pE f n (z.1 + 1) with
      | inl p => rw [hm] at h4 h5; exact ⟨by show a ≤ p; change _ ≤ p at h4; omega, fun _ => h5⟩
      | inr y => rw [hm] at h4 h5; exact ⟨by show a ≤ y.1; change _ ≤ y.1 at h4; omega, fun _ => h5⟩
    · rw [if_neg h1]
      exact ⟨h3, fun h => hb.2 h⟩
theorem pPut_en {α : Type} {n a : Nat} {r : PR α} {g : α → KD} (h : pEn n a r) : pEn n a (pPut r g) := by
  cases r with
  | inl p => exact h
  | inr z => exact h
theorem pTested_en {f : SS} {n a : Nat} {w : List Int32} (hw : ∀ v ∈ w, v ≠ -1) : pEn n a (pTested f n w a) := by
  unfold pTested
  have hb := pWord_en (f := f) (n := n) w hw a
  cases hn : pWord f n w a with
  | inl p => rw [hn] at hb; exact hb
  | inr z =>
    rw [hn] at hb
    have hc := pNT_en (f := f) (n := n) (a := z.1)
    exact ⟨Nat.le_trans hb.1 hc.1, fun h => hc.2 (hb.2 h)⟩
theorem pCold_en {f : SS} {n a : Nat} : pEn n a (pCold f n a) := by
  unfold pCold
  have hb := pWord_en (f := f) (n := n) [99, 111, 108, 100, 32] (by decide) a
  cases hn : pWord f n [99, 111, 108, 100, 32] a with
  | inl p => rw [hn] at hb; exact hb
  | inr z =>
    rw [hn] at hb
    have hc := pNum_en (f := f) (n := n) (a := z.1)
    exact ⟨Nat.le_trans hb.1 hc.1, fun h => hc.2 (hb.2 h)⟩
theorem pClause_en {f : SS} {n a : Nat} {κ : KD} : pEn n a (pClause f n a κ) := by
  unfold pClause
  by_cases h1 : hereS f n a = 116
  · rw [if_pos h1]; exact pPut_en (pTested_en (by decide))
  rw [if_neg h1]
  by_cases h2 : hereS f n a = 109
  · rw [if_pos h2]; exact pPut_en (pTested_en (by decide))
  rw [if_neg h2]
  by_cases h3 : hereS f n a = 99
  · rw [if_pos h3]; exact pPut_en pCold_en
  rw [if_neg h3]
  by_cases h4 : hereS f n a = 102
  · rw [if_pos h4]; exact pPut_en (pTested_en (by decide))
  rw [if_neg h4]
  exact ⟨Nat.le_refl a, fun h => h⟩
theorem pKil_en {f : SS} {n : Nat} : ∀ (r a : Nat) (κ : KD), pEn n a (pKil f n r a κ)
  | 0, a, κ => by
    unfold pKil
    have hb := pClause_en (f := f) (n := n) (a := a) (κ := κ)
    cases hn : pClause f n a κ with
    | inl p => rw [hn] at hb; exact hb
    | inr q =>
      rw [hn] at hb
      show pEn n a (if q.1 = n then (.inr q : PR KD) else .inl q.1)
      by_cases h : q.1 = n
      · rw [if_pos h]; exact hb
      · rw [if_neg h]; exact hb
  | r + 1, a, κ => by
    unfold pKil
    have hb := pClause_en (f := f) (n := n) (a := a) (κ := κ)
    cases hn : pClause f n a κ with
    | inl p => rw [hn] at hb; exact hb
    | inr q =>
      rw [hn] at hb
      show pEn n a (if q.1 = n then (.inr q : PR KD) else if hereS f n q.1 = 59 then pKil f n r (q.1 + 1) q.2 else .inl q.1)
      by_cases h : q.1 = n
      · rw [if_pos h]; exact hb
      rw [if_neg h]
      by_cases h2 : hereS f n q.1 = 59
      · rw [if_pos h2]
        have l2 := hereS_eq h2 (by decide)
        have hc := pKil_en (f := f) (n := n) r (q.1 + 1) q.2
        exact ⟨Nat.le_trans hb.1 (Nat.le_trans (Nat.le_succ _) hc.1), fun _ => hc.2 l2⟩
      · rw [if_neg h2]; exact hb
/-! tests, lists of clauses: their entries lie in N -/
def alP (T : xT) (N : va_W) (al : Nat) (xs : List Nat) : Prop := ∃ (arr : Nat) (mc : Int32), (al, .inr (20, [.int mc, .ref arr, .int (nI xs.length)])) ∈ N ∧ xs.length ≤ 100000 ∧ ((arr = T.2.2.2 ∧ xs = []) ∨ ∃ (cap : Nat) (f : Nat → Option Nat), (arr, .inl (T.1 8, cap, .inr (.inr (.inr (.inr f))))) ∈ N ∧ xs.length ≤ cap ∧ cap ≤ 100000 ∧ 10 ≤ cap ∧ ∀ (i a : Nat), xs[i]? = some a → f i = some a)
def tstP (T : xT) (N : va_W) : Nat → Nat → TF1 → Prop
  | 0, _, _ => False
  | d + 1, a, φ => (∃ (b : Nat) (φ' : TF1), (a, .inr (18, [.ref b])) ∈ N ∧ tstP T N d b φ' ∧ ∀ e, φ e = !φ' e) ∨ (∃ letter sign n : Int32, (a, .inr (19, [.int letter, .int sign, .int n])) ∈ N ∧ ∀ e, φ e = agF letter sign n e) ∨
    (∃ (isAll : Bool) (al : Nat) (xs : List Nat) (φs : List TF1), (a, .inr (17, [.int (if isAll then 1 else 0), .ref al])) ∈ N ∧ alP T N al xs ∧ xs.length = φs.length ∧ (∀ (i x : Nat) (ψ : TF1), xs[i]? = some x → φs[i]? = some ψ → tstP T N d x ψ) ∧ ∀ e, φ e = if isAll then φs.all (fun ψ => ψ e) else φs.any (fun ψ => ψ e))
theorem alP.mono {T : xT} {N M : va_W} {al : Nat} {xs : List Nat} (h : alP T N al xs) (hs : ∀ x ∈ N, x ∈ M) : alP T M al xs := by
  obtain ⟨arr, mc, h1, h2, h3⟩ := h
  refine ⟨arr, mc, hs _ h1, h2, h3.imp id (fun ⟨cap, f, g1, g2⟩ => ⟨cap, f, hs _ g1, g2⟩)⟩
theorem tstP.mono {T : xT} {N M : va_W} (hs : ∀ x ∈ N, x ∈ M) : ∀ {d a : Nat} {φ : TF1}, tstP T N d a φ → tstP T M d a φ
  | 0, _, _, h => h
  | d + 1, a, φ, h => by
    rcases h with ⟨b, φ', h1, h2, h3⟩ | ⟨c, s, n, h1, h2⟩ | ⟨i, al, xs, φs, h1, h2, h3, h4, h5⟩
    · exact Or.inl ⟨b, φ', hs _ h1, h2.mono hs, h3⟩
    · exact Or.inr (Or.inl ⟨c, s, n, hs _ h1, h2⟩)
    · exact Or.inr (Or.inr ⟨i, al, xs, φs, hs _ h1, h2.mono hs, h3, fun j x ψ hx hψ => (h4 j x ψ hx hψ).mono hs, h5⟩)
theorem tstP.up {T : xT} {N : va_W} : ∀ {d a : Nat} {φ : TF1}, tstP T N d a φ → tstP T N (d + 1) a φ
  | 0, _, _, h => h.elim
  | d + 1, a, φ, h => by
    rcases h with ⟨b, φ', h1, h2, h3⟩ | ⟨c, s, n, h1, h2⟩ | ⟨i, al, xs, φs, h1, h2, h3, h4, h5⟩
    · exact Or.inl ⟨b, φ', h1, h2.up, h3⟩
    · exact Or.inr (Or.inl ⟨c, s, n, h1, h2⟩)
    · exact Or.inr (Or.inr ⟨i, al, xs, φs, h1, h2, h3, fun j x ψ hx hψ => (h4 j x ψ hx hψ).up, h5⟩)
theorem tstP.to {T : xT} {N : va_W} {d d' a : Nat} {φ : TF1} (h : tstP T N d a φ) (hd : d ≤ d') : tstP T N d' a φ := by
  obtain ⟨k, rfl⟩ := Nat.exists_eq_add_of_le hd
  induction k with
  | zero => exact h
  | succ k ih => exact (ih (by omega)).up
theorem tstP.elt {T : xT} {N : va_W} : ∀ {d a : Nat} {φ : TF1}, tstP T N d a φ → oElt N a
  | 0, _, _, h => h.elim
  | d + 1, a, φ, h => by
    rcases h with ⟨b, φ', h1, h2, h3⟩ | ⟨c, s, n, h1, h2⟩ | ⟨i, al, xs, φs, h1, h2, h3, h4, h5⟩
    · exact ⟨18, _, "BakedBefore$Not", TX19, 1, h1, rfl, by decide⟩
    · exact ⟨19, _, "BakedBefore$Against", TX20, 3, h1, rfl, by decide⟩
    · exact ⟨17, _, "BakedBefore$Some", TX18, 2, h1, rfl, by decide⟩
theorem alW.alP {T : xT} {al : Nat} {xs : List Nat} {E w : va_W} (h : alW T al xs E w) (hl : xs.length ≤ 1000) : alP T w al xs := by
  obtain ⟨m, arr, w', rfl, h⟩ := h
  refine ⟨arr, m, List.mem_cons_self, by omega, ?_⟩
  rcases h with ⟨h1, h2, h3⟩ | ⟨cap, f, h1, h2, h3, h4, rfl⟩
  · exact Or.inl ⟨h1, h2⟩
  · exact Or.inr ⟨cap, f, List.mem_cons_of_mem _ List.mem_cons_self, h1, by omega, h2, h4⟩
/-- as the pool has it -/
theorem alP.toR {T : xT} {N : va_W} {L : List Nat} {g : Nat → va_E} (hg : ∀ x ∈ N, x.1 ∈ L ∧ g x.1 = x.2) {al : Nat} {xs : List Nat} (h : alP T N al xs) : alR T L g al xs := by
  obtain ⟨arr, mc, h1, h2, h3⟩ := h
  refine ⟨(hg _ h1).1, arr, mc, (hg _ h1).2, h2, h3.imp id (fun ⟨cap, f, g1, g2, g3, g4, g5⟩ => ⟨(hg _ g1).1, cap, f, (hg _ g1).2, g2, g3, g4, g5⟩)⟩
theorem tstP.toR {T : xT} {N : va_W} {L : List Nat} {g : Nat → va_E} (hg : ∀ x ∈ N, x.1 ∈ L ∧ g x.1 = x.2) : ∀ {d a : Nat} {φ : TF1}, tstP T N d a φ → tstR T L g d a φ
  | 0, _, _, h => h.elim
  | d + 1, a, φ, h => by
    rcases h with ⟨b, φ', h1, h2, h3⟩ | ⟨c, s, n, h1, h2⟩ | ⟨i, al, xs, φs, h1, h2, h3, h4, h5⟩
    · exact ⟨(hg _ h1).1, Or.inl ⟨b, φ', (hg _ h1).2, h2.toR hg, h3⟩⟩
    · exact ⟨(hg _ h1).1, Or.inr (Or.inl ⟨c, s, n, (hg _ h1).2, h2⟩)⟩
    · exact ⟨(hg _ h1).1, Or.inr (Or.inr ⟨i, al, xs, φs, (hg _ h1).2, h2.toR hg, h3, fun j x ψ hx hψ => (h4 j x ψ hx hψ).toR hg, h5⟩)⟩
def clP (T : xT) (N : va_W) (xs : List Nat) (cs : CL1) : Prop := xs.length = cs.length ∧ ∀ (i x : Nat) (c : Int32 × TF1), xs[i]? = some x → cs[i]? = some c → ∃ t : Nat, (x, .inr (16, [.int c.1, .ref t])) ∈ N ∧ tstP T N 20 t c.2
theorem clP.mono {T : xT} {N M : va_W} {xs : List Nat} {cs : CL1} (h : clP T N xs cs) (hs : ∀ x ∈ N, x ∈ M) : clP T M xs cs := ⟨h.1, fun i x c hx hc => by
  obtain ⟨t, h1, h2⟩ := h.2 i x c hx hc
  exact ⟨t, hs _ h1, h2.mono hs⟩⟩
theorem clP.add {T : xT} {N : va_W} {xs : List Nat} {cs : CL1} {x t : Nat} {c : Int32 × TF1} (h : clP T N xs cs) (h1 : (x, .inr (16, [.int c.1, .ref t])) ∈ N) (h2 : tstP T N 20 t c.2) : clP T N (xs ++ [x]) (cs ++ [c]) := by
  obtain ⟨a1, a2⟩ := h
  refine ⟨by simp [a1], fun i y d hy hd => ?_⟩
  rw [List.getElem?_append] at hy hd
  by_cases hi : i < xs.length
  · rw [if_pos hi] at hy
    rw [if_pos (by omega)] at hd
    exact a2 i y d hy hd
  · rw [if_neg hi] at hy
    rw [if_neg (by omega)] at hd
    have h0 : i - xs.length = 0 := by
      have := (List.getElem?_eq_some_iff.mp hy).1
      simp at this
      omega
    rw [h0] at hy
    rw [show i - cs.length = 0 by omega] at hd
    cases hy
    cases hd
    exact ⟨t, h1, h2⟩
theorem clP.elt {T : xT} {N : va_W} {xs : List Nat} {cs : CL1} (h : clP T N xs cs) : ∀ y ∈ xs, oElt N y := by
  intro y hy
  obtain ⟨i, hi⟩ := List.getElem?_of_mem hy
  have hlt := (List.getElem?_eq_some_iff.mp hi).1
  obtain ⟨t, h1, -⟩ := h.2 i y _ hi (List.getElem?_eq_getElem (by rw [← h.1]; exact hlt))
  exact ⟨16, _, "BakedBefore$Clause", TX16, 2, h1, rfl, by decide⟩
theorem clP.toR {T : xT} {N : va_W} {L : List Nat} {g : Nat → va_E} (hg : ∀ x ∈ N, x.1 ∈ L ∧ g x.1 = x.2) {al : Nat} {xs : List Nat} {cs : CL1} (h : clP T N xs cs) (ha : alP T N al xs) : clR T L g al cs := ⟨xs, ha.toR hg, h.1, fun i x c hx hc => by
  obtain ⟨t, h1, h2⟩ := h.2 i x c hx hc
  exact ⟨(hg _ h1).1, t, (hg _ h1).2, h2.toR hg⟩⟩
