/-! PLAIN: questions: order: the component's search; order itself -/
set_option maxRecDepth 100000
def cbR (ω : CS) (b : BB) : Prop := match b with
  | none => ω.1.1 0 21 = -5 ∧ ∀ j, j < 6 → ω.1.1 41 j = -5
  | some p => ω.1.1 0 21 = nI p.1 ∧ p.1 ≤ 1000 ∧ p.2.length ≤ 6 ∧ ∀ j, j < 6 → ω.1.1 41 j = (match p.2[j]? with
    | some l => nI l
    | none => -5)
/-- what a search from depth k on changes -/
def cO (k : Nat) (ω ω' : CS) : Prop := ω'.1.2 = ω.1.2 ∧ ω'.2 = ω.2 ∧ (∀ c, 1 ≤ c → c ≠ 25 → c ≠ 37 → c ≠ 38 → (c < 10 + 2 * k ∨ 21 < c) → c ≠ 40 → c ≠ 41 → ω'.1.1 c = ω.1.1 c) ∧ (∀ j, j < k → ω'.1.1 40 j = ω.1.1 40 j) ∧ ∀ i, i ≠ 21 → ω'.1.1 0 i = ω.1.1 0 i
theorem cO.rf {k : Nat} {ω : CS} : cO k ω ω := ⟨rfl, rfl, fun _ _ _ _ _ _ _ _ => rfl, fun _ _ => rfl, fun _ _ => rfl⟩
theorem cO.tr {k : Nat} {ω ω1 ω2 : CS} (h : cO k ω ω1) (h' : cO k ω1 ω2) : cO k ω ω2 := ⟨h'.1.trans h.1, h'.2.1.trans h.2.1, fun c a1 a2 a3 a4 a5 a6 a7 => (h'.2.2.1 c a1 a2 a3 a4 a5 a6 a7).trans (h.2.2.1 c a1 a2 a3 a4 a5 a6 a7), fun j hj => (h'.2.2.2.1 j hj).trans (h.2.2.2.1 j hj), fun i hi => (h'.2.2.2.2 i hi).trans (h.2.2.2.2 i hi)⟩
theorem cO.le {k k' : Nat} {ω ω1 : CS} (h : cO k' ω ω1) (hk : k ≤ k') : cO k ω ω1 := ⟨h.1, h.2.1, fun c a1 a2 a3 a4 a5 a6 a7 => h.2.2.1 c a1 a2 a3 a4 (by omega) a6 a7, fun j hj => h.2.2.2.1 j (by omega), h.2.2.2.2⟩
theorem cO.e1 {k : Nat} {ω ω1 : CS} (h : cO k ω ω1) : cE1 ω ω1 := ⟨h.1, h.2.1, fun c a1 a2 a3 a4 a5 a6 a7 => h.2.2.1 c a1 a2 a3 a4 (by omega) a6 a7, h.2.2.2.2⟩
/-- the time of depth k -/
theorem cO.at {k : Nat} {ω ω1 : CS} {y : SS} (h : cO k ω ω1) (hk : k ≤ 6) (A : cAt ω (2 + k) y) : cAt ω1 (2 + k) y := by
  unfold cAt
  rw [h.2.2.1 (5 + 2 * (2 + k)) (by omega) (by omega) (by omega) (by omega) (by omega) (by omega) (by omega), h.2.2.1 (4 + 2 * (2 + k)) (by omega) (by omega) (by omega) (by omega) (by omega) (by omega) (by omega)]
  exact A
theorem cG.o {k : Nat} {ω ω1 : CS} (h : cG (2 + (k + 1)) ω ω1) (hk : k ≤ 5) : cO k ω ω1 := ⟨h.1, h.2.1, fun c a1 a2 a3 a4 a5 _ _ => h.2.2 c a2 a3 a4 (by omega) (by omega), fun j _ => by rw [h.2.2 40 (by omega) (by omega) (by omega) (by omega) (by omega)], fun i _ => by rw [h.2.2 0 (by omega) (by omega) (by omega) (by omega) (by omega)]⟩
theorem cG.br {t : Nat} {ω ω1 : CS} {b : BB} (h : cG t ω ω1) (ht : t < 10) (hb : cbR ω b) : cbR ω1 b := by
  have e0 : ω1.1.1 0 = ω.1.1 0 := h.2.2 0 (by omega) (by omega) (by omega) (by omega) (by omega)
  have e41 : ω1.1.1 41 = ω.1.1 41 := h.2.2 41 (by omega) (by omega) (by omega) (by omega) (by omega)
  unfold cbR at hb ⊢
  rw [e0, e41]
  exact hb
theorem br_40 {ω : CS} {i : Nat} {v : Int32} {b : BB} (hb : cbR ω b) : cbR (cA ω 40 i v) b := by
  unfold cbR at hb ⊢
  rw [cA_ne (by omega), cA_ne (by omega)]
  exact hb
section Q
variable {T : xT} {q : Nat → Nat} {ω : CS} {σ : TS} {κ κi : KD} {x : SS}
/-- the row and its number kept -/
theorem c_keeps {row : List Nat} {n : Nat} {k : CS → Prop} (hL : row.length ≤ 6) (hrow : ∀ j l, row[j]? = some l → ω.1.1 40 j = nI l) (hn : n ≤ 1000) (h : ∀ ω', cO 6 ω ω' → cbR ω' (some (n, row)) → k ω') : cw_keepsRow T q ω (nI row.length) (nI n) k := by
  have F : ∀ (r j : Nat) (ω1 : CS), j + r = 6 → cO 6 ω ω1 → ω1.1.1 40 = ω.1.1 40 → ω1.1.1 0 21 = nI n → (∀ i, i < j → ω1.1.1 41 i = (match row[i]? with
    | some l => nI l
    | none => -5)) → cw_keepsRow_L7 T q k (r + 1) (nI row.length) (nI j) ω1 := by
    intro r
    induction r with
    | zero =>
      intro j ω1 hj o e40 e21 hb
      rw [cw_keepsRow_L7]
      refine br1 ((nI_leI (a := 6) (by omega) (by omega)).mpr (by omega)) (h ω1 o ⟨e21, hn, hL, fun i hi => hb i (by omega)⟩)
    | succ r ih =>
      intro j ω1 hj o e40 e21 hb
      rw [cw_keepsRow_L7, nI_clamp (by omega)]
      have put : ∀ v : Int32, v = (match row[j]? with
        | some l => nI l
        | none => -5) → cw_keepsRow_J34 T q (fun x1 x3 s => cw_keepsRow_L7 T q k (r + 1) x1 x3 s) k (nI row.length) (nI j) v (nI j) ω1 := by
        intro v hv
        unfold cw_keepsRow_J34
        refine ⟨vp_in_nI (by omega) (by omega), ?_⟩
        intro z hz
        subst hz
        rw [nI_1, nI_clamp (by omega)]
        refine ih (j + 1) _ (by omega) (o.tr ⟨rfl, rfl, fun c _ _ _ _ _ _ h41 => cA_ne h41, fun i _ => by rw [cA_ne (by omega)], fun i _ => by rw [cA_ne (by omega)]⟩) (by rw [cA_ne (by omega)]; exact e40) (by rw [cA_ne (by omega)]; exact e21) (fun i hi => ?_)
        by_cases e : i = j
        · subst e; rw [cA_v, hv]
        · rw [cA_w e]; exact hb i (by omega)
      refine br0 (fun c => by have := (nI_leI (a := 6) (by omega) (by omega)).mp c; omega) ⟨fun c => put _ ?_, fun c => ⟨vp_in_nI (by omega) (by omega), put _ ?_⟩⟩
      · have : row.length ≤ j := (nI_leI (by omega) (by omega)).mp c
        rw [List.getElem?_eq_none this]
      · have hlt : j < row.length := by
          by_cases z : row.length ≤ j
          · exact absurd ((nI_leI (by omega) (by omega)).mpr z) c
          · omega
        rw [List.getElem?_eq_getElem hlt]
        show ω1.1.1 40 j = nI row[j]
        rw [e40]
        exact hrow j row[j] (List.getElem?_eq_getElem hlt)
  unfold cw_keepsRow
  exact ⟨7, F 6 0 _ (by omega) ⟨rfl, rfl, fun c a1 _ _ _ _ _ _ => cA_ne (by omega), fun i _ => by rw [cA_ne (by omega)], fun i hi => by rw [cA_w hi]⟩ (cA_ne (by omega)) cA_v (fun i hi => absurd hi (by omega))⟩
theorem c_fewer {b : BB} {n : Nat} {k : Int32 → CS → Prop} (hb : cbR ω b) (hn : n ≤ 1000) (hT : (∀ p, b = some p → n < p.1) → k 1 ω) (hF : ∀ p, b = some p → p.1 ≤ n → k 0 ω) : cw_isFewer T q ω (nI n) k := by
  unfold cw_isFewer cw_isFewer_J17
  cases b with
  | none =>
    obtain ⟨h1, -⟩ := hb
    rw [h1]
    exact br1 rfl (hT (fun p e => by cases e))
  | some p =>
    obtain ⟨h1, h2, -⟩ := hb
    rw [h1]
    refine br0 (fun c => ?_) ⟨fun c => ?_, fun c => ?_⟩
    · have h0 := nI_pos (n := p.1) (by omega)
      rw [c] at h0
      exact h0 (by decide)
    · exact hF p rfl ((nI_leI (by omega) (by omega)).mp c)
    · refine hT (fun p' e => ?_)
      cases e
      by_cases z : p.1 ≤ n
      · exact absurd ((nI_leI (by omega) (by omega)).mpr z) c
      · omega
theorem c_orders (H : cQq T q ω κ x) {M : Nat} (hM : M ≤ 5) : ∀ (r fuel s : Nat) (y : SS) (row : List Nat) (n : Nat) (b : BB) (ω1 : CS) (k : CS → Prop), r ≤ fuel → cnt s = r → s < 2 ^ mOf x → row.length + r = M → n ≤ row.length → cE1 ω ω1 → cAt ω1 (2 + row.length) y → aR x y → (∀ j l, row[j]? = some l → ω1.1.1 40 j = nI l) → cbR ω1 b →
    (∀ ω', cO row.length ω1 ω' → cbR ω' (aOrd κ (mOf x) r y s row n b) → k ω') → cf_ordersFrom T q (fuel + 1) ω1 (nI s) (nI row.length) (nI n) k := by
  obtain ⟨h6, e5⟩ := mOf_le H.2.2
  have hp : 2 ^ mOf x ≤ 64 := show 2 ^ mOf x ≤ 2 ^ 6 from Nat.pow_le_pow_right (by omega) h6
  intro r
  induction r with
  | zero =>
    intro fuel s y row n b ω1 k hf hc hs hr hn t A r0 hrow hb h
    rw [cf_ordersFrom]
    unfold cb_ordersFrom
    have hs0 : s = 0 := (cnt_0 (by omega)).mp hc
    subst hs0
    refine c_fewer hb (by omega) (fun hlt => bn1 (by decide) (bn0 rfl (c_keeps (by omega) hrow (by omega) (fun ω2 o hb2 => ?_)))) (fun p e hle => ?_)
    · refine h ω2 (o.le (by omega)) ?_
      have e : aOrd κ (mOf x) 0 y 0 row n b = some (n, row) := by
        rw [aOrd]
        unfold updB
        cases b with
        | none => rfl
        | some p => exact if_pos (hlt p rfl)
      rw [e]
      exact hb2
    · refine bn0 rfl (h ω1 cO.rf ?_)
      rw [e, aOrd_cut κ (mOf x) 0 y 0 row n p hle, ← e]
      exact hb
  | succ r ih =>
    intro fuel s y row n b ω1 k hf hc hs hr hn t A r0 hrow hb h
    obtain ⟨f0, rfl⟩ : ∃ f0, fuel = f0 + 1 := ⟨fuel - 1, by omega⟩
    rw [cf_ordersFrom]
    unfold cb_ordersFrom
    have hs0 : ¬ nI s = 0 := fun c => by
      have e0 : s = 0 := (nI_eq (b := 0) (by omega) (by omega)).mp c
      have := (cnt_0 (s := s) (by omega)).mpr e0
      omega
    refine c_fewer hb (by omega) (fun hlt => bn1 (by decide) (bn1 hs0 ⟨mOf x + 1, ?_⟩)) (fun p e hle => ?_)
    · have F : ∀ (c l : Nat) (b1 : BB) (ω2 : CS), l + c = mOf x → cO row.length ω1 ω2 → cbR ω2 b1 →
          foldN (fun l b => if s / 2 ^ l % 2 = 1 then aOrd κ (mOf x) r (aGo κ y l) (s - 2 ^ l) (row ++ [l]) (if aSp κ y l then n + 1 else n) b else b) c l b1 = aOrd κ (mOf x) (r + 1) y s row n b →
          cb_ordersFrom_L23 T q (cf_ordersFrom T q (f0 + 1)) k (c + 1) (nI s) (nI row.length) (nI n) (nI l) ω2 := by
        intro c
        induction c with
        | zero =>
          intro l b1 ω2 hl o hb1 e
          have H2 := H.e1 (t.tr o.e1)
          rw [cb_ordersFrom_L23, H2.1.1, e5]
          rw [foldN] at e
          refine br1 ((nI_leI (by omega) (by omega)).mpr (by omega)) (h ω2 o ?_)
          rw [← e]
          exact hb1
        | succ c ihc =>
          intro l b1 ω2 hl o hb1 e
          have H2 := H.e1 (t.tr o.e1)
          have A2 := o.at (by omega) A
          rw [cb_ordersFrom_L23, H2.1.1, e5, bitI (by omega) (by omega)]
          rw [foldN] at e
          refine br0 (nlt (by omega) (by omega)) ?_
          by_cases hbit : s / 2 ^ l % 2 = 1
          · rw [if_pos hbit] at e
            rw [hbit]
            obtain ⟨f1, f2, f3, f4⟩ := set_facts (by omega) (by omega) hbit
            refine bn1 (by decide) ?_
            rw [nI_1, nI_clamp (by omega), nI_clamp (by omega)]
            refine ⟨vp_in_nI (by omega) (by omega), vp_in_nI (by omega) (by omega), by omega, by omega, ?_⟩
            intro w hw
            obtain ⟨g1, a1⟩ := c_Tk (a := 2 + (row.length + 1)) A2 (by omega)
            rw [← hw] at g1 a1
            refine ⟨vp_in_nI (by omega) (by omega), ?_⟩
            intro w2 hw2
            have o2 : cO row.length w w2 := by
              rw [hw2]
              exact ⟨rfl, rfl, fun c _ _ _ _ _ h40 _ => cA_ne h40, fun j hj => cA_w (by omega), fun i _ => by rw [cA_ne (by omega)]⟩
            have a2 : cAt w2 (2 + (row.length + 1)) y := by
              rw [hw2]
              unfold cAt
              rw [cA_ne (by omega), cA_ne (by omega)]
              exact a1
            have b2 : cbR w2 b1 := by rw [hw2]; exact br_40 (g1.br (by omega) hb1)
            have o3 : cO row.length ω1 w2 := o.tr ((g1.o (by omega)).tr o2)
            have r2 : ∀ j u, (row ++ [l])[j]? = some u → w2.1.1 40 j = nI u := by
              intro j u hj
              have hlt := (List.getElem?_eq_some_iff.mp hj).1
              rw [List.length_append, List.length_singleton] at hlt
              by_cases hj2 : j = row.length
              · subst hj2
                rw [List.getElem?_append_right (Nat.le_refl _), Nat.sub_self] at hj
                cases hj
                rw [hw2]
                exact cA_v
              · rw [List.getElem?_append_left (by omega)] at hj
                rw [o3.2.2.2.1 j (by omega)]
                exact hrow j u hj
            refine ⟨vp_in_nI (by omega) (by omega), ?_⟩
            have H3 := H.e1 (t.tr o3.e1)
            refine c_goes (H3.1.ge r0.2) r0.1 a2 (by omega) (by rw [r0.m]; omega) (fun ω4 g4 a4 _ => ?_)
            have o4 : cO row.length ω1 ω4 := o3.tr (g4.o (by omega))
            have hlen : (row ++ [l]).length = row.length + 1 := by rw [List.length_append, List.length_singleton]
            have fin : ∀ n' : Nat, n' = (if aSp κ y l then n + 1 else n) → cf_ordersFrom T q (f0 + 1) ω4 (nI (s - 2 ^ l)) (nI (row.length + 1)) (nI n') (fun s109 => cb_ordersFrom_J112 T q (cf_ordersFrom T q (f0 + 1)) (fun x1 x2 x3 x4 s => cb_ordersFrom_L23 T q (cf_ordersFrom T q (f0 + 1)) k (c + 1) x1 x2 x3 x4 s) k (nI s) (nI row.length) (nI n) (nI l) s109) := by
              intro n' hn'
              have := ih f0 (s - 2 ^ l) (aGo κ y l) (row ++ [l]) n' b1 ω4 (fun s109 => cb_ordersFrom_J112 T q (cf_ordersFrom T q (f0 + 1)) (fun x1 x2 x3 x4 s => cb_ordersFrom_L23 T q (cf_ordersFrom T q (f0 + 1)) k (c + 1) x1 x2 x3 x4 s) k (nI s) (nI row.length) (nI n) (nI l) s109) (by omega) (by omega) (Nat.lt_of_le_of_lt (Nat.sub_le _ _) hs) (by rw [hlen]; omega) (by rw [hlen, hn']; split <;> omega) (t.tr o4.e1) (by rw [hlen]; exact a4) (r0.go H.1.2.2.1 (by omega)) (fun j u hj => by rw [g4.2.2 40 (by omega) (by omega) (by omega) (by omega) (by omega)]; exact r2 j u hj) (g4.br (by omega) b2) (fun ω5 o5 hb5 => ?_)
              · rw [hlen] at this
                exact this
              · intro v hv
                subst hv
                rw [nI_1]
                rw [hlen] at o5
                rw [hn'] at hb5
                exact ihc (l + 1) _ ω5 (by omega) (o4.tr (o5.le (by omega))) hb5 e
            unfold cb_ordersFrom_J91
            cases hsp : aSp κ y l with
            | false =>
              rw [hsp] at fin
              refine br1 rfl ?_
              rw [f4, nI_1, i_add0]
              exact fin n rfl
            | true =>
              rw [hsp] at fin
              refine br0 (by decide) ?_
              rw [f4, nI_1, nI_1]
              exact fin (n + 1) rfl
          · rw [if_neg hbit] at e
            have h0 : s / 2 ^ l % 2 = 0 := by omega
            rw [h0]
            refine bn0 rfl ?_
            intro v hv
            subst hv
            rw [nI_1]
            exact ihc (l + 1) b1 ω2 (by omega) o hb1 e
      refine F (mOf x) 0 b ω1 (by omega) cO.rf hb ?_
      rw [aOrd]
    · refine bn0 rfl (h ω1 cO.rf ?_)
      rw [e, aOrd_cut κ (mOf x) (r + 1) y s row n p hle, ← e]
      exact hb
/-- nothing found yet -/
theorem c_beginS {k : CS → Prop} (H : cQq T q ω κ x) (h : ∀ ω', cE1 ω ω' → cAt ω' 2 x → cbR ω' none → k ω') : cw_begins T q ω k := by
  unfold cw_begins
  rw [tc0]
  refine ⟨vp_in_nI (n := 0) (by omega) (by omega), by omega, ?_⟩
  intro w hw
  obtain ⟨g, a⟩ := c_Tk (a := 2) H.2.1 (by omega)
  have hw : w = cTk ω 2 0 := hw
  rw [← hw] at g a
  have F : ∀ (r j : Nat) (ω1 : CS), j + r = 6 → cE1 ω ω1 → cAt ω1 2 x → ω1.1.1 0 21 = -5 → (∀ i, i < j → ω1.1.1 41 i = -5) → cw_begins_L21 T q k (r + 1) (nI j) ω1 := by
    intro r
    induction r with
    | zero =>
      intro j ω1 hj e a1 e21 hb
      rw [cw_begins_L21]
      exact br1 ((nI_leI (a := 6) (by omega) (by omega)).mpr (by omega)) (h ω1 e a1 ⟨e21, fun i hi => hb i (by omega)⟩)
    | succ r ih =>
      intro j ω1 hj e a1 e21 hb
      rw [cw_begins_L21, nI_clamp (by omega)]
      refine br0 (fun c => by have := (nI_leI (a := 6) (by omega) (by omega)).mp c; omega) ⟨vp_in_nI (by omega) (by omega), ?_⟩
      intro z hz
      subst hz
      rw [nI_1]
      refine ih (j + 1) _ (by omega) (e.tr ⟨rfl, rfl, fun c _ _ _ _ _ _ h41 => cA_ne h41, fun i _ => by rw [cA_ne (by omega)]⟩) ?_ (by rw [cA_ne (by omega)]; exact e21) (fun i hi => ?_)
      · unfold cAt
        rw [cA_ne (by omega), cA_ne (by omega)]
        exact a1
      · by_cases e2 : i = j
        · subst e2; exact cA_v
        · rw [cA_w e2]; exact hb i (by omega)
  refine ⟨7, F 6 0 _ (by omega) ((g.e1 (by omega) (by omega)).tr ⟨rfl, rfl, fun c a1 _ _ _ _ _ _ => cA_ne (by omega), fun i hi => cA_w hi⟩) ?_ cA_v (fun i hi => absurd hi (by omega))⟩
  unfold cAt
  rw [cA_ne (by omega), cA_ne (by omega)]
  exact a
/-- a set is one of loaves -/
theorem c_isSet {v : Int32} {k : Int32 → CS → Prop} (H : cQq T q ω κ x) (hT : ∀ s, s < 2 ^ mOf x → v = nI s → k 1 ω) (hF : (∀ s, s < 2 ^ mOf x → v ≠ nI s) → k 0 ω) : cw_isSet T q ω v k := by
  obtain ⟨h6, e5⟩ := mOf_le H.2.2
  have hp : 2 ^ mOf x ≤ 64 := show 2 ^ mOf x ≤ 2 ^ 6 from Nat.pow_le_pow_right (by omega) h6
  unfold cw_isSet
  rw [H.1.1, e5]
  refine ⟨fun c => hF (fun s hs e => ?_), fun c => ?_⟩
  · rw [e] at c
    exact nI_pos (by omega) c
  · obtain ⟨s, hs, rfl⟩ := nI_of c
    have key : ∀ m : Fin 7, ((nI m.val &&& 31).toBitVec.smod 32).toNat = m.val := by decide +kernel
    rw [pk_shrN hs _ (mOf x) (key ⟨mOf x, by omega⟩)]
    refine ⟨fun g => hF (fun s' hs' e => ?_), fun g => hT s ?_ rfl⟩
    · have : s = s' := (nI_eq hs (by omega)).mp e
      subst this
      rw [Nat.div_eq_of_lt hs'] at g
      exact g rfl
    · have : s / 2 ^ mOf x = 0 := (nI_eq (b := 0) (Nat.lt_of_le_of_lt (Nat.div_le_self _ _) hs) (by omega)).mp g
      rcases Nat.div_eq_zero_iff.mp this with z | z
      · have := Nat.two_pow_pos (mOf x); omega
      · exact z
theorem l_areLoaves {v : Int32} {k : Int32 → TS → Prop} (H : tQ σ κ x) (hT : ∀ s, s < 2 ^ mOf x → v = nI s → k 1 σ) (hF : (∀ s, s < 2 ^ mOf x → v ≠ nI s) → k 0 σ) : tw_areLoaves σ v k := by
  obtain ⟨h6, e5⟩ := mOf_le H.ok
  have hp : 2 ^ mOf x ≤ 64 := show 2 ^ mOf x ≤ 2 ^ 6 from Nat.pow_le_pow_right (by omega) h6
  have hp0 := Nat.two_pow_pos (mOf x)
  unfold tw_areLoaves
  rw [tc5, H.1, e5, allI h6]
  refine ⟨vi5, l_isIn (fun h1 h2 => ⟨Or.inr rfl, ?_⟩) (fun h => ⟨Or.inl rfl, hF (fun s hs e => h ?_)⟩)⟩
  · obtain ⟨s, hs, e⟩ := (i_rng (by omega)).mp ⟨h1, h2⟩
    exact hT s (by omega) e
  · exact (i_rng (by omega)).mpr ⟨s, by omega, e⟩
theorem J_order (H : Qc T q ω σ κ x) (x1 x2 : Int32) : JQ ω σ (tw_order σ x1 x2) (cw_order T q ω x1 x2) := by
  have hx := H.ok
  have HT := H.t
  have HC := H.c
  obtain ⟨h6, e5⟩ := mOf_le hx
  have hp : 2 ^ mOf x ≤ 64 := show 2 ^ mOf x ≤ 2 ^ 6 from Nat.pow_le_pow_right (by omega) h6
  unfold tw_order cw_order
  by_cases hw : -1 ≤ x2 ∧ x2 ≤ 5
  · by_cases hs : ∃ s, s < 2 ^ mOf x ∧ x1 = nI s
    · obtain ⟨s, hs, rfl⟩ := hs
      have same : ∀ s' : Nat, s' < 2 ^ mOf x → nI s = nI s' → s' = s := fun s' h1 h2 => ((nI_eq (by omega) (by omega)).mp h2).symm
      by_cases h5 : cnt s ≤ 5
      · have c5 : nI (cnt s) ≤ 5 := (nI_leI (b := 5) (by omega) (by omega)).mpr h5
        have hne := aOrd_ne κ h6 (cnt s) x s [] 0 none hs rfl
        have hok := aOrd_ok κ h6 (M := cnt s) (cnt s) x s [] 0 none (by simp) (by simp) (fun p e => by cases e)
        -- what is found
        cases hB : aOrd κ (mOf x) (cnt s) x s [] 0 none with
        | none => exact absurd hB hne
        | some p =>
          obtain ⟨o1, o2⟩ := hok p hB
          -- the answer
          refine ⟨if x2 = -1 then nI p.1 else (match p.2[x2.toNatClampNeg]? with
            | some l => nI l
            | none => -5), fun k h => p_T hw (bn1 (by decide) (l_areLoaves HT (fun s' hs' e' => br0 (by decide) ?_) (fun c => absurd rfl (c s hs)))), fun k h => q_T hw (bn1 (by decide) (c_isSet HC (fun s' hs' e' => br0 (by decide) ?_) (fun c => absurd rfl (c s hs))))⟩
          · refine l_bits (by omega) (br1 c5 (l_bits (by omega) ?_))
            intro w hw2
            have t1 : tE1 σ w := by rw [hw2]; exact tE1_24
            have b1 : tbR w none := by rw [hw2]; exact sA_v
            have := l_orders HT (M := cnt s) h5 (cnt s) 7 s [] none w (fun s42 => (0 ≤ x2 → pw_bits (nI s) (fun r58 => (r58 ≤ x2 → k (-5) s42) ∧ (¬ r58 ≤ x2 → vp_in x2 6 ∧ k ((s42.1 9 (x2 : Int32).toNatClampNeg)) s42))) ∧ (¬ 0 ≤ x2 → k ((s42.1 0 24)) s42)) (by omega) rfl hs (by simp) (fun l hl => by cases hl) t1 (fun j l hj => by simp at hj) b1 (fun p e => by cases e) (fun σ' t' hb' => ?_)
            · exact this
            · have hb' : tbR σ' (aOrd κ (mOf x) (cnt s) x s [] 0 none) := hb'
              rw [hB] at hb'
              obtain ⟨z1, z2, z3, z4⟩ := hb'
              refine ⟨fun c => ?_, fun c => ?_⟩
              · obtain ⟨j, hj, rfl⟩ := (i_rng (n := 5) (by omega)).mp ⟨c, hw.2⟩
                have hn1 : ¬ nI j = -1 := fun e => by rw [e] at c; exact absurd c (by decide)
                rw [if_neg hn1, nI_clamp (by omega)] at h
                refine l_bits (by omega) ⟨fun g => ?_, fun g => ?_⟩
                · have : cnt s ≤ j := (nI_leI (by omega) (by omega)).mp g
                  rw [List.getElem?_eq_none (by omega)] at h
                  exact h σ' (t1.tr t'.1)
                · have hlt : j < p.2.length := by
                    by_cases e : cnt s ≤ j
                    · exact absurd ((nI_leI (by omega) (by omega)).mpr e) g
                    · omega
                  rw [List.getElem?_eq_getElem hlt] at h
                  rw [nI_clamp (by omega), z4 j _ (List.getElem?_eq_getElem hlt)]
                  exact ⟨vp_in_nI (by omega) (by omega), h σ' (t1.tr t'.1)⟩
              · have hm1 : x2 = -1 := by
                  apply Int32.toInt_inj.mp
                  have g1 := hw.1
                  rw [Int32.le_iff_toInt_le] at c g1
                  have e1 : (-1 : Int32).toInt = -1 := by decide
                  have e2 : (0 : Int32).toInt = 0 := by decide
                  omega
                rw [if_pos hm1] at h
                rw [z1]
                exact h σ' (t1.tr t'.1)
          · refine c_bits (by omega) (br1 c5 (c_beginS HC (fun ω1 t1 a1 b1 => ?_)))
            have := c_orders HC (M := cnt s) h5 (cnt s) 7 s x [] 0 none ω1 (fun s38 => (¬ x2 = (-1) → vp_in x2 6 ∧ k ((s38.1.1 41 (x2 : Int32).toNatClampNeg)) s38) ∧ (x2 = (-1) → k ((s38.1.1 0 21)) s38)) (by omega) rfl hs (by simp) (by simp) t1 a1 (aR.rf hx) (fun j l hj => by simp at hj) b1 (fun ω' o' hb' => ?_)
            · exact this
            · rw [hB] at hb'
              obtain ⟨z1, z2, z3, z4⟩ := hb'
              refine ⟨fun c => ?_, fun c => ?_⟩
              · rw [if_neg c] at h
                have g0 : 0 ≤ x2 := by
                  have g1 := hw.1
                  have hne2 : x2.toInt ≠ (-1 : Int32).toInt := fun e => c (Int32.toInt_inj.mp e)
                  rw [Int32.le_iff_toInt_le] at g1 ⊢
                  have e1 : (-1 : Int32).toInt = -1 := by decide
                  have e2 : (0 : Int32).toInt = 0 := by decide
                  omega
                obtain ⟨j, hj, rfl⟩ := (i_rng (n := 5) (by omega)).mp ⟨g0, hw.2⟩
                rw [nI_clamp (by omega)] at h
                rw [nI_clamp (by omega), z4 j (by omega)]
                exact ⟨vp_in_nI (by omega) (by omega), h ω' (t1.tr o'.e1)⟩
              · rw [if_pos c] at h
                rw [z1]
                exact h ω' (t1.tr o'.e1)
      · have c5 : ¬ nI (cnt s) ≤ 5 := fun c => h5 ((nI_leI (b := 5) (by have := mems_len (s := s) 6 0; unfold cnt; omega) (by omega)).mp c)
        exact ⟨-2, fun k h => p_T hw (bn1 (by decide) (l_areLoaves HT (fun s' hs' e' => br0 (by decide) (l_bits (by omega) (br0 c5 (h σ tE1.rf)))) (fun c => absurd rfl (c s hs)))), fun k h => q_T hw (bn1 (by decide) (c_isSet HC (fun s' hs' e' => br0 (by decide) (c_bits (by omega) (br0 c5 (h ω cE1.rf)))) (fun c => absurd rfl (c s hs))))⟩
    · exact ⟨-2, fun k h => p_T hw (bn1 (by decide) (l_areLoaves HT (fun s' h1 h2 => absurd ⟨s', h1, h2⟩ hs) (fun c => br1 rfl (h σ tE1.rf)))), fun k h => q_T hw (bn1 (by decide) (c_isSet HC (fun s' h1 h2 => absurd ⟨s', h1, h2⟩ hs) (fun c => br1 rfl (h ω cE1.rf))))⟩
  · exact ⟨-1, fun k h => p_F hw (bn0 rfl (h σ tE1.rf)), fun k h => q_F hw (bn0 rfl (h ω cE1.rf))⟩
end Q
