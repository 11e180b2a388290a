/-! PLAIN: what changes: loaf, image, undo -/
set_option maxRecDepth 100000
/-- a new object or array -/
theorem cZ_new {ω : CS} {a : Nat} {e : va_E} (h : a ∉ ω.2.1) : cZ ω (cNew ω a e) := fun b hb _ => by
  have hne : b ≠ a := fun c => h (c ▸ hb)
  exact ⟨List.mem_append_left _ hb, va_up_ne _ _ hne⟩
theorem new_at {ω : CS} {a : Nat} {e : va_E} : a ∈ (cNew ω a e).2.1 ∧ (cNew ω a e).2.2 a = e := ⟨List.mem_append_right _ (List.mem_singleton.mpr rfl), va_up_self _ _ _⟩
/-- the row with one loaf more, up to the taste t -/
def aLf (x : SS) (m : Nat) (kd v : Int32) (t : Nat) : SS := fun i => if i = 8 + 10 * m then kd else if i = 8 + 10 * m + 1 then v else if 8 + 10 * m + 2 ≤ i ∧ i < 8 + 10 * m + 2 + t then 0 else if 8 + 10 * m + 6 ≤ i ∧ i < 8 + 10 * m + 6 + t then 9 else x i
theorem aLf_0 (x : SS) (m : Nat) (kd v : Int32) : aLf x m kd v 0 = upd (upd x (8 + 10 * m) kd) (8 + 10 * m + 1) v := by
  funext i
  unfold aLf
  rw [if_neg (c := 8 + 10 * m + 2 ≤ i ∧ i < 8 + 10 * m + 2 + 0) (by omega), if_neg (c := 8 + 10 * m + 6 ≤ i ∧ i < 8 + 10 * m + 6 + 0) (by omega)]
  by_cases h1 : i = 8 + 10 * m
  · subst h1; rw [if_pos rfl, pk_un (by omega), pk_us]
  · rw [if_neg h1]
    by_cases h2 : i = 8 + 10 * m + 1
    · subst h2; rw [if_pos rfl, pk_us]
    · rw [if_neg h2, pk_un h2, pk_un h1]
theorem aLf_s (x : SS) (m : Nat) (kd v : Int32) {t : Nat} (ht : t < 4) : aLf x m kd v (t + 1) = upd (upd (aLf x m kd v t) (8 + 10 * m + 2 + t) 0) (8 + 10 * m + 6 + t) 9 := by
  funext i
  by_cases e2 : i = 8 + 10 * m + 6 + t
  · subst e2
    rw [pk_us]
    unfold aLf
    rw [if_neg (by omega), if_neg (by omega), if_neg (by omega), if_pos (by omega)]
  · rw [pk_un e2]
    by_cases e1 : i = 8 + 10 * m + 2 + t
    · subst e1
      rw [pk_us]
      unfold aLf
      rw [if_neg (by omega), if_neg (by omega), if_pos (by omega)]
    · rw [pk_un e1]
      unfold aLf
      by_cases a : i = 8 + 10 * m
      · rw [if_pos a, if_pos a]
      · rw [if_neg a, if_neg a]
        by_cases b : i = 8 + 10 * m + 1
        · rw [if_pos b, if_pos b]
        · rw [if_neg b, if_neg b]
          by_cases c : 8 + 10 * m + 2 ≤ i ∧ i < 8 + 10 * m + 2 + t
          · rw [if_pos c, if_pos (by omega)]
          · rw [if_neg c, if_neg (by omega)]
            by_cases d : 8 + 10 * m + 6 ≤ i ∧ i < 8 + 10 * m + 6 + t
            · rw [if_pos d, if_pos (by omega)]
            · rw [if_neg d, if_neg (by omega)]
section Q
variable {T : xT} {q : Nat → Nat} {ω : CS} {σ : TS} {κ κi : KD}
theorem l_loafN {m : Nat} {kd v : Int32} {k : Int32 → TS → Prop} (hm : m < 6) (e5 : σ.1 1 5 = nI m) (h : ∀ σ', tB σ σ' (upd (aLf (σ.1 1) m kd v 4) 5 (nI (m + 1))) → k (nI m) σ') :
    ∀ σ1, tB σ σ1 (upd (upd (σ.1 1) (8 + 10 * m) kd) (8 + 10 * m + 1) v) → tw_loaf_L77 k 5 (nI m) 0 σ1 := by
  intro σ1 t1
  rw [← aLf_0] at t1
  have F : ∀ (r t : Nat) (σ2 : TS), t + r = 4 → tB σ σ2 (aLf (σ.1 1) m kd v t) → tw_loaf_L77 k (r + 1) (nI m) (nI t) σ2 := by
    intro r
    induction r with
    | zero =>
      intro t σ2 ht t2
      have ht : t = 4 := by omega
      subst ht
      rw [tw_loaf_L77, tc5]
      refine br1 ((nI_leI (a := 4) (by omega) (by omega)).mpr (by omega)) ⟨vi5, vi5, h _ ?_⟩
      have e : σ2.1 1 5 = nI m := by
        rw [t2.1]
        unfold aLf
        rw [if_neg (by omega), if_neg (by omega), if_neg (by omega), if_neg (by omega)]
        exact e5
      rw [e, nI_1]
      have := t2.tr (tB_1 (σ := σ2) (i := 5) (v := nI (m + 1)))
      rw [t2.1] at this
      exact this
    | succ r ih =>
      intro t σ2 ht t2
      rw [tw_loaf_L77]
      have i2 : (((8 : Int32) + (10 * nI m)) + 2) + nI t = nI (8 + 10 * m + 2 + t) := by
        have := ix_get (l := m) (k := 2)
        have e2 : (8 : Int32) + 10 * nI m + 2 = nI (8 + 10 * m + 2) := this
        rw [e2, nI_add]
      have i6 : (((8 : Int32) + (10 * nI m)) + 6) + nI t = nI (8 + 10 * m + 6 + t) := by
        have := ix_get (l := m) (k := 6)
        have e2 : (8 : Int32) + 10 * nI m + 6 = nI (8 + 10 * m + 6) := this
        rw [e2, nI_add]
      rw [i2, i6, nI_clamp (by omega), nI_clamp (by omega)]
      refine br0 (lt4 (by omega)) ⟨vp_in_nI (by omega) (by omega), ?_⟩
      intro w hw
      refine ⟨vp_in_nI (by omega) (by omega), ?_⟩
      intro z hz
      subst hz
      rw [nI_1]
      refine ih (t + 1) _ (by omega) ?_
      rw [hw, aLf_s _ _ _ _ (by omega)]
      have := (t2.tr (tB_1 (σ := σ2) (i := 8 + 10 * m + 2 + t) (v := 0))).tr (tB_1 (i := 8 + 10 * m + 6 + t) (v := 9))
      rw [sA_c, t2.1] at this
      exact this
  exact F 4 0 σ1 (by omega) t1
theorem c_loafN {m : Nat} {k : Int32 → CS → Prop} (hm : m < 6) (e3 : ω.1.1 0 3 = nI m) (h : ∀ ω', ω'.1.2 = ω.1.2 → ω'.2 = ω.2 → (∀ c, c ≠ 0 → c ≠ 2 → c ≠ 3 → ω'.1.1 c = ω.1.1 c) → (∀ i, i ≠ 3 → ω'.1.1 0 i = ω.1.1 0 i) → ω'.1.1 0 3 = nI (m + 1) → (∀ i, ω'.1.1 2 i = if 4 * m ≤ i ∧ i < 4 * m + 4 then 0 else ω.1.1 2 i) → (∀ i, ω'.1.1 3 i = if 4 * m ≤ i ∧ i < 4 * m + 4 then 9 else ω.1.1 3 i) → k (nI m) ω') : cw_loaf_L54 T q k 5 0 ω := by
  have F : ∀ (r t : Nat) (ω1 : CS), t + r = 4 → ω1.1.2 = ω.1.2 → ω1.2 = ω.2 → (∀ c, c ≠ 2 → c ≠ 3 → ω1.1.1 c = ω.1.1 c) → (∀ i, ω1.1.1 2 i = if 4 * m ≤ i ∧ i < 4 * m + t then 0 else ω.1.1 2 i) → (∀ i, ω1.1.1 3 i = if 4 * m ≤ i ∧ i < 4 * m + t then 9 else ω.1.1 3 i) → cw_loaf_L54 T q k (r + 1) (nI t) ω1 := by
    intro r
    induction r with
    | zero =>
      intro t ω1 ht f1 f2 f3 f4 f5
      have ht : t = 4 := by omega
      subst ht
      rw [cw_loaf_L54]
      refine br1 ((nI_leI (a := 4) (by omega) (by omega)).mpr (by omega)) ?_
      intro z hz
      rw [f3 0 (by omega) (by omega), e3] at hz
      subst hz
      rw [nI_1]
      exact h _ f1 f2 (fun c h0 h2 h3 => by rw [cA_ne h0]; exact f3 c h2 h3) (fun i hi => by rw [cA_w hi, f3 0 (by omega) (by omega)]) cA_v (fun i => by rw [cA_ne (by omega)]; exact f4 i) (fun i => by rw [cA_ne (by omega)]; exact f5 i)
    | succ r ih =>
      intro t ω1 ht f1 f2 f3 f4 f5
      rw [cw_loaf_L54, f3 0 (by omega) (by omega), e3, cx_4, nI_clamp (by omega)]
      refine br0 (lt4 (by omega)) ⟨vp_in_nI (by omega) (by omega), ?_⟩
      intro w hw
      have w3 : w.1.1 0 3 = nI m := by rw [hw, cA_ne (by omega), f3 0 (by omega) (by omega)]; exact e3
      rw [w3, cx_4, nI_clamp (by omega)]
      refine ⟨vp_in_nI (by omega) (by omega), ?_⟩
      intro z hz
      subst hz
      rw [nI_1]
      refine ih (t + 1) _ (by omega) (by rw [hw]; exact f1) (by rw [hw]; exact f2) (fun c h2 h3 => by rw [cA_ne h3, hw, cA_ne h2]; exact f3 c h2 h3) (fun i => ?_) (fun i => ?_)
      · rw [cA_ne (by omega), hw]
        by_cases e : i = 4 * m + t
        · subst e
          rw [cA_v, if_pos (by omega)]
        · rw [cA_w e, f4 i]
          by_cases c : 4 * m ≤ i ∧ i < 4 * m + t
          · rw [if_pos c, if_pos (by omega)]
          · rw [if_neg c, if_neg (by omega)]
      · by_cases e : i = 4 * m + t
        · subst e
          rw [cA_v, if_pos (by omega)]
        · rw [cA_w e, hw, cA_ne (by omega), f5 i]
          by_cases c : 4 * m ≤ i ∧ i < 4 * m + t
          · rw [if_pos c, if_pos (by omega)]
          · rw [if_neg c, if_neg (by omega)]
  exact F 4 0 ω (by omega) rfl rfl (fun _ _ _ => rfl) (fun i => by rw [if_neg (by omega)]) (fun i => by rw [if_neg (by omega)])
theorem lofK_n {kd : Nat} (h : kd ≤ 6) : lofK (nI kd) = 7 + kd := by
  have key : ∀ j : Fin 7, lofK (nI j.val) = 7 + j.val := by decide +kernel
  exact key ⟨kd, by omega⟩
theorem cR_1 {ω : CS} {i : Nat} {r : Option Nat} : (cR ω 1 i r).1.1 = ω.1.1 ∧ (cR ω 1 i r).2 = ω.2 ∧ (∀ c, c ≠ 1 → (cR ω 1 i r).1.2 c = ω.1.2 c) ∧ (cR ω 1 i r).1.2 1 = va_up (ω.1.2 1) i r := ⟨rfl, rfl, fun _ h => if_neg h, by show (if (1 : Nat) = 1 then va_up (ω.1.2 1) i r else ω.1.2 1) = _; exact if_pos rfl⟩
theorem J_loaf (H : Rel T q ω σ κ κi) (x1 x2 : Int32) : JM T q ω σ (tw_loaf σ x1 x2) (cw_loaf T q ω x1 x2) := by
  have hx := H.1.ok
  have HC := H.1.c
  have B := H.2.1
  obtain ⟨h6, e5⟩ := mOf_le hx
  unfold tw_loaf cw_loaf
  by_cases hk : 0 ≤ x1 ∧ x1 ≤ 6
  · obtain ⟨kd, hkd, rfl⟩ := (i_rng (n := 6) (by omega)).mp hk
    by_cases hv : 0 ≤ x2 ∧ x2 ≤ 9
    · obtain ⟨v, hv', rfl⟩ := (i_rng (n := 9) (by omega)).mp hv
      rw [tc5, HC.1.1, e5]
      generalize hmm : mOf (σ.1 1) = m at h6 e5
      by_cases hf : m = 6
      · subst hf
        exact JM.no H (-4) (fun k h => p_T hk (bn1 (by decide) (p_T hv (bn1 (by decide) ⟨vi5, bn0 rfl h⟩)))) (fun k h => q_T hk (bn1 (by decide) (q_T hv (bn1 (by decide) (bn0 rfl h)))))
      · have hne : ¬ nI m = 6 := fun c => hf ((nI_eq (b := 6) (by omega) (by omega)).mp c)
        have hm : m < 6 := by omega
        refine ⟨nI m, fun σ' => tB σ σ' (upd (aLf (σ.1 1) m (nI kd) (nI v) 4) 5 (nI (m + 1))), fun ω' => ∃ a, a ∉ ω.2.1 ∧ (let ω1 := cNew ω a (.inr (7 + kd, [.ref (q 26), .int (nI m), .int (nI v)])); ω'.1.2 = (cR ω1 1 m (some a)).1.2 ∧ ω'.2 = ω1.2 ∧ (∀ c, c ≠ 0 → c ≠ 2 → c ≠ 3 → ω'.1.1 c = ω.1.1 c) ∧ (∀ i, i ≠ 3 → ω'.1.1 0 i = ω.1.1 0 i) ∧ ω'.1.1 0 3 = nI (m + 1) ∧ (∀ i, ω'.1.1 2 i = if 4 * m ≤ i ∧ i < 4 * m + 4 then 0 else ω.1.1 2 i) ∧ (∀ i, ω'.1.1 3 i = if 4 * m ≤ i ∧ i < 4 * m + 4 then 9 else ω.1.1 3 i)), fun k h => p_T hk (bn1 (by decide) (p_T hv (bn1 (by decide) ⟨vi5, bn1 hne ⟨vi5, ?_⟩⟩))), fun k h => q_T hk (bn1 (by decide) (q_T hv (bn1 (by decide) (bn1 hne ?_)))), fun σ' ω' t g => ⟨κ, κi, ?_⟩⟩
        · intro y hy
          subst hy
          have e8 : (8 : Int32) + 10 * nI m = nI (8 + 10 * m) := by
            rw [show (8 : Int32) = nI 8 from rfl, show (10 : Int32) = nI 10 from rfl, pk_mul, nI_add]
          rw [e8, nI_1, nI_clamp (by omega), nI_clamp (by omega)]
          refine ⟨vp_in_nI (by omega) (by omega), ?_⟩
          intro w hw
          refine ⟨vp_in_nI (by omega) (by omega), 5, l_loafN hm e5 h _ ?_⟩
          rw [hw]
          have := (tB_1 (σ := σ) (i := 8 + 10 * m) (v := nI kd)).tr (tB_1 (i := 8 + 10 * m + 1) (v := nI v))
          rw [sA_c] at this
          exact this
        · intro a ha w hw
          rw [lofK_n hkd] at hw
          refine ⟨vp_in_nI (by omega) (by omega), kd, nI m, nI v, ?_, 5, ?_⟩
          · rw [hw]
            exact ⟨hkd, new_at.1, new_at.2⟩
          · rw [nI_clamp (by omega)]
            refine c_loafN hm (by rw [hw]; show ω.1.1 0 3 = nI m; rw [HC.1.1]; exact e5) (fun ω' f1 f2 f3 f4 f5 f6 f7 => h ω' ⟨a, ha, ?_⟩)
            rw [hw] at f1 f2 f3 f4 f6 f7
            exact ⟨f1, f2, f3, f4, f5, f6, f7⟩
        · obtain ⟨a, ha, g1, g2, g3, g4, g5, g6, g7⟩ := g
          have z : cZ ω ω' := by
            have z0 := cZ_new (e := .inr (7 + kd, [.ref (q 26), .int (nI m), .int (nI v)])) ha
            exact fun b hb hh => by rw [g2]; exact z0 b hb hh
          have r_ : ∀ c, c ≠ 1 → ω'.1.2 c = ω.1.2 c := fun c h => by rw [g1]; exact cR_1.2.2.1 c h
          have r1 : ω'.1.2 1 = va_up (ω.1.2 1) m (some a) := by rw [g1]; exact cR_1.2.2.2
          have hp : ∀ i b, i < 6 → ω.1.2 (31 + i) 0 = some b → b ∈ ω'.2.1 ∧ ω'.2.2 b = ω.2.2 b := fun i b hi e => by
            have hb := (Rel.iff.mp H).2.2.2.2.2.of i b hi e
            have hne : b ≠ a := fun c => ha (c ▸ hb)
            rw [g2]
            exact ⟨List.mem_append_left _ hb, va_up_ne _ _ hne⟩
          have U : ∀ i, (i < 8 + 10 * m ∨ 8 + 10 * m + 10 ≤ i) → i ≠ 5 → upd (aLf (σ.1 1) m (nI kd) (nI v) 4) 5 (nI (m + 1)) i = σ.1 1 i := fun i h1 h2 => by
            rw [pk_un h2]
            unfold aLf
            rw [if_neg (by omega), if_neg (by omega), if_neg (by omega), if_neg (by omega)]
          have U5 : upd (aLf (σ.1 1) m (nI kd) (nI v) 4) 5 (nI (m + 1)) 5 = nI (m + 1) := pk_us
          have Uk : upd (aLf (σ.1 1) m (nI kd) (nI v) 4) 5 (nI (m + 1)) (8 + 10 * m) = nI kd := by
            rw [pk_un (by omega)]; unfold aLf; rw [if_pos rfl]
          have Uv : upd (aLf (σ.1 1) m (nI kd) (nI v) 4) 5 (nI (m + 1)) (8 + 10 * m + 1) = nI v := by
            rw [pk_un (by omega)]; unfold aLf; rw [if_neg (by omega), if_pos rfl]
          have Ug : ∀ t, t < 4 → upd (aLf (σ.1 1) m (nI kd) (nI v) 4) 5 (nI (m + 1)) (8 + 10 * m + (2 + t)) = 0 := fun t ht => by
            rw [pk_un (by omega)]; unfold aLf; rw [if_neg (by omega), if_neg (by omega), if_pos (by omega)]
          have Ub : ∀ t, t < 4 → upd (aLf (σ.1 1) m (nI kd) (nI v) 4) 5 (nI (m + 1)) (8 + 10 * m + (6 + t)) = 9 := fun t ht => by
            rw [pk_un (by omega)]; unfold aLf; rw [if_neg (by omega), if_neg (by omega), if_neg (by omega), if_pos (by omega)]
          generalize upd (aLf (σ.1 1) m (nI kd) (nI v) 4) 5 (nI (m + 1)) = y at t U U5 Uk Uv Ug Ub
          obtain ⟨o1, o2, o3, o4⟩ := hx
          obtain ⟨b1, b2, b3, b4, b5, bA⟩ := B
          have em : mOf y = m + 1 := by unfold mOf; rw [U5, nI_clamp (by omega)]
          have eb : bkOf y = bkOf (σ.1 1) := by unfold bkOf; rw [U 7 (by omega) (by omega)]
          refine H.row t z hp (by rw [r_ 0 (by omega)]) (by rw [r_ 0 (by omega)]) (r_ 42 (by omega)) (fun i hi => by rw [r_ _ (by omega)]) (fun c hc => g3 c (by omega) (by omega) (by omega)) (by rw [g3 26 (by omega) (by omega) (by omega)]) (fun i hi => g4 i (by omega)) (fun i hi => ?_) (U 6 (by omega) (by omega)) ?_ ?_ (by rw [g5, U5]) (by rw [g4 14 (by omega), U 7 (by omega) (by omega)]; exact H.2.2.1)
          · rw [U i (by omega) (by omega)]; exact H.1.2.2.1 i hi
          · refine ⟨fun u hu => by rw [U u (by omega) (by omega)]; exact o1 u hu, by rw [U 4 (by omega) (by omega)]; exact o2, by rw [U5]; exact ⟨m + 1, by omega, rfl⟩, fun l hl => ?_⟩
            by_cases e : l = m
            · subst e
              rw [Uk, Uv]
              refine ⟨⟨kd, hkd, rfl⟩, ⟨v, hv', rfl⟩, fun u hu => ?_⟩
              rw [Ug u hu, Ub u hu]
              exact ⟨⟨0, by omega, rfl⟩, ⟨9, by omega, rfl⟩⟩
            · rw [U _ (by omega) (by omega), U _ (by omega) (by omega)]
              refine ⟨(o4 l hl).1, (o4 l hl).2.1, fun u hu => ?_⟩
              rw [U _ (by omega) (by omega), U _ (by omega) (by omega)]
              exact (o4 l hl).2.2 u hu
          · refine ⟨fun l hl => ?_, fun l hl => ?_, fun l hl u hu => ?_, fun k hk => ?_, ?_, ?_⟩
            · rw [r1]
              by_cases e : l = m
              · subst e
                rw [va_up_self]
                refine Or.inr ⟨a, rfl, ?_⟩
                unfold aKd
                rw [Uk, Uv, nI_clamp (by omega)]
                unfold lofR
                rw [g2]
                exact ⟨hkd, new_at.1, new_at.2⟩
              · rw [va_up_ne _ _ e]
                unfold aKd
                rw [U _ (by omega) (by omega), U _ (by omega) (by omega)]
                exact (b1 l hl).imp id (fun ⟨b, z1, z2⟩ => ⟨b, z1, z2.z z⟩)
            · rw [em] at hl
              rw [r1]
              by_cases e : l = m
              · subst e
                rw [va_up_self]
                simp
              · rw [va_up_ne _ _ e]
                exact b2 l (by omega)
            · rw [g6, g7]
              by_cases e : l = m
              · subst e
                rw [if_pos (by omega), if_pos (by omega), Ug u hu, Ub u hu]
                exact ⟨rfl, rfl⟩
              · rw [if_neg (by omega), if_neg (by omega), U _ (by omega) (by omega), U _ (by omega) (by omega)]
                exact b3 l hl u hu
            · rw [U _ (by omega) (by omega), U _ (by omega) (by omega), g3 28 (by omega) (by omega) (by omega), g3 29 (by omega) (by omega) (by omega)]
              exact b4 k hk
            · rw [eb, em, U 7 (by omega) (by omega)]
              refine ⟨b5.1, b5.2.1, fun k hk => ?_⟩
              rw [U _ (by omega) (by omega)]
              exact (b5.2.2 k hk).imp id (fun ⟨l, h1, h2⟩ => ⟨l, by omega, h2⟩)
            · unfold cAt
              rw [g3 _ (by omega) (by omega) (by omega), g3 _ (by omega) (by omega) (by omega), U 4 (by omega) (by omega)]
              exact ⟨fun i hi => by rw [U i (by omega) (by omega)]; exact bA.1 i hi, bA.2⟩
    · exact JM.no H (-2) (fun k h => p_T hk (bn1 (by decide) (p_F hv (bn0 rfl h)))) (fun k h => q_T hk (bn1 (by decide) (q_F hv (bn0 rfl h))))
  · exact JM.no H (-1) (fun k h => p_F hk (bn0 rfl h)) (fun k h => q_F hk (bn0 rfl h))
end Q
