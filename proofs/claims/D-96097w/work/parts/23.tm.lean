/-! PLAIN: the twin: what is taken, left; a bake, a cold hour; rows laid -/
set_option maxRecDepth 100000
theorem tR.rf {σ : TS} : tR σ σ := ⟨fun _ _ => rfl, rfl, fun _ _ => rfl⟩
/-- a kiln holds, the row is in bounds -/
def tOK (σ : TS) (κ : KD) : Prop := tKil σ (σ.1 1 6) κ ∧ okS (σ.1 1)
theorem tOK.mv {σ σ' : TS} {κ : KD} (h : tOK σ κ) (h1 : σ'.1 1 = σ.1 1) (h5 : σ'.1 5 = σ.1 5) (h6 : σ'.1 6 = σ.1 6) : tOK σ' κ := by
  unfold tOK
  rw [h1]
  exact ⟨h.1.mv h5 h6, h.2⟩
theorem tOK.r {σ σ' : TS} {κ : KD} (h : tOK σ κ) (t : tR σ σ') : tOK σ' κ := h.mv (t.1 1 (by omega)) (t.1 5 (by omega)) (t.1 6 (by omega))
theorem l_partOf {σ : TS} {κ : KD} {l t : Nat} {k : Int32 → TS → Prop} (hk : tOK σ κ) (hm : ¬ σ.1 1 5 = 0) (hl : l < 6) (ht : t < 4) (h : ∀ σ', tR σ σ' → k (kPart κ (lkS (σ.1 1) l t)) σ') : tw_partOf σ (nI l) (nI t) k := by
  unfold tw_partOf
  refine l_readsNow hk.1 hl ht (fun σ' r s => ?_)
  have e1 : σ'.1 1 = σ.1 1 := r.1 1 (by omega)
  obtain ⟨s1, s2, -⟩ := s
  rw [e1] at s1
  have := hk.1.small.2.2.2.1
  rw [s2, (s1 hm).1]
  have hh := h σ' r
  unfold kPart at hh
  by_cases h0 : κ.1.length = 0
  · rw [if_pos h0] at hh
    rw [h0]
    exact bn0 rfl hh
  · rw [if_neg h0] at hh
    exact bn1 (nI_ne0 (by omega) (by omega)) hh
theorem l_J137 {σ : TS} {k : Int32 → TS → Prop} {h v : Int32} (hk : k (clampT h v) σ) : tw_takesBy_J137 k h v σ := by
  unfold tw_takesBy_J137
  unfold clampT at hk
  refine ⟨fun h1 => ⟨fun h2 => ?_, fun h2 => ?_⟩, fun h1 => ?_⟩
  · rw [if_pos h1, if_pos h2] at hk; exact hk
  · rw [if_pos h1, if_neg h2] at hk; exact hk
  · rw [if_neg h1] at hk; exact hk
theorem ix_get2 {l t : Nat} {j : Nat} : (nI j + nI t) = nI (j + t) := nI_add j t
theorem imin_le {a b : Int32} (h : a ≤ b) : imin a b = a := by
  unfold imin
  rw [if_neg (i_lt_le.mpr h)]
theorem imin_nle {a b : Int32} (h : ¬ a ≤ b) : imin a b = b := by
  unfold imin
  rw [if_pos (i_le_lt.mp h)]
theorem l_takesBy {σ : TS} {l t : Nat} {p h : Int32} {k : Int32 → TS → Prop} (hx : okS (σ.1 1)) (hl : l < 6) (ht : t < 4) (hk : k (aTakeBy (σ.1 1) l t p h) σ) : tw_takesBy σ (nI l) (nI t) p h k := by
  unfold tw_takesBy
  intro x7 h7
  have e6 : (6 : Int32) + nI t = nI (6 + t) := nI_add 6 t
  rw [e6]
  refine l_get hl (by omega) (l_kind hl ?_)
  obtain ⟨kd, hkd, ekd⟩ := (hx.2.2.2 l hl).1
  unfold aTakeBy aKd at hk
  rw [ekd, nI_clamp (by omega)] at hk
  rw [Int32.mul_comm] at h7
  rw [ekd]
  have h2 : ∀ v : Int32, k (clampT h v) σ → tw_takesBy_J137 k h v σ := fun v hv => l_J137 hv
  rcases (show kd = 0 ∨ kd = 1 ∨ kd = 2 ∨ kd = 3 ∨ kd = 4 ∨ kd = 5 ∨ kd = 6 by omega) with rfl | rfl | rfl | rfl | rfl | rfl | rfl
  · exact ⟨fun c => absurd c (by decide), fun c => absurd c (by decide), fun c => absurd c (by decide), fun c => absurd c (by decide), fun c => absurd c (by decide), fun c => absurd c (by decide), fun _ _ _ _ _ _ => h2 _ (by rw [h7]; exact hk)⟩
  · exact ⟨fun _ => h2 _ hk, fun c => absurd c (by decide), fun c => absurd c (by decide), fun c => absurd c (by decide), fun c => absurd c (by decide), fun c => absurd c (by decide), fun c => absurd rfl c⟩
  · refine ⟨fun c => absurd c (by decide), fun _ => ?_, fun c => absurd c (by decide), fun c => absurd c (by decide), fun c => absurd c (by decide), fun c => absurd c (by decide), fun _ c => absurd rfl c⟩
    unfold tw_takesBy_J75
    intro y hy
    exact h2 _ (by rw [hy, h7]; exact hk)
  · refine ⟨fun c => absurd c (by decide), fun c => absurd c (by decide), fun _ => ?_, fun c => absurd c (by decide), fun c => absurd c (by decide), fun c => absurd c (by decide), fun _ _ c => absurd rfl c⟩
    unfold tw_takesBy_J98
    have hk' : k (clampT h (imin (σ.1 1 (8 + 10 * l + (6 + t))) (h * p / 100))) σ := hk
    rw [← h7] at hk'
    refine ⟨fun hle => h2 _ ?_, fun hle => h2 _ ?_⟩
    · rw [imin_le hle] at hk'; exact hk'
    · rw [imin_nle hle] at hk'; exact hk'
  · refine ⟨fun c => absurd c (by decide), fun c => absurd c (by decide), fun c => absurd c (by decide), fun _ => ?_, fun c => absurd c (by decide), fun c => absurd c (by decide), fun _ _ _ c => absurd rfl c⟩
    refine l_number hl ?_
    intro y hy
    exact h2 _ (by rw [hy]; exact hk)
  · refine ⟨fun c => absurd c (by decide), fun c => absurd c (by decide), fun c => absurd c (by decide), fun c => absurd c (by decide), fun _ => ?_, fun c => absurd c (by decide), fun _ _ _ _ c => absurd rfl c⟩
    unfold tw_takesBy_J75
    intro y hy
    exact h2 _ (by rw [hy, h7]; exact hk)
  · refine ⟨fun c => absurd c (by decide), fun c => absurd c (by decide), fun c => absurd c (by decide), fun c => absurd c (by decide), fun c => absurd c (by decide), fun _ => ?_, fun _ _ _ _ _ c => absurd rfl c⟩
    unfold tw_takesBy_J117
    have hk' : k (clampT h (imin (σ.1 1 (8 + 10 * l + (6 + t))) (h * p / 100) / 2)) σ := hk
    rw [← h7] at hk'
    refine ⟨fun hle => ?_, fun hle => ?_⟩
    · intro y hy
      rw [imin_le hle] at hk'
      exact h2 _ (by rw [hy]; exact hk')
    · intro y hy
      rw [imin_nle hle] at hk'
      exact h2 _ (by rw [hy]; exact hk')
theorem l_takesOf {σ : TS} {κ : KD} {l t : Nat} {k : Int32 → TS → Prop} (hk : tOK σ κ) (hm : ¬ σ.1 1 5 = 0) (hl : l < 6) (ht : t < 4) (h : ∀ σ', tR σ σ' → k (aTake κ (σ.1 1) l t) σ') : tw_takesOf σ (nI l) (nI t) k := by
  unfold tw_takesOf
  refine l_partOf hk hm hl ht (fun σ' r => ⟨vp_in_nI (by omega) (by omega), ?_⟩)
  have e1 : σ'.1 1 = σ.1 1 := r.1 1 (by omega)
  rw [nI_clamp (by omega)]
  refine l_takesBy (hk.r r).2 hl ht ?_
  rw [e1]
  exact h σ' r
theorem l_leavesOf {σ : TS} {κ : KD} {l t : Nat} {k : Int32 → TS → Prop} (hk : tOK σ κ) (hm : ¬ σ.1 1 5 = 0) (hl : l < 6) (ht : t < 4) (h : ∀ σ', tR σ σ' → k (aLeave κ (σ.1 1) l t) σ') : tw_leavesOf σ (nI l) (nI t) k := by
  unfold tw_leavesOf
  refine l_kind hl ?_
  obtain ⟨kd, hkd, ekd⟩ := (hk.2.2.2.2 l hl).1
  unfold aLeave aKd at h
  rw [ekd, nI_clamp (by omega)] at h
  rw [ekd]
  have e2 : (2 : Int32) + nI t = nI (2 + t) := nI_add 2 t
  have R : ∀ (P : Int32 → TS → Prop), (∀ σ', tR σ σ' → P (σ.1 1 (8 + 10 * l + (2 + t)) + kMore κ (lkS (σ.1 1) l t)) σ') → tw_readsNow σ (nI l) (nI t) (fun s21 => tw_get s21 (nI l) ((2 + nI t)) (fun r29 s29 => ∀ x37 : Int32, x37 = (r29 + (s29.1 0 18)) → P x37 s29)) := by
    intro P hP
    refine l_readsNow hk.1 hl ht (fun σ' r s => ?_)
    have e1 : σ'.1 1 = σ.1 1 := r.1 1 (by omega)
    obtain ⟨s1, -, -⟩ := s
    rw [e1] at s1
    rw [e2]
    refine l_get hl (by omega) ?_
    intro x hx
    rw [(s1 hm).2.1, e1] at hx
    subst hx
    exact hP σ' r
  rcases (show kd = 0 ∨ kd = 1 ∨ kd = 2 ∨ kd = 3 ∨ kd = 4 ∨ kd = 5 ∨ kd = 6 by omega) with rfl | rfl | rfl | rfl | rfl | rfl | rfl
  · exact br0 (by decide) (bn1 (by decide) (R _ (fun σ' r => bn1 (by decide) (bn1 (by decide) (h σ' r)))))
  · exact br1 rfl (h σ tR.rf)
  · exact br0 (by decide) (bn1 (by decide) (R _ (fun σ' r => bn1 (by decide) (bn1 (by decide) (h σ' r)))))
  · exact br0 (by decide) (bn1 (by decide) (R _ (fun σ' r => bn1 (by decide) (bn1 (by decide) (h σ' r)))))
  · exact br0 (by decide) (bn0 rfl (h σ tR.rf))
  · refine br0 (by decide) (bn1 (by decide) (R _ (fun σ' r => bn1 (by decide) (bn0 rfl ?_))))
    have h' : k ((σ.1 1 (8 + 10 * l + (2 + t)) + kMore κ (lkS (σ.1 1) l t)) + (if nI t = 0 then σ.1 1 (8 + 10 * l + 1) else 0)) σ' := h σ' r
    refine ⟨fun h0 => ?_, fun h0 => ?_⟩
    · rw [if_neg h0, i_add0] at h'; exact h'
    · rw [if_pos h0] at h'
      refine l_number hl ?_
      rw [r.1 1 (by omega)]
      exact h'
  · exact br0 (by decide) (bn1 (by decide) (R _ (fun σ' r => bn0 rfl (h σ' r))))
theorem l_allTakes {σ : TS} {κ : KD} {l : Nat} {k : Int32 → TS → Prop} (hk : tOK σ κ) (hm : ¬ σ.1 1 5 = 0) (hl : l < 6) (h : ∀ σ', tR σ σ' → k (aSum κ (σ.1 1) l) σ') : tw_allTakes σ (nI l) k := by
  refine ⟨5, ?_⟩
  have step : ∀ (n t : Nat) (acc : Int32) (σ1 : TS), t < 4 → tR σ σ1 → (∀ σ2, tR σ σ2 → tw_allTakes_L4 k n (nI l) (acc + aTake κ (σ.1 1) l t) (nI (t + 1)) σ2) → tw_allTakes_L4 k (n + 1) (nI l) acc (nI t) σ1 := by
    intro n t acc σ1 ht r1 hh
    rw [tw_allTakes_L4]
    refine br0 (fun c => by have := (nI_leI (a := 4) (by omega) (by omega)).mp c; omega) ?_
    have e1 : σ1.1 1 = σ.1 1 := r1.1 1 (by omega)
    refine l_takesOf (hk.r r1) (by rw [e1]; exact hm) hl ht (fun σ2 r2 => ?_)
    intro x hx y hy
    subst hx
    subst hy
    rw [nI_1, e1]
    exact hh σ2 (r1.tr r2)
  refine step 4 0 0 σ (by omega) tR.rf (fun σ1 r1 => step 3 1 _ σ1 (by omega) r1 (fun σ2 r2 => step 2 2 _ σ2 (by omega) r2 (fun σ3 r3 => step 1 3 _ σ3 (by omega) r3 (fun σ4 r4 => ?_))))
  rw [tw_allTakes_L4]
  exact br1 (by decide) (h σ4 r4)
theorem l_isSpoiled {σ : TS} {κ : KD} {l : Nat} {k : Int32 → TS → Prop} (hk : tOK σ κ) (hm : ¬ σ.1 1 5 = 0) (hl : l < 6) (h : ∀ σ', tR σ σ' → k (b2I (aSp κ (σ.1 1) l)) σ') : tw_isSpoiled σ (nI l) k := by
  refine ⟨5, ?_⟩
  have step : ∀ (n t : Nat) (σ1 : TS), t < 4 → tR σ σ1 → (aOver κ (σ.1 1) l t = false → ∀ σ2, tR σ σ2 → tw_isSpoiled_L2 k n (nI l) (nI (t + 1)) σ2) → (aOver κ (σ.1 1) l t = true → ∀ σ2, tR σ σ2 → k 1 σ2) → tw_isSpoiled_L2 k (n + 1) (nI l) (nI t) σ1 := by
    intro n t σ1 ht r1 hh hh2
    rw [tw_isSpoiled_L2]
    refine br0 (fun c => by have := (nI_leI (a := 4) (by omega) (by omega)).mp c; omega) ?_
    have e1 : σ1.1 1 = σ.1 1 := r1.1 1 (by omega)
    refine l_takesOf (hk.r r1) (by rw [e1]; exact hm) hl ht (fun σ2 r2 => ?_)
    have e6 : (6 : Int32) + nI t = nI (6 + t) := nI_add 6 t
    rw [e6]
    refine l_get hl (by omega) ?_
    have e2 : σ2.1 1 = σ.1 1 := (r1.tr r2).1 1 (by omega)
    rw [e1, e2]
    refine ⟨fun hle => ?_, fun hle => ?_⟩
    · intro y hy
      subst hy
      rw [nI_1]
      exact hh (decide_eq_false (i_lt_le.mpr hle)) σ2 (r1.tr r2)
    · exact hh2 (decide_eq_true (i_le_lt.mp hle)) σ2 (r1.tr r2)
  have F : aSp κ (σ.1 1) l = true → ∀ σ', tR σ σ' → k 1 σ' := fun e σ' r => by have := h σ' r; rw [e] at this; exact this
  refine step 4 0 σ (by omega) tR.rf (fun f0 σ1 r1 => step 3 1 σ1 (by omega) r1 (fun f1 σ2 r2 => step 2 2 σ2 (by omega) r2 (fun f2 σ3 r3 => step 1 3 σ3 (by omega) r3 (fun f3 σ4 r4 => ?_) (fun f3 => F ?_)) (fun f2 => F ?_)) (fun f1 => F ?_)) (fun f0 => F ?_)
  · rw [tw_isSpoiled_L2]
    refine br1 (by decide) ?_
    have := h σ4 r4
    unfold aSp at this
    rw [f0, f1, f2, f3] at this
    exact this
  · unfold aSp; rw [f3]; simp
  · unfold aSp; rw [f2]; simp
  · unfold aSp; rw [f1]; simp
  · unfold aSp; rw [f0]; simp
theorem l_feeOf {σ : TS} {κ : KD} {l : Nat} {k : Int32 → TS → Prop} (hk : tOK σ κ) (hm : ¬ σ.1 1 5 = 0) (hl : l < 6) (h : ∀ σ', tR σ σ' → k (kFee κ (lkF (σ.1 1) l)) σ') : tw_feeOf σ (nI l) k := by
  unfold tw_feeOf
  refine l_readsNow (t := 0) hk.1 hl (by omega) (fun σ' r s => ?_)
  have e1 : σ'.1 1 = σ.1 1 := r.1 1 (by omega)
  obtain ⟨s1, -, -⟩ := s
  rw [e1] at s1
  rw [(s1 hm).2.2]
  exact h σ' r
/-! a bake, a cold hour: the row becomes X -/
def tB (σ σ' : TS) (X : SS) : Prop := σ'.1 1 = X ∧ (∀ c, 2 ≤ c → c ≠ 7 → σ'.1 c = σ.1 c) ∧ σ'.2 = σ.2 ∧ ∀ i, (i < 9 ∨ 20 < i) → σ'.1 0 i = σ.1 0 i
theorem tR.b {σ σ' : TS} (h : tR σ σ') : tB σ σ' (σ.1 1) := ⟨h.1 1 (by omega), fun c hc _ => h.1 c (by omega), h.2.1, h.2.2⟩
theorem tB.tr {σ σ1 σ2 : TS} {X Y : SS} (h : tB σ σ1 X) (h' : tB σ1 σ2 Y) : tB σ σ2 Y := ⟨h'.1, fun c hc h7 => (h'.2.1 c hc h7).trans (h.2.1 c hc h7), h'.2.2.1.trans h.2.2.1, fun i hi => (h'.2.2.2 i hi).trans (h.2.2.2 i hi)⟩
theorem tB.rf {σ : TS} : tB σ σ (σ.1 1) := tR.rf.b
theorem tB_1 {σ : TS} {i : Nat} {v : Int32} : tB σ (sA σ 1 i v) (upd (σ.1 1) i v) := ⟨sA_c, fun c hc _ => sA_ne (by omega), rfl, fun j _ => by rw [sA_ne (by omega)]⟩
theorem tB_7 {σ : TS} {i : Nat} {v : Int32} : tB σ (sA σ 7 i v) (σ.1 1) := ⟨sA_ne (by omega), fun c hc h => sA_ne h, rfl, fun j _ => by rw [sA_ne (by omega)]⟩
theorem tOK.b {σ σ' : TS} {κ : KD} {X : SS} (h : tOK σ κ) (t : tB σ σ' X) (hX : okS X) (h6 : X 6 = σ.1 1 6) : tOK σ' κ := by
  unfold tOK
  rw [t.1, h6]
  exact ⟨h.1.mv (t.2.1 5 (by omega) (by omega)) (t.2.1 6 (by omega) (by omega)), hX⟩
theorem l_ages {σ : TS} {k : TS → Prop} (h : ∀ σ', tB σ σ' (upd (σ.1 1) 4 (aAge (σ.1 1 4))) → k σ') : tw_ages σ k := by
  unfold tw_ages
  rw [tc4]
  unfold aAge at h
  refine ⟨vi4, vi4, fun h1 => ?_, fun h1 => ?_⟩
  · rw [if_pos h1] at h
    unfold tw_ages_J24
    rw [tc4, i_add0]
    exact ⟨vi4, h _ tB_1⟩
  · rw [if_neg h1] at h
    unfold tw_ages_J24
    rw [tc4]
    exact ⟨vi4, h _ tB_1⟩
theorem aGo_eq {κ : KD} {x y : SS} {l : Nat} {h : SS} (hh : ∀ t, t < 4 → h t = cap ((x t - aTake κ x l t) + aLeave κ x l t)) (hy : y = upd (upd (upd (upd x 0 (h 0)) 1 (h 1)) 2 (h 2)) 3 (h 3)) : upd y 4 (aAge (y 4)) = aGo κ x l := by
  subst hy
  funext i
  unfold aGo
  by_cases h4 : i = 4
  · subst h4
    rw [if_neg (by omega), if_pos rfl, pk_us, pk_un (by omega), pk_un (by omega), pk_un (by omega), pk_un (by omega)]
  · rw [pk_un h4, if_neg h4]
    by_cases h3 : i = 3
    · subst h3; rw [pk_us, if_pos (by omega)]; exact hh 3 (by omega)
    · rw [pk_un h3]
      by_cases h2 : i = 2
      · subst h2; rw [pk_us, if_pos (by omega)]; exact hh 2 (by omega)
      · rw [pk_un h2]
        by_cases h1 : i = 1
        · subst h1; rw [pk_us, if_pos (by omega)]; exact hh 1 (by omega)
        · rw [pk_un h1]
          by_cases h0 : i = 0
          · subst h0; rw [pk_us, if_pos (by omega)]; exact hh 0 (by omega)
          · rw [pk_un h0, if_neg (by omega)]
theorem l_bakes65 {σ : TS} {x2 : Int32} {k : Int32 → TS → Prop} (h2 : x2 = 0 ∨ x2 = 1) (h : ∀ σ', tB σ σ' (upd (upd (upd (upd (upd (σ.1 1) 0 (σ.1 7 0)) 1 (σ.1 7 1)) 2 (σ.1 7 2)) 3 (σ.1 7 3)) 4 (aAge (upd (upd (upd (upd (σ.1 1) 0 (σ.1 7 0)) 1 (σ.1 7 1)) 2 (σ.1 7 2)) 3 (σ.1 7 3) 4))) → k x2 σ') : tw_bakes_L65 k 5 x2 0 σ := by
  have step : ∀ (n t : Nat) (σ1 : TS), t < 4 → tw_bakes_L65 k n x2 (nI (t + 1)) (sA σ1 1 t (σ1.1 7 t)) → tw_bakes_L65 k (n + 1) x2 (nI t) σ1 := by
    intro n t σ1 ht hh
    rw [tw_bakes_L65]
    refine br0 (fun c => by have := (nI_leI (a := 4) (by omega) (by omega)).mp c; omega) ⟨vp_in_nI ht (by omega), vp_in_nI (by omega) (by omega), ?_⟩
    intro y hy
    subst hy
    rw [nI_1, nI_clamp (by omega)]
    exact hh
  refine step 4 0 σ (by omega) (step 3 1 _ (by omega) (step 2 2 _ (by omega) (step 1 3 _ (by omega) ?_)))
  have e7 : ∀ (σ1 : TS) (i : Nat) (v : Int32), (sA σ1 1 i v).1 7 = σ1.1 7 := fun σ1 i v => sA_ne (by omega)
  simp only [e7]
  rw [tw_bakes_L65]
  refine br1 (by decide) (l_ages (fun σ' t' => ⟨h2, h σ' ?_⟩))
  have T : tB σ (sA (sA (sA (sA σ 1 0 (σ.1 7 0)) 1 1 (σ.1 7 1)) 1 2 (σ.1 7 2)) 1 3 (σ.1 7 3)) (upd (upd (upd (upd (σ.1 1) 0 (σ.1 7 0)) 1 (σ.1 7 1)) 2 (σ.1 7 2)) 3 (σ.1 7 3)) := by
    have e : (sA (sA (sA (sA σ 1 0 (σ.1 7 0)) 1 1 (σ.1 7 1)) 1 2 (σ.1 7 2)) 1 3 (σ.1 7 3)).1 1 = upd (upd (upd (upd (σ.1 1) 0 (σ.1 7 0)) 1 (σ.1 7 1)) 2 (σ.1 7 2)) 3 (σ.1 7 3) := by rw [sA_c, sA_c, sA_c, sA_c]
    have t4 := ((tB_1 (σ := σ) (i := 0) (v := σ.1 7 0)).tr (tB_1 (i := 1) (v := σ.1 7 1))).tr ((tB_1 (i := 2) (v := σ.1 7 2)).tr (tB_1 (i := 3) (v := σ.1 7 3)))
    exact ⟨e, t4.2.1, t4.2.2.1, t4.2.2.2⟩
  rw [T.1] at t'
  exact T.tr t'
theorem l_bakes {σ : TS} {κ : KD} {l : Nat} {k : Int32 → TS → Prop} (hk : tOK σ κ) (hm : ¬ σ.1 1 5 = 0) (hl : l < 6) (h : ∀ σ', tB σ σ' (aGo κ (σ.1 1) l) → k (b2I (aSp κ (σ.1 1) l)) σ') : tw_bakes σ (nI l) k := by
  unfold tw_bakes
  refine l_isSpoiled hk hm hl (fun σ0 r0 => ⟨5, ?_⟩)
  have step : ∀ (n t : Nat) (σ1 : TS) (x2 : Int32), t < 4 → tB σ σ1 (σ.1 1) → (∀ σ2, tB σ σ2 (σ.1 1) → σ2.1 7 = upd (σ1.1 7) t (cap ((σ.1 1 t - aTake κ (σ.1 1) l t) + aLeave κ (σ.1 1) l t)) → tw_bakes_L8 k n (nI l) x2 (nI (t + 1)) σ2) → tw_bakes_L8 k (n + 1) (nI l) x2 (nI t) σ1 := by
    intro n t σ1 x2 ht t1 hh
    rw [tw_bakes_L8]
    refine br0 (fun c => by have := (nI_leI (a := 4) (by omega) (by omega)).mp c; omega) ⟨vp_in_nI (by omega) (by omega), ?_⟩
    have hk1 : tOK σ1 κ := hk.b t1 hk.2 rfl
    have e1 := t1.1
    refine l_takesOf hk1 (by rw [e1]; exact hm) hl ht (fun σ2 r2 => ?_)
    have e2 : σ2.1 1 = σ1.1 1 := r2.1 1 (by omega)
    refine l_leavesOf (hk1.r r2) (by rw [e2, e1]; exact hm) hl ht (fun σ3 r3 => ?_)
    intro v hv
    rw [nI_clamp (by omega), e2, e1] at hv
    have t3 : tB σ σ3 (σ.1 1) := by
      have := (t1.tr r2.b).tr r3.b
      rw [e2, e1] at this
      exact this
    have e7 : σ3.1 7 = σ1.1 7 := by rw [r3.1 7 (by omega), r2.1 7 (by omega)]
    have fin : ∀ w : Int32, w = cap v → tw_bakes_J56 (fun x1 x2 x3 s => tw_bakes_L8 k n x1 x2 x3 s) k (nI l) x2 (nI t) w (nI t) σ3 := by
      intro w hw
      unfold tw_bakes_J56
      refine ⟨vp_in_nI ht (by omega), ?_⟩
      intro y hy
      subst hy
      rw [nI_1, nI_clamp (by omega)]
      refine hh _ ?_ ?_
      · have := t3.tr (tB_7 (σ := σ3) (i := t) (v := w))
        rw [t3.1] at this
        exact this
      · rw [sA_c, e7, hw, hv]
    refine ⟨fun hle => fin v ?_, fun hle => fin 9999 ?_⟩
    · unfold cap; rw [if_pos hle]
    · unfold cap; rw [if_neg hle]
  have r0' : tB σ σ0 (σ.1 1) := r0.b
  refine step 4 0 σ0 _ (by omega) r0' (fun σ1 t1 g1 => step 3 1 σ1 _ (by omega) t1 (fun σ2 t2 g2 => step 2 2 σ2 _ (by omega) t2 (fun σ3 t3 g3 => step 1 3 σ3 _ (by omega) t3 (fun σ4 t4 g4 => ?_))))
  rw [tw_bakes_L8]
  refine br1 (by decide) ⟨5, l_bakes65 (b2I_or _) (fun σ' t' => ?_)⟩
  have hh : ∀ t, t < 4 → σ4.1 7 t = cap ((σ.1 1 t - aTake κ (σ.1 1) l t) + aLeave κ (σ.1 1) l t) := by
    intro t ht
    rw [g4, g3, g2, g1]
    rcases (show t = 0 ∨ t = 1 ∨ t = 2 ∨ t = 3 by omega) with rfl | rfl | rfl | rfl
    · rw [pk_un (by omega), pk_un (by omega), pk_un (by omega), pk_us]
    · rw [pk_un (by omega), pk_un (by omega), pk_us]
    · rw [pk_un (by omega), pk_us]
    · rw [pk_us]
  rw [aGo_eq (κ := κ) (x := σ4.1 1) (l := l) (h := σ4.1 7) (by rw [t4.1]; exact hh) rfl, t4.1] at t'
  exact h σ' (t4.tr t')
theorem aCool_eq {κ : KD} {x y : SS} (hy : y = upd (upd (upd (upd x 0 (cap ((κ.2.2.2 * x 0) / 100))) 1 (cap ((κ.2.2.2 * x 1) / 100))) 2 (cap ((κ.2.2.2 * x 2) / 100))) 3 (cap ((κ.2.2.2 * x 3) / 100))) : upd y 4 (aAge (y 4)) = aCool κ x := by
  subst hy
  funext i
  unfold aCool
  by_cases h4 : i = 4
  · subst h4
    rw [if_neg (by omega), if_pos rfl, pk_us, pk_un (by omega), pk_un (by omega), pk_un (by omega), pk_un (by omega)]
  · rw [pk_un h4, if_neg h4]
    by_cases h3 : i = 3
    · subst h3; rw [pk_us, if_pos (by omega)]
    · rw [pk_un h3]
      by_cases h2 : i = 2
      · subst h2; rw [pk_us, if_pos (by omega)]
      · rw [pk_un h2]
        by_cases h1 : i = 1
        · subst h1; rw [pk_us, if_pos (by omega)]
        · rw [pk_un h1]
          by_cases h0 : i = 0
          · subst h0; rw [pk_us, if_pos (by omega)]
          · rw [pk_un h0, if_neg (by omega)]
theorem l_cools {σ : TS} {κ : KD} {k : TS → Prop} (hk : tOK σ κ) (h : ∀ σ', tB σ σ' (aCool κ (σ.1 1)) → k σ') : tw_cools σ k := by
  unfold tw_cools
  refine l_readsNow (l := 0) (t := 0) hk.1 (by omega) (by omega) (fun σ0 r0 s0 => ?_)
  intro x10 hx
  rw [s0.2.2] at hx
  subst hx
  have e0 : σ0.1 1 = σ.1 1 := r0.1 1 (by omega)
  refine ⟨5, ?_⟩
  have step : ∀ (n t : Nat) (σ1 : TS) (X : SS), t < 4 → tB σ σ1 X → X t = σ.1 1 t → (∀ σ2, tB σ σ2 (upd X t (cap ((κ.2.2.2 * σ.1 1 t) / 100))) → tw_cools_L13 k n κ.2.2.2 (nI (t + 1)) σ2) → tw_cools_L13 k (n + 1) κ.2.2.2 (nI t) σ1 := by
    intro n t σ1 X ht t1 hX hh
    rw [tw_cools_L13]
    refine br0 (fun c => by have := (nI_leI (a := 4) (by omega) (by omega)).mp c; omega) ⟨vp_in_nI (by omega) (by omega), ?_⟩
    intro v hv
    rw [nI_clamp (by omega), t1.1, hX] at hv
    have fin : ∀ w : Int32, w = cap v → tw_cools_J49 (fun x1 x2 s => tw_cools_L13 k n x1 x2 s) k κ.2.2.2 (nI t) w (nI t) σ1 := by
      intro w hw
      unfold tw_cools_J49
      refine ⟨vp_in_nI (by omega) (by omega), ?_⟩
      intro y hy
      subst hy
      rw [nI_1, nI_clamp (by omega)]
      refine hh _ ?_
      have := t1.tr (tB_1 (σ := σ1) (i := t) (v := w))
      rw [t1.1, hw, hv] at this
      rw [hw, hv]
      exact this
    refine ⟨fun hle => fin v ?_, fun hle => fin 9999 ?_⟩
    · unfold cap; rw [if_pos hle]
    · unfold cap; rw [if_neg hle]
  refine step 4 0 σ0 (σ.1 1) (by omega) r0.b rfl (fun σ1 t1 => step 3 1 σ1 _ (by omega) t1 (pk_un (by omega)) (fun σ2 t2 => step 2 2 σ2 _ (by omega) t2 ?_ (fun σ3 t3 => step 1 3 σ3 _ (by omega) t3 ?_ (fun σ4 t4 => ?_))))
  · rw [pk_un (by omega), pk_un (by omega)]
  · rw [pk_un (by omega), pk_un (by omega), pk_un (by omega)]
  rw [tw_cools_L13]
  refine br1 (by decide) (l_ages (fun σ' t' => h σ' ?_))
  have := t4.tr t'
  rw [t4.1, aCool_eq rfl] at this
  exact this
/-! rows laid: begins, ends -/
def tZ (f : SS) : Prop := ∀ i, 92 ≤ i → f i = 0
theorem l_lays {σ : TS} {c0 c1 : Nat} {k : TS → Prop} (h0 : tlen c0 = 92) (h1 : tlen c1 = 92) (hne : c0 ≠ c1) (z0 : tZ (σ.1 c0)) (z1 : tZ (σ.1 c1)) (h : ∀ σ', σ'.1 c1 = σ.1 c0 → (∀ c, c ≠ c1 → σ'.1 c = σ.1 c) → σ'.2 = σ.2 → k σ') : tw_lays σ c0 c1 k := by
  have L : ∀ (r j : Nat) (σ1 : TS), j + r = 92 → (∀ c, c ≠ c1 → σ1.1 c = σ.1 c) → σ1.2 = σ.2 → (∀ i, i < j → σ1.1 c1 i = σ.1 c0 i) → (∀ i, 92 ≤ i → σ1.1 c1 i = 0) → tw_lays_L2 c0 c1 k (r + 1) (nI j) σ1 := by
    intro r
    induction r with
    | zero =>
      intro j σ1 hj f1 f2 f3 f4
      rw [tw_lays_L2]
      refine br1 ((nI_leI (a := 92) (by omega) (by omega)).mpr (by omega)) (h σ1 ?_ f1 f2)
      funext i
      by_cases hi : i < 92
      · exact f3 i (by omega)
      · rw [f4 i (by omega), z0 i (by omega)]
    | succ r ih =>
      intro j σ1 hj f1 f2 f3 f4
      rw [tw_lays_L2]
      refine br0 (fun c => by have := (nI_leI (a := 92) (by omega) (by omega)).mp c; omega) ⟨by rw [h0]; exact vp_in_nI (by omega) (by omega), by rw [h1]; exact vp_in_nI (by omega) (by omega), ?_⟩
      intro y hy
      subst hy
      rw [nI_1, nI_clamp (by omega)]
      refine ih (j + 1) _ (by omega) (fun c hc => by rw [sA_ne hc]; exact f1 c hc) f2 (fun i hi => ?_) (fun i hi => ?_)
      · by_cases hij : i = j
        · subst hij
          rw [sA_v, f1 c0 hne]
        · rw [sA_w hij]; exact f3 i (by omega)
      · rw [sA_w (by omega)]; exact f4 i hi
  exact ⟨93, L 92 0 σ rfl (fun _ _ => rfl) rfl (fun _ h => absurd h (by omega)) z1⟩
theorem l_begins {σ : TS} {k : TS → Prop} (z1 : tZ (σ.1 1)) (z3 : tZ (σ.1 3)) (h : ∀ σ', σ'.1 3 = σ.1 1 → (∀ c, c ≠ 3 → σ'.1 c = σ.1 c) → σ'.2 = σ.2 → k σ') : tw_begins σ k := l_lays (c0 := 1) (c1 := 3) rfl rfl (by omega) z1 z3 h
theorem l_ends {σ : TS} {k : TS → Prop} (z1 : tZ (σ.1 1)) (z3 : tZ (σ.1 3)) (h : ∀ σ', σ'.1 1 = σ.1 3 → (∀ c, c ≠ 1 → σ'.1 c = σ.1 c) → σ'.2 = σ.2 → k σ') : tw_ends σ k := l_lays (c0 := 3) (c1 := 1) rfl rfl (by omega) z3 z1 h
