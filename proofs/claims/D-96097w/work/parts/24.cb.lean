/-! PLAIN: what the component's methods compute: looks, takes, leaves, a bake, a cold hour -/
set_option maxRecDepth 100000
theorem cA_c {ω : CS} {c i : Nat} {v : Int32} : (cA ω c i v).1.1 c = upd (ω.1.1 c) i v := if_pos rfl
theorem cA_ne {ω : CS} {c c' i : Nat} {v : Int32} (h : c' ≠ c) : (cA ω c i v).1.1 c' = ω.1.1 c' := if_neg h
theorem cA_v {ω : CS} {c i : Nat} {v : Int32} : (cA ω c i v).1.1 c i = v := by rw [cA_c]; exact pk_us
theorem cA_w {ω : CS} {c i j : Nat} {v : Int32} (h : j ≠ i) : (cA ω c i v).1.1 c j = ω.1.1 c j := by rw [cA_c]; exact pk_un h
theorem cC_c {ω : CS} {c : Nat} {f : SS} : (cC ω c f).1.1 c = f := if_pos rfl
theorem cC_ne {ω : CS} {c c' : Nat} {f : SS} (h : c' ≠ c) : (cC ω c f).1.1 c' = ω.1.1 c' := if_neg h
theorem k_in {x a b : Int32} {k : Int32 → Prop} (hT : a ≤ x → x ≤ b → k 1) (hF : ¬ (a ≤ x ∧ x ≤ b) → k 0) : qw_in x a b k := by
  unfold qw_in
  exact ⟨fun h1 => hF (fun c => i_lt_le.mpr c.1 h1), fun h1 => ⟨fun h2 => hF (fun c => i_lt_le.mpr c.2 h2), fun h2 => hT (i_lt_le.mp h1) (i_lt_le.mp h2)⟩⟩
/-! a test sees a look's first six places alone -/
def sm6 (e e' : SS) : Prop := ∀ i, i < 6 → e i = e' i
theorem lkO_loc {e e' : SS} (h : sm6 e e') (c : Int32) : lkO e c = lkO e' c := by
  unfold lkO
  rw [h 0 (by omega), h 1 (by omega), h 2 (by omega), h 3 (by omega), h 4 (by omega), h 5 (by omega)]
theorem agF_loc {e e' : SS} (h : sm6 e e') (c s n : Int32) : agF c s n e = agF c s n e' := by
  unfold agF
  rw [lkO_loc h]
theorem all_loc {φs : List TF1} {e e' : SS} (h : ∀ ψ ∈ φs, ψ e = ψ e') : φs.all (fun ψ => ψ e) = φs.all (fun ψ => ψ e') := by
  induction φs with
  | nil => rfl
  | cons a as ih => rw [List.all_cons, List.all_cons, h a List.mem_cons_self, ih (fun ψ hψ => h ψ (List.mem_cons_of_mem _ hψ))]
theorem any_loc {φs : List TF1} {e e' : SS} (h : ∀ ψ ∈ φs, ψ e = ψ e') : φs.any (fun ψ => ψ e) = φs.any (fun ψ => ψ e') := by
  induction φs with
  | nil => rfl
  | cons a as ih => rw [List.any_cons, List.any_cons, h a List.mem_cons_self, ih (fun ψ hψ => h ψ (List.mem_cons_of_mem _ hψ))]
theorem tst_loc {T : xT} {L : List Nat} {g : Nat → va_E} {e e' : SS} (h : sm6 e e') : ∀ (d a : Nat) (φ : TF1), tstR T L g d a φ → φ e = φ e'
  | 0, _, _, ht => by cases ht
  | d + 1, a, φ, ht => by
    obtain ⟨-, ⟨b, φ', -, h1, h2⟩ | ⟨c, s, n, -, h2⟩ | ⟨isAll, al, xs, φs, -, -, hlen, h1, h2⟩⟩ := ht
    · rw [h2, h2, tst_loc h d b φ' h1]
    · rw [h2, h2, agF_loc h]
    · have hm : ∀ ψ ∈ φs, ψ e = ψ e' := by
        intro ψ hψ
        obtain ⟨i, hi⟩ := List.getElem?_of_mem hψ
        have hlt : i < xs.length := by rw [hlen]; exact (List.getElem?_eq_some_iff.mp hi).1
        exact tst_loc h d _ ψ (h1 i xs[i] ψ (List.getElem?_eq_getElem hlt) hi)
      rw [h2, h2]
      cases isAll
      · exact any_loc hm
      · exact all_loc hm
theorem clR_loc {T : xT} {L : List Nat} {g : Nat → va_E} {al : Nat} {cs : CL1} (h : clR T L g al cs) {e e' : SS} (he : sm6 e e') : clSum cs e = clSum cs e' := by
  obtain ⟨xs, -, hlen, hx⟩ := h
  have hm : ∀ c ∈ cs, c.2 e = c.2 e' := by
    intro c hc
    obtain ⟨i, hi⟩ := List.getElem?_of_mem hc
    have hlt : i < xs.length := by rw [hlen]; exact (List.getElem?_eq_some_iff.mp hi).1
    obtain ⟨-, t, -, ht⟩ := hx i xs[i] c (List.getElem?_eq_getElem hlt) hi
    exact tst_loc he 20 t c.2 ht
  have key : ∀ (cs : CL1) (s : Int32), (∀ c ∈ cs, c.2 e = c.2 e') → cs.foldl (fun acc c => if c.2 e = true then acc + c.1 else acc) s = cs.foldl (fun acc c => if c.2 e' = true then acc + c.1 else acc) s := by
    intro cs
    induction cs with
    | nil => intro s _; rfl
    | cons a as ih =>
      intro s hh
      rw [List.foldl_cons, List.foldl_cons, hh a List.mem_cons_self]
      exact ih _ (fun c hc => hh c (List.mem_cons_of_mem _ hc))
  exact key cs 0 hm
theorem kilR_mv {T : xT} {ω ω' : CS} {r : Option Nat} {κ : KD} (h : ω'.2 = ω.2) (hk : kilR T ω r κ) : kilR T ω' r κ := by
  unfold kilR
  rw [h]
  exact hk
theorem lofR_mv {q : Nat → Nat} {ω ω' : CS} {a kd : Nat} {n v : Int32} (h : ω'.2 = ω.2) (hk : lofR q ω a kd n v) : lofR q ω' a kd n v := by
  unfold lofR
  rw [h]
  exact hk
theorem kil_loc {T : xT} {ω : CS} {r : Option Nat} {κ : KD} (hk : kilR T ω r κ) {e e' : SS} (he : sm6 e e') : kPart κ e = kPart κ e' ∧ kMore κ e = kMore κ e' ∧ kFee κ e = kFee κ e' := by
  obtain ⟨a, -, -, tk, mo, fe, many, -, h1, h2, h3⟩ := hk
  unfold kPart kMore kFee
  rw [clR_loc h1 he, clR_loc h2 he, clR_loc h3 he]
  exact ⟨rfl, rfl, rfl⟩
/-! ===== the loaves, the kiln: what x says from place 5 on ===== -/
def mOf (x : SS) : Nat := (x 5).toNatClampNeg
def cSt (T : xT) (q : Nat → Nat) (ω : CS) (κ : KD) (x : SS) : Prop := ω.1.1 0 3 = x 5 ∧ kilR T ω (ω.1.2 0 9) κ ∧ kdB κ 10 ∧ (∀ l, l < mOf x → ∃ a, ω.1.2 1 l = some a ∧ lofR q ω a (aKd x l) (nI l) (x (8 + 10 * l + 1))) ∧ ∀ l, l < 6 → ∀ t, t < 4 → ω.1.1 2 (4 * l + t) = x (8 + 10 * l + (2 + t)) ∧ ω.1.1 3 (4 * l + t) = x (8 + 10 * l + (6 + t))
/-- the Time t holds what x says up to place 4 -/
def cAt (ω : CS) (t : Nat) (x : SS) : Prop := (∀ i, i < 4 → ω.1.1 (5 + 2 * t) i = x i) ∧ ω.1.1 (4 + 2 * t) 1 = x 4
theorem cSt.ge {T : xT} {q : Nat → Nat} {ω : CS} {κ : KD} {x y : SS} (h : cSt T q ω κ x) (e : ∀ i, 5 ≤ i → y i = x i) : cSt T q ω κ y := by
  obtain ⟨h1, h2, h3, h4, h5⟩ := h
  have em : mOf y = mOf x := by unfold mOf; rw [e 5 (by omega)]
  refine ⟨by rw [e 5 (by omega)]; exact h1, h2, h3, fun l hl => ?_, fun l hl t ht => ?_⟩
  · rw [em] at hl
    unfold aKd
    rw [e _ (by omega), e _ (by omega)]
    exact h4 l hl
  · rw [e _ (by omega), e _ (by omega)]
    exact h5 l hl t ht
/-- nothing changes but the cells of looks, of what is taken and left, and of times -/
theorem cSt.mv {T : xT} {q : Nat → Nat} {ω ω' : CS} {κ : KD} {x : SS} (h : cSt T q ω κ x) (e1 : ω'.1.2 = ω.1.2) (e2 : ω'.2 = ω.2) (e3 : ω'.1.1 0 3 = ω.1.1 0 3) (e4 : ω'.1.1 2 = ω.1.1 2) (e5 : ω'.1.1 3 = ω.1.1 3) : cSt T q ω' κ x := by
  obtain ⟨h1, h2, h3, h4, h5⟩ := h
  refine ⟨by rw [e3]; exact h1, by rw [e1]; exact kilR_mv e2 h2, h3, fun l hl => ?_, fun l hl t ht => by rw [e4, e5]; exact h5 l hl t ht⟩
  obtain ⟨a, b1, b2⟩ := h4 l hl
  exact ⟨a, by rw [e1]; exact b1, lofR_mv e2 b2⟩
theorem mOf_le {x : SS} (h : okS x) : mOf x ≤ 6 ∧ x 5 = nI (mOf x) := by
  obtain ⟨m, hm, em⟩ := h.2.2.1
  unfold mOf
  rw [em, nI_clamp (by omega)]
  exact ⟨hm, rfl⟩
/-- the look changes alone -/
def cL0 (ω ω' : CS) : Prop := ω'.1.2 = ω.1.2 ∧ ω'.2 = ω.2 ∧ ∀ c, c ≠ 25 → ω'.1.1 c = ω.1.1 c
theorem cL0.tr {ω ω1 ω2 : CS} (h : cL0 ω ω1) (h' : cL0 ω1 ω2) : cL0 ω ω2 := ⟨h'.1.trans h.1, h'.2.1.trans h.2.1, fun c hc => (h'.2.2 c hc).trans (h.2.2 c hc)⟩
theorem cL0.rf {ω : CS} : cL0 ω ω := ⟨rfl, rfl, fun _ _ => rfl⟩
theorem cL0_put {ω : CS} {i : Nat} {v : Int32} : cL0 ω (cA ω 25 i v) := ⟨rfl, rfl, fun _ hc => cA_ne hc⟩
/-- the look, what is taken and left -/
def cH (ω ω' : CS) : Prop := ω'.1.2 = ω.1.2 ∧ ω'.2 = ω.2 ∧ ∀ c, c ≠ 25 → c ≠ 37 → c ≠ 38 → ω'.1.1 c = ω.1.1 c
theorem cL0.h {ω ω' : CS} (h : cL0 ω ω') : cH ω ω' := ⟨h.1, h.2.1, fun c hc _ _ => h.2.2 c hc⟩
theorem cH.tr {ω ω1 ω2 : CS} (h : cH ω ω1) (h' : cH ω1 ω2) : cH ω ω2 := ⟨h'.1.trans h.1, h'.2.1.trans h.2.1, fun c h1 h2 h3 => (h'.2.2 c h1 h2 h3).trans (h.2.2 c h1 h2 h3)⟩
theorem cH_put {ω : CS} {c i : Nat} {v : Int32} (h : c = 37 ∨ c = 38) : cH ω (cA ω c i v) := ⟨rfl, rfl, fun _ _ _ _ => cA_ne (by omega)⟩
/-- these and the Time t -/
def cG (t : Nat) (ω ω' : CS) : Prop := ω'.1.2 = ω.1.2 ∧ ω'.2 = ω.2 ∧ ∀ c, c ≠ 25 → c ≠ 37 → c ≠ 38 → c ≠ 4 + 2 * t → c ≠ 5 + 2 * t → ω'.1.1 c = ω.1.1 c
theorem cH.g {t : Nat} {ω ω' : CS} (h : cH ω ω') : cG t ω ω' := ⟨h.1, h.2.1, fun c h1 h2 h3 _ _ => h.2.2 c h1 h2 h3⟩
theorem cL0.g {t : Nat} {ω ω' : CS} (h : cL0 ω ω') : cG t ω ω' := h.h.g
theorem cG.tr {t : Nat} {ω ω1 ω2 : CS} (h : cG t ω ω1) (h' : cG t ω1 ω2) : cG t ω ω2 := ⟨h'.1.trans h.1, h'.2.1.trans h.2.1, fun c h1 h2 h3 h4 h5 => (h'.2.2 c h1 h2 h3 h4 h5).trans (h.2.2 c h1 h2 h3 h4 h5)⟩
theorem cG_put {t : Nat} {ω : CS} {c i : Nat} {v : Int32} (h : c = 4 + 2 * t ∨ c = 5 + 2 * t) : cG t ω (cA ω c i v) := ⟨rfl, rfl, fun _ _ _ _ _ _ => cA_ne (by omega)⟩
theorem cSt.g {T : xT} {q : Nat → Nat} {ω ω' : CS} {κ : KD} {x : SS} {t : Nat} (h : cSt T q ω κ x) (g : cG t ω ω') : cSt T q ω' κ x := h.mv g.1 g.2.1 (by rw [g.2.2 0 (by omega) (by omega) (by omega) (by omega) (by omega)]) (g.2.2 2 (by omega) (by omega) (by omega) (by omega) (by omega)) (g.2.2 3 (by omega) (by omega) (by omega) (by omega) (by omega))
theorem cAt.h {ω ω' : CS} {x : SS} {t : Nat} (h : cAt ω t x) (ht : t < 10) (g : cH ω ω') : cAt ω' t x := by
  unfold cAt
  rw [g.2.2 (5 + 2 * t) (by omega) (by omega) (by omega), g.2.2 (4 + 2 * t) (by omega) (by omega) (by omega)]
  exact h
theorem cAt.g {ω ω' : CS} {x : SS} {t u : Nat} (h : cAt ω u x) (hu : u < 10) (hne : u ≠ t) (g : cG t ω ω') : cAt ω' u x := by
  unfold cAt
  rw [g.2.2 (5 + 2 * u) (by omega) (by omega) (by omega) (by omega) (by omega), g.2.2 (4 + 2 * u) (by omega) (by omega) (by omega) (by omega) (by omega)]
  exact h
theorem cx_4 {l t : Nat} : (4 * nI l) + nI t = nI (4 * l + t) := by
  rw [show (4 : Int32) = nI 4 from rfl, pk_mul, nI_add]
theorem c_looksAt {T : xT} {q : Nat → Nat} {ω : CS} {κ : KD} {x : SS} {t1 l : Nat} {x3 x4 : Int32} {k : CS → Prop} (hS : cSt T q ω κ x) (hA : cAt ω t1 x) (ht1 : t1 < 10) (hl : l < mOf x) (hl6 : l < 6)
    (hkd : smallN (x (8 + 10 * l)) 6)
    (h : ∀ ω', cL0 ω ω' → ω'.1.1 25 0 = nI l → ω'.1.1 25 1 = x (8 + 10 * l) → ω'.1.1 25 2 = x3 → ω'.1.1 25 3 = x (8 + 10 * l + 1) → ω'.1.1 25 4 = x 4 - x 4 / 60 * 60 → ω'.1.1 25 5 = (if x3 = 99 then 99 else x4 / 10) → k ω') : cw_looksAt T q ω t1 (nI l) x3 x4 k := by
  obtain ⟨a, ha, hlof⟩ := hS.2.2.2.1 l hl
  have ekd : nI (aKd x l) = x (8 + 10 * l) := by
    obtain ⟨j, hj, ej⟩ := hkd
    unfold aKd
    rw [ej, nI_clamp (by omega)]
  unfold cw_looksAt
  intro w1 e1
  have g1 : cL0 ω w1 := by rw [e1]; exact cL0_put
  rw [nI_clamp (by omega)]
  refine ⟨vp_in_nI hl6 (by omega), a, by rw [g1.1]; exact ha, aKd x l, nI l, x (8 + 10 * l + 1), lofR_mv g1.2.1 hlof, ?_⟩
  intro w2 e2 w3 e3
  have g2 : cL0 ω w2 := by rw [e2]; exact g1.tr cL0_put
  have g3 : cL0 ω w3 := by rw [e3]; exact g2.tr cL0_put
  refine ⟨vp_in_nI hl6 (by omega), a, by rw [g3.1]; exact ha, aKd x l, nI l, x (8 + 10 * l + 1), lofR_mv g3.2.1 hlof, ?_⟩
  intro w4 e4
  have g4 : cL0 ω w4 := by rw [e4]; exact g3.tr cL0_put
  have e4h : w4.1.1 (4 + 2 * t1) 1 = x 4 := by rw [g4.2.2 _ (by omega)]; exact hA.2
  rw [e4h]
  have F : ∀ v : Int32, v = (if x3 = 99 then 99 else x4 / 10) → cw_looksAt_J82 T q t1 k v (cA w4 25 4 (x 4 - x 4 / 60 * 60)) := by
    intro v hv
    unfold cw_looksAt_J82
    have key : ∀ i, (cA (cA w4 25 4 (x 4 - x 4 / 60 * 60)) 25 5 v).1.1 25 i = if i = 5 then v else if i = 4 then x 4 - x 4 / 60 * 60 else if i = 3 then x (8 + 10 * l + 1) else if i = 2 then x3 else if i = 1 then nI (aKd x l) else if i = 0 then nI l else ω.1.1 25 i := by
      intro i
      rw [e4, e3, e2, e1]
      simp only [cA_c]
      unfold upd
      rfl
    refine h _ (g4.tr (cL0_put.tr cL0_put)) ?_ ?_ ?_ ?_ ?_ ?_ <;> rw [key]
    · rfl
    · exact ekd
    · rfl
    · rfl
    · rfl
    · exact hv
  exact ⟨ht1, fun h99 => F _ (by rw [if_neg h99]), fun h99 => F _ (by rw [if_pos h99])⟩
theorem imax_clamp {h v : Int32} (h0 : 0 ≤ h) : imax 0 (imin h v) = clampT h v := by
  unfold imax imin clampT
  by_cases h1 : v < h
  · rw [if_pos h1]
    have h1' : v ≤ h := by
      rw [Int32.lt_iff_toInt_lt] at h1
      rw [Int32.le_iff_toInt_le]
      omega
    rw [if_pos h1']
    by_cases h2 : 0 < v
    · rw [if_pos h2, if_pos (by rw [Int32.lt_iff_toInt_lt] at h2; rw [Int32.le_iff_toInt_le]; omega)]
    · rw [if_neg h2]
      by_cases h3 : 0 ≤ v
      · rw [if_pos h3]
        apply Int32.toInt_inj.mp
        rw [Int32.lt_iff_toInt_lt] at h2
        rw [Int32.le_iff_toInt_le] at h3
        omega
      · rw [if_neg h3]
  · rw [if_neg h1]
    have e : (if 0 < h then h else 0) = h := by
      by_cases h2 : 0 < h
      · rw [if_pos h2]
      · rw [if_neg h2]
        apply Int32.toInt_inj.mp
        rw [Int32.lt_iff_toInt_lt] at h2
        rw [Int32.le_iff_toInt_le] at h0
        omega
    rw [e]
    by_cases h3 : v ≤ h
    · rw [if_pos h3]
      have hv : v = h := by
        apply Int32.toInt_inj.mp
        rw [Int32.lt_iff_toInt_lt] at h1
        rw [Int32.le_iff_toInt_le] at h3
        omega
      rw [hv, if_pos h0]
    · rw [if_neg h3]
theorem c_takesBy {T : xT} {q : Nat → Nat} {ω : CS} {κ : KD} {x : SS} {l t : Nat} {h p : Int32} {k : Int32 → CS → Prop} (hS : cSt T q ω κ x) (hl : l < mOf x) (hl6 : l < 6) (ht : t < 4) (h0 : 0 ≤ h) (hk : k (aTakeBy x l t p h) ω) : cw_takesBy T q ω (nI l) (nI t) h p k := by
  obtain ⟨a, ha, hlof⟩ := hS.2.2.2.1 l hl
  unfold cw_takesBy
  rw [nI_clamp (by omega), cx_4, nI_clamp (by omega)]
  refine ⟨vp_in_nI hl6 (by omega), a, ha, vp_in_nI (by omega) (by omega), aKd x l, nI l, x (8 + 10 * l + 1), hlof, ?_⟩
  rw [imax_clamp h0, (hS.2.2.2.2 l hl6 t ht).2]
  exact hk
theorem lk_99 {t : Nat} (ht : t < 4) : ¬ nI t = 99 := fun c => by
  have := (nI_eq (a := t) (b := 99) (by omega) (by omega)).mp c
  omega
theorem c_takesOf {T : xT} {q : Nat → Nat} {ω : CS} {κ : KD} {x : SS} {t1 l t : Nat} {k : Int32 → CS → Prop} (hS : cSt T q ω κ x) (hx : okS x) (hA : cAt ω t1 x) (ht1 : t1 < 10) (hl : l < mOf x) (ht : t < 4) (h : ∀ ω', cL0 ω ω' → k (aTake κ x l t) ω') : cw_takesOf T q ω t1 (nI l) (nI t) (x t) k := by
  have hl6 : l < 6 := by have := (mOf_le hx).1; omega
  unfold cw_takesOf
  refine c_looksAt hS hA ht1 hl hl6 (hx.2.2.2 l hl6).1 (fun ω' g f0 f1 f2 f3 f4 f5 => ?_)
  have hS' := hS.g (g.g (t := 0))
  refine ⟨κ, hS'.2.1, c_takesBy hS' hl hl6 ht ((hx.1 t ht).ge (by omega)) ?_⟩
  rw [if_neg (lk_99 ht)] at f5
  have e : kPart κ (ω'.1.1 25) = kPart κ (lkS x l t) := (kil_loc hS'.2.1 (fun i hi => by
    rcases (show i = 0 ∨ i = 1 ∨ i = 2 ∨ i = 3 ∨ i = 4 ∨ i = 5 by omega) with rfl | rfl | rfl | rfl | rfl | rfl
    · exact f0
    · exact f1
    · exact f2
    · exact f3
    · exact f4
    · exact f5)).1
  rw [e]
  exact h ω' g
theorem c_leavesOf {T : xT} {q : Nat → Nat} {ω : CS} {κ : KD} {x : SS} {t1 l t : Nat} {k : Int32 → CS → Prop} (hS : cSt T q ω κ x) (hx : okS x) (hA : cAt ω t1 x) (ht1 : t1 < 10) (hl : l < mOf x) (ht : t < 4) (h : ∀ ω', cL0 ω ω' → k (aLeave κ x l t) ω') : cw_leavesOf T q ω t1 (nI l) (nI t) k := by
  have hl6 : l < 6 := by have := (mOf_le hx).1; omega
  unfold cw_leavesOf
  rw [nI_clamp (by omega), nI_clamp (by omega), cx_4, nI_clamp (by omega), hA.1 t ht]
  refine ⟨ht1, ht1, vp_in_nI ht (by omega), c_looksAt hS hA ht1 hl hl6 (hx.2.2.2 l hl6).1 (fun ω' g f0 f1 f2 f3 f4 f5 => ?_)⟩
  have hS' := hS.g (g.g (t := 0))
  obtain ⟨a, ha, hlof⟩ := hS'.2.2.2.1 l hl
  refine ⟨vp_in_nI hl6 (by omega), a, ha, vp_in_nI (by omega) (by omega), κ, hS'.2.1, aKd x l, nI l, x (8 + 10 * l + 1), hlof, ?_⟩
  rw [if_neg (lk_99 ht)] at f5
  have e : kMore κ (ω'.1.1 25) = kMore κ (lkS x l t) := (kil_loc hS'.2.1 (fun i hi => by
    rcases (show i = 0 ∨ i = 1 ∨ i = 2 ∨ i = 3 ∨ i = 4 ∨ i = 5 by omega) with rfl | rfl | rfl | rfl | rfl | rfl
    · exact f0
    · exact f1
    · exact f2
    · exact f3
    · exact f4
    · exact f5)).2.1
  rw [e, (hS'.2.2.2.2 l hl6 t ht).1]
  exact h ω' g
theorem c_feeOf {T : xT} {q : Nat → Nat} {ω : CS} {κ : KD} {x : SS} {l : Nat} {k : Int32 → CS → Prop} (hS : cSt T q ω κ x) (hx : okS x) (hA : cAt ω 0 x) (hl : l < mOf x) (h : ∀ ω', cL0 ω ω' → k (kFee κ (lkF x l)) ω') : cw_feeOf T q ω (nI l) k := by
  have hl6 : l < 6 := by have := (mOf_le hx).1; omega
  unfold cw_feeOf
  refine c_looksAt hS hA (by omega) hl hl6 (hx.2.2.2 l hl6).1 (fun ω' g f0 f1 f2 f3 f4 f5 => ?_)
  have hS' := hS.g (g.g (t := 0))
  refine ⟨κ, hS'.2.1, ?_⟩
  rw [if_pos rfl] at f5
  have e : kFee κ (ω'.1.1 25) = kFee κ (lkF x l) := (kil_loc hS'.2.1 (fun i hi => by
    rcases (show i = 0 ∨ i = 1 ∨ i = 2 ∨ i = 3 ∨ i = 4 ∨ i = 5 by omega) with rfl | rfl | rfl | rfl | rfl | rfl
    · exact f0
    · exact f1
    · exact f2
    · exact f3
    · exact f4
    · exact f5)).2.2
  rw [e]
  exact h ω' g
theorem lt4 {t : Nat} (ht : t < 4) : ¬ 4 ≤ nI t := fun c => by
  have := (nI_leI (a := 4) (by omega) (by omega)).mp c
  omega
theorem c_takesAll {T : xT} {q : Nat → Nat} {ω : CS} {κ : KD} {x : SS} {t1 l : Nat} {k : Int32 → CS → Prop} (hS : cSt T q ω κ x) (hx : okS x) (hA : cAt ω t1 x) (ht1 : t1 < 10) (hl : l < mOf x) (h : ∀ ω', cL0 ω ω' → k (aSum κ x l) ω') : cw_takesAll T q ω t1 (nI l) k := by
  refine ⟨5, ?_⟩
  have step : ∀ (n t : Nat) (acc : Int32) (ω1 : CS), t < 4 → cL0 ω ω1 → (∀ ω2, cL0 ω ω2 → cw_takesAll_L5 T q t1 k n (nI l) (acc + aTake κ x l t) (nI (t + 1)) ω2) → cw_takesAll_L5 T q t1 k (n + 1) (nI l) acc (nI t) ω1 := by
    intro n t acc ω1 ht g hh
    rw [cw_takesAll_L5, nI_clamp (by omega)]
    have hA1 := hA.h ht1 g.h
    refine br0 (lt4 ht) ⟨ht1, ht1, vp_in_nI ht (by omega), ?_⟩
    rw [hA1.1 t ht]
    refine c_takesOf (hS.g (g.g (t := 0))) hx hA1 ht1 hl ht (fun ω2 g2 => ?_)
    intro y hy z hz
    subst hy
    subst hz
    rw [nI_1]
    exact hh ω2 (g.tr g2)
  refine step 4 0 0 ω (by omega) cL0.rf (fun ω1 g1 => step 3 1 _ ω1 (by omega) g1 (fun ω2 g2 => step 2 2 _ ω2 (by omega) g2 (fun ω3 g3 => step 1 3 _ ω3 (by omega) g3 (fun ω4 g4 => ?_))))
  rw [cw_takesAll_L5]
  exact br1 (by decide) (h ω4 g4)
theorem c_isSpoiled {T : xT} {q : Nat → Nat} {ω : CS} {κ : KD} {x : SS} {t1 l : Nat} {k : Int32 → CS → Prop} (hS : cSt T q ω κ x) (hx : okS x) (hA : cAt ω t1 x) (ht1 : t1 < 10) (hl : l < mOf x) (h : ∀ ω', cL0 ω ω' → k (b2I (aSp κ x l)) ω') : cw_isSpoiled T q ω t1 (nI l) k := by
  have hl6 : l < 6 := by have := (mOf_le hx).1; omega
  refine ⟨5, ?_⟩
  have step : ∀ (n t : Nat) (ω1 : CS), t < 4 → cL0 ω ω1 → (aOver κ x l t = false → ∀ ω2, cL0 ω ω2 → cw_isSpoiled_L2 T q t1 k n (nI l) (nI (t + 1)) ω2) → (aOver κ x l t = true → ∀ ω2, cL0 ω ω2 → k 1 ω2) → cw_isSpoiled_L2 T q t1 k (n + 1) (nI l) (nI t) ω1 := by
    intro n t ω1 ht g hh hh2
    rw [cw_isSpoiled_L2, nI_clamp (by omega), cx_4, nI_clamp (by omega)]
    have hA1 := hA.h ht1 g.h
    refine br0 (lt4 ht) ⟨ht1, ht1, vp_in_nI ht (by omega), ?_⟩
    rw [hA1.1 t ht]
    refine c_takesOf (hS.g (g.g (t := 0))) hx hA1 ht1 hl ht (fun ω2 g2 => ⟨vp_in_nI (by omega) (by omega), ?_⟩)
    rw [((hS.g ((g.tr g2).g (t := 0))).2.2.2.2 l hl6 t ht).2]
    refine ⟨fun hle => ?_, fun hle => ?_⟩
    · intro y hy
      subst hy
      rw [nI_1]
      exact hh (decide_eq_false (i_lt_le.mpr hle)) ω2 (g.tr g2)
    · exact hh2 (decide_eq_true (i_le_lt.mp hle)) ω2 (g.tr g2)
  have F : aSp κ x l = true → ∀ ω', cL0 ω ω' → k 1 ω' := fun e ω' r => by have := h ω' r; rw [e] at this; exact this
  refine step 4 0 ω (by omega) cL0.rf (fun f0 σ1 r1 => step 3 1 σ1 (by omega) r1 (fun f1 σ2 r2 => step 2 2 σ2 (by omega) r2 (fun f2 σ3 r3 => step 1 3 σ3 (by omega) r3 (fun f3 σ4 r4 => ?_) (fun f3 => F ?_)) (fun f2 => F ?_)) (fun f1 => F ?_)) (fun f0 => F ?_)
  · rw [cw_isSpoiled_L2]
    refine br1 (by decide) ?_
    have := h σ4 r4
    unfold aSp at this
    rw [f0, f1, f2, f3] at this
    exact this
  · unfold aSp; rw [f3]; simp
  · unfold aSp; rw [f2]; simp
  · unfold aSp; rw [f1]; simp
  · unfold aSp; rw [f0]; simp
theorem imin_cap {v : Int32} : imin 9999 v = cap v := by
  unfold imin cap
  by_cases h : v < 9999
  · rw [if_pos h, if_pos (by rw [Int32.lt_iff_toInt_lt] at h; rw [Int32.le_iff_toInt_le]; omega)]
  · rw [if_neg h]
    by_cases h2 : v ≤ 9999
    · rw [if_pos h2]
      apply Int32.toInt_inj.mp
      rw [Int32.lt_iff_toInt_lt] at h
      rw [Int32.le_iff_toInt_le] at h2
      omega
    · rw [if_neg h2]
theorem imin_age {h : Int32} (hh : smallN h 9999) : imin 9999 (h + 1) = aAge h := by
  obtain ⟨j, hj, rfl⟩ := hh
  rw [imin_cap]
  unfold cap aAge
  rw [nI_1]
  by_cases e : j = 9999
  · subst e
    rw [if_neg (by decide), if_pos (by decide)]
    rfl
  · rw [if_pos (show nI (j + 1) ≤ 9999 from (nI_leI (b := 9999) (by omega) (by omega)).mpr (by omega)), if_neg (fun c => by have := (nI_leI (a := 9999) (by omega) (by omega)).mp c; omega)]
theorem c_goes {T : xT} {q : Nat → Nat} {ω : CS} {κ : KD} {x : SS} {t1 l : Nat} {k : Int32 → CS → Prop} (hS : cSt T q ω κ x) (hx : okS x) (hA : cAt ω t1 x) (ht1 : t1 < 10) (hl : l < mOf x) (h : ∀ ω', cG t1 ω ω' → cAt ω' t1 (aGo κ x l) → (∀ t, t < 4 → ω'.1.1 37 t = aTake κ x l t) → k (b2I (aSp κ x l)) ω') : cw_goes T q ω t1 (nI l) k := by
  have hl6 : l < 6 := by have := (mOf_le hx).1; omega
  refine ⟨5, ?_⟩
  have step : ∀ (n t : Nat) (b : Bool) (ω1 : CS), t < 4 → cH ω ω1 → (∀ ω2, cH ω ω2 → ω2.1.1 37 = upd (ω1.1.1 37) t (aTake κ x l t) → ω2.1.1 38 = upd (ω1.1.1 38) t (aLeave κ x l t) → cw_goes_L5 T q t1 k n (nI l) (b2I (b || aOver κ x l t)) (nI (t + 1)) ω2) → cw_goes_L5 T q t1 k (n + 1) (nI l) (b2I b) (nI t) ω1 := by
    intro n t b ω1 ht g hh
    rw [cw_goes_L5, nI_clamp (by omega), cx_4, nI_clamp (by omega)]
    have hA1 := hA.h ht1 g
    have hS1 := hS.g (g.g (t := 0))
    refine br0 (lt4 ht) ⟨ht1, ht1, vp_in_nI ht (by omega), ?_⟩
    rw [hA1.1 t ht]
    refine c_takesOf hS1 hx hA1 ht1 hl ht (fun ω2 g2 => ⟨vp_in_nI ht (by omega), ?_⟩)
    intro w1 e1
    have g1 : cH ω1 w1 := by rw [e1]; exact g2.h.tr (cH_put (Or.inl rfl))
    have f37 : w1.1.1 37 = upd (ω1.1.1 37) t (aTake κ x l t) := by rw [e1, cA_c, g2.2.2 37 (by omega)]
    have f38 : w1.1.1 38 = ω1.1.1 38 := by rw [e1, cA_ne (by omega), g2.2.2 38 (by omega)]
    refine c_leavesOf (hS1.g (g1.g (t := 0))) hx (hA1.h ht1 g1) ht1 hl ht (fun ω3 g3 => ⟨vp_in_nI ht (by omega), ?_⟩)
    intro w2 e2
    have g4 : cH ω1 w2 := by rw [e2]; exact (g1.tr g3.h).tr (cH_put (Or.inr rfl))
    have k37 : w2.1.1 37 = upd (ω1.1.1 37) t (aTake κ x l t) := by rw [e2, cA_ne (by omega), g3.2.2 37 (by omega), f37]
    have k38 : w2.1.1 38 = upd (ω1.1.1 38) t (aLeave κ x l t) := by rw [e2, cA_c, g3.2.2 38 (by omega), f38]
    refine ⟨vp_in_nI ht (by omega), vp_in_nI (by omega) (by omega), ?_⟩
    rw [((hS1.g (g4.g (t := 0))).2.2.2.2 l hl6 t ht).2, k37, pk_us]
    refine ⟨fun hle => ?_, fun hle => ?_⟩
    · unfold cw_goes_J71
      intro y hy
      subst hy
      rw [nI_1]
      have := hh w2 (g.tr g4) k37 k38
      have eo : aOver κ x l t = false := decide_eq_false (i_lt_le.mpr hle)
      rw [eo, Bool.or_false] at this
      exact this
    · unfold cw_goes_J71
      intro y hy
      subst hy
      rw [nI_1]
      have := hh w2 (g.tr g4) k37 k38
      have eo : aOver κ x l t = true := decide_eq_true (i_le_lt.mp hle)
      rw [eo, Bool.or_true] at this
      exact this
  have g0 : cH ω ω := ⟨rfl, rfl, fun _ _ _ _ => rfl⟩
  refine step 4 0 false ω (by omega) g0 (fun ω1 g1 a1 b1 => step 3 1 _ ω1 (by omega) g1 (fun ω2 g2 a2 b2 => step 2 2 _ ω2 (by omega) g2 (fun ω3 g3 a3 b3 => step 1 3 _ ω3 (by omega) g3 (fun ω4 g4 a4 b4 => ?_))))
  have e37 : ∀ t, t < 4 → ω4.1.1 37 t = aTake κ x l t := by
    intro t ht
    rw [a4, a3, a2, a1]
    rcases (show t = 0 ∨ t = 1 ∨ t = 2 ∨ t = 3 by omega) with rfl | rfl | rfl | rfl
    · rw [pk_un (by omega), pk_un (by omega), pk_un (by omega), pk_us]
    · rw [pk_un (by omega), pk_un (by omega), pk_us]
    · rw [pk_un (by omega), pk_us]
    · rw [pk_us]
  have e38 : ∀ t, t < 4 → ω4.1.1 38 t = aLeave κ x l t := by
    intro t ht
    rw [b4, b3, b2, b1]
    rcases (show t = 0 ∨ t = 1 ∨ t = 2 ∨ t = 3 by omega) with rfl | rfl | rfl | rfl
    · rw [pk_un (by omega), pk_un (by omega), pk_un (by omega), pk_us]
    · rw [pk_un (by omega), pk_un (by omega), pk_us]
    · rw [pk_un (by omega), pk_us]
    · rw [pk_us]
  have eb : ((((false || aOver κ x l 0) || aOver κ x l 1) || aOver κ x l 2) || aOver κ x l 3) = aSp κ x l := by
    unfold aSp
    cases aOver κ x l 0 <;> cases aOver κ x l 1 <;> cases aOver κ x l 2 <;> cases aOver κ x l 3 <;> rfl
  rw [eb]
  rw [cw_goes_L5]
  refine br1 (by decide) ⟨5, ?_⟩
  have A4 := hA.h ht1 g4
  -- the second loop
  have step2 : ∀ (n t : Nat) (v : Int32) (ω1 : CS), t < 4 → cG t1 ω ω1 → (∀ u, u < 4 → ω1.1.1 37 u = aTake κ x l u) → (∀ u, u < 4 → ω1.1.1 38 u = aLeave κ x l u) → ω1.1.1 (4 + 2 * t1) 1 = x 4 → (∀ u, u < t → ω1.1.1 (5 + 2 * t1) u = aGo κ x l u) → (∀ u, u < 4 → t ≤ u → ω1.1.1 (5 + 2 * t1) u = x u) →
      (∀ ω2, cG t1 ω ω2 → (∀ u, u < 4 → ω2.1.1 37 u = aTake κ x l u) → (∀ u, u < 4 → ω2.1.1 38 u = aLeave κ x l u) → ω2.1.1 (4 + 2 * t1) 1 = x 4 → (∀ u, u < t + 1 → ω2.1.1 (5 + 2 * t1) u = aGo κ x l u) → (∀ u, u < 4 → t + 1 ≤ u → ω2.1.1 (5 + 2 * t1) u = x u) → cw_goes_L80 T q t1 k n v (nI (t + 1)) ω2) → cw_goes_L80 T q t1 k (n + 1) v (nI t) ω1 := by
    intro n t v ω1 ht g p37 p38 ph pl pr hh
    rw [cw_goes_L80, nI_clamp (by omega)]
    refine br0 (lt4 ht) ⟨ht1, ht1, ht1, vp_in_nI ht (by omega), vp_in_nI ht (by omega), vp_in_nI ht (by omega), ht1, vp_in_nI ht (by omega), ?_⟩
    intro y hy
    subst hy
    rw [nI_1, pr t ht (Nat.le_refl t), p37 t ht, p38 t ht, imin_cap]
    have eg : aGo κ x l t = cap ((x t - aTake κ x l t) + aLeave κ x l t) := if_pos ht
    rw [← eg]
    refine hh _ (g.tr (cG_put (Or.inr rfl))) (fun u hu => by rw [cA_ne (by omega)]; exact p37 u hu) (fun u hu => by rw [cA_ne (by omega)]; exact p38 u hu) (by rw [cA_ne (by omega)]; exact ph) (fun u hu => ?_) (fun u hu hu2 => by rw [cA_w (by omega)]; exact pr u hu (by omega))
    by_cases e : u = t
    · subst e; exact cA_v
    · rw [cA_w e]; exact pl u (by omega)
  refine step2 4 0 _ ω4 (by omega) g4.g e37 e38 A4.2 (fun u hu => absurd hu (by omega)) (fun u hu _ => A4.1 u hu) (fun ω5 g5 p5 q5 h5 l5 r5 => step2 3 1 _ ω5 (by omega) g5 p5 q5 h5 l5 r5 (fun ω6 g6 p6 q6 h6 l6 r6 => step2 2 2 _ ω6 (by omega) g6 p6 q6 h6 l6 r6 (fun ω7 g7 p7 q7 h7 l7 r7 => step2 1 3 _ ω7 (by omega) g7 p7 q7 h7 l7 r7 (fun ω8 g8 p8 q8 h8 l8 r8 => ?_))))
  rw [cw_goes_L80]
  refine br1 (by decide) ⟨ht1, ht1, b2I_or _, ?_⟩
  rw [h8, imin_age hx.2.1]
  have e4 : aGo κ x l 4 = aAge (x 4) := by unfold aGo; rw [if_neg (by omega), if_pos rfl]
  refine h _ (g8.tr (cG_put (Or.inl rfl))) ⟨fun i hi => by rw [cA_ne (by omega)]; exact l8 i hi, by rw [cA_v, e4]⟩ (fun t ht => by rw [cA_ne (by omega)]; exact p8 t ht)
theorem c_cools {T : xT} {q : Nat → Nat} {ω : CS} {κ : KD} {x : SS} {t1 : Nat} {k : CS → Prop} (hS : cSt T q ω κ x) (hx : okS x) (hA : cAt ω t1 x) (ht1 : t1 < 10) (h : ∀ ω', cG t1 ω ω' → cAt ω' t1 (aCool κ x) → k ω') : cw_cools T q ω t1 k := by
  refine ⟨5, ?_⟩
  have step2 : ∀ (n t : Nat) (ω1 : CS), t < 4 → cG t1 ω ω1 → ω1.1.1 (4 + 2 * t1) 1 = x 4 → (∀ u, u < t → ω1.1.1 (5 + 2 * t1) u = aCool κ x u) → (∀ u, u < 4 → t ≤ u → ω1.1.1 (5 + 2 * t1) u = x u) →
      (∀ ω2, cG t1 ω ω2 → ω2.1.1 (4 + 2 * t1) 1 = x 4 → (∀ u, u < t + 1 → ω2.1.1 (5 + 2 * t1) u = aCool κ x u) → (∀ u, u < 4 → t + 1 ≤ u → ω2.1.1 (5 + 2 * t1) u = x u) → cw_cools_L2 T q t1 k n (nI (t + 1)) ω2) → cw_cools_L2 T q t1 k (n + 1) (nI t) ω1 := by
    intro n t ω1 ht g ph pl pr hh
    rw [cw_cools_L2, nI_clamp (by omega)]
    refine br0 (lt4 ht) ⟨ht1, ht1, ht1, vp_in_nI ht (by omega), κ, (hS.g g).2.1, ht1, vp_in_nI ht (by omega), ?_⟩
    intro y hy
    subst hy
    rw [nI_1, pr t ht (Nat.le_refl t)]
    have eg : (x t * κ.2.2.2) / 100 = aCool κ x t := by
      unfold aCool
      rw [if_pos ht, Int32.mul_comm]
      obtain ⟨j, hj, ej⟩ := aCool_v hS.2.2.1 (hx.1 t ht)
      rw [ej, cap_id hj]
    rw [eg]
    refine hh _ (g.tr (cG_put (Or.inr rfl))) (by rw [cA_ne (by omega)]; exact ph) (fun u hu => ?_) (fun u hu hu2 => by rw [cA_w (by omega)]; exact pr u hu (by omega))
    by_cases e : u = t
    · subst e; exact cA_v
    · rw [cA_w e]; exact pl u (by omega)
  refine step2 4 0 ω (by omega) ⟨rfl, rfl, fun _ _ _ _ _ _ => rfl⟩ hA.2 (fun u hu => absurd hu (by omega)) (fun u hu _ => hA.1 u hu) (fun ω5 g5 h5 l5 r5 => step2 3 1 ω5 (by omega) g5 h5 l5 r5 (fun ω6 g6 h6 l6 r6 => step2 2 2 ω6 (by omega) g6 h6 l6 r6 (fun ω7 g7 h7 l7 r7 => step2 1 3 ω7 (by omega) g7 h7 l7 r7 (fun ω8 g8 h8 l8 r8 => ?_))))
  rw [cw_cools_L2]
  refine br1 (by decide) ⟨ht1, ht1, ?_⟩
  rw [h8, imin_age hx.2.1]
  have e4 : aCool κ x 4 = aAge (x 4) := by unfold aCool; rw [if_neg (by omega), if_pos rfl]
  exact h _ (g8.tr (cG_put (Or.inl rfl))) ⟨fun i hi => by rw [cA_ne (by omega)]; exact l8 i hi, by rw [cA_v, e4]⟩
theorem c_Tk {ω : CS} {a b : Nat} {x : SS} (hb : cAt ω b x) (ha : a < 10) : cG a ω (cTk ω a b) ∧ cAt (cTk ω a b) a x := by
  unfold cTk
  refine ⟨⟨rfl, rfl, fun c _ _ _ h4 h5 => by rw [cA_ne h4, cC_ne h5]⟩, fun i hi => ?_, ?_⟩
  · rw [cA_ne (by omega), cC_c, pk_cpy_in (by omega) (by omega), Nat.sub_zero, Nat.zero_add]
    exact hb.1 i hi
  · rw [cA_v]
    exact hb.2
theorem c_takenAll {T : xT} {q : Nat → Nat} {ω : CS} {κ : KD} {x : SS} {l : Nat} {k : Int32 → CS → Prop} (h37 : ∀ t, t < 4 → ω.1.1 37 t = aTake κ x l t) (h : k (aSum κ x l) ω) : cw_takenAll T q ω k := by
  refine ⟨5, ?_⟩
  have step : ∀ (n t : Nat) (acc : Int32), t < 4 → cw_takenAll_L4 T q k n (acc + aTake κ x l t) (nI (t + 1)) ω → cw_takenAll_L4 T q k (n + 1) acc (nI t) ω := by
    intro n t acc ht hh
    rw [cw_takenAll_L4, nI_clamp (by omega)]
    refine br0 (lt4 ht) ⟨vp_in_nI ht (by omega), ?_⟩
    intro y hy z hz
    subst hy
    subst hz
    rw [nI_1, h37 t ht]
    exact hh
  refine step 4 0 0 (by omega) (step 3 1 _ (by omega) (step 2 2 _ (by omega) (step 1 3 _ (by omega) ?_)))
  rw [cw_takenAll_L4]
  exact br1 (by decide) h
