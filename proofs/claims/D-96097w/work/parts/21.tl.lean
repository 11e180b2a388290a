/-! PLAIN: what the twin's methods compute: the kiln's reading -/
set_option maxRecDepth 100000
theorem br1 {c A B : Prop} (hc : c) (h : A) : (c → A) ∧ (¬ c → B) := ⟨fun _ => h, fun n => absurd hc n⟩
theorem br0 {c A B : Prop} (hc : ¬ c) (h : B) : (c → A) ∧ (¬ c → B) := ⟨fun n => absurd n hc, fun _ => h⟩
theorem bn1 {c A B : Prop} (hc : ¬ c) (h : A) : (¬ c → A) ∧ (c → B) := ⟨fun _ => h, fun n => absurd n hc⟩
theorem bn0 {c A B : Prop} (hc : c) (h : B) : (¬ c → A) ∧ (c → B) := ⟨fun n => absurd hc n, fun _ => h⟩
theorem tc0 : (0 : Int32).toNatClampNeg = 0 := nI_clamp (n := 0) (by decide)
theorem tc4 : (4 : Int32).toNatClampNeg = 4 := nI_clamp (n := 4) (by decide)
theorem tc5 : (5 : Int32).toNatClampNeg = 5 := nI_clamp (n := 5) (by decide)
theorem tc6 : (6 : Int32).toNatClampNeg = 6 := nI_clamp (n := 6) (by decide)
theorem tc7 : (7 : Int32).toNatClampNeg = 7 := nI_clamp (n := 7) (by decide)
theorem vi4 : vp_in 4 92 := vp_in_nI (n := 4) (by omega) (by omega)
theorem vi5 : vp_in 5 92 := vp_in_nI (n := 5) (by omega) (by omega)
theorem vi6 : vp_in 6 92 := vp_in_nI (n := 6) (by omega) (by omega)
theorem vi7 : vp_in 7 92 := vp_in_nI (n := 7) (by omega) (by omega)
theorem sA_c {σ : TS} {c i : Nat} {v : Int32} : (sA σ c i v).1 c = upd (σ.1 c) i v := if_pos rfl
theorem sA_ne {σ : TS} {c c' i : Nat} {v : Int32} (h : c' ≠ c) : (sA σ c i v).1 c' = σ.1 c' := if_neg h
theorem sA_v {σ : TS} {c i : Nat} {v : Int32} : (sA σ c i v).1 c i = v := by rw [sA_c]; exact pk_us
theorem sA_w {σ : TS} {c i j : Nat} {v : Int32} (h : j ≠ i) : (sA σ c i v).1 c j = σ.1 c j := by rw [sA_c]; exact pk_un h
theorem sA_2 {σ : TS} {c i : Nat} {v : Int32} : (sA σ c i v).2 = σ.2 := rfl
theorem l_isIn {x a b : Int32} {k : Int32 → Prop} (hT : a ≤ x → x ≤ b → k 1) (hF : ¬ (a ≤ x ∧ x ≤ b) → k 0) : pw_isIn x a b k := by
  unfold pw_isIn
  exact ⟨fun h1 => hF (fun c => i_lt_le.mpr c.1 h1), fun h1 => ⟨fun h2 => hF (fun c => i_lt_le.mpr c.2 h2), fun h2 => hT (i_lt_le.mp h1) (i_lt_le.mp h2)⟩⟩
/-! ===== the reading: only the place and 'wrong' change ===== -/
def tP (σ σ' : TS) : Prop := (∀ c, 1 ≤ c → σ'.1 c = σ.1 c) ∧ σ'.2 = σ.2 ∧ ∀ i, i ≠ 11 → i ≠ 14 → σ'.1 0 i = σ.1 0 i
theorem tP.rf {σ : TS} : tP σ σ := ⟨fun _ _ => rfl, rfl, fun _ _ _ => rfl⟩
theorem tP.tr {σ σ1 σ2 : TS} (h : tP σ σ1) (h' : tP σ1 σ2) : tP σ σ2 := ⟨fun c hc => (h'.1 c hc).trans (h.1 c hc), h'.2.1.trans h.2.1, fun i h1 h2 => (h'.2.2 i h1 h2).trans (h.2.2 i h1 h2)⟩
theorem tP_11 {σ : TS} {v : Int32} : tP σ (sA σ 0 11 v) := ⟨fun c hc => sA_ne (by omega), rfl, fun i h1 _ => sA_w h1⟩
theorem tP_14 {σ : TS} {v : Int32} : tP σ (sA σ 0 14 v) := ⟨fun c hc => sA_ne (by omega), rfl, fun i _ h2 => sA_w h2⟩
/-- the text read: its signs f, n of them, from b on -/
def pS (σ : TS) (b n : Nat) (f : SS) : Prop := σ.1 0 9 = nI b ∧ σ.1 0 10 = nI n ∧ n ≤ 100 ∧ b + n ≤ 600 ∧ ∀ i, i < n → σ.1 5 (b + i) = f i
theorem pS.mv {σ σ' : TS} {b n : Nat} {f : SS} (h : pS σ b n f) (t : tP σ σ') : pS σ' b n f := ⟨by rw [t.2.2 9 (by omega) (by omega)]; exact h.1, by rw [t.2.2 10 (by omega) (by omega)]; exact h.2.1, h.2.2.1, h.2.2.2.1, fun i hi => by rw [t.1 5 (by omega)]; exact h.2.2.2.2 i hi⟩
/-- the loaf and the taste of which is read -/
def tLk (σ : TS) (l t : Nat) : Prop := σ.1 0 12 = nI l ∧ l < 6 ∧ σ.1 0 13 = nI t ∧ t < 4
theorem tLk.mv {σ σ' : TS} {l t : Nat} (h : tLk σ l t) (p : tP σ σ') : tLk σ' l t := ⟨by rw [p.2.2 12 (by omega) (by omega)]; exact h.1, h.2.1, by rw [p.2.2 13 (by omega) (by omega)]; exact h.2.2.1, h.2.2.2⟩
def lkT (σ : TS) (l t : Nat) : SS := fun i => match i with
  | 0 => nI l
  | 1 => σ.1 1 (8 + 10 * l)
  | 2 => if σ.1 0 15 = 0 then nI t else 99
  | 3 => σ.1 1 (8 + 10 * l + 1)
  | 4 => σ.1 1 4 - σ.1 1 4 / 60 * 60
  | _ => if σ.1 0 15 = 0 then σ.1 1 t / 10 else 99
theorem lkT_mv {σ σ' : TS} {l t : Nat} (p : tP σ σ') : lkT σ' l t = lkT σ l t := by
  unfold lkT
  rw [p.1 1 (by omega), p.2.2 15 (by omega) (by omega)]
theorem l_here {σ : TS} {b n a : Nat} {f : SS} {k : Int32 → TS → Prop} (hP : pS σ b n f) (ha : σ.1 0 11 = nI a) (han : a ≤ n) (hk : k (hereS f n a) σ) : tw_here σ k := by
  obtain ⟨h1, h2, h3, h4, h5⟩ := hP
  unfold tw_here
  rw [h1, h2, ha]
  unfold hereS at hk
  refine ⟨fun h => ?_, fun h => ?_⟩
  · have h' : n ≤ a := (nI_leI (by omega) (by omega)).mp h
    rw [if_neg (by omega)] at hk
    exact hk
  · have h' : ¬ n ≤ a := fun c => h ((nI_leI (by omega) (by omega)).mpr c)
    rw [if_pos (by omega)] at hk
    rw [nI_add, nI_clamp (by omega), h5 a (by omega)]
    exact ⟨vp_in_nI (by omega) (by omega), hk⟩
theorem l_takes {σ : TS} {b n a : Nat} {f : SS} {c : Int32} {k : Int32 → TS → Prop} (hP : pS σ b n f) (ha : σ.1 0 11 = nI a) (han : a ≤ n) (hw : σ.1 0 14 = 0)
    (hR : ∀ σ', hereS f n a = c → tP σ σ' → σ'.1 0 14 = 0 → σ'.1 0 11 = nI (a + 1) → k 1 σ')
    (hI : ∀ σ', hereS f n a ≠ c → tP σ σ' → σ'.1 0 14 = 1 → σ'.1 0 11 = nI a → k 0 σ') : tw_takes σ c k := by
  unfold tw_takes
  refine br1 hw (l_here hP ha han ?_)
  exact ⟨fun h => hR _ h tP_11 (by rw [sA_w (by omega)]; exact hw) (by rw [sA_v, ha, nI_1]), fun h => hI _ h tP_14 sA_v (by rw [sA_w (by omega)]; exact ha)⟩
theorem l_takesW {σ : TS} {c : Int32} {k : Int32 → TS → Prop} (hw : σ.1 0 14 = 1) (h : k 0 σ) : tw_takes σ c k := by
  unfold tw_takes
  exact br0 (by rw [hw]; decide) h
theorem l_isDigit {σ : TS} {b n a : Nat} {f : SS} {k : Int32 → TS → Prop} (hP : pS σ b n f) (ha : σ.1 0 11 = nI a) (han : a ≤ n) (hT : isDig (hereS f n a) = true → k 1 σ) (hF : ¬ isDig (hereS f n a) = true → k 0 σ) : tw_isDigit σ k := by
  unfold tw_isDigit
  refine l_here hP ha han ?_
  exact l_isIn (fun h1 h2 => ⟨Or.inr rfl, hT (decide_eq_true ⟨h1, h2⟩)⟩) (fun h => ⟨Or.inl rfl, hF (fun c => h (of_decide_eq_true c))⟩)
theorem l_num {σ : TS} {b n a : Nat} {f : SS} {k : Int32 → TS → Prop} (hP : pS σ b n f) (ha : σ.1 0 11 = nI a) (han : a ≤ n) (hw : σ.1 0 14 = 0)
    (hI : ∀ p σ', pNum f n a = .inl p → tP σ σ' → σ'.1 0 14 = 1 → σ'.1 0 11 = nI p → k 0 σ')
    (hR : ∀ q σ', pNum f n a = .inr q → tP σ σ' → σ'.1 0 14 = 0 → σ'.1 0 11 = nI q.1 → k q.2 σ') : tw_readsNumber σ k := by
  unfold tw_readsNumber
  refine br1 hw (l_isDigit hP ha han (fun h1 => ?_) (fun h1 => ?_))
  · refine bn1 (by decide) (l_here hP ha han ?_)
    intro x hx w hw1
    subst hx
    subst hw1
    have hlt := hereS_dig h1
    have hP1 := hP.mv (tP_11 (v := σ.1 0 11 + 1))
    have ha1 : (sA σ 0 11 (σ.1 0 11 + 1)).1 0 11 = nI (a + 1) := by rw [sA_v, ha, nI_1]
    have hw1 : (sA σ 0 11 (σ.1 0 11 + 1)).1 0 14 = 0 := by rw [sA_w (by omega)]; exact hw
    refine l_isDigit hP1 ha1 (by omega) (fun h2 => ?_) (fun h2 => ?_)
    · refine br0 (by decide) (l_here hP1 ha1 (by omega) ?_)
      intro y hy
      subst hy
      refine hR (a + 2, (10 * (hereS f n a - 48) + hereS f n (a + 1)) - 48) _ (by unfold pNum; rw [if_pos h1, if_pos h2]) (tP_11.tr tP_11) (by rw [sA_w (by omega)]; exact hw1) ?_
      rw [sA_v, ha1, nI_1]
    · refine br1 rfl ?_
      exact hR (a + 1, hereS f n a - 48) _ (by unfold pNum; rw [if_pos h1, if_neg h2]) tP_11 hw1 ha1
  · refine bn0 rfl ?_
    exact hI a _ (by unfold pNum; rw [if_neg h1]) tP_14 sA_v (by rw [sA_w (by omega)]; exact ha)
theorem l_numW {σ : TS} {k : Int32 → TS → Prop} (hw : σ.1 0 14 = 1) (h : k 0 σ) : tw_readsNumber σ k := by
  unfold tw_readsNumber
  exact br0 (by rw [hw]; decide) h
theorem ix_get {l k : Nat} : (8 + (10 * nI l)) + nI k = nI (8 + 10 * l + k) := by
  rw [show (8 : Int32) = nI 8 from rfl, show (10 : Int32) = nI 10 from rfl, pk_mul, nI_add, nI_add]
theorem l_get {σ : TS} {l j : Nat} {k : Int32 → TS → Prop} (hl : l < 6) (hj : j < 10) (h : k (σ.1 1 (8 + 10 * l + j)) σ) : tw_get σ (nI l) (nI j) k := by
  unfold tw_get
  rw [ix_get, nI_clamp (by omega)]
  exact ⟨vp_in_nI (by omega) (by omega), h⟩
theorem l_kind {σ : TS} {l : Nat} {k : Int32 → TS → Prop} (hl : l < 6) (h : k (σ.1 1 (8 + 10 * l)) σ) : tw_kind σ (nI l) k := l_get (j := 0) hl (by omega) h
theorem l_number {σ : TS} {l : Nat} {k : Int32 → TS → Prop} (hl : l < 6) (h : k (σ.1 1 (8 + 10 * l + 1)) σ) : tw_number σ (nI l) k := l_get (j := 1) hl (by omega) h
theorem l_valueOf {σ : TS} {l t : Nat} {c : Int32} {k : Int32 → TS → Prop} (hL : tLk σ l t) (hk : k (lkO (lkT σ l t) c) σ) : tw_valueOf σ c k := by
  obtain ⟨h12, hl, h13, ht⟩ := hL
  unfold tw_valueOf
  unfold lkO at hk
  rw [h12, h13, tc4]
  refine ⟨fun h => ?_, fun h => ?_, fun h => ?_, fun h => ?_, fun h => ?_, fun h1 h2 h3 h4 h5 => ?_⟩
  · rw [h, if_neg (by decide), if_neg (by decide), if_neg (by decide), if_neg (by decide), if_pos rfl] at hk
    exact ⟨vi4, hk⟩
  · rw [h, if_neg (by decide), if_pos rfl] at hk
    exact l_kind hl hk
  · rw [h, if_pos rfl] at hk
    exact hk
  · rw [h, if_neg (by decide), if_neg (by decide), if_pos rfl] at hk
    have hk' : k (if σ.1 0 15 = 0 then nI t else 99) σ := hk
    refine ⟨fun h0 => ?_, fun h0 => ?_⟩
    · rw [if_pos h0] at hk'; exact hk'
    · rw [if_neg h0] at hk'; exact hk'
  · rw [h, if_neg (by decide), if_neg (by decide), if_neg (by decide), if_pos rfl] at hk
    exact l_number hl hk
  · rw [if_neg h3, if_neg h2, if_neg h4, if_neg h5, if_neg h1] at hk
    have hk' : k (if σ.1 0 15 = 0 then σ.1 1 t / 10 else 99) σ := hk
    refine ⟨fun h0 => ?_, fun h0 => ?_⟩
    · rw [if_pos h0] at hk'
      rw [nI_clamp (by omega)]
      exact ⟨vp_in_nI (by omega) (by omega), hk'⟩
    · rw [if_neg h0] at hk'; exact hk'
theorem l_isLetter {c : Int32} {k : Int32 → Prop} (hT : isLet c = true → k 1) (hF : ¬ isLet c = true → k 0) : pw_isLetter c k := by
  unfold pw_isLetter pw_isLetter_J36
  refine ⟨fun h => hT (decide_eq_true (Or.inl h)), fun h1 => ⟨fun h => hT (decide_eq_true (Or.inr (Or.inl h))), fun h2 => ⟨fun h => hT (decide_eq_true (Or.inr (Or.inr (Or.inl h)))), fun h3 => ⟨fun h => hT (decide_eq_true (Or.inr (Or.inr (Or.inr (Or.inl h))))), fun h4 => ⟨fun h => hT (decide_eq_true (Or.inr (Or.inr (Or.inr (Or.inr (Or.inl h)))))), fun h5 => ⟨fun h6 => ?_, fun h => hT (decide_eq_true (Or.inr (Or.inr (Or.inr (Or.inr (Or.inr h))))))⟩⟩⟩⟩⟩⟩
  refine hF (fun c => ?_)
  rcases of_decide_eq_true c with h | h | h | h | h | h
  · exact h1 h
  · exact h2 h
  · exact h3 h
  · exact h4 h
  · exact h5 h
  · exact h6 h
theorem l_test {σ : TS} {b n a l t : Nat} {f : SS} {k : Int32 → TS → Prop} (hP : pS σ b n f) (ha : σ.1 0 11 = nI a) (han : a ≤ n) (hw : σ.1 0 14 = 0) (hL : tLk σ l t)
    (hI : ∀ p σ' v, pTest f n a = .inl p → tP σ σ' → σ'.1 0 14 = 1 → σ'.1 0 11 = nI p → (v = 0 ∨ v = 1) → k v σ')
    (hR : ∀ q σ' v, pTest f n a = .inr q → tP σ σ' → σ'.1 0 14 = 0 → σ'.1 0 11 = nI q.1 → (v = 0 ∨ v = 1) → (¬ σ.1 1 5 = 0 → v = b2I (q.2 (lkT σ l t))) → k v σ') : tw_readsTest σ k := by
  unfold tw_readsTest
  refine l_here hP ha han (l_isLetter (fun hlet => ?_) (fun hlet => ?_))
  · refine bn1 (by decide) ?_
    intro w hw1
    subst hw1
    have hlt := hereS_let hlet
    have hP1 := hP.mv (tP_11 (v := σ.1 0 11 + 1))
    have ha1 : (sA σ 0 11 (σ.1 0 11 + 1)).1 0 11 = nI (a + 1) := by rw [sA_v, ha, nI_1]
    have hw1 : (sA σ 0 11 (σ.1 0 11 + 1)).1 0 14 = 0 := by rw [sA_w (by omega)]; exact hw
    have hT1 : tP σ (sA σ 0 11 (σ.1 0 11 + 1)) := tP_11
    generalize sA σ 0 11 (σ.1 0 11 + 1) = σ1 at hP1 ha1 hw1 hT1
    refine l_here hP1 ha1 (by omega) ?_
    have J : (hereS f n (a + 1) = 60 ∨ hereS f n (a + 1) = 61 ∨ hereS f n (a + 1) = 62) → tw_readsTest_J59 k (hereS f n a) (hereS f n (a + 1)) σ1 := by
      intro hs
      have hlt2 : a + 1 < n := hereS_in (by rcases hs with h | h | h <;> rw [h] <;> decide)
      have hpt : pTest f n a = (match pNum f n (a + 2) with
        | .inl p => .inl p
        | .inr q => .inr (q.1, agF (hereS f n a) (hereS f n (a + 1)) q.2)) := by
        unfold pTest
        rw [if_pos hlet, if_pos hs]
        rfl
      unfold tw_readsTest_J59
      intro w hw2
      subst hw2
      have hP2 := hP1.mv (tP_11 (v := σ1.1 0 11 + 1))
      have ha2 : (sA σ1 0 11 (σ1.1 0 11 + 1)).1 0 11 = nI (a + 2) := by rw [sA_v, ha1, nI_1]
      have hw2 : (sA σ1 0 11 (σ1.1 0 11 + 1)).1 0 14 = 0 := by rw [sA_w (by omega)]; exact hw1
      have hT2 : tP σ (sA σ1 0 11 (σ1.1 0 11 + 1)) := hT1.tr tP_11
      generalize sA σ1 0 11 (σ1.1 0 11 + 1) = σ2 at hP2 ha2 hw2 hT2
      refine l_num hP2 ha2 (by omega) hw2 (fun p σ3 e t3 w3 p3 => ?_) (fun q σ3 e t3 w3 p3 => ?_)
      · refine bn1 (by rw [w3]; decide) ?_
        rw [e] at hpt
        exact hI p σ3 0 hpt (hT2.tr t3) w3 p3 (Or.inl rfl)
      · rw [e] at hpt
        have hT3 := hT2.tr t3
        have h5 : σ3.1 1 5 = σ.1 1 5 := by rw [hT3.1 1 (by omega)]
        refine bn0 w3 ⟨vi5, ?_⟩
        rw [tc5]
        refine ⟨fun hm => ?_, fun hm => ?_⟩
        · refine l_valueOf (hL.mv hT3) ?_
          rw [lkT_mv hT3]
          have Q : ∀ v : Int32, (v = 0 ∨ v = 1) → v = b2I (agF (hereS f n a) (hereS f n (a + 1)) q.2 (lkT σ l t)) → k v σ3 := fun v h1 h2 => hR _ σ3 v hpt hT3 w3 p3 h1 (fun _ => h2)
          unfold agF at Q
          refine ⟨fun h60 => ⟨fun h61 => ⟨fun hle => ?_, fun hle => ?_⟩, fun h61 => ⟨fun hle => ?_, fun hle => ?_⟩⟩, fun h60 => ⟨fun hle => ?_, fun hle => ?_⟩⟩
          · refine Q 0 (Or.inl rfl) ?_
            rw [if_neg h60, if_neg h61, decide_eq_false (i_lt_le.mpr hle)]; rfl
          · refine Q 1 (Or.inr rfl) ?_
            rw [if_neg h60, if_neg h61, decide_eq_true (i_le_lt.mp hle)]; rfl
          · refine Q 0 (Or.inl rfl) ?_
            rw [if_neg h60, if_pos h61, decide_eq_false hle]; rfl
          · refine Q 1 (Or.inr rfl) ?_
            rw [if_neg h60, if_pos h61, decide_eq_true hle]; rfl
          · refine Q 0 (Or.inl rfl) ?_
            rw [if_pos h60, decide_eq_false (i_lt_le.mpr hle)]; rfl
          · refine Q 1 (Or.inr rfl) ?_
            rw [if_pos h60, decide_eq_true (i_le_lt.mp hle)]; rfl
        · exact hR _ σ3 0 hpt hT3 w3 p3 (Or.inl rfl) (fun c => absurd (h5.symm.trans hm) c)
    refine ⟨fun h => J (Or.inl h), fun h1 => ⟨fun h => J (Or.inr (Or.inl h)), fun h2 => ⟨fun h => J (Or.inr (Or.inr h)), fun h3 => ?_⟩⟩⟩
    refine hI (a + 1) _ 0 ?_ (hT1.tr tP_14) sA_v (by rw [sA_w (by omega)]; exact ha1) (Or.inl rfl)
    unfold pTest
    rw [if_pos hlet, if_neg (by rintro (h | h | h); exact h1 h; exact h2 h; exact h3 h)]
  · refine bn0 rfl ?_
    refine hI a _ 0 ?_ tP_14 sA_v (by rw [sA_w (by omega)]; exact ha) (Or.inl rfl)
    unfold pTest
    rw [if_neg hlet]
/-! ===== factors, alls, somes ===== -/
def tLawF (f : SS) (b n l t : Nat) (c : TS → Int32 → (Int32 → TS → Prop) → Prop) (d : Nat) (F : Nat → PR TF1) : Prop :=
  ∀ (σ : TS) (k : Int32 → TS → Prop) (a : Nat), pS σ b n f → σ.1 0 11 = nI a → a ≤ n → σ.1 0 14 = 0 → tLk σ l t →
    (∀ p σ' v, F a = .inl p → tP σ σ' → σ'.1 0 14 = 1 → σ'.1 0 11 = nI p → (v = 0 ∨ v = 1) → k v σ') →
    (∀ q σ' v, F a = .inr q → tP σ σ' → σ'.1 0 14 = 0 → σ'.1 0 11 = nI q.1 → (v = 0 ∨ v = 1) → (¬ σ.1 1 5 = 0 → v = b2I (q.2 (lkT σ l t))) → k v σ') → c σ (nI d) k
theorem pLoop_stop {F : Nat → PR TF1} {f : SS} {n : Nat} {sep : Int32} {r a : Nat} {φs : List TF1} (h : hereS f n a ≠ sep) : pLoop F f n sep r a φs = .inr (a, φs) := by
  cases r with
  | zero => rfl
  | succ r => unfold pLoop; rw [if_neg h]
theorem pLoop_inl {F : Nat → PR TF1} {f : SS} {n : Nat} {sep : Int32} {r a p : Nat} {φs : List TF1} (h : hereS f n a = sep) (e : F (a + 1) = .inl p) : pLoop F f n sep (r + 1) a φs = .inl p := by
  rw [pLoop, if_pos h, e]
theorem pLoop_inr {F : Nat → PR TF1} {f : SS} {n : Nat} {sep : Int32} {r a : Nat} {q : Nat × TF1} {φs : List TF1} (h : hereS f n a = sep) (e : F (a + 1) = .inr q) : pLoop F f n sep (r + 1) a φs = pLoop F f n sep r q.1 (φs ++ [q.2]) := by
  rw [pLoop, if_pos h, e]
theorem l_loopT {f : SS} {b n l t d : Nat} {c : TS → Int32 → (Int32 → TS → Prop) → Prop} {F : Nat → PR TF1} (hF : tLawF f b n l t c d F) (hB : ∀ a, a ≤ n → pBd n a (F a)) (σ : TS) (k : Int32 → TS → Prop) :
    ∀ (r : Nat) (φs : List TF1) (σ1 : TS) (v : Int32) (a1 : Nat), pS σ1 b n f → tLk σ1 l t → tP σ σ1 → σ1.1 0 11 = nI a1 → a1 ≤ n → n ≤ a1 + r → σ1.1 0 14 = 0 → (v = 0 ∨ v = 1) → (¬ σ.1 1 5 = 0 → v = b2I (φs.all (fun ψ => ψ (lkT σ l t)))) →
      (∀ p σ' y, pLoop F f n 38 r a1 φs = .inl p → tP σ σ' → σ'.1 0 14 = 1 → σ'.1 0 11 = nI p → (y = 0 ∨ y = 1) → k y σ') →
      (∀ z σ' y, pLoop F f n 38 r a1 φs = .inr z → tP σ σ' → σ'.1 0 14 = 0 → σ'.1 0 11 = nI z.1 → (y = 0 ∨ y = 1) → (¬ σ.1 1 5 = 0 → y = b2I (z.2.all (fun ψ => ψ (lkT σ l t)))) → k y σ') →
      tb_readsT_L6 c k (r + 1) (nI d) v σ1 := by
  intro r
  induction r with
  | zero =>
    intro φs σ1 v a1 hP hL hT ha han hr hw hv hval hI hR
    rw [tb_readsT_L6]
    refine bn0 hw (l_here hP ha han ?_)
    have hs : hereS f n a1 ≠ 38 := fun h => by have := hereS_eq h (by decide); omega
    exact bn1 hs ⟨hv, hR (a1, φs) σ1 v rfl hT hw ha hv hval⟩
  | succ r ih =>
    intro φs σ1 v a1 hP hL hT ha han hr hw hv hval hI hR
    rw [tb_readsT_L6]
    refine bn0 hw (l_here hP ha han ?_)
    by_cases hs : hereS f n a1 = 38
    · refine bn0 hs ?_
      intro w hw1
      subst hw1
      have hlt := hereS_eq hs (by decide)
      have hT2 : tP σ1 (sA σ1 0 11 (σ1.1 0 11 + 1)) := tP_11
      refine hF _ _ (a1 + 1) (hP.mv hT2) (by rw [sA_v, ha, nI_1]) (by omega) (by rw [sA_w (by omega)]; exact hw) (hL.mv hT2) (fun p σ3 v3 e t3 w3 p3 h3 => ?_) (fun q σ3 v3 e t3 w3 p3 h3 hval3 => ?_)
      · have W : ∀ y : Int32, (y = 0 ∨ y = 1) → tb_readsT_L6 c k (r + 1) (nI d) y σ3 := by
          intro y hy
          rw [tb_readsT_L6]
          exact bn1 (by rw [w3]; decide) ⟨hy, hI p σ3 y (pLoop_inl hs e) ((hT.tr hT2).tr t3) w3 p3 hy⟩
        exact ⟨fun _ => W 0 (Or.inl rfl), fun _ => ⟨fun _ => W 0 (Or.inl rfl), fun _ => W 1 (Or.inr rfl)⟩⟩
      · obtain ⟨b1, b2⟩ := hB (a1 + 1) (by omega) q e
        have hT3 := (hT.tr hT2).tr t3
        have h5 : (sA σ1 0 11 (σ1.1 0 11 + 1)).1 1 5 = σ.1 1 5 := by rw [(hT.tr hT2).1 1 (by omega)]
        rw [h5, lkT_mv (hT.tr hT2)] at hval3
        have W : ∀ y : Int32, (y = 0 ∨ y = 1) → (¬ σ.1 1 5 = 0 → y = b2I ((φs ++ [q.2]).all (fun ψ => ψ (lkT σ l t)))) → tb_readsT_L6 c k (r + 1) (nI d) y σ3 := by
          intro y hy hy2
          refine ih (φs ++ [q.2]) σ3 y q.1 ((hP.mv hT2).mv t3) ((hL.mv hT2).mv t3) hT3 p3 b2 (by omega) w3 hy hy2 (fun p σ' y' e' => ?_) (fun z σ' y' e' => ?_)
          · exact hI p σ' y' (by rw [pLoop_inr hs e]; exact e')
          · exact hR z σ' y' (by rw [pLoop_inr hs e]; exact e')
        have ev : (φs ++ [q.2]).all (fun ψ => ψ (lkT σ l t)) = (φs.all (fun ψ => ψ (lkT σ l t)) && q.2 (lkT σ l t)) := by simp
        rw [ev] at W
        refine ⟨fun h0 => W 0 (Or.inl rfl) (fun hm => ?_), fun h0 => ⟨fun h1 => W 0 (Or.inl rfl) (fun hm => ?_), fun h1 => W 1 (Or.inr rfl) (fun hm => ?_)⟩⟩
        · have := hval hm
          rw [h0] at this
          rw [(b2I_0 _).mp this.symm]; rfl
        · have := hval3 hm
          rw [h1] at this
          rw [(b2I_0 _).mp this.symm, Bool.and_false]; rfl
        · have e1 := hval hm
          have e2 := hval3 hm
          rw [e1] at h0
          rw [e2] at h1
          rw [(b2I_n0 _).mp h0, (b2I_n0 _).mp h1]; rfl
    · exact bn1 hs ⟨hv, hR (a1, φs) σ1 v (pLoop_stop hs) hT hw ha hv hval⟩
theorem l_loopE {f : SS} {b n l t d : Nat} {c : TS → Int32 → (Int32 → TS → Prop) → Prop} {F : Nat → PR TF1} (hF : tLawF f b n l t c d F) (hB : ∀ a, a ≤ n → pBd n a (F a)) (σ : TS) (k : Int32 → TS → Prop) :
    ∀ (r : Nat) (φs : List TF1) (σ1 : TS) (v : Int32) (a1 : Nat), pS σ1 b n f → tLk σ1 l t → tP σ σ1 → σ1.1 0 11 = nI a1 → a1 ≤ n → n ≤ a1 + r → σ1.1 0 14 = 0 → (v = 0 ∨ v = 1) → (¬ σ.1 1 5 = 0 → v = b2I (φs.any (fun ψ => ψ (lkT σ l t)))) →
      (∀ p σ' y, pLoop F f n 124 r a1 φs = .inl p → tP σ σ' → σ'.1 0 14 = 1 → σ'.1 0 11 = nI p → (y = 0 ∨ y = 1) → k y σ') →
      (∀ z σ' y, pLoop F f n 124 r a1 φs = .inr z → tP σ σ' → σ'.1 0 14 = 0 → σ'.1 0 11 = nI z.1 → (y = 0 ∨ y = 1) → (¬ σ.1 1 5 = 0 → y = b2I (z.2.any (fun ψ => ψ (lkT σ l t)))) → k y σ') →
      tb_readsE_L6 c k (r + 1) (nI d) v σ1 := by
  intro r
  induction r with
  | zero =>
    intro φs σ1 v a1 hP hL hT ha han hr hw hv hval hI hR
    rw [tb_readsE_L6]
    refine bn0 hw (l_here hP ha han ?_)
    have hs : hereS f n a1 ≠ 124 := fun h => by have := hereS_eq h (by decide); omega
    exact bn1 hs ⟨hv, hR (a1, φs) σ1 v rfl hT hw ha hv hval⟩
  | succ r ih =>
    intro φs σ1 v a1 hP hL hT ha han hr hw hv hval hI hR
    rw [tb_readsE_L6]
    refine bn0 hw (l_here hP ha han ?_)
    by_cases hs : hereS f n a1 = 124
    · refine bn0 hs ?_
      intro w hw1
      subst hw1
      have hlt := hereS_eq hs (by decide)
      have hT2 : tP σ1 (sA σ1 0 11 (σ1.1 0 11 + 1)) := tP_11
      refine hF _ _ (a1 + 1) (hP.mv hT2) (by rw [sA_v, ha, nI_1]) (by omega) (by rw [sA_w (by omega)]; exact hw) (hL.mv hT2) (fun p σ3 v3 e t3 w3 p3 h3 => ?_) (fun q σ3 v3 e t3 w3 p3 h3 hval3 => ?_)
      · have W : ∀ y : Int32, (y = 0 ∨ y = 1) → tb_readsE_L6 c k (r + 1) (nI d) y σ3 := by
          intro y hy
          rw [tb_readsE_L6]
          exact bn1 (by rw [w3]; decide) ⟨hy, hI p σ3 y (pLoop_inl hs e) ((hT.tr hT2).tr t3) w3 p3 hy⟩
        exact ⟨fun _ => W 1 (Or.inr rfl), fun _ => ⟨fun _ => W 0 (Or.inl rfl), fun _ => W 1 (Or.inr rfl)⟩⟩
      · obtain ⟨b1, b2⟩ := hB (a1 + 1) (by omega) q e
        have hT3 := (hT.tr hT2).tr t3
        have h5 : (sA σ1 0 11 (σ1.1 0 11 + 1)).1 1 5 = σ.1 1 5 := by rw [(hT.tr hT2).1 1 (by omega)]
        rw [h5, lkT_mv (hT.tr hT2)] at hval3
        have W : ∀ y : Int32, (y = 0 ∨ y = 1) → (¬ σ.1 1 5 = 0 → y = b2I ((φs ++ [q.2]).any (fun ψ => ψ (lkT σ l t)))) → tb_readsE_L6 c k (r + 1) (nI d) y σ3 := by
          intro y hy hy2
          refine ih (φs ++ [q.2]) σ3 y q.1 ((hP.mv hT2).mv t3) ((hL.mv hT2).mv t3) hT3 p3 b2 (by omega) w3 hy hy2 (fun p σ' y' e' => ?_) (fun z σ' y' e' => ?_)
          · exact hI p σ' y' (by rw [pLoop_inr hs e]; exact e')
          · exact hR z σ' y' (by rw [pLoop_inr hs e]; exact e')
        have ev : (φs ++ [q.2]).any (fun ψ => ψ (lkT σ l t)) = (φs.any (fun ψ => ψ (lkT σ l t)) || q.2 (lkT σ l t)) := by simp
        rw [ev] at W
        refine ⟨fun h0 => W 1 (Or.inr rfl) (fun hm => ?_), fun h0 => ⟨fun h1 => W 0 (Or.inl rfl) (fun hm => ?_), fun h1 => W 1 (Or.inr rfl) (fun hm => ?_)⟩⟩
        · have e1 := hval hm
          rw [e1] at h0
          rw [(b2I_n0 _).mp h0]; rfl
        · have e1 := hval hm
          have e2 := hval3 hm
          rw [h0] at e1
          rw [h1] at e2
          rw [(b2I_0 _).mp e1.symm, (b2I_0 _).mp e2.symm]; rfl
        · have e2 := hval3 hm
          rw [e2] at h1
          rw [(b2I_n0 _).mp h1, Bool.or_true]; rfl
    · exact bn1 hs ⟨hv, hR (a1, φs) σ1 v (pLoop_stop hs) hT hw ha hv hval⟩
theorem pJ_inl {all : Bool} {f : SS} {n : Nat} {sep : Int32} {F : Nat → PR TF1} {a p : Nat} (e : F a = .inl p) : pJ all f n sep F a = .inl p := by
  unfold pJ; rw [e]
theorem pJ_l {all : Bool} {f : SS} {n : Nat} {sep : Int32} {F : Nat → PR TF1} {a p : Nat} {q : Nat × TF1} (e : F a = .inr q) (e2 : pLoop F f n sep n q.1 [q.2] = .inl p) : pJ all f n sep F a = .inl p := by
  unfold pJ; rw [e]; simp only [e2]
theorem pJ_r {all : Bool} {f : SS} {n : Nat} {sep : Int32} {F : Nat → PR TF1} {a : Nat} {q : Nat × TF1} {z : Nat × List TF1} (e : F a = .inr q) (e2 : pLoop F f n sep n q.1 [q.2] = .inr z) : pJ all f n sep F a = .inr (z.1, jn all z.2) := by
  unfold pJ; rw [e]; simp only [e2]
theorem l_T {f : SS} {b n l t d : Nat} {c : TS → Int32 → (Int32 → TS → Prop) → Prop} {F : Nat → PR TF1} (hF : tLawF f b n l t c d F) (hB : ∀ a, a ≤ n → pBd n a (F a)) : tLawF f b n l t (tb_readsT c) d (pJ true f n 38 F) := by
  intro σ k a hP ha han hw hL hI hR
  unfold tb_readsT
  refine hF σ _ a hP ha han hw hL (fun p σ1 v e t1 w1 p1 h1 => ⟨1, ?_⟩) (fun q σ1 v e t1 w1 p1 h1 hval => ⟨n + 1, ?_⟩)
  · rw [tb_readsT_L6]
    exact bn1 (by rw [w1]; decide) ⟨h1, hI p σ1 v (pJ_inl e) t1 w1 p1 h1⟩
  · obtain ⟨b1, b2⟩ := hB a han q e
    refine l_loopT hF hB σ k n [q.2] σ1 v q.1 (hP.mv t1) (hL.mv t1) t1 p1 b2 (by omega) w1 h1 (fun hm => ?_) (fun p σ' y e' t' w' p' h' => ?_) (fun z σ' y e' t' w' p' h' hv' => ?_)
    · rw [hval hm]; simp
    · exact hI p σ' y (pJ_l e e') t' w' p' h'
    · exact hR (z.1, jn true z.2) σ' y (pJ_r e e') t' w' p' h' hv'
theorem l_E {f : SS} {b n l t d : Nat} {c : TS → Int32 → (Int32 → TS → Prop) → Prop} {F : Nat → PR TF1} (hF : tLawF f b n l t c d F) (hB : ∀ a, a ≤ n → pBd n a (F a)) : tLawF f b n l t (tb_readsE c) d (pJ false f n 124 F) := by
  intro σ k a hP ha han hw hL hI hR
  unfold tb_readsE
  refine hF σ _ a hP ha han hw hL (fun p σ1 v e t1 w1 p1 h1 => ⟨1, ?_⟩) (fun q σ1 v e t1 w1 p1 h1 hval => ⟨n + 1, ?_⟩)
  · rw [tb_readsE_L6]
    exact bn1 (by rw [w1]; decide) ⟨h1, hI p σ1 v (pJ_inl e) t1 w1 p1 h1⟩
  · obtain ⟨b1, b2⟩ := hB a han q e
    refine l_loopE hF hB σ k n [q.2] σ1 v q.1 (hP.mv t1) (hL.mv t1) t1 p1 b2 (by omega) w1 h1 (fun hm => ?_) (fun p σ' y e' t' w' p' h' => ?_) (fun z σ' y e' t' w' p' h' hv' => ?_)
    · rw [hval hm]; simp
    · exact hI p σ' y (pJ_l e e') t' w' p' h'
    · exact hR (z.1, jn false z.2) σ' y (pJ_r e e') t' w' p' h' hv'
theorem l_EoF {f : SS} {b n l t d : Nat} {c : TS → Int32 → (Int32 → TS → Prop) → Prop} {F : Nat → PR TF1} (hF : tLawF f b n l t c d F) (hB : ∀ a, a ≤ n → pBd n a (F a)) : tLawF f b n l t (tb_readsE (tb_readsT c)) d (pEof f n F) := l_E (l_T hF hB) (pJ_bd (by decide) hB)
theorem pF0_l {f : SS} {n a : Nat} (h : hereS f n a = 33 ∨ hereS f n a = 40) : pF f n 0 a = .inl a := by
  unfold pF
  by_cases h1 : hereS f n a = 33
  · rw [if_pos h1]
  · rw [if_neg h1, if_pos (h.resolve_left h1)]
theorem pF_t {f : SS} {n a r : Nat} (h1 : ¬ hereS f n a = 33) (h2 : ¬ hereS f n a = 40) : pF f n r a = pTest f n a := by
  cases r with
  | zero => unfold pF; rw [if_neg h1, if_neg h2]
  | succ r => unfold pF; rw [if_neg h1, if_neg h2]
theorem pF_n {f : SS} {n a r : Nat} (h1 : hereS f n a = 33) : pF f n (r + 1) a = pNot (pF f n r (a + 1)) := by
  rw [pF, if_pos h1]
theorem pF_p {f : SS} {n a r : Nat} (h1 : hereS f n a = 40) : pF f n (r + 1) a = pClose f n (pEof f n (pF f n r) (a + 1)) := by
  rw [pF, if_neg (by rw [h1]; decide), if_pos h1]
theorem l_F {f : SS} {b n l t : Nat} : ∀ (r d : Nat), d + r = 4 → tLawF f b n l t (tf_readsF (r + 1)) d (pF f n r) := by
  intro r
  induction r with
  | zero =>
    intro d hd σ k a hP ha han hw hL hI hR
    rw [tf_readsF]
    unfold tb_readsF
    refine br1 hw (l_here hP ha han ?_)
    have hd4 : d = 4 := by omega
    subst hd4
    have E : (hereS f n a = 33 ∨ hereS f n a = 40) → tb_readsF_J31 (tf_readsF 0) (tb_readsE (tb_readsT (tf_readsF 0))) k (nI 4) (hereS f n a) σ := by
      intro h
      unfold tb_readsF_J31
      exact bn0 rfl (hI a _ 0 (pF0_l h) tP_14 sA_v (by rw [sA_w (by omega)]; exact ha) (Or.inl rfl))
    refine ⟨fun h => E (Or.inl h), fun h1 => ⟨fun h => E (Or.inr h), fun h2 => ?_⟩⟩
    rw [pF_t h1 h2] at hI hR
    exact l_test hP ha han hw hL (fun p σ' v e t' w' p' h' => ⟨h', hI p σ' v e t' w' p' h'⟩) (fun q σ' v e t' w' p' h' hv => ⟨h', hR q σ' v e t' w' p' h' hv⟩)
  | succ r ih =>
    intro d hd σ k a hP ha han hw hL hI hR
    rw [tf_readsF]
    unfold tb_readsF
    refine br1 hw (l_here hP ha han ?_)
    have hd4 : ¬ nI d = 4 := fun c => by
      have := (nI_eq (a := d) (b := 4) (by omega) (by omega)).mp c
      omega
    have ih' := ih (d + 1) (by omega)
    have hT1 : tP σ (sA σ 0 11 (σ.1 0 11 + 1)) := tP_11
    have hP1 := hP.mv hT1
    have hL1 := hL.mv hT1
    have ha1 : (sA σ 0 11 (σ.1 0 11 + 1)).1 0 11 = nI (a + 1) := by rw [sA_v, ha, nI_1]
    have hw1 : (sA σ 0 11 (σ.1 0 11 + 1)).1 0 14 = 0 := by rw [sA_w (by omega)]; exact hw
    have h5 : (sA σ 0 11 (σ.1 0 11 + 1)).1 1 5 = σ.1 1 5 := by rw [hT1.1 1 (by omega)]
    have eL : lkT (sA σ 0 11 (σ.1 0 11 + 1)) l t = lkT σ l t := lkT_mv hT1
    generalize hσ1 : sA σ 0 11 (σ.1 0 11 + 1) = σ1 at hT1 hP1 hL1 ha1 hw1 h5 eL
    refine ⟨fun h33 => ?_, fun h33 => ⟨fun h40 => ?_, fun h40 => ?_⟩⟩
    · have hlt := hereS_eq h33 (by decide)
      rw [pF_n h33] at hI hR
      unfold tb_readsF_J31
      refine bn1 hd4 (bn0 h33 ?_)
      intro w hw2
      rw [hσ1] at hw2
      rw [hw2, nI_1]
      refine ih' σ1 _ (a + 1) hP1 ha1 (by omega) hw1 hL1 (fun p σ2 v e t2 w2 p2 h2 => ?_) (fun q σ2 v e t2 w2 p2 h2 hv => ?_)
      · rw [e] at hI
        exact ⟨fun _ => hI p σ2 0 rfl (hT1.tr t2) w2 p2 (Or.inl rfl), fun _ => hI p σ2 1 rfl (hT1.tr t2) w2 p2 (Or.inr rfl)⟩
      · rw [e] at hR
        rw [h5, eL] at hv
        refine ⟨fun h0 => hR (q.1, fun e => !q.2 e) σ2 0 rfl (hT1.tr t2) w2 p2 (Or.inl rfl) (fun hm => ?_), fun h0 => hR (q.1, fun e => !q.2 e) σ2 1 rfl (hT1.tr t2) w2 p2 (Or.inr rfl) (fun hm => ?_)⟩
        · have e1 := hv hm
          rw [e1] at h0
          show 0 = b2I (!q.2 (lkT σ l t))
          rw [(b2I_n0 _).mp h0]; rfl
        · have e1 := hv hm
          rw [h0] at e1
          show 1 = b2I (!q.2 (lkT σ l t))
          rw [(b2I_0 _).mp e1.symm]; rfl
    · have hlt := hereS_eq h40 (by decide)
      rw [pF_p h40] at hI hR
      unfold tb_readsF_J31
      refine bn1 hd4 (bn1 h33 ?_)
      intro w hw2
      rw [hσ1] at hw2
      rw [hw2, nI_1]
      refine l_EoF ih' (pF_bd r) σ1 _ (a + 1) hP1 ha1 (by omega) hw1 hL1 (fun p σ2 v e t2 w2 p2 h2 => ?_) (fun q σ2 v e t2 w2 p2 h2 hv => ?_)
      · rw [e] at hI
        refine l_takesW w2 ?_
        exact br1 rfl (hI p σ2 0 rfl (hT1.tr t2) w2 p2 (Or.inl rfl))
      · rw [e] at hI hR
        rw [h5, eL] at hv
        obtain ⟨b1, b2⟩ := pEof_bd (pF_bd r) (a + 1) (by omega) q e
        have ec : pClose f n (.inr q) = if hereS f n q.1 = 41 then .inr (q.1 + 1, q.2) else .inl q.1 := rfl
        refine l_takes (hP1.mv t2) p2 b2 w2 (fun σ3 hc t3 w3 p3 => ?_) (fun σ3 hc t3 w3 p3 => ?_)
        · refine br0 (by decide) ?_
          rw [ec, if_pos hc] at hR
          refine ⟨fun h0 => hR (q.1 + 1, q.2) σ3 0 rfl ((hT1.tr t2).tr t3) w3 p3 (Or.inl rfl) (fun hm => ?_), fun h0 => hR (q.1 + 1, q.2) σ3 1 rfl ((hT1.tr t2).tr t3) w3 p3 (Or.inr rfl) (fun hm => ?_)⟩
          · have e1 := hv hm
            rw [h0] at e1
            exact e1
          · have e1 := hv hm
            rw [e1] at h0
            show 1 = b2I (q.2 (lkT σ l t))
            rw [(b2I_n0 _).mp h0]; rfl
        · refine br1 rfl ?_
          rw [ec, if_neg hc] at hI
          exact hI q.1 σ3 0 rfl ((hT1.tr t2).tr t3) w3 p3 (Or.inl rfl)
    · rw [pF_t h33 h40] at hI hR
      exact l_test hP ha han hw hL (fun p σ' v e t' w' p' h' => ⟨h', hI p σ' v e t' w' p' h'⟩) (fun q σ' v e t' w' p' h' hv => ⟨h', hR q σ' v e t' w' p' h' hv⟩)
/-- somes, from the outermost -/
theorem l_readsE {f : SS} {b n l t : Nat} : tLawF f b n l t tw_readsE 0 (pE f n) := l_EoF (l_F 4 0 rfl) (pF_bd 4)
/-! ===== words ===== -/
theorem xtl_n (c : Nat) : xtl c = nI (xtn c) := rfl
theorem l_wordL {f : SS} {b n c1 : Nat} {k : TS → Prop} (hc1 : c1 < 4) (hx : xtn c1 ≤ 5) (σ : TS) :
    ∀ (ws : List Int32) (j a : Nat) (σ1 : TS), (∀ w ∈ ws, w ≠ -1) → xtn c1 = j + ws.length → (∀ i w, ws[i]? = some w → xtc c1 (j + i) = w) → pS σ1 b n f → tP σ σ1 → σ1.1 0 11 = nI a → a ≤ n → σ1.1 0 14 = 0 →
      (∀ p σ', pWord f n ws a = .inl p → tP σ σ' → σ'.1 0 14 = 1 → σ'.1 0 11 = nI p → k σ') →
      (∀ q σ', pWord f n ws a = .inr q → tP σ σ' → σ'.1 0 14 = 0 → σ'.1 0 11 = nI q.1 → k σ') → tw_readsWord_L2 c1 k (ws.length + 1) c1 (nI j) σ1 := by
  intro ws
  induction ws with
  | nil =>
    intro j a σ1 _ hlen _ hP hT ha han hw hI hR
    rw [tw_readsWord_L2, xtl_n]
    rw [List.length_nil] at hlen
    exact ⟨hc1, br1 (by rw [hlen, Nat.add_zero]; exact (nI_leI (by omega) (by omega)).mpr (Nat.le_refl _)) (hR (a, ()) σ1 rfl hT hw ha)⟩
  | cons w ws ih =>
    intro j a σ1 hne hlen hch hP hT ha han hw hI hR
    rw [tw_readsWord_L2, xtl_n]
    rw [List.length_cons] at hlen
    refine ⟨hc1, br0 (fun c => by have := (nI_leI (by omega) (by omega)).mp c; omega) ⟨hc1, vp_in_nI (by omega) (by omega), ?_⟩⟩
    rw [nI_clamp (by omega), show xtc c1 j = w from hch 0 w rfl]
    refine l_takes hP ha han hw (fun σ3 hc t3 w3 p3 => ?_) (fun σ3 hc t3 w3 p3 => ?_)
    · refine bn1 (by decide) ?_
      intro x hx1
      subst hx1
      rw [nI_1]
      have hlt := hereS_eq hc (hne w List.mem_cons_self)
      have ep : pWord f n (w :: ws) a = pWord f n ws (a + 1) := by rw [pWord, if_pos hc]
      rw [ep] at hI hR
      exact ih (j + 1) (a + 1) σ3 (fun v hv => hne v (List.mem_cons_of_mem _ hv)) (by omega) (fun i v hi => by rw [show j + 1 + i = j + (i + 1) by omega]; exact hch (i + 1) v (by rw [List.getElem?_cons_succ]; exact hi)) (hP.mv t3) (hT.tr t3) p3 (by omega) w3 hI hR
    · refine bn0 rfl ?_
      exact hI a σ3 (by rw [pWord, if_neg hc]) (hT.tr t3) w3 p3
def xws (c1 : Nat) : List Int32 := match c1 with
  | 0 => [97, 107, 101, 32]
  | 1 => [111, 114, 101, 32]
  | 2 => [111, 108, 100, 32]
  | _ => [101, 101, 32]
theorem xws_ok : ∀ c1, c1 < 4 → (∀ w ∈ xws c1, w ≠ -1) ∧ xtn c1 = 1 + (xws c1).length ∧ xtn c1 ≤ 5 ∧ ∀ i w, (xws c1)[i]? = some w → xtc c1 (1 + i) = w := by
  intro c1 h
  have key : ∀ c1 : Fin 4, (∀ w ∈ xws c1, w ≠ -1) ∧ xtn c1 = 1 + (xws c1).length ∧ xtn c1 ≤ 5 ∧ ∀ i : Fin 5, ∀ w ∈ xws c1, (xws c1)[i.val]? = some w → xtc c1 (1 + i.val) = w := by decide +kernel
  obtain ⟨k1, k2, k3, k4⟩ := key ⟨c1, h⟩
  refine ⟨k1, k2, k3, fun i w hi => ?_⟩
  have hlt : i < (xws c1).length := (List.getElem?_eq_some_iff.mp hi).1
  have k2' : xtn c1 = 1 + (xws c1).length := k2
  have k3' : xtn c1 ≤ 5 := k3
  exact k4 ⟨i, by omega⟩ w (List.mem_of_getElem? hi) hi
theorem l_word {σ : TS} {f : SS} {b n a c1 : Nat} {k : TS → Prop} (hc1 : c1 < 4) (hP : pS σ b n f) (ha : σ.1 0 11 = nI a) (han : a ≤ n) (hw : σ.1 0 14 = 0)
    (hI : ∀ p σ', pWord f n (xws c1) a = .inl p → tP σ σ' → σ'.1 0 14 = 1 → σ'.1 0 11 = nI p → k σ')
    (hR : ∀ q σ', pWord f n (xws c1) a = .inr q → tP σ σ' → σ'.1 0 14 = 0 → σ'.1 0 11 = nI q.1 → k σ') : tw_readsWord σ c1 k := by
  obtain ⟨k1, k2, k3, k4⟩ := xws_ok c1 hc1
  exact ⟨_, l_wordL hc1 k3 σ (xws c1) 1 a σ k1 k2 k4 hP tP.rf ha han hw hI hR⟩
