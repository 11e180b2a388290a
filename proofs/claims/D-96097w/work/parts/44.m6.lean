/-! PLAIN: acts: the twin; act itself -/
set_option maxRecDepth 100000
def uA (σ : TS) (p : Nat × SS) : Prop := σ.1 0 29 = nI p.1 ∧ σ.1 13 = p.2
def uF (σ σ' : TS) : Prop := (∀ c, 1 ≤ c → c ≠ 13 → σ'.1 c = σ.1 c) ∧ σ'.2 = σ.2 ∧ ∀ i, i ≠ 29 → σ'.1 0 i = σ.1 0 i
theorem uF.tr {σ σ1 σ2 : TS} (h : uF σ σ1) (h' : uF σ1 σ2) : uF σ σ2 := ⟨fun c a b => (h'.1 c a b).trans (h.1 c a b), h'.2.1.trans h.2.1, fun i a => (h'.2.2 i a).trans (h.2.2 i a)⟩
/-- the loaf whose act it is -/
def uO (σ : TS) (l kd : Nat) (v : Int32) : Prop := σ.1 0 30 = nI l ∧ l < 6 ∧ σ.1 1 (8 + 10 * l) = nI kd ∧ kd ≤ 6 ∧ σ.1 1 (8 + 10 * l + 1) = v
theorem uO.mv {σ σ' : TS} {l kd : Nat} {v : Int32} (h : uO σ l kd v) (f : uF σ σ') : uO σ' l kd v := by
  unfold uO
  rw [f.2.2 30 (by omega), f.1 1 (by omega) (by omega)]
  exact h
def uE (l kd : Nat) (v : Int32) (W : TS → Int32 → (Int32 → TS → Prop) → Prop) (F : EF) : Prop := ∀ (σ : TS) (p : Nat × SS) (x : Int32) (k : Int32 → TS → Prop), uO σ l kd v → uA σ p → p.1 + (F x).2.length ≤ 1000 → (∀ σ', uF σ σ' → uA σ' (rnN (F x).2 p) → k (F x).1 σ') → W σ x k
section U
variable {σ : TS} {l kd : Nat} {v : Int32}
theorem u_runs {b : Int32} {p : Nat × SS} {k : TS → Prop} (A : uA σ p) (hp : p.1 ≤ 1000) (h : ∀ σ', uF σ σ' → uA σ' (rn b p) → k σ') : tw_runs σ b k := by
  obtain ⟨a1, a2⟩ := A
  unfold tw_runs tw_runs_J19
  rw [a1]
  refine ⟨fun c => ?_, fun c => ⟨?_, ?_⟩⟩
  · have hc : 20 ≤ p.1 := (nI_leI (a := 20) (by omega) (by omega)).mp c
    rw [nI_1]
    refine h _ ⟨fun c a b => sA_ne (by omega), rfl, fun i a => sA_w a⟩ ⟨sA_v, ?_⟩
    rw [sA_ne (by omega), a2]
    exact (if_neg (by omega)).symm
  · have hc : ¬ 20 ≤ p.1 := fun z => c ((nI_leI (a := 20) (by omega) (by omega)).mpr z)
    exact vp_in_nI (by omega) (by omega)
  · have hc : ¬ 20 ≤ p.1 := fun z => c ((nI_leI (a := 20) (by omega) (by omega)).mpr z)
    rw [nI_clamp (by omega), sA_ne (by omega), a1, nI_1]
    refine h _ ⟨fun c a b => by rw [sA_ne (by omega), sA_ne b], rfl, fun i a => by rw [sA_w a, sA_ne (by omega)]⟩ ⟨sA_v, ?_⟩
    rw [sA_ne (by omega), sA_c, a2]
    exact (if_pos (by omega)).symm
/-- a rise, of the kind j's bodies on -/
theorem u_rises {j m : Nat} (hj : j ≤ 6) : uE l kd v (fun σ x k => tf_rises (m + 2) σ (nI j) x k) (FR j (nI l) v) := by
  intro σ p x k O A hp h
  -- the plain one
  have pl : ∀ (m : Nat) (σ : TS) (p : Nat × SS) (i : Nat) (x : Int32) (k : Int32 → TS → Prop), (i = 0 ∨ i = 1 ∨ i = 3) → uO σ l kd v → uA σ p → p.1 + 1 ≤ 1000 → (∀ σ', uF σ σ' → uA σ' (rn 10 p) → k (x + nI l) σ') → tf_rises (m + 1) σ (nI i) x k := by
    intro m σ p i x k hi O A hp h
    rw [tf_rises]
    unfold tb_rises
    have F : tw_runs σ 10 (fun s90 => k ((x + (s90.1 0 30))) s90) := u_runs A (by omega) (fun σ1 f1 A1 => by rw [(O.mv f1).1]; exact h σ1 f1 A1)
    rcases hi with rfl | rfl | rfl
    · exact ⟨fun c => absurd c (by decide), fun c => absurd c (by decide), fun c => absurd c (by decide), fun c => absurd c (by decide), fun _ _ _ _ => F⟩
    · exact ⟨fun c => absurd c (by decide), fun c => absurd c (by decide), fun c => absurd c (by decide), fun c => absurd c (by decide), fun _ _ _ _ => F⟩
    · exact ⟨fun c => absurd c (by decide), fun c => absurd c (by decide), fun c => absurd c (by decide), fun c => absurd c (by decide), fun _ _ _ _ => F⟩
  have g30 : p.1 + 2 ≤ 1000 → (∀ σ', uF σ σ' → uA σ' (rnN [30, 10] p) → k (x * 3 + nI l) σ') → tb_rises_J72 (tf_rises (m + 1)) k x σ := by
    intro hp h
    unfold tb_rises_J72
    exact u_runs A (by omega) (fun σ1 f1 A1 => pl m σ1 _ 0 _ _ (Or.inl rfl) (O.mv f1) A1 (by show p.1 + 1 + 1 ≤ 1000; omega) (fun σ2 f2 A2 => h σ2 (f1.tr f2) A2))
  rcases (show j = 0 ∨ j = 1 ∨ j = 2 ∨ j = 3 ∨ j = 4 ∨ j = 5 ∨ j = 6 by omega) with rfl | rfl | rfl | rfl | rfl | rfl | rfl
  · exact pl (m + 1) σ p 0 x k (by omega) O A hp h
  · exact pl (m + 1) σ p 1 x k (by omega) O A hp h
  · show tf_rises (m + 2) σ (nI 2) x k
    rw [tf_rises]
    unfold tb_rises
    exact ⟨fun _ => g30 hp h, fun c => absurd c (by decide), fun c => absurd c (by decide), fun c => absurd c (by decide), fun c => absurd rfl c⟩
  · exact pl (m + 1) σ p 3 x k (by omega) O A hp h
  · show tf_rises (m + 2) σ (nI 4) x k
    rw [tf_rises]
    unfold tb_rises
    have hp : p.1 + 2 ≤ 1000 := hp
    refine ⟨fun c => absurd c (by decide), fun _ => u_runs A (by omega) (fun σ1 f1 A1 => ?_), fun c => absurd c (by decide), fun c => absurd c (by decide), fun _ c => absurd rfl c⟩
    exact pl m σ1 _ 1 _ _ (by omega) (O.mv f1) A1 (by show p.1 + 1 + 1 ≤ 1000; omega) (fun σ2 f2 A2 => h σ2 (f1.tr f2) A2)
  · show tf_rises (m + 2) σ (nI 5) x k
    rw [tf_rises]
    unfold tb_rises
    exact ⟨fun c => absurd c (by decide), fun c => absurd c (by decide), fun _ => g30 hp h, fun c => absurd c (by decide), fun _ _ c => absurd rfl c⟩
  · show tf_rises (m + 2) σ (nI 6) x k
    rw [tf_rises]
    unfold tb_rises
    have hp : p.1 + 2 ≤ 1000 := hp
    refine ⟨fun c => absurd c (by decide), fun c => absurd c (by decide), fun c => absurd c (by decide), fun _ => u_runs A (by omega) (fun σ1 f1 A1 => ?_), fun _ _ _ c => absurd rfl c⟩
    refine pl m σ1 _ 3 _ _ (by omega) (O.mv f1) A1 (by show p.1 + 1 + 1 ≤ 1000; omega) (fun σ2 f2 A2 => ?_)
    obtain ⟨o1, o2, o3, o4, o5⟩ := O.mv (f1.tr f2)
    rw [o1]
    refine l_number o2 ?_
    rw [o5]
    exact h σ2 (f1.tr f2) A2
/-- bakes with the loaf's own rise -/
theorem u_LB {i m : Nat} (hi : i = 0 ∨ i = 2 ∨ i = 3 ∨ i = 5) : uE l kd v (fun σ x k => tf_bakesFrom (m + 1) σ (nI i) x k) (LB kd (nI l) v) := by
  intro σ p x k O A hp h
  show tf_bakesFrom (m + 1) σ (nI i) x k
  rw [tf_bakesFrom]
  unfold tb_bakesFrom
  have hp : p.1 + ((FR kd (nI l) v x).2.length + 1) ≤ 1000 := hp
  have F : tw_runs σ 11 (fun s92 => tw_kind s92 ((s92.1 0 30)) (fun r101 s101 => tw_rises s101 r101 x (fun r105 s105 => tw_number s105 ((s105.1 0 30)) (fun r113 s113 => k ((r105 - r113)) s113)))) := by
    refine u_runs A (by omega) (fun σ1 f1 A1 => ?_)
    obtain ⟨o1, o2, o3, o4, o5⟩ := O.mv f1
    rw [o1]
    refine l_kind o2 ?_
    rw [o3]
    refine u_rises (m := 2) o4 σ1 _ x _ (O.mv f1) A1 (by show p.1 + 1 + _ ≤ 1000; omega) (fun σ2 f2 A2 => ?_)
    obtain ⟨q1, q2, q3, q4, q5⟩ := O.mv (f1.tr f2)
    rw [q1]
    refine l_number q2 ?_
    rw [q5]
    exact h σ2 (f1.tr f2) A2
  rcases hi with rfl | rfl | rfl | rfl <;> exact ⟨fun c => absurd c (by decide), fun c => absurd c (by decide), fun c => absurd c (by decide), fun _ _ _ => F⟩
theorem u_CB {m : Nat} : uE l kd v (fun σ x k => tf_bakesFrom (m + 2) σ (nI 1) x k) (CB kd (nI l) v) := by
  intro σ p x k O A hp h
  show tf_bakesFrom (m + 2) σ (nI 1) x k
  rw [tf_bakesFrom]
  unfold tb_bakesFrom
  have hp : p.1 + ((LB kd (nI l) v x).2.length + 1) ≤ 1000 := hp
  refine ⟨fun _ => u_runs A (by omega) (fun σ1 f1 A1 => ?_), fun c => absurd c (by decide), fun c => absurd c (by decide), fun c => absurd rfl c⟩
  exact u_LB (i := 0) (m := m) (Or.inl rfl) σ1 _ x _ (O.mv f1) A1 (by show p.1 + 1 + _ ≤ 1000; omega) (fun σ2 f2 A2 => h σ2 (f1.tr f2) A2)
theorem u_FB {m : Nat} (hk : kd ≤ 6) : uE l kd v (fun σ x k => tf_bakesFrom (m + 3) σ (nI kd) x k) (FB kd (nI l) v) := by
  rcases (show kd = 0 ∨ kd = 1 ∨ kd = 2 ∨ kd = 3 ∨ kd = 4 ∨ kd = 5 ∨ kd = 6 by omega) with rfl | rfl | rfl | rfl | rfl | rfl | rfl
  · exact u_LB (i := 0) (m := m + 2) (by omega)
  · exact u_CB (m := m + 1)
  · exact u_LB (i := 2) (m := m + 2) (by omega)
  · exact u_LB (i := 3) (m := m + 2) (by omega)
  · intro σ p x k O A hp h
    show tf_bakesFrom (m + 3) σ (nI 4) x k
    rw [tf_bakesFrom]
    unfold tb_bakesFrom
    have hp : p.1 + ((CB 4 (nI l) v (x + 1)).2.length + 1) ≤ 1000 := hp
    refine ⟨fun c => absurd c (by decide), fun _ => u_runs A (by omega) (fun σ1 f1 A1 => ?_), fun c => absurd c (by decide), fun _ c => absurd rfl c⟩
    exact u_CB (m := m) σ1 _ (x + 1) _ (O.mv f1) A1 (by show p.1 + 1 + _ ≤ 1000; omega) (fun σ2 f2 A2 => h σ2 (f1.tr f2) A2)
  · exact u_LB (i := 5) (m := m + 2) (by omega)
  · intro σ p x k O A hp h
    show tf_bakesFrom (m + 3) σ (nI 6) x k
    rw [tf_bakesFrom]
    unfold tb_bakesFrom
    have hp : p.1 + (((LB 6 (nI l) v x).2 ++ [10]).length + 1) ≤ 1000 := hp
    rw [List.length_append, List.length_singleton] at hp
    refine ⟨fun c => absurd c (by decide), fun c => absurd c (by decide), fun _ => u_runs A (by omega) (fun σ1 f1 A1 => ?_), fun _ _ c => absurd rfl c⟩
    refine u_LB (i := 3) (m := m + 1) (by omega) σ1 _ x _ (O.mv f1) A1 (by show p.1 + 1 + _ ≤ 1000; omega) (fun σ2 f2 A2 => ?_)
    refine u_rises (j := 3) (m := 2) (by omega) σ2 _ 2 _ (O.mv (f1.tr f2)) A2 (by rw [rnN_1]; show p.1 + 1 + _ + 1 ≤ 1000; omega) (fun σ3 f3 A3 => h σ3 ((f1.tr f2).tr f3) ?_)
    show uA σ3 (rnN ((LB 6 (nI l) v x).2 ++ [10]) (rn 70 p))
    rw [rnN_app]
    exact A3
theorem u_LT {i m : Nat} (hk : kd ≤ 6) (hi : i = 0 ∨ i = 1 ∨ i = 2 ∨ i = 4) : uE l kd v (fun σ x k => tf_tells (m + 1) σ (nI i) x k) (LT kd (nI l) v) := by
  intro σ p x k O A hp h
  show tf_tells (m + 1) σ (nI i) x k
  rw [tf_tells]
  unfold tb_tells
  have hp : p.1 + ((FB kd (nI l) v x).2.length + 1) ≤ 1000 := hp
  have F : tw_runs σ 12 (fun s82 => tw_kind s82 ((s82.1 0 30)) (fun r91 s91 => tw_bakesFrom s91 r91 x (fun r95 s95 => k ((r95 * 2)) s95))) := by
    refine u_runs A (by omega) (fun σ1 f1 A1 => ?_)
    obtain ⟨o1, o2, o3, o4, o5⟩ := O.mv f1
    rw [o1]
    refine l_kind o2 ?_
    rw [o3]
    exact u_FB (m := 2) hk σ1 _ x _ (O.mv f1) A1 (by show p.1 + 1 + _ ≤ 1000; omega) (fun σ2 f2 A2 => h σ2 (f1.tr f2) A2)
  rcases hi with rfl | rfl | rfl | rfl <;> exact ⟨fun c => absurd c (by decide), fun c => absurd c (by decide), fun c => absurd c (by decide), fun _ _ _ => F⟩
theorem u_seq {m : Nat} {k : Int32 → TS → Prop} {x : Int32} {p : Nat × SS} (hk : kd ≤ 6) (O : uO σ l kd v) (A : uA σ p) (hp : p.1 + ((LT kd (nI l) v x).2.length + (FB kd (nI l) v 1).2.length + 1) ≤ 1000) (h : ∀ σ', uF σ σ' → uA σ' (rnN (40 :: ((LT kd (nI l) v x).2 ++ (FB kd (nI l) v 1).2)) p) → k ((LT kd (nI l) v x).1 + (FB kd (nI l) v 1).1) σ') : tb_tells_J50 (tf_tells (m + 1)) k x σ := by
  unfold tb_tells_J50
  refine u_runs A (by omega) (fun σ1 f1 A1 => ?_)
  refine u_LT (i := 0) (m := m) hk (Or.inl rfl) σ1 _ x _ (O.mv f1) A1 (by show p.1 + 1 + _ ≤ 1000; omega) (fun σ2 f2 A2 => ?_)
  obtain ⟨o1, o2, o3, o4, o5⟩ := O.mv (f1.tr f2)
  rw [o1]
  refine l_kind o2 ?_
  rw [o3]
  refine u_FB (m := 2) hk σ2 _ 1 _ (O.mv (f1.tr f2)) A2 (by rw [rnN_1]; show p.1 + 1 + _ + _ ≤ 1000; omega) (fun σ3 f3 A3 => h σ3 ((f1.tr f2).tr f3) ?_)
  show uA σ3 (rnN ((LT kd (nI l) v x).2 ++ (FB kd (nI l) v 1).2) (rn 40 p))
  rw [rnN_app]
  exact A3
theorem u_FT {m : Nat} (hk : kd ≤ 6) : uE l kd v (fun σ x k => tf_tells (m + 2) σ (nI kd) x k) (FT kd (nI l) v) := by
  rcases (show kd = 0 ∨ kd = 1 ∨ kd = 2 ∨ kd = 3 ∨ kd = 4 ∨ kd = 5 ∨ kd = 6 by omega) with rfl | rfl | rfl | rfl | rfl | rfl | rfl
  · exact u_LT (i := 0) (m := m + 1) hk (by omega)
  · exact u_LT (i := 1) (m := m + 1) hk (by omega)
  · exact u_LT (i := 2) (m := m + 1) hk (by omega)
  · intro σ p x k O A hp h
    show tf_tells (m + 2) σ (nI 3) x k
    rw [tf_tells]
    unfold tb_tells
    have hp : p.1 + (((LT 3 (nI l) v x).2 ++ (FB 3 (nI l) v 1).2).length + 1) ≤ 1000 := hp
    rw [List.length_append] at hp
    exact ⟨fun _ => u_seq hk O A (by omega) h, fun c => absurd c (by decide), fun c => absurd c (by decide), fun c => absurd rfl c⟩
  · exact u_LT (i := 4) (m := m + 1) hk (by omega)
  · intro σ p x k O A hp h
    show tf_tells (m + 2) σ (nI 5) x k
    rw [tf_tells]
    unfold tb_tells
    have hp : p.1 + ((LT 5 (nI l) v (x - nI l)).2.length + 1) ≤ 1000 := hp
    refine ⟨fun c => absurd c (by decide), fun _ => u_runs A (by omega) (fun σ1 f1 A1 => ?_), fun c => absurd c (by decide), fun _ c => absurd rfl c⟩
    rw [(O.mv f1).1]
    exact u_LT (i := 2) (m := m) hk (by omega) σ1 _ (x - nI l) _ (O.mv f1) A1 (by show p.1 + 1 + _ ≤ 1000; omega) (fun σ2 f2 A2 => h σ2 (f1.tr f2) A2)
  · intro σ p x k O A hp h
    show tf_tells (m + 2) σ (nI 6) x k
    rw [tf_tells]
    unfold tb_tells
    have hp : p.1 + (((LT 6 (nI l) v x).2 ++ (FB 6 (nI l) v 1).2).length + 1) ≤ 1000 := hp
    rw [List.length_append] at hp
    exact ⟨fun c => absurd c (by decide), fun c => absurd c (by decide), fun _ => u_seq hk O A (by omega) h, fun _ _ c => absurd rfl c⟩
end U
section Q
variable {T : xT} {q : Nat → Nat} {ω : CS} {σ : TS} {κ κi : KD}
theorem Rel.act {ω' : CS} {σ' : TS} (H : Rel T q ω σ κ κi) (g : gF ω ω') (T1 : ∀ c, 1 ≤ c → c ≠ 13 → σ'.1 c = σ.1 c) (t2 : σ'.2 = σ.2) (t0 : ∀ i, i ≠ 29 → i ≠ 30 → σ'.1 0 i = σ.1 0 i) {p p' : Nat × SS} (A : gA ω' p) (A' : uA σ' p') (e : rnE p p') (hp : p.1 ≤ 1000) : Rel T q ω' σ' κ κi := by
  obtain ⟨h1, h2, h3, h4, h5, h6⟩ := Rel.iff.mp H
  have z := cZ.of g.2.1
  have G := g.2.2
  have g0 : ω'.1.1 0 = ω.1.1 0 := G 0 (by omega) (by omega)
  refine Rel.iff.mpr ⟨?_, ?_, ?_, ?_, ?_, ?_⟩
  · exact h1.mv z (T1 1 (by omega) (by omega)) (T1 3 (by omega) (by omega)) (T1 5 (by omega) (by omega)) (T1 6 (by omega) (by omega)) (by rw [g.1]) (by rw [g.1]) (fun c hc => G c (by omega) (by omega)) (by rw [g0]) (by rw [g0])
  · exact h2.mv z (T1 2 (by omega) (by omega)) (T1 5 (by omega) (by omega)) (T1 6 (by omega) (by omega)) (t0 3 (by omega) (by omega)) (by rw [g.1]) (by rw [g.1]) (fun c hc => G c (by omega) (by omega)) (by rw [g0]) (by rw [g0])
  · exact h3.mv z (by rw [g.1])
  · exact h4.mv (t0 7 (by omega) (by omega)) (t0 8 (by omega) (by omega)) (T1 4 (by omega) (by omega)) (by rw [T1 1 (by omega) (by omega)]) (by rw [T1 2 (by omega) (by omega)]) (by rw [g0]) (by rw [g0]) (G 24 (by omega) (by omega))
  · refine ⟨p.1, hp, by rw [A'.1, e.1], A.1, fun i h1 h2 => ?_⟩
    rw [A.2, A'.2]
    exact e.2 i h1 h2
  · exact h6.mv (T1 10 (by omega) (by omega)) (T1 11 (by omega) (by omega)) t2 (fun i _ => by rw [g.1]) (fun i a hi e => by rw [g.2.1]; exact ⟨h6.of i a hi e, rfl⟩)
theorem FR_len {kd : Nat} {n v x : Int32} (hk : kd ≤ 6) : (FR kd n v x).2.length ≤ 2 := by
  rcases (show kd = 0 ∨ kd = 1 ∨ kd = 2 ∨ kd = 3 ∨ kd = 4 ∨ kd = 5 ∨ kd = 6 by omega) with rfl | rfl | rfl | rfl | rfl | rfl | rfl <;> exact Nat.le_of_ble_eq_true rfl
theorem LB_len {kd : Nat} {n v x : Int32} (hk : kd ≤ 6) : (LB kd n v x).2.length ≤ 3 := by
  show (FR kd n v x).2.length + 1 ≤ 3
  have := FR_len (n := n) (v := v) (x := x) hk
  omega
theorem FB_len {kd : Nat} {n v x : Int32} (hk : kd ≤ 6) : (FB kd n v x).2.length ≤ 5 := by
  rcases (show kd = 0 ∨ kd = 1 ∨ kd = 2 ∨ kd = 3 ∨ kd = 4 ∨ kd = 5 ∨ kd = 6 by omega) with rfl | rfl | rfl | rfl | rfl | rfl | rfl
  · have := LB_len (n := n) (v := v) (x := x) hk; show (LB 0 n v x).2.length ≤ 5; omega
  · have := LB_len (n := n) (v := v) (x := x) hk; show (LB 1 n v x).2.length + 1 ≤ 5; omega
  · have := LB_len (n := n) (v := v) (x := x) hk; show (LB 2 n v x).2.length ≤ 5; omega
  · have := LB_len (n := n) (v := v) (x := x) hk; show (LB 3 n v x).2.length ≤ 5; omega
  · have := LB_len (n := n) (v := v) (x := x + 1) hk; show (LB 4 n v (x + 1)).2.length + 1 + 1 ≤ 5; omega
  · have := LB_len (n := n) (v := v) (x := x) hk; show (LB 5 n v x).2.length ≤ 5; omega
  · have := LB_len (n := n) (v := v) (x := x) hk; show ((LB 6 n v x).2 ++ [10]).length + 1 ≤ 5; rw [List.length_append, List.length_singleton]; omega
theorem LT_len {kd : Nat} {n v x : Int32} (hk : kd ≤ 6) : (LT kd n v x).2.length ≤ 6 := by
  show (FB kd n v x).2.length + 1 ≤ 6
  have := FB_len (n := n) (v := v) (x := x) hk
  omega
theorem FT_len {kd : Nat} {n v x : Int32} (hk : kd ≤ 6) : (FT kd n v x).2.length ≤ 12 := by
  rcases (show kd = 0 ∨ kd = 1 ∨ kd = 2 ∨ kd = 3 ∨ kd = 4 ∨ kd = 5 ∨ kd = 6 by omega) with rfl | rfl | rfl | rfl | rfl | rfl | rfl
  · have := LT_len (n := n) (v := v) (x := x) hk; show (LT 0 n v x).2.length ≤ 12; omega
  · have := LT_len (n := n) (v := v) (x := x) hk; show (LT 1 n v x).2.length ≤ 12; omega
  · have := LT_len (n := n) (v := v) (x := x) hk; show (LT 2 n v x).2.length ≤ 12; omega
  · have := LT_len (n := n) (v := v) (x := x) hk; have := FB_len (n := n) (v := v) (x := 1) hk; show ((LT 3 n v x).2 ++ (FB 3 n v 1).2).length + 1 ≤ 12; rw [List.length_append]; omega
  · have := LT_len (n := n) (v := v) (x := x) hk; show (LT 4 n v x).2.length ≤ 12; omega
  · have := LT_len (n := n) (v := v) (x := x - n) hk; show (LT 5 n v (x - n)).2.length + 1 ≤ 12; omega
  · have := LT_len (n := n) (v := v) (x := x) hk; have := FB_len (n := n) (v := v) (x := 1) hk; show ((LT 6 n v x).2 ++ (FB 6 n v 1).2).length + 1 ≤ 12; rw [List.length_append]; omega
theorem J_act (H : Rel T q ω σ κ κi) (x1 x2 x3 : Int32) : JM T q ω σ (tw_act σ x1 x2 x3) (cw_act T q ω x1 x2 x3) := by
  have hx := H.1.ok
  have HC := H.1.c
  have h6 := (mOf_le hx).1
  unfold tw_act cw_act
  have u0 : uA (sA σ 0 29 0) (0, σ.1 13) := ⟨sA_v, sA_ne (by omega)⟩
  have c0 : gA (cA ω 26 1 0) (0, ω.1.1 27) := ⟨cA_v, cA_ne (by omega)⟩
  have s1 : (sA σ 0 29 0).1 1 = σ.1 1 := sA_ne (by omega)
  have d3 : (cA ω 26 1 0).1.1 0 3 = σ.1 1 5 := by rw [cA_ne (by omega)]; exact HC.1.1
  have gF0 : gF ω (cA ω 26 1 0) := ⟨rfl, rfl, fun c a _ => cA_ne a⟩
  -- nothing acts
  have no : ∀ (hT : ∀ k : Int32 → TS → Prop, k 0 (sA σ 0 29 0) → tw_act σ x1 x2 x3 k) (hC : ∀ k : Int32 → CS → Prop, k 0 (cA ω 26 1 0) → cw_act T q ω x1 x2 x3 k), JM T q ω σ (tw_act σ x1 x2 x3) (cw_act T q ω x1 x2 x3) := fun hT hC => ⟨0, fun σ' => σ' = sA σ 0 29 0, fun ω' => ω' = cA ω 26 1 0, fun k h => hT k (h _ rfl), fun k h => hC k (h _ rfl), fun σ' ω' t g => ⟨κ, κi, by
    subst t g
    exact H.act gF0 (fun c a b => sA_ne (by omega)) rfl (fun i a _ => sA_w a) c0 u0 ⟨rfl, fun i h1 _ => absurd h1 (Nat.not_lt_zero _)⟩ (by show 0 ≤ 1000; omega)⟩⟩
  by_cases hl : ∃ l : Nat, l < mOf (σ.1 1) ∧ x1 = nI l
  · obtain ⟨l, hl, rfl⟩ := hl
    have hl6 : l < 6 := by omega
    by_cases hw : 0 ≤ x2 ∧ x2 ≤ 2
    · obtain ⟨a, ha, hlof⟩ := HC.1.2.2.2.1 l hl
      have hkd := hlof.1
      obtain ⟨j, hj, ej⟩ := (hx.2.2.2 l hl6).1
      have ekd : σ.1 1 (8 + 10 * l) = nI (aKd (σ.1 1) l) := by unfold aKd; rw [ej, nI_clamp (by omega)]
      generalize aKd (σ.1 1) l = kd at hlof hkd ekd
      generalize hv : σ.1 1 (8 + 10 * l + 1) = v at hlof
      have O : uO (sA (sA σ 0 29 0) 0 30 (nI l)) l kd v := ⟨sA_v, hl6, by rw [sA_ne (by omega), s1]; exact ekd, hkd, by rw [sA_ne (by omega), s1]; exact hv⟩
      have u1 : uA (sA (sA σ 0 29 0) 0 30 (nI l)) (0, σ.1 13) := ⟨by rw [sA_w (by omega)]; exact sA_v, by rw [sA_ne (by omega), sA_ne (by omega)]⟩
      have l0 : lofR q (cA ω 26 1 0) a kd (nI l) v := lofR_mv rfl hlof
      have ha0 : (cA ω 26 1 0).1.2 1 l = some a := ha
      have fin : ∀ (F : EF) (W : TS → Int32 → (Int32 → TS → Prop) → Prop) (V : CS → Int32 → (Int32 → CS → Prop) → Prop), (F x3).2.length ≤ 12 → uE l kd v W F → gE q a kd (nI l) v V F →
          (∀ k : Int32 → TS → Prop, W (sA (sA σ 0 29 0) 0 30 (nI l)) x3 k → tw_act σ (nI l) x2 x3 k) → (∀ k : Int32 → CS → Prop, V (cA ω 26 1 0) x3 k → cw_act T q ω (nI l) x2 x3 k) → JM T q ω σ (tw_act σ (nI l) x2 x3) (cw_act T q ω (nI l) x2 x3) := by
        intro F W V hF hW hV h1 h2
        refine ⟨(F x3).1, fun σ' => uF (sA (sA σ 0 29 0) 0 30 (nI l)) σ' ∧ uA σ' (rnN (F x3).2 (0, σ.1 13)), fun ω' => gF (cA ω 26 1 0) ω' ∧ gA ω' (rnN (F x3).2 (0, ω.1.1 27)), fun k h => h1 k (hW _ _ x3 k O u1 (by show 0 + _ ≤ 1000; omega) (fun σ' f A => h σ' ⟨f, A⟩)), fun k h => h2 k (hV _ _ x3 k l0 c0 (by show 0 + _ ≤ 1000; omega) (fun ω' f A => h ω' ⟨f, A⟩)), fun σ' ω' t g => ⟨κ, κi, ?_⟩⟩
        refine H.act (gF0.tr g.1) (fun c a b => by rw [t.1.1 c a b, sA_ne (by omega), sA_ne (by omega)]) t.1.2.1 (fun i a b => by rw [t.1.2.2 i a, sA_w b, sA_w a]) g.2 t.2 (rnE_N _ _ _ ⟨rfl, fun i h1 _ => absurd h1 (Nat.not_lt_zero _)⟩) ?_
        rw [rnN_1]
        show 0 + _ ≤ 1000
        omega
      have tw0 : ∀ k : Int32 → TS → Prop, (∀ w31 : TS, w31 = sA (sA σ 0 29 0) 0 30 (nI l) → tw_kind w31 (nI l) (fun r31 s31 => (¬ x2 = 0 → (¬ x2 = 1 → tw_tells s31 r31 x3 (fun r69 s69 => k r69 s69)) ∧ (x2 = 1 → tw_bakesFrom s31 r31 x3 (fun r59 s59 => k r59 s59))) ∧ (x2 = 0 → tw_rises s31 r31 x3 (fun r44 s44 => k r44 s44)))) → tw_act σ (nI l) x2 x3 k := by
        intro k h
        unfold tw_act
        intro w hw'
        subst hw'
        exact l_loafT (by rw [s1]; exact hx) (by rw [s1]; exact hl) (br0 (by decide) (p_T hw (bn1 (by decide) h)))
      have kd0 : ∀ (k : Int32 → TS → Prop) (w31 : TS), w31 = sA (sA σ 0 29 0) 0 30 (nI l) → k (nI kd) w31 → tw_kind w31 (nI l) k := by
        intro k w e h
        refine l_kind hl6 ?_
        rw [e, sA_ne (by omega), s1, ekd, ← e]
        exact h
      obtain ⟨w, hw2, rfl⟩ := (i_rng (n := 2) (by omega)).mp hw
      rcases (show w = 0 ∨ w = 1 ∨ w = 2 by omega) with rfl | rfl | rfl
      · refine fin (FR kd (nI l) v) _ _ (by have := FR_len (n := nI l) (v := v) (x := x3) hkd; omega) (u_rises (j := kd) (m := 2) hkd) (gR (T := T) hkd) (fun k h => tw0 k (fun w31 e => kd0 _ w31 e (bn0 rfl ?_))) (fun k h => ?_)
        · rw [e]; exact h
        · unfold cw_act
          intro w hw'
          subst hw'
          refine c_loafT hx d3 hl (br0 (by decide) (q_T hw (bn1 (by decide) ?_)))
          rw [nI_clamp (by omega)]
          exact ⟨vp_in_nI hl6 (by omega), a, ha0, bn0 rfl ⟨kd, nI l, v, l0, h⟩⟩
      · refine fin (FB kd (nI l) v) _ _ (by have := FB_len (n := nI l) (v := v) (x := x3) hkd; omega) (u_FB (m := 2) hkd) (gB (T := T) hkd) (fun k h => tw0 k (fun w31 e => kd0 _ w31 e (bn1 (by decide) (bn0 rfl ?_)))) (fun k h => ?_)
        · rw [e]; exact h
        · unfold cw_act
          intro w hw'
          subst hw'
          refine c_loafT hx d3 hl (br0 (by decide) (q_T hw (bn1 (by decide) ?_)))
          rw [nI_clamp (by omega)]
          exact ⟨vp_in_nI hl6 (by omega), a, ha0, bn1 (by decide) (bn0 rfl ⟨kd, nI l, v, l0, h⟩)⟩
      · refine fin (FT kd (nI l) v) _ _ (FT_len hkd) (u_FT (m := 2) hkd) (gT (T := T) hkd) (fun k h => tw0 k (fun w31 e => kd0 _ w31 e (bn1 (by decide) (bn1 (by decide) ?_)))) (fun k h => ?_)
        · rw [e]; exact h
        · unfold cw_act
          intro w hw'
          subst hw'
          refine c_loafT hx d3 hl (br0 (by decide) (q_T hw (bn1 (by decide) ?_)))
          rw [nI_clamp (by omega)]
          exact ⟨vp_in_nI hl6 (by omega), a, ha0, bn1 (by decide) (bn1 (by decide) ⟨kd, nI l, v, l0, h⟩)⟩
    · refine no (fun k h => ?_) (fun k h => ?_)
      · unfold tw_act
        intro w hw'
        subst hw'
        exact l_loafT (by rw [s1]; exact hx) (by rw [s1]; exact hl) (br0 (by decide) (p_F hw (bn0 rfl h)))
      · unfold cw_act
        intro w hw'
        subst hw'
        exact c_loafT hx d3 hl (br0 (by decide) (q_F hw (bn0 rfl h)))
  · refine no (fun k h => ?_) (fun k h => ?_)
    · unfold tw_act
      intro w hw'
      subst hw'
      exact l_loafF (by rw [s1]; exact hx) (by rw [s1]; exact hl) (br1 rfl h)
    · unfold cw_act
      intro w hw'
      subst hw'
      exact c_loafF hx d3 hl (br1 rfl h)
end Q
