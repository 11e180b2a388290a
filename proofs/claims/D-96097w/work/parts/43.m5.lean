/-! PLAIN: acts -/
set_option maxRecDepth 100000
/-- a body runs: how many, which -/
def rn (b : Int32) (p : Nat × SS) : Nat × SS := (p.1 + 1, if p.1 < 20 then upd p.2 p.1 b else p.2)
def rnN (bs : List Int32) (p : Nat × SS) : Nat × SS := bs.foldl (fun p b => rn b p) p
theorem rnN_app (a b : List Int32) (p : Nat × SS) : rnN (a ++ b) p = rnN b (rnN a p) := List.foldl_append
theorem rnN_1 : ∀ (bs : List Int32) (p : Nat × SS), (rnN bs p).1 = p.1 + bs.length
  | [], p => rfl
  | b :: bs, p => by
    show (rnN bs (rn b p)).1 = _
    rw [rnN_1 bs, List.length_cons]
    show p.1 + 1 + bs.length = _
    omega
/-- two traces alike -/
def rnE (p p' : Nat × SS) : Prop := p.1 = p'.1 ∧ ∀ i, i < p.1 → i < 20 → p.2 i = p'.2 i
theorem rnE_N : ∀ (bs : List Int32) (p p' : Nat × SS), rnE p p' → rnE (rnN bs p) (rnN bs p')
  | [], _, _, h => h
  | b :: bs, p, p', h => by
    refine rnE_N bs (rn b p) (rn b p') ⟨by show p.1 + 1 = p'.1 + 1; rw [h.1], fun i h1 h2 => ?_⟩
    have h1 : i < p.1 + 1 := h1
    show (if p.1 < 20 then upd p.2 p.1 b else p.2) i = (if p'.1 < 20 then upd p'.2 p'.1 b else p'.2) i
    rw [← h.1]
    by_cases c : p.1 < 20
    · rw [if_pos c, if_pos c]
      by_cases e : i = p.1
      · subst e; rw [pk_us, pk_us]
      · rw [pk_un e, pk_un e]; exact h.2 i (by omega) h2
    · rw [if_neg c, if_neg c]; exact h.2 i (by omega) h2
/-! what the acts of a kind answer, which bodies run -/
abbrev EF : Type := Int32 → Int32 × List Int32
def FR (kd : Nat) (n v : Int32) : EF := fun x => match kd with
  | 2 => (x * 3 + n, [30, 10])
  | 5 => (x * 3 + n, [30, 10])
  | 4 => (-(x + n), [50, 10])
  | 6 => ((x + n) ^^^ v, [71, 10])
  | _ => (x + n, [10])
def LB (kd : Nat) (n v : Int32) : EF := fun x => ((FR kd n v x).1 - v, 11 :: (FR kd n v x).2)
def CB (kd : Nat) (n v : Int32) : EF := fun x => ((LB kd n v x).1 ^^^ 6, 20 :: (LB kd n v x).2)
def FB (kd : Nat) (n v : Int32) : EF := fun x => match kd with
  | 1 => CB 1 n v x
  | 4 => ((CB 4 n v (x + 1)).1, 51 :: (CB 4 n v (x + 1)).2)
  | 6 => ((LB 6 n v x).1 + (2 + n), 70 :: ((LB 6 n v x).2 ++ [10]))
  | k => LB k n v x
def LT (kd : Nat) (n v : Int32) : EF := fun x => ((FB kd n v x).1 * 2, 12 :: (FB kd n v x).2)
def FT (kd : Nat) (n v : Int32) : EF := fun x => match kd with
  | 3 => ((LT 3 n v x).1 + (FB 3 n v 1).1, 40 :: ((LT 3 n v x).2 ++ (FB 3 n v 1).2))
  | 6 => ((LT 6 n v x).1 + (FB 6 n v 1).1, 40 :: ((LT 6 n v x).2 ++ (FB 6 n v 1).2))
  | 5 => ((LT 5 n v (x - n)).1, 60 :: (LT 5 n v (x - n)).2)
  | k => LT k n v x
/-! ===== the component ===== -/
def gA (ω : CS) (p : Nat × SS) : Prop := ω.1.1 26 1 = nI p.1 ∧ ω.1.1 27 = p.2
def gF (ω ω' : CS) : Prop := ω'.1.2 = ω.1.2 ∧ ω'.2 = ω.2 ∧ (∀ c, c ≠ 26 → c ≠ 27 → ω'.1.1 c = ω.1.1 c)
theorem gF.tr {ω ω1 ω2 : CS} (h : gF ω ω1) (h' : gF ω1 ω2) : gF ω ω2 := ⟨h'.1.trans h.1, h'.2.1.trans h.2.1, fun c a b => (h'.2.2 c a b).trans (h.2.2 c a b)⟩
def gE (q : Nat → Nat) (a kd : Nat) (n v : Int32) (W : CS → Int32 → (Int32 → CS → Prop) → Prop) (F : EF) : Prop := ∀ (ω : CS) (p : Nat × SS) (x : Int32) (k : Int32 → CS → Prop), lofR q ω a kd n v → gA ω p → p.1 + (F x).2.length ≤ 1000 → (∀ ω', gF ω ω' → gA ω' (rnN (F x).2 p) → k (F x).1 ω') → W ω x k
section G
variable {T : xT} {q : Nat → Nat} {ω : CS} {a kd : Nat} {n v : Int32}
theorem g_ran {b : Int32} {p : Nat × SS} {k : CS → Prop} (A : gA ω p) (hp : p.1 ≤ 1000) (h : ∀ ω', gF ω ω' → gA ω' (rn b p) → k ω') : ow_ran T q ω b k := by
  obtain ⟨a1, a2⟩ := A
  unfold ow_ran ow_ran_J19
  rw [a1]
  refine ⟨fun c => ?_, fun c => ⟨?_, ?_⟩⟩
  · have hc : 20 ≤ p.1 := (nI_leI (a := 20) (by omega) (by omega)).mp c
    rw [nI_1]
    refine h _ ⟨rfl, rfl, fun c a b => cA_ne a⟩ ⟨cA_v, ?_⟩
    rw [cA_ne (by omega), a2]
    exact (if_neg (by omega)).symm
  · have hc : ¬ 20 ≤ p.1 := fun z => c ((nI_leI (a := 20) (by omega) (by omega)).mpr z)
    exact vp_in_nI (by omega) (by omega)
  · have hc : ¬ 20 ≤ p.1 := fun z => c ((nI_leI (a := 20) (by omega) (by omega)).mpr z)
    rw [nI_clamp (by omega), cA_ne (by omega), a1, nI_1]
    refine h _ ⟨rfl, rfl, fun c a b => by rw [cA_ne a, cA_ne b]⟩ ⟨cA_v, ?_⟩
    rw [cA_ne (by omega), cA_c, a2]
    exact (if_pos (by omega)).symm
theorem g_base (b : Int32) (g : Int32 → Int32) : gE q a kd n v (fun ω x k => lofR q ω a kd n v ∧ ow_ran T q ω b (fun s6 => lofR q s6 a kd n v ∧ k (g x) s6)) (fun x => (g x, [b])) := by
  intro ω p x k hl A hp h
  have hp : p.1 + 1 ≤ 1000 := hp
  exact ⟨hl, g_ran A (by omega) (fun ω1 g1 A1 => ⟨lofR_mv g1.2.1 hl, h ω1 g1 A1⟩)⟩
theorem g_call {V : CS → Int32 → (Int32 → CS → Prop) → Prop} {F : EF} (hV : gE q a kd n v V F) (b : Int32) (f g : Int32 → Int32) : gE q a kd n v (fun ω x k => lofR q ω a kd n v ∧ ow_ran T q ω b (fun s6 => lofR q s6 a kd n v ∧ V s6 (f x) (fun r s => k (g r) s))) (fun x => (g (F (f x)).1, b :: (F (f x)).2)) := by
  intro ω p x k hl A hp h
  have hp : p.1 + ((F (f x)).2.length + 1) ≤ 1000 := hp
  refine ⟨hl, g_ran A (by omega) (fun ω1 g1 A1 => ⟨lofR_mv g1.2.1 hl, hV ω1 _ _ _ (lofR_mv g1.2.1 hl) A1 (by show p.1 + 1 + _ ≤ 1000; omega) (fun ω2 g2 A2 => h ω2 (g1.tr g2) A2)⟩)⟩
theorem g_callL {V : CS → Int32 → (Int32 → CS → Prop) → Prop} {F : EF} (hV : gE q a kd n v V F) (b : Int32) (f g : Int32 → Int32) : gE q a kd n v (fun ω x k => lofR q ω a kd n v ∧ ow_ran T q ω b (fun s6 => lofR q s6 a kd n v ∧ V s6 (f x) (fun r s => lofR q s a kd n v ∧ k (g r) s))) (fun x => (g (F (f x)).1, b :: (F (f x)).2)) := by
  intro ω p x k hl A hp h
  have hp : p.1 + ((F (f x)).2.length + 1) ≤ 1000 := hp
  refine ⟨hl, g_ran A (by omega) (fun ω1 g1 A1 => ⟨lofR_mv g1.2.1 hl, hV ω1 _ _ _ (lofR_mv g1.2.1 hl) A1 (by show p.1 + 1 + _ ≤ 1000; omega) (fun ω2 g2 A2 => ⟨lofR_mv (g1.tr g2).2.1 hl, h ω2 (g1.tr g2) A2⟩)⟩)⟩
theorem g_call2 {V : CS → Int32 → (Int32 → CS → Prop) → Prop} {F : EF} (hV : gE q a kd n v V F) (b : Int32) (f g : Int32 → Int32) : gE q a kd n v (fun ω x k => lofR q ω a kd n v ∧ ow_ran T q ω b (fun s6 => lofR q s6 a kd n v ∧ lofR q s6 a kd n v ∧ V s6 (f x) (fun r s => k (g r) s))) (fun x => (g (F (f x)).1, b :: (F (f x)).2)) := by
  intro ω p x k hl A hp h
  have hp : p.1 + ((F (f x)).2.length + 1) ≤ 1000 := hp
  refine ⟨hl, g_ran A (by omega) (fun ω1 g1 A1 => ⟨lofR_mv g1.2.1 hl, lofR_mv g1.2.1 hl, hV ω1 _ _ _ (lofR_mv g1.2.1 hl) A1 (by show p.1 + 1 + _ ≤ 1000; omega) (fun ω2 g2 A2 => h ω2 (g1.tr g2) A2)⟩)⟩
theorem g_seq {V U : CS → Int32 → (Int32 → CS → Prop) → Prop} {F G : EF} (hV : gE q a kd n v V F) (hU : gE q a kd n v U G) (b y : Int32) : gE q a kd n v (fun ω x k => lofR q ω a kd n v ∧ ow_ran T q ω b (fun s6 => lofR q s6 a kd n v ∧ V s6 x (fun r s => lofR q s a kd n v ∧ U s y (fun r2 s2 => k (r + r2) s2)))) (fun x => ((F x).1 + (G y).1, b :: ((F x).2 ++ (G y).2))) := by
  intro ω p x k hl A hp h
  have hp : p.1 + (((F x).2 ++ (G y).2).length + 1) ≤ 1000 := hp
  rw [List.length_append] at hp
  refine ⟨hl, g_ran A (by omega) (fun ω1 g1 A1 => ⟨lofR_mv g1.2.1 hl, hV ω1 _ _ _ (lofR_mv g1.2.1 hl) A1 (by show p.1 + 1 + _ ≤ 1000; omega) (fun ω2 g2 A2 => ⟨lofR_mv (g1.tr g2).2.1 hl, hU ω2 _ _ _ (lofR_mv (g1.tr g2).2.1 hl) A2 ?_ (fun ω3 g3 A3 => h ω3 ((g1.tr g2).tr g3) ?_)⟩)⟩)⟩
  · rw [rnN_1]
    show p.1 + 1 + _ + _ ≤ 1000
    omega
  · show gA ω3 (rnN ((F x).2 ++ (G y).2) (rn b p))
    rw [rnN_app]
    exact A3
theorem gR0 : gE q a 0 n v (lw_Loaf_rises_0 T q a n v) (FR 0 n v) := g_base 10 (fun x => x + n)
theorem gR1 : gE q a 1 n v (lw_Loaf_rises_1 T q a n v) (FR 1 n v) := g_base 10 (fun x => x + n)
theorem gR2 : gE q a 2 n v (lw_Greedy_rises_2 T q a n v) (FR 2 n v) := g_call (V := lw_Loaf_rises_2 T q a n v) (F := fun x => (x + n, [10])) (g_base 10 (fun x => x + n)) 30 (fun x => x * 3) (fun r => r)
theorem gR3 : gE q a 3 n v (lw_Loaf_rises_3 T q a n v) (FR 3 n v) := g_base 10 (fun x => x + n)
theorem gR4 : gE q a 4 n v (lw_Rye_rises_4 T q a n v) (FR 4 n v) := g_call (V := lw_Loaf_rises_4 T q a n v) (F := fun x => (x + n, [10])) (g_base 10 (fun x => x + n)) 50 (fun x => x) (fun r => -r)
theorem gR5 : gE q a 5 n v (lw_Greedy_rises_5 T q a n v) (FR 5 n v) := g_call (V := lw_Loaf_rises_5 T q a n v) (F := fun x => (x + n, [10])) (g_base 10 (fun x => x + n)) 30 (fun x => x * 3) (fun r => r)
theorem gR6b : gE q a 6 n v (lw_Loaf_rises_6 T q a n v) (fun x => (x + n, [10])) := g_base 10 (fun x => x + n)
theorem gR6 : gE q a 6 n v (lw_Shy_rises_6 T q a n v) (FR 6 n v) := g_callL (V := lw_Loaf_rises_6 T q a n v) gR6b 71 (fun x => x) (fun r => r ^^^ v)
theorem gL0 : gE q a 0 n v (lw_Loaf_bakes_0 T q a n v) (LB 0 n v) := g_callL gR0 11 (fun x => x) (fun r => r - v)
theorem gL1 : gE q a 1 n v (lw_Loaf_bakes_1 T q a n v) (LB 1 n v) := g_callL gR1 11 (fun x => x) (fun r => r - v)
theorem gL2 : gE q a 2 n v (lw_Loaf_bakes_2 T q a n v) (LB 2 n v) := g_callL gR2 11 (fun x => x) (fun r => r - v)
theorem gL3 : gE q a 3 n v (lw_Loaf_bakes_3 T q a n v) (LB 3 n v) := g_callL gR3 11 (fun x => x) (fun r => r - v)
theorem gL4 : gE q a 4 n v (lw_Loaf_bakes_4 T q a n v) (LB 4 n v) := g_callL gR4 11 (fun x => x) (fun r => r - v)
theorem gL5 : gE q a 5 n v (lw_Loaf_bakes_5 T q a n v) (LB 5 n v) := g_callL gR5 11 (fun x => x) (fun r => r - v)
theorem gL6 : gE q a 6 n v (lw_Loaf_bakes_6 T q a n v) (LB 6 n v) := g_callL gR6 11 (fun x => x) (fun r => r - v)
theorem gB1 : gE q a 1 n v (lw_Clean_bakes_1 T q a n v) (FB 1 n v) := g_call gL1 20 (fun x => x) (fun r => r ^^^ 6)
theorem gB4c : gE q a 4 n v (lw_Clean_bakes_4 T q a n v) (CB 4 n v) := g_call gL4 20 (fun x => x) (fun r => r ^^^ 6)
theorem gB4 : gE q a 4 n v (lw_Rye_bakes_4 T q a n v) (FB 4 n v) := g_call gB4c 51 (fun x => x + 1) (fun r => r)
theorem gB6 : gE q a 6 n v (lw_Shy_bakes_6 T q a n v) (FB 6 n v) := g_seq gL6 gR6b 70 2
theorem gT0 : gE q a 0 n v (lw_Loaf_tells_0 T q a n v) (FT 0 n v) := g_call (F := FB 0 n v) gL0 12 (fun x => x) (fun r => r * 2)
theorem gT1 : gE q a 1 n v (lw_Loaf_tells_1 T q a n v) (FT 1 n v) := g_call gB1 12 (fun x => x) (fun r => r * 2)
theorem gT2 : gE q a 2 n v (lw_Loaf_tells_2 T q a n v) (FT 2 n v) := g_call (F := FB 2 n v) gL2 12 (fun x => x) (fun r => r * 2)
theorem gT3l : gE q a 3 n v (lw_Loaf_tells_3 T q a n v) (LT 3 n v) := g_call (F := FB 3 n v) gL3 12 (fun x => x) (fun r => r * 2)
theorem gT3 : gE q a 3 n v (lw_Holy_tells_3 T q a n v) (FT 3 n v) := g_seq (G := FB 3 n v) gT3l gL3 40 1
theorem gT4 : gE q a 4 n v (lw_Loaf_tells_4 T q a n v) (FT 4 n v) := g_call gB4 12 (fun x => x) (fun r => r * 2)
theorem gT5l : gE q a 5 n v (lw_Loaf_tells_5 T q a n v) (LT 5 n v) := g_call (F := FB 5 n v) gL5 12 (fun x => x) (fun r => r * 2)
theorem gT5 : gE q a 5 n v (lw_Poisoned_tells_5 T q a n v) (FT 5 n v) := g_call2 gT5l 60 (fun x => x - n) (fun r => r)
theorem gT6l : gE q a 6 n v (lw_Loaf_tells_6 T q a n v) (LT 6 n v) := g_call gB6 12 (fun x => x) (fun r => r * 2)
theorem gT6 : gE q a 6 n v (lw_Holy_tells_6 T q a n v) (FT 6 n v) := g_seq gT6l gB6 40 1
theorem gR (hk : kd ≤ 6) : gE q a kd n v (fun s x k => lw_rises T q kd a n v s x k) (FR kd n v) := by
  match kd, hk with
  | 0, _ => exact gR0
  | 1, _ => exact gR1
  | 2, _ => exact gR2
  | 3, _ => exact gR3
  | 4, _ => exact gR4
  | 5, _ => exact gR5
  | 6, _ => exact gR6
theorem gB (hk : kd ≤ 6) : gE q a kd n v (fun s x k => lw_bakes T q kd a n v s x k) (FB kd n v) := by
  match kd, hk with
  | 0, _ => exact gL0
  | 1, _ => exact gB1
  | 2, _ => exact gL2
  | 3, _ => exact gL3
  | 4, _ => exact gB4
  | 5, _ => exact gL5
  | 6, _ => exact gB6
theorem gT (hk : kd ≤ 6) : gE q a kd n v (fun s x k => lw_tells T q kd a n v s x k) (FT kd n v) := by
  match kd, hk with
  | 0, _ => exact gT0
  | 1, _ => exact gT1
  | 2, _ => exact gT2
  | 3, _ => exact gT3
  | 4, _ => exact gT4
  | 5, _ => exact gT5
  | 6, _ => exact gT6
end G
