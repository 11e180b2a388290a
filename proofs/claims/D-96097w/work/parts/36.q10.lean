/-! PLAIN: questions: colds -/
set_option maxRecDepth 100000
def coolN (κ : KD) : Nat → SS → SS
  | 0, y => y
  | c + 1, y => coolN κ c (aCool κ y)
theorem coolN_s (κ : KD) : ∀ (c : Nat) (y : SS), coolN κ (c + 1) y = aCool κ (coolN κ c y)
  | 0, _ => rfl
  | c + 1, y => by
    rw [coolN, coolN_s κ c (aCool κ y), coolN]
theorem aR.cooln {κ : KD} (hκ : kdB κ 10) {x : SS} : ∀ (c : Nat) (y : SS), aR x y → aR x (coolN κ c y)
  | 0, _, h => h
  | c + 1, y, h => aR.cooln hκ c _ (h.cool hκ)
/-- the component's search: the loaves still to come -/
def aCold (κ : KD) : List Nat → SS → List Nat → Nat → BB → BB
  | [], _, row, n, b => updB b n row
  | l :: ls, y, row, n, b => foldN (fun c b => if aSp κ (coolN κ c y) l then b else aCold κ ls (aGo κ (coolN κ c y) l) (row ++ [c]) (n + c) b) 5 0 b
theorem aCold_cut (κ : KD) : ∀ (L : List Nat) (y : SS) (row : List Nat) (n : Nat) (p : Nat × List Nat), p.1 ≤ n → aCold κ L y row n (some p) = some p
  | [], y, row, n, p, h => by
    rw [aCold]
    unfold updB
    exact if_neg (by omega)
  | l :: ls, y, row, n, p, h => by
    rw [aCold]
    refine foldN_id 5 0 (fun i _ _ => ?_)
    by_cases e : aSp κ (coolN κ i y) l = true
    · rw [if_pos e]
    · rw [if_neg e]
      exact aCold_cut κ ls _ _ _ p (by omega)
/-- whether none is spoiled, so many cold hours ahead of each -/
def wellF (κ : KD) : List Nat → List Nat → SS → Bool
  | [], _, _ => true
  | _ :: _, [], _ => true
  | l :: ls, d :: ds, y => !aSp κ (coolN κ d y) l && wellF κ ls ds (aGo κ (coolN κ d y) l)
def digs : Nat → List (List Nat)
  | 0 => [[]]
  | M + 1 => (digs M).map (fun d => 0 :: d) ++ ((digs M).map (fun d => 1 :: d) ++ ((digs M).map (fun d => 2 :: d) ++ ((digs M).map (fun d => 3 :: d) ++ (digs M).map (fun d => 4 :: d))))
def lfB (κ : KD) (L : List Nat) (y : SS) (row : List Nat) (n : Nat) (b : BB) (ds : List Nat) : BB := if wellF κ L ds y then updB b (n + ds.sum) (row ++ ds) else b
theorem foldl_id {α β : Type} (f : β → α → β) (b : β) : ∀ (L : List α), (∀ a ∈ L, f b a = b) → L.foldl f b = b
  | [], _ => rfl
  | a :: L, h => by
    rw [List.foldl_cons, h a List.mem_cons_self]
    exact foldl_id f b L (fun a ha => h a (List.mem_cons_of_mem _ ha))
theorem foldl_eq {α β : Type} (f g : β → α → β) : ∀ (L : List α) (b : β), (∀ b a, f b a = g b a) → L.foldl f b = L.foldl g b
  | [], _, _ => rfl
  | a :: L, b, h => by
    rw [List.foldl_cons, List.foldl_cons, h b a]
    exact foldl_eq f g L _ h
theorem aCold_digs (κ : KD) : ∀ (L : List Nat) (y : SS) (row : List Nat) (n : Nat) (b : BB), aCold κ L y row n b = (digs L.length).foldl (lfB κ L y row n) b
  | [], y, row, n, b => by
    rw [aCold, List.length_nil, digs, List.foldl_cons, List.foldl_nil]
    unfold lfB wellF
    simp
  | l :: ls, y, row, n, b => by
    have one : ∀ (c : Nat) (b : BB), (if aSp κ (coolN κ c y) l then b else aCold κ ls (aGo κ (coolN κ c y) l) (row ++ [c]) (n + c) b) = ((digs ls.length).map (fun d => c :: d)).foldl (lfB κ (l :: ls) y row n) b := by
      intro c b
      rw [List.foldl_map]
      by_cases e : aSp κ (coolN κ c y) l = true
      · rw [if_pos e]
        refine (foldl_id _ b _ (fun a _ => ?_)).symm
        unfold lfB
        rw [wellF, e]
        rfl
      · rw [if_neg e, aCold_digs κ ls]
        refine foldl_eq _ _ _ _ (fun b a => ?_)
        unfold lfB
        rw [wellF, Bool.eq_false_iff.mpr e]
        simp only [Bool.not_false, Bool.true_and, List.sum_cons, List.append_assoc, List.singleton_append]
        rw [Nat.add_assoc]
    rw [aCold, List.length_cons, digs, List.foldl_append, List.foldl_append, List.foldl_append, List.foldl_append, ← one, ← one, ← one, ← one, ← one]
    rfl
/-- the digits of a code -/
def dig : Nat → Nat → List Nat
  | 0, _ => []
  | M + 1, c => (c / 5 ^ M % 5) :: dig M c
theorem digs_code {M : Nat} (hM : M ≤ 4) : digs M = (List.range (5 ^ M)).map (dig M) := by
  match M, hM with
  | 0, _ => decide +kernel
  | 1, _ => decide +kernel
  | 2, _ => decide +kernel
  | 3, _ => decide +kernel
  | 4, _ => decide +kernel
theorem dig_len : ∀ (M c : Nat), (dig M c).length = M
  | 0, _ => rfl
  | M + 1, c => by rw [dig, List.length_cons, dig_len M c]
theorem dig_at : ∀ (M c k : Nat), k < M → (dig M c)[k]? = some (c / 5 ^ (M - 1 - k) % 5)
  | 0, _, _, h => absurd h (Nat.not_lt_zero _)
  | M + 1, c, 0, _ => rfl
  | M + 1, c, k + 1, h => by
    rw [dig, List.getElem?_cons_succ, dig_at M c k (by omega)]
    rw [show M + 1 - 1 - (k + 1) = M - 1 - k by omega]
/-! small facts of sets -/
def ntzJ74 (x0 x1 : Int32) : Int32 := (x1 + ((x0 : Int32).toUInt32 >>> ((1 : Int32).toUInt32 &&& Int32.toUInt32 31)).toInt32)
def ntzJ62 (x0 x1 : Int32) : Int32 := if x0 ≤ 4 then ntzJ74 x0 x1 else ntzJ74 ((x0 : Int32).toUInt32 >>> ((2 : Int32).toUInt32 &&& Int32.toUInt32 31)).toInt32 (x1 + 2)
def ntzJ49 (x0 x1 : Int32) : Int32 := if x0 ≤ 16 then ntzJ62 x0 x1 else ntzJ62 ((x0 : Int32).toUInt32 >>> ((4 : Int32).toUInt32 &&& Int32.toUInt32 31)).toInt32 (x1 + 4)
def ntzJ34 (x0 x1 : Int32) : Int32 := if x0 ≤ 256 then ntzJ49 x0 x1 else ntzJ49 ((x0 : Int32).toUInt32 >>> ((8 : Int32).toUInt32 &&& Int32.toUInt32 31)).toInt32 (x1 + 8)
def ntzF (x0 : Int32) : Int32 :=
  let x7 := ((x0 ^^^ (-1)) &&& (x0 - 1))
  if 0 < x7 then (if x7 ≤ 65536 then ntzJ34 x7 1 else ntzJ34 ((x7 : Int32).toUInt32 >>> ((16 : Int32).toUInt32 &&& Int32.toUInt32 31)).toInt32 (1 + 16)) else (x7 &&& 32)
theorem ntz_ok {x0 : Int32} {k : Int32 → Prop} (hk : k (ntzF x0)) : jw_numberOfTrailingZeros x0 k := by
  have j62 : ∀ x0 x1 : Int32, k (ntzJ62 x0 x1) → jw_numberOfTrailingZeros_J62 k x0 x1 := by
    intro x0 x1 h
    unfold ntzJ62 at h
    refine ⟨fun c => ?_, fun c => ?_⟩
    · rw [if_pos c] at h; exact h
    · rw [if_neg c] at h
      intro a ha b hb
      subst ha hb
      exact h
  have j49 : ∀ x0 x1 : Int32, k (ntzJ49 x0 x1) → jw_numberOfTrailingZeros_J49 k x0 x1 := by
    intro x0 x1 h
    unfold ntzJ49 at h
    refine ⟨fun c => ?_, fun c => ?_⟩
    · rw [if_pos c] at h; exact j62 _ _ h
    · rw [if_neg c] at h
      intro a ha b hb
      subst ha hb
      exact j62 _ _ h
  have j34 : ∀ x0 x1 : Int32, k (ntzJ34 x0 x1) → jw_numberOfTrailingZeros_J34 k x0 x1 := by
    intro x0 x1 h
    unfold ntzJ34 at h
    refine ⟨fun c => ?_, fun c => ?_⟩
    · rw [if_pos c] at h; exact j49 _ _ h
    · rw [if_neg c] at h
      intro a ha b hb
      subst ha hb
      exact j49 _ _ h
  unfold jw_numberOfTrailingZeros
  intro x7 h7
  subst h7
  unfold ntzF at hk
  simp only at hk
  refine ⟨fun c => ⟨fun d => ?_, fun d => ?_⟩, fun c => ?_⟩
  · rw [if_pos c, if_pos d] at hk; exact j34 _ _ hk
  · rw [if_pos c, if_neg d] at hk
    intro a ha b hb
    subst ha hb
    exact j34 _ _ hk
  · rw [if_neg c] at hk; exact hk
/-- the first of a set, the others -/
theorem set_head {s l : Nat} {ls : List Nat} (hs : s < 64) (h : mems s 6 0 = l :: ls) : ntzF (nI s) = nI l ∧ s ≠ 0 ∧ (nI s &&& (nI s - 1)) = nI (s - 2 ^ l) ∧ mems (s - 2 ^ l) 6 0 = ls ∧ s - 2 ^ l < 64 ∧ l < 6 := by
  have key : ∀ s : Fin 64, s.val = 0 ∨ ∃ l : Fin 6, (mems s.val 6 0).head? = some l.val ∧ ntzF (nI s.val) = nI l.val ∧ (nI s.val &&& (nI s.val - 1)) = nI (s.val - 2 ^ l.val) ∧ mems (s.val - 2 ^ l.val) 6 0 = (mems s.val 6 0).tail ∧ s.val - 2 ^ l.val < 64 := by decide +kernel
  rcases key ⟨s, hs⟩ with e | ⟨l', e1, e2, e3, e4, e5⟩
  · have e : s = 0 := e
    subst e
    have : mems 0 6 0 = [] := by decide +kernel
    rw [this] at h
    cases h
  · have e1 : (mems s 6 0).head? = some l'.val := e1
    rw [h] at e1
    have e1 : l = l'.val := by cases e1; rfl
    subst e1
    have e4 : mems (s - 2 ^ l'.val) 6 0 = (mems s 6 0).tail := e4
    rw [h] at e4
    refine ⟨e2, fun e => ?_, e3, e4, e5, l'.isLt⟩
    subst e
    have : mems 0 6 0 = [] := by decide +kernel
    rw [this] at h
    cases h
theorem set_nil {s : Nat} (hs : s < 64) (h : mems s 6 0 = []) : s = 0 := (cnt_0 hs).mp (by unfold cnt; rw [h]; rfl)
/-- those of a set are loaves -/
theorem mems_m {m s : Nat} (hm : m ≤ 6) (hs : s < 2 ^ m) : ∀ l ∈ mems s 6 0, l < m := by
  have key : ∀ m : Fin 7, ∀ s : Fin 64, s.val < 2 ^ m.val → ∀ l ∈ mems s.val 6 0, l < m.val := by decide +kernel
  have h64 : s < 64 := Nat.lt_of_lt_of_le hs (show 2 ^ m ≤ 2 ^ 6 from Nat.pow_le_pow_right (by omega) hm)
  exact key ⟨m, by omega⟩ ⟨s, h64⟩ hs
section Q
variable {T : xT} {q : Nat → Nat} {ω : CS} {σ σ0 : TS} {κ κi : KD} {x y : SS}
theorem c_colds (H : cQq T q ω κ x) : ∀ (L : List Nat) (fuel s : Nat) (y : SS) (row : List Nat) (n : Nat) (b : BB) (ω1 : CS) (k : CS → Prop), L.length ≤ fuel → mems s 6 0 = L → s < 64 → (∀ l ∈ L, l < mOf x) → row.length + L.length ≤ 4 → n ≤ 4 * row.length → cE1 ω ω1 → cAt ω1 (2 + row.length) y → aR x y → (∀ j l, row[j]? = some l → ω1.1.1 40 j = nI l) → cbR ω1 b →
    (∀ ω', cO row.length ω1 ω' → cbR ω' (aCold κ L y row n b) → k ω') → cf_coldsFrom T q (fuel + 1) ω1 (nI s) (nI row.length) (nI n) k := by
  obtain ⟨h6, e5⟩ := mOf_le H.2.2
  intro L
  induction L with
  | nil =>
    intro fuel s y row n b ω1 k hf hs h64 hm hr hn t A r0 hrow hb h
    rw [cf_coldsFrom]
    unfold cb_coldsFrom
    have hs0 : s = 0 := set_nil h64 hs
    subst hs0
    rw [List.length_nil] at hr
    refine c_fewer hb (by omega) (fun hlt => bn1 (by decide) (bn0 rfl (c_keeps (by omega) hrow (by omega) (fun ω2 o hb2 => ?_)))) (fun p e hle => ?_)
    · refine h ω2 (o.le (by omega)) ?_
      have e : aCold κ [] y row n b = some (n, row) := by
        rw [aCold]
        unfold updB
        cases b with
        | none => rfl
        | some p => exact if_pos (hlt p rfl)
      rw [e]
      exact hb2
    · refine bn0 rfl (h ω1 cO.rf ?_)
      rw [e, aCold_cut κ [] y row n p hle, ← e]
      exact hb
  | cons l ls ih =>
    intro fuel s y row n b ω1 k hf hs h64 hm hr hn t A r0 hrow hb h
    rw [List.length_cons] at hf hr
    obtain ⟨f0, rfl⟩ : ∃ f0, fuel = f0 + 1 := ⟨fuel - 1, by omega⟩
    obtain ⟨m1, m2, m3, m4, m5, m6⟩ := set_head h64 hs
    have hlm := hm l List.mem_cons_self
    rw [cf_coldsFrom]
    unfold cb_coldsFrom
    have hs0 : ¬ nI s = 0 := fun c => m2 ((nI_eq (b := 0) (by omega) (by omega)).mp c)
    refine c_fewer hb (by omega) (fun hlt => bn1 (by decide) (bn1 hs0 (ntz_ok ?_))) (fun p e hle => ?_)
    · rw [m1]
      refine ⟨6, ?_⟩
      have F : ∀ (c d : Nat) (b1 : BB) (ω2 : CS), d + c = 5 → cO row.length ω1 ω2 → cbR ω2 b1 →
          foldN (fun c b => if aSp κ (coolN κ c y) l then b else aCold κ ls (aGo κ (coolN κ c y) l) (row ++ [c]) (n + c) b) c d b1 = aCold κ (l :: ls) y row n b →
          cb_coldsFrom_L29 T q (cf_coldsFrom T q (f0 + 1)) k (c + 1) (nI s) (nI row.length) (nI n) (nI l) (nI d) ω2 := by
        intro c
        induction c with
        | zero =>
          intro d b1 ω2 hd o hb1 e
          rw [cb_coldsFrom_L29]
          rw [foldN] at e
          refine br1 ((nI_ltI (a := 4) (by omega) (by omega)).mpr (by omega)) (h ω2 o ?_)
          rw [← e]
          exact hb1
        | succ c ihc =>
          intro d b1 ω2 hd o hb1 e
          have H2 := H.e1 (t.tr o.e1)
          have A2 := o.at (by omega) A
          rw [cb_coldsFrom_L29, nI_1, nI_clamp (by omega), nI_clamp (by omega)]
          rw [foldN] at e
          refine br0 (fun z => by have := (nI_ltI (a := 4) (by omega) (by omega)).mp z; omega) ⟨vp_in_nI (by omega) (by omega), vp_in_nI (by omega) (by omega), by omega, by omega, d + 1, ?_⟩
          obtain ⟨g1, a1⟩ := c_Tk (a := 2 + (row.length + 1)) A2 (by omega)
          generalize cTk ω2 (2 + (row.length + 1)) (2 + row.length) = w at g1 a1
          -- the cold hours
          have G : ∀ (r j : Nat) (ω3 : CS), j + r = d → cO row.length ω1 ω3 → cAt ω3 (2 + (row.length + 1)) (coolN κ j y) → cbR ω3 b1 → cb_coldsFrom_L55 T q (cf_coldsFrom T q (f0 + 1)) (fun x1 x2 x3 x4 x5 s => cb_coldsFrom_L29 T q (cf_coldsFrom T q (f0 + 1)) k (c + 1) x1 x2 x3 x4 x5 s) k (r + 1) (nI s) (nI row.length) (nI n) (nI l) (nI d) (nI j) ω3 := by
            intro r
            induction r with
            | zero =>
              intro j ω3 hj o3 a3 b3
              have hjd : j = d := by omega
              subst hjd
              rw [cb_coldsFrom_L55, nI_1, nI_clamp (by omega), nI_clamp (by omega), m3]
              refine br1 ((nI_leI (by omega) (by omega)).mpr (by omega)) ⟨vp_in_nI (by omega) (by omega), ?_⟩
              intro w2 hw2
              have o2 : cO row.length ω3 w2 := by
                rw [hw2]
                exact ⟨rfl, rfl, fun c _ _ _ _ _ h40 _ => cA_ne h40, fun j hj => cA_w (by omega), fun i _ => by rw [cA_ne (by omega)]⟩
              have a2 : cAt w2 (2 + (row.length + 1)) (coolN κ j y) := by
                rw [hw2]
                unfold cAt
                rw [cA_ne (by omega), cA_ne (by omega)]
                exact a3
              have b2 : cbR w2 b1 := by rw [hw2]; exact br_40 b3
              have o4 : cO row.length ω1 w2 := o3.tr o2
              have r2 : ∀ i u, (row ++ [j])[i]? = some u → w2.1.1 40 i = nI u := by
                intro i u hi
                have hlt := (List.getElem?_eq_some_iff.mp hi).1
                rw [List.length_append, List.length_singleton] at hlt
                by_cases hi2 : i = row.length
                · subst hi2
                  rw [List.getElem?_append_right (Nat.le_refl _), Nat.sub_self] at hi
                  cases hi
                  rw [hw2]
                  exact cA_v
                · rw [List.getElem?_append_left (by omega)] at hi
                  rw [o4.2.2.2.1 i (by omega)]
                  exact hrow i u hi
              refine ⟨vp_in_nI (by omega) (by omega), ?_⟩
              have H3 := H.e1 (t.tr o4.e1)
              have rc := aR.cooln H.1.2.2.1 j y r0
              refine c_goes (H3.1.ge rc.2) rc.1 a2 (by omega) (by rw [rc.m]; exact hlm) (fun ω5 g5 a5 _ => ?_)
              have o5 : cO row.length ω1 ω5 := o4.tr (g5.o (by omega))
              have hlen : (row ++ [j]).length = row.length + 1 := by rw [List.length_append, List.length_singleton]
              cases hsp : aSp κ (coolN κ j y) l with
              | true =>
                rw [hsp] at e
                refine bn1 (by decide) ?_
                intro v hv
                subst hv
                rw [nI_1]
                exact ihc (j + 1) b1 ω5 (by omega) o5 (g5.br (by omega) b2) e
              | false =>
                rw [hsp] at e
                refine bn0 rfl ?_
                rw [nI_add]
                have := ih f0 (s - 2 ^ l) (aGo κ (coolN κ j y) l) (row ++ [j]) (n + j) b1 ω5 (fun s118 => cb_coldsFrom_J121 T q (cf_coldsFrom T q (f0 + 1)) (fun x1 x2 x3 x4 x5 s => cb_coldsFrom_L29 T q (cf_coldsFrom T q (f0 + 1)) k (c + 1) x1 x2 x3 x4 x5 s) k (nI s) (nI row.length) (nI n) (nI l) (nI j) s118) (by omega) m4 m5 (fun i hi => hm i (List.mem_cons_of_mem _ hi)) (by rw [hlen]; omega) (by rw [hlen]; omega) (t.tr o5.e1) (by rw [hlen]; exact a5) (rc.go H.1.2.2.1 (by omega)) (fun i u hi => by rw [g5.2.2 40 (by omega) (by omega) (by omega) (by omega) (by omega)]; exact r2 i u hi) (g5.br (by omega) b2) (fun ω6 o6 hb6 => ?_)
                · rw [hlen] at this
                  exact this
                · intro v hv
                  subst hv
                  rw [nI_1]
                  rw [hlen] at o6
                  exact ihc (j + 1) _ ω6 (by omega) (o5.tr (o6.le (by omega))) hb6 e
            | succ r ihr =>
              intro j ω3 hj o3 a3 b3
              rw [cb_coldsFrom_L55, nI_1, nI_clamp (n := row.length) (by omega), nI_clamp (n := row.length + 1) (by omega)]
              have H3 := H.e1 (t.tr o3.e1)
              have rc := aR.cooln H.1.2.2.1 j y r0
              refine br0 (nlt (by omega) (by omega)) ⟨vp_in_nI (by omega) (by omega), c_cools (H3.1.ge rc.2) rc.1 a3 (by omega) (fun ω4 g4 a4 => ?_)⟩
              intro v hv
              subst hv
              rw [nI_1]
              exact ihr (j + 1) ω4 (by omega) (o3.tr (g4.o (by omega))) (by rw [coolN_s]; exact a4) (g4.br (by omega) b3)
          exact G d 0 w (by omega) (o.tr (g1.o (by omega))) a1 (g1.br (by omega) hb1)
      refine F 5 0 b ω1 (by omega) cO.rf hb ?_
      rw [aCold]
    · refine bn0 rfl (h ω1 cO.rf ?_)
      rw [e, aCold_cut κ (l :: ls) y row n p hle, ← e]
      exact hb
/-! the twin -/
def memN (s : Nat) : Nat → Nat → Nat → Option Nat
  | 0, _, _ => none
  | n + 1, a, l => if 6 ≤ l then none else if s / 2 ^ l % 2 = 0 then memN s n a (l + 1) else if a = 0 then some l else memN s n (a - 1) (l + 1)
theorem l_member {s i l : Nat} {k : Int32 → Prop} (hs : s < 64) (hi : (mems s 6 0)[i]? = some l) (hk : k (nI l)) : pw_memberOf (nI s) (nI i) k := by
  have hi6 : i < 6 := by
    have h1 := (List.getElem?_eq_some_iff.mp hi).1
    have h2 := mems_len (s := s) 6 0
    omega
  have key : ∀ s : Fin 64, ∀ i : Fin 6, (mems s.val 6 0)[i.val]? = none ∨ memN s.val 7 i.val 0 = (mems s.val 6 0)[i.val]? := by decide +kernel
  have e : memN s 7 i 0 = some l := by
    rcases key ⟨s, hs⟩ ⟨i, hi6⟩ with z | z
    · have z : (mems s 6 0)[i]? = none := z
      rw [hi] at z; cases z
    · have z : memN s 7 i 0 = (mems s 6 0)[i]? := z
      rw [z]; exact hi
  have F : ∀ (n a j : Nat), a < 10 → memN s n a j = some l → pw_memberOf_L4 k n (nI s) (nI a) (nI j) := by
    intro n
    induction n with
    | zero => intro a j ha h; cases h
    | succ n ih =>
      intro a j ha h
      rw [memN] at h
      by_cases hj : 6 ≤ j
      · rw [if_pos hj] at h; cases h
      · rw [if_neg hj] at h
        rw [pw_memberOf_L4, bitI hs (by omega)]
        by_cases hb : s / 2 ^ j % 2 = 0
        · rw [if_pos hb] at h
          rw [hb]
          refine br1 rfl ?_
          intro u hu v hv
          rw [bitI hs (by omega), hb] at hu
          have hu : u = nI a := hu.trans (i_sub0 _)
          subst hu
          subst hv
          rw [nI_1]
          exact ih a (j + 1) ha h
        · rw [if_neg hb] at h
          have hb1 : s / 2 ^ j % 2 = 1 := by omega
          rw [hb1]
          refine br0 (by decide) ?_
          by_cases ha0 : a = 0
          · rw [if_pos ha0] at h
            cases h
            subst ha0
            exact br1 (by decide) hk
          · rw [if_neg ha0] at h
            refine br0 (fun c => nI_ge (a := 0) (b := a) (by omega) (by omega) c) ?_
            intro u hu v hv
            rw [bitI hs (by omega), hb1] at hu
            have ep : nI a - nI 1 = nI (a - 1) := pk_sub (by omega)
            rw [ep] at hu
            subst hu
            subst hv
            rw [nI_1]
            exact ih (a - 1) (j + 1) (by omega) h
  exact ⟨7, F 7 i 0 (by omega) e⟩
theorem l_well {s code M : Nat} {k : Int32 → TS → Prop} (H : tQ σ κ x) (hs : s < 64) (hL : (mems s 6 0).length = M) (hM : M ≤ 4) (hm : ∀ l ∈ mems s 6 0, l < mOf x) (hc : code < 625) (h : ∀ σ', tE1 σ σ' → k (b2I (wellF κ (mems s 6 0) (dig M code) x)) σ') : tw_isWellBy σ (nI s) (nI code) (nI (5 ^ M / 5)) k := by
  have hcnt : cnt s = M := hL
  have fin : ∀ (b : Bool) (σ1 : TS) (y : SS), tI σ σ1 y → aR x y → b = wellF κ (mems s 6 0) (dig M code) x → tw_isWellBy_J82 k (b2I b) σ1 := by
    intro b σ1 y t r e
    unfold tw_isWellBy_J82
    refine t_end H t r (fun σ2 t2 => ⟨b2I_or b, ?_⟩)
    rw [e]
    exact h σ2 t2
  have bad : ∀ (n : Nat) (c1 : Int32) (i : Nat) (σ1 : TS) (y : SS), i ≤ M → tI σ σ1 y → aR x y → false = wellF κ (mems s 6 0) (dig M code) x → tw_isWellBy_L13 k (n + 1) (nI s) (nI code) 0 c1 (nI i) σ1 := by
    intro n c1 i σ1 y hi t r e
    rw [tw_isWellBy_L13]
    refine l_bits hs ?_
    have f := fin false σ1 y t r e
    exact ⟨fun _ => f, fun _ => br1 rfl f⟩
  have p5 : ∀ e, e ≤ 4 → 5 ^ e ≤ 625 ∧ 0 < 5 ^ e := fun e he => by
    exact ⟨show 5 ^ e ≤ 5 ^ 4 from Nat.pow_le_pow_right (by omega) he, Nat.pow_pos (by omega)⟩
  have F : ∀ (r i : Nat) (σ1 : TS) (y : SS), i + r = M → tI σ σ1 y → aR x y → wellF κ ((mems s 6 0).drop i) (dig r code) y = wellF κ (mems s 6 0) (dig M code) x → tw_isWellBy_L13 k (r + 2) (nI s) (nI code) 1 (nI (5 ^ r / 5)) (nI i) σ1 := by
    intro r
    induction r with
    | zero =>
      intro i σ1 y hi t r0 e
      rw [tw_isWellBy_L13]
      refine l_bits hs ?_
      rw [List.drop_of_length_le (by omega)] at e
      rw [hcnt]
      exact br1 ((nI_leI (by omega) (by omega)).mpr (by omega)) (fin true σ1 y t r0 e)
    | succ r ih =>
      intro i σ1 y hi t r0 e
      rw [tw_isWellBy_L13]
      refine l_bits hs ?_
      have hil : i < (mems s 6 0).length := by omega
      have hl := hm _ (List.getElem_mem hil)
      rw [List.drop_eq_getElem_cons hil, dig, wellF] at e
      obtain ⟨q1, q2⟩ := p5 r (by omega)
      have hp : 5 ^ (r + 1) / 5 = 5 ^ r := by rw [Nat.pow_succ]; omega
      rw [hp, hcnt]
      have hne : ¬ nI (5 ^ r) = 0 := nI_ne0 q2 (by omega)
      refine br0 (nlt (by omega) (by omega)) (br0 (by decide) ⟨hne, ?_⟩)
      intro c hc2
      have ed : nI code / nI (5 ^ r) = nI (code / 5 ^ r) := pk_div (by omega) q2 (by omega)
      have hq : code / 5 ^ r ≤ code := Nat.div_le_self _ _
      have er : nI (code / 5 ^ r) - nI (code / 5 ^ r) / 5 * 5 = nI (code / 5 ^ r % 5) := pk_rem (d := 5) (by omega) (by omega) (by omega)
      rw [ed, er] at hc2
      subst hc2
      have hd5 : code / 5 ^ r % 5 < 5 := Nat.mod_lt _ (by omega)
      generalize code / 5 ^ r % 5 = d at e hd5
      refine ⟨d + 1, ?_⟩
      have G : ∀ (u : Nat) (σ2 : TS) (y2 : SS), u < 5 → tI σ σ2 y2 → aR x y2 → coolN κ u y2 = coolN κ d y → tw_isWellBy_L35 (fun x1 x2 x4 x5 x6 s => tw_isWellBy_L13 k (r + 2) x1 x2 x4 x5 x6 s) k (u + 1) (nI s) (nI code) (nI (5 ^ r)) (nI i) (nI u) σ2 := by
        intro u
        induction u with
        | zero =>
          intro σ2 y2 hu t2 r2 ec
          have ec : y2 = coolN κ d y := ec
          rw [tw_isWellBy_L35]
          refine br1 (by decide) (l_member hs (List.getElem?_eq_getElem hil) (t_go H t2 r2 hl (fun σ3 t3 r3 => ?_)))
          have hd : nI (5 ^ r) / 5 = nI (5 ^ r / 5) := pk_div (d := 5) (by omega) (by omega) (by omega)
          rw [← ec] at e
          cases hb : aSp κ y2 (mems s 6 0)[i] with
          | true =>
            rw [hb] at e
            refine bn1 (by decide) ?_
            intro v hv w hw
            subst hv
            subst hw
            rw [nI_1, hd]
            exact bad (r + 1) _ (i + 1) σ3 _ (by omega) t3 r3 e
          | false =>
            rw [hb] at e
            refine bn0 rfl ?_
            intro v hv w hw
            subst hv
            subst hw
            rw [nI_1, hd]
            refine ih (i + 1) σ3 _ (by omega) t3 r3 ?_
            rw [← e]
            simp
        | succ u ihu =>
          intro σ2 y2 hu t2 r2 ec
          rw [tw_isWellBy_L35]
          refine br0 (fun c => nI_ge (a := 0) (b := u + 1) (by omega) (by omega) c) (t_cool H t2 r2 (fun σ3 t3 r3 => ?_))
          intro v hv
          rw [pk_m1] at hv
          subst hv
          exact ihu σ3 _ (by omega) t3 r3 ec
      exact G d σ1 y hd5 t r0 rfl
  unfold tw_isWellBy
  exact t_begin H (fun σ1 t1 r1 => ⟨M + 2, F M 0 σ1 x (by omega) t1 r1 (by rw [List.drop_zero])⟩)
end Q
