/-! PLAIN: questions: order -/
set_option maxRecDepth 100000
/-! the best so far: how many, the row -/
abbrev BB : Type := Option (Nat × List Nat)
def updB (b : BB) (n : Nat) (row : List Nat) : BB := match b with
  | none => some (n, row)
  | some p => if n < p.1 then some (n, row) else b
def foldN {β : Type} (f : Nat → β → β) : Nat → Nat → β → β
  | 0, _, b => b
  | k + 1, l, b => foldN f k (l + 1) (f l b)
def cnt (s : Nat) : Nat := (mems s 6 0).length
theorem set_facts {s l : Nat} (hs : s < 64) (hl : l < 6) (hb : s / 2 ^ l % 2 = 1) : s - 2 ^ l < 64 ∧ cnt (s - 2 ^ l) + 1 = cnt s ∧ 2 ^ l ≤ s ∧ (nI s &&& (((1 : Int32) <<< (nI l &&& 31)) ^^^ (-1))) = nI (s - 2 ^ l) := by
  have key : ∀ s : Fin 64, ∀ l : Fin 6, s.val / 2 ^ l.val % 2 = 1 → s.val - 2 ^ l.val < 64 ∧ cnt (s.val - 2 ^ l.val) + 1 = cnt s.val ∧ 2 ^ l.val ≤ s.val ∧ (nI s.val &&& (((1 : Int32) <<< (nI l.val &&& 31)) ^^^ (-1))) = nI (s.val - 2 ^ l.val) := by decide +kernel
  exact key ⟨s, hs⟩ ⟨l, hl⟩ hb
theorem cnt_0 {s : Nat} (hs : s < 64) : cnt s = 0 ↔ s = 0 := by
  have key : ∀ s : Fin 64, cnt s.val = 0 ↔ s.val = 0 := by decide +kernel
  exact key ⟨s, hs⟩
theorem set_bit {m s : Nat} (hm : m ≤ 6) (hs : s < 2 ^ m) (h0 : s ≠ 0) : ∃ l, l < m ∧ s / 2 ^ l % 2 = 1 := by
  have key : ∀ m : Fin 7, ∀ s : Fin 64, s.val < 2 ^ m.val → s.val ≠ 0 → ∃ l : Fin 6, l.val < m.val ∧ s.val / 2 ^ l.val % 2 = 1 := by decide +kernel
  have h64 : s < 64 := Nat.lt_of_lt_of_le hs (show 2 ^ m ≤ 2 ^ 6 from Nat.pow_le_pow_right (by omega) hm)
  obtain ⟨l, h1, h2⟩ := key ⟨m, by omega⟩ ⟨s, h64⟩ hs h0
  exact ⟨l.val, h1, h2⟩
/-! bits counted -/
def bcF (x0 : Int32) : Int32 :=
  let x9 := (x0 - (((x0 : Int32).toUInt32 >>> ((1 : Int32).toUInt32 &&& Int32.toUInt32 31)).toInt32 &&& 1431655765))
  let x23 := ((x9 &&& 858993459) + (((x9 : Int32).toUInt32 >>> ((2 : Int32).toUInt32 &&& Int32.toUInt32 31)).toInt32 &&& 858993459))
  let x33 := ((x23 + ((x23 : Int32).toUInt32 >>> ((4 : Int32).toUInt32 &&& Int32.toUInt32 31)).toInt32) &&& 252645135)
  let x40 := (x33 + ((x33 : Int32).toUInt32 >>> ((8 : Int32).toUInt32 &&& Int32.toUInt32 31)).toInt32)
  let x47 := (x40 + ((x40 : Int32).toUInt32 >>> ((16 : Int32).toUInt32 &&& Int32.toUInt32 31)).toInt32)
  (x47 &&& 63)
theorem c_bits {s : Nat} {k : Int32 → Prop} (hs : s < 64) (hk : k (nI (cnt s))) : jw_bitCount (nI s) k := by
  have key : ∀ s : Fin 64, bcF (nI s.val) = nI (cnt s.val) := by decide +kernel
  have e : bcF (nI s) = nI (cnt s) := key ⟨s, hs⟩
  rw [← e] at hk
  unfold jw_bitCount
  intro x9 h9 x23 h23 x33 h33 x40 h40 x47 h47
  subst h9 h23 h33 h40 h47
  exact hk
def pcN : Nat → Nat → Nat
  | 0, _ => 0
  | n + 1, u => if u = 0 then 0 else u % 2 + pcN n (u / 2)
theorem shr1 {u : Nat} (h : u < 64) : nI u >>> (1 &&& 31) = nI (u / 2) ∧ (nI u &&& 1) = nI (u % 2) := by
  have key : ∀ u : Fin 64, nI u.val >>> (1 &&& 31) = nI (u.val / 2) ∧ (nI u.val &&& 1) = nI (u.val % 2) := by decide +kernel
  exact key ⟨u, h⟩
theorem l_bits {s : Nat} {k : Int32 → Prop} (hs : s < 64) (hk : k (nI (cnt s))) : pw_bits (nI s) k := by
  have key : ∀ s : Fin 64, pcN 6 s.val = cnt s.val := by decide +kernel
  have e : pcN 6 s = cnt s := key ⟨s, hs⟩
  have L : ∀ (n u c : Nat), u < 64 → u < 2 ^ n → k (nI (c + pcN n u)) → pw_bits_L4 k (n + 1) (nI c) (nI u) := by
    intro n
    induction n with
    | zero =>
      intro u c h1 h2 h
      have : u = 0 := by have : 2 ^ 0 = 1 := rfl; omega
      subst this
      rw [pw_bits_L4]
      exact br1 (by decide) h
    | succ n ih =>
      intro u c h1 h2 h
      rw [pw_bits_L4]
      rw [pcN] at h
      by_cases e0 : u = 0
      · subst e0
        rw [if_pos rfl] at h
        exact br1 (by decide) h
      · rw [if_neg e0] at h
        refine br0 (fun c' => nI_ge (a := 0) (b := u) (by omega) (by omega) c') ?_
        intro a ha b hb
        rw [(shr1 h1).2, nI_add] at ha
        rw [(shr1 h1).1] at hb
        subst ha
        subst hb
        exact ih (u / 2) (c + u % 2) (by omega) (by rw [Nat.pow_succ] at h2; omega) (by rw [Nat.add_assoc]; exact h)
  refine ⟨7, L 6 s 0 hs (by show s < 64; exact hs) ?_⟩
  rw [Nat.zero_add, e]
  exact hk
/-! all rows -/
def aRun (κ : KD) (row : List Nat) (x : SS) : SS := row.foldl (fun y l => aGo κ y l) x
def aOrd (κ : KD) (m : Nat) : Nat → SS → Nat → List Nat → Nat → BB → BB
  | 0, _, _, row, n, b => updB b n row
  | r + 1, y, s, row, n, b => foldN (fun l b => if s / 2 ^ l % 2 = 1 then aOrd κ m r (aGo κ y l) (s - 2 ^ l) (row ++ [l]) (if aSp κ y l then n + 1 else n) b else b) m 0 b
theorem foldN_id {β : Type} {f : Nat → β → β} {b : β} : ∀ (k l : Nat), (∀ i, l ≤ i → i < l + k → f i b = b) → foldN f k l b = b
  | 0, _, _ => rfl
  | k + 1, l, h => by
    rw [foldN, h l (Nat.le_refl l) (by omega)]
    exact foldN_id k (l + 1) (fun i h1 h2 => h i (by omega) (by omega))
theorem foldN_inv {β : Type} {f : Nat → β → β} (P : β → Prop) (hf : ∀ i b, P b → P (f i b)) : ∀ (k l : Nat) (b : β), P b → P (foldN f k l b)
  | 0, _, _, h => h
  | k + 1, l, b, h => by
    rw [foldN]
    exact foldN_inv P hf k (l + 1) _ (hf l b h)
theorem foldN_hit {β : Type} {f : Nat → β → β} (P : β → Prop) (hf : ∀ i b, P b → P (f i b)) {j : Nat} (hj : ∀ b, P (f j b)) : ∀ (k l : Nat) (b : β), l ≤ j → j < l + k → P (foldN f k l b)
  | 0, _, _, h1, h2 => by omega
  | k + 1, l, b, h1, h2 => by
    rw [foldN]
    by_cases e : l = j
    · subst e
      exact foldN_inv P hf k (l + 1) _ (hj b)
    · exact foldN_hit P hf hj k (l + 1) _ (by omega) (by omega)
/-- once no better one can come, nothing changes -/
theorem aOrd_cut (κ : KD) (m : Nat) : ∀ (r : Nat) (y : SS) (s : Nat) (row : List Nat) (n : Nat) (p : Nat × List Nat), p.1 ≤ n → aOrd κ m r y s row n (some p) = some p
  | 0, y, s, row, n, p, h => by
    rw [aOrd]
    unfold updB
    exact if_neg (by omega)
  | r + 1, y, s, row, n, p, h => by
    rw [aOrd]
    refine foldN_id m 0 (fun i _ _ => ?_)
    by_cases e : s / 2 ^ i % 2 = 1
    · rw [if_pos e]
      exact aOrd_cut κ m r _ _ _ _ p (by split <;> omega)
    · rw [if_neg e]
theorem updB_ne (b : BB) (n : Nat) (row : List Nat) : updB b n row ≠ none := by
  unfold updB
  cases b with
  | none => simp
  | some p =>
    show (if n < p.1 then some (n, row) else some p) ≠ none
    split <;> simp
theorem aOrd_keep (κ : KD) (m : Nat) : ∀ (r : Nat) (y : SS) (s : Nat) (row : List Nat) (n : Nat) (b : BB), b ≠ none → aOrd κ m r y s row n b ≠ none
  | 0, y, s, row, n, b, _ => updB_ne b n row
  | r + 1, y, s, row, n, b, h => by
    rw [aOrd]
    refine foldN_inv (fun b => b ≠ none) (fun i b hb => ?_) m 0 b h
    show (if s / 2 ^ i % 2 = 1 then _ else b) ≠ none
    by_cases e : s / 2 ^ i % 2 = 1
    · rw [if_pos e]
      exact aOrd_keep κ m r _ _ _ _ b hb
    · rw [if_neg e]; exact hb
theorem aOrd_ne (κ : KD) {m : Nat} (hm : m ≤ 6) : ∀ (r : Nat) (y : SS) (s : Nat) (row : List Nat) (n : Nat) (b : BB), s < 2 ^ m → cnt s = r → aOrd κ m r y s row n b ≠ none
  | 0, y, s, row, n, b, _, _ => updB_ne b n row
  | r + 1, y, s, row, n, b, hs, hc => by
    have h64 : s < 64 := Nat.lt_of_lt_of_le hs (show 2 ^ m ≤ 2 ^ 6 from Nat.pow_le_pow_right (by omega) hm)
    have h0 : s ≠ 0 := fun e => by have := (cnt_0 h64).mpr e; omega
    obtain ⟨l, hl, hb⟩ := set_bit hm hs h0
    obtain ⟨f1, f2, f3, -⟩ := set_facts h64 (by omega) hb
    rw [aOrd]
    refine foldN_hit (fun b => b ≠ none) (fun i b hb => ?_) (j := l) (fun b => ?_) m 0 b (by omega) (by omega)
    · show (if s / 2 ^ i % 2 = 1 then _ else b) ≠ none
      by_cases e : s / 2 ^ i % 2 = 1
      · rw [if_pos e]
        exact aOrd_keep κ m r _ _ _ _ b hb
      · rw [if_neg e]; exact hb
    · show (if s / 2 ^ l % 2 = 1 then _ else b) ≠ none
      rw [if_pos hb]
      exact aOrd_ne κ hm r _ _ _ _ b (Nat.lt_of_le_of_lt (Nat.sub_le _ _) hs) (by omega)
def okB (M : Nat) (b : BB) : Prop := ∀ p, b = some p → p.2.length = M ∧ p.1 ≤ M
theorem updB_ok {M : Nat} {b : BB} {n : Nat} {row : List Nat} (hb : okB M b) (hr : row.length = M) (hn : n ≤ M) : okB M (updB b n row) := by
  intro p e
  unfold updB at e
  cases b with
  | none => cases e; exact ⟨hr, hn⟩
  | some q =>
    have e' : (if n < q.1 then some (n, row) else some q) = some p := e
    by_cases c : n < q.1
    · rw [if_pos c] at e'; cases e'; exact ⟨hr, hn⟩
    · rw [if_neg c] at e'; cases e'; exact hb _ rfl
theorem aOrd_ok (κ : KD) {m M : Nat} (hm : m ≤ 6) : ∀ (r : Nat) (y : SS) (s : Nat) (row : List Nat) (n : Nat) (b : BB), row.length + r = M → n ≤ row.length → okB M b → okB M (aOrd κ m r y s row n b)
  | 0, y, s, row, n, b, h1, h2, h3 => updB_ok h3 (by omega) (by omega)
  | r + 1, y, s, row, n, b, h1, h2, h3 => by
    rw [aOrd]
    refine foldN_inv (okB M) (fun i b hb => ?_) m 0 b h3
    show okB M (if s / 2 ^ i % 2 = 1 then _ else b)
    by_cases e : s / 2 ^ i % 2 = 1
    · rw [if_pos e]
      exact aOrd_ok κ hm r _ _ _ _ b (by rw [List.length_append, List.length_singleton]; omega) (by rw [List.length_append, List.length_singleton]; split <;> omega) hb
    · rw [if_neg e]; exact hb
theorem aRun_app (κ : KD) (row : List Nat) (l : Nat) (x : SS) : aRun κ (row ++ [l]) x = aGo κ (aRun κ row x) l := by
  unfold aRun
  rw [List.foldl_append]
  rfl
theorem aCntL_app (κ : KD) : ∀ (row : List Nat) (l n : Nat) (x : SS), aCntL κ (row ++ [l]) n x = (if aSp κ (aRun κ row x) l then aCntL κ row n x + 1 else aCntL κ row n x)
  | [], l, n, x => rfl
  | a :: row, l, n, x => by
    rw [List.cons_append, aCntL, aCntL, aCntL_app κ row l]
    rfl
/-! ===== the twin ===== -/
def tbR (σ : TS) (b : BB) : Prop := match b with
  | none => σ.1 0 24 = -1
  | some p => σ.1 0 24 = nI p.1 ∧ p.1 ≤ 6 ∧ p.2.length ≤ 6 ∧ ∀ j l, p.2[j]? = some l → σ.1 9 j = nI l
def tO (n : Nat) (σ σ' : TS) : Prop := tE1 σ σ' ∧ ∀ j, j < n → σ'.1 8 j = σ.1 8 j
theorem tO.tr {n : Nat} {σ σ1 σ2 : TS} (h : tO n σ σ1) (h' : tO n σ1 σ2) : tO n σ σ2 := ⟨h.1.tr h'.1, fun j hj => (h'.2 j hj).trans (h.2 j hj)⟩
theorem tO.le {n n' : Nat} {σ σ1 : TS} (h : tO n σ σ1) (hn : n' ≤ n) : tO n' σ σ1 := ⟨h.1, fun j hj => h.2 j (by omega)⟩
theorem tE1_9 {σ : TS} {i : Nat} {v : Int32} : tE1 σ (sA σ 9 i v) := ⟨fun c _ _ _ _ h9 => sA_ne h9, rfl, fun i _ _ => by rw [sA_ne (by omega)], fun z => by rw [sA_ne (by omega)]; exact z⟩
theorem tE1_24 {σ : TS} {v : Int32} : tE1 σ (sA σ 0 24 v) := ⟨fun c a1 _ _ _ _ => sA_ne (by omega), rfl, fun i _ h => by rw [sA_w h], fun z => by rw [sA_ne (by omega)]; exact z⟩
section Q
variable {T : xT} {q : Nat → Nat} {ω : CS} {σ : TS} {κ : KD} {x : SS}
theorem l_bestL {c : TS → Int32 → Int32 → Int32 → (TS → Prop) → Prop} {k : TS → Prop} {row : List Nat} (hL : row.length ≤ 6) (hline : ∀ j l, row[j]? = some l → σ.1 8 j = nI l) (h : ∀ σ', tE1 σ σ' → σ'.1 8 = σ.1 8 → σ'.1 0 24 = σ.1 0 24 → (∀ j l, row[j]? = some l → σ'.1 9 j = nI l) → k σ') :
    tb_orders_L38 c k (row.length + 1) (nI row.length) 0 σ := by
  have F : ∀ (r j : Nat) (σ1 : TS), j + r = row.length → tE1 σ σ1 → σ1.1 8 = σ.1 8 → σ1.1 0 24 = σ.1 0 24 → (∀ i l, i < j → row[i]? = some l → σ1.1 9 i = nI l) → tb_orders_L38 c k (r + 1) (nI row.length) (nI j) σ1 := by
    intro r
    induction r with
    | zero =>
      intro j σ1 hj t e8 e24 hb
      rw [tb_orders_L38]
      exact br1 ((nI_leI (by omega) (by omega)).mpr (by omega)) (h σ1 t e8 e24 (fun i l hi => hb i l (by have := (List.getElem?_eq_some_iff.mp hi).1; omega) hi))
    | succ r ih =>
      intro j σ1 hj t e8 e24 hb
      rw [tb_orders_L38, nI_clamp (by omega)]
      refine br0 (nlt (by omega) (by omega)) ⟨vp_in_nI (by omega) (by omega), vp_in_nI (by omega) (by omega), ?_⟩
      intro v hv
      subst hv
      rw [nI_1]
      have hjl : j < row.length := by omega
      refine ih (j + 1) _ (by omega) (t.tr tE1_9) (by rw [sA_ne (by omega)]; exact e8) (by rw [sA_ne (by omega)]; exact e24) (fun i l hi hl => ?_)
      by_cases e : i = j
      · subst e
        rw [sA_v, e8]
        exact hline i l hl
      · rw [sA_w e]
        exact hb i l (by omega) hl
  exact F row.length 0 σ (by omega) tE1.rf rfl rfl (fun i l hi => absurd hi (by omega))
theorem l_orders (H0 : tQ σ κ x) {M : Nat} (hM : M ≤ 5) : ∀ (r fuel s : Nat) (row : List Nat) (b : BB) (σ1 : TS) (k : TS → Prop), r ≤ fuel → cnt s = r → s < 2 ^ mOf x → row.length + r = M → (∀ l ∈ row, l < mOf x) → tE1 σ σ1 → (∀ j l, row[j]? = some l → σ1.1 8 j = nI l) → tbR σ1 b → okB M b →
    (∀ σ', tO row.length σ1 σ' → tbR σ' (aOrd κ (mOf x) r (aRun κ row x) s row (aCntL κ row 0 x) b) → k σ') → tf_orders (fuel + 1) σ1 (nI s) (nI row.length) (nI M) k := by
  obtain ⟨h6, e5⟩ := mOf_le H0.ok
  have hp : 2 ^ mOf x ≤ 64 := show 2 ^ mOf x ≤ 2 ^ 6 from Nat.pow_le_pow_right (by omega) h6
  intro r
  induction r with
  | zero =>
    intro fuel s row b σ1 k hf hc hs hr hrow t hline hb hok h
    have H := H0.e1 t
    rw [tf_orders]
    unfold tb_orders
    have eM : row.length = M := by omega
    refine bn0 (by rw [eM]) (l_spBy H (by omega) hrow hline (fun σ2 t2 => ?_))
    obtain ⟨t2, t8, t9, t24⟩ := t2
    have hn : aCntL κ row 0 x ≤ 6 := by have := aCntL_le κ row 0 x; omega
    -- the new best
    have new : (aOrd κ (mOf x) 0 (aRun κ row x) s row (aCntL κ row 0 x) b = some (aCntL κ row 0 x, row)) → tb_orders_J29 (tf_orders fuel) k (nI row.length) (nI (aCntL κ row 0 x)) σ2 := by
      intro e
      unfold tb_orders_J29
      refine ⟨row.length + 1, l_bestL (by omega) (fun j l hj => by rw [sA_ne (by omega), t8]; exact hline j l hj) (fun σ3 t3 e8 e24 h9 => h σ3 ⟨t2.tr (tE1_24.tr t3), fun j _ => by rw [e8, sA_ne (by omega), t8]⟩ ?_)⟩
      rw [e]
      exact ⟨by rw [e24, sA_v], hn, by show row.length ≤ 6; omega, h9⟩
    cases b with
    | none =>
      have hb' : σ1.1 0 24 = -1 := hb
      rw [t24, hb']
      exact br1 (by decide) (new rfl)
    | some p =>
      obtain ⟨b1, b2, b3, b4⟩ := hb
      rw [t24, b1]
      refine br0 (nI_pos (by omega)) ⟨fun c => ?_, fun c => ?_⟩
      · have hlt := (nI_ltI (by omega) (by omega)).mp c
        refine new ?_
        rw [aOrd]
        unfold updB
        exact if_pos hlt
      · have hlt : ¬ aCntL κ row 0 x < p.1 := fun z => c ((nI_ltI (by omega) (by omega)).mpr z)
        refine h σ2 ⟨t2, fun j _ => by rw [t8]⟩ ?_
        have e : aOrd κ (mOf x) 0 (aRun κ row x) s row (aCntL κ row 0 x) (some p) = some p := by
          rw [aOrd]
          unfold updB
          exact if_neg hlt
        rw [e]
        exact ⟨by rw [t24]; exact b1, b2, b3, fun j l hj => by rw [t9]; exact b4 j l hj⟩
  | succ r ih =>
    intro fuel s row b σ1 k hf hc hs hr hrow t hline hb hok h
    obtain ⟨f0, rfl⟩ : ∃ f0, fuel = f0 + 1 := ⟨fuel - 1, by omega⟩
    rw [tf_orders]
    unfold tb_orders
    refine bn1 (fun c => by have := (nI_eq (by omega) (by omega)).mp c; omega) ⟨mOf x + 1, ?_⟩
    have F : ∀ (c l : Nat) (b1 : BB) (σ2 : TS), l + c = mOf x → tO row.length σ1 σ2 → tbR σ2 b1 → okB M b1 →
        foldN (fun l b => if s / 2 ^ l % 2 = 1 then aOrd κ (mOf x) r (aGo κ (aRun κ row x) l) (s - 2 ^ l) (row ++ [l]) (if aSp κ (aRun κ row x) l then aCntL κ row 0 x + 1 else aCntL κ row 0 x) b else b) c l b1 = aOrd κ (mOf x) (r + 1) (aRun κ row x) s row (aCntL κ row 0 x) b →
        tb_orders_L68 (tf_orders (f0 + 1)) k (c + 1) (nI s) (nI row.length) (nI M) (nI l) σ2 := by
      intro c
      induction c with
      | zero =>
        intro l b1 σ2 hl t2 hb1 hok1 e
        have H := H0.e1 (t.tr t2.1)
        rw [tb_orders_L68, tc5, H.1, e5]
        rw [foldN] at e
        refine ⟨vi5, br1 ((nI_leI (by omega) (by omega)).mpr (by omega)) (h σ2 t2 ?_)⟩
        rw [← e]
        exact hb1
      | succ c ihc =>
        intro l b1 σ2 hl t2 hb1 hok1 e
        have H := H0.e1 (t.tr t2.1)
        rw [tb_orders_L68, tc5, H.1, e5, bitI (by omega) (by omega)]
        rw [foldN] at e
        refine ⟨vi5, br0 (nlt (by omega) (by omega)) ?_⟩
        by_cases hbit : s / 2 ^ l % 2 = 1
        · rw [if_pos hbit] at e
          rw [hbit]
          obtain ⟨f1, f2, f3, f4⟩ := set_facts (by omega) (by omega) hbit
          refine bn1 (by decide) ⟨vp_in_nI (by omega) (by omega), ?_⟩
          intro w hw
          rw [nI_clamp (by omega)] at hw
          subst hw
          rw [f4, nI_1]
          have hO : tO row.length σ2 (sA σ2 8 row.length (nI l)) := ⟨tE1_8, fun j hj => sA_w (by omega)⟩
          have hlen : (row ++ [l]).length = row.length + 1 := by rw [List.length_append, List.length_singleton]
          have := ih f0 (s - 2 ^ l) (row ++ [l]) b1 (sA σ2 8 row.length (nI l)) (fun s112 => tb_orders_J115 (tf_orders (f0 + 1)) (fun x1 x2 x3 x4 s => tb_orders_L68 (tf_orders (f0 + 1)) k (c + 1) x1 x2 x3 x4 s) k (nI s) (nI row.length) (nI M) (nI l) s112) (by omega) (by omega) (Nat.lt_of_le_of_lt (Nat.sub_le _ _) hs) (by rw [hlen]; omega) (fun j hj => by
            rcases List.mem_append.mp hj with h1 | h1
            · exact hrow j h1
            · rw [List.mem_singleton.mp h1]; omega) ((t.tr t2.1).tr hO.1) (fun i j hi => by
            by_cases hi2 : i = row.length
            · subst hi2
              rw [List.getElem?_append_right (Nat.le_refl _), Nat.sub_self] at hi
              cases hi
              exact sA_v
            · have hlt := (List.getElem?_eq_some_iff.mp hi).1
              rw [hlen] at hlt
              rw [List.getElem?_append_left (by omega)] at hi
              rw [sA_w hi2, t2.2 i (by omega)]
              exact hline i j hi) (by
            cases b1 with
            | none => exact hb1
            | some p =>
              obtain ⟨z1, z2, z3, z4⟩ := hb1
              exact ⟨by rw [sA_ne (by omega)]; exact z1, z2, z3, fun i j hi => by rw [sA_ne (by omega)]; exact z4 i j hi⟩) hok1 (fun σ3 t3 hb3 => ?_)
          · rw [hlen] at this
            exact this
          · intro v hv
            subst hv
            rw [nI_1]
            rw [aRun_app, aCntL_app] at hb3
            rw [hlen] at t3
            refine ihc (l + 1) _ σ3 (by omega) (t2.tr (hO.tr (t3.le (by omega)))) hb3 ?_ e
            exact aOrd_ok κ h6 r _ _ _ _ b1 (by rw [hlen]; omega) (by
              rw [hlen]
              have := aCntL_le κ row 0 x
              split <;> omega) hok1
        · rw [if_neg hbit] at e
          have h0 : s / 2 ^ l % 2 = 0 := by omega
          rw [h0]
          refine bn0 rfl ?_
          intro v hv
          subst hv
          rw [nI_1]
          exact ihc (l + 1) b1 σ2 (by omega) t2 hb1 hok1 e
    refine F (mOf x) 0 b σ1 (by omega) ⟨tE1.rf, fun _ _ => rfl⟩ hb hok ?_
    rw [aOrd]
end Q
