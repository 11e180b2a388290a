/-! PLAIN: numbers, the abstract oven, the reading of a kiln -/
set_option maxRecDepth 100000
abbrev SS : Type := Nat → Int32
def b2I (b : Bool) : Int32 := if b then 1 else 0
theorem b2I_or (b : Bool) : b2I b = 0 ∨ b2I b = 1 := by
  cases b
  · exact Or.inl rfl
  · exact Or.inr rfl
theorem b2I_0 (b : Bool) : b2I b = 0 ↔ b = false := by
  cases b
  · exact ⟨fun _ => rfl, fun _ => rfl⟩
  · exact ⟨fun h => absurd h (by decide), fun h => by cases h⟩
theorem b2I_n0 (b : Bool) : ¬ b2I b = 0 ↔ b = true := by
  cases b
  · exact ⟨fun h => absurd rfl h, fun h => by cases h⟩
  · exact ⟨fun _ => rfl, fun _ => by decide⟩
theorem tc_n {n : Nat} (h : n < 2 ^ 31) : (nI n).toNatClampNeg = n := nI_clamp h
theorem i_lt_le {a b : Int32} : ¬ a < b ↔ b ≤ a := by
  rw [Int32.lt_iff_toInt_lt, Int32.le_iff_toInt_le]; omega
theorem i_le_lt {a b : Int32} : ¬ a ≤ b ↔ b < a := by
  rw [Int32.lt_iff_toInt_lt, Int32.le_iff_toInt_le]; omega
theorem i_add0 (a : Int32) : a + 0 = a := by simp
theorem i_0add (a : Int32) : 0 + a = a := by simp
/-- an int from nought to n -/
theorem i_rng {x : Int32} {n : Nat} (hn : n < 2 ^ 31) : (0 ≤ x ∧ x ≤ nI n) ↔ ∃ j : Nat, j ≤ n ∧ x = nI j := by
  constructor
  · rintro ⟨h1, h2⟩
    exact nI_of2 (nI_toInt hn) (i_lt_le.mpr h1) h2
  · rintro ⟨j, hj, rfl⟩
    exact ⟨nI_pos' (by omega), (nI_leI (by omega) hn).mpr hj⟩
/-! ===== what a loaf takes, leaves; a bake, a cold hour. x: the twin's row s ===== -/
/-- the look: of the loaf l, of the taste t -/
def lkS (x : SS) (l t : Nat) : SS := fun i => match i with
  | 0 => nI l
  | 1 => x (8 + 10 * l)
  | 2 => nI t
  | 3 => x (8 + 10 * l + 1)
  | 4 => x 4 - x 4 / 60 * 60
  | _ => x t / 10
/-- the look of a fee -/
def lkF (x : SS) (l : Nat) : SS := fun i => match i with
  | 0 => nI l
  | 1 => x (8 + 10 * l)
  | 2 => 99
  | 3 => x (8 + 10 * l + 1)
  | 4 => x 4 - x 4 / 60 * 60
  | _ => 99
def aKd (x : SS) (l : Nat) : Nat := (x (8 + 10 * l)).toNatClampNeg
def clampT (h v : Int32) : Int32 := if v ≤ h then (if 0 ≤ v then v else 0) else h
def aTakeBy (x : SS) (l t : Nat) (part h : Int32) : Int32 := clampT h (lTake (aKd x l) (x (8 + 10 * l + 1)) h part (x (8 + 10 * l + (6 + t))))
def aTake (κ : KD) (x : SS) (l t : Nat) : Int32 := aTakeBy x l t (kPart κ (lkS x l t)) (x t)
def aLeave (κ : KD) (x : SS) (l t : Nat) : Int32 := lLeave (aKd x l) (x (8 + 10 * l + 1)) (x (8 + 10 * l + (2 + t)) + kMore κ (lkS x l t)) (nI t)
def aSum (κ : KD) (x : SS) (l : Nat) : Int32 := (((0 + aTake κ x l 0) + aTake κ x l 1) + aTake κ x l 2) + aTake κ x l 3
def aOver (κ : KD) (x : SS) (l t : Nat) : Bool := decide (x (8 + 10 * l + (6 + t)) < aTake κ x l t)
def aSp (κ : KD) (x : SS) (l : Nat) : Bool := aOver κ x l 0 || (aOver κ x l 1 || (aOver κ x l 2 || aOver κ x l 3))
def cap (v : Int32) : Int32 := if v ≤ 9999 then v else 9999
def aAge (h : Int32) : Int32 := if 9999 ≤ h then h else h + 1
def aGo (κ : KD) (x : SS) (l : Nat) : SS := fun i => if i < 4 then cap ((x i - aTake κ x l i) + aLeave κ x l i) else if i = 4 then aAge (x 4) else x i
def aCool (κ : KD) (x : SS) : SS := fun i => if i < 4 then cap ((κ.2.2.2 * x i) / 100) else if i = 4 then aAge (x 4) else x i
def κ0 : KD := ([], [], [], 50)
/-! ===== the reading of a kiln: signs f 0 .. f (n - 1) ===== -/
abbrev PR (α : Type) : Type := Sum Nat (Nat × α)
def hereS (f : SS) (n a : Nat) : Int32 := if a < n then f a else -1
def isDig (c : Int32) : Bool := decide (48 ≤ c ∧ c ≤ 57)
def isLet (c : Int32) : Bool := decide (c = 108 ∨ c = 107 ∨ c = 116 ∨ c = 118 ∨ c = 104 ∨ c = 111)
def pNum (f : SS) (n a : Nat) : PR Int32 := if isDig (hereS f n a) = true then (if isDig (hereS f n (a + 1)) = true then .inr (a + 2, (10 * (hereS f n a - 48) + hereS f n (a + 1)) - 48) else .inr (a + 1, hereS f n a - 48)) else .inl a
def pTest (f : SS) (n a : Nat) : PR TF1 :=
  if isLet (hereS f n a) = true then
    (if hereS f n (a + 1) = 60 ∨ hereS f n (a + 1) = 61 ∨ hereS f n (a + 1) = 62 then
      (match pNum f n (a + 2) with
        | .inl p => .inl p
        | .inr q => .inr (q.1, agF (hereS f n a) (hereS f n (a + 1)) q.2))
     else .inl (a + 1))
  else .inl a
def pLoop (F : Nat → PR TF1) (f : SS) (n : Nat) (sep : Int32) : Nat → Nat → List TF1 → PR (List TF1)
  | 0, a, φs => .inr (a, φs)
  | r + 1, a, φs => if hereS f n a = sep then (match F (a + 1) with
      | .inl p => .inl p
      | .inr q => pLoop F f n sep r q.1 (φs ++ [q.2])) else .inr (a, φs)
def jn (all : Bool) (φs : List TF1) : TF1 := fun e => if all then φs.all (fun ψ => ψ e) else φs.any (fun ψ => ψ e)
def pJ (all : Bool) (f : SS) (n : Nat) (sep : Int32) (F : Nat → PR TF1) (a : Nat) : PR TF1 :=
  match F a with
  | .inl p => .inl p
  | .inr q => (match pLoop F f n sep n q.1 [q.2] with
    | .inl p => .inl p
    | .inr z => .inr (z.1, jn all z.2))
def pEof (f : SS) (n : Nat) (F : Nat → PR TF1) (a : Nat) : PR TF1 := pJ false f n 124 (pJ true f n 38 F) a
def pClose (f : SS) (n : Nat) (r : PR TF1) : PR TF1 := match r with
  | .inl p => .inl p
  | .inr q => if hereS f n q.1 = 41 then .inr (q.1 + 1, q.2) else .inl q.1
def pNot (r : PR TF1) : PR TF1 := match r with
  | .inl p => .inl p
  | .inr q => .inr (q.1, fun e => !q.2 e)
def pF (f : SS) (n : Nat) : Nat → Nat → PR TF1
  | 0, a => if hereS f n a = 33 then .inl a else if hereS f n a = 40 then .inl a else pTest f n a
  | r + 1, a => if hereS f n a = 33 then pNot (pF f n r (a + 1)) else if hereS f n a = 40 then pClose f n (pEof f n (pF f n r) (a + 1)) else pTest f n a
def pE (f : SS) (n : Nat) (a : Nat) : PR TF1 := pEof f n (pF f n 4) a
def pWord (f : SS) (n : Nat) : List Int32 → Nat → PR Unit
  | [], a => .inr (a, ())
  | w :: ws, a => if hereS f n a = w then pWord f n ws (a + 1) else .inl a
/-- a number, a blank, tests -/
def pNT (f : SS) (n : Nat) (a : Nat) : PR (Int32 × TF1) := match pNum f n a with
  | .inl p => .inl p
  | .inr z => if hereS f n z.1 = 32 then (match pE f n (z.1 + 1) with
    | .inl p => .inl p
    | .inr y => .inr (y.1, (z.2, y.2))) else .inl z.1
def pTested (f : SS) (n : Nat) (w : List Int32) (a : Nat) : PR (Int32 × TF1) := match pWord f n w a with
  | .inl p => .inl p
  | .inr q => pNT f n q.1
def pCold (f : SS) (n : Nat) (a : Nat) : PR Int32 := match pWord f n [99, 111, 108, 100, 32] a with
  | .inl p => .inl p
  | .inr q => pNum f n q.1
def pPut {α : Type} (r : PR α) (g : α → KD) : PR KD := match r with
  | .inl p => .inl p
  | .inr q => .inr (q.1, g q.2)
def pClause (f : SS) (n : Nat) (a : Nat) (κ : KD) : PR KD :=
  if hereS f n a = 116 then pPut (pTested f n [116, 97, 107, 101, 32] a) (fun c => (κ.1 ++ [c], κ.2.1, κ.2.2.1, κ.2.2.2))
  else if hereS f n a = 109 then pPut (pTested f n [109, 111, 114, 101, 32] a) (fun c => (κ.1, κ.2.1 ++ [c], κ.2.2.1, κ.2.2.2))
  else if hereS f n a = 99 then pPut (pCold f n a) (fun c => (κ.1, κ.2.1, κ.2.2.1, c))
  else if hereS f n a = 102 then pPut (pTested f n [102, 101, 101, 32] a) (fun c => (κ.1, κ.2.1, κ.2.2.1 ++ [c], κ.2.2.2))
  else .inl a
/-- r + 1 clauses more at most -/
def pKil (f : SS) (n : Nat) : Nat → Nat → KD → PR KD
  | 0, a, κ => (match pClause f n a κ with
    | .inl p => .inl p
    | .inr q => if q.1 = n then .inr q else .inl q.1)
  | r + 1, a, κ => (match pClause f n a κ with
    | .inl p => .inl p
    | .inr q => if q.1 = n then .inr q else if hereS f n q.1 = 59 then pKil f n r (q.1 + 1) q.2 else .inl q.1)
/-! bounds of what is read -/
def pBd {α : Type} (n a : Nat) (r : PR α) : Prop := ∀ q, r = .inr q → a ≤ q.1 ∧ q.1 ≤ n
theorem hereS_in {f : SS} {n a : Nat} (h : hereS f n a ≠ -1) : a < n := by
  unfold hereS at h
  by_cases h1 : a < n
  · exact h1
  · rw [if_neg h1] at h
    exact absurd rfl h
theorem hereS_eq {f : SS} {n a : Nat} {c : Int32} (h : hereS f n a = c) (hc : c ≠ -1) : a < n := hereS_in (by rw [h]; exact hc)
theorem hereS_dig {f : SS} {n a : Nat} (h : isDig (hereS f n a) = true) : a < n := by
  apply hereS_in
  intro e
  rw [e] at h
  exact absurd h (by decide)
theorem hereS_let {f : SS} {n a : Nat} (h : isLet (hereS f n a) = true) : a < n := by
  apply hereS_in
  intro e
  rw [e] at h
  exact absurd h (by decide)
theorem pNum_bd {f : SS} {n a : Nat} : pBd n a (pNum f n a) := by
  intro q h
  unfold pNum at h
  by_cases h1 : isDig (hereS f n a) = true
  · have := hereS_dig h1
    rw [if_pos h1] at h
    by_cases h2 : isDig (hereS f n (a + 1)) = true
    · have := hereS_dig h2
      rw [if_pos h2] at h
      cases h
      exact ⟨by show a ≤ a + 2; omega, by show a + 2 ≤ n; omega⟩
    · rw [if_neg h2] at h
      cases h
      exact ⟨by show a ≤ a + 1; omega, by show a + 1 ≤ n; omega⟩
  · rw [if_neg h1] at h
    cases h
theorem pTest_bd {f : SS} {n a : Nat} : pBd n a (pTest f n a) := by
  intro q h
  unfold pTest at h
  by_cases h1 : isLet (hereS f n a) = true
  · rw [if_pos h1] at h
    by_cases h2 : hereS f n (a + 1) = 60 ∨ hereS f n (a + 1) = 61 ∨ hereS f n (a + 1) = 62
    · rw [if_pos h2] at h
      have hb := pNum_bd (f := f) (n := n) (a := a + 2)
      cases hn : pNum f n (a + 2) with
      | inl p => rw [hn] at h; cases h
      | inr z =>
        rw [hn] at h
        obtain ⟨b1, b2⟩ := hb z hn
        cases h
        exact ⟨by show a ≤ z.1; omega, b2⟩
    · rw [if_neg h2] at h
      cases h
  · rw [if_neg h1] at h
    cases h
theorem pLoop_bd {F : Nat → PR TF1} {f : SS} {n : Nat} {sep : Int32} (hs : sep ≠ -1) (hF : ∀ a, a ≤ n → pBd n a (F a)) : ∀ (r a : Nat) (φs : List TF1), a ≤ n → pBd n a (pLoop F f n sep r a φs)
  | 0, a, φs, ha, q, h => by
    unfold pLoop at h
    cases h
    exact ⟨Nat.le_refl _, ha⟩
  | r + 1, a, φs, ha, q, h => by
    unfold pLoop at h
    by_cases h1 : hereS f n a = sep
    · rw [if_pos h1] at h
      have hlt := hereS_eq h1 hs
      cases hn : F (a + 1) with
      | inl p => rw [hn] at h; cases h
      | inr z =>
        rw [hn] at h
        obtain ⟨b1, b2⟩ := hF (a + 1) (by omega) z hn
        obtain ⟨c1, c2⟩ := pLoop_bd hs hF r z.1 (φs ++ [z.2]) b2 q h
        exact ⟨by omega, c2⟩
    · rw [if_neg h1] at h
      cases h
      exact ⟨Nat.le_refl _, ha⟩
theorem pJ_bd {all : Bool} {F : Nat → PR TF1} {f : SS} {n : Nat} {sep : Int32} (hs : sep ≠ -1) (hF : ∀ a, a ≤ n → pBd n a (F a)) : ∀ a, a ≤ n → pBd n a (pJ all f n sep F a) := by
  intro a ha q h
  unfold pJ at h
  cases hn : F a with
  | inl p => rw [hn] at h; cases h
  | inr z =>
    rw [hn] at h
    obtain ⟨b1, b2⟩ := hF a ha z hn
    have h' : (match pLoop F f n sep n z.1 [z.2] with
      | .inl p => (.inl p : PR TF1)
      | .inr z => .inr (z.1, jn all z.2)) = .inr q := h
    cases hm : pLoop F f n sep n z.1 [z.2] with
    | inl p => rw [hm] at h'; cases h'
    | inr y =>
      rw [hm] at h'
      obtain ⟨c1, c2⟩ := pLoop_bd hs hF n z.1 [z.2] b2 y hm
      cases h'
      exact ⟨by show a ≤ y.1; omega, c2⟩
theorem pEof_bd {F : Nat → PR TF1} {f : SS} {n : Nat} (hF : ∀ a, a ≤ n → pBd n a (F a)) : ∀ a, a ≤ n → pBd n a (pEof f n F a) := pJ_bd (by decide) (pJ_bd (by decide) hF)
theorem pF_bd {f : SS} {n : Nat} : ∀ r a, a ≤ n → pBd n a (pF f n r a)
  | 0, a, ha, q, h => by
    unfold pF at h
    by_cases h1 : hereS f n a = 33
    · rw [if_pos h1] at h; cases h
    · rw [if_neg h1] at h
      by_cases h2 : hereS f n a = 40
      · rw [if_pos h2] at h; cases h
      · rw [if_neg h2] at h
        exact pTest_bd q h
  | r + 1, a, ha, q, h => by
    unfold pF at h
    by_cases h1 : hereS f n a = 33
    · rw [if_pos h1] at h
      have := hereS_eq h1 (by decide)
      cases hn : pF f n r (a + 1) with
      | inl p => rw [hn] at h; cases h
      | inr z =>
        rw [hn] at h
        obtain ⟨b1, b2⟩ := pF_bd r (a + 1) (by omega) z hn
        cases h
        exact ⟨by show a ≤ z.1; omega, b2⟩
    · rw [if_neg h1] at h
      by_cases h2 : hereS f n a = 40
      · rw [if_pos h2] at h
        have := hereS_eq h2 (by decide)
        cases hn : pEof f n (pF f n r) (a + 1) with
        | inl p => rw [hn] at h; cases h
        | inr z =>
          rw [hn] at h
          obtain ⟨b1, b2⟩ := pEof_bd (pF_bd r) (a + 1) (by omega) z hn
          unfold pClose at h
          by_cases h3 : hereS f n z.1 = 41
          · have := hereS_eq h3 (by decide)
            have h' : (if hereS f n z.1 = 41 then (.inr (z.1 + 1, z.2) : PR TF1) else .inl z.1) = .inr q := h
            rw [if_pos h3] at h'
            cases h'
            exact ⟨by show a ≤ z.1 + 1; omega, by show z.1 + 1 ≤ n; omega⟩
          · have h' : (if hereS f n z.1 = 41 then (.inr (z.1 + 1, z.2) : PR TF1) else .inl z.1) = .inr q := h
            rw [if_neg h3] at h'
            cases h'
      · rw [if_neg h2] at h
        exact pTest_bd q h
theorem pE_bd {f : SS} {n a : Nat} (ha : a ≤ n) : pBd n a (pE f n a) := pEof_bd (pF_bd 4) a ha
theorem pWord_bd {f : SS} {n : Nat} : ∀ (ws : List Int32), (∀ w ∈ ws, w ≠ -1) → ∀ a, a ≤ n → pBd n a (pWord f n ws a)
  | [], _, a, ha, q, h => by
    unfold pWord at h
    cases h
    exact ⟨Nat.le_refl _, ha⟩
  | w :: ws, hw, a, ha, q, h => by
    unfold pWord at h
    by_cases h1 : hereS f n a = w
    · rw [if_pos h1] at h
      have := hereS_eq h1 (hw w List.mem_cons_self)
      obtain ⟨b1, b2⟩ := pWord_bd ws (fun v hv => hw v (List.mem_cons_of_mem _ hv)) (a + 1) (by omega) q h
      exact ⟨by omega, b2⟩
    · rw [if_neg h1] at h; cases h
theorem pNT_bd {f : SS} {n a : Nat} : pBd n a (pNT f n a) := by
  intro q h
  unfold pNT at h
  cases hn : pNum f n a with
  | inl p => rw [hn] at h; cases h
  | inr z =>
    rw [hn] at h
    obtain ⟨b1, b2⟩ := pNum_bd z hn
    have h' : (if hereS f n z.1 = 32 then (match pE f n (z.1 + 1) with
      | .inl p => (.inl p : PR (Int32 × TF1))
      | .inr y => .inr (y.1, (z.2, y.2))) else .inl z.1) = .inr q := h
    by_cases h1 : hereS f n z.1 = 32
    · rw [if_pos h1] at h'
      have := hereS_eq h1 (by decide)
      cases hm : pE f n (z.1 + 1) with
      | inl p => rw [hm] at h'; cases h'
      | inr y =>
        rw [hm] at h'
        obtain ⟨c1, c2⟩ := pE_bd (by omega) y hm
        cases h'
        exact ⟨by show a ≤ y.1; omega, c2⟩
    · rw [if_neg h1] at h'; cases h'
theorem pPut_bd {α : Type} {n a : Nat} {r : PR α} {g : α → KD} (h : pBd n a r) : pBd n a (pPut r g) := by
  intro q e
  cases r with
  | inl p => cases e
  | inr z => cases e; exact h z rfl
theorem pTested_bd {f : SS} {n a : Nat} (ha : a ≤ n) {w : List Int32} (hw : ∀ v ∈ w, v ≠ -1) : pBd n a (pTested f n w a) := by
  intro q h
  unfold pTested at h
  cases hn : pWord f n w a with
  | inl p => rw [hn] at h; cases h
  | inr z =>
    rw [hn] at h
    obtain ⟨b1, b2⟩ := pWord_bd w hw a ha z hn
    obtain ⟨c1, c2⟩ := pNT_bd q h
    exact ⟨by omega, c2⟩
theorem pCold_bd {f : SS} {n a : Nat} (ha : a ≤ n) : pBd n a (pCold f n a) := by
  intro q h
  unfold pCold at h
  cases hn : pWord f n [99, 111, 108, 100, 32] a with
  | inl p => rw [hn] at h; cases h
  | inr z =>
    rw [hn] at h
    obtain ⟨b1, b2⟩ := pWord_bd [99, 111, 108, 100, 32] (by decide) a ha z hn
    obtain ⟨c1, c2⟩ := pNum_bd q h
    exact ⟨by omega, c2⟩
theorem pClause_bd {f : SS} {n a : Nat} {κ : KD} (ha : a ≤ n) : pBd n a (pClause f n a κ) := by
  unfold pClause
  by_cases h1 : hereS f n a = 116
  · rw [if_pos h1]; exact pPut_bd (pTested_bd ha (by decide))
  rw [if_neg h1]
  by_cases h2 : hereS f n a = 109
  · rw [if_pos h2]; exact pPut_bd (pTested_bd ha (by decide))
  rw [if_neg h2]
  by_cases h3 : hereS f n a = 99
  · rw [if_pos h3]; exact pPut_bd (pCold_bd ha)
  rw [if_neg h3]
  by_cases h4 : hereS f n a = 102
  · rw [if_pos h4]; exact pPut_bd (pTested_bd ha (by decide))
  rw [if_neg h4]
  intro q h
  cases h
/-! what is read is small -/
def kdC (cs : CL1) : Prop := ∀ c ∈ cs, ∃ j : Nat, j ≤ 99 ∧ c.1 = nI j
/-- a kiln's numbers: of r clauses at most -/
def kdB (κ : KD) (r : Nat) : Prop := kdC κ.1 ∧ kdC κ.2.1 ∧ kdC κ.2.2.1 ∧ κ.1.length + κ.2.1.length + κ.2.2.1.length ≤ r ∧ ∃ c : Nat, c ≤ 99 ∧ κ.2.2.2 = nI c
theorem kdB_0 : kdB κ0 0 := ⟨fun _ h => absurd h List.not_mem_nil, fun _ h => absurd h List.not_mem_nil, fun _ h => absurd h List.not_mem_nil, Nat.le_refl 0, 50, by omega, rfl⟩
theorem isDig_n {c : Int32} (h : isDig c = true) : ∃ j : Nat, j ≤ 9 ∧ c = nI (48 + j) := by
  obtain ⟨h1, h2⟩ := of_decide_eq_true h
  have h0 : (0 : Int32) ≤ c := by
    rw [Int32.le_iff_toInt_le] at *
    have e1 : (48 : Int32).toInt = 48 := by decide
    have e2 : (0 : Int32).toInt = 0 := by decide
    omega
  obtain ⟨j, hj, rfl⟩ := (i_rng (n := 57) (by decide)).mp ⟨h0, h2⟩
  have h3 : 48 ≤ j := (nI_leI (a := 48) (by decide) (by omega)).mp h1
  exact ⟨j - 48, by omega, by congr 1; omega⟩
theorem pNum_small {f : SS} {n a : Nat} {q : Nat × Int32} (h : pNum f n a = .inr q) : ∃ j : Nat, j ≤ 99 ∧ q.2 = nI j := by
  unfold pNum at h
  by_cases h1 : isDig (hereS f n a) = true
  · rw [if_pos h1] at h
    obtain ⟨i, hi, ei⟩ := isDig_n h1
    have e1 : hereS f n a - 48 = nI i := by
      rw [ei]
      have : nI (48 + i) - nI 48 = nI (48 + i - 48) := pk_sub (by omega)
      rw [show (48 : Int32) = nI 48 from rfl, this]
      congr 1
      omega
    by_cases h2 : isDig (hereS f n (a + 1)) = true
    · rw [if_pos h2] at h
      obtain ⟨j, hj, ej⟩ := isDig_n h2
      cases h
      refine ⟨10 * i + j, by omega, ?_⟩
      show 10 * (hereS f n a - 48) + hereS f n (a + 1) - 48 = nI (10 * i + j)
      rw [e1, ej, show (10 : Int32) = nI 10 from rfl, show (48 : Int32) = nI 48 from rfl, pk_mul, nI_add, pk_sub (by omega)]
      congr 1
      omega
    · rw [if_neg h2] at h
      cases h
      exact ⟨i, by omega, e1⟩
  · rw [if_neg h1] at h
    cases h
theorem pNT_small {f : SS} {n a : Nat} {q : Nat × (Int32 × TF1)} (h : pNT f n a = .inr q) : ∃ j : Nat, j ≤ 99 ∧ q.2.1 = nI j := by
  unfold pNT at h
  cases hn : pNum f n a with
  | inl p => rw [hn] at h; cases h
  | inr z =>
    rw [hn] at h
    have h' : (if hereS f n z.1 = 32 then (match pE f n (z.1 + 1) with
      | .inl p => (.inl p : PR (Int32 × TF1))
      | .inr y => .inr (y.1, (z.2, y.2))) else .inl z.1) = .inr q := h
    by_cases h1 : hereS f n z.1 = 32
    · rw [if_pos h1] at h'
      cases hm : pE f n (z.1 + 1) with
      | inl p => rw [hm] at h'; cases h'
      | inr y => rw [hm] at h'; cases h'; exact pNum_small hn
    · rw [if_neg h1] at h'; cases h'
theorem pTested_small {f : SS} {n a : Nat} {w : List Int32} {q : Nat × (Int32 × TF1)} (h : pTested f n w a = .inr q) : ∃ j : Nat, j ≤ 99 ∧ q.2.1 = nI j := by
  unfold pTested at h
  cases hn : pWord f n w a with
  | inl p => rw [hn] at h; cases h
  | inr z => rw [hn] at h; exact pNT_small h
theorem pCold_small {f : SS} {n a : Nat} {q : Nat × Int32} (h : pCold f n a = .inr q) : ∃ j : Nat, j ≤ 99 ∧ q.2 = nI j := by
  unfold pCold at h
  cases hn : pWord f n [99, 111, 108, 100, 32] a with
  | inl p => rw [hn] at h; cases h
  | inr z => rw [hn] at h; exact pNum_small h
theorem kdC_app {cs : CL1} {c : Int32 × TF1} (h : kdC cs) (hc : ∃ j : Nat, j ≤ 99 ∧ c.1 = nI j) : kdC (cs ++ [c]) := by
  intro d hd
  rcases List.mem_append.mp hd with h1 | h1
  · exact h d h1
  · rw [List.mem_singleton.mp h1]; exact hc
theorem pPut_inr {α : Type} {r : PR α} {g : α → KD} {q : Nat × KD} (h : pPut r g = .inr q) : ∃ z, r = .inr z ∧ q = (z.1, g z.2) := by
  cases r with
  | inl p => cases h
  | inr z => cases h; exact ⟨z, rfl, rfl⟩
theorem pClause_small {f : SS} {n a r : Nat} {κ : KD} (hκ : kdB κ r) {q : Nat × KD} (h : pClause f n a κ = .inr q) : kdB q.2 (r + 1) := by
  obtain ⟨k1, k2, k3, k4, k5⟩ := hκ
  unfold pClause at h
  by_cases h1 : hereS f n a = 116
  · rw [if_pos h1] at h
    obtain ⟨z, hz, rfl⟩ := pPut_inr h
    exact ⟨kdC_app k1 (pTested_small hz), k2, k3, by show (κ.1 ++ [z.2]).length + κ.2.1.length + κ.2.2.1.length ≤ r + 1; rw [List.length_append, List.length_singleton]; omega, k5⟩
  rw [if_neg h1] at h
  by_cases h2 : hereS f n a = 109
  · rw [if_pos h2] at h
    obtain ⟨z, hz, rfl⟩ := pPut_inr h
    exact ⟨k1, kdC_app k2 (pTested_small hz), k3, by show κ.1.length + (κ.2.1 ++ [z.2]).length + κ.2.2.1.length ≤ r + 1; rw [List.length_append, List.length_singleton]; omega, k5⟩
  rw [if_neg h2] at h
  by_cases h3 : hereS f n a = 99
  · rw [if_pos h3] at h
    obtain ⟨z, hz, rfl⟩ := pPut_inr h
    exact ⟨k1, k2, k3, by show κ.1.length + κ.2.1.length + κ.2.2.1.length ≤ r + 1; omega, pCold_small hz⟩
  rw [if_neg h3] at h
  by_cases h4 : hereS f n a = 102
  · rw [if_pos h4] at h
    obtain ⟨z, hz, rfl⟩ := pPut_inr h
    exact ⟨k1, k2, kdC_app k3 (pTested_small hz), by show κ.1.length + κ.2.1.length + (κ.2.2.1 ++ [z.2]).length ≤ r + 1; rw [List.length_append, List.length_singleton]; omega, k5⟩
  rw [if_neg h4] at h
  cases h
theorem pKil_small {f : SS} {n : Nat} : ∀ (r a d : Nat) (κ : KD), kdB κ d → ∀ q, pKil f n r a κ = .inr q → kdB q.2 (d + r + 1) ∧ q.1 = n
  | 0, a, d, κ, hκ, q, h => by
    unfold pKil at h
    cases hn : pClause f n a κ with
    | inl p => rw [hn] at h; cases h
    | inr z =>
      rw [hn] at h
      have h' : (if z.1 = n then (.inr z : PR KD) else .inl z.1) = .inr q := h
      by_cases h1 : z.1 = n
      · rw [if_pos h1] at h'
        cases h'
        exact ⟨pClause_small hκ hn, h1⟩
      · rw [if_neg h1] at h'; cases h'
  | r + 1, a, d, κ, hκ, q, h => by
    unfold pKil at h
    cases hn : pClause f n a κ with
    | inl p => rw [hn] at h; cases h
    | inr z =>
      rw [hn] at h
      have hz := pClause_small hκ hn
      have h' : (if z.1 = n then (.inr z : PR KD) else if hereS f n z.1 = 59 then pKil f n r (z.1 + 1) z.2 else .inl z.1) = .inr q := h
      by_cases h1 : z.1 = n
      · rw [if_pos h1] at h'
        cases h'
        obtain ⟨a1, a2, a3, a4, a5⟩ := hz
        exact ⟨⟨a1, a2, a3, by omega, a5⟩, h1⟩
      · rw [if_neg h1] at h'
        by_cases h2 : hereS f n z.1 = 59
        · rw [if_pos h2] at h'
          obtain ⟨⟨a1, a2, a3, a4, a5⟩, e⟩ := pKil_small r (z.1 + 1) (d + 1) z.2 hz q h'
          exact ⟨⟨a1, a2, a3, by omega, a5⟩, e⟩
        · rw [if_neg h2] at h'; cases h'
/-! sums over clauses -/
theorem clSum_app (cs : CL1) (c : Int32 × TF1) (e : SS) : clSum (cs ++ [c]) e = if c.2 e = true then clSum cs e + c.1 else clSum cs e := by
  unfold clSum
  rw [List.foldl_append]
  rfl
theorem clSum_small {e : SS} : ∀ (cs : CL1) (r s : Nat), kdC cs → (cs.foldl (fun acc c => if c.2 e = true then acc + c.1 else acc) (nI s)) = (cs.foldl (fun acc c => if c.2 e = true then acc + c.1 else acc) (nI s)) → r = r → ∃ j : Nat, j ≤ s + 99 * cs.length ∧ s ≤ j ∧ cs.foldl (fun acc c => if c.2 e = true then acc + c.1 else acc) (nI s) = nI j
  | [], r, s, _, _, _ => ⟨s, by simp, Nat.le_refl s, rfl⟩
  | c :: cs, r, s, h, _, _ => by
    obtain ⟨i, hi, ei⟩ := h c List.mem_cons_self
    have h' : kdC cs := fun d hd => h d (List.mem_cons_of_mem _ hd)
    rw [List.foldl_cons]
    by_cases hc : c.2 e = true
    · rw [if_pos hc, ei, nI_add]
      obtain ⟨j, j1, j2, j3⟩ := clSum_small cs r (s + i) h' rfl rfl
      exact ⟨j, by rw [List.length_cons]; omega, by omega, j3⟩
    · rw [if_neg hc]
      obtain ⟨j, j1, j2, j3⟩ := clSum_small cs r s h' rfl rfl
      exact ⟨j, by rw [List.length_cons]; omega, by omega, j3⟩
theorem clSum_nI {cs : CL1} (h : kdC cs) (e : SS) : ∃ j : Nat, j ≤ 99 * cs.length ∧ clSum cs e = nI j := by
  obtain ⟨j, j1, j2, j3⟩ := clSum_small (e := e) cs 0 0 h rfl rfl
  exact ⟨j, by omega, j3⟩
/-! ===== bounds of the oven ===== -/
def smallN (v : Int32) (n : Nat) : Prop := ∃ j : Nat, j ≤ n ∧ v = nI j
/-- what always holds of the row s -/
def okS (x : SS) : Prop := (∀ t, t < 4 → smallN (x t) 9999) ∧ smallN (x 4) 9999 ∧ smallN (x 5) 6 ∧ (∀ l, l < 6 → smallN (x (8 + 10 * l)) 6 ∧ smallN (x (8 + 10 * l + 1)) 9 ∧ ∀ t, t < 4 → smallN (x (8 + 10 * l + (2 + t))) 99 ∧ smallN (x (8 + 10 * l + (6 + t))) 99)
theorem smallN.ge {v : Int32} {n : Nat} (h : smallN v n) (hn : n < 2 ^ 31) : 0 ≤ v := by
  obtain ⟨j, hj, rfl⟩ := h
  exact nI_pos' (by omega)
theorem clampT_small {h v : Int32} {n : Nat} (hn : n < 2 ^ 31) (hh : smallN h n) : ∃ i j : Nat, h = nI i ∧ clampT h v = nI j ∧ j ≤ i ∧ i ≤ n := by
  obtain ⟨i, hi, rfl⟩ := hh
  refine ⟨i, ?_⟩
  unfold clampT
  by_cases h1 : v ≤ nI i
  · rw [if_pos h1]
    by_cases h2 : 0 ≤ v
    · rw [if_pos h2]
      obtain ⟨j, hj, rfl⟩ := (i_rng (n := i) (by omega)).mp ⟨h2, h1⟩
      exact ⟨j, rfl, rfl, hj, hi⟩
    · rw [if_neg h2]
      exact ⟨0, rfl, rfl, Nat.zero_le _, hi⟩
  · rw [if_neg h1]
    exact ⟨i, rfl, rfl, Nat.le_refl _, hi⟩
theorem lLeave_small {kd : Nat} {v told taste : Int32} (hv : smallN v 9) (ht : smallN told 1200) : smallN (lLeave kd v told taste) 1300 := by
  obtain ⟨i, hi, rfl⟩ := hv
  obtain ⟨j, hj, rfl⟩ := ht
  unfold lLeave
  split
  · exact ⟨0, by omega, rfl⟩
  · exact ⟨0, by omega, rfl⟩
  · by_cases h : taste = 0
    · rw [if_pos h, nI_add]
      exact ⟨j + i, by omega, rfl⟩
    · rw [if_neg h, i_add0]
      exact ⟨j, by omega, rfl⟩
  · rw [show (2 : Int32) = nI 2 from rfl, pk_div (by omega) (by omega) (by omega)]
    exact ⟨j / 2, by omega, rfl⟩
  · exact ⟨j, by omega, rfl⟩
theorem aTake_small {κ : KD} {x : SS} {l t : Nat} (h : smallN (x t) 9999) : ∃ i j : Nat, x t = nI i ∧ aTake κ x l t = nI j ∧ j ≤ i ∧ i ≤ 9999 := clampT_small (by omega) h
theorem aLeave_small {κ : KD} {r : Nat} (hκ : kdB κ r) (hr : r ≤ 10) {x : SS} (hx : okS x) {l t : Nat} (hl : l < 6) (ht : t < 4) : smallN (aLeave κ x l t) 1300 := by
  obtain ⟨-, -, -, h4⟩ := hx
  obtain ⟨-, h5, h6⟩ := h4 l hl
  obtain ⟨i, hi, ei⟩ := (h6 t ht).1
  obtain ⟨j, hj, ej⟩ := clSum_nI hκ.2.1 (lkS x l t)
  refine lLeave_small h5 ?_
  unfold kMore
  rw [ei, ej, nI_add]
  have := hκ.2.2.2.1
  exact ⟨i + j, by omega, rfl⟩
theorem cap_small {v : Int32} (h : 0 ≤ v) : smallN (cap v) 9999 := by
  unfold cap
  by_cases h1 : v ≤ 9999
  · rw [if_pos h1]
    exact (i_rng (n := 9999) (by decide)).mp ⟨h, h1⟩
  · rw [if_neg h1]
    exact ⟨9999, Nat.le_refl _, rfl⟩
theorem aAge_small {h : Int32} (hh : smallN h 9999) : smallN (aAge h) 9999 := by
  obtain ⟨j, hj, rfl⟩ := hh
  unfold aAge
  by_cases h1 : 9999 ≤ nI j
  · rw [if_pos h1]; exact ⟨j, hj, rfl⟩
  · rw [if_neg h1, nI_1]
    have : ¬ 9999 ≤ j := fun c => h1 ((nI_leI (a := 9999) (by omega) (by omega)).mpr c)
    exact ⟨j + 1, by omega, rfl⟩
theorem okS_time {x y : SS} (hx : okS x) (h1 : ∀ t, t < 4 → smallN (y t) 9999) (h2 : smallN (y 4) 9999) (h3 : ∀ i, 5 ≤ i → y i = x i) : okS y := by
  obtain ⟨-, -, c, d⟩ := hx
  refine ⟨h1, h2, by rw [h3 5 (by omega)]; exact c, fun l hl => ?_⟩
  obtain ⟨d1, d2, d3⟩ := d l hl
  refine ⟨by rw [h3 _ (by omega)]; exact d1, by rw [h3 _ (by omega)]; exact d2, fun t ht => ?_⟩
  rw [h3 _ (by omega), h3 _ (by omega)]
  exact d3 t ht
theorem aGo_ge {κ : KD} {x : SS} {l i : Nat} (h : 5 ≤ i) : aGo κ x l i = x i := by
  unfold aGo
  rw [if_neg (by omega), if_neg (by omega)]
theorem aCool_ge {κ : KD} {x : SS} {i : Nat} (h : 5 ≤ i) : aCool κ x i = x i := by
  unfold aCool
  rw [if_neg (by omega), if_neg (by omega)]
theorem aGo_ok {κ : KD} {r : Nat} (hκ : kdB κ r) (hr : r ≤ 10) {x : SS} (hx : okS x) {l : Nat} (hl : l < 6) : okS (aGo κ x l) := by
  refine okS_time hx (fun t ht => ?_) ?_ (fun i hi => aGo_ge hi)
  · unfold aGo
    rw [if_pos ht]
    obtain ⟨i, j, e1, e2, h1, h2⟩ := aTake_small (κ := κ) (l := l) (hx.1 t ht)
    obtain ⟨m, hm, em⟩ := aLeave_small hκ hr hx hl ht
    rw [e1, e2, em, pk_sub h1, nI_add]
    exact cap_small (nI_pos' (by omega))
  · unfold aGo
    rw [if_neg (by omega), if_pos rfl]
    exact aAge_small hx.2.1
/-- what is left of a cold hour -/
theorem aCool_v {κ : KD} {r : Nat} (hκ : kdB κ r) {x : SS} {t : Nat} (h : smallN (x t) 9999) : ∃ j : Nat, j ≤ 9999 ∧ (κ.2.2.2 * x t) / 100 = nI j := by
  obtain ⟨c, hc, ec⟩ := hκ.2.2.2.2
  obtain ⟨i, hi, ei⟩ := h
  rw [ec, ei, pk_mul, show (100 : Int32) = nI 100 from rfl]
  have hb : c * i ≤ 99 * 9999 := Nat.mul_le_mul hc hi
  rw [pk_div (by omega) (by omega) (by omega)]
  exact ⟨c * i / 100, by omega, rfl⟩
theorem cap_id {j : Nat} (h : j ≤ 9999) : cap (nI j) = nI j := by
  unfold cap
  rw [if_pos (show nI j ≤ 9999 from (nI_leI (b := 9999) (by omega) (by omega)).mpr h)]
theorem aCool_ok {κ : KD} {r : Nat} (hκ : kdB κ r) {x : SS} (hx : okS x) : okS (aCool κ x) := by
  refine okS_time hx (fun t ht => ?_) ?_ (fun i hi => aCool_ge hi)
  · unfold aCool
    rw [if_pos ht]
    obtain ⟨j, hj, ej⟩ := aCool_v hκ (hx.1 t ht)
    rw [ej, cap_id hj]
    exact ⟨j, hj, rfl⟩
  · unfold aCool
    rw [if_neg (by omega), if_pos rfl]
    exact aAge_small hx.2.1
