/-! PLAIN: the twin's shift: its loop -/
set_option maxRecDepth 100000
section
variable {σ : TS}
theorem nI_subN {a b : Nat} (h : b ≤ a) : nI a - nI b = nI (a - b) := by
  have e : nI (a - b) + nI b = nI a := by rw [nI_add, Nat.sub_add_cancel h]
  rw [← e, Int32.add_sub_cancel]
/-- t items of B.. are those of A.., from below; from above -/
def mU (σ : TS) (A B t : Nat) : TS := (σ.1, fun m => if B ≤ m ∧ m < B + t then σ.2 (A + (m - B)) else σ.2 m)
def mD (σ : TS) (A B n t : Nat) : TS := (σ.1, fun m => if B + (n - t) ≤ m ∧ m < B + n then σ.2 (A + (m - B)) else σ.2 m)
theorem mU_0 (σ : TS) (A B : Nat) : mU σ A B 0 = σ := Prod.ext rfl (funext fun m => if_neg (by omega))
theorem mD_0 (σ : TS) (A B n : Nat) : mD σ A B n 0 = σ := Prod.ext rfl (funext fun m => if_neg (by omega))
theorem mD_n (σ : TS) (A B n : Nat) : mD σ A B n n = mU σ A B n := by
  unfold mD mU
  rw [Nat.sub_self, Nat.add_zero]
theorem mU_s {A B t n : Nat} (ht : t < n) (h : B ≤ A ∨ A + n ≤ B) : sL (mU σ A B t) (B + t) ((mU σ A B t).2 (A + t)) = mU σ A B (t + 1) := by
  have e : (mU σ A B t).2 (A + t) = σ.2 (A + t) := if_neg (by omega)
  rw [e]
  refine Prod.ext rfl (funext fun m => ?_)
  show vp_updL _ (B + t) _ m = if B ≤ m ∧ m < B + (t + 1) then σ.2 (A + (m - B)) else σ.2 m
  by_cases c : m = B + t
  · subst c
    rw [updL_same, if_pos (by omega), show B + t - B = t by omega]
  · rw [updL_ne c]
    show (if B ≤ m ∧ m < B + t then σ.2 (A + (m - B)) else σ.2 m) = _
    by_cases c2 : B ≤ m ∧ m < B + t
    · rw [if_pos c2, if_pos (by omega)]
    · rw [if_neg c2, if_neg (by omega)]
theorem mD_s {A B t n : Nat} (ht : t < n) (h : A ≤ B ∨ B + n ≤ A) : sL (mD σ A B n t) (B + (n - 1 - t)) ((mD σ A B n t).2 (A + (n - 1 - t))) = mD σ A B n (t + 1) := by
  have e : (mD σ A B n t).2 (A + (n - 1 - t)) = σ.2 (A + (n - 1 - t)) := if_neg (by omega)
  rw [e]
  refine Prod.ext rfl (funext fun m => ?_)
  show vp_updL _ (B + (n - 1 - t)) _ m = if B + (n - (t + 1)) ≤ m ∧ m < B + n then σ.2 (A + (m - B)) else σ.2 m
  by_cases c : m = B + (n - 1 - t)
  · subst c
    rw [updL_same, if_pos (by omega), show B + (n - 1 - t) - B = n - 1 - t by omega]
  · rw [updL_ne c]
    show (if B + (n - t) ≤ m ∧ m < B + n then σ.2 (A + (m - B)) else σ.2 m) = _
    by_cases c2 : B + (n - t) ≤ m ∧ m < B + n
    · rw [if_pos c2, if_pos (by omega)]
    · rw [if_neg c2, if_neg (by omega)]
theorem l_up {p i r j n : Nat} {K : Int32 → TS → Prop} (hA : 60 * p + i + n ≤ 360) (hB : 60 * r + j + n ≤ 360) (hi : ¬ nI i ≤ nI j) (h : 60 * r + j ≤ 60 * p + i ∨ 60 * p + i + n ≤ 60 * r + j) (hk : K (nI n) (mU σ (60 * p + i) (60 * r + j) n)) : ∀ d t : Nat, d + t = n → tw_shift_L102 K (d + 1) (nI p) (nI i) (nI r) (nI j) (nI n) (nI t) (mU σ (60 * p + i) (60 * r + j) t) := by
  intro d
  induction d with
  | zero =>
    intro t ht
    obtain rfl : t = n := by omega
    exact br1 (nI_le (Nat.le_refl _) (by omega)) hk
  | succ d ih =>
    intro t ht
    refine br0 (nlt (a := t) (b := n) (by omega) (by omega)) (br0 hi ?_)
    unfold tw_shift_J127
    rw [show (60 : Int32) = nI 60 from rfl, pk_mul, pk_mul, nI_add, nI_add, nI_add, nI_add]
    refine ⟨vp_in_nI (by omega) (by omega), vp_in_nI (by omega) (by omega), fun x158 e => ?_⟩
    subst e
    rw [nI_clamp (by omega), nI_clamp (by omega), show nI t + 1 = nI (t + 1) from nI_add t 1, mU_s (n := n) (by omega) h]
    exact ih (t + 1) (by omega)
theorem l_down {p i r j n : Nat} {K : Int32 → TS → Prop} (hA : 60 * p + i + n ≤ 360) (hB : 60 * r + j + n ≤ 360) (hi : nI i ≤ nI j) (h : 60 * p + i ≤ 60 * r + j ∨ 60 * r + j + n ≤ 60 * p + i) (hk : K (nI n) (mU σ (60 * p + i) (60 * r + j) n)) : ∀ d t : Nat, d + t = n → tw_shift_L102 K (d + 1) (nI p) (nI i) (nI r) (nI j) (nI n) (nI t) (mD σ (60 * p + i) (60 * r + j) n t) := by
  intro d
  induction d with
  | zero =>
    intro t ht
    obtain rfl : t = n := by omega
    rw [mD_n]
    exact br1 (nI_le (Nat.le_refl _) (by omega)) hk
  | succ d ih =>
    intro t ht
    refine br0 (nlt (a := t) (b := n) (by omega) (by omega)) (br1 hi ?_)
    unfold tw_shift_J127
    rw [show (1 : Int32) = nI 1 from rfl, nI_subN (a := n) (b := 1) (by omega), nI_subN (a := n - 1) (b := t) (by omega), show (60 : Int32) = nI 60 from rfl, pk_mul, pk_mul, nI_add, nI_add, nI_add, nI_add]
    refine ⟨vp_in_nI (by omega) (by omega), vp_in_nI (by omega) (by omega), fun x158 e => ?_⟩
    subst e
    rw [nI_clamp (by omega), nI_clamp (by omega), nI_add, mD_s (n := n) (by omega) h]
    exact ih (t + 1) (by omega)
end
