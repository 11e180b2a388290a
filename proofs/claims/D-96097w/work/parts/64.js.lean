/-! PLAIN: shift -/
set_option maxRecDepth 100000
def copyR (x x2 : vp_A) (sp dp n : Nat) (x' : vp_A) : Prop := (∃ (n0 n1 : Nat) (f g : Nat → Int32), x = (n0, .inl f) ∧ x2 = (n1, .inl g) ∧ x' = (n1, .inl (va_cpy f g sp dp n))) ∨ (∃ (n0 n1 : Nat) (f g : Nat → Int64), x = (n0, .inr (.inl f)) ∧ x2 = (n1, .inr (.inl g)) ∧ x' = (n1, .inr (.inl (va_cpy f g sp dp n))))
def shFine (i j n : Int32) (n0 n1 : Nat) : Prop := 0 ≤ i.toInt ∧ 0 ≤ j.toInt ∧ 0 ≤ n.toInt ∧ i.toInt + n.toInt ≤ (n0 : Int) ∧ j.toInt + n.toInt ≤ (n1 : Int)
/-- what shift does -/
def shiftO (T : xT) (ω : CS) (t i u j n r : Int32) (ω' : CS) : Prop := (¬ ((0 ≤ t ∧ t ≤ 5) ∧ (0 ≤ u ∧ u ≤ 5)) ∧ r = -1 ∧ ω' = ω) ∨ (((0 ≤ t ∧ t ≤ 5) ∧ (0 ≤ u ∧ u ≤ 5)) ∧ (ω.1.2 (31 + t.toNatClampNeg) 0 = none ∨ ω.1.2 (31 + u.toNatClampNeg) 0 = none) ∧ r = -11 ∧ ω' = ω) ∨ (((0 ≤ t ∧ t ≤ 5) ∧ (0 ≤ u ∧ u ≤ 5)) ∧ ∃ (s a s2 a2 : Nat) (x x2 : vp_A), ω.1.2 (31 + t.toNatClampNeg) 0 = some a ∧ rowE T ω s a x ∧ ω.1.2 (31 + u.toNatClampNeg) 0 = some a2 ∧ rowE T ω s2 a2 x2 ∧ ((¬ s = s2 ∧ r = -12 ∧ ω' = ω) ∨ (s = s2 ∧ ¬ shFine i j n x.1 x2.1 ∧ r = -13 ∧ ω' = ω) ∨ (s = s2 ∧ shFine i j n x.1 x2.1 ∧ r = n ∧ ∃ x' : vp_A, copyR x x2 i.toNatClampNeg j.toNatClampNeg n.toNatClampNeg x' ∧ ω' = cRow ω a2 (.inl (T.1 (sortT s2), x')))))
section
variable {T : xT} {q : Nat → Nat} {ω : CS} {σ : TS} {κ κi : KD}
theorem row_copy {p r s n0 n1 a a2 i j n : Nat} {x x2 x' : vp_A} (h : rowR T ω σ.2 (60 * p) s n0 a) (h2 : rowR T ω σ.2 (60 * r) s n1 a2) (hx : rowE T ω s a x) (hx2 : rowE T ω s a2 x2) (hi : i + n ≤ n0) (hj : j + n ≤ n1) (hc : copyR x x2 i j n x') : rowR T (cRow ω a2 (.inl (T.1 (sortT s), x'))) (mU σ (60 * p + i) (60 * r + j) n).2 (60 * r) s n1 a2 := by
  have hit : ∀ k, (mU σ (60 * p + i) (60 * r + j) n).2 (60 * r + k) = if j ≤ k ∧ k < j + n then σ.2 (60 * p + (i + (k - j))) else σ.2 (60 * r + k) := by
    intro k
    show (if 60 * r + j ≤ 60 * r + k ∧ 60 * r + k < 60 * r + j + n then σ.2 (60 * p + i + (60 * r + k - (60 * r + j))) else σ.2 (60 * r + k)) = _
    by_cases c : j ≤ k ∧ k < j + n
    · rw [if_pos (by omega), if_pos c, show 60 * p + i + (60 * r + k - (60 * r + j)) = 60 * p + (i + (k - j)) by omega]
    · rw [if_neg (by omega), if_neg c]
  obtain ⟨ha, hn0, h⟩ := h
  obtain ⟨ha2, hn1, h2⟩ := h2
  refine ⟨ha2, hn1, ?_⟩
  rcases h with ⟨rfl, g, hg, hv⟩ | ⟨h4, f, hf, hv, h0, h1, h4'⟩
  · rcases h2 with ⟨-, g2, hg2, hv2⟩ | ⟨z, -⟩
    · have e := hx.2.2.symm.trans hg
      injection e with e0
      have ee := (Prod.mk.inj e0).2
      have e' := hx2.2.2.symm.trans hg2
      injection e' with e1
      have ee2 := (Prod.mk.inj e1).2
      subst ee
      subst ee2
      rcases hc with ⟨m0, m1, f1, f2, y1, -⟩ | ⟨m0, m1, f1, f2, y1, y2, rfl⟩
      · cases y1
      · cases y1
        cases y2
        refine Or.inl ⟨rfl, va_cpy g g2 i j n, va_up_self _ _ _, fun k hk => ?_⟩
        rw [hit]
        unfold va_cpy
        by_cases c : j ≤ k ∧ k < j + n
        · rw [if_pos c, if_pos c, hv _ (by omega)]
        · rw [if_neg c, if_neg c, hv2 _ hk]
    · exact absurd z (by omega)
  · rcases h2 with ⟨z, -⟩ | ⟨-, f2, hf2, hv2, k0, k1, k4⟩
    · exact absurd h4 (by omega)
    · have e := hx.2.2.symm.trans hf
      injection e with e0
      have ee := (Prod.mk.inj e0).2
      have e' := hx2.2.2.symm.trans hf2
      injection e' with e1
      have ee2 := (Prod.mk.inj e1).2
      subst ee
      subst ee2
      rcases hc with ⟨m0, m1, f1, f3, y1, y2, rfl⟩ | ⟨m0, m1, f1, f3, y1, -⟩
      · cases y1
        cases y2
        have hcp : ∀ k, va_cpy f f2 i j n k = if j ≤ k ∧ k < j + n then f (i + (k - j)) else f2 k := fun k => rfl
        refine Or.inr ⟨h4, va_cpy f f2 i j n, va_up_self _ _ _, fun k hk => ?_, fun e k hk => ?_, fun e k hk => ?_, fun e k hk => ?_⟩
        · rw [hit, hcp]
          by_cases c : j ≤ k ∧ k < j + n
          · rw [if_pos c, if_pos c, hv _ (by omega)]
          · rw [if_neg c, if_neg c, hv2 _ hk]
        · rw [hcp]
          by_cases c : j ≤ k ∧ k < j + n
          · rw [if_pos c]; exact h0 e _ (by omega)
          · rw [if_neg c]; exact k0 e _ hk
        · rw [hcp]
          by_cases c : j ≤ k ∧ k < j + n
          · rw [if_pos c]; exact h1 e _ (by omega)
          · rw [if_neg c]; exact k1 e _ hk
        · rw [hcp]
          by_cases c : j ≤ k ∧ k < j + n
          · rw [if_pos c]; exact h4' e _ (by omega)
          · rw [if_neg c]; exact k4 e _ hk
      · cases y1
theorem Rel.shift (H : Rel T q ω σ κ κi) {p r s n0 n1 a a2 i j n : Nat} {x x2 x' : vp_A} (hr : r < 6) (r2 : ω.1.2 (31 + r) 0 = some a2) (hs : s ≤ 4) (e10 : σ.1 10 r = nI s) (e11 : σ.1 11 r = nI n1) (h : rowR T ω σ.2 (60 * p) s n0 a) (h2 : rowR T ω σ.2 (60 * r) s n1 a2) (hx : rowE T ω s a x) (hx2 : rowE T ω s a2 x2) (hsh : shp s x2) (hi : i + n ≤ n0) (hj : j + n ≤ n1) (hc : copyR x x2 i j n x') : Rel T q (cRow ω a2 (.inl (T.1 (sortT s), x'))) (mU σ (60 * p + i) (60 * r + j) n) κ κi := by
  obtain ⟨h1, h2', h3, h4, h5, h6⟩ := Rel.iff.mp H
  have z : cZ ω (cRow ω a2 (.inl (T.1 (sortT s), x'))) := cZ_row hx2 hsh
  refine Rel.iff.mpr ⟨h1.mv z rfl rfl rfl rfl rfl rfl (fun _ _ => rfl) rfl rfl, h2'.mv z rfl rfl rfl rfl rfl rfl (fun _ _ => rfl) rfl rfl, h3.mv z rfl, h4.mv rfl rfl rfl rfl rfl rfl rfl rfl, h5.mv rfl rfl rfl rfl, fun i2 hi2 => ?_, h6.2⟩
  by_cases c : i2 = r
  · subst c
    exact Or.inr ⟨a2, s, n1, r2, hs, e10, e11, row_copy h h2 hx hx2 hi hj hc⟩
  · rcases h6.1 i2 hi2 with g | ⟨a3, s3, n3, g1, g2, g3, g4, g5⟩
    · exact Or.inl g
    · have hne : a3 ≠ a2 := fun e => c (h6.2 i2 r a2 hi2 hr (by rw [← e]; exact g1) r2)
      have hn := h2.2.1
      exact Or.inr ⟨a3, s3, n3, g1, g2, g3, g4, (g5.it (fun k hk => if_neg (by omega))).row hne⟩
end
