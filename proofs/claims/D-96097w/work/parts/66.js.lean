/-! the rows' classes differ; what a row holds fits it -/
set_option maxRecDepth 100000
theorem sortN_inj : ∀ s, s < 5 → ∀ s2, s2 < 5 → sortN s = sortN s2 → s = s2 := by decide
theorem xTI_of {T : xT} {D : va_G} {U : State} (hK : va_K D xcl (xtys T.1) U) : xTI T := by
  intro s s2 hs hs2 e
  have h1 := sort_nm hs (hK.2 _ _ (sort_ty hs)).2
  have h2 := sort_nm hs2 (hK.2 _ _ (sort_ty hs2)).2
  rw [e] at h1
  obtain ⟨k, hk, hn⟩ := Vm.findClass_spec h1
  obtain ⟨k2, hk2, hn2⟩ := Vm.findClass_spec h2
  rw [hk] at hk2
  cases hk2
  exact sortN_inj s (by omega) s2 (by omega) (hn.symm.trans hn2)
theorem fit_by (z : Int32) : fits .byte (.int z.toInt8.toInt32) = true := by
  have h1 := Int8.le_toInt z.toInt8
  have h2 := Int8.toInt_lt z.toInt8
  simp [fits, narrow]
  try exact ⟨Int32.le_iff_toInt_le.mpr (by rw [Int8.toInt_toInt32]; show (-128 : Int) ≤ _; omega), Int32.le_iff_toInt_le.mpr (by rw [Int8.toInt_toInt32]; show _ ≤ (127 : Int); omega)⟩
/-- the ints of a row fit its sort -/
def fitR (s : Nat) (x : vp_A) : Prop := ∀ (n : Nat) (f : Nat → Int32), x = (n, .inl f) → ∀ k, k < n → fits (sortF s) (.int (f k)) = true
theorem rowR.fit {T : xT} {ω : CS} {it : Nat → Int64} {b s n a : Nat} {x : vp_A} (h : rowR T ω it b s n a) (hx : rowE T ω s a x) : fitR s x := by
  rintro n2 f2 rfl k hk
  obtain ⟨ha, hn, ⟨rfl, g, hg, hv⟩ | ⟨h4, f, hf, hv, h0, h1, h4'⟩⟩ := h
  · have e := hx.2.2.symm.trans hg
    injection e with e0
    cases (Prod.mk.inj e0).2
  · have e := hx.2.2.symm.trans hf
    injection e with e0
    cases (Prod.mk.inj e0).2
    rcases h4 with rfl | rfl | rfl | rfl
    · obtain ⟨z, e⟩ := h0 rfl k hk
      rw [e]
      exact fit_by z
    · obtain ⟨z, e⟩ := h1 rfl k hk
      rw [e]
      exact fit_sh z
    · rfl
    · rcases h4' rfl k hk with e | e <;> rw [e] <;> rfl
