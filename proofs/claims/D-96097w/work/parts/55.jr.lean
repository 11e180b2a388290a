/-! PLAIN: the tapes: read, item -/
set_option maxRecDepth 100000
section
variable {T : xT} {q : Nat → Nat} {ω : CS} {σ : TS} {κ κi : KD}
theorem tp_ex {t : Int32} : (0 ≤ t ∧ t ≤ 5) ↔ ∃ i : Nat, i < 6 ∧ t = nI i := by
  rw [show (5 : Int32) = nI 5 from rfl, i_rng (by omega)]
  exact ⟨fun ⟨j, h, e⟩ => ⟨j, by omega, e⟩, fun ⟨j, h, e⟩ => ⟨j, by omega, e⟩⟩
theorem rowR.E {it : Nat → Int64} {b s n a : Nat} (h : rowR T ω it b s n a) (hs : s ≤ 4) : ∃ x : vp_A, rowE T ω s a x ∧ x.1 = n ∧ n ≤ 60 ∧ shp s x ∧ ∀ k, k < n → valR s x k (it (b + k)) := by
  obtain ⟨ha, hn, ⟨rfl, g, hg, hv⟩ | ⟨h4, f, hf, hv, h0, h1, h4'⟩⟩ := h
  · exact ⟨(n, .inr (.inl g)), ⟨hs, ha, hg⟩, rfl, hn, Or.inl ⟨rfl, n, g, rfl⟩, fun k hk => Or.inr (Or.inl ⟨rfl, n, g, rfl, hv k hk⟩)⟩
  · refine ⟨(n, .inl f), ⟨hs, ha, hf⟩, rfl, hn, Or.inr ⟨by omega, n, f, rfl⟩, fun k hk => ?_⟩
    by_cases e : s = 4
    · subst e
      refine Or.inr (Or.inr ⟨rfl, n, f, rfl, ?_⟩)
      rw [hv k hk]
      rcases h4' rfl k hk with e | e
      · rw [e]; rfl
      · rw [e]; rfl
    · exact Or.inl ⟨by omega, n, f, rfl, hv k hk⟩
theorem Rel.tape {i : Nat} (H : Rel T q ω σ κ κi) (hi : i < 6) : tapeR T ω σ i := H.2.2.2.2.2.2.2.1 i hi
theorem Rel.tapeH {t : Int32} (H : Rel T q ω σ κ κi) (ht : 0 ≤ t ∧ t ≤ 5) : tapeH T ω t := by
  obtain ⟨i, hi, rfl⟩ := tp_ex.mp ht
  have ei : (nI i).toNatClampNeg = i := nI_clamp (by omega)
  rcases H.tape hi with ⟨r0, s0⟩ | ⟨a, s, n, r1, hs, e10, e11, hrow⟩
  · exact Or.inl (by rw [ei]; exact r0)
  · obtain ⟨x, hx, hxn, hn, hsh, -⟩ := hrow.E hs
    exact Or.inr ⟨s, a, x, by rw [ei]; exact r1, hx, by rw [hxn]; exact hn, hsh⟩
theorem J_read (H : Rel T q ω σ κ κi) (x1 x2 : Int32) : JQL ω σ (tw_read σ x1 x2) (fun k => ∃ z : Int64, readR T ω x1 x2 z ∧ k z ω) := by
  unfold tw_read
  by_cases ht : 0 ≤ x1 ∧ x1 ≤ 5
  · obtain ⟨i, hi, rfl⟩ := tp_ex.mp ht
    have ei : (nI i).toNatClampNeg = i := nI_clamp (by omega)
    rcases H.tape hi with ⟨r0, s0⟩ | ⟨a, s, n, r1, hs, e10, e11, hrow⟩
    · exact ⟨NOv, fun k h => p_T ht ⟨Or.inr rfl, br0 (by decide) ⟨vp_in_nI hi (by omega), br1 (by rw [ei, s0]; decide) (h σ tE1.rf)⟩⟩, fun k h => ⟨NOv, Or.inr (Or.inl ⟨ht, by rw [ei]; exact r0, rfl⟩), h ω cE1.rf⟩⟩
    · obtain ⟨x, hx, hxn, hn, -, hv⟩ := hrow.E hs
      have e9 : ¬ nI s < 0 := nI_pos (by omega)
      by_cases hr : 0 ≤ x2 ∧ x2 ≤ nI n - 1
      · obtain ⟨hin, hlt⟩ := rng_in hn hr
        obtain ⟨j, hj, rfl⟩ := nI_of (Int32.not_lt.mpr hr.1)
        rw [nI_clamp hj] at hlt
        refine ⟨σ.2 (60 * i + j), fun k h => p_T ht ⟨Or.inr rfl, br0 (by decide) ⟨vp_in_nI hi (by omega), br0 (by rw [ei, e10]; exact e9) ⟨vp_in_nI hi (by omega), ?_⟩⟩⟩, fun k h => ⟨_, Or.inr (Or.inr ⟨ht, s, a, x, by rw [ei]; exact r1, hx, Or.inr ⟨by rw [hxn]; exact hr, by rw [hxn]; exact hin, by rw [nI_clamp hj]; exact hv j hlt⟩⟩), h ω cE1.rf⟩⟩
        rw [ei, e11]
        refine p_T hr (br0 (by decide) ?_)
        rw [show (60 : Int32) = nI 60 from rfl, pk_mul, nI_add]
        exact ⟨vp_in_nI (by omega) (by omega), by rw [nI_clamp (by omega)]; exact h σ tE1.rf⟩
      · refine ⟨NOv, fun k h => p_T ht ⟨Or.inr rfl, br0 (by decide) ⟨vp_in_nI hi (by omega), br0 (by rw [ei, e10]; exact e9) ⟨vp_in_nI hi (by omega), ?_⟩⟩⟩, fun k h => ⟨_, Or.inr (Or.inr ⟨ht, s, a, x, by rw [ei]; exact r1, hx, Or.inl ⟨by rw [hxn]; exact hr, rfl⟩⟩), h ω cE1.rf⟩⟩
        rw [ei, e11]
        exact p_F hr (br1 rfl (h σ tE1.rf))
  · exact ⟨NOv, fun k h => p_F ht ⟨Or.inl rfl, br1 rfl (h σ tE1.rf)⟩, fun k h => ⟨NOv, Or.inl ⟨ht, rfl⟩, h ω cE1.rf⟩⟩
end
