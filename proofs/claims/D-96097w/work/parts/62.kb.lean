/-! System.arraycopy from row to row of the pool -/
set_option maxRecDepth 100000
section KB3
variable {D : va_G} {T : xT} {Γ : xE} {cc : ByteArray} {own : String} {nL lev mc ms : Nat} {ret : Option FieldType} {cells slots pc : Nat} {lv : List (Nat × Value)} {rest : List Value} {q : Nat → Nat} {ω : CS}
theorem sortF_prim : ∀ s, s < 5 → refKind (sortF s) = false := by decide
theorem kr_copyI (G : xG D T Γ cc own nL ret lev mc ms) (hlev : 200 ≤ lev) {idx s a a2 n0 n1 : Nat} {f g : Nat → Int32} (h : rowE T ω s a (n0, .inl f)) (h2 : rowE T ω s a2 (n1, .inl g)) {n sp dp : Int32} (h1 : ¬ sp < 0) (h3 : ¬ dp < 0) (h4 : ¬ n < 0) (h5 : sp.toNatClampNeg + n.toNatClampNeg ≤ n0) (h6 : dp.toNatClampNeg + n.toNatClampNeg ≤ n1) (hfit : ∀ i, i < n.toNatClampNeg → fits (sortF s) (.int (f (sp.toNatClampNeg + i))) = true) (hlink : Cond.methodLink own idx arraycopyName ∈ lw_all) (hnat : Cond.native arraycopyName ∈ lw_all) (hstat : Cond.static arraycopyName ∈ lw_all) (hinit : Cond.initialized "java/lang/System" ∈ lw_all) (hcat : (rest.map fun v => v.category).sum ≤ 8) (d : decode cc pc = .ok (.invokestatic idx, 3)) (kk : K D Γ cells slots (pc + 3) lv rest (cw T q (cRow ω a2 (.inl (T.1 (sortT s), (n1, .inl (va_cpy f g sp.toNatClampNeg dp.toNatClampNeg n.toNatClampNeg))))))) : K D Γ cells slots pc lv (.int n :: .int dp :: .ref a2 :: .int sp :: .ref a :: rest) (cw T q ω) := by
  intro H locs ls hP hD hS hl
  have hR : Γ.1.2.2.2 = xrm lev mc ms := G.2.2.2.2.2.2.2.2.2
  have w := G.2.2.2.2.2.2.1
  have hw9 : nativeFrameWords "java/lang/System" "arraycopy" 5 + 11 ≤ 10240 := by decide +kernel
  obtain ⟨p, hp⟩ := h.at (q := q)
  obtain ⟨p2, hp2⟩ := cw_pos (T := T) (q := q) h2.2.1
  have hp2' := hp2
  rw [h2.2.2] at hp2'
  refine va_copyi G.1 G.2.1 hl.1.symm G.2.2.2.2.2.1 (w _ hlink) (w _ hnat) (w _ hstat) (w _ hinit) G.2.2.2.2.2.2.2.2.1.1 hP hD hS p p2 (sortT s) (sortT s) hp hp2' (sort_ty h.1) (sort_ty h.1) (sortF_prim s (by have := h.1; omega)) h1 h3 h4 h5 h6 hfit (by rw [hR]; show 1 ≤ lev; omega) (by rw [hR]; show _ ≤ 64 * lev; omega) d (fun H1 locs1 hP1 hD1 hS1 => ?_)
  rw [cw_setR hD h2.2.1 hp2] at hP1 hD1
  exact kk H1 locs1 ls hP1 hD1 hS1 hl
theorem kr_copyL (G : xG D T Γ cc own nL ret lev mc ms) (hlev : 200 ≤ lev) {idx a a2 n0 n1 : Nat} {f g : Nat → Int64} (h : rowE T ω 3 a (n0, .inr (.inl f))) (h2 : rowE T ω 3 a2 (n1, .inr (.inl g))) {n sp dp : Int32} (h1 : ¬ sp < 0) (h3 : ¬ dp < 0) (h4 : ¬ n < 0) (h5 : sp.toNatClampNeg + n.toNatClampNeg ≤ n0) (h6 : dp.toNatClampNeg + n.toNatClampNeg ≤ n1) (hlink : Cond.methodLink own idx arraycopyName ∈ lw_all) (hnat : Cond.native arraycopyName ∈ lw_all) (hstat : Cond.static arraycopyName ∈ lw_all) (hinit : Cond.initialized "java/lang/System" ∈ lw_all) (hcat : (rest.map fun v => v.category).sum ≤ 8) (d : decode cc pc = .ok (.invokestatic idx, 3)) (kk : K D Γ cells slots (pc + 3) lv rest (cw T q (cRow ω a2 (.inl (T.1 1, (n1, .inr (.inl (va_cpy f g sp.toNatClampNeg dp.toNatClampNeg n.toNatClampNeg)))))))) : K D Γ cells slots pc lv (.int n :: .int dp :: .ref a2 :: .int sp :: .ref a :: rest) (cw T q ω) := by
  intro H locs ls hP hD hS hl
  have hR : Γ.1.2.2.2 = xrm lev mc ms := G.2.2.2.2.2.2.2.2.2
  have w := G.2.2.2.2.2.2.1
  have hw9 : nativeFrameWords "java/lang/System" "arraycopy" 5 + 11 ≤ 10240 := by decide +kernel
  obtain ⟨p, hp⟩ := h.at (q := q)
  obtain ⟨p2, hp2⟩ := cw_pos (T := T) (q := q) h2.2.1
  have hp2' := hp2
  rw [h2.2.2] at hp2'
  refine va_copyl G.1 G.2.1 hl.1.symm G.2.2.2.2.2.1 (w _ hlink) (w _ hnat) (w _ hstat) (w _ hinit) G.2.2.2.2.2.2.2.2.1.1 hP hD hS p p2 (sortT 3) (sortT 3) hp hp2' (sort_ty h.1) (sort_ty h.1) (sortF_prim 3 (by decide)) h1 h3 h4 h5 h6 (fun i _ => rfl) (by rw [hR]; show 1 ≤ lev; omega) (by rw [hR]; show _ ≤ 64 * lev; omega) d (fun H1 locs1 hP1 hD1 hS1 => ?_)
  rw [cw_setR hD h2.2.1 hp2] at hP1 hD1
  exact kk H1 locs1 ls hP1 hD1 hS1 hl
theorem fit_sh (z : Int32) : fits .short (.int z.toInt16.toInt32) = true := by
  have h1 := Int16.le_toInt z.toInt16
  have h2 := Int16.toInt_lt z.toInt16
  simp [fits, narrow]
  exact ⟨Int32.le_iff_toInt_le.mpr (by rw [Int16.toInt_toInt32]; show (-32768 : Int) ≤ _; omega), Int32.le_iff_toInt_le.mpr (by rw [Int16.toInt_toInt32]; show _ ≤ (32767 : Int); omega)⟩
end KB3
