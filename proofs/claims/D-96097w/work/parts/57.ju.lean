/-! PLAIN: item -/
set_option maxRecDepth 100000
section
variable {T : xT} {q : Nat → Nat} {ω : CS} {σ : TS} {κ κi : KD}
/-- what a row of sort s keeps of v -/
def kept (s : Nat) (v : Int64) : Int64 := match s with
  | 0 => v.toInt32.toInt8.toInt32.toInt64
  | 1 => v.toInt32.toInt16.toInt32.toInt64
  | 2 => v.toInt32.toInt64
  | 3 => v
  | _ => if v = 0 then 0 else 1
theorem l_kept {s : Nat} (hs : s ≤ 4) {v : Int64} {K : Int64 → Prop} (h : K (kept s v)) : pw_kept (nI s) v K := by
  unfold pw_kept
  match s, hs with
  | 0, _ => exact ⟨fun _ => h, fun z => absurd z (by decide), fun z => absurd z (by decide), fun z => absurd z (by decide), fun z => absurd rfl z⟩
  | 1, _ => exact ⟨fun z => absurd z (by decide), fun _ => h, fun z => absurd z (by decide), fun z => absurd z (by decide), fun _ z => absurd rfl z⟩
  | 2, _ => exact ⟨fun z => absurd z (by decide), fun z => absurd z (by decide), fun _ => h, fun z => absurd z (by decide), fun _ _ z => absurd rfl z⟩
  | 3, _ => exact ⟨fun z => absurd z (by decide), fun z => absurd z (by decide), fun z => absurd z (by decide), fun _ => h, fun _ _ _ z => absurd rfl z⟩
  | 4, _ =>
    refine ⟨fun z => absurd z (by decide), fun z => absurd z (by decide), fun z => absurd z (by decide), fun z => absurd z (by decide), fun _ _ _ _ => ?_⟩
    by_cases c : v = 0
    · exact br1 (cmp_eq.mpr c) (by rw [show kept 4 v = 0 from if_pos c] at h; exact h)
    · exact br0 (fun z => c (cmp_eq.mp z)) (by rw [show kept 4 v = 1 from if_neg c] at h; exact h)
theorem nar_b (z : Int32) : vp_nar .byte z.toInt8.toInt32 = z.toInt8.toInt32 := by
  show z.toInt8.toInt32.toInt8.toInt32 = _
  simp
theorem nar_s (z : Int32) : vp_nar .short z.toInt16.toInt32 = z.toInt16.toInt32 := by
  show z.toInt16.toInt32.toInt16.toInt32 = _
  simp
theorem nar_z (v : Int64) : vp_nar .boolean (if v = 0 then 0 else 1) = if v = 0 then 0 else 1 := by
  split <;> rfl
theorem updL_same {f : Nat → Int64} {k : Nat} {v : Int64} : vp_updL f k v k = v := by simp [vp_updL]
theorem updL_ne {f : Nat → Int64} {k j : Nat} {v : Int64} (h : j ≠ k) : vp_updL f k v j = f j := by simp [vp_updL, h]
theorem row_upd {it : Nat → Int64} {b s n a j : Nat} {v : Int64} {f : Nat → Int32} {w : Int32} (ha : a ∈ ω.2.1) (hn : n ≤ 60) (hs4 : s = 0 ∨ s = 1 ∨ s = 2 ∨ s = 4) (hv : ∀ k, k < n → it (b + k) = (f k).toInt64) (h0 : s = 0 → ∀ k, k < n → ∃ z : Int32, f k = z.toInt8.toInt32) (h1 : s = 1 → ∀ k, k < n → ∃ z : Int32, f k = z.toInt16.toInt32) (h4 : s = 4 → ∀ k, k < n → f k = 0 ∨ f k = 1)
    (ew : w.toInt64 = kept s v) (w0 : s = 0 → ∃ z : Int32, w = z.toInt8.toInt32) (w1 : s = 1 → ∃ z : Int32, w = z.toInt16.toInt32) (w4 : s = 4 → w = 0 ∨ w = 1) : rowR T (cRow ω a (.inl (T.1 (sortT s), (n, .inl (upd f j w))))) (vp_updL it (b + j) (kept s v)) b s n a := by
  have hu : ∀ k, k ≠ j → upd f j w k = f k := fun k hk => by simp [upd, hk]
  have hu2 : upd f j w j = w := by simp [upd]
  refine ⟨ha, hn, Or.inr ⟨hs4, upd f j w, va_up_self _ _ _, fun k hk => ?_, fun e k hk => ?_, fun e k hk => ?_, fun e k hk => ?_⟩⟩
  · by_cases c : k = j
    · subst c
      rw [updL_same, hu2, ew]
    · rw [updL_ne (by omega), hu k c, hv k hk]
  · by_cases c : k = j
    · subst c; rw [hu2]; exact w0 e
    · rw [hu k c]; exact h0 e k hk
  · by_cases c : k = j
    · subst c; rw [hu2]; exact w1 e
    · rw [hu k c]; exact h1 e k hk
  · by_cases c : k = j
    · subst c; rw [hu2]; exact w4 e
    · rw [hu k c]; exact h4 e k hk
theorem row_store {it : Nat → Int64} {b s n a j : Nat} {x x' : vp_A} {v : Int64} (h : rowR T ω it b s n a) (hx : rowE T ω s a x) (hst : storeR s x j v x') : rowR T (cRow ω a (.inl (T.1 (sortT s), x'))) (vp_updL it (b + j) (kept s v)) b s n a := by
  obtain ⟨ha, hn, ⟨rfl, g, hg, hv⟩ | ⟨h4, f, hf, hv, h0, h1, h4'⟩⟩ := h
  · have e := hx.2.2.symm.trans hg
    injection e with e0
    have ee := (Prod.mk.inj e0).2
    rcases hst with ⟨z, -⟩ | ⟨z, -⟩ | ⟨z, -⟩ | ⟨-, n2, g2, e1, rfl⟩ | ⟨z, -⟩
    · exact absurd z (by decide)
    · exact absurd z (by decide)
    · exact absurd z (by decide)
    · rw [ee] at e1
      cases e1
      refine ⟨ha, hn, Or.inl ⟨rfl, vp_updL g j v, va_up_self _ _ _, fun k hk => ?_⟩⟩
      by_cases c : k = j
      · subst c
        rw [updL_same, updL_same]
        rfl
      · rw [updL_ne (by omega), updL_ne c, hv k hk]
    · exact absurd z (by decide)
  · have e := hx.2.2.symm.trans hf
    injection e with e0
    have ee := (Prod.mk.inj e0).2
    rcases hst with ⟨rfl, n2, f2, e1, rfl⟩ | ⟨rfl, n2, f2, e1, rfl⟩ | ⟨rfl, n2, f2, e1, rfl⟩ | ⟨rfl, n2, g2, e1, rfl⟩ | ⟨rfl, n2, f2, e1, rfl⟩
    · rw [ee] at e1
      cases e1
      rw [nar_b]
      exact row_upd ha hn h4 hv h0 h1 h4' rfl (fun _ => ⟨_, rfl⟩) (fun z => absurd z (by decide)) (fun z => absurd z (by decide))
    · rw [ee] at e1
      cases e1
      rw [nar_s]
      exact row_upd ha hn h4 hv h0 h1 h4' rfl (fun z => absurd z (by decide)) (fun _ => ⟨_, rfl⟩) (fun z => absurd z (by decide))
    · rw [ee] at e1
      cases e1
      exact row_upd ha hn h4 hv h0 h1 h4' rfl (fun z => absurd z (by decide)) (fun z => absurd z (by decide)) (fun z => absurd z (by decide))
    · exact absurd h4 (by omega)
    · rw [ee] at e1
      cases e1
      rw [nar_z]
      refine row_upd ha hn h4 hv h0 h1 h4' ?_ (fun z => absurd z (by decide)) (fun z => absurd z (by decide)) (fun _ => ?_)
      · show _ = (if v = 0 then (0 : Int64) else 1)
        split <;> rfl
      · split
        · exact Or.inl rfl
        · exact Or.inr rfl
theorem cZ_row {s a : Nat} {x : vp_A} {e : va_E} (h : rowE T ω s a x) (hs : shp s x) : cZ ω (cRow ω a e) := by
  intro b hb hh
  have hne : b ≠ a := by
    rintro rfl
    rw [h.2.2] at hh
    rcases hh with ⟨p, z⟩ | ⟨c, n, f, z⟩
    · cases z
    · injection z with z
      have z := (Prod.mk.inj z).2
      rcases hs with ⟨-, n2, g, rfl⟩ | ⟨-, n2, g, rfl⟩ <;> cases z
  exact ⟨hb, va_up_ne _ _ hne⟩
theorem rowR.it {it it' : Nat → Int64} {b s n a : Nat} (h : rowR T ω it b s n a) (e : ∀ k, k < 60 → it' (b + k) = it (b + k)) : rowR T ω it' b s n a := by
  obtain ⟨ha, hn, ⟨rfl, g, hg, hv⟩ | ⟨h4, f, hf, hv, h⟩⟩ := h
  · exact ⟨ha, hn, Or.inl ⟨rfl, g, hg, fun k hk => by rw [e k (by omega)]; exact hv k hk⟩⟩
  · exact ⟨ha, hn, Or.inr ⟨h4, f, hf, fun k hk => by rw [e k (by omega)]; exact hv k hk, h⟩⟩
theorem rowR.row {it : Nat → Int64} {b s n a a2 : Nat} {e : va_E} (h : rowR T ω it b s n a) (hne : a ≠ a2) : rowR T (cRow ω a2 e) it b s n a := by
  have e1 : (cRow ω a2 e).2.2 a = ω.2.2 a := va_up_ne _ _ hne
  unfold rowR
  rw [e1]
  exact h
/-- an item is stored -/
theorem Rel.item (H : Rel T q ω σ κ κi) {i s n a j : Nat} {x x' : vp_A} {v : Int64} (hi : i < 6) (r1 : ω.1.2 (31 + i) 0 = some a) (hs : s ≤ 4) (e10 : σ.1 10 i = nI s) (e11 : σ.1 11 i = nI n) (hrow : rowR T ω σ.2 (60 * i) s n a) (hx : rowE T ω s a x) (hsh : shp s x) (hj : j < n) (hst : storeR s x j v x') : Rel T q (cRow ω a (.inl (T.1 (sortT s), x'))) (sL σ (60 * i + j) (kept s v)) κ κi := by
  obtain ⟨h1, h2, h3, h4, h5, h6⟩ := Rel.iff.mp H
  have z : cZ ω (cRow ω a (.inl (T.1 (sortT s), x'))) := cZ_row hx hsh
  refine Rel.iff.mpr ⟨h1.mv z rfl rfl rfl rfl rfl rfl (fun _ _ => rfl) rfl rfl, h2.mv z rfl rfl rfl rfl rfl rfl (fun _ _ => rfl) rfl rfl, h3.mv z rfl, h4.mv rfl rfl rfl rfl rfl rfl rfl rfl, h5.mv rfl rfl rfl rfl, fun i2 hi2 => ?_, h6.2⟩
  by_cases c : i2 = i
  · subst c
    exact Or.inr ⟨a, s, n, r1, hs, e10, e11, row_store hrow hx hst⟩
  · rcases h6.1 i2 hi2 with g | ⟨a2, s2, n2, g1, g2, g3, g4, g5⟩
    · exact Or.inl g
    · have hne : a2 ≠ a := fun e => c (h6.2 i2 i a hi2 hi (by rw [← e]; exact g1) r1)
      have hn := hrow.2.1
      exact Or.inr ⟨a2, s2, n2, g1, g2, g3, g4, (g5.it (fun k hk => updL_ne (by omega))).row hne⟩
theorem J_item (hT : xTI T) (H : Rel T q ω σ κ κi) (x1 x2 : Int32) (v : Int64) : JM T q ω σ (tw_item σ x1 x2 v) (fun K => ∀ (r : Int32) (ω' : CS), itemO T ω x1 x2 v r ω' → K r ω') := by
  unfold tw_item
  have no : ∀ (r0 : Int32) (tk : (Int32 → TS → Prop) → Prop) (ck : (Int32 → CS → Prop) → Prop), (∀ K : Int32 → TS → Prop, K r0 σ → tk K) → (∀ K : Int32 → CS → Prop, K r0 ω → ck K) → JM T q ω σ tk ck := fun r0 tk ck h1 h2 => ⟨r0, fun σ' => σ' = σ, fun ω' => ω' = ω, fun K h => h1 K (h σ rfl), fun K h => h2 K (h ω rfl), fun σ' ω' e1 e2 => by subst e1; subst e2; exact ⟨κ, κi, H⟩⟩
  by_cases ht : 0 ≤ x1 ∧ x1 ≤ 5
  · obtain ⟨i, hi, rfl⟩ := tp_ex.mp ht
    have ei : (nI i).toNatClampNeg = i := nI_clamp (by omega)
    rcases H.tape hi with ⟨r0, s0⟩ | ⟨a, s, n, r1, hs, e10, e11, hrow⟩
    · refine no (-11) _ _ (fun K h => p_T ht ⟨Or.inr rfl, bn1 (by decide) ⟨vp_in_nI hi (by omega), br0 (by rw [ei, s0]; decide) h⟩⟩) (fun K h r ω' hr => ?_)
      rcases hr with ⟨g, -⟩ | ⟨-, -, rfl, rfl⟩ | ⟨-, s, a, x, g, -⟩
      · exact absurd ht g
      · exact h
      · rw [ei, r0] at g
        cases g
    · obtain ⟨x, hx, hxn, hn, hsh, hv⟩ := hrow.E hs
      have e9 : 0 ≤ nI s := nI_pos' (by omega)
      have same : ∀ s2 a2 x9, ω.1.2 (31 + (nI i).toNatClampNeg) 0 = some a2 → rowE T ω s2 a2 x9 → a2 = a ∧ s2 = s ∧ x9 = x := fun s2 a2 x9 g g1 => by
        rw [ei, r1] at g
        cases g
        exact ⟨rfl, row_same hT g1 hx⟩
      by_cases hr : 0 ≤ x2 ∧ x2 ≤ nI n - 1
      · obtain ⟨hin, hlt⟩ := rng_in hn hr
        obtain ⟨j, hj, rfl⟩ := nI_of (Int32.not_lt.mpr hr.1)
        rw [nI_clamp hj] at hlt
        refine ⟨1, fun σ' => σ' = sL σ (60 * i + j) (kept s v), fun ω' => ∃ x' : vp_A, storeR s x j v x' ∧ ω' = cRow ω a (.inl (T.1 (sortT s), x')), fun K h => p_T ht ⟨Or.inr rfl, bn1 (by decide) ⟨vp_in_nI hi (by omega), br1 (by rw [ei, e10]; exact e9) ⟨vp_in_nI hi (by omega), ?_⟩⟩⟩, fun K h r ω' ho => ?_, fun σ' ω' e1 e2 => ?_⟩
        · rw [ei, e11, e10]
          refine p_T hr (bn1 (by decide) ⟨vp_in_nI hi (by omega), l_kept hs ?_⟩)
          rw [show (60 : Int32) = nI 60 from rfl, pk_mul, nI_add]
          exact ⟨vp_in_nI (by omega) (by omega), by rw [nI_clamp (by omega)]; exact h _ rfl⟩
        · rcases ho with ⟨g, -⟩ | ⟨-, g, -⟩ | ⟨-, s2, a2, x9, g, g1, g2⟩
          · exact absurd ht g
          · rw [ei, r1] at g; cases g
          · obtain ⟨rfl, rfl, rfl⟩ := same s2 a2 x9 g g1
            rcases g2 with ⟨g3, -⟩ | ⟨-, rfl, x', g4, rfl⟩
            · rw [hxn] at g3; exact absurd hr g3
            · rw [nI_clamp hj] at g4
              exact h _ ⟨x', g4, rfl⟩
        · subst e1
          obtain ⟨x', g, rfl⟩ := e2
          exact ⟨κ, κi, H.item hi r1 hs e10 e11 hrow hx hsh hlt g⟩
      · refine no (-13) _ _ (fun K h => p_T ht ⟨Or.inr rfl, bn1 (by decide) ⟨vp_in_nI hi (by omega), br1 (by rw [ei, e10]; exact e9) ⟨vp_in_nI hi (by omega), by rw [ei, e11]; exact p_F hr (bn0 rfl h)⟩⟩⟩) (fun K h r ω' ho => ?_)
        rcases ho with ⟨g, -⟩ | ⟨-, g, -⟩ | ⟨-, s2, a2, x9, g, g1, g2⟩
        · exact absurd ht g
        · rw [ei, r1] at g; cases g
        · obtain ⟨rfl, rfl, rfl⟩ := same s2 a2 x9 g g1
          rcases g2 with ⟨-, rfl, rfl⟩ | ⟨g3, -⟩
          · exact h
          · rw [hxn] at g3; exact absurd g3 hr
  · refine no (-1) _ _ (fun K h => p_F ht ⟨Or.inl rfl, bn0 rfl h⟩) (fun K h r ω' ho => ?_)
    rcases ho with ⟨-, rfl, rfl⟩ | ⟨g, -⟩ | ⟨g, -⟩
    · exact h
    · exact absurd g ht
    · exact absurd g ht
end
