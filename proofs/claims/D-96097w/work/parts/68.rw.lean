/-! worlds up to order; rows over any world -/
set_option maxRecDepth 100000
theorem wD_iff {A : Nat → Prop} {ws : va_W} : va_D A ws ↔ ws.Pairwise (fun p q => p.1 ≠ q.1) ∧ ∀ x ∈ ws, A x.1 := by
  constructor
  · intro h
    refine ⟨List.pairwise_iff_getElem.mpr (fun i j hi hj hij e => ?_), fun x hx => ?_⟩
    · have := h.1 i j _ _ (List.getElem?_eq_getElem hi) (List.getElem?_eq_getElem hj) e
      omega
    · obtain ⟨i, hi⟩ := List.getElem?_of_mem hx
      exact h.2 i x hi
  · rintro ⟨h1, h2⟩
    refine ⟨fun i j p q hi hj e => ?_, fun k q hk => h2 q (List.mem_of_getElem? hk)⟩
    obtain ⟨li, rfl⟩ := List.getElem?_eq_some_iff.mp hi
    obtain ⟨lj, rfl⟩ := List.getElem?_eq_some_iff.mp hj
    rcases Nat.lt_trichotomy i j with c | c | c
    · exact absurd e (List.pairwise_iff_getElem.mp h1 i j li lj c)
    · exact c
    · exact absurd e.symm (List.pairwise_iff_getElem.mp h1 j i lj li c)
theorem wD_perm {A : Nat → Prop} {ws ws' : va_W} (h : ws.Perm ws') (hD : va_D A ws) : va_D A ws' := by
  obtain ⟨h1, h2⟩ := wD_iff.mp hD
  exact wD_iff.mpr ⟨(List.Perm.pairwise_iff (R := fun p q : Nat × va_E => p.1 ≠ q.1) (@fun _ _ z e => z e.symm) h).mp h1, fun x hx => h2 x (h.mem_iff.mpr hx)⟩
theorem wP_perm {D : va_G} {H : Heap} {ws ws' : va_W} (h : ws.Perm ws') (hP : va_P D xcl ws H) : va_P D xcl ws' H := fun k q hk => by
  obtain ⟨j, hj⟩ := List.getElem?_of_mem (h.mem_iff.mpr (List.mem_of_getElem? hk))
  exact hP j q hj
/-- the same entries in another order -/
theorem pm {a b : va_W} (h : ∀ (c : va_W → Nat) (f : Nat × va_E → Nat), c [] = 0 → (∀ x l, c (x :: l) = f x + c l) → (∀ l m, c (l ++ m) = c l + c m) → c a = c b) : a.Perm b := by
  haveI : DecidableEq (Nat × va_E) := fun _ _ => Classical.propDecidable _
  refine List.perm_iff_count.mpr (fun x => h (List.count x) (fun y => if y == x then 1 else 0) rfl (fun y l => ?_) (fun l m => List.count_append))
  rw [List.count_cons, Nat.add_comm]
section KRW
variable {D : va_G} {T : xT} {Γ : xE} {cc : ByteArray} {own : String} {nL lev mc ms : Nat} {ret : Option FieldType} {cells slots pc : Nat} {lv : List (Nat × Value)} {st rest : List Value} {ws ws' : va_W}
theorem K.perm (h : ws.Perm ws') (k : K D Γ cells slots pc lv st ws') : K D Γ cells slots pc lv st ws := fun H locs ls hP hD hS hl => k H locs ls (wP_perm h hP) (wD_perm h hD) hS hl
theorem KX.perm {E : String} {q : Nat} (h : ws.Perm ws') (k : KX D Γ cells slots pc lv rest ws' E q) : KX D Γ cells slots pc lv rest ws E q := fun H locs ls ce hP hD hS hl => k H locs ls ce (wP_perm h hP) (wD_perm h hD) hS hl
theorem k_alen (G : xG D T Γ cc own nL ret lev mc ms) {p t a : Nat} {x : vp_A} {ty : FieldType} (he : ws[p]? = some (a, .inl (T.1 t, x))) (ht : (xtys T.1)[t]? = some (T.1 t, ty)) (d : decode cc pc = .ok (.arraylength, 1)) (kk : K D Γ cells slots (pc + 1) lv (.int (nI x.1) :: st) ws) : K D Γ cells slots pc lv (.ref a :: st) ws := fun H locs ls hP hD hS hl => va_alen G.1 G.2.1 G.2.2.2.2.2.2.2.2.1.1 hP p t he ht rfl d (kk H locs ls hP hD hS hl)
theorem kx_elen (G : xG D T Γ cc own nL ret lev mc ms) (d : decode cc pc = .ok (.arraylength, 1)) (kk : K D Γ cells slots (pc + 1) lv (.int 0 :: st) ws) : K D Γ cells slots pc lv (.ref T.2.2.2 :: st) ws := fun H locs ls hP hD hS hl => va_tlen G.1 G.2.1 (x_H G).2.2.2.2.2.2.1 hS (v := 0) rfl d (kk H locs ls hP hD hS hl)
theorem k_bald (G : xG D T Γ cc own nL ret lev mc ms) {p a n : Nat} {f : Nat → Int32} (he : ws[p]? = some (a, .inl (T.1 2, n, .inl f))) {i : Int32} (hin : vp_in i n) (d : decode cc pc = .ok (.baload, 1)) (kk : K D Γ cells slots (pc + 1) lv (.int (f i.toNatClampNeg) :: st) ws) : K D Γ cells slots pc lv (.int i :: .ref a :: st) ws := fun H locs ls hP hD hS hl => va_bald G.1 G.2.1 G.2.2.2.2.2.2.2.2.1.1 hP p 2 he rfl hin d (kk H locs ls hP hD hS hl)
theorem k_acmpEq (G : xG D T Γ cc own nL ret lev mc ms) {rx ry : Option Nat} {off : Int} (tgt : Nat) (d : decode cc pc = .ok (.if_acmp .eq off, 3)) (ht : (pc : Int) + off = (tgt : Int)) (kt : rx = ry → K D Γ cells slots tgt lv st ws) (kf : ¬ rx = ry → K D Γ cells slots (pc + 3) lv st ws) : K D Γ cells slots pc lv (va_rf ry :: va_rf rx :: st) ws := fun H locs ls hP hD hS hl => lv_acmp_eq G.1 G.2.1 d ht (fun h => kt h H locs ls hP hD hS hl) (fun h => kf h H locs ls hP hD hS hl)
theorem k_acmpNe (G : xG D T Γ cc own nL ret lev mc ms) {rx ry : Option Nat} {off : Int} (tgt : Nat) (d : decode cc pc = .ok (.if_acmp .ne off, 3)) (ht : (pc : Int) + off = (tgt : Int)) (kt : ¬ rx = ry → K D Γ cells slots tgt lv st ws) (kf : rx = ry → K D Γ cells slots (pc + 3) lv st ws) : K D Γ cells slots pc lv (va_rf ry :: va_rf rx :: st) ws := fun H locs ls hP hD hS hl => lv_acmp_ne G.1 G.2.1 d ht (fun h => kt h H locs ls hP hD hS hl) (fun h => kf h H locs ls hP hD hS hl)
/-- the class object of Object[] -/
theorem k_ldcM (G : xG D T Γ cc own nL ret lev mc ms) {idx : Nat} (hlink : Cond.classLink own idx "[Ljava/lang/Object;" ∈ lw_all) (d : decode cc pc = .ok (.ldc idx, 2)) (kk : K D Γ cells slots (pc + 2) lv (.ref (T.2.1 7) :: st) ws) : K D Γ cells slots pc lv st ws := fun H locs ls hP hD hS hl => va_ldcM G.1 G.2.1 G.2.2.2.2.2.1 (G.2.2.2.2.2.2.1 _ hlink) (x_H G).2.2.2.2.2.2.2.2 d (kk H locs ls hP hD hS hl)
theorem k_getC (G : xG D T Γ cc own nL ret lev mc ms) {p a idx : Nat} {x : vp_A} (he : ws[p]? = some (a, .inl (T.1 8, x))) (hlink : Cond.methodLink own idx ⟨"java/lang/Object", "getClass", "()Ljava/lang/Class;"⟩ ∈ lw_all) (hcat : (st.map fun v => v.category).sum ≤ 8) (hlev : 1 ≤ lev) (d : decode cc pc = .ok (.invokevirtual idx, 3)) (kk : K D Γ cells slots (pc + 3) lv (.ref (T.2.1 7) :: st) ws) : K D Γ cells slots pc lv (.ref a :: st) ws := by
  intro H locs ls hP hD hS hl
  have hR : Γ.1.2.2.2 = xrm lev mc ms := G.2.2.2.2.2.2.2.2.2
  have w := G.2.2.2.2.2.2.1
  have N := G.2.2.2.2.2.2.2.2.1.2.1
  have hK := G.2.2.2.2.2.2.2.2.1.1
  refine va_getC G.1 G.2.1 hl.1.symm G.2.2.2.2.2.1 (w _ hlink) (va_Nw.use rfl (N.2.1 _ (by decide))) (w _ q1906) (w _ q938) (w _ q966) (x_H G).2.2.2.2.2.2.2.2 ⟨vp_cell (T.1 8) x, hP p _ he, ?_, ?_⟩ (by rw [hR]; exact hlev) (by rw [hR]; show (st.map fun v => v.category).sum + 14 ≤ 64 * lev; omega) d (kk H locs ls hP hD hS hl)
  · obtain ⟨n, f | f | f | f | f⟩ := x <;> rfl
  · obtain ⟨k1, c1, f1, f2, f3, f4⟩ := (hK.2 8 _ rfl).2
    have e : (vp_cell (T.1 8) x).cls = T.1 8 := by obtain ⟨n, f | f | f | f | f⟩ := x <;> rfl
    rw [e]
    exact f4
/-- an object that may lie in an Object[] -/
def oElt (ws : va_W) (y : Nat) : Prop := ∃ (ci : Nat) (fs : List Value) (C : String) (TT : u_T) (N : Nat), (y, .inr (ci, fs)) ∈ ws ∧ xcl[ci]? = some (C, TT, N) ∧ (C, "java/lang/Object") ∈ xcast
theorem oElt.mono {y : Nat} (h : oElt ws y) (hs : ∀ x ∈ ws, x ∈ ws') : oElt ws' y := by
  obtain ⟨ci, fs, C, TT, N, h1, h2⟩ := h
  exact ⟨ci, fs, C, TT, N, hs _ h1, h2⟩
theorem oElt.any (G : xG D T Γ cc own nL ret lev mc ms) {y : Nat} {H : Heap} (h : oElt ws y) (hP : va_P D xcl ws H) : va_Any "java/lang/Object" Γ.2.1.1 H y := by
  obtain ⟨ci, fs, C, TT, N, h1, h2, h3⟩ := h
  obtain ⟨p, hp⟩ := List.getElem?_of_mem h1
  exact va_rAny G.2.2.2.2.2.2.2.2.1.1 hP hp h2 (vb_asgC (G.2.2.2.2.2.2.2.2.1.2.1.1 _ h3))
theorem k_aastO (G : xG D T Γ cc own nL ret lev mc ms) {p n a b : Nat} {f : Nat → Option Nat} (he : ws[p]? = some (a, .inl (T.1 8, n, .inr (.inr (.inr (.inr f)))))) (hb : oElt ws b) {i : Int32} (hin : vp_in i n) (j : Nat) (hj : i.toNatClampNeg = j) (d : decode cc pc = .ok (.aastore, 1)) (kk : K D Γ cells slots (pc + 1) lv st (ws.set p (a, .inl (T.1 8, n, .inr (.inr (.inr (.inr (va_up f j (some b))))))))) : K D Γ cells slots pc lv (.ref b :: .int i :: .ref a :: st) ws := by
  subst hj
  intro H locs ls hP hD hS hl
  exact va_astqM G.1 G.2.1 G.2.2.2.2.2.2.2.2.1.1 hP hD hS p 8 he rfl (hb.any G hP) hin d (fun H1 locs1 hP1 hD1 hS1 => kk H1 locs1 ls hP1 hD1 hS1 hl)
theorem k_copyO (G : xG D T Γ cc own nL ret lev mc ms) {idx p1 p2 a a0 n0 n1 : Nat} {f g : Nat → Option Nat} (he0 : ws[p1]? = some (a0, .inl (T.1 8, n0, .inr (.inr (.inr (.inr f)))))) (he1 : ws[p2]? = some (a, .inl (T.1 8, n1, .inr (.inr (.inr (.inr g)))))) {sp dp n : Int32} (h1 : ¬ sp < 0) (h2 : ¬ dp < 0) (h3 : ¬ n < 0) (h4 : sp.toNatClampNeg + n.toNatClampNeg ≤ n0) (h5 : dp.toNatClampNeg + n.toNatClampNeg ≤ n1) (hel : ∀ i : Nat, i < n.toNatClampNeg → ∀ y : Nat, f (sp.toNatClampNeg + i) = some y → oElt ws y) (hlink : Cond.methodLink own idx arraycopyName ∈ lw_all) (hcat : (st.map fun v => v.category).sum ≤ 8) (hlev : 1 ≤ lev) (d : decode cc pc = .ok (.invokestatic idx, 3)) (kk : K D Γ cells slots (pc + 3) lv st (ws.set p2 (a, .inl (T.1 8, n1, .inr (.inr (.inr (.inr (va_cpy f g sp.toNatClampNeg dp.toNatClampNeg n.toNatClampNeg)))))))) : K D Γ cells slots pc lv (.int n :: .int dp :: .ref a :: .int sp :: .ref a0 :: st) ws := by
  intro H locs ls hP hD hS hl
  have hR : Γ.1.2.2.2 = xrm lev mc ms := G.2.2.2.2.2.2.2.2.2
  have w := G.2.2.2.2.2.2.1
  exact va_copyM G.1 G.2.1 hl.1.symm G.2.2.2.2.2.1 (w _ hlink) (w _ q976) (w _ q975) (w _ q122) G.2.2.2.2.2.2.2.2.1.1 hP hD hS p1 p2 8 8 he0 he1 rfl rfl h1 h2 h3 h4 h5 (fun i hi y hy => (hel i hi y hy).any G hP) (by rw [hR]; exact hlev) (by rw [hR]; exact x_loc (n := 8) (by show 8 + 20 ≤ 64 * lev; omega) hcat) d (fun H1 locs1 hP1 hD1 hS1 => kk H1 locs1 ls hP1 hD1 hS1 hl)
end KRW
