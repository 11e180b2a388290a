/-! rows of arrays of the pool; the machine's throws with a message; a cast that fails -/
set_option maxRecDepth 100000
/-! the machine's own exceptions with a message -/
def xM : List (String × List String) := [("java/lang/NegativeArraySizeException", ["java/lang/RuntimeException", "java/lang/Exception"]), ("java/lang/ClassCastException", ["java/lang/RuntimeException", "java/lang/Exception"]), ("java/lang/ArrayStoreException", ["java/lang/RuntimeException", "java/lang/Exception"]), ("java/lang/ArrayIndexOutOfBoundsException", ["java/lang/IndexOutOfBoundsException", "java/lang/RuntimeException", "java/lang/Exception"])]
theorem xw_memC {L : List Cond} (h : L.all (fun w => (goodWord w && lw_tbl.any (fun z => decide (z = w))) || (!goodWord w && (xcast.any (fun q => decide (w = Cond.castable q.1 q.2)) || xdecl.any (fun q => decide (w = Cond.declares q))))) = true) {s : State} {args : Array Value} (w : ∀ z ∈ lw_all, z.before args s = true) (N : xN s) : ∀ z ∈ L, z.before args s = true := by
  intro z hz
  have h1 := List.all_eq_true.mp h z hz
  rcases (Bool.or_eq_true _ _).mp h1 with h1 | h1
  · obtain ⟨g, h1⟩ := (Bool.and_eq_true _ _).mp h1
    obtain ⟨z', hz', e⟩ := List.any_eq_true.mp h1
    have e1 := of_decide_eq_true e
    subst e1
    exact w _ (List.mem_filter.mpr ⟨hz', g⟩)
  · obtain ⟨-, h1⟩ := (Bool.and_eq_true _ _).mp h1
    rcases (Bool.or_eq_true _ _).mp h1 with h1 | h1
    · obtain ⟨q, hq, e⟩ := List.any_eq_true.mp h1
      rw [of_decide_eq_true e]
      exact va_Nw.use rfl (N.1 _ hq)
    · obtain ⟨q, hq, e⟩ := List.any_eq_true.mp h1
      rw [of_decide_eq_true e]
      exact va_Nw.use rfl (N.2.1 _ hq)
set_option maxHeartbeats 4000000 in
theorem xw_M : xM.all (fun q => (vx_atM q.1 q.2).all (fun w => (goodWord w && lw_tbl.any (fun z => decide (z = w))) || (!goodWord w && (xcast.any (fun q => decide (w = Cond.castable q.1 q.2)) || xdecl.any (fun q => decide (w = Cond.declares q)))))) = true := by decide +kernel
set_option maxHeartbeats 4000000 in
theorem xw_M2 : xM.all (fun q => (vx_atM q.1 q.2).all vx_ot && Bundle.fit q.1 && q.2.all Bundle.fit && !(q.1 == "java/lang/StackOverflowError") && !(q.1 == "java/lang/OutOfMemoryError") && decide (q.2.length ≤ 3)) = true := by decide +kernel
section KZ1
variable {D : va_G} {T : xT} {Γ : xE} {cc : ByteArray} {own : String} {nL lev mc ms : Nat} {ret : Option FieldType} {cells slots pc : Nat} {lv : List (Nat × Value)} {st rest : List Value} {ws : va_W}
theorem kx_vm (G : xG D T Γ cc own nL ret lev mc ms) (hlt : Γ.1.2.1.stackTraces = false) (hlev : 200 ≤ lev) {E text : String} {names : List String} (he : (E, names) ∈ xM) {nb : Nat} (htext : (text == notModelled) = false) (hnb : (stringBytes (stringToUtf16 text)).size ≤ nb) (hnb1 : nb ≤ 1000) (hcat : (rest.map fun v => v.category).sum ≤ 8) (hroom : cells + 3 ≤ mc ∧ slots + (nb + 10) ≤ ms) (k : ∀ q : Nat, KX D Γ (cells + 3) (slots + (nb + 10)) pc lv rest ws E q) {H : Heap} {locs : List Loc} {ls : Array Slot} (hP : va_P D xcl ws H) (hD : va_D Γ.2.2.2.2.2 ws) (hS : va_S Γ.2.2.2.2.2 Γ.2.1.1.heap H locs) (hl : lv_has ls Γ.2.2.2.1.maxLocals lv) : vx_Note Γ.1.1 Γ.1.2.1 Γ.1.2.2.1 Γ.1.2.2.2 Γ.2.1.1 Γ.2.1.2.1 Γ.2.1.2.2.1 Γ.2.1.2.2.2 Γ.2.2.1 Γ.2.2.2.1 H locs cells slots Γ.2.2.2.2.1 (F0 Γ.2.1.2.1 pc ls rest) E text := by
  have hR : Γ.1.2.2.2 = xrm lev mc ms := G.2.2.2.2.2.2.2.2.2
  have w := G.2.2.2.2.2.2.1
  have N := G.2.2.2.2.2.2.2.2.1.2.1
  have h1 := List.all_eq_true.mp xw_M _ he
  have h2 := List.all_eq_true.mp xw_M2 _ he
  simp only [Bool.and_eq_true, Bool.not_eq_true', decide_eq_true_eq] at h2
  obtain ⟨⟨⟨⟨⟨a1, a2⟩, a3⟩, a4⟩, a5⟩, a6⟩ := h2
  refine vx_vm (names := names) (nb := nb) G.1 hlt a2 (fun n hn => List.all_eq_true.mp a3 n hn) a4 a5 (xw_memC h1 w N) (fun z hz => List.all_eq_true.mp a1 z hz) (x_H G).2.2.2.1 (x_H G).2.2.2.2.1 hS hl.1 htext hnb hnb1 (by rw [hR]; show names.length + 4 < lev; omega) (by rw [hR]; show _ ≤ 64 * lev; omega) (by omega) (by rw [hR]; exact hroom.1) (by rw [hR]; exact hroom.2) G.2.2.2.2.1 (fun H1 q9 ce hz hk hS1 hce hv hcl => ?_)
  exact k q9 H1 locs ls ce (hP.kept (fun i x hx => hk x.1 ((hP i x hx).lt))) hD hS1 hl hce hv hcl
end KZ1
/-! arrays of the pool -/
def sortN (s : Nat) : String := match s with
  | 0 => "[B"
  | 1 => "[S"
  | 2 => "[I"
  | 3 => "[J"
  | _ => "[Z"
def sortF (s : Nat) : FieldType := match s with
  | 0 => .byte
  | 1 => .short
  | 2 => .int
  | 3 => .long
  | _ => .boolean
theorem sort_ty {T : xT} {s : Nat} (h : s ≤ 4) : (xtys T.1)[sortT s]? = some (T.1 (sortT s), sortF s) := by
  match s, h with
  | 0, _ => rfl
  | 1, _ => rfl
  | 2, _ => rfl
  | 3, _ => rfl
  | 4, _ => rfl
theorem sort_nm {U : State} {cA : ClassId} {s : Nat} (h : s ≤ 4) (hr : va_RA U cA (sortF s)) : U.vm.findClass (sortN s) = some cA := by
  match s, h with
  | 0, _ => exact va_nm_byte hr
  | 1, _ => exact va_nm_short hr
  | 2, _ => exact va_nm_int hr
  | 3, _ => exact va_nm_long hr
  | 4, _ => exact va_nm_boolean hr
/-- a row of sort s lies at a -/
def rowE (T : xT) (ω : CS) (s a : Nat) (x : vp_A) : Prop := s ≤ 4 ∧ a ∈ ω.2.1 ∧ ω.2.2 a = .inl (T.1 (sortT s), x)
/-- the entry of a is e -/
def cRow (ω : CS) (a : Nat) (e : va_E) : CS := (ω.1, (ω.2.1, va_up ω.2.2 a e))
section KZ2
variable {D : va_G} {T : xT} {Γ : xE} {cc : ByteArray} {own : String} {nL lev mc ms : Nat} {ret : Option FieldType} {cells slots pc : Nat} {lv : List (Nat × Value)} {st : List Value} {q : Nat → Nat} {ω : CS}
theorem rowE.at {s a : Nat} {x : vp_A} (h : rowE T ω s a x) : ∃ p : Nat, (cw T q ω)[p]? = some (a, .inl (T.1 (sortT s), x)) := by
  obtain ⟨-, h1, h2⟩ := h
  obtain ⟨p, hp⟩ := cw_pos (T := T) (q := q) h1
  rw [h2] at hp
  exact ⟨p, hp⟩
theorem kr_recv (G : xG D T Γ cc own nL ret lev mc ms) {s a : Nat} {x : vp_A} (h : rowE T ω s a x) {H : Heap} (hP : va_P D xcl (cw T q ω) H) : ∃ cell : Cell, H[a]? = some cell ∧ cell.vm.isStatics = false ∧ Γ.2.1.1.vm.findClass (sortN s) = some cell.cls := by
  obtain ⟨p, hp⟩ := h.at (q := q)
  have hvm0 : (vp_cell (T.1 (sortT s)) x).vm = .none := by
    obtain ⟨n, f | f | f | f | f⟩ := x <;> rfl
  have hcl0 : (vp_cell (T.1 (sortT s)) x).cls = T.1 (sortT s) := by
    obtain ⟨n, f | f | f | f | f⟩ := x <;> rfl
  refine ⟨_, hP p _ hp, by rw [hvm0]; rfl, ?_⟩
  rw [hcl0]
  exact sort_nm h.1 (G.2.2.2.2.2.2.2.2.1.1.2 _ _ (sort_ty h.1)).2
theorem kr_instY (G : xG D T Γ cc own nL ret lev mc ms) {idx s a : Nat} {x : vp_A} (h : rowE T ω s a x) (hlink : Cond.classLink own idx (sortN s) ∈ lw_all) (d : decode cc pc = .ok (.instanceof idx, 3)) (kk : K D Γ cells slots (pc + 3) lv (.int 1 :: st) (cw T q ω)) : K D Γ cells slots pc lv (.ref a :: st) (cw T q ω) :=
  fun H locs ls hP hD hS hl => va_instE G.1 G.2.1 G.2.2.2.2.2.1 (G.2.2.2.2.2.2.1 _ hlink) (kr_recv G h hP) d (kk H locs ls hP hD hS hl)
theorem kr_instN (G : xG D T Γ cc own nL ret lev mc ms) {idx s a : Nat} {x : vp_A} {nm : String} (h : rowE T ω s a x) (hlink : Cond.classLink own idx nm ∈ lw_all) (hn : (sortN s, nm) ∈ xnc) (d : decode cc pc = .ok (.instanceof idx, 3)) (kk : K D Γ cells slots (pc + 3) lv (.int 0 :: st) (cw T q ω)) : K D Γ cells slots pc lv (.ref a :: st) (cw T q ω) :=
  fun H locs ls hP hD hS hl => va_instNo G.1 G.2.1 G.2.2.2.2.2.1 (G.2.2.2.2.2.2.1 _ hlink) (G.2.2.2.2.2.2.2.2.1.2.1.2.2.2.2.2.1 _ hn) (kr_recv G h hP) d (kk H locs ls hP hD hS hl)
theorem kr_cast (G : xG D T Γ cc own nL ret lev mc ms) {idx s a : Nat} {x : vp_A} (h : rowE T ω s a x) (hlink : Cond.classLink own idx (sortN s) ∈ lw_all) (d : decode cc pc = .ok (.checkcast idx, 3)) (kk : K D Γ cells slots (pc + 3) lv (.ref a :: st) (cw T q ω)) : K D Γ cells slots pc lv (.ref a :: st) (cw T q ω) :=
  fun H locs ls hP hD hS hl => va_castE G.1 G.2.1 G.2.2.2.2.2.1 (G.2.2.2.2.2.2.1 _ hlink) (kr_recv G h hP) d (kk H locs ls hP hD hS hl)
theorem kr_len (G : xG D T Γ cc own nL ret lev mc ms) {s a : Nat} {x : vp_A} (h : rowE T ω s a x) (d : decode cc pc = .ok (.arraylength, 1)) (kk : K D Γ cells slots (pc + 1) lv (.int (nI x.1) :: st) (cw T q ω)) : K D Γ cells slots pc lv (.ref a :: st) (cw T q ω) := by
  intro H locs ls hP hD hS hl
  obtain ⟨p, hp⟩ := h.at (q := q)
  exact va_alen G.1 G.2.1 G.2.2.2.2.2.2.2.2.1.1 hP p (sortT s) hp (sort_ty h.1) rfl d (kk H locs ls hP hD hS hl)
theorem kr_bald (G : xG D T Γ cc own nL ret lev mc ms) {a n : Nat} {f : Nat → Int32} (h : rowE T ω 0 a (n, .inl f)) {i : Int32} (d : decode cc pc = .ok (.baload, 1)) (hin : vp_in i n) (kk : K D Γ cells slots (pc + 1) lv (.int (f i.toNatClampNeg) :: st) (cw T q ω)) : K D Γ cells slots pc lv (.int i :: .ref a :: st) (cw T q ω) := by
  intro H locs ls hP hD hS hl
  obtain ⟨p, hp⟩ := h.at (q := q)
  exact va_bald G.1 G.2.1 G.2.2.2.2.2.2.2.2.1.1 hP p (sortT 0) hp (sort_ty h.1) hin d (kk H locs ls hP hD hS hl)
theorem kr_sald (G : xG D T Γ cc own nL ret lev mc ms) {a n : Nat} {f : Nat → Int32} (h : rowE T ω 1 a (n, .inl f)) {i : Int32} (d : decode cc pc = .ok (.saload, 1)) (hin : vp_in i n) (kk : K D Γ cells slots (pc + 1) lv (.int (f i.toNatClampNeg) :: st) (cw T q ω)) : K D Γ cells slots pc lv (.int i :: .ref a :: st) (cw T q ω) := by
  intro H locs ls hP hD hS hl
  obtain ⟨p, hp⟩ := h.at (q := q)
  exact va_sald G.1 G.2.1 G.2.2.2.2.2.2.2.2.1.1 hP p (sortT 1) hp (sort_ty h.1) hin d (kk H locs ls hP hD hS hl)
theorem kr_iald (G : xG D T Γ cc own nL ret lev mc ms) {a n : Nat} {f : Nat → Int32} (h : rowE T ω 2 a (n, .inl f)) {i : Int32} (d : decode cc pc = .ok (.iaload, 1)) (hin : vp_in i n) (kk : K D Γ cells slots (pc + 1) lv (.int (f i.toNatClampNeg) :: st) (cw T q ω)) : K D Γ cells slots pc lv (.int i :: .ref a :: st) (cw T q ω) := by
  intro H locs ls hP hD hS hl
  obtain ⟨p, hp⟩ := h.at (q := q)
  exact va_iald G.1 G.2.1 G.2.2.2.2.2.2.2.2.1.1 hP p (sortT 2) hp (sort_ty h.1) hin d (kk H locs ls hP hD hS hl)
theorem kr_lald (G : xG D T Γ cc own nL ret lev mc ms) {a n : Nat} {f : Nat → Int64} (h : rowE T ω 3 a (n, .inr (.inl f))) {i : Int32} (d : decode cc pc = .ok (.laload, 1)) (hin : vp_in i n) (kk : K D Γ cells slots (pc + 1) lv (.long (f i.toNatClampNeg) :: st) (cw T q ω)) : K D Γ cells slots pc lv (.int i :: .ref a :: st) (cw T q ω) := by
  intro H locs ls hP hD hS hl
  obtain ⟨p, hp⟩ := h.at (q := q)
  exact va_lald G.1 G.2.1 G.2.2.2.2.2.2.2.2.1.1 hP p (sortT 3) hp (sort_ty h.1) hin d (kk H locs ls hP hD hS hl)
theorem kr_zald (G : xG D T Γ cc own nL ret lev mc ms) {a n : Nat} {f : Nat → Int32} (h : rowE T ω 4 a (n, .inl f)) {i : Int32} (d : decode cc pc = .ok (.baload, 1)) (hin : vp_in i n) (kk : K D Γ cells slots (pc + 1) lv (.int (f i.toNatClampNeg) :: st) (cw T q ω)) : K D Γ cells slots pc lv (.int i :: .ref a :: st) (cw T q ω) := by
  intro H locs ls hP hD hS hl
  obtain ⟨p, hp⟩ := h.at (q := q)
  exact va_zald G.1 G.2.1 G.2.2.2.2.2.2.2.2.1.1 hP p (sortT 4) hp (sort_ty h.1) hin d (kk H locs ls hP hD hS hl)
theorem cw_setR {A : Nat → Prop} {a p : Nat} {e : va_E} (hD : va_D A (cw T q ω)) (ha : a ∈ ω.2.1) (hp : (cw T q ω)[p]? = some (a, ω.2.2 a)) : (cw T q ω).set p (a, e) = cw T q (cRow ω a e) := va_pl_set hD ha hp
theorem kr_bast (G : xG D T Γ cc own nL ret lev mc ms) {a n : Nat} {f : Nat → Int32} (h : rowE T ω 0 a (n, .inl f)) {i x : Int32} (d : decode cc pc = .ok (.bastore, 1)) (hin : vp_in i n) (kk : K D Γ cells slots (pc + 1) lv st (cw T q (cRow ω a (.inl (T.1 2, (n, .inl (upd f i.toNatClampNeg (vp_nar .byte x)))))))) : K D Γ cells slots pc lv (.int x :: .int i :: .ref a :: st) (cw T q ω) := by
  intro H locs ls hP hD hS hl
  obtain ⟨p, hp⟩ := cw_pos (T := T) (q := q) h.2.1
  have hp' := hp
  rw [h.2.2] at hp'
  refine va_bast G.1 G.2.1 G.2.2.2.2.2.2.2.2.1.1 hP hD hS p (sortT 0) hp' (sort_ty h.1) hin d (fun H1 locs1 hP1 hD1 hS1 => ?_)
  rw [cw_setR hD h.2.1 hp] at hP1 hD1
  exact kk H1 locs1 ls hP1 hD1 hS1 hl
theorem kr_sast (G : xG D T Γ cc own nL ret lev mc ms) {a n : Nat} {f : Nat → Int32} (h : rowE T ω 1 a (n, .inl f)) {i x : Int32} (d : decode cc pc = .ok (.sastore, 1)) (hin : vp_in i n) (kk : K D Γ cells slots (pc + 1) lv st (cw T q (cRow ω a (.inl (T.1 3, (n, .inl (upd f i.toNatClampNeg (vp_nar .short x)))))))) : K D Γ cells slots pc lv (.int x :: .int i :: .ref a :: st) (cw T q ω) := by
  intro H locs ls hP hD hS hl
  obtain ⟨p, hp⟩ := cw_pos (T := T) (q := q) h.2.1
  have hp' := hp
  rw [h.2.2] at hp'
  refine va_sast G.1 G.2.1 G.2.2.2.2.2.2.2.2.1.1 hP hD hS p (sortT 1) hp' (sort_ty h.1) hin d (fun H1 locs1 hP1 hD1 hS1 => ?_)
  rw [cw_setR hD h.2.1 hp] at hP1 hD1
  exact kk H1 locs1 ls hP1 hD1 hS1 hl
theorem kr_iast (G : xG D T Γ cc own nL ret lev mc ms) {a n : Nat} {f : Nat → Int32} (h : rowE T ω 2 a (n, .inl f)) {i x : Int32} (d : decode cc pc = .ok (.iastore, 1)) (hin : vp_in i n) (kk : K D Γ cells slots (pc + 1) lv st (cw T q (cRow ω a (.inl (T.1 0, (n, .inl (upd f i.toNatClampNeg x))))))) : K D Γ cells slots pc lv (.int x :: .int i :: .ref a :: st) (cw T q ω) := by
  intro H locs ls hP hD hS hl
  obtain ⟨p, hp⟩ := cw_pos (T := T) (q := q) h.2.1
  have hp' := hp
  rw [h.2.2] at hp'
  refine va_iast G.1 G.2.1 G.2.2.2.2.2.2.2.2.1.1 hP hD hS p (sortT 2) hp' (sort_ty h.1) hin d (fun H1 locs1 hP1 hD1 hS1 => ?_)
  have e := cw_setR (e := .inl (T.1 (sortT 2), (n, .inl (upd f i.toNatClampNeg x)))) hD h.2.1 hp
  refine kk H1 locs1 ls ?_ ?_ hS1 hl
  · rw [show cw T q (cRow ω a (.inl (T.1 0, (n, .inl (upd f i.toNatClampNeg x))))) = _ from e.symm]; exact hP1
  · rw [show cw T q (cRow ω a (.inl (T.1 0, (n, .inl (upd f i.toNatClampNeg x))))) = _ from e.symm]; exact hD1
theorem kr_last (G : xG D T Γ cc own nL ret lev mc ms) {a n : Nat} {f : Nat → Int64} (h : rowE T ω 3 a (n, .inr (.inl f))) {i : Int32} {x : Int64} (d : decode cc pc = .ok (.lastore, 1)) (hin : vp_in i n) (kk : K D Γ cells slots (pc + 1) lv st (cw T q (cRow ω a (.inl (T.1 1, (n, .inr (.inl (vp_updL f i.toNatClampNeg x)))))))) : K D Γ cells slots pc lv (.long x :: .int i :: .ref a :: st) (cw T q ω) := by
  intro H locs ls hP hD hS hl
  obtain ⟨p, hp⟩ := cw_pos (T := T) (q := q) h.2.1
  have hp' := hp
  rw [h.2.2] at hp'
  refine va_last G.1 G.2.1 G.2.2.2.2.2.2.2.2.1.1 hP hD hS p (sortT 3) hp' (sort_ty h.1) hin d (fun H1 locs1 hP1 hD1 hS1 => ?_)
  rw [cw_setR hD h.2.1 hp] at hP1 hD1
  exact kk H1 locs1 ls hP1 hD1 hS1 hl
theorem kr_zast (G : xG D T Γ cc own nL ret lev mc ms) {a n : Nat} {f : Nat → Int32} (h : rowE T ω 4 a (n, .inl f)) {i x : Int32} (d : decode cc pc = .ok (.bastore, 1)) (hin : vp_in i n) (kk : K D Γ cells slots (pc + 1) lv st (cw T q (cRow ω a (.inl (T.1 4, (n, .inl (upd f i.toNatClampNeg (vp_nar .boolean x)))))))) : K D Γ cells slots pc lv (.int x :: .int i :: .ref a :: st) (cw T q ω) := by
  intro H locs ls hP hD hS hl
  obtain ⟨p, hp⟩ := cw_pos (T := T) (q := q) h.2.1
  have hp' := hp
  rw [h.2.2] at hp'
  refine va_zast G.1 G.2.1 G.2.2.2.2.2.2.2.2.1.1 hP hD hS p (sortT 4) hp' (sort_ty h.1) hin d (fun H1 locs1 hP1 hD1 hS1 => ?_)
  rw [cw_setR hD h.2.1 hp] at hP1 hD1
  exact kk H1 locs1 ls hP1 hD1 hS1 hl
/-- an array of fewer than none -/
theorem kx_newaZ {ws : va_W} {rest : List Value} (G : xG D T Γ cc own nL ret lev mc ms) (hlt : Γ.1.2.1.stackTraces = false) (hlev : 200 ≤ lev) {atype : ArrayType} {n : Int32} (h0 : n < 0) (hcat : (rest.map fun v => v.category).sum ≤ 8) (hroom : cells + 3 ≤ mc ∧ slots + 110 ≤ ms) (d : decode cc pc = .ok (.newarray atype, 2)) (k : ∀ q : Nat, KX D Γ (cells + 3) (slots + 110) pc lv rest ws "java/lang/NegativeArraySizeException" q) (htx : ((toString n : String) == notModelled) = false ∧ (stringBytes (stringToUtf16 (toString n))).size ≤ 100) : K D Γ cells slots pc lv (.int n :: rest) ws := by
  intro H locs ls hP hD hS hl
  refine vx_newarrayZ G.1 G.2.1 h0 d (fun tx etx => ?_)
  subst etx
  exact kx_vm G hlt hlev (names := ["java/lang/RuntimeException", "java/lang/Exception"]) List.mem_cons_self (nb := 100) htx.1 htx.2 (by decide) hcat hroom k hP hD hS hl
end KZ2
