/-! THE COMPONENT's WORLD -/
set_option maxRecDepth 100000
/-- what is known of a class of ours: its number in xcl, its fields -/
def xCI (ci : Nat) (C : String) (TT : u_T) (N : Nat) (ty : Nat → FieldType) : Prop := xcl[ci]? = some (C, TT, N) ∧ (∀ w ∈ u_ws C TT N, w ∈ lw_all) ∧ (∀ k, k < N → parseFieldDescriptor (TT k).2.2.1 = some (ty k)) ∧ ∀ a, a < N → ∀ b, b < N → a ≠ b → (TT a).2.1 ≠ (TT b).2.1
theorem ci_X0 : xCI 0 RX0 TX0 31 tyX0 := ⟨rfl, in_X0, tyX0_ok, nmX0⟩
theorem ci_X1 : xCI 1 RX1 TX1 2 tyX1 := ⟨rfl, in_X1, tyX1_ok, nmX1⟩
theorem ci_X2 : xCI 2 RX2 TX2 5 tyX2 := ⟨rfl, in_X2, tyX2_ok, nmX2⟩
theorem ci_X3 : xCI 3 RX3 TX3 6 tyX3 := ⟨rfl, in_X3, tyX3_ok, nmX3⟩
theorem ci_X4 : xCI 4 RX4 TX4 2 tyX4 := ⟨rfl, in_X4, tyX4_ok, nmX4⟩
theorem ci_X5 : xCI 5 RX5 TX5 1 tyX5 := ⟨rfl, in_X5, tyX5_ok, nmX5⟩
theorem ci_X6 : xCI 6 RX6 TX6 31 tyX6 := ⟨rfl, in_X6, tyX6_ok, nmX6⟩
theorem ci_X7 : xCI 7 RX7 TX7 3 tyX7 := ⟨rfl, in_X7, tyX7_ok, nmX7⟩
theorem ci_X8 : xCI 8 RX8 TX8 3 tyX8 := ⟨rfl, in_X8, tyX8_ok, nmX8⟩
theorem ci_X9 : xCI 9 RX9 TX9 3 tyX9 := ⟨rfl, in_X9, tyX9_ok, nmX9⟩
theorem ci_X10 : xCI 10 RX10 TX10 3 tyX10 := ⟨rfl, in_X10, tyX10_ok, nmX10⟩
theorem ci_X11 : xCI 11 RX11 TX11 3 tyX11 := ⟨rfl, in_X11, tyX11_ok, nmX11⟩
theorem ci_X12 : xCI 12 RX12 TX12 3 tyX12 := ⟨rfl, in_X12, tyX12_ok, nmX12⟩
theorem ci_X13 : xCI 13 RX13 TX13 3 tyX13 := ⟨rfl, in_X13, tyX13_ok, nmX13⟩
theorem ci_X14 : xCI 14 RX14 TX14 5 tyX14 := ⟨rfl, in_X14, tyX14_ok, nmX14⟩
theorem ci_X15 : xCI 15 RX15 TX15 7 tyX15 := ⟨rfl, in_X15, tyX15_ok, nmX15⟩
theorem ci_X16 : xCI 16 RX16 TX16 2 tyX16 := ⟨rfl, in_X16, tyX16_ok, nmX16⟩
theorem ci_X18 : xCI 17 RX18 TX18 2 tyX18 := ⟨rfl, in_X18, tyX18_ok, nmX18⟩
theorem ci_X19 : xCI 18 RX19 TX19 1 tyX19 := ⟨rfl, in_X19, tyX19_ok, nmX19⟩
theorem ci_X20 : xCI 19 RX20 TX20 3 tyX20 := ⟨rfl, in_X20, tyX20_ok, nmX20⟩
theorem ci_J2 : xCI 20 RJ2 TJ2 3 tyJ2 := ⟨rfl, in_J2, tyJ2_ok, nmJ2⟩
/-- a field's link, from its own class or a nest mate -/
def xFl (own : String) (idx : Nat) (ref : String) (TT : u_T) (k : Nat) : Prop := Cond.fieldLink own idx ref (TT k).2.1 (TT k).2.2.1 ∈ lw_all ∨ (own, idx, ref, (TT k).2.1, (TT k).2.2.1) ∈ xfln
section KH
variable {D : va_G} {T : xT} {Γ : xE} {cc : ByteArray} {own : String} {nL lev mc ms : Nat} {ret : Option FieldType} {cells slots pc : Nat} {lv : List (Nat × Value)} {st : List Value} {ws : va_W}
theorem k_get (G : xG D T Γ cc own nL ret lev mc ms) {ci N k p idx a : Nat} {C ref : String} {TT : u_T} {ty : Nat → FieldType} {fs : List Value} {v : Value} (c : xCI ci C TT N ty) (he : ws[p]? = some (a, .inr (ci, fs))) (hk : k < N) (hl : xFl own idx ref TT k) (hsame : ∀ x, Γ.2.1.1.fieldFound? (TT k).1 (TT k).2.1 (TT k).2.2.1 = some x → Γ.2.1.1.fieldFound? ref (TT k).2.1 (TT k).2.2.1 = some x) (hv : fs[k]? = some v) (d : decode cc pc = .ok (.getfield idx, 3)) (kk : K D Γ cells slots (pc + 3) lv (v :: st) ws) : K D Γ cells slots pc lv (.ref a :: st) ws := by
  intro H locs ls hP hD hS hl'
  rcases hl with hl | hl
  · exact va_get (D := D) (ci := ci) (C := C) (T := TT) (N := N) G.1 G.2.1 G.2.2.2.2.2.2.1 c.2.1 G.2.2.2.2.2.1 G.2.2.2.2.2.2.2.2.1.1 hP p he c.1 k hk (G.2.2.2.2.2.2.1 _ hl) hsame hv d (kk H locs ls hP hD hS hl')
  · exact va_getN (D := D) (ci := ci) (C := C) (T := TT) (N := N) G.1 G.2.1 G.2.2.2.2.2.2.1 c.2.1 G.2.2.2.2.2.1 G.2.2.2.2.2.2.2.2.1.1 hP p he c.1 k hk (va_Nw.use rfl (G.2.2.2.2.2.2.2.2.1.2.1.2.2.1 _ hl)) hsame hv d (kk H locs ls hP hD hS hl')
theorem k_put (G : xG D T Γ cc own nL ret lev mc ms) {ci N k p idx a : Nat} {C ref : String} {TT : u_T} {ty : Nat → FieldType} {fs : List Value} {v : Value} (c : xCI ci C TT N ty) (he : ws[p]? = some (a, .inr (ci, fs))) (hk : k < N) (hl : xFl own idx ref TT k) (hsame : ∀ x, Γ.2.1.1.fieldFound? (TT k).1 (TT k).2.1 (TT k).2.2.1 = some x → Γ.2.1.1.fieldFound? ref (TT k).2.1 (TT k).2.2.1 = some x) (hfin : (TT k).2.2.2 = false) (hn : narrow (ty k) v = v) (hfit : fits (ty k) v = true) (hlen : k < fs.length) (d : decode cc pc = .ok (.putfield idx, 3)) (kk : ∀ H, va_P D xcl ws H → va_D Γ.2.2.2.2.2 ws → K D Γ cells slots (pc + 3) lv st (ws.set p (a, .inr (ci, fs.set k v)))) : K D Γ cells slots pc lv (v :: .ref a :: st) ws := by
  intro H locs ls hP hD hS hl'
  rcases hl with hl | hl
  · exact va_put (D := D) (ci := ci) (ty := ty k) (C := C) (T := TT) (N := N) G.1 G.2.1 G.2.2.2.2.2.2.1 c.2.1 ty c.2.2.1 c.2.2.2 G.2.2.2.2.2.1 G.2.2.2.2.2.2.2.2.1.1 hP hD hS p he c.1 k hk (G.2.2.2.2.2.2.1 _ hl) hsame hfin (c.2.2.1 k hk) hn hfit hlen d (fun H1 locs1 hP1 hD1 hS1 => kk H hP hD H1 locs1 ls hP1 hD1 hS1 hl')
  · exact va_putN (D := D) (ci := ci) (ty := ty k) (C := C) (T := TT) (N := N) G.1 G.2.1 G.2.2.2.2.2.2.1 c.2.1 ty c.2.2.1 c.2.2.2 G.2.2.2.2.2.1 G.2.2.2.2.2.2.2.2.1.1 hP hD hS p he c.1 k hk (va_Nw.use rfl (G.2.2.2.2.2.2.2.2.1.2.1.2.2.1 _ hl)) hsame hfin (c.2.2.1 k hk) hn hfit hlen d (fun H1 locs1 hP1 hD1 hS1 => kk H hP hD H1 locs1 ls hP1 hD1 hS1 hl')
end KH
/-- contents: ints and references of the fixed cells; the pool's addresses and what lies there -/
abbrev CS : Type := ((Nat → Nat → Int32) × (Nat → Nat → Option Nat)) × (List Nat × (Nat → va_E))
def cC (ω : CS) (c : Nat) (f : Nat → Int32) : CS := ((fun a => if a = c then f else ω.1.1 a, ω.1.2), ω.2)
abbrev cA (ω : CS) (c i : Nat) (v : Int32) : CS := cC ω c (upd (ω.1.1 c) i v)
def cQ (ω : CS) (c : Nat) (f : Nat → Option Nat) : CS := ((ω.1.1, fun a => if a = c then f else ω.1.2 a), ω.2)
abbrev cR (ω : CS) (c i : Nat) (r : Option Nat) : CS := cQ ω c (va_up (ω.1.2 c) i r)
def cwF (q : Nat → Nat) (ω : (Nat → Nat → Int32) × (Nat → Nat → Option Nat)) : List Value := [.ref (q 1), .ref (q 2), .ref (q 3), .int (ω.1 0 3), .ref (q 4), .ref (q 6), .ref (q 24), .int (ω.1 0 7), .int (ω.1 0 8), va_rf (ω.2 0 9), .ref (q 25), .ref (q 26), .ref (q 28), .ref (q 29), .int (ω.1 0 14), .ref (q 30), .ref (q 37), .ref (q 38), .ref (q 39), .ref (q 40), .ref (q 41), .int (ω.1 0 21), .ref (q 22), .ref (q 42), .ref (q 43), .ref (q 44), .ref (q 45), .ref (q 46), .int (ω.1 0 28), .int (ω.1 0 29), va_rf (ω.2 0 30)]
def cwX (T : xT) (q : Nat → Nat) (ω : (Nat → Nat → Int32) × (Nat → Nat → Option Nat)) : va_W := [(q 0, .inr (0, cwF q ω)), (q 1, .inl (T.1 5, 6, .inr (.inr (.inr (.inr (ω.2 1)))))), (q 2, .inl (T.1 0, 24, .inl (ω.1 2))), (q 3, .inl (T.1 0, 24, .inl (ω.1 3))), (q 4, .inr (1, [.ref (q 5), .int (ω.1 4 1)])), (q 5, .inl (T.1 0, 4, .inl (ω.1 5))), (q 6, .inr (1, [.ref (q 7), .int (ω.1 6 1)])), (q 7, .inl (T.1 0, 4, .inl (ω.1 7))), (q 8, .inr (1, [.ref (q 9), .int (ω.1 8 1)])), (q 9, .inl (T.1 0, 4, .inl (ω.1 9))), (q 10, .inr (1, [.ref (q 11), .int (ω.1 10 1)])), (q 11, .inl (T.1 0, 4, .inl (ω.1 11))), (q 12, .inr (1, [.ref (q 13), .int (ω.1 12 1)])), (q 13, .inl (T.1 0, 4, .inl (ω.1 13))), (q 14, .inr (1, [.ref (q 15), .int (ω.1 14 1)])), (q 15, .inl (T.1 0, 4, .inl (ω.1 15))), (q 16, .inr (1, [.ref (q 17), .int (ω.1 16 1)])), (q 17, .inl (T.1 0, 4, .inl (ω.1 17))), (q 18, .inr (1, [.ref (q 19), .int (ω.1 18 1)])), (q 19, .inl (T.1 0, 4, .inl (ω.1 19))), (q 20, .inr (1, [.ref (q 21), .int (ω.1 20 1)])), (q 21, .inl (T.1 0, 4, .inl (ω.1 21))), (q 22, .inr (1, [.ref (q 23), .int (ω.1 22 1)])), (q 23, .inl (T.1 0, 4, .inl (ω.1 23))), (q 24, .inl (T.1 2, 100, .inl (ω.1 24))), (q 25, .inr (3, [.int (ω.1 25 0), .int (ω.1 25 1), .int (ω.1 25 2), .int (ω.1 25 3), .int (ω.1 25 4), .int (ω.1 25 5)])), (q 26, .inr (4, [.ref (q 27), .int (ω.1 26 1)])), (q 27, .inl (T.1 0, 20, .inl (ω.1 27))), (q 28, .inl (T.1 2, 12, .inl (ω.1 28))), (q 29, .inl (T.1 4, 12, .inl (ω.1 29))), (q 30, .inl (T.1 6, 6, .inr (.inr (.inr (.inr (fun i => some (q (31 + i)))))))), (q 31, .inr (5, [va_rf (ω.2 31 0)])), (q 32, .inr (5, [va_rf (ω.2 32 0)])), (q 33, .inr (5, [va_rf (ω.2 33 0)])), (q 34, .inr (5, [va_rf (ω.2 34 0)])), (q 35, .inr (5, [va_rf (ω.2 35 0)])), (q 36, .inr (5, [va_rf (ω.2 36 0)])), (q 37, .inl (T.1 0, 4, .inl (ω.1 37))), (q 38, .inl (T.1 0, 4, .inl (ω.1 38))), (q 39, .inl (T.1 7, 7, .inr (.inr (.inr (.inr (fun i => some (q (8 + 2 * i)))))))), (q 40, .inl (T.1 0, 6, .inl (ω.1 40))), (q 41, .inl (T.1 0, 6, .inl (ω.1 41))), (q 42, .inl (T.1 5, 6, .inr (.inr (.inr (.inr (ω.2 42)))))), (q 43, .inl (T.1 0, 24, .inl (ω.1 43))), (q 44, .inl (T.1 0, 24, .inl (ω.1 44))), (q 45, .inl (T.1 2, 12, .inl (ω.1 45))), (q 46, .inl (T.1 4, 12, .inl (ω.1 46)))]
def cw (T : xT) (q : Nat → Nat) (ω : CS) : va_W := cwX T q ω.1 ++ va_pl ω.2.1 ω.2.2
theorem cw_at {T : xT} {q : Nat → Nat} {ω : CS} {p : Nat} {e : Nat × va_E} (h : (cwX T q ω.1)[p]? = some e) : (cw T q ω)[p]? = some e := by
  unfold cw
  rw [List.getElem?_append_left (List.getElem?_eq_some_iff.mp h).1]
  exact h
theorem cwSt {T : xT} {q : Nat → Nat} {ω : CS} {p : Nat} {e e0 : Nat × va_E} {ω' : (Nat → Nat → Int32) × (Nat → Nat → Option Nat)} (h0 : (cwX T q ω.1)[p]? = some e0) (h : (cwX T q ω.1).set p e = cwX T q ω') : (cw T q ω).set p e = cw T q (ω', ω.2) := by
  unfold cw
  rw [List.set_append_left _ _ (List.getElem?_eq_some_iff.mp h0).1, h]
/-- cell c is an array of ints (bytes, shorts, booleans: type t), of length n -/
def cI (c n t : Nat) : Prop := (∀ (T : xT) (q : Nat → Nat) (ω : (Nat → Nat → Int32) × (Nat → Nat → Option Nat)), (cwX T q ω)[c]? = some (q c, .inl (T.1 t, n, .inl (ω.1 c)))) ∧ ∀ (T : xT) (q : Nat → Nat) (ω : CS) (f : Nat → Int32), (cwX T q ω.1).set c (q c, .inl (T.1 t, n, .inl f)) = cwX T q (cC ω c f).1
/-- cell c is an array of n references to loaves -/
def cJ (c n : Nat) : Prop := (∀ (T : xT) (q : Nat → Nat) (ω : (Nat → Nat → Int32) × (Nat → Nat → Option Nat)), (cwX T q ω)[c]? = some (q c, .inl (T.1 5, n, .inr (.inr (.inr (.inr (ω.2 c))))))) ∧ ∀ (T : xT) (q : Nat → Nat) (ω : CS) (f : Nat → Option Nat), (cwX T q ω.1).set c (q c, .inl (T.1 5, n, .inr (.inr (.inr (.inr f))))) = cwX T q (cQ ω c f).1
theorem cI_2 : cI 2 24 0 := ⟨fun _ _ _ => rfl, fun _ _ _ _ => rfl⟩
theorem cI_3 : cI 3 24 0 := ⟨fun _ _ _ => rfl, fun _ _ _ _ => rfl⟩
theorem cI_5 : cI 5 4 0 := ⟨fun _ _ _ => rfl, fun _ _ _ _ => rfl⟩
theorem cI_7 : cI 7 4 0 := ⟨fun _ _ _ => rfl, fun _ _ _ _ => rfl⟩
theorem cI_9 : cI 9 4 0 := ⟨fun _ _ _ => rfl, fun _ _ _ _ => rfl⟩
theorem cI_11 : cI 11 4 0 := ⟨fun _ _ _ => rfl, fun _ _ _ _ => rfl⟩
theorem cI_13 : cI 13 4 0 := ⟨fun _ _ _ => rfl, fun _ _ _ _ => rfl⟩
theorem cI_15 : cI 15 4 0 := ⟨fun _ _ _ => rfl, fun _ _ _ _ => rfl⟩
theorem cI_17 : cI 17 4 0 := ⟨fun _ _ _ => rfl, fun _ _ _ _ => rfl⟩
theorem cI_19 : cI 19 4 0 := ⟨fun _ _ _ => rfl, fun _ _ _ _ => rfl⟩
theorem cI_21 : cI 21 4 0 := ⟨fun _ _ _ => rfl, fun _ _ _ _ => rfl⟩
theorem cI_23 : cI 23 4 0 := ⟨fun _ _ _ => rfl, fun _ _ _ _ => rfl⟩
theorem cI_24 : cI 24 100 2 := ⟨fun _ _ _ => rfl, fun _ _ _ _ => rfl⟩
theorem cI_27 : cI 27 20 0 := ⟨fun _ _ _ => rfl, fun _ _ _ _ => rfl⟩
theorem cI_28 : cI 28 12 2 := ⟨fun _ _ _ => rfl, fun _ _ _ _ => rfl⟩
theorem cI_29 : cI 29 12 4 := ⟨fun _ _ _ => rfl, fun _ _ _ _ => rfl⟩
theorem cI_37 : cI 37 4 0 := ⟨fun _ _ _ => rfl, fun _ _ _ _ => rfl⟩
theorem cI_38 : cI 38 4 0 := ⟨fun _ _ _ => rfl, fun _ _ _ _ => rfl⟩
theorem cI_40 : cI 40 6 0 := ⟨fun _ _ _ => rfl, fun _ _ _ _ => rfl⟩
theorem cI_41 : cI 41 6 0 := ⟨fun _ _ _ => rfl, fun _ _ _ _ => rfl⟩
theorem cI_43 : cI 43 24 0 := ⟨fun _ _ _ => rfl, fun _ _ _ _ => rfl⟩
theorem cI_44 : cI 44 24 0 := ⟨fun _ _ _ => rfl, fun _ _ _ _ => rfl⟩
theorem cI_45 : cI 45 12 2 := ⟨fun _ _ _ => rfl, fun _ _ _ _ => rfl⟩
theorem cI_46 : cI 46 12 4 := ⟨fun _ _ _ => rfl, fun _ _ _ _ => rfl⟩
theorem cJ_1 : cJ 1 6 := ⟨fun _ _ _ => rfl, fun _ _ _ _ => rfl⟩
theorem cJ_42 : cJ 42 6 := ⟨fun _ _ _ => rfl, fun _ _ _ _ => rfl⟩
theorem cI_time {t : Nat} (h : t < 10) : cI (5 + 2 * t) 4 0 := by
  match t, h with
  | 0, _ => exact cI_5
  | 1, _ => exact cI_7
  | 2, _ => exact cI_9
  | 3, _ => exact cI_11
  | 4, _ => exact cI_13
  | 5, _ => exact cI_15
  | 6, _ => exact cI_17
  | 7, _ => exact cI_19
  | 8, _ => exact cI_21
  | 9, _ => exact cI_23
/-- the Time t: its object -/
theorem cT_at {t : Nat} (h : t < 10) (T : xT) (q : Nat → Nat) (ω : (Nat → Nat → Int32) × (Nat → Nat → Option Nat)) : (cwX T q ω)[4 + 2 * t]? = some (q (4 + 2 * t), .inr (1, [.ref (q (5 + 2 * t)), .int (ω.1 (4 + 2 * t) 1)])) := by
  match t, h with
  | 0, _ => rfl
  | 1, _ => rfl
  | 2, _ => rfl
  | 3, _ => rfl
  | 4, _ => rfl
  | 5, _ => rfl
  | 6, _ => rfl
  | 7, _ => rfl
  | 8, _ => rfl
  | 9, _ => rfl
theorem cT_set {t : Nat} (h : t < 10) (T : xT) (q : Nat → Nat) (ω : CS) (v : Int32) : (cwX T q ω.1).set (4 + 2 * t) (q (4 + 2 * t), .inr (1, [.ref (q (5 + 2 * t)), .int v])) = cwX T q (cA ω (4 + 2 * t) 1 v).1 := by
  match t, h with
  | 0, _ => rfl
  | 1, _ => rfl
  | 2, _ => rfl
  | 3, _ => rfl
  | 4, _ => rfl
  | 5, _ => rfl
  | 6, _ => rfl
  | 7, _ => rfl
  | 8, _ => rfl
  | 9, _ => rfl
/-- the tape i: its object -/
theorem cB_at {i : Nat} (h : i < 6) (T : xT) (q : Nat → Nat) (ω : (Nat → Nat → Int32) × (Nat → Nat → Option Nat)) : (cwX T q ω)[31 + i]? = some (q (31 + i), .inr (5, [va_rf (ω.2 (31 + i) 0)])) := by
  match i, h with
  | 0, _ => rfl
  | 1, _ => rfl
  | 2, _ => rfl
  | 3, _ => rfl
  | 4, _ => rfl
  | 5, _ => rfl
theorem cB_set {i : Nat} (h : i < 6) (T : xT) (q : Nat → Nat) (ω : CS) (r : Option Nat) : (cwX T q ω.1).set (31 + i) (q (31 + i), .inr (5, [va_rf r])) = cwX T q (cR ω (31 + i) 0 r).1 := by
  match i, h with
  | 0, _ => rfl
  | 1, _ => rfl
  | 2, _ => rfl
  | 3, _ => rfl
  | 4, _ => rfl
  | 5, _ => rfl
