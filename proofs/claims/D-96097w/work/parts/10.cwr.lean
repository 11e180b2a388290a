/-! rows over the component's world -/
set_option maxRecDepth 100000
def imin (x y : Int32) : Int32 := if y < x then y else x
def imax (x y : Int32) : Int32 := if x < y then y else x
/-- a loaf of kind kd at a: its number, its v -/
def lofR (q : Nat → Nat) (ω : CS) (a kd : Nat) (n v : Int32) : Prop := kd ≤ 6 ∧ a ∈ ω.2.1 ∧ ω.2.2 a = .inr (7 + kd, [.ref (q 26), .int n, .int v])
/-- a field of the component itself -/
def CF (own : String) (k idx : Nat) : Prop := k < 31 ∧ xFl own idx RX0 TX0 k ∧ (TX0 k).1 = RX0
def CP (own : String) (k idx : Nat) : Prop := CF own k idx ∧ (TX0 k).2.2.2 = false ∧ tyX0 k = .int ∧ ∀ (T : xT) (q : Nat → Nat) (ω : CS) (x : Int32), (cwX T q ω.1).set 0 (q 0, .inr (0, (cwF q ω.1).set k (.int x))) = cwX T q (cA ω 0 k x).1
def CPR (own : String) (k idx : Nat) : Prop := CF own k idx ∧ (TX0 k).2.2.2 = false ∧ tyX0 k = .object "BakedBefore$Kiln" ∧ ∀ (T : xT) (q : Nat → Nat) (ω : CS) (r : Option Nat), (cwX T q ω.1).set 0 (q 0, .inr (0, (cwF q ω.1).set k (va_rf r))) = cwX T q (cR ω 0 k r).1
theorem cw_nar {E : String} (r : Option Nat) : narrow (.object E) (va_rf r) = va_rf r ∧ fits (.object E) (va_rf r) = true := by
  cases r <;> exact ⟨rfl, rfl⟩
theorem cw_pos {T : xT} {q : Nat → Nat} {ω : CS} {a : Nat} (h : a ∈ ω.2.1) : ∃ k : Nat, (cw T q ω)[k]? = some (a, ω.2.2 a) := va_pl_get h
section KCR
variable {D : va_G} {T : xT} {Γ : xE} {cc : ByteArray} {own : String} {nL lev mc ms : Nat} {ret : Option FieldType} {cells slots pc : Nat} {lv : List (Nat × Value)} {st : List Value} {q : Nat → Nat} {ω : CS}
theorem kc_this (G : xG D T Γ cc own nL ret lev mc ms) {k idx : Nat} (f : CF own k idx) {v : Value} (d : decode cc pc = .ok (.getfield idx, 3)) (hv : (cwF q ω.1)[k]? = some v) (kk : K D Γ cells slots (pc + 3) lv (v :: st) (cw T q ω)) : K D Γ cells slots pc lv (.ref (q 0) :: st) (cw T q ω) :=
  k_get G ci_X0 (cw_at (p := 0) rfl) f.1 f.2.1 (by rw [f.2.2]; exact fun _ h => h) hv d kk
theorem kc_put (G : xG D T Γ cc own nL ret lev mc ms) {k idx : Nat} (f : CP own k idx) {x : Int32} (d : decode cc pc = .ok (.putfield idx, 3)) (kk : K D Γ cells slots (pc + 3) lv st (cw T q (cA ω 0 k x))) : K D Γ cells slots pc lv (.int x :: .ref (q 0) :: st) (cw T q ω) :=
  k_put G ci_X0 (cw_at (p := 0) rfl) f.1.1 f.1.2.1 (by rw [f.1.2.2]; exact fun _ h => h) f.2.1 (by rw [f.2.2.1]; rfl) (by rw [f.2.2.1]; rfl) f.1.1 d (fun _ _ _ => by rw [cwSt (p := 0) rfl (f.2.2.2 T q ω x)]; exact kk)
theorem kc_putR (G : xG D T Γ cc own nL ret lev mc ms) {k idx : Nat} (f : CPR own k idx) {r : Option Nat} (d : decode cc pc = .ok (.putfield idx, 3)) (kk : K D Γ cells slots (pc + 3) lv st (cw T q (cR ω 0 k r))) : K D Γ cells slots pc lv (va_rf r :: .ref (q 0) :: st) (cw T q ω) :=
  k_put G ci_X0 (cw_at (p := 0) rfl) f.1.1 f.1.2.1 (by rw [f.1.2.2]; exact fun _ h => h) f.2.1 (by rw [f.2.2.1]; exact (cw_nar r).1) (by rw [f.2.2.1]; exact (cw_nar r).2) f.1.1 d (fun _ _ _ => by rw [cwSt (p := 0) rfl (f.2.2.2 T q ω r)]; exact kk)
theorem kc_held (G : xG D T Γ cc own nL ret lev mc ms) {idx t : Nat} (ht : t < 10) (f : xFl own idx RX1 TX1 0) (d : decode cc pc = .ok (.getfield idx, 3)) (kk : K D Γ cells slots (pc + 3) lv (.ref (q (5 + 2 * t)) :: st) (cw T q ω)) : K D Γ cells slots pc lv (.ref (q (4 + 2 * t)) :: st) (cw T q ω) :=
  k_get G ci_X1 (cw_at (cT_at ht T q ω.1)) (by decide) f (fun _ h => h) rfl d kk
theorem kc_hour (G : xG D T Γ cc own nL ret lev mc ms) {idx t : Nat} (ht : t < 10) (f : xFl own idx RX1 TX1 1) (d : decode cc pc = .ok (.getfield idx, 3)) (kk : K D Γ cells slots (pc + 3) lv (.int (ω.1.1 (4 + 2 * t) 1) :: st) (cw T q ω)) : K D Γ cells slots pc lv (.ref (q (4 + 2 * t)) :: st) (cw T q ω) :=
  k_get G ci_X1 (cw_at (cT_at ht T q ω.1)) (by decide) f (fun _ h => h) rfl d kk
theorem kc_putHour (G : xG D T Γ cc own nL ret lev mc ms) {idx t : Nat} {x : Int32} (ht : t < 10) (f : xFl own idx RX1 TX1 1) (d : decode cc pc = .ok (.putfield idx, 3)) (kk : K D Γ cells slots (pc + 3) lv st (cw T q (cA ω (4 + 2 * t) 1 x))) : K D Γ cells slots pc lv (.int x :: .ref (q (4 + 2 * t)) :: st) (cw T q ω) :=
  k_put G ci_X1 (cw_at (cT_at ht T q ω.1)) (by decide) f (fun _ h => h) rfl rfl rfl (show 1 < 2 by decide) d (fun _ _ _ => by
    have e := cwSt (cT_at ht T q ω.1) (cT_set ht T q ω x)
    show K D Γ cells slots (pc + 3) lv st ((cw T q ω).set (4 + 2 * t) (q (4 + 2 * t), .inr (1, [.ref (q (5 + 2 * t)), .int x])))
    rw [e]; exact kk)
theorem kc_look (G : xG D T Γ cc own nL ret lev mc ms) {idx k : Nat} (hk : k < 6) (f : xFl own idx RX3 TX3 k) (hd : (TX3 k).1 = RX3) (d : decode cc pc = .ok (.getfield idx, 3)) (kk : K D Γ cells slots (pc + 3) lv (.int (ω.1.1 25 k) :: st) (cw T q ω)) : K D Γ cells slots pc lv (.ref (q 25) :: st) (cw T q ω) := by
  refine k_get G ci_X3 (cw_at (p := 25) rfl) hk f (by rw [hd]; exact fun _ h => h) ?_ d kk
  match k, hk with
  | 0, _ => rfl
  | 1, _ => rfl
  | 2, _ => rfl
  | 3, _ => rfl
  | 4, _ => rfl
  | 5, _ => rfl
def CL (k : Nat) : Prop := k < 6 ∧ (TX3 k).1 = RX3 ∧ (TX3 k).2.2.2 = false ∧ tyX3 k = .int ∧ ∀ (T : xT) (q : Nat → Nat) (ω : CS) (x : Int32), (cwX T q ω.1).set 25 (q 25, .inr (3, ([.int (ω.1.1 25 0), .int (ω.1.1 25 1), .int (ω.1.1 25 2), .int (ω.1.1 25 3), .int (ω.1.1 25 4), .int (ω.1.1 25 5)] : List Value).set k (.int x))) = cwX T q (cA ω 25 k x).1
theorem cl_0 : CL 0 := ⟨by decide, rfl, rfl, rfl, fun _ _ _ _ => rfl⟩
theorem cl_1 : CL 1 := ⟨by decide, rfl, rfl, rfl, fun _ _ _ _ => rfl⟩
theorem cl_2 : CL 2 := ⟨by decide, rfl, rfl, rfl, fun _ _ _ _ => rfl⟩
theorem cl_3 : CL 3 := ⟨by decide, rfl, rfl, rfl, fun _ _ _ _ => rfl⟩
theorem cl_4 : CL 4 := ⟨by decide, rfl, rfl, rfl, fun _ _ _ _ => rfl⟩
theorem cl_5 : CL 5 := ⟨by decide, rfl, rfl, rfl, fun _ _ _ _ => rfl⟩
theorem kc_putLook (G : xG D T Γ cc own nL ret lev mc ms) {idx k : Nat} {x : Int32} (c : CL k) (f : xFl own idx RX3 TX3 k) (d : decode cc pc = .ok (.putfield idx, 3)) (kk : K D Γ cells slots (pc + 3) lv st (cw T q (cA ω 25 k x))) : K D Γ cells slots pc lv (.int x :: .ref (q 25) :: st) (cw T q ω) :=
  k_put G ci_X3 (cw_at (p := 25) rfl) c.1 f (by rw [c.2.1]; exact fun _ h => h) c.2.2.1 (by rw [c.2.2.2.1]; rfl) (by rw [c.2.2.2.1]; rfl) c.1 d (fun _ _ _ => by rw [cwSt (p := 25) rfl (c.2.2.2.2 T q ω x)]; exact kk)
theorem kc_bodies (G : xG D T Γ cc own nL ret lev mc ms) {idx : Nat} (f : xFl own idx RX4 TX4 0) (d : decode cc pc = .ok (.getfield idx, 3)) (kk : K D Γ cells slots (pc + 3) lv (.ref (q 27) :: st) (cw T q ω)) : K D Γ cells slots pc lv (.ref (q 26) :: st) (cw T q ω) :=
  k_get G ci_X4 (cw_at (p := 26) rfl) (by decide) f (fun _ h => h) rfl d kk
theorem kc_count (G : xG D T Γ cc own nL ret lev mc ms) {idx : Nat} (f : xFl own idx RX4 TX4 1) (d : decode cc pc = .ok (.getfield idx, 3)) (kk : K D Γ cells slots (pc + 3) lv (.int (ω.1.1 26 1) :: st) (cw T q ω)) : K D Γ cells slots pc lv (.ref (q 26) :: st) (cw T q ω) :=
  k_get G ci_X4 (cw_at (p := 26) rfl) (by decide) f (fun _ h => h) rfl d kk
theorem kc_putCount (G : xG D T Γ cc own nL ret lev mc ms) {idx : Nat} {x : Int32} (f : xFl own idx RX4 TX4 1) (d : decode cc pc = .ok (.putfield idx, 3)) (kk : K D Γ cells slots (pc + 3) lv st (cw T q (cA ω 26 1 x))) : K D Γ cells slots pc lv (.int x :: .ref (q 26) :: st) (cw T q ω) :=
  k_put G ci_X4 (cw_at (p := 26) rfl) (by decide) f (fun _ h => h) rfl rfl rfl (show 1 < 2 by decide) d (fun _ _ _ => by
    have e := cwSt (T := T) (q := q) (ω := ω) (p := 26) rfl (show (cwX T q ω.1).set 26 (q 26, .inr (4, [.ref (q 27), .int x])) = cwX T q (cA ω 26 1 x).1 from rfl)
    show K D Γ cells slots (pc + 3) lv st ((cw T q ω).set 26 (q 26, .inr (4, [.ref (q 27), .int x])))
    rw [e]; exact kk)
theorem kc_row (G : xG D T Γ cc own nL ret lev mc ms) {idx i : Nat} (hi : i < 6) (f : xFl own idx RX5 TX5 0) (d : decode cc pc = .ok (.getfield idx, 3)) (kk : K D Γ cells slots (pc + 3) lv (va_rf (ω.1.2 (31 + i) 0) :: st) (cw T q ω)) : K D Γ cells slots pc lv (.ref (q (31 + i)) :: st) (cw T q ω) :=
  k_get G ci_X5 (cw_at (cB_at hi T q ω.1)) (by decide) f (fun _ h => h) rfl d kk
theorem kc_putRow (G : xG D T Γ cc own nL ret lev mc ms) {idx i : Nat} {r : Option Nat} (hi : i < 6) (f : xFl own idx RX5 TX5 0) (d : decode cc pc = .ok (.putfield idx, 3)) (kk : K D Γ cells slots (pc + 3) lv st (cw T q (cR ω (31 + i) 0 r))) : K D Γ cells slots pc lv (va_rf r :: .ref (q (31 + i)) :: st) (cw T q ω) :=
  k_put G ci_X5 (cw_at (cB_at hi T q ω.1)) (by decide) f (fun _ h => h) rfl (cw_nar r).1 (cw_nar r).2 (show 0 < 1 by decide) d (fun _ _ _ => by
    have e := cwSt (cB_at hi T q ω.1) (cB_set hi T q ω r)
    show K D Γ cells slots (pc + 3) lv st ((cw T q ω).set (31 + i) (q (31 + i), .inr (5, [va_rf r])))
    rw [e]; exact kk)
theorem kc_iald (G : xG D T Γ cc own nL ret lev mc ms) {c n : Nat} (hc : cI c n 0) {i : Int32} (d : decode cc pc = .ok (.iaload, 1)) (hin : vp_in i n) (kk : K D Γ cells slots (pc + 1) lv (.int (ω.1.1 c i.toNatClampNeg) :: st) (cw T q ω)) : K D Γ cells slots pc lv (.int i :: .ref (q c) :: st) (cw T q ω) := fun H locs ls hP hD hS hl => va_iald G.1 G.2.1 G.2.2.2.2.2.2.2.2.1.1 hP c 0 (cw_at (hc.1 T q ω.1)) rfl hin d (kk H locs ls hP hD hS hl)
theorem kc_bald (G : xG D T Γ cc own nL ret lev mc ms) {c n : Nat} (hc : cI c n 2) {i : Int32} (d : decode cc pc = .ok (.baload, 1)) (hin : vp_in i n) (kk : K D Γ cells slots (pc + 1) lv (.int (ω.1.1 c i.toNatClampNeg) :: st) (cw T q ω)) : K D Γ cells slots pc lv (.int i :: .ref (q c) :: st) (cw T q ω) := fun H locs ls hP hD hS hl => va_bald G.1 G.2.1 G.2.2.2.2.2.2.2.2.1.1 hP c 2 (cw_at (hc.1 T q ω.1)) rfl hin d (kk H locs ls hP hD hS hl)
theorem kc_zald (G : xG D T Γ cc own nL ret lev mc ms) {c n : Nat} (hc : cI c n 4) {i : Int32} (d : decode cc pc = .ok (.baload, 1)) (hin : vp_in i n) (kk : K D Γ cells slots (pc + 1) lv (.int (ω.1.1 c i.toNatClampNeg) :: st) (cw T q ω)) : K D Γ cells slots pc lv (.int i :: .ref (q c) :: st) (cw T q ω) := fun H locs ls hP hD hS hl => va_zald G.1 G.2.1 G.2.2.2.2.2.2.2.2.1.1 hP c 4 (cw_at (hc.1 T q ω.1)) rfl hin d (kk H locs ls hP hD hS hl)
theorem kc_iast (G : xG D T Γ cc own nL ret lev mc ms) {c n : Nat} (hc : cI c n 0) {i x : Int32} (d : decode cc pc = .ok (.iastore, 1)) (hin : vp_in i n) (kk : K D Γ cells slots (pc + 1) lv st (cw T q (cA ω c i.toNatClampNeg x))) : K D Γ cells slots pc lv (.int x :: .int i :: .ref (q c) :: st) (cw T q ω) := fun H locs ls hP hD hS hl => va_iast G.1 G.2.1 G.2.2.2.2.2.2.2.2.1.1 hP hD hS c 0 (cw_at (hc.1 T q ω.1)) rfl hin d (fun H1 locs1 hP1 hD1 hS1 => by
  rw [cwSt (hc.1 T q ω.1) (hc.2 T q ω _)] at hP1 hD1
  exact kk H1 locs1 ls hP1 hD1 hS1 hl)
theorem kc_bast (G : xG D T Γ cc own nL ret lev mc ms) {c n : Nat} (hc : cI c n 2) {i x : Int32} (d : decode cc pc = .ok (.bastore, 1)) (hin : vp_in i n) (kk : K D Γ cells slots (pc + 1) lv st (cw T q (cA ω c i.toNatClampNeg (vp_nar .byte x)))) : K D Γ cells slots pc lv (.int x :: .int i :: .ref (q c) :: st) (cw T q ω) := fun H locs ls hP hD hS hl => va_bast G.1 G.2.1 G.2.2.2.2.2.2.2.2.1.1 hP hD hS c 2 (cw_at (hc.1 T q ω.1)) rfl hin d (fun H1 locs1 hP1 hD1 hS1 => by
  rw [cwSt (hc.1 T q ω.1) (hc.2 T q ω _)] at hP1 hD1
  exact kk H1 locs1 ls hP1 hD1 hS1 hl)
theorem kc_zast (G : xG D T Γ cc own nL ret lev mc ms) {c n : Nat} (hc : cI c n 4) {i x : Int32} (d : decode cc pc = .ok (.bastore, 1)) (hin : vp_in i n) (kk : K D Γ cells slots (pc + 1) lv st (cw T q (cA ω c i.toNatClampNeg (vp_nar .boolean x)))) : K D Γ cells slots pc lv (.int x :: .int i :: .ref (q c) :: st) (cw T q ω) := fun H locs ls hP hD hS hl => va_zast G.1 G.2.1 G.2.2.2.2.2.2.2.2.1.1 hP hD hS c 4 (cw_at (hc.1 T q ω.1)) rfl hin d (fun H1 locs1 hP1 hD1 hS1 => by
  rw [cwSt (hc.1 T q ω.1) (hc.2 T q ω _)] at hP1 hD1
  exact kk H1 locs1 ls hP1 hD1 hS1 hl)
theorem kc_aaldL (G : xG D T Γ cc own nL ret lev mc ms) {c n a : Nat} (hc : cJ c n) {i : Int32} (d : decode cc pc = .ok (.aaload, 1)) (hin : vp_in i n) (ha : ω.1.2 c i.toNatClampNeg = some a) (kk : K D Γ cells slots (pc + 1) lv (.ref a :: st) (cw T q ω)) : K D Γ cells slots pc lv (.int i :: .ref (q c) :: st) (cw T q ω) := fun H locs ls hP hD hS hl => va_aldq G.1 G.2.1 G.2.2.2.2.2.2.2.2.1.1 hP c 5 (cw_at (hc.1 T q ω.1)) rfl hin d (by rw [ha]; exact kk H locs ls hP hD hS hl)
theorem kc_aaldM (G : xG D T Γ cc own nL ret lev mc ms) {i : Int32} (d : decode cc pc = .ok (.aaload, 1)) (hin : vp_in i 7) (kk : K D Γ cells slots (pc + 1) lv (.ref (q (4 + 2 * (2 + i.toNatClampNeg))) :: st) (cw T q ω)) : K D Γ cells slots pc lv (.int i :: .ref (q 39) :: st) (cw T q ω) := fun H locs ls hP hD hS hl => va_aldq (f := fun i => some (q (8 + 2 * i))) (n := 7) G.1 G.2.1 G.2.2.2.2.2.2.2.2.1.1 hP 39 7 (cw_at (p := 39) rfl) rfl hin d (by
  have e : 8 + 2 * i.toNatClampNeg = 4 + 2 * (2 + i.toNatClampNeg) := by omega
  show xw Γ H locs cells slots (F0 Γ.2.1.2.1 (pc + 1) ls (.ref (q (8 + 2 * i.toNatClampNeg)) :: st))
  rw [e]
  exact kk H locs ls hP hD hS hl)
theorem kc_aaldB (G : xG D T Γ cc own nL ret lev mc ms) {i : Int32} (d : decode cc pc = .ok (.aaload, 1)) (hin : vp_in i 6) (kk : K D Γ cells slots (pc + 1) lv (.ref (q (31 + i.toNatClampNeg)) :: st) (cw T q ω)) : K D Γ cells slots pc lv (.int i :: .ref (q 30) :: st) (cw T q ω) := fun H locs ls hP hD hS hl => va_aldq (f := fun i => some (q (31 + i))) (n := 6) G.1 G.2.1 G.2.2.2.2.2.2.2.2.1.1 hP 30 6 (cw_at (p := 30) rfl) rfl hin d (kk H locs ls hP hD hS hl)
theorem cw_asg (G : xG D T Γ cc own nL ret lev mc ms) {kd : Nat} (hk : kd ≤ 6) {C : String} {TT : u_T} {N : Nat} (hc : xcl[7 + kd]? = some (C, TT, N)) : ∀ comp c0 : ClassId, Γ.2.1.1.vm.findClass "BakedBefore$Loaf" = some comp → Γ.2.1.1.vm.findClass C = some c0 → Γ.2.1.1.vm.assignable c0 comp = true := by
  intro comp c0 h1 h2
  have key : ∀ C', (C', "BakedBefore$Loaf") ∈ xcast → ∀ c0 : ClassId, Γ.2.1.1.vm.findClass C' = some c0 → Γ.2.1.1.vm.assignable c0 comp = true := by
    intro C' hC c0 h2
    obtain ⟨c1, c2, e1, e2, e3⟩ := Cond.castable_spec (G.2.2.2.2.2.2.2.2.1.2.1.1 _ hC)
    cases h1.symm.trans e2
    cases h2.symm.trans e1
    exact e3
  match kd, hk, hc with
  | 0, _, hc =>
    cases hc
    cases h1.symm.trans h2
    exact va_asg _ _
  | 1, _, hc => cases hc; exact key _ (by decide) c0 h2
  | 2, _, hc => cases hc; exact key _ (by decide) c0 h2
  | 3, _, hc => cases hc; exact key _ (by decide) c0 h2
  | 4, _, hc => cases hc; exact key _ (by decide) c0 h2
  | 5, _, hc => cases hc; exact key _ (by decide) c0 h2
  | 6, _, hc => cases hc; exact key _ (by decide) c0 h2
theorem cw_any (G : xG D T Γ cc own nL ret lev mc ms) {H : Heap} (hP : va_P D xcl (cw T q ω) H) {a kd : Nat} {n v : Int32} (h : lofR q ω a kd n v) : va_Any "BakedBefore$Loaf" Γ.2.1.1 H a := by
  obtain ⟨hk, ha, hg⟩ := h
  obtain ⟨p, hp⟩ := cw_pos (T := T) (q := q) ha
  rw [hg] at hp
  obtain ⟨r, hr, -⟩ := hP p _ hp
  exact va_rAny G.2.2.2.2.2.2.2.2.1.1 hP hp hr (cw_asg G hk hr)
theorem kc_aastL (G : xG D T Γ cc own nL ret lev mc ms) {c n a kd : Nat} {ln lvv : Int32} (hc : cJ c n) {i : Int32} (hl0 : lofR q ω a kd ln lvv) (d : decode cc pc = .ok (.aastore, 1)) (hin : vp_in i n) (kk : K D Γ cells slots (pc + 1) lv st (cw T q (cR ω c i.toNatClampNeg (some a)))) : K D Γ cells slots pc lv (.ref a :: .int i :: .ref (q c) :: st) (cw T q ω) := fun H locs ls hP hD hS hl => va_astqM G.1 G.2.1 G.2.2.2.2.2.2.2.2.1.1 hP hD hS c 5 (cw_at (hc.1 T q ω.1)) rfl (cw_any G hP hl0) hin d (fun H1 locs1 hP1 hD1 hS1 => by
  rw [cwSt (hc.1 T q ω.1) (hc.2 T q ω _)] at hP1 hD1
  exact kk H1 locs1 ls hP1 hD1 hS1 hl)
theorem x_loc {lev n : Nat} (h : n + 20 ≤ 64 * lev) (hn : (st.map fun v => v.category).sum ≤ n) : (st.map fun v => v.category).sum + (nativeFrameWords "java/lang/System" "arraycopy" 5 + 11) ≤ 64 * lev := by
  have e : nativeFrameWords "java/lang/System" "arraycopy" 5 ≤ 9 := by decide +kernel
  omega
theorem kc_copyI (G : xG D T Γ cc own nL ret lev mc ms) {idx c1 n1 c2 n2 t : Nat} {ty : FieldType} (h1 : cI c1 n1 t) (h2 : cI c2 n2 t) (ht : (xtys T.1)[t]? = some (T.1 t, ty)) (hp : refKind ty = false) {sp dp n : Int32} (hlink : Cond.methodLink own idx arraycopyName ∈ lw_all) (d : decode cc pc = .ok (.invokestatic idx, 3)) (hb : ¬ sp < 0 ∧ ¬ dp < 0 ∧ ¬ n < 0 ∧ sp.toNatClampNeg + n.toNatClampNeg ≤ n1 ∧ dp.toNatClampNeg + n.toNatClampNeg ≤ n2) (hfit : ∀ i, i < n.toNatClampNeg → fits ty (.int (ω.1.1 c1 (sp.toNatClampNeg + i))) = true) (hcat : (st.map fun v => v.category).sum ≤ 8) (hlev : 1 ≤ lev) (kk : K D Γ cells slots (pc + 3) lv st (cw T q (cC ω c2 (va_cpy (ω.1.1 c1) (ω.1.1 c2) sp.toNatClampNeg dp.toNatClampNeg n.toNatClampNeg)))) : K D Γ cells slots pc lv (.int n :: .int dp :: .ref (q c2) :: .int sp :: .ref (q c1) :: st) (cw T q ω) := by
  intro H locs ls hP hD hS hl
  have hR : Γ.1.2.2.2 = xrm lev mc ms := G.2.2.2.2.2.2.2.2.2
  have w := G.2.2.2.2.2.2.1
  exact va_copyi G.1 G.2.1 hl.1.symm G.2.2.2.2.2.1 (w _ hlink) (w _ q976) (w _ q975) (w _ q122) G.2.2.2.2.2.2.2.2.1.1 hP hD hS c1 c2 t t (cw_at (h1.1 T q ω.1)) (cw_at (h2.1 T q ω.1)) ht ht hp hb.1 hb.2.1 hb.2.2.1 hb.2.2.2.1 hb.2.2.2.2 hfit (by rw [hR]; exact hlev) (by rw [hR]; exact x_loc (n := 8) (by show 8 + 20 ≤ 64 * lev; omega) hcat) d (fun H1 locs1 hP1 hD1 hS1 => by
    rw [cwSt (h2.1 T q ω.1) (h2.2 T q ω _)] at hP1 hD1
    exact kk H1 locs1 ls hP1 hD1 hS1 hl)
theorem kc_copyL (G : xG D T Γ cc own nL ret lev mc ms) {idx c1 n1 c2 n2 : Nat} (h1 : cJ c1 n1) (h2 : cJ c2 n2) {sp dp n : Int32} (hlink : Cond.methodLink own idx arraycopyName ∈ lw_all) (d : decode cc pc = .ok (.invokestatic idx, 3)) (hb : ¬ sp < 0 ∧ ¬ dp < 0 ∧ ¬ n < 0 ∧ sp.toNatClampNeg + n.toNatClampNeg ≤ n1 ∧ dp.toNatClampNeg + n.toNatClampNeg ≤ n2) (hel : ∀ i : Nat, i < n.toNatClampNeg → ∀ a : Nat, ω.1.2 c1 (sp.toNatClampNeg + i) = some a → ∃ kd ln lvv, lofR q ω a kd ln lvv) (hcat : (st.map fun v => v.category).sum ≤ 8) (hlev : 1 ≤ lev) (kk : K D Γ cells slots (pc + 3) lv st (cw T q (cQ ω c2 (va_cpy (ω.1.2 c1) (ω.1.2 c2) sp.toNatClampNeg dp.toNatClampNeg n.toNatClampNeg)))) : K D Γ cells slots pc lv (.int n :: .int dp :: .ref (q c2) :: .int sp :: .ref (q c1) :: st) (cw T q ω) := by
  intro H locs ls hP hD hS hl
  have hR : Γ.1.2.2.2 = xrm lev mc ms := G.2.2.2.2.2.2.2.2.2
  have w := G.2.2.2.2.2.2.1
  exact va_copyM G.1 G.2.1 hl.1.symm G.2.2.2.2.2.1 (w _ hlink) (w _ q976) (w _ q975) (w _ q122) G.2.2.2.2.2.2.2.2.1.1 hP hD hS c1 c2 5 5 (cw_at (h1.1 T q ω.1)) (cw_at (h2.1 T q ω.1)) rfl rfl hb.1 hb.2.1 hb.2.2.1 hb.2.2.2.1 hb.2.2.2.2 (fun i hi a ha => by
    obtain ⟨kd, ln, lvv, h⟩ := hel i hi a ha
    exact cw_any G hP h) (by rw [hR]; exact hlev) (by rw [hR]; exact x_loc (n := 8) (by show 8 + 20 ≤ 64 * lev; omega) hcat) d (fun H1 locs1 hP1 hD1 hS1 => by
    rw [cwSt (h2.1 T q ω.1) (h2.2 T q ω _)] at hP1 hD1
    exact kk H1 locs1 ls hP1 hD1 hS1 hl)
theorem kx_min (G : xG D T Γ cc own nL ret lev mc ms) {idx : Nat} {x y : Int32} {ws : va_W} (hlink : Cond.methodLink own idx ⟨"java/lang/Math", "min", "(II)I"⟩ ∈ lw_all) (d : decode cc pc = .ok (.invokestatic idx, 3)) (hcat : (st.map fun v => v.category).sum ≤ 8) (hlev : 1 ≤ lev) (hroom : cells ≤ mc ∧ slots ≤ ms) (kk : K D Γ cells slots (pc + 3) lv (.int (imin x y) :: st) ws) : K D Γ cells slots pc lv (.int y :: .int x :: st) ws := by
  intro H locs ls hP hD hS hl
  have hR : Γ.1.2.2.2 = xrm lev mc ms := G.2.2.2.2.2.2.2.2.2
  have w := G.2.2.2.2.2.2.1
  exact va_mmin G.1 G.2.1 hl.1.symm G.2.2.2.2.2.1 (w _ hlink) (w _ q601) (w _ q106) (w _ q602) (by rw [hR]; exact hlev) (by rw [hR]; show (st.map fun v => v.category).sum + 13 ≤ 64 * lev; omega) (by rw [hR]; exact hroom.1) (by rw [hR]; exact hroom.2) d (kk H locs ls hP hD hS hl)
theorem kx_max (G : xG D T Γ cc own nL ret lev mc ms) {idx : Nat} {x y : Int32} {ws : va_W} (hlink : Cond.methodLink own idx ⟨"java/lang/Math", "max", "(II)I"⟩ ∈ lw_all) (d : decode cc pc = .ok (.invokestatic idx, 3)) (hcat : (st.map fun v => v.category).sum ≤ 8) (hlev : 1 ≤ lev) (hroom : cells ≤ mc ∧ slots ≤ ms) (kk : K D Γ cells slots (pc + 3) lv (.int (imax x y) :: st) ws) : K D Γ cells slots pc lv (.int y :: .int x :: st) ws := by
  intro H locs ls hP hD hS hl
  have hR : Γ.1.2.2.2 = xrm lev mc ms := G.2.2.2.2.2.2.2.2.2
  have w := G.2.2.2.2.2.2.1
  exact va_mmax G.1 G.2.1 hl.1.symm G.2.2.2.2.2.1 (w _ hlink) (w _ q614) (w _ q106) (w _ q615) (by rw [hR]; exact hlev) (by rw [hR]; show (st.map fun v => v.category).sum + 13 ≤ 64 * lev; omega) (by rw [hR]; exact hroom.1) (by rw [hR]; exact hroom.2) d (kk H locs ls hP hD hS hl)
theorem k_rnonnull (G : xG D T Γ cc own nL ret lev mc ms) {r : Option Nat} {off : Int} {ws : va_W} (tgt : Nat) (d : decode cc pc = .ok (.ifnonnull off, 3)) (ht : (pc : Int) + off = (tgt : Int)) (kn : r = none → K D Γ cells slots (pc + 3) lv st ws) (ks : ∀ a : Nat, r = some a → K D Γ cells slots tgt lv st ws) : K D Γ cells slots pc lv (va_rf r :: st) ws := by
  cases r with
  | none => exact k_ifnonnullN G d (kn rfl)
  | some a => exact k_ifnonnull G tgt d ht (ks a rfl)
theorem k_rnull (G : xG D T Γ cc own nL ret lev mc ms) {r : Option Nat} {off : Int} {ws : va_W} (tgt : Nat) (d : decode cc pc = .ok (.ifnull off, 3)) (ht : (pc : Int) + off = (tgt : Int)) (kn : r = none → K D Γ cells slots tgt lv st ws) (ks : ∀ a : Nat, r = some a → K D Γ cells slots (pc + 3) lv st ws) : K D Γ cells slots pc lv (va_rf r :: st) ws := by
  cases r with
  | none => exact k_ifnullN G tgt d ht (kn rfl)
  | some a => exact k_ifnull G d (ks a rfl)
theorem cI_or {c : Nat} (h : c = 2 ∨ c = 3) : cI c 24 0 := by
  rcases h with rfl | rfl
  · exact cI_2
  · exact cI_3
end KCR
/-- the component's contracts -/
def cpostI (T : xT) (q : Nat → Nat) (k : Int32 → CS → Prop) : Option Value → va_W → Prop := fun v w => ∃ (r : Int32) (ω : CS), v = some (.int r) ∧ w = cw T q ω ∧ k r ω
def cpostL (T : xT) (q : Nat → Nat) (k : Int64 → CS → Prop) : Option Value → va_W → Prop := fun v w => ∃ (r : Int64) (ω : CS), v = some (.long r) ∧ w = cw T q ω ∧ k r ω
def cpostV (T : xT) (q : Nat → Nat) (k : CS → Prop) : Option Value → va_W → Prop := fun v w => ∃ ω : CS, v = none ∧ w = cw T q ω ∧ k ω
section KCC
variable {D : va_G} {T : xT} {Γ : xE} {cc : ByteArray} {own : String} {nL lev mc ms : Nat} {ret : Option FieldType} {cells slots pc : Nat} {lv : List (Nat × Value)} {st : List Value} {ws : va_W} {q : Nat → Nat} {σ : CS}
theorem kc_recv (T : xT) (q : Nat → Nat) (σ : CS) : ∃ (q0 ci : Nat) (fs : List Value) (TT : u_T) (N : Nat), (cw T q σ)[q0]? = some (q 0, .inr (ci, fs)) ∧ xcl[ci]? = some (RX0, TT, N) := ⟨0, 0, _, TX0, 31, cw_at (p := 0) rfl, rfl⟩
theorem kc_callI (G : xG D T Γ cc own nL ret lev mc ms) {y : MethodName} {code' : ByteArray} {nL' lev' n idx mcc msc : Nat} {ret' : Option FieldType} {As rest : List Value} {k : Int32 → CS → Prop} (hM : XM Γ.1.2.1 D T y code' nL' ret' lev' mcc msc (.ref (q 0) :: As) (cw T q σ) (cpostI T q k)) (f : xV y RX0 code' nL' ret' n) (hlink : Cond.methodLink own idx y ∈ lw_all) (d : decode cc pc = .ok (.invokevirtual idx, 3)) (hn : As.length = n) (hst : st = As.reverse ++ .ref (q 0) :: rest) (hcat : (rest.map fun v => v.category).sum ≤ 8) (hlev : lev' + 1 ≤ lev) (hroom : cells + mcc ≤ mc ∧ slots + msc ≤ ms)
    (kk : ∀ (r : Int32) (σ1 : CS), k r σ1 → K D Γ (cells + mcc) (slots + msc) (pc + 3) lv (.int r :: rest) (cw T q σ1)) : K D Γ cells slots pc lv st (cw T q σ) :=
  k_callVw G hM f hlink hn hst hcat hlev hroom (kc_recv T q σ) d (fun v w hp => by
    obtain ⟨r, σ1, rfl, rfl, h⟩ := hp
    exact kk r σ1 h)
theorem kc_callL (G : xG D T Γ cc own nL ret lev mc ms) {y : MethodName} {code' : ByteArray} {nL' lev' n idx mcc msc : Nat} {ret' : Option FieldType} {As rest : List Value} {k : Int64 → CS → Prop} (hM : XM Γ.1.2.1 D T y code' nL' ret' lev' mcc msc (.ref (q 0) :: As) (cw T q σ) (cpostL T q k)) (f : xV y RX0 code' nL' ret' n) (hlink : Cond.methodLink own idx y ∈ lw_all) (d : decode cc pc = .ok (.invokevirtual idx, 3)) (hn : As.length = n) (hst : st = As.reverse ++ .ref (q 0) :: rest) (hcat : (rest.map fun v => v.category).sum ≤ 8) (hlev : lev' + 1 ≤ lev) (hroom : cells + mcc ≤ mc ∧ slots + msc ≤ ms)
    (kk : ∀ (r : Int64) (σ1 : CS), k r σ1 → K D Γ (cells + mcc) (slots + msc) (pc + 3) lv (.long r :: rest) (cw T q σ1)) : K D Γ cells slots pc lv st (cw T q σ) :=
  k_callVw G hM f hlink hn hst hcat hlev hroom (kc_recv T q σ) d (fun v w hp => by
    obtain ⟨r, σ1, rfl, rfl, h⟩ := hp
    exact kk r σ1 h)
theorem kc_callV (G : xG D T Γ cc own nL ret lev mc ms) {y : MethodName} {code' : ByteArray} {nL' lev' n idx mcc msc : Nat} {ret' : Option FieldType} {As rest : List Value} {k : CS → Prop} (hM : XM Γ.1.2.1 D T y code' nL' ret' lev' mcc msc (.ref (q 0) :: As) (cw T q σ) (cpostV T q k)) (f : xV y RX0 code' nL' ret' n) (hlink : Cond.methodLink own idx y ∈ lw_all) (d : decode cc pc = .ok (.invokevirtual idx, 3)) (hn : As.length = n) (hst : st = As.reverse ++ .ref (q 0) :: rest) (hcat : (rest.map fun v => v.category).sum ≤ 8) (hlev : lev' + 1 ≤ lev) (hroom : cells + mcc ≤ mc ∧ slots + msc ≤ ms)
    (kk : ∀ (σ1 : CS), k σ1 → K D Γ (cells + mcc) (slots + msc) (pc + 3) lv rest (cw T q σ1)) : K D Γ cells slots pc lv st (cw T q σ) :=
  k_callVw G hM f hlink hn hst hcat hlev hroom (kc_recv T q σ) d (fun v w hp => by
    obtain ⟨σ1, rfl, rfl, h⟩ := hp
    exact kk σ1 h)
theorem kc_nmW (k : ∀ ω' : CS, ω' = σ → K D Γ cells slots pc lv st (cw T q ω')) : K D Γ cells slots pc lv st (cw T q σ) := k σ rfl
end KCC
