/-! THE K LAYER's other half: what is thrown -/
set_option maxRecDepth 100000
/-- q, an object of class E, is thrown here -/
def KX (D : va_G) (Γ : xE) (cells slots pc : Nat) (lv : List (Nat × Value)) (rest : List Value) (ws : va_W) (E : String) (q : Nat) : Prop :=
  ∀ (H : Heap) (locs : List Loc) (ls : Array Slot) (ce : Cell), va_P D xcl ws H → va_D Γ.2.2.2.2.2 ws → va_S Γ.2.2.2.2.2 Γ.2.1.1.heap H locs → lv_has ls Γ.2.2.2.1.maxLocals lv → H[q]? = some ce → ce.vm = .none → Γ.2.1.1.vm.findClass E = some ce.cls → vx_W Γ.1.1 Γ.1.2.1 Γ.1.2.2.1 Γ.1.2.2.2 Γ.2.1.1 Γ.2.1.2.1 Γ.2.1.2.2.1 Γ.2.1.2.2.2 Γ.2.2.1 Γ.2.2.2.1 H locs cells slots Γ.2.2.2.2.1 (F0 Γ.2.1.2.1 pc ls rest) q
def xXC (D : va_G) (A : Nat → Prop) (xp : String → Nat → va_W → Prop) : String → State → State → Addr → Prop := fun E st t q => ∃ ws : va_W, xp E q ws ∧ va_P D xcl ws t.heap ∧ va_D A ws ∧ va_F A st t
/-- what the end of a method that may throw owes -/
def xXX (D : va_G) (Γ : xE) (mc ms : Nat) (post : Option Value → va_W → Prop) (xp : String → Nat → va_W → Prop) : Prop := Γ.2.2.2.2.1 = vx_MQ Γ.2.1.2.2.2 (xQ D Γ.2.2.2.2.2 post) (xXC D Γ.2.2.2.2.2 xp) Γ.2.1.2.2.1 Γ.2.1.1 mc ms Γ.2.2.2.2.2
/-- a method that returns (post) or throws (xp: class, object, world) -/
def XMX (l : Launch) (D : va_G) (T : xT) (y : MethodName) (code : ByteArray) (nL : Nat) (ret : Option FieldType) (lev mc ms : Nat) (args : List Value) (ws : va_W) (post : Option Value → va_W → Prop) (xp : String → Nat → va_W → Prop) : Prop :=
  ∀ sz : Nat, vx_Met l y (ws_ y code nL ret) (xrm lev mc ms) (xPc D T sz ws args) (xQ D (va_A ws sz) post) (xXC D (va_A ws sz) xp) mc ms (va_A ws sz)
/-- a method with handlers, out of which nothing is thrown -/
def XMW (l : Launch) (D : va_G) (T : xT) (y : MethodName) (code : ByteArray) (nL : Nat) (ret : Option FieldType) (hh : List (Nat × Nat × Nat × Nat)) (lev mc ms : Nat) (args : List Value) (ws : va_W) (post : Option Value → va_W → Prop) : Prop :=
  ∀ sz : Nat, Met l y (wsW_ y code nL ret hh) (xrm lev mc ms) (xPc D T sz ws args) (xQ D (va_A ws sz) post) mc ms (va_A ws sz)
theorem XMX.start {l : Launch} {D : va_G} {T : xT} {y : MethodName} {code : ByteArray} {nL : Nat} {ret : Option FieldType} {lev mc ms : Nat} {args : List Value} {ws : va_W} {post : Option Value → va_W → Prop} {xp : String → Nat → va_W → Prop} (hy : plainName y.cls = true) (hlen : (lg_sl args).length ≤ nL)
    (body : ∀ Γ : xE, xG D T Γ code y.cls nL ret lev mc ms → xXX D Γ mc ms post xp → (∀ x ∈ Γ.2.2.2.1.exceptionTable.toList, False) → Γ.1.2.1 = l → K D Γ 0 0 0 (lv_args 0 args) [] ws) : XMX l D T y code nL ret lev mc ms args ws post xp := by
  intro sz
  refine vx_ofW (cc := code) (maxL := nL) (ret := ret) hy rfl ?_
  intro p e s m args' below meth c s₁ B hml htab hv
  obtain ⟨rfl, hsz, hP, hE, hD0⟩ := hv
  have hts := atoms_spec (ws := ws_ y code nL ret) B.pre
  have hts : ∀ w ∈ lw_all, w.before _ s = true := fun w h => hts w (List.mem_cons_of_mem _ h)
  have hown : s.vm.findClass y.cls = some m.cls := findClass_of_methodNamed B.named
  subst hsz
  have hD := hD0.self (sz := s.heap.size)
  have hA : ∀ q : Nat, s.heap.size ≤ q → va_A ws s.heap.size q := fun q h => Or.inr h
  have hl := lv_entry args (n := nL) hlen
  rw [lg_entry_eq]
  exact body ((p, l, e, xrm lev mc ms), (s, m, args.toArray, below), (meth, c, vx_MQ below (xQ D (va_A ws s.heap.size) post) (xXC D (va_A ws s.heap.size) xp) args.toArray s mc ms (va_A ws s.heap.size), va_A ws s.heap.size))
    ⟨B.exec, B.bytes, hml, B.returns, B.notSynchronized, hown, hts, hA, hE, rfl⟩ rfl htab rfl s.heap [] _ hP hD va_S.rf (by rw [hml]; exact hl)
theorem XMW.start {l : Launch} {D : va_G} {T : xT} {y : MethodName} {code : ByteArray} {nL : Nat} {ret : Option FieldType} {hh : List (Nat × Nat × Nat × Nat)} {lev mc ms : Nat} {args : List Value} {ws : va_W} {post : Option Value → va_W → Prop} (hy : plainName y.cls = true) (hlen : (lg_sl args).length ≤ nL)
    (body : ∀ Γ : xE, xG D T Γ code y.cls nL ret lev mc ms → xX D Γ mc ms post → Γ.2.2.2.1.exceptionTable.toList = tableOf hh → Γ.1.2.1 = l → K D Γ 0 0 0 (lv_args 0 args) [] ws) : XMW l D T y code nL ret hh lev mc ms args ws post := by
  intro sz
  refine va_MetW (cc := code) (maxL := nL) (ret := ret) (hh := hh) hy rfl ?_
  intro p e s m args' below meth c s₁ B hml hv
  obtain ⟨rfl, hsz, hP, hE, hD0⟩ := hv
  have hts := atoms_spec (ws := wsW_ y code nL ret hh) B.pre
  have htab : c.exceptionTable.toList = tableOf hh := vx_table (x := y) B (hts _ List.mem_cons_self)
  have hts : ∀ w ∈ lw_all, w.before _ s = true := fun w h => hts w (List.mem_cons_of_mem _ h)
  have hown : s.vm.findClass y.cls = some m.cls := findClass_of_methodNamed B.named
  subst hsz
  have hD := hD0.self (sz := s.heap.size)
  have hA : ∀ q : Nat, s.heap.size ≤ q → va_A ws s.heap.size q := fun q h => Or.inr h
  have hl := lv_entry args (n := nL) hlen
  rw [lg_entry_eq]
  exact body ((p, l, e, xrm lev mc ms), (s, m, args.toArray, below), (meth, c, MQ below (xQ D (va_A ws s.heap.size) post) args.toArray s mc ms (va_A ws s.heap.size), va_A ws s.heap.size))
    ⟨B.exec, B.bytes, hml, B.returns, B.notSynchronized, hown, hts, hA, hE, rfl⟩ rfl htab rfl s.heap [] _ hP hD va_S.rf (by rw [hml]; exact hl)
/-- Γ, the end being a plain return's -/
def xEr (D : va_G) (Γ : xE) (mc ms : Nat) (post : Option Value → va_W → Prop) : xE := (Γ.1, Γ.2.1, (Γ.2.2.1, Γ.2.2.2.1, MQ Γ.2.1.2.2.2 (xQ D Γ.2.2.2.2.2 post) Γ.2.1.2.2.1 Γ.2.1.1 mc ms Γ.2.2.2.2.2, Γ.2.2.2.2.2))
section KXA
variable {D : va_G} {T : xT} {Γ : xE} {cc : ByteArray} {own : String} {nL lev mc ms : Nat} {ret : Option FieldType} {cells slots pc : Nat} {lv : List (Nat × Value)} {st rest : List Value} {ws : va_W} {post : Option Value → va_W → Prop} {xp : String → Nat → va_W → Prop} {E : String} {q : Nat}
theorem xEr.G (G : xG D T Γ cc own nL ret lev mc ms) : xG D T (xEr D Γ mc ms post) cc own nL ret lev mc ms := G
theorem xEr.X : xX D (xEr D Γ mc ms post) mc ms post := rfl
/-- a return of a method that may throw: from here on as in a method that may not -/
theorem kx_ret (X : xXX D Γ mc ms post xp) (k : K D (xEr D Γ mc ms post) cells slots pc lv st ws) : K D Γ cells slots pc lv st ws := by
  intro H locs ls hP hD hS hl
  unfold xw
  rw [X]
  exact vx_ret (k H locs ls hP hD hS hl)
/-- it leaves the method -/
theorem kx_out (G : xG D T Γ cc own nL ret lev mc ms) (X : xXX D Γ mc ms post xp) (htab : ∀ x ∈ Γ.2.2.2.1.exceptionTable.toList, False) (hc : cells ≤ mc) (hs : slots ≤ ms) (h : xp E q ws) : KX D Γ cells slots pc lv rest ws E q := by
  intro H locs ls ce hP hD hS hl hq hv hcl
  rw [X]
  exact vx_out (fun x hx => (htab x hx).elim) G.2.2.2.2.1 hq hv hcl (fun t ht hW => ⟨ws, h, by rw [ht]; exact hP, hD, hS.F ht⟩) hS.2.2 hc hs
/-- an object of the world is thrown -/
theorem kx_athrow (G : xG D T Γ cc own nL ret lev mc ms) {p ci N : Nat} {fs : List Value} {TT : u_T} (he : ws[p]? = some (q, .inr (ci, fs))) (hc : xcl[ci]? = some (E, TT, N)) (d : decode cc pc = .ok (.athrow, 1)) (k : KX D Γ cells slots pc lv rest ws E q) : K D Γ cells slots pc lv (.ref q :: rest) ws := by
  intro H locs ls hP hD hS hl
  obtain ⟨q', h1, cell, g1, g2, g3, -⟩ := hP p _ he
  exact vx_athrow G.1 G.2.1 d (k H locs ls cell hP hD hS hl g1 g3 (by rw [g2]; exact (G.2.2.2.2.2.2.2.2.1.1.1 ci _ hc).2.1))
/-- it is caught here -/
theorem kx_catch (G : xG D T Γ cc own nL ret lev mc ms) {name : String} (pre : List ExceptionTableEntry) (x : ExceptionTableEntry) (suf : List ExceptionTableEntry) (hsplit : Γ.2.2.2.1.exceptionTable.toList = pre ++ x :: suf) (hpass : ∀ z ∈ pre, covers z pc = false ∨ (z.catchType ≠ 0 ∧ ∃ nm : String, Cond.classLink own z.catchType nm ∈ lw_all ∧ (E, nm) ∈ xnc)) (hx : covers x pc = true) (h0 : x.catchType ≠ 0) (hlink : Cond.classLink own x.catchType name ∈ lw_all) (hcast : (E, name) ∈ xcast) {tgt : Nat} (ht : x.handlerPc = tgt) (k : K D Γ cells slots tgt lv [.ref q] ws) : KX D Γ cells slots pc lv rest ws E q := by
  intro H locs ls ce hP hD hS hl hq hv hcl
  have w := G.2.2.2.2.2.2.1
  have N := G.2.2.2.2.2.2.2.2.1.2.1
  subst ht
  exact vx_catch G.2.2.2.2.2.1 pre x suf hsplit (fun z hz => (hpass z hz).imp id (fun ⟨h1, nm, h2, h3⟩ => ⟨h1, nm, w _ h2, N.2.2.2.2.2.1 _ h3⟩)) hx h0 (w _ hlink) (va_Nw.use rfl (N.1 _ hcast)) hq hv hcl (k H locs ls hP hD hS hl)
theorem KX.widen {c' s' : Nat} (h1 : cells ≤ c') (h2 : slots ≤ s') (k : KX D Γ c' s' pc lv rest ws E q) : KX D Γ cells slots pc lv rest ws E q := fun H locs ls ce hP hD hS hl hq hv hcl => vx_widen h1 h2 (k H locs ls ce hP hD hS hl hq hv hcl)
/-- a call that returns or throws -/
theorem k_runX (G : xG D T Γ cc own nL ret lev mc ms) {wl wc wr : va_W} {mcc msc : Nat} {a : Array Value}
    (hr : ∀ (H : Heap) (locs : List Loc) (ls : Array Slot), va_P D xcl (wl ++ (wc ++ wr)) H → va_D Γ.2.2.2.2.2 (wl ++ (wc ++ wr)) → va_S Γ.2.2.2.2.2 Γ.2.1.1.heap H locs → lv_has ls Γ.2.2.2.1.maxLocals lv → vx_Run Γ.1.1 Γ.1.2.1 Γ.1.2.2.1 Γ.1.2.2.2 Γ.2.1.1 Γ.2.1.2.1 Γ.2.1.2.2.1 Γ.2.1.2.2.2 Γ.2.2.1 Γ.2.2.2.1 H locs cells slots mcc msc (F0 Γ.2.1.2.1 pc ls st) rest (xQ D (va_A wc H.size) post a) (xXC D (va_A wc H.size) xp) (va_A wc H.size))
    (kk : ∀ (v : Option Value) (wc' : va_W), post v wc' → K D Γ (cells + mcc) (slots + msc) (pc + 3) lv (v.toList ++ rest) (wl ++ (wc' ++ wr)))
    (kx : ∀ (E : String) (q : Nat) (wc' : va_W), xp E q wc' → KX D Γ (cells + mcc) (slots + msc) pc lv rest (wl ++ (wc' ++ wr)) E q) : K D Γ cells slots pc lv st (wl ++ (wc ++ wr)) := by
  intro H locs ls hP hD hS hl S hT X
  have hF := x_free hD hS G.2.2.2.2.2.2.2.1
  have keep : ∀ (st₀ t T' : State) (L : List Loc), st₀.heap = H → T'.heap = t.heap → (∀ q ∈ L, va_A wc H.size q.base) → va_F (va_A wc H.size) st₀ t → va_S Γ.2.2.2.2.2 Γ.2.1.1.heap T'.heap (locs ++ L) := by
    intro st₀ t T' L h0 e1 hL ⟨hz, hk⟩
    rw [h0] at hz hk
    exact ⟨Nat.le_trans hS.1 (by rw [e1]; exact hz), fun q h1 h2 => by rw [e1, hk q (Nat.lt_of_lt_of_le h1 hS.1) (fun z => h2 (hF q z))]; exact hS.2.1 q h1 h2, fun q hq => by
      rcases List.mem_append.mp hq with h | h
      · exact hS.2.2 q h
      · exact hF _ (hL q h)⟩
  rcases hr H locs ls hP hD hS hl S hT X with ⟨v, st₀, t, T', L, h0, X', hL, e1, e2, ⟨⟨v', wc', hv, hp, hP1, hD1⟩, hz, hk⟩, stp⟩ | ⟨q, st₀, t, T', L, E, ce, h0, X', hL, e1, e2, ⟨wc', hp, hP1, hD1, hz, hk⟩, hce, hcv, hcl, stp⟩
  · cases hv
    have hS1 := keep st₀ t T' L h0 e1 hL ⟨hz, hk⟩
    rw [h0] at hz hk
    obtain ⟨hPj, hDj⟩ := x_join hP hD hk hF hP1 (by rw [h0] at *; exact hD1)
    obtain ⟨t2, a1, b1⟩ := kk v wc' hp T'.heap (locs ++ L) ls (by rw [e1]; exact hPj) hDj hS1 hl T' rfl X'
    exact ⟨t2, stp t2 a1, b1⟩
  · have hS1 := keep st₀ t T' L h0 e1 hL ⟨hz, hk⟩
    rw [h0] at hz hk
    obtain ⟨hPj, hDj⟩ := x_join hP hD hk hF hP1 (by rw [h0] at *; exact hD1)
    obtain ⟨t2, a1, b1⟩ := kx E q wc' hp T'.heap (locs ++ L) ls ce (by rw [e1]; exact hPj) hDj hS1 hl (by rw [e1]; exact hce) hcv hcl T' rfl X'
    exact ⟨t2, stp.trans a1, b1⟩
end KXA
section KXB
variable {D : va_G} {T : xT} {Γ : xE} {cc : ByteArray} {own : String} {nL lev mc ms : Nat} {ret : Option FieldType} {cells slots pc : Nat} {lv : List (Nat × Value)} {st rest : List Value} {wl wc wr : va_W} {post : Option Value → va_W → Prop} {xp : String → Nat → va_W → Prop} {y : MethodName} {code' : ByteArray} {nL' lev' mcc msc n idx b : Nat} {ret' : Option FieldType} {As : List Value}
theorem k_callVX (G : xG D T Γ cc own nL ret lev mc ms) {C : String} (hM : XMX Γ.1.2.1 D T y code' nL' ret' lev' mcc msc (.ref b :: As) wc post xp) (f : xV y C code' nL' ret' n) (hlink : Cond.methodLink own idx y ∈ lw_all) (hn : As.length = n) (hst : st = As.reverse ++ .ref b :: rest) (hcat : (rest.map fun v => v.category).sum ≤ 8) (hlev : lev' + 1 ≤ lev) (hroom : cells + mcc ≤ mc ∧ slots + msc ≤ ms)
    (hrecv : ∃ (q0 ci : Nat) (fs : List Value) (TT : u_T) (N : Nat), (wl ++ (wc ++ wr))[q0]? = some (b, .inr (ci, fs)) ∧ xcl[ci]? = some (C, TT, N)) (d : decode cc pc = .ok (.invokevirtual idx, 3))
    (kk : ∀ (v : Option Value) (wc' : va_W), post v wc' → K D Γ (cells + mcc) (slots + msc) (pc + 3) lv (v.toList ++ rest) (wl ++ (wc' ++ wr)))
    (kx : ∀ (E : String) (q : Nat) (wc' : va_W), xp E q wc' → KX D Γ (cells + mcc) (slots + msc) pc lv rest (wl ++ (wc' ++ wr)) E q) : K D Γ cells slots pc lv st (wl ++ (wc ++ wr)) := by
  obtain ⟨f1, f2, f3, f4, f5, f6⟩ := f
  obtain ⟨q0, ci, fs, TT, N, r1, r2⟩ := hrecv
  have hR : Γ.1.2.2.2 = xrm lev mc ms := G.2.2.2.2.2.2.2.2.2
  refine k_runX G (a := (Value.ref b :: As).toArray) (fun H locs ls hP hD hS hl => ?_) kk kx
  have hPc := (x_pa.mp (x_pa.mp hP).2).1
  have hDc := (x_da.mp (x_da.mp hD).2.1).1
  exact vx_runV (As := As) (rest := rest) ⟨G.1, G.2.1, G.2.2.1, G.2.2.2.2.2.1, G.2.2.2.2.2.2.1⟩ (hM H.size) (cwV n G.2.2.2.2.2.2.1 (lw_V hlink f1 f2 f3 f4) rfl rfl rfl f5 (by rw [hR]; exact ⟨hlev, by show 8 + (nL' + 11) + 64 * lev' ≤ 64 * lev; omega⟩))
    ⟨x_blind, va_recv G.2.2.2.2.2.2.2.2.1.1 hP r2 r1, fun U hU hW => ⟨rfl, by rw [hU], by rw [hU]; exact hPc, G.2.2.2.2.2.2.2.2.1.next hW (fun a ha hb => by rw [hU]; exact hS.2.1 a ha hb) (x_free hD hS G.2.2.2.2.2.2.2.1), hDc.weaken (fun _ _ _ _ => trivial)⟩⟩ rfl hn (hl.1.trans G.2.2.1) hst (lv_room hcat) d (by rw [hR]; exact hroom)
theorem k_callSX (G : xG D T Γ cc own nL ret lev mc ms) (hM : XMX Γ.1.2.1 D T y code' nL' ret' lev' mcc msc As wc post xp) (f : xS y code' nL' ret' n) (hlink : Cond.methodLink own idx y ∈ lw_all) (hn : As.length = n) (hst : st = As.reverse ++ rest) (hcat : (rest.map fun v => v.category).sum ≤ 8) (hlev : lev' + 1 ≤ lev) (hroom : cells + mcc ≤ mc ∧ slots + msc ≤ ms)
    (d : decode cc pc = .ok (.invokestatic idx, 3))
    (kk : ∀ (v : Option Value) (wc' : va_W), post v wc' → K D Γ (cells + mcc) (slots + msc) (pc + 3) lv (v.toList ++ rest) (wl ++ (wc' ++ wr)))
    (kx : ∀ (E : String) (q : Nat) (wc' : va_W), xp E q wc' → KX D Γ (cells + mcc) (slots + msc) pc lv rest (wl ++ (wc' ++ wr)) E q) : K D Γ cells slots pc lv st (wl ++ (wc ++ wr)) := by
  obtain ⟨f1, f3, f4, f5, f6⟩ := f
  have hR : Γ.1.2.2.2 = xrm lev mc ms := G.2.2.2.2.2.2.2.2.2
  refine k_runX G (a := As.toArray) (fun H locs ls hP hD hS hl => ?_) kk kx
  have hPc := (x_pa.mp (x_pa.mp hP).2).1
  have hDc := (x_da.mp (x_da.mp hD).2.1).1
  exact vx_runS (As := As) (rest := rest) ⟨G.1, G.2.1, G.2.2.1, G.2.2.2.2.2.1, G.2.2.2.2.2.2.1⟩ (hM H.size) (va_cwS n G.2.2.2.2.2.2.1 (lw_S hlink f1 f3 f4) rfl rfl rfl f5 (by rw [hR]; exact ⟨hlev, by show 8 + (nL' + 11) + 64 * lev' ≤ 64 * lev; omega⟩))
    ⟨x_blind, fun U hU hW => ⟨rfl, by rw [hU], by rw [hU]; exact hPc, G.2.2.2.2.2.2.2.2.1.next hW (fun a ha hb => by rw [hU]; exact hS.2.1 a ha hb) (x_free hD hS G.2.2.2.2.2.2.2.1), hDc.weaken (fun _ _ _ _ => trivial)⟩⟩ rfl hn (hl.1.trans G.2.2.1) hst (lv_room hcat) d (by rw [hR]; exact hroom)
/-- a private method of a nest mate that may throw -/
theorem k_callVNX (G : xG D T Γ cc own nL ret lev mc ms) {C : String} (hM : XMX Γ.1.2.1 D T y code' nL' ret' lev' mcc msc (.ref b :: As) wc post xp) (f : xV y C code' nL' ret' n) (hlink : (own, idx, y) ∈ xmln) (hn : As.length = n) (hst : st = As.reverse ++ .ref b :: rest) (hcat : (rest.map fun v => v.category).sum ≤ 8) (hlev : lev' + 1 ≤ lev) (hroom : cells + mcc ≤ mc ∧ slots + msc ≤ ms)
    (hrecv : ∃ (q0 ci : Nat) (fs : List Value) (TT : u_T) (N : Nat), (wl ++ (wc ++ wr))[q0]? = some (b, .inr (ci, fs)) ∧ xcl[ci]? = some (C, TT, N)) (d : decode cc pc = .ok (.invokevirtual idx, 3))
    (kk : ∀ (v : Option Value) (wc' : va_W), post v wc' → K D Γ (cells + mcc) (slots + msc) (pc + 3) lv (v.toList ++ rest) (wl ++ (wc' ++ wr)))
    (kx : ∀ (E : String) (q : Nat) (wc' : va_W), xp E q wc' → KX D Γ (cells + mcc) (slots + msc) pc lv rest (wl ++ (wc' ++ wr)) E q) : K D Γ cells slots pc lv st (wl ++ (wc ++ wr)) := by
  obtain ⟨f1, f2, f3, f4, f5, f6⟩ := f
  obtain ⟨q0, ci, fs, TT, N, r1, r2⟩ := hrecv
  have hR : Γ.1.2.2.2 = xrm lev mc ms := G.2.2.2.2.2.2.2.2.2
  have w := G.2.2.2.2.2.2.1
  refine k_runX G (a := (Value.ref b :: As).toArray) (fun H locs ls hP hD hS hl => ?_) kk kx
  have hPc := (x_pa.mp (x_pa.mp hP).2).1
  have hDc := (x_da.mp (x_da.mp hD).2.1).1
  exact vx_runVN (As := As) (rest := rest) (host := "BakedBefore") ⟨G.1, G.2.1, G.2.2.1, G.2.2.2.2.2.1, G.2.2.2.2.2.2.1⟩ (hM H.size) ⟨va_cnB n w (lw_meth f4) rfl rfl rfl (G.2.2.2.2.2.2.2.2.1.2.1.2.2.2.1 _ hlink) (by rw [f5.1]; exact w _ f3) f5.2 (by rw [hR]; exact ⟨hlev, by show 8 + (nL' + 11) + 64 * lev' ≤ 64 * lev; omega⟩), w _ f1, w _ f2⟩
    ⟨x_blind, va_recv G.2.2.2.2.2.2.2.2.1.1 hP r2 r1, fun U hU hW => ⟨rfl, by rw [hU], by rw [hU]; exact hPc, G.2.2.2.2.2.2.2.2.1.next hW (fun a ha hb => by rw [hU]; exact hS.2.1 a ha hb) (x_free hD hS G.2.2.2.2.2.2.2.1), hDc.weaken (fun _ _ _ _ => trivial)⟩⟩ rfl hn (hl.1.trans G.2.2.1) hst (lv_room hcat) d (by rw [hR]; exact hroom)
end KXB
