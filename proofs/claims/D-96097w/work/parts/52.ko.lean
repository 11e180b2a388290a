/-! Off: contract of its constructor; the row of 'new Off(place)' -/
set_option maxRecDepth 100000
abbrev cX15_init : ByteArray := prog_11_method_1_code
def yX15_init : MethodName := ⟨RX15, "<init>", "(I)V"⟩
def dkwX15_init_0 : List UInt8 := [42, 183, 0, 1, 42, 27, 181, 0, 7, 177]
abbrev dktX15_init_0 : List UInt8 := dkwX15_init_0 ++ []
theorem dksX15_init_0 : cX15_init.data.toList.drop 0 = dktX15_init_0 := by decide +kernel
theorem dX15_init_0 : decode cX15_init 0 = .ok (.aload_n 0, 1) := dk_42 (dk_at dksX15_init_0 0 rfl rfl)
theorem dX15_init_1 : decode cX15_init 1 = .ok (.invokespecial 1, 3) := dk_183 0 1 (dk_at dksX15_init_0 1 rfl rfl)
theorem dX15_init_4 : decode cX15_init 4 = .ok (.aload_n 0, 1) := dk_42 (dk_at dksX15_init_0 4 rfl rfl)
theorem dX15_init_5 : decode cX15_init 5 = .ok (.iload_n 1, 1) := dk_27 (dk_at dksX15_init_0 5 rfl rfl)
theorem dX15_init_6 : decode cX15_init 6 = .ok (.putfield 7, 3) := dk_181 0 7 (dk_at dksX15_init_0 6 rfl rfl)
theorem dX15_init_9 : decode cX15_init 9 = .ok (.return_, 1) := dk_177 (dk_at dksX15_init_0 9 rfl rfl)
theorem xi_Off : xI yX15_init cX15_init 2 1 := ⟨q816, q114, q817, rfl, ⟨by decide +kernel, by decide +kernel, by decide +kernel⟩, by decide⟩
def fo0 : List Value := [.null, .null, .null, .null, .null, .int 0, .int 0]
/-- the constructor finds its object as 'new' has left it -/
def xPF (D : va_G) (T : xT) (sz b : Nat) (args : List Value) : Array Value → State → Prop := fun a U => xPc D T sz [(b, .inr (15, fo0))] args a U ∧ ∃ k : Class, U.vm.classes[D.1 15]? = some k ∧ U.heap[b]? = some (freshCell (D.1 15) k)
theorem xF_blind {D : va_G} {T : xT} {sz b : Nat} {args : List Value} : FrameBlind (xPF D T sz b args) := fun a U g mk q => ⟨x_blind a U g mk q.1, q.2⟩
section KO2
variable {D : va_G} {T : xT} {Γ : xE} {cc : ByteArray} {own : String} {nL lev mc ms : Nat} {ret : Option FieldType} {cells slots pc : Nat} {lv : List (Nat × Value)} {st : List Value} {ws : va_W}
theorem ko_body {b : Nat} {x : Int32} {post : Option Value → va_W → Prop} (G : xG D T Γ cX15_init "BakedBefore$Off" 2 none 8 0 0) (X : xX D Γ 0 0 post) (hpost : ∀ fs : List Value, fs[6]? = some (.int x) → post none [(b, .inr (15, fs))]) (hin : Γ.2.2.1.name = "<init>") (hlt : Γ.1.2.1.stackTraces = false) (hAb : Γ.2.2.2.2.2 b) {kX : Class} (hkX : Γ.2.1.1.vm.classes[D.1 15]? = some kX) (hfr : Γ.2.1.1.heap[b]? = some (freshCell (D.1 15) kX)) (hP : va_P D xcl [(b, .inr (15, fo0))] Γ.2.1.1.heap) (hD : va_D Γ.2.2.2.2.2 [(b, .inr (15, fo0))]) {ls : Array Slot} (hl : lv_has ls Γ.2.2.2.1.maxLocals [(0, .ref b), (1, .int x)]) : xw Γ Γ.2.1.1.heap [] 0 0 (F0 Γ.2.1.2.1 0 ls []) := by
  have hR : Γ.1.2.2.2 = xrm 8 0 0 := G.2.2.2.2.2.2.2.2.2
  have w := G.2.2.2.2.2.2.1
  have N := G.2.2.2.2.2.2.2.2.1.2.1
  have hat : ∀ z ∈ offAtoms, z.before Γ.2.1.2.2.1 Γ.2.1.1 = true := vx_own (xw_memC xw_off w N) (vx_isRefq (x_H G).2.2.2.1.1) (vx_isRefq (x_H G).2.2.2.2.1.1) (x_H G).2.2.2.1.2.word (x_H G).2.2.2.2.1.2.word
  have hfc : Γ.2.1.1.vm.findClass "BakedBefore$Off" = some (D.1 15) := (G.2.2.2.2.2.2.2.2.1.1.1 15 _ rfl).2.1
  refine lv_aload_n G.1 G.2.1 dX15_init_0 rfl (xlk_at hl rfl) ?_
  intro T' hT XS
  have htr : Γ.1.2.2.1.platform.stackTraces = false := (show Γ.1.2.2.1.platform.stackTraces = Γ.1.2.1.stackTraces by rw [XS.admits.platform]).trans hlt
  obtain ⟨V, ce, L, X2, hV, hL, hlt', hcl, hvm, hsz, st⟩ := vx_superOff XS G.1 htr G.2.2.2.2.2.1 hat hfc hkX (by rw [hT]; exact hfr) hfr (g := F0 Γ.2.1.2.1 1 ls [.ref b]) rfl hl.1 (rest := []) rfl (by rw [G.2.1]; exact dX15_init_1) (by rw [hR]; show 4 < 8; decide) (by rw [hR]; show 0 + 0 + 67 ≤ 64 * 8; decide)
  obtain ⟨r, hr, cell, g1, g2, g3, g4⟩ := hP 0 _ rfl
  cases hr
  have hce : cell = freshCell (D.1 15) kX := Option.some.inj (g1.symm.trans hfr)
  subst hce
  obtain ⟨fs, hfs⟩ : ∃ z : List Value, z = (List.range 7).map (fun k => (ce.slots[D.2 15 k]?).getD .null) := ⟨_, rfl⟩
  have hlen : fs.length = 7 := by rw [hfs]; simp
  have hvv : ∀ k, k < 7 → ce.slots[D.2 15 k]? = some (vp_V fs k) := by
    intro k hk
    have h1 : D.2 15 k < (freshCell (D.1 15) kX).slots.size := (Array.getElem?_eq_some_iff.mp (g4 k hk)).1
    have h2 : D.2 15 k < ce.slots.size := by
      rw [hsz]
      have h3 : (freshCell (D.1 15) kX).slots.size = kX.instanceTypes.size := by simp
      omega
    have h4 : vp_V fs k = (ce.slots[D.2 15 k]?).getD .null := by
      unfold vp_V
      rw [hfs, List.getD_eq_getElem?_getD, List.getElem?_map, List.getElem?_range hk]
      rfl
    rw [h4, Array.getElem?_eq_getElem h2]
    rfl
  have hV' : V.heap = Γ.2.1.1.heap := hV.trans hT
  have hP' : va_P D xcl [(b, .inr (15, fs))] (V.setCell b ce).heap := by
    intro k z hz
    have hk : k < 1 := (List.getElem?_eq_some_iff.mp hz).1
    rw [show k = 0 by omega] at hz
    cases hz
    exact ⟨_, rfl, ce, heapAt_setCell_self (s := V) ce hlt', hcl, hvm, hvv⟩
  have hD' : va_D Γ.2.2.2.2.2 [(b, .inr (15, fs))] := by
    refine ⟨fun i j p q hi hj e => ?_, fun k z hz => ?_⟩
    · have h1 : i < 1 := (List.getElem?_eq_some_iff.mp hi).1
      have h2 : j < 1 := (List.getElem?_eq_some_iff.mp hj).1
      omega
    · have hk : k < 1 := (List.getElem?_eq_some_iff.mp hz).1
      rw [show k = 0 by omega] at hz
      cases hz
      exact hAb
  have hsize : (V.setCell b ce).heap.size = V.heap.size := by simp [State.setCell]
  have hS' : va_S Γ.2.2.2.2.2 Γ.2.1.1.heap (V.setCell b ce).heap ([] ++ L) := by
    refine ⟨by rw [hsize, hV']; exact Nat.le_refl _, fun q h1 h2 => ?_, fun y hy => by rw [hL y (by simpa using hy)]; exact hAb⟩
    have hne : b ≠ q := fun z => h2 (z ▸ hAb)
    rw [heapAt_setCell_ne (s := V) ce hne, hV']
  have kk : K D Γ 0 0 4 [(0, .ref b), (1, .int x)] [] [(b, .inr (15, fs))] := by
    refine k_aload_n G dX15_init_4 rfl ?_
    refine k_iload_n G dX15_init_5 rfl ?_
    refine k_putI G hin (p := 0) (k := 6) ci_X15 rfl (by decide) q825 (fun _ h => h) rfl rfl rfl rfl (by rw [hlen]; decide) dX15_init_6 ?_
    exact k_vret G X dX15_init_9 (Nat.le_refl _) (Nat.le_refl _) (hpost _ (by rw [List.getElem?_set_self (by rw [hlen]; decide)]))
  obtain ⟨t, a1, b1⟩ := kk (V.setCell b ce).heap ([] ++ L) ls hP' hD' hS' hl (V.setCell b ce) rfl X2
  exact ⟨t, st t a1, b1⟩
/-- a call, at one heap -/
theorem xw_run (G : xG D T Γ cc own nL ret lev mc ms) {wl wc wr : va_W} {mcc msc : Nat} {rest : List Value} {a : Array Value} {post : Option Value → va_W → Prop} {H : Heap} {locs : List Loc} {ls : Array Slot} (hP : va_P D xcl (wl ++ (wc ++ wr)) H) (hD : va_D Γ.2.2.2.2.2 (wl ++ (wc ++ wr))) (hS : va_S Γ.2.2.2.2.2 Γ.2.1.1.heap H locs) (hl : lv_has ls Γ.2.2.2.1.maxLocals lv)
    (hr : va_Run Γ.1.1 Γ.1.2.1 Γ.1.2.2.1 Γ.1.2.2.2 Γ.2.1.1 Γ.2.1.2.1 Γ.2.1.2.2.1 Γ.2.1.2.2.2 Γ.2.2.1 Γ.2.2.2.1 H locs cells slots mcc msc (F0 Γ.2.1.2.1 pc ls st) rest (xQ D (va_A wc H.size) post a) (va_A wc H.size))
    (kk : ∀ (v : Option Value) (wc' : va_W), post v wc' → K D Γ (cells + mcc) (slots + msc) (pc + 3) lv (v.toList ++ rest) (wl ++ (wc' ++ wr))) : xw Γ H locs cells slots (F0 Γ.2.1.2.1 pc ls st) := by
  intro S hT X
  obtain ⟨v, st₀, t, T', L, h0, X', hL, e1, e2, ⟨⟨v', wc', hv, hp, hP1, hD1⟩, hz, hk⟩, stp⟩ := hr S hT X
  cases hv
  rw [h0] at hz hk
  have hF := x_free hD hS G.2.2.2.2.2.2.2.1
  obtain ⟨hPj, hDj⟩ := x_join hP hD hk hF hP1 (by rw [h0] at *; exact hD1)
  obtain ⟨t2, a1, b1⟩ := kk v wc' hp T'.heap (locs ++ L) ls (by rw [e1]; exact hPj) hDj
    ⟨Nat.le_trans hS.1 (by rw [e1]; exact hz), fun q h1 h2 => by rw [e1, hk q (Nat.lt_of_lt_of_le h1 hS.1) (fun z => h2 (hF q z))]; exact hS.2.1 q h1 h2, fun q hq => by
      rcases List.mem_append.mp hq with h | h
      · exact hS.2.2 q h
      · exact hF _ (hL q h)⟩ hl T' rfl X'
  exact ⟨t2, stp t2 a1, b1⟩
end KO2
/-- Off's constructor -/
theorem ko_init (l : Launch) (hlt : l.stackTraces = false) (D : va_G) (T : xT) (b : Nat) (x : Int32) : ∀ sz : Nat, Met l yX15_init (ws_ yX15_init cX15_init 2 none) (xrm 8 0 0) (xPF D T sz b [.ref b, .int x]) (xQ D (va_A [(b, .inr (15, fo0))] sz) (fun v w => v = none ∧ ∃ fs : List Value, w = [(b, .inr (15, fs))] ∧ fs[6]? = some (.int x))) 0 0 (va_A [(b, .inr (15, fo0))] sz) := by
  intro sz
  refine Met.ofW (cc := cX15_init) (maxL := 2) (ret := none) (by decide +kernel) rfl ?_
  intro p e s m args' below meth c s₁ B hml hv
  obtain ⟨⟨rfl, hsz, hP, hE, hD0⟩, kX, hkX, hfresh⟩ := hv
  have hts := atoms_spec (ws := ws_ yX15_init cX15_init 2 none) B.pre
  have hts : ∀ w ∈ lw_all, w.before _ s = true := fun w h => hts w (List.mem_cons_of_mem _ h)
  have hown : s.vm.findClass "BakedBefore$Off" = some m.cls := findClass_of_methodNamed B.named
  have hin : meth.name = "<init>" := (name_of_methodNamed B.named B.method).1
  subst hsz
  have hD := hD0.self (sz := s.heap.size)
  have hA : ∀ q : Nat, s.heap.size ≤ q → va_A [(b, .inr (15, fo0))] s.heap.size q := fun q h => Or.inr h
  have hl := lv_entry [.ref b, .int x] (n := 2) (Nat.le_of_ble_eq_true rfl)
  rw [lg_entry_eq]
  exact ko_body (Γ := ((p, l, e, xrm 8 0 0), (s, m, [Value.ref b, Value.int x].toArray, below), (meth, c, MQ below (xQ D (va_A [(b, .inr (15, fo0))] s.heap.size) (fun v w => v = none ∧ ∃ fs : List Value, w = [(b, .inr (15, fs))] ∧ fs[6]? = some (.int x))) [Value.ref b, Value.int x].toArray s 0 0 (va_A [(b, .inr (15, fo0))] s.heap.size), va_A [(b, .inr (15, fo0))] s.heap.size)))
    ⟨B.exec, B.bytes, hml, B.returns, B.notSynchronized, hown, hts, hA, hE, rfl⟩ rfl (fun fs h => ⟨rfl, fs, rfl, h⟩) hin hlt (Or.inl ⟨0, _, rfl⟩) hkX hfresh hP hD (by rw [hml]; exact hl)
section KO3
variable {D : va_G} {T : xT} {Γ : xE} {cc : ByteArray} {own : String} {nL lev mc ms : Nat} {ret : Option FieldType} {cells slots pc : Nat} {lv : List (Nat × Value)} {st : List Value} {ws : va_W}
/-- new Off(x): push puts x on the stack -/
theorem k_newOff (G : xG D T Γ cc own nL ret lev mc ms) (hlt : Γ.1.2.1.stackTraces = false) {ik ic L : Nat} {x : Int32} (hk : Cond.classLink own ik "BakedBefore$Off" ∈ lw_all) (hi : Cond.methodLink own ic yX15_init ∈ lw_all) (hlev : 9 ≤ lev) (hcat : ((Value.int 0 :: st).map fun v => v.category).sum ≤ 8) (hroom : cells + 1 ≤ mc ∧ slots + 7 ≤ ms) (d0 : decode cc pc = .ok (.new ik, 3)) (d3 : decode cc (pc + 3) = .ok (.dup, 1))
    (push : ∀ (b : Nat) (H : Heap) (locs : List Loc) (ls : Array Slot), va_P D xcl ws H → lv_has ls Γ.2.2.2.1.maxLocals lv → xw Γ H locs (cells + 1) (slots + 7) (F0 Γ.2.1.2.1 (pc + 4 + L) ls (.int x :: .ref b :: .ref b :: st)) → xw Γ H locs (cells + 1) (slots + 7) (F0 Γ.2.1.2.1 (pc + 4) ls (.ref b :: .ref b :: st)))
    (dI : decode cc (pc + 4 + L) = .ok (.invokespecial ic, 3)) (kk : ∀ (b : Nat) (fs : List Value), fs[6]? = some (.int x) → K D Γ (cells + 1) (slots + 7) (pc + 4 + L + 3) lv (.ref b :: st) (ws ++ [(b, .inr (15, fs))])) : K D Γ cells slots pc lv st ws := by
  intro H locs ls hP hD hS hl
  have hR : Γ.1.2.2.2 = xrm lev mc ms := G.2.2.2.2.2.2.2.2.2
  have w := G.2.2.2.2.2.2.1
  have hKn := G.2.2.2.2.2.2.2.2.1.1.1 15 _ rfl
  refine W.newcK G.1 G.2.1 G.2.2.2.2.2.1 (w _ hk) (w _ q759) (w _ q114) rfl d0 (by rw [hR]; exact hroom.1) (by rw [hR]; exact hroom.2) hKn.2.1 rfl fun H1 kC hkC e1 z1 o1 => ?_
  have hk1 : ∀ (k : Nat) (x : Nat × va_E), ws[k]? = some x → H1[x.1]? = H[x.1]? := fun k x hx => o1 x.1 ((hP k x hx).lt)
  have hfs : ∀ j, j < 7 → defaultValue (tyX15 j) = vp_V fo0 j := fun j hj => by
    match j, hj with
    | 0, _ => rfl
    | 1, _ => rfl
    | 2, _ => rfl
    | 3, _ => rfl
    | 4, _ => rfl
    | 5, _ => rfl
    | 6, _ => rfl
  have hP0 := hP.kept hk1
  have hP1 : va_P D xcl (ws ++ [(H.size, .inr (15, fo0))]) H1 := hP0.app (fun k x hx => by
    have hz : k < 1 := (List.getElem?_eq_some_iff.mp hx).1
    rw [show k = 0 by omega] at hx
    cases hx
    exact ⟨_, rfl, (u_born tyX15 w in_X15 hKn hkC e1 tyX15_ok).to hfs⟩)
  have hD1 : va_D Γ.2.2.2.2.2 (ws ++ [(H.size, .inr (15, fo0))]) := hD.push hP rfl (G.2.2.2.2.2.2.2.1 _ hS.1)
  have hS1 : va_S Γ.2.2.2.2.2 Γ.2.1.1.heap H1 locs := ⟨Nat.le_trans hS.1 (by omega), fun x h1 h2 => (o1 x (Nat.lt_of_lt_of_le h1 hS.1)).trans (hS.2.1 x h1 h2), hS.2.2⟩
  refine lv_dup G.1 G.2.1 d3 rfl ?_
  refine push H.size H1 locs ls hP0 hl ?_
  obtain ⟨f1, f3, f4, fy, f5, f6⟩ := xi_Off
  refine xw_run G (wl := ws) (wc := [(H.size, .inr (15, fo0))]) (wr := []) (rest := .ref H.size :: st) (a := (Value.ref H.size :: [.int x]).toArray) (mcc := 0) (msc := 0) (by simpa using hP1) (by simpa using hD1) hS1 hl
    (va_runI (As := [.int x]) (rest := .ref H.size :: st) ⟨G.1, G.2.1, G.2.2.1, G.2.2.2.2.2.1, G.2.2.2.2.2.2.1⟩ (ko_init _ hlt D T H.size x H1.size) (cwI 1 w (lw_meth f4) rfl rfl rfl (w _ f3) (w _ hi) (w _ f1) fy f5 (by rw [hR]; exact ⟨hlev, by show 8 + (2 + 11) + 64 * 8 ≤ 64 * lev; omega⟩))
      ⟨xF_blind, fun U hU hW => ⟨⟨rfl, by rw [hU], by rw [hU]; exact (x_pa.mp hP1).2, G.2.2.2.2.2.2.2.2.1.next hW (fun a ha hb => by rw [hU]; exact hS1.2.1 a ha hb) (x_free (wl := ws) (wr := []) (by simpa using hD1) hS1 G.2.2.2.2.2.2.2.1), (x_da.mp hD1).2.1.weaken (fun _ _ _ _ => trivial)⟩, by
        obtain ⟨k', hk', ek⟩ := hW.alike.2.2 _ _ hkC
        exact ⟨k', hk', by rw [hU, e1, ek]; rfl⟩⟩⟩ rfl rfl (hl.1.trans G.2.2.1) rfl (lv_room hcat) dI (by rw [hR]; exact hroom))
    (fun v wc' hp => ?_)
  obtain ⟨rfl, fs, rfl, h6⟩ := hp
  simpa using kk H.size fs h6
end KO3
