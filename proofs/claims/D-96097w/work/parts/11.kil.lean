/-! calls of methods found by the receiver's class, and of the superclass's methods -/
set_option maxRecDepth 100000
theorem x_payws {y : MethodName} {code : ByteArray} {nL : Nat} {ret : Option FieldType} {s : State} {args : Array Value} (ht : ∀ w ∈ lw_all, w.before args s = true) (h : Cond.code y code nL ret ∈ lw_all) : ∀ w ∈ ws_ y code nL ret, ∀ (a' : Array Value) (U : State), s.WarmedH U.vm → w.before a' U = true := pay_in ht (lw_meth h)
theorem x_sub {vm : Vm} {a b : ClassId} {k : Class} (h1 : vm.classes[a]? = some k) (h2 : k.super = some b) : vm.isSubclass a b = true := by
  unfold Vm.isSubclass
  have h0 : a < vm.classes.size := (Array.getElem?_eq_some_iff.mp h1).1
  obtain ⟨n, hn⟩ : ∃ n, vm.classes.size = n + 1 := ⟨vm.classes.size.pred, (Nat.succ_pred_eq_of_pos (Nat.lt_of_le_of_lt (Nat.zero_le _) h0)).symm⟩
  rw [hn]
  simp [Vm.isSubclassAux, h1, h2]
section KU
variable {D : va_G} {T : xT} {Γ : xE} {cc : ByteArray} {own : String} {nL lev mc ms : Nat} {ret : Option FieldType} {cells slots pc : Nat} {lv : List (Nat × Value)} {st : List Value} {ws : va_W} {post : Option Value → va_W → Prop}
/-- what the tables say of a method selected by the receiver's class C for the name x, that owner declares -/
def xU (x : MethodName) (owner C : String) (y : MethodName) (code : ByteArray) (nL : Nat) (ret : Option FieldType) (n : Nat) : Prop := Cond.sameMethod x.cls owner x.name x.desc ∈ lw_all ∧ Cond.selects C x y ∈ lw_all ∧ Cond.instanceMethod y ∈ lw_all ∧ Cond.initialized y.cls ∈ lw_all ∧ Cond.code y code nL ret ∈ lw_all ∧ ((Cond.instanceMethod ⟨owner, x.name, x.desc⟩ ∈ lw_all ∧ ∃ b m r, Cond.code ⟨owner, x.name, x.desc⟩ b m r ∈ lw_all) ∨ (⟨owner, x.name, x.desc⟩ : MethodName) ∈ xdecl) ∧ (owner ≠ "java/lang/invoke/MethodHandle" ∧ owner ≠ "java/lang/invoke/VarHandle" ∧ (parseMethodDescriptor x.desc).map (fun d => d.parameters.length) = some n) ∧ nL ≤ 45
theorem k_callU (G : xG D T Γ cc own nL ret lev mc ms) {x y : MethodName} {code' : ByteArray} {nL' lev' mcc msc n idx b : Nat} {ret' : Option FieldType} {As rest : List Value} {owner C : String} (hM : XM Γ.1.2.1 D T y code' nL' ret' lev' mcc msc (.ref b :: As) ws post) (f : xU x owner C y code' nL' ret' n) (hlink : Cond.methodLink own idx x ∈ lw_all) (d : decode cc pc = .ok (.invokevirtual idx, 3)) (hn : As.length = n) (hst : st = As.reverse ++ .ref b :: rest) (hcat : (rest.map fun v => v.category).sum ≤ 8) (hlev : lev' + 1 ≤ lev) (hroom : cells + mcc ≤ mc ∧ slots + msc ≤ ms)
    (hrecv : ∃ (q0 ci : Nat) (fs : List Value) (TT : u_T) (N : Nat), ws[q0]? = some (b, .inr (ci, fs)) ∧ xcl[ci]? = some (C, TT, N))
    (kk : ∀ (v : Option Value) (wc' : va_W), post v wc' → K D Γ (cells + mcc) (slots + msc) (pc + 3) lv (v.toList ++ rest) wc') : K D Γ cells slots pc lv st ws := by
  obtain ⟨f0, f1, f2, f3, f4, f5, f6, f7⟩ := f
  obtain ⟨q0, ci, fs, TT, N, r1, r2⟩ := hrecv
  have hR : Γ.1.2.2.2 = xrm lev mc ms := G.2.2.2.2.2.2.2.2.2
  have w := G.2.2.2.2.2.2.1
  have hdec : va_Decl Γ.2.1.1 ⟨owner, x.name, x.desc⟩ := by
    rcases f5 with ⟨h1, b0, m0, r0, h2⟩ | h1
    · exact va_Decl.of (w _ h1) (w _ h2)
    · exact va_Decl.abs (G.2.2.2.2.2.2.2.2.1.2.1.2.1 _ h1)
  have cw : va_CU Γ.1.2.2.2 Γ.2.1.1 Γ.2.1.2.2.1 own C owner idx x y code' nL' ret' (ws_ y code' nL' ret') (xrm lev' mcc msc) mcc msc n := by
    refine ⟨⟨rfl, rfl, by rw [hR]; exact hlev, by rw [hR]; show 8 + (nL' + 11) + 64 * lev' ≤ 64 * lev; omega, x_payws w f4, List.mem_cons_self⟩, w _ f4, w _ f3, ⟨f6.1, f6.2.1⟩, fun sig h => ?_, w _ hlink, w _ f0, hdec, w _ f1, w _ f2⟩
    have h2 := f6.2.2
    rw [h] at h2
    exact (Option.some.inj h2).symm
  have h := k_run G (wl := []) (wc := ws) (wr := []) (cells := cells) (slots := slots) (pc := pc) (lv := lv) (st := st) (rest := rest) (post := post) (mcc := mcc) (msc := msc) (a := (Value.ref b :: As).toArray) (fun H locs ls hP hD hS hl => by
    have hP' : va_P D xcl ws H := by simpa using hP
    have hD' : va_D Γ.2.2.2.2.2 ws := by simpa using hD
    exact va_runU (As := As) (rest := rest) ⟨G.1, G.2.1, G.2.2.1, G.2.2.2.2.2.1, w⟩ (hM H.size) cw
      ⟨x_blind, va_recv G.2.2.2.2.2.2.2.2.1.1 hP' r2 r1, fun U hU hW => ⟨rfl, by rw [hU], by rw [hU]; exact hP', G.2.2.2.2.2.2.2.2.1.next hW (fun a ha hb => by rw [hU]; exact hS.2.1 a ha hb) (x_free (wl := []) (wr := []) (by simpa using hD') hS G.2.2.2.2.2.2.2.1), hD'.weaken (fun _ _ _ _ => trivial)⟩⟩ rfl hn (hl.1.trans G.2.2.1) hst (lv_room hcat) d (by rw [hR]; exact hroom)) (fun v wc' hp => by simpa using kk v wc' hp)
  simpa using h
/-- super.m(..): x is what the call names, owner declares it -/
def xSU (own : String) (x : MethodName) (owner : String) (code : ByteArray) (nL : Nat) (ret : Option FieldType) (n : Nat) : Prop := Cond.sameMethod x.cls owner x.name x.desc ∈ lw_all ∧ Cond.superclass own x.cls ∈ lw_all ∧ (x.cls = owner ∨ Cond.superclass x.cls owner ∈ lw_all) ∧ Cond.instanceMethod ⟨owner, x.name, x.desc⟩ ∈ lw_all ∧ Cond.initialized owner ∈ lw_all ∧ Cond.code ⟨owner, x.name, x.desc⟩ code nL ret ∈ lw_all ∧ x.name ≠ "<init>" ∧ (parseMethodDescriptor x.desc).map (fun d => d.parameters.length) = some n ∧ nL ≤ 45
theorem k_callSU (G : xG D T Γ cc own nL ret lev mc ms) {x : MethodName} {code' : ByteArray} {nL' lev' mcc msc n idx b : Nat} {ret' : Option FieldType} {As rest : List Value} {owner C : String} (hM : XM Γ.1.2.1 D T ⟨owner, x.name, x.desc⟩ code' nL' ret' lev' mcc msc (.ref b :: As) ws post) (f : xSU own x owner code' nL' ret' n) (hlink : Cond.methodLink own idx x ∈ lw_all) (d : decode cc pc = .ok (.invokespecial idx, 3)) (hn : As.length = n) (hst : st = As.reverse ++ .ref b :: rest) (hcat : (rest.map fun v => v.category).sum ≤ 8) (hlev : lev' + 1 ≤ lev) (hroom : cells + mcc ≤ mc ∧ slots + msc ≤ ms)
    (hrecv : ∃ (q0 ci : Nat) (fs : List Value) (TT : u_T) (N : Nat), ws[q0]? = some (b, .inr (ci, fs)) ∧ xcl[ci]? = some (C, TT, N))
    (kk : ∀ (v : Option Value) (wc' : va_W), post v wc' → K D Γ (cells + mcc) (slots + msc) (pc + 3) lv (v.toList ++ rest) wc') : K D Γ cells slots pc lv st ws := by
  obtain ⟨f0, f1, f2, f3, f4, f5, f6, f7, f8⟩ := f
  obtain ⟨q0, ci, fs, TT, N, r1, r2⟩ := hrecv
  have hR : Γ.1.2.2.2 = xrm lev mc ms := G.2.2.2.2.2.2.2.2.2
  have w := G.2.2.2.2.2.2.1
  have h := k_run G (wl := []) (wc := ws) (wr := []) (cells := cells) (slots := slots) (pc := pc) (lv := lv) (st := st) (rest := rest) (post := post) (mcc := mcc) (msc := msc) (a := (Value.ref b :: As).toArray) (fun H locs ls hP hD hS hl => by
    have hP' : va_P D xcl ws H := by simpa using hP
    have hD' : va_D Γ.2.2.2.2.2 ws := by simpa using hD
    have hK : Back Γ.1.2.1 Γ.1.2.2.2 Γ.1.1 Γ.1.2.2.1 Γ.2.1.2.2.2 Γ.2.1.1 Γ.2.1.2.2.1 ⟨owner, x.name, x.desc⟩ 3 8 (PreOf Γ.1.2.2.2 mcc msc (xPc D T H.size ws (.ref b :: As))) (PostOf (xQ D (va_A ws H.size) post) mcc msc (va_A ws H.size)) := back_of (bytes := code') (maxL := nL') (ret := ret') (hM H.size) x_blind rfl rfl (by rw [hR]; exact hlev) (by rw [hR]; show 8 + (nL' + 11) + 64 * lev' ≤ 64 * lev; omega) (x_payws w f5) List.mem_cons_self (fun a' U hW => word_at hW (Or.inl (by first | rfl | simp [Cond.onTables, Cond.keeps, Cond.steady])) (w _ f4))
    obtain ⟨cellB, hcB, hoB, hclB⟩ := va_recv G.2.2.2.2.2.2.2.2.1.1 hP' r2 r1
    obtain ⟨kB, hkB, -⟩ := Vm.findClass_spec hclB
    obtain ⟨mk, methM, hnamed, hmethM, hstM, habM⟩ := Cond.instanceMethod_spec (w _ f3)
    obtain ⟨methM', cM, hmethM', -, -, -, -, -, -, hsigM⟩ := Cond.code_spec hnamed (w _ f5)
    cases hmethM.symm.trans hmethM'
    obtain ⟨ps, dk, kp, hps, hdk, hkp, hsuper, -, -, hnid⟩ := Cond.superclass_spec G.2.2.2.2.2.1 (w _ f1)
    have hsub : Γ.2.1.1.vm.isSubclass ps mk.cls = true := by
      have hmk : Γ.2.1.1.vm.findClass owner = some mk.cls := findClass_of_methodNamed hnamed
      rcases f2 with e | e
      · rw [e] at hps
        have : ps = mk.cls := Option.some.inj (hps.symm.trans hmk)
        rw [this]; simp [Vm.isSubclass, Vm.isSubclassAux]
      · obtain ⟨p2, d2, k2, g1, g2, g3, g4, -⟩ := Cond.superclass_spec hps (w _ e)
        cases g1.symm.trans hmk
        exact x_sub g2 g4
    intro S hT X
    obtain ⟨vm₁, X₁, hstep₁⟩ := X.invokespecialUp G.1 G.2.2.2.2.2.1 (w _ hlink) (w _ f0) hnamed hmethM hstM habM f6 hdk hnid hps hsuper hsub (a := b) (cell := cellB) (by rw [hT]; exact hcB)
      (fun z h => by rw [h] at hoB; cases hoB) hkB (g := F0 Γ.2.1.2.1 pc ls st) rfl (argsL := As) (rest := rest) (hn.trans (by
        have h2 := f7
        rw [show x.desc = (⟨owner, x.name, x.desc⟩ : MethodName).desc from rfl, hsigM] at h2
        exact (Option.some.inj h2).symm)) hst (by rw [G.2.1]; exact d)
    obtain ⟨v, B, X', hpost, hsteps⟩ := hK Γ.2.1.2.1 Γ.2.2.1 Γ.2.2.2.1 ⟨S.setVm vm₁, locs, cells, slots⟩ { (F0 Γ.2.1.2.1 pc ls st) with stack := rest } (.invokespecial idx) mk (Value.ref b :: As).toArray X₁ rfl (by show ls.size = _; exact hl.1) (by rw [G.2.1]; exact d) (lv_room hcat) (X₁.named hnamed)
      ⟨by rw [hR]; exact hroom.1, by rw [hR]; exact hroom.2, rfl, by show S.heap.size = _; rw [hT], by show va_P D xcl ws S.heap; rw [hT]; exact hP', G.2.2.2.2.2.2.2.2.1.next X₁.warmed (fun a ha hb => by show S.heap[a]? = _; rw [hT]; exact hS.2.1 a ha hb) (x_free (wl := []) (wr := []) (by simpa using hD') hS G.2.2.2.2.2.2.2.1), hD'.weaken (fun _ _ _ _ => trivial)⟩
    obtain ⟨U', l2, c2, s2⟩ := B
    obtain ⟨g', mk', t, L, e1, e2, hq, h1, hL, h2, h3⟩ := hpost
    dsimp only [Pt.U, Pt.locs, Pt.cells, Pt.slots] at X' e1 e2 h1 h2 h3 hsteps
    subst h1; subst h2; subst h3
    exact ⟨v, (S.setVm vm₁).calling g' mk' (Value.ref b :: As).toArray, t, U', L, hT, X', hL, e1, e2, hq, fun target h => hstep₁ _ (by rw [doInvoke_state]; exact hsteps.trans h)⟩) (fun v wc' hp => by simpa using kk v wc' hp)
  simpa using h
end KU
/-! what a kiln denotes; what a loaf does -/
abbrev TF1 : Type := (Nat → Int32) → Bool
abbrev CL1 : Type := List (Int32 × TF1)
/-- takes, mores, fees, cold -/
abbrev KD : Type := CL1 × CL1 × CL1 × Int32
/-- what a look (loaf, kind, taste, v, hour, oven) says of a letter -/
def lkO (e : Nat → Int32) (c : Int32) : Int32 := if c = 108 then e 0 else if c = 107 then e 1 else if c = 116 then e 2 else if c = 118 then e 3 else if c = 104 then e 4 else e 5
def agF (letter sign n : Int32) (e : Nat → Int32) : Bool := if sign = 60 then decide (lkO e letter < n) else if sign = 61 then decide (lkO e letter = n) else decide (n < lkO e letter)
def clSum (cs : CL1) (e : Nat → Int32) : Int32 := cs.foldl (fun acc c => if c.2 e = true then acc + c.1 else acc) 0
def kPart (κ : KD) (e : Nat → Int32) : Int32 := if κ.1.length = 0 then 50 else clSum κ.1 e
def kMore (κ : KD) (e : Nat → Int32) : Int32 := clSum κ.2.1 e
def kFee (κ : KD) (e : Nat → Int32) : Int32 := 1 + clSum κ.2.2.1 e
/-- a list object at al, with the elements xs -/
def alR (T : xT) (L : List Nat) (g : Nat → va_E) (al : Nat) (xs : List Nat) : Prop := al ∈ L ∧ ∃ (arr : Nat) (mc : Int32), g al = .inr (20, [.int mc, .ref arr, .int (nI xs.length)]) ∧ xs.length ≤ 100000 ∧ ((arr = T.2.2.2 ∧ xs = []) ∨ (arr ∈ L ∧ ∃ (cap : Nat) (f : Nat → Option Nat), g arr = .inl (T.1 8, cap, .inr (.inr (.inr (.inr f)))) ∧ xs.length ≤ cap ∧ cap ≤ 100000 ∧ 10 ≤ cap ∧ ∀ (i a : Nat), xs[i]? = some a → f i = some a))
/-- a test object at a that denotes φ, at most d deep -/
def tstR (T : xT) (L : List Nat) (g : Nat → va_E) : Nat → Nat → TF1 → Prop
  | 0, _, _ => False
  | d + 1, a, φ => a ∈ L ∧ ((∃ (b : Nat) (φ' : TF1), g a = .inr (18, [.ref b]) ∧ tstR T L g d b φ' ∧ ∀ e, φ e = !φ' e) ∨ (∃ letter sign n : Int32, g a = .inr (19, [.int letter, .int sign, .int n]) ∧ ∀ e, φ e = agF letter sign n e) ∨
    (∃ (isAll : Bool) (al : Nat) (xs : List Nat) (φs : List TF1), g a = .inr (17, [.int (if isAll then 1 else 0), .ref al]) ∧ alR T L g al xs ∧ xs.length = φs.length ∧ (∀ (i x : Nat) (ψ : TF1), xs[i]? = some x → φs[i]? = some ψ → tstR T L g d x ψ) ∧ ∀ e, φ e = if isAll then φs.all (fun ψ => ψ e) else φs.any (fun ψ => ψ e)))
/-- a list of clauses -/
def clR (T : xT) (L : List Nat) (g : Nat → va_E) (al : Nat) (cs : CL1) : Prop := ∃ xs : List Nat, alR T L g al xs ∧ xs.length = cs.length ∧ ∀ (i x : Nat) (c : Int32 × TF1), xs[i]? = some x → cs[i]? = some c → x ∈ L ∧ ∃ t : Nat, g x = .inr (16, [.int c.1, .ref t]) ∧ tstR T L g 20 t c.2
def kilR (T : xT) (ω : CS) (r : Option Nat) (κ : KD) : Prop := ∃ a : Nat, r = some a ∧ a ∈ ω.2.1 ∧ ∃ (tk mo fe : Nat) (many : Int32), ω.2.2 a = .inr (2, [.ref tk, .ref mo, .ref fe, .int many, .int κ.2.2.2]) ∧ clR T ω.2.1 ω.2.2 tk κ.1 ∧ clR T ω.2.1 ω.2.2 mo κ.2.1 ∧ clR T ω.2.1 ω.2.2 fe κ.2.2.1
def lTake (kd : Nat) (v held part bears : Int32) : Int32 := match kd with
  | 1 => held
  | 2 => 2 * (held * part / 100)
  | 3 => imin bears (held * part / 100)
  | 4 => held - v
  | 5 => 2 * (held * part / 100)
  | 6 => imin bears (held * part / 100) / 2
  | _ => held * part / 100
def lLeave (kd : Nat) (v told taste : Int32) : Int32 := match kd with
  | 1 => 0
  | 4 => 0
  | 5 => told + (if taste = 0 then v else 0)
  | 6 => told / 2
  | _ => told
