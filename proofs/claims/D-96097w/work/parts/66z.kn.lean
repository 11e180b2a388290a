/-! NullPointerException out of a native: the machine makes the object while the native's frame lies over the caller's -/
set_option maxRecDepth 100000
section VZ
variable {p : Program} {l : Launch} {e : Env} {R : Room} {s : State} {m₀ : MethodId} {args : Array Value} {below base : List Frame} {meth : Method} {c : Code} {T' W : State} {locs : List Loc} {cells slots : Nat}
/-- a constructor's frame over the machine's note -/
theorem vz_in (hO : Over W base below) (a : Addr) {m : MethodId} {mt : Method} {code : Code} (hm : W.vm.method? m = some mt) (hc : mt.code = some code) (hp : W.plainMethod m) :
    At ((W.setFrames (.thenThrow a :: base)).pushFrame (.java (pass0J m a 0 []))) m code below ∧ ((W.setFrames (.thenThrow a :: base)).pushFrame (.java (pass0J m a 0 []))).frames = .java (pass0J m a 0 []) :: .thenThrow a :: base := by
  obtain ⟨mid, hmid⟩ := hO.above
  have f : (W.setFrames (.thenThrow a :: base)).frames = .thenThrow a :: base := State.frames_setFrames _ hO.cur
  have fc := State.cur_lt_of_frames f
  refine ⟨At.pushOn _ ⟨hO.running, by simpa using hO.runnable, by simpa using hO.alone⟩ fc ⟨.thenThrow a :: mid, by rw [f, hmid]; rfl⟩ hm hc hp, ?_⟩
  rw [State.pushFrame, State.frames_setFrames _ fc, f]
/-- the constructor is done: the machine throws what it made -/
theorem vz_ret (hO : Over W base below) (hexec : p.tables.exec = Jvm.exec) (a : Addr) (x : Cell) {m : MethodId} {mt : Method} {code : Code} (hm : W.vm.method? m = some mt) (hc : mt.code = some code) (hp : W.plainMethod m) (hl : mt.locks = false) (h5 : decode code.code 4 = .ok (.return_, 1)) {target : State} (hrest : Steps p.tables e below ((W.setCell a x).setFrames (.throwing a :: base)) target) :
    Steps p.tables e below ((((W.setFrames (.thenThrow a :: base)).pushFrame (.java (pass0J m a 0 []))).setCell a x).setTop (pass0J m a 4 [])) target := by
  obtain ⟨hI, hf⟩ := vz_in hO a hm hc hp
  obtain ⟨mid, hmid⟩ := hO.above
  have hH : HeapOnly (fun u : State => u.setCell a x) := heapOnly_id.thenSetCell a x
  have hB : At (((W.setFrames (.thenThrow a :: base)).pushFrame (.java (pass0J m a 0 []))).setCell a x) m code below := hH.at_ hI
  have hfB : (((W.setFrames (.thenThrow a :: base)).pushFrame (.java (pass0J m a 0 []))).setCell a x).frames = .java (pass0J m a 0 []) :: .thenThrow a :: base := hf
  have hcB := State.cur_lt_of_frames hfB
  jvm_step hB [hexec, h5, return_.wp_sem]
  intro acts2
  rw [ret_to (t := ((W.setFrames (.thenThrow a :: base)).pushFrame (.java (pass0J m a 0 []))).setCell a x) (f := pass0J m a 4 []) (f₀ := pass0J m a 0 []) (below := .thenThrow a :: base) (fs := .thenThrow a :: base) (meth := mt) hfB hm hl rfl rfl rfl acts2]
  have hf1 : ((((W.setFrames (.thenThrow a :: base)).pushFrame (.java (pass0J m a 0 []))).setCell a x).setFrames (.thenThrow a :: base)).frames = .thenThrow a :: base := State.frames_setFrames _ hcB
  refine Steps.head ⟨hB.running, by simpa using hB.runnable, by simpa using hB.alone⟩ ⟨.thenThrow a :: mid, by rw [hf1, hmid]; rfl, by simp, by simp⟩ ?_
  rw [stepThread_thenThrow hf1]
  have e9 : (((((W.setFrames (.thenThrow a :: base)).pushFrame (.java (pass0J m a 0 []))).setCell a x).setFrames (.thenThrow a :: base)).setFrames (.throwing a :: base)) = (W.setCell a x).setFrames (.throwing a :: base) := by
    rw [State.setFrames_setFrames, State.pushFrame, hH.setFrames, hH.setFrames, State.setFrames_setFrames, State.setFrames_setFrames]
  show Steps p.tables e below (((((W.setFrames (.thenThrow a :: base)).pushFrame (.java (pass0J m a 0 []))).setCell a x).setFrames (.thenThrow a :: base)).setFrames (.throwing a :: base)) target
  rw [e9]
  exact hrest
set_option maxHeartbeats 1000000 in
/-- the machine's NullPointerException while a native runs -/
theorem vz_npe (X : Stand p l e R s m₀ args below meth c T' locs cells slots) (hexec : p.tables.exec = Jvm.exec) (htr : e.platform.stackTraces = false) {g : JFrame} (hsize : g.locals.size = c.maxLocals) {nf : NFrame} (hnf : nf.words = 0)
    (T : ThrowableC) (L : T.Links e.platform s) (Z : Init0T) (LZ : Z.Laid T.toThrowableT) (N : NpeC) (LN : N.Links T e.platform s)
    (P1 : PassC) (L1 : P1.Links0 e.platform s) (Ps : List PassC) (hL : ∀ P, P ∈ Ps → P.Links0 e.platform s) (hlink1 : P1.sup = firstOf (Z.m T.toThrowableT) (Ps.map (·.toPassT))) (hlink : PassesOn (Z.m T.toThrowableT) (Ps.map (·.toPassT)))
    {kX : Class} (hfound : s.vm.findClass "java/lang/NullPointerException" = some P1.m.cls) (hk : s.vm.classes[P1.m.cls]? = some kX) (hinit : kX.init = .initialized) (hord : kX.kind = .ordinary) (hctor : kX.findMethod "<init>" "()V" = some P1.m.idx)
    {u0 sen : RefV} {cellS : Cell}
    (hsel0 : selectMethod e.platform s.vm P1.m.cls T.fill0 = .method T.fill0) (hselF : selectMethod e.platform s.vm P1.m.cls T.fill = .method N.fill)
    (hcellS : T'.heap[T.aS]? = some cellS) (hknownS : cellS.vm ≠ .unknown) (hvU : cellS.slots[T.fUnassigned.slot]? = some u0.v) (hvSen : cellS.slots[T.fSentinel.slot]? = some sen.v)
    (hv0 : (freshCell P1.m.cls kX).slots[N.fState.slot]? = some (.int 0)) (hneC : T.fCause.slot ≠ N.fState.slot) (hneSt : T.fStack.slot ≠ N.fState.slot) (hneP : T.fSupp.slot ≠ N.fState.slot)
    (htC : Takes s (freshCell P1.m.cls kX) T.fCause (.ref T'.heap.size)) (htS : Takes s (freshCell P1.m.cls kX) T.fStack u0.v) (htP : Takes s (freshCell P1.m.cls kX) T.fSupp sen.v) (ht1 : Takes s (freshCell P1.m.cls kX) N.fState (.int 1)) (hobjLocals : T.codeObj.maxLocals = 1)
    (hskip : SkipFacts T e.platform s (fun u => u) u0 ((npeCell N.toNpeT (preparedCellV T.toThrowableT (freshCell P1.m.cls kX) T'.heap.size u0 sen) T'.cur).withEntry T'.cur))
    (hRframes : Ps.length + 6 < R.frames) (hRlocals : 2 * g.monitorRoom + (g.stack.map fun v => v.category).sum + 10240 ≤ R.locals) (hshort : 13 * Ps.length + 68 ≤ 10240)
    (hRcells : cells + 1 ≤ R.cells) (hRslots : slots + kX.instanceTypes.size ≤ R.slots) :
    ∃ vm', Stand p l e R s m₀ args below meth c (((T'.pushCell (freshCell P1.m.cls kX)).setVm vm').setCell T'.heap.size (npeBareV T.toThrowableT N.toNpeT (freshCell P1.m.cls kX) T'.heap.size u0 sen))
        (locs ++ [⟨T'.heap.size, T.fCause.slot⟩, ⟨T'.heap.size, T.fStack.slot⟩, ⟨T'.heap.size, T.fSupp.slot⟩, ⟨T'.heap.size, N.fState.slot⟩, ⟨T'.heap.size, T.fStack.slot⟩]) (cells + 1) (slots + (freshCell P1.m.cls kX).slots.size) ∧
      Steps p.tables e below (T'.setFrames (.throwNew "java/lang/NullPointerException" none none :: .native nf :: .java g :: below)) ((((T'.pushCell (freshCell P1.m.cls kX)).setVm vm').setCell T'.heap.size (npeBareV T.toThrowableT N.toNpeT (freshCell P1.m.cls kX) T'.heap.size u0 sen)).setFrames (.throwing T'.heap.size :: .native nf :: .java g :: below)) := by
  have hO := X.overNative g nf
  obtain ⟨hbeyond, hfreeW⟩ := X.vmMayThrowNative hsize hnf (.throwNew "java/lang/NullPointerException" none none) (fun f hf => by cases hf) rfl hRlocals
  have hF := X.framesAboveNative g nf (n := Ps.length + 5) (by omega)
  have hK := X.stackAboveNative hsize hnf (K := 13 * Ps.length + 68) (by omega)
  have hhot := Launch.admits_hotImplicitExceptions X.admits
  have hroomC := X.cellsAbove hRcells
  have hroomS := X.slotsAbove hRslots
  have hW := X.warmed
  generalize (Frame.native nf :: .java g :: below) = base at hO hbeyond hfreeW hF hK ⊢
  obtain ⟨kX', hk', he'⟩ := hW.alike.2.2 _ _ hk
  have hty : kX'.instanceTypes = kX.instanceTypes := by rw [he']
  have hfresh : freshCell P1.m.cls kX' = freshCell P1.m.cls kX := by
    show ({ cls := P1.m.cls, slots := kX'.instanceTypes.map defaultValue, vm := .none } : Cell) = _
    rw [hty]
  have hOW : Over (T'.pushCell (freshCell P1.m.cls kX)) base below := (Over.pushCell_iff _).mpr hO
  have hltS : T.aS < T'.heap.size := (Array.getElem?_eq_some_iff.mp hcellS).1
  have w5 : (T'.pushCell (freshCell P1.m.cls kX)).heap[T.aS]? = some cellS := by
    rw [← hcellS]
    simp [State.pushCell, Array.getElem?_push, Nat.ne_of_lt hltS]
  have hmW : (T'.pushCell (freshCell P1.m.cls kX)).vm.method? P1.m = some P1.meth := hW.methodAt L1.method
  have hpW : (T'.pushCell (freshCell P1.m.cls kX)).plainMethod P1.m := hW.plainAt (U := T'.pushCell (freshCell P1.m.cls kX)) L1.plain
  obtain ⟨hI, hfI⟩ := vz_in hOW T'.heap.size hmW L1.code hpW
  obtain ⟨vm1, hW1, st1⟩ := Steps.invokeInitCold (tb := p.tables) (e := e) (s₀ := s) (U := (((T'.pushCell (freshCell P1.m.cls kX)).setFrames (.thenThrow T'.heap.size :: base)).pushFrame (.java (pass0J P1.m T'.heap.size 0 [])))) (f := pass0J P1.m T'.heap.size 1 [.ref T'.heap.size]) (args := []) (rest := []) (a := T'.heap.size) hI hexec L1.at1 hW L1.links L1.right L1.notHandle L1.cls L1.file L1.pool
    L1.supClass L1.supMethod L1.supName L1.supStatic L1.supAbstract L1.supFound L1.supParams.symm rfl
  have hI1 := hI.setVm (hW.alike.symm.trans hW1.alike)
  have hlim : e.platform.stackLimits ((((T'.pushCell (freshCell P1.m.cls kX)).setFrames (.thenThrow T'.heap.size :: base)).pushFrame (.java (pass0J P1.m T'.heap.size 0 []))).setVm vm1).me = e.platform.stackLimits T'.me := by
    show e.platform.stackLimits (((T'.pushCell (freshCell P1.m.cls kX)).setFrames (.thenThrow T'.heap.size :: base)).pushFrame (.java (pass0J P1.m T'.heap.size 0 []))).me = _
    rw [State.stackLimits_pushFrame, State.stackLimits_setFrames]
    rfl
  have hfI1 : ((((T'.pushCell (freshCell P1.m.cls kX)).setFrames (.thenThrow T'.heap.size :: base)).pushFrame (.java (pass0J P1.m T'.heap.size 0 []))).setVm vm1).frames = .java (pass0J P1.m T'.heap.size 0 []) :: .thenThrow T'.heap.size :: base := hfI
  obtain ⟨vm2, hW2, st2⟩ := Steps.initNpe0ColdByV p (e := e) (V := (((T'.pushCell (freshCell P1.m.cls kX)).setFrames (.thenThrow T'.heap.size :: base)).pushFrame (.java (pass0J P1.m T'.heap.size 0 []))).setVm vm1) (g := pass0J P1.m T'.heap.size 1 []) (c := P1.code) (self := T'.heap.size) hI1 hexec T L Z LZ N LN hW1 (t := T'.cur) rfl
    (Nn := fun u => u) heapOnly_id (fun _ _ => rfl) (fun _ => rfl) (fun u x y => setCell_twice _ _ _ _) (fun _ => Nat.le_refl _) (cN := ((npeCell N.toNpeT (preparedCellV T.toThrowableT (freshCell P1.m.cls kX) T'.heap.size u0 sen) T'.cur).withEntry T'.cur))
    (State.heap_pushCell_size T' (freshCell P1.m.cls kX)) (by intro k hk'; cases hk') (by intro hk'; cases hk') rfl hk hsel0 w5 (Nat.ne_of_lt hltS) hknownS hvU hv0 hneC hneSt hneP htS ht1 (fun _ hu => hu) (fun _ hu => hu) rfl rfl rfl (by simp [npeCell, preparedCellV, Cell.setSlot, Cell.withEntry])
    hskip (fun _ _ hA hW _ hroom _ hrest => L.nativeOff p htr hA hW hroom hrest) hselF hvSen htC htP hobjLocals Ps hL hlink (ig := .invokespecial P1.index) (len := 3) [] hlim
    (by rw [hfI1]; simp only [List.length_cons]; omega)
    (by rw [hfI1, List.tail_cons, stackUse_java, stackUse_light _ _ (fun f hf => by cases hf) rfl]
        show (stackUse base).2 + (1 + 11 + 2 * 0 + operandWords []) + 13 * Ps.length + 55 ≤ _
        simp only [operandWords, List.foldl_nil]
        omega)
    L1.at1
  rw [npeBareV_eq T.toThrowableT N.toNpeT T'.heap.size u0 sen T'.cur rfl rfl] at st2
  have X2 := (X.pushed (freshCell P1.m.cls kX)).noted hW2
  have hsz : ((T'.pushCell (freshCell P1.m.cls kX)).setVm vm2).heap.size = T'.heap.size + 1 := State.heap_size_pushCell _ _
  have ha : T'.heap.size < ((T'.pushCell (freshCell P1.m.cls kX)).setVm vm2).heap.size := by rw [hsz]; omega
  have hcell : ((T'.pushCell (freshCell P1.m.cls kX)).setVm vm2).heap[T'.heap.size]? = some (freshCell P1.m.cls kX) := State.heap_pushCell_size T' (freshCell P1.m.cls kX)
  have X3 := ((((X2.stored hcell T.fCause.slot (.ref T'.heap.size)).storedAgain ha T.fStack.slot u0.v).storedAgain ha T.fSupp.slot sen.v).storedAgain ha N.fState.slot (.int 1)).storedAgain ha T.fStack.slot u0.v
  simp only [List.append_assoc, List.cons_append, List.nil_append] at X3
  refine ⟨vm2, X3, ?_⟩
  obtain ⟨mid, hmid⟩ := hO.above
  have hf0 : (T'.setFrames (.throwNew "java/lang/NullPointerException" none none :: base)).frames = .throwNew "java/lang/NullPointerException" none none :: base := State.frames_setFrames _ hO.cur
  refine Steps.head ⟨hO.running, by simpa using hO.runnable, by simpa using hO.alone⟩ ⟨.throwNew "java/lang/NullPointerException" none none :: mid, by rw [hf0, hmid]; rfl, by simp, by simp⟩ ?_
  rw [stepThread_throwNew hf0, stepThrowNew_plain (s := T'.setFrames (.throwNew "java/lang/NullPointerException" none none :: base)) (c := P1.m.cls) (k := kX') (i := P1.m.idx) (by decide) (by decide) (by rw [← hfound]; exact hW.alike.findClass _) hk' (by rw [he']; exact hinit) (by rw [he']; exact hord) hhot hbeyond hfreeW (by rw [he']; exact hctor) hroomC (by rw [hty]; exact hroomS), hfresh]
  have eN : ((T'.setFrames (.throwNew "java/lang/NullPointerException" none none :: base)).pushCell (freshCell P1.m.cls kX)).setFrames (.thenThrow ((T'.setFrames (.throwNew "java/lang/NullPointerException" none none :: base)).heap.size) :: base) = (T'.pushCell (freshCell P1.m.cls kX)).setFrames (.thenThrow T'.heap.size :: base) := by
    rw [State.pushCell_setFrames, State.setFrames_setFrames]
    rfl
  rw [eN]
  have hfN : ((T'.pushCell (freshCell P1.m.cls kX)).setFrames (.thenThrow T'.heap.size :: base)).frames = .thenThrow T'.heap.size :: base := State.frames_setFrames _ hOW.cur
  have hlimN : e.platform.stackLimits ((T'.pushCell (freshCell P1.m.cls kX)).setFrames (.thenThrow T'.heap.size :: base)).me = e.platform.stackLimits T'.me := by rw [State.stackLimits_setFrames]; rfl
  have hroom := roomAbove (pl := e.platform) (u := (T'.pushCell (freshCell P1.m.cls kX)).setFrames (.thenThrow T'.heap.size :: base)) (vars := 1) (pushed := [.thenThrow T'.heap.size]) (base := base) (free := 13 * Ps.length + 68) (lim := e.platform.stackLimits T'.me) hfN hlimN
    (by simp only [List.length_cons, List.length_nil]; omega) (by omega) (by rw [stackUse_light _ _ (fun f hf => by cases hf) rfl, stackUse_nil]; show 0 + 1 + 11 ≤ _; omega)
  show Steps p.tables e below (doInvoke e ((T'.pushCell (freshCell P1.m.cls kX)).setFrames (.thenThrow T'.heap.size :: base)) [] P1.m #[.ref T'.heap.size]).1 _
  rw [(doInvoke_java (s := (T'.pushCell (freshCell P1.m.cls kX)).setFrames (.thenThrow T'.heap.size :: base)) (e := e) (acts := []) (args := #[.ref T'.heap.size]) (meth := P1.meth) (code := P1.code) hmW L1.code L1.locks (by rw [L1.locals]; exact hroom)).1, L1.locals]
  show Steps p.tables e below (((T'.pushCell (freshCell P1.m.cls kX)).setFrames (.thenThrow T'.heap.size :: base)).pushFrame (.java (pass0J P1.m T'.heap.size 0 []))) _
  rw [← State.setTop_self (s := (((T'.pushCell (freshCell P1.m.cls kX)).setFrames (.thenThrow T'.heap.size :: base)).pushFrame (.java (pass0J P1.m T'.heap.size 0 [])))) (State.topJava?_of_frames hfI)]
  jvm_step hI [hexec, L1.at0, Value.isRef]
  refine st1 _ ?_
  show Steps p.tables e below (doInvoke e (((((T'.pushCell (freshCell P1.m.cls kX)).setFrames (.thenThrow T'.heap.size :: base)).pushFrame (.java (pass0J P1.m T'.heap.size 0 []))).setVm vm1).setTop (pass0J P1.m T'.heap.size 1 [])) [] P1.sup #[.ref T'.heap.size]).1 _
  rw [hlink1]
  refine st2 _ ?_
  exact vz_ret (W := (T'.pushCell (freshCell P1.m.cls kX)).setVm vm2) (hOW.setVm (hW.alike.symm.trans hW2.alike)) hexec T'.heap.size _ (hW2.methodAt L1.method) L1.code (hW2.plainAt (U := (T'.pushCell (freshCell P1.m.cls kX)).setVm vm2) L1.plain) L1.locks L1.at4 (Steps.refl _)
end VZ
set_option maxHeartbeats 1000000 in
/-- a native's frame lies over the caller's: the machine throws from there -/
theorem vx_npeAtNat {p : Program} {l : Launch} {e : Env} {R : Room} {s : State} {m₀ : MethodId} {args : Array Value} {below : List Frame} {meth : Method} {c : Code} {W : State} {locs : List Loc} {cells slots : Nat}
    (X : Stand p l e R s m₀ args below meth c W locs cells slots) (hexec : p.tables.exec = Jvm.exec) (htr : e.platform.stackTraces = false) {n : Nat}
    (h : ∀ a ∈ Bundle.npeArmAtoms n, a.before args s = true)
    (hlocs : ∀ x ∈ locs, ∀ cell, s.heap[x.base]? = some cell → cell.vm.isStatics = false)
    {g : JFrame} (hsize : g.locals.size = c.maxLocals) {nf : NFrame} (hnf : nf.words = 0)
    (hRframes : 8 < R.frames) (hRlocals : 2 * g.monitorRoom + (g.stack.map fun v => v.category).sum + 10240 ≤ R.locals)
    (hRcells : cells + 1 ≤ R.cells) (hRslots : slots + n ≤ R.slots) :
    ∃ (S : State) (q : Addr) (ce : Cell), Steps p.tables e below (W.setFrames (.throwNew "java/lang/NullPointerException" none none :: .native nf :: .java g :: below)) (S.setFrames (.throwing q :: .native nf :: .java g :: below)) ∧
      Stand p l e R s m₀ args below meth c S locs (cells + 1) (slots + n) ∧ S.heap[q]? = some ce ∧ s.vm.findClass "java/lang/NullPointerException" = some ce.cls ∧ ce.vm = .none := by
  have howns : e.platform.frameOwnsMonitors = true := by rw [X.admits.platform]
  have hfin : e.platform.finalization = false := by rw [X.admits.platform]
  have hpl : e.platform.magicAccessors = ({} : Platform).magicAccessors := by rw [X.admits.platform]
  have hpl2 : e.platform.arrayCloneIsPublic = true := by rw [X.admits.platform]
  have a' : ∀ x, x ∈ Bundle.npeArmAtoms n → x.holds args s none s [] = true := fun x hx => h x hx
  obtain ⟨T, Z, L, LZ, Y⟩ := ThrowableC.of_atoms (args := args) howns hfin hpl (fun x hx => h x (by simp [Bundle.npeArmAtoms, hx]))
  obtain ⟨N, LN, hcN, hnNF, hordN, hffS⟩ := NpeC.of_atoms (args := args) hpl hpl2 L Y (fun x hx => h x (by simp [Bundle.npeArmAtoms, hx]))
  obtain ⟨P1, L1, hP1m, hP1s⟩ := PassC.of_atoms (args := args) (s := s) hpl (X := Bundle.nN) (Y := Bundle.rN) (by decide) (by decide) LibCode.NullPointerException.Init0.at_0 LibCode.NullPointerException.Init0.at_1 LibCode.NullPointerException.Init0.at_4 (fun x hx => h x (by simp [Bundle.npeArmAtoms, hx]))
  obtain ⟨PR, LR, hPRm, hPRs⟩ := PassC.of_atoms (args := args) (s := s) hpl (X := Bundle.rN) (Y := Bundle.eN) (by decide) (by decide) LibCode.RuntimeException.Init0.at_0 LibCode.RuntimeException.Init0.at_1 LibCode.RuntimeException.Init0.at_4 (fun x hx => h x (by simp [Bundle.npeArmAtoms, hx]))
  obtain ⟨PE, LEx, hPEm, hPEs⟩ := PassC.of_atoms (args := args) (s := s) hpl (X := Bundle.eN) (Y := Bundle.tN) (by decide) (by decide) LibCode.Exception.Init0.at_0 LibCode.Exception.Init0.at_1 LibCode.Exception.Init0.at_4 (fun x hx => h x (by simp [Bundle.npeArmAtoms, hx]))
  have hfound : s.vm.findClass Bundle.nN = some P1.m.cls := findClass_of_methodNamed hP1m
  have ecls : N.cN = P1.m.cls := Option.some.inj (hcN.symm.trans hfound)
  have hk : s.vm.classes[P1.m.cls]? = some N.kN := by rw [← ecls]; exact LN.cls
  have hinit := Cond.initialized_spec hfound hk (a' (.initialized Bundle.nN) (by simp [Bundle.npeArmAtoms]))
  have hctor : N.kN.findMethod "<init>" "()V" = some P1.m.idx := findMethod_of_methodNamed hP1m hk
  obtain ⟨c1, k1, hc1, hk1, -, -, -, hn⟩ := Cond.instantiable_spec (a' (.instantiable Bundle.nN n) (by simp [Bundle.npeArmAtoms]))
  cases Option.some.inj (hc1.symm.trans hfound)
  cases Option.some.inj (hk1.symm.trans hk)
  have hfsz : (freshCell P1.m.cls N.kN).slots.size = n := by simp [hn]
  have hlink1 : P1.sup = PR.m := Option.some.inj (hP1s.symm.trans hPRm)
  have hlinkR : PR.sup = PE.m := Option.some.inj (hPRs.symm.trans hPEm)
  have hlinkE : PE.sup = Z.m T.toThrowableT := Option.some.inj (hPEs.symm.trans Y.init0)
  have hLs : ∀ P, P ∈ [PR, PE] → P.Links0 e.platform s := fun P hP => by
    simp only [List.mem_cons, List.not_mem_nil, or_false] at hP
    rcases hP with rfl | rfl
    · exact LR
    · exact LEx
  have hsel0 : selectMethod e.platform s.vm P1.m.cls T.fill0 = .method T.fill0 := by
    obtain ⟨c2, r2, m2, q1, q2, q3, q4, -⟩ := Cond.selects_spec (a' (.selects Bundle.nN Bundle.tFill0 Bundle.tFill0) (by simp [Bundle.npeArmAtoms]))
    cases Option.some.inj (q1.symm.trans hfound)
    cases Option.some.inj (q2.symm.trans (State.methodFound?_of_named Y.fill0 (by decide)))
    cases Option.some.inj (q3.symm.trans Y.fill0)
    rw [Launch.admits_selectMethod X.admits]; exact q4
  have hselF : selectMethod e.platform s.vm P1.m.cls T.fill = .method N.fill := by
    obtain ⟨c2, r2, m2, q1, q2, q3, q4, -⟩ := Cond.selects_spec (a' (.selects Bundle.nN Bundle.tFill Bundle.nFill) (by simp [Bundle.npeArmAtoms]))
    cases Option.some.inj (q1.symm.trans hfound)
    cases Option.some.inj (q2.symm.trans (State.methodFound?_of_named Y.fill (by decide)))
    cases Option.some.inj (q3.symm.trans hnNF)
    rw [Launch.admits_selectMethod X.admits]; exact q4
  obtain ⟨cellS0, hcS0, hiss⟩ := Y.statics
  obtain ⟨u0, hu0⟩ := Cond.staticRefV Y.unassigned L.unassignedStatic L.statics hcS0 hiss (a' (.isRef (.static Bundle.tN "UNASSIGNED_STACK" Bundle.steD)) (by simp [Bundle.npeArmAtoms]))
  obtain ⟨sen, hsen⟩ := Cond.staticRefV Y.sentinel L.sentinelStatic L.statics hcS0 hiss (a' (.isRef (.static Bundle.tN "SUPPRESSED_SENTINEL" Bundle.listD)) (by simp [Bundle.npeArmAtoms]))
  obtain ⟨ci198, i198, fB, hk198, hg198, ha198, hsB, -, hnB, htB, hffB⟩ := Cond.ownField (t := .object "java/lang/Object") Y.found L.cls (by decide +kernel) (a' (.fieldLink Bundle.tN 198 Bundle.tN "backtrace" Bundle.objD) (by simp [Bundle.npeArmAtoms])) (a' (.lays Bundle.tN Bundle.tN "backtrace" Bundle.objD) (by simp [Bundle.npeArmAtoms])) e.platform hpl
  obtain ⟨cellS, hcS', heS, -, hkeep⟩ := X.same.2.2.2.2.2 T.aS cellS0 hcS0
  have hcellS : W.heap[T.aS]? = some cellS := hcS'
  have hout' : ∀ i, (⟨T.aS, i⟩ : Loc) ∉ locs := fun i hmem => by
    have := hlocs _ hmem cellS0 hcS0
    rw [hiss] at this; cases this
  have hknownS : cellS.vm ≠ .unknown := by
    rw [heS]; intro hu
    rw [show cellS0.vm = .unknown from hu] at hiss
    cases hiss
  have hvU : cellS.slots[T.fUnassigned.slot]? = some u0.v := by rw [hkeep _ (hout' _)]; exact hu0
  have hvSen : cellS.slots[T.fSentinel.slot]? = some sen.v := by rw [hkeep _ (hout' _)]; exact hsen
  obtain ⟨tyC, dC, hdC, hdnC⟩ := Cond.laysAt hfound hk Y.cause (a' (.lays Bundle.nN Bundle.tN "cause" "Ljava/lang/Throwable;") (by simp [Bundle.npeArmAtoms]))
  obtain ⟨tyS, dS, hdS, hdnS⟩ := Cond.laysAt hfound hk Y.stack (a' (.lays Bundle.nN Bundle.tN "stackTrace" Bundle.steD) (by simp [Bundle.npeArmAtoms]))
  obtain ⟨tyP, dP, hdP, hdnP⟩ := Cond.laysAt hfound hk Y.supp (a' (.lays Bundle.nN Bundle.tN "suppressedExceptions" Bundle.listD) (by simp [Bundle.npeArmAtoms]))
  obtain ⟨tyX, dX, hdX, hdnX⟩ := Cond.laysAt hfound hk hffS (a' (.lays Bundle.nN Bundle.nN "extendedMessageState" "I") (by simp [Bundle.npeArmAtoms, Bundle.npeAtoms]))
  obtain ⟨hnX, htX⟩ := State.fieldFound?_type hffS (t := .int) (by decide +kernel)
  have xC := Cond.laysApart hdC hdX hdnC hdnX (by rw [hnX, Y.causeName]; decide)
  have xS := Cond.laysApart hdS hdX hdnS hdnX (by rw [hnX, Y.stackName]; decide)
  have xP := Cond.laysApart hdP hdX hdnP hdnX (by rw [hnX, Y.suppName]; decide)
  have hv0 : (freshCell P1.m.cls N.kN).slots[N.fState.slot]? = some (.int 0) := by
    have := fresh_default (c := P1.m.cls) tyX
    rw [htX] at this; exact this
  obtain ⟨tyB, dB, hdB, hdnB⟩ := Cond.laysAt hfound hk hffB (a' (.lays Bundle.nN Bundle.tN "backtrace" Bundle.objD) (by simp [Bundle.npeArmAtoms]))
  have bC := Cond.laysApart hdB hdC hdnB hdnC (by rw [hnB, Y.causeName]; decide)
  have bS := Cond.laysApart hdB hdS hdnB hdnS (by rw [hnB, Y.stackName]; decide)
  have bP := Cond.laysApart hdB hdP hdnB hdnP (by rw [hnB, Y.suppName]; decide)
  have bX := Cond.laysApart hdB hdX hdnB hdnX (by rw [hnB, hnX]; decide)
  have hbk : ((npeCell N.toNpeT (preparedCellV T.toThrowableT (freshCell P1.m.cls N.kN) W.heap.size u0 sen) W.cur).withEntry W.cur).slots[fB.slot]? = some .null := by
    have := fresh_default (c := P1.m.cls) tyB
    rw [htB] at this
    simpa [npeCell, preparedCellV, Cell.setSlot, Cell.withEntry, Array.getElem?_setIfInBounds, bC, bS, bP, bX, bC.symm, bS.symm, bP.symm, bX.symm, defaultValue] using this
  have tkC := Takes.of_laid (v := .ref W.heap.size) hk hordN tyC (by rw [Y.causeType]; rfl)
  have tkS := Takes.of_laid (v := u0.v) hk hordN tyS (by rw [Y.stackType]; exact fits_refV_array _ u0)
  have tkP := Takes.of_laid (v := sen.v) hk hordN tyP (by rw [Y.suppType]; exact fits_refV_object _ sen)
  have tkX := Takes.of_laid (v := .int 1) hk hordN tyX (by rw [htX]; rfl)
  have hskip : SkipFacts T e.platform s (fun u => u) u0 ((npeCell N.toNpeT (preparedCellV T.toThrowableT (freshCell P1.m.cls N.kN) W.heap.size u0 sen) W.cur).withEntry W.cur) := ⟨{ ci198 := ci198, i198 := i198, fBack := fB }, ⟨hk198, hg198, ha198, hsB⟩, hbk, fun _ _ => rfl⟩
  obtain ⟨vm', X3, st⟩ := vz_npe X hexec htr hsize hnf T L Z LZ N LN P1 L1 [PR, PE] hLs hlink1 ⟨hlinkR, hlinkE, trivial⟩ hfound hk hinit hordN hctor hsel0 hselF hcellS hknownS hvU hvSen
    hv0 xC xS xP tkC tkS tkP tkX Y.objLocals hskip (by simpa using hRframes) hRlocals (by simp) hRcells (by rw [hn]; exact hRslots)
  have hlt : W.heap.size < ((W.pushCell (freshCell P1.m.cls N.kN)).setVm vm').heap.size := by
    show W.heap.size < (W.pushCell (freshCell P1.m.cls N.kN)).heap.size
    rw [State.heap_size_pushCell]; omega
  rw [hfsz] at X3
  refine ⟨_, W.heap.size, _, st, X3.forget (fun y hy => ?_), heapAt_setCell_self _ hlt, hfound, rfl⟩
  simp only [List.mem_cons, List.not_mem_nil, or_false] at hy
  have hge : s.heap.size ≤ W.heap.size := X.same.2.1
  rcases hy with rfl | rfl | rfl | rfl | rfl <;> exact hge
section KAN
variable {p : Program} {l : Launch} {e : Env} {R : Room} {s : State} {m : MethodId} {args : Array Value} {below : List Frame} {meth : Method} {c : Code} {H : Heap} {locs : List Loc} {cells slots : Nat} {Q : State → Prop}
variable {cc : ByteArray} {pc : Nat} {ls : Array Slot} {rest : List Value}
/-- System.arraycopy of no array -/
theorem vx_acN (hexec : p.tables.exec = Jvm.exec) (hb : c.code = cc) (hl : l.stackTraces = false) {own : String} {index nb : Nat} {A : Nat → Prop}
    (hown : s.vm.findClass own = some m.cls) (hlink : (Cond.methodLink own index arraycopyName).before args s = true) (hnat : (Cond.native arraycopyName).before args s = true) (hstat : (Cond.static arraycopyName).before args s = true) (hinit : (Cond.initialized "java/lang/System").before args s = true)
    (hat : ∀ w ∈ vx_atN nb, w.before args s = true) (hgood : ∀ w ∈ vx_atN nb, vx_ot w = true)
    (hU : vx_Zq Bundle.tN "UNASSIGNED_STACK" Bundle.steD A s s.heap) (hN : vx_Zq Bundle.tN "SUPPRESSED_SENTINEL" Bundle.listD A s s.heap) (hS : va_S A s.heap H locs) (hsize : ls.size = c.maxLocals)
    (hRframes : 8 < R.frames) (hRlocals : (rest.map fun v => v.category).sum + 10240 ≤ R.locals) (hRcells : cells + 1 ≤ R.cells) (hRslots : slots + nb ≤ R.slots)
    {n sp dp : Int32} {vs vd : Value} (hvs : vs.isRef = true) (hvd : vd.isRef = true) (hdg : decode cc pc = .ok (.invokestatic index, 3))
    (hno : vs = .null ∨ ((∃ a, vs = .ref a) ∧ vd = .null))
    (k : ∀ (H1 : Heap) (q9 : Addr) (ce : Cell), H.size ≤ H1.size → (∀ q : Nat, q < H.size → H1[q]? = H[q]?) → va_S A s.heap H1 locs → H1[q9]? = some ce → ce.vm = .none → s.vm.findClass "java/lang/NullPointerException" = some ce.cls → vx_W p l e R s m args below meth c H1 locs (cells + 1) (slots + nb) Q (F0 m pc ls rest) q9) :
    W p l e R s m args below meth c H locs cells slots Q (F0 m pc ls (.int n :: .int dp :: vd :: .int sp :: vs :: rest)) := by
  intro T hT X
  have htr : e.platform.stackTraces = false := (show e.platform.stackTraces = l.stackTraces by rw [X.admits.platform]).trans hl
  obtain ⟨r, kS, methS, hnS, hmS, hkS, N⟩ := NativeOf.of_static hnat hstat (ps := [.object "java/lang/Object", .int, .object "java/lang/Object", .int, .int]) (ret := none) (by decide +kernel)
  have hinitS : kS.init = .initialized := Cond.initialized_spec (findClass_of_methodNamed hnS) hkS hinit
  have hdg' : decode c.code pc = .ok (.invokestatic index, 3) := by rw [hb]; exact hdg
  obtain ⟨vm', X', step⟩ := X.invokestatic hexec hown hlink hnS hmS N.static hkS hinitS (by decide) (g := F0 m pc ls (.int n :: .int dp :: vd :: .int sp :: vs :: rest)) rfl (argsL := [vs, .int sp, vd, .int dp, .int n]) (rest := rest) (by rw [N.sig]; rfl) rfl hdg'
  have Y := vx_rebase X' (R' := { frames := R.frames, locals := R.locals, cells := 1, slots := nb }) (Nat.le_refl _) (Nat.le_refl _) hRcells hRslots
  have hTh : (T.setVm vm').heap = H := hT
  obtain ⟨T1, hT1⟩ : ∃ z, z = T.setVm vm' := ⟨_, rfl⟩
  rw [← hT1] at X' Y step hTh
  have hhp : ((T1.setVm s.vm).setFrames (.invoking m args :: below)).heap = H := hTh
  have hW0 : s.WarmedH ((T1.setVm s.vm).setFrames (.invoking m args :: below)).vm := State.WarmedH.refl s
  have hat' : ∀ w ∈ vx_atN nb, w.before args ((T1.setVm s.vm).setFrames (.invoking m args :: below)) = true := fun w hw => vx_ot_at hW0 rfl (hgood w hw) (hat w hw)
  have hU' : vx_Zq Bundle.tN "UNASSIGNED_STACK" Bundle.steD A ((T1.setVm s.vm).setFrames (.invoking m args :: below)) ((T1.setVm s.vm).setFrames (.invoking m args :: below)).heap := by rw [hhp]; exact vx_Zq.moved hW0.alike (hU.kept hS.2.1)
  have hN' : vx_Zq Bundle.tN "SUPPRESSED_SENTINEL" Bundle.listD A ((T1.setVm s.vm).setFrames (.invoking m args :: below)) ((T1.setVm s.vm).setFrames (.invoking m args :: below)).heap := by rw [hhp]; exact vx_Zq.moved hW0.alike (hN.kept hS.2.1)
  obtain ⟨S, q, ce, stv, Z, hce, hcl', hv⟩ := vx_npeAtNat Y hexec htr (n := nb) (vx_own hat' (vx_isRefq hU'.1) (vx_isRefq hN'.1) hU'.2.word hN'.2.word) (fun x hx => nomatch hx)
    (g := F0 m pc ls rest) hsize (nf := { method := r, args := #[vs, .int sp, vd, .int dp, .int n], locked := none }) rfl hRframes (by show 2 * 0 + (rest.map fun v => v.category).sum + 10240 ≤ R.locals; omega) (by show 0 + 1 ≤ 1; omega) (by show 0 + nb ≤ nb; omega)
  obtain ⟨f1, f2⟩ := vx_frame Z.same
  have f1' : H.size ≤ S.heap.size := by rw [← hTh]; exact f1
  have f2' : ∀ q : Nat, q < H.size → S.heap[q]? = H[q]? := fun q hq => by
    rw [← hTh]
    exact f2 q (by rw [← hTh] at hq; exact hq) (fun z hz => nomatch hz)
  have X5 := vx_back9 X' Y Z
  have X6 : Stand p l e R s m args below meth c S locs (cells + 1) (slots + nb) := { X5 with same := X5.same.mono (by omega) (by omega) }
  obtain ⟨t, a1, b1⟩ := k S.heap q ce f1' f2' ⟨Nat.le_trans hS.1 f1', fun q h1 h2 => (f2' q (Nat.lt_of_lt_of_le h1 hS.1)).trans (hS.2.1 q h1 h2), hS.2.2⟩ hce hv hcl' S rfl X6
  refine ⟨t, step t (fun acts => ?_), b1⟩
  rw [doInvoke_state]
  obtain ⟨k', N'⟩ := N.alike X'.warmed.alike
  have hseen : seenByNative methS #[vs, .int sp, vd, .int dp, .int n] = #[vs, .int sp, vd, .int dp, .int n] := by
    cases vs <;> cases vd <;> simp_all [seenByNative, N.static, N.sig, narrow, Value.isRef]
  have hwords : operandWords #[vs, .int sp, vd, .int dp, .int n].toList = 5 := by
    cases vs <;> cases vd <;> simp_all [Value.isRef] <;> rfl
  have hlo9 : 2 * (F0 m pc ls rest).monitorRoom + ((F0 m pc ls rest).stack.map fun v => v.category).sum + (nativeFrameWords "java/lang/System" "arraycopy" 5 + 11) ≤ R.locals := by
    show 2 * 0 + (rest.map fun v => v.category).sum + (nativeFrameWords "java/lang/System" "arraycopy" 5 + 11) ≤ R.locals
    have hw9 : nativeFrameWords "java/lang/System" "arraycopy" 5 + 11 ≤ 10240 := by decide +kernel
    omega
  obtain ⟨g₀, hfr⟩ := X'.frames_eq
  obtain ⟨g₁, hfrB⟩ := X6.frames_eq
  have hUf : (T1.setTop (F0 m pc ls rest)).pushFrame (.native { method := r, args := seenByNative methS #[vs, .int sp, vd, .int dp, .int n], locked := none }) = T1.setFrames (.native { method := r, args := seenByNative methS #[vs, .int sp, vd, .int dp, .int n], locked := none } :: .java (F0 m pc ls rest) :: below) := by
    rw [State.pushFrame, State.frames_setTop _ hfr, State.setTop_of_frames _ hfr, State.setFrames_setFrames]
  have hcurT : T1.cur < T1.threads.size := State.cur_lt_of_frames hfr
  refine Steps.nativeThrowsNote (row := arraycopyRow) (cls := "java/lang/NullPointerException") (msg := none) (T := id) X'.here [] N'.cls N'.meth N'.boot N'.native N'.noCode N'.noLock
    (by rw [N'.className, N'.name, N'.desc]; exact arraycopy_row p)
    (by rw [N'.className, N'.name, hwords]; exact X'.notFull (g := F0 m pc ls rest) hsize (vars := nativeFrameWords "java/lang/System" "arraycopy" 5) (by omega) hlo9) ?_ ?_
  · intro E hE
    rw [hUf] at hE ⊢
    rw [hseen] at hE ⊢
    rcases hno with rfl | ⟨⟨a9, rfl⟩, rfl⟩
    · exact W.arraycopy_null1 _ _ _ _ (hE _)
    · exact W.arraycopy_null2 _ _ _ _ (hE _)
  · rw [hUf, hseen, id, State.pushFrame, State.frames_setFrames _ hcurT, State.setFrames_setFrames]
    refine stv.trans ?_
    refine Steps.throwingLeavesNative ⟨X6.here.running, X6.here.runnable, X6.here.alone⟩ (State.cur_lt_of_frames hfrB) ⟨[.java (F0 m pc ls rest)], rfl⟩ rfl rfl ?_
    have hV : (S.setTop (F0 m pc ls rest)).pushFrame (.throwing q) = S.setFrames (.throwing q :: .java (F0 m pc ls rest) :: below) := by
      rw [State.pushFrame, State.frames_setTop _ hfrB, State.setTop_of_frames _ hfrB, State.setFrames_setFrames]
    rw [← hV]
    exact a1
end KAN
section KBN
variable {D : va_G} {T : xT} {Γ : xE} {cc : ByteArray} {own : String} {nL lev mc ms : Nat} {ret : Option FieldType} {cells slots pc : Nat} {lv : List (Nat × Value)} {rest : List Value} {ws : va_W}
/-- one of the two arrays is null -/
theorem kx_acN (G : xG D T Γ cc own nL ret lev mc ms) (hlt : Γ.1.2.1.stackTraces = false) (hlev : 200 ≤ lev) {idx : Nat} {vs vd : Value} (hno : vs = .null ∨ ((∃ a, vs = .ref a) ∧ vd = .null)) (hvd : vd.isRef = true) (hlink : Cond.methodLink own idx arraycopyName ∈ lw_all) (hnat : Cond.native arraycopyName ∈ lw_all) (hstat : Cond.static arraycopyName ∈ lw_all) (hinit : Cond.initialized "java/lang/System" ∈ lw_all) {n sp dp : Int32} (hcat : (rest.map fun v => v.category).sum ≤ 8) (hroom : cells + 1 ≤ mc ∧ slots + 8 ≤ ms) (d : decode cc pc = .ok (.invokestatic idx, 3)) (k : ∀ q9 : Nat, KX D Γ (cells + 1) (slots + 8) pc lv rest ws "java/lang/NullPointerException" q9) : K D Γ cells slots pc lv (.int n :: .int dp :: vd :: .int sp :: vs :: rest) ws := by
  intro H locs ls hP hD hS hl
  have hR : Γ.1.2.2.2 = xrm lev mc ms := G.2.2.2.2.2.2.2.2.2
  have w := G.2.2.2.2.2.2.1
  have N := G.2.2.2.2.2.2.2.2.1.2.1
  have hat : ∀ z ∈ vx_atN 8, z.before Γ.2.1.2.2.1 Γ.2.1.1 = true := by
    intro z hz
    by_cases g : goodWord z = true
    · exact w _ (xw_npe z (List.mem_filter.mpr ⟨hz, g⟩))
    · have h1 := List.all_eq_true.mp xw_npe2.2 z (List.mem_filter.mpr ⟨hz, by cases hg : goodWord z; rfl; exact absurd hg g⟩)
      rcases Bool.or_eq_true _ _ ▸ h1 with h1 | h1
      · obtain ⟨q, hq, e⟩ := List.any_eq_true.mp h1
        rw [of_decide_eq_true e]
        exact va_Nw.use rfl (N.1 _ hq)
      · obtain ⟨q, hq, e⟩ := List.any_eq_true.mp h1
        rw [of_decide_eq_true e]
        exact va_Nw.use rfl (N.2.1 _ hq)
  have hvs : vs.isRef = true := by
    rcases hno with rfl | ⟨⟨a9, rfl⟩, -⟩ <;> rfl
  refine vx_acN (nb := 8) G.1 G.2.1 hlt G.2.2.2.2.2.1 (w _ hlink) (w _ hnat) (w _ hstat) (w _ hinit) hat (fun z hz => List.all_eq_true.mp xw_npe2.1 z hz) (x_H G).2.2.2.1 (x_H G).2.2.2.2.1 hS hl.1 (by rw [hR]; show 8 < lev; omega) (by rw [hR]; show _ ≤ 64 * lev; omega) (by rw [hR]; exact hroom.1) (by rw [hR]; exact hroom.2) hvs hvd d hno (fun H1 q9 ce hz hk hS1 hce hv hcl => ?_)
  exact k q9 H1 locs ls ce (hP.kept (fun i x hx => hk x.1 ((hP i x hx).lt))) hD hS1 hl hce hv hcl
end KBN
