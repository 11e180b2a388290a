set_option maxRecDepth 100000
def xcast : List (String × String) := [("BakedBefore$Off", "BakedBefore$Off"), ("java/lang/ClassCastException", "java/lang/ClassCastException"), ("java/lang/NullPointerException", "java/lang/NullPointerException"), ("java/lang/RuntimeException", "java/lang/Throwable"), ("java/lang/NegativeArraySizeException", "java/lang/NegativeArraySizeException"), ("java/lang/ArrayStoreException", "java/lang/ArrayStoreException"), ("java/lang/ArrayIndexOutOfBoundsException", "java/lang/ArrayIndexOutOfBoundsException"), ("java/lang/ArrayIndexOutOfBoundsException", "java/lang/IndexOutOfBoundsException"), ("BakedBefore$Against", "BakedBefore$Test"), ("BakedBefore$Not", "BakedBefore$Test"), ("BakedBefore$Some", "BakedBefore$Test"), ("BakedBefore$Clean", "BakedBefore$Loaf"), ("BakedBefore$Greedy", "BakedBefore$Loaf"), ("BakedBefore$Holy", "BakedBefore$Loaf"), ("BakedBefore$Poisoned", "BakedBefore$Loaf"), ("BakedBefore$Rye", "BakedBefore$Loaf"), ("BakedBefore$Shy", "BakedBefore$Loaf"), ("BakedBefore$Rye", "BakedBefore$Clean"), ("BakedBefore$Poisoned", "BakedBefore$Greedy"), ("BakedBefore$Shy", "BakedBefore$Holy"), ("BakedBefore$Against", "java/lang/Object"), ("BakedBefore$Not", "java/lang/Object"), ("BakedBefore$Some", "java/lang/Object"), ("BakedBefore$Clause", "java/lang/Object")]
def xdecl : List MethodName := [⟨"BakedBefore$Test", "holds", "(LBakedBefore$Look;)Z"⟩, ⟨"BakedBefore$Loaf", "leaving", "(II)I"⟩, ⟨"java/lang/RuntimeException", "<init>", "()V"⟩, ⟨"java/lang/RuntimeException", "<init>", "(Ljava/lang/String;)V"⟩, ⟨"java/lang/Exception", "<init>", "()V"⟩, ⟨"java/lang/Exception", "<init>", "(Ljava/lang/String;)V"⟩, ⟨"java/lang/Throwable", "<init>", "()V"⟩, ⟨"java/lang/Throwable", "<init>", "(Ljava/lang/String;)V"⟩, ⟨"java/lang/Throwable", "fillInStackTrace", "()Ljava/lang/Throwable;"⟩, ⟨"BakedBefore$Loaf", "rises", "(I)I"⟩, ⟨"BakedBefore$Loaf", "bakes", "(I)I"⟩, ⟨"BakedBefore$Loaf", "tells", "(I)I"⟩, ⟨"java/lang/IndexOutOfBoundsException", "<init>", "()V"⟩, ⟨"java/lang/IndexOutOfBoundsException", "<init>", "(Ljava/lang/String;)V"⟩, ⟨"java/lang/Object", "getClass", "()Ljava/lang/Class;"⟩]
def xfln : List (String × Nat × String × String × String) := [("BakedBefore", 195, "BakedBefore$Time", "held", "[I"), ("BakedBefore", 163, "BakedBefore$Time", "hour", "I"), ("BakedBefore$Reader", 111, "BakedBefore$Kiln", "takes", "Ljava/util/ArrayList;"), ("BakedBefore$Reader", 120, "BakedBefore$Kiln", "mores", "Ljava/util/ArrayList;"), ("BakedBefore$Reader", 125, "BakedBefore$Kiln", "fees", "Ljava/util/ArrayList;"), ("BakedBefore$Reader", 135, "BakedBefore$Kiln", "many", "I"), ("BakedBefore$Reader", 132, "BakedBefore$Kiln", "cold", "I"), ("BakedBefore", 242, "BakedBefore$Kiln", "cold", "I"), ("BakedBefore", 147, "BakedBefore$Look", "loaf", "I"), ("BakedBefore", 154, "BakedBefore$Look", "kind", "I"), ("BakedBefore", 156, "BakedBefore$Look", "taste", "I"), ("BakedBefore", 162, "BakedBefore$Look", "v", "I"), ("BakedBefore", 166, "BakedBefore$Look", "hour", "I"), ("BakedBefore", 167, "BakedBefore$Look", "oven", "I"), ("BakedBefore", 374, "BakedBefore$Trace", "bodies", "[I"), ("BakedBefore", 362, "BakedBefore$Trace", "count", "I"), ("BakedBefore", 336, "BakedBefore$Tape", "row", "Ljava/lang/Object;"), ("BakedBefore", 239, "BakedBefore$Off", "place", "I"), ("BakedBefore$Reader", 89, "BakedBefore$Some", "of", "Ljava/util/ArrayList;"), ("BakedBefore$Kiln", 48, "BakedBefore$Clause", "n", "I"), ("BakedBefore$Kiln", 38, "BakedBefore$Clause", "test", "LBakedBefore$Test;")]
def xmln : List (String × Nat × MethodName) := [("BakedBefore", 26, ⟨"BakedBefore$Time", "<init>", "()V"⟩), ("BakedBefore", 40, ⟨"BakedBefore$Kiln", "<init>", "()V"⟩), ("BakedBefore", 47, ⟨"BakedBefore$Look", "<init>", "()V"⟩), ("BakedBefore", 54, ⟨"BakedBefore$Trace", "<init>", "()V"⟩), ("BakedBefore", 106, ⟨"BakedBefore$Tape", "<init>", "()V"⟩), ("BakedBefore$Reader", 11, ⟨"BakedBefore$Kiln", "<init>", "()V"⟩), ("BakedBefore$Reader", 54, ⟨"BakedBefore", "in", "(III)Z"⟩), ("BakedBefore$Some", 1, ⟨"BakedBefore$Test", "<init>", "()V"⟩), ("BakedBefore$Not", 1, ⟨"BakedBefore$Test", "<init>", "()V"⟩), ("BakedBefore$Against", 1, ⟨"BakedBefore$Test", "<init>", "()V"⟩), ("BakedBefore", 387, ⟨"BakedBefore$Tape", "has", "(I)V"⟩), ("BakedBefore$Tape", 34, ⟨"BakedBefore", "in", "(III)Z"⟩), ("BakedBefore", 395, ⟨"BakedBefore$Tape", "size", "()I"⟩)]
def xao : List String := ["BakedBefore$Loaf", "BakedBefore$Tape", "BakedBefore$Time", "java/lang/Object"]
def xnc : List (String × String) := [("BakedBefore$Off", "java/lang/NullPointerException"), ("java/lang/ClassCastException", "java/lang/NullPointerException"), ("java/lang/ArrayStoreException", "java/lang/NullPointerException"), ("java/lang/ArrayIndexOutOfBoundsException", "java/lang/NullPointerException"), ("java/lang/ArrayIndexOutOfBoundsException", "java/lang/ArrayStoreException"), ("BakedBefore$Loaf", "BakedBefore$Clean"), ("BakedBefore$Loaf", "BakedBefore$Greedy"), ("BakedBefore$Loaf", "BakedBefore$Holy"), ("BakedBefore$Loaf", "BakedBefore$Rye"), ("BakedBefore$Loaf", "BakedBefore$Poisoned"), ("BakedBefore$Loaf", "BakedBefore$Shy"), ("BakedBefore$Clean", "BakedBefore$Greedy"), ("BakedBefore$Clean", "BakedBefore$Holy"), ("BakedBefore$Clean", "BakedBefore$Rye"), ("BakedBefore$Clean", "BakedBefore$Poisoned"), ("BakedBefore$Clean", "BakedBefore$Shy"), ("BakedBefore$Greedy", "BakedBefore$Clean"), ("BakedBefore$Greedy", "BakedBefore$Holy"), ("BakedBefore$Greedy", "BakedBefore$Rye"), ("BakedBefore$Greedy", "BakedBefore$Poisoned"), ("BakedBefore$Greedy", "BakedBefore$Shy"), ("BakedBefore$Holy", "BakedBefore$Clean"), ("BakedBefore$Holy", "BakedBefore$Greedy"), ("BakedBefore$Holy", "BakedBefore$Rye"), ("BakedBefore$Holy", "BakedBefore$Poisoned"), ("BakedBefore$Holy", "BakedBefore$Shy"), ("BakedBefore$Rye", "BakedBefore$Greedy"), ("BakedBefore$Rye", "BakedBefore$Holy"), ("BakedBefore$Rye", "BakedBefore$Poisoned"), ("BakedBefore$Rye", "BakedBefore$Shy"), ("BakedBefore$Poisoned", "BakedBefore$Clean"), ("BakedBefore$Poisoned", "BakedBefore$Holy"), ("BakedBefore$Poisoned", "BakedBefore$Rye"), ("BakedBefore$Poisoned", "BakedBefore$Shy"), ("BakedBefore$Shy", "BakedBefore$Clean"), ("BakedBefore$Shy", "BakedBefore$Greedy"), ("BakedBefore$Shy", "BakedBefore$Rye"), ("BakedBefore$Shy", "BakedBefore$Poisoned"), ("[B", "[S"), ("[B", "[I"), ("[B", "[J"), ("[B", "[Z"), ("[S", "[B"), ("[S", "[I"), ("[S", "[J"), ("[S", "[Z"), ("[I", "[B"), ("[I", "[S"), ("[I", "[J"), ("[I", "[Z"), ("[J", "[B"), ("[J", "[S"), ("[J", "[I"), ("[J", "[Z"), ("[Z", "[B"), ("[Z", "[S"), ("[Z", "[I"), ("[Z", "[J")]
/-! THE K LAYER: W with its fixed things in one bundle, quantified over the heap; a row an instruction -/
set_option maxRecDepth 100000
abbrev xT : Type := (Nat → ClassId) × (Nat → Nat) × (Nat → Nat) × Nat
def xtys (T : Nat → ClassId) : List (ClassId × FieldType) := [(T 0, .int), (T 1, .long), (T 2, .byte), (T 3, .short), (T 4, .boolean), (T 5, .object "BakedBefore$Loaf"), (T 6, .object "BakedBefore$Tape"), (T 7, .object "BakedBefore$Time"), (T 8, .object "java/lang/Object")]
def xcl : List vw_C := [(RX0, TX0, 31), (RX1, TX1, 2), (RX2, TX2, 5), (RX3, TX3, 6), (RX4, TX4, 2), (RX5, TX5, 1), (RX6, TX6, 31), (RX7, TX7, 3), (RX8, TX8, 3), (RX9, TX9, 3), (RX10, TX10, 3), (RX11, TX11, 3), (RX12, TX12, 3), (RX13, TX13, 3), (RX14, TX14, 5), (RX15, TX15, 7), (RX16, TX16, 2), (RX18, TX18, 2), (RX19, TX19, 1), (RX20, TX20, 3), (RJ2, TJ2, 3)]
/-- a bootstrap module that holds the unnamed package is java.base -/
def xMR (U : State) : Prop := ∀ m ∈ U.vm.modules, m.loader = none → "" ∈ m.packages → m.name = "java.base"
/-- words of the tables that no method's own list carries: castable, declares, a nest mate's fields and methods, array classes, not castable -/
def xN (U : State) : Prop := (∀ q ∈ xcast, va_Nw (.castable q.1 q.2) U) ∧ (∀ q ∈ xdecl, va_Nw (.declares q) U) ∧ (∀ q ∈ xfln, va_Nw (.fieldLinkNest q.1 q.2.1 q.2.2.1 q.2.2.2.1 q.2.2.2.2 "BakedBefore") U) ∧ (∀ q ∈ xmln, va_Nw (.methodLinkNest q.1 q.2.1 q.2.2 "BakedBefore") U) ∧ (∀ C ∈ xao, va_AO C U) ∧ (∀ q ∈ xnc, va_Nc q.1 q.2 U) ∧ xMR U
/-- the texts: take, more, cold, fee -/
def xslen : List Nat := [5, 5, 5, 4]
def xsbyt : List (List Int32) := [[116, 97, 107, 101, 32], [109, 111, 114, 101, 32], [99, 111, 108, 100, 32], [102, 101, 101, 32]]
def xstr : List (String × Nat × String × Nat) := [("BakedBefore$Reader", 114, "take ", 0), ("BakedBefore$Reader", 123, "more ", 1), ("BakedBefore$Reader", 130, "cold ", 2), ("BakedBefore$Reader", 128, "fee ", 3), ("BakedBeforeModel", 139, "take ", 0), ("BakedBeforeModel", 141, "more ", 1), ("BakedBeforeModel", 143, "cold ", 2), ("BakedBeforeModel", 145, "fee ", 3)]
/-- what lies outside every world: texts, statics -/
def xH (T : xT) (A : Nat → Prop) (U : State) : Prop := vk_S 4 xslen xsbyt T.2.1 T.2.2.1 A U U.heap ∧ (∀ q ∈ xstr, vk_R q.1 q.2.1 q.2.2.1 (T.2.1 q.2.2.2) U) ∧ va_Z "java/lang/String" "COMPACT_STRINGS" "Z" (.int 1) A U U.heap ∧ vx_Zq Bundle.tN "UNASSIGNED_STACK" Bundle.steD A U U.heap ∧ vx_Zq Bundle.tN "SUPPRESSED_SENTINEL" Bundle.listD A U U.heap ∧ va_Z "java/util/ArrayList" "DEFAULTCAPACITY_EMPTY_ELEMENTDATA" "[Ljava/lang/Object;" (.ref T.2.2.2) A U U.heap ∧ va_T (.object "java/lang/Object") T.2.2.2 0 (fun _ => .null) A U U.heap ∧ (va_Zq "jdk/internal/util/Preconditions" "SIOOBE_FORMATTER" "Ljava/util/function/BiFunction;" A U U.heap ∧ va_Mi "[Ljava/lang/Object;" (T.2.1 7) U)
theorem xH.next {T : xT} {A B : Nat → Prop} {s U : State} (h : xH T A s) (hW : s.WarmedH U.vm) (hq : ∀ a : Nat, a < s.heap.size → ¬ A a → U.heap[a]? = s.heap[a]?) (hAB : ∀ q, B q → A q) : xH T B U := by
  obtain ⟨h1, h2, h3, h4, h5, h6, h7, h8⟩ := h
  exact ⟨((h1.moved hW.alike).kept hq).narrow hAB, fun q hq => (h2 q hq).warm hW, ((va_Z.moved hW.alike h3).kept hq).narrow hAB, ((vx_Zq.moved hW.alike h4).kept hq).narrow hAB, ((vx_Zq.moved hW.alike h5).kept hq).narrow hAB, ((va_Z.moved hW.alike h6).kept hq).narrow hAB, ((va_T.moved hW.alike h7).kept hq).narrow hAB, ⟨((va_Zq.moved hW.alike h8.1).kept hq).narrow hAB, va_Mi.moved hW.alike h8.2⟩⟩
theorem xH.calling {T : xT} {A : Nat → Prop} {U : State} {g : JFrame} {mk : MethodId} {a : Array Value} (h : xH T A U) : xH T A (U.calling g mk a) := by
  obtain ⟨h1, h2, h3, h4, h5, h6, h7, h8⟩ := h
  have e : (Vm.Alike U.vm (U.calling g mk a).vm) := Vm.Alike.refl U.vm
  exact ⟨h1.moved e, fun q hq => (h2 q hq).same rfl, va_Z.moved e h3, vx_Zq.moved e h4, vx_Zq.moved e h5, va_Z.moved e h6, va_T.moved e h7, ⟨va_Zq.moved e h8.1, va_Mi.moved e h8.2⟩⟩
/-- what every contract's start knows of the tables, and of what lies outside its world -/
def xEV (D : va_G) (T : xT) (A : Nat → Prop) (U : State) : Prop := va_K D xcl (xtys T.1) U ∧ xN U ∧ xH T A U
theorem xN.warm {s U : State} (hW : s.WarmedH U.vm) (h : xN s) : xN U := ⟨fun q hq => va_Nw.warmC hW (h.1 q hq), fun q hq => va_Nw.warmD hW (h.2.1 q hq), fun q hq => va_Nw.warmF hW (h.2.2.1 q hq), fun q hq => va_Nw.warmM hW (h.2.2.2.1 q hq), fun C hC => va_AO.moved hW.alike (h.2.2.2.2.1 C hC), fun q hq => va_Nc.moved hW.alike (h.2.2.2.2.2.1 q hq), fun m hm => h.2.2.2.2.2.2 m ((show U.vm.modules = s.vm.modules from (congrArg Vm.modules hW.alike.1).trans rfl) ▸ hm)⟩
theorem xN.same {s U : State} (e : s.vm = U.vm) (h : xN s) : xN U := ⟨fun q hq => va_Nw.same rfl e (h.1 q hq), fun q hq => va_Nw.same rfl e (h.2.1 q hq), fun q hq => va_Nw.same rfl e (h.2.2.1 q hq), fun q hq => va_Nw.same rfl e (h.2.2.2.1 q hq), fun C hC => va_AO.moved (by rw [e]; exact Vm.Alike.refl _) (h.2.2.2.2.1 C hC), fun q hq => va_Nc.moved (by rw [e]; exact Vm.Alike.refl _) (h.2.2.2.2.2.1 q hq), fun m hm => h.2.2.2.2.2.2 m (by rw [e]; exact hm)⟩
theorem xEV.next {D : va_G} {T : xT} {A B : Nat → Prop} {s U : State} (h : xEV D T A s) (hW : s.WarmedH U.vm) (hq : ∀ a : Nat, a < s.heap.size → ¬ A a → U.heap[a]? = s.heap[a]?) (hAB : ∀ q, B q → A q) : xEV D T B U := ⟨va_K.moved hW.alike h.1, h.2.1.warm hW, h.2.2.next hW hq hAB⟩
theorem xEV.calling {D : va_G} {T : xT} {A : Nat → Prop} {U : State} {g : JFrame} {mk : MethodId} {a : Array Value} (h : xEV D T A U) : xEV D T A (U.calling g mk a) := ⟨va_K.moved (u := U) (U := U.calling g mk a) (Vm.Alike.refl U.vm) h.1, h.2.1.same rfl, h.2.2.calling⟩
abbrev xE : Type := (Program × Launch × Env × Room) × (State × MethodId × Array Value × List Frame) × (Method × Code × (State → Prop) × (Nat → Prop))
abbrev xw (Γ : xE) (H : Heap) (locs : List Loc) (cells slots : Nat) (g : JFrame) : Prop := W Γ.1.1 Γ.1.2.1 Γ.1.2.2.1 Γ.1.2.2.2 Γ.2.1.1 Γ.2.1.2.1 Γ.2.1.2.2.1 Γ.2.1.2.2.2 Γ.2.2.1 Γ.2.2.2.1 H locs cells slots Γ.2.2.2.2.1 g
def K (D : va_G) (Γ : xE) (cells slots pc : Nat) (lv : List (Nat × Value)) (st : List Value) (ws : va_W) : Prop :=
  ∀ (H : Heap) (locs : List Loc) (ls : Array Slot), va_P D xcl ws H → va_D Γ.2.2.2.2.2 ws → va_S Γ.2.2.2.2.2 Γ.2.1.1.heap H locs → lv_has ls Γ.2.2.2.1.maxLocals lv → xw Γ H locs cells slots (F0 Γ.2.1.2.1 pc ls st)
def xrm (lev mc ms : Nat) : Room := { frames := lev, cells := mc, slots := ms, locals := 64 * lev }
def xG (D : va_G) (T : xT) (Γ : xE) (cc : ByteArray) (own : String) (nL : Nat) (ret : Option FieldType) (lev mc ms : Nat) : Prop :=
  Γ.1.1.tables.exec = Jvm.exec ∧ Γ.2.2.2.1.code = cc ∧ Γ.2.2.2.1.maxLocals = nL ∧ Γ.2.2.1.sig.returnType = ret ∧ Γ.2.2.1.locks = false ∧ Γ.2.1.1.vm.findClass own = some Γ.2.1.2.1.cls ∧ (∀ w ∈ lw_all, w.before Γ.2.1.2.2.1 Γ.2.1.1 = true) ∧ (∀ q : Nat, Γ.2.1.1.heap.size ≤ q → Γ.2.2.2.2.2 q) ∧ xEV D T Γ.2.2.2.2.2 Γ.2.1.1 ∧ Γ.1.2.2.2 = xrm lev mc ms
/-- a method's end, whatever it answers -/
def xQ (D : va_G) (A : Nat → Prop) (post : Option Value → va_W → Prop) : Array Value → State → Outcome → State → Prop := fun _ st oc t => (∃ (v : Option Value) (ws : va_W), oc = .returned v ∧ post v ws ∧ va_P D xcl ws t.heap ∧ va_D A ws) ∧ va_F A st t
def xX (D : va_G) (Γ : xE) (mc ms : Nat) (post : Option Value → va_W → Prop) : Prop := Γ.2.2.2.2.1 = MQ Γ.2.1.2.2.2 (xQ D Γ.2.2.2.2.2 post) Γ.2.1.2.2.1 Γ.2.1.1 mc ms Γ.2.2.2.2.2
def xPc (D : va_G) (T : xT) (sz : Nat) (ws : va_W) (args : List Value) : Array Value → State → Prop := va_Pc args (fun U => U.heap.size = sz ∧ va_P D xcl ws U.heap ∧ xEV D T (va_A ws sz) U ∧ va_D (fun _ => True) ws)
/-- a method's contract: from a world ws with these arguments it returns, and post holds of its answer and world -/
def XM (l : Launch) (D : va_G) (T : xT) (y : MethodName) (code : ByteArray) (nL : Nat) (ret : Option FieldType) (lev mc ms : Nat) (args : List Value) (ws : va_W) (post : Option Value → va_W → Prop) : Prop :=
  ∀ sz : Nat, Met l y (ws_ y code nL ret) (xrm lev mc ms) (xPc D T sz ws args) (xQ D (va_A ws sz) post) mc ms (va_A ws sz)
theorem XM.start {l : Launch} {D : va_G} {T : xT} {y : MethodName} {code : ByteArray} {nL : Nat} {ret : Option FieldType} {lev mc ms : Nat} {args : List Value} {ws : va_W} {post : Option Value → va_W → Prop} (hy : plainName y.cls = true) (hlen : (lg_sl args).length ≤ nL)
    (body : ∀ Γ : xE, xG D T Γ code y.cls nL ret lev mc ms → xX D Γ mc ms post → Γ.2.2.1.name = y.name → Γ.1.2.1 = l → K D Γ 0 0 0 (lv_args 0 args) [] ws) : XM l D T y code nL ret lev mc ms args ws post := by
  intro sz
  refine Met.ofW (cc := code) (maxL := nL) (ret := ret) hy rfl ?_
  intro p e s m args' below meth c s₁ B hml hv
  obtain ⟨rfl, hsz, hP, hE, hD0⟩ := hv
  have hts := atoms_spec (ws := ws_ y code nL ret) B.pre
  have hts : ∀ w ∈ lw_all, w.before _ s = true := fun w h => hts w (List.mem_cons_of_mem _ h)
  have hown : s.vm.findClass y.cls = some m.cls := findClass_of_methodNamed B.named
  have hin : meth.name = y.name := (name_of_methodNamed B.named B.method).1
  subst hsz
  have hD := hD0.self (sz := s.heap.size)
  have hA : ∀ q : Nat, s.heap.size ≤ q → va_A ws s.heap.size q := fun q h => Or.inr h
  have hl := lv_entry args (n := nL) hlen
  rw [lg_entry_eq]
  exact body ((p, l, e, xrm lev mc ms), (s, m, args.toArray, below), (meth, c, MQ below (xQ D (va_A ws s.heap.size) post) args.toArray s mc ms (va_A ws s.heap.size), va_A ws s.heap.size))
    ⟨B.exec, B.bytes, hml, B.returns, B.notSynchronized, hown, hts, hA, hE, rfl⟩ rfl hin rfl s.heap [] _ hP hD va_S.rf (by rw [hml]; exact hl)
theorem XM.imp {l : Launch} {D : va_G} {T : xT} {y : MethodName} {code : ByteArray} {nL : Nat} {ret : Option FieldType} {lev mc ms : Nat} {args : List Value} {ws : va_W} {post post' : Option Value → va_W → Prop} (h : XM l D T y code nL ret lev mc ms args ws post) (hi : ∀ v w, post v w → post' v w) : XM l D T y code nL ret lev mc ms args ws post' := by
  intro sz
  refine MetFree.mono (h sz) (fun _ _ h => h) (fun _ _ _ _ _ h => h) (fun a st o t _ h' => ?_)
  obtain ⟨⟨⟨v, w, h1, h2, h3⟩, h4⟩, h5⟩ := h'
  exact ⟨⟨⟨v, w, h1, hi v w h2, h3⟩, h4⟩, h5⟩
def xlk : List (Nat × Value) → Nat → Option Value
  | [], _ => none
  | q :: r, i => cond (Nat.beq q.1 i) (some q.2) (xlk r i)
theorem xlk_mem : ∀ {lv : List (Nat × Value)} {i : Nat} {v : Value}, xlk lv i = some v → (i, v) ∈ lv
  | [], _, _, h => by cases h
  | (j, w) :: r, i, v, h => by
    unfold xlk at h
    cases hb : Nat.beq j i with
    | true =>
      rw [show Nat.beq (j, w).1 i = true from hb] at h
      have e : j = i := Nat.eq_of_beq_eq_true hb
      subst e
      cases h
      exact List.mem_cons_self
    | false =>
      rw [show Nat.beq (j, w).1 i = false from hb] at h
      exact List.mem_cons_of_mem _ (xlk_mem h)
theorem xlk_at {ls : Array Slot} {n : Nat} {lv : List (Nat × Value)} (hl : lv_has ls n lv) {i : Nat} {v : Value} (h : xlk lv i = some v) : ls[i]? = some (.val v) := hl.2.2 _ (xlk_mem h)
section KR
variable {D : va_G} {T : xT} {Γ : xE} {cc : ByteArray} {own : String} {nL lev mc ms : Nat} {ret : Option FieldType} {cells slots pc : Nat} {lv : List (Nat × Value)} {st : List Value} {ws : va_W}
theorem K.at (pc' : Nat) (h : pc = pc') (k : K D Γ cells slots pc' lv st ws) : K D Γ cells slots pc lv st ws := h ▸ k
theorem K.widen {c' s' : Nat} (h1 : cells ≤ c') (h2 : slots ≤ s') (k : K D Γ c' s' pc lv st ws) : K D Γ cells slots pc lv st ws := fun H locs ls hP hD hS hl => W.widen h1 h2 (k H locs ls hP hD hS hl)
/-- fewer locals: those in lv' are all in lv -/
theorem K.less {lv' : List (Nat × Value)} (ks : List Nat) (h : lv_pick lv ks = lv') (k : K D Γ cells slots pc lv' st ws) : K D Γ cells slots pc lv st ws := fun H locs ls hP hD hS hl => k H locs ls hP hD hS (lv_sub hl ks h)

theorem k_iconst (G : xG D T Γ cc own nL ret lev mc ms) {n : Int} {v : Int32} (d : decode cc pc = .ok (.iconst n, 1)) (hv : Int32.ofInt n = v) (k : K D Γ cells slots (pc + 1) lv (.int v :: st) ws) : K D Γ cells slots pc lv st ws := fun H locs ls hP hD hS hl => lv_iconst G.1 G.2.1 d hv (k H locs ls hP hD hS hl)
theorem k_bipush (G : xG D T Γ cc own nL ret lev mc ms) {n : Int} {v : Int32} (d : decode cc pc = .ok (.bipush n, 2)) (hv : (Int8.ofInt n).toInt32 = v) (k : K D Γ cells slots (pc + 2) lv (.int v :: st) ws) : K D Γ cells slots pc lv st ws := fun H locs ls hP hD hS hl => lv_bipush G.1 G.2.1 d hv (k H locs ls hP hD hS hl)
theorem k_sipush (G : xG D T Γ cc own nL ret lev mc ms) {n : Int} {v : Int32} (d : decode cc pc = .ok (.sipush n, 3)) (hv : (Int16.ofInt n).toInt32 = v) (k : K D Γ cells slots (pc + 3) lv (.int v :: st) ws) : K D Γ cells slots pc lv st ws := fun H locs ls hP hD hS hl => lv_sipush G.1 G.2.1 d hv (k H locs ls hP hD hS hl)
theorem k_lconst (G : xG D T Γ cc own nL ret lev mc ms) {n : Fin 2} {v : Int64} (d : decode cc pc = .ok (.lconst n, 1)) (hv : Int64.ofNat (n : Nat) = v) (k : K D Γ cells slots (pc + 1) lv (.long v :: st) ws) : K D Γ cells slots pc lv st ws := fun H locs ls hP hD hS hl => lv_lconst G.1 G.2.1 d hv (k H locs ls hP hD hS hl)
theorem k_null (G : xG D T Γ cc own nL ret lev mc ms)  (d : decode cc pc = .ok (.aconst_null, 1)) (k : K D Γ cells slots (pc + 1) lv (.null :: st) ws) : K D Γ cells slots pc lv st ws := fun H locs ls hP hD hS hl => lv_null G.1 G.2.1 d (k H locs ls hP hD hS hl)
theorem k_ldc (G : xG D T Γ cc own nL ret lev mc ms) {index : Nat} {v : Int32} (hc : Cond.constant own index v ∈ lw_all) (d : decode cc pc = .ok (.ldc index, 2)) (k : K D Γ cells slots (pc + 2) lv (.int v :: st) ws) : K D Γ cells slots pc lv st ws := fun H locs ls hP hD hS hl => lv_ldc G.1 G.2.1 G.2.2.2.2.2.1 (G.2.2.2.2.2.2.1 _ hc) d (k H locs ls hP hD hS hl)
theorem k_ldc_w (G : xG D T Γ cc own nL ret lev mc ms) {index : Nat} {v : Int32} (hc : Cond.constant own index v ∈ lw_all) (d : decode cc pc = .ok (.ldc_w index, 3)) (k : K D Γ cells slots (pc + 3) lv (.int v :: st) ws) : K D Γ cells slots pc lv st ws := fun H locs ls hP hD hS hl => lv_ldcw G.1 G.2.1 G.2.2.2.2.2.1 (G.2.2.2.2.2.2.1 _ hc) d (k H locs ls hP hD hS hl)
theorem k_ldc2 (G : xG D T Γ cc own nL ret lev mc ms) {index : Nat} {v : Int64} (hc : Cond.constantLong own index v ∈ lw_all) (d : decode cc pc = .ok (.ldc2_w index, 3)) (k : K D Γ cells slots (pc + 3) lv (.long v :: st) ws) : K D Γ cells slots pc lv st ws := fun H locs ls hP hD hS hl => lv_ldc2 G.1 G.2.1 G.2.2.2.2.2.1 (G.2.2.2.2.2.2.1 _ hc) d (k H locs ls hP hD hS hl)
theorem k_iload_n (G : xG D T Γ cc own nL ret lev mc ms) {i : Fin 4} {x : Int32} (d : decode cc pc = .ok (.iload_n i, 1)) (h : xlk lv (i : Nat) = some (.int x)) (k : K D Γ cells slots (pc + 1) lv (.int x :: st) ws) : K D Γ cells slots pc lv st ws := fun H locs ls hP hD hS hl => lv_iload_n G.1 G.2.1 d rfl (xlk_at hl h) (k H locs ls hP hD hS hl)
theorem k_iload (G : xG D T Γ cc own nL ret lev mc ms) {i : Nat} {x : Int32} (d : decode cc pc = .ok (.iload i, 2)) (h : xlk lv i = some (.int x)) (k : K D Γ cells slots (pc + 2) lv (.int x :: st) ws) : K D Γ cells slots pc lv st ws := fun H locs ls hP hD hS hl => lv_iload G.1 G.2.1 d (xlk_at hl h) (k H locs ls hP hD hS hl)
theorem k_lload_n (G : xG D T Γ cc own nL ret lev mc ms) {i : Fin 4} {x : Int64} (d : decode cc pc = .ok (.lload_n i, 1)) (h : xlk lv (i : Nat) = some (.long x)) (k : K D Γ cells slots (pc + 1) lv (.long x :: st) ws) : K D Γ cells slots pc lv st ws := fun H locs ls hP hD hS hl => lv_lload_n G.1 G.2.1 d rfl (xlk_at hl h) (k H locs ls hP hD hS hl)
theorem k_lload (G : xG D T Γ cc own nL ret lev mc ms) {i : Nat} {x : Int64} (d : decode cc pc = .ok (.lload i, 2)) (h : xlk lv i = some (.long x)) (k : K D Γ cells slots (pc + 2) lv (.long x :: st) ws) : K D Γ cells slots pc lv st ws := fun H locs ls hP hD hS hl => lv_lload G.1 G.2.1 d (xlk_at hl h) (k H locs ls hP hD hS hl)
theorem k_aload_n (G : xG D T Γ cc own nL ret lev mc ms) {i : Fin 4} {x : Nat} (d : decode cc pc = .ok (.aload_n i, 1)) (h : xlk lv (i : Nat) = some (.ref x)) (k : K D Γ cells slots (pc + 1) lv (.ref x :: st) ws) : K D Γ cells slots pc lv st ws := fun H locs ls hP hD hS hl => lv_aload_n G.1 G.2.1 d rfl (xlk_at hl h) (k H locs ls hP hD hS hl)
theorem k_aload (G : xG D T Γ cc own nL ret lev mc ms) {i : Nat} {x : Nat} (d : decode cc pc = .ok (.aload i, 2)) (h : xlk lv i = some (.ref x)) (k : K D Γ cells slots (pc + 2) lv (.ref x :: st) ws) : K D Γ cells slots pc lv st ws := fun H locs ls hP hD hS hl => lv_aload G.1 G.2.1 d (xlk_at hl h) (k H locs ls hP hD hS hl)
theorem k_istore_n (G : xG D T Γ cc own nL ret lev mc ms) {j : Fin 4} {i : Nat} {x : Int32} (lv' : List (Nat × Value)) (d : decode cc pc = .ok (.istore_n j, 1)) (hi : (j : Nat) = i) (hn : i < nL) (hv : (i, .int x) :: lv.filter (fun q => !(q.1 == i) && !(q.1 + 1 == i && q.2.category == 2)) = lv') (k : K D Γ cells slots (pc + 1) lv' st ws) : K D Γ cells slots pc lv (.int x :: st) ws := fun H locs ls hP hD hS hl => lv_istore_n G.1 G.2.1 d hi hl (by rw [G.2.2.1]; exact hn) hv (fun ls' hl' => k H locs ls' hP hD hS hl')
theorem k_istore (G : xG D T Γ cc own nL ret lev mc ms) {i : Nat} {x : Int32} (lv' : List (Nat × Value)) (d : decode cc pc = .ok (.istore i, 2)) (hn : i < nL) (hv : (i, .int x) :: lv.filter (fun q => !(q.1 == i) && !(q.1 + 1 == i && q.2.category == 2)) = lv') (k : K D Γ cells slots (pc + 2) lv' st ws) : K D Γ cells slots pc lv (.int x :: st) ws := fun H locs ls hP hD hS hl => lv_istore G.1 G.2.1 d hl (by rw [G.2.2.1]; exact hn) hv (fun ls' hl' => k H locs ls' hP hD hS hl')
theorem k_lstore_n (G : xG D T Γ cc own nL ret lev mc ms) {j : Fin 4} {i : Nat} {x : Int64} (lv' : List (Nat × Value)) (d : decode cc pc = .ok (.lstore_n j, 1)) (hi : (j : Nat) = i) (hn : i + 1 < nL) (hv : (i, .long x) :: lv.filter (fun q => !(q.1 == i) && (!(q.1 == i + 1) && !(q.1 + 1 == i && q.2.category == 2))) = lv') (k : K D Γ cells slots (pc + 1) lv' st ws) : K D Γ cells slots pc lv (.long x :: st) ws := fun H locs ls hP hD hS hl => lv_lstore_n G.1 G.2.1 d hi hl (by rw [G.2.2.1]; exact hn) hv (fun ls' hl' => k H locs ls' hP hD hS hl')
theorem k_lstore (G : xG D T Γ cc own nL ret lev mc ms) {i : Nat} {x : Int64} (lv' : List (Nat × Value)) (d : decode cc pc = .ok (.lstore i, 2)) (hn : i + 1 < nL) (hv : (i, .long x) :: lv.filter (fun q => !(q.1 == i) && (!(q.1 == i + 1) && !(q.1 + 1 == i && q.2.category == 2))) = lv') (k : K D Γ cells slots (pc + 2) lv' st ws) : K D Γ cells slots pc lv (.long x :: st) ws := fun H locs ls hP hD hS hl => lv_lstore G.1 G.2.1 d hl (by rw [G.2.2.1]; exact hn) hv (fun ls' hl' => k H locs ls' hP hD hS hl')
theorem k_astore_n (G : xG D T Γ cc own nL ret lev mc ms) {j : Fin 4} {i : Nat} {x : Nat} (lv' : List (Nat × Value)) (d : decode cc pc = .ok (.astore_n j, 1)) (hi : (j : Nat) = i) (hn : i < nL) (hv : (i, .ref x) :: lv.filter (fun q => !(q.1 == i) && !(q.1 + 1 == i && q.2.category == 2)) = lv') (k : K D Γ cells slots (pc + 1) lv' st ws) : K D Γ cells slots pc lv (.ref x :: st) ws := fun H locs ls hP hD hS hl => lv_astore_n G.1 G.2.1 d hi hl (by rw [G.2.2.1]; exact hn) hv (fun ls' hl' => k H locs ls' hP hD hS hl')
theorem k_astore (G : xG D T Γ cc own nL ret lev mc ms) {i : Nat} {x : Nat} (lv' : List (Nat × Value)) (d : decode cc pc = .ok (.astore i, 2)) (hn : i < nL) (hv : (i, .ref x) :: lv.filter (fun q => !(q.1 == i) && !(q.1 + 1 == i && q.2.category == 2)) = lv') (k : K D Γ cells slots (pc + 2) lv' st ws) : K D Γ cells slots pc lv (.ref x :: st) ws := fun H locs ls hP hD hS hl => lv_astore G.1 G.2.1 d hl (by rw [G.2.2.1]; exact hn) hv (fun ls' hl' => k H locs ls' hP hD hS hl')
theorem k_iinc (G : xG D T Γ cc own nL ret lev mc ms) {i : Nat} {n : Int} {x v : Int32} (lv' : List (Nat × Value)) (d : decode cc pc = .ok (.iinc i n, 3)) (h : xlk lv i = some (.int x)) (hv : x + Int32.ofInt n = v) (hn : i < nL) (hl' : (i, Value.int v) :: lv.filter (fun q => !(q.1 == i) && !(q.1 + 1 == i && q.2.category == 2)) = lv') (k : K D Γ cells slots (pc + 3) lv' st ws) : K D Γ cells slots pc lv st ws := by
  intro H locs ls hP hD hS hl
  obtain ⟨j, hj⟩ := List.getElem?_of_mem (xlk_mem h)
  exact lv_iinc G.1 G.2.1 d hl hj hv (by rw [G.2.2.1]; exact hn) hl' (fun ls' hl2 => k H locs ls' hP hD hS hl2)
theorem k_iadd (G : xG D T Γ cc own nL ret lev mc ms) {x y : Int32} (d : decode cc pc = .ok (.iadd, 1)) (k : K D Γ cells slots (pc + 1) lv (.int (x + y) :: st) ws) : K D Γ cells slots pc lv (.int y :: .int x :: st) ws := fun H locs ls hP hD hS hl => lv_iadd G.1 G.2.1 d (k H locs ls hP hD hS hl)
theorem k_isub (G : xG D T Γ cc own nL ret lev mc ms) {x y : Int32} (d : decode cc pc = .ok (.isub, 1)) (k : K D Γ cells slots (pc + 1) lv (.int (x - y) :: st) ws) : K D Γ cells slots pc lv (.int y :: .int x :: st) ws := fun H locs ls hP hD hS hl => lv_isub G.1 G.2.1 d (k H locs ls hP hD hS hl)
theorem k_imul (G : xG D T Γ cc own nL ret lev mc ms) {x y : Int32} (d : decode cc pc = .ok (.imul, 1)) (k : K D Γ cells slots (pc + 1) lv (.int (x * y) :: st) ws) : K D Γ cells slots pc lv (.int y :: .int x :: st) ws := fun H locs ls hP hD hS hl => lv_imul G.1 G.2.1 d (k H locs ls hP hD hS hl)
theorem k_iand (G : xG D T Γ cc own nL ret lev mc ms) {x y : Int32} (d : decode cc pc = .ok (.iand, 1)) (k : K D Γ cells slots (pc + 1) lv (.int (x &&& y) :: st) ws) : K D Γ cells slots pc lv (.int y :: .int x :: st) ws := fun H locs ls hP hD hS hl => lv_iand G.1 G.2.1 d (k H locs ls hP hD hS hl)
theorem k_ior (G : xG D T Γ cc own nL ret lev mc ms) {x y : Int32} (d : decode cc pc = .ok (.ior, 1)) (k : K D Γ cells slots (pc + 1) lv (.int (x ||| y) :: st) ws) : K D Γ cells slots pc lv (.int y :: .int x :: st) ws := fun H locs ls hP hD hS hl => lv_ior G.1 G.2.1 d (k H locs ls hP hD hS hl)
theorem k_ixor (G : xG D T Γ cc own nL ret lev mc ms) {x y : Int32} (d : decode cc pc = .ok (.ixor, 1)) (k : K D Γ cells slots (pc + 1) lv (.int (x ^^^ y) :: st) ws) : K D Γ cells slots pc lv (.int y :: .int x :: st) ws := fun H locs ls hP hD hS hl => lv_ixor G.1 G.2.1 d (k H locs ls hP hD hS hl)
theorem k_idiv (G : xG D T Γ cc own nL ret lev mc ms) {x y : Int32} (d : decode cc pc = .ok (.idiv, 1)) (h : ¬ y = 0) (k : K D Γ cells slots (pc + 1) lv (.int (x / y) :: st) ws) : K D Γ cells slots pc lv (.int y :: .int x :: st) ws := fun H locs ls hP hD hS hl => lv_idiv G.1 G.2.1 d h (k H locs ls hP hD hS hl)
theorem k_irem (G : xG D T Γ cc own nL ret lev mc ms) {x y : Int32} (d : decode cc pc = .ok (.irem, 1)) (h : ¬ y = 0) (k : K D Γ cells slots (pc + 1) lv (.int (x - x / y * y) :: st) ws) : K D Γ cells slots pc lv (.int y :: .int x :: st) ws := fun H locs ls hP hD hS hl => lv_irem G.1 G.2.1 d h (k H locs ls hP hD hS hl)
theorem k_ineg (G : xG D T Γ cc own nL ret lev mc ms) {x : Int32} (d : decode cc pc = .ok (.ineg, 1)) (k : K D Γ cells slots (pc + 1) lv (.int (-x) :: st) ws) : K D Γ cells slots pc lv (.int x :: st) ws := fun H locs ls hP hD hS hl => lv_ineg G.1 G.2.1 d (k H locs ls hP hD hS hl)
theorem k_ishl (G : xG D T Γ cc own nL ret lev mc ms) {x y : Int32} (d : decode cc pc = .ok (.ishl, 1)) (k : K D Γ cells slots (pc + 1) lv (.int (x <<< (y &&& 31)) :: st) ws) : K D Γ cells slots pc lv (.int y :: .int x :: st) ws := fun H locs ls hP hD hS hl => lv_ishl G.1 G.2.1 d (k H locs ls hP hD hS hl)
theorem k_ishr (G : xG D T Γ cc own nL ret lev mc ms) {x y : Int32} (d : decode cc pc = .ok (.ishr, 1)) (k : K D Γ cells slots (pc + 1) lv (.int (x >>> (y &&& 31)) :: st) ws) : K D Γ cells slots pc lv (.int y :: .int x :: st) ws := fun H locs ls hP hD hS hl => lv_ishr G.1 G.2.1 d (k H locs ls hP hD hS hl)
theorem k_iushr (G : xG D T Γ cc own nL ret lev mc ms) {x y : Int32} (d : decode cc pc = .ok (.iushr, 1)) (k : K D Γ cells slots (pc + 1) lv (.int (x.toUInt32 >>> (y.toUInt32 &&& Int32.toUInt32 31)).toInt32 :: st) ws) : K D Γ cells slots pc lv (.int y :: .int x :: st) ws := fun H locs ls hP hD hS hl => lv_iushr G.1 G.2.1 d rfl (k H locs ls hP hD hS hl)
theorem k_ladd (G : xG D T Γ cc own nL ret lev mc ms) {x y : Int64} (d : decode cc pc = .ok (.ladd, 1)) (k : K D Γ cells slots (pc + 1) lv (.long (x + y) :: st) ws) : K D Γ cells slots pc lv (.long y :: .long x :: st) ws := fun H locs ls hP hD hS hl => lv_ladd G.1 G.2.1 d (k H locs ls hP hD hS hl)
theorem k_lsub (G : xG D T Γ cc own nL ret lev mc ms) {x y : Int64} (d : decode cc pc = .ok (.lsub, 1)) (k : K D Γ cells slots (pc + 1) lv (.long (x - y) :: st) ws) : K D Γ cells slots pc lv (.long y :: .long x :: st) ws := fun H locs ls hP hD hS hl => lv_lsub G.1 G.2.1 d (k H locs ls hP hD hS hl)
theorem k_lmul (G : xG D T Γ cc own nL ret lev mc ms) {x y : Int64} (d : decode cc pc = .ok (.lmul, 1)) (k : K D Γ cells slots (pc + 1) lv (.long (x * y) :: st) ws) : K D Γ cells slots pc lv (.long y :: .long x :: st) ws := fun H locs ls hP hD hS hl => lv_lmul G.1 G.2.1 d (k H locs ls hP hD hS hl)
theorem k_land (G : xG D T Γ cc own nL ret lev mc ms) {x y : Int64} (d : decode cc pc = .ok (.land, 1)) (k : K D Γ cells slots (pc + 1) lv (.long (x &&& y) :: st) ws) : K D Γ cells slots pc lv (.long y :: .long x :: st) ws := fun H locs ls hP hD hS hl => lv_land G.1 G.2.1 d (k H locs ls hP hD hS hl)
theorem k_lor (G : xG D T Γ cc own nL ret lev mc ms) {x y : Int64} (d : decode cc pc = .ok (.lor, 1)) (k : K D Γ cells slots (pc + 1) lv (.long (x ||| y) :: st) ws) : K D Γ cells slots pc lv (.long y :: .long x :: st) ws := fun H locs ls hP hD hS hl => lv_lor G.1 G.2.1 d (k H locs ls hP hD hS hl)
theorem k_lxor (G : xG D T Γ cc own nL ret lev mc ms) {x y : Int64} (d : decode cc pc = .ok (.lxor, 1)) (k : K D Γ cells slots (pc + 1) lv (.long (x ^^^ y) :: st) ws) : K D Γ cells slots pc lv (.long y :: .long x :: st) ws := fun H locs ls hP hD hS hl => lv_lxor G.1 G.2.1 d (k H locs ls hP hD hS hl)
theorem k_ldiv (G : xG D T Γ cc own nL ret lev mc ms) {x y : Int64} (d : decode cc pc = .ok (.ldiv, 1)) (h : ¬ y = 0) (k : K D Γ cells slots (pc + 1) lv (.long (x / y) :: st) ws) : K D Γ cells slots pc lv (.long y :: .long x :: st) ws := fun H locs ls hP hD hS hl => lv_ldiv G.1 G.2.1 d h (k H locs ls hP hD hS hl)
theorem k_lrem (G : xG D T Γ cc own nL ret lev mc ms) {x y : Int64} (d : decode cc pc = .ok (.lrem, 1)) (h : ¬ y = 0) (k : K D Γ cells slots (pc + 1) lv (.long (x - x / y * y) :: st) ws) : K D Γ cells slots pc lv (.long y :: .long x :: st) ws := fun H locs ls hP hD hS hl => lv_lrem G.1 G.2.1 d h (k H locs ls hP hD hS hl)
theorem k_lcmp (G : xG D T Γ cc own nL ret lev mc ms) {x y : Int64} (d : decode cc pc = .ok (.lcmp, 1)) (k : K D Γ cells slots (pc + 1) lv (.int (lg_cmp x y) :: st) ws) : K D Γ cells slots pc lv (.long y :: .long x :: st) ws := fun H locs ls hP hD hS hl => W.lcmp G.1 G.2.1 d (k H locs ls hP hD hS hl)
theorem k_i2l (G : xG D T Γ cc own nL ret lev mc ms) {x : Int32} (d : decode cc pc = .ok (.i2l, 1)) (k : K D Γ cells slots (pc + 1) lv (.long x.toInt64 :: st) ws) : K D Γ cells slots pc lv (.int x :: st) ws := fun H locs ls hP hD hS hl => lv_i2l G.1 G.2.1 d rfl (k H locs ls hP hD hS hl)
theorem k_l2i (G : xG D T Γ cc own nL ret lev mc ms) {x : Int64} (d : decode cc pc = .ok (.l2i, 1)) (k : K D Γ cells slots (pc + 1) lv (.int x.toInt32 :: st) ws) : K D Γ cells slots pc lv (.long x :: st) ws := fun H locs ls hP hD hS hl => lv_l2i G.1 G.2.1 d rfl (k H locs ls hP hD hS hl)
theorem k_i2b (G : xG D T Γ cc own nL ret lev mc ms) {x : Int32} (d : decode cc pc = .ok (.i2b, 1)) (k : K D Γ cells slots (pc + 1) lv (.int x.toInt8.toInt32 :: st) ws) : K D Γ cells slots pc lv (.int x :: st) ws := fun H locs ls hP hD hS hl => lv_i2b G.1 G.2.1 d rfl (k H locs ls hP hD hS hl)
theorem k_i2s (G : xG D T Γ cc own nL ret lev mc ms) {x : Int32} (d : decode cc pc = .ok (.i2s, 1)) (k : K D Γ cells slots (pc + 1) lv (.int x.toInt16.toInt32 :: st) ws) : K D Γ cells slots pc lv (.int x :: st) ws := fun H locs ls hP hD hS hl => lv_i2s G.1 G.2.1 d rfl (k H locs ls hP hD hS hl)
theorem k_lshl (G : xG D T Γ cc own nL ret lev mc ms) {x : Int64} {y : Int32} (d : decode cc pc = .ok (.lshl, 1)) (k : K D Γ cells slots (pc + 1) lv (.long (x <<< (y.toInt64 &&& 63)) :: st) ws) : K D Γ cells slots pc lv (.int y :: .long x :: st) ws := fun H locs ls hP hD hS hl => lv_lshl G.1 G.2.1 d rfl (k H locs ls hP hD hS hl)
theorem k_dup (G : xG D T Γ cc own nL ret lev mc ms) {v : Value} (d : decode cc pc = .ok (.dup, 1)) (h : v.category = 1) (k : K D Γ cells slots (pc + 1) lv (v :: v :: st) ws) : K D Γ cells slots pc lv (v :: st) ws := fun H locs ls hP hD hS hl => lv_dup G.1 G.2.1 d h (k H locs ls hP hD hS hl)
theorem k_pop (G : xG D T Γ cc own nL ret lev mc ms) {v : Value} (d : decode cc pc = .ok (.pop, 1)) (h : v.category = 1) (k : K D Γ cells slots (pc + 1) lv st ws) : K D Γ cells slots pc lv (v :: st) ws := fun H locs ls hP hD hS hl => lv_pop G.1 G.2.1 d h (k H locs ls hP hD hS hl)
theorem k_dup_x1 (G : xG D T Γ cc own nL ret lev mc ms) {v w : Value} (d : decode cc pc = .ok (.dup_x1, 1)) (h : v.category = 1) (h2 : w.category = 1) (k : K D Γ cells slots (pc + 1) lv (v :: w :: v :: st) ws) : K D Γ cells slots pc lv (v :: w :: st) ws := fun H locs ls hP hD hS hl => lv_dup_x1 G.1 G.2.1 d h h2 (k H locs ls hP hD hS hl)
theorem k_dup_x2 (G : xG D T Γ cc own nL ret lev mc ms) {v w z : Value} (d : decode cc pc = .ok (.dup_x2, 1)) (h : v.category = 1) (h2 : w.category = 1) (h3 : z.category = 1) (k : K D Γ cells slots (pc + 1) lv (v :: w :: z :: v :: st) ws) : K D Γ cells slots pc lv (v :: w :: z :: st) ws := fun H locs ls hP hD hS hl => lv_dup_x2 G.1 G.2.1 d h h2 h3 (k H locs ls hP hD hS hl)
theorem k_dup2 (G : xG D T Γ cc own nL ret lev mc ms) {v w : Value} (d : decode cc pc = .ok (.dup2, 1)) (h : v.category = 1) (h2 : w.category = 1) (k : K D Γ cells slots (pc + 1) lv (v :: w :: v :: w :: st) ws) : K D Γ cells slots pc lv (v :: w :: st) ws := fun H locs ls hP hD hS hl => lv_dup2_11 G.1 G.2.1 d h h2 (k H locs ls hP hD hS hl)
theorem k_dup2_2 (G : xG D T Γ cc own nL ret lev mc ms) {v : Value} (d : decode cc pc = .ok (.dup2, 1)) (h : v.category = 2) (k : K D Γ cells slots (pc + 1) lv (v :: v :: st) ws) : K D Γ cells slots pc lv (v :: st) ws := fun H locs ls hP hD hS hl => lv_dup2_2 G.1 G.2.1 d h (k H locs ls hP hD hS hl)
theorem k_if_eq (G : xG D T Γ cc own nL ret lev mc ms) {x : Int32} {off : Int} (tgt : Nat) (d : decode cc pc = .ok (.ifCond .eq off, 3)) (ht : (pc : Int) + off = (tgt : Int)) (kt : x = 0 → K D Γ cells slots tgt lv st ws) (kf : ¬ x = 0 → K D Γ cells slots (pc + 3) lv st ws) : K D Γ cells slots pc lv (.int x :: st) ws := fun H locs ls hP hD hS hl => lv_if_eq G.1 G.2.1 d ht (fun h => kt h H locs ls hP hD hS hl) (fun h => kf h H locs ls hP hD hS hl)
theorem k_icmp_eq (G : xG D T Γ cc own nL ret lev mc ms) {x y : Int32} {off : Int} (tgt : Nat) (d : decode cc pc = .ok (.if_icmp .eq off, 3)) (ht : (pc : Int) + off = (tgt : Int)) (kt : x = y → K D Γ cells slots tgt lv st ws) (kf : ¬ x = y → K D Γ cells slots (pc + 3) lv st ws) : K D Γ cells slots pc lv (.int y :: .int x :: st) ws := fun H locs ls hP hD hS hl => lv_icmp_eq G.1 G.2.1 d ht (fun h => kt h H locs ls hP hD hS hl) (fun h => kf h H locs ls hP hD hS hl)
theorem k_if_ne (G : xG D T Γ cc own nL ret lev mc ms) {x : Int32} {off : Int} (tgt : Nat) (d : decode cc pc = .ok (.ifCond .ne off, 3)) (ht : (pc : Int) + off = (tgt : Int)) (kt : ¬ x = 0 → K D Γ cells slots tgt lv st ws) (kf : x = 0 → K D Γ cells slots (pc + 3) lv st ws) : K D Γ cells slots pc lv (.int x :: st) ws := fun H locs ls hP hD hS hl => lv_if_ne G.1 G.2.1 d ht (fun h => kt h H locs ls hP hD hS hl) (fun h => kf h H locs ls hP hD hS hl)
theorem k_icmp_ne (G : xG D T Γ cc own nL ret lev mc ms) {x y : Int32} {off : Int} (tgt : Nat) (d : decode cc pc = .ok (.if_icmp .ne off, 3)) (ht : (pc : Int) + off = (tgt : Int)) (kt : ¬ x = y → K D Γ cells slots tgt lv st ws) (kf : x = y → K D Γ cells slots (pc + 3) lv st ws) : K D Γ cells slots pc lv (.int y :: .int x :: st) ws := fun H locs ls hP hD hS hl => lv_icmp_ne G.1 G.2.1 d ht (fun h => kt h H locs ls hP hD hS hl) (fun h => kf h H locs ls hP hD hS hl)
theorem k_if_lt (G : xG D T Γ cc own nL ret lev mc ms) {x : Int32} {off : Int} (tgt : Nat) (d : decode cc pc = .ok (.ifCond .lt off, 3)) (ht : (pc : Int) + off = (tgt : Int)) (kt : x < 0 → K D Γ cells slots tgt lv st ws) (kf : ¬ x < 0 → K D Γ cells slots (pc + 3) lv st ws) : K D Γ cells slots pc lv (.int x :: st) ws := fun H locs ls hP hD hS hl => lv_if_lt G.1 G.2.1 d ht (fun h => kt h H locs ls hP hD hS hl) (fun h => kf h H locs ls hP hD hS hl)
theorem k_icmp_lt (G : xG D T Γ cc own nL ret lev mc ms) {x y : Int32} {off : Int} (tgt : Nat) (d : decode cc pc = .ok (.if_icmp .lt off, 3)) (ht : (pc : Int) + off = (tgt : Int)) (kt : x < y → K D Γ cells slots tgt lv st ws) (kf : ¬ x < y → K D Γ cells slots (pc + 3) lv st ws) : K D Γ cells slots pc lv (.int y :: .int x :: st) ws := fun H locs ls hP hD hS hl => lv_icmp_lt G.1 G.2.1 d ht (fun h => kt h H locs ls hP hD hS hl) (fun h => kf h H locs ls hP hD hS hl)
theorem k_if_ge (G : xG D T Γ cc own nL ret lev mc ms) {x : Int32} {off : Int} (tgt : Nat) (d : decode cc pc = .ok (.ifCond .ge off, 3)) (ht : (pc : Int) + off = (tgt : Int)) (kt : 0 ≤ x → K D Γ cells slots tgt lv st ws) (kf : ¬ 0 ≤ x → K D Γ cells slots (pc + 3) lv st ws) : K D Γ cells slots pc lv (.int x :: st) ws := fun H locs ls hP hD hS hl => lv_if_ge G.1 G.2.1 d ht (fun h => kt h H locs ls hP hD hS hl) (fun h => kf h H locs ls hP hD hS hl)
theorem k_icmp_ge (G : xG D T Γ cc own nL ret lev mc ms) {x y : Int32} {off : Int} (tgt : Nat) (d : decode cc pc = .ok (.if_icmp .ge off, 3)) (ht : (pc : Int) + off = (tgt : Int)) (kt : y ≤ x → K D Γ cells slots tgt lv st ws) (kf : ¬ y ≤ x → K D Γ cells slots (pc + 3) lv st ws) : K D Γ cells slots pc lv (.int y :: .int x :: st) ws := fun H locs ls hP hD hS hl => lv_icmp_ge G.1 G.2.1 d ht (fun h => kt h H locs ls hP hD hS hl) (fun h => kf h H locs ls hP hD hS hl)
theorem k_if_gt (G : xG D T Γ cc own nL ret lev mc ms) {x : Int32} {off : Int} (tgt : Nat) (d : decode cc pc = .ok (.ifCond .gt off, 3)) (ht : (pc : Int) + off = (tgt : Int)) (kt : 0 < x → K D Γ cells slots tgt lv st ws) (kf : ¬ 0 < x → K D Γ cells slots (pc + 3) lv st ws) : K D Γ cells slots pc lv (.int x :: st) ws := fun H locs ls hP hD hS hl => lv_if_gt G.1 G.2.1 d ht (fun h => kt h H locs ls hP hD hS hl) (fun h => kf h H locs ls hP hD hS hl)
theorem k_icmp_gt (G : xG D T Γ cc own nL ret lev mc ms) {x y : Int32} {off : Int} (tgt : Nat) (d : decode cc pc = .ok (.if_icmp .gt off, 3)) (ht : (pc : Int) + off = (tgt : Int)) (kt : y < x → K D Γ cells slots tgt lv st ws) (kf : ¬ y < x → K D Γ cells slots (pc + 3) lv st ws) : K D Γ cells slots pc lv (.int y :: .int x :: st) ws := fun H locs ls hP hD hS hl => lv_icmp_gt G.1 G.2.1 d ht (fun h => kt h H locs ls hP hD hS hl) (fun h => kf h H locs ls hP hD hS hl)
theorem k_if_le (G : xG D T Γ cc own nL ret lev mc ms) {x : Int32} {off : Int} (tgt : Nat) (d : decode cc pc = .ok (.ifCond .le off, 3)) (ht : (pc : Int) + off = (tgt : Int)) (kt : x ≤ 0 → K D Γ cells slots tgt lv st ws) (kf : ¬ x ≤ 0 → K D Γ cells slots (pc + 3) lv st ws) : K D Γ cells slots pc lv (.int x :: st) ws := fun H locs ls hP hD hS hl => lv_if_le G.1 G.2.1 d ht (fun h => kt h H locs ls hP hD hS hl) (fun h => kf h H locs ls hP hD hS hl)
theorem k_icmp_le (G : xG D T Γ cc own nL ret lev mc ms) {x y : Int32} {off : Int} (tgt : Nat) (d : decode cc pc = .ok (.if_icmp .le off, 3)) (ht : (pc : Int) + off = (tgt : Int)) (kt : x ≤ y → K D Γ cells slots tgt lv st ws) (kf : ¬ x ≤ y → K D Γ cells slots (pc + 3) lv st ws) : K D Γ cells slots pc lv (.int y :: .int x :: st) ws := fun H locs ls hP hD hS hl => lv_icmp_le G.1 G.2.1 d ht (fun h => kt h H locs ls hP hD hS hl) (fun h => kf h H locs ls hP hD hS hl)
theorem k_goto (G : xG D T Γ cc own nL ret lev mc ms) {off : Int} (tgt : Nat) (d : decode cc pc = .ok (.goto off, 3)) (ht : (pc : Int) + off = (tgt : Int)) (k : K D Γ cells slots tgt lv st ws) : K D Γ cells slots pc lv st ws := fun H locs ls hP hD hS hl => lv_goto G.1 G.2.1 d ht (k H locs ls hP hD hS hl)
theorem k_ifnull (G : xG D T Γ cc own nL ret lev mc ms) {x : Nat} {off : Int} (d : decode cc pc = .ok (.ifnull off, 3)) (k : K D Γ cells slots (pc + 3) lv st ws) : K D Γ cells slots pc lv (.ref x :: st) ws := fun H locs ls hP hD hS hl => lv_ifnull G.1 G.2.1 d (k H locs ls hP hD hS hl)
theorem k_ifnullN (G : xG D T Γ cc own nL ret lev mc ms) {off : Int} (tgt : Nat) (d : decode cc pc = .ok (.ifnull off, 3)) (ht : (pc : Int) + off = (tgt : Int)) (k : K D Γ cells slots tgt lv st ws) : K D Γ cells slots pc lv (.null :: st) ws := fun H locs ls hP hD hS hl => lv_ifnullN G.1 G.2.1 d ht (k H locs ls hP hD hS hl)
theorem k_ifnonnull (G : xG D T Γ cc own nL ret lev mc ms) {x : Nat} {off : Int} (tgt : Nat) (d : decode cc pc = .ok (.ifnonnull off, 3)) (ht : (pc : Int) + off = (tgt : Int)) (k : K D Γ cells slots tgt lv st ws) : K D Γ cells slots pc lv (.ref x :: st) ws := fun H locs ls hP hD hS hl => lv_ifnonnull G.1 G.2.1 d ht (k H locs ls hP hD hS hl)
theorem k_ifnonnullN (G : xG D T Γ cc own nL ret lev mc ms) {off : Int} (d : decode cc pc = .ok (.ifnonnull off, 3)) (k : K D Γ cells slots (pc + 3) lv st ws) : K D Γ cells slots pc lv (.null :: st) ws := fun H locs ls hP hD hS hl => lv_ifnonnullN G.1 G.2.1 d (k H locs ls hP hD hS hl)
theorem k_lookup (G : xG D T Γ cc own nL ret lev mc ms) {dflt : Int} {ps : Array (Int × Int)} {len : Nat} {x : Int32} {off : Int} (tgt : Nat) (d : decode cc pc = .ok (.lookupswitch dflt ps, len)) (hp : (ps.toList.zip (ps.toList.drop 1)).all (fun (a, next) => a.1 < next.1) = true) (ho : Op.lookupswitch.offset ps.toList dflt x.toInt = off) (ht : (pc : Int) + off = (tgt : Int)) (k : K D Γ cells slots tgt lv st ws) : K D Γ cells slots pc lv (.int x :: st) ws := fun H locs ls hP hD hS hl => lv_lookup G.1 G.2.1 d hp ho ht (k H locs ls hP hD hS hl)
theorem k_tableOut (G : xG D T Γ cc own nL ret lev mc ms) {dflt lo hi : Int} {offs : Array Int} {len : Nat} {x : Int32} (tgt : Nat) (d : decode cc pc = .ok (.tableswitch dflt lo hi offs, len)) (h : x.toInt < lo ∨ hi < x.toInt) (ht : (pc : Int) + dflt = (tgt : Int)) (k : K D Γ cells slots tgt lv st ws) : K D Γ cells slots pc lv (.int x :: st) ws := fun H locs ls hP hD hS hl => lv_tableOut G.1 G.2.1 d h ht (k H locs ls hP hD hS hl)
theorem k_tableIn (G : xG D T Γ cc own nL ret lev mc ms) {dflt lo hi : Int} {offs : Array Int} {len : Nat} {x : Int32} {off : Int} (tgt : Nat) (d : decode cc pc = .ok (.tableswitch dflt lo hi offs, len)) (h1 : ¬ x.toInt < lo) (h2 : ¬ hi < x.toInt) (ho : offs[(x.toInt - lo).toNat]? = some off) (ht : (pc : Int) + off = (tgt : Int)) (k : K D Γ cells slots tgt lv st ws) : K D Γ cells slots pc lv (.int x :: st) ws := fun H locs ls hP hD hS hl => lv_tableIn G.1 G.2.1 d h1 h2 ho ht (k H locs ls hP hD hS hl)
end KR
/-! returns and calls over K -/
set_option maxRecDepth 100000
theorem x_pa {D : va_G} {cl : List vw_C} {a b : va_W} {H : Heap} : va_P D cl (a ++ b) H ↔ va_P D cl a H ∧ va_P D cl b H := by
  refine ⟨fun h => ⟨fun k q hk => h k q ?_, fun k q hk => h (a.length + k) q ?_⟩, fun h => va_P.app h.1 h.2⟩
  · rw [List.getElem?_append_left (List.getElem?_eq_some_iff.mp hk).1]; exact hk
  · rw [List.getElem?_append_right (Nat.le_add_right _ _), Nat.add_sub_cancel_left]; exact hk
theorem x_pm {D : va_G} {cl : List vw_C} {a : va_W} {H : Heap} : va_P D cl a H ↔ ∀ q ∈ a, va_at D cl q H := by
  refine ⟨fun h q hq => ?_, fun h k q hk => h q (List.mem_of_getElem? hk)⟩
  obtain ⟨k, hk⟩ := List.getElem?_of_mem hq
  exact h k q hk
theorem x_da {A : Nat → Prop} {a b : va_W} : va_D A (a ++ b) ↔ va_D A a ∧ va_D A b ∧ ∀ p ∈ a, ∀ q ∈ b, p.1 ≠ q.1 := by
  constructor
  · intro h
    have hl : ∀ (k : Nat) (q : Nat × va_E), a[k]? = some q → (a ++ b)[k]? = some q := fun k q hk => by
      rw [List.getElem?_append_left (List.getElem?_eq_some_iff.mp hk).1]; exact hk
    have hr : ∀ (k : Nat) (q : Nat × va_E), b[k]? = some q → (a ++ b)[a.length + k]? = some q := fun k q hk => by
      rw [List.getElem?_append_right (Nat.le_add_right _ _), Nat.add_sub_cancel_left]; exact hk
    refine ⟨⟨fun i j p q hi hj e => h.1 i j p q (hl i p hi) (hl j q hj) e, fun k q hk => h.2 k q (hl k q hk)⟩, ⟨fun i j p q hi hj e => ?_, fun k q hk => h.2 _ q (hr k q hk)⟩, fun p hp q hq e => ?_⟩
    · have := h.1 _ _ p q (hr i p hi) (hr j q hj) e
      omega
    · obtain ⟨i, hi⟩ := List.getElem?_of_mem hp
      obtain ⟨j, hj⟩ := List.getElem?_of_mem hq
      have h1 := h.1 _ _ p q (hl i p hi) (hr j q hj) e
      have h2 := (List.getElem?_eq_some_iff.mp hi).1
      omega
  · rintro ⟨h1, h2, h3⟩
    exact va_D.app h1 h2 (fun i j p q hi hj => h3 p (List.mem_of_getElem? hi) q (List.mem_of_getElem? hj))
theorem x_join {A : Nat → Prop} {D : va_G} {cl : List vw_C} {wl wc wr w1 : va_W} {H H1 : Heap} (hP : va_P D cl (wl ++ (wc ++ wr)) H) (hD : va_D A (wl ++ (wc ++ wr))) (hk : ∀ q : Nat, q < H.size → ¬ va_A wc H.size q → H1[q]? = H[q]?) (hF : ∀ q, va_A wc H.size q → A q) (hP1 : va_P D cl w1 H1) (hD1 : va_D (va_A wc H.size) w1) : va_P D cl (wl ++ (w1 ++ wr)) H1 ∧ va_D A (wl ++ (w1 ++ wr)) := by
  obtain ⟨pl, pcr⟩ := x_pa.mp hP
  obtain ⟨pc, pr⟩ := x_pa.mp pcr
  obtain ⟨dl, dcr, dx⟩ := x_da.mp hD
  obtain ⟨dc, dr, dy⟩ := x_da.mp dcr
  have inA : ∀ (q : Nat), va_A wc H.size q → q < H.size → ∃ e, (q, e) ∈ wc := by
    intro q h hq
    rcases h with ⟨k, e, h⟩ | h
    · exact ⟨e, List.mem_of_getElem? h⟩
    · omega
  have ol : ∀ p ∈ wl, p.1 < H.size ∧ ¬ va_A wc H.size p.1 := by
    intro p hp
    have hlt := (x_pm.mp pl p hp).lt
    refine ⟨hlt, fun h => ?_⟩
    obtain ⟨e, he⟩ := inA _ h hlt
    exact dx p hp _ (List.mem_append_left _ he) rfl
  have or' : ∀ p ∈ wr, p.1 < H.size ∧ ¬ va_A wc H.size p.1 := by
    intro p hp
    have hlt := (x_pm.mp pr p hp).lt
    refine ⟨hlt, fun h => ?_⟩
    obtain ⟨e, he⟩ := inA _ h hlt
    exact dy _ he p hp rfl
  have i1 : ∀ q ∈ w1, va_A wc H.size q.1 := by
    intro q hq
    obtain ⟨k, hk⟩ := List.getElem?_of_mem hq
    exact hD1.2 k q hk
  refine ⟨x_pa.mpr ⟨x_pm.mpr fun p hp => (x_pm.mp pl p hp).kept (hk _ (ol p hp).1 (ol p hp).2), x_pa.mpr ⟨hP1, x_pm.mpr fun p hp => (x_pm.mp pr p hp).kept (hk _ (or' p hp).1 (or' p hp).2)⟩⟩, x_da.mpr ⟨dl, x_da.mpr ⟨hD1.weaken (fun k q _ h => hF q.1 h), dr, fun q hq p hp e => (or' p hp).2 (by rw [← e]; exact i1 q hq)⟩, fun p hp q hq e => ?_⟩⟩
  rcases List.mem_append.mp hq with h | h
  · exact (ol p hp).2 (by rw [e]; exact i1 q h)
  · exact dx p hp q (List.mem_append_right _ h) e
theorem x_free {A : Nat → Prop} {wl wc wr : va_W} {H0 H : Heap} {locs : List Loc} (hD : va_D A (wl ++ (wc ++ wr))) (hS : va_S A H0 H locs) (hA : ∀ q, H0.size ≤ q → A q) : ∀ q, va_A wc H.size q → A q := by
  intro q h
  rcases h with ⟨k, e, h⟩ | h
  · exact (x_da.mp (x_da.mp hD).2.1).1.2 k (q, e) h
  · exact hA q (Nat.le_trans hS.1 h)
/-- what the tables say of a method called through an object, but for the caller's link -/
def xV (y : MethodName) (C : String) (code : ByteArray) (nL : Nat) (ret : Option FieldType) (n : Nat) : Prop := Cond.instanceMethod y ∈ lw_all ∧ Cond.selects C y y ∈ lw_all ∧ Cond.initialized C ∈ lw_all ∧ Cond.code y code nL ret ∈ lw_all ∧ (y.cls = C ∧ y.cls ≠ "java/lang/invoke/MethodHandle" ∧ y.cls ≠ "java/lang/invoke/VarHandle" ∧ (parseMethodDescriptor y.desc).map (fun d => d.parameters.length) = some n) ∧ nL ≤ 45
/-- .. of a static one -/
def xS (y : MethodName) (code : ByteArray) (nL : Nat) (ret : Option FieldType) (n : Nat) : Prop := Cond.static y ∈ lw_all ∧ Cond.initialized y.cls ∈ lw_all ∧ Cond.code y code nL ret ∈ lw_all ∧ (y.cls ≠ "java/lang/invoke/MethodHandle" ∧ y.cls ≠ "java/lang/invoke/VarHandle" ∧ (parseMethodDescriptor y.desc).map (fun d => d.parameters.length) = some n) ∧ nL ≤ 45
/-- .. of a constructor -/
def xI (y : MethodName) (code : ByteArray) (nL : Nat) (n : Nat) : Prop := Cond.instanceMethod y ∈ lw_all ∧ Cond.initialized y.cls ∈ lw_all ∧ Cond.code y code nL none ∈ lw_all ∧ y.name = "<init>" ∧ (y.cls ≠ "java/lang/invoke/MethodHandle" ∧ y.cls ≠ "java/lang/invoke/VarHandle" ∧ (parseMethodDescriptor y.desc).map (fun d => d.parameters.length) = some n) ∧ nL ≤ 45
section KC
variable {D : va_G} {T : xT} {Γ : xE} {cc : ByteArray} {own : String} {nL lev mc ms : Nat} {ret : Option FieldType} {cells slots pc : Nat} {lv : List (Nat × Value)} {st : List Value} {ws : va_W} {post : Option Value → va_W → Prop}
theorem k_iret (G : xG D T Γ cc own nL (some .int) lev mc ms) (X : xX D Γ mc ms post) {x : Int32} (d : decode cc pc = .ok (.ireturn, 1)) (hc : cells ≤ mc) (hs : slots ≤ ms) (h : post (some (.int x)) ws) : K D Γ cells slots pc lv [.int x] ws := by
  intro H locs ls hP hD hS hl
  unfold xw
  rw [X]
  refine W.widen hc hs ?_
  exact W.iret G.1 G.2.1 G.2.2.2.1 (fun t ht hW => ⟨⟨_, ws, rfl, h, by rw [ht]; exact hP, hD⟩, hS.F ht⟩) hS.2.2 d G.2.2.2.2.1
theorem k_zret (G : xG D T Γ cc own nL (some .boolean) lev mc ms) (X : xX D Γ mc ms post) {x : Int32} (hx : x = 0 ∨ x = 1) (d : decode cc pc = .ok (.ireturn, 1)) (hc : cells ≤ mc) (hs : slots ≤ ms) (h : post (some (.int x)) ws) : K D Γ cells slots pc lv [.int x] ws := by
  intro H locs ls hP hD hS hl
  unfold xw
  rw [X]
  refine W.widen hc hs ?_
  exact W.zret G.1 G.2.1 G.2.2.2.1 (by rcases hx with rfl | rfl <;> rfl) (fun t ht hW => ⟨⟨_, ws, rfl, h, by rw [ht]; exact hP, hD⟩, hS.F ht⟩) hS.2.2 d G.2.2.2.2.1
theorem k_lret (G : xG D T Γ cc own nL (some .long) lev mc ms) (X : xX D Γ mc ms post) {x : Int64} (d : decode cc pc = .ok (.lreturn, 1)) (hc : cells ≤ mc) (hs : slots ≤ ms) (h : post (some (.long x)) ws) : K D Γ cells slots pc lv [.long x] ws := by
  intro H locs ls hP hD hS hl
  unfold xw
  rw [X]
  refine W.widen hc hs ?_
  exact W.lret G.1 G.2.1 G.2.2.2.1 (fun t ht hW => ⟨⟨_, ws, rfl, h, by rw [ht]; exact hP, hD⟩, hS.F ht⟩) hS.2.2 d G.2.2.2.2.1
theorem k_vret (G : xG D T Γ cc own nL none lev mc ms) (X : xX D Γ mc ms post) (d : decode cc pc = .ok (.return_, 1)) (hc : cells ≤ mc) (hs : slots ≤ ms) (h : post none ws) : K D Γ cells slots pc lv [] ws := by
  intro H locs ls hP hD hS hl
  unfold xw
  rw [X]
  refine W.widen hc hs ?_
  exact W.vret G.1 G.2.1 G.2.2.2.1 (fun t ht hW => ⟨⟨_, ws, rfl, h, by rw [ht]; exact hP, hD⟩, hS.F ht⟩) hS.2.2 d G.2.2.2.2.1
theorem k_aret {rt : FieldType} (G : xG D T Γ cc own nL (some rt) lev mc ms) (X : xX D Γ mc ms post) (hrt : (∃ n, rt = .object n) ∨ ∃ t, rt = .array t) {r : Option Nat} (d : decode cc pc = .ok (.areturn, 1)) (hc : cells ≤ mc) (hs : slots ≤ ms) (h : post (some (va_rf r)) ws) : K D Γ cells slots pc lv [va_rf r] ws := by
  intro H locs ls hP hD hS hl
  unfold xw
  rw [X]
  refine W.widen hc hs ?_
  exact W.aret G.1 G.2.1 G.2.2.2.1 hrt (va_rf_or r) (fun t ht hW => ⟨⟨_, ws, rfl, h, by rw [ht]; exact hP, hD⟩, hS.F ht⟩) hS.2.2 d G.2.2.2.2.1
theorem k_run (G : xG D T Γ cc own nL ret lev mc ms) {wl wc wr : va_W} {mcc msc : Nat} {rest : List Value} {a : Array Value}
    (hr : ∀ (H : Heap) (locs : List Loc) (ls : Array Slot), va_P D xcl (wl ++ (wc ++ wr)) H → va_D Γ.2.2.2.2.2 (wl ++ (wc ++ wr)) → va_S Γ.2.2.2.2.2 Γ.2.1.1.heap H locs → lv_has ls Γ.2.2.2.1.maxLocals lv → va_Run Γ.1.1 Γ.1.2.1 Γ.1.2.2.1 Γ.1.2.2.2 Γ.2.1.1 Γ.2.1.2.1 Γ.2.1.2.2.1 Γ.2.1.2.2.2 Γ.2.2.1 Γ.2.2.2.1 H locs cells slots mcc msc (F0 Γ.2.1.2.1 pc ls st) rest (xQ D (va_A wc H.size) post a) (va_A wc H.size))
    (kk : ∀ (v : Option Value) (wc' : va_W), post v wc' → K D Γ (cells + mcc) (slots + msc) (pc + 3) lv (v.toList ++ rest) (wl ++ (wc' ++ wr))) : K D Γ cells slots pc lv st (wl ++ (wc ++ wr)) := by
  intro H locs ls hP hD hS hl S hT X
  obtain ⟨v, st₀, t, T', L, h0, X', hL, e1, e2, ⟨⟨v', wc', hv, hp, hP1, hD1⟩, hz, hk⟩, stp⟩ := hr H locs ls hP hD hS hl S hT X
  cases hv
  rw [h0] at hz hk
  have hF := x_free hD hS G.2.2.2.2.2.2.2.1
  obtain ⟨hPj, hDj⟩ := x_join hP hD hk hF hP1 (by rw [h0] at *; exact hD1)
  obtain ⟨t2, a1, b1⟩ := kk v wc' hp T'.heap (locs ++ L) ls (by rw [e1]; exact hPj) hDj
    ⟨Nat.le_trans hS.1 (by rw [e1]; exact hz), fun q h1 h2 => by rw [e1, hk q (Nat.lt_of_lt_of_le h1 hS.1) (fun z => h2 (hF q z))]; exact hS.2.1 q h1 h2, fun q hq => by
      rcases List.mem_append.mp hq with h | h
      · exact hS.2.2 q h
      · exact hF _ (hL q h)⟩ hl T' rfl X'
  exact ⟨t2, stp t2 a1, b1⟩
theorem x_blind {sz : Nat} {args : List Value} : FrameBlind (xPc D T sz ws args) := fun a U g mk q => by
  obtain ⟨q0, q1, qP, qE, qD⟩ := q
  exact ⟨q0, q1, qP, qE.calling, qD⟩
theorem k_callV (G : xG D T Γ cc own nL ret lev mc ms) {y : MethodName} {code' : ByteArray} {nL' lev' mcc msc n idx b : Nat} {ret' : Option FieldType} {As rest : List Value} {wl wc wr : va_W} {C : String} (hM : XM Γ.1.2.1 D T y code' nL' ret' lev' mcc msc (.ref b :: As) wc post) (f : xV y C code' nL' ret' n) (hlink : Cond.methodLink own idx y ∈ lw_all) (hn : As.length = n) (hst : st = As.reverse ++ .ref b :: rest) (hcat : (rest.map fun v => v.category).sum ≤ 8) (hlev : lev' + 1 ≤ lev) (hroom : cells + mcc ≤ mc ∧ slots + msc ≤ ms)
    (hrecv : ∃ (q0 ci : Nat) (fs : List Value) (TT : u_T) (N : Nat), (wl ++ (wc ++ wr))[q0]? = some (b, .inr (ci, fs)) ∧ xcl[ci]? = some (C, TT, N)) (d : decode cc pc = .ok (.invokevirtual idx, 3))
    (kk : ∀ (v : Option Value) (wc' : va_W), post v wc' → K D Γ (cells + mcc) (slots + msc) (pc + 3) lv (v.toList ++ rest) (wl ++ (wc' ++ wr))) : K D Γ cells slots pc lv st (wl ++ (wc ++ wr)) := by
  obtain ⟨f1, f2, f3, f4, f5, f6⟩ := f
  obtain ⟨q0, ci, fs, TT, N, r1, r2⟩ := hrecv
  have hR : Γ.1.2.2.2 = xrm lev mc ms := G.2.2.2.2.2.2.2.2.2
  refine k_run G (a := (Value.ref b :: As).toArray) (fun H locs ls hP hD hS hl => ?_) kk
  have hPc := (x_pa.mp (x_pa.mp hP).2).1
  have hDc := (x_da.mp (x_da.mp hD).2.1).1
  exact va_runV (As := As) (rest := rest) ⟨G.1, G.2.1, G.2.2.1, G.2.2.2.2.2.1, G.2.2.2.2.2.2.1⟩ (hM H.size) (cwV n G.2.2.2.2.2.2.1 (lw_V hlink f1 f2 f3 f4) rfl rfl rfl f5 (by rw [hR]; exact ⟨hlev, by show 8 + (nL' + 11) + 64 * lev' ≤ 64 * lev; omega⟩))
    ⟨x_blind, va_recv G.2.2.2.2.2.2.2.2.1.1 hP r2 r1, fun U hU hW => ⟨rfl, by rw [hU], by rw [hU]; exact hPc, G.2.2.2.2.2.2.2.2.1.next hW (fun a ha hb => by rw [hU]; exact hS.2.1 a ha hb) (x_free hD hS G.2.2.2.2.2.2.2.1), hDc.weaken (fun _ _ _ _ => trivial)⟩⟩ rfl hn (hl.1.trans G.2.2.1) hst (lv_room hcat) d (by rw [hR]; exact hroom)
theorem k_callS (G : xG D T Γ cc own nL ret lev mc ms) {y : MethodName} {code' : ByteArray} {nL' lev' mcc msc n idx : Nat} {ret' : Option FieldType} {As rest : List Value} {wl wc wr : va_W} (hM : XM Γ.1.2.1 D T y code' nL' ret' lev' mcc msc As wc post) (f : xS y code' nL' ret' n) (hlink : Cond.methodLink own idx y ∈ lw_all) (hn : As.length = n) (hst : st = As.reverse ++ rest) (hcat : (rest.map fun v => v.category).sum ≤ 8) (hlev : lev' + 1 ≤ lev) (hroom : cells + mcc ≤ mc ∧ slots + msc ≤ ms)
    (d : decode cc pc = .ok (.invokestatic idx, 3))
    (kk : ∀ (v : Option Value) (wc' : va_W), post v wc' → K D Γ (cells + mcc) (slots + msc) (pc + 3) lv (v.toList ++ rest) (wl ++ (wc' ++ wr))) : K D Γ cells slots pc lv st (wl ++ (wc ++ wr)) := by
  obtain ⟨f1, f3, f4, f5, f6⟩ := f
  have hR : Γ.1.2.2.2 = xrm lev mc ms := G.2.2.2.2.2.2.2.2.2
  refine k_run G (a := As.toArray) (fun H locs ls hP hD hS hl => ?_) kk
  have hPc := (x_pa.mp (x_pa.mp hP).2).1
  have hDc := (x_da.mp (x_da.mp hD).2.1).1
  exact va_runS (As := As) (rest := rest) ⟨G.1, G.2.1, G.2.2.1, G.2.2.2.2.2.1, G.2.2.2.2.2.2.1⟩ (hM H.size) (va_cwS n G.2.2.2.2.2.2.1 (lw_S hlink f1 f3 f4) rfl rfl rfl f5 (by rw [hR]; exact ⟨hlev, by show 8 + (nL' + 11) + 64 * lev' ≤ 64 * lev; omega⟩))
    ⟨x_blind, fun U hU hW => ⟨rfl, by rw [hU], by rw [hU]; exact hPc, G.2.2.2.2.2.2.2.2.1.next hW (fun a ha hb => by rw [hU]; exact hS.2.1 a ha hb) (x_free hD hS G.2.2.2.2.2.2.2.1), hDc.weaken (fun _ _ _ _ => trivial)⟩⟩ rfl hn (hl.1.trans G.2.2.1) hst (lv_room hcat) d (by rw [hR]; exact hroom)
theorem k_callI (G : xG D T Γ cc own nL ret lev mc ms) {y : MethodName} {code' : ByteArray} {nL' lev' mcc msc n idx b : Nat} {As rest : List Value} {wl wc wr : va_W} (hM : XM Γ.1.2.1 D T y code' nL' none lev' mcc msc (.ref b :: As) wc post) (f : xI y code' nL' n) (hlink : Cond.methodLink own idx y ∈ lw_all) (hn : As.length = n) (hst : st = As.reverse ++ .ref b :: rest) (hcat : (rest.map fun v => v.category).sum ≤ 8) (hlev : lev' + 1 ≤ lev) (hroom : cells + mcc ≤ mc ∧ slots + msc ≤ ms)
    (d : decode cc pc = .ok (.invokespecial idx, 3))
    (kk : ∀ (v : Option Value) (wc' : va_W), post v wc' → K D Γ (cells + mcc) (slots + msc) (pc + 3) lv (v.toList ++ rest) (wl ++ (wc' ++ wr))) : K D Γ cells slots pc lv st (wl ++ (wc ++ wr)) := by
  obtain ⟨f1, f3, f4, fy, f5, f6⟩ := f
  have hR : Γ.1.2.2.2 = xrm lev mc ms := G.2.2.2.2.2.2.2.2.2
  refine k_run G (a := (Value.ref b :: As).toArray) (fun H locs ls hP hD hS hl => ?_) kk
  have hPc := (x_pa.mp (x_pa.mp hP).2).1
  have hDc := (x_da.mp (x_da.mp hD).2.1).1
  exact va_runI (As := As) (rest := rest) ⟨G.1, G.2.1, G.2.2.1, G.2.2.2.2.2.1, G.2.2.2.2.2.2.1⟩ (hM H.size) (cwI n G.2.2.2.2.2.2.1 (lw_meth f4) rfl rfl rfl (G.2.2.2.2.2.2.1 _ f3) (G.2.2.2.2.2.2.1 _ hlink) (G.2.2.2.2.2.2.1 _ f1) fy f5 (by rw [hR]; exact ⟨hlev, by show 8 + (nL' + 11) + 64 * lev' ≤ 64 * lev; omega⟩))
    ⟨x_blind, fun U hU hW => ⟨rfl, by rw [hU], by rw [hU]; exact hPc, G.2.2.2.2.2.2.2.2.1.next hW (fun a ha hb => by rw [hU]; exact hS.2.1 a ha hb) (x_free hD hS G.2.2.2.2.2.2.2.1), hDc.weaken (fun _ _ _ _ => trivial)⟩⟩ rfl hn (hl.1.trans G.2.2.1) hst (lv_room hcat) d (by rw [hR]; exact hroom)
/-- the whole world goes along -/
theorem k_callVw (G : xG D T Γ cc own nL ret lev mc ms) {y : MethodName} {code' : ByteArray} {nL' lev' mcc msc n idx b : Nat} {ret' : Option FieldType} {As rest : List Value} {C : String} (hM : XM Γ.1.2.1 D T y code' nL' ret' lev' mcc msc (.ref b :: As) ws post) (f : xV y C code' nL' ret' n) (hlink : Cond.methodLink own idx y ∈ lw_all) (hn : As.length = n) (hst : st = As.reverse ++ .ref b :: rest) (hcat : (rest.map fun v => v.category).sum ≤ 8) (hlev : lev' + 1 ≤ lev) (hroom : cells + mcc ≤ mc ∧ slots + msc ≤ ms)
    (hrecv : ∃ (q0 ci : Nat) (fs : List Value) (TT : u_T) (N : Nat), ws[q0]? = some (b, .inr (ci, fs)) ∧ xcl[ci]? = some (C, TT, N)) (d : decode cc pc = .ok (.invokevirtual idx, 3))
    (kk : ∀ (v : Option Value) (wc' : va_W), post v wc' → K D Γ (cells + mcc) (slots + msc) (pc + 3) lv (v.toList ++ rest) wc') : K D Γ cells slots pc lv st ws := by
  have h := k_callV G (wl := []) (wr := []) hM f hlink hn hst hcat hlev hroom (by simpa using hrecv) d (fun v wc' hp => by simpa using kk v wc' hp)
  simpa using h
theorem k_callSw (G : xG D T Γ cc own nL ret lev mc ms) {y : MethodName} {code' : ByteArray} {nL' lev' mcc msc n idx : Nat} {ret' : Option FieldType} {As rest : List Value} (hM : XM Γ.1.2.1 D T y code' nL' ret' lev' mcc msc As ws post) (f : xS y code' nL' ret' n) (hlink : Cond.methodLink own idx y ∈ lw_all) (hn : As.length = n) (hst : st = As.reverse ++ rest) (hcat : (rest.map fun v => v.category).sum ≤ 8) (hlev : lev' + 1 ≤ lev) (hroom : cells + mcc ≤ mc ∧ slots + msc ≤ ms)
    (d : decode cc pc = .ok (.invokestatic idx, 3))
    (kk : ∀ (v : Option Value) (wc' : va_W), post v wc' → K D Γ (cells + mcc) (slots + msc) (pc + 3) lv (v.toList ++ rest) wc') : K D Γ cells slots pc lv st ws := by
  have h := k_callS G (wl := []) (wr := []) hM f hlink hn hst hcat hlev hroom d (fun v wc' hp => by simpa using kk v wc' hp)
  simpa using h
/-- a static method that sees no heap: its answer alone -/
def XS0 (l : Launch) (D : va_G) (T : xT) (y : MethodName) (code : ByteArray) (nL : Nat) (ret : Option FieldType) (lev : Nat) (args : List Value) (r : Value) : Prop := XM l D T y code nL ret lev 0 0 args [] (fun v w => v = some r ∧ w = [])
theorem k_callSp (G : xG D T Γ cc own nL ret lev mc ms) {y : MethodName} {code' : ByteArray} {nL' lev' n idx : Nat} {ret' : Option FieldType} {As rest : List Value} {r : Value} (hM : XS0 Γ.1.2.1 D T y code' nL' ret' lev' As r) (f : xS y code' nL' ret' n) (hlink : Cond.methodLink own idx y ∈ lw_all) (hn : As.length = n) (hst : st = As.reverse ++ rest) (hcat : (rest.map fun v => v.category).sum ≤ 8) (hlev : lev' + 1 ≤ lev) (hroom : cells ≤ mc ∧ slots ≤ ms)
    (d : decode cc pc = .ok (.invokestatic idx, 3)) (k : K D Γ cells slots (pc + 3) lv (r :: rest) ws) : K D Γ cells slots pc lv st ws := by
  have h := k_callS G (wl := []) (wc := []) (wr := ws) hM f hlink hn hst hcat hlev hroom d (fun v wc' hp => by obtain ⟨rfl, rfl⟩ := hp; exact k)
  exact h
end KC
/-! names for values, switches -/
section KN
variable {D : va_G} {T : xT} {Γ : xE} {cc : ByteArray} {own : String} {nL lev mc ms : Nat} {ret : Option FieldType} {cells slots pc : Nat} {lv : List (Nat × Value)} {st : List Value} {ws : va_W}
theorem k_nmI {x : Int32} (k : ∀ y : Int32, y = x → K D Γ cells slots pc lv (.int y :: st) ws) : K D Γ cells slots pc lv (.int x :: st) ws := k x rfl
theorem k_nmL {x : Int64} (k : ∀ y : Int64, y = x → K D Γ cells slots pc lv (.long y :: st) ws) : K D Γ cells slots pc lv (.long x :: st) ws := k x rfl
theorem k_tswIn (G : xG D T Γ cc own nL ret lev mc ms) {dflt lo hi : Int} {offs : Array Int} {len : Nat} {x : Int32} {off : Int} (v : Int32) (hx : x = v) (tgt : Nat) (d : decode cc pc = .ok (.tableswitch dflt lo hi offs, len)) (h1 : ¬ v.toInt < lo) (h2 : ¬ hi < v.toInt) (ho : offs[(v.toInt - lo).toNat]? = some off) (ht : (pc : Int) + off = (tgt : Int)) (k : K D Γ cells slots tgt lv st ws) : K D Γ cells slots pc lv (.int x :: st) ws := by
  subst hx
  exact k_tableIn G tgt d h1 h2 ho ht k
theorem k_tswD (G : xG D T Γ cc own nL ret lev mc ms) {dflt lo hi : Int} {offs : Array Int} {len : Nat} {x : Int32} (vals : List Int32) (tgt : Nat) (d : decode cc pc = .ok (.tableswitch dflt lo hi offs, len)) (hall : (List.range offs.size).all (fun j => decide (offs[j]? = some dflt) || vals.any (fun v => decide (v.toInt = lo + (j : Int)))) = true) (hn : (offs.size : Int) = hi - lo + 1) (hx : ∀ v ∈ vals, ¬ x = v) (ht : (pc : Int) + dflt = (tgt : Int)) (k : K D Γ cells slots tgt lv st ws) : K D Γ cells slots pc lv (.int x :: st) ws := by
  by_cases h1 : x.toInt < lo
  · exact k_tableOut G tgt d (Or.inl h1) ht k
  · by_cases h2 : hi < x.toInt
    · exact k_tableOut G tgt d (Or.inr h2) ht k
    · have hj : (x.toInt - lo).toNat < offs.size := by omega
      have h3 := List.all_eq_true.mp hall (x.toInt - lo).toNat (List.mem_range.mpr hj)
      rw [Bool.or_eq_true] at h3
      rcases h3 with h3 | h3
      · exact k_tableIn G tgt d h1 h2 (of_decide_eq_true h3) ht k
      · obtain ⟨v, hv, e⟩ := List.any_eq_true.mp h3
        have e1 := of_decide_eq_true e
        exact absurd (Int32.toInt_inj.mp (by omega)) (hx v hv)
theorem k_lswIn (G : xG D T Γ cc own nL ret lev mc ms) {dflt : Int} {ps : Array (Int × Int)} {len : Nat} {x : Int32} {off : Int} (v : Int32) (hx : x = v) (tgt : Nat) (d : decode cc pc = .ok (.lookupswitch dflt ps, len)) (hp : (ps.toList.zip (ps.toList.drop 1)).all (fun (a, next) => a.1 < next.1) = true) (ho : Op.lookupswitch.offset ps.toList dflt v.toInt = off) (ht : (pc : Int) + off = (tgt : Int)) (k : K D Γ cells slots tgt lv st ws) : K D Γ cells slots pc lv (.int x :: st) ws := by
  subst hx
  exact k_lookup G tgt d hp ho ht k
theorem k_lswD (G : xG D T Γ cc own nL ret lev mc ms) {dflt : Int} {ps : Array (Int × Int)} {len : Nat} {x : Int32} (vals : List Int32) (tgt : Nat) (d : decode cc pc = .ok (.lookupswitch dflt ps, len)) (hp : (ps.toList.zip (ps.toList.drop 1)).all (fun (a, next) => a.1 < next.1) = true) (hall : ps.toList.all (fun q => vals.any (fun v => decide (v.toInt = q.1))) = true) (hx : ∀ v ∈ vals, ¬ x = v) (ht : (pc : Int) + dflt = (tgt : Int)) (k : K D Γ cells slots tgt lv st ws) : K D Γ cells slots pc lv (.int x :: st) ws := by
  refine k_lookup G (off := dflt) tgt d hp (Op.lookupswitch.offset_none (List.find?_eq_none.mpr fun q hq => ?_)) ht k
  obtain ⟨v, hv, e⟩ := List.any_eq_true.mp (List.all_eq_true.mp hall q hq)
  have e1 := of_decide_eq_true e
  intro h
  exact hx v hv (Int32.toInt_inj.mp (by rw [e1]; exact (beq_iff_eq.mp h).symm))
end KN
