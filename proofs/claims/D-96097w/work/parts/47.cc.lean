/-! a cast that fails; an array of fewer than none -/
set_option maxRecDepth 100000
theorem tx_bytes (s : String) : (stringBytes (stringToUtf16 s)).size ≤ 4 * s.toList.length := by
  have b1 := stringBytes_size_le (stringToUtf16 s)
  have b2 := utf16_size_le s
  omega
theorem tx_mod {s : String} (h : s.toList.length ≤ 20 ∨ s.toList.head? = some 'c' ∨ s.toList.head? = some 'a') : (s == notModelled) = false := by
  rw [beq_eq_false_iff_ne]
  intro e
  subst e
  revert h
  decide
theorem tx_int (n : Int32) : ((toString n : String) == notModelled) = false ∧ (stringBytes (stringToUtf16 (toString n))).size ≤ 100 := by
  have h := int32_print n
  refine ⟨tx_mod (Or.inl (by omega)), ?_⟩
  have := tx_bytes (toString n)
  omega
def homeW (w : String) : Prop := w = "module java.base of loader 'bootstrap'" ∨ w = "unnamed module of loader 'bootstrap'"
theorem home_of {vm : Vm} {k : Class} (hMR : ∀ m ∈ vm.modules, m.loader = none → "" ∈ m.packages → m.name = "java.base") (hl : k.loader = none) (hp : packageOf k.name = "") : homeW (vm.home k) := by
  have h2 : ∀ m, vm.moduleOf k = some m → m.name = "java.base" := by
    intro m hm
    unfold Vm.moduleOf at hm
    split at hm
    · have h3 := List.find?_some hm
      simpa using h3
    · have h3 := List.find?_some hm
      have h4 := List.mem_of_find?_eq_some hm
      rw [hl, hp] at h3
      simp only [Bool.and_eq_true, beq_iff_eq, List.contains_iff_mem] at h3
      exact hMR m h4 h3.1 h3.2
  unfold Vm.home homeW
  rw [hl]
  cases h : vm.moduleOf k with
  | none => exact Or.inr (by show "unnamed module" ++ " of loader " ++ "'bootstrap'" = _; decide +kernel)
  | some m =>
    refine Or.inl ?_
    show "module " ++ m.name ++ " of loader " ++ "'bootstrap'" = _
    rw [h2 m h]
    decide +kernel
theorem homeW.len {w : String} (h : homeW w) : w.toList.length ≤ 38 := by
  rcases h with rfl | rfl <;> decide +kernel
theorem findC {vm : Vm} {name : String} {c : ClassId} (h : vm.findClass name = some c) : ∃ k : Class, vm.classes[c]? = some k ∧ k.name = name ∧ k.hidden = none ∧ k.loader = none := by
  obtain ⟨hlt, hp, _⟩ := Array.findIdx?_eq_some_iff_getElem.mp h
  refine ⟨vm.classes[c], by simp [hlt], ?_⟩
  simp only [Bool.and_eq_true, beq_iff_eq, Option.isNone_iff_eq_none] at hp
  exact ⟨hp.1.1.1, hp.1.1.2, hp.2⟩
/-- a name of ours: short, in the unnamed package -/
def ourN (n : String) : Prop := packageOf n = "" ∧ (dotted n).toList.length ≤ 22
theorem cast_text {vm : Vm} {ks kt : Class} (hMR : ∀ m ∈ vm.modules, m.loader = none → "" ∈ m.packages → m.name = "java.base") (h1 : ourN ks.name) (h2 : ourN kt.name) (a1 : ks.hidden = none) (a2 : ks.loader = none) (b1 : kt.hidden = none) (b2 : kt.loader = none) : ((checkcast.message vm ks kt) == notModelled) = false ∧ (stringBytes (stringToUtf16 (checkcast.message vm ks kt))).size ≤ 990 := by
  have e1 : ks.shown = dotted ks.name := by unfold Class.shown; rw [a1]
  have e2 : kt.shown = dotted kt.name := by unfold Class.shown; rw [b1]
  have l1 := (home_of hMR a2 h1.1).len
  have l2 := (home_of hMR b2 h2.1).len
  have l3 := h1.2
  have l4 := h2.2
  have lh : (vm.homes ks kt).toList.length ≤ 146 := by
    unfold Vm.homes
    rw [e1, e2]
    split
    · show (toString (dotted ks.name) ++ toString " and " ++ toString (dotted kt.name) ++ toString " are in " ++ toString (vm.home ks)).toList.length ≤ 146
      simp only [String.toList_append, List.length_append]
      have a1 : (toString " and ").toList.length = 5 := by decide
      have a2 : (toString " are in ").toList.length = 8 := by decide
      show (dotted ks.name).toList.length + _ + (dotted kt.name).toList.length + _ + (vm.home ks).toList.length ≤ 146
      omega
    · show (toString (dotted ks.name) ++ toString " is in " ++ toString (vm.home ks) ++ toString "; " ++ toString (dotted kt.name) ++ toString " is in " ++ toString (vm.home kt)).toList.length ≤ 146
      simp only [String.toList_append, List.length_append]
      have a1 : (toString " is in ").toList.length = 7 := by decide
      have a2 : (toString "; ").toList.length = 2 := by decide
      show (dotted ks.name).toList.length + _ + (vm.home ks).toList.length + _ + (dotted kt.name).toList.length + _ + (vm.home kt).toList.length ≤ 146
      omega
  have e : checkcast.message vm ks kt = toString "class " ++ toString (dotted ks.name) ++ toString " cannot be cast to class " ++ toString (dotted kt.name) ++ toString " (" ++ toString (vm.homes ks kt) ++ toString ")" := by
    show toString "class " ++ toString ks.shown ++ toString " cannot be cast to class " ++ toString kt.shown ++ toString " (" ++ toString (vm.homes ks kt) ++ toString ")" = _
    rw [e1, e2]
  have e0 : (toString "class ").toList = 'c' :: "lass ".toList := by decide
  refine ⟨tx_mod (Or.inr (Or.inl ?_)), ?_⟩
  · rw [e]
    simp only [String.toList_append, e0]
    rfl
  · have := tx_bytes (checkcast.message vm ks kt)
    have l5 : (checkcast.message vm ks kt).toList.length ≤ 245 := by
      rw [e]
      simp only [String.toList_append, List.length_append]
      have a1 : (toString "class ").toList.length = 6 := by decide
      have a2 : (toString " cannot be cast to class ").toList.length = 25 := by decide
      have a3 : (toString " (").toList.length = 2 := by decide
      have a4 : (toString ")").toList.length = 1 := by decide
      show _ + (dotted ks.name).toList.length + _ + (dotted kt.name).toList.length + _ + (vm.homes ks kt).toList.length + _ ≤ 245
      omega
    omega
section CCN
variable {p : Program} {l : Launch} {e : Env} {R : Room} {s : State} {m : MethodId} {args : Array Value} {below : List Frame} {meth : Method} {c : Code} {H : Heap} {locs : List Loc} {cells slots : Nat} {Q : State → Prop}
variable {cc : ByteArray} {pc : Nat} {ls : Array Slot} {rest : List Value} {a : Nat}
theorem vx_castNo (hexec : p.tables.exec = Jvm.exec) (hb : c.code = cc) {own C nm : String} {index : Nat} (hown : s.vm.findClass own = some m.cls) (hlink : (Cond.classLink own index nm).before args s = true) (hc : va_Nc C nm s) (hMR : xMR s) (h1 : ourN C) (h2 : ourN nm)
    (hr : ∃ cell : Cell, H[a]? = some cell ∧ cell.vm.isStatics = false ∧ s.vm.findClass C = some cell.cls) (hdg : decode cc pc = .ok (.checkcast index, 3))
    (k : ∀ tx : String, (tx == notModelled) = false → (stringBytes (stringToUtf16 tx)).size ≤ 990 → vx_Note p l e R s m args below meth c H locs cells slots Q (F0 m pc ls (.ref a :: rest)) "java/lang/ClassCastException" tx) : W p l e R s m args below meth c H locs cells slots Q (F0 m pc ls (.ref a :: rest)) := by
  obtain ⟨cell, hcell, hobj, h3⟩ := hr
  obtain ⟨c0, cT, f1, hcT, hasg⟩ := hc
  cases h3.symm.trans f1
  intro T hT X
  have hpl : e.platform.magicAccessors = ({} : Platform).magicAccessors := by rw [X.admits.platform]
  obtain ⟨c', hc', hcl⟩ := Cond.classLink_spec hown hlink e.platform hpl
  cases hcT.symm.trans hc'
  obtain ⟨dk, _, _, kt0, hd, _, _, _, _, hkt0, _, hopen⟩ := hcl.here
  have hcl₀ := X.warmed.classLinks hcl
  have hW' : s.WarmedH (T.vm.noted m.cls index (.cls cT)) := X.warmed.noted hd hopen (State.rightAt_cls hcl)
  obtain ⟨ks, hks, n1, n2, n3⟩ := findC h3
  obtain ⟨kt, hkt, n4, n5, n6⟩ := findC hcT
  obtain ⟨ks', hks', es⟩ := hW'.alike.2.2 _ _ hks
  obtain ⟨kt', hkt', et⟩ := hW'.alike.2.2 _ _ hkt
  have hm : (T.vm.noted m.cls index (.cls cT)).modules = s.vm.modules := (congrArg Vm.modules hW'.alike.1).trans rfl
  have htx := cast_text (vm := T.vm.noted m.cls index (.cls cT)) (ks := ks') (kt := kt') (by rw [hm]; exact hMR) (by rw [es]; show ourN ks.name; rw [n1]; exact h1) (by rw [et]; show ourN kt.name; rw [n4]; exact h2) (by rw [es]; exact n2) (by rw [es]; exact n3) (by rw [et]; exact n5) (by rw [et]; exact n6)
  obtain ⟨t, st, qt⟩ := k _ htx.1 htx.2 (T.setVm (T.vm.noted m.cls index (.cls cT))) hT (X.noted hW')
  refine ⟨t, ?_, qt⟩
  have hcell' : T.heap[a]? = some cell := by rw [hT]; exact hcell
  have hdg' : decode c.code (F0 m pc ls (.ref a :: rest)).pc = .ok (.checkcast index, 3) := by rw [hb]; exact hdg
  jvm_step X.here [hexec, hdg', checkcast.wp_cold (e := e) (s := T) (f := F0 m pc ls (.ref a :: rest)) X.here.top rfl (resolveClass_links e.toSetting hcl₀) hcl₀.ready,
    checkcast.wp_ready (e := e) (s := T.setVm (T.vm.noted m.cls index (.cls cT))) (f := F0 m pc ls (.ref a :: rest)) X.here.top hcl₀.ready rfl]
  refine ⟨cell, hcell', VmData.noStatics_of hobj, ks', hks', kt', hkt', ?_⟩
  have h1 : (T.vm.noted m.cls index (Resolved.cls cT)).assignable cell.cls cT = false := by rw [hW'.alike.assignable]; exact hasg
  have h1' : (T.setVm (T.vm.noted m.cls index (.cls cT))).vm.assignable cell.cls cT = false := h1
  rw [if_neg (fun z => Bool.false_ne_true (h1.symm.trans z))]
  exact st
end CCN
