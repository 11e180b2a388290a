/-! constructors -/
set_option maxRecDepth 100000
theorem XM.startI {l : Launch} {D : va_G} {T : xT} {y : MethodName} {code : ByteArray} {nL : Nat} {ret : Option FieldType} {lev mc ms : Nat} {args : List Value} {ws : va_W} {post : Option Value → va_W → Prop} (hi : y.name = "<init>") (hy : plainName y.cls = true) (hlen : (lg_sl args).length ≤ nL)
    (body : ∀ Γ : xE, xG D T Γ code y.cls nL ret lev mc ms → xX D Γ mc ms post → Γ.2.2.1.name = "<init>" → Γ.1.2.1 = l → K D Γ 0 0 0 (lv_args 0 args) [] ws) : XM l D T y code nL ret lev mc ms args ws post := XM.start hy hlen (fun Γ G X hn hl => body Γ G X (hn.trans hi) hl)
section KI
variable {D : va_G} {T : xT} {Γ : xE} {cc : ByteArray} {own : String} {nL lev mc ms : Nat} {ret : Option FieldType} {cells slots pc : Nat} {lv : List (Nat × Value)} {st : List Value} {ws : va_W}
theorem k_putI (G : xG D T Γ cc own nL ret lev mc ms) (hin : Γ.2.2.1.name = "<init>") {ci N k p idx a : Nat} {C ref : String} {TT : u_T} {ty : Nat → FieldType} {fs : List Value} {v : Value} (c : xCI ci C TT N ty) (he : ws[p]? = some (a, .inr (ci, fs))) (hk : k < N) (hl : Cond.fieldLink own idx ref (TT k).2.1 (TT k).2.2.1 ∈ lw_all) (hsame : ∀ x, Γ.2.1.1.fieldFound? (TT k).1 (TT k).2.1 (TT k).2.2.1 = some x → Γ.2.1.1.fieldFound? ref (TT k).2.1 (TT k).2.2.1 = some x) (hfin : (TT k).2.2.2 = true) (hdecl : (TT k).1 = own) (hn : narrow (ty k) v = v) (hfit : fits (ty k) v = true) (hlen : k < fs.length) (d : decode cc pc = .ok (.putfield idx, 3)) (kk : K D Γ cells slots (pc + 3) lv st (ws.set p (a, .inr (ci, fs.set k v)))) : K D Γ cells slots pc lv (v :: .ref a :: st) ws := by
  intro H locs ls hP hD hS hl'
  exact va_putF (D := D) (ci := ci) (ty := ty k) (C := C) (T := TT) (N := N) G.1 G.2.1 G.2.2.2.2.2.2.1 c.2.1 ty c.2.2.1 c.2.2.2 G.2.2.2.2.2.1 G.2.2.2.2.2.2.2.2.1.1 hP hD hS p he c.1 k hk (G.2.2.2.2.2.2.1 _ hl) hsame hfin hin hdecl (c.2.2.1 k hk) hn hfit hlen d (fun H1 locs1 hP1 hD1 hS1 => kk H1 locs1 ls hP1 hD1 hS1 hl')
theorem k_new (G : xG D T Γ cc own nL ret lev mc ms) {ci N idx : Nat} {C : String} {TT : u_T} {ty : Nat → FieldType} {fs : List Value} (c : xCI ci C TT N ty) (hcl : Cond.classLink own idx C ∈ lw_all) (hinst : Cond.instantiable C N ∈ lw_all) (hini : Cond.initialized C ∈ lw_all) (hfs : ∀ j, j < N → defaultValue (ty j) = vp_V fs j) (hroom : cells + 1 ≤ mc ∧ slots + N ≤ ms) (d : decode cc pc = .ok (.new idx, 3)) (kk : ∀ q : Nat, K D Γ (cells + 1) (slots + N) (pc + 3) lv (.ref q :: st) (ws ++ [(q, .inr (ci, fs))])) : K D Γ cells slots pc lv st ws := by
  intro H locs ls hP hD hS hl
  have hR : Γ.1.2.2.2 = xrm lev mc ms := G.2.2.2.2.2.2.2.2.2
  have w := G.2.2.2.2.2.2.1
  exact va_new (D := D) (C := C) (T := TT) (N := N) (ci := ci) G.1 G.2.1 w c.2.1 ty c.2.2.1 G.2.2.2.2.2.1 (w _ hcl) (w _ hinst) (w _ hini) G.2.2.2.2.2.2.2.2.1.1 hP hD hS G.2.2.2.2.2.2.2.1 c.1 hfs (by rw [hR]; exact hroom.1) (by rw [hR]; exact hroom.2) d (fun q H1 hP1 hD1 hS1 => kk q H1 locs ls hP1 hD1 hS1 hl)
/-- a constructor on the object that lies last -/
theorem k_ctor (G : xG D T Γ cc own nL ret lev mc ms) {y : MethodName} {code' : ByteArray} {nL' lev' mcc msc n idx b : Nat} {e : va_E} {post : Option Value → va_W → Prop} {As rest : List Value} (hM : XM Γ.1.2.1 D T y code' nL' none lev' mcc msc (.ref b :: As) [(b, e)] post) (f : xI y code' nL' n) (hlink : Cond.methodLink own idx y ∈ lw_all) (hn : As.length = n) (hst : st = As.reverse ++ .ref b :: rest) (hcat : (rest.map fun v => v.category).sum ≤ 8) (hlev : lev' + 1 ≤ lev) (hroom : cells + mcc ≤ mc ∧ slots + msc ≤ ms) (d : decode cc pc = .ok (.invokespecial idx, 3))
    (kk : ∀ (v : Option Value) (wc' : va_W), post v wc' → K D Γ (cells + mcc) (slots + msc) (pc + 3) lv (v.toList ++ rest) (ws ++ wc')) : K D Γ cells slots pc lv st (ws ++ [(b, e)]) := by
  have h := k_callI G (wl := ws) (wc := [(b, e)]) (wr := []) hM f hlink hn hst hcat hlev hroom d (fun v wc' hp => by simpa using kk v wc' hp)
  simpa using h
/-- Object.<init> -/
theorem k_obj (G : xG D T Γ cc own nL ret lev mc ms) {idx b : Nat} (hlink : Cond.methodLink own idx ⟨"java/lang/Object", "<init>", "()V"⟩ ∈ lw_all) (hcat : (st.map fun v => v.category).sum ≤ 8) (hlev : 1 ≤ lev) (d : decode cc pc = .ok (.invokespecial idx, 3)) (kk : K D Γ cells slots (pc + 3) lv st ws) : K D Γ cells slots pc lv (.ref b :: st) ws := by
  intro H locs ls hP hD hS hl
  have hR : Γ.1.2.2.2 = xrm lev mc ms := G.2.2.2.2.2.2.2.2.2
  have w := G.2.2.2.2.2.2.1
  exact W.objInit G.1 G.2.1 G.2.2.2.2.2.1 (w _ hlink) (w _ q136) (w _ q137) (g := F0 Γ.2.1.2.1 pc ls (.ref b :: st)) rfl hl.1 rfl d (by rw [hR]; exact hlev) (by rw [hR]; show 2 * 0 + (st.map fun v => v.category).sum + 12 ≤ 64 * lev; omega) (kk H locs ls hP hD hS hl)
end KI
theorem cw_new {T : xT} {q : Nat → Nat} {ω : CS} {a : Nat} {e : va_E} (h : a ∉ ω.2.1) : cw T q ω ++ [(a, e)] = cw T q (cNew ω a e) := by
  unfold cw cNew
  rw [List.append_assoc, va_pl_push h]
theorem kc_pool {D : va_G} {T : xT} {Γ : xE} {cells slots pc : Nat} {lv : List (Nat × Value)} {st : List Value} {q : Nat → Nat} {ω : CS} {a : Nat} {e : va_E} (h : a ∉ ω.2.1 → K D Γ cells slots pc lv st (cw T q (cNew ω a e))) : K D Γ cells slots pc lv st (cw T q ω ++ [(a, e)]) := by
  intro H locs ls hP hD hS hl
  have hn : a ∉ ω.2.1 := va_pl_fresh2 (X := cwX T q ω.1) hD
  rw [cw_new hn] at hP hD
  exact h hn H locs ls hP hD hS hl
/-- a class of loaves -/
def lcI (ci : Nat) (C : String) (TT : u_T) (ty : Nat → FieldType) : Prop := xCI ci C TT 3 ty ∧ (TT 0 = ("BakedBefore$Loaf", "trace", "LBakedBefore$Trace;", true) ∧ TT 1 = ("BakedBefore$Loaf", "number", "I", true) ∧ TT 2 = ("BakedBefore$Loaf", "v", "I", true)) ∧ ty 0 = .object "BakedBefore$Trace" ∧ ty 1 = .int ∧ ty 2 = .int
theorem lc_X7 : lcI 7 RX7 TX7 tyX7 := ⟨ci_X7, ⟨rfl, rfl, rfl⟩, rfl, rfl, rfl⟩
theorem lc_X8 : lcI 8 RX8 TX8 tyX8 := ⟨ci_X8, ⟨rfl, rfl, rfl⟩, rfl, rfl, rfl⟩
theorem lc_X9 : lcI 9 RX9 TX9 tyX9 := ⟨ci_X9, ⟨rfl, rfl, rfl⟩, rfl, rfl, rfl⟩
theorem lc_X10 : lcI 10 RX10 TX10 tyX10 := ⟨ci_X10, ⟨rfl, rfl, rfl⟩, rfl, rfl, rfl⟩
theorem lc_X11 : lcI 11 RX11 TX11 tyX11 := ⟨ci_X11, ⟨rfl, rfl, rfl⟩, rfl, rfl, rfl⟩
theorem lc_X12 : lcI 12 RX12 TX12 tyX12 := ⟨ci_X12, ⟨rfl, rfl, rfl⟩, rfl, rfl, rfl⟩
theorem lc_X13 : lcI 13 RX13 TX13 tyX13 := ⟨ci_X13, ⟨rfl, rfl, rfl⟩, rfl, rfl, rfl⟩
abbrev cX7_init : ByteArray := prog_8_method_1_code
def yX7_init : MethodName := ⟨RX7, "<init>", "(LBakedBefore$Trace;II)V"⟩
def dkwX7_init_0 : List UInt8 := [42, 183, 0, 3, 42, 43, 181, 0, 9, 42, 28, 181, 0, 15, 42, 29, 181, 0, 19, 177]
abbrev dktX7_init_0 : List UInt8 := dkwX7_init_0 ++ []
theorem dksX7_init_0 : cX7_init.data.toList.drop 0 = dktX7_init_0 := by decide +kernel
theorem dX7_init_0 : decode cX7_init 0 = .ok (.aload_n 0, 1) := dk_42 (dk_at dksX7_init_0 0 rfl rfl)
theorem dX7_init_1 : decode cX7_init 1 = .ok (.invokespecial 3, 3) := dk_183 0 3 (dk_at dksX7_init_0 1 rfl rfl)
theorem dX7_init_4 : decode cX7_init 4 = .ok (.aload_n 0, 1) := dk_42 (dk_at dksX7_init_0 4 rfl rfl)
theorem dX7_init_5 : decode cX7_init 5 = .ok (.aload_n 1, 1) := dk_43 (dk_at dksX7_init_0 5 rfl rfl)
theorem dX7_init_6 : decode cX7_init 6 = .ok (.putfield 9, 3) := dk_181 0 9 (dk_at dksX7_init_0 6 rfl rfl)
theorem dX7_init_9 : decode cX7_init 9 = .ok (.aload_n 0, 1) := dk_42 (dk_at dksX7_init_0 9 rfl rfl)
theorem dX7_init_10 : decode cX7_init 10 = .ok (.iload_n 2, 1) := dk_28 (dk_at dksX7_init_0 10 rfl rfl)
theorem dX7_init_11 : decode cX7_init 11 = .ok (.putfield 15, 3) := dk_181 0 15 (dk_at dksX7_init_0 11 rfl rfl)
theorem dX7_init_14 : decode cX7_init 14 = .ok (.aload_n 0, 1) := dk_42 (dk_at dksX7_init_0 14 rfl rfl)
theorem dX7_init_15 : decode cX7_init 15 = .ok (.iload_n 3, 1) := dk_29 (dk_at dksX7_init_0 15 rfl rfl)
theorem dX7_init_16 : decode cX7_init 16 = .ok (.putfield 19, 3) := dk_181 0 19 (dk_at dksX7_init_0 16 rfl rfl)
theorem dX7_init_19 : decode cX7_init 19 = .ok (.return_, 1) := dk_177 (dk_at dksX7_init_0 19 rfl rfl)
theorem xi_Loaf : xI yX7_init cX7_init 4 3 := ⟨q381, q97, q382, rfl, ⟨by decide +kernel, by decide +kernel, by decide +kernel⟩, by decide⟩
theorem ct_Loaf (l : Launch) (D : va_G) (T : xT) {ci : Nat} {C : String} {TT : u_T} {ty : Nat → FieldType} (c : lcI ci C TT ty) (a t : Nat) (n v : Int32) : XM l D T yX7_init cX7_init 4 none 1 0 0 [.ref a, .ref t, .int n, .int v] [(a, .inr (ci, [.null, .int 0, .int 0]))] (fun r w => r = none ∧ w = [(a, .inr (ci, [.ref t, .int n, .int v]))]) := by
  refine XM.startI rfl (by decide +kernel) (Nat.le_of_ble_eq_true rfl) (fun Γ G X hin hl_ => ?_)
  subst hl_
  refine K.less [0, 1, 2, 3] (lv' := [(0, .ref a), (1, .ref t), (2, .int n), (3, .int v)]) rfl ?_
  obtain ⟨c, ⟨e0, e1, e2⟩, y0, y1, y2⟩ := c
  refine k_aload_n G dX7_init_0 rfl ?_
  refine k_obj G q383 (Nat.le_of_ble_eq_true rfl) (Nat.le_of_ble_eq_true rfl) dX7_init_1 ?_
  refine k_aload_n G dX7_init_4 rfl ?_
  refine k_aload_n G dX7_init_5 rfl ?_
  refine k_putI G hin (p := 0) (k := 0) (ref := "BakedBefore$Loaf") c rfl (by decide) (by rw [e0]; exact q384) (by rw [e0]; exact fun _ h => h) (by rw [e0]) (by rw [e0]; rfl) (by rw [y0]; rfl) (by rw [y0]; rfl) (Nat.le_of_ble_eq_true rfl) dX7_init_6 ?_
  refine k_aload_n G dX7_init_9 rfl ?_
  refine k_iload_n G dX7_init_10 rfl ?_
  refine k_putI G hin (p := 0) (k := 1) (ref := "BakedBefore$Loaf") c rfl (by decide) (by rw [e1]; exact q397) (by rw [e1]; exact fun _ h => h) (by rw [e1]) (by rw [e1]; rfl) (by rw [y1]; rfl) (by rw [y1]; rfl) (Nat.le_of_ble_eq_true rfl) dX7_init_11 ?_
  refine k_aload_n G dX7_init_14 rfl ?_
  refine k_iload_n G dX7_init_15 rfl ?_
  refine k_putI G hin (p := 0) (k := 2) (ref := "BakedBefore$Loaf") c rfl (by decide) (by rw [e2]; exact q400) (by rw [e2]; exact fun _ h => h) (by rw [e2]) (by rw [e2]; rfl) (by rw [y2]; rfl) (by rw [y2]; rfl) (Nat.le_of_ble_eq_true rfl) dX7_init_16 ?_
  exact k_vret G X dX7_init_19 (Nat.le_refl _) (Nat.le_refl _) ⟨rfl, rfl⟩
abbrev cX8_init : ByteArray := prog_4_method_1_code
def yX8_init : MethodName := ⟨RX8, "<init>", "(LBakedBefore$Trace;II)V"⟩
def dkwX8_init_0 : List UInt8 := [42, 43, 28, 29, 183, 0, 3, 177]
abbrev dktX8_init_0 : List UInt8 := dkwX8_init_0 ++ []
theorem dksX8_init_0 : cX8_init.data.toList.drop 0 = dktX8_init_0 := by decide +kernel
theorem dX8_init_0 : decode cX8_init 0 = .ok (.aload_n 0, 1) := dk_42 (dk_at dksX8_init_0 0 rfl rfl)
theorem dX8_init_1 : decode cX8_init 1 = .ok (.aload_n 1, 1) := dk_43 (dk_at dksX8_init_0 1 rfl rfl)
theorem dX8_init_2 : decode cX8_init 2 = .ok (.iload_n 2, 1) := dk_28 (dk_at dksX8_init_0 2 rfl rfl)
theorem dX8_init_3 : decode cX8_init 3 = .ok (.iload_n 3, 1) := dk_29 (dk_at dksX8_init_0 3 rfl rfl)
theorem dX8_init_4 : decode cX8_init 4 = .ok (.invokespecial 3, 3) := dk_183 0 3 (dk_at dksX8_init_0 4 rfl rfl)
theorem dX8_init_7 : decode cX8_init 7 = .ok (.return_, 1) := dk_177 (dk_at dksX8_init_0 7 rfl rfl)
theorem xi_Clean : xI yX8_init cX8_init 4 3 := ⟨q378, q98, q379, rfl, ⟨by decide +kernel, by decide +kernel, by decide +kernel⟩, by decide⟩
theorem ct_Clean (l : Launch) (D : va_G) (T : xT) {ci : Nat} {C : String} {TT : u_T} {ty : Nat → FieldType} (c : lcI ci C TT ty) (a t : Nat) (n v : Int32) : XM l D T yX8_init cX8_init 4 none 2 0 0 [.ref a, .ref t, .int n, .int v] [(a, .inr (ci, [.null, .int 0, .int 0]))] (fun r w => r = none ∧ w = [(a, .inr (ci, [.ref t, .int n, .int v]))]) := by
  refine XM.startI rfl (by decide +kernel) (Nat.le_of_ble_eq_true rfl) (fun Γ G X hin hl_ => ?_)
  subst hl_
  refine K.less [0, 1, 2, 3] (lv' := [(0, .ref a), (1, .ref t), (2, .int n), (3, .int v)]) rfl ?_
  refine k_aload_n G dX8_init_0 rfl ?_
  refine k_aload_n G dX8_init_1 rfl ?_
  refine k_iload_n G dX8_init_2 rfl ?_
  refine k_iload_n G dX8_init_3 rfl ?_
  refine k_ctor G (ws := []) (As := [.ref t, .int n, .int v]) (rest := []) (ct_Loaf _ D T c a t n v) xi_Loaf q380 rfl rfl (Nat.le_of_ble_eq_true rfl) (Nat.le_of_ble_eq_true rfl) ⟨(Nat.le_refl _), (Nat.le_refl _)⟩ dX8_init_4 (fun r w hq => ?_)
  obtain ⟨rfl, rfl⟩ := hq
  exact k_vret G X dX8_init_7 (Nat.le_refl _) (Nat.le_refl _) ⟨rfl, rfl⟩
abbrev cX9_init : ByteArray := prog_5_method_1_code
def yX9_init : MethodName := ⟨RX9, "<init>", "(LBakedBefore$Trace;II)V"⟩
def dkwX9_init_0 : List UInt8 := [42, 43, 28, 29, 183, 0, 3, 177]
abbrev dktX9_init_0 : List UInt8 := dkwX9_init_0 ++ []
theorem dksX9_init_0 : cX9_init.data.toList.drop 0 = dktX9_init_0 := by decide +kernel
theorem dX9_init_0 : decode cX9_init 0 = .ok (.aload_n 0, 1) := dk_42 (dk_at dksX9_init_0 0 rfl rfl)
theorem dX9_init_1 : decode cX9_init 1 = .ok (.aload_n 1, 1) := dk_43 (dk_at dksX9_init_0 1 rfl rfl)
theorem dX9_init_2 : decode cX9_init 2 = .ok (.iload_n 2, 1) := dk_28 (dk_at dksX9_init_0 2 rfl rfl)
theorem dX9_init_3 : decode cX9_init 3 = .ok (.iload_n 3, 1) := dk_29 (dk_at dksX9_init_0 3 rfl rfl)
theorem dX9_init_4 : decode cX9_init 4 = .ok (.invokespecial 3, 3) := dk_183 0 3 (dk_at dksX9_init_0 4 rfl rfl)
theorem dX9_init_7 : decode cX9_init 7 = .ok (.return_, 1) := dk_177 (dk_at dksX9_init_0 7 rfl rfl)
theorem xi_Greedy : xI yX9_init cX9_init 4 3 := ⟨q418, q99, q419, rfl, ⟨by decide +kernel, by decide +kernel, by decide +kernel⟩, by decide⟩
theorem ct_Greedy (l : Launch) (D : va_G) (T : xT) {ci : Nat} {C : String} {TT : u_T} {ty : Nat → FieldType} (c : lcI ci C TT ty) (a t : Nat) (n v : Int32) : XM l D T yX9_init cX9_init 4 none 2 0 0 [.ref a, .ref t, .int n, .int v] [(a, .inr (ci, [.null, .int 0, .int 0]))] (fun r w => r = none ∧ w = [(a, .inr (ci, [.ref t, .int n, .int v]))]) := by
  refine XM.startI rfl (by decide +kernel) (Nat.le_of_ble_eq_true rfl) (fun Γ G X hin hl_ => ?_)
  subst hl_
  refine K.less [0, 1, 2, 3] (lv' := [(0, .ref a), (1, .ref t), (2, .int n), (3, .int v)]) rfl ?_
  refine k_aload_n G dX9_init_0 rfl ?_
  refine k_aload_n G dX9_init_1 rfl ?_
  refine k_iload_n G dX9_init_2 rfl ?_
  refine k_iload_n G dX9_init_3 rfl ?_
  refine k_ctor G (ws := []) (As := [.ref t, .int n, .int v]) (rest := []) (ct_Loaf _ D T c a t n v) xi_Loaf q420 rfl rfl (Nat.le_of_ble_eq_true rfl) (Nat.le_of_ble_eq_true rfl) ⟨(Nat.le_refl _), (Nat.le_refl _)⟩ dX9_init_4 (fun r w hq => ?_)
  obtain ⟨rfl, rfl⟩ := hq
  exact k_vret G X dX9_init_7 (Nat.le_refl _) (Nat.le_refl _) ⟨rfl, rfl⟩
abbrev cX10_init : ByteArray := prog_6_method_1_code
def yX10_init : MethodName := ⟨RX10, "<init>", "(LBakedBefore$Trace;II)V"⟩
def dkwX10_init_0 : List UInt8 := [42, 43, 28, 29, 183, 0, 3, 177]
abbrev dktX10_init_0 : List UInt8 := dkwX10_init_0 ++ []
theorem dksX10_init_0 : cX10_init.data.toList.drop 0 = dktX10_init_0 := by decide +kernel
theorem dX10_init_0 : decode cX10_init 0 = .ok (.aload_n 0, 1) := dk_42 (dk_at dksX10_init_0 0 rfl rfl)
theorem dX10_init_1 : decode cX10_init 1 = .ok (.aload_n 1, 1) := dk_43 (dk_at dksX10_init_0 1 rfl rfl)
theorem dX10_init_2 : decode cX10_init 2 = .ok (.iload_n 2, 1) := dk_28 (dk_at dksX10_init_0 2 rfl rfl)
theorem dX10_init_3 : decode cX10_init 3 = .ok (.iload_n 3, 1) := dk_29 (dk_at dksX10_init_0 3 rfl rfl)
theorem dX10_init_4 : decode cX10_init 4 = .ok (.invokespecial 3, 3) := dk_183 0 3 (dk_at dksX10_init_0 4 rfl rfl)
theorem dX10_init_7 : decode cX10_init 7 = .ok (.return_, 1) := dk_177 (dk_at dksX10_init_0 7 rfl rfl)
theorem xi_Holy : xI yX10_init cX10_init 4 3 := ⟨q428, q100, q429, rfl, ⟨by decide +kernel, by decide +kernel, by decide +kernel⟩, by decide⟩
theorem ct_Holy (l : Launch) (D : va_G) (T : xT) {ci : Nat} {C : String} {TT : u_T} {ty : Nat → FieldType} (c : lcI ci C TT ty) (a t : Nat) (n v : Int32) : XM l D T yX10_init cX10_init 4 none 2 0 0 [.ref a, .ref t, .int n, .int v] [(a, .inr (ci, [.null, .int 0, .int 0]))] (fun r w => r = none ∧ w = [(a, .inr (ci, [.ref t, .int n, .int v]))]) := by
  refine XM.startI rfl (by decide +kernel) (Nat.le_of_ble_eq_true rfl) (fun Γ G X hin hl_ => ?_)
  subst hl_
  refine K.less [0, 1, 2, 3] (lv' := [(0, .ref a), (1, .ref t), (2, .int n), (3, .int v)]) rfl ?_
  refine k_aload_n G dX10_init_0 rfl ?_
  refine k_aload_n G dX10_init_1 rfl ?_
  refine k_iload_n G dX10_init_2 rfl ?_
  refine k_iload_n G dX10_init_3 rfl ?_
  refine k_ctor G (ws := []) (As := [.ref t, .int n, .int v]) (rest := []) (ct_Loaf _ D T c a t n v) xi_Loaf q430 rfl rfl (Nat.le_of_ble_eq_true rfl) (Nat.le_of_ble_eq_true rfl) ⟨(Nat.le_refl _), (Nat.le_refl _)⟩ dX10_init_4 (fun r w hq => ?_)
  obtain ⟨rfl, rfl⟩ := hq
  exact k_vret G X dX10_init_7 (Nat.le_refl _) (Nat.le_refl _) ⟨rfl, rfl⟩
abbrev cX11_init : ByteArray := prog_14_method_1_code
def yX11_init : MethodName := ⟨RX11, "<init>", "(LBakedBefore$Trace;II)V"⟩
def dkwX11_init_0 : List UInt8 := [42, 43, 28, 29, 183, 0, 3, 177]
abbrev dktX11_init_0 : List UInt8 := dkwX11_init_0 ++ []
theorem dksX11_init_0 : cX11_init.data.toList.drop 0 = dktX11_init_0 := by decide +kernel
theorem dX11_init_0 : decode cX11_init 0 = .ok (.aload_n 0, 1) := dk_42 (dk_at dksX11_init_0 0 rfl rfl)
theorem dX11_init_1 : decode cX11_init 1 = .ok (.aload_n 1, 1) := dk_43 (dk_at dksX11_init_0 1 rfl rfl)
theorem dX11_init_2 : decode cX11_init 2 = .ok (.iload_n 2, 1) := dk_28 (dk_at dksX11_init_0 2 rfl rfl)
theorem dX11_init_3 : decode cX11_init 3 = .ok (.iload_n 3, 1) := dk_29 (dk_at dksX11_init_0 3 rfl rfl)
theorem dX11_init_4 : decode cX11_init 4 = .ok (.invokespecial 3, 3) := dk_183 0 3 (dk_at dksX11_init_0 4 rfl rfl)
theorem dX11_init_7 : decode cX11_init 7 = .ok (.return_, 1) := dk_177 (dk_at dksX11_init_0 7 rfl rfl)
theorem xi_Rye : xI yX11_init cX11_init 4 3 := ⟨q438, q101, q439, rfl, ⟨by decide +kernel, by decide +kernel, by decide +kernel⟩, by decide⟩
theorem ct_Rye (l : Launch) (D : va_G) (T : xT) {ci : Nat} {C : String} {TT : u_T} {ty : Nat → FieldType} (c : lcI ci C TT ty) (a t : Nat) (n v : Int32) : XM l D T yX11_init cX11_init 4 none 3 0 0 [.ref a, .ref t, .int n, .int v] [(a, .inr (ci, [.null, .int 0, .int 0]))] (fun r w => r = none ∧ w = [(a, .inr (ci, [.ref t, .int n, .int v]))]) := by
  refine XM.startI rfl (by decide +kernel) (Nat.le_of_ble_eq_true rfl) (fun Γ G X hin hl_ => ?_)
  subst hl_
  refine K.less [0, 1, 2, 3] (lv' := [(0, .ref a), (1, .ref t), (2, .int n), (3, .int v)]) rfl ?_
  refine k_aload_n G dX11_init_0 rfl ?_
  refine k_aload_n G dX11_init_1 rfl ?_
  refine k_iload_n G dX11_init_2 rfl ?_
  refine k_iload_n G dX11_init_3 rfl ?_
  refine k_ctor G (ws := []) (As := [.ref t, .int n, .int v]) (rest := []) (ct_Clean _ D T c a t n v) xi_Clean q440 rfl rfl (Nat.le_of_ble_eq_true rfl) (Nat.le_of_ble_eq_true rfl) ⟨(Nat.le_refl _), (Nat.le_refl _)⟩ dX11_init_4 (fun r w hq => ?_)
  obtain ⟨rfl, rfl⟩ := hq
  exact k_vret G X dX11_init_7 (Nat.le_refl _) (Nat.le_refl _) ⟨rfl, rfl⟩
abbrev cX12_init : ByteArray := prog_12_method_1_code
def yX12_init : MethodName := ⟨RX12, "<init>", "(LBakedBefore$Trace;II)V"⟩
def dkwX12_init_0 : List UInt8 := [42, 43, 28, 29, 183, 0, 3, 177]
abbrev dktX12_init_0 : List UInt8 := dkwX12_init_0 ++ []
theorem dksX12_init_0 : cX12_init.data.toList.drop 0 = dktX12_init_0 := by decide +kernel
theorem dX12_init_0 : decode cX12_init 0 = .ok (.aload_n 0, 1) := dk_42 (dk_at dksX12_init_0 0 rfl rfl)
theorem dX12_init_1 : decode cX12_init 1 = .ok (.aload_n 1, 1) := dk_43 (dk_at dksX12_init_0 1 rfl rfl)
theorem dX12_init_2 : decode cX12_init 2 = .ok (.iload_n 2, 1) := dk_28 (dk_at dksX12_init_0 2 rfl rfl)
theorem dX12_init_3 : decode cX12_init 3 = .ok (.iload_n 3, 1) := dk_29 (dk_at dksX12_init_0 3 rfl rfl)
theorem dX12_init_4 : decode cX12_init 4 = .ok (.invokespecial 3, 3) := dk_183 0 3 (dk_at dksX12_init_0 4 rfl rfl)
theorem dX12_init_7 : decode cX12_init 7 = .ok (.return_, 1) := dk_177 (dk_at dksX12_init_0 7 rfl rfl)
theorem xi_Poisoned : xI yX12_init cX12_init 4 3 := ⟨q448, q102, q449, rfl, ⟨by decide +kernel, by decide +kernel, by decide +kernel⟩, by decide⟩
theorem ct_Poisoned (l : Launch) (D : va_G) (T : xT) {ci : Nat} {C : String} {TT : u_T} {ty : Nat → FieldType} (c : lcI ci C TT ty) (a t : Nat) (n v : Int32) : XM l D T yX12_init cX12_init 4 none 3 0 0 [.ref a, .ref t, .int n, .int v] [(a, .inr (ci, [.null, .int 0, .int 0]))] (fun r w => r = none ∧ w = [(a, .inr (ci, [.ref t, .int n, .int v]))]) := by
  refine XM.startI rfl (by decide +kernel) (Nat.le_of_ble_eq_true rfl) (fun Γ G X hin hl_ => ?_)
  subst hl_
  refine K.less [0, 1, 2, 3] (lv' := [(0, .ref a), (1, .ref t), (2, .int n), (3, .int v)]) rfl ?_
  refine k_aload_n G dX12_init_0 rfl ?_
  refine k_aload_n G dX12_init_1 rfl ?_
  refine k_iload_n G dX12_init_2 rfl ?_
  refine k_iload_n G dX12_init_3 rfl ?_
  refine k_ctor G (ws := []) (As := [.ref t, .int n, .int v]) (rest := []) (ct_Greedy _ D T c a t n v) xi_Greedy q450 rfl rfl (Nat.le_of_ble_eq_true rfl) (Nat.le_of_ble_eq_true rfl) ⟨(Nat.le_refl _), (Nat.le_refl _)⟩ dX12_init_4 (fun r w hq => ?_)
  obtain ⟨rfl, rfl⟩ := hq
  exact k_vret G X dX12_init_7 (Nat.le_refl _) (Nat.le_refl _) ⟨rfl, rfl⟩
abbrev cX13_init : ByteArray := prog_15_method_1_code
def yX13_init : MethodName := ⟨RX13, "<init>", "(LBakedBefore$Trace;II)V"⟩
def dkwX13_init_0 : List UInt8 := [42, 43, 28, 29, 183, 0, 3, 177]
abbrev dktX13_init_0 : List UInt8 := dkwX13_init_0 ++ []
theorem dksX13_init_0 : cX13_init.data.toList.drop 0 = dktX13_init_0 := by decide +kernel
theorem dX13_init_0 : decode cX13_init 0 = .ok (.aload_n 0, 1) := dk_42 (dk_at dksX13_init_0 0 rfl rfl)
theorem dX13_init_1 : decode cX13_init 1 = .ok (.aload_n 1, 1) := dk_43 (dk_at dksX13_init_0 1 rfl rfl)
theorem dX13_init_2 : decode cX13_init 2 = .ok (.iload_n 2, 1) := dk_28 (dk_at dksX13_init_0 2 rfl rfl)
theorem dX13_init_3 : decode cX13_init 3 = .ok (.iload_n 3, 1) := dk_29 (dk_at dksX13_init_0 3 rfl rfl)
theorem dX13_init_4 : decode cX13_init 4 = .ok (.invokespecial 3, 3) := dk_183 0 3 (dk_at dksX13_init_0 4 rfl rfl)
theorem dX13_init_7 : decode cX13_init 7 = .ok (.return_, 1) := dk_177 (dk_at dksX13_init_0 7 rfl rfl)
theorem xi_Shy : xI yX13_init cX13_init 4 3 := ⟨q458, q103, q459, rfl, ⟨by decide +kernel, by decide +kernel, by decide +kernel⟩, by decide⟩
theorem ct_Shy (l : Launch) (D : va_G) (T : xT) {ci : Nat} {C : String} {TT : u_T} {ty : Nat → FieldType} (c : lcI ci C TT ty) (a t : Nat) (n v : Int32) : XM l D T yX13_init cX13_init 4 none 3 0 0 [.ref a, .ref t, .int n, .int v] [(a, .inr (ci, [.null, .int 0, .int 0]))] (fun r w => r = none ∧ w = [(a, .inr (ci, [.ref t, .int n, .int v]))]) := by
  refine XM.startI rfl (by decide +kernel) (Nat.le_of_ble_eq_true rfl) (fun Γ G X hin hl_ => ?_)
  subst hl_
  refine K.less [0, 1, 2, 3] (lv' := [(0, .ref a), (1, .ref t), (2, .int n), (3, .int v)]) rfl ?_
  refine k_aload_n G dX13_init_0 rfl ?_
  refine k_aload_n G dX13_init_1 rfl ?_
  refine k_iload_n G dX13_init_2 rfl ?_
  refine k_iload_n G dX13_init_3 rfl ?_
  refine k_ctor G (ws := []) (As := [.ref t, .int n, .int v]) (rest := []) (ct_Holy _ D T c a t n v) xi_Holy q460 rfl rfl (Nat.le_of_ble_eq_true rfl) (Nat.le_of_ble_eq_true rfl) ⟨(Nat.le_refl _), (Nat.le_refl _)⟩ dX13_init_4 (fun r w hq => ?_)
  obtain ⟨rfl, rfl⟩ := hq
  exact k_vret G X dX13_init_7 (Nat.le_refl _) (Nat.le_refl _) ⟨rfl, rfl⟩
abbrev cX0_loafOf : ByteArray := prog_1_method_5_code
def yX0_loafOf : MethodName := ⟨RX0, "loafOf", "(II)LBakedBefore$Loaf;"⟩
def dkwX0_loafOf_7 : List UInt8 := [28, 183, 0, 135, 176]
abbrev dktX0_loafOf_7 : List UInt8 := dkwX0_loafOf_7 ++ []
def dkwX0_loafOf_6 : List UInt8 := [180, 0, 55, 42, 180, 0, 107, 28, 183, 0, 134, 176, 187, 0, 11, 89, 42, 180, 0, 55, 42, 180, 0, 107]
abbrev dktX0_loafOf_6 : List UInt8 := dkwX0_loafOf_6 ++ dktX0_loafOf_7
def dkwX0_loafOf_5 : List UInt8 := [187, 0, 129, 89, 42, 180, 0, 55, 42, 180, 0, 107, 28, 183, 0, 131, 176, 187, 0, 132, 89, 42]
abbrev dktX0_loafOf_5 : List UInt8 := dkwX0_loafOf_5 ++ dktX0_loafOf_6
def dkwX0_loafOf_4 : List UInt8 := [28, 183, 0, 125, 176, 187, 0, 126, 89, 42, 180, 0, 55, 42, 180, 0, 107, 28, 183, 0, 128, 176]
abbrev dktX0_loafOf_4 : List UInt8 := dkwX0_loafOf_4 ++ dktX0_loafOf_5
def dkwX0_loafOf_3 : List UInt8 := [180, 0, 55, 42, 180, 0, 107, 28, 183, 0, 122, 176, 187, 0, 123, 89, 42, 180, 0, 55, 42, 180, 0, 107]
abbrev dktX0_loafOf_3 : List UInt8 := dkwX0_loafOf_3 ++ dktX0_loafOf_4
def dkwX0_loafOf_2 : List UInt8 := [187, 0, 115, 89, 42, 180, 0, 55, 42, 180, 0, 107, 28, 183, 0, 117, 176, 187, 0, 120, 89, 42]
abbrev dktX0_loafOf_2 : List UInt8 := dkwX0_loafOf_2 ++ dktX0_loafOf_3
def dkwX0_loafOf_1 : List UInt8 := [170, 0, 0, 0, 0, 0, 141, 0, 0, 0, 1, 0, 0, 0, 6, 0, 0, 0, 39, 0, 0, 0, 56, 0, 0, 0, 73, 0, 0, 0, 90, 0, 0, 0, 107, 0, 0, 0, 124]
abbrev dktX0_loafOf_1 : List UInt8 := dkwX0_loafOf_1 ++ dktX0_loafOf_2
def dkwX0_loafOf_0 : List UInt8 := [27]
abbrev dktX0_loafOf_0 : List UInt8 := dkwX0_loafOf_0 ++ dktX0_loafOf_1
theorem dksX0_loafOf_0 : cX0_loafOf.data.toList.drop 0 = dktX0_loafOf_0 := by decide +kernel
theorem dksX0_loafOf_1 : cX0_loafOf.data.toList.drop 1 = dktX0_loafOf_1 := dk_seg dksX0_loafOf_0 1 rfl rfl
theorem dksX0_loafOf_2 : cX0_loafOf.data.toList.drop 40 = dktX0_loafOf_2 := dk_seg dksX0_loafOf_1 39 rfl rfl
theorem dksX0_loafOf_3 : cX0_loafOf.data.toList.drop 62 = dktX0_loafOf_3 := dk_seg dksX0_loafOf_2 22 rfl rfl
theorem dksX0_loafOf_4 : cX0_loafOf.data.toList.drop 86 = dktX0_loafOf_4 := dk_seg dksX0_loafOf_3 24 rfl rfl
theorem dksX0_loafOf_5 : cX0_loafOf.data.toList.drop 108 = dktX0_loafOf_5 := dk_seg dksX0_loafOf_4 22 rfl rfl
theorem dksX0_loafOf_6 : cX0_loafOf.data.toList.drop 130 = dktX0_loafOf_6 := dk_seg dksX0_loafOf_5 22 rfl rfl
theorem dksX0_loafOf_7 : cX0_loafOf.data.toList.drop 154 = dktX0_loafOf_7 := dk_seg dksX0_loafOf_6 24 rfl rfl
theorem dX0_loafOf_0 : decode cX0_loafOf 0 = .ok (.iload_n 1, 1) := dk_27 (dk_at dksX0_loafOf_0 0 rfl rfl)
theorem dX0_loafOf_1 : decode cX0_loafOf 1 = .ok (.tableswitch 141 1 6 #[39, 56, 73, 90, 107, 124], 39) := by decide +kernel
theorem dX0_loafOf_40 : decode cX0_loafOf 40 = .ok (.new 115, 3) := dk_187 0 115 (dk_at dksX0_loafOf_2 0 rfl rfl)
theorem dX0_loafOf_43 : decode cX0_loafOf 43 = .ok (.dup, 1) := dk_89 (dk_at dksX0_loafOf_2 3 rfl rfl)
theorem dX0_loafOf_44 : decode cX0_loafOf 44 = .ok (.aload_n 0, 1) := dk_42 (dk_at dksX0_loafOf_2 4 rfl rfl)
theorem dX0_loafOf_45 : decode cX0_loafOf 45 = .ok (.getfield 55, 3) := dk_180 0 55 (dk_at dksX0_loafOf_2 5 rfl rfl)
theorem dX0_loafOf_48 : decode cX0_loafOf 48 = .ok (.aload_n 0, 1) := dk_42 (dk_at dksX0_loafOf_2 8 rfl rfl)
theorem dX0_loafOf_49 : decode cX0_loafOf 49 = .ok (.getfield 107, 3) := dk_180 0 107 (dk_at dksX0_loafOf_2 9 rfl rfl)
theorem dX0_loafOf_52 : decode cX0_loafOf 52 = .ok (.iload_n 2, 1) := dk_28 (dk_at dksX0_loafOf_2 12 rfl rfl)
theorem dX0_loafOf_53 : decode cX0_loafOf 53 = .ok (.invokespecial 117, 3) := dk_183 0 117 (dk_at dksX0_loafOf_2 13 rfl rfl)
theorem dX0_loafOf_56 : decode cX0_loafOf 56 = .ok (.areturn, 1) := dk_176 (dk_at dksX0_loafOf_2 16 rfl rfl)
theorem dX0_loafOf_57 : decode cX0_loafOf 57 = .ok (.new 120, 3) := dk_187 0 120 (dk_at dksX0_loafOf_2 17 rfl rfl)
theorem dX0_loafOf_60 : decode cX0_loafOf 60 = .ok (.dup, 1) := dk_89 (dk_at dksX0_loafOf_2 20 rfl rfl)
theorem dX0_loafOf_61 : decode cX0_loafOf 61 = .ok (.aload_n 0, 1) := dk_42 (dk_at dksX0_loafOf_2 21 rfl rfl)
theorem dX0_loafOf_62 : decode cX0_loafOf 62 = .ok (.getfield 55, 3) := dk_180 0 55 (dk_at dksX0_loafOf_3 0 rfl rfl)
theorem dX0_loafOf_65 : decode cX0_loafOf 65 = .ok (.aload_n 0, 1) := dk_42 (dk_at dksX0_loafOf_3 3 rfl rfl)
theorem dX0_loafOf_66 : decode cX0_loafOf 66 = .ok (.getfield 107, 3) := dk_180 0 107 (dk_at dksX0_loafOf_3 4 rfl rfl)
theorem dX0_loafOf_69 : decode cX0_loafOf 69 = .ok (.iload_n 2, 1) := dk_28 (dk_at dksX0_loafOf_3 7 rfl rfl)
theorem dX0_loafOf_70 : decode cX0_loafOf 70 = .ok (.invokespecial 122, 3) := dk_183 0 122 (dk_at dksX0_loafOf_3 8 rfl rfl)
theorem dX0_loafOf_73 : decode cX0_loafOf 73 = .ok (.areturn, 1) := dk_176 (dk_at dksX0_loafOf_3 11 rfl rfl)
theorem dX0_loafOf_74 : decode cX0_loafOf 74 = .ok (.new 123, 3) := dk_187 0 123 (dk_at dksX0_loafOf_3 12 rfl rfl)
theorem dX0_loafOf_77 : decode cX0_loafOf 77 = .ok (.dup, 1) := dk_89 (dk_at dksX0_loafOf_3 15 rfl rfl)
theorem dX0_loafOf_78 : decode cX0_loafOf 78 = .ok (.aload_n 0, 1) := dk_42 (dk_at dksX0_loafOf_3 16 rfl rfl)
theorem dX0_loafOf_79 : decode cX0_loafOf 79 = .ok (.getfield 55, 3) := dk_180 0 55 (dk_at dksX0_loafOf_3 17 rfl rfl)
theorem dX0_loafOf_82 : decode cX0_loafOf 82 = .ok (.aload_n 0, 1) := dk_42 (dk_at dksX0_loafOf_3 20 rfl rfl)
theorem dX0_loafOf_83 : decode cX0_loafOf 83 = .ok (.getfield 107, 3) := dk_180 0 107 (dk_at dksX0_loafOf_3 21 rfl rfl)
theorem dX0_loafOf_86 : decode cX0_loafOf 86 = .ok (.iload_n 2, 1) := dk_28 (dk_at dksX0_loafOf_4 0 rfl rfl)
theorem dX0_loafOf_87 : decode cX0_loafOf 87 = .ok (.invokespecial 125, 3) := dk_183 0 125 (dk_at dksX0_loafOf_4 1 rfl rfl)
theorem dX0_loafOf_90 : decode cX0_loafOf 90 = .ok (.areturn, 1) := dk_176 (dk_at dksX0_loafOf_4 4 rfl rfl)
theorem dX0_loafOf_91 : decode cX0_loafOf 91 = .ok (.new 126, 3) := dk_187 0 126 (dk_at dksX0_loafOf_4 5 rfl rfl)
theorem dX0_loafOf_94 : decode cX0_loafOf 94 = .ok (.dup, 1) := dk_89 (dk_at dksX0_loafOf_4 8 rfl rfl)
theorem dX0_loafOf_95 : decode cX0_loafOf 95 = .ok (.aload_n 0, 1) := dk_42 (dk_at dksX0_loafOf_4 9 rfl rfl)
theorem dX0_loafOf_96 : decode cX0_loafOf 96 = .ok (.getfield 55, 3) := dk_180 0 55 (dk_at dksX0_loafOf_4 10 rfl rfl)
theorem dX0_loafOf_99 : decode cX0_loafOf 99 = .ok (.aload_n 0, 1) := dk_42 (dk_at dksX0_loafOf_4 13 rfl rfl)
theorem dX0_loafOf_100 : decode cX0_loafOf 100 = .ok (.getfield 107, 3) := dk_180 0 107 (dk_at dksX0_loafOf_4 14 rfl rfl)
theorem dX0_loafOf_103 : decode cX0_loafOf 103 = .ok (.iload_n 2, 1) := dk_28 (dk_at dksX0_loafOf_4 17 rfl rfl)
theorem dX0_loafOf_104 : decode cX0_loafOf 104 = .ok (.invokespecial 128, 3) := dk_183 0 128 (dk_at dksX0_loafOf_4 18 rfl rfl)
theorem dX0_loafOf_107 : decode cX0_loafOf 107 = .ok (.areturn, 1) := dk_176 (dk_at dksX0_loafOf_4 21 rfl rfl)
theorem dX0_loafOf_108 : decode cX0_loafOf 108 = .ok (.new 129, 3) := dk_187 0 129 (dk_at dksX0_loafOf_5 0 rfl rfl)
theorem dX0_loafOf_111 : decode cX0_loafOf 111 = .ok (.dup, 1) := dk_89 (dk_at dksX0_loafOf_5 3 rfl rfl)
theorem dX0_loafOf_112 : decode cX0_loafOf 112 = .ok (.aload_n 0, 1) := dk_42 (dk_at dksX0_loafOf_5 4 rfl rfl)
theorem dX0_loafOf_113 : decode cX0_loafOf 113 = .ok (.getfield 55, 3) := dk_180 0 55 (dk_at dksX0_loafOf_5 5 rfl rfl)
theorem dX0_loafOf_116 : decode cX0_loafOf 116 = .ok (.aload_n 0, 1) := dk_42 (dk_at dksX0_loafOf_5 8 rfl rfl)
theorem dX0_loafOf_117 : decode cX0_loafOf 117 = .ok (.getfield 107, 3) := dk_180 0 107 (dk_at dksX0_loafOf_5 9 rfl rfl)
theorem dX0_loafOf_120 : decode cX0_loafOf 120 = .ok (.iload_n 2, 1) := dk_28 (dk_at dksX0_loafOf_5 12 rfl rfl)
theorem dX0_loafOf_121 : decode cX0_loafOf 121 = .ok (.invokespecial 131, 3) := dk_183 0 131 (dk_at dksX0_loafOf_5 13 rfl rfl)
theorem dX0_loafOf_124 : decode cX0_loafOf 124 = .ok (.areturn, 1) := dk_176 (dk_at dksX0_loafOf_5 16 rfl rfl)
theorem dX0_loafOf_125 : decode cX0_loafOf 125 = .ok (.new 132, 3) := dk_187 0 132 (dk_at dksX0_loafOf_5 17 rfl rfl)
theorem dX0_loafOf_128 : decode cX0_loafOf 128 = .ok (.dup, 1) := dk_89 (dk_at dksX0_loafOf_5 20 rfl rfl)
theorem dX0_loafOf_129 : decode cX0_loafOf 129 = .ok (.aload_n 0, 1) := dk_42 (dk_at dksX0_loafOf_5 21 rfl rfl)
theorem dX0_loafOf_130 : decode cX0_loafOf 130 = .ok (.getfield 55, 3) := dk_180 0 55 (dk_at dksX0_loafOf_6 0 rfl rfl)
theorem dX0_loafOf_133 : decode cX0_loafOf 133 = .ok (.aload_n 0, 1) := dk_42 (dk_at dksX0_loafOf_6 3 rfl rfl)
theorem dX0_loafOf_134 : decode cX0_loafOf 134 = .ok (.getfield 107, 3) := dk_180 0 107 (dk_at dksX0_loafOf_6 4 rfl rfl)
theorem dX0_loafOf_137 : decode cX0_loafOf 137 = .ok (.iload_n 2, 1) := dk_28 (dk_at dksX0_loafOf_6 7 rfl rfl)
theorem dX0_loafOf_138 : decode cX0_loafOf 138 = .ok (.invokespecial 134, 3) := dk_183 0 134 (dk_at dksX0_loafOf_6 8 rfl rfl)
theorem dX0_loafOf_141 : decode cX0_loafOf 141 = .ok (.areturn, 1) := dk_176 (dk_at dksX0_loafOf_6 11 rfl rfl)
theorem dX0_loafOf_142 : decode cX0_loafOf 142 = .ok (.new 11, 3) := dk_187 0 11 (dk_at dksX0_loafOf_6 12 rfl rfl)
theorem dX0_loafOf_145 : decode cX0_loafOf 145 = .ok (.dup, 1) := dk_89 (dk_at dksX0_loafOf_6 15 rfl rfl)
theorem dX0_loafOf_146 : decode cX0_loafOf 146 = .ok (.aload_n 0, 1) := dk_42 (dk_at dksX0_loafOf_6 16 rfl rfl)
theorem dX0_loafOf_147 : decode cX0_loafOf 147 = .ok (.getfield 55, 3) := dk_180 0 55 (dk_at dksX0_loafOf_6 17 rfl rfl)
theorem dX0_loafOf_150 : decode cX0_loafOf 150 = .ok (.aload_n 0, 1) := dk_42 (dk_at dksX0_loafOf_6 20 rfl rfl)
theorem dX0_loafOf_151 : decode cX0_loafOf 151 = .ok (.getfield 107, 3) := dk_180 0 107 (dk_at dksX0_loafOf_6 21 rfl rfl)
theorem dX0_loafOf_154 : decode cX0_loafOf 154 = .ok (.iload_n 2, 1) := dk_28 (dk_at dksX0_loafOf_7 0 rfl rfl)
theorem dX0_loafOf_155 : decode cX0_loafOf 155 = .ok (.invokespecial 135, 3) := dk_183 0 135 (dk_at dksX0_loafOf_7 1 rfl rfl)
theorem dX0_loafOf_158 : decode cX0_loafOf 158 = .ok (.areturn, 1) := dk_176 (dk_at dksX0_loafOf_7 4 rfl rfl)
theorem xv_loafOf : xV yX0_loafOf "BakedBefore" cX0_loafOf 3 (some (.object "BakedBefore$Loaf")) 2 := ⟨q373, qs0, q87, q374, ⟨rfl, by decide +kernel, by decide +kernel, by decide +kernel⟩, by decide⟩
theorem ct_loafOf (l : Launch) (D : va_G) (T : xT) (q : Nat → Nat) (ω : CS) (kd v : Int32) : XM l D T yX0_loafOf cX0_loafOf 3 (some (.object "BakedBefore$Loaf")) 5 1 3 [.ref (q 0), .int kd, .int v] (cw T q ω) (fun r w => ∃ a : Nat, a ∉ ω.2.1 ∧ r = some (.ref a) ∧ w = cw T q (cNew ω a (.inr (lofK kd, [.ref (q 26), .int (ω.1.1 0 3), .int v])))) := by
  refine XM.start (by decide +kernel) (Nat.le_of_ble_eq_true rfl) (fun Γ G X _ hl_ => ?_)
  subst hl_
  refine K.less [0, 1, 2] (lv' := [(0, .ref (q 0)), (1, .int kd), (2, .int v)]) rfl ?_
  refine k_iload_n G dX0_loafOf_0 rfl ?_
  by_cases c1 : kd = 1
  · refine k_tswIn G 1 c1 40 dX0_loafOf_1 (by decide +kernel) (by decide +kernel) rfl (by decide) ?_
    refine k_new G (fs := [.null, .int 0, .int 0]) ci_X8 q375 q376 q98 (fun j hj => by match j, hj with | 0, _ => rfl | 1, _ => rfl | 2, _ => rfl) ⟨(Nat.le_refl _), (Nat.le_refl _)⟩ dX0_loafOf_40 (fun a => ?_)
    refine kc_pool (fun hna => ?_)
    refine k_dup G dX0_loafOf_43 rfl ?_
    refine k_aload_n G dX0_loafOf_44 rfl ?_
    refine kc_this G cf_trace_55 dX0_loafOf_45 rfl ?_
    refine k_aload_n G dX0_loafOf_48 rfl ?_
    refine kc_this G cf_many_107 dX0_loafOf_49 rfl ?_
    refine k_iload_n G dX0_loafOf_52 rfl ?_
    rw [← cw_new hna]
    refine k_ctor G (As := [.ref (q 26), .int (ω.1.1 0 3), .int v]) (rest := [.ref a]) (ct_Clean _ D T lc_X8 a (q 26) (ω.1.1 0 3) v) xi_Clean q377 rfl rfl (Nat.le_of_ble_eq_true rfl) (Nat.le_of_ble_eq_true rfl) ⟨(Nat.le_refl _), (Nat.le_refl _)⟩ dX0_loafOf_53 (fun r w hq => ?_)
    obtain ⟨rfl, rfl⟩ := hq
    refine kc_pool (fun _ => ?_)
    exact k_aret G X (Or.inl ⟨_, rfl⟩) (r := some a) dX0_loafOf_56 (Nat.le_refl _) (Nat.le_refl _) ⟨a, hna, rfl, by rw [show lofK kd = 8 by rw [c1]; rfl]⟩
  by_cases c2 : kd = 2
  · refine k_tswIn G 2 c2 57 dX0_loafOf_1 (by decide +kernel) (by decide +kernel) rfl (by decide) ?_
    refine k_new G (fs := [.null, .int 0, .int 0]) ci_X9 q415 q416 q99 (fun j hj => by match j, hj with | 0, _ => rfl | 1, _ => rfl | 2, _ => rfl) ⟨(Nat.le_refl _), (Nat.le_refl _)⟩ dX0_loafOf_57 (fun a => ?_)
    refine kc_pool (fun hna => ?_)
    refine k_dup G dX0_loafOf_60 rfl ?_
    refine k_aload_n G dX0_loafOf_61 rfl ?_
    refine kc_this G cf_trace_55 dX0_loafOf_62 rfl ?_
    refine k_aload_n G dX0_loafOf_65 rfl ?_
    refine kc_this G cf_many_107 dX0_loafOf_66 rfl ?_
    refine k_iload_n G dX0_loafOf_69 rfl ?_
    rw [← cw_new hna]
    refine k_ctor G (As := [.ref (q 26), .int (ω.1.1 0 3), .int v]) (rest := [.ref a]) (ct_Greedy _ D T lc_X9 a (q 26) (ω.1.1 0 3) v) xi_Greedy q417 rfl rfl (Nat.le_of_ble_eq_true rfl) (Nat.le_of_ble_eq_true rfl) ⟨(Nat.le_refl _), (Nat.le_refl _)⟩ dX0_loafOf_70 (fun r w hq => ?_)
    obtain ⟨rfl, rfl⟩ := hq
    refine kc_pool (fun _ => ?_)
    exact k_aret G X (Or.inl ⟨_, rfl⟩) (r := some a) dX0_loafOf_73 (Nat.le_refl _) (Nat.le_refl _) ⟨a, hna, rfl, by rw [show lofK kd = 9 by rw [c2]; rfl]⟩
  by_cases c3 : kd = 3
  · refine k_tswIn G 3 c3 74 dX0_loafOf_1 (by decide +kernel) (by decide +kernel) rfl (by decide) ?_
    refine k_new G (fs := [.null, .int 0, .int 0]) ci_X10 q425 q426 q100 (fun j hj => by match j, hj with | 0, _ => rfl | 1, _ => rfl | 2, _ => rfl) ⟨(Nat.le_refl _), (Nat.le_refl _)⟩ dX0_loafOf_74 (fun a => ?_)
    refine kc_pool (fun hna => ?_)
    refine k_dup G dX0_loafOf_77 rfl ?_
    refine k_aload_n G dX0_loafOf_78 rfl ?_
    refine kc_this G cf_trace_55 dX0_loafOf_79 rfl ?_
    refine k_aload_n G dX0_loafOf_82 rfl ?_
    refine kc_this G cf_many_107 dX0_loafOf_83 rfl ?_
    refine k_iload_n G dX0_loafOf_86 rfl ?_
    rw [← cw_new hna]
    refine k_ctor G (As := [.ref (q 26), .int (ω.1.1 0 3), .int v]) (rest := [.ref a]) (ct_Holy _ D T lc_X10 a (q 26) (ω.1.1 0 3) v) xi_Holy q427 rfl rfl (Nat.le_of_ble_eq_true rfl) (Nat.le_of_ble_eq_true rfl) ⟨(Nat.le_refl _), (Nat.le_refl _)⟩ dX0_loafOf_87 (fun r w hq => ?_)
    obtain ⟨rfl, rfl⟩ := hq
    refine kc_pool (fun _ => ?_)
    exact k_aret G X (Or.inl ⟨_, rfl⟩) (r := some a) dX0_loafOf_90 (Nat.le_refl _) (Nat.le_refl _) ⟨a, hna, rfl, by rw [show lofK kd = 10 by rw [c3]; rfl]⟩
  by_cases c4 : kd = 4
  · refine k_tswIn G 4 c4 91 dX0_loafOf_1 (by decide +kernel) (by decide +kernel) rfl (by decide) ?_
    refine k_new G (fs := [.null, .int 0, .int 0]) ci_X11 q435 q436 q101 (fun j hj => by match j, hj with | 0, _ => rfl | 1, _ => rfl | 2, _ => rfl) ⟨(Nat.le_refl _), (Nat.le_refl _)⟩ dX0_loafOf_91 (fun a => ?_)
    refine kc_pool (fun hna => ?_)
    refine k_dup G dX0_loafOf_94 rfl ?_
    refine k_aload_n G dX0_loafOf_95 rfl ?_
    refine kc_this G cf_trace_55 dX0_loafOf_96 rfl ?_
    refine k_aload_n G dX0_loafOf_99 rfl ?_
    refine kc_this G cf_many_107 dX0_loafOf_100 rfl ?_
    refine k_iload_n G dX0_loafOf_103 rfl ?_
    rw [← cw_new hna]
    refine k_ctor G (As := [.ref (q 26), .int (ω.1.1 0 3), .int v]) (rest := [.ref a]) (ct_Rye _ D T lc_X11 a (q 26) (ω.1.1 0 3) v) xi_Rye q437 rfl rfl (Nat.le_of_ble_eq_true rfl) (Nat.le_of_ble_eq_true rfl) ⟨(Nat.le_refl _), (Nat.le_refl _)⟩ dX0_loafOf_104 (fun r w hq => ?_)
    obtain ⟨rfl, rfl⟩ := hq
    refine kc_pool (fun _ => ?_)
    exact k_aret G X (Or.inl ⟨_, rfl⟩) (r := some a) dX0_loafOf_107 (Nat.le_refl _) (Nat.le_refl _) ⟨a, hna, rfl, by rw [show lofK kd = 11 by rw [c4]; rfl]⟩
  by_cases c5 : kd = 5
  · refine k_tswIn G 5 c5 108 dX0_loafOf_1 (by decide +kernel) (by decide +kernel) rfl (by decide) ?_
    refine k_new G (fs := [.null, .int 0, .int 0]) ci_X12 q445 q446 q102 (fun j hj => by match j, hj with | 0, _ => rfl | 1, _ => rfl | 2, _ => rfl) ⟨(Nat.le_refl _), (Nat.le_refl _)⟩ dX0_loafOf_108 (fun a => ?_)
    refine kc_pool (fun hna => ?_)
    refine k_dup G dX0_loafOf_111 rfl ?_
    refine k_aload_n G dX0_loafOf_112 rfl ?_
    refine kc_this G cf_trace_55 dX0_loafOf_113 rfl ?_
    refine k_aload_n G dX0_loafOf_116 rfl ?_
    refine kc_this G cf_many_107 dX0_loafOf_117 rfl ?_
    refine k_iload_n G dX0_loafOf_120 rfl ?_
    rw [← cw_new hna]
    refine k_ctor G (As := [.ref (q 26), .int (ω.1.1 0 3), .int v]) (rest := [.ref a]) (ct_Poisoned _ D T lc_X12 a (q 26) (ω.1.1 0 3) v) xi_Poisoned q447 rfl rfl (Nat.le_of_ble_eq_true rfl) (Nat.le_of_ble_eq_true rfl) ⟨(Nat.le_refl _), (Nat.le_refl _)⟩ dX0_loafOf_121 (fun r w hq => ?_)
    obtain ⟨rfl, rfl⟩ := hq
    refine kc_pool (fun _ => ?_)
    exact k_aret G X (Or.inl ⟨_, rfl⟩) (r := some a) dX0_loafOf_124 (Nat.le_refl _) (Nat.le_refl _) ⟨a, hna, rfl, by rw [show lofK kd = 12 by rw [c5]; rfl]⟩
  by_cases c6 : kd = 6
  · refine k_tswIn G 6 c6 125 dX0_loafOf_1 (by decide +kernel) (by decide +kernel) rfl (by decide) ?_
    refine k_new G (fs := [.null, .int 0, .int 0]) ci_X13 q455 q456 q103 (fun j hj => by match j, hj with | 0, _ => rfl | 1, _ => rfl | 2, _ => rfl) ⟨(Nat.le_refl _), (Nat.le_refl _)⟩ dX0_loafOf_125 (fun a => ?_)
    refine kc_pool (fun hna => ?_)
    refine k_dup G dX0_loafOf_128 rfl ?_
    refine k_aload_n G dX0_loafOf_129 rfl ?_
    refine kc_this G cf_trace_55 dX0_loafOf_130 rfl ?_
    refine k_aload_n G dX0_loafOf_133 rfl ?_
    refine kc_this G cf_many_107 dX0_loafOf_134 rfl ?_
    refine k_iload_n G dX0_loafOf_137 rfl ?_
    rw [← cw_new hna]
    refine k_ctor G (As := [.ref (q 26), .int (ω.1.1 0 3), .int v]) (rest := [.ref a]) (ct_Shy _ D T lc_X13 a (q 26) (ω.1.1 0 3) v) xi_Shy q457 rfl rfl (Nat.le_of_ble_eq_true rfl) (Nat.le_of_ble_eq_true rfl) ⟨(Nat.le_refl _), (Nat.le_refl _)⟩ dX0_loafOf_138 (fun r w hq => ?_)
    obtain ⟨rfl, rfl⟩ := hq
    refine kc_pool (fun _ => ?_)
    exact k_aret G X (Or.inl ⟨_, rfl⟩) (r := some a) dX0_loafOf_141 (Nat.le_refl _) (Nat.le_refl _) ⟨a, hna, rfl, by rw [show lofK kd = 13 by rw [c6]; rfl]⟩
  refine k_tswD G [1, 2, 3, 4, 5, 6] 142 dX0_loafOf_1 (by decide +kernel) (by decide +kernel) (List.forall_mem_cons.mpr ⟨c1, List.forall_mem_cons.mpr ⟨c2, List.forall_mem_cons.mpr ⟨c3, List.forall_mem_cons.mpr ⟨c4, List.forall_mem_cons.mpr ⟨c5, List.forall_mem_cons.mpr ⟨c6, fun _ h => absurd h List.not_mem_nil⟩⟩⟩⟩⟩⟩) (by decide) ?_
  refine k_new G (fs := [.null, .int 0, .int 0]) ci_X7 q138 q465 q97 (fun j hj => by match j, hj with | 0, _ => rfl | 1, _ => rfl | 2, _ => rfl) ⟨(Nat.le_refl _), (Nat.le_refl _)⟩ dX0_loafOf_142 (fun a => ?_)
  refine kc_pool (fun hna => ?_)
  refine k_dup G dX0_loafOf_145 rfl ?_
  refine k_aload_n G dX0_loafOf_146 rfl ?_
  refine kc_this G cf_trace_55 dX0_loafOf_147 rfl ?_
  refine k_aload_n G dX0_loafOf_150 rfl ?_
  refine kc_this G cf_many_107 dX0_loafOf_151 rfl ?_
  refine k_iload_n G dX0_loafOf_154 rfl ?_
  rw [← cw_new hna]
  refine k_ctor G (As := [.ref (q 26), .int (ω.1.1 0 3), .int v]) (rest := [.ref a]) (ct_Loaf _ D T lc_X7 a (q 26) (ω.1.1 0 3) v) xi_Loaf q466 rfl rfl (Nat.le_of_ble_eq_true rfl) (Nat.le_of_ble_eq_true rfl) ⟨(Nat.le_refl _), (Nat.le_refl _)⟩ dX0_loafOf_155 (fun r w hq => ?_)
  obtain ⟨rfl, rfl⟩ := hq
  refine kc_pool (fun _ => ?_)
  exact k_aret G X (Or.inl ⟨_, rfl⟩) (r := some a) dX0_loafOf_158 (Nat.le_refl _) (Nat.le_refl _) ⟨a, hna, rfl, by rw [show lofK kd = 7 by unfold lofK; rw [if_neg c1, if_neg c2, if_neg c3, if_neg c4, if_neg c5, if_neg c6]]⟩
theorem kl_loafOf {D : va_G} {T : xT} {Γ : xE} {cc : ByteArray} {own : String} {nL lev mc ms : Nat} {ret : Option FieldType} {cells slots pc : Nat} {lv : List (Nat × Value)} {st : List Value} {q : Nat → Nat} {ω : CS} (G : xG D T Γ cc own nL ret lev mc ms) {idx : Nat} {kd v : Int32} (hlink : Cond.methodLink own idx ⟨"BakedBefore", "loafOf", "(II)LBakedBefore$Loaf;"⟩ ∈ lw_all) (d : decode cc pc = .ok (.invokevirtual idx, 3)) (hcat : (st.map fun v => v.category).sum ≤ 8) (hlev : 8 ≤ lev) (hroom : cells + 1 ≤ mc ∧ slots + 3 ≤ ms) (kk : ∀ a : Nat, a ∉ ω.2.1 → K D Γ (cells + 1) (slots + 3) (pc + 3) lv (.ref a :: st) (cw T q (cNew ω a (.inr (lofK kd, [.ref (q 26), .int (ω.1.1 0 3), .int v]))))) : K D Γ cells slots pc lv (.int v :: .int kd :: .ref (q 0) :: st) (cw T q ω) :=
  k_callVw G (As := [.int kd, .int v]) (rest := st) (ct_loafOf _ D T q ω kd v) xv_loafOf hlink rfl rfl hcat (by omega) hroom (kc_recv T q ω) d (fun r w hq => by
    obtain ⟨a, hna, rfl, rfl⟩ := hq
    exact kk a hna)
